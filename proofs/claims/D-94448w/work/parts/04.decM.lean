set_option maxRecDepth 100000
theorem dX4_thrown_0 : decode cX4_thrown 0 = .ok (.aload_n 0, 1) := by decide +kernel
theorem dX4_thrown_1 : decode cX4_thrown 1 = .ok (.getfield 1, 3) := by decide +kernel
theorem dX4_thrown_4 : decode cX4_thrown 4 = .ok (.ireturn, 1) := by decide +kernel
def dkwX4_feed_2 : List UInt8 := [182, 0, 10, 42, 180, 0, 7, 172]
abbrev dktX4_feed_2 : List UInt8 := dkwX4_feed_2 ++ []
def dkwX4_feed_1 : List UInt8 := [182, 0, 10, 42, 28, 182, 0, 10, 42, 29, 182, 0, 10, 42, 21, 4, 182, 0, 10, 42, 21, 5]
abbrev dktX4_feed_1 : List UInt8 := dkwX4_feed_1 ++ dktX4_feed_2
def dkwX4_feed_0 : List UInt8 := [42, 3, 181, 0, 1, 42, 180, 0, 7, 16, 20, 96, 17, 3, 172, 164, 0, 5, 2, 172, 42, 27]
abbrev dktX4_feed_0 : List UInt8 := dkwX4_feed_0 ++ dktX4_feed_1
theorem dksX4_feed_0 : cX4_feed.data.toList.drop 0 = dktX4_feed_0 := by decide +kernel
theorem dksX4_feed_1 : cX4_feed.data.toList.drop 22 = dktX4_feed_1 := dk_seg dksX4_feed_0 22 rfl rfl
theorem dksX4_feed_2 : cX4_feed.data.toList.drop 44 = dktX4_feed_2 := dk_seg dksX4_feed_1 22 rfl rfl
theorem dX4_feed_0 : decode cX4_feed 0 = .ok (.aload_n 0, 1) := dk_42 (dk_at dksX4_feed_0 0 rfl rfl)
theorem dX4_feed_1 : decode cX4_feed 1 = .ok (.iconst 0, 1) := dk_3 (dk_at dksX4_feed_0 1 rfl rfl)
theorem dX4_feed_2 : decode cX4_feed 2 = .ok (.putfield 1, 3) := dk_181 0 1 (dk_at dksX4_feed_0 2 rfl rfl)
theorem dX4_feed_5 : decode cX4_feed 5 = .ok (.aload_n 0, 1) := dk_42 (dk_at dksX4_feed_0 5 rfl rfl)
theorem dX4_feed_6 : decode cX4_feed 6 = .ok (.getfield 7, 3) := dk_180 0 7 (dk_at dksX4_feed_0 6 rfl rfl)
theorem dX4_feed_9 : decode cX4_feed 9 = .ok (.bipush 20, 2) := dk_16 20 (dk_at dksX4_feed_0 9 rfl rfl)
theorem dX4_feed_11 : decode cX4_feed 11 = .ok (.iadd, 1) := dk_96 (dk_at dksX4_feed_0 11 rfl rfl)
theorem dX4_feed_12 : decode cX4_feed 12 = .ok (.sipush 940, 3) := dk_17 3 172 (dk_at dksX4_feed_0 12 rfl rfl)
theorem dX4_feed_15 : decode cX4_feed 15 = .ok (.if_icmp .le 5, 3) := dk_164 0 5 (dk_at dksX4_feed_0 15 rfl rfl)
theorem dX4_feed_18 : decode cX4_feed 18 = .ok (.iconst (-1), 1) := dk_2 (dk_at dksX4_feed_0 18 rfl rfl)
theorem dX4_feed_19 : decode cX4_feed 19 = .ok (.ireturn, 1) := dk_172 (dk_at dksX4_feed_0 19 rfl rfl)
theorem dX4_feed_20 : decode cX4_feed 20 = .ok (.aload_n 0, 1) := dk_42 (dk_at dksX4_feed_0 20 rfl rfl)
theorem dX4_feed_21 : decode cX4_feed 21 = .ok (.iload_n 1, 1) := dk_27 (dk_at dksX4_feed_0 21 rfl rfl)
theorem dX4_feed_22 : decode cX4_feed 22 = .ok (.invokevirtual 10, 3) := dk_182 0 10 (dk_at dksX4_feed_1 0 rfl rfl)
theorem dX4_feed_25 : decode cX4_feed 25 = .ok (.aload_n 0, 1) := dk_42 (dk_at dksX4_feed_1 3 rfl rfl)
theorem dX4_feed_26 : decode cX4_feed 26 = .ok (.iload_n 2, 1) := dk_28 (dk_at dksX4_feed_1 4 rfl rfl)
theorem dX4_feed_27 : decode cX4_feed 27 = .ok (.invokevirtual 10, 3) := dk_182 0 10 (dk_at dksX4_feed_1 5 rfl rfl)
theorem dX4_feed_30 : decode cX4_feed 30 = .ok (.aload_n 0, 1) := dk_42 (dk_at dksX4_feed_1 8 rfl rfl)
theorem dX4_feed_31 : decode cX4_feed 31 = .ok (.iload_n 3, 1) := dk_29 (dk_at dksX4_feed_1 9 rfl rfl)
theorem dX4_feed_32 : decode cX4_feed 32 = .ok (.invokevirtual 10, 3) := dk_182 0 10 (dk_at dksX4_feed_1 10 rfl rfl)
theorem dX4_feed_35 : decode cX4_feed 35 = .ok (.aload_n 0, 1) := dk_42 (dk_at dksX4_feed_1 13 rfl rfl)
theorem dX4_feed_36 : decode cX4_feed 36 = .ok (.iload 4, 2) := dk_21 4 (dk_at dksX4_feed_1 14 rfl rfl)
theorem dX4_feed_38 : decode cX4_feed 38 = .ok (.invokevirtual 10, 3) := dk_182 0 10 (dk_at dksX4_feed_1 16 rfl rfl)
theorem dX4_feed_41 : decode cX4_feed 41 = .ok (.aload_n 0, 1) := dk_42 (dk_at dksX4_feed_1 19 rfl rfl)
theorem dX4_feed_42 : decode cX4_feed 42 = .ok (.iload 5, 2) := dk_21 5 (dk_at dksX4_feed_1 20 rfl rfl)
theorem dX4_feed_44 : decode cX4_feed 44 = .ok (.invokevirtual 10, 3) := dk_182 0 10 (dk_at dksX4_feed_2 0 rfl rfl)
theorem dX4_feed_47 : decode cX4_feed 47 = .ok (.aload_n 0, 1) := dk_42 (dk_at dksX4_feed_2 3 rfl rfl)
theorem dX4_feed_48 : decode cX4_feed 48 = .ok (.getfield 7, 3) := dk_180 0 7 (dk_at dksX4_feed_2 4 rfl rfl)
theorem dX4_feed_51 : decode cX4_feed 51 = .ok (.ireturn, 1) := dk_172 (dk_at dksX4_feed_2 7 rfl rfl)
def dkwX4_four_1 : List UInt8 := [180, 0, 7, 4, 96, 181, 0, 7, 132, 2, 248, 167, 255, 226, 177]
abbrev dktX4_four_1 : List UInt8 := dkwX4_four_1 ++ []
def dkwX4_four_0 : List UInt8 := [16, 24, 61, 28, 155, 0, 32, 42, 180, 0, 14, 42, 180, 0, 7, 27, 28, 122, 145, 84, 42, 89]
abbrev dktX4_four_0 : List UInt8 := dkwX4_four_0 ++ dktX4_four_1
theorem dksX4_four_0 : cX4_four.data.toList.drop 0 = dktX4_four_0 := by decide +kernel
theorem dksX4_four_1 : cX4_four.data.toList.drop 22 = dktX4_four_1 := dk_seg dksX4_four_0 22 rfl rfl
theorem dX4_four_0 : decode cX4_four 0 = .ok (.bipush 24, 2) := dk_16 24 (dk_at dksX4_four_0 0 rfl rfl)
theorem dX4_four_2 : decode cX4_four 2 = .ok (.istore_n 2, 1) := dk_61 (dk_at dksX4_four_0 2 rfl rfl)
theorem dX4_four_3 : decode cX4_four 3 = .ok (.iload_n 2, 1) := dk_28 (dk_at dksX4_four_0 3 rfl rfl)
theorem dX4_four_4 : decode cX4_four 4 = .ok (.ifCond .lt 32, 3) := dk_155 0 32 (dk_at dksX4_four_0 4 rfl rfl)
theorem dX4_four_7 : decode cX4_four 7 = .ok (.aload_n 0, 1) := dk_42 (dk_at dksX4_four_0 7 rfl rfl)
theorem dX4_four_8 : decode cX4_four 8 = .ok (.getfield 14, 3) := dk_180 0 14 (dk_at dksX4_four_0 8 rfl rfl)
theorem dX4_four_11 : decode cX4_four 11 = .ok (.aload_n 0, 1) := dk_42 (dk_at dksX4_four_0 11 rfl rfl)
theorem dX4_four_12 : decode cX4_four 12 = .ok (.getfield 7, 3) := dk_180 0 7 (dk_at dksX4_four_0 12 rfl rfl)
theorem dX4_four_15 : decode cX4_four 15 = .ok (.iload_n 1, 1) := dk_27 (dk_at dksX4_four_0 15 rfl rfl)
theorem dX4_four_16 : decode cX4_four 16 = .ok (.iload_n 2, 1) := dk_28 (dk_at dksX4_four_0 16 rfl rfl)
theorem dX4_four_17 : decode cX4_four 17 = .ok (.ishr, 1) := dk_122 (dk_at dksX4_four_0 17 rfl rfl)
theorem dX4_four_18 : decode cX4_four 18 = .ok (.i2b, 1) := dk_145 (dk_at dksX4_four_0 18 rfl rfl)
theorem dX4_four_19 : decode cX4_four 19 = .ok (.bastore, 1) := dk_84 (dk_at dksX4_four_0 19 rfl rfl)
theorem dX4_four_20 : decode cX4_four 20 = .ok (.aload_n 0, 1) := dk_42 (dk_at dksX4_four_0 20 rfl rfl)
theorem dX4_four_21 : decode cX4_four 21 = .ok (.dup, 1) := dk_89 (dk_at dksX4_four_0 21 rfl rfl)
theorem dX4_four_22 : decode cX4_four 22 = .ok (.getfield 7, 3) := dk_180 0 7 (dk_at dksX4_four_1 0 rfl rfl)
theorem dX4_four_25 : decode cX4_four 25 = .ok (.iconst 1, 1) := dk_4 (dk_at dksX4_four_1 3 rfl rfl)
theorem dX4_four_26 : decode cX4_four 26 = .ok (.iadd, 1) := dk_96 (dk_at dksX4_four_1 4 rfl rfl)
theorem dX4_four_27 : decode cX4_four 27 = .ok (.putfield 7, 3) := dk_181 0 7 (dk_at dksX4_four_1 5 rfl rfl)
theorem dX4_four_30 : decode cX4_four 30 = .ok (.iinc 2 (-8), 3) := dk_132 2 248 (dk_at dksX4_four_1 8 rfl rfl)
theorem dX4_four_33 : decode cX4_four 33 = .ok (.goto (-30), 3) := dk_167 255 226 (dk_at dksX4_four_1 11 rfl rfl)
theorem dX4_four_36 : decode cX4_four 36 = .ok (.return_, 1) := dk_177 (dk_at dksX4_four_1 14 rfl rfl)
def dkwX4_end_1 : List UInt8 := [4, 172]
abbrev dktX4_end_1 : List UInt8 := dkwX4_end_1 ++ []
def dkwX4_end_0 : List UInt8 := [42, 3, 181, 0, 1, 27, 155, 0, 11, 27, 42, 180, 0, 7, 164, 0, 5, 3, 172, 42, 27, 181, 0, 7]
abbrev dktX4_end_0 : List UInt8 := dkwX4_end_0 ++ dktX4_end_1
theorem dksX4_end_0 : cX4_end.data.toList.drop 0 = dktX4_end_0 := by decide +kernel
theorem dksX4_end_1 : cX4_end.data.toList.drop 24 = dktX4_end_1 := dk_seg dksX4_end_0 24 rfl rfl
theorem dX4_end_0 : decode cX4_end 0 = .ok (.aload_n 0, 1) := dk_42 (dk_at dksX4_end_0 0 rfl rfl)
theorem dX4_end_1 : decode cX4_end 1 = .ok (.iconst 0, 1) := dk_3 (dk_at dksX4_end_0 1 rfl rfl)
theorem dX4_end_2 : decode cX4_end 2 = .ok (.putfield 1, 3) := dk_181 0 1 (dk_at dksX4_end_0 2 rfl rfl)
theorem dX4_end_5 : decode cX4_end 5 = .ok (.iload_n 1, 1) := dk_27 (dk_at dksX4_end_0 5 rfl rfl)
theorem dX4_end_6 : decode cX4_end 6 = .ok (.ifCond .lt 11, 3) := dk_155 0 11 (dk_at dksX4_end_0 6 rfl rfl)
theorem dX4_end_9 : decode cX4_end 9 = .ok (.iload_n 1, 1) := dk_27 (dk_at dksX4_end_0 9 rfl rfl)
theorem dX4_end_10 : decode cX4_end 10 = .ok (.aload_n 0, 1) := dk_42 (dk_at dksX4_end_0 10 rfl rfl)
theorem dX4_end_11 : decode cX4_end 11 = .ok (.getfield 7, 3) := dk_180 0 7 (dk_at dksX4_end_0 11 rfl rfl)
theorem dX4_end_14 : decode cX4_end 14 = .ok (.if_icmp .le 5, 3) := dk_164 0 5 (dk_at dksX4_end_0 14 rfl rfl)
theorem dX4_end_17 : decode cX4_end 17 = .ok (.iconst 0, 1) := dk_3 (dk_at dksX4_end_0 17 rfl rfl)
theorem dX4_end_18 : decode cX4_end 18 = .ok (.ireturn, 1) := dk_172 (dk_at dksX4_end_0 18 rfl rfl)
theorem dX4_end_19 : decode cX4_end 19 = .ok (.aload_n 0, 1) := dk_42 (dk_at dksX4_end_0 19 rfl rfl)
theorem dX4_end_20 : decode cX4_end 20 = .ok (.iload_n 1, 1) := dk_27 (dk_at dksX4_end_0 20 rfl rfl)
theorem dX4_end_21 : decode cX4_end 21 = .ok (.putfield 7, 3) := dk_181 0 7 (dk_at dksX4_end_0 21 rfl rfl)
theorem dX4_end_24 : decode cX4_end 24 = .ok (.iconst 1, 1) := dk_4 (dk_at dksX4_end_1 0 rfl rfl)
theorem dX4_end_25 : decode cX4_end 25 = .ok (.ireturn, 1) := dk_172 (dk_at dksX4_end_1 1 rfl rfl)
def dkwX4_init_10 : List UInt8 := [42, 180, 0, 45, 27, 46, 79, 132, 1, 1, 167, 255, 234, 177]
abbrev dktX4_init_10 : List UInt8 := dkwX4_init_10 ++ []
def dkwX4_init_9 : List UInt8 := [5, 188, 4, 181, 0, 120, 42, 182, 0, 123, 3, 60, 27, 17, 2, 78, 162, 0, 21, 42, 180, 0, 41, 27]
abbrev dktX4_init_9 : List UInt8 := dkwX4_init_9 ++ dktX4_init_10
def dkwX4_init_8 : List UInt8 := [42, 17, 5, 82, 188, 10, 181, 0, 111, 42, 5, 188, 11, 181, 0, 114, 42, 5, 188, 11, 181, 0, 117, 42]
abbrev dktX4_init_8 : List UInt8 := dkwX4_init_8 ++ dktX4_init_9
def dkwX4_init_7 : List UInt8 := [181, 0, 99, 42, 2, 181, 0, 102, 42, 16, 61, 188, 11, 181, 0, 105, 42, 16, 61, 188, 11, 181, 0, 108]
abbrev dktX4_init_7 : List UInt8 := dkwX4_init_7 ++ dktX4_init_8
def dkwX4_init_6 : List UInt8 := [188, 10, 181, 0, 90, 42, 16, 8, 188, 11, 181, 0, 93, 42, 6, 188, 10, 181, 0, 96, 42, 2]
abbrev dktX4_init_6 : List UInt8 := dkwX4_init_6 ++ dktX4_init_7
def dkwX4_init_5 : List UInt8 := [188, 10, 181, 0, 81, 42, 2, 181, 0, 84, 42, 17, 1, 0, 188, 4, 181, 0, 87, 42, 17, 1, 0]
abbrev dktX4_init_5 : List UInt8 := dkwX4_init_5 ++ dktX4_init_6
def dkwX4_init_4 : List UInt8 := [181, 0, 72, 42, 17, 2, 89, 188, 11, 181, 0, 75, 42, 17, 2, 89, 188, 11, 181, 0, 78, 42, 16, 14]
abbrev dktX4_init_4 : List UInt8 := dkwX4_init_4 ++ dktX4_init_5
def dkwX4_init_3 : List UInt8 := [181, 0, 61, 42, 4, 181, 0, 65, 42, 17, 2, 89, 188, 11, 181, 0, 69, 42, 17, 2, 89, 188, 11]
abbrev dktX4_init_3 : List UInt8 := dkwX4_init_3 ++ dktX4_init_4
def dkwX4_init_2 : List UInt8 := [42, 16, 30, 188, 10, 181, 0, 54, 42, 16, 64, 188, 4, 181, 0, 57, 42, 17, 1, 128, 188, 11]
abbrev dktX4_init_2 : List UInt8 := dkwX4_init_2 ++ dktX4_init_3
def dkwX4_init_1 : List UInt8 := [17, 2, 78, 188, 10, 181, 0, 45, 42, 16, 90, 188, 10, 181, 0, 48, 42, 16, 64, 188, 10, 181, 0, 51]
abbrev dktX4_init_1 : List UInt8 := dkwX4_init_1 ++ dktX4_init_2
def dkwX4_init_0 : List UInt8 := [42, 183, 0, 35, 42, 17, 3, 172, 188, 8, 181, 0, 14, 42, 17, 2, 169, 188, 10, 181, 0, 41, 42]
abbrev dktX4_init_0 : List UInt8 := dkwX4_init_0 ++ dktX4_init_1
theorem dksX4_init_0 : cX4_init.data.toList.drop 0 = dktX4_init_0 := by decide +kernel
theorem dksX4_init_1 : cX4_init.data.toList.drop 23 = dktX4_init_1 := dk_seg dksX4_init_0 23 rfl rfl
theorem dksX4_init_2 : cX4_init.data.toList.drop 47 = dktX4_init_2 := dk_seg dksX4_init_1 24 rfl rfl
theorem dksX4_init_3 : cX4_init.data.toList.drop 69 = dktX4_init_3 := dk_seg dksX4_init_2 22 rfl rfl
theorem dksX4_init_4 : cX4_init.data.toList.drop 92 = dktX4_init_4 := dk_seg dksX4_init_3 23 rfl rfl
theorem dksX4_init_5 : cX4_init.data.toList.drop 116 = dktX4_init_5 := dk_seg dksX4_init_4 24 rfl rfl
theorem dksX4_init_6 : cX4_init.data.toList.drop 139 = dktX4_init_6 := dk_seg dksX4_init_5 23 rfl rfl
theorem dksX4_init_7 : cX4_init.data.toList.drop 161 = dktX4_init_7 := dk_seg dksX4_init_6 22 rfl rfl
theorem dksX4_init_8 : cX4_init.data.toList.drop 185 = dktX4_init_8 := dk_seg dksX4_init_7 24 rfl rfl
theorem dksX4_init_9 : cX4_init.data.toList.drop 209 = dktX4_init_9 := dk_seg dksX4_init_8 24 rfl rfl
theorem dksX4_init_10 : cX4_init.data.toList.drop 233 = dktX4_init_10 := dk_seg dksX4_init_9 24 rfl rfl
theorem dX4_init_0 : decode cX4_init 0 = .ok (.aload_n 0, 1) := dk_42 (dk_at dksX4_init_0 0 rfl rfl)
theorem dX4_init_1 : decode cX4_init 1 = .ok (.invokespecial 35, 3) := dk_183 0 35 (dk_at dksX4_init_0 1 rfl rfl)
theorem dX4_init_4 : decode cX4_init 4 = .ok (.aload_n 0, 1) := dk_42 (dk_at dksX4_init_0 4 rfl rfl)
theorem dX4_init_5 : decode cX4_init 5 = .ok (.sipush 940, 3) := dk_17 3 172 (dk_at dksX4_init_0 5 rfl rfl)
theorem dX4_init_8 : decode cX4_init 8 = .ok (.newarray .byte, 2) := dk_188_8 (dk_at dksX4_init_0 8 rfl rfl)
theorem dX4_init_10 : decode cX4_init 10 = .ok (.putfield 14, 3) := dk_181 0 14 (dk_at dksX4_init_0 10 rfl rfl)
theorem dX4_init_13 : decode cX4_init 13 = .ok (.aload_n 0, 1) := dk_42 (dk_at dksX4_init_0 13 rfl rfl)
theorem dX4_init_14 : decode cX4_init 14 = .ok (.sipush 681, 3) := dk_17 2 169 (dk_at dksX4_init_0 14 rfl rfl)
theorem dX4_init_17 : decode cX4_init 17 = .ok (.newarray .int, 2) := dk_188_10 (dk_at dksX4_init_0 17 rfl rfl)
theorem dX4_init_19 : decode cX4_init 19 = .ok (.putfield 41, 3) := dk_181 0 41 (dk_at dksX4_init_0 19 rfl rfl)
theorem dX4_init_22 : decode cX4_init 22 = .ok (.aload_n 0, 1) := dk_42 (dk_at dksX4_init_0 22 rfl rfl)
theorem dX4_init_23 : decode cX4_init 23 = .ok (.sipush 590, 3) := dk_17 2 78 (dk_at dksX4_init_1 0 rfl rfl)
theorem dX4_init_26 : decode cX4_init 26 = .ok (.newarray .int, 2) := dk_188_10 (dk_at dksX4_init_1 3 rfl rfl)
theorem dX4_init_28 : decode cX4_init 28 = .ok (.putfield 45, 3) := dk_181 0 45 (dk_at dksX4_init_1 5 rfl rfl)
theorem dX4_init_31 : decode cX4_init 31 = .ok (.aload_n 0, 1) := dk_42 (dk_at dksX4_init_1 8 rfl rfl)
theorem dX4_init_32 : decode cX4_init 32 = .ok (.bipush 90, 2) := dk_16 90 (dk_at dksX4_init_1 9 rfl rfl)
theorem dX4_init_34 : decode cX4_init 34 = .ok (.newarray .int, 2) := dk_188_10 (dk_at dksX4_init_1 11 rfl rfl)
theorem dX4_init_36 : decode cX4_init 36 = .ok (.putfield 48, 3) := dk_181 0 48 (dk_at dksX4_init_1 13 rfl rfl)
theorem dX4_init_39 : decode cX4_init 39 = .ok (.aload_n 0, 1) := dk_42 (dk_at dksX4_init_1 16 rfl rfl)
theorem dX4_init_40 : decode cX4_init 40 = .ok (.bipush 64, 2) := dk_16 64 (dk_at dksX4_init_1 17 rfl rfl)
theorem dX4_init_42 : decode cX4_init 42 = .ok (.newarray .int, 2) := dk_188_10 (dk_at dksX4_init_1 19 rfl rfl)
theorem dX4_init_44 : decode cX4_init 44 = .ok (.putfield 51, 3) := dk_181 0 51 (dk_at dksX4_init_1 21 rfl rfl)
theorem dX4_init_47 : decode cX4_init 47 = .ok (.aload_n 0, 1) := dk_42 (dk_at dksX4_init_2 0 rfl rfl)
theorem dX4_init_48 : decode cX4_init 48 = .ok (.bipush 30, 2) := dk_16 30 (dk_at dksX4_init_2 1 rfl rfl)
theorem dX4_init_50 : decode cX4_init 50 = .ok (.newarray .int, 2) := dk_188_10 (dk_at dksX4_init_2 3 rfl rfl)
theorem dX4_init_52 : decode cX4_init 52 = .ok (.putfield 54, 3) := dk_181 0 54 (dk_at dksX4_init_2 5 rfl rfl)
theorem dX4_init_55 : decode cX4_init 55 = .ok (.aload_n 0, 1) := dk_42 (dk_at dksX4_init_2 8 rfl rfl)
theorem dX4_init_56 : decode cX4_init 56 = .ok (.bipush 64, 2) := dk_16 64 (dk_at dksX4_init_2 9 rfl rfl)
theorem dX4_init_58 : decode cX4_init 58 = .ok (.newarray .boolean, 2) := dk_188_4 (dk_at dksX4_init_2 11 rfl rfl)
theorem dX4_init_60 : decode cX4_init 60 = .ok (.putfield 57, 3) := dk_181 0 57 (dk_at dksX4_init_2 13 rfl rfl)
theorem dX4_init_63 : decode cX4_init 63 = .ok (.aload_n 0, 1) := dk_42 (dk_at dksX4_init_2 16 rfl rfl)
theorem dX4_init_64 : decode cX4_init 64 = .ok (.sipush 384, 3) := dk_17 1 128 (dk_at dksX4_init_2 17 rfl rfl)
theorem dX4_init_67 : decode cX4_init 67 = .ok (.newarray .long, 2) := dk_188_11 (dk_at dksX4_init_2 20 rfl rfl)
theorem dX4_init_69 : decode cX4_init 69 = .ok (.putfield 61, 3) := dk_181 0 61 (dk_at dksX4_init_3 0 rfl rfl)
theorem dX4_init_72 : decode cX4_init 72 = .ok (.aload_n 0, 1) := dk_42 (dk_at dksX4_init_3 3 rfl rfl)
theorem dX4_init_73 : decode cX4_init 73 = .ok (.iconst 1, 1) := dk_4 (dk_at dksX4_init_3 4 rfl rfl)
theorem dX4_init_74 : decode cX4_init 74 = .ok (.putfield 65, 3) := dk_181 0 65 (dk_at dksX4_init_3 5 rfl rfl)
theorem dX4_init_77 : decode cX4_init 77 = .ok (.aload_n 0, 1) := dk_42 (dk_at dksX4_init_3 8 rfl rfl)
theorem dX4_init_78 : decode cX4_init 78 = .ok (.sipush 601, 3) := dk_17 2 89 (dk_at dksX4_init_3 9 rfl rfl)
theorem dX4_init_81 : decode cX4_init 81 = .ok (.newarray .long, 2) := dk_188_11 (dk_at dksX4_init_3 12 rfl rfl)
theorem dX4_init_83 : decode cX4_init 83 = .ok (.putfield 69, 3) := dk_181 0 69 (dk_at dksX4_init_3 14 rfl rfl)
theorem dX4_init_86 : decode cX4_init 86 = .ok (.aload_n 0, 1) := dk_42 (dk_at dksX4_init_3 17 rfl rfl)
theorem dX4_init_87 : decode cX4_init 87 = .ok (.sipush 601, 3) := dk_17 2 89 (dk_at dksX4_init_3 18 rfl rfl)
theorem dX4_init_90 : decode cX4_init 90 = .ok (.newarray .long, 2) := dk_188_11 (dk_at dksX4_init_3 21 rfl rfl)
theorem dX4_init_92 : decode cX4_init 92 = .ok (.putfield 72, 3) := dk_181 0 72 (dk_at dksX4_init_4 0 rfl rfl)
theorem dX4_init_95 : decode cX4_init 95 = .ok (.aload_n 0, 1) := dk_42 (dk_at dksX4_init_4 3 rfl rfl)
theorem dX4_init_96 : decode cX4_init 96 = .ok (.sipush 601, 3) := dk_17 2 89 (dk_at dksX4_init_4 4 rfl rfl)
theorem dX4_init_99 : decode cX4_init 99 = .ok (.newarray .long, 2) := dk_188_11 (dk_at dksX4_init_4 7 rfl rfl)
theorem dX4_init_101 : decode cX4_init 101 = .ok (.putfield 75, 3) := dk_181 0 75 (dk_at dksX4_init_4 9 rfl rfl)
theorem dX4_init_104 : decode cX4_init 104 = .ok (.aload_n 0, 1) := dk_42 (dk_at dksX4_init_4 12 rfl rfl)
theorem dX4_init_105 : decode cX4_init 105 = .ok (.sipush 601, 3) := dk_17 2 89 (dk_at dksX4_init_4 13 rfl rfl)
theorem dX4_init_108 : decode cX4_init 108 = .ok (.newarray .long, 2) := dk_188_11 (dk_at dksX4_init_4 16 rfl rfl)
theorem dX4_init_110 : decode cX4_init 110 = .ok (.putfield 78, 3) := dk_181 0 78 (dk_at dksX4_init_4 18 rfl rfl)
theorem dX4_init_113 : decode cX4_init 113 = .ok (.aload_n 0, 1) := dk_42 (dk_at dksX4_init_4 21 rfl rfl)
theorem dX4_init_114 : decode cX4_init 114 = .ok (.bipush 14, 2) := dk_16 14 (dk_at dksX4_init_4 22 rfl rfl)
theorem dX4_init_116 : decode cX4_init 116 = .ok (.newarray .int, 2) := dk_188_10 (dk_at dksX4_init_5 0 rfl rfl)
theorem dX4_init_118 : decode cX4_init 118 = .ok (.putfield 81, 3) := dk_181 0 81 (dk_at dksX4_init_5 2 rfl rfl)
theorem dX4_init_121 : decode cX4_init 121 = .ok (.aload_n 0, 1) := dk_42 (dk_at dksX4_init_5 5 rfl rfl)
theorem dX4_init_122 : decode cX4_init 122 = .ok (.iconst (-1), 1) := dk_2 (dk_at dksX4_init_5 6 rfl rfl)
theorem dX4_init_123 : decode cX4_init 123 = .ok (.putfield 84, 3) := dk_181 0 84 (dk_at dksX4_init_5 7 rfl rfl)
theorem dX4_init_126 : decode cX4_init 126 = .ok (.aload_n 0, 1) := dk_42 (dk_at dksX4_init_5 10 rfl rfl)
theorem dX4_init_127 : decode cX4_init 127 = .ok (.sipush 256, 3) := dk_17 1 0 (dk_at dksX4_init_5 11 rfl rfl)
theorem dX4_init_130 : decode cX4_init 130 = .ok (.newarray .boolean, 2) := dk_188_4 (dk_at dksX4_init_5 14 rfl rfl)
theorem dX4_init_132 : decode cX4_init 132 = .ok (.putfield 87, 3) := dk_181 0 87 (dk_at dksX4_init_5 16 rfl rfl)
theorem dX4_init_135 : decode cX4_init 135 = .ok (.aload_n 0, 1) := dk_42 (dk_at dksX4_init_5 19 rfl rfl)
theorem dX4_init_136 : decode cX4_init 136 = .ok (.sipush 256, 3) := dk_17 1 0 (dk_at dksX4_init_5 20 rfl rfl)
theorem dX4_init_139 : decode cX4_init 139 = .ok (.newarray .int, 2) := dk_188_10 (dk_at dksX4_init_6 0 rfl rfl)
theorem dX4_init_141 : decode cX4_init 141 = .ok (.putfield 90, 3) := dk_181 0 90 (dk_at dksX4_init_6 2 rfl rfl)
theorem dX4_init_144 : decode cX4_init 144 = .ok (.aload_n 0, 1) := dk_42 (dk_at dksX4_init_6 5 rfl rfl)
theorem dX4_init_145 : decode cX4_init 145 = .ok (.bipush 8, 2) := dk_16 8 (dk_at dksX4_init_6 6 rfl rfl)
theorem dX4_init_147 : decode cX4_init 147 = .ok (.newarray .long, 2) := dk_188_11 (dk_at dksX4_init_6 8 rfl rfl)
theorem dX4_init_149 : decode cX4_init 149 = .ok (.putfield 93, 3) := dk_181 0 93 (dk_at dksX4_init_6 10 rfl rfl)
theorem dX4_init_152 : decode cX4_init 152 = .ok (.aload_n 0, 1) := dk_42 (dk_at dksX4_init_6 13 rfl rfl)
theorem dX4_init_153 : decode cX4_init 153 = .ok (.iconst 3, 1) := dk_6 (dk_at dksX4_init_6 14 rfl rfl)
theorem dX4_init_154 : decode cX4_init 154 = .ok (.newarray .int, 2) := dk_188_10 (dk_at dksX4_init_6 15 rfl rfl)
theorem dX4_init_156 : decode cX4_init 156 = .ok (.putfield 96, 3) := dk_181 0 96 (dk_at dksX4_init_6 17 rfl rfl)
theorem dX4_init_159 : decode cX4_init 159 = .ok (.aload_n 0, 1) := dk_42 (dk_at dksX4_init_6 20 rfl rfl)
theorem dX4_init_160 : decode cX4_init 160 = .ok (.iconst (-1), 1) := dk_2 (dk_at dksX4_init_6 21 rfl rfl)
theorem dX4_init_161 : decode cX4_init 161 = .ok (.putfield 99, 3) := dk_181 0 99 (dk_at dksX4_init_7 0 rfl rfl)
theorem dX4_init_164 : decode cX4_init 164 = .ok (.aload_n 0, 1) := dk_42 (dk_at dksX4_init_7 3 rfl rfl)
theorem dX4_init_165 : decode cX4_init 165 = .ok (.iconst (-1), 1) := dk_2 (dk_at dksX4_init_7 4 rfl rfl)
theorem dX4_init_166 : decode cX4_init 166 = .ok (.putfield 102, 3) := dk_181 0 102 (dk_at dksX4_init_7 5 rfl rfl)
theorem dX4_init_169 : decode cX4_init 169 = .ok (.aload_n 0, 1) := dk_42 (dk_at dksX4_init_7 8 rfl rfl)
theorem dX4_init_170 : decode cX4_init 170 = .ok (.bipush 61, 2) := dk_16 61 (dk_at dksX4_init_7 9 rfl rfl)
theorem dX4_init_172 : decode cX4_init 172 = .ok (.newarray .long, 2) := dk_188_11 (dk_at dksX4_init_7 11 rfl rfl)
theorem dX4_init_174 : decode cX4_init 174 = .ok (.putfield 105, 3) := dk_181 0 105 (dk_at dksX4_init_7 13 rfl rfl)
theorem dX4_init_177 : decode cX4_init 177 = .ok (.aload_n 0, 1) := dk_42 (dk_at dksX4_init_7 16 rfl rfl)
theorem dX4_init_178 : decode cX4_init 178 = .ok (.bipush 61, 2) := dk_16 61 (dk_at dksX4_init_7 17 rfl rfl)
theorem dX4_init_180 : decode cX4_init 180 = .ok (.newarray .long, 2) := dk_188_11 (dk_at dksX4_init_7 19 rfl rfl)
theorem dX4_init_182 : decode cX4_init 182 = .ok (.putfield 108, 3) := dk_181 0 108 (dk_at dksX4_init_7 21 rfl rfl)
theorem dX4_init_185 : decode cX4_init 185 = .ok (.aload_n 0, 1) := dk_42 (dk_at dksX4_init_8 0 rfl rfl)
theorem dX4_init_186 : decode cX4_init 186 = .ok (.sipush 1362, 3) := dk_17 5 82 (dk_at dksX4_init_8 1 rfl rfl)
theorem dX4_init_189 : decode cX4_init 189 = .ok (.newarray .int, 2) := dk_188_10 (dk_at dksX4_init_8 4 rfl rfl)
theorem dX4_init_191 : decode cX4_init 191 = .ok (.putfield 111, 3) := dk_181 0 111 (dk_at dksX4_init_8 6 rfl rfl)
theorem dX4_init_194 : decode cX4_init 194 = .ok (.aload_n 0, 1) := dk_42 (dk_at dksX4_init_8 9 rfl rfl)
theorem dX4_init_195 : decode cX4_init 195 = .ok (.iconst 2, 1) := dk_5 (dk_at dksX4_init_8 10 rfl rfl)
theorem dX4_init_196 : decode cX4_init 196 = .ok (.newarray .long, 2) := dk_188_11 (dk_at dksX4_init_8 11 rfl rfl)
theorem dX4_init_198 : decode cX4_init 198 = .ok (.putfield 114, 3) := dk_181 0 114 (dk_at dksX4_init_8 13 rfl rfl)
theorem dX4_init_201 : decode cX4_init 201 = .ok (.aload_n 0, 1) := dk_42 (dk_at dksX4_init_8 16 rfl rfl)
theorem dX4_init_202 : decode cX4_init 202 = .ok (.iconst 2, 1) := dk_5 (dk_at dksX4_init_8 17 rfl rfl)
theorem dX4_init_203 : decode cX4_init 203 = .ok (.newarray .long, 2) := dk_188_11 (dk_at dksX4_init_8 18 rfl rfl)
theorem dX4_init_205 : decode cX4_init 205 = .ok (.putfield 117, 3) := dk_181 0 117 (dk_at dksX4_init_8 20 rfl rfl)
theorem dX4_init_208 : decode cX4_init 208 = .ok (.aload_n 0, 1) := dk_42 (dk_at dksX4_init_8 23 rfl rfl)
theorem dX4_init_209 : decode cX4_init 209 = .ok (.iconst 2, 1) := dk_5 (dk_at dksX4_init_9 0 rfl rfl)
theorem dX4_init_210 : decode cX4_init 210 = .ok (.newarray .boolean, 2) := dk_188_4 (dk_at dksX4_init_9 1 rfl rfl)
theorem dX4_init_212 : decode cX4_init 212 = .ok (.putfield 120, 3) := dk_181 0 120 (dk_at dksX4_init_9 3 rfl rfl)
theorem dX4_init_215 : decode cX4_init 215 = .ok (.aload_n 0, 1) := dk_42 (dk_at dksX4_init_9 6 rfl rfl)
theorem dX4_init_216 : decode cX4_init 216 = .ok (.invokevirtual 123, 3) := dk_182 0 123 (dk_at dksX4_init_9 7 rfl rfl)
theorem dX4_init_219 : decode cX4_init 219 = .ok (.iconst 0, 1) := dk_3 (dk_at dksX4_init_9 10 rfl rfl)
theorem dX4_init_220 : decode cX4_init 220 = .ok (.istore_n 1, 1) := dk_60 (dk_at dksX4_init_9 11 rfl rfl)
theorem dX4_init_221 : decode cX4_init 221 = .ok (.iload_n 1, 1) := dk_27 (dk_at dksX4_init_9 12 rfl rfl)
theorem dX4_init_222 : decode cX4_init 222 = .ok (.sipush 590, 3) := dk_17 2 78 (dk_at dksX4_init_9 13 rfl rfl)
theorem dX4_init_225 : decode cX4_init 225 = .ok (.if_icmp .ge 21, 3) := dk_162 0 21 (dk_at dksX4_init_9 16 rfl rfl)
theorem dX4_init_228 : decode cX4_init 228 = .ok (.aload_n 0, 1) := dk_42 (dk_at dksX4_init_9 19 rfl rfl)
theorem dX4_init_229 : decode cX4_init 229 = .ok (.getfield 41, 3) := dk_180 0 41 (dk_at dksX4_init_9 20 rfl rfl)
theorem dX4_init_232 : decode cX4_init 232 = .ok (.iload_n 1, 1) := dk_27 (dk_at dksX4_init_9 23 rfl rfl)
theorem dX4_init_233 : decode cX4_init 233 = .ok (.aload_n 0, 1) := dk_42 (dk_at dksX4_init_10 0 rfl rfl)
theorem dX4_init_234 : decode cX4_init 234 = .ok (.getfield 45, 3) := dk_180 0 45 (dk_at dksX4_init_10 1 rfl rfl)
theorem dX4_init_237 : decode cX4_init 237 = .ok (.iload_n 1, 1) := dk_27 (dk_at dksX4_init_10 4 rfl rfl)
theorem dX4_init_238 : decode cX4_init 238 = .ok (.iaload, 1) := dk_46 (dk_at dksX4_init_10 5 rfl rfl)
theorem dX4_init_239 : decode cX4_init 239 = .ok (.iastore, 1) := dk_79 (dk_at dksX4_init_10 6 rfl rfl)
theorem dX4_init_240 : decode cX4_init 240 = .ok (.iinc 1 1, 3) := dk_132 1 1 (dk_at dksX4_init_10 7 rfl rfl)
theorem dX4_init_243 : decode cX4_init 243 = .ok (.goto (-22), 3) := dk_167 255 234 (dk_at dksX4_init_10 10 rfl rfl)
theorem dX4_init_246 : decode cX4_init 246 = .ok (.return_, 1) := dk_177 (dk_at dksX4_init_10 13 rfl rfl)
def dkwX4_plainHouse_2 : List UInt8 := [180, 0, 45, 6, 4, 79, 42, 180, 0, 45, 7, 17, 2, 88, 79, 177]
abbrev dktX4_plainHouse_2 : List UInt8 := dkwX4_plainHouse_2 ++ []
def dkwX4_plainHouse_1 : List UInt8 := [27, 16, 8, 162, 0, 20, 42, 180, 0, 45, 16, 70, 27, 96, 16, 10, 79, 132, 1, 1, 167, 255, 236, 42]
abbrev dktX4_plainHouse_1 : List UInt8 := dkwX4_plainHouse_1 ++ dktX4_plainHouse_2
def dkwX4_plainHouse_0 : List UInt8 := [3, 60, 27, 17, 2, 78, 162, 0, 16, 42, 180, 0, 45, 27, 3, 79, 132, 1, 1, 167, 255, 239, 3, 60]
abbrev dktX4_plainHouse_0 : List UInt8 := dkwX4_plainHouse_0 ++ dktX4_plainHouse_1
theorem dksX4_plainHouse_0 : cX4_plainHouse.data.toList.drop 0 = dktX4_plainHouse_0 := by decide +kernel
theorem dksX4_plainHouse_1 : cX4_plainHouse.data.toList.drop 24 = dktX4_plainHouse_1 := dk_seg dksX4_plainHouse_0 24 rfl rfl
theorem dksX4_plainHouse_2 : cX4_plainHouse.data.toList.drop 48 = dktX4_plainHouse_2 := dk_seg dksX4_plainHouse_1 24 rfl rfl
theorem dX4_plainHouse_0 : decode cX4_plainHouse 0 = .ok (.iconst 0, 1) := dk_3 (dk_at dksX4_plainHouse_0 0 rfl rfl)
theorem dX4_plainHouse_1 : decode cX4_plainHouse 1 = .ok (.istore_n 1, 1) := dk_60 (dk_at dksX4_plainHouse_0 1 rfl rfl)
theorem dX4_plainHouse_2 : decode cX4_plainHouse 2 = .ok (.iload_n 1, 1) := dk_27 (dk_at dksX4_plainHouse_0 2 rfl rfl)
theorem dX4_plainHouse_3 : decode cX4_plainHouse 3 = .ok (.sipush 590, 3) := dk_17 2 78 (dk_at dksX4_plainHouse_0 3 rfl rfl)
theorem dX4_plainHouse_6 : decode cX4_plainHouse 6 = .ok (.if_icmp .ge 16, 3) := dk_162 0 16 (dk_at dksX4_plainHouse_0 6 rfl rfl)
theorem dX4_plainHouse_9 : decode cX4_plainHouse 9 = .ok (.aload_n 0, 1) := dk_42 (dk_at dksX4_plainHouse_0 9 rfl rfl)
theorem dX4_plainHouse_10 : decode cX4_plainHouse 10 = .ok (.getfield 45, 3) := dk_180 0 45 (dk_at dksX4_plainHouse_0 10 rfl rfl)
theorem dX4_plainHouse_13 : decode cX4_plainHouse 13 = .ok (.iload_n 1, 1) := dk_27 (dk_at dksX4_plainHouse_0 13 rfl rfl)
theorem dX4_plainHouse_14 : decode cX4_plainHouse 14 = .ok (.iconst 0, 1) := dk_3 (dk_at dksX4_plainHouse_0 14 rfl rfl)
theorem dX4_plainHouse_15 : decode cX4_plainHouse 15 = .ok (.iastore, 1) := dk_79 (dk_at dksX4_plainHouse_0 15 rfl rfl)
theorem dX4_plainHouse_16 : decode cX4_plainHouse 16 = .ok (.iinc 1 1, 3) := dk_132 1 1 (dk_at dksX4_plainHouse_0 16 rfl rfl)
theorem dX4_plainHouse_19 : decode cX4_plainHouse 19 = .ok (.goto (-17), 3) := dk_167 255 239 (dk_at dksX4_plainHouse_0 19 rfl rfl)
theorem dX4_plainHouse_22 : decode cX4_plainHouse 22 = .ok (.iconst 0, 1) := dk_3 (dk_at dksX4_plainHouse_0 22 rfl rfl)
theorem dX4_plainHouse_23 : decode cX4_plainHouse 23 = .ok (.istore_n 1, 1) := dk_60 (dk_at dksX4_plainHouse_0 23 rfl rfl)
theorem dX4_plainHouse_24 : decode cX4_plainHouse 24 = .ok (.iload_n 1, 1) := dk_27 (dk_at dksX4_plainHouse_1 0 rfl rfl)
theorem dX4_plainHouse_25 : decode cX4_plainHouse 25 = .ok (.bipush 8, 2) := dk_16 8 (dk_at dksX4_plainHouse_1 1 rfl rfl)
theorem dX4_plainHouse_27 : decode cX4_plainHouse 27 = .ok (.if_icmp .ge 20, 3) := dk_162 0 20 (dk_at dksX4_plainHouse_1 3 rfl rfl)
theorem dX4_plainHouse_30 : decode cX4_plainHouse 30 = .ok (.aload_n 0, 1) := dk_42 (dk_at dksX4_plainHouse_1 6 rfl rfl)
theorem dX4_plainHouse_31 : decode cX4_plainHouse 31 = .ok (.getfield 45, 3) := dk_180 0 45 (dk_at dksX4_plainHouse_1 7 rfl rfl)
theorem dX4_plainHouse_34 : decode cX4_plainHouse 34 = .ok (.bipush 70, 2) := dk_16 70 (dk_at dksX4_plainHouse_1 10 rfl rfl)
theorem dX4_plainHouse_36 : decode cX4_plainHouse 36 = .ok (.iload_n 1, 1) := dk_27 (dk_at dksX4_plainHouse_1 12 rfl rfl)
theorem dX4_plainHouse_37 : decode cX4_plainHouse 37 = .ok (.iadd, 1) := dk_96 (dk_at dksX4_plainHouse_1 13 rfl rfl)
theorem dX4_plainHouse_38 : decode cX4_plainHouse 38 = .ok (.bipush 10, 2) := dk_16 10 (dk_at dksX4_plainHouse_1 14 rfl rfl)
theorem dX4_plainHouse_40 : decode cX4_plainHouse 40 = .ok (.iastore, 1) := dk_79 (dk_at dksX4_plainHouse_1 16 rfl rfl)
theorem dX4_plainHouse_41 : decode cX4_plainHouse 41 = .ok (.iinc 1 1, 3) := dk_132 1 1 (dk_at dksX4_plainHouse_1 17 rfl rfl)
theorem dX4_plainHouse_44 : decode cX4_plainHouse 44 = .ok (.goto (-20), 3) := dk_167 255 236 (dk_at dksX4_plainHouse_1 20 rfl rfl)
theorem dX4_plainHouse_47 : decode cX4_plainHouse 47 = .ok (.aload_n 0, 1) := dk_42 (dk_at dksX4_plainHouse_1 23 rfl rfl)
theorem dX4_plainHouse_48 : decode cX4_plainHouse 48 = .ok (.getfield 45, 3) := dk_180 0 45 (dk_at dksX4_plainHouse_2 0 rfl rfl)
theorem dX4_plainHouse_51 : decode cX4_plainHouse 51 = .ok (.iconst 3, 1) := dk_6 (dk_at dksX4_plainHouse_2 3 rfl rfl)
theorem dX4_plainHouse_52 : decode cX4_plainHouse 52 = .ok (.iconst 1, 1) := dk_4 (dk_at dksX4_plainHouse_2 4 rfl rfl)
theorem dX4_plainHouse_53 : decode cX4_plainHouse 53 = .ok (.iastore, 1) := dk_79 (dk_at dksX4_plainHouse_2 5 rfl rfl)
theorem dX4_plainHouse_54 : decode cX4_plainHouse 54 = .ok (.aload_n 0, 1) := dk_42 (dk_at dksX4_plainHouse_2 6 rfl rfl)
theorem dX4_plainHouse_55 : decode cX4_plainHouse 55 = .ok (.getfield 45, 3) := dk_180 0 45 (dk_at dksX4_plainHouse_2 7 rfl rfl)
theorem dX4_plainHouse_58 : decode cX4_plainHouse 58 = .ok (.iconst 4, 1) := dk_7 (dk_at dksX4_plainHouse_2 10 rfl rfl)
theorem dX4_plainHouse_59 : decode cX4_plainHouse 59 = .ok (.sipush 600, 3) := dk_17 2 88 (dk_at dksX4_plainHouse_2 11 rfl rfl)
theorem dX4_plainHouse_62 : decode cX4_plainHouse 62 = .ok (.iastore, 1) := dk_79 (dk_at dksX4_plainHouse_2 14 rfl rfl)
theorem dX4_plainHouse_63 : decode cX4_plainHouse 63 = .ok (.return_, 1) := dk_177 (dk_at dksX4_plainHouse_2 15 rfl rfl)
def dkwX4_house_6 : List UInt8 := [180, 1, 34, 172]
abbrev dktX4_house_6 : List UInt8 := dkwX4_house_6 ++ []
def dkwX4_house_5 : List UInt8 := [3, 79, 132, 1, 1, 167, 255, 223, 42, 9, 181, 1, 43, 42, 9, 181, 1, 46, 42, 4, 181, 0, 65, 42]
abbrev dktX4_house_5 : List UInt8 := dkwX4_house_5 ++ dktX4_house_6
def dkwX4_house_4 : List UInt8 := [162, 0, 32, 42, 180, 0, 41, 27, 27, 17, 2, 78, 162, 0, 12, 42, 180, 0, 45, 27, 46, 167, 0, 4]
abbrev dktX4_house_4 : List UInt8 := dkwX4_house_4 ++ dktX4_house_5
def dkwX4_house_3 : List UInt8 := [180, 0, 156, 100, 172, 42, 89, 180, 1, 34, 4, 96, 181, 1, 34, 167, 255, 216, 3, 60, 27, 17, 2, 169]
abbrev dktX4_house_3 : List UInt8 := dkwX4_house_3 ++ dktX4_house_4
def dkwX4_house_2 : List UInt8 := [180, 0, 136, 153, 0, 39, 42, 182, 1, 37, 153, 0, 12, 42, 16, 59, 182, 1, 40, 154, 0, 10, 2, 42]
abbrev dktX4_house_2 : List UInt8 := dkwX4_house_2 ++ dktX4_house_3
def dkwX4_house_1 : List UInt8 := [181, 0, 194, 42, 3, 181, 0, 206, 42, 3, 181, 0, 219, 42, 182, 0, 123, 42, 182, 0, 165, 42]
abbrev dktX4_house_1 : List UInt8 := dkwX4_house_1 ++ dktX4_house_2
def dkwX4_house_0 : List UInt8 := [42, 3, 181, 0, 1, 42, 17, 3, 132, 182, 1, 31, 42, 3, 181, 0, 153, 42, 3, 181, 1, 34, 42, 3]
abbrev dktX4_house_0 : List UInt8 := dkwX4_house_0 ++ dktX4_house_1
theorem dksX4_house_0 : cX4_house.data.toList.drop 0 = dktX4_house_0 := by decide +kernel
theorem dksX4_house_1 : cX4_house.data.toList.drop 24 = dktX4_house_1 := dk_seg dksX4_house_0 24 rfl rfl
theorem dksX4_house_2 : cX4_house.data.toList.drop 46 = dktX4_house_2 := dk_seg dksX4_house_1 22 rfl rfl
theorem dksX4_house_3 : cX4_house.data.toList.drop 70 = dktX4_house_3 := dk_seg dksX4_house_2 24 rfl rfl
theorem dksX4_house_4 : cX4_house.data.toList.drop 94 = dktX4_house_4 := dk_seg dksX4_house_3 24 rfl rfl
theorem dksX4_house_5 : cX4_house.data.toList.drop 118 = dktX4_house_5 := dk_seg dksX4_house_4 24 rfl rfl
theorem dksX4_house_6 : cX4_house.data.toList.drop 142 = dktX4_house_6 := dk_seg dksX4_house_5 24 rfl rfl
theorem dX4_house_0 : decode cX4_house 0 = .ok (.aload_n 0, 1) := dk_42 (dk_at dksX4_house_0 0 rfl rfl)
theorem dX4_house_1 : decode cX4_house 1 = .ok (.iconst 0, 1) := dk_3 (dk_at dksX4_house_0 1 rfl rfl)
theorem dX4_house_2 : decode cX4_house 2 = .ok (.putfield 1, 3) := dk_181 0 1 (dk_at dksX4_house_0 2 rfl rfl)
theorem dX4_house_5 : decode cX4_house 5 = .ok (.aload_n 0, 1) := dk_42 (dk_at dksX4_house_0 5 rfl rfl)
theorem dX4_house_6 : decode cX4_house 6 = .ok (.sipush 900, 3) := dk_17 3 132 (dk_at dksX4_house_0 6 rfl rfl)
theorem dX4_house_9 : decode cX4_house 9 = .ok (.invokevirtual 287, 3) := dk_182 1 31 (dk_at dksX4_house_0 9 rfl rfl)
theorem dX4_house_12 : decode cX4_house 12 = .ok (.aload_n 0, 1) := dk_42 (dk_at dksX4_house_0 12 rfl rfl)
theorem dX4_house_13 : decode cX4_house 13 = .ok (.iconst 0, 1) := dk_3 (dk_at dksX4_house_0 13 rfl rfl)
theorem dX4_house_14 : decode cX4_house 14 = .ok (.putfield 153, 3) := dk_181 0 153 (dk_at dksX4_house_0 14 rfl rfl)
theorem dX4_house_17 : decode cX4_house 17 = .ok (.aload_n 0, 1) := dk_42 (dk_at dksX4_house_0 17 rfl rfl)
theorem dX4_house_18 : decode cX4_house 18 = .ok (.iconst 0, 1) := dk_3 (dk_at dksX4_house_0 18 rfl rfl)
theorem dX4_house_19 : decode cX4_house 19 = .ok (.putfield 290, 3) := dk_181 1 34 (dk_at dksX4_house_0 19 rfl rfl)
theorem dX4_house_22 : decode cX4_house 22 = .ok (.aload_n 0, 1) := dk_42 (dk_at dksX4_house_0 22 rfl rfl)
theorem dX4_house_23 : decode cX4_house 23 = .ok (.iconst 0, 1) := dk_3 (dk_at dksX4_house_0 23 rfl rfl)
theorem dX4_house_24 : decode cX4_house 24 = .ok (.putfield 194, 3) := dk_181 0 194 (dk_at dksX4_house_1 0 rfl rfl)
theorem dX4_house_27 : decode cX4_house 27 = .ok (.aload_n 0, 1) := dk_42 (dk_at dksX4_house_1 3 rfl rfl)
theorem dX4_house_28 : decode cX4_house 28 = .ok (.iconst 0, 1) := dk_3 (dk_at dksX4_house_1 4 rfl rfl)
theorem dX4_house_29 : decode cX4_house 29 = .ok (.putfield 206, 3) := dk_181 0 206 (dk_at dksX4_house_1 5 rfl rfl)
theorem dX4_house_32 : decode cX4_house 32 = .ok (.aload_n 0, 1) := dk_42 (dk_at dksX4_house_1 8 rfl rfl)
theorem dX4_house_33 : decode cX4_house 33 = .ok (.iconst 0, 1) := dk_3 (dk_at dksX4_house_1 9 rfl rfl)
theorem dX4_house_34 : decode cX4_house 34 = .ok (.putfield 219, 3) := dk_181 0 219 (dk_at dksX4_house_1 10 rfl rfl)
theorem dX4_house_37 : decode cX4_house 37 = .ok (.aload_n 0, 1) := dk_42 (dk_at dksX4_house_1 13 rfl rfl)
theorem dX4_house_38 : decode cX4_house 38 = .ok (.invokevirtual 123, 3) := dk_182 0 123 (dk_at dksX4_house_1 14 rfl rfl)
theorem dX4_house_41 : decode cX4_house 41 = .ok (.aload_n 0, 1) := dk_42 (dk_at dksX4_house_1 17 rfl rfl)
theorem dX4_house_42 : decode cX4_house 42 = .ok (.invokevirtual 165, 3) := dk_182 0 165 (dk_at dksX4_house_1 18 rfl rfl)
theorem dX4_house_45 : decode cX4_house 45 = .ok (.aload_n 0, 1) := dk_42 (dk_at dksX4_house_1 21 rfl rfl)
theorem dX4_house_46 : decode cX4_house 46 = .ok (.getfield 136, 3) := dk_180 0 136 (dk_at dksX4_house_2 0 rfl rfl)
theorem dX4_house_49 : decode cX4_house 49 = .ok (.ifCond .eq 39, 3) := dk_153 0 39 (dk_at dksX4_house_2 3 rfl rfl)
theorem dX4_house_52 : decode cX4_house 52 = .ok (.aload_n 0, 1) := dk_42 (dk_at dksX4_house_2 6 rfl rfl)
theorem dX4_house_53 : decode cX4_house 53 = .ok (.invokevirtual 293, 3) := dk_182 1 37 (dk_at dksX4_house_2 7 rfl rfl)
theorem dX4_house_56 : decode cX4_house 56 = .ok (.ifCond .eq 12, 3) := dk_153 0 12 (dk_at dksX4_house_2 10 rfl rfl)
theorem dX4_house_59 : decode cX4_house 59 = .ok (.aload_n 0, 1) := dk_42 (dk_at dksX4_house_2 13 rfl rfl)
theorem dX4_house_60 : decode cX4_house 60 = .ok (.bipush 59, 2) := dk_16 59 (dk_at dksX4_house_2 14 rfl rfl)
theorem dX4_house_62 : decode cX4_house 62 = .ok (.invokevirtual 296, 3) := dk_182 1 40 (dk_at dksX4_house_2 16 rfl rfl)
theorem dX4_house_65 : decode cX4_house 65 = .ok (.ifCond .ne 10, 3) := dk_154 0 10 (dk_at dksX4_house_2 19 rfl rfl)
theorem dX4_house_68 : decode cX4_house 68 = .ok (.iconst (-1), 1) := dk_2 (dk_at dksX4_house_2 22 rfl rfl)
theorem dX4_house_69 : decode cX4_house 69 = .ok (.aload_n 0, 1) := dk_42 (dk_at dksX4_house_2 23 rfl rfl)
theorem dX4_house_70 : decode cX4_house 70 = .ok (.getfield 156, 3) := dk_180 0 156 (dk_at dksX4_house_3 0 rfl rfl)
theorem dX4_house_73 : decode cX4_house 73 = .ok (.isub, 1) := dk_100 (dk_at dksX4_house_3 3 rfl rfl)
theorem dX4_house_74 : decode cX4_house 74 = .ok (.ireturn, 1) := dk_172 (dk_at dksX4_house_3 4 rfl rfl)
theorem dX4_house_75 : decode cX4_house 75 = .ok (.aload_n 0, 1) := dk_42 (dk_at dksX4_house_3 5 rfl rfl)
theorem dX4_house_76 : decode cX4_house 76 = .ok (.dup, 1) := dk_89 (dk_at dksX4_house_3 6 rfl rfl)
theorem dX4_house_77 : decode cX4_house 77 = .ok (.getfield 290, 3) := dk_180 1 34 (dk_at dksX4_house_3 7 rfl rfl)
theorem dX4_house_80 : decode cX4_house 80 = .ok (.iconst 1, 1) := dk_4 (dk_at dksX4_house_3 10 rfl rfl)
theorem dX4_house_81 : decode cX4_house 81 = .ok (.iadd, 1) := dk_96 (dk_at dksX4_house_3 11 rfl rfl)
theorem dX4_house_82 : decode cX4_house 82 = .ok (.putfield 290, 3) := dk_181 1 34 (dk_at dksX4_house_3 12 rfl rfl)
theorem dX4_house_85 : decode cX4_house 85 = .ok (.goto (-40), 3) := dk_167 255 216 (dk_at dksX4_house_3 15 rfl rfl)
theorem dX4_house_88 : decode cX4_house 88 = .ok (.iconst 0, 1) := dk_3 (dk_at dksX4_house_3 18 rfl rfl)
theorem dX4_house_89 : decode cX4_house 89 = .ok (.istore_n 1, 1) := dk_60 (dk_at dksX4_house_3 19 rfl rfl)
theorem dX4_house_90 : decode cX4_house 90 = .ok (.iload_n 1, 1) := dk_27 (dk_at dksX4_house_3 20 rfl rfl)
theorem dX4_house_91 : decode cX4_house 91 = .ok (.sipush 681, 3) := dk_17 2 169 (dk_at dksX4_house_3 21 rfl rfl)
theorem dX4_house_94 : decode cX4_house 94 = .ok (.if_icmp .ge 32, 3) := dk_162 0 32 (dk_at dksX4_house_4 0 rfl rfl)
theorem dX4_house_97 : decode cX4_house 97 = .ok (.aload_n 0, 1) := dk_42 (dk_at dksX4_house_4 3 rfl rfl)
theorem dX4_house_98 : decode cX4_house 98 = .ok (.getfield 41, 3) := dk_180 0 41 (dk_at dksX4_house_4 4 rfl rfl)
theorem dX4_house_101 : decode cX4_house 101 = .ok (.iload_n 1, 1) := dk_27 (dk_at dksX4_house_4 7 rfl rfl)
theorem dX4_house_102 : decode cX4_house 102 = .ok (.iload_n 1, 1) := dk_27 (dk_at dksX4_house_4 8 rfl rfl)
theorem dX4_house_103 : decode cX4_house 103 = .ok (.sipush 590, 3) := dk_17 2 78 (dk_at dksX4_house_4 9 rfl rfl)
theorem dX4_house_106 : decode cX4_house 106 = .ok (.if_icmp .ge 12, 3) := dk_162 0 12 (dk_at dksX4_house_4 12 rfl rfl)
theorem dX4_house_109 : decode cX4_house 109 = .ok (.aload_n 0, 1) := dk_42 (dk_at dksX4_house_4 15 rfl rfl)
theorem dX4_house_110 : decode cX4_house 110 = .ok (.getfield 45, 3) := dk_180 0 45 (dk_at dksX4_house_4 16 rfl rfl)
theorem dX4_house_113 : decode cX4_house 113 = .ok (.iload_n 1, 1) := dk_27 (dk_at dksX4_house_4 19 rfl rfl)
theorem dX4_house_114 : decode cX4_house 114 = .ok (.iaload, 1) := dk_46 (dk_at dksX4_house_4 20 rfl rfl)
theorem dX4_house_115 : decode cX4_house 115 = .ok (.goto 4, 3) := dk_167 0 4 (dk_at dksX4_house_4 21 rfl rfl)
theorem dX4_house_118 : decode cX4_house 118 = .ok (.iconst 0, 1) := dk_3 (dk_at dksX4_house_5 0 rfl rfl)
theorem dX4_house_119 : decode cX4_house 119 = .ok (.iastore, 1) := dk_79 (dk_at dksX4_house_5 1 rfl rfl)
theorem dX4_house_120 : decode cX4_house 120 = .ok (.iinc 1 1, 3) := dk_132 1 1 (dk_at dksX4_house_5 2 rfl rfl)
theorem dX4_house_123 : decode cX4_house 123 = .ok (.goto (-33), 3) := dk_167 255 223 (dk_at dksX4_house_5 5 rfl rfl)
theorem dX4_house_126 : decode cX4_house 126 = .ok (.aload_n 0, 1) := dk_42 (dk_at dksX4_house_5 8 rfl rfl)
theorem dX4_house_127 : decode cX4_house 127 = .ok (.lconst 0, 1) := dk_9 (dk_at dksX4_house_5 9 rfl rfl)
theorem dX4_house_128 : decode cX4_house 128 = .ok (.putfield 299, 3) := dk_181 1 43 (dk_at dksX4_house_5 10 rfl rfl)
theorem dX4_house_131 : decode cX4_house 131 = .ok (.aload_n 0, 1) := dk_42 (dk_at dksX4_house_5 13 rfl rfl)
theorem dX4_house_132 : decode cX4_house 132 = .ok (.lconst 0, 1) := dk_9 (dk_at dksX4_house_5 14 rfl rfl)
theorem dX4_house_133 : decode cX4_house 133 = .ok (.putfield 302, 3) := dk_181 1 46 (dk_at dksX4_house_5 15 rfl rfl)
theorem dX4_house_136 : decode cX4_house 136 = .ok (.aload_n 0, 1) := dk_42 (dk_at dksX4_house_5 18 rfl rfl)
theorem dX4_house_137 : decode cX4_house 137 = .ok (.iconst 1, 1) := dk_4 (dk_at dksX4_house_5 19 rfl rfl)
theorem dX4_house_138 : decode cX4_house 138 = .ok (.putfield 65, 3) := dk_181 0 65 (dk_at dksX4_house_5 20 rfl rfl)
theorem dX4_house_141 : decode cX4_house 141 = .ok (.aload_n 0, 1) := dk_42 (dk_at dksX4_house_5 23 rfl rfl)
theorem dX4_house_142 : decode cX4_house 142 = .ok (.getfield 290, 3) := dk_180 1 34 (dk_at dksX4_house_6 0 rfl rfl)
theorem dX4_house_145 : decode cX4_house 145 = .ok (.ireturn, 1) := dk_172 (dk_at dksX4_house_6 3 rfl rfl)
def dkwX4_taken_0 : List UInt8 := [42, 42, 180, 0, 7, 181, 0, 18, 42, 3, 181, 0, 7, 42, 3, 181, 0, 21, 42, 27, 181, 0, 24, 177]
abbrev dktX4_taken_0 : List UInt8 := dkwX4_taken_0 ++ []
theorem dksX4_taken_0 : cX4_taken.data.toList.drop 0 = dktX4_taken_0 := by decide +kernel
theorem dX4_taken_0 : decode cX4_taken 0 = .ok (.aload_n 0, 1) := dk_42 (dk_at dksX4_taken_0 0 rfl rfl)
theorem dX4_taken_1 : decode cX4_taken 1 = .ok (.aload_n 0, 1) := dk_42 (dk_at dksX4_taken_0 1 rfl rfl)
theorem dX4_taken_2 : decode cX4_taken 2 = .ok (.getfield 7, 3) := dk_180 0 7 (dk_at dksX4_taken_0 2 rfl rfl)
theorem dX4_taken_5 : decode cX4_taken 5 = .ok (.putfield 18, 3) := dk_181 0 18 (dk_at dksX4_taken_0 5 rfl rfl)
theorem dX4_taken_8 : decode cX4_taken 8 = .ok (.aload_n 0, 1) := dk_42 (dk_at dksX4_taken_0 8 rfl rfl)
theorem dX4_taken_9 : decode cX4_taken 9 = .ok (.iconst 0, 1) := dk_3 (dk_at dksX4_taken_0 9 rfl rfl)
theorem dX4_taken_10 : decode cX4_taken 10 = .ok (.putfield 7, 3) := dk_181 0 7 (dk_at dksX4_taken_0 10 rfl rfl)
theorem dX4_taken_13 : decode cX4_taken 13 = .ok (.aload_n 0, 1) := dk_42 (dk_at dksX4_taken_0 13 rfl rfl)
theorem dX4_taken_14 : decode cX4_taken 14 = .ok (.iconst 0, 1) := dk_3 (dk_at dksX4_taken_0 14 rfl rfl)
theorem dX4_taken_15 : decode cX4_taken 15 = .ok (.putfield 21, 3) := dk_181 0 21 (dk_at dksX4_taken_0 15 rfl rfl)
theorem dX4_taken_18 : decode cX4_taken 18 = .ok (.aload_n 0, 1) := dk_42 (dk_at dksX4_taken_0 18 rfl rfl)
theorem dX4_taken_19 : decode cX4_taken 19 = .ok (.iload_n 1, 1) := dk_27 (dk_at dksX4_taken_0 19 rfl rfl)
theorem dX4_taken_20 : decode cX4_taken 20 = .ok (.putfield 24, 3) := dk_181 0 24 (dk_at dksX4_taken_0 20 rfl rfl)
theorem dX4_taken_23 : decode cX4_taken 23 = .ok (.return_, 1) := dk_177 (dk_at dksX4_taken_0 23 rfl rfl)
def dkwX4_next_14 : List UInt8 := [4, 167, 0, 4, 5, 181, 0, 136, 177]
abbrev dktX4_next_14 : List UInt8 := dkwX4_next_14 ++ []
def dkwX4_next_13 : List UInt8 := [180, 0, 133, 28, 153, 0, 8, 16, 8, 167, 0, 4, 6, 164, 0, 7, 7, 167, 0, 12, 28, 153, 0, 7]
abbrev dktX4_next_13 : List UInt8 := dkwX4_next_13 ++ dktX4_next_14
def dkwX4_next_12 : List UInt8 := [181, 0, 133, 42, 89, 180, 0, 21, 4, 96, 181, 0, 21, 167, 255, 142, 42, 29, 153, 0, 20, 42]
abbrev dktX4_next_12 : List UInt8 := dkwX4_next_12 ++ dktX4_next_13
def dkwX4_next_11 : List UInt8 := [180, 0, 146, 104, 42, 182, 0, 126, 96, 16, 48, 100, 181, 0, 146, 42, 89, 180, 0, 133, 4, 96]
abbrev dktX4_next_11 : List UInt8 := dkwX4_next_11 ++ dktX4_next_12
def dkwX4_next_10 : List UInt8 := [16, 8, 121, 42, 182, 0, 126, 133, 129, 181, 0, 149, 42, 180, 0, 133, 6, 162, 0, 22, 42, 16, 10, 42]
abbrev dktX4_next_10 : List UInt8 := dkwX4_next_10 ++ dktX4_next_11
def dkwX4_next_9 : List UInt8 := [28, 160, 0, 7, 4, 167, 0, 4, 3, 62, 42, 180, 0, 133, 16, 8, 162, 0, 20, 42, 42, 180, 0, 149]
abbrev dktX4_next_9 : List UInt8 := dkwX4_next_9 ++ dktX4_next_10
def dkwX4_next_8 : List UInt8 := [154, 0, 13, 42, 182, 0, 126, 184, 0, 143, 153, 0, 100, 29, 153, 0, 18, 42, 182, 0, 126, 184, 0, 139]
abbrev dktX4_next_8 : List UInt8 := dkwX4_next_8 ++ dktX4_next_9
def dkwX4_next_7 : List UInt8 := [184, 0, 139, 61, 4, 62, 42, 9, 181, 0, 149, 42, 3, 181, 0, 146, 42, 182, 0, 126, 184, 0, 139]
abbrev dktX4_next_7 : List UInt8 := dkwX4_next_7 ++ dktX4_next_8
def dkwX4_next_6 : List UInt8 := [167, 0, 4, 7, 181, 0, 136, 42, 27, 181, 0, 146, 42, 89, 180, 0, 21, 4, 96, 181, 0, 21, 177, 27]
abbrev dktX4_next_6 : List UInt8 := dkwX4_next_6 ++ dktX4_next_7
def dkwX4_next_5 : List UInt8 := [159, 0, 21, 27, 16, 41, 159, 0, 15, 27, 16, 60, 161, 0, 13, 27, 16, 62, 163, 0, 7, 6]
abbrev dktX4_next_5 : List UInt8 := dkwX4_next_5 ++ dktX4_next_6
def dkwX4_next_4 : List UInt8 := [27, 184, 0, 139, 154, 0, 65, 27, 184, 0, 143, 154, 0, 58, 42, 27, 16, 59, 159, 0, 27, 27, 16, 40]
abbrev dktX4_next_4 : List UInt8 := dkwX4_next_4 ++ dktX4_next_5
def dkwX4_next_3 : List UInt8 := [181, 0, 130, 42, 7, 181, 0, 136, 177, 42, 182, 0, 126, 60, 27, 156, 0, 9, 42, 3, 181, 0, 136, 177]
abbrev dktX4_next_3 : List UInt8 := dkwX4_next_3 ++ dktX4_next_4
def dkwX4_next_2 : List UInt8 := [42, 180, 0, 24, 164, 0, 28, 42, 180, 0, 21, 42, 180, 0, 24, 161, 0, 17, 42, 42, 180, 0, 24]
abbrev dktX4_next_2 : List UInt8 := dkwX4_next_2 ++ dktX4_next_3
def dkwX4_next_1 : List UInt8 := [96, 181, 0, 21, 167, 255, 228, 42, 42, 180, 0, 21, 181, 0, 130, 42, 3, 181, 0, 133, 42, 180, 0, 18]
abbrev dktX4_next_1 : List UInt8 := dkwX4_next_1 ++ dktX4_next_2
def dkwX4_next_0 : List UInt8 := [42, 182, 0, 126, 16, 32, 159, 0, 12, 42, 182, 0, 126, 16, 10, 160, 0, 16, 42, 89, 180, 0, 21, 4]
abbrev dktX4_next_0 : List UInt8 := dkwX4_next_0 ++ dktX4_next_1
theorem dksX4_next_0 : cX4_next.data.toList.drop 0 = dktX4_next_0 := by decide +kernel
theorem dksX4_next_1 : cX4_next.data.toList.drop 24 = dktX4_next_1 := dk_seg dksX4_next_0 24 rfl rfl
theorem dksX4_next_2 : cX4_next.data.toList.drop 48 = dktX4_next_2 := dk_seg dksX4_next_1 24 rfl rfl
theorem dksX4_next_3 : cX4_next.data.toList.drop 71 = dktX4_next_3 := dk_seg dksX4_next_2 23 rfl rfl
theorem dksX4_next_4 : cX4_next.data.toList.drop 95 = dktX4_next_4 := dk_seg dksX4_next_3 24 rfl rfl
theorem dksX4_next_5 : cX4_next.data.toList.drop 119 = dktX4_next_5 := dk_seg dksX4_next_4 24 rfl rfl
theorem dksX4_next_6 : cX4_next.data.toList.drop 141 = dktX4_next_6 := dk_seg dksX4_next_5 22 rfl rfl
theorem dksX4_next_7 : cX4_next.data.toList.drop 165 = dktX4_next_7 := dk_seg dksX4_next_6 24 rfl rfl
theorem dksX4_next_8 : cX4_next.data.toList.drop 188 = dktX4_next_8 := dk_seg dksX4_next_7 23 rfl rfl
theorem dksX4_next_9 : cX4_next.data.toList.drop 212 = dktX4_next_9 := dk_seg dksX4_next_8 24 rfl rfl
theorem dksX4_next_10 : cX4_next.data.toList.drop 236 = dktX4_next_10 := dk_seg dksX4_next_9 24 rfl rfl
theorem dksX4_next_11 : cX4_next.data.toList.drop 260 = dktX4_next_11 := dk_seg dksX4_next_10 24 rfl rfl
theorem dksX4_next_12 : cX4_next.data.toList.drop 282 = dktX4_next_12 := dk_seg dksX4_next_11 22 rfl rfl
theorem dksX4_next_13 : cX4_next.data.toList.drop 304 = dktX4_next_13 := dk_seg dksX4_next_12 22 rfl rfl
theorem dksX4_next_14 : cX4_next.data.toList.drop 328 = dktX4_next_14 := dk_seg dksX4_next_13 24 rfl rfl
theorem dX4_next_0 : decode cX4_next 0 = .ok (.aload_n 0, 1) := dk_42 (dk_at dksX4_next_0 0 rfl rfl)
theorem dX4_next_1 : decode cX4_next 1 = .ok (.invokevirtual 126, 3) := dk_182 0 126 (dk_at dksX4_next_0 1 rfl rfl)
theorem dX4_next_4 : decode cX4_next 4 = .ok (.bipush 32, 2) := dk_16 32 (dk_at dksX4_next_0 4 rfl rfl)
theorem dX4_next_6 : decode cX4_next 6 = .ok (.if_icmp .eq 12, 3) := dk_159 0 12 (dk_at dksX4_next_0 6 rfl rfl)
theorem dX4_next_9 : decode cX4_next 9 = .ok (.aload_n 0, 1) := dk_42 (dk_at dksX4_next_0 9 rfl rfl)
theorem dX4_next_10 : decode cX4_next 10 = .ok (.invokevirtual 126, 3) := dk_182 0 126 (dk_at dksX4_next_0 10 rfl rfl)
theorem dX4_next_13 : decode cX4_next 13 = .ok (.bipush 10, 2) := dk_16 10 (dk_at dksX4_next_0 13 rfl rfl)
theorem dX4_next_15 : decode cX4_next 15 = .ok (.if_icmp .ne 16, 3) := dk_160 0 16 (dk_at dksX4_next_0 15 rfl rfl)
theorem dX4_next_18 : decode cX4_next 18 = .ok (.aload_n 0, 1) := dk_42 (dk_at dksX4_next_0 18 rfl rfl)
theorem dX4_next_19 : decode cX4_next 19 = .ok (.dup, 1) := dk_89 (dk_at dksX4_next_0 19 rfl rfl)
theorem dX4_next_20 : decode cX4_next 20 = .ok (.getfield 21, 3) := dk_180 0 21 (dk_at dksX4_next_0 20 rfl rfl)
theorem dX4_next_23 : decode cX4_next 23 = .ok (.iconst 1, 1) := dk_4 (dk_at dksX4_next_0 23 rfl rfl)
theorem dX4_next_24 : decode cX4_next 24 = .ok (.iadd, 1) := dk_96 (dk_at dksX4_next_1 0 rfl rfl)
theorem dX4_next_25 : decode cX4_next 25 = .ok (.putfield 21, 3) := dk_181 0 21 (dk_at dksX4_next_1 1 rfl rfl)
theorem dX4_next_28 : decode cX4_next 28 = .ok (.goto (-28), 3) := dk_167 255 228 (dk_at dksX4_next_1 4 rfl rfl)
theorem dX4_next_31 : decode cX4_next 31 = .ok (.aload_n 0, 1) := dk_42 (dk_at dksX4_next_1 7 rfl rfl)
theorem dX4_next_32 : decode cX4_next 32 = .ok (.aload_n 0, 1) := dk_42 (dk_at dksX4_next_1 8 rfl rfl)
theorem dX4_next_33 : decode cX4_next 33 = .ok (.getfield 21, 3) := dk_180 0 21 (dk_at dksX4_next_1 9 rfl rfl)
theorem dX4_next_36 : decode cX4_next 36 = .ok (.putfield 130, 3) := dk_181 0 130 (dk_at dksX4_next_1 12 rfl rfl)
theorem dX4_next_39 : decode cX4_next 39 = .ok (.aload_n 0, 1) := dk_42 (dk_at dksX4_next_1 15 rfl rfl)
theorem dX4_next_40 : decode cX4_next 40 = .ok (.iconst 0, 1) := dk_3 (dk_at dksX4_next_1 16 rfl rfl)
theorem dX4_next_41 : decode cX4_next 41 = .ok (.putfield 133, 3) := dk_181 0 133 (dk_at dksX4_next_1 17 rfl rfl)
theorem dX4_next_44 : decode cX4_next 44 = .ok (.aload_n 0, 1) := dk_42 (dk_at dksX4_next_1 20 rfl rfl)
theorem dX4_next_45 : decode cX4_next 45 = .ok (.getfield 18, 3) := dk_180 0 18 (dk_at dksX4_next_1 21 rfl rfl)
theorem dX4_next_48 : decode cX4_next 48 = .ok (.aload_n 0, 1) := dk_42 (dk_at dksX4_next_2 0 rfl rfl)
theorem dX4_next_49 : decode cX4_next 49 = .ok (.getfield 24, 3) := dk_180 0 24 (dk_at dksX4_next_2 1 rfl rfl)
theorem dX4_next_52 : decode cX4_next 52 = .ok (.if_icmp .le 28, 3) := dk_164 0 28 (dk_at dksX4_next_2 4 rfl rfl)
theorem dX4_next_55 : decode cX4_next 55 = .ok (.aload_n 0, 1) := dk_42 (dk_at dksX4_next_2 7 rfl rfl)
theorem dX4_next_56 : decode cX4_next 56 = .ok (.getfield 21, 3) := dk_180 0 21 (dk_at dksX4_next_2 8 rfl rfl)
theorem dX4_next_59 : decode cX4_next 59 = .ok (.aload_n 0, 1) := dk_42 (dk_at dksX4_next_2 11 rfl rfl)
theorem dX4_next_60 : decode cX4_next 60 = .ok (.getfield 24, 3) := dk_180 0 24 (dk_at dksX4_next_2 12 rfl rfl)
theorem dX4_next_63 : decode cX4_next 63 = .ok (.if_icmp .lt 17, 3) := dk_161 0 17 (dk_at dksX4_next_2 15 rfl rfl)
theorem dX4_next_66 : decode cX4_next 66 = .ok (.aload_n 0, 1) := dk_42 (dk_at dksX4_next_2 18 rfl rfl)
theorem dX4_next_67 : decode cX4_next 67 = .ok (.aload_n 0, 1) := dk_42 (dk_at dksX4_next_2 19 rfl rfl)
theorem dX4_next_68 : decode cX4_next 68 = .ok (.getfield 24, 3) := dk_180 0 24 (dk_at dksX4_next_2 20 rfl rfl)
theorem dX4_next_71 : decode cX4_next 71 = .ok (.putfield 130, 3) := dk_181 0 130 (dk_at dksX4_next_3 0 rfl rfl)
theorem dX4_next_74 : decode cX4_next 74 = .ok (.aload_n 0, 1) := dk_42 (dk_at dksX4_next_3 3 rfl rfl)
theorem dX4_next_75 : decode cX4_next 75 = .ok (.iconst 4, 1) := dk_7 (dk_at dksX4_next_3 4 rfl rfl)
theorem dX4_next_76 : decode cX4_next 76 = .ok (.putfield 136, 3) := dk_181 0 136 (dk_at dksX4_next_3 5 rfl rfl)
theorem dX4_next_79 : decode cX4_next 79 = .ok (.return_, 1) := dk_177 (dk_at dksX4_next_3 8 rfl rfl)
theorem dX4_next_80 : decode cX4_next 80 = .ok (.aload_n 0, 1) := dk_42 (dk_at dksX4_next_3 9 rfl rfl)
theorem dX4_next_81 : decode cX4_next 81 = .ok (.invokevirtual 126, 3) := dk_182 0 126 (dk_at dksX4_next_3 10 rfl rfl)
theorem dX4_next_84 : decode cX4_next 84 = .ok (.istore_n 1, 1) := dk_60 (dk_at dksX4_next_3 13 rfl rfl)
theorem dX4_next_85 : decode cX4_next 85 = .ok (.iload_n 1, 1) := dk_27 (dk_at dksX4_next_3 14 rfl rfl)
theorem dX4_next_86 : decode cX4_next 86 = .ok (.ifCond .ge 9, 3) := dk_156 0 9 (dk_at dksX4_next_3 15 rfl rfl)
theorem dX4_next_89 : decode cX4_next 89 = .ok (.aload_n 0, 1) := dk_42 (dk_at dksX4_next_3 18 rfl rfl)
theorem dX4_next_90 : decode cX4_next 90 = .ok (.iconst 0, 1) := dk_3 (dk_at dksX4_next_3 19 rfl rfl)
theorem dX4_next_91 : decode cX4_next 91 = .ok (.putfield 136, 3) := dk_181 0 136 (dk_at dksX4_next_3 20 rfl rfl)
theorem dX4_next_94 : decode cX4_next 94 = .ok (.return_, 1) := dk_177 (dk_at dksX4_next_3 23 rfl rfl)
theorem dX4_next_95 : decode cX4_next 95 = .ok (.iload_n 1, 1) := dk_27 (dk_at dksX4_next_4 0 rfl rfl)
theorem dX4_next_96 : decode cX4_next 96 = .ok (.invokestatic 139, 3) := dk_184 0 139 (dk_at dksX4_next_4 1 rfl rfl)
theorem dX4_next_99 : decode cX4_next 99 = .ok (.ifCond .ne 65, 3) := dk_154 0 65 (dk_at dksX4_next_4 4 rfl rfl)
theorem dX4_next_102 : decode cX4_next 102 = .ok (.iload_n 1, 1) := dk_27 (dk_at dksX4_next_4 7 rfl rfl)
theorem dX4_next_103 : decode cX4_next 103 = .ok (.invokestatic 143, 3) := dk_184 0 143 (dk_at dksX4_next_4 8 rfl rfl)
theorem dX4_next_106 : decode cX4_next 106 = .ok (.ifCond .ne 58, 3) := dk_154 0 58 (dk_at dksX4_next_4 11 rfl rfl)
theorem dX4_next_109 : decode cX4_next 109 = .ok (.aload_n 0, 1) := dk_42 (dk_at dksX4_next_4 14 rfl rfl)
theorem dX4_next_110 : decode cX4_next 110 = .ok (.iload_n 1, 1) := dk_27 (dk_at dksX4_next_4 15 rfl rfl)
theorem dX4_next_111 : decode cX4_next 111 = .ok (.bipush 59, 2) := dk_16 59 (dk_at dksX4_next_4 16 rfl rfl)
theorem dX4_next_113 : decode cX4_next 113 = .ok (.if_icmp .eq 27, 3) := dk_159 0 27 (dk_at dksX4_next_4 18 rfl rfl)
theorem dX4_next_116 : decode cX4_next 116 = .ok (.iload_n 1, 1) := dk_27 (dk_at dksX4_next_4 21 rfl rfl)
theorem dX4_next_117 : decode cX4_next 117 = .ok (.bipush 40, 2) := dk_16 40 (dk_at dksX4_next_4 22 rfl rfl)
theorem dX4_next_119 : decode cX4_next 119 = .ok (.if_icmp .eq 21, 3) := dk_159 0 21 (dk_at dksX4_next_5 0 rfl rfl)
theorem dX4_next_122 : decode cX4_next 122 = .ok (.iload_n 1, 1) := dk_27 (dk_at dksX4_next_5 3 rfl rfl)
theorem dX4_next_123 : decode cX4_next 123 = .ok (.bipush 41, 2) := dk_16 41 (dk_at dksX4_next_5 4 rfl rfl)
theorem dX4_next_125 : decode cX4_next 125 = .ok (.if_icmp .eq 15, 3) := dk_159 0 15 (dk_at dksX4_next_5 6 rfl rfl)
theorem dX4_next_128 : decode cX4_next 128 = .ok (.iload_n 1, 1) := dk_27 (dk_at dksX4_next_5 9 rfl rfl)
theorem dX4_next_129 : decode cX4_next 129 = .ok (.bipush 60, 2) := dk_16 60 (dk_at dksX4_next_5 10 rfl rfl)
theorem dX4_next_131 : decode cX4_next 131 = .ok (.if_icmp .lt 13, 3) := dk_161 0 13 (dk_at dksX4_next_5 12 rfl rfl)
theorem dX4_next_134 : decode cX4_next 134 = .ok (.iload_n 1, 1) := dk_27 (dk_at dksX4_next_5 15 rfl rfl)
theorem dX4_next_135 : decode cX4_next 135 = .ok (.bipush 62, 2) := dk_16 62 (dk_at dksX4_next_5 16 rfl rfl)
theorem dX4_next_137 : decode cX4_next 137 = .ok (.if_icmp .gt 7, 3) := dk_163 0 7 (dk_at dksX4_next_5 18 rfl rfl)
theorem dX4_next_140 : decode cX4_next 140 = .ok (.iconst 3, 1) := dk_6 (dk_at dksX4_next_5 21 rfl rfl)
theorem dX4_next_141 : decode cX4_next 141 = .ok (.goto 4, 3) := dk_167 0 4 (dk_at dksX4_next_6 0 rfl rfl)
theorem dX4_next_144 : decode cX4_next 144 = .ok (.iconst 4, 1) := dk_7 (dk_at dksX4_next_6 3 rfl rfl)
theorem dX4_next_145 : decode cX4_next 145 = .ok (.putfield 136, 3) := dk_181 0 136 (dk_at dksX4_next_6 4 rfl rfl)
theorem dX4_next_148 : decode cX4_next 148 = .ok (.aload_n 0, 1) := dk_42 (dk_at dksX4_next_6 7 rfl rfl)
theorem dX4_next_149 : decode cX4_next 149 = .ok (.iload_n 1, 1) := dk_27 (dk_at dksX4_next_6 8 rfl rfl)
theorem dX4_next_150 : decode cX4_next 150 = .ok (.putfield 146, 3) := dk_181 0 146 (dk_at dksX4_next_6 9 rfl rfl)
theorem dX4_next_153 : decode cX4_next 153 = .ok (.aload_n 0, 1) := dk_42 (dk_at dksX4_next_6 12 rfl rfl)
theorem dX4_next_154 : decode cX4_next 154 = .ok (.dup, 1) := dk_89 (dk_at dksX4_next_6 13 rfl rfl)
theorem dX4_next_155 : decode cX4_next 155 = .ok (.getfield 21, 3) := dk_180 0 21 (dk_at dksX4_next_6 14 rfl rfl)
theorem dX4_next_158 : decode cX4_next 158 = .ok (.iconst 1, 1) := dk_4 (dk_at dksX4_next_6 17 rfl rfl)
theorem dX4_next_159 : decode cX4_next 159 = .ok (.iadd, 1) := dk_96 (dk_at dksX4_next_6 18 rfl rfl)
theorem dX4_next_160 : decode cX4_next 160 = .ok (.putfield 21, 3) := dk_181 0 21 (dk_at dksX4_next_6 19 rfl rfl)
theorem dX4_next_163 : decode cX4_next 163 = .ok (.return_, 1) := dk_177 (dk_at dksX4_next_6 22 rfl rfl)
theorem dX4_next_164 : decode cX4_next 164 = .ok (.iload_n 1, 1) := dk_27 (dk_at dksX4_next_6 23 rfl rfl)
theorem dX4_next_165 : decode cX4_next 165 = .ok (.invokestatic 139, 3) := dk_184 0 139 (dk_at dksX4_next_7 0 rfl rfl)
theorem dX4_next_168 : decode cX4_next 168 = .ok (.istore_n 2, 1) := dk_61 (dk_at dksX4_next_7 3 rfl rfl)
theorem dX4_next_169 : decode cX4_next 169 = .ok (.iconst 1, 1) := dk_4 (dk_at dksX4_next_7 4 rfl rfl)
theorem dX4_next_170 : decode cX4_next 170 = .ok (.istore_n 3, 1) := dk_62 (dk_at dksX4_next_7 5 rfl rfl)
theorem dX4_next_171 : decode cX4_next 171 = .ok (.aload_n 0, 1) := dk_42 (dk_at dksX4_next_7 6 rfl rfl)
theorem dX4_next_172 : decode cX4_next 172 = .ok (.lconst 0, 1) := dk_9 (dk_at dksX4_next_7 7 rfl rfl)
theorem dX4_next_173 : decode cX4_next 173 = .ok (.putfield 149, 3) := dk_181 0 149 (dk_at dksX4_next_7 8 rfl rfl)
theorem dX4_next_176 : decode cX4_next 176 = .ok (.aload_n 0, 1) := dk_42 (dk_at dksX4_next_7 11 rfl rfl)
theorem dX4_next_177 : decode cX4_next 177 = .ok (.iconst 0, 1) := dk_3 (dk_at dksX4_next_7 12 rfl rfl)
theorem dX4_next_178 : decode cX4_next 178 = .ok (.putfield 146, 3) := dk_181 0 146 (dk_at dksX4_next_7 13 rfl rfl)
theorem dX4_next_181 : decode cX4_next 181 = .ok (.aload_n 0, 1) := dk_42 (dk_at dksX4_next_7 16 rfl rfl)
theorem dX4_next_182 : decode cX4_next 182 = .ok (.invokevirtual 126, 3) := dk_182 0 126 (dk_at dksX4_next_7 17 rfl rfl)
theorem dX4_next_185 : decode cX4_next 185 = .ok (.invokestatic 139, 3) := dk_184 0 139 (dk_at dksX4_next_7 20 rfl rfl)
theorem dX4_next_188 : decode cX4_next 188 = .ok (.ifCond .ne 13, 3) := dk_154 0 13 (dk_at dksX4_next_8 0 rfl rfl)
theorem dX4_next_191 : decode cX4_next 191 = .ok (.aload_n 0, 1) := dk_42 (dk_at dksX4_next_8 3 rfl rfl)
theorem dX4_next_192 : decode cX4_next 192 = .ok (.invokevirtual 126, 3) := dk_182 0 126 (dk_at dksX4_next_8 4 rfl rfl)
theorem dX4_next_195 : decode cX4_next 195 = .ok (.invokestatic 143, 3) := dk_184 0 143 (dk_at dksX4_next_8 7 rfl rfl)
theorem dX4_next_198 : decode cX4_next 198 = .ok (.ifCond .eq 100, 3) := dk_153 0 100 (dk_at dksX4_next_8 10 rfl rfl)
theorem dX4_next_201 : decode cX4_next 201 = .ok (.iload_n 3, 1) := dk_29 (dk_at dksX4_next_8 13 rfl rfl)
theorem dX4_next_202 : decode cX4_next 202 = .ok (.ifCond .eq 18, 3) := dk_153 0 18 (dk_at dksX4_next_8 14 rfl rfl)
theorem dX4_next_205 : decode cX4_next 205 = .ok (.aload_n 0, 1) := dk_42 (dk_at dksX4_next_8 17 rfl rfl)
theorem dX4_next_206 : decode cX4_next 206 = .ok (.invokevirtual 126, 3) := dk_182 0 126 (dk_at dksX4_next_8 18 rfl rfl)
theorem dX4_next_209 : decode cX4_next 209 = .ok (.invokestatic 139, 3) := dk_184 0 139 (dk_at dksX4_next_8 21 rfl rfl)
theorem dX4_next_212 : decode cX4_next 212 = .ok (.iload_n 2, 1) := dk_28 (dk_at dksX4_next_9 0 rfl rfl)
theorem dX4_next_213 : decode cX4_next 213 = .ok (.if_icmp .ne 7, 3) := dk_160 0 7 (dk_at dksX4_next_9 1 rfl rfl)
theorem dX4_next_216 : decode cX4_next 216 = .ok (.iconst 1, 1) := dk_4 (dk_at dksX4_next_9 4 rfl rfl)
theorem dX4_next_217 : decode cX4_next 217 = .ok (.goto 4, 3) := dk_167 0 4 (dk_at dksX4_next_9 5 rfl rfl)
theorem dX4_next_220 : decode cX4_next 220 = .ok (.iconst 0, 1) := dk_3 (dk_at dksX4_next_9 8 rfl rfl)
theorem dX4_next_221 : decode cX4_next 221 = .ok (.istore_n 3, 1) := dk_62 (dk_at dksX4_next_9 9 rfl rfl)
theorem dX4_next_222 : decode cX4_next 222 = .ok (.aload_n 0, 1) := dk_42 (dk_at dksX4_next_9 10 rfl rfl)
theorem dX4_next_223 : decode cX4_next 223 = .ok (.getfield 133, 3) := dk_180 0 133 (dk_at dksX4_next_9 11 rfl rfl)
theorem dX4_next_226 : decode cX4_next 226 = .ok (.bipush 8, 2) := dk_16 8 (dk_at dksX4_next_9 14 rfl rfl)
theorem dX4_next_228 : decode cX4_next 228 = .ok (.if_icmp .ge 20, 3) := dk_162 0 20 (dk_at dksX4_next_9 16 rfl rfl)
theorem dX4_next_231 : decode cX4_next 231 = .ok (.aload_n 0, 1) := dk_42 (dk_at dksX4_next_9 19 rfl rfl)
theorem dX4_next_232 : decode cX4_next 232 = .ok (.aload_n 0, 1) := dk_42 (dk_at dksX4_next_9 20 rfl rfl)
theorem dX4_next_233 : decode cX4_next 233 = .ok (.getfield 149, 3) := dk_180 0 149 (dk_at dksX4_next_9 21 rfl rfl)
theorem dX4_next_236 : decode cX4_next 236 = .ok (.bipush 8, 2) := dk_16 8 (dk_at dksX4_next_10 0 rfl rfl)
theorem dX4_next_238 : decode cX4_next 238 = .ok (.lshl, 1) := dk_121 (dk_at dksX4_next_10 2 rfl rfl)
theorem dX4_next_239 : decode cX4_next 239 = .ok (.aload_n 0, 1) := dk_42 (dk_at dksX4_next_10 3 rfl rfl)
theorem dX4_next_240 : decode cX4_next 240 = .ok (.invokevirtual 126, 3) := dk_182 0 126 (dk_at dksX4_next_10 4 rfl rfl)
theorem dX4_next_243 : decode cX4_next 243 = .ok (.i2l, 1) := dk_133 (dk_at dksX4_next_10 7 rfl rfl)
theorem dX4_next_244 : decode cX4_next 244 = .ok (.lor, 1) := dk_129 (dk_at dksX4_next_10 8 rfl rfl)
theorem dX4_next_245 : decode cX4_next 245 = .ok (.putfield 149, 3) := dk_181 0 149 (dk_at dksX4_next_10 9 rfl rfl)
theorem dX4_next_248 : decode cX4_next 248 = .ok (.aload_n 0, 1) := dk_42 (dk_at dksX4_next_10 12 rfl rfl)
theorem dX4_next_249 : decode cX4_next 249 = .ok (.getfield 133, 3) := dk_180 0 133 (dk_at dksX4_next_10 13 rfl rfl)
theorem dX4_next_252 : decode cX4_next 252 = .ok (.iconst 3, 1) := dk_6 (dk_at dksX4_next_10 16 rfl rfl)
theorem dX4_next_253 : decode cX4_next 253 = .ok (.if_icmp .ge 22, 3) := dk_162 0 22 (dk_at dksX4_next_10 17 rfl rfl)
theorem dX4_next_256 : decode cX4_next 256 = .ok (.aload_n 0, 1) := dk_42 (dk_at dksX4_next_10 20 rfl rfl)
theorem dX4_next_257 : decode cX4_next 257 = .ok (.bipush 10, 2) := dk_16 10 (dk_at dksX4_next_10 21 rfl rfl)
theorem dX4_next_259 : decode cX4_next 259 = .ok (.aload_n 0, 1) := dk_42 (dk_at dksX4_next_10 23 rfl rfl)
theorem dX4_next_260 : decode cX4_next 260 = .ok (.getfield 146, 3) := dk_180 0 146 (dk_at dksX4_next_11 0 rfl rfl)
theorem dX4_next_263 : decode cX4_next 263 = .ok (.imul, 1) := dk_104 (dk_at dksX4_next_11 3 rfl rfl)
theorem dX4_next_264 : decode cX4_next 264 = .ok (.aload_n 0, 1) := dk_42 (dk_at dksX4_next_11 4 rfl rfl)
theorem dX4_next_265 : decode cX4_next 265 = .ok (.invokevirtual 126, 3) := dk_182 0 126 (dk_at dksX4_next_11 5 rfl rfl)
theorem dX4_next_268 : decode cX4_next 268 = .ok (.iadd, 1) := dk_96 (dk_at dksX4_next_11 8 rfl rfl)
theorem dX4_next_269 : decode cX4_next 269 = .ok (.bipush 48, 2) := dk_16 48 (dk_at dksX4_next_11 9 rfl rfl)
theorem dX4_next_271 : decode cX4_next 271 = .ok (.isub, 1) := dk_100 (dk_at dksX4_next_11 11 rfl rfl)
theorem dX4_next_272 : decode cX4_next 272 = .ok (.putfield 146, 3) := dk_181 0 146 (dk_at dksX4_next_11 12 rfl rfl)
theorem dX4_next_275 : decode cX4_next 275 = .ok (.aload_n 0, 1) := dk_42 (dk_at dksX4_next_11 15 rfl rfl)
theorem dX4_next_276 : decode cX4_next 276 = .ok (.dup, 1) := dk_89 (dk_at dksX4_next_11 16 rfl rfl)
theorem dX4_next_277 : decode cX4_next 277 = .ok (.getfield 133, 3) := dk_180 0 133 (dk_at dksX4_next_11 17 rfl rfl)
theorem dX4_next_280 : decode cX4_next 280 = .ok (.iconst 1, 1) := dk_4 (dk_at dksX4_next_11 20 rfl rfl)
theorem dX4_next_281 : decode cX4_next 281 = .ok (.iadd, 1) := dk_96 (dk_at dksX4_next_11 21 rfl rfl)
theorem dX4_next_282 : decode cX4_next 282 = .ok (.putfield 133, 3) := dk_181 0 133 (dk_at dksX4_next_12 0 rfl rfl)
theorem dX4_next_285 : decode cX4_next 285 = .ok (.aload_n 0, 1) := dk_42 (dk_at dksX4_next_12 3 rfl rfl)
theorem dX4_next_286 : decode cX4_next 286 = .ok (.dup, 1) := dk_89 (dk_at dksX4_next_12 4 rfl rfl)
theorem dX4_next_287 : decode cX4_next 287 = .ok (.getfield 21, 3) := dk_180 0 21 (dk_at dksX4_next_12 5 rfl rfl)
theorem dX4_next_290 : decode cX4_next 290 = .ok (.iconst 1, 1) := dk_4 (dk_at dksX4_next_12 8 rfl rfl)
theorem dX4_next_291 : decode cX4_next 291 = .ok (.iadd, 1) := dk_96 (dk_at dksX4_next_12 9 rfl rfl)
theorem dX4_next_292 : decode cX4_next 292 = .ok (.putfield 21, 3) := dk_181 0 21 (dk_at dksX4_next_12 10 rfl rfl)
theorem dX4_next_295 : decode cX4_next 295 = .ok (.goto (-114), 3) := dk_167 255 142 (dk_at dksX4_next_12 13 rfl rfl)
theorem dX4_next_298 : decode cX4_next 298 = .ok (.aload_n 0, 1) := dk_42 (dk_at dksX4_next_12 16 rfl rfl)
theorem dX4_next_299 : decode cX4_next 299 = .ok (.iload_n 3, 1) := dk_29 (dk_at dksX4_next_12 17 rfl rfl)
theorem dX4_next_300 : decode cX4_next 300 = .ok (.ifCond .eq 20, 3) := dk_153 0 20 (dk_at dksX4_next_12 18 rfl rfl)
theorem dX4_next_303 : decode cX4_next 303 = .ok (.aload_n 0, 1) := dk_42 (dk_at dksX4_next_12 21 rfl rfl)
theorem dX4_next_304 : decode cX4_next 304 = .ok (.getfield 133, 3) := dk_180 0 133 (dk_at dksX4_next_13 0 rfl rfl)
theorem dX4_next_307 : decode cX4_next 307 = .ok (.iload_n 2, 1) := dk_28 (dk_at dksX4_next_13 3 rfl rfl)
theorem dX4_next_308 : decode cX4_next 308 = .ok (.ifCond .eq 8, 3) := dk_153 0 8 (dk_at dksX4_next_13 4 rfl rfl)
theorem dX4_next_311 : decode cX4_next 311 = .ok (.bipush 8, 2) := dk_16 8 (dk_at dksX4_next_13 7 rfl rfl)
theorem dX4_next_313 : decode cX4_next 313 = .ok (.goto 4, 3) := dk_167 0 4 (dk_at dksX4_next_13 9 rfl rfl)
theorem dX4_next_316 : decode cX4_next 316 = .ok (.iconst 3, 1) := dk_6 (dk_at dksX4_next_13 12 rfl rfl)
theorem dX4_next_317 : decode cX4_next 317 = .ok (.if_icmp .le 7, 3) := dk_164 0 7 (dk_at dksX4_next_13 13 rfl rfl)
theorem dX4_next_320 : decode cX4_next 320 = .ok (.iconst 4, 1) := dk_7 (dk_at dksX4_next_13 16 rfl rfl)
theorem dX4_next_321 : decode cX4_next 321 = .ok (.goto 12, 3) := dk_167 0 12 (dk_at dksX4_next_13 17 rfl rfl)
theorem dX4_next_324 : decode cX4_next 324 = .ok (.iload_n 2, 1) := dk_28 (dk_at dksX4_next_13 20 rfl rfl)
theorem dX4_next_325 : decode cX4_next 325 = .ok (.ifCond .eq 7, 3) := dk_153 0 7 (dk_at dksX4_next_13 21 rfl rfl)
theorem dX4_next_328 : decode cX4_next 328 = .ok (.iconst 1, 1) := dk_4 (dk_at dksX4_next_14 0 rfl rfl)
theorem dX4_next_329 : decode cX4_next 329 = .ok (.goto 4, 3) := dk_167 0 4 (dk_at dksX4_next_14 1 rfl rfl)
theorem dX4_next_332 : decode cX4_next 332 = .ok (.iconst 2, 1) := dk_5 (dk_at dksX4_next_14 4 rfl rfl)
theorem dX4_next_333 : decode cX4_next 333 = .ok (.putfield 136, 3) := dk_181 0 136 (dk_at dksX4_next_14 5 rfl rfl)
theorem dX4_next_336 : decode cX4_next 336 = .ok (.return_, 1) := dk_177 (dk_at dksX4_next_14 8 rfl rfl)
def dkwX4_peek_1 : List UInt8 := [167, 0, 4, 2, 172]
abbrev dktX4_peek_1 : List UInt8 := dkwX4_peek_1 ++ []
def dkwX4_peek_0 : List UInt8 := [42, 180, 0, 21, 42, 180, 0, 18, 162, 0, 19, 42, 180, 0, 14, 42, 180, 0, 21, 51, 17, 0, 255, 126]
abbrev dktX4_peek_0 : List UInt8 := dkwX4_peek_0 ++ dktX4_peek_1
theorem dksX4_peek_0 : cX4_peek.data.toList.drop 0 = dktX4_peek_0 := by decide +kernel
theorem dksX4_peek_1 : cX4_peek.data.toList.drop 24 = dktX4_peek_1 := dk_seg dksX4_peek_0 24 rfl rfl
theorem dX4_peek_0 : decode cX4_peek 0 = .ok (.aload_n 0, 1) := dk_42 (dk_at dksX4_peek_0 0 rfl rfl)
theorem dX4_peek_1 : decode cX4_peek 1 = .ok (.getfield 21, 3) := dk_180 0 21 (dk_at dksX4_peek_0 1 rfl rfl)
theorem dX4_peek_4 : decode cX4_peek 4 = .ok (.aload_n 0, 1) := dk_42 (dk_at dksX4_peek_0 4 rfl rfl)
theorem dX4_peek_5 : decode cX4_peek 5 = .ok (.getfield 18, 3) := dk_180 0 18 (dk_at dksX4_peek_0 5 rfl rfl)
theorem dX4_peek_8 : decode cX4_peek 8 = .ok (.if_icmp .ge 19, 3) := dk_162 0 19 (dk_at dksX4_peek_0 8 rfl rfl)
theorem dX4_peek_11 : decode cX4_peek 11 = .ok (.aload_n 0, 1) := dk_42 (dk_at dksX4_peek_0 11 rfl rfl)
theorem dX4_peek_12 : decode cX4_peek 12 = .ok (.getfield 14, 3) := dk_180 0 14 (dk_at dksX4_peek_0 12 rfl rfl)
theorem dX4_peek_15 : decode cX4_peek 15 = .ok (.aload_n 0, 1) := dk_42 (dk_at dksX4_peek_0 15 rfl rfl)
theorem dX4_peek_16 : decode cX4_peek 16 = .ok (.getfield 21, 3) := dk_180 0 21 (dk_at dksX4_peek_0 16 rfl rfl)
theorem dX4_peek_19 : decode cX4_peek 19 = .ok (.baload, 1) := dk_51 (dk_at dksX4_peek_0 19 rfl rfl)
theorem dX4_peek_20 : decode cX4_peek 20 = .ok (.sipush 255, 3) := dk_17 0 255 (dk_at dksX4_peek_0 20 rfl rfl)
theorem dX4_peek_23 : decode cX4_peek 23 = .ok (.iand, 1) := dk_126 (dk_at dksX4_peek_0 23 rfl rfl)
theorem dX4_peek_24 : decode cX4_peek 24 = .ok (.goto 4, 3) := dk_167 0 4 (dk_at dksX4_peek_1 0 rfl rfl)
theorem dX4_peek_27 : decode cX4_peek 27 = .ok (.iconst (-1), 1) := dk_2 (dk_at dksX4_peek_1 3 rfl rfl)
theorem dX4_peek_28 : decode cX4_peek 28 = .ok (.ireturn, 1) := dk_172 (dk_at dksX4_peek_1 4 rfl rfl)
def dkwX4_isSmall_0 : List UInt8 := [26, 16, 97, 161, 0, 13, 26, 16, 122, 163, 0, 7, 4, 167, 0, 4, 3, 172]
abbrev dktX4_isSmall_0 : List UInt8 := dkwX4_isSmall_0 ++ []
theorem dksX4_isSmall_0 : cX4_isSmall.data.toList.drop 0 = dktX4_isSmall_0 := by decide +kernel
theorem dX4_isSmall_0 : decode cX4_isSmall 0 = .ok (.iload_n 0, 1) := dk_26 (dk_at dksX4_isSmall_0 0 rfl rfl)
theorem dX4_isSmall_1 : decode cX4_isSmall 1 = .ok (.bipush 97, 2) := dk_16 97 (dk_at dksX4_isSmall_0 1 rfl rfl)
theorem dX4_isSmall_3 : decode cX4_isSmall 3 = .ok (.if_icmp .lt 13, 3) := dk_161 0 13 (dk_at dksX4_isSmall_0 3 rfl rfl)
theorem dX4_isSmall_6 : decode cX4_isSmall 6 = .ok (.iload_n 0, 1) := dk_26 (dk_at dksX4_isSmall_0 6 rfl rfl)
theorem dX4_isSmall_7 : decode cX4_isSmall 7 = .ok (.bipush 122, 2) := dk_16 122 (dk_at dksX4_isSmall_0 7 rfl rfl)
theorem dX4_isSmall_9 : decode cX4_isSmall 9 = .ok (.if_icmp .gt 7, 3) := dk_163 0 7 (dk_at dksX4_isSmall_0 9 rfl rfl)
theorem dX4_isSmall_12 : decode cX4_isSmall 12 = .ok (.iconst 1, 1) := dk_4 (dk_at dksX4_isSmall_0 12 rfl rfl)
theorem dX4_isSmall_13 : decode cX4_isSmall 13 = .ok (.goto 4, 3) := dk_167 0 4 (dk_at dksX4_isSmall_0 13 rfl rfl)
theorem dX4_isSmall_16 : decode cX4_isSmall 16 = .ok (.iconst 0, 1) := dk_3 (dk_at dksX4_isSmall_0 16 rfl rfl)
theorem dX4_isSmall_17 : decode cX4_isSmall 17 = .ok (.ireturn, 1) := dk_172 (dk_at dksX4_isSmall_0 17 rfl rfl)
def dkwX4_isDigit_0 : List UInt8 := [26, 16, 48, 161, 0, 13, 26, 16, 57, 163, 0, 7, 4, 167, 0, 4, 3, 172]
abbrev dktX4_isDigit_0 : List UInt8 := dkwX4_isDigit_0 ++ []
theorem dksX4_isDigit_0 : cX4_isDigit.data.toList.drop 0 = dktX4_isDigit_0 := by decide +kernel
theorem dX4_isDigit_0 : decode cX4_isDigit 0 = .ok (.iload_n 0, 1) := dk_26 (dk_at dksX4_isDigit_0 0 rfl rfl)
theorem dX4_isDigit_1 : decode cX4_isDigit 1 = .ok (.bipush 48, 2) := dk_16 48 (dk_at dksX4_isDigit_0 1 rfl rfl)
theorem dX4_isDigit_3 : decode cX4_isDigit 3 = .ok (.if_icmp .lt 13, 3) := dk_161 0 13 (dk_at dksX4_isDigit_0 3 rfl rfl)
theorem dX4_isDigit_6 : decode cX4_isDigit 6 = .ok (.iload_n 0, 1) := dk_26 (dk_at dksX4_isDigit_0 6 rfl rfl)
theorem dX4_isDigit_7 : decode cX4_isDigit 7 = .ok (.bipush 57, 2) := dk_16 57 (dk_at dksX4_isDigit_0 7 rfl rfl)
theorem dX4_isDigit_9 : decode cX4_isDigit 9 = .ok (.if_icmp .gt 7, 3) := dk_163 0 7 (dk_at dksX4_isDigit_0 9 rfl rfl)
theorem dX4_isDigit_12 : decode cX4_isDigit 12 = .ok (.iconst 1, 1) := dk_4 (dk_at dksX4_isDigit_0 12 rfl rfl)
theorem dX4_isDigit_13 : decode cX4_isDigit 13 = .ok (.goto 4, 3) := dk_167 0 4 (dk_at dksX4_isDigit_0 13 rfl rfl)
theorem dX4_isDigit_16 : decode cX4_isDigit 16 = .ok (.iconst 0, 1) := dk_3 (dk_at dksX4_isDigit_0 16 rfl rfl)
theorem dX4_isDigit_17 : decode cX4_isDigit 17 = .ok (.ireturn, 1) := dk_172 (dk_at dksX4_isDigit_0 17 rfl rfl)
def dkwX4_line_12 : List UInt8 := [182, 0, 165, 4, 172]
abbrev dktX4_line_12 : List UInt8 := dkwX4_line_12 ++ []
def dkwX4_line_11 : List UInt8 := [182, 0, 162, 172, 42, 89, 180, 0, 219, 7, 128, 181, 0, 219, 42, 180, 0, 45, 8, 4, 79, 42]
abbrev dktX4_line_11 : List UInt8 := dkwX4_line_11 ++ dktX4_line_12
def dkwX4_line_10 : List UInt8 := [154, 0, 9, 42, 4, 182, 0, 162, 172, 42, 180, 0, 219, 5, 184, 0, 222, 153, 0, 9, 42, 6]
abbrev dktX4_line_10 : List UInt8 := dkwX4_line_10 ++ dktX4_line_11
def dkwX4_line_9 : List UInt8 := [182, 0, 177, 153, 0, 14, 42, 4, 7, 3, 17, 2, 88, 182, 0, 211, 172, 42, 20, 0, 217, 182, 0, 177]
abbrev dktX4_line_9 : List UInt8 := dkwX4_line_9 ++ dktX4_line_10
def dkwX4_line_8 : List UInt8 := [20, 0, 209, 182, 0, 177, 153, 0, 13, 42, 3, 6, 4, 16, 64, 182, 0, 211, 172, 42, 20, 0, 215]
abbrev dktX4_line_8 : List UInt8 := dkwX4_line_8 ++ dktX4_line_9
def dkwX4_line_7 : List UInt8 := [154, 0, 5, 3, 172, 42, 180, 0, 45, 16, 78, 27, 96, 42, 180, 0, 172, 4, 96, 79, 4, 172, 42]
abbrev dktX4_line_7 : List UInt8 := dkwX4_line_7 ++ dktX4_line_8
def dkwX4_line_6 : List UInt8 := [180, 0, 172, 60, 42, 89, 180, 0, 206, 4, 27, 120, 128, 181, 0, 206, 42, 3, 17, 2, 88, 182, 0, 200]
abbrev dktX4_line_6 : List UInt8 := dkwX4_line_6 ++ dktX4_line_7
def dkwX4_line_5 : List UInt8 := [20, 0, 204, 182, 0, 177, 153, 0, 63, 42, 42, 180, 0, 206, 182, 0, 197, 154, 0, 5, 3, 172, 42]
abbrev dktX4_line_5 : List UInt8 := dkwX4_line_5 ++ dktX4_line_6
def dkwX4_line_4 : List UInt8 := [182, 0, 200, 154, 0, 5, 3, 172, 42, 180, 0, 45, 16, 70, 27, 96, 42, 180, 0, 172, 79, 4, 172, 42]
abbrev dktX4_line_4 : List UInt8 := dkwX4_line_4 ++ dktX4_line_5
def dkwX4_line_3 : List UInt8 := [42, 180, 0, 172, 60, 42, 89, 180, 0, 194, 4, 27, 120, 128, 181, 0, 194, 42, 3, 17, 3, 231]
abbrev dktX4_line_3 : List UInt8 := dkwX4_line_3 ++ dktX4_line_4
def dkwX4_line_2 : List UInt8 := [172, 42, 20, 0, 192, 182, 0, 177, 153, 0, 61, 42, 42, 180, 0, 194, 182, 0, 197, 154, 0, 5, 3, 172]
abbrev dktX4_line_2 : List UInt8 := dkwX4_line_2 ++ dktX4_line_3
def dkwX4_line_1 : List UInt8 := [153, 0, 9, 42, 3, 182, 0, 187, 172, 42, 20, 0, 190, 182, 0, 177, 153, 0, 9, 42, 4, 182, 0, 187]
abbrev dktX4_line_1 : List UInt8 := dkwX4_line_1 ++ dktX4_line_2
def dkwX4_line_0 : List UInt8 := [42, 20, 0, 175, 182, 0, 177, 153, 0, 8, 42, 182, 0, 181, 172, 42, 20, 0, 185, 182, 0, 177]
abbrev dktX4_line_0 : List UInt8 := dkwX4_line_0 ++ dktX4_line_1
theorem dksX4_line_0 : cX4_line.data.toList.drop 0 = dktX4_line_0 := by decide +kernel
theorem dksX4_line_1 : cX4_line.data.toList.drop 22 = dktX4_line_1 := dk_seg dksX4_line_0 22 rfl rfl
theorem dksX4_line_2 : cX4_line.data.toList.drop 46 = dktX4_line_2 := dk_seg dksX4_line_1 24 rfl rfl
theorem dksX4_line_3 : cX4_line.data.toList.drop 70 = dktX4_line_3 := dk_seg dksX4_line_2 24 rfl rfl
theorem dksX4_line_4 : cX4_line.data.toList.drop 92 = dktX4_line_4 := dk_seg dksX4_line_3 22 rfl rfl
theorem dksX4_line_5 : cX4_line.data.toList.drop 116 = dktX4_line_5 := dk_seg dksX4_line_4 24 rfl rfl
theorem dksX4_line_6 : cX4_line.data.toList.drop 139 = dktX4_line_6 := dk_seg dksX4_line_5 23 rfl rfl
theorem dksX4_line_7 : cX4_line.data.toList.drop 163 = dktX4_line_7 := dk_seg dksX4_line_6 24 rfl rfl
theorem dksX4_line_8 : cX4_line.data.toList.drop 186 = dktX4_line_8 := dk_seg dksX4_line_7 23 rfl rfl
theorem dksX4_line_9 : cX4_line.data.toList.drop 209 = dktX4_line_9 := dk_seg dksX4_line_8 23 rfl rfl
theorem dksX4_line_10 : cX4_line.data.toList.drop 233 = dktX4_line_10 := dk_seg dksX4_line_9 24 rfl rfl
theorem dksX4_line_11 : cX4_line.data.toList.drop 255 = dktX4_line_11 := dk_seg dksX4_line_10 22 rfl rfl
theorem dksX4_line_12 : cX4_line.data.toList.drop 277 = dktX4_line_12 := dk_seg dksX4_line_11 22 rfl rfl
theorem dX4_line_0 : decode cX4_line 0 = .ok (.aload_n 0, 1) := dk_42 (dk_at dksX4_line_0 0 rfl rfl)
theorem dX4_line_1 : decode cX4_line 1 = .ok (.ldc2_w 175, 3) := dk_20 0 175 (dk_at dksX4_line_0 1 rfl rfl)
theorem dX4_line_4 : decode cX4_line 4 = .ok (.invokevirtual 177, 3) := dk_182 0 177 (dk_at dksX4_line_0 4 rfl rfl)
theorem dX4_line_7 : decode cX4_line 7 = .ok (.ifCond .eq 8, 3) := dk_153 0 8 (dk_at dksX4_line_0 7 rfl rfl)
theorem dX4_line_10 : decode cX4_line 10 = .ok (.aload_n 0, 1) := dk_42 (dk_at dksX4_line_0 10 rfl rfl)
theorem dX4_line_11 : decode cX4_line 11 = .ok (.invokevirtual 181, 3) := dk_182 0 181 (dk_at dksX4_line_0 11 rfl rfl)
theorem dX4_line_14 : decode cX4_line 14 = .ok (.ireturn, 1) := dk_172 (dk_at dksX4_line_0 14 rfl rfl)
theorem dX4_line_15 : decode cX4_line 15 = .ok (.aload_n 0, 1) := dk_42 (dk_at dksX4_line_0 15 rfl rfl)
theorem dX4_line_16 : decode cX4_line 16 = .ok (.ldc2_w 185, 3) := dk_20 0 185 (dk_at dksX4_line_0 16 rfl rfl)
theorem dX4_line_19 : decode cX4_line 19 = .ok (.invokevirtual 177, 3) := dk_182 0 177 (dk_at dksX4_line_0 19 rfl rfl)
theorem dX4_line_22 : decode cX4_line 22 = .ok (.ifCond .eq 9, 3) := dk_153 0 9 (dk_at dksX4_line_1 0 rfl rfl)
theorem dX4_line_25 : decode cX4_line 25 = .ok (.aload_n 0, 1) := dk_42 (dk_at dksX4_line_1 3 rfl rfl)
theorem dX4_line_26 : decode cX4_line 26 = .ok (.iconst 0, 1) := dk_3 (dk_at dksX4_line_1 4 rfl rfl)
theorem dX4_line_27 : decode cX4_line 27 = .ok (.invokevirtual 187, 3) := dk_182 0 187 (dk_at dksX4_line_1 5 rfl rfl)
theorem dX4_line_30 : decode cX4_line 30 = .ok (.ireturn, 1) := dk_172 (dk_at dksX4_line_1 8 rfl rfl)
theorem dX4_line_31 : decode cX4_line 31 = .ok (.aload_n 0, 1) := dk_42 (dk_at dksX4_line_1 9 rfl rfl)
theorem dX4_line_32 : decode cX4_line 32 = .ok (.ldc2_w 190, 3) := dk_20 0 190 (dk_at dksX4_line_1 10 rfl rfl)
theorem dX4_line_35 : decode cX4_line 35 = .ok (.invokevirtual 177, 3) := dk_182 0 177 (dk_at dksX4_line_1 13 rfl rfl)
theorem dX4_line_38 : decode cX4_line 38 = .ok (.ifCond .eq 9, 3) := dk_153 0 9 (dk_at dksX4_line_1 16 rfl rfl)
theorem dX4_line_41 : decode cX4_line 41 = .ok (.aload_n 0, 1) := dk_42 (dk_at dksX4_line_1 19 rfl rfl)
theorem dX4_line_42 : decode cX4_line 42 = .ok (.iconst 1, 1) := dk_4 (dk_at dksX4_line_1 20 rfl rfl)
theorem dX4_line_43 : decode cX4_line 43 = .ok (.invokevirtual 187, 3) := dk_182 0 187 (dk_at dksX4_line_1 21 rfl rfl)
theorem dX4_line_46 : decode cX4_line 46 = .ok (.ireturn, 1) := dk_172 (dk_at dksX4_line_2 0 rfl rfl)
theorem dX4_line_47 : decode cX4_line 47 = .ok (.aload_n 0, 1) := dk_42 (dk_at dksX4_line_2 1 rfl rfl)
theorem dX4_line_48 : decode cX4_line 48 = .ok (.ldc2_w 192, 3) := dk_20 0 192 (dk_at dksX4_line_2 2 rfl rfl)
theorem dX4_line_51 : decode cX4_line 51 = .ok (.invokevirtual 177, 3) := dk_182 0 177 (dk_at dksX4_line_2 5 rfl rfl)
theorem dX4_line_54 : decode cX4_line 54 = .ok (.ifCond .eq 61, 3) := dk_153 0 61 (dk_at dksX4_line_2 8 rfl rfl)
theorem dX4_line_57 : decode cX4_line 57 = .ok (.aload_n 0, 1) := dk_42 (dk_at dksX4_line_2 11 rfl rfl)
theorem dX4_line_58 : decode cX4_line 58 = .ok (.aload_n 0, 1) := dk_42 (dk_at dksX4_line_2 12 rfl rfl)
theorem dX4_line_59 : decode cX4_line 59 = .ok (.getfield 194, 3) := dk_180 0 194 (dk_at dksX4_line_2 13 rfl rfl)
theorem dX4_line_62 : decode cX4_line 62 = .ok (.invokevirtual 197, 3) := dk_182 0 197 (dk_at dksX4_line_2 16 rfl rfl)
theorem dX4_line_65 : decode cX4_line 65 = .ok (.ifCond .ne 5, 3) := dk_154 0 5 (dk_at dksX4_line_2 19 rfl rfl)
theorem dX4_line_68 : decode cX4_line 68 = .ok (.iconst 0, 1) := dk_3 (dk_at dksX4_line_2 22 rfl rfl)
theorem dX4_line_69 : decode cX4_line 69 = .ok (.ireturn, 1) := dk_172 (dk_at dksX4_line_2 23 rfl rfl)
theorem dX4_line_70 : decode cX4_line 70 = .ok (.aload_n 0, 1) := dk_42 (dk_at dksX4_line_3 0 rfl rfl)
theorem dX4_line_71 : decode cX4_line 71 = .ok (.getfield 172, 3) := dk_180 0 172 (dk_at dksX4_line_3 1 rfl rfl)
theorem dX4_line_74 : decode cX4_line 74 = .ok (.istore_n 1, 1) := dk_60 (dk_at dksX4_line_3 4 rfl rfl)
theorem dX4_line_75 : decode cX4_line 75 = .ok (.aload_n 0, 1) := dk_42 (dk_at dksX4_line_3 5 rfl rfl)
theorem dX4_line_76 : decode cX4_line 76 = .ok (.dup, 1) := dk_89 (dk_at dksX4_line_3 6 rfl rfl)
theorem dX4_line_77 : decode cX4_line 77 = .ok (.getfield 194, 3) := dk_180 0 194 (dk_at dksX4_line_3 7 rfl rfl)
theorem dX4_line_80 : decode cX4_line 80 = .ok (.iconst 1, 1) := dk_4 (dk_at dksX4_line_3 10 rfl rfl)
theorem dX4_line_81 : decode cX4_line 81 = .ok (.iload_n 1, 1) := dk_27 (dk_at dksX4_line_3 11 rfl rfl)
theorem dX4_line_82 : decode cX4_line 82 = .ok (.ishl, 1) := dk_120 (dk_at dksX4_line_3 12 rfl rfl)
theorem dX4_line_83 : decode cX4_line 83 = .ok (.ior, 1) := dk_128 (dk_at dksX4_line_3 13 rfl rfl)
theorem dX4_line_84 : decode cX4_line 84 = .ok (.putfield 194, 3) := dk_181 0 194 (dk_at dksX4_line_3 14 rfl rfl)
theorem dX4_line_87 : decode cX4_line 87 = .ok (.aload_n 0, 1) := dk_42 (dk_at dksX4_line_3 17 rfl rfl)
theorem dX4_line_88 : decode cX4_line 88 = .ok (.iconst 0, 1) := dk_3 (dk_at dksX4_line_3 18 rfl rfl)
theorem dX4_line_89 : decode cX4_line 89 = .ok (.sipush 999, 3) := dk_17 3 231 (dk_at dksX4_line_3 19 rfl rfl)
theorem dX4_line_92 : decode cX4_line 92 = .ok (.invokevirtual 200, 3) := dk_182 0 200 (dk_at dksX4_line_4 0 rfl rfl)
theorem dX4_line_95 : decode cX4_line 95 = .ok (.ifCond .ne 5, 3) := dk_154 0 5 (dk_at dksX4_line_4 3 rfl rfl)
theorem dX4_line_98 : decode cX4_line 98 = .ok (.iconst 0, 1) := dk_3 (dk_at dksX4_line_4 6 rfl rfl)
theorem dX4_line_99 : decode cX4_line 99 = .ok (.ireturn, 1) := dk_172 (dk_at dksX4_line_4 7 rfl rfl)
theorem dX4_line_100 : decode cX4_line 100 = .ok (.aload_n 0, 1) := dk_42 (dk_at dksX4_line_4 8 rfl rfl)
theorem dX4_line_101 : decode cX4_line 101 = .ok (.getfield 45, 3) := dk_180 0 45 (dk_at dksX4_line_4 9 rfl rfl)
theorem dX4_line_104 : decode cX4_line 104 = .ok (.bipush 70, 2) := dk_16 70 (dk_at dksX4_line_4 12 rfl rfl)
theorem dX4_line_106 : decode cX4_line 106 = .ok (.iload_n 1, 1) := dk_27 (dk_at dksX4_line_4 14 rfl rfl)
theorem dX4_line_107 : decode cX4_line 107 = .ok (.iadd, 1) := dk_96 (dk_at dksX4_line_4 15 rfl rfl)
theorem dX4_line_108 : decode cX4_line 108 = .ok (.aload_n 0, 1) := dk_42 (dk_at dksX4_line_4 16 rfl rfl)
theorem dX4_line_109 : decode cX4_line 109 = .ok (.getfield 172, 3) := dk_180 0 172 (dk_at dksX4_line_4 17 rfl rfl)
theorem dX4_line_112 : decode cX4_line 112 = .ok (.iastore, 1) := dk_79 (dk_at dksX4_line_4 20 rfl rfl)
theorem dX4_line_113 : decode cX4_line 113 = .ok (.iconst 1, 1) := dk_4 (dk_at dksX4_line_4 21 rfl rfl)
theorem dX4_line_114 : decode cX4_line 114 = .ok (.ireturn, 1) := dk_172 (dk_at dksX4_line_4 22 rfl rfl)
theorem dX4_line_115 : decode cX4_line 115 = .ok (.aload_n 0, 1) := dk_42 (dk_at dksX4_line_4 23 rfl rfl)
theorem dX4_line_116 : decode cX4_line 116 = .ok (.ldc2_w 204, 3) := dk_20 0 204 (dk_at dksX4_line_5 0 rfl rfl)
theorem dX4_line_119 : decode cX4_line 119 = .ok (.invokevirtual 177, 3) := dk_182 0 177 (dk_at dksX4_line_5 3 rfl rfl)
theorem dX4_line_122 : decode cX4_line 122 = .ok (.ifCond .eq 63, 3) := dk_153 0 63 (dk_at dksX4_line_5 6 rfl rfl)
theorem dX4_line_125 : decode cX4_line 125 = .ok (.aload_n 0, 1) := dk_42 (dk_at dksX4_line_5 9 rfl rfl)
theorem dX4_line_126 : decode cX4_line 126 = .ok (.aload_n 0, 1) := dk_42 (dk_at dksX4_line_5 10 rfl rfl)
theorem dX4_line_127 : decode cX4_line 127 = .ok (.getfield 206, 3) := dk_180 0 206 (dk_at dksX4_line_5 11 rfl rfl)
theorem dX4_line_130 : decode cX4_line 130 = .ok (.invokevirtual 197, 3) := dk_182 0 197 (dk_at dksX4_line_5 14 rfl rfl)
theorem dX4_line_133 : decode cX4_line 133 = .ok (.ifCond .ne 5, 3) := dk_154 0 5 (dk_at dksX4_line_5 17 rfl rfl)
theorem dX4_line_136 : decode cX4_line 136 = .ok (.iconst 0, 1) := dk_3 (dk_at dksX4_line_5 20 rfl rfl)
theorem dX4_line_137 : decode cX4_line 137 = .ok (.ireturn, 1) := dk_172 (dk_at dksX4_line_5 21 rfl rfl)
theorem dX4_line_138 : decode cX4_line 138 = .ok (.aload_n 0, 1) := dk_42 (dk_at dksX4_line_5 22 rfl rfl)
theorem dX4_line_139 : decode cX4_line 139 = .ok (.getfield 172, 3) := dk_180 0 172 (dk_at dksX4_line_6 0 rfl rfl)
theorem dX4_line_142 : decode cX4_line 142 = .ok (.istore_n 1, 1) := dk_60 (dk_at dksX4_line_6 3 rfl rfl)
theorem dX4_line_143 : decode cX4_line 143 = .ok (.aload_n 0, 1) := dk_42 (dk_at dksX4_line_6 4 rfl rfl)
theorem dX4_line_144 : decode cX4_line 144 = .ok (.dup, 1) := dk_89 (dk_at dksX4_line_6 5 rfl rfl)
theorem dX4_line_145 : decode cX4_line 145 = .ok (.getfield 206, 3) := dk_180 0 206 (dk_at dksX4_line_6 6 rfl rfl)
theorem dX4_line_148 : decode cX4_line 148 = .ok (.iconst 1, 1) := dk_4 (dk_at dksX4_line_6 9 rfl rfl)
theorem dX4_line_149 : decode cX4_line 149 = .ok (.iload_n 1, 1) := dk_27 (dk_at dksX4_line_6 10 rfl rfl)
theorem dX4_line_150 : decode cX4_line 150 = .ok (.ishl, 1) := dk_120 (dk_at dksX4_line_6 11 rfl rfl)
theorem dX4_line_151 : decode cX4_line 151 = .ok (.ior, 1) := dk_128 (dk_at dksX4_line_6 12 rfl rfl)
theorem dX4_line_152 : decode cX4_line 152 = .ok (.putfield 206, 3) := dk_181 0 206 (dk_at dksX4_line_6 13 rfl rfl)
theorem dX4_line_155 : decode cX4_line 155 = .ok (.aload_n 0, 1) := dk_42 (dk_at dksX4_line_6 16 rfl rfl)
theorem dX4_line_156 : decode cX4_line 156 = .ok (.iconst 0, 1) := dk_3 (dk_at dksX4_line_6 17 rfl rfl)
theorem dX4_line_157 : decode cX4_line 157 = .ok (.sipush 600, 3) := dk_17 2 88 (dk_at dksX4_line_6 18 rfl rfl)
theorem dX4_line_160 : decode cX4_line 160 = .ok (.invokevirtual 200, 3) := dk_182 0 200 (dk_at dksX4_line_6 21 rfl rfl)
theorem dX4_line_163 : decode cX4_line 163 = .ok (.ifCond .ne 5, 3) := dk_154 0 5 (dk_at dksX4_line_7 0 rfl rfl)
theorem dX4_line_166 : decode cX4_line 166 = .ok (.iconst 0, 1) := dk_3 (dk_at dksX4_line_7 3 rfl rfl)
theorem dX4_line_167 : decode cX4_line 167 = .ok (.ireturn, 1) := dk_172 (dk_at dksX4_line_7 4 rfl rfl)
theorem dX4_line_168 : decode cX4_line 168 = .ok (.aload_n 0, 1) := dk_42 (dk_at dksX4_line_7 5 rfl rfl)
theorem dX4_line_169 : decode cX4_line 169 = .ok (.getfield 45, 3) := dk_180 0 45 (dk_at dksX4_line_7 6 rfl rfl)
theorem dX4_line_172 : decode cX4_line 172 = .ok (.bipush 78, 2) := dk_16 78 (dk_at dksX4_line_7 9 rfl rfl)
theorem dX4_line_174 : decode cX4_line 174 = .ok (.iload_n 1, 1) := dk_27 (dk_at dksX4_line_7 11 rfl rfl)
theorem dX4_line_175 : decode cX4_line 175 = .ok (.iadd, 1) := dk_96 (dk_at dksX4_line_7 12 rfl rfl)
theorem dX4_line_176 : decode cX4_line 176 = .ok (.aload_n 0, 1) := dk_42 (dk_at dksX4_line_7 13 rfl rfl)
theorem dX4_line_177 : decode cX4_line 177 = .ok (.getfield 172, 3) := dk_180 0 172 (dk_at dksX4_line_7 14 rfl rfl)
theorem dX4_line_180 : decode cX4_line 180 = .ok (.iconst 1, 1) := dk_4 (dk_at dksX4_line_7 17 rfl rfl)
theorem dX4_line_181 : decode cX4_line 181 = .ok (.iadd, 1) := dk_96 (dk_at dksX4_line_7 18 rfl rfl)
theorem dX4_line_182 : decode cX4_line 182 = .ok (.iastore, 1) := dk_79 (dk_at dksX4_line_7 19 rfl rfl)
theorem dX4_line_183 : decode cX4_line 183 = .ok (.iconst 1, 1) := dk_4 (dk_at dksX4_line_7 20 rfl rfl)
theorem dX4_line_184 : decode cX4_line 184 = .ok (.ireturn, 1) := dk_172 (dk_at dksX4_line_7 21 rfl rfl)
theorem dX4_line_185 : decode cX4_line 185 = .ok (.aload_n 0, 1) := dk_42 (dk_at dksX4_line_7 22 rfl rfl)
theorem dX4_line_186 : decode cX4_line 186 = .ok (.ldc2_w 209, 3) := dk_20 0 209 (dk_at dksX4_line_8 0 rfl rfl)
theorem dX4_line_189 : decode cX4_line 189 = .ok (.invokevirtual 177, 3) := dk_182 0 177 (dk_at dksX4_line_8 3 rfl rfl)
theorem dX4_line_192 : decode cX4_line 192 = .ok (.ifCond .eq 13, 3) := dk_153 0 13 (dk_at dksX4_line_8 6 rfl rfl)
theorem dX4_line_195 : decode cX4_line 195 = .ok (.aload_n 0, 1) := dk_42 (dk_at dksX4_line_8 9 rfl rfl)
theorem dX4_line_196 : decode cX4_line 196 = .ok (.iconst 0, 1) := dk_3 (dk_at dksX4_line_8 10 rfl rfl)
theorem dX4_line_197 : decode cX4_line 197 = .ok (.iconst 3, 1) := dk_6 (dk_at dksX4_line_8 11 rfl rfl)
theorem dX4_line_198 : decode cX4_line 198 = .ok (.iconst 1, 1) := dk_4 (dk_at dksX4_line_8 12 rfl rfl)
theorem dX4_line_199 : decode cX4_line 199 = .ok (.bipush 64, 2) := dk_16 64 (dk_at dksX4_line_8 13 rfl rfl)
theorem dX4_line_201 : decode cX4_line 201 = .ok (.invokevirtual 211, 3) := dk_182 0 211 (dk_at dksX4_line_8 15 rfl rfl)
theorem dX4_line_204 : decode cX4_line 204 = .ok (.ireturn, 1) := dk_172 (dk_at dksX4_line_8 18 rfl rfl)
theorem dX4_line_205 : decode cX4_line 205 = .ok (.aload_n 0, 1) := dk_42 (dk_at dksX4_line_8 19 rfl rfl)
theorem dX4_line_206 : decode cX4_line 206 = .ok (.ldc2_w 215, 3) := dk_20 0 215 (dk_at dksX4_line_8 20 rfl rfl)
theorem dX4_line_209 : decode cX4_line 209 = .ok (.invokevirtual 177, 3) := dk_182 0 177 (dk_at dksX4_line_9 0 rfl rfl)
theorem dX4_line_212 : decode cX4_line 212 = .ok (.ifCond .eq 14, 3) := dk_153 0 14 (dk_at dksX4_line_9 3 rfl rfl)
theorem dX4_line_215 : decode cX4_line 215 = .ok (.aload_n 0, 1) := dk_42 (dk_at dksX4_line_9 6 rfl rfl)
theorem dX4_line_216 : decode cX4_line 216 = .ok (.iconst 1, 1) := dk_4 (dk_at dksX4_line_9 7 rfl rfl)
theorem dX4_line_217 : decode cX4_line 217 = .ok (.iconst 4, 1) := dk_7 (dk_at dksX4_line_9 8 rfl rfl)
theorem dX4_line_218 : decode cX4_line 218 = .ok (.iconst 0, 1) := dk_3 (dk_at dksX4_line_9 9 rfl rfl)
theorem dX4_line_219 : decode cX4_line 219 = .ok (.sipush 600, 3) := dk_17 2 88 (dk_at dksX4_line_9 10 rfl rfl)
theorem dX4_line_222 : decode cX4_line 222 = .ok (.invokevirtual 211, 3) := dk_182 0 211 (dk_at dksX4_line_9 13 rfl rfl)
theorem dX4_line_225 : decode cX4_line 225 = .ok (.ireturn, 1) := dk_172 (dk_at dksX4_line_9 16 rfl rfl)
theorem dX4_line_226 : decode cX4_line 226 = .ok (.aload_n 0, 1) := dk_42 (dk_at dksX4_line_9 17 rfl rfl)
theorem dX4_line_227 : decode cX4_line 227 = .ok (.ldc2_w 217, 3) := dk_20 0 217 (dk_at dksX4_line_9 18 rfl rfl)
theorem dX4_line_230 : decode cX4_line 230 = .ok (.invokevirtual 177, 3) := dk_182 0 177 (dk_at dksX4_line_9 21 rfl rfl)
theorem dX4_line_233 : decode cX4_line 233 = .ok (.ifCond .ne 9, 3) := dk_154 0 9 (dk_at dksX4_line_10 0 rfl rfl)
theorem dX4_line_236 : decode cX4_line 236 = .ok (.aload_n 0, 1) := dk_42 (dk_at dksX4_line_10 3 rfl rfl)
theorem dX4_line_237 : decode cX4_line 237 = .ok (.iconst 1, 1) := dk_4 (dk_at dksX4_line_10 4 rfl rfl)
theorem dX4_line_238 : decode cX4_line 238 = .ok (.invokevirtual 162, 3) := dk_182 0 162 (dk_at dksX4_line_10 5 rfl rfl)
theorem dX4_line_241 : decode cX4_line 241 = .ok (.ireturn, 1) := dk_172 (dk_at dksX4_line_10 8 rfl rfl)
theorem dX4_line_242 : decode cX4_line 242 = .ok (.aload_n 0, 1) := dk_42 (dk_at dksX4_line_10 9 rfl rfl)
theorem dX4_line_243 : decode cX4_line 243 = .ok (.getfield 219, 3) := dk_180 0 219 (dk_at dksX4_line_10 10 rfl rfl)
theorem dX4_line_246 : decode cX4_line 246 = .ok (.iconst 2, 1) := dk_5 (dk_at dksX4_line_10 13 rfl rfl)
theorem dX4_line_247 : decode cX4_line 247 = .ok (.invokestatic 222, 3) := dk_184 0 222 (dk_at dksX4_line_10 14 rfl rfl)
theorem dX4_line_250 : decode cX4_line 250 = .ok (.ifCond .eq 9, 3) := dk_153 0 9 (dk_at dksX4_line_10 17 rfl rfl)
theorem dX4_line_253 : decode cX4_line 253 = .ok (.aload_n 0, 1) := dk_42 (dk_at dksX4_line_10 20 rfl rfl)
theorem dX4_line_254 : decode cX4_line 254 = .ok (.iconst 3, 1) := dk_6 (dk_at dksX4_line_10 21 rfl rfl)
theorem dX4_line_255 : decode cX4_line 255 = .ok (.invokevirtual 162, 3) := dk_182 0 162 (dk_at dksX4_line_11 0 rfl rfl)
theorem dX4_line_258 : decode cX4_line 258 = .ok (.ireturn, 1) := dk_172 (dk_at dksX4_line_11 3 rfl rfl)
theorem dX4_line_259 : decode cX4_line 259 = .ok (.aload_n 0, 1) := dk_42 (dk_at dksX4_line_11 4 rfl rfl)
theorem dX4_line_260 : decode cX4_line 260 = .ok (.dup, 1) := dk_89 (dk_at dksX4_line_11 5 rfl rfl)
theorem dX4_line_261 : decode cX4_line 261 = .ok (.getfield 219, 3) := dk_180 0 219 (dk_at dksX4_line_11 6 rfl rfl)
theorem dX4_line_264 : decode cX4_line 264 = .ok (.iconst 4, 1) := dk_7 (dk_at dksX4_line_11 9 rfl rfl)
theorem dX4_line_265 : decode cX4_line 265 = .ok (.ior, 1) := dk_128 (dk_at dksX4_line_11 10 rfl rfl)
theorem dX4_line_266 : decode cX4_line 266 = .ok (.putfield 219, 3) := dk_181 0 219 (dk_at dksX4_line_11 11 rfl rfl)
theorem dX4_line_269 : decode cX4_line 269 = .ok (.aload_n 0, 1) := dk_42 (dk_at dksX4_line_11 14 rfl rfl)
theorem dX4_line_270 : decode cX4_line 270 = .ok (.getfield 45, 3) := dk_180 0 45 (dk_at dksX4_line_11 15 rfl rfl)
theorem dX4_line_273 : decode cX4_line 273 = .ok (.iconst 5, 1) := dk_8 (dk_at dksX4_line_11 18 rfl rfl)
theorem dX4_line_274 : decode cX4_line 274 = .ok (.iconst 1, 1) := dk_4 (dk_at dksX4_line_11 19 rfl rfl)
theorem dX4_line_275 : decode cX4_line 275 = .ok (.iastore, 1) := dk_79 (dk_at dksX4_line_11 20 rfl rfl)
theorem dX4_line_276 : decode cX4_line 276 = .ok (.aload_n 0, 1) := dk_42 (dk_at dksX4_line_11 21 rfl rfl)
theorem dX4_line_277 : decode cX4_line 277 = .ok (.invokevirtual 165, 3) := dk_182 0 165 (dk_at dksX4_line_12 0 rfl rfl)
theorem dX4_line_280 : decode cX4_line 280 = .ok (.iconst 1, 1) := dk_4 (dk_at dksX4_line_12 3 rfl rfl)
theorem dX4_line_281 : decode cX4_line 281 = .ok (.ireturn, 1) := dk_172 (dk_at dksX4_line_12 4 rfl rfl)
def dkwX4_isWord_0 : List UInt8 := [42, 180, 0, 136, 4, 160, 0, 16, 42, 180, 0, 149, 31, 148, 154, 0, 7, 4, 167, 0, 4, 3, 172]
abbrev dktX4_isWord_0 : List UInt8 := dkwX4_isWord_0 ++ []
theorem dksX4_isWord_0 : cX4_isWord.data.toList.drop 0 = dktX4_isWord_0 := by decide +kernel
theorem dX4_isWord_0 : decode cX4_isWord 0 = .ok (.aload_n 0, 1) := dk_42 (dk_at dksX4_isWord_0 0 rfl rfl)
theorem dX4_isWord_1 : decode cX4_isWord 1 = .ok (.getfield 136, 3) := dk_180 0 136 (dk_at dksX4_isWord_0 1 rfl rfl)
theorem dX4_isWord_4 : decode cX4_isWord 4 = .ok (.iconst 1, 1) := dk_4 (dk_at dksX4_isWord_0 4 rfl rfl)
theorem dX4_isWord_5 : decode cX4_isWord 5 = .ok (.if_icmp .ne 16, 3) := dk_160 0 16 (dk_at dksX4_isWord_0 5 rfl rfl)
theorem dX4_isWord_8 : decode cX4_isWord 8 = .ok (.aload_n 0, 1) := dk_42 (dk_at dksX4_isWord_0 8 rfl rfl)
theorem dX4_isWord_9 : decode cX4_isWord 9 = .ok (.getfield 149, 3) := dk_180 0 149 (dk_at dksX4_isWord_0 9 rfl rfl)
theorem dX4_isWord_12 : decode cX4_isWord 12 = .ok (.lload_n 1, 1) := dk_31 (dk_at dksX4_isWord_0 12 rfl rfl)
theorem dX4_isWord_13 : decode cX4_isWord 13 = .ok (.lcmp, 1) := dk_148 (dk_at dksX4_isWord_0 13 rfl rfl)
theorem dX4_isWord_14 : decode cX4_isWord 14 = .ok (.ifCond .ne 7, 3) := dk_154 0 7 (dk_at dksX4_isWord_0 14 rfl rfl)
theorem dX4_isWord_17 : decode cX4_isWord 17 = .ok (.iconst 1, 1) := dk_4 (dk_at dksX4_isWord_0 17 rfl rfl)
theorem dX4_isWord_18 : decode cX4_isWord 18 = .ok (.goto 4, 3) := dk_167 0 4 (dk_at dksX4_isWord_0 18 rfl rfl)
theorem dX4_isWord_21 : decode cX4_isWord 21 = .ok (.iconst 0, 1) := dk_3 (dk_at dksX4_isWord_0 21 rfl rfl)
theorem dX4_isWord_22 : decode cX4_isWord 22 = .ok (.ireturn, 1) := dk_172 (dk_at dksX4_isWord_0 22 rfl rfl)
def dkwX4_readRow_10 : List UInt8 := [182, 0, 165, 4, 172]
abbrev dktX4_readRow_10 : List UInt8 := dkwX4_readRow_10 ++ []
def dkwX4_readRow_9 : List UInt8 := [167, 0, 4, 4, 96, 79, 132, 3, 1, 167, 255, 180, 42, 180, 0, 45, 3, 92, 46, 4, 96, 79, 42]
abbrev dktX4_readRow_9 : List UInt8 := dkwX4_readRow_9 ++ dktX4_readRow_10
def dkwX4_readRow_8 : List UInt8 := [167, 0, 8, 21, 4, 16, 96, 100, 79, 42, 180, 0, 45, 5, 92, 46, 21, 4, 16, 120, 160, 0, 7, 3]
abbrev dktX4_readRow_8 : List UInt8 := dkwX4_readRow_8 ++ dktX4_readRow_9
def dkwX4_readRow_7 : List UInt8 := [180, 0, 45, 16, 6, 42, 180, 0, 133, 27, 104, 96, 29, 96, 21, 4, 16, 120, 160, 0, 7, 3]
abbrev dktX4_readRow_7 : List UInt8 := dkwX4_readRow_7 ++ dktX4_readRow_8
def dkwX4_readRow_6 : List UInt8 := [62, 29, 42, 180, 0, 133, 162, 0, 74, 42, 42, 180, 0, 130, 29, 96, 182, 0, 225, 54, 4, 42]
abbrev dktX4_readRow_6 : List UInt8 := dkwX4_readRow_6 ++ dktX4_readRow_7
def dkwX4_readRow_5 : List UInt8 := [167, 255, 200, 28, 154, 0, 9, 42, 5, 182, 0, 162, 172, 42, 180, 0, 45, 4, 42, 180, 0, 133, 79, 3]
abbrev dktX4_readRow_5 : List UInt8 := dkwX4_readRow_5 ++ dktX4_readRow_6
def dkwX4_readRow_4 : List UInt8 := [29, 96, 182, 0, 225, 16, 97, 16, 102, 184, 0, 168, 153, 0, 7, 4, 167, 0, 4, 3, 61, 132, 3, 1]
abbrev dktX4_readRow_4 : List UInt8 := dkwX4_readRow_4 ++ dktX4_readRow_5
def dkwX4_readRow_3 : List UInt8 := [28, 153, 0, 42, 42, 42, 180, 0, 130, 29, 96, 182, 0, 225, 16, 120, 159, 0, 23, 42, 42, 180, 0, 130]
abbrev dktX4_readRow_3 : List UInt8 := dkwX4_readRow_3 ++ dktX4_readRow_4
def dkwX4_readRow_2 : List UInt8 := [180, 0, 45, 4, 46, 160, 0, 7, 4, 167, 0, 4, 3, 61, 3, 62, 29, 42, 180, 0, 133, 162, 0, 54]
abbrev dktX4_readRow_2 : List UInt8 := dkwX4_readRow_2 ++ dktX4_readRow_3
def dkwX4_readRow_1 : List UInt8 := [180, 0, 136, 4, 159, 0, 9, 42, 4, 182, 0, 162, 172, 27, 153, 0, 16, 42, 180, 0, 133, 42]
abbrev dktX4_readRow_1 : List UInt8 := dkwX4_readRow_1 ++ dktX4_readRow_2
def dkwX4_readRow_0 : List UInt8 := [42, 180, 0, 45, 3, 46, 60, 27, 16, 8, 160, 0, 9, 42, 7, 182, 0, 162, 172, 42, 182, 0, 165, 42]
abbrev dktX4_readRow_0 : List UInt8 := dkwX4_readRow_0 ++ dktX4_readRow_1
theorem dksX4_readRow_0 : cX4_readRow.data.toList.drop 0 = dktX4_readRow_0 := by decide +kernel
theorem dksX4_readRow_1 : cX4_readRow.data.toList.drop 24 = dktX4_readRow_1 := dk_seg dksX4_readRow_0 24 rfl rfl
theorem dksX4_readRow_2 : cX4_readRow.data.toList.drop 46 = dktX4_readRow_2 := dk_seg dksX4_readRow_1 22 rfl rfl
theorem dksX4_readRow_3 : cX4_readRow.data.toList.drop 70 = dktX4_readRow_3 := dk_seg dksX4_readRow_2 24 rfl rfl
theorem dksX4_readRow_4 : cX4_readRow.data.toList.drop 94 = dktX4_readRow_4 := dk_seg dksX4_readRow_3 24 rfl rfl
theorem dksX4_readRow_5 : cX4_readRow.data.toList.drop 118 = dktX4_readRow_5 := dk_seg dksX4_readRow_4 24 rfl rfl
theorem dksX4_readRow_6 : cX4_readRow.data.toList.drop 142 = dktX4_readRow_6 := dk_seg dksX4_readRow_5 24 rfl rfl
theorem dksX4_readRow_7 : cX4_readRow.data.toList.drop 164 = dktX4_readRow_7 := dk_seg dksX4_readRow_6 22 rfl rfl
theorem dksX4_readRow_8 : cX4_readRow.data.toList.drop 186 = dktX4_readRow_8 := dk_seg dksX4_readRow_7 22 rfl rfl
theorem dksX4_readRow_9 : cX4_readRow.data.toList.drop 210 = dktX4_readRow_9 := dk_seg dksX4_readRow_8 24 rfl rfl
theorem dksX4_readRow_10 : cX4_readRow.data.toList.drop 233 = dktX4_readRow_10 := dk_seg dksX4_readRow_9 23 rfl rfl
theorem dX4_readRow_0 : decode cX4_readRow 0 = .ok (.aload_n 0, 1) := dk_42 (dk_at dksX4_readRow_0 0 rfl rfl)
theorem dX4_readRow_1 : decode cX4_readRow 1 = .ok (.getfield 45, 3) := dk_180 0 45 (dk_at dksX4_readRow_0 1 rfl rfl)
theorem dX4_readRow_4 : decode cX4_readRow 4 = .ok (.iconst 0, 1) := dk_3 (dk_at dksX4_readRow_0 4 rfl rfl)
theorem dX4_readRow_5 : decode cX4_readRow 5 = .ok (.iaload, 1) := dk_46 (dk_at dksX4_readRow_0 5 rfl rfl)
theorem dX4_readRow_6 : decode cX4_readRow 6 = .ok (.istore_n 1, 1) := dk_60 (dk_at dksX4_readRow_0 6 rfl rfl)
theorem dX4_readRow_7 : decode cX4_readRow 7 = .ok (.iload_n 1, 1) := dk_27 (dk_at dksX4_readRow_0 7 rfl rfl)
theorem dX4_readRow_8 : decode cX4_readRow 8 = .ok (.bipush 8, 2) := dk_16 8 (dk_at dksX4_readRow_0 8 rfl rfl)
theorem dX4_readRow_10 : decode cX4_readRow 10 = .ok (.if_icmp .ne 9, 3) := dk_160 0 9 (dk_at dksX4_readRow_0 10 rfl rfl)
theorem dX4_readRow_13 : decode cX4_readRow 13 = .ok (.aload_n 0, 1) := dk_42 (dk_at dksX4_readRow_0 13 rfl rfl)
theorem dX4_readRow_14 : decode cX4_readRow 14 = .ok (.iconst 4, 1) := dk_7 (dk_at dksX4_readRow_0 14 rfl rfl)
theorem dX4_readRow_15 : decode cX4_readRow 15 = .ok (.invokevirtual 162, 3) := dk_182 0 162 (dk_at dksX4_readRow_0 15 rfl rfl)
theorem dX4_readRow_18 : decode cX4_readRow 18 = .ok (.ireturn, 1) := dk_172 (dk_at dksX4_readRow_0 18 rfl rfl)
theorem dX4_readRow_19 : decode cX4_readRow 19 = .ok (.aload_n 0, 1) := dk_42 (dk_at dksX4_readRow_0 19 rfl rfl)
theorem dX4_readRow_20 : decode cX4_readRow 20 = .ok (.invokevirtual 165, 3) := dk_182 0 165 (dk_at dksX4_readRow_0 20 rfl rfl)
theorem dX4_readRow_23 : decode cX4_readRow 23 = .ok (.aload_n 0, 1) := dk_42 (dk_at dksX4_readRow_0 23 rfl rfl)
theorem dX4_readRow_24 : decode cX4_readRow 24 = .ok (.getfield 136, 3) := dk_180 0 136 (dk_at dksX4_readRow_1 0 rfl rfl)
theorem dX4_readRow_27 : decode cX4_readRow 27 = .ok (.iconst 1, 1) := dk_4 (dk_at dksX4_readRow_1 3 rfl rfl)
theorem dX4_readRow_28 : decode cX4_readRow 28 = .ok (.if_icmp .eq 9, 3) := dk_159 0 9 (dk_at dksX4_readRow_1 4 rfl rfl)
theorem dX4_readRow_31 : decode cX4_readRow 31 = .ok (.aload_n 0, 1) := dk_42 (dk_at dksX4_readRow_1 7 rfl rfl)
theorem dX4_readRow_32 : decode cX4_readRow 32 = .ok (.iconst 1, 1) := dk_4 (dk_at dksX4_readRow_1 8 rfl rfl)
theorem dX4_readRow_33 : decode cX4_readRow 33 = .ok (.invokevirtual 162, 3) := dk_182 0 162 (dk_at dksX4_readRow_1 9 rfl rfl)
theorem dX4_readRow_36 : decode cX4_readRow 36 = .ok (.ireturn, 1) := dk_172 (dk_at dksX4_readRow_1 12 rfl rfl)
theorem dX4_readRow_37 : decode cX4_readRow 37 = .ok (.iload_n 1, 1) := dk_27 (dk_at dksX4_readRow_1 13 rfl rfl)
theorem dX4_readRow_38 : decode cX4_readRow 38 = .ok (.ifCond .eq 16, 3) := dk_153 0 16 (dk_at dksX4_readRow_1 14 rfl rfl)
theorem dX4_readRow_41 : decode cX4_readRow 41 = .ok (.aload_n 0, 1) := dk_42 (dk_at dksX4_readRow_1 17 rfl rfl)
theorem dX4_readRow_42 : decode cX4_readRow 42 = .ok (.getfield 133, 3) := dk_180 0 133 (dk_at dksX4_readRow_1 18 rfl rfl)
theorem dX4_readRow_45 : decode cX4_readRow 45 = .ok (.aload_n 0, 1) := dk_42 (dk_at dksX4_readRow_1 21 rfl rfl)
theorem dX4_readRow_46 : decode cX4_readRow 46 = .ok (.getfield 45, 3) := dk_180 0 45 (dk_at dksX4_readRow_2 0 rfl rfl)
theorem dX4_readRow_49 : decode cX4_readRow 49 = .ok (.iconst 1, 1) := dk_4 (dk_at dksX4_readRow_2 3 rfl rfl)
theorem dX4_readRow_50 : decode cX4_readRow 50 = .ok (.iaload, 1) := dk_46 (dk_at dksX4_readRow_2 4 rfl rfl)
theorem dX4_readRow_51 : decode cX4_readRow 51 = .ok (.if_icmp .ne 7, 3) := dk_160 0 7 (dk_at dksX4_readRow_2 5 rfl rfl)
theorem dX4_readRow_54 : decode cX4_readRow 54 = .ok (.iconst 1, 1) := dk_4 (dk_at dksX4_readRow_2 8 rfl rfl)
theorem dX4_readRow_55 : decode cX4_readRow 55 = .ok (.goto 4, 3) := dk_167 0 4 (dk_at dksX4_readRow_2 9 rfl rfl)
theorem dX4_readRow_58 : decode cX4_readRow 58 = .ok (.iconst 0, 1) := dk_3 (dk_at dksX4_readRow_2 12 rfl rfl)
theorem dX4_readRow_59 : decode cX4_readRow 59 = .ok (.istore_n 2, 1) := dk_61 (dk_at dksX4_readRow_2 13 rfl rfl)
theorem dX4_readRow_60 : decode cX4_readRow 60 = .ok (.iconst 0, 1) := dk_3 (dk_at dksX4_readRow_2 14 rfl rfl)
theorem dX4_readRow_61 : decode cX4_readRow 61 = .ok (.istore_n 3, 1) := dk_62 (dk_at dksX4_readRow_2 15 rfl rfl)
theorem dX4_readRow_62 : decode cX4_readRow 62 = .ok (.iload_n 3, 1) := dk_29 (dk_at dksX4_readRow_2 16 rfl rfl)
theorem dX4_readRow_63 : decode cX4_readRow 63 = .ok (.aload_n 0, 1) := dk_42 (dk_at dksX4_readRow_2 17 rfl rfl)
theorem dX4_readRow_64 : decode cX4_readRow 64 = .ok (.getfield 133, 3) := dk_180 0 133 (dk_at dksX4_readRow_2 18 rfl rfl)
theorem dX4_readRow_67 : decode cX4_readRow 67 = .ok (.if_icmp .ge 54, 3) := dk_162 0 54 (dk_at dksX4_readRow_2 21 rfl rfl)
theorem dX4_readRow_70 : decode cX4_readRow 70 = .ok (.iload_n 2, 1) := dk_28 (dk_at dksX4_readRow_3 0 rfl rfl)
theorem dX4_readRow_71 : decode cX4_readRow 71 = .ok (.ifCond .eq 42, 3) := dk_153 0 42 (dk_at dksX4_readRow_3 1 rfl rfl)
theorem dX4_readRow_74 : decode cX4_readRow 74 = .ok (.aload_n 0, 1) := dk_42 (dk_at dksX4_readRow_3 4 rfl rfl)
theorem dX4_readRow_75 : decode cX4_readRow 75 = .ok (.aload_n 0, 1) := dk_42 (dk_at dksX4_readRow_3 5 rfl rfl)
theorem dX4_readRow_76 : decode cX4_readRow 76 = .ok (.getfield 130, 3) := dk_180 0 130 (dk_at dksX4_readRow_3 6 rfl rfl)
theorem dX4_readRow_79 : decode cX4_readRow 79 = .ok (.iload_n 3, 1) := dk_29 (dk_at dksX4_readRow_3 9 rfl rfl)
theorem dX4_readRow_80 : decode cX4_readRow 80 = .ok (.iadd, 1) := dk_96 (dk_at dksX4_readRow_3 10 rfl rfl)
theorem dX4_readRow_81 : decode cX4_readRow 81 = .ok (.invokevirtual 225, 3) := dk_182 0 225 (dk_at dksX4_readRow_3 11 rfl rfl)
theorem dX4_readRow_84 : decode cX4_readRow 84 = .ok (.bipush 120, 2) := dk_16 120 (dk_at dksX4_readRow_3 14 rfl rfl)
theorem dX4_readRow_86 : decode cX4_readRow 86 = .ok (.if_icmp .eq 23, 3) := dk_159 0 23 (dk_at dksX4_readRow_3 16 rfl rfl)
theorem dX4_readRow_89 : decode cX4_readRow 89 = .ok (.aload_n 0, 1) := dk_42 (dk_at dksX4_readRow_3 19 rfl rfl)
theorem dX4_readRow_90 : decode cX4_readRow 90 = .ok (.aload_n 0, 1) := dk_42 (dk_at dksX4_readRow_3 20 rfl rfl)
theorem dX4_readRow_91 : decode cX4_readRow 91 = .ok (.getfield 130, 3) := dk_180 0 130 (dk_at dksX4_readRow_3 21 rfl rfl)
theorem dX4_readRow_94 : decode cX4_readRow 94 = .ok (.iload_n 3, 1) := dk_29 (dk_at dksX4_readRow_4 0 rfl rfl)
theorem dX4_readRow_95 : decode cX4_readRow 95 = .ok (.iadd, 1) := dk_96 (dk_at dksX4_readRow_4 1 rfl rfl)
theorem dX4_readRow_96 : decode cX4_readRow 96 = .ok (.invokevirtual 225, 3) := dk_182 0 225 (dk_at dksX4_readRow_4 2 rfl rfl)
theorem dX4_readRow_99 : decode cX4_readRow 99 = .ok (.bipush 97, 2) := dk_16 97 (dk_at dksX4_readRow_4 5 rfl rfl)
theorem dX4_readRow_101 : decode cX4_readRow 101 = .ok (.bipush 102, 2) := dk_16 102 (dk_at dksX4_readRow_4 7 rfl rfl)
theorem dX4_readRow_103 : decode cX4_readRow 103 = .ok (.invokestatic 168, 3) := dk_184 0 168 (dk_at dksX4_readRow_4 9 rfl rfl)
theorem dX4_readRow_106 : decode cX4_readRow 106 = .ok (.ifCond .eq 7, 3) := dk_153 0 7 (dk_at dksX4_readRow_4 12 rfl rfl)
theorem dX4_readRow_109 : decode cX4_readRow 109 = .ok (.iconst 1, 1) := dk_4 (dk_at dksX4_readRow_4 15 rfl rfl)
theorem dX4_readRow_110 : decode cX4_readRow 110 = .ok (.goto 4, 3) := dk_167 0 4 (dk_at dksX4_readRow_4 16 rfl rfl)
theorem dX4_readRow_113 : decode cX4_readRow 113 = .ok (.iconst 0, 1) := dk_3 (dk_at dksX4_readRow_4 19 rfl rfl)
theorem dX4_readRow_114 : decode cX4_readRow 114 = .ok (.istore_n 2, 1) := dk_61 (dk_at dksX4_readRow_4 20 rfl rfl)
theorem dX4_readRow_115 : decode cX4_readRow 115 = .ok (.iinc 3 1, 3) := dk_132 3 1 (dk_at dksX4_readRow_4 21 rfl rfl)
theorem dX4_readRow_118 : decode cX4_readRow 118 = .ok (.goto (-56), 3) := dk_167 255 200 (dk_at dksX4_readRow_5 0 rfl rfl)
theorem dX4_readRow_121 : decode cX4_readRow 121 = .ok (.iload_n 2, 1) := dk_28 (dk_at dksX4_readRow_5 3 rfl rfl)
theorem dX4_readRow_122 : decode cX4_readRow 122 = .ok (.ifCond .ne 9, 3) := dk_154 0 9 (dk_at dksX4_readRow_5 4 rfl rfl)
theorem dX4_readRow_125 : decode cX4_readRow 125 = .ok (.aload_n 0, 1) := dk_42 (dk_at dksX4_readRow_5 7 rfl rfl)
theorem dX4_readRow_126 : decode cX4_readRow 126 = .ok (.iconst 2, 1) := dk_5 (dk_at dksX4_readRow_5 8 rfl rfl)
theorem dX4_readRow_127 : decode cX4_readRow 127 = .ok (.invokevirtual 162, 3) := dk_182 0 162 (dk_at dksX4_readRow_5 9 rfl rfl)
theorem dX4_readRow_130 : decode cX4_readRow 130 = .ok (.ireturn, 1) := dk_172 (dk_at dksX4_readRow_5 12 rfl rfl)
theorem dX4_readRow_131 : decode cX4_readRow 131 = .ok (.aload_n 0, 1) := dk_42 (dk_at dksX4_readRow_5 13 rfl rfl)
theorem dX4_readRow_132 : decode cX4_readRow 132 = .ok (.getfield 45, 3) := dk_180 0 45 (dk_at dksX4_readRow_5 14 rfl rfl)
theorem dX4_readRow_135 : decode cX4_readRow 135 = .ok (.iconst 1, 1) := dk_4 (dk_at dksX4_readRow_5 17 rfl rfl)
theorem dX4_readRow_136 : decode cX4_readRow 136 = .ok (.aload_n 0, 1) := dk_42 (dk_at dksX4_readRow_5 18 rfl rfl)
theorem dX4_readRow_137 : decode cX4_readRow 137 = .ok (.getfield 133, 3) := dk_180 0 133 (dk_at dksX4_readRow_5 19 rfl rfl)
theorem dX4_readRow_140 : decode cX4_readRow 140 = .ok (.iastore, 1) := dk_79 (dk_at dksX4_readRow_5 22 rfl rfl)
theorem dX4_readRow_141 : decode cX4_readRow 141 = .ok (.iconst 0, 1) := dk_3 (dk_at dksX4_readRow_5 23 rfl rfl)
theorem dX4_readRow_142 : decode cX4_readRow 142 = .ok (.istore_n 3, 1) := dk_62 (dk_at dksX4_readRow_6 0 rfl rfl)
theorem dX4_readRow_143 : decode cX4_readRow 143 = .ok (.iload_n 3, 1) := dk_29 (dk_at dksX4_readRow_6 1 rfl rfl)
theorem dX4_readRow_144 : decode cX4_readRow 144 = .ok (.aload_n 0, 1) := dk_42 (dk_at dksX4_readRow_6 2 rfl rfl)
theorem dX4_readRow_145 : decode cX4_readRow 145 = .ok (.getfield 133, 3) := dk_180 0 133 (dk_at dksX4_readRow_6 3 rfl rfl)
theorem dX4_readRow_148 : decode cX4_readRow 148 = .ok (.if_icmp .ge 74, 3) := dk_162 0 74 (dk_at dksX4_readRow_6 6 rfl rfl)
theorem dX4_readRow_151 : decode cX4_readRow 151 = .ok (.aload_n 0, 1) := dk_42 (dk_at dksX4_readRow_6 9 rfl rfl)
theorem dX4_readRow_152 : decode cX4_readRow 152 = .ok (.aload_n 0, 1) := dk_42 (dk_at dksX4_readRow_6 10 rfl rfl)
theorem dX4_readRow_153 : decode cX4_readRow 153 = .ok (.getfield 130, 3) := dk_180 0 130 (dk_at dksX4_readRow_6 11 rfl rfl)
theorem dX4_readRow_156 : decode cX4_readRow 156 = .ok (.iload_n 3, 1) := dk_29 (dk_at dksX4_readRow_6 14 rfl rfl)
theorem dX4_readRow_157 : decode cX4_readRow 157 = .ok (.iadd, 1) := dk_96 (dk_at dksX4_readRow_6 15 rfl rfl)
theorem dX4_readRow_158 : decode cX4_readRow 158 = .ok (.invokevirtual 225, 3) := dk_182 0 225 (dk_at dksX4_readRow_6 16 rfl rfl)
theorem dX4_readRow_161 : decode cX4_readRow 161 = .ok (.istore 4, 2) := dk_54 4 (dk_at dksX4_readRow_6 19 rfl rfl)
theorem dX4_readRow_163 : decode cX4_readRow 163 = .ok (.aload_n 0, 1) := dk_42 (dk_at dksX4_readRow_6 21 rfl rfl)
theorem dX4_readRow_164 : decode cX4_readRow 164 = .ok (.getfield 45, 3) := dk_180 0 45 (dk_at dksX4_readRow_7 0 rfl rfl)
theorem dX4_readRow_167 : decode cX4_readRow 167 = .ok (.bipush 6, 2) := dk_16 6 (dk_at dksX4_readRow_7 3 rfl rfl)
theorem dX4_readRow_169 : decode cX4_readRow 169 = .ok (.aload_n 0, 1) := dk_42 (dk_at dksX4_readRow_7 5 rfl rfl)
theorem dX4_readRow_170 : decode cX4_readRow 170 = .ok (.getfield 133, 3) := dk_180 0 133 (dk_at dksX4_readRow_7 6 rfl rfl)
theorem dX4_readRow_173 : decode cX4_readRow 173 = .ok (.iload_n 1, 1) := dk_27 (dk_at dksX4_readRow_7 9 rfl rfl)
theorem dX4_readRow_174 : decode cX4_readRow 174 = .ok (.imul, 1) := dk_104 (dk_at dksX4_readRow_7 10 rfl rfl)
theorem dX4_readRow_175 : decode cX4_readRow 175 = .ok (.iadd, 1) := dk_96 (dk_at dksX4_readRow_7 11 rfl rfl)
theorem dX4_readRow_176 : decode cX4_readRow 176 = .ok (.iload_n 3, 1) := dk_29 (dk_at dksX4_readRow_7 12 rfl rfl)
theorem dX4_readRow_177 : decode cX4_readRow 177 = .ok (.iadd, 1) := dk_96 (dk_at dksX4_readRow_7 13 rfl rfl)
theorem dX4_readRow_178 : decode cX4_readRow 178 = .ok (.iload 4, 2) := dk_21 4 (dk_at dksX4_readRow_7 14 rfl rfl)
theorem dX4_readRow_180 : decode cX4_readRow 180 = .ok (.bipush 120, 2) := dk_16 120 (dk_at dksX4_readRow_7 16 rfl rfl)
theorem dX4_readRow_182 : decode cX4_readRow 182 = .ok (.if_icmp .ne 7, 3) := dk_160 0 7 (dk_at dksX4_readRow_7 18 rfl rfl)
theorem dX4_readRow_185 : decode cX4_readRow 185 = .ok (.iconst 0, 1) := dk_3 (dk_at dksX4_readRow_7 21 rfl rfl)
theorem dX4_readRow_186 : decode cX4_readRow 186 = .ok (.goto 8, 3) := dk_167 0 8 (dk_at dksX4_readRow_8 0 rfl rfl)
theorem dX4_readRow_189 : decode cX4_readRow 189 = .ok (.iload 4, 2) := dk_21 4 (dk_at dksX4_readRow_8 3 rfl rfl)
theorem dX4_readRow_191 : decode cX4_readRow 191 = .ok (.bipush 96, 2) := dk_16 96 (dk_at dksX4_readRow_8 5 rfl rfl)
theorem dX4_readRow_193 : decode cX4_readRow 193 = .ok (.isub, 1) := dk_100 (dk_at dksX4_readRow_8 7 rfl rfl)
theorem dX4_readRow_194 : decode cX4_readRow 194 = .ok (.iastore, 1) := dk_79 (dk_at dksX4_readRow_8 8 rfl rfl)
theorem dX4_readRow_195 : decode cX4_readRow 195 = .ok (.aload_n 0, 1) := dk_42 (dk_at dksX4_readRow_8 9 rfl rfl)
theorem dX4_readRow_196 : decode cX4_readRow 196 = .ok (.getfield 45, 3) := dk_180 0 45 (dk_at dksX4_readRow_8 10 rfl rfl)
theorem dX4_readRow_199 : decode cX4_readRow 199 = .ok (.iconst 2, 1) := dk_5 (dk_at dksX4_readRow_8 13 rfl rfl)
theorem dX4_readRow_200 : decode cX4_readRow 200 = .ok (.dup2, 1) := dk_92 (dk_at dksX4_readRow_8 14 rfl rfl)
theorem dX4_readRow_201 : decode cX4_readRow 201 = .ok (.iaload, 1) := dk_46 (dk_at dksX4_readRow_8 15 rfl rfl)
theorem dX4_readRow_202 : decode cX4_readRow 202 = .ok (.iload 4, 2) := dk_21 4 (dk_at dksX4_readRow_8 16 rfl rfl)
theorem dX4_readRow_204 : decode cX4_readRow 204 = .ok (.bipush 120, 2) := dk_16 120 (dk_at dksX4_readRow_8 18 rfl rfl)
theorem dX4_readRow_206 : decode cX4_readRow 206 = .ok (.if_icmp .ne 7, 3) := dk_160 0 7 (dk_at dksX4_readRow_8 20 rfl rfl)
theorem dX4_readRow_209 : decode cX4_readRow 209 = .ok (.iconst 0, 1) := dk_3 (dk_at dksX4_readRow_8 23 rfl rfl)
theorem dX4_readRow_210 : decode cX4_readRow 210 = .ok (.goto 4, 3) := dk_167 0 4 (dk_at dksX4_readRow_9 0 rfl rfl)
theorem dX4_readRow_213 : decode cX4_readRow 213 = .ok (.iconst 1, 1) := dk_4 (dk_at dksX4_readRow_9 3 rfl rfl)
theorem dX4_readRow_214 : decode cX4_readRow 214 = .ok (.iadd, 1) := dk_96 (dk_at dksX4_readRow_9 4 rfl rfl)
theorem dX4_readRow_215 : decode cX4_readRow 215 = .ok (.iastore, 1) := dk_79 (dk_at dksX4_readRow_9 5 rfl rfl)
theorem dX4_readRow_216 : decode cX4_readRow 216 = .ok (.iinc 3 1, 3) := dk_132 3 1 (dk_at dksX4_readRow_9 6 rfl rfl)
theorem dX4_readRow_219 : decode cX4_readRow 219 = .ok (.goto (-76), 3) := dk_167 255 180 (dk_at dksX4_readRow_9 9 rfl rfl)
theorem dX4_readRow_222 : decode cX4_readRow 222 = .ok (.aload_n 0, 1) := dk_42 (dk_at dksX4_readRow_9 12 rfl rfl)
theorem dX4_readRow_223 : decode cX4_readRow 223 = .ok (.getfield 45, 3) := dk_180 0 45 (dk_at dksX4_readRow_9 13 rfl rfl)
theorem dX4_readRow_226 : decode cX4_readRow 226 = .ok (.iconst 0, 1) := dk_3 (dk_at dksX4_readRow_9 16 rfl rfl)
theorem dX4_readRow_227 : decode cX4_readRow 227 = .ok (.dup2, 1) := dk_92 (dk_at dksX4_readRow_9 17 rfl rfl)
theorem dX4_readRow_228 : decode cX4_readRow 228 = .ok (.iaload, 1) := dk_46 (dk_at dksX4_readRow_9 18 rfl rfl)
theorem dX4_readRow_229 : decode cX4_readRow 229 = .ok (.iconst 1, 1) := dk_4 (dk_at dksX4_readRow_9 19 rfl rfl)
theorem dX4_readRow_230 : decode cX4_readRow 230 = .ok (.iadd, 1) := dk_96 (dk_at dksX4_readRow_9 20 rfl rfl)
theorem dX4_readRow_231 : decode cX4_readRow 231 = .ok (.iastore, 1) := dk_79 (dk_at dksX4_readRow_9 21 rfl rfl)
theorem dX4_readRow_232 : decode cX4_readRow 232 = .ok (.aload_n 0, 1) := dk_42 (dk_at dksX4_readRow_9 22 rfl rfl)
theorem dX4_readRow_233 : decode cX4_readRow 233 = .ok (.invokevirtual 165, 3) := dk_182 0 165 (dk_at dksX4_readRow_10 0 rfl rfl)
theorem dX4_readRow_236 : decode cX4_readRow 236 = .ok (.iconst 1, 1) := dk_4 (dk_at dksX4_readRow_10 3 rfl rfl)
theorem dX4_readRow_237 : decode cX4_readRow 237 = .ok (.ireturn, 1) := dk_172 (dk_at dksX4_readRow_10 4 rfl rfl)
def dkwX4_bad_0 : List UInt8 := [42, 27, 181, 0, 153, 42, 42, 180, 0, 130, 181, 0, 156, 3, 172]
abbrev dktX4_bad_0 : List UInt8 := dkwX4_bad_0 ++ []
theorem dksX4_bad_0 : cX4_bad.data.toList.drop 0 = dktX4_bad_0 := by decide +kernel
theorem dX4_bad_0 : decode cX4_bad 0 = .ok (.aload_n 0, 1) := dk_42 (dk_at dksX4_bad_0 0 rfl rfl)
theorem dX4_bad_1 : decode cX4_bad 1 = .ok (.iload_n 1, 1) := dk_27 (dk_at dksX4_bad_0 1 rfl rfl)
theorem dX4_bad_2 : decode cX4_bad 2 = .ok (.putfield 153, 3) := dk_181 0 153 (dk_at dksX4_bad_0 2 rfl rfl)
theorem dX4_bad_5 : decode cX4_bad 5 = .ok (.aload_n 0, 1) := dk_42 (dk_at dksX4_bad_0 5 rfl rfl)
theorem dX4_bad_6 : decode cX4_bad 6 = .ok (.aload_n 0, 1) := dk_42 (dk_at dksX4_bad_0 6 rfl rfl)
theorem dX4_bad_7 : decode cX4_bad 7 = .ok (.getfield 130, 3) := dk_180 0 130 (dk_at dksX4_bad_0 7 rfl rfl)
theorem dX4_bad_10 : decode cX4_bad 10 = .ok (.putfield 156, 3) := dk_181 0 156 (dk_at dksX4_bad_0 10 rfl rfl)
theorem dX4_bad_13 : decode cX4_bad 13 = .ok (.iconst 0, 1) := dk_3 (dk_at dksX4_bad_0 13 rfl rfl)
theorem dX4_bad_14 : decode cX4_bad 14 = .ok (.ireturn, 1) := dk_172 (dk_at dksX4_bad_0 14 rfl rfl)
def dkwX4_octet_0 : List UInt8 := [42, 180, 0, 14, 27, 51, 17, 0, 255, 126, 172]
abbrev dktX4_octet_0 : List UInt8 := dkwX4_octet_0 ++ []
theorem dksX4_octet_0 : cX4_octet.data.toList.drop 0 = dktX4_octet_0 := by decide +kernel
theorem dX4_octet_0 : decode cX4_octet 0 = .ok (.aload_n 0, 1) := dk_42 (dk_at dksX4_octet_0 0 rfl rfl)
theorem dX4_octet_1 : decode cX4_octet 1 = .ok (.getfield 14, 3) := dk_180 0 14 (dk_at dksX4_octet_0 1 rfl rfl)
theorem dX4_octet_4 : decode cX4_octet 4 = .ok (.iload_n 1, 1) := dk_27 (dk_at dksX4_octet_0 4 rfl rfl)
theorem dX4_octet_5 : decode cX4_octet 5 = .ok (.baload, 1) := dk_51 (dk_at dksX4_octet_0 5 rfl rfl)
theorem dX4_octet_6 : decode cX4_octet 6 = .ok (.sipush 255, 3) := dk_17 0 255 (dk_at dksX4_octet_0 6 rfl rfl)
theorem dX4_octet_9 : decode cX4_octet 9 = .ok (.iand, 1) := dk_126 (dk_at dksX4_octet_0 9 rfl rfl)
theorem dX4_octet_10 : decode cX4_octet 10 = .ok (.ireturn, 1) := dk_172 (dk_at dksX4_octet_0 10 rfl rfl)
def dkwX4_isIn_0 : List UInt8 := [26, 27, 161, 0, 12, 26, 28, 163, 0, 7, 4, 167, 0, 4, 3, 172]
abbrev dktX4_isIn_0 : List UInt8 := dkwX4_isIn_0 ++ []
theorem dksX4_isIn_0 : cX4_isIn.data.toList.drop 0 = dktX4_isIn_0 := by decide +kernel
theorem dX4_isIn_0 : decode cX4_isIn 0 = .ok (.iload_n 0, 1) := dk_26 (dk_at dksX4_isIn_0 0 rfl rfl)
theorem dX4_isIn_1 : decode cX4_isIn 1 = .ok (.iload_n 1, 1) := dk_27 (dk_at dksX4_isIn_0 1 rfl rfl)
theorem dX4_isIn_2 : decode cX4_isIn 2 = .ok (.if_icmp .lt 12, 3) := dk_161 0 12 (dk_at dksX4_isIn_0 2 rfl rfl)
theorem dX4_isIn_5 : decode cX4_isIn 5 = .ok (.iload_n 0, 1) := dk_26 (dk_at dksX4_isIn_0 5 rfl rfl)
theorem dX4_isIn_6 : decode cX4_isIn 6 = .ok (.iload_n 2, 1) := dk_28 (dk_at dksX4_isIn_0 6 rfl rfl)
theorem dX4_isIn_7 : decode cX4_isIn 7 = .ok (.if_icmp .gt 7, 3) := dk_163 0 7 (dk_at dksX4_isIn_0 7 rfl rfl)
theorem dX4_isIn_10 : decode cX4_isIn 10 = .ok (.iconst 1, 1) := dk_4 (dk_at dksX4_isIn_0 10 rfl rfl)
theorem dX4_isIn_11 : decode cX4_isIn 11 = .ok (.goto 4, 3) := dk_167 0 4 (dk_at dksX4_isIn_0 11 rfl rfl)
theorem dX4_isIn_14 : decode cX4_isIn 14 = .ok (.iconst 0, 1) := dk_3 (dk_at dksX4_isIn_0 14 rfl rfl)
theorem dX4_isIn_15 : decode cX4_isIn 15 = .ok (.ireturn, 1) := dk_172 (dk_at dksX4_isIn_0 15 rfl rfl)
def dkwX4_readLaw_6 : List UInt8 := [180, 0, 45, 28, 5, 96, 29, 96, 42, 180, 0, 51, 29, 46, 79, 132, 3, 1, 167, 255, 229, 4, 172]
abbrev dktX4_readLaw_6 : List UInt8 := dkwX4_readLaw_6 ++ []
def dkwX4_readLaw_5 : List UInt8 := [42, 180, 0, 45, 28, 4, 96, 42, 180, 0, 229, 79, 3, 62, 29, 42, 180, 0, 229, 162, 0, 25, 42]
abbrev dktX4_readLaw_5 : List UInt8 := dkwX4_readLaw_5 ++ dktX4_readLaw_6
def dkwX4_readLaw_4 : List UInt8 := [42, 3, 181, 0, 235, 42, 182, 0, 238, 154, 0, 5, 3, 172, 42, 180, 0, 45, 28, 42, 180, 0, 235, 79]
abbrev dktX4_readLaw_4 : List UInt8 := dkwX4_readLaw_4 ++ dktX4_readLaw_5
def dkwX4_readLaw_3 : List UInt8 := [46, 158, 0, 9, 42, 6, 182, 0, 162, 172, 42, 182, 0, 165, 42, 3, 181, 0, 229, 42, 3, 181, 0, 232]
abbrev dktX4_readLaw_3 : List UInt8 := dkwX4_readLaw_3 ++ dktX4_readLaw_4
def dkwX4_readLaw_2 : List UInt8 := [16, 86, 16, 42, 5, 42, 180, 0, 149, 136, 16, 97, 100, 104, 27, 96, 104, 96, 61, 42, 180, 0, 45, 28]
abbrev dktX4_readLaw_2 : List UInt8 := dkwX4_readLaw_2 ++ dktX4_readLaw_3
def dkwX4_readLaw_1 : List UInt8 := [160, 0, 18, 42, 180, 0, 149, 136, 16, 97, 16, 102, 184, 0, 168, 154, 0, 9, 42, 5, 182, 0, 162, 172]
abbrev dktX4_readLaw_1 : List UInt8 := dkwX4_readLaw_1 ++ dktX4_readLaw_2
def dkwX4_readLaw_0 : List UInt8 := [42, 182, 0, 165, 42, 180, 0, 136, 4, 159, 0, 9, 42, 4, 182, 0, 162, 172, 42, 180, 0, 133, 4]
abbrev dktX4_readLaw_0 : List UInt8 := dkwX4_readLaw_0 ++ dktX4_readLaw_1
theorem dksX4_readLaw_0 : cX4_readLaw.data.toList.drop 0 = dktX4_readLaw_0 := by decide +kernel
theorem dksX4_readLaw_1 : cX4_readLaw.data.toList.drop 23 = dktX4_readLaw_1 := dk_seg dksX4_readLaw_0 23 rfl rfl
theorem dksX4_readLaw_2 : cX4_readLaw.data.toList.drop 47 = dktX4_readLaw_2 := dk_seg dksX4_readLaw_1 24 rfl rfl
theorem dksX4_readLaw_3 : cX4_readLaw.data.toList.drop 71 = dktX4_readLaw_3 := dk_seg dksX4_readLaw_2 24 rfl rfl
theorem dksX4_readLaw_4 : cX4_readLaw.data.toList.drop 95 = dktX4_readLaw_4 := dk_seg dksX4_readLaw_3 24 rfl rfl
theorem dksX4_readLaw_5 : cX4_readLaw.data.toList.drop 119 = dktX4_readLaw_5 := dk_seg dksX4_readLaw_4 24 rfl rfl
theorem dksX4_readLaw_6 : cX4_readLaw.data.toList.drop 142 = dktX4_readLaw_6 := dk_seg dksX4_readLaw_5 23 rfl rfl
theorem dX4_readLaw_0 : decode cX4_readLaw 0 = .ok (.aload_n 0, 1) := dk_42 (dk_at dksX4_readLaw_0 0 rfl rfl)
theorem dX4_readLaw_1 : decode cX4_readLaw 1 = .ok (.invokevirtual 165, 3) := dk_182 0 165 (dk_at dksX4_readLaw_0 1 rfl rfl)
theorem dX4_readLaw_4 : decode cX4_readLaw 4 = .ok (.aload_n 0, 1) := dk_42 (dk_at dksX4_readLaw_0 4 rfl rfl)
theorem dX4_readLaw_5 : decode cX4_readLaw 5 = .ok (.getfield 136, 3) := dk_180 0 136 (dk_at dksX4_readLaw_0 5 rfl rfl)
theorem dX4_readLaw_8 : decode cX4_readLaw 8 = .ok (.iconst 1, 1) := dk_4 (dk_at dksX4_readLaw_0 8 rfl rfl)
theorem dX4_readLaw_9 : decode cX4_readLaw 9 = .ok (.if_icmp .eq 9, 3) := dk_159 0 9 (dk_at dksX4_readLaw_0 9 rfl rfl)
theorem dX4_readLaw_12 : decode cX4_readLaw 12 = .ok (.aload_n 0, 1) := dk_42 (dk_at dksX4_readLaw_0 12 rfl rfl)
theorem dX4_readLaw_13 : decode cX4_readLaw 13 = .ok (.iconst 1, 1) := dk_4 (dk_at dksX4_readLaw_0 13 rfl rfl)
theorem dX4_readLaw_14 : decode cX4_readLaw 14 = .ok (.invokevirtual 162, 3) := dk_182 0 162 (dk_at dksX4_readLaw_0 14 rfl rfl)
theorem dX4_readLaw_17 : decode cX4_readLaw 17 = .ok (.ireturn, 1) := dk_172 (dk_at dksX4_readLaw_0 17 rfl rfl)
theorem dX4_readLaw_18 : decode cX4_readLaw 18 = .ok (.aload_n 0, 1) := dk_42 (dk_at dksX4_readLaw_0 18 rfl rfl)
theorem dX4_readLaw_19 : decode cX4_readLaw 19 = .ok (.getfield 133, 3) := dk_180 0 133 (dk_at dksX4_readLaw_0 19 rfl rfl)
theorem dX4_readLaw_22 : decode cX4_readLaw 22 = .ok (.iconst 1, 1) := dk_4 (dk_at dksX4_readLaw_0 22 rfl rfl)
theorem dX4_readLaw_23 : decode cX4_readLaw 23 = .ok (.if_icmp .ne 18, 3) := dk_160 0 18 (dk_at dksX4_readLaw_1 0 rfl rfl)
theorem dX4_readLaw_26 : decode cX4_readLaw 26 = .ok (.aload_n 0, 1) := dk_42 (dk_at dksX4_readLaw_1 3 rfl rfl)
theorem dX4_readLaw_27 : decode cX4_readLaw 27 = .ok (.getfield 149, 3) := dk_180 0 149 (dk_at dksX4_readLaw_1 4 rfl rfl)
theorem dX4_readLaw_30 : decode cX4_readLaw 30 = .ok (.l2i, 1) := dk_136 (dk_at dksX4_readLaw_1 7 rfl rfl)
theorem dX4_readLaw_31 : decode cX4_readLaw 31 = .ok (.bipush 97, 2) := dk_16 97 (dk_at dksX4_readLaw_1 8 rfl rfl)
theorem dX4_readLaw_33 : decode cX4_readLaw 33 = .ok (.bipush 102, 2) := dk_16 102 (dk_at dksX4_readLaw_1 10 rfl rfl)
theorem dX4_readLaw_35 : decode cX4_readLaw 35 = .ok (.invokestatic 168, 3) := dk_184 0 168 (dk_at dksX4_readLaw_1 12 rfl rfl)
theorem dX4_readLaw_38 : decode cX4_readLaw 38 = .ok (.ifCond .ne 9, 3) := dk_154 0 9 (dk_at dksX4_readLaw_1 15 rfl rfl)
theorem dX4_readLaw_41 : decode cX4_readLaw 41 = .ok (.aload_n 0, 1) := dk_42 (dk_at dksX4_readLaw_1 18 rfl rfl)
theorem dX4_readLaw_42 : decode cX4_readLaw 42 = .ok (.iconst 2, 1) := dk_5 (dk_at dksX4_readLaw_1 19 rfl rfl)
theorem dX4_readLaw_43 : decode cX4_readLaw 43 = .ok (.invokevirtual 162, 3) := dk_182 0 162 (dk_at dksX4_readLaw_1 20 rfl rfl)
theorem dX4_readLaw_46 : decode cX4_readLaw 46 = .ok (.ireturn, 1) := dk_172 (dk_at dksX4_readLaw_1 23 rfl rfl)
theorem dX4_readLaw_47 : decode cX4_readLaw 47 = .ok (.bipush 86, 2) := dk_16 86 (dk_at dksX4_readLaw_2 0 rfl rfl)
theorem dX4_readLaw_49 : decode cX4_readLaw 49 = .ok (.bipush 42, 2) := dk_16 42 (dk_at dksX4_readLaw_2 2 rfl rfl)
theorem dX4_readLaw_51 : decode cX4_readLaw 51 = .ok (.iconst 2, 1) := dk_5 (dk_at dksX4_readLaw_2 4 rfl rfl)
theorem dX4_readLaw_52 : decode cX4_readLaw 52 = .ok (.aload_n 0, 1) := dk_42 (dk_at dksX4_readLaw_2 5 rfl rfl)
theorem dX4_readLaw_53 : decode cX4_readLaw 53 = .ok (.getfield 149, 3) := dk_180 0 149 (dk_at dksX4_readLaw_2 6 rfl rfl)
theorem dX4_readLaw_56 : decode cX4_readLaw 56 = .ok (.l2i, 1) := dk_136 (dk_at dksX4_readLaw_2 9 rfl rfl)
theorem dX4_readLaw_57 : decode cX4_readLaw 57 = .ok (.bipush 97, 2) := dk_16 97 (dk_at dksX4_readLaw_2 10 rfl rfl)
theorem dX4_readLaw_59 : decode cX4_readLaw 59 = .ok (.isub, 1) := dk_100 (dk_at dksX4_readLaw_2 12 rfl rfl)
theorem dX4_readLaw_60 : decode cX4_readLaw 60 = .ok (.imul, 1) := dk_104 (dk_at dksX4_readLaw_2 13 rfl rfl)
theorem dX4_readLaw_61 : decode cX4_readLaw 61 = .ok (.iload_n 1, 1) := dk_27 (dk_at dksX4_readLaw_2 14 rfl rfl)
theorem dX4_readLaw_62 : decode cX4_readLaw 62 = .ok (.iadd, 1) := dk_96 (dk_at dksX4_readLaw_2 15 rfl rfl)
theorem dX4_readLaw_63 : decode cX4_readLaw 63 = .ok (.imul, 1) := dk_104 (dk_at dksX4_readLaw_2 16 rfl rfl)
theorem dX4_readLaw_64 : decode cX4_readLaw 64 = .ok (.iadd, 1) := dk_96 (dk_at dksX4_readLaw_2 17 rfl rfl)
theorem dX4_readLaw_65 : decode cX4_readLaw 65 = .ok (.istore_n 2, 1) := dk_61 (dk_at dksX4_readLaw_2 18 rfl rfl)
theorem dX4_readLaw_66 : decode cX4_readLaw 66 = .ok (.aload_n 0, 1) := dk_42 (dk_at dksX4_readLaw_2 19 rfl rfl)
theorem dX4_readLaw_67 : decode cX4_readLaw 67 = .ok (.getfield 45, 3) := dk_180 0 45 (dk_at dksX4_readLaw_2 20 rfl rfl)
theorem dX4_readLaw_70 : decode cX4_readLaw 70 = .ok (.iload_n 2, 1) := dk_28 (dk_at dksX4_readLaw_2 23 rfl rfl)
theorem dX4_readLaw_71 : decode cX4_readLaw 71 = .ok (.iaload, 1) := dk_46 (dk_at dksX4_readLaw_3 0 rfl rfl)
theorem dX4_readLaw_72 : decode cX4_readLaw 72 = .ok (.ifCond .le 9, 3) := dk_158 0 9 (dk_at dksX4_readLaw_3 1 rfl rfl)
theorem dX4_readLaw_75 : decode cX4_readLaw 75 = .ok (.aload_n 0, 1) := dk_42 (dk_at dksX4_readLaw_3 4 rfl rfl)
theorem dX4_readLaw_76 : decode cX4_readLaw 76 = .ok (.iconst 3, 1) := dk_6 (dk_at dksX4_readLaw_3 5 rfl rfl)
theorem dX4_readLaw_77 : decode cX4_readLaw 77 = .ok (.invokevirtual 162, 3) := dk_182 0 162 (dk_at dksX4_readLaw_3 6 rfl rfl)
theorem dX4_readLaw_80 : decode cX4_readLaw 80 = .ok (.ireturn, 1) := dk_172 (dk_at dksX4_readLaw_3 9 rfl rfl)
theorem dX4_readLaw_81 : decode cX4_readLaw 81 = .ok (.aload_n 0, 1) := dk_42 (dk_at dksX4_readLaw_3 10 rfl rfl)
theorem dX4_readLaw_82 : decode cX4_readLaw 82 = .ok (.invokevirtual 165, 3) := dk_182 0 165 (dk_at dksX4_readLaw_3 11 rfl rfl)
theorem dX4_readLaw_85 : decode cX4_readLaw 85 = .ok (.aload_n 0, 1) := dk_42 (dk_at dksX4_readLaw_3 14 rfl rfl)
theorem dX4_readLaw_86 : decode cX4_readLaw 86 = .ok (.iconst 0, 1) := dk_3 (dk_at dksX4_readLaw_3 15 rfl rfl)
theorem dX4_readLaw_87 : decode cX4_readLaw 87 = .ok (.putfield 229, 3) := dk_181 0 229 (dk_at dksX4_readLaw_3 16 rfl rfl)
theorem dX4_readLaw_90 : decode cX4_readLaw 90 = .ok (.aload_n 0, 1) := dk_42 (dk_at dksX4_readLaw_3 19 rfl rfl)
theorem dX4_readLaw_91 : decode cX4_readLaw 91 = .ok (.iconst 0, 1) := dk_3 (dk_at dksX4_readLaw_3 20 rfl rfl)
theorem dX4_readLaw_92 : decode cX4_readLaw 92 = .ok (.putfield 232, 3) := dk_181 0 232 (dk_at dksX4_readLaw_3 21 rfl rfl)
theorem dX4_readLaw_95 : decode cX4_readLaw 95 = .ok (.aload_n 0, 1) := dk_42 (dk_at dksX4_readLaw_4 0 rfl rfl)
theorem dX4_readLaw_96 : decode cX4_readLaw 96 = .ok (.iconst 0, 1) := dk_3 (dk_at dksX4_readLaw_4 1 rfl rfl)
theorem dX4_readLaw_97 : decode cX4_readLaw 97 = .ok (.putfield 235, 3) := dk_181 0 235 (dk_at dksX4_readLaw_4 2 rfl rfl)
theorem dX4_readLaw_100 : decode cX4_readLaw 100 = .ok (.aload_n 0, 1) := dk_42 (dk_at dksX4_readLaw_4 5 rfl rfl)
theorem dX4_readLaw_101 : decode cX4_readLaw 101 = .ok (.invokevirtual 238, 3) := dk_182 0 238 (dk_at dksX4_readLaw_4 6 rfl rfl)
theorem dX4_readLaw_104 : decode cX4_readLaw 104 = .ok (.ifCond .ne 5, 3) := dk_154 0 5 (dk_at dksX4_readLaw_4 9 rfl rfl)
theorem dX4_readLaw_107 : decode cX4_readLaw 107 = .ok (.iconst 0, 1) := dk_3 (dk_at dksX4_readLaw_4 12 rfl rfl)
theorem dX4_readLaw_108 : decode cX4_readLaw 108 = .ok (.ireturn, 1) := dk_172 (dk_at dksX4_readLaw_4 13 rfl rfl)
theorem dX4_readLaw_109 : decode cX4_readLaw 109 = .ok (.aload_n 0, 1) := dk_42 (dk_at dksX4_readLaw_4 14 rfl rfl)
theorem dX4_readLaw_110 : decode cX4_readLaw 110 = .ok (.getfield 45, 3) := dk_180 0 45 (dk_at dksX4_readLaw_4 15 rfl rfl)
theorem dX4_readLaw_113 : decode cX4_readLaw 113 = .ok (.iload_n 2, 1) := dk_28 (dk_at dksX4_readLaw_4 18 rfl rfl)
theorem dX4_readLaw_114 : decode cX4_readLaw 114 = .ok (.aload_n 0, 1) := dk_42 (dk_at dksX4_readLaw_4 19 rfl rfl)
theorem dX4_readLaw_115 : decode cX4_readLaw 115 = .ok (.getfield 235, 3) := dk_180 0 235 (dk_at dksX4_readLaw_4 20 rfl rfl)
theorem dX4_readLaw_118 : decode cX4_readLaw 118 = .ok (.iastore, 1) := dk_79 (dk_at dksX4_readLaw_4 23 rfl rfl)
theorem dX4_readLaw_119 : decode cX4_readLaw 119 = .ok (.aload_n 0, 1) := dk_42 (dk_at dksX4_readLaw_5 0 rfl rfl)
theorem dX4_readLaw_120 : decode cX4_readLaw 120 = .ok (.getfield 45, 3) := dk_180 0 45 (dk_at dksX4_readLaw_5 1 rfl rfl)
theorem dX4_readLaw_123 : decode cX4_readLaw 123 = .ok (.iload_n 2, 1) := dk_28 (dk_at dksX4_readLaw_5 4 rfl rfl)
theorem dX4_readLaw_124 : decode cX4_readLaw 124 = .ok (.iconst 1, 1) := dk_4 (dk_at dksX4_readLaw_5 5 rfl rfl)
theorem dX4_readLaw_125 : decode cX4_readLaw 125 = .ok (.iadd, 1) := dk_96 (dk_at dksX4_readLaw_5 6 rfl rfl)
theorem dX4_readLaw_126 : decode cX4_readLaw 126 = .ok (.aload_n 0, 1) := dk_42 (dk_at dksX4_readLaw_5 7 rfl rfl)
theorem dX4_readLaw_127 : decode cX4_readLaw 127 = .ok (.getfield 229, 3) := dk_180 0 229 (dk_at dksX4_readLaw_5 8 rfl rfl)
theorem dX4_readLaw_130 : decode cX4_readLaw 130 = .ok (.iastore, 1) := dk_79 (dk_at dksX4_readLaw_5 11 rfl rfl)
theorem dX4_readLaw_131 : decode cX4_readLaw 131 = .ok (.iconst 0, 1) := dk_3 (dk_at dksX4_readLaw_5 12 rfl rfl)
theorem dX4_readLaw_132 : decode cX4_readLaw 132 = .ok (.istore_n 3, 1) := dk_62 (dk_at dksX4_readLaw_5 13 rfl rfl)
theorem dX4_readLaw_133 : decode cX4_readLaw 133 = .ok (.iload_n 3, 1) := dk_29 (dk_at dksX4_readLaw_5 14 rfl rfl)
theorem dX4_readLaw_134 : decode cX4_readLaw 134 = .ok (.aload_n 0, 1) := dk_42 (dk_at dksX4_readLaw_5 15 rfl rfl)
theorem dX4_readLaw_135 : decode cX4_readLaw 135 = .ok (.getfield 229, 3) := dk_180 0 229 (dk_at dksX4_readLaw_5 16 rfl rfl)
theorem dX4_readLaw_138 : decode cX4_readLaw 138 = .ok (.if_icmp .ge 25, 3) := dk_162 0 25 (dk_at dksX4_readLaw_5 19 rfl rfl)
theorem dX4_readLaw_141 : decode cX4_readLaw 141 = .ok (.aload_n 0, 1) := dk_42 (dk_at dksX4_readLaw_5 22 rfl rfl)
theorem dX4_readLaw_142 : decode cX4_readLaw 142 = .ok (.getfield 45, 3) := dk_180 0 45 (dk_at dksX4_readLaw_6 0 rfl rfl)
theorem dX4_readLaw_145 : decode cX4_readLaw 145 = .ok (.iload_n 2, 1) := dk_28 (dk_at dksX4_readLaw_6 3 rfl rfl)
theorem dX4_readLaw_146 : decode cX4_readLaw 146 = .ok (.iconst 2, 1) := dk_5 (dk_at dksX4_readLaw_6 4 rfl rfl)
theorem dX4_readLaw_147 : decode cX4_readLaw 147 = .ok (.iadd, 1) := dk_96 (dk_at dksX4_readLaw_6 5 rfl rfl)
theorem dX4_readLaw_148 : decode cX4_readLaw 148 = .ok (.iload_n 3, 1) := dk_29 (dk_at dksX4_readLaw_6 6 rfl rfl)
theorem dX4_readLaw_149 : decode cX4_readLaw 149 = .ok (.iadd, 1) := dk_96 (dk_at dksX4_readLaw_6 7 rfl rfl)
theorem dX4_readLaw_150 : decode cX4_readLaw 150 = .ok (.aload_n 0, 1) := dk_42 (dk_at dksX4_readLaw_6 8 rfl rfl)
theorem dX4_readLaw_151 : decode cX4_readLaw 151 = .ok (.getfield 51, 3) := dk_180 0 51 (dk_at dksX4_readLaw_6 9 rfl rfl)
theorem dX4_readLaw_154 : decode cX4_readLaw 154 = .ok (.iload_n 3, 1) := dk_29 (dk_at dksX4_readLaw_6 12 rfl rfl)
theorem dX4_readLaw_155 : decode cX4_readLaw 155 = .ok (.iaload, 1) := dk_46 (dk_at dksX4_readLaw_6 13 rfl rfl)
theorem dX4_readLaw_156 : decode cX4_readLaw 156 = .ok (.iastore, 1) := dk_79 (dk_at dksX4_readLaw_6 14 rfl rfl)
theorem dX4_readLaw_157 : decode cX4_readLaw 157 = .ok (.iinc 3 1, 3) := dk_132 3 1 (dk_at dksX4_readLaw_6 15 rfl rfl)
theorem dX4_readLaw_160 : decode cX4_readLaw 160 = .ok (.goto (-27), 3) := dk_167 255 229 (dk_at dksX4_readLaw_6 18 rfl rfl)
theorem dX4_readLaw_163 : decode cX4_readLaw 163 = .ok (.iconst 1, 1) := dk_4 (dk_at dksX4_readLaw_6 21 rfl rfl)
theorem dX4_readLaw_164 : decode cX4_readLaw 164 = .ok (.ireturn, 1) := dk_172 (dk_at dksX4_readLaw_6 22 rfl rfl)
def dkwX4_cond_6 : List UInt8 := [167, 255, 117]
abbrev dktX4_cond_6 : List UInt8 := dkwX4_cond_6 ++ []
def dkwX4_cond_5 : List UInt8 := [153, 0, 7, 7, 167, 0, 4, 8, 79, 42, 89, 180, 0, 232, 4, 96, 181, 0, 232, 42, 182, 0, 165]
abbrev dktX4_cond_5 : List UInt8 := dkwX4_cond_5 ++ dktX4_cond_6
def dkwX4_cond_4 : List UInt8 := [4, 172, 42, 27, 153, 0, 7, 5, 167, 0, 4, 4, 182, 0, 253, 42, 180, 0, 54, 42, 180, 0, 232, 27]
abbrev dktX4_cond_4 : List UInt8 := dkwX4_cond_4 ++ dktX4_cond_5
def dkwX4_cond_3 : List UInt8 := [182, 0, 177, 154, 0, 23, 42, 182, 0, 250, 153, 0, 9, 42, 4, 182, 0, 162, 172, 42, 4, 182, 0, 253]
abbrev dktX4_cond_3 : List UInt8 := dkwX4_cond_3 ++ dktX4_cond_4
def dkwX4_cond_2 : List UInt8 := [182, 0, 165, 167, 255, 216, 42, 20, 1, 0, 182, 0, 177, 60, 27, 154, 0, 33, 42, 20, 1, 2]
abbrev dktX4_cond_2 : List UInt8 := dkwX4_cond_2 ++ dktX4_cond_3
def dkwX4_cond_1 : List UInt8 := [153, 0, 30, 42, 4, 182, 0, 253, 42, 89, 180, 0, 232, 4, 100, 181, 0, 232, 42, 6, 182, 0, 253, 42]
abbrev dktX4_cond_1 : List UInt8 := dkwX4_cond_1 ++ dktX4_cond_2
def dkwX4_cond_0 : List UInt8 := [42, 182, 0, 247, 154, 0, 5, 3, 172, 42, 16, 41, 182, 0, 159, 153, 0, 37, 42, 182, 0, 250]
abbrev dktX4_cond_0 : List UInt8 := dkwX4_cond_0 ++ dktX4_cond_1
theorem dksX4_cond_0 : cX4_cond.data.toList.drop 0 = dktX4_cond_0 := by decide +kernel
theorem dksX4_cond_1 : cX4_cond.data.toList.drop 22 = dktX4_cond_1 := dk_seg dksX4_cond_0 22 rfl rfl
theorem dksX4_cond_2 : cX4_cond.data.toList.drop 46 = dktX4_cond_2 := dk_seg dksX4_cond_1 24 rfl rfl
theorem dksX4_cond_3 : cX4_cond.data.toList.drop 68 = dktX4_cond_3 := dk_seg dksX4_cond_2 22 rfl rfl
theorem dksX4_cond_4 : cX4_cond.data.toList.drop 92 = dktX4_cond_4 := dk_seg dksX4_cond_3 24 rfl rfl
theorem dksX4_cond_5 : cX4_cond.data.toList.drop 116 = dktX4_cond_5 := dk_seg dksX4_cond_4 24 rfl rfl
theorem dksX4_cond_6 : cX4_cond.data.toList.drop 139 = dktX4_cond_6 := dk_seg dksX4_cond_5 23 rfl rfl
theorem dX4_cond_0 : decode cX4_cond 0 = .ok (.aload_n 0, 1) := dk_42 (dk_at dksX4_cond_0 0 rfl rfl)
theorem dX4_cond_1 : decode cX4_cond 1 = .ok (.invokevirtual 247, 3) := dk_182 0 247 (dk_at dksX4_cond_0 1 rfl rfl)
theorem dX4_cond_4 : decode cX4_cond 4 = .ok (.ifCond .ne 5, 3) := dk_154 0 5 (dk_at dksX4_cond_0 4 rfl rfl)
theorem dX4_cond_7 : decode cX4_cond 7 = .ok (.iconst 0, 1) := dk_3 (dk_at dksX4_cond_0 7 rfl rfl)
theorem dX4_cond_8 : decode cX4_cond 8 = .ok (.ireturn, 1) := dk_172 (dk_at dksX4_cond_0 8 rfl rfl)
theorem dX4_cond_9 : decode cX4_cond 9 = .ok (.aload_n 0, 1) := dk_42 (dk_at dksX4_cond_0 9 rfl rfl)
theorem dX4_cond_10 : decode cX4_cond 10 = .ok (.bipush 41, 2) := dk_16 41 (dk_at dksX4_cond_0 10 rfl rfl)
theorem dX4_cond_12 : decode cX4_cond 12 = .ok (.invokevirtual 159, 3) := dk_182 0 159 (dk_at dksX4_cond_0 12 rfl rfl)
theorem dX4_cond_15 : decode cX4_cond 15 = .ok (.ifCond .eq 37, 3) := dk_153 0 37 (dk_at dksX4_cond_0 15 rfl rfl)
theorem dX4_cond_18 : decode cX4_cond 18 = .ok (.aload_n 0, 1) := dk_42 (dk_at dksX4_cond_0 18 rfl rfl)
theorem dX4_cond_19 : decode cX4_cond 19 = .ok (.invokevirtual 250, 3) := dk_182 0 250 (dk_at dksX4_cond_0 19 rfl rfl)
theorem dX4_cond_22 : decode cX4_cond 22 = .ok (.ifCond .eq 30, 3) := dk_153 0 30 (dk_at dksX4_cond_1 0 rfl rfl)
theorem dX4_cond_25 : decode cX4_cond 25 = .ok (.aload_n 0, 1) := dk_42 (dk_at dksX4_cond_1 3 rfl rfl)
theorem dX4_cond_26 : decode cX4_cond 26 = .ok (.iconst 1, 1) := dk_4 (dk_at dksX4_cond_1 4 rfl rfl)
theorem dX4_cond_27 : decode cX4_cond 27 = .ok (.invokevirtual 253, 3) := dk_182 0 253 (dk_at dksX4_cond_1 5 rfl rfl)
theorem dX4_cond_30 : decode cX4_cond 30 = .ok (.aload_n 0, 1) := dk_42 (dk_at dksX4_cond_1 8 rfl rfl)
theorem dX4_cond_31 : decode cX4_cond 31 = .ok (.dup, 1) := dk_89 (dk_at dksX4_cond_1 9 rfl rfl)
theorem dX4_cond_32 : decode cX4_cond 32 = .ok (.getfield 232, 3) := dk_180 0 232 (dk_at dksX4_cond_1 10 rfl rfl)
theorem dX4_cond_35 : decode cX4_cond 35 = .ok (.iconst 1, 1) := dk_4 (dk_at dksX4_cond_1 13 rfl rfl)
theorem dX4_cond_36 : decode cX4_cond 36 = .ok (.isub, 1) := dk_100 (dk_at dksX4_cond_1 14 rfl rfl)
theorem dX4_cond_37 : decode cX4_cond 37 = .ok (.putfield 232, 3) := dk_181 0 232 (dk_at dksX4_cond_1 15 rfl rfl)
theorem dX4_cond_40 : decode cX4_cond 40 = .ok (.aload_n 0, 1) := dk_42 (dk_at dksX4_cond_1 18 rfl rfl)
theorem dX4_cond_41 : decode cX4_cond 41 = .ok (.iconst 3, 1) := dk_6 (dk_at dksX4_cond_1 19 rfl rfl)
theorem dX4_cond_42 : decode cX4_cond 42 = .ok (.invokevirtual 253, 3) := dk_182 0 253 (dk_at dksX4_cond_1 20 rfl rfl)
theorem dX4_cond_45 : decode cX4_cond 45 = .ok (.aload_n 0, 1) := dk_42 (dk_at dksX4_cond_1 23 rfl rfl)
theorem dX4_cond_46 : decode cX4_cond 46 = .ok (.invokevirtual 165, 3) := dk_182 0 165 (dk_at dksX4_cond_2 0 rfl rfl)
theorem dX4_cond_49 : decode cX4_cond 49 = .ok (.goto (-40), 3) := dk_167 255 216 (dk_at dksX4_cond_2 3 rfl rfl)
theorem dX4_cond_52 : decode cX4_cond 52 = .ok (.aload_n 0, 1) := dk_42 (dk_at dksX4_cond_2 6 rfl rfl)
theorem dX4_cond_53 : decode cX4_cond 53 = .ok (.ldc2_w 256, 3) := dk_20 1 0 (dk_at dksX4_cond_2 7 rfl rfl)
theorem dX4_cond_56 : decode cX4_cond 56 = .ok (.invokevirtual 177, 3) := dk_182 0 177 (dk_at dksX4_cond_2 10 rfl rfl)
theorem dX4_cond_59 : decode cX4_cond 59 = .ok (.istore_n 1, 1) := dk_60 (dk_at dksX4_cond_2 13 rfl rfl)
theorem dX4_cond_60 : decode cX4_cond 60 = .ok (.iload_n 1, 1) := dk_27 (dk_at dksX4_cond_2 14 rfl rfl)
theorem dX4_cond_61 : decode cX4_cond 61 = .ok (.ifCond .ne 33, 3) := dk_154 0 33 (dk_at dksX4_cond_2 15 rfl rfl)
theorem dX4_cond_64 : decode cX4_cond 64 = .ok (.aload_n 0, 1) := dk_42 (dk_at dksX4_cond_2 18 rfl rfl)
theorem dX4_cond_65 : decode cX4_cond 65 = .ok (.ldc2_w 258, 3) := dk_20 1 2 (dk_at dksX4_cond_2 19 rfl rfl)
theorem dX4_cond_68 : decode cX4_cond 68 = .ok (.invokevirtual 177, 3) := dk_182 0 177 (dk_at dksX4_cond_3 0 rfl rfl)
theorem dX4_cond_71 : decode cX4_cond 71 = .ok (.ifCond .ne 23, 3) := dk_154 0 23 (dk_at dksX4_cond_3 3 rfl rfl)
theorem dX4_cond_74 : decode cX4_cond 74 = .ok (.aload_n 0, 1) := dk_42 (dk_at dksX4_cond_3 6 rfl rfl)
theorem dX4_cond_75 : decode cX4_cond 75 = .ok (.invokevirtual 250, 3) := dk_182 0 250 (dk_at dksX4_cond_3 7 rfl rfl)
theorem dX4_cond_78 : decode cX4_cond 78 = .ok (.ifCond .eq 9, 3) := dk_153 0 9 (dk_at dksX4_cond_3 10 rfl rfl)
theorem dX4_cond_81 : decode cX4_cond 81 = .ok (.aload_n 0, 1) := dk_42 (dk_at dksX4_cond_3 13 rfl rfl)
theorem dX4_cond_82 : decode cX4_cond 82 = .ok (.iconst 1, 1) := dk_4 (dk_at dksX4_cond_3 14 rfl rfl)
theorem dX4_cond_83 : decode cX4_cond 83 = .ok (.invokevirtual 162, 3) := dk_182 0 162 (dk_at dksX4_cond_3 15 rfl rfl)
theorem dX4_cond_86 : decode cX4_cond 86 = .ok (.ireturn, 1) := dk_172 (dk_at dksX4_cond_3 18 rfl rfl)
theorem dX4_cond_87 : decode cX4_cond 87 = .ok (.aload_n 0, 1) := dk_42 (dk_at dksX4_cond_3 19 rfl rfl)
theorem dX4_cond_88 : decode cX4_cond 88 = .ok (.iconst 1, 1) := dk_4 (dk_at dksX4_cond_3 20 rfl rfl)
theorem dX4_cond_89 : decode cX4_cond 89 = .ok (.invokevirtual 253, 3) := dk_182 0 253 (dk_at dksX4_cond_3 21 rfl rfl)
theorem dX4_cond_92 : decode cX4_cond 92 = .ok (.iconst 1, 1) := dk_4 (dk_at dksX4_cond_4 0 rfl rfl)
theorem dX4_cond_93 : decode cX4_cond 93 = .ok (.ireturn, 1) := dk_172 (dk_at dksX4_cond_4 1 rfl rfl)
theorem dX4_cond_94 : decode cX4_cond 94 = .ok (.aload_n 0, 1) := dk_42 (dk_at dksX4_cond_4 2 rfl rfl)
theorem dX4_cond_95 : decode cX4_cond 95 = .ok (.iload_n 1, 1) := dk_27 (dk_at dksX4_cond_4 3 rfl rfl)
theorem dX4_cond_96 : decode cX4_cond 96 = .ok (.ifCond .eq 7, 3) := dk_153 0 7 (dk_at dksX4_cond_4 4 rfl rfl)
theorem dX4_cond_99 : decode cX4_cond 99 = .ok (.iconst 2, 1) := dk_5 (dk_at dksX4_cond_4 7 rfl rfl)
theorem dX4_cond_100 : decode cX4_cond 100 = .ok (.goto 4, 3) := dk_167 0 4 (dk_at dksX4_cond_4 8 rfl rfl)
theorem dX4_cond_103 : decode cX4_cond 103 = .ok (.iconst 1, 1) := dk_4 (dk_at dksX4_cond_4 11 rfl rfl)
theorem dX4_cond_104 : decode cX4_cond 104 = .ok (.invokevirtual 253, 3) := dk_182 0 253 (dk_at dksX4_cond_4 12 rfl rfl)
theorem dX4_cond_107 : decode cX4_cond 107 = .ok (.aload_n 0, 1) := dk_42 (dk_at dksX4_cond_4 15 rfl rfl)
theorem dX4_cond_108 : decode cX4_cond 108 = .ok (.getfield 54, 3) := dk_180 0 54 (dk_at dksX4_cond_4 16 rfl rfl)
theorem dX4_cond_111 : decode cX4_cond 111 = .ok (.aload_n 0, 1) := dk_42 (dk_at dksX4_cond_4 19 rfl rfl)
theorem dX4_cond_112 : decode cX4_cond 112 = .ok (.getfield 232, 3) := dk_180 0 232 (dk_at dksX4_cond_4 20 rfl rfl)
theorem dX4_cond_115 : decode cX4_cond 115 = .ok (.iload_n 1, 1) := dk_27 (dk_at dksX4_cond_4 23 rfl rfl)
theorem dX4_cond_116 : decode cX4_cond 116 = .ok (.ifCond .eq 7, 3) := dk_153 0 7 (dk_at dksX4_cond_5 0 rfl rfl)
theorem dX4_cond_119 : decode cX4_cond 119 = .ok (.iconst 4, 1) := dk_7 (dk_at dksX4_cond_5 3 rfl rfl)
theorem dX4_cond_120 : decode cX4_cond 120 = .ok (.goto 4, 3) := dk_167 0 4 (dk_at dksX4_cond_5 4 rfl rfl)
theorem dX4_cond_123 : decode cX4_cond 123 = .ok (.iconst 5, 1) := dk_8 (dk_at dksX4_cond_5 7 rfl rfl)
theorem dX4_cond_124 : decode cX4_cond 124 = .ok (.iastore, 1) := dk_79 (dk_at dksX4_cond_5 8 rfl rfl)
theorem dX4_cond_125 : decode cX4_cond 125 = .ok (.aload_n 0, 1) := dk_42 (dk_at dksX4_cond_5 9 rfl rfl)
theorem dX4_cond_126 : decode cX4_cond 126 = .ok (.dup, 1) := dk_89 (dk_at dksX4_cond_5 10 rfl rfl)
theorem dX4_cond_127 : decode cX4_cond 127 = .ok (.getfield 232, 3) := dk_180 0 232 (dk_at dksX4_cond_5 11 rfl rfl)
theorem dX4_cond_130 : decode cX4_cond 130 = .ok (.iconst 1, 1) := dk_4 (dk_at dksX4_cond_5 14 rfl rfl)
theorem dX4_cond_131 : decode cX4_cond 131 = .ok (.iadd, 1) := dk_96 (dk_at dksX4_cond_5 15 rfl rfl)
theorem dX4_cond_132 : decode cX4_cond 132 = .ok (.putfield 232, 3) := dk_181 0 232 (dk_at dksX4_cond_5 16 rfl rfl)
theorem dX4_cond_135 : decode cX4_cond 135 = .ok (.aload_n 0, 1) := dk_42 (dk_at dksX4_cond_5 19 rfl rfl)
theorem dX4_cond_136 : decode cX4_cond 136 = .ok (.invokevirtual 165, 3) := dk_182 0 165 (dk_at dksX4_cond_5 20 rfl rfl)
theorem dX4_cond_139 : decode cX4_cond 139 = .ok (.goto (-139), 3) := dk_167 255 117 (dk_at dksX4_cond_6 0 rfl rfl)
def dkwX4_one_4 : List UInt8 := [16, 6, 79, 42, 89, 180, 0, 232, 4, 96, 181, 0, 232, 167, 255, 149, 42, 28, 182, 1, 28, 172]
abbrev dktX4_one_4 : List UInt8 := dkwX4_one_4 ++ []
def dkwX4_one_3 : List UInt8 := [42, 182, 0, 165, 28, 156, 0, 35, 42, 180, 0, 54, 42, 180, 0, 232, 27, 153, 0, 7, 6, 167, 0, 5]
abbrev dktX4_one_3 : List UInt8 := dkwX4_one_3 ++ dktX4_one_4
def dkwX4_one_2 : List UInt8 := [182, 1, 25, 16, 8, 160, 0, 9, 42, 7, 182, 0, 162, 172, 42, 89, 180, 0, 235, 4, 96, 181, 0, 235]
abbrev dktX4_one_2 : List UInt8 := dkwX4_one_2 ++ dktX4_one_3
def dkwX4_one_1 : List UInt8 := [182, 0, 159, 154, 0, 9, 42, 4, 182, 0, 162, 172, 42, 180, 0, 235, 16, 20, 159, 0, 12, 42]
abbrev dktX4_one_1 : List UInt8 := dkwX4_one_1 ++ dktX4_one_2
def dkwX4_one_0 : List UInt8 := [42, 20, 1, 20, 182, 0, 177, 60, 42, 182, 1, 22, 61, 27, 154, 0, 22, 28, 156, 0, 18, 42, 16, 40]
abbrev dktX4_one_0 : List UInt8 := dkwX4_one_0 ++ dktX4_one_1
theorem dksX4_one_0 : cX4_one.data.toList.drop 0 = dktX4_one_0 := by decide +kernel
theorem dksX4_one_1 : cX4_one.data.toList.drop 24 = dktX4_one_1 := dk_seg dksX4_one_0 24 rfl rfl
theorem dksX4_one_2 : cX4_one.data.toList.drop 46 = dktX4_one_2 := dk_seg dksX4_one_1 22 rfl rfl
theorem dksX4_one_3 : cX4_one.data.toList.drop 70 = dktX4_one_3 := dk_seg dksX4_one_2 24 rfl rfl
theorem dksX4_one_4 : cX4_one.data.toList.drop 94 = dktX4_one_4 := dk_seg dksX4_one_3 24 rfl rfl
theorem dX4_one_0 : decode cX4_one 0 = .ok (.aload_n 0, 1) := dk_42 (dk_at dksX4_one_0 0 rfl rfl)
theorem dX4_one_1 : decode cX4_one 1 = .ok (.ldc2_w 276, 3) := dk_20 1 20 (dk_at dksX4_one_0 1 rfl rfl)
theorem dX4_one_4 : decode cX4_one 4 = .ok (.invokevirtual 177, 3) := dk_182 0 177 (dk_at dksX4_one_0 4 rfl rfl)
theorem dX4_one_7 : decode cX4_one 7 = .ok (.istore_n 1, 1) := dk_60 (dk_at dksX4_one_0 7 rfl rfl)
theorem dX4_one_8 : decode cX4_one 8 = .ok (.aload_n 0, 1) := dk_42 (dk_at dksX4_one_0 8 rfl rfl)
theorem dX4_one_9 : decode cX4_one 9 = .ok (.invokevirtual 278, 3) := dk_182 1 22 (dk_at dksX4_one_0 9 rfl rfl)
theorem dX4_one_12 : decode cX4_one 12 = .ok (.istore_n 2, 1) := dk_61 (dk_at dksX4_one_0 12 rfl rfl)
theorem dX4_one_13 : decode cX4_one 13 = .ok (.iload_n 1, 1) := dk_27 (dk_at dksX4_one_0 13 rfl rfl)
theorem dX4_one_14 : decode cX4_one 14 = .ok (.ifCond .ne 22, 3) := dk_154 0 22 (dk_at dksX4_one_0 14 rfl rfl)
theorem dX4_one_17 : decode cX4_one 17 = .ok (.iload_n 2, 1) := dk_28 (dk_at dksX4_one_0 17 rfl rfl)
theorem dX4_one_18 : decode cX4_one 18 = .ok (.ifCond .ge 18, 3) := dk_156 0 18 (dk_at dksX4_one_0 18 rfl rfl)
theorem dX4_one_21 : decode cX4_one 21 = .ok (.aload_n 0, 1) := dk_42 (dk_at dksX4_one_0 21 rfl rfl)
theorem dX4_one_22 : decode cX4_one 22 = .ok (.bipush 40, 2) := dk_16 40 (dk_at dksX4_one_0 22 rfl rfl)
theorem dX4_one_24 : decode cX4_one 24 = .ok (.invokevirtual 159, 3) := dk_182 0 159 (dk_at dksX4_one_1 0 rfl rfl)
theorem dX4_one_27 : decode cX4_one 27 = .ok (.ifCond .ne 9, 3) := dk_154 0 9 (dk_at dksX4_one_1 3 rfl rfl)
theorem dX4_one_30 : decode cX4_one 30 = .ok (.aload_n 0, 1) := dk_42 (dk_at dksX4_one_1 6 rfl rfl)
theorem dX4_one_31 : decode cX4_one 31 = .ok (.iconst 1, 1) := dk_4 (dk_at dksX4_one_1 7 rfl rfl)
theorem dX4_one_32 : decode cX4_one 32 = .ok (.invokevirtual 162, 3) := dk_182 0 162 (dk_at dksX4_one_1 8 rfl rfl)
theorem dX4_one_35 : decode cX4_one 35 = .ok (.ireturn, 1) := dk_172 (dk_at dksX4_one_1 11 rfl rfl)
theorem dX4_one_36 : decode cX4_one 36 = .ok (.aload_n 0, 1) := dk_42 (dk_at dksX4_one_1 12 rfl rfl)
theorem dX4_one_37 : decode cX4_one 37 = .ok (.getfield 235, 3) := dk_180 0 235 (dk_at dksX4_one_1 13 rfl rfl)
theorem dX4_one_40 : decode cX4_one 40 = .ok (.bipush 20, 2) := dk_16 20 (dk_at dksX4_one_1 16 rfl rfl)
theorem dX4_one_42 : decode cX4_one 42 = .ok (.if_icmp .eq 12, 3) := dk_159 0 12 (dk_at dksX4_one_1 18 rfl rfl)
theorem dX4_one_45 : decode cX4_one 45 = .ok (.aload_n 0, 1) := dk_42 (dk_at dksX4_one_1 21 rfl rfl)
theorem dX4_one_46 : decode cX4_one 46 = .ok (.invokevirtual 281, 3) := dk_182 1 25 (dk_at dksX4_one_2 0 rfl rfl)
theorem dX4_one_49 : decode cX4_one 49 = .ok (.bipush 8, 2) := dk_16 8 (dk_at dksX4_one_2 3 rfl rfl)
theorem dX4_one_51 : decode cX4_one 51 = .ok (.if_icmp .ne 9, 3) := dk_160 0 9 (dk_at dksX4_one_2 5 rfl rfl)
theorem dX4_one_54 : decode cX4_one 54 = .ok (.aload_n 0, 1) := dk_42 (dk_at dksX4_one_2 8 rfl rfl)
theorem dX4_one_55 : decode cX4_one 55 = .ok (.iconst 4, 1) := dk_7 (dk_at dksX4_one_2 9 rfl rfl)
theorem dX4_one_56 : decode cX4_one 56 = .ok (.invokevirtual 162, 3) := dk_182 0 162 (dk_at dksX4_one_2 10 rfl rfl)
theorem dX4_one_59 : decode cX4_one 59 = .ok (.ireturn, 1) := dk_172 (dk_at dksX4_one_2 13 rfl rfl)
theorem dX4_one_60 : decode cX4_one 60 = .ok (.aload_n 0, 1) := dk_42 (dk_at dksX4_one_2 14 rfl rfl)
theorem dX4_one_61 : decode cX4_one 61 = .ok (.dup, 1) := dk_89 (dk_at dksX4_one_2 15 rfl rfl)
theorem dX4_one_62 : decode cX4_one 62 = .ok (.getfield 235, 3) := dk_180 0 235 (dk_at dksX4_one_2 16 rfl rfl)
theorem dX4_one_65 : decode cX4_one 65 = .ok (.iconst 1, 1) := dk_4 (dk_at dksX4_one_2 19 rfl rfl)
theorem dX4_one_66 : decode cX4_one 66 = .ok (.iadd, 1) := dk_96 (dk_at dksX4_one_2 20 rfl rfl)
theorem dX4_one_67 : decode cX4_one 67 = .ok (.putfield 235, 3) := dk_181 0 235 (dk_at dksX4_one_2 21 rfl rfl)
theorem dX4_one_70 : decode cX4_one 70 = .ok (.aload_n 0, 1) := dk_42 (dk_at dksX4_one_3 0 rfl rfl)
theorem dX4_one_71 : decode cX4_one 71 = .ok (.invokevirtual 165, 3) := dk_182 0 165 (dk_at dksX4_one_3 1 rfl rfl)
theorem dX4_one_74 : decode cX4_one 74 = .ok (.iload_n 2, 1) := dk_28 (dk_at dksX4_one_3 4 rfl rfl)
theorem dX4_one_75 : decode cX4_one 75 = .ok (.ifCond .ge 35, 3) := dk_156 0 35 (dk_at dksX4_one_3 5 rfl rfl)
theorem dX4_one_78 : decode cX4_one 78 = .ok (.aload_n 0, 1) := dk_42 (dk_at dksX4_one_3 8 rfl rfl)
theorem dX4_one_79 : decode cX4_one 79 = .ok (.getfield 54, 3) := dk_180 0 54 (dk_at dksX4_one_3 9 rfl rfl)
theorem dX4_one_82 : decode cX4_one 82 = .ok (.aload_n 0, 1) := dk_42 (dk_at dksX4_one_3 12 rfl rfl)
theorem dX4_one_83 : decode cX4_one 83 = .ok (.getfield 232, 3) := dk_180 0 232 (dk_at dksX4_one_3 13 rfl rfl)
theorem dX4_one_86 : decode cX4_one 86 = .ok (.iload_n 1, 1) := dk_27 (dk_at dksX4_one_3 16 rfl rfl)
theorem dX4_one_87 : decode cX4_one 87 = .ok (.ifCond .eq 7, 3) := dk_153 0 7 (dk_at dksX4_one_3 17 rfl rfl)
theorem dX4_one_90 : decode cX4_one 90 = .ok (.iconst 3, 1) := dk_6 (dk_at dksX4_one_3 20 rfl rfl)
theorem dX4_one_91 : decode cX4_one 91 = .ok (.goto 5, 3) := dk_167 0 5 (dk_at dksX4_one_3 21 rfl rfl)
theorem dX4_one_94 : decode cX4_one 94 = .ok (.bipush 6, 2) := dk_16 6 (dk_at dksX4_one_4 0 rfl rfl)
theorem dX4_one_96 : decode cX4_one 96 = .ok (.iastore, 1) := dk_79 (dk_at dksX4_one_4 2 rfl rfl)
theorem dX4_one_97 : decode cX4_one 97 = .ok (.aload_n 0, 1) := dk_42 (dk_at dksX4_one_4 3 rfl rfl)
theorem dX4_one_98 : decode cX4_one 98 = .ok (.dup, 1) := dk_89 (dk_at dksX4_one_4 4 rfl rfl)
theorem dX4_one_99 : decode cX4_one 99 = .ok (.getfield 232, 3) := dk_180 0 232 (dk_at dksX4_one_4 5 rfl rfl)
theorem dX4_one_102 : decode cX4_one 102 = .ok (.iconst 1, 1) := dk_4 (dk_at dksX4_one_4 8 rfl rfl)
theorem dX4_one_103 : decode cX4_one 103 = .ok (.iadd, 1) := dk_96 (dk_at dksX4_one_4 9 rfl rfl)
theorem dX4_one_104 : decode cX4_one 104 = .ok (.putfield 232, 3) := dk_181 0 232 (dk_at dksX4_one_4 10 rfl rfl)
theorem dX4_one_107 : decode cX4_one 107 = .ok (.goto (-107), 3) := dk_167 255 149 (dk_at dksX4_one_4 13 rfl rfl)
theorem dX4_one_110 : decode cX4_one 110 = .ok (.aload_n 0, 1) := dk_42 (dk_at dksX4_one_4 16 rfl rfl)
theorem dX4_one_111 : decode cX4_one 111 = .ok (.iload_n 2, 1) := dk_28 (dk_at dksX4_one_4 17 rfl rfl)
theorem dX4_one_112 : decode cX4_one 112 = .ok (.invokevirtual 284, 3) := dk_182 1 28 (dk_at dksX4_one_4 18 rfl rfl)
theorem dX4_one_115 : decode cX4_one 115 = .ok (.ireturn, 1) := dk_172 (dk_at dksX4_one_4 21 rfl rfl)
def dkwX4_atom_4 : List UInt8 := [16, 6, 167, 0, 19, 42, 20, 1, 18, 182, 0, 177, 153, 0, 8, 16, 7, 167, 0, 4, 2, 172]
abbrev dktX4_atom_4 : List UInt8 := dkwX4_atom_4 ++ []
def dkwX4_atom_3 : List UInt8 := [42, 20, 1, 14, 182, 0, 177, 153, 0, 7, 8, 167, 0, 34, 42, 20, 1, 16, 182, 0, 177, 153, 0, 8]
abbrev dktX4_atom_3 : List UInt8 := dkwX4_atom_3 ++ dktX4_atom_4
def dkwX4_atom_2 : List UInt8 := [182, 0, 177, 153, 0, 7, 6, 167, 0, 62, 42, 20, 1, 12, 182, 0, 177, 153, 0, 7, 7, 167, 0, 48]
abbrev dktX4_atom_2 : List UInt8 := dkwX4_atom_2 ++ dktX4_atom_3
def dkwX4_atom_1 : List UInt8 := [4, 167, 0, 90, 42, 20, 1, 8, 182, 0, 177, 153, 0, 7, 5, 167, 0, 76, 42, 20, 1, 10]
abbrev dktX4_atom_1 : List UInt8 := dkwX4_atom_1 ++ dktX4_atom_2
def dkwX4_atom_0 : List UInt8 := [42, 20, 1, 4, 182, 0, 177, 153, 0, 7, 3, 167, 0, 104, 42, 20, 1, 6, 182, 0, 177, 153, 0, 7]
abbrev dktX4_atom_0 : List UInt8 := dkwX4_atom_0 ++ dktX4_atom_1
theorem dksX4_atom_0 : cX4_atom.data.toList.drop 0 = dktX4_atom_0 := by decide +kernel
theorem dksX4_atom_1 : cX4_atom.data.toList.drop 24 = dktX4_atom_1 := dk_seg dksX4_atom_0 24 rfl rfl
theorem dksX4_atom_2 : cX4_atom.data.toList.drop 46 = dktX4_atom_2 := dk_seg dksX4_atom_1 22 rfl rfl
theorem dksX4_atom_3 : cX4_atom.data.toList.drop 70 = dktX4_atom_3 := dk_seg dksX4_atom_2 24 rfl rfl
theorem dksX4_atom_4 : cX4_atom.data.toList.drop 94 = dktX4_atom_4 := dk_seg dksX4_atom_3 24 rfl rfl
theorem dX4_atom_0 : decode cX4_atom 0 = .ok (.aload_n 0, 1) := dk_42 (dk_at dksX4_atom_0 0 rfl rfl)
theorem dX4_atom_1 : decode cX4_atom 1 = .ok (.ldc2_w 260, 3) := dk_20 1 4 (dk_at dksX4_atom_0 1 rfl rfl)
theorem dX4_atom_4 : decode cX4_atom 4 = .ok (.invokevirtual 177, 3) := dk_182 0 177 (dk_at dksX4_atom_0 4 rfl rfl)
theorem dX4_atom_7 : decode cX4_atom 7 = .ok (.ifCond .eq 7, 3) := dk_153 0 7 (dk_at dksX4_atom_0 7 rfl rfl)
theorem dX4_atom_10 : decode cX4_atom 10 = .ok (.iconst 0, 1) := dk_3 (dk_at dksX4_atom_0 10 rfl rfl)
theorem dX4_atom_11 : decode cX4_atom 11 = .ok (.goto 104, 3) := dk_167 0 104 (dk_at dksX4_atom_0 11 rfl rfl)
theorem dX4_atom_14 : decode cX4_atom 14 = .ok (.aload_n 0, 1) := dk_42 (dk_at dksX4_atom_0 14 rfl rfl)
theorem dX4_atom_15 : decode cX4_atom 15 = .ok (.ldc2_w 262, 3) := dk_20 1 6 (dk_at dksX4_atom_0 15 rfl rfl)
theorem dX4_atom_18 : decode cX4_atom 18 = .ok (.invokevirtual 177, 3) := dk_182 0 177 (dk_at dksX4_atom_0 18 rfl rfl)
theorem dX4_atom_21 : decode cX4_atom 21 = .ok (.ifCond .eq 7, 3) := dk_153 0 7 (dk_at dksX4_atom_0 21 rfl rfl)
theorem dX4_atom_24 : decode cX4_atom 24 = .ok (.iconst 1, 1) := dk_4 (dk_at dksX4_atom_1 0 rfl rfl)
theorem dX4_atom_25 : decode cX4_atom 25 = .ok (.goto 90, 3) := dk_167 0 90 (dk_at dksX4_atom_1 1 rfl rfl)
theorem dX4_atom_28 : decode cX4_atom 28 = .ok (.aload_n 0, 1) := dk_42 (dk_at dksX4_atom_1 4 rfl rfl)
theorem dX4_atom_29 : decode cX4_atom 29 = .ok (.ldc2_w 264, 3) := dk_20 1 8 (dk_at dksX4_atom_1 5 rfl rfl)
theorem dX4_atom_32 : decode cX4_atom 32 = .ok (.invokevirtual 177, 3) := dk_182 0 177 (dk_at dksX4_atom_1 8 rfl rfl)
theorem dX4_atom_35 : decode cX4_atom 35 = .ok (.ifCond .eq 7, 3) := dk_153 0 7 (dk_at dksX4_atom_1 11 rfl rfl)
theorem dX4_atom_38 : decode cX4_atom 38 = .ok (.iconst 2, 1) := dk_5 (dk_at dksX4_atom_1 14 rfl rfl)
theorem dX4_atom_39 : decode cX4_atom 39 = .ok (.goto 76, 3) := dk_167 0 76 (dk_at dksX4_atom_1 15 rfl rfl)
theorem dX4_atom_42 : decode cX4_atom 42 = .ok (.aload_n 0, 1) := dk_42 (dk_at dksX4_atom_1 18 rfl rfl)
theorem dX4_atom_43 : decode cX4_atom 43 = .ok (.ldc2_w 266, 3) := dk_20 1 10 (dk_at dksX4_atom_1 19 rfl rfl)
theorem dX4_atom_46 : decode cX4_atom 46 = .ok (.invokevirtual 177, 3) := dk_182 0 177 (dk_at dksX4_atom_2 0 rfl rfl)
theorem dX4_atom_49 : decode cX4_atom 49 = .ok (.ifCond .eq 7, 3) := dk_153 0 7 (dk_at dksX4_atom_2 3 rfl rfl)
theorem dX4_atom_52 : decode cX4_atom 52 = .ok (.iconst 3, 1) := dk_6 (dk_at dksX4_atom_2 6 rfl rfl)
theorem dX4_atom_53 : decode cX4_atom 53 = .ok (.goto 62, 3) := dk_167 0 62 (dk_at dksX4_atom_2 7 rfl rfl)
theorem dX4_atom_56 : decode cX4_atom 56 = .ok (.aload_n 0, 1) := dk_42 (dk_at dksX4_atom_2 10 rfl rfl)
theorem dX4_atom_57 : decode cX4_atom 57 = .ok (.ldc2_w 268, 3) := dk_20 1 12 (dk_at dksX4_atom_2 11 rfl rfl)
theorem dX4_atom_60 : decode cX4_atom 60 = .ok (.invokevirtual 177, 3) := dk_182 0 177 (dk_at dksX4_atom_2 14 rfl rfl)
theorem dX4_atom_63 : decode cX4_atom 63 = .ok (.ifCond .eq 7, 3) := dk_153 0 7 (dk_at dksX4_atom_2 17 rfl rfl)
theorem dX4_atom_66 : decode cX4_atom 66 = .ok (.iconst 4, 1) := dk_7 (dk_at dksX4_atom_2 20 rfl rfl)
theorem dX4_atom_67 : decode cX4_atom 67 = .ok (.goto 48, 3) := dk_167 0 48 (dk_at dksX4_atom_2 21 rfl rfl)
theorem dX4_atom_70 : decode cX4_atom 70 = .ok (.aload_n 0, 1) := dk_42 (dk_at dksX4_atom_3 0 rfl rfl)
theorem dX4_atom_71 : decode cX4_atom 71 = .ok (.ldc2_w 270, 3) := dk_20 1 14 (dk_at dksX4_atom_3 1 rfl rfl)
theorem dX4_atom_74 : decode cX4_atom 74 = .ok (.invokevirtual 177, 3) := dk_182 0 177 (dk_at dksX4_atom_3 4 rfl rfl)
theorem dX4_atom_77 : decode cX4_atom 77 = .ok (.ifCond .eq 7, 3) := dk_153 0 7 (dk_at dksX4_atom_3 7 rfl rfl)
theorem dX4_atom_80 : decode cX4_atom 80 = .ok (.iconst 5, 1) := dk_8 (dk_at dksX4_atom_3 10 rfl rfl)
theorem dX4_atom_81 : decode cX4_atom 81 = .ok (.goto 34, 3) := dk_167 0 34 (dk_at dksX4_atom_3 11 rfl rfl)
theorem dX4_atom_84 : decode cX4_atom 84 = .ok (.aload_n 0, 1) := dk_42 (dk_at dksX4_atom_3 14 rfl rfl)
theorem dX4_atom_85 : decode cX4_atom 85 = .ok (.ldc2_w 272, 3) := dk_20 1 16 (dk_at dksX4_atom_3 15 rfl rfl)
theorem dX4_atom_88 : decode cX4_atom 88 = .ok (.invokevirtual 177, 3) := dk_182 0 177 (dk_at dksX4_atom_3 18 rfl rfl)
theorem dX4_atom_91 : decode cX4_atom 91 = .ok (.ifCond .eq 8, 3) := dk_153 0 8 (dk_at dksX4_atom_3 21 rfl rfl)
theorem dX4_atom_94 : decode cX4_atom 94 = .ok (.bipush 6, 2) := dk_16 6 (dk_at dksX4_atom_4 0 rfl rfl)
theorem dX4_atom_96 : decode cX4_atom 96 = .ok (.goto 19, 3) := dk_167 0 19 (dk_at dksX4_atom_4 2 rfl rfl)
theorem dX4_atom_99 : decode cX4_atom 99 = .ok (.aload_n 0, 1) := dk_42 (dk_at dksX4_atom_4 5 rfl rfl)
theorem dX4_atom_100 : decode cX4_atom 100 = .ok (.ldc2_w 274, 3) := dk_20 1 18 (dk_at dksX4_atom_4 6 rfl rfl)
theorem dX4_atom_103 : decode cX4_atom 103 = .ok (.invokevirtual 177, 3) := dk_182 0 177 (dk_at dksX4_atom_4 9 rfl rfl)
theorem dX4_atom_106 : decode cX4_atom 106 = .ok (.ifCond .eq 8, 3) := dk_153 0 8 (dk_at dksX4_atom_4 12 rfl rfl)
theorem dX4_atom_109 : decode cX4_atom 109 = .ok (.bipush 7, 2) := dk_16 7 (dk_at dksX4_atom_4 15 rfl rfl)
theorem dX4_atom_111 : decode cX4_atom 111 = .ok (.goto 4, 3) := dk_167 0 4 (dk_at dksX4_atom_4 17 rfl rfl)
theorem dX4_atom_114 : decode cX4_atom 114 = .ok (.iconst (-1), 1) := dk_2 (dk_at dksX4_atom_4 20 rfl rfl)
theorem dX4_atom_115 : decode cX4_atom 115 = .ok (.ireturn, 1) := dk_172 (dk_at dksX4_atom_4 21 rfl rfl)
def dkwX4_isSign_0 : List UInt8 := [42, 180, 0, 136, 6, 160, 0, 15, 42, 180, 0, 146, 27, 160, 0, 7, 4, 167, 0, 4, 3, 172]
abbrev dktX4_isSign_0 : List UInt8 := dkwX4_isSign_0 ++ []
theorem dksX4_isSign_0 : cX4_isSign.data.toList.drop 0 = dktX4_isSign_0 := by decide +kernel
theorem dX4_isSign_0 : decode cX4_isSign 0 = .ok (.aload_n 0, 1) := dk_42 (dk_at dksX4_isSign_0 0 rfl rfl)
theorem dX4_isSign_1 : decode cX4_isSign 1 = .ok (.getfield 136, 3) := dk_180 0 136 (dk_at dksX4_isSign_0 1 rfl rfl)
theorem dX4_isSign_4 : decode cX4_isSign 4 = .ok (.iconst 3, 1) := dk_6 (dk_at dksX4_isSign_0 4 rfl rfl)
theorem dX4_isSign_5 : decode cX4_isSign 5 = .ok (.if_icmp .ne 15, 3) := dk_160 0 15 (dk_at dksX4_isSign_0 5 rfl rfl)
theorem dX4_isSign_8 : decode cX4_isSign 8 = .ok (.aload_n 0, 1) := dk_42 (dk_at dksX4_isSign_0 8 rfl rfl)
theorem dX4_isSign_9 : decode cX4_isSign 9 = .ok (.getfield 146, 3) := dk_180 0 146 (dk_at dksX4_isSign_0 9 rfl rfl)
theorem dX4_isSign_12 : decode cX4_isSign 12 = .ok (.iload_n 1, 1) := dk_27 (dk_at dksX4_isSign_0 12 rfl rfl)
theorem dX4_isSign_13 : decode cX4_isSign 13 = .ok (.if_icmp .ne 7, 3) := dk_160 0 7 (dk_at dksX4_isSign_0 13 rfl rfl)
theorem dX4_isSign_16 : decode cX4_isSign 16 = .ok (.iconst 1, 1) := dk_4 (dk_at dksX4_isSign_0 16 rfl rfl)
theorem dX4_isSign_17 : decode cX4_isSign 17 = .ok (.goto 4, 3) := dk_167 0 4 (dk_at dksX4_isSign_0 17 rfl rfl)
theorem dX4_isSign_20 : decode cX4_isSign 20 = .ok (.iconst 0, 1) := dk_3 (dk_at dksX4_isSign_0 20 rfl rfl)
theorem dX4_isSign_21 : decode cX4_isSign 21 = .ok (.ireturn, 1) := dk_172 (dk_at dksX4_isSign_0 21 rfl rfl)
def dkwX4_opened_2 : List UInt8 := [172]
abbrev dktX4_opened_2 : List UInt8 := dkwX4_opened_2 ++ []
def dkwX4_opened_1 : List UInt8 := [180, 0, 54, 28, 46, 16, 6, 160, 0, 7, 4, 167, 0, 4, 3, 96, 60, 132, 2, 1, 167, 255, 216, 27]
abbrev dktX4_opened_1 : List UInt8 := dkwX4_opened_1 ++ dktX4_opened_2
def dkwX4_opened_0 : List UInt8 := [3, 60, 3, 61, 28, 42, 180, 0, 232, 162, 0, 38, 27, 42, 180, 0, 54, 28, 46, 6, 159, 0, 14, 42]
abbrev dktX4_opened_0 : List UInt8 := dkwX4_opened_0 ++ dktX4_opened_1
theorem dksX4_opened_0 : cX4_opened.data.toList.drop 0 = dktX4_opened_0 := by decide +kernel
theorem dksX4_opened_1 : cX4_opened.data.toList.drop 24 = dktX4_opened_1 := dk_seg dksX4_opened_0 24 rfl rfl
theorem dksX4_opened_2 : cX4_opened.data.toList.drop 48 = dktX4_opened_2 := dk_seg dksX4_opened_1 24 rfl rfl
theorem dX4_opened_0 : decode cX4_opened 0 = .ok (.iconst 0, 1) := dk_3 (dk_at dksX4_opened_0 0 rfl rfl)
theorem dX4_opened_1 : decode cX4_opened 1 = .ok (.istore_n 1, 1) := dk_60 (dk_at dksX4_opened_0 1 rfl rfl)
theorem dX4_opened_2 : decode cX4_opened 2 = .ok (.iconst 0, 1) := dk_3 (dk_at dksX4_opened_0 2 rfl rfl)
theorem dX4_opened_3 : decode cX4_opened 3 = .ok (.istore_n 2, 1) := dk_61 (dk_at dksX4_opened_0 3 rfl rfl)
theorem dX4_opened_4 : decode cX4_opened 4 = .ok (.iload_n 2, 1) := dk_28 (dk_at dksX4_opened_0 4 rfl rfl)
theorem dX4_opened_5 : decode cX4_opened 5 = .ok (.aload_n 0, 1) := dk_42 (dk_at dksX4_opened_0 5 rfl rfl)
theorem dX4_opened_6 : decode cX4_opened 6 = .ok (.getfield 232, 3) := dk_180 0 232 (dk_at dksX4_opened_0 6 rfl rfl)
theorem dX4_opened_9 : decode cX4_opened 9 = .ok (.if_icmp .ge 38, 3) := dk_162 0 38 (dk_at dksX4_opened_0 9 rfl rfl)
theorem dX4_opened_12 : decode cX4_opened 12 = .ok (.iload_n 1, 1) := dk_27 (dk_at dksX4_opened_0 12 rfl rfl)
theorem dX4_opened_13 : decode cX4_opened 13 = .ok (.aload_n 0, 1) := dk_42 (dk_at dksX4_opened_0 13 rfl rfl)
theorem dX4_opened_14 : decode cX4_opened 14 = .ok (.getfield 54, 3) := dk_180 0 54 (dk_at dksX4_opened_0 14 rfl rfl)
theorem dX4_opened_17 : decode cX4_opened 17 = .ok (.iload_n 2, 1) := dk_28 (dk_at dksX4_opened_0 17 rfl rfl)
theorem dX4_opened_18 : decode cX4_opened 18 = .ok (.iaload, 1) := dk_46 (dk_at dksX4_opened_0 18 rfl rfl)
theorem dX4_opened_19 : decode cX4_opened 19 = .ok (.iconst 3, 1) := dk_6 (dk_at dksX4_opened_0 19 rfl rfl)
theorem dX4_opened_20 : decode cX4_opened 20 = .ok (.if_icmp .eq 14, 3) := dk_159 0 14 (dk_at dksX4_opened_0 20 rfl rfl)
theorem dX4_opened_23 : decode cX4_opened 23 = .ok (.aload_n 0, 1) := dk_42 (dk_at dksX4_opened_0 23 rfl rfl)
theorem dX4_opened_24 : decode cX4_opened 24 = .ok (.getfield 54, 3) := dk_180 0 54 (dk_at dksX4_opened_1 0 rfl rfl)
theorem dX4_opened_27 : decode cX4_opened 27 = .ok (.iload_n 2, 1) := dk_28 (dk_at dksX4_opened_1 3 rfl rfl)
theorem dX4_opened_28 : decode cX4_opened 28 = .ok (.iaload, 1) := dk_46 (dk_at dksX4_opened_1 4 rfl rfl)
theorem dX4_opened_29 : decode cX4_opened 29 = .ok (.bipush 6, 2) := dk_16 6 (dk_at dksX4_opened_1 5 rfl rfl)
theorem dX4_opened_31 : decode cX4_opened 31 = .ok (.if_icmp .ne 7, 3) := dk_160 0 7 (dk_at dksX4_opened_1 7 rfl rfl)
theorem dX4_opened_34 : decode cX4_opened 34 = .ok (.iconst 1, 1) := dk_4 (dk_at dksX4_opened_1 10 rfl rfl)
theorem dX4_opened_35 : decode cX4_opened 35 = .ok (.goto 4, 3) := dk_167 0 4 (dk_at dksX4_opened_1 11 rfl rfl)
theorem dX4_opened_38 : decode cX4_opened 38 = .ok (.iconst 0, 1) := dk_3 (dk_at dksX4_opened_1 14 rfl rfl)
theorem dX4_opened_39 : decode cX4_opened 39 = .ok (.iadd, 1) := dk_96 (dk_at dksX4_opened_1 15 rfl rfl)
theorem dX4_opened_40 : decode cX4_opened 40 = .ok (.istore_n 1, 1) := dk_60 (dk_at dksX4_opened_1 16 rfl rfl)
theorem dX4_opened_41 : decode cX4_opened 41 = .ok (.iinc 2 1, 3) := dk_132 2 1 (dk_at dksX4_opened_1 17 rfl rfl)
theorem dX4_opened_44 : decode cX4_opened 44 = .ok (.goto (-40), 3) := dk_167 255 216 (dk_at dksX4_opened_1 20 rfl rfl)
theorem dX4_opened_47 : decode cX4_opened 47 = .ok (.iload_n 1, 1) := dk_27 (dk_at dksX4_opened_1 23 rfl rfl)
theorem dX4_opened_48 : decode cX4_opened 48 = .ok (.ireturn, 1) := dk_172 (dk_at dksX4_opened_2 0 rfl rfl)
def dkwX4_asks_6 : List UInt8 := [128, 182, 0, 244, 42, 182, 0, 165, 42, 6, 182, 0, 253, 4, 172]
abbrev dktX4_asks_6 : List UInt8 := dkwX4_asks_6 ++ []
def dkwX4_asks_5 : List UInt8 := [167, 0, 4, 3, 6, 120, 128, 28, 16, 6, 120, 128, 29, 16, 8, 120, 128, 42, 180, 0, 146, 16, 10, 120]
abbrev dktX4_asks_5 : List UInt8 := dkwX4_asks_5 ++ dktX4_asks_6
def dkwX4_asks_4 : List UInt8 := [16, 7, 160, 0, 7, 5, 167, 0, 4, 3, 54, 4, 42, 21, 4, 27, 16, 6, 162, 0, 7, 27]
abbrev dktX4_asks_4 : List UInt8 := dkwX4_asks_4 ++ dktX4_asks_5
def dkwX4_asks_3 : List UInt8 := [180, 0, 136, 5, 159, 0, 9, 42, 4, 182, 0, 162, 172, 27, 16, 6, 160, 0, 7, 4, 167, 0, 14, 27]
abbrev dktX4_asks_3 : List UInt8 := dkwX4_asks_3 ++ dktX4_asks_4
def dkwX4_asks_2 : List UInt8 := [154, 0, 9, 42, 4, 182, 0, 162, 172, 42, 180, 0, 146, 16, 60, 100, 62, 42, 182, 0, 165, 42]
abbrev dktX4_asks_2 : List UInt8 := dkwX4_asks_2 ++ dktX4_asks_3
def dkwX4_asks_1 : List UInt8 := [42, 16, 60, 182, 0, 159, 154, 0, 27, 42, 16, 61, 182, 0, 159, 154, 0, 18, 42, 16, 62, 182, 0, 159]
abbrev dktX4_asks_1 : List UInt8 := dkwX4_asks_1 ++ dktX4_asks_2
def dkwX4_asks_0 : List UInt8 := [3, 61, 27, 16, 6, 162, 0, 19, 42, 4, 5, 182, 0, 200, 154, 0, 5, 3, 172, 42, 180, 0, 172, 61]
abbrev dktX4_asks_0 : List UInt8 := dkwX4_asks_0 ++ dktX4_asks_1
theorem dksX4_asks_0 : cX4_asks.data.toList.drop 0 = dktX4_asks_0 := by decide +kernel
theorem dksX4_asks_1 : cX4_asks.data.toList.drop 24 = dktX4_asks_1 := dk_seg dksX4_asks_0 24 rfl rfl
theorem dksX4_asks_2 : cX4_asks.data.toList.drop 48 = dktX4_asks_2 := dk_seg dksX4_asks_1 24 rfl rfl
theorem dksX4_asks_3 : cX4_asks.data.toList.drop 70 = dktX4_asks_3 := dk_seg dksX4_asks_2 22 rfl rfl
theorem dksX4_asks_4 : cX4_asks.data.toList.drop 94 = dktX4_asks_4 := dk_seg dksX4_asks_3 24 rfl rfl
theorem dksX4_asks_5 : cX4_asks.data.toList.drop 116 = dktX4_asks_5 := dk_seg dksX4_asks_4 22 rfl rfl
theorem dksX4_asks_6 : cX4_asks.data.toList.drop 140 = dktX4_asks_6 := dk_seg dksX4_asks_5 24 rfl rfl
theorem dX4_asks_0 : decode cX4_asks 0 = .ok (.iconst 0, 1) := dk_3 (dk_at dksX4_asks_0 0 rfl rfl)
theorem dX4_asks_1 : decode cX4_asks 1 = .ok (.istore_n 2, 1) := dk_61 (dk_at dksX4_asks_0 1 rfl rfl)
theorem dX4_asks_2 : decode cX4_asks 2 = .ok (.iload_n 1, 1) := dk_27 (dk_at dksX4_asks_0 2 rfl rfl)
theorem dX4_asks_3 : decode cX4_asks 3 = .ok (.bipush 6, 2) := dk_16 6 (dk_at dksX4_asks_0 3 rfl rfl)
theorem dX4_asks_5 : decode cX4_asks 5 = .ok (.if_icmp .ge 19, 3) := dk_162 0 19 (dk_at dksX4_asks_0 5 rfl rfl)
theorem dX4_asks_8 : decode cX4_asks 8 = .ok (.aload_n 0, 1) := dk_42 (dk_at dksX4_asks_0 8 rfl rfl)
theorem dX4_asks_9 : decode cX4_asks 9 = .ok (.iconst 1, 1) := dk_4 (dk_at dksX4_asks_0 9 rfl rfl)
theorem dX4_asks_10 : decode cX4_asks 10 = .ok (.iconst 2, 1) := dk_5 (dk_at dksX4_asks_0 10 rfl rfl)
theorem dX4_asks_11 : decode cX4_asks 11 = .ok (.invokevirtual 200, 3) := dk_182 0 200 (dk_at dksX4_asks_0 11 rfl rfl)
theorem dX4_asks_14 : decode cX4_asks 14 = .ok (.ifCond .ne 5, 3) := dk_154 0 5 (dk_at dksX4_asks_0 14 rfl rfl)
theorem dX4_asks_17 : decode cX4_asks 17 = .ok (.iconst 0, 1) := dk_3 (dk_at dksX4_asks_0 17 rfl rfl)
theorem dX4_asks_18 : decode cX4_asks 18 = .ok (.ireturn, 1) := dk_172 (dk_at dksX4_asks_0 18 rfl rfl)
theorem dX4_asks_19 : decode cX4_asks 19 = .ok (.aload_n 0, 1) := dk_42 (dk_at dksX4_asks_0 19 rfl rfl)
theorem dX4_asks_20 : decode cX4_asks 20 = .ok (.getfield 172, 3) := dk_180 0 172 (dk_at dksX4_asks_0 20 rfl rfl)
theorem dX4_asks_23 : decode cX4_asks 23 = .ok (.istore_n 2, 1) := dk_61 (dk_at dksX4_asks_0 23 rfl rfl)
theorem dX4_asks_24 : decode cX4_asks 24 = .ok (.aload_n 0, 1) := dk_42 (dk_at dksX4_asks_1 0 rfl rfl)
theorem dX4_asks_25 : decode cX4_asks 25 = .ok (.bipush 60, 2) := dk_16 60 (dk_at dksX4_asks_1 1 rfl rfl)
theorem dX4_asks_27 : decode cX4_asks 27 = .ok (.invokevirtual 159, 3) := dk_182 0 159 (dk_at dksX4_asks_1 3 rfl rfl)
theorem dX4_asks_30 : decode cX4_asks 30 = .ok (.ifCond .ne 27, 3) := dk_154 0 27 (dk_at dksX4_asks_1 6 rfl rfl)
theorem dX4_asks_33 : decode cX4_asks 33 = .ok (.aload_n 0, 1) := dk_42 (dk_at dksX4_asks_1 9 rfl rfl)
theorem dX4_asks_34 : decode cX4_asks 34 = .ok (.bipush 61, 2) := dk_16 61 (dk_at dksX4_asks_1 10 rfl rfl)
theorem dX4_asks_36 : decode cX4_asks 36 = .ok (.invokevirtual 159, 3) := dk_182 0 159 (dk_at dksX4_asks_1 12 rfl rfl)
theorem dX4_asks_39 : decode cX4_asks 39 = .ok (.ifCond .ne 18, 3) := dk_154 0 18 (dk_at dksX4_asks_1 15 rfl rfl)
theorem dX4_asks_42 : decode cX4_asks 42 = .ok (.aload_n 0, 1) := dk_42 (dk_at dksX4_asks_1 18 rfl rfl)
theorem dX4_asks_43 : decode cX4_asks 43 = .ok (.bipush 62, 2) := dk_16 62 (dk_at dksX4_asks_1 19 rfl rfl)
theorem dX4_asks_45 : decode cX4_asks 45 = .ok (.invokevirtual 159, 3) := dk_182 0 159 (dk_at dksX4_asks_1 21 rfl rfl)
theorem dX4_asks_48 : decode cX4_asks 48 = .ok (.ifCond .ne 9, 3) := dk_154 0 9 (dk_at dksX4_asks_2 0 rfl rfl)
theorem dX4_asks_51 : decode cX4_asks 51 = .ok (.aload_n 0, 1) := dk_42 (dk_at dksX4_asks_2 3 rfl rfl)
theorem dX4_asks_52 : decode cX4_asks 52 = .ok (.iconst 1, 1) := dk_4 (dk_at dksX4_asks_2 4 rfl rfl)
theorem dX4_asks_53 : decode cX4_asks 53 = .ok (.invokevirtual 162, 3) := dk_182 0 162 (dk_at dksX4_asks_2 5 rfl rfl)
theorem dX4_asks_56 : decode cX4_asks 56 = .ok (.ireturn, 1) := dk_172 (dk_at dksX4_asks_2 8 rfl rfl)
theorem dX4_asks_57 : decode cX4_asks 57 = .ok (.aload_n 0, 1) := dk_42 (dk_at dksX4_asks_2 9 rfl rfl)
theorem dX4_asks_58 : decode cX4_asks 58 = .ok (.getfield 146, 3) := dk_180 0 146 (dk_at dksX4_asks_2 10 rfl rfl)
theorem dX4_asks_61 : decode cX4_asks 61 = .ok (.bipush 60, 2) := dk_16 60 (dk_at dksX4_asks_2 13 rfl rfl)
theorem dX4_asks_63 : decode cX4_asks 63 = .ok (.isub, 1) := dk_100 (dk_at dksX4_asks_2 15 rfl rfl)
theorem dX4_asks_64 : decode cX4_asks 64 = .ok (.istore_n 3, 1) := dk_62 (dk_at dksX4_asks_2 16 rfl rfl)
theorem dX4_asks_65 : decode cX4_asks 65 = .ok (.aload_n 0, 1) := dk_42 (dk_at dksX4_asks_2 17 rfl rfl)
theorem dX4_asks_66 : decode cX4_asks 66 = .ok (.invokevirtual 165, 3) := dk_182 0 165 (dk_at dksX4_asks_2 18 rfl rfl)
theorem dX4_asks_69 : decode cX4_asks 69 = .ok (.aload_n 0, 1) := dk_42 (dk_at dksX4_asks_2 21 rfl rfl)
theorem dX4_asks_70 : decode cX4_asks 70 = .ok (.getfield 136, 3) := dk_180 0 136 (dk_at dksX4_asks_3 0 rfl rfl)
theorem dX4_asks_73 : decode cX4_asks 73 = .ok (.iconst 2, 1) := dk_5 (dk_at dksX4_asks_3 3 rfl rfl)
theorem dX4_asks_74 : decode cX4_asks 74 = .ok (.if_icmp .eq 9, 3) := dk_159 0 9 (dk_at dksX4_asks_3 4 rfl rfl)
theorem dX4_asks_77 : decode cX4_asks 77 = .ok (.aload_n 0, 1) := dk_42 (dk_at dksX4_asks_3 7 rfl rfl)
theorem dX4_asks_78 : decode cX4_asks 78 = .ok (.iconst 1, 1) := dk_4 (dk_at dksX4_asks_3 8 rfl rfl)
theorem dX4_asks_79 : decode cX4_asks 79 = .ok (.invokevirtual 162, 3) := dk_182 0 162 (dk_at dksX4_asks_3 9 rfl rfl)
theorem dX4_asks_82 : decode cX4_asks 82 = .ok (.ireturn, 1) := dk_172 (dk_at dksX4_asks_3 12 rfl rfl)
theorem dX4_asks_83 : decode cX4_asks 83 = .ok (.iload_n 1, 1) := dk_27 (dk_at dksX4_asks_3 13 rfl rfl)
theorem dX4_asks_84 : decode cX4_asks 84 = .ok (.bipush 6, 2) := dk_16 6 (dk_at dksX4_asks_3 14 rfl rfl)
theorem dX4_asks_86 : decode cX4_asks 86 = .ok (.if_icmp .ne 7, 3) := dk_160 0 7 (dk_at dksX4_asks_3 16 rfl rfl)
theorem dX4_asks_89 : decode cX4_asks 89 = .ok (.iconst 1, 1) := dk_4 (dk_at dksX4_asks_3 19 rfl rfl)
theorem dX4_asks_90 : decode cX4_asks 90 = .ok (.goto 14, 3) := dk_167 0 14 (dk_at dksX4_asks_3 20 rfl rfl)
theorem dX4_asks_93 : decode cX4_asks 93 = .ok (.iload_n 1, 1) := dk_27 (dk_at dksX4_asks_3 23 rfl rfl)
theorem dX4_asks_94 : decode cX4_asks 94 = .ok (.bipush 7, 2) := dk_16 7 (dk_at dksX4_asks_4 0 rfl rfl)
theorem dX4_asks_96 : decode cX4_asks 96 = .ok (.if_icmp .ne 7, 3) := dk_160 0 7 (dk_at dksX4_asks_4 2 rfl rfl)
theorem dX4_asks_99 : decode cX4_asks 99 = .ok (.iconst 2, 1) := dk_5 (dk_at dksX4_asks_4 5 rfl rfl)
theorem dX4_asks_100 : decode cX4_asks 100 = .ok (.goto 4, 3) := dk_167 0 4 (dk_at dksX4_asks_4 6 rfl rfl)
theorem dX4_asks_103 : decode cX4_asks 103 = .ok (.iconst 0, 1) := dk_3 (dk_at dksX4_asks_4 9 rfl rfl)
theorem dX4_asks_104 : decode cX4_asks 104 = .ok (.istore 4, 2) := dk_54 4 (dk_at dksX4_asks_4 10 rfl rfl)
theorem dX4_asks_106 : decode cX4_asks 106 = .ok (.aload_n 0, 1) := dk_42 (dk_at dksX4_asks_4 12 rfl rfl)
theorem dX4_asks_107 : decode cX4_asks 107 = .ok (.iload 4, 2) := dk_21 4 (dk_at dksX4_asks_4 13 rfl rfl)
theorem dX4_asks_109 : decode cX4_asks 109 = .ok (.iload_n 1, 1) := dk_27 (dk_at dksX4_asks_4 15 rfl rfl)
theorem dX4_asks_110 : decode cX4_asks 110 = .ok (.bipush 6, 2) := dk_16 6 (dk_at dksX4_asks_4 16 rfl rfl)
theorem dX4_asks_112 : decode cX4_asks 112 = .ok (.if_icmp .ge 7, 3) := dk_162 0 7 (dk_at dksX4_asks_4 18 rfl rfl)
theorem dX4_asks_115 : decode cX4_asks 115 = .ok (.iload_n 1, 1) := dk_27 (dk_at dksX4_asks_4 21 rfl rfl)
theorem dX4_asks_116 : decode cX4_asks 116 = .ok (.goto 4, 3) := dk_167 0 4 (dk_at dksX4_asks_5 0 rfl rfl)
theorem dX4_asks_119 : decode cX4_asks 119 = .ok (.iconst 0, 1) := dk_3 (dk_at dksX4_asks_5 3 rfl rfl)
theorem dX4_asks_120 : decode cX4_asks 120 = .ok (.iconst 3, 1) := dk_6 (dk_at dksX4_asks_5 4 rfl rfl)
theorem dX4_asks_121 : decode cX4_asks 121 = .ok (.ishl, 1) := dk_120 (dk_at dksX4_asks_5 5 rfl rfl)
theorem dX4_asks_122 : decode cX4_asks 122 = .ok (.ior, 1) := dk_128 (dk_at dksX4_asks_5 6 rfl rfl)
theorem dX4_asks_123 : decode cX4_asks 123 = .ok (.iload_n 2, 1) := dk_28 (dk_at dksX4_asks_5 7 rfl rfl)
theorem dX4_asks_124 : decode cX4_asks 124 = .ok (.bipush 6, 2) := dk_16 6 (dk_at dksX4_asks_5 8 rfl rfl)
theorem dX4_asks_126 : decode cX4_asks 126 = .ok (.ishl, 1) := dk_120 (dk_at dksX4_asks_5 10 rfl rfl)
theorem dX4_asks_127 : decode cX4_asks 127 = .ok (.ior, 1) := dk_128 (dk_at dksX4_asks_5 11 rfl rfl)
theorem dX4_asks_128 : decode cX4_asks 128 = .ok (.iload_n 3, 1) := dk_29 (dk_at dksX4_asks_5 12 rfl rfl)
theorem dX4_asks_129 : decode cX4_asks 129 = .ok (.bipush 8, 2) := dk_16 8 (dk_at dksX4_asks_5 13 rfl rfl)
theorem dX4_asks_131 : decode cX4_asks 131 = .ok (.ishl, 1) := dk_120 (dk_at dksX4_asks_5 15 rfl rfl)
theorem dX4_asks_132 : decode cX4_asks 132 = .ok (.ior, 1) := dk_128 (dk_at dksX4_asks_5 16 rfl rfl)
theorem dX4_asks_133 : decode cX4_asks 133 = .ok (.aload_n 0, 1) := dk_42 (dk_at dksX4_asks_5 17 rfl rfl)
theorem dX4_asks_134 : decode cX4_asks 134 = .ok (.getfield 146, 3) := dk_180 0 146 (dk_at dksX4_asks_5 18 rfl rfl)
theorem dX4_asks_137 : decode cX4_asks 137 = .ok (.bipush 10, 2) := dk_16 10 (dk_at dksX4_asks_5 21 rfl rfl)
theorem dX4_asks_139 : decode cX4_asks 139 = .ok (.ishl, 1) := dk_120 (dk_at dksX4_asks_5 23 rfl rfl)
theorem dX4_asks_140 : decode cX4_asks 140 = .ok (.ior, 1) := dk_128 (dk_at dksX4_asks_6 0 rfl rfl)
theorem dX4_asks_141 : decode cX4_asks 141 = .ok (.invokevirtual 244, 3) := dk_182 0 244 (dk_at dksX4_asks_6 1 rfl rfl)
theorem dX4_asks_144 : decode cX4_asks 144 = .ok (.aload_n 0, 1) := dk_42 (dk_at dksX4_asks_6 4 rfl rfl)
theorem dX4_asks_145 : decode cX4_asks 145 = .ok (.invokevirtual 165, 3) := dk_182 0 165 (dk_at dksX4_asks_6 5 rfl rfl)
theorem dX4_asks_148 : decode cX4_asks 148 = .ok (.aload_n 0, 1) := dk_42 (dk_at dksX4_asks_6 8 rfl rfl)
theorem dX4_asks_149 : decode cX4_asks 149 = .ok (.iconst 3, 1) := dk_6 (dk_at dksX4_asks_6 9 rfl rfl)
theorem dX4_asks_150 : decode cX4_asks 150 = .ok (.invokevirtual 253, 3) := dk_182 0 253 (dk_at dksX4_asks_6 10 rfl rfl)
theorem dX4_asks_153 : decode cX4_asks 153 = .ok (.iconst 1, 1) := dk_4 (dk_at dksX4_asks_6 13 rfl rfl)
theorem dX4_asks_154 : decode cX4_asks 154 = .ok (.ireturn, 1) := dk_172 (dk_at dksX4_asks_6 14 rfl rfl)
def dkwX4_takes_1 : List UInt8 := [154, 0, 9, 42, 5, 182, 0, 162, 172, 42, 42, 180, 0, 146, 181, 0, 172, 42, 182, 0, 165, 4, 172]
abbrev dktX4_takes_1 : List UInt8 := dkwX4_takes_1 ++ []
def dkwX4_takes_0 : List UInt8 := [42, 180, 0, 136, 5, 159, 0, 9, 42, 4, 182, 0, 162, 172, 42, 180, 0, 146, 27, 28, 184, 0, 168]
abbrev dktX4_takes_0 : List UInt8 := dkwX4_takes_0 ++ dktX4_takes_1
theorem dksX4_takes_0 : cX4_takes.data.toList.drop 0 = dktX4_takes_0 := by decide +kernel
theorem dksX4_takes_1 : cX4_takes.data.toList.drop 23 = dktX4_takes_1 := dk_seg dksX4_takes_0 23 rfl rfl
theorem dX4_takes_0 : decode cX4_takes 0 = .ok (.aload_n 0, 1) := dk_42 (dk_at dksX4_takes_0 0 rfl rfl)
theorem dX4_takes_1 : decode cX4_takes 1 = .ok (.getfield 136, 3) := dk_180 0 136 (dk_at dksX4_takes_0 1 rfl rfl)
theorem dX4_takes_4 : decode cX4_takes 4 = .ok (.iconst 2, 1) := dk_5 (dk_at dksX4_takes_0 4 rfl rfl)
theorem dX4_takes_5 : decode cX4_takes 5 = .ok (.if_icmp .eq 9, 3) := dk_159 0 9 (dk_at dksX4_takes_0 5 rfl rfl)
theorem dX4_takes_8 : decode cX4_takes 8 = .ok (.aload_n 0, 1) := dk_42 (dk_at dksX4_takes_0 8 rfl rfl)
theorem dX4_takes_9 : decode cX4_takes 9 = .ok (.iconst 1, 1) := dk_4 (dk_at dksX4_takes_0 9 rfl rfl)
theorem dX4_takes_10 : decode cX4_takes 10 = .ok (.invokevirtual 162, 3) := dk_182 0 162 (dk_at dksX4_takes_0 10 rfl rfl)
theorem dX4_takes_13 : decode cX4_takes 13 = .ok (.ireturn, 1) := dk_172 (dk_at dksX4_takes_0 13 rfl rfl)
theorem dX4_takes_14 : decode cX4_takes 14 = .ok (.aload_n 0, 1) := dk_42 (dk_at dksX4_takes_0 14 rfl rfl)
theorem dX4_takes_15 : decode cX4_takes 15 = .ok (.getfield 146, 3) := dk_180 0 146 (dk_at dksX4_takes_0 15 rfl rfl)
theorem dX4_takes_18 : decode cX4_takes 18 = .ok (.iload_n 1, 1) := dk_27 (dk_at dksX4_takes_0 18 rfl rfl)
theorem dX4_takes_19 : decode cX4_takes 19 = .ok (.iload_n 2, 1) := dk_28 (dk_at dksX4_takes_0 19 rfl rfl)
theorem dX4_takes_20 : decode cX4_takes 20 = .ok (.invokestatic 168, 3) := dk_184 0 168 (dk_at dksX4_takes_0 20 rfl rfl)
theorem dX4_takes_23 : decode cX4_takes 23 = .ok (.ifCond .ne 9, 3) := dk_154 0 9 (dk_at dksX4_takes_1 0 rfl rfl)
theorem dX4_takes_26 : decode cX4_takes 26 = .ok (.aload_n 0, 1) := dk_42 (dk_at dksX4_takes_1 3 rfl rfl)
theorem dX4_takes_27 : decode cX4_takes 27 = .ok (.iconst 2, 1) := dk_5 (dk_at dksX4_takes_1 4 rfl rfl)
theorem dX4_takes_28 : decode cX4_takes 28 = .ok (.invokevirtual 162, 3) := dk_182 0 162 (dk_at dksX4_takes_1 5 rfl rfl)
theorem dX4_takes_31 : decode cX4_takes 31 = .ok (.ireturn, 1) := dk_172 (dk_at dksX4_takes_1 8 rfl rfl)
theorem dX4_takes_32 : decode cX4_takes 32 = .ok (.aload_n 0, 1) := dk_42 (dk_at dksX4_takes_1 9 rfl rfl)
theorem dX4_takes_33 : decode cX4_takes 33 = .ok (.aload_n 0, 1) := dk_42 (dk_at dksX4_takes_1 10 rfl rfl)
theorem dX4_takes_34 : decode cX4_takes 34 = .ok (.getfield 146, 3) := dk_180 0 146 (dk_at dksX4_takes_1 11 rfl rfl)
theorem dX4_takes_37 : decode cX4_takes 37 = .ok (.putfield 172, 3) := dk_181 0 172 (dk_at dksX4_takes_1 14 rfl rfl)
theorem dX4_takes_40 : decode cX4_takes 40 = .ok (.aload_n 0, 1) := dk_42 (dk_at dksX4_takes_1 17 rfl rfl)
theorem dX4_takes_41 : decode cX4_takes 41 = .ok (.invokevirtual 165, 3) := dk_182 0 165 (dk_at dksX4_takes_1 18 rfl rfl)
theorem dX4_takes_44 : decode cX4_takes 44 = .ok (.iconst 1, 1) := dk_4 (dk_at dksX4_takes_1 21 rfl rfl)
theorem dX4_takes_45 : decode cX4_takes 45 = .ok (.ireturn, 1) := dk_172 (dk_at dksX4_takes_1 22 rfl rfl)
def dkwX4_write_0 : List UInt8 := [42, 180, 0, 51, 42, 180, 0, 229, 27, 79, 42, 89, 180, 0, 229, 4, 96, 181, 0, 229, 177]
abbrev dktX4_write_0 : List UInt8 := dkwX4_write_0 ++ []
theorem dksX4_write_0 : cX4_write.data.toList.drop 0 = dktX4_write_0 := by decide +kernel
theorem dX4_write_0 : decode cX4_write 0 = .ok (.aload_n 0, 1) := dk_42 (dk_at dksX4_write_0 0 rfl rfl)
theorem dX4_write_1 : decode cX4_write 1 = .ok (.getfield 51, 3) := dk_180 0 51 (dk_at dksX4_write_0 1 rfl rfl)
theorem dX4_write_4 : decode cX4_write 4 = .ok (.aload_n 0, 1) := dk_42 (dk_at dksX4_write_0 4 rfl rfl)
theorem dX4_write_5 : decode cX4_write 5 = .ok (.getfield 229, 3) := dk_180 0 229 (dk_at dksX4_write_0 5 rfl rfl)
theorem dX4_write_8 : decode cX4_write 8 = .ok (.iload_n 1, 1) := dk_27 (dk_at dksX4_write_0 8 rfl rfl)
theorem dX4_write_9 : decode cX4_write 9 = .ok (.iastore, 1) := dk_79 (dk_at dksX4_write_0 9 rfl rfl)
theorem dX4_write_10 : decode cX4_write 10 = .ok (.aload_n 0, 1) := dk_42 (dk_at dksX4_write_0 10 rfl rfl)
theorem dX4_write_11 : decode cX4_write 11 = .ok (.dup, 1) := dk_89 (dk_at dksX4_write_0 11 rfl rfl)
theorem dX4_write_12 : decode cX4_write 12 = .ok (.getfield 229, 3) := dk_180 0 229 (dk_at dksX4_write_0 12 rfl rfl)
theorem dX4_write_15 : decode cX4_write 15 = .ok (.iconst 1, 1) := dk_4 (dk_at dksX4_write_0 15 rfl rfl)
theorem dX4_write_16 : decode cX4_write 16 = .ok (.iadd, 1) := dk_96 (dk_at dksX4_write_0 16 rfl rfl)
theorem dX4_write_17 : decode cX4_write 17 = .ok (.putfield 229, 3) := dk_181 0 229 (dk_at dksX4_write_0 17 rfl rfl)
theorem dX4_write_20 : decode cX4_write 20 = .ok (.return_, 1) := dk_177 (dk_at dksX4_write_0 20 rfl rfl)
def dkwX4_writeDown_2 : List UInt8 := [181, 0, 232, 42, 42, 180, 0, 54, 42, 180, 0, 232, 46, 182, 0, 244, 167, 255, 192, 177]
abbrev dktX4_writeDown_2 : List UInt8 := dkwX4_writeDown_2 ++ []
def dkwX4_writeDown_1 : List UInt8 := [180, 0, 54, 42, 180, 0, 232, 4, 100, 46, 184, 0, 241, 27, 161, 0, 29, 42, 89, 180, 0, 232, 4, 100]
abbrev dktX4_writeDown_1 : List UInt8 := dkwX4_writeDown_1 ++ dktX4_writeDown_2
def dkwX4_writeDown_0 : List UInt8 := [42, 180, 0, 232, 158, 0, 63, 42, 180, 0, 54, 42, 180, 0, 232, 4, 100, 46, 16, 6, 159, 0, 47, 42]
abbrev dktX4_writeDown_0 : List UInt8 := dkwX4_writeDown_0 ++ dktX4_writeDown_1
theorem dksX4_writeDown_0 : cX4_writeDown.data.toList.drop 0 = dktX4_writeDown_0 := by decide +kernel
theorem dksX4_writeDown_1 : cX4_writeDown.data.toList.drop 24 = dktX4_writeDown_1 := dk_seg dksX4_writeDown_0 24 rfl rfl
theorem dksX4_writeDown_2 : cX4_writeDown.data.toList.drop 48 = dktX4_writeDown_2 := dk_seg dksX4_writeDown_1 24 rfl rfl
theorem dX4_writeDown_0 : decode cX4_writeDown 0 = .ok (.aload_n 0, 1) := dk_42 (dk_at dksX4_writeDown_0 0 rfl rfl)
theorem dX4_writeDown_1 : decode cX4_writeDown 1 = .ok (.getfield 232, 3) := dk_180 0 232 (dk_at dksX4_writeDown_0 1 rfl rfl)
theorem dX4_writeDown_4 : decode cX4_writeDown 4 = .ok (.ifCond .le 63, 3) := dk_158 0 63 (dk_at dksX4_writeDown_0 4 rfl rfl)
theorem dX4_writeDown_7 : decode cX4_writeDown 7 = .ok (.aload_n 0, 1) := dk_42 (dk_at dksX4_writeDown_0 7 rfl rfl)
theorem dX4_writeDown_8 : decode cX4_writeDown 8 = .ok (.getfield 54, 3) := dk_180 0 54 (dk_at dksX4_writeDown_0 8 rfl rfl)
theorem dX4_writeDown_11 : decode cX4_writeDown 11 = .ok (.aload_n 0, 1) := dk_42 (dk_at dksX4_writeDown_0 11 rfl rfl)
theorem dX4_writeDown_12 : decode cX4_writeDown 12 = .ok (.getfield 232, 3) := dk_180 0 232 (dk_at dksX4_writeDown_0 12 rfl rfl)
theorem dX4_writeDown_15 : decode cX4_writeDown 15 = .ok (.iconst 1, 1) := dk_4 (dk_at dksX4_writeDown_0 15 rfl rfl)
theorem dX4_writeDown_16 : decode cX4_writeDown 16 = .ok (.isub, 1) := dk_100 (dk_at dksX4_writeDown_0 16 rfl rfl)
theorem dX4_writeDown_17 : decode cX4_writeDown 17 = .ok (.iaload, 1) := dk_46 (dk_at dksX4_writeDown_0 17 rfl rfl)
theorem dX4_writeDown_18 : decode cX4_writeDown 18 = .ok (.bipush 6, 2) := dk_16 6 (dk_at dksX4_writeDown_0 18 rfl rfl)
theorem dX4_writeDown_20 : decode cX4_writeDown 20 = .ok (.if_icmp .eq 47, 3) := dk_159 0 47 (dk_at dksX4_writeDown_0 20 rfl rfl)
theorem dX4_writeDown_23 : decode cX4_writeDown 23 = .ok (.aload_n 0, 1) := dk_42 (dk_at dksX4_writeDown_0 23 rfl rfl)
theorem dX4_writeDown_24 : decode cX4_writeDown 24 = .ok (.getfield 54, 3) := dk_180 0 54 (dk_at dksX4_writeDown_1 0 rfl rfl)
theorem dX4_writeDown_27 : decode cX4_writeDown 27 = .ok (.aload_n 0, 1) := dk_42 (dk_at dksX4_writeDown_1 3 rfl rfl)
theorem dX4_writeDown_28 : decode cX4_writeDown 28 = .ok (.getfield 232, 3) := dk_180 0 232 (dk_at dksX4_writeDown_1 4 rfl rfl)
theorem dX4_writeDown_31 : decode cX4_writeDown 31 = .ok (.iconst 1, 1) := dk_4 (dk_at dksX4_writeDown_1 7 rfl rfl)
theorem dX4_writeDown_32 : decode cX4_writeDown 32 = .ok (.isub, 1) := dk_100 (dk_at dksX4_writeDown_1 8 rfl rfl)
theorem dX4_writeDown_33 : decode cX4_writeDown 33 = .ok (.iaload, 1) := dk_46 (dk_at dksX4_writeDown_1 9 rfl rfl)
theorem dX4_writeDown_34 : decode cX4_writeDown 34 = .ok (.invokestatic 241, 3) := dk_184 0 241 (dk_at dksX4_writeDown_1 10 rfl rfl)
theorem dX4_writeDown_37 : decode cX4_writeDown 37 = .ok (.iload_n 1, 1) := dk_27 (dk_at dksX4_writeDown_1 13 rfl rfl)
theorem dX4_writeDown_38 : decode cX4_writeDown 38 = .ok (.if_icmp .lt 29, 3) := dk_161 0 29 (dk_at dksX4_writeDown_1 14 rfl rfl)
theorem dX4_writeDown_41 : decode cX4_writeDown 41 = .ok (.aload_n 0, 1) := dk_42 (dk_at dksX4_writeDown_1 17 rfl rfl)
theorem dX4_writeDown_42 : decode cX4_writeDown 42 = .ok (.dup, 1) := dk_89 (dk_at dksX4_writeDown_1 18 rfl rfl)
theorem dX4_writeDown_43 : decode cX4_writeDown 43 = .ok (.getfield 232, 3) := dk_180 0 232 (dk_at dksX4_writeDown_1 19 rfl rfl)
theorem dX4_writeDown_46 : decode cX4_writeDown 46 = .ok (.iconst 1, 1) := dk_4 (dk_at dksX4_writeDown_1 22 rfl rfl)
theorem dX4_writeDown_47 : decode cX4_writeDown 47 = .ok (.isub, 1) := dk_100 (dk_at dksX4_writeDown_1 23 rfl rfl)
theorem dX4_writeDown_48 : decode cX4_writeDown 48 = .ok (.putfield 232, 3) := dk_181 0 232 (dk_at dksX4_writeDown_2 0 rfl rfl)
theorem dX4_writeDown_51 : decode cX4_writeDown 51 = .ok (.aload_n 0, 1) := dk_42 (dk_at dksX4_writeDown_2 3 rfl rfl)
theorem dX4_writeDown_52 : decode cX4_writeDown 52 = .ok (.aload_n 0, 1) := dk_42 (dk_at dksX4_writeDown_2 4 rfl rfl)
theorem dX4_writeDown_53 : decode cX4_writeDown 53 = .ok (.getfield 54, 3) := dk_180 0 54 (dk_at dksX4_writeDown_2 5 rfl rfl)
theorem dX4_writeDown_56 : decode cX4_writeDown 56 = .ok (.aload_n 0, 1) := dk_42 (dk_at dksX4_writeDown_2 8 rfl rfl)
theorem dX4_writeDown_57 : decode cX4_writeDown 57 = .ok (.getfield 232, 3) := dk_180 0 232 (dk_at dksX4_writeDown_2 9 rfl rfl)
theorem dX4_writeDown_60 : decode cX4_writeDown 60 = .ok (.iaload, 1) := dk_46 (dk_at dksX4_writeDown_2 12 rfl rfl)
theorem dX4_writeDown_61 : decode cX4_writeDown 61 = .ok (.invokevirtual 244, 3) := dk_182 0 244 (dk_at dksX4_writeDown_2 13 rfl rfl)
theorem dX4_writeDown_64 : decode cX4_writeDown 64 = .ok (.goto (-64), 3) := dk_167 255 192 (dk_at dksX4_writeDown_2 16 rfl rfl)
theorem dX4_writeDown_67 : decode cX4_writeDown 67 = .ok (.return_, 1) := dk_177 (dk_at dksX4_writeDown_2 19 rfl rfl)
def dkwX4_binds_0 : List UInt8 := [26, 6, 160, 0, 7, 6, 167, 0, 13, 26, 7, 160, 0, 7, 5, 167, 0, 4, 4, 172]
abbrev dktX4_binds_0 : List UInt8 := dkwX4_binds_0 ++ []
theorem dksX4_binds_0 : cX4_binds.data.toList.drop 0 = dktX4_binds_0 := by decide +kernel
theorem dX4_binds_0 : decode cX4_binds 0 = .ok (.iload_n 0, 1) := dk_26 (dk_at dksX4_binds_0 0 rfl rfl)
theorem dX4_binds_1 : decode cX4_binds 1 = .ok (.iconst 3, 1) := dk_6 (dk_at dksX4_binds_0 1 rfl rfl)
theorem dX4_binds_2 : decode cX4_binds 2 = .ok (.if_icmp .ne 7, 3) := dk_160 0 7 (dk_at dksX4_binds_0 2 rfl rfl)
theorem dX4_binds_5 : decode cX4_binds 5 = .ok (.iconst 3, 1) := dk_6 (dk_at dksX4_binds_0 5 rfl rfl)
theorem dX4_binds_6 : decode cX4_binds 6 = .ok (.goto 13, 3) := dk_167 0 13 (dk_at dksX4_binds_0 6 rfl rfl)
theorem dX4_binds_9 : decode cX4_binds 9 = .ok (.iload_n 0, 1) := dk_26 (dk_at dksX4_binds_0 9 rfl rfl)
theorem dX4_binds_10 : decode cX4_binds 10 = .ok (.iconst 4, 1) := dk_7 (dk_at dksX4_binds_0 10 rfl rfl)
theorem dX4_binds_11 : decode cX4_binds 11 = .ok (.if_icmp .ne 7, 3) := dk_160 0 7 (dk_at dksX4_binds_0 11 rfl rfl)
theorem dX4_binds_14 : decode cX4_binds 14 = .ok (.iconst 2, 1) := dk_5 (dk_at dksX4_binds_0 14 rfl rfl)
theorem dX4_binds_15 : decode cX4_binds 15 = .ok (.goto 4, 3) := dk_167 0 4 (dk_at dksX4_binds_0 15 rfl rfl)
theorem dX4_binds_18 : decode cX4_binds 18 = .ok (.iconst 1, 1) := dk_4 (dk_at dksX4_binds_0 18 rfl rfl)
theorem dX4_binds_19 : decode cX4_binds 19 = .ok (.ireturn, 1) := dk_172 (dk_at dksX4_binds_0 19 rfl rfl)
def dkwX4_isOpen_1 : List UInt8 := [132, 1, 1, 167, 255, 232, 3, 172]
abbrev dktX4_isOpen_1 : List UInt8 := dkwX4_isOpen_1 ++ []
def dkwX4_isOpen_0 : List UInt8 := [3, 60, 27, 42, 180, 0, 232, 162, 0, 22, 42, 180, 0, 54, 27, 46, 16, 6, 160, 0, 5, 4, 172]
abbrev dktX4_isOpen_0 : List UInt8 := dkwX4_isOpen_0 ++ dktX4_isOpen_1
theorem dksX4_isOpen_0 : cX4_isOpen.data.toList.drop 0 = dktX4_isOpen_0 := by decide +kernel
theorem dksX4_isOpen_1 : cX4_isOpen.data.toList.drop 23 = dktX4_isOpen_1 := dk_seg dksX4_isOpen_0 23 rfl rfl
theorem dX4_isOpen_0 : decode cX4_isOpen 0 = .ok (.iconst 0, 1) := dk_3 (dk_at dksX4_isOpen_0 0 rfl rfl)
theorem dX4_isOpen_1 : decode cX4_isOpen 1 = .ok (.istore_n 1, 1) := dk_60 (dk_at dksX4_isOpen_0 1 rfl rfl)
theorem dX4_isOpen_2 : decode cX4_isOpen 2 = .ok (.iload_n 1, 1) := dk_27 (dk_at dksX4_isOpen_0 2 rfl rfl)
theorem dX4_isOpen_3 : decode cX4_isOpen 3 = .ok (.aload_n 0, 1) := dk_42 (dk_at dksX4_isOpen_0 3 rfl rfl)
theorem dX4_isOpen_4 : decode cX4_isOpen 4 = .ok (.getfield 232, 3) := dk_180 0 232 (dk_at dksX4_isOpen_0 4 rfl rfl)
theorem dX4_isOpen_7 : decode cX4_isOpen 7 = .ok (.if_icmp .ge 22, 3) := dk_162 0 22 (dk_at dksX4_isOpen_0 7 rfl rfl)
theorem dX4_isOpen_10 : decode cX4_isOpen 10 = .ok (.aload_n 0, 1) := dk_42 (dk_at dksX4_isOpen_0 10 rfl rfl)
theorem dX4_isOpen_11 : decode cX4_isOpen 11 = .ok (.getfield 54, 3) := dk_180 0 54 (dk_at dksX4_isOpen_0 11 rfl rfl)
theorem dX4_isOpen_14 : decode cX4_isOpen 14 = .ok (.iload_n 1, 1) := dk_27 (dk_at dksX4_isOpen_0 14 rfl rfl)
theorem dX4_isOpen_15 : decode cX4_isOpen 15 = .ok (.iaload, 1) := dk_46 (dk_at dksX4_isOpen_0 15 rfl rfl)
theorem dX4_isOpen_16 : decode cX4_isOpen 16 = .ok (.bipush 6, 2) := dk_16 6 (dk_at dksX4_isOpen_0 16 rfl rfl)
theorem dX4_isOpen_18 : decode cX4_isOpen 18 = .ok (.if_icmp .ne 5, 3) := dk_160 0 5 (dk_at dksX4_isOpen_0 18 rfl rfl)
theorem dX4_isOpen_21 : decode cX4_isOpen 21 = .ok (.iconst 1, 1) := dk_4 (dk_at dksX4_isOpen_0 21 rfl rfl)
theorem dX4_isOpen_22 : decode cX4_isOpen 22 = .ok (.ireturn, 1) := dk_172 (dk_at dksX4_isOpen_0 22 rfl rfl)
theorem dX4_isOpen_23 : decode cX4_isOpen 23 = .ok (.iinc 1 1, 3) := dk_132 1 1 (dk_at dksX4_isOpen_1 0 rfl rfl)
theorem dX4_isOpen_26 : decode cX4_isOpen 26 = .ok (.goto (-24), 3) := dk_167 255 232 (dk_at dksX4_isOpen_1 3 rfl rfl)
theorem dX4_isOpen_29 : decode cX4_isOpen 29 = .ok (.iconst 0, 1) := dk_3 (dk_at dksX4_isOpen_1 6 rfl rfl)
theorem dX4_isOpen_30 : decode cX4_isOpen 30 = .ok (.ireturn, 1) := dk_172 (dk_at dksX4_isOpen_1 7 rfl rfl)
def dkwX4_takesRow_2 : List UInt8 := [153, 0, 9, 42, 6, 182, 0, 162, 172, 42, 42, 180, 0, 146, 181, 0, 172, 42, 182, 0, 165, 4, 172]
abbrev dktX4_takesRow_2 : List UInt8 := dkwX4_takesRow_2 ++ []
def dkwX4_takesRow_1 : List UInt8 := [180, 0, 45, 3, 46, 161, 0, 9, 42, 5, 182, 0, 162, 172, 27, 42, 180, 0, 146, 184, 0, 222]
abbrev dktX4_takesRow_1 : List UInt8 := dkwX4_takesRow_1 ++ dktX4_takesRow_2
def dkwX4_takesRow_0 : List UInt8 := [42, 182, 0, 165, 42, 180, 0, 136, 5, 159, 0, 9, 42, 4, 182, 0, 162, 172, 42, 180, 0, 146, 42]
abbrev dktX4_takesRow_0 : List UInt8 := dkwX4_takesRow_0 ++ dktX4_takesRow_1
theorem dksX4_takesRow_0 : cX4_takesRow.data.toList.drop 0 = dktX4_takesRow_0 := by decide +kernel
theorem dksX4_takesRow_1 : cX4_takesRow.data.toList.drop 23 = dktX4_takesRow_1 := dk_seg dksX4_takesRow_0 23 rfl rfl
theorem dksX4_takesRow_2 : cX4_takesRow.data.toList.drop 45 = dktX4_takesRow_2 := dk_seg dksX4_takesRow_1 22 rfl rfl
theorem dX4_takesRow_0 : decode cX4_takesRow 0 = .ok (.aload_n 0, 1) := dk_42 (dk_at dksX4_takesRow_0 0 rfl rfl)
theorem dX4_takesRow_1 : decode cX4_takesRow 1 = .ok (.invokevirtual 165, 3) := dk_182 0 165 (dk_at dksX4_takesRow_0 1 rfl rfl)
theorem dX4_takesRow_4 : decode cX4_takesRow 4 = .ok (.aload_n 0, 1) := dk_42 (dk_at dksX4_takesRow_0 4 rfl rfl)
theorem dX4_takesRow_5 : decode cX4_takesRow 5 = .ok (.getfield 136, 3) := dk_180 0 136 (dk_at dksX4_takesRow_0 5 rfl rfl)
theorem dX4_takesRow_8 : decode cX4_takesRow 8 = .ok (.iconst 2, 1) := dk_5 (dk_at dksX4_takesRow_0 8 rfl rfl)
theorem dX4_takesRow_9 : decode cX4_takesRow 9 = .ok (.if_icmp .eq 9, 3) := dk_159 0 9 (dk_at dksX4_takesRow_0 9 rfl rfl)
theorem dX4_takesRow_12 : decode cX4_takesRow 12 = .ok (.aload_n 0, 1) := dk_42 (dk_at dksX4_takesRow_0 12 rfl rfl)
theorem dX4_takesRow_13 : decode cX4_takesRow 13 = .ok (.iconst 1, 1) := dk_4 (dk_at dksX4_takesRow_0 13 rfl rfl)
theorem dX4_takesRow_14 : decode cX4_takesRow 14 = .ok (.invokevirtual 162, 3) := dk_182 0 162 (dk_at dksX4_takesRow_0 14 rfl rfl)
theorem dX4_takesRow_17 : decode cX4_takesRow 17 = .ok (.ireturn, 1) := dk_172 (dk_at dksX4_takesRow_0 17 rfl rfl)
theorem dX4_takesRow_18 : decode cX4_takesRow 18 = .ok (.aload_n 0, 1) := dk_42 (dk_at dksX4_takesRow_0 18 rfl rfl)
theorem dX4_takesRow_19 : decode cX4_takesRow 19 = .ok (.getfield 146, 3) := dk_180 0 146 (dk_at dksX4_takesRow_0 19 rfl rfl)
theorem dX4_takesRow_22 : decode cX4_takesRow 22 = .ok (.aload_n 0, 1) := dk_42 (dk_at dksX4_takesRow_0 22 rfl rfl)
theorem dX4_takesRow_23 : decode cX4_takesRow 23 = .ok (.getfield 45, 3) := dk_180 0 45 (dk_at dksX4_takesRow_1 0 rfl rfl)
theorem dX4_takesRow_26 : decode cX4_takesRow 26 = .ok (.iconst 0, 1) := dk_3 (dk_at dksX4_takesRow_1 3 rfl rfl)
theorem dX4_takesRow_27 : decode cX4_takesRow 27 = .ok (.iaload, 1) := dk_46 (dk_at dksX4_takesRow_1 4 rfl rfl)
theorem dX4_takesRow_28 : decode cX4_takesRow 28 = .ok (.if_icmp .lt 9, 3) := dk_161 0 9 (dk_at dksX4_takesRow_1 5 rfl rfl)
theorem dX4_takesRow_31 : decode cX4_takesRow 31 = .ok (.aload_n 0, 1) := dk_42 (dk_at dksX4_takesRow_1 8 rfl rfl)
theorem dX4_takesRow_32 : decode cX4_takesRow 32 = .ok (.iconst 2, 1) := dk_5 (dk_at dksX4_takesRow_1 9 rfl rfl)
theorem dX4_takesRow_33 : decode cX4_takesRow 33 = .ok (.invokevirtual 162, 3) := dk_182 0 162 (dk_at dksX4_takesRow_1 10 rfl rfl)
theorem dX4_takesRow_36 : decode cX4_takesRow 36 = .ok (.ireturn, 1) := dk_172 (dk_at dksX4_takesRow_1 13 rfl rfl)
theorem dX4_takesRow_37 : decode cX4_takesRow 37 = .ok (.iload_n 1, 1) := dk_27 (dk_at dksX4_takesRow_1 14 rfl rfl)
theorem dX4_takesRow_38 : decode cX4_takesRow 38 = .ok (.aload_n 0, 1) := dk_42 (dk_at dksX4_takesRow_1 15 rfl rfl)
theorem dX4_takesRow_39 : decode cX4_takesRow 39 = .ok (.getfield 146, 3) := dk_180 0 146 (dk_at dksX4_takesRow_1 16 rfl rfl)
theorem dX4_takesRow_42 : decode cX4_takesRow 42 = .ok (.invokestatic 222, 3) := dk_184 0 222 (dk_at dksX4_takesRow_1 19 rfl rfl)
theorem dX4_takesRow_45 : decode cX4_takesRow 45 = .ok (.ifCond .eq 9, 3) := dk_153 0 9 (dk_at dksX4_takesRow_2 0 rfl rfl)
theorem dX4_takesRow_48 : decode cX4_takesRow 48 = .ok (.aload_n 0, 1) := dk_42 (dk_at dksX4_takesRow_2 3 rfl rfl)
theorem dX4_takesRow_49 : decode cX4_takesRow 49 = .ok (.iconst 3, 1) := dk_6 (dk_at dksX4_takesRow_2 4 rfl rfl)
theorem dX4_takesRow_50 : decode cX4_takesRow 50 = .ok (.invokevirtual 162, 3) := dk_182 0 162 (dk_at dksX4_takesRow_2 5 rfl rfl)
theorem dX4_takesRow_53 : decode cX4_takesRow 53 = .ok (.ireturn, 1) := dk_172 (dk_at dksX4_takesRow_2 8 rfl rfl)
theorem dX4_takesRow_54 : decode cX4_takesRow 54 = .ok (.aload_n 0, 1) := dk_42 (dk_at dksX4_takesRow_2 9 rfl rfl)
theorem dX4_takesRow_55 : decode cX4_takesRow 55 = .ok (.aload_n 0, 1) := dk_42 (dk_at dksX4_takesRow_2 10 rfl rfl)
theorem dX4_takesRow_56 : decode cX4_takesRow 56 = .ok (.getfield 146, 3) := dk_180 0 146 (dk_at dksX4_takesRow_2 11 rfl rfl)
theorem dX4_takesRow_59 : decode cX4_takesRow 59 = .ok (.putfield 172, 3) := dk_181 0 172 (dk_at dksX4_takesRow_2 14 rfl rfl)
theorem dX4_takesRow_62 : decode cX4_takesRow 62 = .ok (.aload_n 0, 1) := dk_42 (dk_at dksX4_takesRow_2 17 rfl rfl)
theorem dX4_takesRow_63 : decode cX4_takesRow 63 = .ok (.invokevirtual 165, 3) := dk_182 0 165 (dk_at dksX4_takesRow_2 18 rfl rfl)
theorem dX4_takesRow_66 : decode cX4_takesRow 66 = .ok (.iconst 1, 1) := dk_4 (dk_at dksX4_takesRow_2 21 rfl rfl)
theorem dX4_takesRow_67 : decode cX4_takesRow 67 = .ok (.ireturn, 1) := dk_172 (dk_at dksX4_takesRow_2 22 rfl rfl)
def dkwX4_has_0 : List UInt8 := [26, 27, 122, 4, 126, 4, 160, 0, 7, 4, 167, 0, 4, 3, 172]
abbrev dktX4_has_0 : List UInt8 := dkwX4_has_0 ++ []
theorem dksX4_has_0 : cX4_has.data.toList.drop 0 = dktX4_has_0 := by decide +kernel
theorem dX4_has_0 : decode cX4_has 0 = .ok (.iload_n 0, 1) := dk_26 (dk_at dksX4_has_0 0 rfl rfl)
theorem dX4_has_1 : decode cX4_has 1 = .ok (.iload_n 1, 1) := dk_27 (dk_at dksX4_has_0 1 rfl rfl)
theorem dX4_has_2 : decode cX4_has 2 = .ok (.ishr, 1) := dk_122 (dk_at dksX4_has_0 2 rfl rfl)
theorem dX4_has_3 : decode cX4_has 3 = .ok (.iconst 1, 1) := dk_4 (dk_at dksX4_has_0 3 rfl rfl)
theorem dX4_has_4 : decode cX4_has 4 = .ok (.iand, 1) := dk_126 (dk_at dksX4_has_0 4 rfl rfl)
theorem dX4_has_5 : decode cX4_has 5 = .ok (.iconst 1, 1) := dk_4 (dk_at dksX4_has_0 5 rfl rfl)
theorem dX4_has_6 : decode cX4_has 6 = .ok (.if_icmp .ne 7, 3) := dk_160 0 7 (dk_at dksX4_has_0 6 rfl rfl)
theorem dX4_has_9 : decode cX4_has 9 = .ok (.iconst 1, 1) := dk_4 (dk_at dksX4_has_0 9 rfl rfl)
theorem dX4_has_10 : decode cX4_has 10 = .ok (.goto 4, 3) := dk_167 0 4 (dk_at dksX4_has_0 10 rfl rfl)
theorem dX4_has_13 : decode cX4_has 13 = .ok (.iconst 0, 1) := dk_3 (dk_at dksX4_has_0 13 rfl rfl)
theorem dX4_has_14 : decode cX4_has 14 = .ok (.ireturn, 1) := dk_172 (dk_at dksX4_has_0 14 rfl rfl)
def dkwX4_once_2 : List UInt8 := [180, 0, 45, 28, 42, 180, 0, 172, 79, 4, 172]
abbrev dktX4_once_2 : List UInt8 := dkwX4_once_2 ++ []
def dkwX4_once_1 : List UInt8 := [120, 128, 181, 0, 219, 42, 182, 0, 165, 42, 29, 21, 4, 182, 0, 200, 154, 0, 5, 3, 172, 42]
abbrev dktX4_once_1 : List UInt8 := dkwX4_once_1 ++ dktX4_once_2
def dkwX4_once_0 : List UInt8 := [42, 180, 0, 219, 27, 184, 0, 222, 153, 0, 9, 42, 6, 182, 0, 162, 172, 42, 89, 180, 0, 219, 4, 27]
abbrev dktX4_once_0 : List UInt8 := dkwX4_once_0 ++ dktX4_once_1
theorem dksX4_once_0 : cX4_once.data.toList.drop 0 = dktX4_once_0 := by decide +kernel
theorem dksX4_once_1 : cX4_once.data.toList.drop 24 = dktX4_once_1 := dk_seg dksX4_once_0 24 rfl rfl
theorem dksX4_once_2 : cX4_once.data.toList.drop 46 = dktX4_once_2 := dk_seg dksX4_once_1 22 rfl rfl
theorem dX4_once_0 : decode cX4_once 0 = .ok (.aload_n 0, 1) := dk_42 (dk_at dksX4_once_0 0 rfl rfl)
theorem dX4_once_1 : decode cX4_once 1 = .ok (.getfield 219, 3) := dk_180 0 219 (dk_at dksX4_once_0 1 rfl rfl)
theorem dX4_once_4 : decode cX4_once 4 = .ok (.iload_n 1, 1) := dk_27 (dk_at dksX4_once_0 4 rfl rfl)
theorem dX4_once_5 : decode cX4_once 5 = .ok (.invokestatic 222, 3) := dk_184 0 222 (dk_at dksX4_once_0 5 rfl rfl)
theorem dX4_once_8 : decode cX4_once 8 = .ok (.ifCond .eq 9, 3) := dk_153 0 9 (dk_at dksX4_once_0 8 rfl rfl)
theorem dX4_once_11 : decode cX4_once 11 = .ok (.aload_n 0, 1) := dk_42 (dk_at dksX4_once_0 11 rfl rfl)
theorem dX4_once_12 : decode cX4_once 12 = .ok (.iconst 3, 1) := dk_6 (dk_at dksX4_once_0 12 rfl rfl)
theorem dX4_once_13 : decode cX4_once 13 = .ok (.invokevirtual 162, 3) := dk_182 0 162 (dk_at dksX4_once_0 13 rfl rfl)
theorem dX4_once_16 : decode cX4_once 16 = .ok (.ireturn, 1) := dk_172 (dk_at dksX4_once_0 16 rfl rfl)
theorem dX4_once_17 : decode cX4_once 17 = .ok (.aload_n 0, 1) := dk_42 (dk_at dksX4_once_0 17 rfl rfl)
theorem dX4_once_18 : decode cX4_once 18 = .ok (.dup, 1) := dk_89 (dk_at dksX4_once_0 18 rfl rfl)
theorem dX4_once_19 : decode cX4_once 19 = .ok (.getfield 219, 3) := dk_180 0 219 (dk_at dksX4_once_0 19 rfl rfl)
theorem dX4_once_22 : decode cX4_once 22 = .ok (.iconst 1, 1) := dk_4 (dk_at dksX4_once_0 22 rfl rfl)
theorem dX4_once_23 : decode cX4_once 23 = .ok (.iload_n 1, 1) := dk_27 (dk_at dksX4_once_0 23 rfl rfl)
theorem dX4_once_24 : decode cX4_once 24 = .ok (.ishl, 1) := dk_120 (dk_at dksX4_once_1 0 rfl rfl)
theorem dX4_once_25 : decode cX4_once 25 = .ok (.ior, 1) := dk_128 (dk_at dksX4_once_1 1 rfl rfl)
theorem dX4_once_26 : decode cX4_once 26 = .ok (.putfield 219, 3) := dk_181 0 219 (dk_at dksX4_once_1 2 rfl rfl)
theorem dX4_once_29 : decode cX4_once 29 = .ok (.aload_n 0, 1) := dk_42 (dk_at dksX4_once_1 5 rfl rfl)
theorem dX4_once_30 : decode cX4_once 30 = .ok (.invokevirtual 165, 3) := dk_182 0 165 (dk_at dksX4_once_1 6 rfl rfl)
theorem dX4_once_33 : decode cX4_once 33 = .ok (.aload_n 0, 1) := dk_42 (dk_at dksX4_once_1 9 rfl rfl)
theorem dX4_once_34 : decode cX4_once 34 = .ok (.iload_n 3, 1) := dk_29 (dk_at dksX4_once_1 10 rfl rfl)
theorem dX4_once_35 : decode cX4_once 35 = .ok (.iload 4, 2) := dk_21 4 (dk_at dksX4_once_1 11 rfl rfl)
theorem dX4_once_37 : decode cX4_once 37 = .ok (.invokevirtual 200, 3) := dk_182 0 200 (dk_at dksX4_once_1 13 rfl rfl)
theorem dX4_once_40 : decode cX4_once 40 = .ok (.ifCond .ne 5, 3) := dk_154 0 5 (dk_at dksX4_once_1 16 rfl rfl)
theorem dX4_once_43 : decode cX4_once 43 = .ok (.iconst 0, 1) := dk_3 (dk_at dksX4_once_1 19 rfl rfl)
theorem dX4_once_44 : decode cX4_once 44 = .ok (.ireturn, 1) := dk_172 (dk_at dksX4_once_1 20 rfl rfl)
theorem dX4_once_45 : decode cX4_once 45 = .ok (.aload_n 0, 1) := dk_42 (dk_at dksX4_once_1 21 rfl rfl)
theorem dX4_once_46 : decode cX4_once 46 = .ok (.getfield 45, 3) := dk_180 0 45 (dk_at dksX4_once_2 0 rfl rfl)
theorem dX4_once_49 : decode cX4_once 49 = .ok (.iload_n 2, 1) := dk_28 (dk_at dksX4_once_2 3 rfl rfl)
theorem dX4_once_50 : decode cX4_once 50 = .ok (.aload_n 0, 1) := dk_42 (dk_at dksX4_once_2 4 rfl rfl)
theorem dX4_once_51 : decode cX4_once 51 = .ok (.getfield 172, 3) := dk_180 0 172 (dk_at dksX4_once_2 5 rfl rfl)
theorem dX4_once_54 : decode cX4_once 54 = .ok (.iastore, 1) := dk_79 (dk_at dksX4_once_2 8 rfl rfl)
theorem dX4_once_55 : decode cX4_once 55 = .ok (.iconst 1, 1) := dk_4 (dk_at dksX4_once_2 9 rfl rfl)
theorem dX4_once_56 : decode cX4_once 56 = .ok (.ireturn, 1) := dk_172 (dk_at dksX4_once_2 10 rfl rfl)
def dkwX4_sign_0 : List UInt8 := [42, 27, 182, 0, 159, 154, 0, 9, 42, 4, 182, 0, 162, 172, 42, 182, 0, 165, 4, 172]
abbrev dktX4_sign_0 : List UInt8 := dkwX4_sign_0 ++ []
theorem dksX4_sign_0 : cX4_sign.data.toList.drop 0 = dktX4_sign_0 := by decide +kernel
theorem dX4_sign_0 : decode cX4_sign 0 = .ok (.aload_n 0, 1) := dk_42 (dk_at dksX4_sign_0 0 rfl rfl)
theorem dX4_sign_1 : decode cX4_sign 1 = .ok (.iload_n 1, 1) := dk_27 (dk_at dksX4_sign_0 1 rfl rfl)
theorem dX4_sign_2 : decode cX4_sign 2 = .ok (.invokevirtual 159, 3) := dk_182 0 159 (dk_at dksX4_sign_0 2 rfl rfl)
theorem dX4_sign_5 : decode cX4_sign 5 = .ok (.ifCond .ne 9, 3) := dk_154 0 9 (dk_at dksX4_sign_0 5 rfl rfl)
theorem dX4_sign_8 : decode cX4_sign 8 = .ok (.aload_n 0, 1) := dk_42 (dk_at dksX4_sign_0 8 rfl rfl)
theorem dX4_sign_9 : decode cX4_sign 9 = .ok (.iconst 1, 1) := dk_4 (dk_at dksX4_sign_0 9 rfl rfl)
theorem dX4_sign_10 : decode cX4_sign 10 = .ok (.invokevirtual 162, 3) := dk_182 0 162 (dk_at dksX4_sign_0 10 rfl rfl)
theorem dX4_sign_13 : decode cX4_sign 13 = .ok (.ireturn, 1) := dk_172 (dk_at dksX4_sign_0 13 rfl rfl)
theorem dX4_sign_14 : decode cX4_sign 14 = .ok (.aload_n 0, 1) := dk_42 (dk_at dksX4_sign_0 14 rfl rfl)
theorem dX4_sign_15 : decode cX4_sign 15 = .ok (.invokevirtual 165, 3) := dk_182 0 165 (dk_at dksX4_sign_0 15 rfl rfl)
theorem dX4_sign_18 : decode cX4_sign 18 = .ok (.iconst 1, 1) := dk_4 (dk_at dksX4_sign_0 18 rfl rfl)
theorem dX4_sign_19 : decode cX4_sign 19 = .ok (.ireturn, 1) := dk_172 (dk_at dksX4_sign_0 19 rfl rfl)
def dkwX4_fault_0 : List UInt8 := [42, 3, 181, 0, 1, 42, 180, 0, 153, 172]
abbrev dktX4_fault_0 : List UInt8 := dkwX4_fault_0 ++ []
theorem dksX4_fault_0 : cX4_fault.data.toList.drop 0 = dktX4_fault_0 := by decide +kernel
theorem dX4_fault_0 : decode cX4_fault 0 = .ok (.aload_n 0, 1) := dk_42 (dk_at dksX4_fault_0 0 rfl rfl)
theorem dX4_fault_1 : decode cX4_fault 1 = .ok (.iconst 0, 1) := dk_3 (dk_at dksX4_fault_0 1 rfl rfl)
theorem dX4_fault_2 : decode cX4_fault 2 = .ok (.putfield 1, 3) := dk_181 0 1 (dk_at dksX4_fault_0 2 rfl rfl)
theorem dX4_fault_5 : decode cX4_fault 5 = .ok (.aload_n 0, 1) := dk_42 (dk_at dksX4_fault_0 5 rfl rfl)
theorem dX4_fault_6 : decode cX4_fault 6 = .ok (.getfield 153, 3) := dk_180 0 153 (dk_at dksX4_fault_0 6 rfl rfl)
theorem dX4_fault_9 : decode cX4_fault 9 = .ok (.ireturn, 1) := dk_172 (dk_at dksX4_fault_0 9 rfl rfl)
def dkwX4_seat_5 : List UInt8 := [4, 167, 0, 4, 3, 172, 42, 180, 1, 46, 27, 184, 1, 68, 153, 0, 7, 4, 167, 0, 4, 3, 172]
abbrev dktX4_seat_5 : List UInt8 := dkwX4_seat_5 ++ []
def dkwX4_seat_4 : List UInt8 := [27, 42, 180, 0, 41, 4, 46, 108, 96, 46, 4, 100, 172, 42, 180, 1, 43, 27, 184, 1, 68, 153, 0, 7]
abbrev dktX4_seat_4 : List UInt8 := dkwX4_seat_4 ++ dktX4_seat_5
def dkwX4_seat_3 : List UInt8 := [42, 180, 0, 41, 16, 6, 27, 96, 46, 4, 100, 172, 42, 27, 182, 1, 65, 172, 42, 180, 0, 41, 16, 78]
abbrev dktX4_seat_3 : List UInt8 := dkwX4_seat_3 ++ dktX4_seat_4
def dkwX4_seat_2 : List UInt8 := [170, 0, 0, 0, 0, 0, 0, 86, 0, 0, 0, 0, 0, 0, 0, 3, 0, 0, 0, 32, 0, 0, 0, 44, 0, 0, 0, 50, 0, 0, 0, 69]
abbrev dktX4_seat_2 : List UInt8 := dkwX4_seat_2 ++ dktX4_seat_3
def dkwX4_seat_1 : List UInt8 := [182, 1, 61, 153, 0, 5, 3, 172, 28]
abbrev dktX4_seat_1 : List UInt8 := dkwX4_seat_1 ++ dktX4_seat_2
def dkwX4_seat_0 : List UInt8 := [42, 42, 27, 182, 1, 58, 153, 0, 12, 28, 3, 7, 184, 0, 168, 154, 0, 7, 4, 167, 0, 4, 3]
abbrev dktX4_seat_0 : List UInt8 := dkwX4_seat_0 ++ dktX4_seat_1
theorem dksX4_seat_0 : cX4_seat.data.toList.drop 0 = dktX4_seat_0 := by decide +kernel
theorem dksX4_seat_1 : cX4_seat.data.toList.drop 23 = dktX4_seat_1 := dk_seg dksX4_seat_0 23 rfl rfl
theorem dksX4_seat_2 : cX4_seat.data.toList.drop 32 = dktX4_seat_2 := dk_seg dksX4_seat_1 9 rfl rfl
theorem dksX4_seat_3 : cX4_seat.data.toList.drop 64 = dktX4_seat_3 := dk_seg dksX4_seat_2 32 rfl rfl
theorem dksX4_seat_4 : cX4_seat.data.toList.drop 88 = dktX4_seat_4 := dk_seg dksX4_seat_3 24 rfl rfl
theorem dksX4_seat_5 : cX4_seat.data.toList.drop 112 = dktX4_seat_5 := dk_seg dksX4_seat_4 24 rfl rfl
theorem dX4_seat_0 : decode cX4_seat 0 = .ok (.aload_n 0, 1) := dk_42 (dk_at dksX4_seat_0 0 rfl rfl)
theorem dX4_seat_1 : decode cX4_seat 1 = .ok (.aload_n 0, 1) := dk_42 (dk_at dksX4_seat_0 1 rfl rfl)
theorem dX4_seat_2 : decode cX4_seat 2 = .ok (.iload_n 1, 1) := dk_27 (dk_at dksX4_seat_0 2 rfl rfl)
theorem dX4_seat_3 : decode cX4_seat 3 = .ok (.invokevirtual 314, 3) := dk_182 1 58 (dk_at dksX4_seat_0 3 rfl rfl)
theorem dX4_seat_6 : decode cX4_seat 6 = .ok (.ifCond .eq 12, 3) := dk_153 0 12 (dk_at dksX4_seat_0 6 rfl rfl)
theorem dX4_seat_9 : decode cX4_seat 9 = .ok (.iload_n 2, 1) := dk_28 (dk_at dksX4_seat_0 9 rfl rfl)
theorem dX4_seat_10 : decode cX4_seat 10 = .ok (.iconst 0, 1) := dk_3 (dk_at dksX4_seat_0 10 rfl rfl)
theorem dX4_seat_11 : decode cX4_seat 11 = .ok (.iconst 4, 1) := dk_7 (dk_at dksX4_seat_0 11 rfl rfl)
theorem dX4_seat_12 : decode cX4_seat 12 = .ok (.invokestatic 168, 3) := dk_184 0 168 (dk_at dksX4_seat_0 12 rfl rfl)
theorem dX4_seat_15 : decode cX4_seat 15 = .ok (.ifCond .ne 7, 3) := dk_154 0 7 (dk_at dksX4_seat_0 15 rfl rfl)
theorem dX4_seat_18 : decode cX4_seat 18 = .ok (.iconst 1, 1) := dk_4 (dk_at dksX4_seat_0 18 rfl rfl)
theorem dX4_seat_19 : decode cX4_seat 19 = .ok (.goto 4, 3) := dk_167 0 4 (dk_at dksX4_seat_0 19 rfl rfl)
theorem dX4_seat_22 : decode cX4_seat 22 = .ok (.iconst 0, 1) := dk_3 (dk_at dksX4_seat_0 22 rfl rfl)
theorem dX4_seat_23 : decode cX4_seat 23 = .ok (.invokevirtual 317, 3) := dk_182 1 61 (dk_at dksX4_seat_1 0 rfl rfl)
theorem dX4_seat_26 : decode cX4_seat 26 = .ok (.ifCond .eq 5, 3) := dk_153 0 5 (dk_at dksX4_seat_1 3 rfl rfl)
theorem dX4_seat_29 : decode cX4_seat 29 = .ok (.iconst 0, 1) := dk_3 (dk_at dksX4_seat_1 6 rfl rfl)
theorem dX4_seat_30 : decode cX4_seat 30 = .ok (.ireturn, 1) := dk_172 (dk_at dksX4_seat_1 7 rfl rfl)
theorem dX4_seat_31 : decode cX4_seat 31 = .ok (.iload_n 2, 1) := dk_28 (dk_at dksX4_seat_1 8 rfl rfl)
theorem dX4_seat_32 : decode cX4_seat 32 = .ok (.tableswitch 86 0 3 #[32, 44, 50, 69], 32) := by decide +kernel
theorem dX4_seat_64 : decode cX4_seat 64 = .ok (.aload_n 0, 1) := dk_42 (dk_at dksX4_seat_3 0 rfl rfl)
theorem dX4_seat_65 : decode cX4_seat 65 = .ok (.getfield 41, 3) := dk_180 0 41 (dk_at dksX4_seat_3 1 rfl rfl)
theorem dX4_seat_68 : decode cX4_seat 68 = .ok (.bipush 6, 2) := dk_16 6 (dk_at dksX4_seat_3 4 rfl rfl)
theorem dX4_seat_70 : decode cX4_seat 70 = .ok (.iload_n 1, 1) := dk_27 (dk_at dksX4_seat_3 6 rfl rfl)
theorem dX4_seat_71 : decode cX4_seat 71 = .ok (.iadd, 1) := dk_96 (dk_at dksX4_seat_3 7 rfl rfl)
theorem dX4_seat_72 : decode cX4_seat 72 = .ok (.iaload, 1) := dk_46 (dk_at dksX4_seat_3 8 rfl rfl)
theorem dX4_seat_73 : decode cX4_seat 73 = .ok (.iconst 1, 1) := dk_4 (dk_at dksX4_seat_3 9 rfl rfl)
theorem dX4_seat_74 : decode cX4_seat 74 = .ok (.isub, 1) := dk_100 (dk_at dksX4_seat_3 10 rfl rfl)
theorem dX4_seat_75 : decode cX4_seat 75 = .ok (.ireturn, 1) := dk_172 (dk_at dksX4_seat_3 11 rfl rfl)
theorem dX4_seat_76 : decode cX4_seat 76 = .ok (.aload_n 0, 1) := dk_42 (dk_at dksX4_seat_3 12 rfl rfl)
theorem dX4_seat_77 : decode cX4_seat 77 = .ok (.iload_n 1, 1) := dk_27 (dk_at dksX4_seat_3 13 rfl rfl)
theorem dX4_seat_78 : decode cX4_seat 78 = .ok (.invokevirtual 321, 3) := dk_182 1 65 (dk_at dksX4_seat_3 14 rfl rfl)
theorem dX4_seat_81 : decode cX4_seat 81 = .ok (.ireturn, 1) := dk_172 (dk_at dksX4_seat_3 17 rfl rfl)
theorem dX4_seat_82 : decode cX4_seat 82 = .ok (.aload_n 0, 1) := dk_42 (dk_at dksX4_seat_3 18 rfl rfl)
theorem dX4_seat_83 : decode cX4_seat 83 = .ok (.getfield 41, 3) := dk_180 0 41 (dk_at dksX4_seat_3 19 rfl rfl)
theorem dX4_seat_86 : decode cX4_seat 86 = .ok (.bipush 78, 2) := dk_16 78 (dk_at dksX4_seat_3 22 rfl rfl)
theorem dX4_seat_88 : decode cX4_seat 88 = .ok (.iload_n 1, 1) := dk_27 (dk_at dksX4_seat_4 0 rfl rfl)
theorem dX4_seat_89 : decode cX4_seat 89 = .ok (.aload_n 0, 1) := dk_42 (dk_at dksX4_seat_4 1 rfl rfl)
theorem dX4_seat_90 : decode cX4_seat 90 = .ok (.getfield 41, 3) := dk_180 0 41 (dk_at dksX4_seat_4 2 rfl rfl)
theorem dX4_seat_93 : decode cX4_seat 93 = .ok (.iconst 1, 1) := dk_4 (dk_at dksX4_seat_4 5 rfl rfl)
theorem dX4_seat_94 : decode cX4_seat 94 = .ok (.iaload, 1) := dk_46 (dk_at dksX4_seat_4 6 rfl rfl)
theorem dX4_seat_95 : decode cX4_seat 95 = .ok (.idiv, 1) := dk_108 (dk_at dksX4_seat_4 7 rfl rfl)
theorem dX4_seat_96 : decode cX4_seat 96 = .ok (.iadd, 1) := dk_96 (dk_at dksX4_seat_4 8 rfl rfl)
theorem dX4_seat_97 : decode cX4_seat 97 = .ok (.iaload, 1) := dk_46 (dk_at dksX4_seat_4 9 rfl rfl)
theorem dX4_seat_98 : decode cX4_seat 98 = .ok (.iconst 1, 1) := dk_4 (dk_at dksX4_seat_4 10 rfl rfl)
theorem dX4_seat_99 : decode cX4_seat 99 = .ok (.isub, 1) := dk_100 (dk_at dksX4_seat_4 11 rfl rfl)
theorem dX4_seat_100 : decode cX4_seat 100 = .ok (.ireturn, 1) := dk_172 (dk_at dksX4_seat_4 12 rfl rfl)
theorem dX4_seat_101 : decode cX4_seat 101 = .ok (.aload_n 0, 1) := dk_42 (dk_at dksX4_seat_4 13 rfl rfl)
theorem dX4_seat_102 : decode cX4_seat 102 = .ok (.getfield 299, 3) := dk_180 1 43 (dk_at dksX4_seat_4 14 rfl rfl)
theorem dX4_seat_105 : decode cX4_seat 105 = .ok (.iload_n 1, 1) := dk_27 (dk_at dksX4_seat_4 17 rfl rfl)
theorem dX4_seat_106 : decode cX4_seat 106 = .ok (.invokestatic 324, 3) := dk_184 1 68 (dk_at dksX4_seat_4 18 rfl rfl)
theorem dX4_seat_109 : decode cX4_seat 109 = .ok (.ifCond .eq 7, 3) := dk_153 0 7 (dk_at dksX4_seat_4 21 rfl rfl)
theorem dX4_seat_112 : decode cX4_seat 112 = .ok (.iconst 1, 1) := dk_4 (dk_at dksX4_seat_5 0 rfl rfl)
theorem dX4_seat_113 : decode cX4_seat 113 = .ok (.goto 4, 3) := dk_167 0 4 (dk_at dksX4_seat_5 1 rfl rfl)
theorem dX4_seat_116 : decode cX4_seat 116 = .ok (.iconst 0, 1) := dk_3 (dk_at dksX4_seat_5 4 rfl rfl)
theorem dX4_seat_117 : decode cX4_seat 117 = .ok (.ireturn, 1) := dk_172 (dk_at dksX4_seat_5 5 rfl rfl)
theorem dX4_seat_118 : decode cX4_seat 118 = .ok (.aload_n 0, 1) := dk_42 (dk_at dksX4_seat_5 6 rfl rfl)
theorem dX4_seat_119 : decode cX4_seat 119 = .ok (.getfield 302, 3) := dk_180 1 46 (dk_at dksX4_seat_5 7 rfl rfl)
theorem dX4_seat_122 : decode cX4_seat 122 = .ok (.iload_n 1, 1) := dk_27 (dk_at dksX4_seat_5 10 rfl rfl)
theorem dX4_seat_123 : decode cX4_seat 123 = .ok (.invokestatic 324, 3) := dk_184 1 68 (dk_at dksX4_seat_5 11 rfl rfl)
theorem dX4_seat_126 : decode cX4_seat 126 = .ok (.ifCond .eq 7, 3) := dk_153 0 7 (dk_at dksX4_seat_5 14 rfl rfl)
theorem dX4_seat_129 : decode cX4_seat 129 = .ok (.iconst 1, 1) := dk_4 (dk_at dksX4_seat_5 17 rfl rfl)
theorem dX4_seat_130 : decode cX4_seat 130 = .ok (.goto 4, 3) := dk_167 0 4 (dk_at dksX4_seat_5 18 rfl rfl)
theorem dX4_seat_133 : decode cX4_seat 133 = .ok (.iconst 0, 1) := dk_3 (dk_at dksX4_seat_5 21 rfl rfl)
theorem dX4_seat_134 : decode cX4_seat 134 = .ok (.ireturn, 1) := dk_172 (dk_at dksX4_seat_5 22 rfl rfl)
def dkwX4_isSeat_1 : List UInt8 := [180, 0, 41, 16, 6, 27, 96, 46, 158, 0, 7, 4, 167, 0, 4, 3, 172]
abbrev dktX4_isSeat_1 : List UInt8 := dkwX4_isSeat_1 ++ []
def dkwX4_isSeat_0 : List UInt8 := [27, 3, 42, 180, 0, 41, 3, 46, 42, 180, 0, 41, 4, 46, 104, 4, 100, 184, 0, 168, 153, 0, 19, 42]
abbrev dktX4_isSeat_0 : List UInt8 := dkwX4_isSeat_0 ++ dktX4_isSeat_1
theorem dksX4_isSeat_0 : cX4_isSeat.data.toList.drop 0 = dktX4_isSeat_0 := by decide +kernel
theorem dksX4_isSeat_1 : cX4_isSeat.data.toList.drop 24 = dktX4_isSeat_1 := dk_seg dksX4_isSeat_0 24 rfl rfl
theorem dX4_isSeat_0 : decode cX4_isSeat 0 = .ok (.iload_n 1, 1) := dk_27 (dk_at dksX4_isSeat_0 0 rfl rfl)
theorem dX4_isSeat_1 : decode cX4_isSeat 1 = .ok (.iconst 0, 1) := dk_3 (dk_at dksX4_isSeat_0 1 rfl rfl)
theorem dX4_isSeat_2 : decode cX4_isSeat 2 = .ok (.aload_n 0, 1) := dk_42 (dk_at dksX4_isSeat_0 2 rfl rfl)
theorem dX4_isSeat_3 : decode cX4_isSeat 3 = .ok (.getfield 41, 3) := dk_180 0 41 (dk_at dksX4_isSeat_0 3 rfl rfl)
theorem dX4_isSeat_6 : decode cX4_isSeat 6 = .ok (.iconst 0, 1) := dk_3 (dk_at dksX4_isSeat_0 6 rfl rfl)
theorem dX4_isSeat_7 : decode cX4_isSeat 7 = .ok (.iaload, 1) := dk_46 (dk_at dksX4_isSeat_0 7 rfl rfl)
theorem dX4_isSeat_8 : decode cX4_isSeat 8 = .ok (.aload_n 0, 1) := dk_42 (dk_at dksX4_isSeat_0 8 rfl rfl)
theorem dX4_isSeat_9 : decode cX4_isSeat 9 = .ok (.getfield 41, 3) := dk_180 0 41 (dk_at dksX4_isSeat_0 9 rfl rfl)
theorem dX4_isSeat_12 : decode cX4_isSeat 12 = .ok (.iconst 1, 1) := dk_4 (dk_at dksX4_isSeat_0 12 rfl rfl)
theorem dX4_isSeat_13 : decode cX4_isSeat 13 = .ok (.iaload, 1) := dk_46 (dk_at dksX4_isSeat_0 13 rfl rfl)
theorem dX4_isSeat_14 : decode cX4_isSeat 14 = .ok (.imul, 1) := dk_104 (dk_at dksX4_isSeat_0 14 rfl rfl)
theorem dX4_isSeat_15 : decode cX4_isSeat 15 = .ok (.iconst 1, 1) := dk_4 (dk_at dksX4_isSeat_0 15 rfl rfl)
theorem dX4_isSeat_16 : decode cX4_isSeat 16 = .ok (.isub, 1) := dk_100 (dk_at dksX4_isSeat_0 16 rfl rfl)
theorem dX4_isSeat_17 : decode cX4_isSeat 17 = .ok (.invokestatic 168, 3) := dk_184 0 168 (dk_at dksX4_isSeat_0 17 rfl rfl)
theorem dX4_isSeat_20 : decode cX4_isSeat 20 = .ok (.ifCond .eq 19, 3) := dk_153 0 19 (dk_at dksX4_isSeat_0 20 rfl rfl)
theorem dX4_isSeat_23 : decode cX4_isSeat 23 = .ok (.aload_n 0, 1) := dk_42 (dk_at dksX4_isSeat_0 23 rfl rfl)
theorem dX4_isSeat_24 : decode cX4_isSeat 24 = .ok (.getfield 41, 3) := dk_180 0 41 (dk_at dksX4_isSeat_1 0 rfl rfl)
theorem dX4_isSeat_27 : decode cX4_isSeat 27 = .ok (.bipush 6, 2) := dk_16 6 (dk_at dksX4_isSeat_1 3 rfl rfl)
theorem dX4_isSeat_29 : decode cX4_isSeat 29 = .ok (.iload_n 1, 1) := dk_27 (dk_at dksX4_isSeat_1 5 rfl rfl)
theorem dX4_isSeat_30 : decode cX4_isSeat 30 = .ok (.iadd, 1) := dk_96 (dk_at dksX4_isSeat_1 6 rfl rfl)
theorem dX4_isSeat_31 : decode cX4_isSeat 31 = .ok (.iaload, 1) := dk_46 (dk_at dksX4_isSeat_1 7 rfl rfl)
theorem dX4_isSeat_32 : decode cX4_isSeat 32 = .ok (.ifCond .le 7, 3) := dk_158 0 7 (dk_at dksX4_isSeat_1 8 rfl rfl)
theorem dX4_isSeat_35 : decode cX4_isSeat 35 = .ok (.iconst 1, 1) := dk_4 (dk_at dksX4_isSeat_1 11 rfl rfl)
theorem dX4_isSeat_36 : decode cX4_isSeat 36 = .ok (.goto 4, 3) := dk_167 0 4 (dk_at dksX4_isSeat_1 12 rfl rfl)
theorem dX4_isSeat_39 : decode cX4_isSeat 39 = .ok (.iconst 0, 1) := dk_3 (dk_at dksX4_isSeat_1 15 rfl rfl)
theorem dX4_isSeat_40 : decode cX4_isSeat 40 = .ok (.ireturn, 1) := dk_172 (dk_at dksX4_isSeat_1 16 rfl rfl)
def dkwX4_throwsIf_0 : List UInt8 := [42, 27, 153, 0, 7, 4, 167, 0, 4, 3, 181, 0, 1, 27, 172]
abbrev dktX4_throwsIf_0 : List UInt8 := dkwX4_throwsIf_0 ++ []
theorem dksX4_throwsIf_0 : cX4_throwsIf.data.toList.drop 0 = dktX4_throwsIf_0 := by decide +kernel
theorem dX4_throwsIf_0 : decode cX4_throwsIf 0 = .ok (.aload_n 0, 1) := dk_42 (dk_at dksX4_throwsIf_0 0 rfl rfl)
theorem dX4_throwsIf_1 : decode cX4_throwsIf 1 = .ok (.iload_n 1, 1) := dk_27 (dk_at dksX4_throwsIf_0 1 rfl rfl)
theorem dX4_throwsIf_2 : decode cX4_throwsIf 2 = .ok (.ifCond .eq 7, 3) := dk_153 0 7 (dk_at dksX4_throwsIf_0 2 rfl rfl)
theorem dX4_throwsIf_5 : decode cX4_throwsIf 5 = .ok (.iconst 1, 1) := dk_4 (dk_at dksX4_throwsIf_0 5 rfl rfl)
theorem dX4_throwsIf_6 : decode cX4_throwsIf 6 = .ok (.goto 4, 3) := dk_167 0 4 (dk_at dksX4_throwsIf_0 6 rfl rfl)
theorem dX4_throwsIf_9 : decode cX4_throwsIf 9 = .ok (.iconst 0, 1) := dk_3 (dk_at dksX4_throwsIf_0 9 rfl rfl)
theorem dX4_throwsIf_10 : decode cX4_throwsIf 10 = .ok (.putfield 1, 3) := dk_181 0 1 (dk_at dksX4_throwsIf_0 10 rfl rfl)
theorem dX4_throwsIf_13 : decode cX4_throwsIf 13 = .ok (.iload_n 1, 1) := dk_27 (dk_at dksX4_throwsIf_0 13 rfl rfl)
theorem dX4_throwsIf_14 : decode cX4_throwsIf 14 = .ok (.ireturn, 1) := dk_172 (dk_at dksX4_throwsIf_0 14 rfl rfl)
def dkwX4_price_0 : List UInt8 := [42, 180, 0, 41, 16, 70, 27, 42, 180, 0, 41, 4, 46, 108, 96, 46, 172]
abbrev dktX4_price_0 : List UInt8 := dkwX4_price_0 ++ []
theorem dksX4_price_0 : cX4_price.data.toList.drop 0 = dktX4_price_0 := by decide +kernel
theorem dX4_price_0 : decode cX4_price 0 = .ok (.aload_n 0, 1) := dk_42 (dk_at dksX4_price_0 0 rfl rfl)
theorem dX4_price_1 : decode cX4_price 1 = .ok (.getfield 41, 3) := dk_180 0 41 (dk_at dksX4_price_0 1 rfl rfl)
theorem dX4_price_4 : decode cX4_price 4 = .ok (.bipush 70, 2) := dk_16 70 (dk_at dksX4_price_0 4 rfl rfl)
theorem dX4_price_6 : decode cX4_price 6 = .ok (.iload_n 1, 1) := dk_27 (dk_at dksX4_price_0 6 rfl rfl)
theorem dX4_price_7 : decode cX4_price 7 = .ok (.aload_n 0, 1) := dk_42 (dk_at dksX4_price_0 7 rfl rfl)
theorem dX4_price_8 : decode cX4_price 8 = .ok (.getfield 41, 3) := dk_180 0 41 (dk_at dksX4_price_0 8 rfl rfl)
theorem dX4_price_11 : decode cX4_price 11 = .ok (.iconst 1, 1) := dk_4 (dk_at dksX4_price_0 11 rfl rfl)
theorem dX4_price_12 : decode cX4_price 12 = .ok (.iaload, 1) := dk_46 (dk_at dksX4_price_0 12 rfl rfl)
theorem dX4_price_13 : decode cX4_price 13 = .ok (.idiv, 1) := dk_108 (dk_at dksX4_price_0 13 rfl rfl)
theorem dX4_price_14 : decode cX4_price 14 = .ok (.iadd, 1) := dk_96 (dk_at dksX4_price_0 14 rfl rfl)
theorem dX4_price_15 : decode cX4_price 15 = .ok (.iaload, 1) := dk_46 (dk_at dksX4_price_0 15 rfl rfl)
theorem dX4_price_16 : decode cX4_price 16 = .ok (.ireturn, 1) := dk_172 (dk_at dksX4_price_0 16 rfl rfl)
def dkwX4_holds_0 : List UInt8 := [30, 28, 123, 10, 127, 10, 148, 154, 0, 7, 4, 167, 0, 4, 3, 172]
abbrev dktX4_holds_0 : List UInt8 := dkwX4_holds_0 ++ []
theorem dksX4_holds_0 : cX4_holds.data.toList.drop 0 = dktX4_holds_0 := by decide +kernel
theorem dX4_holds_0 : decode cX4_holds 0 = .ok (.lload_n 0, 1) := dk_30 (dk_at dksX4_holds_0 0 rfl rfl)
theorem dX4_holds_1 : decode cX4_holds 1 = .ok (.iload_n 2, 1) := dk_28 (dk_at dksX4_holds_0 1 rfl rfl)
theorem dX4_holds_2 : decode cX4_holds 2 = .ok (.lshr, 1) := dk_123 (dk_at dksX4_holds_0 2 rfl rfl)
theorem dX4_holds_3 : decode cX4_holds 3 = .ok (.lconst 1, 1) := dk_10 (dk_at dksX4_holds_0 3 rfl rfl)
theorem dX4_holds_4 : decode cX4_holds 4 = .ok (.land, 1) := dk_127 (dk_at dksX4_holds_0 4 rfl rfl)
theorem dX4_holds_5 : decode cX4_holds 5 = .ok (.lconst 1, 1) := dk_10 (dk_at dksX4_holds_0 5 rfl rfl)
theorem dX4_holds_6 : decode cX4_holds 6 = .ok (.lcmp, 1) := dk_148 (dk_at dksX4_holds_0 6 rfl rfl)
theorem dX4_holds_7 : decode cX4_holds 7 = .ok (.ifCond .ne 7, 3) := dk_154 0 7 (dk_at dksX4_holds_0 7 rfl rfl)
theorem dX4_holds_10 : decode cX4_holds 10 = .ok (.iconst 1, 1) := dk_4 (dk_at dksX4_holds_0 10 rfl rfl)
theorem dX4_holds_11 : decode cX4_holds 11 = .ok (.goto 4, 3) := dk_167 0 4 (dk_at dksX4_holds_0 11 rfl rfl)
theorem dX4_holds_14 : decode cX4_holds 14 = .ok (.iconst 0, 1) := dk_3 (dk_at dksX4_holds_0 14 rfl rfl)
theorem dX4_holds_15 : decode cX4_holds 15 = .ok (.ireturn, 1) := dk_172 (dk_at dksX4_holds_0 15 rfl rfl)
def dkwX4_law_2 : List UInt8 := [167, 0, 4, 29, 172]
abbrev dktX4_law_2 : List UInt8 := dkwX4_law_2 ++ []
def dkwX4_law_1 : List UInt8 := [172, 42, 180, 0, 41, 16, 86, 16, 42, 5, 27, 104, 28, 96, 104, 96, 46, 62, 29, 154, 0, 7, 2]
abbrev dktX4_law_1 : List UInt8 := dkwX4_law_1 ++ dktX4_law_2
def dkwX4_law_0 : List UInt8 := [42, 3, 181, 0, 1, 27, 3, 8, 184, 0, 168, 153, 0, 12, 28, 3, 4, 184, 0, 168, 154, 0, 5, 2]
abbrev dktX4_law_0 : List UInt8 := dkwX4_law_0 ++ dktX4_law_1
theorem dksX4_law_0 : cX4_law.data.toList.drop 0 = dktX4_law_0 := by decide +kernel
theorem dksX4_law_1 : cX4_law.data.toList.drop 24 = dktX4_law_1 := dk_seg dksX4_law_0 24 rfl rfl
theorem dksX4_law_2 : cX4_law.data.toList.drop 47 = dktX4_law_2 := dk_seg dksX4_law_1 23 rfl rfl
theorem dX4_law_0 : decode cX4_law 0 = .ok (.aload_n 0, 1) := dk_42 (dk_at dksX4_law_0 0 rfl rfl)
theorem dX4_law_1 : decode cX4_law 1 = .ok (.iconst 0, 1) := dk_3 (dk_at dksX4_law_0 1 rfl rfl)
theorem dX4_law_2 : decode cX4_law 2 = .ok (.putfield 1, 3) := dk_181 0 1 (dk_at dksX4_law_0 2 rfl rfl)
theorem dX4_law_5 : decode cX4_law 5 = .ok (.iload_n 1, 1) := dk_27 (dk_at dksX4_law_0 5 rfl rfl)
theorem dX4_law_6 : decode cX4_law 6 = .ok (.iconst 0, 1) := dk_3 (dk_at dksX4_law_0 6 rfl rfl)
theorem dX4_law_7 : decode cX4_law 7 = .ok (.iconst 5, 1) := dk_8 (dk_at dksX4_law_0 7 rfl rfl)
theorem dX4_law_8 : decode cX4_law 8 = .ok (.invokestatic 168, 3) := dk_184 0 168 (dk_at dksX4_law_0 8 rfl rfl)
theorem dX4_law_11 : decode cX4_law 11 = .ok (.ifCond .eq 12, 3) := dk_153 0 12 (dk_at dksX4_law_0 11 rfl rfl)
theorem dX4_law_14 : decode cX4_law 14 = .ok (.iload_n 2, 1) := dk_28 (dk_at dksX4_law_0 14 rfl rfl)
theorem dX4_law_15 : decode cX4_law 15 = .ok (.iconst 0, 1) := dk_3 (dk_at dksX4_law_0 15 rfl rfl)
theorem dX4_law_16 : decode cX4_law 16 = .ok (.iconst 1, 1) := dk_4 (dk_at dksX4_law_0 16 rfl rfl)
theorem dX4_law_17 : decode cX4_law 17 = .ok (.invokestatic 168, 3) := dk_184 0 168 (dk_at dksX4_law_0 17 rfl rfl)
theorem dX4_law_20 : decode cX4_law 20 = .ok (.ifCond .ne 5, 3) := dk_154 0 5 (dk_at dksX4_law_0 20 rfl rfl)
theorem dX4_law_23 : decode cX4_law 23 = .ok (.iconst (-1), 1) := dk_2 (dk_at dksX4_law_0 23 rfl rfl)
theorem dX4_law_24 : decode cX4_law 24 = .ok (.ireturn, 1) := dk_172 (dk_at dksX4_law_1 0 rfl rfl)
theorem dX4_law_25 : decode cX4_law 25 = .ok (.aload_n 0, 1) := dk_42 (dk_at dksX4_law_1 1 rfl rfl)
theorem dX4_law_26 : decode cX4_law 26 = .ok (.getfield 41, 3) := dk_180 0 41 (dk_at dksX4_law_1 2 rfl rfl)
theorem dX4_law_29 : decode cX4_law 29 = .ok (.bipush 86, 2) := dk_16 86 (dk_at dksX4_law_1 5 rfl rfl)
theorem dX4_law_31 : decode cX4_law 31 = .ok (.bipush 42, 2) := dk_16 42 (dk_at dksX4_law_1 7 rfl rfl)
theorem dX4_law_33 : decode cX4_law 33 = .ok (.iconst 2, 1) := dk_5 (dk_at dksX4_law_1 9 rfl rfl)
theorem dX4_law_34 : decode cX4_law 34 = .ok (.iload_n 1, 1) := dk_27 (dk_at dksX4_law_1 10 rfl rfl)
theorem dX4_law_35 : decode cX4_law 35 = .ok (.imul, 1) := dk_104 (dk_at dksX4_law_1 11 rfl rfl)
theorem dX4_law_36 : decode cX4_law 36 = .ok (.iload_n 2, 1) := dk_28 (dk_at dksX4_law_1 12 rfl rfl)
theorem dX4_law_37 : decode cX4_law 37 = .ok (.iadd, 1) := dk_96 (dk_at dksX4_law_1 13 rfl rfl)
theorem dX4_law_38 : decode cX4_law 38 = .ok (.imul, 1) := dk_104 (dk_at dksX4_law_1 14 rfl rfl)
theorem dX4_law_39 : decode cX4_law 39 = .ok (.iadd, 1) := dk_96 (dk_at dksX4_law_1 15 rfl rfl)
theorem dX4_law_40 : decode cX4_law 40 = .ok (.iaload, 1) := dk_46 (dk_at dksX4_law_1 16 rfl rfl)
theorem dX4_law_41 : decode cX4_law 41 = .ok (.istore_n 3, 1) := dk_62 (dk_at dksX4_law_1 17 rfl rfl)
theorem dX4_law_42 : decode cX4_law 42 = .ok (.iload_n 3, 1) := dk_29 (dk_at dksX4_law_1 18 rfl rfl)
theorem dX4_law_43 : decode cX4_law 43 = .ok (.ifCond .ne 7, 3) := dk_154 0 7 (dk_at dksX4_law_1 19 rfl rfl)
theorem dX4_law_46 : decode cX4_law 46 = .ok (.iconst (-1), 1) := dk_2 (dk_at dksX4_law_1 22 rfl rfl)
theorem dX4_law_47 : decode cX4_law 47 = .ok (.goto 4, 3) := dk_167 0 4 (dk_at dksX4_law_2 0 rfl rfl)
theorem dX4_law_50 : decode cX4_law 50 = .ok (.iload_n 3, 1) := dk_29 (dk_at dksX4_law_2 3 rfl rfl)
theorem dX4_law_51 : decode cX4_law 51 = .ok (.ireturn, 1) := dk_172 (dk_at dksX4_law_2 4 rfl rfl)
def dkwX4_pay_2 : List UInt8 := [20, 1, 56, 131, 127, 181, 1, 43, 4, 172]
abbrev dktX4_pay_2 : List UInt8 := dkwX4_pay_2 ++ []
def dkwX4_pay_1 : List UInt8 := [42, 28, 4, 160, 0, 14, 42, 180, 1, 43, 10, 27, 121, 129, 167, 0, 15, 42, 180, 1, 43, 10, 27, 121]
abbrev dktX4_pay_1 : List UInt8 := dkwX4_pay_1 ++ dktX4_pay_2
def dkwX4_pay_0 : List UInt8 := [42, 3, 181, 0, 1, 42, 27, 182, 1, 58, 153, 0, 12, 28, 3, 4, 184, 0, 168, 154, 0, 5, 3, 172]
abbrev dktX4_pay_0 : List UInt8 := dkwX4_pay_0 ++ dktX4_pay_1
theorem dksX4_pay_0 : cX4_pay.data.toList.drop 0 = dktX4_pay_0 := by decide +kernel
theorem dksX4_pay_1 : cX4_pay.data.toList.drop 24 = dktX4_pay_1 := dk_seg dksX4_pay_0 24 rfl rfl
theorem dksX4_pay_2 : cX4_pay.data.toList.drop 48 = dktX4_pay_2 := dk_seg dksX4_pay_1 24 rfl rfl
theorem dX4_pay_0 : decode cX4_pay 0 = .ok (.aload_n 0, 1) := dk_42 (dk_at dksX4_pay_0 0 rfl rfl)
theorem dX4_pay_1 : decode cX4_pay 1 = .ok (.iconst 0, 1) := dk_3 (dk_at dksX4_pay_0 1 rfl rfl)
theorem dX4_pay_2 : decode cX4_pay 2 = .ok (.putfield 1, 3) := dk_181 0 1 (dk_at dksX4_pay_0 2 rfl rfl)
theorem dX4_pay_5 : decode cX4_pay 5 = .ok (.aload_n 0, 1) := dk_42 (dk_at dksX4_pay_0 5 rfl rfl)
theorem dX4_pay_6 : decode cX4_pay 6 = .ok (.iload_n 1, 1) := dk_27 (dk_at dksX4_pay_0 6 rfl rfl)
theorem dX4_pay_7 : decode cX4_pay 7 = .ok (.invokevirtual 314, 3) := dk_182 1 58 (dk_at dksX4_pay_0 7 rfl rfl)
theorem dX4_pay_10 : decode cX4_pay 10 = .ok (.ifCond .eq 12, 3) := dk_153 0 12 (dk_at dksX4_pay_0 10 rfl rfl)
theorem dX4_pay_13 : decode cX4_pay 13 = .ok (.iload_n 2, 1) := dk_28 (dk_at dksX4_pay_0 13 rfl rfl)
theorem dX4_pay_14 : decode cX4_pay 14 = .ok (.iconst 0, 1) := dk_3 (dk_at dksX4_pay_0 14 rfl rfl)
theorem dX4_pay_15 : decode cX4_pay 15 = .ok (.iconst 1, 1) := dk_4 (dk_at dksX4_pay_0 15 rfl rfl)
theorem dX4_pay_16 : decode cX4_pay 16 = .ok (.invokestatic 168, 3) := dk_184 0 168 (dk_at dksX4_pay_0 16 rfl rfl)
theorem dX4_pay_19 : decode cX4_pay 19 = .ok (.ifCond .ne 5, 3) := dk_154 0 5 (dk_at dksX4_pay_0 19 rfl rfl)
theorem dX4_pay_22 : decode cX4_pay 22 = .ok (.iconst 0, 1) := dk_3 (dk_at dksX4_pay_0 22 rfl rfl)
theorem dX4_pay_23 : decode cX4_pay 23 = .ok (.ireturn, 1) := dk_172 (dk_at dksX4_pay_0 23 rfl rfl)
theorem dX4_pay_24 : decode cX4_pay 24 = .ok (.aload_n 0, 1) := dk_42 (dk_at dksX4_pay_1 0 rfl rfl)
theorem dX4_pay_25 : decode cX4_pay 25 = .ok (.iload_n 2, 1) := dk_28 (dk_at dksX4_pay_1 1 rfl rfl)
theorem dX4_pay_26 : decode cX4_pay 26 = .ok (.iconst 1, 1) := dk_4 (dk_at dksX4_pay_1 2 rfl rfl)
theorem dX4_pay_27 : decode cX4_pay 27 = .ok (.if_icmp .ne 14, 3) := dk_160 0 14 (dk_at dksX4_pay_1 3 rfl rfl)
theorem dX4_pay_30 : decode cX4_pay 30 = .ok (.aload_n 0, 1) := dk_42 (dk_at dksX4_pay_1 6 rfl rfl)
theorem dX4_pay_31 : decode cX4_pay 31 = .ok (.getfield 299, 3) := dk_180 1 43 (dk_at dksX4_pay_1 7 rfl rfl)
theorem dX4_pay_34 : decode cX4_pay 34 = .ok (.lconst 1, 1) := dk_10 (dk_at dksX4_pay_1 10 rfl rfl)
theorem dX4_pay_35 : decode cX4_pay 35 = .ok (.iload_n 1, 1) := dk_27 (dk_at dksX4_pay_1 11 rfl rfl)
theorem dX4_pay_36 : decode cX4_pay 36 = .ok (.lshl, 1) := dk_121 (dk_at dksX4_pay_1 12 rfl rfl)
theorem dX4_pay_37 : decode cX4_pay 37 = .ok (.lor, 1) := dk_129 (dk_at dksX4_pay_1 13 rfl rfl)
theorem dX4_pay_38 : decode cX4_pay 38 = .ok (.goto 15, 3) := dk_167 0 15 (dk_at dksX4_pay_1 14 rfl rfl)
theorem dX4_pay_41 : decode cX4_pay 41 = .ok (.aload_n 0, 1) := dk_42 (dk_at dksX4_pay_1 17 rfl rfl)
theorem dX4_pay_42 : decode cX4_pay 42 = .ok (.getfield 299, 3) := dk_180 1 43 (dk_at dksX4_pay_1 18 rfl rfl)
theorem dX4_pay_45 : decode cX4_pay 45 = .ok (.lconst 1, 1) := dk_10 (dk_at dksX4_pay_1 21 rfl rfl)
theorem dX4_pay_46 : decode cX4_pay 46 = .ok (.iload_n 1, 1) := dk_27 (dk_at dksX4_pay_1 22 rfl rfl)
theorem dX4_pay_47 : decode cX4_pay 47 = .ok (.lshl, 1) := dk_121 (dk_at dksX4_pay_1 23 rfl rfl)
theorem dX4_pay_48 : decode cX4_pay 48 = .ok (.ldc2_w 312, 3) := dk_20 1 56 (dk_at dksX4_pay_2 0 rfl rfl)
theorem dX4_pay_51 : decode cX4_pay 51 = .ok (.lxor, 1) := dk_131 (dk_at dksX4_pay_2 3 rfl rfl)
theorem dX4_pay_52 : decode cX4_pay 52 = .ok (.land, 1) := dk_127 (dk_at dksX4_pay_2 4 rfl rfl)
theorem dX4_pay_53 : decode cX4_pay 53 = .ok (.putfield 299, 3) := dk_181 1 43 (dk_at dksX4_pay_2 5 rfl rfl)
theorem dX4_pay_56 : decode cX4_pay 56 = .ok (.iconst 1, 1) := dk_4 (dk_at dksX4_pay_2 8 rfl rfl)
theorem dX4_pay_57 : decode cX4_pay 57 = .ok (.ireturn, 1) := dk_172 (dk_at dksX4_pay_2 9 rfl rfl)
def dkwX4_hiss_2 : List UInt8 := [20, 1, 56, 131, 127, 181, 1, 46, 4, 172]
abbrev dktX4_hiss_2 : List UInt8 := dkwX4_hiss_2 ++ []
def dkwX4_hiss_1 : List UInt8 := [42, 28, 4, 160, 0, 14, 42, 180, 1, 46, 10, 27, 121, 129, 167, 0, 15, 42, 180, 1, 46, 10, 27, 121]
abbrev dktX4_hiss_1 : List UInt8 := dkwX4_hiss_1 ++ dktX4_hiss_2
def dkwX4_hiss_0 : List UInt8 := [42, 3, 181, 0, 1, 42, 27, 182, 1, 58, 153, 0, 12, 28, 3, 4, 184, 0, 168, 154, 0, 5, 3, 172]
abbrev dktX4_hiss_0 : List UInt8 := dkwX4_hiss_0 ++ dktX4_hiss_1
theorem dksX4_hiss_0 : cX4_hiss.data.toList.drop 0 = dktX4_hiss_0 := by decide +kernel
theorem dksX4_hiss_1 : cX4_hiss.data.toList.drop 24 = dktX4_hiss_1 := dk_seg dksX4_hiss_0 24 rfl rfl
theorem dksX4_hiss_2 : cX4_hiss.data.toList.drop 48 = dktX4_hiss_2 := dk_seg dksX4_hiss_1 24 rfl rfl
theorem dX4_hiss_0 : decode cX4_hiss 0 = .ok (.aload_n 0, 1) := dk_42 (dk_at dksX4_hiss_0 0 rfl rfl)
theorem dX4_hiss_1 : decode cX4_hiss 1 = .ok (.iconst 0, 1) := dk_3 (dk_at dksX4_hiss_0 1 rfl rfl)
theorem dX4_hiss_2 : decode cX4_hiss 2 = .ok (.putfield 1, 3) := dk_181 0 1 (dk_at dksX4_hiss_0 2 rfl rfl)
theorem dX4_hiss_5 : decode cX4_hiss 5 = .ok (.aload_n 0, 1) := dk_42 (dk_at dksX4_hiss_0 5 rfl rfl)
theorem dX4_hiss_6 : decode cX4_hiss 6 = .ok (.iload_n 1, 1) := dk_27 (dk_at dksX4_hiss_0 6 rfl rfl)
theorem dX4_hiss_7 : decode cX4_hiss 7 = .ok (.invokevirtual 314, 3) := dk_182 1 58 (dk_at dksX4_hiss_0 7 rfl rfl)
theorem dX4_hiss_10 : decode cX4_hiss 10 = .ok (.ifCond .eq 12, 3) := dk_153 0 12 (dk_at dksX4_hiss_0 10 rfl rfl)
theorem dX4_hiss_13 : decode cX4_hiss 13 = .ok (.iload_n 2, 1) := dk_28 (dk_at dksX4_hiss_0 13 rfl rfl)
theorem dX4_hiss_14 : decode cX4_hiss 14 = .ok (.iconst 0, 1) := dk_3 (dk_at dksX4_hiss_0 14 rfl rfl)
theorem dX4_hiss_15 : decode cX4_hiss 15 = .ok (.iconst 1, 1) := dk_4 (dk_at dksX4_hiss_0 15 rfl rfl)
theorem dX4_hiss_16 : decode cX4_hiss 16 = .ok (.invokestatic 168, 3) := dk_184 0 168 (dk_at dksX4_hiss_0 16 rfl rfl)
theorem dX4_hiss_19 : decode cX4_hiss 19 = .ok (.ifCond .ne 5, 3) := dk_154 0 5 (dk_at dksX4_hiss_0 19 rfl rfl)
theorem dX4_hiss_22 : decode cX4_hiss 22 = .ok (.iconst 0, 1) := dk_3 (dk_at dksX4_hiss_0 22 rfl rfl)
theorem dX4_hiss_23 : decode cX4_hiss 23 = .ok (.ireturn, 1) := dk_172 (dk_at dksX4_hiss_0 23 rfl rfl)
theorem dX4_hiss_24 : decode cX4_hiss 24 = .ok (.aload_n 0, 1) := dk_42 (dk_at dksX4_hiss_1 0 rfl rfl)
theorem dX4_hiss_25 : decode cX4_hiss 25 = .ok (.iload_n 2, 1) := dk_28 (dk_at dksX4_hiss_1 1 rfl rfl)
theorem dX4_hiss_26 : decode cX4_hiss 26 = .ok (.iconst 1, 1) := dk_4 (dk_at dksX4_hiss_1 2 rfl rfl)
theorem dX4_hiss_27 : decode cX4_hiss 27 = .ok (.if_icmp .ne 14, 3) := dk_160 0 14 (dk_at dksX4_hiss_1 3 rfl rfl)
theorem dX4_hiss_30 : decode cX4_hiss 30 = .ok (.aload_n 0, 1) := dk_42 (dk_at dksX4_hiss_1 6 rfl rfl)
theorem dX4_hiss_31 : decode cX4_hiss 31 = .ok (.getfield 302, 3) := dk_180 1 46 (dk_at dksX4_hiss_1 7 rfl rfl)
theorem dX4_hiss_34 : decode cX4_hiss 34 = .ok (.lconst 1, 1) := dk_10 (dk_at dksX4_hiss_1 10 rfl rfl)
theorem dX4_hiss_35 : decode cX4_hiss 35 = .ok (.iload_n 1, 1) := dk_27 (dk_at dksX4_hiss_1 11 rfl rfl)
theorem dX4_hiss_36 : decode cX4_hiss 36 = .ok (.lshl, 1) := dk_121 (dk_at dksX4_hiss_1 12 rfl rfl)
theorem dX4_hiss_37 : decode cX4_hiss 37 = .ok (.lor, 1) := dk_129 (dk_at dksX4_hiss_1 13 rfl rfl)
theorem dX4_hiss_38 : decode cX4_hiss 38 = .ok (.goto 15, 3) := dk_167 0 15 (dk_at dksX4_hiss_1 14 rfl rfl)
theorem dX4_hiss_41 : decode cX4_hiss 41 = .ok (.aload_n 0, 1) := dk_42 (dk_at dksX4_hiss_1 17 rfl rfl)
theorem dX4_hiss_42 : decode cX4_hiss 42 = .ok (.getfield 302, 3) := dk_180 1 46 (dk_at dksX4_hiss_1 18 rfl rfl)
theorem dX4_hiss_45 : decode cX4_hiss 45 = .ok (.lconst 1, 1) := dk_10 (dk_at dksX4_hiss_1 21 rfl rfl)
theorem dX4_hiss_46 : decode cX4_hiss 46 = .ok (.iload_n 1, 1) := dk_27 (dk_at dksX4_hiss_1 22 rfl rfl)
theorem dX4_hiss_47 : decode cX4_hiss 47 = .ok (.lshl, 1) := dk_121 (dk_at dksX4_hiss_1 23 rfl rfl)
theorem dX4_hiss_48 : decode cX4_hiss 48 = .ok (.ldc2_w 312, 3) := dk_20 1 56 (dk_at dksX4_hiss_2 0 rfl rfl)
theorem dX4_hiss_51 : decode cX4_hiss 51 = .ok (.lxor, 1) := dk_131 (dk_at dksX4_hiss_2 3 rfl rfl)
theorem dX4_hiss_52 : decode cX4_hiss 52 = .ok (.land, 1) := dk_127 (dk_at dksX4_hiss_2 4 rfl rfl)
theorem dX4_hiss_53 : decode cX4_hiss 53 = .ok (.putfield 302, 3) := dk_181 1 46 (dk_at dksX4_hiss_2 5 rfl rfl)
theorem dX4_hiss_56 : decode cX4_hiss 56 = .ok (.iconst 1, 1) := dk_4 (dk_at dksX4_hiss_2 8 rfl rfl)
theorem dX4_hiss_57 : decode cX4_hiss 57 = .ok (.ireturn, 1) := dk_172 (dk_at dksX4_hiss_2 9 rfl rfl)
def dkwX4_cues_5 : List UInt8 := [180, 1, 74, 172]
abbrev dktX4_cues_5 : List UInt8 := dkwX4_cues_5 ++ []
def dkwX4_cues_4 : List UInt8 := [180, 0, 41, 17, 2, 79, 27, 96, 42, 180, 0, 48, 27, 46, 79, 132, 1, 1, 167, 255, 227, 42]
abbrev dktX4_cues_4 : List UInt8 := dkwX4_cues_4 ++ dktX4_cues_5
def dkwX4_cues_3 : List UInt8 := [180, 0, 41, 17, 2, 78, 42, 180, 1, 74, 79, 3, 60, 27, 6, 42, 180, 1, 74, 104, 162, 0, 25, 42]
abbrev dktX4_cues_3 : List UInt8 := dkwX4_cues_3 ++ dktX4_cues_4
def dkwX4_cues_2 : List UInt8 := [154, 0, 10, 2, 42, 180, 0, 156, 100, 172, 42, 89, 180, 1, 74, 4, 96, 181, 1, 74, 167, 255, 216, 42]
abbrev dktX4_cues_2 : List UInt8 := dkwX4_cues_2 ++ dktX4_cues_3
def dkwX4_cues_1 : List UInt8 := [182, 0, 165, 42, 180, 0, 136, 153, 0, 39, 42, 182, 1, 85, 153, 0, 12, 42, 16, 59, 182, 1, 40]
abbrev dktX4_cues_1 : List UInt8 := dkwX4_cues_1 ++ dktX4_cues_2
def dkwX4_cues_0 : List UInt8 := [42, 3, 181, 0, 1, 42, 17, 1, 144, 182, 1, 31, 42, 3, 181, 0, 153, 42, 3, 181, 1, 74, 42]
abbrev dktX4_cues_0 : List UInt8 := dkwX4_cues_0 ++ dktX4_cues_1
theorem dksX4_cues_0 : cX4_cues.data.toList.drop 0 = dktX4_cues_0 := by decide +kernel
theorem dksX4_cues_1 : cX4_cues.data.toList.drop 23 = dktX4_cues_1 := dk_seg dksX4_cues_0 23 rfl rfl
theorem dksX4_cues_2 : cX4_cues.data.toList.drop 46 = dktX4_cues_2 := dk_seg dksX4_cues_1 23 rfl rfl
theorem dksX4_cues_3 : cX4_cues.data.toList.drop 70 = dktX4_cues_3 := dk_seg dksX4_cues_2 24 rfl rfl
theorem dksX4_cues_4 : cX4_cues.data.toList.drop 94 = dktX4_cues_4 := dk_seg dksX4_cues_3 24 rfl rfl
theorem dksX4_cues_5 : cX4_cues.data.toList.drop 116 = dktX4_cues_5 := dk_seg dksX4_cues_4 22 rfl rfl
theorem dX4_cues_0 : decode cX4_cues 0 = .ok (.aload_n 0, 1) := dk_42 (dk_at dksX4_cues_0 0 rfl rfl)
theorem dX4_cues_1 : decode cX4_cues 1 = .ok (.iconst 0, 1) := dk_3 (dk_at dksX4_cues_0 1 rfl rfl)
theorem dX4_cues_2 : decode cX4_cues 2 = .ok (.putfield 1, 3) := dk_181 0 1 (dk_at dksX4_cues_0 2 rfl rfl)
theorem dX4_cues_5 : decode cX4_cues 5 = .ok (.aload_n 0, 1) := dk_42 (dk_at dksX4_cues_0 5 rfl rfl)
theorem dX4_cues_6 : decode cX4_cues 6 = .ok (.sipush 400, 3) := dk_17 1 144 (dk_at dksX4_cues_0 6 rfl rfl)
theorem dX4_cues_9 : decode cX4_cues 9 = .ok (.invokevirtual 287, 3) := dk_182 1 31 (dk_at dksX4_cues_0 9 rfl rfl)
theorem dX4_cues_12 : decode cX4_cues 12 = .ok (.aload_n 0, 1) := dk_42 (dk_at dksX4_cues_0 12 rfl rfl)
theorem dX4_cues_13 : decode cX4_cues 13 = .ok (.iconst 0, 1) := dk_3 (dk_at dksX4_cues_0 13 rfl rfl)
theorem dX4_cues_14 : decode cX4_cues 14 = .ok (.putfield 153, 3) := dk_181 0 153 (dk_at dksX4_cues_0 14 rfl rfl)
theorem dX4_cues_17 : decode cX4_cues 17 = .ok (.aload_n 0, 1) := dk_42 (dk_at dksX4_cues_0 17 rfl rfl)
theorem dX4_cues_18 : decode cX4_cues 18 = .ok (.iconst 0, 1) := dk_3 (dk_at dksX4_cues_0 18 rfl rfl)
theorem dX4_cues_19 : decode cX4_cues 19 = .ok (.putfield 330, 3) := dk_181 1 74 (dk_at dksX4_cues_0 19 rfl rfl)
theorem dX4_cues_22 : decode cX4_cues 22 = .ok (.aload_n 0, 1) := dk_42 (dk_at dksX4_cues_0 22 rfl rfl)
theorem dX4_cues_23 : decode cX4_cues 23 = .ok (.invokevirtual 165, 3) := dk_182 0 165 (dk_at dksX4_cues_1 0 rfl rfl)
theorem dX4_cues_26 : decode cX4_cues 26 = .ok (.aload_n 0, 1) := dk_42 (dk_at dksX4_cues_1 3 rfl rfl)
theorem dX4_cues_27 : decode cX4_cues 27 = .ok (.getfield 136, 3) := dk_180 0 136 (dk_at dksX4_cues_1 4 rfl rfl)
theorem dX4_cues_30 : decode cX4_cues 30 = .ok (.ifCond .eq 39, 3) := dk_153 0 39 (dk_at dksX4_cues_1 7 rfl rfl)
theorem dX4_cues_33 : decode cX4_cues 33 = .ok (.aload_n 0, 1) := dk_42 (dk_at dksX4_cues_1 10 rfl rfl)
theorem dX4_cues_34 : decode cX4_cues 34 = .ok (.invokevirtual 341, 3) := dk_182 1 85 (dk_at dksX4_cues_1 11 rfl rfl)
theorem dX4_cues_37 : decode cX4_cues 37 = .ok (.ifCond .eq 12, 3) := dk_153 0 12 (dk_at dksX4_cues_1 14 rfl rfl)
theorem dX4_cues_40 : decode cX4_cues 40 = .ok (.aload_n 0, 1) := dk_42 (dk_at dksX4_cues_1 17 rfl rfl)
theorem dX4_cues_41 : decode cX4_cues 41 = .ok (.bipush 59, 2) := dk_16 59 (dk_at dksX4_cues_1 18 rfl rfl)
theorem dX4_cues_43 : decode cX4_cues 43 = .ok (.invokevirtual 296, 3) := dk_182 1 40 (dk_at dksX4_cues_1 20 rfl rfl)
theorem dX4_cues_46 : decode cX4_cues 46 = .ok (.ifCond .ne 10, 3) := dk_154 0 10 (dk_at dksX4_cues_2 0 rfl rfl)
theorem dX4_cues_49 : decode cX4_cues 49 = .ok (.iconst (-1), 1) := dk_2 (dk_at dksX4_cues_2 3 rfl rfl)
theorem dX4_cues_50 : decode cX4_cues 50 = .ok (.aload_n 0, 1) := dk_42 (dk_at dksX4_cues_2 4 rfl rfl)
theorem dX4_cues_51 : decode cX4_cues 51 = .ok (.getfield 156, 3) := dk_180 0 156 (dk_at dksX4_cues_2 5 rfl rfl)
theorem dX4_cues_54 : decode cX4_cues 54 = .ok (.isub, 1) := dk_100 (dk_at dksX4_cues_2 8 rfl rfl)
theorem dX4_cues_55 : decode cX4_cues 55 = .ok (.ireturn, 1) := dk_172 (dk_at dksX4_cues_2 9 rfl rfl)
theorem dX4_cues_56 : decode cX4_cues 56 = .ok (.aload_n 0, 1) := dk_42 (dk_at dksX4_cues_2 10 rfl rfl)
theorem dX4_cues_57 : decode cX4_cues 57 = .ok (.dup, 1) := dk_89 (dk_at dksX4_cues_2 11 rfl rfl)
theorem dX4_cues_58 : decode cX4_cues 58 = .ok (.getfield 330, 3) := dk_180 1 74 (dk_at dksX4_cues_2 12 rfl rfl)
theorem dX4_cues_61 : decode cX4_cues 61 = .ok (.iconst 1, 1) := dk_4 (dk_at dksX4_cues_2 15 rfl rfl)
theorem dX4_cues_62 : decode cX4_cues 62 = .ok (.iadd, 1) := dk_96 (dk_at dksX4_cues_2 16 rfl rfl)
theorem dX4_cues_63 : decode cX4_cues 63 = .ok (.putfield 330, 3) := dk_181 1 74 (dk_at dksX4_cues_2 17 rfl rfl)
theorem dX4_cues_66 : decode cX4_cues 66 = .ok (.goto (-40), 3) := dk_167 255 216 (dk_at dksX4_cues_2 20 rfl rfl)
theorem dX4_cues_69 : decode cX4_cues 69 = .ok (.aload_n 0, 1) := dk_42 (dk_at dksX4_cues_2 23 rfl rfl)
theorem dX4_cues_70 : decode cX4_cues 70 = .ok (.getfield 41, 3) := dk_180 0 41 (dk_at dksX4_cues_3 0 rfl rfl)
theorem dX4_cues_73 : decode cX4_cues 73 = .ok (.sipush 590, 3) := dk_17 2 78 (dk_at dksX4_cues_3 3 rfl rfl)
theorem dX4_cues_76 : decode cX4_cues 76 = .ok (.aload_n 0, 1) := dk_42 (dk_at dksX4_cues_3 6 rfl rfl)
theorem dX4_cues_77 : decode cX4_cues 77 = .ok (.getfield 330, 3) := dk_180 1 74 (dk_at dksX4_cues_3 7 rfl rfl)
theorem dX4_cues_80 : decode cX4_cues 80 = .ok (.iastore, 1) := dk_79 (dk_at dksX4_cues_3 10 rfl rfl)
theorem dX4_cues_81 : decode cX4_cues 81 = .ok (.iconst 0, 1) := dk_3 (dk_at dksX4_cues_3 11 rfl rfl)
theorem dX4_cues_82 : decode cX4_cues 82 = .ok (.istore_n 1, 1) := dk_60 (dk_at dksX4_cues_3 12 rfl rfl)
theorem dX4_cues_83 : decode cX4_cues 83 = .ok (.iload_n 1, 1) := dk_27 (dk_at dksX4_cues_3 13 rfl rfl)
theorem dX4_cues_84 : decode cX4_cues 84 = .ok (.iconst 3, 1) := dk_6 (dk_at dksX4_cues_3 14 rfl rfl)
theorem dX4_cues_85 : decode cX4_cues 85 = .ok (.aload_n 0, 1) := dk_42 (dk_at dksX4_cues_3 15 rfl rfl)
theorem dX4_cues_86 : decode cX4_cues 86 = .ok (.getfield 330, 3) := dk_180 1 74 (dk_at dksX4_cues_3 16 rfl rfl)
theorem dX4_cues_89 : decode cX4_cues 89 = .ok (.imul, 1) := dk_104 (dk_at dksX4_cues_3 19 rfl rfl)
theorem dX4_cues_90 : decode cX4_cues 90 = .ok (.if_icmp .ge 25, 3) := dk_162 0 25 (dk_at dksX4_cues_3 20 rfl rfl)
theorem dX4_cues_93 : decode cX4_cues 93 = .ok (.aload_n 0, 1) := dk_42 (dk_at dksX4_cues_3 23 rfl rfl)
theorem dX4_cues_94 : decode cX4_cues 94 = .ok (.getfield 41, 3) := dk_180 0 41 (dk_at dksX4_cues_4 0 rfl rfl)
theorem dX4_cues_97 : decode cX4_cues 97 = .ok (.sipush 591, 3) := dk_17 2 79 (dk_at dksX4_cues_4 3 rfl rfl)
theorem dX4_cues_100 : decode cX4_cues 100 = .ok (.iload_n 1, 1) := dk_27 (dk_at dksX4_cues_4 6 rfl rfl)
theorem dX4_cues_101 : decode cX4_cues 101 = .ok (.iadd, 1) := dk_96 (dk_at dksX4_cues_4 7 rfl rfl)
theorem dX4_cues_102 : decode cX4_cues 102 = .ok (.aload_n 0, 1) := dk_42 (dk_at dksX4_cues_4 8 rfl rfl)
theorem dX4_cues_103 : decode cX4_cues 103 = .ok (.getfield 48, 3) := dk_180 0 48 (dk_at dksX4_cues_4 9 rfl rfl)
theorem dX4_cues_106 : decode cX4_cues 106 = .ok (.iload_n 1, 1) := dk_27 (dk_at dksX4_cues_4 12 rfl rfl)
theorem dX4_cues_107 : decode cX4_cues 107 = .ok (.iaload, 1) := dk_46 (dk_at dksX4_cues_4 13 rfl rfl)
theorem dX4_cues_108 : decode cX4_cues 108 = .ok (.iastore, 1) := dk_79 (dk_at dksX4_cues_4 14 rfl rfl)
theorem dX4_cues_109 : decode cX4_cues 109 = .ok (.iinc 1 1, 3) := dk_132 1 1 (dk_at dksX4_cues_4 15 rfl rfl)
theorem dX4_cues_112 : decode cX4_cues 112 = .ok (.goto (-29), 3) := dk_167 255 227 (dk_at dksX4_cues_4 18 rfl rfl)
theorem dX4_cues_115 : decode cX4_cues 115 = .ok (.aload_n 0, 1) := dk_42 (dk_at dksX4_cues_4 21 rfl rfl)
theorem dX4_cues_116 : decode cX4_cues 116 = .ok (.getfield 330, 3) := dk_180 1 74 (dk_at dksX4_cues_5 0 rfl rfl)
theorem dX4_cues_119 : decode cX4_cues 119 = .ok (.ireturn, 1) := dk_172 (dk_at dksX4_cues_5 3 rfl rfl)
def dkwX4_readCue_11 : List UInt8 := [79, 42, 182, 0, 165, 4, 172]
abbrev dktX4_readCue_11 : List UInt8 := dkwX4_readCue_11 ++ []
def dkwX4_readCue_10 : List UInt8 := [182, 0, 162, 172, 42, 180, 0, 48, 27, 5, 96, 42, 180, 0, 41, 4, 46, 29, 104, 42, 180, 0, 146, 96]
abbrev dktX4_readCue_10 : List UInt8 := dkwX4_readCue_10 ++ dktX4_readCue_11
def dkwX4_readCue_9 : List UInt8 := [5, 159, 0, 9, 42, 4, 182, 0, 162, 172, 42, 29, 42, 180, 0, 146, 182, 1, 49, 154, 0, 9, 42, 5]
abbrev dktX4_readCue_9 : List UInt8 := dkwX4_readCue_9 ++ dktX4_readCue_10
def dkwX4_readCue_8 : List UInt8 := [180, 0, 41, 3, 46, 4, 100, 182, 0, 200, 154, 0, 5, 3, 172, 42, 180, 0, 172, 62, 42, 180, 0, 136]
abbrev dktX4_readCue_8 : List UInt8 := dkwX4_readCue_8 ++ dktX4_readCue_9
def dkwX4_readCue_7 : List UInt8 := [42, 180, 0, 48, 27, 5, 96, 2, 79, 42, 182, 0, 165, 28, 6, 160, 0, 5, 4, 172, 42, 3, 42]
abbrev dktX4_readCue_7 : List UInt8 := dkwX4_readCue_7 ++ dktX4_readCue_8
def dkwX4_readCue_6 : List UInt8 := [167, 0, 4, 2, 61, 28, 156, 0, 9, 42, 4, 182, 0, 162, 172, 42, 180, 0, 48, 27, 4, 96, 28, 79]
abbrev dktX4_readCue_6 : List UInt8 := dkwX4_readCue_6 ++ dktX4_readCue_7
def dkwX4_readCue_5 : List UInt8 := [20, 1, 81, 182, 0, 177, 153, 0, 7, 5, 167, 0, 18, 42, 20, 1, 83, 182, 0, 177, 153, 0, 7, 6]
abbrev dktX4_readCue_5 : List UInt8 := dkwX4_readCue_5 ++ dktX4_readCue_6
def dkwX4_readCue_4 : List UInt8 := [153, 0, 7, 3, 167, 0, 46, 42, 20, 1, 79, 182, 0, 177, 153, 0, 7, 4, 167, 0, 32, 42]
abbrev dktX4_readCue_4 : List UInt8 := dkwX4_readCue_4 ++ dktX4_readCue_5
def dkwX4_readCue_3 : List UInt8 := [154, 0, 5, 3, 172, 42, 180, 0, 48, 27, 42, 180, 0, 172, 79, 42, 20, 1, 77, 182, 0, 177]
abbrev dktX4_readCue_3 : List UInt8 := dkwX4_readCue_3 ++ dktX4_readCue_4
def dkwX4_readCue_2 : List UInt8 := [180, 1, 74, 154, 0, 7, 3, 167, 0, 11, 42, 180, 0, 48, 27, 6, 100, 46, 17, 2, 88, 182, 0, 200]
abbrev dktX4_readCue_2 : List UInt8 := dkwX4_readCue_2 ++ dktX4_readCue_3
def dkwX4_readCue_1 : List UInt8 := [160, 0, 9, 42, 7, 182, 0, 162, 172, 42, 182, 0, 165, 6, 42, 180, 1, 74, 104, 60, 42, 42]
abbrev dktX4_readCue_1 : List UInt8 := dkwX4_readCue_1 ++ dktX4_readCue_2
def dkwX4_readCue_0 : List UInt8 := [42, 20, 1, 72, 182, 0, 177, 154, 0, 9, 42, 4, 182, 0, 162, 172, 42, 180, 1, 74, 16, 30]
abbrev dktX4_readCue_0 : List UInt8 := dkwX4_readCue_0 ++ dktX4_readCue_1
theorem dksX4_readCue_0 : cX4_readCue.data.toList.drop 0 = dktX4_readCue_0 := by decide +kernel
theorem dksX4_readCue_1 : cX4_readCue.data.toList.drop 22 = dktX4_readCue_1 := dk_seg dksX4_readCue_0 22 rfl rfl
theorem dksX4_readCue_2 : cX4_readCue.data.toList.drop 44 = dktX4_readCue_2 := dk_seg dksX4_readCue_1 22 rfl rfl
theorem dksX4_readCue_3 : cX4_readCue.data.toList.drop 68 = dktX4_readCue_3 := dk_seg dksX4_readCue_2 24 rfl rfl
theorem dksX4_readCue_4 : cX4_readCue.data.toList.drop 90 = dktX4_readCue_4 := dk_seg dksX4_readCue_3 22 rfl rfl
theorem dksX4_readCue_5 : cX4_readCue.data.toList.drop 112 = dktX4_readCue_5 := dk_seg dksX4_readCue_4 22 rfl rfl
theorem dksX4_readCue_6 : cX4_readCue.data.toList.drop 136 = dktX4_readCue_6 := dk_seg dksX4_readCue_5 24 rfl rfl
theorem dksX4_readCue_7 : cX4_readCue.data.toList.drop 160 = dktX4_readCue_7 := dk_seg dksX4_readCue_6 24 rfl rfl
theorem dksX4_readCue_8 : cX4_readCue.data.toList.drop 183 = dktX4_readCue_8 := dk_seg dksX4_readCue_7 23 rfl rfl
theorem dksX4_readCue_9 : cX4_readCue.data.toList.drop 207 = dktX4_readCue_9 := dk_seg dksX4_readCue_8 24 rfl rfl
theorem dksX4_readCue_10 : cX4_readCue.data.toList.drop 231 = dktX4_readCue_10 := dk_seg dksX4_readCue_9 24 rfl rfl
theorem dksX4_readCue_11 : cX4_readCue.data.toList.drop 255 = dktX4_readCue_11 := dk_seg dksX4_readCue_10 24 rfl rfl
theorem dX4_readCue_0 : decode cX4_readCue 0 = .ok (.aload_n 0, 1) := dk_42 (dk_at dksX4_readCue_0 0 rfl rfl)
theorem dX4_readCue_1 : decode cX4_readCue 1 = .ok (.ldc2_w 328, 3) := dk_20 1 72 (dk_at dksX4_readCue_0 1 rfl rfl)
theorem dX4_readCue_4 : decode cX4_readCue 4 = .ok (.invokevirtual 177, 3) := dk_182 0 177 (dk_at dksX4_readCue_0 4 rfl rfl)
theorem dX4_readCue_7 : decode cX4_readCue 7 = .ok (.ifCond .ne 9, 3) := dk_154 0 9 (dk_at dksX4_readCue_0 7 rfl rfl)
theorem dX4_readCue_10 : decode cX4_readCue 10 = .ok (.aload_n 0, 1) := dk_42 (dk_at dksX4_readCue_0 10 rfl rfl)
theorem dX4_readCue_11 : decode cX4_readCue 11 = .ok (.iconst 1, 1) := dk_4 (dk_at dksX4_readCue_0 11 rfl rfl)
theorem dX4_readCue_12 : decode cX4_readCue 12 = .ok (.invokevirtual 162, 3) := dk_182 0 162 (dk_at dksX4_readCue_0 12 rfl rfl)
theorem dX4_readCue_15 : decode cX4_readCue 15 = .ok (.ireturn, 1) := dk_172 (dk_at dksX4_readCue_0 15 rfl rfl)
theorem dX4_readCue_16 : decode cX4_readCue 16 = .ok (.aload_n 0, 1) := dk_42 (dk_at dksX4_readCue_0 16 rfl rfl)
theorem dX4_readCue_17 : decode cX4_readCue 17 = .ok (.getfield 330, 3) := dk_180 1 74 (dk_at dksX4_readCue_0 17 rfl rfl)
theorem dX4_readCue_20 : decode cX4_readCue 20 = .ok (.bipush 30, 2) := dk_16 30 (dk_at dksX4_readCue_0 20 rfl rfl)
theorem dX4_readCue_22 : decode cX4_readCue 22 = .ok (.if_icmp .ne 9, 3) := dk_160 0 9 (dk_at dksX4_readCue_1 0 rfl rfl)
theorem dX4_readCue_25 : decode cX4_readCue 25 = .ok (.aload_n 0, 1) := dk_42 (dk_at dksX4_readCue_1 3 rfl rfl)
theorem dX4_readCue_26 : decode cX4_readCue 26 = .ok (.iconst 4, 1) := dk_7 (dk_at dksX4_readCue_1 4 rfl rfl)
theorem dX4_readCue_27 : decode cX4_readCue 27 = .ok (.invokevirtual 162, 3) := dk_182 0 162 (dk_at dksX4_readCue_1 5 rfl rfl)
theorem dX4_readCue_30 : decode cX4_readCue 30 = .ok (.ireturn, 1) := dk_172 (dk_at dksX4_readCue_1 8 rfl rfl)
theorem dX4_readCue_31 : decode cX4_readCue 31 = .ok (.aload_n 0, 1) := dk_42 (dk_at dksX4_readCue_1 9 rfl rfl)
theorem dX4_readCue_32 : decode cX4_readCue 32 = .ok (.invokevirtual 165, 3) := dk_182 0 165 (dk_at dksX4_readCue_1 10 rfl rfl)
theorem dX4_readCue_35 : decode cX4_readCue 35 = .ok (.iconst 3, 1) := dk_6 (dk_at dksX4_readCue_1 13 rfl rfl)
theorem dX4_readCue_36 : decode cX4_readCue 36 = .ok (.aload_n 0, 1) := dk_42 (dk_at dksX4_readCue_1 14 rfl rfl)
theorem dX4_readCue_37 : decode cX4_readCue 37 = .ok (.getfield 330, 3) := dk_180 1 74 (dk_at dksX4_readCue_1 15 rfl rfl)
theorem dX4_readCue_40 : decode cX4_readCue 40 = .ok (.imul, 1) := dk_104 (dk_at dksX4_readCue_1 18 rfl rfl)
theorem dX4_readCue_41 : decode cX4_readCue 41 = .ok (.istore_n 1, 1) := dk_60 (dk_at dksX4_readCue_1 19 rfl rfl)
theorem dX4_readCue_42 : decode cX4_readCue 42 = .ok (.aload_n 0, 1) := dk_42 (dk_at dksX4_readCue_1 20 rfl rfl)
theorem dX4_readCue_43 : decode cX4_readCue 43 = .ok (.aload_n 0, 1) := dk_42 (dk_at dksX4_readCue_1 21 rfl rfl)
theorem dX4_readCue_44 : decode cX4_readCue 44 = .ok (.getfield 330, 3) := dk_180 1 74 (dk_at dksX4_readCue_2 0 rfl rfl)
theorem dX4_readCue_47 : decode cX4_readCue 47 = .ok (.ifCond .ne 7, 3) := dk_154 0 7 (dk_at dksX4_readCue_2 3 rfl rfl)
theorem dX4_readCue_50 : decode cX4_readCue 50 = .ok (.iconst 0, 1) := dk_3 (dk_at dksX4_readCue_2 6 rfl rfl)
theorem dX4_readCue_51 : decode cX4_readCue 51 = .ok (.goto 11, 3) := dk_167 0 11 (dk_at dksX4_readCue_2 7 rfl rfl)
theorem dX4_readCue_54 : decode cX4_readCue 54 = .ok (.aload_n 0, 1) := dk_42 (dk_at dksX4_readCue_2 10 rfl rfl)
theorem dX4_readCue_55 : decode cX4_readCue 55 = .ok (.getfield 48, 3) := dk_180 0 48 (dk_at dksX4_readCue_2 11 rfl rfl)
theorem dX4_readCue_58 : decode cX4_readCue 58 = .ok (.iload_n 1, 1) := dk_27 (dk_at dksX4_readCue_2 14 rfl rfl)
theorem dX4_readCue_59 : decode cX4_readCue 59 = .ok (.iconst 3, 1) := dk_6 (dk_at dksX4_readCue_2 15 rfl rfl)
theorem dX4_readCue_60 : decode cX4_readCue 60 = .ok (.isub, 1) := dk_100 (dk_at dksX4_readCue_2 16 rfl rfl)
theorem dX4_readCue_61 : decode cX4_readCue 61 = .ok (.iaload, 1) := dk_46 (dk_at dksX4_readCue_2 17 rfl rfl)
theorem dX4_readCue_62 : decode cX4_readCue 62 = .ok (.sipush 600, 3) := dk_17 2 88 (dk_at dksX4_readCue_2 18 rfl rfl)
theorem dX4_readCue_65 : decode cX4_readCue 65 = .ok (.invokevirtual 200, 3) := dk_182 0 200 (dk_at dksX4_readCue_2 21 rfl rfl)
theorem dX4_readCue_68 : decode cX4_readCue 68 = .ok (.ifCond .ne 5, 3) := dk_154 0 5 (dk_at dksX4_readCue_3 0 rfl rfl)
theorem dX4_readCue_71 : decode cX4_readCue 71 = .ok (.iconst 0, 1) := dk_3 (dk_at dksX4_readCue_3 3 rfl rfl)
theorem dX4_readCue_72 : decode cX4_readCue 72 = .ok (.ireturn, 1) := dk_172 (dk_at dksX4_readCue_3 4 rfl rfl)
theorem dX4_readCue_73 : decode cX4_readCue 73 = .ok (.aload_n 0, 1) := dk_42 (dk_at dksX4_readCue_3 5 rfl rfl)
theorem dX4_readCue_74 : decode cX4_readCue 74 = .ok (.getfield 48, 3) := dk_180 0 48 (dk_at dksX4_readCue_3 6 rfl rfl)
theorem dX4_readCue_77 : decode cX4_readCue 77 = .ok (.iload_n 1, 1) := dk_27 (dk_at dksX4_readCue_3 9 rfl rfl)
theorem dX4_readCue_78 : decode cX4_readCue 78 = .ok (.aload_n 0, 1) := dk_42 (dk_at dksX4_readCue_3 10 rfl rfl)
theorem dX4_readCue_79 : decode cX4_readCue 79 = .ok (.getfield 172, 3) := dk_180 0 172 (dk_at dksX4_readCue_3 11 rfl rfl)
theorem dX4_readCue_82 : decode cX4_readCue 82 = .ok (.iastore, 1) := dk_79 (dk_at dksX4_readCue_3 14 rfl rfl)
theorem dX4_readCue_83 : decode cX4_readCue 83 = .ok (.aload_n 0, 1) := dk_42 (dk_at dksX4_readCue_3 15 rfl rfl)
theorem dX4_readCue_84 : decode cX4_readCue 84 = .ok (.ldc2_w 333, 3) := dk_20 1 77 (dk_at dksX4_readCue_3 16 rfl rfl)
theorem dX4_readCue_87 : decode cX4_readCue 87 = .ok (.invokevirtual 177, 3) := dk_182 0 177 (dk_at dksX4_readCue_3 19 rfl rfl)
theorem dX4_readCue_90 : decode cX4_readCue 90 = .ok (.ifCond .eq 7, 3) := dk_153 0 7 (dk_at dksX4_readCue_4 0 rfl rfl)
theorem dX4_readCue_93 : decode cX4_readCue 93 = .ok (.iconst 0, 1) := dk_3 (dk_at dksX4_readCue_4 3 rfl rfl)
theorem dX4_readCue_94 : decode cX4_readCue 94 = .ok (.goto 46, 3) := dk_167 0 46 (dk_at dksX4_readCue_4 4 rfl rfl)
theorem dX4_readCue_97 : decode cX4_readCue 97 = .ok (.aload_n 0, 1) := dk_42 (dk_at dksX4_readCue_4 7 rfl rfl)
theorem dX4_readCue_98 : decode cX4_readCue 98 = .ok (.ldc2_w 335, 3) := dk_20 1 79 (dk_at dksX4_readCue_4 8 rfl rfl)
theorem dX4_readCue_101 : decode cX4_readCue 101 = .ok (.invokevirtual 177, 3) := dk_182 0 177 (dk_at dksX4_readCue_4 11 rfl rfl)
theorem dX4_readCue_104 : decode cX4_readCue 104 = .ok (.ifCond .eq 7, 3) := dk_153 0 7 (dk_at dksX4_readCue_4 14 rfl rfl)
theorem dX4_readCue_107 : decode cX4_readCue 107 = .ok (.iconst 1, 1) := dk_4 (dk_at dksX4_readCue_4 17 rfl rfl)
theorem dX4_readCue_108 : decode cX4_readCue 108 = .ok (.goto 32, 3) := dk_167 0 32 (dk_at dksX4_readCue_4 18 rfl rfl)
theorem dX4_readCue_111 : decode cX4_readCue 111 = .ok (.aload_n 0, 1) := dk_42 (dk_at dksX4_readCue_4 21 rfl rfl)
theorem dX4_readCue_112 : decode cX4_readCue 112 = .ok (.ldc2_w 337, 3) := dk_20 1 81 (dk_at dksX4_readCue_5 0 rfl rfl)
theorem dX4_readCue_115 : decode cX4_readCue 115 = .ok (.invokevirtual 177, 3) := dk_182 0 177 (dk_at dksX4_readCue_5 3 rfl rfl)
theorem dX4_readCue_118 : decode cX4_readCue 118 = .ok (.ifCond .eq 7, 3) := dk_153 0 7 (dk_at dksX4_readCue_5 6 rfl rfl)
theorem dX4_readCue_121 : decode cX4_readCue 121 = .ok (.iconst 2, 1) := dk_5 (dk_at dksX4_readCue_5 9 rfl rfl)
theorem dX4_readCue_122 : decode cX4_readCue 122 = .ok (.goto 18, 3) := dk_167 0 18 (dk_at dksX4_readCue_5 10 rfl rfl)
theorem dX4_readCue_125 : decode cX4_readCue 125 = .ok (.aload_n 0, 1) := dk_42 (dk_at dksX4_readCue_5 13 rfl rfl)
theorem dX4_readCue_126 : decode cX4_readCue 126 = .ok (.ldc2_w 339, 3) := dk_20 1 83 (dk_at dksX4_readCue_5 14 rfl rfl)
theorem dX4_readCue_129 : decode cX4_readCue 129 = .ok (.invokevirtual 177, 3) := dk_182 0 177 (dk_at dksX4_readCue_5 17 rfl rfl)
theorem dX4_readCue_132 : decode cX4_readCue 132 = .ok (.ifCond .eq 7, 3) := dk_153 0 7 (dk_at dksX4_readCue_5 20 rfl rfl)
theorem dX4_readCue_135 : decode cX4_readCue 135 = .ok (.iconst 3, 1) := dk_6 (dk_at dksX4_readCue_5 23 rfl rfl)
theorem dX4_readCue_136 : decode cX4_readCue 136 = .ok (.goto 4, 3) := dk_167 0 4 (dk_at dksX4_readCue_6 0 rfl rfl)
theorem dX4_readCue_139 : decode cX4_readCue 139 = .ok (.iconst (-1), 1) := dk_2 (dk_at dksX4_readCue_6 3 rfl rfl)
theorem dX4_readCue_140 : decode cX4_readCue 140 = .ok (.istore_n 2, 1) := dk_61 (dk_at dksX4_readCue_6 4 rfl rfl)
theorem dX4_readCue_141 : decode cX4_readCue 141 = .ok (.iload_n 2, 1) := dk_28 (dk_at dksX4_readCue_6 5 rfl rfl)
theorem dX4_readCue_142 : decode cX4_readCue 142 = .ok (.ifCond .ge 9, 3) := dk_156 0 9 (dk_at dksX4_readCue_6 6 rfl rfl)
theorem dX4_readCue_145 : decode cX4_readCue 145 = .ok (.aload_n 0, 1) := dk_42 (dk_at dksX4_readCue_6 9 rfl rfl)
theorem dX4_readCue_146 : decode cX4_readCue 146 = .ok (.iconst 1, 1) := dk_4 (dk_at dksX4_readCue_6 10 rfl rfl)
theorem dX4_readCue_147 : decode cX4_readCue 147 = .ok (.invokevirtual 162, 3) := dk_182 0 162 (dk_at dksX4_readCue_6 11 rfl rfl)
theorem dX4_readCue_150 : decode cX4_readCue 150 = .ok (.ireturn, 1) := dk_172 (dk_at dksX4_readCue_6 14 rfl rfl)
theorem dX4_readCue_151 : decode cX4_readCue 151 = .ok (.aload_n 0, 1) := dk_42 (dk_at dksX4_readCue_6 15 rfl rfl)
theorem dX4_readCue_152 : decode cX4_readCue 152 = .ok (.getfield 48, 3) := dk_180 0 48 (dk_at dksX4_readCue_6 16 rfl rfl)
theorem dX4_readCue_155 : decode cX4_readCue 155 = .ok (.iload_n 1, 1) := dk_27 (dk_at dksX4_readCue_6 19 rfl rfl)
theorem dX4_readCue_156 : decode cX4_readCue 156 = .ok (.iconst 1, 1) := dk_4 (dk_at dksX4_readCue_6 20 rfl rfl)
theorem dX4_readCue_157 : decode cX4_readCue 157 = .ok (.iadd, 1) := dk_96 (dk_at dksX4_readCue_6 21 rfl rfl)
theorem dX4_readCue_158 : decode cX4_readCue 158 = .ok (.iload_n 2, 1) := dk_28 (dk_at dksX4_readCue_6 22 rfl rfl)
theorem dX4_readCue_159 : decode cX4_readCue 159 = .ok (.iastore, 1) := dk_79 (dk_at dksX4_readCue_6 23 rfl rfl)
theorem dX4_readCue_160 : decode cX4_readCue 160 = .ok (.aload_n 0, 1) := dk_42 (dk_at dksX4_readCue_7 0 rfl rfl)
theorem dX4_readCue_161 : decode cX4_readCue 161 = .ok (.getfield 48, 3) := dk_180 0 48 (dk_at dksX4_readCue_7 1 rfl rfl)
theorem dX4_readCue_164 : decode cX4_readCue 164 = .ok (.iload_n 1, 1) := dk_27 (dk_at dksX4_readCue_7 4 rfl rfl)
theorem dX4_readCue_165 : decode cX4_readCue 165 = .ok (.iconst 2, 1) := dk_5 (dk_at dksX4_readCue_7 5 rfl rfl)
theorem dX4_readCue_166 : decode cX4_readCue 166 = .ok (.iadd, 1) := dk_96 (dk_at dksX4_readCue_7 6 rfl rfl)
theorem dX4_readCue_167 : decode cX4_readCue 167 = .ok (.iconst (-1), 1) := dk_2 (dk_at dksX4_readCue_7 7 rfl rfl)
theorem dX4_readCue_168 : decode cX4_readCue 168 = .ok (.iastore, 1) := dk_79 (dk_at dksX4_readCue_7 8 rfl rfl)
theorem dX4_readCue_169 : decode cX4_readCue 169 = .ok (.aload_n 0, 1) := dk_42 (dk_at dksX4_readCue_7 9 rfl rfl)
theorem dX4_readCue_170 : decode cX4_readCue 170 = .ok (.invokevirtual 165, 3) := dk_182 0 165 (dk_at dksX4_readCue_7 10 rfl rfl)
theorem dX4_readCue_173 : decode cX4_readCue 173 = .ok (.iload_n 2, 1) := dk_28 (dk_at dksX4_readCue_7 13 rfl rfl)
theorem dX4_readCue_174 : decode cX4_readCue 174 = .ok (.iconst 3, 1) := dk_6 (dk_at dksX4_readCue_7 14 rfl rfl)
theorem dX4_readCue_175 : decode cX4_readCue 175 = .ok (.if_icmp .ne 5, 3) := dk_160 0 5 (dk_at dksX4_readCue_7 15 rfl rfl)
theorem dX4_readCue_178 : decode cX4_readCue 178 = .ok (.iconst 1, 1) := dk_4 (dk_at dksX4_readCue_7 18 rfl rfl)
theorem dX4_readCue_179 : decode cX4_readCue 179 = .ok (.ireturn, 1) := dk_172 (dk_at dksX4_readCue_7 19 rfl rfl)
theorem dX4_readCue_180 : decode cX4_readCue 180 = .ok (.aload_n 0, 1) := dk_42 (dk_at dksX4_readCue_7 20 rfl rfl)
theorem dX4_readCue_181 : decode cX4_readCue 181 = .ok (.iconst 0, 1) := dk_3 (dk_at dksX4_readCue_7 21 rfl rfl)
theorem dX4_readCue_182 : decode cX4_readCue 182 = .ok (.aload_n 0, 1) := dk_42 (dk_at dksX4_readCue_7 22 rfl rfl)
theorem dX4_readCue_183 : decode cX4_readCue 183 = .ok (.getfield 41, 3) := dk_180 0 41 (dk_at dksX4_readCue_8 0 rfl rfl)
theorem dX4_readCue_186 : decode cX4_readCue 186 = .ok (.iconst 0, 1) := dk_3 (dk_at dksX4_readCue_8 3 rfl rfl)
theorem dX4_readCue_187 : decode cX4_readCue 187 = .ok (.iaload, 1) := dk_46 (dk_at dksX4_readCue_8 4 rfl rfl)
theorem dX4_readCue_188 : decode cX4_readCue 188 = .ok (.iconst 1, 1) := dk_4 (dk_at dksX4_readCue_8 5 rfl rfl)
theorem dX4_readCue_189 : decode cX4_readCue 189 = .ok (.isub, 1) := dk_100 (dk_at dksX4_readCue_8 6 rfl rfl)
theorem dX4_readCue_190 : decode cX4_readCue 190 = .ok (.invokevirtual 200, 3) := dk_182 0 200 (dk_at dksX4_readCue_8 7 rfl rfl)
theorem dX4_readCue_193 : decode cX4_readCue 193 = .ok (.ifCond .ne 5, 3) := dk_154 0 5 (dk_at dksX4_readCue_8 10 rfl rfl)
theorem dX4_readCue_196 : decode cX4_readCue 196 = .ok (.iconst 0, 1) := dk_3 (dk_at dksX4_readCue_8 13 rfl rfl)
theorem dX4_readCue_197 : decode cX4_readCue 197 = .ok (.ireturn, 1) := dk_172 (dk_at dksX4_readCue_8 14 rfl rfl)
theorem dX4_readCue_198 : decode cX4_readCue 198 = .ok (.aload_n 0, 1) := dk_42 (dk_at dksX4_readCue_8 15 rfl rfl)
theorem dX4_readCue_199 : decode cX4_readCue 199 = .ok (.getfield 172, 3) := dk_180 0 172 (dk_at dksX4_readCue_8 16 rfl rfl)
theorem dX4_readCue_202 : decode cX4_readCue 202 = .ok (.istore_n 3, 1) := dk_62 (dk_at dksX4_readCue_8 19 rfl rfl)
theorem dX4_readCue_203 : decode cX4_readCue 203 = .ok (.aload_n 0, 1) := dk_42 (dk_at dksX4_readCue_8 20 rfl rfl)
theorem dX4_readCue_204 : decode cX4_readCue 204 = .ok (.getfield 136, 3) := dk_180 0 136 (dk_at dksX4_readCue_8 21 rfl rfl)
theorem dX4_readCue_207 : decode cX4_readCue 207 = .ok (.iconst 2, 1) := dk_5 (dk_at dksX4_readCue_9 0 rfl rfl)
theorem dX4_readCue_208 : decode cX4_readCue 208 = .ok (.if_icmp .eq 9, 3) := dk_159 0 9 (dk_at dksX4_readCue_9 1 rfl rfl)
theorem dX4_readCue_211 : decode cX4_readCue 211 = .ok (.aload_n 0, 1) := dk_42 (dk_at dksX4_readCue_9 4 rfl rfl)
theorem dX4_readCue_212 : decode cX4_readCue 212 = .ok (.iconst 1, 1) := dk_4 (dk_at dksX4_readCue_9 5 rfl rfl)
theorem dX4_readCue_213 : decode cX4_readCue 213 = .ok (.invokevirtual 162, 3) := dk_182 0 162 (dk_at dksX4_readCue_9 6 rfl rfl)
theorem dX4_readCue_216 : decode cX4_readCue 216 = .ok (.ireturn, 1) := dk_172 (dk_at dksX4_readCue_9 9 rfl rfl)
theorem dX4_readCue_217 : decode cX4_readCue 217 = .ok (.aload_n 0, 1) := dk_42 (dk_at dksX4_readCue_9 10 rfl rfl)
theorem dX4_readCue_218 : decode cX4_readCue 218 = .ok (.iload_n 3, 1) := dk_29 (dk_at dksX4_readCue_9 11 rfl rfl)
theorem dX4_readCue_219 : decode cX4_readCue 219 = .ok (.aload_n 0, 1) := dk_42 (dk_at dksX4_readCue_9 12 rfl rfl)
theorem dX4_readCue_220 : decode cX4_readCue 220 = .ok (.getfield 146, 3) := dk_180 0 146 (dk_at dksX4_readCue_9 13 rfl rfl)
theorem dX4_readCue_223 : decode cX4_readCue 223 = .ok (.invokevirtual 305, 3) := dk_182 1 49 (dk_at dksX4_readCue_9 16 rfl rfl)
theorem dX4_readCue_226 : decode cX4_readCue 226 = .ok (.ifCond .ne 9, 3) := dk_154 0 9 (dk_at dksX4_readCue_9 19 rfl rfl)
theorem dX4_readCue_229 : decode cX4_readCue 229 = .ok (.aload_n 0, 1) := dk_42 (dk_at dksX4_readCue_9 22 rfl rfl)
theorem dX4_readCue_230 : decode cX4_readCue 230 = .ok (.iconst 2, 1) := dk_5 (dk_at dksX4_readCue_9 23 rfl rfl)
theorem dX4_readCue_231 : decode cX4_readCue 231 = .ok (.invokevirtual 162, 3) := dk_182 0 162 (dk_at dksX4_readCue_10 0 rfl rfl)
theorem dX4_readCue_234 : decode cX4_readCue 234 = .ok (.ireturn, 1) := dk_172 (dk_at dksX4_readCue_10 3 rfl rfl)
theorem dX4_readCue_235 : decode cX4_readCue 235 = .ok (.aload_n 0, 1) := dk_42 (dk_at dksX4_readCue_10 4 rfl rfl)
theorem dX4_readCue_236 : decode cX4_readCue 236 = .ok (.getfield 48, 3) := dk_180 0 48 (dk_at dksX4_readCue_10 5 rfl rfl)
theorem dX4_readCue_239 : decode cX4_readCue 239 = .ok (.iload_n 1, 1) := dk_27 (dk_at dksX4_readCue_10 8 rfl rfl)
theorem dX4_readCue_240 : decode cX4_readCue 240 = .ok (.iconst 2, 1) := dk_5 (dk_at dksX4_readCue_10 9 rfl rfl)
theorem dX4_readCue_241 : decode cX4_readCue 241 = .ok (.iadd, 1) := dk_96 (dk_at dksX4_readCue_10 10 rfl rfl)
theorem dX4_readCue_242 : decode cX4_readCue 242 = .ok (.aload_n 0, 1) := dk_42 (dk_at dksX4_readCue_10 11 rfl rfl)
theorem dX4_readCue_243 : decode cX4_readCue 243 = .ok (.getfield 41, 3) := dk_180 0 41 (dk_at dksX4_readCue_10 12 rfl rfl)
theorem dX4_readCue_246 : decode cX4_readCue 246 = .ok (.iconst 1, 1) := dk_4 (dk_at dksX4_readCue_10 15 rfl rfl)
theorem dX4_readCue_247 : decode cX4_readCue 247 = .ok (.iaload, 1) := dk_46 (dk_at dksX4_readCue_10 16 rfl rfl)
theorem dX4_readCue_248 : decode cX4_readCue 248 = .ok (.iload_n 3, 1) := dk_29 (dk_at dksX4_readCue_10 17 rfl rfl)
theorem dX4_readCue_249 : decode cX4_readCue 249 = .ok (.imul, 1) := dk_104 (dk_at dksX4_readCue_10 18 rfl rfl)
theorem dX4_readCue_250 : decode cX4_readCue 250 = .ok (.aload_n 0, 1) := dk_42 (dk_at dksX4_readCue_10 19 rfl rfl)
theorem dX4_readCue_251 : decode cX4_readCue 251 = .ok (.getfield 146, 3) := dk_180 0 146 (dk_at dksX4_readCue_10 20 rfl rfl)
theorem dX4_readCue_254 : decode cX4_readCue 254 = .ok (.iadd, 1) := dk_96 (dk_at dksX4_readCue_10 23 rfl rfl)
theorem dX4_readCue_255 : decode cX4_readCue 255 = .ok (.iastore, 1) := dk_79 (dk_at dksX4_readCue_11 0 rfl rfl)
theorem dX4_readCue_256 : decode cX4_readCue 256 = .ok (.aload_n 0, 1) := dk_42 (dk_at dksX4_readCue_11 1 rfl rfl)
theorem dX4_readCue_257 : decode cX4_readCue 257 = .ok (.invokevirtual 165, 3) := dk_182 0 165 (dk_at dksX4_readCue_11 2 rfl rfl)
theorem dX4_readCue_260 : decode cX4_readCue 260 = .ok (.iconst 1, 1) := dk_4 (dk_at dksX4_readCue_11 5 rfl rfl)
theorem dX4_readCue_261 : decode cX4_readCue 261 = .ok (.ireturn, 1) := dk_172 (dk_at dksX4_readCue_11 6 rfl rfl)
def dkwX4_isSeatAt_2 : List UInt8 := [96, 46, 158, 0, 7, 4, 167, 0, 4, 3, 172]
abbrev dktX4_isSeatAt_2 : List UInt8 := dkwX4_isSeatAt_2 ++ []
def dkwX4_isSeatAt_1 : List UInt8 := [4, 100, 184, 0, 168, 153, 0, 28, 42, 180, 0, 41, 16, 6, 42, 180, 0, 41, 4, 46, 27, 104, 96, 28]
abbrev dktX4_isSeatAt_1 : List UInt8 := dkwX4_isSeatAt_1 ++ dktX4_isSeatAt_2
def dkwX4_isSeatAt_0 : List UInt8 := [27, 3, 42, 180, 0, 41, 3, 46, 4, 100, 184, 0, 168, 153, 0, 44, 28, 3, 42, 180, 0, 41, 4, 46]
abbrev dktX4_isSeatAt_0 : List UInt8 := dkwX4_isSeatAt_0 ++ dktX4_isSeatAt_1
theorem dksX4_isSeatAt_0 : cX4_isSeatAt.data.toList.drop 0 = dktX4_isSeatAt_0 := by decide +kernel
theorem dksX4_isSeatAt_1 : cX4_isSeatAt.data.toList.drop 24 = dktX4_isSeatAt_1 := dk_seg dksX4_isSeatAt_0 24 rfl rfl
theorem dksX4_isSeatAt_2 : cX4_isSeatAt.data.toList.drop 48 = dktX4_isSeatAt_2 := dk_seg dksX4_isSeatAt_1 24 rfl rfl
theorem dX4_isSeatAt_0 : decode cX4_isSeatAt 0 = .ok (.iload_n 1, 1) := dk_27 (dk_at dksX4_isSeatAt_0 0 rfl rfl)
theorem dX4_isSeatAt_1 : decode cX4_isSeatAt 1 = .ok (.iconst 0, 1) := dk_3 (dk_at dksX4_isSeatAt_0 1 rfl rfl)
theorem dX4_isSeatAt_2 : decode cX4_isSeatAt 2 = .ok (.aload_n 0, 1) := dk_42 (dk_at dksX4_isSeatAt_0 2 rfl rfl)
theorem dX4_isSeatAt_3 : decode cX4_isSeatAt 3 = .ok (.getfield 41, 3) := dk_180 0 41 (dk_at dksX4_isSeatAt_0 3 rfl rfl)
theorem dX4_isSeatAt_6 : decode cX4_isSeatAt 6 = .ok (.iconst 0, 1) := dk_3 (dk_at dksX4_isSeatAt_0 6 rfl rfl)
theorem dX4_isSeatAt_7 : decode cX4_isSeatAt 7 = .ok (.iaload, 1) := dk_46 (dk_at dksX4_isSeatAt_0 7 rfl rfl)
theorem dX4_isSeatAt_8 : decode cX4_isSeatAt 8 = .ok (.iconst 1, 1) := dk_4 (dk_at dksX4_isSeatAt_0 8 rfl rfl)
theorem dX4_isSeatAt_9 : decode cX4_isSeatAt 9 = .ok (.isub, 1) := dk_100 (dk_at dksX4_isSeatAt_0 9 rfl rfl)
theorem dX4_isSeatAt_10 : decode cX4_isSeatAt 10 = .ok (.invokestatic 168, 3) := dk_184 0 168 (dk_at dksX4_isSeatAt_0 10 rfl rfl)
theorem dX4_isSeatAt_13 : decode cX4_isSeatAt 13 = .ok (.ifCond .eq 44, 3) := dk_153 0 44 (dk_at dksX4_isSeatAt_0 13 rfl rfl)
theorem dX4_isSeatAt_16 : decode cX4_isSeatAt 16 = .ok (.iload_n 2, 1) := dk_28 (dk_at dksX4_isSeatAt_0 16 rfl rfl)
theorem dX4_isSeatAt_17 : decode cX4_isSeatAt 17 = .ok (.iconst 0, 1) := dk_3 (dk_at dksX4_isSeatAt_0 17 rfl rfl)
theorem dX4_isSeatAt_18 : decode cX4_isSeatAt 18 = .ok (.aload_n 0, 1) := dk_42 (dk_at dksX4_isSeatAt_0 18 rfl rfl)
theorem dX4_isSeatAt_19 : decode cX4_isSeatAt 19 = .ok (.getfield 41, 3) := dk_180 0 41 (dk_at dksX4_isSeatAt_0 19 rfl rfl)
theorem dX4_isSeatAt_22 : decode cX4_isSeatAt 22 = .ok (.iconst 1, 1) := dk_4 (dk_at dksX4_isSeatAt_0 22 rfl rfl)
theorem dX4_isSeatAt_23 : decode cX4_isSeatAt 23 = .ok (.iaload, 1) := dk_46 (dk_at dksX4_isSeatAt_0 23 rfl rfl)
theorem dX4_isSeatAt_24 : decode cX4_isSeatAt 24 = .ok (.iconst 1, 1) := dk_4 (dk_at dksX4_isSeatAt_1 0 rfl rfl)
theorem dX4_isSeatAt_25 : decode cX4_isSeatAt 25 = .ok (.isub, 1) := dk_100 (dk_at dksX4_isSeatAt_1 1 rfl rfl)
theorem dX4_isSeatAt_26 : decode cX4_isSeatAt 26 = .ok (.invokestatic 168, 3) := dk_184 0 168 (dk_at dksX4_isSeatAt_1 2 rfl rfl)
theorem dX4_isSeatAt_29 : decode cX4_isSeatAt 29 = .ok (.ifCond .eq 28, 3) := dk_153 0 28 (dk_at dksX4_isSeatAt_1 5 rfl rfl)
theorem dX4_isSeatAt_32 : decode cX4_isSeatAt 32 = .ok (.aload_n 0, 1) := dk_42 (dk_at dksX4_isSeatAt_1 8 rfl rfl)
theorem dX4_isSeatAt_33 : decode cX4_isSeatAt 33 = .ok (.getfield 41, 3) := dk_180 0 41 (dk_at dksX4_isSeatAt_1 9 rfl rfl)
theorem dX4_isSeatAt_36 : decode cX4_isSeatAt 36 = .ok (.bipush 6, 2) := dk_16 6 (dk_at dksX4_isSeatAt_1 12 rfl rfl)
theorem dX4_isSeatAt_38 : decode cX4_isSeatAt 38 = .ok (.aload_n 0, 1) := dk_42 (dk_at dksX4_isSeatAt_1 14 rfl rfl)
theorem dX4_isSeatAt_39 : decode cX4_isSeatAt 39 = .ok (.getfield 41, 3) := dk_180 0 41 (dk_at dksX4_isSeatAt_1 15 rfl rfl)
theorem dX4_isSeatAt_42 : decode cX4_isSeatAt 42 = .ok (.iconst 1, 1) := dk_4 (dk_at dksX4_isSeatAt_1 18 rfl rfl)
theorem dX4_isSeatAt_43 : decode cX4_isSeatAt 43 = .ok (.iaload, 1) := dk_46 (dk_at dksX4_isSeatAt_1 19 rfl rfl)
theorem dX4_isSeatAt_44 : decode cX4_isSeatAt 44 = .ok (.iload_n 1, 1) := dk_27 (dk_at dksX4_isSeatAt_1 20 rfl rfl)
theorem dX4_isSeatAt_45 : decode cX4_isSeatAt 45 = .ok (.imul, 1) := dk_104 (dk_at dksX4_isSeatAt_1 21 rfl rfl)
theorem dX4_isSeatAt_46 : decode cX4_isSeatAt 46 = .ok (.iadd, 1) := dk_96 (dk_at dksX4_isSeatAt_1 22 rfl rfl)
theorem dX4_isSeatAt_47 : decode cX4_isSeatAt 47 = .ok (.iload_n 2, 1) := dk_28 (dk_at dksX4_isSeatAt_1 23 rfl rfl)
theorem dX4_isSeatAt_48 : decode cX4_isSeatAt 48 = .ok (.iadd, 1) := dk_96 (dk_at dksX4_isSeatAt_2 0 rfl rfl)
theorem dX4_isSeatAt_49 : decode cX4_isSeatAt 49 = .ok (.iaload, 1) := dk_46 (dk_at dksX4_isSeatAt_2 1 rfl rfl)
theorem dX4_isSeatAt_50 : decode cX4_isSeatAt 50 = .ok (.ifCond .le 7, 3) := dk_158 0 7 (dk_at dksX4_isSeatAt_2 2 rfl rfl)
theorem dX4_isSeatAt_53 : decode cX4_isSeatAt 53 = .ok (.iconst 1, 1) := dk_4 (dk_at dksX4_isSeatAt_2 5 rfl rfl)
theorem dX4_isSeatAt_54 : decode cX4_isSeatAt 54 = .ok (.goto 4, 3) := dk_167 0 4 (dk_at dksX4_isSeatAt_2 6 rfl rfl)
theorem dX4_isSeatAt_57 : decode cX4_isSeatAt 57 = .ok (.iconst 0, 1) := dk_3 (dk_at dksX4_isSeatAt_2 9 rfl rfl)
theorem dX4_isSeatAt_58 : decode cX4_isSeatAt 58 = .ok (.ireturn, 1) := dk_172 (dk_at dksX4_isSeatAt_2 10 rfl rfl)
def dkwX4_cue_2 : List UInt8 := [180, 0, 41, 17, 2, 79, 6, 27, 104, 96, 28, 96, 46, 172]
abbrev dktX4_cue_2 : List UInt8 := dkwX4_cue_2 ++ []
def dkwX4_cue_1 : List UInt8 := [184, 0, 168, 154, 0, 7, 4, 167, 0, 4, 3, 182, 1, 61, 153, 0, 7, 3, 167, 0, 17, 42]
abbrev dktX4_cue_1 : List UInt8 := dkwX4_cue_1 ++ dktX4_cue_2
def dkwX4_cue_0 : List UInt8 := [42, 27, 3, 42, 180, 0, 41, 17, 2, 78, 46, 4, 100, 184, 0, 168, 153, 0, 12, 28, 3, 5]
abbrev dktX4_cue_0 : List UInt8 := dkwX4_cue_0 ++ dktX4_cue_1
theorem dksX4_cue_0 : cX4_cue.data.toList.drop 0 = dktX4_cue_0 := by decide +kernel
theorem dksX4_cue_1 : cX4_cue.data.toList.drop 22 = dktX4_cue_1 := dk_seg dksX4_cue_0 22 rfl rfl
theorem dksX4_cue_2 : cX4_cue.data.toList.drop 44 = dktX4_cue_2 := dk_seg dksX4_cue_1 22 rfl rfl
theorem dX4_cue_0 : decode cX4_cue 0 = .ok (.aload_n 0, 1) := dk_42 (dk_at dksX4_cue_0 0 rfl rfl)
theorem dX4_cue_1 : decode cX4_cue 1 = .ok (.iload_n 1, 1) := dk_27 (dk_at dksX4_cue_0 1 rfl rfl)
theorem dX4_cue_2 : decode cX4_cue 2 = .ok (.iconst 0, 1) := dk_3 (dk_at dksX4_cue_0 2 rfl rfl)
theorem dX4_cue_3 : decode cX4_cue 3 = .ok (.aload_n 0, 1) := dk_42 (dk_at dksX4_cue_0 3 rfl rfl)
theorem dX4_cue_4 : decode cX4_cue 4 = .ok (.getfield 41, 3) := dk_180 0 41 (dk_at dksX4_cue_0 4 rfl rfl)
theorem dX4_cue_7 : decode cX4_cue 7 = .ok (.sipush 590, 3) := dk_17 2 78 (dk_at dksX4_cue_0 7 rfl rfl)
theorem dX4_cue_10 : decode cX4_cue 10 = .ok (.iaload, 1) := dk_46 (dk_at dksX4_cue_0 10 rfl rfl)
theorem dX4_cue_11 : decode cX4_cue 11 = .ok (.iconst 1, 1) := dk_4 (dk_at dksX4_cue_0 11 rfl rfl)
theorem dX4_cue_12 : decode cX4_cue 12 = .ok (.isub, 1) := dk_100 (dk_at dksX4_cue_0 12 rfl rfl)
theorem dX4_cue_13 : decode cX4_cue 13 = .ok (.invokestatic 168, 3) := dk_184 0 168 (dk_at dksX4_cue_0 13 rfl rfl)
theorem dX4_cue_16 : decode cX4_cue 16 = .ok (.ifCond .eq 12, 3) := dk_153 0 12 (dk_at dksX4_cue_0 16 rfl rfl)
theorem dX4_cue_19 : decode cX4_cue 19 = .ok (.iload_n 2, 1) := dk_28 (dk_at dksX4_cue_0 19 rfl rfl)
theorem dX4_cue_20 : decode cX4_cue 20 = .ok (.iconst 0, 1) := dk_3 (dk_at dksX4_cue_0 20 rfl rfl)
theorem dX4_cue_21 : decode cX4_cue 21 = .ok (.iconst 2, 1) := dk_5 (dk_at dksX4_cue_0 21 rfl rfl)
theorem dX4_cue_22 : decode cX4_cue 22 = .ok (.invokestatic 168, 3) := dk_184 0 168 (dk_at dksX4_cue_1 0 rfl rfl)
theorem dX4_cue_25 : decode cX4_cue 25 = .ok (.ifCond .ne 7, 3) := dk_154 0 7 (dk_at dksX4_cue_1 3 rfl rfl)
theorem dX4_cue_28 : decode cX4_cue 28 = .ok (.iconst 1, 1) := dk_4 (dk_at dksX4_cue_1 6 rfl rfl)
theorem dX4_cue_29 : decode cX4_cue 29 = .ok (.goto 4, 3) := dk_167 0 4 (dk_at dksX4_cue_1 7 rfl rfl)
theorem dX4_cue_32 : decode cX4_cue 32 = .ok (.iconst 0, 1) := dk_3 (dk_at dksX4_cue_1 10 rfl rfl)
theorem dX4_cue_33 : decode cX4_cue 33 = .ok (.invokevirtual 317, 3) := dk_182 1 61 (dk_at dksX4_cue_1 11 rfl rfl)
theorem dX4_cue_36 : decode cX4_cue 36 = .ok (.ifCond .eq 7, 3) := dk_153 0 7 (dk_at dksX4_cue_1 14 rfl rfl)
theorem dX4_cue_39 : decode cX4_cue 39 = .ok (.iconst 0, 1) := dk_3 (dk_at dksX4_cue_1 17 rfl rfl)
theorem dX4_cue_40 : decode cX4_cue 40 = .ok (.goto 17, 3) := dk_167 0 17 (dk_at dksX4_cue_1 18 rfl rfl)
theorem dX4_cue_43 : decode cX4_cue 43 = .ok (.aload_n 0, 1) := dk_42 (dk_at dksX4_cue_1 21 rfl rfl)
theorem dX4_cue_44 : decode cX4_cue 44 = .ok (.getfield 41, 3) := dk_180 0 41 (dk_at dksX4_cue_2 0 rfl rfl)
theorem dX4_cue_47 : decode cX4_cue 47 = .ok (.sipush 591, 3) := dk_17 2 79 (dk_at dksX4_cue_2 3 rfl rfl)
theorem dX4_cue_50 : decode cX4_cue 50 = .ok (.iconst 3, 1) := dk_6 (dk_at dksX4_cue_2 6 rfl rfl)
theorem dX4_cue_51 : decode cX4_cue 51 = .ok (.iload_n 1, 1) := dk_27 (dk_at dksX4_cue_2 7 rfl rfl)
theorem dX4_cue_52 : decode cX4_cue 52 = .ok (.imul, 1) := dk_104 (dk_at dksX4_cue_2 8 rfl rfl)
theorem dX4_cue_53 : decode cX4_cue 53 = .ok (.iadd, 1) := dk_96 (dk_at dksX4_cue_2 9 rfl rfl)
theorem dX4_cue_54 : decode cX4_cue 54 = .ok (.iload_n 2, 1) := dk_28 (dk_at dksX4_cue_2 10 rfl rfl)
theorem dX4_cue_55 : decode cX4_cue 55 = .ok (.iadd, 1) := dk_96 (dk_at dksX4_cue_2 11 rfl rfl)
theorem dX4_cue_56 : decode cX4_cue 56 = .ok (.iaload, 1) := dk_46 (dk_at dksX4_cue_2 12 rfl rfl)
theorem dX4_cue_57 : decode cX4_cue 57 = .ok (.ireturn, 1) := dk_172 (dk_at dksX4_cue_2 13 rfl rfl)
def dkwX4_sees_3 : List UInt8 := [180, 1, 92, 127, 184, 1, 88, 172]
abbrev dktX4_sees_3 : List UInt8 := dkwX4_sees_3 ++ []
def dkwX4_sees_2 : List UInt8 := [180, 0, 61, 16, 6, 27, 104, 29, 96, 47, 21, 4, 4, 160, 0, 10, 42, 180, 1, 95, 167, 0, 7, 42]
abbrev dktX4_sees_2 : List UInt8 := dkwX4_sees_2 ++ dktX4_sees_3
def dkwX4_sees_1 : List UInt8 := [184, 0, 168, 153, 0, 13, 21, 4, 4, 5, 184, 0, 168, 154, 0, 5, 2, 172, 42, 28, 182, 1, 149, 42]
abbrev dktX4_sees_1 : List UInt8 := dkwX4_sees_1 ++ dktX4_sees_2
def dkwX4_sees_0 : List UInt8 := [42, 3, 181, 0, 1, 42, 27, 182, 1, 58, 153, 0, 29, 28, 184, 1, 146, 153, 0, 22, 29, 3, 8]
abbrev dktX4_sees_0 : List UInt8 := dkwX4_sees_0 ++ dktX4_sees_1
theorem dksX4_sees_0 : cX4_sees.data.toList.drop 0 = dktX4_sees_0 := by decide +kernel
theorem dksX4_sees_1 : cX4_sees.data.toList.drop 23 = dktX4_sees_1 := dk_seg dksX4_sees_0 23 rfl rfl
theorem dksX4_sees_2 : cX4_sees.data.toList.drop 47 = dktX4_sees_2 := dk_seg dksX4_sees_1 24 rfl rfl
theorem dksX4_sees_3 : cX4_sees.data.toList.drop 71 = dktX4_sees_3 := dk_seg dksX4_sees_2 24 rfl rfl
theorem dX4_sees_0 : decode cX4_sees 0 = .ok (.aload_n 0, 1) := dk_42 (dk_at dksX4_sees_0 0 rfl rfl)
theorem dX4_sees_1 : decode cX4_sees 1 = .ok (.iconst 0, 1) := dk_3 (dk_at dksX4_sees_0 1 rfl rfl)
theorem dX4_sees_2 : decode cX4_sees 2 = .ok (.putfield 1, 3) := dk_181 0 1 (dk_at dksX4_sees_0 2 rfl rfl)
theorem dX4_sees_5 : decode cX4_sees 5 = .ok (.aload_n 0, 1) := dk_42 (dk_at dksX4_sees_0 5 rfl rfl)
theorem dX4_sees_6 : decode cX4_sees 6 = .ok (.iload_n 1, 1) := dk_27 (dk_at dksX4_sees_0 6 rfl rfl)
theorem dX4_sees_7 : decode cX4_sees 7 = .ok (.invokevirtual 314, 3) := dk_182 1 58 (dk_at dksX4_sees_0 7 rfl rfl)
theorem dX4_sees_10 : decode cX4_sees 10 = .ok (.ifCond .eq 29, 3) := dk_153 0 29 (dk_at dksX4_sees_0 10 rfl rfl)
theorem dX4_sees_13 : decode cX4_sees 13 = .ok (.iload_n 2, 1) := dk_28 (dk_at dksX4_sees_0 13 rfl rfl)
theorem dX4_sees_14 : decode cX4_sees 14 = .ok (.invokestatic 402, 3) := dk_184 1 146 (dk_at dksX4_sees_0 14 rfl rfl)
theorem dX4_sees_17 : decode cX4_sees 17 = .ok (.ifCond .eq 22, 3) := dk_153 0 22 (dk_at dksX4_sees_0 17 rfl rfl)
theorem dX4_sees_20 : decode cX4_sees 20 = .ok (.iload_n 3, 1) := dk_29 (dk_at dksX4_sees_0 20 rfl rfl)
theorem dX4_sees_21 : decode cX4_sees 21 = .ok (.iconst 0, 1) := dk_3 (dk_at dksX4_sees_0 21 rfl rfl)
theorem dX4_sees_22 : decode cX4_sees 22 = .ok (.iconst 5, 1) := dk_8 (dk_at dksX4_sees_0 22 rfl rfl)
theorem dX4_sees_23 : decode cX4_sees 23 = .ok (.invokestatic 168, 3) := dk_184 0 168 (dk_at dksX4_sees_1 0 rfl rfl)
theorem dX4_sees_26 : decode cX4_sees 26 = .ok (.ifCond .eq 13, 3) := dk_153 0 13 (dk_at dksX4_sees_1 3 rfl rfl)
theorem dX4_sees_29 : decode cX4_sees 29 = .ok (.iload 4, 2) := dk_21 4 (dk_at dksX4_sees_1 6 rfl rfl)
theorem dX4_sees_31 : decode cX4_sees 31 = .ok (.iconst 1, 1) := dk_4 (dk_at dksX4_sees_1 8 rfl rfl)
theorem dX4_sees_32 : decode cX4_sees 32 = .ok (.iconst 2, 1) := dk_5 (dk_at dksX4_sees_1 9 rfl rfl)
theorem dX4_sees_33 : decode cX4_sees 33 = .ok (.invokestatic 168, 3) := dk_184 0 168 (dk_at dksX4_sees_1 10 rfl rfl)
theorem dX4_sees_36 : decode cX4_sees 36 = .ok (.ifCond .ne 5, 3) := dk_154 0 5 (dk_at dksX4_sees_1 13 rfl rfl)
theorem dX4_sees_39 : decode cX4_sees 39 = .ok (.iconst (-1), 1) := dk_2 (dk_at dksX4_sees_1 16 rfl rfl)
theorem dX4_sees_40 : decode cX4_sees 40 = .ok (.ireturn, 1) := dk_172 (dk_at dksX4_sees_1 17 rfl rfl)
theorem dX4_sees_41 : decode cX4_sees 41 = .ok (.aload_n 0, 1) := dk_42 (dk_at dksX4_sees_1 18 rfl rfl)
theorem dX4_sees_42 : decode cX4_sees 42 = .ok (.iload_n 2, 1) := dk_28 (dk_at dksX4_sees_1 19 rfl rfl)
theorem dX4_sees_43 : decode cX4_sees 43 = .ok (.invokevirtual 405, 3) := dk_182 1 149 (dk_at dksX4_sees_1 20 rfl rfl)
theorem dX4_sees_46 : decode cX4_sees 46 = .ok (.aload_n 0, 1) := dk_42 (dk_at dksX4_sees_1 23 rfl rfl)
theorem dX4_sees_47 : decode cX4_sees 47 = .ok (.getfield 61, 3) := dk_180 0 61 (dk_at dksX4_sees_2 0 rfl rfl)
theorem dX4_sees_50 : decode cX4_sees 50 = .ok (.bipush 6, 2) := dk_16 6 (dk_at dksX4_sees_2 3 rfl rfl)
theorem dX4_sees_52 : decode cX4_sees 52 = .ok (.iload_n 1, 1) := dk_27 (dk_at dksX4_sees_2 5 rfl rfl)
theorem dX4_sees_53 : decode cX4_sees 53 = .ok (.imul, 1) := dk_104 (dk_at dksX4_sees_2 6 rfl rfl)
theorem dX4_sees_54 : decode cX4_sees 54 = .ok (.iload_n 3, 1) := dk_29 (dk_at dksX4_sees_2 7 rfl rfl)
theorem dX4_sees_55 : decode cX4_sees 55 = .ok (.iadd, 1) := dk_96 (dk_at dksX4_sees_2 8 rfl rfl)
theorem dX4_sees_56 : decode cX4_sees 56 = .ok (.laload, 1) := dk_47 (dk_at dksX4_sees_2 9 rfl rfl)
theorem dX4_sees_57 : decode cX4_sees 57 = .ok (.iload 4, 2) := dk_21 4 (dk_at dksX4_sees_2 10 rfl rfl)
theorem dX4_sees_59 : decode cX4_sees 59 = .ok (.iconst 1, 1) := dk_4 (dk_at dksX4_sees_2 12 rfl rfl)
theorem dX4_sees_60 : decode cX4_sees 60 = .ok (.if_icmp .ne 10, 3) := dk_160 0 10 (dk_at dksX4_sees_2 13 rfl rfl)
theorem dX4_sees_63 : decode cX4_sees 63 = .ok (.aload_n 0, 1) := dk_42 (dk_at dksX4_sees_2 16 rfl rfl)
theorem dX4_sees_64 : decode cX4_sees 64 = .ok (.getfield 351, 3) := dk_180 1 95 (dk_at dksX4_sees_2 17 rfl rfl)
theorem dX4_sees_67 : decode cX4_sees 67 = .ok (.goto 7, 3) := dk_167 0 7 (dk_at dksX4_sees_2 20 rfl rfl)
theorem dX4_sees_70 : decode cX4_sees 70 = .ok (.aload_n 0, 1) := dk_42 (dk_at dksX4_sees_2 23 rfl rfl)
theorem dX4_sees_71 : decode cX4_sees 71 = .ok (.getfield 348, 3) := dk_180 1 92 (dk_at dksX4_sees_3 0 rfl rfl)
theorem dX4_sees_74 : decode cX4_sees 74 = .ok (.land, 1) := dk_127 (dk_at dksX4_sees_3 3 rfl rfl)
theorem dX4_sees_75 : decode cX4_sees 75 = .ok (.invokestatic 344, 3) := dk_184 1 88 (dk_at dksX4_sees_3 4 rfl rfl)
theorem dX4_sees_78 : decode cX4_sees 78 = .ok (.ireturn, 1) := dk_172 (dk_at dksX4_sees_3 7 rfl rfl)
def dkwX4_isMoment_0 : List UInt8 := [26, 3, 17, 2, 88, 184, 0, 168, 172]
abbrev dktX4_isMoment_0 : List UInt8 := dkwX4_isMoment_0 ++ []
theorem dksX4_isMoment_0 : cX4_isMoment.data.toList.drop 0 = dktX4_isMoment_0 := by decide +kernel
theorem dX4_isMoment_0 : decode cX4_isMoment 0 = .ok (.iload_n 0, 1) := dk_26 (dk_at dksX4_isMoment_0 0 rfl rfl)
theorem dX4_isMoment_1 : decode cX4_isMoment 1 = .ok (.iconst 0, 1) := dk_3 (dk_at dksX4_isMoment_0 1 rfl rfl)
theorem dX4_isMoment_2 : decode cX4_isMoment 2 = .ok (.sipush 600, 3) := dk_17 2 88 (dk_at dksX4_isMoment_0 2 rfl rfl)
theorem dX4_isMoment_5 : decode cX4_isMoment 5 = .ok (.invokestatic 168, 3) := dk_184 0 168 (dk_at dksX4_isMoment_0 5 rfl rfl)
theorem dX4_isMoment_8 : decode cX4_isMoment 8 = .ok (.ireturn, 1) := dk_172 (dk_at dksX4_isMoment_0 8 rfl rfl)
def dkwX4_night_1 : List UInt8 := [167, 255, 244, 177]
abbrev dktX4_night_1 : List UInt8 := dkwX4_night_1 ++ []
def dkwX4_night_0 : List UInt8 := [42, 42, 180, 1, 43, 42, 180, 1, 46, 182, 1, 133, 42, 180, 1, 117, 27, 163, 0, 10, 42, 182, 1, 137]
abbrev dktX4_night_0 : List UInt8 := dkwX4_night_0 ++ dktX4_night_1
theorem dksX4_night_0 : cX4_night.data.toList.drop 0 = dktX4_night_0 := by decide +kernel
theorem dksX4_night_1 : cX4_night.data.toList.drop 24 = dktX4_night_1 := dk_seg dksX4_night_0 24 rfl rfl
theorem dX4_night_0 : decode cX4_night 0 = .ok (.aload_n 0, 1) := dk_42 (dk_at dksX4_night_0 0 rfl rfl)
theorem dX4_night_1 : decode cX4_night 1 = .ok (.aload_n 0, 1) := dk_42 (dk_at dksX4_night_0 1 rfl rfl)
theorem dX4_night_2 : decode cX4_night 2 = .ok (.getfield 299, 3) := dk_180 1 43 (dk_at dksX4_night_0 2 rfl rfl)
theorem dX4_night_5 : decode cX4_night 5 = .ok (.aload_n 0, 1) := dk_42 (dk_at dksX4_night_0 5 rfl rfl)
theorem dX4_night_6 : decode cX4_night 6 = .ok (.getfield 302, 3) := dk_180 1 46 (dk_at dksX4_night_0 6 rfl rfl)
theorem dX4_night_9 : decode cX4_night 9 = .ok (.invokevirtual 389, 3) := dk_182 1 133 (dk_at dksX4_night_0 9 rfl rfl)
theorem dX4_night_12 : decode cX4_night 12 = .ok (.aload_n 0, 1) := dk_42 (dk_at dksX4_night_0 12 rfl rfl)
theorem dX4_night_13 : decode cX4_night 13 = .ok (.getfield 373, 3) := dk_180 1 117 (dk_at dksX4_night_0 13 rfl rfl)
theorem dX4_night_16 : decode cX4_night 16 = .ok (.iload_n 1, 1) := dk_27 (dk_at dksX4_night_0 16 rfl rfl)
theorem dX4_night_17 : decode cX4_night 17 = .ok (.if_icmp .gt 10, 3) := dk_163 0 10 (dk_at dksX4_night_0 17 rfl rfl)
theorem dX4_night_20 : decode cX4_night 20 = .ok (.aload_n 0, 1) := dk_42 (dk_at dksX4_night_0 20 rfl rfl)
theorem dX4_night_21 : decode cX4_night 21 = .ok (.invokevirtual 393, 3) := dk_182 1 137 (dk_at dksX4_night_0 21 rfl rfl)
theorem dX4_night_24 : decode cX4_night 24 = .ok (.goto (-12), 3) := dk_167 255 244 (dk_at dksX4_night_1 0 rfl rfl)
theorem dX4_night_27 : decode cX4_night 27 = .ok (.return_, 1) := dk_177 (dk_at dksX4_night_1 3 rfl rfl)
def dkwX4_begin_1 : List UInt8 := [42, 9, 181, 1, 95, 42, 9, 181, 1, 92, 42, 9, 181, 1, 98, 42, 9, 181, 1, 101, 177]
abbrev dktX4_begin_1 : List UInt8 := dkwX4_begin_1 ++ []
def dkwX4_begin_0 : List UInt8 := [42, 182, 1, 108, 42, 31, 181, 1, 111, 42, 33, 181, 1, 114, 42, 3, 181, 1, 117, 42, 3, 181, 1, 120]
abbrev dktX4_begin_0 : List UInt8 := dkwX4_begin_0 ++ dktX4_begin_1
theorem dksX4_begin_0 : cX4_begin.data.toList.drop 0 = dktX4_begin_0 := by decide +kernel
theorem dksX4_begin_1 : cX4_begin.data.toList.drop 24 = dktX4_begin_1 := dk_seg dksX4_begin_0 24 rfl rfl
theorem dX4_begin_0 : decode cX4_begin 0 = .ok (.aload_n 0, 1) := dk_42 (dk_at dksX4_begin_0 0 rfl rfl)
theorem dX4_begin_1 : decode cX4_begin 1 = .ok (.invokevirtual 364, 3) := dk_182 1 108 (dk_at dksX4_begin_0 1 rfl rfl)
theorem dX4_begin_4 : decode cX4_begin 4 = .ok (.aload_n 0, 1) := dk_42 (dk_at dksX4_begin_0 4 rfl rfl)
theorem dX4_begin_5 : decode cX4_begin 5 = .ok (.lload_n 1, 1) := dk_31 (dk_at dksX4_begin_0 5 rfl rfl)
theorem dX4_begin_6 : decode cX4_begin 6 = .ok (.putfield 367, 3) := dk_181 1 111 (dk_at dksX4_begin_0 6 rfl rfl)
theorem dX4_begin_9 : decode cX4_begin 9 = .ok (.aload_n 0, 1) := dk_42 (dk_at dksX4_begin_0 9 rfl rfl)
theorem dX4_begin_10 : decode cX4_begin 10 = .ok (.lload_n 3, 1) := dk_33 (dk_at dksX4_begin_0 10 rfl rfl)
theorem dX4_begin_11 : decode cX4_begin 11 = .ok (.putfield 370, 3) := dk_181 1 114 (dk_at dksX4_begin_0 11 rfl rfl)
theorem dX4_begin_14 : decode cX4_begin 14 = .ok (.aload_n 0, 1) := dk_42 (dk_at dksX4_begin_0 14 rfl rfl)
theorem dX4_begin_15 : decode cX4_begin 15 = .ok (.iconst 0, 1) := dk_3 (dk_at dksX4_begin_0 15 rfl rfl)
theorem dX4_begin_16 : decode cX4_begin 16 = .ok (.putfield 373, 3) := dk_181 1 117 (dk_at dksX4_begin_0 16 rfl rfl)
theorem dX4_begin_19 : decode cX4_begin 19 = .ok (.aload_n 0, 1) := dk_42 (dk_at dksX4_begin_0 19 rfl rfl)
theorem dX4_begin_20 : decode cX4_begin 20 = .ok (.iconst 0, 1) := dk_3 (dk_at dksX4_begin_0 20 rfl rfl)
theorem dX4_begin_21 : decode cX4_begin 21 = .ok (.putfield 376, 3) := dk_181 1 120 (dk_at dksX4_begin_0 21 rfl rfl)
theorem dX4_begin_24 : decode cX4_begin 24 = .ok (.aload_n 0, 1) := dk_42 (dk_at dksX4_begin_1 0 rfl rfl)
theorem dX4_begin_25 : decode cX4_begin 25 = .ok (.lconst 0, 1) := dk_9 (dk_at dksX4_begin_1 1 rfl rfl)
theorem dX4_begin_26 : decode cX4_begin 26 = .ok (.putfield 351, 3) := dk_181 1 95 (dk_at dksX4_begin_1 2 rfl rfl)
theorem dX4_begin_29 : decode cX4_begin 29 = .ok (.aload_n 0, 1) := dk_42 (dk_at dksX4_begin_1 5 rfl rfl)
theorem dX4_begin_30 : decode cX4_begin 30 = .ok (.lconst 0, 1) := dk_9 (dk_at dksX4_begin_1 6 rfl rfl)
theorem dX4_begin_31 : decode cX4_begin 31 = .ok (.putfield 348, 3) := dk_181 1 92 (dk_at dksX4_begin_1 7 rfl rfl)
theorem dX4_begin_34 : decode cX4_begin 34 = .ok (.aload_n 0, 1) := dk_42 (dk_at dksX4_begin_1 10 rfl rfl)
theorem dX4_begin_35 : decode cX4_begin 35 = .ok (.lconst 0, 1) := dk_9 (dk_at dksX4_begin_1 11 rfl rfl)
theorem dX4_begin_36 : decode cX4_begin 36 = .ok (.putfield 354, 3) := dk_181 1 98 (dk_at dksX4_begin_1 12 rfl rfl)
theorem dX4_begin_39 : decode cX4_begin 39 = .ok (.aload_n 0, 1) := dk_42 (dk_at dksX4_begin_1 15 rfl rfl)
theorem dX4_begin_40 : decode cX4_begin 40 = .ok (.lconst 0, 1) := dk_9 (dk_at dksX4_begin_1 16 rfl rfl)
theorem dX4_begin_41 : decode cX4_begin 41 = .ok (.putfield 357, 3) := dk_181 1 101 (dk_at dksX4_begin_1 17 rfl rfl)
theorem dX4_begin_44 : decode cX4_begin 44 = .ok (.return_, 1) := dk_177 (dk_at dksX4_begin_1 20 rfl rfl)
def dkwX4_layOut_15 : List UInt8 := [20, 1, 56, 131, 127, 80, 132, 3, 1, 167, 254, 211, 177]
abbrev dktX4_layOut_15 : List UInt8 := dkwX4_layOut_15 ++ []
def dkwX4_layOut_14 : List UInt8 := [16, 6, 29, 104, 7, 96, 22, 8, 80, 42, 180, 0, 61, 16, 6, 29, 104, 8, 96, 31, 10, 29, 121]
abbrev dktX4_layOut_14 : List UInt8 := dkwX4_layOut_14 ++ dktX4_layOut_15
def dkwX4_layOut_13 : List UInt8 := [180, 0, 61, 16, 6, 29, 104, 6, 96, 42, 21, 4, 4, 96, 21, 5, 182, 1, 52, 80, 42, 180, 0, 61]
abbrev dktX4_layOut_13 : List UInt8 := dkwX4_layOut_13 ++ dktX4_layOut_14
def dkwX4_layOut_12 : List UInt8 := [42, 21, 4, 21, 5, 4, 100, 182, 1, 52, 42, 21, 4, 21, 5, 4, 96, 182, 1, 52, 129, 80, 42]
abbrev dktX4_layOut_12 : List UInt8 := dkwX4_layOut_12 ++ dktX4_layOut_13
def dkwX4_layOut_11 : List UInt8 := [104, 4, 96, 42, 21, 4, 4, 100, 21, 5, 182, 1, 52, 80, 42, 180, 0, 61, 16, 6, 29, 104, 5, 96]
abbrev dktX4_layOut_11 : List UInt8 := dkwX4_layOut_11 ++ dktX4_layOut_12
def dkwX4_layOut_10 : List UInt8 := [132, 11, 1, 167, 255, 205, 42, 180, 0, 61, 16, 6, 29, 104, 22, 6, 80, 42, 180, 0, 61, 16, 6, 29]
abbrev dktX4_layOut_10 : List UInt8 := dkwX4_layOut_10 ++ dktX4_layOut_11
def dkwX4_layOut_9 : List UInt8 := [21, 4, 21, 11, 100, 21, 5, 21, 12, 96, 182, 1, 52, 129, 55, 8, 132, 12, 1, 167, 255, 227]
abbrev dktX4_layOut_9 : List UInt8 := dkwX4_layOut_9 ++ dktX4_layOut_10
def dkwX4_layOut_8 : List UInt8 := [7, 162, 0, 51, 21, 10, 154, 0, 46, 21, 11, 116, 54, 12, 21, 12, 21, 11, 163, 0, 28, 22, 8, 42]
abbrev dktX4_layOut_8 : List UInt8 := dkwX4_layOut_8 ++ dktX4_layOut_9
def dkwX4_layOut_7 : List UInt8 := [96, 42, 180, 0, 41, 4, 46, 100, 46, 154, 0, 7, 4, 167, 0, 4, 3, 54, 10, 4, 54, 11, 21, 11]
abbrev dktX4_layOut_7 : List UInt8 := dkwX4_layOut_7 ++ dktX4_layOut_8
def dkwX4_layOut_6 : List UInt8 := [129, 55, 6, 132, 8, 1, 167, 255, 213, 9, 55, 8, 21, 4, 158, 0, 26, 42, 180, 0, 41, 16, 6, 29]
abbrev dktX4_layOut_6 : List UInt8 := dkwX4_layOut_6 ++ dktX4_layOut_7
def dkwX4_layOut_5 : List UInt8 := [22, 6, 42, 21, 4, 21, 8, 6, 108, 96, 4, 100, 21, 5, 21, 8, 6, 112, 96, 4, 100, 182, 1, 52]
abbrev dktX4_layOut_5 : List UInt8 := dkwX4_layOut_5 ++ dktX4_layOut_6
def dkwX4_layOut_4 : List UInt8 := [4, 46, 112, 54, 5, 9, 55, 6, 3, 54, 8, 21, 8, 16, 9, 162, 0, 42, 21, 8, 7, 159, 0, 30]
abbrev dktX4_layOut_4 : List UInt8 := dkwX4_layOut_4 ++ dktX4_layOut_5
def dkwX4_layOut_3 : List UInt8 := [180, 0, 41, 4, 46, 104, 162, 1, 34, 29, 42, 180, 0, 41, 4, 46, 108, 54, 4, 29, 42, 180, 0, 41]
abbrev dktX4_layOut_3 : List UInt8 := dkwX4_layOut_3 ++ dktX4_layOut_4
def dkwX4_layOut_2 : List UInt8 := [29, 121, 167, 0, 4, 9, 129, 64, 132, 3, 1, 167, 255, 214, 3, 62, 29, 42, 180, 0, 41, 3, 46, 42]
abbrev dktX4_layOut_2 : List UInt8 := dkwX4_layOut_2 ++ dktX4_layOut_3
def dkwX4_layOut_1 : List UInt8 := [42, 180, 0, 41, 4, 46, 104, 162, 0, 31, 31, 42, 180, 0, 41, 16, 6, 29, 96, 46, 158, 0, 9, 10]
abbrev dktX4_layOut_1 : List UInt8 := dkwX4_layOut_1 ++ dktX4_layOut_2
def dkwX4_layOut_0 : List UInt8 := [42, 180, 0, 65, 154, 0, 4, 177, 42, 3, 181, 0, 65, 9, 64, 3, 62, 29, 42, 180, 0, 41, 3, 46]
abbrev dktX4_layOut_0 : List UInt8 := dkwX4_layOut_0 ++ dktX4_layOut_1
theorem dksX4_layOut_0 : cX4_layOut.data.toList.drop 0 = dktX4_layOut_0 := by decide +kernel
theorem dksX4_layOut_1 : cX4_layOut.data.toList.drop 24 = dktX4_layOut_1 := dk_seg dksX4_layOut_0 24 rfl rfl
theorem dksX4_layOut_2 : cX4_layOut.data.toList.drop 48 = dktX4_layOut_2 := dk_seg dksX4_layOut_1 24 rfl rfl
theorem dksX4_layOut_3 : cX4_layOut.data.toList.drop 72 = dktX4_layOut_3 := dk_seg dksX4_layOut_2 24 rfl rfl
theorem dksX4_layOut_4 : cX4_layOut.data.toList.drop 96 = dktX4_layOut_4 := dk_seg dksX4_layOut_3 24 rfl rfl
theorem dksX4_layOut_5 : cX4_layOut.data.toList.drop 120 = dktX4_layOut_5 := dk_seg dksX4_layOut_4 24 rfl rfl
theorem dksX4_layOut_6 : cX4_layOut.data.toList.drop 144 = dktX4_layOut_6 := dk_seg dksX4_layOut_5 24 rfl rfl
theorem dksX4_layOut_7 : cX4_layOut.data.toList.drop 168 = dktX4_layOut_7 := dk_seg dksX4_layOut_6 24 rfl rfl
theorem dksX4_layOut_8 : cX4_layOut.data.toList.drop 192 = dktX4_layOut_8 := dk_seg dksX4_layOut_7 24 rfl rfl
theorem dksX4_layOut_9 : cX4_layOut.data.toList.drop 216 = dktX4_layOut_9 := dk_seg dksX4_layOut_8 24 rfl rfl
theorem dksX4_layOut_10 : cX4_layOut.data.toList.drop 238 = dktX4_layOut_10 := dk_seg dksX4_layOut_9 22 rfl rfl
theorem dksX4_layOut_11 : cX4_layOut.data.toList.drop 262 = dktX4_layOut_11 := dk_seg dksX4_layOut_10 24 rfl rfl
theorem dksX4_layOut_12 : cX4_layOut.data.toList.drop 286 = dktX4_layOut_12 := dk_seg dksX4_layOut_11 24 rfl rfl
theorem dksX4_layOut_13 : cX4_layOut.data.toList.drop 309 = dktX4_layOut_13 := dk_seg dksX4_layOut_12 23 rfl rfl
theorem dksX4_layOut_14 : cX4_layOut.data.toList.drop 333 = dktX4_layOut_14 := dk_seg dksX4_layOut_13 24 rfl rfl
theorem dksX4_layOut_15 : cX4_layOut.data.toList.drop 356 = dktX4_layOut_15 := dk_seg dksX4_layOut_14 23 rfl rfl
theorem dX4_layOut_0 : decode cX4_layOut 0 = .ok (.aload_n 0, 1) := dk_42 (dk_at dksX4_layOut_0 0 rfl rfl)
theorem dX4_layOut_1 : decode cX4_layOut 1 = .ok (.getfield 65, 3) := dk_180 0 65 (dk_at dksX4_layOut_0 1 rfl rfl)
theorem dX4_layOut_4 : decode cX4_layOut 4 = .ok (.ifCond .ne 4, 3) := dk_154 0 4 (dk_at dksX4_layOut_0 4 rfl rfl)
theorem dX4_layOut_7 : decode cX4_layOut 7 = .ok (.return_, 1) := dk_177 (dk_at dksX4_layOut_0 7 rfl rfl)
theorem dX4_layOut_8 : decode cX4_layOut 8 = .ok (.aload_n 0, 1) := dk_42 (dk_at dksX4_layOut_0 8 rfl rfl)
theorem dX4_layOut_9 : decode cX4_layOut 9 = .ok (.iconst 0, 1) := dk_3 (dk_at dksX4_layOut_0 9 rfl rfl)
theorem dX4_layOut_10 : decode cX4_layOut 10 = .ok (.putfield 65, 3) := dk_181 0 65 (dk_at dksX4_layOut_0 10 rfl rfl)
theorem dX4_layOut_13 : decode cX4_layOut 13 = .ok (.lconst 0, 1) := dk_9 (dk_at dksX4_layOut_0 13 rfl rfl)
theorem dX4_layOut_14 : decode cX4_layOut 14 = .ok (.lstore_n 1, 1) := dk_64 (dk_at dksX4_layOut_0 14 rfl rfl)
theorem dX4_layOut_15 : decode cX4_layOut 15 = .ok (.iconst 0, 1) := dk_3 (dk_at dksX4_layOut_0 15 rfl rfl)
theorem dX4_layOut_16 : decode cX4_layOut 16 = .ok (.istore_n 3, 1) := dk_62 (dk_at dksX4_layOut_0 16 rfl rfl)
theorem dX4_layOut_17 : decode cX4_layOut 17 = .ok (.iload_n 3, 1) := dk_29 (dk_at dksX4_layOut_0 17 rfl rfl)
theorem dX4_layOut_18 : decode cX4_layOut 18 = .ok (.aload_n 0, 1) := dk_42 (dk_at dksX4_layOut_0 18 rfl rfl)
theorem dX4_layOut_19 : decode cX4_layOut 19 = .ok (.getfield 41, 3) := dk_180 0 41 (dk_at dksX4_layOut_0 19 rfl rfl)
theorem dX4_layOut_22 : decode cX4_layOut 22 = .ok (.iconst 0, 1) := dk_3 (dk_at dksX4_layOut_0 22 rfl rfl)
theorem dX4_layOut_23 : decode cX4_layOut 23 = .ok (.iaload, 1) := dk_46 (dk_at dksX4_layOut_0 23 rfl rfl)
theorem dX4_layOut_24 : decode cX4_layOut 24 = .ok (.aload_n 0, 1) := dk_42 (dk_at dksX4_layOut_1 0 rfl rfl)
theorem dX4_layOut_25 : decode cX4_layOut 25 = .ok (.getfield 41, 3) := dk_180 0 41 (dk_at dksX4_layOut_1 1 rfl rfl)
theorem dX4_layOut_28 : decode cX4_layOut 28 = .ok (.iconst 1, 1) := dk_4 (dk_at dksX4_layOut_1 4 rfl rfl)
theorem dX4_layOut_29 : decode cX4_layOut 29 = .ok (.iaload, 1) := dk_46 (dk_at dksX4_layOut_1 5 rfl rfl)
theorem dX4_layOut_30 : decode cX4_layOut 30 = .ok (.imul, 1) := dk_104 (dk_at dksX4_layOut_1 6 rfl rfl)
theorem dX4_layOut_31 : decode cX4_layOut 31 = .ok (.if_icmp .ge 31, 3) := dk_162 0 31 (dk_at dksX4_layOut_1 7 rfl rfl)
theorem dX4_layOut_34 : decode cX4_layOut 34 = .ok (.lload_n 1, 1) := dk_31 (dk_at dksX4_layOut_1 10 rfl rfl)
theorem dX4_layOut_35 : decode cX4_layOut 35 = .ok (.aload_n 0, 1) := dk_42 (dk_at dksX4_layOut_1 11 rfl rfl)
theorem dX4_layOut_36 : decode cX4_layOut 36 = .ok (.getfield 41, 3) := dk_180 0 41 (dk_at dksX4_layOut_1 12 rfl rfl)
theorem dX4_layOut_39 : decode cX4_layOut 39 = .ok (.bipush 6, 2) := dk_16 6 (dk_at dksX4_layOut_1 15 rfl rfl)
theorem dX4_layOut_41 : decode cX4_layOut 41 = .ok (.iload_n 3, 1) := dk_29 (dk_at dksX4_layOut_1 17 rfl rfl)
theorem dX4_layOut_42 : decode cX4_layOut 42 = .ok (.iadd, 1) := dk_96 (dk_at dksX4_layOut_1 18 rfl rfl)
theorem dX4_layOut_43 : decode cX4_layOut 43 = .ok (.iaload, 1) := dk_46 (dk_at dksX4_layOut_1 19 rfl rfl)
theorem dX4_layOut_44 : decode cX4_layOut 44 = .ok (.ifCond .le 9, 3) := dk_158 0 9 (dk_at dksX4_layOut_1 20 rfl rfl)
theorem dX4_layOut_47 : decode cX4_layOut 47 = .ok (.lconst 1, 1) := dk_10 (dk_at dksX4_layOut_1 23 rfl rfl)
theorem dX4_layOut_48 : decode cX4_layOut 48 = .ok (.iload_n 3, 1) := dk_29 (dk_at dksX4_layOut_2 0 rfl rfl)
theorem dX4_layOut_49 : decode cX4_layOut 49 = .ok (.lshl, 1) := dk_121 (dk_at dksX4_layOut_2 1 rfl rfl)
theorem dX4_layOut_50 : decode cX4_layOut 50 = .ok (.goto 4, 3) := dk_167 0 4 (dk_at dksX4_layOut_2 2 rfl rfl)
theorem dX4_layOut_53 : decode cX4_layOut 53 = .ok (.lconst 0, 1) := dk_9 (dk_at dksX4_layOut_2 5 rfl rfl)
theorem dX4_layOut_54 : decode cX4_layOut 54 = .ok (.lor, 1) := dk_129 (dk_at dksX4_layOut_2 6 rfl rfl)
theorem dX4_layOut_55 : decode cX4_layOut 55 = .ok (.lstore_n 1, 1) := dk_64 (dk_at dksX4_layOut_2 7 rfl rfl)
theorem dX4_layOut_56 : decode cX4_layOut 56 = .ok (.iinc 3 1, 3) := dk_132 3 1 (dk_at dksX4_layOut_2 8 rfl rfl)
theorem dX4_layOut_59 : decode cX4_layOut 59 = .ok (.goto (-42), 3) := dk_167 255 214 (dk_at dksX4_layOut_2 11 rfl rfl)
theorem dX4_layOut_62 : decode cX4_layOut 62 = .ok (.iconst 0, 1) := dk_3 (dk_at dksX4_layOut_2 14 rfl rfl)
theorem dX4_layOut_63 : decode cX4_layOut 63 = .ok (.istore_n 3, 1) := dk_62 (dk_at dksX4_layOut_2 15 rfl rfl)
theorem dX4_layOut_64 : decode cX4_layOut 64 = .ok (.iload_n 3, 1) := dk_29 (dk_at dksX4_layOut_2 16 rfl rfl)
theorem dX4_layOut_65 : decode cX4_layOut 65 = .ok (.aload_n 0, 1) := dk_42 (dk_at dksX4_layOut_2 17 rfl rfl)
theorem dX4_layOut_66 : decode cX4_layOut 66 = .ok (.getfield 41, 3) := dk_180 0 41 (dk_at dksX4_layOut_2 18 rfl rfl)
theorem dX4_layOut_69 : decode cX4_layOut 69 = .ok (.iconst 0, 1) := dk_3 (dk_at dksX4_layOut_2 21 rfl rfl)
theorem dX4_layOut_70 : decode cX4_layOut 70 = .ok (.iaload, 1) := dk_46 (dk_at dksX4_layOut_2 22 rfl rfl)
theorem dX4_layOut_71 : decode cX4_layOut 71 = .ok (.aload_n 0, 1) := dk_42 (dk_at dksX4_layOut_2 23 rfl rfl)
theorem dX4_layOut_72 : decode cX4_layOut 72 = .ok (.getfield 41, 3) := dk_180 0 41 (dk_at dksX4_layOut_3 0 rfl rfl)
theorem dX4_layOut_75 : decode cX4_layOut 75 = .ok (.iconst 1, 1) := dk_4 (dk_at dksX4_layOut_3 3 rfl rfl)
theorem dX4_layOut_76 : decode cX4_layOut 76 = .ok (.iaload, 1) := dk_46 (dk_at dksX4_layOut_3 4 rfl rfl)
theorem dX4_layOut_77 : decode cX4_layOut 77 = .ok (.imul, 1) := dk_104 (dk_at dksX4_layOut_3 5 rfl rfl)
theorem dX4_layOut_78 : decode cX4_layOut 78 = .ok (.if_icmp .ge 290, 3) := dk_162 1 34 (dk_at dksX4_layOut_3 6 rfl rfl)
theorem dX4_layOut_81 : decode cX4_layOut 81 = .ok (.iload_n 3, 1) := dk_29 (dk_at dksX4_layOut_3 9 rfl rfl)
theorem dX4_layOut_82 : decode cX4_layOut 82 = .ok (.aload_n 0, 1) := dk_42 (dk_at dksX4_layOut_3 10 rfl rfl)
theorem dX4_layOut_83 : decode cX4_layOut 83 = .ok (.getfield 41, 3) := dk_180 0 41 (dk_at dksX4_layOut_3 11 rfl rfl)
theorem dX4_layOut_86 : decode cX4_layOut 86 = .ok (.iconst 1, 1) := dk_4 (dk_at dksX4_layOut_3 14 rfl rfl)
theorem dX4_layOut_87 : decode cX4_layOut 87 = .ok (.iaload, 1) := dk_46 (dk_at dksX4_layOut_3 15 rfl rfl)
theorem dX4_layOut_88 : decode cX4_layOut 88 = .ok (.idiv, 1) := dk_108 (dk_at dksX4_layOut_3 16 rfl rfl)
theorem dX4_layOut_89 : decode cX4_layOut 89 = .ok (.istore 4, 2) := dk_54 4 (dk_at dksX4_layOut_3 17 rfl rfl)
theorem dX4_layOut_91 : decode cX4_layOut 91 = .ok (.iload_n 3, 1) := dk_29 (dk_at dksX4_layOut_3 19 rfl rfl)
theorem dX4_layOut_92 : decode cX4_layOut 92 = .ok (.aload_n 0, 1) := dk_42 (dk_at dksX4_layOut_3 20 rfl rfl)
theorem dX4_layOut_93 : decode cX4_layOut 93 = .ok (.getfield 41, 3) := dk_180 0 41 (dk_at dksX4_layOut_3 21 rfl rfl)
theorem dX4_layOut_96 : decode cX4_layOut 96 = .ok (.iconst 1, 1) := dk_4 (dk_at dksX4_layOut_4 0 rfl rfl)
theorem dX4_layOut_97 : decode cX4_layOut 97 = .ok (.iaload, 1) := dk_46 (dk_at dksX4_layOut_4 1 rfl rfl)
theorem dX4_layOut_98 : decode cX4_layOut 98 = .ok (.irem, 1) := dk_112 (dk_at dksX4_layOut_4 2 rfl rfl)
theorem dX4_layOut_99 : decode cX4_layOut 99 = .ok (.istore 5, 2) := dk_54 5 (dk_at dksX4_layOut_4 3 rfl rfl)
theorem dX4_layOut_101 : decode cX4_layOut 101 = .ok (.lconst 0, 1) := dk_9 (dk_at dksX4_layOut_4 5 rfl rfl)
theorem dX4_layOut_102 : decode cX4_layOut 102 = .ok (.lstore 6, 2) := dk_55 6 (dk_at dksX4_layOut_4 6 rfl rfl)
theorem dX4_layOut_104 : decode cX4_layOut 104 = .ok (.iconst 0, 1) := dk_3 (dk_at dksX4_layOut_4 8 rfl rfl)
theorem dX4_layOut_105 : decode cX4_layOut 105 = .ok (.istore 8, 2) := dk_54 8 (dk_at dksX4_layOut_4 9 rfl rfl)
theorem dX4_layOut_107 : decode cX4_layOut 107 = .ok (.iload 8, 2) := dk_21 8 (dk_at dksX4_layOut_4 11 rfl rfl)
theorem dX4_layOut_109 : decode cX4_layOut 109 = .ok (.bipush 9, 2) := dk_16 9 (dk_at dksX4_layOut_4 13 rfl rfl)
theorem dX4_layOut_111 : decode cX4_layOut 111 = .ok (.if_icmp .ge 42, 3) := dk_162 0 42 (dk_at dksX4_layOut_4 15 rfl rfl)
theorem dX4_layOut_114 : decode cX4_layOut 114 = .ok (.iload 8, 2) := dk_21 8 (dk_at dksX4_layOut_4 18 rfl rfl)
theorem dX4_layOut_116 : decode cX4_layOut 116 = .ok (.iconst 4, 1) := dk_7 (dk_at dksX4_layOut_4 20 rfl rfl)
theorem dX4_layOut_117 : decode cX4_layOut 117 = .ok (.if_icmp .eq 30, 3) := dk_159 0 30 (dk_at dksX4_layOut_4 21 rfl rfl)
theorem dX4_layOut_120 : decode cX4_layOut 120 = .ok (.lload 6, 2) := dk_22 6 (dk_at dksX4_layOut_5 0 rfl rfl)
theorem dX4_layOut_122 : decode cX4_layOut 122 = .ok (.aload_n 0, 1) := dk_42 (dk_at dksX4_layOut_5 2 rfl rfl)
theorem dX4_layOut_123 : decode cX4_layOut 123 = .ok (.iload 4, 2) := dk_21 4 (dk_at dksX4_layOut_5 3 rfl rfl)
theorem dX4_layOut_125 : decode cX4_layOut 125 = .ok (.iload 8, 2) := dk_21 8 (dk_at dksX4_layOut_5 5 rfl rfl)
theorem dX4_layOut_127 : decode cX4_layOut 127 = .ok (.iconst 3, 1) := dk_6 (dk_at dksX4_layOut_5 7 rfl rfl)
theorem dX4_layOut_128 : decode cX4_layOut 128 = .ok (.idiv, 1) := dk_108 (dk_at dksX4_layOut_5 8 rfl rfl)
theorem dX4_layOut_129 : decode cX4_layOut 129 = .ok (.iadd, 1) := dk_96 (dk_at dksX4_layOut_5 9 rfl rfl)
theorem dX4_layOut_130 : decode cX4_layOut 130 = .ok (.iconst 1, 1) := dk_4 (dk_at dksX4_layOut_5 10 rfl rfl)
theorem dX4_layOut_131 : decode cX4_layOut 131 = .ok (.isub, 1) := dk_100 (dk_at dksX4_layOut_5 11 rfl rfl)
theorem dX4_layOut_132 : decode cX4_layOut 132 = .ok (.iload 5, 2) := dk_21 5 (dk_at dksX4_layOut_5 12 rfl rfl)
theorem dX4_layOut_134 : decode cX4_layOut 134 = .ok (.iload 8, 2) := dk_21 8 (dk_at dksX4_layOut_5 14 rfl rfl)
theorem dX4_layOut_136 : decode cX4_layOut 136 = .ok (.iconst 3, 1) := dk_6 (dk_at dksX4_layOut_5 16 rfl rfl)
theorem dX4_layOut_137 : decode cX4_layOut 137 = .ok (.irem, 1) := dk_112 (dk_at dksX4_layOut_5 17 rfl rfl)
theorem dX4_layOut_138 : decode cX4_layOut 138 = .ok (.iadd, 1) := dk_96 (dk_at dksX4_layOut_5 18 rfl rfl)
theorem dX4_layOut_139 : decode cX4_layOut 139 = .ok (.iconst 1, 1) := dk_4 (dk_at dksX4_layOut_5 19 rfl rfl)
theorem dX4_layOut_140 : decode cX4_layOut 140 = .ok (.isub, 1) := dk_100 (dk_at dksX4_layOut_5 20 rfl rfl)
theorem dX4_layOut_141 : decode cX4_layOut 141 = .ok (.invokevirtual 308, 3) := dk_182 1 52 (dk_at dksX4_layOut_5 21 rfl rfl)
theorem dX4_layOut_144 : decode cX4_layOut 144 = .ok (.lor, 1) := dk_129 (dk_at dksX4_layOut_6 0 rfl rfl)
theorem dX4_layOut_145 : decode cX4_layOut 145 = .ok (.lstore 6, 2) := dk_55 6 (dk_at dksX4_layOut_6 1 rfl rfl)
theorem dX4_layOut_147 : decode cX4_layOut 147 = .ok (.iinc 8 1, 3) := dk_132 8 1 (dk_at dksX4_layOut_6 3 rfl rfl)
theorem dX4_layOut_150 : decode cX4_layOut 150 = .ok (.goto (-43), 3) := dk_167 255 213 (dk_at dksX4_layOut_6 6 rfl rfl)
theorem dX4_layOut_153 : decode cX4_layOut 153 = .ok (.lconst 0, 1) := dk_9 (dk_at dksX4_layOut_6 9 rfl rfl)
theorem dX4_layOut_154 : decode cX4_layOut 154 = .ok (.lstore 8, 2) := dk_55 8 (dk_at dksX4_layOut_6 10 rfl rfl)
theorem dX4_layOut_156 : decode cX4_layOut 156 = .ok (.iload 4, 2) := dk_21 4 (dk_at dksX4_layOut_6 12 rfl rfl)
theorem dX4_layOut_158 : decode cX4_layOut 158 = .ok (.ifCond .le 26, 3) := dk_158 0 26 (dk_at dksX4_layOut_6 14 rfl rfl)
theorem dX4_layOut_161 : decode cX4_layOut 161 = .ok (.aload_n 0, 1) := dk_42 (dk_at dksX4_layOut_6 17 rfl rfl)
theorem dX4_layOut_162 : decode cX4_layOut 162 = .ok (.getfield 41, 3) := dk_180 0 41 (dk_at dksX4_layOut_6 18 rfl rfl)
theorem dX4_layOut_165 : decode cX4_layOut 165 = .ok (.bipush 6, 2) := dk_16 6 (dk_at dksX4_layOut_6 21 rfl rfl)
theorem dX4_layOut_167 : decode cX4_layOut 167 = .ok (.iload_n 3, 1) := dk_29 (dk_at dksX4_layOut_6 23 rfl rfl)
theorem dX4_layOut_168 : decode cX4_layOut 168 = .ok (.iadd, 1) := dk_96 (dk_at dksX4_layOut_7 0 rfl rfl)
theorem dX4_layOut_169 : decode cX4_layOut 169 = .ok (.aload_n 0, 1) := dk_42 (dk_at dksX4_layOut_7 1 rfl rfl)
theorem dX4_layOut_170 : decode cX4_layOut 170 = .ok (.getfield 41, 3) := dk_180 0 41 (dk_at dksX4_layOut_7 2 rfl rfl)
theorem dX4_layOut_173 : decode cX4_layOut 173 = .ok (.iconst 1, 1) := dk_4 (dk_at dksX4_layOut_7 5 rfl rfl)
theorem dX4_layOut_174 : decode cX4_layOut 174 = .ok (.iaload, 1) := dk_46 (dk_at dksX4_layOut_7 6 rfl rfl)
theorem dX4_layOut_175 : decode cX4_layOut 175 = .ok (.isub, 1) := dk_100 (dk_at dksX4_layOut_7 7 rfl rfl)
theorem dX4_layOut_176 : decode cX4_layOut 176 = .ok (.iaload, 1) := dk_46 (dk_at dksX4_layOut_7 8 rfl rfl)
theorem dX4_layOut_177 : decode cX4_layOut 177 = .ok (.ifCond .ne 7, 3) := dk_154 0 7 (dk_at dksX4_layOut_7 9 rfl rfl)
theorem dX4_layOut_180 : decode cX4_layOut 180 = .ok (.iconst 1, 1) := dk_4 (dk_at dksX4_layOut_7 12 rfl rfl)
theorem dX4_layOut_181 : decode cX4_layOut 181 = .ok (.goto 4, 3) := dk_167 0 4 (dk_at dksX4_layOut_7 13 rfl rfl)
theorem dX4_layOut_184 : decode cX4_layOut 184 = .ok (.iconst 0, 1) := dk_3 (dk_at dksX4_layOut_7 16 rfl rfl)
theorem dX4_layOut_185 : decode cX4_layOut 185 = .ok (.istore 10, 2) := dk_54 10 (dk_at dksX4_layOut_7 17 rfl rfl)
theorem dX4_layOut_187 : decode cX4_layOut 187 = .ok (.iconst 1, 1) := dk_4 (dk_at dksX4_layOut_7 19 rfl rfl)
theorem dX4_layOut_188 : decode cX4_layOut 188 = .ok (.istore 11, 2) := dk_54 11 (dk_at dksX4_layOut_7 20 rfl rfl)
theorem dX4_layOut_190 : decode cX4_layOut 190 = .ok (.iload 11, 2) := dk_21 11 (dk_at dksX4_layOut_7 22 rfl rfl)
theorem dX4_layOut_192 : decode cX4_layOut 192 = .ok (.iconst 4, 1) := dk_7 (dk_at dksX4_layOut_8 0 rfl rfl)
theorem dX4_layOut_193 : decode cX4_layOut 193 = .ok (.if_icmp .ge 51, 3) := dk_162 0 51 (dk_at dksX4_layOut_8 1 rfl rfl)
theorem dX4_layOut_196 : decode cX4_layOut 196 = .ok (.iload 10, 2) := dk_21 10 (dk_at dksX4_layOut_8 4 rfl rfl)
theorem dX4_layOut_198 : decode cX4_layOut 198 = .ok (.ifCond .ne 46, 3) := dk_154 0 46 (dk_at dksX4_layOut_8 6 rfl rfl)
theorem dX4_layOut_201 : decode cX4_layOut 201 = .ok (.iload 11, 2) := dk_21 11 (dk_at dksX4_layOut_8 9 rfl rfl)
theorem dX4_layOut_203 : decode cX4_layOut 203 = .ok (.ineg, 1) := dk_116 (dk_at dksX4_layOut_8 11 rfl rfl)
theorem dX4_layOut_204 : decode cX4_layOut 204 = .ok (.istore 12, 2) := dk_54 12 (dk_at dksX4_layOut_8 12 rfl rfl)
theorem dX4_layOut_206 : decode cX4_layOut 206 = .ok (.iload 12, 2) := dk_21 12 (dk_at dksX4_layOut_8 14 rfl rfl)
theorem dX4_layOut_208 : decode cX4_layOut 208 = .ok (.iload 11, 2) := dk_21 11 (dk_at dksX4_layOut_8 16 rfl rfl)
theorem dX4_layOut_210 : decode cX4_layOut 210 = .ok (.if_icmp .gt 28, 3) := dk_163 0 28 (dk_at dksX4_layOut_8 18 rfl rfl)
theorem dX4_layOut_213 : decode cX4_layOut 213 = .ok (.lload 8, 2) := dk_22 8 (dk_at dksX4_layOut_8 21 rfl rfl)
theorem dX4_layOut_215 : decode cX4_layOut 215 = .ok (.aload_n 0, 1) := dk_42 (dk_at dksX4_layOut_8 23 rfl rfl)
theorem dX4_layOut_216 : decode cX4_layOut 216 = .ok (.iload 4, 2) := dk_21 4 (dk_at dksX4_layOut_9 0 rfl rfl)
theorem dX4_layOut_218 : decode cX4_layOut 218 = .ok (.iload 11, 2) := dk_21 11 (dk_at dksX4_layOut_9 2 rfl rfl)
theorem dX4_layOut_220 : decode cX4_layOut 220 = .ok (.isub, 1) := dk_100 (dk_at dksX4_layOut_9 4 rfl rfl)
theorem dX4_layOut_221 : decode cX4_layOut 221 = .ok (.iload 5, 2) := dk_21 5 (dk_at dksX4_layOut_9 5 rfl rfl)
theorem dX4_layOut_223 : decode cX4_layOut 223 = .ok (.iload 12, 2) := dk_21 12 (dk_at dksX4_layOut_9 7 rfl rfl)
theorem dX4_layOut_225 : decode cX4_layOut 225 = .ok (.iadd, 1) := dk_96 (dk_at dksX4_layOut_9 9 rfl rfl)
theorem dX4_layOut_226 : decode cX4_layOut 226 = .ok (.invokevirtual 308, 3) := dk_182 1 52 (dk_at dksX4_layOut_9 10 rfl rfl)
theorem dX4_layOut_229 : decode cX4_layOut 229 = .ok (.lor, 1) := dk_129 (dk_at dksX4_layOut_9 13 rfl rfl)
theorem dX4_layOut_230 : decode cX4_layOut 230 = .ok (.lstore 8, 2) := dk_55 8 (dk_at dksX4_layOut_9 14 rfl rfl)
theorem dX4_layOut_232 : decode cX4_layOut 232 = .ok (.iinc 12 1, 3) := dk_132 12 1 (dk_at dksX4_layOut_9 16 rfl rfl)
theorem dX4_layOut_235 : decode cX4_layOut 235 = .ok (.goto (-29), 3) := dk_167 255 227 (dk_at dksX4_layOut_9 19 rfl rfl)
theorem dX4_layOut_238 : decode cX4_layOut 238 = .ok (.iinc 11 1, 3) := dk_132 11 1 (dk_at dksX4_layOut_10 0 rfl rfl)
theorem dX4_layOut_241 : decode cX4_layOut 241 = .ok (.goto (-51), 3) := dk_167 255 205 (dk_at dksX4_layOut_10 3 rfl rfl)
theorem dX4_layOut_244 : decode cX4_layOut 244 = .ok (.aload_n 0, 1) := dk_42 (dk_at dksX4_layOut_10 6 rfl rfl)
theorem dX4_layOut_245 : decode cX4_layOut 245 = .ok (.getfield 61, 3) := dk_180 0 61 (dk_at dksX4_layOut_10 7 rfl rfl)
theorem dX4_layOut_248 : decode cX4_layOut 248 = .ok (.bipush 6, 2) := dk_16 6 (dk_at dksX4_layOut_10 10 rfl rfl)
theorem dX4_layOut_250 : decode cX4_layOut 250 = .ok (.iload_n 3, 1) := dk_29 (dk_at dksX4_layOut_10 12 rfl rfl)
theorem dX4_layOut_251 : decode cX4_layOut 251 = .ok (.imul, 1) := dk_104 (dk_at dksX4_layOut_10 13 rfl rfl)
theorem dX4_layOut_252 : decode cX4_layOut 252 = .ok (.lload 6, 2) := dk_22 6 (dk_at dksX4_layOut_10 14 rfl rfl)
theorem dX4_layOut_254 : decode cX4_layOut 254 = .ok (.lastore, 1) := dk_80 (dk_at dksX4_layOut_10 16 rfl rfl)
theorem dX4_layOut_255 : decode cX4_layOut 255 = .ok (.aload_n 0, 1) := dk_42 (dk_at dksX4_layOut_10 17 rfl rfl)
theorem dX4_layOut_256 : decode cX4_layOut 256 = .ok (.getfield 61, 3) := dk_180 0 61 (dk_at dksX4_layOut_10 18 rfl rfl)
theorem dX4_layOut_259 : decode cX4_layOut 259 = .ok (.bipush 6, 2) := dk_16 6 (dk_at dksX4_layOut_10 21 rfl rfl)
theorem dX4_layOut_261 : decode cX4_layOut 261 = .ok (.iload_n 3, 1) := dk_29 (dk_at dksX4_layOut_10 23 rfl rfl)
theorem dX4_layOut_262 : decode cX4_layOut 262 = .ok (.imul, 1) := dk_104 (dk_at dksX4_layOut_11 0 rfl rfl)
theorem dX4_layOut_263 : decode cX4_layOut 263 = .ok (.iconst 1, 1) := dk_4 (dk_at dksX4_layOut_11 1 rfl rfl)
theorem dX4_layOut_264 : decode cX4_layOut 264 = .ok (.iadd, 1) := dk_96 (dk_at dksX4_layOut_11 2 rfl rfl)
theorem dX4_layOut_265 : decode cX4_layOut 265 = .ok (.aload_n 0, 1) := dk_42 (dk_at dksX4_layOut_11 3 rfl rfl)
theorem dX4_layOut_266 : decode cX4_layOut 266 = .ok (.iload 4, 2) := dk_21 4 (dk_at dksX4_layOut_11 4 rfl rfl)
theorem dX4_layOut_268 : decode cX4_layOut 268 = .ok (.iconst 1, 1) := dk_4 (dk_at dksX4_layOut_11 6 rfl rfl)
theorem dX4_layOut_269 : decode cX4_layOut 269 = .ok (.isub, 1) := dk_100 (dk_at dksX4_layOut_11 7 rfl rfl)
theorem dX4_layOut_270 : decode cX4_layOut 270 = .ok (.iload 5, 2) := dk_21 5 (dk_at dksX4_layOut_11 8 rfl rfl)
theorem dX4_layOut_272 : decode cX4_layOut 272 = .ok (.invokevirtual 308, 3) := dk_182 1 52 (dk_at dksX4_layOut_11 10 rfl rfl)
theorem dX4_layOut_275 : decode cX4_layOut 275 = .ok (.lastore, 1) := dk_80 (dk_at dksX4_layOut_11 13 rfl rfl)
theorem dX4_layOut_276 : decode cX4_layOut 276 = .ok (.aload_n 0, 1) := dk_42 (dk_at dksX4_layOut_11 14 rfl rfl)
theorem dX4_layOut_277 : decode cX4_layOut 277 = .ok (.getfield 61, 3) := dk_180 0 61 (dk_at dksX4_layOut_11 15 rfl rfl)
theorem dX4_layOut_280 : decode cX4_layOut 280 = .ok (.bipush 6, 2) := dk_16 6 (dk_at dksX4_layOut_11 18 rfl rfl)
theorem dX4_layOut_282 : decode cX4_layOut 282 = .ok (.iload_n 3, 1) := dk_29 (dk_at dksX4_layOut_11 20 rfl rfl)
theorem dX4_layOut_283 : decode cX4_layOut 283 = .ok (.imul, 1) := dk_104 (dk_at dksX4_layOut_11 21 rfl rfl)
theorem dX4_layOut_284 : decode cX4_layOut 284 = .ok (.iconst 2, 1) := dk_5 (dk_at dksX4_layOut_11 22 rfl rfl)
theorem dX4_layOut_285 : decode cX4_layOut 285 = .ok (.iadd, 1) := dk_96 (dk_at dksX4_layOut_11 23 rfl rfl)
theorem dX4_layOut_286 : decode cX4_layOut 286 = .ok (.aload_n 0, 1) := dk_42 (dk_at dksX4_layOut_12 0 rfl rfl)
theorem dX4_layOut_287 : decode cX4_layOut 287 = .ok (.iload 4, 2) := dk_21 4 (dk_at dksX4_layOut_12 1 rfl rfl)
theorem dX4_layOut_289 : decode cX4_layOut 289 = .ok (.iload 5, 2) := dk_21 5 (dk_at dksX4_layOut_12 3 rfl rfl)
theorem dX4_layOut_291 : decode cX4_layOut 291 = .ok (.iconst 1, 1) := dk_4 (dk_at dksX4_layOut_12 5 rfl rfl)
theorem dX4_layOut_292 : decode cX4_layOut 292 = .ok (.isub, 1) := dk_100 (dk_at dksX4_layOut_12 6 rfl rfl)
theorem dX4_layOut_293 : decode cX4_layOut 293 = .ok (.invokevirtual 308, 3) := dk_182 1 52 (dk_at dksX4_layOut_12 7 rfl rfl)
theorem dX4_layOut_296 : decode cX4_layOut 296 = .ok (.aload_n 0, 1) := dk_42 (dk_at dksX4_layOut_12 10 rfl rfl)
theorem dX4_layOut_297 : decode cX4_layOut 297 = .ok (.iload 4, 2) := dk_21 4 (dk_at dksX4_layOut_12 11 rfl rfl)
theorem dX4_layOut_299 : decode cX4_layOut 299 = .ok (.iload 5, 2) := dk_21 5 (dk_at dksX4_layOut_12 13 rfl rfl)
theorem dX4_layOut_301 : decode cX4_layOut 301 = .ok (.iconst 1, 1) := dk_4 (dk_at dksX4_layOut_12 15 rfl rfl)
theorem dX4_layOut_302 : decode cX4_layOut 302 = .ok (.iadd, 1) := dk_96 (dk_at dksX4_layOut_12 16 rfl rfl)
theorem dX4_layOut_303 : decode cX4_layOut 303 = .ok (.invokevirtual 308, 3) := dk_182 1 52 (dk_at dksX4_layOut_12 17 rfl rfl)
theorem dX4_layOut_306 : decode cX4_layOut 306 = .ok (.lor, 1) := dk_129 (dk_at dksX4_layOut_12 20 rfl rfl)
theorem dX4_layOut_307 : decode cX4_layOut 307 = .ok (.lastore, 1) := dk_80 (dk_at dksX4_layOut_12 21 rfl rfl)
theorem dX4_layOut_308 : decode cX4_layOut 308 = .ok (.aload_n 0, 1) := dk_42 (dk_at dksX4_layOut_12 22 rfl rfl)
theorem dX4_layOut_309 : decode cX4_layOut 309 = .ok (.getfield 61, 3) := dk_180 0 61 (dk_at dksX4_layOut_13 0 rfl rfl)
theorem dX4_layOut_312 : decode cX4_layOut 312 = .ok (.bipush 6, 2) := dk_16 6 (dk_at dksX4_layOut_13 3 rfl rfl)
theorem dX4_layOut_314 : decode cX4_layOut 314 = .ok (.iload_n 3, 1) := dk_29 (dk_at dksX4_layOut_13 5 rfl rfl)
theorem dX4_layOut_315 : decode cX4_layOut 315 = .ok (.imul, 1) := dk_104 (dk_at dksX4_layOut_13 6 rfl rfl)
theorem dX4_layOut_316 : decode cX4_layOut 316 = .ok (.iconst 3, 1) := dk_6 (dk_at dksX4_layOut_13 7 rfl rfl)
theorem dX4_layOut_317 : decode cX4_layOut 317 = .ok (.iadd, 1) := dk_96 (dk_at dksX4_layOut_13 8 rfl rfl)
theorem dX4_layOut_318 : decode cX4_layOut 318 = .ok (.aload_n 0, 1) := dk_42 (dk_at dksX4_layOut_13 9 rfl rfl)
theorem dX4_layOut_319 : decode cX4_layOut 319 = .ok (.iload 4, 2) := dk_21 4 (dk_at dksX4_layOut_13 10 rfl rfl)
theorem dX4_layOut_321 : decode cX4_layOut 321 = .ok (.iconst 1, 1) := dk_4 (dk_at dksX4_layOut_13 12 rfl rfl)
theorem dX4_layOut_322 : decode cX4_layOut 322 = .ok (.iadd, 1) := dk_96 (dk_at dksX4_layOut_13 13 rfl rfl)
theorem dX4_layOut_323 : decode cX4_layOut 323 = .ok (.iload 5, 2) := dk_21 5 (dk_at dksX4_layOut_13 14 rfl rfl)
theorem dX4_layOut_325 : decode cX4_layOut 325 = .ok (.invokevirtual 308, 3) := dk_182 1 52 (dk_at dksX4_layOut_13 16 rfl rfl)
theorem dX4_layOut_328 : decode cX4_layOut 328 = .ok (.lastore, 1) := dk_80 (dk_at dksX4_layOut_13 19 rfl rfl)
theorem dX4_layOut_329 : decode cX4_layOut 329 = .ok (.aload_n 0, 1) := dk_42 (dk_at dksX4_layOut_13 20 rfl rfl)
theorem dX4_layOut_330 : decode cX4_layOut 330 = .ok (.getfield 61, 3) := dk_180 0 61 (dk_at dksX4_layOut_13 21 rfl rfl)
theorem dX4_layOut_333 : decode cX4_layOut 333 = .ok (.bipush 6, 2) := dk_16 6 (dk_at dksX4_layOut_14 0 rfl rfl)
theorem dX4_layOut_335 : decode cX4_layOut 335 = .ok (.iload_n 3, 1) := dk_29 (dk_at dksX4_layOut_14 2 rfl rfl)
theorem dX4_layOut_336 : decode cX4_layOut 336 = .ok (.imul, 1) := dk_104 (dk_at dksX4_layOut_14 3 rfl rfl)
theorem dX4_layOut_337 : decode cX4_layOut 337 = .ok (.iconst 4, 1) := dk_7 (dk_at dksX4_layOut_14 4 rfl rfl)
theorem dX4_layOut_338 : decode cX4_layOut 338 = .ok (.iadd, 1) := dk_96 (dk_at dksX4_layOut_14 5 rfl rfl)
theorem dX4_layOut_339 : decode cX4_layOut 339 = .ok (.lload 8, 2) := dk_22 8 (dk_at dksX4_layOut_14 6 rfl rfl)
theorem dX4_layOut_341 : decode cX4_layOut 341 = .ok (.lastore, 1) := dk_80 (dk_at dksX4_layOut_14 8 rfl rfl)
theorem dX4_layOut_342 : decode cX4_layOut 342 = .ok (.aload_n 0, 1) := dk_42 (dk_at dksX4_layOut_14 9 rfl rfl)
theorem dX4_layOut_343 : decode cX4_layOut 343 = .ok (.getfield 61, 3) := dk_180 0 61 (dk_at dksX4_layOut_14 10 rfl rfl)
theorem dX4_layOut_346 : decode cX4_layOut 346 = .ok (.bipush 6, 2) := dk_16 6 (dk_at dksX4_layOut_14 13 rfl rfl)
theorem dX4_layOut_348 : decode cX4_layOut 348 = .ok (.iload_n 3, 1) := dk_29 (dk_at dksX4_layOut_14 15 rfl rfl)
theorem dX4_layOut_349 : decode cX4_layOut 349 = .ok (.imul, 1) := dk_104 (dk_at dksX4_layOut_14 16 rfl rfl)
theorem dX4_layOut_350 : decode cX4_layOut 350 = .ok (.iconst 5, 1) := dk_8 (dk_at dksX4_layOut_14 17 rfl rfl)
theorem dX4_layOut_351 : decode cX4_layOut 351 = .ok (.iadd, 1) := dk_96 (dk_at dksX4_layOut_14 18 rfl rfl)
theorem dX4_layOut_352 : decode cX4_layOut 352 = .ok (.lload_n 1, 1) := dk_31 (dk_at dksX4_layOut_14 19 rfl rfl)
theorem dX4_layOut_353 : decode cX4_layOut 353 = .ok (.lconst 1, 1) := dk_10 (dk_at dksX4_layOut_14 20 rfl rfl)
theorem dX4_layOut_354 : decode cX4_layOut 354 = .ok (.iload_n 3, 1) := dk_29 (dk_at dksX4_layOut_14 21 rfl rfl)
theorem dX4_layOut_355 : decode cX4_layOut 355 = .ok (.lshl, 1) := dk_121 (dk_at dksX4_layOut_14 22 rfl rfl)
theorem dX4_layOut_356 : decode cX4_layOut 356 = .ok (.ldc2_w 312, 3) := dk_20 1 56 (dk_at dksX4_layOut_15 0 rfl rfl)
theorem dX4_layOut_359 : decode cX4_layOut 359 = .ok (.lxor, 1) := dk_131 (dk_at dksX4_layOut_15 3 rfl rfl)
theorem dX4_layOut_360 : decode cX4_layOut 360 = .ok (.land, 1) := dk_127 (dk_at dksX4_layOut_15 4 rfl rfl)
theorem dX4_layOut_361 : decode cX4_layOut 361 = .ok (.lastore, 1) := dk_80 (dk_at dksX4_layOut_15 5 rfl rfl)
theorem dX4_layOut_362 : decode cX4_layOut 362 = .ok (.iinc 3 1, 3) := dk_132 3 1 (dk_at dksX4_layOut_15 6 rfl rfl)
theorem dX4_layOut_365 : decode cX4_layOut 365 = .ok (.goto (-301), 3) := dk_167 254 211 (dk_at dksX4_layOut_15 9 rfl rfl)
theorem dX4_layOut_368 : decode cX4_layOut 368 = .ok (.return_, 1) := dk_177 (dk_at dksX4_layOut_15 12 rfl rfl)
def dkwX4_bitAt_1 : List UInt8 := [9, 173]
abbrev dktX4_bitAt_1 : List UInt8 := dkwX4_bitAt_1 ++ []
def dkwX4_bitAt_0 : List UInt8 := [42, 27, 28, 182, 1, 49, 153, 0, 18, 10, 42, 180, 0, 41, 4, 46, 27, 104, 28, 96, 121, 167, 0, 4]
abbrev dktX4_bitAt_0 : List UInt8 := dkwX4_bitAt_0 ++ dktX4_bitAt_1
theorem dksX4_bitAt_0 : cX4_bitAt.data.toList.drop 0 = dktX4_bitAt_0 := by decide +kernel
theorem dksX4_bitAt_1 : cX4_bitAt.data.toList.drop 24 = dktX4_bitAt_1 := dk_seg dksX4_bitAt_0 24 rfl rfl
theorem dX4_bitAt_0 : decode cX4_bitAt 0 = .ok (.aload_n 0, 1) := dk_42 (dk_at dksX4_bitAt_0 0 rfl rfl)
theorem dX4_bitAt_1 : decode cX4_bitAt 1 = .ok (.iload_n 1, 1) := dk_27 (dk_at dksX4_bitAt_0 1 rfl rfl)
theorem dX4_bitAt_2 : decode cX4_bitAt 2 = .ok (.iload_n 2, 1) := dk_28 (dk_at dksX4_bitAt_0 2 rfl rfl)
theorem dX4_bitAt_3 : decode cX4_bitAt 3 = .ok (.invokevirtual 305, 3) := dk_182 1 49 (dk_at dksX4_bitAt_0 3 rfl rfl)
theorem dX4_bitAt_6 : decode cX4_bitAt 6 = .ok (.ifCond .eq 18, 3) := dk_153 0 18 (dk_at dksX4_bitAt_0 6 rfl rfl)
theorem dX4_bitAt_9 : decode cX4_bitAt 9 = .ok (.lconst 1, 1) := dk_10 (dk_at dksX4_bitAt_0 9 rfl rfl)
theorem dX4_bitAt_10 : decode cX4_bitAt 10 = .ok (.aload_n 0, 1) := dk_42 (dk_at dksX4_bitAt_0 10 rfl rfl)
theorem dX4_bitAt_11 : decode cX4_bitAt 11 = .ok (.getfield 41, 3) := dk_180 0 41 (dk_at dksX4_bitAt_0 11 rfl rfl)
theorem dX4_bitAt_14 : decode cX4_bitAt 14 = .ok (.iconst 1, 1) := dk_4 (dk_at dksX4_bitAt_0 14 rfl rfl)
theorem dX4_bitAt_15 : decode cX4_bitAt 15 = .ok (.iaload, 1) := dk_46 (dk_at dksX4_bitAt_0 15 rfl rfl)
theorem dX4_bitAt_16 : decode cX4_bitAt 16 = .ok (.iload_n 1, 1) := dk_27 (dk_at dksX4_bitAt_0 16 rfl rfl)
theorem dX4_bitAt_17 : decode cX4_bitAt 17 = .ok (.imul, 1) := dk_104 (dk_at dksX4_bitAt_0 17 rfl rfl)
theorem dX4_bitAt_18 : decode cX4_bitAt 18 = .ok (.iload_n 2, 1) := dk_28 (dk_at dksX4_bitAt_0 18 rfl rfl)
theorem dX4_bitAt_19 : decode cX4_bitAt 19 = .ok (.iadd, 1) := dk_96 (dk_at dksX4_bitAt_0 19 rfl rfl)
theorem dX4_bitAt_20 : decode cX4_bitAt 20 = .ok (.lshl, 1) := dk_121 (dk_at dksX4_bitAt_0 20 rfl rfl)
theorem dX4_bitAt_21 : decode cX4_bitAt 21 = .ok (.goto 4, 3) := dk_167 0 4 (dk_at dksX4_bitAt_0 21 rfl rfl)
theorem dX4_bitAt_24 : decode cX4_bitAt 24 = .ok (.lconst 0, 1) := dk_9 (dk_at dksX4_bitAt_1 0 rfl rfl)
theorem dX4_bitAt_25 : decode cX4_bitAt 25 = .ok (.lreturn, 1) := dk_173 (dk_at dksX4_bitAt_1 1 rfl rfl)
def dkwX4_moment_28 : List UInt8 := [42, 180, 1, 101, 80, 42, 89, 180, 1, 117, 4, 96, 181, 1, 117, 177]
abbrev dktX4_moment_28 : List UInt8 := dkwX4_moment_28 ++ []
def dkwX4_moment_27 : List UInt8 := [180, 0, 72, 27, 42, 180, 1, 92, 80, 42, 180, 0, 75, 27, 42, 180, 1, 98, 80, 42, 180, 0, 78, 27]
abbrev dktX4_moment_27 : List UInt8 := dkwX4_moment_27 ++ dktX4_moment_28
def dkwX4_moment_26 : List UInt8 := [22, 11, 181, 1, 98, 42, 22, 13, 181, 1, 101, 42, 180, 0, 69, 27, 42, 180, 1, 95, 80, 42]
abbrev dktX4_moment_26 : List UInt8 := dkwX4_moment_26 ++ dktX4_moment_27
def dkwX4_moment_25 : List UInt8 := [127, 129, 55, 5, 132, 15, 1, 167, 254, 124, 42, 22, 7, 181, 1, 95, 42, 22, 9, 181, 1, 92, 42]
abbrev dktX4_moment_25 : List UInt8 := dkwX4_moment_25 ++ dktX4_moment_26
def dkwX4_moment_24 : List UInt8 := [22, 18, 20, 1, 56, 131, 127, 129, 66, 22, 9, 22, 18, 127, 42, 180, 1, 92, 22, 18, 20, 1, 56, 131]
abbrev dktX4_moment_24 : List UInt8 := dkwX4_moment_24 ++ dktX4_moment_25
def dkwX4_moment_23 : List UInt8 := [20, 1, 56, 167, 0, 9, 10, 21, 17, 121, 10, 101, 55, 18, 22, 7, 22, 18, 127, 42, 180, 1, 95]
abbrev dktX4_moment_23 : List UInt8 := dkwX4_moment_23 ++ dktX4_moment_24
def dkwX4_moment_22 : List UInt8 := [167, 0, 74, 42, 180, 0, 41, 4, 46, 21, 15, 4, 96, 104, 54, 17, 21, 17, 16, 64, 160, 0, 9]
abbrev dktX4_moment_22 : List UInt8 := dkwX4_moment_22 ++ dktX4_moment_23
def dkwX4_moment_21 : List UInt8 := [22, 18, 167, 0, 4, 9, 129, 55, 13, 132, 17, 1, 167, 255, 15, 42, 180, 0, 41, 8, 46, 154, 0, 6]
abbrev dktX4_moment_21 : List UInt8 := dkwX4_moment_21 ++ dktX4_moment_22
def dkwX4_moment_20 : List UInt8 := [4, 126, 4, 160, 0, 8, 22, 18, 167, 0, 4, 9, 129, 55, 11, 22, 13, 21, 22, 4, 164, 0, 8]
abbrev dktX4_moment_20 : List UInt8 := dkwX4_moment_20 ++ dktX4_moment_21
def dkwX4_moment_19 : List UInt8 := [129, 55, 7, 22, 9, 21, 21, 4, 164, 0, 8, 22, 18, 167, 0, 4, 9, 129, 55, 9, 22, 11, 21, 22]
abbrev dktX4_moment_19 : List UInt8 := dkwX4_moment_19 ++ dktX4_moment_20
def dkwX4_moment_18 : List UInt8 := [182, 1, 126, 4, 96, 167, 0, 4, 6, 54, 22, 22, 7, 21, 21, 158, 0, 8, 22, 18, 167, 0, 4, 9]
abbrev dktX4_moment_18 : List UInt8 := dkwX4_moment_18 ++ dktX4_moment_19
def dkwX4_moment_17 : List UInt8 := [21, 20, 159, 0, 7, 3, 167, 0, 25, 42, 21, 17, 182, 1, 126, 6, 162, 0, 14, 42, 21, 17]
abbrev dktX4_moment_17 : List UInt8 := dkwX4_moment_17 ++ dktX4_moment_18
def dkwX4_moment_16 : List UInt8 := [21, 17, 33, 22, 5, 21, 20, 42, 21, 17, 182, 1, 126, 182, 1, 129, 54, 21, 27, 153, 0, 10, 21, 21]
abbrev dktX4_moment_16 : List UInt8 := dkwX4_moment_16 ++ dktX4_moment_17
def dkwX4_moment_15 : List UInt8 := [163, 0, 9, 5, 54, 21, 167, 0, 36, 28, 154, 0, 7, 27, 154, 0, 9, 3, 54, 21, 167, 0, 22, 42]
abbrev dktX4_moment_15 : List UInt8 := dkwX4_moment_15 ++ dktX4_moment_16
def dkwX4_moment_14 : List UInt8 := [167, 0, 64, 42, 180, 1, 111, 22, 18, 127, 9, 148, 153, 0, 19, 27, 42, 180, 0, 41, 7, 46]
abbrev dktX4_moment_14 : List UInt8 := dkwX4_moment_14 ++ dktX4_moment_15
def dkwX4_moment_13 : List UInt8 := [54, 20, 21, 16, 154, 0, 15, 42, 180, 1, 114, 22, 18, 127, 9, 148, 153, 0, 9, 3, 54, 21]
abbrev dktX4_moment_13 : List UInt8 := dkwX4_moment_13 ++ dktX4_moment_14
def dkwX4_moment_12 : List UInt8 := [16, 6, 21, 17, 96, 46, 154, 0, 6, 167, 0, 209, 10, 21, 17, 121, 55, 18, 42, 21, 17, 182, 1, 123]
abbrev dktX4_moment_12 : List UInt8 := dkwX4_moment_12 ++ dktX4_moment_13
def dkwX4_moment_11 : List UInt8 := [104, 54, 17, 21, 17, 42, 180, 0, 41, 4, 46, 21, 15, 4, 96, 104, 162, 0, 231, 42, 180, 0, 41]
abbrev dktX4_moment_11 : List UInt8 := dkwX4_moment_11 ++ dktX4_moment_12
def dkwX4_moment_10 : List UInt8 := [21, 15, 96, 46, 4, 100, 161, 0, 7, 4, 167, 0, 4, 3, 54, 16, 42, 180, 0, 41, 4, 46, 21, 15]
abbrev dktX4_moment_10 : List UInt8 := dkwX4_moment_10 ++ dktX4_moment_11
def dkwX4_moment_9 : List UInt8 := [162, 1, 127, 42, 180, 0, 41, 16, 78, 21, 15, 96, 46, 158, 0, 23, 27, 42, 180, 0, 41, 16, 78]
abbrev dktX4_moment_9 : List UInt8 := dkwX4_moment_9 ++ dktX4_moment_10
def dkwX4_moment_8 : List UInt8 := [55, 7, 9, 55, 9, 9, 55, 11, 9, 55, 13, 3, 54, 15, 21, 15, 42, 180, 0, 41, 3, 46]
abbrev dktX4_moment_8 : List UInt8 := dkwX4_moment_8 ++ dktX4_moment_9
def dkwX4_moment_7 : List UInt8 := [89, 180, 1, 120, 4, 96, 181, 1, 120, 167, 255, 90, 42, 180, 1, 95, 66, 42, 180, 1, 92, 55, 5, 9]
abbrev dktX4_moment_7 : List UInt8 := dkwX4_moment_7 ++ dktX4_moment_8
def dkwX4_moment_6 : List UInt8 := [180, 1, 114, 22, 4, 129, 167, 0, 14, 42, 180, 1, 114, 22, 4, 20, 1, 56, 131, 127, 181, 1, 114, 42]
abbrev dktX4_moment_6 : List UInt8 := dkwX4_moment_6 ++ dktX4_moment_7
def dkwX4_moment_5 : List UInt8 := [167, 0, 14, 42, 180, 1, 111, 22, 4, 20, 1, 56, 131, 127, 181, 1, 111, 42, 29, 4, 160, 0, 13, 42]
abbrev dktX4_moment_5 : List UInt8 := dkwX4_moment_5 ++ dktX4_moment_6
def dkwX4_moment_4 : List UInt8 := [29, 6, 160, 0, 7, 4, 167, 0, 4, 3, 61, 42, 29, 154, 0, 13, 42, 180, 1, 111, 22, 4, 129]
abbrev dktX4_moment_4 : List UInt8 := dkwX4_moment_4 ++ dktX4_moment_5
def dkwX4_moment_3 : List UInt8 := [42, 180, 0, 41, 17, 2, 79, 6, 42, 180, 1, 120, 104, 96, 5, 96, 46, 121, 55, 4, 28, 154, 0, 8]
abbrev dktX4_moment_3 : List UInt8 := dkwX4_moment_3 ++ dktX4_moment_4
def dkwX4_moment_2 : List UInt8 := [17, 2, 79, 6, 42, 180, 1, 120, 104, 96, 4, 96, 46, 62, 29, 6, 160, 0, 7, 9, 167, 0, 22, 10]
abbrev dktX4_moment_2 : List UInt8 := dkwX4_moment_2 ++ dktX4_moment_3
def dkwX4_moment_1 : List UInt8 := [180, 0, 41, 17, 2, 79, 6, 42, 180, 1, 120, 104, 96, 46, 27, 160, 0, 138, 42, 180, 0, 41]
abbrev dktX4_moment_1 : List UInt8 := dkwX4_moment_1 ++ dktX4_moment_2
def dkwX4_moment_0 : List UInt8 := [42, 180, 1, 117, 60, 3, 61, 42, 180, 1, 120, 42, 180, 0, 41, 17, 2, 78, 46, 162, 0, 157, 42]
abbrev dktX4_moment_0 : List UInt8 := dkwX4_moment_0 ++ dktX4_moment_1
theorem dksX4_moment_0 : cX4_moment.data.toList.drop 0 = dktX4_moment_0 := by decide +kernel
theorem dksX4_moment_1 : cX4_moment.data.toList.drop 23 = dktX4_moment_1 := dk_seg dksX4_moment_0 23 rfl rfl
theorem dksX4_moment_2 : cX4_moment.data.toList.drop 45 = dktX4_moment_2 := dk_seg dksX4_moment_1 22 rfl rfl
theorem dksX4_moment_3 : cX4_moment.data.toList.drop 69 = dktX4_moment_3 := dk_seg dksX4_moment_2 24 rfl rfl
theorem dksX4_moment_4 : cX4_moment.data.toList.drop 93 = dktX4_moment_4 := dk_seg dksX4_moment_3 24 rfl rfl
theorem dksX4_moment_5 : cX4_moment.data.toList.drop 116 = dktX4_moment_5 := dk_seg dksX4_moment_4 23 rfl rfl
theorem dksX4_moment_6 : cX4_moment.data.toList.drop 140 = dktX4_moment_6 := dk_seg dksX4_moment_5 24 rfl rfl
theorem dksX4_moment_7 : cX4_moment.data.toList.drop 164 = dktX4_moment_7 := dk_seg dksX4_moment_6 24 rfl rfl
theorem dksX4_moment_8 : cX4_moment.data.toList.drop 188 = dktX4_moment_8 := dk_seg dksX4_moment_7 24 rfl rfl
theorem dksX4_moment_9 : cX4_moment.data.toList.drop 210 = dktX4_moment_9 := dk_seg dksX4_moment_8 22 rfl rfl
theorem dksX4_moment_10 : cX4_moment.data.toList.drop 233 = dktX4_moment_10 := dk_seg dksX4_moment_9 23 rfl rfl
theorem dksX4_moment_11 : cX4_moment.data.toList.drop 257 = dktX4_moment_11 := dk_seg dksX4_moment_10 24 rfl rfl
theorem dksX4_moment_12 : cX4_moment.data.toList.drop 280 = dktX4_moment_12 := dk_seg dksX4_moment_11 23 rfl rfl
theorem dksX4_moment_13 : cX4_moment.data.toList.drop 304 = dktX4_moment_13 := dk_seg dksX4_moment_12 24 rfl rfl
theorem dksX4_moment_14 : cX4_moment.data.toList.drop 326 = dktX4_moment_14 := dk_seg dksX4_moment_13 22 rfl rfl
theorem dksX4_moment_15 : cX4_moment.data.toList.drop 348 = dktX4_moment_15 := dk_seg dksX4_moment_14 22 rfl rfl
theorem dksX4_moment_16 : cX4_moment.data.toList.drop 372 = dktX4_moment_16 := dk_seg dksX4_moment_15 24 rfl rfl
theorem dksX4_moment_17 : cX4_moment.data.toList.drop 396 = dktX4_moment_17 := dk_seg dksX4_moment_16 24 rfl rfl
theorem dksX4_moment_18 : cX4_moment.data.toList.drop 418 = dktX4_moment_18 := dk_seg dksX4_moment_17 22 rfl rfl
theorem dksX4_moment_19 : cX4_moment.data.toList.drop 442 = dktX4_moment_19 := dk_seg dksX4_moment_18 24 rfl rfl
theorem dksX4_moment_20 : cX4_moment.data.toList.drop 466 = dktX4_moment_20 := dk_seg dksX4_moment_19 24 rfl rfl
theorem dksX4_moment_21 : cX4_moment.data.toList.drop 489 = dktX4_moment_21 := dk_seg dksX4_moment_20 23 rfl rfl
theorem dksX4_moment_22 : cX4_moment.data.toList.drop 513 = dktX4_moment_22 := dk_seg dksX4_moment_21 24 rfl rfl
theorem dksX4_moment_23 : cX4_moment.data.toList.drop 536 = dktX4_moment_23 := dk_seg dksX4_moment_22 23 rfl rfl
theorem dksX4_moment_24 : cX4_moment.data.toList.drop 559 = dktX4_moment_24 := dk_seg dksX4_moment_23 23 rfl rfl
theorem dksX4_moment_25 : cX4_moment.data.toList.drop 583 = dktX4_moment_25 := dk_seg dksX4_moment_24 24 rfl rfl
theorem dksX4_moment_26 : cX4_moment.data.toList.drop 606 = dktX4_moment_26 := dk_seg dksX4_moment_25 23 rfl rfl
theorem dksX4_moment_27 : cX4_moment.data.toList.drop 628 = dktX4_moment_27 := dk_seg dksX4_moment_26 22 rfl rfl
theorem dksX4_moment_28 : cX4_moment.data.toList.drop 652 = dktX4_moment_28 := dk_seg dksX4_moment_27 24 rfl rfl
theorem dX4_moment_0 : decode cX4_moment 0 = .ok (.aload_n 0, 1) := dk_42 (dk_at dksX4_moment_0 0 rfl rfl)
theorem dX4_moment_1 : decode cX4_moment 1 = .ok (.getfield 373, 3) := dk_180 1 117 (dk_at dksX4_moment_0 1 rfl rfl)
theorem dX4_moment_4 : decode cX4_moment 4 = .ok (.istore_n 1, 1) := dk_60 (dk_at dksX4_moment_0 4 rfl rfl)
theorem dX4_moment_5 : decode cX4_moment 5 = .ok (.iconst 0, 1) := dk_3 (dk_at dksX4_moment_0 5 rfl rfl)
theorem dX4_moment_6 : decode cX4_moment 6 = .ok (.istore_n 2, 1) := dk_61 (dk_at dksX4_moment_0 6 rfl rfl)
theorem dX4_moment_7 : decode cX4_moment 7 = .ok (.aload_n 0, 1) := dk_42 (dk_at dksX4_moment_0 7 rfl rfl)
theorem dX4_moment_8 : decode cX4_moment 8 = .ok (.getfield 376, 3) := dk_180 1 120 (dk_at dksX4_moment_0 8 rfl rfl)
theorem dX4_moment_11 : decode cX4_moment 11 = .ok (.aload_n 0, 1) := dk_42 (dk_at dksX4_moment_0 11 rfl rfl)
theorem dX4_moment_12 : decode cX4_moment 12 = .ok (.getfield 41, 3) := dk_180 0 41 (dk_at dksX4_moment_0 12 rfl rfl)
theorem dX4_moment_15 : decode cX4_moment 15 = .ok (.sipush 590, 3) := dk_17 2 78 (dk_at dksX4_moment_0 15 rfl rfl)
theorem dX4_moment_18 : decode cX4_moment 18 = .ok (.iaload, 1) := dk_46 (dk_at dksX4_moment_0 18 rfl rfl)
theorem dX4_moment_19 : decode cX4_moment 19 = .ok (.if_icmp .ge 157, 3) := dk_162 0 157 (dk_at dksX4_moment_0 19 rfl rfl)
theorem dX4_moment_22 : decode cX4_moment 22 = .ok (.aload_n 0, 1) := dk_42 (dk_at dksX4_moment_0 22 rfl rfl)
theorem dX4_moment_23 : decode cX4_moment 23 = .ok (.getfield 41, 3) := dk_180 0 41 (dk_at dksX4_moment_1 0 rfl rfl)
theorem dX4_moment_26 : decode cX4_moment 26 = .ok (.sipush 591, 3) := dk_17 2 79 (dk_at dksX4_moment_1 3 rfl rfl)
theorem dX4_moment_29 : decode cX4_moment 29 = .ok (.iconst 3, 1) := dk_6 (dk_at dksX4_moment_1 6 rfl rfl)
theorem dX4_moment_30 : decode cX4_moment 30 = .ok (.aload_n 0, 1) := dk_42 (dk_at dksX4_moment_1 7 rfl rfl)
theorem dX4_moment_31 : decode cX4_moment 31 = .ok (.getfield 376, 3) := dk_180 1 120 (dk_at dksX4_moment_1 8 rfl rfl)
theorem dX4_moment_34 : decode cX4_moment 34 = .ok (.imul, 1) := dk_104 (dk_at dksX4_moment_1 11 rfl rfl)
theorem dX4_moment_35 : decode cX4_moment 35 = .ok (.iadd, 1) := dk_96 (dk_at dksX4_moment_1 12 rfl rfl)
theorem dX4_moment_36 : decode cX4_moment 36 = .ok (.iaload, 1) := dk_46 (dk_at dksX4_moment_1 13 rfl rfl)
theorem dX4_moment_37 : decode cX4_moment 37 = .ok (.iload_n 1, 1) := dk_27 (dk_at dksX4_moment_1 14 rfl rfl)
theorem dX4_moment_38 : decode cX4_moment 38 = .ok (.if_icmp .ne 138, 3) := dk_160 0 138 (dk_at dksX4_moment_1 15 rfl rfl)
theorem dX4_moment_41 : decode cX4_moment 41 = .ok (.aload_n 0, 1) := dk_42 (dk_at dksX4_moment_1 18 rfl rfl)
theorem dX4_moment_42 : decode cX4_moment 42 = .ok (.getfield 41, 3) := dk_180 0 41 (dk_at dksX4_moment_1 19 rfl rfl)
theorem dX4_moment_45 : decode cX4_moment 45 = .ok (.sipush 591, 3) := dk_17 2 79 (dk_at dksX4_moment_2 0 rfl rfl)
theorem dX4_moment_48 : decode cX4_moment 48 = .ok (.iconst 3, 1) := dk_6 (dk_at dksX4_moment_2 3 rfl rfl)
theorem dX4_moment_49 : decode cX4_moment 49 = .ok (.aload_n 0, 1) := dk_42 (dk_at dksX4_moment_2 4 rfl rfl)
theorem dX4_moment_50 : decode cX4_moment 50 = .ok (.getfield 376, 3) := dk_180 1 120 (dk_at dksX4_moment_2 5 rfl rfl)
theorem dX4_moment_53 : decode cX4_moment 53 = .ok (.imul, 1) := dk_104 (dk_at dksX4_moment_2 8 rfl rfl)
theorem dX4_moment_54 : decode cX4_moment 54 = .ok (.iadd, 1) := dk_96 (dk_at dksX4_moment_2 9 rfl rfl)
theorem dX4_moment_55 : decode cX4_moment 55 = .ok (.iconst 1, 1) := dk_4 (dk_at dksX4_moment_2 10 rfl rfl)
theorem dX4_moment_56 : decode cX4_moment 56 = .ok (.iadd, 1) := dk_96 (dk_at dksX4_moment_2 11 rfl rfl)
theorem dX4_moment_57 : decode cX4_moment 57 = .ok (.iaload, 1) := dk_46 (dk_at dksX4_moment_2 12 rfl rfl)
theorem dX4_moment_58 : decode cX4_moment 58 = .ok (.istore_n 3, 1) := dk_62 (dk_at dksX4_moment_2 13 rfl rfl)
theorem dX4_moment_59 : decode cX4_moment 59 = .ok (.iload_n 3, 1) := dk_29 (dk_at dksX4_moment_2 14 rfl rfl)
theorem dX4_moment_60 : decode cX4_moment 60 = .ok (.iconst 3, 1) := dk_6 (dk_at dksX4_moment_2 15 rfl rfl)
theorem dX4_moment_61 : decode cX4_moment 61 = .ok (.if_icmp .ne 7, 3) := dk_160 0 7 (dk_at dksX4_moment_2 16 rfl rfl)
theorem dX4_moment_64 : decode cX4_moment 64 = .ok (.lconst 0, 1) := dk_9 (dk_at dksX4_moment_2 19 rfl rfl)
theorem dX4_moment_65 : decode cX4_moment 65 = .ok (.goto 22, 3) := dk_167 0 22 (dk_at dksX4_moment_2 20 rfl rfl)
theorem dX4_moment_68 : decode cX4_moment 68 = .ok (.lconst 1, 1) := dk_10 (dk_at dksX4_moment_2 23 rfl rfl)
theorem dX4_moment_69 : decode cX4_moment 69 = .ok (.aload_n 0, 1) := dk_42 (dk_at dksX4_moment_3 0 rfl rfl)
theorem dX4_moment_70 : decode cX4_moment 70 = .ok (.getfield 41, 3) := dk_180 0 41 (dk_at dksX4_moment_3 1 rfl rfl)
theorem dX4_moment_73 : decode cX4_moment 73 = .ok (.sipush 591, 3) := dk_17 2 79 (dk_at dksX4_moment_3 4 rfl rfl)
theorem dX4_moment_76 : decode cX4_moment 76 = .ok (.iconst 3, 1) := dk_6 (dk_at dksX4_moment_3 7 rfl rfl)
theorem dX4_moment_77 : decode cX4_moment 77 = .ok (.aload_n 0, 1) := dk_42 (dk_at dksX4_moment_3 8 rfl rfl)
theorem dX4_moment_78 : decode cX4_moment 78 = .ok (.getfield 376, 3) := dk_180 1 120 (dk_at dksX4_moment_3 9 rfl rfl)
theorem dX4_moment_81 : decode cX4_moment 81 = .ok (.imul, 1) := dk_104 (dk_at dksX4_moment_3 12 rfl rfl)
theorem dX4_moment_82 : decode cX4_moment 82 = .ok (.iadd, 1) := dk_96 (dk_at dksX4_moment_3 13 rfl rfl)
theorem dX4_moment_83 : decode cX4_moment 83 = .ok (.iconst 2, 1) := dk_5 (dk_at dksX4_moment_3 14 rfl rfl)
theorem dX4_moment_84 : decode cX4_moment 84 = .ok (.iadd, 1) := dk_96 (dk_at dksX4_moment_3 15 rfl rfl)
theorem dX4_moment_85 : decode cX4_moment 85 = .ok (.iaload, 1) := dk_46 (dk_at dksX4_moment_3 16 rfl rfl)
theorem dX4_moment_86 : decode cX4_moment 86 = .ok (.lshl, 1) := dk_121 (dk_at dksX4_moment_3 17 rfl rfl)
theorem dX4_moment_87 : decode cX4_moment 87 = .ok (.lstore 4, 2) := dk_55 4 (dk_at dksX4_moment_3 18 rfl rfl)
theorem dX4_moment_89 : decode cX4_moment 89 = .ok (.iload_n 2, 1) := dk_28 (dk_at dksX4_moment_3 20 rfl rfl)
theorem dX4_moment_90 : decode cX4_moment 90 = .ok (.ifCond .ne 8, 3) := dk_154 0 8 (dk_at dksX4_moment_3 21 rfl rfl)
theorem dX4_moment_93 : decode cX4_moment 93 = .ok (.iload_n 3, 1) := dk_29 (dk_at dksX4_moment_4 0 rfl rfl)
theorem dX4_moment_94 : decode cX4_moment 94 = .ok (.iconst 3, 1) := dk_6 (dk_at dksX4_moment_4 1 rfl rfl)
theorem dX4_moment_95 : decode cX4_moment 95 = .ok (.if_icmp .ne 7, 3) := dk_160 0 7 (dk_at dksX4_moment_4 2 rfl rfl)
theorem dX4_moment_98 : decode cX4_moment 98 = .ok (.iconst 1, 1) := dk_4 (dk_at dksX4_moment_4 5 rfl rfl)
theorem dX4_moment_99 : decode cX4_moment 99 = .ok (.goto 4, 3) := dk_167 0 4 (dk_at dksX4_moment_4 6 rfl rfl)
theorem dX4_moment_102 : decode cX4_moment 102 = .ok (.iconst 0, 1) := dk_3 (dk_at dksX4_moment_4 9 rfl rfl)
theorem dX4_moment_103 : decode cX4_moment 103 = .ok (.istore_n 2, 1) := dk_61 (dk_at dksX4_moment_4 10 rfl rfl)
theorem dX4_moment_104 : decode cX4_moment 104 = .ok (.aload_n 0, 1) := dk_42 (dk_at dksX4_moment_4 11 rfl rfl)
theorem dX4_moment_105 : decode cX4_moment 105 = .ok (.iload_n 3, 1) := dk_29 (dk_at dksX4_moment_4 12 rfl rfl)
theorem dX4_moment_106 : decode cX4_moment 106 = .ok (.ifCond .ne 13, 3) := dk_154 0 13 (dk_at dksX4_moment_4 13 rfl rfl)
theorem dX4_moment_109 : decode cX4_moment 109 = .ok (.aload_n 0, 1) := dk_42 (dk_at dksX4_moment_4 16 rfl rfl)
theorem dX4_moment_110 : decode cX4_moment 110 = .ok (.getfield 367, 3) := dk_180 1 111 (dk_at dksX4_moment_4 17 rfl rfl)
theorem dX4_moment_113 : decode cX4_moment 113 = .ok (.lload 4, 2) := dk_22 4 (dk_at dksX4_moment_4 20 rfl rfl)
theorem dX4_moment_115 : decode cX4_moment 115 = .ok (.lor, 1) := dk_129 (dk_at dksX4_moment_4 22 rfl rfl)
theorem dX4_moment_116 : decode cX4_moment 116 = .ok (.goto 14, 3) := dk_167 0 14 (dk_at dksX4_moment_5 0 rfl rfl)
theorem dX4_moment_119 : decode cX4_moment 119 = .ok (.aload_n 0, 1) := dk_42 (dk_at dksX4_moment_5 3 rfl rfl)
theorem dX4_moment_120 : decode cX4_moment 120 = .ok (.getfield 367, 3) := dk_180 1 111 (dk_at dksX4_moment_5 4 rfl rfl)
theorem dX4_moment_123 : decode cX4_moment 123 = .ok (.lload 4, 2) := dk_22 4 (dk_at dksX4_moment_5 7 rfl rfl)
theorem dX4_moment_125 : decode cX4_moment 125 = .ok (.ldc2_w 312, 3) := dk_20 1 56 (dk_at dksX4_moment_5 9 rfl rfl)
theorem dX4_moment_128 : decode cX4_moment 128 = .ok (.lxor, 1) := dk_131 (dk_at dksX4_moment_5 12 rfl rfl)
theorem dX4_moment_129 : decode cX4_moment 129 = .ok (.land, 1) := dk_127 (dk_at dksX4_moment_5 13 rfl rfl)
theorem dX4_moment_130 : decode cX4_moment 130 = .ok (.putfield 367, 3) := dk_181 1 111 (dk_at dksX4_moment_5 14 rfl rfl)
theorem dX4_moment_133 : decode cX4_moment 133 = .ok (.aload_n 0, 1) := dk_42 (dk_at dksX4_moment_5 17 rfl rfl)
theorem dX4_moment_134 : decode cX4_moment 134 = .ok (.iload_n 3, 1) := dk_29 (dk_at dksX4_moment_5 18 rfl rfl)
theorem dX4_moment_135 : decode cX4_moment 135 = .ok (.iconst 1, 1) := dk_4 (dk_at dksX4_moment_5 19 rfl rfl)
theorem dX4_moment_136 : decode cX4_moment 136 = .ok (.if_icmp .ne 13, 3) := dk_160 0 13 (dk_at dksX4_moment_5 20 rfl rfl)
theorem dX4_moment_139 : decode cX4_moment 139 = .ok (.aload_n 0, 1) := dk_42 (dk_at dksX4_moment_5 23 rfl rfl)
theorem dX4_moment_140 : decode cX4_moment 140 = .ok (.getfield 370, 3) := dk_180 1 114 (dk_at dksX4_moment_6 0 rfl rfl)
theorem dX4_moment_143 : decode cX4_moment 143 = .ok (.lload 4, 2) := dk_22 4 (dk_at dksX4_moment_6 3 rfl rfl)
theorem dX4_moment_145 : decode cX4_moment 145 = .ok (.lor, 1) := dk_129 (dk_at dksX4_moment_6 5 rfl rfl)
theorem dX4_moment_146 : decode cX4_moment 146 = .ok (.goto 14, 3) := dk_167 0 14 (dk_at dksX4_moment_6 6 rfl rfl)
theorem dX4_moment_149 : decode cX4_moment 149 = .ok (.aload_n 0, 1) := dk_42 (dk_at dksX4_moment_6 9 rfl rfl)
theorem dX4_moment_150 : decode cX4_moment 150 = .ok (.getfield 370, 3) := dk_180 1 114 (dk_at dksX4_moment_6 10 rfl rfl)
theorem dX4_moment_153 : decode cX4_moment 153 = .ok (.lload 4, 2) := dk_22 4 (dk_at dksX4_moment_6 13 rfl rfl)
theorem dX4_moment_155 : decode cX4_moment 155 = .ok (.ldc2_w 312, 3) := dk_20 1 56 (dk_at dksX4_moment_6 15 rfl rfl)
theorem dX4_moment_158 : decode cX4_moment 158 = .ok (.lxor, 1) := dk_131 (dk_at dksX4_moment_6 18 rfl rfl)
theorem dX4_moment_159 : decode cX4_moment 159 = .ok (.land, 1) := dk_127 (dk_at dksX4_moment_6 19 rfl rfl)
theorem dX4_moment_160 : decode cX4_moment 160 = .ok (.putfield 370, 3) := dk_181 1 114 (dk_at dksX4_moment_6 20 rfl rfl)
theorem dX4_moment_163 : decode cX4_moment 163 = .ok (.aload_n 0, 1) := dk_42 (dk_at dksX4_moment_6 23 rfl rfl)
theorem dX4_moment_164 : decode cX4_moment 164 = .ok (.dup, 1) := dk_89 (dk_at dksX4_moment_7 0 rfl rfl)
theorem dX4_moment_165 : decode cX4_moment 165 = .ok (.getfield 376, 3) := dk_180 1 120 (dk_at dksX4_moment_7 1 rfl rfl)
theorem dX4_moment_168 : decode cX4_moment 168 = .ok (.iconst 1, 1) := dk_4 (dk_at dksX4_moment_7 4 rfl rfl)
theorem dX4_moment_169 : decode cX4_moment 169 = .ok (.iadd, 1) := dk_96 (dk_at dksX4_moment_7 5 rfl rfl)
theorem dX4_moment_170 : decode cX4_moment 170 = .ok (.putfield 376, 3) := dk_181 1 120 (dk_at dksX4_moment_7 6 rfl rfl)
theorem dX4_moment_173 : decode cX4_moment 173 = .ok (.goto (-166), 3) := dk_167 255 90 (dk_at dksX4_moment_7 9 rfl rfl)
theorem dX4_moment_176 : decode cX4_moment 176 = .ok (.aload_n 0, 1) := dk_42 (dk_at dksX4_moment_7 12 rfl rfl)
theorem dX4_moment_177 : decode cX4_moment 177 = .ok (.getfield 351, 3) := dk_180 1 95 (dk_at dksX4_moment_7 13 rfl rfl)
theorem dX4_moment_180 : decode cX4_moment 180 = .ok (.lstore_n 3, 1) := dk_66 (dk_at dksX4_moment_7 16 rfl rfl)
theorem dX4_moment_181 : decode cX4_moment 181 = .ok (.aload_n 0, 1) := dk_42 (dk_at dksX4_moment_7 17 rfl rfl)
theorem dX4_moment_182 : decode cX4_moment 182 = .ok (.getfield 348, 3) := dk_180 1 92 (dk_at dksX4_moment_7 18 rfl rfl)
theorem dX4_moment_185 : decode cX4_moment 185 = .ok (.lstore 5, 2) := dk_55 5 (dk_at dksX4_moment_7 21 rfl rfl)
theorem dX4_moment_187 : decode cX4_moment 187 = .ok (.lconst 0, 1) := dk_9 (dk_at dksX4_moment_7 23 rfl rfl)
theorem dX4_moment_188 : decode cX4_moment 188 = .ok (.lstore 7, 2) := dk_55 7 (dk_at dksX4_moment_8 0 rfl rfl)
theorem dX4_moment_190 : decode cX4_moment 190 = .ok (.lconst 0, 1) := dk_9 (dk_at dksX4_moment_8 2 rfl rfl)
theorem dX4_moment_191 : decode cX4_moment 191 = .ok (.lstore 9, 2) := dk_55 9 (dk_at dksX4_moment_8 3 rfl rfl)
theorem dX4_moment_193 : decode cX4_moment 193 = .ok (.lconst 0, 1) := dk_9 (dk_at dksX4_moment_8 5 rfl rfl)
theorem dX4_moment_194 : decode cX4_moment 194 = .ok (.lstore 11, 2) := dk_55 11 (dk_at dksX4_moment_8 6 rfl rfl)
theorem dX4_moment_196 : decode cX4_moment 196 = .ok (.lconst 0, 1) := dk_9 (dk_at dksX4_moment_8 8 rfl rfl)
theorem dX4_moment_197 : decode cX4_moment 197 = .ok (.lstore 13, 2) := dk_55 13 (dk_at dksX4_moment_8 9 rfl rfl)
theorem dX4_moment_199 : decode cX4_moment 199 = .ok (.iconst 0, 1) := dk_3 (dk_at dksX4_moment_8 11 rfl rfl)
theorem dX4_moment_200 : decode cX4_moment 200 = .ok (.istore 15, 2) := dk_54 15 (dk_at dksX4_moment_8 12 rfl rfl)
theorem dX4_moment_202 : decode cX4_moment 202 = .ok (.iload 15, 2) := dk_21 15 (dk_at dksX4_moment_8 14 rfl rfl)
theorem dX4_moment_204 : decode cX4_moment 204 = .ok (.aload_n 0, 1) := dk_42 (dk_at dksX4_moment_8 16 rfl rfl)
theorem dX4_moment_205 : decode cX4_moment 205 = .ok (.getfield 41, 3) := dk_180 0 41 (dk_at dksX4_moment_8 17 rfl rfl)
theorem dX4_moment_208 : decode cX4_moment 208 = .ok (.iconst 0, 1) := dk_3 (dk_at dksX4_moment_8 20 rfl rfl)
theorem dX4_moment_209 : decode cX4_moment 209 = .ok (.iaload, 1) := dk_46 (dk_at dksX4_moment_8 21 rfl rfl)
theorem dX4_moment_210 : decode cX4_moment 210 = .ok (.if_icmp .ge 383, 3) := dk_162 1 127 (dk_at dksX4_moment_9 0 rfl rfl)
theorem dX4_moment_213 : decode cX4_moment 213 = .ok (.aload_n 0, 1) := dk_42 (dk_at dksX4_moment_9 3 rfl rfl)
theorem dX4_moment_214 : decode cX4_moment 214 = .ok (.getfield 41, 3) := dk_180 0 41 (dk_at dksX4_moment_9 4 rfl rfl)
theorem dX4_moment_217 : decode cX4_moment 217 = .ok (.bipush 78, 2) := dk_16 78 (dk_at dksX4_moment_9 7 rfl rfl)
theorem dX4_moment_219 : decode cX4_moment 219 = .ok (.iload 15, 2) := dk_21 15 (dk_at dksX4_moment_9 9 rfl rfl)
theorem dX4_moment_221 : decode cX4_moment 221 = .ok (.iadd, 1) := dk_96 (dk_at dksX4_moment_9 11 rfl rfl)
theorem dX4_moment_222 : decode cX4_moment 222 = .ok (.iaload, 1) := dk_46 (dk_at dksX4_moment_9 12 rfl rfl)
theorem dX4_moment_223 : decode cX4_moment 223 = .ok (.ifCond .le 23, 3) := dk_158 0 23 (dk_at dksX4_moment_9 13 rfl rfl)
theorem dX4_moment_226 : decode cX4_moment 226 = .ok (.iload_n 1, 1) := dk_27 (dk_at dksX4_moment_9 16 rfl rfl)
theorem dX4_moment_227 : decode cX4_moment 227 = .ok (.aload_n 0, 1) := dk_42 (dk_at dksX4_moment_9 17 rfl rfl)
theorem dX4_moment_228 : decode cX4_moment 228 = .ok (.getfield 41, 3) := dk_180 0 41 (dk_at dksX4_moment_9 18 rfl rfl)
theorem dX4_moment_231 : decode cX4_moment 231 = .ok (.bipush 78, 2) := dk_16 78 (dk_at dksX4_moment_9 21 rfl rfl)
theorem dX4_moment_233 : decode cX4_moment 233 = .ok (.iload 15, 2) := dk_21 15 (dk_at dksX4_moment_10 0 rfl rfl)
theorem dX4_moment_235 : decode cX4_moment 235 = .ok (.iadd, 1) := dk_96 (dk_at dksX4_moment_10 2 rfl rfl)
theorem dX4_moment_236 : decode cX4_moment 236 = .ok (.iaload, 1) := dk_46 (dk_at dksX4_moment_10 3 rfl rfl)
theorem dX4_moment_237 : decode cX4_moment 237 = .ok (.iconst 1, 1) := dk_4 (dk_at dksX4_moment_10 4 rfl rfl)
theorem dX4_moment_238 : decode cX4_moment 238 = .ok (.isub, 1) := dk_100 (dk_at dksX4_moment_10 5 rfl rfl)
theorem dX4_moment_239 : decode cX4_moment 239 = .ok (.if_icmp .lt 7, 3) := dk_161 0 7 (dk_at dksX4_moment_10 6 rfl rfl)
theorem dX4_moment_242 : decode cX4_moment 242 = .ok (.iconst 1, 1) := dk_4 (dk_at dksX4_moment_10 9 rfl rfl)
theorem dX4_moment_243 : decode cX4_moment 243 = .ok (.goto 4, 3) := dk_167 0 4 (dk_at dksX4_moment_10 10 rfl rfl)
theorem dX4_moment_246 : decode cX4_moment 246 = .ok (.iconst 0, 1) := dk_3 (dk_at dksX4_moment_10 13 rfl rfl)
theorem dX4_moment_247 : decode cX4_moment 247 = .ok (.istore 16, 2) := dk_54 16 (dk_at dksX4_moment_10 14 rfl rfl)
theorem dX4_moment_249 : decode cX4_moment 249 = .ok (.aload_n 0, 1) := dk_42 (dk_at dksX4_moment_10 16 rfl rfl)
theorem dX4_moment_250 : decode cX4_moment 250 = .ok (.getfield 41, 3) := dk_180 0 41 (dk_at dksX4_moment_10 17 rfl rfl)
theorem dX4_moment_253 : decode cX4_moment 253 = .ok (.iconst 1, 1) := dk_4 (dk_at dksX4_moment_10 20 rfl rfl)
theorem dX4_moment_254 : decode cX4_moment 254 = .ok (.iaload, 1) := dk_46 (dk_at dksX4_moment_10 21 rfl rfl)
theorem dX4_moment_255 : decode cX4_moment 255 = .ok (.iload 15, 2) := dk_21 15 (dk_at dksX4_moment_10 22 rfl rfl)
theorem dX4_moment_257 : decode cX4_moment 257 = .ok (.imul, 1) := dk_104 (dk_at dksX4_moment_11 0 rfl rfl)
theorem dX4_moment_258 : decode cX4_moment 258 = .ok (.istore 17, 2) := dk_54 17 (dk_at dksX4_moment_11 1 rfl rfl)
theorem dX4_moment_260 : decode cX4_moment 260 = .ok (.iload 17, 2) := dk_21 17 (dk_at dksX4_moment_11 3 rfl rfl)
theorem dX4_moment_262 : decode cX4_moment 262 = .ok (.aload_n 0, 1) := dk_42 (dk_at dksX4_moment_11 5 rfl rfl)
theorem dX4_moment_263 : decode cX4_moment 263 = .ok (.getfield 41, 3) := dk_180 0 41 (dk_at dksX4_moment_11 6 rfl rfl)
theorem dX4_moment_266 : decode cX4_moment 266 = .ok (.iconst 1, 1) := dk_4 (dk_at dksX4_moment_11 9 rfl rfl)
theorem dX4_moment_267 : decode cX4_moment 267 = .ok (.iaload, 1) := dk_46 (dk_at dksX4_moment_11 10 rfl rfl)
theorem dX4_moment_268 : decode cX4_moment 268 = .ok (.iload 15, 2) := dk_21 15 (dk_at dksX4_moment_11 11 rfl rfl)
theorem dX4_moment_270 : decode cX4_moment 270 = .ok (.iconst 1, 1) := dk_4 (dk_at dksX4_moment_11 13 rfl rfl)
theorem dX4_moment_271 : decode cX4_moment 271 = .ok (.iadd, 1) := dk_96 (dk_at dksX4_moment_11 14 rfl rfl)
theorem dX4_moment_272 : decode cX4_moment 272 = .ok (.imul, 1) := dk_104 (dk_at dksX4_moment_11 15 rfl rfl)
theorem dX4_moment_273 : decode cX4_moment 273 = .ok (.if_icmp .ge 231, 3) := dk_162 0 231 (dk_at dksX4_moment_11 16 rfl rfl)
theorem dX4_moment_276 : decode cX4_moment 276 = .ok (.aload_n 0, 1) := dk_42 (dk_at dksX4_moment_11 19 rfl rfl)
theorem dX4_moment_277 : decode cX4_moment 277 = .ok (.getfield 41, 3) := dk_180 0 41 (dk_at dksX4_moment_11 20 rfl rfl)
theorem dX4_moment_280 : decode cX4_moment 280 = .ok (.bipush 6, 2) := dk_16 6 (dk_at dksX4_moment_12 0 rfl rfl)
theorem dX4_moment_282 : decode cX4_moment 282 = .ok (.iload 17, 2) := dk_21 17 (dk_at dksX4_moment_12 2 rfl rfl)
theorem dX4_moment_284 : decode cX4_moment 284 = .ok (.iadd, 1) := dk_96 (dk_at dksX4_moment_12 4 rfl rfl)
theorem dX4_moment_285 : decode cX4_moment 285 = .ok (.iaload, 1) := dk_46 (dk_at dksX4_moment_12 5 rfl rfl)
theorem dX4_moment_286 : decode cX4_moment 286 = .ok (.ifCond .ne 6, 3) := dk_154 0 6 (dk_at dksX4_moment_12 6 rfl rfl)
theorem dX4_moment_289 : decode cX4_moment 289 = .ok (.goto 209, 3) := dk_167 0 209 (dk_at dksX4_moment_12 9 rfl rfl)
theorem dX4_moment_292 : decode cX4_moment 292 = .ok (.lconst 1, 1) := dk_10 (dk_at dksX4_moment_12 12 rfl rfl)
theorem dX4_moment_293 : decode cX4_moment 293 = .ok (.iload 17, 2) := dk_21 17 (dk_at dksX4_moment_12 13 rfl rfl)
theorem dX4_moment_295 : decode cX4_moment 295 = .ok (.lshl, 1) := dk_121 (dk_at dksX4_moment_12 15 rfl rfl)
theorem dX4_moment_296 : decode cX4_moment 296 = .ok (.lstore 18, 2) := dk_55 18 (dk_at dksX4_moment_12 16 rfl rfl)
theorem dX4_moment_298 : decode cX4_moment 298 = .ok (.aload_n 0, 1) := dk_42 (dk_at dksX4_moment_12 18 rfl rfl)
theorem dX4_moment_299 : decode cX4_moment 299 = .ok (.iload 17, 2) := dk_21 17 (dk_at dksX4_moment_12 19 rfl rfl)
theorem dX4_moment_301 : decode cX4_moment 301 = .ok (.invokevirtual 379, 3) := dk_182 1 123 (dk_at dksX4_moment_12 21 rfl rfl)
theorem dX4_moment_304 : decode cX4_moment 304 = .ok (.istore 20, 2) := dk_54 20 (dk_at dksX4_moment_13 0 rfl rfl)
theorem dX4_moment_306 : decode cX4_moment 306 = .ok (.iload 16, 2) := dk_21 16 (dk_at dksX4_moment_13 2 rfl rfl)
theorem dX4_moment_308 : decode cX4_moment 308 = .ok (.ifCond .ne 15, 3) := dk_154 0 15 (dk_at dksX4_moment_13 4 rfl rfl)
theorem dX4_moment_311 : decode cX4_moment 311 = .ok (.aload_n 0, 1) := dk_42 (dk_at dksX4_moment_13 7 rfl rfl)
theorem dX4_moment_312 : decode cX4_moment 312 = .ok (.getfield 370, 3) := dk_180 1 114 (dk_at dksX4_moment_13 8 rfl rfl)
theorem dX4_moment_315 : decode cX4_moment 315 = .ok (.lload 18, 2) := dk_22 18 (dk_at dksX4_moment_13 11 rfl rfl)
theorem dX4_moment_317 : decode cX4_moment 317 = .ok (.land, 1) := dk_127 (dk_at dksX4_moment_13 13 rfl rfl)
theorem dX4_moment_318 : decode cX4_moment 318 = .ok (.lconst 0, 1) := dk_9 (dk_at dksX4_moment_13 14 rfl rfl)
theorem dX4_moment_319 : decode cX4_moment 319 = .ok (.lcmp, 1) := dk_148 (dk_at dksX4_moment_13 15 rfl rfl)
theorem dX4_moment_320 : decode cX4_moment 320 = .ok (.ifCond .eq 9, 3) := dk_153 0 9 (dk_at dksX4_moment_13 16 rfl rfl)
theorem dX4_moment_323 : decode cX4_moment 323 = .ok (.iconst 0, 1) := dk_3 (dk_at dksX4_moment_13 19 rfl rfl)
theorem dX4_moment_324 : decode cX4_moment 324 = .ok (.istore 21, 2) := dk_54 21 (dk_at dksX4_moment_13 20 rfl rfl)
theorem dX4_moment_326 : decode cX4_moment 326 = .ok (.goto 64, 3) := dk_167 0 64 (dk_at dksX4_moment_14 0 rfl rfl)
theorem dX4_moment_329 : decode cX4_moment 329 = .ok (.aload_n 0, 1) := dk_42 (dk_at dksX4_moment_14 3 rfl rfl)
theorem dX4_moment_330 : decode cX4_moment 330 = .ok (.getfield 367, 3) := dk_180 1 111 (dk_at dksX4_moment_14 4 rfl rfl)
theorem dX4_moment_333 : decode cX4_moment 333 = .ok (.lload 18, 2) := dk_22 18 (dk_at dksX4_moment_14 7 rfl rfl)
theorem dX4_moment_335 : decode cX4_moment 335 = .ok (.land, 1) := dk_127 (dk_at dksX4_moment_14 9 rfl rfl)
theorem dX4_moment_336 : decode cX4_moment 336 = .ok (.lconst 0, 1) := dk_9 (dk_at dksX4_moment_14 10 rfl rfl)
theorem dX4_moment_337 : decode cX4_moment 337 = .ok (.lcmp, 1) := dk_148 (dk_at dksX4_moment_14 11 rfl rfl)
theorem dX4_moment_338 : decode cX4_moment 338 = .ok (.ifCond .eq 19, 3) := dk_153 0 19 (dk_at dksX4_moment_14 12 rfl rfl)
theorem dX4_moment_341 : decode cX4_moment 341 = .ok (.iload_n 1, 1) := dk_27 (dk_at dksX4_moment_14 15 rfl rfl)
theorem dX4_moment_342 : decode cX4_moment 342 = .ok (.aload_n 0, 1) := dk_42 (dk_at dksX4_moment_14 16 rfl rfl)
theorem dX4_moment_343 : decode cX4_moment 343 = .ok (.getfield 41, 3) := dk_180 0 41 (dk_at dksX4_moment_14 17 rfl rfl)
theorem dX4_moment_346 : decode cX4_moment 346 = .ok (.iconst 4, 1) := dk_7 (dk_at dksX4_moment_14 20 rfl rfl)
theorem dX4_moment_347 : decode cX4_moment 347 = .ok (.iaload, 1) := dk_46 (dk_at dksX4_moment_14 21 rfl rfl)
theorem dX4_moment_348 : decode cX4_moment 348 = .ok (.if_icmp .gt 9, 3) := dk_163 0 9 (dk_at dksX4_moment_15 0 rfl rfl)
theorem dX4_moment_351 : decode cX4_moment 351 = .ok (.iconst 2, 1) := dk_5 (dk_at dksX4_moment_15 3 rfl rfl)
theorem dX4_moment_352 : decode cX4_moment 352 = .ok (.istore 21, 2) := dk_54 21 (dk_at dksX4_moment_15 4 rfl rfl)
theorem dX4_moment_354 : decode cX4_moment 354 = .ok (.goto 36, 3) := dk_167 0 36 (dk_at dksX4_moment_15 6 rfl rfl)
theorem dX4_moment_357 : decode cX4_moment 357 = .ok (.iload_n 2, 1) := dk_28 (dk_at dksX4_moment_15 9 rfl rfl)
theorem dX4_moment_358 : decode cX4_moment 358 = .ok (.ifCond .ne 7, 3) := dk_154 0 7 (dk_at dksX4_moment_15 10 rfl rfl)
theorem dX4_moment_361 : decode cX4_moment 361 = .ok (.iload_n 1, 1) := dk_27 (dk_at dksX4_moment_15 13 rfl rfl)
theorem dX4_moment_362 : decode cX4_moment 362 = .ok (.ifCond .ne 9, 3) := dk_154 0 9 (dk_at dksX4_moment_15 14 rfl rfl)
theorem dX4_moment_365 : decode cX4_moment 365 = .ok (.iconst 0, 1) := dk_3 (dk_at dksX4_moment_15 17 rfl rfl)
theorem dX4_moment_366 : decode cX4_moment 366 = .ok (.istore 21, 2) := dk_54 21 (dk_at dksX4_moment_15 18 rfl rfl)
theorem dX4_moment_368 : decode cX4_moment 368 = .ok (.goto 22, 3) := dk_167 0 22 (dk_at dksX4_moment_15 20 rfl rfl)
theorem dX4_moment_371 : decode cX4_moment 371 = .ok (.aload_n 0, 1) := dk_42 (dk_at dksX4_moment_15 23 rfl rfl)
theorem dX4_moment_372 : decode cX4_moment 372 = .ok (.iload 17, 2) := dk_21 17 (dk_at dksX4_moment_16 0 rfl rfl)
theorem dX4_moment_374 : decode cX4_moment 374 = .ok (.lload_n 3, 1) := dk_33 (dk_at dksX4_moment_16 2 rfl rfl)
theorem dX4_moment_375 : decode cX4_moment 375 = .ok (.lload 5, 2) := dk_22 5 (dk_at dksX4_moment_16 3 rfl rfl)
theorem dX4_moment_377 : decode cX4_moment 377 = .ok (.iload 20, 2) := dk_21 20 (dk_at dksX4_moment_16 5 rfl rfl)
theorem dX4_moment_379 : decode cX4_moment 379 = .ok (.aload_n 0, 1) := dk_42 (dk_at dksX4_moment_16 7 rfl rfl)
theorem dX4_moment_380 : decode cX4_moment 380 = .ok (.iload 17, 2) := dk_21 17 (dk_at dksX4_moment_16 8 rfl rfl)
theorem dX4_moment_382 : decode cX4_moment 382 = .ok (.invokevirtual 382, 3) := dk_182 1 126 (dk_at dksX4_moment_16 10 rfl rfl)
theorem dX4_moment_385 : decode cX4_moment 385 = .ok (.invokevirtual 385, 3) := dk_182 1 129 (dk_at dksX4_moment_16 13 rfl rfl)
theorem dX4_moment_388 : decode cX4_moment 388 = .ok (.istore 21, 2) := dk_54 21 (dk_at dksX4_moment_16 16 rfl rfl)
theorem dX4_moment_390 : decode cX4_moment 390 = .ok (.iload_n 1, 1) := dk_27 (dk_at dksX4_moment_16 18 rfl rfl)
theorem dX4_moment_391 : decode cX4_moment 391 = .ok (.ifCond .eq 10, 3) := dk_153 0 10 (dk_at dksX4_moment_16 19 rfl rfl)
theorem dX4_moment_394 : decode cX4_moment 394 = .ok (.iload 21, 2) := dk_21 21 (dk_at dksX4_moment_16 22 rfl rfl)
theorem dX4_moment_396 : decode cX4_moment 396 = .ok (.iload 20, 2) := dk_21 20 (dk_at dksX4_moment_17 0 rfl rfl)
theorem dX4_moment_398 : decode cX4_moment 398 = .ok (.if_icmp .eq 7, 3) := dk_159 0 7 (dk_at dksX4_moment_17 2 rfl rfl)
theorem dX4_moment_401 : decode cX4_moment 401 = .ok (.iconst 0, 1) := dk_3 (dk_at dksX4_moment_17 5 rfl rfl)
theorem dX4_moment_402 : decode cX4_moment 402 = .ok (.goto 25, 3) := dk_167 0 25 (dk_at dksX4_moment_17 6 rfl rfl)
theorem dX4_moment_405 : decode cX4_moment 405 = .ok (.aload_n 0, 1) := dk_42 (dk_at dksX4_moment_17 9 rfl rfl)
theorem dX4_moment_406 : decode cX4_moment 406 = .ok (.iload 17, 2) := dk_21 17 (dk_at dksX4_moment_17 10 rfl rfl)
theorem dX4_moment_408 : decode cX4_moment 408 = .ok (.invokevirtual 382, 3) := dk_182 1 126 (dk_at dksX4_moment_17 12 rfl rfl)
theorem dX4_moment_411 : decode cX4_moment 411 = .ok (.iconst 3, 1) := dk_6 (dk_at dksX4_moment_17 15 rfl rfl)
theorem dX4_moment_412 : decode cX4_moment 412 = .ok (.if_icmp .ge 14, 3) := dk_162 0 14 (dk_at dksX4_moment_17 16 rfl rfl)
theorem dX4_moment_415 : decode cX4_moment 415 = .ok (.aload_n 0, 1) := dk_42 (dk_at dksX4_moment_17 19 rfl rfl)
theorem dX4_moment_416 : decode cX4_moment 416 = .ok (.iload 17, 2) := dk_21 17 (dk_at dksX4_moment_17 20 rfl rfl)
theorem dX4_moment_418 : decode cX4_moment 418 = .ok (.invokevirtual 382, 3) := dk_182 1 126 (dk_at dksX4_moment_18 0 rfl rfl)
theorem dX4_moment_421 : decode cX4_moment 421 = .ok (.iconst 1, 1) := dk_4 (dk_at dksX4_moment_18 3 rfl rfl)
theorem dX4_moment_422 : decode cX4_moment 422 = .ok (.iadd, 1) := dk_96 (dk_at dksX4_moment_18 4 rfl rfl)
theorem dX4_moment_423 : decode cX4_moment 423 = .ok (.goto 4, 3) := dk_167 0 4 (dk_at dksX4_moment_18 5 rfl rfl)
theorem dX4_moment_426 : decode cX4_moment 426 = .ok (.iconst 3, 1) := dk_6 (dk_at dksX4_moment_18 8 rfl rfl)
theorem dX4_moment_427 : decode cX4_moment 427 = .ok (.istore 22, 2) := dk_54 22 (dk_at dksX4_moment_18 9 rfl rfl)
theorem dX4_moment_429 : decode cX4_moment 429 = .ok (.lload 7, 2) := dk_22 7 (dk_at dksX4_moment_18 11 rfl rfl)
theorem dX4_moment_431 : decode cX4_moment 431 = .ok (.iload 21, 2) := dk_21 21 (dk_at dksX4_moment_18 13 rfl rfl)
theorem dX4_moment_433 : decode cX4_moment 433 = .ok (.ifCond .le 8, 3) := dk_158 0 8 (dk_at dksX4_moment_18 15 rfl rfl)
theorem dX4_moment_436 : decode cX4_moment 436 = .ok (.lload 18, 2) := dk_22 18 (dk_at dksX4_moment_18 18 rfl rfl)
theorem dX4_moment_438 : decode cX4_moment 438 = .ok (.goto 4, 3) := dk_167 0 4 (dk_at dksX4_moment_18 20 rfl rfl)
theorem dX4_moment_441 : decode cX4_moment 441 = .ok (.lconst 0, 1) := dk_9 (dk_at dksX4_moment_18 23 rfl rfl)
theorem dX4_moment_442 : decode cX4_moment 442 = .ok (.lor, 1) := dk_129 (dk_at dksX4_moment_19 0 rfl rfl)
theorem dX4_moment_443 : decode cX4_moment 443 = .ok (.lstore 7, 2) := dk_55 7 (dk_at dksX4_moment_19 1 rfl rfl)
theorem dX4_moment_445 : decode cX4_moment 445 = .ok (.lload 9, 2) := dk_22 9 (dk_at dksX4_moment_19 3 rfl rfl)
theorem dX4_moment_447 : decode cX4_moment 447 = .ok (.iload 21, 2) := dk_21 21 (dk_at dksX4_moment_19 5 rfl rfl)
theorem dX4_moment_449 : decode cX4_moment 449 = .ok (.iconst 1, 1) := dk_4 (dk_at dksX4_moment_19 7 rfl rfl)
theorem dX4_moment_450 : decode cX4_moment 450 = .ok (.if_icmp .le 8, 3) := dk_164 0 8 (dk_at dksX4_moment_19 8 rfl rfl)
theorem dX4_moment_453 : decode cX4_moment 453 = .ok (.lload 18, 2) := dk_22 18 (dk_at dksX4_moment_19 11 rfl rfl)
theorem dX4_moment_455 : decode cX4_moment 455 = .ok (.goto 4, 3) := dk_167 0 4 (dk_at dksX4_moment_19 13 rfl rfl)
theorem dX4_moment_458 : decode cX4_moment 458 = .ok (.lconst 0, 1) := dk_9 (dk_at dksX4_moment_19 16 rfl rfl)
theorem dX4_moment_459 : decode cX4_moment 459 = .ok (.lor, 1) := dk_129 (dk_at dksX4_moment_19 17 rfl rfl)
theorem dX4_moment_460 : decode cX4_moment 460 = .ok (.lstore 9, 2) := dk_55 9 (dk_at dksX4_moment_19 18 rfl rfl)
theorem dX4_moment_462 : decode cX4_moment 462 = .ok (.lload 11, 2) := dk_22 11 (dk_at dksX4_moment_19 20 rfl rfl)
theorem dX4_moment_464 : decode cX4_moment 464 = .ok (.iload 22, 2) := dk_21 22 (dk_at dksX4_moment_19 22 rfl rfl)
theorem dX4_moment_466 : decode cX4_moment 466 = .ok (.iconst 1, 1) := dk_4 (dk_at dksX4_moment_20 0 rfl rfl)
theorem dX4_moment_467 : decode cX4_moment 467 = .ok (.iand, 1) := dk_126 (dk_at dksX4_moment_20 1 rfl rfl)
theorem dX4_moment_468 : decode cX4_moment 468 = .ok (.iconst 1, 1) := dk_4 (dk_at dksX4_moment_20 2 rfl rfl)
theorem dX4_moment_469 : decode cX4_moment 469 = .ok (.if_icmp .ne 8, 3) := dk_160 0 8 (dk_at dksX4_moment_20 3 rfl rfl)
theorem dX4_moment_472 : decode cX4_moment 472 = .ok (.lload 18, 2) := dk_22 18 (dk_at dksX4_moment_20 6 rfl rfl)
theorem dX4_moment_474 : decode cX4_moment 474 = .ok (.goto 4, 3) := dk_167 0 4 (dk_at dksX4_moment_20 8 rfl rfl)
theorem dX4_moment_477 : decode cX4_moment 477 = .ok (.lconst 0, 1) := dk_9 (dk_at dksX4_moment_20 11 rfl rfl)
theorem dX4_moment_478 : decode cX4_moment 478 = .ok (.lor, 1) := dk_129 (dk_at dksX4_moment_20 12 rfl rfl)
theorem dX4_moment_479 : decode cX4_moment 479 = .ok (.lstore 11, 2) := dk_55 11 (dk_at dksX4_moment_20 13 rfl rfl)
theorem dX4_moment_481 : decode cX4_moment 481 = .ok (.lload 13, 2) := dk_22 13 (dk_at dksX4_moment_20 15 rfl rfl)
theorem dX4_moment_483 : decode cX4_moment 483 = .ok (.iload 22, 2) := dk_21 22 (dk_at dksX4_moment_20 17 rfl rfl)
theorem dX4_moment_485 : decode cX4_moment 485 = .ok (.iconst 1, 1) := dk_4 (dk_at dksX4_moment_20 19 rfl rfl)
theorem dX4_moment_486 : decode cX4_moment 486 = .ok (.if_icmp .le 8, 3) := dk_164 0 8 (dk_at dksX4_moment_20 20 rfl rfl)
theorem dX4_moment_489 : decode cX4_moment 489 = .ok (.lload 18, 2) := dk_22 18 (dk_at dksX4_moment_21 0 rfl rfl)
theorem dX4_moment_491 : decode cX4_moment 491 = .ok (.goto 4, 3) := dk_167 0 4 (dk_at dksX4_moment_21 2 rfl rfl)
theorem dX4_moment_494 : decode cX4_moment 494 = .ok (.lconst 0, 1) := dk_9 (dk_at dksX4_moment_21 5 rfl rfl)
theorem dX4_moment_495 : decode cX4_moment 495 = .ok (.lor, 1) := dk_129 (dk_at dksX4_moment_21 6 rfl rfl)
theorem dX4_moment_496 : decode cX4_moment 496 = .ok (.lstore 13, 2) := dk_55 13 (dk_at dksX4_moment_21 7 rfl rfl)
theorem dX4_moment_498 : decode cX4_moment 498 = .ok (.iinc 17 1, 3) := dk_132 17 1 (dk_at dksX4_moment_21 9 rfl rfl)
theorem dX4_moment_501 : decode cX4_moment 501 = .ok (.goto (-241), 3) := dk_167 255 15 (dk_at dksX4_moment_21 12 rfl rfl)
theorem dX4_moment_504 : decode cX4_moment 504 = .ok (.aload_n 0, 1) := dk_42 (dk_at dksX4_moment_21 15 rfl rfl)
theorem dX4_moment_505 : decode cX4_moment 505 = .ok (.getfield 41, 3) := dk_180 0 41 (dk_at dksX4_moment_21 16 rfl rfl)
theorem dX4_moment_508 : decode cX4_moment 508 = .ok (.iconst 5, 1) := dk_8 (dk_at dksX4_moment_21 19 rfl rfl)
theorem dX4_moment_509 : decode cX4_moment 509 = .ok (.iaload, 1) := dk_46 (dk_at dksX4_moment_21 20 rfl rfl)
theorem dX4_moment_510 : decode cX4_moment 510 = .ok (.ifCond .ne 6, 3) := dk_154 0 6 (dk_at dksX4_moment_21 21 rfl rfl)
theorem dX4_moment_513 : decode cX4_moment 513 = .ok (.goto 74, 3) := dk_167 0 74 (dk_at dksX4_moment_22 0 rfl rfl)
theorem dX4_moment_516 : decode cX4_moment 516 = .ok (.aload_n 0, 1) := dk_42 (dk_at dksX4_moment_22 3 rfl rfl)
theorem dX4_moment_517 : decode cX4_moment 517 = .ok (.getfield 41, 3) := dk_180 0 41 (dk_at dksX4_moment_22 4 rfl rfl)
theorem dX4_moment_520 : decode cX4_moment 520 = .ok (.iconst 1, 1) := dk_4 (dk_at dksX4_moment_22 7 rfl rfl)
theorem dX4_moment_521 : decode cX4_moment 521 = .ok (.iaload, 1) := dk_46 (dk_at dksX4_moment_22 8 rfl rfl)
theorem dX4_moment_522 : decode cX4_moment 522 = .ok (.iload 15, 2) := dk_21 15 (dk_at dksX4_moment_22 9 rfl rfl)
theorem dX4_moment_524 : decode cX4_moment 524 = .ok (.iconst 1, 1) := dk_4 (dk_at dksX4_moment_22 11 rfl rfl)
theorem dX4_moment_525 : decode cX4_moment 525 = .ok (.iadd, 1) := dk_96 (dk_at dksX4_moment_22 12 rfl rfl)
theorem dX4_moment_526 : decode cX4_moment 526 = .ok (.imul, 1) := dk_104 (dk_at dksX4_moment_22 13 rfl rfl)
theorem dX4_moment_527 : decode cX4_moment 527 = .ok (.istore 17, 2) := dk_54 17 (dk_at dksX4_moment_22 14 rfl rfl)
theorem dX4_moment_529 : decode cX4_moment 529 = .ok (.iload 17, 2) := dk_21 17 (dk_at dksX4_moment_22 16 rfl rfl)
theorem dX4_moment_531 : decode cX4_moment 531 = .ok (.bipush 64, 2) := dk_16 64 (dk_at dksX4_moment_22 18 rfl rfl)
theorem dX4_moment_533 : decode cX4_moment 533 = .ok (.if_icmp .ne 9, 3) := dk_160 0 9 (dk_at dksX4_moment_22 20 rfl rfl)
theorem dX4_moment_536 : decode cX4_moment 536 = .ok (.ldc2_w 312, 3) := dk_20 1 56 (dk_at dksX4_moment_23 0 rfl rfl)
theorem dX4_moment_539 : decode cX4_moment 539 = .ok (.goto 9, 3) := dk_167 0 9 (dk_at dksX4_moment_23 3 rfl rfl)
theorem dX4_moment_542 : decode cX4_moment 542 = .ok (.lconst 1, 1) := dk_10 (dk_at dksX4_moment_23 6 rfl rfl)
theorem dX4_moment_543 : decode cX4_moment 543 = .ok (.iload 17, 2) := dk_21 17 (dk_at dksX4_moment_23 7 rfl rfl)
theorem dX4_moment_545 : decode cX4_moment 545 = .ok (.lshl, 1) := dk_121 (dk_at dksX4_moment_23 9 rfl rfl)
theorem dX4_moment_546 : decode cX4_moment 546 = .ok (.lconst 1, 1) := dk_10 (dk_at dksX4_moment_23 10 rfl rfl)
theorem dX4_moment_547 : decode cX4_moment 547 = .ok (.lsub, 1) := dk_101 (dk_at dksX4_moment_23 11 rfl rfl)
theorem dX4_moment_548 : decode cX4_moment 548 = .ok (.lstore 18, 2) := dk_55 18 (dk_at dksX4_moment_23 12 rfl rfl)
theorem dX4_moment_550 : decode cX4_moment 550 = .ok (.lload 7, 2) := dk_22 7 (dk_at dksX4_moment_23 14 rfl rfl)
theorem dX4_moment_552 : decode cX4_moment 552 = .ok (.lload 18, 2) := dk_22 18 (dk_at dksX4_moment_23 16 rfl rfl)
theorem dX4_moment_554 : decode cX4_moment 554 = .ok (.land, 1) := dk_127 (dk_at dksX4_moment_23 18 rfl rfl)
theorem dX4_moment_555 : decode cX4_moment 555 = .ok (.aload_n 0, 1) := dk_42 (dk_at dksX4_moment_23 19 rfl rfl)
theorem dX4_moment_556 : decode cX4_moment 556 = .ok (.getfield 351, 3) := dk_180 1 95 (dk_at dksX4_moment_23 20 rfl rfl)
theorem dX4_moment_559 : decode cX4_moment 559 = .ok (.lload 18, 2) := dk_22 18 (dk_at dksX4_moment_24 0 rfl rfl)
theorem dX4_moment_561 : decode cX4_moment 561 = .ok (.ldc2_w 312, 3) := dk_20 1 56 (dk_at dksX4_moment_24 2 rfl rfl)
theorem dX4_moment_564 : decode cX4_moment 564 = .ok (.lxor, 1) := dk_131 (dk_at dksX4_moment_24 5 rfl rfl)
theorem dX4_moment_565 : decode cX4_moment 565 = .ok (.land, 1) := dk_127 (dk_at dksX4_moment_24 6 rfl rfl)
theorem dX4_moment_566 : decode cX4_moment 566 = .ok (.lor, 1) := dk_129 (dk_at dksX4_moment_24 7 rfl rfl)
theorem dX4_moment_567 : decode cX4_moment 567 = .ok (.lstore_n 3, 1) := dk_66 (dk_at dksX4_moment_24 8 rfl rfl)
theorem dX4_moment_568 : decode cX4_moment 568 = .ok (.lload 9, 2) := dk_22 9 (dk_at dksX4_moment_24 9 rfl rfl)
theorem dX4_moment_570 : decode cX4_moment 570 = .ok (.lload 18, 2) := dk_22 18 (dk_at dksX4_moment_24 11 rfl rfl)
theorem dX4_moment_572 : decode cX4_moment 572 = .ok (.land, 1) := dk_127 (dk_at dksX4_moment_24 13 rfl rfl)
theorem dX4_moment_573 : decode cX4_moment 573 = .ok (.aload_n 0, 1) := dk_42 (dk_at dksX4_moment_24 14 rfl rfl)
theorem dX4_moment_574 : decode cX4_moment 574 = .ok (.getfield 348, 3) := dk_180 1 92 (dk_at dksX4_moment_24 15 rfl rfl)
theorem dX4_moment_577 : decode cX4_moment 577 = .ok (.lload 18, 2) := dk_22 18 (dk_at dksX4_moment_24 18 rfl rfl)
theorem dX4_moment_579 : decode cX4_moment 579 = .ok (.ldc2_w 312, 3) := dk_20 1 56 (dk_at dksX4_moment_24 20 rfl rfl)
theorem dX4_moment_582 : decode cX4_moment 582 = .ok (.lxor, 1) := dk_131 (dk_at dksX4_moment_24 23 rfl rfl)
theorem dX4_moment_583 : decode cX4_moment 583 = .ok (.land, 1) := dk_127 (dk_at dksX4_moment_25 0 rfl rfl)
theorem dX4_moment_584 : decode cX4_moment 584 = .ok (.lor, 1) := dk_129 (dk_at dksX4_moment_25 1 rfl rfl)
theorem dX4_moment_585 : decode cX4_moment 585 = .ok (.lstore 5, 2) := dk_55 5 (dk_at dksX4_moment_25 2 rfl rfl)
theorem dX4_moment_587 : decode cX4_moment 587 = .ok (.iinc 15 1, 3) := dk_132 15 1 (dk_at dksX4_moment_25 4 rfl rfl)
theorem dX4_moment_590 : decode cX4_moment 590 = .ok (.goto (-388), 3) := dk_167 254 124 (dk_at dksX4_moment_25 7 rfl rfl)
theorem dX4_moment_593 : decode cX4_moment 593 = .ok (.aload_n 0, 1) := dk_42 (dk_at dksX4_moment_25 10 rfl rfl)
theorem dX4_moment_594 : decode cX4_moment 594 = .ok (.lload 7, 2) := dk_22 7 (dk_at dksX4_moment_25 11 rfl rfl)
theorem dX4_moment_596 : decode cX4_moment 596 = .ok (.putfield 351, 3) := dk_181 1 95 (dk_at dksX4_moment_25 13 rfl rfl)
theorem dX4_moment_599 : decode cX4_moment 599 = .ok (.aload_n 0, 1) := dk_42 (dk_at dksX4_moment_25 16 rfl rfl)
theorem dX4_moment_600 : decode cX4_moment 600 = .ok (.lload 9, 2) := dk_22 9 (dk_at dksX4_moment_25 17 rfl rfl)
theorem dX4_moment_602 : decode cX4_moment 602 = .ok (.putfield 348, 3) := dk_181 1 92 (dk_at dksX4_moment_25 19 rfl rfl)
theorem dX4_moment_605 : decode cX4_moment 605 = .ok (.aload_n 0, 1) := dk_42 (dk_at dksX4_moment_25 22 rfl rfl)
theorem dX4_moment_606 : decode cX4_moment 606 = .ok (.lload 11, 2) := dk_22 11 (dk_at dksX4_moment_26 0 rfl rfl)
theorem dX4_moment_608 : decode cX4_moment 608 = .ok (.putfield 354, 3) := dk_181 1 98 (dk_at dksX4_moment_26 2 rfl rfl)
theorem dX4_moment_611 : decode cX4_moment 611 = .ok (.aload_n 0, 1) := dk_42 (dk_at dksX4_moment_26 5 rfl rfl)
theorem dX4_moment_612 : decode cX4_moment 612 = .ok (.lload 13, 2) := dk_22 13 (dk_at dksX4_moment_26 6 rfl rfl)
theorem dX4_moment_614 : decode cX4_moment 614 = .ok (.putfield 357, 3) := dk_181 1 101 (dk_at dksX4_moment_26 8 rfl rfl)
theorem dX4_moment_617 : decode cX4_moment 617 = .ok (.aload_n 0, 1) := dk_42 (dk_at dksX4_moment_26 11 rfl rfl)
theorem dX4_moment_618 : decode cX4_moment 618 = .ok (.getfield 69, 3) := dk_180 0 69 (dk_at dksX4_moment_26 12 rfl rfl)
theorem dX4_moment_621 : decode cX4_moment 621 = .ok (.iload_n 1, 1) := dk_27 (dk_at dksX4_moment_26 15 rfl rfl)
theorem dX4_moment_622 : decode cX4_moment 622 = .ok (.aload_n 0, 1) := dk_42 (dk_at dksX4_moment_26 16 rfl rfl)
theorem dX4_moment_623 : decode cX4_moment 623 = .ok (.getfield 351, 3) := dk_180 1 95 (dk_at dksX4_moment_26 17 rfl rfl)
theorem dX4_moment_626 : decode cX4_moment 626 = .ok (.lastore, 1) := dk_80 (dk_at dksX4_moment_26 20 rfl rfl)
theorem dX4_moment_627 : decode cX4_moment 627 = .ok (.aload_n 0, 1) := dk_42 (dk_at dksX4_moment_26 21 rfl rfl)
theorem dX4_moment_628 : decode cX4_moment 628 = .ok (.getfield 72, 3) := dk_180 0 72 (dk_at dksX4_moment_27 0 rfl rfl)
theorem dX4_moment_631 : decode cX4_moment 631 = .ok (.iload_n 1, 1) := dk_27 (dk_at dksX4_moment_27 3 rfl rfl)
theorem dX4_moment_632 : decode cX4_moment 632 = .ok (.aload_n 0, 1) := dk_42 (dk_at dksX4_moment_27 4 rfl rfl)
theorem dX4_moment_633 : decode cX4_moment 633 = .ok (.getfield 348, 3) := dk_180 1 92 (dk_at dksX4_moment_27 5 rfl rfl)
theorem dX4_moment_636 : decode cX4_moment 636 = .ok (.lastore, 1) := dk_80 (dk_at dksX4_moment_27 8 rfl rfl)
theorem dX4_moment_637 : decode cX4_moment 637 = .ok (.aload_n 0, 1) := dk_42 (dk_at dksX4_moment_27 9 rfl rfl)
theorem dX4_moment_638 : decode cX4_moment 638 = .ok (.getfield 75, 3) := dk_180 0 75 (dk_at dksX4_moment_27 10 rfl rfl)
theorem dX4_moment_641 : decode cX4_moment 641 = .ok (.iload_n 1, 1) := dk_27 (dk_at dksX4_moment_27 13 rfl rfl)
theorem dX4_moment_642 : decode cX4_moment 642 = .ok (.aload_n 0, 1) := dk_42 (dk_at dksX4_moment_27 14 rfl rfl)
theorem dX4_moment_643 : decode cX4_moment 643 = .ok (.getfield 354, 3) := dk_180 1 98 (dk_at dksX4_moment_27 15 rfl rfl)
theorem dX4_moment_646 : decode cX4_moment 646 = .ok (.lastore, 1) := dk_80 (dk_at dksX4_moment_27 18 rfl rfl)
theorem dX4_moment_647 : decode cX4_moment 647 = .ok (.aload_n 0, 1) := dk_42 (dk_at dksX4_moment_27 19 rfl rfl)
theorem dX4_moment_648 : decode cX4_moment 648 = .ok (.getfield 78, 3) := dk_180 0 78 (dk_at dksX4_moment_27 20 rfl rfl)
theorem dX4_moment_651 : decode cX4_moment 651 = .ok (.iload_n 1, 1) := dk_27 (dk_at dksX4_moment_27 23 rfl rfl)
theorem dX4_moment_652 : decode cX4_moment 652 = .ok (.aload_n 0, 1) := dk_42 (dk_at dksX4_moment_28 0 rfl rfl)
theorem dX4_moment_653 : decode cX4_moment 653 = .ok (.getfield 357, 3) := dk_180 1 101 (dk_at dksX4_moment_28 1 rfl rfl)
theorem dX4_moment_656 : decode cX4_moment 656 = .ok (.lastore, 1) := dk_80 (dk_at dksX4_moment_28 4 rfl rfl)
theorem dX4_moment_657 : decode cX4_moment 657 = .ok (.aload_n 0, 1) := dk_42 (dk_at dksX4_moment_28 5 rfl rfl)
theorem dX4_moment_658 : decode cX4_moment 658 = .ok (.dup, 1) := dk_89 (dk_at dksX4_moment_28 6 rfl rfl)
theorem dX4_moment_659 : decode cX4_moment 659 = .ok (.getfield 373, 3) := dk_180 1 117 (dk_at dksX4_moment_28 7 rfl rfl)
theorem dX4_moment_662 : decode cX4_moment 662 = .ok (.iconst 1, 1) := dk_4 (dk_at dksX4_moment_28 10 rfl rfl)
theorem dX4_moment_663 : decode cX4_moment 663 = .ok (.iadd, 1) := dk_96 (dk_at dksX4_moment_28 11 rfl rfl)
theorem dX4_moment_664 : decode cX4_moment 664 = .ok (.putfield 373, 3) := dk_181 1 117 (dk_at dksX4_moment_28 12 rfl rfl)
theorem dX4_moment_667 : decode cX4_moment 667 = .ok (.return_, 1) := dk_177 (dk_at dksX4_moment_28 15 rfl rfl)
def dkwX4_levelOf_1 : List UInt8 := [153, 0, 7, 4, 167, 0, 4, 3, 172]
abbrev dktX4_levelOf_1 : List UInt8 := dkwX4_levelOf_1 ++ []
def dkwX4_levelOf_0 : List UInt8 := [42, 180, 1, 92, 27, 184, 1, 68, 153, 0, 7, 5, 167, 0, 19, 42, 180, 1, 95, 27, 184, 1, 68]
abbrev dktX4_levelOf_0 : List UInt8 := dkwX4_levelOf_0 ++ dktX4_levelOf_1
theorem dksX4_levelOf_0 : cX4_levelOf.data.toList.drop 0 = dktX4_levelOf_0 := by decide +kernel
theorem dksX4_levelOf_1 : cX4_levelOf.data.toList.drop 23 = dktX4_levelOf_1 := dk_seg dksX4_levelOf_0 23 rfl rfl
theorem dX4_levelOf_0 : decode cX4_levelOf 0 = .ok (.aload_n 0, 1) := dk_42 (dk_at dksX4_levelOf_0 0 rfl rfl)
theorem dX4_levelOf_1 : decode cX4_levelOf 1 = .ok (.getfield 348, 3) := dk_180 1 92 (dk_at dksX4_levelOf_0 1 rfl rfl)
theorem dX4_levelOf_4 : decode cX4_levelOf 4 = .ok (.iload_n 1, 1) := dk_27 (dk_at dksX4_levelOf_0 4 rfl rfl)
theorem dX4_levelOf_5 : decode cX4_levelOf 5 = .ok (.invokestatic 324, 3) := dk_184 1 68 (dk_at dksX4_levelOf_0 5 rfl rfl)
theorem dX4_levelOf_8 : decode cX4_levelOf 8 = .ok (.ifCond .eq 7, 3) := dk_153 0 7 (dk_at dksX4_levelOf_0 8 rfl rfl)
theorem dX4_levelOf_11 : decode cX4_levelOf 11 = .ok (.iconst 2, 1) := dk_5 (dk_at dksX4_levelOf_0 11 rfl rfl)
theorem dX4_levelOf_12 : decode cX4_levelOf 12 = .ok (.goto 19, 3) := dk_167 0 19 (dk_at dksX4_levelOf_0 12 rfl rfl)
theorem dX4_levelOf_15 : decode cX4_levelOf 15 = .ok (.aload_n 0, 1) := dk_42 (dk_at dksX4_levelOf_0 15 rfl rfl)
theorem dX4_levelOf_16 : decode cX4_levelOf 16 = .ok (.getfield 351, 3) := dk_180 1 95 (dk_at dksX4_levelOf_0 16 rfl rfl)
theorem dX4_levelOf_19 : decode cX4_levelOf 19 = .ok (.iload_n 1, 1) := dk_27 (dk_at dksX4_levelOf_0 19 rfl rfl)
theorem dX4_levelOf_20 : decode cX4_levelOf 20 = .ok (.invokestatic 324, 3) := dk_184 1 68 (dk_at dksX4_levelOf_0 20 rfl rfl)
theorem dX4_levelOf_23 : decode cX4_levelOf 23 = .ok (.ifCond .eq 7, 3) := dk_153 0 7 (dk_at dksX4_levelOf_1 0 rfl rfl)
theorem dX4_levelOf_26 : decode cX4_levelOf 26 = .ok (.iconst 1, 1) := dk_4 (dk_at dksX4_levelOf_1 3 rfl rfl)
theorem dX4_levelOf_27 : decode cX4_levelOf 27 = .ok (.goto 4, 3) := dk_167 0 4 (dk_at dksX4_levelOf_1 4 rfl rfl)
theorem dX4_levelOf_30 : decode cX4_levelOf 30 = .ok (.iconst 0, 1) := dk_3 (dk_at dksX4_levelOf_1 7 rfl rfl)
theorem dX4_levelOf_31 : decode cX4_levelOf 31 = .ok (.ireturn, 1) := dk_172 (dk_at dksX4_levelOf_1 8 rfl rfl)
def dkwX4_heldOf_1 : List UInt8 := [153, 0, 7, 5, 167, 0, 4, 3, 96, 172]
abbrev dktX4_heldOf_1 : List UInt8 := dkwX4_heldOf_1 ++ []
def dkwX4_heldOf_0 : List UInt8 := [42, 180, 1, 98, 27, 184, 1, 68, 153, 0, 7, 4, 167, 0, 4, 3, 42, 180, 1, 101, 27, 184, 1, 68]
abbrev dktX4_heldOf_0 : List UInt8 := dkwX4_heldOf_0 ++ dktX4_heldOf_1
theorem dksX4_heldOf_0 : cX4_heldOf.data.toList.drop 0 = dktX4_heldOf_0 := by decide +kernel
theorem dksX4_heldOf_1 : cX4_heldOf.data.toList.drop 24 = dktX4_heldOf_1 := dk_seg dksX4_heldOf_0 24 rfl rfl
theorem dX4_heldOf_0 : decode cX4_heldOf 0 = .ok (.aload_n 0, 1) := dk_42 (dk_at dksX4_heldOf_0 0 rfl rfl)
theorem dX4_heldOf_1 : decode cX4_heldOf 1 = .ok (.getfield 354, 3) := dk_180 1 98 (dk_at dksX4_heldOf_0 1 rfl rfl)
theorem dX4_heldOf_4 : decode cX4_heldOf 4 = .ok (.iload_n 1, 1) := dk_27 (dk_at dksX4_heldOf_0 4 rfl rfl)
theorem dX4_heldOf_5 : decode cX4_heldOf 5 = .ok (.invokestatic 324, 3) := dk_184 1 68 (dk_at dksX4_heldOf_0 5 rfl rfl)
theorem dX4_heldOf_8 : decode cX4_heldOf 8 = .ok (.ifCond .eq 7, 3) := dk_153 0 7 (dk_at dksX4_heldOf_0 8 rfl rfl)
theorem dX4_heldOf_11 : decode cX4_heldOf 11 = .ok (.iconst 1, 1) := dk_4 (dk_at dksX4_heldOf_0 11 rfl rfl)
theorem dX4_heldOf_12 : decode cX4_heldOf 12 = .ok (.goto 4, 3) := dk_167 0 4 (dk_at dksX4_heldOf_0 12 rfl rfl)
theorem dX4_heldOf_15 : decode cX4_heldOf 15 = .ok (.iconst 0, 1) := dk_3 (dk_at dksX4_heldOf_0 15 rfl rfl)
theorem dX4_heldOf_16 : decode cX4_heldOf 16 = .ok (.aload_n 0, 1) := dk_42 (dk_at dksX4_heldOf_0 16 rfl rfl)
theorem dX4_heldOf_17 : decode cX4_heldOf 17 = .ok (.getfield 357, 3) := dk_180 1 101 (dk_at dksX4_heldOf_0 17 rfl rfl)
theorem dX4_heldOf_20 : decode cX4_heldOf 20 = .ok (.iload_n 1, 1) := dk_27 (dk_at dksX4_heldOf_0 20 rfl rfl)
theorem dX4_heldOf_21 : decode cX4_heldOf 21 = .ok (.invokestatic 324, 3) := dk_184 1 68 (dk_at dksX4_heldOf_0 21 rfl rfl)
theorem dX4_heldOf_24 : decode cX4_heldOf 24 = .ok (.ifCond .eq 7, 3) := dk_153 0 7 (dk_at dksX4_heldOf_1 0 rfl rfl)
theorem dX4_heldOf_27 : decode cX4_heldOf 27 = .ok (.iconst 2, 1) := dk_5 (dk_at dksX4_heldOf_1 3 rfl rfl)
theorem dX4_heldOf_28 : decode cX4_heldOf 28 = .ok (.goto 4, 3) := dk_167 0 4 (dk_at dksX4_heldOf_1 4 rfl rfl)
theorem dX4_heldOf_31 : decode cX4_heldOf 31 = .ok (.iconst 0, 1) := dk_3 (dk_at dksX4_heldOf_1 7 rfl rfl)
theorem dX4_heldOf_32 : decode cX4_heldOf 32 = .ok (.iadd, 1) := dk_96 (dk_at dksX4_heldOf_1 8 rfl rfl)
theorem dX4_heldOf_33 : decode cX4_heldOf 33 = .ok (.ireturn, 1) := dk_172 (dk_at dksX4_heldOf_1 9 rfl rfl)
def dkwX4_lawLevel_4 : List UInt8 := [21, 6, 158, 0, 10, 21, 6, 4, 100, 167, 0, 4, 3, 172, 21, 6, 172]
abbrev dktX4_lawLevel_4 : List UInt8 := dkwX4_lawLevel_4 ++ []
def dkwX4_lawLevel_3 : List UInt8 := [46, 158, 0, 37, 42, 21, 8, 16, 42, 96, 27, 32, 22, 4, 21, 6, 21, 7, 182, 1, 104, 153, 0, 17]
abbrev dktX4_lawLevel_3 : List UInt8 := dkwX4_lawLevel_3 ++ dktX4_lawLevel_4
def dkwX4_lawLevel_2 : List UInt8 := [21, 6, 5, 162, 0, 10, 21, 6, 4, 96, 167, 0, 4, 5, 172, 42, 180, 0, 41, 21, 8, 16, 42, 96]
abbrev dktX4_lawLevel_2 : List UInt8 := dkwX4_lawLevel_2 ++ dktX4_lawLevel_3
def dkwX4_lawLevel_1 : List UInt8 := [21, 8, 46, 158, 0, 35, 42, 21, 8, 27, 32, 22, 4, 21, 6, 21, 7, 182, 1, 104, 153, 0, 18]
abbrev dktX4_lawLevel_1 : List UInt8 := dkwX4_lawLevel_1 ++ dktX4_lawLevel_2
def dkwX4_lawLevel_0 : List UInt8 := [16, 86, 16, 84, 42, 180, 0, 41, 16, 6, 27, 96, 46, 4, 100, 104, 96, 54, 8, 42, 180, 0, 41]
abbrev dktX4_lawLevel_0 : List UInt8 := dkwX4_lawLevel_0 ++ dktX4_lawLevel_1
theorem dksX4_lawLevel_0 : cX4_lawLevel.data.toList.drop 0 = dktX4_lawLevel_0 := by decide +kernel
theorem dksX4_lawLevel_1 : cX4_lawLevel.data.toList.drop 23 = dktX4_lawLevel_1 := dk_seg dksX4_lawLevel_0 23 rfl rfl
theorem dksX4_lawLevel_2 : cX4_lawLevel.data.toList.drop 46 = dktX4_lawLevel_2 := dk_seg dksX4_lawLevel_1 23 rfl rfl
theorem dksX4_lawLevel_3 : cX4_lawLevel.data.toList.drop 70 = dktX4_lawLevel_3 := dk_seg dksX4_lawLevel_2 24 rfl rfl
theorem dksX4_lawLevel_4 : cX4_lawLevel.data.toList.drop 94 = dktX4_lawLevel_4 := dk_seg dksX4_lawLevel_3 24 rfl rfl
theorem dX4_lawLevel_0 : decode cX4_lawLevel 0 = .ok (.bipush 86, 2) := dk_16 86 (dk_at dksX4_lawLevel_0 0 rfl rfl)
theorem dX4_lawLevel_2 : decode cX4_lawLevel 2 = .ok (.bipush 84, 2) := dk_16 84 (dk_at dksX4_lawLevel_0 2 rfl rfl)
theorem dX4_lawLevel_4 : decode cX4_lawLevel 4 = .ok (.aload_n 0, 1) := dk_42 (dk_at dksX4_lawLevel_0 4 rfl rfl)
theorem dX4_lawLevel_5 : decode cX4_lawLevel 5 = .ok (.getfield 41, 3) := dk_180 0 41 (dk_at dksX4_lawLevel_0 5 rfl rfl)
theorem dX4_lawLevel_8 : decode cX4_lawLevel 8 = .ok (.bipush 6, 2) := dk_16 6 (dk_at dksX4_lawLevel_0 8 rfl rfl)
theorem dX4_lawLevel_10 : decode cX4_lawLevel 10 = .ok (.iload_n 1, 1) := dk_27 (dk_at dksX4_lawLevel_0 10 rfl rfl)
theorem dX4_lawLevel_11 : decode cX4_lawLevel 11 = .ok (.iadd, 1) := dk_96 (dk_at dksX4_lawLevel_0 11 rfl rfl)
theorem dX4_lawLevel_12 : decode cX4_lawLevel 12 = .ok (.iaload, 1) := dk_46 (dk_at dksX4_lawLevel_0 12 rfl rfl)
theorem dX4_lawLevel_13 : decode cX4_lawLevel 13 = .ok (.iconst 1, 1) := dk_4 (dk_at dksX4_lawLevel_0 13 rfl rfl)
theorem dX4_lawLevel_14 : decode cX4_lawLevel 14 = .ok (.isub, 1) := dk_100 (dk_at dksX4_lawLevel_0 14 rfl rfl)
theorem dX4_lawLevel_15 : decode cX4_lawLevel 15 = .ok (.imul, 1) := dk_104 (dk_at dksX4_lawLevel_0 15 rfl rfl)
theorem dX4_lawLevel_16 : decode cX4_lawLevel 16 = .ok (.iadd, 1) := dk_96 (dk_at dksX4_lawLevel_0 16 rfl rfl)
theorem dX4_lawLevel_17 : decode cX4_lawLevel 17 = .ok (.istore 8, 2) := dk_54 8 (dk_at dksX4_lawLevel_0 17 rfl rfl)
theorem dX4_lawLevel_19 : decode cX4_lawLevel 19 = .ok (.aload_n 0, 1) := dk_42 (dk_at dksX4_lawLevel_0 19 rfl rfl)
theorem dX4_lawLevel_20 : decode cX4_lawLevel 20 = .ok (.getfield 41, 3) := dk_180 0 41 (dk_at dksX4_lawLevel_0 20 rfl rfl)
theorem dX4_lawLevel_23 : decode cX4_lawLevel 23 = .ok (.iload 8, 2) := dk_21 8 (dk_at dksX4_lawLevel_1 0 rfl rfl)
theorem dX4_lawLevel_25 : decode cX4_lawLevel 25 = .ok (.iaload, 1) := dk_46 (dk_at dksX4_lawLevel_1 2 rfl rfl)
theorem dX4_lawLevel_26 : decode cX4_lawLevel 26 = .ok (.ifCond .le 35, 3) := dk_158 0 35 (dk_at dksX4_lawLevel_1 3 rfl rfl)
theorem dX4_lawLevel_29 : decode cX4_lawLevel 29 = .ok (.aload_n 0, 1) := dk_42 (dk_at dksX4_lawLevel_1 6 rfl rfl)
theorem dX4_lawLevel_30 : decode cX4_lawLevel 30 = .ok (.iload 8, 2) := dk_21 8 (dk_at dksX4_lawLevel_1 7 rfl rfl)
theorem dX4_lawLevel_32 : decode cX4_lawLevel 32 = .ok (.iload_n 1, 1) := dk_27 (dk_at dksX4_lawLevel_1 9 rfl rfl)
theorem dX4_lawLevel_33 : decode cX4_lawLevel 33 = .ok (.lload_n 2, 1) := dk_32 (dk_at dksX4_lawLevel_1 10 rfl rfl)
theorem dX4_lawLevel_34 : decode cX4_lawLevel 34 = .ok (.lload 4, 2) := dk_22 4 (dk_at dksX4_lawLevel_1 11 rfl rfl)
theorem dX4_lawLevel_36 : decode cX4_lawLevel 36 = .ok (.iload 6, 2) := dk_21 6 (dk_at dksX4_lawLevel_1 13 rfl rfl)
theorem dX4_lawLevel_38 : decode cX4_lawLevel 38 = .ok (.iload 7, 2) := dk_21 7 (dk_at dksX4_lawLevel_1 15 rfl rfl)
theorem dX4_lawLevel_40 : decode cX4_lawLevel 40 = .ok (.invokevirtual 360, 3) := dk_182 1 104 (dk_at dksX4_lawLevel_1 17 rfl rfl)
theorem dX4_lawLevel_43 : decode cX4_lawLevel 43 = .ok (.ifCond .eq 18, 3) := dk_153 0 18 (dk_at dksX4_lawLevel_1 20 rfl rfl)
theorem dX4_lawLevel_46 : decode cX4_lawLevel 46 = .ok (.iload 6, 2) := dk_21 6 (dk_at dksX4_lawLevel_2 0 rfl rfl)
theorem dX4_lawLevel_48 : decode cX4_lawLevel 48 = .ok (.iconst 2, 1) := dk_5 (dk_at dksX4_lawLevel_2 2 rfl rfl)
theorem dX4_lawLevel_49 : decode cX4_lawLevel 49 = .ok (.if_icmp .ge 10, 3) := dk_162 0 10 (dk_at dksX4_lawLevel_2 3 rfl rfl)
theorem dX4_lawLevel_52 : decode cX4_lawLevel 52 = .ok (.iload 6, 2) := dk_21 6 (dk_at dksX4_lawLevel_2 6 rfl rfl)
theorem dX4_lawLevel_54 : decode cX4_lawLevel 54 = .ok (.iconst 1, 1) := dk_4 (dk_at dksX4_lawLevel_2 8 rfl rfl)
theorem dX4_lawLevel_55 : decode cX4_lawLevel 55 = .ok (.iadd, 1) := dk_96 (dk_at dksX4_lawLevel_2 9 rfl rfl)
theorem dX4_lawLevel_56 : decode cX4_lawLevel 56 = .ok (.goto 4, 3) := dk_167 0 4 (dk_at dksX4_lawLevel_2 10 rfl rfl)
theorem dX4_lawLevel_59 : decode cX4_lawLevel 59 = .ok (.iconst 2, 1) := dk_5 (dk_at dksX4_lawLevel_2 13 rfl rfl)
theorem dX4_lawLevel_60 : decode cX4_lawLevel 60 = .ok (.ireturn, 1) := dk_172 (dk_at dksX4_lawLevel_2 14 rfl rfl)
theorem dX4_lawLevel_61 : decode cX4_lawLevel 61 = .ok (.aload_n 0, 1) := dk_42 (dk_at dksX4_lawLevel_2 15 rfl rfl)
theorem dX4_lawLevel_62 : decode cX4_lawLevel 62 = .ok (.getfield 41, 3) := dk_180 0 41 (dk_at dksX4_lawLevel_2 16 rfl rfl)
theorem dX4_lawLevel_65 : decode cX4_lawLevel 65 = .ok (.iload 8, 2) := dk_21 8 (dk_at dksX4_lawLevel_2 19 rfl rfl)
theorem dX4_lawLevel_67 : decode cX4_lawLevel 67 = .ok (.bipush 42, 2) := dk_16 42 (dk_at dksX4_lawLevel_2 21 rfl rfl)
theorem dX4_lawLevel_69 : decode cX4_lawLevel 69 = .ok (.iadd, 1) := dk_96 (dk_at dksX4_lawLevel_2 23 rfl rfl)
theorem dX4_lawLevel_70 : decode cX4_lawLevel 70 = .ok (.iaload, 1) := dk_46 (dk_at dksX4_lawLevel_3 0 rfl rfl)
theorem dX4_lawLevel_71 : decode cX4_lawLevel 71 = .ok (.ifCond .le 37, 3) := dk_158 0 37 (dk_at dksX4_lawLevel_3 1 rfl rfl)
theorem dX4_lawLevel_74 : decode cX4_lawLevel 74 = .ok (.aload_n 0, 1) := dk_42 (dk_at dksX4_lawLevel_3 4 rfl rfl)
theorem dX4_lawLevel_75 : decode cX4_lawLevel 75 = .ok (.iload 8, 2) := dk_21 8 (dk_at dksX4_lawLevel_3 5 rfl rfl)
theorem dX4_lawLevel_77 : decode cX4_lawLevel 77 = .ok (.bipush 42, 2) := dk_16 42 (dk_at dksX4_lawLevel_3 7 rfl rfl)
theorem dX4_lawLevel_79 : decode cX4_lawLevel 79 = .ok (.iadd, 1) := dk_96 (dk_at dksX4_lawLevel_3 9 rfl rfl)
theorem dX4_lawLevel_80 : decode cX4_lawLevel 80 = .ok (.iload_n 1, 1) := dk_27 (dk_at dksX4_lawLevel_3 10 rfl rfl)
theorem dX4_lawLevel_81 : decode cX4_lawLevel 81 = .ok (.lload_n 2, 1) := dk_32 (dk_at dksX4_lawLevel_3 11 rfl rfl)
theorem dX4_lawLevel_82 : decode cX4_lawLevel 82 = .ok (.lload 4, 2) := dk_22 4 (dk_at dksX4_lawLevel_3 12 rfl rfl)
theorem dX4_lawLevel_84 : decode cX4_lawLevel 84 = .ok (.iload 6, 2) := dk_21 6 (dk_at dksX4_lawLevel_3 14 rfl rfl)
theorem dX4_lawLevel_86 : decode cX4_lawLevel 86 = .ok (.iload 7, 2) := dk_21 7 (dk_at dksX4_lawLevel_3 16 rfl rfl)
theorem dX4_lawLevel_88 : decode cX4_lawLevel 88 = .ok (.invokevirtual 360, 3) := dk_182 1 104 (dk_at dksX4_lawLevel_3 18 rfl rfl)
theorem dX4_lawLevel_91 : decode cX4_lawLevel 91 = .ok (.ifCond .eq 17, 3) := dk_153 0 17 (dk_at dksX4_lawLevel_3 21 rfl rfl)
theorem dX4_lawLevel_94 : decode cX4_lawLevel 94 = .ok (.iload 6, 2) := dk_21 6 (dk_at dksX4_lawLevel_4 0 rfl rfl)
theorem dX4_lawLevel_96 : decode cX4_lawLevel 96 = .ok (.ifCond .le 10, 3) := dk_158 0 10 (dk_at dksX4_lawLevel_4 2 rfl rfl)
theorem dX4_lawLevel_99 : decode cX4_lawLevel 99 = .ok (.iload 6, 2) := dk_21 6 (dk_at dksX4_lawLevel_4 5 rfl rfl)
theorem dX4_lawLevel_101 : decode cX4_lawLevel 101 = .ok (.iconst 1, 1) := dk_4 (dk_at dksX4_lawLevel_4 7 rfl rfl)
theorem dX4_lawLevel_102 : decode cX4_lawLevel 102 = .ok (.isub, 1) := dk_100 (dk_at dksX4_lawLevel_4 8 rfl rfl)
theorem dX4_lawLevel_103 : decode cX4_lawLevel 103 = .ok (.goto 4, 3) := dk_167 0 4 (dk_at dksX4_lawLevel_4 9 rfl rfl)
theorem dX4_lawLevel_106 : decode cX4_lawLevel 106 = .ok (.iconst 0, 1) := dk_3 (dk_at dksX4_lawLevel_4 12 rfl rfl)
theorem dX4_lawLevel_107 : decode cX4_lawLevel 107 = .ok (.ireturn, 1) := dk_172 (dk_at dksX4_lawLevel_4 13 rfl rfl)
theorem dX4_lawLevel_108 : decode cX4_lawLevel 108 = .ok (.iload 6, 2) := dk_21 6 (dk_at dksX4_lawLevel_4 14 rfl rfl)
theorem dX4_lawLevel_110 : decode cX4_lawLevel 110 = .ok (.ireturn, 1) := dk_172 (dk_at dksX4_lawLevel_4 16 rfl rfl)
def dkwX4_isLaw_13 : List UInt8 := [132, 10, 1, 167, 254, 210, 42, 180, 0, 57, 3, 51, 172]
abbrev dktX4_isLaw_13 : List UInt8 := dkwX4_isLaw_13 ++ []
def dkwX4_isLaw_12 : List UInt8 := [4, 167, 0, 19, 3, 167, 0, 15, 21, 13, 21, 15, 164, 0, 7, 4, 167, 0, 4, 3, 84, 132, 9, 1]
abbrev dktX4_isLaw_12 : List UInt8 := dkwX4_isLaw_12 ++ dktX4_isLaw_13
def dkwX4_isLaw_11 : List UInt8 := [162, 0, 7, 4, 167, 0, 40, 3, 167, 0, 36, 21, 14, 4, 160, 0, 18, 21, 13, 21, 15, 160, 0, 7]
abbrev dktX4_isLaw_11 : List UInt8 := dkwX4_isLaw_11 ++ dktX4_isLaw_12
def dkwX4_isLaw_10 : List UInt8 := [21, 11, 16, 10, 122, 54, 15, 42, 180, 0, 57, 21, 9, 21, 14, 154, 0, 18, 21, 13, 21, 15]
abbrev dktX4_isLaw_10 : List UInt8 := dkwX4_isLaw_10 ++ dktX4_isLaw_11
def dkwX4_isLaw_9 : List UInt8 := [160, 0, 7, 33, 167, 0, 5, 22, 5, 127, 184, 1, 88, 54, 13, 21, 11, 16, 8, 122, 6, 126, 54, 14]
abbrev dktX4_isLaw_9 : List UInt8 := dkwX4_isLaw_9 ++ dktX4_isLaw_10
def dkwX4_isLaw_8 : List UInt8 := [180, 0, 61, 16, 6, 28, 104, 21, 11, 6, 122, 16, 7, 126, 96, 47, 21, 11, 16, 6, 122, 6, 126, 4]
abbrev dktX4_isLaw_8 : List UInt8 := dkwX4_isLaw_8 ++ dktX4_isLaw_9
def dkwX4_isLaw_7 : List UInt8 := [21, 12, 4, 160, 0, 8, 21, 7, 167, 0, 52, 21, 12, 5, 160, 0, 8, 21, 8, 167, 0, 41, 42]
abbrev dktX4_isLaw_7 : List UInt8 := dkwX4_isLaw_7 ++ dktX4_isLaw_8
def dkwX4_isLaw_6 : List UInt8 := [100, 51, 154, 0, 13, 42, 180, 0, 57, 21, 9, 51, 153, 0, 7, 4, 167, 0, 4, 3, 84, 167, 0, 144]
abbrev dktX4_isLaw_6 : List UInt8 := dkwX4_isLaw_6 ++ dktX4_isLaw_7
def dkwX4_isLaw_5 : List UInt8 := [180, 0, 57, 21, 9, 51, 153, 0, 7, 4, 167, 0, 34, 3, 167, 0, 30, 42, 180, 0, 57, 21, 9, 4]
abbrev dktX4_isLaw_5 : List UInt8 := dkwX4_isLaw_5 ++ dktX4_isLaw_6
def dkwX4_isLaw_4 : List UInt8 := [21, 9, 4, 100, 21, 12, 7, 160, 0, 33, 42, 180, 0, 57, 21, 9, 4, 100, 51, 153, 0, 17, 42]
abbrev dktX4_isLaw_4 : List UInt8 := dkwX4_isLaw_4 ++ dktX4_isLaw_5
def dkwX4_isLaw_3 : List UInt8 := [84, 167, 0, 234, 21, 12, 7, 159, 0, 9, 21, 12, 8, 160, 0, 81, 132, 9, 255, 42, 180, 0, 57]
abbrev dktX4_isLaw_3 : List UInt8 := dkwX4_isLaw_3 ++ dktX4_isLaw_4
def dkwX4_isLaw_2 : List UInt8 := [180, 0, 57, 21, 9, 4, 100, 42, 180, 0, 57, 21, 9, 4, 100, 51, 154, 0, 7, 4, 167, 0, 4, 3]
abbrev dktX4_isLaw_2 : List UInt8 := dkwX4_isLaw_2 ++ dktX4_isLaw_3
def dkwX4_isLaw_1 : List UInt8 := [5, 96, 21, 10, 96, 46, 54, 11, 21, 11, 16, 7, 126, 54, 12, 21, 12, 6, 160, 0, 32, 42]
abbrev dktX4_isLaw_1 : List UInt8 := dkwX4_isLaw_1 ++ dktX4_isLaw_2
def dkwX4_isLaw_0 : List UInt8 := [3, 54, 9, 3, 54, 10, 21, 10, 42, 180, 0, 41, 27, 4, 96, 46, 162, 1, 39, 42, 180, 0, 41, 27]
abbrev dktX4_isLaw_0 : List UInt8 := dkwX4_isLaw_0 ++ dktX4_isLaw_1
theorem dksX4_isLaw_0 : cX4_isLaw.data.toList.drop 0 = dktX4_isLaw_0 := by decide +kernel
theorem dksX4_isLaw_1 : cX4_isLaw.data.toList.drop 24 = dktX4_isLaw_1 := dk_seg dksX4_isLaw_0 24 rfl rfl
theorem dksX4_isLaw_2 : cX4_isLaw.data.toList.drop 46 = dktX4_isLaw_2 := dk_seg dksX4_isLaw_1 22 rfl rfl
theorem dksX4_isLaw_3 : cX4_isLaw.data.toList.drop 70 = dktX4_isLaw_3 := dk_seg dksX4_isLaw_2 24 rfl rfl
theorem dksX4_isLaw_4 : cX4_isLaw.data.toList.drop 93 = dktX4_isLaw_4 := dk_seg dksX4_isLaw_3 23 rfl rfl
theorem dksX4_isLaw_5 : cX4_isLaw.data.toList.drop 116 = dktX4_isLaw_5 := dk_seg dksX4_isLaw_4 23 rfl rfl
theorem dksX4_isLaw_6 : cX4_isLaw.data.toList.drop 140 = dktX4_isLaw_6 := dk_seg dksX4_isLaw_5 24 rfl rfl
theorem dksX4_isLaw_7 : cX4_isLaw.data.toList.drop 164 = dktX4_isLaw_7 := dk_seg dksX4_isLaw_6 24 rfl rfl
theorem dksX4_isLaw_8 : cX4_isLaw.data.toList.drop 187 = dktX4_isLaw_8 := dk_seg dksX4_isLaw_7 23 rfl rfl
theorem dksX4_isLaw_9 : cX4_isLaw.data.toList.drop 211 = dktX4_isLaw_9 := dk_seg dksX4_isLaw_8 24 rfl rfl
theorem dksX4_isLaw_10 : cX4_isLaw.data.toList.drop 235 = dktX4_isLaw_10 := dk_seg dksX4_isLaw_9 24 rfl rfl
theorem dksX4_isLaw_11 : cX4_isLaw.data.toList.drop 257 = dktX4_isLaw_11 := dk_seg dksX4_isLaw_10 22 rfl rfl
theorem dksX4_isLaw_12 : cX4_isLaw.data.toList.drop 281 = dktX4_isLaw_12 := dk_seg dksX4_isLaw_11 24 rfl rfl
theorem dksX4_isLaw_13 : cX4_isLaw.data.toList.drop 305 = dktX4_isLaw_13 := dk_seg dksX4_isLaw_12 24 rfl rfl
theorem dX4_isLaw_0 : decode cX4_isLaw 0 = .ok (.iconst 0, 1) := dk_3 (dk_at dksX4_isLaw_0 0 rfl rfl)
theorem dX4_isLaw_1 : decode cX4_isLaw 1 = .ok (.istore 9, 2) := dk_54 9 (dk_at dksX4_isLaw_0 1 rfl rfl)
theorem dX4_isLaw_3 : decode cX4_isLaw 3 = .ok (.iconst 0, 1) := dk_3 (dk_at dksX4_isLaw_0 3 rfl rfl)
theorem dX4_isLaw_4 : decode cX4_isLaw 4 = .ok (.istore 10, 2) := dk_54 10 (dk_at dksX4_isLaw_0 4 rfl rfl)
theorem dX4_isLaw_6 : decode cX4_isLaw 6 = .ok (.iload 10, 2) := dk_21 10 (dk_at dksX4_isLaw_0 6 rfl rfl)
theorem dX4_isLaw_8 : decode cX4_isLaw 8 = .ok (.aload_n 0, 1) := dk_42 (dk_at dksX4_isLaw_0 8 rfl rfl)
theorem dX4_isLaw_9 : decode cX4_isLaw 9 = .ok (.getfield 41, 3) := dk_180 0 41 (dk_at dksX4_isLaw_0 9 rfl rfl)
theorem dX4_isLaw_12 : decode cX4_isLaw 12 = .ok (.iload_n 1, 1) := dk_27 (dk_at dksX4_isLaw_0 12 rfl rfl)
theorem dX4_isLaw_13 : decode cX4_isLaw 13 = .ok (.iconst 1, 1) := dk_4 (dk_at dksX4_isLaw_0 13 rfl rfl)
theorem dX4_isLaw_14 : decode cX4_isLaw 14 = .ok (.iadd, 1) := dk_96 (dk_at dksX4_isLaw_0 14 rfl rfl)
theorem dX4_isLaw_15 : decode cX4_isLaw 15 = .ok (.iaload, 1) := dk_46 (dk_at dksX4_isLaw_0 15 rfl rfl)
theorem dX4_isLaw_16 : decode cX4_isLaw 16 = .ok (.if_icmp .ge 295, 3) := dk_162 1 39 (dk_at dksX4_isLaw_0 16 rfl rfl)
theorem dX4_isLaw_19 : decode cX4_isLaw 19 = .ok (.aload_n 0, 1) := dk_42 (dk_at dksX4_isLaw_0 19 rfl rfl)
theorem dX4_isLaw_20 : decode cX4_isLaw 20 = .ok (.getfield 41, 3) := dk_180 0 41 (dk_at dksX4_isLaw_0 20 rfl rfl)
theorem dX4_isLaw_23 : decode cX4_isLaw 23 = .ok (.iload_n 1, 1) := dk_27 (dk_at dksX4_isLaw_0 23 rfl rfl)
theorem dX4_isLaw_24 : decode cX4_isLaw 24 = .ok (.iconst 2, 1) := dk_5 (dk_at dksX4_isLaw_1 0 rfl rfl)
theorem dX4_isLaw_25 : decode cX4_isLaw 25 = .ok (.iadd, 1) := dk_96 (dk_at dksX4_isLaw_1 1 rfl rfl)
theorem dX4_isLaw_26 : decode cX4_isLaw 26 = .ok (.iload 10, 2) := dk_21 10 (dk_at dksX4_isLaw_1 2 rfl rfl)
theorem dX4_isLaw_28 : decode cX4_isLaw 28 = .ok (.iadd, 1) := dk_96 (dk_at dksX4_isLaw_1 4 rfl rfl)
theorem dX4_isLaw_29 : decode cX4_isLaw 29 = .ok (.iaload, 1) := dk_46 (dk_at dksX4_isLaw_1 5 rfl rfl)
theorem dX4_isLaw_30 : decode cX4_isLaw 30 = .ok (.istore 11, 2) := dk_54 11 (dk_at dksX4_isLaw_1 6 rfl rfl)
theorem dX4_isLaw_32 : decode cX4_isLaw 32 = .ok (.iload 11, 2) := dk_21 11 (dk_at dksX4_isLaw_1 8 rfl rfl)
theorem dX4_isLaw_34 : decode cX4_isLaw 34 = .ok (.bipush 7, 2) := dk_16 7 (dk_at dksX4_isLaw_1 10 rfl rfl)
theorem dX4_isLaw_36 : decode cX4_isLaw 36 = .ok (.iand, 1) := dk_126 (dk_at dksX4_isLaw_1 12 rfl rfl)
theorem dX4_isLaw_37 : decode cX4_isLaw 37 = .ok (.istore 12, 2) := dk_54 12 (dk_at dksX4_isLaw_1 13 rfl rfl)
theorem dX4_isLaw_39 : decode cX4_isLaw 39 = .ok (.iload 12, 2) := dk_21 12 (dk_at dksX4_isLaw_1 15 rfl rfl)
theorem dX4_isLaw_41 : decode cX4_isLaw 41 = .ok (.iconst 3, 1) := dk_6 (dk_at dksX4_isLaw_1 17 rfl rfl)
theorem dX4_isLaw_42 : decode cX4_isLaw 42 = .ok (.if_icmp .ne 32, 3) := dk_160 0 32 (dk_at dksX4_isLaw_1 18 rfl rfl)
theorem dX4_isLaw_45 : decode cX4_isLaw 45 = .ok (.aload_n 0, 1) := dk_42 (dk_at dksX4_isLaw_1 21 rfl rfl)
theorem dX4_isLaw_46 : decode cX4_isLaw 46 = .ok (.getfield 57, 3) := dk_180 0 57 (dk_at dksX4_isLaw_2 0 rfl rfl)
theorem dX4_isLaw_49 : decode cX4_isLaw 49 = .ok (.iload 9, 2) := dk_21 9 (dk_at dksX4_isLaw_2 3 rfl rfl)
theorem dX4_isLaw_51 : decode cX4_isLaw 51 = .ok (.iconst 1, 1) := dk_4 (dk_at dksX4_isLaw_2 5 rfl rfl)
theorem dX4_isLaw_52 : decode cX4_isLaw 52 = .ok (.isub, 1) := dk_100 (dk_at dksX4_isLaw_2 6 rfl rfl)
theorem dX4_isLaw_53 : decode cX4_isLaw 53 = .ok (.aload_n 0, 1) := dk_42 (dk_at dksX4_isLaw_2 7 rfl rfl)
theorem dX4_isLaw_54 : decode cX4_isLaw 54 = .ok (.getfield 57, 3) := dk_180 0 57 (dk_at dksX4_isLaw_2 8 rfl rfl)
theorem dX4_isLaw_57 : decode cX4_isLaw 57 = .ok (.iload 9, 2) := dk_21 9 (dk_at dksX4_isLaw_2 11 rfl rfl)
theorem dX4_isLaw_59 : decode cX4_isLaw 59 = .ok (.iconst 1, 1) := dk_4 (dk_at dksX4_isLaw_2 13 rfl rfl)
theorem dX4_isLaw_60 : decode cX4_isLaw 60 = .ok (.isub, 1) := dk_100 (dk_at dksX4_isLaw_2 14 rfl rfl)
theorem dX4_isLaw_61 : decode cX4_isLaw 61 = .ok (.baload, 1) := dk_51 (dk_at dksX4_isLaw_2 15 rfl rfl)
theorem dX4_isLaw_62 : decode cX4_isLaw 62 = .ok (.ifCond .ne 7, 3) := dk_154 0 7 (dk_at dksX4_isLaw_2 16 rfl rfl)
theorem dX4_isLaw_65 : decode cX4_isLaw 65 = .ok (.iconst 1, 1) := dk_4 (dk_at dksX4_isLaw_2 19 rfl rfl)
theorem dX4_isLaw_66 : decode cX4_isLaw 66 = .ok (.goto 4, 3) := dk_167 0 4 (dk_at dksX4_isLaw_2 20 rfl rfl)
theorem dX4_isLaw_69 : decode cX4_isLaw 69 = .ok (.iconst 0, 1) := dk_3 (dk_at dksX4_isLaw_2 23 rfl rfl)
theorem dX4_isLaw_70 : decode cX4_isLaw 70 = .ok (.bastore, 1) := dk_84 (dk_at dksX4_isLaw_3 0 rfl rfl)
theorem dX4_isLaw_71 : decode cX4_isLaw 71 = .ok (.goto 234, 3) := dk_167 0 234 (dk_at dksX4_isLaw_3 1 rfl rfl)
theorem dX4_isLaw_74 : decode cX4_isLaw 74 = .ok (.iload 12, 2) := dk_21 12 (dk_at dksX4_isLaw_3 4 rfl rfl)
theorem dX4_isLaw_76 : decode cX4_isLaw 76 = .ok (.iconst 4, 1) := dk_7 (dk_at dksX4_isLaw_3 6 rfl rfl)
theorem dX4_isLaw_77 : decode cX4_isLaw 77 = .ok (.if_icmp .eq 9, 3) := dk_159 0 9 (dk_at dksX4_isLaw_3 7 rfl rfl)
theorem dX4_isLaw_80 : decode cX4_isLaw 80 = .ok (.iload 12, 2) := dk_21 12 (dk_at dksX4_isLaw_3 10 rfl rfl)
theorem dX4_isLaw_82 : decode cX4_isLaw 82 = .ok (.iconst 5, 1) := dk_8 (dk_at dksX4_isLaw_3 12 rfl rfl)
theorem dX4_isLaw_83 : decode cX4_isLaw 83 = .ok (.if_icmp .ne 81, 3) := dk_160 0 81 (dk_at dksX4_isLaw_3 13 rfl rfl)
theorem dX4_isLaw_86 : decode cX4_isLaw 86 = .ok (.iinc 9 (-1), 3) := dk_132 9 255 (dk_at dksX4_isLaw_3 16 rfl rfl)
theorem dX4_isLaw_89 : decode cX4_isLaw 89 = .ok (.aload_n 0, 1) := dk_42 (dk_at dksX4_isLaw_3 19 rfl rfl)
theorem dX4_isLaw_90 : decode cX4_isLaw 90 = .ok (.getfield 57, 3) := dk_180 0 57 (dk_at dksX4_isLaw_3 20 rfl rfl)
theorem dX4_isLaw_93 : decode cX4_isLaw 93 = .ok (.iload 9, 2) := dk_21 9 (dk_at dksX4_isLaw_4 0 rfl rfl)
theorem dX4_isLaw_95 : decode cX4_isLaw 95 = .ok (.iconst 1, 1) := dk_4 (dk_at dksX4_isLaw_4 2 rfl rfl)
theorem dX4_isLaw_96 : decode cX4_isLaw 96 = .ok (.isub, 1) := dk_100 (dk_at dksX4_isLaw_4 3 rfl rfl)
theorem dX4_isLaw_97 : decode cX4_isLaw 97 = .ok (.iload 12, 2) := dk_21 12 (dk_at dksX4_isLaw_4 4 rfl rfl)
theorem dX4_isLaw_99 : decode cX4_isLaw 99 = .ok (.iconst 4, 1) := dk_7 (dk_at dksX4_isLaw_4 6 rfl rfl)
theorem dX4_isLaw_100 : decode cX4_isLaw 100 = .ok (.if_icmp .ne 33, 3) := dk_160 0 33 (dk_at dksX4_isLaw_4 7 rfl rfl)
theorem dX4_isLaw_103 : decode cX4_isLaw 103 = .ok (.aload_n 0, 1) := dk_42 (dk_at dksX4_isLaw_4 10 rfl rfl)
theorem dX4_isLaw_104 : decode cX4_isLaw 104 = .ok (.getfield 57, 3) := dk_180 0 57 (dk_at dksX4_isLaw_4 11 rfl rfl)
theorem dX4_isLaw_107 : decode cX4_isLaw 107 = .ok (.iload 9, 2) := dk_21 9 (dk_at dksX4_isLaw_4 14 rfl rfl)
theorem dX4_isLaw_109 : decode cX4_isLaw 109 = .ok (.iconst 1, 1) := dk_4 (dk_at dksX4_isLaw_4 16 rfl rfl)
theorem dX4_isLaw_110 : decode cX4_isLaw 110 = .ok (.isub, 1) := dk_100 (dk_at dksX4_isLaw_4 17 rfl rfl)
theorem dX4_isLaw_111 : decode cX4_isLaw 111 = .ok (.baload, 1) := dk_51 (dk_at dksX4_isLaw_4 18 rfl rfl)
theorem dX4_isLaw_112 : decode cX4_isLaw 112 = .ok (.ifCond .eq 17, 3) := dk_153 0 17 (dk_at dksX4_isLaw_4 19 rfl rfl)
theorem dX4_isLaw_115 : decode cX4_isLaw 115 = .ok (.aload_n 0, 1) := dk_42 (dk_at dksX4_isLaw_4 22 rfl rfl)
theorem dX4_isLaw_116 : decode cX4_isLaw 116 = .ok (.getfield 57, 3) := dk_180 0 57 (dk_at dksX4_isLaw_5 0 rfl rfl)
theorem dX4_isLaw_119 : decode cX4_isLaw 119 = .ok (.iload 9, 2) := dk_21 9 (dk_at dksX4_isLaw_5 3 rfl rfl)
theorem dX4_isLaw_121 : decode cX4_isLaw 121 = .ok (.baload, 1) := dk_51 (dk_at dksX4_isLaw_5 5 rfl rfl)
theorem dX4_isLaw_122 : decode cX4_isLaw 122 = .ok (.ifCond .eq 7, 3) := dk_153 0 7 (dk_at dksX4_isLaw_5 6 rfl rfl)
theorem dX4_isLaw_125 : decode cX4_isLaw 125 = .ok (.iconst 1, 1) := dk_4 (dk_at dksX4_isLaw_5 9 rfl rfl)
theorem dX4_isLaw_126 : decode cX4_isLaw 126 = .ok (.goto 34, 3) := dk_167 0 34 (dk_at dksX4_isLaw_5 10 rfl rfl)
theorem dX4_isLaw_129 : decode cX4_isLaw 129 = .ok (.iconst 0, 1) := dk_3 (dk_at dksX4_isLaw_5 13 rfl rfl)
theorem dX4_isLaw_130 : decode cX4_isLaw 130 = .ok (.goto 30, 3) := dk_167 0 30 (dk_at dksX4_isLaw_5 14 rfl rfl)
theorem dX4_isLaw_133 : decode cX4_isLaw 133 = .ok (.aload_n 0, 1) := dk_42 (dk_at dksX4_isLaw_5 17 rfl rfl)
theorem dX4_isLaw_134 : decode cX4_isLaw 134 = .ok (.getfield 57, 3) := dk_180 0 57 (dk_at dksX4_isLaw_5 18 rfl rfl)
theorem dX4_isLaw_137 : decode cX4_isLaw 137 = .ok (.iload 9, 2) := dk_21 9 (dk_at dksX4_isLaw_5 21 rfl rfl)
theorem dX4_isLaw_139 : decode cX4_isLaw 139 = .ok (.iconst 1, 1) := dk_4 (dk_at dksX4_isLaw_5 23 rfl rfl)
theorem dX4_isLaw_140 : decode cX4_isLaw 140 = .ok (.isub, 1) := dk_100 (dk_at dksX4_isLaw_6 0 rfl rfl)
theorem dX4_isLaw_141 : decode cX4_isLaw 141 = .ok (.baload, 1) := dk_51 (dk_at dksX4_isLaw_6 1 rfl rfl)
theorem dX4_isLaw_142 : decode cX4_isLaw 142 = .ok (.ifCond .ne 13, 3) := dk_154 0 13 (dk_at dksX4_isLaw_6 2 rfl rfl)
theorem dX4_isLaw_145 : decode cX4_isLaw 145 = .ok (.aload_n 0, 1) := dk_42 (dk_at dksX4_isLaw_6 5 rfl rfl)
theorem dX4_isLaw_146 : decode cX4_isLaw 146 = .ok (.getfield 57, 3) := dk_180 0 57 (dk_at dksX4_isLaw_6 6 rfl rfl)
theorem dX4_isLaw_149 : decode cX4_isLaw 149 = .ok (.iload 9, 2) := dk_21 9 (dk_at dksX4_isLaw_6 9 rfl rfl)
theorem dX4_isLaw_151 : decode cX4_isLaw 151 = .ok (.baload, 1) := dk_51 (dk_at dksX4_isLaw_6 11 rfl rfl)
theorem dX4_isLaw_152 : decode cX4_isLaw 152 = .ok (.ifCond .eq 7, 3) := dk_153 0 7 (dk_at dksX4_isLaw_6 12 rfl rfl)
theorem dX4_isLaw_155 : decode cX4_isLaw 155 = .ok (.iconst 1, 1) := dk_4 (dk_at dksX4_isLaw_6 15 rfl rfl)
theorem dX4_isLaw_156 : decode cX4_isLaw 156 = .ok (.goto 4, 3) := dk_167 0 4 (dk_at dksX4_isLaw_6 16 rfl rfl)
theorem dX4_isLaw_159 : decode cX4_isLaw 159 = .ok (.iconst 0, 1) := dk_3 (dk_at dksX4_isLaw_6 19 rfl rfl)
theorem dX4_isLaw_160 : decode cX4_isLaw 160 = .ok (.bastore, 1) := dk_84 (dk_at dksX4_isLaw_6 20 rfl rfl)
theorem dX4_isLaw_161 : decode cX4_isLaw 161 = .ok (.goto 144, 3) := dk_167 0 144 (dk_at dksX4_isLaw_6 21 rfl rfl)
theorem dX4_isLaw_164 : decode cX4_isLaw 164 = .ok (.iload 12, 2) := dk_21 12 (dk_at dksX4_isLaw_7 0 rfl rfl)
theorem dX4_isLaw_166 : decode cX4_isLaw 166 = .ok (.iconst 1, 1) := dk_4 (dk_at dksX4_isLaw_7 2 rfl rfl)
theorem dX4_isLaw_167 : decode cX4_isLaw 167 = .ok (.if_icmp .ne 8, 3) := dk_160 0 8 (dk_at dksX4_isLaw_7 3 rfl rfl)
theorem dX4_isLaw_170 : decode cX4_isLaw 170 = .ok (.iload 7, 2) := dk_21 7 (dk_at dksX4_isLaw_7 6 rfl rfl)
theorem dX4_isLaw_172 : decode cX4_isLaw 172 = .ok (.goto 52, 3) := dk_167 0 52 (dk_at dksX4_isLaw_7 8 rfl rfl)
theorem dX4_isLaw_175 : decode cX4_isLaw 175 = .ok (.iload 12, 2) := dk_21 12 (dk_at dksX4_isLaw_7 11 rfl rfl)
theorem dX4_isLaw_177 : decode cX4_isLaw 177 = .ok (.iconst 2, 1) := dk_5 (dk_at dksX4_isLaw_7 13 rfl rfl)
theorem dX4_isLaw_178 : decode cX4_isLaw 178 = .ok (.if_icmp .ne 8, 3) := dk_160 0 8 (dk_at dksX4_isLaw_7 14 rfl rfl)
theorem dX4_isLaw_181 : decode cX4_isLaw 181 = .ok (.iload 8, 2) := dk_21 8 (dk_at dksX4_isLaw_7 17 rfl rfl)
theorem dX4_isLaw_183 : decode cX4_isLaw 183 = .ok (.goto 41, 3) := dk_167 0 41 (dk_at dksX4_isLaw_7 19 rfl rfl)
theorem dX4_isLaw_186 : decode cX4_isLaw 186 = .ok (.aload_n 0, 1) := dk_42 (dk_at dksX4_isLaw_7 22 rfl rfl)
theorem dX4_isLaw_187 : decode cX4_isLaw 187 = .ok (.getfield 61, 3) := dk_180 0 61 (dk_at dksX4_isLaw_8 0 rfl rfl)
theorem dX4_isLaw_190 : decode cX4_isLaw 190 = .ok (.bipush 6, 2) := dk_16 6 (dk_at dksX4_isLaw_8 3 rfl rfl)
theorem dX4_isLaw_192 : decode cX4_isLaw 192 = .ok (.iload_n 2, 1) := dk_28 (dk_at dksX4_isLaw_8 5 rfl rfl)
theorem dX4_isLaw_193 : decode cX4_isLaw 193 = .ok (.imul, 1) := dk_104 (dk_at dksX4_isLaw_8 6 rfl rfl)
theorem dX4_isLaw_194 : decode cX4_isLaw 194 = .ok (.iload 11, 2) := dk_21 11 (dk_at dksX4_isLaw_8 7 rfl rfl)
theorem dX4_isLaw_196 : decode cX4_isLaw 196 = .ok (.iconst 3, 1) := dk_6 (dk_at dksX4_isLaw_8 9 rfl rfl)
theorem dX4_isLaw_197 : decode cX4_isLaw 197 = .ok (.ishr, 1) := dk_122 (dk_at dksX4_isLaw_8 10 rfl rfl)
theorem dX4_isLaw_198 : decode cX4_isLaw 198 = .ok (.bipush 7, 2) := dk_16 7 (dk_at dksX4_isLaw_8 11 rfl rfl)
theorem dX4_isLaw_200 : decode cX4_isLaw 200 = .ok (.iand, 1) := dk_126 (dk_at dksX4_isLaw_8 13 rfl rfl)
theorem dX4_isLaw_201 : decode cX4_isLaw 201 = .ok (.iadd, 1) := dk_96 (dk_at dksX4_isLaw_8 14 rfl rfl)
theorem dX4_isLaw_202 : decode cX4_isLaw 202 = .ok (.laload, 1) := dk_47 (dk_at dksX4_isLaw_8 15 rfl rfl)
theorem dX4_isLaw_203 : decode cX4_isLaw 203 = .ok (.iload 11, 2) := dk_21 11 (dk_at dksX4_isLaw_8 16 rfl rfl)
theorem dX4_isLaw_205 : decode cX4_isLaw 205 = .ok (.bipush 6, 2) := dk_16 6 (dk_at dksX4_isLaw_8 18 rfl rfl)
theorem dX4_isLaw_207 : decode cX4_isLaw 207 = .ok (.ishr, 1) := dk_122 (dk_at dksX4_isLaw_8 20 rfl rfl)
theorem dX4_isLaw_208 : decode cX4_isLaw 208 = .ok (.iconst 3, 1) := dk_6 (dk_at dksX4_isLaw_8 21 rfl rfl)
theorem dX4_isLaw_209 : decode cX4_isLaw 209 = .ok (.iand, 1) := dk_126 (dk_at dksX4_isLaw_8 22 rfl rfl)
theorem dX4_isLaw_210 : decode cX4_isLaw 210 = .ok (.iconst 1, 1) := dk_4 (dk_at dksX4_isLaw_8 23 rfl rfl)
theorem dX4_isLaw_211 : decode cX4_isLaw 211 = .ok (.if_icmp .ne 7, 3) := dk_160 0 7 (dk_at dksX4_isLaw_9 0 rfl rfl)
theorem dX4_isLaw_214 : decode cX4_isLaw 214 = .ok (.lload_n 3, 1) := dk_33 (dk_at dksX4_isLaw_9 3 rfl rfl)
theorem dX4_isLaw_215 : decode cX4_isLaw 215 = .ok (.goto 5, 3) := dk_167 0 5 (dk_at dksX4_isLaw_9 4 rfl rfl)
theorem dX4_isLaw_218 : decode cX4_isLaw 218 = .ok (.lload 5, 2) := dk_22 5 (dk_at dksX4_isLaw_9 7 rfl rfl)
theorem dX4_isLaw_220 : decode cX4_isLaw 220 = .ok (.land, 1) := dk_127 (dk_at dksX4_isLaw_9 9 rfl rfl)
theorem dX4_isLaw_221 : decode cX4_isLaw 221 = .ok (.invokestatic 344, 3) := dk_184 1 88 (dk_at dksX4_isLaw_9 10 rfl rfl)
theorem dX4_isLaw_224 : decode cX4_isLaw 224 = .ok (.istore 13, 2) := dk_54 13 (dk_at dksX4_isLaw_9 13 rfl rfl)
theorem dX4_isLaw_226 : decode cX4_isLaw 226 = .ok (.iload 11, 2) := dk_21 11 (dk_at dksX4_isLaw_9 15 rfl rfl)
theorem dX4_isLaw_228 : decode cX4_isLaw 228 = .ok (.bipush 8, 2) := dk_16 8 (dk_at dksX4_isLaw_9 17 rfl rfl)
theorem dX4_isLaw_230 : decode cX4_isLaw 230 = .ok (.ishr, 1) := dk_122 (dk_at dksX4_isLaw_9 19 rfl rfl)
theorem dX4_isLaw_231 : decode cX4_isLaw 231 = .ok (.iconst 3, 1) := dk_6 (dk_at dksX4_isLaw_9 20 rfl rfl)
theorem dX4_isLaw_232 : decode cX4_isLaw 232 = .ok (.iand, 1) := dk_126 (dk_at dksX4_isLaw_9 21 rfl rfl)
theorem dX4_isLaw_233 : decode cX4_isLaw 233 = .ok (.istore 14, 2) := dk_54 14 (dk_at dksX4_isLaw_9 22 rfl rfl)
theorem dX4_isLaw_235 : decode cX4_isLaw 235 = .ok (.iload 11, 2) := dk_21 11 (dk_at dksX4_isLaw_10 0 rfl rfl)
theorem dX4_isLaw_237 : decode cX4_isLaw 237 = .ok (.bipush 10, 2) := dk_16 10 (dk_at dksX4_isLaw_10 2 rfl rfl)
theorem dX4_isLaw_239 : decode cX4_isLaw 239 = .ok (.ishr, 1) := dk_122 (dk_at dksX4_isLaw_10 4 rfl rfl)
theorem dX4_isLaw_240 : decode cX4_isLaw 240 = .ok (.istore 15, 2) := dk_54 15 (dk_at dksX4_isLaw_10 5 rfl rfl)
theorem dX4_isLaw_242 : decode cX4_isLaw 242 = .ok (.aload_n 0, 1) := dk_42 (dk_at dksX4_isLaw_10 7 rfl rfl)
theorem dX4_isLaw_243 : decode cX4_isLaw 243 = .ok (.getfield 57, 3) := dk_180 0 57 (dk_at dksX4_isLaw_10 8 rfl rfl)
theorem dX4_isLaw_246 : decode cX4_isLaw 246 = .ok (.iload 9, 2) := dk_21 9 (dk_at dksX4_isLaw_10 11 rfl rfl)
theorem dX4_isLaw_248 : decode cX4_isLaw 248 = .ok (.iload 14, 2) := dk_21 14 (dk_at dksX4_isLaw_10 13 rfl rfl)
theorem dX4_isLaw_250 : decode cX4_isLaw 250 = .ok (.ifCond .ne 18, 3) := dk_154 0 18 (dk_at dksX4_isLaw_10 15 rfl rfl)
theorem dX4_isLaw_253 : decode cX4_isLaw 253 = .ok (.iload 13, 2) := dk_21 13 (dk_at dksX4_isLaw_10 18 rfl rfl)
theorem dX4_isLaw_255 : decode cX4_isLaw 255 = .ok (.iload 15, 2) := dk_21 15 (dk_at dksX4_isLaw_10 20 rfl rfl)
theorem dX4_isLaw_257 : decode cX4_isLaw 257 = .ok (.if_icmp .ge 7, 3) := dk_162 0 7 (dk_at dksX4_isLaw_11 0 rfl rfl)
theorem dX4_isLaw_260 : decode cX4_isLaw 260 = .ok (.iconst 1, 1) := dk_4 (dk_at dksX4_isLaw_11 3 rfl rfl)
theorem dX4_isLaw_261 : decode cX4_isLaw 261 = .ok (.goto 40, 3) := dk_167 0 40 (dk_at dksX4_isLaw_11 4 rfl rfl)
theorem dX4_isLaw_264 : decode cX4_isLaw 264 = .ok (.iconst 0, 1) := dk_3 (dk_at dksX4_isLaw_11 7 rfl rfl)
theorem dX4_isLaw_265 : decode cX4_isLaw 265 = .ok (.goto 36, 3) := dk_167 0 36 (dk_at dksX4_isLaw_11 8 rfl rfl)
theorem dX4_isLaw_268 : decode cX4_isLaw 268 = .ok (.iload 14, 2) := dk_21 14 (dk_at dksX4_isLaw_11 11 rfl rfl)
theorem dX4_isLaw_270 : decode cX4_isLaw 270 = .ok (.iconst 1, 1) := dk_4 (dk_at dksX4_isLaw_11 13 rfl rfl)
theorem dX4_isLaw_271 : decode cX4_isLaw 271 = .ok (.if_icmp .ne 18, 3) := dk_160 0 18 (dk_at dksX4_isLaw_11 14 rfl rfl)
theorem dX4_isLaw_274 : decode cX4_isLaw 274 = .ok (.iload 13, 2) := dk_21 13 (dk_at dksX4_isLaw_11 17 rfl rfl)
theorem dX4_isLaw_276 : decode cX4_isLaw 276 = .ok (.iload 15, 2) := dk_21 15 (dk_at dksX4_isLaw_11 19 rfl rfl)
theorem dX4_isLaw_278 : decode cX4_isLaw 278 = .ok (.if_icmp .ne 7, 3) := dk_160 0 7 (dk_at dksX4_isLaw_11 21 rfl rfl)
theorem dX4_isLaw_281 : decode cX4_isLaw 281 = .ok (.iconst 1, 1) := dk_4 (dk_at dksX4_isLaw_12 0 rfl rfl)
theorem dX4_isLaw_282 : decode cX4_isLaw 282 = .ok (.goto 19, 3) := dk_167 0 19 (dk_at dksX4_isLaw_12 1 rfl rfl)
theorem dX4_isLaw_285 : decode cX4_isLaw 285 = .ok (.iconst 0, 1) := dk_3 (dk_at dksX4_isLaw_12 4 rfl rfl)
theorem dX4_isLaw_286 : decode cX4_isLaw 286 = .ok (.goto 15, 3) := dk_167 0 15 (dk_at dksX4_isLaw_12 5 rfl rfl)
theorem dX4_isLaw_289 : decode cX4_isLaw 289 = .ok (.iload 13, 2) := dk_21 13 (dk_at dksX4_isLaw_12 8 rfl rfl)
theorem dX4_isLaw_291 : decode cX4_isLaw 291 = .ok (.iload 15, 2) := dk_21 15 (dk_at dksX4_isLaw_12 10 rfl rfl)
theorem dX4_isLaw_293 : decode cX4_isLaw 293 = .ok (.if_icmp .le 7, 3) := dk_164 0 7 (dk_at dksX4_isLaw_12 12 rfl rfl)
theorem dX4_isLaw_296 : decode cX4_isLaw 296 = .ok (.iconst 1, 1) := dk_4 (dk_at dksX4_isLaw_12 15 rfl rfl)
theorem dX4_isLaw_297 : decode cX4_isLaw 297 = .ok (.goto 4, 3) := dk_167 0 4 (dk_at dksX4_isLaw_12 16 rfl rfl)
theorem dX4_isLaw_300 : decode cX4_isLaw 300 = .ok (.iconst 0, 1) := dk_3 (dk_at dksX4_isLaw_12 19 rfl rfl)
theorem dX4_isLaw_301 : decode cX4_isLaw 301 = .ok (.bastore, 1) := dk_84 (dk_at dksX4_isLaw_12 20 rfl rfl)
theorem dX4_isLaw_302 : decode cX4_isLaw 302 = .ok (.iinc 9 1, 3) := dk_132 9 1 (dk_at dksX4_isLaw_12 21 rfl rfl)
theorem dX4_isLaw_305 : decode cX4_isLaw 305 = .ok (.iinc 10 1, 3) := dk_132 10 1 (dk_at dksX4_isLaw_13 0 rfl rfl)
theorem dX4_isLaw_308 : decode cX4_isLaw 308 = .ok (.goto (-302), 3) := dk_167 254 210 (dk_at dksX4_isLaw_13 3 rfl rfl)
theorem dX4_isLaw_311 : decode cX4_isLaw 311 = .ok (.aload_n 0, 1) := dk_42 (dk_at dksX4_isLaw_13 6 rfl rfl)
theorem dX4_isLaw_312 : decode cX4_isLaw 312 = .ok (.getfield 57, 3) := dk_180 0 57 (dk_at dksX4_isLaw_13 7 rfl rfl)
theorem dX4_isLaw_315 : decode cX4_isLaw 315 = .ok (.iconst 0, 1) := dk_3 (dk_at dksX4_isLaw_13 10 rfl rfl)
theorem dX4_isLaw_316 : decode cX4_isLaw 316 = .ok (.baload, 1) := dk_51 (dk_at dksX4_isLaw_13 11 rfl rfl)
theorem dX4_isLaw_317 : decode cX4_isLaw 317 = .ok (.ireturn, 1) := dk_172 (dk_at dksX4_isLaw_13 12 rfl rfl)
def dkwX4_bits_1 : List UInt8 := [32, 32, 7, 125, 97, 20, 0, 31, 127, 65, 32, 20, 0, 33, 105, 16, 56, 125, 136, 172]
abbrev dktX4_bits_1 : List UInt8 := dkwX4_bits_1 ++ []
def dkwX4_bits_0 : List UInt8 := [30, 30, 4, 125, 20, 0, 27, 127, 101, 65, 32, 20, 0, 29, 127, 32, 5, 125, 20, 0, 29, 127, 97, 65]
abbrev dktX4_bits_0 : List UInt8 := dkwX4_bits_0 ++ dktX4_bits_1
theorem dksX4_bits_0 : cX4_bits.data.toList.drop 0 = dktX4_bits_0 := by decide +kernel
theorem dksX4_bits_1 : cX4_bits.data.toList.drop 24 = dktX4_bits_1 := dk_seg dksX4_bits_0 24 rfl rfl
theorem dX4_bits_0 : decode cX4_bits 0 = .ok (.lload_n 0, 1) := dk_30 (dk_at dksX4_bits_0 0 rfl rfl)
theorem dX4_bits_1 : decode cX4_bits 1 = .ok (.lload_n 0, 1) := dk_30 (dk_at dksX4_bits_0 1 rfl rfl)
theorem dX4_bits_2 : decode cX4_bits 2 = .ok (.iconst 1, 1) := dk_4 (dk_at dksX4_bits_0 2 rfl rfl)
theorem dX4_bits_3 : decode cX4_bits 3 = .ok (.lushr, 1) := dk_125 (dk_at dksX4_bits_0 3 rfl rfl)
theorem dX4_bits_4 : decode cX4_bits 4 = .ok (.ldc2_w 27, 3) := dk_20 0 27 (dk_at dksX4_bits_0 4 rfl rfl)
theorem dX4_bits_7 : decode cX4_bits 7 = .ok (.land, 1) := dk_127 (dk_at dksX4_bits_0 7 rfl rfl)
theorem dX4_bits_8 : decode cX4_bits 8 = .ok (.lsub, 1) := dk_101 (dk_at dksX4_bits_0 8 rfl rfl)
theorem dX4_bits_9 : decode cX4_bits 9 = .ok (.lstore_n 2, 1) := dk_65 (dk_at dksX4_bits_0 9 rfl rfl)
theorem dX4_bits_10 : decode cX4_bits 10 = .ok (.lload_n 2, 1) := dk_32 (dk_at dksX4_bits_0 10 rfl rfl)
theorem dX4_bits_11 : decode cX4_bits 11 = .ok (.ldc2_w 29, 3) := dk_20 0 29 (dk_at dksX4_bits_0 11 rfl rfl)
theorem dX4_bits_14 : decode cX4_bits 14 = .ok (.land, 1) := dk_127 (dk_at dksX4_bits_0 14 rfl rfl)
theorem dX4_bits_15 : decode cX4_bits 15 = .ok (.lload_n 2, 1) := dk_32 (dk_at dksX4_bits_0 15 rfl rfl)
theorem dX4_bits_16 : decode cX4_bits 16 = .ok (.iconst 2, 1) := dk_5 (dk_at dksX4_bits_0 16 rfl rfl)
theorem dX4_bits_17 : decode cX4_bits 17 = .ok (.lushr, 1) := dk_125 (dk_at dksX4_bits_0 17 rfl rfl)
theorem dX4_bits_18 : decode cX4_bits 18 = .ok (.ldc2_w 29, 3) := dk_20 0 29 (dk_at dksX4_bits_0 18 rfl rfl)
theorem dX4_bits_21 : decode cX4_bits 21 = .ok (.land, 1) := dk_127 (dk_at dksX4_bits_0 21 rfl rfl)
theorem dX4_bits_22 : decode cX4_bits 22 = .ok (.ladd, 1) := dk_97 (dk_at dksX4_bits_0 22 rfl rfl)
theorem dX4_bits_23 : decode cX4_bits 23 = .ok (.lstore_n 2, 1) := dk_65 (dk_at dksX4_bits_0 23 rfl rfl)
theorem dX4_bits_24 : decode cX4_bits 24 = .ok (.lload_n 2, 1) := dk_32 (dk_at dksX4_bits_1 0 rfl rfl)
theorem dX4_bits_25 : decode cX4_bits 25 = .ok (.lload_n 2, 1) := dk_32 (dk_at dksX4_bits_1 1 rfl rfl)
theorem dX4_bits_26 : decode cX4_bits 26 = .ok (.iconst 4, 1) := dk_7 (dk_at dksX4_bits_1 2 rfl rfl)
theorem dX4_bits_27 : decode cX4_bits 27 = .ok (.lushr, 1) := dk_125 (dk_at dksX4_bits_1 3 rfl rfl)
theorem dX4_bits_28 : decode cX4_bits 28 = .ok (.ladd, 1) := dk_97 (dk_at dksX4_bits_1 4 rfl rfl)
theorem dX4_bits_29 : decode cX4_bits 29 = .ok (.ldc2_w 31, 3) := dk_20 0 31 (dk_at dksX4_bits_1 5 rfl rfl)
theorem dX4_bits_32 : decode cX4_bits 32 = .ok (.land, 1) := dk_127 (dk_at dksX4_bits_1 8 rfl rfl)
theorem dX4_bits_33 : decode cX4_bits 33 = .ok (.lstore_n 2, 1) := dk_65 (dk_at dksX4_bits_1 9 rfl rfl)
theorem dX4_bits_34 : decode cX4_bits 34 = .ok (.lload_n 2, 1) := dk_32 (dk_at dksX4_bits_1 10 rfl rfl)
theorem dX4_bits_35 : decode cX4_bits 35 = .ok (.ldc2_w 33, 3) := dk_20 0 33 (dk_at dksX4_bits_1 11 rfl rfl)
theorem dX4_bits_38 : decode cX4_bits 38 = .ok (.lmul, 1) := dk_105 (dk_at dksX4_bits_1 14 rfl rfl)
theorem dX4_bits_39 : decode cX4_bits 39 = .ok (.bipush 56, 2) := dk_16 56 (dk_at dksX4_bits_1 15 rfl rfl)
theorem dX4_bits_41 : decode cX4_bits 41 = .ok (.lushr, 1) := dk_125 (dk_at dksX4_bits_1 17 rfl rfl)
theorem dX4_bits_42 : decode cX4_bits 42 = .ok (.l2i, 1) := dk_136 (dk_at dksX4_bits_1 18 rfl rfl)
theorem dX4_bits_43 : decode cX4_bits 43 = .ok (.ireturn, 1) := dk_172 (dk_at dksX4_bits_1 19 rfl rfl)
def dkwX4_at_2 : List UInt8 := [167, 0, 8, 42, 27, 182, 1, 126, 172]
abbrev dktX4_at_2 : List UInt8 := dkwX4_at_2 ++ []
def dkwX4_at_1 : List UInt8 := [184, 0, 168, 154, 0, 5, 2, 172, 42, 28, 182, 1, 149, 29, 154, 0, 11, 42, 27, 182, 1, 123]
abbrev dktX4_at_1 : List UInt8 := dkwX4_at_1 ++ dktX4_at_2
def dkwX4_at_0 : List UInt8 := [42, 3, 181, 0, 1, 42, 27, 182, 1, 58, 153, 0, 19, 28, 184, 1, 146, 153, 0, 12, 29, 3, 4]
abbrev dktX4_at_0 : List UInt8 := dkwX4_at_0 ++ dktX4_at_1
theorem dksX4_at_0 : cX4_at.data.toList.drop 0 = dktX4_at_0 := by decide +kernel
theorem dksX4_at_1 : cX4_at.data.toList.drop 23 = dktX4_at_1 := dk_seg dksX4_at_0 23 rfl rfl
theorem dksX4_at_2 : cX4_at.data.toList.drop 45 = dktX4_at_2 := dk_seg dksX4_at_1 22 rfl rfl
theorem dX4_at_0 : decode cX4_at 0 = .ok (.aload_n 0, 1) := dk_42 (dk_at dksX4_at_0 0 rfl rfl)
theorem dX4_at_1 : decode cX4_at 1 = .ok (.iconst 0, 1) := dk_3 (dk_at dksX4_at_0 1 rfl rfl)
theorem dX4_at_2 : decode cX4_at 2 = .ok (.putfield 1, 3) := dk_181 0 1 (dk_at dksX4_at_0 2 rfl rfl)
theorem dX4_at_5 : decode cX4_at 5 = .ok (.aload_n 0, 1) := dk_42 (dk_at dksX4_at_0 5 rfl rfl)
theorem dX4_at_6 : decode cX4_at 6 = .ok (.iload_n 1, 1) := dk_27 (dk_at dksX4_at_0 6 rfl rfl)
theorem dX4_at_7 : decode cX4_at 7 = .ok (.invokevirtual 314, 3) := dk_182 1 58 (dk_at dksX4_at_0 7 rfl rfl)
theorem dX4_at_10 : decode cX4_at 10 = .ok (.ifCond .eq 19, 3) := dk_153 0 19 (dk_at dksX4_at_0 10 rfl rfl)
theorem dX4_at_13 : decode cX4_at 13 = .ok (.iload_n 2, 1) := dk_28 (dk_at dksX4_at_0 13 rfl rfl)
theorem dX4_at_14 : decode cX4_at 14 = .ok (.invokestatic 402, 3) := dk_184 1 146 (dk_at dksX4_at_0 14 rfl rfl)
theorem dX4_at_17 : decode cX4_at 17 = .ok (.ifCond .eq 12, 3) := dk_153 0 12 (dk_at dksX4_at_0 17 rfl rfl)
theorem dX4_at_20 : decode cX4_at 20 = .ok (.iload_n 3, 1) := dk_29 (dk_at dksX4_at_0 20 rfl rfl)
theorem dX4_at_21 : decode cX4_at 21 = .ok (.iconst 0, 1) := dk_3 (dk_at dksX4_at_0 21 rfl rfl)
theorem dX4_at_22 : decode cX4_at 22 = .ok (.iconst 1, 1) := dk_4 (dk_at dksX4_at_0 22 rfl rfl)
theorem dX4_at_23 : decode cX4_at 23 = .ok (.invokestatic 168, 3) := dk_184 0 168 (dk_at dksX4_at_1 0 rfl rfl)
theorem dX4_at_26 : decode cX4_at 26 = .ok (.ifCond .ne 5, 3) := dk_154 0 5 (dk_at dksX4_at_1 3 rfl rfl)
theorem dX4_at_29 : decode cX4_at 29 = .ok (.iconst (-1), 1) := dk_2 (dk_at dksX4_at_1 6 rfl rfl)
theorem dX4_at_30 : decode cX4_at 30 = .ok (.ireturn, 1) := dk_172 (dk_at dksX4_at_1 7 rfl rfl)
theorem dX4_at_31 : decode cX4_at 31 = .ok (.aload_n 0, 1) := dk_42 (dk_at dksX4_at_1 8 rfl rfl)
theorem dX4_at_32 : decode cX4_at 32 = .ok (.iload_n 2, 1) := dk_28 (dk_at dksX4_at_1 9 rfl rfl)
theorem dX4_at_33 : decode cX4_at 33 = .ok (.invokevirtual 405, 3) := dk_182 1 149 (dk_at dksX4_at_1 10 rfl rfl)
theorem dX4_at_36 : decode cX4_at 36 = .ok (.iload_n 3, 1) := dk_29 (dk_at dksX4_at_1 13 rfl rfl)
theorem dX4_at_37 : decode cX4_at 37 = .ok (.ifCond .ne 11, 3) := dk_154 0 11 (dk_at dksX4_at_1 14 rfl rfl)
theorem dX4_at_40 : decode cX4_at 40 = .ok (.aload_n 0, 1) := dk_42 (dk_at dksX4_at_1 17 rfl rfl)
theorem dX4_at_41 : decode cX4_at 41 = .ok (.iload_n 1, 1) := dk_27 (dk_at dksX4_at_1 18 rfl rfl)
theorem dX4_at_42 : decode cX4_at 42 = .ok (.invokevirtual 379, 3) := dk_182 1 123 (dk_at dksX4_at_1 19 rfl rfl)
theorem dX4_at_45 : decode cX4_at 45 = .ok (.goto 8, 3) := dk_167 0 8 (dk_at dksX4_at_2 0 rfl rfl)
theorem dX4_at_48 : decode cX4_at 48 = .ok (.aload_n 0, 1) := dk_42 (dk_at dksX4_at_2 3 rfl rfl)
theorem dX4_at_49 : decode cX4_at 49 = .ok (.iload_n 1, 1) := dk_27 (dk_at dksX4_at_2 4 rfl rfl)
theorem dX4_at_50 : decode cX4_at 50 = .ok (.invokevirtual 382, 3) := dk_182 1 126 (dk_at dksX4_at_2 5 rfl rfl)
theorem dX4_at_53 : decode cX4_at 53 = .ok (.ireturn, 1) := dk_172 (dk_at dksX4_at_2 8 rfl rfl)
def dkwX4_many_2 : List UInt8 := [180, 1, 95, 167, 0, 7, 42, 180, 1, 92, 184, 1, 88, 172]
abbrev dktX4_many_2 : List UInt8 := dkwX4_many_2 ++ []
def dkwX4_many_1 : List UInt8 := [27, 182, 1, 149, 28, 154, 0, 12, 42, 180, 0, 41, 5, 46, 167, 0, 22, 28, 4, 160, 0, 10, 42]
abbrev dktX4_many_1 : List UInt8 := dkwX4_many_1 ++ dktX4_many_2
def dkwX4_many_0 : List UInt8 := [42, 3, 181, 0, 1, 27, 184, 1, 146, 153, 0, 12, 28, 3, 5, 184, 0, 168, 154, 0, 5, 2, 172, 42]
abbrev dktX4_many_0 : List UInt8 := dkwX4_many_0 ++ dktX4_many_1
theorem dksX4_many_0 : cX4_many.data.toList.drop 0 = dktX4_many_0 := by decide +kernel
theorem dksX4_many_1 : cX4_many.data.toList.drop 24 = dktX4_many_1 := dk_seg dksX4_many_0 24 rfl rfl
theorem dksX4_many_2 : cX4_many.data.toList.drop 47 = dktX4_many_2 := dk_seg dksX4_many_1 23 rfl rfl
theorem dX4_many_0 : decode cX4_many 0 = .ok (.aload_n 0, 1) := dk_42 (dk_at dksX4_many_0 0 rfl rfl)
theorem dX4_many_1 : decode cX4_many 1 = .ok (.iconst 0, 1) := dk_3 (dk_at dksX4_many_0 1 rfl rfl)
theorem dX4_many_2 : decode cX4_many 2 = .ok (.putfield 1, 3) := dk_181 0 1 (dk_at dksX4_many_0 2 rfl rfl)
theorem dX4_many_5 : decode cX4_many 5 = .ok (.iload_n 1, 1) := dk_27 (dk_at dksX4_many_0 5 rfl rfl)
theorem dX4_many_6 : decode cX4_many 6 = .ok (.invokestatic 402, 3) := dk_184 1 146 (dk_at dksX4_many_0 6 rfl rfl)
theorem dX4_many_9 : decode cX4_many 9 = .ok (.ifCond .eq 12, 3) := dk_153 0 12 (dk_at dksX4_many_0 9 rfl rfl)
theorem dX4_many_12 : decode cX4_many 12 = .ok (.iload_n 2, 1) := dk_28 (dk_at dksX4_many_0 12 rfl rfl)
theorem dX4_many_13 : decode cX4_many 13 = .ok (.iconst 0, 1) := dk_3 (dk_at dksX4_many_0 13 rfl rfl)
theorem dX4_many_14 : decode cX4_many 14 = .ok (.iconst 2, 1) := dk_5 (dk_at dksX4_many_0 14 rfl rfl)
theorem dX4_many_15 : decode cX4_many 15 = .ok (.invokestatic 168, 3) := dk_184 0 168 (dk_at dksX4_many_0 15 rfl rfl)
theorem dX4_many_18 : decode cX4_many 18 = .ok (.ifCond .ne 5, 3) := dk_154 0 5 (dk_at dksX4_many_0 18 rfl rfl)
theorem dX4_many_21 : decode cX4_many 21 = .ok (.iconst (-1), 1) := dk_2 (dk_at dksX4_many_0 21 rfl rfl)
theorem dX4_many_22 : decode cX4_many 22 = .ok (.ireturn, 1) := dk_172 (dk_at dksX4_many_0 22 rfl rfl)
theorem dX4_many_23 : decode cX4_many 23 = .ok (.aload_n 0, 1) := dk_42 (dk_at dksX4_many_0 23 rfl rfl)
theorem dX4_many_24 : decode cX4_many 24 = .ok (.iload_n 1, 1) := dk_27 (dk_at dksX4_many_1 0 rfl rfl)
theorem dX4_many_25 : decode cX4_many 25 = .ok (.invokevirtual 405, 3) := dk_182 1 149 (dk_at dksX4_many_1 1 rfl rfl)
theorem dX4_many_28 : decode cX4_many 28 = .ok (.iload_n 2, 1) := dk_28 (dk_at dksX4_many_1 4 rfl rfl)
theorem dX4_many_29 : decode cX4_many 29 = .ok (.ifCond .ne 12, 3) := dk_154 0 12 (dk_at dksX4_many_1 5 rfl rfl)
theorem dX4_many_32 : decode cX4_many 32 = .ok (.aload_n 0, 1) := dk_42 (dk_at dksX4_many_1 8 rfl rfl)
theorem dX4_many_33 : decode cX4_many 33 = .ok (.getfield 41, 3) := dk_180 0 41 (dk_at dksX4_many_1 9 rfl rfl)
theorem dX4_many_36 : decode cX4_many 36 = .ok (.iconst 2, 1) := dk_5 (dk_at dksX4_many_1 12 rfl rfl)
theorem dX4_many_37 : decode cX4_many 37 = .ok (.iaload, 1) := dk_46 (dk_at dksX4_many_1 13 rfl rfl)
theorem dX4_many_38 : decode cX4_many 38 = .ok (.goto 22, 3) := dk_167 0 22 (dk_at dksX4_many_1 14 rfl rfl)
theorem dX4_many_41 : decode cX4_many 41 = .ok (.iload_n 2, 1) := dk_28 (dk_at dksX4_many_1 17 rfl rfl)
theorem dX4_many_42 : decode cX4_many 42 = .ok (.iconst 1, 1) := dk_4 (dk_at dksX4_many_1 18 rfl rfl)
theorem dX4_many_43 : decode cX4_many 43 = .ok (.if_icmp .ne 10, 3) := dk_160 0 10 (dk_at dksX4_many_1 19 rfl rfl)
theorem dX4_many_46 : decode cX4_many 46 = .ok (.aload_n 0, 1) := dk_42 (dk_at dksX4_many_1 22 rfl rfl)
theorem dX4_many_47 : decode cX4_many 47 = .ok (.getfield 351, 3) := dk_180 1 95 (dk_at dksX4_many_2 0 rfl rfl)
theorem dX4_many_50 : decode cX4_many 50 = .ok (.goto 7, 3) := dk_167 0 7 (dk_at dksX4_many_2 3 rfl rfl)
theorem dX4_many_53 : decode cX4_many 53 = .ok (.aload_n 0, 1) := dk_42 (dk_at dksX4_many_2 6 rfl rfl)
theorem dX4_many_54 : decode cX4_many 54 = .ok (.getfield 348, 3) := dk_180 1 92 (dk_at dksX4_many_2 7 rfl rfl)
theorem dX4_many_57 : decode cX4_many 57 = .ok (.invokestatic 344, 3) := dk_184 1 88 (dk_at dksX4_many_2 10 rfl rfl)
theorem dX4_many_60 : decode cX4_many 60 = .ok (.ireturn, 1) := dk_172 (dk_at dksX4_many_2 13 rfl rfl)
def dkwX4_would_4 : List UInt8 := [182, 1, 104, 153, 0, 7, 4, 167, 0, 4, 3, 172]
abbrev dktX4_would_4 : List UInt8 := dkwX4_would_4 ++ []
def dkwX4_would_3 : List UInt8 := [42, 21, 4, 27, 42, 180, 1, 95, 42, 180, 1, 92, 42, 27, 182, 1, 123, 42, 27, 182, 1, 126]
abbrev dktX4_would_3 : List UInt8 := dkwX4_would_3 ++ dktX4_would_4
def dkwX4_would_2 : List UInt8 := [104, 29, 96, 104, 96, 54, 4, 42, 180, 0, 41, 21, 4, 46, 154, 0, 5, 2, 172, 42, 28, 182, 1, 149]
abbrev dktX4_would_2 : List UInt8 := dkwX4_would_2 ++ dktX4_would_3
def dkwX4_would_1 : List UInt8 := [184, 0, 168, 154, 0, 5, 2, 172, 16, 86, 16, 42, 5, 42, 180, 0, 41, 16, 6, 27, 96, 46, 4, 100]
abbrev dktX4_would_1 : List UInt8 := dkwX4_would_1 ++ dktX4_would_2
def dkwX4_would_0 : List UInt8 := [42, 3, 181, 0, 1, 42, 27, 182, 1, 58, 153, 0, 19, 28, 184, 1, 146, 153, 0, 12, 29, 3, 4]
abbrev dktX4_would_0 : List UInt8 := dkwX4_would_0 ++ dktX4_would_1
theorem dksX4_would_0 : cX4_would.data.toList.drop 0 = dktX4_would_0 := by decide +kernel
theorem dksX4_would_1 : cX4_would.data.toList.drop 23 = dktX4_would_1 := dk_seg dksX4_would_0 23 rfl rfl
theorem dksX4_would_2 : cX4_would.data.toList.drop 47 = dktX4_would_2 := dk_seg dksX4_would_1 24 rfl rfl
theorem dksX4_would_3 : cX4_would.data.toList.drop 71 = dktX4_would_3 := dk_seg dksX4_would_2 24 rfl rfl
theorem dksX4_would_4 : cX4_would.data.toList.drop 93 = dktX4_would_4 := dk_seg dksX4_would_3 22 rfl rfl
theorem dX4_would_0 : decode cX4_would 0 = .ok (.aload_n 0, 1) := dk_42 (dk_at dksX4_would_0 0 rfl rfl)
theorem dX4_would_1 : decode cX4_would 1 = .ok (.iconst 0, 1) := dk_3 (dk_at dksX4_would_0 1 rfl rfl)
theorem dX4_would_2 : decode cX4_would 2 = .ok (.putfield 1, 3) := dk_181 0 1 (dk_at dksX4_would_0 2 rfl rfl)
theorem dX4_would_5 : decode cX4_would 5 = .ok (.aload_n 0, 1) := dk_42 (dk_at dksX4_would_0 5 rfl rfl)
theorem dX4_would_6 : decode cX4_would 6 = .ok (.iload_n 1, 1) := dk_27 (dk_at dksX4_would_0 6 rfl rfl)
theorem dX4_would_7 : decode cX4_would 7 = .ok (.invokevirtual 314, 3) := dk_182 1 58 (dk_at dksX4_would_0 7 rfl rfl)
theorem dX4_would_10 : decode cX4_would 10 = .ok (.ifCond .eq 19, 3) := dk_153 0 19 (dk_at dksX4_would_0 10 rfl rfl)
theorem dX4_would_13 : decode cX4_would 13 = .ok (.iload_n 2, 1) := dk_28 (dk_at dksX4_would_0 13 rfl rfl)
theorem dX4_would_14 : decode cX4_would 14 = .ok (.invokestatic 402, 3) := dk_184 1 146 (dk_at dksX4_would_0 14 rfl rfl)
theorem dX4_would_17 : decode cX4_would 17 = .ok (.ifCond .eq 12, 3) := dk_153 0 12 (dk_at dksX4_would_0 17 rfl rfl)
theorem dX4_would_20 : decode cX4_would 20 = .ok (.iload_n 3, 1) := dk_29 (dk_at dksX4_would_0 20 rfl rfl)
theorem dX4_would_21 : decode cX4_would 21 = .ok (.iconst 0, 1) := dk_3 (dk_at dksX4_would_0 21 rfl rfl)
theorem dX4_would_22 : decode cX4_would 22 = .ok (.iconst 1, 1) := dk_4 (dk_at dksX4_would_0 22 rfl rfl)
theorem dX4_would_23 : decode cX4_would 23 = .ok (.invokestatic 168, 3) := dk_184 0 168 (dk_at dksX4_would_1 0 rfl rfl)
theorem dX4_would_26 : decode cX4_would 26 = .ok (.ifCond .ne 5, 3) := dk_154 0 5 (dk_at dksX4_would_1 3 rfl rfl)
theorem dX4_would_29 : decode cX4_would 29 = .ok (.iconst (-1), 1) := dk_2 (dk_at dksX4_would_1 6 rfl rfl)
theorem dX4_would_30 : decode cX4_would 30 = .ok (.ireturn, 1) := dk_172 (dk_at dksX4_would_1 7 rfl rfl)
theorem dX4_would_31 : decode cX4_would 31 = .ok (.bipush 86, 2) := dk_16 86 (dk_at dksX4_would_1 8 rfl rfl)
theorem dX4_would_33 : decode cX4_would 33 = .ok (.bipush 42, 2) := dk_16 42 (dk_at dksX4_would_1 10 rfl rfl)
theorem dX4_would_35 : decode cX4_would 35 = .ok (.iconst 2, 1) := dk_5 (dk_at dksX4_would_1 12 rfl rfl)
theorem dX4_would_36 : decode cX4_would 36 = .ok (.aload_n 0, 1) := dk_42 (dk_at dksX4_would_1 13 rfl rfl)
theorem dX4_would_37 : decode cX4_would 37 = .ok (.getfield 41, 3) := dk_180 0 41 (dk_at dksX4_would_1 14 rfl rfl)
theorem dX4_would_40 : decode cX4_would 40 = .ok (.bipush 6, 2) := dk_16 6 (dk_at dksX4_would_1 17 rfl rfl)
theorem dX4_would_42 : decode cX4_would 42 = .ok (.iload_n 1, 1) := dk_27 (dk_at dksX4_would_1 19 rfl rfl)
theorem dX4_would_43 : decode cX4_would 43 = .ok (.iadd, 1) := dk_96 (dk_at dksX4_would_1 20 rfl rfl)
theorem dX4_would_44 : decode cX4_would 44 = .ok (.iaload, 1) := dk_46 (dk_at dksX4_would_1 21 rfl rfl)
theorem dX4_would_45 : decode cX4_would 45 = .ok (.iconst 1, 1) := dk_4 (dk_at dksX4_would_1 22 rfl rfl)
theorem dX4_would_46 : decode cX4_would 46 = .ok (.isub, 1) := dk_100 (dk_at dksX4_would_1 23 rfl rfl)
theorem dX4_would_47 : decode cX4_would 47 = .ok (.imul, 1) := dk_104 (dk_at dksX4_would_2 0 rfl rfl)
theorem dX4_would_48 : decode cX4_would 48 = .ok (.iload_n 3, 1) := dk_29 (dk_at dksX4_would_2 1 rfl rfl)
theorem dX4_would_49 : decode cX4_would 49 = .ok (.iadd, 1) := dk_96 (dk_at dksX4_would_2 2 rfl rfl)
theorem dX4_would_50 : decode cX4_would 50 = .ok (.imul, 1) := dk_104 (dk_at dksX4_would_2 3 rfl rfl)
theorem dX4_would_51 : decode cX4_would 51 = .ok (.iadd, 1) := dk_96 (dk_at dksX4_would_2 4 rfl rfl)
theorem dX4_would_52 : decode cX4_would 52 = .ok (.istore 4, 2) := dk_54 4 (dk_at dksX4_would_2 5 rfl rfl)
theorem dX4_would_54 : decode cX4_would 54 = .ok (.aload_n 0, 1) := dk_42 (dk_at dksX4_would_2 7 rfl rfl)
theorem dX4_would_55 : decode cX4_would 55 = .ok (.getfield 41, 3) := dk_180 0 41 (dk_at dksX4_would_2 8 rfl rfl)
theorem dX4_would_58 : decode cX4_would 58 = .ok (.iload 4, 2) := dk_21 4 (dk_at dksX4_would_2 11 rfl rfl)
theorem dX4_would_60 : decode cX4_would 60 = .ok (.iaload, 1) := dk_46 (dk_at dksX4_would_2 13 rfl rfl)
theorem dX4_would_61 : decode cX4_would 61 = .ok (.ifCond .ne 5, 3) := dk_154 0 5 (dk_at dksX4_would_2 14 rfl rfl)
theorem dX4_would_64 : decode cX4_would 64 = .ok (.iconst (-1), 1) := dk_2 (dk_at dksX4_would_2 17 rfl rfl)
theorem dX4_would_65 : decode cX4_would 65 = .ok (.ireturn, 1) := dk_172 (dk_at dksX4_would_2 18 rfl rfl)
theorem dX4_would_66 : decode cX4_would 66 = .ok (.aload_n 0, 1) := dk_42 (dk_at dksX4_would_2 19 rfl rfl)
theorem dX4_would_67 : decode cX4_would 67 = .ok (.iload_n 2, 1) := dk_28 (dk_at dksX4_would_2 20 rfl rfl)
theorem dX4_would_68 : decode cX4_would 68 = .ok (.invokevirtual 405, 3) := dk_182 1 149 (dk_at dksX4_would_2 21 rfl rfl)
theorem dX4_would_71 : decode cX4_would 71 = .ok (.aload_n 0, 1) := dk_42 (dk_at dksX4_would_3 0 rfl rfl)
theorem dX4_would_72 : decode cX4_would 72 = .ok (.iload 4, 2) := dk_21 4 (dk_at dksX4_would_3 1 rfl rfl)
theorem dX4_would_74 : decode cX4_would 74 = .ok (.iload_n 1, 1) := dk_27 (dk_at dksX4_would_3 3 rfl rfl)
theorem dX4_would_75 : decode cX4_would 75 = .ok (.aload_n 0, 1) := dk_42 (dk_at dksX4_would_3 4 rfl rfl)
theorem dX4_would_76 : decode cX4_would 76 = .ok (.getfield 351, 3) := dk_180 1 95 (dk_at dksX4_would_3 5 rfl rfl)
theorem dX4_would_79 : decode cX4_would 79 = .ok (.aload_n 0, 1) := dk_42 (dk_at dksX4_would_3 8 rfl rfl)
theorem dX4_would_80 : decode cX4_would 80 = .ok (.getfield 348, 3) := dk_180 1 92 (dk_at dksX4_would_3 9 rfl rfl)
theorem dX4_would_83 : decode cX4_would 83 = .ok (.aload_n 0, 1) := dk_42 (dk_at dksX4_would_3 12 rfl rfl)
theorem dX4_would_84 : decode cX4_would 84 = .ok (.iload_n 1, 1) := dk_27 (dk_at dksX4_would_3 13 rfl rfl)
theorem dX4_would_85 : decode cX4_would 85 = .ok (.invokevirtual 379, 3) := dk_182 1 123 (dk_at dksX4_would_3 14 rfl rfl)
theorem dX4_would_88 : decode cX4_would 88 = .ok (.aload_n 0, 1) := dk_42 (dk_at dksX4_would_3 17 rfl rfl)
theorem dX4_would_89 : decode cX4_would 89 = .ok (.iload_n 1, 1) := dk_27 (dk_at dksX4_would_3 18 rfl rfl)
theorem dX4_would_90 : decode cX4_would 90 = .ok (.invokevirtual 382, 3) := dk_182 1 126 (dk_at dksX4_would_3 19 rfl rfl)
theorem dX4_would_93 : decode cX4_would 93 = .ok (.invokevirtual 360, 3) := dk_182 1 104 (dk_at dksX4_would_4 0 rfl rfl)
theorem dX4_would_96 : decode cX4_would 96 = .ok (.ifCond .eq 7, 3) := dk_153 0 7 (dk_at dksX4_would_4 3 rfl rfl)
theorem dX4_would_99 : decode cX4_would 99 = .ok (.iconst 1, 1) := dk_4 (dk_at dksX4_would_4 6 rfl rfl)
theorem dX4_would_100 : decode cX4_would 100 = .ok (.goto 4, 3) := dk_167 0 4 (dk_at dksX4_would_4 7 rfl rfl)
theorem dX4_would_103 : decode cX4_would 103 = .ok (.iconst 0, 1) := dk_3 (dk_at dksX4_would_4 10 rfl rfl)
theorem dX4_would_104 : decode cX4_would 104 = .ok (.ireturn, 1) := dk_172 (dk_at dksX4_would_4 11 rfl rfl)
def dkwX4_stands_2 : List UInt8 := [132, 2, 1, 167, 255, 231, 2, 172]
abbrev dktX4_stands_2 : List UInt8 := dkwX4_stands_2 ++ []
def dkwX4_stands_1 : List UInt8 := [28, 17, 2, 88, 163, 0, 24, 42, 180, 0, 72, 28, 47, 27, 184, 1, 68, 153, 0, 5, 28, 172]
abbrev dktX4_stands_1 : List UInt8 := dkwX4_stands_1 ++ dktX4_stands_2
def dkwX4_stands_0 : List UInt8 := [42, 3, 181, 0, 1, 42, 27, 182, 1, 58, 154, 0, 5, 2, 172, 42, 17, 2, 88, 182, 1, 149, 3, 61]
abbrev dktX4_stands_0 : List UInt8 := dkwX4_stands_0 ++ dktX4_stands_1
theorem dksX4_stands_0 : cX4_stands.data.toList.drop 0 = dktX4_stands_0 := by decide +kernel
theorem dksX4_stands_1 : cX4_stands.data.toList.drop 24 = dktX4_stands_1 := dk_seg dksX4_stands_0 24 rfl rfl
theorem dksX4_stands_2 : cX4_stands.data.toList.drop 46 = dktX4_stands_2 := dk_seg dksX4_stands_1 22 rfl rfl
theorem dX4_stands_0 : decode cX4_stands 0 = .ok (.aload_n 0, 1) := dk_42 (dk_at dksX4_stands_0 0 rfl rfl)
theorem dX4_stands_1 : decode cX4_stands 1 = .ok (.iconst 0, 1) := dk_3 (dk_at dksX4_stands_0 1 rfl rfl)
theorem dX4_stands_2 : decode cX4_stands 2 = .ok (.putfield 1, 3) := dk_181 0 1 (dk_at dksX4_stands_0 2 rfl rfl)
theorem dX4_stands_5 : decode cX4_stands 5 = .ok (.aload_n 0, 1) := dk_42 (dk_at dksX4_stands_0 5 rfl rfl)
theorem dX4_stands_6 : decode cX4_stands 6 = .ok (.iload_n 1, 1) := dk_27 (dk_at dksX4_stands_0 6 rfl rfl)
theorem dX4_stands_7 : decode cX4_stands 7 = .ok (.invokevirtual 314, 3) := dk_182 1 58 (dk_at dksX4_stands_0 7 rfl rfl)
theorem dX4_stands_10 : decode cX4_stands 10 = .ok (.ifCond .ne 5, 3) := dk_154 0 5 (dk_at dksX4_stands_0 10 rfl rfl)
theorem dX4_stands_13 : decode cX4_stands 13 = .ok (.iconst (-1), 1) := dk_2 (dk_at dksX4_stands_0 13 rfl rfl)
theorem dX4_stands_14 : decode cX4_stands 14 = .ok (.ireturn, 1) := dk_172 (dk_at dksX4_stands_0 14 rfl rfl)
theorem dX4_stands_15 : decode cX4_stands 15 = .ok (.aload_n 0, 1) := dk_42 (dk_at dksX4_stands_0 15 rfl rfl)
theorem dX4_stands_16 : decode cX4_stands 16 = .ok (.sipush 600, 3) := dk_17 2 88 (dk_at dksX4_stands_0 16 rfl rfl)
theorem dX4_stands_19 : decode cX4_stands 19 = .ok (.invokevirtual 405, 3) := dk_182 1 149 (dk_at dksX4_stands_0 19 rfl rfl)
theorem dX4_stands_22 : decode cX4_stands 22 = .ok (.iconst 0, 1) := dk_3 (dk_at dksX4_stands_0 22 rfl rfl)
theorem dX4_stands_23 : decode cX4_stands 23 = .ok (.istore_n 2, 1) := dk_61 (dk_at dksX4_stands_0 23 rfl rfl)
theorem dX4_stands_24 : decode cX4_stands 24 = .ok (.iload_n 2, 1) := dk_28 (dk_at dksX4_stands_1 0 rfl rfl)
theorem dX4_stands_25 : decode cX4_stands 25 = .ok (.sipush 600, 3) := dk_17 2 88 (dk_at dksX4_stands_1 1 rfl rfl)
theorem dX4_stands_28 : decode cX4_stands 28 = .ok (.if_icmp .gt 24, 3) := dk_163 0 24 (dk_at dksX4_stands_1 4 rfl rfl)
theorem dX4_stands_31 : decode cX4_stands 31 = .ok (.aload_n 0, 1) := dk_42 (dk_at dksX4_stands_1 7 rfl rfl)
theorem dX4_stands_32 : decode cX4_stands 32 = .ok (.getfield 72, 3) := dk_180 0 72 (dk_at dksX4_stands_1 8 rfl rfl)
theorem dX4_stands_35 : decode cX4_stands 35 = .ok (.iload_n 2, 1) := dk_28 (dk_at dksX4_stands_1 11 rfl rfl)
theorem dX4_stands_36 : decode cX4_stands 36 = .ok (.laload, 1) := dk_47 (dk_at dksX4_stands_1 12 rfl rfl)
theorem dX4_stands_37 : decode cX4_stands 37 = .ok (.iload_n 1, 1) := dk_27 (dk_at dksX4_stands_1 13 rfl rfl)
theorem dX4_stands_38 : decode cX4_stands 38 = .ok (.invokestatic 324, 3) := dk_184 1 68 (dk_at dksX4_stands_1 14 rfl rfl)
theorem dX4_stands_41 : decode cX4_stands 41 = .ok (.ifCond .eq 5, 3) := dk_153 0 5 (dk_at dksX4_stands_1 17 rfl rfl)
theorem dX4_stands_44 : decode cX4_stands 44 = .ok (.iload_n 2, 1) := dk_28 (dk_at dksX4_stands_1 20 rfl rfl)
theorem dX4_stands_45 : decode cX4_stands 45 = .ok (.ireturn, 1) := dk_172 (dk_at dksX4_stands_1 21 rfl rfl)
theorem dX4_stands_46 : decode cX4_stands 46 = .ok (.iinc 2 1, 3) := dk_132 2 1 (dk_at dksX4_stands_2 0 rfl rfl)
theorem dX4_stands_49 : decode cX4_stands 49 = .ok (.goto (-25), 3) := dk_167 255 231 (dk_at dksX4_stands_2 3 rfl rfl)
theorem dX4_stands_52 : decode cX4_stands 52 = .ok (.iconst (-1), 1) := dk_2 (dk_at dksX4_stands_2 6 rfl rfl)
theorem dX4_stands_53 : decode cX4_stands 53 = .ok (.ireturn, 1) := dk_172 (dk_at dksX4_stands_2 7 rfl rfl)
def dkwX4_anyway_2 : List UInt8 := [32, 42, 180, 1, 92, 127, 184, 1, 88, 172]
abbrev dktX4_anyway_2 : List UInt8 := dkwX4_anyway_2 ++ []
def dkwX4_anyway_1 : List UInt8 := [42, 9, 42, 180, 1, 46, 182, 1, 133, 42, 180, 1, 117, 27, 163, 0, 10, 42, 182, 1, 137, 167, 255, 244]
abbrev dktX4_anyway_1 : List UInt8 := dkwX4_anyway_1 ++ dktX4_anyway_2
def dkwX4_anyway_0 : List UInt8 := [42, 3, 181, 0, 1, 27, 184, 1, 146, 154, 0, 5, 2, 172, 42, 27, 182, 1, 149, 42, 180, 1, 92, 65]
abbrev dktX4_anyway_0 : List UInt8 := dkwX4_anyway_0 ++ dktX4_anyway_1
theorem dksX4_anyway_0 : cX4_anyway.data.toList.drop 0 = dktX4_anyway_0 := by decide +kernel
theorem dksX4_anyway_1 : cX4_anyway.data.toList.drop 24 = dktX4_anyway_1 := dk_seg dksX4_anyway_0 24 rfl rfl
theorem dksX4_anyway_2 : cX4_anyway.data.toList.drop 48 = dktX4_anyway_2 := dk_seg dksX4_anyway_1 24 rfl rfl
theorem dX4_anyway_0 : decode cX4_anyway 0 = .ok (.aload_n 0, 1) := dk_42 (dk_at dksX4_anyway_0 0 rfl rfl)
theorem dX4_anyway_1 : decode cX4_anyway 1 = .ok (.iconst 0, 1) := dk_3 (dk_at dksX4_anyway_0 1 rfl rfl)
theorem dX4_anyway_2 : decode cX4_anyway 2 = .ok (.putfield 1, 3) := dk_181 0 1 (dk_at dksX4_anyway_0 2 rfl rfl)
theorem dX4_anyway_5 : decode cX4_anyway 5 = .ok (.iload_n 1, 1) := dk_27 (dk_at dksX4_anyway_0 5 rfl rfl)
theorem dX4_anyway_6 : decode cX4_anyway 6 = .ok (.invokestatic 402, 3) := dk_184 1 146 (dk_at dksX4_anyway_0 6 rfl rfl)
theorem dX4_anyway_9 : decode cX4_anyway 9 = .ok (.ifCond .ne 5, 3) := dk_154 0 5 (dk_at dksX4_anyway_0 9 rfl rfl)
theorem dX4_anyway_12 : decode cX4_anyway 12 = .ok (.iconst (-1), 1) := dk_2 (dk_at dksX4_anyway_0 12 rfl rfl)
theorem dX4_anyway_13 : decode cX4_anyway 13 = .ok (.ireturn, 1) := dk_172 (dk_at dksX4_anyway_0 13 rfl rfl)
theorem dX4_anyway_14 : decode cX4_anyway 14 = .ok (.aload_n 0, 1) := dk_42 (dk_at dksX4_anyway_0 14 rfl rfl)
theorem dX4_anyway_15 : decode cX4_anyway 15 = .ok (.iload_n 1, 1) := dk_27 (dk_at dksX4_anyway_0 15 rfl rfl)
theorem dX4_anyway_16 : decode cX4_anyway 16 = .ok (.invokevirtual 405, 3) := dk_182 1 149 (dk_at dksX4_anyway_0 16 rfl rfl)
theorem dX4_anyway_19 : decode cX4_anyway 19 = .ok (.aload_n 0, 1) := dk_42 (dk_at dksX4_anyway_0 19 rfl rfl)
theorem dX4_anyway_20 : decode cX4_anyway 20 = .ok (.getfield 348, 3) := dk_180 1 92 (dk_at dksX4_anyway_0 20 rfl rfl)
theorem dX4_anyway_23 : decode cX4_anyway 23 = .ok (.lstore_n 2, 1) := dk_65 (dk_at dksX4_anyway_0 23 rfl rfl)
theorem dX4_anyway_24 : decode cX4_anyway 24 = .ok (.aload_n 0, 1) := dk_42 (dk_at dksX4_anyway_1 0 rfl rfl)
theorem dX4_anyway_25 : decode cX4_anyway 25 = .ok (.lconst 0, 1) := dk_9 (dk_at dksX4_anyway_1 1 rfl rfl)
theorem dX4_anyway_26 : decode cX4_anyway 26 = .ok (.aload_n 0, 1) := dk_42 (dk_at dksX4_anyway_1 2 rfl rfl)
theorem dX4_anyway_27 : decode cX4_anyway 27 = .ok (.getfield 302, 3) := dk_180 1 46 (dk_at dksX4_anyway_1 3 rfl rfl)
theorem dX4_anyway_30 : decode cX4_anyway 30 = .ok (.invokevirtual 389, 3) := dk_182 1 133 (dk_at dksX4_anyway_1 6 rfl rfl)
theorem dX4_anyway_33 : decode cX4_anyway 33 = .ok (.aload_n 0, 1) := dk_42 (dk_at dksX4_anyway_1 9 rfl rfl)
theorem dX4_anyway_34 : decode cX4_anyway 34 = .ok (.getfield 373, 3) := dk_180 1 117 (dk_at dksX4_anyway_1 10 rfl rfl)
theorem dX4_anyway_37 : decode cX4_anyway 37 = .ok (.iload_n 1, 1) := dk_27 (dk_at dksX4_anyway_1 13 rfl rfl)
theorem dX4_anyway_38 : decode cX4_anyway 38 = .ok (.if_icmp .gt 10, 3) := dk_163 0 10 (dk_at dksX4_anyway_1 14 rfl rfl)
theorem dX4_anyway_41 : decode cX4_anyway 41 = .ok (.aload_n 0, 1) := dk_42 (dk_at dksX4_anyway_1 17 rfl rfl)
theorem dX4_anyway_42 : decode cX4_anyway 42 = .ok (.invokevirtual 393, 3) := dk_182 1 137 (dk_at dksX4_anyway_1 18 rfl rfl)
theorem dX4_anyway_45 : decode cX4_anyway 45 = .ok (.goto (-12), 3) := dk_167 255 244 (dk_at dksX4_anyway_1 21 rfl rfl)
theorem dX4_anyway_48 : decode cX4_anyway 48 = .ok (.lload_n 2, 1) := dk_32 (dk_at dksX4_anyway_2 0 rfl rfl)
theorem dX4_anyway_49 : decode cX4_anyway 49 = .ok (.aload_n 0, 1) := dk_42 (dk_at dksX4_anyway_2 1 rfl rfl)
theorem dX4_anyway_50 : decode cX4_anyway 50 = .ok (.getfield 348, 3) := dk_180 1 92 (dk_at dksX4_anyway_2 2 rfl rfl)
theorem dX4_anyway_53 : decode cX4_anyway 53 = .ok (.land, 1) := dk_127 (dk_at dksX4_anyway_2 5 rfl rfl)
theorem dX4_anyway_54 : decode cX4_anyway 54 = .ok (.invokestatic 344, 3) := dk_184 1 88 (dk_at dksX4_anyway_2 6 rfl rfl)
theorem dX4_anyway_57 : decode cX4_anyway 57 = .ok (.ireturn, 1) := dk_172 (dk_at dksX4_anyway_2 9 rfl rfl)
def dkwX4_up_1 : List UInt8 := [182, 1, 152, 153, 0, 5, 27, 172, 132, 1, 1, 167, 255, 236, 2, 172]
abbrev dktX4_up_1 : List UInt8 := dkwX4_up_1 ++ []
def dkwX4_up_0 : List UInt8 := [42, 3, 181, 0, 1, 42, 17, 2, 88, 182, 1, 149, 3, 60, 27, 17, 2, 88, 163, 0, 19, 42, 27]
abbrev dktX4_up_0 : List UInt8 := dkwX4_up_0 ++ dktX4_up_1
theorem dksX4_up_0 : cX4_up.data.toList.drop 0 = dktX4_up_0 := by decide +kernel
theorem dksX4_up_1 : cX4_up.data.toList.drop 23 = dktX4_up_1 := dk_seg dksX4_up_0 23 rfl rfl
theorem dX4_up_0 : decode cX4_up 0 = .ok (.aload_n 0, 1) := dk_42 (dk_at dksX4_up_0 0 rfl rfl)
theorem dX4_up_1 : decode cX4_up 1 = .ok (.iconst 0, 1) := dk_3 (dk_at dksX4_up_0 1 rfl rfl)
theorem dX4_up_2 : decode cX4_up 2 = .ok (.putfield 1, 3) := dk_181 0 1 (dk_at dksX4_up_0 2 rfl rfl)
theorem dX4_up_5 : decode cX4_up 5 = .ok (.aload_n 0, 1) := dk_42 (dk_at dksX4_up_0 5 rfl rfl)
theorem dX4_up_6 : decode cX4_up 6 = .ok (.sipush 600, 3) := dk_17 2 88 (dk_at dksX4_up_0 6 rfl rfl)
theorem dX4_up_9 : decode cX4_up 9 = .ok (.invokevirtual 405, 3) := dk_182 1 149 (dk_at dksX4_up_0 9 rfl rfl)
theorem dX4_up_12 : decode cX4_up 12 = .ok (.iconst 0, 1) := dk_3 (dk_at dksX4_up_0 12 rfl rfl)
theorem dX4_up_13 : decode cX4_up 13 = .ok (.istore_n 1, 1) := dk_60 (dk_at dksX4_up_0 13 rfl rfl)
theorem dX4_up_14 : decode cX4_up 14 = .ok (.iload_n 1, 1) := dk_27 (dk_at dksX4_up_0 14 rfl rfl)
theorem dX4_up_15 : decode cX4_up 15 = .ok (.sipush 600, 3) := dk_17 2 88 (dk_at dksX4_up_0 15 rfl rfl)
theorem dX4_up_18 : decode cX4_up 18 = .ok (.if_icmp .gt 19, 3) := dk_163 0 19 (dk_at dksX4_up_0 18 rfl rfl)
theorem dX4_up_21 : decode cX4_up 21 = .ok (.aload_n 0, 1) := dk_42 (dk_at dksX4_up_0 21 rfl rfl)
theorem dX4_up_22 : decode cX4_up 22 = .ok (.iload_n 1, 1) := dk_27 (dk_at dksX4_up_0 22 rfl rfl)
theorem dX4_up_23 : decode cX4_up 23 = .ok (.invokevirtual 408, 3) := dk_182 1 152 (dk_at dksX4_up_1 0 rfl rfl)
theorem dX4_up_26 : decode cX4_up 26 = .ok (.ifCond .eq 5, 3) := dk_153 0 5 (dk_at dksX4_up_1 3 rfl rfl)
theorem dX4_up_29 : decode cX4_up 29 = .ok (.iload_n 1, 1) := dk_27 (dk_at dksX4_up_1 6 rfl rfl)
theorem dX4_up_30 : decode cX4_up 30 = .ok (.ireturn, 1) := dk_172 (dk_at dksX4_up_1 7 rfl rfl)
theorem dX4_up_31 : decode cX4_up 31 = .ok (.iinc 1 1, 3) := dk_132 1 1 (dk_at dksX4_up_1 8 rfl rfl)
theorem dX4_up_34 : decode cX4_up 34 = .ok (.goto (-20), 3) := dk_167 255 236 (dk_at dksX4_up_1 11 rfl rfl)
theorem dX4_up_37 : decode cX4_up 37 = .ok (.iconst (-1), 1) := dk_2 (dk_at dksX4_up_1 14 rfl rfl)
theorem dX4_up_38 : decode cX4_up 38 = .ok (.ireturn, 1) := dk_172 (dk_at dksX4_up_1 15 rfl rfl)
def dkwX4_isUp_0 : List UInt8 := [42, 180, 0, 72, 27, 47, 184, 1, 88, 42, 180, 0, 41, 6, 46, 161, 0, 7, 4, 167, 0, 4, 3, 172]
abbrev dktX4_isUp_0 : List UInt8 := dkwX4_isUp_0 ++ []
theorem dksX4_isUp_0 : cX4_isUp.data.toList.drop 0 = dktX4_isUp_0 := by decide +kernel
theorem dX4_isUp_0 : decode cX4_isUp 0 = .ok (.aload_n 0, 1) := dk_42 (dk_at dksX4_isUp_0 0 rfl rfl)
theorem dX4_isUp_1 : decode cX4_isUp 1 = .ok (.getfield 72, 3) := dk_180 0 72 (dk_at dksX4_isUp_0 1 rfl rfl)
theorem dX4_isUp_4 : decode cX4_isUp 4 = .ok (.iload_n 1, 1) := dk_27 (dk_at dksX4_isUp_0 4 rfl rfl)
theorem dX4_isUp_5 : decode cX4_isUp 5 = .ok (.laload, 1) := dk_47 (dk_at dksX4_isUp_0 5 rfl rfl)
theorem dX4_isUp_6 : decode cX4_isUp 6 = .ok (.invokestatic 344, 3) := dk_184 1 88 (dk_at dksX4_isUp_0 6 rfl rfl)
theorem dX4_isUp_9 : decode cX4_isUp 9 = .ok (.aload_n 0, 1) := dk_42 (dk_at dksX4_isUp_0 9 rfl rfl)
theorem dX4_isUp_10 : decode cX4_isUp 10 = .ok (.getfield 41, 3) := dk_180 0 41 (dk_at dksX4_isUp_0 10 rfl rfl)
theorem dX4_isUp_13 : decode cX4_isUp 13 = .ok (.iconst 3, 1) := dk_6 (dk_at dksX4_isUp_0 13 rfl rfl)
theorem dX4_isUp_14 : decode cX4_isUp 14 = .ok (.iaload, 1) := dk_46 (dk_at dksX4_isUp_0 14 rfl rfl)
theorem dX4_isUp_15 : decode cX4_isUp 15 = .ok (.if_icmp .lt 7, 3) := dk_161 0 7 (dk_at dksX4_isUp_0 15 rfl rfl)
theorem dX4_isUp_18 : decode cX4_isUp 18 = .ok (.iconst 1, 1) := dk_4 (dk_at dksX4_isUp_0 18 rfl rfl)
theorem dX4_isUp_19 : decode cX4_isUp 19 = .ok (.goto 4, 3) := dk_167 0 4 (dk_at dksX4_isUp_0 19 rfl rfl)
theorem dX4_isUp_22 : decode cX4_isUp 22 = .ok (.iconst 0, 1) := dk_3 (dk_at dksX4_isUp_0 22 rfl rfl)
theorem dX4_isUp_23 : decode cX4_isUp 23 = .ok (.ireturn, 1) := dk_172 (dk_at dksX4_isUp_0 23 rfl rfl)
def dkwX4_calls_2 : List UInt8 := [154, 0, 7, 4, 167, 0, 4, 3, 96, 61, 132, 3, 1, 167, 255, 218, 28, 172]
abbrev dktX4_calls_2 : List UInt8 := dkwX4_calls_2 ++ []
def dkwX4_calls_1 : List UInt8 := [27, 163, 0, 39, 28, 42, 29, 182, 1, 152, 153, 0, 21, 29, 153, 0, 13, 42, 29, 4, 100, 182, 1, 152]
abbrev dktX4_calls_1 : List UInt8 := dkwX4_calls_1 ++ dktX4_calls_2
def dkwX4_calls_0 : List UInt8 := [42, 3, 181, 0, 1, 27, 184, 1, 146, 154, 0, 5, 2, 172, 42, 27, 182, 1, 149, 3, 61, 3, 62, 29]
abbrev dktX4_calls_0 : List UInt8 := dkwX4_calls_0 ++ dktX4_calls_1
theorem dksX4_calls_0 : cX4_calls.data.toList.drop 0 = dktX4_calls_0 := by decide +kernel
theorem dksX4_calls_1 : cX4_calls.data.toList.drop 24 = dktX4_calls_1 := dk_seg dksX4_calls_0 24 rfl rfl
theorem dksX4_calls_2 : cX4_calls.data.toList.drop 48 = dktX4_calls_2 := dk_seg dksX4_calls_1 24 rfl rfl
theorem dX4_calls_0 : decode cX4_calls 0 = .ok (.aload_n 0, 1) := dk_42 (dk_at dksX4_calls_0 0 rfl rfl)
theorem dX4_calls_1 : decode cX4_calls 1 = .ok (.iconst 0, 1) := dk_3 (dk_at dksX4_calls_0 1 rfl rfl)
theorem dX4_calls_2 : decode cX4_calls 2 = .ok (.putfield 1, 3) := dk_181 0 1 (dk_at dksX4_calls_0 2 rfl rfl)
theorem dX4_calls_5 : decode cX4_calls 5 = .ok (.iload_n 1, 1) := dk_27 (dk_at dksX4_calls_0 5 rfl rfl)
theorem dX4_calls_6 : decode cX4_calls 6 = .ok (.invokestatic 402, 3) := dk_184 1 146 (dk_at dksX4_calls_0 6 rfl rfl)
theorem dX4_calls_9 : decode cX4_calls 9 = .ok (.ifCond .ne 5, 3) := dk_154 0 5 (dk_at dksX4_calls_0 9 rfl rfl)
theorem dX4_calls_12 : decode cX4_calls 12 = .ok (.iconst (-1), 1) := dk_2 (dk_at dksX4_calls_0 12 rfl rfl)
theorem dX4_calls_13 : decode cX4_calls 13 = .ok (.ireturn, 1) := dk_172 (dk_at dksX4_calls_0 13 rfl rfl)
theorem dX4_calls_14 : decode cX4_calls 14 = .ok (.aload_n 0, 1) := dk_42 (dk_at dksX4_calls_0 14 rfl rfl)
theorem dX4_calls_15 : decode cX4_calls 15 = .ok (.iload_n 1, 1) := dk_27 (dk_at dksX4_calls_0 15 rfl rfl)
theorem dX4_calls_16 : decode cX4_calls 16 = .ok (.invokevirtual 405, 3) := dk_182 1 149 (dk_at dksX4_calls_0 16 rfl rfl)
theorem dX4_calls_19 : decode cX4_calls 19 = .ok (.iconst 0, 1) := dk_3 (dk_at dksX4_calls_0 19 rfl rfl)
theorem dX4_calls_20 : decode cX4_calls 20 = .ok (.istore_n 2, 1) := dk_61 (dk_at dksX4_calls_0 20 rfl rfl)
theorem dX4_calls_21 : decode cX4_calls 21 = .ok (.iconst 0, 1) := dk_3 (dk_at dksX4_calls_0 21 rfl rfl)
theorem dX4_calls_22 : decode cX4_calls 22 = .ok (.istore_n 3, 1) := dk_62 (dk_at dksX4_calls_0 22 rfl rfl)
theorem dX4_calls_23 : decode cX4_calls 23 = .ok (.iload_n 3, 1) := dk_29 (dk_at dksX4_calls_0 23 rfl rfl)
theorem dX4_calls_24 : decode cX4_calls 24 = .ok (.iload_n 1, 1) := dk_27 (dk_at dksX4_calls_1 0 rfl rfl)
theorem dX4_calls_25 : decode cX4_calls 25 = .ok (.if_icmp .gt 39, 3) := dk_163 0 39 (dk_at dksX4_calls_1 1 rfl rfl)
theorem dX4_calls_28 : decode cX4_calls 28 = .ok (.iload_n 2, 1) := dk_28 (dk_at dksX4_calls_1 4 rfl rfl)
theorem dX4_calls_29 : decode cX4_calls 29 = .ok (.aload_n 0, 1) := dk_42 (dk_at dksX4_calls_1 5 rfl rfl)
theorem dX4_calls_30 : decode cX4_calls 30 = .ok (.iload_n 3, 1) := dk_29 (dk_at dksX4_calls_1 6 rfl rfl)
theorem dX4_calls_31 : decode cX4_calls 31 = .ok (.invokevirtual 408, 3) := dk_182 1 152 (dk_at dksX4_calls_1 7 rfl rfl)
theorem dX4_calls_34 : decode cX4_calls 34 = .ok (.ifCond .eq 21, 3) := dk_153 0 21 (dk_at dksX4_calls_1 10 rfl rfl)
theorem dX4_calls_37 : decode cX4_calls 37 = .ok (.iload_n 3, 1) := dk_29 (dk_at dksX4_calls_1 13 rfl rfl)
theorem dX4_calls_38 : decode cX4_calls 38 = .ok (.ifCond .eq 13, 3) := dk_153 0 13 (dk_at dksX4_calls_1 14 rfl rfl)
theorem dX4_calls_41 : decode cX4_calls 41 = .ok (.aload_n 0, 1) := dk_42 (dk_at dksX4_calls_1 17 rfl rfl)
theorem dX4_calls_42 : decode cX4_calls 42 = .ok (.iload_n 3, 1) := dk_29 (dk_at dksX4_calls_1 18 rfl rfl)
theorem dX4_calls_43 : decode cX4_calls 43 = .ok (.iconst 1, 1) := dk_4 (dk_at dksX4_calls_1 19 rfl rfl)
theorem dX4_calls_44 : decode cX4_calls 44 = .ok (.isub, 1) := dk_100 (dk_at dksX4_calls_1 20 rfl rfl)
theorem dX4_calls_45 : decode cX4_calls 45 = .ok (.invokevirtual 408, 3) := dk_182 1 152 (dk_at dksX4_calls_1 21 rfl rfl)
theorem dX4_calls_48 : decode cX4_calls 48 = .ok (.ifCond .ne 7, 3) := dk_154 0 7 (dk_at dksX4_calls_2 0 rfl rfl)
theorem dX4_calls_51 : decode cX4_calls 51 = .ok (.iconst 1, 1) := dk_4 (dk_at dksX4_calls_2 3 rfl rfl)
theorem dX4_calls_52 : decode cX4_calls 52 = .ok (.goto 4, 3) := dk_167 0 4 (dk_at dksX4_calls_2 4 rfl rfl)
theorem dX4_calls_55 : decode cX4_calls 55 = .ok (.iconst 0, 1) := dk_3 (dk_at dksX4_calls_2 7 rfl rfl)
theorem dX4_calls_56 : decode cX4_calls 56 = .ok (.iadd, 1) := dk_96 (dk_at dksX4_calls_2 8 rfl rfl)
theorem dX4_calls_57 : decode cX4_calls 57 = .ok (.istore_n 2, 1) := dk_61 (dk_at dksX4_calls_2 9 rfl rfl)
theorem dX4_calls_58 : decode cX4_calls 58 = .ok (.iinc 3 1, 3) := dk_132 3 1 (dk_at dksX4_calls_2 10 rfl rfl)
theorem dX4_calls_61 : decode cX4_calls 61 = .ok (.goto (-38), 3) := dk_167 255 218 (dk_at dksX4_calls_2 13 rfl rfl)
theorem dX4_calls_64 : decode cX4_calls 64 = .ok (.iload_n 2, 1) := dk_28 (dk_at dksX4_calls_2 16 rfl rfl)
theorem dX4_calls_65 : decode cX4_calls 65 = .ok (.ireturn, 1) := dk_172 (dk_at dksX4_calls_2 17 rfl rfl)
def dkwX4_again_11 : List UInt8 := [167, 0, 8, 21, 5, 21, 4, 100, 172, 132, 5, 1, 167, 255, 219, 132, 4, 1, 167, 255, 199, 2, 172]
abbrev dktX4_again_11 : List UInt8 := dkwX4_again_11 ++ []
def dkwX4_again_10 : List UInt8 := [17, 2, 88, 163, 0, 35, 42, 21, 4, 21, 5, 182, 1, 155, 153, 0, 18, 27, 154, 0, 8, 21, 4]
abbrev dktX4_again_10 : List UInt8 := dkwX4_again_10 ++ dktX4_again_11
def dkwX4_again_9 : List UInt8 := [46, 4, 96, 61, 28, 54, 4, 21, 4, 17, 2, 88, 163, 0, 55, 21, 4, 4, 96, 54, 5, 21, 5]
abbrev dktX4_again_9 : List UInt8 := dkwX4_again_9 ++ dktX4_again_10
def dkwX4_again_8 : List UInt8 := [46, 17, 2, 88, 162, 0, 24, 42, 180, 0, 41, 7, 46, 4, 96, 28, 164, 0, 12, 42, 180, 0, 41, 7]
abbrev dktX4_again_8 : List UInt8 := dkwX4_again_8 ++ dktX4_again_9
def dkwX4_again_7 : List UInt8 := [154, 0, 7, 4, 167, 0, 4, 3, 62, 132, 4, 1, 167, 255, 177, 29, 153, 0, 36, 42, 180, 0, 41, 7]
abbrev dktX4_again_7 : List UInt8 := dkwX4_again_7 ++ dktX4_again_8
def dkwX4_again_6 : List UInt8 := [167, 0, 4, 28, 61, 29, 154, 0, 21, 42, 180, 0, 41, 17, 2, 79, 6, 21, 4, 104, 96, 4, 96, 46]
abbrev dktX4_again_6 : List UInt8 := dkwX4_again_6 ++ dktX4_again_7
def dkwX4_again_5 : List UInt8 := [21, 4, 104, 96, 46, 28, 164, 0, 19, 42, 180, 0, 41, 17, 2, 79, 6, 21, 4, 104, 96, 46]
abbrev dktX4_again_5 : List UInt8 := dkwX4_again_5 ++ dktX4_again_6
def dkwX4_again_4 : List UInt8 := [54, 4, 21, 4, 42, 180, 0, 41, 17, 2, 78, 46, 162, 0, 72, 42, 180, 0, 41, 17, 2, 79, 6]
abbrev dktX4_again_4 : List UInt8 := dkwX4_again_4 ++ dktX4_again_5
def dkwX4_again_3 : List UInt8 := [42, 180, 0, 41, 16, 78, 21, 4, 96, 46, 4, 100, 167, 0, 4, 28, 61, 132, 4, 1, 167, 255, 209, 3]
abbrev dktX4_again_3 : List UInt8 := dkwX4_again_3 ++ dktX4_again_4
def dkwX4_again_2 : List UInt8 := [180, 0, 41, 3, 46, 162, 0, 42, 42, 180, 0, 41, 16, 78, 21, 4, 96, 46, 4, 100, 28, 164, 0, 18]
abbrev dktX4_again_2 : List UInt8 := dkwX4_again_2 ++ dktX4_again_3
def dkwX4_again_1 : List UInt8 := [61, 42, 180, 1, 43, 9, 148, 153, 0, 7, 4, 167, 0, 4, 3, 62, 3, 54, 4, 21, 4, 42]
abbrev dktX4_again_1 : List UInt8 := dkwX4_again_1 ++ dktX4_again_2
def dkwX4_again_0 : List UInt8 := [42, 3, 181, 0, 1, 27, 3, 4, 184, 0, 168, 154, 0, 5, 2, 172, 42, 17, 2, 88, 182, 1, 149, 3]
abbrev dktX4_again_0 : List UInt8 := dkwX4_again_0 ++ dktX4_again_1
theorem dksX4_again_0 : cX4_again.data.toList.drop 0 = dktX4_again_0 := by decide +kernel
theorem dksX4_again_1 : cX4_again.data.toList.drop 24 = dktX4_again_1 := dk_seg dksX4_again_0 24 rfl rfl
theorem dksX4_again_2 : cX4_again.data.toList.drop 46 = dktX4_again_2 := dk_seg dksX4_again_1 22 rfl rfl
theorem dksX4_again_3 : cX4_again.data.toList.drop 70 = dktX4_again_3 := dk_seg dksX4_again_2 24 rfl rfl
theorem dksX4_again_4 : cX4_again.data.toList.drop 94 = dktX4_again_4 := dk_seg dksX4_again_3 24 rfl rfl
theorem dksX4_again_5 : cX4_again.data.toList.drop 117 = dktX4_again_5 := dk_seg dksX4_again_4 23 rfl rfl
theorem dksX4_again_6 : cX4_again.data.toList.drop 139 = dktX4_again_6 := dk_seg dksX4_again_5 22 rfl rfl
theorem dksX4_again_7 : cX4_again.data.toList.drop 163 = dktX4_again_7 := dk_seg dksX4_again_6 24 rfl rfl
theorem dksX4_again_8 : cX4_again.data.toList.drop 187 = dktX4_again_8 := dk_seg dksX4_again_7 24 rfl rfl
theorem dksX4_again_9 : cX4_again.data.toList.drop 211 = dktX4_again_9 := dk_seg dksX4_again_8 24 rfl rfl
theorem dksX4_again_10 : cX4_again.data.toList.drop 234 = dktX4_again_10 := dk_seg dksX4_again_9 23 rfl rfl
theorem dksX4_again_11 : cX4_again.data.toList.drop 257 = dktX4_again_11 := dk_seg dksX4_again_10 23 rfl rfl
theorem dX4_again_0 : decode cX4_again 0 = .ok (.aload_n 0, 1) := dk_42 (dk_at dksX4_again_0 0 rfl rfl)
theorem dX4_again_1 : decode cX4_again 1 = .ok (.iconst 0, 1) := dk_3 (dk_at dksX4_again_0 1 rfl rfl)
theorem dX4_again_2 : decode cX4_again 2 = .ok (.putfield 1, 3) := dk_181 0 1 (dk_at dksX4_again_0 2 rfl rfl)
theorem dX4_again_5 : decode cX4_again 5 = .ok (.iload_n 1, 1) := dk_27 (dk_at dksX4_again_0 5 rfl rfl)
theorem dX4_again_6 : decode cX4_again 6 = .ok (.iconst 0, 1) := dk_3 (dk_at dksX4_again_0 6 rfl rfl)
theorem dX4_again_7 : decode cX4_again 7 = .ok (.iconst 1, 1) := dk_4 (dk_at dksX4_again_0 7 rfl rfl)
theorem dX4_again_8 : decode cX4_again 8 = .ok (.invokestatic 168, 3) := dk_184 0 168 (dk_at dksX4_again_0 8 rfl rfl)
theorem dX4_again_11 : decode cX4_again 11 = .ok (.ifCond .ne 5, 3) := dk_154 0 5 (dk_at dksX4_again_0 11 rfl rfl)
theorem dX4_again_14 : decode cX4_again 14 = .ok (.iconst (-1), 1) := dk_2 (dk_at dksX4_again_0 14 rfl rfl)
theorem dX4_again_15 : decode cX4_again 15 = .ok (.ireturn, 1) := dk_172 (dk_at dksX4_again_0 15 rfl rfl)
theorem dX4_again_16 : decode cX4_again 16 = .ok (.aload_n 0, 1) := dk_42 (dk_at dksX4_again_0 16 rfl rfl)
theorem dX4_again_17 : decode cX4_again 17 = .ok (.sipush 600, 3) := dk_17 2 88 (dk_at dksX4_again_0 17 rfl rfl)
theorem dX4_again_20 : decode cX4_again 20 = .ok (.invokevirtual 405, 3) := dk_182 1 149 (dk_at dksX4_again_0 20 rfl rfl)
theorem dX4_again_23 : decode cX4_again 23 = .ok (.iconst 0, 1) := dk_3 (dk_at dksX4_again_0 23 rfl rfl)
theorem dX4_again_24 : decode cX4_again 24 = .ok (.istore_n 2, 1) := dk_61 (dk_at dksX4_again_1 0 rfl rfl)
theorem dX4_again_25 : decode cX4_again 25 = .ok (.aload_n 0, 1) := dk_42 (dk_at dksX4_again_1 1 rfl rfl)
theorem dX4_again_26 : decode cX4_again 26 = .ok (.getfield 299, 3) := dk_180 1 43 (dk_at dksX4_again_1 2 rfl rfl)
theorem dX4_again_29 : decode cX4_again 29 = .ok (.lconst 0, 1) := dk_9 (dk_at dksX4_again_1 5 rfl rfl)
theorem dX4_again_30 : decode cX4_again 30 = .ok (.lcmp, 1) := dk_148 (dk_at dksX4_again_1 6 rfl rfl)
theorem dX4_again_31 : decode cX4_again 31 = .ok (.ifCond .eq 7, 3) := dk_153 0 7 (dk_at dksX4_again_1 7 rfl rfl)
theorem dX4_again_34 : decode cX4_again 34 = .ok (.iconst 1, 1) := dk_4 (dk_at dksX4_again_1 10 rfl rfl)
theorem dX4_again_35 : decode cX4_again 35 = .ok (.goto 4, 3) := dk_167 0 4 (dk_at dksX4_again_1 11 rfl rfl)
theorem dX4_again_38 : decode cX4_again 38 = .ok (.iconst 0, 1) := dk_3 (dk_at dksX4_again_1 14 rfl rfl)
theorem dX4_again_39 : decode cX4_again 39 = .ok (.istore_n 3, 1) := dk_62 (dk_at dksX4_again_1 15 rfl rfl)
theorem dX4_again_40 : decode cX4_again 40 = .ok (.iconst 0, 1) := dk_3 (dk_at dksX4_again_1 16 rfl rfl)
theorem dX4_again_41 : decode cX4_again 41 = .ok (.istore 4, 2) := dk_54 4 (dk_at dksX4_again_1 17 rfl rfl)
theorem dX4_again_43 : decode cX4_again 43 = .ok (.iload 4, 2) := dk_21 4 (dk_at dksX4_again_1 19 rfl rfl)
theorem dX4_again_45 : decode cX4_again 45 = .ok (.aload_n 0, 1) := dk_42 (dk_at dksX4_again_1 21 rfl rfl)
theorem dX4_again_46 : decode cX4_again 46 = .ok (.getfield 41, 3) := dk_180 0 41 (dk_at dksX4_again_2 0 rfl rfl)
theorem dX4_again_49 : decode cX4_again 49 = .ok (.iconst 0, 1) := dk_3 (dk_at dksX4_again_2 3 rfl rfl)
theorem dX4_again_50 : decode cX4_again 50 = .ok (.iaload, 1) := dk_46 (dk_at dksX4_again_2 4 rfl rfl)
theorem dX4_again_51 : decode cX4_again 51 = .ok (.if_icmp .ge 42, 3) := dk_162 0 42 (dk_at dksX4_again_2 5 rfl rfl)
theorem dX4_again_54 : decode cX4_again 54 = .ok (.aload_n 0, 1) := dk_42 (dk_at dksX4_again_2 8 rfl rfl)
theorem dX4_again_55 : decode cX4_again 55 = .ok (.getfield 41, 3) := dk_180 0 41 (dk_at dksX4_again_2 9 rfl rfl)
theorem dX4_again_58 : decode cX4_again 58 = .ok (.bipush 78, 2) := dk_16 78 (dk_at dksX4_again_2 12 rfl rfl)
theorem dX4_again_60 : decode cX4_again 60 = .ok (.iload 4, 2) := dk_21 4 (dk_at dksX4_again_2 14 rfl rfl)
theorem dX4_again_62 : decode cX4_again 62 = .ok (.iadd, 1) := dk_96 (dk_at dksX4_again_2 16 rfl rfl)
theorem dX4_again_63 : decode cX4_again 63 = .ok (.iaload, 1) := dk_46 (dk_at dksX4_again_2 17 rfl rfl)
theorem dX4_again_64 : decode cX4_again 64 = .ok (.iconst 1, 1) := dk_4 (dk_at dksX4_again_2 18 rfl rfl)
theorem dX4_again_65 : decode cX4_again 65 = .ok (.isub, 1) := dk_100 (dk_at dksX4_again_2 19 rfl rfl)
theorem dX4_again_66 : decode cX4_again 66 = .ok (.iload_n 2, 1) := dk_28 (dk_at dksX4_again_2 20 rfl rfl)
theorem dX4_again_67 : decode cX4_again 67 = .ok (.if_icmp .le 18, 3) := dk_164 0 18 (dk_at dksX4_again_2 21 rfl rfl)
theorem dX4_again_70 : decode cX4_again 70 = .ok (.aload_n 0, 1) := dk_42 (dk_at dksX4_again_3 0 rfl rfl)
theorem dX4_again_71 : decode cX4_again 71 = .ok (.getfield 41, 3) := dk_180 0 41 (dk_at dksX4_again_3 1 rfl rfl)
theorem dX4_again_74 : decode cX4_again 74 = .ok (.bipush 78, 2) := dk_16 78 (dk_at dksX4_again_3 4 rfl rfl)
theorem dX4_again_76 : decode cX4_again 76 = .ok (.iload 4, 2) := dk_21 4 (dk_at dksX4_again_3 6 rfl rfl)
theorem dX4_again_78 : decode cX4_again 78 = .ok (.iadd, 1) := dk_96 (dk_at dksX4_again_3 8 rfl rfl)
theorem dX4_again_79 : decode cX4_again 79 = .ok (.iaload, 1) := dk_46 (dk_at dksX4_again_3 9 rfl rfl)
theorem dX4_again_80 : decode cX4_again 80 = .ok (.iconst 1, 1) := dk_4 (dk_at dksX4_again_3 10 rfl rfl)
theorem dX4_again_81 : decode cX4_again 81 = .ok (.isub, 1) := dk_100 (dk_at dksX4_again_3 11 rfl rfl)
theorem dX4_again_82 : decode cX4_again 82 = .ok (.goto 4, 3) := dk_167 0 4 (dk_at dksX4_again_3 12 rfl rfl)
theorem dX4_again_85 : decode cX4_again 85 = .ok (.iload_n 2, 1) := dk_28 (dk_at dksX4_again_3 15 rfl rfl)
theorem dX4_again_86 : decode cX4_again 86 = .ok (.istore_n 2, 1) := dk_61 (dk_at dksX4_again_3 16 rfl rfl)
theorem dX4_again_87 : decode cX4_again 87 = .ok (.iinc 4 1, 3) := dk_132 4 1 (dk_at dksX4_again_3 17 rfl rfl)
theorem dX4_again_90 : decode cX4_again 90 = .ok (.goto (-47), 3) := dk_167 255 209 (dk_at dksX4_again_3 20 rfl rfl)
theorem dX4_again_93 : decode cX4_again 93 = .ok (.iconst 0, 1) := dk_3 (dk_at dksX4_again_3 23 rfl rfl)
theorem dX4_again_94 : decode cX4_again 94 = .ok (.istore 4, 2) := dk_54 4 (dk_at dksX4_again_4 0 rfl rfl)
theorem dX4_again_96 : decode cX4_again 96 = .ok (.iload 4, 2) := dk_21 4 (dk_at dksX4_again_4 2 rfl rfl)
theorem dX4_again_98 : decode cX4_again 98 = .ok (.aload_n 0, 1) := dk_42 (dk_at dksX4_again_4 4 rfl rfl)
theorem dX4_again_99 : decode cX4_again 99 = .ok (.getfield 41, 3) := dk_180 0 41 (dk_at dksX4_again_4 5 rfl rfl)
theorem dX4_again_102 : decode cX4_again 102 = .ok (.sipush 590, 3) := dk_17 2 78 (dk_at dksX4_again_4 8 rfl rfl)
theorem dX4_again_105 : decode cX4_again 105 = .ok (.iaload, 1) := dk_46 (dk_at dksX4_again_4 11 rfl rfl)
theorem dX4_again_106 : decode cX4_again 106 = .ok (.if_icmp .ge 72, 3) := dk_162 0 72 (dk_at dksX4_again_4 12 rfl rfl)
theorem dX4_again_109 : decode cX4_again 109 = .ok (.aload_n 0, 1) := dk_42 (dk_at dksX4_again_4 15 rfl rfl)
theorem dX4_again_110 : decode cX4_again 110 = .ok (.getfield 41, 3) := dk_180 0 41 (dk_at dksX4_again_4 16 rfl rfl)
theorem dX4_again_113 : decode cX4_again 113 = .ok (.sipush 591, 3) := dk_17 2 79 (dk_at dksX4_again_4 19 rfl rfl)
theorem dX4_again_116 : decode cX4_again 116 = .ok (.iconst 3, 1) := dk_6 (dk_at dksX4_again_4 22 rfl rfl)
theorem dX4_again_117 : decode cX4_again 117 = .ok (.iload 4, 2) := dk_21 4 (dk_at dksX4_again_5 0 rfl rfl)
theorem dX4_again_119 : decode cX4_again 119 = .ok (.imul, 1) := dk_104 (dk_at dksX4_again_5 2 rfl rfl)
theorem dX4_again_120 : decode cX4_again 120 = .ok (.iadd, 1) := dk_96 (dk_at dksX4_again_5 3 rfl rfl)
theorem dX4_again_121 : decode cX4_again 121 = .ok (.iaload, 1) := dk_46 (dk_at dksX4_again_5 4 rfl rfl)
theorem dX4_again_122 : decode cX4_again 122 = .ok (.iload_n 2, 1) := dk_28 (dk_at dksX4_again_5 5 rfl rfl)
theorem dX4_again_123 : decode cX4_again 123 = .ok (.if_icmp .le 19, 3) := dk_164 0 19 (dk_at dksX4_again_5 6 rfl rfl)
theorem dX4_again_126 : decode cX4_again 126 = .ok (.aload_n 0, 1) := dk_42 (dk_at dksX4_again_5 9 rfl rfl)
theorem dX4_again_127 : decode cX4_again 127 = .ok (.getfield 41, 3) := dk_180 0 41 (dk_at dksX4_again_5 10 rfl rfl)
theorem dX4_again_130 : decode cX4_again 130 = .ok (.sipush 591, 3) := dk_17 2 79 (dk_at dksX4_again_5 13 rfl rfl)
theorem dX4_again_133 : decode cX4_again 133 = .ok (.iconst 3, 1) := dk_6 (dk_at dksX4_again_5 16 rfl rfl)
theorem dX4_again_134 : decode cX4_again 134 = .ok (.iload 4, 2) := dk_21 4 (dk_at dksX4_again_5 17 rfl rfl)
theorem dX4_again_136 : decode cX4_again 136 = .ok (.imul, 1) := dk_104 (dk_at dksX4_again_5 19 rfl rfl)
theorem dX4_again_137 : decode cX4_again 137 = .ok (.iadd, 1) := dk_96 (dk_at dksX4_again_5 20 rfl rfl)
theorem dX4_again_138 : decode cX4_again 138 = .ok (.iaload, 1) := dk_46 (dk_at dksX4_again_5 21 rfl rfl)
theorem dX4_again_139 : decode cX4_again 139 = .ok (.goto 4, 3) := dk_167 0 4 (dk_at dksX4_again_6 0 rfl rfl)
theorem dX4_again_142 : decode cX4_again 142 = .ok (.iload_n 2, 1) := dk_28 (dk_at dksX4_again_6 3 rfl rfl)
theorem dX4_again_143 : decode cX4_again 143 = .ok (.istore_n 2, 1) := dk_61 (dk_at dksX4_again_6 4 rfl rfl)
theorem dX4_again_144 : decode cX4_again 144 = .ok (.iload_n 3, 1) := dk_29 (dk_at dksX4_again_6 5 rfl rfl)
theorem dX4_again_145 : decode cX4_again 145 = .ok (.ifCond .ne 21, 3) := dk_154 0 21 (dk_at dksX4_again_6 6 rfl rfl)
theorem dX4_again_148 : decode cX4_again 148 = .ok (.aload_n 0, 1) := dk_42 (dk_at dksX4_again_6 9 rfl rfl)
theorem dX4_again_149 : decode cX4_again 149 = .ok (.getfield 41, 3) := dk_180 0 41 (dk_at dksX4_again_6 10 rfl rfl)
theorem dX4_again_152 : decode cX4_again 152 = .ok (.sipush 591, 3) := dk_17 2 79 (dk_at dksX4_again_6 13 rfl rfl)
theorem dX4_again_155 : decode cX4_again 155 = .ok (.iconst 3, 1) := dk_6 (dk_at dksX4_again_6 16 rfl rfl)
theorem dX4_again_156 : decode cX4_again 156 = .ok (.iload 4, 2) := dk_21 4 (dk_at dksX4_again_6 17 rfl rfl)
theorem dX4_again_158 : decode cX4_again 158 = .ok (.imul, 1) := dk_104 (dk_at dksX4_again_6 19 rfl rfl)
theorem dX4_again_159 : decode cX4_again 159 = .ok (.iadd, 1) := dk_96 (dk_at dksX4_again_6 20 rfl rfl)
theorem dX4_again_160 : decode cX4_again 160 = .ok (.iconst 1, 1) := dk_4 (dk_at dksX4_again_6 21 rfl rfl)
theorem dX4_again_161 : decode cX4_again 161 = .ok (.iadd, 1) := dk_96 (dk_at dksX4_again_6 22 rfl rfl)
theorem dX4_again_162 : decode cX4_again 162 = .ok (.iaload, 1) := dk_46 (dk_at dksX4_again_6 23 rfl rfl)
theorem dX4_again_163 : decode cX4_again 163 = .ok (.ifCond .ne 7, 3) := dk_154 0 7 (dk_at dksX4_again_7 0 rfl rfl)
theorem dX4_again_166 : decode cX4_again 166 = .ok (.iconst 1, 1) := dk_4 (dk_at dksX4_again_7 3 rfl rfl)
theorem dX4_again_167 : decode cX4_again 167 = .ok (.goto 4, 3) := dk_167 0 4 (dk_at dksX4_again_7 4 rfl rfl)
theorem dX4_again_170 : decode cX4_again 170 = .ok (.iconst 0, 1) := dk_3 (dk_at dksX4_again_7 7 rfl rfl)
theorem dX4_again_171 : decode cX4_again 171 = .ok (.istore_n 3, 1) := dk_62 (dk_at dksX4_again_7 8 rfl rfl)
theorem dX4_again_172 : decode cX4_again 172 = .ok (.iinc 4 1, 3) := dk_132 4 1 (dk_at dksX4_again_7 9 rfl rfl)
theorem dX4_again_175 : decode cX4_again 175 = .ok (.goto (-79), 3) := dk_167 255 177 (dk_at dksX4_again_7 12 rfl rfl)
theorem dX4_again_178 : decode cX4_again 178 = .ok (.iload_n 3, 1) := dk_29 (dk_at dksX4_again_7 15 rfl rfl)
theorem dX4_again_179 : decode cX4_again 179 = .ok (.ifCond .eq 36, 3) := dk_153 0 36 (dk_at dksX4_again_7 16 rfl rfl)
theorem dX4_again_182 : decode cX4_again 182 = .ok (.aload_n 0, 1) := dk_42 (dk_at dksX4_again_7 19 rfl rfl)
theorem dX4_again_183 : decode cX4_again 183 = .ok (.getfield 41, 3) := dk_180 0 41 (dk_at dksX4_again_7 20 rfl rfl)
theorem dX4_again_186 : decode cX4_again 186 = .ok (.iconst 4, 1) := dk_7 (dk_at dksX4_again_7 23 rfl rfl)
theorem dX4_again_187 : decode cX4_again 187 = .ok (.iaload, 1) := dk_46 (dk_at dksX4_again_8 0 rfl rfl)
theorem dX4_again_188 : decode cX4_again 188 = .ok (.sipush 600, 3) := dk_17 2 88 (dk_at dksX4_again_8 1 rfl rfl)
theorem dX4_again_191 : decode cX4_again 191 = .ok (.if_icmp .ge 24, 3) := dk_162 0 24 (dk_at dksX4_again_8 4 rfl rfl)
theorem dX4_again_194 : decode cX4_again 194 = .ok (.aload_n 0, 1) := dk_42 (dk_at dksX4_again_8 7 rfl rfl)
theorem dX4_again_195 : decode cX4_again 195 = .ok (.getfield 41, 3) := dk_180 0 41 (dk_at dksX4_again_8 8 rfl rfl)
theorem dX4_again_198 : decode cX4_again 198 = .ok (.iconst 4, 1) := dk_7 (dk_at dksX4_again_8 11 rfl rfl)
theorem dX4_again_199 : decode cX4_again 199 = .ok (.iaload, 1) := dk_46 (dk_at dksX4_again_8 12 rfl rfl)
theorem dX4_again_200 : decode cX4_again 200 = .ok (.iconst 1, 1) := dk_4 (dk_at dksX4_again_8 13 rfl rfl)
theorem dX4_again_201 : decode cX4_again 201 = .ok (.iadd, 1) := dk_96 (dk_at dksX4_again_8 14 rfl rfl)
theorem dX4_again_202 : decode cX4_again 202 = .ok (.iload_n 2, 1) := dk_28 (dk_at dksX4_again_8 15 rfl rfl)
theorem dX4_again_203 : decode cX4_again 203 = .ok (.if_icmp .le 12, 3) := dk_164 0 12 (dk_at dksX4_again_8 16 rfl rfl)
theorem dX4_again_206 : decode cX4_again 206 = .ok (.aload_n 0, 1) := dk_42 (dk_at dksX4_again_8 19 rfl rfl)
theorem dX4_again_207 : decode cX4_again 207 = .ok (.getfield 41, 3) := dk_180 0 41 (dk_at dksX4_again_8 20 rfl rfl)
theorem dX4_again_210 : decode cX4_again 210 = .ok (.iconst 4, 1) := dk_7 (dk_at dksX4_again_8 23 rfl rfl)
theorem dX4_again_211 : decode cX4_again 211 = .ok (.iaload, 1) := dk_46 (dk_at dksX4_again_9 0 rfl rfl)
theorem dX4_again_212 : decode cX4_again 212 = .ok (.iconst 1, 1) := dk_4 (dk_at dksX4_again_9 1 rfl rfl)
theorem dX4_again_213 : decode cX4_again 213 = .ok (.iadd, 1) := dk_96 (dk_at dksX4_again_9 2 rfl rfl)
theorem dX4_again_214 : decode cX4_again 214 = .ok (.istore_n 2, 1) := dk_61 (dk_at dksX4_again_9 3 rfl rfl)
theorem dX4_again_215 : decode cX4_again 215 = .ok (.iload_n 2, 1) := dk_28 (dk_at dksX4_again_9 4 rfl rfl)
theorem dX4_again_216 : decode cX4_again 216 = .ok (.istore 4, 2) := dk_54 4 (dk_at dksX4_again_9 5 rfl rfl)
theorem dX4_again_218 : decode cX4_again 218 = .ok (.iload 4, 2) := dk_21 4 (dk_at dksX4_again_9 7 rfl rfl)
theorem dX4_again_220 : decode cX4_again 220 = .ok (.sipush 600, 3) := dk_17 2 88 (dk_at dksX4_again_9 9 rfl rfl)
theorem dX4_again_223 : decode cX4_again 223 = .ok (.if_icmp .gt 55, 3) := dk_163 0 55 (dk_at dksX4_again_9 12 rfl rfl)
theorem dX4_again_226 : decode cX4_again 226 = .ok (.iload 4, 2) := dk_21 4 (dk_at dksX4_again_9 15 rfl rfl)
theorem dX4_again_228 : decode cX4_again 228 = .ok (.iconst 1, 1) := dk_4 (dk_at dksX4_again_9 17 rfl rfl)
theorem dX4_again_229 : decode cX4_again 229 = .ok (.iadd, 1) := dk_96 (dk_at dksX4_again_9 18 rfl rfl)
theorem dX4_again_230 : decode cX4_again 230 = .ok (.istore 5, 2) := dk_54 5 (dk_at dksX4_again_9 19 rfl rfl)
theorem dX4_again_232 : decode cX4_again 232 = .ok (.iload 5, 2) := dk_21 5 (dk_at dksX4_again_9 21 rfl rfl)
theorem dX4_again_234 : decode cX4_again 234 = .ok (.sipush 600, 3) := dk_17 2 88 (dk_at dksX4_again_10 0 rfl rfl)
theorem dX4_again_237 : decode cX4_again 237 = .ok (.if_icmp .gt 35, 3) := dk_163 0 35 (dk_at dksX4_again_10 3 rfl rfl)
theorem dX4_again_240 : decode cX4_again 240 = .ok (.aload_n 0, 1) := dk_42 (dk_at dksX4_again_10 6 rfl rfl)
theorem dX4_again_241 : decode cX4_again 241 = .ok (.iload 4, 2) := dk_21 4 (dk_at dksX4_again_10 7 rfl rfl)
theorem dX4_again_243 : decode cX4_again 243 = .ok (.iload 5, 2) := dk_21 5 (dk_at dksX4_again_10 9 rfl rfl)
theorem dX4_again_245 : decode cX4_again 245 = .ok (.invokevirtual 411, 3) := dk_182 1 155 (dk_at dksX4_again_10 11 rfl rfl)
theorem dX4_again_248 : decode cX4_again 248 = .ok (.ifCond .eq 18, 3) := dk_153 0 18 (dk_at dksX4_again_10 14 rfl rfl)
theorem dX4_again_251 : decode cX4_again 251 = .ok (.iload_n 1, 1) := dk_27 (dk_at dksX4_again_10 17 rfl rfl)
theorem dX4_again_252 : decode cX4_again 252 = .ok (.ifCond .ne 8, 3) := dk_154 0 8 (dk_at dksX4_again_10 18 rfl rfl)
theorem dX4_again_255 : decode cX4_again 255 = .ok (.iload 4, 2) := dk_21 4 (dk_at dksX4_again_10 21 rfl rfl)
theorem dX4_again_257 : decode cX4_again 257 = .ok (.goto 8, 3) := dk_167 0 8 (dk_at dksX4_again_11 0 rfl rfl)
theorem dX4_again_260 : decode cX4_again 260 = .ok (.iload 5, 2) := dk_21 5 (dk_at dksX4_again_11 3 rfl rfl)
theorem dX4_again_262 : decode cX4_again 262 = .ok (.iload 4, 2) := dk_21 4 (dk_at dksX4_again_11 5 rfl rfl)
theorem dX4_again_264 : decode cX4_again 264 = .ok (.isub, 1) := dk_100 (dk_at dksX4_again_11 7 rfl rfl)
theorem dX4_again_265 : decode cX4_again 265 = .ok (.ireturn, 1) := dk_172 (dk_at dksX4_again_11 8 rfl rfl)
theorem dX4_again_266 : decode cX4_again 266 = .ok (.iinc 5 1, 3) := dk_132 5 1 (dk_at dksX4_again_11 9 rfl rfl)
theorem dX4_again_269 : decode cX4_again 269 = .ok (.goto (-37), 3) := dk_167 255 219 (dk_at dksX4_again_11 12 rfl rfl)
theorem dX4_again_272 : decode cX4_again 272 = .ok (.iinc 4 1, 3) := dk_132 4 1 (dk_at dksX4_again_11 15 rfl rfl)
theorem dX4_again_275 : decode cX4_again 275 = .ok (.goto (-57), 3) := dk_167 255 199 (dk_at dksX4_again_11 18 rfl rfl)
theorem dX4_again_278 : decode cX4_again 278 = .ok (.iconst (-1), 1) := dk_2 (dk_at dksX4_again_11 21 rfl rfl)
theorem dX4_again_279 : decode cX4_again 279 = .ok (.ireturn, 1) := dk_172 (dk_at dksX4_again_11 22 rfl rfl)
def dkwX4_areLike_3 : List UInt8 := [172]
abbrev dktX4_areLike_3 : List UInt8 := dkwX4_areLike_3 ++ []
def dkwX4_areLike_2 : List UInt8 := [154, 0, 23, 42, 180, 0, 78, 27, 47, 42, 180, 0, 78, 28, 47, 148, 154, 0, 7, 4, 167, 0, 4, 3]
abbrev dktX4_areLike_2 : List UInt8 := dkwX4_areLike_2 ++ dktX4_areLike_3
def dkwX4_areLike_1 : List UInt8 := [180, 0, 72, 28, 47, 148, 154, 0, 39, 42, 180, 0, 75, 27, 47, 42, 180, 0, 75, 28, 47, 148]
abbrev dktX4_areLike_1 : List UInt8 := dkwX4_areLike_1 ++ dktX4_areLike_2
def dkwX4_areLike_0 : List UInt8 := [42, 180, 0, 69, 27, 47, 42, 180, 0, 69, 28, 47, 148, 154, 0, 55, 42, 180, 0, 72, 27, 47, 42]
abbrev dktX4_areLike_0 : List UInt8 := dkwX4_areLike_0 ++ dktX4_areLike_1
theorem dksX4_areLike_0 : cX4_areLike.data.toList.drop 0 = dktX4_areLike_0 := by decide +kernel
theorem dksX4_areLike_1 : cX4_areLike.data.toList.drop 23 = dktX4_areLike_1 := dk_seg dksX4_areLike_0 23 rfl rfl
theorem dksX4_areLike_2 : cX4_areLike.data.toList.drop 45 = dktX4_areLike_2 := dk_seg dksX4_areLike_1 22 rfl rfl
theorem dksX4_areLike_3 : cX4_areLike.data.toList.drop 69 = dktX4_areLike_3 := dk_seg dksX4_areLike_2 24 rfl rfl
theorem dX4_areLike_0 : decode cX4_areLike 0 = .ok (.aload_n 0, 1) := dk_42 (dk_at dksX4_areLike_0 0 rfl rfl)
theorem dX4_areLike_1 : decode cX4_areLike 1 = .ok (.getfield 69, 3) := dk_180 0 69 (dk_at dksX4_areLike_0 1 rfl rfl)
theorem dX4_areLike_4 : decode cX4_areLike 4 = .ok (.iload_n 1, 1) := dk_27 (dk_at dksX4_areLike_0 4 rfl rfl)
theorem dX4_areLike_5 : decode cX4_areLike 5 = .ok (.laload, 1) := dk_47 (dk_at dksX4_areLike_0 5 rfl rfl)
theorem dX4_areLike_6 : decode cX4_areLike 6 = .ok (.aload_n 0, 1) := dk_42 (dk_at dksX4_areLike_0 6 rfl rfl)
theorem dX4_areLike_7 : decode cX4_areLike 7 = .ok (.getfield 69, 3) := dk_180 0 69 (dk_at dksX4_areLike_0 7 rfl rfl)
theorem dX4_areLike_10 : decode cX4_areLike 10 = .ok (.iload_n 2, 1) := dk_28 (dk_at dksX4_areLike_0 10 rfl rfl)
theorem dX4_areLike_11 : decode cX4_areLike 11 = .ok (.laload, 1) := dk_47 (dk_at dksX4_areLike_0 11 rfl rfl)
theorem dX4_areLike_12 : decode cX4_areLike 12 = .ok (.lcmp, 1) := dk_148 (dk_at dksX4_areLike_0 12 rfl rfl)
theorem dX4_areLike_13 : decode cX4_areLike 13 = .ok (.ifCond .ne 55, 3) := dk_154 0 55 (dk_at dksX4_areLike_0 13 rfl rfl)
theorem dX4_areLike_16 : decode cX4_areLike 16 = .ok (.aload_n 0, 1) := dk_42 (dk_at dksX4_areLike_0 16 rfl rfl)
theorem dX4_areLike_17 : decode cX4_areLike 17 = .ok (.getfield 72, 3) := dk_180 0 72 (dk_at dksX4_areLike_0 17 rfl rfl)
theorem dX4_areLike_20 : decode cX4_areLike 20 = .ok (.iload_n 1, 1) := dk_27 (dk_at dksX4_areLike_0 20 rfl rfl)
theorem dX4_areLike_21 : decode cX4_areLike 21 = .ok (.laload, 1) := dk_47 (dk_at dksX4_areLike_0 21 rfl rfl)
theorem dX4_areLike_22 : decode cX4_areLike 22 = .ok (.aload_n 0, 1) := dk_42 (dk_at dksX4_areLike_0 22 rfl rfl)
theorem dX4_areLike_23 : decode cX4_areLike 23 = .ok (.getfield 72, 3) := dk_180 0 72 (dk_at dksX4_areLike_1 0 rfl rfl)
theorem dX4_areLike_26 : decode cX4_areLike 26 = .ok (.iload_n 2, 1) := dk_28 (dk_at dksX4_areLike_1 3 rfl rfl)
theorem dX4_areLike_27 : decode cX4_areLike 27 = .ok (.laload, 1) := dk_47 (dk_at dksX4_areLike_1 4 rfl rfl)
theorem dX4_areLike_28 : decode cX4_areLike 28 = .ok (.lcmp, 1) := dk_148 (dk_at dksX4_areLike_1 5 rfl rfl)
theorem dX4_areLike_29 : decode cX4_areLike 29 = .ok (.ifCond .ne 39, 3) := dk_154 0 39 (dk_at dksX4_areLike_1 6 rfl rfl)
theorem dX4_areLike_32 : decode cX4_areLike 32 = .ok (.aload_n 0, 1) := dk_42 (dk_at dksX4_areLike_1 9 rfl rfl)
theorem dX4_areLike_33 : decode cX4_areLike 33 = .ok (.getfield 75, 3) := dk_180 0 75 (dk_at dksX4_areLike_1 10 rfl rfl)
theorem dX4_areLike_36 : decode cX4_areLike 36 = .ok (.iload_n 1, 1) := dk_27 (dk_at dksX4_areLike_1 13 rfl rfl)
theorem dX4_areLike_37 : decode cX4_areLike 37 = .ok (.laload, 1) := dk_47 (dk_at dksX4_areLike_1 14 rfl rfl)
theorem dX4_areLike_38 : decode cX4_areLike 38 = .ok (.aload_n 0, 1) := dk_42 (dk_at dksX4_areLike_1 15 rfl rfl)
theorem dX4_areLike_39 : decode cX4_areLike 39 = .ok (.getfield 75, 3) := dk_180 0 75 (dk_at dksX4_areLike_1 16 rfl rfl)
theorem dX4_areLike_42 : decode cX4_areLike 42 = .ok (.iload_n 2, 1) := dk_28 (dk_at dksX4_areLike_1 19 rfl rfl)
theorem dX4_areLike_43 : decode cX4_areLike 43 = .ok (.laload, 1) := dk_47 (dk_at dksX4_areLike_1 20 rfl rfl)
theorem dX4_areLike_44 : decode cX4_areLike 44 = .ok (.lcmp, 1) := dk_148 (dk_at dksX4_areLike_1 21 rfl rfl)
theorem dX4_areLike_45 : decode cX4_areLike 45 = .ok (.ifCond .ne 23, 3) := dk_154 0 23 (dk_at dksX4_areLike_2 0 rfl rfl)
theorem dX4_areLike_48 : decode cX4_areLike 48 = .ok (.aload_n 0, 1) := dk_42 (dk_at dksX4_areLike_2 3 rfl rfl)
theorem dX4_areLike_49 : decode cX4_areLike 49 = .ok (.getfield 78, 3) := dk_180 0 78 (dk_at dksX4_areLike_2 4 rfl rfl)
theorem dX4_areLike_52 : decode cX4_areLike 52 = .ok (.iload_n 1, 1) := dk_27 (dk_at dksX4_areLike_2 7 rfl rfl)
theorem dX4_areLike_53 : decode cX4_areLike 53 = .ok (.laload, 1) := dk_47 (dk_at dksX4_areLike_2 8 rfl rfl)
theorem dX4_areLike_54 : decode cX4_areLike 54 = .ok (.aload_n 0, 1) := dk_42 (dk_at dksX4_areLike_2 9 rfl rfl)
theorem dX4_areLike_55 : decode cX4_areLike 55 = .ok (.getfield 78, 3) := dk_180 0 78 (dk_at dksX4_areLike_2 10 rfl rfl)
theorem dX4_areLike_58 : decode cX4_areLike 58 = .ok (.iload_n 2, 1) := dk_28 (dk_at dksX4_areLike_2 13 rfl rfl)
theorem dX4_areLike_59 : decode cX4_areLike 59 = .ok (.laload, 1) := dk_47 (dk_at dksX4_areLike_2 14 rfl rfl)
theorem dX4_areLike_60 : decode cX4_areLike 60 = .ok (.lcmp, 1) := dk_148 (dk_at dksX4_areLike_2 15 rfl rfl)
theorem dX4_areLike_61 : decode cX4_areLike 61 = .ok (.ifCond .ne 7, 3) := dk_154 0 7 (dk_at dksX4_areLike_2 16 rfl rfl)
theorem dX4_areLike_64 : decode cX4_areLike 64 = .ok (.iconst 1, 1) := dk_4 (dk_at dksX4_areLike_2 19 rfl rfl)
theorem dX4_areLike_65 : decode cX4_areLike 65 = .ok (.goto 4, 3) := dk_167 0 4 (dk_at dksX4_areLike_2 20 rfl rfl)
theorem dX4_areLike_68 : decode cX4_areLike 68 = .ok (.iconst 0, 1) := dk_3 (dk_at dksX4_areLike_2 23 rfl rfl)
theorem dX4_areLike_69 : decode cX4_areLike 69 = .ok (.ireturn, 1) := dk_172 (dk_at dksX4_areLike_3 0 rfl rfl)
def dkwX4_carries_2 : List UInt8 := [153, 0, 7, 4, 167, 0, 4, 3, 172]
abbrev dktX4_carries_2 : List UInt8 := dkwX4_carries_2 ++ []
def dkwX4_carries_1 : List UInt8 := [180, 1, 46, 182, 1, 158, 87, 27, 4, 160, 0, 10, 42, 180, 1, 140, 167, 0, 15, 42, 180, 1, 143]
abbrev dktX4_carries_1 : List UInt8 := dkwX4_carries_1 ++ dktX4_carries_2
def dkwX4_carries_0 : List UInt8 := [42, 3, 181, 0, 1, 27, 3, 4, 184, 0, 168, 154, 0, 5, 2, 172, 42, 42, 180, 1, 43, 42]
abbrev dktX4_carries_0 : List UInt8 := dkwX4_carries_0 ++ dktX4_carries_1
theorem dksX4_carries_0 : cX4_carries.data.toList.drop 0 = dktX4_carries_0 := by decide +kernel
theorem dksX4_carries_1 : cX4_carries.data.toList.drop 22 = dktX4_carries_1 := dk_seg dksX4_carries_0 22 rfl rfl
theorem dksX4_carries_2 : cX4_carries.data.toList.drop 45 = dktX4_carries_2 := dk_seg dksX4_carries_1 23 rfl rfl
theorem dX4_carries_0 : decode cX4_carries 0 = .ok (.aload_n 0, 1) := dk_42 (dk_at dksX4_carries_0 0 rfl rfl)
theorem dX4_carries_1 : decode cX4_carries 1 = .ok (.iconst 0, 1) := dk_3 (dk_at dksX4_carries_0 1 rfl rfl)
theorem dX4_carries_2 : decode cX4_carries 2 = .ok (.putfield 1, 3) := dk_181 0 1 (dk_at dksX4_carries_0 2 rfl rfl)
theorem dX4_carries_5 : decode cX4_carries 5 = .ok (.iload_n 1, 1) := dk_27 (dk_at dksX4_carries_0 5 rfl rfl)
theorem dX4_carries_6 : decode cX4_carries 6 = .ok (.iconst 0, 1) := dk_3 (dk_at dksX4_carries_0 6 rfl rfl)
theorem dX4_carries_7 : decode cX4_carries 7 = .ok (.iconst 1, 1) := dk_4 (dk_at dksX4_carries_0 7 rfl rfl)
theorem dX4_carries_8 : decode cX4_carries 8 = .ok (.invokestatic 168, 3) := dk_184 0 168 (dk_at dksX4_carries_0 8 rfl rfl)
theorem dX4_carries_11 : decode cX4_carries 11 = .ok (.ifCond .ne 5, 3) := dk_154 0 5 (dk_at dksX4_carries_0 11 rfl rfl)
theorem dX4_carries_14 : decode cX4_carries 14 = .ok (.iconst (-1), 1) := dk_2 (dk_at dksX4_carries_0 14 rfl rfl)
theorem dX4_carries_15 : decode cX4_carries 15 = .ok (.ireturn, 1) := dk_172 (dk_at dksX4_carries_0 15 rfl rfl)
theorem dX4_carries_16 : decode cX4_carries 16 = .ok (.aload_n 0, 1) := dk_42 (dk_at dksX4_carries_0 16 rfl rfl)
theorem dX4_carries_17 : decode cX4_carries 17 = .ok (.aload_n 0, 1) := dk_42 (dk_at dksX4_carries_0 17 rfl rfl)
theorem dX4_carries_18 : decode cX4_carries 18 = .ok (.getfield 299, 3) := dk_180 1 43 (dk_at dksX4_carries_0 18 rfl rfl)
theorem dX4_carries_21 : decode cX4_carries 21 = .ok (.aload_n 0, 1) := dk_42 (dk_at dksX4_carries_0 21 rfl rfl)
theorem dX4_carries_22 : decode cX4_carries 22 = .ok (.getfield 302, 3) := dk_180 1 46 (dk_at dksX4_carries_1 0 rfl rfl)
theorem dX4_carries_25 : decode cX4_carries 25 = .ok (.invokevirtual 414, 3) := dk_182 1 158 (dk_at dksX4_carries_1 3 rfl rfl)
theorem dX4_carries_28 : decode cX4_carries 28 = .ok (.pop, 1) := dk_87 (dk_at dksX4_carries_1 6 rfl rfl)
theorem dX4_carries_29 : decode cX4_carries 29 = .ok (.iload_n 1, 1) := dk_27 (dk_at dksX4_carries_1 7 rfl rfl)
theorem dX4_carries_30 : decode cX4_carries 30 = .ok (.iconst 1, 1) := dk_4 (dk_at dksX4_carries_1 8 rfl rfl)
theorem dX4_carries_31 : decode cX4_carries 31 = .ok (.if_icmp .ne 10, 3) := dk_160 0 10 (dk_at dksX4_carries_1 9 rfl rfl)
theorem dX4_carries_34 : decode cX4_carries 34 = .ok (.aload_n 0, 1) := dk_42 (dk_at dksX4_carries_1 12 rfl rfl)
theorem dX4_carries_35 : decode cX4_carries 35 = .ok (.getfield 396, 3) := dk_180 1 140 (dk_at dksX4_carries_1 13 rfl rfl)
theorem dX4_carries_38 : decode cX4_carries 38 = .ok (.goto 15, 3) := dk_167 0 15 (dk_at dksX4_carries_1 16 rfl rfl)
theorem dX4_carries_41 : decode cX4_carries 41 = .ok (.aload_n 0, 1) := dk_42 (dk_at dksX4_carries_1 19 rfl rfl)
theorem dX4_carries_42 : decode cX4_carries 42 = .ok (.getfield 399, 3) := dk_180 1 143 (dk_at dksX4_carries_1 20 rfl rfl)
theorem dX4_carries_45 : decode cX4_carries 45 = .ok (.ifCond .eq 7, 3) := dk_153 0 7 (dk_at dksX4_carries_2 0 rfl rfl)
theorem dX4_carries_48 : decode cX4_carries 48 = .ok (.iconst 1, 1) := dk_4 (dk_at dksX4_carries_2 3 rfl rfl)
theorem dX4_carries_49 : decode cX4_carries 49 = .ok (.goto 4, 3) := dk_167 0 4 (dk_at dksX4_carries_2 4 rfl rfl)
theorem dX4_carries_52 : decode cX4_carries 52 = .ok (.iconst 0, 1) := dk_3 (dk_at dksX4_carries_2 7 rfl rfl)
theorem dX4_carries_53 : decode cX4_carries 53 = .ok (.ireturn, 1) := dk_172 (dk_at dksX4_carries_2 8 rfl rfl)
def dkwX4_height_3 : List UInt8 := [4, 167, 0, 4, 3, 181, 1, 143, 42, 180, 1, 140, 172]
abbrev dktX4_height_3 : List UInt8 := dkwX4_height_3 ++ []
def dkwX4_height_2 : List UInt8 := [42, 180, 1, 140, 181, 1, 140, 167, 255, 212, 42, 42, 180, 1, 140, 42, 180, 0, 41, 6, 46, 161, 0, 7]
abbrev dktX4_height_2 : List UInt8 := dkwX4_height_2 ++ dktX4_height_3
def dkwX4_height_1 : List UInt8 := [42, 180, 1, 92, 184, 1, 88, 54, 5, 42, 21, 5, 42, 180, 1, 140, 164, 0, 8, 21, 5, 167, 0, 7]
abbrev dktX4_height_1 : List UInt8 := dkwX4_height_1 ++ dktX4_height_2
def dkwX4_height_0 : List UInt8 := [42, 31, 33, 182, 1, 133, 42, 3, 181, 1, 140, 42, 180, 1, 117, 16, 60, 163, 0, 41, 42, 182, 1, 137]
abbrev dktX4_height_0 : List UInt8 := dkwX4_height_0 ++ dktX4_height_1
theorem dksX4_height_0 : cX4_height.data.toList.drop 0 = dktX4_height_0 := by decide +kernel
theorem dksX4_height_1 : cX4_height.data.toList.drop 24 = dktX4_height_1 := dk_seg dksX4_height_0 24 rfl rfl
theorem dksX4_height_2 : cX4_height.data.toList.drop 48 = dktX4_height_2 := dk_seg dksX4_height_1 24 rfl rfl
theorem dksX4_height_3 : cX4_height.data.toList.drop 72 = dktX4_height_3 := dk_seg dksX4_height_2 24 rfl rfl
theorem dX4_height_0 : decode cX4_height 0 = .ok (.aload_n 0, 1) := dk_42 (dk_at dksX4_height_0 0 rfl rfl)
theorem dX4_height_1 : decode cX4_height 1 = .ok (.lload_n 1, 1) := dk_31 (dk_at dksX4_height_0 1 rfl rfl)
theorem dX4_height_2 : decode cX4_height 2 = .ok (.lload_n 3, 1) := dk_33 (dk_at dksX4_height_0 2 rfl rfl)
theorem dX4_height_3 : decode cX4_height 3 = .ok (.invokevirtual 389, 3) := dk_182 1 133 (dk_at dksX4_height_0 3 rfl rfl)
theorem dX4_height_6 : decode cX4_height 6 = .ok (.aload_n 0, 1) := dk_42 (dk_at dksX4_height_0 6 rfl rfl)
theorem dX4_height_7 : decode cX4_height 7 = .ok (.iconst 0, 1) := dk_3 (dk_at dksX4_height_0 7 rfl rfl)
theorem dX4_height_8 : decode cX4_height 8 = .ok (.putfield 396, 3) := dk_181 1 140 (dk_at dksX4_height_0 8 rfl rfl)
theorem dX4_height_11 : decode cX4_height 11 = .ok (.aload_n 0, 1) := dk_42 (dk_at dksX4_height_0 11 rfl rfl)
theorem dX4_height_12 : decode cX4_height 12 = .ok (.getfield 373, 3) := dk_180 1 117 (dk_at dksX4_height_0 12 rfl rfl)
theorem dX4_height_15 : decode cX4_height 15 = .ok (.bipush 60, 2) := dk_16 60 (dk_at dksX4_height_0 15 rfl rfl)
theorem dX4_height_17 : decode cX4_height 17 = .ok (.if_icmp .gt 41, 3) := dk_163 0 41 (dk_at dksX4_height_0 17 rfl rfl)
theorem dX4_height_20 : decode cX4_height 20 = .ok (.aload_n 0, 1) := dk_42 (dk_at dksX4_height_0 20 rfl rfl)
theorem dX4_height_21 : decode cX4_height 21 = .ok (.invokevirtual 393, 3) := dk_182 1 137 (dk_at dksX4_height_0 21 rfl rfl)
theorem dX4_height_24 : decode cX4_height 24 = .ok (.aload_n 0, 1) := dk_42 (dk_at dksX4_height_1 0 rfl rfl)
theorem dX4_height_25 : decode cX4_height 25 = .ok (.getfield 348, 3) := dk_180 1 92 (dk_at dksX4_height_1 1 rfl rfl)
theorem dX4_height_28 : decode cX4_height 28 = .ok (.invokestatic 344, 3) := dk_184 1 88 (dk_at dksX4_height_1 4 rfl rfl)
theorem dX4_height_31 : decode cX4_height 31 = .ok (.istore 5, 2) := dk_54 5 (dk_at dksX4_height_1 7 rfl rfl)
theorem dX4_height_33 : decode cX4_height 33 = .ok (.aload_n 0, 1) := dk_42 (dk_at dksX4_height_1 9 rfl rfl)
theorem dX4_height_34 : decode cX4_height 34 = .ok (.iload 5, 2) := dk_21 5 (dk_at dksX4_height_1 10 rfl rfl)
theorem dX4_height_36 : decode cX4_height 36 = .ok (.aload_n 0, 1) := dk_42 (dk_at dksX4_height_1 12 rfl rfl)
theorem dX4_height_37 : decode cX4_height 37 = .ok (.getfield 396, 3) := dk_180 1 140 (dk_at dksX4_height_1 13 rfl rfl)
theorem dX4_height_40 : decode cX4_height 40 = .ok (.if_icmp .le 8, 3) := dk_164 0 8 (dk_at dksX4_height_1 16 rfl rfl)
theorem dX4_height_43 : decode cX4_height 43 = .ok (.iload 5, 2) := dk_21 5 (dk_at dksX4_height_1 19 rfl rfl)
theorem dX4_height_45 : decode cX4_height 45 = .ok (.goto 7, 3) := dk_167 0 7 (dk_at dksX4_height_1 21 rfl rfl)
theorem dX4_height_48 : decode cX4_height 48 = .ok (.aload_n 0, 1) := dk_42 (dk_at dksX4_height_2 0 rfl rfl)
theorem dX4_height_49 : decode cX4_height 49 = .ok (.getfield 396, 3) := dk_180 1 140 (dk_at dksX4_height_2 1 rfl rfl)
theorem dX4_height_52 : decode cX4_height 52 = .ok (.putfield 396, 3) := dk_181 1 140 (dk_at dksX4_height_2 4 rfl rfl)
theorem dX4_height_55 : decode cX4_height 55 = .ok (.goto (-44), 3) := dk_167 255 212 (dk_at dksX4_height_2 7 rfl rfl)
theorem dX4_height_58 : decode cX4_height 58 = .ok (.aload_n 0, 1) := dk_42 (dk_at dksX4_height_2 10 rfl rfl)
theorem dX4_height_59 : decode cX4_height 59 = .ok (.aload_n 0, 1) := dk_42 (dk_at dksX4_height_2 11 rfl rfl)
theorem dX4_height_60 : decode cX4_height 60 = .ok (.getfield 396, 3) := dk_180 1 140 (dk_at dksX4_height_2 12 rfl rfl)
theorem dX4_height_63 : decode cX4_height 63 = .ok (.aload_n 0, 1) := dk_42 (dk_at dksX4_height_2 15 rfl rfl)
theorem dX4_height_64 : decode cX4_height 64 = .ok (.getfield 41, 3) := dk_180 0 41 (dk_at dksX4_height_2 16 rfl rfl)
theorem dX4_height_67 : decode cX4_height 67 = .ok (.iconst 3, 1) := dk_6 (dk_at dksX4_height_2 19 rfl rfl)
theorem dX4_height_68 : decode cX4_height 68 = .ok (.iaload, 1) := dk_46 (dk_at dksX4_height_2 20 rfl rfl)
theorem dX4_height_69 : decode cX4_height 69 = .ok (.if_icmp .lt 7, 3) := dk_161 0 7 (dk_at dksX4_height_2 21 rfl rfl)
theorem dX4_height_72 : decode cX4_height 72 = .ok (.iconst 1, 1) := dk_4 (dk_at dksX4_height_3 0 rfl rfl)
theorem dX4_height_73 : decode cX4_height 73 = .ok (.goto 4, 3) := dk_167 0 4 (dk_at dksX4_height_3 1 rfl rfl)
theorem dX4_height_76 : decode cX4_height 76 = .ok (.iconst 0, 1) := dk_3 (dk_at dksX4_height_3 4 rfl rfl)
theorem dX4_height_77 : decode cX4_height 77 = .ok (.putfield 399, 3) := dk_181 1 143 (dk_at dksX4_height_3 5 rfl rfl)
theorem dX4_height_80 : decode cX4_height 80 = .ok (.aload_n 0, 1) := dk_42 (dk_at dksX4_height_3 8 rfl rfl)
theorem dX4_height_81 : decode cX4_height 81 = .ok (.getfield 396, 3) := dk_180 1 140 (dk_at dksX4_height_3 9 rfl rfl)
theorem dX4_height_84 : decode cX4_height 84 = .ok (.ireturn, 1) := dk_172 (dk_at dksX4_height_3 12 rfl rfl)
def dkwX4_cheapest_6 : List UInt8 := [29, 60, 21, 4, 61, 132, 3, 1, 167, 255, 131, 27, 156, 0, 5, 2, 172, 42, 27, 181, 0, 84, 28, 172]
abbrev dktX4_cheapest_6 : List UInt8 := dkwX4_cheapest_6 ++ []
def dkwX4_cheapest_5 : List UInt8 := [42, 29, 182, 1, 172, 129, 42, 180, 1, 46, 182, 1, 158, 87, 42, 180, 1, 143, 154, 0, 6, 167, 0, 8]
abbrev dktX4_cheapest_5 : List UInt8 := dkwX4_cheapest_5 ++ dktX4_cheapest_6
def dkwX4_cheapest_4 : List UInt8 := [160, 0, 19, 29, 133, 184, 1, 88, 27, 133, 184, 1, 88, 161, 0, 6, 167, 0, 37, 42, 42, 180, 1, 43]
abbrev dktX4_cheapest_4 : List UInt8 := dkwX4_cheapest_4 ++ dktX4_cheapest_5
def dkwX4_cheapest_3 : List UInt8 := [167, 0, 4, 3, 96, 54, 4, 132, 5, 1, 167, 255, 215, 21, 4, 28, 163, 0, 59, 21, 4, 28]
abbrev dktX4_cheapest_3 : List UInt8 := dkwX4_cheapest_3 ++ dktX4_cheapest_4
def dkwX4_cheapest_2 : List UInt8 := [21, 4, 29, 21, 5, 184, 0, 222, 153, 0, 17, 42, 42, 180, 0, 81, 21, 5, 46, 182, 1, 65]
abbrev dktX4_cheapest_2 : List UInt8 := dkwX4_cheapest_2 ++ dktX4_cheapest_3
def dkwX4_cheapest_1 : List UInt8 := [4, 42, 180, 1, 162, 120, 162, 0, 121, 3, 54, 4, 3, 54, 5, 21, 5, 42, 180, 1, 162, 162, 0, 38]
abbrev dktX4_cheapest_1 : List UInt8 := dkwX4_cheapest_1 ++ dktX4_cheapest_2
def dkwX4_cheapest_0 : List UInt8 := [42, 3, 181, 0, 1, 42, 182, 1, 168, 154, 0, 6, 16, 254, 172, 2, 60, 19, 1, 171, 61, 3, 62, 29]
abbrev dktX4_cheapest_0 : List UInt8 := dkwX4_cheapest_0 ++ dktX4_cheapest_1
theorem dksX4_cheapest_0 : cX4_cheapest.data.toList.drop 0 = dktX4_cheapest_0 := by decide +kernel
theorem dksX4_cheapest_1 : cX4_cheapest.data.toList.drop 24 = dktX4_cheapest_1 := dk_seg dksX4_cheapest_0 24 rfl rfl
theorem dksX4_cheapest_2 : cX4_cheapest.data.toList.drop 48 = dktX4_cheapest_2 := dk_seg dksX4_cheapest_1 24 rfl rfl
theorem dksX4_cheapest_3 : cX4_cheapest.data.toList.drop 70 = dktX4_cheapest_3 := dk_seg dksX4_cheapest_2 22 rfl rfl
theorem dksX4_cheapest_4 : cX4_cheapest.data.toList.drop 92 = dktX4_cheapest_4 := dk_seg dksX4_cheapest_3 22 rfl rfl
theorem dksX4_cheapest_5 : cX4_cheapest.data.toList.drop 116 = dktX4_cheapest_5 := dk_seg dksX4_cheapest_4 24 rfl rfl
theorem dksX4_cheapest_6 : cX4_cheapest.data.toList.drop 140 = dktX4_cheapest_6 := dk_seg dksX4_cheapest_5 24 rfl rfl
theorem dX4_cheapest_0 : decode cX4_cheapest 0 = .ok (.aload_n 0, 1) := dk_42 (dk_at dksX4_cheapest_0 0 rfl rfl)
theorem dX4_cheapest_1 : decode cX4_cheapest 1 = .ok (.iconst 0, 1) := dk_3 (dk_at dksX4_cheapest_0 1 rfl rfl)
theorem dX4_cheapest_2 : decode cX4_cheapest 2 = .ok (.putfield 1, 3) := dk_181 0 1 (dk_at dksX4_cheapest_0 2 rfl rfl)
theorem dX4_cheapest_5 : decode cX4_cheapest 5 = .ok (.aload_n 0, 1) := dk_42 (dk_at dksX4_cheapest_0 5 rfl rfl)
theorem dX4_cheapest_6 : decode cX4_cheapest 6 = .ok (.invokevirtual 424, 3) := dk_182 1 168 (dk_at dksX4_cheapest_0 6 rfl rfl)
theorem dX4_cheapest_9 : decode cX4_cheapest 9 = .ok (.ifCond .ne 6, 3) := dk_154 0 6 (dk_at dksX4_cheapest_0 9 rfl rfl)
theorem dX4_cheapest_12 : decode cX4_cheapest 12 = .ok (.bipush (-2), 2) := dk_16 254 (dk_at dksX4_cheapest_0 12 rfl rfl)
theorem dX4_cheapest_14 : decode cX4_cheapest 14 = .ok (.ireturn, 1) := dk_172 (dk_at dksX4_cheapest_0 14 rfl rfl)
theorem dX4_cheapest_15 : decode cX4_cheapest 15 = .ok (.iconst (-1), 1) := dk_2 (dk_at dksX4_cheapest_0 15 rfl rfl)
theorem dX4_cheapest_16 : decode cX4_cheapest 16 = .ok (.istore_n 1, 1) := dk_60 (dk_at dksX4_cheapest_0 16 rfl rfl)
theorem dX4_cheapest_17 : decode cX4_cheapest 17 = .ok (.ldc_w 427, 3) := dk_19 1 171 (dk_at dksX4_cheapest_0 17 rfl rfl)
theorem dX4_cheapest_20 : decode cX4_cheapest 20 = .ok (.istore_n 2, 1) := dk_61 (dk_at dksX4_cheapest_0 20 rfl rfl)
theorem dX4_cheapest_21 : decode cX4_cheapest 21 = .ok (.iconst 0, 1) := dk_3 (dk_at dksX4_cheapest_0 21 rfl rfl)
theorem dX4_cheapest_22 : decode cX4_cheapest 22 = .ok (.istore_n 3, 1) := dk_62 (dk_at dksX4_cheapest_0 22 rfl rfl)
theorem dX4_cheapest_23 : decode cX4_cheapest 23 = .ok (.iload_n 3, 1) := dk_29 (dk_at dksX4_cheapest_0 23 rfl rfl)
theorem dX4_cheapest_24 : decode cX4_cheapest 24 = .ok (.iconst 1, 1) := dk_4 (dk_at dksX4_cheapest_1 0 rfl rfl)
theorem dX4_cheapest_25 : decode cX4_cheapest 25 = .ok (.aload_n 0, 1) := dk_42 (dk_at dksX4_cheapest_1 1 rfl rfl)
theorem dX4_cheapest_26 : decode cX4_cheapest 26 = .ok (.getfield 418, 3) := dk_180 1 162 (dk_at dksX4_cheapest_1 2 rfl rfl)
theorem dX4_cheapest_29 : decode cX4_cheapest 29 = .ok (.ishl, 1) := dk_120 (dk_at dksX4_cheapest_1 5 rfl rfl)
theorem dX4_cheapest_30 : decode cX4_cheapest 30 = .ok (.if_icmp .ge 121, 3) := dk_162 0 121 (dk_at dksX4_cheapest_1 6 rfl rfl)
theorem dX4_cheapest_33 : decode cX4_cheapest 33 = .ok (.iconst 0, 1) := dk_3 (dk_at dksX4_cheapest_1 9 rfl rfl)
theorem dX4_cheapest_34 : decode cX4_cheapest 34 = .ok (.istore 4, 2) := dk_54 4 (dk_at dksX4_cheapest_1 10 rfl rfl)
theorem dX4_cheapest_36 : decode cX4_cheapest 36 = .ok (.iconst 0, 1) := dk_3 (dk_at dksX4_cheapest_1 12 rfl rfl)
theorem dX4_cheapest_37 : decode cX4_cheapest 37 = .ok (.istore 5, 2) := dk_54 5 (dk_at dksX4_cheapest_1 13 rfl rfl)
theorem dX4_cheapest_39 : decode cX4_cheapest 39 = .ok (.iload 5, 2) := dk_21 5 (dk_at dksX4_cheapest_1 15 rfl rfl)
theorem dX4_cheapest_41 : decode cX4_cheapest 41 = .ok (.aload_n 0, 1) := dk_42 (dk_at dksX4_cheapest_1 17 rfl rfl)
theorem dX4_cheapest_42 : decode cX4_cheapest 42 = .ok (.getfield 418, 3) := dk_180 1 162 (dk_at dksX4_cheapest_1 18 rfl rfl)
theorem dX4_cheapest_45 : decode cX4_cheapest 45 = .ok (.if_icmp .ge 38, 3) := dk_162 0 38 (dk_at dksX4_cheapest_1 21 rfl rfl)
theorem dX4_cheapest_48 : decode cX4_cheapest 48 = .ok (.iload 4, 2) := dk_21 4 (dk_at dksX4_cheapest_2 0 rfl rfl)
theorem dX4_cheapest_50 : decode cX4_cheapest 50 = .ok (.iload_n 3, 1) := dk_29 (dk_at dksX4_cheapest_2 2 rfl rfl)
theorem dX4_cheapest_51 : decode cX4_cheapest 51 = .ok (.iload 5, 2) := dk_21 5 (dk_at dksX4_cheapest_2 3 rfl rfl)
theorem dX4_cheapest_53 : decode cX4_cheapest 53 = .ok (.invokestatic 222, 3) := dk_184 0 222 (dk_at dksX4_cheapest_2 5 rfl rfl)
theorem dX4_cheapest_56 : decode cX4_cheapest 56 = .ok (.ifCond .eq 17, 3) := dk_153 0 17 (dk_at dksX4_cheapest_2 8 rfl rfl)
theorem dX4_cheapest_59 : decode cX4_cheapest 59 = .ok (.aload_n 0, 1) := dk_42 (dk_at dksX4_cheapest_2 11 rfl rfl)
theorem dX4_cheapest_60 : decode cX4_cheapest 60 = .ok (.aload_n 0, 1) := dk_42 (dk_at dksX4_cheapest_2 12 rfl rfl)
theorem dX4_cheapest_61 : decode cX4_cheapest 61 = .ok (.getfield 81, 3) := dk_180 0 81 (dk_at dksX4_cheapest_2 13 rfl rfl)
theorem dX4_cheapest_64 : decode cX4_cheapest 64 = .ok (.iload 5, 2) := dk_21 5 (dk_at dksX4_cheapest_2 16 rfl rfl)
theorem dX4_cheapest_66 : decode cX4_cheapest 66 = .ok (.iaload, 1) := dk_46 (dk_at dksX4_cheapest_2 18 rfl rfl)
theorem dX4_cheapest_67 : decode cX4_cheapest 67 = .ok (.invokevirtual 321, 3) := dk_182 1 65 (dk_at dksX4_cheapest_2 19 rfl rfl)
theorem dX4_cheapest_70 : decode cX4_cheapest 70 = .ok (.goto 4, 3) := dk_167 0 4 (dk_at dksX4_cheapest_3 0 rfl rfl)
theorem dX4_cheapest_73 : decode cX4_cheapest 73 = .ok (.iconst 0, 1) := dk_3 (dk_at dksX4_cheapest_3 3 rfl rfl)
theorem dX4_cheapest_74 : decode cX4_cheapest 74 = .ok (.iadd, 1) := dk_96 (dk_at dksX4_cheapest_3 4 rfl rfl)
theorem dX4_cheapest_75 : decode cX4_cheapest 75 = .ok (.istore 4, 2) := dk_54 4 (dk_at dksX4_cheapest_3 5 rfl rfl)
theorem dX4_cheapest_77 : decode cX4_cheapest 77 = .ok (.iinc 5 1, 3) := dk_132 5 1 (dk_at dksX4_cheapest_3 7 rfl rfl)
theorem dX4_cheapest_80 : decode cX4_cheapest 80 = .ok (.goto (-41), 3) := dk_167 255 215 (dk_at dksX4_cheapest_3 10 rfl rfl)
theorem dX4_cheapest_83 : decode cX4_cheapest 83 = .ok (.iload 4, 2) := dk_21 4 (dk_at dksX4_cheapest_3 13 rfl rfl)
theorem dX4_cheapest_85 : decode cX4_cheapest 85 = .ok (.iload_n 2, 1) := dk_28 (dk_at dksX4_cheapest_3 15 rfl rfl)
theorem dX4_cheapest_86 : decode cX4_cheapest 86 = .ok (.if_icmp .gt 59, 3) := dk_163 0 59 (dk_at dksX4_cheapest_3 16 rfl rfl)
theorem dX4_cheapest_89 : decode cX4_cheapest 89 = .ok (.iload 4, 2) := dk_21 4 (dk_at dksX4_cheapest_3 19 rfl rfl)
theorem dX4_cheapest_91 : decode cX4_cheapest 91 = .ok (.iload_n 2, 1) := dk_28 (dk_at dksX4_cheapest_3 21 rfl rfl)
theorem dX4_cheapest_92 : decode cX4_cheapest 92 = .ok (.if_icmp .ne 19, 3) := dk_160 0 19 (dk_at dksX4_cheapest_4 0 rfl rfl)
theorem dX4_cheapest_95 : decode cX4_cheapest 95 = .ok (.iload_n 3, 1) := dk_29 (dk_at dksX4_cheapest_4 3 rfl rfl)
theorem dX4_cheapest_96 : decode cX4_cheapest 96 = .ok (.i2l, 1) := dk_133 (dk_at dksX4_cheapest_4 4 rfl rfl)
theorem dX4_cheapest_97 : decode cX4_cheapest 97 = .ok (.invokestatic 344, 3) := dk_184 1 88 (dk_at dksX4_cheapest_4 5 rfl rfl)
theorem dX4_cheapest_100 : decode cX4_cheapest 100 = .ok (.iload_n 1, 1) := dk_27 (dk_at dksX4_cheapest_4 8 rfl rfl)
theorem dX4_cheapest_101 : decode cX4_cheapest 101 = .ok (.i2l, 1) := dk_133 (dk_at dksX4_cheapest_4 9 rfl rfl)
theorem dX4_cheapest_102 : decode cX4_cheapest 102 = .ok (.invokestatic 344, 3) := dk_184 1 88 (dk_at dksX4_cheapest_4 10 rfl rfl)
theorem dX4_cheapest_105 : decode cX4_cheapest 105 = .ok (.if_icmp .lt 6, 3) := dk_161 0 6 (dk_at dksX4_cheapest_4 13 rfl rfl)
theorem dX4_cheapest_108 : decode cX4_cheapest 108 = .ok (.goto 37, 3) := dk_167 0 37 (dk_at dksX4_cheapest_4 16 rfl rfl)
theorem dX4_cheapest_111 : decode cX4_cheapest 111 = .ok (.aload_n 0, 1) := dk_42 (dk_at dksX4_cheapest_4 19 rfl rfl)
theorem dX4_cheapest_112 : decode cX4_cheapest 112 = .ok (.aload_n 0, 1) := dk_42 (dk_at dksX4_cheapest_4 20 rfl rfl)
theorem dX4_cheapest_113 : decode cX4_cheapest 113 = .ok (.getfield 299, 3) := dk_180 1 43 (dk_at dksX4_cheapest_4 21 rfl rfl)
theorem dX4_cheapest_116 : decode cX4_cheapest 116 = .ok (.aload_n 0, 1) := dk_42 (dk_at dksX4_cheapest_5 0 rfl rfl)
theorem dX4_cheapest_117 : decode cX4_cheapest 117 = .ok (.iload_n 3, 1) := dk_29 (dk_at dksX4_cheapest_5 1 rfl rfl)
theorem dX4_cheapest_118 : decode cX4_cheapest 118 = .ok (.invokevirtual 428, 3) := dk_182 1 172 (dk_at dksX4_cheapest_5 2 rfl rfl)
theorem dX4_cheapest_121 : decode cX4_cheapest 121 = .ok (.lor, 1) := dk_129 (dk_at dksX4_cheapest_5 5 rfl rfl)
theorem dX4_cheapest_122 : decode cX4_cheapest 122 = .ok (.aload_n 0, 1) := dk_42 (dk_at dksX4_cheapest_5 6 rfl rfl)
theorem dX4_cheapest_123 : decode cX4_cheapest 123 = .ok (.getfield 302, 3) := dk_180 1 46 (dk_at dksX4_cheapest_5 7 rfl rfl)
theorem dX4_cheapest_126 : decode cX4_cheapest 126 = .ok (.invokevirtual 414, 3) := dk_182 1 158 (dk_at dksX4_cheapest_5 10 rfl rfl)
theorem dX4_cheapest_129 : decode cX4_cheapest 129 = .ok (.pop, 1) := dk_87 (dk_at dksX4_cheapest_5 13 rfl rfl)
theorem dX4_cheapest_130 : decode cX4_cheapest 130 = .ok (.aload_n 0, 1) := dk_42 (dk_at dksX4_cheapest_5 14 rfl rfl)
theorem dX4_cheapest_131 : decode cX4_cheapest 131 = .ok (.getfield 399, 3) := dk_180 1 143 (dk_at dksX4_cheapest_5 15 rfl rfl)
theorem dX4_cheapest_134 : decode cX4_cheapest 134 = .ok (.ifCond .ne 6, 3) := dk_154 0 6 (dk_at dksX4_cheapest_5 18 rfl rfl)
theorem dX4_cheapest_137 : decode cX4_cheapest 137 = .ok (.goto 8, 3) := dk_167 0 8 (dk_at dksX4_cheapest_5 21 rfl rfl)
theorem dX4_cheapest_140 : decode cX4_cheapest 140 = .ok (.iload_n 3, 1) := dk_29 (dk_at dksX4_cheapest_6 0 rfl rfl)
theorem dX4_cheapest_141 : decode cX4_cheapest 141 = .ok (.istore_n 1, 1) := dk_60 (dk_at dksX4_cheapest_6 1 rfl rfl)
theorem dX4_cheapest_142 : decode cX4_cheapest 142 = .ok (.iload 4, 2) := dk_21 4 (dk_at dksX4_cheapest_6 2 rfl rfl)
theorem dX4_cheapest_144 : decode cX4_cheapest 144 = .ok (.istore_n 2, 1) := dk_61 (dk_at dksX4_cheapest_6 4 rfl rfl)
theorem dX4_cheapest_145 : decode cX4_cheapest 145 = .ok (.iinc 3 1, 3) := dk_132 3 1 (dk_at dksX4_cheapest_6 5 rfl rfl)
theorem dX4_cheapest_148 : decode cX4_cheapest 148 = .ok (.goto (-125), 3) := dk_167 255 131 (dk_at dksX4_cheapest_6 8 rfl rfl)
theorem dX4_cheapest_151 : decode cX4_cheapest 151 = .ok (.iload_n 1, 1) := dk_27 (dk_at dksX4_cheapest_6 11 rfl rfl)
theorem dX4_cheapest_152 : decode cX4_cheapest 152 = .ok (.ifCond .ge 5, 3) := dk_156 0 5 (dk_at dksX4_cheapest_6 12 rfl rfl)
theorem dX4_cheapest_155 : decode cX4_cheapest 155 = .ok (.iconst (-1), 1) := dk_2 (dk_at dksX4_cheapest_6 15 rfl rfl)
theorem dX4_cheapest_156 : decode cX4_cheapest 156 = .ok (.ireturn, 1) := dk_172 (dk_at dksX4_cheapest_6 16 rfl rfl)
theorem dX4_cheapest_157 : decode cX4_cheapest 157 = .ok (.aload_n 0, 1) := dk_42 (dk_at dksX4_cheapest_6 17 rfl rfl)
theorem dX4_cheapest_158 : decode cX4_cheapest 158 = .ok (.iload_n 1, 1) := dk_27 (dk_at dksX4_cheapest_6 18 rfl rfl)
theorem dX4_cheapest_159 : decode cX4_cheapest 159 = .ok (.putfield 84, 3) := dk_181 0 84 (dk_at dksX4_cheapest_6 19 rfl rfl)
theorem dX4_cheapest_162 : decode cX4_cheapest 162 = .ok (.iload_n 2, 1) := dk_28 (dk_at dksX4_cheapest_6 22 rfl rfl)
theorem dX4_cheapest_163 : decode cX4_cheapest 163 = .ok (.ireturn, 1) := dk_172 (dk_at dksX4_cheapest_6 23 rfl rfl)
def dkwX4_areEight_1 : List UInt8 := [180, 0, 18, 182, 1, 165, 153, 0, 7, 4, 167, 0, 4, 3, 172]
abbrev dktX4_areEight_1 : List UInt8 := dkwX4_areEight_1 ++ []
def dkwX4_areEight_0 : List UInt8 := [42, 17, 3, 172, 182, 1, 31, 42, 180, 0, 18, 4, 16, 8, 184, 0, 168, 153, 0, 19, 42, 3, 42]
abbrev dktX4_areEight_0 : List UInt8 := dkwX4_areEight_0 ++ dktX4_areEight_1
theorem dksX4_areEight_0 : cX4_areEight.data.toList.drop 0 = dktX4_areEight_0 := by decide +kernel
theorem dksX4_areEight_1 : cX4_areEight.data.toList.drop 23 = dktX4_areEight_1 := dk_seg dksX4_areEight_0 23 rfl rfl
theorem dX4_areEight_0 : decode cX4_areEight 0 = .ok (.aload_n 0, 1) := dk_42 (dk_at dksX4_areEight_0 0 rfl rfl)
theorem dX4_areEight_1 : decode cX4_areEight 1 = .ok (.sipush 940, 3) := dk_17 3 172 (dk_at dksX4_areEight_0 1 rfl rfl)
theorem dX4_areEight_4 : decode cX4_areEight 4 = .ok (.invokevirtual 287, 3) := dk_182 1 31 (dk_at dksX4_areEight_0 4 rfl rfl)
theorem dX4_areEight_7 : decode cX4_areEight 7 = .ok (.aload_n 0, 1) := dk_42 (dk_at dksX4_areEight_0 7 rfl rfl)
theorem dX4_areEight_8 : decode cX4_areEight 8 = .ok (.getfield 18, 3) := dk_180 0 18 (dk_at dksX4_areEight_0 8 rfl rfl)
theorem dX4_areEight_11 : decode cX4_areEight 11 = .ok (.iconst 1, 1) := dk_4 (dk_at dksX4_areEight_0 11 rfl rfl)
theorem dX4_areEight_12 : decode cX4_areEight 12 = .ok (.bipush 8, 2) := dk_16 8 (dk_at dksX4_areEight_0 12 rfl rfl)
theorem dX4_areEight_14 : decode cX4_areEight 14 = .ok (.invokestatic 168, 3) := dk_184 0 168 (dk_at dksX4_areEight_0 14 rfl rfl)
theorem dX4_areEight_17 : decode cX4_areEight 17 = .ok (.ifCond .eq 19, 3) := dk_153 0 19 (dk_at dksX4_areEight_0 17 rfl rfl)
theorem dX4_areEight_20 : decode cX4_areEight 20 = .ok (.aload_n 0, 1) := dk_42 (dk_at dksX4_areEight_0 20 rfl rfl)
theorem dX4_areEight_21 : decode cX4_areEight 21 = .ok (.iconst 0, 1) := dk_3 (dk_at dksX4_areEight_0 21 rfl rfl)
theorem dX4_areEight_22 : decode cX4_areEight 22 = .ok (.aload_n 0, 1) := dk_42 (dk_at dksX4_areEight_0 22 rfl rfl)
theorem dX4_areEight_23 : decode cX4_areEight 23 = .ok (.getfield 18, 3) := dk_180 0 18 (dk_at dksX4_areEight_1 0 rfl rfl)
theorem dX4_areEight_26 : decode cX4_areEight 26 = .ok (.invokevirtual 421, 3) := dk_182 1 165 (dk_at dksX4_areEight_1 3 rfl rfl)
theorem dX4_areEight_29 : decode cX4_areEight 29 = .ok (.ifCond .eq 7, 3) := dk_153 0 7 (dk_at dksX4_areEight_1 6 rfl rfl)
theorem dX4_areEight_32 : decode cX4_areEight 32 = .ok (.iconst 1, 1) := dk_4 (dk_at dksX4_areEight_1 9 rfl rfl)
theorem dX4_areEight_33 : decode cX4_areEight 33 = .ok (.goto 4, 3) := dk_167 0 4 (dk_at dksX4_areEight_1 10 rfl rfl)
theorem dX4_areEight_36 : decode cX4_areEight 36 = .ok (.iconst 0, 1) := dk_3 (dk_at dksX4_areEight_1 13 rfl rfl)
theorem dX4_areEight_37 : decode cX4_areEight 37 = .ok (.ireturn, 1) := dk_172 (dk_at dksX4_areEight_1 14 rfl rfl)
def dkwX4_takesSeats_4 : List UInt8 := [132, 3, 1, 167, 255, 177, 4, 172]
abbrev dktX4_takesSeats_4 : List UInt8 := dkwX4_takesSeats_4 ++ []
def dkwX4_takesSeats_3 : List UInt8 := [167, 255, 230, 42, 180, 0, 81, 42, 180, 1, 162, 21, 4, 79, 42, 89, 180, 1, 162, 4, 96, 181, 1, 162]
abbrev dktX4_takesSeats_3 : List UInt8 := dkwX4_takesSeats_3 ++ dktX4_takesSeats_4
def dkwX4_takesSeats_2 : List UInt8 := [180, 1, 162, 162, 0, 23, 42, 180, 0, 81, 21, 5, 46, 21, 4, 160, 0, 5, 3, 172, 132, 5, 1]
abbrev dktX4_takesSeats_2 : List UInt8 := dkwX4_takesSeats_2 ++ dktX4_takesSeats_3
def dkwX4_takesSeats_1 : List UInt8 := [182, 0, 225, 54, 4, 42, 21, 4, 182, 1, 58, 154, 0, 5, 3, 172, 3, 54, 5, 21, 5, 42]
abbrev dktX4_takesSeats_1 : List UInt8 := dkwX4_takesSeats_1 ++ dktX4_takesSeats_2
def dkwX4_takesSeats_0 : List UInt8 := [42, 3, 181, 1, 162, 28, 27, 100, 16, 14, 164, 0, 5, 3, 172, 27, 62, 29, 28, 162, 0, 80, 42, 29]
abbrev dktX4_takesSeats_0 : List UInt8 := dkwX4_takesSeats_0 ++ dktX4_takesSeats_1
theorem dksX4_takesSeats_0 : cX4_takesSeats.data.toList.drop 0 = dktX4_takesSeats_0 := by decide +kernel
theorem dksX4_takesSeats_1 : cX4_takesSeats.data.toList.drop 24 = dktX4_takesSeats_1 := dk_seg dksX4_takesSeats_0 24 rfl rfl
theorem dksX4_takesSeats_2 : cX4_takesSeats.data.toList.drop 46 = dktX4_takesSeats_2 := dk_seg dksX4_takesSeats_1 22 rfl rfl
theorem dksX4_takesSeats_3 : cX4_takesSeats.data.toList.drop 69 = dktX4_takesSeats_3 := dk_seg dksX4_takesSeats_2 23 rfl rfl
theorem dksX4_takesSeats_4 : cX4_takesSeats.data.toList.drop 93 = dktX4_takesSeats_4 := dk_seg dksX4_takesSeats_3 24 rfl rfl
theorem dX4_takesSeats_0 : decode cX4_takesSeats 0 = .ok (.aload_n 0, 1) := dk_42 (dk_at dksX4_takesSeats_0 0 rfl rfl)
theorem dX4_takesSeats_1 : decode cX4_takesSeats 1 = .ok (.iconst 0, 1) := dk_3 (dk_at dksX4_takesSeats_0 1 rfl rfl)
theorem dX4_takesSeats_2 : decode cX4_takesSeats 2 = .ok (.putfield 418, 3) := dk_181 1 162 (dk_at dksX4_takesSeats_0 2 rfl rfl)
theorem dX4_takesSeats_5 : decode cX4_takesSeats 5 = .ok (.iload_n 2, 1) := dk_28 (dk_at dksX4_takesSeats_0 5 rfl rfl)
theorem dX4_takesSeats_6 : decode cX4_takesSeats 6 = .ok (.iload_n 1, 1) := dk_27 (dk_at dksX4_takesSeats_0 6 rfl rfl)
theorem dX4_takesSeats_7 : decode cX4_takesSeats 7 = .ok (.isub, 1) := dk_100 (dk_at dksX4_takesSeats_0 7 rfl rfl)
theorem dX4_takesSeats_8 : decode cX4_takesSeats 8 = .ok (.bipush 14, 2) := dk_16 14 (dk_at dksX4_takesSeats_0 8 rfl rfl)
theorem dX4_takesSeats_10 : decode cX4_takesSeats 10 = .ok (.if_icmp .le 5, 3) := dk_164 0 5 (dk_at dksX4_takesSeats_0 10 rfl rfl)
theorem dX4_takesSeats_13 : decode cX4_takesSeats 13 = .ok (.iconst 0, 1) := dk_3 (dk_at dksX4_takesSeats_0 13 rfl rfl)
theorem dX4_takesSeats_14 : decode cX4_takesSeats 14 = .ok (.ireturn, 1) := dk_172 (dk_at dksX4_takesSeats_0 14 rfl rfl)
theorem dX4_takesSeats_15 : decode cX4_takesSeats 15 = .ok (.iload_n 1, 1) := dk_27 (dk_at dksX4_takesSeats_0 15 rfl rfl)
theorem dX4_takesSeats_16 : decode cX4_takesSeats 16 = .ok (.istore_n 3, 1) := dk_62 (dk_at dksX4_takesSeats_0 16 rfl rfl)
theorem dX4_takesSeats_17 : decode cX4_takesSeats 17 = .ok (.iload_n 3, 1) := dk_29 (dk_at dksX4_takesSeats_0 17 rfl rfl)
theorem dX4_takesSeats_18 : decode cX4_takesSeats 18 = .ok (.iload_n 2, 1) := dk_28 (dk_at dksX4_takesSeats_0 18 rfl rfl)
theorem dX4_takesSeats_19 : decode cX4_takesSeats 19 = .ok (.if_icmp .ge 80, 3) := dk_162 0 80 (dk_at dksX4_takesSeats_0 19 rfl rfl)
theorem dX4_takesSeats_22 : decode cX4_takesSeats 22 = .ok (.aload_n 0, 1) := dk_42 (dk_at dksX4_takesSeats_0 22 rfl rfl)
theorem dX4_takesSeats_23 : decode cX4_takesSeats 23 = .ok (.iload_n 3, 1) := dk_29 (dk_at dksX4_takesSeats_0 23 rfl rfl)
theorem dX4_takesSeats_24 : decode cX4_takesSeats 24 = .ok (.invokevirtual 225, 3) := dk_182 0 225 (dk_at dksX4_takesSeats_1 0 rfl rfl)
theorem dX4_takesSeats_27 : decode cX4_takesSeats 27 = .ok (.istore 4, 2) := dk_54 4 (dk_at dksX4_takesSeats_1 3 rfl rfl)
theorem dX4_takesSeats_29 : decode cX4_takesSeats 29 = .ok (.aload_n 0, 1) := dk_42 (dk_at dksX4_takesSeats_1 5 rfl rfl)
theorem dX4_takesSeats_30 : decode cX4_takesSeats 30 = .ok (.iload 4, 2) := dk_21 4 (dk_at dksX4_takesSeats_1 6 rfl rfl)
theorem dX4_takesSeats_32 : decode cX4_takesSeats 32 = .ok (.invokevirtual 314, 3) := dk_182 1 58 (dk_at dksX4_takesSeats_1 8 rfl rfl)
theorem dX4_takesSeats_35 : decode cX4_takesSeats 35 = .ok (.ifCond .ne 5, 3) := dk_154 0 5 (dk_at dksX4_takesSeats_1 11 rfl rfl)
theorem dX4_takesSeats_38 : decode cX4_takesSeats 38 = .ok (.iconst 0, 1) := dk_3 (dk_at dksX4_takesSeats_1 14 rfl rfl)
theorem dX4_takesSeats_39 : decode cX4_takesSeats 39 = .ok (.ireturn, 1) := dk_172 (dk_at dksX4_takesSeats_1 15 rfl rfl)
theorem dX4_takesSeats_40 : decode cX4_takesSeats 40 = .ok (.iconst 0, 1) := dk_3 (dk_at dksX4_takesSeats_1 16 rfl rfl)
theorem dX4_takesSeats_41 : decode cX4_takesSeats 41 = .ok (.istore 5, 2) := dk_54 5 (dk_at dksX4_takesSeats_1 17 rfl rfl)
theorem dX4_takesSeats_43 : decode cX4_takesSeats 43 = .ok (.iload 5, 2) := dk_21 5 (dk_at dksX4_takesSeats_1 19 rfl rfl)
theorem dX4_takesSeats_45 : decode cX4_takesSeats 45 = .ok (.aload_n 0, 1) := dk_42 (dk_at dksX4_takesSeats_1 21 rfl rfl)
theorem dX4_takesSeats_46 : decode cX4_takesSeats 46 = .ok (.getfield 418, 3) := dk_180 1 162 (dk_at dksX4_takesSeats_2 0 rfl rfl)
theorem dX4_takesSeats_49 : decode cX4_takesSeats 49 = .ok (.if_icmp .ge 23, 3) := dk_162 0 23 (dk_at dksX4_takesSeats_2 3 rfl rfl)
theorem dX4_takesSeats_52 : decode cX4_takesSeats 52 = .ok (.aload_n 0, 1) := dk_42 (dk_at dksX4_takesSeats_2 6 rfl rfl)
theorem dX4_takesSeats_53 : decode cX4_takesSeats 53 = .ok (.getfield 81, 3) := dk_180 0 81 (dk_at dksX4_takesSeats_2 7 rfl rfl)
theorem dX4_takesSeats_56 : decode cX4_takesSeats 56 = .ok (.iload 5, 2) := dk_21 5 (dk_at dksX4_takesSeats_2 10 rfl rfl)
theorem dX4_takesSeats_58 : decode cX4_takesSeats 58 = .ok (.iaload, 1) := dk_46 (dk_at dksX4_takesSeats_2 12 rfl rfl)
theorem dX4_takesSeats_59 : decode cX4_takesSeats 59 = .ok (.iload 4, 2) := dk_21 4 (dk_at dksX4_takesSeats_2 13 rfl rfl)
theorem dX4_takesSeats_61 : decode cX4_takesSeats 61 = .ok (.if_icmp .ne 5, 3) := dk_160 0 5 (dk_at dksX4_takesSeats_2 15 rfl rfl)
theorem dX4_takesSeats_64 : decode cX4_takesSeats 64 = .ok (.iconst 0, 1) := dk_3 (dk_at dksX4_takesSeats_2 18 rfl rfl)
theorem dX4_takesSeats_65 : decode cX4_takesSeats 65 = .ok (.ireturn, 1) := dk_172 (dk_at dksX4_takesSeats_2 19 rfl rfl)
theorem dX4_takesSeats_66 : decode cX4_takesSeats 66 = .ok (.iinc 5 1, 3) := dk_132 5 1 (dk_at dksX4_takesSeats_2 20 rfl rfl)
theorem dX4_takesSeats_69 : decode cX4_takesSeats 69 = .ok (.goto (-26), 3) := dk_167 255 230 (dk_at dksX4_takesSeats_3 0 rfl rfl)
theorem dX4_takesSeats_72 : decode cX4_takesSeats 72 = .ok (.aload_n 0, 1) := dk_42 (dk_at dksX4_takesSeats_3 3 rfl rfl)
theorem dX4_takesSeats_73 : decode cX4_takesSeats 73 = .ok (.getfield 81, 3) := dk_180 0 81 (dk_at dksX4_takesSeats_3 4 rfl rfl)
theorem dX4_takesSeats_76 : decode cX4_takesSeats 76 = .ok (.aload_n 0, 1) := dk_42 (dk_at dksX4_takesSeats_3 7 rfl rfl)
theorem dX4_takesSeats_77 : decode cX4_takesSeats 77 = .ok (.getfield 418, 3) := dk_180 1 162 (dk_at dksX4_takesSeats_3 8 rfl rfl)
theorem dX4_takesSeats_80 : decode cX4_takesSeats 80 = .ok (.iload 4, 2) := dk_21 4 (dk_at dksX4_takesSeats_3 11 rfl rfl)
theorem dX4_takesSeats_82 : decode cX4_takesSeats 82 = .ok (.iastore, 1) := dk_79 (dk_at dksX4_takesSeats_3 13 rfl rfl)
theorem dX4_takesSeats_83 : decode cX4_takesSeats 83 = .ok (.aload_n 0, 1) := dk_42 (dk_at dksX4_takesSeats_3 14 rfl rfl)
theorem dX4_takesSeats_84 : decode cX4_takesSeats 84 = .ok (.dup, 1) := dk_89 (dk_at dksX4_takesSeats_3 15 rfl rfl)
theorem dX4_takesSeats_85 : decode cX4_takesSeats 85 = .ok (.getfield 418, 3) := dk_180 1 162 (dk_at dksX4_takesSeats_3 16 rfl rfl)
theorem dX4_takesSeats_88 : decode cX4_takesSeats 88 = .ok (.iconst 1, 1) := dk_4 (dk_at dksX4_takesSeats_3 19 rfl rfl)
theorem dX4_takesSeats_89 : decode cX4_takesSeats 89 = .ok (.iadd, 1) := dk_96 (dk_at dksX4_takesSeats_3 20 rfl rfl)
theorem dX4_takesSeats_90 : decode cX4_takesSeats 90 = .ok (.putfield 418, 3) := dk_181 1 162 (dk_at dksX4_takesSeats_3 21 rfl rfl)
theorem dX4_takesSeats_93 : decode cX4_takesSeats 93 = .ok (.iinc 3 1, 3) := dk_132 3 1 (dk_at dksX4_takesSeats_4 0 rfl rfl)
theorem dX4_takesSeats_96 : decode cX4_takesSeats 96 = .ok (.goto (-79), 3) := dk_167 255 177 (dk_at dksX4_takesSeats_4 3 rfl rfl)
theorem dX4_takesSeats_99 : decode cX4_takesSeats 99 = .ok (.iconst 1, 1) := dk_4 (dk_at dksX4_takesSeats_4 6 rfl rfl)
theorem dX4_takesSeats_100 : decode cX4_takesSeats 100 = .ok (.ireturn, 1) := dk_172 (dk_at dksX4_takesSeats_4 7 rfl rfl)
def dkwX4_bitsOf_1 : List UInt8 := [10, 42, 180, 0, 81, 21, 4, 46, 121, 167, 0, 4, 9, 129, 65, 132, 4, 1, 167, 255, 219, 32, 173]
abbrev dktX4_bitsOf_1 : List UInt8 := dkwX4_bitsOf_1 ++ []
def dkwX4_bitsOf_0 : List UInt8 := [9, 65, 3, 54, 4, 21, 4, 42, 180, 1, 162, 162, 0, 34, 32, 27, 21, 4, 184, 0, 222, 153, 0, 15]
abbrev dktX4_bitsOf_0 : List UInt8 := dkwX4_bitsOf_0 ++ dktX4_bitsOf_1
theorem dksX4_bitsOf_0 : cX4_bitsOf.data.toList.drop 0 = dktX4_bitsOf_0 := by decide +kernel
theorem dksX4_bitsOf_1 : cX4_bitsOf.data.toList.drop 24 = dktX4_bitsOf_1 := dk_seg dksX4_bitsOf_0 24 rfl rfl
theorem dX4_bitsOf_0 : decode cX4_bitsOf 0 = .ok (.lconst 0, 1) := dk_9 (dk_at dksX4_bitsOf_0 0 rfl rfl)
theorem dX4_bitsOf_1 : decode cX4_bitsOf 1 = .ok (.lstore_n 2, 1) := dk_65 (dk_at dksX4_bitsOf_0 1 rfl rfl)
theorem dX4_bitsOf_2 : decode cX4_bitsOf 2 = .ok (.iconst 0, 1) := dk_3 (dk_at dksX4_bitsOf_0 2 rfl rfl)
theorem dX4_bitsOf_3 : decode cX4_bitsOf 3 = .ok (.istore 4, 2) := dk_54 4 (dk_at dksX4_bitsOf_0 3 rfl rfl)
theorem dX4_bitsOf_5 : decode cX4_bitsOf 5 = .ok (.iload 4, 2) := dk_21 4 (dk_at dksX4_bitsOf_0 5 rfl rfl)
theorem dX4_bitsOf_7 : decode cX4_bitsOf 7 = .ok (.aload_n 0, 1) := dk_42 (dk_at dksX4_bitsOf_0 7 rfl rfl)
theorem dX4_bitsOf_8 : decode cX4_bitsOf 8 = .ok (.getfield 418, 3) := dk_180 1 162 (dk_at dksX4_bitsOf_0 8 rfl rfl)
theorem dX4_bitsOf_11 : decode cX4_bitsOf 11 = .ok (.if_icmp .ge 34, 3) := dk_162 0 34 (dk_at dksX4_bitsOf_0 11 rfl rfl)
theorem dX4_bitsOf_14 : decode cX4_bitsOf 14 = .ok (.lload_n 2, 1) := dk_32 (dk_at dksX4_bitsOf_0 14 rfl rfl)
theorem dX4_bitsOf_15 : decode cX4_bitsOf 15 = .ok (.iload_n 1, 1) := dk_27 (dk_at dksX4_bitsOf_0 15 rfl rfl)
theorem dX4_bitsOf_16 : decode cX4_bitsOf 16 = .ok (.iload 4, 2) := dk_21 4 (dk_at dksX4_bitsOf_0 16 rfl rfl)
theorem dX4_bitsOf_18 : decode cX4_bitsOf 18 = .ok (.invokestatic 222, 3) := dk_184 0 222 (dk_at dksX4_bitsOf_0 18 rfl rfl)
theorem dX4_bitsOf_21 : decode cX4_bitsOf 21 = .ok (.ifCond .eq 15, 3) := dk_153 0 15 (dk_at dksX4_bitsOf_0 21 rfl rfl)
theorem dX4_bitsOf_24 : decode cX4_bitsOf 24 = .ok (.lconst 1, 1) := dk_10 (dk_at dksX4_bitsOf_1 0 rfl rfl)
theorem dX4_bitsOf_25 : decode cX4_bitsOf 25 = .ok (.aload_n 0, 1) := dk_42 (dk_at dksX4_bitsOf_1 1 rfl rfl)
theorem dX4_bitsOf_26 : decode cX4_bitsOf 26 = .ok (.getfield 81, 3) := dk_180 0 81 (dk_at dksX4_bitsOf_1 2 rfl rfl)
theorem dX4_bitsOf_29 : decode cX4_bitsOf 29 = .ok (.iload 4, 2) := dk_21 4 (dk_at dksX4_bitsOf_1 5 rfl rfl)
theorem dX4_bitsOf_31 : decode cX4_bitsOf 31 = .ok (.iaload, 1) := dk_46 (dk_at dksX4_bitsOf_1 7 rfl rfl)
theorem dX4_bitsOf_32 : decode cX4_bitsOf 32 = .ok (.lshl, 1) := dk_121 (dk_at dksX4_bitsOf_1 8 rfl rfl)
theorem dX4_bitsOf_33 : decode cX4_bitsOf 33 = .ok (.goto 4, 3) := dk_167 0 4 (dk_at dksX4_bitsOf_1 9 rfl rfl)
theorem dX4_bitsOf_36 : decode cX4_bitsOf 36 = .ok (.lconst 0, 1) := dk_9 (dk_at dksX4_bitsOf_1 12 rfl rfl)
theorem dX4_bitsOf_37 : decode cX4_bitsOf 37 = .ok (.lor, 1) := dk_129 (dk_at dksX4_bitsOf_1 13 rfl rfl)
theorem dX4_bitsOf_38 : decode cX4_bitsOf 38 = .ok (.lstore_n 2, 1) := dk_65 (dk_at dksX4_bitsOf_1 14 rfl rfl)
theorem dX4_bitsOf_39 : decode cX4_bitsOf 39 = .ok (.iinc 4 1, 3) := dk_132 4 1 (dk_at dksX4_bitsOf_1 15 rfl rfl)
theorem dX4_bitsOf_42 : decode cX4_bitsOf 42 = .ok (.goto (-37), 3) := dk_167 255 219 (dk_at dksX4_bitsOf_1 18 rfl rfl)
theorem dX4_bitsOf_45 : decode cX4_bitsOf 45 = .ok (.lload_n 2, 1) := dk_32 (dk_at dksX4_bitsOf_1 21 rfl rfl)
theorem dX4_bitsOf_46 : decode cX4_bitsOf 46 = .ok (.lreturn, 1) := dk_173 (dk_at dksX4_bitsOf_1 22 rfl rfl)
def dkwX4_bought_0 : List UInt8 := [42, 3, 181, 0, 1, 42, 180, 0, 84, 172]
abbrev dktX4_bought_0 : List UInt8 := dkwX4_bought_0 ++ []
theorem dksX4_bought_0 : cX4_bought.data.toList.drop 0 = dktX4_bought_0 := by decide +kernel
theorem dX4_bought_0 : decode cX4_bought 0 = .ok (.aload_n 0, 1) := dk_42 (dk_at dksX4_bought_0 0 rfl rfl)
theorem dX4_bought_1 : decode cX4_bought 1 = .ok (.iconst 0, 1) := dk_3 (dk_at dksX4_bought_0 1 rfl rfl)
theorem dX4_bought_2 : decode cX4_bought 2 = .ok (.putfield 1, 3) := dk_181 0 1 (dk_at dksX4_bought_0 2 rfl rfl)
theorem dX4_bought_5 : decode cX4_bought 5 = .ok (.aload_n 0, 1) := dk_42 (dk_at dksX4_bought_0 5 rfl rfl)
theorem dX4_bought_6 : decode cX4_bought 6 = .ok (.getfield 84, 3) := dk_180 0 84 (dk_at dksX4_bought_0 6 rfl rfl)
theorem dX4_bought_9 : decode cX4_bought 9 = .ok (.ireturn, 1) := dk_172 (dk_at dksX4_bought_0 9 rfl rfl)
def dkwX4_hush_3 : List UInt8 := [180, 1, 143, 154, 0, 5, 28, 60, 132, 2, 1, 167, 255, 195, 27, 172]
abbrev dktX4_hush_3 : List UInt8 := dkwX4_hush_3 ++ []
def dkwX4_hush_2 : List UInt8 := [167, 0, 31, 42, 42, 180, 1, 43, 42, 180, 1, 46, 42, 28, 182, 1, 172, 129, 182, 1, 158, 87, 42]
abbrev dktX4_hush_2 : List UInt8 := dkwX4_hush_2 ++ dktX4_hush_3
def dkwX4_hush_1 : List UInt8 := [180, 1, 162, 120, 162, 0, 57, 27, 155, 0, 19, 28, 133, 184, 1, 88, 27, 133, 184, 1, 88, 161, 0, 6]
abbrev dktX4_hush_1 : List UInt8 := dkwX4_hush_1 ++ dktX4_hush_2
def dkwX4_hush_0 : List UInt8 := [42, 3, 181, 0, 1, 42, 182, 1, 168, 154, 0, 6, 16, 254, 172, 2, 60, 3, 61, 28, 4, 42]
abbrev dktX4_hush_0 : List UInt8 := dkwX4_hush_0 ++ dktX4_hush_1
theorem dksX4_hush_0 : cX4_hush.data.toList.drop 0 = dktX4_hush_0 := by decide +kernel
theorem dksX4_hush_1 : cX4_hush.data.toList.drop 22 = dktX4_hush_1 := dk_seg dksX4_hush_0 22 rfl rfl
theorem dksX4_hush_2 : cX4_hush.data.toList.drop 46 = dktX4_hush_2 := dk_seg dksX4_hush_1 24 rfl rfl
theorem dksX4_hush_3 : cX4_hush.data.toList.drop 69 = dktX4_hush_3 := dk_seg dksX4_hush_2 23 rfl rfl
theorem dX4_hush_0 : decode cX4_hush 0 = .ok (.aload_n 0, 1) := dk_42 (dk_at dksX4_hush_0 0 rfl rfl)
theorem dX4_hush_1 : decode cX4_hush 1 = .ok (.iconst 0, 1) := dk_3 (dk_at dksX4_hush_0 1 rfl rfl)
theorem dX4_hush_2 : decode cX4_hush 2 = .ok (.putfield 1, 3) := dk_181 0 1 (dk_at dksX4_hush_0 2 rfl rfl)
theorem dX4_hush_5 : decode cX4_hush 5 = .ok (.aload_n 0, 1) := dk_42 (dk_at dksX4_hush_0 5 rfl rfl)
theorem dX4_hush_6 : decode cX4_hush 6 = .ok (.invokevirtual 424, 3) := dk_182 1 168 (dk_at dksX4_hush_0 6 rfl rfl)
theorem dX4_hush_9 : decode cX4_hush 9 = .ok (.ifCond .ne 6, 3) := dk_154 0 6 (dk_at dksX4_hush_0 9 rfl rfl)
theorem dX4_hush_12 : decode cX4_hush 12 = .ok (.bipush (-2), 2) := dk_16 254 (dk_at dksX4_hush_0 12 rfl rfl)
theorem dX4_hush_14 : decode cX4_hush 14 = .ok (.ireturn, 1) := dk_172 (dk_at dksX4_hush_0 14 rfl rfl)
theorem dX4_hush_15 : decode cX4_hush 15 = .ok (.iconst (-1), 1) := dk_2 (dk_at dksX4_hush_0 15 rfl rfl)
theorem dX4_hush_16 : decode cX4_hush 16 = .ok (.istore_n 1, 1) := dk_60 (dk_at dksX4_hush_0 16 rfl rfl)
theorem dX4_hush_17 : decode cX4_hush 17 = .ok (.iconst 0, 1) := dk_3 (dk_at dksX4_hush_0 17 rfl rfl)
theorem dX4_hush_18 : decode cX4_hush 18 = .ok (.istore_n 2, 1) := dk_61 (dk_at dksX4_hush_0 18 rfl rfl)
theorem dX4_hush_19 : decode cX4_hush 19 = .ok (.iload_n 2, 1) := dk_28 (dk_at dksX4_hush_0 19 rfl rfl)
theorem dX4_hush_20 : decode cX4_hush 20 = .ok (.iconst 1, 1) := dk_4 (dk_at dksX4_hush_0 20 rfl rfl)
theorem dX4_hush_21 : decode cX4_hush 21 = .ok (.aload_n 0, 1) := dk_42 (dk_at dksX4_hush_0 21 rfl rfl)
theorem dX4_hush_22 : decode cX4_hush 22 = .ok (.getfield 418, 3) := dk_180 1 162 (dk_at dksX4_hush_1 0 rfl rfl)
theorem dX4_hush_25 : decode cX4_hush 25 = .ok (.ishl, 1) := dk_120 (dk_at dksX4_hush_1 3 rfl rfl)
theorem dX4_hush_26 : decode cX4_hush 26 = .ok (.if_icmp .ge 57, 3) := dk_162 0 57 (dk_at dksX4_hush_1 4 rfl rfl)
theorem dX4_hush_29 : decode cX4_hush 29 = .ok (.iload_n 1, 1) := dk_27 (dk_at dksX4_hush_1 7 rfl rfl)
theorem dX4_hush_30 : decode cX4_hush 30 = .ok (.ifCond .lt 19, 3) := dk_155 0 19 (dk_at dksX4_hush_1 8 rfl rfl)
theorem dX4_hush_33 : decode cX4_hush 33 = .ok (.iload_n 2, 1) := dk_28 (dk_at dksX4_hush_1 11 rfl rfl)
theorem dX4_hush_34 : decode cX4_hush 34 = .ok (.i2l, 1) := dk_133 (dk_at dksX4_hush_1 12 rfl rfl)
theorem dX4_hush_35 : decode cX4_hush 35 = .ok (.invokestatic 344, 3) := dk_184 1 88 (dk_at dksX4_hush_1 13 rfl rfl)
theorem dX4_hush_38 : decode cX4_hush 38 = .ok (.iload_n 1, 1) := dk_27 (dk_at dksX4_hush_1 16 rfl rfl)
theorem dX4_hush_39 : decode cX4_hush 39 = .ok (.i2l, 1) := dk_133 (dk_at dksX4_hush_1 17 rfl rfl)
theorem dX4_hush_40 : decode cX4_hush 40 = .ok (.invokestatic 344, 3) := dk_184 1 88 (dk_at dksX4_hush_1 18 rfl rfl)
theorem dX4_hush_43 : decode cX4_hush 43 = .ok (.if_icmp .lt 6, 3) := dk_161 0 6 (dk_at dksX4_hush_1 21 rfl rfl)
theorem dX4_hush_46 : decode cX4_hush 46 = .ok (.goto 31, 3) := dk_167 0 31 (dk_at dksX4_hush_2 0 rfl rfl)
theorem dX4_hush_49 : decode cX4_hush 49 = .ok (.aload_n 0, 1) := dk_42 (dk_at dksX4_hush_2 3 rfl rfl)
theorem dX4_hush_50 : decode cX4_hush 50 = .ok (.aload_n 0, 1) := dk_42 (dk_at dksX4_hush_2 4 rfl rfl)
theorem dX4_hush_51 : decode cX4_hush 51 = .ok (.getfield 299, 3) := dk_180 1 43 (dk_at dksX4_hush_2 5 rfl rfl)
theorem dX4_hush_54 : decode cX4_hush 54 = .ok (.aload_n 0, 1) := dk_42 (dk_at dksX4_hush_2 8 rfl rfl)
theorem dX4_hush_55 : decode cX4_hush 55 = .ok (.getfield 302, 3) := dk_180 1 46 (dk_at dksX4_hush_2 9 rfl rfl)
theorem dX4_hush_58 : decode cX4_hush 58 = .ok (.aload_n 0, 1) := dk_42 (dk_at dksX4_hush_2 12 rfl rfl)
theorem dX4_hush_59 : decode cX4_hush 59 = .ok (.iload_n 2, 1) := dk_28 (dk_at dksX4_hush_2 13 rfl rfl)
theorem dX4_hush_60 : decode cX4_hush 60 = .ok (.invokevirtual 428, 3) := dk_182 1 172 (dk_at dksX4_hush_2 14 rfl rfl)
theorem dX4_hush_63 : decode cX4_hush 63 = .ok (.lor, 1) := dk_129 (dk_at dksX4_hush_2 17 rfl rfl)
theorem dX4_hush_64 : decode cX4_hush 64 = .ok (.invokevirtual 414, 3) := dk_182 1 158 (dk_at dksX4_hush_2 18 rfl rfl)
theorem dX4_hush_67 : decode cX4_hush 67 = .ok (.pop, 1) := dk_87 (dk_at dksX4_hush_2 21 rfl rfl)
theorem dX4_hush_68 : decode cX4_hush 68 = .ok (.aload_n 0, 1) := dk_42 (dk_at dksX4_hush_2 22 rfl rfl)
theorem dX4_hush_69 : decode cX4_hush 69 = .ok (.getfield 399, 3) := dk_180 1 143 (dk_at dksX4_hush_3 0 rfl rfl)
theorem dX4_hush_72 : decode cX4_hush 72 = .ok (.ifCond .ne 5, 3) := dk_154 0 5 (dk_at dksX4_hush_3 3 rfl rfl)
theorem dX4_hush_75 : decode cX4_hush 75 = .ok (.iload_n 2, 1) := dk_28 (dk_at dksX4_hush_3 6 rfl rfl)
theorem dX4_hush_76 : decode cX4_hush 76 = .ok (.istore_n 1, 1) := dk_60 (dk_at dksX4_hush_3 7 rfl rfl)
theorem dX4_hush_77 : decode cX4_hush 77 = .ok (.iinc 2 1, 3) := dk_132 2 1 (dk_at dksX4_hush_3 8 rfl rfl)
theorem dX4_hush_80 : decode cX4_hush 80 = .ok (.goto (-61), 3) := dk_167 255 195 (dk_at dksX4_hush_3 11 rfl rfl)
theorem dX4_hush_83 : decode cX4_hush 83 = .ok (.iload_n 1, 1) := dk_27 (dk_at dksX4_hush_3 14 rfl rfl)
theorem dX4_hush_84 : decode cX4_hush 84 = .ok (.ireturn, 1) := dk_172 (dk_at dksX4_hush_3 15 rfl rfl)
def dkwX4_coalitions_6 : List UInt8 := [160, 0, 7, 28, 167, 0, 4, 2, 172]
abbrev dktX4_coalitions_6 : List UInt8 := dkwX4_coalitions_6 ++ []
def dkwX4_coalitions_5 : List UInt8 := [154, 0, 6, 167, 0, 13, 28, 27, 160, 0, 5, 29, 172, 132, 2, 1, 132, 3, 1, 167, 255, 144, 27, 2]
abbrev dktX4_coalitions_5 : List UInt8 := dkwX4_coalitions_5 ++ dktX4_coalitions_6
def dkwX4_coalitions_4 : List UInt8 := [180, 0, 87, 21, 5, 51, 154, 0, 7, 4, 167, 0, 4, 3, 54, 4, 132, 5, 1, 167, 255, 216, 21, 4]
abbrev dktX4_coalitions_4 : List UInt8 := dkwX4_coalitions_4 ++ dktX4_coalitions_5
def dkwX4_coalitions_3 : List UInt8 := [54, 5, 21, 5, 29, 162, 0, 40, 21, 4, 153, 0, 35, 21, 5, 29, 126, 21, 5, 160, 0, 13, 42]
abbrev dktX4_coalitions_3 : List UInt8 := dkwX4_coalitions_3 ++ dktX4_coalitions_4
def dkwX4_coalitions_2 : List UInt8 := [180, 1, 46, 182, 1, 158, 87, 42, 180, 0, 87, 29, 42, 180, 1, 143, 84, 42, 180, 1, 143, 54, 4, 3]
abbrev dktX4_coalitions_2 : List UInt8 := dkwX4_coalitions_2 ++ dktX4_coalitions_3
def dkwX4_coalitions_1 : List UInt8 := [3, 62, 29, 4, 42, 180, 1, 162, 120, 162, 0, 108, 42, 42, 180, 1, 43, 42, 29, 182, 1, 172, 129, 42]
abbrev dktX4_coalitions_1 : List UInt8 := dkwX4_coalitions_1 ++ dktX4_coalitions_2
def dkwX4_coalitions_0 : List UInt8 := [42, 3, 181, 0, 1, 42, 182, 1, 168, 154, 0, 6, 16, 254, 172, 27, 2, 162, 0, 5, 2, 172, 3, 61]
abbrev dktX4_coalitions_0 : List UInt8 := dkwX4_coalitions_0 ++ dktX4_coalitions_1
theorem dksX4_coalitions_0 : cX4_coalitions.data.toList.drop 0 = dktX4_coalitions_0 := by decide +kernel
theorem dksX4_coalitions_1 : cX4_coalitions.data.toList.drop 24 = dktX4_coalitions_1 := dk_seg dksX4_coalitions_0 24 rfl rfl
theorem dksX4_coalitions_2 : cX4_coalitions.data.toList.drop 48 = dktX4_coalitions_2 := dk_seg dksX4_coalitions_1 24 rfl rfl
theorem dksX4_coalitions_3 : cX4_coalitions.data.toList.drop 72 = dktX4_coalitions_3 := dk_seg dksX4_coalitions_2 24 rfl rfl
theorem dksX4_coalitions_4 : cX4_coalitions.data.toList.drop 95 = dktX4_coalitions_4 := dk_seg dksX4_coalitions_3 23 rfl rfl
theorem dksX4_coalitions_5 : cX4_coalitions.data.toList.drop 119 = dktX4_coalitions_5 := dk_seg dksX4_coalitions_4 24 rfl rfl
theorem dksX4_coalitions_6 : cX4_coalitions.data.toList.drop 143 = dktX4_coalitions_6 := dk_seg dksX4_coalitions_5 24 rfl rfl
theorem dX4_coalitions_0 : decode cX4_coalitions 0 = .ok (.aload_n 0, 1) := dk_42 (dk_at dksX4_coalitions_0 0 rfl rfl)
theorem dX4_coalitions_1 : decode cX4_coalitions 1 = .ok (.iconst 0, 1) := dk_3 (dk_at dksX4_coalitions_0 1 rfl rfl)
theorem dX4_coalitions_2 : decode cX4_coalitions 2 = .ok (.putfield 1, 3) := dk_181 0 1 (dk_at dksX4_coalitions_0 2 rfl rfl)
theorem dX4_coalitions_5 : decode cX4_coalitions 5 = .ok (.aload_n 0, 1) := dk_42 (dk_at dksX4_coalitions_0 5 rfl rfl)
theorem dX4_coalitions_6 : decode cX4_coalitions 6 = .ok (.invokevirtual 424, 3) := dk_182 1 168 (dk_at dksX4_coalitions_0 6 rfl rfl)
theorem dX4_coalitions_9 : decode cX4_coalitions 9 = .ok (.ifCond .ne 6, 3) := dk_154 0 6 (dk_at dksX4_coalitions_0 9 rfl rfl)
theorem dX4_coalitions_12 : decode cX4_coalitions 12 = .ok (.bipush (-2), 2) := dk_16 254 (dk_at dksX4_coalitions_0 12 rfl rfl)
theorem dX4_coalitions_14 : decode cX4_coalitions 14 = .ok (.ireturn, 1) := dk_172 (dk_at dksX4_coalitions_0 14 rfl rfl)
theorem dX4_coalitions_15 : decode cX4_coalitions 15 = .ok (.iload_n 1, 1) := dk_27 (dk_at dksX4_coalitions_0 15 rfl rfl)
theorem dX4_coalitions_16 : decode cX4_coalitions 16 = .ok (.iconst (-1), 1) := dk_2 (dk_at dksX4_coalitions_0 16 rfl rfl)
theorem dX4_coalitions_17 : decode cX4_coalitions 17 = .ok (.if_icmp .ge 5, 3) := dk_162 0 5 (dk_at dksX4_coalitions_0 17 rfl rfl)
theorem dX4_coalitions_20 : decode cX4_coalitions 20 = .ok (.iconst (-1), 1) := dk_2 (dk_at dksX4_coalitions_0 20 rfl rfl)
theorem dX4_coalitions_21 : decode cX4_coalitions 21 = .ok (.ireturn, 1) := dk_172 (dk_at dksX4_coalitions_0 21 rfl rfl)
theorem dX4_coalitions_22 : decode cX4_coalitions 22 = .ok (.iconst 0, 1) := dk_3 (dk_at dksX4_coalitions_0 22 rfl rfl)
theorem dX4_coalitions_23 : decode cX4_coalitions 23 = .ok (.istore_n 2, 1) := dk_61 (dk_at dksX4_coalitions_0 23 rfl rfl)
theorem dX4_coalitions_24 : decode cX4_coalitions 24 = .ok (.iconst 0, 1) := dk_3 (dk_at dksX4_coalitions_1 0 rfl rfl)
theorem dX4_coalitions_25 : decode cX4_coalitions 25 = .ok (.istore_n 3, 1) := dk_62 (dk_at dksX4_coalitions_1 1 rfl rfl)
theorem dX4_coalitions_26 : decode cX4_coalitions 26 = .ok (.iload_n 3, 1) := dk_29 (dk_at dksX4_coalitions_1 2 rfl rfl)
theorem dX4_coalitions_27 : decode cX4_coalitions 27 = .ok (.iconst 1, 1) := dk_4 (dk_at dksX4_coalitions_1 3 rfl rfl)
theorem dX4_coalitions_28 : decode cX4_coalitions 28 = .ok (.aload_n 0, 1) := dk_42 (dk_at dksX4_coalitions_1 4 rfl rfl)
theorem dX4_coalitions_29 : decode cX4_coalitions 29 = .ok (.getfield 418, 3) := dk_180 1 162 (dk_at dksX4_coalitions_1 5 rfl rfl)
theorem dX4_coalitions_32 : decode cX4_coalitions 32 = .ok (.ishl, 1) := dk_120 (dk_at dksX4_coalitions_1 8 rfl rfl)
theorem dX4_coalitions_33 : decode cX4_coalitions 33 = .ok (.if_icmp .ge 108, 3) := dk_162 0 108 (dk_at dksX4_coalitions_1 9 rfl rfl)
theorem dX4_coalitions_36 : decode cX4_coalitions 36 = .ok (.aload_n 0, 1) := dk_42 (dk_at dksX4_coalitions_1 12 rfl rfl)
theorem dX4_coalitions_37 : decode cX4_coalitions 37 = .ok (.aload_n 0, 1) := dk_42 (dk_at dksX4_coalitions_1 13 rfl rfl)
theorem dX4_coalitions_38 : decode cX4_coalitions 38 = .ok (.getfield 299, 3) := dk_180 1 43 (dk_at dksX4_coalitions_1 14 rfl rfl)
theorem dX4_coalitions_41 : decode cX4_coalitions 41 = .ok (.aload_n 0, 1) := dk_42 (dk_at dksX4_coalitions_1 17 rfl rfl)
theorem dX4_coalitions_42 : decode cX4_coalitions 42 = .ok (.iload_n 3, 1) := dk_29 (dk_at dksX4_coalitions_1 18 rfl rfl)
theorem dX4_coalitions_43 : decode cX4_coalitions 43 = .ok (.invokevirtual 428, 3) := dk_182 1 172 (dk_at dksX4_coalitions_1 19 rfl rfl)
theorem dX4_coalitions_46 : decode cX4_coalitions 46 = .ok (.lor, 1) := dk_129 (dk_at dksX4_coalitions_1 22 rfl rfl)
theorem dX4_coalitions_47 : decode cX4_coalitions 47 = .ok (.aload_n 0, 1) := dk_42 (dk_at dksX4_coalitions_1 23 rfl rfl)
theorem dX4_coalitions_48 : decode cX4_coalitions 48 = .ok (.getfield 302, 3) := dk_180 1 46 (dk_at dksX4_coalitions_2 0 rfl rfl)
theorem dX4_coalitions_51 : decode cX4_coalitions 51 = .ok (.invokevirtual 414, 3) := dk_182 1 158 (dk_at dksX4_coalitions_2 3 rfl rfl)
theorem dX4_coalitions_54 : decode cX4_coalitions 54 = .ok (.pop, 1) := dk_87 (dk_at dksX4_coalitions_2 6 rfl rfl)
theorem dX4_coalitions_55 : decode cX4_coalitions 55 = .ok (.aload_n 0, 1) := dk_42 (dk_at dksX4_coalitions_2 7 rfl rfl)
theorem dX4_coalitions_56 : decode cX4_coalitions 56 = .ok (.getfield 87, 3) := dk_180 0 87 (dk_at dksX4_coalitions_2 8 rfl rfl)
theorem dX4_coalitions_59 : decode cX4_coalitions 59 = .ok (.iload_n 3, 1) := dk_29 (dk_at dksX4_coalitions_2 11 rfl rfl)
theorem dX4_coalitions_60 : decode cX4_coalitions 60 = .ok (.aload_n 0, 1) := dk_42 (dk_at dksX4_coalitions_2 12 rfl rfl)
theorem dX4_coalitions_61 : decode cX4_coalitions 61 = .ok (.getfield 399, 3) := dk_180 1 143 (dk_at dksX4_coalitions_2 13 rfl rfl)
theorem dX4_coalitions_64 : decode cX4_coalitions 64 = .ok (.bastore, 1) := dk_84 (dk_at dksX4_coalitions_2 16 rfl rfl)
theorem dX4_coalitions_65 : decode cX4_coalitions 65 = .ok (.aload_n 0, 1) := dk_42 (dk_at dksX4_coalitions_2 17 rfl rfl)
theorem dX4_coalitions_66 : decode cX4_coalitions 66 = .ok (.getfield 399, 3) := dk_180 1 143 (dk_at dksX4_coalitions_2 18 rfl rfl)
theorem dX4_coalitions_69 : decode cX4_coalitions 69 = .ok (.istore 4, 2) := dk_54 4 (dk_at dksX4_coalitions_2 21 rfl rfl)
theorem dX4_coalitions_71 : decode cX4_coalitions 71 = .ok (.iconst 0, 1) := dk_3 (dk_at dksX4_coalitions_2 23 rfl rfl)
theorem dX4_coalitions_72 : decode cX4_coalitions 72 = .ok (.istore 5, 2) := dk_54 5 (dk_at dksX4_coalitions_3 0 rfl rfl)
theorem dX4_coalitions_74 : decode cX4_coalitions 74 = .ok (.iload 5, 2) := dk_21 5 (dk_at dksX4_coalitions_3 2 rfl rfl)
theorem dX4_coalitions_76 : decode cX4_coalitions 76 = .ok (.iload_n 3, 1) := dk_29 (dk_at dksX4_coalitions_3 4 rfl rfl)
theorem dX4_coalitions_77 : decode cX4_coalitions 77 = .ok (.if_icmp .ge 40, 3) := dk_162 0 40 (dk_at dksX4_coalitions_3 5 rfl rfl)
theorem dX4_coalitions_80 : decode cX4_coalitions 80 = .ok (.iload 4, 2) := dk_21 4 (dk_at dksX4_coalitions_3 8 rfl rfl)
theorem dX4_coalitions_82 : decode cX4_coalitions 82 = .ok (.ifCond .eq 35, 3) := dk_153 0 35 (dk_at dksX4_coalitions_3 10 rfl rfl)
theorem dX4_coalitions_85 : decode cX4_coalitions 85 = .ok (.iload 5, 2) := dk_21 5 (dk_at dksX4_coalitions_3 13 rfl rfl)
theorem dX4_coalitions_87 : decode cX4_coalitions 87 = .ok (.iload_n 3, 1) := dk_29 (dk_at dksX4_coalitions_3 15 rfl rfl)
theorem dX4_coalitions_88 : decode cX4_coalitions 88 = .ok (.iand, 1) := dk_126 (dk_at dksX4_coalitions_3 16 rfl rfl)
theorem dX4_coalitions_89 : decode cX4_coalitions 89 = .ok (.iload 5, 2) := dk_21 5 (dk_at dksX4_coalitions_3 17 rfl rfl)
theorem dX4_coalitions_91 : decode cX4_coalitions 91 = .ok (.if_icmp .ne 13, 3) := dk_160 0 13 (dk_at dksX4_coalitions_3 19 rfl rfl)
theorem dX4_coalitions_94 : decode cX4_coalitions 94 = .ok (.aload_n 0, 1) := dk_42 (dk_at dksX4_coalitions_3 22 rfl rfl)
theorem dX4_coalitions_95 : decode cX4_coalitions 95 = .ok (.getfield 87, 3) := dk_180 0 87 (dk_at dksX4_coalitions_4 0 rfl rfl)
theorem dX4_coalitions_98 : decode cX4_coalitions 98 = .ok (.iload 5, 2) := dk_21 5 (dk_at dksX4_coalitions_4 3 rfl rfl)
theorem dX4_coalitions_100 : decode cX4_coalitions 100 = .ok (.baload, 1) := dk_51 (dk_at dksX4_coalitions_4 5 rfl rfl)
theorem dX4_coalitions_101 : decode cX4_coalitions 101 = .ok (.ifCond .ne 7, 3) := dk_154 0 7 (dk_at dksX4_coalitions_4 6 rfl rfl)
theorem dX4_coalitions_104 : decode cX4_coalitions 104 = .ok (.iconst 1, 1) := dk_4 (dk_at dksX4_coalitions_4 9 rfl rfl)
theorem dX4_coalitions_105 : decode cX4_coalitions 105 = .ok (.goto 4, 3) := dk_167 0 4 (dk_at dksX4_coalitions_4 10 rfl rfl)
theorem dX4_coalitions_108 : decode cX4_coalitions 108 = .ok (.iconst 0, 1) := dk_3 (dk_at dksX4_coalitions_4 13 rfl rfl)
theorem dX4_coalitions_109 : decode cX4_coalitions 109 = .ok (.istore 4, 2) := dk_54 4 (dk_at dksX4_coalitions_4 14 rfl rfl)
theorem dX4_coalitions_111 : decode cX4_coalitions 111 = .ok (.iinc 5 1, 3) := dk_132 5 1 (dk_at dksX4_coalitions_4 16 rfl rfl)
theorem dX4_coalitions_114 : decode cX4_coalitions 114 = .ok (.goto (-40), 3) := dk_167 255 216 (dk_at dksX4_coalitions_4 19 rfl rfl)
theorem dX4_coalitions_117 : decode cX4_coalitions 117 = .ok (.iload 4, 2) := dk_21 4 (dk_at dksX4_coalitions_4 22 rfl rfl)
theorem dX4_coalitions_119 : decode cX4_coalitions 119 = .ok (.ifCond .ne 6, 3) := dk_154 0 6 (dk_at dksX4_coalitions_5 0 rfl rfl)
theorem dX4_coalitions_122 : decode cX4_coalitions 122 = .ok (.goto 13, 3) := dk_167 0 13 (dk_at dksX4_coalitions_5 3 rfl rfl)
theorem dX4_coalitions_125 : decode cX4_coalitions 125 = .ok (.iload_n 2, 1) := dk_28 (dk_at dksX4_coalitions_5 6 rfl rfl)
theorem dX4_coalitions_126 : decode cX4_coalitions 126 = .ok (.iload_n 1, 1) := dk_27 (dk_at dksX4_coalitions_5 7 rfl rfl)
theorem dX4_coalitions_127 : decode cX4_coalitions 127 = .ok (.if_icmp .ne 5, 3) := dk_160 0 5 (dk_at dksX4_coalitions_5 8 rfl rfl)
theorem dX4_coalitions_130 : decode cX4_coalitions 130 = .ok (.iload_n 3, 1) := dk_29 (dk_at dksX4_coalitions_5 11 rfl rfl)
theorem dX4_coalitions_131 : decode cX4_coalitions 131 = .ok (.ireturn, 1) := dk_172 (dk_at dksX4_coalitions_5 12 rfl rfl)
theorem dX4_coalitions_132 : decode cX4_coalitions 132 = .ok (.iinc 2 1, 3) := dk_132 2 1 (dk_at dksX4_coalitions_5 13 rfl rfl)
theorem dX4_coalitions_135 : decode cX4_coalitions 135 = .ok (.iinc 3 1, 3) := dk_132 3 1 (dk_at dksX4_coalitions_5 16 rfl rfl)
theorem dX4_coalitions_138 : decode cX4_coalitions 138 = .ok (.goto (-112), 3) := dk_167 255 144 (dk_at dksX4_coalitions_5 19 rfl rfl)
theorem dX4_coalitions_141 : decode cX4_coalitions 141 = .ok (.iload_n 1, 1) := dk_27 (dk_at dksX4_coalitions_5 22 rfl rfl)
theorem dX4_coalitions_142 : decode cX4_coalitions 142 = .ok (.iconst (-1), 1) := dk_2 (dk_at dksX4_coalitions_5 23 rfl rfl)
theorem dX4_coalitions_143 : decode cX4_coalitions 143 = .ok (.if_icmp .ne 7, 3) := dk_160 0 7 (dk_at dksX4_coalitions_6 0 rfl rfl)
theorem dX4_coalitions_146 : decode cX4_coalitions 146 = .ok (.iload_n 2, 1) := dk_28 (dk_at dksX4_coalitions_6 3 rfl rfl)
theorem dX4_coalitions_147 : decode cX4_coalitions 147 = .ok (.goto 4, 3) := dk_167 0 4 (dk_at dksX4_coalitions_6 4 rfl rfl)
theorem dX4_coalitions_150 : decode cX4_coalitions 150 = .ok (.iconst (-1), 1) := dk_2 (dk_at dksX4_coalitions_6 7 rfl rfl)
theorem dX4_coalitions_151 : decode cX4_coalitions 151 = .ok (.ireturn, 1) := dk_172 (dk_at dksX4_coalitions_6 8 rfl rfl)
def dkwX4_worth_7 : List UInt8 := [180, 1, 162, 184, 1, 176, 181, 1, 182, 42, 180, 0, 90, 4, 42, 180, 1, 162, 120, 4, 100, 46, 172]
abbrev dktX4_worth_7 : List UInt8 := dkwX4_worth_7 ++ []
def dkwX4_worth_6 : List UInt8 := [80, 132, 2, 1, 167, 255, 182, 132, 1, 1, 167, 255, 159, 42, 42, 180, 1, 162, 181, 1, 179, 42, 42]
abbrev dktX4_worth_6 : List UInt8 := dkwX4_worth_6 ++ dktX4_worth_7
def dkwX4_worth_5 : List UInt8 := [184, 1, 176, 105, 42, 180, 0, 90, 28, 4, 27, 120, 128, 46, 42, 180, 0, 90, 28, 46, 100, 133, 105, 97]
abbrev dktX4_worth_5 : List UInt8 := dkwX4_worth_5 ++ dktX4_worth_6
def dkwX4_worth_4 : List UInt8 := [184, 1, 88, 62, 42, 180, 0, 93, 27, 92, 47, 29, 184, 1, 176, 42, 180, 1, 162, 4, 100, 29, 100]
abbrev dktX4_worth_4 : List UInt8 := dkwX4_worth_4 ++ dktX4_worth_5
def dkwX4_worth_3 : List UInt8 := [61, 28, 4, 42, 180, 1, 162, 120, 162, 0, 70, 28, 27, 184, 0, 222, 153, 0, 6, 167, 0, 53, 28, 133]
abbrev dktX4_worth_3 : List UInt8 := dkwX4_worth_3 ++ dktX4_worth_4
def dkwX4_worth_2 : List UInt8 := [132, 1, 1, 167, 255, 224, 3, 60, 27, 42, 180, 1, 162, 162, 0, 95, 42, 180, 0, 93, 27, 9, 80, 3]
abbrev dktX4_worth_2 : List UInt8 := dkwX4_worth_2 ++ dktX4_worth_3
def dkwX4_worth_1 : List UInt8 := [162, 0, 28, 42, 180, 0, 90, 27, 42, 42, 27, 182, 1, 172, 42, 180, 1, 46, 182, 1, 158, 79]
abbrev dktX4_worth_1 : List UInt8 := dkwX4_worth_1 ++ dktX4_worth_2
def dkwX4_worth_0 : List UInt8 := [42, 3, 181, 0, 1, 42, 182, 1, 168, 154, 0, 5, 2, 172, 3, 60, 27, 4, 42, 180, 1, 162, 120]
abbrev dktX4_worth_0 : List UInt8 := dkwX4_worth_0 ++ dktX4_worth_1
theorem dksX4_worth_0 : cX4_worth.data.toList.drop 0 = dktX4_worth_0 := by decide +kernel
theorem dksX4_worth_1 : cX4_worth.data.toList.drop 23 = dktX4_worth_1 := dk_seg dksX4_worth_0 23 rfl rfl
theorem dksX4_worth_2 : cX4_worth.data.toList.drop 45 = dktX4_worth_2 := dk_seg dksX4_worth_1 22 rfl rfl
theorem dksX4_worth_3 : cX4_worth.data.toList.drop 69 = dktX4_worth_3 := dk_seg dksX4_worth_2 24 rfl rfl
theorem dksX4_worth_4 : cX4_worth.data.toList.drop 93 = dktX4_worth_4 := dk_seg dksX4_worth_3 24 rfl rfl
theorem dksX4_worth_5 : cX4_worth.data.toList.drop 116 = dktX4_worth_5 := dk_seg dksX4_worth_4 23 rfl rfl
theorem dksX4_worth_6 : cX4_worth.data.toList.drop 140 = dktX4_worth_6 := dk_seg dksX4_worth_5 24 rfl rfl
theorem dksX4_worth_7 : cX4_worth.data.toList.drop 163 = dktX4_worth_7 := dk_seg dksX4_worth_6 23 rfl rfl
theorem dX4_worth_0 : decode cX4_worth 0 = .ok (.aload_n 0, 1) := dk_42 (dk_at dksX4_worth_0 0 rfl rfl)
theorem dX4_worth_1 : decode cX4_worth 1 = .ok (.iconst 0, 1) := dk_3 (dk_at dksX4_worth_0 1 rfl rfl)
theorem dX4_worth_2 : decode cX4_worth 2 = .ok (.putfield 1, 3) := dk_181 0 1 (dk_at dksX4_worth_0 2 rfl rfl)
theorem dX4_worth_5 : decode cX4_worth 5 = .ok (.aload_n 0, 1) := dk_42 (dk_at dksX4_worth_0 5 rfl rfl)
theorem dX4_worth_6 : decode cX4_worth 6 = .ok (.invokevirtual 424, 3) := dk_182 1 168 (dk_at dksX4_worth_0 6 rfl rfl)
theorem dX4_worth_9 : decode cX4_worth 9 = .ok (.ifCond .ne 5, 3) := dk_154 0 5 (dk_at dksX4_worth_0 9 rfl rfl)
theorem dX4_worth_12 : decode cX4_worth 12 = .ok (.iconst (-1), 1) := dk_2 (dk_at dksX4_worth_0 12 rfl rfl)
theorem dX4_worth_13 : decode cX4_worth 13 = .ok (.ireturn, 1) := dk_172 (dk_at dksX4_worth_0 13 rfl rfl)
theorem dX4_worth_14 : decode cX4_worth 14 = .ok (.iconst 0, 1) := dk_3 (dk_at dksX4_worth_0 14 rfl rfl)
theorem dX4_worth_15 : decode cX4_worth 15 = .ok (.istore_n 1, 1) := dk_60 (dk_at dksX4_worth_0 15 rfl rfl)
theorem dX4_worth_16 : decode cX4_worth 16 = .ok (.iload_n 1, 1) := dk_27 (dk_at dksX4_worth_0 16 rfl rfl)
theorem dX4_worth_17 : decode cX4_worth 17 = .ok (.iconst 1, 1) := dk_4 (dk_at dksX4_worth_0 17 rfl rfl)
theorem dX4_worth_18 : decode cX4_worth 18 = .ok (.aload_n 0, 1) := dk_42 (dk_at dksX4_worth_0 18 rfl rfl)
theorem dX4_worth_19 : decode cX4_worth 19 = .ok (.getfield 418, 3) := dk_180 1 162 (dk_at dksX4_worth_0 19 rfl rfl)
theorem dX4_worth_22 : decode cX4_worth 22 = .ok (.ishl, 1) := dk_120 (dk_at dksX4_worth_0 22 rfl rfl)
theorem dX4_worth_23 : decode cX4_worth 23 = .ok (.if_icmp .ge 28, 3) := dk_162 0 28 (dk_at dksX4_worth_1 0 rfl rfl)
theorem dX4_worth_26 : decode cX4_worth 26 = .ok (.aload_n 0, 1) := dk_42 (dk_at dksX4_worth_1 3 rfl rfl)
theorem dX4_worth_27 : decode cX4_worth 27 = .ok (.getfield 90, 3) := dk_180 0 90 (dk_at dksX4_worth_1 4 rfl rfl)
theorem dX4_worth_30 : decode cX4_worth 30 = .ok (.iload_n 1, 1) := dk_27 (dk_at dksX4_worth_1 7 rfl rfl)
theorem dX4_worth_31 : decode cX4_worth 31 = .ok (.aload_n 0, 1) := dk_42 (dk_at dksX4_worth_1 8 rfl rfl)
theorem dX4_worth_32 : decode cX4_worth 32 = .ok (.aload_n 0, 1) := dk_42 (dk_at dksX4_worth_1 9 rfl rfl)
theorem dX4_worth_33 : decode cX4_worth 33 = .ok (.iload_n 1, 1) := dk_27 (dk_at dksX4_worth_1 10 rfl rfl)
theorem dX4_worth_34 : decode cX4_worth 34 = .ok (.invokevirtual 428, 3) := dk_182 1 172 (dk_at dksX4_worth_1 11 rfl rfl)
theorem dX4_worth_37 : decode cX4_worth 37 = .ok (.aload_n 0, 1) := dk_42 (dk_at dksX4_worth_1 14 rfl rfl)
theorem dX4_worth_38 : decode cX4_worth 38 = .ok (.getfield 302, 3) := dk_180 1 46 (dk_at dksX4_worth_1 15 rfl rfl)
theorem dX4_worth_41 : decode cX4_worth 41 = .ok (.invokevirtual 414, 3) := dk_182 1 158 (dk_at dksX4_worth_1 18 rfl rfl)
theorem dX4_worth_44 : decode cX4_worth 44 = .ok (.iastore, 1) := dk_79 (dk_at dksX4_worth_1 21 rfl rfl)
theorem dX4_worth_45 : decode cX4_worth 45 = .ok (.iinc 1 1, 3) := dk_132 1 1 (dk_at dksX4_worth_2 0 rfl rfl)
theorem dX4_worth_48 : decode cX4_worth 48 = .ok (.goto (-32), 3) := dk_167 255 224 (dk_at dksX4_worth_2 3 rfl rfl)
theorem dX4_worth_51 : decode cX4_worth 51 = .ok (.iconst 0, 1) := dk_3 (dk_at dksX4_worth_2 6 rfl rfl)
theorem dX4_worth_52 : decode cX4_worth 52 = .ok (.istore_n 1, 1) := dk_60 (dk_at dksX4_worth_2 7 rfl rfl)
theorem dX4_worth_53 : decode cX4_worth 53 = .ok (.iload_n 1, 1) := dk_27 (dk_at dksX4_worth_2 8 rfl rfl)
theorem dX4_worth_54 : decode cX4_worth 54 = .ok (.aload_n 0, 1) := dk_42 (dk_at dksX4_worth_2 9 rfl rfl)
theorem dX4_worth_55 : decode cX4_worth 55 = .ok (.getfield 418, 3) := dk_180 1 162 (dk_at dksX4_worth_2 10 rfl rfl)
theorem dX4_worth_58 : decode cX4_worth 58 = .ok (.if_icmp .ge 95, 3) := dk_162 0 95 (dk_at dksX4_worth_2 13 rfl rfl)
theorem dX4_worth_61 : decode cX4_worth 61 = .ok (.aload_n 0, 1) := dk_42 (dk_at dksX4_worth_2 16 rfl rfl)
theorem dX4_worth_62 : decode cX4_worth 62 = .ok (.getfield 93, 3) := dk_180 0 93 (dk_at dksX4_worth_2 17 rfl rfl)
theorem dX4_worth_65 : decode cX4_worth 65 = .ok (.iload_n 1, 1) := dk_27 (dk_at dksX4_worth_2 20 rfl rfl)
theorem dX4_worth_66 : decode cX4_worth 66 = .ok (.lconst 0, 1) := dk_9 (dk_at dksX4_worth_2 21 rfl rfl)
theorem dX4_worth_67 : decode cX4_worth 67 = .ok (.lastore, 1) := dk_80 (dk_at dksX4_worth_2 22 rfl rfl)
theorem dX4_worth_68 : decode cX4_worth 68 = .ok (.iconst 0, 1) := dk_3 (dk_at dksX4_worth_2 23 rfl rfl)
theorem dX4_worth_69 : decode cX4_worth 69 = .ok (.istore_n 2, 1) := dk_61 (dk_at dksX4_worth_3 0 rfl rfl)
theorem dX4_worth_70 : decode cX4_worth 70 = .ok (.iload_n 2, 1) := dk_28 (dk_at dksX4_worth_3 1 rfl rfl)
theorem dX4_worth_71 : decode cX4_worth 71 = .ok (.iconst 1, 1) := dk_4 (dk_at dksX4_worth_3 2 rfl rfl)
theorem dX4_worth_72 : decode cX4_worth 72 = .ok (.aload_n 0, 1) := dk_42 (dk_at dksX4_worth_3 3 rfl rfl)
theorem dX4_worth_73 : decode cX4_worth 73 = .ok (.getfield 418, 3) := dk_180 1 162 (dk_at dksX4_worth_3 4 rfl rfl)
theorem dX4_worth_76 : decode cX4_worth 76 = .ok (.ishl, 1) := dk_120 (dk_at dksX4_worth_3 7 rfl rfl)
theorem dX4_worth_77 : decode cX4_worth 77 = .ok (.if_icmp .ge 70, 3) := dk_162 0 70 (dk_at dksX4_worth_3 8 rfl rfl)
theorem dX4_worth_80 : decode cX4_worth 80 = .ok (.iload_n 2, 1) := dk_28 (dk_at dksX4_worth_3 11 rfl rfl)
theorem dX4_worth_81 : decode cX4_worth 81 = .ok (.iload_n 1, 1) := dk_27 (dk_at dksX4_worth_3 12 rfl rfl)
theorem dX4_worth_82 : decode cX4_worth 82 = .ok (.invokestatic 222, 3) := dk_184 0 222 (dk_at dksX4_worth_3 13 rfl rfl)
theorem dX4_worth_85 : decode cX4_worth 85 = .ok (.ifCond .eq 6, 3) := dk_153 0 6 (dk_at dksX4_worth_3 16 rfl rfl)
theorem dX4_worth_88 : decode cX4_worth 88 = .ok (.goto 53, 3) := dk_167 0 53 (dk_at dksX4_worth_3 19 rfl rfl)
theorem dX4_worth_91 : decode cX4_worth 91 = .ok (.iload_n 2, 1) := dk_28 (dk_at dksX4_worth_3 22 rfl rfl)
theorem dX4_worth_92 : decode cX4_worth 92 = .ok (.i2l, 1) := dk_133 (dk_at dksX4_worth_3 23 rfl rfl)
theorem dX4_worth_93 : decode cX4_worth 93 = .ok (.invokestatic 344, 3) := dk_184 1 88 (dk_at dksX4_worth_4 0 rfl rfl)
theorem dX4_worth_96 : decode cX4_worth 96 = .ok (.istore_n 3, 1) := dk_62 (dk_at dksX4_worth_4 3 rfl rfl)
theorem dX4_worth_97 : decode cX4_worth 97 = .ok (.aload_n 0, 1) := dk_42 (dk_at dksX4_worth_4 4 rfl rfl)
theorem dX4_worth_98 : decode cX4_worth 98 = .ok (.getfield 93, 3) := dk_180 0 93 (dk_at dksX4_worth_4 5 rfl rfl)
theorem dX4_worth_101 : decode cX4_worth 101 = .ok (.iload_n 1, 1) := dk_27 (dk_at dksX4_worth_4 8 rfl rfl)
theorem dX4_worth_102 : decode cX4_worth 102 = .ok (.dup2, 1) := dk_92 (dk_at dksX4_worth_4 9 rfl rfl)
theorem dX4_worth_103 : decode cX4_worth 103 = .ok (.laload, 1) := dk_47 (dk_at dksX4_worth_4 10 rfl rfl)
theorem dX4_worth_104 : decode cX4_worth 104 = .ok (.iload_n 3, 1) := dk_29 (dk_at dksX4_worth_4 11 rfl rfl)
theorem dX4_worth_105 : decode cX4_worth 105 = .ok (.invokestatic 432, 3) := dk_184 1 176 (dk_at dksX4_worth_4 12 rfl rfl)
theorem dX4_worth_108 : decode cX4_worth 108 = .ok (.aload_n 0, 1) := dk_42 (dk_at dksX4_worth_4 15 rfl rfl)
theorem dX4_worth_109 : decode cX4_worth 109 = .ok (.getfield 418, 3) := dk_180 1 162 (dk_at dksX4_worth_4 16 rfl rfl)
theorem dX4_worth_112 : decode cX4_worth 112 = .ok (.iconst 1, 1) := dk_4 (dk_at dksX4_worth_4 19 rfl rfl)
theorem dX4_worth_113 : decode cX4_worth 113 = .ok (.isub, 1) := dk_100 (dk_at dksX4_worth_4 20 rfl rfl)
theorem dX4_worth_114 : decode cX4_worth 114 = .ok (.iload_n 3, 1) := dk_29 (dk_at dksX4_worth_4 21 rfl rfl)
theorem dX4_worth_115 : decode cX4_worth 115 = .ok (.isub, 1) := dk_100 (dk_at dksX4_worth_4 22 rfl rfl)
theorem dX4_worth_116 : decode cX4_worth 116 = .ok (.invokestatic 432, 3) := dk_184 1 176 (dk_at dksX4_worth_5 0 rfl rfl)
theorem dX4_worth_119 : decode cX4_worth 119 = .ok (.lmul, 1) := dk_105 (dk_at dksX4_worth_5 3 rfl rfl)
theorem dX4_worth_120 : decode cX4_worth 120 = .ok (.aload_n 0, 1) := dk_42 (dk_at dksX4_worth_5 4 rfl rfl)
theorem dX4_worth_121 : decode cX4_worth 121 = .ok (.getfield 90, 3) := dk_180 0 90 (dk_at dksX4_worth_5 5 rfl rfl)
theorem dX4_worth_124 : decode cX4_worth 124 = .ok (.iload_n 2, 1) := dk_28 (dk_at dksX4_worth_5 8 rfl rfl)
theorem dX4_worth_125 : decode cX4_worth 125 = .ok (.iconst 1, 1) := dk_4 (dk_at dksX4_worth_5 9 rfl rfl)
theorem dX4_worth_126 : decode cX4_worth 126 = .ok (.iload_n 1, 1) := dk_27 (dk_at dksX4_worth_5 10 rfl rfl)
theorem dX4_worth_127 : decode cX4_worth 127 = .ok (.ishl, 1) := dk_120 (dk_at dksX4_worth_5 11 rfl rfl)
theorem dX4_worth_128 : decode cX4_worth 128 = .ok (.ior, 1) := dk_128 (dk_at dksX4_worth_5 12 rfl rfl)
theorem dX4_worth_129 : decode cX4_worth 129 = .ok (.iaload, 1) := dk_46 (dk_at dksX4_worth_5 13 rfl rfl)
theorem dX4_worth_130 : decode cX4_worth 130 = .ok (.aload_n 0, 1) := dk_42 (dk_at dksX4_worth_5 14 rfl rfl)
theorem dX4_worth_131 : decode cX4_worth 131 = .ok (.getfield 90, 3) := dk_180 0 90 (dk_at dksX4_worth_5 15 rfl rfl)
theorem dX4_worth_134 : decode cX4_worth 134 = .ok (.iload_n 2, 1) := dk_28 (dk_at dksX4_worth_5 18 rfl rfl)
theorem dX4_worth_135 : decode cX4_worth 135 = .ok (.iaload, 1) := dk_46 (dk_at dksX4_worth_5 19 rfl rfl)
theorem dX4_worth_136 : decode cX4_worth 136 = .ok (.isub, 1) := dk_100 (dk_at dksX4_worth_5 20 rfl rfl)
theorem dX4_worth_137 : decode cX4_worth 137 = .ok (.i2l, 1) := dk_133 (dk_at dksX4_worth_5 21 rfl rfl)
theorem dX4_worth_138 : decode cX4_worth 138 = .ok (.lmul, 1) := dk_105 (dk_at dksX4_worth_5 22 rfl rfl)
theorem dX4_worth_139 : decode cX4_worth 139 = .ok (.ladd, 1) := dk_97 (dk_at dksX4_worth_5 23 rfl rfl)
theorem dX4_worth_140 : decode cX4_worth 140 = .ok (.lastore, 1) := dk_80 (dk_at dksX4_worth_6 0 rfl rfl)
theorem dX4_worth_141 : decode cX4_worth 141 = .ok (.iinc 2 1, 3) := dk_132 2 1 (dk_at dksX4_worth_6 1 rfl rfl)
theorem dX4_worth_144 : decode cX4_worth 144 = .ok (.goto (-74), 3) := dk_167 255 182 (dk_at dksX4_worth_6 4 rfl rfl)
theorem dX4_worth_147 : decode cX4_worth 147 = .ok (.iinc 1 1, 3) := dk_132 1 1 (dk_at dksX4_worth_6 7 rfl rfl)
theorem dX4_worth_150 : decode cX4_worth 150 = .ok (.goto (-97), 3) := dk_167 255 159 (dk_at dksX4_worth_6 10 rfl rfl)
theorem dX4_worth_153 : decode cX4_worth 153 = .ok (.aload_n 0, 1) := dk_42 (dk_at dksX4_worth_6 13 rfl rfl)
theorem dX4_worth_154 : decode cX4_worth 154 = .ok (.aload_n 0, 1) := dk_42 (dk_at dksX4_worth_6 14 rfl rfl)
theorem dX4_worth_155 : decode cX4_worth 155 = .ok (.getfield 418, 3) := dk_180 1 162 (dk_at dksX4_worth_6 15 rfl rfl)
theorem dX4_worth_158 : decode cX4_worth 158 = .ok (.putfield 435, 3) := dk_181 1 179 (dk_at dksX4_worth_6 18 rfl rfl)
theorem dX4_worth_161 : decode cX4_worth 161 = .ok (.aload_n 0, 1) := dk_42 (dk_at dksX4_worth_6 21 rfl rfl)
theorem dX4_worth_162 : decode cX4_worth 162 = .ok (.aload_n 0, 1) := dk_42 (dk_at dksX4_worth_6 22 rfl rfl)
theorem dX4_worth_163 : decode cX4_worth 163 = .ok (.getfield 418, 3) := dk_180 1 162 (dk_at dksX4_worth_7 0 rfl rfl)
theorem dX4_worth_166 : decode cX4_worth 166 = .ok (.invokestatic 432, 3) := dk_184 1 176 (dk_at dksX4_worth_7 3 rfl rfl)
theorem dX4_worth_169 : decode cX4_worth 169 = .ok (.putfield 438, 3) := dk_181 1 182 (dk_at dksX4_worth_7 6 rfl rfl)
theorem dX4_worth_172 : decode cX4_worth 172 = .ok (.aload_n 0, 1) := dk_42 (dk_at dksX4_worth_7 9 rfl rfl)
theorem dX4_worth_173 : decode cX4_worth 173 = .ok (.getfield 90, 3) := dk_180 0 90 (dk_at dksX4_worth_7 10 rfl rfl)
theorem dX4_worth_176 : decode cX4_worth 176 = .ok (.iconst 1, 1) := dk_4 (dk_at dksX4_worth_7 13 rfl rfl)
theorem dX4_worth_177 : decode cX4_worth 177 = .ok (.aload_n 0, 1) := dk_42 (dk_at dksX4_worth_7 14 rfl rfl)
theorem dX4_worth_178 : decode cX4_worth 178 = .ok (.getfield 418, 3) := dk_180 1 162 (dk_at dksX4_worth_7 15 rfl rfl)
theorem dX4_worth_181 : decode cX4_worth 181 = .ok (.ishl, 1) := dk_120 (dk_at dksX4_worth_7 18 rfl rfl)
theorem dX4_worth_182 : decode cX4_worth 182 = .ok (.iconst 1, 1) := dk_4 (dk_at dksX4_worth_7 19 rfl rfl)
theorem dX4_worth_183 : decode cX4_worth 183 = .ok (.isub, 1) := dk_100 (dk_at dksX4_worth_7 20 rfl rfl)
theorem dX4_worth_184 : decode cX4_worth 184 = .ok (.iaload, 1) := dk_46 (dk_at dksX4_worth_7 21 rfl rfl)
theorem dX4_worth_185 : decode cX4_worth 185 = .ok (.ireturn, 1) := dk_172 (dk_at dksX4_worth_7 22 rfl rfl)
def dkwX4_orders_0 : List UInt8 := [10, 64, 5, 62, 29, 26, 163, 0, 14, 31, 29, 133, 105, 64, 132, 3, 1, 167, 255, 243, 31, 173]
abbrev dktX4_orders_0 : List UInt8 := dkwX4_orders_0 ++ []
theorem dksX4_orders_0 : cX4_orders.data.toList.drop 0 = dktX4_orders_0 := by decide +kernel
theorem dX4_orders_0 : decode cX4_orders 0 = .ok (.lconst 1, 1) := dk_10 (dk_at dksX4_orders_0 0 rfl rfl)
theorem dX4_orders_1 : decode cX4_orders 1 = .ok (.lstore_n 1, 1) := dk_64 (dk_at dksX4_orders_0 1 rfl rfl)
theorem dX4_orders_2 : decode cX4_orders 2 = .ok (.iconst 2, 1) := dk_5 (dk_at dksX4_orders_0 2 rfl rfl)
theorem dX4_orders_3 : decode cX4_orders 3 = .ok (.istore_n 3, 1) := dk_62 (dk_at dksX4_orders_0 3 rfl rfl)
theorem dX4_orders_4 : decode cX4_orders 4 = .ok (.iload_n 3, 1) := dk_29 (dk_at dksX4_orders_0 4 rfl rfl)
theorem dX4_orders_5 : decode cX4_orders 5 = .ok (.iload_n 0, 1) := dk_26 (dk_at dksX4_orders_0 5 rfl rfl)
theorem dX4_orders_6 : decode cX4_orders 6 = .ok (.if_icmp .gt 14, 3) := dk_163 0 14 (dk_at dksX4_orders_0 6 rfl rfl)
theorem dX4_orders_9 : decode cX4_orders 9 = .ok (.lload_n 1, 1) := dk_31 (dk_at dksX4_orders_0 9 rfl rfl)
theorem dX4_orders_10 : decode cX4_orders 10 = .ok (.iload_n 3, 1) := dk_29 (dk_at dksX4_orders_0 10 rfl rfl)
theorem dX4_orders_11 : decode cX4_orders 11 = .ok (.i2l, 1) := dk_133 (dk_at dksX4_orders_0 11 rfl rfl)
theorem dX4_orders_12 : decode cX4_orders 12 = .ok (.lmul, 1) := dk_105 (dk_at dksX4_orders_0 12 rfl rfl)
theorem dX4_orders_13 : decode cX4_orders 13 = .ok (.lstore_n 1, 1) := dk_64 (dk_at dksX4_orders_0 13 rfl rfl)
theorem dX4_orders_14 : decode cX4_orders 14 = .ok (.iinc 3 1, 3) := dk_132 3 1 (dk_at dksX4_orders_0 14 rfl rfl)
theorem dX4_orders_17 : decode cX4_orders 17 = .ok (.goto (-13), 3) := dk_167 255 243 (dk_at dksX4_orders_0 17 rfl rfl)
theorem dX4_orders_20 : decode cX4_orders 20 = .ok (.lload_n 1, 1) := dk_31 (dk_at dksX4_orders_0 20 rfl rfl)
theorem dX4_orders_21 : decode cX4_orders 21 = .ok (.lreturn, 1) := dk_173 (dk_at dksX4_orders_0 21 rfl rfl)
def dkwX4_worthOf_4 : List UInt8 := [42, 180, 0, 93, 27, 47, 167, 0, 7, 42, 180, 1, 182, 22, 5, 109, 136, 172]
abbrev dktX4_worthOf_4 : List UInt8 := dkwX4_worthOf_4 ++ []
def dkwX4_worthOf_3 : List UInt8 := [9, 148, 153, 0, 18, 22, 5, 33, 113, 55, 7, 33, 55, 5, 22, 7, 66, 167, 255, 238, 28, 154, 0, 12]
abbrev dktX4_worthOf_3 : List UInt8 := dkwX4_worthOf_3 ++ dktX4_worthOf_4
def dkwX4_worthOf_2 : List UInt8 := [42, 180, 0, 93, 27, 47, 117, 167, 0, 9, 42, 180, 0, 93, 27, 47, 66, 42, 180, 1, 182, 55, 5, 33]
abbrev dktX4_worthOf_2 : List UInt8 := dkwX4_worthOf_2 ++ dktX4_worthOf_3
def dkwX4_worthOf_1 : List UInt8 := [4, 167, 0, 4, 3, 182, 1, 61, 153, 0, 5, 3, 172, 42, 180, 0, 93, 27, 47, 9, 148, 156, 0, 13]
abbrev dktX4_worthOf_1 : List UInt8 := dkwX4_worthOf_1 ++ dktX4_worthOf_2
def dkwX4_worthOf_0 : List UInt8 := [42, 27, 3, 42, 180, 1, 179, 4, 100, 184, 0, 168, 153, 0, 12, 28, 3, 4, 184, 0, 168, 154, 0, 7]
abbrev dktX4_worthOf_0 : List UInt8 := dkwX4_worthOf_0 ++ dktX4_worthOf_1
theorem dksX4_worthOf_0 : cX4_worthOf.data.toList.drop 0 = dktX4_worthOf_0 := by decide +kernel
theorem dksX4_worthOf_1 : cX4_worthOf.data.toList.drop 24 = dktX4_worthOf_1 := dk_seg dksX4_worthOf_0 24 rfl rfl
theorem dksX4_worthOf_2 : cX4_worthOf.data.toList.drop 48 = dktX4_worthOf_2 := dk_seg dksX4_worthOf_1 24 rfl rfl
theorem dksX4_worthOf_3 : cX4_worthOf.data.toList.drop 72 = dktX4_worthOf_3 := dk_seg dksX4_worthOf_2 24 rfl rfl
theorem dksX4_worthOf_4 : cX4_worthOf.data.toList.drop 96 = dktX4_worthOf_4 := dk_seg dksX4_worthOf_3 24 rfl rfl
theorem dX4_worthOf_0 : decode cX4_worthOf 0 = .ok (.aload_n 0, 1) := dk_42 (dk_at dksX4_worthOf_0 0 rfl rfl)
theorem dX4_worthOf_1 : decode cX4_worthOf 1 = .ok (.iload_n 1, 1) := dk_27 (dk_at dksX4_worthOf_0 1 rfl rfl)
theorem dX4_worthOf_2 : decode cX4_worthOf 2 = .ok (.iconst 0, 1) := dk_3 (dk_at dksX4_worthOf_0 2 rfl rfl)
theorem dX4_worthOf_3 : decode cX4_worthOf 3 = .ok (.aload_n 0, 1) := dk_42 (dk_at dksX4_worthOf_0 3 rfl rfl)
theorem dX4_worthOf_4 : decode cX4_worthOf 4 = .ok (.getfield 435, 3) := dk_180 1 179 (dk_at dksX4_worthOf_0 4 rfl rfl)
theorem dX4_worthOf_7 : decode cX4_worthOf 7 = .ok (.iconst 1, 1) := dk_4 (dk_at dksX4_worthOf_0 7 rfl rfl)
theorem dX4_worthOf_8 : decode cX4_worthOf 8 = .ok (.isub, 1) := dk_100 (dk_at dksX4_worthOf_0 8 rfl rfl)
theorem dX4_worthOf_9 : decode cX4_worthOf 9 = .ok (.invokestatic 168, 3) := dk_184 0 168 (dk_at dksX4_worthOf_0 9 rfl rfl)
theorem dX4_worthOf_12 : decode cX4_worthOf 12 = .ok (.ifCond .eq 12, 3) := dk_153 0 12 (dk_at dksX4_worthOf_0 12 rfl rfl)
theorem dX4_worthOf_15 : decode cX4_worthOf 15 = .ok (.iload_n 2, 1) := dk_28 (dk_at dksX4_worthOf_0 15 rfl rfl)
theorem dX4_worthOf_16 : decode cX4_worthOf 16 = .ok (.iconst 0, 1) := dk_3 (dk_at dksX4_worthOf_0 16 rfl rfl)
theorem dX4_worthOf_17 : decode cX4_worthOf 17 = .ok (.iconst 1, 1) := dk_4 (dk_at dksX4_worthOf_0 17 rfl rfl)
theorem dX4_worthOf_18 : decode cX4_worthOf 18 = .ok (.invokestatic 168, 3) := dk_184 0 168 (dk_at dksX4_worthOf_0 18 rfl rfl)
theorem dX4_worthOf_21 : decode cX4_worthOf 21 = .ok (.ifCond .ne 7, 3) := dk_154 0 7 (dk_at dksX4_worthOf_0 21 rfl rfl)
theorem dX4_worthOf_24 : decode cX4_worthOf 24 = .ok (.iconst 1, 1) := dk_4 (dk_at dksX4_worthOf_1 0 rfl rfl)
theorem dX4_worthOf_25 : decode cX4_worthOf 25 = .ok (.goto 4, 3) := dk_167 0 4 (dk_at dksX4_worthOf_1 1 rfl rfl)
theorem dX4_worthOf_28 : decode cX4_worthOf 28 = .ok (.iconst 0, 1) := dk_3 (dk_at dksX4_worthOf_1 4 rfl rfl)
theorem dX4_worthOf_29 : decode cX4_worthOf 29 = .ok (.invokevirtual 317, 3) := dk_182 1 61 (dk_at dksX4_worthOf_1 5 rfl rfl)
theorem dX4_worthOf_32 : decode cX4_worthOf 32 = .ok (.ifCond .eq 5, 3) := dk_153 0 5 (dk_at dksX4_worthOf_1 8 rfl rfl)
theorem dX4_worthOf_35 : decode cX4_worthOf 35 = .ok (.iconst 0, 1) := dk_3 (dk_at dksX4_worthOf_1 11 rfl rfl)
theorem dX4_worthOf_36 : decode cX4_worthOf 36 = .ok (.ireturn, 1) := dk_172 (dk_at dksX4_worthOf_1 12 rfl rfl)
theorem dX4_worthOf_37 : decode cX4_worthOf 37 = .ok (.aload_n 0, 1) := dk_42 (dk_at dksX4_worthOf_1 13 rfl rfl)
theorem dX4_worthOf_38 : decode cX4_worthOf 38 = .ok (.getfield 93, 3) := dk_180 0 93 (dk_at dksX4_worthOf_1 14 rfl rfl)
theorem dX4_worthOf_41 : decode cX4_worthOf 41 = .ok (.iload_n 1, 1) := dk_27 (dk_at dksX4_worthOf_1 17 rfl rfl)
theorem dX4_worthOf_42 : decode cX4_worthOf 42 = .ok (.laload, 1) := dk_47 (dk_at dksX4_worthOf_1 18 rfl rfl)
theorem dX4_worthOf_43 : decode cX4_worthOf 43 = .ok (.lconst 0, 1) := dk_9 (dk_at dksX4_worthOf_1 19 rfl rfl)
theorem dX4_worthOf_44 : decode cX4_worthOf 44 = .ok (.lcmp, 1) := dk_148 (dk_at dksX4_worthOf_1 20 rfl rfl)
theorem dX4_worthOf_45 : decode cX4_worthOf 45 = .ok (.ifCond .ge 13, 3) := dk_156 0 13 (dk_at dksX4_worthOf_1 21 rfl rfl)
theorem dX4_worthOf_48 : decode cX4_worthOf 48 = .ok (.aload_n 0, 1) := dk_42 (dk_at dksX4_worthOf_2 0 rfl rfl)
theorem dX4_worthOf_49 : decode cX4_worthOf 49 = .ok (.getfield 93, 3) := dk_180 0 93 (dk_at dksX4_worthOf_2 1 rfl rfl)
theorem dX4_worthOf_52 : decode cX4_worthOf 52 = .ok (.iload_n 1, 1) := dk_27 (dk_at dksX4_worthOf_2 4 rfl rfl)
theorem dX4_worthOf_53 : decode cX4_worthOf 53 = .ok (.laload, 1) := dk_47 (dk_at dksX4_worthOf_2 5 rfl rfl)
theorem dX4_worthOf_54 : decode cX4_worthOf 54 = .ok (.lneg, 1) := dk_117 (dk_at dksX4_worthOf_2 6 rfl rfl)
theorem dX4_worthOf_55 : decode cX4_worthOf 55 = .ok (.goto 9, 3) := dk_167 0 9 (dk_at dksX4_worthOf_2 7 rfl rfl)
theorem dX4_worthOf_58 : decode cX4_worthOf 58 = .ok (.aload_n 0, 1) := dk_42 (dk_at dksX4_worthOf_2 10 rfl rfl)
theorem dX4_worthOf_59 : decode cX4_worthOf 59 = .ok (.getfield 93, 3) := dk_180 0 93 (dk_at dksX4_worthOf_2 11 rfl rfl)
theorem dX4_worthOf_62 : decode cX4_worthOf 62 = .ok (.iload_n 1, 1) := dk_27 (dk_at dksX4_worthOf_2 14 rfl rfl)
theorem dX4_worthOf_63 : decode cX4_worthOf 63 = .ok (.laload, 1) := dk_47 (dk_at dksX4_worthOf_2 15 rfl rfl)
theorem dX4_worthOf_64 : decode cX4_worthOf 64 = .ok (.lstore_n 3, 1) := dk_66 (dk_at dksX4_worthOf_2 16 rfl rfl)
theorem dX4_worthOf_65 : decode cX4_worthOf 65 = .ok (.aload_n 0, 1) := dk_42 (dk_at dksX4_worthOf_2 17 rfl rfl)
theorem dX4_worthOf_66 : decode cX4_worthOf 66 = .ok (.getfield 438, 3) := dk_180 1 182 (dk_at dksX4_worthOf_2 18 rfl rfl)
theorem dX4_worthOf_69 : decode cX4_worthOf 69 = .ok (.lstore 5, 2) := dk_55 5 (dk_at dksX4_worthOf_2 21 rfl rfl)
theorem dX4_worthOf_71 : decode cX4_worthOf 71 = .ok (.lload_n 3, 1) := dk_33 (dk_at dksX4_worthOf_2 23 rfl rfl)
theorem dX4_worthOf_72 : decode cX4_worthOf 72 = .ok (.lconst 0, 1) := dk_9 (dk_at dksX4_worthOf_3 0 rfl rfl)
theorem dX4_worthOf_73 : decode cX4_worthOf 73 = .ok (.lcmp, 1) := dk_148 (dk_at dksX4_worthOf_3 1 rfl rfl)
theorem dX4_worthOf_74 : decode cX4_worthOf 74 = .ok (.ifCond .eq 18, 3) := dk_153 0 18 (dk_at dksX4_worthOf_3 2 rfl rfl)
theorem dX4_worthOf_77 : decode cX4_worthOf 77 = .ok (.lload 5, 2) := dk_22 5 (dk_at dksX4_worthOf_3 5 rfl rfl)
theorem dX4_worthOf_79 : decode cX4_worthOf 79 = .ok (.lload_n 3, 1) := dk_33 (dk_at dksX4_worthOf_3 7 rfl rfl)
theorem dX4_worthOf_80 : decode cX4_worthOf 80 = .ok (.lrem, 1) := dk_113 (dk_at dksX4_worthOf_3 8 rfl rfl)
theorem dX4_worthOf_81 : decode cX4_worthOf 81 = .ok (.lstore 7, 2) := dk_55 7 (dk_at dksX4_worthOf_3 9 rfl rfl)
theorem dX4_worthOf_83 : decode cX4_worthOf 83 = .ok (.lload_n 3, 1) := dk_33 (dk_at dksX4_worthOf_3 11 rfl rfl)
theorem dX4_worthOf_84 : decode cX4_worthOf 84 = .ok (.lstore 5, 2) := dk_55 5 (dk_at dksX4_worthOf_3 12 rfl rfl)
theorem dX4_worthOf_86 : decode cX4_worthOf 86 = .ok (.lload 7, 2) := dk_22 7 (dk_at dksX4_worthOf_3 14 rfl rfl)
theorem dX4_worthOf_88 : decode cX4_worthOf 88 = .ok (.lstore_n 3, 1) := dk_66 (dk_at dksX4_worthOf_3 16 rfl rfl)
theorem dX4_worthOf_89 : decode cX4_worthOf 89 = .ok (.goto (-18), 3) := dk_167 255 238 (dk_at dksX4_worthOf_3 17 rfl rfl)
theorem dX4_worthOf_92 : decode cX4_worthOf 92 = .ok (.iload_n 2, 1) := dk_28 (dk_at dksX4_worthOf_3 20 rfl rfl)
theorem dX4_worthOf_93 : decode cX4_worthOf 93 = .ok (.ifCond .ne 12, 3) := dk_154 0 12 (dk_at dksX4_worthOf_3 21 rfl rfl)
theorem dX4_worthOf_96 : decode cX4_worthOf 96 = .ok (.aload_n 0, 1) := dk_42 (dk_at dksX4_worthOf_4 0 rfl rfl)
theorem dX4_worthOf_97 : decode cX4_worthOf 97 = .ok (.getfield 93, 3) := dk_180 0 93 (dk_at dksX4_worthOf_4 1 rfl rfl)
theorem dX4_worthOf_100 : decode cX4_worthOf 100 = .ok (.iload_n 1, 1) := dk_27 (dk_at dksX4_worthOf_4 4 rfl rfl)
theorem dX4_worthOf_101 : decode cX4_worthOf 101 = .ok (.laload, 1) := dk_47 (dk_at dksX4_worthOf_4 5 rfl rfl)
theorem dX4_worthOf_102 : decode cX4_worthOf 102 = .ok (.goto 7, 3) := dk_167 0 7 (dk_at dksX4_worthOf_4 6 rfl rfl)
theorem dX4_worthOf_105 : decode cX4_worthOf 105 = .ok (.aload_n 0, 1) := dk_42 (dk_at dksX4_worthOf_4 9 rfl rfl)
theorem dX4_worthOf_106 : decode cX4_worthOf 106 = .ok (.getfield 438, 3) := dk_180 1 182 (dk_at dksX4_worthOf_4 10 rfl rfl)
theorem dX4_worthOf_109 : decode cX4_worthOf 109 = .ok (.lload 5, 2) := dk_22 5 (dk_at dksX4_worthOf_4 13 rfl rfl)
theorem dX4_worthOf_111 : decode cX4_worthOf 111 = .ok (.ldiv, 1) := dk_109 (dk_at dksX4_worthOf_4 15 rfl rfl)
theorem dX4_worthOf_112 : decode cX4_worthOf 112 = .ok (.l2i, 1) := dk_136 (dk_at dksX4_worthOf_4 16 rfl rfl)
theorem dX4_worthOf_113 : decode cX4_worthOf 113 = .ok (.ireturn, 1) := dk_172 (dk_at dksX4_worthOf_4 17 rfl rfl)
def dkwX4_sides_13 : List UInt8 := [132, 5, 1, 167, 255, 162, 42, 180, 0, 96, 3, 21, 4, 79, 42, 4, 181, 1, 185, 29, 172]
abbrev dktX4_sides_13 : List UInt8 := dkwX4_sides_13 ++ []
def dkwX4_sides_12 : List UInt8 := [167, 0, 22, 21, 6, 54, 4, 42, 180, 0, 96, 5, 42, 180, 0, 81, 27, 21, 5, 96, 46, 79]
abbrev dktX4_sides_12 : List UInt8 := dkwX4_sides_12 ++ dktX4_sides_13
def dkwX4_sides_11 : List UInt8 := [21, 5, 96, 46, 167, 0, 5, 21, 6, 54, 6, 132, 7, 1, 167, 255, 209, 21, 6, 21, 4, 161, 0, 6]
abbrev dktX4_sides_11 : List UInt8 := dkwX4_sides_11 ++ dktX4_sides_12
def dkwX4_sides_10 : List UInt8 := [16, 6, 21, 7, 104, 21, 5, 96, 46, 21, 6, 164, 0, 19, 42, 180, 0, 90, 16, 6, 21, 7, 104]
abbrev dktX4_sides_10 : List UInt8 := dkwX4_sides_10 ++ dktX4_sides_11
def dkwX4_sides_9 : List UInt8 := [54, 5, 21, 5, 28, 162, 0, 94, 3, 54, 6, 3, 54, 7, 21, 7, 27, 162, 0, 47, 42, 180, 0, 90]
abbrev dktX4_sides_9 : List UInt8 := dkwX4_sides_9 ++ dktX4_sides_10
def dkwX4_sides_8 : List UInt8 := [21, 6, 62, 42, 180, 0, 96, 4, 42, 180, 0, 81, 21, 5, 46, 79, 132, 5, 1, 167, 255, 135, 3]
abbrev dktX4_sides_8 : List UInt8 := dkwX4_sides_8 ++ dktX4_sides_9
def dkwX4_sides_7 : List UInt8 := [21, 8, 167, 0, 5, 21, 6, 54, 6, 132, 7, 1, 167, 255, 180, 21, 6, 29, 163, 0, 6, 167, 0, 19]
abbrev dktX4_sides_7 : List UInt8 := dkwX4_sides_7 ++ dktX4_sides_8
def dkwX4_sides_6 : List UInt8 := [54, 8, 42, 180, 0, 90, 16, 6, 21, 5, 104, 21, 7, 96, 21, 8, 79, 21, 8, 21, 6, 162, 0, 8]
abbrev dktX4_sides_6 : List UInt8 := dkwX4_sides_6 ++ dktX4_sides_7
def dkwX4_sides_5 : List UInt8 := [21, 5, 46, 121, 129, 42, 180, 1, 46, 10, 42, 180, 0, 81, 27, 21, 7, 96, 46, 121, 129, 182, 1, 158]
abbrev dktX4_sides_5 : List UInt8 := dkwX4_sides_5 ++ dktX4_sides_6
def dkwX4_sides_4 : List UInt8 := [19, 1, 171, 54, 6, 3, 54, 7, 21, 7, 28, 162, 0, 76, 42, 42, 180, 1, 43, 10, 42, 180, 0, 81]
abbrev dktX4_sides_4 : List UInt8 := dkwX4_sides_4 ++ dktX4_sides_5
def dkwX4_sides_3 : List UInt8 := [180, 1, 162, 27, 100, 61, 2, 62, 19, 1, 171, 54, 4, 3, 54, 5, 21, 5, 27, 162, 0, 121]
abbrev dktX4_sides_3 : List UInt8 := dkwX4_sides_3 ++ dktX4_sides_4
def dkwX4_sides_2 : List UInt8 := [16, 6, 184, 0, 168, 153, 0, 15, 42, 4, 42, 180, 0, 18, 182, 1, 165, 154, 0, 5, 2, 172, 42]
abbrev dktX4_sides_2 : List UInt8 := dkwX4_sides_2 ++ dktX4_sides_3
def dkwX4_sides_1 : List UInt8 := [3, 182, 0, 225, 60, 27, 4, 16, 6, 184, 0, 168, 153, 0, 32, 42, 180, 0, 18, 4, 100, 27, 100, 4]
abbrev dktX4_sides_1 : List UInt8 := dkwX4_sides_1 ++ dktX4_sides_2
def dkwX4_sides_0 : List UInt8 := [42, 3, 181, 0, 1, 42, 17, 3, 172, 182, 1, 31, 42, 180, 0, 18, 154, 0, 7, 3, 167, 0, 8, 42]
abbrev dktX4_sides_0 : List UInt8 := dkwX4_sides_0 ++ dktX4_sides_1
theorem dksX4_sides_0 : cX4_sides.data.toList.drop 0 = dktX4_sides_0 := by decide +kernel
theorem dksX4_sides_1 : cX4_sides.data.toList.drop 24 = dktX4_sides_1 := dk_seg dksX4_sides_0 24 rfl rfl
theorem dksX4_sides_2 : cX4_sides.data.toList.drop 48 = dktX4_sides_2 := dk_seg dksX4_sides_1 24 rfl rfl
theorem dksX4_sides_3 : cX4_sides.data.toList.drop 71 = dktX4_sides_3 := dk_seg dksX4_sides_2 23 rfl rfl
theorem dksX4_sides_4 : cX4_sides.data.toList.drop 93 = dktX4_sides_4 := dk_seg dksX4_sides_3 22 rfl rfl
theorem dksX4_sides_5 : cX4_sides.data.toList.drop 117 = dktX4_sides_5 := dk_seg dksX4_sides_4 24 rfl rfl
theorem dksX4_sides_6 : cX4_sides.data.toList.drop 141 = dktX4_sides_6 := dk_seg dksX4_sides_5 24 rfl rfl
theorem dksX4_sides_7 : cX4_sides.data.toList.drop 165 = dktX4_sides_7 := dk_seg dksX4_sides_6 24 rfl rfl
theorem dksX4_sides_8 : cX4_sides.data.toList.drop 189 = dktX4_sides_8 := dk_seg dksX4_sides_7 24 rfl rfl
theorem dksX4_sides_9 : cX4_sides.data.toList.drop 212 = dktX4_sides_9 := dk_seg dksX4_sides_8 23 rfl rfl
theorem dksX4_sides_10 : cX4_sides.data.toList.drop 236 = dktX4_sides_10 := dk_seg dksX4_sides_9 24 rfl rfl
theorem dksX4_sides_11 : cX4_sides.data.toList.drop 259 = dktX4_sides_11 := dk_seg dksX4_sides_10 23 rfl rfl
theorem dksX4_sides_12 : cX4_sides.data.toList.drop 283 = dktX4_sides_12 := dk_seg dksX4_sides_11 24 rfl rfl
theorem dksX4_sides_13 : cX4_sides.data.toList.drop 305 = dktX4_sides_13 := dk_seg dksX4_sides_12 22 rfl rfl
theorem dX4_sides_0 : decode cX4_sides 0 = .ok (.aload_n 0, 1) := dk_42 (dk_at dksX4_sides_0 0 rfl rfl)
theorem dX4_sides_1 : decode cX4_sides 1 = .ok (.iconst 0, 1) := dk_3 (dk_at dksX4_sides_0 1 rfl rfl)
theorem dX4_sides_2 : decode cX4_sides 2 = .ok (.putfield 1, 3) := dk_181 0 1 (dk_at dksX4_sides_0 2 rfl rfl)
theorem dX4_sides_5 : decode cX4_sides 5 = .ok (.aload_n 0, 1) := dk_42 (dk_at dksX4_sides_0 5 rfl rfl)
theorem dX4_sides_6 : decode cX4_sides 6 = .ok (.sipush 940, 3) := dk_17 3 172 (dk_at dksX4_sides_0 6 rfl rfl)
theorem dX4_sides_9 : decode cX4_sides 9 = .ok (.invokevirtual 287, 3) := dk_182 1 31 (dk_at dksX4_sides_0 9 rfl rfl)
theorem dX4_sides_12 : decode cX4_sides 12 = .ok (.aload_n 0, 1) := dk_42 (dk_at dksX4_sides_0 12 rfl rfl)
theorem dX4_sides_13 : decode cX4_sides 13 = .ok (.getfield 18, 3) := dk_180 0 18 (dk_at dksX4_sides_0 13 rfl rfl)
theorem dX4_sides_16 : decode cX4_sides 16 = .ok (.ifCond .ne 7, 3) := dk_154 0 7 (dk_at dksX4_sides_0 16 rfl rfl)
theorem dX4_sides_19 : decode cX4_sides 19 = .ok (.iconst 0, 1) := dk_3 (dk_at dksX4_sides_0 19 rfl rfl)
theorem dX4_sides_20 : decode cX4_sides 20 = .ok (.goto 8, 3) := dk_167 0 8 (dk_at dksX4_sides_0 20 rfl rfl)
theorem dX4_sides_23 : decode cX4_sides 23 = .ok (.aload_n 0, 1) := dk_42 (dk_at dksX4_sides_0 23 rfl rfl)
theorem dX4_sides_24 : decode cX4_sides 24 = .ok (.iconst 0, 1) := dk_3 (dk_at dksX4_sides_1 0 rfl rfl)
theorem dX4_sides_25 : decode cX4_sides 25 = .ok (.invokevirtual 225, 3) := dk_182 0 225 (dk_at dksX4_sides_1 1 rfl rfl)
theorem dX4_sides_28 : decode cX4_sides 28 = .ok (.istore_n 1, 1) := dk_60 (dk_at dksX4_sides_1 4 rfl rfl)
theorem dX4_sides_29 : decode cX4_sides 29 = .ok (.iload_n 1, 1) := dk_27 (dk_at dksX4_sides_1 5 rfl rfl)
theorem dX4_sides_30 : decode cX4_sides 30 = .ok (.iconst 1, 1) := dk_4 (dk_at dksX4_sides_1 6 rfl rfl)
theorem dX4_sides_31 : decode cX4_sides 31 = .ok (.bipush 6, 2) := dk_16 6 (dk_at dksX4_sides_1 7 rfl rfl)
theorem dX4_sides_33 : decode cX4_sides 33 = .ok (.invokestatic 168, 3) := dk_184 0 168 (dk_at dksX4_sides_1 9 rfl rfl)
theorem dX4_sides_36 : decode cX4_sides 36 = .ok (.ifCond .eq 32, 3) := dk_153 0 32 (dk_at dksX4_sides_1 12 rfl rfl)
theorem dX4_sides_39 : decode cX4_sides 39 = .ok (.aload_n 0, 1) := dk_42 (dk_at dksX4_sides_1 15 rfl rfl)
theorem dX4_sides_40 : decode cX4_sides 40 = .ok (.getfield 18, 3) := dk_180 0 18 (dk_at dksX4_sides_1 16 rfl rfl)
theorem dX4_sides_43 : decode cX4_sides 43 = .ok (.iconst 1, 1) := dk_4 (dk_at dksX4_sides_1 19 rfl rfl)
theorem dX4_sides_44 : decode cX4_sides 44 = .ok (.isub, 1) := dk_100 (dk_at dksX4_sides_1 20 rfl rfl)
theorem dX4_sides_45 : decode cX4_sides 45 = .ok (.iload_n 1, 1) := dk_27 (dk_at dksX4_sides_1 21 rfl rfl)
theorem dX4_sides_46 : decode cX4_sides 46 = .ok (.isub, 1) := dk_100 (dk_at dksX4_sides_1 22 rfl rfl)
theorem dX4_sides_47 : decode cX4_sides 47 = .ok (.iconst 1, 1) := dk_4 (dk_at dksX4_sides_1 23 rfl rfl)
theorem dX4_sides_48 : decode cX4_sides 48 = .ok (.bipush 6, 2) := dk_16 6 (dk_at dksX4_sides_2 0 rfl rfl)
theorem dX4_sides_50 : decode cX4_sides 50 = .ok (.invokestatic 168, 3) := dk_184 0 168 (dk_at dksX4_sides_2 2 rfl rfl)
theorem dX4_sides_53 : decode cX4_sides 53 = .ok (.ifCond .eq 15, 3) := dk_153 0 15 (dk_at dksX4_sides_2 5 rfl rfl)
theorem dX4_sides_56 : decode cX4_sides 56 = .ok (.aload_n 0, 1) := dk_42 (dk_at dksX4_sides_2 8 rfl rfl)
theorem dX4_sides_57 : decode cX4_sides 57 = .ok (.iconst 1, 1) := dk_4 (dk_at dksX4_sides_2 9 rfl rfl)
theorem dX4_sides_58 : decode cX4_sides 58 = .ok (.aload_n 0, 1) := dk_42 (dk_at dksX4_sides_2 10 rfl rfl)
theorem dX4_sides_59 : decode cX4_sides 59 = .ok (.getfield 18, 3) := dk_180 0 18 (dk_at dksX4_sides_2 11 rfl rfl)
theorem dX4_sides_62 : decode cX4_sides 62 = .ok (.invokevirtual 421, 3) := dk_182 1 165 (dk_at dksX4_sides_2 14 rfl rfl)
theorem dX4_sides_65 : decode cX4_sides 65 = .ok (.ifCond .ne 5, 3) := dk_154 0 5 (dk_at dksX4_sides_2 17 rfl rfl)
theorem dX4_sides_68 : decode cX4_sides 68 = .ok (.iconst (-1), 1) := dk_2 (dk_at dksX4_sides_2 20 rfl rfl)
theorem dX4_sides_69 : decode cX4_sides 69 = .ok (.ireturn, 1) := dk_172 (dk_at dksX4_sides_2 21 rfl rfl)
theorem dX4_sides_70 : decode cX4_sides 70 = .ok (.aload_n 0, 1) := dk_42 (dk_at dksX4_sides_2 22 rfl rfl)
theorem dX4_sides_71 : decode cX4_sides 71 = .ok (.getfield 418, 3) := dk_180 1 162 (dk_at dksX4_sides_3 0 rfl rfl)
theorem dX4_sides_74 : decode cX4_sides 74 = .ok (.iload_n 1, 1) := dk_27 (dk_at dksX4_sides_3 3 rfl rfl)
theorem dX4_sides_75 : decode cX4_sides 75 = .ok (.isub, 1) := dk_100 (dk_at dksX4_sides_3 4 rfl rfl)
theorem dX4_sides_76 : decode cX4_sides 76 = .ok (.istore_n 2, 1) := dk_61 (dk_at dksX4_sides_3 5 rfl rfl)
theorem dX4_sides_77 : decode cX4_sides 77 = .ok (.iconst (-1), 1) := dk_2 (dk_at dksX4_sides_3 6 rfl rfl)
theorem dX4_sides_78 : decode cX4_sides 78 = .ok (.istore_n 3, 1) := dk_62 (dk_at dksX4_sides_3 7 rfl rfl)
theorem dX4_sides_79 : decode cX4_sides 79 = .ok (.ldc_w 427, 3) := dk_19 1 171 (dk_at dksX4_sides_3 8 rfl rfl)
theorem dX4_sides_82 : decode cX4_sides 82 = .ok (.istore 4, 2) := dk_54 4 (dk_at dksX4_sides_3 11 rfl rfl)
theorem dX4_sides_84 : decode cX4_sides 84 = .ok (.iconst 0, 1) := dk_3 (dk_at dksX4_sides_3 13 rfl rfl)
theorem dX4_sides_85 : decode cX4_sides 85 = .ok (.istore 5, 2) := dk_54 5 (dk_at dksX4_sides_3 14 rfl rfl)
theorem dX4_sides_87 : decode cX4_sides 87 = .ok (.iload 5, 2) := dk_21 5 (dk_at dksX4_sides_3 16 rfl rfl)
theorem dX4_sides_89 : decode cX4_sides 89 = .ok (.iload_n 1, 1) := dk_27 (dk_at dksX4_sides_3 18 rfl rfl)
theorem dX4_sides_90 : decode cX4_sides 90 = .ok (.if_icmp .ge 121, 3) := dk_162 0 121 (dk_at dksX4_sides_3 19 rfl rfl)
theorem dX4_sides_93 : decode cX4_sides 93 = .ok (.ldc_w 427, 3) := dk_19 1 171 (dk_at dksX4_sides_4 0 rfl rfl)
theorem dX4_sides_96 : decode cX4_sides 96 = .ok (.istore 6, 2) := dk_54 6 (dk_at dksX4_sides_4 3 rfl rfl)
theorem dX4_sides_98 : decode cX4_sides 98 = .ok (.iconst 0, 1) := dk_3 (dk_at dksX4_sides_4 5 rfl rfl)
theorem dX4_sides_99 : decode cX4_sides 99 = .ok (.istore 7, 2) := dk_54 7 (dk_at dksX4_sides_4 6 rfl rfl)
theorem dX4_sides_101 : decode cX4_sides 101 = .ok (.iload 7, 2) := dk_21 7 (dk_at dksX4_sides_4 8 rfl rfl)
theorem dX4_sides_103 : decode cX4_sides 103 = .ok (.iload_n 2, 1) := dk_28 (dk_at dksX4_sides_4 10 rfl rfl)
theorem dX4_sides_104 : decode cX4_sides 104 = .ok (.if_icmp .ge 76, 3) := dk_162 0 76 (dk_at dksX4_sides_4 11 rfl rfl)
theorem dX4_sides_107 : decode cX4_sides 107 = .ok (.aload_n 0, 1) := dk_42 (dk_at dksX4_sides_4 14 rfl rfl)
theorem dX4_sides_108 : decode cX4_sides 108 = .ok (.aload_n 0, 1) := dk_42 (dk_at dksX4_sides_4 15 rfl rfl)
theorem dX4_sides_109 : decode cX4_sides 109 = .ok (.getfield 299, 3) := dk_180 1 43 (dk_at dksX4_sides_4 16 rfl rfl)
theorem dX4_sides_112 : decode cX4_sides 112 = .ok (.lconst 1, 1) := dk_10 (dk_at dksX4_sides_4 19 rfl rfl)
theorem dX4_sides_113 : decode cX4_sides 113 = .ok (.aload_n 0, 1) := dk_42 (dk_at dksX4_sides_4 20 rfl rfl)
theorem dX4_sides_114 : decode cX4_sides 114 = .ok (.getfield 81, 3) := dk_180 0 81 (dk_at dksX4_sides_4 21 rfl rfl)
theorem dX4_sides_117 : decode cX4_sides 117 = .ok (.iload 5, 2) := dk_21 5 (dk_at dksX4_sides_5 0 rfl rfl)
theorem dX4_sides_119 : decode cX4_sides 119 = .ok (.iaload, 1) := dk_46 (dk_at dksX4_sides_5 2 rfl rfl)
theorem dX4_sides_120 : decode cX4_sides 120 = .ok (.lshl, 1) := dk_121 (dk_at dksX4_sides_5 3 rfl rfl)
theorem dX4_sides_121 : decode cX4_sides 121 = .ok (.lor, 1) := dk_129 (dk_at dksX4_sides_5 4 rfl rfl)
theorem dX4_sides_122 : decode cX4_sides 122 = .ok (.aload_n 0, 1) := dk_42 (dk_at dksX4_sides_5 5 rfl rfl)
theorem dX4_sides_123 : decode cX4_sides 123 = .ok (.getfield 302, 3) := dk_180 1 46 (dk_at dksX4_sides_5 6 rfl rfl)
theorem dX4_sides_126 : decode cX4_sides 126 = .ok (.lconst 1, 1) := dk_10 (dk_at dksX4_sides_5 9 rfl rfl)
theorem dX4_sides_127 : decode cX4_sides 127 = .ok (.aload_n 0, 1) := dk_42 (dk_at dksX4_sides_5 10 rfl rfl)
theorem dX4_sides_128 : decode cX4_sides 128 = .ok (.getfield 81, 3) := dk_180 0 81 (dk_at dksX4_sides_5 11 rfl rfl)
theorem dX4_sides_131 : decode cX4_sides 131 = .ok (.iload_n 1, 1) := dk_27 (dk_at dksX4_sides_5 14 rfl rfl)
theorem dX4_sides_132 : decode cX4_sides 132 = .ok (.iload 7, 2) := dk_21 7 (dk_at dksX4_sides_5 15 rfl rfl)
theorem dX4_sides_134 : decode cX4_sides 134 = .ok (.iadd, 1) := dk_96 (dk_at dksX4_sides_5 17 rfl rfl)
theorem dX4_sides_135 : decode cX4_sides 135 = .ok (.iaload, 1) := dk_46 (dk_at dksX4_sides_5 18 rfl rfl)
theorem dX4_sides_136 : decode cX4_sides 136 = .ok (.lshl, 1) := dk_121 (dk_at dksX4_sides_5 19 rfl rfl)
theorem dX4_sides_137 : decode cX4_sides 137 = .ok (.lor, 1) := dk_129 (dk_at dksX4_sides_5 20 rfl rfl)
theorem dX4_sides_138 : decode cX4_sides 138 = .ok (.invokevirtual 414, 3) := dk_182 1 158 (dk_at dksX4_sides_5 21 rfl rfl)
theorem dX4_sides_141 : decode cX4_sides 141 = .ok (.istore 8, 2) := dk_54 8 (dk_at dksX4_sides_6 0 rfl rfl)
theorem dX4_sides_143 : decode cX4_sides 143 = .ok (.aload_n 0, 1) := dk_42 (dk_at dksX4_sides_6 2 rfl rfl)
theorem dX4_sides_144 : decode cX4_sides 144 = .ok (.getfield 90, 3) := dk_180 0 90 (dk_at dksX4_sides_6 3 rfl rfl)
theorem dX4_sides_147 : decode cX4_sides 147 = .ok (.bipush 6, 2) := dk_16 6 (dk_at dksX4_sides_6 6 rfl rfl)
theorem dX4_sides_149 : decode cX4_sides 149 = .ok (.iload 5, 2) := dk_21 5 (dk_at dksX4_sides_6 8 rfl rfl)
theorem dX4_sides_151 : decode cX4_sides 151 = .ok (.imul, 1) := dk_104 (dk_at dksX4_sides_6 10 rfl rfl)
theorem dX4_sides_152 : decode cX4_sides 152 = .ok (.iload 7, 2) := dk_21 7 (dk_at dksX4_sides_6 11 rfl rfl)
theorem dX4_sides_154 : decode cX4_sides 154 = .ok (.iadd, 1) := dk_96 (dk_at dksX4_sides_6 13 rfl rfl)
theorem dX4_sides_155 : decode cX4_sides 155 = .ok (.iload 8, 2) := dk_21 8 (dk_at dksX4_sides_6 14 rfl rfl)
theorem dX4_sides_157 : decode cX4_sides 157 = .ok (.iastore, 1) := dk_79 (dk_at dksX4_sides_6 16 rfl rfl)
theorem dX4_sides_158 : decode cX4_sides 158 = .ok (.iload 8, 2) := dk_21 8 (dk_at dksX4_sides_6 17 rfl rfl)
theorem dX4_sides_160 : decode cX4_sides 160 = .ok (.iload 6, 2) := dk_21 6 (dk_at dksX4_sides_6 19 rfl rfl)
theorem dX4_sides_162 : decode cX4_sides 162 = .ok (.if_icmp .ge 8, 3) := dk_162 0 8 (dk_at dksX4_sides_6 21 rfl rfl)
theorem dX4_sides_165 : decode cX4_sides 165 = .ok (.iload 8, 2) := dk_21 8 (dk_at dksX4_sides_7 0 rfl rfl)
theorem dX4_sides_167 : decode cX4_sides 167 = .ok (.goto 5, 3) := dk_167 0 5 (dk_at dksX4_sides_7 2 rfl rfl)
theorem dX4_sides_170 : decode cX4_sides 170 = .ok (.iload 6, 2) := dk_21 6 (dk_at dksX4_sides_7 5 rfl rfl)
theorem dX4_sides_172 : decode cX4_sides 172 = .ok (.istore 6, 2) := dk_54 6 (dk_at dksX4_sides_7 7 rfl rfl)
theorem dX4_sides_174 : decode cX4_sides 174 = .ok (.iinc 7 1, 3) := dk_132 7 1 (dk_at dksX4_sides_7 9 rfl rfl)
theorem dX4_sides_177 : decode cX4_sides 177 = .ok (.goto (-76), 3) := dk_167 255 180 (dk_at dksX4_sides_7 12 rfl rfl)
theorem dX4_sides_180 : decode cX4_sides 180 = .ok (.iload 6, 2) := dk_21 6 (dk_at dksX4_sides_7 15 rfl rfl)
theorem dX4_sides_182 : decode cX4_sides 182 = .ok (.iload_n 3, 1) := dk_29 (dk_at dksX4_sides_7 17 rfl rfl)
theorem dX4_sides_183 : decode cX4_sides 183 = .ok (.if_icmp .gt 6, 3) := dk_163 0 6 (dk_at dksX4_sides_7 18 rfl rfl)
theorem dX4_sides_186 : decode cX4_sides 186 = .ok (.goto 19, 3) := dk_167 0 19 (dk_at dksX4_sides_7 21 rfl rfl)
theorem dX4_sides_189 : decode cX4_sides 189 = .ok (.iload 6, 2) := dk_21 6 (dk_at dksX4_sides_8 0 rfl rfl)
theorem dX4_sides_191 : decode cX4_sides 191 = .ok (.istore_n 3, 1) := dk_62 (dk_at dksX4_sides_8 2 rfl rfl)
theorem dX4_sides_192 : decode cX4_sides 192 = .ok (.aload_n 0, 1) := dk_42 (dk_at dksX4_sides_8 3 rfl rfl)
theorem dX4_sides_193 : decode cX4_sides 193 = .ok (.getfield 96, 3) := dk_180 0 96 (dk_at dksX4_sides_8 4 rfl rfl)
theorem dX4_sides_196 : decode cX4_sides 196 = .ok (.iconst 1, 1) := dk_4 (dk_at dksX4_sides_8 7 rfl rfl)
theorem dX4_sides_197 : decode cX4_sides 197 = .ok (.aload_n 0, 1) := dk_42 (dk_at dksX4_sides_8 8 rfl rfl)
theorem dX4_sides_198 : decode cX4_sides 198 = .ok (.getfield 81, 3) := dk_180 0 81 (dk_at dksX4_sides_8 9 rfl rfl)
theorem dX4_sides_201 : decode cX4_sides 201 = .ok (.iload 5, 2) := dk_21 5 (dk_at dksX4_sides_8 12 rfl rfl)
theorem dX4_sides_203 : decode cX4_sides 203 = .ok (.iaload, 1) := dk_46 (dk_at dksX4_sides_8 14 rfl rfl)
theorem dX4_sides_204 : decode cX4_sides 204 = .ok (.iastore, 1) := dk_79 (dk_at dksX4_sides_8 15 rfl rfl)
theorem dX4_sides_205 : decode cX4_sides 205 = .ok (.iinc 5 1, 3) := dk_132 5 1 (dk_at dksX4_sides_8 16 rfl rfl)
theorem dX4_sides_208 : decode cX4_sides 208 = .ok (.goto (-121), 3) := dk_167 255 135 (dk_at dksX4_sides_8 19 rfl rfl)
theorem dX4_sides_211 : decode cX4_sides 211 = .ok (.iconst 0, 1) := dk_3 (dk_at dksX4_sides_8 22 rfl rfl)
theorem dX4_sides_212 : decode cX4_sides 212 = .ok (.istore 5, 2) := dk_54 5 (dk_at dksX4_sides_9 0 rfl rfl)
theorem dX4_sides_214 : decode cX4_sides 214 = .ok (.iload 5, 2) := dk_21 5 (dk_at dksX4_sides_9 2 rfl rfl)
theorem dX4_sides_216 : decode cX4_sides 216 = .ok (.iload_n 2, 1) := dk_28 (dk_at dksX4_sides_9 4 rfl rfl)
theorem dX4_sides_217 : decode cX4_sides 217 = .ok (.if_icmp .ge 94, 3) := dk_162 0 94 (dk_at dksX4_sides_9 5 rfl rfl)
theorem dX4_sides_220 : decode cX4_sides 220 = .ok (.iconst 0, 1) := dk_3 (dk_at dksX4_sides_9 8 rfl rfl)
theorem dX4_sides_221 : decode cX4_sides 221 = .ok (.istore 6, 2) := dk_54 6 (dk_at dksX4_sides_9 9 rfl rfl)
theorem dX4_sides_223 : decode cX4_sides 223 = .ok (.iconst 0, 1) := dk_3 (dk_at dksX4_sides_9 11 rfl rfl)
theorem dX4_sides_224 : decode cX4_sides 224 = .ok (.istore 7, 2) := dk_54 7 (dk_at dksX4_sides_9 12 rfl rfl)
theorem dX4_sides_226 : decode cX4_sides 226 = .ok (.iload 7, 2) := dk_21 7 (dk_at dksX4_sides_9 14 rfl rfl)
theorem dX4_sides_228 : decode cX4_sides 228 = .ok (.iload_n 1, 1) := dk_27 (dk_at dksX4_sides_9 16 rfl rfl)
theorem dX4_sides_229 : decode cX4_sides 229 = .ok (.if_icmp .ge 47, 3) := dk_162 0 47 (dk_at dksX4_sides_9 17 rfl rfl)
theorem dX4_sides_232 : decode cX4_sides 232 = .ok (.aload_n 0, 1) := dk_42 (dk_at dksX4_sides_9 20 rfl rfl)
theorem dX4_sides_233 : decode cX4_sides 233 = .ok (.getfield 90, 3) := dk_180 0 90 (dk_at dksX4_sides_9 21 rfl rfl)
theorem dX4_sides_236 : decode cX4_sides 236 = .ok (.bipush 6, 2) := dk_16 6 (dk_at dksX4_sides_10 0 rfl rfl)
theorem dX4_sides_238 : decode cX4_sides 238 = .ok (.iload 7, 2) := dk_21 7 (dk_at dksX4_sides_10 2 rfl rfl)
theorem dX4_sides_240 : decode cX4_sides 240 = .ok (.imul, 1) := dk_104 (dk_at dksX4_sides_10 4 rfl rfl)
theorem dX4_sides_241 : decode cX4_sides 241 = .ok (.iload 5, 2) := dk_21 5 (dk_at dksX4_sides_10 5 rfl rfl)
theorem dX4_sides_243 : decode cX4_sides 243 = .ok (.iadd, 1) := dk_96 (dk_at dksX4_sides_10 7 rfl rfl)
theorem dX4_sides_244 : decode cX4_sides 244 = .ok (.iaload, 1) := dk_46 (dk_at dksX4_sides_10 8 rfl rfl)
theorem dX4_sides_245 : decode cX4_sides 245 = .ok (.iload 6, 2) := dk_21 6 (dk_at dksX4_sides_10 9 rfl rfl)
theorem dX4_sides_247 : decode cX4_sides 247 = .ok (.if_icmp .le 19, 3) := dk_164 0 19 (dk_at dksX4_sides_10 11 rfl rfl)
theorem dX4_sides_250 : decode cX4_sides 250 = .ok (.aload_n 0, 1) := dk_42 (dk_at dksX4_sides_10 14 rfl rfl)
theorem dX4_sides_251 : decode cX4_sides 251 = .ok (.getfield 90, 3) := dk_180 0 90 (dk_at dksX4_sides_10 15 rfl rfl)
theorem dX4_sides_254 : decode cX4_sides 254 = .ok (.bipush 6, 2) := dk_16 6 (dk_at dksX4_sides_10 18 rfl rfl)
theorem dX4_sides_256 : decode cX4_sides 256 = .ok (.iload 7, 2) := dk_21 7 (dk_at dksX4_sides_10 20 rfl rfl)
theorem dX4_sides_258 : decode cX4_sides 258 = .ok (.imul, 1) := dk_104 (dk_at dksX4_sides_10 22 rfl rfl)
theorem dX4_sides_259 : decode cX4_sides 259 = .ok (.iload 5, 2) := dk_21 5 (dk_at dksX4_sides_11 0 rfl rfl)
theorem dX4_sides_261 : decode cX4_sides 261 = .ok (.iadd, 1) := dk_96 (dk_at dksX4_sides_11 2 rfl rfl)
theorem dX4_sides_262 : decode cX4_sides 262 = .ok (.iaload, 1) := dk_46 (dk_at dksX4_sides_11 3 rfl rfl)
theorem dX4_sides_263 : decode cX4_sides 263 = .ok (.goto 5, 3) := dk_167 0 5 (dk_at dksX4_sides_11 4 rfl rfl)
theorem dX4_sides_266 : decode cX4_sides 266 = .ok (.iload 6, 2) := dk_21 6 (dk_at dksX4_sides_11 7 rfl rfl)
theorem dX4_sides_268 : decode cX4_sides 268 = .ok (.istore 6, 2) := dk_54 6 (dk_at dksX4_sides_11 9 rfl rfl)
theorem dX4_sides_270 : decode cX4_sides 270 = .ok (.iinc 7 1, 3) := dk_132 7 1 (dk_at dksX4_sides_11 11 rfl rfl)
theorem dX4_sides_273 : decode cX4_sides 273 = .ok (.goto (-47), 3) := dk_167 255 209 (dk_at dksX4_sides_11 14 rfl rfl)
theorem dX4_sides_276 : decode cX4_sides 276 = .ok (.iload 6, 2) := dk_21 6 (dk_at dksX4_sides_11 17 rfl rfl)
theorem dX4_sides_278 : decode cX4_sides 278 = .ok (.iload 4, 2) := dk_21 4 (dk_at dksX4_sides_11 19 rfl rfl)
theorem dX4_sides_280 : decode cX4_sides 280 = .ok (.if_icmp .lt 6, 3) := dk_161 0 6 (dk_at dksX4_sides_11 21 rfl rfl)
theorem dX4_sides_283 : decode cX4_sides 283 = .ok (.goto 22, 3) := dk_167 0 22 (dk_at dksX4_sides_12 0 rfl rfl)
theorem dX4_sides_286 : decode cX4_sides 286 = .ok (.iload 6, 2) := dk_21 6 (dk_at dksX4_sides_12 3 rfl rfl)
theorem dX4_sides_288 : decode cX4_sides 288 = .ok (.istore 4, 2) := dk_54 4 (dk_at dksX4_sides_12 5 rfl rfl)
theorem dX4_sides_290 : decode cX4_sides 290 = .ok (.aload_n 0, 1) := dk_42 (dk_at dksX4_sides_12 7 rfl rfl)
theorem dX4_sides_291 : decode cX4_sides 291 = .ok (.getfield 96, 3) := dk_180 0 96 (dk_at dksX4_sides_12 8 rfl rfl)
theorem dX4_sides_294 : decode cX4_sides 294 = .ok (.iconst 2, 1) := dk_5 (dk_at dksX4_sides_12 11 rfl rfl)
theorem dX4_sides_295 : decode cX4_sides 295 = .ok (.aload_n 0, 1) := dk_42 (dk_at dksX4_sides_12 12 rfl rfl)
theorem dX4_sides_296 : decode cX4_sides 296 = .ok (.getfield 81, 3) := dk_180 0 81 (dk_at dksX4_sides_12 13 rfl rfl)
theorem dX4_sides_299 : decode cX4_sides 299 = .ok (.iload_n 1, 1) := dk_27 (dk_at dksX4_sides_12 16 rfl rfl)
theorem dX4_sides_300 : decode cX4_sides 300 = .ok (.iload 5, 2) := dk_21 5 (dk_at dksX4_sides_12 17 rfl rfl)
theorem dX4_sides_302 : decode cX4_sides 302 = .ok (.iadd, 1) := dk_96 (dk_at dksX4_sides_12 19 rfl rfl)
theorem dX4_sides_303 : decode cX4_sides 303 = .ok (.iaload, 1) := dk_46 (dk_at dksX4_sides_12 20 rfl rfl)
theorem dX4_sides_304 : decode cX4_sides 304 = .ok (.iastore, 1) := dk_79 (dk_at dksX4_sides_12 21 rfl rfl)
theorem dX4_sides_305 : decode cX4_sides 305 = .ok (.iinc 5 1, 3) := dk_132 5 1 (dk_at dksX4_sides_13 0 rfl rfl)
theorem dX4_sides_308 : decode cX4_sides 308 = .ok (.goto (-94), 3) := dk_167 255 162 (dk_at dksX4_sides_13 3 rfl rfl)
theorem dX4_sides_311 : decode cX4_sides 311 = .ok (.aload_n 0, 1) := dk_42 (dk_at dksX4_sides_13 6 rfl rfl)
theorem dX4_sides_312 : decode cX4_sides 312 = .ok (.getfield 96, 3) := dk_180 0 96 (dk_at dksX4_sides_13 7 rfl rfl)
theorem dX4_sides_315 : decode cX4_sides 315 = .ok (.iconst 0, 1) := dk_3 (dk_at dksX4_sides_13 10 rfl rfl)
theorem dX4_sides_316 : decode cX4_sides 316 = .ok (.iload 4, 2) := dk_21 4 (dk_at dksX4_sides_13 11 rfl rfl)
theorem dX4_sides_318 : decode cX4_sides 318 = .ok (.iastore, 1) := dk_79 (dk_at dksX4_sides_13 13 rfl rfl)
theorem dX4_sides_319 : decode cX4_sides 319 = .ok (.aload_n 0, 1) := dk_42 (dk_at dksX4_sides_13 14 rfl rfl)
theorem dX4_sides_320 : decode cX4_sides 320 = .ok (.iconst 1, 1) := dk_4 (dk_at dksX4_sides_13 15 rfl rfl)
theorem dX4_sides_321 : decode cX4_sides 321 = .ok (.putfield 441, 3) := dk_181 1 185 (dk_at dksX4_sides_13 16 rfl rfl)
theorem dX4_sides_324 : decode cX4_sides 324 = .ok (.iload_n 3, 1) := dk_29 (dk_at dksX4_sides_13 19 rfl rfl)
theorem dX4_sides_325 : decode cX4_sides 325 = .ok (.ireturn, 1) := dk_172 (dk_at dksX4_sides_13 20 rfl rfl)
def dkwX4_side_1 : List UInt8 := [180, 0, 96, 27, 46, 167, 0, 4, 2, 172]
abbrev dktX4_side_1 : List UInt8 := dkwX4_side_1 ++ []
def dkwX4_side_0 : List UInt8 := [42, 3, 181, 0, 1, 42, 180, 1, 185, 153, 0, 21, 27, 3, 5, 184, 0, 168, 153, 0, 12, 42]
abbrev dktX4_side_0 : List UInt8 := dkwX4_side_0 ++ dktX4_side_1
theorem dksX4_side_0 : cX4_side.data.toList.drop 0 = dktX4_side_0 := by decide +kernel
theorem dksX4_side_1 : cX4_side.data.toList.drop 22 = dktX4_side_1 := dk_seg dksX4_side_0 22 rfl rfl
theorem dX4_side_0 : decode cX4_side 0 = .ok (.aload_n 0, 1) := dk_42 (dk_at dksX4_side_0 0 rfl rfl)
theorem dX4_side_1 : decode cX4_side 1 = .ok (.iconst 0, 1) := dk_3 (dk_at dksX4_side_0 1 rfl rfl)
theorem dX4_side_2 : decode cX4_side 2 = .ok (.putfield 1, 3) := dk_181 0 1 (dk_at dksX4_side_0 2 rfl rfl)
theorem dX4_side_5 : decode cX4_side 5 = .ok (.aload_n 0, 1) := dk_42 (dk_at dksX4_side_0 5 rfl rfl)
theorem dX4_side_6 : decode cX4_side 6 = .ok (.getfield 441, 3) := dk_180 1 185 (dk_at dksX4_side_0 6 rfl rfl)
theorem dX4_side_9 : decode cX4_side 9 = .ok (.ifCond .eq 21, 3) := dk_153 0 21 (dk_at dksX4_side_0 9 rfl rfl)
theorem dX4_side_12 : decode cX4_side 12 = .ok (.iload_n 1, 1) := dk_27 (dk_at dksX4_side_0 12 rfl rfl)
theorem dX4_side_13 : decode cX4_side 13 = .ok (.iconst 0, 1) := dk_3 (dk_at dksX4_side_0 13 rfl rfl)
theorem dX4_side_14 : decode cX4_side 14 = .ok (.iconst 2, 1) := dk_5 (dk_at dksX4_side_0 14 rfl rfl)
theorem dX4_side_15 : decode cX4_side 15 = .ok (.invokestatic 168, 3) := dk_184 0 168 (dk_at dksX4_side_0 15 rfl rfl)
theorem dX4_side_18 : decode cX4_side 18 = .ok (.ifCond .eq 12, 3) := dk_153 0 12 (dk_at dksX4_side_0 18 rfl rfl)
theorem dX4_side_21 : decode cX4_side 21 = .ok (.aload_n 0, 1) := dk_42 (dk_at dksX4_side_0 21 rfl rfl)
theorem dX4_side_22 : decode cX4_side 22 = .ok (.getfield 96, 3) := dk_180 0 96 (dk_at dksX4_side_1 0 rfl rfl)
theorem dX4_side_25 : decode cX4_side 25 = .ok (.iload_n 1, 1) := dk_27 (dk_at dksX4_side_1 3 rfl rfl)
theorem dX4_side_26 : decode cX4_side 26 = .ok (.iaload, 1) := dk_46 (dk_at dksX4_side_1 4 rfl rfl)
theorem dX4_side_27 : decode cX4_side 27 = .ok (.goto 4, 3) := dk_167 0 4 (dk_at dksX4_side_1 5 rfl rfl)
theorem dX4_side_30 : decode cX4_side 30 = .ok (.iconst (-1), 1) := dk_2 (dk_at dksX4_side_1 8 rfl rfl)
theorem dX4_side_31 : decode cX4_side 31 = .ok (.ireturn, 1) := dk_172 (dk_at dksX4_side_1 9 rfl rfl)
def dkwX4_began_12 : List UInt8 := [21, 11, 181, 0, 102, 132, 11, 1, 167, 255, 174, 132, 10, 1, 167, 255, 158, 21, 9, 172]
abbrev dktX4_began_12 : List UInt8 := dkwX4_began_12 ++ []
def dkwX4_began_11 : List UInt8 := [164, 0, 6, 167, 0, 26, 42, 21, 10, 181, 0, 99, 42, 21, 10, 21, 11, 160, 0, 7, 2, 167, 0, 5]
abbrev dktX4_began_11 : List UInt8 := dkwX4_began_11 ++ dktX4_began_12
def dkwX4_began_10 : List UInt8 := [21, 10, 121, 10, 21, 11, 121, 129, 27, 182, 1, 197, 154, 0, 6, 167, 0, 38, 132, 9, 1, 21, 9, 4]
abbrev dktX4_began_10 : List UInt8 := dkwX4_began_10 ++ dktX4_began_11
def dkwX4_began_9 : List UInt8 := [162, 0, 82, 42, 21, 10, 182, 1, 58, 153, 0, 67, 42, 21, 11, 182, 1, 58, 153, 0, 58, 42, 10]
abbrev dktX4_began_9 : List UInt8 := dkwX4_began_9 ++ dktX4_began_10
def dkwX4_began_8 : List UInt8 := [181, 0, 102, 3, 54, 9, 3, 54, 10, 21, 10, 28, 162, 0, 98, 21, 10, 54, 11, 21, 11, 28]
abbrev dktX4_began_8 : List UInt8 := dkwX4_began_8 ++ dktX4_began_9
def dkwX4_began_7 : List UInt8 := [33, 181, 1, 191, 42, 22, 5, 181, 1, 194, 42, 22, 7, 181, 1, 188, 42, 2, 181, 0, 99, 42, 2]
abbrev dktX4_began_7 : List UInt8 := dkwX4_began_7 ++ dktX4_began_8
def dkwX4_began_6 : List UInt8 := [21, 10, 4, 164, 0, 10, 10, 21, 9, 121, 167, 0, 4, 9, 129, 55, 5, 132, 9, 1, 167, 255, 162, 42]
abbrev dktX4_began_6 : List UInt8 := dkwX4_began_6 ++ dktX4_began_7
def dkwX4_began_5 : List UInt8 := [21, 9, 121, 129, 55, 7, 33, 21, 10, 158, 0, 10, 10, 21, 9, 121, 167, 0, 4, 9, 129, 66, 22, 5]
abbrev dktX4_began_5 : List UInt8 := dkwX4_began_5 ++ dktX4_began_6
def dkwX4_began_4 : List UInt8 := [6, 159, 0, 63, 42, 180, 0, 41, 16, 6, 21, 9, 96, 46, 154, 0, 6, 167, 0, 47, 22, 7, 10]
abbrev dktX4_began_4 : List UInt8 := dkwX4_began_4 ++ dktX4_began_5
def dkwX4_began_3 : List UInt8 := [180, 0, 18, 162, 0, 91, 42, 21, 9, 182, 0, 225, 54, 10, 21, 10, 6, 164, 0, 5, 2, 172, 21, 10]
abbrev dktX4_began_3 : List UInt8 := dkwX4_began_3 ++ dktX4_began_4
def dkwX4_began_2 : List UInt8 := [5, 46, 16, 24, 164, 0, 5, 2, 172, 9, 66, 9, 55, 5, 9, 55, 7, 3, 54, 9, 21, 9, 42]
abbrev dktX4_began_2 : List UInt8 := dkwX4_began_2 ++ dktX4_began_3
def dkwX4_began_1 : List UInt8 := [104, 61, 42, 180, 0, 18, 28, 160, 0, 24, 27, 3, 16, 60, 184, 0, 168, 153, 0, 14, 42, 180, 0, 41]
abbrev dktX4_began_1 : List UInt8 := dkwX4_began_1 ++ dktX4_began_2
def dkwX4_began_0 : List UInt8 := [42, 3, 181, 0, 1, 42, 17, 3, 172, 182, 1, 31, 42, 180, 0, 41, 3, 46, 42, 180, 0, 41, 4, 46]
abbrev dktX4_began_0 : List UInt8 := dkwX4_began_0 ++ dktX4_began_1
theorem dksX4_began_0 : cX4_began.data.toList.drop 0 = dktX4_began_0 := by decide +kernel
theorem dksX4_began_1 : cX4_began.data.toList.drop 24 = dktX4_began_1 := dk_seg dksX4_began_0 24 rfl rfl
theorem dksX4_began_2 : cX4_began.data.toList.drop 48 = dktX4_began_2 := dk_seg dksX4_began_1 24 rfl rfl
theorem dksX4_began_3 : cX4_began.data.toList.drop 71 = dktX4_began_3 := dk_seg dksX4_began_2 23 rfl rfl
theorem dksX4_began_4 : cX4_began.data.toList.drop 95 = dktX4_began_4 := dk_seg dksX4_began_3 24 rfl rfl
theorem dksX4_began_5 : cX4_began.data.toList.drop 118 = dktX4_began_5 := dk_seg dksX4_began_4 23 rfl rfl
theorem dksX4_began_6 : cX4_began.data.toList.drop 142 = dktX4_began_6 := dk_seg dksX4_began_5 24 rfl rfl
theorem dksX4_began_7 : cX4_began.data.toList.drop 166 = dktX4_began_7 := dk_seg dksX4_began_6 24 rfl rfl
theorem dksX4_began_8 : cX4_began.data.toList.drop 189 = dktX4_began_8 := dk_seg dksX4_began_7 23 rfl rfl
theorem dksX4_began_9 : cX4_began.data.toList.drop 211 = dktX4_began_9 := dk_seg dksX4_began_8 22 rfl rfl
theorem dksX4_began_10 : cX4_began.data.toList.drop 234 = dktX4_began_10 := dk_seg dksX4_began_9 23 rfl rfl
theorem dksX4_began_11 : cX4_began.data.toList.drop 258 = dktX4_began_11 := dk_seg dksX4_began_10 24 rfl rfl
theorem dksX4_began_12 : cX4_began.data.toList.drop 282 = dktX4_began_12 := dk_seg dksX4_began_11 24 rfl rfl
theorem dX4_began_0 : decode cX4_began 0 = .ok (.aload_n 0, 1) := dk_42 (dk_at dksX4_began_0 0 rfl rfl)
theorem dX4_began_1 : decode cX4_began 1 = .ok (.iconst 0, 1) := dk_3 (dk_at dksX4_began_0 1 rfl rfl)
theorem dX4_began_2 : decode cX4_began 2 = .ok (.putfield 1, 3) := dk_181 0 1 (dk_at dksX4_began_0 2 rfl rfl)
theorem dX4_began_5 : decode cX4_began 5 = .ok (.aload_n 0, 1) := dk_42 (dk_at dksX4_began_0 5 rfl rfl)
theorem dX4_began_6 : decode cX4_began 6 = .ok (.sipush 940, 3) := dk_17 3 172 (dk_at dksX4_began_0 6 rfl rfl)
theorem dX4_began_9 : decode cX4_began 9 = .ok (.invokevirtual 287, 3) := dk_182 1 31 (dk_at dksX4_began_0 9 rfl rfl)
theorem dX4_began_12 : decode cX4_began 12 = .ok (.aload_n 0, 1) := dk_42 (dk_at dksX4_began_0 12 rfl rfl)
theorem dX4_began_13 : decode cX4_began 13 = .ok (.getfield 41, 3) := dk_180 0 41 (dk_at dksX4_began_0 13 rfl rfl)
theorem dX4_began_16 : decode cX4_began 16 = .ok (.iconst 0, 1) := dk_3 (dk_at dksX4_began_0 16 rfl rfl)
theorem dX4_began_17 : decode cX4_began 17 = .ok (.iaload, 1) := dk_46 (dk_at dksX4_began_0 17 rfl rfl)
theorem dX4_began_18 : decode cX4_began 18 = .ok (.aload_n 0, 1) := dk_42 (dk_at dksX4_began_0 18 rfl rfl)
theorem dX4_began_19 : decode cX4_began 19 = .ok (.getfield 41, 3) := dk_180 0 41 (dk_at dksX4_began_0 19 rfl rfl)
theorem dX4_began_22 : decode cX4_began 22 = .ok (.iconst 1, 1) := dk_4 (dk_at dksX4_began_0 22 rfl rfl)
theorem dX4_began_23 : decode cX4_began 23 = .ok (.iaload, 1) := dk_46 (dk_at dksX4_began_0 23 rfl rfl)
theorem dX4_began_24 : decode cX4_began 24 = .ok (.imul, 1) := dk_104 (dk_at dksX4_began_1 0 rfl rfl)
theorem dX4_began_25 : decode cX4_began 25 = .ok (.istore_n 2, 1) := dk_61 (dk_at dksX4_began_1 1 rfl rfl)
theorem dX4_began_26 : decode cX4_began 26 = .ok (.aload_n 0, 1) := dk_42 (dk_at dksX4_began_1 2 rfl rfl)
theorem dX4_began_27 : decode cX4_began 27 = .ok (.getfield 18, 3) := dk_180 0 18 (dk_at dksX4_began_1 3 rfl rfl)
theorem dX4_began_30 : decode cX4_began 30 = .ok (.iload_n 2, 1) := dk_28 (dk_at dksX4_began_1 6 rfl rfl)
theorem dX4_began_31 : decode cX4_began 31 = .ok (.if_icmp .ne 24, 3) := dk_160 0 24 (dk_at dksX4_began_1 7 rfl rfl)
theorem dX4_began_34 : decode cX4_began 34 = .ok (.iload_n 1, 1) := dk_27 (dk_at dksX4_began_1 10 rfl rfl)
theorem dX4_began_35 : decode cX4_began 35 = .ok (.iconst 0, 1) := dk_3 (dk_at dksX4_began_1 11 rfl rfl)
theorem dX4_began_36 : decode cX4_began 36 = .ok (.bipush 60, 2) := dk_16 60 (dk_at dksX4_began_1 12 rfl rfl)
theorem dX4_began_38 : decode cX4_began 38 = .ok (.invokestatic 168, 3) := dk_184 0 168 (dk_at dksX4_began_1 14 rfl rfl)
theorem dX4_began_41 : decode cX4_began 41 = .ok (.ifCond .eq 14, 3) := dk_153 0 14 (dk_at dksX4_began_1 17 rfl rfl)
theorem dX4_began_44 : decode cX4_began 44 = .ok (.aload_n 0, 1) := dk_42 (dk_at dksX4_began_1 20 rfl rfl)
theorem dX4_began_45 : decode cX4_began 45 = .ok (.getfield 41, 3) := dk_180 0 41 (dk_at dksX4_began_1 21 rfl rfl)
theorem dX4_began_48 : decode cX4_began 48 = .ok (.iconst 2, 1) := dk_5 (dk_at dksX4_began_2 0 rfl rfl)
theorem dX4_began_49 : decode cX4_began 49 = .ok (.iaload, 1) := dk_46 (dk_at dksX4_began_2 1 rfl rfl)
theorem dX4_began_50 : decode cX4_began 50 = .ok (.bipush 24, 2) := dk_16 24 (dk_at dksX4_began_2 2 rfl rfl)
theorem dX4_began_52 : decode cX4_began 52 = .ok (.if_icmp .le 5, 3) := dk_164 0 5 (dk_at dksX4_began_2 4 rfl rfl)
theorem dX4_began_55 : decode cX4_began 55 = .ok (.iconst (-1), 1) := dk_2 (dk_at dksX4_began_2 7 rfl rfl)
theorem dX4_began_56 : decode cX4_began 56 = .ok (.ireturn, 1) := dk_172 (dk_at dksX4_began_2 8 rfl rfl)
theorem dX4_began_57 : decode cX4_began 57 = .ok (.lconst 0, 1) := dk_9 (dk_at dksX4_began_2 9 rfl rfl)
theorem dX4_began_58 : decode cX4_began 58 = .ok (.lstore_n 3, 1) := dk_66 (dk_at dksX4_began_2 10 rfl rfl)
theorem dX4_began_59 : decode cX4_began 59 = .ok (.lconst 0, 1) := dk_9 (dk_at dksX4_began_2 11 rfl rfl)
theorem dX4_began_60 : decode cX4_began 60 = .ok (.lstore 5, 2) := dk_55 5 (dk_at dksX4_began_2 12 rfl rfl)
theorem dX4_began_62 : decode cX4_began 62 = .ok (.lconst 0, 1) := dk_9 (dk_at dksX4_began_2 14 rfl rfl)
theorem dX4_began_63 : decode cX4_began 63 = .ok (.lstore 7, 2) := dk_55 7 (dk_at dksX4_began_2 15 rfl rfl)
theorem dX4_began_65 : decode cX4_began 65 = .ok (.iconst 0, 1) := dk_3 (dk_at dksX4_began_2 17 rfl rfl)
theorem dX4_began_66 : decode cX4_began 66 = .ok (.istore 9, 2) := dk_54 9 (dk_at dksX4_began_2 18 rfl rfl)
theorem dX4_began_68 : decode cX4_began 68 = .ok (.iload 9, 2) := dk_21 9 (dk_at dksX4_began_2 20 rfl rfl)
theorem dX4_began_70 : decode cX4_began 70 = .ok (.aload_n 0, 1) := dk_42 (dk_at dksX4_began_2 22 rfl rfl)
theorem dX4_began_71 : decode cX4_began 71 = .ok (.getfield 18, 3) := dk_180 0 18 (dk_at dksX4_began_3 0 rfl rfl)
theorem dX4_began_74 : decode cX4_began 74 = .ok (.if_icmp .ge 91, 3) := dk_162 0 91 (dk_at dksX4_began_3 3 rfl rfl)
theorem dX4_began_77 : decode cX4_began 77 = .ok (.aload_n 0, 1) := dk_42 (dk_at dksX4_began_3 6 rfl rfl)
theorem dX4_began_78 : decode cX4_began 78 = .ok (.iload 9, 2) := dk_21 9 (dk_at dksX4_began_3 7 rfl rfl)
theorem dX4_began_80 : decode cX4_began 80 = .ok (.invokevirtual 225, 3) := dk_182 0 225 (dk_at dksX4_began_3 9 rfl rfl)
theorem dX4_began_83 : decode cX4_began 83 = .ok (.istore 10, 2) := dk_54 10 (dk_at dksX4_began_3 12 rfl rfl)
theorem dX4_began_85 : decode cX4_began 85 = .ok (.iload 10, 2) := dk_21 10 (dk_at dksX4_began_3 14 rfl rfl)
theorem dX4_began_87 : decode cX4_began 87 = .ok (.iconst 3, 1) := dk_6 (dk_at dksX4_began_3 16 rfl rfl)
theorem dX4_began_88 : decode cX4_began 88 = .ok (.if_icmp .le 5, 3) := dk_164 0 5 (dk_at dksX4_began_3 17 rfl rfl)
theorem dX4_began_91 : decode cX4_began 91 = .ok (.iconst (-1), 1) := dk_2 (dk_at dksX4_began_3 20 rfl rfl)
theorem dX4_began_92 : decode cX4_began 92 = .ok (.ireturn, 1) := dk_172 (dk_at dksX4_began_3 21 rfl rfl)
theorem dX4_began_93 : decode cX4_began 93 = .ok (.iload 10, 2) := dk_21 10 (dk_at dksX4_began_3 22 rfl rfl)
theorem dX4_began_95 : decode cX4_began 95 = .ok (.iconst 3, 1) := dk_6 (dk_at dksX4_began_4 0 rfl rfl)
theorem dX4_began_96 : decode cX4_began 96 = .ok (.if_icmp .eq 63, 3) := dk_159 0 63 (dk_at dksX4_began_4 1 rfl rfl)
theorem dX4_began_99 : decode cX4_began 99 = .ok (.aload_n 0, 1) := dk_42 (dk_at dksX4_began_4 4 rfl rfl)
theorem dX4_began_100 : decode cX4_began 100 = .ok (.getfield 41, 3) := dk_180 0 41 (dk_at dksX4_began_4 5 rfl rfl)
theorem dX4_began_103 : decode cX4_began 103 = .ok (.bipush 6, 2) := dk_16 6 (dk_at dksX4_began_4 8 rfl rfl)
theorem dX4_began_105 : decode cX4_began 105 = .ok (.iload 9, 2) := dk_21 9 (dk_at dksX4_began_4 10 rfl rfl)
theorem dX4_began_107 : decode cX4_began 107 = .ok (.iadd, 1) := dk_96 (dk_at dksX4_began_4 12 rfl rfl)
theorem dX4_began_108 : decode cX4_began 108 = .ok (.iaload, 1) := dk_46 (dk_at dksX4_began_4 13 rfl rfl)
theorem dX4_began_109 : decode cX4_began 109 = .ok (.ifCond .ne 6, 3) := dk_154 0 6 (dk_at dksX4_began_4 14 rfl rfl)
theorem dX4_began_112 : decode cX4_began 112 = .ok (.goto 47, 3) := dk_167 0 47 (dk_at dksX4_began_4 17 rfl rfl)
theorem dX4_began_115 : decode cX4_began 115 = .ok (.lload 7, 2) := dk_22 7 (dk_at dksX4_began_4 20 rfl rfl)
theorem dX4_began_117 : decode cX4_began 117 = .ok (.lconst 1, 1) := dk_10 (dk_at dksX4_began_4 22 rfl rfl)
theorem dX4_began_118 : decode cX4_began 118 = .ok (.iload 9, 2) := dk_21 9 (dk_at dksX4_began_5 0 rfl rfl)
theorem dX4_began_120 : decode cX4_began 120 = .ok (.lshl, 1) := dk_121 (dk_at dksX4_began_5 2 rfl rfl)
theorem dX4_began_121 : decode cX4_began 121 = .ok (.lor, 1) := dk_129 (dk_at dksX4_began_5 3 rfl rfl)
theorem dX4_began_122 : decode cX4_began 122 = .ok (.lstore 7, 2) := dk_55 7 (dk_at dksX4_began_5 4 rfl rfl)
theorem dX4_began_124 : decode cX4_began 124 = .ok (.lload_n 3, 1) := dk_33 (dk_at dksX4_began_5 6 rfl rfl)
theorem dX4_began_125 : decode cX4_began 125 = .ok (.iload 10, 2) := dk_21 10 (dk_at dksX4_began_5 7 rfl rfl)
theorem dX4_began_127 : decode cX4_began 127 = .ok (.ifCond .le 10, 3) := dk_158 0 10 (dk_at dksX4_began_5 9 rfl rfl)
theorem dX4_began_130 : decode cX4_began 130 = .ok (.lconst 1, 1) := dk_10 (dk_at dksX4_began_5 12 rfl rfl)
theorem dX4_began_131 : decode cX4_began 131 = .ok (.iload 9, 2) := dk_21 9 (dk_at dksX4_began_5 13 rfl rfl)
theorem dX4_began_133 : decode cX4_began 133 = .ok (.lshl, 1) := dk_121 (dk_at dksX4_began_5 15 rfl rfl)
theorem dX4_began_134 : decode cX4_began 134 = .ok (.goto 4, 3) := dk_167 0 4 (dk_at dksX4_began_5 16 rfl rfl)
theorem dX4_began_137 : decode cX4_began 137 = .ok (.lconst 0, 1) := dk_9 (dk_at dksX4_began_5 19 rfl rfl)
theorem dX4_began_138 : decode cX4_began 138 = .ok (.lor, 1) := dk_129 (dk_at dksX4_began_5 20 rfl rfl)
theorem dX4_began_139 : decode cX4_began 139 = .ok (.lstore_n 3, 1) := dk_66 (dk_at dksX4_began_5 21 rfl rfl)
theorem dX4_began_140 : decode cX4_began 140 = .ok (.lload 5, 2) := dk_22 5 (dk_at dksX4_began_5 22 rfl rfl)
theorem dX4_began_142 : decode cX4_began 142 = .ok (.iload 10, 2) := dk_21 10 (dk_at dksX4_began_6 0 rfl rfl)
theorem dX4_began_144 : decode cX4_began 144 = .ok (.iconst 1, 1) := dk_4 (dk_at dksX4_began_6 2 rfl rfl)
theorem dX4_began_145 : decode cX4_began 145 = .ok (.if_icmp .le 10, 3) := dk_164 0 10 (dk_at dksX4_began_6 3 rfl rfl)
theorem dX4_began_148 : decode cX4_began 148 = .ok (.lconst 1, 1) := dk_10 (dk_at dksX4_began_6 6 rfl rfl)
theorem dX4_began_149 : decode cX4_began 149 = .ok (.iload 9, 2) := dk_21 9 (dk_at dksX4_began_6 7 rfl rfl)
theorem dX4_began_151 : decode cX4_began 151 = .ok (.lshl, 1) := dk_121 (dk_at dksX4_began_6 9 rfl rfl)
theorem dX4_began_152 : decode cX4_began 152 = .ok (.goto 4, 3) := dk_167 0 4 (dk_at dksX4_began_6 10 rfl rfl)
theorem dX4_began_155 : decode cX4_began 155 = .ok (.lconst 0, 1) := dk_9 (dk_at dksX4_began_6 13 rfl rfl)
theorem dX4_began_156 : decode cX4_began 156 = .ok (.lor, 1) := dk_129 (dk_at dksX4_began_6 14 rfl rfl)
theorem dX4_began_157 : decode cX4_began 157 = .ok (.lstore 5, 2) := dk_55 5 (dk_at dksX4_began_6 15 rfl rfl)
theorem dX4_began_159 : decode cX4_began 159 = .ok (.iinc 9 1, 3) := dk_132 9 1 (dk_at dksX4_began_6 17 rfl rfl)
theorem dX4_began_162 : decode cX4_began 162 = .ok (.goto (-94), 3) := dk_167 255 162 (dk_at dksX4_began_6 20 rfl rfl)
theorem dX4_began_165 : decode cX4_began 165 = .ok (.aload_n 0, 1) := dk_42 (dk_at dksX4_began_6 23 rfl rfl)
theorem dX4_began_166 : decode cX4_began 166 = .ok (.lload_n 3, 1) := dk_33 (dk_at dksX4_began_7 0 rfl rfl)
theorem dX4_began_167 : decode cX4_began 167 = .ok (.putfield 447, 3) := dk_181 1 191 (dk_at dksX4_began_7 1 rfl rfl)
theorem dX4_began_170 : decode cX4_began 170 = .ok (.aload_n 0, 1) := dk_42 (dk_at dksX4_began_7 4 rfl rfl)
theorem dX4_began_171 : decode cX4_began 171 = .ok (.lload 5, 2) := dk_22 5 (dk_at dksX4_began_7 5 rfl rfl)
theorem dX4_began_173 : decode cX4_began 173 = .ok (.putfield 450, 3) := dk_181 1 194 (dk_at dksX4_began_7 7 rfl rfl)
theorem dX4_began_176 : decode cX4_began 176 = .ok (.aload_n 0, 1) := dk_42 (dk_at dksX4_began_7 10 rfl rfl)
theorem dX4_began_177 : decode cX4_began 177 = .ok (.lload 7, 2) := dk_22 7 (dk_at dksX4_began_7 11 rfl rfl)
theorem dX4_began_179 : decode cX4_began 179 = .ok (.putfield 444, 3) := dk_181 1 188 (dk_at dksX4_began_7 13 rfl rfl)
theorem dX4_began_182 : decode cX4_began 182 = .ok (.aload_n 0, 1) := dk_42 (dk_at dksX4_began_7 16 rfl rfl)
theorem dX4_began_183 : decode cX4_began 183 = .ok (.iconst (-1), 1) := dk_2 (dk_at dksX4_began_7 17 rfl rfl)
theorem dX4_began_184 : decode cX4_began 184 = .ok (.putfield 99, 3) := dk_181 0 99 (dk_at dksX4_began_7 18 rfl rfl)
theorem dX4_began_187 : decode cX4_began 187 = .ok (.aload_n 0, 1) := dk_42 (dk_at dksX4_began_7 21 rfl rfl)
theorem dX4_began_188 : decode cX4_began 188 = .ok (.iconst (-1), 1) := dk_2 (dk_at dksX4_began_7 22 rfl rfl)
theorem dX4_began_189 : decode cX4_began 189 = .ok (.putfield 102, 3) := dk_181 0 102 (dk_at dksX4_began_8 0 rfl rfl)
theorem dX4_began_192 : decode cX4_began 192 = .ok (.iconst 0, 1) := dk_3 (dk_at dksX4_began_8 3 rfl rfl)
theorem dX4_began_193 : decode cX4_began 193 = .ok (.istore 9, 2) := dk_54 9 (dk_at dksX4_began_8 4 rfl rfl)
theorem dX4_began_195 : decode cX4_began 195 = .ok (.iconst 0, 1) := dk_3 (dk_at dksX4_began_8 6 rfl rfl)
theorem dX4_began_196 : decode cX4_began 196 = .ok (.istore 10, 2) := dk_54 10 (dk_at dksX4_began_8 7 rfl rfl)
theorem dX4_began_198 : decode cX4_began 198 = .ok (.iload 10, 2) := dk_21 10 (dk_at dksX4_began_8 9 rfl rfl)
theorem dX4_began_200 : decode cX4_began 200 = .ok (.iload_n 2, 1) := dk_28 (dk_at dksX4_began_8 11 rfl rfl)
theorem dX4_began_201 : decode cX4_began 201 = .ok (.if_icmp .ge 98, 3) := dk_162 0 98 (dk_at dksX4_began_8 12 rfl rfl)
theorem dX4_began_204 : decode cX4_began 204 = .ok (.iload 10, 2) := dk_21 10 (dk_at dksX4_began_8 15 rfl rfl)
theorem dX4_began_206 : decode cX4_began 206 = .ok (.istore 11, 2) := dk_54 11 (dk_at dksX4_began_8 17 rfl rfl)
theorem dX4_began_208 : decode cX4_began 208 = .ok (.iload 11, 2) := dk_21 11 (dk_at dksX4_began_8 19 rfl rfl)
theorem dX4_began_210 : decode cX4_began 210 = .ok (.iload_n 2, 1) := dk_28 (dk_at dksX4_began_8 21 rfl rfl)
theorem dX4_began_211 : decode cX4_began 211 = .ok (.if_icmp .ge 82, 3) := dk_162 0 82 (dk_at dksX4_began_9 0 rfl rfl)
theorem dX4_began_214 : decode cX4_began 214 = .ok (.aload_n 0, 1) := dk_42 (dk_at dksX4_began_9 3 rfl rfl)
theorem dX4_began_215 : decode cX4_began 215 = .ok (.iload 10, 2) := dk_21 10 (dk_at dksX4_began_9 4 rfl rfl)
theorem dX4_began_217 : decode cX4_began 217 = .ok (.invokevirtual 314, 3) := dk_182 1 58 (dk_at dksX4_began_9 6 rfl rfl)
theorem dX4_began_220 : decode cX4_began 220 = .ok (.ifCond .eq 67, 3) := dk_153 0 67 (dk_at dksX4_began_9 9 rfl rfl)
theorem dX4_began_223 : decode cX4_began 223 = .ok (.aload_n 0, 1) := dk_42 (dk_at dksX4_began_9 12 rfl rfl)
theorem dX4_began_224 : decode cX4_began 224 = .ok (.iload 11, 2) := dk_21 11 (dk_at dksX4_began_9 13 rfl rfl)
theorem dX4_began_226 : decode cX4_began 226 = .ok (.invokevirtual 314, 3) := dk_182 1 58 (dk_at dksX4_began_9 15 rfl rfl)
theorem dX4_began_229 : decode cX4_began 229 = .ok (.ifCond .eq 58, 3) := dk_153 0 58 (dk_at dksX4_began_9 18 rfl rfl)
theorem dX4_began_232 : decode cX4_began 232 = .ok (.aload_n 0, 1) := dk_42 (dk_at dksX4_began_9 21 rfl rfl)
theorem dX4_began_233 : decode cX4_began 233 = .ok (.lconst 1, 1) := dk_10 (dk_at dksX4_began_9 22 rfl rfl)
theorem dX4_began_234 : decode cX4_began 234 = .ok (.iload 10, 2) := dk_21 10 (dk_at dksX4_began_10 0 rfl rfl)
theorem dX4_began_236 : decode cX4_began 236 = .ok (.lshl, 1) := dk_121 (dk_at dksX4_began_10 2 rfl rfl)
theorem dX4_began_237 : decode cX4_began 237 = .ok (.lconst 1, 1) := dk_10 (dk_at dksX4_began_10 3 rfl rfl)
theorem dX4_began_238 : decode cX4_began 238 = .ok (.iload 11, 2) := dk_21 11 (dk_at dksX4_began_10 4 rfl rfl)
theorem dX4_began_240 : decode cX4_began 240 = .ok (.lshl, 1) := dk_121 (dk_at dksX4_began_10 6 rfl rfl)
theorem dX4_began_241 : decode cX4_began 241 = .ok (.lor, 1) := dk_129 (dk_at dksX4_began_10 7 rfl rfl)
theorem dX4_began_242 : decode cX4_began 242 = .ok (.iload_n 1, 1) := dk_27 (dk_at dksX4_began_10 8 rfl rfl)
theorem dX4_began_243 : decode cX4_began 243 = .ok (.invokevirtual 453, 3) := dk_182 1 197 (dk_at dksX4_began_10 9 rfl rfl)
theorem dX4_began_246 : decode cX4_began 246 = .ok (.ifCond .ne 6, 3) := dk_154 0 6 (dk_at dksX4_began_10 12 rfl rfl)
theorem dX4_began_249 : decode cX4_began 249 = .ok (.goto 38, 3) := dk_167 0 38 (dk_at dksX4_began_10 15 rfl rfl)
theorem dX4_began_252 : decode cX4_began 252 = .ok (.iinc 9 1, 3) := dk_132 9 1 (dk_at dksX4_began_10 18 rfl rfl)
theorem dX4_began_255 : decode cX4_began 255 = .ok (.iload 9, 2) := dk_21 9 (dk_at dksX4_began_10 21 rfl rfl)
theorem dX4_began_257 : decode cX4_began 257 = .ok (.iconst 1, 1) := dk_4 (dk_at dksX4_began_10 23 rfl rfl)
theorem dX4_began_258 : decode cX4_began 258 = .ok (.if_icmp .le 6, 3) := dk_164 0 6 (dk_at dksX4_began_11 0 rfl rfl)
theorem dX4_began_261 : decode cX4_began 261 = .ok (.goto 26, 3) := dk_167 0 26 (dk_at dksX4_began_11 3 rfl rfl)
theorem dX4_began_264 : decode cX4_began 264 = .ok (.aload_n 0, 1) := dk_42 (dk_at dksX4_began_11 6 rfl rfl)
theorem dX4_began_265 : decode cX4_began 265 = .ok (.iload 10, 2) := dk_21 10 (dk_at dksX4_began_11 7 rfl rfl)
theorem dX4_began_267 : decode cX4_began 267 = .ok (.putfield 99, 3) := dk_181 0 99 (dk_at dksX4_began_11 9 rfl rfl)
theorem dX4_began_270 : decode cX4_began 270 = .ok (.aload_n 0, 1) := dk_42 (dk_at dksX4_began_11 12 rfl rfl)
theorem dX4_began_271 : decode cX4_began 271 = .ok (.iload 10, 2) := dk_21 10 (dk_at dksX4_began_11 13 rfl rfl)
theorem dX4_began_273 : decode cX4_began 273 = .ok (.iload 11, 2) := dk_21 11 (dk_at dksX4_began_11 15 rfl rfl)
theorem dX4_began_275 : decode cX4_began 275 = .ok (.if_icmp .ne 7, 3) := dk_160 0 7 (dk_at dksX4_began_11 17 rfl rfl)
theorem dX4_began_278 : decode cX4_began 278 = .ok (.iconst (-1), 1) := dk_2 (dk_at dksX4_began_11 20 rfl rfl)
theorem dX4_began_279 : decode cX4_began 279 = .ok (.goto 5, 3) := dk_167 0 5 (dk_at dksX4_began_11 21 rfl rfl)
theorem dX4_began_282 : decode cX4_began 282 = .ok (.iload 11, 2) := dk_21 11 (dk_at dksX4_began_12 0 rfl rfl)
theorem dX4_began_284 : decode cX4_began 284 = .ok (.putfield 102, 3) := dk_181 0 102 (dk_at dksX4_began_12 2 rfl rfl)
theorem dX4_began_287 : decode cX4_began 287 = .ok (.iinc 11 1, 3) := dk_132 11 1 (dk_at dksX4_began_12 5 rfl rfl)
theorem dX4_began_290 : decode cX4_began 290 = .ok (.goto (-82), 3) := dk_167 255 174 (dk_at dksX4_began_12 8 rfl rfl)
theorem dX4_began_293 : decode cX4_began 293 = .ok (.iinc 10 1, 3) := dk_132 10 1 (dk_at dksX4_began_12 11 rfl rfl)
theorem dX4_began_296 : decode cX4_began 296 = .ok (.goto (-98), 3) := dk_167 255 158 (dk_at dksX4_began_12 14 rfl rfl)
theorem dX4_began_299 : decode cX4_began 299 = .ok (.iload 9, 2) := dk_21 9 (dk_at dksX4_began_12 17 rfl rfl)
theorem dX4_began_301 : decode cX4_began 301 = .ok (.ireturn, 1) := dk_172 (dk_at dksX4_began_12 19 rfl rfl)
def dkwX4_isSketch_2 : List UInt8 := [180, 1, 188, 127, 42, 180, 1, 194, 148, 154, 0, 7, 4, 167, 0, 4, 3, 172]
abbrev dktX4_isSketch_2 : List UInt8 := dkwX4_isSketch_2 ++ []
def dkwX4_isSketch_1 : List UInt8 := [42, 180, 1, 95, 42, 180, 1, 188, 127, 42, 180, 1, 191, 148, 154, 0, 24, 42, 180, 1, 92, 42]
abbrev dktX4_isSketch_1 : List UInt8 := dkwX4_isSketch_1 ++ dktX4_isSketch_2
def dkwX4_isSketch_0 : List UInt8 := [42, 31, 42, 180, 1, 46, 182, 1, 133, 42, 180, 1, 117, 29, 163, 0, 10, 42, 182, 1, 137, 167, 255, 244]
abbrev dktX4_isSketch_0 : List UInt8 := dkwX4_isSketch_0 ++ dktX4_isSketch_1
theorem dksX4_isSketch_0 : cX4_isSketch.data.toList.drop 0 = dktX4_isSketch_0 := by decide +kernel
theorem dksX4_isSketch_1 : cX4_isSketch.data.toList.drop 24 = dktX4_isSketch_1 := dk_seg dksX4_isSketch_0 24 rfl rfl
theorem dksX4_isSketch_2 : cX4_isSketch.data.toList.drop 46 = dktX4_isSketch_2 := dk_seg dksX4_isSketch_1 22 rfl rfl
theorem dX4_isSketch_0 : decode cX4_isSketch 0 = .ok (.aload_n 0, 1) := dk_42 (dk_at dksX4_isSketch_0 0 rfl rfl)
theorem dX4_isSketch_1 : decode cX4_isSketch 1 = .ok (.lload_n 1, 1) := dk_31 (dk_at dksX4_isSketch_0 1 rfl rfl)
theorem dX4_isSketch_2 : decode cX4_isSketch 2 = .ok (.aload_n 0, 1) := dk_42 (dk_at dksX4_isSketch_0 2 rfl rfl)
theorem dX4_isSketch_3 : decode cX4_isSketch 3 = .ok (.getfield 302, 3) := dk_180 1 46 (dk_at dksX4_isSketch_0 3 rfl rfl)
theorem dX4_isSketch_6 : decode cX4_isSketch 6 = .ok (.invokevirtual 389, 3) := dk_182 1 133 (dk_at dksX4_isSketch_0 6 rfl rfl)
theorem dX4_isSketch_9 : decode cX4_isSketch 9 = .ok (.aload_n 0, 1) := dk_42 (dk_at dksX4_isSketch_0 9 rfl rfl)
theorem dX4_isSketch_10 : decode cX4_isSketch 10 = .ok (.getfield 373, 3) := dk_180 1 117 (dk_at dksX4_isSketch_0 10 rfl rfl)
theorem dX4_isSketch_13 : decode cX4_isSketch 13 = .ok (.iload_n 3, 1) := dk_29 (dk_at dksX4_isSketch_0 13 rfl rfl)
theorem dX4_isSketch_14 : decode cX4_isSketch 14 = .ok (.if_icmp .gt 10, 3) := dk_163 0 10 (dk_at dksX4_isSketch_0 14 rfl rfl)
theorem dX4_isSketch_17 : decode cX4_isSketch 17 = .ok (.aload_n 0, 1) := dk_42 (dk_at dksX4_isSketch_0 17 rfl rfl)
theorem dX4_isSketch_18 : decode cX4_isSketch 18 = .ok (.invokevirtual 393, 3) := dk_182 1 137 (dk_at dksX4_isSketch_0 18 rfl rfl)
theorem dX4_isSketch_21 : decode cX4_isSketch 21 = .ok (.goto (-12), 3) := dk_167 255 244 (dk_at dksX4_isSketch_0 21 rfl rfl)
theorem dX4_isSketch_24 : decode cX4_isSketch 24 = .ok (.aload_n 0, 1) := dk_42 (dk_at dksX4_isSketch_1 0 rfl rfl)
theorem dX4_isSketch_25 : decode cX4_isSketch 25 = .ok (.getfield 351, 3) := dk_180 1 95 (dk_at dksX4_isSketch_1 1 rfl rfl)
theorem dX4_isSketch_28 : decode cX4_isSketch 28 = .ok (.aload_n 0, 1) := dk_42 (dk_at dksX4_isSketch_1 4 rfl rfl)
theorem dX4_isSketch_29 : decode cX4_isSketch 29 = .ok (.getfield 444, 3) := dk_180 1 188 (dk_at dksX4_isSketch_1 5 rfl rfl)
theorem dX4_isSketch_32 : decode cX4_isSketch 32 = .ok (.land, 1) := dk_127 (dk_at dksX4_isSketch_1 8 rfl rfl)
theorem dX4_isSketch_33 : decode cX4_isSketch 33 = .ok (.aload_n 0, 1) := dk_42 (dk_at dksX4_isSketch_1 9 rfl rfl)
theorem dX4_isSketch_34 : decode cX4_isSketch 34 = .ok (.getfield 447, 3) := dk_180 1 191 (dk_at dksX4_isSketch_1 10 rfl rfl)
theorem dX4_isSketch_37 : decode cX4_isSketch 37 = .ok (.lcmp, 1) := dk_148 (dk_at dksX4_isSketch_1 13 rfl rfl)
theorem dX4_isSketch_38 : decode cX4_isSketch 38 = .ok (.ifCond .ne 24, 3) := dk_154 0 24 (dk_at dksX4_isSketch_1 14 rfl rfl)
theorem dX4_isSketch_41 : decode cX4_isSketch 41 = .ok (.aload_n 0, 1) := dk_42 (dk_at dksX4_isSketch_1 17 rfl rfl)
theorem dX4_isSketch_42 : decode cX4_isSketch 42 = .ok (.getfield 348, 3) := dk_180 1 92 (dk_at dksX4_isSketch_1 18 rfl rfl)
theorem dX4_isSketch_45 : decode cX4_isSketch 45 = .ok (.aload_n 0, 1) := dk_42 (dk_at dksX4_isSketch_1 21 rfl rfl)
theorem dX4_isSketch_46 : decode cX4_isSketch 46 = .ok (.getfield 444, 3) := dk_180 1 188 (dk_at dksX4_isSketch_2 0 rfl rfl)
theorem dX4_isSketch_49 : decode cX4_isSketch 49 = .ok (.land, 1) := dk_127 (dk_at dksX4_isSketch_2 3 rfl rfl)
theorem dX4_isSketch_50 : decode cX4_isSketch 50 = .ok (.aload_n 0, 1) := dk_42 (dk_at dksX4_isSketch_2 4 rfl rfl)
theorem dX4_isSketch_51 : decode cX4_isSketch 51 = .ok (.getfield 450, 3) := dk_180 1 194 (dk_at dksX4_isSketch_2 5 rfl rfl)
theorem dX4_isSketch_54 : decode cX4_isSketch 54 = .ok (.lcmp, 1) := dk_148 (dk_at dksX4_isSketch_2 8 rfl rfl)
theorem dX4_isSketch_55 : decode cX4_isSketch 55 = .ok (.ifCond .ne 7, 3) := dk_154 0 7 (dk_at dksX4_isSketch_2 9 rfl rfl)
theorem dX4_isSketch_58 : decode cX4_isSketch 58 = .ok (.iconst 1, 1) := dk_4 (dk_at dksX4_isSketch_2 12 rfl rfl)
theorem dX4_isSketch_59 : decode cX4_isSketch 59 = .ok (.goto 4, 3) := dk_167 0 4 (dk_at dksX4_isSketch_2 13 rfl rfl)
theorem dX4_isSketch_62 : decode cX4_isSketch 62 = .ok (.iconst 0, 1) := dk_3 (dk_at dksX4_isSketch_2 16 rfl rfl)
theorem dX4_isSketch_63 : decode cX4_isSketch 63 = .ok (.ireturn, 1) := dk_172 (dk_at dksX4_isSketch_2 17 rfl rfl)
def dkwX4_beganAt_1 : List UInt8 := [180, 0, 102, 167, 0, 4, 2, 172]
abbrev dktX4_beganAt_1 : List UInt8 := dkwX4_beganAt_1 ++ []
def dkwX4_beganAt_0 : List UInt8 := [42, 3, 181, 0, 1, 27, 154, 0, 10, 42, 180, 0, 99, 167, 0, 16, 27, 4, 160, 0, 10, 42]
abbrev dktX4_beganAt_0 : List UInt8 := dkwX4_beganAt_0 ++ dktX4_beganAt_1
theorem dksX4_beganAt_0 : cX4_beganAt.data.toList.drop 0 = dktX4_beganAt_0 := by decide +kernel
theorem dksX4_beganAt_1 : cX4_beganAt.data.toList.drop 22 = dktX4_beganAt_1 := dk_seg dksX4_beganAt_0 22 rfl rfl
theorem dX4_beganAt_0 : decode cX4_beganAt 0 = .ok (.aload_n 0, 1) := dk_42 (dk_at dksX4_beganAt_0 0 rfl rfl)
theorem dX4_beganAt_1 : decode cX4_beganAt 1 = .ok (.iconst 0, 1) := dk_3 (dk_at dksX4_beganAt_0 1 rfl rfl)
theorem dX4_beganAt_2 : decode cX4_beganAt 2 = .ok (.putfield 1, 3) := dk_181 0 1 (dk_at dksX4_beganAt_0 2 rfl rfl)
theorem dX4_beganAt_5 : decode cX4_beganAt 5 = .ok (.iload_n 1, 1) := dk_27 (dk_at dksX4_beganAt_0 5 rfl rfl)
theorem dX4_beganAt_6 : decode cX4_beganAt 6 = .ok (.ifCond .ne 10, 3) := dk_154 0 10 (dk_at dksX4_beganAt_0 6 rfl rfl)
theorem dX4_beganAt_9 : decode cX4_beganAt 9 = .ok (.aload_n 0, 1) := dk_42 (dk_at dksX4_beganAt_0 9 rfl rfl)
theorem dX4_beganAt_10 : decode cX4_beganAt 10 = .ok (.getfield 99, 3) := dk_180 0 99 (dk_at dksX4_beganAt_0 10 rfl rfl)
theorem dX4_beganAt_13 : decode cX4_beganAt 13 = .ok (.goto 16, 3) := dk_167 0 16 (dk_at dksX4_beganAt_0 13 rfl rfl)
theorem dX4_beganAt_16 : decode cX4_beganAt 16 = .ok (.iload_n 1, 1) := dk_27 (dk_at dksX4_beganAt_0 16 rfl rfl)
theorem dX4_beganAt_17 : decode cX4_beganAt 17 = .ok (.iconst 1, 1) := dk_4 (dk_at dksX4_beganAt_0 17 rfl rfl)
theorem dX4_beganAt_18 : decode cX4_beganAt 18 = .ok (.if_icmp .ne 10, 3) := dk_160 0 10 (dk_at dksX4_beganAt_0 18 rfl rfl)
theorem dX4_beganAt_21 : decode cX4_beganAt 21 = .ok (.aload_n 0, 1) := dk_42 (dk_at dksX4_beganAt_0 21 rfl rfl)
theorem dX4_beganAt_22 : decode cX4_beganAt 22 = .ok (.getfield 102, 3) := dk_180 0 102 (dk_at dksX4_beganAt_1 0 rfl rfl)
theorem dX4_beganAt_25 : decode cX4_beganAt 25 = .ok (.goto 4, 3) := dk_167 0 4 (dk_at dksX4_beganAt_1 3 rfl rfl)
theorem dX4_beganAt_28 : decode cX4_beganAt 28 = .ok (.iconst (-1), 1) := dk_2 (dk_at dksX4_beganAt_1 6 rfl rfl)
theorem dX4_beganAt_29 : decode cX4_beganAt 29 = .ok (.ireturn, 1) := dk_172 (dk_at dksX4_beganAt_1 7 rfl rfl)
def dkwX4_parts_5 : List UInt8 := [180, 0, 108, 29, 47, 148, 153, 0, 5, 29, 172, 132, 3, 1, 167, 255, 213, 2, 172]
abbrev dktX4_parts_5 : List UInt8 := dkwX4_parts_5 ++ []
def dkwX4_parts_4 : List UInt8 := [180, 0, 69, 29, 47, 42, 180, 0, 105, 29, 47, 148, 154, 0, 19, 42, 180, 0, 72, 29, 47, 42]
abbrev dktX4_parts_4 : List UInt8 := dkwX4_parts_4 ++ dktX4_parts_5
def dkwX4_parts_3 : List UInt8 := [167, 255, 223, 42, 10, 28, 121, 42, 180, 1, 46, 182, 1, 158, 87, 3, 62, 29, 16, 60, 163, 0, 43, 42]
abbrev dktX4_parts_3 : List UInt8 := dkwX4_parts_3 ++ dktX4_parts_4
def dkwX4_parts_2 : List UInt8 := [42, 180, 0, 69, 29, 47, 80, 42, 180, 0, 108, 29, 42, 180, 0, 72, 29, 47, 80, 132, 3, 1]
abbrev dktX4_parts_2 : List UInt8 := dkwX4_parts_2 ++ dktX4_parts_3
def dkwX4_parts_1 : List UInt8 := [10, 27, 121, 42, 180, 1, 46, 182, 1, 158, 87, 3, 62, 29, 16, 60, 163, 0, 33, 42, 180, 0, 105, 29]
abbrev dktX4_parts_1 : List UInt8 := dkwX4_parts_1 ++ dktX4_parts_2
def dkwX4_parts_0 : List UInt8 := [42, 3, 181, 0, 1, 42, 27, 182, 1, 58, 153, 0, 11, 42, 28, 182, 1, 58, 154, 0, 5, 2, 172, 42]
abbrev dktX4_parts_0 : List UInt8 := dkwX4_parts_0 ++ dktX4_parts_1
theorem dksX4_parts_0 : cX4_parts.data.toList.drop 0 = dktX4_parts_0 := by decide +kernel
theorem dksX4_parts_1 : cX4_parts.data.toList.drop 24 = dktX4_parts_1 := dk_seg dksX4_parts_0 24 rfl rfl
theorem dksX4_parts_2 : cX4_parts.data.toList.drop 48 = dktX4_parts_2 := dk_seg dksX4_parts_1 24 rfl rfl
theorem dksX4_parts_3 : cX4_parts.data.toList.drop 70 = dktX4_parts_3 := dk_seg dksX4_parts_2 22 rfl rfl
theorem dksX4_parts_4 : cX4_parts.data.toList.drop 94 = dktX4_parts_4 := dk_seg dksX4_parts_3 24 rfl rfl
theorem dksX4_parts_5 : cX4_parts.data.toList.drop 116 = dktX4_parts_5 := dk_seg dksX4_parts_4 22 rfl rfl
theorem dX4_parts_0 : decode cX4_parts 0 = .ok (.aload_n 0, 1) := dk_42 (dk_at dksX4_parts_0 0 rfl rfl)
theorem dX4_parts_1 : decode cX4_parts 1 = .ok (.iconst 0, 1) := dk_3 (dk_at dksX4_parts_0 1 rfl rfl)
theorem dX4_parts_2 : decode cX4_parts 2 = .ok (.putfield 1, 3) := dk_181 0 1 (dk_at dksX4_parts_0 2 rfl rfl)
theorem dX4_parts_5 : decode cX4_parts 5 = .ok (.aload_n 0, 1) := dk_42 (dk_at dksX4_parts_0 5 rfl rfl)
theorem dX4_parts_6 : decode cX4_parts 6 = .ok (.iload_n 1, 1) := dk_27 (dk_at dksX4_parts_0 6 rfl rfl)
theorem dX4_parts_7 : decode cX4_parts 7 = .ok (.invokevirtual 314, 3) := dk_182 1 58 (dk_at dksX4_parts_0 7 rfl rfl)
theorem dX4_parts_10 : decode cX4_parts 10 = .ok (.ifCond .eq 11, 3) := dk_153 0 11 (dk_at dksX4_parts_0 10 rfl rfl)
theorem dX4_parts_13 : decode cX4_parts 13 = .ok (.aload_n 0, 1) := dk_42 (dk_at dksX4_parts_0 13 rfl rfl)
theorem dX4_parts_14 : decode cX4_parts 14 = .ok (.iload_n 2, 1) := dk_28 (dk_at dksX4_parts_0 14 rfl rfl)
theorem dX4_parts_15 : decode cX4_parts 15 = .ok (.invokevirtual 314, 3) := dk_182 1 58 (dk_at dksX4_parts_0 15 rfl rfl)
theorem dX4_parts_18 : decode cX4_parts 18 = .ok (.ifCond .ne 5, 3) := dk_154 0 5 (dk_at dksX4_parts_0 18 rfl rfl)
theorem dX4_parts_21 : decode cX4_parts 21 = .ok (.iconst (-1), 1) := dk_2 (dk_at dksX4_parts_0 21 rfl rfl)
theorem dX4_parts_22 : decode cX4_parts 22 = .ok (.ireturn, 1) := dk_172 (dk_at dksX4_parts_0 22 rfl rfl)
theorem dX4_parts_23 : decode cX4_parts 23 = .ok (.aload_n 0, 1) := dk_42 (dk_at dksX4_parts_0 23 rfl rfl)
theorem dX4_parts_24 : decode cX4_parts 24 = .ok (.lconst 1, 1) := dk_10 (dk_at dksX4_parts_1 0 rfl rfl)
theorem dX4_parts_25 : decode cX4_parts 25 = .ok (.iload_n 1, 1) := dk_27 (dk_at dksX4_parts_1 1 rfl rfl)
theorem dX4_parts_26 : decode cX4_parts 26 = .ok (.lshl, 1) := dk_121 (dk_at dksX4_parts_1 2 rfl rfl)
theorem dX4_parts_27 : decode cX4_parts 27 = .ok (.aload_n 0, 1) := dk_42 (dk_at dksX4_parts_1 3 rfl rfl)
theorem dX4_parts_28 : decode cX4_parts 28 = .ok (.getfield 302, 3) := dk_180 1 46 (dk_at dksX4_parts_1 4 rfl rfl)
theorem dX4_parts_31 : decode cX4_parts 31 = .ok (.invokevirtual 414, 3) := dk_182 1 158 (dk_at dksX4_parts_1 7 rfl rfl)
theorem dX4_parts_34 : decode cX4_parts 34 = .ok (.pop, 1) := dk_87 (dk_at dksX4_parts_1 10 rfl rfl)
theorem dX4_parts_35 : decode cX4_parts 35 = .ok (.iconst 0, 1) := dk_3 (dk_at dksX4_parts_1 11 rfl rfl)
theorem dX4_parts_36 : decode cX4_parts 36 = .ok (.istore_n 3, 1) := dk_62 (dk_at dksX4_parts_1 12 rfl rfl)
theorem dX4_parts_37 : decode cX4_parts 37 = .ok (.iload_n 3, 1) := dk_29 (dk_at dksX4_parts_1 13 rfl rfl)
theorem dX4_parts_38 : decode cX4_parts 38 = .ok (.bipush 60, 2) := dk_16 60 (dk_at dksX4_parts_1 14 rfl rfl)
theorem dX4_parts_40 : decode cX4_parts 40 = .ok (.if_icmp .gt 33, 3) := dk_163 0 33 (dk_at dksX4_parts_1 16 rfl rfl)
theorem dX4_parts_43 : decode cX4_parts 43 = .ok (.aload_n 0, 1) := dk_42 (dk_at dksX4_parts_1 19 rfl rfl)
theorem dX4_parts_44 : decode cX4_parts 44 = .ok (.getfield 105, 3) := dk_180 0 105 (dk_at dksX4_parts_1 20 rfl rfl)
theorem dX4_parts_47 : decode cX4_parts 47 = .ok (.iload_n 3, 1) := dk_29 (dk_at dksX4_parts_1 23 rfl rfl)
theorem dX4_parts_48 : decode cX4_parts 48 = .ok (.aload_n 0, 1) := dk_42 (dk_at dksX4_parts_2 0 rfl rfl)
theorem dX4_parts_49 : decode cX4_parts 49 = .ok (.getfield 69, 3) := dk_180 0 69 (dk_at dksX4_parts_2 1 rfl rfl)
theorem dX4_parts_52 : decode cX4_parts 52 = .ok (.iload_n 3, 1) := dk_29 (dk_at dksX4_parts_2 4 rfl rfl)
theorem dX4_parts_53 : decode cX4_parts 53 = .ok (.laload, 1) := dk_47 (dk_at dksX4_parts_2 5 rfl rfl)
theorem dX4_parts_54 : decode cX4_parts 54 = .ok (.lastore, 1) := dk_80 (dk_at dksX4_parts_2 6 rfl rfl)
theorem dX4_parts_55 : decode cX4_parts 55 = .ok (.aload_n 0, 1) := dk_42 (dk_at dksX4_parts_2 7 rfl rfl)
theorem dX4_parts_56 : decode cX4_parts 56 = .ok (.getfield 108, 3) := dk_180 0 108 (dk_at dksX4_parts_2 8 rfl rfl)
theorem dX4_parts_59 : decode cX4_parts 59 = .ok (.iload_n 3, 1) := dk_29 (dk_at dksX4_parts_2 11 rfl rfl)
theorem dX4_parts_60 : decode cX4_parts 60 = .ok (.aload_n 0, 1) := dk_42 (dk_at dksX4_parts_2 12 rfl rfl)
theorem dX4_parts_61 : decode cX4_parts 61 = .ok (.getfield 72, 3) := dk_180 0 72 (dk_at dksX4_parts_2 13 rfl rfl)
theorem dX4_parts_64 : decode cX4_parts 64 = .ok (.iload_n 3, 1) := dk_29 (dk_at dksX4_parts_2 16 rfl rfl)
theorem dX4_parts_65 : decode cX4_parts 65 = .ok (.laload, 1) := dk_47 (dk_at dksX4_parts_2 17 rfl rfl)
theorem dX4_parts_66 : decode cX4_parts 66 = .ok (.lastore, 1) := dk_80 (dk_at dksX4_parts_2 18 rfl rfl)
theorem dX4_parts_67 : decode cX4_parts 67 = .ok (.iinc 3 1, 3) := dk_132 3 1 (dk_at dksX4_parts_2 19 rfl rfl)
theorem dX4_parts_70 : decode cX4_parts 70 = .ok (.goto (-33), 3) := dk_167 255 223 (dk_at dksX4_parts_3 0 rfl rfl)
theorem dX4_parts_73 : decode cX4_parts 73 = .ok (.aload_n 0, 1) := dk_42 (dk_at dksX4_parts_3 3 rfl rfl)
theorem dX4_parts_74 : decode cX4_parts 74 = .ok (.lconst 1, 1) := dk_10 (dk_at dksX4_parts_3 4 rfl rfl)
theorem dX4_parts_75 : decode cX4_parts 75 = .ok (.iload_n 2, 1) := dk_28 (dk_at dksX4_parts_3 5 rfl rfl)
theorem dX4_parts_76 : decode cX4_parts 76 = .ok (.lshl, 1) := dk_121 (dk_at dksX4_parts_3 6 rfl rfl)
theorem dX4_parts_77 : decode cX4_parts 77 = .ok (.aload_n 0, 1) := dk_42 (dk_at dksX4_parts_3 7 rfl rfl)
theorem dX4_parts_78 : decode cX4_parts 78 = .ok (.getfield 302, 3) := dk_180 1 46 (dk_at dksX4_parts_3 8 rfl rfl)
theorem dX4_parts_81 : decode cX4_parts 81 = .ok (.invokevirtual 414, 3) := dk_182 1 158 (dk_at dksX4_parts_3 11 rfl rfl)
theorem dX4_parts_84 : decode cX4_parts 84 = .ok (.pop, 1) := dk_87 (dk_at dksX4_parts_3 14 rfl rfl)
theorem dX4_parts_85 : decode cX4_parts 85 = .ok (.iconst 0, 1) := dk_3 (dk_at dksX4_parts_3 15 rfl rfl)
theorem dX4_parts_86 : decode cX4_parts 86 = .ok (.istore_n 3, 1) := dk_62 (dk_at dksX4_parts_3 16 rfl rfl)
theorem dX4_parts_87 : decode cX4_parts 87 = .ok (.iload_n 3, 1) := dk_29 (dk_at dksX4_parts_3 17 rfl rfl)
theorem dX4_parts_88 : decode cX4_parts 88 = .ok (.bipush 60, 2) := dk_16 60 (dk_at dksX4_parts_3 18 rfl rfl)
theorem dX4_parts_90 : decode cX4_parts 90 = .ok (.if_icmp .gt 43, 3) := dk_163 0 43 (dk_at dksX4_parts_3 20 rfl rfl)
theorem dX4_parts_93 : decode cX4_parts 93 = .ok (.aload_n 0, 1) := dk_42 (dk_at dksX4_parts_3 23 rfl rfl)
theorem dX4_parts_94 : decode cX4_parts 94 = .ok (.getfield 69, 3) := dk_180 0 69 (dk_at dksX4_parts_4 0 rfl rfl)
theorem dX4_parts_97 : decode cX4_parts 97 = .ok (.iload_n 3, 1) := dk_29 (dk_at dksX4_parts_4 3 rfl rfl)
theorem dX4_parts_98 : decode cX4_parts 98 = .ok (.laload, 1) := dk_47 (dk_at dksX4_parts_4 4 rfl rfl)
theorem dX4_parts_99 : decode cX4_parts 99 = .ok (.aload_n 0, 1) := dk_42 (dk_at dksX4_parts_4 5 rfl rfl)
theorem dX4_parts_100 : decode cX4_parts 100 = .ok (.getfield 105, 3) := dk_180 0 105 (dk_at dksX4_parts_4 6 rfl rfl)
theorem dX4_parts_103 : decode cX4_parts 103 = .ok (.iload_n 3, 1) := dk_29 (dk_at dksX4_parts_4 9 rfl rfl)
theorem dX4_parts_104 : decode cX4_parts 104 = .ok (.laload, 1) := dk_47 (dk_at dksX4_parts_4 10 rfl rfl)
theorem dX4_parts_105 : decode cX4_parts 105 = .ok (.lcmp, 1) := dk_148 (dk_at dksX4_parts_4 11 rfl rfl)
theorem dX4_parts_106 : decode cX4_parts 106 = .ok (.ifCond .ne 19, 3) := dk_154 0 19 (dk_at dksX4_parts_4 12 rfl rfl)
theorem dX4_parts_109 : decode cX4_parts 109 = .ok (.aload_n 0, 1) := dk_42 (dk_at dksX4_parts_4 15 rfl rfl)
theorem dX4_parts_110 : decode cX4_parts 110 = .ok (.getfield 72, 3) := dk_180 0 72 (dk_at dksX4_parts_4 16 rfl rfl)
theorem dX4_parts_113 : decode cX4_parts 113 = .ok (.iload_n 3, 1) := dk_29 (dk_at dksX4_parts_4 19 rfl rfl)
theorem dX4_parts_114 : decode cX4_parts 114 = .ok (.laload, 1) := dk_47 (dk_at dksX4_parts_4 20 rfl rfl)
theorem dX4_parts_115 : decode cX4_parts 115 = .ok (.aload_n 0, 1) := dk_42 (dk_at dksX4_parts_4 21 rfl rfl)
theorem dX4_parts_116 : decode cX4_parts 116 = .ok (.getfield 108, 3) := dk_180 0 108 (dk_at dksX4_parts_5 0 rfl rfl)
theorem dX4_parts_119 : decode cX4_parts 119 = .ok (.iload_n 3, 1) := dk_29 (dk_at dksX4_parts_5 3 rfl rfl)
theorem dX4_parts_120 : decode cX4_parts 120 = .ok (.laload, 1) := dk_47 (dk_at dksX4_parts_5 4 rfl rfl)
theorem dX4_parts_121 : decode cX4_parts 121 = .ok (.lcmp, 1) := dk_148 (dk_at dksX4_parts_5 5 rfl rfl)
theorem dX4_parts_122 : decode cX4_parts 122 = .ok (.ifCond .eq 5, 3) := dk_153 0 5 (dk_at dksX4_parts_5 6 rfl rfl)
theorem dX4_parts_125 : decode cX4_parts 125 = .ok (.iload_n 3, 1) := dk_29 (dk_at dksX4_parts_5 9 rfl rfl)
theorem dX4_parts_126 : decode cX4_parts 126 = .ok (.ireturn, 1) := dk_172 (dk_at dksX4_parts_5 10 rfl rfl)
theorem dX4_parts_127 : decode cX4_parts 127 = .ok (.iinc 3 1, 3) := dk_132 3 1 (dk_at dksX4_parts_5 11 rfl rfl)
theorem dX4_parts_130 : decode cX4_parts 130 = .ok (.goto (-43), 3) := dk_167 255 213 (dk_at dksX4_parts_5 14 rfl rfl)
theorem dX4_parts_133 : decode cX4_parts 133 = .ok (.iconst (-1), 1) := dk_2 (dk_at dksX4_parts_5 17 rfl rfl)
theorem dX4_parts_134 : decode cX4_parts 134 = .ok (.ireturn, 1) := dk_172 (dk_at dksX4_parts_5 18 rfl rfl)
def dkwX4_exchanged_5 : List UInt8 := [29, 96, 172, 132, 3, 1, 167, 255, 197, 132, 2, 1, 167, 255, 182, 2, 172]
abbrev dktX4_exchanged_5 : List UInt8 := dkwX4_exchanged_5 ++ []
def dkwX4_exchanged_4 : List UInt8 := [180, 1, 46, 182, 1, 158, 87, 42, 28, 29, 182, 1, 203, 42, 180, 1, 143, 153, 0, 10, 16, 100, 28, 104]
abbrev dktX4_exchanged_4 : List UInt8 := dkwX4_exchanged_4 ++ dktX4_exchanged_5
def dkwX4_exchanged_3 : List UInt8 := [28, 29, 182, 1, 200, 154, 0, 6, 167, 0, 42, 42, 28, 29, 182, 1, 203, 42, 42, 180, 1, 43, 42]
abbrev dktX4_exchanged_3 : List UInt8 := dkwX4_exchanged_3 ++ dktX4_exchanged_4
def dkwX4_exchanged_2 : List UInt8 := [180, 0, 41, 4, 46, 104, 60, 3, 61, 28, 27, 162, 0, 75, 28, 4, 96, 62, 29, 27, 162, 0, 60, 42]
abbrev dktX4_exchanged_2 : List UInt8 := dkwX4_exchanged_2 ++ dktX4_exchanged_3
def dkwX4_exchanged_1 : List UInt8 := [180, 1, 46, 182, 1, 158, 87, 42, 180, 1, 143, 153, 0, 5, 2, 172, 42, 180, 0, 41, 3, 46, 42]
abbrev dktX4_exchanged_1 : List UInt8 := dkwX4_exchanged_1 ++ dktX4_exchanged_2
def dkwX4_exchanged_0 : List UInt8 := [42, 3, 181, 0, 1, 42, 180, 0, 41, 5, 46, 16, 24, 164, 0, 5, 2, 172, 42, 42, 180, 1, 43, 42]
abbrev dktX4_exchanged_0 : List UInt8 := dkwX4_exchanged_0 ++ dktX4_exchanged_1
theorem dksX4_exchanged_0 : cX4_exchanged.data.toList.drop 0 = dktX4_exchanged_0 := by decide +kernel
theorem dksX4_exchanged_1 : cX4_exchanged.data.toList.drop 24 = dktX4_exchanged_1 := dk_seg dksX4_exchanged_0 24 rfl rfl
theorem dksX4_exchanged_2 : cX4_exchanged.data.toList.drop 47 = dktX4_exchanged_2 := dk_seg dksX4_exchanged_1 23 rfl rfl
theorem dksX4_exchanged_3 : cX4_exchanged.data.toList.drop 71 = dktX4_exchanged_3 := dk_seg dksX4_exchanged_2 24 rfl rfl
theorem dksX4_exchanged_4 : cX4_exchanged.data.toList.drop 94 = dktX4_exchanged_4 := dk_seg dksX4_exchanged_3 23 rfl rfl
theorem dksX4_exchanged_5 : cX4_exchanged.data.toList.drop 118 = dktX4_exchanged_5 := dk_seg dksX4_exchanged_4 24 rfl rfl
theorem dX4_exchanged_0 : decode cX4_exchanged 0 = .ok (.aload_n 0, 1) := dk_42 (dk_at dksX4_exchanged_0 0 rfl rfl)
theorem dX4_exchanged_1 : decode cX4_exchanged 1 = .ok (.iconst 0, 1) := dk_3 (dk_at dksX4_exchanged_0 1 rfl rfl)
theorem dX4_exchanged_2 : decode cX4_exchanged 2 = .ok (.putfield 1, 3) := dk_181 0 1 (dk_at dksX4_exchanged_0 2 rfl rfl)
theorem dX4_exchanged_5 : decode cX4_exchanged 5 = .ok (.aload_n 0, 1) := dk_42 (dk_at dksX4_exchanged_0 5 rfl rfl)
theorem dX4_exchanged_6 : decode cX4_exchanged 6 = .ok (.getfield 41, 3) := dk_180 0 41 (dk_at dksX4_exchanged_0 6 rfl rfl)
theorem dX4_exchanged_9 : decode cX4_exchanged 9 = .ok (.iconst 2, 1) := dk_5 (dk_at dksX4_exchanged_0 9 rfl rfl)
theorem dX4_exchanged_10 : decode cX4_exchanged 10 = .ok (.iaload, 1) := dk_46 (dk_at dksX4_exchanged_0 10 rfl rfl)
theorem dX4_exchanged_11 : decode cX4_exchanged 11 = .ok (.bipush 24, 2) := dk_16 24 (dk_at dksX4_exchanged_0 11 rfl rfl)
theorem dX4_exchanged_13 : decode cX4_exchanged 13 = .ok (.if_icmp .le 5, 3) := dk_164 0 5 (dk_at dksX4_exchanged_0 13 rfl rfl)
theorem dX4_exchanged_16 : decode cX4_exchanged 16 = .ok (.iconst (-1), 1) := dk_2 (dk_at dksX4_exchanged_0 16 rfl rfl)
theorem dX4_exchanged_17 : decode cX4_exchanged 17 = .ok (.ireturn, 1) := dk_172 (dk_at dksX4_exchanged_0 17 rfl rfl)
theorem dX4_exchanged_18 : decode cX4_exchanged 18 = .ok (.aload_n 0, 1) := dk_42 (dk_at dksX4_exchanged_0 18 rfl rfl)
theorem dX4_exchanged_19 : decode cX4_exchanged 19 = .ok (.aload_n 0, 1) := dk_42 (dk_at dksX4_exchanged_0 19 rfl rfl)
theorem dX4_exchanged_20 : decode cX4_exchanged 20 = .ok (.getfield 299, 3) := dk_180 1 43 (dk_at dksX4_exchanged_0 20 rfl rfl)
theorem dX4_exchanged_23 : decode cX4_exchanged 23 = .ok (.aload_n 0, 1) := dk_42 (dk_at dksX4_exchanged_0 23 rfl rfl)
theorem dX4_exchanged_24 : decode cX4_exchanged 24 = .ok (.getfield 302, 3) := dk_180 1 46 (dk_at dksX4_exchanged_1 0 rfl rfl)
theorem dX4_exchanged_27 : decode cX4_exchanged 27 = .ok (.invokevirtual 414, 3) := dk_182 1 158 (dk_at dksX4_exchanged_1 3 rfl rfl)
theorem dX4_exchanged_30 : decode cX4_exchanged 30 = .ok (.pop, 1) := dk_87 (dk_at dksX4_exchanged_1 6 rfl rfl)
theorem dX4_exchanged_31 : decode cX4_exchanged 31 = .ok (.aload_n 0, 1) := dk_42 (dk_at dksX4_exchanged_1 7 rfl rfl)
theorem dX4_exchanged_32 : decode cX4_exchanged 32 = .ok (.getfield 399, 3) := dk_180 1 143 (dk_at dksX4_exchanged_1 8 rfl rfl)
theorem dX4_exchanged_35 : decode cX4_exchanged 35 = .ok (.ifCond .eq 5, 3) := dk_153 0 5 (dk_at dksX4_exchanged_1 11 rfl rfl)
theorem dX4_exchanged_38 : decode cX4_exchanged 38 = .ok (.iconst (-1), 1) := dk_2 (dk_at dksX4_exchanged_1 14 rfl rfl)
theorem dX4_exchanged_39 : decode cX4_exchanged 39 = .ok (.ireturn, 1) := dk_172 (dk_at dksX4_exchanged_1 15 rfl rfl)
theorem dX4_exchanged_40 : decode cX4_exchanged 40 = .ok (.aload_n 0, 1) := dk_42 (dk_at dksX4_exchanged_1 16 rfl rfl)
theorem dX4_exchanged_41 : decode cX4_exchanged 41 = .ok (.getfield 41, 3) := dk_180 0 41 (dk_at dksX4_exchanged_1 17 rfl rfl)
theorem dX4_exchanged_44 : decode cX4_exchanged 44 = .ok (.iconst 0, 1) := dk_3 (dk_at dksX4_exchanged_1 20 rfl rfl)
theorem dX4_exchanged_45 : decode cX4_exchanged 45 = .ok (.iaload, 1) := dk_46 (dk_at dksX4_exchanged_1 21 rfl rfl)
theorem dX4_exchanged_46 : decode cX4_exchanged 46 = .ok (.aload_n 0, 1) := dk_42 (dk_at dksX4_exchanged_1 22 rfl rfl)
theorem dX4_exchanged_47 : decode cX4_exchanged 47 = .ok (.getfield 41, 3) := dk_180 0 41 (dk_at dksX4_exchanged_2 0 rfl rfl)
theorem dX4_exchanged_50 : decode cX4_exchanged 50 = .ok (.iconst 1, 1) := dk_4 (dk_at dksX4_exchanged_2 3 rfl rfl)
theorem dX4_exchanged_51 : decode cX4_exchanged 51 = .ok (.iaload, 1) := dk_46 (dk_at dksX4_exchanged_2 4 rfl rfl)
theorem dX4_exchanged_52 : decode cX4_exchanged 52 = .ok (.imul, 1) := dk_104 (dk_at dksX4_exchanged_2 5 rfl rfl)
theorem dX4_exchanged_53 : decode cX4_exchanged 53 = .ok (.istore_n 1, 1) := dk_60 (dk_at dksX4_exchanged_2 6 rfl rfl)
theorem dX4_exchanged_54 : decode cX4_exchanged 54 = .ok (.iconst 0, 1) := dk_3 (dk_at dksX4_exchanged_2 7 rfl rfl)
theorem dX4_exchanged_55 : decode cX4_exchanged 55 = .ok (.istore_n 2, 1) := dk_61 (dk_at dksX4_exchanged_2 8 rfl rfl)
theorem dX4_exchanged_56 : decode cX4_exchanged 56 = .ok (.iload_n 2, 1) := dk_28 (dk_at dksX4_exchanged_2 9 rfl rfl)
theorem dX4_exchanged_57 : decode cX4_exchanged 57 = .ok (.iload_n 1, 1) := dk_27 (dk_at dksX4_exchanged_2 10 rfl rfl)
theorem dX4_exchanged_58 : decode cX4_exchanged 58 = .ok (.if_icmp .ge 75, 3) := dk_162 0 75 (dk_at dksX4_exchanged_2 11 rfl rfl)
theorem dX4_exchanged_61 : decode cX4_exchanged 61 = .ok (.iload_n 2, 1) := dk_28 (dk_at dksX4_exchanged_2 14 rfl rfl)
theorem dX4_exchanged_62 : decode cX4_exchanged 62 = .ok (.iconst 1, 1) := dk_4 (dk_at dksX4_exchanged_2 15 rfl rfl)
theorem dX4_exchanged_63 : decode cX4_exchanged 63 = .ok (.iadd, 1) := dk_96 (dk_at dksX4_exchanged_2 16 rfl rfl)
theorem dX4_exchanged_64 : decode cX4_exchanged 64 = .ok (.istore_n 3, 1) := dk_62 (dk_at dksX4_exchanged_2 17 rfl rfl)
theorem dX4_exchanged_65 : decode cX4_exchanged 65 = .ok (.iload_n 3, 1) := dk_29 (dk_at dksX4_exchanged_2 18 rfl rfl)
theorem dX4_exchanged_66 : decode cX4_exchanged 66 = .ok (.iload_n 1, 1) := dk_27 (dk_at dksX4_exchanged_2 19 rfl rfl)
theorem dX4_exchanged_67 : decode cX4_exchanged 67 = .ok (.if_icmp .ge 60, 3) := dk_162 0 60 (dk_at dksX4_exchanged_2 20 rfl rfl)
theorem dX4_exchanged_70 : decode cX4_exchanged 70 = .ok (.aload_n 0, 1) := dk_42 (dk_at dksX4_exchanged_2 23 rfl rfl)
theorem dX4_exchanged_71 : decode cX4_exchanged 71 = .ok (.iload_n 2, 1) := dk_28 (dk_at dksX4_exchanged_3 0 rfl rfl)
theorem dX4_exchanged_72 : decode cX4_exchanged 72 = .ok (.iload_n 3, 1) := dk_29 (dk_at dksX4_exchanged_3 1 rfl rfl)
theorem dX4_exchanged_73 : decode cX4_exchanged 73 = .ok (.invokevirtual 456, 3) := dk_182 1 200 (dk_at dksX4_exchanged_3 2 rfl rfl)
theorem dX4_exchanged_76 : decode cX4_exchanged 76 = .ok (.ifCond .ne 6, 3) := dk_154 0 6 (dk_at dksX4_exchanged_3 5 rfl rfl)
theorem dX4_exchanged_79 : decode cX4_exchanged 79 = .ok (.goto 42, 3) := dk_167 0 42 (dk_at dksX4_exchanged_3 8 rfl rfl)
theorem dX4_exchanged_82 : decode cX4_exchanged 82 = .ok (.aload_n 0, 1) := dk_42 (dk_at dksX4_exchanged_3 11 rfl rfl)
theorem dX4_exchanged_83 : decode cX4_exchanged 83 = .ok (.iload_n 2, 1) := dk_28 (dk_at dksX4_exchanged_3 12 rfl rfl)
theorem dX4_exchanged_84 : decode cX4_exchanged 84 = .ok (.iload_n 3, 1) := dk_29 (dk_at dksX4_exchanged_3 13 rfl rfl)
theorem dX4_exchanged_85 : decode cX4_exchanged 85 = .ok (.invokevirtual 459, 3) := dk_182 1 203 (dk_at dksX4_exchanged_3 14 rfl rfl)
theorem dX4_exchanged_88 : decode cX4_exchanged 88 = .ok (.aload_n 0, 1) := dk_42 (dk_at dksX4_exchanged_3 17 rfl rfl)
theorem dX4_exchanged_89 : decode cX4_exchanged 89 = .ok (.aload_n 0, 1) := dk_42 (dk_at dksX4_exchanged_3 18 rfl rfl)
theorem dX4_exchanged_90 : decode cX4_exchanged 90 = .ok (.getfield 299, 3) := dk_180 1 43 (dk_at dksX4_exchanged_3 19 rfl rfl)
theorem dX4_exchanged_93 : decode cX4_exchanged 93 = .ok (.aload_n 0, 1) := dk_42 (dk_at dksX4_exchanged_3 22 rfl rfl)
theorem dX4_exchanged_94 : decode cX4_exchanged 94 = .ok (.getfield 302, 3) := dk_180 1 46 (dk_at dksX4_exchanged_4 0 rfl rfl)
theorem dX4_exchanged_97 : decode cX4_exchanged 97 = .ok (.invokevirtual 414, 3) := dk_182 1 158 (dk_at dksX4_exchanged_4 3 rfl rfl)
theorem dX4_exchanged_100 : decode cX4_exchanged 100 = .ok (.pop, 1) := dk_87 (dk_at dksX4_exchanged_4 6 rfl rfl)
theorem dX4_exchanged_101 : decode cX4_exchanged 101 = .ok (.aload_n 0, 1) := dk_42 (dk_at dksX4_exchanged_4 7 rfl rfl)
theorem dX4_exchanged_102 : decode cX4_exchanged 102 = .ok (.iload_n 2, 1) := dk_28 (dk_at dksX4_exchanged_4 8 rfl rfl)
theorem dX4_exchanged_103 : decode cX4_exchanged 103 = .ok (.iload_n 3, 1) := dk_29 (dk_at dksX4_exchanged_4 9 rfl rfl)
theorem dX4_exchanged_104 : decode cX4_exchanged 104 = .ok (.invokevirtual 459, 3) := dk_182 1 203 (dk_at dksX4_exchanged_4 10 rfl rfl)
theorem dX4_exchanged_107 : decode cX4_exchanged 107 = .ok (.aload_n 0, 1) := dk_42 (dk_at dksX4_exchanged_4 13 rfl rfl)
theorem dX4_exchanged_108 : decode cX4_exchanged 108 = .ok (.getfield 399, 3) := dk_180 1 143 (dk_at dksX4_exchanged_4 14 rfl rfl)
theorem dX4_exchanged_111 : decode cX4_exchanged 111 = .ok (.ifCond .eq 10, 3) := dk_153 0 10 (dk_at dksX4_exchanged_4 17 rfl rfl)
theorem dX4_exchanged_114 : decode cX4_exchanged 114 = .ok (.bipush 100, 2) := dk_16 100 (dk_at dksX4_exchanged_4 20 rfl rfl)
theorem dX4_exchanged_116 : decode cX4_exchanged 116 = .ok (.iload_n 2, 1) := dk_28 (dk_at dksX4_exchanged_4 22 rfl rfl)
theorem dX4_exchanged_117 : decode cX4_exchanged 117 = .ok (.imul, 1) := dk_104 (dk_at dksX4_exchanged_4 23 rfl rfl)
theorem dX4_exchanged_118 : decode cX4_exchanged 118 = .ok (.iload_n 3, 1) := dk_29 (dk_at dksX4_exchanged_5 0 rfl rfl)
theorem dX4_exchanged_119 : decode cX4_exchanged 119 = .ok (.iadd, 1) := dk_96 (dk_at dksX4_exchanged_5 1 rfl rfl)
theorem dX4_exchanged_120 : decode cX4_exchanged 120 = .ok (.ireturn, 1) := dk_172 (dk_at dksX4_exchanged_5 2 rfl rfl)
theorem dX4_exchanged_121 : decode cX4_exchanged 121 = .ok (.iinc 3 1, 3) := dk_132 3 1 (dk_at dksX4_exchanged_5 3 rfl rfl)
theorem dX4_exchanged_124 : decode cX4_exchanged 124 = .ok (.goto (-59), 3) := dk_167 255 197 (dk_at dksX4_exchanged_5 6 rfl rfl)
theorem dX4_exchanged_127 : decode cX4_exchanged 127 = .ok (.iinc 2 1, 3) := dk_132 2 1 (dk_at dksX4_exchanged_5 9 rfl rfl)
theorem dX4_exchanged_130 : decode cX4_exchanged 130 = .ok (.goto (-74), 3) := dk_167 255 182 (dk_at dksX4_exchanged_5 12 rfl rfl)
theorem dX4_exchanged_133 : decode cX4_exchanged 133 = .ok (.iconst (-1), 1) := dk_2 (dk_at dksX4_exchanged_5 15 rfl rfl)
theorem dX4_exchanged_134 : decode cX4_exchanged 134 = .ok (.ireturn, 1) := dk_172 (dk_at dksX4_exchanged_5 16 rfl rfl)
def dkwX4_areUnlike_1 : List UInt8 := [46, 42, 180, 0, 41, 16, 6, 28, 96, 46, 159, 0, 7, 4, 167, 0, 4, 3, 172]
abbrev dktX4_areUnlike_1 : List UInt8 := dkwX4_areUnlike_1 ++ []
def dkwX4_areUnlike_0 : List UInt8 := [42, 27, 182, 1, 58, 153, 0, 36, 42, 28, 182, 1, 58, 153, 0, 28, 42, 180, 0, 41, 16, 6, 27, 96]
abbrev dktX4_areUnlike_0 : List UInt8 := dkwX4_areUnlike_0 ++ dktX4_areUnlike_1
theorem dksX4_areUnlike_0 : cX4_areUnlike.data.toList.drop 0 = dktX4_areUnlike_0 := by decide +kernel
theorem dksX4_areUnlike_1 : cX4_areUnlike.data.toList.drop 24 = dktX4_areUnlike_1 := dk_seg dksX4_areUnlike_0 24 rfl rfl
theorem dX4_areUnlike_0 : decode cX4_areUnlike 0 = .ok (.aload_n 0, 1) := dk_42 (dk_at dksX4_areUnlike_0 0 rfl rfl)
theorem dX4_areUnlike_1 : decode cX4_areUnlike 1 = .ok (.iload_n 1, 1) := dk_27 (dk_at dksX4_areUnlike_0 1 rfl rfl)
theorem dX4_areUnlike_2 : decode cX4_areUnlike 2 = .ok (.invokevirtual 314, 3) := dk_182 1 58 (dk_at dksX4_areUnlike_0 2 rfl rfl)
theorem dX4_areUnlike_5 : decode cX4_areUnlike 5 = .ok (.ifCond .eq 36, 3) := dk_153 0 36 (dk_at dksX4_areUnlike_0 5 rfl rfl)
theorem dX4_areUnlike_8 : decode cX4_areUnlike 8 = .ok (.aload_n 0, 1) := dk_42 (dk_at dksX4_areUnlike_0 8 rfl rfl)
theorem dX4_areUnlike_9 : decode cX4_areUnlike 9 = .ok (.iload_n 2, 1) := dk_28 (dk_at dksX4_areUnlike_0 9 rfl rfl)
theorem dX4_areUnlike_10 : decode cX4_areUnlike 10 = .ok (.invokevirtual 314, 3) := dk_182 1 58 (dk_at dksX4_areUnlike_0 10 rfl rfl)
theorem dX4_areUnlike_13 : decode cX4_areUnlike 13 = .ok (.ifCond .eq 28, 3) := dk_153 0 28 (dk_at dksX4_areUnlike_0 13 rfl rfl)
theorem dX4_areUnlike_16 : decode cX4_areUnlike 16 = .ok (.aload_n 0, 1) := dk_42 (dk_at dksX4_areUnlike_0 16 rfl rfl)
theorem dX4_areUnlike_17 : decode cX4_areUnlike 17 = .ok (.getfield 41, 3) := dk_180 0 41 (dk_at dksX4_areUnlike_0 17 rfl rfl)
theorem dX4_areUnlike_20 : decode cX4_areUnlike 20 = .ok (.bipush 6, 2) := dk_16 6 (dk_at dksX4_areUnlike_0 20 rfl rfl)
theorem dX4_areUnlike_22 : decode cX4_areUnlike 22 = .ok (.iload_n 1, 1) := dk_27 (dk_at dksX4_areUnlike_0 22 rfl rfl)
theorem dX4_areUnlike_23 : decode cX4_areUnlike 23 = .ok (.iadd, 1) := dk_96 (dk_at dksX4_areUnlike_0 23 rfl rfl)
theorem dX4_areUnlike_24 : decode cX4_areUnlike 24 = .ok (.iaload, 1) := dk_46 (dk_at dksX4_areUnlike_1 0 rfl rfl)
theorem dX4_areUnlike_25 : decode cX4_areUnlike 25 = .ok (.aload_n 0, 1) := dk_42 (dk_at dksX4_areUnlike_1 1 rfl rfl)
theorem dX4_areUnlike_26 : decode cX4_areUnlike 26 = .ok (.getfield 41, 3) := dk_180 0 41 (dk_at dksX4_areUnlike_1 2 rfl rfl)
theorem dX4_areUnlike_29 : decode cX4_areUnlike 29 = .ok (.bipush 6, 2) := dk_16 6 (dk_at dksX4_areUnlike_1 5 rfl rfl)
theorem dX4_areUnlike_31 : decode cX4_areUnlike 31 = .ok (.iload_n 2, 1) := dk_28 (dk_at dksX4_areUnlike_1 7 rfl rfl)
theorem dX4_areUnlike_32 : decode cX4_areUnlike 32 = .ok (.iadd, 1) := dk_96 (dk_at dksX4_areUnlike_1 8 rfl rfl)
theorem dX4_areUnlike_33 : decode cX4_areUnlike 33 = .ok (.iaload, 1) := dk_46 (dk_at dksX4_areUnlike_1 9 rfl rfl)
theorem dX4_areUnlike_34 : decode cX4_areUnlike 34 = .ok (.if_icmp .eq 7, 3) := dk_159 0 7 (dk_at dksX4_areUnlike_1 10 rfl rfl)
theorem dX4_areUnlike_37 : decode cX4_areUnlike 37 = .ok (.iconst 1, 1) := dk_4 (dk_at dksX4_areUnlike_1 13 rfl rfl)
theorem dX4_areUnlike_38 : decode cX4_areUnlike 38 = .ok (.goto 4, 3) := dk_167 0 4 (dk_at dksX4_areUnlike_1 14 rfl rfl)
theorem dX4_areUnlike_41 : decode cX4_areUnlike 41 = .ok (.iconst 0, 1) := dk_3 (dk_at dksX4_areUnlike_1 17 rfl rfl)
theorem dX4_areUnlike_42 : decode cX4_areUnlike 42 = .ok (.ireturn, 1) := dk_172 (dk_at dksX4_areUnlike_1 18 rfl rfl)
def dkwX4_change_1 : List UInt8 := [28, 96, 46, 79, 42, 180, 0, 41, 16, 6, 28, 96, 29, 79, 177]
abbrev dktX4_change_1 : List UInt8 := dkwX4_change_1 ++ []
def dkwX4_change_0 : List UInt8 := [42, 180, 0, 41, 16, 6, 27, 96, 46, 62, 42, 180, 0, 41, 16, 6, 27, 96, 42, 180, 0, 41, 16, 6]
abbrev dktX4_change_0 : List UInt8 := dkwX4_change_0 ++ dktX4_change_1
theorem dksX4_change_0 : cX4_change.data.toList.drop 0 = dktX4_change_0 := by decide +kernel
theorem dksX4_change_1 : cX4_change.data.toList.drop 24 = dktX4_change_1 := dk_seg dksX4_change_0 24 rfl rfl
theorem dX4_change_0 : decode cX4_change 0 = .ok (.aload_n 0, 1) := dk_42 (dk_at dksX4_change_0 0 rfl rfl)
theorem dX4_change_1 : decode cX4_change 1 = .ok (.getfield 41, 3) := dk_180 0 41 (dk_at dksX4_change_0 1 rfl rfl)
theorem dX4_change_4 : decode cX4_change 4 = .ok (.bipush 6, 2) := dk_16 6 (dk_at dksX4_change_0 4 rfl rfl)
theorem dX4_change_6 : decode cX4_change 6 = .ok (.iload_n 1, 1) := dk_27 (dk_at dksX4_change_0 6 rfl rfl)
theorem dX4_change_7 : decode cX4_change 7 = .ok (.iadd, 1) := dk_96 (dk_at dksX4_change_0 7 rfl rfl)
theorem dX4_change_8 : decode cX4_change 8 = .ok (.iaload, 1) := dk_46 (dk_at dksX4_change_0 8 rfl rfl)
theorem dX4_change_9 : decode cX4_change 9 = .ok (.istore_n 3, 1) := dk_62 (dk_at dksX4_change_0 9 rfl rfl)
theorem dX4_change_10 : decode cX4_change 10 = .ok (.aload_n 0, 1) := dk_42 (dk_at dksX4_change_0 10 rfl rfl)
theorem dX4_change_11 : decode cX4_change 11 = .ok (.getfield 41, 3) := dk_180 0 41 (dk_at dksX4_change_0 11 rfl rfl)
theorem dX4_change_14 : decode cX4_change 14 = .ok (.bipush 6, 2) := dk_16 6 (dk_at dksX4_change_0 14 rfl rfl)
theorem dX4_change_16 : decode cX4_change 16 = .ok (.iload_n 1, 1) := dk_27 (dk_at dksX4_change_0 16 rfl rfl)
theorem dX4_change_17 : decode cX4_change 17 = .ok (.iadd, 1) := dk_96 (dk_at dksX4_change_0 17 rfl rfl)
theorem dX4_change_18 : decode cX4_change 18 = .ok (.aload_n 0, 1) := dk_42 (dk_at dksX4_change_0 18 rfl rfl)
theorem dX4_change_19 : decode cX4_change 19 = .ok (.getfield 41, 3) := dk_180 0 41 (dk_at dksX4_change_0 19 rfl rfl)
theorem dX4_change_22 : decode cX4_change 22 = .ok (.bipush 6, 2) := dk_16 6 (dk_at dksX4_change_0 22 rfl rfl)
theorem dX4_change_24 : decode cX4_change 24 = .ok (.iload_n 2, 1) := dk_28 (dk_at dksX4_change_1 0 rfl rfl)
theorem dX4_change_25 : decode cX4_change 25 = .ok (.iadd, 1) := dk_96 (dk_at dksX4_change_1 1 rfl rfl)
theorem dX4_change_26 : decode cX4_change 26 = .ok (.iaload, 1) := dk_46 (dk_at dksX4_change_1 2 rfl rfl)
theorem dX4_change_27 : decode cX4_change 27 = .ok (.iastore, 1) := dk_79 (dk_at dksX4_change_1 3 rfl rfl)
theorem dX4_change_28 : decode cX4_change 28 = .ok (.aload_n 0, 1) := dk_42 (dk_at dksX4_change_1 4 rfl rfl)
theorem dX4_change_29 : decode cX4_change 29 = .ok (.getfield 41, 3) := dk_180 0 41 (dk_at dksX4_change_1 5 rfl rfl)
theorem dX4_change_32 : decode cX4_change 32 = .ok (.bipush 6, 2) := dk_16 6 (dk_at dksX4_change_1 8 rfl rfl)
theorem dX4_change_34 : decode cX4_change 34 = .ok (.iload_n 2, 1) := dk_28 (dk_at dksX4_change_1 10 rfl rfl)
theorem dX4_change_35 : decode cX4_change 35 = .ok (.iadd, 1) := dk_96 (dk_at dksX4_change_1 11 rfl rfl)
theorem dX4_change_36 : decode cX4_change 36 = .ok (.iload_n 3, 1) := dk_29 (dk_at dksX4_change_1 12 rfl rfl)
theorem dX4_change_37 : decode cX4_change 37 = .ok (.iastore, 1) := dk_79 (dk_at dksX4_change_1 13 rfl rfl)
theorem dX4_change_38 : decode cX4_change 38 = .ok (.return_, 1) := dk_177 (dk_at dksX4_change_1 14 rfl rfl)
def dkwX4_exchange_1 : List UInt8 := [160, 0, 5, 3, 172, 42, 27, 28, 182, 1, 203, 4, 172]
abbrev dktX4_exchange_1 : List UInt8 := dkwX4_exchange_1 ++ []
def dkwX4_exchange_0 : List UInt8 := [42, 3, 181, 0, 1, 42, 27, 182, 1, 58, 153, 0, 16, 42, 28, 182, 1, 58, 153, 0, 8, 27, 28]
abbrev dktX4_exchange_0 : List UInt8 := dkwX4_exchange_0 ++ dktX4_exchange_1
theorem dksX4_exchange_0 : cX4_exchange.data.toList.drop 0 = dktX4_exchange_0 := by decide +kernel
theorem dksX4_exchange_1 : cX4_exchange.data.toList.drop 23 = dktX4_exchange_1 := dk_seg dksX4_exchange_0 23 rfl rfl
theorem dX4_exchange_0 : decode cX4_exchange 0 = .ok (.aload_n 0, 1) := dk_42 (dk_at dksX4_exchange_0 0 rfl rfl)
theorem dX4_exchange_1 : decode cX4_exchange 1 = .ok (.iconst 0, 1) := dk_3 (dk_at dksX4_exchange_0 1 rfl rfl)
theorem dX4_exchange_2 : decode cX4_exchange 2 = .ok (.putfield 1, 3) := dk_181 0 1 (dk_at dksX4_exchange_0 2 rfl rfl)
theorem dX4_exchange_5 : decode cX4_exchange 5 = .ok (.aload_n 0, 1) := dk_42 (dk_at dksX4_exchange_0 5 rfl rfl)
theorem dX4_exchange_6 : decode cX4_exchange 6 = .ok (.iload_n 1, 1) := dk_27 (dk_at dksX4_exchange_0 6 rfl rfl)
theorem dX4_exchange_7 : decode cX4_exchange 7 = .ok (.invokevirtual 314, 3) := dk_182 1 58 (dk_at dksX4_exchange_0 7 rfl rfl)
theorem dX4_exchange_10 : decode cX4_exchange 10 = .ok (.ifCond .eq 16, 3) := dk_153 0 16 (dk_at dksX4_exchange_0 10 rfl rfl)
theorem dX4_exchange_13 : decode cX4_exchange 13 = .ok (.aload_n 0, 1) := dk_42 (dk_at dksX4_exchange_0 13 rfl rfl)
theorem dX4_exchange_14 : decode cX4_exchange 14 = .ok (.iload_n 2, 1) := dk_28 (dk_at dksX4_exchange_0 14 rfl rfl)
theorem dX4_exchange_15 : decode cX4_exchange 15 = .ok (.invokevirtual 314, 3) := dk_182 1 58 (dk_at dksX4_exchange_0 15 rfl rfl)
theorem dX4_exchange_18 : decode cX4_exchange 18 = .ok (.ifCond .eq 8, 3) := dk_153 0 8 (dk_at dksX4_exchange_0 18 rfl rfl)
theorem dX4_exchange_21 : decode cX4_exchange 21 = .ok (.iload_n 1, 1) := dk_27 (dk_at dksX4_exchange_0 21 rfl rfl)
theorem dX4_exchange_22 : decode cX4_exchange 22 = .ok (.iload_n 2, 1) := dk_28 (dk_at dksX4_exchange_0 22 rfl rfl)
theorem dX4_exchange_23 : decode cX4_exchange 23 = .ok (.if_icmp .ne 5, 3) := dk_160 0 5 (dk_at dksX4_exchange_1 0 rfl rfl)
theorem dX4_exchange_26 : decode cX4_exchange 26 = .ok (.iconst 0, 1) := dk_3 (dk_at dksX4_exchange_1 3 rfl rfl)
theorem dX4_exchange_27 : decode cX4_exchange 27 = .ok (.ireturn, 1) := dk_172 (dk_at dksX4_exchange_1 4 rfl rfl)
theorem dX4_exchange_28 : decode cX4_exchange 28 = .ok (.aload_n 0, 1) := dk_42 (dk_at dksX4_exchange_1 5 rfl rfl)
theorem dX4_exchange_29 : decode cX4_exchange 29 = .ok (.iload_n 1, 1) := dk_27 (dk_at dksX4_exchange_1 6 rfl rfl)
theorem dX4_exchange_30 : decode cX4_exchange 30 = .ok (.iload_n 2, 1) := dk_28 (dk_at dksX4_exchange_1 7 rfl rfl)
theorem dX4_exchange_31 : decode cX4_exchange 31 = .ok (.invokevirtual 459, 3) := dk_182 1 203 (dk_at dksX4_exchange_1 8 rfl rfl)
theorem dX4_exchange_34 : decode cX4_exchange 34 = .ok (.iconst 1, 1) := dk_4 (dk_at dksX4_exchange_1 11 rfl rfl)
theorem dX4_exchange_35 : decode cX4_exchange 35 = .ok (.ireturn, 1) := dk_172 (dk_at dksX4_exchange_1 12 rfl rfl)
def dkwX4_arrange_3 : List UInt8 := [27, 172]
abbrev dktX4_arrange_3 : List UInt8 := dkwX4_arrange_3 ++ []
def dkwX4_arrange_2 : List UInt8 := [182, 1, 210, 153, 0, 21, 42, 180, 1, 140, 60, 42, 89, 180, 1, 207, 4, 96, 181, 1, 207, 167, 255, 224]
abbrev dktX4_arrange_2 : List UInt8 := dkwX4_arrange_2 ++ dktX4_arrange_3
def dkwX4_arrange_1 : List UInt8 := [42, 180, 1, 43, 42, 180, 1, 46, 182, 1, 158, 60, 42, 180, 1, 207, 16, 20, 162, 0, 29, 42, 27]
abbrev dktX4_arrange_1 : List UInt8 := dkwX4_arrange_1 ++ dktX4_arrange_2
def dkwX4_arrange_0 : List UInt8 := [42, 3, 181, 0, 1, 42, 180, 0, 41, 5, 46, 16, 24, 164, 0, 5, 2, 172, 42, 3, 181, 1, 207, 42]
abbrev dktX4_arrange_0 : List UInt8 := dkwX4_arrange_0 ++ dktX4_arrange_1
theorem dksX4_arrange_0 : cX4_arrange.data.toList.drop 0 = dktX4_arrange_0 := by decide +kernel
theorem dksX4_arrange_1 : cX4_arrange.data.toList.drop 24 = dktX4_arrange_1 := dk_seg dksX4_arrange_0 24 rfl rfl
theorem dksX4_arrange_2 : cX4_arrange.data.toList.drop 47 = dktX4_arrange_2 := dk_seg dksX4_arrange_1 23 rfl rfl
theorem dksX4_arrange_3 : cX4_arrange.data.toList.drop 71 = dktX4_arrange_3 := dk_seg dksX4_arrange_2 24 rfl rfl
theorem dX4_arrange_0 : decode cX4_arrange 0 = .ok (.aload_n 0, 1) := dk_42 (dk_at dksX4_arrange_0 0 rfl rfl)
theorem dX4_arrange_1 : decode cX4_arrange 1 = .ok (.iconst 0, 1) := dk_3 (dk_at dksX4_arrange_0 1 rfl rfl)
theorem dX4_arrange_2 : decode cX4_arrange 2 = .ok (.putfield 1, 3) := dk_181 0 1 (dk_at dksX4_arrange_0 2 rfl rfl)
theorem dX4_arrange_5 : decode cX4_arrange 5 = .ok (.aload_n 0, 1) := dk_42 (dk_at dksX4_arrange_0 5 rfl rfl)
theorem dX4_arrange_6 : decode cX4_arrange 6 = .ok (.getfield 41, 3) := dk_180 0 41 (dk_at dksX4_arrange_0 6 rfl rfl)
theorem dX4_arrange_9 : decode cX4_arrange 9 = .ok (.iconst 2, 1) := dk_5 (dk_at dksX4_arrange_0 9 rfl rfl)
theorem dX4_arrange_10 : decode cX4_arrange 10 = .ok (.iaload, 1) := dk_46 (dk_at dksX4_arrange_0 10 rfl rfl)
theorem dX4_arrange_11 : decode cX4_arrange 11 = .ok (.bipush 24, 2) := dk_16 24 (dk_at dksX4_arrange_0 11 rfl rfl)
theorem dX4_arrange_13 : decode cX4_arrange 13 = .ok (.if_icmp .le 5, 3) := dk_164 0 5 (dk_at dksX4_arrange_0 13 rfl rfl)
theorem dX4_arrange_16 : decode cX4_arrange 16 = .ok (.iconst (-1), 1) := dk_2 (dk_at dksX4_arrange_0 16 rfl rfl)
theorem dX4_arrange_17 : decode cX4_arrange 17 = .ok (.ireturn, 1) := dk_172 (dk_at dksX4_arrange_0 17 rfl rfl)
theorem dX4_arrange_18 : decode cX4_arrange 18 = .ok (.aload_n 0, 1) := dk_42 (dk_at dksX4_arrange_0 18 rfl rfl)
theorem dX4_arrange_19 : decode cX4_arrange 19 = .ok (.iconst 0, 1) := dk_3 (dk_at dksX4_arrange_0 19 rfl rfl)
theorem dX4_arrange_20 : decode cX4_arrange 20 = .ok (.putfield 463, 3) := dk_181 1 207 (dk_at dksX4_arrange_0 20 rfl rfl)
theorem dX4_arrange_23 : decode cX4_arrange 23 = .ok (.aload_n 0, 1) := dk_42 (dk_at dksX4_arrange_0 23 rfl rfl)
theorem dX4_arrange_24 : decode cX4_arrange 24 = .ok (.aload_n 0, 1) := dk_42 (dk_at dksX4_arrange_1 0 rfl rfl)
theorem dX4_arrange_25 : decode cX4_arrange 25 = .ok (.getfield 299, 3) := dk_180 1 43 (dk_at dksX4_arrange_1 1 rfl rfl)
theorem dX4_arrange_28 : decode cX4_arrange 28 = .ok (.aload_n 0, 1) := dk_42 (dk_at dksX4_arrange_1 4 rfl rfl)
theorem dX4_arrange_29 : decode cX4_arrange 29 = .ok (.getfield 302, 3) := dk_180 1 46 (dk_at dksX4_arrange_1 5 rfl rfl)
theorem dX4_arrange_32 : decode cX4_arrange 32 = .ok (.invokevirtual 414, 3) := dk_182 1 158 (dk_at dksX4_arrange_1 8 rfl rfl)
theorem dX4_arrange_35 : decode cX4_arrange 35 = .ok (.istore_n 1, 1) := dk_60 (dk_at dksX4_arrange_1 11 rfl rfl)
theorem dX4_arrange_36 : decode cX4_arrange 36 = .ok (.aload_n 0, 1) := dk_42 (dk_at dksX4_arrange_1 12 rfl rfl)
theorem dX4_arrange_37 : decode cX4_arrange 37 = .ok (.getfield 463, 3) := dk_180 1 207 (dk_at dksX4_arrange_1 13 rfl rfl)
theorem dX4_arrange_40 : decode cX4_arrange 40 = .ok (.bipush 20, 2) := dk_16 20 (dk_at dksX4_arrange_1 16 rfl rfl)
theorem dX4_arrange_42 : decode cX4_arrange 42 = .ok (.if_icmp .ge 29, 3) := dk_162 0 29 (dk_at dksX4_arrange_1 18 rfl rfl)
theorem dX4_arrange_45 : decode cX4_arrange 45 = .ok (.aload_n 0, 1) := dk_42 (dk_at dksX4_arrange_1 21 rfl rfl)
theorem dX4_arrange_46 : decode cX4_arrange 46 = .ok (.iload_n 1, 1) := dk_27 (dk_at dksX4_arrange_1 22 rfl rfl)
theorem dX4_arrange_47 : decode cX4_arrange 47 = .ok (.invokevirtual 466, 3) := dk_182 1 210 (dk_at dksX4_arrange_2 0 rfl rfl)
theorem dX4_arrange_50 : decode cX4_arrange 50 = .ok (.ifCond .eq 21, 3) := dk_153 0 21 (dk_at dksX4_arrange_2 3 rfl rfl)
theorem dX4_arrange_53 : decode cX4_arrange 53 = .ok (.aload_n 0, 1) := dk_42 (dk_at dksX4_arrange_2 6 rfl rfl)
theorem dX4_arrange_54 : decode cX4_arrange 54 = .ok (.getfield 396, 3) := dk_180 1 140 (dk_at dksX4_arrange_2 7 rfl rfl)
theorem dX4_arrange_57 : decode cX4_arrange 57 = .ok (.istore_n 1, 1) := dk_60 (dk_at dksX4_arrange_2 10 rfl rfl)
theorem dX4_arrange_58 : decode cX4_arrange 58 = .ok (.aload_n 0, 1) := dk_42 (dk_at dksX4_arrange_2 11 rfl rfl)
theorem dX4_arrange_59 : decode cX4_arrange 59 = .ok (.dup, 1) := dk_89 (dk_at dksX4_arrange_2 12 rfl rfl)
theorem dX4_arrange_60 : decode cX4_arrange 60 = .ok (.getfield 463, 3) := dk_180 1 207 (dk_at dksX4_arrange_2 13 rfl rfl)
theorem dX4_arrange_63 : decode cX4_arrange 63 = .ok (.iconst 1, 1) := dk_4 (dk_at dksX4_arrange_2 16 rfl rfl)
theorem dX4_arrange_64 : decode cX4_arrange 64 = .ok (.iadd, 1) := dk_96 (dk_at dksX4_arrange_2 17 rfl rfl)
theorem dX4_arrange_65 : decode cX4_arrange 65 = .ok (.putfield 463, 3) := dk_181 1 207 (dk_at dksX4_arrange_2 18 rfl rfl)
theorem dX4_arrange_68 : decode cX4_arrange 68 = .ok (.goto (-32), 3) := dk_167 255 224 (dk_at dksX4_arrange_2 21 rfl rfl)
theorem dX4_arrange_71 : decode cX4_arrange 71 = .ok (.iload_n 1, 1) := dk_27 (dk_at dksX4_arrange_3 0 rfl rfl)
theorem dX4_arrange_72 : decode cX4_arrange 72 = .ok (.ireturn, 1) := dk_172 (dk_at dksX4_arrange_3 1 rfl rfl)
def dkwX4_arranges_3 : List UInt8 := [29, 21, 4, 182, 1, 203, 132, 4, 1, 167, 255, 202, 132, 3, 1, 167, 255, 186, 3, 172]
abbrev dktX4_arranges_3 : List UInt8 := dkwX4_arranges_3 ++ []
def dkwX4_arranges_2 : List UInt8 := [21, 4, 182, 1, 203, 42, 42, 180, 1, 43, 42, 180, 1, 46, 182, 1, 158, 27, 164, 0, 5, 4, 172, 42]
abbrev dktX4_arranges_2 : List UInt8 := dkwX4_arranges_2 ++ dktX4_arranges_3
def dkwX4_arranges_1 : List UInt8 := [54, 4, 21, 4, 28, 162, 0, 54, 42, 29, 21, 4, 182, 1, 200, 154, 0, 6, 167, 0, 35, 42, 29]
abbrev dktX4_arranges_1 : List UInt8 := dkwX4_arranges_1 ++ dktX4_arranges_2
def dkwX4_arranges_0 : List UInt8 := [42, 180, 0, 41, 3, 46, 42, 180, 0, 41, 4, 46, 104, 61, 3, 62, 29, 28, 162, 0, 71, 29, 4, 96]
abbrev dktX4_arranges_0 : List UInt8 := dkwX4_arranges_0 ++ dktX4_arranges_1
theorem dksX4_arranges_0 : cX4_arranges.data.toList.drop 0 = dktX4_arranges_0 := by decide +kernel
theorem dksX4_arranges_1 : cX4_arranges.data.toList.drop 24 = dktX4_arranges_1 := dk_seg dksX4_arranges_0 24 rfl rfl
theorem dksX4_arranges_2 : cX4_arranges.data.toList.drop 47 = dktX4_arranges_2 := dk_seg dksX4_arranges_1 23 rfl rfl
theorem dksX4_arranges_3 : cX4_arranges.data.toList.drop 71 = dktX4_arranges_3 := dk_seg dksX4_arranges_2 24 rfl rfl
theorem dX4_arranges_0 : decode cX4_arranges 0 = .ok (.aload_n 0, 1) := dk_42 (dk_at dksX4_arranges_0 0 rfl rfl)
theorem dX4_arranges_1 : decode cX4_arranges 1 = .ok (.getfield 41, 3) := dk_180 0 41 (dk_at dksX4_arranges_0 1 rfl rfl)
theorem dX4_arranges_4 : decode cX4_arranges 4 = .ok (.iconst 0, 1) := dk_3 (dk_at dksX4_arranges_0 4 rfl rfl)
theorem dX4_arranges_5 : decode cX4_arranges 5 = .ok (.iaload, 1) := dk_46 (dk_at dksX4_arranges_0 5 rfl rfl)
theorem dX4_arranges_6 : decode cX4_arranges 6 = .ok (.aload_n 0, 1) := dk_42 (dk_at dksX4_arranges_0 6 rfl rfl)
theorem dX4_arranges_7 : decode cX4_arranges 7 = .ok (.getfield 41, 3) := dk_180 0 41 (dk_at dksX4_arranges_0 7 rfl rfl)
theorem dX4_arranges_10 : decode cX4_arranges 10 = .ok (.iconst 1, 1) := dk_4 (dk_at dksX4_arranges_0 10 rfl rfl)
theorem dX4_arranges_11 : decode cX4_arranges 11 = .ok (.iaload, 1) := dk_46 (dk_at dksX4_arranges_0 11 rfl rfl)
theorem dX4_arranges_12 : decode cX4_arranges 12 = .ok (.imul, 1) := dk_104 (dk_at dksX4_arranges_0 12 rfl rfl)
theorem dX4_arranges_13 : decode cX4_arranges 13 = .ok (.istore_n 2, 1) := dk_61 (dk_at dksX4_arranges_0 13 rfl rfl)
theorem dX4_arranges_14 : decode cX4_arranges 14 = .ok (.iconst 0, 1) := dk_3 (dk_at dksX4_arranges_0 14 rfl rfl)
theorem dX4_arranges_15 : decode cX4_arranges 15 = .ok (.istore_n 3, 1) := dk_62 (dk_at dksX4_arranges_0 15 rfl rfl)
theorem dX4_arranges_16 : decode cX4_arranges 16 = .ok (.iload_n 3, 1) := dk_29 (dk_at dksX4_arranges_0 16 rfl rfl)
theorem dX4_arranges_17 : decode cX4_arranges 17 = .ok (.iload_n 2, 1) := dk_28 (dk_at dksX4_arranges_0 17 rfl rfl)
theorem dX4_arranges_18 : decode cX4_arranges 18 = .ok (.if_icmp .ge 71, 3) := dk_162 0 71 (dk_at dksX4_arranges_0 18 rfl rfl)
theorem dX4_arranges_21 : decode cX4_arranges 21 = .ok (.iload_n 3, 1) := dk_29 (dk_at dksX4_arranges_0 21 rfl rfl)
theorem dX4_arranges_22 : decode cX4_arranges 22 = .ok (.iconst 1, 1) := dk_4 (dk_at dksX4_arranges_0 22 rfl rfl)
theorem dX4_arranges_23 : decode cX4_arranges 23 = .ok (.iadd, 1) := dk_96 (dk_at dksX4_arranges_0 23 rfl rfl)
theorem dX4_arranges_24 : decode cX4_arranges 24 = .ok (.istore 4, 2) := dk_54 4 (dk_at dksX4_arranges_1 0 rfl rfl)
theorem dX4_arranges_26 : decode cX4_arranges 26 = .ok (.iload 4, 2) := dk_21 4 (dk_at dksX4_arranges_1 2 rfl rfl)
theorem dX4_arranges_28 : decode cX4_arranges 28 = .ok (.iload_n 2, 1) := dk_28 (dk_at dksX4_arranges_1 4 rfl rfl)
theorem dX4_arranges_29 : decode cX4_arranges 29 = .ok (.if_icmp .ge 54, 3) := dk_162 0 54 (dk_at dksX4_arranges_1 5 rfl rfl)
theorem dX4_arranges_32 : decode cX4_arranges 32 = .ok (.aload_n 0, 1) := dk_42 (dk_at dksX4_arranges_1 8 rfl rfl)
theorem dX4_arranges_33 : decode cX4_arranges 33 = .ok (.iload_n 3, 1) := dk_29 (dk_at dksX4_arranges_1 9 rfl rfl)
theorem dX4_arranges_34 : decode cX4_arranges 34 = .ok (.iload 4, 2) := dk_21 4 (dk_at dksX4_arranges_1 10 rfl rfl)
theorem dX4_arranges_36 : decode cX4_arranges 36 = .ok (.invokevirtual 456, 3) := dk_182 1 200 (dk_at dksX4_arranges_1 12 rfl rfl)
theorem dX4_arranges_39 : decode cX4_arranges 39 = .ok (.ifCond .ne 6, 3) := dk_154 0 6 (dk_at dksX4_arranges_1 15 rfl rfl)
theorem dX4_arranges_42 : decode cX4_arranges 42 = .ok (.goto 35, 3) := dk_167 0 35 (dk_at dksX4_arranges_1 18 rfl rfl)
theorem dX4_arranges_45 : decode cX4_arranges 45 = .ok (.aload_n 0, 1) := dk_42 (dk_at dksX4_arranges_1 21 rfl rfl)
theorem dX4_arranges_46 : decode cX4_arranges 46 = .ok (.iload_n 3, 1) := dk_29 (dk_at dksX4_arranges_1 22 rfl rfl)
theorem dX4_arranges_47 : decode cX4_arranges 47 = .ok (.iload 4, 2) := dk_21 4 (dk_at dksX4_arranges_2 0 rfl rfl)
theorem dX4_arranges_49 : decode cX4_arranges 49 = .ok (.invokevirtual 459, 3) := dk_182 1 203 (dk_at dksX4_arranges_2 2 rfl rfl)
theorem dX4_arranges_52 : decode cX4_arranges 52 = .ok (.aload_n 0, 1) := dk_42 (dk_at dksX4_arranges_2 5 rfl rfl)
theorem dX4_arranges_53 : decode cX4_arranges 53 = .ok (.aload_n 0, 1) := dk_42 (dk_at dksX4_arranges_2 6 rfl rfl)
theorem dX4_arranges_54 : decode cX4_arranges 54 = .ok (.getfield 299, 3) := dk_180 1 43 (dk_at dksX4_arranges_2 7 rfl rfl)
theorem dX4_arranges_57 : decode cX4_arranges 57 = .ok (.aload_n 0, 1) := dk_42 (dk_at dksX4_arranges_2 10 rfl rfl)
theorem dX4_arranges_58 : decode cX4_arranges 58 = .ok (.getfield 302, 3) := dk_180 1 46 (dk_at dksX4_arranges_2 11 rfl rfl)
theorem dX4_arranges_61 : decode cX4_arranges 61 = .ok (.invokevirtual 414, 3) := dk_182 1 158 (dk_at dksX4_arranges_2 14 rfl rfl)
theorem dX4_arranges_64 : decode cX4_arranges 64 = .ok (.iload_n 1, 1) := dk_27 (dk_at dksX4_arranges_2 17 rfl rfl)
theorem dX4_arranges_65 : decode cX4_arranges 65 = .ok (.if_icmp .le 5, 3) := dk_164 0 5 (dk_at dksX4_arranges_2 18 rfl rfl)
theorem dX4_arranges_68 : decode cX4_arranges 68 = .ok (.iconst 1, 1) := dk_4 (dk_at dksX4_arranges_2 21 rfl rfl)
theorem dX4_arranges_69 : decode cX4_arranges 69 = .ok (.ireturn, 1) := dk_172 (dk_at dksX4_arranges_2 22 rfl rfl)
theorem dX4_arranges_70 : decode cX4_arranges 70 = .ok (.aload_n 0, 1) := dk_42 (dk_at dksX4_arranges_2 23 rfl rfl)
theorem dX4_arranges_71 : decode cX4_arranges 71 = .ok (.iload_n 3, 1) := dk_29 (dk_at dksX4_arranges_3 0 rfl rfl)
theorem dX4_arranges_72 : decode cX4_arranges 72 = .ok (.iload 4, 2) := dk_21 4 (dk_at dksX4_arranges_3 1 rfl rfl)
theorem dX4_arranges_74 : decode cX4_arranges 74 = .ok (.invokevirtual 459, 3) := dk_182 1 203 (dk_at dksX4_arranges_3 3 rfl rfl)
theorem dX4_arranges_77 : decode cX4_arranges 77 = .ok (.iinc 4 1, 3) := dk_132 4 1 (dk_at dksX4_arranges_3 6 rfl rfl)
theorem dX4_arranges_80 : decode cX4_arranges 80 = .ok (.goto (-54), 3) := dk_167 255 202 (dk_at dksX4_arranges_3 9 rfl rfl)
theorem dX4_arranges_83 : decode cX4_arranges 83 = .ok (.iinc 3 1, 3) := dk_132 3 1 (dk_at dksX4_arranges_3 12 rfl rfl)
theorem dX4_arranges_86 : decode cX4_arranges 86 = .ok (.goto (-70), 3) := dk_167 255 186 (dk_at dksX4_arranges_3 15 rfl rfl)
theorem dX4_arranges_89 : decode cX4_arranges 89 = .ok (.iconst 0, 1) := dk_3 (dk_at dksX4_arranges_3 18 rfl rfl)
theorem dX4_arranges_90 : decode cX4_arranges 90 = .ok (.ireturn, 1) := dk_172 (dk_at dksX4_arranges_3 19 rfl rfl)
def dkwX4_arranged_0 : List UInt8 := [42, 3, 181, 0, 1, 42, 180, 1, 207, 172]
abbrev dktX4_arranged_0 : List UInt8 := dkwX4_arranged_0 ++ []
theorem dksX4_arranged_0 : cX4_arranged.data.toList.drop 0 = dktX4_arranged_0 := by decide +kernel
theorem dX4_arranged_0 : decode cX4_arranged 0 = .ok (.aload_n 0, 1) := dk_42 (dk_at dksX4_arranged_0 0 rfl rfl)
theorem dX4_arranged_1 : decode cX4_arranged 1 = .ok (.iconst 0, 1) := dk_3 (dk_at dksX4_arranged_0 1 rfl rfl)
theorem dX4_arranged_2 : decode cX4_arranged 2 = .ok (.putfield 1, 3) := dk_181 0 1 (dk_at dksX4_arranged_0 2 rfl rfl)
theorem dX4_arranged_5 : decode cX4_arranged 5 = .ok (.aload_n 0, 1) := dk_42 (dk_at dksX4_arranged_0 5 rfl rfl)
theorem dX4_arranged_6 : decode cX4_arranged 6 = .ok (.getfield 463, 3) := dk_180 1 207 (dk_at dksX4_arranged_0 6 rfl rfl)
theorem dX4_arranged_9 : decode cX4_arranged 9 = .ok (.ireturn, 1) := dk_172 (dk_at dksX4_arranged_0 9 rfl rfl)
def dkwX4_starts_1 : List UInt8 := [167, 0, 4, 2, 172]
abbrev dktX4_starts_1 : List UInt8 := dkwX4_starts_1 ++ []
def dkwX4_starts_0 : List UInt8 := [42, 3, 181, 0, 1, 42, 27, 182, 1, 58, 153, 0, 17, 42, 10, 27, 121, 42, 180, 1, 46, 182, 1, 158]
abbrev dktX4_starts_0 : List UInt8 := dkwX4_starts_0 ++ dktX4_starts_1
theorem dksX4_starts_0 : cX4_starts.data.toList.drop 0 = dktX4_starts_0 := by decide +kernel
theorem dksX4_starts_1 : cX4_starts.data.toList.drop 24 = dktX4_starts_1 := dk_seg dksX4_starts_0 24 rfl rfl
theorem dX4_starts_0 : decode cX4_starts 0 = .ok (.aload_n 0, 1) := dk_42 (dk_at dksX4_starts_0 0 rfl rfl)
theorem dX4_starts_1 : decode cX4_starts 1 = .ok (.iconst 0, 1) := dk_3 (dk_at dksX4_starts_0 1 rfl rfl)
theorem dX4_starts_2 : decode cX4_starts 2 = .ok (.putfield 1, 3) := dk_181 0 1 (dk_at dksX4_starts_0 2 rfl rfl)
theorem dX4_starts_5 : decode cX4_starts 5 = .ok (.aload_n 0, 1) := dk_42 (dk_at dksX4_starts_0 5 rfl rfl)
theorem dX4_starts_6 : decode cX4_starts 6 = .ok (.iload_n 1, 1) := dk_27 (dk_at dksX4_starts_0 6 rfl rfl)
theorem dX4_starts_7 : decode cX4_starts 7 = .ok (.invokevirtual 314, 3) := dk_182 1 58 (dk_at dksX4_starts_0 7 rfl rfl)
theorem dX4_starts_10 : decode cX4_starts 10 = .ok (.ifCond .eq 17, 3) := dk_153 0 17 (dk_at dksX4_starts_0 10 rfl rfl)
theorem dX4_starts_13 : decode cX4_starts 13 = .ok (.aload_n 0, 1) := dk_42 (dk_at dksX4_starts_0 13 rfl rfl)
theorem dX4_starts_14 : decode cX4_starts 14 = .ok (.lconst 1, 1) := dk_10 (dk_at dksX4_starts_0 14 rfl rfl)
theorem dX4_starts_15 : decode cX4_starts 15 = .ok (.iload_n 1, 1) := dk_27 (dk_at dksX4_starts_0 15 rfl rfl)
theorem dX4_starts_16 : decode cX4_starts 16 = .ok (.lshl, 1) := dk_121 (dk_at dksX4_starts_0 16 rfl rfl)
theorem dX4_starts_17 : decode cX4_starts 17 = .ok (.aload_n 0, 1) := dk_42 (dk_at dksX4_starts_0 17 rfl rfl)
theorem dX4_starts_18 : decode cX4_starts 18 = .ok (.getfield 302, 3) := dk_180 1 46 (dk_at dksX4_starts_0 18 rfl rfl)
theorem dX4_starts_21 : decode cX4_starts 21 = .ok (.invokevirtual 414, 3) := dk_182 1 158 (dk_at dksX4_starts_0 21 rfl rfl)
theorem dX4_starts_24 : decode cX4_starts 24 = .ok (.goto 4, 3) := dk_167 0 4 (dk_at dksX4_starts_1 0 rfl rfl)
theorem dX4_starts_27 : decode cX4_starts 27 = .ok (.iconst (-1), 1) := dk_2 (dk_at dksX4_starts_1 3 rfl rfl)
theorem dX4_starts_28 : decode cX4_starts 28 = .ok (.ireturn, 1) := dk_172 (dk_at dksX4_starts_1 4 rfl rfl)
def dkwX4_leader_5 : List UInt8 := [172]
abbrev dktX4_leader_5 : List UInt8 := dkwX4_leader_5 ++ []
def dkwX4_leader_4 : List UInt8 := [167, 0, 9, 21, 5, 62, 21, 4, 61, 132, 4, 1, 167, 255, 174, 27, 154, 0, 7, 28, 167, 0, 4, 29]
abbrev dktX4_leader_4 : List UInt8 := dkwX4_leader_4 ++ dktX4_leader_5
def dkwX4_leader_3 : List UInt8 := [161, 0, 32, 21, 5, 29, 160, 0, 20, 42, 21, 4, 182, 1, 65, 42, 28, 182, 1, 65, 161, 0, 6]
abbrev dktX4_leader_3 : List UInt8 := dkwX4_leader_3 ++ dktX4_leader_4
def dkwX4_leader_2 : List UInt8 := [154, 0, 6, 167, 0, 52, 42, 10, 21, 4, 121, 42, 180, 1, 46, 182, 1, 158, 54, 5, 21, 5, 29]
abbrev dktX4_leader_2 : List UInt8 := dkwX4_leader_2 ++ dktX4_leader_3
def dkwX4_leader_1 : List UInt8 := [21, 4, 42, 180, 0, 41, 3, 46, 42, 180, 0, 41, 4, 46, 104, 162, 0, 70, 42, 21, 4, 182, 1, 58]
abbrev dktX4_leader_1 : List UInt8 := dkwX4_leader_1 ++ dktX4_leader_2
def dkwX4_leader_0 : List UInt8 := [42, 3, 181, 0, 1, 27, 3, 4, 184, 0, 168, 154, 0, 5, 2, 172, 2, 61, 2, 62, 3, 54, 4]
abbrev dktX4_leader_0 : List UInt8 := dkwX4_leader_0 ++ dktX4_leader_1
theorem dksX4_leader_0 : cX4_leader.data.toList.drop 0 = dktX4_leader_0 := by decide +kernel
theorem dksX4_leader_1 : cX4_leader.data.toList.drop 23 = dktX4_leader_1 := dk_seg dksX4_leader_0 23 rfl rfl
theorem dksX4_leader_2 : cX4_leader.data.toList.drop 47 = dktX4_leader_2 := dk_seg dksX4_leader_1 24 rfl rfl
theorem dksX4_leader_3 : cX4_leader.data.toList.drop 70 = dktX4_leader_3 := dk_seg dksX4_leader_2 23 rfl rfl
theorem dksX4_leader_4 : cX4_leader.data.toList.drop 93 = dktX4_leader_4 := dk_seg dksX4_leader_3 23 rfl rfl
theorem dksX4_leader_5 : cX4_leader.data.toList.drop 117 = dktX4_leader_5 := dk_seg dksX4_leader_4 24 rfl rfl
theorem dX4_leader_0 : decode cX4_leader 0 = .ok (.aload_n 0, 1) := dk_42 (dk_at dksX4_leader_0 0 rfl rfl)
theorem dX4_leader_1 : decode cX4_leader 1 = .ok (.iconst 0, 1) := dk_3 (dk_at dksX4_leader_0 1 rfl rfl)
theorem dX4_leader_2 : decode cX4_leader 2 = .ok (.putfield 1, 3) := dk_181 0 1 (dk_at dksX4_leader_0 2 rfl rfl)
theorem dX4_leader_5 : decode cX4_leader 5 = .ok (.iload_n 1, 1) := dk_27 (dk_at dksX4_leader_0 5 rfl rfl)
theorem dX4_leader_6 : decode cX4_leader 6 = .ok (.iconst 0, 1) := dk_3 (dk_at dksX4_leader_0 6 rfl rfl)
theorem dX4_leader_7 : decode cX4_leader 7 = .ok (.iconst 1, 1) := dk_4 (dk_at dksX4_leader_0 7 rfl rfl)
theorem dX4_leader_8 : decode cX4_leader 8 = .ok (.invokestatic 168, 3) := dk_184 0 168 (dk_at dksX4_leader_0 8 rfl rfl)
theorem dX4_leader_11 : decode cX4_leader 11 = .ok (.ifCond .ne 5, 3) := dk_154 0 5 (dk_at dksX4_leader_0 11 rfl rfl)
theorem dX4_leader_14 : decode cX4_leader 14 = .ok (.iconst (-1), 1) := dk_2 (dk_at dksX4_leader_0 14 rfl rfl)
theorem dX4_leader_15 : decode cX4_leader 15 = .ok (.ireturn, 1) := dk_172 (dk_at dksX4_leader_0 15 rfl rfl)
theorem dX4_leader_16 : decode cX4_leader 16 = .ok (.iconst (-1), 1) := dk_2 (dk_at dksX4_leader_0 16 rfl rfl)
theorem dX4_leader_17 : decode cX4_leader 17 = .ok (.istore_n 2, 1) := dk_61 (dk_at dksX4_leader_0 17 rfl rfl)
theorem dX4_leader_18 : decode cX4_leader 18 = .ok (.iconst (-1), 1) := dk_2 (dk_at dksX4_leader_0 18 rfl rfl)
theorem dX4_leader_19 : decode cX4_leader 19 = .ok (.istore_n 3, 1) := dk_62 (dk_at dksX4_leader_0 19 rfl rfl)
theorem dX4_leader_20 : decode cX4_leader 20 = .ok (.iconst 0, 1) := dk_3 (dk_at dksX4_leader_0 20 rfl rfl)
theorem dX4_leader_21 : decode cX4_leader 21 = .ok (.istore 4, 2) := dk_54 4 (dk_at dksX4_leader_0 21 rfl rfl)
theorem dX4_leader_23 : decode cX4_leader 23 = .ok (.iload 4, 2) := dk_21 4 (dk_at dksX4_leader_1 0 rfl rfl)
theorem dX4_leader_25 : decode cX4_leader 25 = .ok (.aload_n 0, 1) := dk_42 (dk_at dksX4_leader_1 2 rfl rfl)
theorem dX4_leader_26 : decode cX4_leader 26 = .ok (.getfield 41, 3) := dk_180 0 41 (dk_at dksX4_leader_1 3 rfl rfl)
theorem dX4_leader_29 : decode cX4_leader 29 = .ok (.iconst 0, 1) := dk_3 (dk_at dksX4_leader_1 6 rfl rfl)
theorem dX4_leader_30 : decode cX4_leader 30 = .ok (.iaload, 1) := dk_46 (dk_at dksX4_leader_1 7 rfl rfl)
theorem dX4_leader_31 : decode cX4_leader 31 = .ok (.aload_n 0, 1) := dk_42 (dk_at dksX4_leader_1 8 rfl rfl)
theorem dX4_leader_32 : decode cX4_leader 32 = .ok (.getfield 41, 3) := dk_180 0 41 (dk_at dksX4_leader_1 9 rfl rfl)
theorem dX4_leader_35 : decode cX4_leader 35 = .ok (.iconst 1, 1) := dk_4 (dk_at dksX4_leader_1 12 rfl rfl)
theorem dX4_leader_36 : decode cX4_leader 36 = .ok (.iaload, 1) := dk_46 (dk_at dksX4_leader_1 13 rfl rfl)
theorem dX4_leader_37 : decode cX4_leader 37 = .ok (.imul, 1) := dk_104 (dk_at dksX4_leader_1 14 rfl rfl)
theorem dX4_leader_38 : decode cX4_leader 38 = .ok (.if_icmp .ge 70, 3) := dk_162 0 70 (dk_at dksX4_leader_1 15 rfl rfl)
theorem dX4_leader_41 : decode cX4_leader 41 = .ok (.aload_n 0, 1) := dk_42 (dk_at dksX4_leader_1 18 rfl rfl)
theorem dX4_leader_42 : decode cX4_leader 42 = .ok (.iload 4, 2) := dk_21 4 (dk_at dksX4_leader_1 19 rfl rfl)
theorem dX4_leader_44 : decode cX4_leader 44 = .ok (.invokevirtual 314, 3) := dk_182 1 58 (dk_at dksX4_leader_1 21 rfl rfl)
theorem dX4_leader_47 : decode cX4_leader 47 = .ok (.ifCond .ne 6, 3) := dk_154 0 6 (dk_at dksX4_leader_2 0 rfl rfl)
theorem dX4_leader_50 : decode cX4_leader 50 = .ok (.goto 52, 3) := dk_167 0 52 (dk_at dksX4_leader_2 3 rfl rfl)
theorem dX4_leader_53 : decode cX4_leader 53 = .ok (.aload_n 0, 1) := dk_42 (dk_at dksX4_leader_2 6 rfl rfl)
theorem dX4_leader_54 : decode cX4_leader 54 = .ok (.lconst 1, 1) := dk_10 (dk_at dksX4_leader_2 7 rfl rfl)
theorem dX4_leader_55 : decode cX4_leader 55 = .ok (.iload 4, 2) := dk_21 4 (dk_at dksX4_leader_2 8 rfl rfl)
theorem dX4_leader_57 : decode cX4_leader 57 = .ok (.lshl, 1) := dk_121 (dk_at dksX4_leader_2 10 rfl rfl)
theorem dX4_leader_58 : decode cX4_leader 58 = .ok (.aload_n 0, 1) := dk_42 (dk_at dksX4_leader_2 11 rfl rfl)
theorem dX4_leader_59 : decode cX4_leader 59 = .ok (.getfield 302, 3) := dk_180 1 46 (dk_at dksX4_leader_2 12 rfl rfl)
theorem dX4_leader_62 : decode cX4_leader 62 = .ok (.invokevirtual 414, 3) := dk_182 1 158 (dk_at dksX4_leader_2 15 rfl rfl)
theorem dX4_leader_65 : decode cX4_leader 65 = .ok (.istore 5, 2) := dk_54 5 (dk_at dksX4_leader_2 18 rfl rfl)
theorem dX4_leader_67 : decode cX4_leader 67 = .ok (.iload 5, 2) := dk_21 5 (dk_at dksX4_leader_2 20 rfl rfl)
theorem dX4_leader_69 : decode cX4_leader 69 = .ok (.iload_n 3, 1) := dk_29 (dk_at dksX4_leader_2 22 rfl rfl)
theorem dX4_leader_70 : decode cX4_leader 70 = .ok (.if_icmp .lt 32, 3) := dk_161 0 32 (dk_at dksX4_leader_3 0 rfl rfl)
theorem dX4_leader_73 : decode cX4_leader 73 = .ok (.iload 5, 2) := dk_21 5 (dk_at dksX4_leader_3 3 rfl rfl)
theorem dX4_leader_75 : decode cX4_leader 75 = .ok (.iload_n 3, 1) := dk_29 (dk_at dksX4_leader_3 5 rfl rfl)
theorem dX4_leader_76 : decode cX4_leader 76 = .ok (.if_icmp .ne 20, 3) := dk_160 0 20 (dk_at dksX4_leader_3 6 rfl rfl)
theorem dX4_leader_79 : decode cX4_leader 79 = .ok (.aload_n 0, 1) := dk_42 (dk_at dksX4_leader_3 9 rfl rfl)
theorem dX4_leader_80 : decode cX4_leader 80 = .ok (.iload 4, 2) := dk_21 4 (dk_at dksX4_leader_3 10 rfl rfl)
theorem dX4_leader_82 : decode cX4_leader 82 = .ok (.invokevirtual 321, 3) := dk_182 1 65 (dk_at dksX4_leader_3 12 rfl rfl)
theorem dX4_leader_85 : decode cX4_leader 85 = .ok (.aload_n 0, 1) := dk_42 (dk_at dksX4_leader_3 15 rfl rfl)
theorem dX4_leader_86 : decode cX4_leader 86 = .ok (.iload_n 2, 1) := dk_28 (dk_at dksX4_leader_3 16 rfl rfl)
theorem dX4_leader_87 : decode cX4_leader 87 = .ok (.invokevirtual 321, 3) := dk_182 1 65 (dk_at dksX4_leader_3 17 rfl rfl)
theorem dX4_leader_90 : decode cX4_leader 90 = .ok (.if_icmp .lt 6, 3) := dk_161 0 6 (dk_at dksX4_leader_3 20 rfl rfl)
theorem dX4_leader_93 : decode cX4_leader 93 = .ok (.goto 9, 3) := dk_167 0 9 (dk_at dksX4_leader_4 0 rfl rfl)
theorem dX4_leader_96 : decode cX4_leader 96 = .ok (.iload 5, 2) := dk_21 5 (dk_at dksX4_leader_4 3 rfl rfl)
theorem dX4_leader_98 : decode cX4_leader 98 = .ok (.istore_n 3, 1) := dk_62 (dk_at dksX4_leader_4 5 rfl rfl)
theorem dX4_leader_99 : decode cX4_leader 99 = .ok (.iload 4, 2) := dk_21 4 (dk_at dksX4_leader_4 6 rfl rfl)
theorem dX4_leader_101 : decode cX4_leader 101 = .ok (.istore_n 2, 1) := dk_61 (dk_at dksX4_leader_4 8 rfl rfl)
theorem dX4_leader_102 : decode cX4_leader 102 = .ok (.iinc 4 1, 3) := dk_132 4 1 (dk_at dksX4_leader_4 9 rfl rfl)
theorem dX4_leader_105 : decode cX4_leader 105 = .ok (.goto (-82), 3) := dk_167 255 174 (dk_at dksX4_leader_4 12 rfl rfl)
theorem dX4_leader_108 : decode cX4_leader 108 = .ok (.iload_n 1, 1) := dk_27 (dk_at dksX4_leader_4 15 rfl rfl)
theorem dX4_leader_109 : decode cX4_leader 109 = .ok (.ifCond .ne 7, 3) := dk_154 0 7 (dk_at dksX4_leader_4 16 rfl rfl)
theorem dX4_leader_112 : decode cX4_leader 112 = .ok (.iload_n 2, 1) := dk_28 (dk_at dksX4_leader_4 19 rfl rfl)
theorem dX4_leader_113 : decode cX4_leader 113 = .ok (.goto 4, 3) := dk_167 0 4 (dk_at dksX4_leader_4 20 rfl rfl)
theorem dX4_leader_116 : decode cX4_leader 116 = .ok (.iload_n 3, 1) := dk_29 (dk_at dksX4_leader_4 23 rfl rfl)
theorem dX4_leader_117 : decode cX4_leader 117 = .ok (.ireturn, 1) := dk_172 (dk_at dksX4_leader_5 0 rfl rfl)
def dkwX4_drawn_5 : List UInt8 := [121, 129, 66, 132, 5, 1, 167, 255, 165, 42, 33, 181, 1, 43, 4, 172]
abbrev dktX4_drawn_5 : List UInt8 := dkwX4_drawn_5 ++ []
def dkwX4_drawn_4 : List UInt8 := [184, 1, 68, 154, 0, 7, 4, 167, 0, 4, 3, 100, 54, 6, 132, 7, 1, 167, 255, 202, 33, 10, 21, 7]
abbrev dktX4_drawn_4 : List UInt8 := dkwX4_drawn_4 ++ dktX4_drawn_5
def dkwX4_drawn_3 : List UInt8 := [154, 0, 8, 21, 6, 158, 0, 37, 21, 6, 42, 21, 7, 182, 1, 58, 153, 0, 16, 33, 21, 7]
abbrev dktX4_drawn_3 : List UInt8 := dkwX4_drawn_3 ++ dktX4_drawn_4
def dkwX4_drawn_2 : List UInt8 := [182, 1, 217, 54, 6, 3, 54, 7, 42, 21, 7, 182, 1, 58, 153, 0, 17, 33, 21, 7, 184, 1, 68]
abbrev dktX4_drawn_2 : List UInt8 := dkwX4_drawn_2 ++ dktX4_drawn_3
def dkwX4_drawn_1 : List UInt8 := [181, 1, 213, 9, 66, 3, 54, 5, 21, 5, 27, 162, 0, 91, 42, 42, 180, 0, 41, 5, 46, 21, 5, 100]
abbrev dktX4_drawn_1 : List UInt8 := dkwX4_drawn_1 ++ dktX4_drawn_2
def dkwX4_drawn_0 : List UInt8 := [42, 3, 181, 0, 1, 27, 4, 42, 180, 0, 41, 5, 46, 184, 0, 168, 154, 0, 5, 3, 172, 42, 28]
abbrev dktX4_drawn_0 : List UInt8 := dkwX4_drawn_0 ++ dktX4_drawn_1
theorem dksX4_drawn_0 : cX4_drawn.data.toList.drop 0 = dktX4_drawn_0 := by decide +kernel
theorem dksX4_drawn_1 : cX4_drawn.data.toList.drop 23 = dktX4_drawn_1 := dk_seg dksX4_drawn_0 23 rfl rfl
theorem dksX4_drawn_2 : cX4_drawn.data.toList.drop 47 = dktX4_drawn_2 := dk_seg dksX4_drawn_1 24 rfl rfl
theorem dksX4_drawn_3 : cX4_drawn.data.toList.drop 70 = dktX4_drawn_3 := dk_seg dksX4_drawn_2 23 rfl rfl
theorem dksX4_drawn_4 : cX4_drawn.data.toList.drop 92 = dktX4_drawn_4 := dk_seg dksX4_drawn_3 22 rfl rfl
theorem dksX4_drawn_5 : cX4_drawn.data.toList.drop 116 = dktX4_drawn_5 := dk_seg dksX4_drawn_4 24 rfl rfl
theorem dX4_drawn_0 : decode cX4_drawn 0 = .ok (.aload_n 0, 1) := dk_42 (dk_at dksX4_drawn_0 0 rfl rfl)
theorem dX4_drawn_1 : decode cX4_drawn 1 = .ok (.iconst 0, 1) := dk_3 (dk_at dksX4_drawn_0 1 rfl rfl)
theorem dX4_drawn_2 : decode cX4_drawn 2 = .ok (.putfield 1, 3) := dk_181 0 1 (dk_at dksX4_drawn_0 2 rfl rfl)
theorem dX4_drawn_5 : decode cX4_drawn 5 = .ok (.iload_n 1, 1) := dk_27 (dk_at dksX4_drawn_0 5 rfl rfl)
theorem dX4_drawn_6 : decode cX4_drawn 6 = .ok (.iconst 1, 1) := dk_4 (dk_at dksX4_drawn_0 6 rfl rfl)
theorem dX4_drawn_7 : decode cX4_drawn 7 = .ok (.aload_n 0, 1) := dk_42 (dk_at dksX4_drawn_0 7 rfl rfl)
theorem dX4_drawn_8 : decode cX4_drawn 8 = .ok (.getfield 41, 3) := dk_180 0 41 (dk_at dksX4_drawn_0 8 rfl rfl)
theorem dX4_drawn_11 : decode cX4_drawn 11 = .ok (.iconst 2, 1) := dk_5 (dk_at dksX4_drawn_0 11 rfl rfl)
theorem dX4_drawn_12 : decode cX4_drawn 12 = .ok (.iaload, 1) := dk_46 (dk_at dksX4_drawn_0 12 rfl rfl)
theorem dX4_drawn_13 : decode cX4_drawn 13 = .ok (.invokestatic 168, 3) := dk_184 0 168 (dk_at dksX4_drawn_0 13 rfl rfl)
theorem dX4_drawn_16 : decode cX4_drawn 16 = .ok (.ifCond .ne 5, 3) := dk_154 0 5 (dk_at dksX4_drawn_0 16 rfl rfl)
theorem dX4_drawn_19 : decode cX4_drawn 19 = .ok (.iconst 0, 1) := dk_3 (dk_at dksX4_drawn_0 19 rfl rfl)
theorem dX4_drawn_20 : decode cX4_drawn 20 = .ok (.ireturn, 1) := dk_172 (dk_at dksX4_drawn_0 20 rfl rfl)
theorem dX4_drawn_21 : decode cX4_drawn 21 = .ok (.aload_n 0, 1) := dk_42 (dk_at dksX4_drawn_0 21 rfl rfl)
theorem dX4_drawn_22 : decode cX4_drawn 22 = .ok (.iload_n 2, 1) := dk_28 (dk_at dksX4_drawn_0 22 rfl rfl)
theorem dX4_drawn_23 : decode cX4_drawn 23 = .ok (.putfield 469, 3) := dk_181 1 213 (dk_at dksX4_drawn_1 0 rfl rfl)
theorem dX4_drawn_26 : decode cX4_drawn 26 = .ok (.lconst 0, 1) := dk_9 (dk_at dksX4_drawn_1 3 rfl rfl)
theorem dX4_drawn_27 : decode cX4_drawn 27 = .ok (.lstore_n 3, 1) := dk_66 (dk_at dksX4_drawn_1 4 rfl rfl)
theorem dX4_drawn_28 : decode cX4_drawn 28 = .ok (.iconst 0, 1) := dk_3 (dk_at dksX4_drawn_1 5 rfl rfl)
theorem dX4_drawn_29 : decode cX4_drawn 29 = .ok (.istore 5, 2) := dk_54 5 (dk_at dksX4_drawn_1 6 rfl rfl)
theorem dX4_drawn_31 : decode cX4_drawn 31 = .ok (.iload 5, 2) := dk_21 5 (dk_at dksX4_drawn_1 8 rfl rfl)
theorem dX4_drawn_33 : decode cX4_drawn 33 = .ok (.iload_n 1, 1) := dk_27 (dk_at dksX4_drawn_1 10 rfl rfl)
theorem dX4_drawn_34 : decode cX4_drawn 34 = .ok (.if_icmp .ge 91, 3) := dk_162 0 91 (dk_at dksX4_drawn_1 11 rfl rfl)
theorem dX4_drawn_37 : decode cX4_drawn 37 = .ok (.aload_n 0, 1) := dk_42 (dk_at dksX4_drawn_1 14 rfl rfl)
theorem dX4_drawn_38 : decode cX4_drawn 38 = .ok (.aload_n 0, 1) := dk_42 (dk_at dksX4_drawn_1 15 rfl rfl)
theorem dX4_drawn_39 : decode cX4_drawn 39 = .ok (.getfield 41, 3) := dk_180 0 41 (dk_at dksX4_drawn_1 16 rfl rfl)
theorem dX4_drawn_42 : decode cX4_drawn 42 = .ok (.iconst 2, 1) := dk_5 (dk_at dksX4_drawn_1 19 rfl rfl)
theorem dX4_drawn_43 : decode cX4_drawn 43 = .ok (.iaload, 1) := dk_46 (dk_at dksX4_drawn_1 20 rfl rfl)
theorem dX4_drawn_44 : decode cX4_drawn 44 = .ok (.iload 5, 2) := dk_21 5 (dk_at dksX4_drawn_1 21 rfl rfl)
theorem dX4_drawn_46 : decode cX4_drawn 46 = .ok (.isub, 1) := dk_100 (dk_at dksX4_drawn_1 23 rfl rfl)
theorem dX4_drawn_47 : decode cX4_drawn 47 = .ok (.invokevirtual 473, 3) := dk_182 1 217 (dk_at dksX4_drawn_2 0 rfl rfl)
theorem dX4_drawn_50 : decode cX4_drawn 50 = .ok (.istore 6, 2) := dk_54 6 (dk_at dksX4_drawn_2 3 rfl rfl)
theorem dX4_drawn_52 : decode cX4_drawn 52 = .ok (.iconst 0, 1) := dk_3 (dk_at dksX4_drawn_2 5 rfl rfl)
theorem dX4_drawn_53 : decode cX4_drawn 53 = .ok (.istore 7, 2) := dk_54 7 (dk_at dksX4_drawn_2 6 rfl rfl)
theorem dX4_drawn_55 : decode cX4_drawn 55 = .ok (.aload_n 0, 1) := dk_42 (dk_at dksX4_drawn_2 8 rfl rfl)
theorem dX4_drawn_56 : decode cX4_drawn 56 = .ok (.iload 7, 2) := dk_21 7 (dk_at dksX4_drawn_2 9 rfl rfl)
theorem dX4_drawn_58 : decode cX4_drawn 58 = .ok (.invokevirtual 314, 3) := dk_182 1 58 (dk_at dksX4_drawn_2 11 rfl rfl)
theorem dX4_drawn_61 : decode cX4_drawn 61 = .ok (.ifCond .eq 17, 3) := dk_153 0 17 (dk_at dksX4_drawn_2 14 rfl rfl)
theorem dX4_drawn_64 : decode cX4_drawn 64 = .ok (.lload_n 3, 1) := dk_33 (dk_at dksX4_drawn_2 17 rfl rfl)
theorem dX4_drawn_65 : decode cX4_drawn 65 = .ok (.iload 7, 2) := dk_21 7 (dk_at dksX4_drawn_2 18 rfl rfl)
theorem dX4_drawn_67 : decode cX4_drawn 67 = .ok (.invokestatic 324, 3) := dk_184 1 68 (dk_at dksX4_drawn_2 20 rfl rfl)
theorem dX4_drawn_70 : decode cX4_drawn 70 = .ok (.ifCond .ne 8, 3) := dk_154 0 8 (dk_at dksX4_drawn_3 0 rfl rfl)
theorem dX4_drawn_73 : decode cX4_drawn 73 = .ok (.iload 6, 2) := dk_21 6 (dk_at dksX4_drawn_3 3 rfl rfl)
theorem dX4_drawn_75 : decode cX4_drawn 75 = .ok (.ifCond .le 37, 3) := dk_158 0 37 (dk_at dksX4_drawn_3 5 rfl rfl)
theorem dX4_drawn_78 : decode cX4_drawn 78 = .ok (.iload 6, 2) := dk_21 6 (dk_at dksX4_drawn_3 8 rfl rfl)
theorem dX4_drawn_80 : decode cX4_drawn 80 = .ok (.aload_n 0, 1) := dk_42 (dk_at dksX4_drawn_3 10 rfl rfl)
theorem dX4_drawn_81 : decode cX4_drawn 81 = .ok (.iload 7, 2) := dk_21 7 (dk_at dksX4_drawn_3 11 rfl rfl)
theorem dX4_drawn_83 : decode cX4_drawn 83 = .ok (.invokevirtual 314, 3) := dk_182 1 58 (dk_at dksX4_drawn_3 13 rfl rfl)
theorem dX4_drawn_86 : decode cX4_drawn 86 = .ok (.ifCond .eq 16, 3) := dk_153 0 16 (dk_at dksX4_drawn_3 16 rfl rfl)
theorem dX4_drawn_89 : decode cX4_drawn 89 = .ok (.lload_n 3, 1) := dk_33 (dk_at dksX4_drawn_3 19 rfl rfl)
theorem dX4_drawn_90 : decode cX4_drawn 90 = .ok (.iload 7, 2) := dk_21 7 (dk_at dksX4_drawn_3 20 rfl rfl)
theorem dX4_drawn_92 : decode cX4_drawn 92 = .ok (.invokestatic 324, 3) := dk_184 1 68 (dk_at dksX4_drawn_4 0 rfl rfl)
theorem dX4_drawn_95 : decode cX4_drawn 95 = .ok (.ifCond .ne 7, 3) := dk_154 0 7 (dk_at dksX4_drawn_4 3 rfl rfl)
theorem dX4_drawn_98 : decode cX4_drawn 98 = .ok (.iconst 1, 1) := dk_4 (dk_at dksX4_drawn_4 6 rfl rfl)
theorem dX4_drawn_99 : decode cX4_drawn 99 = .ok (.goto 4, 3) := dk_167 0 4 (dk_at dksX4_drawn_4 7 rfl rfl)
theorem dX4_drawn_102 : decode cX4_drawn 102 = .ok (.iconst 0, 1) := dk_3 (dk_at dksX4_drawn_4 10 rfl rfl)
theorem dX4_drawn_103 : decode cX4_drawn 103 = .ok (.isub, 1) := dk_100 (dk_at dksX4_drawn_4 11 rfl rfl)
theorem dX4_drawn_104 : decode cX4_drawn 104 = .ok (.istore 6, 2) := dk_54 6 (dk_at dksX4_drawn_4 12 rfl rfl)
theorem dX4_drawn_106 : decode cX4_drawn 106 = .ok (.iinc 7 1, 3) := dk_132 7 1 (dk_at dksX4_drawn_4 14 rfl rfl)
theorem dX4_drawn_109 : decode cX4_drawn 109 = .ok (.goto (-54), 3) := dk_167 255 202 (dk_at dksX4_drawn_4 17 rfl rfl)
theorem dX4_drawn_112 : decode cX4_drawn 112 = .ok (.lload_n 3, 1) := dk_33 (dk_at dksX4_drawn_4 20 rfl rfl)
theorem dX4_drawn_113 : decode cX4_drawn 113 = .ok (.lconst 1, 1) := dk_10 (dk_at dksX4_drawn_4 21 rfl rfl)
theorem dX4_drawn_114 : decode cX4_drawn 114 = .ok (.iload 7, 2) := dk_21 7 (dk_at dksX4_drawn_4 22 rfl rfl)
theorem dX4_drawn_116 : decode cX4_drawn 116 = .ok (.lshl, 1) := dk_121 (dk_at dksX4_drawn_5 0 rfl rfl)
theorem dX4_drawn_117 : decode cX4_drawn 117 = .ok (.lor, 1) := dk_129 (dk_at dksX4_drawn_5 1 rfl rfl)
theorem dX4_drawn_118 : decode cX4_drawn 118 = .ok (.lstore_n 3, 1) := dk_66 (dk_at dksX4_drawn_5 2 rfl rfl)
theorem dX4_drawn_119 : decode cX4_drawn 119 = .ok (.iinc 5 1, 3) := dk_132 5 1 (dk_at dksX4_drawn_5 3 rfl rfl)
theorem dX4_drawn_122 : decode cX4_drawn 122 = .ok (.goto (-91), 3) := dk_167 255 165 (dk_at dksX4_drawn_5 6 rfl rfl)
theorem dX4_drawn_125 : decode cX4_drawn 125 = .ok (.aload_n 0, 1) := dk_42 (dk_at dksX4_drawn_5 9 rfl rfl)
theorem dX4_drawn_126 : decode cX4_drawn 126 = .ok (.lload_n 3, 1) := dk_33 (dk_at dksX4_drawn_5 10 rfl rfl)
theorem dX4_drawn_127 : decode cX4_drawn 127 = .ok (.putfield 299, 3) := dk_181 1 43 (dk_at dksX4_drawn_5 11 rfl rfl)
theorem dX4_drawn_130 : decode cX4_drawn 130 = .ok (.iconst 1, 1) := dk_4 (dk_at dksX4_drawn_5 14 rfl rfl)
theorem dX4_drawn_131 : decode cX4_drawn 131 = .ok (.ireturn, 1) := dk_172 (dk_at dksX4_drawn_5 15 rfl rfl)
def dkwX4_draw_1 : List UInt8 := [112, 172]
abbrev dktX4_draw_1 : List UInt8 := dkwX4_draw_1 ++ []
def dkwX4_draw_0 : List UInt8 := [42, 42, 180, 1, 213, 19, 1, 216, 104, 17, 48, 57, 96, 181, 1, 213, 42, 180, 1, 213, 16, 8, 124, 27]
abbrev dktX4_draw_0 : List UInt8 := dkwX4_draw_0 ++ dktX4_draw_1
theorem dksX4_draw_0 : cX4_draw.data.toList.drop 0 = dktX4_draw_0 := by decide +kernel
theorem dksX4_draw_1 : cX4_draw.data.toList.drop 24 = dktX4_draw_1 := dk_seg dksX4_draw_0 24 rfl rfl
theorem dX4_draw_0 : decode cX4_draw 0 = .ok (.aload_n 0, 1) := dk_42 (dk_at dksX4_draw_0 0 rfl rfl)
theorem dX4_draw_1 : decode cX4_draw 1 = .ok (.aload_n 0, 1) := dk_42 (dk_at dksX4_draw_0 1 rfl rfl)
theorem dX4_draw_2 : decode cX4_draw 2 = .ok (.getfield 469, 3) := dk_180 1 213 (dk_at dksX4_draw_0 2 rfl rfl)
theorem dX4_draw_5 : decode cX4_draw 5 = .ok (.ldc_w 472, 3) := dk_19 1 216 (dk_at dksX4_draw_0 5 rfl rfl)
theorem dX4_draw_8 : decode cX4_draw 8 = .ok (.imul, 1) := dk_104 (dk_at dksX4_draw_0 8 rfl rfl)
theorem dX4_draw_9 : decode cX4_draw 9 = .ok (.sipush 12345, 3) := dk_17 48 57 (dk_at dksX4_draw_0 9 rfl rfl)
theorem dX4_draw_12 : decode cX4_draw 12 = .ok (.iadd, 1) := dk_96 (dk_at dksX4_draw_0 12 rfl rfl)
theorem dX4_draw_13 : decode cX4_draw 13 = .ok (.putfield 469, 3) := dk_181 1 213 (dk_at dksX4_draw_0 13 rfl rfl)
theorem dX4_draw_16 : decode cX4_draw 16 = .ok (.aload_n 0, 1) := dk_42 (dk_at dksX4_draw_0 16 rfl rfl)
theorem dX4_draw_17 : decode cX4_draw 17 = .ok (.getfield 469, 3) := dk_180 1 213 (dk_at dksX4_draw_0 17 rfl rfl)
theorem dX4_draw_20 : decode cX4_draw 20 = .ok (.bipush 8, 2) := dk_16 8 (dk_at dksX4_draw_0 20 rfl rfl)
theorem dX4_draw_22 : decode cX4_draw 22 = .ok (.iushr, 1) := dk_124 (dk_at dksX4_draw_0 22 rfl rfl)
theorem dX4_draw_23 : decode cX4_draw 23 = .ok (.iload_n 1, 1) := dk_27 (dk_at dksX4_draw_0 23 rfl rfl)
theorem dX4_draw_24 : decode cX4_draw 24 = .ok (.irem, 1) := dk_112 (dk_at dksX4_draw_1 0 rfl rfl)
theorem dX4_draw_25 : decode cX4_draw 25 = .ok (.ireturn, 1) := dk_172 (dk_at dksX4_draw_1 1 rfl rfl)
def dkwX4_image_3 : List UInt8 := [180, 0, 120, 27, 4, 84, 4, 172]
abbrev dktX4_image_3 : List UInt8 := dkwX4_image_3 ++ []
def dkwX4_image_2 : List UInt8 := [167, 255, 228, 42, 180, 0, 114, 27, 42, 180, 1, 43, 80, 42, 180, 0, 117, 27, 42, 180, 1, 46, 80, 42]
abbrev dktX4_image_2 : List UInt8 := dkwX4_image_2 ++ dktX4_image_3
def dkwX4_image_1 : List UInt8 := [162, 0, 27, 42, 180, 0, 111, 17, 2, 169, 27, 104, 28, 96, 42, 180, 0, 41, 28, 46, 79, 132, 2, 1]
abbrev dktX4_image_1 : List UInt8 := dkwX4_image_1 ++ dktX4_image_2
def dkwX4_image_0 : List UInt8 := [42, 3, 181, 0, 1, 27, 3, 4, 184, 0, 168, 154, 0, 5, 3, 172, 3, 61, 28, 17, 2, 169]
abbrev dktX4_image_0 : List UInt8 := dkwX4_image_0 ++ dktX4_image_1
theorem dksX4_image_0 : cX4_image.data.toList.drop 0 = dktX4_image_0 := by decide +kernel
theorem dksX4_image_1 : cX4_image.data.toList.drop 22 = dktX4_image_1 := dk_seg dksX4_image_0 22 rfl rfl
theorem dksX4_image_2 : cX4_image.data.toList.drop 46 = dktX4_image_2 := dk_seg dksX4_image_1 24 rfl rfl
theorem dksX4_image_3 : cX4_image.data.toList.drop 70 = dktX4_image_3 := dk_seg dksX4_image_2 24 rfl rfl
theorem dX4_image_0 : decode cX4_image 0 = .ok (.aload_n 0, 1) := dk_42 (dk_at dksX4_image_0 0 rfl rfl)
theorem dX4_image_1 : decode cX4_image 1 = .ok (.iconst 0, 1) := dk_3 (dk_at dksX4_image_0 1 rfl rfl)
theorem dX4_image_2 : decode cX4_image 2 = .ok (.putfield 1, 3) := dk_181 0 1 (dk_at dksX4_image_0 2 rfl rfl)
theorem dX4_image_5 : decode cX4_image 5 = .ok (.iload_n 1, 1) := dk_27 (dk_at dksX4_image_0 5 rfl rfl)
theorem dX4_image_6 : decode cX4_image 6 = .ok (.iconst 0, 1) := dk_3 (dk_at dksX4_image_0 6 rfl rfl)
theorem dX4_image_7 : decode cX4_image 7 = .ok (.iconst 1, 1) := dk_4 (dk_at dksX4_image_0 7 rfl rfl)
theorem dX4_image_8 : decode cX4_image 8 = .ok (.invokestatic 168, 3) := dk_184 0 168 (dk_at dksX4_image_0 8 rfl rfl)
theorem dX4_image_11 : decode cX4_image 11 = .ok (.ifCond .ne 5, 3) := dk_154 0 5 (dk_at dksX4_image_0 11 rfl rfl)
theorem dX4_image_14 : decode cX4_image 14 = .ok (.iconst 0, 1) := dk_3 (dk_at dksX4_image_0 14 rfl rfl)
theorem dX4_image_15 : decode cX4_image 15 = .ok (.ireturn, 1) := dk_172 (dk_at dksX4_image_0 15 rfl rfl)
theorem dX4_image_16 : decode cX4_image 16 = .ok (.iconst 0, 1) := dk_3 (dk_at dksX4_image_0 16 rfl rfl)
theorem dX4_image_17 : decode cX4_image 17 = .ok (.istore_n 2, 1) := dk_61 (dk_at dksX4_image_0 17 rfl rfl)
theorem dX4_image_18 : decode cX4_image 18 = .ok (.iload_n 2, 1) := dk_28 (dk_at dksX4_image_0 18 rfl rfl)
theorem dX4_image_19 : decode cX4_image 19 = .ok (.sipush 681, 3) := dk_17 2 169 (dk_at dksX4_image_0 19 rfl rfl)
theorem dX4_image_22 : decode cX4_image 22 = .ok (.if_icmp .ge 27, 3) := dk_162 0 27 (dk_at dksX4_image_1 0 rfl rfl)
theorem dX4_image_25 : decode cX4_image 25 = .ok (.aload_n 0, 1) := dk_42 (dk_at dksX4_image_1 3 rfl rfl)
theorem dX4_image_26 : decode cX4_image 26 = .ok (.getfield 111, 3) := dk_180 0 111 (dk_at dksX4_image_1 4 rfl rfl)
theorem dX4_image_29 : decode cX4_image 29 = .ok (.sipush 681, 3) := dk_17 2 169 (dk_at dksX4_image_1 7 rfl rfl)
theorem dX4_image_32 : decode cX4_image 32 = .ok (.iload_n 1, 1) := dk_27 (dk_at dksX4_image_1 10 rfl rfl)
theorem dX4_image_33 : decode cX4_image 33 = .ok (.imul, 1) := dk_104 (dk_at dksX4_image_1 11 rfl rfl)
theorem dX4_image_34 : decode cX4_image 34 = .ok (.iload_n 2, 1) := dk_28 (dk_at dksX4_image_1 12 rfl rfl)
theorem dX4_image_35 : decode cX4_image 35 = .ok (.iadd, 1) := dk_96 (dk_at dksX4_image_1 13 rfl rfl)
theorem dX4_image_36 : decode cX4_image 36 = .ok (.aload_n 0, 1) := dk_42 (dk_at dksX4_image_1 14 rfl rfl)
theorem dX4_image_37 : decode cX4_image 37 = .ok (.getfield 41, 3) := dk_180 0 41 (dk_at dksX4_image_1 15 rfl rfl)
theorem dX4_image_40 : decode cX4_image 40 = .ok (.iload_n 2, 1) := dk_28 (dk_at dksX4_image_1 18 rfl rfl)
theorem dX4_image_41 : decode cX4_image 41 = .ok (.iaload, 1) := dk_46 (dk_at dksX4_image_1 19 rfl rfl)
theorem dX4_image_42 : decode cX4_image 42 = .ok (.iastore, 1) := dk_79 (dk_at dksX4_image_1 20 rfl rfl)
theorem dX4_image_43 : decode cX4_image 43 = .ok (.iinc 2 1, 3) := dk_132 2 1 (dk_at dksX4_image_1 21 rfl rfl)
theorem dX4_image_46 : decode cX4_image 46 = .ok (.goto (-28), 3) := dk_167 255 228 (dk_at dksX4_image_2 0 rfl rfl)
theorem dX4_image_49 : decode cX4_image 49 = .ok (.aload_n 0, 1) := dk_42 (dk_at dksX4_image_2 3 rfl rfl)
theorem dX4_image_50 : decode cX4_image 50 = .ok (.getfield 114, 3) := dk_180 0 114 (dk_at dksX4_image_2 4 rfl rfl)
theorem dX4_image_53 : decode cX4_image 53 = .ok (.iload_n 1, 1) := dk_27 (dk_at dksX4_image_2 7 rfl rfl)
theorem dX4_image_54 : decode cX4_image 54 = .ok (.aload_n 0, 1) := dk_42 (dk_at dksX4_image_2 8 rfl rfl)
theorem dX4_image_55 : decode cX4_image 55 = .ok (.getfield 299, 3) := dk_180 1 43 (dk_at dksX4_image_2 9 rfl rfl)
theorem dX4_image_58 : decode cX4_image 58 = .ok (.lastore, 1) := dk_80 (dk_at dksX4_image_2 12 rfl rfl)
theorem dX4_image_59 : decode cX4_image 59 = .ok (.aload_n 0, 1) := dk_42 (dk_at dksX4_image_2 13 rfl rfl)
theorem dX4_image_60 : decode cX4_image 60 = .ok (.getfield 117, 3) := dk_180 0 117 (dk_at dksX4_image_2 14 rfl rfl)
theorem dX4_image_63 : decode cX4_image 63 = .ok (.iload_n 1, 1) := dk_27 (dk_at dksX4_image_2 17 rfl rfl)
theorem dX4_image_64 : decode cX4_image 64 = .ok (.aload_n 0, 1) := dk_42 (dk_at dksX4_image_2 18 rfl rfl)
theorem dX4_image_65 : decode cX4_image 65 = .ok (.getfield 302, 3) := dk_180 1 46 (dk_at dksX4_image_2 19 rfl rfl)
theorem dX4_image_68 : decode cX4_image 68 = .ok (.lastore, 1) := dk_80 (dk_at dksX4_image_2 22 rfl rfl)
theorem dX4_image_69 : decode cX4_image 69 = .ok (.aload_n 0, 1) := dk_42 (dk_at dksX4_image_2 23 rfl rfl)
theorem dX4_image_70 : decode cX4_image 70 = .ok (.getfield 120, 3) := dk_180 0 120 (dk_at dksX4_image_3 0 rfl rfl)
theorem dX4_image_73 : decode cX4_image 73 = .ok (.iload_n 1, 1) := dk_27 (dk_at dksX4_image_3 3 rfl rfl)
theorem dX4_image_74 : decode cX4_image 74 = .ok (.iconst 1, 1) := dk_4 (dk_at dksX4_image_3 4 rfl rfl)
theorem dX4_image_75 : decode cX4_image 75 = .ok (.bastore, 1) := dk_84 (dk_at dksX4_image_3 5 rfl rfl)
theorem dX4_image_76 : decode cX4_image 76 = .ok (.iconst 1, 1) := dk_4 (dk_at dksX4_image_3 6 rfl rfl)
theorem dX4_image_77 : decode cX4_image 77 = .ok (.ireturn, 1) := dk_172 (dk_at dksX4_image_3 7 rfl rfl)
def dkwX4_restore_3 : List UInt8 := [180, 0, 117, 27, 47, 181, 1, 46, 42, 4, 181, 0, 65, 4, 172]
abbrev dktX4_restore_3 : List UInt8 := dkwX4_restore_3 ++ []
def dkwX4_restore_2 : List UInt8 := [28, 96, 46, 79, 132, 2, 1, 167, 255, 228, 42, 42, 180, 0, 114, 27, 47, 181, 1, 43, 42, 42]
abbrev dktX4_restore_2 : List UInt8 := dkwX4_restore_2 ++ dktX4_restore_3
def dkwX4_restore_1 : List UInt8 := [172, 3, 61, 28, 17, 2, 169, 162, 0, 27, 42, 180, 0, 41, 28, 42, 180, 0, 111, 17, 2, 169, 27, 104]
abbrev dktX4_restore_1 : List UInt8 := dkwX4_restore_1 ++ dktX4_restore_2
def dkwX4_restore_0 : List UInt8 := [42, 3, 181, 0, 1, 27, 3, 4, 184, 0, 168, 153, 0, 12, 42, 180, 0, 120, 27, 51, 154, 0, 5, 3]
abbrev dktX4_restore_0 : List UInt8 := dkwX4_restore_0 ++ dktX4_restore_1
theorem dksX4_restore_0 : cX4_restore.data.toList.drop 0 = dktX4_restore_0 := by decide +kernel
theorem dksX4_restore_1 : cX4_restore.data.toList.drop 24 = dktX4_restore_1 := dk_seg dksX4_restore_0 24 rfl rfl
theorem dksX4_restore_2 : cX4_restore.data.toList.drop 48 = dktX4_restore_2 := dk_seg dksX4_restore_1 24 rfl rfl
theorem dksX4_restore_3 : cX4_restore.data.toList.drop 70 = dktX4_restore_3 := dk_seg dksX4_restore_2 22 rfl rfl
theorem dX4_restore_0 : decode cX4_restore 0 = .ok (.aload_n 0, 1) := dk_42 (dk_at dksX4_restore_0 0 rfl rfl)
theorem dX4_restore_1 : decode cX4_restore 1 = .ok (.iconst 0, 1) := dk_3 (dk_at dksX4_restore_0 1 rfl rfl)
theorem dX4_restore_2 : decode cX4_restore 2 = .ok (.putfield 1, 3) := dk_181 0 1 (dk_at dksX4_restore_0 2 rfl rfl)
theorem dX4_restore_5 : decode cX4_restore 5 = .ok (.iload_n 1, 1) := dk_27 (dk_at dksX4_restore_0 5 rfl rfl)
theorem dX4_restore_6 : decode cX4_restore 6 = .ok (.iconst 0, 1) := dk_3 (dk_at dksX4_restore_0 6 rfl rfl)
theorem dX4_restore_7 : decode cX4_restore 7 = .ok (.iconst 1, 1) := dk_4 (dk_at dksX4_restore_0 7 rfl rfl)
theorem dX4_restore_8 : decode cX4_restore 8 = .ok (.invokestatic 168, 3) := dk_184 0 168 (dk_at dksX4_restore_0 8 rfl rfl)
theorem dX4_restore_11 : decode cX4_restore 11 = .ok (.ifCond .eq 12, 3) := dk_153 0 12 (dk_at dksX4_restore_0 11 rfl rfl)
theorem dX4_restore_14 : decode cX4_restore 14 = .ok (.aload_n 0, 1) := dk_42 (dk_at dksX4_restore_0 14 rfl rfl)
theorem dX4_restore_15 : decode cX4_restore 15 = .ok (.getfield 120, 3) := dk_180 0 120 (dk_at dksX4_restore_0 15 rfl rfl)
theorem dX4_restore_18 : decode cX4_restore 18 = .ok (.iload_n 1, 1) := dk_27 (dk_at dksX4_restore_0 18 rfl rfl)
theorem dX4_restore_19 : decode cX4_restore 19 = .ok (.baload, 1) := dk_51 (dk_at dksX4_restore_0 19 rfl rfl)
theorem dX4_restore_20 : decode cX4_restore 20 = .ok (.ifCond .ne 5, 3) := dk_154 0 5 (dk_at dksX4_restore_0 20 rfl rfl)
theorem dX4_restore_23 : decode cX4_restore 23 = .ok (.iconst 0, 1) := dk_3 (dk_at dksX4_restore_0 23 rfl rfl)
theorem dX4_restore_24 : decode cX4_restore 24 = .ok (.ireturn, 1) := dk_172 (dk_at dksX4_restore_1 0 rfl rfl)
theorem dX4_restore_25 : decode cX4_restore 25 = .ok (.iconst 0, 1) := dk_3 (dk_at dksX4_restore_1 1 rfl rfl)
theorem dX4_restore_26 : decode cX4_restore 26 = .ok (.istore_n 2, 1) := dk_61 (dk_at dksX4_restore_1 2 rfl rfl)
theorem dX4_restore_27 : decode cX4_restore 27 = .ok (.iload_n 2, 1) := dk_28 (dk_at dksX4_restore_1 3 rfl rfl)
theorem dX4_restore_28 : decode cX4_restore 28 = .ok (.sipush 681, 3) := dk_17 2 169 (dk_at dksX4_restore_1 4 rfl rfl)
theorem dX4_restore_31 : decode cX4_restore 31 = .ok (.if_icmp .ge 27, 3) := dk_162 0 27 (dk_at dksX4_restore_1 7 rfl rfl)
theorem dX4_restore_34 : decode cX4_restore 34 = .ok (.aload_n 0, 1) := dk_42 (dk_at dksX4_restore_1 10 rfl rfl)
theorem dX4_restore_35 : decode cX4_restore 35 = .ok (.getfield 41, 3) := dk_180 0 41 (dk_at dksX4_restore_1 11 rfl rfl)
theorem dX4_restore_38 : decode cX4_restore 38 = .ok (.iload_n 2, 1) := dk_28 (dk_at dksX4_restore_1 14 rfl rfl)
theorem dX4_restore_39 : decode cX4_restore 39 = .ok (.aload_n 0, 1) := dk_42 (dk_at dksX4_restore_1 15 rfl rfl)
theorem dX4_restore_40 : decode cX4_restore 40 = .ok (.getfield 111, 3) := dk_180 0 111 (dk_at dksX4_restore_1 16 rfl rfl)
theorem dX4_restore_43 : decode cX4_restore 43 = .ok (.sipush 681, 3) := dk_17 2 169 (dk_at dksX4_restore_1 19 rfl rfl)
theorem dX4_restore_46 : decode cX4_restore 46 = .ok (.iload_n 1, 1) := dk_27 (dk_at dksX4_restore_1 22 rfl rfl)
theorem dX4_restore_47 : decode cX4_restore 47 = .ok (.imul, 1) := dk_104 (dk_at dksX4_restore_1 23 rfl rfl)
theorem dX4_restore_48 : decode cX4_restore 48 = .ok (.iload_n 2, 1) := dk_28 (dk_at dksX4_restore_2 0 rfl rfl)
theorem dX4_restore_49 : decode cX4_restore 49 = .ok (.iadd, 1) := dk_96 (dk_at dksX4_restore_2 1 rfl rfl)
theorem dX4_restore_50 : decode cX4_restore 50 = .ok (.iaload, 1) := dk_46 (dk_at dksX4_restore_2 2 rfl rfl)
theorem dX4_restore_51 : decode cX4_restore 51 = .ok (.iastore, 1) := dk_79 (dk_at dksX4_restore_2 3 rfl rfl)
theorem dX4_restore_52 : decode cX4_restore 52 = .ok (.iinc 2 1, 3) := dk_132 2 1 (dk_at dksX4_restore_2 4 rfl rfl)
theorem dX4_restore_55 : decode cX4_restore 55 = .ok (.goto (-28), 3) := dk_167 255 228 (dk_at dksX4_restore_2 7 rfl rfl)
theorem dX4_restore_58 : decode cX4_restore 58 = .ok (.aload_n 0, 1) := dk_42 (dk_at dksX4_restore_2 10 rfl rfl)
theorem dX4_restore_59 : decode cX4_restore 59 = .ok (.aload_n 0, 1) := dk_42 (dk_at dksX4_restore_2 11 rfl rfl)
theorem dX4_restore_60 : decode cX4_restore 60 = .ok (.getfield 114, 3) := dk_180 0 114 (dk_at dksX4_restore_2 12 rfl rfl)
theorem dX4_restore_63 : decode cX4_restore 63 = .ok (.iload_n 1, 1) := dk_27 (dk_at dksX4_restore_2 15 rfl rfl)
theorem dX4_restore_64 : decode cX4_restore 64 = .ok (.laload, 1) := dk_47 (dk_at dksX4_restore_2 16 rfl rfl)
theorem dX4_restore_65 : decode cX4_restore 65 = .ok (.putfield 299, 3) := dk_181 1 43 (dk_at dksX4_restore_2 17 rfl rfl)
theorem dX4_restore_68 : decode cX4_restore 68 = .ok (.aload_n 0, 1) := dk_42 (dk_at dksX4_restore_2 20 rfl rfl)
theorem dX4_restore_69 : decode cX4_restore 69 = .ok (.aload_n 0, 1) := dk_42 (dk_at dksX4_restore_2 21 rfl rfl)
theorem dX4_restore_70 : decode cX4_restore 70 = .ok (.getfield 117, 3) := dk_180 0 117 (dk_at dksX4_restore_3 0 rfl rfl)
theorem dX4_restore_73 : decode cX4_restore 73 = .ok (.iload_n 1, 1) := dk_27 (dk_at dksX4_restore_3 3 rfl rfl)
theorem dX4_restore_74 : decode cX4_restore 74 = .ok (.laload, 1) := dk_47 (dk_at dksX4_restore_3 4 rfl rfl)
theorem dX4_restore_75 : decode cX4_restore 75 = .ok (.putfield 302, 3) := dk_181 1 46 (dk_at dksX4_restore_3 5 rfl rfl)
theorem dX4_restore_78 : decode cX4_restore 78 = .ok (.aload_n 0, 1) := dk_42 (dk_at dksX4_restore_3 8 rfl rfl)
theorem dX4_restore_79 : decode cX4_restore 79 = .ok (.iconst 1, 1) := dk_4 (dk_at dksX4_restore_3 9 rfl rfl)
theorem dX4_restore_80 : decode cX4_restore 80 = .ok (.putfield 65, 3) := dk_181 0 65 (dk_at dksX4_restore_3 10 rfl rfl)
theorem dX4_restore_83 : decode cX4_restore 83 = .ok (.iconst 1, 1) := dk_4 (dk_at dksX4_restore_3 13 rfl rfl)
theorem dX4_restore_84 : decode cX4_restore 84 = .ok (.ireturn, 1) := dk_172 (dk_at dksX4_restore_3 14 rfl rfl)
def dkwX4_count_3 : List UInt8 := [160, 0, 14, 42, 180, 0, 41, 17, 2, 78, 46, 167, 0, 4, 2, 172]
abbrev dktX4_count_3 : List UInt8 := dkwX4_count_3 ++ []
def dkwX4_count_2 : List UInt8 := [184, 1, 88, 167, 0, 34, 27, 16, 8, 160, 0, 10, 42, 180, 0, 7, 167, 0, 21, 27, 16, 9]
abbrev dktX4_count_2 : List UInt8 := dkwX4_count_2 ++ dktX4_count_3
def dkwX4_count_1 : List UInt8 := [160, 0, 13, 42, 180, 1, 43, 184, 1, 88, 167, 0, 50, 27, 16, 7, 160, 0, 13, 42, 180, 1, 46]
abbrev dktX4_count_1 : List UInt8 := dkwX4_count_1 ++ dktX4_count_2
def dkwX4_count_0 : List UInt8 := [42, 3, 181, 0, 1, 27, 3, 8, 184, 0, 168, 153, 0, 10, 42, 180, 0, 41, 27, 46, 172, 27, 16, 6]
abbrev dktX4_count_0 : List UInt8 := dkwX4_count_0 ++ dktX4_count_1
theorem dksX4_count_0 : cX4_count.data.toList.drop 0 = dktX4_count_0 := by decide +kernel
theorem dksX4_count_1 : cX4_count.data.toList.drop 24 = dktX4_count_1 := dk_seg dksX4_count_0 24 rfl rfl
theorem dksX4_count_2 : cX4_count.data.toList.drop 47 = dktX4_count_2 := dk_seg dksX4_count_1 23 rfl rfl
theorem dksX4_count_3 : cX4_count.data.toList.drop 69 = dktX4_count_3 := dk_seg dksX4_count_2 22 rfl rfl
theorem dX4_count_0 : decode cX4_count 0 = .ok (.aload_n 0, 1) := dk_42 (dk_at dksX4_count_0 0 rfl rfl)
theorem dX4_count_1 : decode cX4_count 1 = .ok (.iconst 0, 1) := dk_3 (dk_at dksX4_count_0 1 rfl rfl)
theorem dX4_count_2 : decode cX4_count 2 = .ok (.putfield 1, 3) := dk_181 0 1 (dk_at dksX4_count_0 2 rfl rfl)
theorem dX4_count_5 : decode cX4_count 5 = .ok (.iload_n 1, 1) := dk_27 (dk_at dksX4_count_0 5 rfl rfl)
theorem dX4_count_6 : decode cX4_count 6 = .ok (.iconst 0, 1) := dk_3 (dk_at dksX4_count_0 6 rfl rfl)
theorem dX4_count_7 : decode cX4_count 7 = .ok (.iconst 5, 1) := dk_8 (dk_at dksX4_count_0 7 rfl rfl)
theorem dX4_count_8 : decode cX4_count 8 = .ok (.invokestatic 168, 3) := dk_184 0 168 (dk_at dksX4_count_0 8 rfl rfl)
theorem dX4_count_11 : decode cX4_count 11 = .ok (.ifCond .eq 10, 3) := dk_153 0 10 (dk_at dksX4_count_0 11 rfl rfl)
theorem dX4_count_14 : decode cX4_count 14 = .ok (.aload_n 0, 1) := dk_42 (dk_at dksX4_count_0 14 rfl rfl)
theorem dX4_count_15 : decode cX4_count 15 = .ok (.getfield 41, 3) := dk_180 0 41 (dk_at dksX4_count_0 15 rfl rfl)
theorem dX4_count_18 : decode cX4_count 18 = .ok (.iload_n 1, 1) := dk_27 (dk_at dksX4_count_0 18 rfl rfl)
theorem dX4_count_19 : decode cX4_count 19 = .ok (.iaload, 1) := dk_46 (dk_at dksX4_count_0 19 rfl rfl)
theorem dX4_count_20 : decode cX4_count 20 = .ok (.ireturn, 1) := dk_172 (dk_at dksX4_count_0 20 rfl rfl)
theorem dX4_count_21 : decode cX4_count 21 = .ok (.iload_n 1, 1) := dk_27 (dk_at dksX4_count_0 21 rfl rfl)
theorem dX4_count_22 : decode cX4_count 22 = .ok (.bipush 6, 2) := dk_16 6 (dk_at dksX4_count_0 22 rfl rfl)
theorem dX4_count_24 : decode cX4_count 24 = .ok (.if_icmp .ne 13, 3) := dk_160 0 13 (dk_at dksX4_count_1 0 rfl rfl)
theorem dX4_count_27 : decode cX4_count 27 = .ok (.aload_n 0, 1) := dk_42 (dk_at dksX4_count_1 3 rfl rfl)
theorem dX4_count_28 : decode cX4_count 28 = .ok (.getfield 299, 3) := dk_180 1 43 (dk_at dksX4_count_1 4 rfl rfl)
theorem dX4_count_31 : decode cX4_count 31 = .ok (.invokestatic 344, 3) := dk_184 1 88 (dk_at dksX4_count_1 7 rfl rfl)
theorem dX4_count_34 : decode cX4_count 34 = .ok (.goto 50, 3) := dk_167 0 50 (dk_at dksX4_count_1 10 rfl rfl)
theorem dX4_count_37 : decode cX4_count 37 = .ok (.iload_n 1, 1) := dk_27 (dk_at dksX4_count_1 13 rfl rfl)
theorem dX4_count_38 : decode cX4_count 38 = .ok (.bipush 7, 2) := dk_16 7 (dk_at dksX4_count_1 14 rfl rfl)
theorem dX4_count_40 : decode cX4_count 40 = .ok (.if_icmp .ne 13, 3) := dk_160 0 13 (dk_at dksX4_count_1 16 rfl rfl)
theorem dX4_count_43 : decode cX4_count 43 = .ok (.aload_n 0, 1) := dk_42 (dk_at dksX4_count_1 19 rfl rfl)
theorem dX4_count_44 : decode cX4_count 44 = .ok (.getfield 302, 3) := dk_180 1 46 (dk_at dksX4_count_1 20 rfl rfl)
theorem dX4_count_47 : decode cX4_count 47 = .ok (.invokestatic 344, 3) := dk_184 1 88 (dk_at dksX4_count_2 0 rfl rfl)
theorem dX4_count_50 : decode cX4_count 50 = .ok (.goto 34, 3) := dk_167 0 34 (dk_at dksX4_count_2 3 rfl rfl)
theorem dX4_count_53 : decode cX4_count 53 = .ok (.iload_n 1, 1) := dk_27 (dk_at dksX4_count_2 6 rfl rfl)
theorem dX4_count_54 : decode cX4_count 54 = .ok (.bipush 8, 2) := dk_16 8 (dk_at dksX4_count_2 7 rfl rfl)
theorem dX4_count_56 : decode cX4_count 56 = .ok (.if_icmp .ne 10, 3) := dk_160 0 10 (dk_at dksX4_count_2 9 rfl rfl)
theorem dX4_count_59 : decode cX4_count 59 = .ok (.aload_n 0, 1) := dk_42 (dk_at dksX4_count_2 12 rfl rfl)
theorem dX4_count_60 : decode cX4_count 60 = .ok (.getfield 7, 3) := dk_180 0 7 (dk_at dksX4_count_2 13 rfl rfl)
theorem dX4_count_63 : decode cX4_count 63 = .ok (.goto 21, 3) := dk_167 0 21 (dk_at dksX4_count_2 16 rfl rfl)
theorem dX4_count_66 : decode cX4_count 66 = .ok (.iload_n 1, 1) := dk_27 (dk_at dksX4_count_2 19 rfl rfl)
theorem dX4_count_67 : decode cX4_count 67 = .ok (.bipush 9, 2) := dk_16 9 (dk_at dksX4_count_2 20 rfl rfl)
theorem dX4_count_69 : decode cX4_count 69 = .ok (.if_icmp .ne 14, 3) := dk_160 0 14 (dk_at dksX4_count_3 0 rfl rfl)
theorem dX4_count_72 : decode cX4_count 72 = .ok (.aload_n 0, 1) := dk_42 (dk_at dksX4_count_3 3 rfl rfl)
theorem dX4_count_73 : decode cX4_count 73 = .ok (.getfield 41, 3) := dk_180 0 41 (dk_at dksX4_count_3 4 rfl rfl)
theorem dX4_count_76 : decode cX4_count 76 = .ok (.sipush 590, 3) := dk_17 2 78 (dk_at dksX4_count_3 7 rfl rfl)
theorem dX4_count_79 : decode cX4_count 79 = .ok (.iaload, 1) := dk_46 (dk_at dksX4_count_3 10 rfl rfl)
theorem dX4_count_80 : decode cX4_count 80 = .ok (.goto 4, 3) := dk_167 0 4 (dk_at dksX4_count_3 11 rfl rfl)
theorem dX4_count_83 : decode cX4_count 83 = .ok (.iconst (-1), 1) := dk_2 (dk_at dksX4_count_3 14 rfl rfl)
theorem dX4_count_84 : decode cX4_count 84 = .ok (.ireturn, 1) := dk_172 (dk_at dksX4_count_3 15 rfl rfl)
