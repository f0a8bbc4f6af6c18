set_option maxRecDepth 100000
def dkwX0_seat_0 : List UInt8 := [45, 3, 42, 27, 28, 182, 0, 7, 133, 80, 167, 0, 7, 58, 4, 4, 172, 3, 172]
abbrev dktX0_seat_0 : List UInt8 := dkwX0_seat_0 ++ []
theorem dksX0_seat_0 : cX0_seat.data.toList.drop 0 = dktX0_seat_0 := by decide +kernel
theorem dX0_seat_0 : decode cX0_seat 0 = .ok (.aload_n 3, 1) := dk_45 (dk_at dksX0_seat_0 0 rfl rfl)
theorem dX0_seat_1 : decode cX0_seat 1 = .ok (.iconst 0, 1) := dk_3 (dk_at dksX0_seat_0 1 rfl rfl)
theorem dX0_seat_2 : decode cX0_seat 2 = .ok (.aload_n 0, 1) := dk_42 (dk_at dksX0_seat_0 2 rfl rfl)
theorem dX0_seat_3 : decode cX0_seat 3 = .ok (.iload_n 1, 1) := dk_27 (dk_at dksX0_seat_0 3 rfl rfl)
theorem dX0_seat_4 : decode cX0_seat 4 = .ok (.iload_n 2, 1) := dk_28 (dk_at dksX0_seat_0 4 rfl rfl)
theorem dX0_seat_5 : decode cX0_seat 5 = .ok (.invokevirtual 7, 3) := dk_182 0 7 (dk_at dksX0_seat_0 5 rfl rfl)
theorem dX0_seat_8 : decode cX0_seat 8 = .ok (.i2l, 1) := dk_133 (dk_at dksX0_seat_0 8 rfl rfl)
theorem dX0_seat_9 : decode cX0_seat 9 = .ok (.lastore, 1) := dk_80 (dk_at dksX0_seat_0 9 rfl rfl)
theorem dX0_seat_10 : decode cX0_seat 10 = .ok (.goto 7, 3) := dk_167 0 7 (dk_at dksX0_seat_0 10 rfl rfl)
theorem dX0_seat_13 : decode cX0_seat 13 = .ok (.astore 4, 2) := dk_58 4 (dk_at dksX0_seat_0 13 rfl rfl)
theorem dX0_seat_15 : decode cX0_seat 15 = .ok (.iconst 1, 1) := dk_4 (dk_at dksX0_seat_0 15 rfl rfl)
theorem dX0_seat_16 : decode cX0_seat 16 = .ok (.ireturn, 1) := dk_172 (dk_at dksX0_seat_0 16 rfl rfl)
theorem dX0_seat_17 : decode cX0_seat 17 = .ok (.iconst 0, 1) := dk_3 (dk_at dksX0_seat_0 17 rfl rfl)
theorem dX0_seat_18 : decode cX0_seat 18 = .ok (.ireturn, 1) := dk_172 (dk_at dksX0_seat_0 18 rfl rfl)
def dkwX0_cue_0 : List UInt8 := [45, 3, 42, 27, 28, 182, 0, 15, 133, 80, 167, 0, 7, 58, 4, 4, 172, 3, 172]
abbrev dktX0_cue_0 : List UInt8 := dkwX0_cue_0 ++ []
theorem dksX0_cue_0 : cX0_cue.data.toList.drop 0 = dktX0_cue_0 := by decide +kernel
theorem dX0_cue_0 : decode cX0_cue 0 = .ok (.aload_n 3, 1) := dk_45 (dk_at dksX0_cue_0 0 rfl rfl)
theorem dX0_cue_1 : decode cX0_cue 1 = .ok (.iconst 0, 1) := dk_3 (dk_at dksX0_cue_0 1 rfl rfl)
theorem dX0_cue_2 : decode cX0_cue 2 = .ok (.aload_n 0, 1) := dk_42 (dk_at dksX0_cue_0 2 rfl rfl)
theorem dX0_cue_3 : decode cX0_cue 3 = .ok (.iload_n 1, 1) := dk_27 (dk_at dksX0_cue_0 3 rfl rfl)
theorem dX0_cue_4 : decode cX0_cue 4 = .ok (.iload_n 2, 1) := dk_28 (dk_at dksX0_cue_0 4 rfl rfl)
theorem dX0_cue_5 : decode cX0_cue 5 = .ok (.invokevirtual 15, 3) := dk_182 0 15 (dk_at dksX0_cue_0 5 rfl rfl)
theorem dX0_cue_8 : decode cX0_cue 8 = .ok (.i2l, 1) := dk_133 (dk_at dksX0_cue_0 8 rfl rfl)
theorem dX0_cue_9 : decode cX0_cue 9 = .ok (.lastore, 1) := dk_80 (dk_at dksX0_cue_0 9 rfl rfl)
theorem dX0_cue_10 : decode cX0_cue 10 = .ok (.goto 7, 3) := dk_167 0 7 (dk_at dksX0_cue_0 10 rfl rfl)
theorem dX0_cue_13 : decode cX0_cue 13 = .ok (.astore 4, 2) := dk_58 4 (dk_at dksX0_cue_0 13 rfl rfl)
theorem dX0_cue_15 : decode cX0_cue 15 = .ok (.iconst 1, 1) := dk_4 (dk_at dksX0_cue_0 15 rfl rfl)
theorem dX0_cue_16 : decode cX0_cue 16 = .ok (.ireturn, 1) := dk_172 (dk_at dksX0_cue_0 16 rfl rfl)
theorem dX0_cue_17 : decode cX0_cue 17 = .ok (.iconst 0, 1) := dk_3 (dk_at dksX0_cue_0 17 rfl rfl)
theorem dX0_cue_18 : decode cX0_cue 18 = .ok (.ireturn, 1) := dk_172 (dk_at dksX0_cue_0 18 rfl rfl)
def dkwX0_worthOf_0 : List UInt8 := [45, 3, 42, 27, 28, 182, 0, 18, 133, 80, 167, 0, 7, 58, 4, 4, 172, 3, 172]
abbrev dktX0_worthOf_0 : List UInt8 := dkwX0_worthOf_0 ++ []
theorem dksX0_worthOf_0 : cX0_worthOf.data.toList.drop 0 = dktX0_worthOf_0 := by decide +kernel
theorem dX0_worthOf_0 : decode cX0_worthOf 0 = .ok (.aload_n 3, 1) := dk_45 (dk_at dksX0_worthOf_0 0 rfl rfl)
theorem dX0_worthOf_1 : decode cX0_worthOf 1 = .ok (.iconst 0, 1) := dk_3 (dk_at dksX0_worthOf_0 1 rfl rfl)
theorem dX0_worthOf_2 : decode cX0_worthOf 2 = .ok (.aload_n 0, 1) := dk_42 (dk_at dksX0_worthOf_0 2 rfl rfl)
theorem dX0_worthOf_3 : decode cX0_worthOf 3 = .ok (.iload_n 1, 1) := dk_27 (dk_at dksX0_worthOf_0 3 rfl rfl)
theorem dX0_worthOf_4 : decode cX0_worthOf 4 = .ok (.iload_n 2, 1) := dk_28 (dk_at dksX0_worthOf_0 4 rfl rfl)
theorem dX0_worthOf_5 : decode cX0_worthOf 5 = .ok (.invokevirtual 18, 3) := dk_182 0 18 (dk_at dksX0_worthOf_0 5 rfl rfl)
theorem dX0_worthOf_8 : decode cX0_worthOf 8 = .ok (.i2l, 1) := dk_133 (dk_at dksX0_worthOf_0 8 rfl rfl)
theorem dX0_worthOf_9 : decode cX0_worthOf 9 = .ok (.lastore, 1) := dk_80 (dk_at dksX0_worthOf_0 9 rfl rfl)
theorem dX0_worthOf_10 : decode cX0_worthOf 10 = .ok (.goto 7, 3) := dk_167 0 7 (dk_at dksX0_worthOf_0 10 rfl rfl)
theorem dX0_worthOf_13 : decode cX0_worthOf 13 = .ok (.astore 4, 2) := dk_58 4 (dk_at dksX0_worthOf_0 13 rfl rfl)
theorem dX0_worthOf_15 : decode cX0_worthOf 15 = .ok (.iconst 1, 1) := dk_4 (dk_at dksX0_worthOf_0 15 rfl rfl)
theorem dX0_worthOf_16 : decode cX0_worthOf 16 = .ok (.ireturn, 1) := dk_172 (dk_at dksX0_worthOf_0 16 rfl rfl)
theorem dX0_worthOf_17 : decode cX0_worthOf 17 = .ok (.iconst 0, 1) := dk_3 (dk_at dksX0_worthOf_0 17 rfl rfl)
theorem dX0_worthOf_18 : decode cX0_worthOf 18 = .ok (.ireturn, 1) := dk_172 (dk_at dksX0_worthOf_0 18 rfl rfl)
def dkwX1_init_7 : List UInt8 := [181, 0, 85, 42, 187, 0, 23, 89, 183, 0, 25, 181, 0, 88, 177]
abbrev dktX1_init_7 : List UInt8 := dkwX1_init_7 ++ []
def dkwX1_init_6 : List UInt8 := [42, 2, 181, 0, 75, 42, 5, 189, 0, 16, 181, 0, 78, 42, 5, 188, 11, 181, 0, 82, 42, 5, 188, 11]
abbrev dktX1_init_6 : List UInt8 := dkwX1_init_6 ++ dktX1_init_7
def dkwX1_init_5 : List UInt8 := [42, 6, 188, 10, 89, 3, 2, 79, 89, 4, 2, 79, 89, 5, 2, 79, 181, 0, 69, 42, 2, 181, 0, 72]
abbrev dktX1_init_5 : List UInt8 := dkwX1_init_5 ++ dktX1_init_6
def dkwX1_init_4 : List UInt8 := [181, 0, 56, 42, 16, 8, 188, 11, 181, 0, 59, 42, 10, 181, 0, 62, 42, 16, 8, 188, 10, 181, 0, 66]
abbrev dktX1_init_4 : List UInt8 := dkwX1_init_4 ++ dktX1_init_5
def dkwX1_init_3 : List UInt8 := [181, 0, 44, 42, 2, 181, 0, 48, 42, 17, 1, 0, 188, 4, 181, 0, 52, 42, 17, 1, 0, 188, 10]
abbrev dktX1_init_3 : List UInt8 := dkwX1_init_3 ++ dktX1_init_4
def dkwX1_init_2 : List UInt8 := [187, 0, 30, 89, 183, 0, 32, 181, 0, 37, 42, 17, 9, 100, 188, 11, 181, 0, 40, 42, 16, 8, 188, 10]
abbrev dktX1_init_2 : List UInt8 := dkwX1_init_2 ++ dktX1_init_3
def dkwX1_init_1 : List UInt8 := [42, 187, 0, 23, 89, 183, 0, 25, 181, 0, 26, 42, 187, 0, 30, 89, 183, 0, 32, 181, 0, 33, 42]
abbrev dktX1_init_1 : List UInt8 := dkwX1_init_1 ++ dktX1_init_2
def dkwX1_init_0 : List UInt8 := [42, 183, 0, 7, 42, 17, 3, 172, 188, 8, 181, 0, 12, 42, 187, 0, 16, 89, 183, 0, 18, 181, 0, 19]
abbrev dktX1_init_0 : List UInt8 := dkwX1_init_0 ++ dktX1_init_1
theorem dksX1_init_0 : cX1_init.data.toList.drop 0 = dktX1_init_0 := by decide +kernel
theorem dksX1_init_1 : cX1_init.data.toList.drop 24 = dktX1_init_1 := dk_seg dksX1_init_0 24 rfl rfl
theorem dksX1_init_2 : cX1_init.data.toList.drop 47 = dktX1_init_2 := dk_seg dksX1_init_1 23 rfl rfl
theorem dksX1_init_3 : cX1_init.data.toList.drop 71 = dktX1_init_3 := dk_seg dksX1_init_2 24 rfl rfl
theorem dksX1_init_4 : cX1_init.data.toList.drop 94 = dktX1_init_4 := dk_seg dksX1_init_3 23 rfl rfl
theorem dksX1_init_5 : cX1_init.data.toList.drop 118 = dktX1_init_5 := dk_seg dksX1_init_4 24 rfl rfl
theorem dksX1_init_6 : cX1_init.data.toList.drop 142 = dktX1_init_6 := dk_seg dksX1_init_5 24 rfl rfl
theorem dksX1_init_7 : cX1_init.data.toList.drop 166 = dktX1_init_7 := dk_seg dksX1_init_6 24 rfl rfl
theorem dX1_init_0 : decode cX1_init 0 = .ok (.aload_n 0, 1) := dk_42 (dk_at dksX1_init_0 0 rfl rfl)
theorem dX1_init_1 : decode cX1_init 1 = .ok (.invokespecial 7, 3) := dk_183 0 7 (dk_at dksX1_init_0 1 rfl rfl)
theorem dX1_init_4 : decode cX1_init 4 = .ok (.aload_n 0, 1) := dk_42 (dk_at dksX1_init_0 4 rfl rfl)
theorem dX1_init_5 : decode cX1_init 5 = .ok (.sipush 940, 3) := dk_17 3 172 (dk_at dksX1_init_0 5 rfl rfl)
theorem dX1_init_8 : decode cX1_init 8 = .ok (.newarray .byte, 2) := dk_188_8 (dk_at dksX1_init_0 8 rfl rfl)
theorem dX1_init_10 : decode cX1_init 10 = .ok (.putfield 12, 3) := dk_181 0 12 (dk_at dksX1_init_0 10 rfl rfl)
theorem dX1_init_13 : decode cX1_init 13 = .ok (.aload_n 0, 1) := dk_42 (dk_at dksX1_init_0 13 rfl rfl)
theorem dX1_init_14 : decode cX1_init 14 = .ok (.new 16, 3) := dk_187 0 16 (dk_at dksX1_init_0 14 rfl rfl)
theorem dX1_init_17 : decode cX1_init 17 = .ok (.dup, 1) := dk_89 (dk_at dksX1_init_0 17 rfl rfl)
theorem dX1_init_18 : decode cX1_init 18 = .ok (.invokespecial 18, 3) := dk_183 0 18 (dk_at dksX1_init_0 18 rfl rfl)
theorem dX1_init_21 : decode cX1_init 21 = .ok (.putfield 19, 3) := dk_181 0 19 (dk_at dksX1_init_0 21 rfl rfl)
theorem dX1_init_24 : decode cX1_init 24 = .ok (.aload_n 0, 1) := dk_42 (dk_at dksX1_init_1 0 rfl rfl)
theorem dX1_init_25 : decode cX1_init 25 = .ok (.new 23, 3) := dk_187 0 23 (dk_at dksX1_init_1 1 rfl rfl)
theorem dX1_init_28 : decode cX1_init 28 = .ok (.dup, 1) := dk_89 (dk_at dksX1_init_1 4 rfl rfl)
theorem dX1_init_29 : decode cX1_init 29 = .ok (.invokespecial 25, 3) := dk_183 0 25 (dk_at dksX1_init_1 5 rfl rfl)
theorem dX1_init_32 : decode cX1_init 32 = .ok (.putfield 26, 3) := dk_181 0 26 (dk_at dksX1_init_1 8 rfl rfl)
theorem dX1_init_35 : decode cX1_init 35 = .ok (.aload_n 0, 1) := dk_42 (dk_at dksX1_init_1 11 rfl rfl)
theorem dX1_init_36 : decode cX1_init 36 = .ok (.new 30, 3) := dk_187 0 30 (dk_at dksX1_init_1 12 rfl rfl)
theorem dX1_init_39 : decode cX1_init 39 = .ok (.dup, 1) := dk_89 (dk_at dksX1_init_1 15 rfl rfl)
theorem dX1_init_40 : decode cX1_init 40 = .ok (.invokespecial 32, 3) := dk_183 0 32 (dk_at dksX1_init_1 16 rfl rfl)
theorem dX1_init_43 : decode cX1_init 43 = .ok (.putfield 33, 3) := dk_181 0 33 (dk_at dksX1_init_1 19 rfl rfl)
theorem dX1_init_46 : decode cX1_init 46 = .ok (.aload_n 0, 1) := dk_42 (dk_at dksX1_init_1 22 rfl rfl)
theorem dX1_init_47 : decode cX1_init 47 = .ok (.new 30, 3) := dk_187 0 30 (dk_at dksX1_init_2 0 rfl rfl)
theorem dX1_init_50 : decode cX1_init 50 = .ok (.dup, 1) := dk_89 (dk_at dksX1_init_2 3 rfl rfl)
theorem dX1_init_51 : decode cX1_init 51 = .ok (.invokespecial 32, 3) := dk_183 0 32 (dk_at dksX1_init_2 4 rfl rfl)
theorem dX1_init_54 : decode cX1_init 54 = .ok (.putfield 37, 3) := dk_181 0 37 (dk_at dksX1_init_2 7 rfl rfl)
theorem dX1_init_57 : decode cX1_init 57 = .ok (.aload_n 0, 1) := dk_42 (dk_at dksX1_init_2 10 rfl rfl)
theorem dX1_init_58 : decode cX1_init 58 = .ok (.sipush 2404, 3) := dk_17 9 100 (dk_at dksX1_init_2 11 rfl rfl)
theorem dX1_init_61 : decode cX1_init 61 = .ok (.newarray .long, 2) := dk_188_11 (dk_at dksX1_init_2 14 rfl rfl)
theorem dX1_init_63 : decode cX1_init 63 = .ok (.putfield 40, 3) := dk_181 0 40 (dk_at dksX1_init_2 16 rfl rfl)
theorem dX1_init_66 : decode cX1_init 66 = .ok (.aload_n 0, 1) := dk_42 (dk_at dksX1_init_2 19 rfl rfl)
theorem dX1_init_67 : decode cX1_init 67 = .ok (.bipush 8, 2) := dk_16 8 (dk_at dksX1_init_2 20 rfl rfl)
theorem dX1_init_69 : decode cX1_init 69 = .ok (.newarray .int, 2) := dk_188_10 (dk_at dksX1_init_2 22 rfl rfl)
theorem dX1_init_71 : decode cX1_init 71 = .ok (.putfield 44, 3) := dk_181 0 44 (dk_at dksX1_init_3 0 rfl rfl)
theorem dX1_init_74 : decode cX1_init 74 = .ok (.aload_n 0, 1) := dk_42 (dk_at dksX1_init_3 3 rfl rfl)
theorem dX1_init_75 : decode cX1_init 75 = .ok (.iconst (-1), 1) := dk_2 (dk_at dksX1_init_3 4 rfl rfl)
theorem dX1_init_76 : decode cX1_init 76 = .ok (.putfield 48, 3) := dk_181 0 48 (dk_at dksX1_init_3 5 rfl rfl)
theorem dX1_init_79 : decode cX1_init 79 = .ok (.aload_n 0, 1) := dk_42 (dk_at dksX1_init_3 8 rfl rfl)
theorem dX1_init_80 : decode cX1_init 80 = .ok (.sipush 256, 3) := dk_17 1 0 (dk_at dksX1_init_3 9 rfl rfl)
theorem dX1_init_83 : decode cX1_init 83 = .ok (.newarray .boolean, 2) := dk_188_4 (dk_at dksX1_init_3 12 rfl rfl)
theorem dX1_init_85 : decode cX1_init 85 = .ok (.putfield 52, 3) := dk_181 0 52 (dk_at dksX1_init_3 14 rfl rfl)
theorem dX1_init_88 : decode cX1_init 88 = .ok (.aload_n 0, 1) := dk_42 (dk_at dksX1_init_3 17 rfl rfl)
theorem dX1_init_89 : decode cX1_init 89 = .ok (.sipush 256, 3) := dk_17 1 0 (dk_at dksX1_init_3 18 rfl rfl)
theorem dX1_init_92 : decode cX1_init 92 = .ok (.newarray .int, 2) := dk_188_10 (dk_at dksX1_init_3 21 rfl rfl)
theorem dX1_init_94 : decode cX1_init 94 = .ok (.putfield 56, 3) := dk_181 0 56 (dk_at dksX1_init_4 0 rfl rfl)
theorem dX1_init_97 : decode cX1_init 97 = .ok (.aload_n 0, 1) := dk_42 (dk_at dksX1_init_4 3 rfl rfl)
theorem dX1_init_98 : decode cX1_init 98 = .ok (.bipush 8, 2) := dk_16 8 (dk_at dksX1_init_4 4 rfl rfl)
theorem dX1_init_100 : decode cX1_init 100 = .ok (.newarray .long, 2) := dk_188_11 (dk_at dksX1_init_4 6 rfl rfl)
theorem dX1_init_102 : decode cX1_init 102 = .ok (.putfield 59, 3) := dk_181 0 59 (dk_at dksX1_init_4 8 rfl rfl)
theorem dX1_init_105 : decode cX1_init 105 = .ok (.aload_n 0, 1) := dk_42 (dk_at dksX1_init_4 11 rfl rfl)
theorem dX1_init_106 : decode cX1_init 106 = .ok (.lconst 1, 1) := dk_10 (dk_at dksX1_init_4 12 rfl rfl)
theorem dX1_init_107 : decode cX1_init 107 = .ok (.putfield 62, 3) := dk_181 0 62 (dk_at dksX1_init_4 13 rfl rfl)
theorem dX1_init_110 : decode cX1_init 110 = .ok (.aload_n 0, 1) := dk_42 (dk_at dksX1_init_4 16 rfl rfl)
theorem dX1_init_111 : decode cX1_init 111 = .ok (.bipush 8, 2) := dk_16 8 (dk_at dksX1_init_4 17 rfl rfl)
theorem dX1_init_113 : decode cX1_init 113 = .ok (.newarray .int, 2) := dk_188_10 (dk_at dksX1_init_4 19 rfl rfl)
theorem dX1_init_115 : decode cX1_init 115 = .ok (.putfield 66, 3) := dk_181 0 66 (dk_at dksX1_init_4 21 rfl rfl)
theorem dX1_init_118 : decode cX1_init 118 = .ok (.aload_n 0, 1) := dk_42 (dk_at dksX1_init_5 0 rfl rfl)
theorem dX1_init_119 : decode cX1_init 119 = .ok (.iconst 3, 1) := dk_6 (dk_at dksX1_init_5 1 rfl rfl)
theorem dX1_init_120 : decode cX1_init 120 = .ok (.newarray .int, 2) := dk_188_10 (dk_at dksX1_init_5 2 rfl rfl)
theorem dX1_init_122 : decode cX1_init 122 = .ok (.dup, 1) := dk_89 (dk_at dksX1_init_5 4 rfl rfl)
theorem dX1_init_123 : decode cX1_init 123 = .ok (.iconst 0, 1) := dk_3 (dk_at dksX1_init_5 5 rfl rfl)
theorem dX1_init_124 : decode cX1_init 124 = .ok (.iconst (-1), 1) := dk_2 (dk_at dksX1_init_5 6 rfl rfl)
theorem dX1_init_125 : decode cX1_init 125 = .ok (.iastore, 1) := dk_79 (dk_at dksX1_init_5 7 rfl rfl)
theorem dX1_init_126 : decode cX1_init 126 = .ok (.dup, 1) := dk_89 (dk_at dksX1_init_5 8 rfl rfl)
theorem dX1_init_127 : decode cX1_init 127 = .ok (.iconst 1, 1) := dk_4 (dk_at dksX1_init_5 9 rfl rfl)
theorem dX1_init_128 : decode cX1_init 128 = .ok (.iconst (-1), 1) := dk_2 (dk_at dksX1_init_5 10 rfl rfl)
theorem dX1_init_129 : decode cX1_init 129 = .ok (.iastore, 1) := dk_79 (dk_at dksX1_init_5 11 rfl rfl)
theorem dX1_init_130 : decode cX1_init 130 = .ok (.dup, 1) := dk_89 (dk_at dksX1_init_5 12 rfl rfl)
theorem dX1_init_131 : decode cX1_init 131 = .ok (.iconst 2, 1) := dk_5 (dk_at dksX1_init_5 13 rfl rfl)
theorem dX1_init_132 : decode cX1_init 132 = .ok (.iconst (-1), 1) := dk_2 (dk_at dksX1_init_5 14 rfl rfl)
theorem dX1_init_133 : decode cX1_init 133 = .ok (.iastore, 1) := dk_79 (dk_at dksX1_init_5 15 rfl rfl)
theorem dX1_init_134 : decode cX1_init 134 = .ok (.putfield 69, 3) := dk_181 0 69 (dk_at dksX1_init_5 16 rfl rfl)
theorem dX1_init_137 : decode cX1_init 137 = .ok (.aload_n 0, 1) := dk_42 (dk_at dksX1_init_5 19 rfl rfl)
theorem dX1_init_138 : decode cX1_init 138 = .ok (.iconst (-1), 1) := dk_2 (dk_at dksX1_init_5 20 rfl rfl)
theorem dX1_init_139 : decode cX1_init 139 = .ok (.putfield 72, 3) := dk_181 0 72 (dk_at dksX1_init_5 21 rfl rfl)
theorem dX1_init_142 : decode cX1_init 142 = .ok (.aload_n 0, 1) := dk_42 (dk_at dksX1_init_6 0 rfl rfl)
theorem dX1_init_143 : decode cX1_init 143 = .ok (.iconst (-1), 1) := dk_2 (dk_at dksX1_init_6 1 rfl rfl)
theorem dX1_init_144 : decode cX1_init 144 = .ok (.putfield 75, 3) := dk_181 0 75 (dk_at dksX1_init_6 2 rfl rfl)
theorem dX1_init_147 : decode cX1_init 147 = .ok (.aload_n 0, 1) := dk_42 (dk_at dksX1_init_6 5 rfl rfl)
theorem dX1_init_148 : decode cX1_init 148 = .ok (.iconst 2, 1) := dk_5 (dk_at dksX1_init_6 6 rfl rfl)
theorem dX1_init_149 : decode cX1_init 149 = .ok (.anewarray 16, 3) := dk_189 0 16 (dk_at dksX1_init_6 7 rfl rfl)
theorem dX1_init_152 : decode cX1_init 152 = .ok (.putfield 78, 3) := dk_181 0 78 (dk_at dksX1_init_6 10 rfl rfl)
theorem dX1_init_155 : decode cX1_init 155 = .ok (.aload_n 0, 1) := dk_42 (dk_at dksX1_init_6 13 rfl rfl)
theorem dX1_init_156 : decode cX1_init 156 = .ok (.iconst 2, 1) := dk_5 (dk_at dksX1_init_6 14 rfl rfl)
theorem dX1_init_157 : decode cX1_init 157 = .ok (.newarray .long, 2) := dk_188_11 (dk_at dksX1_init_6 15 rfl rfl)
theorem dX1_init_159 : decode cX1_init 159 = .ok (.putfield 82, 3) := dk_181 0 82 (dk_at dksX1_init_6 17 rfl rfl)
theorem dX1_init_162 : decode cX1_init 162 = .ok (.aload_n 0, 1) := dk_42 (dk_at dksX1_init_6 20 rfl rfl)
theorem dX1_init_163 : decode cX1_init 163 = .ok (.iconst 2, 1) := dk_5 (dk_at dksX1_init_6 21 rfl rfl)
theorem dX1_init_164 : decode cX1_init 164 = .ok (.newarray .long, 2) := dk_188_11 (dk_at dksX1_init_6 22 rfl rfl)
theorem dX1_init_166 : decode cX1_init 166 = .ok (.putfield 85, 3) := dk_181 0 85 (dk_at dksX1_init_7 0 rfl rfl)
theorem dX1_init_169 : decode cX1_init 169 = .ok (.aload_n 0, 1) := dk_42 (dk_at dksX1_init_7 3 rfl rfl)
theorem dX1_init_170 : decode cX1_init 170 = .ok (.new 23, 3) := dk_187 0 23 (dk_at dksX1_init_7 4 rfl rfl)
theorem dX1_init_173 : decode cX1_init 173 = .ok (.dup, 1) := dk_89 (dk_at dksX1_init_7 7 rfl rfl)
theorem dX1_init_174 : decode cX1_init 174 = .ok (.invokespecial 25, 3) := dk_183 0 25 (dk_at dksX1_init_7 8 rfl rfl)
theorem dX1_init_177 : decode cX1_init 177 = .ok (.putfield 88, 3) := dk_181 0 88 (dk_at dksX1_init_7 11 rfl rfl)
theorem dX1_init_180 : decode cX1_init 180 = .ok (.return_, 1) := dk_177 (dk_at dksX1_init_7 14 rfl rfl)
def dkwX1_feed_2 : List UInt8 := [172]
abbrev dktX1_feed_2 : List UInt8 := dkwX1_feed_2 ++ []
def dkwX1_feed_1 : List UInt8 := [182, 0, 94, 42, 29, 182, 0, 94, 42, 21, 4, 182, 0, 94, 42, 21, 5, 182, 0, 94, 42, 180, 0, 91]
abbrev dktX1_feed_1 : List UInt8 := dkwX1_feed_1 ++ dktX1_feed_2
def dkwX1_feed_0 : List UInt8 := [42, 180, 0, 91, 16, 20, 96, 17, 3, 172, 164, 0, 5, 2, 172, 42, 27, 182, 0, 94, 42, 28]
abbrev dktX1_feed_0 : List UInt8 := dkwX1_feed_0 ++ dktX1_feed_1
theorem dksX1_feed_0 : cX1_feed.data.toList.drop 0 = dktX1_feed_0 := by decide +kernel
theorem dksX1_feed_1 : cX1_feed.data.toList.drop 22 = dktX1_feed_1 := dk_seg dksX1_feed_0 22 rfl rfl
theorem dksX1_feed_2 : cX1_feed.data.toList.drop 46 = dktX1_feed_2 := dk_seg dksX1_feed_1 24 rfl rfl
theorem dX1_feed_0 : decode cX1_feed 0 = .ok (.aload_n 0, 1) := dk_42 (dk_at dksX1_feed_0 0 rfl rfl)
theorem dX1_feed_1 : decode cX1_feed 1 = .ok (.getfield 91, 3) := dk_180 0 91 (dk_at dksX1_feed_0 1 rfl rfl)
theorem dX1_feed_4 : decode cX1_feed 4 = .ok (.bipush 20, 2) := dk_16 20 (dk_at dksX1_feed_0 4 rfl rfl)
theorem dX1_feed_6 : decode cX1_feed 6 = .ok (.iadd, 1) := dk_96 (dk_at dksX1_feed_0 6 rfl rfl)
theorem dX1_feed_7 : decode cX1_feed 7 = .ok (.sipush 940, 3) := dk_17 3 172 (dk_at dksX1_feed_0 7 rfl rfl)
theorem dX1_feed_10 : decode cX1_feed 10 = .ok (.if_icmp .le 5, 3) := dk_164 0 5 (dk_at dksX1_feed_0 10 rfl rfl)
theorem dX1_feed_13 : decode cX1_feed 13 = .ok (.iconst (-1), 1) := dk_2 (dk_at dksX1_feed_0 13 rfl rfl)
theorem dX1_feed_14 : decode cX1_feed 14 = .ok (.ireturn, 1) := dk_172 (dk_at dksX1_feed_0 14 rfl rfl)
theorem dX1_feed_15 : decode cX1_feed 15 = .ok (.aload_n 0, 1) := dk_42 (dk_at dksX1_feed_0 15 rfl rfl)
theorem dX1_feed_16 : decode cX1_feed 16 = .ok (.iload_n 1, 1) := dk_27 (dk_at dksX1_feed_0 16 rfl rfl)
theorem dX1_feed_17 : decode cX1_feed 17 = .ok (.invokevirtual 94, 3) := dk_182 0 94 (dk_at dksX1_feed_0 17 rfl rfl)
theorem dX1_feed_20 : decode cX1_feed 20 = .ok (.aload_n 0, 1) := dk_42 (dk_at dksX1_feed_0 20 rfl rfl)
theorem dX1_feed_21 : decode cX1_feed 21 = .ok (.iload_n 2, 1) := dk_28 (dk_at dksX1_feed_0 21 rfl rfl)
theorem dX1_feed_22 : decode cX1_feed 22 = .ok (.invokevirtual 94, 3) := dk_182 0 94 (dk_at dksX1_feed_1 0 rfl rfl)
theorem dX1_feed_25 : decode cX1_feed 25 = .ok (.aload_n 0, 1) := dk_42 (dk_at dksX1_feed_1 3 rfl rfl)
theorem dX1_feed_26 : decode cX1_feed 26 = .ok (.iload_n 3, 1) := dk_29 (dk_at dksX1_feed_1 4 rfl rfl)
theorem dX1_feed_27 : decode cX1_feed 27 = .ok (.invokevirtual 94, 3) := dk_182 0 94 (dk_at dksX1_feed_1 5 rfl rfl)
theorem dX1_feed_30 : decode cX1_feed 30 = .ok (.aload_n 0, 1) := dk_42 (dk_at dksX1_feed_1 8 rfl rfl)
theorem dX1_feed_31 : decode cX1_feed 31 = .ok (.iload 4, 2) := dk_21 4 (dk_at dksX1_feed_1 9 rfl rfl)
theorem dX1_feed_33 : decode cX1_feed 33 = .ok (.invokevirtual 94, 3) := dk_182 0 94 (dk_at dksX1_feed_1 11 rfl rfl)
theorem dX1_feed_36 : decode cX1_feed 36 = .ok (.aload_n 0, 1) := dk_42 (dk_at dksX1_feed_1 14 rfl rfl)
theorem dX1_feed_37 : decode cX1_feed 37 = .ok (.iload 5, 2) := dk_21 5 (dk_at dksX1_feed_1 15 rfl rfl)
theorem dX1_feed_39 : decode cX1_feed 39 = .ok (.invokevirtual 94, 3) := dk_182 0 94 (dk_at dksX1_feed_1 17 rfl rfl)
theorem dX1_feed_42 : decode cX1_feed 42 = .ok (.aload_n 0, 1) := dk_42 (dk_at dksX1_feed_1 20 rfl rfl)
theorem dX1_feed_43 : decode cX1_feed 43 = .ok (.getfield 91, 3) := dk_180 0 91 (dk_at dksX1_feed_1 21 rfl rfl)
theorem dX1_feed_46 : decode cX1_feed 46 = .ok (.ireturn, 1) := dk_172 (dk_at dksX1_feed_2 0 rfl rfl)
def dkwX1_come_1 : List UInt8 := [180, 0, 91, 4, 96, 181, 0, 91, 132, 2, 248, 167, 255, 226, 177]
abbrev dktX1_come_1 : List UInt8 := dkwX1_come_1 ++ []
def dkwX1_come_0 : List UInt8 := [16, 24, 61, 28, 155, 0, 32, 42, 180, 0, 12, 42, 180, 0, 91, 27, 28, 122, 145, 84, 42, 89]
abbrev dktX1_come_0 : List UInt8 := dkwX1_come_0 ++ dktX1_come_1
theorem dksX1_come_0 : cX1_come.data.toList.drop 0 = dktX1_come_0 := by decide +kernel
theorem dksX1_come_1 : cX1_come.data.toList.drop 22 = dktX1_come_1 := dk_seg dksX1_come_0 22 rfl rfl
theorem dX1_come_0 : decode cX1_come 0 = .ok (.bipush 24, 2) := dk_16 24 (dk_at dksX1_come_0 0 rfl rfl)
theorem dX1_come_2 : decode cX1_come 2 = .ok (.istore_n 2, 1) := dk_61 (dk_at dksX1_come_0 2 rfl rfl)
theorem dX1_come_3 : decode cX1_come 3 = .ok (.iload_n 2, 1) := dk_28 (dk_at dksX1_come_0 3 rfl rfl)
theorem dX1_come_4 : decode cX1_come 4 = .ok (.ifCond .lt 32, 3) := dk_155 0 32 (dk_at dksX1_come_0 4 rfl rfl)
theorem dX1_come_7 : decode cX1_come 7 = .ok (.aload_n 0, 1) := dk_42 (dk_at dksX1_come_0 7 rfl rfl)
theorem dX1_come_8 : decode cX1_come 8 = .ok (.getfield 12, 3) := dk_180 0 12 (dk_at dksX1_come_0 8 rfl rfl)
theorem dX1_come_11 : decode cX1_come 11 = .ok (.aload_n 0, 1) := dk_42 (dk_at dksX1_come_0 11 rfl rfl)
theorem dX1_come_12 : decode cX1_come 12 = .ok (.getfield 91, 3) := dk_180 0 91 (dk_at dksX1_come_0 12 rfl rfl)
theorem dX1_come_15 : decode cX1_come 15 = .ok (.iload_n 1, 1) := dk_27 (dk_at dksX1_come_0 15 rfl rfl)
theorem dX1_come_16 : decode cX1_come 16 = .ok (.iload_n 2, 1) := dk_28 (dk_at dksX1_come_0 16 rfl rfl)
theorem dX1_come_17 : decode cX1_come 17 = .ok (.ishr, 1) := dk_122 (dk_at dksX1_come_0 17 rfl rfl)
theorem dX1_come_18 : decode cX1_come 18 = .ok (.i2b, 1) := dk_145 (dk_at dksX1_come_0 18 rfl rfl)
theorem dX1_come_19 : decode cX1_come 19 = .ok (.bastore, 1) := dk_84 (dk_at dksX1_come_0 19 rfl rfl)
theorem dX1_come_20 : decode cX1_come 20 = .ok (.aload_n 0, 1) := dk_42 (dk_at dksX1_come_0 20 rfl rfl)
theorem dX1_come_21 : decode cX1_come 21 = .ok (.dup, 1) := dk_89 (dk_at dksX1_come_0 21 rfl rfl)
theorem dX1_come_22 : decode cX1_come 22 = .ok (.getfield 91, 3) := dk_180 0 91 (dk_at dksX1_come_1 0 rfl rfl)
theorem dX1_come_25 : decode cX1_come 25 = .ok (.iconst 1, 1) := dk_4 (dk_at dksX1_come_1 3 rfl rfl)
theorem dX1_come_26 : decode cX1_come 26 = .ok (.iadd, 1) := dk_96 (dk_at dksX1_come_1 4 rfl rfl)
theorem dX1_come_27 : decode cX1_come 27 = .ok (.putfield 91, 3) := dk_181 0 91 (dk_at dksX1_come_1 5 rfl rfl)
theorem dX1_come_30 : decode cX1_come 30 = .ok (.iinc 2 (-8), 3) := dk_132 2 248 (dk_at dksX1_come_1 8 rfl rfl)
theorem dX1_come_33 : decode cX1_come 33 = .ok (.goto (-30), 3) := dk_167 255 226 (dk_at dksX1_come_1 11 rfl rfl)
theorem dX1_come_36 : decode cX1_come 36 = .ok (.return_, 1) := dk_177 (dk_at dksX1_come_1 14 rfl rfl)
def dkwX1_end_0 : List UInt8 := [27, 155, 0, 11, 27, 42, 180, 0, 91, 164, 0, 5, 3, 172, 42, 27, 181, 0, 91, 4, 172]
abbrev dktX1_end_0 : List UInt8 := dkwX1_end_0 ++ []
theorem dksX1_end_0 : cX1_end.data.toList.drop 0 = dktX1_end_0 := by decide +kernel
theorem dX1_end_0 : decode cX1_end 0 = .ok (.iload_n 1, 1) := dk_27 (dk_at dksX1_end_0 0 rfl rfl)
theorem dX1_end_1 : decode cX1_end 1 = .ok (.ifCond .lt 11, 3) := dk_155 0 11 (dk_at dksX1_end_0 1 rfl rfl)
theorem dX1_end_4 : decode cX1_end 4 = .ok (.iload_n 1, 1) := dk_27 (dk_at dksX1_end_0 4 rfl rfl)
theorem dX1_end_5 : decode cX1_end 5 = .ok (.aload_n 0, 1) := dk_42 (dk_at dksX1_end_0 5 rfl rfl)
theorem dX1_end_6 : decode cX1_end 6 = .ok (.getfield 91, 3) := dk_180 0 91 (dk_at dksX1_end_0 6 rfl rfl)
theorem dX1_end_9 : decode cX1_end 9 = .ok (.if_icmp .le 5, 3) := dk_164 0 5 (dk_at dksX1_end_0 9 rfl rfl)
theorem dX1_end_12 : decode cX1_end 12 = .ok (.iconst 0, 1) := dk_3 (dk_at dksX1_end_0 12 rfl rfl)
theorem dX1_end_13 : decode cX1_end 13 = .ok (.ireturn, 1) := dk_172 (dk_at dksX1_end_0 13 rfl rfl)
theorem dX1_end_14 : decode cX1_end 14 = .ok (.aload_n 0, 1) := dk_42 (dk_at dksX1_end_0 14 rfl rfl)
theorem dX1_end_15 : decode cX1_end 15 = .ok (.iload_n 1, 1) := dk_27 (dk_at dksX1_end_0 15 rfl rfl)
theorem dX1_end_16 : decode cX1_end 16 = .ok (.putfield 91, 3) := dk_181 0 91 (dk_at dksX1_end_0 16 rfl rfl)
theorem dX1_end_19 : decode cX1_end 19 = .ok (.iconst 1, 1) := dk_4 (dk_at dksX1_end_0 19 rfl rfl)
theorem dX1_end_20 : decode cX1_end 20 = .ok (.ireturn, 1) := dk_172 (dk_at dksX1_end_0 20 rfl rfl)
def dkwX1_house_3 : List UInt8 := [180, 0, 128, 100, 172]
abbrev dktX1_house_3 : List UInt8 := dkwX1_house_3 ++ []
def dkwX1_house_2 : List UInt8 := [181, 0, 26, 42, 180, 0, 19, 180, 0, 120, 172, 77, 42, 44, 180, 0, 125, 181, 0, 102, 2, 44]
abbrev dktX1_house_2 : List UInt8 := dkwX1_house_2 ++ dktX1_house_3
def dkwX1_house_1 : List UInt8 := [182, 0, 110, 181, 0, 19, 42, 9, 181, 0, 114, 42, 9, 181, 0, 117, 42, 187, 0, 23, 89, 183, 0, 25]
abbrev dktX1_house_1 : List UInt8 := dkwX1_house_1 ++ dktX1_house_2
def dkwX1_house_0 : List UInt8 := [42, 182, 0, 98, 60, 42, 3, 181, 0, 102, 42, 187, 0, 105, 89, 42, 180, 0, 12, 27, 183, 0, 107]
abbrev dktX1_house_0 : List UInt8 := dkwX1_house_0 ++ dktX1_house_1
theorem dksX1_house_0 : cX1_house.data.toList.drop 0 = dktX1_house_0 := by decide +kernel
theorem dksX1_house_1 : cX1_house.data.toList.drop 23 = dktX1_house_1 := dk_seg dksX1_house_0 23 rfl rfl
theorem dksX1_house_2 : cX1_house.data.toList.drop 47 = dktX1_house_2 := dk_seg dksX1_house_1 24 rfl rfl
theorem dksX1_house_3 : cX1_house.data.toList.drop 69 = dktX1_house_3 := dk_seg dksX1_house_2 22 rfl rfl
theorem dX1_house_0 : decode cX1_house 0 = .ok (.aload_n 0, 1) := dk_42 (dk_at dksX1_house_0 0 rfl rfl)
theorem dX1_house_1 : decode cX1_house 1 = .ok (.invokevirtual 98, 3) := dk_182 0 98 (dk_at dksX1_house_0 1 rfl rfl)
theorem dX1_house_4 : decode cX1_house 4 = .ok (.istore_n 1, 1) := dk_60 (dk_at dksX1_house_0 4 rfl rfl)
theorem dX1_house_5 : decode cX1_house 5 = .ok (.aload_n 0, 1) := dk_42 (dk_at dksX1_house_0 5 rfl rfl)
theorem dX1_house_6 : decode cX1_house 6 = .ok (.iconst 0, 1) := dk_3 (dk_at dksX1_house_0 6 rfl rfl)
theorem dX1_house_7 : decode cX1_house 7 = .ok (.putfield 102, 3) := dk_181 0 102 (dk_at dksX1_house_0 7 rfl rfl)
theorem dX1_house_10 : decode cX1_house 10 = .ok (.aload_n 0, 1) := dk_42 (dk_at dksX1_house_0 10 rfl rfl)
theorem dX1_house_11 : decode cX1_house 11 = .ok (.new 105, 3) := dk_187 0 105 (dk_at dksX1_house_0 11 rfl rfl)
theorem dX1_house_14 : decode cX1_house 14 = .ok (.dup, 1) := dk_89 (dk_at dksX1_house_0 14 rfl rfl)
theorem dX1_house_15 : decode cX1_house 15 = .ok (.aload_n 0, 1) := dk_42 (dk_at dksX1_house_0 15 rfl rfl)
theorem dX1_house_16 : decode cX1_house 16 = .ok (.getfield 12, 3) := dk_180 0 12 (dk_at dksX1_house_0 16 rfl rfl)
theorem dX1_house_19 : decode cX1_house 19 = .ok (.iload_n 1, 1) := dk_27 (dk_at dksX1_house_0 19 rfl rfl)
theorem dX1_house_20 : decode cX1_house 20 = .ok (.invokespecial 107, 3) := dk_183 0 107 (dk_at dksX1_house_0 20 rfl rfl)
theorem dX1_house_23 : decode cX1_house 23 = .ok (.invokevirtual 110, 3) := dk_182 0 110 (dk_at dksX1_house_1 0 rfl rfl)
theorem dX1_house_26 : decode cX1_house 26 = .ok (.putfield 19, 3) := dk_181 0 19 (dk_at dksX1_house_1 3 rfl rfl)
theorem dX1_house_29 : decode cX1_house 29 = .ok (.aload_n 0, 1) := dk_42 (dk_at dksX1_house_1 6 rfl rfl)
theorem dX1_house_30 : decode cX1_house 30 = .ok (.lconst 0, 1) := dk_9 (dk_at dksX1_house_1 7 rfl rfl)
theorem dX1_house_31 : decode cX1_house 31 = .ok (.putfield 114, 3) := dk_181 0 114 (dk_at dksX1_house_1 8 rfl rfl)
theorem dX1_house_34 : decode cX1_house 34 = .ok (.aload_n 0, 1) := dk_42 (dk_at dksX1_house_1 11 rfl rfl)
theorem dX1_house_35 : decode cX1_house 35 = .ok (.lconst 0, 1) := dk_9 (dk_at dksX1_house_1 12 rfl rfl)
theorem dX1_house_36 : decode cX1_house 36 = .ok (.putfield 117, 3) := dk_181 0 117 (dk_at dksX1_house_1 13 rfl rfl)
theorem dX1_house_39 : decode cX1_house 39 = .ok (.aload_n 0, 1) := dk_42 (dk_at dksX1_house_1 16 rfl rfl)
theorem dX1_house_40 : decode cX1_house 40 = .ok (.new 23, 3) := dk_187 0 23 (dk_at dksX1_house_1 17 rfl rfl)
theorem dX1_house_43 : decode cX1_house 43 = .ok (.dup, 1) := dk_89 (dk_at dksX1_house_1 20 rfl rfl)
theorem dX1_house_44 : decode cX1_house 44 = .ok (.invokespecial 25, 3) := dk_183 0 25 (dk_at dksX1_house_1 21 rfl rfl)
theorem dX1_house_47 : decode cX1_house 47 = .ok (.putfield 26, 3) := dk_181 0 26 (dk_at dksX1_house_2 0 rfl rfl)
theorem dX1_house_50 : decode cX1_house 50 = .ok (.aload_n 0, 1) := dk_42 (dk_at dksX1_house_2 3 rfl rfl)
theorem dX1_house_51 : decode cX1_house 51 = .ok (.getfield 19, 3) := dk_180 0 19 (dk_at dksX1_house_2 4 rfl rfl)
theorem dX1_house_54 : decode cX1_house 54 = .ok (.getfield 120, 3) := dk_180 0 120 (dk_at dksX1_house_2 7 rfl rfl)
theorem dX1_house_57 : decode cX1_house 57 = .ok (.ireturn, 1) := dk_172 (dk_at dksX1_house_2 10 rfl rfl)
theorem dX1_house_58 : decode cX1_house 58 = .ok (.astore_n 2, 1) := dk_77 (dk_at dksX1_house_2 11 rfl rfl)
theorem dX1_house_59 : decode cX1_house 59 = .ok (.aload_n 0, 1) := dk_42 (dk_at dksX1_house_2 12 rfl rfl)
theorem dX1_house_60 : decode cX1_house 60 = .ok (.aload_n 2, 1) := dk_44 (dk_at dksX1_house_2 13 rfl rfl)
theorem dX1_house_61 : decode cX1_house 61 = .ok (.getfield 125, 3) := dk_180 0 125 (dk_at dksX1_house_2 14 rfl rfl)
theorem dX1_house_64 : decode cX1_house 64 = .ok (.putfield 102, 3) := dk_181 0 102 (dk_at dksX1_house_2 17 rfl rfl)
theorem dX1_house_67 : decode cX1_house 67 = .ok (.iconst (-1), 1) := dk_2 (dk_at dksX1_house_2 20 rfl rfl)
theorem dX1_house_68 : decode cX1_house 68 = .ok (.aload_n 2, 1) := dk_44 (dk_at dksX1_house_2 21 rfl rfl)
theorem dX1_house_69 : decode cX1_house 69 = .ok (.getfield 128, 3) := dk_180 0 128 (dk_at dksX1_house_3 0 rfl rfl)
theorem dX1_house_72 : decode cX1_house 72 = .ok (.isub, 1) := dk_100 (dk_at dksX1_house_3 3 rfl rfl)
theorem dX1_house_73 : decode cX1_house 73 = .ok (.ireturn, 1) := dk_172 (dk_at dksX1_house_3 4 rfl rfl)
def dkwX1_take_0 : List UInt8 := [42, 180, 0, 91, 60, 42, 3, 181, 0, 91, 27, 172]
abbrev dktX1_take_0 : List UInt8 := dkwX1_take_0 ++ []
theorem dksX1_take_0 : cX1_take.data.toList.drop 0 = dktX1_take_0 := by decide +kernel
theorem dX1_take_0 : decode cX1_take 0 = .ok (.aload_n 0, 1) := dk_42 (dk_at dksX1_take_0 0 rfl rfl)
theorem dX1_take_1 : decode cX1_take 1 = .ok (.getfield 91, 3) := dk_180 0 91 (dk_at dksX1_take_0 1 rfl rfl)
theorem dX1_take_4 : decode cX1_take 4 = .ok (.istore_n 1, 1) := dk_60 (dk_at dksX1_take_0 4 rfl rfl)
theorem dX1_take_5 : decode cX1_take 5 = .ok (.aload_n 0, 1) := dk_42 (dk_at dksX1_take_0 5 rfl rfl)
theorem dX1_take_6 : decode cX1_take 6 = .ok (.iconst 0, 1) := dk_3 (dk_at dksX1_take_0 6 rfl rfl)
theorem dX1_take_7 : decode cX1_take 7 = .ok (.putfield 91, 3) := dk_181 0 91 (dk_at dksX1_take_0 7 rfl rfl)
theorem dX1_take_10 : decode cX1_take 10 = .ok (.iload_n 1, 1) := dk_27 (dk_at dksX1_take_0 10 rfl rfl)
theorem dX1_take_11 : decode cX1_take 11 = .ok (.ireturn, 1) := dk_172 (dk_at dksX1_take_0 11 rfl rfl)
def dkwX1_isIn_0 : List UInt8 := [26, 27, 161, 0, 12, 26, 28, 163, 0, 7, 4, 167, 0, 4, 3, 172]
abbrev dktX1_isIn_0 : List UInt8 := dkwX1_isIn_0 ++ []
theorem dksX1_isIn_0 : cX1_isIn.data.toList.drop 0 = dktX1_isIn_0 := by decide +kernel
theorem dX1_isIn_0 : decode cX1_isIn 0 = .ok (.iload_n 0, 1) := dk_26 (dk_at dksX1_isIn_0 0 rfl rfl)
theorem dX1_isIn_1 : decode cX1_isIn 1 = .ok (.iload_n 1, 1) := dk_27 (dk_at dksX1_isIn_0 1 rfl rfl)
theorem dX1_isIn_2 : decode cX1_isIn 2 = .ok (.if_icmp .lt 12, 3) := dk_161 0 12 (dk_at dksX1_isIn_0 2 rfl rfl)
theorem dX1_isIn_5 : decode cX1_isIn 5 = .ok (.iload_n 0, 1) := dk_26 (dk_at dksX1_isIn_0 5 rfl rfl)
theorem dX1_isIn_6 : decode cX1_isIn 6 = .ok (.iload_n 2, 1) := dk_28 (dk_at dksX1_isIn_0 6 rfl rfl)
theorem dX1_isIn_7 : decode cX1_isIn 7 = .ok (.if_icmp .gt 7, 3) := dk_163 0 7 (dk_at dksX1_isIn_0 7 rfl rfl)
theorem dX1_isIn_10 : decode cX1_isIn 10 = .ok (.iconst 1, 1) := dk_4 (dk_at dksX1_isIn_0 10 rfl rfl)
theorem dX1_isIn_11 : decode cX1_isIn 11 = .ok (.goto 4, 3) := dk_167 0 4 (dk_at dksX1_isIn_0 11 rfl rfl)
theorem dX1_isIn_14 : decode cX1_isIn 14 = .ok (.iconst 0, 1) := dk_3 (dk_at dksX1_isIn_0 14 rfl rfl)
theorem dX1_isIn_15 : decode cX1_isIn 15 = .ok (.ireturn, 1) := dk_172 (dk_at dksX1_isIn_0 15 rfl rfl)
def dkwX1_has_0 : List UInt8 := [26, 27, 122, 4, 126, 4, 160, 0, 7, 4, 167, 0, 4, 3, 172]
abbrev dktX1_has_0 : List UInt8 := dkwX1_has_0 ++ []
theorem dksX1_has_0 : cX1_has.data.toList.drop 0 = dktX1_has_0 := by decide +kernel
theorem dX1_has_0 : decode cX1_has 0 = .ok (.iload_n 0, 1) := dk_26 (dk_at dksX1_has_0 0 rfl rfl)
theorem dX1_has_1 : decode cX1_has 1 = .ok (.iload_n 1, 1) := dk_27 (dk_at dksX1_has_0 1 rfl rfl)
theorem dX1_has_2 : decode cX1_has 2 = .ok (.ishr, 1) := dk_122 (dk_at dksX1_has_0 2 rfl rfl)
theorem dX1_has_3 : decode cX1_has 3 = .ok (.iconst 1, 1) := dk_4 (dk_at dksX1_has_0 3 rfl rfl)
theorem dX1_has_4 : decode cX1_has 4 = .ok (.iand, 1) := dk_126 (dk_at dksX1_has_0 4 rfl rfl)
theorem dX1_has_5 : decode cX1_has 5 = .ok (.iconst 1, 1) := dk_4 (dk_at dksX1_has_0 5 rfl rfl)
theorem dX1_has_6 : decode cX1_has 6 = .ok (.if_icmp .ne 7, 3) := dk_160 0 7 (dk_at dksX1_has_0 6 rfl rfl)
theorem dX1_has_9 : decode cX1_has 9 = .ok (.iconst 1, 1) := dk_4 (dk_at dksX1_has_0 9 rfl rfl)
theorem dX1_has_10 : decode cX1_has 10 = .ok (.goto 4, 3) := dk_167 0 4 (dk_at dksX1_has_0 10 rfl rfl)
theorem dX1_has_13 : decode cX1_has 13 = .ok (.iconst 0, 1) := dk_3 (dk_at dksX1_has_0 13 rfl rfl)
theorem dX1_has_14 : decode cX1_has 14 = .ok (.ireturn, 1) := dk_172 (dk_at dksX1_has_0 14 rfl rfl)
theorem dX1_fault_0 : decode cX1_fault 0 = .ok (.aload_n 0, 1) := by decide +kernel
theorem dX1_fault_1 : decode cX1_fault 1 = .ok (.getfield 102, 3) := by decide +kernel
theorem dX1_fault_4 : decode cX1_fault 4 = .ok (.ireturn, 1) := by decide +kernel
def dkwX1_law_2 : List UInt8 := [199, 0, 7, 2, 167, 0, 17, 42, 180, 0, 19, 180, 0, 166, 16, 6, 28, 104, 27, 96, 46, 172]
abbrev dktX1_law_2 : List UInt8 := dkwX1_law_2 ++ []
def dkwX1_law_1 : List UInt8 := [42, 180, 0, 19, 180, 0, 159, 27, 50, 167, 0, 12, 42, 180, 0, 19, 180, 0, 163, 27, 50, 78, 45]
abbrev dktX1_law_1 : List UInt8 := dkwX1_law_1 ++ dktX1_law_2
def dkwX1_law_0 : List UInt8 := [27, 3, 8, 184, 0, 135, 153, 0, 12, 28, 3, 4, 184, 0, 135, 154, 0, 5, 2, 172, 28, 154, 0, 15]
abbrev dktX1_law_0 : List UInt8 := dkwX1_law_0 ++ dktX1_law_1
theorem dksX1_law_0 : cX1_law.data.toList.drop 0 = dktX1_law_0 := by decide +kernel
theorem dksX1_law_1 : cX1_law.data.toList.drop 24 = dktX1_law_1 := dk_seg dksX1_law_0 24 rfl rfl
theorem dksX1_law_2 : cX1_law.data.toList.drop 47 = dktX1_law_2 := dk_seg dksX1_law_1 23 rfl rfl
theorem dX1_law_0 : decode cX1_law 0 = .ok (.iload_n 1, 1) := dk_27 (dk_at dksX1_law_0 0 rfl rfl)
theorem dX1_law_1 : decode cX1_law 1 = .ok (.iconst 0, 1) := dk_3 (dk_at dksX1_law_0 1 rfl rfl)
theorem dX1_law_2 : decode cX1_law 2 = .ok (.iconst 5, 1) := dk_8 (dk_at dksX1_law_0 2 rfl rfl)
theorem dX1_law_3 : decode cX1_law 3 = .ok (.invokestatic 135, 3) := dk_184 0 135 (dk_at dksX1_law_0 3 rfl rfl)
theorem dX1_law_6 : decode cX1_law 6 = .ok (.ifCond .eq 12, 3) := dk_153 0 12 (dk_at dksX1_law_0 6 rfl rfl)
theorem dX1_law_9 : decode cX1_law 9 = .ok (.iload_n 2, 1) := dk_28 (dk_at dksX1_law_0 9 rfl rfl)
theorem dX1_law_10 : decode cX1_law 10 = .ok (.iconst 0, 1) := dk_3 (dk_at dksX1_law_0 10 rfl rfl)
theorem dX1_law_11 : decode cX1_law 11 = .ok (.iconst 1, 1) := dk_4 (dk_at dksX1_law_0 11 rfl rfl)
theorem dX1_law_12 : decode cX1_law 12 = .ok (.invokestatic 135, 3) := dk_184 0 135 (dk_at dksX1_law_0 12 rfl rfl)
theorem dX1_law_15 : decode cX1_law 15 = .ok (.ifCond .ne 5, 3) := dk_154 0 5 (dk_at dksX1_law_0 15 rfl rfl)
theorem dX1_law_18 : decode cX1_law 18 = .ok (.iconst (-1), 1) := dk_2 (dk_at dksX1_law_0 18 rfl rfl)
theorem dX1_law_19 : decode cX1_law 19 = .ok (.ireturn, 1) := dk_172 (dk_at dksX1_law_0 19 rfl rfl)
theorem dX1_law_20 : decode cX1_law 20 = .ok (.iload_n 2, 1) := dk_28 (dk_at dksX1_law_0 20 rfl rfl)
theorem dX1_law_21 : decode cX1_law 21 = .ok (.ifCond .ne 15, 3) := dk_154 0 15 (dk_at dksX1_law_0 21 rfl rfl)
theorem dX1_law_24 : decode cX1_law 24 = .ok (.aload_n 0, 1) := dk_42 (dk_at dksX1_law_1 0 rfl rfl)
theorem dX1_law_25 : decode cX1_law 25 = .ok (.getfield 19, 3) := dk_180 0 19 (dk_at dksX1_law_1 1 rfl rfl)
theorem dX1_law_28 : decode cX1_law 28 = .ok (.getfield 159, 3) := dk_180 0 159 (dk_at dksX1_law_1 4 rfl rfl)
theorem dX1_law_31 : decode cX1_law 31 = .ok (.iload_n 1, 1) := dk_27 (dk_at dksX1_law_1 7 rfl rfl)
theorem dX1_law_32 : decode cX1_law 32 = .ok (.aaload, 1) := dk_50 (dk_at dksX1_law_1 8 rfl rfl)
theorem dX1_law_33 : decode cX1_law 33 = .ok (.goto 12, 3) := dk_167 0 12 (dk_at dksX1_law_1 9 rfl rfl)
theorem dX1_law_36 : decode cX1_law 36 = .ok (.aload_n 0, 1) := dk_42 (dk_at dksX1_law_1 12 rfl rfl)
theorem dX1_law_37 : decode cX1_law 37 = .ok (.getfield 19, 3) := dk_180 0 19 (dk_at dksX1_law_1 13 rfl rfl)
theorem dX1_law_40 : decode cX1_law 40 = .ok (.getfield 163, 3) := dk_180 0 163 (dk_at dksX1_law_1 16 rfl rfl)
theorem dX1_law_43 : decode cX1_law 43 = .ok (.iload_n 1, 1) := dk_27 (dk_at dksX1_law_1 19 rfl rfl)
theorem dX1_law_44 : decode cX1_law 44 = .ok (.aaload, 1) := dk_50 (dk_at dksX1_law_1 20 rfl rfl)
theorem dX1_law_45 : decode cX1_law 45 = .ok (.astore_n 3, 1) := dk_78 (dk_at dksX1_law_1 21 rfl rfl)
theorem dX1_law_46 : decode cX1_law 46 = .ok (.aload_n 3, 1) := dk_45 (dk_at dksX1_law_1 22 rfl rfl)
theorem dX1_law_47 : decode cX1_law 47 = .ok (.ifnonnull 7, 3) := dk_199 0 7 (dk_at dksX1_law_2 0 rfl rfl)
theorem dX1_law_50 : decode cX1_law 50 = .ok (.iconst (-1), 1) := dk_2 (dk_at dksX1_law_2 3 rfl rfl)
theorem dX1_law_51 : decode cX1_law 51 = .ok (.goto 17, 3) := dk_167 0 17 (dk_at dksX1_law_2 4 rfl rfl)
theorem dX1_law_54 : decode cX1_law 54 = .ok (.aload_n 0, 1) := dk_42 (dk_at dksX1_law_2 7 rfl rfl)
theorem dX1_law_55 : decode cX1_law 55 = .ok (.getfield 19, 3) := dk_180 0 19 (dk_at dksX1_law_2 8 rfl rfl)
theorem dX1_law_58 : decode cX1_law 58 = .ok (.getfield 166, 3) := dk_180 0 166 (dk_at dksX1_law_2 11 rfl rfl)
theorem dX1_law_61 : decode cX1_law 61 = .ok (.bipush 6, 2) := dk_16 6 (dk_at dksX1_law_2 14 rfl rfl)
theorem dX1_law_63 : decode cX1_law 63 = .ok (.iload_n 2, 1) := dk_28 (dk_at dksX1_law_2 16 rfl rfl)
theorem dX1_law_64 : decode cX1_law 64 = .ok (.imul, 1) := dk_104 (dk_at dksX1_law_2 17 rfl rfl)
theorem dX1_law_65 : decode cX1_law 65 = .ok (.iload_n 1, 1) := dk_27 (dk_at dksX1_law_2 18 rfl rfl)
theorem dX1_law_66 : decode cX1_law 66 = .ok (.iadd, 1) := dk_96 (dk_at dksX1_law_2 19 rfl rfl)
theorem dX1_law_67 : decode cX1_law 67 = .ok (.iaload, 1) := dk_46 (dk_at dksX1_law_2 20 rfl rfl)
theorem dX1_law_68 : decode cX1_law 68 = .ok (.ireturn, 1) := dk_172 (dk_at dksX1_law_2 21 rfl rfl)
def dkwX1_pay_1 : List UInt8 := [180, 0, 114, 27, 28, 184, 0, 171, 181, 0, 114, 4, 172]
abbrev dktX1_pay_1 : List UInt8 := dkwX1_pay_1 ++ []
def dkwX1_pay_0 : List UInt8 := [42, 180, 0, 19, 27, 182, 0, 131, 153, 0, 12, 28, 3, 4, 184, 0, 135, 154, 0, 5, 3, 172, 42, 42]
abbrev dktX1_pay_0 : List UInt8 := dkwX1_pay_0 ++ dktX1_pay_1
theorem dksX1_pay_0 : cX1_pay.data.toList.drop 0 = dktX1_pay_0 := by decide +kernel
theorem dksX1_pay_1 : cX1_pay.data.toList.drop 24 = dktX1_pay_1 := dk_seg dksX1_pay_0 24 rfl rfl
theorem dX1_pay_0 : decode cX1_pay 0 = .ok (.aload_n 0, 1) := dk_42 (dk_at dksX1_pay_0 0 rfl rfl)
theorem dX1_pay_1 : decode cX1_pay 1 = .ok (.getfield 19, 3) := dk_180 0 19 (dk_at dksX1_pay_0 1 rfl rfl)
theorem dX1_pay_4 : decode cX1_pay 4 = .ok (.iload_n 1, 1) := dk_27 (dk_at dksX1_pay_0 4 rfl rfl)
theorem dX1_pay_5 : decode cX1_pay 5 = .ok (.invokevirtual 131, 3) := dk_182 0 131 (dk_at dksX1_pay_0 5 rfl rfl)
theorem dX1_pay_8 : decode cX1_pay 8 = .ok (.ifCond .eq 12, 3) := dk_153 0 12 (dk_at dksX1_pay_0 8 rfl rfl)
theorem dX1_pay_11 : decode cX1_pay 11 = .ok (.iload_n 2, 1) := dk_28 (dk_at dksX1_pay_0 11 rfl rfl)
theorem dX1_pay_12 : decode cX1_pay 12 = .ok (.iconst 0, 1) := dk_3 (dk_at dksX1_pay_0 12 rfl rfl)
theorem dX1_pay_13 : decode cX1_pay 13 = .ok (.iconst 1, 1) := dk_4 (dk_at dksX1_pay_0 13 rfl rfl)
theorem dX1_pay_14 : decode cX1_pay 14 = .ok (.invokestatic 135, 3) := dk_184 0 135 (dk_at dksX1_pay_0 14 rfl rfl)
theorem dX1_pay_17 : decode cX1_pay 17 = .ok (.ifCond .ne 5, 3) := dk_154 0 5 (dk_at dksX1_pay_0 17 rfl rfl)
theorem dX1_pay_20 : decode cX1_pay 20 = .ok (.iconst 0, 1) := dk_3 (dk_at dksX1_pay_0 20 rfl rfl)
theorem dX1_pay_21 : decode cX1_pay 21 = .ok (.ireturn, 1) := dk_172 (dk_at dksX1_pay_0 21 rfl rfl)
theorem dX1_pay_22 : decode cX1_pay 22 = .ok (.aload_n 0, 1) := dk_42 (dk_at dksX1_pay_0 22 rfl rfl)
theorem dX1_pay_23 : decode cX1_pay 23 = .ok (.aload_n 0, 1) := dk_42 (dk_at dksX1_pay_0 23 rfl rfl)
theorem dX1_pay_24 : decode cX1_pay 24 = .ok (.getfield 114, 3) := dk_180 0 114 (dk_at dksX1_pay_1 0 rfl rfl)
theorem dX1_pay_27 : decode cX1_pay 27 = .ok (.iload_n 1, 1) := dk_27 (dk_at dksX1_pay_1 3 rfl rfl)
theorem dX1_pay_28 : decode cX1_pay 28 = .ok (.iload_n 2, 1) := dk_28 (dk_at dksX1_pay_1 4 rfl rfl)
theorem dX1_pay_29 : decode cX1_pay 29 = .ok (.invokestatic 171, 3) := dk_184 0 171 (dk_at dksX1_pay_1 5 rfl rfl)
theorem dX1_pay_32 : decode cX1_pay 32 = .ok (.putfield 114, 3) := dk_181 0 114 (dk_at dksX1_pay_1 8 rfl rfl)
theorem dX1_pay_35 : decode cX1_pay 35 = .ok (.iconst 1, 1) := dk_4 (dk_at dksX1_pay_1 11 rfl rfl)
theorem dX1_pay_36 : decode cX1_pay 36 = .ok (.ireturn, 1) := dk_172 (dk_at dksX1_pay_1 12 rfl rfl)
def dkwX1_with_0 : List UInt8 := [29, 4, 160, 0, 11, 30, 10, 28, 121, 129, 167, 0, 12, 30, 10, 28, 121, 20, 0, 169, 131, 127, 173]
abbrev dktX1_with_0 : List UInt8 := dkwX1_with_0 ++ []
theorem dksX1_with_0 : cX1_with.data.toList.drop 0 = dktX1_with_0 := by decide +kernel
theorem dX1_with_0 : decode cX1_with 0 = .ok (.iload_n 3, 1) := dk_29 (dk_at dksX1_with_0 0 rfl rfl)
theorem dX1_with_1 : decode cX1_with 1 = .ok (.iconst 1, 1) := dk_4 (dk_at dksX1_with_0 1 rfl rfl)
theorem dX1_with_2 : decode cX1_with 2 = .ok (.if_icmp .ne 11, 3) := dk_160 0 11 (dk_at dksX1_with_0 2 rfl rfl)
theorem dX1_with_5 : decode cX1_with 5 = .ok (.lload_n 0, 1) := dk_30 (dk_at dksX1_with_0 5 rfl rfl)
theorem dX1_with_6 : decode cX1_with 6 = .ok (.lconst 1, 1) := dk_10 (dk_at dksX1_with_0 6 rfl rfl)
theorem dX1_with_7 : decode cX1_with 7 = .ok (.iload_n 2, 1) := dk_28 (dk_at dksX1_with_0 7 rfl rfl)
theorem dX1_with_8 : decode cX1_with 8 = .ok (.lshl, 1) := dk_121 (dk_at dksX1_with_0 8 rfl rfl)
theorem dX1_with_9 : decode cX1_with 9 = .ok (.lor, 1) := dk_129 (dk_at dksX1_with_0 9 rfl rfl)
theorem dX1_with_10 : decode cX1_with 10 = .ok (.goto 12, 3) := dk_167 0 12 (dk_at dksX1_with_0 10 rfl rfl)
theorem dX1_with_13 : decode cX1_with 13 = .ok (.lload_n 0, 1) := dk_30 (dk_at dksX1_with_0 13 rfl rfl)
theorem dX1_with_14 : decode cX1_with 14 = .ok (.lconst 1, 1) := dk_10 (dk_at dksX1_with_0 14 rfl rfl)
theorem dX1_with_15 : decode cX1_with 15 = .ok (.iload_n 2, 1) := dk_28 (dk_at dksX1_with_0 15 rfl rfl)
theorem dX1_with_16 : decode cX1_with 16 = .ok (.lshl, 1) := dk_121 (dk_at dksX1_with_0 16 rfl rfl)
theorem dX1_with_17 : decode cX1_with 17 = .ok (.ldc2_w 169, 3) := dk_20 0 169 (dk_at dksX1_with_0 17 rfl rfl)
theorem dX1_with_20 : decode cX1_with 20 = .ok (.lxor, 1) := dk_131 (dk_at dksX1_with_0 20 rfl rfl)
theorem dX1_with_21 : decode cX1_with 21 = .ok (.land, 1) := dk_127 (dk_at dksX1_with_0 21 rfl rfl)
theorem dX1_with_22 : decode cX1_with 22 = .ok (.lreturn, 1) := dk_173 (dk_at dksX1_with_0 22 rfl rfl)
def dkwX1_hiss_1 : List UInt8 := [180, 0, 117, 27, 28, 184, 0, 171, 181, 0, 117, 4, 172]
abbrev dktX1_hiss_1 : List UInt8 := dkwX1_hiss_1 ++ []
def dkwX1_hiss_0 : List UInt8 := [42, 180, 0, 19, 27, 182, 0, 131, 153, 0, 12, 28, 3, 4, 184, 0, 135, 154, 0, 5, 3, 172, 42, 42]
abbrev dktX1_hiss_0 : List UInt8 := dkwX1_hiss_0 ++ dktX1_hiss_1
theorem dksX1_hiss_0 : cX1_hiss.data.toList.drop 0 = dktX1_hiss_0 := by decide +kernel
theorem dksX1_hiss_1 : cX1_hiss.data.toList.drop 24 = dktX1_hiss_1 := dk_seg dksX1_hiss_0 24 rfl rfl
theorem dX1_hiss_0 : decode cX1_hiss 0 = .ok (.aload_n 0, 1) := dk_42 (dk_at dksX1_hiss_0 0 rfl rfl)
theorem dX1_hiss_1 : decode cX1_hiss 1 = .ok (.getfield 19, 3) := dk_180 0 19 (dk_at dksX1_hiss_0 1 rfl rfl)
theorem dX1_hiss_4 : decode cX1_hiss 4 = .ok (.iload_n 1, 1) := dk_27 (dk_at dksX1_hiss_0 4 rfl rfl)
theorem dX1_hiss_5 : decode cX1_hiss 5 = .ok (.invokevirtual 131, 3) := dk_182 0 131 (dk_at dksX1_hiss_0 5 rfl rfl)
theorem dX1_hiss_8 : decode cX1_hiss 8 = .ok (.ifCond .eq 12, 3) := dk_153 0 12 (dk_at dksX1_hiss_0 8 rfl rfl)
theorem dX1_hiss_11 : decode cX1_hiss 11 = .ok (.iload_n 2, 1) := dk_28 (dk_at dksX1_hiss_0 11 rfl rfl)
theorem dX1_hiss_12 : decode cX1_hiss 12 = .ok (.iconst 0, 1) := dk_3 (dk_at dksX1_hiss_0 12 rfl rfl)
theorem dX1_hiss_13 : decode cX1_hiss 13 = .ok (.iconst 1, 1) := dk_4 (dk_at dksX1_hiss_0 13 rfl rfl)
theorem dX1_hiss_14 : decode cX1_hiss 14 = .ok (.invokestatic 135, 3) := dk_184 0 135 (dk_at dksX1_hiss_0 14 rfl rfl)
theorem dX1_hiss_17 : decode cX1_hiss 17 = .ok (.ifCond .ne 5, 3) := dk_154 0 5 (dk_at dksX1_hiss_0 17 rfl rfl)
theorem dX1_hiss_20 : decode cX1_hiss 20 = .ok (.iconst 0, 1) := dk_3 (dk_at dksX1_hiss_0 20 rfl rfl)
theorem dX1_hiss_21 : decode cX1_hiss 21 = .ok (.ireturn, 1) := dk_172 (dk_at dksX1_hiss_0 21 rfl rfl)
theorem dX1_hiss_22 : decode cX1_hiss 22 = .ok (.aload_n 0, 1) := dk_42 (dk_at dksX1_hiss_0 22 rfl rfl)
theorem dX1_hiss_23 : decode cX1_hiss 23 = .ok (.aload_n 0, 1) := dk_42 (dk_at dksX1_hiss_0 23 rfl rfl)
theorem dX1_hiss_24 : decode cX1_hiss 24 = .ok (.getfield 117, 3) := dk_180 0 117 (dk_at dksX1_hiss_1 0 rfl rfl)
theorem dX1_hiss_27 : decode cX1_hiss 27 = .ok (.iload_n 1, 1) := dk_27 (dk_at dksX1_hiss_1 3 rfl rfl)
theorem dX1_hiss_28 : decode cX1_hiss 28 = .ok (.iload_n 2, 1) := dk_28 (dk_at dksX1_hiss_1 4 rfl rfl)
theorem dX1_hiss_29 : decode cX1_hiss 29 = .ok (.invokestatic 171, 3) := dk_184 0 171 (dk_at dksX1_hiss_1 5 rfl rfl)
theorem dX1_hiss_32 : decode cX1_hiss 32 = .ok (.putfield 117, 3) := dk_181 0 117 (dk_at dksX1_hiss_1 8 rfl rfl)
theorem dX1_hiss_35 : decode cX1_hiss 35 = .ok (.iconst 1, 1) := dk_4 (dk_at dksX1_hiss_1 11 rfl rfl)
theorem dX1_hiss_36 : decode cX1_hiss 36 = .ok (.ireturn, 1) := dk_172 (dk_at dksX1_hiss_1 12 rfl rfl)
def dkwX1_cues_2 : List UInt8 := [181, 0, 102, 2, 44, 180, 0, 128, 100, 172]
abbrev dktX1_cues_2 : List UInt8 := dkwX1_cues_2 ++ []
def dkwX1_cues_1 : List UInt8 := [183, 0, 177, 182, 0, 180, 181, 0, 26, 42, 180, 0, 26, 182, 0, 183, 172, 77, 42, 44, 180, 0, 125]
abbrev dktX1_cues_1 : List UInt8 := dkwX1_cues_1 ++ dktX1_cues_2
def dkwX1_cues_0 : List UInt8 := [42, 182, 0, 98, 60, 42, 3, 181, 0, 102, 42, 187, 0, 175, 89, 42, 180, 0, 12, 27, 42, 180, 0, 19]
abbrev dktX1_cues_0 : List UInt8 := dkwX1_cues_0 ++ dktX1_cues_1
theorem dksX1_cues_0 : cX1_cues.data.toList.drop 0 = dktX1_cues_0 := by decide +kernel
theorem dksX1_cues_1 : cX1_cues.data.toList.drop 24 = dktX1_cues_1 := dk_seg dksX1_cues_0 24 rfl rfl
theorem dksX1_cues_2 : cX1_cues.data.toList.drop 47 = dktX1_cues_2 := dk_seg dksX1_cues_1 23 rfl rfl
theorem dX1_cues_0 : decode cX1_cues 0 = .ok (.aload_n 0, 1) := dk_42 (dk_at dksX1_cues_0 0 rfl rfl)
theorem dX1_cues_1 : decode cX1_cues 1 = .ok (.invokevirtual 98, 3) := dk_182 0 98 (dk_at dksX1_cues_0 1 rfl rfl)
theorem dX1_cues_4 : decode cX1_cues 4 = .ok (.istore_n 1, 1) := dk_60 (dk_at dksX1_cues_0 4 rfl rfl)
theorem dX1_cues_5 : decode cX1_cues 5 = .ok (.aload_n 0, 1) := dk_42 (dk_at dksX1_cues_0 5 rfl rfl)
theorem dX1_cues_6 : decode cX1_cues 6 = .ok (.iconst 0, 1) := dk_3 (dk_at dksX1_cues_0 6 rfl rfl)
theorem dX1_cues_7 : decode cX1_cues 7 = .ok (.putfield 102, 3) := dk_181 0 102 (dk_at dksX1_cues_0 7 rfl rfl)
theorem dX1_cues_10 : decode cX1_cues 10 = .ok (.aload_n 0, 1) := dk_42 (dk_at dksX1_cues_0 10 rfl rfl)
theorem dX1_cues_11 : decode cX1_cues 11 = .ok (.new 175, 3) := dk_187 0 175 (dk_at dksX1_cues_0 11 rfl rfl)
theorem dX1_cues_14 : decode cX1_cues 14 = .ok (.dup, 1) := dk_89 (dk_at dksX1_cues_0 14 rfl rfl)
theorem dX1_cues_15 : decode cX1_cues 15 = .ok (.aload_n 0, 1) := dk_42 (dk_at dksX1_cues_0 15 rfl rfl)
theorem dX1_cues_16 : decode cX1_cues 16 = .ok (.getfield 12, 3) := dk_180 0 12 (dk_at dksX1_cues_0 16 rfl rfl)
theorem dX1_cues_19 : decode cX1_cues 19 = .ok (.iload_n 1, 1) := dk_27 (dk_at dksX1_cues_0 19 rfl rfl)
theorem dX1_cues_20 : decode cX1_cues 20 = .ok (.aload_n 0, 1) := dk_42 (dk_at dksX1_cues_0 20 rfl rfl)
theorem dX1_cues_21 : decode cX1_cues 21 = .ok (.getfield 19, 3) := dk_180 0 19 (dk_at dksX1_cues_0 21 rfl rfl)
theorem dX1_cues_24 : decode cX1_cues 24 = .ok (.invokespecial 177, 3) := dk_183 0 177 (dk_at dksX1_cues_1 0 rfl rfl)
theorem dX1_cues_27 : decode cX1_cues 27 = .ok (.invokevirtual 180, 3) := dk_182 0 180 (dk_at dksX1_cues_1 3 rfl rfl)
theorem dX1_cues_30 : decode cX1_cues 30 = .ok (.putfield 26, 3) := dk_181 0 26 (dk_at dksX1_cues_1 6 rfl rfl)
theorem dX1_cues_33 : decode cX1_cues 33 = .ok (.aload_n 0, 1) := dk_42 (dk_at dksX1_cues_1 9 rfl rfl)
theorem dX1_cues_34 : decode cX1_cues 34 = .ok (.getfield 26, 3) := dk_180 0 26 (dk_at dksX1_cues_1 10 rfl rfl)
theorem dX1_cues_37 : decode cX1_cues 37 = .ok (.invokevirtual 183, 3) := dk_182 0 183 (dk_at dksX1_cues_1 13 rfl rfl)
theorem dX1_cues_40 : decode cX1_cues 40 = .ok (.ireturn, 1) := dk_172 (dk_at dksX1_cues_1 16 rfl rfl)
theorem dX1_cues_41 : decode cX1_cues 41 = .ok (.astore_n 2, 1) := dk_77 (dk_at dksX1_cues_1 17 rfl rfl)
theorem dX1_cues_42 : decode cX1_cues 42 = .ok (.aload_n 0, 1) := dk_42 (dk_at dksX1_cues_1 18 rfl rfl)
theorem dX1_cues_43 : decode cX1_cues 43 = .ok (.aload_n 2, 1) := dk_44 (dk_at dksX1_cues_1 19 rfl rfl)
theorem dX1_cues_44 : decode cX1_cues 44 = .ok (.getfield 125, 3) := dk_180 0 125 (dk_at dksX1_cues_1 20 rfl rfl)
theorem dX1_cues_47 : decode cX1_cues 47 = .ok (.putfield 102, 3) := dk_181 0 102 (dk_at dksX1_cues_2 0 rfl rfl)
theorem dX1_cues_50 : decode cX1_cues 50 = .ok (.iconst (-1), 1) := dk_2 (dk_at dksX1_cues_2 3 rfl rfl)
theorem dX1_cues_51 : decode cX1_cues 51 = .ok (.aload_n 2, 1) := dk_44 (dk_at dksX1_cues_2 4 rfl rfl)
theorem dX1_cues_52 : decode cX1_cues 52 = .ok (.getfield 128, 3) := dk_180 0 128 (dk_at dksX1_cues_2 5 rfl rfl)
theorem dX1_cues_55 : decode cX1_cues 55 = .ok (.isub, 1) := dk_100 (dk_at dksX1_cues_2 8 rfl rfl)
theorem dX1_cues_56 : decode cX1_cues 56 = .ok (.ireturn, 1) := dk_172 (dk_at dksX1_cues_2 9 rfl rfl)
def dkwX1_sees_2 : List UInt8 := [27, 47, 42, 182, 0, 212, 28, 182, 0, 216, 180, 0, 220, 21, 4, 47, 127, 184, 0, 222, 172]
abbrev dktX1_sees_2 : List UInt8 := dkwX1_sees_2 ++ []
def dkwX1_sees_1 : List UInt8 := [153, 0, 13, 21, 4, 4, 5, 184, 0, 135, 154, 0, 5, 2, 172, 42, 180, 0, 19, 180, 0, 208, 29, 50]
abbrev dktX1_sees_1 : List UInt8 := dkwX1_sees_1 ++ dktX1_sees_2
def dkwX1_sees_0 : List UInt8 := [42, 180, 0, 19, 27, 182, 0, 131, 153, 0, 29, 28, 184, 0, 205, 153, 0, 22, 29, 3, 8, 184, 0, 135]
abbrev dktX1_sees_0 : List UInt8 := dkwX1_sees_0 ++ dktX1_sees_1
theorem dksX1_sees_0 : cX1_sees.data.toList.drop 0 = dktX1_sees_0 := by decide +kernel
theorem dksX1_sees_1 : cX1_sees.data.toList.drop 24 = dktX1_sees_1 := dk_seg dksX1_sees_0 24 rfl rfl
theorem dksX1_sees_2 : cX1_sees.data.toList.drop 48 = dktX1_sees_2 := dk_seg dksX1_sees_1 24 rfl rfl
theorem dX1_sees_0 : decode cX1_sees 0 = .ok (.aload_n 0, 1) := dk_42 (dk_at dksX1_sees_0 0 rfl rfl)
theorem dX1_sees_1 : decode cX1_sees 1 = .ok (.getfield 19, 3) := dk_180 0 19 (dk_at dksX1_sees_0 1 rfl rfl)
theorem dX1_sees_4 : decode cX1_sees 4 = .ok (.iload_n 1, 1) := dk_27 (dk_at dksX1_sees_0 4 rfl rfl)
theorem dX1_sees_5 : decode cX1_sees 5 = .ok (.invokevirtual 131, 3) := dk_182 0 131 (dk_at dksX1_sees_0 5 rfl rfl)
theorem dX1_sees_8 : decode cX1_sees 8 = .ok (.ifCond .eq 29, 3) := dk_153 0 29 (dk_at dksX1_sees_0 8 rfl rfl)
theorem dX1_sees_11 : decode cX1_sees 11 = .ok (.iload_n 2, 1) := dk_28 (dk_at dksX1_sees_0 11 rfl rfl)
theorem dX1_sees_12 : decode cX1_sees 12 = .ok (.invokestatic 205, 3) := dk_184 0 205 (dk_at dksX1_sees_0 12 rfl rfl)
theorem dX1_sees_15 : decode cX1_sees 15 = .ok (.ifCond .eq 22, 3) := dk_153 0 22 (dk_at dksX1_sees_0 15 rfl rfl)
theorem dX1_sees_18 : decode cX1_sees 18 = .ok (.iload_n 3, 1) := dk_29 (dk_at dksX1_sees_0 18 rfl rfl)
theorem dX1_sees_19 : decode cX1_sees 19 = .ok (.iconst 0, 1) := dk_3 (dk_at dksX1_sees_0 19 rfl rfl)
theorem dX1_sees_20 : decode cX1_sees 20 = .ok (.iconst 5, 1) := dk_8 (dk_at dksX1_sees_0 20 rfl rfl)
theorem dX1_sees_21 : decode cX1_sees 21 = .ok (.invokestatic 135, 3) := dk_184 0 135 (dk_at dksX1_sees_0 21 rfl rfl)
theorem dX1_sees_24 : decode cX1_sees 24 = .ok (.ifCond .eq 13, 3) := dk_153 0 13 (dk_at dksX1_sees_1 0 rfl rfl)
theorem dX1_sees_27 : decode cX1_sees 27 = .ok (.iload 4, 2) := dk_21 4 (dk_at dksX1_sees_1 3 rfl rfl)
theorem dX1_sees_29 : decode cX1_sees 29 = .ok (.iconst 1, 1) := dk_4 (dk_at dksX1_sees_1 5 rfl rfl)
theorem dX1_sees_30 : decode cX1_sees 30 = .ok (.iconst 2, 1) := dk_5 (dk_at dksX1_sees_1 6 rfl rfl)
theorem dX1_sees_31 : decode cX1_sees 31 = .ok (.invokestatic 135, 3) := dk_184 0 135 (dk_at dksX1_sees_1 7 rfl rfl)
theorem dX1_sees_34 : decode cX1_sees 34 = .ok (.ifCond .ne 5, 3) := dk_154 0 5 (dk_at dksX1_sees_1 10 rfl rfl)
theorem dX1_sees_37 : decode cX1_sees 37 = .ok (.iconst (-1), 1) := dk_2 (dk_at dksX1_sees_1 13 rfl rfl)
theorem dX1_sees_38 : decode cX1_sees 38 = .ok (.ireturn, 1) := dk_172 (dk_at dksX1_sees_1 14 rfl rfl)
theorem dX1_sees_39 : decode cX1_sees 39 = .ok (.aload_n 0, 1) := dk_42 (dk_at dksX1_sees_1 15 rfl rfl)
theorem dX1_sees_40 : decode cX1_sees 40 = .ok (.getfield 19, 3) := dk_180 0 19 (dk_at dksX1_sees_1 16 rfl rfl)
theorem dX1_sees_43 : decode cX1_sees 43 = .ok (.getfield 208, 3) := dk_180 0 208 (dk_at dksX1_sees_1 19 rfl rfl)
theorem dX1_sees_46 : decode cX1_sees 46 = .ok (.iload_n 3, 1) := dk_29 (dk_at dksX1_sees_1 22 rfl rfl)
theorem dX1_sees_47 : decode cX1_sees 47 = .ok (.aaload, 1) := dk_50 (dk_at dksX1_sees_1 23 rfl rfl)
theorem dX1_sees_48 : decode cX1_sees 48 = .ok (.iload_n 1, 1) := dk_27 (dk_at dksX1_sees_2 0 rfl rfl)
theorem dX1_sees_49 : decode cX1_sees 49 = .ok (.laload, 1) := dk_47 (dk_at dksX1_sees_2 1 rfl rfl)
theorem dX1_sees_50 : decode cX1_sees 50 = .ok (.aload_n 0, 1) := dk_42 (dk_at dksX1_sees_2 2 rfl rfl)
theorem dX1_sees_51 : decode cX1_sees 51 = .ok (.invokevirtual 212, 3) := dk_182 0 212 (dk_at dksX1_sees_2 3 rfl rfl)
theorem dX1_sees_54 : decode cX1_sees 54 = .ok (.iload_n 2, 1) := dk_28 (dk_at dksX1_sees_2 6 rfl rfl)
theorem dX1_sees_55 : decode cX1_sees 55 = .ok (.invokevirtual 216, 3) := dk_182 0 216 (dk_at dksX1_sees_2 7 rfl rfl)
theorem dX1_sees_58 : decode cX1_sees 58 = .ok (.getfield 220, 3) := dk_180 0 220 (dk_at dksX1_sees_2 10 rfl rfl)
theorem dX1_sees_61 : decode cX1_sees 61 = .ok (.iload 4, 2) := dk_21 4 (dk_at dksX1_sees_2 13 rfl rfl)
theorem dX1_sees_63 : decode cX1_sees 63 = .ok (.laload, 1) := dk_47 (dk_at dksX1_sees_2 15 rfl rfl)
theorem dX1_sees_64 : decode cX1_sees 64 = .ok (.land, 1) := dk_127 (dk_at dksX1_sees_2 16 rfl rfl)
theorem dX1_sees_65 : decode cX1_sees 65 = .ok (.invokestatic 222, 3) := dk_184 0 222 (dk_at dksX1_sees_2 17 rfl rfl)
theorem dX1_sees_68 : decode cX1_sees 68 = .ok (.ireturn, 1) := dk_172 (dk_at dksX1_sees_2 20 rfl rfl)
def dkwX1_isMoment_0 : List UInt8 := [26, 3, 17, 2, 88, 184, 0, 135, 172]
abbrev dktX1_isMoment_0 : List UInt8 := dkwX1_isMoment_0 ++ []
theorem dksX1_isMoment_0 : cX1_isMoment.data.toList.drop 0 = dktX1_isMoment_0 := by decide +kernel
theorem dX1_isMoment_0 : decode cX1_isMoment 0 = .ok (.iload_n 0, 1) := dk_26 (dk_at dksX1_isMoment_0 0 rfl rfl)
theorem dX1_isMoment_1 : decode cX1_isMoment 1 = .ok (.iconst 0, 1) := dk_3 (dk_at dksX1_isMoment_0 1 rfl rfl)
theorem dX1_isMoment_2 : decode cX1_isMoment 2 = .ok (.sipush 600, 3) := dk_17 2 88 (dk_at dksX1_isMoment_0 2 rfl rfl)
theorem dX1_isMoment_5 : decode cX1_isMoment 5 = .ok (.invokestatic 135, 3) := dk_184 0 135 (dk_at dksX1_isMoment_0 5 rfl rfl)
theorem dX1_isMoment_8 : decode cX1_isMoment 8 = .ok (.ireturn, 1) := dk_172 (dk_at dksX1_isMoment_0 8 rfl rfl)
def dkwX1_tonight_0 : List UInt8 := [42, 180, 0, 33, 42, 180, 0, 19, 42, 180, 0, 26, 42, 180, 0, 114, 42, 180, 0, 117, 182, 0, 201, 176]
abbrev dktX1_tonight_0 : List UInt8 := dkwX1_tonight_0 ++ []
theorem dksX1_tonight_0 : cX1_tonight.data.toList.drop 0 = dktX1_tonight_0 := by decide +kernel
theorem dX1_tonight_0 : decode cX1_tonight 0 = .ok (.aload_n 0, 1) := dk_42 (dk_at dksX1_tonight_0 0 rfl rfl)
theorem dX1_tonight_1 : decode cX1_tonight 1 = .ok (.getfield 33, 3) := dk_180 0 33 (dk_at dksX1_tonight_0 1 rfl rfl)
theorem dX1_tonight_4 : decode cX1_tonight 4 = .ok (.aload_n 0, 1) := dk_42 (dk_at dksX1_tonight_0 4 rfl rfl)
theorem dX1_tonight_5 : decode cX1_tonight 5 = .ok (.getfield 19, 3) := dk_180 0 19 (dk_at dksX1_tonight_0 5 rfl rfl)
theorem dX1_tonight_8 : decode cX1_tonight 8 = .ok (.aload_n 0, 1) := dk_42 (dk_at dksX1_tonight_0 8 rfl rfl)
theorem dX1_tonight_9 : decode cX1_tonight 9 = .ok (.getfield 26, 3) := dk_180 0 26 (dk_at dksX1_tonight_0 9 rfl rfl)
theorem dX1_tonight_12 : decode cX1_tonight 12 = .ok (.aload_n 0, 1) := dk_42 (dk_at dksX1_tonight_0 12 rfl rfl)
theorem dX1_tonight_13 : decode cX1_tonight 13 = .ok (.getfield 114, 3) := dk_180 0 114 (dk_at dksX1_tonight_0 13 rfl rfl)
theorem dX1_tonight_16 : decode cX1_tonight 16 = .ok (.aload_n 0, 1) := dk_42 (dk_at dksX1_tonight_0 16 rfl rfl)
theorem dX1_tonight_17 : decode cX1_tonight 17 = .ok (.getfield 117, 3) := dk_180 0 117 (dk_at dksX1_tonight_0 17 rfl rfl)
theorem dX1_tonight_20 : decode cX1_tonight 20 = .ok (.invokevirtual 201, 3) := dk_182 0 201 (dk_at dksX1_tonight_0 20 rfl rfl)
theorem dX1_tonight_23 : decode cX1_tonight 23 = .ok (.areturn, 1) := dk_176 (dk_at dksX1_tonight_0 23 rfl rfl)
def dkwX1_has_2_0 : List UInt8 := [30, 28, 123, 10, 127, 10, 148, 154, 0, 7, 4, 167, 0, 4, 3, 172]
abbrev dktX1_has_2_0 : List UInt8 := dkwX1_has_2_0 ++ []
theorem dksX1_has_2_0 : cX1_has_2.data.toList.drop 0 = dktX1_has_2_0 := by decide +kernel
theorem dX1_has_2_0 : decode cX1_has_2 0 = .ok (.lload_n 0, 1) := dk_30 (dk_at dksX1_has_2_0 0 rfl rfl)
theorem dX1_has_2_1 : decode cX1_has_2 1 = .ok (.iload_n 2, 1) := dk_28 (dk_at dksX1_has_2_0 1 rfl rfl)
theorem dX1_has_2_2 : decode cX1_has_2 2 = .ok (.lshr, 1) := dk_123 (dk_at dksX1_has_2_0 2 rfl rfl)
theorem dX1_has_2_3 : decode cX1_has_2 3 = .ok (.lconst 1, 1) := dk_10 (dk_at dksX1_has_2_0 3 rfl rfl)
theorem dX1_has_2_4 : decode cX1_has_2 4 = .ok (.land, 1) := dk_127 (dk_at dksX1_has_2_0 4 rfl rfl)
theorem dX1_has_2_5 : decode cX1_has_2 5 = .ok (.lconst 1, 1) := dk_10 (dk_at dksX1_has_2_0 5 rfl rfl)
theorem dX1_has_2_6 : decode cX1_has_2 6 = .ok (.lcmp, 1) := dk_148 (dk_at dksX1_has_2_0 6 rfl rfl)
theorem dX1_has_2_7 : decode cX1_has_2 7 = .ok (.ifCond .ne 7, 3) := dk_154 0 7 (dk_at dksX1_has_2_0 7 rfl rfl)
theorem dX1_has_2_10 : decode cX1_has_2 10 = .ok (.iconst 1, 1) := dk_4 (dk_at dksX1_has_2_0 10 rfl rfl)
theorem dX1_has_2_11 : decode cX1_has_2 11 = .ok (.goto 4, 3) := dk_167 0 4 (dk_at dksX1_has_2_0 11 rfl rfl)
theorem dX1_has_2_14 : decode cX1_has_2 14 = .ok (.iconst 0, 1) := dk_3 (dk_at dksX1_has_2_0 14 rfl rfl)
theorem dX1_has_2_15 : decode cX1_has_2 15 = .ok (.ireturn, 1) := dk_172 (dk_at dksX1_has_2_0 15 rfl rfl)
def dkwX1_at_2 : List UInt8 := [27, 46, 167, 0, 10, 25, 4, 180, 0, 231, 27, 46, 172]
abbrev dktX1_at_2 : List UInt8 := dkwX1_at_2 ++ []
def dkwX1_at_1 : List UInt8 := [154, 0, 5, 2, 172, 42, 182, 0, 212, 28, 182, 0, 216, 58, 4, 29, 154, 0, 13, 25, 4, 180, 0, 228]
abbrev dktX1_at_1 : List UInt8 := dkwX1_at_1 ++ dktX1_at_2
def dkwX1_at_0 : List UInt8 := [42, 180, 0, 19, 27, 182, 0, 131, 153, 0, 19, 28, 184, 0, 205, 153, 0, 12, 29, 3, 4, 184, 0, 135]
abbrev dktX1_at_0 : List UInt8 := dkwX1_at_0 ++ dktX1_at_1
theorem dksX1_at_0 : cX1_at.data.toList.drop 0 = dktX1_at_0 := by decide +kernel
theorem dksX1_at_1 : cX1_at.data.toList.drop 24 = dktX1_at_1 := dk_seg dksX1_at_0 24 rfl rfl
theorem dksX1_at_2 : cX1_at.data.toList.drop 48 = dktX1_at_2 := dk_seg dksX1_at_1 24 rfl rfl
theorem dX1_at_0 : decode cX1_at 0 = .ok (.aload_n 0, 1) := dk_42 (dk_at dksX1_at_0 0 rfl rfl)
theorem dX1_at_1 : decode cX1_at 1 = .ok (.getfield 19, 3) := dk_180 0 19 (dk_at dksX1_at_0 1 rfl rfl)
theorem dX1_at_4 : decode cX1_at 4 = .ok (.iload_n 1, 1) := dk_27 (dk_at dksX1_at_0 4 rfl rfl)
theorem dX1_at_5 : decode cX1_at 5 = .ok (.invokevirtual 131, 3) := dk_182 0 131 (dk_at dksX1_at_0 5 rfl rfl)
theorem dX1_at_8 : decode cX1_at 8 = .ok (.ifCond .eq 19, 3) := dk_153 0 19 (dk_at dksX1_at_0 8 rfl rfl)
theorem dX1_at_11 : decode cX1_at 11 = .ok (.iload_n 2, 1) := dk_28 (dk_at dksX1_at_0 11 rfl rfl)
theorem dX1_at_12 : decode cX1_at 12 = .ok (.invokestatic 205, 3) := dk_184 0 205 (dk_at dksX1_at_0 12 rfl rfl)
theorem dX1_at_15 : decode cX1_at 15 = .ok (.ifCond .eq 12, 3) := dk_153 0 12 (dk_at dksX1_at_0 15 rfl rfl)
theorem dX1_at_18 : decode cX1_at 18 = .ok (.iload_n 3, 1) := dk_29 (dk_at dksX1_at_0 18 rfl rfl)
theorem dX1_at_19 : decode cX1_at 19 = .ok (.iconst 0, 1) := dk_3 (dk_at dksX1_at_0 19 rfl rfl)
theorem dX1_at_20 : decode cX1_at 20 = .ok (.iconst 1, 1) := dk_4 (dk_at dksX1_at_0 20 rfl rfl)
theorem dX1_at_21 : decode cX1_at 21 = .ok (.invokestatic 135, 3) := dk_184 0 135 (dk_at dksX1_at_0 21 rfl rfl)
theorem dX1_at_24 : decode cX1_at 24 = .ok (.ifCond .ne 5, 3) := dk_154 0 5 (dk_at dksX1_at_1 0 rfl rfl)
theorem dX1_at_27 : decode cX1_at 27 = .ok (.iconst (-1), 1) := dk_2 (dk_at dksX1_at_1 3 rfl rfl)
theorem dX1_at_28 : decode cX1_at 28 = .ok (.ireturn, 1) := dk_172 (dk_at dksX1_at_1 4 rfl rfl)
theorem dX1_at_29 : decode cX1_at 29 = .ok (.aload_n 0, 1) := dk_42 (dk_at dksX1_at_1 5 rfl rfl)
theorem dX1_at_30 : decode cX1_at 30 = .ok (.invokevirtual 212, 3) := dk_182 0 212 (dk_at dksX1_at_1 6 rfl rfl)
theorem dX1_at_33 : decode cX1_at 33 = .ok (.iload_n 2, 1) := dk_28 (dk_at dksX1_at_1 9 rfl rfl)
theorem dX1_at_34 : decode cX1_at 34 = .ok (.invokevirtual 216, 3) := dk_182 0 216 (dk_at dksX1_at_1 10 rfl rfl)
theorem dX1_at_37 : decode cX1_at 37 = .ok (.astore 4, 2) := dk_58 4 (dk_at dksX1_at_1 13 rfl rfl)
theorem dX1_at_39 : decode cX1_at 39 = .ok (.iload_n 3, 1) := dk_29 (dk_at dksX1_at_1 15 rfl rfl)
theorem dX1_at_40 : decode cX1_at 40 = .ok (.ifCond .ne 13, 3) := dk_154 0 13 (dk_at dksX1_at_1 16 rfl rfl)
theorem dX1_at_43 : decode cX1_at 43 = .ok (.aload 4, 2) := dk_25 4 (dk_at dksX1_at_1 19 rfl rfl)
theorem dX1_at_45 : decode cX1_at 45 = .ok (.getfield 228, 3) := dk_180 0 228 (dk_at dksX1_at_1 21 rfl rfl)
theorem dX1_at_48 : decode cX1_at 48 = .ok (.iload_n 1, 1) := dk_27 (dk_at dksX1_at_2 0 rfl rfl)
theorem dX1_at_49 : decode cX1_at 49 = .ok (.iaload, 1) := dk_46 (dk_at dksX1_at_2 1 rfl rfl)
theorem dX1_at_50 : decode cX1_at 50 = .ok (.goto 10, 3) := dk_167 0 10 (dk_at dksX1_at_2 2 rfl rfl)
theorem dX1_at_53 : decode cX1_at 53 = .ok (.aload 4, 2) := dk_25 4 (dk_at dksX1_at_2 5 rfl rfl)
theorem dX1_at_55 : decode cX1_at 55 = .ok (.getfield 231, 3) := dk_180 0 231 (dk_at dksX1_at_2 7 rfl rfl)
theorem dX1_at_58 : decode cX1_at 58 = .ok (.iload_n 1, 1) := dk_27 (dk_at dksX1_at_2 10 rfl rfl)
theorem dX1_at_59 : decode cX1_at 59 = .ok (.iaload, 1) := dk_46 (dk_at dksX1_at_2 11 rfl rfl)
theorem dX1_at_60 : decode cX1_at 60 = .ok (.ireturn, 1) := dk_172 (dk_at dksX1_at_2 12 rfl rfl)
def dkwX1_many_1 : List UInt8 := [28, 182, 0, 234, 167, 0, 4, 2, 172]
abbrev dktX1_many_1 : List UInt8 := dkwX1_many_1 ++ []
def dkwX1_many_0 : List UInt8 := [27, 184, 0, 205, 153, 0, 27, 28, 3, 5, 184, 0, 135, 153, 0, 18, 42, 182, 0, 212, 27, 182, 0, 216]
abbrev dktX1_many_0 : List UInt8 := dkwX1_many_0 ++ dktX1_many_1
theorem dksX1_many_0 : cX1_many.data.toList.drop 0 = dktX1_many_0 := by decide +kernel
theorem dksX1_many_1 : cX1_many.data.toList.drop 24 = dktX1_many_1 := dk_seg dksX1_many_0 24 rfl rfl
theorem dX1_many_0 : decode cX1_many 0 = .ok (.iload_n 1, 1) := dk_27 (dk_at dksX1_many_0 0 rfl rfl)
theorem dX1_many_1 : decode cX1_many 1 = .ok (.invokestatic 205, 3) := dk_184 0 205 (dk_at dksX1_many_0 1 rfl rfl)
theorem dX1_many_4 : decode cX1_many 4 = .ok (.ifCond .eq 27, 3) := dk_153 0 27 (dk_at dksX1_many_0 4 rfl rfl)
theorem dX1_many_7 : decode cX1_many 7 = .ok (.iload_n 2, 1) := dk_28 (dk_at dksX1_many_0 7 rfl rfl)
theorem dX1_many_8 : decode cX1_many 8 = .ok (.iconst 0, 1) := dk_3 (dk_at dksX1_many_0 8 rfl rfl)
theorem dX1_many_9 : decode cX1_many 9 = .ok (.iconst 2, 1) := dk_5 (dk_at dksX1_many_0 9 rfl rfl)
theorem dX1_many_10 : decode cX1_many 10 = .ok (.invokestatic 135, 3) := dk_184 0 135 (dk_at dksX1_many_0 10 rfl rfl)
theorem dX1_many_13 : decode cX1_many 13 = .ok (.ifCond .eq 18, 3) := dk_153 0 18 (dk_at dksX1_many_0 13 rfl rfl)
theorem dX1_many_16 : decode cX1_many 16 = .ok (.aload_n 0, 1) := dk_42 (dk_at dksX1_many_0 16 rfl rfl)
theorem dX1_many_17 : decode cX1_many 17 = .ok (.invokevirtual 212, 3) := dk_182 0 212 (dk_at dksX1_many_0 17 rfl rfl)
theorem dX1_many_20 : decode cX1_many 20 = .ok (.iload_n 1, 1) := dk_27 (dk_at dksX1_many_0 20 rfl rfl)
theorem dX1_many_21 : decode cX1_many 21 = .ok (.invokevirtual 216, 3) := dk_182 0 216 (dk_at dksX1_many_0 21 rfl rfl)
theorem dX1_many_24 : decode cX1_many 24 = .ok (.iload_n 2, 1) := dk_28 (dk_at dksX1_many_1 0 rfl rfl)
theorem dX1_many_25 : decode cX1_many 25 = .ok (.invokevirtual 234, 3) := dk_182 0 234 (dk_at dksX1_many_1 1 rfl rfl)
theorem dX1_many_28 : decode cX1_many 28 = .ok (.goto 4, 3) := dk_167 0 4 (dk_at dksX1_many_1 4 rfl rfl)
theorem dX1_many_31 : decode cX1_many 31 = .ok (.iconst (-1), 1) := dk_2 (dk_at dksX1_many_1 7 rfl rfl)
theorem dX1_many_32 : decode cX1_many 32 = .ok (.ireturn, 1) := dk_172 (dk_at dksX1_many_1 8 rfl rfl)
def dkwX1_would_4 : List UInt8 := [153, 0, 7, 4, 167, 0, 4, 3, 172]
abbrev dktX1_would_4 : List UInt8 := dkwX1_would_4 ++ []
def dkwX1_would_3 : List UInt8 := [25, 4, 199, 0, 5, 2, 172, 25, 4, 42, 182, 0, 212, 28, 182, 0, 216, 182, 0, 237, 27, 182, 0, 239]
abbrev dktX1_would_3 : List UInt8 := dkwX1_would_3 ++ dktX1_would_4
def dkwX1_would_2 : List UInt8 := [46, 50, 167, 0, 20, 42, 180, 0, 19, 180, 0, 163, 42, 180, 0, 19, 180, 0, 143, 27, 46, 50, 58, 4]
abbrev dktX1_would_2 : List UInt8 := dkwX1_would_2 ++ dktX1_would_3
def dkwX1_would_1 : List UInt8 := [154, 0, 5, 2, 172, 29, 154, 0, 23, 42, 180, 0, 19, 180, 0, 159, 42, 180, 0, 19, 180, 0, 143, 27]
abbrev dktX1_would_1 : List UInt8 := dkwX1_would_1 ++ dktX1_would_2
def dkwX1_would_0 : List UInt8 := [42, 180, 0, 19, 27, 182, 0, 131, 153, 0, 19, 28, 184, 0, 205, 153, 0, 12, 29, 3, 4, 184, 0, 135]
abbrev dktX1_would_0 : List UInt8 := dkwX1_would_0 ++ dktX1_would_1
theorem dksX1_would_0 : cX1_would.data.toList.drop 0 = dktX1_would_0 := by decide +kernel
theorem dksX1_would_1 : cX1_would.data.toList.drop 24 = dktX1_would_1 := dk_seg dksX1_would_0 24 rfl rfl
theorem dksX1_would_2 : cX1_would.data.toList.drop 48 = dktX1_would_2 := dk_seg dksX1_would_1 24 rfl rfl
theorem dksX1_would_3 : cX1_would.data.toList.drop 72 = dktX1_would_3 := dk_seg dksX1_would_2 24 rfl rfl
theorem dksX1_would_4 : cX1_would.data.toList.drop 96 = dktX1_would_4 := dk_seg dksX1_would_3 24 rfl rfl
theorem dX1_would_0 : decode cX1_would 0 = .ok (.aload_n 0, 1) := dk_42 (dk_at dksX1_would_0 0 rfl rfl)
theorem dX1_would_1 : decode cX1_would 1 = .ok (.getfield 19, 3) := dk_180 0 19 (dk_at dksX1_would_0 1 rfl rfl)
theorem dX1_would_4 : decode cX1_would 4 = .ok (.iload_n 1, 1) := dk_27 (dk_at dksX1_would_0 4 rfl rfl)
theorem dX1_would_5 : decode cX1_would 5 = .ok (.invokevirtual 131, 3) := dk_182 0 131 (dk_at dksX1_would_0 5 rfl rfl)
theorem dX1_would_8 : decode cX1_would 8 = .ok (.ifCond .eq 19, 3) := dk_153 0 19 (dk_at dksX1_would_0 8 rfl rfl)
theorem dX1_would_11 : decode cX1_would 11 = .ok (.iload_n 2, 1) := dk_28 (dk_at dksX1_would_0 11 rfl rfl)
theorem dX1_would_12 : decode cX1_would 12 = .ok (.invokestatic 205, 3) := dk_184 0 205 (dk_at dksX1_would_0 12 rfl rfl)
theorem dX1_would_15 : decode cX1_would 15 = .ok (.ifCond .eq 12, 3) := dk_153 0 12 (dk_at dksX1_would_0 15 rfl rfl)
theorem dX1_would_18 : decode cX1_would 18 = .ok (.iload_n 3, 1) := dk_29 (dk_at dksX1_would_0 18 rfl rfl)
theorem dX1_would_19 : decode cX1_would 19 = .ok (.iconst 0, 1) := dk_3 (dk_at dksX1_would_0 19 rfl rfl)
theorem dX1_would_20 : decode cX1_would 20 = .ok (.iconst 1, 1) := dk_4 (dk_at dksX1_would_0 20 rfl rfl)
theorem dX1_would_21 : decode cX1_would 21 = .ok (.invokestatic 135, 3) := dk_184 0 135 (dk_at dksX1_would_0 21 rfl rfl)
theorem dX1_would_24 : decode cX1_would 24 = .ok (.ifCond .ne 5, 3) := dk_154 0 5 (dk_at dksX1_would_1 0 rfl rfl)
theorem dX1_would_27 : decode cX1_would 27 = .ok (.iconst (-1), 1) := dk_2 (dk_at dksX1_would_1 3 rfl rfl)
theorem dX1_would_28 : decode cX1_would 28 = .ok (.ireturn, 1) := dk_172 (dk_at dksX1_would_1 4 rfl rfl)
theorem dX1_would_29 : decode cX1_would 29 = .ok (.iload_n 3, 1) := dk_29 (dk_at dksX1_would_1 5 rfl rfl)
theorem dX1_would_30 : decode cX1_would 30 = .ok (.ifCond .ne 23, 3) := dk_154 0 23 (dk_at dksX1_would_1 6 rfl rfl)
theorem dX1_would_33 : decode cX1_would 33 = .ok (.aload_n 0, 1) := dk_42 (dk_at dksX1_would_1 9 rfl rfl)
theorem dX1_would_34 : decode cX1_would 34 = .ok (.getfield 19, 3) := dk_180 0 19 (dk_at dksX1_would_1 10 rfl rfl)
theorem dX1_would_37 : decode cX1_would 37 = .ok (.getfield 159, 3) := dk_180 0 159 (dk_at dksX1_would_1 13 rfl rfl)
theorem dX1_would_40 : decode cX1_would 40 = .ok (.aload_n 0, 1) := dk_42 (dk_at dksX1_would_1 16 rfl rfl)
theorem dX1_would_41 : decode cX1_would 41 = .ok (.getfield 19, 3) := dk_180 0 19 (dk_at dksX1_would_1 17 rfl rfl)
theorem dX1_would_44 : decode cX1_would 44 = .ok (.getfield 143, 3) := dk_180 0 143 (dk_at dksX1_would_1 20 rfl rfl)
theorem dX1_would_47 : decode cX1_would 47 = .ok (.iload_n 1, 1) := dk_27 (dk_at dksX1_would_1 23 rfl rfl)
theorem dX1_would_48 : decode cX1_would 48 = .ok (.iaload, 1) := dk_46 (dk_at dksX1_would_2 0 rfl rfl)
theorem dX1_would_49 : decode cX1_would 49 = .ok (.aaload, 1) := dk_50 (dk_at dksX1_would_2 1 rfl rfl)
theorem dX1_would_50 : decode cX1_would 50 = .ok (.goto 20, 3) := dk_167 0 20 (dk_at dksX1_would_2 2 rfl rfl)
theorem dX1_would_53 : decode cX1_would 53 = .ok (.aload_n 0, 1) := dk_42 (dk_at dksX1_would_2 5 rfl rfl)
theorem dX1_would_54 : decode cX1_would 54 = .ok (.getfield 19, 3) := dk_180 0 19 (dk_at dksX1_would_2 6 rfl rfl)
theorem dX1_would_57 : decode cX1_would 57 = .ok (.getfield 163, 3) := dk_180 0 163 (dk_at dksX1_would_2 9 rfl rfl)
theorem dX1_would_60 : decode cX1_would 60 = .ok (.aload_n 0, 1) := dk_42 (dk_at dksX1_would_2 12 rfl rfl)
theorem dX1_would_61 : decode cX1_would 61 = .ok (.getfield 19, 3) := dk_180 0 19 (dk_at dksX1_would_2 13 rfl rfl)
theorem dX1_would_64 : decode cX1_would 64 = .ok (.getfield 143, 3) := dk_180 0 143 (dk_at dksX1_would_2 16 rfl rfl)
theorem dX1_would_67 : decode cX1_would 67 = .ok (.iload_n 1, 1) := dk_27 (dk_at dksX1_would_2 19 rfl rfl)
theorem dX1_would_68 : decode cX1_would 68 = .ok (.iaload, 1) := dk_46 (dk_at dksX1_would_2 20 rfl rfl)
theorem dX1_would_69 : decode cX1_would 69 = .ok (.aaload, 1) := dk_50 (dk_at dksX1_would_2 21 rfl rfl)
theorem dX1_would_70 : decode cX1_would 70 = .ok (.astore 4, 2) := dk_58 4 (dk_at dksX1_would_2 22 rfl rfl)
theorem dX1_would_72 : decode cX1_would 72 = .ok (.aload 4, 2) := dk_25 4 (dk_at dksX1_would_3 0 rfl rfl)
theorem dX1_would_74 : decode cX1_would 74 = .ok (.ifnonnull 5, 3) := dk_199 0 5 (dk_at dksX1_would_3 2 rfl rfl)
theorem dX1_would_77 : decode cX1_would 77 = .ok (.iconst (-1), 1) := dk_2 (dk_at dksX1_would_3 5 rfl rfl)
theorem dX1_would_78 : decode cX1_would 78 = .ok (.ireturn, 1) := dk_172 (dk_at dksX1_would_3 6 rfl rfl)
theorem dX1_would_79 : decode cX1_would 79 = .ok (.aload 4, 2) := dk_25 4 (dk_at dksX1_would_3 7 rfl rfl)
theorem dX1_would_81 : decode cX1_would 81 = .ok (.aload_n 0, 1) := dk_42 (dk_at dksX1_would_3 9 rfl rfl)
theorem dX1_would_82 : decode cX1_would 82 = .ok (.invokevirtual 212, 3) := dk_182 0 212 (dk_at dksX1_would_3 10 rfl rfl)
theorem dX1_would_85 : decode cX1_would 85 = .ok (.iload_n 2, 1) := dk_28 (dk_at dksX1_would_3 13 rfl rfl)
theorem dX1_would_86 : decode cX1_would 86 = .ok (.invokevirtual 216, 3) := dk_182 0 216 (dk_at dksX1_would_3 14 rfl rfl)
theorem dX1_would_89 : decode cX1_would 89 = .ok (.invokevirtual 237, 3) := dk_182 0 237 (dk_at dksX1_would_3 17 rfl rfl)
theorem dX1_would_92 : decode cX1_would 92 = .ok (.iload_n 1, 1) := dk_27 (dk_at dksX1_would_3 20 rfl rfl)
theorem dX1_would_93 : decode cX1_would 93 = .ok (.invokevirtual 239, 3) := dk_182 0 239 (dk_at dksX1_would_3 21 rfl rfl)
theorem dX1_would_96 : decode cX1_would 96 = .ok (.ifCond .eq 7, 3) := dk_153 0 7 (dk_at dksX1_would_4 0 rfl rfl)
theorem dX1_would_99 : decode cX1_would 99 = .ok (.iconst 1, 1) := dk_4 (dk_at dksX1_would_4 3 rfl rfl)
theorem dX1_would_100 : decode cX1_would 100 = .ok (.goto 4, 3) := dk_167 0 4 (dk_at dksX1_would_4 4 rfl rfl)
theorem dX1_would_103 : decode cX1_would 103 = .ok (.iconst 0, 1) := dk_3 (dk_at dksX1_would_4 7 rfl rfl)
theorem dX1_would_104 : decode cX1_would 104 = .ok (.ireturn, 1) := dk_172 (dk_at dksX1_would_4 8 rfl rfl)
def dkwX1_stands_2 : List UInt8 := [180, 0, 228, 27, 46, 5, 160, 0, 10, 44, 180, 0, 245, 167, 0, 4, 2, 172]
abbrev dktX1_stands_2 : List UInt8 := dkwX1_stands_2 ++ []
def dkwX1_stands_1 : List UInt8 := [5, 162, 0, 20, 44, 180, 0, 245, 17, 2, 88, 162, 0, 10, 44, 182, 0, 248, 167, 255, 232, 44]
abbrev dktX1_stands_1 : List UInt8 := dkwX1_stands_1 ++ dktX1_stands_2
def dkwX1_stands_0 : List UInt8 := [42, 180, 0, 19, 27, 182, 0, 131, 154, 0, 5, 2, 172, 42, 182, 0, 212, 77, 44, 180, 0, 228, 27, 46]
abbrev dktX1_stands_0 : List UInt8 := dkwX1_stands_0 ++ dktX1_stands_1
theorem dksX1_stands_0 : cX1_stands.data.toList.drop 0 = dktX1_stands_0 := by decide +kernel
theorem dksX1_stands_1 : cX1_stands.data.toList.drop 24 = dktX1_stands_1 := dk_seg dksX1_stands_0 24 rfl rfl
theorem dksX1_stands_2 : cX1_stands.data.toList.drop 46 = dktX1_stands_2 := dk_seg dksX1_stands_1 22 rfl rfl
theorem dX1_stands_0 : decode cX1_stands 0 = .ok (.aload_n 0, 1) := dk_42 (dk_at dksX1_stands_0 0 rfl rfl)
theorem dX1_stands_1 : decode cX1_stands 1 = .ok (.getfield 19, 3) := dk_180 0 19 (dk_at dksX1_stands_0 1 rfl rfl)
theorem dX1_stands_4 : decode cX1_stands 4 = .ok (.iload_n 1, 1) := dk_27 (dk_at dksX1_stands_0 4 rfl rfl)
theorem dX1_stands_5 : decode cX1_stands 5 = .ok (.invokevirtual 131, 3) := dk_182 0 131 (dk_at dksX1_stands_0 5 rfl rfl)
theorem dX1_stands_8 : decode cX1_stands 8 = .ok (.ifCond .ne 5, 3) := dk_154 0 5 (dk_at dksX1_stands_0 8 rfl rfl)
theorem dX1_stands_11 : decode cX1_stands 11 = .ok (.iconst (-1), 1) := dk_2 (dk_at dksX1_stands_0 11 rfl rfl)
theorem dX1_stands_12 : decode cX1_stands 12 = .ok (.ireturn, 1) := dk_172 (dk_at dksX1_stands_0 12 rfl rfl)
theorem dX1_stands_13 : decode cX1_stands 13 = .ok (.aload_n 0, 1) := dk_42 (dk_at dksX1_stands_0 13 rfl rfl)
theorem dX1_stands_14 : decode cX1_stands 14 = .ok (.invokevirtual 212, 3) := dk_182 0 212 (dk_at dksX1_stands_0 14 rfl rfl)
theorem dX1_stands_17 : decode cX1_stands 17 = .ok (.astore_n 2, 1) := dk_77 (dk_at dksX1_stands_0 17 rfl rfl)
theorem dX1_stands_18 : decode cX1_stands 18 = .ok (.aload_n 2, 1) := dk_44 (dk_at dksX1_stands_0 18 rfl rfl)
theorem dX1_stands_19 : decode cX1_stands 19 = .ok (.getfield 228, 3) := dk_180 0 228 (dk_at dksX1_stands_0 19 rfl rfl)
theorem dX1_stands_22 : decode cX1_stands 22 = .ok (.iload_n 1, 1) := dk_27 (dk_at dksX1_stands_0 22 rfl rfl)
theorem dX1_stands_23 : decode cX1_stands 23 = .ok (.iaload, 1) := dk_46 (dk_at dksX1_stands_0 23 rfl rfl)
theorem dX1_stands_24 : decode cX1_stands 24 = .ok (.iconst 2, 1) := dk_5 (dk_at dksX1_stands_1 0 rfl rfl)
theorem dX1_stands_25 : decode cX1_stands 25 = .ok (.if_icmp .ge 20, 3) := dk_162 0 20 (dk_at dksX1_stands_1 1 rfl rfl)
theorem dX1_stands_28 : decode cX1_stands 28 = .ok (.aload_n 2, 1) := dk_44 (dk_at dksX1_stands_1 4 rfl rfl)
theorem dX1_stands_29 : decode cX1_stands 29 = .ok (.getfield 245, 3) := dk_180 0 245 (dk_at dksX1_stands_1 5 rfl rfl)
theorem dX1_stands_32 : decode cX1_stands 32 = .ok (.sipush 600, 3) := dk_17 2 88 (dk_at dksX1_stands_1 8 rfl rfl)
theorem dX1_stands_35 : decode cX1_stands 35 = .ok (.if_icmp .ge 10, 3) := dk_162 0 10 (dk_at dksX1_stands_1 11 rfl rfl)
theorem dX1_stands_38 : decode cX1_stands 38 = .ok (.aload_n 2, 1) := dk_44 (dk_at dksX1_stands_1 14 rfl rfl)
theorem dX1_stands_39 : decode cX1_stands 39 = .ok (.invokevirtual 248, 3) := dk_182 0 248 (dk_at dksX1_stands_1 15 rfl rfl)
theorem dX1_stands_42 : decode cX1_stands 42 = .ok (.goto (-24), 3) := dk_167 255 232 (dk_at dksX1_stands_1 18 rfl rfl)
theorem dX1_stands_45 : decode cX1_stands 45 = .ok (.aload_n 2, 1) := dk_44 (dk_at dksX1_stands_1 21 rfl rfl)
theorem dX1_stands_46 : decode cX1_stands 46 = .ok (.getfield 228, 3) := dk_180 0 228 (dk_at dksX1_stands_2 0 rfl rfl)
theorem dX1_stands_49 : decode cX1_stands 49 = .ok (.iload_n 1, 1) := dk_27 (dk_at dksX1_stands_2 3 rfl rfl)
theorem dX1_stands_50 : decode cX1_stands 50 = .ok (.iaload, 1) := dk_46 (dk_at dksX1_stands_2 4 rfl rfl)
theorem dX1_stands_51 : decode cX1_stands 51 = .ok (.iconst 2, 1) := dk_5 (dk_at dksX1_stands_2 5 rfl rfl)
theorem dX1_stands_52 : decode cX1_stands 52 = .ok (.if_icmp .ne 10, 3) := dk_160 0 10 (dk_at dksX1_stands_2 6 rfl rfl)
theorem dX1_stands_55 : decode cX1_stands 55 = .ok (.aload_n 2, 1) := dk_44 (dk_at dksX1_stands_2 9 rfl rfl)
theorem dX1_stands_56 : decode cX1_stands 56 = .ok (.getfield 245, 3) := dk_180 0 245 (dk_at dksX1_stands_2 10 rfl rfl)
theorem dX1_stands_59 : decode cX1_stands 59 = .ok (.goto 4, 3) := dk_167 0 4 (dk_at dksX1_stands_2 13 rfl rfl)
theorem dX1_stands_62 : decode cX1_stands 62 = .ok (.iconst (-1), 1) := dk_2 (dk_at dksX1_stands_2 16 rfl rfl)
theorem dX1_stands_63 : decode cX1_stands 63 = .ok (.ireturn, 1) := dk_172 (dk_at dksX1_stands_2 17 rfl rfl)
def dkwX1_anyway_2 : List UInt8 := [180, 0, 220, 5, 47, 127, 184, 0, 222, 172]
abbrev dktX1_anyway_2 : List UInt8 := dkwX1_anyway_2 ++ []
def dkwX1_anyway_1 : List UInt8 := [180, 0, 37, 42, 180, 0, 19, 42, 180, 0, 26, 9, 42, 180, 0, 117, 182, 0, 201, 27, 182, 0, 216]
abbrev dktX1_anyway_1 : List UInt8 := dkwX1_anyway_1 ++ dktX1_anyway_2
def dkwX1_anyway_0 : List UInt8 := [27, 184, 0, 205, 154, 0, 5, 2, 172, 42, 182, 0, 212, 27, 182, 0, 216, 180, 0, 220, 5, 47, 42]
abbrev dktX1_anyway_0 : List UInt8 := dkwX1_anyway_0 ++ dktX1_anyway_1
theorem dksX1_anyway_0 : cX1_anyway.data.toList.drop 0 = dktX1_anyway_0 := by decide +kernel
theorem dksX1_anyway_1 : cX1_anyway.data.toList.drop 23 = dktX1_anyway_1 := dk_seg dksX1_anyway_0 23 rfl rfl
theorem dksX1_anyway_2 : cX1_anyway.data.toList.drop 46 = dktX1_anyway_2 := dk_seg dksX1_anyway_1 23 rfl rfl
theorem dX1_anyway_0 : decode cX1_anyway 0 = .ok (.iload_n 1, 1) := dk_27 (dk_at dksX1_anyway_0 0 rfl rfl)
theorem dX1_anyway_1 : decode cX1_anyway 1 = .ok (.invokestatic 205, 3) := dk_184 0 205 (dk_at dksX1_anyway_0 1 rfl rfl)
theorem dX1_anyway_4 : decode cX1_anyway 4 = .ok (.ifCond .ne 5, 3) := dk_154 0 5 (dk_at dksX1_anyway_0 4 rfl rfl)
theorem dX1_anyway_7 : decode cX1_anyway 7 = .ok (.iconst (-1), 1) := dk_2 (dk_at dksX1_anyway_0 7 rfl rfl)
theorem dX1_anyway_8 : decode cX1_anyway 8 = .ok (.ireturn, 1) := dk_172 (dk_at dksX1_anyway_0 8 rfl rfl)
theorem dX1_anyway_9 : decode cX1_anyway 9 = .ok (.aload_n 0, 1) := dk_42 (dk_at dksX1_anyway_0 9 rfl rfl)
theorem dX1_anyway_10 : decode cX1_anyway 10 = .ok (.invokevirtual 212, 3) := dk_182 0 212 (dk_at dksX1_anyway_0 10 rfl rfl)
theorem dX1_anyway_13 : decode cX1_anyway 13 = .ok (.iload_n 1, 1) := dk_27 (dk_at dksX1_anyway_0 13 rfl rfl)
theorem dX1_anyway_14 : decode cX1_anyway 14 = .ok (.invokevirtual 216, 3) := dk_182 0 216 (dk_at dksX1_anyway_0 14 rfl rfl)
theorem dX1_anyway_17 : decode cX1_anyway 17 = .ok (.getfield 220, 3) := dk_180 0 220 (dk_at dksX1_anyway_0 17 rfl rfl)
theorem dX1_anyway_20 : decode cX1_anyway 20 = .ok (.iconst 2, 1) := dk_5 (dk_at dksX1_anyway_0 20 rfl rfl)
theorem dX1_anyway_21 : decode cX1_anyway 21 = .ok (.laload, 1) := dk_47 (dk_at dksX1_anyway_0 21 rfl rfl)
theorem dX1_anyway_22 : decode cX1_anyway 22 = .ok (.aload_n 0, 1) := dk_42 (dk_at dksX1_anyway_0 22 rfl rfl)
theorem dX1_anyway_23 : decode cX1_anyway 23 = .ok (.getfield 37, 3) := dk_180 0 37 (dk_at dksX1_anyway_1 0 rfl rfl)
theorem dX1_anyway_26 : decode cX1_anyway 26 = .ok (.aload_n 0, 1) := dk_42 (dk_at dksX1_anyway_1 3 rfl rfl)
theorem dX1_anyway_27 : decode cX1_anyway 27 = .ok (.getfield 19, 3) := dk_180 0 19 (dk_at dksX1_anyway_1 4 rfl rfl)
theorem dX1_anyway_30 : decode cX1_anyway 30 = .ok (.aload_n 0, 1) := dk_42 (dk_at dksX1_anyway_1 7 rfl rfl)
theorem dX1_anyway_31 : decode cX1_anyway 31 = .ok (.getfield 26, 3) := dk_180 0 26 (dk_at dksX1_anyway_1 8 rfl rfl)
theorem dX1_anyway_34 : decode cX1_anyway 34 = .ok (.lconst 0, 1) := dk_9 (dk_at dksX1_anyway_1 11 rfl rfl)
theorem dX1_anyway_35 : decode cX1_anyway 35 = .ok (.aload_n 0, 1) := dk_42 (dk_at dksX1_anyway_1 12 rfl rfl)
theorem dX1_anyway_36 : decode cX1_anyway 36 = .ok (.getfield 117, 3) := dk_180 0 117 (dk_at dksX1_anyway_1 13 rfl rfl)
theorem dX1_anyway_39 : decode cX1_anyway 39 = .ok (.invokevirtual 201, 3) := dk_182 0 201 (dk_at dksX1_anyway_1 16 rfl rfl)
theorem dX1_anyway_42 : decode cX1_anyway 42 = .ok (.iload_n 1, 1) := dk_27 (dk_at dksX1_anyway_1 19 rfl rfl)
theorem dX1_anyway_43 : decode cX1_anyway 43 = .ok (.invokevirtual 216, 3) := dk_182 0 216 (dk_at dksX1_anyway_1 20 rfl rfl)
theorem dX1_anyway_46 : decode cX1_anyway 46 = .ok (.getfield 220, 3) := dk_180 0 220 (dk_at dksX1_anyway_2 0 rfl rfl)
theorem dX1_anyway_49 : decode cX1_anyway 49 = .ok (.iconst 2, 1) := dk_5 (dk_at dksX1_anyway_2 3 rfl rfl)
theorem dX1_anyway_50 : decode cX1_anyway 50 = .ok (.laload, 1) := dk_47 (dk_at dksX1_anyway_2 4 rfl rfl)
theorem dX1_anyway_51 : decode cX1_anyway 51 = .ok (.land, 1) := dk_127 (dk_at dksX1_anyway_2 5 rfl rfl)
theorem dX1_anyway_52 : decode cX1_anyway 52 = .ok (.invokestatic 222, 3) := dk_184 0 222 (dk_at dksX1_anyway_2 6 rfl rfl)
theorem dX1_anyway_55 : decode cX1_anyway 55 = .ok (.ireturn, 1) := dk_172 (dk_at dksX1_anyway_2 9 rfl rfl)
def dkwX1_up_1 : List UInt8 := [182, 0, 248, 167, 255, 235, 43, 182, 0, 251, 153, 0, 10, 43, 180, 0, 245, 167, 0, 4, 2, 172]
abbrev dktX1_up_1 : List UInt8 := dkwX1_up_1 ++ []
def dkwX1_up_0 : List UInt8 := [42, 182, 0, 212, 76, 43, 182, 0, 251, 154, 0, 20, 43, 180, 0, 245, 17, 2, 88, 162, 0, 10, 43]
abbrev dktX1_up_0 : List UInt8 := dkwX1_up_0 ++ dktX1_up_1
theorem dksX1_up_0 : cX1_up.data.toList.drop 0 = dktX1_up_0 := by decide +kernel
theorem dksX1_up_1 : cX1_up.data.toList.drop 23 = dktX1_up_1 := dk_seg dksX1_up_0 23 rfl rfl
theorem dX1_up_0 : decode cX1_up 0 = .ok (.aload_n 0, 1) := dk_42 (dk_at dksX1_up_0 0 rfl rfl)
theorem dX1_up_1 : decode cX1_up 1 = .ok (.invokevirtual 212, 3) := dk_182 0 212 (dk_at dksX1_up_0 1 rfl rfl)
theorem dX1_up_4 : decode cX1_up 4 = .ok (.astore_n 1, 1) := dk_76 (dk_at dksX1_up_0 4 rfl rfl)
theorem dX1_up_5 : decode cX1_up 5 = .ok (.aload_n 1, 1) := dk_43 (dk_at dksX1_up_0 5 rfl rfl)
theorem dX1_up_6 : decode cX1_up 6 = .ok (.invokevirtual 251, 3) := dk_182 0 251 (dk_at dksX1_up_0 6 rfl rfl)
theorem dX1_up_9 : decode cX1_up 9 = .ok (.ifCond .ne 20, 3) := dk_154 0 20 (dk_at dksX1_up_0 9 rfl rfl)
theorem dX1_up_12 : decode cX1_up 12 = .ok (.aload_n 1, 1) := dk_43 (dk_at dksX1_up_0 12 rfl rfl)
theorem dX1_up_13 : decode cX1_up 13 = .ok (.getfield 245, 3) := dk_180 0 245 (dk_at dksX1_up_0 13 rfl rfl)
theorem dX1_up_16 : decode cX1_up 16 = .ok (.sipush 600, 3) := dk_17 2 88 (dk_at dksX1_up_0 16 rfl rfl)
theorem dX1_up_19 : decode cX1_up 19 = .ok (.if_icmp .ge 10, 3) := dk_162 0 10 (dk_at dksX1_up_0 19 rfl rfl)
theorem dX1_up_22 : decode cX1_up 22 = .ok (.aload_n 1, 1) := dk_43 (dk_at dksX1_up_0 22 rfl rfl)
theorem dX1_up_23 : decode cX1_up 23 = .ok (.invokevirtual 248, 3) := dk_182 0 248 (dk_at dksX1_up_1 0 rfl rfl)
theorem dX1_up_26 : decode cX1_up 26 = .ok (.goto (-21), 3) := dk_167 255 235 (dk_at dksX1_up_1 3 rfl rfl)
theorem dX1_up_29 : decode cX1_up 29 = .ok (.aload_n 1, 1) := dk_43 (dk_at dksX1_up_1 6 rfl rfl)
theorem dX1_up_30 : decode cX1_up 30 = .ok (.invokevirtual 251, 3) := dk_182 0 251 (dk_at dksX1_up_1 7 rfl rfl)
theorem dX1_up_33 : decode cX1_up 33 = .ok (.ifCond .eq 10, 3) := dk_153 0 10 (dk_at dksX1_up_1 10 rfl rfl)
theorem dX1_up_36 : decode cX1_up 36 = .ok (.aload_n 1, 1) := dk_43 (dk_at dksX1_up_1 13 rfl rfl)
theorem dX1_up_37 : decode cX1_up 37 = .ok (.getfield 245, 3) := dk_180 0 245 (dk_at dksX1_up_1 14 rfl rfl)
theorem dX1_up_40 : decode cX1_up 40 = .ok (.goto 4, 3) := dk_167 0 4 (dk_at dksX1_up_1 17 rfl rfl)
theorem dX1_up_43 : decode cX1_up 43 = .ok (.iconst (-1), 1) := dk_2 (dk_at dksX1_up_1 20 rfl rfl)
theorem dX1_up_44 : decode cX1_up 44 = .ok (.ireturn, 1) := dk_172 (dk_at dksX1_up_1 21 rfl rfl)
def dkwX1_calls_2 : List UInt8 := [153, 0, 10, 29, 154, 0, 6, 132, 4, 1, 44, 182, 0, 251, 62, 167, 255, 225, 21, 4, 172]
abbrev dktX1_calls_2 : List UInt8 := dkwX1_calls_2 ++ []
def dkwX1_calls_1 : List UInt8 := [167, 0, 4, 3, 54, 4, 44, 180, 0, 245, 27, 162, 0, 29, 44, 182, 0, 248, 44, 182, 0, 251]
abbrev dktX1_calls_1 : List UInt8 := dkwX1_calls_1 ++ dktX1_calls_2
def dkwX1_calls_0 : List UInt8 := [27, 184, 0, 205, 154, 0, 5, 2, 172, 42, 182, 0, 212, 77, 44, 182, 0, 251, 62, 29, 153, 0, 7, 4]
abbrev dktX1_calls_0 : List UInt8 := dkwX1_calls_0 ++ dktX1_calls_1
theorem dksX1_calls_0 : cX1_calls.data.toList.drop 0 = dktX1_calls_0 := by decide +kernel
theorem dksX1_calls_1 : cX1_calls.data.toList.drop 24 = dktX1_calls_1 := dk_seg dksX1_calls_0 24 rfl rfl
theorem dksX1_calls_2 : cX1_calls.data.toList.drop 46 = dktX1_calls_2 := dk_seg dksX1_calls_1 22 rfl rfl
theorem dX1_calls_0 : decode cX1_calls 0 = .ok (.iload_n 1, 1) := dk_27 (dk_at dksX1_calls_0 0 rfl rfl)
theorem dX1_calls_1 : decode cX1_calls 1 = .ok (.invokestatic 205, 3) := dk_184 0 205 (dk_at dksX1_calls_0 1 rfl rfl)
theorem dX1_calls_4 : decode cX1_calls 4 = .ok (.ifCond .ne 5, 3) := dk_154 0 5 (dk_at dksX1_calls_0 4 rfl rfl)
theorem dX1_calls_7 : decode cX1_calls 7 = .ok (.iconst (-1), 1) := dk_2 (dk_at dksX1_calls_0 7 rfl rfl)
theorem dX1_calls_8 : decode cX1_calls 8 = .ok (.ireturn, 1) := dk_172 (dk_at dksX1_calls_0 8 rfl rfl)
theorem dX1_calls_9 : decode cX1_calls 9 = .ok (.aload_n 0, 1) := dk_42 (dk_at dksX1_calls_0 9 rfl rfl)
theorem dX1_calls_10 : decode cX1_calls 10 = .ok (.invokevirtual 212, 3) := dk_182 0 212 (dk_at dksX1_calls_0 10 rfl rfl)
theorem dX1_calls_13 : decode cX1_calls 13 = .ok (.astore_n 2, 1) := dk_77 (dk_at dksX1_calls_0 13 rfl rfl)
theorem dX1_calls_14 : decode cX1_calls 14 = .ok (.aload_n 2, 1) := dk_44 (dk_at dksX1_calls_0 14 rfl rfl)
theorem dX1_calls_15 : decode cX1_calls 15 = .ok (.invokevirtual 251, 3) := dk_182 0 251 (dk_at dksX1_calls_0 15 rfl rfl)
theorem dX1_calls_18 : decode cX1_calls 18 = .ok (.istore_n 3, 1) := dk_62 (dk_at dksX1_calls_0 18 rfl rfl)
theorem dX1_calls_19 : decode cX1_calls 19 = .ok (.iload_n 3, 1) := dk_29 (dk_at dksX1_calls_0 19 rfl rfl)
theorem dX1_calls_20 : decode cX1_calls 20 = .ok (.ifCond .eq 7, 3) := dk_153 0 7 (dk_at dksX1_calls_0 20 rfl rfl)
theorem dX1_calls_23 : decode cX1_calls 23 = .ok (.iconst 1, 1) := dk_4 (dk_at dksX1_calls_0 23 rfl rfl)
theorem dX1_calls_24 : decode cX1_calls 24 = .ok (.goto 4, 3) := dk_167 0 4 (dk_at dksX1_calls_1 0 rfl rfl)
theorem dX1_calls_27 : decode cX1_calls 27 = .ok (.iconst 0, 1) := dk_3 (dk_at dksX1_calls_1 3 rfl rfl)
theorem dX1_calls_28 : decode cX1_calls 28 = .ok (.istore 4, 2) := dk_54 4 (dk_at dksX1_calls_1 4 rfl rfl)
theorem dX1_calls_30 : decode cX1_calls 30 = .ok (.aload_n 2, 1) := dk_44 (dk_at dksX1_calls_1 6 rfl rfl)
theorem dX1_calls_31 : decode cX1_calls 31 = .ok (.getfield 245, 3) := dk_180 0 245 (dk_at dksX1_calls_1 7 rfl rfl)
theorem dX1_calls_34 : decode cX1_calls 34 = .ok (.iload_n 1, 1) := dk_27 (dk_at dksX1_calls_1 10 rfl rfl)
theorem dX1_calls_35 : decode cX1_calls 35 = .ok (.if_icmp .ge 29, 3) := dk_162 0 29 (dk_at dksX1_calls_1 11 rfl rfl)
theorem dX1_calls_38 : decode cX1_calls 38 = .ok (.aload_n 2, 1) := dk_44 (dk_at dksX1_calls_1 14 rfl rfl)
theorem dX1_calls_39 : decode cX1_calls 39 = .ok (.invokevirtual 248, 3) := dk_182 0 248 (dk_at dksX1_calls_1 15 rfl rfl)
theorem dX1_calls_42 : decode cX1_calls 42 = .ok (.aload_n 2, 1) := dk_44 (dk_at dksX1_calls_1 18 rfl rfl)
theorem dX1_calls_43 : decode cX1_calls 43 = .ok (.invokevirtual 251, 3) := dk_182 0 251 (dk_at dksX1_calls_1 19 rfl rfl)
theorem dX1_calls_46 : decode cX1_calls 46 = .ok (.ifCond .eq 10, 3) := dk_153 0 10 (dk_at dksX1_calls_2 0 rfl rfl)
theorem dX1_calls_49 : decode cX1_calls 49 = .ok (.iload_n 3, 1) := dk_29 (dk_at dksX1_calls_2 3 rfl rfl)
theorem dX1_calls_50 : decode cX1_calls 50 = .ok (.ifCond .ne 6, 3) := dk_154 0 6 (dk_at dksX1_calls_2 4 rfl rfl)
theorem dX1_calls_53 : decode cX1_calls 53 = .ok (.iinc 4 1, 3) := dk_132 4 1 (dk_at dksX1_calls_2 7 rfl rfl)
theorem dX1_calls_56 : decode cX1_calls 56 = .ok (.aload_n 2, 1) := dk_44 (dk_at dksX1_calls_2 10 rfl rfl)
theorem dX1_calls_57 : decode cX1_calls 57 = .ok (.invokevirtual 251, 3) := dk_182 0 251 (dk_at dksX1_calls_2 11 rfl rfl)
theorem dX1_calls_60 : decode cX1_calls 60 = .ok (.istore_n 3, 1) := dk_62 (dk_at dksX1_calls_2 14 rfl rfl)
theorem dX1_calls_61 : decode cX1_calls 61 = .ok (.goto (-31), 3) := dk_167 255 225 (dk_at dksX1_calls_2 15 rfl rfl)
theorem dX1_calls_64 : decode cX1_calls 64 = .ok (.iload 4, 2) := dk_21 4 (dk_at dksX1_calls_2 18 rfl rfl)
theorem dX1_calls_66 : decode cX1_calls 66 = .ok (.ireturn, 1) := dk_172 (dk_at dksX1_calls_2 20 rfl rfl)
def dkwX1_again_4 : List UInt8 := [21, 4, 29, 100, 172, 132, 4, 1, 167, 255, 222, 132, 3, 1, 167, 255, 204, 2, 172]
abbrev dktX1_again_4 : List UInt8 := dkwX1_again_4 ++ []
def dkwX1_again_3 : List UInt8 := [17, 2, 88, 163, 0, 32, 42, 29, 21, 4, 182, 1, 17, 153, 0, 16, 27, 154, 0, 7, 29, 167, 0, 7]
abbrev dktX1_again_3 : List UInt8 := dkwX1_again_3 ++ dktX1_again_4
def dkwX1_again_2 : List UInt8 := [167, 255, 234, 42, 182, 1, 14, 62, 29, 17, 2, 88, 162, 0, 51, 29, 4, 96, 54, 4, 21, 4]
abbrev dktX1_again_2 : List UInt8 := dkwX1_again_2 ++ dktX1_again_3
def dkwX1_again_1 : List UInt8 := [44, 180, 0, 245, 17, 2, 88, 162, 0, 18, 44, 182, 0, 248, 44, 42, 180, 0, 40, 182, 1, 10]
abbrev dktX1_again_1 : List UInt8 := dkwX1_again_1 ++ dktX1_again_2
def dkwX1_again_0 : List UInt8 := [27, 3, 4, 184, 0, 135, 154, 0, 5, 2, 172, 42, 182, 0, 212, 77, 44, 42, 180, 0, 40, 182, 1, 10]
abbrev dktX1_again_0 : List UInt8 := dkwX1_again_0 ++ dktX1_again_1
theorem dksX1_again_0 : cX1_again.data.toList.drop 0 = dktX1_again_0 := by decide +kernel
theorem dksX1_again_1 : cX1_again.data.toList.drop 24 = dktX1_again_1 := dk_seg dksX1_again_0 24 rfl rfl
theorem dksX1_again_2 : cX1_again.data.toList.drop 46 = dktX1_again_2 := dk_seg dksX1_again_1 22 rfl rfl
theorem dksX1_again_3 : cX1_again.data.toList.drop 68 = dktX1_again_3 := dk_seg dksX1_again_2 22 rfl rfl
theorem dksX1_again_4 : cX1_again.data.toList.drop 92 = dktX1_again_4 := dk_seg dksX1_again_3 24 rfl rfl
theorem dX1_again_0 : decode cX1_again 0 = .ok (.iload_n 1, 1) := dk_27 (dk_at dksX1_again_0 0 rfl rfl)
theorem dX1_again_1 : decode cX1_again 1 = .ok (.iconst 0, 1) := dk_3 (dk_at dksX1_again_0 1 rfl rfl)
theorem dX1_again_2 : decode cX1_again 2 = .ok (.iconst 1, 1) := dk_4 (dk_at dksX1_again_0 2 rfl rfl)
theorem dX1_again_3 : decode cX1_again 3 = .ok (.invokestatic 135, 3) := dk_184 0 135 (dk_at dksX1_again_0 3 rfl rfl)
theorem dX1_again_6 : decode cX1_again 6 = .ok (.ifCond .ne 5, 3) := dk_154 0 5 (dk_at dksX1_again_0 6 rfl rfl)
theorem dX1_again_9 : decode cX1_again 9 = .ok (.iconst (-1), 1) := dk_2 (dk_at dksX1_again_0 9 rfl rfl)
theorem dX1_again_10 : decode cX1_again 10 = .ok (.ireturn, 1) := dk_172 (dk_at dksX1_again_0 10 rfl rfl)
theorem dX1_again_11 : decode cX1_again 11 = .ok (.aload_n 0, 1) := dk_42 (dk_at dksX1_again_0 11 rfl rfl)
theorem dX1_again_12 : decode cX1_again 12 = .ok (.invokevirtual 212, 3) := dk_182 0 212 (dk_at dksX1_again_0 12 rfl rfl)
theorem dX1_again_15 : decode cX1_again 15 = .ok (.astore_n 2, 1) := dk_77 (dk_at dksX1_again_0 15 rfl rfl)
theorem dX1_again_16 : decode cX1_again 16 = .ok (.aload_n 2, 1) := dk_44 (dk_at dksX1_again_0 16 rfl rfl)
theorem dX1_again_17 : decode cX1_again 17 = .ok (.aload_n 0, 1) := dk_42 (dk_at dksX1_again_0 17 rfl rfl)
theorem dX1_again_18 : decode cX1_again 18 = .ok (.getfield 40, 3) := dk_180 0 40 (dk_at dksX1_again_0 18 rfl rfl)
theorem dX1_again_21 : decode cX1_again 21 = .ok (.invokevirtual 266, 3) := dk_182 1 10 (dk_at dksX1_again_0 21 rfl rfl)
theorem dX1_again_24 : decode cX1_again 24 = .ok (.aload_n 2, 1) := dk_44 (dk_at dksX1_again_1 0 rfl rfl)
theorem dX1_again_25 : decode cX1_again 25 = .ok (.getfield 245, 3) := dk_180 0 245 (dk_at dksX1_again_1 1 rfl rfl)
theorem dX1_again_28 : decode cX1_again 28 = .ok (.sipush 600, 3) := dk_17 2 88 (dk_at dksX1_again_1 4 rfl rfl)
theorem dX1_again_31 : decode cX1_again 31 = .ok (.if_icmp .ge 18, 3) := dk_162 0 18 (dk_at dksX1_again_1 7 rfl rfl)
theorem dX1_again_34 : decode cX1_again 34 = .ok (.aload_n 2, 1) := dk_44 (dk_at dksX1_again_1 10 rfl rfl)
theorem dX1_again_35 : decode cX1_again 35 = .ok (.invokevirtual 248, 3) := dk_182 0 248 (dk_at dksX1_again_1 11 rfl rfl)
theorem dX1_again_38 : decode cX1_again 38 = .ok (.aload_n 2, 1) := dk_44 (dk_at dksX1_again_1 14 rfl rfl)
theorem dX1_again_39 : decode cX1_again 39 = .ok (.aload_n 0, 1) := dk_42 (dk_at dksX1_again_1 15 rfl rfl)
theorem dX1_again_40 : decode cX1_again 40 = .ok (.getfield 40, 3) := dk_180 0 40 (dk_at dksX1_again_1 16 rfl rfl)
theorem dX1_again_43 : decode cX1_again 43 = .ok (.invokevirtual 266, 3) := dk_182 1 10 (dk_at dksX1_again_1 19 rfl rfl)
theorem dX1_again_46 : decode cX1_again 46 = .ok (.goto (-22), 3) := dk_167 255 234 (dk_at dksX1_again_2 0 rfl rfl)
theorem dX1_again_49 : decode cX1_again 49 = .ok (.aload_n 0, 1) := dk_42 (dk_at dksX1_again_2 3 rfl rfl)
theorem dX1_again_50 : decode cX1_again 50 = .ok (.invokevirtual 270, 3) := dk_182 1 14 (dk_at dksX1_again_2 4 rfl rfl)
theorem dX1_again_53 : decode cX1_again 53 = .ok (.istore_n 3, 1) := dk_62 (dk_at dksX1_again_2 7 rfl rfl)
theorem dX1_again_54 : decode cX1_again 54 = .ok (.iload_n 3, 1) := dk_29 (dk_at dksX1_again_2 8 rfl rfl)
theorem dX1_again_55 : decode cX1_again 55 = .ok (.sipush 600, 3) := dk_17 2 88 (dk_at dksX1_again_2 9 rfl rfl)
theorem dX1_again_58 : decode cX1_again 58 = .ok (.if_icmp .ge 51, 3) := dk_162 0 51 (dk_at dksX1_again_2 12 rfl rfl)
theorem dX1_again_61 : decode cX1_again 61 = .ok (.iload_n 3, 1) := dk_29 (dk_at dksX1_again_2 15 rfl rfl)
theorem dX1_again_62 : decode cX1_again 62 = .ok (.iconst 1, 1) := dk_4 (dk_at dksX1_again_2 16 rfl rfl)
theorem dX1_again_63 : decode cX1_again 63 = .ok (.iadd, 1) := dk_96 (dk_at dksX1_again_2 17 rfl rfl)
theorem dX1_again_64 : decode cX1_again 64 = .ok (.istore 4, 2) := dk_54 4 (dk_at dksX1_again_2 18 rfl rfl)
theorem dX1_again_66 : decode cX1_again 66 = .ok (.iload 4, 2) := dk_21 4 (dk_at dksX1_again_2 20 rfl rfl)
theorem dX1_again_68 : decode cX1_again 68 = .ok (.sipush 600, 3) := dk_17 2 88 (dk_at dksX1_again_3 0 rfl rfl)
theorem dX1_again_71 : decode cX1_again 71 = .ok (.if_icmp .gt 32, 3) := dk_163 0 32 (dk_at dksX1_again_3 3 rfl rfl)
theorem dX1_again_74 : decode cX1_again 74 = .ok (.aload_n 0, 1) := dk_42 (dk_at dksX1_again_3 6 rfl rfl)
theorem dX1_again_75 : decode cX1_again 75 = .ok (.iload_n 3, 1) := dk_29 (dk_at dksX1_again_3 7 rfl rfl)
theorem dX1_again_76 : decode cX1_again 76 = .ok (.iload 4, 2) := dk_21 4 (dk_at dksX1_again_3 8 rfl rfl)
theorem dX1_again_78 : decode cX1_again 78 = .ok (.invokevirtual 273, 3) := dk_182 1 17 (dk_at dksX1_again_3 10 rfl rfl)
theorem dX1_again_81 : decode cX1_again 81 = .ok (.ifCond .eq 16, 3) := dk_153 0 16 (dk_at dksX1_again_3 13 rfl rfl)
theorem dX1_again_84 : decode cX1_again 84 = .ok (.iload_n 1, 1) := dk_27 (dk_at dksX1_again_3 16 rfl rfl)
theorem dX1_again_85 : decode cX1_again 85 = .ok (.ifCond .ne 7, 3) := dk_154 0 7 (dk_at dksX1_again_3 17 rfl rfl)
theorem dX1_again_88 : decode cX1_again 88 = .ok (.iload_n 3, 1) := dk_29 (dk_at dksX1_again_3 20 rfl rfl)
theorem dX1_again_89 : decode cX1_again 89 = .ok (.goto 7, 3) := dk_167 0 7 (dk_at dksX1_again_3 21 rfl rfl)
theorem dX1_again_92 : decode cX1_again 92 = .ok (.iload 4, 2) := dk_21 4 (dk_at dksX1_again_4 0 rfl rfl)
theorem dX1_again_94 : decode cX1_again 94 = .ok (.iload_n 3, 1) := dk_29 (dk_at dksX1_again_4 2 rfl rfl)
theorem dX1_again_95 : decode cX1_again 95 = .ok (.isub, 1) := dk_100 (dk_at dksX1_again_4 3 rfl rfl)
theorem dX1_again_96 : decode cX1_again 96 = .ok (.ireturn, 1) := dk_172 (dk_at dksX1_again_4 4 rfl rfl)
theorem dX1_again_97 : decode cX1_again 97 = .ok (.iinc 4 1, 3) := dk_132 4 1 (dk_at dksX1_again_4 5 rfl rfl)
theorem dX1_again_100 : decode cX1_again 100 = .ok (.goto (-34), 3) := dk_167 255 222 (dk_at dksX1_again_4 8 rfl rfl)
theorem dX1_again_103 : decode cX1_again 103 = .ok (.iinc 3 1, 3) := dk_132 3 1 (dk_at dksX1_again_4 11 rfl rfl)
theorem dX1_again_106 : decode cX1_again 106 = .ok (.goto (-52), 3) := dk_167 255 204 (dk_at dksX1_again_4 14 rfl rfl)
theorem dX1_again_109 : decode cX1_again 109 = .ok (.iconst (-1), 1) := dk_2 (dk_at dksX1_again_4 17 rfl rfl)
theorem dX1_again_110 : decode cX1_again 110 = .ok (.ireturn, 1) := dk_172 (dk_at dksX1_again_4 18 rfl rfl)
def dkwX1_quiet_6 : List UInt8 := [4, 96, 184, 1, 2, 167, 0, 4, 27, 172]
abbrev dktX1_quiet_6 : List UInt8 := dkwX1_quiet_6 ++ []
def dkwX1_quiet_5 : List UInt8 := [153, 0, 32, 42, 180, 0, 19, 180, 1, 8, 17, 2, 88, 162, 0, 19, 27, 42, 180, 0, 19, 180, 1, 8]
abbrev dktX1_quiet_5 : List UInt8 := dkwX1_quiet_5 ++ dktX1_quiet_6
def dkwX1_quiet_4 : List UInt8 := [192, 0, 190, 182, 0, 195, 154, 0, 7, 4, 167, 0, 4, 3, 61, 132, 3, 1, 167, 255, 196, 28]
abbrev dktX1_quiet_4 : List UInt8 := dkwX1_quiet_4 ++ dktX1_quiet_5
def dkwX1_quiet_3 : List UInt8 := [192, 0, 190, 180, 0, 192, 184, 1, 2, 60, 28, 154, 0, 20, 42, 180, 0, 26, 29, 182, 0, 186]
abbrev dktX1_quiet_3 : List UInt8 := dkwX1_quiet_3 ++ dktX1_quiet_4
def dkwX1_quiet_2 : List UInt8 := [3, 61, 3, 62, 29, 42, 180, 0, 26, 182, 0, 183, 162, 0, 55, 27, 42, 180, 0, 26, 29, 182, 0, 186]
abbrev dktX1_quiet_2 : List UInt8 := dkwX1_quiet_2 ++ dktX1_quiet_3
def dkwX1_quiet_1 : List UInt8 := [46, 184, 1, 2, 60, 132, 2, 1, 167, 255, 228, 42, 180, 0, 114, 9, 148, 153, 0, 7, 4, 167, 0, 4]
abbrev dktX1_quiet_1 : List UInt8 := dkwX1_quiet_1 ++ dktX1_quiet_2
def dkwX1_quiet_0 : List UInt8 := [3, 60, 3, 61, 28, 42, 180, 0, 19, 180, 0, 255, 162, 0, 23, 27, 42, 180, 0, 19, 180, 0, 152, 28]
abbrev dktX1_quiet_0 : List UInt8 := dkwX1_quiet_0 ++ dktX1_quiet_1
theorem dksX1_quiet_0 : cX1_quiet.data.toList.drop 0 = dktX1_quiet_0 := by decide +kernel
theorem dksX1_quiet_1 : cX1_quiet.data.toList.drop 24 = dktX1_quiet_1 := dk_seg dksX1_quiet_0 24 rfl rfl
theorem dksX1_quiet_2 : cX1_quiet.data.toList.drop 48 = dktX1_quiet_2 := dk_seg dksX1_quiet_1 24 rfl rfl
theorem dksX1_quiet_3 : cX1_quiet.data.toList.drop 72 = dktX1_quiet_3 := dk_seg dksX1_quiet_2 24 rfl rfl
theorem dksX1_quiet_4 : cX1_quiet.data.toList.drop 94 = dktX1_quiet_4 := dk_seg dksX1_quiet_3 22 rfl rfl
theorem dksX1_quiet_5 : cX1_quiet.data.toList.drop 116 = dktX1_quiet_5 := dk_seg dksX1_quiet_4 22 rfl rfl
theorem dksX1_quiet_6 : cX1_quiet.data.toList.drop 140 = dktX1_quiet_6 := dk_seg dksX1_quiet_5 24 rfl rfl
theorem dX1_quiet_0 : decode cX1_quiet 0 = .ok (.iconst 0, 1) := dk_3 (dk_at dksX1_quiet_0 0 rfl rfl)
theorem dX1_quiet_1 : decode cX1_quiet 1 = .ok (.istore_n 1, 1) := dk_60 (dk_at dksX1_quiet_0 1 rfl rfl)
theorem dX1_quiet_2 : decode cX1_quiet 2 = .ok (.iconst 0, 1) := dk_3 (dk_at dksX1_quiet_0 2 rfl rfl)
theorem dX1_quiet_3 : decode cX1_quiet 3 = .ok (.istore_n 2, 1) := dk_61 (dk_at dksX1_quiet_0 3 rfl rfl)
theorem dX1_quiet_4 : decode cX1_quiet 4 = .ok (.iload_n 2, 1) := dk_28 (dk_at dksX1_quiet_0 4 rfl rfl)
theorem dX1_quiet_5 : decode cX1_quiet 5 = .ok (.aload_n 0, 1) := dk_42 (dk_at dksX1_quiet_0 5 rfl rfl)
theorem dX1_quiet_6 : decode cX1_quiet 6 = .ok (.getfield 19, 3) := dk_180 0 19 (dk_at dksX1_quiet_0 6 rfl rfl)
theorem dX1_quiet_9 : decode cX1_quiet 9 = .ok (.getfield 255, 3) := dk_180 0 255 (dk_at dksX1_quiet_0 9 rfl rfl)
theorem dX1_quiet_12 : decode cX1_quiet 12 = .ok (.if_icmp .ge 23, 3) := dk_162 0 23 (dk_at dksX1_quiet_0 12 rfl rfl)
theorem dX1_quiet_15 : decode cX1_quiet 15 = .ok (.iload_n 1, 1) := dk_27 (dk_at dksX1_quiet_0 15 rfl rfl)
theorem dX1_quiet_16 : decode cX1_quiet 16 = .ok (.aload_n 0, 1) := dk_42 (dk_at dksX1_quiet_0 16 rfl rfl)
theorem dX1_quiet_17 : decode cX1_quiet 17 = .ok (.getfield 19, 3) := dk_180 0 19 (dk_at dksX1_quiet_0 17 rfl rfl)
theorem dX1_quiet_20 : decode cX1_quiet 20 = .ok (.getfield 152, 3) := dk_180 0 152 (dk_at dksX1_quiet_0 20 rfl rfl)
theorem dX1_quiet_23 : decode cX1_quiet 23 = .ok (.iload_n 2, 1) := dk_28 (dk_at dksX1_quiet_0 23 rfl rfl)
theorem dX1_quiet_24 : decode cX1_quiet 24 = .ok (.iaload, 1) := dk_46 (dk_at dksX1_quiet_1 0 rfl rfl)
theorem dX1_quiet_25 : decode cX1_quiet 25 = .ok (.invokestatic 258, 3) := dk_184 1 2 (dk_at dksX1_quiet_1 1 rfl rfl)
theorem dX1_quiet_28 : decode cX1_quiet 28 = .ok (.istore_n 1, 1) := dk_60 (dk_at dksX1_quiet_1 4 rfl rfl)
theorem dX1_quiet_29 : decode cX1_quiet 29 = .ok (.iinc 2 1, 3) := dk_132 2 1 (dk_at dksX1_quiet_1 5 rfl rfl)
theorem dX1_quiet_32 : decode cX1_quiet 32 = .ok (.goto (-28), 3) := dk_167 255 228 (dk_at dksX1_quiet_1 8 rfl rfl)
theorem dX1_quiet_35 : decode cX1_quiet 35 = .ok (.aload_n 0, 1) := dk_42 (dk_at dksX1_quiet_1 11 rfl rfl)
theorem dX1_quiet_36 : decode cX1_quiet 36 = .ok (.getfield 114, 3) := dk_180 0 114 (dk_at dksX1_quiet_1 12 rfl rfl)
theorem dX1_quiet_39 : decode cX1_quiet 39 = .ok (.lconst 0, 1) := dk_9 (dk_at dksX1_quiet_1 15 rfl rfl)
theorem dX1_quiet_40 : decode cX1_quiet 40 = .ok (.lcmp, 1) := dk_148 (dk_at dksX1_quiet_1 16 rfl rfl)
theorem dX1_quiet_41 : decode cX1_quiet 41 = .ok (.ifCond .eq 7, 3) := dk_153 0 7 (dk_at dksX1_quiet_1 17 rfl rfl)
theorem dX1_quiet_44 : decode cX1_quiet 44 = .ok (.iconst 1, 1) := dk_4 (dk_at dksX1_quiet_1 20 rfl rfl)
theorem dX1_quiet_45 : decode cX1_quiet 45 = .ok (.goto 4, 3) := dk_167 0 4 (dk_at dksX1_quiet_1 21 rfl rfl)
theorem dX1_quiet_48 : decode cX1_quiet 48 = .ok (.iconst 0, 1) := dk_3 (dk_at dksX1_quiet_2 0 rfl rfl)
theorem dX1_quiet_49 : decode cX1_quiet 49 = .ok (.istore_n 2, 1) := dk_61 (dk_at dksX1_quiet_2 1 rfl rfl)
theorem dX1_quiet_50 : decode cX1_quiet 50 = .ok (.iconst 0, 1) := dk_3 (dk_at dksX1_quiet_2 2 rfl rfl)
theorem dX1_quiet_51 : decode cX1_quiet 51 = .ok (.istore_n 3, 1) := dk_62 (dk_at dksX1_quiet_2 3 rfl rfl)
theorem dX1_quiet_52 : decode cX1_quiet 52 = .ok (.iload_n 3, 1) := dk_29 (dk_at dksX1_quiet_2 4 rfl rfl)
theorem dX1_quiet_53 : decode cX1_quiet 53 = .ok (.aload_n 0, 1) := dk_42 (dk_at dksX1_quiet_2 5 rfl rfl)
theorem dX1_quiet_54 : decode cX1_quiet 54 = .ok (.getfield 26, 3) := dk_180 0 26 (dk_at dksX1_quiet_2 6 rfl rfl)
theorem dX1_quiet_57 : decode cX1_quiet 57 = .ok (.invokevirtual 183, 3) := dk_182 0 183 (dk_at dksX1_quiet_2 9 rfl rfl)
theorem dX1_quiet_60 : decode cX1_quiet 60 = .ok (.if_icmp .ge 55, 3) := dk_162 0 55 (dk_at dksX1_quiet_2 12 rfl rfl)
theorem dX1_quiet_63 : decode cX1_quiet 63 = .ok (.iload_n 1, 1) := dk_27 (dk_at dksX1_quiet_2 15 rfl rfl)
theorem dX1_quiet_64 : decode cX1_quiet 64 = .ok (.aload_n 0, 1) := dk_42 (dk_at dksX1_quiet_2 16 rfl rfl)
theorem dX1_quiet_65 : decode cX1_quiet 65 = .ok (.getfield 26, 3) := dk_180 0 26 (dk_at dksX1_quiet_2 17 rfl rfl)
theorem dX1_quiet_68 : decode cX1_quiet 68 = .ok (.iload_n 3, 1) := dk_29 (dk_at dksX1_quiet_2 20 rfl rfl)
theorem dX1_quiet_69 : decode cX1_quiet 69 = .ok (.invokevirtual 186, 3) := dk_182 0 186 (dk_at dksX1_quiet_2 21 rfl rfl)
theorem dX1_quiet_72 : decode cX1_quiet 72 = .ok (.checkcast 190, 3) := dk_192 0 190 (dk_at dksX1_quiet_3 0 rfl rfl)
theorem dX1_quiet_75 : decode cX1_quiet 75 = .ok (.getfield 192, 3) := dk_180 0 192 (dk_at dksX1_quiet_3 3 rfl rfl)
theorem dX1_quiet_78 : decode cX1_quiet 78 = .ok (.invokestatic 258, 3) := dk_184 1 2 (dk_at dksX1_quiet_3 6 rfl rfl)
theorem dX1_quiet_81 : decode cX1_quiet 81 = .ok (.istore_n 1, 1) := dk_60 (dk_at dksX1_quiet_3 9 rfl rfl)
theorem dX1_quiet_82 : decode cX1_quiet 82 = .ok (.iload_n 2, 1) := dk_28 (dk_at dksX1_quiet_3 10 rfl rfl)
theorem dX1_quiet_83 : decode cX1_quiet 83 = .ok (.ifCond .ne 20, 3) := dk_154 0 20 (dk_at dksX1_quiet_3 11 rfl rfl)
theorem dX1_quiet_86 : decode cX1_quiet 86 = .ok (.aload_n 0, 1) := dk_42 (dk_at dksX1_quiet_3 14 rfl rfl)
theorem dX1_quiet_87 : decode cX1_quiet 87 = .ok (.getfield 26, 3) := dk_180 0 26 (dk_at dksX1_quiet_3 15 rfl rfl)
theorem dX1_quiet_90 : decode cX1_quiet 90 = .ok (.iload_n 3, 1) := dk_29 (dk_at dksX1_quiet_3 18 rfl rfl)
theorem dX1_quiet_91 : decode cX1_quiet 91 = .ok (.invokevirtual 186, 3) := dk_182 0 186 (dk_at dksX1_quiet_3 19 rfl rfl)
theorem dX1_quiet_94 : decode cX1_quiet 94 = .ok (.checkcast 190, 3) := dk_192 0 190 (dk_at dksX1_quiet_4 0 rfl rfl)
theorem dX1_quiet_97 : decode cX1_quiet 97 = .ok (.invokevirtual 195, 3) := dk_182 0 195 (dk_at dksX1_quiet_4 3 rfl rfl)
theorem dX1_quiet_100 : decode cX1_quiet 100 = .ok (.ifCond .ne 7, 3) := dk_154 0 7 (dk_at dksX1_quiet_4 6 rfl rfl)
theorem dX1_quiet_103 : decode cX1_quiet 103 = .ok (.iconst 1, 1) := dk_4 (dk_at dksX1_quiet_4 9 rfl rfl)
theorem dX1_quiet_104 : decode cX1_quiet 104 = .ok (.goto 4, 3) := dk_167 0 4 (dk_at dksX1_quiet_4 10 rfl rfl)
theorem dX1_quiet_107 : decode cX1_quiet 107 = .ok (.iconst 0, 1) := dk_3 (dk_at dksX1_quiet_4 13 rfl rfl)
theorem dX1_quiet_108 : decode cX1_quiet 108 = .ok (.istore_n 2, 1) := dk_61 (dk_at dksX1_quiet_4 14 rfl rfl)
theorem dX1_quiet_109 : decode cX1_quiet 109 = .ok (.iinc 3 1, 3) := dk_132 3 1 (dk_at dksX1_quiet_4 15 rfl rfl)
theorem dX1_quiet_112 : decode cX1_quiet 112 = .ok (.goto (-60), 3) := dk_167 255 196 (dk_at dksX1_quiet_4 18 rfl rfl)
theorem dX1_quiet_115 : decode cX1_quiet 115 = .ok (.iload_n 2, 1) := dk_28 (dk_at dksX1_quiet_4 21 rfl rfl)
theorem dX1_quiet_116 : decode cX1_quiet 116 = .ok (.ifCond .eq 32, 3) := dk_153 0 32 (dk_at dksX1_quiet_5 0 rfl rfl)
theorem dX1_quiet_119 : decode cX1_quiet 119 = .ok (.aload_n 0, 1) := dk_42 (dk_at dksX1_quiet_5 3 rfl rfl)
theorem dX1_quiet_120 : decode cX1_quiet 120 = .ok (.getfield 19, 3) := dk_180 0 19 (dk_at dksX1_quiet_5 4 rfl rfl)
theorem dX1_quiet_123 : decode cX1_quiet 123 = .ok (.getfield 264, 3) := dk_180 1 8 (dk_at dksX1_quiet_5 7 rfl rfl)
theorem dX1_quiet_126 : decode cX1_quiet 126 = .ok (.sipush 600, 3) := dk_17 2 88 (dk_at dksX1_quiet_5 10 rfl rfl)
theorem dX1_quiet_129 : decode cX1_quiet 129 = .ok (.if_icmp .ge 19, 3) := dk_162 0 19 (dk_at dksX1_quiet_5 13 rfl rfl)
theorem dX1_quiet_132 : decode cX1_quiet 132 = .ok (.iload_n 1, 1) := dk_27 (dk_at dksX1_quiet_5 16 rfl rfl)
theorem dX1_quiet_133 : decode cX1_quiet 133 = .ok (.aload_n 0, 1) := dk_42 (dk_at dksX1_quiet_5 17 rfl rfl)
theorem dX1_quiet_134 : decode cX1_quiet 134 = .ok (.getfield 19, 3) := dk_180 0 19 (dk_at dksX1_quiet_5 18 rfl rfl)
theorem dX1_quiet_137 : decode cX1_quiet 137 = .ok (.getfield 264, 3) := dk_180 1 8 (dk_at dksX1_quiet_5 21 rfl rfl)
theorem dX1_quiet_140 : decode cX1_quiet 140 = .ok (.iconst 1, 1) := dk_4 (dk_at dksX1_quiet_6 0 rfl rfl)
theorem dX1_quiet_141 : decode cX1_quiet 141 = .ok (.iadd, 1) := dk_96 (dk_at dksX1_quiet_6 1 rfl rfl)
theorem dX1_quiet_142 : decode cX1_quiet 142 = .ok (.invokestatic 258, 3) := dk_184 1 2 (dk_at dksX1_quiet_6 2 rfl rfl)
theorem dX1_quiet_145 : decode cX1_quiet 145 = .ok (.goto 4, 3) := dk_167 0 4 (dk_at dksX1_quiet_6 5 rfl rfl)
theorem dX1_quiet_148 : decode cX1_quiet 148 = .ok (.iload_n 1, 1) := dk_27 (dk_at dksX1_quiet_6 8 rfl rfl)
theorem dX1_quiet_149 : decode cX1_quiet 149 = .ok (.ireturn, 1) := dk_172 (dk_at dksX1_quiet_6 9 rfl rfl)
def dkwX1_areLike_1 : List UInt8 := [29, 96, 47, 148, 153, 0, 5, 3, 172, 132, 3, 1, 167, 255, 222, 4, 172]
abbrev dktX1_areLike_1 : List UInt8 := dkwX1_areLike_1 ++ []
def dkwX1_areLike_0 : List UInt8 := [3, 62, 29, 7, 162, 0, 35, 42, 180, 0, 40, 7, 27, 104, 29, 96, 47, 42, 180, 0, 40, 7, 28, 104]
abbrev dktX1_areLike_0 : List UInt8 := dkwX1_areLike_0 ++ dktX1_areLike_1
theorem dksX1_areLike_0 : cX1_areLike.data.toList.drop 0 = dktX1_areLike_0 := by decide +kernel
theorem dksX1_areLike_1 : cX1_areLike.data.toList.drop 24 = dktX1_areLike_1 := dk_seg dksX1_areLike_0 24 rfl rfl
theorem dX1_areLike_0 : decode cX1_areLike 0 = .ok (.iconst 0, 1) := dk_3 (dk_at dksX1_areLike_0 0 rfl rfl)
theorem dX1_areLike_1 : decode cX1_areLike 1 = .ok (.istore_n 3, 1) := dk_62 (dk_at dksX1_areLike_0 1 rfl rfl)
theorem dX1_areLike_2 : decode cX1_areLike 2 = .ok (.iload_n 3, 1) := dk_29 (dk_at dksX1_areLike_0 2 rfl rfl)
theorem dX1_areLike_3 : decode cX1_areLike 3 = .ok (.iconst 4, 1) := dk_7 (dk_at dksX1_areLike_0 3 rfl rfl)
theorem dX1_areLike_4 : decode cX1_areLike 4 = .ok (.if_icmp .ge 35, 3) := dk_162 0 35 (dk_at dksX1_areLike_0 4 rfl rfl)
theorem dX1_areLike_7 : decode cX1_areLike 7 = .ok (.aload_n 0, 1) := dk_42 (dk_at dksX1_areLike_0 7 rfl rfl)
theorem dX1_areLike_8 : decode cX1_areLike 8 = .ok (.getfield 40, 3) := dk_180 0 40 (dk_at dksX1_areLike_0 8 rfl rfl)
theorem dX1_areLike_11 : decode cX1_areLike 11 = .ok (.iconst 4, 1) := dk_7 (dk_at dksX1_areLike_0 11 rfl rfl)
theorem dX1_areLike_12 : decode cX1_areLike 12 = .ok (.iload_n 1, 1) := dk_27 (dk_at dksX1_areLike_0 12 rfl rfl)
theorem dX1_areLike_13 : decode cX1_areLike 13 = .ok (.imul, 1) := dk_104 (dk_at dksX1_areLike_0 13 rfl rfl)
theorem dX1_areLike_14 : decode cX1_areLike 14 = .ok (.iload_n 3, 1) := dk_29 (dk_at dksX1_areLike_0 14 rfl rfl)
theorem dX1_areLike_15 : decode cX1_areLike 15 = .ok (.iadd, 1) := dk_96 (dk_at dksX1_areLike_0 15 rfl rfl)
theorem dX1_areLike_16 : decode cX1_areLike 16 = .ok (.laload, 1) := dk_47 (dk_at dksX1_areLike_0 16 rfl rfl)
theorem dX1_areLike_17 : decode cX1_areLike 17 = .ok (.aload_n 0, 1) := dk_42 (dk_at dksX1_areLike_0 17 rfl rfl)
theorem dX1_areLike_18 : decode cX1_areLike 18 = .ok (.getfield 40, 3) := dk_180 0 40 (dk_at dksX1_areLike_0 18 rfl rfl)
theorem dX1_areLike_21 : decode cX1_areLike 21 = .ok (.iconst 4, 1) := dk_7 (dk_at dksX1_areLike_0 21 rfl rfl)
theorem dX1_areLike_22 : decode cX1_areLike 22 = .ok (.iload_n 2, 1) := dk_28 (dk_at dksX1_areLike_0 22 rfl rfl)
theorem dX1_areLike_23 : decode cX1_areLike 23 = .ok (.imul, 1) := dk_104 (dk_at dksX1_areLike_0 23 rfl rfl)
theorem dX1_areLike_24 : decode cX1_areLike 24 = .ok (.iload_n 3, 1) := dk_29 (dk_at dksX1_areLike_1 0 rfl rfl)
theorem dX1_areLike_25 : decode cX1_areLike 25 = .ok (.iadd, 1) := dk_96 (dk_at dksX1_areLike_1 1 rfl rfl)
theorem dX1_areLike_26 : decode cX1_areLike 26 = .ok (.laload, 1) := dk_47 (dk_at dksX1_areLike_1 2 rfl rfl)
theorem dX1_areLike_27 : decode cX1_areLike 27 = .ok (.lcmp, 1) := dk_148 (dk_at dksX1_areLike_1 3 rfl rfl)
theorem dX1_areLike_28 : decode cX1_areLike 28 = .ok (.ifCond .eq 5, 3) := dk_153 0 5 (dk_at dksX1_areLike_1 4 rfl rfl)
theorem dX1_areLike_31 : decode cX1_areLike 31 = .ok (.iconst 0, 1) := dk_3 (dk_at dksX1_areLike_1 7 rfl rfl)
theorem dX1_areLike_32 : decode cX1_areLike 32 = .ok (.ireturn, 1) := dk_172 (dk_at dksX1_areLike_1 8 rfl rfl)
theorem dX1_areLike_33 : decode cX1_areLike 33 = .ok (.iinc 3 1, 3) := dk_132 3 1 (dk_at dksX1_areLike_1 9 rfl rfl)
theorem dX1_areLike_36 : decode cX1_areLike 36 = .ok (.goto (-34), 3) := dk_167 255 222 (dk_at dksX1_areLike_1 12 rfl rfl)
theorem dX1_areLike_39 : decode cX1_areLike 39 = .ok (.iconst 1, 1) := dk_4 (dk_at dksX1_areLike_1 15 rfl rfl)
theorem dX1_areLike_40 : decode cX1_areLike 40 = .ok (.ireturn, 1) := dk_172 (dk_at dksX1_areLike_1 16 rfl rfl)
def dkwX1_carries_2 : List UInt8 := [4, 167, 0, 4, 3, 172]
abbrev dktX1_carries_2 : List UInt8 := dkwX1_carries_2 ++ []
def dkwX1_carries_1 : List UInt8 := [182, 1, 24, 61, 27, 4, 160, 0, 7, 28, 167, 0, 19, 28, 42, 180, 0, 19, 180, 1, 28, 161, 0, 7]
abbrev dktX1_carries_1 : List UInt8 := dkwX1_carries_1 ++ dktX1_carries_2
def dkwX1_carries_0 : List UInt8 := [27, 3, 4, 184, 0, 135, 154, 0, 5, 2, 172, 42, 42, 180, 0, 19, 42, 180, 0, 114, 42, 180, 0, 117]
abbrev dktX1_carries_0 : List UInt8 := dkwX1_carries_0 ++ dktX1_carries_1
theorem dksX1_carries_0 : cX1_carries.data.toList.drop 0 = dktX1_carries_0 := by decide +kernel
theorem dksX1_carries_1 : cX1_carries.data.toList.drop 24 = dktX1_carries_1 := dk_seg dksX1_carries_0 24 rfl rfl
theorem dksX1_carries_2 : cX1_carries.data.toList.drop 48 = dktX1_carries_2 := dk_seg dksX1_carries_1 24 rfl rfl
theorem dX1_carries_0 : decode cX1_carries 0 = .ok (.iload_n 1, 1) := dk_27 (dk_at dksX1_carries_0 0 rfl rfl)
theorem dX1_carries_1 : decode cX1_carries 1 = .ok (.iconst 0, 1) := dk_3 (dk_at dksX1_carries_0 1 rfl rfl)
theorem dX1_carries_2 : decode cX1_carries 2 = .ok (.iconst 1, 1) := dk_4 (dk_at dksX1_carries_0 2 rfl rfl)
theorem dX1_carries_3 : decode cX1_carries 3 = .ok (.invokestatic 135, 3) := dk_184 0 135 (dk_at dksX1_carries_0 3 rfl rfl)
theorem dX1_carries_6 : decode cX1_carries 6 = .ok (.ifCond .ne 5, 3) := dk_154 0 5 (dk_at dksX1_carries_0 6 rfl rfl)
theorem dX1_carries_9 : decode cX1_carries 9 = .ok (.iconst (-1), 1) := dk_2 (dk_at dksX1_carries_0 9 rfl rfl)
theorem dX1_carries_10 : decode cX1_carries 10 = .ok (.ireturn, 1) := dk_172 (dk_at dksX1_carries_0 10 rfl rfl)
theorem dX1_carries_11 : decode cX1_carries 11 = .ok (.aload_n 0, 1) := dk_42 (dk_at dksX1_carries_0 11 rfl rfl)
theorem dX1_carries_12 : decode cX1_carries 12 = .ok (.aload_n 0, 1) := dk_42 (dk_at dksX1_carries_0 12 rfl rfl)
theorem dX1_carries_13 : decode cX1_carries 13 = .ok (.getfield 19, 3) := dk_180 0 19 (dk_at dksX1_carries_0 13 rfl rfl)
theorem dX1_carries_16 : decode cX1_carries 16 = .ok (.aload_n 0, 1) := dk_42 (dk_at dksX1_carries_0 16 rfl rfl)
theorem dX1_carries_17 : decode cX1_carries 17 = .ok (.getfield 114, 3) := dk_180 0 114 (dk_at dksX1_carries_0 17 rfl rfl)
theorem dX1_carries_20 : decode cX1_carries 20 = .ok (.aload_n 0, 1) := dk_42 (dk_at dksX1_carries_0 20 rfl rfl)
theorem dX1_carries_21 : decode cX1_carries 21 = .ok (.getfield 117, 3) := dk_180 0 117 (dk_at dksX1_carries_0 21 rfl rfl)
theorem dX1_carries_24 : decode cX1_carries 24 = .ok (.invokevirtual 280, 3) := dk_182 1 24 (dk_at dksX1_carries_1 0 rfl rfl)
theorem dX1_carries_27 : decode cX1_carries 27 = .ok (.istore_n 2, 1) := dk_61 (dk_at dksX1_carries_1 3 rfl rfl)
theorem dX1_carries_28 : decode cX1_carries 28 = .ok (.iload_n 1, 1) := dk_27 (dk_at dksX1_carries_1 4 rfl rfl)
theorem dX1_carries_29 : decode cX1_carries 29 = .ok (.iconst 1, 1) := dk_4 (dk_at dksX1_carries_1 5 rfl rfl)
theorem dX1_carries_30 : decode cX1_carries 30 = .ok (.if_icmp .ne 7, 3) := dk_160 0 7 (dk_at dksX1_carries_1 6 rfl rfl)
theorem dX1_carries_33 : decode cX1_carries 33 = .ok (.iload_n 2, 1) := dk_28 (dk_at dksX1_carries_1 9 rfl rfl)
theorem dX1_carries_34 : decode cX1_carries 34 = .ok (.goto 19, 3) := dk_167 0 19 (dk_at dksX1_carries_1 10 rfl rfl)
theorem dX1_carries_37 : decode cX1_carries 37 = .ok (.iload_n 2, 1) := dk_28 (dk_at dksX1_carries_1 13 rfl rfl)
theorem dX1_carries_38 : decode cX1_carries 38 = .ok (.aload_n 0, 1) := dk_42 (dk_at dksX1_carries_1 14 rfl rfl)
theorem dX1_carries_39 : decode cX1_carries 39 = .ok (.getfield 19, 3) := dk_180 0 19 (dk_at dksX1_carries_1 15 rfl rfl)
theorem dX1_carries_42 : decode cX1_carries 42 = .ok (.getfield 284, 3) := dk_180 1 28 (dk_at dksX1_carries_1 18 rfl rfl)
theorem dX1_carries_45 : decode cX1_carries 45 = .ok (.if_icmp .lt 7, 3) := dk_161 0 7 (dk_at dksX1_carries_1 21 rfl rfl)
theorem dX1_carries_48 : decode cX1_carries 48 = .ok (.iconst 1, 1) := dk_4 (dk_at dksX1_carries_2 0 rfl rfl)
theorem dX1_carries_49 : decode cX1_carries 49 = .ok (.goto 4, 3) := dk_167 0 4 (dk_at dksX1_carries_2 1 rfl rfl)
theorem dX1_carries_52 : decode cX1_carries 52 = .ok (.iconst 0, 1) := dk_3 (dk_at dksX1_carries_2 4 rfl rfl)
theorem dX1_carries_53 : decode cX1_carries 53 = .ok (.ireturn, 1) := dk_172 (dk_at dksX1_carries_2 5 rfl rfl)
def dkwX1_heightOf_0 : List UInt8 := [42, 180, 0, 33, 43, 42, 180, 0, 26, 32, 22, 4, 182, 0, 201, 182, 1, 21, 172]
abbrev dktX1_heightOf_0 : List UInt8 := dkwX1_heightOf_0 ++ []
theorem dksX1_heightOf_0 : cX1_heightOf.data.toList.drop 0 = dktX1_heightOf_0 := by decide +kernel
theorem dX1_heightOf_0 : decode cX1_heightOf 0 = .ok (.aload_n 0, 1) := dk_42 (dk_at dksX1_heightOf_0 0 rfl rfl)
theorem dX1_heightOf_1 : decode cX1_heightOf 1 = .ok (.getfield 33, 3) := dk_180 0 33 (dk_at dksX1_heightOf_0 1 rfl rfl)
theorem dX1_heightOf_4 : decode cX1_heightOf 4 = .ok (.aload_n 1, 1) := dk_43 (dk_at dksX1_heightOf_0 4 rfl rfl)
theorem dX1_heightOf_5 : decode cX1_heightOf 5 = .ok (.aload_n 0, 1) := dk_42 (dk_at dksX1_heightOf_0 5 rfl rfl)
theorem dX1_heightOf_6 : decode cX1_heightOf 6 = .ok (.getfield 26, 3) := dk_180 0 26 (dk_at dksX1_heightOf_0 6 rfl rfl)
theorem dX1_heightOf_9 : decode cX1_heightOf 9 = .ok (.lload_n 2, 1) := dk_32 (dk_at dksX1_heightOf_0 9 rfl rfl)
theorem dX1_heightOf_10 : decode cX1_heightOf 10 = .ok (.lload 4, 2) := dk_22 4 (dk_at dksX1_heightOf_0 10 rfl rfl)
theorem dX1_heightOf_12 : decode cX1_heightOf 12 = .ok (.invokevirtual 201, 3) := dk_182 0 201 (dk_at dksX1_heightOf_0 12 rfl rfl)
theorem dX1_heightOf_15 : decode cX1_heightOf 15 = .ok (.invokevirtual 277, 3) := dk_182 1 21 (dk_at dksX1_heightOf_0 15 rfl rfl)
theorem dX1_heightOf_18 : decode cX1_heightOf 18 = .ok (.ireturn, 1) := dk_172 (dk_at dksX1_heightOf_0 18 rfl rfl)
def dkwX1_cheapest_6 : List UInt8 := [28, 182, 1, 40, 172]
abbrev dktX1_cheapest_6 : List UInt8 := dkwX1_cheapest_6 ++ []
def dkwX1_cheapest_5 : List UInt8 := [153, 0, 5, 29, 61, 132, 3, 1, 167, 255, 168, 28, 2, 160, 0, 5, 2, 172, 42, 28, 181, 0, 48, 42]
abbrev dktX1_cheapest_5 : List UInt8 := dkwX1_cheapest_5 ++ dktX1_cheapest_6
def dkwX1_cheapest_4 : List UInt8 := [21, 5, 154, 0, 26, 42, 42, 180, 0, 19, 42, 180, 0, 114, 42, 29, 182, 1, 47, 129, 182, 1, 51]
abbrev dktX1_cheapest_4 : List UInt8 := dkwX1_cheapest_4 ++ dktX1_cheapest_5
def dkwX1_cheapest_3 : List UInt8 := [182, 1, 40, 160, 0, 18, 29, 184, 1, 43, 28, 184, 1, 43, 161, 0, 7, 4, 167, 0, 4, 3, 54, 5]
abbrev dktX1_cheapest_3 : List UInt8 := dkwX1_cheapest_3 ++ dktX1_cheapest_4
def dkwX1_cheapest_2 : List UInt8 := [182, 1, 40, 54, 4, 28, 2, 159, 0, 38, 21, 4, 42, 28, 182, 1, 40, 163, 0, 24, 21, 4, 42, 28]
abbrev dktX1_cheapest_2 : List UInt8 := dkwX1_cheapest_2 ++ dktX1_cheapest_3
def dkwX1_cheapest_1 : List UInt8 := [182, 1, 36, 2, 160, 0, 6, 16, 254, 172, 2, 61, 3, 62, 29, 4, 27, 120, 162, 0, 87, 42, 29]
abbrev dktX1_cheapest_1 : List UInt8 := dkwX1_cheapest_1 ++ dktX1_cheapest_2
def dkwX1_cheapest_0 : List UInt8 := [42, 182, 0, 98, 60, 27, 4, 16, 8, 184, 0, 135, 153, 0, 18, 42, 3, 27, 42, 180, 0, 44, 9]
abbrev dktX1_cheapest_0 : List UInt8 := dkwX1_cheapest_0 ++ dktX1_cheapest_1
theorem dksX1_cheapest_0 : cX1_cheapest.data.toList.drop 0 = dktX1_cheapest_0 := by decide +kernel
theorem dksX1_cheapest_1 : cX1_cheapest.data.toList.drop 23 = dktX1_cheapest_1 := dk_seg dksX1_cheapest_0 23 rfl rfl
theorem dksX1_cheapest_2 : cX1_cheapest.data.toList.drop 46 = dktX1_cheapest_2 := dk_seg dksX1_cheapest_1 23 rfl rfl
theorem dksX1_cheapest_3 : cX1_cheapest.data.toList.drop 70 = dktX1_cheapest_3 := dk_seg dksX1_cheapest_2 24 rfl rfl
theorem dksX1_cheapest_4 : cX1_cheapest.data.toList.drop 94 = dktX1_cheapest_4 := dk_seg dksX1_cheapest_3 24 rfl rfl
theorem dksX1_cheapest_5 : cX1_cheapest.data.toList.drop 117 = dktX1_cheapest_5 := dk_seg dksX1_cheapest_4 23 rfl rfl
theorem dksX1_cheapest_6 : cX1_cheapest.data.toList.drop 141 = dktX1_cheapest_6 := dk_seg dksX1_cheapest_5 24 rfl rfl
theorem dX1_cheapest_0 : decode cX1_cheapest 0 = .ok (.aload_n 0, 1) := dk_42 (dk_at dksX1_cheapest_0 0 rfl rfl)
theorem dX1_cheapest_1 : decode cX1_cheapest 1 = .ok (.invokevirtual 98, 3) := dk_182 0 98 (dk_at dksX1_cheapest_0 1 rfl rfl)
theorem dX1_cheapest_4 : decode cX1_cheapest 4 = .ok (.istore_n 1, 1) := dk_60 (dk_at dksX1_cheapest_0 4 rfl rfl)
theorem dX1_cheapest_5 : decode cX1_cheapest 5 = .ok (.iload_n 1, 1) := dk_27 (dk_at dksX1_cheapest_0 5 rfl rfl)
theorem dX1_cheapest_6 : decode cX1_cheapest 6 = .ok (.iconst 1, 1) := dk_4 (dk_at dksX1_cheapest_0 6 rfl rfl)
theorem dX1_cheapest_7 : decode cX1_cheapest 7 = .ok (.bipush 8, 2) := dk_16 8 (dk_at dksX1_cheapest_0 7 rfl rfl)
theorem dX1_cheapest_9 : decode cX1_cheapest 9 = .ok (.invokestatic 135, 3) := dk_184 0 135 (dk_at dksX1_cheapest_0 9 rfl rfl)
theorem dX1_cheapest_12 : decode cX1_cheapest 12 = .ok (.ifCond .eq 18, 3) := dk_153 0 18 (dk_at dksX1_cheapest_0 12 rfl rfl)
theorem dX1_cheapest_15 : decode cX1_cheapest 15 = .ok (.aload_n 0, 1) := dk_42 (dk_at dksX1_cheapest_0 15 rfl rfl)
theorem dX1_cheapest_16 : decode cX1_cheapest 16 = .ok (.iconst 0, 1) := dk_3 (dk_at dksX1_cheapest_0 16 rfl rfl)
theorem dX1_cheapest_17 : decode cX1_cheapest 17 = .ok (.iload_n 1, 1) := dk_27 (dk_at dksX1_cheapest_0 17 rfl rfl)
theorem dX1_cheapest_18 : decode cX1_cheapest 18 = .ok (.aload_n 0, 1) := dk_42 (dk_at dksX1_cheapest_0 18 rfl rfl)
theorem dX1_cheapest_19 : decode cX1_cheapest 19 = .ok (.getfield 44, 3) := dk_180 0 44 (dk_at dksX1_cheapest_0 19 rfl rfl)
theorem dX1_cheapest_22 : decode cX1_cheapest 22 = .ok (.lconst 0, 1) := dk_9 (dk_at dksX1_cheapest_0 22 rfl rfl)
theorem dX1_cheapest_23 : decode cX1_cheapest 23 = .ok (.invokevirtual 292, 3) := dk_182 1 36 (dk_at dksX1_cheapest_1 0 rfl rfl)
theorem dX1_cheapest_26 : decode cX1_cheapest 26 = .ok (.iconst (-1), 1) := dk_2 (dk_at dksX1_cheapest_1 3 rfl rfl)
theorem dX1_cheapest_27 : decode cX1_cheapest 27 = .ok (.if_icmp .ne 6, 3) := dk_160 0 6 (dk_at dksX1_cheapest_1 4 rfl rfl)
theorem dX1_cheapest_30 : decode cX1_cheapest 30 = .ok (.bipush (-2), 2) := dk_16 254 (dk_at dksX1_cheapest_1 7 rfl rfl)
theorem dX1_cheapest_32 : decode cX1_cheapest 32 = .ok (.ireturn, 1) := dk_172 (dk_at dksX1_cheapest_1 9 rfl rfl)
theorem dX1_cheapest_33 : decode cX1_cheapest 33 = .ok (.iconst (-1), 1) := dk_2 (dk_at dksX1_cheapest_1 10 rfl rfl)
theorem dX1_cheapest_34 : decode cX1_cheapest 34 = .ok (.istore_n 2, 1) := dk_61 (dk_at dksX1_cheapest_1 11 rfl rfl)
theorem dX1_cheapest_35 : decode cX1_cheapest 35 = .ok (.iconst 0, 1) := dk_3 (dk_at dksX1_cheapest_1 12 rfl rfl)
theorem dX1_cheapest_36 : decode cX1_cheapest 36 = .ok (.istore_n 3, 1) := dk_62 (dk_at dksX1_cheapest_1 13 rfl rfl)
theorem dX1_cheapest_37 : decode cX1_cheapest 37 = .ok (.iload_n 3, 1) := dk_29 (dk_at dksX1_cheapest_1 14 rfl rfl)
theorem dX1_cheapest_38 : decode cX1_cheapest 38 = .ok (.iconst 1, 1) := dk_4 (dk_at dksX1_cheapest_1 15 rfl rfl)
theorem dX1_cheapest_39 : decode cX1_cheapest 39 = .ok (.iload_n 1, 1) := dk_27 (dk_at dksX1_cheapest_1 16 rfl rfl)
theorem dX1_cheapest_40 : decode cX1_cheapest 40 = .ok (.ishl, 1) := dk_120 (dk_at dksX1_cheapest_1 17 rfl rfl)
theorem dX1_cheapest_41 : decode cX1_cheapest 41 = .ok (.if_icmp .ge 87, 3) := dk_162 0 87 (dk_at dksX1_cheapest_1 18 rfl rfl)
theorem dX1_cheapest_44 : decode cX1_cheapest 44 = .ok (.aload_n 0, 1) := dk_42 (dk_at dksX1_cheapest_1 21 rfl rfl)
theorem dX1_cheapest_45 : decode cX1_cheapest 45 = .ok (.iload_n 3, 1) := dk_29 (dk_at dksX1_cheapest_1 22 rfl rfl)
theorem dX1_cheapest_46 : decode cX1_cheapest 46 = .ok (.invokevirtual 296, 3) := dk_182 1 40 (dk_at dksX1_cheapest_2 0 rfl rfl)
theorem dX1_cheapest_49 : decode cX1_cheapest 49 = .ok (.istore 4, 2) := dk_54 4 (dk_at dksX1_cheapest_2 3 rfl rfl)
theorem dX1_cheapest_51 : decode cX1_cheapest 51 = .ok (.iload_n 2, 1) := dk_28 (dk_at dksX1_cheapest_2 5 rfl rfl)
theorem dX1_cheapest_52 : decode cX1_cheapest 52 = .ok (.iconst (-1), 1) := dk_2 (dk_at dksX1_cheapest_2 6 rfl rfl)
theorem dX1_cheapest_53 : decode cX1_cheapest 53 = .ok (.if_icmp .eq 38, 3) := dk_159 0 38 (dk_at dksX1_cheapest_2 7 rfl rfl)
theorem dX1_cheapest_56 : decode cX1_cheapest 56 = .ok (.iload 4, 2) := dk_21 4 (dk_at dksX1_cheapest_2 10 rfl rfl)
theorem dX1_cheapest_58 : decode cX1_cheapest 58 = .ok (.aload_n 0, 1) := dk_42 (dk_at dksX1_cheapest_2 12 rfl rfl)
theorem dX1_cheapest_59 : decode cX1_cheapest 59 = .ok (.iload_n 2, 1) := dk_28 (dk_at dksX1_cheapest_2 13 rfl rfl)
theorem dX1_cheapest_60 : decode cX1_cheapest 60 = .ok (.invokevirtual 296, 3) := dk_182 1 40 (dk_at dksX1_cheapest_2 14 rfl rfl)
theorem dX1_cheapest_63 : decode cX1_cheapest 63 = .ok (.if_icmp .gt 24, 3) := dk_163 0 24 (dk_at dksX1_cheapest_2 17 rfl rfl)
theorem dX1_cheapest_66 : decode cX1_cheapest 66 = .ok (.iload 4, 2) := dk_21 4 (dk_at dksX1_cheapest_2 20 rfl rfl)
theorem dX1_cheapest_68 : decode cX1_cheapest 68 = .ok (.aload_n 0, 1) := dk_42 (dk_at dksX1_cheapest_2 22 rfl rfl)
theorem dX1_cheapest_69 : decode cX1_cheapest 69 = .ok (.iload_n 2, 1) := dk_28 (dk_at dksX1_cheapest_2 23 rfl rfl)
theorem dX1_cheapest_70 : decode cX1_cheapest 70 = .ok (.invokevirtual 296, 3) := dk_182 1 40 (dk_at dksX1_cheapest_3 0 rfl rfl)
theorem dX1_cheapest_73 : decode cX1_cheapest 73 = .ok (.if_icmp .ne 18, 3) := dk_160 0 18 (dk_at dksX1_cheapest_3 3 rfl rfl)
theorem dX1_cheapest_76 : decode cX1_cheapest 76 = .ok (.iload_n 3, 1) := dk_29 (dk_at dksX1_cheapest_3 6 rfl rfl)
theorem dX1_cheapest_77 : decode cX1_cheapest 77 = .ok (.invokestatic 299, 3) := dk_184 1 43 (dk_at dksX1_cheapest_3 7 rfl rfl)
theorem dX1_cheapest_80 : decode cX1_cheapest 80 = .ok (.iload_n 2, 1) := dk_28 (dk_at dksX1_cheapest_3 10 rfl rfl)
theorem dX1_cheapest_81 : decode cX1_cheapest 81 = .ok (.invokestatic 299, 3) := dk_184 1 43 (dk_at dksX1_cheapest_3 11 rfl rfl)
theorem dX1_cheapest_84 : decode cX1_cheapest 84 = .ok (.if_icmp .lt 7, 3) := dk_161 0 7 (dk_at dksX1_cheapest_3 14 rfl rfl)
theorem dX1_cheapest_87 : decode cX1_cheapest 87 = .ok (.iconst 1, 1) := dk_4 (dk_at dksX1_cheapest_3 17 rfl rfl)
theorem dX1_cheapest_88 : decode cX1_cheapest 88 = .ok (.goto 4, 3) := dk_167 0 4 (dk_at dksX1_cheapest_3 18 rfl rfl)
theorem dX1_cheapest_91 : decode cX1_cheapest 91 = .ok (.iconst 0, 1) := dk_3 (dk_at dksX1_cheapest_3 21 rfl rfl)
theorem dX1_cheapest_92 : decode cX1_cheapest 92 = .ok (.istore 5, 2) := dk_54 5 (dk_at dksX1_cheapest_3 22 rfl rfl)
theorem dX1_cheapest_94 : decode cX1_cheapest 94 = .ok (.iload 5, 2) := dk_21 5 (dk_at dksX1_cheapest_4 0 rfl rfl)
theorem dX1_cheapest_96 : decode cX1_cheapest 96 = .ok (.ifCond .ne 26, 3) := dk_154 0 26 (dk_at dksX1_cheapest_4 2 rfl rfl)
theorem dX1_cheapest_99 : decode cX1_cheapest 99 = .ok (.aload_n 0, 1) := dk_42 (dk_at dksX1_cheapest_4 5 rfl rfl)
theorem dX1_cheapest_100 : decode cX1_cheapest 100 = .ok (.aload_n 0, 1) := dk_42 (dk_at dksX1_cheapest_4 6 rfl rfl)
theorem dX1_cheapest_101 : decode cX1_cheapest 101 = .ok (.getfield 19, 3) := dk_180 0 19 (dk_at dksX1_cheapest_4 7 rfl rfl)
theorem dX1_cheapest_104 : decode cX1_cheapest 104 = .ok (.aload_n 0, 1) := dk_42 (dk_at dksX1_cheapest_4 10 rfl rfl)
theorem dX1_cheapest_105 : decode cX1_cheapest 105 = .ok (.getfield 114, 3) := dk_180 0 114 (dk_at dksX1_cheapest_4 11 rfl rfl)
theorem dX1_cheapest_108 : decode cX1_cheapest 108 = .ok (.aload_n 0, 1) := dk_42 (dk_at dksX1_cheapest_4 14 rfl rfl)
theorem dX1_cheapest_109 : decode cX1_cheapest 109 = .ok (.iload_n 3, 1) := dk_29 (dk_at dksX1_cheapest_4 15 rfl rfl)
theorem dX1_cheapest_110 : decode cX1_cheapest 110 = .ok (.invokevirtual 303, 3) := dk_182 1 47 (dk_at dksX1_cheapest_4 16 rfl rfl)
theorem dX1_cheapest_113 : decode cX1_cheapest 113 = .ok (.lor, 1) := dk_129 (dk_at dksX1_cheapest_4 19 rfl rfl)
theorem dX1_cheapest_114 : decode cX1_cheapest 114 = .ok (.invokevirtual 307, 3) := dk_182 1 51 (dk_at dksX1_cheapest_4 20 rfl rfl)
theorem dX1_cheapest_117 : decode cX1_cheapest 117 = .ok (.ifCond .eq 5, 3) := dk_153 0 5 (dk_at dksX1_cheapest_5 0 rfl rfl)
theorem dX1_cheapest_120 : decode cX1_cheapest 120 = .ok (.iload_n 3, 1) := dk_29 (dk_at dksX1_cheapest_5 3 rfl rfl)
theorem dX1_cheapest_121 : decode cX1_cheapest 121 = .ok (.istore_n 2, 1) := dk_61 (dk_at dksX1_cheapest_5 4 rfl rfl)
theorem dX1_cheapest_122 : decode cX1_cheapest 122 = .ok (.iinc 3 1, 3) := dk_132 3 1 (dk_at dksX1_cheapest_5 5 rfl rfl)
theorem dX1_cheapest_125 : decode cX1_cheapest 125 = .ok (.goto (-88), 3) := dk_167 255 168 (dk_at dksX1_cheapest_5 8 rfl rfl)
theorem dX1_cheapest_128 : decode cX1_cheapest 128 = .ok (.iload_n 2, 1) := dk_28 (dk_at dksX1_cheapest_5 11 rfl rfl)
theorem dX1_cheapest_129 : decode cX1_cheapest 129 = .ok (.iconst (-1), 1) := dk_2 (dk_at dksX1_cheapest_5 12 rfl rfl)
theorem dX1_cheapest_130 : decode cX1_cheapest 130 = .ok (.if_icmp .ne 5, 3) := dk_160 0 5 (dk_at dksX1_cheapest_5 13 rfl rfl)
theorem dX1_cheapest_133 : decode cX1_cheapest 133 = .ok (.iconst (-1), 1) := dk_2 (dk_at dksX1_cheapest_5 16 rfl rfl)
theorem dX1_cheapest_134 : decode cX1_cheapest 134 = .ok (.ireturn, 1) := dk_172 (dk_at dksX1_cheapest_5 17 rfl rfl)
theorem dX1_cheapest_135 : decode cX1_cheapest 135 = .ok (.aload_n 0, 1) := dk_42 (dk_at dksX1_cheapest_5 18 rfl rfl)
theorem dX1_cheapest_136 : decode cX1_cheapest 136 = .ok (.iload_n 2, 1) := dk_28 (dk_at dksX1_cheapest_5 19 rfl rfl)
theorem dX1_cheapest_137 : decode cX1_cheapest 137 = .ok (.putfield 48, 3) := dk_181 0 48 (dk_at dksX1_cheapest_5 20 rfl rfl)
theorem dX1_cheapest_140 : decode cX1_cheapest 140 = .ok (.aload_n 0, 1) := dk_42 (dk_at dksX1_cheapest_5 23 rfl rfl)
theorem dX1_cheapest_141 : decode cX1_cheapest 141 = .ok (.iload_n 2, 1) := dk_28 (dk_at dksX1_cheapest_6 0 rfl rfl)
theorem dX1_cheapest_142 : decode cX1_cheapest 142 = .ok (.invokevirtual 296, 3) := dk_182 1 40 (dk_at dksX1_cheapest_6 1 rfl rfl)
theorem dX1_cheapest_145 : decode cX1_cheapest 145 = .ok (.ireturn, 1) := dk_172 (dk_at dksX1_cheapest_6 4 rfl rfl)
def dkwX1_takesSeats_2 : List UInt8 := [22, 6, 10, 21, 9, 121, 129, 55, 6, 45, 21, 8, 21, 9, 79, 132, 8, 1, 167, 255, 198, 28, 172]
abbrev dktX1_takesSeats_2 : List UInt8 := dkwX1_takesSeats_2 ++ []
def dkwX1_takesSeats_1 : List UInt8 := [180, 0, 19, 21, 9, 182, 0, 131, 153, 0, 13, 22, 6, 21, 9, 184, 0, 155, 153, 0, 5, 2, 172]
abbrev dktX1_takesSeats_1 : List UInt8 := dkwX1_takesSeats_1 ++ dktX1_takesSeats_2
def dkwX1_takesSeats_0 : List UInt8 := [22, 4, 55, 6, 3, 54, 8, 21, 8, 28, 162, 0, 58, 42, 27, 21, 8, 96, 182, 1, 31, 54, 9, 42]
abbrev dktX1_takesSeats_0 : List UInt8 := dkwX1_takesSeats_0 ++ dktX1_takesSeats_1
theorem dksX1_takesSeats_0 : cX1_takesSeats.data.toList.drop 0 = dktX1_takesSeats_0 := by decide +kernel
theorem dksX1_takesSeats_1 : cX1_takesSeats.data.toList.drop 24 = dktX1_takesSeats_1 := dk_seg dksX1_takesSeats_0 24 rfl rfl
theorem dksX1_takesSeats_2 : cX1_takesSeats.data.toList.drop 47 = dktX1_takesSeats_2 := dk_seg dksX1_takesSeats_1 23 rfl rfl
theorem dX1_takesSeats_0 : decode cX1_takesSeats 0 = .ok (.lload 4, 2) := dk_22 4 (dk_at dksX1_takesSeats_0 0 rfl rfl)
theorem dX1_takesSeats_2 : decode cX1_takesSeats 2 = .ok (.lstore 6, 2) := dk_55 6 (dk_at dksX1_takesSeats_0 2 rfl rfl)
theorem dX1_takesSeats_4 : decode cX1_takesSeats 4 = .ok (.iconst 0, 1) := dk_3 (dk_at dksX1_takesSeats_0 4 rfl rfl)
theorem dX1_takesSeats_5 : decode cX1_takesSeats 5 = .ok (.istore 8, 2) := dk_54 8 (dk_at dksX1_takesSeats_0 5 rfl rfl)
theorem dX1_takesSeats_7 : decode cX1_takesSeats 7 = .ok (.iload 8, 2) := dk_21 8 (dk_at dksX1_takesSeats_0 7 rfl rfl)
theorem dX1_takesSeats_9 : decode cX1_takesSeats 9 = .ok (.iload_n 2, 1) := dk_28 (dk_at dksX1_takesSeats_0 9 rfl rfl)
theorem dX1_takesSeats_10 : decode cX1_takesSeats 10 = .ok (.if_icmp .ge 58, 3) := dk_162 0 58 (dk_at dksX1_takesSeats_0 10 rfl rfl)
theorem dX1_takesSeats_13 : decode cX1_takesSeats 13 = .ok (.aload_n 0, 1) := dk_42 (dk_at dksX1_takesSeats_0 13 rfl rfl)
theorem dX1_takesSeats_14 : decode cX1_takesSeats 14 = .ok (.iload_n 1, 1) := dk_27 (dk_at dksX1_takesSeats_0 14 rfl rfl)
theorem dX1_takesSeats_15 : decode cX1_takesSeats 15 = .ok (.iload 8, 2) := dk_21 8 (dk_at dksX1_takesSeats_0 15 rfl rfl)
theorem dX1_takesSeats_17 : decode cX1_takesSeats 17 = .ok (.iadd, 1) := dk_96 (dk_at dksX1_takesSeats_0 17 rfl rfl)
theorem dX1_takesSeats_18 : decode cX1_takesSeats 18 = .ok (.invokevirtual 287, 3) := dk_182 1 31 (dk_at dksX1_takesSeats_0 18 rfl rfl)
theorem dX1_takesSeats_21 : decode cX1_takesSeats 21 = .ok (.istore 9, 2) := dk_54 9 (dk_at dksX1_takesSeats_0 21 rfl rfl)
theorem dX1_takesSeats_23 : decode cX1_takesSeats 23 = .ok (.aload_n 0, 1) := dk_42 (dk_at dksX1_takesSeats_0 23 rfl rfl)
theorem dX1_takesSeats_24 : decode cX1_takesSeats 24 = .ok (.getfield 19, 3) := dk_180 0 19 (dk_at dksX1_takesSeats_1 0 rfl rfl)
theorem dX1_takesSeats_27 : decode cX1_takesSeats 27 = .ok (.iload 9, 2) := dk_21 9 (dk_at dksX1_takesSeats_1 3 rfl rfl)
theorem dX1_takesSeats_29 : decode cX1_takesSeats 29 = .ok (.invokevirtual 131, 3) := dk_182 0 131 (dk_at dksX1_takesSeats_1 5 rfl rfl)
theorem dX1_takesSeats_32 : decode cX1_takesSeats 32 = .ok (.ifCond .eq 13, 3) := dk_153 0 13 (dk_at dksX1_takesSeats_1 8 rfl rfl)
theorem dX1_takesSeats_35 : decode cX1_takesSeats 35 = .ok (.lload 6, 2) := dk_22 6 (dk_at dksX1_takesSeats_1 11 rfl rfl)
theorem dX1_takesSeats_37 : decode cX1_takesSeats 37 = .ok (.iload 9, 2) := dk_21 9 (dk_at dksX1_takesSeats_1 13 rfl rfl)
theorem dX1_takesSeats_39 : decode cX1_takesSeats 39 = .ok (.invokestatic 155, 3) := dk_184 0 155 (dk_at dksX1_takesSeats_1 15 rfl rfl)
theorem dX1_takesSeats_42 : decode cX1_takesSeats 42 = .ok (.ifCond .eq 5, 3) := dk_153 0 5 (dk_at dksX1_takesSeats_1 18 rfl rfl)
theorem dX1_takesSeats_45 : decode cX1_takesSeats 45 = .ok (.iconst (-1), 1) := dk_2 (dk_at dksX1_takesSeats_1 21 rfl rfl)
theorem dX1_takesSeats_46 : decode cX1_takesSeats 46 = .ok (.ireturn, 1) := dk_172 (dk_at dksX1_takesSeats_1 22 rfl rfl)
theorem dX1_takesSeats_47 : decode cX1_takesSeats 47 = .ok (.lload 6, 2) := dk_22 6 (dk_at dksX1_takesSeats_2 0 rfl rfl)
theorem dX1_takesSeats_49 : decode cX1_takesSeats 49 = .ok (.lconst 1, 1) := dk_10 (dk_at dksX1_takesSeats_2 2 rfl rfl)
theorem dX1_takesSeats_50 : decode cX1_takesSeats 50 = .ok (.iload 9, 2) := dk_21 9 (dk_at dksX1_takesSeats_2 3 rfl rfl)
theorem dX1_takesSeats_52 : decode cX1_takesSeats 52 = .ok (.lshl, 1) := dk_121 (dk_at dksX1_takesSeats_2 5 rfl rfl)
theorem dX1_takesSeats_53 : decode cX1_takesSeats 53 = .ok (.lor, 1) := dk_129 (dk_at dksX1_takesSeats_2 6 rfl rfl)
theorem dX1_takesSeats_54 : decode cX1_takesSeats 54 = .ok (.lstore 6, 2) := dk_55 6 (dk_at dksX1_takesSeats_2 7 rfl rfl)
theorem dX1_takesSeats_56 : decode cX1_takesSeats 56 = .ok (.aload_n 3, 1) := dk_45 (dk_at dksX1_takesSeats_2 9 rfl rfl)
theorem dX1_takesSeats_57 : decode cX1_takesSeats 57 = .ok (.iload 8, 2) := dk_21 8 (dk_at dksX1_takesSeats_2 10 rfl rfl)
theorem dX1_takesSeats_59 : decode cX1_takesSeats 59 = .ok (.iload 9, 2) := dk_21 9 (dk_at dksX1_takesSeats_2 12 rfl rfl)
theorem dX1_takesSeats_61 : decode cX1_takesSeats 61 = .ok (.iastore, 1) := dk_79 (dk_at dksX1_takesSeats_2 14 rfl rfl)
theorem dX1_takesSeats_62 : decode cX1_takesSeats 62 = .ok (.iinc 8 1, 3) := dk_132 8 1 (dk_at dksX1_takesSeats_2 15 rfl rfl)
theorem dX1_takesSeats_65 : decode cX1_takesSeats 65 = .ok (.goto (-58), 3) := dk_167 255 198 (dk_at dksX1_takesSeats_2 18 rfl rfl)
theorem dX1_takesSeats_68 : decode cX1_takesSeats 68 = .ok (.iload_n 2, 1) := dk_28 (dk_at dksX1_takesSeats_2 21 rfl rfl)
theorem dX1_takesSeats_69 : decode cX1_takesSeats 69 = .ok (.ireturn, 1) := dk_172 (dk_at dksX1_takesSeats_2 22 rfl rfl)
def dkwX1_byteAt_0 : List UInt8 := [42, 180, 0, 12, 27, 51, 17, 0, 255, 126, 172]
abbrev dktX1_byteAt_0 : List UInt8 := dkwX1_byteAt_0 ++ []
theorem dksX1_byteAt_0 : cX1_byteAt.data.toList.drop 0 = dktX1_byteAt_0 := by decide +kernel
theorem dX1_byteAt_0 : decode cX1_byteAt 0 = .ok (.aload_n 0, 1) := dk_42 (dk_at dksX1_byteAt_0 0 rfl rfl)
theorem dX1_byteAt_1 : decode cX1_byteAt 1 = .ok (.getfield 12, 3) := dk_180 0 12 (dk_at dksX1_byteAt_0 1 rfl rfl)
theorem dX1_byteAt_4 : decode cX1_byteAt 4 = .ok (.iload_n 1, 1) := dk_27 (dk_at dksX1_byteAt_0 4 rfl rfl)
theorem dX1_byteAt_5 : decode cX1_byteAt 5 = .ok (.baload, 1) := dk_51 (dk_at dksX1_byteAt_0 5 rfl rfl)
theorem dX1_byteAt_6 : decode cX1_byteAt 6 = .ok (.sipush 255, 3) := dk_17 0 255 (dk_at dksX1_byteAt_0 6 rfl rfl)
theorem dX1_byteAt_9 : decode cX1_byteAt 9 = .ok (.iand, 1) := dk_126 (dk_at dksX1_byteAt_0 9 rfl rfl)
theorem dX1_byteAt_10 : decode cX1_byteAt 10 = .ok (.ireturn, 1) := dk_172 (dk_at dksX1_byteAt_0 10 rfl rfl)
def dkwX1_priceOf_2 : List UInt8 := [167, 255, 215, 28, 172]
abbrev dktX1_priceOf_2 : List UInt8 := dkwX1_priceOf_2 ++ []
def dkwX1_priceOf_1 : List UInt8 := [180, 0, 145, 42, 180, 0, 19, 42, 180, 0, 44, 29, 46, 182, 0, 148, 46, 96, 61, 132, 3, 1]
abbrev dktX1_priceOf_1 : List UInt8 := dkwX1_priceOf_1 ++ dktX1_priceOf_2
def dkwX1_priceOf_0 : List UInt8 := [3, 61, 3, 62, 29, 16, 8, 162, 0, 41, 27, 29, 184, 1, 34, 153, 0, 27, 28, 42, 180, 0, 19]
abbrev dktX1_priceOf_0 : List UInt8 := dkwX1_priceOf_0 ++ dktX1_priceOf_1
theorem dksX1_priceOf_0 : cX1_priceOf.data.toList.drop 0 = dktX1_priceOf_0 := by decide +kernel
theorem dksX1_priceOf_1 : cX1_priceOf.data.toList.drop 23 = dktX1_priceOf_1 := dk_seg dksX1_priceOf_0 23 rfl rfl
theorem dksX1_priceOf_2 : cX1_priceOf.data.toList.drop 45 = dktX1_priceOf_2 := dk_seg dksX1_priceOf_1 22 rfl rfl
theorem dX1_priceOf_0 : decode cX1_priceOf 0 = .ok (.iconst 0, 1) := dk_3 (dk_at dksX1_priceOf_0 0 rfl rfl)
theorem dX1_priceOf_1 : decode cX1_priceOf 1 = .ok (.istore_n 2, 1) := dk_61 (dk_at dksX1_priceOf_0 1 rfl rfl)
theorem dX1_priceOf_2 : decode cX1_priceOf 2 = .ok (.iconst 0, 1) := dk_3 (dk_at dksX1_priceOf_0 2 rfl rfl)
theorem dX1_priceOf_3 : decode cX1_priceOf 3 = .ok (.istore_n 3, 1) := dk_62 (dk_at dksX1_priceOf_0 3 rfl rfl)
theorem dX1_priceOf_4 : decode cX1_priceOf 4 = .ok (.iload_n 3, 1) := dk_29 (dk_at dksX1_priceOf_0 4 rfl rfl)
theorem dX1_priceOf_5 : decode cX1_priceOf 5 = .ok (.bipush 8, 2) := dk_16 8 (dk_at dksX1_priceOf_0 5 rfl rfl)
theorem dX1_priceOf_7 : decode cX1_priceOf 7 = .ok (.if_icmp .ge 41, 3) := dk_162 0 41 (dk_at dksX1_priceOf_0 7 rfl rfl)
theorem dX1_priceOf_10 : decode cX1_priceOf 10 = .ok (.iload_n 1, 1) := dk_27 (dk_at dksX1_priceOf_0 10 rfl rfl)
theorem dX1_priceOf_11 : decode cX1_priceOf 11 = .ok (.iload_n 3, 1) := dk_29 (dk_at dksX1_priceOf_0 11 rfl rfl)
theorem dX1_priceOf_12 : decode cX1_priceOf 12 = .ok (.invokestatic 290, 3) := dk_184 1 34 (dk_at dksX1_priceOf_0 12 rfl rfl)
theorem dX1_priceOf_15 : decode cX1_priceOf 15 = .ok (.ifCond .eq 27, 3) := dk_153 0 27 (dk_at dksX1_priceOf_0 15 rfl rfl)
theorem dX1_priceOf_18 : decode cX1_priceOf 18 = .ok (.iload_n 2, 1) := dk_28 (dk_at dksX1_priceOf_0 18 rfl rfl)
theorem dX1_priceOf_19 : decode cX1_priceOf 19 = .ok (.aload_n 0, 1) := dk_42 (dk_at dksX1_priceOf_0 19 rfl rfl)
theorem dX1_priceOf_20 : decode cX1_priceOf 20 = .ok (.getfield 19, 3) := dk_180 0 19 (dk_at dksX1_priceOf_0 20 rfl rfl)
theorem dX1_priceOf_23 : decode cX1_priceOf 23 = .ok (.getfield 145, 3) := dk_180 0 145 (dk_at dksX1_priceOf_1 0 rfl rfl)
theorem dX1_priceOf_26 : decode cX1_priceOf 26 = .ok (.aload_n 0, 1) := dk_42 (dk_at dksX1_priceOf_1 3 rfl rfl)
theorem dX1_priceOf_27 : decode cX1_priceOf 27 = .ok (.getfield 19, 3) := dk_180 0 19 (dk_at dksX1_priceOf_1 4 rfl rfl)
theorem dX1_priceOf_30 : decode cX1_priceOf 30 = .ok (.aload_n 0, 1) := dk_42 (dk_at dksX1_priceOf_1 7 rfl rfl)
theorem dX1_priceOf_31 : decode cX1_priceOf 31 = .ok (.getfield 44, 3) := dk_180 0 44 (dk_at dksX1_priceOf_1 8 rfl rfl)
theorem dX1_priceOf_34 : decode cX1_priceOf 34 = .ok (.iload_n 3, 1) := dk_29 (dk_at dksX1_priceOf_1 11 rfl rfl)
theorem dX1_priceOf_35 : decode cX1_priceOf 35 = .ok (.iaload, 1) := dk_46 (dk_at dksX1_priceOf_1 12 rfl rfl)
theorem dX1_priceOf_36 : decode cX1_priceOf 36 = .ok (.invokevirtual 148, 3) := dk_182 0 148 (dk_at dksX1_priceOf_1 13 rfl rfl)
theorem dX1_priceOf_39 : decode cX1_priceOf 39 = .ok (.iaload, 1) := dk_46 (dk_at dksX1_priceOf_1 16 rfl rfl)
theorem dX1_priceOf_40 : decode cX1_priceOf 40 = .ok (.iadd, 1) := dk_96 (dk_at dksX1_priceOf_1 17 rfl rfl)
theorem dX1_priceOf_41 : decode cX1_priceOf 41 = .ok (.istore_n 2, 1) := dk_61 (dk_at dksX1_priceOf_1 18 rfl rfl)
theorem dX1_priceOf_42 : decode cX1_priceOf 42 = .ok (.iinc 3 1, 3) := dk_132 3 1 (dk_at dksX1_priceOf_1 19 rfl rfl)
theorem dX1_priceOf_45 : decode cX1_priceOf 45 = .ok (.goto (-41), 3) := dk_167 255 215 (dk_at dksX1_priceOf_2 0 rfl rfl)
theorem dX1_priceOf_48 : decode cX1_priceOf 48 = .ok (.iload_n 2, 1) := dk_28 (dk_at dksX1_priceOf_2 3 rfl rfl)
theorem dX1_priceOf_49 : decode cX1_priceOf 49 = .ok (.ireturn, 1) := dk_172 (dk_at dksX1_priceOf_2 4 rfl rfl)
def dkwX1_handsOf_1 : List UInt8 := [180, 0, 44, 21, 4, 46, 121, 129, 65, 132, 4, 1, 167, 255, 225, 32, 173]
abbrev dktX1_handsOf_1 : List UInt8 := dkwX1_handsOf_1 ++ []
def dkwX1_handsOf_0 : List UInt8 := [9, 65, 3, 54, 4, 21, 4, 16, 8, 162, 0, 30, 27, 21, 4, 184, 1, 34, 153, 0, 15, 32, 10, 42]
abbrev dktX1_handsOf_0 : List UInt8 := dkwX1_handsOf_0 ++ dktX1_handsOf_1
theorem dksX1_handsOf_0 : cX1_handsOf.data.toList.drop 0 = dktX1_handsOf_0 := by decide +kernel
theorem dksX1_handsOf_1 : cX1_handsOf.data.toList.drop 24 = dktX1_handsOf_1 := dk_seg dksX1_handsOf_0 24 rfl rfl
theorem dX1_handsOf_0 : decode cX1_handsOf 0 = .ok (.lconst 0, 1) := dk_9 (dk_at dksX1_handsOf_0 0 rfl rfl)
theorem dX1_handsOf_1 : decode cX1_handsOf 1 = .ok (.lstore_n 2, 1) := dk_65 (dk_at dksX1_handsOf_0 1 rfl rfl)
theorem dX1_handsOf_2 : decode cX1_handsOf 2 = .ok (.iconst 0, 1) := dk_3 (dk_at dksX1_handsOf_0 2 rfl rfl)
theorem dX1_handsOf_3 : decode cX1_handsOf 3 = .ok (.istore 4, 2) := dk_54 4 (dk_at dksX1_handsOf_0 3 rfl rfl)
theorem dX1_handsOf_5 : decode cX1_handsOf 5 = .ok (.iload 4, 2) := dk_21 4 (dk_at dksX1_handsOf_0 5 rfl rfl)
theorem dX1_handsOf_7 : decode cX1_handsOf 7 = .ok (.bipush 8, 2) := dk_16 8 (dk_at dksX1_handsOf_0 7 rfl rfl)
theorem dX1_handsOf_9 : decode cX1_handsOf 9 = .ok (.if_icmp .ge 30, 3) := dk_162 0 30 (dk_at dksX1_handsOf_0 9 rfl rfl)
theorem dX1_handsOf_12 : decode cX1_handsOf 12 = .ok (.iload_n 1, 1) := dk_27 (dk_at dksX1_handsOf_0 12 rfl rfl)
theorem dX1_handsOf_13 : decode cX1_handsOf 13 = .ok (.iload 4, 2) := dk_21 4 (dk_at dksX1_handsOf_0 13 rfl rfl)
theorem dX1_handsOf_15 : decode cX1_handsOf 15 = .ok (.invokestatic 290, 3) := dk_184 1 34 (dk_at dksX1_handsOf_0 15 rfl rfl)
theorem dX1_handsOf_18 : decode cX1_handsOf 18 = .ok (.ifCond .eq 15, 3) := dk_153 0 15 (dk_at dksX1_handsOf_0 18 rfl rfl)
theorem dX1_handsOf_21 : decode cX1_handsOf 21 = .ok (.lload_n 2, 1) := dk_32 (dk_at dksX1_handsOf_0 21 rfl rfl)
theorem dX1_handsOf_22 : decode cX1_handsOf 22 = .ok (.lconst 1, 1) := dk_10 (dk_at dksX1_handsOf_0 22 rfl rfl)
theorem dX1_handsOf_23 : decode cX1_handsOf 23 = .ok (.aload_n 0, 1) := dk_42 (dk_at dksX1_handsOf_0 23 rfl rfl)
theorem dX1_handsOf_24 : decode cX1_handsOf 24 = .ok (.getfield 44, 3) := dk_180 0 44 (dk_at dksX1_handsOf_1 0 rfl rfl)
theorem dX1_handsOf_27 : decode cX1_handsOf 27 = .ok (.iload 4, 2) := dk_21 4 (dk_at dksX1_handsOf_1 3 rfl rfl)
theorem dX1_handsOf_29 : decode cX1_handsOf 29 = .ok (.iaload, 1) := dk_46 (dk_at dksX1_handsOf_1 5 rfl rfl)
theorem dX1_handsOf_30 : decode cX1_handsOf 30 = .ok (.lshl, 1) := dk_121 (dk_at dksX1_handsOf_1 6 rfl rfl)
theorem dX1_handsOf_31 : decode cX1_handsOf 31 = .ok (.lor, 1) := dk_129 (dk_at dksX1_handsOf_1 7 rfl rfl)
theorem dX1_handsOf_32 : decode cX1_handsOf 32 = .ok (.lstore_n 2, 1) := dk_65 (dk_at dksX1_handsOf_1 8 rfl rfl)
theorem dX1_handsOf_33 : decode cX1_handsOf 33 = .ok (.iinc 4 1, 3) := dk_132 4 1 (dk_at dksX1_handsOf_1 9 rfl rfl)
theorem dX1_handsOf_36 : decode cX1_handsOf 36 = .ok (.goto (-31), 3) := dk_167 255 225 (dk_at dksX1_handsOf_1 12 rfl rfl)
theorem dX1_handsOf_39 : decode cX1_handsOf 39 = .ok (.lload_n 2, 1) := dk_32 (dk_at dksX1_handsOf_1 15 rfl rfl)
theorem dX1_handsOf_40 : decode cX1_handsOf 40 = .ok (.lreturn, 1) := dk_173 (dk_at dksX1_handsOf_1 16 rfl rfl)
def dkwX1_isCarried_0 : List UInt8 := [42, 43, 32, 42, 180, 0, 117, 182, 1, 24, 43, 180, 1, 28, 161, 0, 7, 4, 167, 0, 4, 3, 172]
abbrev dktX1_isCarried_0 : List UInt8 := dkwX1_isCarried_0 ++ []
theorem dksX1_isCarried_0 : cX1_isCarried.data.toList.drop 0 = dktX1_isCarried_0 := by decide +kernel
theorem dX1_isCarried_0 : decode cX1_isCarried 0 = .ok (.aload_n 0, 1) := dk_42 (dk_at dksX1_isCarried_0 0 rfl rfl)
theorem dX1_isCarried_1 : decode cX1_isCarried 1 = .ok (.aload_n 1, 1) := dk_43 (dk_at dksX1_isCarried_0 1 rfl rfl)
theorem dX1_isCarried_2 : decode cX1_isCarried 2 = .ok (.lload_n 2, 1) := dk_32 (dk_at dksX1_isCarried_0 2 rfl rfl)
theorem dX1_isCarried_3 : decode cX1_isCarried 3 = .ok (.aload_n 0, 1) := dk_42 (dk_at dksX1_isCarried_0 3 rfl rfl)
theorem dX1_isCarried_4 : decode cX1_isCarried 4 = .ok (.getfield 117, 3) := dk_180 0 117 (dk_at dksX1_isCarried_0 4 rfl rfl)
theorem dX1_isCarried_7 : decode cX1_isCarried 7 = .ok (.invokevirtual 280, 3) := dk_182 1 24 (dk_at dksX1_isCarried_0 7 rfl rfl)
theorem dX1_isCarried_10 : decode cX1_isCarried 10 = .ok (.aload_n 1, 1) := dk_43 (dk_at dksX1_isCarried_0 10 rfl rfl)
theorem dX1_isCarried_11 : decode cX1_isCarried 11 = .ok (.getfield 284, 3) := dk_180 1 28 (dk_at dksX1_isCarried_0 11 rfl rfl)
theorem dX1_isCarried_14 : decode cX1_isCarried 14 = .ok (.if_icmp .lt 7, 3) := dk_161 0 7 (dk_at dksX1_isCarried_0 14 rfl rfl)
theorem dX1_isCarried_17 : decode cX1_isCarried 17 = .ok (.iconst 1, 1) := dk_4 (dk_at dksX1_isCarried_0 17 rfl rfl)
theorem dX1_isCarried_18 : decode cX1_isCarried 18 = .ok (.goto 4, 3) := dk_167 0 4 (dk_at dksX1_isCarried_0 18 rfl rfl)
theorem dX1_isCarried_21 : decode cX1_isCarried 21 = .ok (.iconst 0, 1) := dk_3 (dk_at dksX1_isCarried_0 21 rfl rfl)
theorem dX1_isCarried_22 : decode cX1_isCarried 22 = .ok (.ireturn, 1) := dk_172 (dk_at dksX1_isCarried_0 22 rfl rfl)
theorem dX1_bought_0 : decode cX1_bought 0 = .ok (.aload_n 0, 1) := by decide +kernel
theorem dX1_bought_1 : decode cX1_bought 1 = .ok (.getfield 48, 3) := by decide +kernel
theorem dX1_bought_4 : decode cX1_bought 4 = .ok (.ireturn, 1) := by decide +kernel
def dkwX1_hush_4 : List UInt8 := [162, 0, 5, 29, 61, 132, 3, 1, 167, 255, 193, 28, 172]
abbrev dktX1_hush_4 : List UInt8 := dkwX1_hush_4 ++ []
def dkwX1_hush_3 : List UInt8 := [180, 0, 114, 42, 180, 0, 117, 42, 29, 182, 1, 47, 129, 182, 1, 24, 42, 180, 0, 19, 180, 1, 28]
abbrev dktX1_hush_3 : List UInt8 := dkwX1_hush_3 ++ dktX1_hush_4
def dkwX1_hush_2 : List UInt8 := [159, 0, 17, 29, 184, 1, 43, 28, 184, 1, 43, 161, 0, 6, 167, 0, 37, 42, 42, 180, 0, 19, 42]
abbrev dktX1_hush_2 : List UInt8 := dkwX1_hush_2 ++ dktX1_hush_3
def dkwX1_hush_1 : List UInt8 := [182, 1, 36, 2, 160, 0, 6, 16, 254, 172, 2, 61, 3, 62, 29, 4, 27, 120, 162, 0, 62, 28, 2]
abbrev dktX1_hush_1 : List UInt8 := dkwX1_hush_1 ++ dktX1_hush_2
def dkwX1_hush_0 : List UInt8 := [42, 182, 0, 98, 60, 27, 4, 16, 8, 184, 0, 135, 153, 0, 18, 42, 3, 27, 42, 180, 0, 44, 9]
abbrev dktX1_hush_0 : List UInt8 := dkwX1_hush_0 ++ dktX1_hush_1
theorem dksX1_hush_0 : cX1_hush.data.toList.drop 0 = dktX1_hush_0 := by decide +kernel
theorem dksX1_hush_1 : cX1_hush.data.toList.drop 23 = dktX1_hush_1 := dk_seg dksX1_hush_0 23 rfl rfl
theorem dksX1_hush_2 : cX1_hush.data.toList.drop 46 = dktX1_hush_2 := dk_seg dksX1_hush_1 23 rfl rfl
theorem dksX1_hush_3 : cX1_hush.data.toList.drop 69 = dktX1_hush_3 := dk_seg dksX1_hush_2 23 rfl rfl
theorem dksX1_hush_4 : cX1_hush.data.toList.drop 92 = dktX1_hush_4 := dk_seg dksX1_hush_3 23 rfl rfl
theorem dX1_hush_0 : decode cX1_hush 0 = .ok (.aload_n 0, 1) := dk_42 (dk_at dksX1_hush_0 0 rfl rfl)
theorem dX1_hush_1 : decode cX1_hush 1 = .ok (.invokevirtual 98, 3) := dk_182 0 98 (dk_at dksX1_hush_0 1 rfl rfl)
theorem dX1_hush_4 : decode cX1_hush 4 = .ok (.istore_n 1, 1) := dk_60 (dk_at dksX1_hush_0 4 rfl rfl)
theorem dX1_hush_5 : decode cX1_hush 5 = .ok (.iload_n 1, 1) := dk_27 (dk_at dksX1_hush_0 5 rfl rfl)
theorem dX1_hush_6 : decode cX1_hush 6 = .ok (.iconst 1, 1) := dk_4 (dk_at dksX1_hush_0 6 rfl rfl)
theorem dX1_hush_7 : decode cX1_hush 7 = .ok (.bipush 8, 2) := dk_16 8 (dk_at dksX1_hush_0 7 rfl rfl)
theorem dX1_hush_9 : decode cX1_hush 9 = .ok (.invokestatic 135, 3) := dk_184 0 135 (dk_at dksX1_hush_0 9 rfl rfl)
theorem dX1_hush_12 : decode cX1_hush 12 = .ok (.ifCond .eq 18, 3) := dk_153 0 18 (dk_at dksX1_hush_0 12 rfl rfl)
theorem dX1_hush_15 : decode cX1_hush 15 = .ok (.aload_n 0, 1) := dk_42 (dk_at dksX1_hush_0 15 rfl rfl)
theorem dX1_hush_16 : decode cX1_hush 16 = .ok (.iconst 0, 1) := dk_3 (dk_at dksX1_hush_0 16 rfl rfl)
theorem dX1_hush_17 : decode cX1_hush 17 = .ok (.iload_n 1, 1) := dk_27 (dk_at dksX1_hush_0 17 rfl rfl)
theorem dX1_hush_18 : decode cX1_hush 18 = .ok (.aload_n 0, 1) := dk_42 (dk_at dksX1_hush_0 18 rfl rfl)
theorem dX1_hush_19 : decode cX1_hush 19 = .ok (.getfield 44, 3) := dk_180 0 44 (dk_at dksX1_hush_0 19 rfl rfl)
theorem dX1_hush_22 : decode cX1_hush 22 = .ok (.lconst 0, 1) := dk_9 (dk_at dksX1_hush_0 22 rfl rfl)
theorem dX1_hush_23 : decode cX1_hush 23 = .ok (.invokevirtual 292, 3) := dk_182 1 36 (dk_at dksX1_hush_1 0 rfl rfl)
theorem dX1_hush_26 : decode cX1_hush 26 = .ok (.iconst (-1), 1) := dk_2 (dk_at dksX1_hush_1 3 rfl rfl)
theorem dX1_hush_27 : decode cX1_hush 27 = .ok (.if_icmp .ne 6, 3) := dk_160 0 6 (dk_at dksX1_hush_1 4 rfl rfl)
theorem dX1_hush_30 : decode cX1_hush 30 = .ok (.bipush (-2), 2) := dk_16 254 (dk_at dksX1_hush_1 7 rfl rfl)
theorem dX1_hush_32 : decode cX1_hush 32 = .ok (.ireturn, 1) := dk_172 (dk_at dksX1_hush_1 9 rfl rfl)
theorem dX1_hush_33 : decode cX1_hush 33 = .ok (.iconst (-1), 1) := dk_2 (dk_at dksX1_hush_1 10 rfl rfl)
theorem dX1_hush_34 : decode cX1_hush 34 = .ok (.istore_n 2, 1) := dk_61 (dk_at dksX1_hush_1 11 rfl rfl)
theorem dX1_hush_35 : decode cX1_hush 35 = .ok (.iconst 0, 1) := dk_3 (dk_at dksX1_hush_1 12 rfl rfl)
theorem dX1_hush_36 : decode cX1_hush 36 = .ok (.istore_n 3, 1) := dk_62 (dk_at dksX1_hush_1 13 rfl rfl)
theorem dX1_hush_37 : decode cX1_hush 37 = .ok (.iload_n 3, 1) := dk_29 (dk_at dksX1_hush_1 14 rfl rfl)
theorem dX1_hush_38 : decode cX1_hush 38 = .ok (.iconst 1, 1) := dk_4 (dk_at dksX1_hush_1 15 rfl rfl)
theorem dX1_hush_39 : decode cX1_hush 39 = .ok (.iload_n 1, 1) := dk_27 (dk_at dksX1_hush_1 16 rfl rfl)
theorem dX1_hush_40 : decode cX1_hush 40 = .ok (.ishl, 1) := dk_120 (dk_at dksX1_hush_1 17 rfl rfl)
theorem dX1_hush_41 : decode cX1_hush 41 = .ok (.if_icmp .ge 62, 3) := dk_162 0 62 (dk_at dksX1_hush_1 18 rfl rfl)
theorem dX1_hush_44 : decode cX1_hush 44 = .ok (.iload_n 2, 1) := dk_28 (dk_at dksX1_hush_1 21 rfl rfl)
theorem dX1_hush_45 : decode cX1_hush 45 = .ok (.iconst (-1), 1) := dk_2 (dk_at dksX1_hush_1 22 rfl rfl)
theorem dX1_hush_46 : decode cX1_hush 46 = .ok (.if_icmp .eq 17, 3) := dk_159 0 17 (dk_at dksX1_hush_2 0 rfl rfl)
theorem dX1_hush_49 : decode cX1_hush 49 = .ok (.iload_n 3, 1) := dk_29 (dk_at dksX1_hush_2 3 rfl rfl)
theorem dX1_hush_50 : decode cX1_hush 50 = .ok (.invokestatic 299, 3) := dk_184 1 43 (dk_at dksX1_hush_2 4 rfl rfl)
theorem dX1_hush_53 : decode cX1_hush 53 = .ok (.iload_n 2, 1) := dk_28 (dk_at dksX1_hush_2 7 rfl rfl)
theorem dX1_hush_54 : decode cX1_hush 54 = .ok (.invokestatic 299, 3) := dk_184 1 43 (dk_at dksX1_hush_2 8 rfl rfl)
theorem dX1_hush_57 : decode cX1_hush 57 = .ok (.if_icmp .lt 6, 3) := dk_161 0 6 (dk_at dksX1_hush_2 11 rfl rfl)
theorem dX1_hush_60 : decode cX1_hush 60 = .ok (.goto 37, 3) := dk_167 0 37 (dk_at dksX1_hush_2 14 rfl rfl)
theorem dX1_hush_63 : decode cX1_hush 63 = .ok (.aload_n 0, 1) := dk_42 (dk_at dksX1_hush_2 17 rfl rfl)
theorem dX1_hush_64 : decode cX1_hush 64 = .ok (.aload_n 0, 1) := dk_42 (dk_at dksX1_hush_2 18 rfl rfl)
theorem dX1_hush_65 : decode cX1_hush 65 = .ok (.getfield 19, 3) := dk_180 0 19 (dk_at dksX1_hush_2 19 rfl rfl)
theorem dX1_hush_68 : decode cX1_hush 68 = .ok (.aload_n 0, 1) := dk_42 (dk_at dksX1_hush_2 22 rfl rfl)
theorem dX1_hush_69 : decode cX1_hush 69 = .ok (.getfield 114, 3) := dk_180 0 114 (dk_at dksX1_hush_3 0 rfl rfl)
theorem dX1_hush_72 : decode cX1_hush 72 = .ok (.aload_n 0, 1) := dk_42 (dk_at dksX1_hush_3 3 rfl rfl)
theorem dX1_hush_73 : decode cX1_hush 73 = .ok (.getfield 117, 3) := dk_180 0 117 (dk_at dksX1_hush_3 4 rfl rfl)
theorem dX1_hush_76 : decode cX1_hush 76 = .ok (.aload_n 0, 1) := dk_42 (dk_at dksX1_hush_3 7 rfl rfl)
theorem dX1_hush_77 : decode cX1_hush 77 = .ok (.iload_n 3, 1) := dk_29 (dk_at dksX1_hush_3 8 rfl rfl)
theorem dX1_hush_78 : decode cX1_hush 78 = .ok (.invokevirtual 303, 3) := dk_182 1 47 (dk_at dksX1_hush_3 9 rfl rfl)
theorem dX1_hush_81 : decode cX1_hush 81 = .ok (.lor, 1) := dk_129 (dk_at dksX1_hush_3 12 rfl rfl)
theorem dX1_hush_82 : decode cX1_hush 82 = .ok (.invokevirtual 280, 3) := dk_182 1 24 (dk_at dksX1_hush_3 13 rfl rfl)
theorem dX1_hush_85 : decode cX1_hush 85 = .ok (.aload_n 0, 1) := dk_42 (dk_at dksX1_hush_3 16 rfl rfl)
theorem dX1_hush_86 : decode cX1_hush 86 = .ok (.getfield 19, 3) := dk_180 0 19 (dk_at dksX1_hush_3 17 rfl rfl)
theorem dX1_hush_89 : decode cX1_hush 89 = .ok (.getfield 284, 3) := dk_180 1 28 (dk_at dksX1_hush_3 20 rfl rfl)
theorem dX1_hush_92 : decode cX1_hush 92 = .ok (.if_icmp .ge 5, 3) := dk_162 0 5 (dk_at dksX1_hush_4 0 rfl rfl)
theorem dX1_hush_95 : decode cX1_hush 95 = .ok (.iload_n 3, 1) := dk_29 (dk_at dksX1_hush_4 3 rfl rfl)
theorem dX1_hush_96 : decode cX1_hush 96 = .ok (.istore_n 2, 1) := dk_61 (dk_at dksX1_hush_4 4 rfl rfl)
theorem dX1_hush_97 : decode cX1_hush 97 = .ok (.iinc 3 1, 3) := dk_132 3 1 (dk_at dksX1_hush_4 5 rfl rfl)
theorem dX1_hush_100 : decode cX1_hush 100 = .ok (.goto (-63), 3) := dk_167 255 193 (dk_at dksX1_hush_4 8 rfl rfl)
theorem dX1_hush_103 : decode cX1_hush 103 = .ok (.iload_n 2, 1) := dk_28 (dk_at dksX1_hush_4 11 rfl rfl)
theorem dX1_hush_104 : decode cX1_hush 104 = .ok (.ireturn, 1) := dk_172 (dk_at dksX1_hush_4 12 rfl rfl)
def dkwX1_coalitions_6 : List UInt8 := [2, 172]
abbrev dktX1_coalitions_6 : List UInt8 := dkwX1_coalitions_6 ++ []
def dkwX1_coalitions_5 : List UInt8 := [160, 0, 6, 21, 4, 172, 132, 3, 1, 132, 4, 1, 167, 255, 207, 27, 2, 160, 0, 7, 29, 167, 0, 4]
abbrev dktX1_coalitions_5 : List UInt8 := dkwX1_coalitions_5 ++ dktX1_coalitions_6
def dkwX1_coalitions_4 : List UInt8 := [153, 0, 31, 21, 4, 158, 0, 15, 42, 21, 4, 182, 1, 55, 154, 0, 6, 167, 0, 14, 29, 27]
abbrev dktX1_coalitions_4 : List UInt8 := dkwX1_coalitions_4 ++ dktX1_coalitions_5
def dkwX1_coalitions_3 : List UInt8 := [167, 255, 222, 3, 62, 3, 54, 4, 21, 4, 4, 28, 120, 162, 0, 47, 42, 180, 0, 52, 21, 4, 51]
abbrev dktX1_coalitions_3 : List UInt8 := dkwX1_coalitions_3 ++ dktX1_coalitions_4
def dkwX1_coalitions_2 : List UInt8 := [42, 42, 180, 0, 19, 42, 180, 0, 114, 42, 29, 182, 1, 47, 129, 182, 1, 51, 84, 132, 3, 1]
abbrev dktX1_coalitions_2 : List UInt8 := dkwX1_coalitions_2 ++ dktX1_coalitions_3
def dkwX1_coalitions_1 : List UInt8 := [182, 1, 36, 2, 160, 0, 6, 16, 254, 172, 3, 62, 29, 4, 28, 120, 162, 0, 33, 42, 180, 0, 52, 29]
abbrev dktX1_coalitions_1 : List UInt8 := dkwX1_coalitions_1 ++ dktX1_coalitions_2
def dkwX1_coalitions_0 : List UInt8 := [42, 182, 0, 98, 61, 28, 4, 16, 8, 184, 0, 135, 153, 0, 18, 42, 3, 28, 42, 180, 0, 44, 9]
abbrev dktX1_coalitions_0 : List UInt8 := dkwX1_coalitions_0 ++ dktX1_coalitions_1
theorem dksX1_coalitions_0 : cX1_coalitions.data.toList.drop 0 = dktX1_coalitions_0 := by decide +kernel
theorem dksX1_coalitions_1 : cX1_coalitions.data.toList.drop 23 = dktX1_coalitions_1 := dk_seg dksX1_coalitions_0 23 rfl rfl
theorem dksX1_coalitions_2 : cX1_coalitions.data.toList.drop 47 = dktX1_coalitions_2 := dk_seg dksX1_coalitions_1 24 rfl rfl
theorem dksX1_coalitions_3 : cX1_coalitions.data.toList.drop 69 = dktX1_coalitions_3 := dk_seg dksX1_coalitions_2 22 rfl rfl
theorem dksX1_coalitions_4 : cX1_coalitions.data.toList.drop 92 = dktX1_coalitions_4 := dk_seg dksX1_coalitions_3 23 rfl rfl
theorem dksX1_coalitions_5 : cX1_coalitions.data.toList.drop 114 = dktX1_coalitions_5 := dk_seg dksX1_coalitions_4 22 rfl rfl
theorem dksX1_coalitions_6 : cX1_coalitions.data.toList.drop 138 = dktX1_coalitions_6 := dk_seg dksX1_coalitions_5 24 rfl rfl
theorem dX1_coalitions_0 : decode cX1_coalitions 0 = .ok (.aload_n 0, 1) := dk_42 (dk_at dksX1_coalitions_0 0 rfl rfl)
theorem dX1_coalitions_1 : decode cX1_coalitions 1 = .ok (.invokevirtual 98, 3) := dk_182 0 98 (dk_at dksX1_coalitions_0 1 rfl rfl)
theorem dX1_coalitions_4 : decode cX1_coalitions 4 = .ok (.istore_n 2, 1) := dk_61 (dk_at dksX1_coalitions_0 4 rfl rfl)
theorem dX1_coalitions_5 : decode cX1_coalitions 5 = .ok (.iload_n 2, 1) := dk_28 (dk_at dksX1_coalitions_0 5 rfl rfl)
theorem dX1_coalitions_6 : decode cX1_coalitions 6 = .ok (.iconst 1, 1) := dk_4 (dk_at dksX1_coalitions_0 6 rfl rfl)
theorem dX1_coalitions_7 : decode cX1_coalitions 7 = .ok (.bipush 8, 2) := dk_16 8 (dk_at dksX1_coalitions_0 7 rfl rfl)
theorem dX1_coalitions_9 : decode cX1_coalitions 9 = .ok (.invokestatic 135, 3) := dk_184 0 135 (dk_at dksX1_coalitions_0 9 rfl rfl)
theorem dX1_coalitions_12 : decode cX1_coalitions 12 = .ok (.ifCond .eq 18, 3) := dk_153 0 18 (dk_at dksX1_coalitions_0 12 rfl rfl)
theorem dX1_coalitions_15 : decode cX1_coalitions 15 = .ok (.aload_n 0, 1) := dk_42 (dk_at dksX1_coalitions_0 15 rfl rfl)
theorem dX1_coalitions_16 : decode cX1_coalitions 16 = .ok (.iconst 0, 1) := dk_3 (dk_at dksX1_coalitions_0 16 rfl rfl)
theorem dX1_coalitions_17 : decode cX1_coalitions 17 = .ok (.iload_n 2, 1) := dk_28 (dk_at dksX1_coalitions_0 17 rfl rfl)
theorem dX1_coalitions_18 : decode cX1_coalitions 18 = .ok (.aload_n 0, 1) := dk_42 (dk_at dksX1_coalitions_0 18 rfl rfl)
theorem dX1_coalitions_19 : decode cX1_coalitions 19 = .ok (.getfield 44, 3) := dk_180 0 44 (dk_at dksX1_coalitions_0 19 rfl rfl)
theorem dX1_coalitions_22 : decode cX1_coalitions 22 = .ok (.lconst 0, 1) := dk_9 (dk_at dksX1_coalitions_0 22 rfl rfl)
theorem dX1_coalitions_23 : decode cX1_coalitions 23 = .ok (.invokevirtual 292, 3) := dk_182 1 36 (dk_at dksX1_coalitions_1 0 rfl rfl)
theorem dX1_coalitions_26 : decode cX1_coalitions 26 = .ok (.iconst (-1), 1) := dk_2 (dk_at dksX1_coalitions_1 3 rfl rfl)
theorem dX1_coalitions_27 : decode cX1_coalitions 27 = .ok (.if_icmp .ne 6, 3) := dk_160 0 6 (dk_at dksX1_coalitions_1 4 rfl rfl)
theorem dX1_coalitions_30 : decode cX1_coalitions 30 = .ok (.bipush (-2), 2) := dk_16 254 (dk_at dksX1_coalitions_1 7 rfl rfl)
theorem dX1_coalitions_32 : decode cX1_coalitions 32 = .ok (.ireturn, 1) := dk_172 (dk_at dksX1_coalitions_1 9 rfl rfl)
theorem dX1_coalitions_33 : decode cX1_coalitions 33 = .ok (.iconst 0, 1) := dk_3 (dk_at dksX1_coalitions_1 10 rfl rfl)
theorem dX1_coalitions_34 : decode cX1_coalitions 34 = .ok (.istore_n 3, 1) := dk_62 (dk_at dksX1_coalitions_1 11 rfl rfl)
theorem dX1_coalitions_35 : decode cX1_coalitions 35 = .ok (.iload_n 3, 1) := dk_29 (dk_at dksX1_coalitions_1 12 rfl rfl)
theorem dX1_coalitions_36 : decode cX1_coalitions 36 = .ok (.iconst 1, 1) := dk_4 (dk_at dksX1_coalitions_1 13 rfl rfl)
theorem dX1_coalitions_37 : decode cX1_coalitions 37 = .ok (.iload_n 2, 1) := dk_28 (dk_at dksX1_coalitions_1 14 rfl rfl)
theorem dX1_coalitions_38 : decode cX1_coalitions 38 = .ok (.ishl, 1) := dk_120 (dk_at dksX1_coalitions_1 15 rfl rfl)
theorem dX1_coalitions_39 : decode cX1_coalitions 39 = .ok (.if_icmp .ge 33, 3) := dk_162 0 33 (dk_at dksX1_coalitions_1 16 rfl rfl)
theorem dX1_coalitions_42 : decode cX1_coalitions 42 = .ok (.aload_n 0, 1) := dk_42 (dk_at dksX1_coalitions_1 19 rfl rfl)
theorem dX1_coalitions_43 : decode cX1_coalitions 43 = .ok (.getfield 52, 3) := dk_180 0 52 (dk_at dksX1_coalitions_1 20 rfl rfl)
theorem dX1_coalitions_46 : decode cX1_coalitions 46 = .ok (.iload_n 3, 1) := dk_29 (dk_at dksX1_coalitions_1 23 rfl rfl)
theorem dX1_coalitions_47 : decode cX1_coalitions 47 = .ok (.aload_n 0, 1) := dk_42 (dk_at dksX1_coalitions_2 0 rfl rfl)
theorem dX1_coalitions_48 : decode cX1_coalitions 48 = .ok (.aload_n 0, 1) := dk_42 (dk_at dksX1_coalitions_2 1 rfl rfl)
theorem dX1_coalitions_49 : decode cX1_coalitions 49 = .ok (.getfield 19, 3) := dk_180 0 19 (dk_at dksX1_coalitions_2 2 rfl rfl)
theorem dX1_coalitions_52 : decode cX1_coalitions 52 = .ok (.aload_n 0, 1) := dk_42 (dk_at dksX1_coalitions_2 5 rfl rfl)
theorem dX1_coalitions_53 : decode cX1_coalitions 53 = .ok (.getfield 114, 3) := dk_180 0 114 (dk_at dksX1_coalitions_2 6 rfl rfl)
theorem dX1_coalitions_56 : decode cX1_coalitions 56 = .ok (.aload_n 0, 1) := dk_42 (dk_at dksX1_coalitions_2 9 rfl rfl)
theorem dX1_coalitions_57 : decode cX1_coalitions 57 = .ok (.iload_n 3, 1) := dk_29 (dk_at dksX1_coalitions_2 10 rfl rfl)
theorem dX1_coalitions_58 : decode cX1_coalitions 58 = .ok (.invokevirtual 303, 3) := dk_182 1 47 (dk_at dksX1_coalitions_2 11 rfl rfl)
theorem dX1_coalitions_61 : decode cX1_coalitions 61 = .ok (.lor, 1) := dk_129 (dk_at dksX1_coalitions_2 14 rfl rfl)
theorem dX1_coalitions_62 : decode cX1_coalitions 62 = .ok (.invokevirtual 307, 3) := dk_182 1 51 (dk_at dksX1_coalitions_2 15 rfl rfl)
theorem dX1_coalitions_65 : decode cX1_coalitions 65 = .ok (.bastore, 1) := dk_84 (dk_at dksX1_coalitions_2 18 rfl rfl)
theorem dX1_coalitions_66 : decode cX1_coalitions 66 = .ok (.iinc 3 1, 3) := dk_132 3 1 (dk_at dksX1_coalitions_2 19 rfl rfl)
theorem dX1_coalitions_69 : decode cX1_coalitions 69 = .ok (.goto (-34), 3) := dk_167 255 222 (dk_at dksX1_coalitions_3 0 rfl rfl)
theorem dX1_coalitions_72 : decode cX1_coalitions 72 = .ok (.iconst 0, 1) := dk_3 (dk_at dksX1_coalitions_3 3 rfl rfl)
theorem dX1_coalitions_73 : decode cX1_coalitions 73 = .ok (.istore_n 3, 1) := dk_62 (dk_at dksX1_coalitions_3 4 rfl rfl)
theorem dX1_coalitions_74 : decode cX1_coalitions 74 = .ok (.iconst 0, 1) := dk_3 (dk_at dksX1_coalitions_3 5 rfl rfl)
theorem dX1_coalitions_75 : decode cX1_coalitions 75 = .ok (.istore 4, 2) := dk_54 4 (dk_at dksX1_coalitions_3 6 rfl rfl)
theorem dX1_coalitions_77 : decode cX1_coalitions 77 = .ok (.iload 4, 2) := dk_21 4 (dk_at dksX1_coalitions_3 8 rfl rfl)
theorem dX1_coalitions_79 : decode cX1_coalitions 79 = .ok (.iconst 1, 1) := dk_4 (dk_at dksX1_coalitions_3 10 rfl rfl)
theorem dX1_coalitions_80 : decode cX1_coalitions 80 = .ok (.iload_n 2, 1) := dk_28 (dk_at dksX1_coalitions_3 11 rfl rfl)
theorem dX1_coalitions_81 : decode cX1_coalitions 81 = .ok (.ishl, 1) := dk_120 (dk_at dksX1_coalitions_3 12 rfl rfl)
theorem dX1_coalitions_82 : decode cX1_coalitions 82 = .ok (.if_icmp .ge 47, 3) := dk_162 0 47 (dk_at dksX1_coalitions_3 13 rfl rfl)
theorem dX1_coalitions_85 : decode cX1_coalitions 85 = .ok (.aload_n 0, 1) := dk_42 (dk_at dksX1_coalitions_3 16 rfl rfl)
theorem dX1_coalitions_86 : decode cX1_coalitions 86 = .ok (.getfield 52, 3) := dk_180 0 52 (dk_at dksX1_coalitions_3 17 rfl rfl)
theorem dX1_coalitions_89 : decode cX1_coalitions 89 = .ok (.iload 4, 2) := dk_21 4 (dk_at dksX1_coalitions_3 20 rfl rfl)
theorem dX1_coalitions_91 : decode cX1_coalitions 91 = .ok (.baload, 1) := dk_51 (dk_at dksX1_coalitions_3 22 rfl rfl)
theorem dX1_coalitions_92 : decode cX1_coalitions 92 = .ok (.ifCond .eq 31, 3) := dk_153 0 31 (dk_at dksX1_coalitions_4 0 rfl rfl)
theorem dX1_coalitions_95 : decode cX1_coalitions 95 = .ok (.iload 4, 2) := dk_21 4 (dk_at dksX1_coalitions_4 3 rfl rfl)
theorem dX1_coalitions_97 : decode cX1_coalitions 97 = .ok (.ifCond .le 15, 3) := dk_158 0 15 (dk_at dksX1_coalitions_4 5 rfl rfl)
theorem dX1_coalitions_100 : decode cX1_coalitions 100 = .ok (.aload_n 0, 1) := dk_42 (dk_at dksX1_coalitions_4 8 rfl rfl)
theorem dX1_coalitions_101 : decode cX1_coalitions 101 = .ok (.iload 4, 2) := dk_21 4 (dk_at dksX1_coalitions_4 9 rfl rfl)
theorem dX1_coalitions_103 : decode cX1_coalitions 103 = .ok (.invokevirtual 311, 3) := dk_182 1 55 (dk_at dksX1_coalitions_4 11 rfl rfl)
theorem dX1_coalitions_106 : decode cX1_coalitions 106 = .ok (.ifCond .ne 6, 3) := dk_154 0 6 (dk_at dksX1_coalitions_4 14 rfl rfl)
theorem dX1_coalitions_109 : decode cX1_coalitions 109 = .ok (.goto 14, 3) := dk_167 0 14 (dk_at dksX1_coalitions_4 17 rfl rfl)
theorem dX1_coalitions_112 : decode cX1_coalitions 112 = .ok (.iload_n 3, 1) := dk_29 (dk_at dksX1_coalitions_4 20 rfl rfl)
theorem dX1_coalitions_113 : decode cX1_coalitions 113 = .ok (.iload_n 1, 1) := dk_27 (dk_at dksX1_coalitions_4 21 rfl rfl)
theorem dX1_coalitions_114 : decode cX1_coalitions 114 = .ok (.if_icmp .ne 6, 3) := dk_160 0 6 (dk_at dksX1_coalitions_5 0 rfl rfl)
theorem dX1_coalitions_117 : decode cX1_coalitions 117 = .ok (.iload 4, 2) := dk_21 4 (dk_at dksX1_coalitions_5 3 rfl rfl)
theorem dX1_coalitions_119 : decode cX1_coalitions 119 = .ok (.ireturn, 1) := dk_172 (dk_at dksX1_coalitions_5 5 rfl rfl)
theorem dX1_coalitions_120 : decode cX1_coalitions 120 = .ok (.iinc 3 1, 3) := dk_132 3 1 (dk_at dksX1_coalitions_5 6 rfl rfl)
theorem dX1_coalitions_123 : decode cX1_coalitions 123 = .ok (.iinc 4 1, 3) := dk_132 4 1 (dk_at dksX1_coalitions_5 9 rfl rfl)
theorem dX1_coalitions_126 : decode cX1_coalitions 126 = .ok (.goto (-49), 3) := dk_167 255 207 (dk_at dksX1_coalitions_5 12 rfl rfl)
theorem dX1_coalitions_129 : decode cX1_coalitions 129 = .ok (.iload_n 1, 1) := dk_27 (dk_at dksX1_coalitions_5 15 rfl rfl)
theorem dX1_coalitions_130 : decode cX1_coalitions 130 = .ok (.iconst (-1), 1) := dk_2 (dk_at dksX1_coalitions_5 16 rfl rfl)
theorem dX1_coalitions_131 : decode cX1_coalitions 131 = .ok (.if_icmp .ne 7, 3) := dk_160 0 7 (dk_at dksX1_coalitions_5 17 rfl rfl)
theorem dX1_coalitions_134 : decode cX1_coalitions 134 = .ok (.iload_n 3, 1) := dk_29 (dk_at dksX1_coalitions_5 20 rfl rfl)
theorem dX1_coalitions_135 : decode cX1_coalitions 135 = .ok (.goto 4, 3) := dk_167 0 4 (dk_at dksX1_coalitions_5 21 rfl rfl)
theorem dX1_coalitions_138 : decode cX1_coalitions 138 = .ok (.iconst (-1), 1) := dk_2 (dk_at dksX1_coalitions_6 0 rfl rfl)
theorem dX1_coalitions_139 : decode cX1_coalitions 139 = .ok (.ireturn, 1) := dk_172 (dk_at dksX1_coalitions_6 1 rfl rfl)
def dkwX1_isBare_1 : List UInt8 := [154, 0, 5, 4, 172, 28, 4, 100, 27, 126, 61, 167, 255, 228]
abbrev dktX1_isBare_1 : List UInt8 := dkwX1_isBare_1 ++ []
def dkwX1_isBare_0 : List UInt8 := [27, 4, 100, 27, 126, 61, 28, 27, 159, 0, 14, 42, 180, 0, 52, 28, 51, 153, 0, 5, 3, 172, 28]
abbrev dktX1_isBare_0 : List UInt8 := dkwX1_isBare_0 ++ dktX1_isBare_1
theorem dksX1_isBare_0 : cX1_isBare.data.toList.drop 0 = dktX1_isBare_0 := by decide +kernel
theorem dksX1_isBare_1 : cX1_isBare.data.toList.drop 23 = dktX1_isBare_1 := dk_seg dksX1_isBare_0 23 rfl rfl
theorem dX1_isBare_0 : decode cX1_isBare 0 = .ok (.iload_n 1, 1) := dk_27 (dk_at dksX1_isBare_0 0 rfl rfl)
theorem dX1_isBare_1 : decode cX1_isBare 1 = .ok (.iconst 1, 1) := dk_4 (dk_at dksX1_isBare_0 1 rfl rfl)
theorem dX1_isBare_2 : decode cX1_isBare 2 = .ok (.isub, 1) := dk_100 (dk_at dksX1_isBare_0 2 rfl rfl)
theorem dX1_isBare_3 : decode cX1_isBare 3 = .ok (.iload_n 1, 1) := dk_27 (dk_at dksX1_isBare_0 3 rfl rfl)
theorem dX1_isBare_4 : decode cX1_isBare 4 = .ok (.iand, 1) := dk_126 (dk_at dksX1_isBare_0 4 rfl rfl)
theorem dX1_isBare_5 : decode cX1_isBare 5 = .ok (.istore_n 2, 1) := dk_61 (dk_at dksX1_isBare_0 5 rfl rfl)
theorem dX1_isBare_6 : decode cX1_isBare 6 = .ok (.iload_n 2, 1) := dk_28 (dk_at dksX1_isBare_0 6 rfl rfl)
theorem dX1_isBare_7 : decode cX1_isBare 7 = .ok (.iload_n 1, 1) := dk_27 (dk_at dksX1_isBare_0 7 rfl rfl)
theorem dX1_isBare_8 : decode cX1_isBare 8 = .ok (.if_icmp .eq 14, 3) := dk_159 0 14 (dk_at dksX1_isBare_0 8 rfl rfl)
theorem dX1_isBare_11 : decode cX1_isBare 11 = .ok (.aload_n 0, 1) := dk_42 (dk_at dksX1_isBare_0 11 rfl rfl)
theorem dX1_isBare_12 : decode cX1_isBare 12 = .ok (.getfield 52, 3) := dk_180 0 52 (dk_at dksX1_isBare_0 12 rfl rfl)
theorem dX1_isBare_15 : decode cX1_isBare 15 = .ok (.iload_n 2, 1) := dk_28 (dk_at dksX1_isBare_0 15 rfl rfl)
theorem dX1_isBare_16 : decode cX1_isBare 16 = .ok (.baload, 1) := dk_51 (dk_at dksX1_isBare_0 16 rfl rfl)
theorem dX1_isBare_17 : decode cX1_isBare 17 = .ok (.ifCond .eq 5, 3) := dk_153 0 5 (dk_at dksX1_isBare_0 17 rfl rfl)
theorem dX1_isBare_20 : decode cX1_isBare 20 = .ok (.iconst 0, 1) := dk_3 (dk_at dksX1_isBare_0 20 rfl rfl)
theorem dX1_isBare_21 : decode cX1_isBare 21 = .ok (.ireturn, 1) := dk_172 (dk_at dksX1_isBare_0 21 rfl rfl)
theorem dX1_isBare_22 : decode cX1_isBare 22 = .ok (.iload_n 2, 1) := dk_28 (dk_at dksX1_isBare_0 22 rfl rfl)
theorem dX1_isBare_23 : decode cX1_isBare 23 = .ok (.ifCond .ne 5, 3) := dk_154 0 5 (dk_at dksX1_isBare_1 0 rfl rfl)
theorem dX1_isBare_26 : decode cX1_isBare 26 = .ok (.iconst 1, 1) := dk_4 (dk_at dksX1_isBare_1 3 rfl rfl)
theorem dX1_isBare_27 : decode cX1_isBare 27 = .ok (.ireturn, 1) := dk_172 (dk_at dksX1_isBare_1 4 rfl rfl)
theorem dX1_isBare_28 : decode cX1_isBare 28 = .ok (.iload_n 2, 1) := dk_28 (dk_at dksX1_isBare_1 5 rfl rfl)
theorem dX1_isBare_29 : decode cX1_isBare 29 = .ok (.iconst 1, 1) := dk_4 (dk_at dksX1_isBare_1 6 rfl rfl)
theorem dX1_isBare_30 : decode cX1_isBare 30 = .ok (.isub, 1) := dk_100 (dk_at dksX1_isBare_1 7 rfl rfl)
theorem dX1_isBare_31 : decode cX1_isBare 31 = .ok (.iload_n 1, 1) := dk_27 (dk_at dksX1_isBare_1 8 rfl rfl)
theorem dX1_isBare_32 : decode cX1_isBare 32 = .ok (.iand, 1) := dk_126 (dk_at dksX1_isBare_1 9 rfl rfl)
theorem dX1_isBare_33 : decode cX1_isBare 33 = .ok (.istore_n 2, 1) := dk_61 (dk_at dksX1_isBare_1 10 rfl rfl)
theorem dX1_isBare_34 : decode cX1_isBare 34 = .ok (.goto (-28), 3) := dk_167 255 228 (dk_at dksX1_isBare_1 11 rfl rfl)
def dkwX1_worth_7 : List UInt8 := [80, 132, 3, 1, 167, 255, 186, 132, 2, 1, 167, 255, 166, 42, 180, 0, 56, 4, 27, 120, 4, 100, 46, 172]
abbrev dktX1_worth_7 : List UInt8 := dkwX1_worth_7 ++ []
def dkwX1_worth_6 : List UInt8 := [184, 1, 61, 105, 42, 180, 0, 56, 29, 4, 28, 120, 128, 46, 42, 180, 0, 56, 29, 46, 100, 133, 105, 97]
abbrev dktX1_worth_6 : List UInt8 := dkwX1_worth_6 ++ dktX1_worth_7
def dkwX1_worth_5 : List UInt8 := [184, 1, 43, 54, 4, 42, 180, 0, 59, 28, 92, 47, 21, 4, 184, 1, 61, 27, 21, 4, 100, 4, 100]
abbrev dktX1_worth_5 : List UInt8 := dkwX1_worth_5 ++ dktX1_worth_6
def dkwX1_worth_4 : List UInt8 := [9, 80, 3, 62, 29, 4, 27, 120, 162, 0, 69, 29, 28, 184, 1, 34, 153, 0, 6, 167, 0, 52, 29]
abbrev dktX1_worth_4 : List UInt8 := dkwX1_worth_4 ++ dktX1_worth_5
def dkwX1_worth_3 : List UInt8 := [27, 181, 1, 58, 42, 27, 184, 1, 61, 181, 0, 62, 3, 61, 28, 27, 162, 0, 91, 42, 180, 0, 59, 28]
abbrev dktX1_worth_3 : List UInt8 := dkwX1_worth_3 ++ dktX1_worth_4
def dkwX1_worth_2 : List UInt8 := [42, 180, 0, 19, 42, 28, 182, 1, 47, 42, 180, 0, 117, 182, 1, 24, 79, 132, 2, 1, 167, 255, 223, 42]
abbrev dktX1_worth_2 : List UInt8 := dkwX1_worth_2 ++ dktX1_worth_3
def dkwX1_worth_1 : List UInt8 := [182, 1, 36, 2, 160, 0, 5, 2, 172, 3, 61, 28, 4, 27, 120, 162, 0, 32, 42, 180, 0, 56, 28, 42]
abbrev dktX1_worth_1 : List UInt8 := dkwX1_worth_1 ++ dktX1_worth_2
def dkwX1_worth_0 : List UInt8 := [42, 182, 0, 98, 60, 27, 4, 16, 8, 184, 0, 135, 153, 0, 18, 42, 3, 27, 42, 180, 0, 44, 9]
abbrev dktX1_worth_0 : List UInt8 := dkwX1_worth_0 ++ dktX1_worth_1
theorem dksX1_worth_0 : cX1_worth.data.toList.drop 0 = dktX1_worth_0 := by decide +kernel
theorem dksX1_worth_1 : cX1_worth.data.toList.drop 23 = dktX1_worth_1 := dk_seg dksX1_worth_0 23 rfl rfl
theorem dksX1_worth_2 : cX1_worth.data.toList.drop 47 = dktX1_worth_2 := dk_seg dksX1_worth_1 24 rfl rfl
theorem dksX1_worth_3 : cX1_worth.data.toList.drop 71 = dktX1_worth_3 := dk_seg dksX1_worth_2 24 rfl rfl
theorem dksX1_worth_4 : cX1_worth.data.toList.drop 95 = dktX1_worth_4 := dk_seg dksX1_worth_3 24 rfl rfl
theorem dksX1_worth_5 : cX1_worth.data.toList.drop 118 = dktX1_worth_5 := dk_seg dksX1_worth_4 23 rfl rfl
theorem dksX1_worth_6 : cX1_worth.data.toList.drop 141 = dktX1_worth_6 := dk_seg dksX1_worth_5 23 rfl rfl
theorem dksX1_worth_7 : cX1_worth.data.toList.drop 165 = dktX1_worth_7 := dk_seg dksX1_worth_6 24 rfl rfl
theorem dX1_worth_0 : decode cX1_worth 0 = .ok (.aload_n 0, 1) := dk_42 (dk_at dksX1_worth_0 0 rfl rfl)
theorem dX1_worth_1 : decode cX1_worth 1 = .ok (.invokevirtual 98, 3) := dk_182 0 98 (dk_at dksX1_worth_0 1 rfl rfl)
theorem dX1_worth_4 : decode cX1_worth 4 = .ok (.istore_n 1, 1) := dk_60 (dk_at dksX1_worth_0 4 rfl rfl)
theorem dX1_worth_5 : decode cX1_worth 5 = .ok (.iload_n 1, 1) := dk_27 (dk_at dksX1_worth_0 5 rfl rfl)
theorem dX1_worth_6 : decode cX1_worth 6 = .ok (.iconst 1, 1) := dk_4 (dk_at dksX1_worth_0 6 rfl rfl)
theorem dX1_worth_7 : decode cX1_worth 7 = .ok (.bipush 8, 2) := dk_16 8 (dk_at dksX1_worth_0 7 rfl rfl)
theorem dX1_worth_9 : decode cX1_worth 9 = .ok (.invokestatic 135, 3) := dk_184 0 135 (dk_at dksX1_worth_0 9 rfl rfl)
theorem dX1_worth_12 : decode cX1_worth 12 = .ok (.ifCond .eq 18, 3) := dk_153 0 18 (dk_at dksX1_worth_0 12 rfl rfl)
theorem dX1_worth_15 : decode cX1_worth 15 = .ok (.aload_n 0, 1) := dk_42 (dk_at dksX1_worth_0 15 rfl rfl)
theorem dX1_worth_16 : decode cX1_worth 16 = .ok (.iconst 0, 1) := dk_3 (dk_at dksX1_worth_0 16 rfl rfl)
theorem dX1_worth_17 : decode cX1_worth 17 = .ok (.iload_n 1, 1) := dk_27 (dk_at dksX1_worth_0 17 rfl rfl)
theorem dX1_worth_18 : decode cX1_worth 18 = .ok (.aload_n 0, 1) := dk_42 (dk_at dksX1_worth_0 18 rfl rfl)
theorem dX1_worth_19 : decode cX1_worth 19 = .ok (.getfield 44, 3) := dk_180 0 44 (dk_at dksX1_worth_0 19 rfl rfl)
theorem dX1_worth_22 : decode cX1_worth 22 = .ok (.lconst 0, 1) := dk_9 (dk_at dksX1_worth_0 22 rfl rfl)
theorem dX1_worth_23 : decode cX1_worth 23 = .ok (.invokevirtual 292, 3) := dk_182 1 36 (dk_at dksX1_worth_1 0 rfl rfl)
theorem dX1_worth_26 : decode cX1_worth 26 = .ok (.iconst (-1), 1) := dk_2 (dk_at dksX1_worth_1 3 rfl rfl)
theorem dX1_worth_27 : decode cX1_worth 27 = .ok (.if_icmp .ne 5, 3) := dk_160 0 5 (dk_at dksX1_worth_1 4 rfl rfl)
theorem dX1_worth_30 : decode cX1_worth 30 = .ok (.iconst (-1), 1) := dk_2 (dk_at dksX1_worth_1 7 rfl rfl)
theorem dX1_worth_31 : decode cX1_worth 31 = .ok (.ireturn, 1) := dk_172 (dk_at dksX1_worth_1 8 rfl rfl)
theorem dX1_worth_32 : decode cX1_worth 32 = .ok (.iconst 0, 1) := dk_3 (dk_at dksX1_worth_1 9 rfl rfl)
theorem dX1_worth_33 : decode cX1_worth 33 = .ok (.istore_n 2, 1) := dk_61 (dk_at dksX1_worth_1 10 rfl rfl)
theorem dX1_worth_34 : decode cX1_worth 34 = .ok (.iload_n 2, 1) := dk_28 (dk_at dksX1_worth_1 11 rfl rfl)
theorem dX1_worth_35 : decode cX1_worth 35 = .ok (.iconst 1, 1) := dk_4 (dk_at dksX1_worth_1 12 rfl rfl)
theorem dX1_worth_36 : decode cX1_worth 36 = .ok (.iload_n 1, 1) := dk_27 (dk_at dksX1_worth_1 13 rfl rfl)
theorem dX1_worth_37 : decode cX1_worth 37 = .ok (.ishl, 1) := dk_120 (dk_at dksX1_worth_1 14 rfl rfl)
theorem dX1_worth_38 : decode cX1_worth 38 = .ok (.if_icmp .ge 32, 3) := dk_162 0 32 (dk_at dksX1_worth_1 15 rfl rfl)
theorem dX1_worth_41 : decode cX1_worth 41 = .ok (.aload_n 0, 1) := dk_42 (dk_at dksX1_worth_1 18 rfl rfl)
theorem dX1_worth_42 : decode cX1_worth 42 = .ok (.getfield 56, 3) := dk_180 0 56 (dk_at dksX1_worth_1 19 rfl rfl)
theorem dX1_worth_45 : decode cX1_worth 45 = .ok (.iload_n 2, 1) := dk_28 (dk_at dksX1_worth_1 22 rfl rfl)
theorem dX1_worth_46 : decode cX1_worth 46 = .ok (.aload_n 0, 1) := dk_42 (dk_at dksX1_worth_1 23 rfl rfl)
theorem dX1_worth_47 : decode cX1_worth 47 = .ok (.aload_n 0, 1) := dk_42 (dk_at dksX1_worth_2 0 rfl rfl)
theorem dX1_worth_48 : decode cX1_worth 48 = .ok (.getfield 19, 3) := dk_180 0 19 (dk_at dksX1_worth_2 1 rfl rfl)
theorem dX1_worth_51 : decode cX1_worth 51 = .ok (.aload_n 0, 1) := dk_42 (dk_at dksX1_worth_2 4 rfl rfl)
theorem dX1_worth_52 : decode cX1_worth 52 = .ok (.iload_n 2, 1) := dk_28 (dk_at dksX1_worth_2 5 rfl rfl)
theorem dX1_worth_53 : decode cX1_worth 53 = .ok (.invokevirtual 303, 3) := dk_182 1 47 (dk_at dksX1_worth_2 6 rfl rfl)
theorem dX1_worth_56 : decode cX1_worth 56 = .ok (.aload_n 0, 1) := dk_42 (dk_at dksX1_worth_2 9 rfl rfl)
theorem dX1_worth_57 : decode cX1_worth 57 = .ok (.getfield 117, 3) := dk_180 0 117 (dk_at dksX1_worth_2 10 rfl rfl)
theorem dX1_worth_60 : decode cX1_worth 60 = .ok (.invokevirtual 280, 3) := dk_182 1 24 (dk_at dksX1_worth_2 13 rfl rfl)
theorem dX1_worth_63 : decode cX1_worth 63 = .ok (.iastore, 1) := dk_79 (dk_at dksX1_worth_2 16 rfl rfl)
theorem dX1_worth_64 : decode cX1_worth 64 = .ok (.iinc 2 1, 3) := dk_132 2 1 (dk_at dksX1_worth_2 17 rfl rfl)
theorem dX1_worth_67 : decode cX1_worth 67 = .ok (.goto (-33), 3) := dk_167 255 223 (dk_at dksX1_worth_2 20 rfl rfl)
theorem dX1_worth_70 : decode cX1_worth 70 = .ok (.aload_n 0, 1) := dk_42 (dk_at dksX1_worth_2 23 rfl rfl)
theorem dX1_worth_71 : decode cX1_worth 71 = .ok (.iload_n 1, 1) := dk_27 (dk_at dksX1_worth_3 0 rfl rfl)
theorem dX1_worth_72 : decode cX1_worth 72 = .ok (.putfield 314, 3) := dk_181 1 58 (dk_at dksX1_worth_3 1 rfl rfl)
theorem dX1_worth_75 : decode cX1_worth 75 = .ok (.aload_n 0, 1) := dk_42 (dk_at dksX1_worth_3 4 rfl rfl)
theorem dX1_worth_76 : decode cX1_worth 76 = .ok (.iload_n 1, 1) := dk_27 (dk_at dksX1_worth_3 5 rfl rfl)
theorem dX1_worth_77 : decode cX1_worth 77 = .ok (.invokestatic 317, 3) := dk_184 1 61 (dk_at dksX1_worth_3 6 rfl rfl)
theorem dX1_worth_80 : decode cX1_worth 80 = .ok (.putfield 62, 3) := dk_181 0 62 (dk_at dksX1_worth_3 9 rfl rfl)
theorem dX1_worth_83 : decode cX1_worth 83 = .ok (.iconst 0, 1) := dk_3 (dk_at dksX1_worth_3 12 rfl rfl)
theorem dX1_worth_84 : decode cX1_worth 84 = .ok (.istore_n 2, 1) := dk_61 (dk_at dksX1_worth_3 13 rfl rfl)
theorem dX1_worth_85 : decode cX1_worth 85 = .ok (.iload_n 2, 1) := dk_28 (dk_at dksX1_worth_3 14 rfl rfl)
theorem dX1_worth_86 : decode cX1_worth 86 = .ok (.iload_n 1, 1) := dk_27 (dk_at dksX1_worth_3 15 rfl rfl)
theorem dX1_worth_87 : decode cX1_worth 87 = .ok (.if_icmp .ge 91, 3) := dk_162 0 91 (dk_at dksX1_worth_3 16 rfl rfl)
theorem dX1_worth_90 : decode cX1_worth 90 = .ok (.aload_n 0, 1) := dk_42 (dk_at dksX1_worth_3 19 rfl rfl)
theorem dX1_worth_91 : decode cX1_worth 91 = .ok (.getfield 59, 3) := dk_180 0 59 (dk_at dksX1_worth_3 20 rfl rfl)
theorem dX1_worth_94 : decode cX1_worth 94 = .ok (.iload_n 2, 1) := dk_28 (dk_at dksX1_worth_3 23 rfl rfl)
theorem dX1_worth_95 : decode cX1_worth 95 = .ok (.lconst 0, 1) := dk_9 (dk_at dksX1_worth_4 0 rfl rfl)
theorem dX1_worth_96 : decode cX1_worth 96 = .ok (.lastore, 1) := dk_80 (dk_at dksX1_worth_4 1 rfl rfl)
theorem dX1_worth_97 : decode cX1_worth 97 = .ok (.iconst 0, 1) := dk_3 (dk_at dksX1_worth_4 2 rfl rfl)
theorem dX1_worth_98 : decode cX1_worth 98 = .ok (.istore_n 3, 1) := dk_62 (dk_at dksX1_worth_4 3 rfl rfl)
theorem dX1_worth_99 : decode cX1_worth 99 = .ok (.iload_n 3, 1) := dk_29 (dk_at dksX1_worth_4 4 rfl rfl)
theorem dX1_worth_100 : decode cX1_worth 100 = .ok (.iconst 1, 1) := dk_4 (dk_at dksX1_worth_4 5 rfl rfl)
theorem dX1_worth_101 : decode cX1_worth 101 = .ok (.iload_n 1, 1) := dk_27 (dk_at dksX1_worth_4 6 rfl rfl)
theorem dX1_worth_102 : decode cX1_worth 102 = .ok (.ishl, 1) := dk_120 (dk_at dksX1_worth_4 7 rfl rfl)
theorem dX1_worth_103 : decode cX1_worth 103 = .ok (.if_icmp .ge 69, 3) := dk_162 0 69 (dk_at dksX1_worth_4 8 rfl rfl)
theorem dX1_worth_106 : decode cX1_worth 106 = .ok (.iload_n 3, 1) := dk_29 (dk_at dksX1_worth_4 11 rfl rfl)
theorem dX1_worth_107 : decode cX1_worth 107 = .ok (.iload_n 2, 1) := dk_28 (dk_at dksX1_worth_4 12 rfl rfl)
theorem dX1_worth_108 : decode cX1_worth 108 = .ok (.invokestatic 290, 3) := dk_184 1 34 (dk_at dksX1_worth_4 13 rfl rfl)
theorem dX1_worth_111 : decode cX1_worth 111 = .ok (.ifCond .eq 6, 3) := dk_153 0 6 (dk_at dksX1_worth_4 16 rfl rfl)
theorem dX1_worth_114 : decode cX1_worth 114 = .ok (.goto 52, 3) := dk_167 0 52 (dk_at dksX1_worth_4 19 rfl rfl)
theorem dX1_worth_117 : decode cX1_worth 117 = .ok (.iload_n 3, 1) := dk_29 (dk_at dksX1_worth_4 22 rfl rfl)
theorem dX1_worth_118 : decode cX1_worth 118 = .ok (.invokestatic 299, 3) := dk_184 1 43 (dk_at dksX1_worth_5 0 rfl rfl)
theorem dX1_worth_121 : decode cX1_worth 121 = .ok (.istore 4, 2) := dk_54 4 (dk_at dksX1_worth_5 3 rfl rfl)
theorem dX1_worth_123 : decode cX1_worth 123 = .ok (.aload_n 0, 1) := dk_42 (dk_at dksX1_worth_5 5 rfl rfl)
theorem dX1_worth_124 : decode cX1_worth 124 = .ok (.getfield 59, 3) := dk_180 0 59 (dk_at dksX1_worth_5 6 rfl rfl)
theorem dX1_worth_127 : decode cX1_worth 127 = .ok (.iload_n 2, 1) := dk_28 (dk_at dksX1_worth_5 9 rfl rfl)
theorem dX1_worth_128 : decode cX1_worth 128 = .ok (.dup2, 1) := dk_92 (dk_at dksX1_worth_5 10 rfl rfl)
theorem dX1_worth_129 : decode cX1_worth 129 = .ok (.laload, 1) := dk_47 (dk_at dksX1_worth_5 11 rfl rfl)
theorem dX1_worth_130 : decode cX1_worth 130 = .ok (.iload 4, 2) := dk_21 4 (dk_at dksX1_worth_5 12 rfl rfl)
theorem dX1_worth_132 : decode cX1_worth 132 = .ok (.invokestatic 317, 3) := dk_184 1 61 (dk_at dksX1_worth_5 14 rfl rfl)
theorem dX1_worth_135 : decode cX1_worth 135 = .ok (.iload_n 1, 1) := dk_27 (dk_at dksX1_worth_5 17 rfl rfl)
theorem dX1_worth_136 : decode cX1_worth 136 = .ok (.iload 4, 2) := dk_21 4 (dk_at dksX1_worth_5 18 rfl rfl)
theorem dX1_worth_138 : decode cX1_worth 138 = .ok (.isub, 1) := dk_100 (dk_at dksX1_worth_5 20 rfl rfl)
theorem dX1_worth_139 : decode cX1_worth 139 = .ok (.iconst 1, 1) := dk_4 (dk_at dksX1_worth_5 21 rfl rfl)
theorem dX1_worth_140 : decode cX1_worth 140 = .ok (.isub, 1) := dk_100 (dk_at dksX1_worth_5 22 rfl rfl)
theorem dX1_worth_141 : decode cX1_worth 141 = .ok (.invokestatic 317, 3) := dk_184 1 61 (dk_at dksX1_worth_6 0 rfl rfl)
theorem dX1_worth_144 : decode cX1_worth 144 = .ok (.lmul, 1) := dk_105 (dk_at dksX1_worth_6 3 rfl rfl)
theorem dX1_worth_145 : decode cX1_worth 145 = .ok (.aload_n 0, 1) := dk_42 (dk_at dksX1_worth_6 4 rfl rfl)
theorem dX1_worth_146 : decode cX1_worth 146 = .ok (.getfield 56, 3) := dk_180 0 56 (dk_at dksX1_worth_6 5 rfl rfl)
theorem dX1_worth_149 : decode cX1_worth 149 = .ok (.iload_n 3, 1) := dk_29 (dk_at dksX1_worth_6 8 rfl rfl)
theorem dX1_worth_150 : decode cX1_worth 150 = .ok (.iconst 1, 1) := dk_4 (dk_at dksX1_worth_6 9 rfl rfl)
theorem dX1_worth_151 : decode cX1_worth 151 = .ok (.iload_n 2, 1) := dk_28 (dk_at dksX1_worth_6 10 rfl rfl)
theorem dX1_worth_152 : decode cX1_worth 152 = .ok (.ishl, 1) := dk_120 (dk_at dksX1_worth_6 11 rfl rfl)
theorem dX1_worth_153 : decode cX1_worth 153 = .ok (.ior, 1) := dk_128 (dk_at dksX1_worth_6 12 rfl rfl)
theorem dX1_worth_154 : decode cX1_worth 154 = .ok (.iaload, 1) := dk_46 (dk_at dksX1_worth_6 13 rfl rfl)
theorem dX1_worth_155 : decode cX1_worth 155 = .ok (.aload_n 0, 1) := dk_42 (dk_at dksX1_worth_6 14 rfl rfl)
theorem dX1_worth_156 : decode cX1_worth 156 = .ok (.getfield 56, 3) := dk_180 0 56 (dk_at dksX1_worth_6 15 rfl rfl)
theorem dX1_worth_159 : decode cX1_worth 159 = .ok (.iload_n 3, 1) := dk_29 (dk_at dksX1_worth_6 18 rfl rfl)
theorem dX1_worth_160 : decode cX1_worth 160 = .ok (.iaload, 1) := dk_46 (dk_at dksX1_worth_6 19 rfl rfl)
theorem dX1_worth_161 : decode cX1_worth 161 = .ok (.isub, 1) := dk_100 (dk_at dksX1_worth_6 20 rfl rfl)
theorem dX1_worth_162 : decode cX1_worth 162 = .ok (.i2l, 1) := dk_133 (dk_at dksX1_worth_6 21 rfl rfl)
theorem dX1_worth_163 : decode cX1_worth 163 = .ok (.lmul, 1) := dk_105 (dk_at dksX1_worth_6 22 rfl rfl)
theorem dX1_worth_164 : decode cX1_worth 164 = .ok (.ladd, 1) := dk_97 (dk_at dksX1_worth_6 23 rfl rfl)
theorem dX1_worth_165 : decode cX1_worth 165 = .ok (.lastore, 1) := dk_80 (dk_at dksX1_worth_7 0 rfl rfl)
theorem dX1_worth_166 : decode cX1_worth 166 = .ok (.iinc 3 1, 3) := dk_132 3 1 (dk_at dksX1_worth_7 1 rfl rfl)
theorem dX1_worth_169 : decode cX1_worth 169 = .ok (.goto (-70), 3) := dk_167 255 186 (dk_at dksX1_worth_7 4 rfl rfl)
theorem dX1_worth_172 : decode cX1_worth 172 = .ok (.iinc 2 1, 3) := dk_132 2 1 (dk_at dksX1_worth_7 7 rfl rfl)
theorem dX1_worth_175 : decode cX1_worth 175 = .ok (.goto (-90), 3) := dk_167 255 166 (dk_at dksX1_worth_7 10 rfl rfl)
theorem dX1_worth_178 : decode cX1_worth 178 = .ok (.aload_n 0, 1) := dk_42 (dk_at dksX1_worth_7 13 rfl rfl)
theorem dX1_worth_179 : decode cX1_worth 179 = .ok (.getfield 56, 3) := dk_180 0 56 (dk_at dksX1_worth_7 14 rfl rfl)
theorem dX1_worth_182 : decode cX1_worth 182 = .ok (.iconst 1, 1) := dk_4 (dk_at dksX1_worth_7 17 rfl rfl)
theorem dX1_worth_183 : decode cX1_worth 183 = .ok (.iload_n 1, 1) := dk_27 (dk_at dksX1_worth_7 18 rfl rfl)
theorem dX1_worth_184 : decode cX1_worth 184 = .ok (.ishl, 1) := dk_120 (dk_at dksX1_worth_7 19 rfl rfl)
theorem dX1_worth_185 : decode cX1_worth 185 = .ok (.iconst 1, 1) := dk_4 (dk_at dksX1_worth_7 20 rfl rfl)
theorem dX1_worth_186 : decode cX1_worth 186 = .ok (.isub, 1) := dk_100 (dk_at dksX1_worth_7 21 rfl rfl)
theorem dX1_worth_187 : decode cX1_worth 187 = .ok (.iaload, 1) := dk_46 (dk_at dksX1_worth_7 22 rfl rfl)
theorem dX1_worth_188 : decode cX1_worth 188 = .ok (.ireturn, 1) := dk_172 (dk_at dksX1_worth_7 23 rfl rfl)
def dkwX1_factorial_0 : List UInt8 := [10, 64, 5, 62, 29, 26, 163, 0, 14, 31, 29, 133, 105, 64, 132, 3, 1, 167, 255, 243, 31, 173]
abbrev dktX1_factorial_0 : List UInt8 := dkwX1_factorial_0 ++ []
theorem dksX1_factorial_0 : cX1_factorial.data.toList.drop 0 = dktX1_factorial_0 := by decide +kernel
theorem dX1_factorial_0 : decode cX1_factorial 0 = .ok (.lconst 1, 1) := dk_10 (dk_at dksX1_factorial_0 0 rfl rfl)
theorem dX1_factorial_1 : decode cX1_factorial 1 = .ok (.lstore_n 1, 1) := dk_64 (dk_at dksX1_factorial_0 1 rfl rfl)
theorem dX1_factorial_2 : decode cX1_factorial 2 = .ok (.iconst 2, 1) := dk_5 (dk_at dksX1_factorial_0 2 rfl rfl)
theorem dX1_factorial_3 : decode cX1_factorial 3 = .ok (.istore_n 3, 1) := dk_62 (dk_at dksX1_factorial_0 3 rfl rfl)
theorem dX1_factorial_4 : decode cX1_factorial 4 = .ok (.iload_n 3, 1) := dk_29 (dk_at dksX1_factorial_0 4 rfl rfl)
theorem dX1_factorial_5 : decode cX1_factorial 5 = .ok (.iload_n 0, 1) := dk_26 (dk_at dksX1_factorial_0 5 rfl rfl)
theorem dX1_factorial_6 : decode cX1_factorial 6 = .ok (.if_icmp .gt 14, 3) := dk_163 0 14 (dk_at dksX1_factorial_0 6 rfl rfl)
theorem dX1_factorial_9 : decode cX1_factorial 9 = .ok (.lload_n 1, 1) := dk_31 (dk_at dksX1_factorial_0 9 rfl rfl)
theorem dX1_factorial_10 : decode cX1_factorial 10 = .ok (.iload_n 3, 1) := dk_29 (dk_at dksX1_factorial_0 10 rfl rfl)
theorem dX1_factorial_11 : decode cX1_factorial 11 = .ok (.i2l, 1) := dk_133 (dk_at dksX1_factorial_0 11 rfl rfl)
theorem dX1_factorial_12 : decode cX1_factorial 12 = .ok (.lmul, 1) := dk_105 (dk_at dksX1_factorial_0 12 rfl rfl)
theorem dX1_factorial_13 : decode cX1_factorial 13 = .ok (.lstore_n 1, 1) := dk_64 (dk_at dksX1_factorial_0 13 rfl rfl)
theorem dX1_factorial_14 : decode cX1_factorial 14 = .ok (.iinc 3 1, 3) := dk_132 3 1 (dk_at dksX1_factorial_0 14 rfl rfl)
theorem dX1_factorial_17 : decode cX1_factorial 17 = .ok (.goto (-13), 3) := dk_167 255 243 (dk_at dksX1_factorial_0 17 rfl rfl)
theorem dX1_factorial_20 : decode cX1_factorial 20 = .ok (.lload_n 1, 1) := dk_31 (dk_at dksX1_factorial_0 20 rfl rfl)
theorem dX1_factorial_21 : decode cX1_factorial 21 = .ok (.lreturn, 1) := dk_173 (dk_at dksX1_factorial_0 21 rfl rfl)
def dkwX1_sides_13 : List UInt8 := [21, 5, 46, 79, 132, 5, 1, 167, 255, 151, 21, 4, 172]
abbrev dktX1_sides_13 : List UInt8 := dkwX1_sides_13 ++ []
def dkwX1_sides_12 : List UInt8 := [161, 0, 6, 167, 0, 24, 42, 180, 0, 69, 3, 21, 6, 79, 42, 180, 0, 69, 5, 42, 180, 0, 66]
abbrev dktX1_sides_12 : List UInt8 := dkwX1_sides_12 ++ dktX1_sides_13
def dkwX1_sides_11 : List UInt8 := [182, 1, 24, 184, 1, 2, 54, 6, 132, 7, 1, 167, 255, 204, 21, 6, 42, 180, 0, 69, 3, 46]
abbrev dktX1_sides_11 : List UInt8 := dkwX1_sides_11 ++ dktX1_sides_12
def dkwX1_sides_10 : List UInt8 := [42, 180, 0, 44, 21, 7, 46, 121, 129, 42, 180, 0, 117, 10, 42, 180, 0, 66, 21, 5, 46, 121, 129]
abbrev dktX1_sides_10 : List UInt8 := dkwX1_sides_10 ++ dktX1_sides_11
def dkwX1_sides_9 : List UInt8 := [2, 54, 6, 3, 54, 7, 21, 7, 28, 162, 0, 52, 21, 6, 42, 42, 180, 0, 19, 42, 180, 0, 114, 10]
abbrev dktX1_sides_9 : List UInt8 := dkwX1_sides_9 ++ dktX1_sides_10
def dkwX1_sides_8 : List UInt8 := [79, 132, 5, 1, 167, 255, 158, 42, 180, 0, 69, 3, 16, 65, 79, 3, 54, 5, 21, 5, 29, 162, 0, 105]
abbrev dktX1_sides_8 : List UInt8 := dkwX1_sides_8 ++ dktX1_sides_9
def dkwX1_sides_7 : List UInt8 := [21, 4, 163, 0, 6, 167, 0, 20, 21, 6, 54, 4, 42, 180, 0, 69, 4, 42, 180, 0, 44, 21, 5, 46]
abbrev dktX1_sides_7 : List UInt8 := dkwX1_sides_7 ++ dktX1_sides_8
def dkwX1_sides_6 : List UInt8 := [180, 0, 66, 21, 7, 46, 121, 129, 182, 1, 24, 184, 1, 68, 54, 6, 132, 7, 1, 167, 255, 204, 21, 6]
abbrev dktX1_sides_6 : List UInt8 := dkwX1_sides_6 ++ dktX1_sides_7
def dkwX1_sides_5 : List UInt8 := [180, 0, 19, 42, 180, 0, 114, 10, 42, 180, 0, 44, 21, 5, 46, 121, 129, 42, 180, 0, 117, 10, 42]
abbrev dktX1_sides_5 : List UInt8 := dkwX1_sides_5 ++ dktX1_sides_6
def dkwX1_sides_4 : List UInt8 := [21, 5, 28, 162, 0, 98, 16, 65, 54, 6, 3, 54, 7, 21, 7, 29, 162, 0, 52, 21, 6, 42, 42]
abbrev dktX1_sides_4 : List UInt8 := dkwX1_sides_4 ++ dktX1_sides_5
def dkwX1_sides_3 : List UInt8 := [4, 28, 120, 4, 100, 182, 1, 47, 182, 1, 36, 2, 160, 0, 5, 2, 172, 2, 54, 4, 3, 54, 5]
abbrev dktX1_sides_3 : List UInt8 := dkwX1_sides_3 ++ dktX1_sides_4
def dkwX1_sides_2 : List UInt8 := [42, 180, 0, 44, 9, 182, 1, 36, 2, 160, 0, 5, 2, 172, 42, 4, 28, 96, 29, 42, 180, 0, 66, 42]
abbrev dktX1_sides_2 : List UInt8 := dkwX1_sides_2 ++ dktX1_sides_3
def dkwX1_sides_1 : List UInt8 := [62, 28, 4, 16, 6, 184, 0, 135, 153, 0, 28, 29, 4, 16, 6, 184, 0, 135, 153, 0, 18, 42, 4, 28]
abbrev dktX1_sides_1 : List UInt8 := dkwX1_sides_1 ++ dktX1_sides_2
def dkwX1_sides_0 : List UInt8 := [42, 182, 0, 98, 60, 27, 154, 0, 7, 3, 167, 0, 8, 42, 3, 182, 1, 31, 61, 27, 4, 100, 28, 100]
abbrev dktX1_sides_0 : List UInt8 := dkwX1_sides_0 ++ dktX1_sides_1
theorem dksX1_sides_0 : cX1_sides.data.toList.drop 0 = dktX1_sides_0 := by decide +kernel
theorem dksX1_sides_1 : cX1_sides.data.toList.drop 24 = dktX1_sides_1 := dk_seg dksX1_sides_0 24 rfl rfl
theorem dksX1_sides_2 : cX1_sides.data.toList.drop 48 = dktX1_sides_2 := dk_seg dksX1_sides_1 24 rfl rfl
theorem dksX1_sides_3 : cX1_sides.data.toList.drop 72 = dktX1_sides_3 := dk_seg dksX1_sides_2 24 rfl rfl
theorem dksX1_sides_4 : cX1_sides.data.toList.drop 95 = dktX1_sides_4 := dk_seg dksX1_sides_3 23 rfl rfl
theorem dksX1_sides_5 : cX1_sides.data.toList.drop 118 = dktX1_sides_5 := dk_seg dksX1_sides_4 23 rfl rfl
theorem dksX1_sides_6 : cX1_sides.data.toList.drop 141 = dktX1_sides_6 := dk_seg dksX1_sides_5 23 rfl rfl
theorem dksX1_sides_7 : cX1_sides.data.toList.drop 165 = dktX1_sides_7 := dk_seg dksX1_sides_6 24 rfl rfl
theorem dksX1_sides_8 : cX1_sides.data.toList.drop 189 = dktX1_sides_8 := dk_seg dksX1_sides_7 24 rfl rfl
theorem dksX1_sides_9 : cX1_sides.data.toList.drop 213 = dktX1_sides_9 := dk_seg dksX1_sides_8 24 rfl rfl
theorem dksX1_sides_10 : cX1_sides.data.toList.drop 237 = dktX1_sides_10 := dk_seg dksX1_sides_9 24 rfl rfl
theorem dksX1_sides_11 : cX1_sides.data.toList.drop 260 = dktX1_sides_11 := dk_seg dksX1_sides_10 23 rfl rfl
theorem dksX1_sides_12 : cX1_sides.data.toList.drop 282 = dktX1_sides_12 := dk_seg dksX1_sides_11 22 rfl rfl
theorem dksX1_sides_13 : cX1_sides.data.toList.drop 305 = dktX1_sides_13 := dk_seg dksX1_sides_12 23 rfl rfl
theorem dX1_sides_0 : decode cX1_sides 0 = .ok (.aload_n 0, 1) := dk_42 (dk_at dksX1_sides_0 0 rfl rfl)
theorem dX1_sides_1 : decode cX1_sides 1 = .ok (.invokevirtual 98, 3) := dk_182 0 98 (dk_at dksX1_sides_0 1 rfl rfl)
theorem dX1_sides_4 : decode cX1_sides 4 = .ok (.istore_n 1, 1) := dk_60 (dk_at dksX1_sides_0 4 rfl rfl)
theorem dX1_sides_5 : decode cX1_sides 5 = .ok (.iload_n 1, 1) := dk_27 (dk_at dksX1_sides_0 5 rfl rfl)
theorem dX1_sides_6 : decode cX1_sides 6 = .ok (.ifCond .ne 7, 3) := dk_154 0 7 (dk_at dksX1_sides_0 6 rfl rfl)
theorem dX1_sides_9 : decode cX1_sides 9 = .ok (.iconst 0, 1) := dk_3 (dk_at dksX1_sides_0 9 rfl rfl)
theorem dX1_sides_10 : decode cX1_sides 10 = .ok (.goto 8, 3) := dk_167 0 8 (dk_at dksX1_sides_0 10 rfl rfl)
theorem dX1_sides_13 : decode cX1_sides 13 = .ok (.aload_n 0, 1) := dk_42 (dk_at dksX1_sides_0 13 rfl rfl)
theorem dX1_sides_14 : decode cX1_sides 14 = .ok (.iconst 0, 1) := dk_3 (dk_at dksX1_sides_0 14 rfl rfl)
theorem dX1_sides_15 : decode cX1_sides 15 = .ok (.invokevirtual 287, 3) := dk_182 1 31 (dk_at dksX1_sides_0 15 rfl rfl)
theorem dX1_sides_18 : decode cX1_sides 18 = .ok (.istore_n 2, 1) := dk_61 (dk_at dksX1_sides_0 18 rfl rfl)
theorem dX1_sides_19 : decode cX1_sides 19 = .ok (.iload_n 1, 1) := dk_27 (dk_at dksX1_sides_0 19 rfl rfl)
theorem dX1_sides_20 : decode cX1_sides 20 = .ok (.iconst 1, 1) := dk_4 (dk_at dksX1_sides_0 20 rfl rfl)
theorem dX1_sides_21 : decode cX1_sides 21 = .ok (.isub, 1) := dk_100 (dk_at dksX1_sides_0 21 rfl rfl)
theorem dX1_sides_22 : decode cX1_sides 22 = .ok (.iload_n 2, 1) := dk_28 (dk_at dksX1_sides_0 22 rfl rfl)
theorem dX1_sides_23 : decode cX1_sides 23 = .ok (.isub, 1) := dk_100 (dk_at dksX1_sides_0 23 rfl rfl)
theorem dX1_sides_24 : decode cX1_sides 24 = .ok (.istore_n 3, 1) := dk_62 (dk_at dksX1_sides_1 0 rfl rfl)
theorem dX1_sides_25 : decode cX1_sides 25 = .ok (.iload_n 2, 1) := dk_28 (dk_at dksX1_sides_1 1 rfl rfl)
theorem dX1_sides_26 : decode cX1_sides 26 = .ok (.iconst 1, 1) := dk_4 (dk_at dksX1_sides_1 2 rfl rfl)
theorem dX1_sides_27 : decode cX1_sides 27 = .ok (.bipush 6, 2) := dk_16 6 (dk_at dksX1_sides_1 3 rfl rfl)
theorem dX1_sides_29 : decode cX1_sides 29 = .ok (.invokestatic 135, 3) := dk_184 0 135 (dk_at dksX1_sides_1 5 rfl rfl)
theorem dX1_sides_32 : decode cX1_sides 32 = .ok (.ifCond .eq 28, 3) := dk_153 0 28 (dk_at dksX1_sides_1 8 rfl rfl)
theorem dX1_sides_35 : decode cX1_sides 35 = .ok (.iload_n 3, 1) := dk_29 (dk_at dksX1_sides_1 11 rfl rfl)
theorem dX1_sides_36 : decode cX1_sides 36 = .ok (.iconst 1, 1) := dk_4 (dk_at dksX1_sides_1 12 rfl rfl)
theorem dX1_sides_37 : decode cX1_sides 37 = .ok (.bipush 6, 2) := dk_16 6 (dk_at dksX1_sides_1 13 rfl rfl)
theorem dX1_sides_39 : decode cX1_sides 39 = .ok (.invokestatic 135, 3) := dk_184 0 135 (dk_at dksX1_sides_1 15 rfl rfl)
theorem dX1_sides_42 : decode cX1_sides 42 = .ok (.ifCond .eq 18, 3) := dk_153 0 18 (dk_at dksX1_sides_1 18 rfl rfl)
theorem dX1_sides_45 : decode cX1_sides 45 = .ok (.aload_n 0, 1) := dk_42 (dk_at dksX1_sides_1 21 rfl rfl)
theorem dX1_sides_46 : decode cX1_sides 46 = .ok (.iconst 1, 1) := dk_4 (dk_at dksX1_sides_1 22 rfl rfl)
theorem dX1_sides_47 : decode cX1_sides 47 = .ok (.iload_n 2, 1) := dk_28 (dk_at dksX1_sides_1 23 rfl rfl)
theorem dX1_sides_48 : decode cX1_sides 48 = .ok (.aload_n 0, 1) := dk_42 (dk_at dksX1_sides_2 0 rfl rfl)
theorem dX1_sides_49 : decode cX1_sides 49 = .ok (.getfield 44, 3) := dk_180 0 44 (dk_at dksX1_sides_2 1 rfl rfl)
theorem dX1_sides_52 : decode cX1_sides 52 = .ok (.lconst 0, 1) := dk_9 (dk_at dksX1_sides_2 4 rfl rfl)
theorem dX1_sides_53 : decode cX1_sides 53 = .ok (.invokevirtual 292, 3) := dk_182 1 36 (dk_at dksX1_sides_2 5 rfl rfl)
theorem dX1_sides_56 : decode cX1_sides 56 = .ok (.iconst (-1), 1) := dk_2 (dk_at dksX1_sides_2 8 rfl rfl)
theorem dX1_sides_57 : decode cX1_sides 57 = .ok (.if_icmp .ne 5, 3) := dk_160 0 5 (dk_at dksX1_sides_2 9 rfl rfl)
theorem dX1_sides_60 : decode cX1_sides 60 = .ok (.iconst (-1), 1) := dk_2 (dk_at dksX1_sides_2 12 rfl rfl)
theorem dX1_sides_61 : decode cX1_sides 61 = .ok (.ireturn, 1) := dk_172 (dk_at dksX1_sides_2 13 rfl rfl)
theorem dX1_sides_62 : decode cX1_sides 62 = .ok (.aload_n 0, 1) := dk_42 (dk_at dksX1_sides_2 14 rfl rfl)
theorem dX1_sides_63 : decode cX1_sides 63 = .ok (.iconst 1, 1) := dk_4 (dk_at dksX1_sides_2 15 rfl rfl)
theorem dX1_sides_64 : decode cX1_sides 64 = .ok (.iload_n 2, 1) := dk_28 (dk_at dksX1_sides_2 16 rfl rfl)
theorem dX1_sides_65 : decode cX1_sides 65 = .ok (.iadd, 1) := dk_96 (dk_at dksX1_sides_2 17 rfl rfl)
theorem dX1_sides_66 : decode cX1_sides 66 = .ok (.iload_n 3, 1) := dk_29 (dk_at dksX1_sides_2 18 rfl rfl)
theorem dX1_sides_67 : decode cX1_sides 67 = .ok (.aload_n 0, 1) := dk_42 (dk_at dksX1_sides_2 19 rfl rfl)
theorem dX1_sides_68 : decode cX1_sides 68 = .ok (.getfield 66, 3) := dk_180 0 66 (dk_at dksX1_sides_2 20 rfl rfl)
theorem dX1_sides_71 : decode cX1_sides 71 = .ok (.aload_n 0, 1) := dk_42 (dk_at dksX1_sides_2 23 rfl rfl)
theorem dX1_sides_72 : decode cX1_sides 72 = .ok (.iconst 1, 1) := dk_4 (dk_at dksX1_sides_3 0 rfl rfl)
theorem dX1_sides_73 : decode cX1_sides 73 = .ok (.iload_n 2, 1) := dk_28 (dk_at dksX1_sides_3 1 rfl rfl)
theorem dX1_sides_74 : decode cX1_sides 74 = .ok (.ishl, 1) := dk_120 (dk_at dksX1_sides_3 2 rfl rfl)
theorem dX1_sides_75 : decode cX1_sides 75 = .ok (.iconst 1, 1) := dk_4 (dk_at dksX1_sides_3 3 rfl rfl)
theorem dX1_sides_76 : decode cX1_sides 76 = .ok (.isub, 1) := dk_100 (dk_at dksX1_sides_3 4 rfl rfl)
theorem dX1_sides_77 : decode cX1_sides 77 = .ok (.invokevirtual 303, 3) := dk_182 1 47 (dk_at dksX1_sides_3 5 rfl rfl)
theorem dX1_sides_80 : decode cX1_sides 80 = .ok (.invokevirtual 292, 3) := dk_182 1 36 (dk_at dksX1_sides_3 8 rfl rfl)
theorem dX1_sides_83 : decode cX1_sides 83 = .ok (.iconst (-1), 1) := dk_2 (dk_at dksX1_sides_3 11 rfl rfl)
theorem dX1_sides_84 : decode cX1_sides 84 = .ok (.if_icmp .ne 5, 3) := dk_160 0 5 (dk_at dksX1_sides_3 12 rfl rfl)
theorem dX1_sides_87 : decode cX1_sides 87 = .ok (.iconst (-1), 1) := dk_2 (dk_at dksX1_sides_3 15 rfl rfl)
theorem dX1_sides_88 : decode cX1_sides 88 = .ok (.ireturn, 1) := dk_172 (dk_at dksX1_sides_3 16 rfl rfl)
theorem dX1_sides_89 : decode cX1_sides 89 = .ok (.iconst (-1), 1) := dk_2 (dk_at dksX1_sides_3 17 rfl rfl)
theorem dX1_sides_90 : decode cX1_sides 90 = .ok (.istore 4, 2) := dk_54 4 (dk_at dksX1_sides_3 18 rfl rfl)
theorem dX1_sides_92 : decode cX1_sides 92 = .ok (.iconst 0, 1) := dk_3 (dk_at dksX1_sides_3 20 rfl rfl)
theorem dX1_sides_93 : decode cX1_sides 93 = .ok (.istore 5, 2) := dk_54 5 (dk_at dksX1_sides_3 21 rfl rfl)
theorem dX1_sides_95 : decode cX1_sides 95 = .ok (.iload 5, 2) := dk_21 5 (dk_at dksX1_sides_4 0 rfl rfl)
theorem dX1_sides_97 : decode cX1_sides 97 = .ok (.iload_n 2, 1) := dk_28 (dk_at dksX1_sides_4 2 rfl rfl)
theorem dX1_sides_98 : decode cX1_sides 98 = .ok (.if_icmp .ge 98, 3) := dk_162 0 98 (dk_at dksX1_sides_4 3 rfl rfl)
theorem dX1_sides_101 : decode cX1_sides 101 = .ok (.bipush 65, 2) := dk_16 65 (dk_at dksX1_sides_4 6 rfl rfl)
theorem dX1_sides_103 : decode cX1_sides 103 = .ok (.istore 6, 2) := dk_54 6 (dk_at dksX1_sides_4 8 rfl rfl)
theorem dX1_sides_105 : decode cX1_sides 105 = .ok (.iconst 0, 1) := dk_3 (dk_at dksX1_sides_4 10 rfl rfl)
theorem dX1_sides_106 : decode cX1_sides 106 = .ok (.istore 7, 2) := dk_54 7 (dk_at dksX1_sides_4 11 rfl rfl)
theorem dX1_sides_108 : decode cX1_sides 108 = .ok (.iload 7, 2) := dk_21 7 (dk_at dksX1_sides_4 13 rfl rfl)
theorem dX1_sides_110 : decode cX1_sides 110 = .ok (.iload_n 3, 1) := dk_29 (dk_at dksX1_sides_4 15 rfl rfl)
theorem dX1_sides_111 : decode cX1_sides 111 = .ok (.if_icmp .ge 52, 3) := dk_162 0 52 (dk_at dksX1_sides_4 16 rfl rfl)
theorem dX1_sides_114 : decode cX1_sides 114 = .ok (.iload 6, 2) := dk_21 6 (dk_at dksX1_sides_4 19 rfl rfl)
theorem dX1_sides_116 : decode cX1_sides 116 = .ok (.aload_n 0, 1) := dk_42 (dk_at dksX1_sides_4 21 rfl rfl)
theorem dX1_sides_117 : decode cX1_sides 117 = .ok (.aload_n 0, 1) := dk_42 (dk_at dksX1_sides_4 22 rfl rfl)
theorem dX1_sides_118 : decode cX1_sides 118 = .ok (.getfield 19, 3) := dk_180 0 19 (dk_at dksX1_sides_5 0 rfl rfl)
theorem dX1_sides_121 : decode cX1_sides 121 = .ok (.aload_n 0, 1) := dk_42 (dk_at dksX1_sides_5 3 rfl rfl)
theorem dX1_sides_122 : decode cX1_sides 122 = .ok (.getfield 114, 3) := dk_180 0 114 (dk_at dksX1_sides_5 4 rfl rfl)
theorem dX1_sides_125 : decode cX1_sides 125 = .ok (.lconst 1, 1) := dk_10 (dk_at dksX1_sides_5 7 rfl rfl)
theorem dX1_sides_126 : decode cX1_sides 126 = .ok (.aload_n 0, 1) := dk_42 (dk_at dksX1_sides_5 8 rfl rfl)
theorem dX1_sides_127 : decode cX1_sides 127 = .ok (.getfield 44, 3) := dk_180 0 44 (dk_at dksX1_sides_5 9 rfl rfl)
theorem dX1_sides_130 : decode cX1_sides 130 = .ok (.iload 5, 2) := dk_21 5 (dk_at dksX1_sides_5 12 rfl rfl)
theorem dX1_sides_132 : decode cX1_sides 132 = .ok (.iaload, 1) := dk_46 (dk_at dksX1_sides_5 14 rfl rfl)
theorem dX1_sides_133 : decode cX1_sides 133 = .ok (.lshl, 1) := dk_121 (dk_at dksX1_sides_5 15 rfl rfl)
theorem dX1_sides_134 : decode cX1_sides 134 = .ok (.lor, 1) := dk_129 (dk_at dksX1_sides_5 16 rfl rfl)
theorem dX1_sides_135 : decode cX1_sides 135 = .ok (.aload_n 0, 1) := dk_42 (dk_at dksX1_sides_5 17 rfl rfl)
theorem dX1_sides_136 : decode cX1_sides 136 = .ok (.getfield 117, 3) := dk_180 0 117 (dk_at dksX1_sides_5 18 rfl rfl)
theorem dX1_sides_139 : decode cX1_sides 139 = .ok (.lconst 1, 1) := dk_10 (dk_at dksX1_sides_5 21 rfl rfl)
theorem dX1_sides_140 : decode cX1_sides 140 = .ok (.aload_n 0, 1) := dk_42 (dk_at dksX1_sides_5 22 rfl rfl)
theorem dX1_sides_141 : decode cX1_sides 141 = .ok (.getfield 66, 3) := dk_180 0 66 (dk_at dksX1_sides_6 0 rfl rfl)
theorem dX1_sides_144 : decode cX1_sides 144 = .ok (.iload 7, 2) := dk_21 7 (dk_at dksX1_sides_6 3 rfl rfl)
theorem dX1_sides_146 : decode cX1_sides 146 = .ok (.iaload, 1) := dk_46 (dk_at dksX1_sides_6 5 rfl rfl)
theorem dX1_sides_147 : decode cX1_sides 147 = .ok (.lshl, 1) := dk_121 (dk_at dksX1_sides_6 6 rfl rfl)
theorem dX1_sides_148 : decode cX1_sides 148 = .ok (.lor, 1) := dk_129 (dk_at dksX1_sides_6 7 rfl rfl)
theorem dX1_sides_149 : decode cX1_sides 149 = .ok (.invokevirtual 280, 3) := dk_182 1 24 (dk_at dksX1_sides_6 8 rfl rfl)
theorem dX1_sides_152 : decode cX1_sides 152 = .ok (.invokestatic 324, 3) := dk_184 1 68 (dk_at dksX1_sides_6 11 rfl rfl)
theorem dX1_sides_155 : decode cX1_sides 155 = .ok (.istore 6, 2) := dk_54 6 (dk_at dksX1_sides_6 14 rfl rfl)
theorem dX1_sides_157 : decode cX1_sides 157 = .ok (.iinc 7 1, 3) := dk_132 7 1 (dk_at dksX1_sides_6 16 rfl rfl)
theorem dX1_sides_160 : decode cX1_sides 160 = .ok (.goto (-52), 3) := dk_167 255 204 (dk_at dksX1_sides_6 19 rfl rfl)
theorem dX1_sides_163 : decode cX1_sides 163 = .ok (.iload 6, 2) := dk_21 6 (dk_at dksX1_sides_6 22 rfl rfl)
theorem dX1_sides_165 : decode cX1_sides 165 = .ok (.iload 4, 2) := dk_21 4 (dk_at dksX1_sides_7 0 rfl rfl)
theorem dX1_sides_167 : decode cX1_sides 167 = .ok (.if_icmp .gt 6, 3) := dk_163 0 6 (dk_at dksX1_sides_7 2 rfl rfl)
theorem dX1_sides_170 : decode cX1_sides 170 = .ok (.goto 20, 3) := dk_167 0 20 (dk_at dksX1_sides_7 5 rfl rfl)
theorem dX1_sides_173 : decode cX1_sides 173 = .ok (.iload 6, 2) := dk_21 6 (dk_at dksX1_sides_7 8 rfl rfl)
theorem dX1_sides_175 : decode cX1_sides 175 = .ok (.istore 4, 2) := dk_54 4 (dk_at dksX1_sides_7 10 rfl rfl)
theorem dX1_sides_177 : decode cX1_sides 177 = .ok (.aload_n 0, 1) := dk_42 (dk_at dksX1_sides_7 12 rfl rfl)
theorem dX1_sides_178 : decode cX1_sides 178 = .ok (.getfield 69, 3) := dk_180 0 69 (dk_at dksX1_sides_7 13 rfl rfl)
theorem dX1_sides_181 : decode cX1_sides 181 = .ok (.iconst 1, 1) := dk_4 (dk_at dksX1_sides_7 16 rfl rfl)
theorem dX1_sides_182 : decode cX1_sides 182 = .ok (.aload_n 0, 1) := dk_42 (dk_at dksX1_sides_7 17 rfl rfl)
theorem dX1_sides_183 : decode cX1_sides 183 = .ok (.getfield 44, 3) := dk_180 0 44 (dk_at dksX1_sides_7 18 rfl rfl)
theorem dX1_sides_186 : decode cX1_sides 186 = .ok (.iload 5, 2) := dk_21 5 (dk_at dksX1_sides_7 21 rfl rfl)
theorem dX1_sides_188 : decode cX1_sides 188 = .ok (.iaload, 1) := dk_46 (dk_at dksX1_sides_7 23 rfl rfl)
theorem dX1_sides_189 : decode cX1_sides 189 = .ok (.iastore, 1) := dk_79 (dk_at dksX1_sides_8 0 rfl rfl)
theorem dX1_sides_190 : decode cX1_sides 190 = .ok (.iinc 5 1, 3) := dk_132 5 1 (dk_at dksX1_sides_8 1 rfl rfl)
theorem dX1_sides_193 : decode cX1_sides 193 = .ok (.goto (-98), 3) := dk_167 255 158 (dk_at dksX1_sides_8 4 rfl rfl)
theorem dX1_sides_196 : decode cX1_sides 196 = .ok (.aload_n 0, 1) := dk_42 (dk_at dksX1_sides_8 7 rfl rfl)
theorem dX1_sides_197 : decode cX1_sides 197 = .ok (.getfield 69, 3) := dk_180 0 69 (dk_at dksX1_sides_8 8 rfl rfl)
theorem dX1_sides_200 : decode cX1_sides 200 = .ok (.iconst 0, 1) := dk_3 (dk_at dksX1_sides_8 11 rfl rfl)
theorem dX1_sides_201 : decode cX1_sides 201 = .ok (.bipush 65, 2) := dk_16 65 (dk_at dksX1_sides_8 12 rfl rfl)
theorem dX1_sides_203 : decode cX1_sides 203 = .ok (.iastore, 1) := dk_79 (dk_at dksX1_sides_8 14 rfl rfl)
theorem dX1_sides_204 : decode cX1_sides 204 = .ok (.iconst 0, 1) := dk_3 (dk_at dksX1_sides_8 15 rfl rfl)
theorem dX1_sides_205 : decode cX1_sides 205 = .ok (.istore 5, 2) := dk_54 5 (dk_at dksX1_sides_8 16 rfl rfl)
theorem dX1_sides_207 : decode cX1_sides 207 = .ok (.iload 5, 2) := dk_21 5 (dk_at dksX1_sides_8 18 rfl rfl)
theorem dX1_sides_209 : decode cX1_sides 209 = .ok (.iload_n 3, 1) := dk_29 (dk_at dksX1_sides_8 20 rfl rfl)
theorem dX1_sides_210 : decode cX1_sides 210 = .ok (.if_icmp .ge 105, 3) := dk_162 0 105 (dk_at dksX1_sides_8 21 rfl rfl)
theorem dX1_sides_213 : decode cX1_sides 213 = .ok (.iconst (-1), 1) := dk_2 (dk_at dksX1_sides_9 0 rfl rfl)
theorem dX1_sides_214 : decode cX1_sides 214 = .ok (.istore 6, 2) := dk_54 6 (dk_at dksX1_sides_9 1 rfl rfl)
theorem dX1_sides_216 : decode cX1_sides 216 = .ok (.iconst 0, 1) := dk_3 (dk_at dksX1_sides_9 3 rfl rfl)
theorem dX1_sides_217 : decode cX1_sides 217 = .ok (.istore 7, 2) := dk_54 7 (dk_at dksX1_sides_9 4 rfl rfl)
theorem dX1_sides_219 : decode cX1_sides 219 = .ok (.iload 7, 2) := dk_21 7 (dk_at dksX1_sides_9 6 rfl rfl)
theorem dX1_sides_221 : decode cX1_sides 221 = .ok (.iload_n 2, 1) := dk_28 (dk_at dksX1_sides_9 8 rfl rfl)
theorem dX1_sides_222 : decode cX1_sides 222 = .ok (.if_icmp .ge 52, 3) := dk_162 0 52 (dk_at dksX1_sides_9 9 rfl rfl)
theorem dX1_sides_225 : decode cX1_sides 225 = .ok (.iload 6, 2) := dk_21 6 (dk_at dksX1_sides_9 12 rfl rfl)
theorem dX1_sides_227 : decode cX1_sides 227 = .ok (.aload_n 0, 1) := dk_42 (dk_at dksX1_sides_9 14 rfl rfl)
theorem dX1_sides_228 : decode cX1_sides 228 = .ok (.aload_n 0, 1) := dk_42 (dk_at dksX1_sides_9 15 rfl rfl)
theorem dX1_sides_229 : decode cX1_sides 229 = .ok (.getfield 19, 3) := dk_180 0 19 (dk_at dksX1_sides_9 16 rfl rfl)
theorem dX1_sides_232 : decode cX1_sides 232 = .ok (.aload_n 0, 1) := dk_42 (dk_at dksX1_sides_9 19 rfl rfl)
theorem dX1_sides_233 : decode cX1_sides 233 = .ok (.getfield 114, 3) := dk_180 0 114 (dk_at dksX1_sides_9 20 rfl rfl)
theorem dX1_sides_236 : decode cX1_sides 236 = .ok (.lconst 1, 1) := dk_10 (dk_at dksX1_sides_9 23 rfl rfl)
theorem dX1_sides_237 : decode cX1_sides 237 = .ok (.aload_n 0, 1) := dk_42 (dk_at dksX1_sides_10 0 rfl rfl)
theorem dX1_sides_238 : decode cX1_sides 238 = .ok (.getfield 44, 3) := dk_180 0 44 (dk_at dksX1_sides_10 1 rfl rfl)
theorem dX1_sides_241 : decode cX1_sides 241 = .ok (.iload 7, 2) := dk_21 7 (dk_at dksX1_sides_10 4 rfl rfl)
theorem dX1_sides_243 : decode cX1_sides 243 = .ok (.iaload, 1) := dk_46 (dk_at dksX1_sides_10 6 rfl rfl)
theorem dX1_sides_244 : decode cX1_sides 244 = .ok (.lshl, 1) := dk_121 (dk_at dksX1_sides_10 7 rfl rfl)
theorem dX1_sides_245 : decode cX1_sides 245 = .ok (.lor, 1) := dk_129 (dk_at dksX1_sides_10 8 rfl rfl)
theorem dX1_sides_246 : decode cX1_sides 246 = .ok (.aload_n 0, 1) := dk_42 (dk_at dksX1_sides_10 9 rfl rfl)
theorem dX1_sides_247 : decode cX1_sides 247 = .ok (.getfield 117, 3) := dk_180 0 117 (dk_at dksX1_sides_10 10 rfl rfl)
theorem dX1_sides_250 : decode cX1_sides 250 = .ok (.lconst 1, 1) := dk_10 (dk_at dksX1_sides_10 13 rfl rfl)
theorem dX1_sides_251 : decode cX1_sides 251 = .ok (.aload_n 0, 1) := dk_42 (dk_at dksX1_sides_10 14 rfl rfl)
theorem dX1_sides_252 : decode cX1_sides 252 = .ok (.getfield 66, 3) := dk_180 0 66 (dk_at dksX1_sides_10 15 rfl rfl)
theorem dX1_sides_255 : decode cX1_sides 255 = .ok (.iload 5, 2) := dk_21 5 (dk_at dksX1_sides_10 18 rfl rfl)
theorem dX1_sides_257 : decode cX1_sides 257 = .ok (.iaload, 1) := dk_46 (dk_at dksX1_sides_10 20 rfl rfl)
theorem dX1_sides_258 : decode cX1_sides 258 = .ok (.lshl, 1) := dk_121 (dk_at dksX1_sides_10 21 rfl rfl)
theorem dX1_sides_259 : decode cX1_sides 259 = .ok (.lor, 1) := dk_129 (dk_at dksX1_sides_10 22 rfl rfl)
theorem dX1_sides_260 : decode cX1_sides 260 = .ok (.invokevirtual 280, 3) := dk_182 1 24 (dk_at dksX1_sides_11 0 rfl rfl)
theorem dX1_sides_263 : decode cX1_sides 263 = .ok (.invokestatic 258, 3) := dk_184 1 2 (dk_at dksX1_sides_11 3 rfl rfl)
theorem dX1_sides_266 : decode cX1_sides 266 = .ok (.istore 6, 2) := dk_54 6 (dk_at dksX1_sides_11 6 rfl rfl)
theorem dX1_sides_268 : decode cX1_sides 268 = .ok (.iinc 7 1, 3) := dk_132 7 1 (dk_at dksX1_sides_11 8 rfl rfl)
theorem dX1_sides_271 : decode cX1_sides 271 = .ok (.goto (-52), 3) := dk_167 255 204 (dk_at dksX1_sides_11 11 rfl rfl)
theorem dX1_sides_274 : decode cX1_sides 274 = .ok (.iload 6, 2) := dk_21 6 (dk_at dksX1_sides_11 14 rfl rfl)
theorem dX1_sides_276 : decode cX1_sides 276 = .ok (.aload_n 0, 1) := dk_42 (dk_at dksX1_sides_11 16 rfl rfl)
theorem dX1_sides_277 : decode cX1_sides 277 = .ok (.getfield 69, 3) := dk_180 0 69 (dk_at dksX1_sides_11 17 rfl rfl)
theorem dX1_sides_280 : decode cX1_sides 280 = .ok (.iconst 0, 1) := dk_3 (dk_at dksX1_sides_11 20 rfl rfl)
theorem dX1_sides_281 : decode cX1_sides 281 = .ok (.iaload, 1) := dk_46 (dk_at dksX1_sides_11 21 rfl rfl)
theorem dX1_sides_282 : decode cX1_sides 282 = .ok (.if_icmp .lt 6, 3) := dk_161 0 6 (dk_at dksX1_sides_12 0 rfl rfl)
theorem dX1_sides_285 : decode cX1_sides 285 = .ok (.goto 24, 3) := dk_167 0 24 (dk_at dksX1_sides_12 3 rfl rfl)
theorem dX1_sides_288 : decode cX1_sides 288 = .ok (.aload_n 0, 1) := dk_42 (dk_at dksX1_sides_12 6 rfl rfl)
theorem dX1_sides_289 : decode cX1_sides 289 = .ok (.getfield 69, 3) := dk_180 0 69 (dk_at dksX1_sides_12 7 rfl rfl)
theorem dX1_sides_292 : decode cX1_sides 292 = .ok (.iconst 0, 1) := dk_3 (dk_at dksX1_sides_12 10 rfl rfl)
theorem dX1_sides_293 : decode cX1_sides 293 = .ok (.iload 6, 2) := dk_21 6 (dk_at dksX1_sides_12 11 rfl rfl)
theorem dX1_sides_295 : decode cX1_sides 295 = .ok (.iastore, 1) := dk_79 (dk_at dksX1_sides_12 13 rfl rfl)
theorem dX1_sides_296 : decode cX1_sides 296 = .ok (.aload_n 0, 1) := dk_42 (dk_at dksX1_sides_12 14 rfl rfl)
theorem dX1_sides_297 : decode cX1_sides 297 = .ok (.getfield 69, 3) := dk_180 0 69 (dk_at dksX1_sides_12 15 rfl rfl)
theorem dX1_sides_300 : decode cX1_sides 300 = .ok (.iconst 2, 1) := dk_5 (dk_at dksX1_sides_12 18 rfl rfl)
theorem dX1_sides_301 : decode cX1_sides 301 = .ok (.aload_n 0, 1) := dk_42 (dk_at dksX1_sides_12 19 rfl rfl)
theorem dX1_sides_302 : decode cX1_sides 302 = .ok (.getfield 66, 3) := dk_180 0 66 (dk_at dksX1_sides_12 20 rfl rfl)
theorem dX1_sides_305 : decode cX1_sides 305 = .ok (.iload 5, 2) := dk_21 5 (dk_at dksX1_sides_13 0 rfl rfl)
theorem dX1_sides_307 : decode cX1_sides 307 = .ok (.iaload, 1) := dk_46 (dk_at dksX1_sides_13 2 rfl rfl)
theorem dX1_sides_308 : decode cX1_sides 308 = .ok (.iastore, 1) := dk_79 (dk_at dksX1_sides_13 3 rfl rfl)
theorem dX1_sides_309 : decode cX1_sides 309 = .ok (.iinc 5 1, 3) := dk_132 5 1 (dk_at dksX1_sides_13 4 rfl rfl)
theorem dX1_sides_312 : decode cX1_sides 312 = .ok (.goto (-105), 3) := dk_167 255 151 (dk_at dksX1_sides_13 7 rfl rfl)
theorem dX1_sides_315 : decode cX1_sides 315 = .ok (.iload 4, 2) := dk_21 4 (dk_at dksX1_sides_13 10 rfl rfl)
theorem dX1_sides_317 : decode cX1_sides 317 = .ok (.ireturn, 1) := dk_172 (dk_at dksX1_sides_13 12 rfl rfl)
def dkwX1_side_0 : List UInt8 := [27, 3, 5, 184, 0, 135, 153, 0, 12, 42, 180, 0, 69, 27, 46, 167, 0, 4, 2, 172]
abbrev dktX1_side_0 : List UInt8 := dkwX1_side_0 ++ []
theorem dksX1_side_0 : cX1_side.data.toList.drop 0 = dktX1_side_0 := by decide +kernel
theorem dX1_side_0 : decode cX1_side 0 = .ok (.iload_n 1, 1) := dk_27 (dk_at dksX1_side_0 0 rfl rfl)
theorem dX1_side_1 : decode cX1_side 1 = .ok (.iconst 0, 1) := dk_3 (dk_at dksX1_side_0 1 rfl rfl)
theorem dX1_side_2 : decode cX1_side 2 = .ok (.iconst 2, 1) := dk_5 (dk_at dksX1_side_0 2 rfl rfl)
theorem dX1_side_3 : decode cX1_side 3 = .ok (.invokestatic 135, 3) := dk_184 0 135 (dk_at dksX1_side_0 3 rfl rfl)
theorem dX1_side_6 : decode cX1_side 6 = .ok (.ifCond .eq 12, 3) := dk_153 0 12 (dk_at dksX1_side_0 6 rfl rfl)
theorem dX1_side_9 : decode cX1_side 9 = .ok (.aload_n 0, 1) := dk_42 (dk_at dksX1_side_0 9 rfl rfl)
theorem dX1_side_10 : decode cX1_side 10 = .ok (.getfield 69, 3) := dk_180 0 69 (dk_at dksX1_side_0 10 rfl rfl)
theorem dX1_side_13 : decode cX1_side 13 = .ok (.iload_n 1, 1) := dk_27 (dk_at dksX1_side_0 13 rfl rfl)
theorem dX1_side_14 : decode cX1_side 14 = .ok (.iaload, 1) := dk_46 (dk_at dksX1_side_0 14 rfl rfl)
theorem dX1_side_15 : decode cX1_side 15 = .ok (.goto 4, 3) := dk_167 0 4 (dk_at dksX1_side_0 15 rfl rfl)
theorem dX1_side_18 : decode cX1_side 18 = .ok (.iconst (-1), 1) := dk_2 (dk_at dksX1_side_0 18 rfl rfl)
theorem dX1_side_19 : decode cX1_side 19 = .ok (.ireturn, 1) := dk_172 (dk_at dksX1_side_0 19 rfl rfl)
def dkwX1_began_8 : List UInt8 := [132, 3, 1, 132, 5, 1, 167, 255, 151, 132, 4, 1, 167, 255, 135, 29, 172]
abbrev dktX1_began_8 : List UInt8 := dkwX1_began_8 ++ []
def dkwX1_began_7 : List UInt8 := [21, 4, 181, 0, 72, 42, 21, 5, 21, 4, 160, 0, 7, 2, 167, 0, 5, 21, 5, 181, 0, 75]
abbrev dktX1_began_7 : List UInt8 := dkwX1_began_7 ++ dktX1_began_8
def dkwX1_began_6 : List UInt8 := [180, 0, 117, 182, 0, 201, 27, 182, 0, 216, 182, 1, 75, 154, 0, 6, 167, 0, 33, 29, 154, 0, 26, 42]
abbrev dktX1_began_6 : List UInt8 := dkwX1_began_6 ++ dktX1_began_7
def dkwX1_began_5 : List UInt8 := [42, 42, 180, 0, 33, 42, 180, 0, 19, 42, 180, 0, 26, 10, 21, 4, 121, 10, 21, 5, 121, 129, 42]
abbrev dktX1_began_5 : List UInt8 := dkwX1_began_5 ++ dktX1_began_6
def dkwX1_began_4 : List UInt8 := [42, 180, 0, 19, 21, 4, 182, 0, 131, 153, 0, 93, 42, 180, 0, 19, 21, 5, 182, 0, 131, 153, 0, 75]
abbrev dktX1_began_4 : List UInt8 := dkwX1_began_4 ++ dktX1_began_5
def dkwX1_began_3 : List UInt8 := [42, 2, 181, 0, 75, 3, 54, 4, 21, 4, 28, 162, 0, 121, 21, 4, 54, 5, 21, 5, 28, 162, 0, 105]
abbrev dktX1_began_3 : List UInt8 := dkwX1_began_3 ++ dktX1_began_4
def dkwX1_began_2 : List UInt8 := [42, 29, 182, 1, 31, 6, 164, 0, 5, 2, 172, 132, 3, 1, 167, 255, 237, 3, 62, 42, 2, 181, 0, 72]
abbrev dktX1_began_2 : List UInt8 := dkwX1_began_2 ++ dktX1_began_3
def dkwX1_began_1 : List UInt8 := [153, 0, 15, 42, 180, 0, 19, 182, 1, 72, 16, 24, 164, 0, 5, 2, 172, 3, 62, 29, 28, 162, 0, 20]
abbrev dktX1_began_1 : List UInt8 := dkwX1_began_1 ++ dktX1_began_2
def dkwX1_began_0 : List UInt8 := [42, 182, 0, 98, 61, 28, 42, 180, 0, 19, 182, 1, 71, 160, 0, 25, 27, 3, 16, 60, 184, 0, 135]
abbrev dktX1_began_0 : List UInt8 := dkwX1_began_0 ++ dktX1_began_1
theorem dksX1_began_0 : cX1_began.data.toList.drop 0 = dktX1_began_0 := by decide +kernel
theorem dksX1_began_1 : cX1_began.data.toList.drop 23 = dktX1_began_1 := dk_seg dksX1_began_0 23 rfl rfl
theorem dksX1_began_2 : cX1_began.data.toList.drop 47 = dktX1_began_2 := dk_seg dksX1_began_1 24 rfl rfl
theorem dksX1_began_3 : cX1_began.data.toList.drop 71 = dktX1_began_3 := dk_seg dksX1_began_2 24 rfl rfl
theorem dksX1_began_4 : cX1_began.data.toList.drop 95 = dktX1_began_4 := dk_seg dksX1_began_3 24 rfl rfl
theorem dksX1_began_5 : cX1_began.data.toList.drop 119 = dktX1_began_5 := dk_seg dksX1_began_4 24 rfl rfl
theorem dksX1_began_6 : cX1_began.data.toList.drop 142 = dktX1_began_6 := dk_seg dksX1_began_5 23 rfl rfl
theorem dksX1_began_7 : cX1_began.data.toList.drop 166 = dktX1_began_7 := dk_seg dksX1_began_6 24 rfl rfl
theorem dksX1_began_8 : cX1_began.data.toList.drop 188 = dktX1_began_8 := dk_seg dksX1_began_7 22 rfl rfl
theorem dX1_began_0 : decode cX1_began 0 = .ok (.aload_n 0, 1) := dk_42 (dk_at dksX1_began_0 0 rfl rfl)
theorem dX1_began_1 : decode cX1_began 1 = .ok (.invokevirtual 98, 3) := dk_182 0 98 (dk_at dksX1_began_0 1 rfl rfl)
theorem dX1_began_4 : decode cX1_began 4 = .ok (.istore_n 2, 1) := dk_61 (dk_at dksX1_began_0 4 rfl rfl)
theorem dX1_began_5 : decode cX1_began 5 = .ok (.iload_n 2, 1) := dk_28 (dk_at dksX1_began_0 5 rfl rfl)
theorem dX1_began_6 : decode cX1_began 6 = .ok (.aload_n 0, 1) := dk_42 (dk_at dksX1_began_0 6 rfl rfl)
theorem dX1_began_7 : decode cX1_began 7 = .ok (.getfield 19, 3) := dk_180 0 19 (dk_at dksX1_began_0 7 rfl rfl)
theorem dX1_began_10 : decode cX1_began 10 = .ok (.invokevirtual 327, 3) := dk_182 1 71 (dk_at dksX1_began_0 10 rfl rfl)
theorem dX1_began_13 : decode cX1_began 13 = .ok (.if_icmp .ne 25, 3) := dk_160 0 25 (dk_at dksX1_began_0 13 rfl rfl)
theorem dX1_began_16 : decode cX1_began 16 = .ok (.iload_n 1, 1) := dk_27 (dk_at dksX1_began_0 16 rfl rfl)
theorem dX1_began_17 : decode cX1_began 17 = .ok (.iconst 0, 1) := dk_3 (dk_at dksX1_began_0 17 rfl rfl)
theorem dX1_began_18 : decode cX1_began 18 = .ok (.bipush 60, 2) := dk_16 60 (dk_at dksX1_began_0 18 rfl rfl)
theorem dX1_began_20 : decode cX1_began 20 = .ok (.invokestatic 135, 3) := dk_184 0 135 (dk_at dksX1_began_0 20 rfl rfl)
theorem dX1_began_23 : decode cX1_began 23 = .ok (.ifCond .eq 15, 3) := dk_153 0 15 (dk_at dksX1_began_1 0 rfl rfl)
theorem dX1_began_26 : decode cX1_began 26 = .ok (.aload_n 0, 1) := dk_42 (dk_at dksX1_began_1 3 rfl rfl)
theorem dX1_began_27 : decode cX1_began 27 = .ok (.getfield 19, 3) := dk_180 0 19 (dk_at dksX1_began_1 4 rfl rfl)
theorem dX1_began_30 : decode cX1_began 30 = .ok (.invokevirtual 328, 3) := dk_182 1 72 (dk_at dksX1_began_1 7 rfl rfl)
theorem dX1_began_33 : decode cX1_began 33 = .ok (.bipush 24, 2) := dk_16 24 (dk_at dksX1_began_1 10 rfl rfl)
theorem dX1_began_35 : decode cX1_began 35 = .ok (.if_icmp .le 5, 3) := dk_164 0 5 (dk_at dksX1_began_1 12 rfl rfl)
theorem dX1_began_38 : decode cX1_began 38 = .ok (.iconst (-1), 1) := dk_2 (dk_at dksX1_began_1 15 rfl rfl)
theorem dX1_began_39 : decode cX1_began 39 = .ok (.ireturn, 1) := dk_172 (dk_at dksX1_began_1 16 rfl rfl)
theorem dX1_began_40 : decode cX1_began 40 = .ok (.iconst 0, 1) := dk_3 (dk_at dksX1_began_1 17 rfl rfl)
theorem dX1_began_41 : decode cX1_began 41 = .ok (.istore_n 3, 1) := dk_62 (dk_at dksX1_began_1 18 rfl rfl)
theorem dX1_began_42 : decode cX1_began 42 = .ok (.iload_n 3, 1) := dk_29 (dk_at dksX1_began_1 19 rfl rfl)
theorem dX1_began_43 : decode cX1_began 43 = .ok (.iload_n 2, 1) := dk_28 (dk_at dksX1_began_1 20 rfl rfl)
theorem dX1_began_44 : decode cX1_began 44 = .ok (.if_icmp .ge 20, 3) := dk_162 0 20 (dk_at dksX1_began_1 21 rfl rfl)
theorem dX1_began_47 : decode cX1_began 47 = .ok (.aload_n 0, 1) := dk_42 (dk_at dksX1_began_2 0 rfl rfl)
theorem dX1_began_48 : decode cX1_began 48 = .ok (.iload_n 3, 1) := dk_29 (dk_at dksX1_began_2 1 rfl rfl)
theorem dX1_began_49 : decode cX1_began 49 = .ok (.invokevirtual 287, 3) := dk_182 1 31 (dk_at dksX1_began_2 2 rfl rfl)
theorem dX1_began_52 : decode cX1_began 52 = .ok (.iconst 3, 1) := dk_6 (dk_at dksX1_began_2 5 rfl rfl)
theorem dX1_began_53 : decode cX1_began 53 = .ok (.if_icmp .le 5, 3) := dk_164 0 5 (dk_at dksX1_began_2 6 rfl rfl)
theorem dX1_began_56 : decode cX1_began 56 = .ok (.iconst (-1), 1) := dk_2 (dk_at dksX1_began_2 9 rfl rfl)
theorem dX1_began_57 : decode cX1_began 57 = .ok (.ireturn, 1) := dk_172 (dk_at dksX1_began_2 10 rfl rfl)
theorem dX1_began_58 : decode cX1_began 58 = .ok (.iinc 3 1, 3) := dk_132 3 1 (dk_at dksX1_began_2 11 rfl rfl)
theorem dX1_began_61 : decode cX1_began 61 = .ok (.goto (-19), 3) := dk_167 255 237 (dk_at dksX1_began_2 14 rfl rfl)
theorem dX1_began_64 : decode cX1_began 64 = .ok (.iconst 0, 1) := dk_3 (dk_at dksX1_began_2 17 rfl rfl)
theorem dX1_began_65 : decode cX1_began 65 = .ok (.istore_n 3, 1) := dk_62 (dk_at dksX1_began_2 18 rfl rfl)
theorem dX1_began_66 : decode cX1_began 66 = .ok (.aload_n 0, 1) := dk_42 (dk_at dksX1_began_2 19 rfl rfl)
theorem dX1_began_67 : decode cX1_began 67 = .ok (.iconst (-1), 1) := dk_2 (dk_at dksX1_began_2 20 rfl rfl)
theorem dX1_began_68 : decode cX1_began 68 = .ok (.putfield 72, 3) := dk_181 0 72 (dk_at dksX1_began_2 21 rfl rfl)
theorem dX1_began_71 : decode cX1_began 71 = .ok (.aload_n 0, 1) := dk_42 (dk_at dksX1_began_3 0 rfl rfl)
theorem dX1_began_72 : decode cX1_began 72 = .ok (.iconst (-1), 1) := dk_2 (dk_at dksX1_began_3 1 rfl rfl)
theorem dX1_began_73 : decode cX1_began 73 = .ok (.putfield 75, 3) := dk_181 0 75 (dk_at dksX1_began_3 2 rfl rfl)
theorem dX1_began_76 : decode cX1_began 76 = .ok (.iconst 0, 1) := dk_3 (dk_at dksX1_began_3 5 rfl rfl)
theorem dX1_began_77 : decode cX1_began 77 = .ok (.istore 4, 2) := dk_54 4 (dk_at dksX1_began_3 6 rfl rfl)
theorem dX1_began_79 : decode cX1_began 79 = .ok (.iload 4, 2) := dk_21 4 (dk_at dksX1_began_3 8 rfl rfl)
theorem dX1_began_81 : decode cX1_began 81 = .ok (.iload_n 2, 1) := dk_28 (dk_at dksX1_began_3 10 rfl rfl)
theorem dX1_began_82 : decode cX1_began 82 = .ok (.if_icmp .ge 121, 3) := dk_162 0 121 (dk_at dksX1_began_3 11 rfl rfl)
theorem dX1_began_85 : decode cX1_began 85 = .ok (.iload 4, 2) := dk_21 4 (dk_at dksX1_began_3 14 rfl rfl)
theorem dX1_began_87 : decode cX1_began 87 = .ok (.istore 5, 2) := dk_54 5 (dk_at dksX1_began_3 16 rfl rfl)
theorem dX1_began_89 : decode cX1_began 89 = .ok (.iload 5, 2) := dk_21 5 (dk_at dksX1_began_3 18 rfl rfl)
theorem dX1_began_91 : decode cX1_began 91 = .ok (.iload_n 2, 1) := dk_28 (dk_at dksX1_began_3 20 rfl rfl)
theorem dX1_began_92 : decode cX1_began 92 = .ok (.if_icmp .ge 105, 3) := dk_162 0 105 (dk_at dksX1_began_3 21 rfl rfl)
theorem dX1_began_95 : decode cX1_began 95 = .ok (.aload_n 0, 1) := dk_42 (dk_at dksX1_began_4 0 rfl rfl)
theorem dX1_began_96 : decode cX1_began 96 = .ok (.getfield 19, 3) := dk_180 0 19 (dk_at dksX1_began_4 1 rfl rfl)
theorem dX1_began_99 : decode cX1_began 99 = .ok (.iload 4, 2) := dk_21 4 (dk_at dksX1_began_4 4 rfl rfl)
theorem dX1_began_101 : decode cX1_began 101 = .ok (.invokevirtual 131, 3) := dk_182 0 131 (dk_at dksX1_began_4 6 rfl rfl)
theorem dX1_began_104 : decode cX1_began 104 = .ok (.ifCond .eq 93, 3) := dk_153 0 93 (dk_at dksX1_began_4 9 rfl rfl)
theorem dX1_began_107 : decode cX1_began 107 = .ok (.aload_n 0, 1) := dk_42 (dk_at dksX1_began_4 12 rfl rfl)
theorem dX1_began_108 : decode cX1_began 108 = .ok (.getfield 19, 3) := dk_180 0 19 (dk_at dksX1_began_4 13 rfl rfl)
theorem dX1_began_111 : decode cX1_began 111 = .ok (.iload 5, 2) := dk_21 5 (dk_at dksX1_began_4 16 rfl rfl)
theorem dX1_began_113 : decode cX1_began 113 = .ok (.invokevirtual 131, 3) := dk_182 0 131 (dk_at dksX1_began_4 18 rfl rfl)
theorem dX1_began_116 : decode cX1_began 116 = .ok (.ifCond .eq 75, 3) := dk_153 0 75 (dk_at dksX1_began_4 21 rfl rfl)
theorem dX1_began_119 : decode cX1_began 119 = .ok (.aload_n 0, 1) := dk_42 (dk_at dksX1_began_5 0 rfl rfl)
theorem dX1_began_120 : decode cX1_began 120 = .ok (.aload_n 0, 1) := dk_42 (dk_at dksX1_began_5 1 rfl rfl)
theorem dX1_began_121 : decode cX1_began 121 = .ok (.getfield 33, 3) := dk_180 0 33 (dk_at dksX1_began_5 2 rfl rfl)
theorem dX1_began_124 : decode cX1_began 124 = .ok (.aload_n 0, 1) := dk_42 (dk_at dksX1_began_5 5 rfl rfl)
theorem dX1_began_125 : decode cX1_began 125 = .ok (.getfield 19, 3) := dk_180 0 19 (dk_at dksX1_began_5 6 rfl rfl)
theorem dX1_began_128 : decode cX1_began 128 = .ok (.aload_n 0, 1) := dk_42 (dk_at dksX1_began_5 9 rfl rfl)
theorem dX1_began_129 : decode cX1_began 129 = .ok (.getfield 26, 3) := dk_180 0 26 (dk_at dksX1_began_5 10 rfl rfl)
theorem dX1_began_132 : decode cX1_began 132 = .ok (.lconst 1, 1) := dk_10 (dk_at dksX1_began_5 13 rfl rfl)
theorem dX1_began_133 : decode cX1_began 133 = .ok (.iload 4, 2) := dk_21 4 (dk_at dksX1_began_5 14 rfl rfl)
theorem dX1_began_135 : decode cX1_began 135 = .ok (.lshl, 1) := dk_121 (dk_at dksX1_began_5 16 rfl rfl)
theorem dX1_began_136 : decode cX1_began 136 = .ok (.lconst 1, 1) := dk_10 (dk_at dksX1_began_5 17 rfl rfl)
theorem dX1_began_137 : decode cX1_began 137 = .ok (.iload 5, 2) := dk_21 5 (dk_at dksX1_began_5 18 rfl rfl)
theorem dX1_began_139 : decode cX1_began 139 = .ok (.lshl, 1) := dk_121 (dk_at dksX1_began_5 20 rfl rfl)
theorem dX1_began_140 : decode cX1_began 140 = .ok (.lor, 1) := dk_129 (dk_at dksX1_began_5 21 rfl rfl)
theorem dX1_began_141 : decode cX1_began 141 = .ok (.aload_n 0, 1) := dk_42 (dk_at dksX1_began_5 22 rfl rfl)
theorem dX1_began_142 : decode cX1_began 142 = .ok (.getfield 117, 3) := dk_180 0 117 (dk_at dksX1_began_6 0 rfl rfl)
theorem dX1_began_145 : decode cX1_began 145 = .ok (.invokevirtual 201, 3) := dk_182 0 201 (dk_at dksX1_began_6 3 rfl rfl)
theorem dX1_began_148 : decode cX1_began 148 = .ok (.iload_n 1, 1) := dk_27 (dk_at dksX1_began_6 6 rfl rfl)
theorem dX1_began_149 : decode cX1_began 149 = .ok (.invokevirtual 216, 3) := dk_182 0 216 (dk_at dksX1_began_6 7 rfl rfl)
theorem dX1_began_152 : decode cX1_began 152 = .ok (.invokevirtual 331, 3) := dk_182 1 75 (dk_at dksX1_began_6 10 rfl rfl)
theorem dX1_began_155 : decode cX1_began 155 = .ok (.ifCond .ne 6, 3) := dk_154 0 6 (dk_at dksX1_began_6 13 rfl rfl)
theorem dX1_began_158 : decode cX1_began 158 = .ok (.goto 33, 3) := dk_167 0 33 (dk_at dksX1_began_6 16 rfl rfl)
theorem dX1_began_161 : decode cX1_began 161 = .ok (.iload_n 3, 1) := dk_29 (dk_at dksX1_began_6 19 rfl rfl)
theorem dX1_began_162 : decode cX1_began 162 = .ok (.ifCond .ne 26, 3) := dk_154 0 26 (dk_at dksX1_began_6 20 rfl rfl)
theorem dX1_began_165 : decode cX1_began 165 = .ok (.aload_n 0, 1) := dk_42 (dk_at dksX1_began_6 23 rfl rfl)
theorem dX1_began_166 : decode cX1_began 166 = .ok (.iload 4, 2) := dk_21 4 (dk_at dksX1_began_7 0 rfl rfl)
theorem dX1_began_168 : decode cX1_began 168 = .ok (.putfield 72, 3) := dk_181 0 72 (dk_at dksX1_began_7 2 rfl rfl)
theorem dX1_began_171 : decode cX1_began 171 = .ok (.aload_n 0, 1) := dk_42 (dk_at dksX1_began_7 5 rfl rfl)
theorem dX1_began_172 : decode cX1_began 172 = .ok (.iload 5, 2) := dk_21 5 (dk_at dksX1_began_7 6 rfl rfl)
theorem dX1_began_174 : decode cX1_began 174 = .ok (.iload 4, 2) := dk_21 4 (dk_at dksX1_began_7 8 rfl rfl)
theorem dX1_began_176 : decode cX1_began 176 = .ok (.if_icmp .ne 7, 3) := dk_160 0 7 (dk_at dksX1_began_7 10 rfl rfl)
theorem dX1_began_179 : decode cX1_began 179 = .ok (.iconst (-1), 1) := dk_2 (dk_at dksX1_began_7 13 rfl rfl)
theorem dX1_began_180 : decode cX1_began 180 = .ok (.goto 5, 3) := dk_167 0 5 (dk_at dksX1_began_7 14 rfl rfl)
theorem dX1_began_183 : decode cX1_began 183 = .ok (.iload 5, 2) := dk_21 5 (dk_at dksX1_began_7 17 rfl rfl)
theorem dX1_began_185 : decode cX1_began 185 = .ok (.putfield 75, 3) := dk_181 0 75 (dk_at dksX1_began_7 19 rfl rfl)
theorem dX1_began_188 : decode cX1_began 188 = .ok (.iinc 3 1, 3) := dk_132 3 1 (dk_at dksX1_began_8 0 rfl rfl)
theorem dX1_began_191 : decode cX1_began 191 = .ok (.iinc 5 1, 3) := dk_132 5 1 (dk_at dksX1_began_8 3 rfl rfl)
theorem dX1_began_194 : decode cX1_began 194 = .ok (.goto (-105), 3) := dk_167 255 151 (dk_at dksX1_began_8 6 rfl rfl)
theorem dX1_began_197 : decode cX1_began 197 = .ok (.iinc 4 1, 3) := dk_132 4 1 (dk_at dksX1_began_8 9 rfl rfl)
theorem dX1_began_200 : decode cX1_began 200 = .ok (.goto (-121), 3) := dk_167 255 135 (dk_at dksX1_began_8 12 rfl rfl)
theorem dX1_began_203 : decode cX1_began 203 = .ok (.iload_n 3, 1) := dk_29 (dk_at dksX1_began_8 15 rfl rfl)
theorem dX1_began_204 : decode cX1_began 204 = .ok (.ireturn, 1) := dk_172 (dk_at dksX1_began_8 16 rfl rfl)
def dkwX1_isLikeSketch_2 : List UInt8 := [159, 0, 5, 3, 172, 132, 2, 1, 167, 255, 203, 4, 172]
abbrev dktX1_isLikeSketch_2 : List UInt8 := dkwX1_isLikeSketch_2 ++ []
def dkwX1_isLikeSketch_1 : List UInt8 := [159, 0, 28, 42, 28, 182, 1, 31, 6, 159, 0, 19, 42, 28, 182, 1, 31, 43, 180, 0, 228, 28, 46]
abbrev dktX1_isLikeSketch_1 : List UInt8 := dkwX1_isLikeSketch_1 ++ dktX1_isLikeSketch_2
def dkwX1_isLikeSketch_0 : List UInt8 := [3, 61, 28, 42, 180, 0, 19, 182, 1, 71, 162, 0, 48, 42, 180, 0, 19, 180, 0, 143, 28, 46, 16, 9]
abbrev dktX1_isLikeSketch_0 : List UInt8 := dkwX1_isLikeSketch_0 ++ dktX1_isLikeSketch_1
theorem dksX1_isLikeSketch_0 : cX1_isLikeSketch.data.toList.drop 0 = dktX1_isLikeSketch_0 := by decide +kernel
theorem dksX1_isLikeSketch_1 : cX1_isLikeSketch.data.toList.drop 24 = dktX1_isLikeSketch_1 := dk_seg dksX1_isLikeSketch_0 24 rfl rfl
theorem dksX1_isLikeSketch_2 : cX1_isLikeSketch.data.toList.drop 47 = dktX1_isLikeSketch_2 := dk_seg dksX1_isLikeSketch_1 23 rfl rfl
theorem dX1_isLikeSketch_0 : decode cX1_isLikeSketch 0 = .ok (.iconst 0, 1) := dk_3 (dk_at dksX1_isLikeSketch_0 0 rfl rfl)
theorem dX1_isLikeSketch_1 : decode cX1_isLikeSketch 1 = .ok (.istore_n 2, 1) := dk_61 (dk_at dksX1_isLikeSketch_0 1 rfl rfl)
theorem dX1_isLikeSketch_2 : decode cX1_isLikeSketch 2 = .ok (.iload_n 2, 1) := dk_28 (dk_at dksX1_isLikeSketch_0 2 rfl rfl)
theorem dX1_isLikeSketch_3 : decode cX1_isLikeSketch 3 = .ok (.aload_n 0, 1) := dk_42 (dk_at dksX1_isLikeSketch_0 3 rfl rfl)
theorem dX1_isLikeSketch_4 : decode cX1_isLikeSketch 4 = .ok (.getfield 19, 3) := dk_180 0 19 (dk_at dksX1_isLikeSketch_0 4 rfl rfl)
theorem dX1_isLikeSketch_7 : decode cX1_isLikeSketch 7 = .ok (.invokevirtual 327, 3) := dk_182 1 71 (dk_at dksX1_isLikeSketch_0 7 rfl rfl)
theorem dX1_isLikeSketch_10 : decode cX1_isLikeSketch 10 = .ok (.if_icmp .ge 48, 3) := dk_162 0 48 (dk_at dksX1_isLikeSketch_0 10 rfl rfl)
theorem dX1_isLikeSketch_13 : decode cX1_isLikeSketch 13 = .ok (.aload_n 0, 1) := dk_42 (dk_at dksX1_isLikeSketch_0 13 rfl rfl)
theorem dX1_isLikeSketch_14 : decode cX1_isLikeSketch 14 = .ok (.getfield 19, 3) := dk_180 0 19 (dk_at dksX1_isLikeSketch_0 14 rfl rfl)
theorem dX1_isLikeSketch_17 : decode cX1_isLikeSketch 17 = .ok (.getfield 143, 3) := dk_180 0 143 (dk_at dksX1_isLikeSketch_0 17 rfl rfl)
theorem dX1_isLikeSketch_20 : decode cX1_isLikeSketch 20 = .ok (.iload_n 2, 1) := dk_28 (dk_at dksX1_isLikeSketch_0 20 rfl rfl)
theorem dX1_isLikeSketch_21 : decode cX1_isLikeSketch 21 = .ok (.iaload, 1) := dk_46 (dk_at dksX1_isLikeSketch_0 21 rfl rfl)
theorem dX1_isLikeSketch_22 : decode cX1_isLikeSketch 22 = .ok (.bipush 9, 2) := dk_16 9 (dk_at dksX1_isLikeSketch_0 22 rfl rfl)
theorem dX1_isLikeSketch_24 : decode cX1_isLikeSketch 24 = .ok (.if_icmp .eq 28, 3) := dk_159 0 28 (dk_at dksX1_isLikeSketch_1 0 rfl rfl)
theorem dX1_isLikeSketch_27 : decode cX1_isLikeSketch 27 = .ok (.aload_n 0, 1) := dk_42 (dk_at dksX1_isLikeSketch_1 3 rfl rfl)
theorem dX1_isLikeSketch_28 : decode cX1_isLikeSketch 28 = .ok (.iload_n 2, 1) := dk_28 (dk_at dksX1_isLikeSketch_1 4 rfl rfl)
theorem dX1_isLikeSketch_29 : decode cX1_isLikeSketch 29 = .ok (.invokevirtual 287, 3) := dk_182 1 31 (dk_at dksX1_isLikeSketch_1 5 rfl rfl)
theorem dX1_isLikeSketch_32 : decode cX1_isLikeSketch 32 = .ok (.iconst 3, 1) := dk_6 (dk_at dksX1_isLikeSketch_1 8 rfl rfl)
theorem dX1_isLikeSketch_33 : decode cX1_isLikeSketch 33 = .ok (.if_icmp .eq 19, 3) := dk_159 0 19 (dk_at dksX1_isLikeSketch_1 9 rfl rfl)
theorem dX1_isLikeSketch_36 : decode cX1_isLikeSketch 36 = .ok (.aload_n 0, 1) := dk_42 (dk_at dksX1_isLikeSketch_1 12 rfl rfl)
theorem dX1_isLikeSketch_37 : decode cX1_isLikeSketch 37 = .ok (.iload_n 2, 1) := dk_28 (dk_at dksX1_isLikeSketch_1 13 rfl rfl)
theorem dX1_isLikeSketch_38 : decode cX1_isLikeSketch 38 = .ok (.invokevirtual 287, 3) := dk_182 1 31 (dk_at dksX1_isLikeSketch_1 14 rfl rfl)
theorem dX1_isLikeSketch_41 : decode cX1_isLikeSketch 41 = .ok (.aload_n 1, 1) := dk_43 (dk_at dksX1_isLikeSketch_1 17 rfl rfl)
theorem dX1_isLikeSketch_42 : decode cX1_isLikeSketch 42 = .ok (.getfield 228, 3) := dk_180 0 228 (dk_at dksX1_isLikeSketch_1 18 rfl rfl)
theorem dX1_isLikeSketch_45 : decode cX1_isLikeSketch 45 = .ok (.iload_n 2, 1) := dk_28 (dk_at dksX1_isLikeSketch_1 21 rfl rfl)
theorem dX1_isLikeSketch_46 : decode cX1_isLikeSketch 46 = .ok (.iaload, 1) := dk_46 (dk_at dksX1_isLikeSketch_1 22 rfl rfl)
theorem dX1_isLikeSketch_47 : decode cX1_isLikeSketch 47 = .ok (.if_icmp .eq 5, 3) := dk_159 0 5 (dk_at dksX1_isLikeSketch_2 0 rfl rfl)
theorem dX1_isLikeSketch_50 : decode cX1_isLikeSketch 50 = .ok (.iconst 0, 1) := dk_3 (dk_at dksX1_isLikeSketch_2 3 rfl rfl)
theorem dX1_isLikeSketch_51 : decode cX1_isLikeSketch 51 = .ok (.ireturn, 1) := dk_172 (dk_at dksX1_isLikeSketch_2 4 rfl rfl)
theorem dX1_isLikeSketch_52 : decode cX1_isLikeSketch 52 = .ok (.iinc 2 1, 3) := dk_132 2 1 (dk_at dksX1_isLikeSketch_2 5 rfl rfl)
theorem dX1_isLikeSketch_55 : decode cX1_isLikeSketch 55 = .ok (.goto (-53), 3) := dk_167 255 203 (dk_at dksX1_isLikeSketch_2 8 rfl rfl)
theorem dX1_isLikeSketch_58 : decode cX1_isLikeSketch 58 = .ok (.iconst 1, 1) := dk_4 (dk_at dksX1_isLikeSketch_2 11 rfl rfl)
theorem dX1_isLikeSketch_59 : decode cX1_isLikeSketch 59 = .ok (.ireturn, 1) := dk_172 (dk_at dksX1_isLikeSketch_2 12 rfl rfl)
def dkwX1_beganAt_1 : List UInt8 := [172]
abbrev dktX1_beganAt_1 : List UInt8 := dkwX1_beganAt_1 ++ []
def dkwX1_beganAt_0 : List UInt8 := [27, 154, 0, 10, 42, 180, 0, 72, 167, 0, 16, 27, 4, 160, 0, 10, 42, 180, 0, 75, 167, 0, 4, 2]
abbrev dktX1_beganAt_0 : List UInt8 := dkwX1_beganAt_0 ++ dktX1_beganAt_1
theorem dksX1_beganAt_0 : cX1_beganAt.data.toList.drop 0 = dktX1_beganAt_0 := by decide +kernel
theorem dksX1_beganAt_1 : cX1_beganAt.data.toList.drop 24 = dktX1_beganAt_1 := dk_seg dksX1_beganAt_0 24 rfl rfl
theorem dX1_beganAt_0 : decode cX1_beganAt 0 = .ok (.iload_n 1, 1) := dk_27 (dk_at dksX1_beganAt_0 0 rfl rfl)
theorem dX1_beganAt_1 : decode cX1_beganAt 1 = .ok (.ifCond .ne 10, 3) := dk_154 0 10 (dk_at dksX1_beganAt_0 1 rfl rfl)
theorem dX1_beganAt_4 : decode cX1_beganAt 4 = .ok (.aload_n 0, 1) := dk_42 (dk_at dksX1_beganAt_0 4 rfl rfl)
theorem dX1_beganAt_5 : decode cX1_beganAt 5 = .ok (.getfield 72, 3) := dk_180 0 72 (dk_at dksX1_beganAt_0 5 rfl rfl)
theorem dX1_beganAt_8 : decode cX1_beganAt 8 = .ok (.goto 16, 3) := dk_167 0 16 (dk_at dksX1_beganAt_0 8 rfl rfl)
theorem dX1_beganAt_11 : decode cX1_beganAt 11 = .ok (.iload_n 1, 1) := dk_27 (dk_at dksX1_beganAt_0 11 rfl rfl)
theorem dX1_beganAt_12 : decode cX1_beganAt 12 = .ok (.iconst 1, 1) := dk_4 (dk_at dksX1_beganAt_0 12 rfl rfl)
theorem dX1_beganAt_13 : decode cX1_beganAt 13 = .ok (.if_icmp .ne 10, 3) := dk_160 0 10 (dk_at dksX1_beganAt_0 13 rfl rfl)
theorem dX1_beganAt_16 : decode cX1_beganAt 16 = .ok (.aload_n 0, 1) := dk_42 (dk_at dksX1_beganAt_0 16 rfl rfl)
theorem dX1_beganAt_17 : decode cX1_beganAt 17 = .ok (.getfield 75, 3) := dk_180 0 75 (dk_at dksX1_beganAt_0 17 rfl rfl)
theorem dX1_beganAt_20 : decode cX1_beganAt 20 = .ok (.goto 4, 3) := dk_167 0 4 (dk_at dksX1_beganAt_0 20 rfl rfl)
theorem dX1_beganAt_23 : decode cX1_beganAt 23 = .ok (.iconst (-1), 1) := dk_2 (dk_at dksX1_beganAt_0 23 rfl rfl)
theorem dX1_beganAt_24 : decode cX1_beganAt 24 = .ok (.ireturn, 1) := dk_172 (dk_at dksX1_beganAt_1 0 rfl rfl)
def dkwX1_parts_5 : List UInt8 := [16, 60, 160, 0, 5, 2, 172, 45, 182, 0, 248, 25, 4, 182, 0, 248, 167, 255, 192]
abbrev dktX1_parts_5 : List UInt8 := dkwX1_parts_5 ++ []
def dkwX1_parts_4 : List UInt8 := [180, 0, 228, 21, 5, 46, 159, 0, 8, 45, 180, 0, 245, 172, 132, 5, 1, 167, 255, 218, 45, 180, 0, 245]
abbrev dktX1_parts_4 : List UInt8 := dkwX1_parts_4 ++ dktX1_parts_5
def dkwX1_parts_3 : List UInt8 := [54, 5, 21, 5, 42, 180, 0, 19, 182, 1, 71, 162, 0, 32, 45, 180, 0, 228, 21, 5, 46, 25, 4]
abbrev dktX1_parts_3 : List UInt8 := dkwX1_parts_3 ++ dktX1_parts_4
def dkwX1_parts_2 : List UInt8 := [180, 0, 37, 42, 180, 0, 19, 42, 180, 0, 26, 10, 28, 121, 42, 180, 0, 117, 182, 0, 201, 58, 4, 3]
abbrev dktX1_parts_2 : List UInt8 := dkwX1_parts_2 ++ dktX1_parts_3
def dkwX1_parts_1 : List UInt8 := [42, 180, 0, 33, 42, 180, 0, 19, 42, 180, 0, 26, 10, 27, 121, 42, 180, 0, 117, 182, 0, 201, 78, 42]
abbrev dktX1_parts_1 : List UInt8 := dkwX1_parts_1 ++ dktX1_parts_2
def dkwX1_parts_0 : List UInt8 := [42, 180, 0, 19, 27, 182, 0, 131, 153, 0, 14, 42, 180, 0, 19, 28, 182, 0, 131, 154, 0, 5, 2, 172]
abbrev dktX1_parts_0 : List UInt8 := dkwX1_parts_0 ++ dktX1_parts_1
theorem dksX1_parts_0 : cX1_parts.data.toList.drop 0 = dktX1_parts_0 := by decide +kernel
theorem dksX1_parts_1 : cX1_parts.data.toList.drop 24 = dktX1_parts_1 := dk_seg dksX1_parts_0 24 rfl rfl
theorem dksX1_parts_2 : cX1_parts.data.toList.drop 48 = dktX1_parts_2 := dk_seg dksX1_parts_1 24 rfl rfl
theorem dksX1_parts_3 : cX1_parts.data.toList.drop 72 = dktX1_parts_3 := dk_seg dksX1_parts_2 24 rfl rfl
theorem dksX1_parts_4 : cX1_parts.data.toList.drop 95 = dktX1_parts_4 := dk_seg dksX1_parts_3 23 rfl rfl
theorem dksX1_parts_5 : cX1_parts.data.toList.drop 119 = dktX1_parts_5 := dk_seg dksX1_parts_4 24 rfl rfl
theorem dX1_parts_0 : decode cX1_parts 0 = .ok (.aload_n 0, 1) := dk_42 (dk_at dksX1_parts_0 0 rfl rfl)
theorem dX1_parts_1 : decode cX1_parts 1 = .ok (.getfield 19, 3) := dk_180 0 19 (dk_at dksX1_parts_0 1 rfl rfl)
theorem dX1_parts_4 : decode cX1_parts 4 = .ok (.iload_n 1, 1) := dk_27 (dk_at dksX1_parts_0 4 rfl rfl)
theorem dX1_parts_5 : decode cX1_parts 5 = .ok (.invokevirtual 131, 3) := dk_182 0 131 (dk_at dksX1_parts_0 5 rfl rfl)
theorem dX1_parts_8 : decode cX1_parts 8 = .ok (.ifCond .eq 14, 3) := dk_153 0 14 (dk_at dksX1_parts_0 8 rfl rfl)
theorem dX1_parts_11 : decode cX1_parts 11 = .ok (.aload_n 0, 1) := dk_42 (dk_at dksX1_parts_0 11 rfl rfl)
theorem dX1_parts_12 : decode cX1_parts 12 = .ok (.getfield 19, 3) := dk_180 0 19 (dk_at dksX1_parts_0 12 rfl rfl)
theorem dX1_parts_15 : decode cX1_parts 15 = .ok (.iload_n 2, 1) := dk_28 (dk_at dksX1_parts_0 15 rfl rfl)
theorem dX1_parts_16 : decode cX1_parts 16 = .ok (.invokevirtual 131, 3) := dk_182 0 131 (dk_at dksX1_parts_0 16 rfl rfl)
theorem dX1_parts_19 : decode cX1_parts 19 = .ok (.ifCond .ne 5, 3) := dk_154 0 5 (dk_at dksX1_parts_0 19 rfl rfl)
theorem dX1_parts_22 : decode cX1_parts 22 = .ok (.iconst (-1), 1) := dk_2 (dk_at dksX1_parts_0 22 rfl rfl)
theorem dX1_parts_23 : decode cX1_parts 23 = .ok (.ireturn, 1) := dk_172 (dk_at dksX1_parts_0 23 rfl rfl)
theorem dX1_parts_24 : decode cX1_parts 24 = .ok (.aload_n 0, 1) := dk_42 (dk_at dksX1_parts_1 0 rfl rfl)
theorem dX1_parts_25 : decode cX1_parts 25 = .ok (.getfield 33, 3) := dk_180 0 33 (dk_at dksX1_parts_1 1 rfl rfl)
theorem dX1_parts_28 : decode cX1_parts 28 = .ok (.aload_n 0, 1) := dk_42 (dk_at dksX1_parts_1 4 rfl rfl)
theorem dX1_parts_29 : decode cX1_parts 29 = .ok (.getfield 19, 3) := dk_180 0 19 (dk_at dksX1_parts_1 5 rfl rfl)
theorem dX1_parts_32 : decode cX1_parts 32 = .ok (.aload_n 0, 1) := dk_42 (dk_at dksX1_parts_1 8 rfl rfl)
theorem dX1_parts_33 : decode cX1_parts 33 = .ok (.getfield 26, 3) := dk_180 0 26 (dk_at dksX1_parts_1 9 rfl rfl)
theorem dX1_parts_36 : decode cX1_parts 36 = .ok (.lconst 1, 1) := dk_10 (dk_at dksX1_parts_1 12 rfl rfl)
theorem dX1_parts_37 : decode cX1_parts 37 = .ok (.iload_n 1, 1) := dk_27 (dk_at dksX1_parts_1 13 rfl rfl)
theorem dX1_parts_38 : decode cX1_parts 38 = .ok (.lshl, 1) := dk_121 (dk_at dksX1_parts_1 14 rfl rfl)
theorem dX1_parts_39 : decode cX1_parts 39 = .ok (.aload_n 0, 1) := dk_42 (dk_at dksX1_parts_1 15 rfl rfl)
theorem dX1_parts_40 : decode cX1_parts 40 = .ok (.getfield 117, 3) := dk_180 0 117 (dk_at dksX1_parts_1 16 rfl rfl)
theorem dX1_parts_43 : decode cX1_parts 43 = .ok (.invokevirtual 201, 3) := dk_182 0 201 (dk_at dksX1_parts_1 19 rfl rfl)
theorem dX1_parts_46 : decode cX1_parts 46 = .ok (.astore_n 3, 1) := dk_78 (dk_at dksX1_parts_1 22 rfl rfl)
theorem dX1_parts_47 : decode cX1_parts 47 = .ok (.aload_n 0, 1) := dk_42 (dk_at dksX1_parts_1 23 rfl rfl)
theorem dX1_parts_48 : decode cX1_parts 48 = .ok (.getfield 37, 3) := dk_180 0 37 (dk_at dksX1_parts_2 0 rfl rfl)
theorem dX1_parts_51 : decode cX1_parts 51 = .ok (.aload_n 0, 1) := dk_42 (dk_at dksX1_parts_2 3 rfl rfl)
theorem dX1_parts_52 : decode cX1_parts 52 = .ok (.getfield 19, 3) := dk_180 0 19 (dk_at dksX1_parts_2 4 rfl rfl)
theorem dX1_parts_55 : decode cX1_parts 55 = .ok (.aload_n 0, 1) := dk_42 (dk_at dksX1_parts_2 7 rfl rfl)
theorem dX1_parts_56 : decode cX1_parts 56 = .ok (.getfield 26, 3) := dk_180 0 26 (dk_at dksX1_parts_2 8 rfl rfl)
theorem dX1_parts_59 : decode cX1_parts 59 = .ok (.lconst 1, 1) := dk_10 (dk_at dksX1_parts_2 11 rfl rfl)
theorem dX1_parts_60 : decode cX1_parts 60 = .ok (.iload_n 2, 1) := dk_28 (dk_at dksX1_parts_2 12 rfl rfl)
theorem dX1_parts_61 : decode cX1_parts 61 = .ok (.lshl, 1) := dk_121 (dk_at dksX1_parts_2 13 rfl rfl)
theorem dX1_parts_62 : decode cX1_parts 62 = .ok (.aload_n 0, 1) := dk_42 (dk_at dksX1_parts_2 14 rfl rfl)
theorem dX1_parts_63 : decode cX1_parts 63 = .ok (.getfield 117, 3) := dk_180 0 117 (dk_at dksX1_parts_2 15 rfl rfl)
theorem dX1_parts_66 : decode cX1_parts 66 = .ok (.invokevirtual 201, 3) := dk_182 0 201 (dk_at dksX1_parts_2 18 rfl rfl)
theorem dX1_parts_69 : decode cX1_parts 69 = .ok (.astore 4, 2) := dk_58 4 (dk_at dksX1_parts_2 21 rfl rfl)
theorem dX1_parts_71 : decode cX1_parts 71 = .ok (.iconst 0, 1) := dk_3 (dk_at dksX1_parts_2 23 rfl rfl)
theorem dX1_parts_72 : decode cX1_parts 72 = .ok (.istore 5, 2) := dk_54 5 (dk_at dksX1_parts_3 0 rfl rfl)
theorem dX1_parts_74 : decode cX1_parts 74 = .ok (.iload 5, 2) := dk_21 5 (dk_at dksX1_parts_3 2 rfl rfl)
theorem dX1_parts_76 : decode cX1_parts 76 = .ok (.aload_n 0, 1) := dk_42 (dk_at dksX1_parts_3 4 rfl rfl)
theorem dX1_parts_77 : decode cX1_parts 77 = .ok (.getfield 19, 3) := dk_180 0 19 (dk_at dksX1_parts_3 5 rfl rfl)
theorem dX1_parts_80 : decode cX1_parts 80 = .ok (.invokevirtual 327, 3) := dk_182 1 71 (dk_at dksX1_parts_3 8 rfl rfl)
theorem dX1_parts_83 : decode cX1_parts 83 = .ok (.if_icmp .ge 32, 3) := dk_162 0 32 (dk_at dksX1_parts_3 11 rfl rfl)
theorem dX1_parts_86 : decode cX1_parts 86 = .ok (.aload_n 3, 1) := dk_45 (dk_at dksX1_parts_3 14 rfl rfl)
theorem dX1_parts_87 : decode cX1_parts 87 = .ok (.getfield 228, 3) := dk_180 0 228 (dk_at dksX1_parts_3 15 rfl rfl)
theorem dX1_parts_90 : decode cX1_parts 90 = .ok (.iload 5, 2) := dk_21 5 (dk_at dksX1_parts_3 18 rfl rfl)
theorem dX1_parts_92 : decode cX1_parts 92 = .ok (.iaload, 1) := dk_46 (dk_at dksX1_parts_3 20 rfl rfl)
theorem dX1_parts_93 : decode cX1_parts 93 = .ok (.aload 4, 2) := dk_25 4 (dk_at dksX1_parts_3 21 rfl rfl)
theorem dX1_parts_95 : decode cX1_parts 95 = .ok (.getfield 228, 3) := dk_180 0 228 (dk_at dksX1_parts_4 0 rfl rfl)
theorem dX1_parts_98 : decode cX1_parts 98 = .ok (.iload 5, 2) := dk_21 5 (dk_at dksX1_parts_4 3 rfl rfl)
theorem dX1_parts_100 : decode cX1_parts 100 = .ok (.iaload, 1) := dk_46 (dk_at dksX1_parts_4 5 rfl rfl)
theorem dX1_parts_101 : decode cX1_parts 101 = .ok (.if_icmp .eq 8, 3) := dk_159 0 8 (dk_at dksX1_parts_4 6 rfl rfl)
theorem dX1_parts_104 : decode cX1_parts 104 = .ok (.aload_n 3, 1) := dk_45 (dk_at dksX1_parts_4 9 rfl rfl)
theorem dX1_parts_105 : decode cX1_parts 105 = .ok (.getfield 245, 3) := dk_180 0 245 (dk_at dksX1_parts_4 10 rfl rfl)
theorem dX1_parts_108 : decode cX1_parts 108 = .ok (.ireturn, 1) := dk_172 (dk_at dksX1_parts_4 13 rfl rfl)
theorem dX1_parts_109 : decode cX1_parts 109 = .ok (.iinc 5 1, 3) := dk_132 5 1 (dk_at dksX1_parts_4 14 rfl rfl)
theorem dX1_parts_112 : decode cX1_parts 112 = .ok (.goto (-38), 3) := dk_167 255 218 (dk_at dksX1_parts_4 17 rfl rfl)
theorem dX1_parts_115 : decode cX1_parts 115 = .ok (.aload_n 3, 1) := dk_45 (dk_at dksX1_parts_4 20 rfl rfl)
theorem dX1_parts_116 : decode cX1_parts 116 = .ok (.getfield 245, 3) := dk_180 0 245 (dk_at dksX1_parts_4 21 rfl rfl)
theorem dX1_parts_119 : decode cX1_parts 119 = .ok (.bipush 60, 2) := dk_16 60 (dk_at dksX1_parts_5 0 rfl rfl)
theorem dX1_parts_121 : decode cX1_parts 121 = .ok (.if_icmp .ne 5, 3) := dk_160 0 5 (dk_at dksX1_parts_5 2 rfl rfl)
theorem dX1_parts_124 : decode cX1_parts 124 = .ok (.iconst (-1), 1) := dk_2 (dk_at dksX1_parts_5 5 rfl rfl)
theorem dX1_parts_125 : decode cX1_parts 125 = .ok (.ireturn, 1) := dk_172 (dk_at dksX1_parts_5 6 rfl rfl)
theorem dX1_parts_126 : decode cX1_parts 126 = .ok (.aload_n 3, 1) := dk_45 (dk_at dksX1_parts_5 7 rfl rfl)
theorem dX1_parts_127 : decode cX1_parts 127 = .ok (.invokevirtual 248, 3) := dk_182 0 248 (dk_at dksX1_parts_5 8 rfl rfl)
theorem dX1_parts_130 : decode cX1_parts 130 = .ok (.aload 4, 2) := dk_25 4 (dk_at dksX1_parts_5 11 rfl rfl)
theorem dX1_parts_132 : decode cX1_parts 132 = .ok (.invokevirtual 248, 3) := dk_182 0 248 (dk_at dksX1_parts_5 13 rfl rfl)
theorem dX1_parts_135 : decode cX1_parts 135 = .ok (.goto (-64), 3) := dk_167 255 192 (dk_at dksX1_parts_5 16 rfl rfl)
def dkwX1_exchanged_6 : List UInt8 := [43, 28, 29, 182, 1, 83, 132, 3, 1, 167, 255, 165, 132, 2, 1, 167, 255, 144, 2, 172]
abbrev dktX1_exchanged_6 : List UInt8 := dkwX1_exchanged_6 ++ []
def dkwX1_exchanged_5 : List UInt8 := [28, 29, 182, 1, 83, 42, 43, 42, 180, 0, 114, 182, 1, 51, 153, 0, 10, 16, 100, 28, 104, 29, 96, 172]
abbrev dktX1_exchanged_5 : List UInt8 := dkwX1_exchanged_5 ++ dktX1_exchanged_6
def dkwX1_exchanged_4 : List UInt8 := [180, 0, 19, 180, 0, 143, 28, 46, 42, 180, 0, 19, 180, 0, 143, 29, 46, 160, 0, 6, 167, 0, 34, 43]
abbrev dktX1_exchanged_4 : List UInt8 := dkwX1_exchanged_4 ++ dktX1_exchanged_5
def dkwX1_exchanged_3 : List UInt8 := [180, 0, 19, 28, 182, 0, 131, 153, 0, 69, 42, 180, 0, 19, 29, 182, 0, 131, 153, 0, 58, 42]
abbrev dktX1_exchanged_3 : List UInt8 := dkwX1_exchanged_3 ++ dktX1_exchanged_4
def dkwX1_exchanged_2 : List UInt8 := [182, 1, 71, 162, 0, 107, 28, 4, 96, 62, 29, 42, 180, 0, 19, 182, 1, 71, 162, 0, 86, 42]
abbrev dktX1_exchanged_2 : List UInt8 := dkwX1_exchanged_2 ++ dktX1_exchanged_3
def dkwX1_exchanged_1 : List UInt8 := [153, 0, 5, 2, 172, 42, 180, 0, 19, 3, 3, 182, 1, 79, 76, 3, 61, 28, 42, 180, 0, 19]
abbrev dktX1_exchanged_1 : List UInt8 := dkwX1_exchanged_1 ++ dktX1_exchanged_2
def dkwX1_exchanged_0 : List UInt8 := [42, 180, 0, 19, 182, 1, 72, 16, 24, 163, 0, 18, 42, 42, 180, 0, 19, 42, 180, 0, 114, 182, 1, 51]
abbrev dktX1_exchanged_0 : List UInt8 := dkwX1_exchanged_0 ++ dktX1_exchanged_1
theorem dksX1_exchanged_0 : cX1_exchanged.data.toList.drop 0 = dktX1_exchanged_0 := by decide +kernel
theorem dksX1_exchanged_1 : cX1_exchanged.data.toList.drop 24 = dktX1_exchanged_1 := dk_seg dksX1_exchanged_0 24 rfl rfl
theorem dksX1_exchanged_2 : cX1_exchanged.data.toList.drop 46 = dktX1_exchanged_2 := dk_seg dksX1_exchanged_1 22 rfl rfl
theorem dksX1_exchanged_3 : cX1_exchanged.data.toList.drop 68 = dktX1_exchanged_3 := dk_seg dksX1_exchanged_2 22 rfl rfl
theorem dksX1_exchanged_4 : cX1_exchanged.data.toList.drop 90 = dktX1_exchanged_4 := dk_seg dksX1_exchanged_3 22 rfl rfl
theorem dksX1_exchanged_5 : cX1_exchanged.data.toList.drop 114 = dktX1_exchanged_5 := dk_seg dksX1_exchanged_4 24 rfl rfl
theorem dksX1_exchanged_6 : cX1_exchanged.data.toList.drop 138 = dktX1_exchanged_6 := dk_seg dksX1_exchanged_5 24 rfl rfl
theorem dX1_exchanged_0 : decode cX1_exchanged 0 = .ok (.aload_n 0, 1) := dk_42 (dk_at dksX1_exchanged_0 0 rfl rfl)
theorem dX1_exchanged_1 : decode cX1_exchanged 1 = .ok (.getfield 19, 3) := dk_180 0 19 (dk_at dksX1_exchanged_0 1 rfl rfl)
theorem dX1_exchanged_4 : decode cX1_exchanged 4 = .ok (.invokevirtual 328, 3) := dk_182 1 72 (dk_at dksX1_exchanged_0 4 rfl rfl)
theorem dX1_exchanged_7 : decode cX1_exchanged 7 = .ok (.bipush 24, 2) := dk_16 24 (dk_at dksX1_exchanged_0 7 rfl rfl)
theorem dX1_exchanged_9 : decode cX1_exchanged 9 = .ok (.if_icmp .gt 18, 3) := dk_163 0 18 (dk_at dksX1_exchanged_0 9 rfl rfl)
theorem dX1_exchanged_12 : decode cX1_exchanged 12 = .ok (.aload_n 0, 1) := dk_42 (dk_at dksX1_exchanged_0 12 rfl rfl)
theorem dX1_exchanged_13 : decode cX1_exchanged 13 = .ok (.aload_n 0, 1) := dk_42 (dk_at dksX1_exchanged_0 13 rfl rfl)
theorem dX1_exchanged_14 : decode cX1_exchanged 14 = .ok (.getfield 19, 3) := dk_180 0 19 (dk_at dksX1_exchanged_0 14 rfl rfl)
theorem dX1_exchanged_17 : decode cX1_exchanged 17 = .ok (.aload_n 0, 1) := dk_42 (dk_at dksX1_exchanged_0 17 rfl rfl)
theorem dX1_exchanged_18 : decode cX1_exchanged 18 = .ok (.getfield 114, 3) := dk_180 0 114 (dk_at dksX1_exchanged_0 18 rfl rfl)
theorem dX1_exchanged_21 : decode cX1_exchanged 21 = .ok (.invokevirtual 307, 3) := dk_182 1 51 (dk_at dksX1_exchanged_0 21 rfl rfl)
theorem dX1_exchanged_24 : decode cX1_exchanged 24 = .ok (.ifCond .eq 5, 3) := dk_153 0 5 (dk_at dksX1_exchanged_1 0 rfl rfl)
theorem dX1_exchanged_27 : decode cX1_exchanged 27 = .ok (.iconst (-1), 1) := dk_2 (dk_at dksX1_exchanged_1 3 rfl rfl)
theorem dX1_exchanged_28 : decode cX1_exchanged 28 = .ok (.ireturn, 1) := dk_172 (dk_at dksX1_exchanged_1 4 rfl rfl)
theorem dX1_exchanged_29 : decode cX1_exchanged 29 = .ok (.aload_n 0, 1) := dk_42 (dk_at dksX1_exchanged_1 5 rfl rfl)
theorem dX1_exchanged_30 : decode cX1_exchanged 30 = .ok (.getfield 19, 3) := dk_180 0 19 (dk_at dksX1_exchanged_1 6 rfl rfl)
theorem dX1_exchanged_33 : decode cX1_exchanged 33 = .ok (.iconst 0, 1) := dk_3 (dk_at dksX1_exchanged_1 9 rfl rfl)
theorem dX1_exchanged_34 : decode cX1_exchanged 34 = .ok (.iconst 0, 1) := dk_3 (dk_at dksX1_exchanged_1 10 rfl rfl)
theorem dX1_exchanged_35 : decode cX1_exchanged 35 = .ok (.invokevirtual 335, 3) := dk_182 1 79 (dk_at dksX1_exchanged_1 11 rfl rfl)
theorem dX1_exchanged_38 : decode cX1_exchanged 38 = .ok (.astore_n 1, 1) := dk_76 (dk_at dksX1_exchanged_1 14 rfl rfl)
theorem dX1_exchanged_39 : decode cX1_exchanged 39 = .ok (.iconst 0, 1) := dk_3 (dk_at dksX1_exchanged_1 15 rfl rfl)
theorem dX1_exchanged_40 : decode cX1_exchanged 40 = .ok (.istore_n 2, 1) := dk_61 (dk_at dksX1_exchanged_1 16 rfl rfl)
theorem dX1_exchanged_41 : decode cX1_exchanged 41 = .ok (.iload_n 2, 1) := dk_28 (dk_at dksX1_exchanged_1 17 rfl rfl)
theorem dX1_exchanged_42 : decode cX1_exchanged 42 = .ok (.aload_n 0, 1) := dk_42 (dk_at dksX1_exchanged_1 18 rfl rfl)
theorem dX1_exchanged_43 : decode cX1_exchanged 43 = .ok (.getfield 19, 3) := dk_180 0 19 (dk_at dksX1_exchanged_1 19 rfl rfl)
theorem dX1_exchanged_46 : decode cX1_exchanged 46 = .ok (.invokevirtual 327, 3) := dk_182 1 71 (dk_at dksX1_exchanged_2 0 rfl rfl)
theorem dX1_exchanged_49 : decode cX1_exchanged 49 = .ok (.if_icmp .ge 107, 3) := dk_162 0 107 (dk_at dksX1_exchanged_2 3 rfl rfl)
theorem dX1_exchanged_52 : decode cX1_exchanged 52 = .ok (.iload_n 2, 1) := dk_28 (dk_at dksX1_exchanged_2 6 rfl rfl)
theorem dX1_exchanged_53 : decode cX1_exchanged 53 = .ok (.iconst 1, 1) := dk_4 (dk_at dksX1_exchanged_2 7 rfl rfl)
theorem dX1_exchanged_54 : decode cX1_exchanged 54 = .ok (.iadd, 1) := dk_96 (dk_at dksX1_exchanged_2 8 rfl rfl)
theorem dX1_exchanged_55 : decode cX1_exchanged 55 = .ok (.istore_n 3, 1) := dk_62 (dk_at dksX1_exchanged_2 9 rfl rfl)
theorem dX1_exchanged_56 : decode cX1_exchanged 56 = .ok (.iload_n 3, 1) := dk_29 (dk_at dksX1_exchanged_2 10 rfl rfl)
theorem dX1_exchanged_57 : decode cX1_exchanged 57 = .ok (.aload_n 0, 1) := dk_42 (dk_at dksX1_exchanged_2 11 rfl rfl)
theorem dX1_exchanged_58 : decode cX1_exchanged 58 = .ok (.getfield 19, 3) := dk_180 0 19 (dk_at dksX1_exchanged_2 12 rfl rfl)
theorem dX1_exchanged_61 : decode cX1_exchanged 61 = .ok (.invokevirtual 327, 3) := dk_182 1 71 (dk_at dksX1_exchanged_2 15 rfl rfl)
theorem dX1_exchanged_64 : decode cX1_exchanged 64 = .ok (.if_icmp .ge 86, 3) := dk_162 0 86 (dk_at dksX1_exchanged_2 18 rfl rfl)
theorem dX1_exchanged_67 : decode cX1_exchanged 67 = .ok (.aload_n 0, 1) := dk_42 (dk_at dksX1_exchanged_2 21 rfl rfl)
theorem dX1_exchanged_68 : decode cX1_exchanged 68 = .ok (.getfield 19, 3) := dk_180 0 19 (dk_at dksX1_exchanged_3 0 rfl rfl)
theorem dX1_exchanged_71 : decode cX1_exchanged 71 = .ok (.iload_n 2, 1) := dk_28 (dk_at dksX1_exchanged_3 3 rfl rfl)
theorem dX1_exchanged_72 : decode cX1_exchanged 72 = .ok (.invokevirtual 131, 3) := dk_182 0 131 (dk_at dksX1_exchanged_3 4 rfl rfl)
theorem dX1_exchanged_75 : decode cX1_exchanged 75 = .ok (.ifCond .eq 69, 3) := dk_153 0 69 (dk_at dksX1_exchanged_3 7 rfl rfl)
theorem dX1_exchanged_78 : decode cX1_exchanged 78 = .ok (.aload_n 0, 1) := dk_42 (dk_at dksX1_exchanged_3 10 rfl rfl)
theorem dX1_exchanged_79 : decode cX1_exchanged 79 = .ok (.getfield 19, 3) := dk_180 0 19 (dk_at dksX1_exchanged_3 11 rfl rfl)
theorem dX1_exchanged_82 : decode cX1_exchanged 82 = .ok (.iload_n 3, 1) := dk_29 (dk_at dksX1_exchanged_3 14 rfl rfl)
theorem dX1_exchanged_83 : decode cX1_exchanged 83 = .ok (.invokevirtual 131, 3) := dk_182 0 131 (dk_at dksX1_exchanged_3 15 rfl rfl)
theorem dX1_exchanged_86 : decode cX1_exchanged 86 = .ok (.ifCond .eq 58, 3) := dk_153 0 58 (dk_at dksX1_exchanged_3 18 rfl rfl)
theorem dX1_exchanged_89 : decode cX1_exchanged 89 = .ok (.aload_n 0, 1) := dk_42 (dk_at dksX1_exchanged_3 21 rfl rfl)
theorem dX1_exchanged_90 : decode cX1_exchanged 90 = .ok (.getfield 19, 3) := dk_180 0 19 (dk_at dksX1_exchanged_4 0 rfl rfl)
theorem dX1_exchanged_93 : decode cX1_exchanged 93 = .ok (.getfield 143, 3) := dk_180 0 143 (dk_at dksX1_exchanged_4 3 rfl rfl)
theorem dX1_exchanged_96 : decode cX1_exchanged 96 = .ok (.iload_n 2, 1) := dk_28 (dk_at dksX1_exchanged_4 6 rfl rfl)
theorem dX1_exchanged_97 : decode cX1_exchanged 97 = .ok (.iaload, 1) := dk_46 (dk_at dksX1_exchanged_4 7 rfl rfl)
theorem dX1_exchanged_98 : decode cX1_exchanged 98 = .ok (.aload_n 0, 1) := dk_42 (dk_at dksX1_exchanged_4 8 rfl rfl)
theorem dX1_exchanged_99 : decode cX1_exchanged 99 = .ok (.getfield 19, 3) := dk_180 0 19 (dk_at dksX1_exchanged_4 9 rfl rfl)
theorem dX1_exchanged_102 : decode cX1_exchanged 102 = .ok (.getfield 143, 3) := dk_180 0 143 (dk_at dksX1_exchanged_4 12 rfl rfl)
theorem dX1_exchanged_105 : decode cX1_exchanged 105 = .ok (.iload_n 3, 1) := dk_29 (dk_at dksX1_exchanged_4 15 rfl rfl)
theorem dX1_exchanged_106 : decode cX1_exchanged 106 = .ok (.iaload, 1) := dk_46 (dk_at dksX1_exchanged_4 16 rfl rfl)
theorem dX1_exchanged_107 : decode cX1_exchanged 107 = .ok (.if_icmp .ne 6, 3) := dk_160 0 6 (dk_at dksX1_exchanged_4 17 rfl rfl)
theorem dX1_exchanged_110 : decode cX1_exchanged 110 = .ok (.goto 34, 3) := dk_167 0 34 (dk_at dksX1_exchanged_4 20 rfl rfl)
theorem dX1_exchanged_113 : decode cX1_exchanged 113 = .ok (.aload_n 1, 1) := dk_43 (dk_at dksX1_exchanged_4 23 rfl rfl)
theorem dX1_exchanged_114 : decode cX1_exchanged 114 = .ok (.iload_n 2, 1) := dk_28 (dk_at dksX1_exchanged_5 0 rfl rfl)
theorem dX1_exchanged_115 : decode cX1_exchanged 115 = .ok (.iload_n 3, 1) := dk_29 (dk_at dksX1_exchanged_5 1 rfl rfl)
theorem dX1_exchanged_116 : decode cX1_exchanged 116 = .ok (.invokevirtual 339, 3) := dk_182 1 83 (dk_at dksX1_exchanged_5 2 rfl rfl)
theorem dX1_exchanged_119 : decode cX1_exchanged 119 = .ok (.aload_n 0, 1) := dk_42 (dk_at dksX1_exchanged_5 5 rfl rfl)
theorem dX1_exchanged_120 : decode cX1_exchanged 120 = .ok (.aload_n 1, 1) := dk_43 (dk_at dksX1_exchanged_5 6 rfl rfl)
theorem dX1_exchanged_121 : decode cX1_exchanged 121 = .ok (.aload_n 0, 1) := dk_42 (dk_at dksX1_exchanged_5 7 rfl rfl)
theorem dX1_exchanged_122 : decode cX1_exchanged 122 = .ok (.getfield 114, 3) := dk_180 0 114 (dk_at dksX1_exchanged_5 8 rfl rfl)
theorem dX1_exchanged_125 : decode cX1_exchanged 125 = .ok (.invokevirtual 307, 3) := dk_182 1 51 (dk_at dksX1_exchanged_5 11 rfl rfl)
theorem dX1_exchanged_128 : decode cX1_exchanged 128 = .ok (.ifCond .eq 10, 3) := dk_153 0 10 (dk_at dksX1_exchanged_5 14 rfl rfl)
theorem dX1_exchanged_131 : decode cX1_exchanged 131 = .ok (.bipush 100, 2) := dk_16 100 (dk_at dksX1_exchanged_5 17 rfl rfl)
theorem dX1_exchanged_133 : decode cX1_exchanged 133 = .ok (.iload_n 2, 1) := dk_28 (dk_at dksX1_exchanged_5 19 rfl rfl)
theorem dX1_exchanged_134 : decode cX1_exchanged 134 = .ok (.imul, 1) := dk_104 (dk_at dksX1_exchanged_5 20 rfl rfl)
theorem dX1_exchanged_135 : decode cX1_exchanged 135 = .ok (.iload_n 3, 1) := dk_29 (dk_at dksX1_exchanged_5 21 rfl rfl)
theorem dX1_exchanged_136 : decode cX1_exchanged 136 = .ok (.iadd, 1) := dk_96 (dk_at dksX1_exchanged_5 22 rfl rfl)
theorem dX1_exchanged_137 : decode cX1_exchanged 137 = .ok (.ireturn, 1) := dk_172 (dk_at dksX1_exchanged_5 23 rfl rfl)
theorem dX1_exchanged_138 : decode cX1_exchanged 138 = .ok (.aload_n 1, 1) := dk_43 (dk_at dksX1_exchanged_6 0 rfl rfl)
theorem dX1_exchanged_139 : decode cX1_exchanged 139 = .ok (.iload_n 2, 1) := dk_28 (dk_at dksX1_exchanged_6 1 rfl rfl)
theorem dX1_exchanged_140 : decode cX1_exchanged 140 = .ok (.iload_n 3, 1) := dk_29 (dk_at dksX1_exchanged_6 2 rfl rfl)
theorem dX1_exchanged_141 : decode cX1_exchanged 141 = .ok (.invokevirtual 339, 3) := dk_182 1 83 (dk_at dksX1_exchanged_6 3 rfl rfl)
theorem dX1_exchanged_144 : decode cX1_exchanged 144 = .ok (.iinc 3 1, 3) := dk_132 3 1 (dk_at dksX1_exchanged_6 6 rfl rfl)
theorem dX1_exchanged_147 : decode cX1_exchanged 147 = .ok (.goto (-91), 3) := dk_167 255 165 (dk_at dksX1_exchanged_6 9 rfl rfl)
theorem dX1_exchanged_150 : decode cX1_exchanged 150 = .ok (.iinc 2 1, 3) := dk_132 2 1 (dk_at dksX1_exchanged_6 12 rfl rfl)
theorem dX1_exchanged_153 : decode cX1_exchanged 153 = .ok (.goto (-112), 3) := dk_167 255 144 (dk_at dksX1_exchanged_6 15 rfl rfl)
theorem dX1_exchanged_156 : decode cX1_exchanged 156 = .ok (.iconst (-1), 1) := dk_2 (dk_at dksX1_exchanged_6 18 rfl rfl)
theorem dX1_exchanged_157 : decode cX1_exchanged 157 = .ok (.ireturn, 1) := dk_172 (dk_at dksX1_exchanged_6 19 rfl rfl)
def dkwX1_exchange_1 : List UInt8 := [160, 0, 5, 3, 172, 42, 42, 180, 0, 19, 27, 28, 182, 1, 79, 181, 0, 19, 4, 172]
abbrev dktX1_exchange_1 : List UInt8 := dkwX1_exchange_1 ++ []
def dkwX1_exchange_0 : List UInt8 := [42, 180, 0, 19, 27, 182, 0, 131, 153, 0, 19, 42, 180, 0, 19, 28, 182, 0, 131, 153, 0, 8, 27, 28]
abbrev dktX1_exchange_0 : List UInt8 := dkwX1_exchange_0 ++ dktX1_exchange_1
theorem dksX1_exchange_0 : cX1_exchange.data.toList.drop 0 = dktX1_exchange_0 := by decide +kernel
theorem dksX1_exchange_1 : cX1_exchange.data.toList.drop 24 = dktX1_exchange_1 := dk_seg dksX1_exchange_0 24 rfl rfl
theorem dX1_exchange_0 : decode cX1_exchange 0 = .ok (.aload_n 0, 1) := dk_42 (dk_at dksX1_exchange_0 0 rfl rfl)
theorem dX1_exchange_1 : decode cX1_exchange 1 = .ok (.getfield 19, 3) := dk_180 0 19 (dk_at dksX1_exchange_0 1 rfl rfl)
theorem dX1_exchange_4 : decode cX1_exchange 4 = .ok (.iload_n 1, 1) := dk_27 (dk_at dksX1_exchange_0 4 rfl rfl)
theorem dX1_exchange_5 : decode cX1_exchange 5 = .ok (.invokevirtual 131, 3) := dk_182 0 131 (dk_at dksX1_exchange_0 5 rfl rfl)
theorem dX1_exchange_8 : decode cX1_exchange 8 = .ok (.ifCond .eq 19, 3) := dk_153 0 19 (dk_at dksX1_exchange_0 8 rfl rfl)
theorem dX1_exchange_11 : decode cX1_exchange 11 = .ok (.aload_n 0, 1) := dk_42 (dk_at dksX1_exchange_0 11 rfl rfl)
theorem dX1_exchange_12 : decode cX1_exchange 12 = .ok (.getfield 19, 3) := dk_180 0 19 (dk_at dksX1_exchange_0 12 rfl rfl)
theorem dX1_exchange_15 : decode cX1_exchange 15 = .ok (.iload_n 2, 1) := dk_28 (dk_at dksX1_exchange_0 15 rfl rfl)
theorem dX1_exchange_16 : decode cX1_exchange 16 = .ok (.invokevirtual 131, 3) := dk_182 0 131 (dk_at dksX1_exchange_0 16 rfl rfl)
theorem dX1_exchange_19 : decode cX1_exchange 19 = .ok (.ifCond .eq 8, 3) := dk_153 0 8 (dk_at dksX1_exchange_0 19 rfl rfl)
theorem dX1_exchange_22 : decode cX1_exchange 22 = .ok (.iload_n 1, 1) := dk_27 (dk_at dksX1_exchange_0 22 rfl rfl)
theorem dX1_exchange_23 : decode cX1_exchange 23 = .ok (.iload_n 2, 1) := dk_28 (dk_at dksX1_exchange_0 23 rfl rfl)
theorem dX1_exchange_24 : decode cX1_exchange 24 = .ok (.if_icmp .ne 5, 3) := dk_160 0 5 (dk_at dksX1_exchange_1 0 rfl rfl)
theorem dX1_exchange_27 : decode cX1_exchange 27 = .ok (.iconst 0, 1) := dk_3 (dk_at dksX1_exchange_1 3 rfl rfl)
theorem dX1_exchange_28 : decode cX1_exchange 28 = .ok (.ireturn, 1) := dk_172 (dk_at dksX1_exchange_1 4 rfl rfl)
theorem dX1_exchange_29 : decode cX1_exchange 29 = .ok (.aload_n 0, 1) := dk_42 (dk_at dksX1_exchange_1 5 rfl rfl)
theorem dX1_exchange_30 : decode cX1_exchange 30 = .ok (.aload_n 0, 1) := dk_42 (dk_at dksX1_exchange_1 6 rfl rfl)
theorem dX1_exchange_31 : decode cX1_exchange 31 = .ok (.getfield 19, 3) := dk_180 0 19 (dk_at dksX1_exchange_1 7 rfl rfl)
theorem dX1_exchange_34 : decode cX1_exchange 34 = .ok (.iload_n 1, 1) := dk_27 (dk_at dksX1_exchange_1 10 rfl rfl)
theorem dX1_exchange_35 : decode cX1_exchange 35 = .ok (.iload_n 2, 1) := dk_28 (dk_at dksX1_exchange_1 11 rfl rfl)
theorem dX1_exchange_36 : decode cX1_exchange 36 = .ok (.invokevirtual 335, 3) := dk_182 1 79 (dk_at dksX1_exchange_1 12 rfl rfl)
theorem dX1_exchange_39 : decode cX1_exchange 39 = .ok (.putfield 19, 3) := dk_181 0 19 (dk_at dksX1_exchange_1 15 rfl rfl)
theorem dX1_exchange_42 : decode cX1_exchange 42 = .ok (.iconst 1, 1) := dk_4 (dk_at dksX1_exchange_1 18 rfl rfl)
theorem dX1_exchange_43 : decode cX1_exchange 43 = .ok (.ireturn, 1) := dk_172 (dk_at dksX1_exchange_1 19 rfl rfl)
def dkwX1_starts_1 : List UInt8 := [182, 1, 24, 167, 0, 4, 2, 172]
abbrev dktX1_starts_1 : List UInt8 := dkwX1_starts_1 ++ []
def dkwX1_starts_0 : List UInt8 := [42, 180, 0, 19, 27, 182, 0, 131, 153, 0, 21, 42, 42, 180, 0, 19, 10, 27, 121, 42, 180, 0, 117]
abbrev dktX1_starts_0 : List UInt8 := dkwX1_starts_0 ++ dktX1_starts_1
theorem dksX1_starts_0 : cX1_starts.data.toList.drop 0 = dktX1_starts_0 := by decide +kernel
theorem dksX1_starts_1 : cX1_starts.data.toList.drop 23 = dktX1_starts_1 := dk_seg dksX1_starts_0 23 rfl rfl
theorem dX1_starts_0 : decode cX1_starts 0 = .ok (.aload_n 0, 1) := dk_42 (dk_at dksX1_starts_0 0 rfl rfl)
theorem dX1_starts_1 : decode cX1_starts 1 = .ok (.getfield 19, 3) := dk_180 0 19 (dk_at dksX1_starts_0 1 rfl rfl)
theorem dX1_starts_4 : decode cX1_starts 4 = .ok (.iload_n 1, 1) := dk_27 (dk_at dksX1_starts_0 4 rfl rfl)
theorem dX1_starts_5 : decode cX1_starts 5 = .ok (.invokevirtual 131, 3) := dk_182 0 131 (dk_at dksX1_starts_0 5 rfl rfl)
theorem dX1_starts_8 : decode cX1_starts 8 = .ok (.ifCond .eq 21, 3) := dk_153 0 21 (dk_at dksX1_starts_0 8 rfl rfl)
theorem dX1_starts_11 : decode cX1_starts 11 = .ok (.aload_n 0, 1) := dk_42 (dk_at dksX1_starts_0 11 rfl rfl)
theorem dX1_starts_12 : decode cX1_starts 12 = .ok (.aload_n 0, 1) := dk_42 (dk_at dksX1_starts_0 12 rfl rfl)
theorem dX1_starts_13 : decode cX1_starts 13 = .ok (.getfield 19, 3) := dk_180 0 19 (dk_at dksX1_starts_0 13 rfl rfl)
theorem dX1_starts_16 : decode cX1_starts 16 = .ok (.lconst 1, 1) := dk_10 (dk_at dksX1_starts_0 16 rfl rfl)
theorem dX1_starts_17 : decode cX1_starts 17 = .ok (.iload_n 1, 1) := dk_27 (dk_at dksX1_starts_0 17 rfl rfl)
theorem dX1_starts_18 : decode cX1_starts 18 = .ok (.lshl, 1) := dk_121 (dk_at dksX1_starts_0 18 rfl rfl)
theorem dX1_starts_19 : decode cX1_starts 19 = .ok (.aload_n 0, 1) := dk_42 (dk_at dksX1_starts_0 19 rfl rfl)
theorem dX1_starts_20 : decode cX1_starts 20 = .ok (.getfield 117, 3) := dk_180 0 117 (dk_at dksX1_starts_0 20 rfl rfl)
theorem dX1_starts_23 : decode cX1_starts 23 = .ok (.invokevirtual 280, 3) := dk_182 1 24 (dk_at dksX1_starts_1 0 rfl rfl)
theorem dX1_starts_26 : decode cX1_starts 26 = .ok (.goto 4, 3) := dk_167 0 4 (dk_at dksX1_starts_1 3 rfl rfl)
theorem dX1_starts_29 : decode cX1_starts 29 = .ok (.iconst (-1), 1) := dk_2 (dk_at dksX1_starts_1 6 rfl rfl)
theorem dX1_starts_30 : decode cX1_starts 30 = .ok (.ireturn, 1) := dk_172 (dk_at dksX1_starts_1 7 rfl rfl)
def dkwX1_leader_5 : List UInt8 := [21, 5, 62, 132, 4, 1, 167, 255, 161, 27, 154, 0, 7, 28, 167, 0, 4, 29, 172]
abbrev dktX1_leader_5 : List UInt8 := dkwX1_leader_5 ++ []
def dkwX1_leader_4 : List UInt8 := [180, 0, 19, 180, 0, 145, 42, 180, 0, 19, 28, 182, 0, 148, 46, 161, 0, 6, 167, 0, 9, 21, 4, 61]
abbrev dktX1_leader_4 : List UInt8 := dkwX1_leader_4 ++ dktX1_leader_5
def dkwX1_leader_3 : List UInt8 := [21, 5, 29, 160, 0, 42, 42, 180, 0, 19, 180, 0, 145, 42, 180, 0, 19, 21, 4, 182, 0, 148, 46, 42]
abbrev dktX1_leader_3 : List UInt8 := dkwX1_leader_3 ++ dktX1_leader_4
def dkwX1_leader_2 : List UInt8 := [182, 0, 131, 154, 0, 6, 167, 0, 68, 42, 21, 4, 182, 1, 87, 54, 5, 21, 5, 29, 161, 0, 54]
abbrev dktX1_leader_2 : List UInt8 := dkwX1_leader_2 ++ dktX1_leader_3
def dkwX1_leader_1 : List UInt8 := [62, 3, 54, 4, 21, 4, 42, 180, 0, 19, 182, 1, 71, 162, 0, 89, 42, 180, 0, 19, 21, 4]
abbrev dktX1_leader_1 : List UInt8 := dkwX1_leader_1 ++ dktX1_leader_2
def dkwX1_leader_0 : List UInt8 := [27, 3, 4, 184, 0, 135, 153, 0, 13, 42, 180, 0, 19, 182, 1, 72, 154, 0, 5, 2, 172, 2, 61, 2]
abbrev dktX1_leader_0 : List UInt8 := dkwX1_leader_0 ++ dktX1_leader_1
theorem dksX1_leader_0 : cX1_leader.data.toList.drop 0 = dktX1_leader_0 := by decide +kernel
theorem dksX1_leader_1 : cX1_leader.data.toList.drop 24 = dktX1_leader_1 := dk_seg dksX1_leader_0 24 rfl rfl
theorem dksX1_leader_2 : cX1_leader.data.toList.drop 46 = dktX1_leader_2 := dk_seg dksX1_leader_1 22 rfl rfl
theorem dksX1_leader_3 : cX1_leader.data.toList.drop 69 = dktX1_leader_3 := dk_seg dksX1_leader_2 23 rfl rfl
theorem dksX1_leader_4 : cX1_leader.data.toList.drop 93 = dktX1_leader_4 := dk_seg dksX1_leader_3 24 rfl rfl
theorem dksX1_leader_5 : cX1_leader.data.toList.drop 117 = dktX1_leader_5 := dk_seg dksX1_leader_4 24 rfl rfl
theorem dX1_leader_0 : decode cX1_leader 0 = .ok (.iload_n 1, 1) := dk_27 (dk_at dksX1_leader_0 0 rfl rfl)
theorem dX1_leader_1 : decode cX1_leader 1 = .ok (.iconst 0, 1) := dk_3 (dk_at dksX1_leader_0 1 rfl rfl)
theorem dX1_leader_2 : decode cX1_leader 2 = .ok (.iconst 1, 1) := dk_4 (dk_at dksX1_leader_0 2 rfl rfl)
theorem dX1_leader_3 : decode cX1_leader 3 = .ok (.invokestatic 135, 3) := dk_184 0 135 (dk_at dksX1_leader_0 3 rfl rfl)
theorem dX1_leader_6 : decode cX1_leader 6 = .ok (.ifCond .eq 13, 3) := dk_153 0 13 (dk_at dksX1_leader_0 6 rfl rfl)
theorem dX1_leader_9 : decode cX1_leader 9 = .ok (.aload_n 0, 1) := dk_42 (dk_at dksX1_leader_0 9 rfl rfl)
theorem dX1_leader_10 : decode cX1_leader 10 = .ok (.getfield 19, 3) := dk_180 0 19 (dk_at dksX1_leader_0 10 rfl rfl)
theorem dX1_leader_13 : decode cX1_leader 13 = .ok (.invokevirtual 328, 3) := dk_182 1 72 (dk_at dksX1_leader_0 13 rfl rfl)
theorem dX1_leader_16 : decode cX1_leader 16 = .ok (.ifCond .ne 5, 3) := dk_154 0 5 (dk_at dksX1_leader_0 16 rfl rfl)
theorem dX1_leader_19 : decode cX1_leader 19 = .ok (.iconst (-1), 1) := dk_2 (dk_at dksX1_leader_0 19 rfl rfl)
theorem dX1_leader_20 : decode cX1_leader 20 = .ok (.ireturn, 1) := dk_172 (dk_at dksX1_leader_0 20 rfl rfl)
theorem dX1_leader_21 : decode cX1_leader 21 = .ok (.iconst (-1), 1) := dk_2 (dk_at dksX1_leader_0 21 rfl rfl)
theorem dX1_leader_22 : decode cX1_leader 22 = .ok (.istore_n 2, 1) := dk_61 (dk_at dksX1_leader_0 22 rfl rfl)
theorem dX1_leader_23 : decode cX1_leader 23 = .ok (.iconst (-1), 1) := dk_2 (dk_at dksX1_leader_0 23 rfl rfl)
theorem dX1_leader_24 : decode cX1_leader 24 = .ok (.istore_n 3, 1) := dk_62 (dk_at dksX1_leader_1 0 rfl rfl)
theorem dX1_leader_25 : decode cX1_leader 25 = .ok (.iconst 0, 1) := dk_3 (dk_at dksX1_leader_1 1 rfl rfl)
theorem dX1_leader_26 : decode cX1_leader 26 = .ok (.istore 4, 2) := dk_54 4 (dk_at dksX1_leader_1 2 rfl rfl)
theorem dX1_leader_28 : decode cX1_leader 28 = .ok (.iload 4, 2) := dk_21 4 (dk_at dksX1_leader_1 4 rfl rfl)
theorem dX1_leader_30 : decode cX1_leader 30 = .ok (.aload_n 0, 1) := dk_42 (dk_at dksX1_leader_1 6 rfl rfl)
theorem dX1_leader_31 : decode cX1_leader 31 = .ok (.getfield 19, 3) := dk_180 0 19 (dk_at dksX1_leader_1 7 rfl rfl)
theorem dX1_leader_34 : decode cX1_leader 34 = .ok (.invokevirtual 327, 3) := dk_182 1 71 (dk_at dksX1_leader_1 10 rfl rfl)
theorem dX1_leader_37 : decode cX1_leader 37 = .ok (.if_icmp .ge 89, 3) := dk_162 0 89 (dk_at dksX1_leader_1 13 rfl rfl)
theorem dX1_leader_40 : decode cX1_leader 40 = .ok (.aload_n 0, 1) := dk_42 (dk_at dksX1_leader_1 16 rfl rfl)
theorem dX1_leader_41 : decode cX1_leader 41 = .ok (.getfield 19, 3) := dk_180 0 19 (dk_at dksX1_leader_1 17 rfl rfl)
theorem dX1_leader_44 : decode cX1_leader 44 = .ok (.iload 4, 2) := dk_21 4 (dk_at dksX1_leader_1 20 rfl rfl)
theorem dX1_leader_46 : decode cX1_leader 46 = .ok (.invokevirtual 131, 3) := dk_182 0 131 (dk_at dksX1_leader_2 0 rfl rfl)
theorem dX1_leader_49 : decode cX1_leader 49 = .ok (.ifCond .ne 6, 3) := dk_154 0 6 (dk_at dksX1_leader_2 3 rfl rfl)
theorem dX1_leader_52 : decode cX1_leader 52 = .ok (.goto 68, 3) := dk_167 0 68 (dk_at dksX1_leader_2 6 rfl rfl)
theorem dX1_leader_55 : decode cX1_leader 55 = .ok (.aload_n 0, 1) := dk_42 (dk_at dksX1_leader_2 9 rfl rfl)
theorem dX1_leader_56 : decode cX1_leader 56 = .ok (.iload 4, 2) := dk_21 4 (dk_at dksX1_leader_2 10 rfl rfl)
theorem dX1_leader_58 : decode cX1_leader 58 = .ok (.invokevirtual 343, 3) := dk_182 1 87 (dk_at dksX1_leader_2 12 rfl rfl)
theorem dX1_leader_61 : decode cX1_leader 61 = .ok (.istore 5, 2) := dk_54 5 (dk_at dksX1_leader_2 15 rfl rfl)
theorem dX1_leader_63 : decode cX1_leader 63 = .ok (.iload 5, 2) := dk_21 5 (dk_at dksX1_leader_2 17 rfl rfl)
theorem dX1_leader_65 : decode cX1_leader 65 = .ok (.iload_n 3, 1) := dk_29 (dk_at dksX1_leader_2 19 rfl rfl)
theorem dX1_leader_66 : decode cX1_leader 66 = .ok (.if_icmp .lt 54, 3) := dk_161 0 54 (dk_at dksX1_leader_2 20 rfl rfl)
theorem dX1_leader_69 : decode cX1_leader 69 = .ok (.iload 5, 2) := dk_21 5 (dk_at dksX1_leader_3 0 rfl rfl)
theorem dX1_leader_71 : decode cX1_leader 71 = .ok (.iload_n 3, 1) := dk_29 (dk_at dksX1_leader_3 2 rfl rfl)
theorem dX1_leader_72 : decode cX1_leader 72 = .ok (.if_icmp .ne 42, 3) := dk_160 0 42 (dk_at dksX1_leader_3 3 rfl rfl)
theorem dX1_leader_75 : decode cX1_leader 75 = .ok (.aload_n 0, 1) := dk_42 (dk_at dksX1_leader_3 6 rfl rfl)
theorem dX1_leader_76 : decode cX1_leader 76 = .ok (.getfield 19, 3) := dk_180 0 19 (dk_at dksX1_leader_3 7 rfl rfl)
theorem dX1_leader_79 : decode cX1_leader 79 = .ok (.getfield 145, 3) := dk_180 0 145 (dk_at dksX1_leader_3 10 rfl rfl)
theorem dX1_leader_82 : decode cX1_leader 82 = .ok (.aload_n 0, 1) := dk_42 (dk_at dksX1_leader_3 13 rfl rfl)
theorem dX1_leader_83 : decode cX1_leader 83 = .ok (.getfield 19, 3) := dk_180 0 19 (dk_at dksX1_leader_3 14 rfl rfl)
theorem dX1_leader_86 : decode cX1_leader 86 = .ok (.iload 4, 2) := dk_21 4 (dk_at dksX1_leader_3 17 rfl rfl)
theorem dX1_leader_88 : decode cX1_leader 88 = .ok (.invokevirtual 148, 3) := dk_182 0 148 (dk_at dksX1_leader_3 19 rfl rfl)
theorem dX1_leader_91 : decode cX1_leader 91 = .ok (.iaload, 1) := dk_46 (dk_at dksX1_leader_3 22 rfl rfl)
theorem dX1_leader_92 : decode cX1_leader 92 = .ok (.aload_n 0, 1) := dk_42 (dk_at dksX1_leader_3 23 rfl rfl)
theorem dX1_leader_93 : decode cX1_leader 93 = .ok (.getfield 19, 3) := dk_180 0 19 (dk_at dksX1_leader_4 0 rfl rfl)
theorem dX1_leader_96 : decode cX1_leader 96 = .ok (.getfield 145, 3) := dk_180 0 145 (dk_at dksX1_leader_4 3 rfl rfl)
theorem dX1_leader_99 : decode cX1_leader 99 = .ok (.aload_n 0, 1) := dk_42 (dk_at dksX1_leader_4 6 rfl rfl)
theorem dX1_leader_100 : decode cX1_leader 100 = .ok (.getfield 19, 3) := dk_180 0 19 (dk_at dksX1_leader_4 7 rfl rfl)
theorem dX1_leader_103 : decode cX1_leader 103 = .ok (.iload_n 2, 1) := dk_28 (dk_at dksX1_leader_4 10 rfl rfl)
theorem dX1_leader_104 : decode cX1_leader 104 = .ok (.invokevirtual 148, 3) := dk_182 0 148 (dk_at dksX1_leader_4 11 rfl rfl)
theorem dX1_leader_107 : decode cX1_leader 107 = .ok (.iaload, 1) := dk_46 (dk_at dksX1_leader_4 14 rfl rfl)
theorem dX1_leader_108 : decode cX1_leader 108 = .ok (.if_icmp .lt 6, 3) := dk_161 0 6 (dk_at dksX1_leader_4 15 rfl rfl)
theorem dX1_leader_111 : decode cX1_leader 111 = .ok (.goto 9, 3) := dk_167 0 9 (dk_at dksX1_leader_4 18 rfl rfl)
theorem dX1_leader_114 : decode cX1_leader 114 = .ok (.iload 4, 2) := dk_21 4 (dk_at dksX1_leader_4 21 rfl rfl)
theorem dX1_leader_116 : decode cX1_leader 116 = .ok (.istore_n 2, 1) := dk_61 (dk_at dksX1_leader_4 23 rfl rfl)
theorem dX1_leader_117 : decode cX1_leader 117 = .ok (.iload 5, 2) := dk_21 5 (dk_at dksX1_leader_5 0 rfl rfl)
theorem dX1_leader_119 : decode cX1_leader 119 = .ok (.istore_n 3, 1) := dk_62 (dk_at dksX1_leader_5 2 rfl rfl)
theorem dX1_leader_120 : decode cX1_leader 120 = .ok (.iinc 4 1, 3) := dk_132 4 1 (dk_at dksX1_leader_5 3 rfl rfl)
theorem dX1_leader_123 : decode cX1_leader 123 = .ok (.goto (-95), 3) := dk_167 255 161 (dk_at dksX1_leader_5 6 rfl rfl)
theorem dX1_leader_126 : decode cX1_leader 126 = .ok (.iload_n 1, 1) := dk_27 (dk_at dksX1_leader_5 9 rfl rfl)
theorem dX1_leader_127 : decode cX1_leader 127 = .ok (.ifCond .ne 7, 3) := dk_154 0 7 (dk_at dksX1_leader_5 10 rfl rfl)
theorem dX1_leader_130 : decode cX1_leader 130 = .ok (.iload_n 2, 1) := dk_28 (dk_at dksX1_leader_5 13 rfl rfl)
theorem dX1_leader_131 : decode cX1_leader 131 = .ok (.goto 4, 3) := dk_167 0 4 (dk_at dksX1_leader_5 14 rfl rfl)
theorem dX1_leader_134 : decode cX1_leader 134 = .ok (.iload_n 3, 1) := dk_29 (dk_at dksX1_leader_5 17 rfl rfl)
theorem dX1_leader_135 : decode cX1_leader 135 = .ok (.ireturn, 1) := dk_172 (dk_at dksX1_leader_5 18 rfl rfl)
def dkwX1_drawn_5 : List UInt8 := [129, 181, 0, 114, 132, 3, 255, 132, 4, 1, 167, 255, 159, 4, 172]
abbrev dktX1_drawn_5 : List UInt8 := dkwX1_drawn_5 ++ []
def dkwX1_drawn_4 : List UInt8 := [184, 0, 155, 154, 0, 6, 132, 5, 255, 132, 6, 1, 167, 255, 197, 42, 89, 180, 0, 114, 10, 21, 6, 121]
abbrev dktX1_drawn_4 : List UInt8 := dkwX1_drawn_4 ++ dktX1_drawn_5
def dkwX1_drawn_3 : List UInt8 := [21, 5, 158, 0, 36, 42, 180, 0, 19, 21, 6, 182, 0, 131, 153, 0, 18, 42, 180, 0, 114, 21, 6]
abbrev dktX1_drawn_3 : List UInt8 := dkwX1_drawn_3 ++ dktX1_drawn_4
def dkwX1_drawn_2 : List UInt8 := [42, 180, 0, 19, 21, 6, 182, 0, 131, 153, 0, 20, 42, 180, 0, 114, 21, 6, 184, 0, 155, 154, 0, 8]
abbrev dktX1_drawn_2 : List UInt8 := dkwX1_drawn_2 ++ dktX1_drawn_3
def dkwX1_drawn_1 : List UInt8 := [42, 9, 181, 0, 114, 3, 54, 4, 21, 4, 27, 162, 0, 97, 42, 29, 182, 1, 94, 54, 5, 3, 54, 6]
abbrev dktX1_drawn_1 : List UInt8 := dkwX1_drawn_1 ++ dktX1_drawn_2
def dkwX1_drawn_0 : List UInt8 := [42, 180, 0, 19, 182, 1, 72, 62, 27, 4, 29, 184, 0, 135, 154, 0, 5, 3, 172, 42, 28, 181, 1, 90]
abbrev dktX1_drawn_0 : List UInt8 := dkwX1_drawn_0 ++ dktX1_drawn_1
theorem dksX1_drawn_0 : cX1_drawn.data.toList.drop 0 = dktX1_drawn_0 := by decide +kernel
theorem dksX1_drawn_1 : cX1_drawn.data.toList.drop 24 = dktX1_drawn_1 := dk_seg dksX1_drawn_0 24 rfl rfl
theorem dksX1_drawn_2 : cX1_drawn.data.toList.drop 48 = dktX1_drawn_2 := dk_seg dksX1_drawn_1 24 rfl rfl
theorem dksX1_drawn_3 : cX1_drawn.data.toList.drop 72 = dktX1_drawn_3 := dk_seg dksX1_drawn_2 24 rfl rfl
theorem dksX1_drawn_4 : cX1_drawn.data.toList.drop 95 = dktX1_drawn_4 := dk_seg dksX1_drawn_3 23 rfl rfl
theorem dksX1_drawn_5 : cX1_drawn.data.toList.drop 119 = dktX1_drawn_5 := dk_seg dksX1_drawn_4 24 rfl rfl
theorem dX1_drawn_0 : decode cX1_drawn 0 = .ok (.aload_n 0, 1) := dk_42 (dk_at dksX1_drawn_0 0 rfl rfl)
theorem dX1_drawn_1 : decode cX1_drawn 1 = .ok (.getfield 19, 3) := dk_180 0 19 (dk_at dksX1_drawn_0 1 rfl rfl)
theorem dX1_drawn_4 : decode cX1_drawn 4 = .ok (.invokevirtual 328, 3) := dk_182 1 72 (dk_at dksX1_drawn_0 4 rfl rfl)
theorem dX1_drawn_7 : decode cX1_drawn 7 = .ok (.istore_n 3, 1) := dk_62 (dk_at dksX1_drawn_0 7 rfl rfl)
theorem dX1_drawn_8 : decode cX1_drawn 8 = .ok (.iload_n 1, 1) := dk_27 (dk_at dksX1_drawn_0 8 rfl rfl)
theorem dX1_drawn_9 : decode cX1_drawn 9 = .ok (.iconst 1, 1) := dk_4 (dk_at dksX1_drawn_0 9 rfl rfl)
theorem dX1_drawn_10 : decode cX1_drawn 10 = .ok (.iload_n 3, 1) := dk_29 (dk_at dksX1_drawn_0 10 rfl rfl)
theorem dX1_drawn_11 : decode cX1_drawn 11 = .ok (.invokestatic 135, 3) := dk_184 0 135 (dk_at dksX1_drawn_0 11 rfl rfl)
theorem dX1_drawn_14 : decode cX1_drawn 14 = .ok (.ifCond .ne 5, 3) := dk_154 0 5 (dk_at dksX1_drawn_0 14 rfl rfl)
theorem dX1_drawn_17 : decode cX1_drawn 17 = .ok (.iconst 0, 1) := dk_3 (dk_at dksX1_drawn_0 17 rfl rfl)
theorem dX1_drawn_18 : decode cX1_drawn 18 = .ok (.ireturn, 1) := dk_172 (dk_at dksX1_drawn_0 18 rfl rfl)
theorem dX1_drawn_19 : decode cX1_drawn 19 = .ok (.aload_n 0, 1) := dk_42 (dk_at dksX1_drawn_0 19 rfl rfl)
theorem dX1_drawn_20 : decode cX1_drawn 20 = .ok (.iload_n 2, 1) := dk_28 (dk_at dksX1_drawn_0 20 rfl rfl)
theorem dX1_drawn_21 : decode cX1_drawn 21 = .ok (.putfield 346, 3) := dk_181 1 90 (dk_at dksX1_drawn_0 21 rfl rfl)
theorem dX1_drawn_24 : decode cX1_drawn 24 = .ok (.aload_n 0, 1) := dk_42 (dk_at dksX1_drawn_1 0 rfl rfl)
theorem dX1_drawn_25 : decode cX1_drawn 25 = .ok (.lconst 0, 1) := dk_9 (dk_at dksX1_drawn_1 1 rfl rfl)
theorem dX1_drawn_26 : decode cX1_drawn 26 = .ok (.putfield 114, 3) := dk_181 0 114 (dk_at dksX1_drawn_1 2 rfl rfl)
theorem dX1_drawn_29 : decode cX1_drawn 29 = .ok (.iconst 0, 1) := dk_3 (dk_at dksX1_drawn_1 5 rfl rfl)
theorem dX1_drawn_30 : decode cX1_drawn 30 = .ok (.istore 4, 2) := dk_54 4 (dk_at dksX1_drawn_1 6 rfl rfl)
theorem dX1_drawn_32 : decode cX1_drawn 32 = .ok (.iload 4, 2) := dk_21 4 (dk_at dksX1_drawn_1 8 rfl rfl)
theorem dX1_drawn_34 : decode cX1_drawn 34 = .ok (.iload_n 1, 1) := dk_27 (dk_at dksX1_drawn_1 10 rfl rfl)
theorem dX1_drawn_35 : decode cX1_drawn 35 = .ok (.if_icmp .ge 97, 3) := dk_162 0 97 (dk_at dksX1_drawn_1 11 rfl rfl)
theorem dX1_drawn_38 : decode cX1_drawn 38 = .ok (.aload_n 0, 1) := dk_42 (dk_at dksX1_drawn_1 14 rfl rfl)
theorem dX1_drawn_39 : decode cX1_drawn 39 = .ok (.iload_n 3, 1) := dk_29 (dk_at dksX1_drawn_1 15 rfl rfl)
theorem dX1_drawn_40 : decode cX1_drawn 40 = .ok (.invokevirtual 350, 3) := dk_182 1 94 (dk_at dksX1_drawn_1 16 rfl rfl)
theorem dX1_drawn_43 : decode cX1_drawn 43 = .ok (.istore 5, 2) := dk_54 5 (dk_at dksX1_drawn_1 19 rfl rfl)
theorem dX1_drawn_45 : decode cX1_drawn 45 = .ok (.iconst 0, 1) := dk_3 (dk_at dksX1_drawn_1 21 rfl rfl)
theorem dX1_drawn_46 : decode cX1_drawn 46 = .ok (.istore 6, 2) := dk_54 6 (dk_at dksX1_drawn_1 22 rfl rfl)
theorem dX1_drawn_48 : decode cX1_drawn 48 = .ok (.aload_n 0, 1) := dk_42 (dk_at dksX1_drawn_2 0 rfl rfl)
theorem dX1_drawn_49 : decode cX1_drawn 49 = .ok (.getfield 19, 3) := dk_180 0 19 (dk_at dksX1_drawn_2 1 rfl rfl)
theorem dX1_drawn_52 : decode cX1_drawn 52 = .ok (.iload 6, 2) := dk_21 6 (dk_at dksX1_drawn_2 4 rfl rfl)
theorem dX1_drawn_54 : decode cX1_drawn 54 = .ok (.invokevirtual 131, 3) := dk_182 0 131 (dk_at dksX1_drawn_2 6 rfl rfl)
theorem dX1_drawn_57 : decode cX1_drawn 57 = .ok (.ifCond .eq 20, 3) := dk_153 0 20 (dk_at dksX1_drawn_2 9 rfl rfl)
theorem dX1_drawn_60 : decode cX1_drawn 60 = .ok (.aload_n 0, 1) := dk_42 (dk_at dksX1_drawn_2 12 rfl rfl)
theorem dX1_drawn_61 : decode cX1_drawn 61 = .ok (.getfield 114, 3) := dk_180 0 114 (dk_at dksX1_drawn_2 13 rfl rfl)
theorem dX1_drawn_64 : decode cX1_drawn 64 = .ok (.iload 6, 2) := dk_21 6 (dk_at dksX1_drawn_2 16 rfl rfl)
theorem dX1_drawn_66 : decode cX1_drawn 66 = .ok (.invokestatic 155, 3) := dk_184 0 155 (dk_at dksX1_drawn_2 18 rfl rfl)
theorem dX1_drawn_69 : decode cX1_drawn 69 = .ok (.ifCond .ne 8, 3) := dk_154 0 8 (dk_at dksX1_drawn_2 21 rfl rfl)
theorem dX1_drawn_72 : decode cX1_drawn 72 = .ok (.iload 5, 2) := dk_21 5 (dk_at dksX1_drawn_3 0 rfl rfl)
theorem dX1_drawn_74 : decode cX1_drawn 74 = .ok (.ifCond .le 36, 3) := dk_158 0 36 (dk_at dksX1_drawn_3 2 rfl rfl)
theorem dX1_drawn_77 : decode cX1_drawn 77 = .ok (.aload_n 0, 1) := dk_42 (dk_at dksX1_drawn_3 5 rfl rfl)
theorem dX1_drawn_78 : decode cX1_drawn 78 = .ok (.getfield 19, 3) := dk_180 0 19 (dk_at dksX1_drawn_3 6 rfl rfl)
theorem dX1_drawn_81 : decode cX1_drawn 81 = .ok (.iload 6, 2) := dk_21 6 (dk_at dksX1_drawn_3 9 rfl rfl)
theorem dX1_drawn_83 : decode cX1_drawn 83 = .ok (.invokevirtual 131, 3) := dk_182 0 131 (dk_at dksX1_drawn_3 11 rfl rfl)
theorem dX1_drawn_86 : decode cX1_drawn 86 = .ok (.ifCond .eq 18, 3) := dk_153 0 18 (dk_at dksX1_drawn_3 14 rfl rfl)
theorem dX1_drawn_89 : decode cX1_drawn 89 = .ok (.aload_n 0, 1) := dk_42 (dk_at dksX1_drawn_3 17 rfl rfl)
theorem dX1_drawn_90 : decode cX1_drawn 90 = .ok (.getfield 114, 3) := dk_180 0 114 (dk_at dksX1_drawn_3 18 rfl rfl)
theorem dX1_drawn_93 : decode cX1_drawn 93 = .ok (.iload 6, 2) := dk_21 6 (dk_at dksX1_drawn_3 21 rfl rfl)
theorem dX1_drawn_95 : decode cX1_drawn 95 = .ok (.invokestatic 155, 3) := dk_184 0 155 (dk_at dksX1_drawn_4 0 rfl rfl)
theorem dX1_drawn_98 : decode cX1_drawn 98 = .ok (.ifCond .ne 6, 3) := dk_154 0 6 (dk_at dksX1_drawn_4 3 rfl rfl)
theorem dX1_drawn_101 : decode cX1_drawn 101 = .ok (.iinc 5 (-1), 3) := dk_132 5 255 (dk_at dksX1_drawn_4 6 rfl rfl)
theorem dX1_drawn_104 : decode cX1_drawn 104 = .ok (.iinc 6 1, 3) := dk_132 6 1 (dk_at dksX1_drawn_4 9 rfl rfl)
theorem dX1_drawn_107 : decode cX1_drawn 107 = .ok (.goto (-59), 3) := dk_167 255 197 (dk_at dksX1_drawn_4 12 rfl rfl)
theorem dX1_drawn_110 : decode cX1_drawn 110 = .ok (.aload_n 0, 1) := dk_42 (dk_at dksX1_drawn_4 15 rfl rfl)
theorem dX1_drawn_111 : decode cX1_drawn 111 = .ok (.dup, 1) := dk_89 (dk_at dksX1_drawn_4 16 rfl rfl)
theorem dX1_drawn_112 : decode cX1_drawn 112 = .ok (.getfield 114, 3) := dk_180 0 114 (dk_at dksX1_drawn_4 17 rfl rfl)
theorem dX1_drawn_115 : decode cX1_drawn 115 = .ok (.lconst 1, 1) := dk_10 (dk_at dksX1_drawn_4 20 rfl rfl)
theorem dX1_drawn_116 : decode cX1_drawn 116 = .ok (.iload 6, 2) := dk_21 6 (dk_at dksX1_drawn_4 21 rfl rfl)
theorem dX1_drawn_118 : decode cX1_drawn 118 = .ok (.lshl, 1) := dk_121 (dk_at dksX1_drawn_4 23 rfl rfl)
theorem dX1_drawn_119 : decode cX1_drawn 119 = .ok (.lor, 1) := dk_129 (dk_at dksX1_drawn_5 0 rfl rfl)
theorem dX1_drawn_120 : decode cX1_drawn 120 = .ok (.putfield 114, 3) := dk_181 0 114 (dk_at dksX1_drawn_5 1 rfl rfl)
theorem dX1_drawn_123 : decode cX1_drawn 123 = .ok (.iinc 3 (-1), 3) := dk_132 3 255 (dk_at dksX1_drawn_5 4 rfl rfl)
theorem dX1_drawn_126 : decode cX1_drawn 126 = .ok (.iinc 4 1, 3) := dk_132 4 1 (dk_at dksX1_drawn_5 7 rfl rfl)
theorem dX1_drawn_129 : decode cX1_drawn 129 = .ok (.goto (-97), 3) := dk_167 255 159 (dk_at dksX1_drawn_5 10 rfl rfl)
theorem dX1_drawn_132 : decode cX1_drawn 132 = .ok (.iconst 1, 1) := dk_4 (dk_at dksX1_drawn_5 13 rfl rfl)
theorem dX1_drawn_133 : decode cX1_drawn 133 = .ok (.ireturn, 1) := dk_172 (dk_at dksX1_drawn_5 14 rfl rfl)
def dkwX1_draw_1 : List UInt8 := [112, 172]
abbrev dktX1_draw_1 : List UInt8 := dkwX1_draw_1 ++ []
def dkwX1_draw_0 : List UInt8 := [42, 42, 180, 1, 90, 19, 1, 93, 104, 17, 48, 57, 96, 181, 1, 90, 42, 180, 1, 90, 16, 8, 124, 27]
abbrev dktX1_draw_0 : List UInt8 := dkwX1_draw_0 ++ dktX1_draw_1
theorem dksX1_draw_0 : cX1_draw.data.toList.drop 0 = dktX1_draw_0 := by decide +kernel
theorem dksX1_draw_1 : cX1_draw.data.toList.drop 24 = dktX1_draw_1 := dk_seg dksX1_draw_0 24 rfl rfl
theorem dX1_draw_0 : decode cX1_draw 0 = .ok (.aload_n 0, 1) := dk_42 (dk_at dksX1_draw_0 0 rfl rfl)
theorem dX1_draw_1 : decode cX1_draw 1 = .ok (.aload_n 0, 1) := dk_42 (dk_at dksX1_draw_0 1 rfl rfl)
theorem dX1_draw_2 : decode cX1_draw 2 = .ok (.getfield 346, 3) := dk_180 1 90 (dk_at dksX1_draw_0 2 rfl rfl)
theorem dX1_draw_5 : decode cX1_draw 5 = .ok (.ldc_w 349, 3) := dk_19 1 93 (dk_at dksX1_draw_0 5 rfl rfl)
theorem dX1_draw_8 : decode cX1_draw 8 = .ok (.imul, 1) := dk_104 (dk_at dksX1_draw_0 8 rfl rfl)
theorem dX1_draw_9 : decode cX1_draw 9 = .ok (.sipush 12345, 3) := dk_17 48 57 (dk_at dksX1_draw_0 9 rfl rfl)
theorem dX1_draw_12 : decode cX1_draw 12 = .ok (.iadd, 1) := dk_96 (dk_at dksX1_draw_0 12 rfl rfl)
theorem dX1_draw_13 : decode cX1_draw 13 = .ok (.putfield 346, 3) := dk_181 1 90 (dk_at dksX1_draw_0 13 rfl rfl)
theorem dX1_draw_16 : decode cX1_draw 16 = .ok (.aload_n 0, 1) := dk_42 (dk_at dksX1_draw_0 16 rfl rfl)
theorem dX1_draw_17 : decode cX1_draw 17 = .ok (.getfield 346, 3) := dk_180 1 90 (dk_at dksX1_draw_0 17 rfl rfl)
theorem dX1_draw_20 : decode cX1_draw 20 = .ok (.bipush 8, 2) := dk_16 8 (dk_at dksX1_draw_0 20 rfl rfl)
theorem dX1_draw_22 : decode cX1_draw 22 = .ok (.iushr, 1) := dk_124 (dk_at dksX1_draw_0 22 rfl rfl)
theorem dX1_draw_23 : decode cX1_draw 23 = .ok (.iload_n 1, 1) := dk_27 (dk_at dksX1_draw_0 23 rfl rfl)
theorem dX1_draw_24 : decode cX1_draw 24 = .ok (.irem, 1) := dk_112 (dk_at dksX1_draw_1 0 rfl rfl)
theorem dX1_draw_25 : decode cX1_draw 25 = .ok (.ireturn, 1) := dk_172 (dk_at dksX1_draw_1 1 rfl rfl)
def dkwX1_arrange_3 : List UInt8 := [172, 28, 60, 42, 89, 180, 1, 97, 4, 96, 181, 1, 97, 167, 255, 222, 27, 172]
abbrev dktX1_arrange_3 : List UInt8 := dkwX1_arrange_3 ++ []
def dkwX1_arrange_2 : List UInt8 := [181, 1, 97, 42, 180, 1, 97, 16, 20, 162, 0, 31, 42, 27, 182, 1, 100, 61, 28, 27, 160, 0, 5, 27]
abbrev dktX1_arrange_2 : List UInt8 := dkwX1_arrange_2 ++ dktX1_arrange_3
def dkwX1_arrange_1 : List UInt8 := [181, 0, 19, 42, 42, 180, 0, 19, 42, 180, 0, 114, 42, 180, 0, 117, 182, 1, 24, 60, 42, 3]
abbrev dktX1_arrange_1 : List UInt8 := dkwX1_arrange_1 ++ dktX1_arrange_2
def dkwX1_arrange_0 : List UInt8 := [42, 180, 0, 19, 182, 1, 72, 16, 24, 164, 0, 5, 2, 172, 42, 42, 180, 0, 19, 3, 3, 182, 1, 79]
abbrev dktX1_arrange_0 : List UInt8 := dkwX1_arrange_0 ++ dktX1_arrange_1
theorem dksX1_arrange_0 : cX1_arrange.data.toList.drop 0 = dktX1_arrange_0 := by decide +kernel
theorem dksX1_arrange_1 : cX1_arrange.data.toList.drop 24 = dktX1_arrange_1 := dk_seg dksX1_arrange_0 24 rfl rfl
theorem dksX1_arrange_2 : cX1_arrange.data.toList.drop 46 = dktX1_arrange_2 := dk_seg dksX1_arrange_1 22 rfl rfl
theorem dksX1_arrange_3 : cX1_arrange.data.toList.drop 70 = dktX1_arrange_3 := dk_seg dksX1_arrange_2 24 rfl rfl
theorem dX1_arrange_0 : decode cX1_arrange 0 = .ok (.aload_n 0, 1) := dk_42 (dk_at dksX1_arrange_0 0 rfl rfl)
theorem dX1_arrange_1 : decode cX1_arrange 1 = .ok (.getfield 19, 3) := dk_180 0 19 (dk_at dksX1_arrange_0 1 rfl rfl)
theorem dX1_arrange_4 : decode cX1_arrange 4 = .ok (.invokevirtual 328, 3) := dk_182 1 72 (dk_at dksX1_arrange_0 4 rfl rfl)
theorem dX1_arrange_7 : decode cX1_arrange 7 = .ok (.bipush 24, 2) := dk_16 24 (dk_at dksX1_arrange_0 7 rfl rfl)
theorem dX1_arrange_9 : decode cX1_arrange 9 = .ok (.if_icmp .le 5, 3) := dk_164 0 5 (dk_at dksX1_arrange_0 9 rfl rfl)
theorem dX1_arrange_12 : decode cX1_arrange 12 = .ok (.iconst (-1), 1) := dk_2 (dk_at dksX1_arrange_0 12 rfl rfl)
theorem dX1_arrange_13 : decode cX1_arrange 13 = .ok (.ireturn, 1) := dk_172 (dk_at dksX1_arrange_0 13 rfl rfl)
theorem dX1_arrange_14 : decode cX1_arrange 14 = .ok (.aload_n 0, 1) := dk_42 (dk_at dksX1_arrange_0 14 rfl rfl)
theorem dX1_arrange_15 : decode cX1_arrange 15 = .ok (.aload_n 0, 1) := dk_42 (dk_at dksX1_arrange_0 15 rfl rfl)
theorem dX1_arrange_16 : decode cX1_arrange 16 = .ok (.getfield 19, 3) := dk_180 0 19 (dk_at dksX1_arrange_0 16 rfl rfl)
theorem dX1_arrange_19 : decode cX1_arrange 19 = .ok (.iconst 0, 1) := dk_3 (dk_at dksX1_arrange_0 19 rfl rfl)
theorem dX1_arrange_20 : decode cX1_arrange 20 = .ok (.iconst 0, 1) := dk_3 (dk_at dksX1_arrange_0 20 rfl rfl)
theorem dX1_arrange_21 : decode cX1_arrange 21 = .ok (.invokevirtual 335, 3) := dk_182 1 79 (dk_at dksX1_arrange_0 21 rfl rfl)
theorem dX1_arrange_24 : decode cX1_arrange 24 = .ok (.putfield 19, 3) := dk_181 0 19 (dk_at dksX1_arrange_1 0 rfl rfl)
theorem dX1_arrange_27 : decode cX1_arrange 27 = .ok (.aload_n 0, 1) := dk_42 (dk_at dksX1_arrange_1 3 rfl rfl)
theorem dX1_arrange_28 : decode cX1_arrange 28 = .ok (.aload_n 0, 1) := dk_42 (dk_at dksX1_arrange_1 4 rfl rfl)
theorem dX1_arrange_29 : decode cX1_arrange 29 = .ok (.getfield 19, 3) := dk_180 0 19 (dk_at dksX1_arrange_1 5 rfl rfl)
theorem dX1_arrange_32 : decode cX1_arrange 32 = .ok (.aload_n 0, 1) := dk_42 (dk_at dksX1_arrange_1 8 rfl rfl)
theorem dX1_arrange_33 : decode cX1_arrange 33 = .ok (.getfield 114, 3) := dk_180 0 114 (dk_at dksX1_arrange_1 9 rfl rfl)
theorem dX1_arrange_36 : decode cX1_arrange 36 = .ok (.aload_n 0, 1) := dk_42 (dk_at dksX1_arrange_1 12 rfl rfl)
theorem dX1_arrange_37 : decode cX1_arrange 37 = .ok (.getfield 117, 3) := dk_180 0 117 (dk_at dksX1_arrange_1 13 rfl rfl)
theorem dX1_arrange_40 : decode cX1_arrange 40 = .ok (.invokevirtual 280, 3) := dk_182 1 24 (dk_at dksX1_arrange_1 16 rfl rfl)
theorem dX1_arrange_43 : decode cX1_arrange 43 = .ok (.istore_n 1, 1) := dk_60 (dk_at dksX1_arrange_1 19 rfl rfl)
theorem dX1_arrange_44 : decode cX1_arrange 44 = .ok (.aload_n 0, 1) := dk_42 (dk_at dksX1_arrange_1 20 rfl rfl)
theorem dX1_arrange_45 : decode cX1_arrange 45 = .ok (.iconst 0, 1) := dk_3 (dk_at dksX1_arrange_1 21 rfl rfl)
theorem dX1_arrange_46 : decode cX1_arrange 46 = .ok (.putfield 353, 3) := dk_181 1 97 (dk_at dksX1_arrange_2 0 rfl rfl)
theorem dX1_arrange_49 : decode cX1_arrange 49 = .ok (.aload_n 0, 1) := dk_42 (dk_at dksX1_arrange_2 3 rfl rfl)
theorem dX1_arrange_50 : decode cX1_arrange 50 = .ok (.getfield 353, 3) := dk_180 1 97 (dk_at dksX1_arrange_2 4 rfl rfl)
theorem dX1_arrange_53 : decode cX1_arrange 53 = .ok (.bipush 20, 2) := dk_16 20 (dk_at dksX1_arrange_2 7 rfl rfl)
theorem dX1_arrange_55 : decode cX1_arrange 55 = .ok (.if_icmp .ge 31, 3) := dk_162 0 31 (dk_at dksX1_arrange_2 9 rfl rfl)
theorem dX1_arrange_58 : decode cX1_arrange 58 = .ok (.aload_n 0, 1) := dk_42 (dk_at dksX1_arrange_2 12 rfl rfl)
theorem dX1_arrange_59 : decode cX1_arrange 59 = .ok (.iload_n 1, 1) := dk_27 (dk_at dksX1_arrange_2 13 rfl rfl)
theorem dX1_arrange_60 : decode cX1_arrange 60 = .ok (.invokevirtual 356, 3) := dk_182 1 100 (dk_at dksX1_arrange_2 14 rfl rfl)
theorem dX1_arrange_63 : decode cX1_arrange 63 = .ok (.istore_n 2, 1) := dk_61 (dk_at dksX1_arrange_2 17 rfl rfl)
theorem dX1_arrange_64 : decode cX1_arrange 64 = .ok (.iload_n 2, 1) := dk_28 (dk_at dksX1_arrange_2 18 rfl rfl)
theorem dX1_arrange_65 : decode cX1_arrange 65 = .ok (.iload_n 1, 1) := dk_27 (dk_at dksX1_arrange_2 19 rfl rfl)
theorem dX1_arrange_66 : decode cX1_arrange 66 = .ok (.if_icmp .ne 5, 3) := dk_160 0 5 (dk_at dksX1_arrange_2 20 rfl rfl)
theorem dX1_arrange_69 : decode cX1_arrange 69 = .ok (.iload_n 1, 1) := dk_27 (dk_at dksX1_arrange_2 23 rfl rfl)
theorem dX1_arrange_70 : decode cX1_arrange 70 = .ok (.ireturn, 1) := dk_172 (dk_at dksX1_arrange_3 0 rfl rfl)
theorem dX1_arrange_71 : decode cX1_arrange 71 = .ok (.iload_n 2, 1) := dk_28 (dk_at dksX1_arrange_3 1 rfl rfl)
theorem dX1_arrange_72 : decode cX1_arrange 72 = .ok (.istore_n 1, 1) := dk_60 (dk_at dksX1_arrange_3 2 rfl rfl)
theorem dX1_arrange_73 : decode cX1_arrange 73 = .ok (.aload_n 0, 1) := dk_42 (dk_at dksX1_arrange_3 3 rfl rfl)
theorem dX1_arrange_74 : decode cX1_arrange 74 = .ok (.dup, 1) := dk_89 (dk_at dksX1_arrange_3 4 rfl rfl)
theorem dX1_arrange_75 : decode cX1_arrange 75 = .ok (.getfield 353, 3) := dk_180 1 97 (dk_at dksX1_arrange_3 5 rfl rfl)
theorem dX1_arrange_78 : decode cX1_arrange 78 = .ok (.iconst 1, 1) := dk_4 (dk_at dksX1_arrange_3 8 rfl rfl)
theorem dX1_arrange_79 : decode cX1_arrange 79 = .ok (.iadd, 1) := dk_96 (dk_at dksX1_arrange_3 9 rfl rfl)
theorem dX1_arrange_80 : decode cX1_arrange 80 = .ok (.putfield 353, 3) := dk_181 1 97 (dk_at dksX1_arrange_3 10 rfl rfl)
theorem dX1_arrange_83 : decode cX1_arrange 83 = .ok (.goto (-34), 3) := dk_167 255 222 (dk_at dksX1_arrange_3 13 rfl rfl)
theorem dX1_arrange_86 : decode cX1_arrange 86 = .ok (.iload_n 1, 1) := dk_27 (dk_at dksX1_arrange_3 16 rfl rfl)
theorem dX1_arrange_87 : decode cX1_arrange 87 = .ok (.ireturn, 1) := dk_172 (dk_at dksX1_arrange_3 17 rfl rfl)
def dkwX1_arrangeOnce_5 : List UInt8 := [182, 1, 83, 132, 3, 1, 167, 255, 151, 132, 2, 1, 167, 255, 130, 27, 172]
abbrev dktX1_arrangeOnce_5 : List UInt8 := dkwX1_arrangeOnce_5 ++ []
def dkwX1_arrangeOnce_4 : List UInt8 := [42, 180, 0, 117, 182, 1, 24, 54, 4, 21, 4, 27, 164, 0, 6, 21, 4, 172, 42, 180, 0, 19, 28, 29]
abbrev dktX1_arrangeOnce_4 : List UInt8 := dkwX1_arrangeOnce_4 ++ dktX1_arrangeOnce_5
def dkwX1_arrangeOnce_3 : List UInt8 := [160, 0, 6, 167, 0, 48, 42, 180, 0, 19, 28, 29, 182, 1, 83, 42, 42, 180, 0, 19, 42, 180, 0, 114]
abbrev dktX1_arrangeOnce_3 : List UInt8 := dkwX1_arrangeOnce_3 ++ dktX1_arrangeOnce_4
def dkwX1_arrangeOnce_2 : List UInt8 := [182, 0, 131, 153, 0, 72, 42, 180, 0, 19, 180, 0, 143, 28, 46, 42, 180, 0, 19, 180, 0, 143, 29, 46]
abbrev dktX1_arrangeOnce_2 : List UInt8 := dkwX1_arrangeOnce_2 ++ dktX1_arrangeOnce_3
def dkwX1_arrangeOnce_1 : List UInt8 := [182, 1, 71, 162, 0, 100, 42, 180, 0, 19, 28, 182, 0, 131, 153, 0, 83, 42, 180, 0, 19, 29]
abbrev dktX1_arrangeOnce_1 : List UInt8 := dkwX1_arrangeOnce_1 ++ dktX1_arrangeOnce_2
def dkwX1_arrangeOnce_0 : List UInt8 := [3, 61, 28, 42, 180, 0, 19, 182, 1, 71, 162, 0, 121, 28, 4, 96, 62, 29, 42, 180, 0, 19]
abbrev dktX1_arrangeOnce_0 : List UInt8 := dkwX1_arrangeOnce_0 ++ dktX1_arrangeOnce_1
theorem dksX1_arrangeOnce_0 : cX1_arrangeOnce.data.toList.drop 0 = dktX1_arrangeOnce_0 := by decide +kernel
theorem dksX1_arrangeOnce_1 : cX1_arrangeOnce.data.toList.drop 22 = dktX1_arrangeOnce_1 := dk_seg dksX1_arrangeOnce_0 22 rfl rfl
theorem dksX1_arrangeOnce_2 : cX1_arrangeOnce.data.toList.drop 44 = dktX1_arrangeOnce_2 := dk_seg dksX1_arrangeOnce_1 22 rfl rfl
theorem dksX1_arrangeOnce_3 : cX1_arrangeOnce.data.toList.drop 68 = dktX1_arrangeOnce_3 := dk_seg dksX1_arrangeOnce_2 24 rfl rfl
theorem dksX1_arrangeOnce_4 : cX1_arrangeOnce.data.toList.drop 92 = dktX1_arrangeOnce_4 := dk_seg dksX1_arrangeOnce_3 24 rfl rfl
theorem dksX1_arrangeOnce_5 : cX1_arrangeOnce.data.toList.drop 116 = dktX1_arrangeOnce_5 := dk_seg dksX1_arrangeOnce_4 24 rfl rfl
theorem dX1_arrangeOnce_0 : decode cX1_arrangeOnce 0 = .ok (.iconst 0, 1) := dk_3 (dk_at dksX1_arrangeOnce_0 0 rfl rfl)
theorem dX1_arrangeOnce_1 : decode cX1_arrangeOnce 1 = .ok (.istore_n 2, 1) := dk_61 (dk_at dksX1_arrangeOnce_0 1 rfl rfl)
theorem dX1_arrangeOnce_2 : decode cX1_arrangeOnce 2 = .ok (.iload_n 2, 1) := dk_28 (dk_at dksX1_arrangeOnce_0 2 rfl rfl)
theorem dX1_arrangeOnce_3 : decode cX1_arrangeOnce 3 = .ok (.aload_n 0, 1) := dk_42 (dk_at dksX1_arrangeOnce_0 3 rfl rfl)
theorem dX1_arrangeOnce_4 : decode cX1_arrangeOnce 4 = .ok (.getfield 19, 3) := dk_180 0 19 (dk_at dksX1_arrangeOnce_0 4 rfl rfl)
theorem dX1_arrangeOnce_7 : decode cX1_arrangeOnce 7 = .ok (.invokevirtual 327, 3) := dk_182 1 71 (dk_at dksX1_arrangeOnce_0 7 rfl rfl)
theorem dX1_arrangeOnce_10 : decode cX1_arrangeOnce 10 = .ok (.if_icmp .ge 121, 3) := dk_162 0 121 (dk_at dksX1_arrangeOnce_0 10 rfl rfl)
theorem dX1_arrangeOnce_13 : decode cX1_arrangeOnce 13 = .ok (.iload_n 2, 1) := dk_28 (dk_at dksX1_arrangeOnce_0 13 rfl rfl)
theorem dX1_arrangeOnce_14 : decode cX1_arrangeOnce 14 = .ok (.iconst 1, 1) := dk_4 (dk_at dksX1_arrangeOnce_0 14 rfl rfl)
theorem dX1_arrangeOnce_15 : decode cX1_arrangeOnce 15 = .ok (.iadd, 1) := dk_96 (dk_at dksX1_arrangeOnce_0 15 rfl rfl)
theorem dX1_arrangeOnce_16 : decode cX1_arrangeOnce 16 = .ok (.istore_n 3, 1) := dk_62 (dk_at dksX1_arrangeOnce_0 16 rfl rfl)
theorem dX1_arrangeOnce_17 : decode cX1_arrangeOnce 17 = .ok (.iload_n 3, 1) := dk_29 (dk_at dksX1_arrangeOnce_0 17 rfl rfl)
theorem dX1_arrangeOnce_18 : decode cX1_arrangeOnce 18 = .ok (.aload_n 0, 1) := dk_42 (dk_at dksX1_arrangeOnce_0 18 rfl rfl)
theorem dX1_arrangeOnce_19 : decode cX1_arrangeOnce 19 = .ok (.getfield 19, 3) := dk_180 0 19 (dk_at dksX1_arrangeOnce_0 19 rfl rfl)
theorem dX1_arrangeOnce_22 : decode cX1_arrangeOnce 22 = .ok (.invokevirtual 327, 3) := dk_182 1 71 (dk_at dksX1_arrangeOnce_1 0 rfl rfl)
theorem dX1_arrangeOnce_25 : decode cX1_arrangeOnce 25 = .ok (.if_icmp .ge 100, 3) := dk_162 0 100 (dk_at dksX1_arrangeOnce_1 3 rfl rfl)
theorem dX1_arrangeOnce_28 : decode cX1_arrangeOnce 28 = .ok (.aload_n 0, 1) := dk_42 (dk_at dksX1_arrangeOnce_1 6 rfl rfl)
theorem dX1_arrangeOnce_29 : decode cX1_arrangeOnce 29 = .ok (.getfield 19, 3) := dk_180 0 19 (dk_at dksX1_arrangeOnce_1 7 rfl rfl)
theorem dX1_arrangeOnce_32 : decode cX1_arrangeOnce 32 = .ok (.iload_n 2, 1) := dk_28 (dk_at dksX1_arrangeOnce_1 10 rfl rfl)
theorem dX1_arrangeOnce_33 : decode cX1_arrangeOnce 33 = .ok (.invokevirtual 131, 3) := dk_182 0 131 (dk_at dksX1_arrangeOnce_1 11 rfl rfl)
theorem dX1_arrangeOnce_36 : decode cX1_arrangeOnce 36 = .ok (.ifCond .eq 83, 3) := dk_153 0 83 (dk_at dksX1_arrangeOnce_1 14 rfl rfl)
theorem dX1_arrangeOnce_39 : decode cX1_arrangeOnce 39 = .ok (.aload_n 0, 1) := dk_42 (dk_at dksX1_arrangeOnce_1 17 rfl rfl)
theorem dX1_arrangeOnce_40 : decode cX1_arrangeOnce 40 = .ok (.getfield 19, 3) := dk_180 0 19 (dk_at dksX1_arrangeOnce_1 18 rfl rfl)
theorem dX1_arrangeOnce_43 : decode cX1_arrangeOnce 43 = .ok (.iload_n 3, 1) := dk_29 (dk_at dksX1_arrangeOnce_1 21 rfl rfl)
theorem dX1_arrangeOnce_44 : decode cX1_arrangeOnce 44 = .ok (.invokevirtual 131, 3) := dk_182 0 131 (dk_at dksX1_arrangeOnce_2 0 rfl rfl)
theorem dX1_arrangeOnce_47 : decode cX1_arrangeOnce 47 = .ok (.ifCond .eq 72, 3) := dk_153 0 72 (dk_at dksX1_arrangeOnce_2 3 rfl rfl)
theorem dX1_arrangeOnce_50 : decode cX1_arrangeOnce 50 = .ok (.aload_n 0, 1) := dk_42 (dk_at dksX1_arrangeOnce_2 6 rfl rfl)
theorem dX1_arrangeOnce_51 : decode cX1_arrangeOnce 51 = .ok (.getfield 19, 3) := dk_180 0 19 (dk_at dksX1_arrangeOnce_2 7 rfl rfl)
theorem dX1_arrangeOnce_54 : decode cX1_arrangeOnce 54 = .ok (.getfield 143, 3) := dk_180 0 143 (dk_at dksX1_arrangeOnce_2 10 rfl rfl)
theorem dX1_arrangeOnce_57 : decode cX1_arrangeOnce 57 = .ok (.iload_n 2, 1) := dk_28 (dk_at dksX1_arrangeOnce_2 13 rfl rfl)
theorem dX1_arrangeOnce_58 : decode cX1_arrangeOnce 58 = .ok (.iaload, 1) := dk_46 (dk_at dksX1_arrangeOnce_2 14 rfl rfl)
theorem dX1_arrangeOnce_59 : decode cX1_arrangeOnce 59 = .ok (.aload_n 0, 1) := dk_42 (dk_at dksX1_arrangeOnce_2 15 rfl rfl)
theorem dX1_arrangeOnce_60 : decode cX1_arrangeOnce 60 = .ok (.getfield 19, 3) := dk_180 0 19 (dk_at dksX1_arrangeOnce_2 16 rfl rfl)
theorem dX1_arrangeOnce_63 : decode cX1_arrangeOnce 63 = .ok (.getfield 143, 3) := dk_180 0 143 (dk_at dksX1_arrangeOnce_2 19 rfl rfl)
theorem dX1_arrangeOnce_66 : decode cX1_arrangeOnce 66 = .ok (.iload_n 3, 1) := dk_29 (dk_at dksX1_arrangeOnce_2 22 rfl rfl)
theorem dX1_arrangeOnce_67 : decode cX1_arrangeOnce 67 = .ok (.iaload, 1) := dk_46 (dk_at dksX1_arrangeOnce_2 23 rfl rfl)
theorem dX1_arrangeOnce_68 : decode cX1_arrangeOnce 68 = .ok (.if_icmp .ne 6, 3) := dk_160 0 6 (dk_at dksX1_arrangeOnce_3 0 rfl rfl)
theorem dX1_arrangeOnce_71 : decode cX1_arrangeOnce 71 = .ok (.goto 48, 3) := dk_167 0 48 (dk_at dksX1_arrangeOnce_3 3 rfl rfl)
theorem dX1_arrangeOnce_74 : decode cX1_arrangeOnce 74 = .ok (.aload_n 0, 1) := dk_42 (dk_at dksX1_arrangeOnce_3 6 rfl rfl)
theorem dX1_arrangeOnce_75 : decode cX1_arrangeOnce 75 = .ok (.getfield 19, 3) := dk_180 0 19 (dk_at dksX1_arrangeOnce_3 7 rfl rfl)
theorem dX1_arrangeOnce_78 : decode cX1_arrangeOnce 78 = .ok (.iload_n 2, 1) := dk_28 (dk_at dksX1_arrangeOnce_3 10 rfl rfl)
theorem dX1_arrangeOnce_79 : decode cX1_arrangeOnce 79 = .ok (.iload_n 3, 1) := dk_29 (dk_at dksX1_arrangeOnce_3 11 rfl rfl)
theorem dX1_arrangeOnce_80 : decode cX1_arrangeOnce 80 = .ok (.invokevirtual 339, 3) := dk_182 1 83 (dk_at dksX1_arrangeOnce_3 12 rfl rfl)
theorem dX1_arrangeOnce_83 : decode cX1_arrangeOnce 83 = .ok (.aload_n 0, 1) := dk_42 (dk_at dksX1_arrangeOnce_3 15 rfl rfl)
theorem dX1_arrangeOnce_84 : decode cX1_arrangeOnce 84 = .ok (.aload_n 0, 1) := dk_42 (dk_at dksX1_arrangeOnce_3 16 rfl rfl)
theorem dX1_arrangeOnce_85 : decode cX1_arrangeOnce 85 = .ok (.getfield 19, 3) := dk_180 0 19 (dk_at dksX1_arrangeOnce_3 17 rfl rfl)
theorem dX1_arrangeOnce_88 : decode cX1_arrangeOnce 88 = .ok (.aload_n 0, 1) := dk_42 (dk_at dksX1_arrangeOnce_3 20 rfl rfl)
theorem dX1_arrangeOnce_89 : decode cX1_arrangeOnce 89 = .ok (.getfield 114, 3) := dk_180 0 114 (dk_at dksX1_arrangeOnce_3 21 rfl rfl)
theorem dX1_arrangeOnce_92 : decode cX1_arrangeOnce 92 = .ok (.aload_n 0, 1) := dk_42 (dk_at dksX1_arrangeOnce_4 0 rfl rfl)
theorem dX1_arrangeOnce_93 : decode cX1_arrangeOnce 93 = .ok (.getfield 117, 3) := dk_180 0 117 (dk_at dksX1_arrangeOnce_4 1 rfl rfl)
theorem dX1_arrangeOnce_96 : decode cX1_arrangeOnce 96 = .ok (.invokevirtual 280, 3) := dk_182 1 24 (dk_at dksX1_arrangeOnce_4 4 rfl rfl)
theorem dX1_arrangeOnce_99 : decode cX1_arrangeOnce 99 = .ok (.istore 4, 2) := dk_54 4 (dk_at dksX1_arrangeOnce_4 7 rfl rfl)
theorem dX1_arrangeOnce_101 : decode cX1_arrangeOnce 101 = .ok (.iload 4, 2) := dk_21 4 (dk_at dksX1_arrangeOnce_4 9 rfl rfl)
theorem dX1_arrangeOnce_103 : decode cX1_arrangeOnce 103 = .ok (.iload_n 1, 1) := dk_27 (dk_at dksX1_arrangeOnce_4 11 rfl rfl)
theorem dX1_arrangeOnce_104 : decode cX1_arrangeOnce 104 = .ok (.if_icmp .le 6, 3) := dk_164 0 6 (dk_at dksX1_arrangeOnce_4 12 rfl rfl)
theorem dX1_arrangeOnce_107 : decode cX1_arrangeOnce 107 = .ok (.iload 4, 2) := dk_21 4 (dk_at dksX1_arrangeOnce_4 15 rfl rfl)
theorem dX1_arrangeOnce_109 : decode cX1_arrangeOnce 109 = .ok (.ireturn, 1) := dk_172 (dk_at dksX1_arrangeOnce_4 17 rfl rfl)
theorem dX1_arrangeOnce_110 : decode cX1_arrangeOnce 110 = .ok (.aload_n 0, 1) := dk_42 (dk_at dksX1_arrangeOnce_4 18 rfl rfl)
theorem dX1_arrangeOnce_111 : decode cX1_arrangeOnce 111 = .ok (.getfield 19, 3) := dk_180 0 19 (dk_at dksX1_arrangeOnce_4 19 rfl rfl)
theorem dX1_arrangeOnce_114 : decode cX1_arrangeOnce 114 = .ok (.iload_n 2, 1) := dk_28 (dk_at dksX1_arrangeOnce_4 22 rfl rfl)
theorem dX1_arrangeOnce_115 : decode cX1_arrangeOnce 115 = .ok (.iload_n 3, 1) := dk_29 (dk_at dksX1_arrangeOnce_4 23 rfl rfl)
theorem dX1_arrangeOnce_116 : decode cX1_arrangeOnce 116 = .ok (.invokevirtual 339, 3) := dk_182 1 83 (dk_at dksX1_arrangeOnce_5 0 rfl rfl)
theorem dX1_arrangeOnce_119 : decode cX1_arrangeOnce 119 = .ok (.iinc 3 1, 3) := dk_132 3 1 (dk_at dksX1_arrangeOnce_5 3 rfl rfl)
theorem dX1_arrangeOnce_122 : decode cX1_arrangeOnce 122 = .ok (.goto (-105), 3) := dk_167 255 151 (dk_at dksX1_arrangeOnce_5 6 rfl rfl)
theorem dX1_arrangeOnce_125 : decode cX1_arrangeOnce 125 = .ok (.iinc 2 1, 3) := dk_132 2 1 (dk_at dksX1_arrangeOnce_5 9 rfl rfl)
theorem dX1_arrangeOnce_128 : decode cX1_arrangeOnce 128 = .ok (.goto (-126), 3) := dk_167 255 130 (dk_at dksX1_arrangeOnce_5 12 rfl rfl)
theorem dX1_arrangeOnce_131 : decode cX1_arrangeOnce 131 = .ok (.iload_n 1, 1) := dk_27 (dk_at dksX1_arrangeOnce_5 15 rfl rfl)
theorem dX1_arrangeOnce_132 : decode cX1_arrangeOnce 132 = .ok (.ireturn, 1) := dk_172 (dk_at dksX1_arrangeOnce_5 16 rfl rfl)
theorem dX1_arranged_0 : decode cX1_arranged 0 = .ok (.aload_n 0, 1) := by decide +kernel
theorem dX1_arranged_1 : decode cX1_arranged 1 = .ok (.getfield 353, 3) := by decide +kernel
theorem dX1_arranged_4 : decode cX1_arranged 4 = .ok (.ireturn, 1) := by decide +kernel
def dkwX1_image_3 : List UInt8 := [180, 0, 88, 27, 42, 180, 0, 26, 182, 1, 107, 198, 0, 7, 4, 167, 0, 4, 3, 172]
abbrev dktX1_image_3 : List UInt8 := dkwX1_image_3 ++ []
def dkwX1_image_2 : List UInt8 := [182, 0, 183, 5, 162, 0, 18, 42, 180, 0, 88, 42, 180, 0, 26, 182, 1, 103, 87, 167, 255, 233, 42]
abbrev dktX1_image_2 : List UInt8 := dkwX1_image_2 ++ dktX1_image_3
def dkwX1_image_1 : List UInt8 := [180, 0, 82, 27, 42, 180, 0, 114, 80, 42, 180, 0, 85, 27, 42, 180, 0, 117, 80, 42, 180, 0, 88]
abbrev dktX1_image_1 : List UInt8 := dkwX1_image_1 ++ dktX1_image_2
def dkwX1_image_0 : List UInt8 := [27, 3, 4, 184, 0, 135, 154, 0, 5, 3, 172, 42, 180, 0, 78, 27, 42, 180, 0, 19, 83, 42]
abbrev dktX1_image_0 : List UInt8 := dkwX1_image_0 ++ dktX1_image_1
theorem dksX1_image_0 : cX1_image.data.toList.drop 0 = dktX1_image_0 := by decide +kernel
theorem dksX1_image_1 : cX1_image.data.toList.drop 22 = dktX1_image_1 := dk_seg dksX1_image_0 22 rfl rfl
theorem dksX1_image_2 : cX1_image.data.toList.drop 45 = dktX1_image_2 := dk_seg dksX1_image_1 23 rfl rfl
theorem dksX1_image_3 : cX1_image.data.toList.drop 68 = dktX1_image_3 := dk_seg dksX1_image_2 23 rfl rfl
theorem dX1_image_0 : decode cX1_image 0 = .ok (.iload_n 1, 1) := dk_27 (dk_at dksX1_image_0 0 rfl rfl)
theorem dX1_image_1 : decode cX1_image 1 = .ok (.iconst 0, 1) := dk_3 (dk_at dksX1_image_0 1 rfl rfl)
theorem dX1_image_2 : decode cX1_image 2 = .ok (.iconst 1, 1) := dk_4 (dk_at dksX1_image_0 2 rfl rfl)
theorem dX1_image_3 : decode cX1_image 3 = .ok (.invokestatic 135, 3) := dk_184 0 135 (dk_at dksX1_image_0 3 rfl rfl)
theorem dX1_image_6 : decode cX1_image 6 = .ok (.ifCond .ne 5, 3) := dk_154 0 5 (dk_at dksX1_image_0 6 rfl rfl)
theorem dX1_image_9 : decode cX1_image 9 = .ok (.iconst 0, 1) := dk_3 (dk_at dksX1_image_0 9 rfl rfl)
theorem dX1_image_10 : decode cX1_image 10 = .ok (.ireturn, 1) := dk_172 (dk_at dksX1_image_0 10 rfl rfl)
theorem dX1_image_11 : decode cX1_image 11 = .ok (.aload_n 0, 1) := dk_42 (dk_at dksX1_image_0 11 rfl rfl)
theorem dX1_image_12 : decode cX1_image 12 = .ok (.getfield 78, 3) := dk_180 0 78 (dk_at dksX1_image_0 12 rfl rfl)
theorem dX1_image_15 : decode cX1_image 15 = .ok (.iload_n 1, 1) := dk_27 (dk_at dksX1_image_0 15 rfl rfl)
theorem dX1_image_16 : decode cX1_image 16 = .ok (.aload_n 0, 1) := dk_42 (dk_at dksX1_image_0 16 rfl rfl)
theorem dX1_image_17 : decode cX1_image 17 = .ok (.getfield 19, 3) := dk_180 0 19 (dk_at dksX1_image_0 17 rfl rfl)
theorem dX1_image_20 : decode cX1_image 20 = .ok (.aastore, 1) := dk_83 (dk_at dksX1_image_0 20 rfl rfl)
theorem dX1_image_21 : decode cX1_image 21 = .ok (.aload_n 0, 1) := dk_42 (dk_at dksX1_image_0 21 rfl rfl)
theorem dX1_image_22 : decode cX1_image 22 = .ok (.getfield 82, 3) := dk_180 0 82 (dk_at dksX1_image_1 0 rfl rfl)
theorem dX1_image_25 : decode cX1_image 25 = .ok (.iload_n 1, 1) := dk_27 (dk_at dksX1_image_1 3 rfl rfl)
theorem dX1_image_26 : decode cX1_image 26 = .ok (.aload_n 0, 1) := dk_42 (dk_at dksX1_image_1 4 rfl rfl)
theorem dX1_image_27 : decode cX1_image 27 = .ok (.getfield 114, 3) := dk_180 0 114 (dk_at dksX1_image_1 5 rfl rfl)
theorem dX1_image_30 : decode cX1_image 30 = .ok (.lastore, 1) := dk_80 (dk_at dksX1_image_1 8 rfl rfl)
theorem dX1_image_31 : decode cX1_image 31 = .ok (.aload_n 0, 1) := dk_42 (dk_at dksX1_image_1 9 rfl rfl)
theorem dX1_image_32 : decode cX1_image 32 = .ok (.getfield 85, 3) := dk_180 0 85 (dk_at dksX1_image_1 10 rfl rfl)
theorem dX1_image_35 : decode cX1_image 35 = .ok (.iload_n 1, 1) := dk_27 (dk_at dksX1_image_1 13 rfl rfl)
theorem dX1_image_36 : decode cX1_image 36 = .ok (.aload_n 0, 1) := dk_42 (dk_at dksX1_image_1 14 rfl rfl)
theorem dX1_image_37 : decode cX1_image 37 = .ok (.getfield 117, 3) := dk_180 0 117 (dk_at dksX1_image_1 15 rfl rfl)
theorem dX1_image_40 : decode cX1_image 40 = .ok (.lastore, 1) := dk_80 (dk_at dksX1_image_1 18 rfl rfl)
theorem dX1_image_41 : decode cX1_image 41 = .ok (.aload_n 0, 1) := dk_42 (dk_at dksX1_image_1 19 rfl rfl)
theorem dX1_image_42 : decode cX1_image 42 = .ok (.getfield 88, 3) := dk_180 0 88 (dk_at dksX1_image_1 20 rfl rfl)
theorem dX1_image_45 : decode cX1_image 45 = .ok (.invokevirtual 183, 3) := dk_182 0 183 (dk_at dksX1_image_2 0 rfl rfl)
theorem dX1_image_48 : decode cX1_image 48 = .ok (.iconst 2, 1) := dk_5 (dk_at dksX1_image_2 3 rfl rfl)
theorem dX1_image_49 : decode cX1_image 49 = .ok (.if_icmp .ge 18, 3) := dk_162 0 18 (dk_at dksX1_image_2 4 rfl rfl)
theorem dX1_image_52 : decode cX1_image 52 = .ok (.aload_n 0, 1) := dk_42 (dk_at dksX1_image_2 7 rfl rfl)
theorem dX1_image_53 : decode cX1_image 53 = .ok (.getfield 88, 3) := dk_180 0 88 (dk_at dksX1_image_2 8 rfl rfl)
theorem dX1_image_56 : decode cX1_image 56 = .ok (.aload_n 0, 1) := dk_42 (dk_at dksX1_image_2 11 rfl rfl)
theorem dX1_image_57 : decode cX1_image 57 = .ok (.getfield 26, 3) := dk_180 0 26 (dk_at dksX1_image_2 12 rfl rfl)
theorem dX1_image_60 : decode cX1_image 60 = .ok (.invokevirtual 359, 3) := dk_182 1 103 (dk_at dksX1_image_2 15 rfl rfl)
theorem dX1_image_63 : decode cX1_image 63 = .ok (.pop, 1) := dk_87 (dk_at dksX1_image_2 18 rfl rfl)
theorem dX1_image_64 : decode cX1_image 64 = .ok (.goto (-23), 3) := dk_167 255 233 (dk_at dksX1_image_2 19 rfl rfl)
theorem dX1_image_67 : decode cX1_image 67 = .ok (.aload_n 0, 1) := dk_42 (dk_at dksX1_image_2 22 rfl rfl)
theorem dX1_image_68 : decode cX1_image 68 = .ok (.getfield 88, 3) := dk_180 0 88 (dk_at dksX1_image_3 0 rfl rfl)
theorem dX1_image_71 : decode cX1_image 71 = .ok (.iload_n 1, 1) := dk_27 (dk_at dksX1_image_3 3 rfl rfl)
theorem dX1_image_72 : decode cX1_image 72 = .ok (.aload_n 0, 1) := dk_42 (dk_at dksX1_image_3 4 rfl rfl)
theorem dX1_image_73 : decode cX1_image 73 = .ok (.getfield 26, 3) := dk_180 0 26 (dk_at dksX1_image_3 5 rfl rfl)
theorem dX1_image_76 : decode cX1_image 76 = .ok (.invokevirtual 363, 3) := dk_182 1 107 (dk_at dksX1_image_3 8 rfl rfl)
theorem dX1_image_79 : decode cX1_image 79 = .ok (.ifnull 7, 3) := dk_198 0 7 (dk_at dksX1_image_3 11 rfl rfl)
theorem dX1_image_82 : decode cX1_image 82 = .ok (.iconst 1, 1) := dk_4 (dk_at dksX1_image_3 14 rfl rfl)
theorem dX1_image_83 : decode cX1_image 83 = .ok (.goto 4, 3) := dk_167 0 4 (dk_at dksX1_image_3 15 rfl rfl)
theorem dX1_image_86 : decode cX1_image 86 = .ok (.iconst 0, 1) := dk_3 (dk_at dksX1_image_3 18 rfl rfl)
theorem dX1_image_87 : decode cX1_image 87 = .ok (.ireturn, 1) := dk_172 (dk_at dksX1_image_3 19 rfl rfl)
def dkwX1_restore_2 : List UInt8 := [47, 181, 0, 117, 42, 42, 180, 0, 88, 27, 182, 0, 186, 192, 0, 23, 181, 0, 26, 4, 172]
abbrev dktX1_restore_2 : List UInt8 := dkwX1_restore_2 ++ []
def dkwX1_restore_1 : List UInt8 := [180, 0, 78, 27, 50, 181, 0, 19, 42, 42, 180, 0, 82, 27, 47, 181, 0, 114, 42, 42, 180, 0, 85, 27]
abbrev dktX1_restore_1 : List UInt8 := dkwX1_restore_1 ++ dktX1_restore_2
def dkwX1_restore_0 : List UInt8 := [27, 3, 4, 184, 0, 135, 153, 0, 12, 42, 180, 0, 78, 27, 50, 199, 0, 5, 3, 172, 42, 42]
abbrev dktX1_restore_0 : List UInt8 := dkwX1_restore_0 ++ dktX1_restore_1
theorem dksX1_restore_0 : cX1_restore.data.toList.drop 0 = dktX1_restore_0 := by decide +kernel
theorem dksX1_restore_1 : cX1_restore.data.toList.drop 22 = dktX1_restore_1 := dk_seg dksX1_restore_0 22 rfl rfl
theorem dksX1_restore_2 : cX1_restore.data.toList.drop 46 = dktX1_restore_2 := dk_seg dksX1_restore_1 24 rfl rfl
theorem dX1_restore_0 : decode cX1_restore 0 = .ok (.iload_n 1, 1) := dk_27 (dk_at dksX1_restore_0 0 rfl rfl)
theorem dX1_restore_1 : decode cX1_restore 1 = .ok (.iconst 0, 1) := dk_3 (dk_at dksX1_restore_0 1 rfl rfl)
theorem dX1_restore_2 : decode cX1_restore 2 = .ok (.iconst 1, 1) := dk_4 (dk_at dksX1_restore_0 2 rfl rfl)
theorem dX1_restore_3 : decode cX1_restore 3 = .ok (.invokestatic 135, 3) := dk_184 0 135 (dk_at dksX1_restore_0 3 rfl rfl)
theorem dX1_restore_6 : decode cX1_restore 6 = .ok (.ifCond .eq 12, 3) := dk_153 0 12 (dk_at dksX1_restore_0 6 rfl rfl)
theorem dX1_restore_9 : decode cX1_restore 9 = .ok (.aload_n 0, 1) := dk_42 (dk_at dksX1_restore_0 9 rfl rfl)
theorem dX1_restore_10 : decode cX1_restore 10 = .ok (.getfield 78, 3) := dk_180 0 78 (dk_at dksX1_restore_0 10 rfl rfl)
theorem dX1_restore_13 : decode cX1_restore 13 = .ok (.iload_n 1, 1) := dk_27 (dk_at dksX1_restore_0 13 rfl rfl)
theorem dX1_restore_14 : decode cX1_restore 14 = .ok (.aaload, 1) := dk_50 (dk_at dksX1_restore_0 14 rfl rfl)
theorem dX1_restore_15 : decode cX1_restore 15 = .ok (.ifnonnull 5, 3) := dk_199 0 5 (dk_at dksX1_restore_0 15 rfl rfl)
theorem dX1_restore_18 : decode cX1_restore 18 = .ok (.iconst 0, 1) := dk_3 (dk_at dksX1_restore_0 18 rfl rfl)
theorem dX1_restore_19 : decode cX1_restore 19 = .ok (.ireturn, 1) := dk_172 (dk_at dksX1_restore_0 19 rfl rfl)
theorem dX1_restore_20 : decode cX1_restore 20 = .ok (.aload_n 0, 1) := dk_42 (dk_at dksX1_restore_0 20 rfl rfl)
theorem dX1_restore_21 : decode cX1_restore 21 = .ok (.aload_n 0, 1) := dk_42 (dk_at dksX1_restore_0 21 rfl rfl)
theorem dX1_restore_22 : decode cX1_restore 22 = .ok (.getfield 78, 3) := dk_180 0 78 (dk_at dksX1_restore_1 0 rfl rfl)
theorem dX1_restore_25 : decode cX1_restore 25 = .ok (.iload_n 1, 1) := dk_27 (dk_at dksX1_restore_1 3 rfl rfl)
theorem dX1_restore_26 : decode cX1_restore 26 = .ok (.aaload, 1) := dk_50 (dk_at dksX1_restore_1 4 rfl rfl)
theorem dX1_restore_27 : decode cX1_restore 27 = .ok (.putfield 19, 3) := dk_181 0 19 (dk_at dksX1_restore_1 5 rfl rfl)
theorem dX1_restore_30 : decode cX1_restore 30 = .ok (.aload_n 0, 1) := dk_42 (dk_at dksX1_restore_1 8 rfl rfl)
theorem dX1_restore_31 : decode cX1_restore 31 = .ok (.aload_n 0, 1) := dk_42 (dk_at dksX1_restore_1 9 rfl rfl)
theorem dX1_restore_32 : decode cX1_restore 32 = .ok (.getfield 82, 3) := dk_180 0 82 (dk_at dksX1_restore_1 10 rfl rfl)
theorem dX1_restore_35 : decode cX1_restore 35 = .ok (.iload_n 1, 1) := dk_27 (dk_at dksX1_restore_1 13 rfl rfl)
theorem dX1_restore_36 : decode cX1_restore 36 = .ok (.laload, 1) := dk_47 (dk_at dksX1_restore_1 14 rfl rfl)
theorem dX1_restore_37 : decode cX1_restore 37 = .ok (.putfield 114, 3) := dk_181 0 114 (dk_at dksX1_restore_1 15 rfl rfl)
theorem dX1_restore_40 : decode cX1_restore 40 = .ok (.aload_n 0, 1) := dk_42 (dk_at dksX1_restore_1 18 rfl rfl)
theorem dX1_restore_41 : decode cX1_restore 41 = .ok (.aload_n 0, 1) := dk_42 (dk_at dksX1_restore_1 19 rfl rfl)
theorem dX1_restore_42 : decode cX1_restore 42 = .ok (.getfield 85, 3) := dk_180 0 85 (dk_at dksX1_restore_1 20 rfl rfl)
theorem dX1_restore_45 : decode cX1_restore 45 = .ok (.iload_n 1, 1) := dk_27 (dk_at dksX1_restore_1 23 rfl rfl)
theorem dX1_restore_46 : decode cX1_restore 46 = .ok (.laload, 1) := dk_47 (dk_at dksX1_restore_2 0 rfl rfl)
theorem dX1_restore_47 : decode cX1_restore 47 = .ok (.putfield 117, 3) := dk_181 0 117 (dk_at dksX1_restore_2 1 rfl rfl)
theorem dX1_restore_50 : decode cX1_restore 50 = .ok (.aload_n 0, 1) := dk_42 (dk_at dksX1_restore_2 4 rfl rfl)
theorem dX1_restore_51 : decode cX1_restore 51 = .ok (.aload_n 0, 1) := dk_42 (dk_at dksX1_restore_2 5 rfl rfl)
theorem dX1_restore_52 : decode cX1_restore 52 = .ok (.getfield 88, 3) := dk_180 0 88 (dk_at dksX1_restore_2 6 rfl rfl)
theorem dX1_restore_55 : decode cX1_restore 55 = .ok (.iload_n 1, 1) := dk_27 (dk_at dksX1_restore_2 9 rfl rfl)
theorem dX1_restore_56 : decode cX1_restore 56 = .ok (.invokevirtual 186, 3) := dk_182 0 186 (dk_at dksX1_restore_2 10 rfl rfl)
theorem dX1_restore_59 : decode cX1_restore 59 = .ok (.checkcast 23, 3) := dk_192 0 23 (dk_at dksX1_restore_2 13 rfl rfl)
theorem dX1_restore_62 : decode cX1_restore 62 = .ok (.putfield 26, 3) := dk_181 0 26 (dk_at dksX1_restore_2 16 rfl rfl)
theorem dX1_restore_65 : decode cX1_restore 65 = .ok (.iconst 1, 1) := dk_4 (dk_at dksX1_restore_2 19 rfl rfl)
theorem dX1_restore_66 : decode cX1_restore 66 = .ok (.ireturn, 1) := dk_172 (dk_at dksX1_restore_2 20 rfl rfl)
def dkwX1_count_5 : List UInt8 := [172, 42, 180, 0, 91, 172, 42, 180, 0, 26, 182, 0, 183, 172, 2, 172]
abbrev dktX1_count_5 : List UInt8 := dkwX1_count_5 ++ []
def dkwX1_count_4 : List UInt8 := [153, 0, 7, 4, 167, 0, 4, 3, 172, 42, 180, 0, 114, 184, 0, 222, 172, 42, 180, 0, 117, 184, 0, 222]
abbrev dktX1_count_4 : List UInt8 := dkwX1_count_4 ++ dktX1_count_5
def dkwX1_count_3 : List UInt8 := [42, 180, 0, 19, 180, 1, 28, 172, 42, 180, 0, 19, 180, 1, 8, 172, 42, 180, 0, 19, 180, 1, 114]
abbrev dktX1_count_3 : List UInt8 := dkwX1_count_3 ++ dktX1_count_4
def dkwX1_count_2 : List UInt8 := [42, 180, 0, 19, 180, 0, 255, 172, 42, 180, 0, 19, 180, 1, 111, 172, 42, 180, 0, 19, 182, 1, 72, 172]
abbrev dktX1_count_2 : List UInt8 := dkwX1_count_2 ++ dktX1_count_3
def dkwX1_count_1 : List UInt8 := [170, 0, 0, 0, 0, 0, 140, 0, 0, 0, 0, 0, 0, 0, 9, 0, 0, 0, 55, 0, 0, 0, 63, 0, 0, 0, 71, 0, 0, 0, 79, 0, 0, 0, 87, 0, 0, 0, 95, 0, 0, 0, 111, 0, 0, 0, 119, 0, 0, 0, 127, 0, 0, 0, 132]
abbrev dktX1_count_1 : List UInt8 := dkwX1_count_1 ++ dktX1_count_2
def dkwX1_count_0 : List UInt8 := [27]
abbrev dktX1_count_0 : List UInt8 := dkwX1_count_0 ++ dktX1_count_1
theorem dksX1_count_0 : cX1_count.data.toList.drop 0 = dktX1_count_0 := by decide +kernel
theorem dksX1_count_1 : cX1_count.data.toList.drop 1 = dktX1_count_1 := dk_seg dksX1_count_0 1 rfl rfl
theorem dksX1_count_2 : cX1_count.data.toList.drop 56 = dktX1_count_2 := dk_seg dksX1_count_1 55 rfl rfl
theorem dksX1_count_3 : cX1_count.data.toList.drop 80 = dktX1_count_3 := dk_seg dksX1_count_2 24 rfl rfl
theorem dksX1_count_4 : cX1_count.data.toList.drop 103 = dktX1_count_4 := dk_seg dksX1_count_3 23 rfl rfl
theorem dksX1_count_5 : cX1_count.data.toList.drop 127 = dktX1_count_5 := dk_seg dksX1_count_4 24 rfl rfl
theorem dX1_count_0 : decode cX1_count 0 = .ok (.iload_n 1, 1) := dk_27 (dk_at dksX1_count_0 0 rfl rfl)
theorem dX1_count_1 : decode cX1_count 1 = .ok (.tableswitch 140 0 9 #[55, 63, 71, 79, 87, 95, 111, 119, 127, 132], 55) := by decide +kernel
theorem dX1_count_56 : decode cX1_count 56 = .ok (.aload_n 0, 1) := dk_42 (dk_at dksX1_count_2 0 rfl rfl)
theorem dX1_count_57 : decode cX1_count 57 = .ok (.getfield 19, 3) := dk_180 0 19 (dk_at dksX1_count_2 1 rfl rfl)
theorem dX1_count_60 : decode cX1_count 60 = .ok (.getfield 255, 3) := dk_180 0 255 (dk_at dksX1_count_2 4 rfl rfl)
theorem dX1_count_63 : decode cX1_count 63 = .ok (.ireturn, 1) := dk_172 (dk_at dksX1_count_2 7 rfl rfl)
theorem dX1_count_64 : decode cX1_count 64 = .ok (.aload_n 0, 1) := dk_42 (dk_at dksX1_count_2 8 rfl rfl)
theorem dX1_count_65 : decode cX1_count 65 = .ok (.getfield 19, 3) := dk_180 0 19 (dk_at dksX1_count_2 9 rfl rfl)
theorem dX1_count_68 : decode cX1_count 68 = .ok (.getfield 367, 3) := dk_180 1 111 (dk_at dksX1_count_2 12 rfl rfl)
theorem dX1_count_71 : decode cX1_count 71 = .ok (.ireturn, 1) := dk_172 (dk_at dksX1_count_2 15 rfl rfl)
theorem dX1_count_72 : decode cX1_count 72 = .ok (.aload_n 0, 1) := dk_42 (dk_at dksX1_count_2 16 rfl rfl)
theorem dX1_count_73 : decode cX1_count 73 = .ok (.getfield 19, 3) := dk_180 0 19 (dk_at dksX1_count_2 17 rfl rfl)
theorem dX1_count_76 : decode cX1_count 76 = .ok (.invokevirtual 328, 3) := dk_182 1 72 (dk_at dksX1_count_2 20 rfl rfl)
theorem dX1_count_79 : decode cX1_count 79 = .ok (.ireturn, 1) := dk_172 (dk_at dksX1_count_2 23 rfl rfl)
theorem dX1_count_80 : decode cX1_count 80 = .ok (.aload_n 0, 1) := dk_42 (dk_at dksX1_count_3 0 rfl rfl)
theorem dX1_count_81 : decode cX1_count 81 = .ok (.getfield 19, 3) := dk_180 0 19 (dk_at dksX1_count_3 1 rfl rfl)
theorem dX1_count_84 : decode cX1_count 84 = .ok (.getfield 284, 3) := dk_180 1 28 (dk_at dksX1_count_3 4 rfl rfl)
theorem dX1_count_87 : decode cX1_count 87 = .ok (.ireturn, 1) := dk_172 (dk_at dksX1_count_3 7 rfl rfl)
theorem dX1_count_88 : decode cX1_count 88 = .ok (.aload_n 0, 1) := dk_42 (dk_at dksX1_count_3 8 rfl rfl)
theorem dX1_count_89 : decode cX1_count 89 = .ok (.getfield 19, 3) := dk_180 0 19 (dk_at dksX1_count_3 9 rfl rfl)
theorem dX1_count_92 : decode cX1_count 92 = .ok (.getfield 264, 3) := dk_180 1 8 (dk_at dksX1_count_3 12 rfl rfl)
theorem dX1_count_95 : decode cX1_count 95 = .ok (.ireturn, 1) := dk_172 (dk_at dksX1_count_3 15 rfl rfl)
theorem dX1_count_96 : decode cX1_count 96 = .ok (.aload_n 0, 1) := dk_42 (dk_at dksX1_count_3 16 rfl rfl)
theorem dX1_count_97 : decode cX1_count 97 = .ok (.getfield 19, 3) := dk_180 0 19 (dk_at dksX1_count_3 17 rfl rfl)
theorem dX1_count_100 : decode cX1_count 100 = .ok (.getfield 370, 3) := dk_180 1 114 (dk_at dksX1_count_3 20 rfl rfl)
theorem dX1_count_103 : decode cX1_count 103 = .ok (.ifCond .eq 7, 3) := dk_153 0 7 (dk_at dksX1_count_4 0 rfl rfl)
theorem dX1_count_106 : decode cX1_count 106 = .ok (.iconst 1, 1) := dk_4 (dk_at dksX1_count_4 3 rfl rfl)
theorem dX1_count_107 : decode cX1_count 107 = .ok (.goto 4, 3) := dk_167 0 4 (dk_at dksX1_count_4 4 rfl rfl)
theorem dX1_count_110 : decode cX1_count 110 = .ok (.iconst 0, 1) := dk_3 (dk_at dksX1_count_4 7 rfl rfl)
theorem dX1_count_111 : decode cX1_count 111 = .ok (.ireturn, 1) := dk_172 (dk_at dksX1_count_4 8 rfl rfl)
theorem dX1_count_112 : decode cX1_count 112 = .ok (.aload_n 0, 1) := dk_42 (dk_at dksX1_count_4 9 rfl rfl)
theorem dX1_count_113 : decode cX1_count 113 = .ok (.getfield 114, 3) := dk_180 0 114 (dk_at dksX1_count_4 10 rfl rfl)
theorem dX1_count_116 : decode cX1_count 116 = .ok (.invokestatic 222, 3) := dk_184 0 222 (dk_at dksX1_count_4 13 rfl rfl)
theorem dX1_count_119 : decode cX1_count 119 = .ok (.ireturn, 1) := dk_172 (dk_at dksX1_count_4 16 rfl rfl)
theorem dX1_count_120 : decode cX1_count 120 = .ok (.aload_n 0, 1) := dk_42 (dk_at dksX1_count_4 17 rfl rfl)
theorem dX1_count_121 : decode cX1_count 121 = .ok (.getfield 117, 3) := dk_180 0 117 (dk_at dksX1_count_4 18 rfl rfl)
theorem dX1_count_124 : decode cX1_count 124 = .ok (.invokestatic 222, 3) := dk_184 0 222 (dk_at dksX1_count_4 21 rfl rfl)
theorem dX1_count_127 : decode cX1_count 127 = .ok (.ireturn, 1) := dk_172 (dk_at dksX1_count_5 0 rfl rfl)
theorem dX1_count_128 : decode cX1_count 128 = .ok (.aload_n 0, 1) := dk_42 (dk_at dksX1_count_5 1 rfl rfl)
theorem dX1_count_129 : decode cX1_count 129 = .ok (.getfield 91, 3) := dk_180 0 91 (dk_at dksX1_count_5 2 rfl rfl)
theorem dX1_count_132 : decode cX1_count 132 = .ok (.ireturn, 1) := dk_172 (dk_at dksX1_count_5 5 rfl rfl)
theorem dX1_count_133 : decode cX1_count 133 = .ok (.aload_n 0, 1) := dk_42 (dk_at dksX1_count_5 6 rfl rfl)
theorem dX1_count_134 : decode cX1_count 134 = .ok (.getfield 26, 3) := dk_180 0 26 (dk_at dksX1_count_5 7 rfl rfl)
theorem dX1_count_137 : decode cX1_count 137 = .ok (.invokevirtual 183, 3) := dk_182 0 183 (dk_at dksX1_count_5 10 rfl rfl)
theorem dX1_count_140 : decode cX1_count 140 = .ok (.ireturn, 1) := dk_172 (dk_at dksX1_count_5 13 rfl rfl)
theorem dX1_count_141 : decode cX1_count 141 = .ok (.iconst (-1), 1) := dk_2 (dk_at dksX1_count_5 14 rfl rfl)
theorem dX1_count_142 : decode cX1_count 142 = .ok (.ireturn, 1) := dk_172 (dk_at dksX1_count_5 15 rfl rfl)
def dkwX1_seat_6 : List UInt8 := [153, 0, 7, 4, 167, 0, 4, 3, 172]
abbrev dktX1_seat_6 : List UInt8 := dkwX1_seat_6 ++ []
def dkwX1_seat_5 : List UInt8 := [180, 0, 114, 27, 184, 0, 155, 153, 0, 7, 4, 167, 0, 4, 3, 172, 42, 180, 0, 117, 27, 184, 0, 155]
abbrev dktX1_seat_5 : List UInt8 := dkwX1_seat_5 ++ dktX1_seat_6
def dkwX1_seat_4 : List UInt8 := [182, 0, 148, 46, 172, 42, 180, 0, 19, 180, 0, 152, 42, 180, 0, 19, 27, 182, 0, 148, 46, 172, 42]
abbrev dktX1_seat_4 : List UInt8 := dkwX1_seat_4 ++ dktX1_seat_5
def dkwX1_seat_3 : List UInt8 := [42, 180, 0, 19, 180, 0, 143, 27, 46, 172, 42, 180, 0, 19, 180, 0, 145, 42, 180, 0, 19, 27]
abbrev dktX1_seat_3 : List UInt8 := dkwX1_seat_3 ++ dktX1_seat_4
def dkwX1_seat_2 : List UInt8 := [170, 0, 0, 0, 0, 0, 92, 0, 0, 0, 0, 0, 0, 0, 3, 0, 0, 0, 31, 0, 0, 0, 41, 0, 0, 0, 58, 0, 0, 0, 75]
abbrev dktX1_seat_2 : List UInt8 := dkwX1_seat_2 ++ dktX1_seat_3
def dkwX1_seat_1 : List UInt8 := [3, 184, 0, 139, 28]
abbrev dktX1_seat_1 : List UInt8 := dkwX1_seat_1 ++ dktX1_seat_2
def dkwX1_seat_0 : List UInt8 := [42, 180, 0, 19, 27, 182, 0, 131, 153, 0, 16, 28, 3, 7, 184, 0, 135, 153, 0, 7, 4, 167, 0, 4]
abbrev dktX1_seat_0 : List UInt8 := dkwX1_seat_0 ++ dktX1_seat_1
theorem dksX1_seat_0 : cX1_seat.data.toList.drop 0 = dktX1_seat_0 := by decide +kernel
theorem dksX1_seat_1 : cX1_seat.data.toList.drop 24 = dktX1_seat_1 := dk_seg dksX1_seat_0 24 rfl rfl
theorem dksX1_seat_2 : cX1_seat.data.toList.drop 29 = dktX1_seat_2 := dk_seg dksX1_seat_1 5 rfl rfl
theorem dksX1_seat_3 : cX1_seat.data.toList.drop 60 = dktX1_seat_3 := dk_seg dksX1_seat_2 31 rfl rfl
theorem dksX1_seat_4 : cX1_seat.data.toList.drop 82 = dktX1_seat_4 := dk_seg dksX1_seat_3 22 rfl rfl
theorem dksX1_seat_5 : cX1_seat.data.toList.drop 105 = dktX1_seat_5 := dk_seg dksX1_seat_4 23 rfl rfl
theorem dksX1_seat_6 : cX1_seat.data.toList.drop 129 = dktX1_seat_6 := dk_seg dksX1_seat_5 24 rfl rfl
theorem dX1_seat_0 : decode cX1_seat 0 = .ok (.aload_n 0, 1) := dk_42 (dk_at dksX1_seat_0 0 rfl rfl)
theorem dX1_seat_1 : decode cX1_seat 1 = .ok (.getfield 19, 3) := dk_180 0 19 (dk_at dksX1_seat_0 1 rfl rfl)
theorem dX1_seat_4 : decode cX1_seat 4 = .ok (.iload_n 1, 1) := dk_27 (dk_at dksX1_seat_0 4 rfl rfl)
theorem dX1_seat_5 : decode cX1_seat 5 = .ok (.invokevirtual 131, 3) := dk_182 0 131 (dk_at dksX1_seat_0 5 rfl rfl)
theorem dX1_seat_8 : decode cX1_seat 8 = .ok (.ifCond .eq 16, 3) := dk_153 0 16 (dk_at dksX1_seat_0 8 rfl rfl)
theorem dX1_seat_11 : decode cX1_seat 11 = .ok (.iload_n 2, 1) := dk_28 (dk_at dksX1_seat_0 11 rfl rfl)
theorem dX1_seat_12 : decode cX1_seat 12 = .ok (.iconst 0, 1) := dk_3 (dk_at dksX1_seat_0 12 rfl rfl)
theorem dX1_seat_13 : decode cX1_seat 13 = .ok (.iconst 4, 1) := dk_7 (dk_at dksX1_seat_0 13 rfl rfl)
theorem dX1_seat_14 : decode cX1_seat 14 = .ok (.invokestatic 135, 3) := dk_184 0 135 (dk_at dksX1_seat_0 14 rfl rfl)
theorem dX1_seat_17 : decode cX1_seat 17 = .ok (.ifCond .eq 7, 3) := dk_153 0 7 (dk_at dksX1_seat_0 17 rfl rfl)
theorem dX1_seat_20 : decode cX1_seat 20 = .ok (.iconst 1, 1) := dk_4 (dk_at dksX1_seat_0 20 rfl rfl)
theorem dX1_seat_21 : decode cX1_seat 21 = .ok (.goto 4, 3) := dk_167 0 4 (dk_at dksX1_seat_0 21 rfl rfl)
theorem dX1_seat_24 : decode cX1_seat 24 = .ok (.iconst 0, 1) := dk_3 (dk_at dksX1_seat_1 0 rfl rfl)
theorem dX1_seat_25 : decode cX1_seat 25 = .ok (.invokestatic 139, 3) := dk_184 0 139 (dk_at dksX1_seat_1 1 rfl rfl)
theorem dX1_seat_28 : decode cX1_seat 28 = .ok (.iload_n 2, 1) := dk_28 (dk_at dksX1_seat_1 4 rfl rfl)
theorem dX1_seat_29 : decode cX1_seat 29 = .ok (.tableswitch 92 0 3 #[31, 41, 58, 75], 31) := by decide +kernel
theorem dX1_seat_60 : decode cX1_seat 60 = .ok (.aload_n 0, 1) := dk_42 (dk_at dksX1_seat_3 0 rfl rfl)
theorem dX1_seat_61 : decode cX1_seat 61 = .ok (.getfield 19, 3) := dk_180 0 19 (dk_at dksX1_seat_3 1 rfl rfl)
theorem dX1_seat_64 : decode cX1_seat 64 = .ok (.getfield 143, 3) := dk_180 0 143 (dk_at dksX1_seat_3 4 rfl rfl)
theorem dX1_seat_67 : decode cX1_seat 67 = .ok (.iload_n 1, 1) := dk_27 (dk_at dksX1_seat_3 7 rfl rfl)
theorem dX1_seat_68 : decode cX1_seat 68 = .ok (.iaload, 1) := dk_46 (dk_at dksX1_seat_3 8 rfl rfl)
theorem dX1_seat_69 : decode cX1_seat 69 = .ok (.ireturn, 1) := dk_172 (dk_at dksX1_seat_3 9 rfl rfl)
theorem dX1_seat_70 : decode cX1_seat 70 = .ok (.aload_n 0, 1) := dk_42 (dk_at dksX1_seat_3 10 rfl rfl)
theorem dX1_seat_71 : decode cX1_seat 71 = .ok (.getfield 19, 3) := dk_180 0 19 (dk_at dksX1_seat_3 11 rfl rfl)
theorem dX1_seat_74 : decode cX1_seat 74 = .ok (.getfield 145, 3) := dk_180 0 145 (dk_at dksX1_seat_3 14 rfl rfl)
theorem dX1_seat_77 : decode cX1_seat 77 = .ok (.aload_n 0, 1) := dk_42 (dk_at dksX1_seat_3 17 rfl rfl)
theorem dX1_seat_78 : decode cX1_seat 78 = .ok (.getfield 19, 3) := dk_180 0 19 (dk_at dksX1_seat_3 18 rfl rfl)
theorem dX1_seat_81 : decode cX1_seat 81 = .ok (.iload_n 1, 1) := dk_27 (dk_at dksX1_seat_3 21 rfl rfl)
theorem dX1_seat_82 : decode cX1_seat 82 = .ok (.invokevirtual 148, 3) := dk_182 0 148 (dk_at dksX1_seat_4 0 rfl rfl)
theorem dX1_seat_85 : decode cX1_seat 85 = .ok (.iaload, 1) := dk_46 (dk_at dksX1_seat_4 3 rfl rfl)
theorem dX1_seat_86 : decode cX1_seat 86 = .ok (.ireturn, 1) := dk_172 (dk_at dksX1_seat_4 4 rfl rfl)
theorem dX1_seat_87 : decode cX1_seat 87 = .ok (.aload_n 0, 1) := dk_42 (dk_at dksX1_seat_4 5 rfl rfl)
theorem dX1_seat_88 : decode cX1_seat 88 = .ok (.getfield 19, 3) := dk_180 0 19 (dk_at dksX1_seat_4 6 rfl rfl)
theorem dX1_seat_91 : decode cX1_seat 91 = .ok (.getfield 152, 3) := dk_180 0 152 (dk_at dksX1_seat_4 9 rfl rfl)
theorem dX1_seat_94 : decode cX1_seat 94 = .ok (.aload_n 0, 1) := dk_42 (dk_at dksX1_seat_4 12 rfl rfl)
theorem dX1_seat_95 : decode cX1_seat 95 = .ok (.getfield 19, 3) := dk_180 0 19 (dk_at dksX1_seat_4 13 rfl rfl)
theorem dX1_seat_98 : decode cX1_seat 98 = .ok (.iload_n 1, 1) := dk_27 (dk_at dksX1_seat_4 16 rfl rfl)
theorem dX1_seat_99 : decode cX1_seat 99 = .ok (.invokevirtual 148, 3) := dk_182 0 148 (dk_at dksX1_seat_4 17 rfl rfl)
theorem dX1_seat_102 : decode cX1_seat 102 = .ok (.iaload, 1) := dk_46 (dk_at dksX1_seat_4 20 rfl rfl)
theorem dX1_seat_103 : decode cX1_seat 103 = .ok (.ireturn, 1) := dk_172 (dk_at dksX1_seat_4 21 rfl rfl)
theorem dX1_seat_104 : decode cX1_seat 104 = .ok (.aload_n 0, 1) := dk_42 (dk_at dksX1_seat_4 22 rfl rfl)
theorem dX1_seat_105 : decode cX1_seat 105 = .ok (.getfield 114, 3) := dk_180 0 114 (dk_at dksX1_seat_5 0 rfl rfl)
theorem dX1_seat_108 : decode cX1_seat 108 = .ok (.iload_n 1, 1) := dk_27 (dk_at dksX1_seat_5 3 rfl rfl)
theorem dX1_seat_109 : decode cX1_seat 109 = .ok (.invokestatic 155, 3) := dk_184 0 155 (dk_at dksX1_seat_5 4 rfl rfl)
theorem dX1_seat_112 : decode cX1_seat 112 = .ok (.ifCond .eq 7, 3) := dk_153 0 7 (dk_at dksX1_seat_5 7 rfl rfl)
theorem dX1_seat_115 : decode cX1_seat 115 = .ok (.iconst 1, 1) := dk_4 (dk_at dksX1_seat_5 10 rfl rfl)
theorem dX1_seat_116 : decode cX1_seat 116 = .ok (.goto 4, 3) := dk_167 0 4 (dk_at dksX1_seat_5 11 rfl rfl)
theorem dX1_seat_119 : decode cX1_seat 119 = .ok (.iconst 0, 1) := dk_3 (dk_at dksX1_seat_5 14 rfl rfl)
theorem dX1_seat_120 : decode cX1_seat 120 = .ok (.ireturn, 1) := dk_172 (dk_at dksX1_seat_5 15 rfl rfl)
theorem dX1_seat_121 : decode cX1_seat 121 = .ok (.aload_n 0, 1) := dk_42 (dk_at dksX1_seat_5 16 rfl rfl)
theorem dX1_seat_122 : decode cX1_seat 122 = .ok (.getfield 117, 3) := dk_180 0 117 (dk_at dksX1_seat_5 17 rfl rfl)
theorem dX1_seat_125 : decode cX1_seat 125 = .ok (.iload_n 1, 1) := dk_27 (dk_at dksX1_seat_5 20 rfl rfl)
theorem dX1_seat_126 : decode cX1_seat 126 = .ok (.invokestatic 155, 3) := dk_184 0 155 (dk_at dksX1_seat_5 21 rfl rfl)
theorem dX1_seat_129 : decode cX1_seat 129 = .ok (.ifCond .eq 7, 3) := dk_153 0 7 (dk_at dksX1_seat_6 0 rfl rfl)
theorem dX1_seat_132 : decode cX1_seat 132 = .ok (.iconst 1, 1) := dk_4 (dk_at dksX1_seat_6 3 rfl rfl)
theorem dX1_seat_133 : decode cX1_seat 133 = .ok (.goto 4, 3) := dk_167 0 4 (dk_at dksX1_seat_6 4 rfl rfl)
theorem dX1_seat_136 : decode cX1_seat 136 = .ok (.iconst 0, 1) := dk_3 (dk_at dksX1_seat_6 7 rfl rfl)
theorem dX1_seat_137 : decode cX1_seat 137 = .ok (.ireturn, 1) := dk_172 (dk_at dksX1_seat_6 8 rfl rfl)
def dkwX1_need_0 : List UInt8 := [26, 154, 0, 11, 187, 0, 1, 89, 183, 0, 3, 191, 177]
abbrev dktX1_need_0 : List UInt8 := dkwX1_need_0 ++ []
theorem dksX1_need_0 : cX1_need.data.toList.drop 0 = dktX1_need_0 := by decide +kernel
theorem dX1_need_0 : decode cX1_need 0 = .ok (.iload_n 0, 1) := dk_26 (dk_at dksX1_need_0 0 rfl rfl)
theorem dX1_need_1 : decode cX1_need 1 = .ok (.ifCond .ne 11, 3) := dk_154 0 11 (dk_at dksX1_need_0 1 rfl rfl)
theorem dX1_need_4 : decode cX1_need 4 = .ok (.new 1, 3) := dk_187 0 1 (dk_at dksX1_need_0 4 rfl rfl)
theorem dX1_need_7 : decode cX1_need 7 = .ok (.dup, 1) := dk_89 (dk_at dksX1_need_0 7 rfl rfl)
theorem dX1_need_8 : decode cX1_need 8 = .ok (.invokespecial 3, 3) := dk_183 0 3 (dk_at dksX1_need_0 8 rfl rfl)
theorem dX1_need_11 : decode cX1_need 11 = .ok (.athrow, 1) := dk_191 (dk_at dksX1_need_0 11 rfl rfl)
theorem dX1_need_12 : decode cX1_need 12 = .ok (.return_, 1) := dk_177 (dk_at dksX1_need_0 12 rfl rfl)
def dkwX1_cue_3 : List UInt8 := [182, 0, 198, 172]
abbrev dktX1_cue_3 : List UInt8 := dkwX1_cue_3 ++ []
def dkwX1_cue_2 : List UInt8 := [154, 0, 10, 45, 180, 0, 192, 167, 0, 19, 28, 4, 160, 0, 10, 45, 182, 0, 195, 167, 0, 7, 45]
abbrev dktX1_cue_2 : List UInt8 := dkwX1_cue_2 ++ dktX1_cue_3
def dkwX1_cue_1 : List UInt8 := [153, 0, 7, 4, 167, 0, 4, 3, 184, 0, 139, 42, 180, 0, 26, 27, 182, 0, 186, 192, 0, 190, 78, 28]
abbrev dktX1_cue_1 : List UInt8 := dkwX1_cue_1 ++ dktX1_cue_2
def dkwX1_cue_0 : List UInt8 := [27, 3, 42, 180, 0, 26, 182, 0, 183, 4, 100, 184, 0, 135, 153, 0, 16, 28, 3, 5, 184, 0, 135]
abbrev dktX1_cue_0 : List UInt8 := dkwX1_cue_0 ++ dktX1_cue_1
theorem dksX1_cue_0 : cX1_cue.data.toList.drop 0 = dktX1_cue_0 := by decide +kernel
theorem dksX1_cue_1 : cX1_cue.data.toList.drop 23 = dktX1_cue_1 := dk_seg dksX1_cue_0 23 rfl rfl
theorem dksX1_cue_2 : cX1_cue.data.toList.drop 47 = dktX1_cue_2 := dk_seg dksX1_cue_1 24 rfl rfl
theorem dksX1_cue_3 : cX1_cue.data.toList.drop 70 = dktX1_cue_3 := dk_seg dksX1_cue_2 23 rfl rfl
theorem dX1_cue_0 : decode cX1_cue 0 = .ok (.iload_n 1, 1) := dk_27 (dk_at dksX1_cue_0 0 rfl rfl)
theorem dX1_cue_1 : decode cX1_cue 1 = .ok (.iconst 0, 1) := dk_3 (dk_at dksX1_cue_0 1 rfl rfl)
theorem dX1_cue_2 : decode cX1_cue 2 = .ok (.aload_n 0, 1) := dk_42 (dk_at dksX1_cue_0 2 rfl rfl)
theorem dX1_cue_3 : decode cX1_cue 3 = .ok (.getfield 26, 3) := dk_180 0 26 (dk_at dksX1_cue_0 3 rfl rfl)
theorem dX1_cue_6 : decode cX1_cue 6 = .ok (.invokevirtual 183, 3) := dk_182 0 183 (dk_at dksX1_cue_0 6 rfl rfl)
theorem dX1_cue_9 : decode cX1_cue 9 = .ok (.iconst 1, 1) := dk_4 (dk_at dksX1_cue_0 9 rfl rfl)
theorem dX1_cue_10 : decode cX1_cue 10 = .ok (.isub, 1) := dk_100 (dk_at dksX1_cue_0 10 rfl rfl)
theorem dX1_cue_11 : decode cX1_cue 11 = .ok (.invokestatic 135, 3) := dk_184 0 135 (dk_at dksX1_cue_0 11 rfl rfl)
theorem dX1_cue_14 : decode cX1_cue 14 = .ok (.ifCond .eq 16, 3) := dk_153 0 16 (dk_at dksX1_cue_0 14 rfl rfl)
theorem dX1_cue_17 : decode cX1_cue 17 = .ok (.iload_n 2, 1) := dk_28 (dk_at dksX1_cue_0 17 rfl rfl)
theorem dX1_cue_18 : decode cX1_cue 18 = .ok (.iconst 0, 1) := dk_3 (dk_at dksX1_cue_0 18 rfl rfl)
theorem dX1_cue_19 : decode cX1_cue 19 = .ok (.iconst 2, 1) := dk_5 (dk_at dksX1_cue_0 19 rfl rfl)
theorem dX1_cue_20 : decode cX1_cue 20 = .ok (.invokestatic 135, 3) := dk_184 0 135 (dk_at dksX1_cue_0 20 rfl rfl)
theorem dX1_cue_23 : decode cX1_cue 23 = .ok (.ifCond .eq 7, 3) := dk_153 0 7 (dk_at dksX1_cue_1 0 rfl rfl)
theorem dX1_cue_26 : decode cX1_cue 26 = .ok (.iconst 1, 1) := dk_4 (dk_at dksX1_cue_1 3 rfl rfl)
theorem dX1_cue_27 : decode cX1_cue 27 = .ok (.goto 4, 3) := dk_167 0 4 (dk_at dksX1_cue_1 4 rfl rfl)
theorem dX1_cue_30 : decode cX1_cue 30 = .ok (.iconst 0, 1) := dk_3 (dk_at dksX1_cue_1 7 rfl rfl)
theorem dX1_cue_31 : decode cX1_cue 31 = .ok (.invokestatic 139, 3) := dk_184 0 139 (dk_at dksX1_cue_1 8 rfl rfl)
theorem dX1_cue_34 : decode cX1_cue 34 = .ok (.aload_n 0, 1) := dk_42 (dk_at dksX1_cue_1 11 rfl rfl)
theorem dX1_cue_35 : decode cX1_cue 35 = .ok (.getfield 26, 3) := dk_180 0 26 (dk_at dksX1_cue_1 12 rfl rfl)
theorem dX1_cue_38 : decode cX1_cue 38 = .ok (.iload_n 1, 1) := dk_27 (dk_at dksX1_cue_1 15 rfl rfl)
theorem dX1_cue_39 : decode cX1_cue 39 = .ok (.invokevirtual 186, 3) := dk_182 0 186 (dk_at dksX1_cue_1 16 rfl rfl)
theorem dX1_cue_42 : decode cX1_cue 42 = .ok (.checkcast 190, 3) := dk_192 0 190 (dk_at dksX1_cue_1 19 rfl rfl)
theorem dX1_cue_45 : decode cX1_cue 45 = .ok (.astore_n 3, 1) := dk_78 (dk_at dksX1_cue_1 22 rfl rfl)
theorem dX1_cue_46 : decode cX1_cue 46 = .ok (.iload_n 2, 1) := dk_28 (dk_at dksX1_cue_1 23 rfl rfl)
theorem dX1_cue_47 : decode cX1_cue 47 = .ok (.ifCond .ne 10, 3) := dk_154 0 10 (dk_at dksX1_cue_2 0 rfl rfl)
theorem dX1_cue_50 : decode cX1_cue 50 = .ok (.aload_n 3, 1) := dk_45 (dk_at dksX1_cue_2 3 rfl rfl)
theorem dX1_cue_51 : decode cX1_cue 51 = .ok (.getfield 192, 3) := dk_180 0 192 (dk_at dksX1_cue_2 4 rfl rfl)
theorem dX1_cue_54 : decode cX1_cue 54 = .ok (.goto 19, 3) := dk_167 0 19 (dk_at dksX1_cue_2 7 rfl rfl)
theorem dX1_cue_57 : decode cX1_cue 57 = .ok (.iload_n 2, 1) := dk_28 (dk_at dksX1_cue_2 10 rfl rfl)
theorem dX1_cue_58 : decode cX1_cue 58 = .ok (.iconst 1, 1) := dk_4 (dk_at dksX1_cue_2 11 rfl rfl)
theorem dX1_cue_59 : decode cX1_cue 59 = .ok (.if_icmp .ne 10, 3) := dk_160 0 10 (dk_at dksX1_cue_2 12 rfl rfl)
theorem dX1_cue_62 : decode cX1_cue 62 = .ok (.aload_n 3, 1) := dk_45 (dk_at dksX1_cue_2 15 rfl rfl)
theorem dX1_cue_63 : decode cX1_cue 63 = .ok (.invokevirtual 195, 3) := dk_182 0 195 (dk_at dksX1_cue_2 16 rfl rfl)
theorem dX1_cue_66 : decode cX1_cue 66 = .ok (.goto 7, 3) := dk_167 0 7 (dk_at dksX1_cue_2 19 rfl rfl)
theorem dX1_cue_69 : decode cX1_cue 69 = .ok (.aload_n 3, 1) := dk_45 (dk_at dksX1_cue_2 22 rfl rfl)
theorem dX1_cue_70 : decode cX1_cue 70 = .ok (.invokevirtual 198, 3) := dk_182 0 198 (dk_at dksX1_cue_3 0 rfl rfl)
theorem dX1_cue_73 : decode cX1_cue 73 = .ok (.ireturn, 1) := dk_172 (dk_at dksX1_cue_3 3 rfl rfl)
def dkwX1_worthOf_3 : List UInt8 := [154, 0, 12, 42, 180, 0, 59, 27, 47, 167, 0, 7, 42, 180, 0, 62, 33, 109, 136, 172]
abbrev dktX1_worthOf_3 : List UInt8 := dkwX1_worthOf_3 ++ []
def dkwX1_worthOf_2 : List UInt8 := [22, 5, 9, 148, 158, 0, 19, 33, 22, 5, 113, 55, 7, 22, 5, 66, 22, 7, 55, 5, 167, 255, 236, 28]
abbrev dktX1_worthOf_2 : List UInt8 := dkwX1_worthOf_2 ++ dktX1_worthOf_3
def dkwX1_worthOf_1 : List UInt8 := [167, 0, 4, 3, 184, 0, 139, 42, 180, 0, 62, 66, 42, 180, 0, 59, 27, 47, 184, 1, 64, 55, 5]
abbrev dktX1_worthOf_1 : List UInt8 := dkwX1_worthOf_1 ++ dktX1_worthOf_2
def dkwX1_worthOf_0 : List UInt8 := [27, 3, 42, 180, 1, 58, 4, 100, 184, 0, 135, 153, 0, 16, 28, 3, 4, 184, 0, 135, 153, 0, 7, 4]
abbrev dktX1_worthOf_0 : List UInt8 := dkwX1_worthOf_0 ++ dktX1_worthOf_1
theorem dksX1_worthOf_0 : cX1_worthOf.data.toList.drop 0 = dktX1_worthOf_0 := by decide +kernel
theorem dksX1_worthOf_1 : cX1_worthOf.data.toList.drop 24 = dktX1_worthOf_1 := dk_seg dksX1_worthOf_0 24 rfl rfl
theorem dksX1_worthOf_2 : cX1_worthOf.data.toList.drop 47 = dktX1_worthOf_2 := dk_seg dksX1_worthOf_1 23 rfl rfl
theorem dksX1_worthOf_3 : cX1_worthOf.data.toList.drop 71 = dktX1_worthOf_3 := dk_seg dksX1_worthOf_2 24 rfl rfl
theorem dX1_worthOf_0 : decode cX1_worthOf 0 = .ok (.iload_n 1, 1) := dk_27 (dk_at dksX1_worthOf_0 0 rfl rfl)
theorem dX1_worthOf_1 : decode cX1_worthOf 1 = .ok (.iconst 0, 1) := dk_3 (dk_at dksX1_worthOf_0 1 rfl rfl)
theorem dX1_worthOf_2 : decode cX1_worthOf 2 = .ok (.aload_n 0, 1) := dk_42 (dk_at dksX1_worthOf_0 2 rfl rfl)
theorem dX1_worthOf_3 : decode cX1_worthOf 3 = .ok (.getfield 314, 3) := dk_180 1 58 (dk_at dksX1_worthOf_0 3 rfl rfl)
theorem dX1_worthOf_6 : decode cX1_worthOf 6 = .ok (.iconst 1, 1) := dk_4 (dk_at dksX1_worthOf_0 6 rfl rfl)
theorem dX1_worthOf_7 : decode cX1_worthOf 7 = .ok (.isub, 1) := dk_100 (dk_at dksX1_worthOf_0 7 rfl rfl)
theorem dX1_worthOf_8 : decode cX1_worthOf 8 = .ok (.invokestatic 135, 3) := dk_184 0 135 (dk_at dksX1_worthOf_0 8 rfl rfl)
theorem dX1_worthOf_11 : decode cX1_worthOf 11 = .ok (.ifCond .eq 16, 3) := dk_153 0 16 (dk_at dksX1_worthOf_0 11 rfl rfl)
theorem dX1_worthOf_14 : decode cX1_worthOf 14 = .ok (.iload_n 2, 1) := dk_28 (dk_at dksX1_worthOf_0 14 rfl rfl)
theorem dX1_worthOf_15 : decode cX1_worthOf 15 = .ok (.iconst 0, 1) := dk_3 (dk_at dksX1_worthOf_0 15 rfl rfl)
theorem dX1_worthOf_16 : decode cX1_worthOf 16 = .ok (.iconst 1, 1) := dk_4 (dk_at dksX1_worthOf_0 16 rfl rfl)
theorem dX1_worthOf_17 : decode cX1_worthOf 17 = .ok (.invokestatic 135, 3) := dk_184 0 135 (dk_at dksX1_worthOf_0 17 rfl rfl)
theorem dX1_worthOf_20 : decode cX1_worthOf 20 = .ok (.ifCond .eq 7, 3) := dk_153 0 7 (dk_at dksX1_worthOf_0 20 rfl rfl)
theorem dX1_worthOf_23 : decode cX1_worthOf 23 = .ok (.iconst 1, 1) := dk_4 (dk_at dksX1_worthOf_0 23 rfl rfl)
theorem dX1_worthOf_24 : decode cX1_worthOf 24 = .ok (.goto 4, 3) := dk_167 0 4 (dk_at dksX1_worthOf_1 0 rfl rfl)
theorem dX1_worthOf_27 : decode cX1_worthOf 27 = .ok (.iconst 0, 1) := dk_3 (dk_at dksX1_worthOf_1 3 rfl rfl)
theorem dX1_worthOf_28 : decode cX1_worthOf 28 = .ok (.invokestatic 139, 3) := dk_184 0 139 (dk_at dksX1_worthOf_1 4 rfl rfl)
theorem dX1_worthOf_31 : decode cX1_worthOf 31 = .ok (.aload_n 0, 1) := dk_42 (dk_at dksX1_worthOf_1 7 rfl rfl)
theorem dX1_worthOf_32 : decode cX1_worthOf 32 = .ok (.getfield 62, 3) := dk_180 0 62 (dk_at dksX1_worthOf_1 8 rfl rfl)
theorem dX1_worthOf_35 : decode cX1_worthOf 35 = .ok (.lstore_n 3, 1) := dk_66 (dk_at dksX1_worthOf_1 11 rfl rfl)
theorem dX1_worthOf_36 : decode cX1_worthOf 36 = .ok (.aload_n 0, 1) := dk_42 (dk_at dksX1_worthOf_1 12 rfl rfl)
theorem dX1_worthOf_37 : decode cX1_worthOf 37 = .ok (.getfield 59, 3) := dk_180 0 59 (dk_at dksX1_worthOf_1 13 rfl rfl)
theorem dX1_worthOf_40 : decode cX1_worthOf 40 = .ok (.iload_n 1, 1) := dk_27 (dk_at dksX1_worthOf_1 16 rfl rfl)
theorem dX1_worthOf_41 : decode cX1_worthOf 41 = .ok (.laload, 1) := dk_47 (dk_at dksX1_worthOf_1 17 rfl rfl)
theorem dX1_worthOf_42 : decode cX1_worthOf 42 = .ok (.invokestatic 320, 3) := dk_184 1 64 (dk_at dksX1_worthOf_1 18 rfl rfl)
theorem dX1_worthOf_45 : decode cX1_worthOf 45 = .ok (.lstore 5, 2) := dk_55 5 (dk_at dksX1_worthOf_1 21 rfl rfl)
theorem dX1_worthOf_47 : decode cX1_worthOf 47 = .ok (.lload 5, 2) := dk_22 5 (dk_at dksX1_worthOf_2 0 rfl rfl)
theorem dX1_worthOf_49 : decode cX1_worthOf 49 = .ok (.lconst 0, 1) := dk_9 (dk_at dksX1_worthOf_2 2 rfl rfl)
theorem dX1_worthOf_50 : decode cX1_worthOf 50 = .ok (.lcmp, 1) := dk_148 (dk_at dksX1_worthOf_2 3 rfl rfl)
theorem dX1_worthOf_51 : decode cX1_worthOf 51 = .ok (.ifCond .le 19, 3) := dk_158 0 19 (dk_at dksX1_worthOf_2 4 rfl rfl)
theorem dX1_worthOf_54 : decode cX1_worthOf 54 = .ok (.lload_n 3, 1) := dk_33 (dk_at dksX1_worthOf_2 7 rfl rfl)
theorem dX1_worthOf_55 : decode cX1_worthOf 55 = .ok (.lload 5, 2) := dk_22 5 (dk_at dksX1_worthOf_2 8 rfl rfl)
theorem dX1_worthOf_57 : decode cX1_worthOf 57 = .ok (.lrem, 1) := dk_113 (dk_at dksX1_worthOf_2 10 rfl rfl)
theorem dX1_worthOf_58 : decode cX1_worthOf 58 = .ok (.lstore 7, 2) := dk_55 7 (dk_at dksX1_worthOf_2 11 rfl rfl)
theorem dX1_worthOf_60 : decode cX1_worthOf 60 = .ok (.lload 5, 2) := dk_22 5 (dk_at dksX1_worthOf_2 13 rfl rfl)
theorem dX1_worthOf_62 : decode cX1_worthOf 62 = .ok (.lstore_n 3, 1) := dk_66 (dk_at dksX1_worthOf_2 15 rfl rfl)
theorem dX1_worthOf_63 : decode cX1_worthOf 63 = .ok (.lload 7, 2) := dk_22 7 (dk_at dksX1_worthOf_2 16 rfl rfl)
theorem dX1_worthOf_65 : decode cX1_worthOf 65 = .ok (.lstore 5, 2) := dk_55 5 (dk_at dksX1_worthOf_2 18 rfl rfl)
theorem dX1_worthOf_67 : decode cX1_worthOf 67 = .ok (.goto (-20), 3) := dk_167 255 236 (dk_at dksX1_worthOf_2 20 rfl rfl)
theorem dX1_worthOf_70 : decode cX1_worthOf 70 = .ok (.iload_n 2, 1) := dk_28 (dk_at dksX1_worthOf_2 23 rfl rfl)
theorem dX1_worthOf_71 : decode cX1_worthOf 71 = .ok (.ifCond .ne 12, 3) := dk_154 0 12 (dk_at dksX1_worthOf_3 0 rfl rfl)
theorem dX1_worthOf_74 : decode cX1_worthOf 74 = .ok (.aload_n 0, 1) := dk_42 (dk_at dksX1_worthOf_3 3 rfl rfl)
theorem dX1_worthOf_75 : decode cX1_worthOf 75 = .ok (.getfield 59, 3) := dk_180 0 59 (dk_at dksX1_worthOf_3 4 rfl rfl)
theorem dX1_worthOf_78 : decode cX1_worthOf 78 = .ok (.iload_n 1, 1) := dk_27 (dk_at dksX1_worthOf_3 7 rfl rfl)
theorem dX1_worthOf_79 : decode cX1_worthOf 79 = .ok (.laload, 1) := dk_47 (dk_at dksX1_worthOf_3 8 rfl rfl)
theorem dX1_worthOf_80 : decode cX1_worthOf 80 = .ok (.goto 7, 3) := dk_167 0 7 (dk_at dksX1_worthOf_3 9 rfl rfl)
theorem dX1_worthOf_83 : decode cX1_worthOf 83 = .ok (.aload_n 0, 1) := dk_42 (dk_at dksX1_worthOf_3 12 rfl rfl)
theorem dX1_worthOf_84 : decode cX1_worthOf 84 = .ok (.getfield 62, 3) := dk_180 0 62 (dk_at dksX1_worthOf_3 13 rfl rfl)
theorem dX1_worthOf_87 : decode cX1_worthOf 87 = .ok (.lload_n 3, 1) := dk_33 (dk_at dksX1_worthOf_3 16 rfl rfl)
theorem dX1_worthOf_88 : decode cX1_worthOf 88 = .ok (.ldiv, 1) := dk_109 (dk_at dksX1_worthOf_3 17 rfl rfl)
theorem dX1_worthOf_89 : decode cX1_worthOf 89 = .ok (.l2i, 1) := dk_136 (dk_at dksX1_worthOf_3 18 rfl rfl)
theorem dX1_worthOf_90 : decode cX1_worthOf 90 = .ok (.ireturn, 1) := dk_172 (dk_at dksX1_worthOf_3 19 rfl rfl)
def dkwX2_init_4 : List UInt8 := [184, 0, 45, 177]
abbrev dktX2_init_4 : List UInt8 := dkwX2_init_4 ++ []
def dkwX2_init_3 : List UInt8 := [16, 64, 197, 0, 40, 2, 181, 0, 42, 42, 180, 0, 22, 16, 10, 184, 0, 45, 42, 180, 0, 25, 2]
abbrev dktX2_init_3 : List UInt8 := dkwX2_init_3 ++ dktX2_init_4
def dkwX2_init_2 : List UInt8 := [181, 0, 30, 42, 16, 6, 189, 0, 28, 181, 0, 34, 42, 16, 12, 188, 10, 181, 0, 37, 42, 16, 6]
abbrev dktX2_init_2 : List UInt8 := dkwX2_init_2 ++ dktX2_init_3
def dkwX2_init_1 : List UInt8 := [42, 16, 8, 188, 10, 181, 0, 22, 42, 16, 8, 188, 10, 181, 0, 25, 42, 16, 6, 189, 0, 28]
abbrev dktX2_init_1 : List UInt8 := dkwX2_init_1 ++ dktX2_init_2
def dkwX2_init_0 : List UInt8 := [42, 183, 0, 3, 42, 4, 181, 0, 9, 42, 17, 2, 88, 181, 0, 15, 42, 16, 64, 188, 10, 181, 0, 18]
abbrev dktX2_init_0 : List UInt8 := dkwX2_init_0 ++ dktX2_init_1
theorem dksX2_init_0 : cX2_init.data.toList.drop 0 = dktX2_init_0 := by decide +kernel
theorem dksX2_init_1 : cX2_init.data.toList.drop 24 = dktX2_init_1 := dk_seg dksX2_init_0 24 rfl rfl
theorem dksX2_init_2 : cX2_init.data.toList.drop 46 = dktX2_init_2 := dk_seg dksX2_init_1 22 rfl rfl
theorem dksX2_init_3 : cX2_init.data.toList.drop 69 = dktX2_init_3 := dk_seg dksX2_init_2 23 rfl rfl
theorem dksX2_init_4 : cX2_init.data.toList.drop 92 = dktX2_init_4 := dk_seg dksX2_init_3 23 rfl rfl
theorem dX2_init_0 : decode cX2_init 0 = .ok (.aload_n 0, 1) := dk_42 (dk_at dksX2_init_0 0 rfl rfl)
theorem dX2_init_1 : decode cX2_init 1 = .ok (.invokespecial 3, 3) := dk_183 0 3 (dk_at dksX2_init_0 1 rfl rfl)
theorem dX2_init_4 : decode cX2_init 4 = .ok (.aload_n 0, 1) := dk_42 (dk_at dksX2_init_0 4 rfl rfl)
theorem dX2_init_5 : decode cX2_init 5 = .ok (.iconst 1, 1) := dk_4 (dk_at dksX2_init_0 5 rfl rfl)
theorem dX2_init_6 : decode cX2_init 6 = .ok (.putfield 9, 3) := dk_181 0 9 (dk_at dksX2_init_0 6 rfl rfl)
theorem dX2_init_9 : decode cX2_init 9 = .ok (.aload_n 0, 1) := dk_42 (dk_at dksX2_init_0 9 rfl rfl)
theorem dX2_init_10 : decode cX2_init 10 = .ok (.sipush 600, 3) := dk_17 2 88 (dk_at dksX2_init_0 10 rfl rfl)
theorem dX2_init_13 : decode cX2_init 13 = .ok (.putfield 15, 3) := dk_181 0 15 (dk_at dksX2_init_0 13 rfl rfl)
theorem dX2_init_16 : decode cX2_init 16 = .ok (.aload_n 0, 1) := dk_42 (dk_at dksX2_init_0 16 rfl rfl)
theorem dX2_init_17 : decode cX2_init 17 = .ok (.bipush 64, 2) := dk_16 64 (dk_at dksX2_init_0 17 rfl rfl)
theorem dX2_init_19 : decode cX2_init 19 = .ok (.newarray .int, 2) := dk_188_10 (dk_at dksX2_init_0 19 rfl rfl)
theorem dX2_init_21 : decode cX2_init 21 = .ok (.putfield 18, 3) := dk_181 0 18 (dk_at dksX2_init_0 21 rfl rfl)
theorem dX2_init_24 : decode cX2_init 24 = .ok (.aload_n 0, 1) := dk_42 (dk_at dksX2_init_1 0 rfl rfl)
theorem dX2_init_25 : decode cX2_init 25 = .ok (.bipush 8, 2) := dk_16 8 (dk_at dksX2_init_1 1 rfl rfl)
theorem dX2_init_27 : decode cX2_init 27 = .ok (.newarray .int, 2) := dk_188_10 (dk_at dksX2_init_1 3 rfl rfl)
theorem dX2_init_29 : decode cX2_init 29 = .ok (.putfield 22, 3) := dk_181 0 22 (dk_at dksX2_init_1 5 rfl rfl)
theorem dX2_init_32 : decode cX2_init 32 = .ok (.aload_n 0, 1) := dk_42 (dk_at dksX2_init_1 8 rfl rfl)
theorem dX2_init_33 : decode cX2_init 33 = .ok (.bipush 8, 2) := dk_16 8 (dk_at dksX2_init_1 9 rfl rfl)
theorem dX2_init_35 : decode cX2_init 35 = .ok (.newarray .int, 2) := dk_188_10 (dk_at dksX2_init_1 11 rfl rfl)
theorem dX2_init_37 : decode cX2_init 37 = .ok (.putfield 25, 3) := dk_181 0 25 (dk_at dksX2_init_1 13 rfl rfl)
theorem dX2_init_40 : decode cX2_init 40 = .ok (.aload_n 0, 1) := dk_42 (dk_at dksX2_init_1 16 rfl rfl)
theorem dX2_init_41 : decode cX2_init 41 = .ok (.bipush 6, 2) := dk_16 6 (dk_at dksX2_init_1 17 rfl rfl)
theorem dX2_init_43 : decode cX2_init 43 = .ok (.anewarray 28, 3) := dk_189 0 28 (dk_at dksX2_init_1 19 rfl rfl)
theorem dX2_init_46 : decode cX2_init 46 = .ok (.putfield 30, 3) := dk_181 0 30 (dk_at dksX2_init_2 0 rfl rfl)
theorem dX2_init_49 : decode cX2_init 49 = .ok (.aload_n 0, 1) := dk_42 (dk_at dksX2_init_2 3 rfl rfl)
theorem dX2_init_50 : decode cX2_init 50 = .ok (.bipush 6, 2) := dk_16 6 (dk_at dksX2_init_2 4 rfl rfl)
theorem dX2_init_52 : decode cX2_init 52 = .ok (.anewarray 28, 3) := dk_189 0 28 (dk_at dksX2_init_2 6 rfl rfl)
theorem dX2_init_55 : decode cX2_init 55 = .ok (.putfield 34, 3) := dk_181 0 34 (dk_at dksX2_init_2 9 rfl rfl)
theorem dX2_init_58 : decode cX2_init 58 = .ok (.aload_n 0, 1) := dk_42 (dk_at dksX2_init_2 12 rfl rfl)
theorem dX2_init_59 : decode cX2_init 59 = .ok (.bipush 12, 2) := dk_16 12 (dk_at dksX2_init_2 13 rfl rfl)
theorem dX2_init_61 : decode cX2_init 61 = .ok (.newarray .int, 2) := dk_188_10 (dk_at dksX2_init_2 15 rfl rfl)
theorem dX2_init_63 : decode cX2_init 63 = .ok (.putfield 37, 3) := dk_181 0 37 (dk_at dksX2_init_2 17 rfl rfl)
theorem dX2_init_66 : decode cX2_init 66 = .ok (.aload_n 0, 1) := dk_42 (dk_at dksX2_init_2 20 rfl rfl)
theorem dX2_init_67 : decode cX2_init 67 = .ok (.bipush 6, 2) := dk_16 6 (dk_at dksX2_init_2 21 rfl rfl)
theorem dX2_init_69 : decode cX2_init 69 = .ok (.bipush 64, 2) := dk_16 64 (dk_at dksX2_init_3 0 rfl rfl)
theorem dX2_init_71 : decode cX2_init 71 = .ok (.multianewarray 40 2, 4) := by decide +kernel
theorem dX2_init_75 : decode cX2_init 75 = .ok (.putfield 42, 3) := dk_181 0 42 (dk_at dksX2_init_3 6 rfl rfl)
theorem dX2_init_78 : decode cX2_init 78 = .ok (.aload_n 0, 1) := dk_42 (dk_at dksX2_init_3 9 rfl rfl)
theorem dX2_init_79 : decode cX2_init 79 = .ok (.getfield 22, 3) := dk_180 0 22 (dk_at dksX2_init_3 10 rfl rfl)
theorem dX2_init_82 : decode cX2_init 82 = .ok (.bipush 10, 2) := dk_16 10 (dk_at dksX2_init_3 13 rfl rfl)
theorem dX2_init_84 : decode cX2_init 84 = .ok (.invokestatic 45, 3) := dk_184 0 45 (dk_at dksX2_init_3 15 rfl rfl)
theorem dX2_init_87 : decode cX2_init 87 = .ok (.aload_n 0, 1) := dk_42 (dk_at dksX2_init_3 18 rfl rfl)
theorem dX2_init_88 : decode cX2_init 88 = .ok (.getfield 25, 3) := dk_180 0 25 (dk_at dksX2_init_3 19 rfl rfl)
theorem dX2_init_91 : decode cX2_init 91 = .ok (.iconst (-1), 1) := dk_2 (dk_at dksX2_init_3 22 rfl rfl)
theorem dX2_init_92 : decode cX2_init 92 = .ok (.invokestatic 45, 3) := dk_184 0 45 (dk_at dksX2_init_4 0 rfl rfl)
theorem dX2_init_95 : decode cX2_init 95 = .ok (.return_, 1) := dk_177 (dk_at dksX2_init_4 3 rfl rfl)
def dkwX2_open_11 : List UInt8 := [180, 0, 54, 112, 182, 0, 65, 132, 5, 1, 167, 255, 218, 132, 1, 1, 167, 254, 240, 42, 176]
abbrev dktX2_open_11 : List UInt8 := dkwX2_open_11 ++ []
def dkwX2_open_10 : List UInt8 := [162, 0, 35, 21, 5, 27, 159, 0, 23, 42, 8, 27, 21, 5, 42, 180, 0, 54, 108, 21, 5, 42]
abbrev dktX2_open_10 : List UInt8 := dkwX2_open_10 ++ dktX2_open_11
def dkwX2_open_9 : List UInt8 := [182, 0, 65, 132, 6, 1, 167, 255, 232, 132, 5, 1, 167, 255, 210, 3, 54, 5, 21, 5, 42, 182, 0, 57]
abbrev dktX2_open_9 : List UInt8 := dkwX2_open_9 ++ dktX2_open_10
def dkwX2_open_8 : List UInt8 := [21, 5, 116, 54, 6, 21, 6, 21, 5, 163, 0, 23, 42, 7, 27, 28, 21, 5, 100, 29, 21, 6, 96]
abbrev dktX2_open_8 : List UInt8 := dkwX2_open_8 ++ dktX2_open_9
def dkwX2_open_7 : List UInt8 := [160, 0, 7, 4, 167, 0, 4, 3, 54, 4, 4, 54, 5, 21, 5, 6, 163, 0, 46, 21, 4, 154, 0, 41]
abbrev dktX2_open_7 : List UInt8 := dkwX2_open_7 ++ dktX2_open_8
def dkwX2_open_6 : List UInt8 := [167, 255, 208, 28, 158, 0, 27, 42, 180, 0, 18, 42, 180, 0, 54, 28, 4, 100, 104, 29, 96, 46, 16, 9]
abbrev dktX2_open_6 : List UInt8 := dkwX2_open_6 ++ dktX2_open_7
def dkwX2_open_5 : List UInt8 := [3, 27, 28, 21, 4, 96, 29, 21, 5, 96, 182, 0, 65, 132, 5, 1, 167, 255, 223, 132, 4, 1]
abbrev dktX2_open_5 : List UInt8 := dkwX2_open_5 ++ dktX2_open_6
def dkwX2_open_4 : List UInt8 := [5, 162, 0, 48, 2, 54, 5, 21, 5, 5, 162, 0, 33, 21, 4, 154, 0, 8, 21, 5, 153, 0, 17, 42]
abbrev dktX2_open_4 : List UInt8 := dkwX2_open_4 ++ dktX2_open_5
def dkwX2_open_3 : List UInt8 := [5, 27, 28, 29, 4, 100, 182, 0, 65, 42, 5, 27, 28, 29, 4, 96, 182, 0, 65, 2, 54, 4, 21, 4]
abbrev dktX2_open_3 : List UInt8 := dkwX2_open_3 ++ dktX2_open_4
def dkwX2_open_2 : List UInt8 := [167, 255, 236, 42, 4, 27, 28, 4, 100, 29, 182, 0, 65, 42, 6, 27, 28, 4, 96, 29, 182, 0, 65, 42]
abbrev dktX2_open_2 : List UInt8 := dkwX2_open_2 ++ dktX2_open_3
def dkwX2_open_1 : List UInt8 := [3, 54, 4, 21, 4, 16, 6, 162, 0, 19, 42, 180, 0, 42, 21, 4, 50, 27, 9, 80, 132, 4, 1]
abbrev dktX2_open_1 : List UInt8 := dkwX2_open_1 ++ dktX2_open_2
def dkwX2_open_0 : List UInt8 := [3, 60, 27, 42, 182, 0, 57, 162, 1, 14, 27, 42, 180, 0, 54, 108, 61, 27, 42, 180, 0, 54, 112, 62]
abbrev dktX2_open_0 : List UInt8 := dkwX2_open_0 ++ dktX2_open_1
theorem dksX2_open_0 : cX2_open.data.toList.drop 0 = dktX2_open_0 := by decide +kernel
theorem dksX2_open_1 : cX2_open.data.toList.drop 24 = dktX2_open_1 := dk_seg dksX2_open_0 24 rfl rfl
theorem dksX2_open_2 : cX2_open.data.toList.drop 47 = dktX2_open_2 := dk_seg dksX2_open_1 23 rfl rfl
theorem dksX2_open_3 : cX2_open.data.toList.drop 71 = dktX2_open_3 := dk_seg dksX2_open_2 24 rfl rfl
theorem dksX2_open_4 : cX2_open.data.toList.drop 95 = dktX2_open_4 := dk_seg dksX2_open_3 24 rfl rfl
theorem dksX2_open_5 : cX2_open.data.toList.drop 119 = dktX2_open_5 := dk_seg dksX2_open_4 24 rfl rfl
theorem dksX2_open_6 : cX2_open.data.toList.drop 141 = dktX2_open_6 := dk_seg dksX2_open_5 22 rfl rfl
theorem dksX2_open_7 : cX2_open.data.toList.drop 165 = dktX2_open_7 := dk_seg dksX2_open_6 24 rfl rfl
theorem dksX2_open_8 : cX2_open.data.toList.drop 189 = dktX2_open_8 := dk_seg dksX2_open_7 24 rfl rfl
theorem dksX2_open_9 : cX2_open.data.toList.drop 212 = dktX2_open_9 := dk_seg dksX2_open_8 23 rfl rfl
theorem dksX2_open_10 : cX2_open.data.toList.drop 236 = dktX2_open_10 := dk_seg dksX2_open_9 24 rfl rfl
theorem dksX2_open_11 : cX2_open.data.toList.drop 258 = dktX2_open_11 := dk_seg dksX2_open_10 22 rfl rfl
theorem dX2_open_0 : decode cX2_open 0 = .ok (.iconst 0, 1) := dk_3 (dk_at dksX2_open_0 0 rfl rfl)
theorem dX2_open_1 : decode cX2_open 1 = .ok (.istore_n 1, 1) := dk_60 (dk_at dksX2_open_0 1 rfl rfl)
theorem dX2_open_2 : decode cX2_open 2 = .ok (.iload_n 1, 1) := dk_27 (dk_at dksX2_open_0 2 rfl rfl)
theorem dX2_open_3 : decode cX2_open 3 = .ok (.aload_n 0, 1) := dk_42 (dk_at dksX2_open_0 3 rfl rfl)
theorem dX2_open_4 : decode cX2_open 4 = .ok (.invokevirtual 57, 3) := dk_182 0 57 (dk_at dksX2_open_0 4 rfl rfl)
theorem dX2_open_7 : decode cX2_open 7 = .ok (.if_icmp .ge 270, 3) := dk_162 1 14 (dk_at dksX2_open_0 7 rfl rfl)
theorem dX2_open_10 : decode cX2_open 10 = .ok (.iload_n 1, 1) := dk_27 (dk_at dksX2_open_0 10 rfl rfl)
theorem dX2_open_11 : decode cX2_open 11 = .ok (.aload_n 0, 1) := dk_42 (dk_at dksX2_open_0 11 rfl rfl)
theorem dX2_open_12 : decode cX2_open 12 = .ok (.getfield 54, 3) := dk_180 0 54 (dk_at dksX2_open_0 12 rfl rfl)
theorem dX2_open_15 : decode cX2_open 15 = .ok (.idiv, 1) := dk_108 (dk_at dksX2_open_0 15 rfl rfl)
theorem dX2_open_16 : decode cX2_open 16 = .ok (.istore_n 2, 1) := dk_61 (dk_at dksX2_open_0 16 rfl rfl)
theorem dX2_open_17 : decode cX2_open 17 = .ok (.iload_n 1, 1) := dk_27 (dk_at dksX2_open_0 17 rfl rfl)
theorem dX2_open_18 : decode cX2_open 18 = .ok (.aload_n 0, 1) := dk_42 (dk_at dksX2_open_0 18 rfl rfl)
theorem dX2_open_19 : decode cX2_open 19 = .ok (.getfield 54, 3) := dk_180 0 54 (dk_at dksX2_open_0 19 rfl rfl)
theorem dX2_open_22 : decode cX2_open 22 = .ok (.irem, 1) := dk_112 (dk_at dksX2_open_0 22 rfl rfl)
theorem dX2_open_23 : decode cX2_open 23 = .ok (.istore_n 3, 1) := dk_62 (dk_at dksX2_open_0 23 rfl rfl)
theorem dX2_open_24 : decode cX2_open 24 = .ok (.iconst 0, 1) := dk_3 (dk_at dksX2_open_1 0 rfl rfl)
theorem dX2_open_25 : decode cX2_open 25 = .ok (.istore 4, 2) := dk_54 4 (dk_at dksX2_open_1 1 rfl rfl)
theorem dX2_open_27 : decode cX2_open 27 = .ok (.iload 4, 2) := dk_21 4 (dk_at dksX2_open_1 3 rfl rfl)
theorem dX2_open_29 : decode cX2_open 29 = .ok (.bipush 6, 2) := dk_16 6 (dk_at dksX2_open_1 5 rfl rfl)
theorem dX2_open_31 : decode cX2_open 31 = .ok (.if_icmp .ge 19, 3) := dk_162 0 19 (dk_at dksX2_open_1 7 rfl rfl)
theorem dX2_open_34 : decode cX2_open 34 = .ok (.aload_n 0, 1) := dk_42 (dk_at dksX2_open_1 10 rfl rfl)
theorem dX2_open_35 : decode cX2_open 35 = .ok (.getfield 42, 3) := dk_180 0 42 (dk_at dksX2_open_1 11 rfl rfl)
theorem dX2_open_38 : decode cX2_open 38 = .ok (.iload 4, 2) := dk_21 4 (dk_at dksX2_open_1 14 rfl rfl)
theorem dX2_open_40 : decode cX2_open 40 = .ok (.aaload, 1) := dk_50 (dk_at dksX2_open_1 16 rfl rfl)
theorem dX2_open_41 : decode cX2_open 41 = .ok (.iload_n 1, 1) := dk_27 (dk_at dksX2_open_1 17 rfl rfl)
theorem dX2_open_42 : decode cX2_open 42 = .ok (.lconst 0, 1) := dk_9 (dk_at dksX2_open_1 18 rfl rfl)
theorem dX2_open_43 : decode cX2_open 43 = .ok (.lastore, 1) := dk_80 (dk_at dksX2_open_1 19 rfl rfl)
theorem dX2_open_44 : decode cX2_open 44 = .ok (.iinc 4 1, 3) := dk_132 4 1 (dk_at dksX2_open_1 20 rfl rfl)
theorem dX2_open_47 : decode cX2_open 47 = .ok (.goto (-20), 3) := dk_167 255 236 (dk_at dksX2_open_2 0 rfl rfl)
theorem dX2_open_50 : decode cX2_open 50 = .ok (.aload_n 0, 1) := dk_42 (dk_at dksX2_open_2 3 rfl rfl)
theorem dX2_open_51 : decode cX2_open 51 = .ok (.iconst 1, 1) := dk_4 (dk_at dksX2_open_2 4 rfl rfl)
theorem dX2_open_52 : decode cX2_open 52 = .ok (.iload_n 1, 1) := dk_27 (dk_at dksX2_open_2 5 rfl rfl)
theorem dX2_open_53 : decode cX2_open 53 = .ok (.iload_n 2, 1) := dk_28 (dk_at dksX2_open_2 6 rfl rfl)
theorem dX2_open_54 : decode cX2_open 54 = .ok (.iconst 1, 1) := dk_4 (dk_at dksX2_open_2 7 rfl rfl)
theorem dX2_open_55 : decode cX2_open 55 = .ok (.isub, 1) := dk_100 (dk_at dksX2_open_2 8 rfl rfl)
theorem dX2_open_56 : decode cX2_open 56 = .ok (.iload_n 3, 1) := dk_29 (dk_at dksX2_open_2 9 rfl rfl)
theorem dX2_open_57 : decode cX2_open 57 = .ok (.invokevirtual 65, 3) := dk_182 0 65 (dk_at dksX2_open_2 10 rfl rfl)
theorem dX2_open_60 : decode cX2_open 60 = .ok (.aload_n 0, 1) := dk_42 (dk_at dksX2_open_2 13 rfl rfl)
theorem dX2_open_61 : decode cX2_open 61 = .ok (.iconst 3, 1) := dk_6 (dk_at dksX2_open_2 14 rfl rfl)
theorem dX2_open_62 : decode cX2_open 62 = .ok (.iload_n 1, 1) := dk_27 (dk_at dksX2_open_2 15 rfl rfl)
theorem dX2_open_63 : decode cX2_open 63 = .ok (.iload_n 2, 1) := dk_28 (dk_at dksX2_open_2 16 rfl rfl)
theorem dX2_open_64 : decode cX2_open 64 = .ok (.iconst 1, 1) := dk_4 (dk_at dksX2_open_2 17 rfl rfl)
theorem dX2_open_65 : decode cX2_open 65 = .ok (.iadd, 1) := dk_96 (dk_at dksX2_open_2 18 rfl rfl)
theorem dX2_open_66 : decode cX2_open 66 = .ok (.iload_n 3, 1) := dk_29 (dk_at dksX2_open_2 19 rfl rfl)
theorem dX2_open_67 : decode cX2_open 67 = .ok (.invokevirtual 65, 3) := dk_182 0 65 (dk_at dksX2_open_2 20 rfl rfl)
theorem dX2_open_70 : decode cX2_open 70 = .ok (.aload_n 0, 1) := dk_42 (dk_at dksX2_open_2 23 rfl rfl)
theorem dX2_open_71 : decode cX2_open 71 = .ok (.iconst 2, 1) := dk_5 (dk_at dksX2_open_3 0 rfl rfl)
theorem dX2_open_72 : decode cX2_open 72 = .ok (.iload_n 1, 1) := dk_27 (dk_at dksX2_open_3 1 rfl rfl)
theorem dX2_open_73 : decode cX2_open 73 = .ok (.iload_n 2, 1) := dk_28 (dk_at dksX2_open_3 2 rfl rfl)
theorem dX2_open_74 : decode cX2_open 74 = .ok (.iload_n 3, 1) := dk_29 (dk_at dksX2_open_3 3 rfl rfl)
theorem dX2_open_75 : decode cX2_open 75 = .ok (.iconst 1, 1) := dk_4 (dk_at dksX2_open_3 4 rfl rfl)
theorem dX2_open_76 : decode cX2_open 76 = .ok (.isub, 1) := dk_100 (dk_at dksX2_open_3 5 rfl rfl)
theorem dX2_open_77 : decode cX2_open 77 = .ok (.invokevirtual 65, 3) := dk_182 0 65 (dk_at dksX2_open_3 6 rfl rfl)
theorem dX2_open_80 : decode cX2_open 80 = .ok (.aload_n 0, 1) := dk_42 (dk_at dksX2_open_3 9 rfl rfl)
theorem dX2_open_81 : decode cX2_open 81 = .ok (.iconst 2, 1) := dk_5 (dk_at dksX2_open_3 10 rfl rfl)
theorem dX2_open_82 : decode cX2_open 82 = .ok (.iload_n 1, 1) := dk_27 (dk_at dksX2_open_3 11 rfl rfl)
theorem dX2_open_83 : decode cX2_open 83 = .ok (.iload_n 2, 1) := dk_28 (dk_at dksX2_open_3 12 rfl rfl)
theorem dX2_open_84 : decode cX2_open 84 = .ok (.iload_n 3, 1) := dk_29 (dk_at dksX2_open_3 13 rfl rfl)
theorem dX2_open_85 : decode cX2_open 85 = .ok (.iconst 1, 1) := dk_4 (dk_at dksX2_open_3 14 rfl rfl)
theorem dX2_open_86 : decode cX2_open 86 = .ok (.iadd, 1) := dk_96 (dk_at dksX2_open_3 15 rfl rfl)
theorem dX2_open_87 : decode cX2_open 87 = .ok (.invokevirtual 65, 3) := dk_182 0 65 (dk_at dksX2_open_3 16 rfl rfl)
theorem dX2_open_90 : decode cX2_open 90 = .ok (.iconst (-1), 1) := dk_2 (dk_at dksX2_open_3 19 rfl rfl)
theorem dX2_open_91 : decode cX2_open 91 = .ok (.istore 4, 2) := dk_54 4 (dk_at dksX2_open_3 20 rfl rfl)
theorem dX2_open_93 : decode cX2_open 93 = .ok (.iload 4, 2) := dk_21 4 (dk_at dksX2_open_3 22 rfl rfl)
theorem dX2_open_95 : decode cX2_open 95 = .ok (.iconst 2, 1) := dk_5 (dk_at dksX2_open_4 0 rfl rfl)
theorem dX2_open_96 : decode cX2_open 96 = .ok (.if_icmp .ge 48, 3) := dk_162 0 48 (dk_at dksX2_open_4 1 rfl rfl)
theorem dX2_open_99 : decode cX2_open 99 = .ok (.iconst (-1), 1) := dk_2 (dk_at dksX2_open_4 4 rfl rfl)
theorem dX2_open_100 : decode cX2_open 100 = .ok (.istore 5, 2) := dk_54 5 (dk_at dksX2_open_4 5 rfl rfl)
theorem dX2_open_102 : decode cX2_open 102 = .ok (.iload 5, 2) := dk_21 5 (dk_at dksX2_open_4 7 rfl rfl)
theorem dX2_open_104 : decode cX2_open 104 = .ok (.iconst 2, 1) := dk_5 (dk_at dksX2_open_4 9 rfl rfl)
theorem dX2_open_105 : decode cX2_open 105 = .ok (.if_icmp .ge 33, 3) := dk_162 0 33 (dk_at dksX2_open_4 10 rfl rfl)
theorem dX2_open_108 : decode cX2_open 108 = .ok (.iload 4, 2) := dk_21 4 (dk_at dksX2_open_4 13 rfl rfl)
theorem dX2_open_110 : decode cX2_open 110 = .ok (.ifCond .ne 8, 3) := dk_154 0 8 (dk_at dksX2_open_4 15 rfl rfl)
theorem dX2_open_113 : decode cX2_open 113 = .ok (.iload 5, 2) := dk_21 5 (dk_at dksX2_open_4 18 rfl rfl)
theorem dX2_open_115 : decode cX2_open 115 = .ok (.ifCond .eq 17, 3) := dk_153 0 17 (dk_at dksX2_open_4 20 rfl rfl)
theorem dX2_open_118 : decode cX2_open 118 = .ok (.aload_n 0, 1) := dk_42 (dk_at dksX2_open_4 23 rfl rfl)
theorem dX2_open_119 : decode cX2_open 119 = .ok (.iconst 0, 1) := dk_3 (dk_at dksX2_open_5 0 rfl rfl)
theorem dX2_open_120 : decode cX2_open 120 = .ok (.iload_n 1, 1) := dk_27 (dk_at dksX2_open_5 1 rfl rfl)
theorem dX2_open_121 : decode cX2_open 121 = .ok (.iload_n 2, 1) := dk_28 (dk_at dksX2_open_5 2 rfl rfl)
theorem dX2_open_122 : decode cX2_open 122 = .ok (.iload 4, 2) := dk_21 4 (dk_at dksX2_open_5 3 rfl rfl)
theorem dX2_open_124 : decode cX2_open 124 = .ok (.iadd, 1) := dk_96 (dk_at dksX2_open_5 5 rfl rfl)
theorem dX2_open_125 : decode cX2_open 125 = .ok (.iload_n 3, 1) := dk_29 (dk_at dksX2_open_5 6 rfl rfl)
theorem dX2_open_126 : decode cX2_open 126 = .ok (.iload 5, 2) := dk_21 5 (dk_at dksX2_open_5 7 rfl rfl)
theorem dX2_open_128 : decode cX2_open 128 = .ok (.iadd, 1) := dk_96 (dk_at dksX2_open_5 9 rfl rfl)
theorem dX2_open_129 : decode cX2_open 129 = .ok (.invokevirtual 65, 3) := dk_182 0 65 (dk_at dksX2_open_5 10 rfl rfl)
theorem dX2_open_132 : decode cX2_open 132 = .ok (.iinc 5 1, 3) := dk_132 5 1 (dk_at dksX2_open_5 13 rfl rfl)
theorem dX2_open_135 : decode cX2_open 135 = .ok (.goto (-33), 3) := dk_167 255 223 (dk_at dksX2_open_5 16 rfl rfl)
theorem dX2_open_138 : decode cX2_open 138 = .ok (.iinc 4 1, 3) := dk_132 4 1 (dk_at dksX2_open_5 19 rfl rfl)
theorem dX2_open_141 : decode cX2_open 141 = .ok (.goto (-48), 3) := dk_167 255 208 (dk_at dksX2_open_6 0 rfl rfl)
theorem dX2_open_144 : decode cX2_open 144 = .ok (.iload_n 2, 1) := dk_28 (dk_at dksX2_open_6 3 rfl rfl)
theorem dX2_open_145 : decode cX2_open 145 = .ok (.ifCond .le 27, 3) := dk_158 0 27 (dk_at dksX2_open_6 4 rfl rfl)
theorem dX2_open_148 : decode cX2_open 148 = .ok (.aload_n 0, 1) := dk_42 (dk_at dksX2_open_6 7 rfl rfl)
theorem dX2_open_149 : decode cX2_open 149 = .ok (.getfield 18, 3) := dk_180 0 18 (dk_at dksX2_open_6 8 rfl rfl)
theorem dX2_open_152 : decode cX2_open 152 = .ok (.aload_n 0, 1) := dk_42 (dk_at dksX2_open_6 11 rfl rfl)
theorem dX2_open_153 : decode cX2_open 153 = .ok (.getfield 54, 3) := dk_180 0 54 (dk_at dksX2_open_6 12 rfl rfl)
theorem dX2_open_156 : decode cX2_open 156 = .ok (.iload_n 2, 1) := dk_28 (dk_at dksX2_open_6 15 rfl rfl)
theorem dX2_open_157 : decode cX2_open 157 = .ok (.iconst 1, 1) := dk_4 (dk_at dksX2_open_6 16 rfl rfl)
theorem dX2_open_158 : decode cX2_open 158 = .ok (.isub, 1) := dk_100 (dk_at dksX2_open_6 17 rfl rfl)
theorem dX2_open_159 : decode cX2_open 159 = .ok (.imul, 1) := dk_104 (dk_at dksX2_open_6 18 rfl rfl)
theorem dX2_open_160 : decode cX2_open 160 = .ok (.iload_n 3, 1) := dk_29 (dk_at dksX2_open_6 19 rfl rfl)
theorem dX2_open_161 : decode cX2_open 161 = .ok (.iadd, 1) := dk_96 (dk_at dksX2_open_6 20 rfl rfl)
theorem dX2_open_162 : decode cX2_open 162 = .ok (.iaload, 1) := dk_46 (dk_at dksX2_open_6 21 rfl rfl)
theorem dX2_open_163 : decode cX2_open 163 = .ok (.bipush 9, 2) := dk_16 9 (dk_at dksX2_open_6 22 rfl rfl)
theorem dX2_open_165 : decode cX2_open 165 = .ok (.if_icmp .ne 7, 3) := dk_160 0 7 (dk_at dksX2_open_7 0 rfl rfl)
theorem dX2_open_168 : decode cX2_open 168 = .ok (.iconst 1, 1) := dk_4 (dk_at dksX2_open_7 3 rfl rfl)
theorem dX2_open_169 : decode cX2_open 169 = .ok (.goto 4, 3) := dk_167 0 4 (dk_at dksX2_open_7 4 rfl rfl)
theorem dX2_open_172 : decode cX2_open 172 = .ok (.iconst 0, 1) := dk_3 (dk_at dksX2_open_7 7 rfl rfl)
theorem dX2_open_173 : decode cX2_open 173 = .ok (.istore 4, 2) := dk_54 4 (dk_at dksX2_open_7 8 rfl rfl)
theorem dX2_open_175 : decode cX2_open 175 = .ok (.iconst 1, 1) := dk_4 (dk_at dksX2_open_7 10 rfl rfl)
theorem dX2_open_176 : decode cX2_open 176 = .ok (.istore 5, 2) := dk_54 5 (dk_at dksX2_open_7 11 rfl rfl)
theorem dX2_open_178 : decode cX2_open 178 = .ok (.iload 5, 2) := dk_21 5 (dk_at dksX2_open_7 13 rfl rfl)
theorem dX2_open_180 : decode cX2_open 180 = .ok (.iconst 3, 1) := dk_6 (dk_at dksX2_open_7 15 rfl rfl)
theorem dX2_open_181 : decode cX2_open 181 = .ok (.if_icmp .gt 46, 3) := dk_163 0 46 (dk_at dksX2_open_7 16 rfl rfl)
theorem dX2_open_184 : decode cX2_open 184 = .ok (.iload 4, 2) := dk_21 4 (dk_at dksX2_open_7 19 rfl rfl)
theorem dX2_open_186 : decode cX2_open 186 = .ok (.ifCond .ne 41, 3) := dk_154 0 41 (dk_at dksX2_open_7 21 rfl rfl)
theorem dX2_open_189 : decode cX2_open 189 = .ok (.iload 5, 2) := dk_21 5 (dk_at dksX2_open_8 0 rfl rfl)
theorem dX2_open_191 : decode cX2_open 191 = .ok (.ineg, 1) := dk_116 (dk_at dksX2_open_8 2 rfl rfl)
theorem dX2_open_192 : decode cX2_open 192 = .ok (.istore 6, 2) := dk_54 6 (dk_at dksX2_open_8 3 rfl rfl)
theorem dX2_open_194 : decode cX2_open 194 = .ok (.iload 6, 2) := dk_21 6 (dk_at dksX2_open_8 5 rfl rfl)
theorem dX2_open_196 : decode cX2_open 196 = .ok (.iload 5, 2) := dk_21 5 (dk_at dksX2_open_8 7 rfl rfl)
theorem dX2_open_198 : decode cX2_open 198 = .ok (.if_icmp .gt 23, 3) := dk_163 0 23 (dk_at dksX2_open_8 9 rfl rfl)
theorem dX2_open_201 : decode cX2_open 201 = .ok (.aload_n 0, 1) := dk_42 (dk_at dksX2_open_8 12 rfl rfl)
theorem dX2_open_202 : decode cX2_open 202 = .ok (.iconst 4, 1) := dk_7 (dk_at dksX2_open_8 13 rfl rfl)
theorem dX2_open_203 : decode cX2_open 203 = .ok (.iload_n 1, 1) := dk_27 (dk_at dksX2_open_8 14 rfl rfl)
theorem dX2_open_204 : decode cX2_open 204 = .ok (.iload_n 2, 1) := dk_28 (dk_at dksX2_open_8 15 rfl rfl)
theorem dX2_open_205 : decode cX2_open 205 = .ok (.iload 5, 2) := dk_21 5 (dk_at dksX2_open_8 16 rfl rfl)
theorem dX2_open_207 : decode cX2_open 207 = .ok (.isub, 1) := dk_100 (dk_at dksX2_open_8 18 rfl rfl)
theorem dX2_open_208 : decode cX2_open 208 = .ok (.iload_n 3, 1) := dk_29 (dk_at dksX2_open_8 19 rfl rfl)
theorem dX2_open_209 : decode cX2_open 209 = .ok (.iload 6, 2) := dk_21 6 (dk_at dksX2_open_8 20 rfl rfl)
theorem dX2_open_211 : decode cX2_open 211 = .ok (.iadd, 1) := dk_96 (dk_at dksX2_open_8 22 rfl rfl)
theorem dX2_open_212 : decode cX2_open 212 = .ok (.invokevirtual 65, 3) := dk_182 0 65 (dk_at dksX2_open_9 0 rfl rfl)
theorem dX2_open_215 : decode cX2_open 215 = .ok (.iinc 6 1, 3) := dk_132 6 1 (dk_at dksX2_open_9 3 rfl rfl)
theorem dX2_open_218 : decode cX2_open 218 = .ok (.goto (-24), 3) := dk_167 255 232 (dk_at dksX2_open_9 6 rfl rfl)
theorem dX2_open_221 : decode cX2_open 221 = .ok (.iinc 5 1, 3) := dk_132 5 1 (dk_at dksX2_open_9 9 rfl rfl)
theorem dX2_open_224 : decode cX2_open 224 = .ok (.goto (-46), 3) := dk_167 255 210 (dk_at dksX2_open_9 12 rfl rfl)
theorem dX2_open_227 : decode cX2_open 227 = .ok (.iconst 0, 1) := dk_3 (dk_at dksX2_open_9 15 rfl rfl)
theorem dX2_open_228 : decode cX2_open 228 = .ok (.istore 5, 2) := dk_54 5 (dk_at dksX2_open_9 16 rfl rfl)
theorem dX2_open_230 : decode cX2_open 230 = .ok (.iload 5, 2) := dk_21 5 (dk_at dksX2_open_9 18 rfl rfl)
theorem dX2_open_232 : decode cX2_open 232 = .ok (.aload_n 0, 1) := dk_42 (dk_at dksX2_open_9 20 rfl rfl)
theorem dX2_open_233 : decode cX2_open 233 = .ok (.invokevirtual 57, 3) := dk_182 0 57 (dk_at dksX2_open_9 21 rfl rfl)
theorem dX2_open_236 : decode cX2_open 236 = .ok (.if_icmp .ge 35, 3) := dk_162 0 35 (dk_at dksX2_open_10 0 rfl rfl)
theorem dX2_open_239 : decode cX2_open 239 = .ok (.iload 5, 2) := dk_21 5 (dk_at dksX2_open_10 3 rfl rfl)
theorem dX2_open_241 : decode cX2_open 241 = .ok (.iload_n 1, 1) := dk_27 (dk_at dksX2_open_10 5 rfl rfl)
theorem dX2_open_242 : decode cX2_open 242 = .ok (.if_icmp .eq 23, 3) := dk_159 0 23 (dk_at dksX2_open_10 6 rfl rfl)
theorem dX2_open_245 : decode cX2_open 245 = .ok (.aload_n 0, 1) := dk_42 (dk_at dksX2_open_10 9 rfl rfl)
theorem dX2_open_246 : decode cX2_open 246 = .ok (.iconst 5, 1) := dk_8 (dk_at dksX2_open_10 10 rfl rfl)
theorem dX2_open_247 : decode cX2_open 247 = .ok (.iload_n 1, 1) := dk_27 (dk_at dksX2_open_10 11 rfl rfl)
theorem dX2_open_248 : decode cX2_open 248 = .ok (.iload 5, 2) := dk_21 5 (dk_at dksX2_open_10 12 rfl rfl)
theorem dX2_open_250 : decode cX2_open 250 = .ok (.aload_n 0, 1) := dk_42 (dk_at dksX2_open_10 14 rfl rfl)
theorem dX2_open_251 : decode cX2_open 251 = .ok (.getfield 54, 3) := dk_180 0 54 (dk_at dksX2_open_10 15 rfl rfl)
theorem dX2_open_254 : decode cX2_open 254 = .ok (.idiv, 1) := dk_108 (dk_at dksX2_open_10 18 rfl rfl)
theorem dX2_open_255 : decode cX2_open 255 = .ok (.iload 5, 2) := dk_21 5 (dk_at dksX2_open_10 19 rfl rfl)
theorem dX2_open_257 : decode cX2_open 257 = .ok (.aload_n 0, 1) := dk_42 (dk_at dksX2_open_10 21 rfl rfl)
theorem dX2_open_258 : decode cX2_open 258 = .ok (.getfield 54, 3) := dk_180 0 54 (dk_at dksX2_open_11 0 rfl rfl)
theorem dX2_open_261 : decode cX2_open 261 = .ok (.irem, 1) := dk_112 (dk_at dksX2_open_11 3 rfl rfl)
theorem dX2_open_262 : decode cX2_open 262 = .ok (.invokevirtual 65, 3) := dk_182 0 65 (dk_at dksX2_open_11 4 rfl rfl)
theorem dX2_open_265 : decode cX2_open 265 = .ok (.iinc 5 1, 3) := dk_132 5 1 (dk_at dksX2_open_11 7 rfl rfl)
theorem dX2_open_268 : decode cX2_open 268 = .ok (.goto (-38), 3) := dk_167 255 218 (dk_at dksX2_open_11 10 rfl rfl)
theorem dX2_open_271 : decode cX2_open 271 = .ok (.iinc 1 1, 3) := dk_132 1 1 (dk_at dksX2_open_11 13 rfl rfl)
theorem dX2_open_274 : decode cX2_open 274 = .ok (.goto (-272), 3) := dk_167 254 240 (dk_at dksX2_open_11 16 rfl rfl)
theorem dX2_open_277 : decode cX2_open 277 = .ok (.aload_n 0, 1) := dk_42 (dk_at dksX2_open_11 19 rfl rfl)
theorem dX2_open_278 : decode cX2_open 278 = .ok (.areturn, 1) := dk_176 (dk_at dksX2_open_11 20 rfl rfl)
def dkwX2_size_0 : List UInt8 := [42, 180, 0, 51, 42, 180, 0, 54, 104, 172]
abbrev dktX2_size_0 : List UInt8 := dkwX2_size_0 ++ []
theorem dksX2_size_0 : cX2_size.data.toList.drop 0 = dktX2_size_0 := by decide +kernel
theorem dX2_size_0 : decode cX2_size 0 = .ok (.aload_n 0, 1) := dk_42 (dk_at dksX2_size_0 0 rfl rfl)
theorem dX2_size_1 : decode cX2_size 1 = .ok (.getfield 51, 3) := dk_180 0 51 (dk_at dksX2_size_0 1 rfl rfl)
theorem dX2_size_4 : decode cX2_size 4 = .ok (.aload_n 0, 1) := dk_42 (dk_at dksX2_size_0 4 rfl rfl)
theorem dX2_size_5 : decode cX2_size 5 = .ok (.getfield 54, 3) := dk_180 0 54 (dk_at dksX2_size_0 5 rfl rfl)
theorem dX2_size_8 : decode cX2_size 8 = .ok (.imul, 1) := dk_104 (dk_at dksX2_size_0 8 rfl rfl)
theorem dX2_size_9 : decode cX2_size 9 = .ok (.ireturn, 1) := dk_172 (dk_at dksX2_size_0 9 rfl rfl)
def dkwX2_see_3 : List UInt8 := [129, 80, 177]
abbrev dktX2_see_3 : List UInt8 := dkwX2_see_3 ++ []
def dkwX2_see_2 : List UInt8 := [160, 0, 4, 177, 42, 180, 0, 42, 27, 50, 28, 92, 47, 10, 42, 180, 0, 54, 29, 104, 21, 4, 96, 121]
abbrev dktX2_see_2 : List UInt8 := dkwX2_see_2 ++ dktX2_see_3
def dkwX2_see_1 : List UInt8 := [184, 0, 61, 153, 0, 22, 42, 180, 0, 18, 42, 180, 0, 54, 29, 104, 21, 4, 96, 46, 16, 9]
abbrev dktX2_see_1 : List UInt8 := dkwX2_see_1 ++ dktX2_see_2
def dkwX2_see_0 : List UInt8 := [29, 3, 42, 180, 0, 51, 4, 100, 184, 0, 61, 153, 0, 37, 21, 4, 3, 42, 180, 0, 54, 4, 100]
abbrev dktX2_see_0 : List UInt8 := dkwX2_see_0 ++ dktX2_see_1
theorem dksX2_see_0 : cX2_see.data.toList.drop 0 = dktX2_see_0 := by decide +kernel
theorem dksX2_see_1 : cX2_see.data.toList.drop 23 = dktX2_see_1 := dk_seg dksX2_see_0 23 rfl rfl
theorem dksX2_see_2 : cX2_see.data.toList.drop 45 = dktX2_see_2 := dk_seg dksX2_see_1 22 rfl rfl
theorem dksX2_see_3 : cX2_see.data.toList.drop 69 = dktX2_see_3 := dk_seg dksX2_see_2 24 rfl rfl
theorem dX2_see_0 : decode cX2_see 0 = .ok (.iload_n 3, 1) := dk_29 (dk_at dksX2_see_0 0 rfl rfl)
theorem dX2_see_1 : decode cX2_see 1 = .ok (.iconst 0, 1) := dk_3 (dk_at dksX2_see_0 1 rfl rfl)
theorem dX2_see_2 : decode cX2_see 2 = .ok (.aload_n 0, 1) := dk_42 (dk_at dksX2_see_0 2 rfl rfl)
theorem dX2_see_3 : decode cX2_see 3 = .ok (.getfield 51, 3) := dk_180 0 51 (dk_at dksX2_see_0 3 rfl rfl)
theorem dX2_see_6 : decode cX2_see 6 = .ok (.iconst 1, 1) := dk_4 (dk_at dksX2_see_0 6 rfl rfl)
theorem dX2_see_7 : decode cX2_see 7 = .ok (.isub, 1) := dk_100 (dk_at dksX2_see_0 7 rfl rfl)
theorem dX2_see_8 : decode cX2_see 8 = .ok (.invokestatic 61, 3) := dk_184 0 61 (dk_at dksX2_see_0 8 rfl rfl)
theorem dX2_see_11 : decode cX2_see 11 = .ok (.ifCond .eq 37, 3) := dk_153 0 37 (dk_at dksX2_see_0 11 rfl rfl)
theorem dX2_see_14 : decode cX2_see 14 = .ok (.iload 4, 2) := dk_21 4 (dk_at dksX2_see_0 14 rfl rfl)
theorem dX2_see_16 : decode cX2_see 16 = .ok (.iconst 0, 1) := dk_3 (dk_at dksX2_see_0 16 rfl rfl)
theorem dX2_see_17 : decode cX2_see 17 = .ok (.aload_n 0, 1) := dk_42 (dk_at dksX2_see_0 17 rfl rfl)
theorem dX2_see_18 : decode cX2_see 18 = .ok (.getfield 54, 3) := dk_180 0 54 (dk_at dksX2_see_0 18 rfl rfl)
theorem dX2_see_21 : decode cX2_see 21 = .ok (.iconst 1, 1) := dk_4 (dk_at dksX2_see_0 21 rfl rfl)
theorem dX2_see_22 : decode cX2_see 22 = .ok (.isub, 1) := dk_100 (dk_at dksX2_see_0 22 rfl rfl)
theorem dX2_see_23 : decode cX2_see 23 = .ok (.invokestatic 61, 3) := dk_184 0 61 (dk_at dksX2_see_1 0 rfl rfl)
theorem dX2_see_26 : decode cX2_see 26 = .ok (.ifCond .eq 22, 3) := dk_153 0 22 (dk_at dksX2_see_1 3 rfl rfl)
theorem dX2_see_29 : decode cX2_see 29 = .ok (.aload_n 0, 1) := dk_42 (dk_at dksX2_see_1 6 rfl rfl)
theorem dX2_see_30 : decode cX2_see 30 = .ok (.getfield 18, 3) := dk_180 0 18 (dk_at dksX2_see_1 7 rfl rfl)
theorem dX2_see_33 : decode cX2_see 33 = .ok (.aload_n 0, 1) := dk_42 (dk_at dksX2_see_1 10 rfl rfl)
theorem dX2_see_34 : decode cX2_see 34 = .ok (.getfield 54, 3) := dk_180 0 54 (dk_at dksX2_see_1 11 rfl rfl)
theorem dX2_see_37 : decode cX2_see 37 = .ok (.iload_n 3, 1) := dk_29 (dk_at dksX2_see_1 14 rfl rfl)
theorem dX2_see_38 : decode cX2_see 38 = .ok (.imul, 1) := dk_104 (dk_at dksX2_see_1 15 rfl rfl)
theorem dX2_see_39 : decode cX2_see 39 = .ok (.iload 4, 2) := dk_21 4 (dk_at dksX2_see_1 16 rfl rfl)
theorem dX2_see_41 : decode cX2_see 41 = .ok (.iadd, 1) := dk_96 (dk_at dksX2_see_1 18 rfl rfl)
theorem dX2_see_42 : decode cX2_see 42 = .ok (.iaload, 1) := dk_46 (dk_at dksX2_see_1 19 rfl rfl)
theorem dX2_see_43 : decode cX2_see 43 = .ok (.bipush 9, 2) := dk_16 9 (dk_at dksX2_see_1 20 rfl rfl)
theorem dX2_see_45 : decode cX2_see 45 = .ok (.if_icmp .ne 4, 3) := dk_160 0 4 (dk_at dksX2_see_2 0 rfl rfl)
theorem dX2_see_48 : decode cX2_see 48 = .ok (.return_, 1) := dk_177 (dk_at dksX2_see_2 3 rfl rfl)
theorem dX2_see_49 : decode cX2_see 49 = .ok (.aload_n 0, 1) := dk_42 (dk_at dksX2_see_2 4 rfl rfl)
theorem dX2_see_50 : decode cX2_see 50 = .ok (.getfield 42, 3) := dk_180 0 42 (dk_at dksX2_see_2 5 rfl rfl)
theorem dX2_see_53 : decode cX2_see 53 = .ok (.iload_n 1, 1) := dk_27 (dk_at dksX2_see_2 8 rfl rfl)
theorem dX2_see_54 : decode cX2_see 54 = .ok (.aaload, 1) := dk_50 (dk_at dksX2_see_2 9 rfl rfl)
theorem dX2_see_55 : decode cX2_see 55 = .ok (.iload_n 2, 1) := dk_28 (dk_at dksX2_see_2 10 rfl rfl)
theorem dX2_see_56 : decode cX2_see 56 = .ok (.dup2, 1) := dk_92 (dk_at dksX2_see_2 11 rfl rfl)
theorem dX2_see_57 : decode cX2_see 57 = .ok (.laload, 1) := dk_47 (dk_at dksX2_see_2 12 rfl rfl)
theorem dX2_see_58 : decode cX2_see 58 = .ok (.lconst 1, 1) := dk_10 (dk_at dksX2_see_2 13 rfl rfl)
theorem dX2_see_59 : decode cX2_see 59 = .ok (.aload_n 0, 1) := dk_42 (dk_at dksX2_see_2 14 rfl rfl)
theorem dX2_see_60 : decode cX2_see 60 = .ok (.getfield 54, 3) := dk_180 0 54 (dk_at dksX2_see_2 15 rfl rfl)
theorem dX2_see_63 : decode cX2_see 63 = .ok (.iload_n 3, 1) := dk_29 (dk_at dksX2_see_2 18 rfl rfl)
theorem dX2_see_64 : decode cX2_see 64 = .ok (.imul, 1) := dk_104 (dk_at dksX2_see_2 19 rfl rfl)
theorem dX2_see_65 : decode cX2_see 65 = .ok (.iload 4, 2) := dk_21 4 (dk_at dksX2_see_2 20 rfl rfl)
theorem dX2_see_67 : decode cX2_see 67 = .ok (.iadd, 1) := dk_96 (dk_at dksX2_see_2 22 rfl rfl)
theorem dX2_see_68 : decode cX2_see 68 = .ok (.lshl, 1) := dk_121 (dk_at dksX2_see_2 23 rfl rfl)
theorem dX2_see_69 : decode cX2_see 69 = .ok (.lor, 1) := dk_129 (dk_at dksX2_see_3 0 rfl rfl)
theorem dX2_see_70 : decode cX2_see 70 = .ok (.lastore, 1) := dk_80 (dk_at dksX2_see_3 1 rfl rfl)
theorem dX2_see_71 : decode cX2_see 71 = .ok (.return_, 1) := dk_177 (dk_at dksX2_see_3 2 rfl rfl)
def dkwX2_isSeat_1 : List UInt8 := [159, 0, 7, 4, 167, 0, 4, 3, 172]
abbrev dktX2_isSeat_1 : List UInt8 := dkwX2_isSeat_1 ++ []
def dkwX2_isSeat_0 : List UInt8 := [27, 3, 42, 182, 0, 57, 4, 100, 184, 0, 61, 153, 0, 18, 42, 180, 0, 18, 27, 46, 16, 9]
abbrev dktX2_isSeat_0 : List UInt8 := dkwX2_isSeat_0 ++ dktX2_isSeat_1
theorem dksX2_isSeat_0 : cX2_isSeat.data.toList.drop 0 = dktX2_isSeat_0 := by decide +kernel
theorem dksX2_isSeat_1 : cX2_isSeat.data.toList.drop 22 = dktX2_isSeat_1 := dk_seg dksX2_isSeat_0 22 rfl rfl
theorem dX2_isSeat_0 : decode cX2_isSeat 0 = .ok (.iload_n 1, 1) := dk_27 (dk_at dksX2_isSeat_0 0 rfl rfl)
theorem dX2_isSeat_1 : decode cX2_isSeat 1 = .ok (.iconst 0, 1) := dk_3 (dk_at dksX2_isSeat_0 1 rfl rfl)
theorem dX2_isSeat_2 : decode cX2_isSeat 2 = .ok (.aload_n 0, 1) := dk_42 (dk_at dksX2_isSeat_0 2 rfl rfl)
theorem dX2_isSeat_3 : decode cX2_isSeat 3 = .ok (.invokevirtual 57, 3) := dk_182 0 57 (dk_at dksX2_isSeat_0 3 rfl rfl)
theorem dX2_isSeat_6 : decode cX2_isSeat 6 = .ok (.iconst 1, 1) := dk_4 (dk_at dksX2_isSeat_0 6 rfl rfl)
theorem dX2_isSeat_7 : decode cX2_isSeat 7 = .ok (.isub, 1) := dk_100 (dk_at dksX2_isSeat_0 7 rfl rfl)
theorem dX2_isSeat_8 : decode cX2_isSeat 8 = .ok (.invokestatic 61, 3) := dk_184 0 61 (dk_at dksX2_isSeat_0 8 rfl rfl)
theorem dX2_isSeat_11 : decode cX2_isSeat 11 = .ok (.ifCond .eq 18, 3) := dk_153 0 18 (dk_at dksX2_isSeat_0 11 rfl rfl)
theorem dX2_isSeat_14 : decode cX2_isSeat 14 = .ok (.aload_n 0, 1) := dk_42 (dk_at dksX2_isSeat_0 14 rfl rfl)
theorem dX2_isSeat_15 : decode cX2_isSeat 15 = .ok (.getfield 18, 3) := dk_180 0 18 (dk_at dksX2_isSeat_0 15 rfl rfl)
theorem dX2_isSeat_18 : decode cX2_isSeat 18 = .ok (.iload_n 1, 1) := dk_27 (dk_at dksX2_isSeat_0 18 rfl rfl)
theorem dX2_isSeat_19 : decode cX2_isSeat 19 = .ok (.iaload, 1) := dk_46 (dk_at dksX2_isSeat_0 19 rfl rfl)
theorem dX2_isSeat_20 : decode cX2_isSeat 20 = .ok (.bipush 9, 2) := dk_16 9 (dk_at dksX2_isSeat_0 20 rfl rfl)
theorem dX2_isSeat_22 : decode cX2_isSeat 22 = .ok (.if_icmp .eq 7, 3) := dk_159 0 7 (dk_at dksX2_isSeat_1 0 rfl rfl)
theorem dX2_isSeat_25 : decode cX2_isSeat 25 = .ok (.iconst 1, 1) := dk_4 (dk_at dksX2_isSeat_1 3 rfl rfl)
theorem dX2_isSeat_26 : decode cX2_isSeat 26 = .ok (.goto 4, 3) := dk_167 0 4 (dk_at dksX2_isSeat_1 4 rfl rfl)
theorem dX2_isSeat_29 : decode cX2_isSeat 29 = .ok (.iconst 0, 1) := dk_3 (dk_at dksX2_isSeat_1 7 rfl rfl)
theorem dX2_isSeat_30 : decode cX2_isSeat 30 = .ok (.ireturn, 1) := dk_172 (dk_at dksX2_isSeat_1 8 rfl rfl)
def dkwX2_row_0 : List UInt8 := [27, 42, 180, 0, 54, 108, 172]
abbrev dktX2_row_0 : List UInt8 := dkwX2_row_0 ++ []
theorem dksX2_row_0 : cX2_row.data.toList.drop 0 = dktX2_row_0 := by decide +kernel
theorem dX2_row_0 : decode cX2_row 0 = .ok (.iload_n 1, 1) := dk_27 (dk_at dksX2_row_0 0 rfl rfl)
theorem dX2_row_1 : decode cX2_row 1 = .ok (.aload_n 0, 1) := dk_42 (dk_at dksX2_row_0 1 rfl rfl)
theorem dX2_row_2 : decode cX2_row 2 = .ok (.getfield 54, 3) := dk_180 0 54 (dk_at dksX2_row_0 2 rfl rfl)
theorem dX2_row_5 : decode cX2_row 5 = .ok (.idiv, 1) := dk_108 (dk_at dksX2_row_0 5 rfl rfl)
theorem dX2_row_6 : decode cX2_row 6 = .ok (.ireturn, 1) := dk_172 (dk_at dksX2_row_0 6 rfl rfl)
def dkwX2_seats_1 : List UInt8 := [132, 1, 1, 132, 2, 1, 167, 255, 231, 27, 172]
abbrev dktX2_seats_1 : List UInt8 := dkwX2_seats_1 ++ []
def dkwX2_seats_0 : List UInt8 := [3, 60, 3, 61, 28, 42, 182, 0, 57, 162, 0, 23, 42, 180, 0, 18, 28, 46, 16, 9, 159, 0, 6]
abbrev dktX2_seats_0 : List UInt8 := dkwX2_seats_0 ++ dktX2_seats_1
theorem dksX2_seats_0 : cX2_seats.data.toList.drop 0 = dktX2_seats_0 := by decide +kernel
theorem dksX2_seats_1 : cX2_seats.data.toList.drop 23 = dktX2_seats_1 := dk_seg dksX2_seats_0 23 rfl rfl
theorem dX2_seats_0 : decode cX2_seats 0 = .ok (.iconst 0, 1) := dk_3 (dk_at dksX2_seats_0 0 rfl rfl)
theorem dX2_seats_1 : decode cX2_seats 1 = .ok (.istore_n 1, 1) := dk_60 (dk_at dksX2_seats_0 1 rfl rfl)
theorem dX2_seats_2 : decode cX2_seats 2 = .ok (.iconst 0, 1) := dk_3 (dk_at dksX2_seats_0 2 rfl rfl)
theorem dX2_seats_3 : decode cX2_seats 3 = .ok (.istore_n 2, 1) := dk_61 (dk_at dksX2_seats_0 3 rfl rfl)
theorem dX2_seats_4 : decode cX2_seats 4 = .ok (.iload_n 2, 1) := dk_28 (dk_at dksX2_seats_0 4 rfl rfl)
theorem dX2_seats_5 : decode cX2_seats 5 = .ok (.aload_n 0, 1) := dk_42 (dk_at dksX2_seats_0 5 rfl rfl)
theorem dX2_seats_6 : decode cX2_seats 6 = .ok (.invokevirtual 57, 3) := dk_182 0 57 (dk_at dksX2_seats_0 6 rfl rfl)
theorem dX2_seats_9 : decode cX2_seats 9 = .ok (.if_icmp .ge 23, 3) := dk_162 0 23 (dk_at dksX2_seats_0 9 rfl rfl)
theorem dX2_seats_12 : decode cX2_seats 12 = .ok (.aload_n 0, 1) := dk_42 (dk_at dksX2_seats_0 12 rfl rfl)
theorem dX2_seats_13 : decode cX2_seats 13 = .ok (.getfield 18, 3) := dk_180 0 18 (dk_at dksX2_seats_0 13 rfl rfl)
theorem dX2_seats_16 : decode cX2_seats 16 = .ok (.iload_n 2, 1) := dk_28 (dk_at dksX2_seats_0 16 rfl rfl)
theorem dX2_seats_17 : decode cX2_seats 17 = .ok (.iaload, 1) := dk_46 (dk_at dksX2_seats_0 17 rfl rfl)
theorem dX2_seats_18 : decode cX2_seats 18 = .ok (.bipush 9, 2) := dk_16 9 (dk_at dksX2_seats_0 18 rfl rfl)
theorem dX2_seats_20 : decode cX2_seats 20 = .ok (.if_icmp .eq 6, 3) := dk_159 0 6 (dk_at dksX2_seats_0 20 rfl rfl)
theorem dX2_seats_23 : decode cX2_seats 23 = .ok (.iinc 1 1, 3) := dk_132 1 1 (dk_at dksX2_seats_1 0 rfl rfl)
theorem dX2_seats_26 : decode cX2_seats 26 = .ok (.iinc 2 1, 3) := dk_132 2 1 (dk_at dksX2_seats_1 3 rfl rfl)
theorem dX2_seats_29 : decode cX2_seats 29 = .ok (.goto (-25), 3) := dk_167 255 231 (dk_at dksX2_seats_1 6 rfl rfl)
theorem dX2_seats_32 : decode cX2_seats 32 = .ok (.iload_n 1, 1) := dk_27 (dk_at dksX2_seats_1 9 rfl rfl)
theorem dX2_seats_33 : decode cX2_seats 33 = .ok (.ireturn, 1) := dk_172 (dk_at dksX2_seats_1 10 rfl rfl)
def dkwX2_exchanged_8 : List UInt8 := [45, 176]
abbrev dktX2_exchanged_8 : List UInt8 := dkwX2_exchanged_8 ++ []
def dkwX2_exchanged_7 : List UInt8 := [180, 0, 42, 21, 4, 50, 3, 16, 64, 184, 0, 77, 132, 4, 1, 167, 255, 225, 45, 27, 28, 182, 0, 83]
abbrev dktX2_exchanged_7 : List UInt8 := dkwX2_exchanged_7 ++ dktX2_exchanged_8
def dkwX2_exchanged_6 : List UInt8 := [184, 0, 77, 3, 54, 4, 21, 4, 16, 6, 162, 0, 30, 42, 180, 0, 42, 21, 4, 50, 3, 45]
abbrev dktX2_exchanged_6 : List UInt8 := dkwX2_exchanged_6 ++ dktX2_exchanged_7
def dkwX2_exchanged_5 : List UInt8 := [3, 45, 180, 0, 34, 3, 16, 6, 184, 0, 77, 42, 180, 0, 37, 3, 45, 180, 0, 37, 3, 16, 12]
abbrev dktX2_exchanged_5 : List UInt8 := dkwX2_exchanged_5 ++ dktX2_exchanged_6
def dkwX2_exchanged_4 : List UInt8 := [16, 8, 184, 0, 77, 42, 180, 0, 30, 3, 45, 180, 0, 30, 3, 16, 6, 184, 0, 77, 42, 180, 0, 34]
abbrev dktX2_exchanged_4 : List UInt8 := dkwX2_exchanged_4 ++ dktX2_exchanged_5
def dkwX2_exchanged_3 : List UInt8 := [180, 0, 22, 3, 45, 180, 0, 22, 3, 16, 8, 184, 0, 77, 42, 180, 0, 25, 3, 45, 180, 0, 25, 3]
abbrev dktX2_exchanged_3 : List UInt8 := dkwX2_exchanged_3 ++ dktX2_exchanged_4
def dkwX2_exchanged_2 : List UInt8 := [45, 42, 180, 0, 74, 181, 0, 74, 42, 180, 0, 18, 3, 45, 180, 0, 18, 3, 16, 64, 184, 0, 77, 42]
abbrev dktX2_exchanged_2 : List UInt8 := dkwX2_exchanged_2 ++ dktX2_exchanged_3
def dkwX2_exchanged_1 : List UInt8 := [45, 42, 180, 0, 9, 181, 0, 9, 45, 42, 180, 0, 15, 181, 0, 15, 45, 42, 180, 0, 70, 181, 0, 70]
abbrev dktX2_exchanged_1 : List UInt8 := dkwX2_exchanged_1 ++ dktX2_exchanged_2
def dkwX2_exchanged_0 : List UInt8 := [187, 0, 10, 89, 183, 0, 69, 78, 45, 42, 180, 0, 51, 181, 0, 51, 45, 42, 180, 0, 54, 181, 0, 54]
abbrev dktX2_exchanged_0 : List UInt8 := dkwX2_exchanged_0 ++ dktX2_exchanged_1
theorem dksX2_exchanged_0 : cX2_exchanged.data.toList.drop 0 = dktX2_exchanged_0 := by decide +kernel
theorem dksX2_exchanged_1 : cX2_exchanged.data.toList.drop 24 = dktX2_exchanged_1 := dk_seg dksX2_exchanged_0 24 rfl rfl
theorem dksX2_exchanged_2 : cX2_exchanged.data.toList.drop 48 = dktX2_exchanged_2 := dk_seg dksX2_exchanged_1 24 rfl rfl
theorem dksX2_exchanged_3 : cX2_exchanged.data.toList.drop 72 = dktX2_exchanged_3 := dk_seg dksX2_exchanged_2 24 rfl rfl
theorem dksX2_exchanged_4 : cX2_exchanged.data.toList.drop 96 = dktX2_exchanged_4 := dk_seg dksX2_exchanged_3 24 rfl rfl
theorem dksX2_exchanged_5 : cX2_exchanged.data.toList.drop 120 = dktX2_exchanged_5 := dk_seg dksX2_exchanged_4 24 rfl rfl
theorem dksX2_exchanged_6 : cX2_exchanged.data.toList.drop 143 = dktX2_exchanged_6 := dk_seg dksX2_exchanged_5 23 rfl rfl
theorem dksX2_exchanged_7 : cX2_exchanged.data.toList.drop 165 = dktX2_exchanged_7 := dk_seg dksX2_exchanged_6 22 rfl rfl
theorem dksX2_exchanged_8 : cX2_exchanged.data.toList.drop 189 = dktX2_exchanged_8 := dk_seg dksX2_exchanged_7 24 rfl rfl
theorem dX2_exchanged_0 : decode cX2_exchanged 0 = .ok (.new 10, 3) := dk_187 0 10 (dk_at dksX2_exchanged_0 0 rfl rfl)
theorem dX2_exchanged_3 : decode cX2_exchanged 3 = .ok (.dup, 1) := dk_89 (dk_at dksX2_exchanged_0 3 rfl rfl)
theorem dX2_exchanged_4 : decode cX2_exchanged 4 = .ok (.invokespecial 69, 3) := dk_183 0 69 (dk_at dksX2_exchanged_0 4 rfl rfl)
theorem dX2_exchanged_7 : decode cX2_exchanged 7 = .ok (.astore_n 3, 1) := dk_78 (dk_at dksX2_exchanged_0 7 rfl rfl)
theorem dX2_exchanged_8 : decode cX2_exchanged 8 = .ok (.aload_n 3, 1) := dk_45 (dk_at dksX2_exchanged_0 8 rfl rfl)
theorem dX2_exchanged_9 : decode cX2_exchanged 9 = .ok (.aload_n 0, 1) := dk_42 (dk_at dksX2_exchanged_0 9 rfl rfl)
theorem dX2_exchanged_10 : decode cX2_exchanged 10 = .ok (.getfield 51, 3) := dk_180 0 51 (dk_at dksX2_exchanged_0 10 rfl rfl)
theorem dX2_exchanged_13 : decode cX2_exchanged 13 = .ok (.putfield 51, 3) := dk_181 0 51 (dk_at dksX2_exchanged_0 13 rfl rfl)
theorem dX2_exchanged_16 : decode cX2_exchanged 16 = .ok (.aload_n 3, 1) := dk_45 (dk_at dksX2_exchanged_0 16 rfl rfl)
theorem dX2_exchanged_17 : decode cX2_exchanged 17 = .ok (.aload_n 0, 1) := dk_42 (dk_at dksX2_exchanged_0 17 rfl rfl)
theorem dX2_exchanged_18 : decode cX2_exchanged 18 = .ok (.getfield 54, 3) := dk_180 0 54 (dk_at dksX2_exchanged_0 18 rfl rfl)
theorem dX2_exchanged_21 : decode cX2_exchanged 21 = .ok (.putfield 54, 3) := dk_181 0 54 (dk_at dksX2_exchanged_0 21 rfl rfl)
theorem dX2_exchanged_24 : decode cX2_exchanged 24 = .ok (.aload_n 3, 1) := dk_45 (dk_at dksX2_exchanged_1 0 rfl rfl)
theorem dX2_exchanged_25 : decode cX2_exchanged 25 = .ok (.aload_n 0, 1) := dk_42 (dk_at dksX2_exchanged_1 1 rfl rfl)
theorem dX2_exchanged_26 : decode cX2_exchanged 26 = .ok (.getfield 9, 3) := dk_180 0 9 (dk_at dksX2_exchanged_1 2 rfl rfl)
theorem dX2_exchanged_29 : decode cX2_exchanged 29 = .ok (.putfield 9, 3) := dk_181 0 9 (dk_at dksX2_exchanged_1 5 rfl rfl)
theorem dX2_exchanged_32 : decode cX2_exchanged 32 = .ok (.aload_n 3, 1) := dk_45 (dk_at dksX2_exchanged_1 8 rfl rfl)
theorem dX2_exchanged_33 : decode cX2_exchanged 33 = .ok (.aload_n 0, 1) := dk_42 (dk_at dksX2_exchanged_1 9 rfl rfl)
theorem dX2_exchanged_34 : decode cX2_exchanged 34 = .ok (.getfield 15, 3) := dk_180 0 15 (dk_at dksX2_exchanged_1 10 rfl rfl)
theorem dX2_exchanged_37 : decode cX2_exchanged 37 = .ok (.putfield 15, 3) := dk_181 0 15 (dk_at dksX2_exchanged_1 13 rfl rfl)
theorem dX2_exchanged_40 : decode cX2_exchanged 40 = .ok (.aload_n 3, 1) := dk_45 (dk_at dksX2_exchanged_1 16 rfl rfl)
theorem dX2_exchanged_41 : decode cX2_exchanged 41 = .ok (.aload_n 0, 1) := dk_42 (dk_at dksX2_exchanged_1 17 rfl rfl)
theorem dX2_exchanged_42 : decode cX2_exchanged 42 = .ok (.getfield 70, 3) := dk_180 0 70 (dk_at dksX2_exchanged_1 18 rfl rfl)
theorem dX2_exchanged_45 : decode cX2_exchanged 45 = .ok (.putfield 70, 3) := dk_181 0 70 (dk_at dksX2_exchanged_1 21 rfl rfl)
theorem dX2_exchanged_48 : decode cX2_exchanged 48 = .ok (.aload_n 3, 1) := dk_45 (dk_at dksX2_exchanged_2 0 rfl rfl)
theorem dX2_exchanged_49 : decode cX2_exchanged 49 = .ok (.aload_n 0, 1) := dk_42 (dk_at dksX2_exchanged_2 1 rfl rfl)
theorem dX2_exchanged_50 : decode cX2_exchanged 50 = .ok (.getfield 74, 3) := dk_180 0 74 (dk_at dksX2_exchanged_2 2 rfl rfl)
theorem dX2_exchanged_53 : decode cX2_exchanged 53 = .ok (.putfield 74, 3) := dk_181 0 74 (dk_at dksX2_exchanged_2 5 rfl rfl)
theorem dX2_exchanged_56 : decode cX2_exchanged 56 = .ok (.aload_n 0, 1) := dk_42 (dk_at dksX2_exchanged_2 8 rfl rfl)
theorem dX2_exchanged_57 : decode cX2_exchanged 57 = .ok (.getfield 18, 3) := dk_180 0 18 (dk_at dksX2_exchanged_2 9 rfl rfl)
theorem dX2_exchanged_60 : decode cX2_exchanged 60 = .ok (.iconst 0, 1) := dk_3 (dk_at dksX2_exchanged_2 12 rfl rfl)
theorem dX2_exchanged_61 : decode cX2_exchanged 61 = .ok (.aload_n 3, 1) := dk_45 (dk_at dksX2_exchanged_2 13 rfl rfl)
theorem dX2_exchanged_62 : decode cX2_exchanged 62 = .ok (.getfield 18, 3) := dk_180 0 18 (dk_at dksX2_exchanged_2 14 rfl rfl)
theorem dX2_exchanged_65 : decode cX2_exchanged 65 = .ok (.iconst 0, 1) := dk_3 (dk_at dksX2_exchanged_2 17 rfl rfl)
theorem dX2_exchanged_66 : decode cX2_exchanged 66 = .ok (.bipush 64, 2) := dk_16 64 (dk_at dksX2_exchanged_2 18 rfl rfl)
theorem dX2_exchanged_68 : decode cX2_exchanged 68 = .ok (.invokestatic 77, 3) := dk_184 0 77 (dk_at dksX2_exchanged_2 20 rfl rfl)
theorem dX2_exchanged_71 : decode cX2_exchanged 71 = .ok (.aload_n 0, 1) := dk_42 (dk_at dksX2_exchanged_2 23 rfl rfl)
theorem dX2_exchanged_72 : decode cX2_exchanged 72 = .ok (.getfield 22, 3) := dk_180 0 22 (dk_at dksX2_exchanged_3 0 rfl rfl)
theorem dX2_exchanged_75 : decode cX2_exchanged 75 = .ok (.iconst 0, 1) := dk_3 (dk_at dksX2_exchanged_3 3 rfl rfl)
theorem dX2_exchanged_76 : decode cX2_exchanged 76 = .ok (.aload_n 3, 1) := dk_45 (dk_at dksX2_exchanged_3 4 rfl rfl)
theorem dX2_exchanged_77 : decode cX2_exchanged 77 = .ok (.getfield 22, 3) := dk_180 0 22 (dk_at dksX2_exchanged_3 5 rfl rfl)
theorem dX2_exchanged_80 : decode cX2_exchanged 80 = .ok (.iconst 0, 1) := dk_3 (dk_at dksX2_exchanged_3 8 rfl rfl)
theorem dX2_exchanged_81 : decode cX2_exchanged 81 = .ok (.bipush 8, 2) := dk_16 8 (dk_at dksX2_exchanged_3 9 rfl rfl)
theorem dX2_exchanged_83 : decode cX2_exchanged 83 = .ok (.invokestatic 77, 3) := dk_184 0 77 (dk_at dksX2_exchanged_3 11 rfl rfl)
theorem dX2_exchanged_86 : decode cX2_exchanged 86 = .ok (.aload_n 0, 1) := dk_42 (dk_at dksX2_exchanged_3 14 rfl rfl)
theorem dX2_exchanged_87 : decode cX2_exchanged 87 = .ok (.getfield 25, 3) := dk_180 0 25 (dk_at dksX2_exchanged_3 15 rfl rfl)
theorem dX2_exchanged_90 : decode cX2_exchanged 90 = .ok (.iconst 0, 1) := dk_3 (dk_at dksX2_exchanged_3 18 rfl rfl)
theorem dX2_exchanged_91 : decode cX2_exchanged 91 = .ok (.aload_n 3, 1) := dk_45 (dk_at dksX2_exchanged_3 19 rfl rfl)
theorem dX2_exchanged_92 : decode cX2_exchanged 92 = .ok (.getfield 25, 3) := dk_180 0 25 (dk_at dksX2_exchanged_3 20 rfl rfl)
theorem dX2_exchanged_95 : decode cX2_exchanged 95 = .ok (.iconst 0, 1) := dk_3 (dk_at dksX2_exchanged_3 23 rfl rfl)
theorem dX2_exchanged_96 : decode cX2_exchanged 96 = .ok (.bipush 8, 2) := dk_16 8 (dk_at dksX2_exchanged_4 0 rfl rfl)
theorem dX2_exchanged_98 : decode cX2_exchanged 98 = .ok (.invokestatic 77, 3) := dk_184 0 77 (dk_at dksX2_exchanged_4 2 rfl rfl)
theorem dX2_exchanged_101 : decode cX2_exchanged 101 = .ok (.aload_n 0, 1) := dk_42 (dk_at dksX2_exchanged_4 5 rfl rfl)
theorem dX2_exchanged_102 : decode cX2_exchanged 102 = .ok (.getfield 30, 3) := dk_180 0 30 (dk_at dksX2_exchanged_4 6 rfl rfl)
theorem dX2_exchanged_105 : decode cX2_exchanged 105 = .ok (.iconst 0, 1) := dk_3 (dk_at dksX2_exchanged_4 9 rfl rfl)
theorem dX2_exchanged_106 : decode cX2_exchanged 106 = .ok (.aload_n 3, 1) := dk_45 (dk_at dksX2_exchanged_4 10 rfl rfl)
theorem dX2_exchanged_107 : decode cX2_exchanged 107 = .ok (.getfield 30, 3) := dk_180 0 30 (dk_at dksX2_exchanged_4 11 rfl rfl)
theorem dX2_exchanged_110 : decode cX2_exchanged 110 = .ok (.iconst 0, 1) := dk_3 (dk_at dksX2_exchanged_4 14 rfl rfl)
theorem dX2_exchanged_111 : decode cX2_exchanged 111 = .ok (.bipush 6, 2) := dk_16 6 (dk_at dksX2_exchanged_4 15 rfl rfl)
theorem dX2_exchanged_113 : decode cX2_exchanged 113 = .ok (.invokestatic 77, 3) := dk_184 0 77 (dk_at dksX2_exchanged_4 17 rfl rfl)
theorem dX2_exchanged_116 : decode cX2_exchanged 116 = .ok (.aload_n 0, 1) := dk_42 (dk_at dksX2_exchanged_4 20 rfl rfl)
theorem dX2_exchanged_117 : decode cX2_exchanged 117 = .ok (.getfield 34, 3) := dk_180 0 34 (dk_at dksX2_exchanged_4 21 rfl rfl)
theorem dX2_exchanged_120 : decode cX2_exchanged 120 = .ok (.iconst 0, 1) := dk_3 (dk_at dksX2_exchanged_5 0 rfl rfl)
theorem dX2_exchanged_121 : decode cX2_exchanged 121 = .ok (.aload_n 3, 1) := dk_45 (dk_at dksX2_exchanged_5 1 rfl rfl)
theorem dX2_exchanged_122 : decode cX2_exchanged 122 = .ok (.getfield 34, 3) := dk_180 0 34 (dk_at dksX2_exchanged_5 2 rfl rfl)
theorem dX2_exchanged_125 : decode cX2_exchanged 125 = .ok (.iconst 0, 1) := dk_3 (dk_at dksX2_exchanged_5 5 rfl rfl)
theorem dX2_exchanged_126 : decode cX2_exchanged 126 = .ok (.bipush 6, 2) := dk_16 6 (dk_at dksX2_exchanged_5 6 rfl rfl)
theorem dX2_exchanged_128 : decode cX2_exchanged 128 = .ok (.invokestatic 77, 3) := dk_184 0 77 (dk_at dksX2_exchanged_5 8 rfl rfl)
theorem dX2_exchanged_131 : decode cX2_exchanged 131 = .ok (.aload_n 0, 1) := dk_42 (dk_at dksX2_exchanged_5 11 rfl rfl)
theorem dX2_exchanged_132 : decode cX2_exchanged 132 = .ok (.getfield 37, 3) := dk_180 0 37 (dk_at dksX2_exchanged_5 12 rfl rfl)
theorem dX2_exchanged_135 : decode cX2_exchanged 135 = .ok (.iconst 0, 1) := dk_3 (dk_at dksX2_exchanged_5 15 rfl rfl)
theorem dX2_exchanged_136 : decode cX2_exchanged 136 = .ok (.aload_n 3, 1) := dk_45 (dk_at dksX2_exchanged_5 16 rfl rfl)
theorem dX2_exchanged_137 : decode cX2_exchanged 137 = .ok (.getfield 37, 3) := dk_180 0 37 (dk_at dksX2_exchanged_5 17 rfl rfl)
theorem dX2_exchanged_140 : decode cX2_exchanged 140 = .ok (.iconst 0, 1) := dk_3 (dk_at dksX2_exchanged_5 20 rfl rfl)
theorem dX2_exchanged_141 : decode cX2_exchanged 141 = .ok (.bipush 12, 2) := dk_16 12 (dk_at dksX2_exchanged_5 21 rfl rfl)
theorem dX2_exchanged_143 : decode cX2_exchanged 143 = .ok (.invokestatic 77, 3) := dk_184 0 77 (dk_at dksX2_exchanged_6 0 rfl rfl)
theorem dX2_exchanged_146 : decode cX2_exchanged 146 = .ok (.iconst 0, 1) := dk_3 (dk_at dksX2_exchanged_6 3 rfl rfl)
theorem dX2_exchanged_147 : decode cX2_exchanged 147 = .ok (.istore 4, 2) := dk_54 4 (dk_at dksX2_exchanged_6 4 rfl rfl)
theorem dX2_exchanged_149 : decode cX2_exchanged 149 = .ok (.iload 4, 2) := dk_21 4 (dk_at dksX2_exchanged_6 6 rfl rfl)
theorem dX2_exchanged_151 : decode cX2_exchanged 151 = .ok (.bipush 6, 2) := dk_16 6 (dk_at dksX2_exchanged_6 8 rfl rfl)
theorem dX2_exchanged_153 : decode cX2_exchanged 153 = .ok (.if_icmp .ge 30, 3) := dk_162 0 30 (dk_at dksX2_exchanged_6 10 rfl rfl)
theorem dX2_exchanged_156 : decode cX2_exchanged 156 = .ok (.aload_n 0, 1) := dk_42 (dk_at dksX2_exchanged_6 13 rfl rfl)
theorem dX2_exchanged_157 : decode cX2_exchanged 157 = .ok (.getfield 42, 3) := dk_180 0 42 (dk_at dksX2_exchanged_6 14 rfl rfl)
theorem dX2_exchanged_160 : decode cX2_exchanged 160 = .ok (.iload 4, 2) := dk_21 4 (dk_at dksX2_exchanged_6 17 rfl rfl)
theorem dX2_exchanged_162 : decode cX2_exchanged 162 = .ok (.aaload, 1) := dk_50 (dk_at dksX2_exchanged_6 19 rfl rfl)
theorem dX2_exchanged_163 : decode cX2_exchanged 163 = .ok (.iconst 0, 1) := dk_3 (dk_at dksX2_exchanged_6 20 rfl rfl)
theorem dX2_exchanged_164 : decode cX2_exchanged 164 = .ok (.aload_n 3, 1) := dk_45 (dk_at dksX2_exchanged_6 21 rfl rfl)
theorem dX2_exchanged_165 : decode cX2_exchanged 165 = .ok (.getfield 42, 3) := dk_180 0 42 (dk_at dksX2_exchanged_7 0 rfl rfl)
theorem dX2_exchanged_168 : decode cX2_exchanged 168 = .ok (.iload 4, 2) := dk_21 4 (dk_at dksX2_exchanged_7 3 rfl rfl)
theorem dX2_exchanged_170 : decode cX2_exchanged 170 = .ok (.aaload, 1) := dk_50 (dk_at dksX2_exchanged_7 5 rfl rfl)
theorem dX2_exchanged_171 : decode cX2_exchanged 171 = .ok (.iconst 0, 1) := dk_3 (dk_at dksX2_exchanged_7 6 rfl rfl)
theorem dX2_exchanged_172 : decode cX2_exchanged 172 = .ok (.bipush 64, 2) := dk_16 64 (dk_at dksX2_exchanged_7 7 rfl rfl)
theorem dX2_exchanged_174 : decode cX2_exchanged 174 = .ok (.invokestatic 77, 3) := dk_184 0 77 (dk_at dksX2_exchanged_7 9 rfl rfl)
theorem dX2_exchanged_177 : decode cX2_exchanged 177 = .ok (.iinc 4 1, 3) := dk_132 4 1 (dk_at dksX2_exchanged_7 12 rfl rfl)
theorem dX2_exchanged_180 : decode cX2_exchanged 180 = .ok (.goto (-31), 3) := dk_167 255 225 (dk_at dksX2_exchanged_7 15 rfl rfl)
theorem dX2_exchanged_183 : decode cX2_exchanged 183 = .ok (.aload_n 3, 1) := dk_45 (dk_at dksX2_exchanged_7 18 rfl rfl)
theorem dX2_exchanged_184 : decode cX2_exchanged 184 = .ok (.iload_n 1, 1) := dk_27 (dk_at dksX2_exchanged_7 19 rfl rfl)
theorem dX2_exchanged_185 : decode cX2_exchanged 185 = .ok (.iload_n 2, 1) := dk_28 (dk_at dksX2_exchanged_7 20 rfl rfl)
theorem dX2_exchanged_186 : decode cX2_exchanged 186 = .ok (.invokevirtual 83, 3) := dk_182 0 83 (dk_at dksX2_exchanged_7 21 rfl rfl)
theorem dX2_exchanged_189 : decode cX2_exchanged 189 = .ok (.aload_n 3, 1) := dk_45 (dk_at dksX2_exchanged_8 0 rfl rfl)
theorem dX2_exchanged_190 : decode cX2_exchanged 190 = .ok (.areturn, 1) := dk_176 (dk_at dksX2_exchanged_8 1 rfl rfl)
def dkwX2_swap_1 : List UInt8 := [29, 79, 177]
abbrev dktX2_swap_1 : List UInt8 := dkwX2_swap_1 ++ []
def dkwX2_swap_0 : List UInt8 := [42, 180, 0, 18, 27, 46, 62, 42, 180, 0, 18, 27, 42, 180, 0, 18, 28, 46, 79, 42, 180, 0, 18, 28]
abbrev dktX2_swap_0 : List UInt8 := dkwX2_swap_0 ++ dktX2_swap_1
theorem dksX2_swap_0 : cX2_swap.data.toList.drop 0 = dktX2_swap_0 := by decide +kernel
theorem dksX2_swap_1 : cX2_swap.data.toList.drop 24 = dktX2_swap_1 := dk_seg dksX2_swap_0 24 rfl rfl
theorem dX2_swap_0 : decode cX2_swap 0 = .ok (.aload_n 0, 1) := dk_42 (dk_at dksX2_swap_0 0 rfl rfl)
theorem dX2_swap_1 : decode cX2_swap 1 = .ok (.getfield 18, 3) := dk_180 0 18 (dk_at dksX2_swap_0 1 rfl rfl)
theorem dX2_swap_4 : decode cX2_swap 4 = .ok (.iload_n 1, 1) := dk_27 (dk_at dksX2_swap_0 4 rfl rfl)
theorem dX2_swap_5 : decode cX2_swap 5 = .ok (.iaload, 1) := dk_46 (dk_at dksX2_swap_0 5 rfl rfl)
theorem dX2_swap_6 : decode cX2_swap 6 = .ok (.istore_n 3, 1) := dk_62 (dk_at dksX2_swap_0 6 rfl rfl)
theorem dX2_swap_7 : decode cX2_swap 7 = .ok (.aload_n 0, 1) := dk_42 (dk_at dksX2_swap_0 7 rfl rfl)
theorem dX2_swap_8 : decode cX2_swap 8 = .ok (.getfield 18, 3) := dk_180 0 18 (dk_at dksX2_swap_0 8 rfl rfl)
theorem dX2_swap_11 : decode cX2_swap 11 = .ok (.iload_n 1, 1) := dk_27 (dk_at dksX2_swap_0 11 rfl rfl)
theorem dX2_swap_12 : decode cX2_swap 12 = .ok (.aload_n 0, 1) := dk_42 (dk_at dksX2_swap_0 12 rfl rfl)
theorem dX2_swap_13 : decode cX2_swap 13 = .ok (.getfield 18, 3) := dk_180 0 18 (dk_at dksX2_swap_0 13 rfl rfl)
theorem dX2_swap_16 : decode cX2_swap 16 = .ok (.iload_n 2, 1) := dk_28 (dk_at dksX2_swap_0 16 rfl rfl)
theorem dX2_swap_17 : decode cX2_swap 17 = .ok (.iaload, 1) := dk_46 (dk_at dksX2_swap_0 17 rfl rfl)
theorem dX2_swap_18 : decode cX2_swap 18 = .ok (.iastore, 1) := dk_79 (dk_at dksX2_swap_0 18 rfl rfl)
theorem dX2_swap_19 : decode cX2_swap 19 = .ok (.aload_n 0, 1) := dk_42 (dk_at dksX2_swap_0 19 rfl rfl)
theorem dX2_swap_20 : decode cX2_swap 20 = .ok (.getfield 18, 3) := dk_180 0 18 (dk_at dksX2_swap_0 20 rfl rfl)
theorem dX2_swap_23 : decode cX2_swap 23 = .ok (.iload_n 2, 1) := dk_28 (dk_at dksX2_swap_0 23 rfl rfl)
theorem dX2_swap_24 : decode cX2_swap 24 = .ok (.iload_n 3, 1) := dk_29 (dk_at dksX2_swap_1 0 rfl rfl)
theorem dX2_swap_25 : decode cX2_swap 25 = .ok (.iastore, 1) := dk_79 (dk_at dksX2_swap_1 1 rfl rfl)
theorem dX2_swap_26 : decode cX2_swap 26 = .ok (.return_, 1) := dk_177 (dk_at dksX2_swap_1 2 rfl rfl)
def dkwX3_init_2 : List UInt8 := [181, 0, 28, 177]
abbrev dktX3_init_2 : List UInt8 := dkwX3_init_2 ++ []
def dkwX3_init_1 : List UInt8 := [188, 10, 181, 0, 18, 42, 16, 64, 188, 10, 181, 0, 21, 42, 6, 188, 11, 181, 0, 24, 42, 6, 188, 11]
abbrev dktX3_init_1 : List UInt8 := dkwX3_init_1 ++ dktX3_init_2
def dkwX3_init_0 : List UInt8 := [42, 183, 0, 3, 42, 16, 64, 188, 10, 181, 0, 9, 42, 16, 64, 188, 10, 181, 0, 15, 42, 16, 64]
abbrev dktX3_init_0 : List UInt8 := dkwX3_init_0 ++ dktX3_init_1
theorem dksX3_init_0 : cX3_init.data.toList.drop 0 = dktX3_init_0 := by decide +kernel
theorem dksX3_init_1 : cX3_init.data.toList.drop 23 = dktX3_init_1 := dk_seg dksX3_init_0 23 rfl rfl
theorem dksX3_init_2 : cX3_init.data.toList.drop 47 = dktX3_init_2 := dk_seg dksX3_init_1 24 rfl rfl
theorem dX3_init_0 : decode cX3_init 0 = .ok (.aload_n 0, 1) := dk_42 (dk_at dksX3_init_0 0 rfl rfl)
theorem dX3_init_1 : decode cX3_init 1 = .ok (.invokespecial 3, 3) := dk_183 0 3 (dk_at dksX3_init_0 1 rfl rfl)
theorem dX3_init_4 : decode cX3_init 4 = .ok (.aload_n 0, 1) := dk_42 (dk_at dksX3_init_0 4 rfl rfl)
theorem dX3_init_5 : decode cX3_init 5 = .ok (.bipush 64, 2) := dk_16 64 (dk_at dksX3_init_0 5 rfl rfl)
theorem dX3_init_7 : decode cX3_init 7 = .ok (.newarray .int, 2) := dk_188_10 (dk_at dksX3_init_0 7 rfl rfl)
theorem dX3_init_9 : decode cX3_init 9 = .ok (.putfield 9, 3) := dk_181 0 9 (dk_at dksX3_init_0 9 rfl rfl)
theorem dX3_init_12 : decode cX3_init 12 = .ok (.aload_n 0, 1) := dk_42 (dk_at dksX3_init_0 12 rfl rfl)
theorem dX3_init_13 : decode cX3_init 13 = .ok (.bipush 64, 2) := dk_16 64 (dk_at dksX3_init_0 13 rfl rfl)
theorem dX3_init_15 : decode cX3_init 15 = .ok (.newarray .int, 2) := dk_188_10 (dk_at dksX3_init_0 15 rfl rfl)
theorem dX3_init_17 : decode cX3_init 17 = .ok (.putfield 15, 3) := dk_181 0 15 (dk_at dksX3_init_0 17 rfl rfl)
theorem dX3_init_20 : decode cX3_init 20 = .ok (.aload_n 0, 1) := dk_42 (dk_at dksX3_init_0 20 rfl rfl)
theorem dX3_init_21 : decode cX3_init 21 = .ok (.bipush 64, 2) := dk_16 64 (dk_at dksX3_init_0 21 rfl rfl)
theorem dX3_init_23 : decode cX3_init 23 = .ok (.newarray .int, 2) := dk_188_10 (dk_at dksX3_init_1 0 rfl rfl)
theorem dX3_init_25 : decode cX3_init 25 = .ok (.putfield 18, 3) := dk_181 0 18 (dk_at dksX3_init_1 2 rfl rfl)
theorem dX3_init_28 : decode cX3_init 28 = .ok (.aload_n 0, 1) := dk_42 (dk_at dksX3_init_1 5 rfl rfl)
theorem dX3_init_29 : decode cX3_init 29 = .ok (.bipush 64, 2) := dk_16 64 (dk_at dksX3_init_1 6 rfl rfl)
theorem dX3_init_31 : decode cX3_init 31 = .ok (.newarray .int, 2) := dk_188_10 (dk_at dksX3_init_1 8 rfl rfl)
theorem dX3_init_33 : decode cX3_init 33 = .ok (.putfield 21, 3) := dk_181 0 21 (dk_at dksX3_init_1 10 rfl rfl)
theorem dX3_init_36 : decode cX3_init 36 = .ok (.aload_n 0, 1) := dk_42 (dk_at dksX3_init_1 13 rfl rfl)
theorem dX3_init_37 : decode cX3_init 37 = .ok (.iconst 3, 1) := dk_6 (dk_at dksX3_init_1 14 rfl rfl)
theorem dX3_init_38 : decode cX3_init 38 = .ok (.newarray .long, 2) := dk_188_11 (dk_at dksX3_init_1 15 rfl rfl)
theorem dX3_init_40 : decode cX3_init 40 = .ok (.putfield 24, 3) := dk_181 0 24 (dk_at dksX3_init_1 17 rfl rfl)
theorem dX3_init_43 : decode cX3_init 43 = .ok (.aload_n 0, 1) := dk_42 (dk_at dksX3_init_1 20 rfl rfl)
theorem dX3_init_44 : decode cX3_init 44 = .ok (.iconst 3, 1) := dk_6 (dk_at dksX3_init_1 21 rfl rfl)
theorem dX3_init_45 : decode cX3_init 45 = .ok (.newarray .long, 2) := dk_188_11 (dk_at dksX3_init_1 22 rfl rfl)
theorem dX3_init_47 : decode cX3_init 47 = .ok (.putfield 28, 3) := dk_181 0 28 (dk_at dksX3_init_2 0 rfl rfl)
theorem dX3_init_50 : decode cX3_init 50 = .ok (.return_, 1) := dk_177 (dk_at dksX3_init_2 3 rfl rfl)
def dkwX3_begin_4 : List UInt8 := [42, 176]
abbrev dktX3_begin_4 : List UInt8 := dkwX3_begin_4 ++ []
def dkwX3_begin_3 : List UInt8 := [21, 7, 182, 0, 62, 79, 42, 180, 0, 21, 21, 7, 3, 79, 132, 7, 1, 167, 255, 206, 42, 182, 0, 66]
abbrev dktX3_begin_3 : List UInt8 := dkwX3_begin_3 ++ dktX3_begin_4
def dkwX3_begin_2 : List UInt8 := [162, 0, 44, 42, 180, 0, 15, 21, 7, 42, 21, 7, 182, 0, 62, 2, 160, 0, 7, 3, 167, 0, 9, 42]
abbrev dktX3_begin_2 : List UInt8 := dkwX3_begin_2 ++ dktX3_begin_3
def dkwX3_begin_1 : List UInt8 := [181, 0, 46, 42, 3, 181, 0, 50, 42, 182, 0, 53, 3, 54, 7, 21, 7, 42, 180, 0, 31, 182, 0, 56]
abbrev dktX3_begin_1 : List UInt8 := dkwX3_begin_1 ++ dktX3_begin_2
def dkwX3_begin_0 : List UInt8 := [42, 43, 181, 0, 31, 42, 44, 181, 0, 35, 42, 33, 181, 0, 39, 42, 22, 5, 181, 0, 43, 42, 3]
abbrev dktX3_begin_0 : List UInt8 := dkwX3_begin_0 ++ dktX3_begin_1
theorem dksX3_begin_0 : cX3_begin.data.toList.drop 0 = dktX3_begin_0 := by decide +kernel
theorem dksX3_begin_1 : cX3_begin.data.toList.drop 23 = dktX3_begin_1 := dk_seg dksX3_begin_0 23 rfl rfl
theorem dksX3_begin_2 : cX3_begin.data.toList.drop 47 = dktX3_begin_2 := dk_seg dksX3_begin_1 24 rfl rfl
theorem dksX3_begin_3 : cX3_begin.data.toList.drop 71 = dktX3_begin_3 := dk_seg dksX3_begin_2 24 rfl rfl
theorem dksX3_begin_4 : cX3_begin.data.toList.drop 95 = dktX3_begin_4 := dk_seg dksX3_begin_3 24 rfl rfl
theorem dX3_begin_0 : decode cX3_begin 0 = .ok (.aload_n 0, 1) := dk_42 (dk_at dksX3_begin_0 0 rfl rfl)
theorem dX3_begin_1 : decode cX3_begin 1 = .ok (.aload_n 1, 1) := dk_43 (dk_at dksX3_begin_0 1 rfl rfl)
theorem dX3_begin_2 : decode cX3_begin 2 = .ok (.putfield 31, 3) := dk_181 0 31 (dk_at dksX3_begin_0 2 rfl rfl)
theorem dX3_begin_5 : decode cX3_begin 5 = .ok (.aload_n 0, 1) := dk_42 (dk_at dksX3_begin_0 5 rfl rfl)
theorem dX3_begin_6 : decode cX3_begin 6 = .ok (.aload_n 2, 1) := dk_44 (dk_at dksX3_begin_0 6 rfl rfl)
theorem dX3_begin_7 : decode cX3_begin 7 = .ok (.putfield 35, 3) := dk_181 0 35 (dk_at dksX3_begin_0 7 rfl rfl)
theorem dX3_begin_10 : decode cX3_begin 10 = .ok (.aload_n 0, 1) := dk_42 (dk_at dksX3_begin_0 10 rfl rfl)
theorem dX3_begin_11 : decode cX3_begin 11 = .ok (.lload_n 3, 1) := dk_33 (dk_at dksX3_begin_0 11 rfl rfl)
theorem dX3_begin_12 : decode cX3_begin 12 = .ok (.putfield 39, 3) := dk_181 0 39 (dk_at dksX3_begin_0 12 rfl rfl)
theorem dX3_begin_15 : decode cX3_begin 15 = .ok (.aload_n 0, 1) := dk_42 (dk_at dksX3_begin_0 15 rfl rfl)
theorem dX3_begin_16 : decode cX3_begin 16 = .ok (.lload 5, 2) := dk_22 5 (dk_at dksX3_begin_0 16 rfl rfl)
theorem dX3_begin_18 : decode cX3_begin 18 = .ok (.putfield 43, 3) := dk_181 0 43 (dk_at dksX3_begin_0 18 rfl rfl)
theorem dX3_begin_21 : decode cX3_begin 21 = .ok (.aload_n 0, 1) := dk_42 (dk_at dksX3_begin_0 21 rfl rfl)
theorem dX3_begin_22 : decode cX3_begin 22 = .ok (.iconst 0, 1) := dk_3 (dk_at dksX3_begin_0 22 rfl rfl)
theorem dX3_begin_23 : decode cX3_begin 23 = .ok (.putfield 46, 3) := dk_181 0 46 (dk_at dksX3_begin_1 0 rfl rfl)
theorem dX3_begin_26 : decode cX3_begin 26 = .ok (.aload_n 0, 1) := dk_42 (dk_at dksX3_begin_1 3 rfl rfl)
theorem dX3_begin_27 : decode cX3_begin 27 = .ok (.iconst 0, 1) := dk_3 (dk_at dksX3_begin_1 4 rfl rfl)
theorem dX3_begin_28 : decode cX3_begin 28 = .ok (.putfield 50, 3) := dk_181 0 50 (dk_at dksX3_begin_1 5 rfl rfl)
theorem dX3_begin_31 : decode cX3_begin 31 = .ok (.aload_n 0, 1) := dk_42 (dk_at dksX3_begin_1 8 rfl rfl)
theorem dX3_begin_32 : decode cX3_begin 32 = .ok (.invokevirtual 53, 3) := dk_182 0 53 (dk_at dksX3_begin_1 9 rfl rfl)
theorem dX3_begin_35 : decode cX3_begin 35 = .ok (.iconst 0, 1) := dk_3 (dk_at dksX3_begin_1 12 rfl rfl)
theorem dX3_begin_36 : decode cX3_begin 36 = .ok (.istore 7, 2) := dk_54 7 (dk_at dksX3_begin_1 13 rfl rfl)
theorem dX3_begin_38 : decode cX3_begin 38 = .ok (.iload 7, 2) := dk_21 7 (dk_at dksX3_begin_1 15 rfl rfl)
theorem dX3_begin_40 : decode cX3_begin 40 = .ok (.aload_n 0, 1) := dk_42 (dk_at dksX3_begin_1 17 rfl rfl)
theorem dX3_begin_41 : decode cX3_begin 41 = .ok (.getfield 31, 3) := dk_180 0 31 (dk_at dksX3_begin_1 18 rfl rfl)
theorem dX3_begin_44 : decode cX3_begin 44 = .ok (.invokevirtual 56, 3) := dk_182 0 56 (dk_at dksX3_begin_1 21 rfl rfl)
theorem dX3_begin_47 : decode cX3_begin 47 = .ok (.if_icmp .ge 44, 3) := dk_162 0 44 (dk_at dksX3_begin_2 0 rfl rfl)
theorem dX3_begin_50 : decode cX3_begin 50 = .ok (.aload_n 0, 1) := dk_42 (dk_at dksX3_begin_2 3 rfl rfl)
theorem dX3_begin_51 : decode cX3_begin 51 = .ok (.getfield 15, 3) := dk_180 0 15 (dk_at dksX3_begin_2 4 rfl rfl)
theorem dX3_begin_54 : decode cX3_begin 54 = .ok (.iload 7, 2) := dk_21 7 (dk_at dksX3_begin_2 7 rfl rfl)
theorem dX3_begin_56 : decode cX3_begin 56 = .ok (.aload_n 0, 1) := dk_42 (dk_at dksX3_begin_2 9 rfl rfl)
theorem dX3_begin_57 : decode cX3_begin 57 = .ok (.iload 7, 2) := dk_21 7 (dk_at dksX3_begin_2 10 rfl rfl)
theorem dX3_begin_59 : decode cX3_begin 59 = .ok (.invokevirtual 62, 3) := dk_182 0 62 (dk_at dksX3_begin_2 12 rfl rfl)
theorem dX3_begin_62 : decode cX3_begin 62 = .ok (.iconst (-1), 1) := dk_2 (dk_at dksX3_begin_2 15 rfl rfl)
theorem dX3_begin_63 : decode cX3_begin 63 = .ok (.if_icmp .ne 7, 3) := dk_160 0 7 (dk_at dksX3_begin_2 16 rfl rfl)
theorem dX3_begin_66 : decode cX3_begin 66 = .ok (.iconst 0, 1) := dk_3 (dk_at dksX3_begin_2 19 rfl rfl)
theorem dX3_begin_67 : decode cX3_begin 67 = .ok (.goto 9, 3) := dk_167 0 9 (dk_at dksX3_begin_2 20 rfl rfl)
theorem dX3_begin_70 : decode cX3_begin 70 = .ok (.aload_n 0, 1) := dk_42 (dk_at dksX3_begin_2 23 rfl rfl)
theorem dX3_begin_71 : decode cX3_begin 71 = .ok (.iload 7, 2) := dk_21 7 (dk_at dksX3_begin_3 0 rfl rfl)
theorem dX3_begin_73 : decode cX3_begin 73 = .ok (.invokevirtual 62, 3) := dk_182 0 62 (dk_at dksX3_begin_3 2 rfl rfl)
theorem dX3_begin_76 : decode cX3_begin 76 = .ok (.iastore, 1) := dk_79 (dk_at dksX3_begin_3 5 rfl rfl)
theorem dX3_begin_77 : decode cX3_begin 77 = .ok (.aload_n 0, 1) := dk_42 (dk_at dksX3_begin_3 6 rfl rfl)
theorem dX3_begin_78 : decode cX3_begin 78 = .ok (.getfield 21, 3) := dk_180 0 21 (dk_at dksX3_begin_3 7 rfl rfl)
theorem dX3_begin_81 : decode cX3_begin 81 = .ok (.iload 7, 2) := dk_21 7 (dk_at dksX3_begin_3 10 rfl rfl)
theorem dX3_begin_83 : decode cX3_begin 83 = .ok (.iconst 0, 1) := dk_3 (dk_at dksX3_begin_3 12 rfl rfl)
theorem dX3_begin_84 : decode cX3_begin 84 = .ok (.iastore, 1) := dk_79 (dk_at dksX3_begin_3 13 rfl rfl)
theorem dX3_begin_85 : decode cX3_begin 85 = .ok (.iinc 7 1, 3) := dk_132 7 1 (dk_at dksX3_begin_3 14 rfl rfl)
theorem dX3_begin_88 : decode cX3_begin 88 = .ok (.goto (-50), 3) := dk_167 255 206 (dk_at dksX3_begin_3 17 rfl rfl)
theorem dX3_begin_91 : decode cX3_begin 91 = .ok (.aload_n 0, 1) := dk_42 (dk_at dksX3_begin_3 20 rfl rfl)
theorem dX3_begin_92 : decode cX3_begin 92 = .ok (.invokevirtual 66, 3) := dk_182 0 66 (dk_at dksX3_begin_3 21 rfl rfl)
theorem dX3_begin_95 : decode cX3_begin 95 = .ok (.aload_n 0, 1) := dk_42 (dk_at dksX3_begin_4 0 rfl rfl)
theorem dX3_begin_96 : decode cX3_begin 96 = .ok (.areturn, 1) := dk_176 (dk_at dksX3_begin_4 1 rfl rfl)
def dkwX3_cue_3 : List UInt8 := [167, 255, 190, 177]
abbrev dktX3_cue_3 : List UInt8 := dkwX3_cue_3 ++ []
def dkwX3_cue_2 : List UInt8 := [180, 0, 50, 182, 0, 76, 192, 0, 80, 42, 182, 0, 85, 42, 89, 180, 0, 50, 4, 96, 181, 0, 50]
abbrev dktX3_cue_2 : List UInt8 := dkwX3_cue_2 ++ dktX3_cue_3
def dkwX3_cue_1 : List UInt8 := [180, 0, 50, 182, 0, 76, 192, 0, 80, 180, 0, 82, 42, 180, 0, 46, 160, 0, 34, 42, 180, 0, 35, 42]
abbrev dktX3_cue_1 : List UInt8 := dkwX3_cue_1 ++ dktX3_cue_2
def dkwX3_cue_0 : List UInt8 := [42, 3, 181, 0, 69, 42, 180, 0, 50, 42, 180, 0, 35, 182, 0, 73, 162, 0, 58, 42, 180, 0, 35, 42]
abbrev dktX3_cue_0 : List UInt8 := dkwX3_cue_0 ++ dktX3_cue_1
theorem dksX3_cue_0 : cX3_cue.data.toList.drop 0 = dktX3_cue_0 := by decide +kernel
theorem dksX3_cue_1 : cX3_cue.data.toList.drop 24 = dktX3_cue_1 := dk_seg dksX3_cue_0 24 rfl rfl
theorem dksX3_cue_2 : cX3_cue.data.toList.drop 48 = dktX3_cue_2 := dk_seg dksX3_cue_1 24 rfl rfl
theorem dksX3_cue_3 : cX3_cue.data.toList.drop 71 = dktX3_cue_3 := dk_seg dksX3_cue_2 23 rfl rfl
theorem dX3_cue_0 : decode cX3_cue 0 = .ok (.aload_n 0, 1) := dk_42 (dk_at dksX3_cue_0 0 rfl rfl)
theorem dX3_cue_1 : decode cX3_cue 1 = .ok (.iconst 0, 1) := dk_3 (dk_at dksX3_cue_0 1 rfl rfl)
theorem dX3_cue_2 : decode cX3_cue 2 = .ok (.putfield 69, 3) := dk_181 0 69 (dk_at dksX3_cue_0 2 rfl rfl)
theorem dX3_cue_5 : decode cX3_cue 5 = .ok (.aload_n 0, 1) := dk_42 (dk_at dksX3_cue_0 5 rfl rfl)
theorem dX3_cue_6 : decode cX3_cue 6 = .ok (.getfield 50, 3) := dk_180 0 50 (dk_at dksX3_cue_0 6 rfl rfl)
theorem dX3_cue_9 : decode cX3_cue 9 = .ok (.aload_n 0, 1) := dk_42 (dk_at dksX3_cue_0 9 rfl rfl)
theorem dX3_cue_10 : decode cX3_cue 10 = .ok (.getfield 35, 3) := dk_180 0 35 (dk_at dksX3_cue_0 10 rfl rfl)
theorem dX3_cue_13 : decode cX3_cue 13 = .ok (.invokevirtual 73, 3) := dk_182 0 73 (dk_at dksX3_cue_0 13 rfl rfl)
theorem dX3_cue_16 : decode cX3_cue 16 = .ok (.if_icmp .ge 58, 3) := dk_162 0 58 (dk_at dksX3_cue_0 16 rfl rfl)
theorem dX3_cue_19 : decode cX3_cue 19 = .ok (.aload_n 0, 1) := dk_42 (dk_at dksX3_cue_0 19 rfl rfl)
theorem dX3_cue_20 : decode cX3_cue 20 = .ok (.getfield 35, 3) := dk_180 0 35 (dk_at dksX3_cue_0 20 rfl rfl)
theorem dX3_cue_23 : decode cX3_cue 23 = .ok (.aload_n 0, 1) := dk_42 (dk_at dksX3_cue_0 23 rfl rfl)
theorem dX3_cue_24 : decode cX3_cue 24 = .ok (.getfield 50, 3) := dk_180 0 50 (dk_at dksX3_cue_1 0 rfl rfl)
theorem dX3_cue_27 : decode cX3_cue 27 = .ok (.invokevirtual 76, 3) := dk_182 0 76 (dk_at dksX3_cue_1 3 rfl rfl)
theorem dX3_cue_30 : decode cX3_cue 30 = .ok (.checkcast 80, 3) := dk_192 0 80 (dk_at dksX3_cue_1 6 rfl rfl)
theorem dX3_cue_33 : decode cX3_cue 33 = .ok (.getfield 82, 3) := dk_180 0 82 (dk_at dksX3_cue_1 9 rfl rfl)
theorem dX3_cue_36 : decode cX3_cue 36 = .ok (.aload_n 0, 1) := dk_42 (dk_at dksX3_cue_1 12 rfl rfl)
theorem dX3_cue_37 : decode cX3_cue 37 = .ok (.getfield 46, 3) := dk_180 0 46 (dk_at dksX3_cue_1 13 rfl rfl)
theorem dX3_cue_40 : decode cX3_cue 40 = .ok (.if_icmp .ne 34, 3) := dk_160 0 34 (dk_at dksX3_cue_1 16 rfl rfl)
theorem dX3_cue_43 : decode cX3_cue 43 = .ok (.aload_n 0, 1) := dk_42 (dk_at dksX3_cue_1 19 rfl rfl)
theorem dX3_cue_44 : decode cX3_cue 44 = .ok (.getfield 35, 3) := dk_180 0 35 (dk_at dksX3_cue_1 20 rfl rfl)
theorem dX3_cue_47 : decode cX3_cue 47 = .ok (.aload_n 0, 1) := dk_42 (dk_at dksX3_cue_1 23 rfl rfl)
theorem dX3_cue_48 : decode cX3_cue 48 = .ok (.getfield 50, 3) := dk_180 0 50 (dk_at dksX3_cue_2 0 rfl rfl)
theorem dX3_cue_51 : decode cX3_cue 51 = .ok (.invokevirtual 76, 3) := dk_182 0 76 (dk_at dksX3_cue_2 3 rfl rfl)
theorem dX3_cue_54 : decode cX3_cue 54 = .ok (.checkcast 80, 3) := dk_192 0 80 (dk_at dksX3_cue_2 6 rfl rfl)
theorem dX3_cue_57 : decode cX3_cue 57 = .ok (.aload_n 0, 1) := dk_42 (dk_at dksX3_cue_2 9 rfl rfl)
theorem dX3_cue_58 : decode cX3_cue 58 = .ok (.invokevirtual 85, 3) := dk_182 0 85 (dk_at dksX3_cue_2 10 rfl rfl)
theorem dX3_cue_61 : decode cX3_cue 61 = .ok (.aload_n 0, 1) := dk_42 (dk_at dksX3_cue_2 13 rfl rfl)
theorem dX3_cue_62 : decode cX3_cue 62 = .ok (.dup, 1) := dk_89 (dk_at dksX3_cue_2 14 rfl rfl)
theorem dX3_cue_63 : decode cX3_cue 63 = .ok (.getfield 50, 3) := dk_180 0 50 (dk_at dksX3_cue_2 15 rfl rfl)
theorem dX3_cue_66 : decode cX3_cue 66 = .ok (.iconst 1, 1) := dk_4 (dk_at dksX3_cue_2 18 rfl rfl)
theorem dX3_cue_67 : decode cX3_cue 67 = .ok (.iadd, 1) := dk_96 (dk_at dksX3_cue_2 19 rfl rfl)
theorem dX3_cue_68 : decode cX3_cue 68 = .ok (.putfield 50, 3) := dk_181 0 50 (dk_at dksX3_cue_2 20 rfl rfl)
theorem dX3_cue_71 : decode cX3_cue 71 = .ok (.goto (-66), 3) := dk_167 255 190 (dk_at dksX3_cue_3 0 rfl rfl)
theorem dX3_cue_74 : decode cX3_cue 74 = .ok (.return_, 1) := dk_177 (dk_at dksX3_cue_3 3 rfl rfl)
def dkwX3_forced_4 : List UInt8 := [167, 0, 4, 2, 172]
abbrev dktX3_forced_4 : List UInt8 := dkwX3_forced_4 ++ []
def dkwX3_forced_3 : List UInt8 := [42, 180, 0, 31, 180, 0, 102, 163, 0, 7, 5, 167, 0, 15, 42, 180, 0, 69, 153, 0, 7, 3]
abbrev dktX3_forced_3 : List UInt8 := dkwX3_forced_3 ++ dktX3_forced_4
def dkwX3_forced_2 : List UInt8 := [27, 184, 0, 98, 153, 0, 5, 3, 172, 42, 180, 0, 39, 27, 184, 0, 98, 153, 0, 21, 42, 180, 0, 46]
abbrev dktX3_forced_2 : List UInt8 := dkwX3_forced_2 ++ dktX3_forced_3
def dkwX3_forced_1 : List UInt8 := [27, 46, 16, 9, 159, 0, 27, 28, 2, 159, 0, 11, 42, 180, 0, 46, 28, 162, 0, 14, 42, 180, 0, 43]
abbrev dktX3_forced_1 : List UInt8 := dkwX3_forced_1 ++ dktX3_forced_2
def dkwX3_forced_0 : List UInt8 := [42, 180, 0, 31, 180, 0, 89, 42, 180, 0, 31, 27, 182, 0, 92, 46, 61, 42, 180, 0, 31, 180, 0, 95]
abbrev dktX3_forced_0 : List UInt8 := dkwX3_forced_0 ++ dktX3_forced_1
theorem dksX3_forced_0 : cX3_forced.data.toList.drop 0 = dktX3_forced_0 := by decide +kernel
theorem dksX3_forced_1 : cX3_forced.data.toList.drop 24 = dktX3_forced_1 := dk_seg dksX3_forced_0 24 rfl rfl
theorem dksX3_forced_2 : cX3_forced.data.toList.drop 48 = dktX3_forced_2 := dk_seg dksX3_forced_1 24 rfl rfl
theorem dksX3_forced_3 : cX3_forced.data.toList.drop 72 = dktX3_forced_3 := dk_seg dksX3_forced_2 24 rfl rfl
theorem dksX3_forced_4 : cX3_forced.data.toList.drop 94 = dktX3_forced_4 := dk_seg dksX3_forced_3 22 rfl rfl
theorem dX3_forced_0 : decode cX3_forced 0 = .ok (.aload_n 0, 1) := dk_42 (dk_at dksX3_forced_0 0 rfl rfl)
theorem dX3_forced_1 : decode cX3_forced 1 = .ok (.getfield 31, 3) := dk_180 0 31 (dk_at dksX3_forced_0 1 rfl rfl)
theorem dX3_forced_4 : decode cX3_forced 4 = .ok (.getfield 89, 3) := dk_180 0 89 (dk_at dksX3_forced_0 4 rfl rfl)
theorem dX3_forced_7 : decode cX3_forced 7 = .ok (.aload_n 0, 1) := dk_42 (dk_at dksX3_forced_0 7 rfl rfl)
theorem dX3_forced_8 : decode cX3_forced 8 = .ok (.getfield 31, 3) := dk_180 0 31 (dk_at dksX3_forced_0 8 rfl rfl)
theorem dX3_forced_11 : decode cX3_forced 11 = .ok (.iload_n 1, 1) := dk_27 (dk_at dksX3_forced_0 11 rfl rfl)
theorem dX3_forced_12 : decode cX3_forced 12 = .ok (.invokevirtual 92, 3) := dk_182 0 92 (dk_at dksX3_forced_0 12 rfl rfl)
theorem dX3_forced_15 : decode cX3_forced 15 = .ok (.iaload, 1) := dk_46 (dk_at dksX3_forced_0 15 rfl rfl)
theorem dX3_forced_16 : decode cX3_forced 16 = .ok (.istore_n 2, 1) := dk_61 (dk_at dksX3_forced_0 16 rfl rfl)
theorem dX3_forced_17 : decode cX3_forced 17 = .ok (.aload_n 0, 1) := dk_42 (dk_at dksX3_forced_0 17 rfl rfl)
theorem dX3_forced_18 : decode cX3_forced 18 = .ok (.getfield 31, 3) := dk_180 0 31 (dk_at dksX3_forced_0 18 rfl rfl)
theorem dX3_forced_21 : decode cX3_forced 21 = .ok (.getfield 95, 3) := dk_180 0 95 (dk_at dksX3_forced_0 21 rfl rfl)
theorem dX3_forced_24 : decode cX3_forced 24 = .ok (.iload_n 1, 1) := dk_27 (dk_at dksX3_forced_1 0 rfl rfl)
theorem dX3_forced_25 : decode cX3_forced 25 = .ok (.iaload, 1) := dk_46 (dk_at dksX3_forced_1 1 rfl rfl)
theorem dX3_forced_26 : decode cX3_forced 26 = .ok (.bipush 9, 2) := dk_16 9 (dk_at dksX3_forced_1 2 rfl rfl)
theorem dX3_forced_28 : decode cX3_forced 28 = .ok (.if_icmp .eq 27, 3) := dk_159 0 27 (dk_at dksX3_forced_1 4 rfl rfl)
theorem dX3_forced_31 : decode cX3_forced 31 = .ok (.iload_n 2, 1) := dk_28 (dk_at dksX3_forced_1 7 rfl rfl)
theorem dX3_forced_32 : decode cX3_forced 32 = .ok (.iconst (-1), 1) := dk_2 (dk_at dksX3_forced_1 8 rfl rfl)
theorem dX3_forced_33 : decode cX3_forced 33 = .ok (.if_icmp .eq 11, 3) := dk_159 0 11 (dk_at dksX3_forced_1 9 rfl rfl)
theorem dX3_forced_36 : decode cX3_forced 36 = .ok (.aload_n 0, 1) := dk_42 (dk_at dksX3_forced_1 12 rfl rfl)
theorem dX3_forced_37 : decode cX3_forced 37 = .ok (.getfield 46, 3) := dk_180 0 46 (dk_at dksX3_forced_1 13 rfl rfl)
theorem dX3_forced_40 : decode cX3_forced 40 = .ok (.iload_n 2, 1) := dk_28 (dk_at dksX3_forced_1 16 rfl rfl)
theorem dX3_forced_41 : decode cX3_forced 41 = .ok (.if_icmp .ge 14, 3) := dk_162 0 14 (dk_at dksX3_forced_1 17 rfl rfl)
theorem dX3_forced_44 : decode cX3_forced 44 = .ok (.aload_n 0, 1) := dk_42 (dk_at dksX3_forced_1 20 rfl rfl)
theorem dX3_forced_45 : decode cX3_forced 45 = .ok (.getfield 43, 3) := dk_180 0 43 (dk_at dksX3_forced_1 21 rfl rfl)
theorem dX3_forced_48 : decode cX3_forced 48 = .ok (.iload_n 1, 1) := dk_27 (dk_at dksX3_forced_2 0 rfl rfl)
theorem dX3_forced_49 : decode cX3_forced 49 = .ok (.invokestatic 98, 3) := dk_184 0 98 (dk_at dksX3_forced_2 1 rfl rfl)
theorem dX3_forced_52 : decode cX3_forced 52 = .ok (.ifCond .eq 5, 3) := dk_153 0 5 (dk_at dksX3_forced_2 4 rfl rfl)
theorem dX3_forced_55 : decode cX3_forced 55 = .ok (.iconst 0, 1) := dk_3 (dk_at dksX3_forced_2 7 rfl rfl)
theorem dX3_forced_56 : decode cX3_forced 56 = .ok (.ireturn, 1) := dk_172 (dk_at dksX3_forced_2 8 rfl rfl)
theorem dX3_forced_57 : decode cX3_forced 57 = .ok (.aload_n 0, 1) := dk_42 (dk_at dksX3_forced_2 9 rfl rfl)
theorem dX3_forced_58 : decode cX3_forced 58 = .ok (.getfield 39, 3) := dk_180 0 39 (dk_at dksX3_forced_2 10 rfl rfl)
theorem dX3_forced_61 : decode cX3_forced 61 = .ok (.iload_n 1, 1) := dk_27 (dk_at dksX3_forced_2 13 rfl rfl)
theorem dX3_forced_62 : decode cX3_forced 62 = .ok (.invokestatic 98, 3) := dk_184 0 98 (dk_at dksX3_forced_2 14 rfl rfl)
theorem dX3_forced_65 : decode cX3_forced 65 = .ok (.ifCond .eq 21, 3) := dk_153 0 21 (dk_at dksX3_forced_2 17 rfl rfl)
theorem dX3_forced_68 : decode cX3_forced 68 = .ok (.aload_n 0, 1) := dk_42 (dk_at dksX3_forced_2 20 rfl rfl)
theorem dX3_forced_69 : decode cX3_forced 69 = .ok (.getfield 46, 3) := dk_180 0 46 (dk_at dksX3_forced_2 21 rfl rfl)
theorem dX3_forced_72 : decode cX3_forced 72 = .ok (.aload_n 0, 1) := dk_42 (dk_at dksX3_forced_3 0 rfl rfl)
theorem dX3_forced_73 : decode cX3_forced 73 = .ok (.getfield 31, 3) := dk_180 0 31 (dk_at dksX3_forced_3 1 rfl rfl)
theorem dX3_forced_76 : decode cX3_forced 76 = .ok (.getfield 102, 3) := dk_180 0 102 (dk_at dksX3_forced_3 4 rfl rfl)
theorem dX3_forced_79 : decode cX3_forced 79 = .ok (.if_icmp .gt 7, 3) := dk_163 0 7 (dk_at dksX3_forced_3 7 rfl rfl)
theorem dX3_forced_82 : decode cX3_forced 82 = .ok (.iconst 2, 1) := dk_5 (dk_at dksX3_forced_3 10 rfl rfl)
theorem dX3_forced_83 : decode cX3_forced 83 = .ok (.goto 15, 3) := dk_167 0 15 (dk_at dksX3_forced_3 11 rfl rfl)
theorem dX3_forced_86 : decode cX3_forced 86 = .ok (.aload_n 0, 1) := dk_42 (dk_at dksX3_forced_3 14 rfl rfl)
theorem dX3_forced_87 : decode cX3_forced 87 = .ok (.getfield 69, 3) := dk_180 0 69 (dk_at dksX3_forced_3 15 rfl rfl)
theorem dX3_forced_90 : decode cX3_forced 90 = .ok (.ifCond .eq 7, 3) := dk_153 0 7 (dk_at dksX3_forced_3 18 rfl rfl)
theorem dX3_forced_93 : decode cX3_forced 93 = .ok (.iconst 0, 1) := dk_3 (dk_at dksX3_forced_3 21 rfl rfl)
theorem dX3_forced_94 : decode cX3_forced 94 = .ok (.goto 4, 3) := dk_167 0 4 (dk_at dksX3_forced_4 0 rfl rfl)
theorem dX3_forced_97 : decode cX3_forced 97 = .ok (.iconst (-1), 1) := dk_2 (dk_at dksX3_forced_4 3 rfl rfl)
theorem dX3_forced_98 : decode cX3_forced 98 = .ok (.ireturn, 1) := dk_172 (dk_at dksX3_forced_4 4 rfl rfl)
def dkwX3_count_2 : List UInt8 := [80, 132, 2, 1, 167, 255, 220, 132, 1, 1, 167, 255, 200, 177]
abbrev dktX3_count_2 : List UInt8 := dkwX3_count_2 ++ []
def dkwX3_count_1 : List UInt8 := [162, 0, 31, 42, 180, 0, 15, 28, 46, 27, 161, 0, 15, 42, 180, 0, 28, 27, 92, 47, 10, 28, 121, 129]
abbrev dktX3_count_1 : List UInt8 := dkwX3_count_1 ++ dktX3_count_2
def dkwX3_count_0 : List UInt8 := [4, 60, 27, 5, 163, 0, 57, 42, 180, 0, 28, 27, 9, 80, 3, 61, 28, 42, 180, 0, 31, 182, 0, 56]
abbrev dktX3_count_0 : List UInt8 := dkwX3_count_0 ++ dktX3_count_1
theorem dksX3_count_0 : cX3_count.data.toList.drop 0 = dktX3_count_0 := by decide +kernel
theorem dksX3_count_1 : cX3_count.data.toList.drop 24 = dktX3_count_1 := dk_seg dksX3_count_0 24 rfl rfl
theorem dksX3_count_2 : cX3_count.data.toList.drop 48 = dktX3_count_2 := dk_seg dksX3_count_1 24 rfl rfl
theorem dX3_count_0 : decode cX3_count 0 = .ok (.iconst 1, 1) := dk_4 (dk_at dksX3_count_0 0 rfl rfl)
theorem dX3_count_1 : decode cX3_count 1 = .ok (.istore_n 1, 1) := dk_60 (dk_at dksX3_count_0 1 rfl rfl)
theorem dX3_count_2 : decode cX3_count 2 = .ok (.iload_n 1, 1) := dk_27 (dk_at dksX3_count_0 2 rfl rfl)
theorem dX3_count_3 : decode cX3_count 3 = .ok (.iconst 2, 1) := dk_5 (dk_at dksX3_count_0 3 rfl rfl)
theorem dX3_count_4 : decode cX3_count 4 = .ok (.if_icmp .gt 57, 3) := dk_163 0 57 (dk_at dksX3_count_0 4 rfl rfl)
theorem dX3_count_7 : decode cX3_count 7 = .ok (.aload_n 0, 1) := dk_42 (dk_at dksX3_count_0 7 rfl rfl)
theorem dX3_count_8 : decode cX3_count 8 = .ok (.getfield 28, 3) := dk_180 0 28 (dk_at dksX3_count_0 8 rfl rfl)
theorem dX3_count_11 : decode cX3_count 11 = .ok (.iload_n 1, 1) := dk_27 (dk_at dksX3_count_0 11 rfl rfl)
theorem dX3_count_12 : decode cX3_count 12 = .ok (.lconst 0, 1) := dk_9 (dk_at dksX3_count_0 12 rfl rfl)
theorem dX3_count_13 : decode cX3_count 13 = .ok (.lastore, 1) := dk_80 (dk_at dksX3_count_0 13 rfl rfl)
theorem dX3_count_14 : decode cX3_count 14 = .ok (.iconst 0, 1) := dk_3 (dk_at dksX3_count_0 14 rfl rfl)
theorem dX3_count_15 : decode cX3_count 15 = .ok (.istore_n 2, 1) := dk_61 (dk_at dksX3_count_0 15 rfl rfl)
theorem dX3_count_16 : decode cX3_count 16 = .ok (.iload_n 2, 1) := dk_28 (dk_at dksX3_count_0 16 rfl rfl)
theorem dX3_count_17 : decode cX3_count 17 = .ok (.aload_n 0, 1) := dk_42 (dk_at dksX3_count_0 17 rfl rfl)
theorem dX3_count_18 : decode cX3_count 18 = .ok (.getfield 31, 3) := dk_180 0 31 (dk_at dksX3_count_0 18 rfl rfl)
theorem dX3_count_21 : decode cX3_count 21 = .ok (.invokevirtual 56, 3) := dk_182 0 56 (dk_at dksX3_count_0 21 rfl rfl)
theorem dX3_count_24 : decode cX3_count 24 = .ok (.if_icmp .ge 31, 3) := dk_162 0 31 (dk_at dksX3_count_1 0 rfl rfl)
theorem dX3_count_27 : decode cX3_count 27 = .ok (.aload_n 0, 1) := dk_42 (dk_at dksX3_count_1 3 rfl rfl)
theorem dX3_count_28 : decode cX3_count 28 = .ok (.getfield 15, 3) := dk_180 0 15 (dk_at dksX3_count_1 4 rfl rfl)
theorem dX3_count_31 : decode cX3_count 31 = .ok (.iload_n 2, 1) := dk_28 (dk_at dksX3_count_1 7 rfl rfl)
theorem dX3_count_32 : decode cX3_count 32 = .ok (.iaload, 1) := dk_46 (dk_at dksX3_count_1 8 rfl rfl)
theorem dX3_count_33 : decode cX3_count 33 = .ok (.iload_n 1, 1) := dk_27 (dk_at dksX3_count_1 9 rfl rfl)
theorem dX3_count_34 : decode cX3_count 34 = .ok (.if_icmp .lt 15, 3) := dk_161 0 15 (dk_at dksX3_count_1 10 rfl rfl)
theorem dX3_count_37 : decode cX3_count 37 = .ok (.aload_n 0, 1) := dk_42 (dk_at dksX3_count_1 13 rfl rfl)
theorem dX3_count_38 : decode cX3_count 38 = .ok (.getfield 28, 3) := dk_180 0 28 (dk_at dksX3_count_1 14 rfl rfl)
theorem dX3_count_41 : decode cX3_count 41 = .ok (.iload_n 1, 1) := dk_27 (dk_at dksX3_count_1 17 rfl rfl)
theorem dX3_count_42 : decode cX3_count 42 = .ok (.dup2, 1) := dk_92 (dk_at dksX3_count_1 18 rfl rfl)
theorem dX3_count_43 : decode cX3_count 43 = .ok (.laload, 1) := dk_47 (dk_at dksX3_count_1 19 rfl rfl)
theorem dX3_count_44 : decode cX3_count 44 = .ok (.lconst 1, 1) := dk_10 (dk_at dksX3_count_1 20 rfl rfl)
theorem dX3_count_45 : decode cX3_count 45 = .ok (.iload_n 2, 1) := dk_28 (dk_at dksX3_count_1 21 rfl rfl)
theorem dX3_count_46 : decode cX3_count 46 = .ok (.lshl, 1) := dk_121 (dk_at dksX3_count_1 22 rfl rfl)
theorem dX3_count_47 : decode cX3_count 47 = .ok (.lor, 1) := dk_129 (dk_at dksX3_count_1 23 rfl rfl)
theorem dX3_count_48 : decode cX3_count 48 = .ok (.lastore, 1) := dk_80 (dk_at dksX3_count_2 0 rfl rfl)
theorem dX3_count_49 : decode cX3_count 49 = .ok (.iinc 2 1, 3) := dk_132 2 1 (dk_at dksX3_count_2 1 rfl rfl)
theorem dX3_count_52 : decode cX3_count 52 = .ok (.goto (-36), 3) := dk_167 255 220 (dk_at dksX3_count_2 4 rfl rfl)
theorem dX3_count_55 : decode cX3_count 55 = .ok (.iinc 1 1, 3) := dk_132 1 1 (dk_at dksX3_count_2 7 rfl rfl)
theorem dX3_count_58 : decode cX3_count 58 = .ok (.goto (-56), 3) := dk_167 255 200 (dk_at dksX3_count_2 10 rfl rfl)
theorem dX3_count_61 : decode cX3_count 61 = .ok (.return_, 1) := dk_177 (dk_at dksX3_count_2 13 rfl rfl)
def dkwX3_to_0 : List UInt8 := [42, 180, 0, 46, 27, 162, 0, 10, 42, 182, 0, 169, 167, 255, 244, 42, 176]
abbrev dktX3_to_0 : List UInt8 := dkwX3_to_0 ++ []
theorem dksX3_to_0 : cX3_to.data.toList.drop 0 = dktX3_to_0 := by decide +kernel
theorem dX3_to_0 : decode cX3_to 0 = .ok (.aload_n 0, 1) := dk_42 (dk_at dksX3_to_0 0 rfl rfl)
theorem dX3_to_1 : decode cX3_to 1 = .ok (.getfield 46, 3) := dk_180 0 46 (dk_at dksX3_to_0 1 rfl rfl)
theorem dX3_to_4 : decode cX3_to 4 = .ok (.iload_n 1, 1) := dk_27 (dk_at dksX3_to_0 4 rfl rfl)
theorem dX3_to_5 : decode cX3_to 5 = .ok (.if_icmp .ge 10, 3) := dk_162 0 10 (dk_at dksX3_to_0 5 rfl rfl)
theorem dX3_to_8 : decode cX3_to 8 = .ok (.aload_n 0, 1) := dk_42 (dk_at dksX3_to_0 8 rfl rfl)
theorem dX3_to_9 : decode cX3_to 9 = .ok (.invokevirtual 169, 3) := dk_182 0 169 (dk_at dksX3_to_0 9 rfl rfl)
theorem dX3_to_12 : decode cX3_to 12 = .ok (.goto (-12), 3) := dk_167 255 244 (dk_at dksX3_to_0 12 rfl rfl)
theorem dX3_to_15 : decode cX3_to 15 = .ok (.aload_n 0, 1) := dk_42 (dk_at dksX3_to_0 15 rfl rfl)
theorem dX3_to_16 : decode cX3_to 16 = .ok (.areturn, 1) := dk_176 (dk_at dksX3_to_0 16 rfl rfl)
def dkwX3_step_5 : List UInt8 := [154, 0, 12, 42, 10, 29, 121, 10, 101, 181, 0, 108, 42, 29, 182, 0, 140, 132, 3, 1, 167, 255, 206, 177]
abbrev dktX3_step_5 : List UInt8 := dkwX3_step_5 ++ []
def dkwX3_step_4 : List UInt8 := [162, 0, 45, 42, 180, 0, 31, 180, 0, 134, 153, 0, 24, 29, 42, 180, 0, 31, 180, 0, 137, 112]
abbrev dktX3_step_4 : List UInt8 := dkwX3_step_4 ++ dktX3_step_5
def dkwX3_step_3 : List UInt8 := [180, 0, 28, 4, 9, 80, 42, 180, 0, 28, 5, 9, 80, 3, 62, 29, 42, 180, 0, 31, 182, 0, 56]
abbrev dktX3_step_3 : List UInt8 := dkwX3_step_3 ++ dktX3_step_4
def dkwX3_step_2 : List UInt8 := [184, 0, 128, 42, 89, 180, 0, 46, 4, 96, 181, 0, 46, 42, 182, 0, 53, 42, 9, 181, 0, 108, 42]
abbrev dktX3_step_2 : List UInt8 := dkwX3_step_2 ++ dktX3_step_3
def dkwX3_step_1 : List UInt8 := [42, 180, 0, 21, 181, 0, 18, 42, 44, 181, 0, 21, 42, 180, 0, 28, 3, 42, 180, 0, 24, 3, 6]
abbrev dktX3_step_1 : List UInt8 := dkwX3_step_1 ++ dktX3_step_2
def dkwX3_step_0 : List UInt8 := [42, 180, 0, 9, 76, 42, 42, 180, 0, 15, 181, 0, 9, 42, 43, 181, 0, 15, 42, 180, 0, 18, 77, 42]
abbrev dktX3_step_0 : List UInt8 := dkwX3_step_0 ++ dktX3_step_1
theorem dksX3_step_0 : cX3_step.data.toList.drop 0 = dktX3_step_0 := by decide +kernel
theorem dksX3_step_1 : cX3_step.data.toList.drop 24 = dktX3_step_1 := dk_seg dksX3_step_0 24 rfl rfl
theorem dksX3_step_2 : cX3_step.data.toList.drop 47 = dktX3_step_2 := dk_seg dksX3_step_1 23 rfl rfl
theorem dksX3_step_3 : cX3_step.data.toList.drop 70 = dktX3_step_3 := dk_seg dksX3_step_2 23 rfl rfl
theorem dksX3_step_4 : cX3_step.data.toList.drop 93 = dktX3_step_4 := dk_seg dksX3_step_3 23 rfl rfl
theorem dksX3_step_5 : cX3_step.data.toList.drop 115 = dktX3_step_5 := dk_seg dksX3_step_4 22 rfl rfl
theorem dX3_step_0 : decode cX3_step 0 = .ok (.aload_n 0, 1) := dk_42 (dk_at dksX3_step_0 0 rfl rfl)
theorem dX3_step_1 : decode cX3_step 1 = .ok (.getfield 9, 3) := dk_180 0 9 (dk_at dksX3_step_0 1 rfl rfl)
theorem dX3_step_4 : decode cX3_step 4 = .ok (.astore_n 1, 1) := dk_76 (dk_at dksX3_step_0 4 rfl rfl)
theorem dX3_step_5 : decode cX3_step 5 = .ok (.aload_n 0, 1) := dk_42 (dk_at dksX3_step_0 5 rfl rfl)
theorem dX3_step_6 : decode cX3_step 6 = .ok (.aload_n 0, 1) := dk_42 (dk_at dksX3_step_0 6 rfl rfl)
theorem dX3_step_7 : decode cX3_step 7 = .ok (.getfield 15, 3) := dk_180 0 15 (dk_at dksX3_step_0 7 rfl rfl)
theorem dX3_step_10 : decode cX3_step 10 = .ok (.putfield 9, 3) := dk_181 0 9 (dk_at dksX3_step_0 10 rfl rfl)
theorem dX3_step_13 : decode cX3_step 13 = .ok (.aload_n 0, 1) := dk_42 (dk_at dksX3_step_0 13 rfl rfl)
theorem dX3_step_14 : decode cX3_step 14 = .ok (.aload_n 1, 1) := dk_43 (dk_at dksX3_step_0 14 rfl rfl)
theorem dX3_step_15 : decode cX3_step 15 = .ok (.putfield 15, 3) := dk_181 0 15 (dk_at dksX3_step_0 15 rfl rfl)
theorem dX3_step_18 : decode cX3_step 18 = .ok (.aload_n 0, 1) := dk_42 (dk_at dksX3_step_0 18 rfl rfl)
theorem dX3_step_19 : decode cX3_step 19 = .ok (.getfield 18, 3) := dk_180 0 18 (dk_at dksX3_step_0 19 rfl rfl)
theorem dX3_step_22 : decode cX3_step 22 = .ok (.astore_n 2, 1) := dk_77 (dk_at dksX3_step_0 22 rfl rfl)
theorem dX3_step_23 : decode cX3_step 23 = .ok (.aload_n 0, 1) := dk_42 (dk_at dksX3_step_0 23 rfl rfl)
theorem dX3_step_24 : decode cX3_step 24 = .ok (.aload_n 0, 1) := dk_42 (dk_at dksX3_step_1 0 rfl rfl)
theorem dX3_step_25 : decode cX3_step 25 = .ok (.getfield 21, 3) := dk_180 0 21 (dk_at dksX3_step_1 1 rfl rfl)
theorem dX3_step_28 : decode cX3_step 28 = .ok (.putfield 18, 3) := dk_181 0 18 (dk_at dksX3_step_1 4 rfl rfl)
theorem dX3_step_31 : decode cX3_step 31 = .ok (.aload_n 0, 1) := dk_42 (dk_at dksX3_step_1 7 rfl rfl)
theorem dX3_step_32 : decode cX3_step 32 = .ok (.aload_n 2, 1) := dk_44 (dk_at dksX3_step_1 8 rfl rfl)
theorem dX3_step_33 : decode cX3_step 33 = .ok (.putfield 21, 3) := dk_181 0 21 (dk_at dksX3_step_1 9 rfl rfl)
theorem dX3_step_36 : decode cX3_step 36 = .ok (.aload_n 0, 1) := dk_42 (dk_at dksX3_step_1 12 rfl rfl)
theorem dX3_step_37 : decode cX3_step 37 = .ok (.getfield 28, 3) := dk_180 0 28 (dk_at dksX3_step_1 13 rfl rfl)
theorem dX3_step_40 : decode cX3_step 40 = .ok (.iconst 0, 1) := dk_3 (dk_at dksX3_step_1 16 rfl rfl)
theorem dX3_step_41 : decode cX3_step 41 = .ok (.aload_n 0, 1) := dk_42 (dk_at dksX3_step_1 17 rfl rfl)
theorem dX3_step_42 : decode cX3_step 42 = .ok (.getfield 24, 3) := dk_180 0 24 (dk_at dksX3_step_1 18 rfl rfl)
theorem dX3_step_45 : decode cX3_step 45 = .ok (.iconst 0, 1) := dk_3 (dk_at dksX3_step_1 21 rfl rfl)
theorem dX3_step_46 : decode cX3_step 46 = .ok (.iconst 3, 1) := dk_6 (dk_at dksX3_step_1 22 rfl rfl)
theorem dX3_step_47 : decode cX3_step 47 = .ok (.invokestatic 128, 3) := dk_184 0 128 (dk_at dksX3_step_2 0 rfl rfl)
theorem dX3_step_50 : decode cX3_step 50 = .ok (.aload_n 0, 1) := dk_42 (dk_at dksX3_step_2 3 rfl rfl)
theorem dX3_step_51 : decode cX3_step 51 = .ok (.dup, 1) := dk_89 (dk_at dksX3_step_2 4 rfl rfl)
theorem dX3_step_52 : decode cX3_step 52 = .ok (.getfield 46, 3) := dk_180 0 46 (dk_at dksX3_step_2 5 rfl rfl)
theorem dX3_step_55 : decode cX3_step 55 = .ok (.iconst 1, 1) := dk_4 (dk_at dksX3_step_2 8 rfl rfl)
theorem dX3_step_56 : decode cX3_step 56 = .ok (.iadd, 1) := dk_96 (dk_at dksX3_step_2 9 rfl rfl)
theorem dX3_step_57 : decode cX3_step 57 = .ok (.putfield 46, 3) := dk_181 0 46 (dk_at dksX3_step_2 10 rfl rfl)
theorem dX3_step_60 : decode cX3_step 60 = .ok (.aload_n 0, 1) := dk_42 (dk_at dksX3_step_2 13 rfl rfl)
theorem dX3_step_61 : decode cX3_step 61 = .ok (.invokevirtual 53, 3) := dk_182 0 53 (dk_at dksX3_step_2 14 rfl rfl)
theorem dX3_step_64 : decode cX3_step 64 = .ok (.aload_n 0, 1) := dk_42 (dk_at dksX3_step_2 17 rfl rfl)
theorem dX3_step_65 : decode cX3_step 65 = .ok (.lconst 0, 1) := dk_9 (dk_at dksX3_step_2 18 rfl rfl)
theorem dX3_step_66 : decode cX3_step 66 = .ok (.putfield 108, 3) := dk_181 0 108 (dk_at dksX3_step_2 19 rfl rfl)
theorem dX3_step_69 : decode cX3_step 69 = .ok (.aload_n 0, 1) := dk_42 (dk_at dksX3_step_2 22 rfl rfl)
theorem dX3_step_70 : decode cX3_step 70 = .ok (.getfield 28, 3) := dk_180 0 28 (dk_at dksX3_step_3 0 rfl rfl)
theorem dX3_step_73 : decode cX3_step 73 = .ok (.iconst 1, 1) := dk_4 (dk_at dksX3_step_3 3 rfl rfl)
theorem dX3_step_74 : decode cX3_step 74 = .ok (.lconst 0, 1) := dk_9 (dk_at dksX3_step_3 4 rfl rfl)
theorem dX3_step_75 : decode cX3_step 75 = .ok (.lastore, 1) := dk_80 (dk_at dksX3_step_3 5 rfl rfl)
theorem dX3_step_76 : decode cX3_step 76 = .ok (.aload_n 0, 1) := dk_42 (dk_at dksX3_step_3 6 rfl rfl)
theorem dX3_step_77 : decode cX3_step 77 = .ok (.getfield 28, 3) := dk_180 0 28 (dk_at dksX3_step_3 7 rfl rfl)
theorem dX3_step_80 : decode cX3_step 80 = .ok (.iconst 2, 1) := dk_5 (dk_at dksX3_step_3 10 rfl rfl)
theorem dX3_step_81 : decode cX3_step 81 = .ok (.lconst 0, 1) := dk_9 (dk_at dksX3_step_3 11 rfl rfl)
theorem dX3_step_82 : decode cX3_step 82 = .ok (.lastore, 1) := dk_80 (dk_at dksX3_step_3 12 rfl rfl)
theorem dX3_step_83 : decode cX3_step 83 = .ok (.iconst 0, 1) := dk_3 (dk_at dksX3_step_3 13 rfl rfl)
theorem dX3_step_84 : decode cX3_step 84 = .ok (.istore_n 3, 1) := dk_62 (dk_at dksX3_step_3 14 rfl rfl)
theorem dX3_step_85 : decode cX3_step 85 = .ok (.iload_n 3, 1) := dk_29 (dk_at dksX3_step_3 15 rfl rfl)
theorem dX3_step_86 : decode cX3_step 86 = .ok (.aload_n 0, 1) := dk_42 (dk_at dksX3_step_3 16 rfl rfl)
theorem dX3_step_87 : decode cX3_step 87 = .ok (.getfield 31, 3) := dk_180 0 31 (dk_at dksX3_step_3 17 rfl rfl)
theorem dX3_step_90 : decode cX3_step 90 = .ok (.invokevirtual 56, 3) := dk_182 0 56 (dk_at dksX3_step_3 20 rfl rfl)
theorem dX3_step_93 : decode cX3_step 93 = .ok (.if_icmp .ge 45, 3) := dk_162 0 45 (dk_at dksX3_step_4 0 rfl rfl)
theorem dX3_step_96 : decode cX3_step 96 = .ok (.aload_n 0, 1) := dk_42 (dk_at dksX3_step_4 3 rfl rfl)
theorem dX3_step_97 : decode cX3_step 97 = .ok (.getfield 31, 3) := dk_180 0 31 (dk_at dksX3_step_4 4 rfl rfl)
theorem dX3_step_100 : decode cX3_step 100 = .ok (.getfield 134, 3) := dk_180 0 134 (dk_at dksX3_step_4 7 rfl rfl)
theorem dX3_step_103 : decode cX3_step 103 = .ok (.ifCond .eq 24, 3) := dk_153 0 24 (dk_at dksX3_step_4 10 rfl rfl)
theorem dX3_step_106 : decode cX3_step 106 = .ok (.iload_n 3, 1) := dk_29 (dk_at dksX3_step_4 13 rfl rfl)
theorem dX3_step_107 : decode cX3_step 107 = .ok (.aload_n 0, 1) := dk_42 (dk_at dksX3_step_4 14 rfl rfl)
theorem dX3_step_108 : decode cX3_step 108 = .ok (.getfield 31, 3) := dk_180 0 31 (dk_at dksX3_step_4 15 rfl rfl)
theorem dX3_step_111 : decode cX3_step 111 = .ok (.getfield 137, 3) := dk_180 0 137 (dk_at dksX3_step_4 18 rfl rfl)
theorem dX3_step_114 : decode cX3_step 114 = .ok (.irem, 1) := dk_112 (dk_at dksX3_step_4 21 rfl rfl)
theorem dX3_step_115 : decode cX3_step 115 = .ok (.ifCond .ne 12, 3) := dk_154 0 12 (dk_at dksX3_step_5 0 rfl rfl)
theorem dX3_step_118 : decode cX3_step 118 = .ok (.aload_n 0, 1) := dk_42 (dk_at dksX3_step_5 3 rfl rfl)
theorem dX3_step_119 : decode cX3_step 119 = .ok (.lconst 1, 1) := dk_10 (dk_at dksX3_step_5 4 rfl rfl)
theorem dX3_step_120 : decode cX3_step 120 = .ok (.iload_n 3, 1) := dk_29 (dk_at dksX3_step_5 5 rfl rfl)
theorem dX3_step_121 : decode cX3_step 121 = .ok (.lshl, 1) := dk_121 (dk_at dksX3_step_5 6 rfl rfl)
theorem dX3_step_122 : decode cX3_step 122 = .ok (.lconst 1, 1) := dk_10 (dk_at dksX3_step_5 7 rfl rfl)
theorem dX3_step_123 : decode cX3_step 123 = .ok (.lsub, 1) := dk_101 (dk_at dksX3_step_5 8 rfl rfl)
theorem dX3_step_124 : decode cX3_step 124 = .ok (.putfield 108, 3) := dk_181 0 108 (dk_at dksX3_step_5 9 rfl rfl)
theorem dX3_step_127 : decode cX3_step 127 = .ok (.aload_n 0, 1) := dk_42 (dk_at dksX3_step_5 12 rfl rfl)
theorem dX3_step_128 : decode cX3_step 128 = .ok (.iload_n 3, 1) := dk_29 (dk_at dksX3_step_5 13 rfl rfl)
theorem dX3_step_129 : decode cX3_step 129 = .ok (.invokevirtual 140, 3) := dk_182 0 140 (dk_at dksX3_step_5 14 rfl rfl)
theorem dX3_step_132 : decode cX3_step 132 = .ok (.iinc 3 1, 3) := dk_132 3 1 (dk_at dksX3_step_5 17 rfl rfl)
theorem dX3_step_135 : decode cX3_step 135 = .ok (.goto (-50), 3) := dk_167 255 206 (dk_at dksX3_step_5 20 rfl rfl)
theorem dX3_step_138 : decode cX3_step 138 = .ok (.return_, 1) := dk_177 (dk_at dksX3_step_5 23 rfl rfl)
def dkwX3_go_3 : List UInt8 := [27, 46, 163, 0, 21, 42, 180, 0, 28, 29, 92, 47, 10, 27, 121, 129, 80, 132, 3, 1, 167, 255, 231, 177]
abbrev dktX3_go_3 : List UInt8 := dkwX3_go_3 ++ []
def dkwX3_go_2 : List UInt8 := [3, 167, 0, 15, 6, 42, 180, 0, 18, 27, 46, 4, 96, 184, 0, 147, 79, 4, 62, 29, 42, 180, 0, 15]
abbrev dktX3_go_2 : List UInt8 := dkwX3_go_2 ++ dktX3_go_3
def dkwX3_go_1 : List UInt8 := [182, 0, 144, 79, 42, 180, 0, 21, 27, 42, 180, 0, 15, 27, 46, 42, 180, 0, 9, 27, 46, 159, 0, 7]
abbrev dktX3_go_1 : List UInt8 := dkwX3_go_1 ++ dktX3_go_2
def dkwX3_go_0 : List UInt8 := [42, 27, 182, 0, 62, 61, 42, 180, 0, 15, 27, 28, 2, 159, 0, 7, 28, 167, 0, 8, 42, 27]
abbrev dktX3_go_0 : List UInt8 := dkwX3_go_0 ++ dktX3_go_1
theorem dksX3_go_0 : cX3_go.data.toList.drop 0 = dktX3_go_0 := by decide +kernel
theorem dksX3_go_1 : cX3_go.data.toList.drop 22 = dktX3_go_1 := dk_seg dksX3_go_0 22 rfl rfl
theorem dksX3_go_2 : cX3_go.data.toList.drop 46 = dktX3_go_2 := dk_seg dksX3_go_1 24 rfl rfl
theorem dksX3_go_3 : cX3_go.data.toList.drop 70 = dktX3_go_3 := dk_seg dksX3_go_2 24 rfl rfl
theorem dX3_go_0 : decode cX3_go 0 = .ok (.aload_n 0, 1) := dk_42 (dk_at dksX3_go_0 0 rfl rfl)
theorem dX3_go_1 : decode cX3_go 1 = .ok (.iload_n 1, 1) := dk_27 (dk_at dksX3_go_0 1 rfl rfl)
theorem dX3_go_2 : decode cX3_go 2 = .ok (.invokevirtual 62, 3) := dk_182 0 62 (dk_at dksX3_go_0 2 rfl rfl)
theorem dX3_go_5 : decode cX3_go 5 = .ok (.istore_n 2, 1) := dk_61 (dk_at dksX3_go_0 5 rfl rfl)
theorem dX3_go_6 : decode cX3_go 6 = .ok (.aload_n 0, 1) := dk_42 (dk_at dksX3_go_0 6 rfl rfl)
theorem dX3_go_7 : decode cX3_go 7 = .ok (.getfield 15, 3) := dk_180 0 15 (dk_at dksX3_go_0 7 rfl rfl)
theorem dX3_go_10 : decode cX3_go 10 = .ok (.iload_n 1, 1) := dk_27 (dk_at dksX3_go_0 10 rfl rfl)
theorem dX3_go_11 : decode cX3_go 11 = .ok (.iload_n 2, 1) := dk_28 (dk_at dksX3_go_0 11 rfl rfl)
theorem dX3_go_12 : decode cX3_go 12 = .ok (.iconst (-1), 1) := dk_2 (dk_at dksX3_go_0 12 rfl rfl)
theorem dX3_go_13 : decode cX3_go 13 = .ok (.if_icmp .eq 7, 3) := dk_159 0 7 (dk_at dksX3_go_0 13 rfl rfl)
theorem dX3_go_16 : decode cX3_go 16 = .ok (.iload_n 2, 1) := dk_28 (dk_at dksX3_go_0 16 rfl rfl)
theorem dX3_go_17 : decode cX3_go 17 = .ok (.goto 8, 3) := dk_167 0 8 (dk_at dksX3_go_0 17 rfl rfl)
theorem dX3_go_20 : decode cX3_go 20 = .ok (.aload_n 0, 1) := dk_42 (dk_at dksX3_go_0 20 rfl rfl)
theorem dX3_go_21 : decode cX3_go 21 = .ok (.iload_n 1, 1) := dk_27 (dk_at dksX3_go_0 21 rfl rfl)
theorem dX3_go_22 : decode cX3_go 22 = .ok (.invokevirtual 144, 3) := dk_182 0 144 (dk_at dksX3_go_1 0 rfl rfl)
theorem dX3_go_25 : decode cX3_go 25 = .ok (.iastore, 1) := dk_79 (dk_at dksX3_go_1 3 rfl rfl)
theorem dX3_go_26 : decode cX3_go 26 = .ok (.aload_n 0, 1) := dk_42 (dk_at dksX3_go_1 4 rfl rfl)
theorem dX3_go_27 : decode cX3_go 27 = .ok (.getfield 21, 3) := dk_180 0 21 (dk_at dksX3_go_1 5 rfl rfl)
theorem dX3_go_30 : decode cX3_go 30 = .ok (.iload_n 1, 1) := dk_27 (dk_at dksX3_go_1 8 rfl rfl)
theorem dX3_go_31 : decode cX3_go 31 = .ok (.aload_n 0, 1) := dk_42 (dk_at dksX3_go_1 9 rfl rfl)
theorem dX3_go_32 : decode cX3_go 32 = .ok (.getfield 15, 3) := dk_180 0 15 (dk_at dksX3_go_1 10 rfl rfl)
theorem dX3_go_35 : decode cX3_go 35 = .ok (.iload_n 1, 1) := dk_27 (dk_at dksX3_go_1 13 rfl rfl)
theorem dX3_go_36 : decode cX3_go 36 = .ok (.iaload, 1) := dk_46 (dk_at dksX3_go_1 14 rfl rfl)
theorem dX3_go_37 : decode cX3_go 37 = .ok (.aload_n 0, 1) := dk_42 (dk_at dksX3_go_1 15 rfl rfl)
theorem dX3_go_38 : decode cX3_go 38 = .ok (.getfield 9, 3) := dk_180 0 9 (dk_at dksX3_go_1 16 rfl rfl)
theorem dX3_go_41 : decode cX3_go 41 = .ok (.iload_n 1, 1) := dk_27 (dk_at dksX3_go_1 19 rfl rfl)
theorem dX3_go_42 : decode cX3_go 42 = .ok (.iaload, 1) := dk_46 (dk_at dksX3_go_1 20 rfl rfl)
theorem dX3_go_43 : decode cX3_go 43 = .ok (.if_icmp .eq 7, 3) := dk_159 0 7 (dk_at dksX3_go_1 21 rfl rfl)
theorem dX3_go_46 : decode cX3_go 46 = .ok (.iconst 0, 1) := dk_3 (dk_at dksX3_go_2 0 rfl rfl)
theorem dX3_go_47 : decode cX3_go 47 = .ok (.goto 15, 3) := dk_167 0 15 (dk_at dksX3_go_2 1 rfl rfl)
theorem dX3_go_50 : decode cX3_go 50 = .ok (.iconst 3, 1) := dk_6 (dk_at dksX3_go_2 4 rfl rfl)
theorem dX3_go_51 : decode cX3_go 51 = .ok (.aload_n 0, 1) := dk_42 (dk_at dksX3_go_2 5 rfl rfl)
theorem dX3_go_52 : decode cX3_go 52 = .ok (.getfield 18, 3) := dk_180 0 18 (dk_at dksX3_go_2 6 rfl rfl)
theorem dX3_go_55 : decode cX3_go 55 = .ok (.iload_n 1, 1) := dk_27 (dk_at dksX3_go_2 9 rfl rfl)
theorem dX3_go_56 : decode cX3_go 56 = .ok (.iaload, 1) := dk_46 (dk_at dksX3_go_2 10 rfl rfl)
theorem dX3_go_57 : decode cX3_go 57 = .ok (.iconst 1, 1) := dk_4 (dk_at dksX3_go_2 11 rfl rfl)
theorem dX3_go_58 : decode cX3_go 58 = .ok (.iadd, 1) := dk_96 (dk_at dksX3_go_2 12 rfl rfl)
theorem dX3_go_59 : decode cX3_go 59 = .ok (.invokestatic 147, 3) := dk_184 0 147 (dk_at dksX3_go_2 13 rfl rfl)
theorem dX3_go_62 : decode cX3_go 62 = .ok (.iastore, 1) := dk_79 (dk_at dksX3_go_2 16 rfl rfl)
theorem dX3_go_63 : decode cX3_go 63 = .ok (.iconst 1, 1) := dk_4 (dk_at dksX3_go_2 17 rfl rfl)
theorem dX3_go_64 : decode cX3_go 64 = .ok (.istore_n 3, 1) := dk_62 (dk_at dksX3_go_2 18 rfl rfl)
theorem dX3_go_65 : decode cX3_go 65 = .ok (.iload_n 3, 1) := dk_29 (dk_at dksX3_go_2 19 rfl rfl)
theorem dX3_go_66 : decode cX3_go 66 = .ok (.aload_n 0, 1) := dk_42 (dk_at dksX3_go_2 20 rfl rfl)
theorem dX3_go_67 : decode cX3_go 67 = .ok (.getfield 15, 3) := dk_180 0 15 (dk_at dksX3_go_2 21 rfl rfl)
theorem dX3_go_70 : decode cX3_go 70 = .ok (.iload_n 1, 1) := dk_27 (dk_at dksX3_go_3 0 rfl rfl)
theorem dX3_go_71 : decode cX3_go 71 = .ok (.iaload, 1) := dk_46 (dk_at dksX3_go_3 1 rfl rfl)
theorem dX3_go_72 : decode cX3_go 72 = .ok (.if_icmp .gt 21, 3) := dk_163 0 21 (dk_at dksX3_go_3 2 rfl rfl)
theorem dX3_go_75 : decode cX3_go 75 = .ok (.aload_n 0, 1) := dk_42 (dk_at dksX3_go_3 5 rfl rfl)
theorem dX3_go_76 : decode cX3_go 76 = .ok (.getfield 28, 3) := dk_180 0 28 (dk_at dksX3_go_3 6 rfl rfl)
theorem dX3_go_79 : decode cX3_go 79 = .ok (.iload_n 3, 1) := dk_29 (dk_at dksX3_go_3 9 rfl rfl)
theorem dX3_go_80 : decode cX3_go 80 = .ok (.dup2, 1) := dk_92 (dk_at dksX3_go_3 10 rfl rfl)
theorem dX3_go_81 : decode cX3_go 81 = .ok (.laload, 1) := dk_47 (dk_at dksX3_go_3 11 rfl rfl)
theorem dX3_go_82 : decode cX3_go 82 = .ok (.lconst 1, 1) := dk_10 (dk_at dksX3_go_3 12 rfl rfl)
theorem dX3_go_83 : decode cX3_go 83 = .ok (.iload_n 1, 1) := dk_27 (dk_at dksX3_go_3 13 rfl rfl)
theorem dX3_go_84 : decode cX3_go 84 = .ok (.lshl, 1) := dk_121 (dk_at dksX3_go_3 14 rfl rfl)
theorem dX3_go_85 : decode cX3_go 85 = .ok (.lor, 1) := dk_129 (dk_at dksX3_go_3 15 rfl rfl)
theorem dX3_go_86 : decode cX3_go 86 = .ok (.lastore, 1) := dk_80 (dk_at dksX3_go_3 16 rfl rfl)
theorem dX3_go_87 : decode cX3_go 87 = .ok (.iinc 3 1, 3) := dk_132 3 1 (dk_at dksX3_go_3 17 rfl rfl)
theorem dX3_go_90 : decode cX3_go 90 = .ok (.goto (-25), 3) := dk_167 255 231 (dk_at dksX3_go_3 20 rfl rfl)
theorem dX3_go_93 : decode cX3_go 93 = .ok (.return_, 1) := dk_177 (dk_at dksX3_go_3 23 rfl rfl)
def dkwX3_likes_4 : List UInt8 := [180, 0, 9, 27, 46, 172]
abbrev dktX3_likes_4 : List UInt8 := dkwX3_likes_4 ++ []
def dkwX3_likes_3 : List UInt8 := [182, 0, 160, 153, 0, 18, 3, 42, 180, 0, 9, 27, 46, 4, 100, 184, 0, 166, 167, 0, 9, 42]
abbrev dktX3_likes_3 : List UInt8 := dkwX3_likes_3 ++ dktX3_likes_4
def dkwX3_likes_2 : List UInt8 := [153, 0, 16, 5, 42, 180, 0, 9, 27, 46, 4, 96, 184, 0, 147, 172, 45, 198, 0, 27, 45, 42, 27]
abbrev dktX3_likes_2 : List UInt8 := dkwX3_likes_2 ++ dktX3_likes_3
def dkwX3_likes_1 : List UInt8 := [180, 0, 157, 42, 180, 0, 31, 180, 0, 95, 27, 46, 50, 78, 44, 198, 0, 25, 44, 42, 27, 182, 0, 160]
abbrev dktX3_likes_1 : List UInt8 := dkwX3_likes_1 ++ dktX3_likes_2
def dkwX3_likes_0 : List UInt8 := [42, 180, 0, 31, 180, 0, 153, 42, 180, 0, 31, 180, 0, 95, 27, 46, 50, 77, 42, 180, 0, 31]
abbrev dktX3_likes_0 : List UInt8 := dkwX3_likes_0 ++ dktX3_likes_1
theorem dksX3_likes_0 : cX3_likes.data.toList.drop 0 = dktX3_likes_0 := by decide +kernel
theorem dksX3_likes_1 : cX3_likes.data.toList.drop 22 = dktX3_likes_1 := dk_seg dksX3_likes_0 22 rfl rfl
theorem dksX3_likes_2 : cX3_likes.data.toList.drop 46 = dktX3_likes_2 := dk_seg dksX3_likes_1 24 rfl rfl
theorem dksX3_likes_3 : cX3_likes.data.toList.drop 69 = dktX3_likes_3 := dk_seg dksX3_likes_2 23 rfl rfl
theorem dksX3_likes_4 : cX3_likes.data.toList.drop 91 = dktX3_likes_4 := dk_seg dksX3_likes_3 22 rfl rfl
theorem dX3_likes_0 : decode cX3_likes 0 = .ok (.aload_n 0, 1) := dk_42 (dk_at dksX3_likes_0 0 rfl rfl)
theorem dX3_likes_1 : decode cX3_likes 1 = .ok (.getfield 31, 3) := dk_180 0 31 (dk_at dksX3_likes_0 1 rfl rfl)
theorem dX3_likes_4 : decode cX3_likes 4 = .ok (.getfield 153, 3) := dk_180 0 153 (dk_at dksX3_likes_0 4 rfl rfl)
theorem dX3_likes_7 : decode cX3_likes 7 = .ok (.aload_n 0, 1) := dk_42 (dk_at dksX3_likes_0 7 rfl rfl)
theorem dX3_likes_8 : decode cX3_likes 8 = .ok (.getfield 31, 3) := dk_180 0 31 (dk_at dksX3_likes_0 8 rfl rfl)
theorem dX3_likes_11 : decode cX3_likes 11 = .ok (.getfield 95, 3) := dk_180 0 95 (dk_at dksX3_likes_0 11 rfl rfl)
theorem dX3_likes_14 : decode cX3_likes 14 = .ok (.iload_n 1, 1) := dk_27 (dk_at dksX3_likes_0 14 rfl rfl)
theorem dX3_likes_15 : decode cX3_likes 15 = .ok (.iaload, 1) := dk_46 (dk_at dksX3_likes_0 15 rfl rfl)
theorem dX3_likes_16 : decode cX3_likes 16 = .ok (.aaload, 1) := dk_50 (dk_at dksX3_likes_0 16 rfl rfl)
theorem dX3_likes_17 : decode cX3_likes 17 = .ok (.astore_n 2, 1) := dk_77 (dk_at dksX3_likes_0 17 rfl rfl)
theorem dX3_likes_18 : decode cX3_likes 18 = .ok (.aload_n 0, 1) := dk_42 (dk_at dksX3_likes_0 18 rfl rfl)
theorem dX3_likes_19 : decode cX3_likes 19 = .ok (.getfield 31, 3) := dk_180 0 31 (dk_at dksX3_likes_0 19 rfl rfl)
theorem dX3_likes_22 : decode cX3_likes 22 = .ok (.getfield 157, 3) := dk_180 0 157 (dk_at dksX3_likes_1 0 rfl rfl)
theorem dX3_likes_25 : decode cX3_likes 25 = .ok (.aload_n 0, 1) := dk_42 (dk_at dksX3_likes_1 3 rfl rfl)
theorem dX3_likes_26 : decode cX3_likes 26 = .ok (.getfield 31, 3) := dk_180 0 31 (dk_at dksX3_likes_1 4 rfl rfl)
theorem dX3_likes_29 : decode cX3_likes 29 = .ok (.getfield 95, 3) := dk_180 0 95 (dk_at dksX3_likes_1 7 rfl rfl)
theorem dX3_likes_32 : decode cX3_likes 32 = .ok (.iload_n 1, 1) := dk_27 (dk_at dksX3_likes_1 10 rfl rfl)
theorem dX3_likes_33 : decode cX3_likes 33 = .ok (.iaload, 1) := dk_46 (dk_at dksX3_likes_1 11 rfl rfl)
theorem dX3_likes_34 : decode cX3_likes 34 = .ok (.aaload, 1) := dk_50 (dk_at dksX3_likes_1 12 rfl rfl)
theorem dX3_likes_35 : decode cX3_likes 35 = .ok (.astore_n 3, 1) := dk_78 (dk_at dksX3_likes_1 13 rfl rfl)
theorem dX3_likes_36 : decode cX3_likes 36 = .ok (.aload_n 2, 1) := dk_44 (dk_at dksX3_likes_1 14 rfl rfl)
theorem dX3_likes_37 : decode cX3_likes 37 = .ok (.ifnull 25, 3) := dk_198 0 25 (dk_at dksX3_likes_1 15 rfl rfl)
theorem dX3_likes_40 : decode cX3_likes 40 = .ok (.aload_n 2, 1) := dk_44 (dk_at dksX3_likes_1 18 rfl rfl)
theorem dX3_likes_41 : decode cX3_likes 41 = .ok (.aload_n 0, 1) := dk_42 (dk_at dksX3_likes_1 19 rfl rfl)
theorem dX3_likes_42 : decode cX3_likes 42 = .ok (.iload_n 1, 1) := dk_27 (dk_at dksX3_likes_1 20 rfl rfl)
theorem dX3_likes_43 : decode cX3_likes 43 = .ok (.invokevirtual 160, 3) := dk_182 0 160 (dk_at dksX3_likes_1 21 rfl rfl)
theorem dX3_likes_46 : decode cX3_likes 46 = .ok (.ifCond .eq 16, 3) := dk_153 0 16 (dk_at dksX3_likes_2 0 rfl rfl)
theorem dX3_likes_49 : decode cX3_likes 49 = .ok (.iconst 2, 1) := dk_5 (dk_at dksX3_likes_2 3 rfl rfl)
theorem dX3_likes_50 : decode cX3_likes 50 = .ok (.aload_n 0, 1) := dk_42 (dk_at dksX3_likes_2 4 rfl rfl)
theorem dX3_likes_51 : decode cX3_likes 51 = .ok (.getfield 9, 3) := dk_180 0 9 (dk_at dksX3_likes_2 5 rfl rfl)
theorem dX3_likes_54 : decode cX3_likes 54 = .ok (.iload_n 1, 1) := dk_27 (dk_at dksX3_likes_2 8 rfl rfl)
theorem dX3_likes_55 : decode cX3_likes 55 = .ok (.iaload, 1) := dk_46 (dk_at dksX3_likes_2 9 rfl rfl)
theorem dX3_likes_56 : decode cX3_likes 56 = .ok (.iconst 1, 1) := dk_4 (dk_at dksX3_likes_2 10 rfl rfl)
theorem dX3_likes_57 : decode cX3_likes 57 = .ok (.iadd, 1) := dk_96 (dk_at dksX3_likes_2 11 rfl rfl)
theorem dX3_likes_58 : decode cX3_likes 58 = .ok (.invokestatic 147, 3) := dk_184 0 147 (dk_at dksX3_likes_2 12 rfl rfl)
theorem dX3_likes_61 : decode cX3_likes 61 = .ok (.ireturn, 1) := dk_172 (dk_at dksX3_likes_2 15 rfl rfl)
theorem dX3_likes_62 : decode cX3_likes 62 = .ok (.aload_n 3, 1) := dk_45 (dk_at dksX3_likes_2 16 rfl rfl)
theorem dX3_likes_63 : decode cX3_likes 63 = .ok (.ifnull 27, 3) := dk_198 0 27 (dk_at dksX3_likes_2 17 rfl rfl)
theorem dX3_likes_66 : decode cX3_likes 66 = .ok (.aload_n 3, 1) := dk_45 (dk_at dksX3_likes_2 20 rfl rfl)
theorem dX3_likes_67 : decode cX3_likes 67 = .ok (.aload_n 0, 1) := dk_42 (dk_at dksX3_likes_2 21 rfl rfl)
theorem dX3_likes_68 : decode cX3_likes 68 = .ok (.iload_n 1, 1) := dk_27 (dk_at dksX3_likes_2 22 rfl rfl)
theorem dX3_likes_69 : decode cX3_likes 69 = .ok (.invokevirtual 160, 3) := dk_182 0 160 (dk_at dksX3_likes_3 0 rfl rfl)
theorem dX3_likes_72 : decode cX3_likes 72 = .ok (.ifCond .eq 18, 3) := dk_153 0 18 (dk_at dksX3_likes_3 3 rfl rfl)
theorem dX3_likes_75 : decode cX3_likes 75 = .ok (.iconst 0, 1) := dk_3 (dk_at dksX3_likes_3 6 rfl rfl)
theorem dX3_likes_76 : decode cX3_likes 76 = .ok (.aload_n 0, 1) := dk_42 (dk_at dksX3_likes_3 7 rfl rfl)
theorem dX3_likes_77 : decode cX3_likes 77 = .ok (.getfield 9, 3) := dk_180 0 9 (dk_at dksX3_likes_3 8 rfl rfl)
theorem dX3_likes_80 : decode cX3_likes 80 = .ok (.iload_n 1, 1) := dk_27 (dk_at dksX3_likes_3 11 rfl rfl)
theorem dX3_likes_81 : decode cX3_likes 81 = .ok (.iaload, 1) := dk_46 (dk_at dksX3_likes_3 12 rfl rfl)
theorem dX3_likes_82 : decode cX3_likes 82 = .ok (.iconst 1, 1) := dk_4 (dk_at dksX3_likes_3 13 rfl rfl)
theorem dX3_likes_83 : decode cX3_likes 83 = .ok (.isub, 1) := dk_100 (dk_at dksX3_likes_3 14 rfl rfl)
theorem dX3_likes_84 : decode cX3_likes 84 = .ok (.invokestatic 166, 3) := dk_184 0 166 (dk_at dksX3_likes_3 15 rfl rfl)
theorem dX3_likes_87 : decode cX3_likes 87 = .ok (.goto 9, 3) := dk_167 0 9 (dk_at dksX3_likes_3 18 rfl rfl)
theorem dX3_likes_90 : decode cX3_likes 90 = .ok (.aload_n 0, 1) := dk_42 (dk_at dksX3_likes_3 21 rfl rfl)
theorem dX3_likes_91 : decode cX3_likes 91 = .ok (.getfield 9, 3) := dk_180 0 9 (dk_at dksX3_likes_4 0 rfl rfl)
theorem dX3_likes_94 : decode cX3_likes 94 = .ok (.iload_n 1, 1) := dk_27 (dk_at dksX3_likes_4 3 rfl rfl)
theorem dX3_likes_95 : decode cX3_likes 95 = .ok (.iaload, 1) := dk_46 (dk_at dksX3_likes_4 4 rfl rfl)
theorem dX3_likes_96 : decode cX3_likes 96 = .ok (.ireturn, 1) := dk_172 (dk_at dksX3_likes_4 5 rfl rfl)
def dkwX3_perceives_1 : List UInt8 := [131, 127, 42, 180, 0, 28, 29, 47, 42, 180, 0, 108, 127, 129, 127, 184, 0, 113, 172]
abbrev dktX3_perceives_1 : List UInt8 := dkwX3_perceives_1 ++ []
def dkwX3_perceives_0 : List UInt8 := [42, 180, 0, 31, 180, 0, 104, 28, 50, 27, 47, 42, 180, 0, 24, 29, 47, 42, 180, 0, 108, 20, 0, 111]
abbrev dktX3_perceives_0 : List UInt8 := dkwX3_perceives_0 ++ dktX3_perceives_1
theorem dksX3_perceives_0 : cX3_perceives.data.toList.drop 0 = dktX3_perceives_0 := by decide +kernel
theorem dksX3_perceives_1 : cX3_perceives.data.toList.drop 24 = dktX3_perceives_1 := dk_seg dksX3_perceives_0 24 rfl rfl
theorem dX3_perceives_0 : decode cX3_perceives 0 = .ok (.aload_n 0, 1) := dk_42 (dk_at dksX3_perceives_0 0 rfl rfl)
theorem dX3_perceives_1 : decode cX3_perceives 1 = .ok (.getfield 31, 3) := dk_180 0 31 (dk_at dksX3_perceives_0 1 rfl rfl)
theorem dX3_perceives_4 : decode cX3_perceives 4 = .ok (.getfield 104, 3) := dk_180 0 104 (dk_at dksX3_perceives_0 4 rfl rfl)
theorem dX3_perceives_7 : decode cX3_perceives 7 = .ok (.iload_n 2, 1) := dk_28 (dk_at dksX3_perceives_0 7 rfl rfl)
theorem dX3_perceives_8 : decode cX3_perceives 8 = .ok (.aaload, 1) := dk_50 (dk_at dksX3_perceives_0 8 rfl rfl)
theorem dX3_perceives_9 : decode cX3_perceives 9 = .ok (.iload_n 1, 1) := dk_27 (dk_at dksX3_perceives_0 9 rfl rfl)
theorem dX3_perceives_10 : decode cX3_perceives 10 = .ok (.laload, 1) := dk_47 (dk_at dksX3_perceives_0 10 rfl rfl)
theorem dX3_perceives_11 : decode cX3_perceives 11 = .ok (.aload_n 0, 1) := dk_42 (dk_at dksX3_perceives_0 11 rfl rfl)
theorem dX3_perceives_12 : decode cX3_perceives 12 = .ok (.getfield 24, 3) := dk_180 0 24 (dk_at dksX3_perceives_0 12 rfl rfl)
theorem dX3_perceives_15 : decode cX3_perceives 15 = .ok (.iload_n 3, 1) := dk_29 (dk_at dksX3_perceives_0 15 rfl rfl)
theorem dX3_perceives_16 : decode cX3_perceives 16 = .ok (.laload, 1) := dk_47 (dk_at dksX3_perceives_0 16 rfl rfl)
theorem dX3_perceives_17 : decode cX3_perceives 17 = .ok (.aload_n 0, 1) := dk_42 (dk_at dksX3_perceives_0 17 rfl rfl)
theorem dX3_perceives_18 : decode cX3_perceives 18 = .ok (.getfield 108, 3) := dk_180 0 108 (dk_at dksX3_perceives_0 18 rfl rfl)
theorem dX3_perceives_21 : decode cX3_perceives 21 = .ok (.ldc2_w 111, 3) := dk_20 0 111 (dk_at dksX3_perceives_0 21 rfl rfl)
theorem dX3_perceives_24 : decode cX3_perceives 24 = .ok (.lxor, 1) := dk_131 (dk_at dksX3_perceives_1 0 rfl rfl)
theorem dX3_perceives_25 : decode cX3_perceives 25 = .ok (.land, 1) := dk_127 (dk_at dksX3_perceives_1 1 rfl rfl)
theorem dX3_perceives_26 : decode cX3_perceives 26 = .ok (.aload_n 0, 1) := dk_42 (dk_at dksX3_perceives_1 2 rfl rfl)
theorem dX3_perceives_27 : decode cX3_perceives 27 = .ok (.getfield 28, 3) := dk_180 0 28 (dk_at dksX3_perceives_1 3 rfl rfl)
theorem dX3_perceives_30 : decode cX3_perceives 30 = .ok (.iload_n 3, 1) := dk_29 (dk_at dksX3_perceives_1 6 rfl rfl)
theorem dX3_perceives_31 : decode cX3_perceives 31 = .ok (.laload, 1) := dk_47 (dk_at dksX3_perceives_1 7 rfl rfl)
theorem dX3_perceives_32 : decode cX3_perceives 32 = .ok (.aload_n 0, 1) := dk_42 (dk_at dksX3_perceives_1 8 rfl rfl)
theorem dX3_perceives_33 : decode cX3_perceives 33 = .ok (.getfield 108, 3) := dk_180 0 108 (dk_at dksX3_perceives_1 9 rfl rfl)
theorem dX3_perceives_36 : decode cX3_perceives 36 = .ok (.land, 1) := dk_127 (dk_at dksX3_perceives_1 12 rfl rfl)
theorem dX3_perceives_37 : decode cX3_perceives 37 = .ok (.lor, 1) := dk_129 (dk_at dksX3_perceives_1 13 rfl rfl)
theorem dX3_perceives_38 : decode cX3_perceives 38 = .ok (.land, 1) := dk_127 (dk_at dksX3_perceives_1 14 rfl rfl)
theorem dX3_perceives_39 : decode cX3_perceives 39 = .ok (.invokestatic 113, 3) := dk_184 0 113 (dk_at dksX3_perceives_1 15 rfl rfl)
theorem dX3_perceives_42 : decode cX3_perceives 42 = .ok (.ireturn, 1) := dk_172 (dk_at dksX3_perceives_1 18 rfl rfl)
def dkwX3_many_0 : List UInt8 := [27, 154, 0, 13, 42, 180, 0, 31, 182, 0, 119, 167, 0, 12, 42, 180, 0, 28, 27, 47, 184, 0, 113, 172]
abbrev dktX3_many_0 : List UInt8 := dkwX3_many_0 ++ []
theorem dksX3_many_0 : cX3_many.data.toList.drop 0 = dktX3_many_0 := by decide +kernel
theorem dX3_many_0 : decode cX3_many 0 = .ok (.iload_n 1, 1) := dk_27 (dk_at dksX3_many_0 0 rfl rfl)
theorem dX3_many_1 : decode cX3_many 1 = .ok (.ifCond .ne 13, 3) := dk_154 0 13 (dk_at dksX3_many_0 1 rfl rfl)
theorem dX3_many_4 : decode cX3_many 4 = .ok (.aload_n 0, 1) := dk_42 (dk_at dksX3_many_0 4 rfl rfl)
theorem dX3_many_5 : decode cX3_many 5 = .ok (.getfield 31, 3) := dk_180 0 31 (dk_at dksX3_many_0 5 rfl rfl)
theorem dX3_many_8 : decode cX3_many 8 = .ok (.invokevirtual 119, 3) := dk_182 0 119 (dk_at dksX3_many_0 8 rfl rfl)
theorem dX3_many_11 : decode cX3_many 11 = .ok (.goto 12, 3) := dk_167 0 12 (dk_at dksX3_many_0 11 rfl rfl)
theorem dX3_many_14 : decode cX3_many 14 = .ok (.aload_n 0, 1) := dk_42 (dk_at dksX3_many_0 14 rfl rfl)
theorem dX3_many_15 : decode cX3_many 15 = .ok (.getfield 28, 3) := dk_180 0 28 (dk_at dksX3_many_0 15 rfl rfl)
theorem dX3_many_18 : decode cX3_many 18 = .ok (.iload_n 1, 1) := dk_27 (dk_at dksX3_many_0 18 rfl rfl)
theorem dX3_many_19 : decode cX3_many 19 = .ok (.laload, 1) := dk_47 (dk_at dksX3_many_0 19 rfl rfl)
theorem dX3_many_20 : decode cX3_many 20 = .ok (.invokestatic 113, 3) := dk_184 0 113 (dk_at dksX3_many_0 20 rfl rfl)
theorem dX3_many_23 : decode cX3_many 23 = .ok (.ireturn, 1) := dk_172 (dk_at dksX3_many_0 23 rfl rfl)
def dkwX3_asked_2 : List UInt8 := [181, 0, 108, 42, 176]
abbrev dktX3_asked_2 : List UInt8 := dkwX3_asked_2 ++ []
def dkwX3_asked_1 : List UInt8 := [3, 16, 64, 184, 0, 128, 42, 180, 0, 28, 3, 42, 180, 0, 24, 3, 6, 184, 0, 128, 42, 9]
abbrev dktX3_asked_1 : List UInt8 := dkwX3_asked_1 ++ dktX3_asked_2
def dkwX3_asked_0 : List UInt8 := [42, 180, 0, 15, 3, 42, 180, 0, 9, 3, 16, 64, 184, 0, 128, 42, 180, 0, 21, 3, 42, 180, 0, 18]
abbrev dktX3_asked_0 : List UInt8 := dkwX3_asked_0 ++ dktX3_asked_1
theorem dksX3_asked_0 : cX3_asked.data.toList.drop 0 = dktX3_asked_0 := by decide +kernel
theorem dksX3_asked_1 : cX3_asked.data.toList.drop 24 = dktX3_asked_1 := dk_seg dksX3_asked_0 24 rfl rfl
theorem dksX3_asked_2 : cX3_asked.data.toList.drop 46 = dktX3_asked_2 := dk_seg dksX3_asked_1 22 rfl rfl
theorem dX3_asked_0 : decode cX3_asked 0 = .ok (.aload_n 0, 1) := dk_42 (dk_at dksX3_asked_0 0 rfl rfl)
theorem dX3_asked_1 : decode cX3_asked 1 = .ok (.getfield 15, 3) := dk_180 0 15 (dk_at dksX3_asked_0 1 rfl rfl)
theorem dX3_asked_4 : decode cX3_asked 4 = .ok (.iconst 0, 1) := dk_3 (dk_at dksX3_asked_0 4 rfl rfl)
theorem dX3_asked_5 : decode cX3_asked 5 = .ok (.aload_n 0, 1) := dk_42 (dk_at dksX3_asked_0 5 rfl rfl)
theorem dX3_asked_6 : decode cX3_asked 6 = .ok (.getfield 9, 3) := dk_180 0 9 (dk_at dksX3_asked_0 6 rfl rfl)
theorem dX3_asked_9 : decode cX3_asked 9 = .ok (.iconst 0, 1) := dk_3 (dk_at dksX3_asked_0 9 rfl rfl)
theorem dX3_asked_10 : decode cX3_asked 10 = .ok (.bipush 64, 2) := dk_16 64 (dk_at dksX3_asked_0 10 rfl rfl)
theorem dX3_asked_12 : decode cX3_asked 12 = .ok (.invokestatic 128, 3) := dk_184 0 128 (dk_at dksX3_asked_0 12 rfl rfl)
theorem dX3_asked_15 : decode cX3_asked 15 = .ok (.aload_n 0, 1) := dk_42 (dk_at dksX3_asked_0 15 rfl rfl)
theorem dX3_asked_16 : decode cX3_asked 16 = .ok (.getfield 21, 3) := dk_180 0 21 (dk_at dksX3_asked_0 16 rfl rfl)
theorem dX3_asked_19 : decode cX3_asked 19 = .ok (.iconst 0, 1) := dk_3 (dk_at dksX3_asked_0 19 rfl rfl)
theorem dX3_asked_20 : decode cX3_asked 20 = .ok (.aload_n 0, 1) := dk_42 (dk_at dksX3_asked_0 20 rfl rfl)
theorem dX3_asked_21 : decode cX3_asked 21 = .ok (.getfield 18, 3) := dk_180 0 18 (dk_at dksX3_asked_0 21 rfl rfl)
theorem dX3_asked_24 : decode cX3_asked 24 = .ok (.iconst 0, 1) := dk_3 (dk_at dksX3_asked_1 0 rfl rfl)
theorem dX3_asked_25 : decode cX3_asked 25 = .ok (.bipush 64, 2) := dk_16 64 (dk_at dksX3_asked_1 1 rfl rfl)
theorem dX3_asked_27 : decode cX3_asked 27 = .ok (.invokestatic 128, 3) := dk_184 0 128 (dk_at dksX3_asked_1 3 rfl rfl)
theorem dX3_asked_30 : decode cX3_asked 30 = .ok (.aload_n 0, 1) := dk_42 (dk_at dksX3_asked_1 6 rfl rfl)
theorem dX3_asked_31 : decode cX3_asked 31 = .ok (.getfield 28, 3) := dk_180 0 28 (dk_at dksX3_asked_1 7 rfl rfl)
theorem dX3_asked_34 : decode cX3_asked 34 = .ok (.iconst 0, 1) := dk_3 (dk_at dksX3_asked_1 10 rfl rfl)
theorem dX3_asked_35 : decode cX3_asked 35 = .ok (.aload_n 0, 1) := dk_42 (dk_at dksX3_asked_1 11 rfl rfl)
theorem dX3_asked_36 : decode cX3_asked 36 = .ok (.getfield 24, 3) := dk_180 0 24 (dk_at dksX3_asked_1 12 rfl rfl)
theorem dX3_asked_39 : decode cX3_asked 39 = .ok (.iconst 0, 1) := dk_3 (dk_at dksX3_asked_1 15 rfl rfl)
theorem dX3_asked_40 : decode cX3_asked 40 = .ok (.iconst 3, 1) := dk_6 (dk_at dksX3_asked_1 16 rfl rfl)
theorem dX3_asked_41 : decode cX3_asked 41 = .ok (.invokestatic 128, 3) := dk_184 0 128 (dk_at dksX3_asked_1 17 rfl rfl)
theorem dX3_asked_44 : decode cX3_asked 44 = .ok (.aload_n 0, 1) := dk_42 (dk_at dksX3_asked_1 20 rfl rfl)
theorem dX3_asked_45 : decode cX3_asked 45 = .ok (.lconst 0, 1) := dk_9 (dk_at dksX3_asked_1 21 rfl rfl)
theorem dX3_asked_46 : decode cX3_asked 46 = .ok (.putfield 108, 3) := dk_181 0 108 (dk_at dksX3_asked_2 0 rfl rfl)
theorem dX3_asked_49 : decode cX3_asked 49 = .ok (.aload_n 0, 1) := dk_42 (dk_at dksX3_asked_2 3 rfl rfl)
theorem dX3_asked_50 : decode cX3_asked 50 = .ok (.areturn, 1) := dk_176 (dk_at dksX3_asked_2 4 rfl rfl)
def dkwX3_isUp_0 : List UInt8 := [42, 5, 182, 0, 122, 42, 180, 0, 31, 180, 0, 125, 161, 0, 7, 4, 167, 0, 4, 3, 172]
abbrev dktX3_isUp_0 : List UInt8 := dkwX3_isUp_0 ++ []
theorem dksX3_isUp_0 : cX3_isUp.data.toList.drop 0 = dktX3_isUp_0 := by decide +kernel
theorem dX3_isUp_0 : decode cX3_isUp 0 = .ok (.aload_n 0, 1) := dk_42 (dk_at dksX3_isUp_0 0 rfl rfl)
theorem dX3_isUp_1 : decode cX3_isUp 1 = .ok (.iconst 2, 1) := dk_5 (dk_at dksX3_isUp_0 1 rfl rfl)
theorem dX3_isUp_2 : decode cX3_isUp 2 = .ok (.invokevirtual 122, 3) := dk_182 0 122 (dk_at dksX3_isUp_0 2 rfl rfl)
theorem dX3_isUp_5 : decode cX3_isUp 5 = .ok (.aload_n 0, 1) := dk_42 (dk_at dksX3_isUp_0 5 rfl rfl)
theorem dX3_isUp_6 : decode cX3_isUp 6 = .ok (.getfield 31, 3) := dk_180 0 31 (dk_at dksX3_isUp_0 6 rfl rfl)
theorem dX3_isUp_9 : decode cX3_isUp 9 = .ok (.getfield 125, 3) := dk_180 0 125 (dk_at dksX3_isUp_0 9 rfl rfl)
theorem dX3_isUp_12 : decode cX3_isUp 12 = .ok (.if_icmp .lt 7, 3) := dk_161 0 7 (dk_at dksX3_isUp_0 12 rfl rfl)
theorem dX3_isUp_15 : decode cX3_isUp 15 = .ok (.iconst 1, 1) := dk_4 (dk_at dksX3_isUp_0 15 rfl rfl)
theorem dX3_isUp_16 : decode cX3_isUp 16 = .ok (.goto 4, 3) := dk_167 0 4 (dk_at dksX3_isUp_0 16 rfl rfl)
theorem dX3_isUp_19 : decode cX3_isUp 19 = .ok (.iconst 0, 1) := dk_3 (dk_at dksX3_isUp_0 19 rfl rfl)
theorem dX3_isUp_20 : decode cX3_isUp 20 = .ok (.ireturn, 1) := dk_172 (dk_at dksX3_isUp_0 20 rfl rfl)
def dkwX3_pack_4 : List UInt8 := [177]
abbrev dktX3_pack_4 : List UInt8 := dkwX3_pack_4 ++ []
def dkwX3_pack_3 : List UInt8 := [104, 42, 180, 0, 21, 28, 46, 96, 133, 7, 28, 16, 16, 112, 104, 121, 129, 80, 132, 2, 1, 167, 255, 189]
abbrev dktX3_pack_3 : List UInt8 := dkwX3_pack_3 ++ dktX3_pack_4
def dkwX3_pack_2 : List UInt8 := [159, 0, 42, 43, 7, 42, 180, 0, 46, 104, 28, 16, 16, 108, 96, 92, 47, 7, 42, 180, 0, 15, 28, 46]
abbrev dktX3_pack_2 : List UInt8 := dkwX3_pack_2 ++ dktX3_pack_3
def dkwX3_pack_1 : List UInt8 := [3, 61, 28, 42, 180, 0, 31, 182, 0, 56, 162, 0, 62, 42, 180, 0, 31, 180, 0, 95, 28, 46, 16, 9]
abbrev dktX3_pack_1 : List UInt8 := dkwX3_pack_1 ++ dktX3_pack_2
def dkwX3_pack_0 : List UInt8 := [3, 61, 28, 7, 162, 0, 20, 43, 7, 42, 180, 0, 46, 104, 28, 96, 9, 80, 132, 2, 1, 167, 255, 237]
abbrev dktX3_pack_0 : List UInt8 := dkwX3_pack_0 ++ dktX3_pack_1
theorem dksX3_pack_0 : cX3_pack.data.toList.drop 0 = dktX3_pack_0 := by decide +kernel
theorem dksX3_pack_1 : cX3_pack.data.toList.drop 24 = dktX3_pack_1 := dk_seg dksX3_pack_0 24 rfl rfl
theorem dksX3_pack_2 : cX3_pack.data.toList.drop 48 = dktX3_pack_2 := dk_seg dksX3_pack_1 24 rfl rfl
theorem dksX3_pack_3 : cX3_pack.data.toList.drop 72 = dktX3_pack_3 := dk_seg dksX3_pack_2 24 rfl rfl
theorem dksX3_pack_4 : cX3_pack.data.toList.drop 96 = dktX3_pack_4 := dk_seg dksX3_pack_3 24 rfl rfl
theorem dX3_pack_0 : decode cX3_pack 0 = .ok (.iconst 0, 1) := dk_3 (dk_at dksX3_pack_0 0 rfl rfl)
theorem dX3_pack_1 : decode cX3_pack 1 = .ok (.istore_n 2, 1) := dk_61 (dk_at dksX3_pack_0 1 rfl rfl)
theorem dX3_pack_2 : decode cX3_pack 2 = .ok (.iload_n 2, 1) := dk_28 (dk_at dksX3_pack_0 2 rfl rfl)
theorem dX3_pack_3 : decode cX3_pack 3 = .ok (.iconst 4, 1) := dk_7 (dk_at dksX3_pack_0 3 rfl rfl)
theorem dX3_pack_4 : decode cX3_pack 4 = .ok (.if_icmp .ge 20, 3) := dk_162 0 20 (dk_at dksX3_pack_0 4 rfl rfl)
theorem dX3_pack_7 : decode cX3_pack 7 = .ok (.aload_n 1, 1) := dk_43 (dk_at dksX3_pack_0 7 rfl rfl)
theorem dX3_pack_8 : decode cX3_pack 8 = .ok (.iconst 4, 1) := dk_7 (dk_at dksX3_pack_0 8 rfl rfl)
theorem dX3_pack_9 : decode cX3_pack 9 = .ok (.aload_n 0, 1) := dk_42 (dk_at dksX3_pack_0 9 rfl rfl)
theorem dX3_pack_10 : decode cX3_pack 10 = .ok (.getfield 46, 3) := dk_180 0 46 (dk_at dksX3_pack_0 10 rfl rfl)
theorem dX3_pack_13 : decode cX3_pack 13 = .ok (.imul, 1) := dk_104 (dk_at dksX3_pack_0 13 rfl rfl)
theorem dX3_pack_14 : decode cX3_pack 14 = .ok (.iload_n 2, 1) := dk_28 (dk_at dksX3_pack_0 14 rfl rfl)
theorem dX3_pack_15 : decode cX3_pack 15 = .ok (.iadd, 1) := dk_96 (dk_at dksX3_pack_0 15 rfl rfl)
theorem dX3_pack_16 : decode cX3_pack 16 = .ok (.lconst 0, 1) := dk_9 (dk_at dksX3_pack_0 16 rfl rfl)
theorem dX3_pack_17 : decode cX3_pack 17 = .ok (.lastore, 1) := dk_80 (dk_at dksX3_pack_0 17 rfl rfl)
theorem dX3_pack_18 : decode cX3_pack 18 = .ok (.iinc 2 1, 3) := dk_132 2 1 (dk_at dksX3_pack_0 18 rfl rfl)
theorem dX3_pack_21 : decode cX3_pack 21 = .ok (.goto (-19), 3) := dk_167 255 237 (dk_at dksX3_pack_0 21 rfl rfl)
theorem dX3_pack_24 : decode cX3_pack 24 = .ok (.iconst 0, 1) := dk_3 (dk_at dksX3_pack_1 0 rfl rfl)
theorem dX3_pack_25 : decode cX3_pack 25 = .ok (.istore_n 2, 1) := dk_61 (dk_at dksX3_pack_1 1 rfl rfl)
theorem dX3_pack_26 : decode cX3_pack 26 = .ok (.iload_n 2, 1) := dk_28 (dk_at dksX3_pack_1 2 rfl rfl)
theorem dX3_pack_27 : decode cX3_pack 27 = .ok (.aload_n 0, 1) := dk_42 (dk_at dksX3_pack_1 3 rfl rfl)
theorem dX3_pack_28 : decode cX3_pack 28 = .ok (.getfield 31, 3) := dk_180 0 31 (dk_at dksX3_pack_1 4 rfl rfl)
theorem dX3_pack_31 : decode cX3_pack 31 = .ok (.invokevirtual 56, 3) := dk_182 0 56 (dk_at dksX3_pack_1 7 rfl rfl)
theorem dX3_pack_34 : decode cX3_pack 34 = .ok (.if_icmp .ge 62, 3) := dk_162 0 62 (dk_at dksX3_pack_1 10 rfl rfl)
theorem dX3_pack_37 : decode cX3_pack 37 = .ok (.aload_n 0, 1) := dk_42 (dk_at dksX3_pack_1 13 rfl rfl)
theorem dX3_pack_38 : decode cX3_pack 38 = .ok (.getfield 31, 3) := dk_180 0 31 (dk_at dksX3_pack_1 14 rfl rfl)
theorem dX3_pack_41 : decode cX3_pack 41 = .ok (.getfield 95, 3) := dk_180 0 95 (dk_at dksX3_pack_1 17 rfl rfl)
theorem dX3_pack_44 : decode cX3_pack 44 = .ok (.iload_n 2, 1) := dk_28 (dk_at dksX3_pack_1 20 rfl rfl)
theorem dX3_pack_45 : decode cX3_pack 45 = .ok (.iaload, 1) := dk_46 (dk_at dksX3_pack_1 21 rfl rfl)
theorem dX3_pack_46 : decode cX3_pack 46 = .ok (.bipush 9, 2) := dk_16 9 (dk_at dksX3_pack_1 22 rfl rfl)
theorem dX3_pack_48 : decode cX3_pack 48 = .ok (.if_icmp .eq 42, 3) := dk_159 0 42 (dk_at dksX3_pack_2 0 rfl rfl)
theorem dX3_pack_51 : decode cX3_pack 51 = .ok (.aload_n 1, 1) := dk_43 (dk_at dksX3_pack_2 3 rfl rfl)
theorem dX3_pack_52 : decode cX3_pack 52 = .ok (.iconst 4, 1) := dk_7 (dk_at dksX3_pack_2 4 rfl rfl)
theorem dX3_pack_53 : decode cX3_pack 53 = .ok (.aload_n 0, 1) := dk_42 (dk_at dksX3_pack_2 5 rfl rfl)
theorem dX3_pack_54 : decode cX3_pack 54 = .ok (.getfield 46, 3) := dk_180 0 46 (dk_at dksX3_pack_2 6 rfl rfl)
theorem dX3_pack_57 : decode cX3_pack 57 = .ok (.imul, 1) := dk_104 (dk_at dksX3_pack_2 9 rfl rfl)
theorem dX3_pack_58 : decode cX3_pack 58 = .ok (.iload_n 2, 1) := dk_28 (dk_at dksX3_pack_2 10 rfl rfl)
theorem dX3_pack_59 : decode cX3_pack 59 = .ok (.bipush 16, 2) := dk_16 16 (dk_at dksX3_pack_2 11 rfl rfl)
theorem dX3_pack_61 : decode cX3_pack 61 = .ok (.idiv, 1) := dk_108 (dk_at dksX3_pack_2 13 rfl rfl)
theorem dX3_pack_62 : decode cX3_pack 62 = .ok (.iadd, 1) := dk_96 (dk_at dksX3_pack_2 14 rfl rfl)
theorem dX3_pack_63 : decode cX3_pack 63 = .ok (.dup2, 1) := dk_92 (dk_at dksX3_pack_2 15 rfl rfl)
theorem dX3_pack_64 : decode cX3_pack 64 = .ok (.laload, 1) := dk_47 (dk_at dksX3_pack_2 16 rfl rfl)
theorem dX3_pack_65 : decode cX3_pack 65 = .ok (.iconst 4, 1) := dk_7 (dk_at dksX3_pack_2 17 rfl rfl)
theorem dX3_pack_66 : decode cX3_pack 66 = .ok (.aload_n 0, 1) := dk_42 (dk_at dksX3_pack_2 18 rfl rfl)
theorem dX3_pack_67 : decode cX3_pack 67 = .ok (.getfield 15, 3) := dk_180 0 15 (dk_at dksX3_pack_2 19 rfl rfl)
theorem dX3_pack_70 : decode cX3_pack 70 = .ok (.iload_n 2, 1) := dk_28 (dk_at dksX3_pack_2 22 rfl rfl)
theorem dX3_pack_71 : decode cX3_pack 71 = .ok (.iaload, 1) := dk_46 (dk_at dksX3_pack_2 23 rfl rfl)
theorem dX3_pack_72 : decode cX3_pack 72 = .ok (.imul, 1) := dk_104 (dk_at dksX3_pack_3 0 rfl rfl)
theorem dX3_pack_73 : decode cX3_pack 73 = .ok (.aload_n 0, 1) := dk_42 (dk_at dksX3_pack_3 1 rfl rfl)
theorem dX3_pack_74 : decode cX3_pack 74 = .ok (.getfield 21, 3) := dk_180 0 21 (dk_at dksX3_pack_3 2 rfl rfl)
theorem dX3_pack_77 : decode cX3_pack 77 = .ok (.iload_n 2, 1) := dk_28 (dk_at dksX3_pack_3 5 rfl rfl)
theorem dX3_pack_78 : decode cX3_pack 78 = .ok (.iaload, 1) := dk_46 (dk_at dksX3_pack_3 6 rfl rfl)
theorem dX3_pack_79 : decode cX3_pack 79 = .ok (.iadd, 1) := dk_96 (dk_at dksX3_pack_3 7 rfl rfl)
theorem dX3_pack_80 : decode cX3_pack 80 = .ok (.i2l, 1) := dk_133 (dk_at dksX3_pack_3 8 rfl rfl)
theorem dX3_pack_81 : decode cX3_pack 81 = .ok (.iconst 4, 1) := dk_7 (dk_at dksX3_pack_3 9 rfl rfl)
theorem dX3_pack_82 : decode cX3_pack 82 = .ok (.iload_n 2, 1) := dk_28 (dk_at dksX3_pack_3 10 rfl rfl)
theorem dX3_pack_83 : decode cX3_pack 83 = .ok (.bipush 16, 2) := dk_16 16 (dk_at dksX3_pack_3 11 rfl rfl)
theorem dX3_pack_85 : decode cX3_pack 85 = .ok (.irem, 1) := dk_112 (dk_at dksX3_pack_3 13 rfl rfl)
theorem dX3_pack_86 : decode cX3_pack 86 = .ok (.imul, 1) := dk_104 (dk_at dksX3_pack_3 14 rfl rfl)
theorem dX3_pack_87 : decode cX3_pack 87 = .ok (.lshl, 1) := dk_121 (dk_at dksX3_pack_3 15 rfl rfl)
theorem dX3_pack_88 : decode cX3_pack 88 = .ok (.lor, 1) := dk_129 (dk_at dksX3_pack_3 16 rfl rfl)
theorem dX3_pack_89 : decode cX3_pack 89 = .ok (.lastore, 1) := dk_80 (dk_at dksX3_pack_3 17 rfl rfl)
theorem dX3_pack_90 : decode cX3_pack 90 = .ok (.iinc 2 1, 3) := dk_132 2 1 (dk_at dksX3_pack_3 18 rfl rfl)
theorem dX3_pack_93 : decode cX3_pack 93 = .ok (.goto (-67), 3) := dk_167 255 189 (dk_at dksX3_pack_3 21 rfl rfl)
theorem dX3_pack_96 : decode cX3_pack 96 = .ok (.return_, 1) := dk_177 (dk_at dksX3_pack_4 0 rfl rfl)
def dkwX3_height_1 : List UInt8 := [182, 0, 122, 184, 0, 166, 60, 167, 255, 233, 27, 172]
abbrev dktX3_height_1 : List UInt8 := dkwX3_height_1 ++ []
def dkwX3_height_0 : List UInt8 := [42, 5, 182, 0, 122, 60, 42, 180, 0, 46, 16, 60, 162, 0, 20, 42, 182, 0, 169, 27, 42, 5]
abbrev dktX3_height_0 : List UInt8 := dkwX3_height_0 ++ dktX3_height_1
theorem dksX3_height_0 : cX3_height.data.toList.drop 0 = dktX3_height_0 := by decide +kernel
theorem dksX3_height_1 : cX3_height.data.toList.drop 22 = dktX3_height_1 := dk_seg dksX3_height_0 22 rfl rfl
theorem dX3_height_0 : decode cX3_height 0 = .ok (.aload_n 0, 1) := dk_42 (dk_at dksX3_height_0 0 rfl rfl)
theorem dX3_height_1 : decode cX3_height 1 = .ok (.iconst 2, 1) := dk_5 (dk_at dksX3_height_0 1 rfl rfl)
theorem dX3_height_2 : decode cX3_height 2 = .ok (.invokevirtual 122, 3) := dk_182 0 122 (dk_at dksX3_height_0 2 rfl rfl)
theorem dX3_height_5 : decode cX3_height 5 = .ok (.istore_n 1, 1) := dk_60 (dk_at dksX3_height_0 5 rfl rfl)
theorem dX3_height_6 : decode cX3_height 6 = .ok (.aload_n 0, 1) := dk_42 (dk_at dksX3_height_0 6 rfl rfl)
theorem dX3_height_7 : decode cX3_height 7 = .ok (.getfield 46, 3) := dk_180 0 46 (dk_at dksX3_height_0 7 rfl rfl)
theorem dX3_height_10 : decode cX3_height 10 = .ok (.bipush 60, 2) := dk_16 60 (dk_at dksX3_height_0 10 rfl rfl)
theorem dX3_height_12 : decode cX3_height 12 = .ok (.if_icmp .ge 20, 3) := dk_162 0 20 (dk_at dksX3_height_0 12 rfl rfl)
theorem dX3_height_15 : decode cX3_height 15 = .ok (.aload_n 0, 1) := dk_42 (dk_at dksX3_height_0 15 rfl rfl)
theorem dX3_height_16 : decode cX3_height 16 = .ok (.invokevirtual 169, 3) := dk_182 0 169 (dk_at dksX3_height_0 16 rfl rfl)
theorem dX3_height_19 : decode cX3_height 19 = .ok (.iload_n 1, 1) := dk_27 (dk_at dksX3_height_0 19 rfl rfl)
theorem dX3_height_20 : decode cX3_height 20 = .ok (.aload_n 0, 1) := dk_42 (dk_at dksX3_height_0 20 rfl rfl)
theorem dX3_height_21 : decode cX3_height 21 = .ok (.iconst 2, 1) := dk_5 (dk_at dksX3_height_0 21 rfl rfl)
theorem dX3_height_22 : decode cX3_height 22 = .ok (.invokevirtual 122, 3) := dk_182 0 122 (dk_at dksX3_height_1 0 rfl rfl)
theorem dX3_height_25 : decode cX3_height 25 = .ok (.invokestatic 166, 3) := dk_184 0 166 (dk_at dksX3_height_1 3 rfl rfl)
theorem dX3_height_28 : decode cX3_height 28 = .ok (.istore_n 1, 1) := dk_60 (dk_at dksX3_height_1 6 rfl rfl)
theorem dX3_height_29 : decode cX3_height 29 = .ok (.goto (-23), 3) := dk_167 255 233 (dk_at dksX3_height_1 7 rfl rfl)
theorem dX3_height_32 : decode cX3_height 32 = .ok (.iload_n 1, 1) := dk_27 (dk_at dksX3_height_1 10 rfl rfl)
theorem dX3_height_33 : decode cX3_height 33 = .ok (.ireturn, 1) := dk_172 (dk_at dksX3_height_1 11 rfl rfl)
def dkwX5_init_1 : List UInt8 := [181, 0, 23, 177]
abbrev dktX5_init_1 : List UInt8 := dkwX5_init_1 ++ []
def dkwX5_init_0 : List UInt8 := [42, 183, 0, 1, 42, 18, 7, 181, 0, 9, 42, 43, 181, 0, 15, 42, 28, 181, 0, 19, 42, 29]
abbrev dktX5_init_0 : List UInt8 := dkwX5_init_0 ++ dktX5_init_1
theorem dksX5_init_0 : cX5_init.data.toList.drop 0 = dktX5_init_0 := by decide +kernel
theorem dksX5_init_1 : cX5_init.data.toList.drop 22 = dktX5_init_1 := dk_seg dksX5_init_0 22 rfl rfl
theorem dX5_init_0 : decode cX5_init 0 = .ok (.aload_n 0, 1) := dk_42 (dk_at dksX5_init_0 0 rfl rfl)
theorem dX5_init_1 : decode cX5_init 1 = .ok (.invokespecial 1, 3) := dk_183 0 1 (dk_at dksX5_init_0 1 rfl rfl)
theorem dX5_init_4 : decode cX5_init 4 = .ok (.aload_n 0, 1) := dk_42 (dk_at dksX5_init_0 4 rfl rfl)
theorem dX5_init_5 : decode cX5_init 5 = .ok (.ldc 7, 2) := dk_18 7 (dk_at dksX5_init_0 5 rfl rfl)
theorem dX5_init_7 : decode cX5_init 7 = .ok (.putfield 9, 3) := dk_181 0 9 (dk_at dksX5_init_0 7 rfl rfl)
theorem dX5_init_10 : decode cX5_init 10 = .ok (.aload_n 0, 1) := dk_42 (dk_at dksX5_init_0 10 rfl rfl)
theorem dX5_init_11 : decode cX5_init 11 = .ok (.aload_n 1, 1) := dk_43 (dk_at dksX5_init_0 11 rfl rfl)
theorem dX5_init_12 : decode cX5_init 12 = .ok (.putfield 15, 3) := dk_181 0 15 (dk_at dksX5_init_0 12 rfl rfl)
theorem dX5_init_15 : decode cX5_init 15 = .ok (.aload_n 0, 1) := dk_42 (dk_at dksX5_init_0 15 rfl rfl)
theorem dX5_init_16 : decode cX5_init 16 = .ok (.iload_n 2, 1) := dk_28 (dk_at dksX5_init_0 16 rfl rfl)
theorem dX5_init_17 : decode cX5_init 17 = .ok (.putfield 19, 3) := dk_181 0 19 (dk_at dksX5_init_0 17 rfl rfl)
theorem dX5_init_20 : decode cX5_init 20 = .ok (.aload_n 0, 1) := dk_42 (dk_at dksX5_init_0 20 rfl rfl)
theorem dX5_init_21 : decode cX5_init 21 = .ok (.iload_n 3, 1) := dk_29 (dk_at dksX5_init_0 21 rfl rfl)
theorem dX5_init_22 : decode cX5_init 22 = .ok (.putfield 23, 3) := dk_181 0 23 (dk_at dksX5_init_1 0 rfl rfl)
theorem dX5_init_25 : decode cX5_init 25 = .ok (.return_, 1) := dk_177 (dk_at dksX5_init_1 3 rfl rfl)
def dkwX5_go_15 : List UInt8 := [167, 0, 4, 6, 164, 0, 7, 4, 167, 0, 12, 28, 153, 0, 7, 5, 167, 0, 4, 6, 181, 0, 36, 177]
abbrev dktX5_go_15 : List UInt8 := dkwX5_go_15 ++ []
def dkwX5_go_14 : List UInt8 := [181, 0, 9, 42, 29, 153, 0, 25, 42, 180, 0, 26, 42, 180, 0, 33, 100, 28, 153, 0, 8, 16, 8]
abbrev dktX5_go_14 : List UInt8 := dkwX5_go_14 ++ dktX5_go_15
def dkwX5_go_13 : List UInt8 := [181, 0, 56, 42, 89, 180, 0, 26, 4, 96, 181, 0, 26, 167, 255, 128, 42, 25, 4, 182, 0, 66]
abbrev dktX5_go_13 : List UInt8 := dkwX5_go_13 ++ dktX5_go_14
def dkwX5_go_12 : List UInt8 := [6, 162, 0, 26, 42, 16, 10, 42, 180, 0, 56, 104, 42, 42, 180, 0, 26, 182, 0, 29, 96, 16, 48, 100]
abbrev dktX5_go_12 : List UInt8 := dkwX5_go_12 ++ dktX5_go_13
def dkwX5_go_11 : List UInt8 := [25, 4, 42, 42, 180, 0, 26, 182, 0, 29, 146, 182, 0, 62, 87, 42, 180, 0, 26, 42, 180, 0, 33, 100]
abbrev dktX5_go_11 : List UInt8 := dkwX5_go_11 ++ dktX5_go_12
def dkwX5_go_10 : List UInt8 := [28, 160, 0, 7, 4, 167, 0, 4, 3, 62, 42, 180, 0, 26, 42, 180, 0, 33, 100, 16, 8, 162, 0, 18]
abbrev dktX5_go_10 : List UInt8 := dkwX5_go_10 ++ dktX5_go_11
def dkwX5_go_9 : List UInt8 := [182, 0, 29, 184, 0, 43, 153, 0, 106, 29, 153, 0, 22, 42, 42, 180, 0, 26, 182, 0, 29, 184, 0, 39]
abbrev dktX5_go_9 : List UInt8 := dkwX5_go_9 ++ dktX5_go_10
def dkwX5_go_8 : List UInt8 := [183, 0, 61, 58, 4, 42, 42, 180, 0, 26, 182, 0, 29, 184, 0, 39, 154, 0, 17, 42, 42, 180, 0, 26]
abbrev dktX5_go_8 : List UInt8 := dkwX5_go_8 ++ dktX5_go_9
def dkwX5_go_7 : List UInt8 := [4, 96, 181, 0, 26, 177, 27, 184, 0, 39, 61, 4, 62, 42, 3, 181, 0, 56, 187, 0, 59, 89]
abbrev dktX5_go_7 : List UInt8 := dkwX5_go_7 ++ dktX5_go_8
def dkwX5_go_6 : List UInt8 := [182, 0, 48, 155, 0, 7, 7, 167, 0, 4, 4, 181, 0, 36, 42, 27, 181, 0, 53, 42, 89, 180, 0, 26]
abbrev dktX5_go_6 : List UInt8 := dkwX5_go_6 ++ dktX5_go_7
def dkwX5_go_5 : List UInt8 := [182, 0, 29, 60, 27, 184, 0, 39, 154, 0, 44, 27, 184, 0, 43, 154, 0, 37, 42, 18, 46, 27]
abbrev dktX5_go_5 : List UInt8 := dkwX5_go_5 ++ dktX5_go_6
def dkwX5_go_4 : List UInt8 := [42, 180, 0, 26, 42, 180, 0, 19, 161, 0, 9, 42, 3, 181, 0, 36, 177, 42, 42, 180, 0, 26]
abbrev dktX5_go_4 : List UInt8 := dkwX5_go_4 ++ dktX5_go_5
def dkwX5_go_3 : List UInt8 := [180, 0, 33, 42, 180, 0, 23, 161, 0, 17, 42, 42, 180, 0, 23, 181, 0, 33, 42, 8, 181, 0, 36, 177]
abbrev dktX5_go_3 : List UInt8 := dkwX5_go_3 ++ dktX5_go_4
def dkwX5_go_2 : List UInt8 := [167, 255, 209, 42, 42, 180, 0, 26, 181, 0, 33, 42, 180, 0, 19, 42, 180, 0, 23, 164, 0, 28, 42]
abbrev dktX5_go_2 : List UInt8 := dkwX5_go_2 ++ dktX5_go_3
def dkwX5_go_1 : List UInt8 := [42, 42, 180, 0, 26, 182, 0, 29, 16, 10, 160, 0, 16, 42, 89, 180, 0, 26, 4, 96, 181, 0, 26]
abbrev dktX5_go_1 : List UInt8 := dkwX5_go_1 ++ dktX5_go_2
def dkwX5_go_0 : List UInt8 := [42, 180, 0, 26, 42, 180, 0, 19, 162, 0, 42, 42, 42, 180, 0, 26, 182, 0, 29, 16, 32, 159, 0, 16]
abbrev dktX5_go_0 : List UInt8 := dkwX5_go_0 ++ dktX5_go_1
theorem dksX5_go_0 : cX5_go.data.toList.drop 0 = dktX5_go_0 := by decide +kernel
theorem dksX5_go_1 : cX5_go.data.toList.drop 24 = dktX5_go_1 := dk_seg dksX5_go_0 24 rfl rfl
theorem dksX5_go_2 : cX5_go.data.toList.drop 47 = dktX5_go_2 := dk_seg dksX5_go_1 23 rfl rfl
theorem dksX5_go_3 : cX5_go.data.toList.drop 70 = dktX5_go_3 := dk_seg dksX5_go_2 23 rfl rfl
theorem dksX5_go_4 : cX5_go.data.toList.drop 94 = dktX5_go_4 := dk_seg dksX5_go_3 24 rfl rfl
theorem dksX5_go_5 : cX5_go.data.toList.drop 116 = dktX5_go_5 := dk_seg dksX5_go_4 22 rfl rfl
theorem dksX5_go_6 : cX5_go.data.toList.drop 138 = dktX5_go_6 := dk_seg dksX5_go_5 22 rfl rfl
theorem dksX5_go_7 : cX5_go.data.toList.drop 162 = dktX5_go_7 := dk_seg dksX5_go_6 24 rfl rfl
theorem dksX5_go_8 : cX5_go.data.toList.drop 184 = dktX5_go_8 := dk_seg dksX5_go_7 22 rfl rfl
theorem dksX5_go_9 : cX5_go.data.toList.drop 208 = dktX5_go_9 := dk_seg dksX5_go_8 24 rfl rfl
theorem dksX5_go_10 : cX5_go.data.toList.drop 232 = dktX5_go_10 := dk_seg dksX5_go_9 24 rfl rfl
theorem dksX5_go_11 : cX5_go.data.toList.drop 256 = dktX5_go_11 := dk_seg dksX5_go_10 24 rfl rfl
theorem dksX5_go_12 : cX5_go.data.toList.drop 280 = dktX5_go_12 := dk_seg dksX5_go_11 24 rfl rfl
theorem dksX5_go_13 : cX5_go.data.toList.drop 304 = dktX5_go_13 := dk_seg dksX5_go_12 24 rfl rfl
theorem dksX5_go_14 : cX5_go.data.toList.drop 326 = dktX5_go_14 := dk_seg dksX5_go_13 22 rfl rfl
theorem dksX5_go_15 : cX5_go.data.toList.drop 349 = dktX5_go_15 := dk_seg dksX5_go_14 23 rfl rfl
theorem dX5_go_0 : decode cX5_go 0 = .ok (.aload_n 0, 1) := dk_42 (dk_at dksX5_go_0 0 rfl rfl)
theorem dX5_go_1 : decode cX5_go 1 = .ok (.getfield 26, 3) := dk_180 0 26 (dk_at dksX5_go_0 1 rfl rfl)
theorem dX5_go_4 : decode cX5_go 4 = .ok (.aload_n 0, 1) := dk_42 (dk_at dksX5_go_0 4 rfl rfl)
theorem dX5_go_5 : decode cX5_go 5 = .ok (.getfield 19, 3) := dk_180 0 19 (dk_at dksX5_go_0 5 rfl rfl)
theorem dX5_go_8 : decode cX5_go 8 = .ok (.if_icmp .ge 42, 3) := dk_162 0 42 (dk_at dksX5_go_0 8 rfl rfl)
theorem dX5_go_11 : decode cX5_go 11 = .ok (.aload_n 0, 1) := dk_42 (dk_at dksX5_go_0 11 rfl rfl)
theorem dX5_go_12 : decode cX5_go 12 = .ok (.aload_n 0, 1) := dk_42 (dk_at dksX5_go_0 12 rfl rfl)
theorem dX5_go_13 : decode cX5_go 13 = .ok (.getfield 26, 3) := dk_180 0 26 (dk_at dksX5_go_0 13 rfl rfl)
theorem dX5_go_16 : decode cX5_go 16 = .ok (.invokevirtual 29, 3) := dk_182 0 29 (dk_at dksX5_go_0 16 rfl rfl)
theorem dX5_go_19 : decode cX5_go 19 = .ok (.bipush 32, 2) := dk_16 32 (dk_at dksX5_go_0 19 rfl rfl)
theorem dX5_go_21 : decode cX5_go 21 = .ok (.if_icmp .eq 16, 3) := dk_159 0 16 (dk_at dksX5_go_0 21 rfl rfl)
theorem dX5_go_24 : decode cX5_go 24 = .ok (.aload_n 0, 1) := dk_42 (dk_at dksX5_go_1 0 rfl rfl)
theorem dX5_go_25 : decode cX5_go 25 = .ok (.aload_n 0, 1) := dk_42 (dk_at dksX5_go_1 1 rfl rfl)
theorem dX5_go_26 : decode cX5_go 26 = .ok (.getfield 26, 3) := dk_180 0 26 (dk_at dksX5_go_1 2 rfl rfl)
theorem dX5_go_29 : decode cX5_go 29 = .ok (.invokevirtual 29, 3) := dk_182 0 29 (dk_at dksX5_go_1 5 rfl rfl)
theorem dX5_go_32 : decode cX5_go 32 = .ok (.bipush 10, 2) := dk_16 10 (dk_at dksX5_go_1 8 rfl rfl)
theorem dX5_go_34 : decode cX5_go 34 = .ok (.if_icmp .ne 16, 3) := dk_160 0 16 (dk_at dksX5_go_1 10 rfl rfl)
theorem dX5_go_37 : decode cX5_go 37 = .ok (.aload_n 0, 1) := dk_42 (dk_at dksX5_go_1 13 rfl rfl)
theorem dX5_go_38 : decode cX5_go 38 = .ok (.dup, 1) := dk_89 (dk_at dksX5_go_1 14 rfl rfl)
theorem dX5_go_39 : decode cX5_go 39 = .ok (.getfield 26, 3) := dk_180 0 26 (dk_at dksX5_go_1 15 rfl rfl)
theorem dX5_go_42 : decode cX5_go 42 = .ok (.iconst 1, 1) := dk_4 (dk_at dksX5_go_1 18 rfl rfl)
theorem dX5_go_43 : decode cX5_go 43 = .ok (.iadd, 1) := dk_96 (dk_at dksX5_go_1 19 rfl rfl)
theorem dX5_go_44 : decode cX5_go 44 = .ok (.putfield 26, 3) := dk_181 0 26 (dk_at dksX5_go_1 20 rfl rfl)
theorem dX5_go_47 : decode cX5_go 47 = .ok (.goto (-47), 3) := dk_167 255 209 (dk_at dksX5_go_2 0 rfl rfl)
theorem dX5_go_50 : decode cX5_go 50 = .ok (.aload_n 0, 1) := dk_42 (dk_at dksX5_go_2 3 rfl rfl)
theorem dX5_go_51 : decode cX5_go 51 = .ok (.aload_n 0, 1) := dk_42 (dk_at dksX5_go_2 4 rfl rfl)
theorem dX5_go_52 : decode cX5_go 52 = .ok (.getfield 26, 3) := dk_180 0 26 (dk_at dksX5_go_2 5 rfl rfl)
theorem dX5_go_55 : decode cX5_go 55 = .ok (.putfield 33, 3) := dk_181 0 33 (dk_at dksX5_go_2 8 rfl rfl)
theorem dX5_go_58 : decode cX5_go 58 = .ok (.aload_n 0, 1) := dk_42 (dk_at dksX5_go_2 11 rfl rfl)
theorem dX5_go_59 : decode cX5_go 59 = .ok (.getfield 19, 3) := dk_180 0 19 (dk_at dksX5_go_2 12 rfl rfl)
theorem dX5_go_62 : decode cX5_go 62 = .ok (.aload_n 0, 1) := dk_42 (dk_at dksX5_go_2 15 rfl rfl)
theorem dX5_go_63 : decode cX5_go 63 = .ok (.getfield 23, 3) := dk_180 0 23 (dk_at dksX5_go_2 16 rfl rfl)
theorem dX5_go_66 : decode cX5_go 66 = .ok (.if_icmp .le 28, 3) := dk_164 0 28 (dk_at dksX5_go_2 19 rfl rfl)
theorem dX5_go_69 : decode cX5_go 69 = .ok (.aload_n 0, 1) := dk_42 (dk_at dksX5_go_2 22 rfl rfl)
theorem dX5_go_70 : decode cX5_go 70 = .ok (.getfield 33, 3) := dk_180 0 33 (dk_at dksX5_go_3 0 rfl rfl)
theorem dX5_go_73 : decode cX5_go 73 = .ok (.aload_n 0, 1) := dk_42 (dk_at dksX5_go_3 3 rfl rfl)
theorem dX5_go_74 : decode cX5_go 74 = .ok (.getfield 23, 3) := dk_180 0 23 (dk_at dksX5_go_3 4 rfl rfl)
theorem dX5_go_77 : decode cX5_go 77 = .ok (.if_icmp .lt 17, 3) := dk_161 0 17 (dk_at dksX5_go_3 7 rfl rfl)
theorem dX5_go_80 : decode cX5_go 80 = .ok (.aload_n 0, 1) := dk_42 (dk_at dksX5_go_3 10 rfl rfl)
theorem dX5_go_81 : decode cX5_go 81 = .ok (.aload_n 0, 1) := dk_42 (dk_at dksX5_go_3 11 rfl rfl)
theorem dX5_go_82 : decode cX5_go 82 = .ok (.getfield 23, 3) := dk_180 0 23 (dk_at dksX5_go_3 12 rfl rfl)
theorem dX5_go_85 : decode cX5_go 85 = .ok (.putfield 33, 3) := dk_181 0 33 (dk_at dksX5_go_3 15 rfl rfl)
theorem dX5_go_88 : decode cX5_go 88 = .ok (.aload_n 0, 1) := dk_42 (dk_at dksX5_go_3 18 rfl rfl)
theorem dX5_go_89 : decode cX5_go 89 = .ok (.iconst 5, 1) := dk_8 (dk_at dksX5_go_3 19 rfl rfl)
theorem dX5_go_90 : decode cX5_go 90 = .ok (.putfield 36, 3) := dk_181 0 36 (dk_at dksX5_go_3 20 rfl rfl)
theorem dX5_go_93 : decode cX5_go 93 = .ok (.return_, 1) := dk_177 (dk_at dksX5_go_3 23 rfl rfl)
theorem dX5_go_94 : decode cX5_go 94 = .ok (.aload_n 0, 1) := dk_42 (dk_at dksX5_go_4 0 rfl rfl)
theorem dX5_go_95 : decode cX5_go 95 = .ok (.getfield 26, 3) := dk_180 0 26 (dk_at dksX5_go_4 1 rfl rfl)
theorem dX5_go_98 : decode cX5_go 98 = .ok (.aload_n 0, 1) := dk_42 (dk_at dksX5_go_4 4 rfl rfl)
theorem dX5_go_99 : decode cX5_go 99 = .ok (.getfield 19, 3) := dk_180 0 19 (dk_at dksX5_go_4 5 rfl rfl)
theorem dX5_go_102 : decode cX5_go 102 = .ok (.if_icmp .lt 9, 3) := dk_161 0 9 (dk_at dksX5_go_4 8 rfl rfl)
theorem dX5_go_105 : decode cX5_go 105 = .ok (.aload_n 0, 1) := dk_42 (dk_at dksX5_go_4 11 rfl rfl)
theorem dX5_go_106 : decode cX5_go 106 = .ok (.iconst 0, 1) := dk_3 (dk_at dksX5_go_4 12 rfl rfl)
theorem dX5_go_107 : decode cX5_go 107 = .ok (.putfield 36, 3) := dk_181 0 36 (dk_at dksX5_go_4 13 rfl rfl)
theorem dX5_go_110 : decode cX5_go 110 = .ok (.return_, 1) := dk_177 (dk_at dksX5_go_4 16 rfl rfl)
theorem dX5_go_111 : decode cX5_go 111 = .ok (.aload_n 0, 1) := dk_42 (dk_at dksX5_go_4 17 rfl rfl)
theorem dX5_go_112 : decode cX5_go 112 = .ok (.aload_n 0, 1) := dk_42 (dk_at dksX5_go_4 18 rfl rfl)
theorem dX5_go_113 : decode cX5_go 113 = .ok (.getfield 26, 3) := dk_180 0 26 (dk_at dksX5_go_4 19 rfl rfl)
theorem dX5_go_116 : decode cX5_go 116 = .ok (.invokevirtual 29, 3) := dk_182 0 29 (dk_at dksX5_go_5 0 rfl rfl)
theorem dX5_go_119 : decode cX5_go 119 = .ok (.istore_n 1, 1) := dk_60 (dk_at dksX5_go_5 3 rfl rfl)
theorem dX5_go_120 : decode cX5_go 120 = .ok (.iload_n 1, 1) := dk_27 (dk_at dksX5_go_5 4 rfl rfl)
theorem dX5_go_121 : decode cX5_go 121 = .ok (.invokestatic 39, 3) := dk_184 0 39 (dk_at dksX5_go_5 5 rfl rfl)
theorem dX5_go_124 : decode cX5_go 124 = .ok (.ifCond .ne 44, 3) := dk_154 0 44 (dk_at dksX5_go_5 8 rfl rfl)
theorem dX5_go_127 : decode cX5_go 127 = .ok (.iload_n 1, 1) := dk_27 (dk_at dksX5_go_5 11 rfl rfl)
theorem dX5_go_128 : decode cX5_go 128 = .ok (.invokestatic 43, 3) := dk_184 0 43 (dk_at dksX5_go_5 12 rfl rfl)
theorem dX5_go_131 : decode cX5_go 131 = .ok (.ifCond .ne 37, 3) := dk_154 0 37 (dk_at dksX5_go_5 15 rfl rfl)
theorem dX5_go_134 : decode cX5_go 134 = .ok (.aload_n 0, 1) := dk_42 (dk_at dksX5_go_5 18 rfl rfl)
theorem dX5_go_135 : decode cX5_go 135 = .ok (.ldc 46, 2) := dk_18 46 (dk_at dksX5_go_5 19 rfl rfl)
theorem dX5_go_137 : decode cX5_go 137 = .ok (.iload_n 1, 1) := dk_27 (dk_at dksX5_go_5 21 rfl rfl)
theorem dX5_go_138 : decode cX5_go 138 = .ok (.invokevirtual 48, 3) := dk_182 0 48 (dk_at dksX5_go_6 0 rfl rfl)
theorem dX5_go_141 : decode cX5_go 141 = .ok (.ifCond .lt 7, 3) := dk_155 0 7 (dk_at dksX5_go_6 3 rfl rfl)
theorem dX5_go_144 : decode cX5_go 144 = .ok (.iconst 4, 1) := dk_7 (dk_at dksX5_go_6 6 rfl rfl)
theorem dX5_go_145 : decode cX5_go 145 = .ok (.goto 4, 3) := dk_167 0 4 (dk_at dksX5_go_6 7 rfl rfl)
theorem dX5_go_148 : decode cX5_go 148 = .ok (.iconst 1, 1) := dk_4 (dk_at dksX5_go_6 10 rfl rfl)
theorem dX5_go_149 : decode cX5_go 149 = .ok (.putfield 36, 3) := dk_181 0 36 (dk_at dksX5_go_6 11 rfl rfl)
theorem dX5_go_152 : decode cX5_go 152 = .ok (.aload_n 0, 1) := dk_42 (dk_at dksX5_go_6 14 rfl rfl)
theorem dX5_go_153 : decode cX5_go 153 = .ok (.iload_n 1, 1) := dk_27 (dk_at dksX5_go_6 15 rfl rfl)
theorem dX5_go_154 : decode cX5_go 154 = .ok (.putfield 53, 3) := dk_181 0 53 (dk_at dksX5_go_6 16 rfl rfl)
theorem dX5_go_157 : decode cX5_go 157 = .ok (.aload_n 0, 1) := dk_42 (dk_at dksX5_go_6 19 rfl rfl)
theorem dX5_go_158 : decode cX5_go 158 = .ok (.dup, 1) := dk_89 (dk_at dksX5_go_6 20 rfl rfl)
theorem dX5_go_159 : decode cX5_go 159 = .ok (.getfield 26, 3) := dk_180 0 26 (dk_at dksX5_go_6 21 rfl rfl)
theorem dX5_go_162 : decode cX5_go 162 = .ok (.iconst 1, 1) := dk_4 (dk_at dksX5_go_7 0 rfl rfl)
theorem dX5_go_163 : decode cX5_go 163 = .ok (.iadd, 1) := dk_96 (dk_at dksX5_go_7 1 rfl rfl)
theorem dX5_go_164 : decode cX5_go 164 = .ok (.putfield 26, 3) := dk_181 0 26 (dk_at dksX5_go_7 2 rfl rfl)
theorem dX5_go_167 : decode cX5_go 167 = .ok (.return_, 1) := dk_177 (dk_at dksX5_go_7 5 rfl rfl)
theorem dX5_go_168 : decode cX5_go 168 = .ok (.iload_n 1, 1) := dk_27 (dk_at dksX5_go_7 6 rfl rfl)
theorem dX5_go_169 : decode cX5_go 169 = .ok (.invokestatic 39, 3) := dk_184 0 39 (dk_at dksX5_go_7 7 rfl rfl)
theorem dX5_go_172 : decode cX5_go 172 = .ok (.istore_n 2, 1) := dk_61 (dk_at dksX5_go_7 10 rfl rfl)
theorem dX5_go_173 : decode cX5_go 173 = .ok (.iconst 1, 1) := dk_4 (dk_at dksX5_go_7 11 rfl rfl)
theorem dX5_go_174 : decode cX5_go 174 = .ok (.istore_n 3, 1) := dk_62 (dk_at dksX5_go_7 12 rfl rfl)
theorem dX5_go_175 : decode cX5_go 175 = .ok (.aload_n 0, 1) := dk_42 (dk_at dksX5_go_7 13 rfl rfl)
theorem dX5_go_176 : decode cX5_go 176 = .ok (.iconst 0, 1) := dk_3 (dk_at dksX5_go_7 14 rfl rfl)
theorem dX5_go_177 : decode cX5_go 177 = .ok (.putfield 56, 3) := dk_181 0 56 (dk_at dksX5_go_7 15 rfl rfl)
theorem dX5_go_180 : decode cX5_go 180 = .ok (.new 59, 3) := dk_187 0 59 (dk_at dksX5_go_7 18 rfl rfl)
theorem dX5_go_183 : decode cX5_go 183 = .ok (.dup, 1) := dk_89 (dk_at dksX5_go_7 21 rfl rfl)
theorem dX5_go_184 : decode cX5_go 184 = .ok (.invokespecial 61, 3) := dk_183 0 61 (dk_at dksX5_go_8 0 rfl rfl)
theorem dX5_go_187 : decode cX5_go 187 = .ok (.astore 4, 2) := dk_58 4 (dk_at dksX5_go_8 3 rfl rfl)
theorem dX5_go_189 : decode cX5_go 189 = .ok (.aload_n 0, 1) := dk_42 (dk_at dksX5_go_8 5 rfl rfl)
theorem dX5_go_190 : decode cX5_go 190 = .ok (.aload_n 0, 1) := dk_42 (dk_at dksX5_go_8 6 rfl rfl)
theorem dX5_go_191 : decode cX5_go 191 = .ok (.getfield 26, 3) := dk_180 0 26 (dk_at dksX5_go_8 7 rfl rfl)
theorem dX5_go_194 : decode cX5_go 194 = .ok (.invokevirtual 29, 3) := dk_182 0 29 (dk_at dksX5_go_8 10 rfl rfl)
theorem dX5_go_197 : decode cX5_go 197 = .ok (.invokestatic 39, 3) := dk_184 0 39 (dk_at dksX5_go_8 13 rfl rfl)
theorem dX5_go_200 : decode cX5_go 200 = .ok (.ifCond .ne 17, 3) := dk_154 0 17 (dk_at dksX5_go_8 16 rfl rfl)
theorem dX5_go_203 : decode cX5_go 203 = .ok (.aload_n 0, 1) := dk_42 (dk_at dksX5_go_8 19 rfl rfl)
theorem dX5_go_204 : decode cX5_go 204 = .ok (.aload_n 0, 1) := dk_42 (dk_at dksX5_go_8 20 rfl rfl)
theorem dX5_go_205 : decode cX5_go 205 = .ok (.getfield 26, 3) := dk_180 0 26 (dk_at dksX5_go_8 21 rfl rfl)
theorem dX5_go_208 : decode cX5_go 208 = .ok (.invokevirtual 29, 3) := dk_182 0 29 (dk_at dksX5_go_9 0 rfl rfl)
theorem dX5_go_211 : decode cX5_go 211 = .ok (.invokestatic 43, 3) := dk_184 0 43 (dk_at dksX5_go_9 3 rfl rfl)
theorem dX5_go_214 : decode cX5_go 214 = .ok (.ifCond .eq 106, 3) := dk_153 0 106 (dk_at dksX5_go_9 6 rfl rfl)
theorem dX5_go_217 : decode cX5_go 217 = .ok (.iload_n 3, 1) := dk_29 (dk_at dksX5_go_9 9 rfl rfl)
theorem dX5_go_218 : decode cX5_go 218 = .ok (.ifCond .eq 22, 3) := dk_153 0 22 (dk_at dksX5_go_9 10 rfl rfl)
theorem dX5_go_221 : decode cX5_go 221 = .ok (.aload_n 0, 1) := dk_42 (dk_at dksX5_go_9 13 rfl rfl)
theorem dX5_go_222 : decode cX5_go 222 = .ok (.aload_n 0, 1) := dk_42 (dk_at dksX5_go_9 14 rfl rfl)
theorem dX5_go_223 : decode cX5_go 223 = .ok (.getfield 26, 3) := dk_180 0 26 (dk_at dksX5_go_9 15 rfl rfl)
theorem dX5_go_226 : decode cX5_go 226 = .ok (.invokevirtual 29, 3) := dk_182 0 29 (dk_at dksX5_go_9 18 rfl rfl)
theorem dX5_go_229 : decode cX5_go 229 = .ok (.invokestatic 39, 3) := dk_184 0 39 (dk_at dksX5_go_9 21 rfl rfl)
theorem dX5_go_232 : decode cX5_go 232 = .ok (.iload_n 2, 1) := dk_28 (dk_at dksX5_go_10 0 rfl rfl)
theorem dX5_go_233 : decode cX5_go 233 = .ok (.if_icmp .ne 7, 3) := dk_160 0 7 (dk_at dksX5_go_10 1 rfl rfl)
theorem dX5_go_236 : decode cX5_go 236 = .ok (.iconst 1, 1) := dk_4 (dk_at dksX5_go_10 4 rfl rfl)
theorem dX5_go_237 : decode cX5_go 237 = .ok (.goto 4, 3) := dk_167 0 4 (dk_at dksX5_go_10 5 rfl rfl)
theorem dX5_go_240 : decode cX5_go 240 = .ok (.iconst 0, 1) := dk_3 (dk_at dksX5_go_10 8 rfl rfl)
theorem dX5_go_241 : decode cX5_go 241 = .ok (.istore_n 3, 1) := dk_62 (dk_at dksX5_go_10 9 rfl rfl)
theorem dX5_go_242 : decode cX5_go 242 = .ok (.aload_n 0, 1) := dk_42 (dk_at dksX5_go_10 10 rfl rfl)
theorem dX5_go_243 : decode cX5_go 243 = .ok (.getfield 26, 3) := dk_180 0 26 (dk_at dksX5_go_10 11 rfl rfl)
theorem dX5_go_246 : decode cX5_go 246 = .ok (.aload_n 0, 1) := dk_42 (dk_at dksX5_go_10 14 rfl rfl)
theorem dX5_go_247 : decode cX5_go 247 = .ok (.getfield 33, 3) := dk_180 0 33 (dk_at dksX5_go_10 15 rfl rfl)
theorem dX5_go_250 : decode cX5_go 250 = .ok (.isub, 1) := dk_100 (dk_at dksX5_go_10 18 rfl rfl)
theorem dX5_go_251 : decode cX5_go 251 = .ok (.bipush 8, 2) := dk_16 8 (dk_at dksX5_go_10 19 rfl rfl)
theorem dX5_go_253 : decode cX5_go 253 = .ok (.if_icmp .ge 18, 3) := dk_162 0 18 (dk_at dksX5_go_10 21 rfl rfl)
theorem dX5_go_256 : decode cX5_go 256 = .ok (.aload 4, 2) := dk_25 4 (dk_at dksX5_go_11 0 rfl rfl)
theorem dX5_go_258 : decode cX5_go 258 = .ok (.aload_n 0, 1) := dk_42 (dk_at dksX5_go_11 2 rfl rfl)
theorem dX5_go_259 : decode cX5_go 259 = .ok (.aload_n 0, 1) := dk_42 (dk_at dksX5_go_11 3 rfl rfl)
theorem dX5_go_260 : decode cX5_go 260 = .ok (.getfield 26, 3) := dk_180 0 26 (dk_at dksX5_go_11 4 rfl rfl)
theorem dX5_go_263 : decode cX5_go 263 = .ok (.invokevirtual 29, 3) := dk_182 0 29 (dk_at dksX5_go_11 7 rfl rfl)
theorem dX5_go_266 : decode cX5_go 266 = .ok (.i2c, 1) := dk_146 (dk_at dksX5_go_11 10 rfl rfl)
theorem dX5_go_267 : decode cX5_go 267 = .ok (.invokevirtual 62, 3) := dk_182 0 62 (dk_at dksX5_go_11 11 rfl rfl)
theorem dX5_go_270 : decode cX5_go 270 = .ok (.pop, 1) := dk_87 (dk_at dksX5_go_11 14 rfl rfl)
theorem dX5_go_271 : decode cX5_go 271 = .ok (.aload_n 0, 1) := dk_42 (dk_at dksX5_go_11 15 rfl rfl)
theorem dX5_go_272 : decode cX5_go 272 = .ok (.getfield 26, 3) := dk_180 0 26 (dk_at dksX5_go_11 16 rfl rfl)
theorem dX5_go_275 : decode cX5_go 275 = .ok (.aload_n 0, 1) := dk_42 (dk_at dksX5_go_11 19 rfl rfl)
theorem dX5_go_276 : decode cX5_go 276 = .ok (.getfield 33, 3) := dk_180 0 33 (dk_at dksX5_go_11 20 rfl rfl)
theorem dX5_go_279 : decode cX5_go 279 = .ok (.isub, 1) := dk_100 (dk_at dksX5_go_11 23 rfl rfl)
theorem dX5_go_280 : decode cX5_go 280 = .ok (.iconst 3, 1) := dk_6 (dk_at dksX5_go_12 0 rfl rfl)
theorem dX5_go_281 : decode cX5_go 281 = .ok (.if_icmp .ge 26, 3) := dk_162 0 26 (dk_at dksX5_go_12 1 rfl rfl)
theorem dX5_go_284 : decode cX5_go 284 = .ok (.aload_n 0, 1) := dk_42 (dk_at dksX5_go_12 4 rfl rfl)
theorem dX5_go_285 : decode cX5_go 285 = .ok (.bipush 10, 2) := dk_16 10 (dk_at dksX5_go_12 5 rfl rfl)
theorem dX5_go_287 : decode cX5_go 287 = .ok (.aload_n 0, 1) := dk_42 (dk_at dksX5_go_12 7 rfl rfl)
theorem dX5_go_288 : decode cX5_go 288 = .ok (.getfield 56, 3) := dk_180 0 56 (dk_at dksX5_go_12 8 rfl rfl)
theorem dX5_go_291 : decode cX5_go 291 = .ok (.imul, 1) := dk_104 (dk_at dksX5_go_12 11 rfl rfl)
theorem dX5_go_292 : decode cX5_go 292 = .ok (.aload_n 0, 1) := dk_42 (dk_at dksX5_go_12 12 rfl rfl)
theorem dX5_go_293 : decode cX5_go 293 = .ok (.aload_n 0, 1) := dk_42 (dk_at dksX5_go_12 13 rfl rfl)
theorem dX5_go_294 : decode cX5_go 294 = .ok (.getfield 26, 3) := dk_180 0 26 (dk_at dksX5_go_12 14 rfl rfl)
theorem dX5_go_297 : decode cX5_go 297 = .ok (.invokevirtual 29, 3) := dk_182 0 29 (dk_at dksX5_go_12 17 rfl rfl)
theorem dX5_go_300 : decode cX5_go 300 = .ok (.iadd, 1) := dk_96 (dk_at dksX5_go_12 20 rfl rfl)
theorem dX5_go_301 : decode cX5_go 301 = .ok (.bipush 48, 2) := dk_16 48 (dk_at dksX5_go_12 21 rfl rfl)
theorem dX5_go_303 : decode cX5_go 303 = .ok (.isub, 1) := dk_100 (dk_at dksX5_go_12 23 rfl rfl)
theorem dX5_go_304 : decode cX5_go 304 = .ok (.putfield 56, 3) := dk_181 0 56 (dk_at dksX5_go_13 0 rfl rfl)
theorem dX5_go_307 : decode cX5_go 307 = .ok (.aload_n 0, 1) := dk_42 (dk_at dksX5_go_13 3 rfl rfl)
theorem dX5_go_308 : decode cX5_go 308 = .ok (.dup, 1) := dk_89 (dk_at dksX5_go_13 4 rfl rfl)
theorem dX5_go_309 : decode cX5_go 309 = .ok (.getfield 26, 3) := dk_180 0 26 (dk_at dksX5_go_13 5 rfl rfl)
theorem dX5_go_312 : decode cX5_go 312 = .ok (.iconst 1, 1) := dk_4 (dk_at dksX5_go_13 8 rfl rfl)
theorem dX5_go_313 : decode cX5_go 313 = .ok (.iadd, 1) := dk_96 (dk_at dksX5_go_13 9 rfl rfl)
theorem dX5_go_314 : decode cX5_go 314 = .ok (.putfield 26, 3) := dk_181 0 26 (dk_at dksX5_go_13 10 rfl rfl)
theorem dX5_go_317 : decode cX5_go 317 = .ok (.goto (-128), 3) := dk_167 255 128 (dk_at dksX5_go_13 13 rfl rfl)
theorem dX5_go_320 : decode cX5_go 320 = .ok (.aload_n 0, 1) := dk_42 (dk_at dksX5_go_13 16 rfl rfl)
theorem dX5_go_321 : decode cX5_go 321 = .ok (.aload 4, 2) := dk_25 4 (dk_at dksX5_go_13 17 rfl rfl)
theorem dX5_go_323 : decode cX5_go 323 = .ok (.invokevirtual 66, 3) := dk_182 0 66 (dk_at dksX5_go_13 19 rfl rfl)
theorem dX5_go_326 : decode cX5_go 326 = .ok (.putfield 9, 3) := dk_181 0 9 (dk_at dksX5_go_14 0 rfl rfl)
theorem dX5_go_329 : decode cX5_go 329 = .ok (.aload_n 0, 1) := dk_42 (dk_at dksX5_go_14 3 rfl rfl)
theorem dX5_go_330 : decode cX5_go 330 = .ok (.iload_n 3, 1) := dk_29 (dk_at dksX5_go_14 4 rfl rfl)
theorem dX5_go_331 : decode cX5_go 331 = .ok (.ifCond .eq 25, 3) := dk_153 0 25 (dk_at dksX5_go_14 5 rfl rfl)
theorem dX5_go_334 : decode cX5_go 334 = .ok (.aload_n 0, 1) := dk_42 (dk_at dksX5_go_14 8 rfl rfl)
theorem dX5_go_335 : decode cX5_go 335 = .ok (.getfield 26, 3) := dk_180 0 26 (dk_at dksX5_go_14 9 rfl rfl)
theorem dX5_go_338 : decode cX5_go 338 = .ok (.aload_n 0, 1) := dk_42 (dk_at dksX5_go_14 12 rfl rfl)
theorem dX5_go_339 : decode cX5_go 339 = .ok (.getfield 33, 3) := dk_180 0 33 (dk_at dksX5_go_14 13 rfl rfl)
theorem dX5_go_342 : decode cX5_go 342 = .ok (.isub, 1) := dk_100 (dk_at dksX5_go_14 16 rfl rfl)
theorem dX5_go_343 : decode cX5_go 343 = .ok (.iload_n 2, 1) := dk_28 (dk_at dksX5_go_14 17 rfl rfl)
theorem dX5_go_344 : decode cX5_go 344 = .ok (.ifCond .eq 8, 3) := dk_153 0 8 (dk_at dksX5_go_14 18 rfl rfl)
theorem dX5_go_347 : decode cX5_go 347 = .ok (.bipush 8, 2) := dk_16 8 (dk_at dksX5_go_14 21 rfl rfl)
theorem dX5_go_349 : decode cX5_go 349 = .ok (.goto 4, 3) := dk_167 0 4 (dk_at dksX5_go_15 0 rfl rfl)
theorem dX5_go_352 : decode cX5_go 352 = .ok (.iconst 3, 1) := dk_6 (dk_at dksX5_go_15 3 rfl rfl)
theorem dX5_go_353 : decode cX5_go 353 = .ok (.if_icmp .le 7, 3) := dk_164 0 7 (dk_at dksX5_go_15 4 rfl rfl)
theorem dX5_go_356 : decode cX5_go 356 = .ok (.iconst 1, 1) := dk_4 (dk_at dksX5_go_15 7 rfl rfl)
theorem dX5_go_357 : decode cX5_go 357 = .ok (.goto 12, 3) := dk_167 0 12 (dk_at dksX5_go_15 8 rfl rfl)
theorem dX5_go_360 : decode cX5_go 360 = .ok (.iload_n 2, 1) := dk_28 (dk_at dksX5_go_15 11 rfl rfl)
theorem dX5_go_361 : decode cX5_go 361 = .ok (.ifCond .eq 7, 3) := dk_153 0 7 (dk_at dksX5_go_15 12 rfl rfl)
theorem dX5_go_364 : decode cX5_go 364 = .ok (.iconst 2, 1) := dk_5 (dk_at dksX5_go_15 15 rfl rfl)
theorem dX5_go_365 : decode cX5_go 365 = .ok (.goto 4, 3) := dk_167 0 4 (dk_at dksX5_go_15 16 rfl rfl)
theorem dX5_go_368 : decode cX5_go 368 = .ok (.iconst 3, 1) := dk_6 (dk_at dksX5_go_15 19 rfl rfl)
theorem dX5_go_369 : decode cX5_go 369 = .ok (.putfield 36, 3) := dk_181 0 36 (dk_at dksX5_go_15 20 rfl rfl)
theorem dX5_go_372 : decode cX5_go 372 = .ok (.return_, 1) := dk_177 (dk_at dksX5_go_15 23 rfl rfl)
def dkwX5_byteAt_0 : List UInt8 := [27, 42, 180, 0, 19, 162, 0, 16, 42, 180, 0, 15, 27, 51, 17, 0, 255, 126, 167, 0, 4, 3, 172]
abbrev dktX5_byteAt_0 : List UInt8 := dkwX5_byteAt_0 ++ []
theorem dksX5_byteAt_0 : cX5_byteAt.data.toList.drop 0 = dktX5_byteAt_0 := by decide +kernel
theorem dX5_byteAt_0 : decode cX5_byteAt 0 = .ok (.iload_n 1, 1) := dk_27 (dk_at dksX5_byteAt_0 0 rfl rfl)
theorem dX5_byteAt_1 : decode cX5_byteAt 1 = .ok (.aload_n 0, 1) := dk_42 (dk_at dksX5_byteAt_0 1 rfl rfl)
theorem dX5_byteAt_2 : decode cX5_byteAt 2 = .ok (.getfield 19, 3) := dk_180 0 19 (dk_at dksX5_byteAt_0 2 rfl rfl)
theorem dX5_byteAt_5 : decode cX5_byteAt 5 = .ok (.if_icmp .ge 16, 3) := dk_162 0 16 (dk_at dksX5_byteAt_0 5 rfl rfl)
theorem dX5_byteAt_8 : decode cX5_byteAt 8 = .ok (.aload_n 0, 1) := dk_42 (dk_at dksX5_byteAt_0 8 rfl rfl)
theorem dX5_byteAt_9 : decode cX5_byteAt 9 = .ok (.getfield 15, 3) := dk_180 0 15 (dk_at dksX5_byteAt_0 9 rfl rfl)
theorem dX5_byteAt_12 : decode cX5_byteAt 12 = .ok (.iload_n 1, 1) := dk_27 (dk_at dksX5_byteAt_0 12 rfl rfl)
theorem dX5_byteAt_13 : decode cX5_byteAt 13 = .ok (.baload, 1) := dk_51 (dk_at dksX5_byteAt_0 13 rfl rfl)
theorem dX5_byteAt_14 : decode cX5_byteAt 14 = .ok (.sipush 255, 3) := dk_17 0 255 (dk_at dksX5_byteAt_0 14 rfl rfl)
theorem dX5_byteAt_17 : decode cX5_byteAt 17 = .ok (.iand, 1) := dk_126 (dk_at dksX5_byteAt_0 17 rfl rfl)
theorem dX5_byteAt_18 : decode cX5_byteAt 18 = .ok (.goto 4, 3) := dk_167 0 4 (dk_at dksX5_byteAt_0 18 rfl rfl)
theorem dX5_byteAt_21 : decode cX5_byteAt 21 = .ok (.iconst 0, 1) := dk_3 (dk_at dksX5_byteAt_0 21 rfl rfl)
theorem dX5_byteAt_22 : decode cX5_byteAt 22 = .ok (.ireturn, 1) := dk_172 (dk_at dksX5_byteAt_0 22 rfl rfl)
def dkwX5_isLetter_0 : List UInt8 := [26, 16, 97, 161, 0, 13, 26, 16, 122, 163, 0, 7, 4, 167, 0, 4, 3, 172]
abbrev dktX5_isLetter_0 : List UInt8 := dkwX5_isLetter_0 ++ []
theorem dksX5_isLetter_0 : cX5_isLetter.data.toList.drop 0 = dktX5_isLetter_0 := by decide +kernel
theorem dX5_isLetter_0 : decode cX5_isLetter 0 = .ok (.iload_n 0, 1) := dk_26 (dk_at dksX5_isLetter_0 0 rfl rfl)
theorem dX5_isLetter_1 : decode cX5_isLetter 1 = .ok (.bipush 97, 2) := dk_16 97 (dk_at dksX5_isLetter_0 1 rfl rfl)
theorem dX5_isLetter_3 : decode cX5_isLetter 3 = .ok (.if_icmp .lt 13, 3) := dk_161 0 13 (dk_at dksX5_isLetter_0 3 rfl rfl)
theorem dX5_isLetter_6 : decode cX5_isLetter 6 = .ok (.iload_n 0, 1) := dk_26 (dk_at dksX5_isLetter_0 6 rfl rfl)
theorem dX5_isLetter_7 : decode cX5_isLetter 7 = .ok (.bipush 122, 2) := dk_16 122 (dk_at dksX5_isLetter_0 7 rfl rfl)
theorem dX5_isLetter_9 : decode cX5_isLetter 9 = .ok (.if_icmp .gt 7, 3) := dk_163 0 7 (dk_at dksX5_isLetter_0 9 rfl rfl)
theorem dX5_isLetter_12 : decode cX5_isLetter 12 = .ok (.iconst 1, 1) := dk_4 (dk_at dksX5_isLetter_0 12 rfl rfl)
theorem dX5_isLetter_13 : decode cX5_isLetter 13 = .ok (.goto 4, 3) := dk_167 0 4 (dk_at dksX5_isLetter_0 13 rfl rfl)
theorem dX5_isLetter_16 : decode cX5_isLetter 16 = .ok (.iconst 0, 1) := dk_3 (dk_at dksX5_isLetter_0 16 rfl rfl)
theorem dX5_isLetter_17 : decode cX5_isLetter 17 = .ok (.ireturn, 1) := dk_172 (dk_at dksX5_isLetter_0 17 rfl rfl)
def dkwX5_isDigit_0 : List UInt8 := [26, 16, 48, 161, 0, 13, 26, 16, 57, 163, 0, 7, 4, 167, 0, 4, 3, 172]
abbrev dktX5_isDigit_0 : List UInt8 := dkwX5_isDigit_0 ++ []
theorem dksX5_isDigit_0 : cX5_isDigit.data.toList.drop 0 = dktX5_isDigit_0 := by decide +kernel
theorem dX5_isDigit_0 : decode cX5_isDigit 0 = .ok (.iload_n 0, 1) := dk_26 (dk_at dksX5_isDigit_0 0 rfl rfl)
theorem dX5_isDigit_1 : decode cX5_isDigit 1 = .ok (.bipush 48, 2) := dk_16 48 (dk_at dksX5_isDigit_0 1 rfl rfl)
theorem dX5_isDigit_3 : decode cX5_isDigit 3 = .ok (.if_icmp .lt 13, 3) := dk_161 0 13 (dk_at dksX5_isDigit_0 3 rfl rfl)
theorem dX5_isDigit_6 : decode cX5_isDigit 6 = .ok (.iload_n 0, 1) := dk_26 (dk_at dksX5_isDigit_0 6 rfl rfl)
theorem dX5_isDigit_7 : decode cX5_isDigit 7 = .ok (.bipush 57, 2) := dk_16 57 (dk_at dksX5_isDigit_0 7 rfl rfl)
theorem dX5_isDigit_9 : decode cX5_isDigit 9 = .ok (.if_icmp .gt 7, 3) := dk_163 0 7 (dk_at dksX5_isDigit_0 9 rfl rfl)
theorem dX5_isDigit_12 : decode cX5_isDigit 12 = .ok (.iconst 1, 1) := dk_4 (dk_at dksX5_isDigit_0 12 rfl rfl)
theorem dX5_isDigit_13 : decode cX5_isDigit 13 = .ok (.goto 4, 3) := dk_167 0 4 (dk_at dksX5_isDigit_0 13 rfl rfl)
theorem dX5_isDigit_16 : decode cX5_isDigit 16 = .ok (.iconst 0, 1) := dk_3 (dk_at dksX5_isDigit_0 16 rfl rfl)
theorem dX5_isDigit_17 : decode cX5_isDigit 17 = .ok (.ireturn, 1) := dk_172 (dk_at dksX5_isDigit_0 17 rfl rfl)
def dkwX5_is_1 : List UInt8 := [172]
abbrev dktX5_is_1 : List UInt8 := dkwX5_is_1 ++ []
def dkwX5_is_0 : List UInt8 := [42, 180, 0, 36, 5, 160, 0, 18, 42, 180, 0, 9, 43, 182, 0, 75, 153, 0, 7, 4, 167, 0, 4, 3]
abbrev dktX5_is_0 : List UInt8 := dkwX5_is_0 ++ dktX5_is_1
theorem dksX5_is_0 : cX5_is.data.toList.drop 0 = dktX5_is_0 := by decide +kernel
theorem dksX5_is_1 : cX5_is.data.toList.drop 24 = dktX5_is_1 := dk_seg dksX5_is_0 24 rfl rfl
theorem dX5_is_0 : decode cX5_is 0 = .ok (.aload_n 0, 1) := dk_42 (dk_at dksX5_is_0 0 rfl rfl)
theorem dX5_is_1 : decode cX5_is 1 = .ok (.getfield 36, 3) := dk_180 0 36 (dk_at dksX5_is_0 1 rfl rfl)
theorem dX5_is_4 : decode cX5_is 4 = .ok (.iconst 2, 1) := dk_5 (dk_at dksX5_is_0 4 rfl rfl)
theorem dX5_is_5 : decode cX5_is 5 = .ok (.if_icmp .ne 18, 3) := dk_160 0 18 (dk_at dksX5_is_0 5 rfl rfl)
theorem dX5_is_8 : decode cX5_is 8 = .ok (.aload_n 0, 1) := dk_42 (dk_at dksX5_is_0 8 rfl rfl)
theorem dX5_is_9 : decode cX5_is 9 = .ok (.getfield 9, 3) := dk_180 0 9 (dk_at dksX5_is_0 9 rfl rfl)
theorem dX5_is_12 : decode cX5_is 12 = .ok (.aload_n 1, 1) := dk_43 (dk_at dksX5_is_0 12 rfl rfl)
theorem dX5_is_13 : decode cX5_is 13 = .ok (.invokevirtual 75, 3) := dk_182 0 75 (dk_at dksX5_is_0 13 rfl rfl)
theorem dX5_is_16 : decode cX5_is 16 = .ok (.ifCond .eq 7, 3) := dk_153 0 7 (dk_at dksX5_is_0 16 rfl rfl)
theorem dX5_is_19 : decode cX5_is 19 = .ok (.iconst 1, 1) := dk_4 (dk_at dksX5_is_0 19 rfl rfl)
theorem dX5_is_20 : decode cX5_is 20 = .ok (.goto 4, 3) := dk_167 0 4 (dk_at dksX5_is_0 20 rfl rfl)
theorem dX5_is_23 : decode cX5_is 23 = .ok (.iconst 0, 1) := dk_3 (dk_at dksX5_is_0 23 rfl rfl)
theorem dX5_is_24 : decode cX5_is 24 = .ok (.ireturn, 1) := dk_172 (dk_at dksX5_is_1 0 rfl rfl)
def dkwX5_need_1 : List UInt8 := [4, 167, 0, 4, 28, 42, 180, 0, 33, 183, 0, 72, 191, 177]
abbrev dktX5_need_1 : List UInt8 := dkwX5_need_1 ++ []
def dkwX5_need_0 : List UInt8 := [27, 154, 0, 36, 187, 0, 70, 89, 42, 180, 0, 36, 4, 159, 0, 11, 42, 180, 0, 36, 8, 160, 0, 7]
abbrev dktX5_need_0 : List UInt8 := dkwX5_need_0 ++ dktX5_need_1
theorem dksX5_need_0 : cX5_need.data.toList.drop 0 = dktX5_need_0 := by decide +kernel
theorem dksX5_need_1 : cX5_need.data.toList.drop 24 = dktX5_need_1 := dk_seg dksX5_need_0 24 rfl rfl
theorem dX5_need_0 : decode cX5_need 0 = .ok (.iload_n 1, 1) := dk_27 (dk_at dksX5_need_0 0 rfl rfl)
theorem dX5_need_1 : decode cX5_need 1 = .ok (.ifCond .ne 36, 3) := dk_154 0 36 (dk_at dksX5_need_0 1 rfl rfl)
theorem dX5_need_4 : decode cX5_need 4 = .ok (.new 70, 3) := dk_187 0 70 (dk_at dksX5_need_0 4 rfl rfl)
theorem dX5_need_7 : decode cX5_need 7 = .ok (.dup, 1) := dk_89 (dk_at dksX5_need_0 7 rfl rfl)
theorem dX5_need_8 : decode cX5_need 8 = .ok (.aload_n 0, 1) := dk_42 (dk_at dksX5_need_0 8 rfl rfl)
theorem dX5_need_9 : decode cX5_need 9 = .ok (.getfield 36, 3) := dk_180 0 36 (dk_at dksX5_need_0 9 rfl rfl)
theorem dX5_need_12 : decode cX5_need 12 = .ok (.iconst 1, 1) := dk_4 (dk_at dksX5_need_0 12 rfl rfl)
theorem dX5_need_13 : decode cX5_need 13 = .ok (.if_icmp .eq 11, 3) := dk_159 0 11 (dk_at dksX5_need_0 13 rfl rfl)
theorem dX5_need_16 : decode cX5_need 16 = .ok (.aload_n 0, 1) := dk_42 (dk_at dksX5_need_0 16 rfl rfl)
theorem dX5_need_17 : decode cX5_need 17 = .ok (.getfield 36, 3) := dk_180 0 36 (dk_at dksX5_need_0 17 rfl rfl)
theorem dX5_need_20 : decode cX5_need 20 = .ok (.iconst 5, 1) := dk_8 (dk_at dksX5_need_0 20 rfl rfl)
theorem dX5_need_21 : decode cX5_need 21 = .ok (.if_icmp .ne 7, 3) := dk_160 0 7 (dk_at dksX5_need_0 21 rfl rfl)
theorem dX5_need_24 : decode cX5_need 24 = .ok (.iconst 1, 1) := dk_4 (dk_at dksX5_need_1 0 rfl rfl)
theorem dX5_need_25 : decode cX5_need 25 = .ok (.goto 4, 3) := dk_167 0 4 (dk_at dksX5_need_1 1 rfl rfl)
theorem dX5_need_28 : decode cX5_need 28 = .ok (.iload_n 2, 1) := dk_28 (dk_at dksX5_need_1 4 rfl rfl)
theorem dX5_need_29 : decode cX5_need 29 = .ok (.aload_n 0, 1) := dk_42 (dk_at dksX5_need_1 5 rfl rfl)
theorem dX5_need_30 : decode cX5_need 30 = .ok (.getfield 33, 3) := dk_180 0 33 (dk_at dksX5_need_1 6 rfl rfl)
theorem dX5_need_33 : decode cX5_need 33 = .ok (.invokespecial 72, 3) := dk_183 0 72 (dk_at dksX5_need_1 9 rfl rfl)
theorem dX5_need_36 : decode cX5_need 36 = .ok (.athrow, 1) := dk_191 (dk_at dksX5_need_1 12 rfl rfl)
theorem dX5_need_37 : decode cX5_need 37 = .ok (.return_, 1) := dk_177 (dk_at dksX5_need_1 13 rfl rfl)
def dkwX5_isSign_0 : List UInt8 := [42, 180, 0, 36, 7, 160, 0, 15, 42, 180, 0, 53, 27, 160, 0, 7, 4, 167, 0, 4, 3, 172]
abbrev dktX5_isSign_0 : List UInt8 := dkwX5_isSign_0 ++ []
theorem dksX5_isSign_0 : cX5_isSign.data.toList.drop 0 = dktX5_isSign_0 := by decide +kernel
theorem dX5_isSign_0 : decode cX5_isSign 0 = .ok (.aload_n 0, 1) := dk_42 (dk_at dksX5_isSign_0 0 rfl rfl)
theorem dX5_isSign_1 : decode cX5_isSign 1 = .ok (.getfield 36, 3) := dk_180 0 36 (dk_at dksX5_isSign_0 1 rfl rfl)
theorem dX5_isSign_4 : decode cX5_isSign 4 = .ok (.iconst 4, 1) := dk_7 (dk_at dksX5_isSign_0 4 rfl rfl)
theorem dX5_isSign_5 : decode cX5_isSign 5 = .ok (.if_icmp .ne 15, 3) := dk_160 0 15 (dk_at dksX5_isSign_0 5 rfl rfl)
theorem dX5_isSign_8 : decode cX5_isSign 8 = .ok (.aload_n 0, 1) := dk_42 (dk_at dksX5_isSign_0 8 rfl rfl)
theorem dX5_isSign_9 : decode cX5_isSign 9 = .ok (.getfield 53, 3) := dk_180 0 53 (dk_at dksX5_isSign_0 9 rfl rfl)
theorem dX5_isSign_12 : decode cX5_isSign 12 = .ok (.iload_n 1, 1) := dk_27 (dk_at dksX5_isSign_0 12 rfl rfl)
theorem dX5_isSign_13 : decode cX5_isSign 13 = .ok (.if_icmp .ne 7, 3) := dk_160 0 7 (dk_at dksX5_isSign_0 13 rfl rfl)
theorem dX5_isSign_16 : decode cX5_isSign 16 = .ok (.iconst 1, 1) := dk_4 (dk_at dksX5_isSign_0 16 rfl rfl)
theorem dX5_isSign_17 : decode cX5_isSign 17 = .ok (.goto 4, 3) := dk_167 0 4 (dk_at dksX5_isSign_0 17 rfl rfl)
theorem dX5_isSign_20 : decode cX5_isSign 20 = .ok (.iconst 0, 1) := dk_3 (dk_at dksX5_isSign_0 20 rfl rfl)
theorem dX5_isSign_21 : decode cX5_isSign 21 = .ok (.ireturn, 1) := dk_172 (dk_at dksX5_isSign_0 21 rfl rfl)
def dkwX5_number_0 : List UInt8 := [42, 27, 28, 182, 0, 89, 62, 42, 182, 0, 93, 29, 172]
abbrev dktX5_number_0 : List UInt8 := dkwX5_number_0 ++ []
theorem dksX5_number_0 : cX5_number.data.toList.drop 0 = dktX5_number_0 := by decide +kernel
theorem dX5_number_0 : decode cX5_number 0 = .ok (.aload_n 0, 1) := dk_42 (dk_at dksX5_number_0 0 rfl rfl)
theorem dX5_number_1 : decode cX5_number 1 = .ok (.iload_n 1, 1) := dk_27 (dk_at dksX5_number_0 1 rfl rfl)
theorem dX5_number_2 : decode cX5_number 2 = .ok (.iload_n 2, 1) := dk_28 (dk_at dksX5_number_0 2 rfl rfl)
theorem dX5_number_3 : decode cX5_number 3 = .ok (.invokevirtual 89, 3) := dk_182 0 89 (dk_at dksX5_number_0 3 rfl rfl)
theorem dX5_number_6 : decode cX5_number 6 = .ok (.istore_n 3, 1) := dk_62 (dk_at dksX5_number_0 6 rfl rfl)
theorem dX5_number_7 : decode cX5_number 7 = .ok (.aload_n 0, 1) := dk_42 (dk_at dksX5_number_0 7 rfl rfl)
theorem dX5_number_8 : decode cX5_number 8 = .ok (.invokevirtual 93, 3) := dk_182 0 93 (dk_at dksX5_number_0 8 rfl rfl)
theorem dX5_number_11 : decode cX5_number 11 = .ok (.iload_n 3, 1) := dk_29 (dk_at dksX5_number_0 11 rfl rfl)
theorem dX5_number_12 : decode cX5_number 12 = .ok (.ireturn, 1) := dk_172 (dk_at dksX5_number_0 12 rfl rfl)
def dkwX5_hold_1 : List UInt8 := [28, 184, 0, 83, 5, 182, 0, 79, 42, 180, 0, 56, 172]
abbrev dktX5_hold_1 : List UInt8 := dkwX5_hold_1 ++ []
def dkwX5_hold_0 : List UInt8 := [42, 42, 180, 0, 36, 6, 160, 0, 7, 4, 167, 0, 4, 3, 4, 182, 0, 79, 42, 42, 180, 0, 56, 27]
abbrev dktX5_hold_0 : List UInt8 := dkwX5_hold_0 ++ dktX5_hold_1
theorem dksX5_hold_0 : cX5_hold.data.toList.drop 0 = dktX5_hold_0 := by decide +kernel
theorem dksX5_hold_1 : cX5_hold.data.toList.drop 24 = dktX5_hold_1 := dk_seg dksX5_hold_0 24 rfl rfl
theorem dX5_hold_0 : decode cX5_hold 0 = .ok (.aload_n 0, 1) := dk_42 (dk_at dksX5_hold_0 0 rfl rfl)
theorem dX5_hold_1 : decode cX5_hold 1 = .ok (.aload_n 0, 1) := dk_42 (dk_at dksX5_hold_0 1 rfl rfl)
theorem dX5_hold_2 : decode cX5_hold 2 = .ok (.getfield 36, 3) := dk_180 0 36 (dk_at dksX5_hold_0 2 rfl rfl)
theorem dX5_hold_5 : decode cX5_hold 5 = .ok (.iconst 3, 1) := dk_6 (dk_at dksX5_hold_0 5 rfl rfl)
theorem dX5_hold_6 : decode cX5_hold 6 = .ok (.if_icmp .ne 7, 3) := dk_160 0 7 (dk_at dksX5_hold_0 6 rfl rfl)
theorem dX5_hold_9 : decode cX5_hold 9 = .ok (.iconst 1, 1) := dk_4 (dk_at dksX5_hold_0 9 rfl rfl)
theorem dX5_hold_10 : decode cX5_hold 10 = .ok (.goto 4, 3) := dk_167 0 4 (dk_at dksX5_hold_0 10 rfl rfl)
theorem dX5_hold_13 : decode cX5_hold 13 = .ok (.iconst 0, 1) := dk_3 (dk_at dksX5_hold_0 13 rfl rfl)
theorem dX5_hold_14 : decode cX5_hold 14 = .ok (.iconst 1, 1) := dk_4 (dk_at dksX5_hold_0 14 rfl rfl)
theorem dX5_hold_15 : decode cX5_hold 15 = .ok (.invokevirtual 79, 3) := dk_182 0 79 (dk_at dksX5_hold_0 15 rfl rfl)
theorem dX5_hold_18 : decode cX5_hold 18 = .ok (.aload_n 0, 1) := dk_42 (dk_at dksX5_hold_0 18 rfl rfl)
theorem dX5_hold_19 : decode cX5_hold 19 = .ok (.aload_n 0, 1) := dk_42 (dk_at dksX5_hold_0 19 rfl rfl)
theorem dX5_hold_20 : decode cX5_hold 20 = .ok (.getfield 56, 3) := dk_180 0 56 (dk_at dksX5_hold_0 20 rfl rfl)
theorem dX5_hold_23 : decode cX5_hold 23 = .ok (.iload_n 1, 1) := dk_27 (dk_at dksX5_hold_0 23 rfl rfl)
theorem dX5_hold_24 : decode cX5_hold 24 = .ok (.iload_n 2, 1) := dk_28 (dk_at dksX5_hold_1 0 rfl rfl)
theorem dX5_hold_25 : decode cX5_hold 25 = .ok (.invokestatic 83, 3) := dk_184 0 83 (dk_at dksX5_hold_1 1 rfl rfl)
theorem dX5_hold_28 : decode cX5_hold 28 = .ok (.iconst 2, 1) := dk_5 (dk_at dksX5_hold_1 4 rfl rfl)
theorem dX5_hold_29 : decode cX5_hold 29 = .ok (.invokevirtual 79, 3) := dk_182 0 79 (dk_at dksX5_hold_1 5 rfl rfl)
theorem dX5_hold_32 : decode cX5_hold 32 = .ok (.aload_n 0, 1) := dk_42 (dk_at dksX5_hold_1 8 rfl rfl)
theorem dX5_hold_33 : decode cX5_hold 33 = .ok (.getfield 56, 3) := dk_180 0 56 (dk_at dksX5_hold_1 9 rfl rfl)
theorem dX5_hold_36 : decode cX5_hold 36 = .ok (.ireturn, 1) := dk_172 (dk_at dksX5_hold_1 12 rfl rfl)
def dkwX5_end_0 : List UInt8 := [42, 42, 16, 59, 182, 0, 96, 4, 182, 0, 79, 42, 182, 0, 93, 177]
abbrev dktX5_end_0 : List UInt8 := dkwX5_end_0 ++ []
theorem dksX5_end_0 : cX5_end.data.toList.drop 0 = dktX5_end_0 := by decide +kernel
theorem dX5_end_0 : decode cX5_end 0 = .ok (.aload_n 0, 1) := dk_42 (dk_at dksX5_end_0 0 rfl rfl)
theorem dX5_end_1 : decode cX5_end 1 = .ok (.aload_n 0, 1) := dk_42 (dk_at dksX5_end_0 1 rfl rfl)
theorem dX5_end_2 : decode cX5_end 2 = .ok (.bipush 59, 2) := dk_16 59 (dk_at dksX5_end_0 2 rfl rfl)
theorem dX5_end_4 : decode cX5_end 4 = .ok (.invokevirtual 96, 3) := dk_182 0 96 (dk_at dksX5_end_0 4 rfl rfl)
theorem dX5_end_7 : decode cX5_end 7 = .ok (.iconst 1, 1) := dk_4 (dk_at dksX5_end_0 7 rfl rfl)
theorem dX5_end_8 : decode cX5_end 8 = .ok (.invokevirtual 79, 3) := dk_182 0 79 (dk_at dksX5_end_0 8 rfl rfl)
theorem dX5_end_11 : decode cX5_end 11 = .ok (.aload_n 0, 1) := dk_42 (dk_at dksX5_end_0 11 rfl rfl)
theorem dX5_end_12 : decode cX5_end 12 = .ok (.invokevirtual 93, 3) := dk_182 0 93 (dk_at dksX5_end_0 12 rfl rfl)
theorem dX5_end_15 : decode cX5_end 15 = .ok (.return_, 1) := dk_177 (dk_at dksX5_end_0 15 rfl rfl)
def dkwX6_init_0 : List UInt8 := [42, 43, 28, 17, 3, 132, 183, 0, 3, 42, 187, 0, 9, 89, 183, 0, 11, 181, 0, 14, 177]
abbrev dktX6_init_0 : List UInt8 := dkwX6_init_0 ++ []
theorem dksX6_init_0 : cX6_init.data.toList.drop 0 = dktX6_init_0 := by decide +kernel
theorem dX6_init_0 : decode cX6_init 0 = .ok (.aload_n 0, 1) := dk_42 (dk_at dksX6_init_0 0 rfl rfl)
theorem dX6_init_1 : decode cX6_init 1 = .ok (.aload_n 1, 1) := dk_43 (dk_at dksX6_init_0 1 rfl rfl)
theorem dX6_init_2 : decode cX6_init 2 = .ok (.iload_n 2, 1) := dk_28 (dk_at dksX6_init_0 2 rfl rfl)
theorem dX6_init_3 : decode cX6_init 3 = .ok (.sipush 900, 3) := dk_17 3 132 (dk_at dksX6_init_0 3 rfl rfl)
theorem dX6_init_6 : decode cX6_init 6 = .ok (.invokespecial 3, 3) := dk_183 0 3 (dk_at dksX6_init_0 6 rfl rfl)
theorem dX6_init_9 : decode cX6_init 9 = .ok (.aload_n 0, 1) := dk_42 (dk_at dksX6_init_0 9 rfl rfl)
theorem dX6_init_10 : decode cX6_init 10 = .ok (.new 9, 3) := dk_187 0 9 (dk_at dksX6_init_0 10 rfl rfl)
theorem dX6_init_13 : decode cX6_init 13 = .ok (.dup, 1) := dk_89 (dk_at dksX6_init_0 13 rfl rfl)
theorem dX6_init_14 : decode cX6_init 14 = .ok (.invokespecial 11, 3) := dk_183 0 11 (dk_at dksX6_init_0 14 rfl rfl)
theorem dX6_init_17 : decode cX6_init 17 = .ok (.putfield 14, 3) := dk_181 0 14 (dk_at dksX6_init_0 17 rfl rfl)
theorem dX6_init_20 : decode cX6_init 20 = .ok (.return_, 1) := dk_177 (dk_at dksX6_init_0 20 rfl rfl)
def dkwX6_read_7 : List UInt8 := [42, 180, 0, 14, 182, 0, 74, 176]
abbrev dktX6_read_7 : List UInt8 := dkwX6_read_7 ++ []
def dkwX6_read_6 : List UInt8 := [42, 182, 0, 65, 42, 182, 0, 68, 42, 180, 0, 14, 89, 180, 0, 71, 4, 96, 181, 0, 71, 167, 255, 97]
abbrev dktX6_read_6 : List UInt8 := dkwX6_read_6 ++ dktX6_read_7
def dkwX6_read_5 : List UInt8 := [42, 180, 0, 14, 180, 0, 63, 42, 3, 182, 0, 53, 42, 3, 17, 2, 88, 182, 0, 57, 79, 167, 0, 7]
abbrev dktX6_read_5 : List UInt8 := dkwX6_read_5 ++ dktX6_read_6
def dkwX6_read_4 : List UInt8 := [182, 0, 53, 42, 3, 17, 3, 231, 182, 0, 57, 79, 167, 0, 40, 42, 18, 61, 182, 0, 29, 153, 0, 27]
abbrev dktX6_read_4 : List UInt8 := dkwX6_read_4 ++ dktX6_read_5
def dkwX6_read_3 : List UInt8 := [182, 0, 40, 167, 0, 73, 42, 18, 48, 182, 0, 29, 153, 0, 27, 42, 180, 0, 14, 180, 0, 50, 42, 4]
abbrev dktX6_read_3 : List UInt8 := dkwX6_read_3 ++ dktX6_read_4
def dkwX6_read_2 : List UInt8 := [167, 0, 98, 42, 18, 44, 182, 0, 29, 153, 0, 19, 42, 42, 180, 0, 14, 180, 0, 46, 16, 6]
abbrev dktX6_read_2 : List UInt8 := dkwX6_read_2 ++ dktX6_read_3
def dkwX6_read_1 : List UInt8 := [167, 0, 122, 42, 18, 35, 182, 0, 29, 153, 0, 18, 42, 42, 180, 0, 14, 180, 0, 37, 3, 182, 0, 40]
abbrev dktX6_read_1 : List UInt8 := dkwX6_read_1 ++ dktX6_read_2
def dkwX6_read_0 : List UInt8 := [42, 182, 0, 20, 42, 180, 0, 23, 153, 0, 158, 42, 18, 27, 182, 0, 29, 153, 0, 10, 42, 182, 0, 33]
abbrev dktX6_read_0 : List UInt8 := dkwX6_read_0 ++ dktX6_read_1
theorem dksX6_read_0 : cX6_read.data.toList.drop 0 = dktX6_read_0 := by decide +kernel
theorem dksX6_read_1 : cX6_read.data.toList.drop 24 = dktX6_read_1 := dk_seg dksX6_read_0 24 rfl rfl
theorem dksX6_read_2 : cX6_read.data.toList.drop 48 = dktX6_read_2 := dk_seg dksX6_read_1 24 rfl rfl
theorem dksX6_read_3 : cX6_read.data.toList.drop 70 = dktX6_read_3 := dk_seg dksX6_read_2 22 rfl rfl
theorem dksX6_read_4 : cX6_read.data.toList.drop 94 = dktX6_read_4 := dk_seg dksX6_read_3 24 rfl rfl
theorem dksX6_read_5 : cX6_read.data.toList.drop 118 = dktX6_read_5 := dk_seg dksX6_read_4 24 rfl rfl
theorem dksX6_read_6 : cX6_read.data.toList.drop 142 = dktX6_read_6 := dk_seg dksX6_read_5 24 rfl rfl
theorem dksX6_read_7 : cX6_read.data.toList.drop 166 = dktX6_read_7 := dk_seg dksX6_read_6 24 rfl rfl
theorem dX6_read_0 : decode cX6_read 0 = .ok (.aload_n 0, 1) := dk_42 (dk_at dksX6_read_0 0 rfl rfl)
theorem dX6_read_1 : decode cX6_read 1 = .ok (.invokevirtual 20, 3) := dk_182 0 20 (dk_at dksX6_read_0 1 rfl rfl)
theorem dX6_read_4 : decode cX6_read 4 = .ok (.aload_n 0, 1) := dk_42 (dk_at dksX6_read_0 4 rfl rfl)
theorem dX6_read_5 : decode cX6_read 5 = .ok (.getfield 23, 3) := dk_180 0 23 (dk_at dksX6_read_0 5 rfl rfl)
theorem dX6_read_8 : decode cX6_read 8 = .ok (.ifCond .eq 158, 3) := dk_153 0 158 (dk_at dksX6_read_0 8 rfl rfl)
theorem dX6_read_11 : decode cX6_read 11 = .ok (.aload_n 0, 1) := dk_42 (dk_at dksX6_read_0 11 rfl rfl)
theorem dX6_read_12 : decode cX6_read 12 = .ok (.ldc 27, 2) := dk_18 27 (dk_at dksX6_read_0 12 rfl rfl)
theorem dX6_read_14 : decode cX6_read 14 = .ok (.invokevirtual 29, 3) := dk_182 0 29 (dk_at dksX6_read_0 14 rfl rfl)
theorem dX6_read_17 : decode cX6_read 17 = .ok (.ifCond .eq 10, 3) := dk_153 0 10 (dk_at dksX6_read_0 17 rfl rfl)
theorem dX6_read_20 : decode cX6_read 20 = .ok (.aload_n 0, 1) := dk_42 (dk_at dksX6_read_0 20 rfl rfl)
theorem dX6_read_21 : decode cX6_read 21 = .ok (.invokevirtual 33, 3) := dk_182 0 33 (dk_at dksX6_read_0 21 rfl rfl)
theorem dX6_read_24 : decode cX6_read 24 = .ok (.goto 122, 3) := dk_167 0 122 (dk_at dksX6_read_1 0 rfl rfl)
theorem dX6_read_27 : decode cX6_read 27 = .ok (.aload_n 0, 1) := dk_42 (dk_at dksX6_read_1 3 rfl rfl)
theorem dX6_read_28 : decode cX6_read 28 = .ok (.ldc 35, 2) := dk_18 35 (dk_at dksX6_read_1 4 rfl rfl)
theorem dX6_read_30 : decode cX6_read 30 = .ok (.invokevirtual 29, 3) := dk_182 0 29 (dk_at dksX6_read_1 6 rfl rfl)
theorem dX6_read_33 : decode cX6_read 33 = .ok (.ifCond .eq 18, 3) := dk_153 0 18 (dk_at dksX6_read_1 9 rfl rfl)
theorem dX6_read_36 : decode cX6_read 36 = .ok (.aload_n 0, 1) := dk_42 (dk_at dksX6_read_1 12 rfl rfl)
theorem dX6_read_37 : decode cX6_read 37 = .ok (.aload_n 0, 1) := dk_42 (dk_at dksX6_read_1 13 rfl rfl)
theorem dX6_read_38 : decode cX6_read 38 = .ok (.getfield 14, 3) := dk_180 0 14 (dk_at dksX6_read_1 14 rfl rfl)
theorem dX6_read_41 : decode cX6_read 41 = .ok (.getfield 37, 3) := dk_180 0 37 (dk_at dksX6_read_1 17 rfl rfl)
theorem dX6_read_44 : decode cX6_read 44 = .ok (.iconst 0, 1) := dk_3 (dk_at dksX6_read_1 20 rfl rfl)
theorem dX6_read_45 : decode cX6_read 45 = .ok (.invokevirtual 40, 3) := dk_182 0 40 (dk_at dksX6_read_1 21 rfl rfl)
theorem dX6_read_48 : decode cX6_read 48 = .ok (.goto 98, 3) := dk_167 0 98 (dk_at dksX6_read_2 0 rfl rfl)
theorem dX6_read_51 : decode cX6_read 51 = .ok (.aload_n 0, 1) := dk_42 (dk_at dksX6_read_2 3 rfl rfl)
theorem dX6_read_52 : decode cX6_read 52 = .ok (.ldc 44, 2) := dk_18 44 (dk_at dksX6_read_2 4 rfl rfl)
theorem dX6_read_54 : decode cX6_read 54 = .ok (.invokevirtual 29, 3) := dk_182 0 29 (dk_at dksX6_read_2 6 rfl rfl)
theorem dX6_read_57 : decode cX6_read 57 = .ok (.ifCond .eq 19, 3) := dk_153 0 19 (dk_at dksX6_read_2 9 rfl rfl)
theorem dX6_read_60 : decode cX6_read 60 = .ok (.aload_n 0, 1) := dk_42 (dk_at dksX6_read_2 12 rfl rfl)
theorem dX6_read_61 : decode cX6_read 61 = .ok (.aload_n 0, 1) := dk_42 (dk_at dksX6_read_2 13 rfl rfl)
theorem dX6_read_62 : decode cX6_read 62 = .ok (.getfield 14, 3) := dk_180 0 14 (dk_at dksX6_read_2 14 rfl rfl)
theorem dX6_read_65 : decode cX6_read 65 = .ok (.getfield 46, 3) := dk_180 0 46 (dk_at dksX6_read_2 17 rfl rfl)
theorem dX6_read_68 : decode cX6_read 68 = .ok (.bipush 6, 2) := dk_16 6 (dk_at dksX6_read_2 20 rfl rfl)
theorem dX6_read_70 : decode cX6_read 70 = .ok (.invokevirtual 40, 3) := dk_182 0 40 (dk_at dksX6_read_3 0 rfl rfl)
theorem dX6_read_73 : decode cX6_read 73 = .ok (.goto 73, 3) := dk_167 0 73 (dk_at dksX6_read_3 3 rfl rfl)
theorem dX6_read_76 : decode cX6_read 76 = .ok (.aload_n 0, 1) := dk_42 (dk_at dksX6_read_3 6 rfl rfl)
theorem dX6_read_77 : decode cX6_read 77 = .ok (.ldc 48, 2) := dk_18 48 (dk_at dksX6_read_3 7 rfl rfl)
theorem dX6_read_79 : decode cX6_read 79 = .ok (.invokevirtual 29, 3) := dk_182 0 29 (dk_at dksX6_read_3 9 rfl rfl)
theorem dX6_read_82 : decode cX6_read 82 = .ok (.ifCond .eq 27, 3) := dk_153 0 27 (dk_at dksX6_read_3 12 rfl rfl)
theorem dX6_read_85 : decode cX6_read 85 = .ok (.aload_n 0, 1) := dk_42 (dk_at dksX6_read_3 15 rfl rfl)
theorem dX6_read_86 : decode cX6_read 86 = .ok (.getfield 14, 3) := dk_180 0 14 (dk_at dksX6_read_3 16 rfl rfl)
theorem dX6_read_89 : decode cX6_read 89 = .ok (.getfield 50, 3) := dk_180 0 50 (dk_at dksX6_read_3 19 rfl rfl)
theorem dX6_read_92 : decode cX6_read 92 = .ok (.aload_n 0, 1) := dk_42 (dk_at dksX6_read_3 22 rfl rfl)
theorem dX6_read_93 : decode cX6_read 93 = .ok (.iconst 1, 1) := dk_4 (dk_at dksX6_read_3 23 rfl rfl)
theorem dX6_read_94 : decode cX6_read 94 = .ok (.invokevirtual 53, 3) := dk_182 0 53 (dk_at dksX6_read_4 0 rfl rfl)
theorem dX6_read_97 : decode cX6_read 97 = .ok (.aload_n 0, 1) := dk_42 (dk_at dksX6_read_4 3 rfl rfl)
theorem dX6_read_98 : decode cX6_read 98 = .ok (.iconst 0, 1) := dk_3 (dk_at dksX6_read_4 4 rfl rfl)
theorem dX6_read_99 : decode cX6_read 99 = .ok (.sipush 999, 3) := dk_17 3 231 (dk_at dksX6_read_4 5 rfl rfl)
theorem dX6_read_102 : decode cX6_read 102 = .ok (.invokevirtual 57, 3) := dk_182 0 57 (dk_at dksX6_read_4 8 rfl rfl)
theorem dX6_read_105 : decode cX6_read 105 = .ok (.iastore, 1) := dk_79 (dk_at dksX6_read_4 11 rfl rfl)
theorem dX6_read_106 : decode cX6_read 106 = .ok (.goto 40, 3) := dk_167 0 40 (dk_at dksX6_read_4 12 rfl rfl)
theorem dX6_read_109 : decode cX6_read 109 = .ok (.aload_n 0, 1) := dk_42 (dk_at dksX6_read_4 15 rfl rfl)
theorem dX6_read_110 : decode cX6_read 110 = .ok (.ldc 61, 2) := dk_18 61 (dk_at dksX6_read_4 16 rfl rfl)
theorem dX6_read_112 : decode cX6_read 112 = .ok (.invokevirtual 29, 3) := dk_182 0 29 (dk_at dksX6_read_4 18 rfl rfl)
theorem dX6_read_115 : decode cX6_read 115 = .ok (.ifCond .eq 27, 3) := dk_153 0 27 (dk_at dksX6_read_4 21 rfl rfl)
theorem dX6_read_118 : decode cX6_read 118 = .ok (.aload_n 0, 1) := dk_42 (dk_at dksX6_read_5 0 rfl rfl)
theorem dX6_read_119 : decode cX6_read 119 = .ok (.getfield 14, 3) := dk_180 0 14 (dk_at dksX6_read_5 1 rfl rfl)
theorem dX6_read_122 : decode cX6_read 122 = .ok (.getfield 63, 3) := dk_180 0 63 (dk_at dksX6_read_5 4 rfl rfl)
theorem dX6_read_125 : decode cX6_read 125 = .ok (.aload_n 0, 1) := dk_42 (dk_at dksX6_read_5 7 rfl rfl)
theorem dX6_read_126 : decode cX6_read 126 = .ok (.iconst 0, 1) := dk_3 (dk_at dksX6_read_5 8 rfl rfl)
theorem dX6_read_127 : decode cX6_read 127 = .ok (.invokevirtual 53, 3) := dk_182 0 53 (dk_at dksX6_read_5 9 rfl rfl)
theorem dX6_read_130 : decode cX6_read 130 = .ok (.aload_n 0, 1) := dk_42 (dk_at dksX6_read_5 12 rfl rfl)
theorem dX6_read_131 : decode cX6_read 131 = .ok (.iconst 0, 1) := dk_3 (dk_at dksX6_read_5 13 rfl rfl)
theorem dX6_read_132 : decode cX6_read 132 = .ok (.sipush 600, 3) := dk_17 2 88 (dk_at dksX6_read_5 14 rfl rfl)
theorem dX6_read_135 : decode cX6_read 135 = .ok (.invokevirtual 57, 3) := dk_182 0 57 (dk_at dksX6_read_5 17 rfl rfl)
theorem dX6_read_138 : decode cX6_read 138 = .ok (.iastore, 1) := dk_79 (dk_at dksX6_read_5 20 rfl rfl)
theorem dX6_read_139 : decode cX6_read 139 = .ok (.goto 7, 3) := dk_167 0 7 (dk_at dksX6_read_5 21 rfl rfl)
theorem dX6_read_142 : decode cX6_read 142 = .ok (.aload_n 0, 1) := dk_42 (dk_at dksX6_read_6 0 rfl rfl)
theorem dX6_read_143 : decode cX6_read 143 = .ok (.invokevirtual 65, 3) := dk_182 0 65 (dk_at dksX6_read_6 1 rfl rfl)
theorem dX6_read_146 : decode cX6_read 146 = .ok (.aload_n 0, 1) := dk_42 (dk_at dksX6_read_6 4 rfl rfl)
theorem dX6_read_147 : decode cX6_read 147 = .ok (.invokevirtual 68, 3) := dk_182 0 68 (dk_at dksX6_read_6 5 rfl rfl)
theorem dX6_read_150 : decode cX6_read 150 = .ok (.aload_n 0, 1) := dk_42 (dk_at dksX6_read_6 8 rfl rfl)
theorem dX6_read_151 : decode cX6_read 151 = .ok (.getfield 14, 3) := dk_180 0 14 (dk_at dksX6_read_6 9 rfl rfl)
theorem dX6_read_154 : decode cX6_read 154 = .ok (.dup, 1) := dk_89 (dk_at dksX6_read_6 12 rfl rfl)
theorem dX6_read_155 : decode cX6_read 155 = .ok (.getfield 71, 3) := dk_180 0 71 (dk_at dksX6_read_6 13 rfl rfl)
theorem dX6_read_158 : decode cX6_read 158 = .ok (.iconst 1, 1) := dk_4 (dk_at dksX6_read_6 16 rfl rfl)
theorem dX6_read_159 : decode cX6_read 159 = .ok (.iadd, 1) := dk_96 (dk_at dksX6_read_6 17 rfl rfl)
theorem dX6_read_160 : decode cX6_read 160 = .ok (.putfield 71, 3) := dk_181 0 71 (dk_at dksX6_read_6 18 rfl rfl)
theorem dX6_read_163 : decode cX6_read 163 = .ok (.goto (-159), 3) := dk_167 255 97 (dk_at dksX6_read_6 21 rfl rfl)
theorem dX6_read_166 : decode cX6_read 166 = .ok (.aload_n 0, 1) := dk_42 (dk_at dksX6_read_7 0 rfl rfl)
theorem dX6_read_167 : decode cX6_read 167 = .ok (.getfield 14, 3) := dk_180 0 14 (dk_at dksX6_read_7 1 rfl rfl)
theorem dX6_read_170 : decode cX6_read 170 = .ok (.invokevirtual 74, 3) := dk_182 0 74 (dk_at dksX6_read_7 4 rfl rfl)
theorem dX6_read_173 : decode cX6_read 173 = .ok (.areturn, 1) := dk_176 (dk_at dksX6_read_7 7 rfl rfl)
def dkwX6_row_10 : List UInt8 := [180, 0, 78, 4, 96, 181, 0, 78, 42, 182, 0, 20, 177]
abbrev dktX6_row_10 : List UInt8 := dkwX6_row_10 ++ []
def dkwX6_row_9 : List UInt8 := [180, 0, 85, 27, 182, 0, 98, 16, 97, 100, 79, 132, 1, 1, 167, 255, 188, 42, 180, 0, 14, 89]
abbrev dktX6_row_9 : List UInt8 := dkwX6_row_9 ++ dktX6_row_10
def dkwX6_row_8 : List UInt8 := [104, 27, 96, 42, 180, 0, 85, 27, 182, 0, 98, 16, 120, 160, 0, 8, 16, 9, 167, 0, 14, 42]
abbrev dktX6_row_8 : List UInt8 := dkwX6_row_8 ++ dktX6_row_9
def dkwX6_row_7 : List UInt8 := [162, 0, 63, 42, 180, 0, 14, 180, 0, 102, 42, 180, 0, 14, 180, 0, 95, 42, 180, 0, 14, 180, 0, 78]
abbrev dktX6_row_7 : List UInt8 := dkwX6_row_7 ++ dktX6_row_8
def dkwX6_row_6 : List UInt8 := [180, 0, 14, 42, 180, 0, 85, 182, 0, 89, 181, 0, 95, 3, 60, 27, 42, 180, 0, 14, 180, 0, 95]
abbrev dktX6_row_6 : List UInt8 := dkwX6_row_6 ++ dktX6_row_7
def dkwX6_row_5 : List UInt8 := [182, 0, 98, 16, 102, 163, 0, 7, 4, 167, 0, 4, 3, 5, 182, 0, 81, 132, 1, 1, 167, 255, 206, 42]
abbrev dktX6_row_5 : List UInt8 := dkwX6_row_5 ++ dktX6_row_6
def dkwX6_row_4 : List UInt8 := [162, 0, 45, 42, 42, 180, 0, 85, 27, 182, 0, 98, 16, 120, 159, 0, 16, 42, 180, 0, 85, 27]
abbrev dktX6_row_4 : List UInt8 := dkwX6_row_4 ++ dktX6_row_5
def dkwX6_row_3 : List UInt8 := [160, 0, 7, 4, 167, 0, 4, 3, 5, 182, 0, 81, 3, 60, 27, 42, 180, 0, 85, 182, 0, 89]
abbrev dktX6_row_3 : List UInt8 := dkwX6_row_3 ++ dktX6_row_4
def dkwX6_row_2 : List UInt8 := [180, 0, 14, 180, 0, 78, 153, 0, 20, 42, 180, 0, 85, 182, 0, 89, 42, 180, 0, 14, 180, 0, 95]
abbrev dktX6_row_2 : List UInt8 := dkwX6_row_2 ++ dktX6_row_3
def dkwX6_row_1 : List UInt8 := [182, 0, 20, 42, 42, 180, 0, 23, 5, 160, 0, 7, 4, 167, 0, 4, 3, 4, 182, 0, 81, 42, 42]
abbrev dktX6_row_1 : List UInt8 := dkwX6_row_1 ++ dktX6_row_2
def dkwX6_row_0 : List UInt8 := [42, 42, 180, 0, 14, 180, 0, 78, 16, 8, 162, 0, 7, 4, 167, 0, 4, 3, 7, 182, 0, 81, 42]
abbrev dktX6_row_0 : List UInt8 := dkwX6_row_0 ++ dktX6_row_1
theorem dksX6_row_0 : cX6_row.data.toList.drop 0 = dktX6_row_0 := by decide +kernel
theorem dksX6_row_1 : cX6_row.data.toList.drop 23 = dktX6_row_1 := dk_seg dksX6_row_0 23 rfl rfl
theorem dksX6_row_2 : cX6_row.data.toList.drop 46 = dktX6_row_2 := dk_seg dksX6_row_1 23 rfl rfl
theorem dksX6_row_3 : cX6_row.data.toList.drop 69 = dktX6_row_3 := dk_seg dksX6_row_2 23 rfl rfl
theorem dksX6_row_4 : cX6_row.data.toList.drop 91 = dktX6_row_4 := dk_seg dksX6_row_3 22 rfl rfl
theorem dksX6_row_5 : cX6_row.data.toList.drop 113 = dktX6_row_5 := dk_seg dksX6_row_4 22 rfl rfl
theorem dksX6_row_6 : cX6_row.data.toList.drop 137 = dktX6_row_6 := dk_seg dksX6_row_5 24 rfl rfl
theorem dksX6_row_7 : cX6_row.data.toList.drop 160 = dktX6_row_7 := dk_seg dksX6_row_6 23 rfl rfl
theorem dksX6_row_8 : cX6_row.data.toList.drop 184 = dktX6_row_8 := dk_seg dksX6_row_7 24 rfl rfl
theorem dksX6_row_9 : cX6_row.data.toList.drop 206 = dktX6_row_9 := dk_seg dksX6_row_8 22 rfl rfl
theorem dksX6_row_10 : cX6_row.data.toList.drop 228 = dktX6_row_10 := dk_seg dksX6_row_9 22 rfl rfl
theorem dX6_row_0 : decode cX6_row 0 = .ok (.aload_n 0, 1) := dk_42 (dk_at dksX6_row_0 0 rfl rfl)
theorem dX6_row_1 : decode cX6_row 1 = .ok (.aload_n 0, 1) := dk_42 (dk_at dksX6_row_0 1 rfl rfl)
theorem dX6_row_2 : decode cX6_row 2 = .ok (.getfield 14, 3) := dk_180 0 14 (dk_at dksX6_row_0 2 rfl rfl)
theorem dX6_row_5 : decode cX6_row 5 = .ok (.getfield 78, 3) := dk_180 0 78 (dk_at dksX6_row_0 5 rfl rfl)
theorem dX6_row_8 : decode cX6_row 8 = .ok (.bipush 8, 2) := dk_16 8 (dk_at dksX6_row_0 8 rfl rfl)
theorem dX6_row_10 : decode cX6_row 10 = .ok (.if_icmp .ge 7, 3) := dk_162 0 7 (dk_at dksX6_row_0 10 rfl rfl)
theorem dX6_row_13 : decode cX6_row 13 = .ok (.iconst 1, 1) := dk_4 (dk_at dksX6_row_0 13 rfl rfl)
theorem dX6_row_14 : decode cX6_row 14 = .ok (.goto 4, 3) := dk_167 0 4 (dk_at dksX6_row_0 14 rfl rfl)
theorem dX6_row_17 : decode cX6_row 17 = .ok (.iconst 0, 1) := dk_3 (dk_at dksX6_row_0 17 rfl rfl)
theorem dX6_row_18 : decode cX6_row 18 = .ok (.iconst 4, 1) := dk_7 (dk_at dksX6_row_0 18 rfl rfl)
theorem dX6_row_19 : decode cX6_row 19 = .ok (.invokevirtual 81, 3) := dk_182 0 81 (dk_at dksX6_row_0 19 rfl rfl)
theorem dX6_row_22 : decode cX6_row 22 = .ok (.aload_n 0, 1) := dk_42 (dk_at dksX6_row_0 22 rfl rfl)
theorem dX6_row_23 : decode cX6_row 23 = .ok (.invokevirtual 20, 3) := dk_182 0 20 (dk_at dksX6_row_1 0 rfl rfl)
theorem dX6_row_26 : decode cX6_row 26 = .ok (.aload_n 0, 1) := dk_42 (dk_at dksX6_row_1 3 rfl rfl)
theorem dX6_row_27 : decode cX6_row 27 = .ok (.aload_n 0, 1) := dk_42 (dk_at dksX6_row_1 4 rfl rfl)
theorem dX6_row_28 : decode cX6_row 28 = .ok (.getfield 23, 3) := dk_180 0 23 (dk_at dksX6_row_1 5 rfl rfl)
theorem dX6_row_31 : decode cX6_row 31 = .ok (.iconst 2, 1) := dk_5 (dk_at dksX6_row_1 8 rfl rfl)
theorem dX6_row_32 : decode cX6_row 32 = .ok (.if_icmp .ne 7, 3) := dk_160 0 7 (dk_at dksX6_row_1 9 rfl rfl)
theorem dX6_row_35 : decode cX6_row 35 = .ok (.iconst 1, 1) := dk_4 (dk_at dksX6_row_1 12 rfl rfl)
theorem dX6_row_36 : decode cX6_row 36 = .ok (.goto 4, 3) := dk_167 0 4 (dk_at dksX6_row_1 13 rfl rfl)
theorem dX6_row_39 : decode cX6_row 39 = .ok (.iconst 0, 1) := dk_3 (dk_at dksX6_row_1 16 rfl rfl)
theorem dX6_row_40 : decode cX6_row 40 = .ok (.iconst 1, 1) := dk_4 (dk_at dksX6_row_1 17 rfl rfl)
theorem dX6_row_41 : decode cX6_row 41 = .ok (.invokevirtual 81, 3) := dk_182 0 81 (dk_at dksX6_row_1 18 rfl rfl)
theorem dX6_row_44 : decode cX6_row 44 = .ok (.aload_n 0, 1) := dk_42 (dk_at dksX6_row_1 21 rfl rfl)
theorem dX6_row_45 : decode cX6_row 45 = .ok (.aload_n 0, 1) := dk_42 (dk_at dksX6_row_1 22 rfl rfl)
theorem dX6_row_46 : decode cX6_row 46 = .ok (.getfield 14, 3) := dk_180 0 14 (dk_at dksX6_row_2 0 rfl rfl)
theorem dX6_row_49 : decode cX6_row 49 = .ok (.getfield 78, 3) := dk_180 0 78 (dk_at dksX6_row_2 3 rfl rfl)
theorem dX6_row_52 : decode cX6_row 52 = .ok (.ifCond .eq 20, 3) := dk_153 0 20 (dk_at dksX6_row_2 6 rfl rfl)
theorem dX6_row_55 : decode cX6_row 55 = .ok (.aload_n 0, 1) := dk_42 (dk_at dksX6_row_2 9 rfl rfl)
theorem dX6_row_56 : decode cX6_row 56 = .ok (.getfield 85, 3) := dk_180 0 85 (dk_at dksX6_row_2 10 rfl rfl)
theorem dX6_row_59 : decode cX6_row 59 = .ok (.invokevirtual 89, 3) := dk_182 0 89 (dk_at dksX6_row_2 13 rfl rfl)
theorem dX6_row_62 : decode cX6_row 62 = .ok (.aload_n 0, 1) := dk_42 (dk_at dksX6_row_2 16 rfl rfl)
theorem dX6_row_63 : decode cX6_row 63 = .ok (.getfield 14, 3) := dk_180 0 14 (dk_at dksX6_row_2 17 rfl rfl)
theorem dX6_row_66 : decode cX6_row 66 = .ok (.getfield 95, 3) := dk_180 0 95 (dk_at dksX6_row_2 20 rfl rfl)
theorem dX6_row_69 : decode cX6_row 69 = .ok (.if_icmp .ne 7, 3) := dk_160 0 7 (dk_at dksX6_row_3 0 rfl rfl)
theorem dX6_row_72 : decode cX6_row 72 = .ok (.iconst 1, 1) := dk_4 (dk_at dksX6_row_3 3 rfl rfl)
theorem dX6_row_73 : decode cX6_row 73 = .ok (.goto 4, 3) := dk_167 0 4 (dk_at dksX6_row_3 4 rfl rfl)
theorem dX6_row_76 : decode cX6_row 76 = .ok (.iconst 0, 1) := dk_3 (dk_at dksX6_row_3 7 rfl rfl)
theorem dX6_row_77 : decode cX6_row 77 = .ok (.iconst 2, 1) := dk_5 (dk_at dksX6_row_3 8 rfl rfl)
theorem dX6_row_78 : decode cX6_row 78 = .ok (.invokevirtual 81, 3) := dk_182 0 81 (dk_at dksX6_row_3 9 rfl rfl)
theorem dX6_row_81 : decode cX6_row 81 = .ok (.iconst 0, 1) := dk_3 (dk_at dksX6_row_3 12 rfl rfl)
theorem dX6_row_82 : decode cX6_row 82 = .ok (.istore_n 1, 1) := dk_60 (dk_at dksX6_row_3 13 rfl rfl)
theorem dX6_row_83 : decode cX6_row 83 = .ok (.iload_n 1, 1) := dk_27 (dk_at dksX6_row_3 14 rfl rfl)
theorem dX6_row_84 : decode cX6_row 84 = .ok (.aload_n 0, 1) := dk_42 (dk_at dksX6_row_3 15 rfl rfl)
theorem dX6_row_85 : decode cX6_row 85 = .ok (.getfield 85, 3) := dk_180 0 85 (dk_at dksX6_row_3 16 rfl rfl)
theorem dX6_row_88 : decode cX6_row 88 = .ok (.invokevirtual 89, 3) := dk_182 0 89 (dk_at dksX6_row_3 19 rfl rfl)
theorem dX6_row_91 : decode cX6_row 91 = .ok (.if_icmp .ge 45, 3) := dk_162 0 45 (dk_at dksX6_row_4 0 rfl rfl)
theorem dX6_row_94 : decode cX6_row 94 = .ok (.aload_n 0, 1) := dk_42 (dk_at dksX6_row_4 3 rfl rfl)
theorem dX6_row_95 : decode cX6_row 95 = .ok (.aload_n 0, 1) := dk_42 (dk_at dksX6_row_4 4 rfl rfl)
theorem dX6_row_96 : decode cX6_row 96 = .ok (.getfield 85, 3) := dk_180 0 85 (dk_at dksX6_row_4 5 rfl rfl)
theorem dX6_row_99 : decode cX6_row 99 = .ok (.iload_n 1, 1) := dk_27 (dk_at dksX6_row_4 8 rfl rfl)
theorem dX6_row_100 : decode cX6_row 100 = .ok (.invokevirtual 98, 3) := dk_182 0 98 (dk_at dksX6_row_4 9 rfl rfl)
theorem dX6_row_103 : decode cX6_row 103 = .ok (.bipush 120, 2) := dk_16 120 (dk_at dksX6_row_4 12 rfl rfl)
theorem dX6_row_105 : decode cX6_row 105 = .ok (.if_icmp .eq 16, 3) := dk_159 0 16 (dk_at dksX6_row_4 14 rfl rfl)
theorem dX6_row_108 : decode cX6_row 108 = .ok (.aload_n 0, 1) := dk_42 (dk_at dksX6_row_4 17 rfl rfl)
theorem dX6_row_109 : decode cX6_row 109 = .ok (.getfield 85, 3) := dk_180 0 85 (dk_at dksX6_row_4 18 rfl rfl)
theorem dX6_row_112 : decode cX6_row 112 = .ok (.iload_n 1, 1) := dk_27 (dk_at dksX6_row_4 21 rfl rfl)
theorem dX6_row_113 : decode cX6_row 113 = .ok (.invokevirtual 98, 3) := dk_182 0 98 (dk_at dksX6_row_5 0 rfl rfl)
theorem dX6_row_116 : decode cX6_row 116 = .ok (.bipush 102, 2) := dk_16 102 (dk_at dksX6_row_5 3 rfl rfl)
theorem dX6_row_118 : decode cX6_row 118 = .ok (.if_icmp .gt 7, 3) := dk_163 0 7 (dk_at dksX6_row_5 5 rfl rfl)
theorem dX6_row_121 : decode cX6_row 121 = .ok (.iconst 1, 1) := dk_4 (dk_at dksX6_row_5 8 rfl rfl)
theorem dX6_row_122 : decode cX6_row 122 = .ok (.goto 4, 3) := dk_167 0 4 (dk_at dksX6_row_5 9 rfl rfl)
theorem dX6_row_125 : decode cX6_row 125 = .ok (.iconst 0, 1) := dk_3 (dk_at dksX6_row_5 12 rfl rfl)
theorem dX6_row_126 : decode cX6_row 126 = .ok (.iconst 2, 1) := dk_5 (dk_at dksX6_row_5 13 rfl rfl)
theorem dX6_row_127 : decode cX6_row 127 = .ok (.invokevirtual 81, 3) := dk_182 0 81 (dk_at dksX6_row_5 14 rfl rfl)
theorem dX6_row_130 : decode cX6_row 130 = .ok (.iinc 1 1, 3) := dk_132 1 1 (dk_at dksX6_row_5 17 rfl rfl)
theorem dX6_row_133 : decode cX6_row 133 = .ok (.goto (-50), 3) := dk_167 255 206 (dk_at dksX6_row_5 20 rfl rfl)
theorem dX6_row_136 : decode cX6_row 136 = .ok (.aload_n 0, 1) := dk_42 (dk_at dksX6_row_5 23 rfl rfl)
theorem dX6_row_137 : decode cX6_row 137 = .ok (.getfield 14, 3) := dk_180 0 14 (dk_at dksX6_row_6 0 rfl rfl)
theorem dX6_row_140 : decode cX6_row 140 = .ok (.aload_n 0, 1) := dk_42 (dk_at dksX6_row_6 3 rfl rfl)
theorem dX6_row_141 : decode cX6_row 141 = .ok (.getfield 85, 3) := dk_180 0 85 (dk_at dksX6_row_6 4 rfl rfl)
theorem dX6_row_144 : decode cX6_row 144 = .ok (.invokevirtual 89, 3) := dk_182 0 89 (dk_at dksX6_row_6 7 rfl rfl)
theorem dX6_row_147 : decode cX6_row 147 = .ok (.putfield 95, 3) := dk_181 0 95 (dk_at dksX6_row_6 10 rfl rfl)
theorem dX6_row_150 : decode cX6_row 150 = .ok (.iconst 0, 1) := dk_3 (dk_at dksX6_row_6 13 rfl rfl)
theorem dX6_row_151 : decode cX6_row 151 = .ok (.istore_n 1, 1) := dk_60 (dk_at dksX6_row_6 14 rfl rfl)
theorem dX6_row_152 : decode cX6_row 152 = .ok (.iload_n 1, 1) := dk_27 (dk_at dksX6_row_6 15 rfl rfl)
theorem dX6_row_153 : decode cX6_row 153 = .ok (.aload_n 0, 1) := dk_42 (dk_at dksX6_row_6 16 rfl rfl)
theorem dX6_row_154 : decode cX6_row 154 = .ok (.getfield 14, 3) := dk_180 0 14 (dk_at dksX6_row_6 17 rfl rfl)
theorem dX6_row_157 : decode cX6_row 157 = .ok (.getfield 95, 3) := dk_180 0 95 (dk_at dksX6_row_6 20 rfl rfl)
theorem dX6_row_160 : decode cX6_row 160 = .ok (.if_icmp .ge 63, 3) := dk_162 0 63 (dk_at dksX6_row_7 0 rfl rfl)
theorem dX6_row_163 : decode cX6_row 163 = .ok (.aload_n 0, 1) := dk_42 (dk_at dksX6_row_7 3 rfl rfl)
theorem dX6_row_164 : decode cX6_row 164 = .ok (.getfield 14, 3) := dk_180 0 14 (dk_at dksX6_row_7 4 rfl rfl)
theorem dX6_row_167 : decode cX6_row 167 = .ok (.getfield 102, 3) := dk_180 0 102 (dk_at dksX6_row_7 7 rfl rfl)
theorem dX6_row_170 : decode cX6_row 170 = .ok (.aload_n 0, 1) := dk_42 (dk_at dksX6_row_7 10 rfl rfl)
theorem dX6_row_171 : decode cX6_row 171 = .ok (.getfield 14, 3) := dk_180 0 14 (dk_at dksX6_row_7 11 rfl rfl)
theorem dX6_row_174 : decode cX6_row 174 = .ok (.getfield 95, 3) := dk_180 0 95 (dk_at dksX6_row_7 14 rfl rfl)
theorem dX6_row_177 : decode cX6_row 177 = .ok (.aload_n 0, 1) := dk_42 (dk_at dksX6_row_7 17 rfl rfl)
theorem dX6_row_178 : decode cX6_row 178 = .ok (.getfield 14, 3) := dk_180 0 14 (dk_at dksX6_row_7 18 rfl rfl)
theorem dX6_row_181 : decode cX6_row 181 = .ok (.getfield 78, 3) := dk_180 0 78 (dk_at dksX6_row_7 21 rfl rfl)
theorem dX6_row_184 : decode cX6_row 184 = .ok (.imul, 1) := dk_104 (dk_at dksX6_row_8 0 rfl rfl)
theorem dX6_row_185 : decode cX6_row 185 = .ok (.iload_n 1, 1) := dk_27 (dk_at dksX6_row_8 1 rfl rfl)
theorem dX6_row_186 : decode cX6_row 186 = .ok (.iadd, 1) := dk_96 (dk_at dksX6_row_8 2 rfl rfl)
theorem dX6_row_187 : decode cX6_row 187 = .ok (.aload_n 0, 1) := dk_42 (dk_at dksX6_row_8 3 rfl rfl)
theorem dX6_row_188 : decode cX6_row 188 = .ok (.getfield 85, 3) := dk_180 0 85 (dk_at dksX6_row_8 4 rfl rfl)
theorem dX6_row_191 : decode cX6_row 191 = .ok (.iload_n 1, 1) := dk_27 (dk_at dksX6_row_8 7 rfl rfl)
theorem dX6_row_192 : decode cX6_row 192 = .ok (.invokevirtual 98, 3) := dk_182 0 98 (dk_at dksX6_row_8 8 rfl rfl)
theorem dX6_row_195 : decode cX6_row 195 = .ok (.bipush 120, 2) := dk_16 120 (dk_at dksX6_row_8 11 rfl rfl)
theorem dX6_row_197 : decode cX6_row 197 = .ok (.if_icmp .ne 8, 3) := dk_160 0 8 (dk_at dksX6_row_8 13 rfl rfl)
theorem dX6_row_200 : decode cX6_row 200 = .ok (.bipush 9, 2) := dk_16 9 (dk_at dksX6_row_8 16 rfl rfl)
theorem dX6_row_202 : decode cX6_row 202 = .ok (.goto 14, 3) := dk_167 0 14 (dk_at dksX6_row_8 18 rfl rfl)
theorem dX6_row_205 : decode cX6_row 205 = .ok (.aload_n 0, 1) := dk_42 (dk_at dksX6_row_8 21 rfl rfl)
theorem dX6_row_206 : decode cX6_row 206 = .ok (.getfield 85, 3) := dk_180 0 85 (dk_at dksX6_row_9 0 rfl rfl)
theorem dX6_row_209 : decode cX6_row 209 = .ok (.iload_n 1, 1) := dk_27 (dk_at dksX6_row_9 3 rfl rfl)
theorem dX6_row_210 : decode cX6_row 210 = .ok (.invokevirtual 98, 3) := dk_182 0 98 (dk_at dksX6_row_9 4 rfl rfl)
theorem dX6_row_213 : decode cX6_row 213 = .ok (.bipush 97, 2) := dk_16 97 (dk_at dksX6_row_9 7 rfl rfl)
theorem dX6_row_215 : decode cX6_row 215 = .ok (.isub, 1) := dk_100 (dk_at dksX6_row_9 9 rfl rfl)
theorem dX6_row_216 : decode cX6_row 216 = .ok (.iastore, 1) := dk_79 (dk_at dksX6_row_9 10 rfl rfl)
theorem dX6_row_217 : decode cX6_row 217 = .ok (.iinc 1 1, 3) := dk_132 1 1 (dk_at dksX6_row_9 11 rfl rfl)
theorem dX6_row_220 : decode cX6_row 220 = .ok (.goto (-68), 3) := dk_167 255 188 (dk_at dksX6_row_9 14 rfl rfl)
theorem dX6_row_223 : decode cX6_row 223 = .ok (.aload_n 0, 1) := dk_42 (dk_at dksX6_row_9 17 rfl rfl)
theorem dX6_row_224 : decode cX6_row 224 = .ok (.getfield 14, 3) := dk_180 0 14 (dk_at dksX6_row_9 18 rfl rfl)
theorem dX6_row_227 : decode cX6_row 227 = .ok (.dup, 1) := dk_89 (dk_at dksX6_row_9 21 rfl rfl)
theorem dX6_row_228 : decode cX6_row 228 = .ok (.getfield 78, 3) := dk_180 0 78 (dk_at dksX6_row_10 0 rfl rfl)
theorem dX6_row_231 : decode cX6_row 231 = .ok (.iconst 1, 1) := dk_4 (dk_at dksX6_row_10 3 rfl rfl)
theorem dX6_row_232 : decode cX6_row 232 = .ok (.iadd, 1) := dk_96 (dk_at dksX6_row_10 4 rfl rfl)
theorem dX6_row_233 : decode cX6_row 233 = .ok (.putfield 78, 3) := dk_181 0 78 (dk_at dksX6_row_10 5 rfl rfl)
theorem dX6_row_236 : decode cX6_row 236 = .ok (.aload_n 0, 1) := dk_42 (dk_at dksX6_row_10 8 rfl rfl)
theorem dX6_row_237 : decode cX6_row 237 = .ok (.invokevirtual 20, 3) := dk_182 0 20 (dk_at dksX6_row_10 9 rfl rfl)
theorem dX6_row_240 : decode cX6_row 240 = .ok (.return_, 1) := dk_177 (dk_at dksX6_row_10 12 rfl rfl)
def dkwX6_law_5 : List UInt8 := [79, 177]
abbrev dktX6_law_5 : List UInt8 := dkwX6_law_5 ++ []
def dkwX6_law_4 : List UInt8 := [181, 0, 120, 43, 29, 42, 182, 0, 123, 83, 42, 180, 0, 14, 180, 0, 127, 28, 29, 96, 42, 180, 0, 117]
abbrev dktX6_law_4 : List UInt8 := dkwX6_law_4 ++ dktX6_law_5
def dkwX6_law_3 : List UInt8 := [199, 0, 7, 4, 167, 0, 4, 3, 6, 182, 0, 81, 42, 182, 0, 20, 42, 3, 181, 0, 117, 42, 3]
abbrev dktX6_law_3 : List UInt8 := dkwX6_law_3 ++ dktX6_law_4
def dkwX6_law_2 : List UInt8 := [167, 0, 4, 3, 5, 182, 0, 81, 42, 180, 0, 85, 3, 182, 0, 98, 16, 97, 100, 62, 42, 43, 29, 50]
abbrev dktX6_law_2 : List UInt8 := dkwX6_law_2 ++ dktX6_law_3
def dkwX6_law_1 : List UInt8 := [180, 0, 85, 182, 0, 89, 4, 160, 0, 20, 42, 180, 0, 85, 3, 182, 0, 98, 16, 102, 163, 0, 7, 4]
abbrev dktX6_law_1 : List UInt8 := dkwX6_law_1 ++ dktX6_law_2
def dkwX6_law_0 : List UInt8 := [42, 182, 0, 20, 42, 42, 180, 0, 23, 5, 160, 0, 7, 4, 167, 0, 4, 3, 4, 182, 0, 81, 42, 42]
abbrev dktX6_law_0 : List UInt8 := dkwX6_law_0 ++ dktX6_law_1
theorem dksX6_law_0 : cX6_law.data.toList.drop 0 = dktX6_law_0 := by decide +kernel
theorem dksX6_law_1 : cX6_law.data.toList.drop 24 = dktX6_law_1 := dk_seg dksX6_law_0 24 rfl rfl
theorem dksX6_law_2 : cX6_law.data.toList.drop 48 = dktX6_law_2 := dk_seg dksX6_law_1 24 rfl rfl
theorem dksX6_law_3 : cX6_law.data.toList.drop 72 = dktX6_law_3 := dk_seg dksX6_law_2 24 rfl rfl
theorem dksX6_law_4 : cX6_law.data.toList.drop 95 = dktX6_law_4 := dk_seg dksX6_law_3 23 rfl rfl
theorem dksX6_law_5 : cX6_law.data.toList.drop 119 = dktX6_law_5 := dk_seg dksX6_law_4 24 rfl rfl
theorem dX6_law_0 : decode cX6_law 0 = .ok (.aload_n 0, 1) := dk_42 (dk_at dksX6_law_0 0 rfl rfl)
theorem dX6_law_1 : decode cX6_law 1 = .ok (.invokevirtual 20, 3) := dk_182 0 20 (dk_at dksX6_law_0 1 rfl rfl)
theorem dX6_law_4 : decode cX6_law 4 = .ok (.aload_n 0, 1) := dk_42 (dk_at dksX6_law_0 4 rfl rfl)
theorem dX6_law_5 : decode cX6_law 5 = .ok (.aload_n 0, 1) := dk_42 (dk_at dksX6_law_0 5 rfl rfl)
theorem dX6_law_6 : decode cX6_law 6 = .ok (.getfield 23, 3) := dk_180 0 23 (dk_at dksX6_law_0 6 rfl rfl)
theorem dX6_law_9 : decode cX6_law 9 = .ok (.iconst 2, 1) := dk_5 (dk_at dksX6_law_0 9 rfl rfl)
theorem dX6_law_10 : decode cX6_law 10 = .ok (.if_icmp .ne 7, 3) := dk_160 0 7 (dk_at dksX6_law_0 10 rfl rfl)
theorem dX6_law_13 : decode cX6_law 13 = .ok (.iconst 1, 1) := dk_4 (dk_at dksX6_law_0 13 rfl rfl)
theorem dX6_law_14 : decode cX6_law 14 = .ok (.goto 4, 3) := dk_167 0 4 (dk_at dksX6_law_0 14 rfl rfl)
theorem dX6_law_17 : decode cX6_law 17 = .ok (.iconst 0, 1) := dk_3 (dk_at dksX6_law_0 17 rfl rfl)
theorem dX6_law_18 : decode cX6_law 18 = .ok (.iconst 1, 1) := dk_4 (dk_at dksX6_law_0 18 rfl rfl)
theorem dX6_law_19 : decode cX6_law 19 = .ok (.invokevirtual 81, 3) := dk_182 0 81 (dk_at dksX6_law_0 19 rfl rfl)
theorem dX6_law_22 : decode cX6_law 22 = .ok (.aload_n 0, 1) := dk_42 (dk_at dksX6_law_0 22 rfl rfl)
theorem dX6_law_23 : decode cX6_law 23 = .ok (.aload_n 0, 1) := dk_42 (dk_at dksX6_law_0 23 rfl rfl)
theorem dX6_law_24 : decode cX6_law 24 = .ok (.getfield 85, 3) := dk_180 0 85 (dk_at dksX6_law_1 0 rfl rfl)
theorem dX6_law_27 : decode cX6_law 27 = .ok (.invokevirtual 89, 3) := dk_182 0 89 (dk_at dksX6_law_1 3 rfl rfl)
theorem dX6_law_30 : decode cX6_law 30 = .ok (.iconst 1, 1) := dk_4 (dk_at dksX6_law_1 6 rfl rfl)
theorem dX6_law_31 : decode cX6_law 31 = .ok (.if_icmp .ne 20, 3) := dk_160 0 20 (dk_at dksX6_law_1 7 rfl rfl)
theorem dX6_law_34 : decode cX6_law 34 = .ok (.aload_n 0, 1) := dk_42 (dk_at dksX6_law_1 10 rfl rfl)
theorem dX6_law_35 : decode cX6_law 35 = .ok (.getfield 85, 3) := dk_180 0 85 (dk_at dksX6_law_1 11 rfl rfl)
theorem dX6_law_38 : decode cX6_law 38 = .ok (.iconst 0, 1) := dk_3 (dk_at dksX6_law_1 14 rfl rfl)
theorem dX6_law_39 : decode cX6_law 39 = .ok (.invokevirtual 98, 3) := dk_182 0 98 (dk_at dksX6_law_1 15 rfl rfl)
theorem dX6_law_42 : decode cX6_law 42 = .ok (.bipush 102, 2) := dk_16 102 (dk_at dksX6_law_1 18 rfl rfl)
theorem dX6_law_44 : decode cX6_law 44 = .ok (.if_icmp .gt 7, 3) := dk_163 0 7 (dk_at dksX6_law_1 20 rfl rfl)
theorem dX6_law_47 : decode cX6_law 47 = .ok (.iconst 1, 1) := dk_4 (dk_at dksX6_law_1 23 rfl rfl)
theorem dX6_law_48 : decode cX6_law 48 = .ok (.goto 4, 3) := dk_167 0 4 (dk_at dksX6_law_2 0 rfl rfl)
theorem dX6_law_51 : decode cX6_law 51 = .ok (.iconst 0, 1) := dk_3 (dk_at dksX6_law_2 3 rfl rfl)
theorem dX6_law_52 : decode cX6_law 52 = .ok (.iconst 2, 1) := dk_5 (dk_at dksX6_law_2 4 rfl rfl)
theorem dX6_law_53 : decode cX6_law 53 = .ok (.invokevirtual 81, 3) := dk_182 0 81 (dk_at dksX6_law_2 5 rfl rfl)
theorem dX6_law_56 : decode cX6_law 56 = .ok (.aload_n 0, 1) := dk_42 (dk_at dksX6_law_2 8 rfl rfl)
theorem dX6_law_57 : decode cX6_law 57 = .ok (.getfield 85, 3) := dk_180 0 85 (dk_at dksX6_law_2 9 rfl rfl)
theorem dX6_law_60 : decode cX6_law 60 = .ok (.iconst 0, 1) := dk_3 (dk_at dksX6_law_2 12 rfl rfl)
theorem dX6_law_61 : decode cX6_law 61 = .ok (.invokevirtual 98, 3) := dk_182 0 98 (dk_at dksX6_law_2 13 rfl rfl)
theorem dX6_law_64 : decode cX6_law 64 = .ok (.bipush 97, 2) := dk_16 97 (dk_at dksX6_law_2 16 rfl rfl)
theorem dX6_law_66 : decode cX6_law 66 = .ok (.isub, 1) := dk_100 (dk_at dksX6_law_2 18 rfl rfl)
theorem dX6_law_67 : decode cX6_law 67 = .ok (.istore_n 3, 1) := dk_62 (dk_at dksX6_law_2 19 rfl rfl)
theorem dX6_law_68 : decode cX6_law 68 = .ok (.aload_n 0, 1) := dk_42 (dk_at dksX6_law_2 20 rfl rfl)
theorem dX6_law_69 : decode cX6_law 69 = .ok (.aload_n 1, 1) := dk_43 (dk_at dksX6_law_2 21 rfl rfl)
theorem dX6_law_70 : decode cX6_law 70 = .ok (.iload_n 3, 1) := dk_29 (dk_at dksX6_law_2 22 rfl rfl)
theorem dX6_law_71 : decode cX6_law 71 = .ok (.aaload, 1) := dk_50 (dk_at dksX6_law_2 23 rfl rfl)
theorem dX6_law_72 : decode cX6_law 72 = .ok (.ifnonnull 7, 3) := dk_199 0 7 (dk_at dksX6_law_3 0 rfl rfl)
theorem dX6_law_75 : decode cX6_law 75 = .ok (.iconst 1, 1) := dk_4 (dk_at dksX6_law_3 3 rfl rfl)
theorem dX6_law_76 : decode cX6_law 76 = .ok (.goto 4, 3) := dk_167 0 4 (dk_at dksX6_law_3 4 rfl rfl)
theorem dX6_law_79 : decode cX6_law 79 = .ok (.iconst 0, 1) := dk_3 (dk_at dksX6_law_3 7 rfl rfl)
theorem dX6_law_80 : decode cX6_law 80 = .ok (.iconst 3, 1) := dk_6 (dk_at dksX6_law_3 8 rfl rfl)
theorem dX6_law_81 : decode cX6_law 81 = .ok (.invokevirtual 81, 3) := dk_182 0 81 (dk_at dksX6_law_3 9 rfl rfl)
theorem dX6_law_84 : decode cX6_law 84 = .ok (.aload_n 0, 1) := dk_42 (dk_at dksX6_law_3 12 rfl rfl)
theorem dX6_law_85 : decode cX6_law 85 = .ok (.invokevirtual 20, 3) := dk_182 0 20 (dk_at dksX6_law_3 13 rfl rfl)
theorem dX6_law_88 : decode cX6_law 88 = .ok (.aload_n 0, 1) := dk_42 (dk_at dksX6_law_3 16 rfl rfl)
theorem dX6_law_89 : decode cX6_law 89 = .ok (.iconst 0, 1) := dk_3 (dk_at dksX6_law_3 17 rfl rfl)
theorem dX6_law_90 : decode cX6_law 90 = .ok (.putfield 117, 3) := dk_181 0 117 (dk_at dksX6_law_3 18 rfl rfl)
theorem dX6_law_93 : decode cX6_law 93 = .ok (.aload_n 0, 1) := dk_42 (dk_at dksX6_law_3 21 rfl rfl)
theorem dX6_law_94 : decode cX6_law 94 = .ok (.iconst 0, 1) := dk_3 (dk_at dksX6_law_3 22 rfl rfl)
theorem dX6_law_95 : decode cX6_law 95 = .ok (.putfield 120, 3) := dk_181 0 120 (dk_at dksX6_law_4 0 rfl rfl)
theorem dX6_law_98 : decode cX6_law 98 = .ok (.aload_n 1, 1) := dk_43 (dk_at dksX6_law_4 3 rfl rfl)
theorem dX6_law_99 : decode cX6_law 99 = .ok (.iload_n 3, 1) := dk_29 (dk_at dksX6_law_4 4 rfl rfl)
theorem dX6_law_100 : decode cX6_law 100 = .ok (.aload_n 0, 1) := dk_42 (dk_at dksX6_law_4 5 rfl rfl)
theorem dX6_law_101 : decode cX6_law 101 = .ok (.invokevirtual 123, 3) := dk_182 0 123 (dk_at dksX6_law_4 6 rfl rfl)
theorem dX6_law_104 : decode cX6_law 104 = .ok (.aastore, 1) := dk_83 (dk_at dksX6_law_4 9 rfl rfl)
theorem dX6_law_105 : decode cX6_law 105 = .ok (.aload_n 0, 1) := dk_42 (dk_at dksX6_law_4 10 rfl rfl)
theorem dX6_law_106 : decode cX6_law 106 = .ok (.getfield 14, 3) := dk_180 0 14 (dk_at dksX6_law_4 11 rfl rfl)
theorem dX6_law_109 : decode cX6_law 109 = .ok (.getfield 127, 3) := dk_180 0 127 (dk_at dksX6_law_4 14 rfl rfl)
theorem dX6_law_112 : decode cX6_law 112 = .ok (.iload_n 2, 1) := dk_28 (dk_at dksX6_law_4 17 rfl rfl)
theorem dX6_law_113 : decode cX6_law 113 = .ok (.iload_n 3, 1) := dk_29 (dk_at dksX6_law_4 18 rfl rfl)
theorem dX6_law_114 : decode cX6_law 114 = .ok (.iadd, 1) := dk_96 (dk_at dksX6_law_4 19 rfl rfl)
theorem dX6_law_115 : decode cX6_law 115 = .ok (.aload_n 0, 1) := dk_42 (dk_at dksX6_law_4 20 rfl rfl)
theorem dX6_law_116 : decode cX6_law 116 = .ok (.getfield 117, 3) := dk_180 0 117 (dk_at dksX6_law_4 21 rfl rfl)
theorem dX6_law_119 : decode cX6_law 119 = .ok (.iastore, 1) := dk_79 (dk_at dksX6_law_5 0 rfl rfl)
theorem dX6_law_120 : decode cX6_law 120 = .ok (.return_, 1) := dk_177 (dk_at dksX6_law_5 1 rfl rfl)
def dkwX6_or_1 : List UInt8 := [182, 0, 145, 183, 0, 151, 76, 167, 255, 230, 43, 176]
abbrev dktX6_or_1 : List UInt8 := dkwX6_or_1 ++ []
def dkwX6_or_0 : List UInt8 := [42, 182, 0, 145, 76, 42, 18, 148, 182, 0, 29, 153, 0, 23, 42, 182, 0, 20, 187, 0, 149, 89, 43, 42]
abbrev dktX6_or_0 : List UInt8 := dkwX6_or_0 ++ dktX6_or_1
theorem dksX6_or_0 : cX6_or.data.toList.drop 0 = dktX6_or_0 := by decide +kernel
theorem dksX6_or_1 : cX6_or.data.toList.drop 24 = dktX6_or_1 := dk_seg dksX6_or_0 24 rfl rfl
theorem dX6_or_0 : decode cX6_or 0 = .ok (.aload_n 0, 1) := dk_42 (dk_at dksX6_or_0 0 rfl rfl)
theorem dX6_or_1 : decode cX6_or 1 = .ok (.invokevirtual 145, 3) := dk_182 0 145 (dk_at dksX6_or_0 1 rfl rfl)
theorem dX6_or_4 : decode cX6_or 4 = .ok (.astore_n 1, 1) := dk_76 (dk_at dksX6_or_0 4 rfl rfl)
theorem dX6_or_5 : decode cX6_or 5 = .ok (.aload_n 0, 1) := dk_42 (dk_at dksX6_or_0 5 rfl rfl)
theorem dX6_or_6 : decode cX6_or 6 = .ok (.ldc 148, 2) := dk_18 148 (dk_at dksX6_or_0 6 rfl rfl)
theorem dX6_or_8 : decode cX6_or 8 = .ok (.invokevirtual 29, 3) := dk_182 0 29 (dk_at dksX6_or_0 8 rfl rfl)
theorem dX6_or_11 : decode cX6_or 11 = .ok (.ifCond .eq 23, 3) := dk_153 0 23 (dk_at dksX6_or_0 11 rfl rfl)
theorem dX6_or_14 : decode cX6_or 14 = .ok (.aload_n 0, 1) := dk_42 (dk_at dksX6_or_0 14 rfl rfl)
theorem dX6_or_15 : decode cX6_or 15 = .ok (.invokevirtual 20, 3) := dk_182 0 20 (dk_at dksX6_or_0 15 rfl rfl)
theorem dX6_or_18 : decode cX6_or 18 = .ok (.new 149, 3) := dk_187 0 149 (dk_at dksX6_or_0 18 rfl rfl)
theorem dX6_or_21 : decode cX6_or 21 = .ok (.dup, 1) := dk_89 (dk_at dksX6_or_0 21 rfl rfl)
theorem dX6_or_22 : decode cX6_or 22 = .ok (.aload_n 1, 1) := dk_43 (dk_at dksX6_or_0 22 rfl rfl)
theorem dX6_or_23 : decode cX6_or 23 = .ok (.aload_n 0, 1) := dk_42 (dk_at dksX6_or_0 23 rfl rfl)
theorem dX6_or_24 : decode cX6_or 24 = .ok (.invokevirtual 145, 3) := dk_182 0 145 (dk_at dksX6_or_1 0 rfl rfl)
theorem dX6_or_27 : decode cX6_or 27 = .ok (.invokespecial 151, 3) := dk_183 0 151 (dk_at dksX6_or_1 3 rfl rfl)
theorem dX6_or_30 : decode cX6_or 30 = .ok (.astore_n 1, 1) := dk_76 (dk_at dksX6_or_1 6 rfl rfl)
theorem dX6_or_31 : decode cX6_or 31 = .ok (.goto (-26), 3) := dk_167 255 230 (dk_at dksX6_or_1 7 rfl rfl)
theorem dX6_or_34 : decode cX6_or 34 = .ok (.aload_n 1, 1) := dk_43 (dk_at dksX6_or_1 10 rfl rfl)
theorem dX6_or_35 : decode cX6_or 35 = .ok (.areturn, 1) := dk_176 (dk_at dksX6_or_1 11 rfl rfl)
def dkwX6_and_1 : List UInt8 := [182, 0, 154, 183, 0, 160, 76, 167, 255, 230, 43, 176]
abbrev dktX6_and_1 : List UInt8 := dkwX6_and_1 ++ []
def dkwX6_and_0 : List UInt8 := [42, 182, 0, 154, 76, 42, 18, 157, 182, 0, 29, 153, 0, 23, 42, 182, 0, 20, 187, 0, 158, 89, 43, 42]
abbrev dktX6_and_0 : List UInt8 := dkwX6_and_0 ++ dktX6_and_1
theorem dksX6_and_0 : cX6_and.data.toList.drop 0 = dktX6_and_0 := by decide +kernel
theorem dksX6_and_1 : cX6_and.data.toList.drop 24 = dktX6_and_1 := dk_seg dksX6_and_0 24 rfl rfl
theorem dX6_and_0 : decode cX6_and 0 = .ok (.aload_n 0, 1) := dk_42 (dk_at dksX6_and_0 0 rfl rfl)
theorem dX6_and_1 : decode cX6_and 1 = .ok (.invokevirtual 154, 3) := dk_182 0 154 (dk_at dksX6_and_0 1 rfl rfl)
theorem dX6_and_4 : decode cX6_and 4 = .ok (.astore_n 1, 1) := dk_76 (dk_at dksX6_and_0 4 rfl rfl)
theorem dX6_and_5 : decode cX6_and 5 = .ok (.aload_n 0, 1) := dk_42 (dk_at dksX6_and_0 5 rfl rfl)
theorem dX6_and_6 : decode cX6_and 6 = .ok (.ldc 157, 2) := dk_18 157 (dk_at dksX6_and_0 6 rfl rfl)
theorem dX6_and_8 : decode cX6_and 8 = .ok (.invokevirtual 29, 3) := dk_182 0 29 (dk_at dksX6_and_0 8 rfl rfl)
theorem dX6_and_11 : decode cX6_and 11 = .ok (.ifCond .eq 23, 3) := dk_153 0 23 (dk_at dksX6_and_0 11 rfl rfl)
theorem dX6_and_14 : decode cX6_and 14 = .ok (.aload_n 0, 1) := dk_42 (dk_at dksX6_and_0 14 rfl rfl)
theorem dX6_and_15 : decode cX6_and 15 = .ok (.invokevirtual 20, 3) := dk_182 0 20 (dk_at dksX6_and_0 15 rfl rfl)
theorem dX6_and_18 : decode cX6_and 18 = .ok (.new 158, 3) := dk_187 0 158 (dk_at dksX6_and_0 18 rfl rfl)
theorem dX6_and_21 : decode cX6_and 21 = .ok (.dup, 1) := dk_89 (dk_at dksX6_and_0 21 rfl rfl)
theorem dX6_and_22 : decode cX6_and 22 = .ok (.aload_n 1, 1) := dk_43 (dk_at dksX6_and_0 22 rfl rfl)
theorem dX6_and_23 : decode cX6_and 23 = .ok (.aload_n 0, 1) := dk_42 (dk_at dksX6_and_0 23 rfl rfl)
theorem dX6_and_24 : decode cX6_and 24 = .ok (.invokevirtual 154, 3) := dk_182 0 154 (dk_at dksX6_and_1 0 rfl rfl)
theorem dX6_and_27 : decode cX6_and 27 = .ok (.invokespecial 160, 3) := dk_183 0 160 (dk_at dksX6_and_1 3 rfl rfl)
theorem dX6_and_30 : decode cX6_and 30 = .ok (.astore_n 1, 1) := dk_76 (dk_at dksX6_and_1 6 rfl rfl)
theorem dX6_and_31 : decode cX6_and 31 = .ok (.goto (-26), 3) := dk_167 255 230 (dk_at dksX6_and_1 7 rfl rfl)
theorem dX6_and_34 : decode cX6_and 34 = .ok (.aload_n 1, 1) := dk_43 (dk_at dksX6_and_1 10 rfl rfl)
theorem dX6_and_35 : decode cX6_and 35 = .ok (.areturn, 1) := dk_176 (dk_at dksX6_and_1 11 rfl rfl)
def dkwX6_one_7 : List UInt8 := [21, 4, 29, 182, 0, 191, 58, 5, 42, 89, 180, 0, 120, 4, 100, 181, 0, 120, 25, 5, 176]
abbrev dktX6_one_7 : List UInt8 := dkwX6_one_7 ++ []
def dkwX6_one_6 : List UInt8 := [167, 0, 32, 28, 153, 0, 19, 187, 0, 186, 89, 42, 182, 0, 154, 183, 0, 188, 58, 5, 167, 0, 12, 42]
abbrev dktX6_one_6 : List UInt8 := dkwX6_one_6 ++ dktX6_one_7
def dkwX6_one_5 : List UInt8 := [153, 0, 27, 42, 182, 0, 123, 58, 5, 42, 42, 16, 41, 182, 0, 173, 4, 182, 0, 81, 42, 182, 0, 20]
abbrev dktX6_one_5 : List UInt8 := dkwX6_one_5 ++ dktX6_one_6
def dkwX6_one_4 : List UInt8 := [89, 180, 0, 117, 4, 96, 181, 0, 117, 42, 89, 180, 0, 120, 4, 96, 181, 0, 120, 42, 182, 0, 20, 27]
abbrev dktX6_one_4 : List UInt8 := dkwX6_one_4 ++ dktX6_one_5
def dkwX6_one_3 : List UInt8 := [16, 20, 162, 0, 16, 42, 180, 0, 120, 16, 8, 162, 0, 7, 4, 167, 0, 4, 3, 7, 182, 0, 81, 42]
abbrev dktX6_one_3 : List UInt8 := dkwX6_one_3 ++ dktX6_one_4
def dkwX6_one_2 : List UInt8 := [154, 0, 9, 21, 4, 2, 159, 0, 7, 4, 167, 0, 4, 3, 4, 182, 0, 81, 42, 42, 180, 0, 117]
abbrev dktX6_one_2 : List UInt8 := dkwX6_one_2 ++ dktX6_one_3
def dkwX6_one_1 : List UInt8 := [182, 0, 181, 54, 4, 42, 27, 154, 0, 26, 28, 154, 0, 22, 29, 154, 0, 18, 42, 18, 184, 182, 0, 29]
abbrev dktX6_one_1 : List UInt8 := dkwX6_one_1 ++ dktX6_one_2
def dkwX6_one_0 : List UInt8 := [42, 16, 40, 182, 0, 173, 60, 42, 18, 177, 182, 0, 29, 61, 42, 18, 179, 182, 0, 29, 62, 42]
abbrev dktX6_one_0 : List UInt8 := dkwX6_one_0 ++ dktX6_one_1
theorem dksX6_one_0 : cX6_one.data.toList.drop 0 = dktX6_one_0 := by decide +kernel
theorem dksX6_one_1 : cX6_one.data.toList.drop 22 = dktX6_one_1 := dk_seg dksX6_one_0 22 rfl rfl
theorem dksX6_one_2 : cX6_one.data.toList.drop 46 = dktX6_one_2 := dk_seg dksX6_one_1 24 rfl rfl
theorem dksX6_one_3 : cX6_one.data.toList.drop 69 = dktX6_one_3 := dk_seg dksX6_one_2 23 rfl rfl
theorem dksX6_one_4 : cX6_one.data.toList.drop 93 = dktX6_one_4 := dk_seg dksX6_one_3 24 rfl rfl
theorem dksX6_one_5 : cX6_one.data.toList.drop 117 = dktX6_one_5 := dk_seg dksX6_one_4 24 rfl rfl
theorem dksX6_one_6 : cX6_one.data.toList.drop 141 = dktX6_one_6 := dk_seg dksX6_one_5 24 rfl rfl
theorem dksX6_one_7 : cX6_one.data.toList.drop 165 = dktX6_one_7 := dk_seg dksX6_one_6 24 rfl rfl
theorem dX6_one_0 : decode cX6_one 0 = .ok (.aload_n 0, 1) := dk_42 (dk_at dksX6_one_0 0 rfl rfl)
theorem dX6_one_1 : decode cX6_one 1 = .ok (.bipush 40, 2) := dk_16 40 (dk_at dksX6_one_0 1 rfl rfl)
theorem dX6_one_3 : decode cX6_one 3 = .ok (.invokevirtual 173, 3) := dk_182 0 173 (dk_at dksX6_one_0 3 rfl rfl)
theorem dX6_one_6 : decode cX6_one 6 = .ok (.istore_n 1, 1) := dk_60 (dk_at dksX6_one_0 6 rfl rfl)
theorem dX6_one_7 : decode cX6_one 7 = .ok (.aload_n 0, 1) := dk_42 (dk_at dksX6_one_0 7 rfl rfl)
theorem dX6_one_8 : decode cX6_one 8 = .ok (.ldc 177, 2) := dk_18 177 (dk_at dksX6_one_0 8 rfl rfl)
theorem dX6_one_10 : decode cX6_one 10 = .ok (.invokevirtual 29, 3) := dk_182 0 29 (dk_at dksX6_one_0 10 rfl rfl)
theorem dX6_one_13 : decode cX6_one 13 = .ok (.istore_n 2, 1) := dk_61 (dk_at dksX6_one_0 13 rfl rfl)
theorem dX6_one_14 : decode cX6_one 14 = .ok (.aload_n 0, 1) := dk_42 (dk_at dksX6_one_0 14 rfl rfl)
theorem dX6_one_15 : decode cX6_one 15 = .ok (.ldc 179, 2) := dk_18 179 (dk_at dksX6_one_0 15 rfl rfl)
theorem dX6_one_17 : decode cX6_one 17 = .ok (.invokevirtual 29, 3) := dk_182 0 29 (dk_at dksX6_one_0 17 rfl rfl)
theorem dX6_one_20 : decode cX6_one 20 = .ok (.istore_n 3, 1) := dk_62 (dk_at dksX6_one_0 20 rfl rfl)
theorem dX6_one_21 : decode cX6_one 21 = .ok (.aload_n 0, 1) := dk_42 (dk_at dksX6_one_0 21 rfl rfl)
theorem dX6_one_22 : decode cX6_one 22 = .ok (.invokevirtual 181, 3) := dk_182 0 181 (dk_at dksX6_one_1 0 rfl rfl)
theorem dX6_one_25 : decode cX6_one 25 = .ok (.istore 4, 2) := dk_54 4 (dk_at dksX6_one_1 3 rfl rfl)
theorem dX6_one_27 : decode cX6_one 27 = .ok (.aload_n 0, 1) := dk_42 (dk_at dksX6_one_1 5 rfl rfl)
theorem dX6_one_28 : decode cX6_one 28 = .ok (.iload_n 1, 1) := dk_27 (dk_at dksX6_one_1 6 rfl rfl)
theorem dX6_one_29 : decode cX6_one 29 = .ok (.ifCond .ne 26, 3) := dk_154 0 26 (dk_at dksX6_one_1 7 rfl rfl)
theorem dX6_one_32 : decode cX6_one 32 = .ok (.iload_n 2, 1) := dk_28 (dk_at dksX6_one_1 10 rfl rfl)
theorem dX6_one_33 : decode cX6_one 33 = .ok (.ifCond .ne 22, 3) := dk_154 0 22 (dk_at dksX6_one_1 11 rfl rfl)
theorem dX6_one_36 : decode cX6_one 36 = .ok (.iload_n 3, 1) := dk_29 (dk_at dksX6_one_1 14 rfl rfl)
theorem dX6_one_37 : decode cX6_one 37 = .ok (.ifCond .ne 18, 3) := dk_154 0 18 (dk_at dksX6_one_1 15 rfl rfl)
theorem dX6_one_40 : decode cX6_one 40 = .ok (.aload_n 0, 1) := dk_42 (dk_at dksX6_one_1 18 rfl rfl)
theorem dX6_one_41 : decode cX6_one 41 = .ok (.ldc 184, 2) := dk_18 184 (dk_at dksX6_one_1 19 rfl rfl)
theorem dX6_one_43 : decode cX6_one 43 = .ok (.invokevirtual 29, 3) := dk_182 0 29 (dk_at dksX6_one_1 21 rfl rfl)
theorem dX6_one_46 : decode cX6_one 46 = .ok (.ifCond .ne 9, 3) := dk_154 0 9 (dk_at dksX6_one_2 0 rfl rfl)
theorem dX6_one_49 : decode cX6_one 49 = .ok (.iload 4, 2) := dk_21 4 (dk_at dksX6_one_2 3 rfl rfl)
theorem dX6_one_51 : decode cX6_one 51 = .ok (.iconst (-1), 1) := dk_2 (dk_at dksX6_one_2 5 rfl rfl)
theorem dX6_one_52 : decode cX6_one 52 = .ok (.if_icmp .eq 7, 3) := dk_159 0 7 (dk_at dksX6_one_2 6 rfl rfl)
theorem dX6_one_55 : decode cX6_one 55 = .ok (.iconst 1, 1) := dk_4 (dk_at dksX6_one_2 9 rfl rfl)
theorem dX6_one_56 : decode cX6_one 56 = .ok (.goto 4, 3) := dk_167 0 4 (dk_at dksX6_one_2 10 rfl rfl)
theorem dX6_one_59 : decode cX6_one 59 = .ok (.iconst 0, 1) := dk_3 (dk_at dksX6_one_2 13 rfl rfl)
theorem dX6_one_60 : decode cX6_one 60 = .ok (.iconst 1, 1) := dk_4 (dk_at dksX6_one_2 14 rfl rfl)
theorem dX6_one_61 : decode cX6_one 61 = .ok (.invokevirtual 81, 3) := dk_182 0 81 (dk_at dksX6_one_2 15 rfl rfl)
theorem dX6_one_64 : decode cX6_one 64 = .ok (.aload_n 0, 1) := dk_42 (dk_at dksX6_one_2 18 rfl rfl)
theorem dX6_one_65 : decode cX6_one 65 = .ok (.aload_n 0, 1) := dk_42 (dk_at dksX6_one_2 19 rfl rfl)
theorem dX6_one_66 : decode cX6_one 66 = .ok (.getfield 117, 3) := dk_180 0 117 (dk_at dksX6_one_2 20 rfl rfl)
theorem dX6_one_69 : decode cX6_one 69 = .ok (.bipush 20, 2) := dk_16 20 (dk_at dksX6_one_3 0 rfl rfl)
theorem dX6_one_71 : decode cX6_one 71 = .ok (.if_icmp .ge 16, 3) := dk_162 0 16 (dk_at dksX6_one_3 2 rfl rfl)
theorem dX6_one_74 : decode cX6_one 74 = .ok (.aload_n 0, 1) := dk_42 (dk_at dksX6_one_3 5 rfl rfl)
theorem dX6_one_75 : decode cX6_one 75 = .ok (.getfield 120, 3) := dk_180 0 120 (dk_at dksX6_one_3 6 rfl rfl)
theorem dX6_one_78 : decode cX6_one 78 = .ok (.bipush 8, 2) := dk_16 8 (dk_at dksX6_one_3 9 rfl rfl)
theorem dX6_one_80 : decode cX6_one 80 = .ok (.if_icmp .ge 7, 3) := dk_162 0 7 (dk_at dksX6_one_3 11 rfl rfl)
theorem dX6_one_83 : decode cX6_one 83 = .ok (.iconst 1, 1) := dk_4 (dk_at dksX6_one_3 14 rfl rfl)
theorem dX6_one_84 : decode cX6_one 84 = .ok (.goto 4, 3) := dk_167 0 4 (dk_at dksX6_one_3 15 rfl rfl)
theorem dX6_one_87 : decode cX6_one 87 = .ok (.iconst 0, 1) := dk_3 (dk_at dksX6_one_3 18 rfl rfl)
theorem dX6_one_88 : decode cX6_one 88 = .ok (.iconst 4, 1) := dk_7 (dk_at dksX6_one_3 19 rfl rfl)
theorem dX6_one_89 : decode cX6_one 89 = .ok (.invokevirtual 81, 3) := dk_182 0 81 (dk_at dksX6_one_3 20 rfl rfl)
theorem dX6_one_92 : decode cX6_one 92 = .ok (.aload_n 0, 1) := dk_42 (dk_at dksX6_one_3 23 rfl rfl)
theorem dX6_one_93 : decode cX6_one 93 = .ok (.dup, 1) := dk_89 (dk_at dksX6_one_4 0 rfl rfl)
theorem dX6_one_94 : decode cX6_one 94 = .ok (.getfield 117, 3) := dk_180 0 117 (dk_at dksX6_one_4 1 rfl rfl)
theorem dX6_one_97 : decode cX6_one 97 = .ok (.iconst 1, 1) := dk_4 (dk_at dksX6_one_4 4 rfl rfl)
theorem dX6_one_98 : decode cX6_one 98 = .ok (.iadd, 1) := dk_96 (dk_at dksX6_one_4 5 rfl rfl)
theorem dX6_one_99 : decode cX6_one 99 = .ok (.putfield 117, 3) := dk_181 0 117 (dk_at dksX6_one_4 6 rfl rfl)
theorem dX6_one_102 : decode cX6_one 102 = .ok (.aload_n 0, 1) := dk_42 (dk_at dksX6_one_4 9 rfl rfl)
theorem dX6_one_103 : decode cX6_one 103 = .ok (.dup, 1) := dk_89 (dk_at dksX6_one_4 10 rfl rfl)
theorem dX6_one_104 : decode cX6_one 104 = .ok (.getfield 120, 3) := dk_180 0 120 (dk_at dksX6_one_4 11 rfl rfl)
theorem dX6_one_107 : decode cX6_one 107 = .ok (.iconst 1, 1) := dk_4 (dk_at dksX6_one_4 14 rfl rfl)
theorem dX6_one_108 : decode cX6_one 108 = .ok (.iadd, 1) := dk_96 (dk_at dksX6_one_4 15 rfl rfl)
theorem dX6_one_109 : decode cX6_one 109 = .ok (.putfield 120, 3) := dk_181 0 120 (dk_at dksX6_one_4 16 rfl rfl)
theorem dX6_one_112 : decode cX6_one 112 = .ok (.aload_n 0, 1) := dk_42 (dk_at dksX6_one_4 19 rfl rfl)
theorem dX6_one_113 : decode cX6_one 113 = .ok (.invokevirtual 20, 3) := dk_182 0 20 (dk_at dksX6_one_4 20 rfl rfl)
theorem dX6_one_116 : decode cX6_one 116 = .ok (.iload_n 1, 1) := dk_27 (dk_at dksX6_one_4 23 rfl rfl)
theorem dX6_one_117 : decode cX6_one 117 = .ok (.ifCond .eq 27, 3) := dk_153 0 27 (dk_at dksX6_one_5 0 rfl rfl)
theorem dX6_one_120 : decode cX6_one 120 = .ok (.aload_n 0, 1) := dk_42 (dk_at dksX6_one_5 3 rfl rfl)
theorem dX6_one_121 : decode cX6_one 121 = .ok (.invokevirtual 123, 3) := dk_182 0 123 (dk_at dksX6_one_5 4 rfl rfl)
theorem dX6_one_124 : decode cX6_one 124 = .ok (.astore 5, 2) := dk_58 5 (dk_at dksX6_one_5 7 rfl rfl)
theorem dX6_one_126 : decode cX6_one 126 = .ok (.aload_n 0, 1) := dk_42 (dk_at dksX6_one_5 9 rfl rfl)
theorem dX6_one_127 : decode cX6_one 127 = .ok (.aload_n 0, 1) := dk_42 (dk_at dksX6_one_5 10 rfl rfl)
theorem dX6_one_128 : decode cX6_one 128 = .ok (.bipush 41, 2) := dk_16 41 (dk_at dksX6_one_5 11 rfl rfl)
theorem dX6_one_130 : decode cX6_one 130 = .ok (.invokevirtual 173, 3) := dk_182 0 173 (dk_at dksX6_one_5 13 rfl rfl)
theorem dX6_one_133 : decode cX6_one 133 = .ok (.iconst 1, 1) := dk_4 (dk_at dksX6_one_5 16 rfl rfl)
theorem dX6_one_134 : decode cX6_one 134 = .ok (.invokevirtual 81, 3) := dk_182 0 81 (dk_at dksX6_one_5 17 rfl rfl)
theorem dX6_one_137 : decode cX6_one 137 = .ok (.aload_n 0, 1) := dk_42 (dk_at dksX6_one_5 20 rfl rfl)
theorem dX6_one_138 : decode cX6_one 138 = .ok (.invokevirtual 20, 3) := dk_182 0 20 (dk_at dksX6_one_5 21 rfl rfl)
theorem dX6_one_141 : decode cX6_one 141 = .ok (.goto 32, 3) := dk_167 0 32 (dk_at dksX6_one_6 0 rfl rfl)
theorem dX6_one_144 : decode cX6_one 144 = .ok (.iload_n 2, 1) := dk_28 (dk_at dksX6_one_6 3 rfl rfl)
theorem dX6_one_145 : decode cX6_one 145 = .ok (.ifCond .eq 19, 3) := dk_153 0 19 (dk_at dksX6_one_6 4 rfl rfl)
theorem dX6_one_148 : decode cX6_one 148 = .ok (.new 186, 3) := dk_187 0 186 (dk_at dksX6_one_6 7 rfl rfl)
theorem dX6_one_151 : decode cX6_one 151 = .ok (.dup, 1) := dk_89 (dk_at dksX6_one_6 10 rfl rfl)
theorem dX6_one_152 : decode cX6_one 152 = .ok (.aload_n 0, 1) := dk_42 (dk_at dksX6_one_6 11 rfl rfl)
theorem dX6_one_153 : decode cX6_one 153 = .ok (.invokevirtual 154, 3) := dk_182 0 154 (dk_at dksX6_one_6 12 rfl rfl)
theorem dX6_one_156 : decode cX6_one 156 = .ok (.invokespecial 188, 3) := dk_183 0 188 (dk_at dksX6_one_6 15 rfl rfl)
theorem dX6_one_159 : decode cX6_one 159 = .ok (.astore 5, 2) := dk_58 5 (dk_at dksX6_one_6 18 rfl rfl)
theorem dX6_one_161 : decode cX6_one 161 = .ok (.goto 12, 3) := dk_167 0 12 (dk_at dksX6_one_6 20 rfl rfl)
theorem dX6_one_164 : decode cX6_one 164 = .ok (.aload_n 0, 1) := dk_42 (dk_at dksX6_one_6 23 rfl rfl)
theorem dX6_one_165 : decode cX6_one 165 = .ok (.iload 4, 2) := dk_21 4 (dk_at dksX6_one_7 0 rfl rfl)
theorem dX6_one_167 : decode cX6_one 167 = .ok (.iload_n 3, 1) := dk_29 (dk_at dksX6_one_7 2 rfl rfl)
theorem dX6_one_168 : decode cX6_one 168 = .ok (.invokevirtual 191, 3) := dk_182 0 191 (dk_at dksX6_one_7 3 rfl rfl)
theorem dX6_one_171 : decode cX6_one 171 = .ok (.astore 5, 2) := dk_58 5 (dk_at dksX6_one_7 6 rfl rfl)
theorem dX6_one_173 : decode cX6_one 173 = .ok (.aload_n 0, 1) := dk_42 (dk_at dksX6_one_7 8 rfl rfl)
theorem dX6_one_174 : decode cX6_one 174 = .ok (.dup, 1) := dk_89 (dk_at dksX6_one_7 9 rfl rfl)
theorem dX6_one_175 : decode cX6_one 175 = .ok (.getfield 120, 3) := dk_180 0 120 (dk_at dksX6_one_7 10 rfl rfl)
theorem dX6_one_178 : decode cX6_one 178 = .ok (.iconst 1, 1) := dk_4 (dk_at dksX6_one_7 13 rfl rfl)
theorem dX6_one_179 : decode cX6_one 179 = .ok (.isub, 1) := dk_100 (dk_at dksX6_one_7 14 rfl rfl)
theorem dX6_one_180 : decode cX6_one 180 = .ok (.putfield 120, 3) := dk_181 0 120 (dk_at dksX6_one_7 15 rfl rfl)
theorem dX6_one_183 : decode cX6_one 183 = .ok (.aload 5, 2) := dk_25 5 (dk_at dksX6_one_7 18 rfl rfl)
theorem dX6_one_185 : decode cX6_one 185 = .ok (.areturn, 1) := dk_176 (dk_at dksX6_one_7 20 rfl rfl)
def dkwX6_areaAtHand_3 : List UInt8 := [182, 0, 29, 153, 0, 7, 8, 167, 0, 4, 2, 172]
abbrev dktX6_areaAtHand_3 : List UInt8 := dkwX6_areaAtHand_3 ++ []
def dkwX6_areaAtHand_2 : List UInt8 := [153, 0, 7, 6, 167, 0, 30, 42, 18, 169, 182, 0, 29, 153, 0, 7, 7, 167, 0, 17, 42, 18, 171]
abbrev dktX6_areaAtHand_2 : List UInt8 := dkwX6_areaAtHand_2 ++ dktX6_areaAtHand_3
def dkwX6_areaAtHand_1 : List UInt8 := [167, 0, 56, 42, 18, 165, 182, 0, 29, 153, 0, 7, 5, 167, 0, 43, 42, 18, 167, 182, 0, 29]
abbrev dktX6_areaAtHand_1 : List UInt8 := dkwX6_areaAtHand_1 ++ dktX6_areaAtHand_2
def dkwX6_areaAtHand_0 : List UInt8 := [42, 18, 161, 182, 0, 29, 153, 0, 7, 3, 167, 0, 69, 42, 18, 163, 182, 0, 29, 153, 0, 7, 4]
abbrev dktX6_areaAtHand_0 : List UInt8 := dkwX6_areaAtHand_0 ++ dktX6_areaAtHand_1
theorem dksX6_areaAtHand_0 : cX6_areaAtHand.data.toList.drop 0 = dktX6_areaAtHand_0 := by decide +kernel
theorem dksX6_areaAtHand_1 : cX6_areaAtHand.data.toList.drop 23 = dktX6_areaAtHand_1 := dk_seg dksX6_areaAtHand_0 23 rfl rfl
theorem dksX6_areaAtHand_2 : cX6_areaAtHand.data.toList.drop 45 = dktX6_areaAtHand_2 := dk_seg dksX6_areaAtHand_1 22 rfl rfl
theorem dksX6_areaAtHand_3 : cX6_areaAtHand.data.toList.drop 68 = dktX6_areaAtHand_3 := dk_seg dksX6_areaAtHand_2 23 rfl rfl
theorem dX6_areaAtHand_0 : decode cX6_areaAtHand 0 = .ok (.aload_n 0, 1) := dk_42 (dk_at dksX6_areaAtHand_0 0 rfl rfl)
theorem dX6_areaAtHand_1 : decode cX6_areaAtHand 1 = .ok (.ldc 161, 2) := dk_18 161 (dk_at dksX6_areaAtHand_0 1 rfl rfl)
theorem dX6_areaAtHand_3 : decode cX6_areaAtHand 3 = .ok (.invokevirtual 29, 3) := dk_182 0 29 (dk_at dksX6_areaAtHand_0 3 rfl rfl)
theorem dX6_areaAtHand_6 : decode cX6_areaAtHand 6 = .ok (.ifCond .eq 7, 3) := dk_153 0 7 (dk_at dksX6_areaAtHand_0 6 rfl rfl)
theorem dX6_areaAtHand_9 : decode cX6_areaAtHand 9 = .ok (.iconst 0, 1) := dk_3 (dk_at dksX6_areaAtHand_0 9 rfl rfl)
theorem dX6_areaAtHand_10 : decode cX6_areaAtHand 10 = .ok (.goto 69, 3) := dk_167 0 69 (dk_at dksX6_areaAtHand_0 10 rfl rfl)
theorem dX6_areaAtHand_13 : decode cX6_areaAtHand 13 = .ok (.aload_n 0, 1) := dk_42 (dk_at dksX6_areaAtHand_0 13 rfl rfl)
theorem dX6_areaAtHand_14 : decode cX6_areaAtHand 14 = .ok (.ldc 163, 2) := dk_18 163 (dk_at dksX6_areaAtHand_0 14 rfl rfl)
theorem dX6_areaAtHand_16 : decode cX6_areaAtHand 16 = .ok (.invokevirtual 29, 3) := dk_182 0 29 (dk_at dksX6_areaAtHand_0 16 rfl rfl)
theorem dX6_areaAtHand_19 : decode cX6_areaAtHand 19 = .ok (.ifCond .eq 7, 3) := dk_153 0 7 (dk_at dksX6_areaAtHand_0 19 rfl rfl)
theorem dX6_areaAtHand_22 : decode cX6_areaAtHand 22 = .ok (.iconst 1, 1) := dk_4 (dk_at dksX6_areaAtHand_0 22 rfl rfl)
theorem dX6_areaAtHand_23 : decode cX6_areaAtHand 23 = .ok (.goto 56, 3) := dk_167 0 56 (dk_at dksX6_areaAtHand_1 0 rfl rfl)
theorem dX6_areaAtHand_26 : decode cX6_areaAtHand 26 = .ok (.aload_n 0, 1) := dk_42 (dk_at dksX6_areaAtHand_1 3 rfl rfl)
theorem dX6_areaAtHand_27 : decode cX6_areaAtHand 27 = .ok (.ldc 165, 2) := dk_18 165 (dk_at dksX6_areaAtHand_1 4 rfl rfl)
theorem dX6_areaAtHand_29 : decode cX6_areaAtHand 29 = .ok (.invokevirtual 29, 3) := dk_182 0 29 (dk_at dksX6_areaAtHand_1 6 rfl rfl)
theorem dX6_areaAtHand_32 : decode cX6_areaAtHand 32 = .ok (.ifCond .eq 7, 3) := dk_153 0 7 (dk_at dksX6_areaAtHand_1 9 rfl rfl)
theorem dX6_areaAtHand_35 : decode cX6_areaAtHand 35 = .ok (.iconst 2, 1) := dk_5 (dk_at dksX6_areaAtHand_1 12 rfl rfl)
theorem dX6_areaAtHand_36 : decode cX6_areaAtHand 36 = .ok (.goto 43, 3) := dk_167 0 43 (dk_at dksX6_areaAtHand_1 13 rfl rfl)
theorem dX6_areaAtHand_39 : decode cX6_areaAtHand 39 = .ok (.aload_n 0, 1) := dk_42 (dk_at dksX6_areaAtHand_1 16 rfl rfl)
theorem dX6_areaAtHand_40 : decode cX6_areaAtHand 40 = .ok (.ldc 167, 2) := dk_18 167 (dk_at dksX6_areaAtHand_1 17 rfl rfl)
theorem dX6_areaAtHand_42 : decode cX6_areaAtHand 42 = .ok (.invokevirtual 29, 3) := dk_182 0 29 (dk_at dksX6_areaAtHand_1 19 rfl rfl)
theorem dX6_areaAtHand_45 : decode cX6_areaAtHand 45 = .ok (.ifCond .eq 7, 3) := dk_153 0 7 (dk_at dksX6_areaAtHand_2 0 rfl rfl)
theorem dX6_areaAtHand_48 : decode cX6_areaAtHand 48 = .ok (.iconst 3, 1) := dk_6 (dk_at dksX6_areaAtHand_2 3 rfl rfl)
theorem dX6_areaAtHand_49 : decode cX6_areaAtHand 49 = .ok (.goto 30, 3) := dk_167 0 30 (dk_at dksX6_areaAtHand_2 4 rfl rfl)
theorem dX6_areaAtHand_52 : decode cX6_areaAtHand 52 = .ok (.aload_n 0, 1) := dk_42 (dk_at dksX6_areaAtHand_2 7 rfl rfl)
theorem dX6_areaAtHand_53 : decode cX6_areaAtHand 53 = .ok (.ldc 169, 2) := dk_18 169 (dk_at dksX6_areaAtHand_2 8 rfl rfl)
theorem dX6_areaAtHand_55 : decode cX6_areaAtHand 55 = .ok (.invokevirtual 29, 3) := dk_182 0 29 (dk_at dksX6_areaAtHand_2 10 rfl rfl)
theorem dX6_areaAtHand_58 : decode cX6_areaAtHand 58 = .ok (.ifCond .eq 7, 3) := dk_153 0 7 (dk_at dksX6_areaAtHand_2 13 rfl rfl)
theorem dX6_areaAtHand_61 : decode cX6_areaAtHand 61 = .ok (.iconst 4, 1) := dk_7 (dk_at dksX6_areaAtHand_2 16 rfl rfl)
theorem dX6_areaAtHand_62 : decode cX6_areaAtHand 62 = .ok (.goto 17, 3) := dk_167 0 17 (dk_at dksX6_areaAtHand_2 17 rfl rfl)
theorem dX6_areaAtHand_65 : decode cX6_areaAtHand 65 = .ok (.aload_n 0, 1) := dk_42 (dk_at dksX6_areaAtHand_2 20 rfl rfl)
theorem dX6_areaAtHand_66 : decode cX6_areaAtHand 66 = .ok (.ldc 171, 2) := dk_18 171 (dk_at dksX6_areaAtHand_2 21 rfl rfl)
theorem dX6_areaAtHand_68 : decode cX6_areaAtHand 68 = .ok (.invokevirtual 29, 3) := dk_182 0 29 (dk_at dksX6_areaAtHand_3 0 rfl rfl)
theorem dX6_areaAtHand_71 : decode cX6_areaAtHand 71 = .ok (.ifCond .eq 7, 3) := dk_153 0 7 (dk_at dksX6_areaAtHand_3 3 rfl rfl)
theorem dX6_areaAtHand_74 : decode cX6_areaAtHand 74 = .ok (.iconst 5, 1) := dk_8 (dk_at dksX6_areaAtHand_3 6 rfl rfl)
theorem dX6_areaAtHand_75 : decode cX6_areaAtHand 75 = .ok (.goto 4, 3) := dk_167 0 4 (dk_at dksX6_areaAtHand_3 7 rfl rfl)
theorem dX6_areaAtHand_78 : decode cX6_areaAtHand 78 = .ok (.iconst (-1), 1) := dk_2 (dk_at dksX6_areaAtHand_3 10 rfl rfl)
theorem dX6_areaAtHand_79 : decode cX6_areaAtHand 79 = .ok (.ireturn, 1) := dk_172 (dk_at dksX6_areaAtHand_3 11 rfl rfl)
def dkwX6_compare_5 : List UInt8 := [89, 21, 4, 21, 5, 183, 0, 210, 176]
abbrev dktX6_compare_5 : List UInt8 := dkwX6_compare_5 ++ []
def dkwX6_compare_4 : List UInt8 := [167, 0, 32, 28, 153, 0, 17, 187, 0, 203, 89, 21, 4, 21, 5, 183, 0, 205, 167, 0, 14, 187, 0, 208]
abbrev dktX6_compare_4 : List UInt8 := dkwX6_compare_4 ++ dktX6_compare_5
def dkwX6_compare_3 : List UInt8 := [182, 0, 57, 54, 5, 27, 2, 159, 0, 19, 187, 0, 198, 89, 27, 29, 21, 4, 21, 5, 183, 0, 200]
abbrev dktX6_compare_3 : List UInt8 := dkwX6_compare_3 ++ dktX6_compare_4
def dkwX6_compare_2 : List UInt8 := [167, 0, 4, 3, 4, 182, 0, 81, 42, 180, 0, 195, 54, 4, 42, 182, 0, 20, 42, 3, 17, 3, 231]
abbrev dktX6_compare_2 : List UInt8 := dkwX6_compare_2 ++ dktX6_compare_3
def dkwX6_compare_1 : List UInt8 := [154, 0, 21, 42, 16, 61, 182, 0, 173, 154, 0, 12, 42, 16, 62, 182, 0, 173, 153, 0, 7, 4]
abbrev dktX6_compare_1 : List UInt8 := dkwX6_compare_1 ++ dktX6_compare_2
def dkwX6_compare_0 : List UInt8 := [27, 2, 160, 0, 7, 3, 167, 0, 9, 42, 4, 5, 182, 0, 57, 62, 42, 42, 16, 60, 182, 0, 173]
abbrev dktX6_compare_0 : List UInt8 := dkwX6_compare_0 ++ dktX6_compare_1
theorem dksX6_compare_0 : cX6_compare.data.toList.drop 0 = dktX6_compare_0 := by decide +kernel
theorem dksX6_compare_1 : cX6_compare.data.toList.drop 23 = dktX6_compare_1 := dk_seg dksX6_compare_0 23 rfl rfl
theorem dksX6_compare_2 : cX6_compare.data.toList.drop 45 = dktX6_compare_2 := dk_seg dksX6_compare_1 22 rfl rfl
theorem dksX6_compare_3 : cX6_compare.data.toList.drop 68 = dktX6_compare_3 := dk_seg dksX6_compare_2 23 rfl rfl
theorem dksX6_compare_4 : cX6_compare.data.toList.drop 91 = dktX6_compare_4 := dk_seg dksX6_compare_3 23 rfl rfl
theorem dksX6_compare_5 : cX6_compare.data.toList.drop 115 = dktX6_compare_5 := dk_seg dksX6_compare_4 24 rfl rfl
theorem dX6_compare_0 : decode cX6_compare 0 = .ok (.iload_n 1, 1) := dk_27 (dk_at dksX6_compare_0 0 rfl rfl)
theorem dX6_compare_1 : decode cX6_compare 1 = .ok (.iconst (-1), 1) := dk_2 (dk_at dksX6_compare_0 1 rfl rfl)
theorem dX6_compare_2 : decode cX6_compare 2 = .ok (.if_icmp .ne 7, 3) := dk_160 0 7 (dk_at dksX6_compare_0 2 rfl rfl)
theorem dX6_compare_5 : decode cX6_compare 5 = .ok (.iconst 0, 1) := dk_3 (dk_at dksX6_compare_0 5 rfl rfl)
theorem dX6_compare_6 : decode cX6_compare 6 = .ok (.goto 9, 3) := dk_167 0 9 (dk_at dksX6_compare_0 6 rfl rfl)
theorem dX6_compare_9 : decode cX6_compare 9 = .ok (.aload_n 0, 1) := dk_42 (dk_at dksX6_compare_0 9 rfl rfl)
theorem dX6_compare_10 : decode cX6_compare 10 = .ok (.iconst 1, 1) := dk_4 (dk_at dksX6_compare_0 10 rfl rfl)
theorem dX6_compare_11 : decode cX6_compare 11 = .ok (.iconst 2, 1) := dk_5 (dk_at dksX6_compare_0 11 rfl rfl)
theorem dX6_compare_12 : decode cX6_compare 12 = .ok (.invokevirtual 57, 3) := dk_182 0 57 (dk_at dksX6_compare_0 12 rfl rfl)
theorem dX6_compare_15 : decode cX6_compare 15 = .ok (.istore_n 3, 1) := dk_62 (dk_at dksX6_compare_0 15 rfl rfl)
theorem dX6_compare_16 : decode cX6_compare 16 = .ok (.aload_n 0, 1) := dk_42 (dk_at dksX6_compare_0 16 rfl rfl)
theorem dX6_compare_17 : decode cX6_compare 17 = .ok (.aload_n 0, 1) := dk_42 (dk_at dksX6_compare_0 17 rfl rfl)
theorem dX6_compare_18 : decode cX6_compare 18 = .ok (.bipush 60, 2) := dk_16 60 (dk_at dksX6_compare_0 18 rfl rfl)
theorem dX6_compare_20 : decode cX6_compare 20 = .ok (.invokevirtual 173, 3) := dk_182 0 173 (dk_at dksX6_compare_0 20 rfl rfl)
theorem dX6_compare_23 : decode cX6_compare 23 = .ok (.ifCond .ne 21, 3) := dk_154 0 21 (dk_at dksX6_compare_1 0 rfl rfl)
theorem dX6_compare_26 : decode cX6_compare 26 = .ok (.aload_n 0, 1) := dk_42 (dk_at dksX6_compare_1 3 rfl rfl)
theorem dX6_compare_27 : decode cX6_compare 27 = .ok (.bipush 61, 2) := dk_16 61 (dk_at dksX6_compare_1 4 rfl rfl)
theorem dX6_compare_29 : decode cX6_compare 29 = .ok (.invokevirtual 173, 3) := dk_182 0 173 (dk_at dksX6_compare_1 6 rfl rfl)
theorem dX6_compare_32 : decode cX6_compare 32 = .ok (.ifCond .ne 12, 3) := dk_154 0 12 (dk_at dksX6_compare_1 9 rfl rfl)
theorem dX6_compare_35 : decode cX6_compare 35 = .ok (.aload_n 0, 1) := dk_42 (dk_at dksX6_compare_1 12 rfl rfl)
theorem dX6_compare_36 : decode cX6_compare 36 = .ok (.bipush 62, 2) := dk_16 62 (dk_at dksX6_compare_1 13 rfl rfl)
theorem dX6_compare_38 : decode cX6_compare 38 = .ok (.invokevirtual 173, 3) := dk_182 0 173 (dk_at dksX6_compare_1 15 rfl rfl)
theorem dX6_compare_41 : decode cX6_compare 41 = .ok (.ifCond .eq 7, 3) := dk_153 0 7 (dk_at dksX6_compare_1 18 rfl rfl)
theorem dX6_compare_44 : decode cX6_compare 44 = .ok (.iconst 1, 1) := dk_4 (dk_at dksX6_compare_1 21 rfl rfl)
theorem dX6_compare_45 : decode cX6_compare 45 = .ok (.goto 4, 3) := dk_167 0 4 (dk_at dksX6_compare_2 0 rfl rfl)
theorem dX6_compare_48 : decode cX6_compare 48 = .ok (.iconst 0, 1) := dk_3 (dk_at dksX6_compare_2 3 rfl rfl)
theorem dX6_compare_49 : decode cX6_compare 49 = .ok (.iconst 1, 1) := dk_4 (dk_at dksX6_compare_2 4 rfl rfl)
theorem dX6_compare_50 : decode cX6_compare 50 = .ok (.invokevirtual 81, 3) := dk_182 0 81 (dk_at dksX6_compare_2 5 rfl rfl)
theorem dX6_compare_53 : decode cX6_compare 53 = .ok (.aload_n 0, 1) := dk_42 (dk_at dksX6_compare_2 8 rfl rfl)
theorem dX6_compare_54 : decode cX6_compare 54 = .ok (.getfield 195, 3) := dk_180 0 195 (dk_at dksX6_compare_2 9 rfl rfl)
theorem dX6_compare_57 : decode cX6_compare 57 = .ok (.istore 4, 2) := dk_54 4 (dk_at dksX6_compare_2 12 rfl rfl)
theorem dX6_compare_59 : decode cX6_compare 59 = .ok (.aload_n 0, 1) := dk_42 (dk_at dksX6_compare_2 14 rfl rfl)
theorem dX6_compare_60 : decode cX6_compare 60 = .ok (.invokevirtual 20, 3) := dk_182 0 20 (dk_at dksX6_compare_2 15 rfl rfl)
theorem dX6_compare_63 : decode cX6_compare 63 = .ok (.aload_n 0, 1) := dk_42 (dk_at dksX6_compare_2 18 rfl rfl)
theorem dX6_compare_64 : decode cX6_compare 64 = .ok (.iconst 0, 1) := dk_3 (dk_at dksX6_compare_2 19 rfl rfl)
theorem dX6_compare_65 : decode cX6_compare 65 = .ok (.sipush 999, 3) := dk_17 3 231 (dk_at dksX6_compare_2 20 rfl rfl)
theorem dX6_compare_68 : decode cX6_compare 68 = .ok (.invokevirtual 57, 3) := dk_182 0 57 (dk_at dksX6_compare_3 0 rfl rfl)
theorem dX6_compare_71 : decode cX6_compare 71 = .ok (.istore 5, 2) := dk_54 5 (dk_at dksX6_compare_3 3 rfl rfl)
theorem dX6_compare_73 : decode cX6_compare 73 = .ok (.iload_n 1, 1) := dk_27 (dk_at dksX6_compare_3 5 rfl rfl)
theorem dX6_compare_74 : decode cX6_compare 74 = .ok (.iconst (-1), 1) := dk_2 (dk_at dksX6_compare_3 6 rfl rfl)
theorem dX6_compare_75 : decode cX6_compare 75 = .ok (.if_icmp .eq 19, 3) := dk_159 0 19 (dk_at dksX6_compare_3 7 rfl rfl)
theorem dX6_compare_78 : decode cX6_compare 78 = .ok (.new 198, 3) := dk_187 0 198 (dk_at dksX6_compare_3 10 rfl rfl)
theorem dX6_compare_81 : decode cX6_compare 81 = .ok (.dup, 1) := dk_89 (dk_at dksX6_compare_3 13 rfl rfl)
theorem dX6_compare_82 : decode cX6_compare 82 = .ok (.iload_n 1, 1) := dk_27 (dk_at dksX6_compare_3 14 rfl rfl)
theorem dX6_compare_83 : decode cX6_compare 83 = .ok (.iload_n 3, 1) := dk_29 (dk_at dksX6_compare_3 15 rfl rfl)
theorem dX6_compare_84 : decode cX6_compare 84 = .ok (.iload 4, 2) := dk_21 4 (dk_at dksX6_compare_3 16 rfl rfl)
theorem dX6_compare_86 : decode cX6_compare 86 = .ok (.iload 5, 2) := dk_21 5 (dk_at dksX6_compare_3 18 rfl rfl)
theorem dX6_compare_88 : decode cX6_compare 88 = .ok (.invokespecial 200, 3) := dk_183 0 200 (dk_at dksX6_compare_3 20 rfl rfl)
theorem dX6_compare_91 : decode cX6_compare 91 = .ok (.goto 32, 3) := dk_167 0 32 (dk_at dksX6_compare_4 0 rfl rfl)
theorem dX6_compare_94 : decode cX6_compare 94 = .ok (.iload_n 2, 1) := dk_28 (dk_at dksX6_compare_4 3 rfl rfl)
theorem dX6_compare_95 : decode cX6_compare 95 = .ok (.ifCond .eq 17, 3) := dk_153 0 17 (dk_at dksX6_compare_4 4 rfl rfl)
theorem dX6_compare_98 : decode cX6_compare 98 = .ok (.new 203, 3) := dk_187 0 203 (dk_at dksX6_compare_4 7 rfl rfl)
theorem dX6_compare_101 : decode cX6_compare 101 = .ok (.dup, 1) := dk_89 (dk_at dksX6_compare_4 10 rfl rfl)
theorem dX6_compare_102 : decode cX6_compare 102 = .ok (.iload 4, 2) := dk_21 4 (dk_at dksX6_compare_4 11 rfl rfl)
theorem dX6_compare_104 : decode cX6_compare 104 = .ok (.iload 5, 2) := dk_21 5 (dk_at dksX6_compare_4 13 rfl rfl)
theorem dX6_compare_106 : decode cX6_compare 106 = .ok (.invokespecial 205, 3) := dk_183 0 205 (dk_at dksX6_compare_4 15 rfl rfl)
theorem dX6_compare_109 : decode cX6_compare 109 = .ok (.goto 14, 3) := dk_167 0 14 (dk_at dksX6_compare_4 18 rfl rfl)
theorem dX6_compare_112 : decode cX6_compare 112 = .ok (.new 208, 3) := dk_187 0 208 (dk_at dksX6_compare_4 21 rfl rfl)
theorem dX6_compare_115 : decode cX6_compare 115 = .ok (.dup, 1) := dk_89 (dk_at dksX6_compare_5 0 rfl rfl)
theorem dX6_compare_116 : decode cX6_compare 116 = .ok (.iload 4, 2) := dk_21 4 (dk_at dksX6_compare_5 1 rfl rfl)
theorem dX6_compare_118 : decode cX6_compare 118 = .ok (.iload 5, 2) := dk_21 5 (dk_at dksX6_compare_5 3 rfl rfl)
theorem dX6_compare_120 : decode cX6_compare 120 = .ok (.invokespecial 210, 3) := dk_183 0 210 (dk_at dksX6_compare_5 5 rfl rfl)
theorem dX6_compare_123 : decode cX6_compare 123 = .ok (.areturn, 1) := dk_176 (dk_at dksX6_compare_5 8 rfl rfl)
def dkwX6_rowTold_3 : List UInt8 := [180, 0, 110, 4, 28, 120, 128, 181, 0, 110, 42, 182, 0, 20, 28, 172]
abbrev dktX6_rowTold_3 : List UInt8 := dkwX6_rowTold_3 ++ []
def dkwX6_rowTold_2 : List UInt8 := [182, 0, 81, 27, 153, 0, 18, 42, 89, 180, 0, 107, 4, 28, 120, 128, 181, 0, 107, 167, 0, 15, 42, 89]
abbrev dktX6_rowTold_2 : List UInt8 := dkwX6_rowTold_2 ++ dktX6_rowTold_3
def dkwX6_rowTold_1 : List UInt8 := [42, 180, 0, 107, 167, 0, 7, 42, 180, 0, 110, 28, 184, 0, 113, 154, 0, 7, 4, 167, 0, 4, 3, 6]
abbrev dktX6_rowTold_1 : List UInt8 := dkwX6_rowTold_1 ++ dktX6_rowTold_2
def dkwX6_rowTold_0 : List UInt8 := [42, 182, 0, 20, 42, 3, 42, 180, 0, 14, 180, 0, 78, 4, 100, 182, 0, 104, 61, 42, 27, 153, 0, 10]
abbrev dktX6_rowTold_0 : List UInt8 := dkwX6_rowTold_0 ++ dktX6_rowTold_1
theorem dksX6_rowTold_0 : cX6_rowTold.data.toList.drop 0 = dktX6_rowTold_0 := by decide +kernel
theorem dksX6_rowTold_1 : cX6_rowTold.data.toList.drop 24 = dktX6_rowTold_1 := dk_seg dksX6_rowTold_0 24 rfl rfl
theorem dksX6_rowTold_2 : cX6_rowTold.data.toList.drop 48 = dktX6_rowTold_2 := dk_seg dksX6_rowTold_1 24 rfl rfl
theorem dksX6_rowTold_3 : cX6_rowTold.data.toList.drop 72 = dktX6_rowTold_3 := dk_seg dksX6_rowTold_2 24 rfl rfl
theorem dX6_rowTold_0 : decode cX6_rowTold 0 = .ok (.aload_n 0, 1) := dk_42 (dk_at dksX6_rowTold_0 0 rfl rfl)
theorem dX6_rowTold_1 : decode cX6_rowTold 1 = .ok (.invokevirtual 20, 3) := dk_182 0 20 (dk_at dksX6_rowTold_0 1 rfl rfl)
theorem dX6_rowTold_4 : decode cX6_rowTold 4 = .ok (.aload_n 0, 1) := dk_42 (dk_at dksX6_rowTold_0 4 rfl rfl)
theorem dX6_rowTold_5 : decode cX6_rowTold 5 = .ok (.iconst 0, 1) := dk_3 (dk_at dksX6_rowTold_0 5 rfl rfl)
theorem dX6_rowTold_6 : decode cX6_rowTold 6 = .ok (.aload_n 0, 1) := dk_42 (dk_at dksX6_rowTold_0 6 rfl rfl)
theorem dX6_rowTold_7 : decode cX6_rowTold 7 = .ok (.getfield 14, 3) := dk_180 0 14 (dk_at dksX6_rowTold_0 7 rfl rfl)
theorem dX6_rowTold_10 : decode cX6_rowTold 10 = .ok (.getfield 78, 3) := dk_180 0 78 (dk_at dksX6_rowTold_0 10 rfl rfl)
theorem dX6_rowTold_13 : decode cX6_rowTold 13 = .ok (.iconst 1, 1) := dk_4 (dk_at dksX6_rowTold_0 13 rfl rfl)
theorem dX6_rowTold_14 : decode cX6_rowTold 14 = .ok (.isub, 1) := dk_100 (dk_at dksX6_rowTold_0 14 rfl rfl)
theorem dX6_rowTold_15 : decode cX6_rowTold 15 = .ok (.invokevirtual 104, 3) := dk_182 0 104 (dk_at dksX6_rowTold_0 15 rfl rfl)
theorem dX6_rowTold_18 : decode cX6_rowTold 18 = .ok (.istore_n 2, 1) := dk_61 (dk_at dksX6_rowTold_0 18 rfl rfl)
theorem dX6_rowTold_19 : decode cX6_rowTold 19 = .ok (.aload_n 0, 1) := dk_42 (dk_at dksX6_rowTold_0 19 rfl rfl)
theorem dX6_rowTold_20 : decode cX6_rowTold 20 = .ok (.iload_n 1, 1) := dk_27 (dk_at dksX6_rowTold_0 20 rfl rfl)
theorem dX6_rowTold_21 : decode cX6_rowTold 21 = .ok (.ifCond .eq 10, 3) := dk_153 0 10 (dk_at dksX6_rowTold_0 21 rfl rfl)
theorem dX6_rowTold_24 : decode cX6_rowTold 24 = .ok (.aload_n 0, 1) := dk_42 (dk_at dksX6_rowTold_1 0 rfl rfl)
theorem dX6_rowTold_25 : decode cX6_rowTold 25 = .ok (.getfield 107, 3) := dk_180 0 107 (dk_at dksX6_rowTold_1 1 rfl rfl)
theorem dX6_rowTold_28 : decode cX6_rowTold 28 = .ok (.goto 7, 3) := dk_167 0 7 (dk_at dksX6_rowTold_1 4 rfl rfl)
theorem dX6_rowTold_31 : decode cX6_rowTold 31 = .ok (.aload_n 0, 1) := dk_42 (dk_at dksX6_rowTold_1 7 rfl rfl)
theorem dX6_rowTold_32 : decode cX6_rowTold 32 = .ok (.getfield 110, 3) := dk_180 0 110 (dk_at dksX6_rowTold_1 8 rfl rfl)
theorem dX6_rowTold_35 : decode cX6_rowTold 35 = .ok (.iload_n 2, 1) := dk_28 (dk_at dksX6_rowTold_1 11 rfl rfl)
theorem dX6_rowTold_36 : decode cX6_rowTold 36 = .ok (.invokestatic 113, 3) := dk_184 0 113 (dk_at dksX6_rowTold_1 12 rfl rfl)
theorem dX6_rowTold_39 : decode cX6_rowTold 39 = .ok (.ifCond .ne 7, 3) := dk_154 0 7 (dk_at dksX6_rowTold_1 15 rfl rfl)
theorem dX6_rowTold_42 : decode cX6_rowTold 42 = .ok (.iconst 1, 1) := dk_4 (dk_at dksX6_rowTold_1 18 rfl rfl)
theorem dX6_rowTold_43 : decode cX6_rowTold 43 = .ok (.goto 4, 3) := dk_167 0 4 (dk_at dksX6_rowTold_1 19 rfl rfl)
theorem dX6_rowTold_46 : decode cX6_rowTold 46 = .ok (.iconst 0, 1) := dk_3 (dk_at dksX6_rowTold_1 22 rfl rfl)
theorem dX6_rowTold_47 : decode cX6_rowTold 47 = .ok (.iconst 3, 1) := dk_6 (dk_at dksX6_rowTold_1 23 rfl rfl)
theorem dX6_rowTold_48 : decode cX6_rowTold 48 = .ok (.invokevirtual 81, 3) := dk_182 0 81 (dk_at dksX6_rowTold_2 0 rfl rfl)
theorem dX6_rowTold_51 : decode cX6_rowTold 51 = .ok (.iload_n 1, 1) := dk_27 (dk_at dksX6_rowTold_2 3 rfl rfl)
theorem dX6_rowTold_52 : decode cX6_rowTold 52 = .ok (.ifCond .eq 18, 3) := dk_153 0 18 (dk_at dksX6_rowTold_2 4 rfl rfl)
theorem dX6_rowTold_55 : decode cX6_rowTold 55 = .ok (.aload_n 0, 1) := dk_42 (dk_at dksX6_rowTold_2 7 rfl rfl)
theorem dX6_rowTold_56 : decode cX6_rowTold 56 = .ok (.dup, 1) := dk_89 (dk_at dksX6_rowTold_2 8 rfl rfl)
theorem dX6_rowTold_57 : decode cX6_rowTold 57 = .ok (.getfield 107, 3) := dk_180 0 107 (dk_at dksX6_rowTold_2 9 rfl rfl)
theorem dX6_rowTold_60 : decode cX6_rowTold 60 = .ok (.iconst 1, 1) := dk_4 (dk_at dksX6_rowTold_2 12 rfl rfl)
theorem dX6_rowTold_61 : decode cX6_rowTold 61 = .ok (.iload_n 2, 1) := dk_28 (dk_at dksX6_rowTold_2 13 rfl rfl)
theorem dX6_rowTold_62 : decode cX6_rowTold 62 = .ok (.ishl, 1) := dk_120 (dk_at dksX6_rowTold_2 14 rfl rfl)
theorem dX6_rowTold_63 : decode cX6_rowTold 63 = .ok (.ior, 1) := dk_128 (dk_at dksX6_rowTold_2 15 rfl rfl)
theorem dX6_rowTold_64 : decode cX6_rowTold 64 = .ok (.putfield 107, 3) := dk_181 0 107 (dk_at dksX6_rowTold_2 16 rfl rfl)
theorem dX6_rowTold_67 : decode cX6_rowTold 67 = .ok (.goto 15, 3) := dk_167 0 15 (dk_at dksX6_rowTold_2 19 rfl rfl)
theorem dX6_rowTold_70 : decode cX6_rowTold 70 = .ok (.aload_n 0, 1) := dk_42 (dk_at dksX6_rowTold_2 22 rfl rfl)
theorem dX6_rowTold_71 : decode cX6_rowTold 71 = .ok (.dup, 1) := dk_89 (dk_at dksX6_rowTold_2 23 rfl rfl)
theorem dX6_rowTold_72 : decode cX6_rowTold 72 = .ok (.getfield 110, 3) := dk_180 0 110 (dk_at dksX6_rowTold_3 0 rfl rfl)
theorem dX6_rowTold_75 : decode cX6_rowTold 75 = .ok (.iconst 1, 1) := dk_4 (dk_at dksX6_rowTold_3 3 rfl rfl)
theorem dX6_rowTold_76 : decode cX6_rowTold 76 = .ok (.iload_n 2, 1) := dk_28 (dk_at dksX6_rowTold_3 4 rfl rfl)
theorem dX6_rowTold_77 : decode cX6_rowTold 77 = .ok (.ishl, 1) := dk_120 (dk_at dksX6_rowTold_3 5 rfl rfl)
theorem dX6_rowTold_78 : decode cX6_rowTold 78 = .ok (.ior, 1) := dk_128 (dk_at dksX6_rowTold_3 6 rfl rfl)
theorem dX6_rowTold_79 : decode cX6_rowTold 79 = .ok (.putfield 110, 3) := dk_181 0 110 (dk_at dksX6_rowTold_3 7 rfl rfl)
theorem dX6_rowTold_82 : decode cX6_rowTold 82 = .ok (.aload_n 0, 1) := dk_42 (dk_at dksX6_rowTold_3 10 rfl rfl)
theorem dX6_rowTold_83 : decode cX6_rowTold 83 = .ok (.invokevirtual 20, 3) := dk_182 0 20 (dk_at dksX6_rowTold_3 11 rfl rfl)
theorem dX6_rowTold_86 : decode cX6_rowTold 86 = .ok (.iload_n 2, 1) := dk_28 (dk_at dksX6_rowTold_3 14 rfl rfl)
theorem dX6_rowTold_87 : decode cX6_rowTold 87 = .ok (.ireturn, 1) := dk_172 (dk_at dksX6_rowTold_3 15 rfl rfl)
def dkwX6_once_6 : List UInt8 := [181, 0, 141, 177]
abbrev dktX6_once_6 : List UInt8 := dkwX6_once_6 ++ []
def dkwX6_once_5 : List UInt8 := [180, 0, 14, 42, 3, 17, 2, 88, 182, 0, 57, 181, 0, 139, 27, 5, 160, 0, 11, 42, 180, 0, 14, 4]
abbrev dktX6_once_5 : List UInt8 := dkwX6_once_5 ++ dktX6_once_6
def dkwX6_once_4 : List UInt8 := [27, 154, 0, 17, 42, 180, 0, 14, 42, 4, 16, 64, 182, 0, 57, 181, 0, 137, 27, 4, 160, 0, 18, 42]
abbrev dktX6_once_4 : List UInt8 := dkwX6_once_4 ++ dktX6_once_5
def dkwX6_once_3 : List UInt8 := [167, 0, 4, 3, 6, 182, 0, 81, 42, 89, 180, 0, 134, 4, 27, 120, 128, 181, 0, 134, 42, 182, 0, 20]
abbrev dktX6_once_3 : List UInt8 := dkwX6_once_3 ++ dktX6_once_4
def dkwX6_once_2 : List UInt8 := [4, 167, 0, 4, 3, 4, 182, 0, 81, 42, 42, 180, 0, 134, 27, 184, 0, 113, 154, 0, 7, 4]
abbrev dktX6_once_2 : List UInt8 := dkwX6_once_2 ++ dktX6_once_3
def dkwX6_once_1 : List UInt8 := [167, 0, 17, 42, 18, 133, 182, 0, 29, 153, 0, 7, 5, 167, 0, 4, 2, 60, 42, 27, 2, 159, 0, 7]
abbrev dktX6_once_1 : List UInt8 := dkwX6_once_1 ++ dktX6_once_2
def dkwX6_once_0 : List UInt8 := [42, 18, 129, 182, 0, 29, 153, 0, 7, 3, 167, 0, 30, 42, 18, 131, 182, 0, 29, 153, 0, 7, 4]
abbrev dktX6_once_0 : List UInt8 := dkwX6_once_0 ++ dktX6_once_1
theorem dksX6_once_0 : cX6_once.data.toList.drop 0 = dktX6_once_0 := by decide +kernel
theorem dksX6_once_1 : cX6_once.data.toList.drop 23 = dktX6_once_1 := dk_seg dksX6_once_0 23 rfl rfl
theorem dksX6_once_2 : cX6_once.data.toList.drop 47 = dktX6_once_2 := dk_seg dksX6_once_1 24 rfl rfl
theorem dksX6_once_3 : cX6_once.data.toList.drop 69 = dktX6_once_3 := dk_seg dksX6_once_2 22 rfl rfl
theorem dksX6_once_4 : cX6_once.data.toList.drop 93 = dktX6_once_4 := dk_seg dksX6_once_3 24 rfl rfl
theorem dksX6_once_5 : cX6_once.data.toList.drop 117 = dktX6_once_5 := dk_seg dksX6_once_4 24 rfl rfl
theorem dksX6_once_6 : cX6_once.data.toList.drop 141 = dktX6_once_6 := dk_seg dksX6_once_5 24 rfl rfl
theorem dX6_once_0 : decode cX6_once 0 = .ok (.aload_n 0, 1) := dk_42 (dk_at dksX6_once_0 0 rfl rfl)
theorem dX6_once_1 : decode cX6_once 1 = .ok (.ldc 129, 2) := dk_18 129 (dk_at dksX6_once_0 1 rfl rfl)
theorem dX6_once_3 : decode cX6_once 3 = .ok (.invokevirtual 29, 3) := dk_182 0 29 (dk_at dksX6_once_0 3 rfl rfl)
theorem dX6_once_6 : decode cX6_once 6 = .ok (.ifCond .eq 7, 3) := dk_153 0 7 (dk_at dksX6_once_0 6 rfl rfl)
theorem dX6_once_9 : decode cX6_once 9 = .ok (.iconst 0, 1) := dk_3 (dk_at dksX6_once_0 9 rfl rfl)
theorem dX6_once_10 : decode cX6_once 10 = .ok (.goto 30, 3) := dk_167 0 30 (dk_at dksX6_once_0 10 rfl rfl)
theorem dX6_once_13 : decode cX6_once 13 = .ok (.aload_n 0, 1) := dk_42 (dk_at dksX6_once_0 13 rfl rfl)
theorem dX6_once_14 : decode cX6_once 14 = .ok (.ldc 131, 2) := dk_18 131 (dk_at dksX6_once_0 14 rfl rfl)
theorem dX6_once_16 : decode cX6_once 16 = .ok (.invokevirtual 29, 3) := dk_182 0 29 (dk_at dksX6_once_0 16 rfl rfl)
theorem dX6_once_19 : decode cX6_once 19 = .ok (.ifCond .eq 7, 3) := dk_153 0 7 (dk_at dksX6_once_0 19 rfl rfl)
theorem dX6_once_22 : decode cX6_once 22 = .ok (.iconst 1, 1) := dk_4 (dk_at dksX6_once_0 22 rfl rfl)
theorem dX6_once_23 : decode cX6_once 23 = .ok (.goto 17, 3) := dk_167 0 17 (dk_at dksX6_once_1 0 rfl rfl)
theorem dX6_once_26 : decode cX6_once 26 = .ok (.aload_n 0, 1) := dk_42 (dk_at dksX6_once_1 3 rfl rfl)
theorem dX6_once_27 : decode cX6_once 27 = .ok (.ldc 133, 2) := dk_18 133 (dk_at dksX6_once_1 4 rfl rfl)
theorem dX6_once_29 : decode cX6_once 29 = .ok (.invokevirtual 29, 3) := dk_182 0 29 (dk_at dksX6_once_1 6 rfl rfl)
theorem dX6_once_32 : decode cX6_once 32 = .ok (.ifCond .eq 7, 3) := dk_153 0 7 (dk_at dksX6_once_1 9 rfl rfl)
theorem dX6_once_35 : decode cX6_once 35 = .ok (.iconst 2, 1) := dk_5 (dk_at dksX6_once_1 12 rfl rfl)
theorem dX6_once_36 : decode cX6_once 36 = .ok (.goto 4, 3) := dk_167 0 4 (dk_at dksX6_once_1 13 rfl rfl)
theorem dX6_once_39 : decode cX6_once 39 = .ok (.iconst (-1), 1) := dk_2 (dk_at dksX6_once_1 16 rfl rfl)
theorem dX6_once_40 : decode cX6_once 40 = .ok (.istore_n 1, 1) := dk_60 (dk_at dksX6_once_1 17 rfl rfl)
theorem dX6_once_41 : decode cX6_once 41 = .ok (.aload_n 0, 1) := dk_42 (dk_at dksX6_once_1 18 rfl rfl)
theorem dX6_once_42 : decode cX6_once 42 = .ok (.iload_n 1, 1) := dk_27 (dk_at dksX6_once_1 19 rfl rfl)
theorem dX6_once_43 : decode cX6_once 43 = .ok (.iconst (-1), 1) := dk_2 (dk_at dksX6_once_1 20 rfl rfl)
theorem dX6_once_44 : decode cX6_once 44 = .ok (.if_icmp .eq 7, 3) := dk_159 0 7 (dk_at dksX6_once_1 21 rfl rfl)
theorem dX6_once_47 : decode cX6_once 47 = .ok (.iconst 1, 1) := dk_4 (dk_at dksX6_once_2 0 rfl rfl)
theorem dX6_once_48 : decode cX6_once 48 = .ok (.goto 4, 3) := dk_167 0 4 (dk_at dksX6_once_2 1 rfl rfl)
theorem dX6_once_51 : decode cX6_once 51 = .ok (.iconst 0, 1) := dk_3 (dk_at dksX6_once_2 4 rfl rfl)
theorem dX6_once_52 : decode cX6_once 52 = .ok (.iconst 1, 1) := dk_4 (dk_at dksX6_once_2 5 rfl rfl)
theorem dX6_once_53 : decode cX6_once 53 = .ok (.invokevirtual 81, 3) := dk_182 0 81 (dk_at dksX6_once_2 6 rfl rfl)
theorem dX6_once_56 : decode cX6_once 56 = .ok (.aload_n 0, 1) := dk_42 (dk_at dksX6_once_2 9 rfl rfl)
theorem dX6_once_57 : decode cX6_once 57 = .ok (.aload_n 0, 1) := dk_42 (dk_at dksX6_once_2 10 rfl rfl)
theorem dX6_once_58 : decode cX6_once 58 = .ok (.getfield 134, 3) := dk_180 0 134 (dk_at dksX6_once_2 11 rfl rfl)
theorem dX6_once_61 : decode cX6_once 61 = .ok (.iload_n 1, 1) := dk_27 (dk_at dksX6_once_2 14 rfl rfl)
theorem dX6_once_62 : decode cX6_once 62 = .ok (.invokestatic 113, 3) := dk_184 0 113 (dk_at dksX6_once_2 15 rfl rfl)
theorem dX6_once_65 : decode cX6_once 65 = .ok (.ifCond .ne 7, 3) := dk_154 0 7 (dk_at dksX6_once_2 18 rfl rfl)
theorem dX6_once_68 : decode cX6_once 68 = .ok (.iconst 1, 1) := dk_4 (dk_at dksX6_once_2 21 rfl rfl)
theorem dX6_once_69 : decode cX6_once 69 = .ok (.goto 4, 3) := dk_167 0 4 (dk_at dksX6_once_3 0 rfl rfl)
theorem dX6_once_72 : decode cX6_once 72 = .ok (.iconst 0, 1) := dk_3 (dk_at dksX6_once_3 3 rfl rfl)
theorem dX6_once_73 : decode cX6_once 73 = .ok (.iconst 3, 1) := dk_6 (dk_at dksX6_once_3 4 rfl rfl)
theorem dX6_once_74 : decode cX6_once 74 = .ok (.invokevirtual 81, 3) := dk_182 0 81 (dk_at dksX6_once_3 5 rfl rfl)
theorem dX6_once_77 : decode cX6_once 77 = .ok (.aload_n 0, 1) := dk_42 (dk_at dksX6_once_3 8 rfl rfl)
theorem dX6_once_78 : decode cX6_once 78 = .ok (.dup, 1) := dk_89 (dk_at dksX6_once_3 9 rfl rfl)
theorem dX6_once_79 : decode cX6_once 79 = .ok (.getfield 134, 3) := dk_180 0 134 (dk_at dksX6_once_3 10 rfl rfl)
theorem dX6_once_82 : decode cX6_once 82 = .ok (.iconst 1, 1) := dk_4 (dk_at dksX6_once_3 13 rfl rfl)
theorem dX6_once_83 : decode cX6_once 83 = .ok (.iload_n 1, 1) := dk_27 (dk_at dksX6_once_3 14 rfl rfl)
theorem dX6_once_84 : decode cX6_once 84 = .ok (.ishl, 1) := dk_120 (dk_at dksX6_once_3 15 rfl rfl)
theorem dX6_once_85 : decode cX6_once 85 = .ok (.ior, 1) := dk_128 (dk_at dksX6_once_3 16 rfl rfl)
theorem dX6_once_86 : decode cX6_once 86 = .ok (.putfield 134, 3) := dk_181 0 134 (dk_at dksX6_once_3 17 rfl rfl)
theorem dX6_once_89 : decode cX6_once 89 = .ok (.aload_n 0, 1) := dk_42 (dk_at dksX6_once_3 20 rfl rfl)
theorem dX6_once_90 : decode cX6_once 90 = .ok (.invokevirtual 20, 3) := dk_182 0 20 (dk_at dksX6_once_3 21 rfl rfl)
theorem dX6_once_93 : decode cX6_once 93 = .ok (.iload_n 1, 1) := dk_27 (dk_at dksX6_once_4 0 rfl rfl)
theorem dX6_once_94 : decode cX6_once 94 = .ok (.ifCond .ne 17, 3) := dk_154 0 17 (dk_at dksX6_once_4 1 rfl rfl)
theorem dX6_once_97 : decode cX6_once 97 = .ok (.aload_n 0, 1) := dk_42 (dk_at dksX6_once_4 4 rfl rfl)
theorem dX6_once_98 : decode cX6_once 98 = .ok (.getfield 14, 3) := dk_180 0 14 (dk_at dksX6_once_4 5 rfl rfl)
theorem dX6_once_101 : decode cX6_once 101 = .ok (.aload_n 0, 1) := dk_42 (dk_at dksX6_once_4 8 rfl rfl)
theorem dX6_once_102 : decode cX6_once 102 = .ok (.iconst 1, 1) := dk_4 (dk_at dksX6_once_4 9 rfl rfl)
theorem dX6_once_103 : decode cX6_once 103 = .ok (.bipush 64, 2) := dk_16 64 (dk_at dksX6_once_4 10 rfl rfl)
theorem dX6_once_105 : decode cX6_once 105 = .ok (.invokevirtual 57, 3) := dk_182 0 57 (dk_at dksX6_once_4 12 rfl rfl)
theorem dX6_once_108 : decode cX6_once 108 = .ok (.putfield 137, 3) := dk_181 0 137 (dk_at dksX6_once_4 15 rfl rfl)
theorem dX6_once_111 : decode cX6_once 111 = .ok (.iload_n 1, 1) := dk_27 (dk_at dksX6_once_4 18 rfl rfl)
theorem dX6_once_112 : decode cX6_once 112 = .ok (.iconst 1, 1) := dk_4 (dk_at dksX6_once_4 19 rfl rfl)
theorem dX6_once_113 : decode cX6_once 113 = .ok (.if_icmp .ne 18, 3) := dk_160 0 18 (dk_at dksX6_once_4 20 rfl rfl)
theorem dX6_once_116 : decode cX6_once 116 = .ok (.aload_n 0, 1) := dk_42 (dk_at dksX6_once_4 23 rfl rfl)
theorem dX6_once_117 : decode cX6_once 117 = .ok (.getfield 14, 3) := dk_180 0 14 (dk_at dksX6_once_5 0 rfl rfl)
theorem dX6_once_120 : decode cX6_once 120 = .ok (.aload_n 0, 1) := dk_42 (dk_at dksX6_once_5 3 rfl rfl)
theorem dX6_once_121 : decode cX6_once 121 = .ok (.iconst 0, 1) := dk_3 (dk_at dksX6_once_5 4 rfl rfl)
theorem dX6_once_122 : decode cX6_once 122 = .ok (.sipush 600, 3) := dk_17 2 88 (dk_at dksX6_once_5 5 rfl rfl)
theorem dX6_once_125 : decode cX6_once 125 = .ok (.invokevirtual 57, 3) := dk_182 0 57 (dk_at dksX6_once_5 8 rfl rfl)
theorem dX6_once_128 : decode cX6_once 128 = .ok (.putfield 139, 3) := dk_181 0 139 (dk_at dksX6_once_5 11 rfl rfl)
theorem dX6_once_131 : decode cX6_once 131 = .ok (.iload_n 1, 1) := dk_27 (dk_at dksX6_once_5 14 rfl rfl)
theorem dX6_once_132 : decode cX6_once 132 = .ok (.iconst 2, 1) := dk_5 (dk_at dksX6_once_5 15 rfl rfl)
theorem dX6_once_133 : decode cX6_once 133 = .ok (.if_icmp .ne 11, 3) := dk_160 0 11 (dk_at dksX6_once_5 16 rfl rfl)
theorem dX6_once_136 : decode cX6_once 136 = .ok (.aload_n 0, 1) := dk_42 (dk_at dksX6_once_5 19 rfl rfl)
theorem dX6_once_137 : decode cX6_once 137 = .ok (.getfield 14, 3) := dk_180 0 14 (dk_at dksX6_once_5 20 rfl rfl)
theorem dX6_once_140 : decode cX6_once 140 = .ok (.iconst 1, 1) := dk_4 (dk_at dksX6_once_5 23 rfl rfl)
theorem dX6_once_141 : decode cX6_once 141 = .ok (.putfield 141, 3) := dk_181 0 141 (dk_at dksX6_once_6 0 rfl rfl)
theorem dX6_once_144 : decode cX6_once 144 = .ok (.return_, 1) := dk_177 (dk_at dksX6_once_6 3 rfl rfl)
def dkwX7_init_0 : List UInt8 := [42, 183, 0, 1, 42, 27, 181, 0, 7, 42, 28, 181, 0, 13, 177]
abbrev dktX7_init_0 : List UInt8 := dkwX7_init_0 ++ []
theorem dksX7_init_0 : cX7_init.data.toList.drop 0 = dktX7_init_0 := by decide +kernel
theorem dX7_init_0 : decode cX7_init 0 = .ok (.aload_n 0, 1) := dk_42 (dk_at dksX7_init_0 0 rfl rfl)
theorem dX7_init_1 : decode cX7_init 1 = .ok (.invokespecial 1, 3) := dk_183 0 1 (dk_at dksX7_init_0 1 rfl rfl)
theorem dX7_init_4 : decode cX7_init 4 = .ok (.aload_n 0, 1) := dk_42 (dk_at dksX7_init_0 4 rfl rfl)
theorem dX7_init_5 : decode cX7_init 5 = .ok (.iload_n 1, 1) := dk_27 (dk_at dksX7_init_0 5 rfl rfl)
theorem dX7_init_6 : decode cX7_init 6 = .ok (.putfield 7, 3) := dk_181 0 7 (dk_at dksX7_init_0 6 rfl rfl)
theorem dX7_init_9 : decode cX7_init 9 = .ok (.aload_n 0, 1) := dk_42 (dk_at dksX7_init_0 9 rfl rfl)
theorem dX7_init_10 : decode cX7_init 10 = .ok (.iload_n 2, 1) := dk_28 (dk_at dksX7_init_0 10 rfl rfl)
theorem dX7_init_11 : decode cX7_init 11 = .ok (.putfield 13, 3) := dk_181 0 13 (dk_at dksX7_init_0 11 rfl rfl)
theorem dX7_init_14 : decode cX7_init 14 = .ok (.return_, 1) := dk_177 (dk_at dksX7_init_0 14 rfl rfl)
theorem dX8_init_0 : decode cX8_init 0 = .ok (.aload_n 0, 1) := by decide +kernel
theorem dX8_init_1 : decode cX8_init 1 = .ok (.invokespecial 1, 3) := by decide +kernel
theorem dX8_init_4 : decode cX8_init 4 = .ok (.return_, 1) := by decide +kernel
def dkwX9_init_0 : List UInt8 := [42, 183, 0, 1, 42, 43, 181, 0, 7, 177]
abbrev dktX9_init_0 : List UInt8 := dkwX9_init_0 ++ []
theorem dksX9_init_0 : cX9_init.data.toList.drop 0 = dktX9_init_0 := by decide +kernel
theorem dX9_init_0 : decode cX9_init 0 = .ok (.aload_n 0, 1) := dk_42 (dk_at dksX9_init_0 0 rfl rfl)
theorem dX9_init_1 : decode cX9_init 1 = .ok (.invokespecial 1, 3) := dk_183 0 1 (dk_at dksX9_init_0 1 rfl rfl)
theorem dX9_init_4 : decode cX9_init 4 = .ok (.aload_n 0, 1) := dk_42 (dk_at dksX9_init_0 4 rfl rfl)
theorem dX9_init_5 : decode cX9_init 5 = .ok (.aload_n 1, 1) := dk_43 (dk_at dksX9_init_0 5 rfl rfl)
theorem dX9_init_6 : decode cX9_init 6 = .ok (.putfield 7, 3) := dk_181 0 7 (dk_at dksX9_init_0 6 rfl rfl)
theorem dX9_init_9 : decode cX9_init 9 = .ok (.return_, 1) := dk_177 (dk_at dksX9_init_0 9 rfl rfl)
def dkwX9_holds_0 : List UInt8 := [42, 180, 0, 7, 43, 28, 182, 0, 13, 154, 0, 7, 4, 167, 0, 4, 3, 172]
abbrev dktX9_holds_0 : List UInt8 := dkwX9_holds_0 ++ []
theorem dksX9_holds_0 : cX9_holds.data.toList.drop 0 = dktX9_holds_0 := by decide +kernel
theorem dX9_holds_0 : decode cX9_holds 0 = .ok (.aload_n 0, 1) := dk_42 (dk_at dksX9_holds_0 0 rfl rfl)
theorem dX9_holds_1 : decode cX9_holds 1 = .ok (.getfield 7, 3) := dk_180 0 7 (dk_at dksX9_holds_0 1 rfl rfl)
theorem dX9_holds_4 : decode cX9_holds 4 = .ok (.aload_n 1, 1) := dk_43 (dk_at dksX9_holds_0 4 rfl rfl)
theorem dX9_holds_5 : decode cX9_holds 5 = .ok (.iload_n 2, 1) := dk_28 (dk_at dksX9_holds_0 5 rfl rfl)
theorem dX9_holds_6 : decode cX9_holds 6 = .ok (.invokevirtual 13, 3) := dk_182 0 13 (dk_at dksX9_holds_0 6 rfl rfl)
theorem dX9_holds_9 : decode cX9_holds 9 = .ok (.ifCond .ne 7, 3) := dk_154 0 7 (dk_at dksX9_holds_0 9 rfl rfl)
theorem dX9_holds_12 : decode cX9_holds 12 = .ok (.iconst 1, 1) := dk_4 (dk_at dksX9_holds_0 12 rfl rfl)
theorem dX9_holds_13 : decode cX9_holds 13 = .ok (.goto 4, 3) := dk_167 0 4 (dk_at dksX9_holds_0 13 rfl rfl)
theorem dX9_holds_16 : decode cX9_holds 16 = .ok (.iconst 0, 1) := dk_3 (dk_at dksX9_holds_0 16 rfl rfl)
theorem dX9_holds_17 : decode cX9_holds 17 = .ok (.ireturn, 1) := dk_172 (dk_at dksX9_holds_0 17 rfl rfl)
def dkwX10_init_0 : List UInt8 := [42, 183, 0, 1, 42, 27, 181, 0, 7, 42, 28, 181, 0, 13, 177]
abbrev dktX10_init_0 : List UInt8 := dkwX10_init_0 ++ []
theorem dksX10_init_0 : cX10_init.data.toList.drop 0 = dktX10_init_0 := by decide +kernel
theorem dX10_init_0 : decode cX10_init 0 = .ok (.aload_n 0, 1) := dk_42 (dk_at dksX10_init_0 0 rfl rfl)
theorem dX10_init_1 : decode cX10_init 1 = .ok (.invokespecial 1, 3) := dk_183 0 1 (dk_at dksX10_init_0 1 rfl rfl)
theorem dX10_init_4 : decode cX10_init 4 = .ok (.aload_n 0, 1) := dk_42 (dk_at dksX10_init_0 4 rfl rfl)
theorem dX10_init_5 : decode cX10_init 5 = .ok (.iload_n 1, 1) := dk_27 (dk_at dksX10_init_0 5 rfl rfl)
theorem dX10_init_6 : decode cX10_init 6 = .ok (.putfield 7, 3) := dk_181 0 7 (dk_at dksX10_init_0 6 rfl rfl)
theorem dX10_init_9 : decode cX10_init 9 = .ok (.aload_n 0, 1) := dk_42 (dk_at dksX10_init_0 9 rfl rfl)
theorem dX10_init_10 : decode cX10_init 10 = .ok (.iload_n 2, 1) := dk_28 (dk_at dksX10_init_0 10 rfl rfl)
theorem dX10_init_11 : decode cX10_init 11 = .ok (.putfield 13, 3) := dk_181 0 13 (dk_at dksX10_init_0 11 rfl rfl)
theorem dX10_init_14 : decode cX10_init 14 = .ok (.return_, 1) := dk_177 (dk_at dksX10_init_0 14 rfl rfl)
def dkwX10_holds_3 : List UInt8 := [172]
abbrev dktX10_holds_3 : List UInt8 := dkwX10_holds_3 ++ []
def dkwX10_holds_2 : List UInt8 := [160, 0, 7, 4, 167, 0, 20, 3, 167, 0, 16, 29, 42, 180, 0, 13, 164, 0, 7, 4, 167, 0, 4, 3]
abbrev dktX10_holds_2 : List UInt8 := dkwX10_holds_2 ++ dktX10_holds_3
def dkwX10_holds_1 : List UInt8 := [4, 167, 0, 45, 3, 167, 0, 41, 42, 180, 0, 7, 16, 61, 160, 0, 19, 29, 42, 180, 0, 13]
abbrev dktX10_holds_1 : List UInt8 := dkwX10_holds_1 ++ dktX10_holds_2
def dkwX10_holds_0 : List UInt8 := [42, 43, 28, 182, 0, 16, 62, 42, 180, 0, 7, 16, 60, 160, 0, 19, 29, 42, 180, 0, 13, 162, 0, 7]
abbrev dktX10_holds_0 : List UInt8 := dkwX10_holds_0 ++ dktX10_holds_1
theorem dksX10_holds_0 : cX10_holds.data.toList.drop 0 = dktX10_holds_0 := by decide +kernel
theorem dksX10_holds_1 : cX10_holds.data.toList.drop 24 = dktX10_holds_1 := dk_seg dksX10_holds_0 24 rfl rfl
theorem dksX10_holds_2 : cX10_holds.data.toList.drop 46 = dktX10_holds_2 := dk_seg dksX10_holds_1 22 rfl rfl
theorem dksX10_holds_3 : cX10_holds.data.toList.drop 70 = dktX10_holds_3 := dk_seg dksX10_holds_2 24 rfl rfl
theorem dX10_holds_0 : decode cX10_holds 0 = .ok (.aload_n 0, 1) := dk_42 (dk_at dksX10_holds_0 0 rfl rfl)
theorem dX10_holds_1 : decode cX10_holds 1 = .ok (.aload_n 1, 1) := dk_43 (dk_at dksX10_holds_0 1 rfl rfl)
theorem dX10_holds_2 : decode cX10_holds 2 = .ok (.iload_n 2, 1) := dk_28 (dk_at dksX10_holds_0 2 rfl rfl)
theorem dX10_holds_3 : decode cX10_holds 3 = .ok (.invokevirtual 16, 3) := dk_182 0 16 (dk_at dksX10_holds_0 3 rfl rfl)
theorem dX10_holds_6 : decode cX10_holds 6 = .ok (.istore_n 3, 1) := dk_62 (dk_at dksX10_holds_0 6 rfl rfl)
theorem dX10_holds_7 : decode cX10_holds 7 = .ok (.aload_n 0, 1) := dk_42 (dk_at dksX10_holds_0 7 rfl rfl)
theorem dX10_holds_8 : decode cX10_holds 8 = .ok (.getfield 7, 3) := dk_180 0 7 (dk_at dksX10_holds_0 8 rfl rfl)
theorem dX10_holds_11 : decode cX10_holds 11 = .ok (.bipush 60, 2) := dk_16 60 (dk_at dksX10_holds_0 11 rfl rfl)
theorem dX10_holds_13 : decode cX10_holds 13 = .ok (.if_icmp .ne 19, 3) := dk_160 0 19 (dk_at dksX10_holds_0 13 rfl rfl)
theorem dX10_holds_16 : decode cX10_holds 16 = .ok (.iload_n 3, 1) := dk_29 (dk_at dksX10_holds_0 16 rfl rfl)
theorem dX10_holds_17 : decode cX10_holds 17 = .ok (.aload_n 0, 1) := dk_42 (dk_at dksX10_holds_0 17 rfl rfl)
theorem dX10_holds_18 : decode cX10_holds 18 = .ok (.getfield 13, 3) := dk_180 0 13 (dk_at dksX10_holds_0 18 rfl rfl)
theorem dX10_holds_21 : decode cX10_holds 21 = .ok (.if_icmp .ge 7, 3) := dk_162 0 7 (dk_at dksX10_holds_0 21 rfl rfl)
theorem dX10_holds_24 : decode cX10_holds 24 = .ok (.iconst 1, 1) := dk_4 (dk_at dksX10_holds_1 0 rfl rfl)
theorem dX10_holds_25 : decode cX10_holds 25 = .ok (.goto 45, 3) := dk_167 0 45 (dk_at dksX10_holds_1 1 rfl rfl)
theorem dX10_holds_28 : decode cX10_holds 28 = .ok (.iconst 0, 1) := dk_3 (dk_at dksX10_holds_1 4 rfl rfl)
theorem dX10_holds_29 : decode cX10_holds 29 = .ok (.goto 41, 3) := dk_167 0 41 (dk_at dksX10_holds_1 5 rfl rfl)
theorem dX10_holds_32 : decode cX10_holds 32 = .ok (.aload_n 0, 1) := dk_42 (dk_at dksX10_holds_1 8 rfl rfl)
theorem dX10_holds_33 : decode cX10_holds 33 = .ok (.getfield 7, 3) := dk_180 0 7 (dk_at dksX10_holds_1 9 rfl rfl)
theorem dX10_holds_36 : decode cX10_holds 36 = .ok (.bipush 61, 2) := dk_16 61 (dk_at dksX10_holds_1 12 rfl rfl)
theorem dX10_holds_38 : decode cX10_holds 38 = .ok (.if_icmp .ne 19, 3) := dk_160 0 19 (dk_at dksX10_holds_1 14 rfl rfl)
theorem dX10_holds_41 : decode cX10_holds 41 = .ok (.iload_n 3, 1) := dk_29 (dk_at dksX10_holds_1 17 rfl rfl)
theorem dX10_holds_42 : decode cX10_holds 42 = .ok (.aload_n 0, 1) := dk_42 (dk_at dksX10_holds_1 18 rfl rfl)
theorem dX10_holds_43 : decode cX10_holds 43 = .ok (.getfield 13, 3) := dk_180 0 13 (dk_at dksX10_holds_1 19 rfl rfl)
theorem dX10_holds_46 : decode cX10_holds 46 = .ok (.if_icmp .ne 7, 3) := dk_160 0 7 (dk_at dksX10_holds_2 0 rfl rfl)
theorem dX10_holds_49 : decode cX10_holds 49 = .ok (.iconst 1, 1) := dk_4 (dk_at dksX10_holds_2 3 rfl rfl)
theorem dX10_holds_50 : decode cX10_holds 50 = .ok (.goto 20, 3) := dk_167 0 20 (dk_at dksX10_holds_2 4 rfl rfl)
theorem dX10_holds_53 : decode cX10_holds 53 = .ok (.iconst 0, 1) := dk_3 (dk_at dksX10_holds_2 7 rfl rfl)
theorem dX10_holds_54 : decode cX10_holds 54 = .ok (.goto 16, 3) := dk_167 0 16 (dk_at dksX10_holds_2 8 rfl rfl)
theorem dX10_holds_57 : decode cX10_holds 57 = .ok (.iload_n 3, 1) := dk_29 (dk_at dksX10_holds_2 11 rfl rfl)
theorem dX10_holds_58 : decode cX10_holds 58 = .ok (.aload_n 0, 1) := dk_42 (dk_at dksX10_holds_2 12 rfl rfl)
theorem dX10_holds_59 : decode cX10_holds 59 = .ok (.getfield 13, 3) := dk_180 0 13 (dk_at dksX10_holds_2 13 rfl rfl)
theorem dX10_holds_62 : decode cX10_holds 62 = .ok (.if_icmp .le 7, 3) := dk_164 0 7 (dk_at dksX10_holds_2 16 rfl rfl)
theorem dX10_holds_65 : decode cX10_holds 65 = .ok (.iconst 1, 1) := dk_4 (dk_at dksX10_holds_2 19 rfl rfl)
theorem dX10_holds_66 : decode cX10_holds 66 = .ok (.goto 4, 3) := dk_167 0 4 (dk_at dksX10_holds_2 20 rfl rfl)
theorem dX10_holds_69 : decode cX10_holds 69 = .ok (.iconst 0, 1) := dk_3 (dk_at dksX10_holds_2 23 rfl rfl)
theorem dX10_holds_70 : decode cX10_holds 70 = .ok (.ireturn, 1) := dk_172 (dk_at dksX10_holds_3 0 rfl rfl)
def dkwX11_init_0 : List UInt8 := [42, 29, 21, 4, 183, 0, 1, 42, 27, 181, 0, 7, 42, 28, 181, 0, 13, 177]
abbrev dktX11_init_0 : List UInt8 := dkwX11_init_0 ++ []
theorem dksX11_init_0 : cX11_init.data.toList.drop 0 = dktX11_init_0 := by decide +kernel
theorem dX11_init_0 : decode cX11_init 0 = .ok (.aload_n 0, 1) := dk_42 (dk_at dksX11_init_0 0 rfl rfl)
theorem dX11_init_1 : decode cX11_init 1 = .ok (.iload_n 3, 1) := dk_29 (dk_at dksX11_init_0 1 rfl rfl)
theorem dX11_init_2 : decode cX11_init 2 = .ok (.iload 4, 2) := dk_21 4 (dk_at dksX11_init_0 2 rfl rfl)
theorem dX11_init_4 : decode cX11_init 4 = .ok (.invokespecial 1, 3) := dk_183 0 1 (dk_at dksX11_init_0 4 rfl rfl)
theorem dX11_init_7 : decode cX11_init 7 = .ok (.aload_n 0, 1) := dk_42 (dk_at dksX11_init_0 7 rfl rfl)
theorem dX11_init_8 : decode cX11_init 8 = .ok (.iload_n 1, 1) := dk_27 (dk_at dksX11_init_0 8 rfl rfl)
theorem dX11_init_9 : decode cX11_init 9 = .ok (.putfield 7, 3) := dk_181 0 7 (dk_at dksX11_init_0 9 rfl rfl)
theorem dX11_init_12 : decode cX11_init 12 = .ok (.aload_n 0, 1) := dk_42 (dk_at dksX11_init_0 12 rfl rfl)
theorem dX11_init_13 : decode cX11_init 13 = .ok (.iload_n 2, 1) := dk_28 (dk_at dksX11_init_0 13 rfl rfl)
theorem dX11_init_14 : decode cX11_init 14 = .ok (.putfield 13, 3) := dk_181 0 13 (dk_at dksX11_init_0 14 rfl rfl)
theorem dX11_init_17 : decode cX11_init 17 = .ok (.return_, 1) := dk_177 (dk_at dksX11_init_0 17 rfl rfl)
def dkwX11_value_0 : List UInt8 := [43, 28, 42, 180, 0, 7, 42, 180, 0, 13, 182, 0, 16, 172]
abbrev dktX11_value_0 : List UInt8 := dkwX11_value_0 ++ []
theorem dksX11_value_0 : cX11_value.data.toList.drop 0 = dktX11_value_0 := by decide +kernel
theorem dX11_value_0 : decode cX11_value 0 = .ok (.aload_n 1, 1) := dk_43 (dk_at dksX11_value_0 0 rfl rfl)
theorem dX11_value_1 : decode cX11_value 1 = .ok (.iload_n 2, 1) := dk_28 (dk_at dksX11_value_0 1 rfl rfl)
theorem dX11_value_2 : decode cX11_value 2 = .ok (.aload_n 0, 1) := dk_42 (dk_at dksX11_value_0 2 rfl rfl)
theorem dX11_value_3 : decode cX11_value 3 = .ok (.getfield 7, 3) := dk_180 0 7 (dk_at dksX11_value_0 3 rfl rfl)
theorem dX11_value_6 : decode cX11_value 6 = .ok (.aload_n 0, 1) := dk_42 (dk_at dksX11_value_0 6 rfl rfl)
theorem dX11_value_7 : decode cX11_value 7 = .ok (.getfield 13, 3) := dk_180 0 13 (dk_at dksX11_value_0 7 rfl rfl)
theorem dX11_value_10 : decode cX11_value 10 = .ok (.invokevirtual 16, 3) := dk_182 0 16 (dk_at dksX11_value_0 10 rfl rfl)
theorem dX11_value_13 : decode cX11_value 13 = .ok (.ireturn, 1) := dk_172 (dk_at dksX11_value_0 13 rfl rfl)
def dkwX12_init_0 : List UInt8 := [42, 27, 28, 183, 0, 1, 177]
abbrev dktX12_init_0 : List UInt8 := dkwX12_init_0 ++ []
theorem dksX12_init_0 : cX12_init.data.toList.drop 0 = dktX12_init_0 := by decide +kernel
theorem dX12_init_0 : decode cX12_init 0 = .ok (.aload_n 0, 1) := dk_42 (dk_at dksX12_init_0 0 rfl rfl)
theorem dX12_init_1 : decode cX12_init 1 = .ok (.iload_n 1, 1) := dk_27 (dk_at dksX12_init_0 1 rfl rfl)
theorem dX12_init_2 : decode cX12_init 2 = .ok (.iload_n 2, 1) := dk_28 (dk_at dksX12_init_0 2 rfl rfl)
theorem dX12_init_3 : decode cX12_init 3 = .ok (.invokespecial 1, 3) := dk_183 0 1 (dk_at dksX12_init_0 3 rfl rfl)
theorem dX12_init_6 : decode cX12_init 6 = .ok (.return_, 1) := dk_177 (dk_at dksX12_init_0 6 rfl rfl)
def dkwX12_value_0 : List UInt8 := [43, 180, 0, 7, 28, 46, 172]
abbrev dktX12_value_0 : List UInt8 := dkwX12_value_0 ++ []
theorem dksX12_value_0 : cX12_value.data.toList.drop 0 = dktX12_value_0 := by decide +kernel
theorem dX12_value_0 : decode cX12_value 0 = .ok (.aload_n 1, 1) := dk_43 (dk_at dksX12_value_0 0 rfl rfl)
theorem dX12_value_1 : decode cX12_value 1 = .ok (.getfield 7, 3) := dk_180 0 7 (dk_at dksX12_value_0 1 rfl rfl)
theorem dX12_value_4 : decode cX12_value 4 = .ok (.iload_n 2, 1) := dk_28 (dk_at dksX12_value_0 4 rfl rfl)
theorem dX12_value_5 : decode cX12_value 5 = .ok (.iaload, 1) := dk_46 (dk_at dksX12_value_0 5 rfl rfl)
theorem dX12_value_6 : decode cX12_value 6 = .ok (.ireturn, 1) := dk_172 (dk_at dksX12_value_0 6 rfl rfl)
def dkwX13_init_0 : List UInt8 := [42, 27, 28, 183, 0, 1, 177]
abbrev dktX13_init_0 : List UInt8 := dkwX13_init_0 ++ []
theorem dksX13_init_0 : cX13_init.data.toList.drop 0 = dktX13_init_0 := by decide +kernel
theorem dX13_init_0 : decode cX13_init 0 = .ok (.aload_n 0, 1) := dk_42 (dk_at dksX13_init_0 0 rfl rfl)
theorem dX13_init_1 : decode cX13_init 1 = .ok (.iload_n 1, 1) := dk_27 (dk_at dksX13_init_0 1 rfl rfl)
theorem dX13_init_2 : decode cX13_init 2 = .ok (.iload_n 2, 1) := dk_28 (dk_at dksX13_init_0 2 rfl rfl)
theorem dX13_init_3 : decode cX13_init 3 = .ok (.invokespecial 1, 3) := dk_183 0 1 (dk_at dksX13_init_0 3 rfl rfl)
theorem dX13_init_6 : decode cX13_init 6 = .ok (.return_, 1) := dk_177 (dk_at dksX13_init_0 6 rfl rfl)
def dkwX13_value_0 : List UInt8 := [43, 180, 0, 7, 28, 46, 172]
abbrev dktX13_value_0 : List UInt8 := dkwX13_value_0 ++ []
theorem dksX13_value_0 : cX13_value.data.toList.drop 0 = dktX13_value_0 := by decide +kernel
theorem dX13_value_0 : decode cX13_value 0 = .ok (.aload_n 1, 1) := dk_43 (dk_at dksX13_value_0 0 rfl rfl)
theorem dX13_value_1 : decode cX13_value 1 = .ok (.getfield 7, 3) := dk_180 0 7 (dk_at dksX13_value_0 1 rfl rfl)
theorem dX13_value_4 : decode cX13_value 4 = .ok (.iload_n 2, 1) := dk_28 (dk_at dksX13_value_0 4 rfl rfl)
theorem dX13_value_5 : decode cX13_value 5 = .ok (.iaload, 1) := dk_46 (dk_at dksX13_value_0 5 rfl rfl)
theorem dX13_value_6 : decode cX13_value 6 = .ok (.ireturn, 1) := dk_172 (dk_at dksX13_value_0 6 rfl rfl)
def dkwX14_init_0 : List UInt8 := [42, 183, 0, 1, 42, 43, 181, 0, 7, 42, 44, 181, 0, 13, 177]
abbrev dktX14_init_0 : List UInt8 := dkwX14_init_0 ++ []
theorem dksX14_init_0 : cX14_init.data.toList.drop 0 = dktX14_init_0 := by decide +kernel
theorem dX14_init_0 : decode cX14_init 0 = .ok (.aload_n 0, 1) := dk_42 (dk_at dksX14_init_0 0 rfl rfl)
theorem dX14_init_1 : decode cX14_init 1 = .ok (.invokespecial 1, 3) := dk_183 0 1 (dk_at dksX14_init_0 1 rfl rfl)
theorem dX14_init_4 : decode cX14_init 4 = .ok (.aload_n 0, 1) := dk_42 (dk_at dksX14_init_0 4 rfl rfl)
theorem dX14_init_5 : decode cX14_init 5 = .ok (.aload_n 1, 1) := dk_43 (dk_at dksX14_init_0 5 rfl rfl)
theorem dX14_init_6 : decode cX14_init 6 = .ok (.putfield 7, 3) := dk_181 0 7 (dk_at dksX14_init_0 6 rfl rfl)
theorem dX14_init_9 : decode cX14_init 9 = .ok (.aload_n 0, 1) := dk_42 (dk_at dksX14_init_0 9 rfl rfl)
theorem dX14_init_10 : decode cX14_init 10 = .ok (.aload_n 2, 1) := dk_44 (dk_at dksX14_init_0 10 rfl rfl)
theorem dX14_init_11 : decode cX14_init 11 = .ok (.putfield 13, 3) := dk_181 0 13 (dk_at dksX14_init_0 11 rfl rfl)
theorem dX14_init_14 : decode cX14_init 14 = .ok (.return_, 1) := dk_177 (dk_at dksX14_init_0 14 rfl rfl)
def dkwX15_init_0 : List UInt8 := [42, 43, 44, 183, 0, 1, 177]
abbrev dktX15_init_0 : List UInt8 := dkwX15_init_0 ++ []
theorem dksX15_init_0 : cX15_init.data.toList.drop 0 = dktX15_init_0 := by decide +kernel
theorem dX15_init_0 : decode cX15_init 0 = .ok (.aload_n 0, 1) := dk_42 (dk_at dksX15_init_0 0 rfl rfl)
theorem dX15_init_1 : decode cX15_init 1 = .ok (.aload_n 1, 1) := dk_43 (dk_at dksX15_init_0 1 rfl rfl)
theorem dX15_init_2 : decode cX15_init 2 = .ok (.aload_n 2, 1) := dk_44 (dk_at dksX15_init_0 2 rfl rfl)
theorem dX15_init_3 : decode cX15_init 3 = .ok (.invokespecial 1, 3) := dk_183 0 1 (dk_at dksX15_init_0 3 rfl rfl)
theorem dX15_init_6 : decode cX15_init 6 = .ok (.return_, 1) := dk_177 (dk_at dksX15_init_0 6 rfl rfl)
def dkwX15_holds_1 : List UInt8 := [4, 167, 0, 4, 3, 172]
abbrev dktX15_holds_1 : List UInt8 := dkwX15_holds_1 ++ []
def dkwX15_holds_0 : List UInt8 := [42, 180, 0, 7, 43, 28, 182, 0, 13, 153, 0, 19, 42, 180, 0, 19, 43, 28, 182, 0, 13, 153, 0, 7]
abbrev dktX15_holds_0 : List UInt8 := dkwX15_holds_0 ++ dktX15_holds_1
theorem dksX15_holds_0 : cX15_holds.data.toList.drop 0 = dktX15_holds_0 := by decide +kernel
theorem dksX15_holds_1 : cX15_holds.data.toList.drop 24 = dktX15_holds_1 := dk_seg dksX15_holds_0 24 rfl rfl
theorem dX15_holds_0 : decode cX15_holds 0 = .ok (.aload_n 0, 1) := dk_42 (dk_at dksX15_holds_0 0 rfl rfl)
theorem dX15_holds_1 : decode cX15_holds 1 = .ok (.getfield 7, 3) := dk_180 0 7 (dk_at dksX15_holds_0 1 rfl rfl)
theorem dX15_holds_4 : decode cX15_holds 4 = .ok (.aload_n 1, 1) := dk_43 (dk_at dksX15_holds_0 4 rfl rfl)
theorem dX15_holds_5 : decode cX15_holds 5 = .ok (.iload_n 2, 1) := dk_28 (dk_at dksX15_holds_0 5 rfl rfl)
theorem dX15_holds_6 : decode cX15_holds 6 = .ok (.invokevirtual 13, 3) := dk_182 0 13 (dk_at dksX15_holds_0 6 rfl rfl)
theorem dX15_holds_9 : decode cX15_holds 9 = .ok (.ifCond .eq 19, 3) := dk_153 0 19 (dk_at dksX15_holds_0 9 rfl rfl)
theorem dX15_holds_12 : decode cX15_holds 12 = .ok (.aload_n 0, 1) := dk_42 (dk_at dksX15_holds_0 12 rfl rfl)
theorem dX15_holds_13 : decode cX15_holds 13 = .ok (.getfield 19, 3) := dk_180 0 19 (dk_at dksX15_holds_0 13 rfl rfl)
theorem dX15_holds_16 : decode cX15_holds 16 = .ok (.aload_n 1, 1) := dk_43 (dk_at dksX15_holds_0 16 rfl rfl)
theorem dX15_holds_17 : decode cX15_holds 17 = .ok (.iload_n 2, 1) := dk_28 (dk_at dksX15_holds_0 17 rfl rfl)
theorem dX15_holds_18 : decode cX15_holds 18 = .ok (.invokevirtual 13, 3) := dk_182 0 13 (dk_at dksX15_holds_0 18 rfl rfl)
theorem dX15_holds_21 : decode cX15_holds 21 = .ok (.ifCond .eq 7, 3) := dk_153 0 7 (dk_at dksX15_holds_0 21 rfl rfl)
theorem dX15_holds_24 : decode cX15_holds 24 = .ok (.iconst 1, 1) := dk_4 (dk_at dksX15_holds_1 0 rfl rfl)
theorem dX15_holds_25 : decode cX15_holds 25 = .ok (.goto 4, 3) := dk_167 0 4 (dk_at dksX15_holds_1 1 rfl rfl)
theorem dX15_holds_28 : decode cX15_holds 28 = .ok (.iconst 0, 1) := dk_3 (dk_at dksX15_holds_1 4 rfl rfl)
theorem dX15_holds_29 : decode cX15_holds 29 = .ok (.ireturn, 1) := dk_172 (dk_at dksX15_holds_1 5 rfl rfl)
def dkwX16_init_0 : List UInt8 := [42, 43, 44, 183, 0, 1, 177]
abbrev dktX16_init_0 : List UInt8 := dkwX16_init_0 ++ []
theorem dksX16_init_0 : cX16_init.data.toList.drop 0 = dktX16_init_0 := by decide +kernel
theorem dX16_init_0 : decode cX16_init 0 = .ok (.aload_n 0, 1) := dk_42 (dk_at dksX16_init_0 0 rfl rfl)
theorem dX16_init_1 : decode cX16_init 1 = .ok (.aload_n 1, 1) := dk_43 (dk_at dksX16_init_0 1 rfl rfl)
theorem dX16_init_2 : decode cX16_init 2 = .ok (.aload_n 2, 1) := dk_44 (dk_at dksX16_init_0 2 rfl rfl)
theorem dX16_init_3 : decode cX16_init 3 = .ok (.invokespecial 1, 3) := dk_183 0 1 (dk_at dksX16_init_0 3 rfl rfl)
theorem dX16_init_6 : decode cX16_init 6 = .ok (.return_, 1) := dk_177 (dk_at dksX16_init_0 6 rfl rfl)
def dkwX16_holds_1 : List UInt8 := [4, 167, 0, 4, 3, 172]
abbrev dktX16_holds_1 : List UInt8 := dkwX16_holds_1 ++ []
def dkwX16_holds_0 : List UInt8 := [42, 180, 0, 7, 43, 28, 182, 0, 13, 154, 0, 15, 42, 180, 0, 19, 43, 28, 182, 0, 13, 153, 0, 7]
abbrev dktX16_holds_0 : List UInt8 := dkwX16_holds_0 ++ dktX16_holds_1
theorem dksX16_holds_0 : cX16_holds.data.toList.drop 0 = dktX16_holds_0 := by decide +kernel
theorem dksX16_holds_1 : cX16_holds.data.toList.drop 24 = dktX16_holds_1 := dk_seg dksX16_holds_0 24 rfl rfl
theorem dX16_holds_0 : decode cX16_holds 0 = .ok (.aload_n 0, 1) := dk_42 (dk_at dksX16_holds_0 0 rfl rfl)
theorem dX16_holds_1 : decode cX16_holds 1 = .ok (.getfield 7, 3) := dk_180 0 7 (dk_at dksX16_holds_0 1 rfl rfl)
theorem dX16_holds_4 : decode cX16_holds 4 = .ok (.aload_n 1, 1) := dk_43 (dk_at dksX16_holds_0 4 rfl rfl)
theorem dX16_holds_5 : decode cX16_holds 5 = .ok (.iload_n 2, 1) := dk_28 (dk_at dksX16_holds_0 5 rfl rfl)
theorem dX16_holds_6 : decode cX16_holds 6 = .ok (.invokevirtual 13, 3) := dk_182 0 13 (dk_at dksX16_holds_0 6 rfl rfl)
theorem dX16_holds_9 : decode cX16_holds 9 = .ok (.ifCond .ne 15, 3) := dk_154 0 15 (dk_at dksX16_holds_0 9 rfl rfl)
theorem dX16_holds_12 : decode cX16_holds 12 = .ok (.aload_n 0, 1) := dk_42 (dk_at dksX16_holds_0 12 rfl rfl)
theorem dX16_holds_13 : decode cX16_holds 13 = .ok (.getfield 19, 3) := dk_180 0 19 (dk_at dksX16_holds_0 13 rfl rfl)
theorem dX16_holds_16 : decode cX16_holds 16 = .ok (.aload_n 1, 1) := dk_43 (dk_at dksX16_holds_0 16 rfl rfl)
theorem dX16_holds_17 : decode cX16_holds 17 = .ok (.iload_n 2, 1) := dk_28 (dk_at dksX16_holds_0 17 rfl rfl)
theorem dX16_holds_18 : decode cX16_holds 18 = .ok (.invokevirtual 13, 3) := dk_182 0 13 (dk_at dksX16_holds_0 18 rfl rfl)
theorem dX16_holds_21 : decode cX16_holds 21 = .ok (.ifCond .eq 7, 3) := dk_153 0 7 (dk_at dksX16_holds_0 21 rfl rfl)
theorem dX16_holds_24 : decode cX16_holds 24 = .ok (.iconst 1, 1) := dk_4 (dk_at dksX16_holds_1 0 rfl rfl)
theorem dX16_holds_25 : decode cX16_holds 25 = .ok (.goto 4, 3) := dk_167 0 4 (dk_at dksX16_holds_1 1 rfl rfl)
theorem dX16_holds_28 : decode cX16_holds 28 = .ok (.iconst 0, 1) := dk_3 (dk_at dksX16_holds_1 4 rfl rfl)
theorem dX16_holds_29 : decode cX16_holds 29 = .ok (.ireturn, 1) := dk_172 (dk_at dksX16_holds_1 5 rfl rfl)
def dkwX17_init_1 : List UInt8 := [181, 0, 20, 177]
abbrev dktX17_init_1 : List UInt8 := dkwX17_init_1 ++ []
def dkwX17_init_0 : List UInt8 := [42, 43, 28, 17, 1, 144, 183, 0, 3, 42, 187, 0, 9, 89, 183, 0, 11, 181, 0, 14, 42, 45]
abbrev dktX17_init_0 : List UInt8 := dkwX17_init_0 ++ dktX17_init_1
theorem dksX17_init_0 : cX17_init.data.toList.drop 0 = dktX17_init_0 := by decide +kernel
theorem dksX17_init_1 : cX17_init.data.toList.drop 22 = dktX17_init_1 := dk_seg dksX17_init_0 22 rfl rfl
theorem dX17_init_0 : decode cX17_init 0 = .ok (.aload_n 0, 1) := dk_42 (dk_at dksX17_init_0 0 rfl rfl)
theorem dX17_init_1 : decode cX17_init 1 = .ok (.aload_n 1, 1) := dk_43 (dk_at dksX17_init_0 1 rfl rfl)
theorem dX17_init_2 : decode cX17_init 2 = .ok (.iload_n 2, 1) := dk_28 (dk_at dksX17_init_0 2 rfl rfl)
theorem dX17_init_3 : decode cX17_init 3 = .ok (.sipush 400, 3) := dk_17 1 144 (dk_at dksX17_init_0 3 rfl rfl)
theorem dX17_init_6 : decode cX17_init 6 = .ok (.invokespecial 3, 3) := dk_183 0 3 (dk_at dksX17_init_0 6 rfl rfl)
theorem dX17_init_9 : decode cX17_init 9 = .ok (.aload_n 0, 1) := dk_42 (dk_at dksX17_init_0 9 rfl rfl)
theorem dX17_init_10 : decode cX17_init 10 = .ok (.new 9, 3) := dk_187 0 9 (dk_at dksX17_init_0 10 rfl rfl)
theorem dX17_init_13 : decode cX17_init 13 = .ok (.dup, 1) := dk_89 (dk_at dksX17_init_0 13 rfl rfl)
theorem dX17_init_14 : decode cX17_init 14 = .ok (.invokespecial 11, 3) := dk_183 0 11 (dk_at dksX17_init_0 14 rfl rfl)
theorem dX17_init_17 : decode cX17_init 17 = .ok (.putfield 14, 3) := dk_181 0 14 (dk_at dksX17_init_0 17 rfl rfl)
theorem dX17_init_20 : decode cX17_init 20 = .ok (.aload_n 0, 1) := dk_42 (dk_at dksX17_init_0 20 rfl rfl)
theorem dX17_init_21 : decode cX17_init 21 = .ok (.aload_n 3, 1) := dk_45 (dk_at dksX17_init_0 21 rfl rfl)
theorem dX17_init_22 : decode cX17_init 22 = .ok (.putfield 20, 3) := dk_181 0 20 (dk_at dksX17_init_1 0 rfl rfl)
theorem dX17_init_25 : decode cX17_init 25 = .ok (.return_, 1) := dk_177 (dk_at dksX17_init_1 3 rfl rfl)
def dkwX17_read_3 : List UInt8 := [87, 42, 182, 0, 57, 167, 255, 186, 42, 180, 0, 14, 176]
abbrev dktX17_read_3 : List UInt8 := dkwX17_read_3 ++ []
def dkwX17_read_2 : List UInt8 := [182, 0, 24, 42, 27, 17, 2, 88, 182, 0, 45, 60, 42, 180, 0, 14, 42, 27, 182, 0, 49, 182, 0, 53]
abbrev dktX17_read_2 : List UInt8 := dkwX17_read_2 ++ dktX17_read_3
def dkwX17_read_1 : List UInt8 := [42, 42, 180, 0, 14, 182, 0, 41, 16, 30, 162, 0, 7, 4, 167, 0, 4, 3, 7, 182, 0, 37, 42]
abbrev dktX17_read_1 : List UInt8 := dkwX17_read_1 ++ dktX17_read_2
def dkwX17_read_0 : List UInt8 := [42, 182, 0, 24, 3, 60, 42, 180, 0, 27, 153, 0, 69, 42, 42, 18, 31, 182, 0, 33, 4, 182, 0, 37]
abbrev dktX17_read_0 : List UInt8 := dkwX17_read_0 ++ dktX17_read_1
theorem dksX17_read_0 : cX17_read.data.toList.drop 0 = dktX17_read_0 := by decide +kernel
theorem dksX17_read_1 : cX17_read.data.toList.drop 24 = dktX17_read_1 := dk_seg dksX17_read_0 24 rfl rfl
theorem dksX17_read_2 : cX17_read.data.toList.drop 47 = dktX17_read_2 := dk_seg dksX17_read_1 23 rfl rfl
theorem dksX17_read_3 : cX17_read.data.toList.drop 71 = dktX17_read_3 := dk_seg dksX17_read_2 24 rfl rfl
theorem dX17_read_0 : decode cX17_read 0 = .ok (.aload_n 0, 1) := dk_42 (dk_at dksX17_read_0 0 rfl rfl)
theorem dX17_read_1 : decode cX17_read 1 = .ok (.invokevirtual 24, 3) := dk_182 0 24 (dk_at dksX17_read_0 1 rfl rfl)
theorem dX17_read_4 : decode cX17_read 4 = .ok (.iconst 0, 1) := dk_3 (dk_at dksX17_read_0 4 rfl rfl)
theorem dX17_read_5 : decode cX17_read 5 = .ok (.istore_n 1, 1) := dk_60 (dk_at dksX17_read_0 5 rfl rfl)
theorem dX17_read_6 : decode cX17_read 6 = .ok (.aload_n 0, 1) := dk_42 (dk_at dksX17_read_0 6 rfl rfl)
theorem dX17_read_7 : decode cX17_read 7 = .ok (.getfield 27, 3) := dk_180 0 27 (dk_at dksX17_read_0 7 rfl rfl)
theorem dX17_read_10 : decode cX17_read 10 = .ok (.ifCond .eq 69, 3) := dk_153 0 69 (dk_at dksX17_read_0 10 rfl rfl)
theorem dX17_read_13 : decode cX17_read 13 = .ok (.aload_n 0, 1) := dk_42 (dk_at dksX17_read_0 13 rfl rfl)
theorem dX17_read_14 : decode cX17_read 14 = .ok (.aload_n 0, 1) := dk_42 (dk_at dksX17_read_0 14 rfl rfl)
theorem dX17_read_15 : decode cX17_read 15 = .ok (.ldc 31, 2) := dk_18 31 (dk_at dksX17_read_0 15 rfl rfl)
theorem dX17_read_17 : decode cX17_read 17 = .ok (.invokevirtual 33, 3) := dk_182 0 33 (dk_at dksX17_read_0 17 rfl rfl)
theorem dX17_read_20 : decode cX17_read 20 = .ok (.iconst 1, 1) := dk_4 (dk_at dksX17_read_0 20 rfl rfl)
theorem dX17_read_21 : decode cX17_read 21 = .ok (.invokevirtual 37, 3) := dk_182 0 37 (dk_at dksX17_read_0 21 rfl rfl)
theorem dX17_read_24 : decode cX17_read 24 = .ok (.aload_n 0, 1) := dk_42 (dk_at dksX17_read_1 0 rfl rfl)
theorem dX17_read_25 : decode cX17_read 25 = .ok (.aload_n 0, 1) := dk_42 (dk_at dksX17_read_1 1 rfl rfl)
theorem dX17_read_26 : decode cX17_read 26 = .ok (.getfield 14, 3) := dk_180 0 14 (dk_at dksX17_read_1 2 rfl rfl)
theorem dX17_read_29 : decode cX17_read 29 = .ok (.invokevirtual 41, 3) := dk_182 0 41 (dk_at dksX17_read_1 5 rfl rfl)
theorem dX17_read_32 : decode cX17_read 32 = .ok (.bipush 30, 2) := dk_16 30 (dk_at dksX17_read_1 8 rfl rfl)
theorem dX17_read_34 : decode cX17_read 34 = .ok (.if_icmp .ge 7, 3) := dk_162 0 7 (dk_at dksX17_read_1 10 rfl rfl)
theorem dX17_read_37 : decode cX17_read 37 = .ok (.iconst 1, 1) := dk_4 (dk_at dksX17_read_1 13 rfl rfl)
theorem dX17_read_38 : decode cX17_read 38 = .ok (.goto 4, 3) := dk_167 0 4 (dk_at dksX17_read_1 14 rfl rfl)
theorem dX17_read_41 : decode cX17_read 41 = .ok (.iconst 0, 1) := dk_3 (dk_at dksX17_read_1 17 rfl rfl)
theorem dX17_read_42 : decode cX17_read 42 = .ok (.iconst 4, 1) := dk_7 (dk_at dksX17_read_1 18 rfl rfl)
theorem dX17_read_43 : decode cX17_read 43 = .ok (.invokevirtual 37, 3) := dk_182 0 37 (dk_at dksX17_read_1 19 rfl rfl)
theorem dX17_read_46 : decode cX17_read 46 = .ok (.aload_n 0, 1) := dk_42 (dk_at dksX17_read_1 22 rfl rfl)
theorem dX17_read_47 : decode cX17_read 47 = .ok (.invokevirtual 24, 3) := dk_182 0 24 (dk_at dksX17_read_2 0 rfl rfl)
theorem dX17_read_50 : decode cX17_read 50 = .ok (.aload_n 0, 1) := dk_42 (dk_at dksX17_read_2 3 rfl rfl)
theorem dX17_read_51 : decode cX17_read 51 = .ok (.iload_n 1, 1) := dk_27 (dk_at dksX17_read_2 4 rfl rfl)
theorem dX17_read_52 : decode cX17_read 52 = .ok (.sipush 600, 3) := dk_17 2 88 (dk_at dksX17_read_2 5 rfl rfl)
theorem dX17_read_55 : decode cX17_read 55 = .ok (.invokevirtual 45, 3) := dk_182 0 45 (dk_at dksX17_read_2 8 rfl rfl)
theorem dX17_read_58 : decode cX17_read 58 = .ok (.istore_n 1, 1) := dk_60 (dk_at dksX17_read_2 11 rfl rfl)
theorem dX17_read_59 : decode cX17_read 59 = .ok (.aload_n 0, 1) := dk_42 (dk_at dksX17_read_2 12 rfl rfl)
theorem dX17_read_60 : decode cX17_read 60 = .ok (.getfield 14, 3) := dk_180 0 14 (dk_at dksX17_read_2 13 rfl rfl)
theorem dX17_read_63 : decode cX17_read 63 = .ok (.aload_n 0, 1) := dk_42 (dk_at dksX17_read_2 16 rfl rfl)
theorem dX17_read_64 : decode cX17_read 64 = .ok (.iload_n 1, 1) := dk_27 (dk_at dksX17_read_2 17 rfl rfl)
theorem dX17_read_65 : decode cX17_read 65 = .ok (.invokevirtual 49, 3) := dk_182 0 49 (dk_at dksX17_read_2 18 rfl rfl)
theorem dX17_read_68 : decode cX17_read 68 = .ok (.invokevirtual 53, 3) := dk_182 0 53 (dk_at dksX17_read_2 21 rfl rfl)
theorem dX17_read_71 : decode cX17_read 71 = .ok (.pop, 1) := dk_87 (dk_at dksX17_read_3 0 rfl rfl)
theorem dX17_read_72 : decode cX17_read 72 = .ok (.aload_n 0, 1) := dk_42 (dk_at dksX17_read_3 1 rfl rfl)
theorem dX17_read_73 : decode cX17_read 73 = .ok (.invokevirtual 57, 3) := dk_182 0 57 (dk_at dksX17_read_3 2 rfl rfl)
theorem dX17_read_76 : decode cX17_read 76 = .ok (.goto (-70), 3) := dk_167 255 186 (dk_at dksX17_read_3 5 rfl rfl)
theorem dX17_read_79 : decode cX17_read 79 = .ok (.aload_n 0, 1) := dk_42 (dk_at dksX17_read_3 8 rfl rfl)
theorem dX17_read_80 : decode cX17_read 80 = .ok (.getfield 14, 3) := dk_180 0 14 (dk_at dksX17_read_3 9 rfl rfl)
theorem dX17_read_83 : decode cX17_read 83 = .ok (.areturn, 1) := dk_176 (dk_at dksX17_read_3 12 rfl rfl)
def dkwX17_cue_8 : List UInt8 := [183, 0, 95, 167, 0, 13, 187, 0, 96, 89, 27, 21, 7, 183, 0, 98, 176]
abbrev dktX17_cue_8 : List UInt8 := dkwX17_cue_8 ++ []
def dkwX17_cue_7 : List UInt8 := [187, 0, 88, 89, 27, 21, 7, 183, 0, 90, 167, 0, 30, 29, 153, 0, 16, 187, 0, 93, 89, 27, 21, 7]
abbrev dktX17_cue_7 : List UInt8 := dkwX17_cue_7 ++ dktX17_cue_8
def dkwX17_cue_6 : List UInt8 := [182, 0, 24, 42, 180, 0, 20, 180, 0, 78, 21, 5, 104, 21, 6, 96, 54, 7, 28, 153, 0, 16]
abbrev dktX17_cue_6 : List UInt8 := dkwX17_cue_6 ++ dktX17_cue_7
def dkwX17_cue_5 : List UInt8 := [180, 0, 20, 42, 180, 0, 20, 180, 0, 78, 21, 5, 104, 21, 6, 96, 182, 0, 84, 5, 182, 0, 37, 42]
abbrev dktX17_cue_5 : List UInt8 := dkwX17_cue_5 ++ dktX17_cue_6
def dkwX17_cue_4 : List UInt8 := [182, 0, 45, 54, 5, 42, 3, 42, 180, 0, 20, 180, 0, 78, 4, 100, 182, 0, 81, 54, 6, 42, 42]
abbrev dktX17_cue_4 : List UInt8 := dkwX17_cue_4 ++ dktX17_cue_5
def dkwX17_cue_3 : List UInt8 := [154, 0, 12, 187, 0, 68, 89, 27, 183, 0, 70, 176, 42, 3, 42, 180, 0, 20, 180, 0, 73, 4, 100]
abbrev dktX17_cue_3 : List UInt8 := dkwX17_cue_3 ++ dktX17_cue_4
def dkwX17_cue_2 : List UInt8 := [167, 0, 4, 3, 4, 182, 0, 37, 42, 182, 0, 24, 28, 154, 0, 21, 29, 154, 0, 17, 21, 4]
abbrev dktX17_cue_2 : List UInt8 := dkwX17_cue_2 ++ dktX17_cue_3
def dkwX17_cue_1 : List UInt8 := [154, 0, 21, 29, 154, 0, 17, 21, 4, 154, 0, 12, 42, 18, 66, 182, 0, 33, 153, 0, 7, 4]
abbrev dktX17_cue_1 : List UInt8 := dkwX17_cue_1 ++ dktX17_cue_2
def dkwX17_cue_0 : List UInt8 := [42, 18, 60, 182, 0, 33, 61, 42, 18, 62, 182, 0, 33, 62, 42, 18, 64, 182, 0, 33, 54, 4, 42, 28]
abbrev dktX17_cue_0 : List UInt8 := dkwX17_cue_0 ++ dktX17_cue_1
theorem dksX17_cue_0 : cX17_cue.data.toList.drop 0 = dktX17_cue_0 := by decide +kernel
theorem dksX17_cue_1 : cX17_cue.data.toList.drop 24 = dktX17_cue_1 := dk_seg dksX17_cue_0 24 rfl rfl
theorem dksX17_cue_2 : cX17_cue.data.toList.drop 46 = dktX17_cue_2 := dk_seg dksX17_cue_1 22 rfl rfl
theorem dksX17_cue_3 : cX17_cue.data.toList.drop 68 = dktX17_cue_3 := dk_seg dksX17_cue_2 22 rfl rfl
theorem dksX17_cue_4 : cX17_cue.data.toList.drop 91 = dktX17_cue_4 := dk_seg dksX17_cue_3 23 rfl rfl
theorem dksX17_cue_5 : cX17_cue.data.toList.drop 114 = dktX17_cue_5 := dk_seg dksX17_cue_4 23 rfl rfl
theorem dksX17_cue_6 : cX17_cue.data.toList.drop 138 = dktX17_cue_6 := dk_seg dksX17_cue_5 24 rfl rfl
theorem dksX17_cue_7 : cX17_cue.data.toList.drop 160 = dktX17_cue_7 := dk_seg dksX17_cue_6 22 rfl rfl
theorem dksX17_cue_8 : cX17_cue.data.toList.drop 184 = dktX17_cue_8 := dk_seg dksX17_cue_7 24 rfl rfl
theorem dX17_cue_0 : decode cX17_cue 0 = .ok (.aload_n 0, 1) := dk_42 (dk_at dksX17_cue_0 0 rfl rfl)
theorem dX17_cue_1 : decode cX17_cue 1 = .ok (.ldc 60, 2) := dk_18 60 (dk_at dksX17_cue_0 1 rfl rfl)
theorem dX17_cue_3 : decode cX17_cue 3 = .ok (.invokevirtual 33, 3) := dk_182 0 33 (dk_at dksX17_cue_0 3 rfl rfl)
theorem dX17_cue_6 : decode cX17_cue 6 = .ok (.istore_n 2, 1) := dk_61 (dk_at dksX17_cue_0 6 rfl rfl)
theorem dX17_cue_7 : decode cX17_cue 7 = .ok (.aload_n 0, 1) := dk_42 (dk_at dksX17_cue_0 7 rfl rfl)
theorem dX17_cue_8 : decode cX17_cue 8 = .ok (.ldc 62, 2) := dk_18 62 (dk_at dksX17_cue_0 8 rfl rfl)
theorem dX17_cue_10 : decode cX17_cue 10 = .ok (.invokevirtual 33, 3) := dk_182 0 33 (dk_at dksX17_cue_0 10 rfl rfl)
theorem dX17_cue_13 : decode cX17_cue 13 = .ok (.istore_n 3, 1) := dk_62 (dk_at dksX17_cue_0 13 rfl rfl)
theorem dX17_cue_14 : decode cX17_cue 14 = .ok (.aload_n 0, 1) := dk_42 (dk_at dksX17_cue_0 14 rfl rfl)
theorem dX17_cue_15 : decode cX17_cue 15 = .ok (.ldc 64, 2) := dk_18 64 (dk_at dksX17_cue_0 15 rfl rfl)
theorem dX17_cue_17 : decode cX17_cue 17 = .ok (.invokevirtual 33, 3) := dk_182 0 33 (dk_at dksX17_cue_0 17 rfl rfl)
theorem dX17_cue_20 : decode cX17_cue 20 = .ok (.istore 4, 2) := dk_54 4 (dk_at dksX17_cue_0 20 rfl rfl)
theorem dX17_cue_22 : decode cX17_cue 22 = .ok (.aload_n 0, 1) := dk_42 (dk_at dksX17_cue_0 22 rfl rfl)
theorem dX17_cue_23 : decode cX17_cue 23 = .ok (.iload_n 2, 1) := dk_28 (dk_at dksX17_cue_0 23 rfl rfl)
theorem dX17_cue_24 : decode cX17_cue 24 = .ok (.ifCond .ne 21, 3) := dk_154 0 21 (dk_at dksX17_cue_1 0 rfl rfl)
theorem dX17_cue_27 : decode cX17_cue 27 = .ok (.iload_n 3, 1) := dk_29 (dk_at dksX17_cue_1 3 rfl rfl)
theorem dX17_cue_28 : decode cX17_cue 28 = .ok (.ifCond .ne 17, 3) := dk_154 0 17 (dk_at dksX17_cue_1 4 rfl rfl)
theorem dX17_cue_31 : decode cX17_cue 31 = .ok (.iload 4, 2) := dk_21 4 (dk_at dksX17_cue_1 7 rfl rfl)
theorem dX17_cue_33 : decode cX17_cue 33 = .ok (.ifCond .ne 12, 3) := dk_154 0 12 (dk_at dksX17_cue_1 9 rfl rfl)
theorem dX17_cue_36 : decode cX17_cue 36 = .ok (.aload_n 0, 1) := dk_42 (dk_at dksX17_cue_1 12 rfl rfl)
theorem dX17_cue_37 : decode cX17_cue 37 = .ok (.ldc 66, 2) := dk_18 66 (dk_at dksX17_cue_1 13 rfl rfl)
theorem dX17_cue_39 : decode cX17_cue 39 = .ok (.invokevirtual 33, 3) := dk_182 0 33 (dk_at dksX17_cue_1 15 rfl rfl)
theorem dX17_cue_42 : decode cX17_cue 42 = .ok (.ifCond .eq 7, 3) := dk_153 0 7 (dk_at dksX17_cue_1 18 rfl rfl)
theorem dX17_cue_45 : decode cX17_cue 45 = .ok (.iconst 1, 1) := dk_4 (dk_at dksX17_cue_1 21 rfl rfl)
theorem dX17_cue_46 : decode cX17_cue 46 = .ok (.goto 4, 3) := dk_167 0 4 (dk_at dksX17_cue_2 0 rfl rfl)
theorem dX17_cue_49 : decode cX17_cue 49 = .ok (.iconst 0, 1) := dk_3 (dk_at dksX17_cue_2 3 rfl rfl)
theorem dX17_cue_50 : decode cX17_cue 50 = .ok (.iconst 1, 1) := dk_4 (dk_at dksX17_cue_2 4 rfl rfl)
theorem dX17_cue_51 : decode cX17_cue 51 = .ok (.invokevirtual 37, 3) := dk_182 0 37 (dk_at dksX17_cue_2 5 rfl rfl)
theorem dX17_cue_54 : decode cX17_cue 54 = .ok (.aload_n 0, 1) := dk_42 (dk_at dksX17_cue_2 8 rfl rfl)
theorem dX17_cue_55 : decode cX17_cue 55 = .ok (.invokevirtual 24, 3) := dk_182 0 24 (dk_at dksX17_cue_2 9 rfl rfl)
theorem dX17_cue_58 : decode cX17_cue 58 = .ok (.iload_n 2, 1) := dk_28 (dk_at dksX17_cue_2 12 rfl rfl)
theorem dX17_cue_59 : decode cX17_cue 59 = .ok (.ifCond .ne 21, 3) := dk_154 0 21 (dk_at dksX17_cue_2 13 rfl rfl)
theorem dX17_cue_62 : decode cX17_cue 62 = .ok (.iload_n 3, 1) := dk_29 (dk_at dksX17_cue_2 16 rfl rfl)
theorem dX17_cue_63 : decode cX17_cue 63 = .ok (.ifCond .ne 17, 3) := dk_154 0 17 (dk_at dksX17_cue_2 17 rfl rfl)
theorem dX17_cue_66 : decode cX17_cue 66 = .ok (.iload 4, 2) := dk_21 4 (dk_at dksX17_cue_2 20 rfl rfl)
theorem dX17_cue_68 : decode cX17_cue 68 = .ok (.ifCond .ne 12, 3) := dk_154 0 12 (dk_at dksX17_cue_3 0 rfl rfl)
theorem dX17_cue_71 : decode cX17_cue 71 = .ok (.new 68, 3) := dk_187 0 68 (dk_at dksX17_cue_3 3 rfl rfl)
theorem dX17_cue_74 : decode cX17_cue 74 = .ok (.dup, 1) := dk_89 (dk_at dksX17_cue_3 6 rfl rfl)
theorem dX17_cue_75 : decode cX17_cue 75 = .ok (.iload_n 1, 1) := dk_27 (dk_at dksX17_cue_3 7 rfl rfl)
theorem dX17_cue_76 : decode cX17_cue 76 = .ok (.invokespecial 70, 3) := dk_183 0 70 (dk_at dksX17_cue_3 8 rfl rfl)
theorem dX17_cue_79 : decode cX17_cue 79 = .ok (.areturn, 1) := dk_176 (dk_at dksX17_cue_3 11 rfl rfl)
theorem dX17_cue_80 : decode cX17_cue 80 = .ok (.aload_n 0, 1) := dk_42 (dk_at dksX17_cue_3 12 rfl rfl)
theorem dX17_cue_81 : decode cX17_cue 81 = .ok (.iconst 0, 1) := dk_3 (dk_at dksX17_cue_3 13 rfl rfl)
theorem dX17_cue_82 : decode cX17_cue 82 = .ok (.aload_n 0, 1) := dk_42 (dk_at dksX17_cue_3 14 rfl rfl)
theorem dX17_cue_83 : decode cX17_cue 83 = .ok (.getfield 20, 3) := dk_180 0 20 (dk_at dksX17_cue_3 15 rfl rfl)
theorem dX17_cue_86 : decode cX17_cue 86 = .ok (.getfield 73, 3) := dk_180 0 73 (dk_at dksX17_cue_3 18 rfl rfl)
theorem dX17_cue_89 : decode cX17_cue 89 = .ok (.iconst 1, 1) := dk_4 (dk_at dksX17_cue_3 21 rfl rfl)
theorem dX17_cue_90 : decode cX17_cue 90 = .ok (.isub, 1) := dk_100 (dk_at dksX17_cue_3 22 rfl rfl)
theorem dX17_cue_91 : decode cX17_cue 91 = .ok (.invokevirtual 45, 3) := dk_182 0 45 (dk_at dksX17_cue_4 0 rfl rfl)
theorem dX17_cue_94 : decode cX17_cue 94 = .ok (.istore 5, 2) := dk_54 5 (dk_at dksX17_cue_4 3 rfl rfl)
theorem dX17_cue_96 : decode cX17_cue 96 = .ok (.aload_n 0, 1) := dk_42 (dk_at dksX17_cue_4 5 rfl rfl)
theorem dX17_cue_97 : decode cX17_cue 97 = .ok (.iconst 0, 1) := dk_3 (dk_at dksX17_cue_4 6 rfl rfl)
theorem dX17_cue_98 : decode cX17_cue 98 = .ok (.aload_n 0, 1) := dk_42 (dk_at dksX17_cue_4 7 rfl rfl)
theorem dX17_cue_99 : decode cX17_cue 99 = .ok (.getfield 20, 3) := dk_180 0 20 (dk_at dksX17_cue_4 8 rfl rfl)
theorem dX17_cue_102 : decode cX17_cue 102 = .ok (.getfield 78, 3) := dk_180 0 78 (dk_at dksX17_cue_4 11 rfl rfl)
theorem dX17_cue_105 : decode cX17_cue 105 = .ok (.iconst 1, 1) := dk_4 (dk_at dksX17_cue_4 14 rfl rfl)
theorem dX17_cue_106 : decode cX17_cue 106 = .ok (.isub, 1) := dk_100 (dk_at dksX17_cue_4 15 rfl rfl)
theorem dX17_cue_107 : decode cX17_cue 107 = .ok (.invokevirtual 81, 3) := dk_182 0 81 (dk_at dksX17_cue_4 16 rfl rfl)
theorem dX17_cue_110 : decode cX17_cue 110 = .ok (.istore 6, 2) := dk_54 6 (dk_at dksX17_cue_4 19 rfl rfl)
theorem dX17_cue_112 : decode cX17_cue 112 = .ok (.aload_n 0, 1) := dk_42 (dk_at dksX17_cue_4 21 rfl rfl)
theorem dX17_cue_113 : decode cX17_cue 113 = .ok (.aload_n 0, 1) := dk_42 (dk_at dksX17_cue_4 22 rfl rfl)
theorem dX17_cue_114 : decode cX17_cue 114 = .ok (.getfield 20, 3) := dk_180 0 20 (dk_at dksX17_cue_5 0 rfl rfl)
theorem dX17_cue_117 : decode cX17_cue 117 = .ok (.aload_n 0, 1) := dk_42 (dk_at dksX17_cue_5 3 rfl rfl)
theorem dX17_cue_118 : decode cX17_cue 118 = .ok (.getfield 20, 3) := dk_180 0 20 (dk_at dksX17_cue_5 4 rfl rfl)
theorem dX17_cue_121 : decode cX17_cue 121 = .ok (.getfield 78, 3) := dk_180 0 78 (dk_at dksX17_cue_5 7 rfl rfl)
theorem dX17_cue_124 : decode cX17_cue 124 = .ok (.iload 5, 2) := dk_21 5 (dk_at dksX17_cue_5 10 rfl rfl)
theorem dX17_cue_126 : decode cX17_cue 126 = .ok (.imul, 1) := dk_104 (dk_at dksX17_cue_5 12 rfl rfl)
theorem dX17_cue_127 : decode cX17_cue 127 = .ok (.iload 6, 2) := dk_21 6 (dk_at dksX17_cue_5 13 rfl rfl)
theorem dX17_cue_129 : decode cX17_cue 129 = .ok (.iadd, 1) := dk_96 (dk_at dksX17_cue_5 15 rfl rfl)
theorem dX17_cue_130 : decode cX17_cue 130 = .ok (.invokevirtual 84, 3) := dk_182 0 84 (dk_at dksX17_cue_5 16 rfl rfl)
theorem dX17_cue_133 : decode cX17_cue 133 = .ok (.iconst 2, 1) := dk_5 (dk_at dksX17_cue_5 19 rfl rfl)
theorem dX17_cue_134 : decode cX17_cue 134 = .ok (.invokevirtual 37, 3) := dk_182 0 37 (dk_at dksX17_cue_5 20 rfl rfl)
theorem dX17_cue_137 : decode cX17_cue 137 = .ok (.aload_n 0, 1) := dk_42 (dk_at dksX17_cue_5 23 rfl rfl)
theorem dX17_cue_138 : decode cX17_cue 138 = .ok (.invokevirtual 24, 3) := dk_182 0 24 (dk_at dksX17_cue_6 0 rfl rfl)
theorem dX17_cue_141 : decode cX17_cue 141 = .ok (.aload_n 0, 1) := dk_42 (dk_at dksX17_cue_6 3 rfl rfl)
theorem dX17_cue_142 : decode cX17_cue 142 = .ok (.getfield 20, 3) := dk_180 0 20 (dk_at dksX17_cue_6 4 rfl rfl)
theorem dX17_cue_145 : decode cX17_cue 145 = .ok (.getfield 78, 3) := dk_180 0 78 (dk_at dksX17_cue_6 7 rfl rfl)
theorem dX17_cue_148 : decode cX17_cue 148 = .ok (.iload 5, 2) := dk_21 5 (dk_at dksX17_cue_6 10 rfl rfl)
theorem dX17_cue_150 : decode cX17_cue 150 = .ok (.imul, 1) := dk_104 (dk_at dksX17_cue_6 12 rfl rfl)
theorem dX17_cue_151 : decode cX17_cue 151 = .ok (.iload 6, 2) := dk_21 6 (dk_at dksX17_cue_6 13 rfl rfl)
theorem dX17_cue_153 : decode cX17_cue 153 = .ok (.iadd, 1) := dk_96 (dk_at dksX17_cue_6 15 rfl rfl)
theorem dX17_cue_154 : decode cX17_cue 154 = .ok (.istore 7, 2) := dk_54 7 (dk_at dksX17_cue_6 16 rfl rfl)
theorem dX17_cue_156 : decode cX17_cue 156 = .ok (.iload_n 2, 1) := dk_28 (dk_at dksX17_cue_6 18 rfl rfl)
theorem dX17_cue_157 : decode cX17_cue 157 = .ok (.ifCond .eq 16, 3) := dk_153 0 16 (dk_at dksX17_cue_6 19 rfl rfl)
theorem dX17_cue_160 : decode cX17_cue 160 = .ok (.new 88, 3) := dk_187 0 88 (dk_at dksX17_cue_7 0 rfl rfl)
theorem dX17_cue_163 : decode cX17_cue 163 = .ok (.dup, 1) := dk_89 (dk_at dksX17_cue_7 3 rfl rfl)
theorem dX17_cue_164 : decode cX17_cue 164 = .ok (.iload_n 1, 1) := dk_27 (dk_at dksX17_cue_7 4 rfl rfl)
theorem dX17_cue_165 : decode cX17_cue 165 = .ok (.iload 7, 2) := dk_21 7 (dk_at dksX17_cue_7 5 rfl rfl)
theorem dX17_cue_167 : decode cX17_cue 167 = .ok (.invokespecial 90, 3) := dk_183 0 90 (dk_at dksX17_cue_7 7 rfl rfl)
theorem dX17_cue_170 : decode cX17_cue 170 = .ok (.goto 30, 3) := dk_167 0 30 (dk_at dksX17_cue_7 10 rfl rfl)
theorem dX17_cue_173 : decode cX17_cue 173 = .ok (.iload_n 3, 1) := dk_29 (dk_at dksX17_cue_7 13 rfl rfl)
theorem dX17_cue_174 : decode cX17_cue 174 = .ok (.ifCond .eq 16, 3) := dk_153 0 16 (dk_at dksX17_cue_7 14 rfl rfl)
theorem dX17_cue_177 : decode cX17_cue 177 = .ok (.new 93, 3) := dk_187 0 93 (dk_at dksX17_cue_7 17 rfl rfl)
theorem dX17_cue_180 : decode cX17_cue 180 = .ok (.dup, 1) := dk_89 (dk_at dksX17_cue_7 20 rfl rfl)
theorem dX17_cue_181 : decode cX17_cue 181 = .ok (.iload_n 1, 1) := dk_27 (dk_at dksX17_cue_7 21 rfl rfl)
theorem dX17_cue_182 : decode cX17_cue 182 = .ok (.iload 7, 2) := dk_21 7 (dk_at dksX17_cue_7 22 rfl rfl)
theorem dX17_cue_184 : decode cX17_cue 184 = .ok (.invokespecial 95, 3) := dk_183 0 95 (dk_at dksX17_cue_8 0 rfl rfl)
theorem dX17_cue_187 : decode cX17_cue 187 = .ok (.goto 13, 3) := dk_167 0 13 (dk_at dksX17_cue_8 3 rfl rfl)
theorem dX17_cue_190 : decode cX17_cue 190 = .ok (.new 96, 3) := dk_187 0 96 (dk_at dksX17_cue_8 6 rfl rfl)
theorem dX17_cue_193 : decode cX17_cue 193 = .ok (.dup, 1) := dk_89 (dk_at dksX17_cue_8 9 rfl rfl)
theorem dX17_cue_194 : decode cX17_cue 194 = .ok (.iload_n 1, 1) := dk_27 (dk_at dksX17_cue_8 10 rfl rfl)
theorem dX17_cue_195 : decode cX17_cue 195 = .ok (.iload 7, 2) := dk_21 7 (dk_at dksX17_cue_8 11 rfl rfl)
theorem dX17_cue_197 : decode cX17_cue 197 = .ok (.invokespecial 98, 3) := dk_183 0 98 (dk_at dksX17_cue_8 13 rfl rfl)
theorem dX17_cue_200 : decode cX17_cue 200 = .ok (.areturn, 1) := dk_176 (dk_at dksX17_cue_8 16 rfl rfl)
def dkwX18_init_0 : List UInt8 := [42, 183, 0, 3, 42, 27, 181, 0, 9, 177]
abbrev dktX18_init_0 : List UInt8 := dkwX18_init_0 ++ []
theorem dksX18_init_0 : cX18_init.data.toList.drop 0 = dktX18_init_0 := by decide +kernel
theorem dX18_init_0 : decode cX18_init 0 = .ok (.aload_n 0, 1) := dk_42 (dk_at dksX18_init_0 0 rfl rfl)
theorem dX18_init_1 : decode cX18_init 1 = .ok (.invokespecial 3, 3) := dk_183 0 3 (dk_at dksX18_init_0 1 rfl rfl)
theorem dX18_init_4 : decode cX18_init 4 = .ok (.aload_n 0, 1) := dk_42 (dk_at dksX18_init_0 4 rfl rfl)
theorem dX18_init_5 : decode cX18_init 5 = .ok (.iload_n 1, 1) := dk_27 (dk_at dksX18_init_0 5 rfl rfl)
theorem dX18_init_6 : decode cX18_init 6 = .ok (.putfield 9, 3) := dk_181 0 9 (dk_at dksX18_init_0 6 rfl rfl)
theorem dX18_init_9 : decode cX18_init 9 = .ok (.return_, 1) := dk_177 (dk_at dksX18_init_0 9 rfl rfl)
theorem dX18_seat_0 : decode cX18_seat 0 = .ok (.iconst (-1), 1) := by decide +kernel
theorem dX18_seat_1 : decode cX18_seat 1 = .ok (.ireturn, 1) := by decide +kernel
def dkwX19_init_0 : List UInt8 := [42, 27, 183, 0, 1, 177]
abbrev dktX19_init_0 : List UInt8 := dkwX19_init_0 ++ []
theorem dksX19_init_0 : cX19_init.data.toList.drop 0 = dktX19_init_0 := by decide +kernel
theorem dX19_init_0 : decode cX19_init 0 = .ok (.aload_n 0, 1) := dk_42 (dk_at dksX19_init_0 0 rfl rfl)
theorem dX19_init_1 : decode cX19_init 1 = .ok (.iload_n 1, 1) := dk_27 (dk_at dksX19_init_0 1 rfl rfl)
theorem dX19_init_2 : decode cX19_init 2 = .ok (.invokespecial 1, 3) := dk_183 0 1 (dk_at dksX19_init_0 2 rfl rfl)
theorem dX19_init_5 : decode cX19_init 5 = .ok (.return_, 1) := dk_177 (dk_at dksX19_init_0 5 rfl rfl)
def dkwX19_does_0 : List UInt8 := [43, 4, 181, 0, 7, 177]
abbrev dktX19_does_0 : List UInt8 := dkwX19_does_0 ++ []
theorem dksX19_does_0 : cX19_does.data.toList.drop 0 = dktX19_does_0 := by decide +kernel
theorem dX19_does_0 : decode cX19_does 0 = .ok (.aload_n 1, 1) := dk_43 (dk_at dksX19_does_0 0 rfl rfl)
theorem dX19_does_1 : decode cX19_does 1 = .ok (.iconst 1, 1) := dk_4 (dk_at dksX19_does_0 1 rfl rfl)
theorem dX19_does_2 : decode cX19_does 2 = .ok (.putfield 7, 3) := dk_181 0 7 (dk_at dksX19_does_0 2 rfl rfl)
theorem dX19_does_5 : decode cX19_does 5 = .ok (.return_, 1) := dk_177 (dk_at dksX19_does_0 5 rfl rfl)
theorem dX19_what_0 : decode cX19_what 0 = .ok (.iconst 3, 1) := by decide +kernel
theorem dX19_what_1 : decode cX19_what 1 = .ok (.ireturn, 1) := by decide +kernel
def dkwX20_init_0 : List UInt8 := [42, 27, 183, 0, 1, 42, 28, 181, 0, 7, 177]
abbrev dktX20_init_0 : List UInt8 := dkwX20_init_0 ++ []
theorem dksX20_init_0 : cX20_init.data.toList.drop 0 = dktX20_init_0 := by decide +kernel
theorem dX20_init_0 : decode cX20_init 0 = .ok (.aload_n 0, 1) := dk_42 (dk_at dksX20_init_0 0 rfl rfl)
theorem dX20_init_1 : decode cX20_init 1 = .ok (.iload_n 1, 1) := dk_27 (dk_at dksX20_init_0 1 rfl rfl)
theorem dX20_init_2 : decode cX20_init 2 = .ok (.invokespecial 1, 3) := dk_183 0 1 (dk_at dksX20_init_0 2 rfl rfl)
theorem dX20_init_5 : decode cX20_init 5 = .ok (.aload_n 0, 1) := dk_42 (dk_at dksX20_init_0 5 rfl rfl)
theorem dX20_init_6 : decode cX20_init 6 = .ok (.iload_n 2, 1) := dk_28 (dk_at dksX20_init_0 6 rfl rfl)
theorem dX20_init_7 : decode cX20_init 7 = .ok (.putfield 7, 3) := dk_181 0 7 (dk_at dksX20_init_0 7 rfl rfl)
theorem dX20_init_10 : decode cX20_init 10 = .ok (.return_, 1) := dk_177 (dk_at dksX20_init_0 10 rfl rfl)
def dkwX20_does_1 : List UInt8 := [10, 42, 180, 0, 7, 121, 20, 0, 19, 131, 127, 181, 0, 21, 177]
abbrev dktX20_does_1 : List UInt8 := dkwX20_does_1 ++ []
def dkwX20_does_0 : List UInt8 := [43, 89, 180, 0, 13, 10, 42, 180, 0, 7, 121, 20, 0, 19, 131, 127, 181, 0, 13, 43, 89, 180, 0, 21]
abbrev dktX20_does_0 : List UInt8 := dkwX20_does_0 ++ dktX20_does_1
theorem dksX20_does_0 : cX20_does.data.toList.drop 0 = dktX20_does_0 := by decide +kernel
theorem dksX20_does_1 : cX20_does.data.toList.drop 24 = dktX20_does_1 := dk_seg dksX20_does_0 24 rfl rfl
theorem dX20_does_0 : decode cX20_does 0 = .ok (.aload_n 1, 1) := dk_43 (dk_at dksX20_does_0 0 rfl rfl)
theorem dX20_does_1 : decode cX20_does 1 = .ok (.dup, 1) := dk_89 (dk_at dksX20_does_0 1 rfl rfl)
theorem dX20_does_2 : decode cX20_does 2 = .ok (.getfield 13, 3) := dk_180 0 13 (dk_at dksX20_does_0 2 rfl rfl)
theorem dX20_does_5 : decode cX20_does 5 = .ok (.lconst 1, 1) := dk_10 (dk_at dksX20_does_0 5 rfl rfl)
theorem dX20_does_6 : decode cX20_does 6 = .ok (.aload_n 0, 1) := dk_42 (dk_at dksX20_does_0 6 rfl rfl)
theorem dX20_does_7 : decode cX20_does 7 = .ok (.getfield 7, 3) := dk_180 0 7 (dk_at dksX20_does_0 7 rfl rfl)
theorem dX20_does_10 : decode cX20_does 10 = .ok (.lshl, 1) := dk_121 (dk_at dksX20_does_0 10 rfl rfl)
theorem dX20_does_11 : decode cX20_does 11 = .ok (.ldc2_w 19, 3) := dk_20 0 19 (dk_at dksX20_does_0 11 rfl rfl)
theorem dX20_does_14 : decode cX20_does 14 = .ok (.lxor, 1) := dk_131 (dk_at dksX20_does_0 14 rfl rfl)
theorem dX20_does_15 : decode cX20_does 15 = .ok (.land, 1) := dk_127 (dk_at dksX20_does_0 15 rfl rfl)
theorem dX20_does_16 : decode cX20_does 16 = .ok (.putfield 13, 3) := dk_181 0 13 (dk_at dksX20_does_0 16 rfl rfl)
theorem dX20_does_19 : decode cX20_does 19 = .ok (.aload_n 1, 1) := dk_43 (dk_at dksX20_does_0 19 rfl rfl)
theorem dX20_does_20 : decode cX20_does 20 = .ok (.dup, 1) := dk_89 (dk_at dksX20_does_0 20 rfl rfl)
theorem dX20_does_21 : decode cX20_does 21 = .ok (.getfield 21, 3) := dk_180 0 21 (dk_at dksX20_does_0 21 rfl rfl)
theorem dX20_does_24 : decode cX20_does 24 = .ok (.lconst 1, 1) := dk_10 (dk_at dksX20_does_1 0 rfl rfl)
theorem dX20_does_25 : decode cX20_does 25 = .ok (.aload_n 0, 1) := dk_42 (dk_at dksX20_does_1 1 rfl rfl)
theorem dX20_does_26 : decode cX20_does 26 = .ok (.getfield 7, 3) := dk_180 0 7 (dk_at dksX20_does_1 2 rfl rfl)
theorem dX20_does_29 : decode cX20_does 29 = .ok (.lshl, 1) := dk_121 (dk_at dksX20_does_1 5 rfl rfl)
theorem dX20_does_30 : decode cX20_does 30 = .ok (.ldc2_w 19, 3) := dk_20 0 19 (dk_at dksX20_does_1 6 rfl rfl)
theorem dX20_does_33 : decode cX20_does 33 = .ok (.lxor, 1) := dk_131 (dk_at dksX20_does_1 9 rfl rfl)
theorem dX20_does_34 : decode cX20_does 34 = .ok (.land, 1) := dk_127 (dk_at dksX20_does_1 10 rfl rfl)
theorem dX20_does_35 : decode cX20_does 35 = .ok (.putfield 21, 3) := dk_181 0 21 (dk_at dksX20_does_1 11 rfl rfl)
theorem dX20_does_38 : decode cX20_does 38 = .ok (.return_, 1) := dk_177 (dk_at dksX20_does_1 14 rfl rfl)
theorem dX20_seat_0 : decode cX20_seat 0 = .ok (.aload_n 0, 1) := by decide +kernel
theorem dX20_seat_1 : decode cX20_seat 1 = .ok (.getfield 7, 3) := by decide +kernel
theorem dX20_seat_4 : decode cX20_seat 4 = .ok (.ireturn, 1) := by decide +kernel
theorem dX20_what_0 : decode cX20_what 0 = .ok (.iconst 2, 1) := by decide +kernel
theorem dX20_what_1 : decode cX20_what 1 = .ok (.ireturn, 1) := by decide +kernel
def dkwX21_init_0 : List UInt8 := [42, 27, 28, 183, 0, 1, 177]
abbrev dktX21_init_0 : List UInt8 := dkwX21_init_0 ++ []
theorem dksX21_init_0 : cX21_init.data.toList.drop 0 = dktX21_init_0 := by decide +kernel
theorem dX21_init_0 : decode cX21_init 0 = .ok (.aload_n 0, 1) := dk_42 (dk_at dksX21_init_0 0 rfl rfl)
theorem dX21_init_1 : decode cX21_init 1 = .ok (.iload_n 1, 1) := dk_27 (dk_at dksX21_init_0 1 rfl rfl)
theorem dX21_init_2 : decode cX21_init 2 = .ok (.iload_n 2, 1) := dk_28 (dk_at dksX21_init_0 2 rfl rfl)
theorem dX21_init_3 : decode cX21_init 3 = .ok (.invokespecial 1, 3) := dk_183 0 1 (dk_at dksX21_init_0 3 rfl rfl)
theorem dX21_init_6 : decode cX21_init 6 = .ok (.return_, 1) := dk_177 (dk_at dksX21_init_0 6 rfl rfl)
def dkwX21_does_0 : List UInt8 := [42, 43, 183, 0, 7, 43, 89, 180, 0, 11, 10, 42, 182, 0, 17, 121, 129, 181, 0, 11, 177]
abbrev dktX21_does_0 : List UInt8 := dkwX21_does_0 ++ []
theorem dksX21_does_0 : cX21_does.data.toList.drop 0 = dktX21_does_0 := by decide +kernel
theorem dX21_does_0 : decode cX21_does 0 = .ok (.aload_n 0, 1) := dk_42 (dk_at dksX21_does_0 0 rfl rfl)
theorem dX21_does_1 : decode cX21_does 1 = .ok (.aload_n 1, 1) := dk_43 (dk_at dksX21_does_0 1 rfl rfl)
theorem dX21_does_2 : decode cX21_does 2 = .ok (.invokespecial 7, 3) := dk_183 0 7 (dk_at dksX21_does_0 2 rfl rfl)
theorem dX21_does_5 : decode cX21_does 5 = .ok (.aload_n 1, 1) := dk_43 (dk_at dksX21_does_0 5 rfl rfl)
theorem dX21_does_6 : decode cX21_does 6 = .ok (.dup, 1) := dk_89 (dk_at dksX21_does_0 6 rfl rfl)
theorem dX21_does_7 : decode cX21_does 7 = .ok (.getfield 11, 3) := dk_180 0 11 (dk_at dksX21_does_0 7 rfl rfl)
theorem dX21_does_10 : decode cX21_does 10 = .ok (.lconst 1, 1) := dk_10 (dk_at dksX21_does_0 10 rfl rfl)
theorem dX21_does_11 : decode cX21_does 11 = .ok (.aload_n 0, 1) := dk_42 (dk_at dksX21_does_0 11 rfl rfl)
theorem dX21_does_12 : decode cX21_does 12 = .ok (.invokevirtual 17, 3) := dk_182 0 17 (dk_at dksX21_does_0 12 rfl rfl)
theorem dX21_does_15 : decode cX21_does 15 = .ok (.lshl, 1) := dk_121 (dk_at dksX21_does_0 15 rfl rfl)
theorem dX21_does_16 : decode cX21_does 16 = .ok (.lor, 1) := dk_129 (dk_at dksX21_does_0 16 rfl rfl)
theorem dX21_does_17 : decode cX21_does 17 = .ok (.putfield 11, 3) := dk_181 0 11 (dk_at dksX21_does_0 17 rfl rfl)
theorem dX21_does_20 : decode cX21_does 20 = .ok (.return_, 1) := dk_177 (dk_at dksX21_does_0 20 rfl rfl)
theorem dX21_what_0 : decode cX21_what 0 = .ok (.iconst 0, 1) := by decide +kernel
theorem dX21_what_1 : decode cX21_what 1 = .ok (.ireturn, 1) := by decide +kernel
def dkwX22_init_0 : List UInt8 := [42, 27, 28, 183, 0, 1, 177]
abbrev dktX22_init_0 : List UInt8 := dkwX22_init_0 ++ []
theorem dksX22_init_0 : cX22_init.data.toList.drop 0 = dktX22_init_0 := by decide +kernel
theorem dX22_init_0 : decode cX22_init 0 = .ok (.aload_n 0, 1) := dk_42 (dk_at dksX22_init_0 0 rfl rfl)
theorem dX22_init_1 : decode cX22_init 1 = .ok (.iload_n 1, 1) := dk_27 (dk_at dksX22_init_0 1 rfl rfl)
theorem dX22_init_2 : decode cX22_init 2 = .ok (.iload_n 2, 1) := dk_28 (dk_at dksX22_init_0 2 rfl rfl)
theorem dX22_init_3 : decode cX22_init 3 = .ok (.invokespecial 1, 3) := dk_183 0 1 (dk_at dksX22_init_0 3 rfl rfl)
theorem dX22_init_6 : decode cX22_init 6 = .ok (.return_, 1) := dk_177 (dk_at dksX22_init_0 6 rfl rfl)
def dkwX22_does_0 : List UInt8 := [42, 43, 183, 0, 7, 43, 89, 180, 0, 11, 10, 42, 182, 0, 17, 121, 129, 181, 0, 11, 177]
abbrev dktX22_does_0 : List UInt8 := dkwX22_does_0 ++ []
theorem dksX22_does_0 : cX22_does.data.toList.drop 0 = dktX22_does_0 := by decide +kernel
theorem dX22_does_0 : decode cX22_does 0 = .ok (.aload_n 0, 1) := dk_42 (dk_at dksX22_does_0 0 rfl rfl)
theorem dX22_does_1 : decode cX22_does 1 = .ok (.aload_n 1, 1) := dk_43 (dk_at dksX22_does_0 1 rfl rfl)
theorem dX22_does_2 : decode cX22_does 2 = .ok (.invokespecial 7, 3) := dk_183 0 7 (dk_at dksX22_does_0 2 rfl rfl)
theorem dX22_does_5 : decode cX22_does 5 = .ok (.aload_n 1, 1) := dk_43 (dk_at dksX22_does_0 5 rfl rfl)
theorem dX22_does_6 : decode cX22_does 6 = .ok (.dup, 1) := dk_89 (dk_at dksX22_does_0 6 rfl rfl)
theorem dX22_does_7 : decode cX22_does 7 = .ok (.getfield 11, 3) := dk_180 0 11 (dk_at dksX22_does_0 7 rfl rfl)
theorem dX22_does_10 : decode cX22_does 10 = .ok (.lconst 1, 1) := dk_10 (dk_at dksX22_does_0 10 rfl rfl)
theorem dX22_does_11 : decode cX22_does 11 = .ok (.aload_n 0, 1) := dk_42 (dk_at dksX22_does_0 11 rfl rfl)
theorem dX22_does_12 : decode cX22_does 12 = .ok (.invokevirtual 17, 3) := dk_182 0 17 (dk_at dksX22_does_0 12 rfl rfl)
theorem dX22_does_15 : decode cX22_does 15 = .ok (.lshl, 1) := dk_121 (dk_at dksX22_does_0 15 rfl rfl)
theorem dX22_does_16 : decode cX22_does 16 = .ok (.lor, 1) := dk_129 (dk_at dksX22_does_0 16 rfl rfl)
theorem dX22_does_17 : decode cX22_does 17 = .ok (.putfield 11, 3) := dk_181 0 11 (dk_at dksX22_does_0 17 rfl rfl)
theorem dX22_does_20 : decode cX22_does 20 = .ok (.return_, 1) := dk_177 (dk_at dksX22_does_0 20 rfl rfl)
theorem dX22_what_0 : decode cX22_what 0 = .ok (.iconst 1, 1) := by decide +kernel
theorem dX22_what_1 : decode cX22_what 1 = .ok (.ireturn, 1) := by decide +kernel
def dkwL_law_55 : List UInt8 := [182, 0, 198, 159, 0, 5, 3, 172, 132, 4, 6, 167, 250, 110, 4, 172]
abbrev dktL_law_55 : List UInt8 := dkwL_law_55 ++ []
def dkwL_law_54 : List UInt8 := [159, 0, 30, 3, 172, 43, 42, 21, 4, 4, 96, 46, 182, 0, 195, 44, 42, 21, 4, 4, 96, 46]
abbrev dktL_law_54 : List UInt8 := dkwL_law_54 ++ dktL_law_55
def dkwL_law_53 : List UInt8 := [3, 172, 43, 42, 21, 4, 4, 96, 46, 182, 0, 191, 44, 42, 21, 4, 4, 96, 46, 182, 0, 194]
abbrev dktL_law_53 : List UInt8 := dkwL_law_53 ++ dktL_law_54
def dkwL_law_52 : List UInt8 := [172, 43, 42, 21, 4, 4, 96, 46, 182, 0, 187, 44, 42, 21, 4, 4, 96, 46, 182, 0, 190, 159, 0, 55]
abbrev dktL_law_52 : List UInt8 := dkwL_law_52 ++ dktL_law_53
def dkwL_law_51 : List UInt8 := [182, 0, 179, 44, 182, 0, 182, 159, 0, 93, 3, 172, 43, 182, 0, 183, 44, 182, 0, 186, 159, 0, 80, 3]
abbrev dktL_law_51 : List UInt8 := dkwL_law_51 ++ dktL_law_52
def dkwL_law_50 : List UInt8 := [44, 42, 21, 4, 4, 96, 46, 42, 21, 4, 5, 96, 46, 182, 0, 178, 159, 0, 106, 3, 172, 43]
abbrev dktL_law_50 : List UInt8 := dkwL_law_50 ++ dktL_law_51
def dkwL_law_49 : List UInt8 := [182, 0, 174, 159, 0, 143, 3, 172, 43, 42, 21, 4, 4, 96, 46, 42, 21, 4, 5, 96, 46, 182, 0, 175]
abbrev dktL_law_49 : List UInt8 := dkwL_law_49 ++ dktL_law_50
def dkwL_law_48 : List UInt8 := [159, 0, 168, 3, 172, 43, 42, 21, 4, 4, 96, 46, 182, 0, 171, 44, 42, 21, 4, 4, 96, 46]
abbrev dktL_law_48 : List UInt8 := dkwL_law_48 ++ dktL_law_49
def dkwL_law_47 : List UInt8 := [3, 172, 43, 42, 21, 4, 4, 96, 46, 182, 0, 167, 44, 42, 21, 4, 4, 96, 46, 182, 0, 170]
abbrev dktL_law_47 : List UInt8 := dkwL_law_47 ++ dktL_law_48
def dkwL_law_46 : List UInt8 := [96, 46, 182, 0, 163, 44, 42, 21, 4, 4, 96, 46, 42, 21, 4, 5, 96, 46, 182, 0, 166, 159, 0, 193]
abbrev dktL_law_46 : List UInt8 := dkwL_law_46 ++ dktL_law_47
def dkwL_law_45 : List UInt8 := [43, 182, 0, 159, 44, 182, 0, 162, 159, 0, 230, 3, 172, 43, 42, 21, 4, 4, 96, 46, 42, 21, 4, 5]
abbrev dktL_law_45 : List UInt8 := dkwL_law_45 ++ dktL_law_46
def dkwL_law_44 : List UInt8 := [182, 0, 155, 44, 42, 21, 4, 4, 96, 46, 42, 21, 4, 5, 96, 46, 182, 0, 158, 159, 0, 243, 3, 172]
abbrev dktL_law_44 : List UInt8 := dkwL_law_44 ++ dktL_law_45
def dkwL_law_43 : List UInt8 := [96, 46, 182, 0, 154, 159, 1, 24, 3, 172, 43, 42, 21, 4, 4, 96, 46, 42, 21, 4, 5, 96, 46]
abbrev dktL_law_43 : List UInt8 := dkwL_law_43 ++ dktL_law_44
def dkwL_law_42 : List UInt8 := [46, 182, 0, 150, 159, 1, 49, 3, 172, 43, 42, 21, 4, 4, 96, 46, 182, 0, 151, 44, 42, 21, 4, 4]
abbrev dktL_law_42 : List UInt8 := dkwL_law_42 ++ dktL_law_43
def dkwL_law_41 : List UInt8 := [182, 0, 146, 159, 1, 74, 3, 172, 43, 42, 21, 4, 4, 96, 46, 182, 0, 147, 44, 42, 21, 4, 4, 96]
abbrev dktL_law_41 : List UInt8 := dkwL_law_41 ++ dktL_law_42
def dkwL_law_40 : List UInt8 := [159, 1, 99, 3, 172, 43, 42, 21, 4, 4, 96, 46, 182, 0, 143, 44, 42, 21, 4, 4, 96, 46]
abbrev dktL_law_40 : List UInt8 := dkwL_law_40 ++ dktL_law_41
def dkwL_law_39 : List UInt8 := [3, 47, 21, 6, 133, 148, 153, 0, 5, 3, 172, 167, 1, 110, 43, 182, 0, 139, 44, 182, 0, 142]
abbrev dktL_law_39 : List UInt8 := dkwL_law_39 ++ dktL_law_40
def dkwL_law_38 : List UInt8 := [96, 46, 182, 0, 138, 54, 6, 44, 182, 0, 50, 21, 5, 159, 0, 5, 3, 172, 21, 5, 154, 0, 15, 45]
abbrev dktL_law_38 : List UInt8 := dkwL_law_38 ++ dktL_law_39
def dkwL_law_37 : List UInt8 := [46, 42, 21, 4, 5, 96, 46, 45, 184, 0, 136, 54, 5, 44, 42, 21, 4, 4, 96, 46, 42, 21, 4, 5]
abbrev dktL_law_37 : List UInt8 := dkwL_law_37 ++ dktL_law_38
def dkwL_law_36 : List UInt8 := [159, 1, 193, 3, 172, 43, 182, 0, 132, 44, 182, 0, 135, 159, 1, 180, 3, 172, 43, 42, 21, 4, 4, 96]
abbrev dktL_law_36 : List UInt8 := dkwL_law_36 ++ dktL_law_37
def dkwL_law_35 : List UInt8 := [3, 172, 43, 42, 21, 4, 4, 96, 46, 182, 0, 128, 44, 42, 21, 4, 4, 96, 46, 182, 0, 131]
abbrev dktL_law_35 : List UInt8 := dkwL_law_35 ++ dktL_law_36
def dkwL_law_34 : List UInt8 := [43, 182, 0, 120, 44, 182, 0, 123, 159, 1, 231, 3, 172, 43, 182, 0, 124, 44, 182, 0, 127, 159, 1, 218]
abbrev dktL_law_34 : List UInt8 := dkwL_law_34 ++ dktL_law_35
def dkwL_law_33 : List UInt8 := [4, 96, 46, 182, 0, 115, 159, 2, 1, 3, 172, 43, 182, 0, 116, 44, 182, 0, 119, 159, 1, 244, 3, 172]
abbrev dktL_law_33 : List UInt8 := dkwL_law_33 ++ dktL_law_34
def dkwL_law_32 : List UInt8 := [96, 46, 182, 0, 111, 159, 2, 26, 3, 172, 43, 42, 21, 4, 4, 96, 46, 182, 0, 112, 44, 42, 21, 4]
abbrev dktL_law_32 : List UInt8 := dkwL_law_32 ++ dktL_law_33
def dkwL_law_31 : List UInt8 := [46, 182, 0, 107, 159, 2, 51, 3, 172, 43, 42, 21, 4, 4, 96, 46, 182, 0, 108, 44, 42, 21, 4, 4]
abbrev dktL_law_31 : List UInt8 := dkwL_law_31 ++ dktL_law_32
def dkwL_law_30 : List UInt8 := [182, 0, 103, 159, 2, 76, 3, 172, 43, 42, 21, 4, 4, 96, 46, 182, 0, 104, 44, 42, 21, 4, 4, 96]
abbrev dktL_law_30 : List UInt8 := dkwL_law_30 ++ dktL_law_31
def dkwL_law_29 : List UInt8 := [182, 0, 96, 44, 42, 21, 4, 4, 96, 46, 182, 0, 99, 159, 2, 89, 3, 172, 43, 182, 0, 100, 44]
abbrev dktL_law_29 : List UInt8 := dkwL_law_29 ++ dktL_law_30
def dkwL_law_28 : List UInt8 := [44, 42, 21, 4, 4, 96, 46, 182, 0, 95, 159, 2, 114, 3, 172, 43, 42, 21, 4, 4, 96, 46]
abbrev dktL_law_28 : List UInt8 := dkwL_law_28 ++ dktL_law_29
def dkwL_law_27 : List UInt8 := [42, 21, 4, 6, 96, 46, 182, 0, 90, 159, 2, 139, 3, 172, 43, 42, 21, 4, 4, 96, 46, 182, 0, 91]
abbrev dktL_law_27 : List UInt8 := dkwL_law_27 ++ dktL_law_28
def dkwL_law_26 : List UInt8 := [96, 46, 42, 21, 4, 6, 96, 46, 182, 0, 87, 44, 42, 21, 4, 4, 96, 46, 42, 21, 4, 5, 96, 46]
abbrev dktL_law_26 : List UInt8 := dkwL_law_26 ++ dktL_law_27
def dkwL_law_25 : List UInt8 := [21, 4, 5, 96, 46, 182, 0, 86, 159, 2, 188, 3, 172, 43, 42, 21, 4, 4, 96, 46, 42, 21, 4, 5]
abbrev dktL_law_25 : List UInt8 := dkwL_law_25 ++ dktL_law_26
def dkwL_law_24 : List UInt8 := [42, 21, 4, 4, 96, 46, 42, 21, 4, 5, 96, 46, 182, 0, 83, 44, 42, 21, 4, 4, 96, 46, 42]
abbrev dktL_law_24 : List UInt8 := dkwL_law_24 ++ dktL_law_25
def dkwL_law_23 : List UInt8 := [4, 96, 46, 42, 21, 4, 5, 96, 46, 42, 21, 4, 6, 96, 46, 182, 0, 82, 159, 2, 225, 3, 172, 43]
abbrev dktL_law_23 : List UInt8 := dkwL_law_23 ++ dktL_law_24
def dkwL_law_22 : List UInt8 := [21, 4, 4, 96, 46, 42, 21, 4, 5, 96, 46, 42, 21, 4, 6, 96, 46, 182, 0, 78, 44, 42, 21, 4]
abbrev dktL_law_22 : List UInt8 := dkwL_law_22 ++ dktL_law_23
def dkwL_law_21 : List UInt8 := [46, 42, 21, 4, 6, 96, 46, 42, 21, 4, 7, 96, 46, 182, 0, 77, 159, 3, 18, 3, 172, 43, 42]
abbrev dktL_law_21 : List UInt8 := dkwL_law_21 ++ dktL_law_22
def dkwL_law_20 : List UInt8 := [6, 96, 46, 42, 21, 4, 7, 96, 46, 182, 0, 73, 44, 42, 21, 4, 4, 96, 46, 42, 21, 4, 5, 96]
abbrev dktL_law_20 : List UInt8 := dkwL_law_20 ++ dktL_law_21
def dkwL_law_19 : List UInt8 := [153, 0, 5, 3, 172, 167, 3, 77, 43, 42, 21, 4, 4, 96, 46, 42, 21, 4, 5, 96, 46, 42, 21, 4]
abbrev dktL_law_19 : List UInt8 := dkwL_law_19 ++ dktL_law_20
def dkwL_law_18 : List UInt8 := [182, 0, 50, 21, 5, 159, 0, 5, 3, 172, 21, 5, 154, 0, 15, 45, 3, 47, 21, 6, 133, 148]
abbrev dktL_law_18 : List UInt8 := dkwL_law_18 ++ dktL_law_19
def dkwL_law_17 : List UInt8 := [184, 0, 70, 54, 5, 44, 42, 21, 4, 4, 96, 46, 42, 21, 4, 5, 96, 46, 182, 0, 72, 54, 6, 44]
abbrev dktL_law_17 : List UInt8 := dkwL_law_17 ++ dktL_law_18
def dkwL_law_16 : List UInt8 := [182, 0, 69, 159, 3, 147, 3, 172, 43, 42, 21, 4, 4, 96, 46, 42, 21, 4, 5, 96, 46, 45]
abbrev dktL_law_16 : List UInt8 := dkwL_law_16 ++ dktL_law_17
def dkwL_law_15 : List UInt8 := [21, 4, 4, 96, 46, 42, 21, 4, 5, 96, 46, 182, 0, 65, 159, 3, 160, 3, 172, 43, 182, 0, 66, 44]
abbrev dktL_law_15 : List UInt8 := dkwL_law_15 ++ dktL_law_16
def dkwL_law_14 : List UInt8 := [159, 3, 197, 3, 172, 43, 42, 21, 4, 4, 96, 46, 42, 21, 4, 5, 96, 46, 182, 0, 62, 44, 42]
abbrev dktL_law_14 : List UInt8 := dkwL_law_14 ++ dktL_law_15
def dkwL_law_13 : List UInt8 := [21, 4, 5, 96, 46, 182, 0, 57, 44, 42, 21, 4, 4, 96, 46, 42, 21, 4, 5, 96, 46, 182, 0, 61]
abbrev dktL_law_13 : List UInt8 := dkwL_law_13 ++ dktL_law_14
def dkwL_law_12 : List UInt8 := [96, 46, 42, 21, 4, 5, 96, 46, 182, 0, 56, 159, 3, 234, 3, 172, 43, 42, 21, 4, 4, 96, 46, 42]
abbrev dktL_law_12 : List UInt8 := dkwL_law_12 ++ dktL_law_13
def dkwL_law_11 : List UInt8 := [167, 4, 13, 43, 42, 21, 4, 4, 96, 46, 42, 21, 4, 5, 96, 46, 182, 0, 53, 44, 42, 21, 4, 4]
abbrev dktL_law_11 : List UInt8 := dkwL_law_11 ++ dktL_law_12
def dkwL_law_10 : List UInt8 := [159, 0, 5, 3, 172, 21, 5, 154, 0, 15, 45, 3, 47, 21, 6, 133, 148, 153, 0, 5, 3, 172]
abbrev dktL_law_10 : List UInt8 := dkwL_law_10 ++ dktL_law_11
def dkwL_law_9 : List UInt8 := [44, 42, 21, 4, 4, 96, 46, 42, 21, 4, 5, 96, 46, 182, 0, 49, 54, 6, 44, 182, 0, 50, 21, 5]
abbrev dktL_law_9 : List UInt8 := dkwL_law_9 ++ dktL_law_10
def dkwL_law_8 : List UInt8 := [159, 4, 83, 3, 172, 43, 42, 21, 4, 4, 96, 46, 42, 21, 4, 5, 96, 46, 45, 184, 0, 44, 54, 5]
abbrev dktL_law_8 : List UInt8 := dkwL_law_8 ++ dktL_law_9
def dkwL_law_7 : List UInt8 := [3, 172, 43, 182, 0, 35, 44, 182, 0, 39, 159, 4, 96, 3, 172, 43, 182, 0, 40, 44, 182, 0, 43]
abbrev dktL_law_7 : List UInt8 := dkwL_law_7 ++ dktL_law_8
def dkwL_law_6 : List UInt8 := [172, 43, 42, 21, 4, 4, 96, 46, 182, 0, 30, 44, 42, 21, 4, 4, 96, 46, 182, 0, 34, 159, 4, 109]
abbrev dktL_law_6 : List UInt8 := dkwL_law_6 ++ dktL_law_7
def dkwL_law_5 : List UInt8 := [21, 4, 6, 96, 46, 42, 21, 4, 7, 96, 46, 42, 21, 4, 8, 96, 46, 182, 0, 29, 159, 4, 134, 3]
abbrev dktL_law_5 : List UInt8 := dkwL_law_5 ++ dktL_law_6
def dkwL_law_4 : List UInt8 := [46, 42, 21, 4, 8, 96, 46, 182, 0, 25, 44, 42, 21, 4, 4, 96, 46, 42, 21, 4, 5, 96, 46, 42]
abbrev dktL_law_4 : List UInt8 := dkwL_law_4 ++ dktL_law_5
def dkwL_law_3 : List UInt8 := [43, 42, 21, 4, 4, 96, 46, 42, 21, 4, 5, 96, 46, 42, 21, 4, 6, 96, 46, 42, 21, 4, 7, 96]
abbrev dktL_law_3 : List UInt8 := dkwL_law_3 ++ dktL_law_4
def dkwL_law_2 : List UInt8 := [170, 0, 0, 0, 0, 0, 5, 126, 0, 0, 0, 0, 0, 0, 0, 40, 0, 0, 0, 180, 0, 0, 0, 253, 0, 0, 1, 22, 0, 0, 1, 35, 0, 0, 1, 48, 0, 0, 1, 116, 0, 0, 1, 153, 0, 0, 1, 190, 0, 0, 1, 227, 0, 0, 1, 240, 0, 0, 2, 52, 0, 0, 2, 113, 0, 0, 2, 162, 0, 0, 2, 199, 0, 0, 2, 248, 0, 0, 3, 17, 0, 0, 3, 42, 0, 0, 3, 55, 0, 0, 3, 80, 0, 0, 3, 105, 0, 0, 3, 130, 0, 0, 3, 143, 0, 0, 3, 156, 0, 0, 3, 169, 0, 0, 3, 194, 0, 0, 3, 207, 0, 0, 4, 19, 0, 0, 4, 32, 0, 0, 4, 57, 0, 0, 4, 82, 0, 0, 4, 107, 0, 0, 4, 144, 0, 0, 4, 157, 0, 0, 4, 194, 0, 0, 4, 219, 0, 0, 4, 244, 0, 0, 5, 25, 0, 0, 5, 38, 0, 0, 5, 51, 0, 0, 5, 76, 0, 0, 5, 101]
abbrev dktL_law_2 : List UInt8 := dkwL_law_2 ++ dktL_law_3
def dkwL_law_1 : List UInt8 := [21, 4, 42, 190, 16, 6, 100, 163, 5, 142, 42, 21, 4, 46, 16, 63, 126]
abbrev dktL_law_1 : List UInt8 := dkwL_law_1 ++ dktL_law_2
def dkwL_law_0 : List UInt8 := [187, 0, 8, 89, 183, 0, 21, 76, 187, 0, 22, 89, 183, 0, 24, 77, 4, 188, 11, 78, 3, 54, 4]
abbrev dktL_law_0 : List UInt8 := dkwL_law_0 ++ dktL_law_1
theorem dksL_law_0 : cL_law.data.toList.drop 0 = dktL_law_0 := by decide +kernel
theorem dksL_law_1 : cL_law.data.toList.drop 23 = dktL_law_1 := dk_seg dksL_law_0 23 rfl rfl
theorem dksL_law_2 : cL_law.data.toList.drop 40 = dktL_law_2 := dk_seg dksL_law_1 17 rfl rfl
theorem dksL_law_3 : cL_law.data.toList.drop 220 = dktL_law_3 := dk_seg dksL_law_2 180 rfl rfl
theorem dksL_law_4 : cL_law.data.toList.drop 244 = dktL_law_4 := dk_seg dksL_law_3 24 rfl rfl
theorem dksL_law_5 : cL_law.data.toList.drop 268 = dktL_law_5 := dk_seg dksL_law_4 24 rfl rfl
theorem dksL_law_6 : cL_law.data.toList.drop 292 = dktL_law_6 := dk_seg dksL_law_5 24 rfl rfl
theorem dksL_law_7 : cL_law.data.toList.drop 316 = dktL_law_7 := dk_seg dksL_law_6 24 rfl rfl
theorem dksL_law_8 : cL_law.data.toList.drop 339 = dktL_law_8 := dk_seg dksL_law_7 23 rfl rfl
theorem dksL_law_9 : cL_law.data.toList.drop 363 = dktL_law_9 := dk_seg dksL_law_8 24 rfl rfl
theorem dksL_law_10 : cL_law.data.toList.drop 387 = dktL_law_10 := dk_seg dksL_law_9 24 rfl rfl
theorem dksL_law_11 : cL_law.data.toList.drop 409 = dktL_law_11 := dk_seg dksL_law_10 22 rfl rfl
theorem dksL_law_12 : cL_law.data.toList.drop 433 = dktL_law_12 := dk_seg dksL_law_11 24 rfl rfl
theorem dksL_law_13 : cL_law.data.toList.drop 457 = dktL_law_13 := dk_seg dksL_law_12 24 rfl rfl
theorem dksL_law_14 : cL_law.data.toList.drop 481 = dktL_law_14 := dk_seg dksL_law_13 24 rfl rfl
theorem dksL_law_15 : cL_law.data.toList.drop 504 = dktL_law_15 := dk_seg dksL_law_14 23 rfl rfl
theorem dksL_law_16 : cL_law.data.toList.drop 528 = dktL_law_16 := dk_seg dksL_law_15 24 rfl rfl
theorem dksL_law_17 : cL_law.data.toList.drop 550 = dktL_law_17 := dk_seg dksL_law_16 22 rfl rfl
theorem dksL_law_18 : cL_law.data.toList.drop 574 = dktL_law_18 := dk_seg dksL_law_17 24 rfl rfl
theorem dksL_law_19 : cL_law.data.toList.drop 596 = dktL_law_19 := dk_seg dksL_law_18 22 rfl rfl
theorem dksL_law_20 : cL_law.data.toList.drop 620 = dktL_law_20 := dk_seg dksL_law_19 24 rfl rfl
theorem dksL_law_21 : cL_law.data.toList.drop 644 = dktL_law_21 := dk_seg dksL_law_20 24 rfl rfl
theorem dksL_law_22 : cL_law.data.toList.drop 667 = dktL_law_22 := dk_seg dksL_law_21 23 rfl rfl
theorem dksL_law_23 : cL_law.data.toList.drop 691 = dktL_law_23 := dk_seg dksL_law_22 24 rfl rfl
theorem dksL_law_24 : cL_law.data.toList.drop 715 = dktL_law_24 := dk_seg dksL_law_23 24 rfl rfl
theorem dksL_law_25 : cL_law.data.toList.drop 738 = dktL_law_25 := dk_seg dksL_law_24 23 rfl rfl
theorem dksL_law_26 : cL_law.data.toList.drop 762 = dktL_law_26 := dk_seg dksL_law_25 24 rfl rfl
theorem dksL_law_27 : cL_law.data.toList.drop 786 = dktL_law_27 := dk_seg dksL_law_26 24 rfl rfl
theorem dksL_law_28 : cL_law.data.toList.drop 810 = dktL_law_28 := dk_seg dksL_law_27 24 rfl rfl
theorem dksL_law_29 : cL_law.data.toList.drop 832 = dktL_law_29 := dk_seg dksL_law_28 22 rfl rfl
theorem dksL_law_30 : cL_law.data.toList.drop 855 = dktL_law_30 := dk_seg dksL_law_29 23 rfl rfl
theorem dksL_law_31 : cL_law.data.toList.drop 879 = dktL_law_31 := dk_seg dksL_law_30 24 rfl rfl
theorem dksL_law_32 : cL_law.data.toList.drop 903 = dktL_law_32 := dk_seg dksL_law_31 24 rfl rfl
theorem dksL_law_33 : cL_law.data.toList.drop 927 = dktL_law_33 := dk_seg dksL_law_32 24 rfl rfl
theorem dksL_law_34 : cL_law.data.toList.drop 951 = dktL_law_34 := dk_seg dksL_law_33 24 rfl rfl
theorem dksL_law_35 : cL_law.data.toList.drop 975 = dktL_law_35 := dk_seg dksL_law_34 24 rfl rfl
theorem dksL_law_36 : cL_law.data.toList.drop 997 = dktL_law_36 := dk_seg dksL_law_35 22 rfl rfl
theorem dksL_law_37 : cL_law.data.toList.drop 1021 = dktL_law_37 := dk_seg dksL_law_36 24 rfl rfl
theorem dksL_law_38 : cL_law.data.toList.drop 1045 = dktL_law_38 := dk_seg dksL_law_37 24 rfl rfl
theorem dksL_law_39 : cL_law.data.toList.drop 1069 = dktL_law_39 := dk_seg dksL_law_38 24 rfl rfl
theorem dksL_law_40 : cL_law.data.toList.drop 1091 = dktL_law_40 := dk_seg dksL_law_39 22 rfl rfl
theorem dksL_law_41 : cL_law.data.toList.drop 1113 = dktL_law_41 := dk_seg dksL_law_40 22 rfl rfl
theorem dksL_law_42 : cL_law.data.toList.drop 1137 = dktL_law_42 := dk_seg dksL_law_41 24 rfl rfl
theorem dksL_law_43 : cL_law.data.toList.drop 1161 = dktL_law_43 := dk_seg dksL_law_42 24 rfl rfl
theorem dksL_law_44 : cL_law.data.toList.drop 1184 = dktL_law_44 := dk_seg dksL_law_43 23 rfl rfl
theorem dksL_law_45 : cL_law.data.toList.drop 1208 = dktL_law_45 := dk_seg dksL_law_44 24 rfl rfl
theorem dksL_law_46 : cL_law.data.toList.drop 1232 = dktL_law_46 := dk_seg dksL_law_45 24 rfl rfl
theorem dksL_law_47 : cL_law.data.toList.drop 1256 = dktL_law_47 := dk_seg dksL_law_46 24 rfl rfl
theorem dksL_law_48 : cL_law.data.toList.drop 1278 = dktL_law_48 := dk_seg dksL_law_47 22 rfl rfl
theorem dksL_law_49 : cL_law.data.toList.drop 1300 = dktL_law_49 := dk_seg dksL_law_48 22 rfl rfl
theorem dksL_law_50 : cL_law.data.toList.drop 1324 = dktL_law_50 := dk_seg dksL_law_49 24 rfl rfl
theorem dksL_law_51 : cL_law.data.toList.drop 1346 = dktL_law_51 := dk_seg dksL_law_50 22 rfl rfl
theorem dksL_law_52 : cL_law.data.toList.drop 1370 = dktL_law_52 := dk_seg dksL_law_51 24 rfl rfl
theorem dksL_law_53 : cL_law.data.toList.drop 1394 = dktL_law_53 := dk_seg dksL_law_52 24 rfl rfl
theorem dksL_law_54 : cL_law.data.toList.drop 1416 = dktL_law_54 := dk_seg dksL_law_53 22 rfl rfl
theorem dksL_law_55 : cL_law.data.toList.drop 1438 = dktL_law_55 := dk_seg dksL_law_54 22 rfl rfl
theorem dL_law_0 : decode cL_law 0 = .ok (.new 8, 3) := dk_187 0 8 (dk_at dksL_law_0 0 rfl rfl)
theorem dL_law_3 : decode cL_law 3 = .ok (.dup, 1) := dk_89 (dk_at dksL_law_0 3 rfl rfl)
theorem dL_law_4 : decode cL_law 4 = .ok (.invokespecial 21, 3) := dk_183 0 21 (dk_at dksL_law_0 4 rfl rfl)
theorem dL_law_7 : decode cL_law 7 = .ok (.astore_n 1, 1) := dk_76 (dk_at dksL_law_0 7 rfl rfl)
theorem dL_law_8 : decode cL_law 8 = .ok (.new 22, 3) := dk_187 0 22 (dk_at dksL_law_0 8 rfl rfl)
theorem dL_law_11 : decode cL_law 11 = .ok (.dup, 1) := dk_89 (dk_at dksL_law_0 11 rfl rfl)
theorem dL_law_12 : decode cL_law 12 = .ok (.invokespecial 24, 3) := dk_183 0 24 (dk_at dksL_law_0 12 rfl rfl)
theorem dL_law_15 : decode cL_law 15 = .ok (.astore_n 2, 1) := dk_77 (dk_at dksL_law_0 15 rfl rfl)
theorem dL_law_16 : decode cL_law 16 = .ok (.iconst 1, 1) := dk_4 (dk_at dksL_law_0 16 rfl rfl)
theorem dL_law_17 : decode cL_law 17 = .ok (.newarray .long, 2) := dk_188_11 (dk_at dksL_law_0 17 rfl rfl)
theorem dL_law_19 : decode cL_law 19 = .ok (.astore_n 3, 1) := dk_78 (dk_at dksL_law_0 19 rfl rfl)
theorem dL_law_20 : decode cL_law 20 = .ok (.iconst 0, 1) := dk_3 (dk_at dksL_law_0 20 rfl rfl)
theorem dL_law_21 : decode cL_law 21 = .ok (.istore 4, 2) := dk_54 4 (dk_at dksL_law_0 21 rfl rfl)
theorem dL_law_23 : decode cL_law 23 = .ok (.iload 4, 2) := dk_21 4 (dk_at dksL_law_1 0 rfl rfl)
theorem dL_law_25 : decode cL_law 25 = .ok (.aload_n 0, 1) := dk_42 (dk_at dksL_law_1 2 rfl rfl)
theorem dL_law_26 : decode cL_law 26 = .ok (.arraylength, 1) := dk_190 (dk_at dksL_law_1 3 rfl rfl)
theorem dL_law_27 : decode cL_law 27 = .ok (.bipush 6, 2) := dk_16 6 (dk_at dksL_law_1 4 rfl rfl)
theorem dL_law_29 : decode cL_law 29 = .ok (.isub, 1) := dk_100 (dk_at dksL_law_1 6 rfl rfl)
theorem dL_law_30 : decode cL_law 30 = .ok (.if_icmp .gt 1422, 3) := dk_163 5 142 (dk_at dksL_law_1 7 rfl rfl)
theorem dL_law_33 : decode cL_law 33 = .ok (.aload_n 0, 1) := dk_42 (dk_at dksL_law_1 10 rfl rfl)
theorem dL_law_34 : decode cL_law 34 = .ok (.iload 4, 2) := dk_21 4 (dk_at dksL_law_1 11 rfl rfl)
theorem dL_law_36 : decode cL_law 36 = .ok (.iaload, 1) := dk_46 (dk_at dksL_law_1 13 rfl rfl)
theorem dL_law_37 : decode cL_law 37 = .ok (.bipush 63, 2) := dk_16 63 (dk_at dksL_law_1 14 rfl rfl)
theorem dL_law_39 : decode cL_law 39 = .ok (.iand, 1) := dk_126 (dk_at dksL_law_1 16 rfl rfl)
theorem dL_law_40 : decode cL_law 40 = .ok (.tableswitch 1406 0 40 #[180, 253, 278, 291, 304, 372, 409, 446, 483, 496, 564, 625, 674, 711, 760, 785, 810, 823, 848, 873, 898, 911, 924, 937, 962, 975, 1043, 1056, 1081, 1106, 1131, 1168, 1181, 1218, 1243, 1268, 1305, 1318, 1331, 1356, 1381], 180) := by decide +kernel
theorem dL_law_220 : decode cL_law 220 = .ok (.aload_n 1, 1) := dk_43 (dk_at dksL_law_3 0 rfl rfl)
theorem dL_law_221 : decode cL_law 221 = .ok (.aload_n 0, 1) := dk_42 (dk_at dksL_law_3 1 rfl rfl)
theorem dL_law_222 : decode cL_law 222 = .ok (.iload 4, 2) := dk_21 4 (dk_at dksL_law_3 2 rfl rfl)
theorem dL_law_224 : decode cL_law 224 = .ok (.iconst 1, 1) := dk_4 (dk_at dksL_law_3 4 rfl rfl)
theorem dL_law_225 : decode cL_law 225 = .ok (.iadd, 1) := dk_96 (dk_at dksL_law_3 5 rfl rfl)
theorem dL_law_226 : decode cL_law 226 = .ok (.iaload, 1) := dk_46 (dk_at dksL_law_3 6 rfl rfl)
theorem dL_law_227 : decode cL_law 227 = .ok (.aload_n 0, 1) := dk_42 (dk_at dksL_law_3 7 rfl rfl)
theorem dL_law_228 : decode cL_law 228 = .ok (.iload 4, 2) := dk_21 4 (dk_at dksL_law_3 8 rfl rfl)
theorem dL_law_230 : decode cL_law 230 = .ok (.iconst 2, 1) := dk_5 (dk_at dksL_law_3 10 rfl rfl)
theorem dL_law_231 : decode cL_law 231 = .ok (.iadd, 1) := dk_96 (dk_at dksL_law_3 11 rfl rfl)
theorem dL_law_232 : decode cL_law 232 = .ok (.iaload, 1) := dk_46 (dk_at dksL_law_3 12 rfl rfl)
theorem dL_law_233 : decode cL_law 233 = .ok (.aload_n 0, 1) := dk_42 (dk_at dksL_law_3 13 rfl rfl)
theorem dL_law_234 : decode cL_law 234 = .ok (.iload 4, 2) := dk_21 4 (dk_at dksL_law_3 14 rfl rfl)
theorem dL_law_236 : decode cL_law 236 = .ok (.iconst 3, 1) := dk_6 (dk_at dksL_law_3 16 rfl rfl)
theorem dL_law_237 : decode cL_law 237 = .ok (.iadd, 1) := dk_96 (dk_at dksL_law_3 17 rfl rfl)
theorem dL_law_238 : decode cL_law 238 = .ok (.iaload, 1) := dk_46 (dk_at dksL_law_3 18 rfl rfl)
theorem dL_law_239 : decode cL_law 239 = .ok (.aload_n 0, 1) := dk_42 (dk_at dksL_law_3 19 rfl rfl)
theorem dL_law_240 : decode cL_law 240 = .ok (.iload 4, 2) := dk_21 4 (dk_at dksL_law_3 20 rfl rfl)
theorem dL_law_242 : decode cL_law 242 = .ok (.iconst 4, 1) := dk_7 (dk_at dksL_law_3 22 rfl rfl)
theorem dL_law_243 : decode cL_law 243 = .ok (.iadd, 1) := dk_96 (dk_at dksL_law_3 23 rfl rfl)
theorem dL_law_244 : decode cL_law 244 = .ok (.iaload, 1) := dk_46 (dk_at dksL_law_4 0 rfl rfl)
theorem dL_law_245 : decode cL_law 245 = .ok (.aload_n 0, 1) := dk_42 (dk_at dksL_law_4 1 rfl rfl)
theorem dL_law_246 : decode cL_law 246 = .ok (.iload 4, 2) := dk_21 4 (dk_at dksL_law_4 2 rfl rfl)
theorem dL_law_248 : decode cL_law 248 = .ok (.iconst 5, 1) := dk_8 (dk_at dksL_law_4 4 rfl rfl)
theorem dL_law_249 : decode cL_law 249 = .ok (.iadd, 1) := dk_96 (dk_at dksL_law_4 5 rfl rfl)
theorem dL_law_250 : decode cL_law 250 = .ok (.iaload, 1) := dk_46 (dk_at dksL_law_4 6 rfl rfl)
theorem dL_law_251 : decode cL_law 251 = .ok (.invokevirtual 25, 3) := dk_182 0 25 (dk_at dksL_law_4 7 rfl rfl)
theorem dL_law_254 : decode cL_law 254 = .ok (.aload_n 2, 1) := dk_44 (dk_at dksL_law_4 10 rfl rfl)
theorem dL_law_255 : decode cL_law 255 = .ok (.aload_n 0, 1) := dk_42 (dk_at dksL_law_4 11 rfl rfl)
theorem dL_law_256 : decode cL_law 256 = .ok (.iload 4, 2) := dk_21 4 (dk_at dksL_law_4 12 rfl rfl)
theorem dL_law_258 : decode cL_law 258 = .ok (.iconst 1, 1) := dk_4 (dk_at dksL_law_4 14 rfl rfl)
theorem dL_law_259 : decode cL_law 259 = .ok (.iadd, 1) := dk_96 (dk_at dksL_law_4 15 rfl rfl)
theorem dL_law_260 : decode cL_law 260 = .ok (.iaload, 1) := dk_46 (dk_at dksL_law_4 16 rfl rfl)
theorem dL_law_261 : decode cL_law 261 = .ok (.aload_n 0, 1) := dk_42 (dk_at dksL_law_4 17 rfl rfl)
theorem dL_law_262 : decode cL_law 262 = .ok (.iload 4, 2) := dk_21 4 (dk_at dksL_law_4 18 rfl rfl)
theorem dL_law_264 : decode cL_law 264 = .ok (.iconst 2, 1) := dk_5 (dk_at dksL_law_4 20 rfl rfl)
theorem dL_law_265 : decode cL_law 265 = .ok (.iadd, 1) := dk_96 (dk_at dksL_law_4 21 rfl rfl)
theorem dL_law_266 : decode cL_law 266 = .ok (.iaload, 1) := dk_46 (dk_at dksL_law_4 22 rfl rfl)
theorem dL_law_267 : decode cL_law 267 = .ok (.aload_n 0, 1) := dk_42 (dk_at dksL_law_4 23 rfl rfl)
theorem dL_law_268 : decode cL_law 268 = .ok (.iload 4, 2) := dk_21 4 (dk_at dksL_law_5 0 rfl rfl)
theorem dL_law_270 : decode cL_law 270 = .ok (.iconst 3, 1) := dk_6 (dk_at dksL_law_5 2 rfl rfl)
theorem dL_law_271 : decode cL_law 271 = .ok (.iadd, 1) := dk_96 (dk_at dksL_law_5 3 rfl rfl)
theorem dL_law_272 : decode cL_law 272 = .ok (.iaload, 1) := dk_46 (dk_at dksL_law_5 4 rfl rfl)
theorem dL_law_273 : decode cL_law 273 = .ok (.aload_n 0, 1) := dk_42 (dk_at dksL_law_5 5 rfl rfl)
theorem dL_law_274 : decode cL_law 274 = .ok (.iload 4, 2) := dk_21 4 (dk_at dksL_law_5 6 rfl rfl)
theorem dL_law_276 : decode cL_law 276 = .ok (.iconst 4, 1) := dk_7 (dk_at dksL_law_5 8 rfl rfl)
theorem dL_law_277 : decode cL_law 277 = .ok (.iadd, 1) := dk_96 (dk_at dksL_law_5 9 rfl rfl)
theorem dL_law_278 : decode cL_law 278 = .ok (.iaload, 1) := dk_46 (dk_at dksL_law_5 10 rfl rfl)
theorem dL_law_279 : decode cL_law 279 = .ok (.aload_n 0, 1) := dk_42 (dk_at dksL_law_5 11 rfl rfl)
theorem dL_law_280 : decode cL_law 280 = .ok (.iload 4, 2) := dk_21 4 (dk_at dksL_law_5 12 rfl rfl)
theorem dL_law_282 : decode cL_law 282 = .ok (.iconst 5, 1) := dk_8 (dk_at dksL_law_5 14 rfl rfl)
theorem dL_law_283 : decode cL_law 283 = .ok (.iadd, 1) := dk_96 (dk_at dksL_law_5 15 rfl rfl)
theorem dL_law_284 : decode cL_law 284 = .ok (.iaload, 1) := dk_46 (dk_at dksL_law_5 16 rfl rfl)
theorem dL_law_285 : decode cL_law 285 = .ok (.invokevirtual 29, 3) := dk_182 0 29 (dk_at dksL_law_5 17 rfl rfl)
theorem dL_law_288 : decode cL_law 288 = .ok (.if_icmp .eq 1158, 3) := dk_159 4 134 (dk_at dksL_law_5 20 rfl rfl)
theorem dL_law_291 : decode cL_law 291 = .ok (.iconst 0, 1) := dk_3 (dk_at dksL_law_5 23 rfl rfl)
theorem dL_law_292 : decode cL_law 292 = .ok (.ireturn, 1) := dk_172 (dk_at dksL_law_6 0 rfl rfl)
theorem dL_law_293 : decode cL_law 293 = .ok (.aload_n 1, 1) := dk_43 (dk_at dksL_law_6 1 rfl rfl)
theorem dL_law_294 : decode cL_law 294 = .ok (.aload_n 0, 1) := dk_42 (dk_at dksL_law_6 2 rfl rfl)
theorem dL_law_295 : decode cL_law 295 = .ok (.iload 4, 2) := dk_21 4 (dk_at dksL_law_6 3 rfl rfl)
theorem dL_law_297 : decode cL_law 297 = .ok (.iconst 1, 1) := dk_4 (dk_at dksL_law_6 5 rfl rfl)
theorem dL_law_298 : decode cL_law 298 = .ok (.iadd, 1) := dk_96 (dk_at dksL_law_6 6 rfl rfl)
theorem dL_law_299 : decode cL_law 299 = .ok (.iaload, 1) := dk_46 (dk_at dksL_law_6 7 rfl rfl)
theorem dL_law_300 : decode cL_law 300 = .ok (.invokevirtual 30, 3) := dk_182 0 30 (dk_at dksL_law_6 8 rfl rfl)
theorem dL_law_303 : decode cL_law 303 = .ok (.aload_n 2, 1) := dk_44 (dk_at dksL_law_6 11 rfl rfl)
theorem dL_law_304 : decode cL_law 304 = .ok (.aload_n 0, 1) := dk_42 (dk_at dksL_law_6 12 rfl rfl)
theorem dL_law_305 : decode cL_law 305 = .ok (.iload 4, 2) := dk_21 4 (dk_at dksL_law_6 13 rfl rfl)
theorem dL_law_307 : decode cL_law 307 = .ok (.iconst 1, 1) := dk_4 (dk_at dksL_law_6 15 rfl rfl)
theorem dL_law_308 : decode cL_law 308 = .ok (.iadd, 1) := dk_96 (dk_at dksL_law_6 16 rfl rfl)
theorem dL_law_309 : decode cL_law 309 = .ok (.iaload, 1) := dk_46 (dk_at dksL_law_6 17 rfl rfl)
theorem dL_law_310 : decode cL_law 310 = .ok (.invokevirtual 34, 3) := dk_182 0 34 (dk_at dksL_law_6 18 rfl rfl)
theorem dL_law_313 : decode cL_law 313 = .ok (.if_icmp .eq 1133, 3) := dk_159 4 109 (dk_at dksL_law_6 21 rfl rfl)
theorem dL_law_316 : decode cL_law 316 = .ok (.iconst 0, 1) := dk_3 (dk_at dksL_law_7 0 rfl rfl)
theorem dL_law_317 : decode cL_law 317 = .ok (.ireturn, 1) := dk_172 (dk_at dksL_law_7 1 rfl rfl)
theorem dL_law_318 : decode cL_law 318 = .ok (.aload_n 1, 1) := dk_43 (dk_at dksL_law_7 2 rfl rfl)
theorem dL_law_319 : decode cL_law 319 = .ok (.invokevirtual 35, 3) := dk_182 0 35 (dk_at dksL_law_7 3 rfl rfl)
theorem dL_law_322 : decode cL_law 322 = .ok (.aload_n 2, 1) := dk_44 (dk_at dksL_law_7 6 rfl rfl)
theorem dL_law_323 : decode cL_law 323 = .ok (.invokevirtual 39, 3) := dk_182 0 39 (dk_at dksL_law_7 7 rfl rfl)
theorem dL_law_326 : decode cL_law 326 = .ok (.if_icmp .eq 1120, 3) := dk_159 4 96 (dk_at dksL_law_7 10 rfl rfl)
theorem dL_law_329 : decode cL_law 329 = .ok (.iconst 0, 1) := dk_3 (dk_at dksL_law_7 13 rfl rfl)
theorem dL_law_330 : decode cL_law 330 = .ok (.ireturn, 1) := dk_172 (dk_at dksL_law_7 14 rfl rfl)
theorem dL_law_331 : decode cL_law 331 = .ok (.aload_n 1, 1) := dk_43 (dk_at dksL_law_7 15 rfl rfl)
theorem dL_law_332 : decode cL_law 332 = .ok (.invokevirtual 40, 3) := dk_182 0 40 (dk_at dksL_law_7 16 rfl rfl)
theorem dL_law_335 : decode cL_law 335 = .ok (.aload_n 2, 1) := dk_44 (dk_at dksL_law_7 19 rfl rfl)
theorem dL_law_336 : decode cL_law 336 = .ok (.invokevirtual 43, 3) := dk_182 0 43 (dk_at dksL_law_7 20 rfl rfl)
theorem dL_law_339 : decode cL_law 339 = .ok (.if_icmp .eq 1107, 3) := dk_159 4 83 (dk_at dksL_law_8 0 rfl rfl)
theorem dL_law_342 : decode cL_law 342 = .ok (.iconst 0, 1) := dk_3 (dk_at dksL_law_8 3 rfl rfl)
theorem dL_law_343 : decode cL_law 343 = .ok (.ireturn, 1) := dk_172 (dk_at dksL_law_8 4 rfl rfl)
theorem dL_law_344 : decode cL_law 344 = .ok (.aload_n 1, 1) := dk_43 (dk_at dksL_law_8 5 rfl rfl)
theorem dL_law_345 : decode cL_law 345 = .ok (.aload_n 0, 1) := dk_42 (dk_at dksL_law_8 6 rfl rfl)
theorem dL_law_346 : decode cL_law 346 = .ok (.iload 4, 2) := dk_21 4 (dk_at dksL_law_8 7 rfl rfl)
theorem dL_law_348 : decode cL_law 348 = .ok (.iconst 1, 1) := dk_4 (dk_at dksL_law_8 9 rfl rfl)
theorem dL_law_349 : decode cL_law 349 = .ok (.iadd, 1) := dk_96 (dk_at dksL_law_8 10 rfl rfl)
theorem dL_law_350 : decode cL_law 350 = .ok (.iaload, 1) := dk_46 (dk_at dksL_law_8 11 rfl rfl)
theorem dL_law_351 : decode cL_law 351 = .ok (.aload_n 0, 1) := dk_42 (dk_at dksL_law_8 12 rfl rfl)
theorem dL_law_352 : decode cL_law 352 = .ok (.iload 4, 2) := dk_21 4 (dk_at dksL_law_8 13 rfl rfl)
theorem dL_law_354 : decode cL_law 354 = .ok (.iconst 2, 1) := dk_5 (dk_at dksL_law_8 15 rfl rfl)
theorem dL_law_355 : decode cL_law 355 = .ok (.iadd, 1) := dk_96 (dk_at dksL_law_8 16 rfl rfl)
theorem dL_law_356 : decode cL_law 356 = .ok (.iaload, 1) := dk_46 (dk_at dksL_law_8 17 rfl rfl)
theorem dL_law_357 : decode cL_law 357 = .ok (.aload_n 3, 1) := dk_45 (dk_at dksL_law_8 18 rfl rfl)
theorem dL_law_358 : decode cL_law 358 = .ok (.invokestatic 44, 3) := dk_184 0 44 (dk_at dksL_law_8 19 rfl rfl)
theorem dL_law_361 : decode cL_law 361 = .ok (.istore 5, 2) := dk_54 5 (dk_at dksL_law_8 22 rfl rfl)
theorem dL_law_363 : decode cL_law 363 = .ok (.aload_n 2, 1) := dk_44 (dk_at dksL_law_9 0 rfl rfl)
theorem dL_law_364 : decode cL_law 364 = .ok (.aload_n 0, 1) := dk_42 (dk_at dksL_law_9 1 rfl rfl)
theorem dL_law_365 : decode cL_law 365 = .ok (.iload 4, 2) := dk_21 4 (dk_at dksL_law_9 2 rfl rfl)
theorem dL_law_367 : decode cL_law 367 = .ok (.iconst 1, 1) := dk_4 (dk_at dksL_law_9 4 rfl rfl)
theorem dL_law_368 : decode cL_law 368 = .ok (.iadd, 1) := dk_96 (dk_at dksL_law_9 5 rfl rfl)
theorem dL_law_369 : decode cL_law 369 = .ok (.iaload, 1) := dk_46 (dk_at dksL_law_9 6 rfl rfl)
theorem dL_law_370 : decode cL_law 370 = .ok (.aload_n 0, 1) := dk_42 (dk_at dksL_law_9 7 rfl rfl)
theorem dL_law_371 : decode cL_law 371 = .ok (.iload 4, 2) := dk_21 4 (dk_at dksL_law_9 8 rfl rfl)
theorem dL_law_373 : decode cL_law 373 = .ok (.iconst 2, 1) := dk_5 (dk_at dksL_law_9 10 rfl rfl)
theorem dL_law_374 : decode cL_law 374 = .ok (.iadd, 1) := dk_96 (dk_at dksL_law_9 11 rfl rfl)
theorem dL_law_375 : decode cL_law 375 = .ok (.iaload, 1) := dk_46 (dk_at dksL_law_9 12 rfl rfl)
theorem dL_law_376 : decode cL_law 376 = .ok (.invokevirtual 49, 3) := dk_182 0 49 (dk_at dksL_law_9 13 rfl rfl)
theorem dL_law_379 : decode cL_law 379 = .ok (.istore 6, 2) := dk_54 6 (dk_at dksL_law_9 16 rfl rfl)
theorem dL_law_381 : decode cL_law 381 = .ok (.aload_n 2, 1) := dk_44 (dk_at dksL_law_9 18 rfl rfl)
theorem dL_law_382 : decode cL_law 382 = .ok (.invokevirtual 50, 3) := dk_182 0 50 (dk_at dksL_law_9 19 rfl rfl)
theorem dL_law_385 : decode cL_law 385 = .ok (.iload 5, 2) := dk_21 5 (dk_at dksL_law_9 22 rfl rfl)
theorem dL_law_387 : decode cL_law 387 = .ok (.if_icmp .eq 5, 3) := dk_159 0 5 (dk_at dksL_law_10 0 rfl rfl)
theorem dL_law_390 : decode cL_law 390 = .ok (.iconst 0, 1) := dk_3 (dk_at dksL_law_10 3 rfl rfl)
theorem dL_law_391 : decode cL_law 391 = .ok (.ireturn, 1) := dk_172 (dk_at dksL_law_10 4 rfl rfl)
theorem dL_law_392 : decode cL_law 392 = .ok (.iload 5, 2) := dk_21 5 (dk_at dksL_law_10 5 rfl rfl)
theorem dL_law_394 : decode cL_law 394 = .ok (.ifCond .ne 15, 3) := dk_154 0 15 (dk_at dksL_law_10 7 rfl rfl)
theorem dL_law_397 : decode cL_law 397 = .ok (.aload_n 3, 1) := dk_45 (dk_at dksL_law_10 10 rfl rfl)
theorem dL_law_398 : decode cL_law 398 = .ok (.iconst 0, 1) := dk_3 (dk_at dksL_law_10 11 rfl rfl)
theorem dL_law_399 : decode cL_law 399 = .ok (.laload, 1) := dk_47 (dk_at dksL_law_10 12 rfl rfl)
theorem dL_law_400 : decode cL_law 400 = .ok (.iload 6, 2) := dk_21 6 (dk_at dksL_law_10 13 rfl rfl)
theorem dL_law_402 : decode cL_law 402 = .ok (.i2l, 1) := dk_133 (dk_at dksL_law_10 15 rfl rfl)
theorem dL_law_403 : decode cL_law 403 = .ok (.lcmp, 1) := dk_148 (dk_at dksL_law_10 16 rfl rfl)
theorem dL_law_404 : decode cL_law 404 = .ok (.ifCond .eq 5, 3) := dk_153 0 5 (dk_at dksL_law_10 17 rfl rfl)
theorem dL_law_407 : decode cL_law 407 = .ok (.iconst 0, 1) := dk_3 (dk_at dksL_law_10 20 rfl rfl)
theorem dL_law_408 : decode cL_law 408 = .ok (.ireturn, 1) := dk_172 (dk_at dksL_law_10 21 rfl rfl)
theorem dL_law_409 : decode cL_law 409 = .ok (.goto 1037, 3) := dk_167 4 13 (dk_at dksL_law_11 0 rfl rfl)
theorem dL_law_412 : decode cL_law 412 = .ok (.aload_n 1, 1) := dk_43 (dk_at dksL_law_11 3 rfl rfl)
theorem dL_law_413 : decode cL_law 413 = .ok (.aload_n 0, 1) := dk_42 (dk_at dksL_law_11 4 rfl rfl)
theorem dL_law_414 : decode cL_law 414 = .ok (.iload 4, 2) := dk_21 4 (dk_at dksL_law_11 5 rfl rfl)
theorem dL_law_416 : decode cL_law 416 = .ok (.iconst 1, 1) := dk_4 (dk_at dksL_law_11 7 rfl rfl)
theorem dL_law_417 : decode cL_law 417 = .ok (.iadd, 1) := dk_96 (dk_at dksL_law_11 8 rfl rfl)
theorem dL_law_418 : decode cL_law 418 = .ok (.iaload, 1) := dk_46 (dk_at dksL_law_11 9 rfl rfl)
theorem dL_law_419 : decode cL_law 419 = .ok (.aload_n 0, 1) := dk_42 (dk_at dksL_law_11 10 rfl rfl)
theorem dL_law_420 : decode cL_law 420 = .ok (.iload 4, 2) := dk_21 4 (dk_at dksL_law_11 11 rfl rfl)
theorem dL_law_422 : decode cL_law 422 = .ok (.iconst 2, 1) := dk_5 (dk_at dksL_law_11 13 rfl rfl)
theorem dL_law_423 : decode cL_law 423 = .ok (.iadd, 1) := dk_96 (dk_at dksL_law_11 14 rfl rfl)
theorem dL_law_424 : decode cL_law 424 = .ok (.iaload, 1) := dk_46 (dk_at dksL_law_11 15 rfl rfl)
theorem dL_law_425 : decode cL_law 425 = .ok (.invokevirtual 53, 3) := dk_182 0 53 (dk_at dksL_law_11 16 rfl rfl)
theorem dL_law_428 : decode cL_law 428 = .ok (.aload_n 2, 1) := dk_44 (dk_at dksL_law_11 19 rfl rfl)
theorem dL_law_429 : decode cL_law 429 = .ok (.aload_n 0, 1) := dk_42 (dk_at dksL_law_11 20 rfl rfl)
theorem dL_law_430 : decode cL_law 430 = .ok (.iload 4, 2) := dk_21 4 (dk_at dksL_law_11 21 rfl rfl)
theorem dL_law_432 : decode cL_law 432 = .ok (.iconst 1, 1) := dk_4 (dk_at dksL_law_11 23 rfl rfl)
theorem dL_law_433 : decode cL_law 433 = .ok (.iadd, 1) := dk_96 (dk_at dksL_law_12 0 rfl rfl)
theorem dL_law_434 : decode cL_law 434 = .ok (.iaload, 1) := dk_46 (dk_at dksL_law_12 1 rfl rfl)
theorem dL_law_435 : decode cL_law 435 = .ok (.aload_n 0, 1) := dk_42 (dk_at dksL_law_12 2 rfl rfl)
theorem dL_law_436 : decode cL_law 436 = .ok (.iload 4, 2) := dk_21 4 (dk_at dksL_law_12 3 rfl rfl)
theorem dL_law_438 : decode cL_law 438 = .ok (.iconst 2, 1) := dk_5 (dk_at dksL_law_12 5 rfl rfl)
theorem dL_law_439 : decode cL_law 439 = .ok (.iadd, 1) := dk_96 (dk_at dksL_law_12 6 rfl rfl)
theorem dL_law_440 : decode cL_law 440 = .ok (.iaload, 1) := dk_46 (dk_at dksL_law_12 7 rfl rfl)
theorem dL_law_441 : decode cL_law 441 = .ok (.invokevirtual 56, 3) := dk_182 0 56 (dk_at dksL_law_12 8 rfl rfl)
theorem dL_law_444 : decode cL_law 444 = .ok (.if_icmp .eq 1002, 3) := dk_159 3 234 (dk_at dksL_law_12 11 rfl rfl)
theorem dL_law_447 : decode cL_law 447 = .ok (.iconst 0, 1) := dk_3 (dk_at dksL_law_12 14 rfl rfl)
theorem dL_law_448 : decode cL_law 448 = .ok (.ireturn, 1) := dk_172 (dk_at dksL_law_12 15 rfl rfl)
theorem dL_law_449 : decode cL_law 449 = .ok (.aload_n 1, 1) := dk_43 (dk_at dksL_law_12 16 rfl rfl)
theorem dL_law_450 : decode cL_law 450 = .ok (.aload_n 0, 1) := dk_42 (dk_at dksL_law_12 17 rfl rfl)
theorem dL_law_451 : decode cL_law 451 = .ok (.iload 4, 2) := dk_21 4 (dk_at dksL_law_12 18 rfl rfl)
theorem dL_law_453 : decode cL_law 453 = .ok (.iconst 1, 1) := dk_4 (dk_at dksL_law_12 20 rfl rfl)
theorem dL_law_454 : decode cL_law 454 = .ok (.iadd, 1) := dk_96 (dk_at dksL_law_12 21 rfl rfl)
theorem dL_law_455 : decode cL_law 455 = .ok (.iaload, 1) := dk_46 (dk_at dksL_law_12 22 rfl rfl)
theorem dL_law_456 : decode cL_law 456 = .ok (.aload_n 0, 1) := dk_42 (dk_at dksL_law_12 23 rfl rfl)
theorem dL_law_457 : decode cL_law 457 = .ok (.iload 4, 2) := dk_21 4 (dk_at dksL_law_13 0 rfl rfl)
theorem dL_law_459 : decode cL_law 459 = .ok (.iconst 2, 1) := dk_5 (dk_at dksL_law_13 2 rfl rfl)
theorem dL_law_460 : decode cL_law 460 = .ok (.iadd, 1) := dk_96 (dk_at dksL_law_13 3 rfl rfl)
theorem dL_law_461 : decode cL_law 461 = .ok (.iaload, 1) := dk_46 (dk_at dksL_law_13 4 rfl rfl)
theorem dL_law_462 : decode cL_law 462 = .ok (.invokevirtual 57, 3) := dk_182 0 57 (dk_at dksL_law_13 5 rfl rfl)
theorem dL_law_465 : decode cL_law 465 = .ok (.aload_n 2, 1) := dk_44 (dk_at dksL_law_13 8 rfl rfl)
theorem dL_law_466 : decode cL_law 466 = .ok (.aload_n 0, 1) := dk_42 (dk_at dksL_law_13 9 rfl rfl)
theorem dL_law_467 : decode cL_law 467 = .ok (.iload 4, 2) := dk_21 4 (dk_at dksL_law_13 10 rfl rfl)
theorem dL_law_469 : decode cL_law 469 = .ok (.iconst 1, 1) := dk_4 (dk_at dksL_law_13 12 rfl rfl)
theorem dL_law_470 : decode cL_law 470 = .ok (.iadd, 1) := dk_96 (dk_at dksL_law_13 13 rfl rfl)
theorem dL_law_471 : decode cL_law 471 = .ok (.iaload, 1) := dk_46 (dk_at dksL_law_13 14 rfl rfl)
theorem dL_law_472 : decode cL_law 472 = .ok (.aload_n 0, 1) := dk_42 (dk_at dksL_law_13 15 rfl rfl)
theorem dL_law_473 : decode cL_law 473 = .ok (.iload 4, 2) := dk_21 4 (dk_at dksL_law_13 16 rfl rfl)
theorem dL_law_475 : decode cL_law 475 = .ok (.iconst 2, 1) := dk_5 (dk_at dksL_law_13 18 rfl rfl)
theorem dL_law_476 : decode cL_law 476 = .ok (.iadd, 1) := dk_96 (dk_at dksL_law_13 19 rfl rfl)
theorem dL_law_477 : decode cL_law 477 = .ok (.iaload, 1) := dk_46 (dk_at dksL_law_13 20 rfl rfl)
theorem dL_law_478 : decode cL_law 478 = .ok (.invokevirtual 61, 3) := dk_182 0 61 (dk_at dksL_law_13 21 rfl rfl)
theorem dL_law_481 : decode cL_law 481 = .ok (.if_icmp .eq 965, 3) := dk_159 3 197 (dk_at dksL_law_14 0 rfl rfl)
theorem dL_law_484 : decode cL_law 484 = .ok (.iconst 0, 1) := dk_3 (dk_at dksL_law_14 3 rfl rfl)
theorem dL_law_485 : decode cL_law 485 = .ok (.ireturn, 1) := dk_172 (dk_at dksL_law_14 4 rfl rfl)
theorem dL_law_486 : decode cL_law 486 = .ok (.aload_n 1, 1) := dk_43 (dk_at dksL_law_14 5 rfl rfl)
theorem dL_law_487 : decode cL_law 487 = .ok (.aload_n 0, 1) := dk_42 (dk_at dksL_law_14 6 rfl rfl)
theorem dL_law_488 : decode cL_law 488 = .ok (.iload 4, 2) := dk_21 4 (dk_at dksL_law_14 7 rfl rfl)
theorem dL_law_490 : decode cL_law 490 = .ok (.iconst 1, 1) := dk_4 (dk_at dksL_law_14 9 rfl rfl)
theorem dL_law_491 : decode cL_law 491 = .ok (.iadd, 1) := dk_96 (dk_at dksL_law_14 10 rfl rfl)
theorem dL_law_492 : decode cL_law 492 = .ok (.iaload, 1) := dk_46 (dk_at dksL_law_14 11 rfl rfl)
theorem dL_law_493 : decode cL_law 493 = .ok (.aload_n 0, 1) := dk_42 (dk_at dksL_law_14 12 rfl rfl)
theorem dL_law_494 : decode cL_law 494 = .ok (.iload 4, 2) := dk_21 4 (dk_at dksL_law_14 13 rfl rfl)
theorem dL_law_496 : decode cL_law 496 = .ok (.iconst 2, 1) := dk_5 (dk_at dksL_law_14 15 rfl rfl)
theorem dL_law_497 : decode cL_law 497 = .ok (.iadd, 1) := dk_96 (dk_at dksL_law_14 16 rfl rfl)
theorem dL_law_498 : decode cL_law 498 = .ok (.iaload, 1) := dk_46 (dk_at dksL_law_14 17 rfl rfl)
theorem dL_law_499 : decode cL_law 499 = .ok (.invokevirtual 62, 3) := dk_182 0 62 (dk_at dksL_law_14 18 rfl rfl)
theorem dL_law_502 : decode cL_law 502 = .ok (.aload_n 2, 1) := dk_44 (dk_at dksL_law_14 21 rfl rfl)
theorem dL_law_503 : decode cL_law 503 = .ok (.aload_n 0, 1) := dk_42 (dk_at dksL_law_14 22 rfl rfl)
theorem dL_law_504 : decode cL_law 504 = .ok (.iload 4, 2) := dk_21 4 (dk_at dksL_law_15 0 rfl rfl)
theorem dL_law_506 : decode cL_law 506 = .ok (.iconst 1, 1) := dk_4 (dk_at dksL_law_15 2 rfl rfl)
theorem dL_law_507 : decode cL_law 507 = .ok (.iadd, 1) := dk_96 (dk_at dksL_law_15 3 rfl rfl)
theorem dL_law_508 : decode cL_law 508 = .ok (.iaload, 1) := dk_46 (dk_at dksL_law_15 4 rfl rfl)
theorem dL_law_509 : decode cL_law 509 = .ok (.aload_n 0, 1) := dk_42 (dk_at dksL_law_15 5 rfl rfl)
theorem dL_law_510 : decode cL_law 510 = .ok (.iload 4, 2) := dk_21 4 (dk_at dksL_law_15 6 rfl rfl)
theorem dL_law_512 : decode cL_law 512 = .ok (.iconst 2, 1) := dk_5 (dk_at dksL_law_15 8 rfl rfl)
theorem dL_law_513 : decode cL_law 513 = .ok (.iadd, 1) := dk_96 (dk_at dksL_law_15 9 rfl rfl)
theorem dL_law_514 : decode cL_law 514 = .ok (.iaload, 1) := dk_46 (dk_at dksL_law_15 10 rfl rfl)
theorem dL_law_515 : decode cL_law 515 = .ok (.invokevirtual 65, 3) := dk_182 0 65 (dk_at dksL_law_15 11 rfl rfl)
theorem dL_law_518 : decode cL_law 518 = .ok (.if_icmp .eq 928, 3) := dk_159 3 160 (dk_at dksL_law_15 14 rfl rfl)
theorem dL_law_521 : decode cL_law 521 = .ok (.iconst 0, 1) := dk_3 (dk_at dksL_law_15 17 rfl rfl)
theorem dL_law_522 : decode cL_law 522 = .ok (.ireturn, 1) := dk_172 (dk_at dksL_law_15 18 rfl rfl)
theorem dL_law_523 : decode cL_law 523 = .ok (.aload_n 1, 1) := dk_43 (dk_at dksL_law_15 19 rfl rfl)
theorem dL_law_524 : decode cL_law 524 = .ok (.invokevirtual 66, 3) := dk_182 0 66 (dk_at dksL_law_15 20 rfl rfl)
theorem dL_law_527 : decode cL_law 527 = .ok (.aload_n 2, 1) := dk_44 (dk_at dksL_law_15 23 rfl rfl)
theorem dL_law_528 : decode cL_law 528 = .ok (.invokevirtual 69, 3) := dk_182 0 69 (dk_at dksL_law_16 0 rfl rfl)
theorem dL_law_531 : decode cL_law 531 = .ok (.if_icmp .eq 915, 3) := dk_159 3 147 (dk_at dksL_law_16 3 rfl rfl)
theorem dL_law_534 : decode cL_law 534 = .ok (.iconst 0, 1) := dk_3 (dk_at dksL_law_16 6 rfl rfl)
theorem dL_law_535 : decode cL_law 535 = .ok (.ireturn, 1) := dk_172 (dk_at dksL_law_16 7 rfl rfl)
theorem dL_law_536 : decode cL_law 536 = .ok (.aload_n 1, 1) := dk_43 (dk_at dksL_law_16 8 rfl rfl)
theorem dL_law_537 : decode cL_law 537 = .ok (.aload_n 0, 1) := dk_42 (dk_at dksL_law_16 9 rfl rfl)
theorem dL_law_538 : decode cL_law 538 = .ok (.iload 4, 2) := dk_21 4 (dk_at dksL_law_16 10 rfl rfl)
theorem dL_law_540 : decode cL_law 540 = .ok (.iconst 1, 1) := dk_4 (dk_at dksL_law_16 12 rfl rfl)
theorem dL_law_541 : decode cL_law 541 = .ok (.iadd, 1) := dk_96 (dk_at dksL_law_16 13 rfl rfl)
theorem dL_law_542 : decode cL_law 542 = .ok (.iaload, 1) := dk_46 (dk_at dksL_law_16 14 rfl rfl)
theorem dL_law_543 : decode cL_law 543 = .ok (.aload_n 0, 1) := dk_42 (dk_at dksL_law_16 15 rfl rfl)
theorem dL_law_544 : decode cL_law 544 = .ok (.iload 4, 2) := dk_21 4 (dk_at dksL_law_16 16 rfl rfl)
theorem dL_law_546 : decode cL_law 546 = .ok (.iconst 2, 1) := dk_5 (dk_at dksL_law_16 18 rfl rfl)
theorem dL_law_547 : decode cL_law 547 = .ok (.iadd, 1) := dk_96 (dk_at dksL_law_16 19 rfl rfl)
theorem dL_law_548 : decode cL_law 548 = .ok (.iaload, 1) := dk_46 (dk_at dksL_law_16 20 rfl rfl)
theorem dL_law_549 : decode cL_law 549 = .ok (.aload_n 3, 1) := dk_45 (dk_at dksL_law_16 21 rfl rfl)
theorem dL_law_550 : decode cL_law 550 = .ok (.invokestatic 70, 3) := dk_184 0 70 (dk_at dksL_law_17 0 rfl rfl)
theorem dL_law_553 : decode cL_law 553 = .ok (.istore 5, 2) := dk_54 5 (dk_at dksL_law_17 3 rfl rfl)
theorem dL_law_555 : decode cL_law 555 = .ok (.aload_n 2, 1) := dk_44 (dk_at dksL_law_17 5 rfl rfl)
theorem dL_law_556 : decode cL_law 556 = .ok (.aload_n 0, 1) := dk_42 (dk_at dksL_law_17 6 rfl rfl)
theorem dL_law_557 : decode cL_law 557 = .ok (.iload 4, 2) := dk_21 4 (dk_at dksL_law_17 7 rfl rfl)
theorem dL_law_559 : decode cL_law 559 = .ok (.iconst 1, 1) := dk_4 (dk_at dksL_law_17 9 rfl rfl)
theorem dL_law_560 : decode cL_law 560 = .ok (.iadd, 1) := dk_96 (dk_at dksL_law_17 10 rfl rfl)
theorem dL_law_561 : decode cL_law 561 = .ok (.iaload, 1) := dk_46 (dk_at dksL_law_17 11 rfl rfl)
theorem dL_law_562 : decode cL_law 562 = .ok (.aload_n 0, 1) := dk_42 (dk_at dksL_law_17 12 rfl rfl)
theorem dL_law_563 : decode cL_law 563 = .ok (.iload 4, 2) := dk_21 4 (dk_at dksL_law_17 13 rfl rfl)
theorem dL_law_565 : decode cL_law 565 = .ok (.iconst 2, 1) := dk_5 (dk_at dksL_law_17 15 rfl rfl)
theorem dL_law_566 : decode cL_law 566 = .ok (.iadd, 1) := dk_96 (dk_at dksL_law_17 16 rfl rfl)
theorem dL_law_567 : decode cL_law 567 = .ok (.iaload, 1) := dk_46 (dk_at dksL_law_17 17 rfl rfl)
theorem dL_law_568 : decode cL_law 568 = .ok (.invokevirtual 72, 3) := dk_182 0 72 (dk_at dksL_law_17 18 rfl rfl)
theorem dL_law_571 : decode cL_law 571 = .ok (.istore 6, 2) := dk_54 6 (dk_at dksL_law_17 21 rfl rfl)
theorem dL_law_573 : decode cL_law 573 = .ok (.aload_n 2, 1) := dk_44 (dk_at dksL_law_17 23 rfl rfl)
theorem dL_law_574 : decode cL_law 574 = .ok (.invokevirtual 50, 3) := dk_182 0 50 (dk_at dksL_law_18 0 rfl rfl)
theorem dL_law_577 : decode cL_law 577 = .ok (.iload 5, 2) := dk_21 5 (dk_at dksL_law_18 3 rfl rfl)
theorem dL_law_579 : decode cL_law 579 = .ok (.if_icmp .eq 5, 3) := dk_159 0 5 (dk_at dksL_law_18 5 rfl rfl)
theorem dL_law_582 : decode cL_law 582 = .ok (.iconst 0, 1) := dk_3 (dk_at dksL_law_18 8 rfl rfl)
theorem dL_law_583 : decode cL_law 583 = .ok (.ireturn, 1) := dk_172 (dk_at dksL_law_18 9 rfl rfl)
theorem dL_law_584 : decode cL_law 584 = .ok (.iload 5, 2) := dk_21 5 (dk_at dksL_law_18 10 rfl rfl)
theorem dL_law_586 : decode cL_law 586 = .ok (.ifCond .ne 15, 3) := dk_154 0 15 (dk_at dksL_law_18 12 rfl rfl)
theorem dL_law_589 : decode cL_law 589 = .ok (.aload_n 3, 1) := dk_45 (dk_at dksL_law_18 15 rfl rfl)
theorem dL_law_590 : decode cL_law 590 = .ok (.iconst 0, 1) := dk_3 (dk_at dksL_law_18 16 rfl rfl)
theorem dL_law_591 : decode cL_law 591 = .ok (.laload, 1) := dk_47 (dk_at dksL_law_18 17 rfl rfl)
theorem dL_law_592 : decode cL_law 592 = .ok (.iload 6, 2) := dk_21 6 (dk_at dksL_law_18 18 rfl rfl)
theorem dL_law_594 : decode cL_law 594 = .ok (.i2l, 1) := dk_133 (dk_at dksL_law_18 20 rfl rfl)
theorem dL_law_595 : decode cL_law 595 = .ok (.lcmp, 1) := dk_148 (dk_at dksL_law_18 21 rfl rfl)
theorem dL_law_596 : decode cL_law 596 = .ok (.ifCond .eq 5, 3) := dk_153 0 5 (dk_at dksL_law_19 0 rfl rfl)
theorem dL_law_599 : decode cL_law 599 = .ok (.iconst 0, 1) := dk_3 (dk_at dksL_law_19 3 rfl rfl)
theorem dL_law_600 : decode cL_law 600 = .ok (.ireturn, 1) := dk_172 (dk_at dksL_law_19 4 rfl rfl)
theorem dL_law_601 : decode cL_law 601 = .ok (.goto 845, 3) := dk_167 3 77 (dk_at dksL_law_19 5 rfl rfl)
theorem dL_law_604 : decode cL_law 604 = .ok (.aload_n 1, 1) := dk_43 (dk_at dksL_law_19 8 rfl rfl)
theorem dL_law_605 : decode cL_law 605 = .ok (.aload_n 0, 1) := dk_42 (dk_at dksL_law_19 9 rfl rfl)
theorem dL_law_606 : decode cL_law 606 = .ok (.iload 4, 2) := dk_21 4 (dk_at dksL_law_19 10 rfl rfl)
theorem dL_law_608 : decode cL_law 608 = .ok (.iconst 1, 1) := dk_4 (dk_at dksL_law_19 12 rfl rfl)
theorem dL_law_609 : decode cL_law 609 = .ok (.iadd, 1) := dk_96 (dk_at dksL_law_19 13 rfl rfl)
theorem dL_law_610 : decode cL_law 610 = .ok (.iaload, 1) := dk_46 (dk_at dksL_law_19 14 rfl rfl)
theorem dL_law_611 : decode cL_law 611 = .ok (.aload_n 0, 1) := dk_42 (dk_at dksL_law_19 15 rfl rfl)
theorem dL_law_612 : decode cL_law 612 = .ok (.iload 4, 2) := dk_21 4 (dk_at dksL_law_19 16 rfl rfl)
theorem dL_law_614 : decode cL_law 614 = .ok (.iconst 2, 1) := dk_5 (dk_at dksL_law_19 18 rfl rfl)
theorem dL_law_615 : decode cL_law 615 = .ok (.iadd, 1) := dk_96 (dk_at dksL_law_19 19 rfl rfl)
theorem dL_law_616 : decode cL_law 616 = .ok (.iaload, 1) := dk_46 (dk_at dksL_law_19 20 rfl rfl)
theorem dL_law_617 : decode cL_law 617 = .ok (.aload_n 0, 1) := dk_42 (dk_at dksL_law_19 21 rfl rfl)
theorem dL_law_618 : decode cL_law 618 = .ok (.iload 4, 2) := dk_21 4 (dk_at dksL_law_19 22 rfl rfl)
theorem dL_law_620 : decode cL_law 620 = .ok (.iconst 3, 1) := dk_6 (dk_at dksL_law_20 0 rfl rfl)
theorem dL_law_621 : decode cL_law 621 = .ok (.iadd, 1) := dk_96 (dk_at dksL_law_20 1 rfl rfl)
theorem dL_law_622 : decode cL_law 622 = .ok (.iaload, 1) := dk_46 (dk_at dksL_law_20 2 rfl rfl)
theorem dL_law_623 : decode cL_law 623 = .ok (.aload_n 0, 1) := dk_42 (dk_at dksL_law_20 3 rfl rfl)
theorem dL_law_624 : decode cL_law 624 = .ok (.iload 4, 2) := dk_21 4 (dk_at dksL_law_20 4 rfl rfl)
theorem dL_law_626 : decode cL_law 626 = .ok (.iconst 4, 1) := dk_7 (dk_at dksL_law_20 6 rfl rfl)
theorem dL_law_627 : decode cL_law 627 = .ok (.iadd, 1) := dk_96 (dk_at dksL_law_20 7 rfl rfl)
theorem dL_law_628 : decode cL_law 628 = .ok (.iaload, 1) := dk_46 (dk_at dksL_law_20 8 rfl rfl)
theorem dL_law_629 : decode cL_law 629 = .ok (.invokevirtual 73, 3) := dk_182 0 73 (dk_at dksL_law_20 9 rfl rfl)
theorem dL_law_632 : decode cL_law 632 = .ok (.aload_n 2, 1) := dk_44 (dk_at dksL_law_20 12 rfl rfl)
theorem dL_law_633 : decode cL_law 633 = .ok (.aload_n 0, 1) := dk_42 (dk_at dksL_law_20 13 rfl rfl)
theorem dL_law_634 : decode cL_law 634 = .ok (.iload 4, 2) := dk_21 4 (dk_at dksL_law_20 14 rfl rfl)
theorem dL_law_636 : decode cL_law 636 = .ok (.iconst 1, 1) := dk_4 (dk_at dksL_law_20 16 rfl rfl)
theorem dL_law_637 : decode cL_law 637 = .ok (.iadd, 1) := dk_96 (dk_at dksL_law_20 17 rfl rfl)
theorem dL_law_638 : decode cL_law 638 = .ok (.iaload, 1) := dk_46 (dk_at dksL_law_20 18 rfl rfl)
theorem dL_law_639 : decode cL_law 639 = .ok (.aload_n 0, 1) := dk_42 (dk_at dksL_law_20 19 rfl rfl)
theorem dL_law_640 : decode cL_law 640 = .ok (.iload 4, 2) := dk_21 4 (dk_at dksL_law_20 20 rfl rfl)
theorem dL_law_642 : decode cL_law 642 = .ok (.iconst 2, 1) := dk_5 (dk_at dksL_law_20 22 rfl rfl)
theorem dL_law_643 : decode cL_law 643 = .ok (.iadd, 1) := dk_96 (dk_at dksL_law_20 23 rfl rfl)
theorem dL_law_644 : decode cL_law 644 = .ok (.iaload, 1) := dk_46 (dk_at dksL_law_21 0 rfl rfl)
theorem dL_law_645 : decode cL_law 645 = .ok (.aload_n 0, 1) := dk_42 (dk_at dksL_law_21 1 rfl rfl)
theorem dL_law_646 : decode cL_law 646 = .ok (.iload 4, 2) := dk_21 4 (dk_at dksL_law_21 2 rfl rfl)
theorem dL_law_648 : decode cL_law 648 = .ok (.iconst 3, 1) := dk_6 (dk_at dksL_law_21 4 rfl rfl)
theorem dL_law_649 : decode cL_law 649 = .ok (.iadd, 1) := dk_96 (dk_at dksL_law_21 5 rfl rfl)
theorem dL_law_650 : decode cL_law 650 = .ok (.iaload, 1) := dk_46 (dk_at dksL_law_21 6 rfl rfl)
theorem dL_law_651 : decode cL_law 651 = .ok (.aload_n 0, 1) := dk_42 (dk_at dksL_law_21 7 rfl rfl)
theorem dL_law_652 : decode cL_law 652 = .ok (.iload 4, 2) := dk_21 4 (dk_at dksL_law_21 8 rfl rfl)
theorem dL_law_654 : decode cL_law 654 = .ok (.iconst 4, 1) := dk_7 (dk_at dksL_law_21 10 rfl rfl)
theorem dL_law_655 : decode cL_law 655 = .ok (.iadd, 1) := dk_96 (dk_at dksL_law_21 11 rfl rfl)
theorem dL_law_656 : decode cL_law 656 = .ok (.iaload, 1) := dk_46 (dk_at dksL_law_21 12 rfl rfl)
theorem dL_law_657 : decode cL_law 657 = .ok (.invokevirtual 77, 3) := dk_182 0 77 (dk_at dksL_law_21 13 rfl rfl)
theorem dL_law_660 : decode cL_law 660 = .ok (.if_icmp .eq 786, 3) := dk_159 3 18 (dk_at dksL_law_21 16 rfl rfl)
theorem dL_law_663 : decode cL_law 663 = .ok (.iconst 0, 1) := dk_3 (dk_at dksL_law_21 19 rfl rfl)
theorem dL_law_664 : decode cL_law 664 = .ok (.ireturn, 1) := dk_172 (dk_at dksL_law_21 20 rfl rfl)
theorem dL_law_665 : decode cL_law 665 = .ok (.aload_n 1, 1) := dk_43 (dk_at dksL_law_21 21 rfl rfl)
theorem dL_law_666 : decode cL_law 666 = .ok (.aload_n 0, 1) := dk_42 (dk_at dksL_law_21 22 rfl rfl)
theorem dL_law_667 : decode cL_law 667 = .ok (.iload 4, 2) := dk_21 4 (dk_at dksL_law_22 0 rfl rfl)
theorem dL_law_669 : decode cL_law 669 = .ok (.iconst 1, 1) := dk_4 (dk_at dksL_law_22 2 rfl rfl)
theorem dL_law_670 : decode cL_law 670 = .ok (.iadd, 1) := dk_96 (dk_at dksL_law_22 3 rfl rfl)
theorem dL_law_671 : decode cL_law 671 = .ok (.iaload, 1) := dk_46 (dk_at dksL_law_22 4 rfl rfl)
theorem dL_law_672 : decode cL_law 672 = .ok (.aload_n 0, 1) := dk_42 (dk_at dksL_law_22 5 rfl rfl)
theorem dL_law_673 : decode cL_law 673 = .ok (.iload 4, 2) := dk_21 4 (dk_at dksL_law_22 6 rfl rfl)
theorem dL_law_675 : decode cL_law 675 = .ok (.iconst 2, 1) := dk_5 (dk_at dksL_law_22 8 rfl rfl)
theorem dL_law_676 : decode cL_law 676 = .ok (.iadd, 1) := dk_96 (dk_at dksL_law_22 9 rfl rfl)
theorem dL_law_677 : decode cL_law 677 = .ok (.iaload, 1) := dk_46 (dk_at dksL_law_22 10 rfl rfl)
theorem dL_law_678 : decode cL_law 678 = .ok (.aload_n 0, 1) := dk_42 (dk_at dksL_law_22 11 rfl rfl)
theorem dL_law_679 : decode cL_law 679 = .ok (.iload 4, 2) := dk_21 4 (dk_at dksL_law_22 12 rfl rfl)
theorem dL_law_681 : decode cL_law 681 = .ok (.iconst 3, 1) := dk_6 (dk_at dksL_law_22 14 rfl rfl)
theorem dL_law_682 : decode cL_law 682 = .ok (.iadd, 1) := dk_96 (dk_at dksL_law_22 15 rfl rfl)
theorem dL_law_683 : decode cL_law 683 = .ok (.iaload, 1) := dk_46 (dk_at dksL_law_22 16 rfl rfl)
theorem dL_law_684 : decode cL_law 684 = .ok (.invokevirtual 78, 3) := dk_182 0 78 (dk_at dksL_law_22 17 rfl rfl)
theorem dL_law_687 : decode cL_law 687 = .ok (.aload_n 2, 1) := dk_44 (dk_at dksL_law_22 20 rfl rfl)
theorem dL_law_688 : decode cL_law 688 = .ok (.aload_n 0, 1) := dk_42 (dk_at dksL_law_22 21 rfl rfl)
theorem dL_law_689 : decode cL_law 689 = .ok (.iload 4, 2) := dk_21 4 (dk_at dksL_law_22 22 rfl rfl)
theorem dL_law_691 : decode cL_law 691 = .ok (.iconst 1, 1) := dk_4 (dk_at dksL_law_23 0 rfl rfl)
theorem dL_law_692 : decode cL_law 692 = .ok (.iadd, 1) := dk_96 (dk_at dksL_law_23 1 rfl rfl)
theorem dL_law_693 : decode cL_law 693 = .ok (.iaload, 1) := dk_46 (dk_at dksL_law_23 2 rfl rfl)
theorem dL_law_694 : decode cL_law 694 = .ok (.aload_n 0, 1) := dk_42 (dk_at dksL_law_23 3 rfl rfl)
theorem dL_law_695 : decode cL_law 695 = .ok (.iload 4, 2) := dk_21 4 (dk_at dksL_law_23 4 rfl rfl)
theorem dL_law_697 : decode cL_law 697 = .ok (.iconst 2, 1) := dk_5 (dk_at dksL_law_23 6 rfl rfl)
theorem dL_law_698 : decode cL_law 698 = .ok (.iadd, 1) := dk_96 (dk_at dksL_law_23 7 rfl rfl)
theorem dL_law_699 : decode cL_law 699 = .ok (.iaload, 1) := dk_46 (dk_at dksL_law_23 8 rfl rfl)
theorem dL_law_700 : decode cL_law 700 = .ok (.aload_n 0, 1) := dk_42 (dk_at dksL_law_23 9 rfl rfl)
theorem dL_law_701 : decode cL_law 701 = .ok (.iload 4, 2) := dk_21 4 (dk_at dksL_law_23 10 rfl rfl)
theorem dL_law_703 : decode cL_law 703 = .ok (.iconst 3, 1) := dk_6 (dk_at dksL_law_23 12 rfl rfl)
theorem dL_law_704 : decode cL_law 704 = .ok (.iadd, 1) := dk_96 (dk_at dksL_law_23 13 rfl rfl)
theorem dL_law_705 : decode cL_law 705 = .ok (.iaload, 1) := dk_46 (dk_at dksL_law_23 14 rfl rfl)
theorem dL_law_706 : decode cL_law 706 = .ok (.invokevirtual 82, 3) := dk_182 0 82 (dk_at dksL_law_23 15 rfl rfl)
theorem dL_law_709 : decode cL_law 709 = .ok (.if_icmp .eq 737, 3) := dk_159 2 225 (dk_at dksL_law_23 18 rfl rfl)
theorem dL_law_712 : decode cL_law 712 = .ok (.iconst 0, 1) := dk_3 (dk_at dksL_law_23 21 rfl rfl)
theorem dL_law_713 : decode cL_law 713 = .ok (.ireturn, 1) := dk_172 (dk_at dksL_law_23 22 rfl rfl)
theorem dL_law_714 : decode cL_law 714 = .ok (.aload_n 1, 1) := dk_43 (dk_at dksL_law_23 23 rfl rfl)
theorem dL_law_715 : decode cL_law 715 = .ok (.aload_n 0, 1) := dk_42 (dk_at dksL_law_24 0 rfl rfl)
theorem dL_law_716 : decode cL_law 716 = .ok (.iload 4, 2) := dk_21 4 (dk_at dksL_law_24 1 rfl rfl)
theorem dL_law_718 : decode cL_law 718 = .ok (.iconst 1, 1) := dk_4 (dk_at dksL_law_24 3 rfl rfl)
theorem dL_law_719 : decode cL_law 719 = .ok (.iadd, 1) := dk_96 (dk_at dksL_law_24 4 rfl rfl)
theorem dL_law_720 : decode cL_law 720 = .ok (.iaload, 1) := dk_46 (dk_at dksL_law_24 5 rfl rfl)
theorem dL_law_721 : decode cL_law 721 = .ok (.aload_n 0, 1) := dk_42 (dk_at dksL_law_24 6 rfl rfl)
theorem dL_law_722 : decode cL_law 722 = .ok (.iload 4, 2) := dk_21 4 (dk_at dksL_law_24 7 rfl rfl)
theorem dL_law_724 : decode cL_law 724 = .ok (.iconst 2, 1) := dk_5 (dk_at dksL_law_24 9 rfl rfl)
theorem dL_law_725 : decode cL_law 725 = .ok (.iadd, 1) := dk_96 (dk_at dksL_law_24 10 rfl rfl)
theorem dL_law_726 : decode cL_law 726 = .ok (.iaload, 1) := dk_46 (dk_at dksL_law_24 11 rfl rfl)
theorem dL_law_727 : decode cL_law 727 = .ok (.invokevirtual 83, 3) := dk_182 0 83 (dk_at dksL_law_24 12 rfl rfl)
theorem dL_law_730 : decode cL_law 730 = .ok (.aload_n 2, 1) := dk_44 (dk_at dksL_law_24 15 rfl rfl)
theorem dL_law_731 : decode cL_law 731 = .ok (.aload_n 0, 1) := dk_42 (dk_at dksL_law_24 16 rfl rfl)
theorem dL_law_732 : decode cL_law 732 = .ok (.iload 4, 2) := dk_21 4 (dk_at dksL_law_24 17 rfl rfl)
theorem dL_law_734 : decode cL_law 734 = .ok (.iconst 1, 1) := dk_4 (dk_at dksL_law_24 19 rfl rfl)
theorem dL_law_735 : decode cL_law 735 = .ok (.iadd, 1) := dk_96 (dk_at dksL_law_24 20 rfl rfl)
theorem dL_law_736 : decode cL_law 736 = .ok (.iaload, 1) := dk_46 (dk_at dksL_law_24 21 rfl rfl)
theorem dL_law_737 : decode cL_law 737 = .ok (.aload_n 0, 1) := dk_42 (dk_at dksL_law_24 22 rfl rfl)
theorem dL_law_738 : decode cL_law 738 = .ok (.iload 4, 2) := dk_21 4 (dk_at dksL_law_25 0 rfl rfl)
theorem dL_law_740 : decode cL_law 740 = .ok (.iconst 2, 1) := dk_5 (dk_at dksL_law_25 2 rfl rfl)
theorem dL_law_741 : decode cL_law 741 = .ok (.iadd, 1) := dk_96 (dk_at dksL_law_25 3 rfl rfl)
theorem dL_law_742 : decode cL_law 742 = .ok (.iaload, 1) := dk_46 (dk_at dksL_law_25 4 rfl rfl)
theorem dL_law_743 : decode cL_law 743 = .ok (.invokevirtual 86, 3) := dk_182 0 86 (dk_at dksL_law_25 5 rfl rfl)
theorem dL_law_746 : decode cL_law 746 = .ok (.if_icmp .eq 700, 3) := dk_159 2 188 (dk_at dksL_law_25 8 rfl rfl)
theorem dL_law_749 : decode cL_law 749 = .ok (.iconst 0, 1) := dk_3 (dk_at dksL_law_25 11 rfl rfl)
theorem dL_law_750 : decode cL_law 750 = .ok (.ireturn, 1) := dk_172 (dk_at dksL_law_25 12 rfl rfl)
theorem dL_law_751 : decode cL_law 751 = .ok (.aload_n 1, 1) := dk_43 (dk_at dksL_law_25 13 rfl rfl)
theorem dL_law_752 : decode cL_law 752 = .ok (.aload_n 0, 1) := dk_42 (dk_at dksL_law_25 14 rfl rfl)
theorem dL_law_753 : decode cL_law 753 = .ok (.iload 4, 2) := dk_21 4 (dk_at dksL_law_25 15 rfl rfl)
theorem dL_law_755 : decode cL_law 755 = .ok (.iconst 1, 1) := dk_4 (dk_at dksL_law_25 17 rfl rfl)
theorem dL_law_756 : decode cL_law 756 = .ok (.iadd, 1) := dk_96 (dk_at dksL_law_25 18 rfl rfl)
theorem dL_law_757 : decode cL_law 757 = .ok (.iaload, 1) := dk_46 (dk_at dksL_law_25 19 rfl rfl)
theorem dL_law_758 : decode cL_law 758 = .ok (.aload_n 0, 1) := dk_42 (dk_at dksL_law_25 20 rfl rfl)
theorem dL_law_759 : decode cL_law 759 = .ok (.iload 4, 2) := dk_21 4 (dk_at dksL_law_25 21 rfl rfl)
theorem dL_law_761 : decode cL_law 761 = .ok (.iconst 2, 1) := dk_5 (dk_at dksL_law_25 23 rfl rfl)
theorem dL_law_762 : decode cL_law 762 = .ok (.iadd, 1) := dk_96 (dk_at dksL_law_26 0 rfl rfl)
theorem dL_law_763 : decode cL_law 763 = .ok (.iaload, 1) := dk_46 (dk_at dksL_law_26 1 rfl rfl)
theorem dL_law_764 : decode cL_law 764 = .ok (.aload_n 0, 1) := dk_42 (dk_at dksL_law_26 2 rfl rfl)
theorem dL_law_765 : decode cL_law 765 = .ok (.iload 4, 2) := dk_21 4 (dk_at dksL_law_26 3 rfl rfl)
theorem dL_law_767 : decode cL_law 767 = .ok (.iconst 3, 1) := dk_6 (dk_at dksL_law_26 5 rfl rfl)
theorem dL_law_768 : decode cL_law 768 = .ok (.iadd, 1) := dk_96 (dk_at dksL_law_26 6 rfl rfl)
theorem dL_law_769 : decode cL_law 769 = .ok (.iaload, 1) := dk_46 (dk_at dksL_law_26 7 rfl rfl)
theorem dL_law_770 : decode cL_law 770 = .ok (.invokevirtual 87, 3) := dk_182 0 87 (dk_at dksL_law_26 8 rfl rfl)
theorem dL_law_773 : decode cL_law 773 = .ok (.aload_n 2, 1) := dk_44 (dk_at dksL_law_26 11 rfl rfl)
theorem dL_law_774 : decode cL_law 774 = .ok (.aload_n 0, 1) := dk_42 (dk_at dksL_law_26 12 rfl rfl)
theorem dL_law_775 : decode cL_law 775 = .ok (.iload 4, 2) := dk_21 4 (dk_at dksL_law_26 13 rfl rfl)
theorem dL_law_777 : decode cL_law 777 = .ok (.iconst 1, 1) := dk_4 (dk_at dksL_law_26 15 rfl rfl)
theorem dL_law_778 : decode cL_law 778 = .ok (.iadd, 1) := dk_96 (dk_at dksL_law_26 16 rfl rfl)
theorem dL_law_779 : decode cL_law 779 = .ok (.iaload, 1) := dk_46 (dk_at dksL_law_26 17 rfl rfl)
theorem dL_law_780 : decode cL_law 780 = .ok (.aload_n 0, 1) := dk_42 (dk_at dksL_law_26 18 rfl rfl)
theorem dL_law_781 : decode cL_law 781 = .ok (.iload 4, 2) := dk_21 4 (dk_at dksL_law_26 19 rfl rfl)
theorem dL_law_783 : decode cL_law 783 = .ok (.iconst 2, 1) := dk_5 (dk_at dksL_law_26 21 rfl rfl)
theorem dL_law_784 : decode cL_law 784 = .ok (.iadd, 1) := dk_96 (dk_at dksL_law_26 22 rfl rfl)
theorem dL_law_785 : decode cL_law 785 = .ok (.iaload, 1) := dk_46 (dk_at dksL_law_26 23 rfl rfl)
theorem dL_law_786 : decode cL_law 786 = .ok (.aload_n 0, 1) := dk_42 (dk_at dksL_law_27 0 rfl rfl)
theorem dL_law_787 : decode cL_law 787 = .ok (.iload 4, 2) := dk_21 4 (dk_at dksL_law_27 1 rfl rfl)
theorem dL_law_789 : decode cL_law 789 = .ok (.iconst 3, 1) := dk_6 (dk_at dksL_law_27 3 rfl rfl)
theorem dL_law_790 : decode cL_law 790 = .ok (.iadd, 1) := dk_96 (dk_at dksL_law_27 4 rfl rfl)
theorem dL_law_791 : decode cL_law 791 = .ok (.iaload, 1) := dk_46 (dk_at dksL_law_27 5 rfl rfl)
theorem dL_law_792 : decode cL_law 792 = .ok (.invokevirtual 90, 3) := dk_182 0 90 (dk_at dksL_law_27 6 rfl rfl)
theorem dL_law_795 : decode cL_law 795 = .ok (.if_icmp .eq 651, 3) := dk_159 2 139 (dk_at dksL_law_27 9 rfl rfl)
theorem dL_law_798 : decode cL_law 798 = .ok (.iconst 0, 1) := dk_3 (dk_at dksL_law_27 12 rfl rfl)
theorem dL_law_799 : decode cL_law 799 = .ok (.ireturn, 1) := dk_172 (dk_at dksL_law_27 13 rfl rfl)
theorem dL_law_800 : decode cL_law 800 = .ok (.aload_n 1, 1) := dk_43 (dk_at dksL_law_27 14 rfl rfl)
theorem dL_law_801 : decode cL_law 801 = .ok (.aload_n 0, 1) := dk_42 (dk_at dksL_law_27 15 rfl rfl)
theorem dL_law_802 : decode cL_law 802 = .ok (.iload 4, 2) := dk_21 4 (dk_at dksL_law_27 16 rfl rfl)
theorem dL_law_804 : decode cL_law 804 = .ok (.iconst 1, 1) := dk_4 (dk_at dksL_law_27 18 rfl rfl)
theorem dL_law_805 : decode cL_law 805 = .ok (.iadd, 1) := dk_96 (dk_at dksL_law_27 19 rfl rfl)
theorem dL_law_806 : decode cL_law 806 = .ok (.iaload, 1) := dk_46 (dk_at dksL_law_27 20 rfl rfl)
theorem dL_law_807 : decode cL_law 807 = .ok (.invokevirtual 91, 3) := dk_182 0 91 (dk_at dksL_law_27 21 rfl rfl)
theorem dL_law_810 : decode cL_law 810 = .ok (.aload_n 2, 1) := dk_44 (dk_at dksL_law_28 0 rfl rfl)
theorem dL_law_811 : decode cL_law 811 = .ok (.aload_n 0, 1) := dk_42 (dk_at dksL_law_28 1 rfl rfl)
theorem dL_law_812 : decode cL_law 812 = .ok (.iload 4, 2) := dk_21 4 (dk_at dksL_law_28 2 rfl rfl)
theorem dL_law_814 : decode cL_law 814 = .ok (.iconst 1, 1) := dk_4 (dk_at dksL_law_28 4 rfl rfl)
theorem dL_law_815 : decode cL_law 815 = .ok (.iadd, 1) := dk_96 (dk_at dksL_law_28 5 rfl rfl)
theorem dL_law_816 : decode cL_law 816 = .ok (.iaload, 1) := dk_46 (dk_at dksL_law_28 6 rfl rfl)
theorem dL_law_817 : decode cL_law 817 = .ok (.invokevirtual 95, 3) := dk_182 0 95 (dk_at dksL_law_28 7 rfl rfl)
theorem dL_law_820 : decode cL_law 820 = .ok (.if_icmp .eq 626, 3) := dk_159 2 114 (dk_at dksL_law_28 10 rfl rfl)
theorem dL_law_823 : decode cL_law 823 = .ok (.iconst 0, 1) := dk_3 (dk_at dksL_law_28 13 rfl rfl)
theorem dL_law_824 : decode cL_law 824 = .ok (.ireturn, 1) := dk_172 (dk_at dksL_law_28 14 rfl rfl)
theorem dL_law_825 : decode cL_law 825 = .ok (.aload_n 1, 1) := dk_43 (dk_at dksL_law_28 15 rfl rfl)
theorem dL_law_826 : decode cL_law 826 = .ok (.aload_n 0, 1) := dk_42 (dk_at dksL_law_28 16 rfl rfl)
theorem dL_law_827 : decode cL_law 827 = .ok (.iload 4, 2) := dk_21 4 (dk_at dksL_law_28 17 rfl rfl)
theorem dL_law_829 : decode cL_law 829 = .ok (.iconst 1, 1) := dk_4 (dk_at dksL_law_28 19 rfl rfl)
theorem dL_law_830 : decode cL_law 830 = .ok (.iadd, 1) := dk_96 (dk_at dksL_law_28 20 rfl rfl)
theorem dL_law_831 : decode cL_law 831 = .ok (.iaload, 1) := dk_46 (dk_at dksL_law_28 21 rfl rfl)
theorem dL_law_832 : decode cL_law 832 = .ok (.invokevirtual 96, 3) := dk_182 0 96 (dk_at dksL_law_29 0 rfl rfl)
theorem dL_law_835 : decode cL_law 835 = .ok (.aload_n 2, 1) := dk_44 (dk_at dksL_law_29 3 rfl rfl)
theorem dL_law_836 : decode cL_law 836 = .ok (.aload_n 0, 1) := dk_42 (dk_at dksL_law_29 4 rfl rfl)
theorem dL_law_837 : decode cL_law 837 = .ok (.iload 4, 2) := dk_21 4 (dk_at dksL_law_29 5 rfl rfl)
theorem dL_law_839 : decode cL_law 839 = .ok (.iconst 1, 1) := dk_4 (dk_at dksL_law_29 7 rfl rfl)
theorem dL_law_840 : decode cL_law 840 = .ok (.iadd, 1) := dk_96 (dk_at dksL_law_29 8 rfl rfl)
theorem dL_law_841 : decode cL_law 841 = .ok (.iaload, 1) := dk_46 (dk_at dksL_law_29 9 rfl rfl)
theorem dL_law_842 : decode cL_law 842 = .ok (.invokevirtual 99, 3) := dk_182 0 99 (dk_at dksL_law_29 10 rfl rfl)
theorem dL_law_845 : decode cL_law 845 = .ok (.if_icmp .eq 601, 3) := dk_159 2 89 (dk_at dksL_law_29 13 rfl rfl)
theorem dL_law_848 : decode cL_law 848 = .ok (.iconst 0, 1) := dk_3 (dk_at dksL_law_29 16 rfl rfl)
theorem dL_law_849 : decode cL_law 849 = .ok (.ireturn, 1) := dk_172 (dk_at dksL_law_29 17 rfl rfl)
theorem dL_law_850 : decode cL_law 850 = .ok (.aload_n 1, 1) := dk_43 (dk_at dksL_law_29 18 rfl rfl)
theorem dL_law_851 : decode cL_law 851 = .ok (.invokevirtual 100, 3) := dk_182 0 100 (dk_at dksL_law_29 19 rfl rfl)
theorem dL_law_854 : decode cL_law 854 = .ok (.aload_n 2, 1) := dk_44 (dk_at dksL_law_29 22 rfl rfl)
theorem dL_law_855 : decode cL_law 855 = .ok (.invokevirtual 103, 3) := dk_182 0 103 (dk_at dksL_law_30 0 rfl rfl)
theorem dL_law_858 : decode cL_law 858 = .ok (.if_icmp .eq 588, 3) := dk_159 2 76 (dk_at dksL_law_30 3 rfl rfl)
theorem dL_law_861 : decode cL_law 861 = .ok (.iconst 0, 1) := dk_3 (dk_at dksL_law_30 6 rfl rfl)
theorem dL_law_862 : decode cL_law 862 = .ok (.ireturn, 1) := dk_172 (dk_at dksL_law_30 7 rfl rfl)
theorem dL_law_863 : decode cL_law 863 = .ok (.aload_n 1, 1) := dk_43 (dk_at dksL_law_30 8 rfl rfl)
theorem dL_law_864 : decode cL_law 864 = .ok (.aload_n 0, 1) := dk_42 (dk_at dksL_law_30 9 rfl rfl)
theorem dL_law_865 : decode cL_law 865 = .ok (.iload 4, 2) := dk_21 4 (dk_at dksL_law_30 10 rfl rfl)
theorem dL_law_867 : decode cL_law 867 = .ok (.iconst 1, 1) := dk_4 (dk_at dksL_law_30 12 rfl rfl)
theorem dL_law_868 : decode cL_law 868 = .ok (.iadd, 1) := dk_96 (dk_at dksL_law_30 13 rfl rfl)
theorem dL_law_869 : decode cL_law 869 = .ok (.iaload, 1) := dk_46 (dk_at dksL_law_30 14 rfl rfl)
theorem dL_law_870 : decode cL_law 870 = .ok (.invokevirtual 104, 3) := dk_182 0 104 (dk_at dksL_law_30 15 rfl rfl)
theorem dL_law_873 : decode cL_law 873 = .ok (.aload_n 2, 1) := dk_44 (dk_at dksL_law_30 18 rfl rfl)
theorem dL_law_874 : decode cL_law 874 = .ok (.aload_n 0, 1) := dk_42 (dk_at dksL_law_30 19 rfl rfl)
theorem dL_law_875 : decode cL_law 875 = .ok (.iload 4, 2) := dk_21 4 (dk_at dksL_law_30 20 rfl rfl)
theorem dL_law_877 : decode cL_law 877 = .ok (.iconst 1, 1) := dk_4 (dk_at dksL_law_30 22 rfl rfl)
theorem dL_law_878 : decode cL_law 878 = .ok (.iadd, 1) := dk_96 (dk_at dksL_law_30 23 rfl rfl)
theorem dL_law_879 : decode cL_law 879 = .ok (.iaload, 1) := dk_46 (dk_at dksL_law_31 0 rfl rfl)
theorem dL_law_880 : decode cL_law 880 = .ok (.invokevirtual 107, 3) := dk_182 0 107 (dk_at dksL_law_31 1 rfl rfl)
theorem dL_law_883 : decode cL_law 883 = .ok (.if_icmp .eq 563, 3) := dk_159 2 51 (dk_at dksL_law_31 4 rfl rfl)
theorem dL_law_886 : decode cL_law 886 = .ok (.iconst 0, 1) := dk_3 (dk_at dksL_law_31 7 rfl rfl)
theorem dL_law_887 : decode cL_law 887 = .ok (.ireturn, 1) := dk_172 (dk_at dksL_law_31 8 rfl rfl)
theorem dL_law_888 : decode cL_law 888 = .ok (.aload_n 1, 1) := dk_43 (dk_at dksL_law_31 9 rfl rfl)
theorem dL_law_889 : decode cL_law 889 = .ok (.aload_n 0, 1) := dk_42 (dk_at dksL_law_31 10 rfl rfl)
theorem dL_law_890 : decode cL_law 890 = .ok (.iload 4, 2) := dk_21 4 (dk_at dksL_law_31 11 rfl rfl)
theorem dL_law_892 : decode cL_law 892 = .ok (.iconst 1, 1) := dk_4 (dk_at dksL_law_31 13 rfl rfl)
theorem dL_law_893 : decode cL_law 893 = .ok (.iadd, 1) := dk_96 (dk_at dksL_law_31 14 rfl rfl)
theorem dL_law_894 : decode cL_law 894 = .ok (.iaload, 1) := dk_46 (dk_at dksL_law_31 15 rfl rfl)
theorem dL_law_895 : decode cL_law 895 = .ok (.invokevirtual 108, 3) := dk_182 0 108 (dk_at dksL_law_31 16 rfl rfl)
theorem dL_law_898 : decode cL_law 898 = .ok (.aload_n 2, 1) := dk_44 (dk_at dksL_law_31 19 rfl rfl)
theorem dL_law_899 : decode cL_law 899 = .ok (.aload_n 0, 1) := dk_42 (dk_at dksL_law_31 20 rfl rfl)
theorem dL_law_900 : decode cL_law 900 = .ok (.iload 4, 2) := dk_21 4 (dk_at dksL_law_31 21 rfl rfl)
theorem dL_law_902 : decode cL_law 902 = .ok (.iconst 1, 1) := dk_4 (dk_at dksL_law_31 23 rfl rfl)
theorem dL_law_903 : decode cL_law 903 = .ok (.iadd, 1) := dk_96 (dk_at dksL_law_32 0 rfl rfl)
theorem dL_law_904 : decode cL_law 904 = .ok (.iaload, 1) := dk_46 (dk_at dksL_law_32 1 rfl rfl)
theorem dL_law_905 : decode cL_law 905 = .ok (.invokevirtual 111, 3) := dk_182 0 111 (dk_at dksL_law_32 2 rfl rfl)
theorem dL_law_908 : decode cL_law 908 = .ok (.if_icmp .eq 538, 3) := dk_159 2 26 (dk_at dksL_law_32 5 rfl rfl)
theorem dL_law_911 : decode cL_law 911 = .ok (.iconst 0, 1) := dk_3 (dk_at dksL_law_32 8 rfl rfl)
theorem dL_law_912 : decode cL_law 912 = .ok (.ireturn, 1) := dk_172 (dk_at dksL_law_32 9 rfl rfl)
theorem dL_law_913 : decode cL_law 913 = .ok (.aload_n 1, 1) := dk_43 (dk_at dksL_law_32 10 rfl rfl)
theorem dL_law_914 : decode cL_law 914 = .ok (.aload_n 0, 1) := dk_42 (dk_at dksL_law_32 11 rfl rfl)
theorem dL_law_915 : decode cL_law 915 = .ok (.iload 4, 2) := dk_21 4 (dk_at dksL_law_32 12 rfl rfl)
theorem dL_law_917 : decode cL_law 917 = .ok (.iconst 1, 1) := dk_4 (dk_at dksL_law_32 14 rfl rfl)
theorem dL_law_918 : decode cL_law 918 = .ok (.iadd, 1) := dk_96 (dk_at dksL_law_32 15 rfl rfl)
theorem dL_law_919 : decode cL_law 919 = .ok (.iaload, 1) := dk_46 (dk_at dksL_law_32 16 rfl rfl)
theorem dL_law_920 : decode cL_law 920 = .ok (.invokevirtual 112, 3) := dk_182 0 112 (dk_at dksL_law_32 17 rfl rfl)
theorem dL_law_923 : decode cL_law 923 = .ok (.aload_n 2, 1) := dk_44 (dk_at dksL_law_32 20 rfl rfl)
theorem dL_law_924 : decode cL_law 924 = .ok (.aload_n 0, 1) := dk_42 (dk_at dksL_law_32 21 rfl rfl)
theorem dL_law_925 : decode cL_law 925 = .ok (.iload 4, 2) := dk_21 4 (dk_at dksL_law_32 22 rfl rfl)
theorem dL_law_927 : decode cL_law 927 = .ok (.iconst 1, 1) := dk_4 (dk_at dksL_law_33 0 rfl rfl)
theorem dL_law_928 : decode cL_law 928 = .ok (.iadd, 1) := dk_96 (dk_at dksL_law_33 1 rfl rfl)
theorem dL_law_929 : decode cL_law 929 = .ok (.iaload, 1) := dk_46 (dk_at dksL_law_33 2 rfl rfl)
theorem dL_law_930 : decode cL_law 930 = .ok (.invokevirtual 115, 3) := dk_182 0 115 (dk_at dksL_law_33 3 rfl rfl)
theorem dL_law_933 : decode cL_law 933 = .ok (.if_icmp .eq 513, 3) := dk_159 2 1 (dk_at dksL_law_33 6 rfl rfl)
theorem dL_law_936 : decode cL_law 936 = .ok (.iconst 0, 1) := dk_3 (dk_at dksL_law_33 9 rfl rfl)
theorem dL_law_937 : decode cL_law 937 = .ok (.ireturn, 1) := dk_172 (dk_at dksL_law_33 10 rfl rfl)
theorem dL_law_938 : decode cL_law 938 = .ok (.aload_n 1, 1) := dk_43 (dk_at dksL_law_33 11 rfl rfl)
theorem dL_law_939 : decode cL_law 939 = .ok (.invokevirtual 116, 3) := dk_182 0 116 (dk_at dksL_law_33 12 rfl rfl)
theorem dL_law_942 : decode cL_law 942 = .ok (.aload_n 2, 1) := dk_44 (dk_at dksL_law_33 15 rfl rfl)
theorem dL_law_943 : decode cL_law 943 = .ok (.invokevirtual 119, 3) := dk_182 0 119 (dk_at dksL_law_33 16 rfl rfl)
theorem dL_law_946 : decode cL_law 946 = .ok (.if_icmp .eq 500, 3) := dk_159 1 244 (dk_at dksL_law_33 19 rfl rfl)
theorem dL_law_949 : decode cL_law 949 = .ok (.iconst 0, 1) := dk_3 (dk_at dksL_law_33 22 rfl rfl)
theorem dL_law_950 : decode cL_law 950 = .ok (.ireturn, 1) := dk_172 (dk_at dksL_law_33 23 rfl rfl)
theorem dL_law_951 : decode cL_law 951 = .ok (.aload_n 1, 1) := dk_43 (dk_at dksL_law_34 0 rfl rfl)
theorem dL_law_952 : decode cL_law 952 = .ok (.invokevirtual 120, 3) := dk_182 0 120 (dk_at dksL_law_34 1 rfl rfl)
theorem dL_law_955 : decode cL_law 955 = .ok (.aload_n 2, 1) := dk_44 (dk_at dksL_law_34 4 rfl rfl)
theorem dL_law_956 : decode cL_law 956 = .ok (.invokevirtual 123, 3) := dk_182 0 123 (dk_at dksL_law_34 5 rfl rfl)
theorem dL_law_959 : decode cL_law 959 = .ok (.if_icmp .eq 487, 3) := dk_159 1 231 (dk_at dksL_law_34 8 rfl rfl)
theorem dL_law_962 : decode cL_law 962 = .ok (.iconst 0, 1) := dk_3 (dk_at dksL_law_34 11 rfl rfl)
theorem dL_law_963 : decode cL_law 963 = .ok (.ireturn, 1) := dk_172 (dk_at dksL_law_34 12 rfl rfl)
theorem dL_law_964 : decode cL_law 964 = .ok (.aload_n 1, 1) := dk_43 (dk_at dksL_law_34 13 rfl rfl)
theorem dL_law_965 : decode cL_law 965 = .ok (.invokevirtual 124, 3) := dk_182 0 124 (dk_at dksL_law_34 14 rfl rfl)
theorem dL_law_968 : decode cL_law 968 = .ok (.aload_n 2, 1) := dk_44 (dk_at dksL_law_34 17 rfl rfl)
theorem dL_law_969 : decode cL_law 969 = .ok (.invokevirtual 127, 3) := dk_182 0 127 (dk_at dksL_law_34 18 rfl rfl)
theorem dL_law_972 : decode cL_law 972 = .ok (.if_icmp .eq 474, 3) := dk_159 1 218 (dk_at dksL_law_34 21 rfl rfl)
theorem dL_law_975 : decode cL_law 975 = .ok (.iconst 0, 1) := dk_3 (dk_at dksL_law_35 0 rfl rfl)
theorem dL_law_976 : decode cL_law 976 = .ok (.ireturn, 1) := dk_172 (dk_at dksL_law_35 1 rfl rfl)
theorem dL_law_977 : decode cL_law 977 = .ok (.aload_n 1, 1) := dk_43 (dk_at dksL_law_35 2 rfl rfl)
theorem dL_law_978 : decode cL_law 978 = .ok (.aload_n 0, 1) := dk_42 (dk_at dksL_law_35 3 rfl rfl)
theorem dL_law_979 : decode cL_law 979 = .ok (.iload 4, 2) := dk_21 4 (dk_at dksL_law_35 4 rfl rfl)
theorem dL_law_981 : decode cL_law 981 = .ok (.iconst 1, 1) := dk_4 (dk_at dksL_law_35 6 rfl rfl)
theorem dL_law_982 : decode cL_law 982 = .ok (.iadd, 1) := dk_96 (dk_at dksL_law_35 7 rfl rfl)
theorem dL_law_983 : decode cL_law 983 = .ok (.iaload, 1) := dk_46 (dk_at dksL_law_35 8 rfl rfl)
theorem dL_law_984 : decode cL_law 984 = .ok (.invokevirtual 128, 3) := dk_182 0 128 (dk_at dksL_law_35 9 rfl rfl)
theorem dL_law_987 : decode cL_law 987 = .ok (.aload_n 2, 1) := dk_44 (dk_at dksL_law_35 12 rfl rfl)
theorem dL_law_988 : decode cL_law 988 = .ok (.aload_n 0, 1) := dk_42 (dk_at dksL_law_35 13 rfl rfl)
theorem dL_law_989 : decode cL_law 989 = .ok (.iload 4, 2) := dk_21 4 (dk_at dksL_law_35 14 rfl rfl)
theorem dL_law_991 : decode cL_law 991 = .ok (.iconst 1, 1) := dk_4 (dk_at dksL_law_35 16 rfl rfl)
theorem dL_law_992 : decode cL_law 992 = .ok (.iadd, 1) := dk_96 (dk_at dksL_law_35 17 rfl rfl)
theorem dL_law_993 : decode cL_law 993 = .ok (.iaload, 1) := dk_46 (dk_at dksL_law_35 18 rfl rfl)
theorem dL_law_994 : decode cL_law 994 = .ok (.invokevirtual 131, 3) := dk_182 0 131 (dk_at dksL_law_35 19 rfl rfl)
theorem dL_law_997 : decode cL_law 997 = .ok (.if_icmp .eq 449, 3) := dk_159 1 193 (dk_at dksL_law_36 0 rfl rfl)
theorem dL_law_1000 : decode cL_law 1000 = .ok (.iconst 0, 1) := dk_3 (dk_at dksL_law_36 3 rfl rfl)
theorem dL_law_1001 : decode cL_law 1001 = .ok (.ireturn, 1) := dk_172 (dk_at dksL_law_36 4 rfl rfl)
theorem dL_law_1002 : decode cL_law 1002 = .ok (.aload_n 1, 1) := dk_43 (dk_at dksL_law_36 5 rfl rfl)
theorem dL_law_1003 : decode cL_law 1003 = .ok (.invokevirtual 132, 3) := dk_182 0 132 (dk_at dksL_law_36 6 rfl rfl)
theorem dL_law_1006 : decode cL_law 1006 = .ok (.aload_n 2, 1) := dk_44 (dk_at dksL_law_36 9 rfl rfl)
theorem dL_law_1007 : decode cL_law 1007 = .ok (.invokevirtual 135, 3) := dk_182 0 135 (dk_at dksL_law_36 10 rfl rfl)
theorem dL_law_1010 : decode cL_law 1010 = .ok (.if_icmp .eq 436, 3) := dk_159 1 180 (dk_at dksL_law_36 13 rfl rfl)
theorem dL_law_1013 : decode cL_law 1013 = .ok (.iconst 0, 1) := dk_3 (dk_at dksL_law_36 16 rfl rfl)
theorem dL_law_1014 : decode cL_law 1014 = .ok (.ireturn, 1) := dk_172 (dk_at dksL_law_36 17 rfl rfl)
theorem dL_law_1015 : decode cL_law 1015 = .ok (.aload_n 1, 1) := dk_43 (dk_at dksL_law_36 18 rfl rfl)
theorem dL_law_1016 : decode cL_law 1016 = .ok (.aload_n 0, 1) := dk_42 (dk_at dksL_law_36 19 rfl rfl)
theorem dL_law_1017 : decode cL_law 1017 = .ok (.iload 4, 2) := dk_21 4 (dk_at dksL_law_36 20 rfl rfl)
theorem dL_law_1019 : decode cL_law 1019 = .ok (.iconst 1, 1) := dk_4 (dk_at dksL_law_36 22 rfl rfl)
theorem dL_law_1020 : decode cL_law 1020 = .ok (.iadd, 1) := dk_96 (dk_at dksL_law_36 23 rfl rfl)
theorem dL_law_1021 : decode cL_law 1021 = .ok (.iaload, 1) := dk_46 (dk_at dksL_law_37 0 rfl rfl)
theorem dL_law_1022 : decode cL_law 1022 = .ok (.aload_n 0, 1) := dk_42 (dk_at dksL_law_37 1 rfl rfl)
theorem dL_law_1023 : decode cL_law 1023 = .ok (.iload 4, 2) := dk_21 4 (dk_at dksL_law_37 2 rfl rfl)
theorem dL_law_1025 : decode cL_law 1025 = .ok (.iconst 2, 1) := dk_5 (dk_at dksL_law_37 4 rfl rfl)
theorem dL_law_1026 : decode cL_law 1026 = .ok (.iadd, 1) := dk_96 (dk_at dksL_law_37 5 rfl rfl)
theorem dL_law_1027 : decode cL_law 1027 = .ok (.iaload, 1) := dk_46 (dk_at dksL_law_37 6 rfl rfl)
theorem dL_law_1028 : decode cL_law 1028 = .ok (.aload_n 3, 1) := dk_45 (dk_at dksL_law_37 7 rfl rfl)
theorem dL_law_1029 : decode cL_law 1029 = .ok (.invokestatic 136, 3) := dk_184 0 136 (dk_at dksL_law_37 8 rfl rfl)
theorem dL_law_1032 : decode cL_law 1032 = .ok (.istore 5, 2) := dk_54 5 (dk_at dksL_law_37 11 rfl rfl)
theorem dL_law_1034 : decode cL_law 1034 = .ok (.aload_n 2, 1) := dk_44 (dk_at dksL_law_37 13 rfl rfl)
theorem dL_law_1035 : decode cL_law 1035 = .ok (.aload_n 0, 1) := dk_42 (dk_at dksL_law_37 14 rfl rfl)
theorem dL_law_1036 : decode cL_law 1036 = .ok (.iload 4, 2) := dk_21 4 (dk_at dksL_law_37 15 rfl rfl)
theorem dL_law_1038 : decode cL_law 1038 = .ok (.iconst 1, 1) := dk_4 (dk_at dksL_law_37 17 rfl rfl)
theorem dL_law_1039 : decode cL_law 1039 = .ok (.iadd, 1) := dk_96 (dk_at dksL_law_37 18 rfl rfl)
theorem dL_law_1040 : decode cL_law 1040 = .ok (.iaload, 1) := dk_46 (dk_at dksL_law_37 19 rfl rfl)
theorem dL_law_1041 : decode cL_law 1041 = .ok (.aload_n 0, 1) := dk_42 (dk_at dksL_law_37 20 rfl rfl)
theorem dL_law_1042 : decode cL_law 1042 = .ok (.iload 4, 2) := dk_21 4 (dk_at dksL_law_37 21 rfl rfl)
theorem dL_law_1044 : decode cL_law 1044 = .ok (.iconst 2, 1) := dk_5 (dk_at dksL_law_37 23 rfl rfl)
theorem dL_law_1045 : decode cL_law 1045 = .ok (.iadd, 1) := dk_96 (dk_at dksL_law_38 0 rfl rfl)
theorem dL_law_1046 : decode cL_law 1046 = .ok (.iaload, 1) := dk_46 (dk_at dksL_law_38 1 rfl rfl)
theorem dL_law_1047 : decode cL_law 1047 = .ok (.invokevirtual 138, 3) := dk_182 0 138 (dk_at dksL_law_38 2 rfl rfl)
theorem dL_law_1050 : decode cL_law 1050 = .ok (.istore 6, 2) := dk_54 6 (dk_at dksL_law_38 5 rfl rfl)
theorem dL_law_1052 : decode cL_law 1052 = .ok (.aload_n 2, 1) := dk_44 (dk_at dksL_law_38 7 rfl rfl)
theorem dL_law_1053 : decode cL_law 1053 = .ok (.invokevirtual 50, 3) := dk_182 0 50 (dk_at dksL_law_38 8 rfl rfl)
theorem dL_law_1056 : decode cL_law 1056 = .ok (.iload 5, 2) := dk_21 5 (dk_at dksL_law_38 11 rfl rfl)
theorem dL_law_1058 : decode cL_law 1058 = .ok (.if_icmp .eq 5, 3) := dk_159 0 5 (dk_at dksL_law_38 13 rfl rfl)
theorem dL_law_1061 : decode cL_law 1061 = .ok (.iconst 0, 1) := dk_3 (dk_at dksL_law_38 16 rfl rfl)
theorem dL_law_1062 : decode cL_law 1062 = .ok (.ireturn, 1) := dk_172 (dk_at dksL_law_38 17 rfl rfl)
theorem dL_law_1063 : decode cL_law 1063 = .ok (.iload 5, 2) := dk_21 5 (dk_at dksL_law_38 18 rfl rfl)
theorem dL_law_1065 : decode cL_law 1065 = .ok (.ifCond .ne 15, 3) := dk_154 0 15 (dk_at dksL_law_38 20 rfl rfl)
theorem dL_law_1068 : decode cL_law 1068 = .ok (.aload_n 3, 1) := dk_45 (dk_at dksL_law_38 23 rfl rfl)
theorem dL_law_1069 : decode cL_law 1069 = .ok (.iconst 0, 1) := dk_3 (dk_at dksL_law_39 0 rfl rfl)
theorem dL_law_1070 : decode cL_law 1070 = .ok (.laload, 1) := dk_47 (dk_at dksL_law_39 1 rfl rfl)
theorem dL_law_1071 : decode cL_law 1071 = .ok (.iload 6, 2) := dk_21 6 (dk_at dksL_law_39 2 rfl rfl)
theorem dL_law_1073 : decode cL_law 1073 = .ok (.i2l, 1) := dk_133 (dk_at dksL_law_39 4 rfl rfl)
theorem dL_law_1074 : decode cL_law 1074 = .ok (.lcmp, 1) := dk_148 (dk_at dksL_law_39 5 rfl rfl)
theorem dL_law_1075 : decode cL_law 1075 = .ok (.ifCond .eq 5, 3) := dk_153 0 5 (dk_at dksL_law_39 6 rfl rfl)
theorem dL_law_1078 : decode cL_law 1078 = .ok (.iconst 0, 1) := dk_3 (dk_at dksL_law_39 9 rfl rfl)
theorem dL_law_1079 : decode cL_law 1079 = .ok (.ireturn, 1) := dk_172 (dk_at dksL_law_39 10 rfl rfl)
theorem dL_law_1080 : decode cL_law 1080 = .ok (.goto 366, 3) := dk_167 1 110 (dk_at dksL_law_39 11 rfl rfl)
theorem dL_law_1083 : decode cL_law 1083 = .ok (.aload_n 1, 1) := dk_43 (dk_at dksL_law_39 14 rfl rfl)
theorem dL_law_1084 : decode cL_law 1084 = .ok (.invokevirtual 139, 3) := dk_182 0 139 (dk_at dksL_law_39 15 rfl rfl)
theorem dL_law_1087 : decode cL_law 1087 = .ok (.aload_n 2, 1) := dk_44 (dk_at dksL_law_39 18 rfl rfl)
theorem dL_law_1088 : decode cL_law 1088 = .ok (.invokevirtual 142, 3) := dk_182 0 142 (dk_at dksL_law_39 19 rfl rfl)
theorem dL_law_1091 : decode cL_law 1091 = .ok (.if_icmp .eq 355, 3) := dk_159 1 99 (dk_at dksL_law_40 0 rfl rfl)
theorem dL_law_1094 : decode cL_law 1094 = .ok (.iconst 0, 1) := dk_3 (dk_at dksL_law_40 3 rfl rfl)
theorem dL_law_1095 : decode cL_law 1095 = .ok (.ireturn, 1) := dk_172 (dk_at dksL_law_40 4 rfl rfl)
theorem dL_law_1096 : decode cL_law 1096 = .ok (.aload_n 1, 1) := dk_43 (dk_at dksL_law_40 5 rfl rfl)
theorem dL_law_1097 : decode cL_law 1097 = .ok (.aload_n 0, 1) := dk_42 (dk_at dksL_law_40 6 rfl rfl)
theorem dL_law_1098 : decode cL_law 1098 = .ok (.iload 4, 2) := dk_21 4 (dk_at dksL_law_40 7 rfl rfl)
theorem dL_law_1100 : decode cL_law 1100 = .ok (.iconst 1, 1) := dk_4 (dk_at dksL_law_40 9 rfl rfl)
theorem dL_law_1101 : decode cL_law 1101 = .ok (.iadd, 1) := dk_96 (dk_at dksL_law_40 10 rfl rfl)
theorem dL_law_1102 : decode cL_law 1102 = .ok (.iaload, 1) := dk_46 (dk_at dksL_law_40 11 rfl rfl)
theorem dL_law_1103 : decode cL_law 1103 = .ok (.invokevirtual 143, 3) := dk_182 0 143 (dk_at dksL_law_40 12 rfl rfl)
theorem dL_law_1106 : decode cL_law 1106 = .ok (.aload_n 2, 1) := dk_44 (dk_at dksL_law_40 15 rfl rfl)
theorem dL_law_1107 : decode cL_law 1107 = .ok (.aload_n 0, 1) := dk_42 (dk_at dksL_law_40 16 rfl rfl)
theorem dL_law_1108 : decode cL_law 1108 = .ok (.iload 4, 2) := dk_21 4 (dk_at dksL_law_40 17 rfl rfl)
theorem dL_law_1110 : decode cL_law 1110 = .ok (.iconst 1, 1) := dk_4 (dk_at dksL_law_40 19 rfl rfl)
theorem dL_law_1111 : decode cL_law 1111 = .ok (.iadd, 1) := dk_96 (dk_at dksL_law_40 20 rfl rfl)
theorem dL_law_1112 : decode cL_law 1112 = .ok (.iaload, 1) := dk_46 (dk_at dksL_law_40 21 rfl rfl)
theorem dL_law_1113 : decode cL_law 1113 = .ok (.invokevirtual 146, 3) := dk_182 0 146 (dk_at dksL_law_41 0 rfl rfl)
theorem dL_law_1116 : decode cL_law 1116 = .ok (.if_icmp .eq 330, 3) := dk_159 1 74 (dk_at dksL_law_41 3 rfl rfl)
theorem dL_law_1119 : decode cL_law 1119 = .ok (.iconst 0, 1) := dk_3 (dk_at dksL_law_41 6 rfl rfl)
theorem dL_law_1120 : decode cL_law 1120 = .ok (.ireturn, 1) := dk_172 (dk_at dksL_law_41 7 rfl rfl)
theorem dL_law_1121 : decode cL_law 1121 = .ok (.aload_n 1, 1) := dk_43 (dk_at dksL_law_41 8 rfl rfl)
theorem dL_law_1122 : decode cL_law 1122 = .ok (.aload_n 0, 1) := dk_42 (dk_at dksL_law_41 9 rfl rfl)
theorem dL_law_1123 : decode cL_law 1123 = .ok (.iload 4, 2) := dk_21 4 (dk_at dksL_law_41 10 rfl rfl)
theorem dL_law_1125 : decode cL_law 1125 = .ok (.iconst 1, 1) := dk_4 (dk_at dksL_law_41 12 rfl rfl)
theorem dL_law_1126 : decode cL_law 1126 = .ok (.iadd, 1) := dk_96 (dk_at dksL_law_41 13 rfl rfl)
theorem dL_law_1127 : decode cL_law 1127 = .ok (.iaload, 1) := dk_46 (dk_at dksL_law_41 14 rfl rfl)
theorem dL_law_1128 : decode cL_law 1128 = .ok (.invokevirtual 147, 3) := dk_182 0 147 (dk_at dksL_law_41 15 rfl rfl)
theorem dL_law_1131 : decode cL_law 1131 = .ok (.aload_n 2, 1) := dk_44 (dk_at dksL_law_41 18 rfl rfl)
theorem dL_law_1132 : decode cL_law 1132 = .ok (.aload_n 0, 1) := dk_42 (dk_at dksL_law_41 19 rfl rfl)
theorem dL_law_1133 : decode cL_law 1133 = .ok (.iload 4, 2) := dk_21 4 (dk_at dksL_law_41 20 rfl rfl)
theorem dL_law_1135 : decode cL_law 1135 = .ok (.iconst 1, 1) := dk_4 (dk_at dksL_law_41 22 rfl rfl)
theorem dL_law_1136 : decode cL_law 1136 = .ok (.iadd, 1) := dk_96 (dk_at dksL_law_41 23 rfl rfl)
theorem dL_law_1137 : decode cL_law 1137 = .ok (.iaload, 1) := dk_46 (dk_at dksL_law_42 0 rfl rfl)
theorem dL_law_1138 : decode cL_law 1138 = .ok (.invokevirtual 150, 3) := dk_182 0 150 (dk_at dksL_law_42 1 rfl rfl)
theorem dL_law_1141 : decode cL_law 1141 = .ok (.if_icmp .eq 305, 3) := dk_159 1 49 (dk_at dksL_law_42 4 rfl rfl)
theorem dL_law_1144 : decode cL_law 1144 = .ok (.iconst 0, 1) := dk_3 (dk_at dksL_law_42 7 rfl rfl)
theorem dL_law_1145 : decode cL_law 1145 = .ok (.ireturn, 1) := dk_172 (dk_at dksL_law_42 8 rfl rfl)
theorem dL_law_1146 : decode cL_law 1146 = .ok (.aload_n 1, 1) := dk_43 (dk_at dksL_law_42 9 rfl rfl)
theorem dL_law_1147 : decode cL_law 1147 = .ok (.aload_n 0, 1) := dk_42 (dk_at dksL_law_42 10 rfl rfl)
theorem dL_law_1148 : decode cL_law 1148 = .ok (.iload 4, 2) := dk_21 4 (dk_at dksL_law_42 11 rfl rfl)
theorem dL_law_1150 : decode cL_law 1150 = .ok (.iconst 1, 1) := dk_4 (dk_at dksL_law_42 13 rfl rfl)
theorem dL_law_1151 : decode cL_law 1151 = .ok (.iadd, 1) := dk_96 (dk_at dksL_law_42 14 rfl rfl)
theorem dL_law_1152 : decode cL_law 1152 = .ok (.iaload, 1) := dk_46 (dk_at dksL_law_42 15 rfl rfl)
theorem dL_law_1153 : decode cL_law 1153 = .ok (.invokevirtual 151, 3) := dk_182 0 151 (dk_at dksL_law_42 16 rfl rfl)
theorem dL_law_1156 : decode cL_law 1156 = .ok (.aload_n 2, 1) := dk_44 (dk_at dksL_law_42 19 rfl rfl)
theorem dL_law_1157 : decode cL_law 1157 = .ok (.aload_n 0, 1) := dk_42 (dk_at dksL_law_42 20 rfl rfl)
theorem dL_law_1158 : decode cL_law 1158 = .ok (.iload 4, 2) := dk_21 4 (dk_at dksL_law_42 21 rfl rfl)
theorem dL_law_1160 : decode cL_law 1160 = .ok (.iconst 1, 1) := dk_4 (dk_at dksL_law_42 23 rfl rfl)
theorem dL_law_1161 : decode cL_law 1161 = .ok (.iadd, 1) := dk_96 (dk_at dksL_law_43 0 rfl rfl)
theorem dL_law_1162 : decode cL_law 1162 = .ok (.iaload, 1) := dk_46 (dk_at dksL_law_43 1 rfl rfl)
theorem dL_law_1163 : decode cL_law 1163 = .ok (.invokevirtual 154, 3) := dk_182 0 154 (dk_at dksL_law_43 2 rfl rfl)
theorem dL_law_1166 : decode cL_law 1166 = .ok (.if_icmp .eq 280, 3) := dk_159 1 24 (dk_at dksL_law_43 5 rfl rfl)
theorem dL_law_1169 : decode cL_law 1169 = .ok (.iconst 0, 1) := dk_3 (dk_at dksL_law_43 8 rfl rfl)
theorem dL_law_1170 : decode cL_law 1170 = .ok (.ireturn, 1) := dk_172 (dk_at dksL_law_43 9 rfl rfl)
theorem dL_law_1171 : decode cL_law 1171 = .ok (.aload_n 1, 1) := dk_43 (dk_at dksL_law_43 10 rfl rfl)
theorem dL_law_1172 : decode cL_law 1172 = .ok (.aload_n 0, 1) := dk_42 (dk_at dksL_law_43 11 rfl rfl)
theorem dL_law_1173 : decode cL_law 1173 = .ok (.iload 4, 2) := dk_21 4 (dk_at dksL_law_43 12 rfl rfl)
theorem dL_law_1175 : decode cL_law 1175 = .ok (.iconst 1, 1) := dk_4 (dk_at dksL_law_43 14 rfl rfl)
theorem dL_law_1176 : decode cL_law 1176 = .ok (.iadd, 1) := dk_96 (dk_at dksL_law_43 15 rfl rfl)
theorem dL_law_1177 : decode cL_law 1177 = .ok (.iaload, 1) := dk_46 (dk_at dksL_law_43 16 rfl rfl)
theorem dL_law_1178 : decode cL_law 1178 = .ok (.aload_n 0, 1) := dk_42 (dk_at dksL_law_43 17 rfl rfl)
theorem dL_law_1179 : decode cL_law 1179 = .ok (.iload 4, 2) := dk_21 4 (dk_at dksL_law_43 18 rfl rfl)
theorem dL_law_1181 : decode cL_law 1181 = .ok (.iconst 2, 1) := dk_5 (dk_at dksL_law_43 20 rfl rfl)
theorem dL_law_1182 : decode cL_law 1182 = .ok (.iadd, 1) := dk_96 (dk_at dksL_law_43 21 rfl rfl)
theorem dL_law_1183 : decode cL_law 1183 = .ok (.iaload, 1) := dk_46 (dk_at dksL_law_43 22 rfl rfl)
theorem dL_law_1184 : decode cL_law 1184 = .ok (.invokevirtual 155, 3) := dk_182 0 155 (dk_at dksL_law_44 0 rfl rfl)
theorem dL_law_1187 : decode cL_law 1187 = .ok (.aload_n 2, 1) := dk_44 (dk_at dksL_law_44 3 rfl rfl)
theorem dL_law_1188 : decode cL_law 1188 = .ok (.aload_n 0, 1) := dk_42 (dk_at dksL_law_44 4 rfl rfl)
theorem dL_law_1189 : decode cL_law 1189 = .ok (.iload 4, 2) := dk_21 4 (dk_at dksL_law_44 5 rfl rfl)
theorem dL_law_1191 : decode cL_law 1191 = .ok (.iconst 1, 1) := dk_4 (dk_at dksL_law_44 7 rfl rfl)
theorem dL_law_1192 : decode cL_law 1192 = .ok (.iadd, 1) := dk_96 (dk_at dksL_law_44 8 rfl rfl)
theorem dL_law_1193 : decode cL_law 1193 = .ok (.iaload, 1) := dk_46 (dk_at dksL_law_44 9 rfl rfl)
theorem dL_law_1194 : decode cL_law 1194 = .ok (.aload_n 0, 1) := dk_42 (dk_at dksL_law_44 10 rfl rfl)
theorem dL_law_1195 : decode cL_law 1195 = .ok (.iload 4, 2) := dk_21 4 (dk_at dksL_law_44 11 rfl rfl)
theorem dL_law_1197 : decode cL_law 1197 = .ok (.iconst 2, 1) := dk_5 (dk_at dksL_law_44 13 rfl rfl)
theorem dL_law_1198 : decode cL_law 1198 = .ok (.iadd, 1) := dk_96 (dk_at dksL_law_44 14 rfl rfl)
theorem dL_law_1199 : decode cL_law 1199 = .ok (.iaload, 1) := dk_46 (dk_at dksL_law_44 15 rfl rfl)
theorem dL_law_1200 : decode cL_law 1200 = .ok (.invokevirtual 158, 3) := dk_182 0 158 (dk_at dksL_law_44 16 rfl rfl)
theorem dL_law_1203 : decode cL_law 1203 = .ok (.if_icmp .eq 243, 3) := dk_159 0 243 (dk_at dksL_law_44 19 rfl rfl)
theorem dL_law_1206 : decode cL_law 1206 = .ok (.iconst 0, 1) := dk_3 (dk_at dksL_law_44 22 rfl rfl)
theorem dL_law_1207 : decode cL_law 1207 = .ok (.ireturn, 1) := dk_172 (dk_at dksL_law_44 23 rfl rfl)
theorem dL_law_1208 : decode cL_law 1208 = .ok (.aload_n 1, 1) := dk_43 (dk_at dksL_law_45 0 rfl rfl)
theorem dL_law_1209 : decode cL_law 1209 = .ok (.invokevirtual 159, 3) := dk_182 0 159 (dk_at dksL_law_45 1 rfl rfl)
theorem dL_law_1212 : decode cL_law 1212 = .ok (.aload_n 2, 1) := dk_44 (dk_at dksL_law_45 4 rfl rfl)
theorem dL_law_1213 : decode cL_law 1213 = .ok (.invokevirtual 162, 3) := dk_182 0 162 (dk_at dksL_law_45 5 rfl rfl)
theorem dL_law_1216 : decode cL_law 1216 = .ok (.if_icmp .eq 230, 3) := dk_159 0 230 (dk_at dksL_law_45 8 rfl rfl)
theorem dL_law_1219 : decode cL_law 1219 = .ok (.iconst 0, 1) := dk_3 (dk_at dksL_law_45 11 rfl rfl)
theorem dL_law_1220 : decode cL_law 1220 = .ok (.ireturn, 1) := dk_172 (dk_at dksL_law_45 12 rfl rfl)
theorem dL_law_1221 : decode cL_law 1221 = .ok (.aload_n 1, 1) := dk_43 (dk_at dksL_law_45 13 rfl rfl)
theorem dL_law_1222 : decode cL_law 1222 = .ok (.aload_n 0, 1) := dk_42 (dk_at dksL_law_45 14 rfl rfl)
theorem dL_law_1223 : decode cL_law 1223 = .ok (.iload 4, 2) := dk_21 4 (dk_at dksL_law_45 15 rfl rfl)
theorem dL_law_1225 : decode cL_law 1225 = .ok (.iconst 1, 1) := dk_4 (dk_at dksL_law_45 17 rfl rfl)
theorem dL_law_1226 : decode cL_law 1226 = .ok (.iadd, 1) := dk_96 (dk_at dksL_law_45 18 rfl rfl)
theorem dL_law_1227 : decode cL_law 1227 = .ok (.iaload, 1) := dk_46 (dk_at dksL_law_45 19 rfl rfl)
theorem dL_law_1228 : decode cL_law 1228 = .ok (.aload_n 0, 1) := dk_42 (dk_at dksL_law_45 20 rfl rfl)
theorem dL_law_1229 : decode cL_law 1229 = .ok (.iload 4, 2) := dk_21 4 (dk_at dksL_law_45 21 rfl rfl)
theorem dL_law_1231 : decode cL_law 1231 = .ok (.iconst 2, 1) := dk_5 (dk_at dksL_law_45 23 rfl rfl)
theorem dL_law_1232 : decode cL_law 1232 = .ok (.iadd, 1) := dk_96 (dk_at dksL_law_46 0 rfl rfl)
theorem dL_law_1233 : decode cL_law 1233 = .ok (.iaload, 1) := dk_46 (dk_at dksL_law_46 1 rfl rfl)
theorem dL_law_1234 : decode cL_law 1234 = .ok (.invokevirtual 163, 3) := dk_182 0 163 (dk_at dksL_law_46 2 rfl rfl)
theorem dL_law_1237 : decode cL_law 1237 = .ok (.aload_n 2, 1) := dk_44 (dk_at dksL_law_46 5 rfl rfl)
theorem dL_law_1238 : decode cL_law 1238 = .ok (.aload_n 0, 1) := dk_42 (dk_at dksL_law_46 6 rfl rfl)
theorem dL_law_1239 : decode cL_law 1239 = .ok (.iload 4, 2) := dk_21 4 (dk_at dksL_law_46 7 rfl rfl)
theorem dL_law_1241 : decode cL_law 1241 = .ok (.iconst 1, 1) := dk_4 (dk_at dksL_law_46 9 rfl rfl)
theorem dL_law_1242 : decode cL_law 1242 = .ok (.iadd, 1) := dk_96 (dk_at dksL_law_46 10 rfl rfl)
theorem dL_law_1243 : decode cL_law 1243 = .ok (.iaload, 1) := dk_46 (dk_at dksL_law_46 11 rfl rfl)
theorem dL_law_1244 : decode cL_law 1244 = .ok (.aload_n 0, 1) := dk_42 (dk_at dksL_law_46 12 rfl rfl)
theorem dL_law_1245 : decode cL_law 1245 = .ok (.iload 4, 2) := dk_21 4 (dk_at dksL_law_46 13 rfl rfl)
theorem dL_law_1247 : decode cL_law 1247 = .ok (.iconst 2, 1) := dk_5 (dk_at dksL_law_46 15 rfl rfl)
theorem dL_law_1248 : decode cL_law 1248 = .ok (.iadd, 1) := dk_96 (dk_at dksL_law_46 16 rfl rfl)
theorem dL_law_1249 : decode cL_law 1249 = .ok (.iaload, 1) := dk_46 (dk_at dksL_law_46 17 rfl rfl)
theorem dL_law_1250 : decode cL_law 1250 = .ok (.invokevirtual 166, 3) := dk_182 0 166 (dk_at dksL_law_46 18 rfl rfl)
theorem dL_law_1253 : decode cL_law 1253 = .ok (.if_icmp .eq 193, 3) := dk_159 0 193 (dk_at dksL_law_46 21 rfl rfl)
theorem dL_law_1256 : decode cL_law 1256 = .ok (.iconst 0, 1) := dk_3 (dk_at dksL_law_47 0 rfl rfl)
theorem dL_law_1257 : decode cL_law 1257 = .ok (.ireturn, 1) := dk_172 (dk_at dksL_law_47 1 rfl rfl)
theorem dL_law_1258 : decode cL_law 1258 = .ok (.aload_n 1, 1) := dk_43 (dk_at dksL_law_47 2 rfl rfl)
theorem dL_law_1259 : decode cL_law 1259 = .ok (.aload_n 0, 1) := dk_42 (dk_at dksL_law_47 3 rfl rfl)
theorem dL_law_1260 : decode cL_law 1260 = .ok (.iload 4, 2) := dk_21 4 (dk_at dksL_law_47 4 rfl rfl)
theorem dL_law_1262 : decode cL_law 1262 = .ok (.iconst 1, 1) := dk_4 (dk_at dksL_law_47 6 rfl rfl)
theorem dL_law_1263 : decode cL_law 1263 = .ok (.iadd, 1) := dk_96 (dk_at dksL_law_47 7 rfl rfl)
theorem dL_law_1264 : decode cL_law 1264 = .ok (.iaload, 1) := dk_46 (dk_at dksL_law_47 8 rfl rfl)
theorem dL_law_1265 : decode cL_law 1265 = .ok (.invokevirtual 167, 3) := dk_182 0 167 (dk_at dksL_law_47 9 rfl rfl)
theorem dL_law_1268 : decode cL_law 1268 = .ok (.aload_n 2, 1) := dk_44 (dk_at dksL_law_47 12 rfl rfl)
theorem dL_law_1269 : decode cL_law 1269 = .ok (.aload_n 0, 1) := dk_42 (dk_at dksL_law_47 13 rfl rfl)
theorem dL_law_1270 : decode cL_law 1270 = .ok (.iload 4, 2) := dk_21 4 (dk_at dksL_law_47 14 rfl rfl)
theorem dL_law_1272 : decode cL_law 1272 = .ok (.iconst 1, 1) := dk_4 (dk_at dksL_law_47 16 rfl rfl)
theorem dL_law_1273 : decode cL_law 1273 = .ok (.iadd, 1) := dk_96 (dk_at dksL_law_47 17 rfl rfl)
theorem dL_law_1274 : decode cL_law 1274 = .ok (.iaload, 1) := dk_46 (dk_at dksL_law_47 18 rfl rfl)
theorem dL_law_1275 : decode cL_law 1275 = .ok (.invokevirtual 170, 3) := dk_182 0 170 (dk_at dksL_law_47 19 rfl rfl)
theorem dL_law_1278 : decode cL_law 1278 = .ok (.if_icmp .eq 168, 3) := dk_159 0 168 (dk_at dksL_law_48 0 rfl rfl)
theorem dL_law_1281 : decode cL_law 1281 = .ok (.iconst 0, 1) := dk_3 (dk_at dksL_law_48 3 rfl rfl)
theorem dL_law_1282 : decode cL_law 1282 = .ok (.ireturn, 1) := dk_172 (dk_at dksL_law_48 4 rfl rfl)
theorem dL_law_1283 : decode cL_law 1283 = .ok (.aload_n 1, 1) := dk_43 (dk_at dksL_law_48 5 rfl rfl)
theorem dL_law_1284 : decode cL_law 1284 = .ok (.aload_n 0, 1) := dk_42 (dk_at dksL_law_48 6 rfl rfl)
theorem dL_law_1285 : decode cL_law 1285 = .ok (.iload 4, 2) := dk_21 4 (dk_at dksL_law_48 7 rfl rfl)
theorem dL_law_1287 : decode cL_law 1287 = .ok (.iconst 1, 1) := dk_4 (dk_at dksL_law_48 9 rfl rfl)
theorem dL_law_1288 : decode cL_law 1288 = .ok (.iadd, 1) := dk_96 (dk_at dksL_law_48 10 rfl rfl)
theorem dL_law_1289 : decode cL_law 1289 = .ok (.iaload, 1) := dk_46 (dk_at dksL_law_48 11 rfl rfl)
theorem dL_law_1290 : decode cL_law 1290 = .ok (.invokevirtual 171, 3) := dk_182 0 171 (dk_at dksL_law_48 12 rfl rfl)
theorem dL_law_1293 : decode cL_law 1293 = .ok (.aload_n 2, 1) := dk_44 (dk_at dksL_law_48 15 rfl rfl)
theorem dL_law_1294 : decode cL_law 1294 = .ok (.aload_n 0, 1) := dk_42 (dk_at dksL_law_48 16 rfl rfl)
theorem dL_law_1295 : decode cL_law 1295 = .ok (.iload 4, 2) := dk_21 4 (dk_at dksL_law_48 17 rfl rfl)
theorem dL_law_1297 : decode cL_law 1297 = .ok (.iconst 1, 1) := dk_4 (dk_at dksL_law_48 19 rfl rfl)
theorem dL_law_1298 : decode cL_law 1298 = .ok (.iadd, 1) := dk_96 (dk_at dksL_law_48 20 rfl rfl)
theorem dL_law_1299 : decode cL_law 1299 = .ok (.iaload, 1) := dk_46 (dk_at dksL_law_48 21 rfl rfl)
theorem dL_law_1300 : decode cL_law 1300 = .ok (.invokevirtual 174, 3) := dk_182 0 174 (dk_at dksL_law_49 0 rfl rfl)
theorem dL_law_1303 : decode cL_law 1303 = .ok (.if_icmp .eq 143, 3) := dk_159 0 143 (dk_at dksL_law_49 3 rfl rfl)
theorem dL_law_1306 : decode cL_law 1306 = .ok (.iconst 0, 1) := dk_3 (dk_at dksL_law_49 6 rfl rfl)
theorem dL_law_1307 : decode cL_law 1307 = .ok (.ireturn, 1) := dk_172 (dk_at dksL_law_49 7 rfl rfl)
theorem dL_law_1308 : decode cL_law 1308 = .ok (.aload_n 1, 1) := dk_43 (dk_at dksL_law_49 8 rfl rfl)
theorem dL_law_1309 : decode cL_law 1309 = .ok (.aload_n 0, 1) := dk_42 (dk_at dksL_law_49 9 rfl rfl)
theorem dL_law_1310 : decode cL_law 1310 = .ok (.iload 4, 2) := dk_21 4 (dk_at dksL_law_49 10 rfl rfl)
theorem dL_law_1312 : decode cL_law 1312 = .ok (.iconst 1, 1) := dk_4 (dk_at dksL_law_49 12 rfl rfl)
theorem dL_law_1313 : decode cL_law 1313 = .ok (.iadd, 1) := dk_96 (dk_at dksL_law_49 13 rfl rfl)
theorem dL_law_1314 : decode cL_law 1314 = .ok (.iaload, 1) := dk_46 (dk_at dksL_law_49 14 rfl rfl)
theorem dL_law_1315 : decode cL_law 1315 = .ok (.aload_n 0, 1) := dk_42 (dk_at dksL_law_49 15 rfl rfl)
theorem dL_law_1316 : decode cL_law 1316 = .ok (.iload 4, 2) := dk_21 4 (dk_at dksL_law_49 16 rfl rfl)
theorem dL_law_1318 : decode cL_law 1318 = .ok (.iconst 2, 1) := dk_5 (dk_at dksL_law_49 18 rfl rfl)
theorem dL_law_1319 : decode cL_law 1319 = .ok (.iadd, 1) := dk_96 (dk_at dksL_law_49 19 rfl rfl)
theorem dL_law_1320 : decode cL_law 1320 = .ok (.iaload, 1) := dk_46 (dk_at dksL_law_49 20 rfl rfl)
theorem dL_law_1321 : decode cL_law 1321 = .ok (.invokevirtual 175, 3) := dk_182 0 175 (dk_at dksL_law_49 21 rfl rfl)
theorem dL_law_1324 : decode cL_law 1324 = .ok (.aload_n 2, 1) := dk_44 (dk_at dksL_law_50 0 rfl rfl)
theorem dL_law_1325 : decode cL_law 1325 = .ok (.aload_n 0, 1) := dk_42 (dk_at dksL_law_50 1 rfl rfl)
theorem dL_law_1326 : decode cL_law 1326 = .ok (.iload 4, 2) := dk_21 4 (dk_at dksL_law_50 2 rfl rfl)
theorem dL_law_1328 : decode cL_law 1328 = .ok (.iconst 1, 1) := dk_4 (dk_at dksL_law_50 4 rfl rfl)
theorem dL_law_1329 : decode cL_law 1329 = .ok (.iadd, 1) := dk_96 (dk_at dksL_law_50 5 rfl rfl)
theorem dL_law_1330 : decode cL_law 1330 = .ok (.iaload, 1) := dk_46 (dk_at dksL_law_50 6 rfl rfl)
theorem dL_law_1331 : decode cL_law 1331 = .ok (.aload_n 0, 1) := dk_42 (dk_at dksL_law_50 7 rfl rfl)
theorem dL_law_1332 : decode cL_law 1332 = .ok (.iload 4, 2) := dk_21 4 (dk_at dksL_law_50 8 rfl rfl)
theorem dL_law_1334 : decode cL_law 1334 = .ok (.iconst 2, 1) := dk_5 (dk_at dksL_law_50 10 rfl rfl)
theorem dL_law_1335 : decode cL_law 1335 = .ok (.iadd, 1) := dk_96 (dk_at dksL_law_50 11 rfl rfl)
theorem dL_law_1336 : decode cL_law 1336 = .ok (.iaload, 1) := dk_46 (dk_at dksL_law_50 12 rfl rfl)
theorem dL_law_1337 : decode cL_law 1337 = .ok (.invokevirtual 178, 3) := dk_182 0 178 (dk_at dksL_law_50 13 rfl rfl)
theorem dL_law_1340 : decode cL_law 1340 = .ok (.if_icmp .eq 106, 3) := dk_159 0 106 (dk_at dksL_law_50 16 rfl rfl)
theorem dL_law_1343 : decode cL_law 1343 = .ok (.iconst 0, 1) := dk_3 (dk_at dksL_law_50 19 rfl rfl)
theorem dL_law_1344 : decode cL_law 1344 = .ok (.ireturn, 1) := dk_172 (dk_at dksL_law_50 20 rfl rfl)
theorem dL_law_1345 : decode cL_law 1345 = .ok (.aload_n 1, 1) := dk_43 (dk_at dksL_law_50 21 rfl rfl)
theorem dL_law_1346 : decode cL_law 1346 = .ok (.invokevirtual 179, 3) := dk_182 0 179 (dk_at dksL_law_51 0 rfl rfl)
theorem dL_law_1349 : decode cL_law 1349 = .ok (.aload_n 2, 1) := dk_44 (dk_at dksL_law_51 3 rfl rfl)
theorem dL_law_1350 : decode cL_law 1350 = .ok (.invokevirtual 182, 3) := dk_182 0 182 (dk_at dksL_law_51 4 rfl rfl)
theorem dL_law_1353 : decode cL_law 1353 = .ok (.if_icmp .eq 93, 3) := dk_159 0 93 (dk_at dksL_law_51 7 rfl rfl)
theorem dL_law_1356 : decode cL_law 1356 = .ok (.iconst 0, 1) := dk_3 (dk_at dksL_law_51 10 rfl rfl)
theorem dL_law_1357 : decode cL_law 1357 = .ok (.ireturn, 1) := dk_172 (dk_at dksL_law_51 11 rfl rfl)
theorem dL_law_1358 : decode cL_law 1358 = .ok (.aload_n 1, 1) := dk_43 (dk_at dksL_law_51 12 rfl rfl)
theorem dL_law_1359 : decode cL_law 1359 = .ok (.invokevirtual 183, 3) := dk_182 0 183 (dk_at dksL_law_51 13 rfl rfl)
theorem dL_law_1362 : decode cL_law 1362 = .ok (.aload_n 2, 1) := dk_44 (dk_at dksL_law_51 16 rfl rfl)
theorem dL_law_1363 : decode cL_law 1363 = .ok (.invokevirtual 186, 3) := dk_182 0 186 (dk_at dksL_law_51 17 rfl rfl)
theorem dL_law_1366 : decode cL_law 1366 = .ok (.if_icmp .eq 80, 3) := dk_159 0 80 (dk_at dksL_law_51 20 rfl rfl)
theorem dL_law_1369 : decode cL_law 1369 = .ok (.iconst 0, 1) := dk_3 (dk_at dksL_law_51 23 rfl rfl)
theorem dL_law_1370 : decode cL_law 1370 = .ok (.ireturn, 1) := dk_172 (dk_at dksL_law_52 0 rfl rfl)
theorem dL_law_1371 : decode cL_law 1371 = .ok (.aload_n 1, 1) := dk_43 (dk_at dksL_law_52 1 rfl rfl)
theorem dL_law_1372 : decode cL_law 1372 = .ok (.aload_n 0, 1) := dk_42 (dk_at dksL_law_52 2 rfl rfl)
theorem dL_law_1373 : decode cL_law 1373 = .ok (.iload 4, 2) := dk_21 4 (dk_at dksL_law_52 3 rfl rfl)
theorem dL_law_1375 : decode cL_law 1375 = .ok (.iconst 1, 1) := dk_4 (dk_at dksL_law_52 5 rfl rfl)
theorem dL_law_1376 : decode cL_law 1376 = .ok (.iadd, 1) := dk_96 (dk_at dksL_law_52 6 rfl rfl)
theorem dL_law_1377 : decode cL_law 1377 = .ok (.iaload, 1) := dk_46 (dk_at dksL_law_52 7 rfl rfl)
theorem dL_law_1378 : decode cL_law 1378 = .ok (.invokevirtual 187, 3) := dk_182 0 187 (dk_at dksL_law_52 8 rfl rfl)
theorem dL_law_1381 : decode cL_law 1381 = .ok (.aload_n 2, 1) := dk_44 (dk_at dksL_law_52 11 rfl rfl)
theorem dL_law_1382 : decode cL_law 1382 = .ok (.aload_n 0, 1) := dk_42 (dk_at dksL_law_52 12 rfl rfl)
theorem dL_law_1383 : decode cL_law 1383 = .ok (.iload 4, 2) := dk_21 4 (dk_at dksL_law_52 13 rfl rfl)
theorem dL_law_1385 : decode cL_law 1385 = .ok (.iconst 1, 1) := dk_4 (dk_at dksL_law_52 15 rfl rfl)
theorem dL_law_1386 : decode cL_law 1386 = .ok (.iadd, 1) := dk_96 (dk_at dksL_law_52 16 rfl rfl)
theorem dL_law_1387 : decode cL_law 1387 = .ok (.iaload, 1) := dk_46 (dk_at dksL_law_52 17 rfl rfl)
theorem dL_law_1388 : decode cL_law 1388 = .ok (.invokevirtual 190, 3) := dk_182 0 190 (dk_at dksL_law_52 18 rfl rfl)
theorem dL_law_1391 : decode cL_law 1391 = .ok (.if_icmp .eq 55, 3) := dk_159 0 55 (dk_at dksL_law_52 21 rfl rfl)
theorem dL_law_1394 : decode cL_law 1394 = .ok (.iconst 0, 1) := dk_3 (dk_at dksL_law_53 0 rfl rfl)
theorem dL_law_1395 : decode cL_law 1395 = .ok (.ireturn, 1) := dk_172 (dk_at dksL_law_53 1 rfl rfl)
theorem dL_law_1396 : decode cL_law 1396 = .ok (.aload_n 1, 1) := dk_43 (dk_at dksL_law_53 2 rfl rfl)
theorem dL_law_1397 : decode cL_law 1397 = .ok (.aload_n 0, 1) := dk_42 (dk_at dksL_law_53 3 rfl rfl)
theorem dL_law_1398 : decode cL_law 1398 = .ok (.iload 4, 2) := dk_21 4 (dk_at dksL_law_53 4 rfl rfl)
theorem dL_law_1400 : decode cL_law 1400 = .ok (.iconst 1, 1) := dk_4 (dk_at dksL_law_53 6 rfl rfl)
theorem dL_law_1401 : decode cL_law 1401 = .ok (.iadd, 1) := dk_96 (dk_at dksL_law_53 7 rfl rfl)
theorem dL_law_1402 : decode cL_law 1402 = .ok (.iaload, 1) := dk_46 (dk_at dksL_law_53 8 rfl rfl)
theorem dL_law_1403 : decode cL_law 1403 = .ok (.invokevirtual 191, 3) := dk_182 0 191 (dk_at dksL_law_53 9 rfl rfl)
theorem dL_law_1406 : decode cL_law 1406 = .ok (.aload_n 2, 1) := dk_44 (dk_at dksL_law_53 12 rfl rfl)
theorem dL_law_1407 : decode cL_law 1407 = .ok (.aload_n 0, 1) := dk_42 (dk_at dksL_law_53 13 rfl rfl)
theorem dL_law_1408 : decode cL_law 1408 = .ok (.iload 4, 2) := dk_21 4 (dk_at dksL_law_53 14 rfl rfl)
theorem dL_law_1410 : decode cL_law 1410 = .ok (.iconst 1, 1) := dk_4 (dk_at dksL_law_53 16 rfl rfl)
theorem dL_law_1411 : decode cL_law 1411 = .ok (.iadd, 1) := dk_96 (dk_at dksL_law_53 17 rfl rfl)
theorem dL_law_1412 : decode cL_law 1412 = .ok (.iaload, 1) := dk_46 (dk_at dksL_law_53 18 rfl rfl)
theorem dL_law_1413 : decode cL_law 1413 = .ok (.invokevirtual 194, 3) := dk_182 0 194 (dk_at dksL_law_53 19 rfl rfl)
theorem dL_law_1416 : decode cL_law 1416 = .ok (.if_icmp .eq 30, 3) := dk_159 0 30 (dk_at dksL_law_54 0 rfl rfl)
theorem dL_law_1419 : decode cL_law 1419 = .ok (.iconst 0, 1) := dk_3 (dk_at dksL_law_54 3 rfl rfl)
theorem dL_law_1420 : decode cL_law 1420 = .ok (.ireturn, 1) := dk_172 (dk_at dksL_law_54 4 rfl rfl)
theorem dL_law_1421 : decode cL_law 1421 = .ok (.aload_n 1, 1) := dk_43 (dk_at dksL_law_54 5 rfl rfl)
theorem dL_law_1422 : decode cL_law 1422 = .ok (.aload_n 0, 1) := dk_42 (dk_at dksL_law_54 6 rfl rfl)
theorem dL_law_1423 : decode cL_law 1423 = .ok (.iload 4, 2) := dk_21 4 (dk_at dksL_law_54 7 rfl rfl)
theorem dL_law_1425 : decode cL_law 1425 = .ok (.iconst 1, 1) := dk_4 (dk_at dksL_law_54 9 rfl rfl)
theorem dL_law_1426 : decode cL_law 1426 = .ok (.iadd, 1) := dk_96 (dk_at dksL_law_54 10 rfl rfl)
theorem dL_law_1427 : decode cL_law 1427 = .ok (.iaload, 1) := dk_46 (dk_at dksL_law_54 11 rfl rfl)
theorem dL_law_1428 : decode cL_law 1428 = .ok (.invokevirtual 195, 3) := dk_182 0 195 (dk_at dksL_law_54 12 rfl rfl)
theorem dL_law_1431 : decode cL_law 1431 = .ok (.aload_n 2, 1) := dk_44 (dk_at dksL_law_54 15 rfl rfl)
theorem dL_law_1432 : decode cL_law 1432 = .ok (.aload_n 0, 1) := dk_42 (dk_at dksL_law_54 16 rfl rfl)
theorem dL_law_1433 : decode cL_law 1433 = .ok (.iload 4, 2) := dk_21 4 (dk_at dksL_law_54 17 rfl rfl)
theorem dL_law_1435 : decode cL_law 1435 = .ok (.iconst 1, 1) := dk_4 (dk_at dksL_law_54 19 rfl rfl)
theorem dL_law_1436 : decode cL_law 1436 = .ok (.iadd, 1) := dk_96 (dk_at dksL_law_54 20 rfl rfl)
theorem dL_law_1437 : decode cL_law 1437 = .ok (.iaload, 1) := dk_46 (dk_at dksL_law_54 21 rfl rfl)
theorem dL_law_1438 : decode cL_law 1438 = .ok (.invokevirtual 198, 3) := dk_182 0 198 (dk_at dksL_law_55 0 rfl rfl)
theorem dL_law_1441 : decode cL_law 1441 = .ok (.if_icmp .eq 5, 3) := dk_159 0 5 (dk_at dksL_law_55 3 rfl rfl)
theorem dL_law_1444 : decode cL_law 1444 = .ok (.iconst 0, 1) := dk_3 (dk_at dksL_law_55 6 rfl rfl)
theorem dL_law_1445 : decode cL_law 1445 = .ok (.ireturn, 1) := dk_172 (dk_at dksL_law_55 7 rfl rfl)
theorem dL_law_1446 : decode cL_law 1446 = .ok (.iinc 4 6, 3) := dk_132 4 6 (dk_at dksL_law_55 8 rfl rfl)
theorem dL_law_1449 : decode cL_law 1449 = .ok (.goto (-1426), 3) := dk_167 250 110 (dk_at dksL_law_55 11 rfl rfl)
theorem dL_law_1452 : decode cL_law 1452 = .ok (.iconst 1, 1) := dk_4 (dk_at dksL_law_55 14 rfl rfl)
theorem dL_law_1453 : decode cL_law 1453 = .ok (.ireturn, 1) := dk_172 (dk_at dksL_law_55 15 rfl rfl)
