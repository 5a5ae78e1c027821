set_option maxRecDepth 100000
def dkwX0_areHours_1 : List UInt8 := [172]
abbrev dktX0_areHours_1 : List UInt8 := dkwX0_areHours_1 ++ []
def dkwX0_areHours_0 : List UInt8 := [42, 180, 0, 93, 198, 0, 19, 27, 133, 9, 20, 1, 19, 184, 0, 15, 153, 0, 7, 4, 167, 0, 4, 3]
abbrev dktX0_areHours_0 : List UInt8 := dkwX0_areHours_0 ++ dktX0_areHours_1
theorem dksX0_areHours_0 : cX0_areHours.data.toList.drop 0 = dktX0_areHours_0 := by decide +kernel
theorem dksX0_areHours_1 : cX0_areHours.data.toList.drop 24 = dktX0_areHours_1 := dk_seg dksX0_areHours_0 24 rfl rfl
theorem dX0_areHours_0 : decode cX0_areHours 0 = .ok (.aload_n 0, 1) := dk_42 (dk_at dksX0_areHours_0 0 rfl rfl)
theorem dX0_areHours_1 : decode cX0_areHours 1 = .ok (.getfield 93, 3) := dk_180 0 93 (dk_at dksX0_areHours_0 1 rfl rfl)
theorem dX0_areHours_4 : decode cX0_areHours 4 = .ok (.ifnull 19, 3) := dk_198 0 19 (dk_at dksX0_areHours_0 4 rfl rfl)
theorem dX0_areHours_7 : decode cX0_areHours 7 = .ok (.iload_n 1, 1) := dk_27 (dk_at dksX0_areHours_0 7 rfl rfl)
theorem dX0_areHours_8 : decode cX0_areHours 8 = .ok (.i2l, 1) := dk_133 (dk_at dksX0_areHours_0 8 rfl rfl)
theorem dX0_areHours_9 : decode cX0_areHours 9 = .ok (.lconst 0, 1) := dk_9 (dk_at dksX0_areHours_0 9 rfl rfl)
theorem dX0_areHours_10 : decode cX0_areHours 10 = .ok (.ldc2_w 275, 3) := dk_20 1 19 (dk_at dksX0_areHours_0 10 rfl rfl)
theorem dX0_areHours_13 : decode cX0_areHours 13 = .ok (.invokestatic 15, 3) := dk_184 0 15 (dk_at dksX0_areHours_0 13 rfl rfl)
theorem dX0_areHours_16 : decode cX0_areHours 16 = .ok (.ifCond .eq 7, 3) := dk_153 0 7 (dk_at dksX0_areHours_0 16 rfl rfl)
theorem dX0_areHours_19 : decode cX0_areHours 19 = .ok (.iconst 1, 1) := dk_4 (dk_at dksX0_areHours_0 19 rfl rfl)
theorem dX0_areHours_20 : decode cX0_areHours 20 = .ok (.goto 4, 3) := dk_167 0 4 (dk_at dksX0_areHours_0 20 rfl rfl)
theorem dX0_areHours_23 : decode cX0_areHours 23 = .ok (.iconst 0, 1) := dk_3 (dk_at dksX0_areHours_0 23 rfl rfl)
theorem dX0_areHours_24 : decode cX0_areHours 24 = .ok (.ireturn, 1) := dk_172 (dk_at dksX0_areHours_1 0 rfl rfl)
def dkwX0_findsBest_9 : List UInt8 := [181, 1, 4, 42, 21, 5, 181, 1, 13, 132, 4, 1, 167, 255, 45, 177]
abbrev dktX0_findsBest_9 : List UInt8 := dkwX0_findsBest_9 ++ []
def dkwX0_findsBest_8 : List UInt8 := [160, 0, 15, 21, 5, 42, 180, 1, 13, 161, 0, 6, 167, 0, 21, 42, 21, 4, 181, 1, 16, 42, 21, 6]
abbrev dktX0_findsBest_8 : List UInt8 := dkwX0_findsBest_8 ++ dktX0_findsBest_9
def dkwX0_findsBest_7 : List UInt8 := [42, 180, 1, 4, 2, 159, 0, 33, 21, 6, 42, 180, 1, 4, 161, 0, 42, 21, 6, 42, 180, 1, 4]
abbrev dktX0_findsBest_7 : List UInt8 := dkwX0_findsBest_7 ++ dktX0_findsBest_8
def dkwX0_findsBest_6 : List UInt8 := [42, 180, 0, 93, 42, 180, 0, 93, 42, 180, 0, 94, 21, 4, 128, 28, 182, 0, 196, 182, 0, 200, 54, 6]
abbrev dktX0_findsBest_6 : List UInt8 := dkwX0_findsBest_6 ++ dktX0_findsBest_7
def dkwX0_findsBest_5 : List UInt8 := [182, 1, 11, 54, 5, 42, 180, 0, 40, 21, 4, 51, 153, 0, 92, 21, 5, 27, 164, 0, 6, 167, 0, 83]
abbrev dktX0_findsBest_5 : List UInt8 := dkwX0_findsBest_5 ++ dktX0_findsBest_6
def dkwX0_findsBest_4 : List UInt8 := [126, 51, 153, 0, 7, 4, 167, 0, 4, 3, 84, 132, 5, 1, 167, 255, 192, 42, 180, 0, 93, 21, 4]
abbrev dktX0_findsBest_4 : List UInt8 := dkwX0_findsBest_4 ++ dktX0_findsBest_5
def dkwX0_findsBest_3 : List UInt8 := [21, 4, 21, 5, 29, 28, 182, 1, 7, 153, 0, 24, 42, 180, 0, 40, 21, 4, 4, 21, 5, 120, 2, 130]
abbrev dktX0_findsBest_3 : List UInt8 := dkwX0_findsBest_3 ++ dktX0_findsBest_4
def dkwX0_findsBest_2 : List UInt8 := [182, 0, 131, 162, 0, 61, 42, 180, 0, 40, 21, 4, 51, 154, 0, 51, 42, 180, 0, 40, 21, 4, 42]
abbrev dktX0_findsBest_2 : List UInt8 := dkwX0_findsBest_2 ++ dktX0_findsBest_3
def dkwX0_findsBest_1 : List UInt8 := [42, 180, 0, 40, 21, 4, 21, 4, 154, 0, 7, 4, 167, 0, 4, 3, 84, 3, 54, 5, 21, 5, 42]
abbrev dktX0_findsBest_1 : List UInt8 := dkwX0_findsBest_1 ++ dktX0_findsBest_2
def dkwX0_findsBest_0 : List UInt8 := [42, 182, 1, 1, 62, 42, 2, 181, 1, 4, 3, 54, 4, 21, 4, 4, 42, 182, 0, 131, 120, 162, 0, 206]
abbrev dktX0_findsBest_0 : List UInt8 := dkwX0_findsBest_0 ++ dktX0_findsBest_1
theorem dksX0_findsBest_0 : cX0_findsBest.data.toList.drop 0 = dktX0_findsBest_0 := by decide +kernel
theorem dksX0_findsBest_1 : cX0_findsBest.data.toList.drop 24 = dktX0_findsBest_1 := dk_seg dksX0_findsBest_0 24 rfl rfl
theorem dksX0_findsBest_2 : cX0_findsBest.data.toList.drop 47 = dktX0_findsBest_2 := dk_seg dksX0_findsBest_1 23 rfl rfl
theorem dksX0_findsBest_3 : cX0_findsBest.data.toList.drop 70 = dktX0_findsBest_3 := dk_seg dksX0_findsBest_2 23 rfl rfl
theorem dksX0_findsBest_4 : cX0_findsBest.data.toList.drop 94 = dktX0_findsBest_4 := dk_seg dksX0_findsBest_3 24 rfl rfl
theorem dksX0_findsBest_5 : cX0_findsBest.data.toList.drop 117 = dktX0_findsBest_5 := dk_seg dksX0_findsBest_4 23 rfl rfl
theorem dksX0_findsBest_6 : cX0_findsBest.data.toList.drop 141 = dktX0_findsBest_6 := dk_seg dksX0_findsBest_5 24 rfl rfl
theorem dksX0_findsBest_7 : cX0_findsBest.data.toList.drop 165 = dktX0_findsBest_7 := dk_seg dksX0_findsBest_6 24 rfl rfl
theorem dksX0_findsBest_8 : cX0_findsBest.data.toList.drop 188 = dktX0_findsBest_8 := dk_seg dksX0_findsBest_7 23 rfl rfl
theorem dksX0_findsBest_9 : cX0_findsBest.data.toList.drop 212 = dktX0_findsBest_9 := dk_seg dksX0_findsBest_8 24 rfl rfl
theorem dX0_findsBest_0 : decode cX0_findsBest 0 = .ok (.aload_n 0, 1) := dk_42 (dk_at dksX0_findsBest_0 0 rfl rfl)
theorem dX0_findsBest_1 : decode cX0_findsBest 1 = .ok (.invokevirtual 257, 3) := dk_182 1 1 (dk_at dksX0_findsBest_0 1 rfl rfl)
theorem dX0_findsBest_4 : decode cX0_findsBest 4 = .ok (.istore_n 3, 1) := dk_62 (dk_at dksX0_findsBest_0 4 rfl rfl)
theorem dX0_findsBest_5 : decode cX0_findsBest 5 = .ok (.aload_n 0, 1) := dk_42 (dk_at dksX0_findsBest_0 5 rfl rfl)
theorem dX0_findsBest_6 : decode cX0_findsBest 6 = .ok (.iconst (-1), 1) := dk_2 (dk_at dksX0_findsBest_0 6 rfl rfl)
theorem dX0_findsBest_7 : decode cX0_findsBest 7 = .ok (.putfield 260, 3) := dk_181 1 4 (dk_at dksX0_findsBest_0 7 rfl rfl)
theorem dX0_findsBest_10 : decode cX0_findsBest 10 = .ok (.iconst 0, 1) := dk_3 (dk_at dksX0_findsBest_0 10 rfl rfl)
theorem dX0_findsBest_11 : decode cX0_findsBest 11 = .ok (.istore 4, 2) := dk_54 4 (dk_at dksX0_findsBest_0 11 rfl rfl)
theorem dX0_findsBest_13 : decode cX0_findsBest 13 = .ok (.iload 4, 2) := dk_21 4 (dk_at dksX0_findsBest_0 13 rfl rfl)
theorem dX0_findsBest_15 : decode cX0_findsBest 15 = .ok (.iconst 1, 1) := dk_4 (dk_at dksX0_findsBest_0 15 rfl rfl)
theorem dX0_findsBest_16 : decode cX0_findsBest 16 = .ok (.aload_n 0, 1) := dk_42 (dk_at dksX0_findsBest_0 16 rfl rfl)
theorem dX0_findsBest_17 : decode cX0_findsBest 17 = .ok (.invokevirtual 131, 3) := dk_182 0 131 (dk_at dksX0_findsBest_0 17 rfl rfl)
theorem dX0_findsBest_20 : decode cX0_findsBest 20 = .ok (.ishl, 1) := dk_120 (dk_at dksX0_findsBest_0 20 rfl rfl)
theorem dX0_findsBest_21 : decode cX0_findsBest 21 = .ok (.if_icmp .ge 206, 3) := dk_162 0 206 (dk_at dksX0_findsBest_0 21 rfl rfl)
theorem dX0_findsBest_24 : decode cX0_findsBest 24 = .ok (.aload_n 0, 1) := dk_42 (dk_at dksX0_findsBest_1 0 rfl rfl)
theorem dX0_findsBest_25 : decode cX0_findsBest 25 = .ok (.getfield 40, 3) := dk_180 0 40 (dk_at dksX0_findsBest_1 1 rfl rfl)
theorem dX0_findsBest_28 : decode cX0_findsBest 28 = .ok (.iload 4, 2) := dk_21 4 (dk_at dksX0_findsBest_1 4 rfl rfl)
theorem dX0_findsBest_30 : decode cX0_findsBest 30 = .ok (.iload 4, 2) := dk_21 4 (dk_at dksX0_findsBest_1 6 rfl rfl)
theorem dX0_findsBest_32 : decode cX0_findsBest 32 = .ok (.ifCond .ne 7, 3) := dk_154 0 7 (dk_at dksX0_findsBest_1 8 rfl rfl)
theorem dX0_findsBest_35 : decode cX0_findsBest 35 = .ok (.iconst 1, 1) := dk_4 (dk_at dksX0_findsBest_1 11 rfl rfl)
theorem dX0_findsBest_36 : decode cX0_findsBest 36 = .ok (.goto 4, 3) := dk_167 0 4 (dk_at dksX0_findsBest_1 12 rfl rfl)
theorem dX0_findsBest_39 : decode cX0_findsBest 39 = .ok (.iconst 0, 1) := dk_3 (dk_at dksX0_findsBest_1 15 rfl rfl)
theorem dX0_findsBest_40 : decode cX0_findsBest 40 = .ok (.bastore, 1) := dk_84 (dk_at dksX0_findsBest_1 16 rfl rfl)
theorem dX0_findsBest_41 : decode cX0_findsBest 41 = .ok (.iconst 0, 1) := dk_3 (dk_at dksX0_findsBest_1 17 rfl rfl)
theorem dX0_findsBest_42 : decode cX0_findsBest 42 = .ok (.istore 5, 2) := dk_54 5 (dk_at dksX0_findsBest_1 18 rfl rfl)
theorem dX0_findsBest_44 : decode cX0_findsBest 44 = .ok (.iload 5, 2) := dk_21 5 (dk_at dksX0_findsBest_1 20 rfl rfl)
theorem dX0_findsBest_46 : decode cX0_findsBest 46 = .ok (.aload_n 0, 1) := dk_42 (dk_at dksX0_findsBest_1 22 rfl rfl)
theorem dX0_findsBest_47 : decode cX0_findsBest 47 = .ok (.invokevirtual 131, 3) := dk_182 0 131 (dk_at dksX0_findsBest_2 0 rfl rfl)
theorem dX0_findsBest_50 : decode cX0_findsBest 50 = .ok (.if_icmp .ge 61, 3) := dk_162 0 61 (dk_at dksX0_findsBest_2 3 rfl rfl)
theorem dX0_findsBest_53 : decode cX0_findsBest 53 = .ok (.aload_n 0, 1) := dk_42 (dk_at dksX0_findsBest_2 6 rfl rfl)
theorem dX0_findsBest_54 : decode cX0_findsBest 54 = .ok (.getfield 40, 3) := dk_180 0 40 (dk_at dksX0_findsBest_2 7 rfl rfl)
theorem dX0_findsBest_57 : decode cX0_findsBest 57 = .ok (.iload 4, 2) := dk_21 4 (dk_at dksX0_findsBest_2 10 rfl rfl)
theorem dX0_findsBest_59 : decode cX0_findsBest 59 = .ok (.baload, 1) := dk_51 (dk_at dksX0_findsBest_2 12 rfl rfl)
theorem dX0_findsBest_60 : decode cX0_findsBest 60 = .ok (.ifCond .ne 51, 3) := dk_154 0 51 (dk_at dksX0_findsBest_2 13 rfl rfl)
theorem dX0_findsBest_63 : decode cX0_findsBest 63 = .ok (.aload_n 0, 1) := dk_42 (dk_at dksX0_findsBest_2 16 rfl rfl)
theorem dX0_findsBest_64 : decode cX0_findsBest 64 = .ok (.getfield 40, 3) := dk_180 0 40 (dk_at dksX0_findsBest_2 17 rfl rfl)
theorem dX0_findsBest_67 : decode cX0_findsBest 67 = .ok (.iload 4, 2) := dk_21 4 (dk_at dksX0_findsBest_2 20 rfl rfl)
theorem dX0_findsBest_69 : decode cX0_findsBest 69 = .ok (.aload_n 0, 1) := dk_42 (dk_at dksX0_findsBest_2 22 rfl rfl)
theorem dX0_findsBest_70 : decode cX0_findsBest 70 = .ok (.iload 4, 2) := dk_21 4 (dk_at dksX0_findsBest_3 0 rfl rfl)
theorem dX0_findsBest_72 : decode cX0_findsBest 72 = .ok (.iload 5, 2) := dk_21 5 (dk_at dksX0_findsBest_3 2 rfl rfl)
theorem dX0_findsBest_74 : decode cX0_findsBest 74 = .ok (.iload_n 3, 1) := dk_29 (dk_at dksX0_findsBest_3 4 rfl rfl)
theorem dX0_findsBest_75 : decode cX0_findsBest 75 = .ok (.iload_n 2, 1) := dk_28 (dk_at dksX0_findsBest_3 5 rfl rfl)
theorem dX0_findsBest_76 : decode cX0_findsBest 76 = .ok (.invokevirtual 263, 3) := dk_182 1 7 (dk_at dksX0_findsBest_3 6 rfl rfl)
theorem dX0_findsBest_79 : decode cX0_findsBest 79 = .ok (.ifCond .eq 24, 3) := dk_153 0 24 (dk_at dksX0_findsBest_3 9 rfl rfl)
theorem dX0_findsBest_82 : decode cX0_findsBest 82 = .ok (.aload_n 0, 1) := dk_42 (dk_at dksX0_findsBest_3 12 rfl rfl)
theorem dX0_findsBest_83 : decode cX0_findsBest 83 = .ok (.getfield 40, 3) := dk_180 0 40 (dk_at dksX0_findsBest_3 13 rfl rfl)
theorem dX0_findsBest_86 : decode cX0_findsBest 86 = .ok (.iload 4, 2) := dk_21 4 (dk_at dksX0_findsBest_3 16 rfl rfl)
theorem dX0_findsBest_88 : decode cX0_findsBest 88 = .ok (.iconst 1, 1) := dk_4 (dk_at dksX0_findsBest_3 18 rfl rfl)
theorem dX0_findsBest_89 : decode cX0_findsBest 89 = .ok (.iload 5, 2) := dk_21 5 (dk_at dksX0_findsBest_3 19 rfl rfl)
theorem dX0_findsBest_91 : decode cX0_findsBest 91 = .ok (.ishl, 1) := dk_120 (dk_at dksX0_findsBest_3 21 rfl rfl)
theorem dX0_findsBest_92 : decode cX0_findsBest 92 = .ok (.iconst (-1), 1) := dk_2 (dk_at dksX0_findsBest_3 22 rfl rfl)
theorem dX0_findsBest_93 : decode cX0_findsBest 93 = .ok (.ixor, 1) := dk_130 (dk_at dksX0_findsBest_3 23 rfl rfl)
theorem dX0_findsBest_94 : decode cX0_findsBest 94 = .ok (.iand, 1) := dk_126 (dk_at dksX0_findsBest_4 0 rfl rfl)
theorem dX0_findsBest_95 : decode cX0_findsBest 95 = .ok (.baload, 1) := dk_51 (dk_at dksX0_findsBest_4 1 rfl rfl)
theorem dX0_findsBest_96 : decode cX0_findsBest 96 = .ok (.ifCond .eq 7, 3) := dk_153 0 7 (dk_at dksX0_findsBest_4 2 rfl rfl)
theorem dX0_findsBest_99 : decode cX0_findsBest 99 = .ok (.iconst 1, 1) := dk_4 (dk_at dksX0_findsBest_4 5 rfl rfl)
theorem dX0_findsBest_100 : decode cX0_findsBest 100 = .ok (.goto 4, 3) := dk_167 0 4 (dk_at dksX0_findsBest_4 6 rfl rfl)
theorem dX0_findsBest_103 : decode cX0_findsBest 103 = .ok (.iconst 0, 1) := dk_3 (dk_at dksX0_findsBest_4 9 rfl rfl)
theorem dX0_findsBest_104 : decode cX0_findsBest 104 = .ok (.bastore, 1) := dk_84 (dk_at dksX0_findsBest_4 10 rfl rfl)
theorem dX0_findsBest_105 : decode cX0_findsBest 105 = .ok (.iinc 5 1, 3) := dk_132 5 1 (dk_at dksX0_findsBest_4 11 rfl rfl)
theorem dX0_findsBest_108 : decode cX0_findsBest 108 = .ok (.goto (-64), 3) := dk_167 255 192 (dk_at dksX0_findsBest_4 14 rfl rfl)
theorem dX0_findsBest_111 : decode cX0_findsBest 111 = .ok (.aload_n 0, 1) := dk_42 (dk_at dksX0_findsBest_4 17 rfl rfl)
theorem dX0_findsBest_112 : decode cX0_findsBest 112 = .ok (.getfield 93, 3) := dk_180 0 93 (dk_at dksX0_findsBest_4 18 rfl rfl)
theorem dX0_findsBest_115 : decode cX0_findsBest 115 = .ok (.iload 4, 2) := dk_21 4 (dk_at dksX0_findsBest_4 21 rfl rfl)
theorem dX0_findsBest_117 : decode cX0_findsBest 117 = .ok (.invokevirtual 267, 3) := dk_182 1 11 (dk_at dksX0_findsBest_5 0 rfl rfl)
theorem dX0_findsBest_120 : decode cX0_findsBest 120 = .ok (.istore 5, 2) := dk_54 5 (dk_at dksX0_findsBest_5 3 rfl rfl)
theorem dX0_findsBest_122 : decode cX0_findsBest 122 = .ok (.aload_n 0, 1) := dk_42 (dk_at dksX0_findsBest_5 5 rfl rfl)
theorem dX0_findsBest_123 : decode cX0_findsBest 123 = .ok (.getfield 40, 3) := dk_180 0 40 (dk_at dksX0_findsBest_5 6 rfl rfl)
theorem dX0_findsBest_126 : decode cX0_findsBest 126 = .ok (.iload 4, 2) := dk_21 4 (dk_at dksX0_findsBest_5 9 rfl rfl)
theorem dX0_findsBest_128 : decode cX0_findsBest 128 = .ok (.baload, 1) := dk_51 (dk_at dksX0_findsBest_5 11 rfl rfl)
theorem dX0_findsBest_129 : decode cX0_findsBest 129 = .ok (.ifCond .eq 92, 3) := dk_153 0 92 (dk_at dksX0_findsBest_5 12 rfl rfl)
theorem dX0_findsBest_132 : decode cX0_findsBest 132 = .ok (.iload 5, 2) := dk_21 5 (dk_at dksX0_findsBest_5 15 rfl rfl)
theorem dX0_findsBest_134 : decode cX0_findsBest 134 = .ok (.iload_n 1, 1) := dk_27 (dk_at dksX0_findsBest_5 17 rfl rfl)
theorem dX0_findsBest_135 : decode cX0_findsBest 135 = .ok (.if_icmp .le 6, 3) := dk_164 0 6 (dk_at dksX0_findsBest_5 18 rfl rfl)
theorem dX0_findsBest_138 : decode cX0_findsBest 138 = .ok (.goto 83, 3) := dk_167 0 83 (dk_at dksX0_findsBest_5 21 rfl rfl)
theorem dX0_findsBest_141 : decode cX0_findsBest 141 = .ok (.aload_n 0, 1) := dk_42 (dk_at dksX0_findsBest_6 0 rfl rfl)
theorem dX0_findsBest_142 : decode cX0_findsBest 142 = .ok (.getfield 93, 3) := dk_180 0 93 (dk_at dksX0_findsBest_6 1 rfl rfl)
theorem dX0_findsBest_145 : decode cX0_findsBest 145 = .ok (.aload_n 0, 1) := dk_42 (dk_at dksX0_findsBest_6 4 rfl rfl)
theorem dX0_findsBest_146 : decode cX0_findsBest 146 = .ok (.getfield 93, 3) := dk_180 0 93 (dk_at dksX0_findsBest_6 5 rfl rfl)
theorem dX0_findsBest_149 : decode cX0_findsBest 149 = .ok (.aload_n 0, 1) := dk_42 (dk_at dksX0_findsBest_6 8 rfl rfl)
theorem dX0_findsBest_150 : decode cX0_findsBest 150 = .ok (.getfield 94, 3) := dk_180 0 94 (dk_at dksX0_findsBest_6 9 rfl rfl)
theorem dX0_findsBest_153 : decode cX0_findsBest 153 = .ok (.iload 4, 2) := dk_21 4 (dk_at dksX0_findsBest_6 12 rfl rfl)
theorem dX0_findsBest_155 : decode cX0_findsBest 155 = .ok (.ior, 1) := dk_128 (dk_at dksX0_findsBest_6 14 rfl rfl)
theorem dX0_findsBest_156 : decode cX0_findsBest 156 = .ok (.iload_n 2, 1) := dk_28 (dk_at dksX0_findsBest_6 15 rfl rfl)
theorem dX0_findsBest_157 : decode cX0_findsBest 157 = .ok (.invokevirtual 196, 3) := dk_182 0 196 (dk_at dksX0_findsBest_6 16 rfl rfl)
theorem dX0_findsBest_160 : decode cX0_findsBest 160 = .ok (.invokevirtual 200, 3) := dk_182 0 200 (dk_at dksX0_findsBest_6 19 rfl rfl)
theorem dX0_findsBest_163 : decode cX0_findsBest 163 = .ok (.istore 6, 2) := dk_54 6 (dk_at dksX0_findsBest_6 22 rfl rfl)
theorem dX0_findsBest_165 : decode cX0_findsBest 165 = .ok (.aload_n 0, 1) := dk_42 (dk_at dksX0_findsBest_7 0 rfl rfl)
theorem dX0_findsBest_166 : decode cX0_findsBest 166 = .ok (.getfield 260, 3) := dk_180 1 4 (dk_at dksX0_findsBest_7 1 rfl rfl)
theorem dX0_findsBest_169 : decode cX0_findsBest 169 = .ok (.iconst (-1), 1) := dk_2 (dk_at dksX0_findsBest_7 4 rfl rfl)
theorem dX0_findsBest_170 : decode cX0_findsBest 170 = .ok (.if_icmp .eq 33, 3) := dk_159 0 33 (dk_at dksX0_findsBest_7 5 rfl rfl)
theorem dX0_findsBest_173 : decode cX0_findsBest 173 = .ok (.iload 6, 2) := dk_21 6 (dk_at dksX0_findsBest_7 8 rfl rfl)
theorem dX0_findsBest_175 : decode cX0_findsBest 175 = .ok (.aload_n 0, 1) := dk_42 (dk_at dksX0_findsBest_7 10 rfl rfl)
theorem dX0_findsBest_176 : decode cX0_findsBest 176 = .ok (.getfield 260, 3) := dk_180 1 4 (dk_at dksX0_findsBest_7 11 rfl rfl)
theorem dX0_findsBest_179 : decode cX0_findsBest 179 = .ok (.if_icmp .lt 42, 3) := dk_161 0 42 (dk_at dksX0_findsBest_7 14 rfl rfl)
theorem dX0_findsBest_182 : decode cX0_findsBest 182 = .ok (.iload 6, 2) := dk_21 6 (dk_at dksX0_findsBest_7 17 rfl rfl)
theorem dX0_findsBest_184 : decode cX0_findsBest 184 = .ok (.aload_n 0, 1) := dk_42 (dk_at dksX0_findsBest_7 19 rfl rfl)
theorem dX0_findsBest_185 : decode cX0_findsBest 185 = .ok (.getfield 260, 3) := dk_180 1 4 (dk_at dksX0_findsBest_7 20 rfl rfl)
theorem dX0_findsBest_188 : decode cX0_findsBest 188 = .ok (.if_icmp .ne 15, 3) := dk_160 0 15 (dk_at dksX0_findsBest_8 0 rfl rfl)
theorem dX0_findsBest_191 : decode cX0_findsBest 191 = .ok (.iload 5, 2) := dk_21 5 (dk_at dksX0_findsBest_8 3 rfl rfl)
theorem dX0_findsBest_193 : decode cX0_findsBest 193 = .ok (.aload_n 0, 1) := dk_42 (dk_at dksX0_findsBest_8 5 rfl rfl)
theorem dX0_findsBest_194 : decode cX0_findsBest 194 = .ok (.getfield 269, 3) := dk_180 1 13 (dk_at dksX0_findsBest_8 6 rfl rfl)
theorem dX0_findsBest_197 : decode cX0_findsBest 197 = .ok (.if_icmp .lt 6, 3) := dk_161 0 6 (dk_at dksX0_findsBest_8 9 rfl rfl)
theorem dX0_findsBest_200 : decode cX0_findsBest 200 = .ok (.goto 21, 3) := dk_167 0 21 (dk_at dksX0_findsBest_8 12 rfl rfl)
theorem dX0_findsBest_203 : decode cX0_findsBest 203 = .ok (.aload_n 0, 1) := dk_42 (dk_at dksX0_findsBest_8 15 rfl rfl)
theorem dX0_findsBest_204 : decode cX0_findsBest 204 = .ok (.iload 4, 2) := dk_21 4 (dk_at dksX0_findsBest_8 16 rfl rfl)
theorem dX0_findsBest_206 : decode cX0_findsBest 206 = .ok (.putfield 272, 3) := dk_181 1 16 (dk_at dksX0_findsBest_8 18 rfl rfl)
theorem dX0_findsBest_209 : decode cX0_findsBest 209 = .ok (.aload_n 0, 1) := dk_42 (dk_at dksX0_findsBest_8 21 rfl rfl)
theorem dX0_findsBest_210 : decode cX0_findsBest 210 = .ok (.iload 6, 2) := dk_21 6 (dk_at dksX0_findsBest_8 22 rfl rfl)
theorem dX0_findsBest_212 : decode cX0_findsBest 212 = .ok (.putfield 260, 3) := dk_181 1 4 (dk_at dksX0_findsBest_9 0 rfl rfl)
theorem dX0_findsBest_215 : decode cX0_findsBest 215 = .ok (.aload_n 0, 1) := dk_42 (dk_at dksX0_findsBest_9 3 rfl rfl)
theorem dX0_findsBest_216 : decode cX0_findsBest 216 = .ok (.iload 5, 2) := dk_21 5 (dk_at dksX0_findsBest_9 4 rfl rfl)
theorem dX0_findsBest_218 : decode cX0_findsBest 218 = .ok (.putfield 269, 3) := dk_181 1 13 (dk_at dksX0_findsBest_9 6 rfl rfl)
theorem dX0_findsBest_221 : decode cX0_findsBest 221 = .ok (.iinc 4 1, 3) := dk_132 4 1 (dk_at dksX0_findsBest_9 9 rfl rfl)
theorem dX0_findsBest_224 : decode cX0_findsBest 224 = .ok (.goto (-211), 3) := dk_167 255 45 (dk_at dksX0_findsBest_9 12 rfl rfl)
theorem dX0_findsBest_227 : decode cX0_findsBest 227 = .ok (.return_, 1) := dk_177 (dk_at dksX0_findsBest_9 15 rfl rfl)
def dkwX0_known_3 : List UInt8 := [167, 255, 190, 27, 172]
abbrev dktX0_known_3 : List UInt8 := dkwX0_known_3 ++ []
def dkwX0_known_2 : List UInt8 := [182, 0, 187, 153, 0, 9, 4, 29, 120, 167, 0, 4, 3, 128, 60, 132, 3, 1, 167, 255, 212, 132, 2, 1]
abbrev dktX0_known_2 : List UInt8 := dkwX0_known_2 ++ dktX0_known_3
def dkwX0_known_1 : List UInt8 := [182, 0, 131, 162, 0, 42, 27, 42, 28, 182, 0, 171, 180, 0, 178, 153, 0, 21, 42, 28, 182, 0, 171, 29]
abbrev dktX0_known_1 : List UInt8 := dkwX0_known_1 ++ dktX0_known_2
def dkwX0_known_0 : List UInt8 := [3, 60, 3, 61, 28, 42, 180, 0, 93, 180, 0, 134, 182, 0, 126, 162, 0, 58, 3, 62, 29, 42]
abbrev dktX0_known_0 : List UInt8 := dkwX0_known_0 ++ dktX0_known_1
theorem dksX0_known_0 : cX0_known.data.toList.drop 0 = dktX0_known_0 := by decide +kernel
theorem dksX0_known_1 : cX0_known.data.toList.drop 22 = dktX0_known_1 := dk_seg dksX0_known_0 22 rfl rfl
theorem dksX0_known_2 : cX0_known.data.toList.drop 46 = dktX0_known_2 := dk_seg dksX0_known_1 24 rfl rfl
theorem dksX0_known_3 : cX0_known.data.toList.drop 70 = dktX0_known_3 := dk_seg dksX0_known_2 24 rfl rfl
theorem dX0_known_0 : decode cX0_known 0 = .ok (.iconst 0, 1) := dk_3 (dk_at dksX0_known_0 0 rfl rfl)
theorem dX0_known_1 : decode cX0_known 1 = .ok (.istore_n 1, 1) := dk_60 (dk_at dksX0_known_0 1 rfl rfl)
theorem dX0_known_2 : decode cX0_known 2 = .ok (.iconst 0, 1) := dk_3 (dk_at dksX0_known_0 2 rfl rfl)
theorem dX0_known_3 : decode cX0_known 3 = .ok (.istore_n 2, 1) := dk_61 (dk_at dksX0_known_0 3 rfl rfl)
theorem dX0_known_4 : decode cX0_known 4 = .ok (.iload_n 2, 1) := dk_28 (dk_at dksX0_known_0 4 rfl rfl)
theorem dX0_known_5 : decode cX0_known 5 = .ok (.aload_n 0, 1) := dk_42 (dk_at dksX0_known_0 5 rfl rfl)
theorem dX0_known_6 : decode cX0_known 6 = .ok (.getfield 93, 3) := dk_180 0 93 (dk_at dksX0_known_0 6 rfl rfl)
theorem dX0_known_9 : decode cX0_known 9 = .ok (.getfield 134, 3) := dk_180 0 134 (dk_at dksX0_known_0 9 rfl rfl)
theorem dX0_known_12 : decode cX0_known 12 = .ok (.invokevirtual 126, 3) := dk_182 0 126 (dk_at dksX0_known_0 12 rfl rfl)
theorem dX0_known_15 : decode cX0_known 15 = .ok (.if_icmp .ge 58, 3) := dk_162 0 58 (dk_at dksX0_known_0 15 rfl rfl)
theorem dX0_known_18 : decode cX0_known 18 = .ok (.iconst 0, 1) := dk_3 (dk_at dksX0_known_0 18 rfl rfl)
theorem dX0_known_19 : decode cX0_known 19 = .ok (.istore_n 3, 1) := dk_62 (dk_at dksX0_known_0 19 rfl rfl)
theorem dX0_known_20 : decode cX0_known 20 = .ok (.iload_n 3, 1) := dk_29 (dk_at dksX0_known_0 20 rfl rfl)
theorem dX0_known_21 : decode cX0_known 21 = .ok (.aload_n 0, 1) := dk_42 (dk_at dksX0_known_0 21 rfl rfl)
theorem dX0_known_22 : decode cX0_known 22 = .ok (.invokevirtual 131, 3) := dk_182 0 131 (dk_at dksX0_known_1 0 rfl rfl)
theorem dX0_known_25 : decode cX0_known 25 = .ok (.if_icmp .ge 42, 3) := dk_162 0 42 (dk_at dksX0_known_1 3 rfl rfl)
theorem dX0_known_28 : decode cX0_known 28 = .ok (.iload_n 1, 1) := dk_27 (dk_at dksX0_known_1 6 rfl rfl)
theorem dX0_known_29 : decode cX0_known 29 = .ok (.aload_n 0, 1) := dk_42 (dk_at dksX0_known_1 7 rfl rfl)
theorem dX0_known_30 : decode cX0_known 30 = .ok (.iload_n 2, 1) := dk_28 (dk_at dksX0_known_1 8 rfl rfl)
theorem dX0_known_31 : decode cX0_known 31 = .ok (.invokevirtual 171, 3) := dk_182 0 171 (dk_at dksX0_known_1 9 rfl rfl)
theorem dX0_known_34 : decode cX0_known 34 = .ok (.getfield 178, 3) := dk_180 0 178 (dk_at dksX0_known_1 12 rfl rfl)
theorem dX0_known_37 : decode cX0_known 37 = .ok (.ifCond .eq 21, 3) := dk_153 0 21 (dk_at dksX0_known_1 15 rfl rfl)
theorem dX0_known_40 : decode cX0_known 40 = .ok (.aload_n 0, 1) := dk_42 (dk_at dksX0_known_1 18 rfl rfl)
theorem dX0_known_41 : decode cX0_known 41 = .ok (.iload_n 2, 1) := dk_28 (dk_at dksX0_known_1 19 rfl rfl)
theorem dX0_known_42 : decode cX0_known 42 = .ok (.invokevirtual 171, 3) := dk_182 0 171 (dk_at dksX0_known_1 20 rfl rfl)
theorem dX0_known_45 : decode cX0_known 45 = .ok (.iload_n 3, 1) := dk_29 (dk_at dksX0_known_1 23 rfl rfl)
theorem dX0_known_46 : decode cX0_known 46 = .ok (.invokevirtual 187, 3) := dk_182 0 187 (dk_at dksX0_known_2 0 rfl rfl)
theorem dX0_known_49 : decode cX0_known 49 = .ok (.ifCond .eq 9, 3) := dk_153 0 9 (dk_at dksX0_known_2 3 rfl rfl)
theorem dX0_known_52 : decode cX0_known 52 = .ok (.iconst 1, 1) := dk_4 (dk_at dksX0_known_2 6 rfl rfl)
theorem dX0_known_53 : decode cX0_known 53 = .ok (.iload_n 3, 1) := dk_29 (dk_at dksX0_known_2 7 rfl rfl)
theorem dX0_known_54 : decode cX0_known 54 = .ok (.ishl, 1) := dk_120 (dk_at dksX0_known_2 8 rfl rfl)
theorem dX0_known_55 : decode cX0_known 55 = .ok (.goto 4, 3) := dk_167 0 4 (dk_at dksX0_known_2 9 rfl rfl)
theorem dX0_known_58 : decode cX0_known 58 = .ok (.iconst 0, 1) := dk_3 (dk_at dksX0_known_2 12 rfl rfl)
theorem dX0_known_59 : decode cX0_known 59 = .ok (.ior, 1) := dk_128 (dk_at dksX0_known_2 13 rfl rfl)
theorem dX0_known_60 : decode cX0_known 60 = .ok (.istore_n 1, 1) := dk_60 (dk_at dksX0_known_2 14 rfl rfl)
theorem dX0_known_61 : decode cX0_known 61 = .ok (.iinc 3 1, 3) := dk_132 3 1 (dk_at dksX0_known_2 15 rfl rfl)
theorem dX0_known_64 : decode cX0_known 64 = .ok (.goto (-44), 3) := dk_167 255 212 (dk_at dksX0_known_2 18 rfl rfl)
theorem dX0_known_67 : decode cX0_known 67 = .ok (.iinc 2 1, 3) := dk_132 2 1 (dk_at dksX0_known_2 21 rfl rfl)
theorem dX0_known_70 : decode cX0_known 70 = .ok (.goto (-66), 3) := dk_167 255 190 (dk_at dksX0_known_3 0 rfl rfl)
theorem dX0_known_73 : decode cX0_known 73 = .ok (.iload_n 1, 1) := dk_27 (dk_at dksX0_known_3 3 rfl rfl)
theorem dX0_known_74 : decode cX0_known 74 = .ok (.ireturn, 1) := dk_172 (dk_at dksX0_known_3 4 rfl rfl)
def dkwX0_isLast_3 : List UInt8 := [172]
abbrev dktX0_isLast_3 : List UInt8 := dkwX0_isLast_3 ++ []
def dkwX0_isLast_2 : List UInt8 := [21, 5, 28, 122, 4, 126, 154, 0, 17, 42, 28, 21, 5, 182, 0, 232, 153, 0, 7, 4, 167, 0, 4, 3]
abbrev dktX0_isLast_2 : List UInt8 := dkwX0_isLast_2 ++ dktX0_isLast_3
def dkwX0_isLast_1 : List UInt8 := [42, 180, 0, 93, 42, 180, 0, 94, 27, 4, 28, 120, 2, 130, 126, 128, 21, 4, 182, 0, 196, 54, 5]
abbrev dktX0_isLast_1 : List UInt8 := dkwX0_isLast_1 ++ dktX0_isLast_2
def dkwX0_isLast_0 : List UInt8 := [27, 28, 122, 4, 126, 153, 0, 17, 29, 28, 122, 4, 126, 153, 0, 9, 28, 21, 4, 160, 0, 5, 3, 172]
abbrev dktX0_isLast_0 : List UInt8 := dkwX0_isLast_0 ++ dktX0_isLast_1
theorem dksX0_isLast_0 : cX0_isLast.data.toList.drop 0 = dktX0_isLast_0 := by decide +kernel
theorem dksX0_isLast_1 : cX0_isLast.data.toList.drop 24 = dktX0_isLast_1 := dk_seg dksX0_isLast_0 24 rfl rfl
theorem dksX0_isLast_2 : cX0_isLast.data.toList.drop 47 = dktX0_isLast_2 := dk_seg dksX0_isLast_1 23 rfl rfl
theorem dksX0_isLast_3 : cX0_isLast.data.toList.drop 71 = dktX0_isLast_3 := dk_seg dksX0_isLast_2 24 rfl rfl
theorem dX0_isLast_0 : decode cX0_isLast 0 = .ok (.iload_n 1, 1) := dk_27 (dk_at dksX0_isLast_0 0 rfl rfl)
theorem dX0_isLast_1 : decode cX0_isLast 1 = .ok (.iload_n 2, 1) := dk_28 (dk_at dksX0_isLast_0 1 rfl rfl)
theorem dX0_isLast_2 : decode cX0_isLast 2 = .ok (.ishr, 1) := dk_122 (dk_at dksX0_isLast_0 2 rfl rfl)
theorem dX0_isLast_3 : decode cX0_isLast 3 = .ok (.iconst 1, 1) := dk_4 (dk_at dksX0_isLast_0 3 rfl rfl)
theorem dX0_isLast_4 : decode cX0_isLast 4 = .ok (.iand, 1) := dk_126 (dk_at dksX0_isLast_0 4 rfl rfl)
theorem dX0_isLast_5 : decode cX0_isLast 5 = .ok (.ifCond .eq 17, 3) := dk_153 0 17 (dk_at dksX0_isLast_0 5 rfl rfl)
theorem dX0_isLast_8 : decode cX0_isLast 8 = .ok (.iload_n 3, 1) := dk_29 (dk_at dksX0_isLast_0 8 rfl rfl)
theorem dX0_isLast_9 : decode cX0_isLast 9 = .ok (.iload_n 2, 1) := dk_28 (dk_at dksX0_isLast_0 9 rfl rfl)
theorem dX0_isLast_10 : decode cX0_isLast 10 = .ok (.ishr, 1) := dk_122 (dk_at dksX0_isLast_0 10 rfl rfl)
theorem dX0_isLast_11 : decode cX0_isLast 11 = .ok (.iconst 1, 1) := dk_4 (dk_at dksX0_isLast_0 11 rfl rfl)
theorem dX0_isLast_12 : decode cX0_isLast 12 = .ok (.iand, 1) := dk_126 (dk_at dksX0_isLast_0 12 rfl rfl)
theorem dX0_isLast_13 : decode cX0_isLast 13 = .ok (.ifCond .eq 9, 3) := dk_153 0 9 (dk_at dksX0_isLast_0 13 rfl rfl)
theorem dX0_isLast_16 : decode cX0_isLast 16 = .ok (.iload_n 2, 1) := dk_28 (dk_at dksX0_isLast_0 16 rfl rfl)
theorem dX0_isLast_17 : decode cX0_isLast 17 = .ok (.iload 4, 2) := dk_21 4 (dk_at dksX0_isLast_0 17 rfl rfl)
theorem dX0_isLast_19 : decode cX0_isLast 19 = .ok (.if_icmp .ne 5, 3) := dk_160 0 5 (dk_at dksX0_isLast_0 19 rfl rfl)
theorem dX0_isLast_22 : decode cX0_isLast 22 = .ok (.iconst 0, 1) := dk_3 (dk_at dksX0_isLast_0 22 rfl rfl)
theorem dX0_isLast_23 : decode cX0_isLast 23 = .ok (.ireturn, 1) := dk_172 (dk_at dksX0_isLast_0 23 rfl rfl)
theorem dX0_isLast_24 : decode cX0_isLast 24 = .ok (.aload_n 0, 1) := dk_42 (dk_at dksX0_isLast_1 0 rfl rfl)
theorem dX0_isLast_25 : decode cX0_isLast 25 = .ok (.getfield 93, 3) := dk_180 0 93 (dk_at dksX0_isLast_1 1 rfl rfl)
theorem dX0_isLast_28 : decode cX0_isLast 28 = .ok (.aload_n 0, 1) := dk_42 (dk_at dksX0_isLast_1 4 rfl rfl)
theorem dX0_isLast_29 : decode cX0_isLast 29 = .ok (.getfield 94, 3) := dk_180 0 94 (dk_at dksX0_isLast_1 5 rfl rfl)
theorem dX0_isLast_32 : decode cX0_isLast 32 = .ok (.iload_n 1, 1) := dk_27 (dk_at dksX0_isLast_1 8 rfl rfl)
theorem dX0_isLast_33 : decode cX0_isLast 33 = .ok (.iconst 1, 1) := dk_4 (dk_at dksX0_isLast_1 9 rfl rfl)
theorem dX0_isLast_34 : decode cX0_isLast 34 = .ok (.iload_n 2, 1) := dk_28 (dk_at dksX0_isLast_1 10 rfl rfl)
theorem dX0_isLast_35 : decode cX0_isLast 35 = .ok (.ishl, 1) := dk_120 (dk_at dksX0_isLast_1 11 rfl rfl)
theorem dX0_isLast_36 : decode cX0_isLast 36 = .ok (.iconst (-1), 1) := dk_2 (dk_at dksX0_isLast_1 12 rfl rfl)
theorem dX0_isLast_37 : decode cX0_isLast 37 = .ok (.ixor, 1) := dk_130 (dk_at dksX0_isLast_1 13 rfl rfl)
theorem dX0_isLast_38 : decode cX0_isLast 38 = .ok (.iand, 1) := dk_126 (dk_at dksX0_isLast_1 14 rfl rfl)
theorem dX0_isLast_39 : decode cX0_isLast 39 = .ok (.ior, 1) := dk_128 (dk_at dksX0_isLast_1 15 rfl rfl)
theorem dX0_isLast_40 : decode cX0_isLast 40 = .ok (.iload 4, 2) := dk_21 4 (dk_at dksX0_isLast_1 16 rfl rfl)
theorem dX0_isLast_42 : decode cX0_isLast 42 = .ok (.invokevirtual 196, 3) := dk_182 0 196 (dk_at dksX0_isLast_1 18 rfl rfl)
theorem dX0_isLast_45 : decode cX0_isLast 45 = .ok (.istore 5, 2) := dk_54 5 (dk_at dksX0_isLast_1 21 rfl rfl)
theorem dX0_isLast_47 : decode cX0_isLast 47 = .ok (.iload 5, 2) := dk_21 5 (dk_at dksX0_isLast_2 0 rfl rfl)
theorem dX0_isLast_49 : decode cX0_isLast 49 = .ok (.iload_n 2, 1) := dk_28 (dk_at dksX0_isLast_2 2 rfl rfl)
theorem dX0_isLast_50 : decode cX0_isLast 50 = .ok (.ishr, 1) := dk_122 (dk_at dksX0_isLast_2 3 rfl rfl)
theorem dX0_isLast_51 : decode cX0_isLast 51 = .ok (.iconst 1, 1) := dk_4 (dk_at dksX0_isLast_2 4 rfl rfl)
theorem dX0_isLast_52 : decode cX0_isLast 52 = .ok (.iand, 1) := dk_126 (dk_at dksX0_isLast_2 5 rfl rfl)
theorem dX0_isLast_53 : decode cX0_isLast 53 = .ok (.ifCond .ne 17, 3) := dk_154 0 17 (dk_at dksX0_isLast_2 6 rfl rfl)
theorem dX0_isLast_56 : decode cX0_isLast 56 = .ok (.aload_n 0, 1) := dk_42 (dk_at dksX0_isLast_2 9 rfl rfl)
theorem dX0_isLast_57 : decode cX0_isLast 57 = .ok (.iload_n 2, 1) := dk_28 (dk_at dksX0_isLast_2 10 rfl rfl)
theorem dX0_isLast_58 : decode cX0_isLast 58 = .ok (.iload 5, 2) := dk_21 5 (dk_at dksX0_isLast_2 11 rfl rfl)
theorem dX0_isLast_60 : decode cX0_isLast 60 = .ok (.invokevirtual 232, 3) := dk_182 0 232 (dk_at dksX0_isLast_2 13 rfl rfl)
theorem dX0_isLast_63 : decode cX0_isLast 63 = .ok (.ifCond .eq 7, 3) := dk_153 0 7 (dk_at dksX0_isLast_2 16 rfl rfl)
theorem dX0_isLast_66 : decode cX0_isLast 66 = .ok (.iconst 1, 1) := dk_4 (dk_at dksX0_isLast_2 19 rfl rfl)
theorem dX0_isLast_67 : decode cX0_isLast 67 = .ok (.goto 4, 3) := dk_167 0 4 (dk_at dksX0_isLast_2 20 rfl rfl)
theorem dX0_isLast_70 : decode cX0_isLast 70 = .ok (.iconst 0, 1) := dk_3 (dk_at dksX0_isLast_2 23 rfl rfl)
theorem dX0_isLast_71 : decode cX0_isLast 71 = .ok (.ireturn, 1) := dk_172 (dk_at dksX0_isLast_3 0 rfl rfl)
def dkwX0_order_11 : List UInt8 := [21, 4, 4, 21, 6, 120, 128, 54, 4, 132, 5, 1, 167, 255, 161, 2, 172]
abbrev dktX0_order_11 : List UInt8 := dkwX0_order_11 ++ []
def dkwX0_order_10 : List UInt8 := [29, 2, 182, 1, 7, 154, 0, 9, 132, 6, 1, 167, 255, 197, 21, 5, 28, 160, 0, 6, 21, 6, 172]
abbrev dktX0_order_10 : List UInt8 := dkwX0_order_10 ++ dktX0_order_11
def dkwX0_order_9 : List UInt8 := [180, 0, 44, 21, 4, 4, 21, 6, 120, 128, 51, 153, 0, 21, 42, 21, 4, 4, 21, 6, 120, 128, 21, 6]
abbrev dktX0_order_9 : List UInt8 := dkwX0_order_9 ++ dktX0_order_10
def dkwX0_order_8 : List UInt8 := [42, 180, 1, 16, 21, 6, 122, 4, 126, 153, 0, 47, 21, 4, 21, 6, 122, 4, 126, 4, 159, 0, 36, 42]
abbrev dktX0_order_8 : List UInt8 := dkwX0_order_8 ++ dktX0_order_9
def dkwX0_order_7 : List UInt8 := [132, 4, 255, 167, 255, 119, 3, 54, 4, 3, 54, 5, 21, 4, 42, 180, 1, 16, 159, 0, 92, 3, 54, 6]
abbrev dktX0_order_7 : List UInt8 := dkwX0_order_7 ++ dktX0_order_8
def dkwX0_order_6 : List UInt8 := [120, 128, 21, 5, 29, 2, 182, 1, 7, 153, 0, 7, 4, 167, 0, 4, 3, 84, 132, 5, 1, 167, 255, 154]
abbrev dktX0_order_6 : List UInt8 := dkwX0_order_6 ++ dktX0_order_7
def dkwX0_order_5 : List UInt8 := [154, 0, 40, 42, 180, 0, 44, 21, 4, 4, 21, 5, 120, 128, 51, 153, 0, 25, 42, 21, 4, 4, 21, 5]
abbrev dktX0_order_5 : List UInt8 := dkwX0_order_5 ++ dktX0_order_6
def dkwX0_order_4 : List UInt8 := [21, 4, 42, 180, 1, 16, 21, 5, 122, 4, 126, 4, 160, 0, 50, 21, 4, 21, 5, 122, 4, 126]
abbrev dktX0_order_4 : List UInt8 := dkwX0_order_4 ++ dktX0_order_5
def dkwX0_order_3 : List UInt8 := [180, 1, 16, 2, 130, 126, 154, 0, 87, 42, 180, 0, 44, 21, 4, 51, 154, 0, 77, 42, 180, 0, 44]
abbrev dktX0_order_3 : List UInt8 := dkwX0_order_3 ++ dktX0_order_4
def dkwX0_order_2 : List UInt8 := [160, 0, 7, 4, 167, 0, 4, 3, 84, 3, 54, 5, 21, 5, 42, 182, 0, 131, 162, 0, 99, 21, 4, 42]
abbrev dktX0_order_2 : List UInt8 := dkwX0_order_2 ++ dktX0_order_3
def dkwX0_order_1 : List UInt8 := [180, 1, 16, 54, 4, 21, 4, 155, 0, 138, 42, 180, 0, 44, 21, 4, 21, 4, 42, 180, 1, 16]
abbrev dktX0_order_1 : List UInt8 := dkwX0_order_1 ++ dktX0_order_2
def dkwX0_order_0 : List UInt8 := [42, 27, 182, 1, 21, 154, 0, 5, 2, 172, 42, 27, 2, 182, 1, 26, 42, 182, 1, 1, 62, 42]
abbrev dktX0_order_0 : List UInt8 := dkwX0_order_0 ++ dktX0_order_1
theorem dksX0_order_0 : cX0_order.data.toList.drop 0 = dktX0_order_0 := by decide +kernel
theorem dksX0_order_1 : cX0_order.data.toList.drop 22 = dktX0_order_1 := dk_seg dksX0_order_0 22 rfl rfl
theorem dksX0_order_2 : cX0_order.data.toList.drop 44 = dktX0_order_2 := dk_seg dksX0_order_1 22 rfl rfl
theorem dksX0_order_3 : cX0_order.data.toList.drop 68 = dktX0_order_3 := dk_seg dksX0_order_2 24 rfl rfl
theorem dksX0_order_4 : cX0_order.data.toList.drop 91 = dktX0_order_4 := dk_seg dksX0_order_3 23 rfl rfl
theorem dksX0_order_5 : cX0_order.data.toList.drop 113 = dktX0_order_5 := dk_seg dksX0_order_4 22 rfl rfl
theorem dksX0_order_6 : cX0_order.data.toList.drop 137 = dktX0_order_6 := dk_seg dksX0_order_5 24 rfl rfl
theorem dksX0_order_7 : cX0_order.data.toList.drop 161 = dktX0_order_7 := dk_seg dksX0_order_6 24 rfl rfl
theorem dksX0_order_8 : cX0_order.data.toList.drop 185 = dktX0_order_8 := dk_seg dksX0_order_7 24 rfl rfl
theorem dksX0_order_9 : cX0_order.data.toList.drop 209 = dktX0_order_9 := dk_seg dksX0_order_8 24 rfl rfl
theorem dksX0_order_10 : cX0_order.data.toList.drop 233 = dktX0_order_10 := dk_seg dksX0_order_9 24 rfl rfl
theorem dksX0_order_11 : cX0_order.data.toList.drop 256 = dktX0_order_11 := dk_seg dksX0_order_10 23 rfl rfl
theorem dX0_order_0 : decode cX0_order 0 = .ok (.aload_n 0, 1) := dk_42 (dk_at dksX0_order_0 0 rfl rfl)
theorem dX0_order_1 : decode cX0_order 1 = .ok (.iload_n 1, 1) := dk_27 (dk_at dksX0_order_0 1 rfl rfl)
theorem dX0_order_2 : decode cX0_order 2 = .ok (.invokevirtual 277, 3) := dk_182 1 21 (dk_at dksX0_order_0 2 rfl rfl)
theorem dX0_order_5 : decode cX0_order 5 = .ok (.ifCond .ne 5, 3) := dk_154 0 5 (dk_at dksX0_order_0 5 rfl rfl)
theorem dX0_order_8 : decode cX0_order 8 = .ok (.iconst (-1), 1) := dk_2 (dk_at dksX0_order_0 8 rfl rfl)
theorem dX0_order_9 : decode cX0_order 9 = .ok (.ireturn, 1) := dk_172 (dk_at dksX0_order_0 9 rfl rfl)
theorem dX0_order_10 : decode cX0_order 10 = .ok (.aload_n 0, 1) := dk_42 (dk_at dksX0_order_0 10 rfl rfl)
theorem dX0_order_11 : decode cX0_order 11 = .ok (.iload_n 1, 1) := dk_27 (dk_at dksX0_order_0 11 rfl rfl)
theorem dX0_order_12 : decode cX0_order 12 = .ok (.iconst (-1), 1) := dk_2 (dk_at dksX0_order_0 12 rfl rfl)
theorem dX0_order_13 : decode cX0_order 13 = .ok (.invokevirtual 282, 3) := dk_182 1 26 (dk_at dksX0_order_0 13 rfl rfl)
theorem dX0_order_16 : decode cX0_order 16 = .ok (.aload_n 0, 1) := dk_42 (dk_at dksX0_order_0 16 rfl rfl)
theorem dX0_order_17 : decode cX0_order 17 = .ok (.invokevirtual 257, 3) := dk_182 1 1 (dk_at dksX0_order_0 17 rfl rfl)
theorem dX0_order_20 : decode cX0_order 20 = .ok (.istore_n 3, 1) := dk_62 (dk_at dksX0_order_0 20 rfl rfl)
theorem dX0_order_21 : decode cX0_order 21 = .ok (.aload_n 0, 1) := dk_42 (dk_at dksX0_order_0 21 rfl rfl)
theorem dX0_order_22 : decode cX0_order 22 = .ok (.getfield 272, 3) := dk_180 1 16 (dk_at dksX0_order_1 0 rfl rfl)
theorem dX0_order_25 : decode cX0_order 25 = .ok (.istore 4, 2) := dk_54 4 (dk_at dksX0_order_1 3 rfl rfl)
theorem dX0_order_27 : decode cX0_order 27 = .ok (.iload 4, 2) := dk_21 4 (dk_at dksX0_order_1 5 rfl rfl)
theorem dX0_order_29 : decode cX0_order 29 = .ok (.ifCond .lt 138, 3) := dk_155 0 138 (dk_at dksX0_order_1 7 rfl rfl)
theorem dX0_order_32 : decode cX0_order 32 = .ok (.aload_n 0, 1) := dk_42 (dk_at dksX0_order_1 10 rfl rfl)
theorem dX0_order_33 : decode cX0_order 33 = .ok (.getfield 44, 3) := dk_180 0 44 (dk_at dksX0_order_1 11 rfl rfl)
theorem dX0_order_36 : decode cX0_order 36 = .ok (.iload 4, 2) := dk_21 4 (dk_at dksX0_order_1 14 rfl rfl)
theorem dX0_order_38 : decode cX0_order 38 = .ok (.iload 4, 2) := dk_21 4 (dk_at dksX0_order_1 16 rfl rfl)
theorem dX0_order_40 : decode cX0_order 40 = .ok (.aload_n 0, 1) := dk_42 (dk_at dksX0_order_1 18 rfl rfl)
theorem dX0_order_41 : decode cX0_order 41 = .ok (.getfield 272, 3) := dk_180 1 16 (dk_at dksX0_order_1 19 rfl rfl)
theorem dX0_order_44 : decode cX0_order 44 = .ok (.if_icmp .ne 7, 3) := dk_160 0 7 (dk_at dksX0_order_2 0 rfl rfl)
theorem dX0_order_47 : decode cX0_order 47 = .ok (.iconst 1, 1) := dk_4 (dk_at dksX0_order_2 3 rfl rfl)
theorem dX0_order_48 : decode cX0_order 48 = .ok (.goto 4, 3) := dk_167 0 4 (dk_at dksX0_order_2 4 rfl rfl)
theorem dX0_order_51 : decode cX0_order 51 = .ok (.iconst 0, 1) := dk_3 (dk_at dksX0_order_2 7 rfl rfl)
theorem dX0_order_52 : decode cX0_order 52 = .ok (.bastore, 1) := dk_84 (dk_at dksX0_order_2 8 rfl rfl)
theorem dX0_order_53 : decode cX0_order 53 = .ok (.iconst 0, 1) := dk_3 (dk_at dksX0_order_2 9 rfl rfl)
theorem dX0_order_54 : decode cX0_order 54 = .ok (.istore 5, 2) := dk_54 5 (dk_at dksX0_order_2 10 rfl rfl)
theorem dX0_order_56 : decode cX0_order 56 = .ok (.iload 5, 2) := dk_21 5 (dk_at dksX0_order_2 12 rfl rfl)
theorem dX0_order_58 : decode cX0_order 58 = .ok (.aload_n 0, 1) := dk_42 (dk_at dksX0_order_2 14 rfl rfl)
theorem dX0_order_59 : decode cX0_order 59 = .ok (.invokevirtual 131, 3) := dk_182 0 131 (dk_at dksX0_order_2 15 rfl rfl)
theorem dX0_order_62 : decode cX0_order 62 = .ok (.if_icmp .ge 99, 3) := dk_162 0 99 (dk_at dksX0_order_2 18 rfl rfl)
theorem dX0_order_65 : decode cX0_order 65 = .ok (.iload 4, 2) := dk_21 4 (dk_at dksX0_order_2 21 rfl rfl)
theorem dX0_order_67 : decode cX0_order 67 = .ok (.aload_n 0, 1) := dk_42 (dk_at dksX0_order_2 23 rfl rfl)
theorem dX0_order_68 : decode cX0_order 68 = .ok (.getfield 272, 3) := dk_180 1 16 (dk_at dksX0_order_3 0 rfl rfl)
theorem dX0_order_71 : decode cX0_order 71 = .ok (.iconst (-1), 1) := dk_2 (dk_at dksX0_order_3 3 rfl rfl)
theorem dX0_order_72 : decode cX0_order 72 = .ok (.ixor, 1) := dk_130 (dk_at dksX0_order_3 4 rfl rfl)
theorem dX0_order_73 : decode cX0_order 73 = .ok (.iand, 1) := dk_126 (dk_at dksX0_order_3 5 rfl rfl)
theorem dX0_order_74 : decode cX0_order 74 = .ok (.ifCond .ne 87, 3) := dk_154 0 87 (dk_at dksX0_order_3 6 rfl rfl)
theorem dX0_order_77 : decode cX0_order 77 = .ok (.aload_n 0, 1) := dk_42 (dk_at dksX0_order_3 9 rfl rfl)
theorem dX0_order_78 : decode cX0_order 78 = .ok (.getfield 44, 3) := dk_180 0 44 (dk_at dksX0_order_3 10 rfl rfl)
theorem dX0_order_81 : decode cX0_order 81 = .ok (.iload 4, 2) := dk_21 4 (dk_at dksX0_order_3 13 rfl rfl)
theorem dX0_order_83 : decode cX0_order 83 = .ok (.baload, 1) := dk_51 (dk_at dksX0_order_3 15 rfl rfl)
theorem dX0_order_84 : decode cX0_order 84 = .ok (.ifCond .ne 77, 3) := dk_154 0 77 (dk_at dksX0_order_3 16 rfl rfl)
theorem dX0_order_87 : decode cX0_order 87 = .ok (.aload_n 0, 1) := dk_42 (dk_at dksX0_order_3 19 rfl rfl)
theorem dX0_order_88 : decode cX0_order 88 = .ok (.getfield 44, 3) := dk_180 0 44 (dk_at dksX0_order_3 20 rfl rfl)
theorem dX0_order_91 : decode cX0_order 91 = .ok (.iload 4, 2) := dk_21 4 (dk_at dksX0_order_4 0 rfl rfl)
theorem dX0_order_93 : decode cX0_order 93 = .ok (.aload_n 0, 1) := dk_42 (dk_at dksX0_order_4 2 rfl rfl)
theorem dX0_order_94 : decode cX0_order 94 = .ok (.getfield 272, 3) := dk_180 1 16 (dk_at dksX0_order_4 3 rfl rfl)
theorem dX0_order_97 : decode cX0_order 97 = .ok (.iload 5, 2) := dk_21 5 (dk_at dksX0_order_4 6 rfl rfl)
theorem dX0_order_99 : decode cX0_order 99 = .ok (.ishr, 1) := dk_122 (dk_at dksX0_order_4 8 rfl rfl)
theorem dX0_order_100 : decode cX0_order 100 = .ok (.iconst 1, 1) := dk_4 (dk_at dksX0_order_4 9 rfl rfl)
theorem dX0_order_101 : decode cX0_order 101 = .ok (.iand, 1) := dk_126 (dk_at dksX0_order_4 10 rfl rfl)
theorem dX0_order_102 : decode cX0_order 102 = .ok (.iconst 1, 1) := dk_4 (dk_at dksX0_order_4 11 rfl rfl)
theorem dX0_order_103 : decode cX0_order 103 = .ok (.if_icmp .ne 50, 3) := dk_160 0 50 (dk_at dksX0_order_4 12 rfl rfl)
theorem dX0_order_106 : decode cX0_order 106 = .ok (.iload 4, 2) := dk_21 4 (dk_at dksX0_order_4 15 rfl rfl)
theorem dX0_order_108 : decode cX0_order 108 = .ok (.iload 5, 2) := dk_21 5 (dk_at dksX0_order_4 17 rfl rfl)
theorem dX0_order_110 : decode cX0_order 110 = .ok (.ishr, 1) := dk_122 (dk_at dksX0_order_4 19 rfl rfl)
theorem dX0_order_111 : decode cX0_order 111 = .ok (.iconst 1, 1) := dk_4 (dk_at dksX0_order_4 20 rfl rfl)
theorem dX0_order_112 : decode cX0_order 112 = .ok (.iand, 1) := dk_126 (dk_at dksX0_order_4 21 rfl rfl)
theorem dX0_order_113 : decode cX0_order 113 = .ok (.ifCond .ne 40, 3) := dk_154 0 40 (dk_at dksX0_order_5 0 rfl rfl)
theorem dX0_order_116 : decode cX0_order 116 = .ok (.aload_n 0, 1) := dk_42 (dk_at dksX0_order_5 3 rfl rfl)
theorem dX0_order_117 : decode cX0_order 117 = .ok (.getfield 44, 3) := dk_180 0 44 (dk_at dksX0_order_5 4 rfl rfl)
theorem dX0_order_120 : decode cX0_order 120 = .ok (.iload 4, 2) := dk_21 4 (dk_at dksX0_order_5 7 rfl rfl)
theorem dX0_order_122 : decode cX0_order 122 = .ok (.iconst 1, 1) := dk_4 (dk_at dksX0_order_5 9 rfl rfl)
theorem dX0_order_123 : decode cX0_order 123 = .ok (.iload 5, 2) := dk_21 5 (dk_at dksX0_order_5 10 rfl rfl)
theorem dX0_order_125 : decode cX0_order 125 = .ok (.ishl, 1) := dk_120 (dk_at dksX0_order_5 12 rfl rfl)
theorem dX0_order_126 : decode cX0_order 126 = .ok (.ior, 1) := dk_128 (dk_at dksX0_order_5 13 rfl rfl)
theorem dX0_order_127 : decode cX0_order 127 = .ok (.baload, 1) := dk_51 (dk_at dksX0_order_5 14 rfl rfl)
theorem dX0_order_128 : decode cX0_order 128 = .ok (.ifCond .eq 25, 3) := dk_153 0 25 (dk_at dksX0_order_5 15 rfl rfl)
theorem dX0_order_131 : decode cX0_order 131 = .ok (.aload_n 0, 1) := dk_42 (dk_at dksX0_order_5 18 rfl rfl)
theorem dX0_order_132 : decode cX0_order 132 = .ok (.iload 4, 2) := dk_21 4 (dk_at dksX0_order_5 19 rfl rfl)
theorem dX0_order_134 : decode cX0_order 134 = .ok (.iconst 1, 1) := dk_4 (dk_at dksX0_order_5 21 rfl rfl)
theorem dX0_order_135 : decode cX0_order 135 = .ok (.iload 5, 2) := dk_21 5 (dk_at dksX0_order_5 22 rfl rfl)
theorem dX0_order_137 : decode cX0_order 137 = .ok (.ishl, 1) := dk_120 (dk_at dksX0_order_6 0 rfl rfl)
theorem dX0_order_138 : decode cX0_order 138 = .ok (.ior, 1) := dk_128 (dk_at dksX0_order_6 1 rfl rfl)
theorem dX0_order_139 : decode cX0_order 139 = .ok (.iload 5, 2) := dk_21 5 (dk_at dksX0_order_6 2 rfl rfl)
theorem dX0_order_141 : decode cX0_order 141 = .ok (.iload_n 3, 1) := dk_29 (dk_at dksX0_order_6 4 rfl rfl)
theorem dX0_order_142 : decode cX0_order 142 = .ok (.iconst (-1), 1) := dk_2 (dk_at dksX0_order_6 5 rfl rfl)
theorem dX0_order_143 : decode cX0_order 143 = .ok (.invokevirtual 263, 3) := dk_182 1 7 (dk_at dksX0_order_6 6 rfl rfl)
theorem dX0_order_146 : decode cX0_order 146 = .ok (.ifCond .eq 7, 3) := dk_153 0 7 (dk_at dksX0_order_6 9 rfl rfl)
theorem dX0_order_149 : decode cX0_order 149 = .ok (.iconst 1, 1) := dk_4 (dk_at dksX0_order_6 12 rfl rfl)
theorem dX0_order_150 : decode cX0_order 150 = .ok (.goto 4, 3) := dk_167 0 4 (dk_at dksX0_order_6 13 rfl rfl)
theorem dX0_order_153 : decode cX0_order 153 = .ok (.iconst 0, 1) := dk_3 (dk_at dksX0_order_6 16 rfl rfl)
theorem dX0_order_154 : decode cX0_order 154 = .ok (.bastore, 1) := dk_84 (dk_at dksX0_order_6 17 rfl rfl)
theorem dX0_order_155 : decode cX0_order 155 = .ok (.iinc 5 1, 3) := dk_132 5 1 (dk_at dksX0_order_6 18 rfl rfl)
theorem dX0_order_158 : decode cX0_order 158 = .ok (.goto (-102), 3) := dk_167 255 154 (dk_at dksX0_order_6 21 rfl rfl)
theorem dX0_order_161 : decode cX0_order 161 = .ok (.iinc 4 (-1), 3) := dk_132 4 255 (dk_at dksX0_order_7 0 rfl rfl)
theorem dX0_order_164 : decode cX0_order 164 = .ok (.goto (-137), 3) := dk_167 255 119 (dk_at dksX0_order_7 3 rfl rfl)
theorem dX0_order_167 : decode cX0_order 167 = .ok (.iconst 0, 1) := dk_3 (dk_at dksX0_order_7 6 rfl rfl)
theorem dX0_order_168 : decode cX0_order 168 = .ok (.istore 4, 2) := dk_54 4 (dk_at dksX0_order_7 7 rfl rfl)
theorem dX0_order_170 : decode cX0_order 170 = .ok (.iconst 0, 1) := dk_3 (dk_at dksX0_order_7 9 rfl rfl)
theorem dX0_order_171 : decode cX0_order 171 = .ok (.istore 5, 2) := dk_54 5 (dk_at dksX0_order_7 10 rfl rfl)
theorem dX0_order_173 : decode cX0_order 173 = .ok (.iload 4, 2) := dk_21 4 (dk_at dksX0_order_7 12 rfl rfl)
theorem dX0_order_175 : decode cX0_order 175 = .ok (.aload_n 0, 1) := dk_42 (dk_at dksX0_order_7 14 rfl rfl)
theorem dX0_order_176 : decode cX0_order 176 = .ok (.getfield 272, 3) := dk_180 1 16 (dk_at dksX0_order_7 15 rfl rfl)
theorem dX0_order_179 : decode cX0_order 179 = .ok (.if_icmp .eq 92, 3) := dk_159 0 92 (dk_at dksX0_order_7 18 rfl rfl)
theorem dX0_order_182 : decode cX0_order 182 = .ok (.iconst 0, 1) := dk_3 (dk_at dksX0_order_7 21 rfl rfl)
theorem dX0_order_183 : decode cX0_order 183 = .ok (.istore 6, 2) := dk_54 6 (dk_at dksX0_order_7 22 rfl rfl)
theorem dX0_order_185 : decode cX0_order 185 = .ok (.aload_n 0, 1) := dk_42 (dk_at dksX0_order_8 0 rfl rfl)
theorem dX0_order_186 : decode cX0_order 186 = .ok (.getfield 272, 3) := dk_180 1 16 (dk_at dksX0_order_8 1 rfl rfl)
theorem dX0_order_189 : decode cX0_order 189 = .ok (.iload 6, 2) := dk_21 6 (dk_at dksX0_order_8 4 rfl rfl)
theorem dX0_order_191 : decode cX0_order 191 = .ok (.ishr, 1) := dk_122 (dk_at dksX0_order_8 6 rfl rfl)
theorem dX0_order_192 : decode cX0_order 192 = .ok (.iconst 1, 1) := dk_4 (dk_at dksX0_order_8 7 rfl rfl)
theorem dX0_order_193 : decode cX0_order 193 = .ok (.iand, 1) := dk_126 (dk_at dksX0_order_8 8 rfl rfl)
theorem dX0_order_194 : decode cX0_order 194 = .ok (.ifCond .eq 47, 3) := dk_153 0 47 (dk_at dksX0_order_8 9 rfl rfl)
theorem dX0_order_197 : decode cX0_order 197 = .ok (.iload 4, 2) := dk_21 4 (dk_at dksX0_order_8 12 rfl rfl)
theorem dX0_order_199 : decode cX0_order 199 = .ok (.iload 6, 2) := dk_21 6 (dk_at dksX0_order_8 14 rfl rfl)
theorem dX0_order_201 : decode cX0_order 201 = .ok (.ishr, 1) := dk_122 (dk_at dksX0_order_8 16 rfl rfl)
theorem dX0_order_202 : decode cX0_order 202 = .ok (.iconst 1, 1) := dk_4 (dk_at dksX0_order_8 17 rfl rfl)
theorem dX0_order_203 : decode cX0_order 203 = .ok (.iand, 1) := dk_126 (dk_at dksX0_order_8 18 rfl rfl)
theorem dX0_order_204 : decode cX0_order 204 = .ok (.iconst 1, 1) := dk_4 (dk_at dksX0_order_8 19 rfl rfl)
theorem dX0_order_205 : decode cX0_order 205 = .ok (.if_icmp .eq 36, 3) := dk_159 0 36 (dk_at dksX0_order_8 20 rfl rfl)
theorem dX0_order_208 : decode cX0_order 208 = .ok (.aload_n 0, 1) := dk_42 (dk_at dksX0_order_8 23 rfl rfl)
theorem dX0_order_209 : decode cX0_order 209 = .ok (.getfield 44, 3) := dk_180 0 44 (dk_at dksX0_order_9 0 rfl rfl)
theorem dX0_order_212 : decode cX0_order 212 = .ok (.iload 4, 2) := dk_21 4 (dk_at dksX0_order_9 3 rfl rfl)
theorem dX0_order_214 : decode cX0_order 214 = .ok (.iconst 1, 1) := dk_4 (dk_at dksX0_order_9 5 rfl rfl)
theorem dX0_order_215 : decode cX0_order 215 = .ok (.iload 6, 2) := dk_21 6 (dk_at dksX0_order_9 6 rfl rfl)
theorem dX0_order_217 : decode cX0_order 217 = .ok (.ishl, 1) := dk_120 (dk_at dksX0_order_9 8 rfl rfl)
theorem dX0_order_218 : decode cX0_order 218 = .ok (.ior, 1) := dk_128 (dk_at dksX0_order_9 9 rfl rfl)
theorem dX0_order_219 : decode cX0_order 219 = .ok (.baload, 1) := dk_51 (dk_at dksX0_order_9 10 rfl rfl)
theorem dX0_order_220 : decode cX0_order 220 = .ok (.ifCond .eq 21, 3) := dk_153 0 21 (dk_at dksX0_order_9 11 rfl rfl)
theorem dX0_order_223 : decode cX0_order 223 = .ok (.aload_n 0, 1) := dk_42 (dk_at dksX0_order_9 14 rfl rfl)
theorem dX0_order_224 : decode cX0_order 224 = .ok (.iload 4, 2) := dk_21 4 (dk_at dksX0_order_9 15 rfl rfl)
theorem dX0_order_226 : decode cX0_order 226 = .ok (.iconst 1, 1) := dk_4 (dk_at dksX0_order_9 17 rfl rfl)
theorem dX0_order_227 : decode cX0_order 227 = .ok (.iload 6, 2) := dk_21 6 (dk_at dksX0_order_9 18 rfl rfl)
theorem dX0_order_229 : decode cX0_order 229 = .ok (.ishl, 1) := dk_120 (dk_at dksX0_order_9 20 rfl rfl)
theorem dX0_order_230 : decode cX0_order 230 = .ok (.ior, 1) := dk_128 (dk_at dksX0_order_9 21 rfl rfl)
theorem dX0_order_231 : decode cX0_order 231 = .ok (.iload 6, 2) := dk_21 6 (dk_at dksX0_order_9 22 rfl rfl)
theorem dX0_order_233 : decode cX0_order 233 = .ok (.iload_n 3, 1) := dk_29 (dk_at dksX0_order_10 0 rfl rfl)
theorem dX0_order_234 : decode cX0_order 234 = .ok (.iconst (-1), 1) := dk_2 (dk_at dksX0_order_10 1 rfl rfl)
theorem dX0_order_235 : decode cX0_order 235 = .ok (.invokevirtual 263, 3) := dk_182 1 7 (dk_at dksX0_order_10 2 rfl rfl)
theorem dX0_order_238 : decode cX0_order 238 = .ok (.ifCond .ne 9, 3) := dk_154 0 9 (dk_at dksX0_order_10 5 rfl rfl)
theorem dX0_order_241 : decode cX0_order 241 = .ok (.iinc 6 1, 3) := dk_132 6 1 (dk_at dksX0_order_10 8 rfl rfl)
theorem dX0_order_244 : decode cX0_order 244 = .ok (.goto (-59), 3) := dk_167 255 197 (dk_at dksX0_order_10 11 rfl rfl)
theorem dX0_order_247 : decode cX0_order 247 = .ok (.iload 5, 2) := dk_21 5 (dk_at dksX0_order_10 14 rfl rfl)
theorem dX0_order_249 : decode cX0_order 249 = .ok (.iload_n 2, 1) := dk_28 (dk_at dksX0_order_10 16 rfl rfl)
theorem dX0_order_250 : decode cX0_order 250 = .ok (.if_icmp .ne 6, 3) := dk_160 0 6 (dk_at dksX0_order_10 17 rfl rfl)
theorem dX0_order_253 : decode cX0_order 253 = .ok (.iload 6, 2) := dk_21 6 (dk_at dksX0_order_10 20 rfl rfl)
theorem dX0_order_255 : decode cX0_order 255 = .ok (.ireturn, 1) := dk_172 (dk_at dksX0_order_10 22 rfl rfl)
theorem dX0_order_256 : decode cX0_order 256 = .ok (.iload 4, 2) := dk_21 4 (dk_at dksX0_order_11 0 rfl rfl)
theorem dX0_order_258 : decode cX0_order 258 = .ok (.iconst 1, 1) := dk_4 (dk_at dksX0_order_11 2 rfl rfl)
theorem dX0_order_259 : decode cX0_order 259 = .ok (.iload 6, 2) := dk_21 6 (dk_at dksX0_order_11 3 rfl rfl)
theorem dX0_order_261 : decode cX0_order 261 = .ok (.ishl, 1) := dk_120 (dk_at dksX0_order_11 5 rfl rfl)
theorem dX0_order_262 : decode cX0_order 262 = .ok (.ior, 1) := dk_128 (dk_at dksX0_order_11 6 rfl rfl)
theorem dX0_order_263 : decode cX0_order 263 = .ok (.istore 4, 2) := dk_54 4 (dk_at dksX0_order_11 7 rfl rfl)
theorem dX0_order_265 : decode cX0_order 265 = .ok (.iinc 5 1, 3) := dk_132 5 1 (dk_at dksX0_order_11 9 rfl rfl)
theorem dX0_order_268 : decode cX0_order 268 = .ok (.goto (-95), 3) := dk_167 255 161 (dk_at dksX0_order_11 12 rfl rfl)
theorem dX0_order_271 : decode cX0_order 271 = .ok (.iconst (-1), 1) := dk_2 (dk_at dksX0_order_11 15 rfl rfl)
theorem dX0_order_272 : decode cX0_order 272 = .ok (.ireturn, 1) := dk_172 (dk_at dksX0_order_11 16 rfl rfl)
def dkwX0_key_5 : List UInt8 := [167, 0, 5, 21, 5, 172]
abbrev dktX0_key_5 : List UInt8 := dkwX0_key_5 ++ []
def dkwX0_key_4 : List UInt8 := [132, 6, 1, 167, 255, 199, 21, 4, 2, 160, 0, 7, 2, 167, 0, 14, 28, 154, 0, 8, 21, 4]
abbrev dktX0_key_4 : List UInt8 := dkwX0_key_4 ++ dktX0_key_5
def dkwX0_key_3 : List UInt8 := [180, 1, 4, 100, 21, 5, 163, 0, 6, 167, 0, 15, 21, 6, 54, 4, 29, 42, 180, 1, 4, 100, 54, 5]
abbrev dktX0_key_3 : List UInt8 := dkwX0_key_3 ++ dktX0_key_4
def dkwX0_key_2 : List UInt8 := [162, 0, 54, 42, 21, 6, 182, 0, 165, 153, 0, 6, 167, 0, 36, 42, 27, 21, 6, 182, 1, 26, 29, 42]
abbrev dktX0_key_2 : List UInt8 := dkwX0_key_2 ++ dktX0_key_3
def dkwX0_key_1 : List UInt8 := [182, 1, 26, 42, 180, 1, 4, 62, 2, 54, 4, 3, 54, 5, 3, 54, 6, 21, 6, 42, 182, 0, 131]
abbrev dktX0_key_1 : List UInt8 := dkwX0_key_1 ++ dktX0_key_2
def dkwX0_key_0 : List UInt8 := [42, 27, 182, 1, 21, 153, 0, 13, 28, 133, 9, 10, 184, 0, 15, 154, 0, 5, 2, 172, 42, 27, 2]
abbrev dktX0_key_0 : List UInt8 := dkwX0_key_0 ++ dktX0_key_1
theorem dksX0_key_0 : cX0_key.data.toList.drop 0 = dktX0_key_0 := by decide +kernel
theorem dksX0_key_1 : cX0_key.data.toList.drop 23 = dktX0_key_1 := dk_seg dksX0_key_0 23 rfl rfl
theorem dksX0_key_2 : cX0_key.data.toList.drop 46 = dktX0_key_2 := dk_seg dksX0_key_1 23 rfl rfl
theorem dksX0_key_3 : cX0_key.data.toList.drop 70 = dktX0_key_3 := dk_seg dksX0_key_2 24 rfl rfl
theorem dksX0_key_4 : cX0_key.data.toList.drop 94 = dktX0_key_4 := dk_seg dksX0_key_3 24 rfl rfl
theorem dksX0_key_5 : cX0_key.data.toList.drop 116 = dktX0_key_5 := dk_seg dksX0_key_4 22 rfl rfl
theorem dX0_key_0 : decode cX0_key 0 = .ok (.aload_n 0, 1) := dk_42 (dk_at dksX0_key_0 0 rfl rfl)
theorem dX0_key_1 : decode cX0_key 1 = .ok (.iload_n 1, 1) := dk_27 (dk_at dksX0_key_0 1 rfl rfl)
theorem dX0_key_2 : decode cX0_key 2 = .ok (.invokevirtual 277, 3) := dk_182 1 21 (dk_at dksX0_key_0 2 rfl rfl)
theorem dX0_key_5 : decode cX0_key 5 = .ok (.ifCond .eq 13, 3) := dk_153 0 13 (dk_at dksX0_key_0 5 rfl rfl)
theorem dX0_key_8 : decode cX0_key 8 = .ok (.iload_n 2, 1) := dk_28 (dk_at dksX0_key_0 8 rfl rfl)
theorem dX0_key_9 : decode cX0_key 9 = .ok (.i2l, 1) := dk_133 (dk_at dksX0_key_0 9 rfl rfl)
theorem dX0_key_10 : decode cX0_key 10 = .ok (.lconst 0, 1) := dk_9 (dk_at dksX0_key_0 10 rfl rfl)
theorem dX0_key_11 : decode cX0_key 11 = .ok (.lconst 1, 1) := dk_10 (dk_at dksX0_key_0 11 rfl rfl)
theorem dX0_key_12 : decode cX0_key 12 = .ok (.invokestatic 15, 3) := dk_184 0 15 (dk_at dksX0_key_0 12 rfl rfl)
theorem dX0_key_15 : decode cX0_key 15 = .ok (.ifCond .ne 5, 3) := dk_154 0 5 (dk_at dksX0_key_0 15 rfl rfl)
theorem dX0_key_18 : decode cX0_key 18 = .ok (.iconst (-1), 1) := dk_2 (dk_at dksX0_key_0 18 rfl rfl)
theorem dX0_key_19 : decode cX0_key 19 = .ok (.ireturn, 1) := dk_172 (dk_at dksX0_key_0 19 rfl rfl)
theorem dX0_key_20 : decode cX0_key 20 = .ok (.aload_n 0, 1) := dk_42 (dk_at dksX0_key_0 20 rfl rfl)
theorem dX0_key_21 : decode cX0_key 21 = .ok (.iload_n 1, 1) := dk_27 (dk_at dksX0_key_0 21 rfl rfl)
theorem dX0_key_22 : decode cX0_key 22 = .ok (.iconst (-1), 1) := dk_2 (dk_at dksX0_key_0 22 rfl rfl)
theorem dX0_key_23 : decode cX0_key 23 = .ok (.invokevirtual 282, 3) := dk_182 1 26 (dk_at dksX0_key_1 0 rfl rfl)
theorem dX0_key_26 : decode cX0_key 26 = .ok (.aload_n 0, 1) := dk_42 (dk_at dksX0_key_1 3 rfl rfl)
theorem dX0_key_27 : decode cX0_key 27 = .ok (.getfield 260, 3) := dk_180 1 4 (dk_at dksX0_key_1 4 rfl rfl)
theorem dX0_key_30 : decode cX0_key 30 = .ok (.istore_n 3, 1) := dk_62 (dk_at dksX0_key_1 7 rfl rfl)
theorem dX0_key_31 : decode cX0_key 31 = .ok (.iconst (-1), 1) := dk_2 (dk_at dksX0_key_1 8 rfl rfl)
theorem dX0_key_32 : decode cX0_key 32 = .ok (.istore 4, 2) := dk_54 4 (dk_at dksX0_key_1 9 rfl rfl)
theorem dX0_key_34 : decode cX0_key 34 = .ok (.iconst 0, 1) := dk_3 (dk_at dksX0_key_1 11 rfl rfl)
theorem dX0_key_35 : decode cX0_key 35 = .ok (.istore 5, 2) := dk_54 5 (dk_at dksX0_key_1 12 rfl rfl)
theorem dX0_key_37 : decode cX0_key 37 = .ok (.iconst 0, 1) := dk_3 (dk_at dksX0_key_1 14 rfl rfl)
theorem dX0_key_38 : decode cX0_key 38 = .ok (.istore 6, 2) := dk_54 6 (dk_at dksX0_key_1 15 rfl rfl)
theorem dX0_key_40 : decode cX0_key 40 = .ok (.iload 6, 2) := dk_21 6 (dk_at dksX0_key_1 17 rfl rfl)
theorem dX0_key_42 : decode cX0_key 42 = .ok (.aload_n 0, 1) := dk_42 (dk_at dksX0_key_1 19 rfl rfl)
theorem dX0_key_43 : decode cX0_key 43 = .ok (.invokevirtual 131, 3) := dk_182 0 131 (dk_at dksX0_key_1 20 rfl rfl)
theorem dX0_key_46 : decode cX0_key 46 = .ok (.if_icmp .ge 54, 3) := dk_162 0 54 (dk_at dksX0_key_2 0 rfl rfl)
theorem dX0_key_49 : decode cX0_key 49 = .ok (.aload_n 0, 1) := dk_42 (dk_at dksX0_key_2 3 rfl rfl)
theorem dX0_key_50 : decode cX0_key 50 = .ok (.iload 6, 2) := dk_21 6 (dk_at dksX0_key_2 4 rfl rfl)
theorem dX0_key_52 : decode cX0_key 52 = .ok (.invokevirtual 165, 3) := dk_182 0 165 (dk_at dksX0_key_2 6 rfl rfl)
theorem dX0_key_55 : decode cX0_key 55 = .ok (.ifCond .eq 6, 3) := dk_153 0 6 (dk_at dksX0_key_2 9 rfl rfl)
theorem dX0_key_58 : decode cX0_key 58 = .ok (.goto 36, 3) := dk_167 0 36 (dk_at dksX0_key_2 12 rfl rfl)
theorem dX0_key_61 : decode cX0_key 61 = .ok (.aload_n 0, 1) := dk_42 (dk_at dksX0_key_2 15 rfl rfl)
theorem dX0_key_62 : decode cX0_key 62 = .ok (.iload_n 1, 1) := dk_27 (dk_at dksX0_key_2 16 rfl rfl)
theorem dX0_key_63 : decode cX0_key 63 = .ok (.iload 6, 2) := dk_21 6 (dk_at dksX0_key_2 17 rfl rfl)
theorem dX0_key_65 : decode cX0_key 65 = .ok (.invokevirtual 282, 3) := dk_182 1 26 (dk_at dksX0_key_2 19 rfl rfl)
theorem dX0_key_68 : decode cX0_key 68 = .ok (.iload_n 3, 1) := dk_29 (dk_at dksX0_key_2 22 rfl rfl)
theorem dX0_key_69 : decode cX0_key 69 = .ok (.aload_n 0, 1) := dk_42 (dk_at dksX0_key_2 23 rfl rfl)
theorem dX0_key_70 : decode cX0_key 70 = .ok (.getfield 260, 3) := dk_180 1 4 (dk_at dksX0_key_3 0 rfl rfl)
theorem dX0_key_73 : decode cX0_key 73 = .ok (.isub, 1) := dk_100 (dk_at dksX0_key_3 3 rfl rfl)
theorem dX0_key_74 : decode cX0_key 74 = .ok (.iload 5, 2) := dk_21 5 (dk_at dksX0_key_3 4 rfl rfl)
theorem dX0_key_76 : decode cX0_key 76 = .ok (.if_icmp .gt 6, 3) := dk_163 0 6 (dk_at dksX0_key_3 6 rfl rfl)
theorem dX0_key_79 : decode cX0_key 79 = .ok (.goto 15, 3) := dk_167 0 15 (dk_at dksX0_key_3 9 rfl rfl)
theorem dX0_key_82 : decode cX0_key 82 = .ok (.iload 6, 2) := dk_21 6 (dk_at dksX0_key_3 12 rfl rfl)
theorem dX0_key_84 : decode cX0_key 84 = .ok (.istore 4, 2) := dk_54 4 (dk_at dksX0_key_3 14 rfl rfl)
theorem dX0_key_86 : decode cX0_key 86 = .ok (.iload_n 3, 1) := dk_29 (dk_at dksX0_key_3 16 rfl rfl)
theorem dX0_key_87 : decode cX0_key 87 = .ok (.aload_n 0, 1) := dk_42 (dk_at dksX0_key_3 17 rfl rfl)
theorem dX0_key_88 : decode cX0_key 88 = .ok (.getfield 260, 3) := dk_180 1 4 (dk_at dksX0_key_3 18 rfl rfl)
theorem dX0_key_91 : decode cX0_key 91 = .ok (.isub, 1) := dk_100 (dk_at dksX0_key_3 21 rfl rfl)
theorem dX0_key_92 : decode cX0_key 92 = .ok (.istore 5, 2) := dk_54 5 (dk_at dksX0_key_3 22 rfl rfl)
theorem dX0_key_94 : decode cX0_key 94 = .ok (.iinc 6 1, 3) := dk_132 6 1 (dk_at dksX0_key_4 0 rfl rfl)
theorem dX0_key_97 : decode cX0_key 97 = .ok (.goto (-57), 3) := dk_167 255 199 (dk_at dksX0_key_4 3 rfl rfl)
theorem dX0_key_100 : decode cX0_key 100 = .ok (.iload 4, 2) := dk_21 4 (dk_at dksX0_key_4 6 rfl rfl)
theorem dX0_key_102 : decode cX0_key 102 = .ok (.iconst (-1), 1) := dk_2 (dk_at dksX0_key_4 8 rfl rfl)
theorem dX0_key_103 : decode cX0_key 103 = .ok (.if_icmp .ne 7, 3) := dk_160 0 7 (dk_at dksX0_key_4 9 rfl rfl)
theorem dX0_key_106 : decode cX0_key 106 = .ok (.iconst (-1), 1) := dk_2 (dk_at dksX0_key_4 12 rfl rfl)
theorem dX0_key_107 : decode cX0_key 107 = .ok (.goto 14, 3) := dk_167 0 14 (dk_at dksX0_key_4 13 rfl rfl)
theorem dX0_key_110 : decode cX0_key 110 = .ok (.iload_n 2, 1) := dk_28 (dk_at dksX0_key_4 16 rfl rfl)
theorem dX0_key_111 : decode cX0_key 111 = .ok (.ifCond .ne 8, 3) := dk_154 0 8 (dk_at dksX0_key_4 17 rfl rfl)
theorem dX0_key_114 : decode cX0_key 114 = .ok (.iload 4, 2) := dk_21 4 (dk_at dksX0_key_4 20 rfl rfl)
theorem dX0_key_116 : decode cX0_key 116 = .ok (.goto 5, 3) := dk_167 0 5 (dk_at dksX0_key_5 0 rfl rfl)
theorem dX0_key_119 : decode cX0_key 119 = .ok (.iload 5, 2) := dk_21 5 (dk_at dksX0_key_5 3 rfl rfl)
theorem dX0_key_121 : decode cX0_key 121 = .ok (.ireturn, 1) := dk_172 (dk_at dksX0_key_5 5 rfl rfl)
def dkwX0_lost_1 : List UInt8 := [27, 154, 0, 7, 28, 167, 0, 11, 42, 180, 0, 93, 28, 182, 0, 200, 172]
abbrev dktX0_lost_1 : List UInt8 := dkwX0_lost_1 ++ []
def dkwX0_lost_0 : List UInt8 := [42, 180, 0, 93, 198, 0, 13, 27, 133, 9, 10, 184, 0, 15, 154, 0, 5, 2, 172, 42, 182, 1, 30, 61]
abbrev dktX0_lost_0 : List UInt8 := dkwX0_lost_0 ++ dktX0_lost_1
theorem dksX0_lost_0 : cX0_lost.data.toList.drop 0 = dktX0_lost_0 := by decide +kernel
theorem dksX0_lost_1 : cX0_lost.data.toList.drop 24 = dktX0_lost_1 := dk_seg dksX0_lost_0 24 rfl rfl
theorem dX0_lost_0 : decode cX0_lost 0 = .ok (.aload_n 0, 1) := dk_42 (dk_at dksX0_lost_0 0 rfl rfl)
theorem dX0_lost_1 : decode cX0_lost 1 = .ok (.getfield 93, 3) := dk_180 0 93 (dk_at dksX0_lost_0 1 rfl rfl)
theorem dX0_lost_4 : decode cX0_lost 4 = .ok (.ifnull 13, 3) := dk_198 0 13 (dk_at dksX0_lost_0 4 rfl rfl)
theorem dX0_lost_7 : decode cX0_lost 7 = .ok (.iload_n 1, 1) := dk_27 (dk_at dksX0_lost_0 7 rfl rfl)
theorem dX0_lost_8 : decode cX0_lost 8 = .ok (.i2l, 1) := dk_133 (dk_at dksX0_lost_0 8 rfl rfl)
theorem dX0_lost_9 : decode cX0_lost 9 = .ok (.lconst 0, 1) := dk_9 (dk_at dksX0_lost_0 9 rfl rfl)
theorem dX0_lost_10 : decode cX0_lost 10 = .ok (.lconst 1, 1) := dk_10 (dk_at dksX0_lost_0 10 rfl rfl)
theorem dX0_lost_11 : decode cX0_lost 11 = .ok (.invokestatic 15, 3) := dk_184 0 15 (dk_at dksX0_lost_0 11 rfl rfl)
theorem dX0_lost_14 : decode cX0_lost 14 = .ok (.ifCond .ne 5, 3) := dk_154 0 5 (dk_at dksX0_lost_0 14 rfl rfl)
theorem dX0_lost_17 : decode cX0_lost 17 = .ok (.iconst (-1), 1) := dk_2 (dk_at dksX0_lost_0 17 rfl rfl)
theorem dX0_lost_18 : decode cX0_lost 18 = .ok (.ireturn, 1) := dk_172 (dk_at dksX0_lost_0 18 rfl rfl)
theorem dX0_lost_19 : decode cX0_lost 19 = .ok (.aload_n 0, 1) := dk_42 (dk_at dksX0_lost_0 19 rfl rfl)
theorem dX0_lost_20 : decode cX0_lost 20 = .ok (.invokevirtual 286, 3) := dk_182 1 30 (dk_at dksX0_lost_0 20 rfl rfl)
theorem dX0_lost_23 : decode cX0_lost 23 = .ok (.istore_n 2, 1) := dk_61 (dk_at dksX0_lost_0 23 rfl rfl)
theorem dX0_lost_24 : decode cX0_lost 24 = .ok (.iload_n 1, 1) := dk_27 (dk_at dksX0_lost_1 0 rfl rfl)
theorem dX0_lost_25 : decode cX0_lost 25 = .ok (.ifCond .ne 7, 3) := dk_154 0 7 (dk_at dksX0_lost_1 1 rfl rfl)
theorem dX0_lost_28 : decode cX0_lost 28 = .ok (.iload_n 2, 1) := dk_28 (dk_at dksX0_lost_1 4 rfl rfl)
theorem dX0_lost_29 : decode cX0_lost 29 = .ok (.goto 11, 3) := dk_167 0 11 (dk_at dksX0_lost_1 5 rfl rfl)
theorem dX0_lost_32 : decode cX0_lost 32 = .ok (.aload_n 0, 1) := dk_42 (dk_at dksX0_lost_1 8 rfl rfl)
theorem dX0_lost_33 : decode cX0_lost 33 = .ok (.getfield 93, 3) := dk_180 0 93 (dk_at dksX0_lost_1 9 rfl rfl)
theorem dX0_lost_36 : decode cX0_lost 36 = .ok (.iload_n 2, 1) := dk_28 (dk_at dksX0_lost_1 12 rfl rfl)
theorem dX0_lost_37 : decode cX0_lost 37 = .ok (.invokevirtual 200, 3) := dk_182 0 200 (dk_at dksX0_lost_1 13 rfl rfl)
theorem dX0_lost_40 : decode cX0_lost 40 = .ok (.ireturn, 1) := dk_172 (dk_at dksX0_lost_1 16 rfl rfl)
def dkwX0_lostNow_4 : List UInt8 := [167, 255, 183, 4, 42, 182, 0, 131, 120, 4, 100, 28, 2, 130, 126, 172]
abbrev dktX0_lostNow_4 : List UInt8 := dkwX0_lostNow_4 ++ []
def dkwX0_lostNow_3 : List UInt8 := [180, 0, 93, 28, 4, 21, 4, 120, 128, 2, 182, 0, 196, 61, 4, 62, 132, 4, 1, 167, 255, 195]
abbrev dktX0_lostNow_3 : List UInt8 := dkwX0_lostNow_3 ++ dktX0_lostNow_4
def dkwX0_lostNow_2 : List UInt8 := [27, 21, 4, 122, 4, 126, 153, 0, 33, 42, 21, 4, 28, 182, 0, 232, 154, 0, 6, 167, 0, 20, 42]
abbrev dktX0_lostNow_2 : List UInt8 := dkwX0_lostNow_2 ++ dktX0_lostNow_3
def dkwX0_lostNow_1 : List UInt8 := [3, 62, 3, 54, 4, 21, 4, 42, 182, 0, 131, 162, 0, 58, 28, 21, 4, 122, 4, 126, 4, 159, 0, 42]
abbrev dktX0_lostNow_1 : List UInt8 := dkwX0_lostNow_1 ++ dktX0_lostNow_2
def dkwX0_lostNow_0 : List UInt8 := [42, 182, 1, 1, 60, 42, 180, 0, 93, 42, 180, 0, 94, 2, 182, 0, 196, 61, 4, 62, 29, 153, 0, 75]
abbrev dktX0_lostNow_0 : List UInt8 := dkwX0_lostNow_0 ++ dktX0_lostNow_1
theorem dksX0_lostNow_0 : cX0_lostNow.data.toList.drop 0 = dktX0_lostNow_0 := by decide +kernel
theorem dksX0_lostNow_1 : cX0_lostNow.data.toList.drop 24 = dktX0_lostNow_1 := dk_seg dksX0_lostNow_0 24 rfl rfl
theorem dksX0_lostNow_2 : cX0_lostNow.data.toList.drop 48 = dktX0_lostNow_2 := dk_seg dksX0_lostNow_1 24 rfl rfl
theorem dksX0_lostNow_3 : cX0_lostNow.data.toList.drop 71 = dktX0_lostNow_3 := dk_seg dksX0_lostNow_2 23 rfl rfl
theorem dksX0_lostNow_4 : cX0_lostNow.data.toList.drop 93 = dktX0_lostNow_4 := dk_seg dksX0_lostNow_3 22 rfl rfl
theorem dX0_lostNow_0 : decode cX0_lostNow 0 = .ok (.aload_n 0, 1) := dk_42 (dk_at dksX0_lostNow_0 0 rfl rfl)
theorem dX0_lostNow_1 : decode cX0_lostNow 1 = .ok (.invokevirtual 257, 3) := dk_182 1 1 (dk_at dksX0_lostNow_0 1 rfl rfl)
theorem dX0_lostNow_4 : decode cX0_lostNow 4 = .ok (.istore_n 1, 1) := dk_60 (dk_at dksX0_lostNow_0 4 rfl rfl)
theorem dX0_lostNow_5 : decode cX0_lostNow 5 = .ok (.aload_n 0, 1) := dk_42 (dk_at dksX0_lostNow_0 5 rfl rfl)
theorem dX0_lostNow_6 : decode cX0_lostNow 6 = .ok (.getfield 93, 3) := dk_180 0 93 (dk_at dksX0_lostNow_0 6 rfl rfl)
theorem dX0_lostNow_9 : decode cX0_lostNow 9 = .ok (.aload_n 0, 1) := dk_42 (dk_at dksX0_lostNow_0 9 rfl rfl)
theorem dX0_lostNow_10 : decode cX0_lostNow 10 = .ok (.getfield 94, 3) := dk_180 0 94 (dk_at dksX0_lostNow_0 10 rfl rfl)
theorem dX0_lostNow_13 : decode cX0_lostNow 13 = .ok (.iconst (-1), 1) := dk_2 (dk_at dksX0_lostNow_0 13 rfl rfl)
theorem dX0_lostNow_14 : decode cX0_lostNow 14 = .ok (.invokevirtual 196, 3) := dk_182 0 196 (dk_at dksX0_lostNow_0 14 rfl rfl)
theorem dX0_lostNow_17 : decode cX0_lostNow 17 = .ok (.istore_n 2, 1) := dk_61 (dk_at dksX0_lostNow_0 17 rfl rfl)
theorem dX0_lostNow_18 : decode cX0_lostNow 18 = .ok (.iconst 1, 1) := dk_4 (dk_at dksX0_lostNow_0 18 rfl rfl)
theorem dX0_lostNow_19 : decode cX0_lostNow 19 = .ok (.istore_n 3, 1) := dk_62 (dk_at dksX0_lostNow_0 19 rfl rfl)
theorem dX0_lostNow_20 : decode cX0_lostNow 20 = .ok (.iload_n 3, 1) := dk_29 (dk_at dksX0_lostNow_0 20 rfl rfl)
theorem dX0_lostNow_21 : decode cX0_lostNow 21 = .ok (.ifCond .eq 75, 3) := dk_153 0 75 (dk_at dksX0_lostNow_0 21 rfl rfl)
theorem dX0_lostNow_24 : decode cX0_lostNow 24 = .ok (.iconst 0, 1) := dk_3 (dk_at dksX0_lostNow_1 0 rfl rfl)
theorem dX0_lostNow_25 : decode cX0_lostNow 25 = .ok (.istore_n 3, 1) := dk_62 (dk_at dksX0_lostNow_1 1 rfl rfl)
theorem dX0_lostNow_26 : decode cX0_lostNow 26 = .ok (.iconst 0, 1) := dk_3 (dk_at dksX0_lostNow_1 2 rfl rfl)
theorem dX0_lostNow_27 : decode cX0_lostNow 27 = .ok (.istore 4, 2) := dk_54 4 (dk_at dksX0_lostNow_1 3 rfl rfl)
theorem dX0_lostNow_29 : decode cX0_lostNow 29 = .ok (.iload 4, 2) := dk_21 4 (dk_at dksX0_lostNow_1 5 rfl rfl)
theorem dX0_lostNow_31 : decode cX0_lostNow 31 = .ok (.aload_n 0, 1) := dk_42 (dk_at dksX0_lostNow_1 7 rfl rfl)
theorem dX0_lostNow_32 : decode cX0_lostNow 32 = .ok (.invokevirtual 131, 3) := dk_182 0 131 (dk_at dksX0_lostNow_1 8 rfl rfl)
theorem dX0_lostNow_35 : decode cX0_lostNow 35 = .ok (.if_icmp .ge 58, 3) := dk_162 0 58 (dk_at dksX0_lostNow_1 11 rfl rfl)
theorem dX0_lostNow_38 : decode cX0_lostNow 38 = .ok (.iload_n 2, 1) := dk_28 (dk_at dksX0_lostNow_1 14 rfl rfl)
theorem dX0_lostNow_39 : decode cX0_lostNow 39 = .ok (.iload 4, 2) := dk_21 4 (dk_at dksX0_lostNow_1 15 rfl rfl)
theorem dX0_lostNow_41 : decode cX0_lostNow 41 = .ok (.ishr, 1) := dk_122 (dk_at dksX0_lostNow_1 17 rfl rfl)
theorem dX0_lostNow_42 : decode cX0_lostNow 42 = .ok (.iconst 1, 1) := dk_4 (dk_at dksX0_lostNow_1 18 rfl rfl)
theorem dX0_lostNow_43 : decode cX0_lostNow 43 = .ok (.iand, 1) := dk_126 (dk_at dksX0_lostNow_1 19 rfl rfl)
theorem dX0_lostNow_44 : decode cX0_lostNow 44 = .ok (.iconst 1, 1) := dk_4 (dk_at dksX0_lostNow_1 20 rfl rfl)
theorem dX0_lostNow_45 : decode cX0_lostNow 45 = .ok (.if_icmp .eq 42, 3) := dk_159 0 42 (dk_at dksX0_lostNow_1 21 rfl rfl)
theorem dX0_lostNow_48 : decode cX0_lostNow 48 = .ok (.iload_n 1, 1) := dk_27 (dk_at dksX0_lostNow_2 0 rfl rfl)
theorem dX0_lostNow_49 : decode cX0_lostNow 49 = .ok (.iload 4, 2) := dk_21 4 (dk_at dksX0_lostNow_2 1 rfl rfl)
theorem dX0_lostNow_51 : decode cX0_lostNow 51 = .ok (.ishr, 1) := dk_122 (dk_at dksX0_lostNow_2 3 rfl rfl)
theorem dX0_lostNow_52 : decode cX0_lostNow 52 = .ok (.iconst 1, 1) := dk_4 (dk_at dksX0_lostNow_2 4 rfl rfl)
theorem dX0_lostNow_53 : decode cX0_lostNow 53 = .ok (.iand, 1) := dk_126 (dk_at dksX0_lostNow_2 5 rfl rfl)
theorem dX0_lostNow_54 : decode cX0_lostNow 54 = .ok (.ifCond .eq 33, 3) := dk_153 0 33 (dk_at dksX0_lostNow_2 6 rfl rfl)
theorem dX0_lostNow_57 : decode cX0_lostNow 57 = .ok (.aload_n 0, 1) := dk_42 (dk_at dksX0_lostNow_2 9 rfl rfl)
theorem dX0_lostNow_58 : decode cX0_lostNow 58 = .ok (.iload 4, 2) := dk_21 4 (dk_at dksX0_lostNow_2 10 rfl rfl)
theorem dX0_lostNow_60 : decode cX0_lostNow 60 = .ok (.iload_n 2, 1) := dk_28 (dk_at dksX0_lostNow_2 12 rfl rfl)
theorem dX0_lostNow_61 : decode cX0_lostNow 61 = .ok (.invokevirtual 232, 3) := dk_182 0 232 (dk_at dksX0_lostNow_2 13 rfl rfl)
theorem dX0_lostNow_64 : decode cX0_lostNow 64 = .ok (.ifCond .ne 6, 3) := dk_154 0 6 (dk_at dksX0_lostNow_2 16 rfl rfl)
theorem dX0_lostNow_67 : decode cX0_lostNow 67 = .ok (.goto 20, 3) := dk_167 0 20 (dk_at dksX0_lostNow_2 19 rfl rfl)
theorem dX0_lostNow_70 : decode cX0_lostNow 70 = .ok (.aload_n 0, 1) := dk_42 (dk_at dksX0_lostNow_2 22 rfl rfl)
theorem dX0_lostNow_71 : decode cX0_lostNow 71 = .ok (.getfield 93, 3) := dk_180 0 93 (dk_at dksX0_lostNow_3 0 rfl rfl)
theorem dX0_lostNow_74 : decode cX0_lostNow 74 = .ok (.iload_n 2, 1) := dk_28 (dk_at dksX0_lostNow_3 3 rfl rfl)
theorem dX0_lostNow_75 : decode cX0_lostNow 75 = .ok (.iconst 1, 1) := dk_4 (dk_at dksX0_lostNow_3 4 rfl rfl)
theorem dX0_lostNow_76 : decode cX0_lostNow 76 = .ok (.iload 4, 2) := dk_21 4 (dk_at dksX0_lostNow_3 5 rfl rfl)
theorem dX0_lostNow_78 : decode cX0_lostNow 78 = .ok (.ishl, 1) := dk_120 (dk_at dksX0_lostNow_3 7 rfl rfl)
theorem dX0_lostNow_79 : decode cX0_lostNow 79 = .ok (.ior, 1) := dk_128 (dk_at dksX0_lostNow_3 8 rfl rfl)
theorem dX0_lostNow_80 : decode cX0_lostNow 80 = .ok (.iconst (-1), 1) := dk_2 (dk_at dksX0_lostNow_3 9 rfl rfl)
theorem dX0_lostNow_81 : decode cX0_lostNow 81 = .ok (.invokevirtual 196, 3) := dk_182 0 196 (dk_at dksX0_lostNow_3 10 rfl rfl)
theorem dX0_lostNow_84 : decode cX0_lostNow 84 = .ok (.istore_n 2, 1) := dk_61 (dk_at dksX0_lostNow_3 13 rfl rfl)
theorem dX0_lostNow_85 : decode cX0_lostNow 85 = .ok (.iconst 1, 1) := dk_4 (dk_at dksX0_lostNow_3 14 rfl rfl)
theorem dX0_lostNow_86 : decode cX0_lostNow 86 = .ok (.istore_n 3, 1) := dk_62 (dk_at dksX0_lostNow_3 15 rfl rfl)
theorem dX0_lostNow_87 : decode cX0_lostNow 87 = .ok (.iinc 4 1, 3) := dk_132 4 1 (dk_at dksX0_lostNow_3 16 rfl rfl)
theorem dX0_lostNow_90 : decode cX0_lostNow 90 = .ok (.goto (-61), 3) := dk_167 255 195 (dk_at dksX0_lostNow_3 19 rfl rfl)
theorem dX0_lostNow_93 : decode cX0_lostNow 93 = .ok (.goto (-73), 3) := dk_167 255 183 (dk_at dksX0_lostNow_4 0 rfl rfl)
theorem dX0_lostNow_96 : decode cX0_lostNow 96 = .ok (.iconst 1, 1) := dk_4 (dk_at dksX0_lostNow_4 3 rfl rfl)
theorem dX0_lostNow_97 : decode cX0_lostNow 97 = .ok (.aload_n 0, 1) := dk_42 (dk_at dksX0_lostNow_4 4 rfl rfl)
theorem dX0_lostNow_98 : decode cX0_lostNow 98 = .ok (.invokevirtual 131, 3) := dk_182 0 131 (dk_at dksX0_lostNow_4 5 rfl rfl)
theorem dX0_lostNow_101 : decode cX0_lostNow 101 = .ok (.ishl, 1) := dk_120 (dk_at dksX0_lostNow_4 8 rfl rfl)
theorem dX0_lostNow_102 : decode cX0_lostNow 102 = .ok (.iconst 1, 1) := dk_4 (dk_at dksX0_lostNow_4 9 rfl rfl)
theorem dX0_lostNow_103 : decode cX0_lostNow 103 = .ok (.isub, 1) := dk_100 (dk_at dksX0_lostNow_4 10 rfl rfl)
theorem dX0_lostNow_104 : decode cX0_lostNow 104 = .ok (.iload_n 2, 1) := dk_28 (dk_at dksX0_lostNow_4 11 rfl rfl)
theorem dX0_lostNow_105 : decode cX0_lostNow 105 = .ok (.iconst (-1), 1) := dk_2 (dk_at dksX0_lostNow_4 12 rfl rfl)
theorem dX0_lostNow_106 : decode cX0_lostNow 106 = .ok (.ixor, 1) := dk_130 (dk_at dksX0_lostNow_4 13 rfl rfl)
theorem dX0_lostNow_107 : decode cX0_lostNow 107 = .ok (.iand, 1) := dk_126 (dk_at dksX0_lostNow_4 14 rfl rfl)
theorem dX0_lostNow_108 : decode cX0_lostNow 108 = .ok (.ireturn, 1) := dk_172 (dk_at dksX0_lostNow_4 15 rfl rfl)
def dkwX0_value_1 : List UInt8 := [182, 1, 59, 50, 42, 180, 0, 94, 46, 172]
abbrev dktX0_value_1 : List UInt8 := dkwX0_value_1 ++ []
def dkwX0_value_0 : List UInt8 := [42, 27, 182, 1, 54, 154, 0, 5, 2, 172, 42, 27, 182, 1, 57, 42, 180, 0, 49, 27, 50, 42]
abbrev dktX0_value_0 : List UInt8 := dkwX0_value_0 ++ dktX0_value_1
theorem dksX0_value_0 : cX0_value.data.toList.drop 0 = dktX0_value_0 := by decide +kernel
theorem dksX0_value_1 : cX0_value.data.toList.drop 22 = dktX0_value_1 := dk_seg dksX0_value_0 22 rfl rfl
theorem dX0_value_0 : decode cX0_value 0 = .ok (.aload_n 0, 1) := dk_42 (dk_at dksX0_value_0 0 rfl rfl)
theorem dX0_value_1 : decode cX0_value 1 = .ok (.iload_n 1, 1) := dk_27 (dk_at dksX0_value_0 1 rfl rfl)
theorem dX0_value_2 : decode cX0_value 2 = .ok (.invokevirtual 310, 3) := dk_182 1 54 (dk_at dksX0_value_0 2 rfl rfl)
theorem dX0_value_5 : decode cX0_value 5 = .ok (.ifCond .ne 5, 3) := dk_154 0 5 (dk_at dksX0_value_0 5 rfl rfl)
theorem dX0_value_8 : decode cX0_value 8 = .ok (.iconst (-1), 1) := dk_2 (dk_at dksX0_value_0 8 rfl rfl)
theorem dX0_value_9 : decode cX0_value 9 = .ok (.ireturn, 1) := dk_172 (dk_at dksX0_value_0 9 rfl rfl)
theorem dX0_value_10 : decode cX0_value 10 = .ok (.aload_n 0, 1) := dk_42 (dk_at dksX0_value_0 10 rfl rfl)
theorem dX0_value_11 : decode cX0_value 11 = .ok (.iload_n 1, 1) := dk_27 (dk_at dksX0_value_0 11 rfl rfl)
theorem dX0_value_12 : decode cX0_value 12 = .ok (.invokevirtual 313, 3) := dk_182 1 57 (dk_at dksX0_value_0 12 rfl rfl)
theorem dX0_value_15 : decode cX0_value 15 = .ok (.aload_n 0, 1) := dk_42 (dk_at dksX0_value_0 15 rfl rfl)
theorem dX0_value_16 : decode cX0_value 16 = .ok (.getfield 49, 3) := dk_180 0 49 (dk_at dksX0_value_0 16 rfl rfl)
theorem dX0_value_19 : decode cX0_value 19 = .ok (.iload_n 1, 1) := dk_27 (dk_at dksX0_value_0 19 rfl rfl)
theorem dX0_value_20 : decode cX0_value 20 = .ok (.aaload, 1) := dk_50 (dk_at dksX0_value_0 20 rfl rfl)
theorem dX0_value_21 : decode cX0_value 21 = .ok (.aload_n 0, 1) := dk_42 (dk_at dksX0_value_0 21 rfl rfl)
theorem dX0_value_22 : decode cX0_value 22 = .ok (.invokevirtual 315, 3) := dk_182 1 59 (dk_at dksX0_value_1 0 rfl rfl)
theorem dX0_value_25 : decode cX0_value 25 = .ok (.aaload, 1) := dk_50 (dk_at dksX0_value_1 3 rfl rfl)
theorem dX0_value_26 : decode cX0_value 26 = .ok (.aload_n 0, 1) := dk_42 (dk_at dksX0_value_1 4 rfl rfl)
theorem dX0_value_27 : decode cX0_value 27 = .ok (.getfield 94, 3) := dk_180 0 94 (dk_at dksX0_value_1 5 rfl rfl)
theorem dX0_value_30 : decode cX0_value 30 = .ok (.iaload, 1) := dk_46 (dk_at dksX0_value_1 8 rfl rfl)
theorem dX0_value_31 : decode cX0_value 31 = .ok (.ireturn, 1) := dk_172 (dk_at dksX0_value_1 9 rfl rfl)
def dkwX0_areLeft_1 : List UInt8 := [172]
abbrev dktX0_areLeft_1 : List UInt8 := dkwX0_areLeft_1 ++ []
def dkwX0_areLeft_0 : List UInt8 := [42, 180, 0, 93, 198, 0, 19, 27, 133, 9, 20, 1, 52, 184, 0, 15, 153, 0, 7, 4, 167, 0, 4, 3]
abbrev dktX0_areLeft_0 : List UInt8 := dkwX0_areLeft_0 ++ dktX0_areLeft_1
theorem dksX0_areLeft_0 : cX0_areLeft.data.toList.drop 0 = dktX0_areLeft_0 := by decide +kernel
theorem dksX0_areLeft_1 : cX0_areLeft.data.toList.drop 24 = dktX0_areLeft_1 := dk_seg dksX0_areLeft_0 24 rfl rfl
theorem dX0_areLeft_0 : decode cX0_areLeft 0 = .ok (.aload_n 0, 1) := dk_42 (dk_at dksX0_areLeft_0 0 rfl rfl)
theorem dX0_areLeft_1 : decode cX0_areLeft 1 = .ok (.getfield 93, 3) := dk_180 0 93 (dk_at dksX0_areLeft_0 1 rfl rfl)
theorem dX0_areLeft_4 : decode cX0_areLeft 4 = .ok (.ifnull 19, 3) := dk_198 0 19 (dk_at dksX0_areLeft_0 4 rfl rfl)
theorem dX0_areLeft_7 : decode cX0_areLeft 7 = .ok (.iload_n 1, 1) := dk_27 (dk_at dksX0_areLeft_0 7 rfl rfl)
theorem dX0_areLeft_8 : decode cX0_areLeft 8 = .ok (.i2l, 1) := dk_133 (dk_at dksX0_areLeft_0 8 rfl rfl)
theorem dX0_areLeft_9 : decode cX0_areLeft 9 = .ok (.lconst 0, 1) := dk_9 (dk_at dksX0_areLeft_0 9 rfl rfl)
theorem dX0_areLeft_10 : decode cX0_areLeft 10 = .ok (.ldc2_w 308, 3) := dk_20 1 52 (dk_at dksX0_areLeft_0 10 rfl rfl)
theorem dX0_areLeft_13 : decode cX0_areLeft 13 = .ok (.invokestatic 15, 3) := dk_184 0 15 (dk_at dksX0_areLeft_0 13 rfl rfl)
theorem dX0_areLeft_16 : decode cX0_areLeft 16 = .ok (.ifCond .eq 7, 3) := dk_153 0 7 (dk_at dksX0_areLeft_0 16 rfl rfl)
theorem dX0_areLeft_19 : decode cX0_areLeft 19 = .ok (.iconst 1, 1) := dk_4 (dk_at dksX0_areLeft_0 19 rfl rfl)
theorem dX0_areLeft_20 : decode cX0_areLeft 20 = .ok (.goto 4, 3) := dk_167 0 4 (dk_at dksX0_areLeft_0 20 rfl rfl)
theorem dX0_areLeft_23 : decode cX0_areLeft 23 = .ok (.iconst 0, 1) := dk_3 (dk_at dksX0_areLeft_0 23 rfl rfl)
theorem dX0_areLeft_24 : decode cX0_areLeft 24 = .ok (.ireturn, 1) := dk_172 (dk_at dksX0_areLeft_1 0 rfl rfl)
def dkwX0_values_3 : List UInt8 := [167, 255, 197, 132, 2, 1, 167, 255, 184, 177]
abbrev dktX0_values_3 : List UInt8 := dkwX0_values_3 ++ []
def dkwX0_values_2 : List UInt8 := [29, 50, 21, 4, 42, 28, 29, 21, 4, 182, 1, 33, 79, 132, 4, 255, 167, 255, 229, 132, 3, 1]
abbrev dktX0_values_2 : List UInt8 := dkwX0_values_2 ++ dktX0_values_3
def dkwX0_values_1 : List UInt8 := [162, 0, 49, 4, 42, 182, 0, 131, 120, 4, 100, 54, 4, 21, 4, 155, 0, 28, 42, 180, 0, 49, 28, 50]
abbrev dktX0_values_1 : List UInt8 := dkwX0_values_1 ++ dktX0_values_2
def dkwX0_values_0 : List UInt8 := [3, 61, 28, 27, 163, 0, 73, 3, 62, 29, 4, 42, 180, 0, 93, 180, 0, 134, 182, 0, 126, 120]
abbrev dktX0_values_0 : List UInt8 := dkwX0_values_0 ++ dktX0_values_1
theorem dksX0_values_0 : cX0_values.data.toList.drop 0 = dktX0_values_0 := by decide +kernel
theorem dksX0_values_1 : cX0_values.data.toList.drop 22 = dktX0_values_1 := dk_seg dksX0_values_0 22 rfl rfl
theorem dksX0_values_2 : cX0_values.data.toList.drop 46 = dktX0_values_2 := dk_seg dksX0_values_1 24 rfl rfl
theorem dksX0_values_3 : cX0_values.data.toList.drop 68 = dktX0_values_3 := dk_seg dksX0_values_2 22 rfl rfl
theorem dX0_values_0 : decode cX0_values 0 = .ok (.iconst 0, 1) := dk_3 (dk_at dksX0_values_0 0 rfl rfl)
theorem dX0_values_1 : decode cX0_values 1 = .ok (.istore_n 2, 1) := dk_61 (dk_at dksX0_values_0 1 rfl rfl)
theorem dX0_values_2 : decode cX0_values 2 = .ok (.iload_n 2, 1) := dk_28 (dk_at dksX0_values_0 2 rfl rfl)
theorem dX0_values_3 : decode cX0_values 3 = .ok (.iload_n 1, 1) := dk_27 (dk_at dksX0_values_0 3 rfl rfl)
theorem dX0_values_4 : decode cX0_values 4 = .ok (.if_icmp .gt 73, 3) := dk_163 0 73 (dk_at dksX0_values_0 4 rfl rfl)
theorem dX0_values_7 : decode cX0_values 7 = .ok (.iconst 0, 1) := dk_3 (dk_at dksX0_values_0 7 rfl rfl)
theorem dX0_values_8 : decode cX0_values 8 = .ok (.istore_n 3, 1) := dk_62 (dk_at dksX0_values_0 8 rfl rfl)
theorem dX0_values_9 : decode cX0_values 9 = .ok (.iload_n 3, 1) := dk_29 (dk_at dksX0_values_0 9 rfl rfl)
theorem dX0_values_10 : decode cX0_values 10 = .ok (.iconst 1, 1) := dk_4 (dk_at dksX0_values_0 10 rfl rfl)
theorem dX0_values_11 : decode cX0_values 11 = .ok (.aload_n 0, 1) := dk_42 (dk_at dksX0_values_0 11 rfl rfl)
theorem dX0_values_12 : decode cX0_values 12 = .ok (.getfield 93, 3) := dk_180 0 93 (dk_at dksX0_values_0 12 rfl rfl)
theorem dX0_values_15 : decode cX0_values 15 = .ok (.getfield 134, 3) := dk_180 0 134 (dk_at dksX0_values_0 15 rfl rfl)
theorem dX0_values_18 : decode cX0_values 18 = .ok (.invokevirtual 126, 3) := dk_182 0 126 (dk_at dksX0_values_0 18 rfl rfl)
theorem dX0_values_21 : decode cX0_values 21 = .ok (.ishl, 1) := dk_120 (dk_at dksX0_values_0 21 rfl rfl)
theorem dX0_values_22 : decode cX0_values 22 = .ok (.if_icmp .ge 49, 3) := dk_162 0 49 (dk_at dksX0_values_1 0 rfl rfl)
theorem dX0_values_25 : decode cX0_values 25 = .ok (.iconst 1, 1) := dk_4 (dk_at dksX0_values_1 3 rfl rfl)
theorem dX0_values_26 : decode cX0_values 26 = .ok (.aload_n 0, 1) := dk_42 (dk_at dksX0_values_1 4 rfl rfl)
theorem dX0_values_27 : decode cX0_values 27 = .ok (.invokevirtual 131, 3) := dk_182 0 131 (dk_at dksX0_values_1 5 rfl rfl)
theorem dX0_values_30 : decode cX0_values 30 = .ok (.ishl, 1) := dk_120 (dk_at dksX0_values_1 8 rfl rfl)
theorem dX0_values_31 : decode cX0_values 31 = .ok (.iconst 1, 1) := dk_4 (dk_at dksX0_values_1 9 rfl rfl)
theorem dX0_values_32 : decode cX0_values 32 = .ok (.isub, 1) := dk_100 (dk_at dksX0_values_1 10 rfl rfl)
theorem dX0_values_33 : decode cX0_values 33 = .ok (.istore 4, 2) := dk_54 4 (dk_at dksX0_values_1 11 rfl rfl)
theorem dX0_values_35 : decode cX0_values 35 = .ok (.iload 4, 2) := dk_21 4 (dk_at dksX0_values_1 13 rfl rfl)
theorem dX0_values_37 : decode cX0_values 37 = .ok (.ifCond .lt 28, 3) := dk_155 0 28 (dk_at dksX0_values_1 15 rfl rfl)
theorem dX0_values_40 : decode cX0_values 40 = .ok (.aload_n 0, 1) := dk_42 (dk_at dksX0_values_1 18 rfl rfl)
theorem dX0_values_41 : decode cX0_values 41 = .ok (.getfield 49, 3) := dk_180 0 49 (dk_at dksX0_values_1 19 rfl rfl)
theorem dX0_values_44 : decode cX0_values 44 = .ok (.iload_n 2, 1) := dk_28 (dk_at dksX0_values_1 22 rfl rfl)
theorem dX0_values_45 : decode cX0_values 45 = .ok (.aaload, 1) := dk_50 (dk_at dksX0_values_1 23 rfl rfl)
theorem dX0_values_46 : decode cX0_values 46 = .ok (.iload_n 3, 1) := dk_29 (dk_at dksX0_values_2 0 rfl rfl)
theorem dX0_values_47 : decode cX0_values 47 = .ok (.aaload, 1) := dk_50 (dk_at dksX0_values_2 1 rfl rfl)
theorem dX0_values_48 : decode cX0_values 48 = .ok (.iload 4, 2) := dk_21 4 (dk_at dksX0_values_2 2 rfl rfl)
theorem dX0_values_50 : decode cX0_values 50 = .ok (.aload_n 0, 1) := dk_42 (dk_at dksX0_values_2 4 rfl rfl)
theorem dX0_values_51 : decode cX0_values 51 = .ok (.iload_n 2, 1) := dk_28 (dk_at dksX0_values_2 5 rfl rfl)
theorem dX0_values_52 : decode cX0_values 52 = .ok (.iload_n 3, 1) := dk_29 (dk_at dksX0_values_2 6 rfl rfl)
theorem dX0_values_53 : decode cX0_values 53 = .ok (.iload 4, 2) := dk_21 4 (dk_at dksX0_values_2 7 rfl rfl)
theorem dX0_values_55 : decode cX0_values 55 = .ok (.invokevirtual 289, 3) := dk_182 1 33 (dk_at dksX0_values_2 9 rfl rfl)
theorem dX0_values_58 : decode cX0_values 58 = .ok (.iastore, 1) := dk_79 (dk_at dksX0_values_2 12 rfl rfl)
theorem dX0_values_59 : decode cX0_values 59 = .ok (.iinc 4 (-1), 3) := dk_132 4 255 (dk_at dksX0_values_2 13 rfl rfl)
theorem dX0_values_62 : decode cX0_values 62 = .ok (.goto (-27), 3) := dk_167 255 229 (dk_at dksX0_values_2 16 rfl rfl)
theorem dX0_values_65 : decode cX0_values 65 = .ok (.iinc 3 1, 3) := dk_132 3 1 (dk_at dksX0_values_2 19 rfl rfl)
theorem dX0_values_68 : decode cX0_values 68 = .ok (.goto (-59), 3) := dk_167 255 197 (dk_at dksX0_values_3 0 rfl rfl)
theorem dX0_values_71 : decode cX0_values 71 = .ok (.iinc 2 1, 3) := dk_132 2 1 (dk_at dksX0_values_3 3 rfl rfl)
theorem dX0_values_74 : decode cX0_values 74 = .ok (.goto (-72), 3) := dk_167 255 184 (dk_at dksX0_values_3 6 rfl rfl)
theorem dX0_values_77 : decode cX0_values 77 = .ok (.return_, 1) := dk_177 (dk_at dksX0_values_3 9 rfl rfl)
def dkwX0_valueOf_8 : List UInt8 := [182, 0, 200, 104, 167, 0, 5, 21, 4, 172]
abbrev dktX0_valueOf_8 : List UInt8 := dkwX0_valueOf_8 ++ []
def dkwX0_valueOf_7 : List UInt8 := [132, 5, 1, 167, 255, 101, 42, 180, 1, 37, 2, 160, 0, 18, 17, 3, 232, 42, 180, 0, 93, 29]
abbrev dktX0_valueOf_7 : List UInt8 := dkwX0_valueOf_7 ++ dktX0_valueOf_8
def dkwX0_valueOf_6 : List UInt8 := [21, 7, 54, 4, 42, 21, 5, 181, 1, 37, 42, 21, 6, 181, 1, 43, 132, 6, 1, 167, 255, 137]
abbrev dktX0_valueOf_6 : List UInt8 := dkwX0_valueOf_6 ++ dktX0_valueOf_7
def dkwX0_valueOf_5 : List UInt8 := [182, 1, 40, 54, 7, 42, 180, 1, 37, 2, 159, 0, 13, 21, 7, 21, 4, 163, 0, 6, 167, 0, 19]
abbrev dktX0_valueOf_5 : List UInt8 := dkwX0_valueOf_5 ++ dktX0_valueOf_6
def dkwX0_valueOf_4 : List UInt8 := [164, 0, 6, 167, 0, 60, 42, 27, 28, 29, 42, 21, 5, 182, 0, 171, 180, 0, 184, 21, 6, 46, 21, 6]
abbrev dktX0_valueOf_4 : List UInt8 := dkwX0_valueOf_4 ++ dktX0_valueOf_5
def dkwX0_valueOf_3 : List UInt8 := [159, 0, 86, 42, 21, 6, 29, 182, 0, 232, 153, 0, 76, 42, 21, 6, 182, 0, 149, 180, 0, 156, 27]
abbrev dktX0_valueOf_3 : List UInt8 := dkwX0_valueOf_3 ++ dktX0_valueOf_4
def dkwX0_valueOf_2 : List UInt8 := [162, 0, 116, 42, 21, 5, 182, 0, 171, 21, 6, 182, 0, 187, 153, 0, 96, 29, 21, 6, 122, 4, 126, 4]
abbrev dktX0_valueOf_2 : List UInt8 := dkwX0_valueOf_2 ++ dktX0_valueOf_3
def dkwX0_valueOf_1 : List UInt8 := [162, 0, 146, 28, 21, 5, 122, 4, 126, 154, 0, 6, 167, 0, 128, 3, 54, 6, 21, 6, 42, 182, 0, 131]
abbrev dktX0_valueOf_1 : List UInt8 := dkwX0_valueOf_1 ++ dktX0_valueOf_2
def dkwX0_valueOf_0 : List UInt8 := [42, 2, 181, 1, 37, 3, 54, 4, 3, 54, 5, 21, 5, 42, 180, 0, 93, 180, 0, 134, 182, 0, 126]
abbrev dktX0_valueOf_0 : List UInt8 := dkwX0_valueOf_0 ++ dktX0_valueOf_1
theorem dksX0_valueOf_0 : cX0_valueOf.data.toList.drop 0 = dktX0_valueOf_0 := by decide +kernel
theorem dksX0_valueOf_1 : cX0_valueOf.data.toList.drop 23 = dktX0_valueOf_1 := dk_seg dksX0_valueOf_0 23 rfl rfl
theorem dksX0_valueOf_2 : cX0_valueOf.data.toList.drop 47 = dktX0_valueOf_2 := dk_seg dksX0_valueOf_1 24 rfl rfl
theorem dksX0_valueOf_3 : cX0_valueOf.data.toList.drop 71 = dktX0_valueOf_3 := dk_seg dksX0_valueOf_2 24 rfl rfl
theorem dksX0_valueOf_4 : cX0_valueOf.data.toList.drop 94 = dktX0_valueOf_4 := dk_seg dksX0_valueOf_3 23 rfl rfl
theorem dksX0_valueOf_5 : cX0_valueOf.data.toList.drop 118 = dktX0_valueOf_5 := dk_seg dksX0_valueOf_4 24 rfl rfl
theorem dksX0_valueOf_6 : cX0_valueOf.data.toList.drop 141 = dktX0_valueOf_6 := dk_seg dksX0_valueOf_5 23 rfl rfl
theorem dksX0_valueOf_7 : cX0_valueOf.data.toList.drop 163 = dktX0_valueOf_7 := dk_seg dksX0_valueOf_6 22 rfl rfl
theorem dksX0_valueOf_8 : cX0_valueOf.data.toList.drop 185 = dktX0_valueOf_8 := dk_seg dksX0_valueOf_7 22 rfl rfl
theorem dX0_valueOf_0 : decode cX0_valueOf 0 = .ok (.aload_n 0, 1) := dk_42 (dk_at dksX0_valueOf_0 0 rfl rfl)
theorem dX0_valueOf_1 : decode cX0_valueOf 1 = .ok (.iconst (-1), 1) := dk_2 (dk_at dksX0_valueOf_0 1 rfl rfl)
theorem dX0_valueOf_2 : decode cX0_valueOf 2 = .ok (.putfield 293, 3) := dk_181 1 37 (dk_at dksX0_valueOf_0 2 rfl rfl)
theorem dX0_valueOf_5 : decode cX0_valueOf 5 = .ok (.iconst 0, 1) := dk_3 (dk_at dksX0_valueOf_0 5 rfl rfl)
theorem dX0_valueOf_6 : decode cX0_valueOf 6 = .ok (.istore 4, 2) := dk_54 4 (dk_at dksX0_valueOf_0 6 rfl rfl)
theorem dX0_valueOf_8 : decode cX0_valueOf 8 = .ok (.iconst 0, 1) := dk_3 (dk_at dksX0_valueOf_0 8 rfl rfl)
theorem dX0_valueOf_9 : decode cX0_valueOf 9 = .ok (.istore 5, 2) := dk_54 5 (dk_at dksX0_valueOf_0 9 rfl rfl)
theorem dX0_valueOf_11 : decode cX0_valueOf 11 = .ok (.iload 5, 2) := dk_21 5 (dk_at dksX0_valueOf_0 11 rfl rfl)
theorem dX0_valueOf_13 : decode cX0_valueOf 13 = .ok (.aload_n 0, 1) := dk_42 (dk_at dksX0_valueOf_0 13 rfl rfl)
theorem dX0_valueOf_14 : decode cX0_valueOf 14 = .ok (.getfield 93, 3) := dk_180 0 93 (dk_at dksX0_valueOf_0 14 rfl rfl)
theorem dX0_valueOf_17 : decode cX0_valueOf 17 = .ok (.getfield 134, 3) := dk_180 0 134 (dk_at dksX0_valueOf_0 17 rfl rfl)
theorem dX0_valueOf_20 : decode cX0_valueOf 20 = .ok (.invokevirtual 126, 3) := dk_182 0 126 (dk_at dksX0_valueOf_0 20 rfl rfl)
theorem dX0_valueOf_23 : decode cX0_valueOf 23 = .ok (.if_icmp .ge 146, 3) := dk_162 0 146 (dk_at dksX0_valueOf_1 0 rfl rfl)
theorem dX0_valueOf_26 : decode cX0_valueOf 26 = .ok (.iload_n 2, 1) := dk_28 (dk_at dksX0_valueOf_1 3 rfl rfl)
theorem dX0_valueOf_27 : decode cX0_valueOf 27 = .ok (.iload 5, 2) := dk_21 5 (dk_at dksX0_valueOf_1 4 rfl rfl)
theorem dX0_valueOf_29 : decode cX0_valueOf 29 = .ok (.ishr, 1) := dk_122 (dk_at dksX0_valueOf_1 6 rfl rfl)
theorem dX0_valueOf_30 : decode cX0_valueOf 30 = .ok (.iconst 1, 1) := dk_4 (dk_at dksX0_valueOf_1 7 rfl rfl)
theorem dX0_valueOf_31 : decode cX0_valueOf 31 = .ok (.iand, 1) := dk_126 (dk_at dksX0_valueOf_1 8 rfl rfl)
theorem dX0_valueOf_32 : decode cX0_valueOf 32 = .ok (.ifCond .ne 6, 3) := dk_154 0 6 (dk_at dksX0_valueOf_1 9 rfl rfl)
theorem dX0_valueOf_35 : decode cX0_valueOf 35 = .ok (.goto 128, 3) := dk_167 0 128 (dk_at dksX0_valueOf_1 12 rfl rfl)
theorem dX0_valueOf_38 : decode cX0_valueOf 38 = .ok (.iconst 0, 1) := dk_3 (dk_at dksX0_valueOf_1 15 rfl rfl)
theorem dX0_valueOf_39 : decode cX0_valueOf 39 = .ok (.istore 6, 2) := dk_54 6 (dk_at dksX0_valueOf_1 16 rfl rfl)
theorem dX0_valueOf_41 : decode cX0_valueOf 41 = .ok (.iload 6, 2) := dk_21 6 (dk_at dksX0_valueOf_1 18 rfl rfl)
theorem dX0_valueOf_43 : decode cX0_valueOf 43 = .ok (.aload_n 0, 1) := dk_42 (dk_at dksX0_valueOf_1 20 rfl rfl)
theorem dX0_valueOf_44 : decode cX0_valueOf 44 = .ok (.invokevirtual 131, 3) := dk_182 0 131 (dk_at dksX0_valueOf_1 21 rfl rfl)
theorem dX0_valueOf_47 : decode cX0_valueOf 47 = .ok (.if_icmp .ge 116, 3) := dk_162 0 116 (dk_at dksX0_valueOf_2 0 rfl rfl)
theorem dX0_valueOf_50 : decode cX0_valueOf 50 = .ok (.aload_n 0, 1) := dk_42 (dk_at dksX0_valueOf_2 3 rfl rfl)
theorem dX0_valueOf_51 : decode cX0_valueOf 51 = .ok (.iload 5, 2) := dk_21 5 (dk_at dksX0_valueOf_2 4 rfl rfl)
theorem dX0_valueOf_53 : decode cX0_valueOf 53 = .ok (.invokevirtual 171, 3) := dk_182 0 171 (dk_at dksX0_valueOf_2 6 rfl rfl)
theorem dX0_valueOf_56 : decode cX0_valueOf 56 = .ok (.iload 6, 2) := dk_21 6 (dk_at dksX0_valueOf_2 9 rfl rfl)
theorem dX0_valueOf_58 : decode cX0_valueOf 58 = .ok (.invokevirtual 187, 3) := dk_182 0 187 (dk_at dksX0_valueOf_2 11 rfl rfl)
theorem dX0_valueOf_61 : decode cX0_valueOf 61 = .ok (.ifCond .eq 96, 3) := dk_153 0 96 (dk_at dksX0_valueOf_2 14 rfl rfl)
theorem dX0_valueOf_64 : decode cX0_valueOf 64 = .ok (.iload_n 3, 1) := dk_29 (dk_at dksX0_valueOf_2 17 rfl rfl)
theorem dX0_valueOf_65 : decode cX0_valueOf 65 = .ok (.iload 6, 2) := dk_21 6 (dk_at dksX0_valueOf_2 18 rfl rfl)
theorem dX0_valueOf_67 : decode cX0_valueOf 67 = .ok (.ishr, 1) := dk_122 (dk_at dksX0_valueOf_2 20 rfl rfl)
theorem dX0_valueOf_68 : decode cX0_valueOf 68 = .ok (.iconst 1, 1) := dk_4 (dk_at dksX0_valueOf_2 21 rfl rfl)
theorem dX0_valueOf_69 : decode cX0_valueOf 69 = .ok (.iand, 1) := dk_126 (dk_at dksX0_valueOf_2 22 rfl rfl)
theorem dX0_valueOf_70 : decode cX0_valueOf 70 = .ok (.iconst 1, 1) := dk_4 (dk_at dksX0_valueOf_2 23 rfl rfl)
theorem dX0_valueOf_71 : decode cX0_valueOf 71 = .ok (.if_icmp .eq 86, 3) := dk_159 0 86 (dk_at dksX0_valueOf_3 0 rfl rfl)
theorem dX0_valueOf_74 : decode cX0_valueOf 74 = .ok (.aload_n 0, 1) := dk_42 (dk_at dksX0_valueOf_3 3 rfl rfl)
theorem dX0_valueOf_75 : decode cX0_valueOf 75 = .ok (.iload 6, 2) := dk_21 6 (dk_at dksX0_valueOf_3 4 rfl rfl)
theorem dX0_valueOf_77 : decode cX0_valueOf 77 = .ok (.iload_n 3, 1) := dk_29 (dk_at dksX0_valueOf_3 6 rfl rfl)
theorem dX0_valueOf_78 : decode cX0_valueOf 78 = .ok (.invokevirtual 232, 3) := dk_182 0 232 (dk_at dksX0_valueOf_3 7 rfl rfl)
theorem dX0_valueOf_81 : decode cX0_valueOf 81 = .ok (.ifCond .eq 76, 3) := dk_153 0 76 (dk_at dksX0_valueOf_3 10 rfl rfl)
theorem dX0_valueOf_84 : decode cX0_valueOf 84 = .ok (.aload_n 0, 1) := dk_42 (dk_at dksX0_valueOf_3 13 rfl rfl)
theorem dX0_valueOf_85 : decode cX0_valueOf 85 = .ok (.iload 6, 2) := dk_21 6 (dk_at dksX0_valueOf_3 14 rfl rfl)
theorem dX0_valueOf_87 : decode cX0_valueOf 87 = .ok (.invokevirtual 149, 3) := dk_182 0 149 (dk_at dksX0_valueOf_3 16 rfl rfl)
theorem dX0_valueOf_90 : decode cX0_valueOf 90 = .ok (.getfield 156, 3) := dk_180 0 156 (dk_at dksX0_valueOf_3 19 rfl rfl)
theorem dX0_valueOf_93 : decode cX0_valueOf 93 = .ok (.iload_n 1, 1) := dk_27 (dk_at dksX0_valueOf_3 22 rfl rfl)
theorem dX0_valueOf_94 : decode cX0_valueOf 94 = .ok (.if_icmp .le 6, 3) := dk_164 0 6 (dk_at dksX0_valueOf_4 0 rfl rfl)
theorem dX0_valueOf_97 : decode cX0_valueOf 97 = .ok (.goto 60, 3) := dk_167 0 60 (dk_at dksX0_valueOf_4 3 rfl rfl)
theorem dX0_valueOf_100 : decode cX0_valueOf 100 = .ok (.aload_n 0, 1) := dk_42 (dk_at dksX0_valueOf_4 6 rfl rfl)
theorem dX0_valueOf_101 : decode cX0_valueOf 101 = .ok (.iload_n 1, 1) := dk_27 (dk_at dksX0_valueOf_4 7 rfl rfl)
theorem dX0_valueOf_102 : decode cX0_valueOf 102 = .ok (.iload_n 2, 1) := dk_28 (dk_at dksX0_valueOf_4 8 rfl rfl)
theorem dX0_valueOf_103 : decode cX0_valueOf 103 = .ok (.iload_n 3, 1) := dk_29 (dk_at dksX0_valueOf_4 9 rfl rfl)
theorem dX0_valueOf_104 : decode cX0_valueOf 104 = .ok (.aload_n 0, 1) := dk_42 (dk_at dksX0_valueOf_4 10 rfl rfl)
theorem dX0_valueOf_105 : decode cX0_valueOf 105 = .ok (.iload 5, 2) := dk_21 5 (dk_at dksX0_valueOf_4 11 rfl rfl)
theorem dX0_valueOf_107 : decode cX0_valueOf 107 = .ok (.invokevirtual 171, 3) := dk_182 0 171 (dk_at dksX0_valueOf_4 13 rfl rfl)
theorem dX0_valueOf_110 : decode cX0_valueOf 110 = .ok (.getfield 184, 3) := dk_180 0 184 (dk_at dksX0_valueOf_4 16 rfl rfl)
theorem dX0_valueOf_113 : decode cX0_valueOf 113 = .ok (.iload 6, 2) := dk_21 6 (dk_at dksX0_valueOf_4 19 rfl rfl)
theorem dX0_valueOf_115 : decode cX0_valueOf 115 = .ok (.iaload, 1) := dk_46 (dk_at dksX0_valueOf_4 21 rfl rfl)
theorem dX0_valueOf_116 : decode cX0_valueOf 116 = .ok (.iload 6, 2) := dk_21 6 (dk_at dksX0_valueOf_4 22 rfl rfl)
theorem dX0_valueOf_118 : decode cX0_valueOf 118 = .ok (.invokevirtual 296, 3) := dk_182 1 40 (dk_at dksX0_valueOf_5 0 rfl rfl)
theorem dX0_valueOf_121 : decode cX0_valueOf 121 = .ok (.istore 7, 2) := dk_54 7 (dk_at dksX0_valueOf_5 3 rfl rfl)
theorem dX0_valueOf_123 : decode cX0_valueOf 123 = .ok (.aload_n 0, 1) := dk_42 (dk_at dksX0_valueOf_5 5 rfl rfl)
theorem dX0_valueOf_124 : decode cX0_valueOf 124 = .ok (.getfield 293, 3) := dk_180 1 37 (dk_at dksX0_valueOf_5 6 rfl rfl)
theorem dX0_valueOf_127 : decode cX0_valueOf 127 = .ok (.iconst (-1), 1) := dk_2 (dk_at dksX0_valueOf_5 9 rfl rfl)
theorem dX0_valueOf_128 : decode cX0_valueOf 128 = .ok (.if_icmp .eq 13, 3) := dk_159 0 13 (dk_at dksX0_valueOf_5 10 rfl rfl)
theorem dX0_valueOf_131 : decode cX0_valueOf 131 = .ok (.iload 7, 2) := dk_21 7 (dk_at dksX0_valueOf_5 13 rfl rfl)
theorem dX0_valueOf_133 : decode cX0_valueOf 133 = .ok (.iload 4, 2) := dk_21 4 (dk_at dksX0_valueOf_5 15 rfl rfl)
theorem dX0_valueOf_135 : decode cX0_valueOf 135 = .ok (.if_icmp .gt 6, 3) := dk_163 0 6 (dk_at dksX0_valueOf_5 17 rfl rfl)
theorem dX0_valueOf_138 : decode cX0_valueOf 138 = .ok (.goto 19, 3) := dk_167 0 19 (dk_at dksX0_valueOf_5 20 rfl rfl)
theorem dX0_valueOf_141 : decode cX0_valueOf 141 = .ok (.iload 7, 2) := dk_21 7 (dk_at dksX0_valueOf_6 0 rfl rfl)
theorem dX0_valueOf_143 : decode cX0_valueOf 143 = .ok (.istore 4, 2) := dk_54 4 (dk_at dksX0_valueOf_6 2 rfl rfl)
theorem dX0_valueOf_145 : decode cX0_valueOf 145 = .ok (.aload_n 0, 1) := dk_42 (dk_at dksX0_valueOf_6 4 rfl rfl)
theorem dX0_valueOf_146 : decode cX0_valueOf 146 = .ok (.iload 5, 2) := dk_21 5 (dk_at dksX0_valueOf_6 5 rfl rfl)
theorem dX0_valueOf_148 : decode cX0_valueOf 148 = .ok (.putfield 293, 3) := dk_181 1 37 (dk_at dksX0_valueOf_6 7 rfl rfl)
theorem dX0_valueOf_151 : decode cX0_valueOf 151 = .ok (.aload_n 0, 1) := dk_42 (dk_at dksX0_valueOf_6 10 rfl rfl)
theorem dX0_valueOf_152 : decode cX0_valueOf 152 = .ok (.iload 6, 2) := dk_21 6 (dk_at dksX0_valueOf_6 11 rfl rfl)
theorem dX0_valueOf_154 : decode cX0_valueOf 154 = .ok (.putfield 299, 3) := dk_181 1 43 (dk_at dksX0_valueOf_6 13 rfl rfl)
theorem dX0_valueOf_157 : decode cX0_valueOf 157 = .ok (.iinc 6 1, 3) := dk_132 6 1 (dk_at dksX0_valueOf_6 16 rfl rfl)
theorem dX0_valueOf_160 : decode cX0_valueOf 160 = .ok (.goto (-119), 3) := dk_167 255 137 (dk_at dksX0_valueOf_6 19 rfl rfl)
theorem dX0_valueOf_163 : decode cX0_valueOf 163 = .ok (.iinc 5 1, 3) := dk_132 5 1 (dk_at dksX0_valueOf_7 0 rfl rfl)
theorem dX0_valueOf_166 : decode cX0_valueOf 166 = .ok (.goto (-155), 3) := dk_167 255 101 (dk_at dksX0_valueOf_7 3 rfl rfl)
theorem dX0_valueOf_169 : decode cX0_valueOf 169 = .ok (.aload_n 0, 1) := dk_42 (dk_at dksX0_valueOf_7 6 rfl rfl)
theorem dX0_valueOf_170 : decode cX0_valueOf 170 = .ok (.getfield 293, 3) := dk_180 1 37 (dk_at dksX0_valueOf_7 7 rfl rfl)
theorem dX0_valueOf_173 : decode cX0_valueOf 173 = .ok (.iconst (-1), 1) := dk_2 (dk_at dksX0_valueOf_7 10 rfl rfl)
theorem dX0_valueOf_174 : decode cX0_valueOf 174 = .ok (.if_icmp .ne 18, 3) := dk_160 0 18 (dk_at dksX0_valueOf_7 11 rfl rfl)
theorem dX0_valueOf_177 : decode cX0_valueOf 177 = .ok (.sipush 1000, 3) := dk_17 3 232 (dk_at dksX0_valueOf_7 14 rfl rfl)
theorem dX0_valueOf_180 : decode cX0_valueOf 180 = .ok (.aload_n 0, 1) := dk_42 (dk_at dksX0_valueOf_7 17 rfl rfl)
theorem dX0_valueOf_181 : decode cX0_valueOf 181 = .ok (.getfield 93, 3) := dk_180 0 93 (dk_at dksX0_valueOf_7 18 rfl rfl)
theorem dX0_valueOf_184 : decode cX0_valueOf 184 = .ok (.iload_n 3, 1) := dk_29 (dk_at dksX0_valueOf_7 21 rfl rfl)
theorem dX0_valueOf_185 : decode cX0_valueOf 185 = .ok (.invokevirtual 200, 3) := dk_182 0 200 (dk_at dksX0_valueOf_8 0 rfl rfl)
theorem dX0_valueOf_188 : decode cX0_valueOf 188 = .ok (.imul, 1) := dk_104 (dk_at dksX0_valueOf_8 3 rfl rfl)
theorem dX0_valueOf_189 : decode cX0_valueOf 189 = .ok (.goto 5, 3) := dk_167 0 5 (dk_at dksX0_valueOf_8 4 rfl rfl)
theorem dX0_valueOf_192 : decode cX0_valueOf 192 = .ok (.iload 4, 2) := dk_21 4 (dk_at dksX0_valueOf_8 7 rfl rfl)
theorem dX0_valueOf_194 : decode cX0_valueOf 194 = .ok (.ireturn, 1) := dk_172 (dk_at dksX0_valueOf_8 9 rfl rfl)
def dkwX0_asked_4 : List UInt8 := [55, 10, 21, 4, 133, 22, 8, 105, 16, 16, 21, 4, 100, 133, 22, 10, 105, 97, 20, 1, 50, 109, 136, 172]
abbrev dktX0_asked_4 : List UInt8 := dkwX0_asked_4 ++ []
def dkwX0_asked_3 : List UInt8 := [2, 182, 0, 196, 21, 7, 182, 1, 46, 133, 55, 8, 42, 21, 6, 28, 29, 21, 7, 182, 1, 46, 133]
abbrev dktX0_asked_3 : List UInt8 := dkwX0_asked_3 ++ dktX0_asked_4
def dkwX0_asked_2 : List UInt8 := [159, 0, 7, 4, 167, 0, 4, 3, 54, 7, 42, 21, 6, 28, 42, 180, 0, 93, 29, 4, 21, 5, 120, 128]
abbrev dktX0_asked_2 : List UInt8 := dkwX0_asked_2 ++ dktX0_asked_3
def dkwX0_asked_1 : List UInt8 := [21, 6, 4, 100, 42, 180, 0, 93, 180, 0, 221, 96, 42, 180, 0, 93, 180, 0, 221, 108, 4, 100]
abbrev dktX0_asked_1 : List UInt8 := dkwX0_asked_1 ++ dktX0_asked_2
def dkwX0_asked_0 : List UInt8 := [27, 42, 21, 5, 182, 0, 149, 180, 0, 156, 100, 54, 6, 27, 4, 100, 42, 180, 0, 93, 180, 0, 221, 108]
abbrev dktX0_asked_0 : List UInt8 := dkwX0_asked_0 ++ dktX0_asked_1
theorem dksX0_asked_0 : cX0_asked.data.toList.drop 0 = dktX0_asked_0 := by decide +kernel
theorem dksX0_asked_1 : cX0_asked.data.toList.drop 24 = dktX0_asked_1 := dk_seg dksX0_asked_0 24 rfl rfl
theorem dksX0_asked_2 : cX0_asked.data.toList.drop 46 = dktX0_asked_2 := dk_seg dksX0_asked_1 22 rfl rfl
theorem dksX0_asked_3 : cX0_asked.data.toList.drop 70 = dktX0_asked_3 := dk_seg dksX0_asked_2 24 rfl rfl
theorem dksX0_asked_4 : cX0_asked.data.toList.drop 93 = dktX0_asked_4 := dk_seg dksX0_asked_3 23 rfl rfl
theorem dX0_asked_0 : decode cX0_asked 0 = .ok (.iload_n 1, 1) := dk_27 (dk_at dksX0_asked_0 0 rfl rfl)
theorem dX0_asked_1 : decode cX0_asked 1 = .ok (.aload_n 0, 1) := dk_42 (dk_at dksX0_asked_0 1 rfl rfl)
theorem dX0_asked_2 : decode cX0_asked 2 = .ok (.iload 5, 2) := dk_21 5 (dk_at dksX0_asked_0 2 rfl rfl)
theorem dX0_asked_4 : decode cX0_asked 4 = .ok (.invokevirtual 149, 3) := dk_182 0 149 (dk_at dksX0_asked_0 4 rfl rfl)
theorem dX0_asked_7 : decode cX0_asked 7 = .ok (.getfield 156, 3) := dk_180 0 156 (dk_at dksX0_asked_0 7 rfl rfl)
theorem dX0_asked_10 : decode cX0_asked 10 = .ok (.isub, 1) := dk_100 (dk_at dksX0_asked_0 10 rfl rfl)
theorem dX0_asked_11 : decode cX0_asked 11 = .ok (.istore 6, 2) := dk_54 6 (dk_at dksX0_asked_0 11 rfl rfl)
theorem dX0_asked_13 : decode cX0_asked 13 = .ok (.iload_n 1, 1) := dk_27 (dk_at dksX0_asked_0 13 rfl rfl)
theorem dX0_asked_14 : decode cX0_asked 14 = .ok (.iconst 1, 1) := dk_4 (dk_at dksX0_asked_0 14 rfl rfl)
theorem dX0_asked_15 : decode cX0_asked 15 = .ok (.isub, 1) := dk_100 (dk_at dksX0_asked_0 15 rfl rfl)
theorem dX0_asked_16 : decode cX0_asked 16 = .ok (.aload_n 0, 1) := dk_42 (dk_at dksX0_asked_0 16 rfl rfl)
theorem dX0_asked_17 : decode cX0_asked 17 = .ok (.getfield 93, 3) := dk_180 0 93 (dk_at dksX0_asked_0 17 rfl rfl)
theorem dX0_asked_20 : decode cX0_asked 20 = .ok (.getfield 221, 3) := dk_180 0 221 (dk_at dksX0_asked_0 20 rfl rfl)
theorem dX0_asked_23 : decode cX0_asked 23 = .ok (.idiv, 1) := dk_108 (dk_at dksX0_asked_0 23 rfl rfl)
theorem dX0_asked_24 : decode cX0_asked 24 = .ok (.iload 6, 2) := dk_21 6 (dk_at dksX0_asked_1 0 rfl rfl)
theorem dX0_asked_26 : decode cX0_asked 26 = .ok (.iconst 1, 1) := dk_4 (dk_at dksX0_asked_1 2 rfl rfl)
theorem dX0_asked_27 : decode cX0_asked 27 = .ok (.isub, 1) := dk_100 (dk_at dksX0_asked_1 3 rfl rfl)
theorem dX0_asked_28 : decode cX0_asked 28 = .ok (.aload_n 0, 1) := dk_42 (dk_at dksX0_asked_1 4 rfl rfl)
theorem dX0_asked_29 : decode cX0_asked 29 = .ok (.getfield 93, 3) := dk_180 0 93 (dk_at dksX0_asked_1 5 rfl rfl)
theorem dX0_asked_32 : decode cX0_asked 32 = .ok (.getfield 221, 3) := dk_180 0 221 (dk_at dksX0_asked_1 8 rfl rfl)
theorem dX0_asked_35 : decode cX0_asked 35 = .ok (.iadd, 1) := dk_96 (dk_at dksX0_asked_1 11 rfl rfl)
theorem dX0_asked_36 : decode cX0_asked 36 = .ok (.aload_n 0, 1) := dk_42 (dk_at dksX0_asked_1 12 rfl rfl)
theorem dX0_asked_37 : decode cX0_asked 37 = .ok (.getfield 93, 3) := dk_180 0 93 (dk_at dksX0_asked_1 13 rfl rfl)
theorem dX0_asked_40 : decode cX0_asked 40 = .ok (.getfield 221, 3) := dk_180 0 221 (dk_at dksX0_asked_1 16 rfl rfl)
theorem dX0_asked_43 : decode cX0_asked 43 = .ok (.idiv, 1) := dk_108 (dk_at dksX0_asked_1 19 rfl rfl)
theorem dX0_asked_44 : decode cX0_asked 44 = .ok (.iconst 1, 1) := dk_4 (dk_at dksX0_asked_1 20 rfl rfl)
theorem dX0_asked_45 : decode cX0_asked 45 = .ok (.isub, 1) := dk_100 (dk_at dksX0_asked_1 21 rfl rfl)
theorem dX0_asked_46 : decode cX0_asked 46 = .ok (.if_icmp .eq 7, 3) := dk_159 0 7 (dk_at dksX0_asked_2 0 rfl rfl)
theorem dX0_asked_49 : decode cX0_asked 49 = .ok (.iconst 1, 1) := dk_4 (dk_at dksX0_asked_2 3 rfl rfl)
theorem dX0_asked_50 : decode cX0_asked 50 = .ok (.goto 4, 3) := dk_167 0 4 (dk_at dksX0_asked_2 4 rfl rfl)
theorem dX0_asked_53 : decode cX0_asked 53 = .ok (.iconst 0, 1) := dk_3 (dk_at dksX0_asked_2 7 rfl rfl)
theorem dX0_asked_54 : decode cX0_asked 54 = .ok (.istore 7, 2) := dk_54 7 (dk_at dksX0_asked_2 8 rfl rfl)
theorem dX0_asked_56 : decode cX0_asked 56 = .ok (.aload_n 0, 1) := dk_42 (dk_at dksX0_asked_2 10 rfl rfl)
theorem dX0_asked_57 : decode cX0_asked 57 = .ok (.iload 6, 2) := dk_21 6 (dk_at dksX0_asked_2 11 rfl rfl)
theorem dX0_asked_59 : decode cX0_asked 59 = .ok (.iload_n 2, 1) := dk_28 (dk_at dksX0_asked_2 13 rfl rfl)
theorem dX0_asked_60 : decode cX0_asked 60 = .ok (.aload_n 0, 1) := dk_42 (dk_at dksX0_asked_2 14 rfl rfl)
theorem dX0_asked_61 : decode cX0_asked 61 = .ok (.getfield 93, 3) := dk_180 0 93 (dk_at dksX0_asked_2 15 rfl rfl)
theorem dX0_asked_64 : decode cX0_asked 64 = .ok (.iload_n 3, 1) := dk_29 (dk_at dksX0_asked_2 18 rfl rfl)
theorem dX0_asked_65 : decode cX0_asked 65 = .ok (.iconst 1, 1) := dk_4 (dk_at dksX0_asked_2 19 rfl rfl)
theorem dX0_asked_66 : decode cX0_asked 66 = .ok (.iload 5, 2) := dk_21 5 (dk_at dksX0_asked_2 20 rfl rfl)
theorem dX0_asked_68 : decode cX0_asked 68 = .ok (.ishl, 1) := dk_120 (dk_at dksX0_asked_2 22 rfl rfl)
theorem dX0_asked_69 : decode cX0_asked 69 = .ok (.ior, 1) := dk_128 (dk_at dksX0_asked_2 23 rfl rfl)
theorem dX0_asked_70 : decode cX0_asked 70 = .ok (.iconst (-1), 1) := dk_2 (dk_at dksX0_asked_3 0 rfl rfl)
theorem dX0_asked_71 : decode cX0_asked 71 = .ok (.invokevirtual 196, 3) := dk_182 0 196 (dk_at dksX0_asked_3 1 rfl rfl)
theorem dX0_asked_74 : decode cX0_asked 74 = .ok (.iload 7, 2) := dk_21 7 (dk_at dksX0_asked_3 4 rfl rfl)
theorem dX0_asked_76 : decode cX0_asked 76 = .ok (.invokevirtual 302, 3) := dk_182 1 46 (dk_at dksX0_asked_3 6 rfl rfl)
theorem dX0_asked_79 : decode cX0_asked 79 = .ok (.i2l, 1) := dk_133 (dk_at dksX0_asked_3 9 rfl rfl)
theorem dX0_asked_80 : decode cX0_asked 80 = .ok (.lstore 8, 2) := dk_55 8 (dk_at dksX0_asked_3 10 rfl rfl)
theorem dX0_asked_82 : decode cX0_asked 82 = .ok (.aload_n 0, 1) := dk_42 (dk_at dksX0_asked_3 12 rfl rfl)
theorem dX0_asked_83 : decode cX0_asked 83 = .ok (.iload 6, 2) := dk_21 6 (dk_at dksX0_asked_3 13 rfl rfl)
theorem dX0_asked_85 : decode cX0_asked 85 = .ok (.iload_n 2, 1) := dk_28 (dk_at dksX0_asked_3 15 rfl rfl)
theorem dX0_asked_86 : decode cX0_asked 86 = .ok (.iload_n 3, 1) := dk_29 (dk_at dksX0_asked_3 16 rfl rfl)
theorem dX0_asked_87 : decode cX0_asked 87 = .ok (.iload 7, 2) := dk_21 7 (dk_at dksX0_asked_3 17 rfl rfl)
theorem dX0_asked_89 : decode cX0_asked 89 = .ok (.invokevirtual 302, 3) := dk_182 1 46 (dk_at dksX0_asked_3 19 rfl rfl)
theorem dX0_asked_92 : decode cX0_asked 92 = .ok (.i2l, 1) := dk_133 (dk_at dksX0_asked_3 22 rfl rfl)
theorem dX0_asked_93 : decode cX0_asked 93 = .ok (.lstore 10, 2) := dk_55 10 (dk_at dksX0_asked_4 0 rfl rfl)
theorem dX0_asked_95 : decode cX0_asked 95 = .ok (.iload 4, 2) := dk_21 4 (dk_at dksX0_asked_4 2 rfl rfl)
theorem dX0_asked_97 : decode cX0_asked 97 = .ok (.i2l, 1) := dk_133 (dk_at dksX0_asked_4 4 rfl rfl)
theorem dX0_asked_98 : decode cX0_asked 98 = .ok (.lload 8, 2) := dk_22 8 (dk_at dksX0_asked_4 5 rfl rfl)
theorem dX0_asked_100 : decode cX0_asked 100 = .ok (.lmul, 1) := dk_105 (dk_at dksX0_asked_4 7 rfl rfl)
theorem dX0_asked_101 : decode cX0_asked 101 = .ok (.bipush 16, 2) := dk_16 16 (dk_at dksX0_asked_4 8 rfl rfl)
theorem dX0_asked_103 : decode cX0_asked 103 = .ok (.iload 4, 2) := dk_21 4 (dk_at dksX0_asked_4 10 rfl rfl)
theorem dX0_asked_105 : decode cX0_asked 105 = .ok (.isub, 1) := dk_100 (dk_at dksX0_asked_4 12 rfl rfl)
theorem dX0_asked_106 : decode cX0_asked 106 = .ok (.i2l, 1) := dk_133 (dk_at dksX0_asked_4 13 rfl rfl)
theorem dX0_asked_107 : decode cX0_asked 107 = .ok (.lload 10, 2) := dk_22 10 (dk_at dksX0_asked_4 14 rfl rfl)
theorem dX0_asked_109 : decode cX0_asked 109 = .ok (.lmul, 1) := dk_105 (dk_at dksX0_asked_4 16 rfl rfl)
theorem dX0_asked_110 : decode cX0_asked 110 = .ok (.ladd, 1) := dk_97 (dk_at dksX0_asked_4 17 rfl rfl)
theorem dX0_asked_111 : decode cX0_asked 111 = .ok (.ldc2_w 306, 3) := dk_20 1 50 (dk_at dksX0_asked_4 18 rfl rfl)
theorem dX0_asked_114 : decode cX0_asked 114 = .ok (.ldiv, 1) := dk_109 (dk_at dksX0_asked_4 21 rfl rfl)
theorem dX0_asked_115 : decode cX0_asked 115 = .ok (.l2i, 1) := dk_136 (dk_at dksX0_asked_4 22 rfl rfl)
theorem dX0_asked_116 : decode cX0_asked 116 = .ok (.ireturn, 1) := dk_172 (dk_at dksX0_asked_4 23 rfl rfl)
def dkwX0_mean_8 : List UInt8 := [55, 5, 132, 9, 1, 167, 255, 136, 22, 5, 22, 7, 109, 136, 172]
abbrev dktX0_mean_8 : List UInt8 := dkwX0_mean_8 ++ []
def dkwX0_mean_7 : List UInt8 := [132, 12, 1, 167, 255, 186, 22, 5, 22, 10, 42, 180, 0, 49, 27, 50, 21, 9, 50, 29, 46, 133, 105, 97]
abbrev dktX0_mean_7 : List UInt8 := dkwX0_mean_7 ++ dktX0_mean_8
def dkwX0_mean_6 : List UInt8 := [180, 0, 175, 133, 167, 0, 16, 16, 16, 42, 21, 12, 182, 0, 171, 180, 0, 175, 100, 133, 105, 55, 10]
abbrev dktX0_mean_6 : List UInt8 := dkwX0_mean_6 ++ dktX0_mean_7
def dkwX0_mean_5 : List UInt8 := [160, 0, 45, 22, 10, 21, 9, 21, 12, 122, 4, 126, 4, 160, 0, 16, 42, 21, 12, 182, 0, 171]
abbrev dktX0_mean_5 : List UInt8 := dkwX0_mean_5 ++ dktX0_mean_6
def dkwX0_mean_4 : List UInt8 := [21, 12, 42, 180, 0, 93, 180, 0, 134, 182, 0, 126, 162, 0, 61, 28, 21, 12, 122, 4, 126, 4]
abbrev dktX0_mean_4 : List UInt8 := dkwX0_mean_4 ++ dktX0_mean_5
def dkwX0_mean_3 : List UInt8 := [21, 9, 28, 163, 0, 120, 21, 9, 28, 2, 130, 126, 153, 0, 6, 167, 0, 102, 10, 55, 10, 3, 54, 12]
abbrev dktX0_mean_3 : List UInt8 := dkwX0_mean_3 ++ dktX0_mean_4
def dkwX0_mean_2 : List UInt8 := [126, 4, 160, 0, 9, 20, 1, 50, 167, 0, 4, 10, 105, 55, 7, 132, 9, 1, 167, 255, 216, 3, 54, 9]
abbrev dktX0_mean_2 : List UInt8 := dkwX0_mean_2 ++ dktX0_mean_3
def dkwX0_mean_1 : List UInt8 := [54, 9, 21, 9, 42, 180, 0, 93, 180, 0, 134, 182, 0, 126, 162, 0, 31, 22, 7, 28, 21, 9, 122, 4]
abbrev dktX0_mean_1 : List UInt8 := dkwX0_mean_1 ++ dktX0_mean_2
def dkwX0_mean_0 : List UInt8 := [21, 4, 154, 0, 14, 42, 180, 0, 49, 27, 50, 28, 50, 29, 46, 172, 9, 55, 5, 10, 55, 7, 3]
abbrev dktX0_mean_0 : List UInt8 := dkwX0_mean_0 ++ dktX0_mean_1
theorem dksX0_mean_0 : cX0_mean.data.toList.drop 0 = dktX0_mean_0 := by decide +kernel
theorem dksX0_mean_1 : cX0_mean.data.toList.drop 23 = dktX0_mean_1 := dk_seg dksX0_mean_0 23 rfl rfl
theorem dksX0_mean_2 : cX0_mean.data.toList.drop 47 = dktX0_mean_2 := dk_seg dksX0_mean_1 24 rfl rfl
theorem dksX0_mean_3 : cX0_mean.data.toList.drop 71 = dktX0_mean_3 := dk_seg dksX0_mean_2 24 rfl rfl
theorem dksX0_mean_4 : cX0_mean.data.toList.drop 95 = dktX0_mean_4 := dk_seg dksX0_mean_3 24 rfl rfl
theorem dksX0_mean_5 : cX0_mean.data.toList.drop 117 = dktX0_mean_5 := dk_seg dksX0_mean_4 22 rfl rfl
theorem dksX0_mean_6 : cX0_mean.data.toList.drop 139 = dktX0_mean_6 := dk_seg dksX0_mean_5 22 rfl rfl
theorem dksX0_mean_7 : cX0_mean.data.toList.drop 162 = dktX0_mean_7 := dk_seg dksX0_mean_6 23 rfl rfl
theorem dksX0_mean_8 : cX0_mean.data.toList.drop 186 = dktX0_mean_8 := dk_seg dksX0_mean_7 24 rfl rfl
theorem dX0_mean_0 : decode cX0_mean 0 = .ok (.iload 4, 2) := dk_21 4 (dk_at dksX0_mean_0 0 rfl rfl)
theorem dX0_mean_2 : decode cX0_mean 2 = .ok (.ifCond .ne 14, 3) := dk_154 0 14 (dk_at dksX0_mean_0 2 rfl rfl)
theorem dX0_mean_5 : decode cX0_mean 5 = .ok (.aload_n 0, 1) := dk_42 (dk_at dksX0_mean_0 5 rfl rfl)
theorem dX0_mean_6 : decode cX0_mean 6 = .ok (.getfield 49, 3) := dk_180 0 49 (dk_at dksX0_mean_0 6 rfl rfl)
theorem dX0_mean_9 : decode cX0_mean 9 = .ok (.iload_n 1, 1) := dk_27 (dk_at dksX0_mean_0 9 rfl rfl)
theorem dX0_mean_10 : decode cX0_mean 10 = .ok (.aaload, 1) := dk_50 (dk_at dksX0_mean_0 10 rfl rfl)
theorem dX0_mean_11 : decode cX0_mean 11 = .ok (.iload_n 2, 1) := dk_28 (dk_at dksX0_mean_0 11 rfl rfl)
theorem dX0_mean_12 : decode cX0_mean 12 = .ok (.aaload, 1) := dk_50 (dk_at dksX0_mean_0 12 rfl rfl)
theorem dX0_mean_13 : decode cX0_mean 13 = .ok (.iload_n 3, 1) := dk_29 (dk_at dksX0_mean_0 13 rfl rfl)
theorem dX0_mean_14 : decode cX0_mean 14 = .ok (.iaload, 1) := dk_46 (dk_at dksX0_mean_0 14 rfl rfl)
theorem dX0_mean_15 : decode cX0_mean 15 = .ok (.ireturn, 1) := dk_172 (dk_at dksX0_mean_0 15 rfl rfl)
theorem dX0_mean_16 : decode cX0_mean 16 = .ok (.lconst 0, 1) := dk_9 (dk_at dksX0_mean_0 16 rfl rfl)
theorem dX0_mean_17 : decode cX0_mean 17 = .ok (.lstore 5, 2) := dk_55 5 (dk_at dksX0_mean_0 17 rfl rfl)
theorem dX0_mean_19 : decode cX0_mean 19 = .ok (.lconst 1, 1) := dk_10 (dk_at dksX0_mean_0 19 rfl rfl)
theorem dX0_mean_20 : decode cX0_mean 20 = .ok (.lstore 7, 2) := dk_55 7 (dk_at dksX0_mean_0 20 rfl rfl)
theorem dX0_mean_22 : decode cX0_mean 22 = .ok (.iconst 0, 1) := dk_3 (dk_at dksX0_mean_0 22 rfl rfl)
theorem dX0_mean_23 : decode cX0_mean 23 = .ok (.istore 9, 2) := dk_54 9 (dk_at dksX0_mean_1 0 rfl rfl)
theorem dX0_mean_25 : decode cX0_mean 25 = .ok (.iload 9, 2) := dk_21 9 (dk_at dksX0_mean_1 2 rfl rfl)
theorem dX0_mean_27 : decode cX0_mean 27 = .ok (.aload_n 0, 1) := dk_42 (dk_at dksX0_mean_1 4 rfl rfl)
theorem dX0_mean_28 : decode cX0_mean 28 = .ok (.getfield 93, 3) := dk_180 0 93 (dk_at dksX0_mean_1 5 rfl rfl)
theorem dX0_mean_31 : decode cX0_mean 31 = .ok (.getfield 134, 3) := dk_180 0 134 (dk_at dksX0_mean_1 8 rfl rfl)
theorem dX0_mean_34 : decode cX0_mean 34 = .ok (.invokevirtual 126, 3) := dk_182 0 126 (dk_at dksX0_mean_1 11 rfl rfl)
theorem dX0_mean_37 : decode cX0_mean 37 = .ok (.if_icmp .ge 31, 3) := dk_162 0 31 (dk_at dksX0_mean_1 14 rfl rfl)
theorem dX0_mean_40 : decode cX0_mean 40 = .ok (.lload 7, 2) := dk_22 7 (dk_at dksX0_mean_1 17 rfl rfl)
theorem dX0_mean_42 : decode cX0_mean 42 = .ok (.iload_n 2, 1) := dk_28 (dk_at dksX0_mean_1 19 rfl rfl)
theorem dX0_mean_43 : decode cX0_mean 43 = .ok (.iload 9, 2) := dk_21 9 (dk_at dksX0_mean_1 20 rfl rfl)
theorem dX0_mean_45 : decode cX0_mean 45 = .ok (.ishr, 1) := dk_122 (dk_at dksX0_mean_1 22 rfl rfl)
theorem dX0_mean_46 : decode cX0_mean 46 = .ok (.iconst 1, 1) := dk_4 (dk_at dksX0_mean_1 23 rfl rfl)
theorem dX0_mean_47 : decode cX0_mean 47 = .ok (.iand, 1) := dk_126 (dk_at dksX0_mean_2 0 rfl rfl)
theorem dX0_mean_48 : decode cX0_mean 48 = .ok (.iconst 1, 1) := dk_4 (dk_at dksX0_mean_2 1 rfl rfl)
theorem dX0_mean_49 : decode cX0_mean 49 = .ok (.if_icmp .ne 9, 3) := dk_160 0 9 (dk_at dksX0_mean_2 2 rfl rfl)
theorem dX0_mean_52 : decode cX0_mean 52 = .ok (.ldc2_w 306, 3) := dk_20 1 50 (dk_at dksX0_mean_2 5 rfl rfl)
theorem dX0_mean_55 : decode cX0_mean 55 = .ok (.goto 4, 3) := dk_167 0 4 (dk_at dksX0_mean_2 8 rfl rfl)
theorem dX0_mean_58 : decode cX0_mean 58 = .ok (.lconst 1, 1) := dk_10 (dk_at dksX0_mean_2 11 rfl rfl)
theorem dX0_mean_59 : decode cX0_mean 59 = .ok (.lmul, 1) := dk_105 (dk_at dksX0_mean_2 12 rfl rfl)
theorem dX0_mean_60 : decode cX0_mean 60 = .ok (.lstore 7, 2) := dk_55 7 (dk_at dksX0_mean_2 13 rfl rfl)
theorem dX0_mean_62 : decode cX0_mean 62 = .ok (.iinc 9 1, 3) := dk_132 9 1 (dk_at dksX0_mean_2 15 rfl rfl)
theorem dX0_mean_65 : decode cX0_mean 65 = .ok (.goto (-40), 3) := dk_167 255 216 (dk_at dksX0_mean_2 18 rfl rfl)
theorem dX0_mean_68 : decode cX0_mean 68 = .ok (.iconst 0, 1) := dk_3 (dk_at dksX0_mean_2 21 rfl rfl)
theorem dX0_mean_69 : decode cX0_mean 69 = .ok (.istore 9, 2) := dk_54 9 (dk_at dksX0_mean_2 22 rfl rfl)
theorem dX0_mean_71 : decode cX0_mean 71 = .ok (.iload 9, 2) := dk_21 9 (dk_at dksX0_mean_3 0 rfl rfl)
theorem dX0_mean_73 : decode cX0_mean 73 = .ok (.iload_n 2, 1) := dk_28 (dk_at dksX0_mean_3 2 rfl rfl)
theorem dX0_mean_74 : decode cX0_mean 74 = .ok (.if_icmp .gt 120, 3) := dk_163 0 120 (dk_at dksX0_mean_3 3 rfl rfl)
theorem dX0_mean_77 : decode cX0_mean 77 = .ok (.iload 9, 2) := dk_21 9 (dk_at dksX0_mean_3 6 rfl rfl)
theorem dX0_mean_79 : decode cX0_mean 79 = .ok (.iload_n 2, 1) := dk_28 (dk_at dksX0_mean_3 8 rfl rfl)
theorem dX0_mean_80 : decode cX0_mean 80 = .ok (.iconst (-1), 1) := dk_2 (dk_at dksX0_mean_3 9 rfl rfl)
theorem dX0_mean_81 : decode cX0_mean 81 = .ok (.ixor, 1) := dk_130 (dk_at dksX0_mean_3 10 rfl rfl)
theorem dX0_mean_82 : decode cX0_mean 82 = .ok (.iand, 1) := dk_126 (dk_at dksX0_mean_3 11 rfl rfl)
theorem dX0_mean_83 : decode cX0_mean 83 = .ok (.ifCond .eq 6, 3) := dk_153 0 6 (dk_at dksX0_mean_3 12 rfl rfl)
theorem dX0_mean_86 : decode cX0_mean 86 = .ok (.goto 102, 3) := dk_167 0 102 (dk_at dksX0_mean_3 15 rfl rfl)
theorem dX0_mean_89 : decode cX0_mean 89 = .ok (.lconst 1, 1) := dk_10 (dk_at dksX0_mean_3 18 rfl rfl)
theorem dX0_mean_90 : decode cX0_mean 90 = .ok (.lstore 10, 2) := dk_55 10 (dk_at dksX0_mean_3 19 rfl rfl)
theorem dX0_mean_92 : decode cX0_mean 92 = .ok (.iconst 0, 1) := dk_3 (dk_at dksX0_mean_3 21 rfl rfl)
theorem dX0_mean_93 : decode cX0_mean 93 = .ok (.istore 12, 2) := dk_54 12 (dk_at dksX0_mean_3 22 rfl rfl)
theorem dX0_mean_95 : decode cX0_mean 95 = .ok (.iload 12, 2) := dk_21 12 (dk_at dksX0_mean_4 0 rfl rfl)
theorem dX0_mean_97 : decode cX0_mean 97 = .ok (.aload_n 0, 1) := dk_42 (dk_at dksX0_mean_4 2 rfl rfl)
theorem dX0_mean_98 : decode cX0_mean 98 = .ok (.getfield 93, 3) := dk_180 0 93 (dk_at dksX0_mean_4 3 rfl rfl)
theorem dX0_mean_101 : decode cX0_mean 101 = .ok (.getfield 134, 3) := dk_180 0 134 (dk_at dksX0_mean_4 6 rfl rfl)
theorem dX0_mean_104 : decode cX0_mean 104 = .ok (.invokevirtual 126, 3) := dk_182 0 126 (dk_at dksX0_mean_4 9 rfl rfl)
theorem dX0_mean_107 : decode cX0_mean 107 = .ok (.if_icmp .ge 61, 3) := dk_162 0 61 (dk_at dksX0_mean_4 12 rfl rfl)
theorem dX0_mean_110 : decode cX0_mean 110 = .ok (.iload_n 2, 1) := dk_28 (dk_at dksX0_mean_4 15 rfl rfl)
theorem dX0_mean_111 : decode cX0_mean 111 = .ok (.iload 12, 2) := dk_21 12 (dk_at dksX0_mean_4 16 rfl rfl)
theorem dX0_mean_113 : decode cX0_mean 113 = .ok (.ishr, 1) := dk_122 (dk_at dksX0_mean_4 18 rfl rfl)
theorem dX0_mean_114 : decode cX0_mean 114 = .ok (.iconst 1, 1) := dk_4 (dk_at dksX0_mean_4 19 rfl rfl)
theorem dX0_mean_115 : decode cX0_mean 115 = .ok (.iand, 1) := dk_126 (dk_at dksX0_mean_4 20 rfl rfl)
theorem dX0_mean_116 : decode cX0_mean 116 = .ok (.iconst 1, 1) := dk_4 (dk_at dksX0_mean_4 21 rfl rfl)
theorem dX0_mean_117 : decode cX0_mean 117 = .ok (.if_icmp .ne 45, 3) := dk_160 0 45 (dk_at dksX0_mean_5 0 rfl rfl)
theorem dX0_mean_120 : decode cX0_mean 120 = .ok (.lload 10, 2) := dk_22 10 (dk_at dksX0_mean_5 3 rfl rfl)
theorem dX0_mean_122 : decode cX0_mean 122 = .ok (.iload 9, 2) := dk_21 9 (dk_at dksX0_mean_5 5 rfl rfl)
theorem dX0_mean_124 : decode cX0_mean 124 = .ok (.iload 12, 2) := dk_21 12 (dk_at dksX0_mean_5 7 rfl rfl)
theorem dX0_mean_126 : decode cX0_mean 126 = .ok (.ishr, 1) := dk_122 (dk_at dksX0_mean_5 9 rfl rfl)
theorem dX0_mean_127 : decode cX0_mean 127 = .ok (.iconst 1, 1) := dk_4 (dk_at dksX0_mean_5 10 rfl rfl)
theorem dX0_mean_128 : decode cX0_mean 128 = .ok (.iand, 1) := dk_126 (dk_at dksX0_mean_5 11 rfl rfl)
theorem dX0_mean_129 : decode cX0_mean 129 = .ok (.iconst 1, 1) := dk_4 (dk_at dksX0_mean_5 12 rfl rfl)
theorem dX0_mean_130 : decode cX0_mean 130 = .ok (.if_icmp .ne 16, 3) := dk_160 0 16 (dk_at dksX0_mean_5 13 rfl rfl)
theorem dX0_mean_133 : decode cX0_mean 133 = .ok (.aload_n 0, 1) := dk_42 (dk_at dksX0_mean_5 16 rfl rfl)
theorem dX0_mean_134 : decode cX0_mean 134 = .ok (.iload 12, 2) := dk_21 12 (dk_at dksX0_mean_5 17 rfl rfl)
theorem dX0_mean_136 : decode cX0_mean 136 = .ok (.invokevirtual 171, 3) := dk_182 0 171 (dk_at dksX0_mean_5 19 rfl rfl)
theorem dX0_mean_139 : decode cX0_mean 139 = .ok (.getfield 175, 3) := dk_180 0 175 (dk_at dksX0_mean_6 0 rfl rfl)
theorem dX0_mean_142 : decode cX0_mean 142 = .ok (.i2l, 1) := dk_133 (dk_at dksX0_mean_6 3 rfl rfl)
theorem dX0_mean_143 : decode cX0_mean 143 = .ok (.goto 16, 3) := dk_167 0 16 (dk_at dksX0_mean_6 4 rfl rfl)
theorem dX0_mean_146 : decode cX0_mean 146 = .ok (.bipush 16, 2) := dk_16 16 (dk_at dksX0_mean_6 7 rfl rfl)
theorem dX0_mean_148 : decode cX0_mean 148 = .ok (.aload_n 0, 1) := dk_42 (dk_at dksX0_mean_6 9 rfl rfl)
theorem dX0_mean_149 : decode cX0_mean 149 = .ok (.iload 12, 2) := dk_21 12 (dk_at dksX0_mean_6 10 rfl rfl)
theorem dX0_mean_151 : decode cX0_mean 151 = .ok (.invokevirtual 171, 3) := dk_182 0 171 (dk_at dksX0_mean_6 12 rfl rfl)
theorem dX0_mean_154 : decode cX0_mean 154 = .ok (.getfield 175, 3) := dk_180 0 175 (dk_at dksX0_mean_6 15 rfl rfl)
theorem dX0_mean_157 : decode cX0_mean 157 = .ok (.isub, 1) := dk_100 (dk_at dksX0_mean_6 18 rfl rfl)
theorem dX0_mean_158 : decode cX0_mean 158 = .ok (.i2l, 1) := dk_133 (dk_at dksX0_mean_6 19 rfl rfl)
theorem dX0_mean_159 : decode cX0_mean 159 = .ok (.lmul, 1) := dk_105 (dk_at dksX0_mean_6 20 rfl rfl)
theorem dX0_mean_160 : decode cX0_mean 160 = .ok (.lstore 10, 2) := dk_55 10 (dk_at dksX0_mean_6 21 rfl rfl)
theorem dX0_mean_162 : decode cX0_mean 162 = .ok (.iinc 12 1, 3) := dk_132 12 1 (dk_at dksX0_mean_7 0 rfl rfl)
theorem dX0_mean_165 : decode cX0_mean 165 = .ok (.goto (-70), 3) := dk_167 255 186 (dk_at dksX0_mean_7 3 rfl rfl)
theorem dX0_mean_168 : decode cX0_mean 168 = .ok (.lload 5, 2) := dk_22 5 (dk_at dksX0_mean_7 6 rfl rfl)
theorem dX0_mean_170 : decode cX0_mean 170 = .ok (.lload 10, 2) := dk_22 10 (dk_at dksX0_mean_7 8 rfl rfl)
theorem dX0_mean_172 : decode cX0_mean 172 = .ok (.aload_n 0, 1) := dk_42 (dk_at dksX0_mean_7 10 rfl rfl)
theorem dX0_mean_173 : decode cX0_mean 173 = .ok (.getfield 49, 3) := dk_180 0 49 (dk_at dksX0_mean_7 11 rfl rfl)
theorem dX0_mean_176 : decode cX0_mean 176 = .ok (.iload_n 1, 1) := dk_27 (dk_at dksX0_mean_7 14 rfl rfl)
theorem dX0_mean_177 : decode cX0_mean 177 = .ok (.aaload, 1) := dk_50 (dk_at dksX0_mean_7 15 rfl rfl)
theorem dX0_mean_178 : decode cX0_mean 178 = .ok (.iload 9, 2) := dk_21 9 (dk_at dksX0_mean_7 16 rfl rfl)
theorem dX0_mean_180 : decode cX0_mean 180 = .ok (.aaload, 1) := dk_50 (dk_at dksX0_mean_7 18 rfl rfl)
theorem dX0_mean_181 : decode cX0_mean 181 = .ok (.iload_n 3, 1) := dk_29 (dk_at dksX0_mean_7 19 rfl rfl)
theorem dX0_mean_182 : decode cX0_mean 182 = .ok (.iaload, 1) := dk_46 (dk_at dksX0_mean_7 20 rfl rfl)
theorem dX0_mean_183 : decode cX0_mean 183 = .ok (.i2l, 1) := dk_133 (dk_at dksX0_mean_7 21 rfl rfl)
theorem dX0_mean_184 : decode cX0_mean 184 = .ok (.lmul, 1) := dk_105 (dk_at dksX0_mean_7 22 rfl rfl)
theorem dX0_mean_185 : decode cX0_mean 185 = .ok (.ladd, 1) := dk_97 (dk_at dksX0_mean_7 23 rfl rfl)
theorem dX0_mean_186 : decode cX0_mean 186 = .ok (.lstore 5, 2) := dk_55 5 (dk_at dksX0_mean_8 0 rfl rfl)
theorem dX0_mean_188 : decode cX0_mean 188 = .ok (.iinc 9 1, 3) := dk_132 9 1 (dk_at dksX0_mean_8 2 rfl rfl)
theorem dX0_mean_191 : decode cX0_mean 191 = .ok (.goto (-120), 3) := dk_167 255 136 (dk_at dksX0_mean_8 5 rfl rfl)
theorem dX0_mean_194 : decode cX0_mean 194 = .ok (.lload 5, 2) := dk_22 5 (dk_at dksX0_mean_8 8 rfl rfl)
theorem dX0_mean_196 : decode cX0_mean 196 = .ok (.lload 7, 2) := dk_22 7 (dk_at dksX0_mean_8 10 rfl rfl)
theorem dX0_mean_198 : decode cX0_mean 198 = .ok (.ldiv, 1) := dk_109 (dk_at dksX0_mean_8 12 rfl rfl)
theorem dX0_mean_199 : decode cX0_mean 199 = .ok (.l2i, 1) := dk_136 (dk_at dksX0_mean_8 13 rfl rfl)
theorem dX0_mean_200 : decode cX0_mean 200 = .ok (.ireturn, 1) := dk_172 (dk_at dksX0_mean_8 14 rfl rfl)
def dkwX0_thereNow_1 : List UInt8 := [180, 0, 178, 153, 0, 9, 4, 28, 120, 167, 0, 4, 3, 128, 60, 132, 2, 1, 167, 255, 218, 27, 172]
abbrev dktX0_thereNow_1 : List UInt8 := dkwX0_thereNow_1 ++ []
def dkwX0_thereNow_0 : List UInt8 := [3, 60, 3, 61, 28, 42, 180, 0, 93, 180, 0, 134, 182, 0, 126, 162, 0, 30, 27, 42, 28, 182, 0, 171]
abbrev dktX0_thereNow_0 : List UInt8 := dkwX0_thereNow_0 ++ dktX0_thereNow_1
theorem dksX0_thereNow_0 : cX0_thereNow.data.toList.drop 0 = dktX0_thereNow_0 := by decide +kernel
theorem dksX0_thereNow_1 : cX0_thereNow.data.toList.drop 24 = dktX0_thereNow_1 := dk_seg dksX0_thereNow_0 24 rfl rfl
theorem dX0_thereNow_0 : decode cX0_thereNow 0 = .ok (.iconst 0, 1) := dk_3 (dk_at dksX0_thereNow_0 0 rfl rfl)
theorem dX0_thereNow_1 : decode cX0_thereNow 1 = .ok (.istore_n 1, 1) := dk_60 (dk_at dksX0_thereNow_0 1 rfl rfl)
theorem dX0_thereNow_2 : decode cX0_thereNow 2 = .ok (.iconst 0, 1) := dk_3 (dk_at dksX0_thereNow_0 2 rfl rfl)
theorem dX0_thereNow_3 : decode cX0_thereNow 3 = .ok (.istore_n 2, 1) := dk_61 (dk_at dksX0_thereNow_0 3 rfl rfl)
theorem dX0_thereNow_4 : decode cX0_thereNow 4 = .ok (.iload_n 2, 1) := dk_28 (dk_at dksX0_thereNow_0 4 rfl rfl)
theorem dX0_thereNow_5 : decode cX0_thereNow 5 = .ok (.aload_n 0, 1) := dk_42 (dk_at dksX0_thereNow_0 5 rfl rfl)
theorem dX0_thereNow_6 : decode cX0_thereNow 6 = .ok (.getfield 93, 3) := dk_180 0 93 (dk_at dksX0_thereNow_0 6 rfl rfl)
theorem dX0_thereNow_9 : decode cX0_thereNow 9 = .ok (.getfield 134, 3) := dk_180 0 134 (dk_at dksX0_thereNow_0 9 rfl rfl)
theorem dX0_thereNow_12 : decode cX0_thereNow 12 = .ok (.invokevirtual 126, 3) := dk_182 0 126 (dk_at dksX0_thereNow_0 12 rfl rfl)
theorem dX0_thereNow_15 : decode cX0_thereNow 15 = .ok (.if_icmp .ge 30, 3) := dk_162 0 30 (dk_at dksX0_thereNow_0 15 rfl rfl)
theorem dX0_thereNow_18 : decode cX0_thereNow 18 = .ok (.iload_n 1, 1) := dk_27 (dk_at dksX0_thereNow_0 18 rfl rfl)
theorem dX0_thereNow_19 : decode cX0_thereNow 19 = .ok (.aload_n 0, 1) := dk_42 (dk_at dksX0_thereNow_0 19 rfl rfl)
theorem dX0_thereNow_20 : decode cX0_thereNow 20 = .ok (.iload_n 2, 1) := dk_28 (dk_at dksX0_thereNow_0 20 rfl rfl)
theorem dX0_thereNow_21 : decode cX0_thereNow 21 = .ok (.invokevirtual 171, 3) := dk_182 0 171 (dk_at dksX0_thereNow_0 21 rfl rfl)
theorem dX0_thereNow_24 : decode cX0_thereNow 24 = .ok (.getfield 178, 3) := dk_180 0 178 (dk_at dksX0_thereNow_1 0 rfl rfl)
theorem dX0_thereNow_27 : decode cX0_thereNow 27 = .ok (.ifCond .eq 9, 3) := dk_153 0 9 (dk_at dksX0_thereNow_1 3 rfl rfl)
theorem dX0_thereNow_30 : decode cX0_thereNow 30 = .ok (.iconst 1, 1) := dk_4 (dk_at dksX0_thereNow_1 6 rfl rfl)
theorem dX0_thereNow_31 : decode cX0_thereNow 31 = .ok (.iload_n 2, 1) := dk_28 (dk_at dksX0_thereNow_1 7 rfl rfl)
theorem dX0_thereNow_32 : decode cX0_thereNow 32 = .ok (.ishl, 1) := dk_120 (dk_at dksX0_thereNow_1 8 rfl rfl)
theorem dX0_thereNow_33 : decode cX0_thereNow 33 = .ok (.goto 4, 3) := dk_167 0 4 (dk_at dksX0_thereNow_1 9 rfl rfl)
theorem dX0_thereNow_36 : decode cX0_thereNow 36 = .ok (.iconst 0, 1) := dk_3 (dk_at dksX0_thereNow_1 12 rfl rfl)
theorem dX0_thereNow_37 : decode cX0_thereNow 37 = .ok (.ior, 1) := dk_128 (dk_at dksX0_thereNow_1 13 rfl rfl)
theorem dX0_thereNow_38 : decode cX0_thereNow 38 = .ok (.istore_n 1, 1) := dk_60 (dk_at dksX0_thereNow_1 14 rfl rfl)
theorem dX0_thereNow_39 : decode cX0_thereNow 39 = .ok (.iinc 2 1, 3) := dk_132 2 1 (dk_at dksX0_thereNow_1 15 rfl rfl)
theorem dX0_thereNow_42 : decode cX0_thereNow 42 = .ok (.goto (-38), 3) := dk_167 255 218 (dk_at dksX0_thereNow_1 18 rfl rfl)
theorem dX0_thereNow_45 : decode cX0_thereNow 45 = .ok (.iload_n 1, 1) := dk_27 (dk_at dksX0_thereNow_1 21 rfl rfl)
theorem dX0_thereNow_46 : decode cX0_thereNow 46 = .ok (.ireturn, 1) := dk_172 (dk_at dksX0_thereNow_1 22 rfl rfl)
def dkwX0_next_2 : List UInt8 := [180, 1, 37, 104, 42, 180, 1, 43, 96, 172]
abbrev dktX0_next_2 : List UInt8 := dkwX0_next_2 ++ []
def dkwX0_next_1 : List UInt8 := [180, 0, 94, 182, 1, 33, 61, 42, 180, 1, 37, 2, 160, 0, 7, 2, 167, 0, 15, 16, 10, 42]
abbrev dktX0_next_1 : List UInt8 := dkwX0_next_1 ++ dktX0_next_2
def dkwX0_next_0 : List UInt8 := [42, 27, 182, 1, 54, 154, 0, 5, 2, 172, 42, 27, 182, 1, 57, 42, 27, 42, 182, 1, 59, 42]
abbrev dktX0_next_0 : List UInt8 := dkwX0_next_0 ++ dktX0_next_1
theorem dksX0_next_0 : cX0_next.data.toList.drop 0 = dktX0_next_0 := by decide +kernel
theorem dksX0_next_1 : cX0_next.data.toList.drop 22 = dktX0_next_1 := dk_seg dksX0_next_0 22 rfl rfl
theorem dksX0_next_2 : cX0_next.data.toList.drop 44 = dktX0_next_2 := dk_seg dksX0_next_1 22 rfl rfl
theorem dX0_next_0 : decode cX0_next 0 = .ok (.aload_n 0, 1) := dk_42 (dk_at dksX0_next_0 0 rfl rfl)
theorem dX0_next_1 : decode cX0_next 1 = .ok (.iload_n 1, 1) := dk_27 (dk_at dksX0_next_0 1 rfl rfl)
theorem dX0_next_2 : decode cX0_next 2 = .ok (.invokevirtual 310, 3) := dk_182 1 54 (dk_at dksX0_next_0 2 rfl rfl)
theorem dX0_next_5 : decode cX0_next 5 = .ok (.ifCond .ne 5, 3) := dk_154 0 5 (dk_at dksX0_next_0 5 rfl rfl)
theorem dX0_next_8 : decode cX0_next 8 = .ok (.iconst (-1), 1) := dk_2 (dk_at dksX0_next_0 8 rfl rfl)
theorem dX0_next_9 : decode cX0_next 9 = .ok (.ireturn, 1) := dk_172 (dk_at dksX0_next_0 9 rfl rfl)
theorem dX0_next_10 : decode cX0_next 10 = .ok (.aload_n 0, 1) := dk_42 (dk_at dksX0_next_0 10 rfl rfl)
theorem dX0_next_11 : decode cX0_next 11 = .ok (.iload_n 1, 1) := dk_27 (dk_at dksX0_next_0 11 rfl rfl)
theorem dX0_next_12 : decode cX0_next 12 = .ok (.invokevirtual 313, 3) := dk_182 1 57 (dk_at dksX0_next_0 12 rfl rfl)
theorem dX0_next_15 : decode cX0_next 15 = .ok (.aload_n 0, 1) := dk_42 (dk_at dksX0_next_0 15 rfl rfl)
theorem dX0_next_16 : decode cX0_next 16 = .ok (.iload_n 1, 1) := dk_27 (dk_at dksX0_next_0 16 rfl rfl)
theorem dX0_next_17 : decode cX0_next 17 = .ok (.aload_n 0, 1) := dk_42 (dk_at dksX0_next_0 17 rfl rfl)
theorem dX0_next_18 : decode cX0_next 18 = .ok (.invokevirtual 315, 3) := dk_182 1 59 (dk_at dksX0_next_0 18 rfl rfl)
theorem dX0_next_21 : decode cX0_next 21 = .ok (.aload_n 0, 1) := dk_42 (dk_at dksX0_next_0 21 rfl rfl)
theorem dX0_next_22 : decode cX0_next 22 = .ok (.getfield 94, 3) := dk_180 0 94 (dk_at dksX0_next_1 0 rfl rfl)
theorem dX0_next_25 : decode cX0_next 25 = .ok (.invokevirtual 289, 3) := dk_182 1 33 (dk_at dksX0_next_1 3 rfl rfl)
theorem dX0_next_28 : decode cX0_next 28 = .ok (.istore_n 2, 1) := dk_61 (dk_at dksX0_next_1 6 rfl rfl)
theorem dX0_next_29 : decode cX0_next 29 = .ok (.aload_n 0, 1) := dk_42 (dk_at dksX0_next_1 7 rfl rfl)
theorem dX0_next_30 : decode cX0_next 30 = .ok (.getfield 293, 3) := dk_180 1 37 (dk_at dksX0_next_1 8 rfl rfl)
theorem dX0_next_33 : decode cX0_next 33 = .ok (.iconst (-1), 1) := dk_2 (dk_at dksX0_next_1 11 rfl rfl)
theorem dX0_next_34 : decode cX0_next 34 = .ok (.if_icmp .ne 7, 3) := dk_160 0 7 (dk_at dksX0_next_1 12 rfl rfl)
theorem dX0_next_37 : decode cX0_next 37 = .ok (.iconst (-1), 1) := dk_2 (dk_at dksX0_next_1 15 rfl rfl)
theorem dX0_next_38 : decode cX0_next 38 = .ok (.goto 15, 3) := dk_167 0 15 (dk_at dksX0_next_1 16 rfl rfl)
theorem dX0_next_41 : decode cX0_next 41 = .ok (.bipush 10, 2) := dk_16 10 (dk_at dksX0_next_1 19 rfl rfl)
theorem dX0_next_43 : decode cX0_next 43 = .ok (.aload_n 0, 1) := dk_42 (dk_at dksX0_next_1 21 rfl rfl)
theorem dX0_next_44 : decode cX0_next 44 = .ok (.getfield 293, 3) := dk_180 1 37 (dk_at dksX0_next_2 0 rfl rfl)
theorem dX0_next_47 : decode cX0_next 47 = .ok (.imul, 1) := dk_104 (dk_at dksX0_next_2 3 rfl rfl)
theorem dX0_next_48 : decode cX0_next 48 = .ok (.aload_n 0, 1) := dk_42 (dk_at dksX0_next_2 4 rfl rfl)
theorem dX0_next_49 : decode cX0_next 49 = .ok (.getfield 299, 3) := dk_180 1 43 (dk_at dksX0_next_2 5 rfl rfl)
theorem dX0_next_52 : decode cX0_next 52 = .ok (.iadd, 1) := dk_96 (dk_at dksX0_next_2 8 rfl rfl)
theorem dX0_next_53 : decode cX0_next 53 = .ok (.ireturn, 1) := dk_172 (dk_at dksX0_next_2 9 rfl rfl)
def dkwX0_plan_2 : List UInt8 := [79, 42, 89, 180, 0, 113, 4, 96, 181, 0, 113, 42, 180, 0, 113, 172]
abbrev dktX0_plan_2 : List UInt8 := dkwX0_plan_2 ++ []
def dkwX0_plan_1 : List UInt8 := [160, 0, 5, 2, 172, 42, 180, 0, 52, 42, 180, 0, 113, 27, 79, 42, 180, 0, 56, 42, 180, 0, 113, 28]
abbrev dktX0_plan_1 : List UInt8 := dkwX0_plan_1 ++ dktX0_plan_2
def dkwX0_plan_0 : List UInt8 := [42, 27, 182, 0, 168, 153, 0, 20, 42, 28, 182, 0, 145, 153, 0, 12, 42, 180, 0, 113, 16, 8]
abbrev dktX0_plan_0 : List UInt8 := dkwX0_plan_0 ++ dktX0_plan_1
theorem dksX0_plan_0 : cX0_plan.data.toList.drop 0 = dktX0_plan_0 := by decide +kernel
theorem dksX0_plan_1 : cX0_plan.data.toList.drop 22 = dktX0_plan_1 := dk_seg dksX0_plan_0 22 rfl rfl
theorem dksX0_plan_2 : cX0_plan.data.toList.drop 46 = dktX0_plan_2 := dk_seg dksX0_plan_1 24 rfl rfl
theorem dX0_plan_0 : decode cX0_plan 0 = .ok (.aload_n 0, 1) := dk_42 (dk_at dksX0_plan_0 0 rfl rfl)
theorem dX0_plan_1 : decode cX0_plan 1 = .ok (.iload_n 1, 1) := dk_27 (dk_at dksX0_plan_0 1 rfl rfl)
theorem dX0_plan_2 : decode cX0_plan 2 = .ok (.invokevirtual 168, 3) := dk_182 0 168 (dk_at dksX0_plan_0 2 rfl rfl)
theorem dX0_plan_5 : decode cX0_plan 5 = .ok (.ifCond .eq 20, 3) := dk_153 0 20 (dk_at dksX0_plan_0 5 rfl rfl)
theorem dX0_plan_8 : decode cX0_plan 8 = .ok (.aload_n 0, 1) := dk_42 (dk_at dksX0_plan_0 8 rfl rfl)
theorem dX0_plan_9 : decode cX0_plan 9 = .ok (.iload_n 2, 1) := dk_28 (dk_at dksX0_plan_0 9 rfl rfl)
theorem dX0_plan_10 : decode cX0_plan 10 = .ok (.invokevirtual 145, 3) := dk_182 0 145 (dk_at dksX0_plan_0 10 rfl rfl)
theorem dX0_plan_13 : decode cX0_plan 13 = .ok (.ifCond .eq 12, 3) := dk_153 0 12 (dk_at dksX0_plan_0 13 rfl rfl)
theorem dX0_plan_16 : decode cX0_plan 16 = .ok (.aload_n 0, 1) := dk_42 (dk_at dksX0_plan_0 16 rfl rfl)
theorem dX0_plan_17 : decode cX0_plan 17 = .ok (.getfield 113, 3) := dk_180 0 113 (dk_at dksX0_plan_0 17 rfl rfl)
theorem dX0_plan_20 : decode cX0_plan 20 = .ok (.bipush 8, 2) := dk_16 8 (dk_at dksX0_plan_0 20 rfl rfl)
theorem dX0_plan_22 : decode cX0_plan 22 = .ok (.if_icmp .ne 5, 3) := dk_160 0 5 (dk_at dksX0_plan_1 0 rfl rfl)
theorem dX0_plan_25 : decode cX0_plan 25 = .ok (.iconst (-1), 1) := dk_2 (dk_at dksX0_plan_1 3 rfl rfl)
theorem dX0_plan_26 : decode cX0_plan 26 = .ok (.ireturn, 1) := dk_172 (dk_at dksX0_plan_1 4 rfl rfl)
theorem dX0_plan_27 : decode cX0_plan 27 = .ok (.aload_n 0, 1) := dk_42 (dk_at dksX0_plan_1 5 rfl rfl)
theorem dX0_plan_28 : decode cX0_plan 28 = .ok (.getfield 52, 3) := dk_180 0 52 (dk_at dksX0_plan_1 6 rfl rfl)
theorem dX0_plan_31 : decode cX0_plan 31 = .ok (.aload_n 0, 1) := dk_42 (dk_at dksX0_plan_1 9 rfl rfl)
theorem dX0_plan_32 : decode cX0_plan 32 = .ok (.getfield 113, 3) := dk_180 0 113 (dk_at dksX0_plan_1 10 rfl rfl)
theorem dX0_plan_35 : decode cX0_plan 35 = .ok (.iload_n 1, 1) := dk_27 (dk_at dksX0_plan_1 13 rfl rfl)
theorem dX0_plan_36 : decode cX0_plan 36 = .ok (.iastore, 1) := dk_79 (dk_at dksX0_plan_1 14 rfl rfl)
theorem dX0_plan_37 : decode cX0_plan 37 = .ok (.aload_n 0, 1) := dk_42 (dk_at dksX0_plan_1 15 rfl rfl)
theorem dX0_plan_38 : decode cX0_plan 38 = .ok (.getfield 56, 3) := dk_180 0 56 (dk_at dksX0_plan_1 16 rfl rfl)
theorem dX0_plan_41 : decode cX0_plan 41 = .ok (.aload_n 0, 1) := dk_42 (dk_at dksX0_plan_1 19 rfl rfl)
theorem dX0_plan_42 : decode cX0_plan 42 = .ok (.getfield 113, 3) := dk_180 0 113 (dk_at dksX0_plan_1 20 rfl rfl)
theorem dX0_plan_45 : decode cX0_plan 45 = .ok (.iload_n 2, 1) := dk_28 (dk_at dksX0_plan_1 23 rfl rfl)
theorem dX0_plan_46 : decode cX0_plan 46 = .ok (.iastore, 1) := dk_79 (dk_at dksX0_plan_2 0 rfl rfl)
theorem dX0_plan_47 : decode cX0_plan 47 = .ok (.aload_n 0, 1) := dk_42 (dk_at dksX0_plan_2 1 rfl rfl)
theorem dX0_plan_48 : decode cX0_plan 48 = .ok (.dup, 1) := dk_89 (dk_at dksX0_plan_2 2 rfl rfl)
theorem dX0_plan_49 : decode cX0_plan 49 = .ok (.getfield 113, 3) := dk_180 0 113 (dk_at dksX0_plan_2 3 rfl rfl)
theorem dX0_plan_52 : decode cX0_plan 52 = .ok (.iconst 1, 1) := dk_4 (dk_at dksX0_plan_2 6 rfl rfl)
theorem dX0_plan_53 : decode cX0_plan 53 = .ok (.iadd, 1) := dk_96 (dk_at dksX0_plan_2 7 rfl rfl)
theorem dX0_plan_54 : decode cX0_plan 54 = .ok (.putfield 113, 3) := dk_181 0 113 (dk_at dksX0_plan_2 8 rfl rfl)
theorem dX0_plan_57 : decode cX0_plan 57 = .ok (.aload_n 0, 1) := dk_42 (dk_at dksX0_plan_2 11 rfl rfl)
theorem dX0_plan_58 : decode cX0_plan 58 = .ok (.getfield 113, 3) := dk_180 0 113 (dk_at dksX0_plan_2 12 rfl rfl)
theorem dX0_plan_61 : decode cX0_plan 61 = .ok (.ireturn, 1) := dk_172 (dk_at dksX0_plan_2 15 rfl rfl)
