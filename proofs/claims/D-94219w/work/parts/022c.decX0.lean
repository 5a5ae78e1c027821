set_option maxRecDepth 100000
def dkwX0_clear_0 : List UInt8 := [42, 180, 0, 113, 60, 42, 3, 181, 0, 113, 27, 172]
abbrev dktX0_clear_0 : List UInt8 := dkwX0_clear_0 ++ []
theorem dksX0_clear_0 : cX0_clear.data.toList.drop 0 = dktX0_clear_0 := by decide +kernel
theorem dX0_clear_0 : decode cX0_clear 0 = .ok (.aload_n 0, 1) := dk_42 (dk_at dksX0_clear_0 0 rfl rfl)
theorem dX0_clear_1 : decode cX0_clear 1 = .ok (.getfield 113, 3) := dk_180 0 113 (dk_at dksX0_clear_0 1 rfl rfl)
theorem dX0_clear_4 : decode cX0_clear 4 = .ok (.istore_n 1, 1) := dk_60 (dk_at dksX0_clear_0 4 rfl rfl)
theorem dX0_clear_5 : decode cX0_clear 5 = .ok (.aload_n 0, 1) := dk_42 (dk_at dksX0_clear_0 5 rfl rfl)
theorem dX0_clear_6 : decode cX0_clear 6 = .ok (.iconst 0, 1) := dk_3 (dk_at dksX0_clear_0 6 rfl rfl)
theorem dX0_clear_7 : decode cX0_clear 7 = .ok (.putfield 113, 3) := dk_181 0 113 (dk_at dksX0_clear_0 7 rfl rfl)
theorem dX0_clear_10 : decode cX0_clear 10 = .ok (.iload_n 1, 1) := dk_27 (dk_at dksX0_clear_0 10 rfl rfl)
theorem dX0_clear_11 : decode cX0_clear 11 = .ok (.ireturn, 1) := dk_172 (dk_at dksX0_clear_0 11 rfl rfl)
def dkwX0_judge_1 : List UInt8 := [182, 1, 67, 167, 0, 7, 42, 182, 1, 70, 172]
abbrev dktX0_judge_1 : List UInt8 := dkwX0_judge_1 ++ []
def dkwX0_judge_0 : List UInt8 := [42, 180, 0, 93, 198, 0, 13, 27, 133, 9, 10, 184, 0, 15, 154, 0, 5, 2, 172, 27, 154, 0, 10, 42]
abbrev dktX0_judge_0 : List UInt8 := dkwX0_judge_0 ++ dktX0_judge_1
theorem dksX0_judge_0 : cX0_judge.data.toList.drop 0 = dktX0_judge_0 := by decide +kernel
theorem dksX0_judge_1 : cX0_judge.data.toList.drop 24 = dktX0_judge_1 := dk_seg dksX0_judge_0 24 rfl rfl
theorem dX0_judge_0 : decode cX0_judge 0 = .ok (.aload_n 0, 1) := dk_42 (dk_at dksX0_judge_0 0 rfl rfl)
theorem dX0_judge_1 : decode cX0_judge 1 = .ok (.getfield 93, 3) := dk_180 0 93 (dk_at dksX0_judge_0 1 rfl rfl)
theorem dX0_judge_4 : decode cX0_judge 4 = .ok (.ifnull 13, 3) := dk_198 0 13 (dk_at dksX0_judge_0 4 rfl rfl)
theorem dX0_judge_7 : decode cX0_judge 7 = .ok (.iload_n 1, 1) := dk_27 (dk_at dksX0_judge_0 7 rfl rfl)
theorem dX0_judge_8 : decode cX0_judge 8 = .ok (.i2l, 1) := dk_133 (dk_at dksX0_judge_0 8 rfl rfl)
theorem dX0_judge_9 : decode cX0_judge 9 = .ok (.lconst 0, 1) := dk_9 (dk_at dksX0_judge_0 9 rfl rfl)
theorem dX0_judge_10 : decode cX0_judge 10 = .ok (.lconst 1, 1) := dk_10 (dk_at dksX0_judge_0 10 rfl rfl)
theorem dX0_judge_11 : decode cX0_judge 11 = .ok (.invokestatic 15, 3) := dk_184 0 15 (dk_at dksX0_judge_0 11 rfl rfl)
theorem dX0_judge_14 : decode cX0_judge 14 = .ok (.ifCond .ne 5, 3) := dk_154 0 5 (dk_at dksX0_judge_0 14 rfl rfl)
theorem dX0_judge_17 : decode cX0_judge 17 = .ok (.iconst (-1), 1) := dk_2 (dk_at dksX0_judge_0 17 rfl rfl)
theorem dX0_judge_18 : decode cX0_judge 18 = .ok (.ireturn, 1) := dk_172 (dk_at dksX0_judge_0 18 rfl rfl)
theorem dX0_judge_19 : decode cX0_judge 19 = .ok (.iload_n 1, 1) := dk_27 (dk_at dksX0_judge_0 19 rfl rfl)
theorem dX0_judge_20 : decode cX0_judge 20 = .ok (.ifCond .ne 10, 3) := dk_154 0 10 (dk_at dksX0_judge_0 20 rfl rfl)
theorem dX0_judge_23 : decode cX0_judge 23 = .ok (.aload_n 0, 1) := dk_42 (dk_at dksX0_judge_0 23 rfl rfl)
theorem dX0_judge_24 : decode cX0_judge 24 = .ok (.invokevirtual 323, 3) := dk_182 1 67 (dk_at dksX0_judge_1 0 rfl rfl)
theorem dX0_judge_27 : decode cX0_judge 27 = .ok (.goto 7, 3) := dk_167 0 7 (dk_at dksX0_judge_1 3 rfl rfl)
theorem dX0_judge_30 : decode cX0_judge 30 = .ok (.aload_n 0, 1) := dk_42 (dk_at dksX0_judge_1 6 rfl rfl)
theorem dX0_judge_31 : decode cX0_judge 31 = .ok (.invokevirtual 326, 3) := dk_182 1 70 (dk_at dksX0_judge_1 7 rfl rfl)
theorem dX0_judge_34 : decode cX0_judge 34 = .ok (.ireturn, 1) := dk_172 (dk_at dksX0_judge_1 10 rfl rfl)
def dkwX0_meanOfRow_15 : List UInt8 := [136, 172]
abbrev dktX0_meanOfRow_15 : List UInt8 := dkwX0_meanOfRow_15 ++ []
def dkwX0_meanOfRow_14 : List UInt8 := [21, 6, 182, 0, 200, 133, 105, 97, 55, 4, 132, 6, 1, 167, 255, 212, 20, 1, 65, 22, 4, 105, 32, 109]
abbrev dktX0_meanOfRow_14 : List UInt8 := dkwX0_meanOfRow_14 ++ dktX0_meanOfRow_15
def dkwX0_meanOfRow_13 : List UInt8 := [180, 0, 59, 21, 6, 47, 9, 148, 158, 0, 26, 22, 4, 42, 180, 0, 59, 21, 6, 47, 42, 180, 0, 93]
abbrev dktX0_meanOfRow_13 : List UInt8 := dkwX0_meanOfRow_13 ++ dktX0_meanOfRow_14
def dkwX0_meanOfRow_12 : List UInt8 := [20, 1, 50, 105, 65, 132, 4, 1, 167, 255, 10, 9, 55, 4, 3, 54, 6, 21, 6, 27, 162, 0, 44, 42]
abbrev dktX0_meanOfRow_12 : List UInt8 := dkwX0_meanOfRow_12 ++ dktX0_meanOfRow_13
def dkwX0_meanOfRow_11 : List UInt8 := [162, 0, 23, 42, 180, 0, 59, 21, 7, 42, 180, 0, 63, 21, 7, 47, 80, 132, 7, 1, 167, 255, 233, 32]
abbrev dktX0_meanOfRow_11 : List UInt8 := dkwX0_meanOfRow_11 ++ dktX0_meanOfRow_12
def dkwX0_meanOfRow_10 : List UInt8 := [180, 0, 59, 21, 7, 47, 21, 6, 133, 105, 97, 80, 132, 7, 1, 167, 255, 127, 3, 54, 7, 21, 7, 27]
abbrev dktX0_meanOfRow_10 : List UInt8 := dkwX0_meanOfRow_10 ++ dktX0_meanOfRow_11
def dkwX0_meanOfRow_9 : List UInt8 := [167, 0, 5, 16, 16, 133, 105, 97, 80, 21, 8, 153, 0, 24, 42, 180, 0, 63, 21, 9, 92, 47, 42]
abbrev dktX0_meanOfRow_9 : List UInt8 := dkwX0_meanOfRow_9 ++ dktX0_meanOfRow_10
def dkwX0_meanOfRow_8 : List UInt8 := [180, 0, 63, 21, 7, 92, 47, 42, 180, 0, 59, 21, 7, 47, 21, 8, 153, 0, 11, 16, 16, 21, 6, 100]
abbrev dktX0_meanOfRow_8 : List UInt8 := dkwX0_meanOfRow_8 ++ dktX0_meanOfRow_9
def dkwX0_meanOfRow_7 : List UInt8 := [167, 0, 4, 3, 54, 8, 42, 180, 0, 93, 21, 7, 4, 21, 5, 120, 128, 2, 182, 0, 196, 54, 9, 42]
abbrev dktX0_meanOfRow_7 : List UInt8 := dkwX0_meanOfRow_7 ++ dktX0_meanOfRow_8
def dkwX0_meanOfRow_6 : List UInt8 := [21, 7, 21, 5, 122, 4, 126, 154, 0, 18, 42, 21, 5, 21, 7, 182, 0, 232, 153, 0, 7, 4]
abbrev dktX0_meanOfRow_6 : List UInt8 := dkwX0_meanOfRow_6 ++ dktX0_meanOfRow_7
def dkwX0_meanOfRow_5 : List UInt8 := [54, 7, 21, 7, 27, 162, 0, 129, 42, 180, 0, 59, 21, 7, 47, 9, 148, 154, 0, 6, 167, 0, 108]
abbrev dktX0_meanOfRow_5 : List UInt8 := dkwX0_meanOfRow_5 ++ dktX0_meanOfRow_6
def dkwX0_meanOfRow_4 : List UInt8 := [54, 7, 21, 7, 27, 162, 0, 17, 42, 180, 0, 63, 21, 7, 9, 80, 132, 7, 1, 167, 255, 239, 3]
abbrev dktX0_meanOfRow_4 : List UInt8 := dkwX0_meanOfRow_4 ++ dktX0_meanOfRow_5
def dkwX0_meanOfRow_3 : List UInt8 := [42, 42, 180, 0, 52, 21, 4, 46, 182, 0, 171, 180, 0, 184, 21, 5, 46, 167, 0, 4, 3, 54, 6, 3]
abbrev dktX0_meanOfRow_3 : List UInt8 := dkwX0_meanOfRow_3 ++ dktX0_meanOfRow_4
def dkwX0_meanOfRow_2 : List UInt8 := [180, 0, 113, 162, 0, 243, 42, 180, 0, 56, 21, 4, 46, 54, 5, 42, 21, 4, 182, 1, 62, 153, 0, 23]
abbrev dktX0_meanOfRow_2 : List UInt8 := dkwX0_meanOfRow_2 ++ dktX0_meanOfRow_3
def dkwX0_meanOfRow_1 : List UInt8 := [160, 0, 7, 10, 167, 0, 4, 9, 80, 132, 2, 1, 167, 255, 229, 10, 65, 3, 54, 4, 21, 4, 42]
abbrev dktX0_meanOfRow_1 : List UInt8 := dkwX0_meanOfRow_1 ++ dktX0_meanOfRow_2
def dkwX0_meanOfRow_0 : List UInt8 := [4, 42, 182, 0, 131, 120, 60, 3, 61, 28, 27, 162, 0, 28, 42, 180, 0, 59, 28, 28, 42, 180, 0, 94]
abbrev dktX0_meanOfRow_0 : List UInt8 := dkwX0_meanOfRow_0 ++ dktX0_meanOfRow_1
theorem dksX0_meanOfRow_0 : cX0_meanOfRow.data.toList.drop 0 = dktX0_meanOfRow_0 := by decide +kernel
theorem dksX0_meanOfRow_1 : cX0_meanOfRow.data.toList.drop 24 = dktX0_meanOfRow_1 := dk_seg dksX0_meanOfRow_0 24 rfl rfl
theorem dksX0_meanOfRow_2 : cX0_meanOfRow.data.toList.drop 47 = dktX0_meanOfRow_2 := dk_seg dksX0_meanOfRow_1 23 rfl rfl
theorem dksX0_meanOfRow_3 : cX0_meanOfRow.data.toList.drop 71 = dktX0_meanOfRow_3 := dk_seg dksX0_meanOfRow_2 24 rfl rfl
theorem dksX0_meanOfRow_4 : cX0_meanOfRow.data.toList.drop 95 = dktX0_meanOfRow_4 := dk_seg dksX0_meanOfRow_3 24 rfl rfl
theorem dksX0_meanOfRow_5 : cX0_meanOfRow.data.toList.drop 118 = dktX0_meanOfRow_5 := dk_seg dksX0_meanOfRow_4 23 rfl rfl
theorem dksX0_meanOfRow_6 : cX0_meanOfRow.data.toList.drop 141 = dktX0_meanOfRow_6 := dk_seg dksX0_meanOfRow_5 23 rfl rfl
theorem dksX0_meanOfRow_7 : cX0_meanOfRow.data.toList.drop 163 = dktX0_meanOfRow_7 := dk_seg dksX0_meanOfRow_6 22 rfl rfl
theorem dksX0_meanOfRow_8 : cX0_meanOfRow.data.toList.drop 187 = dktX0_meanOfRow_8 := dk_seg dksX0_meanOfRow_7 24 rfl rfl
theorem dksX0_meanOfRow_9 : cX0_meanOfRow.data.toList.drop 211 = dktX0_meanOfRow_9 := dk_seg dksX0_meanOfRow_8 24 rfl rfl
theorem dksX0_meanOfRow_10 : cX0_meanOfRow.data.toList.drop 234 = dktX0_meanOfRow_10 := dk_seg dksX0_meanOfRow_9 23 rfl rfl
theorem dksX0_meanOfRow_11 : cX0_meanOfRow.data.toList.drop 258 = dktX0_meanOfRow_11 := dk_seg dksX0_meanOfRow_10 24 rfl rfl
theorem dksX0_meanOfRow_12 : cX0_meanOfRow.data.toList.drop 282 = dktX0_meanOfRow_12 := dk_seg dksX0_meanOfRow_11 24 rfl rfl
theorem dksX0_meanOfRow_13 : cX0_meanOfRow.data.toList.drop 306 = dktX0_meanOfRow_13 := dk_seg dksX0_meanOfRow_12 24 rfl rfl
theorem dksX0_meanOfRow_14 : cX0_meanOfRow.data.toList.drop 330 = dktX0_meanOfRow_14 := dk_seg dksX0_meanOfRow_13 24 rfl rfl
theorem dksX0_meanOfRow_15 : cX0_meanOfRow.data.toList.drop 354 = dktX0_meanOfRow_15 := dk_seg dksX0_meanOfRow_14 24 rfl rfl
theorem dX0_meanOfRow_0 : decode cX0_meanOfRow 0 = .ok (.iconst 1, 1) := dk_4 (dk_at dksX0_meanOfRow_0 0 rfl rfl)
theorem dX0_meanOfRow_1 : decode cX0_meanOfRow 1 = .ok (.aload_n 0, 1) := dk_42 (dk_at dksX0_meanOfRow_0 1 rfl rfl)
theorem dX0_meanOfRow_2 : decode cX0_meanOfRow 2 = .ok (.invokevirtual 131, 3) := dk_182 0 131 (dk_at dksX0_meanOfRow_0 2 rfl rfl)
theorem dX0_meanOfRow_5 : decode cX0_meanOfRow 5 = .ok (.ishl, 1) := dk_120 (dk_at dksX0_meanOfRow_0 5 rfl rfl)
theorem dX0_meanOfRow_6 : decode cX0_meanOfRow 6 = .ok (.istore_n 1, 1) := dk_60 (dk_at dksX0_meanOfRow_0 6 rfl rfl)
theorem dX0_meanOfRow_7 : decode cX0_meanOfRow 7 = .ok (.iconst 0, 1) := dk_3 (dk_at dksX0_meanOfRow_0 7 rfl rfl)
theorem dX0_meanOfRow_8 : decode cX0_meanOfRow 8 = .ok (.istore_n 2, 1) := dk_61 (dk_at dksX0_meanOfRow_0 8 rfl rfl)
theorem dX0_meanOfRow_9 : decode cX0_meanOfRow 9 = .ok (.iload_n 2, 1) := dk_28 (dk_at dksX0_meanOfRow_0 9 rfl rfl)
theorem dX0_meanOfRow_10 : decode cX0_meanOfRow 10 = .ok (.iload_n 1, 1) := dk_27 (dk_at dksX0_meanOfRow_0 10 rfl rfl)
theorem dX0_meanOfRow_11 : decode cX0_meanOfRow 11 = .ok (.if_icmp .ge 28, 3) := dk_162 0 28 (dk_at dksX0_meanOfRow_0 11 rfl rfl)
theorem dX0_meanOfRow_14 : decode cX0_meanOfRow 14 = .ok (.aload_n 0, 1) := dk_42 (dk_at dksX0_meanOfRow_0 14 rfl rfl)
theorem dX0_meanOfRow_15 : decode cX0_meanOfRow 15 = .ok (.getfield 59, 3) := dk_180 0 59 (dk_at dksX0_meanOfRow_0 15 rfl rfl)
theorem dX0_meanOfRow_18 : decode cX0_meanOfRow 18 = .ok (.iload_n 2, 1) := dk_28 (dk_at dksX0_meanOfRow_0 18 rfl rfl)
theorem dX0_meanOfRow_19 : decode cX0_meanOfRow 19 = .ok (.iload_n 2, 1) := dk_28 (dk_at dksX0_meanOfRow_0 19 rfl rfl)
theorem dX0_meanOfRow_20 : decode cX0_meanOfRow 20 = .ok (.aload_n 0, 1) := dk_42 (dk_at dksX0_meanOfRow_0 20 rfl rfl)
theorem dX0_meanOfRow_21 : decode cX0_meanOfRow 21 = .ok (.getfield 94, 3) := dk_180 0 94 (dk_at dksX0_meanOfRow_0 21 rfl rfl)
theorem dX0_meanOfRow_24 : decode cX0_meanOfRow 24 = .ok (.if_icmp .ne 7, 3) := dk_160 0 7 (dk_at dksX0_meanOfRow_1 0 rfl rfl)
theorem dX0_meanOfRow_27 : decode cX0_meanOfRow 27 = .ok (.lconst 1, 1) := dk_10 (dk_at dksX0_meanOfRow_1 3 rfl rfl)
theorem dX0_meanOfRow_28 : decode cX0_meanOfRow 28 = .ok (.goto 4, 3) := dk_167 0 4 (dk_at dksX0_meanOfRow_1 4 rfl rfl)
theorem dX0_meanOfRow_31 : decode cX0_meanOfRow 31 = .ok (.lconst 0, 1) := dk_9 (dk_at dksX0_meanOfRow_1 7 rfl rfl)
theorem dX0_meanOfRow_32 : decode cX0_meanOfRow 32 = .ok (.lastore, 1) := dk_80 (dk_at dksX0_meanOfRow_1 8 rfl rfl)
theorem dX0_meanOfRow_33 : decode cX0_meanOfRow 33 = .ok (.iinc 2 1, 3) := dk_132 2 1 (dk_at dksX0_meanOfRow_1 9 rfl rfl)
theorem dX0_meanOfRow_36 : decode cX0_meanOfRow 36 = .ok (.goto (-27), 3) := dk_167 255 229 (dk_at dksX0_meanOfRow_1 12 rfl rfl)
theorem dX0_meanOfRow_39 : decode cX0_meanOfRow 39 = .ok (.lconst 1, 1) := dk_10 (dk_at dksX0_meanOfRow_1 15 rfl rfl)
theorem dX0_meanOfRow_40 : decode cX0_meanOfRow 40 = .ok (.lstore_n 2, 1) := dk_65 (dk_at dksX0_meanOfRow_1 16 rfl rfl)
theorem dX0_meanOfRow_41 : decode cX0_meanOfRow 41 = .ok (.iconst 0, 1) := dk_3 (dk_at dksX0_meanOfRow_1 17 rfl rfl)
theorem dX0_meanOfRow_42 : decode cX0_meanOfRow 42 = .ok (.istore 4, 2) := dk_54 4 (dk_at dksX0_meanOfRow_1 18 rfl rfl)
theorem dX0_meanOfRow_44 : decode cX0_meanOfRow 44 = .ok (.iload 4, 2) := dk_21 4 (dk_at dksX0_meanOfRow_1 20 rfl rfl)
theorem dX0_meanOfRow_46 : decode cX0_meanOfRow 46 = .ok (.aload_n 0, 1) := dk_42 (dk_at dksX0_meanOfRow_1 22 rfl rfl)
theorem dX0_meanOfRow_47 : decode cX0_meanOfRow 47 = .ok (.getfield 113, 3) := dk_180 0 113 (dk_at dksX0_meanOfRow_2 0 rfl rfl)
theorem dX0_meanOfRow_50 : decode cX0_meanOfRow 50 = .ok (.if_icmp .ge 243, 3) := dk_162 0 243 (dk_at dksX0_meanOfRow_2 3 rfl rfl)
theorem dX0_meanOfRow_53 : decode cX0_meanOfRow 53 = .ok (.aload_n 0, 1) := dk_42 (dk_at dksX0_meanOfRow_2 6 rfl rfl)
theorem dX0_meanOfRow_54 : decode cX0_meanOfRow 54 = .ok (.getfield 56, 3) := dk_180 0 56 (dk_at dksX0_meanOfRow_2 7 rfl rfl)
theorem dX0_meanOfRow_57 : decode cX0_meanOfRow 57 = .ok (.iload 4, 2) := dk_21 4 (dk_at dksX0_meanOfRow_2 10 rfl rfl)
theorem dX0_meanOfRow_59 : decode cX0_meanOfRow 59 = .ok (.iaload, 1) := dk_46 (dk_at dksX0_meanOfRow_2 12 rfl rfl)
theorem dX0_meanOfRow_60 : decode cX0_meanOfRow 60 = .ok (.istore 5, 2) := dk_54 5 (dk_at dksX0_meanOfRow_2 13 rfl rfl)
theorem dX0_meanOfRow_62 : decode cX0_meanOfRow 62 = .ok (.aload_n 0, 1) := dk_42 (dk_at dksX0_meanOfRow_2 15 rfl rfl)
theorem dX0_meanOfRow_63 : decode cX0_meanOfRow 63 = .ok (.iload 4, 2) := dk_21 4 (dk_at dksX0_meanOfRow_2 16 rfl rfl)
theorem dX0_meanOfRow_65 : decode cX0_meanOfRow 65 = .ok (.invokevirtual 318, 3) := dk_182 1 62 (dk_at dksX0_meanOfRow_2 18 rfl rfl)
theorem dX0_meanOfRow_68 : decode cX0_meanOfRow 68 = .ok (.ifCond .eq 23, 3) := dk_153 0 23 (dk_at dksX0_meanOfRow_2 21 rfl rfl)
theorem dX0_meanOfRow_71 : decode cX0_meanOfRow 71 = .ok (.aload_n 0, 1) := dk_42 (dk_at dksX0_meanOfRow_3 0 rfl rfl)
theorem dX0_meanOfRow_72 : decode cX0_meanOfRow 72 = .ok (.aload_n 0, 1) := dk_42 (dk_at dksX0_meanOfRow_3 1 rfl rfl)
theorem dX0_meanOfRow_73 : decode cX0_meanOfRow 73 = .ok (.getfield 52, 3) := dk_180 0 52 (dk_at dksX0_meanOfRow_3 2 rfl rfl)
theorem dX0_meanOfRow_76 : decode cX0_meanOfRow 76 = .ok (.iload 4, 2) := dk_21 4 (dk_at dksX0_meanOfRow_3 5 rfl rfl)
theorem dX0_meanOfRow_78 : decode cX0_meanOfRow 78 = .ok (.iaload, 1) := dk_46 (dk_at dksX0_meanOfRow_3 7 rfl rfl)
theorem dX0_meanOfRow_79 : decode cX0_meanOfRow 79 = .ok (.invokevirtual 171, 3) := dk_182 0 171 (dk_at dksX0_meanOfRow_3 8 rfl rfl)
theorem dX0_meanOfRow_82 : decode cX0_meanOfRow 82 = .ok (.getfield 184, 3) := dk_180 0 184 (dk_at dksX0_meanOfRow_3 11 rfl rfl)
theorem dX0_meanOfRow_85 : decode cX0_meanOfRow 85 = .ok (.iload 5, 2) := dk_21 5 (dk_at dksX0_meanOfRow_3 14 rfl rfl)
theorem dX0_meanOfRow_87 : decode cX0_meanOfRow 87 = .ok (.iaload, 1) := dk_46 (dk_at dksX0_meanOfRow_3 16 rfl rfl)
theorem dX0_meanOfRow_88 : decode cX0_meanOfRow 88 = .ok (.goto 4, 3) := dk_167 0 4 (dk_at dksX0_meanOfRow_3 17 rfl rfl)
theorem dX0_meanOfRow_91 : decode cX0_meanOfRow 91 = .ok (.iconst 0, 1) := dk_3 (dk_at dksX0_meanOfRow_3 20 rfl rfl)
theorem dX0_meanOfRow_92 : decode cX0_meanOfRow 92 = .ok (.istore 6, 2) := dk_54 6 (dk_at dksX0_meanOfRow_3 21 rfl rfl)
theorem dX0_meanOfRow_94 : decode cX0_meanOfRow 94 = .ok (.iconst 0, 1) := dk_3 (dk_at dksX0_meanOfRow_3 23 rfl rfl)
theorem dX0_meanOfRow_95 : decode cX0_meanOfRow 95 = .ok (.istore 7, 2) := dk_54 7 (dk_at dksX0_meanOfRow_4 0 rfl rfl)
theorem dX0_meanOfRow_97 : decode cX0_meanOfRow 97 = .ok (.iload 7, 2) := dk_21 7 (dk_at dksX0_meanOfRow_4 2 rfl rfl)
theorem dX0_meanOfRow_99 : decode cX0_meanOfRow 99 = .ok (.iload_n 1, 1) := dk_27 (dk_at dksX0_meanOfRow_4 4 rfl rfl)
theorem dX0_meanOfRow_100 : decode cX0_meanOfRow 100 = .ok (.if_icmp .ge 17, 3) := dk_162 0 17 (dk_at dksX0_meanOfRow_4 5 rfl rfl)
theorem dX0_meanOfRow_103 : decode cX0_meanOfRow 103 = .ok (.aload_n 0, 1) := dk_42 (dk_at dksX0_meanOfRow_4 8 rfl rfl)
theorem dX0_meanOfRow_104 : decode cX0_meanOfRow 104 = .ok (.getfield 63, 3) := dk_180 0 63 (dk_at dksX0_meanOfRow_4 9 rfl rfl)
theorem dX0_meanOfRow_107 : decode cX0_meanOfRow 107 = .ok (.iload 7, 2) := dk_21 7 (dk_at dksX0_meanOfRow_4 12 rfl rfl)
theorem dX0_meanOfRow_109 : decode cX0_meanOfRow 109 = .ok (.lconst 0, 1) := dk_9 (dk_at dksX0_meanOfRow_4 14 rfl rfl)
theorem dX0_meanOfRow_110 : decode cX0_meanOfRow 110 = .ok (.lastore, 1) := dk_80 (dk_at dksX0_meanOfRow_4 15 rfl rfl)
theorem dX0_meanOfRow_111 : decode cX0_meanOfRow 111 = .ok (.iinc 7 1, 3) := dk_132 7 1 (dk_at dksX0_meanOfRow_4 16 rfl rfl)
theorem dX0_meanOfRow_114 : decode cX0_meanOfRow 114 = .ok (.goto (-17), 3) := dk_167 255 239 (dk_at dksX0_meanOfRow_4 19 rfl rfl)
theorem dX0_meanOfRow_117 : decode cX0_meanOfRow 117 = .ok (.iconst 0, 1) := dk_3 (dk_at dksX0_meanOfRow_4 22 rfl rfl)
theorem dX0_meanOfRow_118 : decode cX0_meanOfRow 118 = .ok (.istore 7, 2) := dk_54 7 (dk_at dksX0_meanOfRow_5 0 rfl rfl)
theorem dX0_meanOfRow_120 : decode cX0_meanOfRow 120 = .ok (.iload 7, 2) := dk_21 7 (dk_at dksX0_meanOfRow_5 2 rfl rfl)
theorem dX0_meanOfRow_122 : decode cX0_meanOfRow 122 = .ok (.iload_n 1, 1) := dk_27 (dk_at dksX0_meanOfRow_5 4 rfl rfl)
theorem dX0_meanOfRow_123 : decode cX0_meanOfRow 123 = .ok (.if_icmp .ge 129, 3) := dk_162 0 129 (dk_at dksX0_meanOfRow_5 5 rfl rfl)
theorem dX0_meanOfRow_126 : decode cX0_meanOfRow 126 = .ok (.aload_n 0, 1) := dk_42 (dk_at dksX0_meanOfRow_5 8 rfl rfl)
theorem dX0_meanOfRow_127 : decode cX0_meanOfRow 127 = .ok (.getfield 59, 3) := dk_180 0 59 (dk_at dksX0_meanOfRow_5 9 rfl rfl)
theorem dX0_meanOfRow_130 : decode cX0_meanOfRow 130 = .ok (.iload 7, 2) := dk_21 7 (dk_at dksX0_meanOfRow_5 12 rfl rfl)
theorem dX0_meanOfRow_132 : decode cX0_meanOfRow 132 = .ok (.laload, 1) := dk_47 (dk_at dksX0_meanOfRow_5 14 rfl rfl)
theorem dX0_meanOfRow_133 : decode cX0_meanOfRow 133 = .ok (.lconst 0, 1) := dk_9 (dk_at dksX0_meanOfRow_5 15 rfl rfl)
theorem dX0_meanOfRow_134 : decode cX0_meanOfRow 134 = .ok (.lcmp, 1) := dk_148 (dk_at dksX0_meanOfRow_5 16 rfl rfl)
theorem dX0_meanOfRow_135 : decode cX0_meanOfRow 135 = .ok (.ifCond .ne 6, 3) := dk_154 0 6 (dk_at dksX0_meanOfRow_5 17 rfl rfl)
theorem dX0_meanOfRow_138 : decode cX0_meanOfRow 138 = .ok (.goto 108, 3) := dk_167 0 108 (dk_at dksX0_meanOfRow_5 20 rfl rfl)
theorem dX0_meanOfRow_141 : decode cX0_meanOfRow 141 = .ok (.iload 7, 2) := dk_21 7 (dk_at dksX0_meanOfRow_6 0 rfl rfl)
theorem dX0_meanOfRow_143 : decode cX0_meanOfRow 143 = .ok (.iload 5, 2) := dk_21 5 (dk_at dksX0_meanOfRow_6 2 rfl rfl)
theorem dX0_meanOfRow_145 : decode cX0_meanOfRow 145 = .ok (.ishr, 1) := dk_122 (dk_at dksX0_meanOfRow_6 4 rfl rfl)
theorem dX0_meanOfRow_146 : decode cX0_meanOfRow 146 = .ok (.iconst 1, 1) := dk_4 (dk_at dksX0_meanOfRow_6 5 rfl rfl)
theorem dX0_meanOfRow_147 : decode cX0_meanOfRow 147 = .ok (.iand, 1) := dk_126 (dk_at dksX0_meanOfRow_6 6 rfl rfl)
theorem dX0_meanOfRow_148 : decode cX0_meanOfRow 148 = .ok (.ifCond .ne 18, 3) := dk_154 0 18 (dk_at dksX0_meanOfRow_6 7 rfl rfl)
theorem dX0_meanOfRow_151 : decode cX0_meanOfRow 151 = .ok (.aload_n 0, 1) := dk_42 (dk_at dksX0_meanOfRow_6 10 rfl rfl)
theorem dX0_meanOfRow_152 : decode cX0_meanOfRow 152 = .ok (.iload 5, 2) := dk_21 5 (dk_at dksX0_meanOfRow_6 11 rfl rfl)
theorem dX0_meanOfRow_154 : decode cX0_meanOfRow 154 = .ok (.iload 7, 2) := dk_21 7 (dk_at dksX0_meanOfRow_6 13 rfl rfl)
theorem dX0_meanOfRow_156 : decode cX0_meanOfRow 156 = .ok (.invokevirtual 232, 3) := dk_182 0 232 (dk_at dksX0_meanOfRow_6 15 rfl rfl)
theorem dX0_meanOfRow_159 : decode cX0_meanOfRow 159 = .ok (.ifCond .eq 7, 3) := dk_153 0 7 (dk_at dksX0_meanOfRow_6 18 rfl rfl)
theorem dX0_meanOfRow_162 : decode cX0_meanOfRow 162 = .ok (.iconst 1, 1) := dk_4 (dk_at dksX0_meanOfRow_6 21 rfl rfl)
theorem dX0_meanOfRow_163 : decode cX0_meanOfRow 163 = .ok (.goto 4, 3) := dk_167 0 4 (dk_at dksX0_meanOfRow_7 0 rfl rfl)
theorem dX0_meanOfRow_166 : decode cX0_meanOfRow 166 = .ok (.iconst 0, 1) := dk_3 (dk_at dksX0_meanOfRow_7 3 rfl rfl)
theorem dX0_meanOfRow_167 : decode cX0_meanOfRow 167 = .ok (.istore 8, 2) := dk_54 8 (dk_at dksX0_meanOfRow_7 4 rfl rfl)
theorem dX0_meanOfRow_169 : decode cX0_meanOfRow 169 = .ok (.aload_n 0, 1) := dk_42 (dk_at dksX0_meanOfRow_7 6 rfl rfl)
theorem dX0_meanOfRow_170 : decode cX0_meanOfRow 170 = .ok (.getfield 93, 3) := dk_180 0 93 (dk_at dksX0_meanOfRow_7 7 rfl rfl)
theorem dX0_meanOfRow_173 : decode cX0_meanOfRow 173 = .ok (.iload 7, 2) := dk_21 7 (dk_at dksX0_meanOfRow_7 10 rfl rfl)
theorem dX0_meanOfRow_175 : decode cX0_meanOfRow 175 = .ok (.iconst 1, 1) := dk_4 (dk_at dksX0_meanOfRow_7 12 rfl rfl)
theorem dX0_meanOfRow_176 : decode cX0_meanOfRow 176 = .ok (.iload 5, 2) := dk_21 5 (dk_at dksX0_meanOfRow_7 13 rfl rfl)
theorem dX0_meanOfRow_178 : decode cX0_meanOfRow 178 = .ok (.ishl, 1) := dk_120 (dk_at dksX0_meanOfRow_7 15 rfl rfl)
theorem dX0_meanOfRow_179 : decode cX0_meanOfRow 179 = .ok (.ior, 1) := dk_128 (dk_at dksX0_meanOfRow_7 16 rfl rfl)
theorem dX0_meanOfRow_180 : decode cX0_meanOfRow 180 = .ok (.iconst (-1), 1) := dk_2 (dk_at dksX0_meanOfRow_7 17 rfl rfl)
theorem dX0_meanOfRow_181 : decode cX0_meanOfRow 181 = .ok (.invokevirtual 196, 3) := dk_182 0 196 (dk_at dksX0_meanOfRow_7 18 rfl rfl)
theorem dX0_meanOfRow_184 : decode cX0_meanOfRow 184 = .ok (.istore 9, 2) := dk_54 9 (dk_at dksX0_meanOfRow_7 21 rfl rfl)
theorem dX0_meanOfRow_186 : decode cX0_meanOfRow 186 = .ok (.aload_n 0, 1) := dk_42 (dk_at dksX0_meanOfRow_7 23 rfl rfl)
theorem dX0_meanOfRow_187 : decode cX0_meanOfRow 187 = .ok (.getfield 63, 3) := dk_180 0 63 (dk_at dksX0_meanOfRow_8 0 rfl rfl)
theorem dX0_meanOfRow_190 : decode cX0_meanOfRow 190 = .ok (.iload 7, 2) := dk_21 7 (dk_at dksX0_meanOfRow_8 3 rfl rfl)
theorem dX0_meanOfRow_192 : decode cX0_meanOfRow 192 = .ok (.dup2, 1) := dk_92 (dk_at dksX0_meanOfRow_8 5 rfl rfl)
theorem dX0_meanOfRow_193 : decode cX0_meanOfRow 193 = .ok (.laload, 1) := dk_47 (dk_at dksX0_meanOfRow_8 6 rfl rfl)
theorem dX0_meanOfRow_194 : decode cX0_meanOfRow 194 = .ok (.aload_n 0, 1) := dk_42 (dk_at dksX0_meanOfRow_8 7 rfl rfl)
theorem dX0_meanOfRow_195 : decode cX0_meanOfRow 195 = .ok (.getfield 59, 3) := dk_180 0 59 (dk_at dksX0_meanOfRow_8 8 rfl rfl)
theorem dX0_meanOfRow_198 : decode cX0_meanOfRow 198 = .ok (.iload 7, 2) := dk_21 7 (dk_at dksX0_meanOfRow_8 11 rfl rfl)
theorem dX0_meanOfRow_200 : decode cX0_meanOfRow 200 = .ok (.laload, 1) := dk_47 (dk_at dksX0_meanOfRow_8 13 rfl rfl)
theorem dX0_meanOfRow_201 : decode cX0_meanOfRow 201 = .ok (.iload 8, 2) := dk_21 8 (dk_at dksX0_meanOfRow_8 14 rfl rfl)
theorem dX0_meanOfRow_203 : decode cX0_meanOfRow 203 = .ok (.ifCond .eq 11, 3) := dk_153 0 11 (dk_at dksX0_meanOfRow_8 16 rfl rfl)
theorem dX0_meanOfRow_206 : decode cX0_meanOfRow 206 = .ok (.bipush 16, 2) := dk_16 16 (dk_at dksX0_meanOfRow_8 19 rfl rfl)
theorem dX0_meanOfRow_208 : decode cX0_meanOfRow 208 = .ok (.iload 6, 2) := dk_21 6 (dk_at dksX0_meanOfRow_8 21 rfl rfl)
theorem dX0_meanOfRow_210 : decode cX0_meanOfRow 210 = .ok (.isub, 1) := dk_100 (dk_at dksX0_meanOfRow_8 23 rfl rfl)
theorem dX0_meanOfRow_211 : decode cX0_meanOfRow 211 = .ok (.goto 5, 3) := dk_167 0 5 (dk_at dksX0_meanOfRow_9 0 rfl rfl)
theorem dX0_meanOfRow_214 : decode cX0_meanOfRow 214 = .ok (.bipush 16, 2) := dk_16 16 (dk_at dksX0_meanOfRow_9 3 rfl rfl)
theorem dX0_meanOfRow_216 : decode cX0_meanOfRow 216 = .ok (.i2l, 1) := dk_133 (dk_at dksX0_meanOfRow_9 5 rfl rfl)
theorem dX0_meanOfRow_217 : decode cX0_meanOfRow 217 = .ok (.lmul, 1) := dk_105 (dk_at dksX0_meanOfRow_9 6 rfl rfl)
theorem dX0_meanOfRow_218 : decode cX0_meanOfRow 218 = .ok (.ladd, 1) := dk_97 (dk_at dksX0_meanOfRow_9 7 rfl rfl)
theorem dX0_meanOfRow_219 : decode cX0_meanOfRow 219 = .ok (.lastore, 1) := dk_80 (dk_at dksX0_meanOfRow_9 8 rfl rfl)
theorem dX0_meanOfRow_220 : decode cX0_meanOfRow 220 = .ok (.iload 8, 2) := dk_21 8 (dk_at dksX0_meanOfRow_9 9 rfl rfl)
theorem dX0_meanOfRow_222 : decode cX0_meanOfRow 222 = .ok (.ifCond .eq 24, 3) := dk_153 0 24 (dk_at dksX0_meanOfRow_9 11 rfl rfl)
theorem dX0_meanOfRow_225 : decode cX0_meanOfRow 225 = .ok (.aload_n 0, 1) := dk_42 (dk_at dksX0_meanOfRow_9 14 rfl rfl)
theorem dX0_meanOfRow_226 : decode cX0_meanOfRow 226 = .ok (.getfield 63, 3) := dk_180 0 63 (dk_at dksX0_meanOfRow_9 15 rfl rfl)
theorem dX0_meanOfRow_229 : decode cX0_meanOfRow 229 = .ok (.iload 9, 2) := dk_21 9 (dk_at dksX0_meanOfRow_9 18 rfl rfl)
theorem dX0_meanOfRow_231 : decode cX0_meanOfRow 231 = .ok (.dup2, 1) := dk_92 (dk_at dksX0_meanOfRow_9 20 rfl rfl)
theorem dX0_meanOfRow_232 : decode cX0_meanOfRow 232 = .ok (.laload, 1) := dk_47 (dk_at dksX0_meanOfRow_9 21 rfl rfl)
theorem dX0_meanOfRow_233 : decode cX0_meanOfRow 233 = .ok (.aload_n 0, 1) := dk_42 (dk_at dksX0_meanOfRow_9 22 rfl rfl)
theorem dX0_meanOfRow_234 : decode cX0_meanOfRow 234 = .ok (.getfield 59, 3) := dk_180 0 59 (dk_at dksX0_meanOfRow_10 0 rfl rfl)
theorem dX0_meanOfRow_237 : decode cX0_meanOfRow 237 = .ok (.iload 7, 2) := dk_21 7 (dk_at dksX0_meanOfRow_10 3 rfl rfl)
theorem dX0_meanOfRow_239 : decode cX0_meanOfRow 239 = .ok (.laload, 1) := dk_47 (dk_at dksX0_meanOfRow_10 5 rfl rfl)
theorem dX0_meanOfRow_240 : decode cX0_meanOfRow 240 = .ok (.iload 6, 2) := dk_21 6 (dk_at dksX0_meanOfRow_10 6 rfl rfl)
theorem dX0_meanOfRow_242 : decode cX0_meanOfRow 242 = .ok (.i2l, 1) := dk_133 (dk_at dksX0_meanOfRow_10 8 rfl rfl)
theorem dX0_meanOfRow_243 : decode cX0_meanOfRow 243 = .ok (.lmul, 1) := dk_105 (dk_at dksX0_meanOfRow_10 9 rfl rfl)
theorem dX0_meanOfRow_244 : decode cX0_meanOfRow 244 = .ok (.ladd, 1) := dk_97 (dk_at dksX0_meanOfRow_10 10 rfl rfl)
theorem dX0_meanOfRow_245 : decode cX0_meanOfRow 245 = .ok (.lastore, 1) := dk_80 (dk_at dksX0_meanOfRow_10 11 rfl rfl)
theorem dX0_meanOfRow_246 : decode cX0_meanOfRow 246 = .ok (.iinc 7 1, 3) := dk_132 7 1 (dk_at dksX0_meanOfRow_10 12 rfl rfl)
theorem dX0_meanOfRow_249 : decode cX0_meanOfRow 249 = .ok (.goto (-129), 3) := dk_167 255 127 (dk_at dksX0_meanOfRow_10 15 rfl rfl)
theorem dX0_meanOfRow_252 : decode cX0_meanOfRow 252 = .ok (.iconst 0, 1) := dk_3 (dk_at dksX0_meanOfRow_10 18 rfl rfl)
theorem dX0_meanOfRow_253 : decode cX0_meanOfRow 253 = .ok (.istore 7, 2) := dk_54 7 (dk_at dksX0_meanOfRow_10 19 rfl rfl)
theorem dX0_meanOfRow_255 : decode cX0_meanOfRow 255 = .ok (.iload 7, 2) := dk_21 7 (dk_at dksX0_meanOfRow_10 21 rfl rfl)
theorem dX0_meanOfRow_257 : decode cX0_meanOfRow 257 = .ok (.iload_n 1, 1) := dk_27 (dk_at dksX0_meanOfRow_10 23 rfl rfl)
theorem dX0_meanOfRow_258 : decode cX0_meanOfRow 258 = .ok (.if_icmp .ge 23, 3) := dk_162 0 23 (dk_at dksX0_meanOfRow_11 0 rfl rfl)
theorem dX0_meanOfRow_261 : decode cX0_meanOfRow 261 = .ok (.aload_n 0, 1) := dk_42 (dk_at dksX0_meanOfRow_11 3 rfl rfl)
theorem dX0_meanOfRow_262 : decode cX0_meanOfRow 262 = .ok (.getfield 59, 3) := dk_180 0 59 (dk_at dksX0_meanOfRow_11 4 rfl rfl)
theorem dX0_meanOfRow_265 : decode cX0_meanOfRow 265 = .ok (.iload 7, 2) := dk_21 7 (dk_at dksX0_meanOfRow_11 7 rfl rfl)
theorem dX0_meanOfRow_267 : decode cX0_meanOfRow 267 = .ok (.aload_n 0, 1) := dk_42 (dk_at dksX0_meanOfRow_11 9 rfl rfl)
theorem dX0_meanOfRow_268 : decode cX0_meanOfRow 268 = .ok (.getfield 63, 3) := dk_180 0 63 (dk_at dksX0_meanOfRow_11 10 rfl rfl)
theorem dX0_meanOfRow_271 : decode cX0_meanOfRow 271 = .ok (.iload 7, 2) := dk_21 7 (dk_at dksX0_meanOfRow_11 13 rfl rfl)
theorem dX0_meanOfRow_273 : decode cX0_meanOfRow 273 = .ok (.laload, 1) := dk_47 (dk_at dksX0_meanOfRow_11 15 rfl rfl)
theorem dX0_meanOfRow_274 : decode cX0_meanOfRow 274 = .ok (.lastore, 1) := dk_80 (dk_at dksX0_meanOfRow_11 16 rfl rfl)
theorem dX0_meanOfRow_275 : decode cX0_meanOfRow 275 = .ok (.iinc 7 1, 3) := dk_132 7 1 (dk_at dksX0_meanOfRow_11 17 rfl rfl)
theorem dX0_meanOfRow_278 : decode cX0_meanOfRow 278 = .ok (.goto (-23), 3) := dk_167 255 233 (dk_at dksX0_meanOfRow_11 20 rfl rfl)
theorem dX0_meanOfRow_281 : decode cX0_meanOfRow 281 = .ok (.lload_n 2, 1) := dk_32 (dk_at dksX0_meanOfRow_11 23 rfl rfl)
theorem dX0_meanOfRow_282 : decode cX0_meanOfRow 282 = .ok (.ldc2_w 306, 3) := dk_20 1 50 (dk_at dksX0_meanOfRow_12 0 rfl rfl)
theorem dX0_meanOfRow_285 : decode cX0_meanOfRow 285 = .ok (.lmul, 1) := dk_105 (dk_at dksX0_meanOfRow_12 3 rfl rfl)
theorem dX0_meanOfRow_286 : decode cX0_meanOfRow 286 = .ok (.lstore_n 2, 1) := dk_65 (dk_at dksX0_meanOfRow_12 4 rfl rfl)
theorem dX0_meanOfRow_287 : decode cX0_meanOfRow 287 = .ok (.iinc 4 1, 3) := dk_132 4 1 (dk_at dksX0_meanOfRow_12 5 rfl rfl)
theorem dX0_meanOfRow_290 : decode cX0_meanOfRow 290 = .ok (.goto (-246), 3) := dk_167 255 10 (dk_at dksX0_meanOfRow_12 8 rfl rfl)
theorem dX0_meanOfRow_293 : decode cX0_meanOfRow 293 = .ok (.lconst 0, 1) := dk_9 (dk_at dksX0_meanOfRow_12 11 rfl rfl)
theorem dX0_meanOfRow_294 : decode cX0_meanOfRow 294 = .ok (.lstore 4, 2) := dk_55 4 (dk_at dksX0_meanOfRow_12 12 rfl rfl)
theorem dX0_meanOfRow_296 : decode cX0_meanOfRow 296 = .ok (.iconst 0, 1) := dk_3 (dk_at dksX0_meanOfRow_12 14 rfl rfl)
theorem dX0_meanOfRow_297 : decode cX0_meanOfRow 297 = .ok (.istore 6, 2) := dk_54 6 (dk_at dksX0_meanOfRow_12 15 rfl rfl)
theorem dX0_meanOfRow_299 : decode cX0_meanOfRow 299 = .ok (.iload 6, 2) := dk_21 6 (dk_at dksX0_meanOfRow_12 17 rfl rfl)
theorem dX0_meanOfRow_301 : decode cX0_meanOfRow 301 = .ok (.iload_n 1, 1) := dk_27 (dk_at dksX0_meanOfRow_12 19 rfl rfl)
theorem dX0_meanOfRow_302 : decode cX0_meanOfRow 302 = .ok (.if_icmp .ge 44, 3) := dk_162 0 44 (dk_at dksX0_meanOfRow_12 20 rfl rfl)
theorem dX0_meanOfRow_305 : decode cX0_meanOfRow 305 = .ok (.aload_n 0, 1) := dk_42 (dk_at dksX0_meanOfRow_12 23 rfl rfl)
theorem dX0_meanOfRow_306 : decode cX0_meanOfRow 306 = .ok (.getfield 59, 3) := dk_180 0 59 (dk_at dksX0_meanOfRow_13 0 rfl rfl)
theorem dX0_meanOfRow_309 : decode cX0_meanOfRow 309 = .ok (.iload 6, 2) := dk_21 6 (dk_at dksX0_meanOfRow_13 3 rfl rfl)
theorem dX0_meanOfRow_311 : decode cX0_meanOfRow 311 = .ok (.laload, 1) := dk_47 (dk_at dksX0_meanOfRow_13 5 rfl rfl)
theorem dX0_meanOfRow_312 : decode cX0_meanOfRow 312 = .ok (.lconst 0, 1) := dk_9 (dk_at dksX0_meanOfRow_13 6 rfl rfl)
theorem dX0_meanOfRow_313 : decode cX0_meanOfRow 313 = .ok (.lcmp, 1) := dk_148 (dk_at dksX0_meanOfRow_13 7 rfl rfl)
theorem dX0_meanOfRow_314 : decode cX0_meanOfRow 314 = .ok (.ifCond .le 26, 3) := dk_158 0 26 (dk_at dksX0_meanOfRow_13 8 rfl rfl)
theorem dX0_meanOfRow_317 : decode cX0_meanOfRow 317 = .ok (.lload 4, 2) := dk_22 4 (dk_at dksX0_meanOfRow_13 11 rfl rfl)
theorem dX0_meanOfRow_319 : decode cX0_meanOfRow 319 = .ok (.aload_n 0, 1) := dk_42 (dk_at dksX0_meanOfRow_13 13 rfl rfl)
theorem dX0_meanOfRow_320 : decode cX0_meanOfRow 320 = .ok (.getfield 59, 3) := dk_180 0 59 (dk_at dksX0_meanOfRow_13 14 rfl rfl)
theorem dX0_meanOfRow_323 : decode cX0_meanOfRow 323 = .ok (.iload 6, 2) := dk_21 6 (dk_at dksX0_meanOfRow_13 17 rfl rfl)
theorem dX0_meanOfRow_325 : decode cX0_meanOfRow 325 = .ok (.laload, 1) := dk_47 (dk_at dksX0_meanOfRow_13 19 rfl rfl)
theorem dX0_meanOfRow_326 : decode cX0_meanOfRow 326 = .ok (.aload_n 0, 1) := dk_42 (dk_at dksX0_meanOfRow_13 20 rfl rfl)
theorem dX0_meanOfRow_327 : decode cX0_meanOfRow 327 = .ok (.getfield 93, 3) := dk_180 0 93 (dk_at dksX0_meanOfRow_13 21 rfl rfl)
theorem dX0_meanOfRow_330 : decode cX0_meanOfRow 330 = .ok (.iload 6, 2) := dk_21 6 (dk_at dksX0_meanOfRow_14 0 rfl rfl)
theorem dX0_meanOfRow_332 : decode cX0_meanOfRow 332 = .ok (.invokevirtual 200, 3) := dk_182 0 200 (dk_at dksX0_meanOfRow_14 2 rfl rfl)
theorem dX0_meanOfRow_335 : decode cX0_meanOfRow 335 = .ok (.i2l, 1) := dk_133 (dk_at dksX0_meanOfRow_14 5 rfl rfl)
theorem dX0_meanOfRow_336 : decode cX0_meanOfRow 336 = .ok (.lmul, 1) := dk_105 (dk_at dksX0_meanOfRow_14 6 rfl rfl)
theorem dX0_meanOfRow_337 : decode cX0_meanOfRow 337 = .ok (.ladd, 1) := dk_97 (dk_at dksX0_meanOfRow_14 7 rfl rfl)
theorem dX0_meanOfRow_338 : decode cX0_meanOfRow 338 = .ok (.lstore 4, 2) := dk_55 4 (dk_at dksX0_meanOfRow_14 8 rfl rfl)
theorem dX0_meanOfRow_340 : decode cX0_meanOfRow 340 = .ok (.iinc 6 1, 3) := dk_132 6 1 (dk_at dksX0_meanOfRow_14 10 rfl rfl)
theorem dX0_meanOfRow_343 : decode cX0_meanOfRow 343 = .ok (.goto (-44), 3) := dk_167 255 212 (dk_at dksX0_meanOfRow_14 13 rfl rfl)
theorem dX0_meanOfRow_346 : decode cX0_meanOfRow 346 = .ok (.ldc2_w 321, 3) := dk_20 1 65 (dk_at dksX0_meanOfRow_14 16 rfl rfl)
theorem dX0_meanOfRow_349 : decode cX0_meanOfRow 349 = .ok (.lload 4, 2) := dk_22 4 (dk_at dksX0_meanOfRow_14 19 rfl rfl)
theorem dX0_meanOfRow_351 : decode cX0_meanOfRow 351 = .ok (.lmul, 1) := dk_105 (dk_at dksX0_meanOfRow_14 21 rfl rfl)
theorem dX0_meanOfRow_352 : decode cX0_meanOfRow 352 = .ok (.lload_n 2, 1) := dk_32 (dk_at dksX0_meanOfRow_14 22 rfl rfl)
theorem dX0_meanOfRow_353 : decode cX0_meanOfRow 353 = .ok (.ldiv, 1) := dk_109 (dk_at dksX0_meanOfRow_14 23 rfl rfl)
theorem dX0_meanOfRow_354 : decode cX0_meanOfRow 354 = .ok (.l2i, 1) := dk_136 (dk_at dksX0_meanOfRow_15 0 rfl rfl)
theorem dX0_meanOfRow_355 : decode cX0_meanOfRow 355 = .ok (.ireturn, 1) := dk_172 (dk_at dksX0_meanOfRow_15 1 rfl rfl)
def dkwX0_canTell_1 : List UInt8 := [46, 182, 0, 187, 153, 0, 7, 4, 167, 0, 4, 3, 172]
abbrev dktX0_canTell_1 : List UInt8 := dkwX0_canTell_1 ++ []
def dkwX0_canTell_0 : List UInt8 := [42, 42, 180, 0, 52, 27, 46, 182, 0, 171, 77, 44, 180, 0, 178, 153, 0, 20, 44, 42, 180, 0, 56, 27]
abbrev dktX0_canTell_0 : List UInt8 := dkwX0_canTell_0 ++ dktX0_canTell_1
theorem dksX0_canTell_0 : cX0_canTell.data.toList.drop 0 = dktX0_canTell_0 := by decide +kernel
theorem dksX0_canTell_1 : cX0_canTell.data.toList.drop 24 = dktX0_canTell_1 := dk_seg dksX0_canTell_0 24 rfl rfl
theorem dX0_canTell_0 : decode cX0_canTell 0 = .ok (.aload_n 0, 1) := dk_42 (dk_at dksX0_canTell_0 0 rfl rfl)
theorem dX0_canTell_1 : decode cX0_canTell 1 = .ok (.aload_n 0, 1) := dk_42 (dk_at dksX0_canTell_0 1 rfl rfl)
theorem dX0_canTell_2 : decode cX0_canTell 2 = .ok (.getfield 52, 3) := dk_180 0 52 (dk_at dksX0_canTell_0 2 rfl rfl)
theorem dX0_canTell_5 : decode cX0_canTell 5 = .ok (.iload_n 1, 1) := dk_27 (dk_at dksX0_canTell_0 5 rfl rfl)
theorem dX0_canTell_6 : decode cX0_canTell 6 = .ok (.iaload, 1) := dk_46 (dk_at dksX0_canTell_0 6 rfl rfl)
theorem dX0_canTell_7 : decode cX0_canTell 7 = .ok (.invokevirtual 171, 3) := dk_182 0 171 (dk_at dksX0_canTell_0 7 rfl rfl)
theorem dX0_canTell_10 : decode cX0_canTell 10 = .ok (.astore_n 2, 1) := dk_77 (dk_at dksX0_canTell_0 10 rfl rfl)
theorem dX0_canTell_11 : decode cX0_canTell 11 = .ok (.aload_n 2, 1) := dk_44 (dk_at dksX0_canTell_0 11 rfl rfl)
theorem dX0_canTell_12 : decode cX0_canTell 12 = .ok (.getfield 178, 3) := dk_180 0 178 (dk_at dksX0_canTell_0 12 rfl rfl)
theorem dX0_canTell_15 : decode cX0_canTell 15 = .ok (.ifCond .eq 20, 3) := dk_153 0 20 (dk_at dksX0_canTell_0 15 rfl rfl)
theorem dX0_canTell_18 : decode cX0_canTell 18 = .ok (.aload_n 2, 1) := dk_44 (dk_at dksX0_canTell_0 18 rfl rfl)
theorem dX0_canTell_19 : decode cX0_canTell 19 = .ok (.aload_n 0, 1) := dk_42 (dk_at dksX0_canTell_0 19 rfl rfl)
theorem dX0_canTell_20 : decode cX0_canTell 20 = .ok (.getfield 56, 3) := dk_180 0 56 (dk_at dksX0_canTell_0 20 rfl rfl)
theorem dX0_canTell_23 : decode cX0_canTell 23 = .ok (.iload_n 1, 1) := dk_27 (dk_at dksX0_canTell_0 23 rfl rfl)
theorem dX0_canTell_24 : decode cX0_canTell 24 = .ok (.iaload, 1) := dk_46 (dk_at dksX0_canTell_1 0 rfl rfl)
theorem dX0_canTell_25 : decode cX0_canTell 25 = .ok (.invokevirtual 187, 3) := dk_182 0 187 (dk_at dksX0_canTell_1 1 rfl rfl)
theorem dX0_canTell_28 : decode cX0_canTell 28 = .ok (.ifCond .eq 7, 3) := dk_153 0 7 (dk_at dksX0_canTell_1 4 rfl rfl)
theorem dX0_canTell_31 : decode cX0_canTell 31 = .ok (.iconst 1, 1) := dk_4 (dk_at dksX0_canTell_1 7 rfl rfl)
theorem dX0_canTell_32 : decode cX0_canTell 32 = .ok (.goto 4, 3) := dk_167 0 4 (dk_at dksX0_canTell_1 8 rfl rfl)
theorem dX0_canTell_35 : decode cX0_canTell 35 = .ok (.iconst 0, 1) := dk_3 (dk_at dksX0_canTell_1 11 rfl rfl)
theorem dX0_canTell_36 : decode cX0_canTell 36 = .ok (.ireturn, 1) := dk_172 (dk_at dksX0_canTell_1 12 rfl rfl)
def dkwX0_barred_2 : List UInt8 := [172, 42, 180, 0, 93, 27, 4, 29, 120, 128, 2, 182, 0, 196, 60, 132, 2, 1, 167, 255, 197, 2, 172]
abbrev dktX0_barred_2 : List UInt8 := dkwX0_barred_2 ++ []
def dkwX0_barred_1 : List UInt8 := [182, 1, 62, 153, 0, 20, 42, 29, 182, 0, 165, 154, 0, 12, 42, 29, 27, 182, 0, 232, 154, 0, 5, 28]
abbrev dktX0_barred_1 : List UInt8 := dkwX0_barred_1 ++ dktX0_barred_2
def dkwX0_barred_0 : List UInt8 := [42, 180, 0, 94, 60, 3, 61, 28, 42, 180, 0, 113, 162, 0, 57, 42, 180, 0, 56, 28, 46, 62, 42, 28]
abbrev dktX0_barred_0 : List UInt8 := dkwX0_barred_0 ++ dktX0_barred_1
theorem dksX0_barred_0 : cX0_barred.data.toList.drop 0 = dktX0_barred_0 := by decide +kernel
theorem dksX0_barred_1 : cX0_barred.data.toList.drop 24 = dktX0_barred_1 := dk_seg dksX0_barred_0 24 rfl rfl
theorem dksX0_barred_2 : cX0_barred.data.toList.drop 48 = dktX0_barred_2 := dk_seg dksX0_barred_1 24 rfl rfl
theorem dX0_barred_0 : decode cX0_barred 0 = .ok (.aload_n 0, 1) := dk_42 (dk_at dksX0_barred_0 0 rfl rfl)
theorem dX0_barred_1 : decode cX0_barred 1 = .ok (.getfield 94, 3) := dk_180 0 94 (dk_at dksX0_barred_0 1 rfl rfl)
theorem dX0_barred_4 : decode cX0_barred 4 = .ok (.istore_n 1, 1) := dk_60 (dk_at dksX0_barred_0 4 rfl rfl)
theorem dX0_barred_5 : decode cX0_barred 5 = .ok (.iconst 0, 1) := dk_3 (dk_at dksX0_barred_0 5 rfl rfl)
theorem dX0_barred_6 : decode cX0_barred 6 = .ok (.istore_n 2, 1) := dk_61 (dk_at dksX0_barred_0 6 rfl rfl)
theorem dX0_barred_7 : decode cX0_barred 7 = .ok (.iload_n 2, 1) := dk_28 (dk_at dksX0_barred_0 7 rfl rfl)
theorem dX0_barred_8 : decode cX0_barred 8 = .ok (.aload_n 0, 1) := dk_42 (dk_at dksX0_barred_0 8 rfl rfl)
theorem dX0_barred_9 : decode cX0_barred 9 = .ok (.getfield 113, 3) := dk_180 0 113 (dk_at dksX0_barred_0 9 rfl rfl)
theorem dX0_barred_12 : decode cX0_barred 12 = .ok (.if_icmp .ge 57, 3) := dk_162 0 57 (dk_at dksX0_barred_0 12 rfl rfl)
theorem dX0_barred_15 : decode cX0_barred 15 = .ok (.aload_n 0, 1) := dk_42 (dk_at dksX0_barred_0 15 rfl rfl)
theorem dX0_barred_16 : decode cX0_barred 16 = .ok (.getfield 56, 3) := dk_180 0 56 (dk_at dksX0_barred_0 16 rfl rfl)
theorem dX0_barred_19 : decode cX0_barred 19 = .ok (.iload_n 2, 1) := dk_28 (dk_at dksX0_barred_0 19 rfl rfl)
theorem dX0_barred_20 : decode cX0_barred 20 = .ok (.iaload, 1) := dk_46 (dk_at dksX0_barred_0 20 rfl rfl)
theorem dX0_barred_21 : decode cX0_barred 21 = .ok (.istore_n 3, 1) := dk_62 (dk_at dksX0_barred_0 21 rfl rfl)
theorem dX0_barred_22 : decode cX0_barred 22 = .ok (.aload_n 0, 1) := dk_42 (dk_at dksX0_barred_0 22 rfl rfl)
theorem dX0_barred_23 : decode cX0_barred 23 = .ok (.iload_n 2, 1) := dk_28 (dk_at dksX0_barred_0 23 rfl rfl)
theorem dX0_barred_24 : decode cX0_barred 24 = .ok (.invokevirtual 318, 3) := dk_182 1 62 (dk_at dksX0_barred_1 0 rfl rfl)
theorem dX0_barred_27 : decode cX0_barred 27 = .ok (.ifCond .eq 20, 3) := dk_153 0 20 (dk_at dksX0_barred_1 3 rfl rfl)
theorem dX0_barred_30 : decode cX0_barred 30 = .ok (.aload_n 0, 1) := dk_42 (dk_at dksX0_barred_1 6 rfl rfl)
theorem dX0_barred_31 : decode cX0_barred 31 = .ok (.iload_n 3, 1) := dk_29 (dk_at dksX0_barred_1 7 rfl rfl)
theorem dX0_barred_32 : decode cX0_barred 32 = .ok (.invokevirtual 165, 3) := dk_182 0 165 (dk_at dksX0_barred_1 8 rfl rfl)
theorem dX0_barred_35 : decode cX0_barred 35 = .ok (.ifCond .ne 12, 3) := dk_154 0 12 (dk_at dksX0_barred_1 11 rfl rfl)
theorem dX0_barred_38 : decode cX0_barred 38 = .ok (.aload_n 0, 1) := dk_42 (dk_at dksX0_barred_1 14 rfl rfl)
theorem dX0_barred_39 : decode cX0_barred 39 = .ok (.iload_n 3, 1) := dk_29 (dk_at dksX0_barred_1 15 rfl rfl)
theorem dX0_barred_40 : decode cX0_barred 40 = .ok (.iload_n 1, 1) := dk_27 (dk_at dksX0_barred_1 16 rfl rfl)
theorem dX0_barred_41 : decode cX0_barred 41 = .ok (.invokevirtual 232, 3) := dk_182 0 232 (dk_at dksX0_barred_1 17 rfl rfl)
theorem dX0_barred_44 : decode cX0_barred 44 = .ok (.ifCond .ne 5, 3) := dk_154 0 5 (dk_at dksX0_barred_1 20 rfl rfl)
theorem dX0_barred_47 : decode cX0_barred 47 = .ok (.iload_n 2, 1) := dk_28 (dk_at dksX0_barred_1 23 rfl rfl)
theorem dX0_barred_48 : decode cX0_barred 48 = .ok (.ireturn, 1) := dk_172 (dk_at dksX0_barred_2 0 rfl rfl)
theorem dX0_barred_49 : decode cX0_barred 49 = .ok (.aload_n 0, 1) := dk_42 (dk_at dksX0_barred_2 1 rfl rfl)
theorem dX0_barred_50 : decode cX0_barred 50 = .ok (.getfield 93, 3) := dk_180 0 93 (dk_at dksX0_barred_2 2 rfl rfl)
theorem dX0_barred_53 : decode cX0_barred 53 = .ok (.iload_n 1, 1) := dk_27 (dk_at dksX0_barred_2 5 rfl rfl)
theorem dX0_barred_54 : decode cX0_barred 54 = .ok (.iconst 1, 1) := dk_4 (dk_at dksX0_barred_2 6 rfl rfl)
theorem dX0_barred_55 : decode cX0_barred 55 = .ok (.iload_n 3, 1) := dk_29 (dk_at dksX0_barred_2 7 rfl rfl)
theorem dX0_barred_56 : decode cX0_barred 56 = .ok (.ishl, 1) := dk_120 (dk_at dksX0_barred_2 8 rfl rfl)
theorem dX0_barred_57 : decode cX0_barred 57 = .ok (.ior, 1) := dk_128 (dk_at dksX0_barred_2 9 rfl rfl)
theorem dX0_barred_58 : decode cX0_barred 58 = .ok (.iconst (-1), 1) := dk_2 (dk_at dksX0_barred_2 10 rfl rfl)
theorem dX0_barred_59 : decode cX0_barred 59 = .ok (.invokevirtual 196, 3) := dk_182 0 196 (dk_at dksX0_barred_2 11 rfl rfl)
theorem dX0_barred_62 : decode cX0_barred 62 = .ok (.istore_n 1, 1) := dk_60 (dk_at dksX0_barred_2 14 rfl rfl)
theorem dX0_barred_63 : decode cX0_barred 63 = .ok (.iinc 2 1, 3) := dk_132 2 1 (dk_at dksX0_barred_2 15 rfl rfl)
theorem dX0_barred_66 : decode cX0_barred 66 = .ok (.goto (-59), 3) := dk_167 255 197 (dk_at dksX0_barred_2 18 rfl rfl)
theorem dX0_barred_69 : decode cX0_barred 69 = .ok (.iconst (-1), 1) := dk_2 (dk_at dksX0_barred_2 21 rfl rfl)
theorem dX0_barred_70 : decode cX0_barred 70 = .ok (.ireturn, 1) := dk_172 (dk_at dksX0_barred_2 22 rfl rfl)
def dkwX0_hear_4 : List UInt8 := [180, 0, 110, 172]
abbrev dktX0_hear_4 : List UInt8 := dkwX0_hear_4 ++ []
def dkwX0_hear_3 : List UInt8 := [25, 5, 29, 181, 1, 80, 25, 5, 21, 4, 181, 1, 83, 42, 89, 180, 0, 110, 4, 96, 181, 0, 110, 42]
abbrev dktX0_hear_3 : List UInt8 := dkwX0_hear_3 ++ dktX0_hear_4
def dkwX0_hear_2 : List UInt8 := [172, 42, 180, 0, 68, 42, 180, 0, 110, 50, 58, 5, 25, 5, 27, 181, 1, 78, 25, 5, 28, 181, 1, 79]
abbrev dktX0_hear_2 : List UInt8 := dkwX0_hear_2 ++ dktX0_hear_3
def dkwX0_hear_1 : List UInt8 := [21, 4, 2, 159, 0, 11, 21, 4, 184, 1, 75, 153, 0, 12, 42, 180, 0, 110, 16, 40, 160, 0, 5, 2]
abbrev dktX0_hear_1 : List UInt8 := dkwX0_hear_1 ++ dktX0_hear_2
def dkwX0_hear_0 : List UInt8 := [42, 27, 182, 0, 145, 153, 0, 41, 42, 28, 182, 0, 168, 153, 0, 33, 29, 184, 1, 75, 153, 0, 26]
abbrev dktX0_hear_0 : List UInt8 := dkwX0_hear_0 ++ dktX0_hear_1
theorem dksX0_hear_0 : cX0_hear.data.toList.drop 0 = dktX0_hear_0 := by decide +kernel
theorem dksX0_hear_1 : cX0_hear.data.toList.drop 23 = dktX0_hear_1 := dk_seg dksX0_hear_0 23 rfl rfl
theorem dksX0_hear_2 : cX0_hear.data.toList.drop 47 = dktX0_hear_2 := dk_seg dksX0_hear_1 24 rfl rfl
theorem dksX0_hear_3 : cX0_hear.data.toList.drop 71 = dktX0_hear_3 := dk_seg dksX0_hear_2 24 rfl rfl
theorem dksX0_hear_4 : cX0_hear.data.toList.drop 95 = dktX0_hear_4 := dk_seg dksX0_hear_3 24 rfl rfl
theorem dX0_hear_0 : decode cX0_hear 0 = .ok (.aload_n 0, 1) := dk_42 (dk_at dksX0_hear_0 0 rfl rfl)
theorem dX0_hear_1 : decode cX0_hear 1 = .ok (.iload_n 1, 1) := dk_27 (dk_at dksX0_hear_0 1 rfl rfl)
theorem dX0_hear_2 : decode cX0_hear 2 = .ok (.invokevirtual 145, 3) := dk_182 0 145 (dk_at dksX0_hear_0 2 rfl rfl)
theorem dX0_hear_5 : decode cX0_hear 5 = .ok (.ifCond .eq 41, 3) := dk_153 0 41 (dk_at dksX0_hear_0 5 rfl rfl)
theorem dX0_hear_8 : decode cX0_hear 8 = .ok (.aload_n 0, 1) := dk_42 (dk_at dksX0_hear_0 8 rfl rfl)
theorem dX0_hear_9 : decode cX0_hear 9 = .ok (.iload_n 2, 1) := dk_28 (dk_at dksX0_hear_0 9 rfl rfl)
theorem dX0_hear_10 : decode cX0_hear 10 = .ok (.invokevirtual 168, 3) := dk_182 0 168 (dk_at dksX0_hear_0 10 rfl rfl)
theorem dX0_hear_13 : decode cX0_hear 13 = .ok (.ifCond .eq 33, 3) := dk_153 0 33 (dk_at dksX0_hear_0 13 rfl rfl)
theorem dX0_hear_16 : decode cX0_hear 16 = .ok (.iload_n 3, 1) := dk_29 (dk_at dksX0_hear_0 16 rfl rfl)
theorem dX0_hear_17 : decode cX0_hear 17 = .ok (.invokestatic 331, 3) := dk_184 1 75 (dk_at dksX0_hear_0 17 rfl rfl)
theorem dX0_hear_20 : decode cX0_hear 20 = .ok (.ifCond .eq 26, 3) := dk_153 0 26 (dk_at dksX0_hear_0 20 rfl rfl)
theorem dX0_hear_23 : decode cX0_hear 23 = .ok (.iload 4, 2) := dk_21 4 (dk_at dksX0_hear_1 0 rfl rfl)
theorem dX0_hear_25 : decode cX0_hear 25 = .ok (.iconst (-1), 1) := dk_2 (dk_at dksX0_hear_1 2 rfl rfl)
theorem dX0_hear_26 : decode cX0_hear 26 = .ok (.if_icmp .eq 11, 3) := dk_159 0 11 (dk_at dksX0_hear_1 3 rfl rfl)
theorem dX0_hear_29 : decode cX0_hear 29 = .ok (.iload 4, 2) := dk_21 4 (dk_at dksX0_hear_1 6 rfl rfl)
theorem dX0_hear_31 : decode cX0_hear 31 = .ok (.invokestatic 331, 3) := dk_184 1 75 (dk_at dksX0_hear_1 8 rfl rfl)
theorem dX0_hear_34 : decode cX0_hear 34 = .ok (.ifCond .eq 12, 3) := dk_153 0 12 (dk_at dksX0_hear_1 11 rfl rfl)
theorem dX0_hear_37 : decode cX0_hear 37 = .ok (.aload_n 0, 1) := dk_42 (dk_at dksX0_hear_1 14 rfl rfl)
theorem dX0_hear_38 : decode cX0_hear 38 = .ok (.getfield 110, 3) := dk_180 0 110 (dk_at dksX0_hear_1 15 rfl rfl)
theorem dX0_hear_41 : decode cX0_hear 41 = .ok (.bipush 40, 2) := dk_16 40 (dk_at dksX0_hear_1 18 rfl rfl)
theorem dX0_hear_43 : decode cX0_hear 43 = .ok (.if_icmp .ne 5, 3) := dk_160 0 5 (dk_at dksX0_hear_1 20 rfl rfl)
theorem dX0_hear_46 : decode cX0_hear 46 = .ok (.iconst (-1), 1) := dk_2 (dk_at dksX0_hear_1 23 rfl rfl)
theorem dX0_hear_47 : decode cX0_hear 47 = .ok (.ireturn, 1) := dk_172 (dk_at dksX0_hear_2 0 rfl rfl)
theorem dX0_hear_48 : decode cX0_hear 48 = .ok (.aload_n 0, 1) := dk_42 (dk_at dksX0_hear_2 1 rfl rfl)
theorem dX0_hear_49 : decode cX0_hear 49 = .ok (.getfield 68, 3) := dk_180 0 68 (dk_at dksX0_hear_2 2 rfl rfl)
theorem dX0_hear_52 : decode cX0_hear 52 = .ok (.aload_n 0, 1) := dk_42 (dk_at dksX0_hear_2 5 rfl rfl)
theorem dX0_hear_53 : decode cX0_hear 53 = .ok (.getfield 110, 3) := dk_180 0 110 (dk_at dksX0_hear_2 6 rfl rfl)
theorem dX0_hear_56 : decode cX0_hear 56 = .ok (.aaload, 1) := dk_50 (dk_at dksX0_hear_2 9 rfl rfl)
theorem dX0_hear_57 : decode cX0_hear 57 = .ok (.astore 5, 2) := dk_58 5 (dk_at dksX0_hear_2 10 rfl rfl)
theorem dX0_hear_59 : decode cX0_hear 59 = .ok (.aload 5, 2) := dk_25 5 (dk_at dksX0_hear_2 12 rfl rfl)
theorem dX0_hear_61 : decode cX0_hear 61 = .ok (.iload_n 1, 1) := dk_27 (dk_at dksX0_hear_2 14 rfl rfl)
theorem dX0_hear_62 : decode cX0_hear 62 = .ok (.putfield 334, 3) := dk_181 1 78 (dk_at dksX0_hear_2 15 rfl rfl)
theorem dX0_hear_65 : decode cX0_hear 65 = .ok (.aload 5, 2) := dk_25 5 (dk_at dksX0_hear_2 18 rfl rfl)
theorem dX0_hear_67 : decode cX0_hear 67 = .ok (.iload_n 2, 1) := dk_28 (dk_at dksX0_hear_2 20 rfl rfl)
theorem dX0_hear_68 : decode cX0_hear 68 = .ok (.putfield 335, 3) := dk_181 1 79 (dk_at dksX0_hear_2 21 rfl rfl)
theorem dX0_hear_71 : decode cX0_hear 71 = .ok (.aload 5, 2) := dk_25 5 (dk_at dksX0_hear_3 0 rfl rfl)
theorem dX0_hear_73 : decode cX0_hear 73 = .ok (.iload_n 3, 1) := dk_29 (dk_at dksX0_hear_3 2 rfl rfl)
theorem dX0_hear_74 : decode cX0_hear 74 = .ok (.putfield 336, 3) := dk_181 1 80 (dk_at dksX0_hear_3 3 rfl rfl)
theorem dX0_hear_77 : decode cX0_hear 77 = .ok (.aload 5, 2) := dk_25 5 (dk_at dksX0_hear_3 6 rfl rfl)
theorem dX0_hear_79 : decode cX0_hear 79 = .ok (.iload 4, 2) := dk_21 4 (dk_at dksX0_hear_3 8 rfl rfl)
theorem dX0_hear_81 : decode cX0_hear 81 = .ok (.putfield 339, 3) := dk_181 1 83 (dk_at dksX0_hear_3 10 rfl rfl)
theorem dX0_hear_84 : decode cX0_hear 84 = .ok (.aload_n 0, 1) := dk_42 (dk_at dksX0_hear_3 13 rfl rfl)
theorem dX0_hear_85 : decode cX0_hear 85 = .ok (.dup, 1) := dk_89 (dk_at dksX0_hear_3 14 rfl rfl)
theorem dX0_hear_86 : decode cX0_hear 86 = .ok (.getfield 110, 3) := dk_180 0 110 (dk_at dksX0_hear_3 15 rfl rfl)
theorem dX0_hear_89 : decode cX0_hear 89 = .ok (.iconst 1, 1) := dk_4 (dk_at dksX0_hear_3 18 rfl rfl)
theorem dX0_hear_90 : decode cX0_hear 90 = .ok (.iadd, 1) := dk_96 (dk_at dksX0_hear_3 19 rfl rfl)
theorem dX0_hear_91 : decode cX0_hear 91 = .ok (.putfield 110, 3) := dk_181 0 110 (dk_at dksX0_hear_3 20 rfl rfl)
theorem dX0_hear_94 : decode cX0_hear 94 = .ok (.aload_n 0, 1) := dk_42 (dk_at dksX0_hear_3 23 rfl rfl)
theorem dX0_hear_95 : decode cX0_hear 95 = .ok (.getfield 110, 3) := dk_180 0 110 (dk_at dksX0_hear_4 0 rfl rfl)
theorem dX0_hear_98 : decode cX0_hear 98 = .ok (.ireturn, 1) := dk_172 (dk_at dksX0_hear_4 3 rfl rfl)
def dkwX0_isVersion_0 : List UInt8 := [26, 133, 9, 20, 1, 73, 184, 0, 15, 172]
abbrev dktX0_isVersion_0 : List UInt8 := dkwX0_isVersion_0 ++ []
theorem dksX0_isVersion_0 : cX0_isVersion.data.toList.drop 0 = dktX0_isVersion_0 := by decide +kernel
theorem dX0_isVersion_0 : decode cX0_isVersion 0 = .ok (.iload_n 0, 1) := dk_26 (dk_at dksX0_isVersion_0 0 rfl rfl)
theorem dX0_isVersion_1 : decode cX0_isVersion 1 = .ok (.i2l, 1) := dk_133 (dk_at dksX0_isVersion_0 1 rfl rfl)
theorem dX0_isVersion_2 : decode cX0_isVersion 2 = .ok (.lconst 0, 1) := dk_9 (dk_at dksX0_isVersion_0 2 rfl rfl)
theorem dX0_isVersion_3 : decode cX0_isVersion 3 = .ok (.ldc2_w 329, 3) := dk_20 1 73 (dk_at dksX0_isVersion_0 3 rfl rfl)
theorem dX0_isVersion_6 : decode cX0_isVersion 6 = .ok (.invokestatic 15, 3) := dk_184 0 15 (dk_at dksX0_isVersion_0 6 rfl rfl)
theorem dX0_isVersion_9 : decode cX0_isVersion 9 = .ok (.ireturn, 1) := dk_172 (dk_at dksX0_isVersion_0 9 rfl rfl)
def dkwX0_unhear_0 : List UInt8 := [42, 180, 0, 110, 154, 0, 5, 2, 172, 42, 89, 180, 0, 110, 4, 100, 181, 0, 110, 42, 180, 0, 110, 172]
abbrev dktX0_unhear_0 : List UInt8 := dkwX0_unhear_0 ++ []
theorem dksX0_unhear_0 : cX0_unhear.data.toList.drop 0 = dktX0_unhear_0 := by decide +kernel
theorem dX0_unhear_0 : decode cX0_unhear 0 = .ok (.aload_n 0, 1) := dk_42 (dk_at dksX0_unhear_0 0 rfl rfl)
theorem dX0_unhear_1 : decode cX0_unhear 1 = .ok (.getfield 110, 3) := dk_180 0 110 (dk_at dksX0_unhear_0 1 rfl rfl)
theorem dX0_unhear_4 : decode cX0_unhear 4 = .ok (.ifCond .ne 5, 3) := dk_154 0 5 (dk_at dksX0_unhear_0 4 rfl rfl)
theorem dX0_unhear_7 : decode cX0_unhear 7 = .ok (.iconst (-1), 1) := dk_2 (dk_at dksX0_unhear_0 7 rfl rfl)
theorem dX0_unhear_8 : decode cX0_unhear 8 = .ok (.ireturn, 1) := dk_172 (dk_at dksX0_unhear_0 8 rfl rfl)
theorem dX0_unhear_9 : decode cX0_unhear 9 = .ok (.aload_n 0, 1) := dk_42 (dk_at dksX0_unhear_0 9 rfl rfl)
theorem dX0_unhear_10 : decode cX0_unhear 10 = .ok (.dup, 1) := dk_89 (dk_at dksX0_unhear_0 10 rfl rfl)
theorem dX0_unhear_11 : decode cX0_unhear 11 = .ok (.getfield 110, 3) := dk_180 0 110 (dk_at dksX0_unhear_0 11 rfl rfl)
theorem dX0_unhear_14 : decode cX0_unhear 14 = .ok (.iconst 1, 1) := dk_4 (dk_at dksX0_unhear_0 14 rfl rfl)
theorem dX0_unhear_15 : decode cX0_unhear 15 = .ok (.isub, 1) := dk_100 (dk_at dksX0_unhear_0 15 rfl rfl)
theorem dX0_unhear_16 : decode cX0_unhear 16 = .ok (.putfield 110, 3) := dk_181 0 110 (dk_at dksX0_unhear_0 16 rfl rfl)
theorem dX0_unhear_19 : decode cX0_unhear 19 = .ok (.aload_n 0, 1) := dk_42 (dk_at dksX0_unhear_0 19 rfl rfl)
theorem dX0_unhear_20 : decode cX0_unhear 20 = .ok (.getfield 110, 3) := dk_180 0 110 (dk_at dksX0_unhear_0 20 rfl rfl)
theorem dX0_unhear_23 : decode cX0_unhear 23 = .ok (.ireturn, 1) := dk_172 (dk_at dksX0_unhear_0 23 rfl rfl)
def dkwX0_book_2 : List UInt8 := [180, 0, 77, 21, 4, 153, 0, 7, 4, 167, 0, 4, 3, 50, 27, 29, 79, 4, 172]
abbrev dktX0_book_2 : List UInt8 := dkwX0_book_2 ++ []
def dkwX0_book_1 : List UInt8 := [154, 0, 5, 3, 172, 42, 180, 0, 74, 21, 4, 153, 0, 7, 4, 167, 0, 4, 3, 50, 27, 28, 79, 42]
abbrev dktX0_book_1 : List UInt8 := dkwX0_book_1 ++ dktX0_book_2
def dkwX0_book_0 : List UInt8 := [42, 27, 182, 0, 145, 153, 0, 22, 28, 184, 1, 75, 153, 0, 15, 29, 133, 9, 20, 1, 50, 184, 0, 15]
abbrev dktX0_book_0 : List UInt8 := dkwX0_book_0 ++ dktX0_book_1
theorem dksX0_book_0 : cX0_book.data.toList.drop 0 = dktX0_book_0 := by decide +kernel
theorem dksX0_book_1 : cX0_book.data.toList.drop 24 = dktX0_book_1 := dk_seg dksX0_book_0 24 rfl rfl
theorem dksX0_book_2 : cX0_book.data.toList.drop 48 = dktX0_book_2 := dk_seg dksX0_book_1 24 rfl rfl
theorem dX0_book_0 : decode cX0_book 0 = .ok (.aload_n 0, 1) := dk_42 (dk_at dksX0_book_0 0 rfl rfl)
theorem dX0_book_1 : decode cX0_book 1 = .ok (.iload_n 1, 1) := dk_27 (dk_at dksX0_book_0 1 rfl rfl)
theorem dX0_book_2 : decode cX0_book 2 = .ok (.invokevirtual 145, 3) := dk_182 0 145 (dk_at dksX0_book_0 2 rfl rfl)
theorem dX0_book_5 : decode cX0_book 5 = .ok (.ifCond .eq 22, 3) := dk_153 0 22 (dk_at dksX0_book_0 5 rfl rfl)
theorem dX0_book_8 : decode cX0_book 8 = .ok (.iload_n 2, 1) := dk_28 (dk_at dksX0_book_0 8 rfl rfl)
theorem dX0_book_9 : decode cX0_book 9 = .ok (.invokestatic 331, 3) := dk_184 1 75 (dk_at dksX0_book_0 9 rfl rfl)
theorem dX0_book_12 : decode cX0_book 12 = .ok (.ifCond .eq 15, 3) := dk_153 0 15 (dk_at dksX0_book_0 12 rfl rfl)
theorem dX0_book_15 : decode cX0_book 15 = .ok (.iload_n 3, 1) := dk_29 (dk_at dksX0_book_0 15 rfl rfl)
theorem dX0_book_16 : decode cX0_book 16 = .ok (.i2l, 1) := dk_133 (dk_at dksX0_book_0 16 rfl rfl)
theorem dX0_book_17 : decode cX0_book 17 = .ok (.lconst 0, 1) := dk_9 (dk_at dksX0_book_0 17 rfl rfl)
theorem dX0_book_18 : decode cX0_book 18 = .ok (.ldc2_w 306, 3) := dk_20 1 50 (dk_at dksX0_book_0 18 rfl rfl)
theorem dX0_book_21 : decode cX0_book 21 = .ok (.invokestatic 15, 3) := dk_184 0 15 (dk_at dksX0_book_0 21 rfl rfl)
theorem dX0_book_24 : decode cX0_book 24 = .ok (.ifCond .ne 5, 3) := dk_154 0 5 (dk_at dksX0_book_1 0 rfl rfl)
theorem dX0_book_27 : decode cX0_book 27 = .ok (.iconst 0, 1) := dk_3 (dk_at dksX0_book_1 3 rfl rfl)
theorem dX0_book_28 : decode cX0_book 28 = .ok (.ireturn, 1) := dk_172 (dk_at dksX0_book_1 4 rfl rfl)
theorem dX0_book_29 : decode cX0_book 29 = .ok (.aload_n 0, 1) := dk_42 (dk_at dksX0_book_1 5 rfl rfl)
theorem dX0_book_30 : decode cX0_book 30 = .ok (.getfield 74, 3) := dk_180 0 74 (dk_at dksX0_book_1 6 rfl rfl)
theorem dX0_book_33 : decode cX0_book 33 = .ok (.iload 4, 2) := dk_21 4 (dk_at dksX0_book_1 9 rfl rfl)
theorem dX0_book_35 : decode cX0_book 35 = .ok (.ifCond .eq 7, 3) := dk_153 0 7 (dk_at dksX0_book_1 11 rfl rfl)
theorem dX0_book_38 : decode cX0_book 38 = .ok (.iconst 1, 1) := dk_4 (dk_at dksX0_book_1 14 rfl rfl)
theorem dX0_book_39 : decode cX0_book 39 = .ok (.goto 4, 3) := dk_167 0 4 (dk_at dksX0_book_1 15 rfl rfl)
theorem dX0_book_42 : decode cX0_book 42 = .ok (.iconst 0, 1) := dk_3 (dk_at dksX0_book_1 18 rfl rfl)
theorem dX0_book_43 : decode cX0_book 43 = .ok (.aaload, 1) := dk_50 (dk_at dksX0_book_1 19 rfl rfl)
theorem dX0_book_44 : decode cX0_book 44 = .ok (.iload_n 1, 1) := dk_27 (dk_at dksX0_book_1 20 rfl rfl)
theorem dX0_book_45 : decode cX0_book 45 = .ok (.iload_n 2, 1) := dk_28 (dk_at dksX0_book_1 21 rfl rfl)
theorem dX0_book_46 : decode cX0_book 46 = .ok (.iastore, 1) := dk_79 (dk_at dksX0_book_1 22 rfl rfl)
theorem dX0_book_47 : decode cX0_book 47 = .ok (.aload_n 0, 1) := dk_42 (dk_at dksX0_book_1 23 rfl rfl)
theorem dX0_book_48 : decode cX0_book 48 = .ok (.getfield 77, 3) := dk_180 0 77 (dk_at dksX0_book_2 0 rfl rfl)
theorem dX0_book_51 : decode cX0_book 51 = .ok (.iload 4, 2) := dk_21 4 (dk_at dksX0_book_2 3 rfl rfl)
theorem dX0_book_53 : decode cX0_book 53 = .ok (.ifCond .eq 7, 3) := dk_153 0 7 (dk_at dksX0_book_2 5 rfl rfl)
theorem dX0_book_56 : decode cX0_book 56 = .ok (.iconst 1, 1) := dk_4 (dk_at dksX0_book_2 8 rfl rfl)
theorem dX0_book_57 : decode cX0_book 57 = .ok (.goto 4, 3) := dk_167 0 4 (dk_at dksX0_book_2 9 rfl rfl)
theorem dX0_book_60 : decode cX0_book 60 = .ok (.iconst 0, 1) := dk_3 (dk_at dksX0_book_2 12 rfl rfl)
theorem dX0_book_61 : decode cX0_book 61 = .ok (.aaload, 1) := dk_50 (dk_at dksX0_book_2 13 rfl rfl)
theorem dX0_book_62 : decode cX0_book 62 = .ok (.iload_n 1, 1) := dk_27 (dk_at dksX0_book_2 14 rfl rfl)
theorem dX0_book_63 : decode cX0_book 63 = .ok (.iload_n 3, 1) := dk_29 (dk_at dksX0_book_2 15 rfl rfl)
theorem dX0_book_64 : decode cX0_book 64 = .ok (.iastore, 1) := dk_79 (dk_at dksX0_book_2 16 rfl rfl)
theorem dX0_book_65 : decode cX0_book 65 = .ok (.iconst 1, 1) := dk_4 (dk_at dksX0_book_2 17 rfl rfl)
theorem dX0_book_66 : decode cX0_book 66 = .ok (.ireturn, 1) := dk_172 (dk_at dksX0_book_2 18 rfl rfl)
def dkwX0_version_2 : List UInt8 := [153, 0, 15, 42, 27, 28, 16, 10, 100, 182, 1, 89, 167, 0, 4, 2, 172]
abbrev dktX0_version_2 : List UInt8 := dkwX0_version_2 ++ []
def dkwX0_version_1 : List UInt8 := [160, 0, 11, 42, 27, 182, 1, 95, 167, 0, 30, 28, 133, 20, 1, 98, 20, 1, 100, 184, 0, 15]
abbrev dktX0_version_1 : List UInt8 := dkwX0_version_1 ++ dktX0_version_2
def dkwX0_version_0 : List UInt8 := [42, 27, 182, 0, 145, 154, 0, 5, 2, 172, 28, 154, 0, 11, 42, 27, 182, 1, 92, 167, 0, 43, 28, 4]
abbrev dktX0_version_0 : List UInt8 := dkwX0_version_0 ++ dktX0_version_1
theorem dksX0_version_0 : cX0_version.data.toList.drop 0 = dktX0_version_0 := by decide +kernel
theorem dksX0_version_1 : cX0_version.data.toList.drop 24 = dktX0_version_1 := dk_seg dksX0_version_0 24 rfl rfl
theorem dksX0_version_2 : cX0_version.data.toList.drop 46 = dktX0_version_2 := dk_seg dksX0_version_1 22 rfl rfl
theorem dX0_version_0 : decode cX0_version 0 = .ok (.aload_n 0, 1) := dk_42 (dk_at dksX0_version_0 0 rfl rfl)
theorem dX0_version_1 : decode cX0_version 1 = .ok (.iload_n 1, 1) := dk_27 (dk_at dksX0_version_0 1 rfl rfl)
theorem dX0_version_2 : decode cX0_version 2 = .ok (.invokevirtual 145, 3) := dk_182 0 145 (dk_at dksX0_version_0 2 rfl rfl)
theorem dX0_version_5 : decode cX0_version 5 = .ok (.ifCond .ne 5, 3) := dk_154 0 5 (dk_at dksX0_version_0 5 rfl rfl)
theorem dX0_version_8 : decode cX0_version 8 = .ok (.iconst (-1), 1) := dk_2 (dk_at dksX0_version_0 8 rfl rfl)
theorem dX0_version_9 : decode cX0_version 9 = .ok (.ireturn, 1) := dk_172 (dk_at dksX0_version_0 9 rfl rfl)
theorem dX0_version_10 : decode cX0_version 10 = .ok (.iload_n 2, 1) := dk_28 (dk_at dksX0_version_0 10 rfl rfl)
theorem dX0_version_11 : decode cX0_version 11 = .ok (.ifCond .ne 11, 3) := dk_154 0 11 (dk_at dksX0_version_0 11 rfl rfl)
theorem dX0_version_14 : decode cX0_version 14 = .ok (.aload_n 0, 1) := dk_42 (dk_at dksX0_version_0 14 rfl rfl)
theorem dX0_version_15 : decode cX0_version 15 = .ok (.iload_n 1, 1) := dk_27 (dk_at dksX0_version_0 15 rfl rfl)
theorem dX0_version_16 : decode cX0_version 16 = .ok (.invokevirtual 348, 3) := dk_182 1 92 (dk_at dksX0_version_0 16 rfl rfl)
theorem dX0_version_19 : decode cX0_version 19 = .ok (.goto 43, 3) := dk_167 0 43 (dk_at dksX0_version_0 19 rfl rfl)
theorem dX0_version_22 : decode cX0_version 22 = .ok (.iload_n 2, 1) := dk_28 (dk_at dksX0_version_0 22 rfl rfl)
theorem dX0_version_23 : decode cX0_version 23 = .ok (.iconst 1, 1) := dk_4 (dk_at dksX0_version_0 23 rfl rfl)
theorem dX0_version_24 : decode cX0_version 24 = .ok (.if_icmp .ne 11, 3) := dk_160 0 11 (dk_at dksX0_version_1 0 rfl rfl)
theorem dX0_version_27 : decode cX0_version 27 = .ok (.aload_n 0, 1) := dk_42 (dk_at dksX0_version_1 3 rfl rfl)
theorem dX0_version_28 : decode cX0_version 28 = .ok (.iload_n 1, 1) := dk_27 (dk_at dksX0_version_1 4 rfl rfl)
theorem dX0_version_29 : decode cX0_version 29 = .ok (.invokevirtual 351, 3) := dk_182 1 95 (dk_at dksX0_version_1 5 rfl rfl)
theorem dX0_version_32 : decode cX0_version 32 = .ok (.goto 30, 3) := dk_167 0 30 (dk_at dksX0_version_1 8 rfl rfl)
theorem dX0_version_35 : decode cX0_version 35 = .ok (.iload_n 2, 1) := dk_28 (dk_at dksX0_version_1 11 rfl rfl)
theorem dX0_version_36 : decode cX0_version 36 = .ok (.i2l, 1) := dk_133 (dk_at dksX0_version_1 12 rfl rfl)
theorem dX0_version_37 : decode cX0_version 37 = .ok (.ldc2_w 354, 3) := dk_20 1 98 (dk_at dksX0_version_1 13 rfl rfl)
theorem dX0_version_40 : decode cX0_version 40 = .ok (.ldc2_w 356, 3) := dk_20 1 100 (dk_at dksX0_version_1 16 rfl rfl)
theorem dX0_version_43 : decode cX0_version 43 = .ok (.invokestatic 15, 3) := dk_184 0 15 (dk_at dksX0_version_1 19 rfl rfl)
theorem dX0_version_46 : decode cX0_version 46 = .ok (.ifCond .eq 15, 3) := dk_153 0 15 (dk_at dksX0_version_2 0 rfl rfl)
theorem dX0_version_49 : decode cX0_version 49 = .ok (.aload_n 0, 1) := dk_42 (dk_at dksX0_version_2 3 rfl rfl)
theorem dX0_version_50 : decode cX0_version 50 = .ok (.iload_n 1, 1) := dk_27 (dk_at dksX0_version_2 4 rfl rfl)
theorem dX0_version_51 : decode cX0_version 51 = .ok (.iload_n 2, 1) := dk_28 (dk_at dksX0_version_2 5 rfl rfl)
theorem dX0_version_52 : decode cX0_version 52 = .ok (.bipush 10, 2) := dk_16 10 (dk_at dksX0_version_2 6 rfl rfl)
theorem dX0_version_54 : decode cX0_version 54 = .ok (.isub, 1) := dk_100 (dk_at dksX0_version_2 8 rfl rfl)
theorem dX0_version_55 : decode cX0_version 55 = .ok (.invokevirtual 345, 3) := dk_182 1 89 (dk_at dksX0_version_2 9 rfl rfl)
theorem dX0_version_58 : decode cX0_version 58 = .ok (.goto 4, 3) := dk_167 0 4 (dk_at dksX0_version_2 12 rfl rfl)
theorem dX0_version_61 : decode cX0_version 61 = .ok (.iconst (-1), 1) := dk_2 (dk_at dksX0_version_2 15 rfl rfl)
theorem dX0_version_62 : decode cX0_version 62 = .ok (.ireturn, 1) := dk_172 (dk_at dksX0_version_2 16 rfl rfl)
def dkwX0_sure_3 : List UInt8 := [29, 153, 0, 5, 28, 172, 132, 2, 1, 167, 255, 177, 2, 172]
abbrev dktX0_sure_3 : List UInt8 := dkwX0_sure_3 ++ []
def dkwX0_sure_2 : List UInt8 := [5, 42, 27, 21, 4, 182, 1, 89, 104, 161, 0, 7, 4, 167, 0, 4, 3, 62, 132, 4, 1, 167, 255, 213]
abbrev dktX0_sure_2 : List UInt8 := dkwX0_sure_2 ++ dktX0_sure_3
def dkwX0_sure_1 : List UInt8 := [54, 4, 21, 4, 7, 162, 0, 43, 29, 153, 0, 31, 21, 4, 28, 159, 0, 21, 42, 27, 28, 182, 1, 89]
abbrev dktX0_sure_1 : List UInt8 := dkwX0_sure_1 ++ dktX0_sure_2
def dkwX0_sure_0 : List UInt8 := [3, 61, 28, 7, 162, 0, 80, 42, 27, 28, 182, 1, 89, 7, 161, 0, 7, 4, 167, 0, 4, 3, 62, 3]
abbrev dktX0_sure_0 : List UInt8 := dkwX0_sure_0 ++ dktX0_sure_1
theorem dksX0_sure_0 : cX0_sure.data.toList.drop 0 = dktX0_sure_0 := by decide +kernel
theorem dksX0_sure_1 : cX0_sure.data.toList.drop 24 = dktX0_sure_1 := dk_seg dksX0_sure_0 24 rfl rfl
theorem dksX0_sure_2 : cX0_sure.data.toList.drop 48 = dktX0_sure_2 := dk_seg dksX0_sure_1 24 rfl rfl
theorem dksX0_sure_3 : cX0_sure.data.toList.drop 72 = dktX0_sure_3 := dk_seg dksX0_sure_2 24 rfl rfl
theorem dX0_sure_0 : decode cX0_sure 0 = .ok (.iconst 0, 1) := dk_3 (dk_at dksX0_sure_0 0 rfl rfl)
theorem dX0_sure_1 : decode cX0_sure 1 = .ok (.istore_n 2, 1) := dk_61 (dk_at dksX0_sure_0 1 rfl rfl)
theorem dX0_sure_2 : decode cX0_sure 2 = .ok (.iload_n 2, 1) := dk_28 (dk_at dksX0_sure_0 2 rfl rfl)
theorem dX0_sure_3 : decode cX0_sure 3 = .ok (.iconst 4, 1) := dk_7 (dk_at dksX0_sure_0 3 rfl rfl)
theorem dX0_sure_4 : decode cX0_sure 4 = .ok (.if_icmp .ge 80, 3) := dk_162 0 80 (dk_at dksX0_sure_0 4 rfl rfl)
theorem dX0_sure_7 : decode cX0_sure 7 = .ok (.aload_n 0, 1) := dk_42 (dk_at dksX0_sure_0 7 rfl rfl)
theorem dX0_sure_8 : decode cX0_sure 8 = .ok (.iload_n 1, 1) := dk_27 (dk_at dksX0_sure_0 8 rfl rfl)
theorem dX0_sure_9 : decode cX0_sure 9 = .ok (.iload_n 2, 1) := dk_28 (dk_at dksX0_sure_0 9 rfl rfl)
theorem dX0_sure_10 : decode cX0_sure 10 = .ok (.invokevirtual 345, 3) := dk_182 1 89 (dk_at dksX0_sure_0 10 rfl rfl)
theorem dX0_sure_13 : decode cX0_sure 13 = .ok (.iconst 4, 1) := dk_7 (dk_at dksX0_sure_0 13 rfl rfl)
theorem dX0_sure_14 : decode cX0_sure 14 = .ok (.if_icmp .lt 7, 3) := dk_161 0 7 (dk_at dksX0_sure_0 14 rfl rfl)
theorem dX0_sure_17 : decode cX0_sure 17 = .ok (.iconst 1, 1) := dk_4 (dk_at dksX0_sure_0 17 rfl rfl)
theorem dX0_sure_18 : decode cX0_sure 18 = .ok (.goto 4, 3) := dk_167 0 4 (dk_at dksX0_sure_0 18 rfl rfl)
theorem dX0_sure_21 : decode cX0_sure 21 = .ok (.iconst 0, 1) := dk_3 (dk_at dksX0_sure_0 21 rfl rfl)
theorem dX0_sure_22 : decode cX0_sure 22 = .ok (.istore_n 3, 1) := dk_62 (dk_at dksX0_sure_0 22 rfl rfl)
theorem dX0_sure_23 : decode cX0_sure 23 = .ok (.iconst 0, 1) := dk_3 (dk_at dksX0_sure_0 23 rfl rfl)
theorem dX0_sure_24 : decode cX0_sure 24 = .ok (.istore 4, 2) := dk_54 4 (dk_at dksX0_sure_1 0 rfl rfl)
theorem dX0_sure_26 : decode cX0_sure 26 = .ok (.iload 4, 2) := dk_21 4 (dk_at dksX0_sure_1 2 rfl rfl)
theorem dX0_sure_28 : decode cX0_sure 28 = .ok (.iconst 4, 1) := dk_7 (dk_at dksX0_sure_1 4 rfl rfl)
theorem dX0_sure_29 : decode cX0_sure 29 = .ok (.if_icmp .ge 43, 3) := dk_162 0 43 (dk_at dksX0_sure_1 5 rfl rfl)
theorem dX0_sure_32 : decode cX0_sure 32 = .ok (.iload_n 3, 1) := dk_29 (dk_at dksX0_sure_1 8 rfl rfl)
theorem dX0_sure_33 : decode cX0_sure 33 = .ok (.ifCond .eq 31, 3) := dk_153 0 31 (dk_at dksX0_sure_1 9 rfl rfl)
theorem dX0_sure_36 : decode cX0_sure 36 = .ok (.iload 4, 2) := dk_21 4 (dk_at dksX0_sure_1 12 rfl rfl)
theorem dX0_sure_38 : decode cX0_sure 38 = .ok (.iload_n 2, 1) := dk_28 (dk_at dksX0_sure_1 14 rfl rfl)
theorem dX0_sure_39 : decode cX0_sure 39 = .ok (.if_icmp .eq 21, 3) := dk_159 0 21 (dk_at dksX0_sure_1 15 rfl rfl)
theorem dX0_sure_42 : decode cX0_sure 42 = .ok (.aload_n 0, 1) := dk_42 (dk_at dksX0_sure_1 18 rfl rfl)
theorem dX0_sure_43 : decode cX0_sure 43 = .ok (.iload_n 1, 1) := dk_27 (dk_at dksX0_sure_1 19 rfl rfl)
theorem dX0_sure_44 : decode cX0_sure 44 = .ok (.iload_n 2, 1) := dk_28 (dk_at dksX0_sure_1 20 rfl rfl)
theorem dX0_sure_45 : decode cX0_sure 45 = .ok (.invokevirtual 345, 3) := dk_182 1 89 (dk_at dksX0_sure_1 21 rfl rfl)
theorem dX0_sure_48 : decode cX0_sure 48 = .ok (.iconst 2, 1) := dk_5 (dk_at dksX0_sure_2 0 rfl rfl)
theorem dX0_sure_49 : decode cX0_sure 49 = .ok (.aload_n 0, 1) := dk_42 (dk_at dksX0_sure_2 1 rfl rfl)
theorem dX0_sure_50 : decode cX0_sure 50 = .ok (.iload_n 1, 1) := dk_27 (dk_at dksX0_sure_2 2 rfl rfl)
theorem dX0_sure_51 : decode cX0_sure 51 = .ok (.iload 4, 2) := dk_21 4 (dk_at dksX0_sure_2 3 rfl rfl)
theorem dX0_sure_53 : decode cX0_sure 53 = .ok (.invokevirtual 345, 3) := dk_182 1 89 (dk_at dksX0_sure_2 5 rfl rfl)
theorem dX0_sure_56 : decode cX0_sure 56 = .ok (.imul, 1) := dk_104 (dk_at dksX0_sure_2 8 rfl rfl)
theorem dX0_sure_57 : decode cX0_sure 57 = .ok (.if_icmp .lt 7, 3) := dk_161 0 7 (dk_at dksX0_sure_2 9 rfl rfl)
theorem dX0_sure_60 : decode cX0_sure 60 = .ok (.iconst 1, 1) := dk_4 (dk_at dksX0_sure_2 12 rfl rfl)
theorem dX0_sure_61 : decode cX0_sure 61 = .ok (.goto 4, 3) := dk_167 0 4 (dk_at dksX0_sure_2 13 rfl rfl)
theorem dX0_sure_64 : decode cX0_sure 64 = .ok (.iconst 0, 1) := dk_3 (dk_at dksX0_sure_2 16 rfl rfl)
theorem dX0_sure_65 : decode cX0_sure 65 = .ok (.istore_n 3, 1) := dk_62 (dk_at dksX0_sure_2 17 rfl rfl)
theorem dX0_sure_66 : decode cX0_sure 66 = .ok (.iinc 4 1, 3) := dk_132 4 1 (dk_at dksX0_sure_2 18 rfl rfl)
theorem dX0_sure_69 : decode cX0_sure 69 = .ok (.goto (-43), 3) := dk_167 255 213 (dk_at dksX0_sure_2 21 rfl rfl)
theorem dX0_sure_72 : decode cX0_sure 72 = .ok (.iload_n 3, 1) := dk_29 (dk_at dksX0_sure_3 0 rfl rfl)
theorem dX0_sure_73 : decode cX0_sure 73 = .ok (.ifCond .eq 5, 3) := dk_153 0 5 (dk_at dksX0_sure_3 1 rfl rfl)
theorem dX0_sure_76 : decode cX0_sure 76 = .ok (.iload_n 2, 1) := dk_28 (dk_at dksX0_sure_3 4 rfl rfl)
theorem dX0_sure_77 : decode cX0_sure 77 = .ok (.ireturn, 1) := dk_172 (dk_at dksX0_sure_3 5 rfl rfl)
theorem dX0_sure_78 : decode cX0_sure 78 = .ok (.iinc 2 1, 3) := dk_132 2 1 (dk_at dksX0_sure_3 6 rfl rfl)
theorem dX0_sure_81 : decode cX0_sure 81 = .ok (.goto (-79), 3) := dk_167 255 177 (dk_at dksX0_sure_3 9 rfl rfl)
theorem dX0_sure_84 : decode cX0_sure 84 = .ok (.iconst (-1), 1) := dk_2 (dk_at dksX0_sure_3 12 rfl rfl)
theorem dX0_sure_85 : decode cX0_sure 85 = .ok (.ireturn, 1) := dk_172 (dk_at dksX0_sure_3 13 rfl rfl)
def dkwX0_weight_1 : List UInt8 := [21, 4, 182, 1, 86, 96, 62, 132, 4, 1, 167, 255, 227, 29, 172]
abbrev dktX0_weight_1 : List UInt8 := dkwX0_weight_1 ++ []
def dkwX0_weight_0 : List UInt8 := [3, 62, 3, 54, 4, 21, 4, 42, 180, 0, 93, 180, 0, 134, 182, 0, 126, 162, 0, 20, 29, 42, 27, 28]
abbrev dktX0_weight_0 : List UInt8 := dkwX0_weight_0 ++ dktX0_weight_1
theorem dksX0_weight_0 : cX0_weight.data.toList.drop 0 = dktX0_weight_0 := by decide +kernel
theorem dksX0_weight_1 : cX0_weight.data.toList.drop 24 = dktX0_weight_1 := dk_seg dksX0_weight_0 24 rfl rfl
theorem dX0_weight_0 : decode cX0_weight 0 = .ok (.iconst 0, 1) := dk_3 (dk_at dksX0_weight_0 0 rfl rfl)
theorem dX0_weight_1 : decode cX0_weight 1 = .ok (.istore_n 3, 1) := dk_62 (dk_at dksX0_weight_0 1 rfl rfl)
theorem dX0_weight_2 : decode cX0_weight 2 = .ok (.iconst 0, 1) := dk_3 (dk_at dksX0_weight_0 2 rfl rfl)
theorem dX0_weight_3 : decode cX0_weight 3 = .ok (.istore 4, 2) := dk_54 4 (dk_at dksX0_weight_0 3 rfl rfl)
theorem dX0_weight_5 : decode cX0_weight 5 = .ok (.iload 4, 2) := dk_21 4 (dk_at dksX0_weight_0 5 rfl rfl)
theorem dX0_weight_7 : decode cX0_weight 7 = .ok (.aload_n 0, 1) := dk_42 (dk_at dksX0_weight_0 7 rfl rfl)
theorem dX0_weight_8 : decode cX0_weight 8 = .ok (.getfield 93, 3) := dk_180 0 93 (dk_at dksX0_weight_0 8 rfl rfl)
theorem dX0_weight_11 : decode cX0_weight 11 = .ok (.getfield 134, 3) := dk_180 0 134 (dk_at dksX0_weight_0 11 rfl rfl)
theorem dX0_weight_14 : decode cX0_weight 14 = .ok (.invokevirtual 126, 3) := dk_182 0 126 (dk_at dksX0_weight_0 14 rfl rfl)
theorem dX0_weight_17 : decode cX0_weight 17 = .ok (.if_icmp .ge 20, 3) := dk_162 0 20 (dk_at dksX0_weight_0 17 rfl rfl)
theorem dX0_weight_20 : decode cX0_weight 20 = .ok (.iload_n 3, 1) := dk_29 (dk_at dksX0_weight_0 20 rfl rfl)
theorem dX0_weight_21 : decode cX0_weight 21 = .ok (.aload_n 0, 1) := dk_42 (dk_at dksX0_weight_0 21 rfl rfl)
theorem dX0_weight_22 : decode cX0_weight 22 = .ok (.iload_n 1, 1) := dk_27 (dk_at dksX0_weight_0 22 rfl rfl)
theorem dX0_weight_23 : decode cX0_weight 23 = .ok (.iload_n 2, 1) := dk_28 (dk_at dksX0_weight_0 23 rfl rfl)
theorem dX0_weight_24 : decode cX0_weight 24 = .ok (.iload 4, 2) := dk_21 4 (dk_at dksX0_weight_1 0 rfl rfl)
theorem dX0_weight_26 : decode cX0_weight 26 = .ok (.invokevirtual 342, 3) := dk_182 1 86 (dk_at dksX0_weight_1 2 rfl rfl)
theorem dX0_weight_29 : decode cX0_weight 29 = .ok (.iadd, 1) := dk_96 (dk_at dksX0_weight_1 5 rfl rfl)
theorem dX0_weight_30 : decode cX0_weight 30 = .ok (.istore_n 3, 1) := dk_62 (dk_at dksX0_weight_1 6 rfl rfl)
theorem dX0_weight_31 : decode cX0_weight 31 = .ok (.iinc 4 1, 3) := dk_132 4 1 (dk_at dksX0_weight_1 7 rfl rfl)
theorem dX0_weight_34 : decode cX0_weight 34 = .ok (.goto (-29), 3) := dk_167 255 227 (dk_at dksX0_weight_1 10 rfl rfl)
theorem dX0_weight_37 : decode cX0_weight 37 = .ok (.iload_n 3, 1) := dk_29 (dk_at dksX0_weight_1 13 rfl rfl)
theorem dX0_weight_38 : decode cX0_weight 38 = .ok (.ireturn, 1) := dk_172 (dk_at dksX0_weight_1 14 rfl rfl)
def dkwX0_weightBy_4 : List UInt8 := [4, 160, 0, 7, 5, 167, 0, 13, 21, 5, 158, 0, 7, 4, 167, 0, 4, 3, 172]
abbrev dktX0_weightBy_4 : List UInt8 := dkwX0_weightBy_4 ++ []
def dkwX0_weightBy_3 : List UInt8 := [167, 0, 6, 132, 4, 1, 132, 6, 1, 167, 255, 187, 21, 4, 4, 164, 0, 7, 6, 167, 0, 23, 21, 4]
abbrev dktX0_weightBy_3 : List UInt8 := dkwX0_weightBy_3 ++ dktX0_weightBy_4
def dkwX0_weightBy_2 : List UInt8 := [180, 1, 80, 28, 159, 0, 6, 167, 0, 21, 25, 7, 180, 1, 83, 28, 160, 0, 9, 132, 5, 1]
abbrev dktX0_weightBy_2 : List UInt8 := dkwX0_weightBy_2 ++ dktX0_weightBy_3
def dkwX0_weightBy_1 : List UInt8 := [50, 58, 7, 25, 7, 180, 1, 78, 27, 160, 0, 42, 25, 7, 180, 1, 79, 29, 160, 0, 33, 25, 7]
abbrev dktX0_weightBy_1 : List UInt8 := dkwX0_weightBy_1 ++ dktX0_weightBy_2
def dkwX0_weightBy_0 : List UInt8 := [3, 54, 4, 3, 54, 5, 3, 54, 6, 21, 6, 42, 180, 0, 110, 162, 0, 66, 42, 180, 0, 68, 21, 6]
abbrev dktX0_weightBy_0 : List UInt8 := dkwX0_weightBy_0 ++ dktX0_weightBy_1
theorem dksX0_weightBy_0 : cX0_weightBy.data.toList.drop 0 = dktX0_weightBy_0 := by decide +kernel
theorem dksX0_weightBy_1 : cX0_weightBy.data.toList.drop 24 = dktX0_weightBy_1 := dk_seg dksX0_weightBy_0 24 rfl rfl
theorem dksX0_weightBy_2 : cX0_weightBy.data.toList.drop 47 = dktX0_weightBy_2 := dk_seg dksX0_weightBy_1 23 rfl rfl
theorem dksX0_weightBy_3 : cX0_weightBy.data.toList.drop 69 = dktX0_weightBy_3 := dk_seg dksX0_weightBy_2 22 rfl rfl
theorem dksX0_weightBy_4 : cX0_weightBy.data.toList.drop 93 = dktX0_weightBy_4 := dk_seg dksX0_weightBy_3 24 rfl rfl
theorem dX0_weightBy_0 : decode cX0_weightBy 0 = .ok (.iconst 0, 1) := dk_3 (dk_at dksX0_weightBy_0 0 rfl rfl)
theorem dX0_weightBy_1 : decode cX0_weightBy 1 = .ok (.istore 4, 2) := dk_54 4 (dk_at dksX0_weightBy_0 1 rfl rfl)
theorem dX0_weightBy_3 : decode cX0_weightBy 3 = .ok (.iconst 0, 1) := dk_3 (dk_at dksX0_weightBy_0 3 rfl rfl)
theorem dX0_weightBy_4 : decode cX0_weightBy 4 = .ok (.istore 5, 2) := dk_54 5 (dk_at dksX0_weightBy_0 4 rfl rfl)
theorem dX0_weightBy_6 : decode cX0_weightBy 6 = .ok (.iconst 0, 1) := dk_3 (dk_at dksX0_weightBy_0 6 rfl rfl)
theorem dX0_weightBy_7 : decode cX0_weightBy 7 = .ok (.istore 6, 2) := dk_54 6 (dk_at dksX0_weightBy_0 7 rfl rfl)
theorem dX0_weightBy_9 : decode cX0_weightBy 9 = .ok (.iload 6, 2) := dk_21 6 (dk_at dksX0_weightBy_0 9 rfl rfl)
theorem dX0_weightBy_11 : decode cX0_weightBy 11 = .ok (.aload_n 0, 1) := dk_42 (dk_at dksX0_weightBy_0 11 rfl rfl)
theorem dX0_weightBy_12 : decode cX0_weightBy 12 = .ok (.getfield 110, 3) := dk_180 0 110 (dk_at dksX0_weightBy_0 12 rfl rfl)
theorem dX0_weightBy_15 : decode cX0_weightBy 15 = .ok (.if_icmp .ge 66, 3) := dk_162 0 66 (dk_at dksX0_weightBy_0 15 rfl rfl)
theorem dX0_weightBy_18 : decode cX0_weightBy 18 = .ok (.aload_n 0, 1) := dk_42 (dk_at dksX0_weightBy_0 18 rfl rfl)
theorem dX0_weightBy_19 : decode cX0_weightBy 19 = .ok (.getfield 68, 3) := dk_180 0 68 (dk_at dksX0_weightBy_0 19 rfl rfl)
theorem dX0_weightBy_22 : decode cX0_weightBy 22 = .ok (.iload 6, 2) := dk_21 6 (dk_at dksX0_weightBy_0 22 rfl rfl)
theorem dX0_weightBy_24 : decode cX0_weightBy 24 = .ok (.aaload, 1) := dk_50 (dk_at dksX0_weightBy_1 0 rfl rfl)
theorem dX0_weightBy_25 : decode cX0_weightBy 25 = .ok (.astore 7, 2) := dk_58 7 (dk_at dksX0_weightBy_1 1 rfl rfl)
theorem dX0_weightBy_27 : decode cX0_weightBy 27 = .ok (.aload 7, 2) := dk_25 7 (dk_at dksX0_weightBy_1 3 rfl rfl)
theorem dX0_weightBy_29 : decode cX0_weightBy 29 = .ok (.getfield 334, 3) := dk_180 1 78 (dk_at dksX0_weightBy_1 5 rfl rfl)
theorem dX0_weightBy_32 : decode cX0_weightBy 32 = .ok (.iload_n 1, 1) := dk_27 (dk_at dksX0_weightBy_1 8 rfl rfl)
theorem dX0_weightBy_33 : decode cX0_weightBy 33 = .ok (.if_icmp .ne 42, 3) := dk_160 0 42 (dk_at dksX0_weightBy_1 9 rfl rfl)
theorem dX0_weightBy_36 : decode cX0_weightBy 36 = .ok (.aload 7, 2) := dk_25 7 (dk_at dksX0_weightBy_1 12 rfl rfl)
theorem dX0_weightBy_38 : decode cX0_weightBy 38 = .ok (.getfield 335, 3) := dk_180 1 79 (dk_at dksX0_weightBy_1 14 rfl rfl)
theorem dX0_weightBy_41 : decode cX0_weightBy 41 = .ok (.iload_n 3, 1) := dk_29 (dk_at dksX0_weightBy_1 17 rfl rfl)
theorem dX0_weightBy_42 : decode cX0_weightBy 42 = .ok (.if_icmp .ne 33, 3) := dk_160 0 33 (dk_at dksX0_weightBy_1 18 rfl rfl)
theorem dX0_weightBy_45 : decode cX0_weightBy 45 = .ok (.aload 7, 2) := dk_25 7 (dk_at dksX0_weightBy_1 21 rfl rfl)
theorem dX0_weightBy_47 : decode cX0_weightBy 47 = .ok (.getfield 336, 3) := dk_180 1 80 (dk_at dksX0_weightBy_2 0 rfl rfl)
theorem dX0_weightBy_50 : decode cX0_weightBy 50 = .ok (.iload_n 2, 1) := dk_28 (dk_at dksX0_weightBy_2 3 rfl rfl)
theorem dX0_weightBy_51 : decode cX0_weightBy 51 = .ok (.if_icmp .eq 6, 3) := dk_159 0 6 (dk_at dksX0_weightBy_2 4 rfl rfl)
theorem dX0_weightBy_54 : decode cX0_weightBy 54 = .ok (.goto 21, 3) := dk_167 0 21 (dk_at dksX0_weightBy_2 7 rfl rfl)
theorem dX0_weightBy_57 : decode cX0_weightBy 57 = .ok (.aload 7, 2) := dk_25 7 (dk_at dksX0_weightBy_2 10 rfl rfl)
theorem dX0_weightBy_59 : decode cX0_weightBy 59 = .ok (.getfield 339, 3) := dk_180 1 83 (dk_at dksX0_weightBy_2 12 rfl rfl)
theorem dX0_weightBy_62 : decode cX0_weightBy 62 = .ok (.iload_n 2, 1) := dk_28 (dk_at dksX0_weightBy_2 15 rfl rfl)
theorem dX0_weightBy_63 : decode cX0_weightBy 63 = .ok (.if_icmp .ne 9, 3) := dk_160 0 9 (dk_at dksX0_weightBy_2 16 rfl rfl)
theorem dX0_weightBy_66 : decode cX0_weightBy 66 = .ok (.iinc 5 1, 3) := dk_132 5 1 (dk_at dksX0_weightBy_2 19 rfl rfl)
theorem dX0_weightBy_69 : decode cX0_weightBy 69 = .ok (.goto 6, 3) := dk_167 0 6 (dk_at dksX0_weightBy_3 0 rfl rfl)
theorem dX0_weightBy_72 : decode cX0_weightBy 72 = .ok (.iinc 4 1, 3) := dk_132 4 1 (dk_at dksX0_weightBy_3 3 rfl rfl)
theorem dX0_weightBy_75 : decode cX0_weightBy 75 = .ok (.iinc 6 1, 3) := dk_132 6 1 (dk_at dksX0_weightBy_3 6 rfl rfl)
theorem dX0_weightBy_78 : decode cX0_weightBy 78 = .ok (.goto (-69), 3) := dk_167 255 187 (dk_at dksX0_weightBy_3 9 rfl rfl)
theorem dX0_weightBy_81 : decode cX0_weightBy 81 = .ok (.iload 4, 2) := dk_21 4 (dk_at dksX0_weightBy_3 12 rfl rfl)
theorem dX0_weightBy_83 : decode cX0_weightBy 83 = .ok (.iconst 1, 1) := dk_4 (dk_at dksX0_weightBy_3 14 rfl rfl)
theorem dX0_weightBy_84 : decode cX0_weightBy 84 = .ok (.if_icmp .le 7, 3) := dk_164 0 7 (dk_at dksX0_weightBy_3 15 rfl rfl)
theorem dX0_weightBy_87 : decode cX0_weightBy 87 = .ok (.iconst 3, 1) := dk_6 (dk_at dksX0_weightBy_3 18 rfl rfl)
theorem dX0_weightBy_88 : decode cX0_weightBy 88 = .ok (.goto 23, 3) := dk_167 0 23 (dk_at dksX0_weightBy_3 19 rfl rfl)
theorem dX0_weightBy_91 : decode cX0_weightBy 91 = .ok (.iload 4, 2) := dk_21 4 (dk_at dksX0_weightBy_3 22 rfl rfl)
theorem dX0_weightBy_93 : decode cX0_weightBy 93 = .ok (.iconst 1, 1) := dk_4 (dk_at dksX0_weightBy_4 0 rfl rfl)
theorem dX0_weightBy_94 : decode cX0_weightBy 94 = .ok (.if_icmp .ne 7, 3) := dk_160 0 7 (dk_at dksX0_weightBy_4 1 rfl rfl)
theorem dX0_weightBy_97 : decode cX0_weightBy 97 = .ok (.iconst 2, 1) := dk_5 (dk_at dksX0_weightBy_4 4 rfl rfl)
theorem dX0_weightBy_98 : decode cX0_weightBy 98 = .ok (.goto 13, 3) := dk_167 0 13 (dk_at dksX0_weightBy_4 5 rfl rfl)
theorem dX0_weightBy_101 : decode cX0_weightBy 101 = .ok (.iload 5, 2) := dk_21 5 (dk_at dksX0_weightBy_4 8 rfl rfl)
theorem dX0_weightBy_103 : decode cX0_weightBy 103 = .ok (.ifCond .le 7, 3) := dk_158 0 7 (dk_at dksX0_weightBy_4 10 rfl rfl)
theorem dX0_weightBy_106 : decode cX0_weightBy 106 = .ok (.iconst 1, 1) := dk_4 (dk_at dksX0_weightBy_4 13 rfl rfl)
theorem dX0_weightBy_107 : decode cX0_weightBy 107 = .ok (.goto 4, 3) := dk_167 0 4 (dk_at dksX0_weightBy_4 14 rfl rfl)
theorem dX0_weightBy_110 : decode cX0_weightBy 110 = .ok (.iconst 0, 1) := dk_3 (dk_at dksX0_weightBy_4 17 rfl rfl)
theorem dX0_weightBy_111 : decode cX0_weightBy 111 = .ok (.ireturn, 1) := dk_172 (dk_at dksX0_weightBy_4 18 rfl rfl)
def dkwX0_fill_4 : List UInt8 := [28, 172]
abbrev dktX0_fill_4 : List UInt8 := dkwX0_fill_4 ++ []
def dkwX0_fill_3 : List UInt8 := [167, 255, 215, 21, 5, 29, 163, 0, 6, 167, 0, 9, 21, 4, 61, 21, 5, 62, 132, 4, 1, 167, 255, 173]
abbrev dktX0_fill_3 : List UInt8 := dkwX0_fill_3 ++ dktX0_fill_4
def dkwX0_fill_2 : List UInt8 := [160, 0, 15, 42, 180, 0, 77, 21, 6, 50, 27, 46, 167, 0, 4, 3, 96, 54, 5, 132, 6, 1]
abbrev dktX0_fill_2 : List UInt8 := dkwX0_fill_2 ++ dktX0_fill_3
def dkwX0_fill_1 : List UInt8 := [54, 5, 3, 54, 6, 21, 6, 5, 162, 0, 41, 21, 5, 42, 180, 0, 74, 21, 6, 50, 27, 46, 21, 4]
abbrev dktX0_fill_1 : List UInt8 := dkwX0_fill_1 ++ dktX0_fill_2
def dkwX0_fill_0 : List UInt8 := [2, 61, 3, 62, 3, 54, 4, 21, 4, 7, 162, 0, 83, 16, 16, 42, 27, 21, 4, 182, 1, 89, 104]
abbrev dktX0_fill_0 : List UInt8 := dkwX0_fill_0 ++ dktX0_fill_1
theorem dksX0_fill_0 : cX0_fill.data.toList.drop 0 = dktX0_fill_0 := by decide +kernel
theorem dksX0_fill_1 : cX0_fill.data.toList.drop 23 = dktX0_fill_1 := dk_seg dksX0_fill_0 23 rfl rfl
theorem dksX0_fill_2 : cX0_fill.data.toList.drop 47 = dktX0_fill_2 := dk_seg dksX0_fill_1 24 rfl rfl
theorem dksX0_fill_3 : cX0_fill.data.toList.drop 69 = dktX0_fill_3 := dk_seg dksX0_fill_2 22 rfl rfl
theorem dksX0_fill_4 : cX0_fill.data.toList.drop 93 = dktX0_fill_4 := dk_seg dksX0_fill_3 24 rfl rfl
theorem dX0_fill_0 : decode cX0_fill 0 = .ok (.iconst (-1), 1) := dk_2 (dk_at dksX0_fill_0 0 rfl rfl)
theorem dX0_fill_1 : decode cX0_fill 1 = .ok (.istore_n 2, 1) := dk_61 (dk_at dksX0_fill_0 1 rfl rfl)
theorem dX0_fill_2 : decode cX0_fill 2 = .ok (.iconst 0, 1) := dk_3 (dk_at dksX0_fill_0 2 rfl rfl)
theorem dX0_fill_3 : decode cX0_fill 3 = .ok (.istore_n 3, 1) := dk_62 (dk_at dksX0_fill_0 3 rfl rfl)
theorem dX0_fill_4 : decode cX0_fill 4 = .ok (.iconst 0, 1) := dk_3 (dk_at dksX0_fill_0 4 rfl rfl)
theorem dX0_fill_5 : decode cX0_fill 5 = .ok (.istore 4, 2) := dk_54 4 (dk_at dksX0_fill_0 5 rfl rfl)
theorem dX0_fill_7 : decode cX0_fill 7 = .ok (.iload 4, 2) := dk_21 4 (dk_at dksX0_fill_0 7 rfl rfl)
theorem dX0_fill_9 : decode cX0_fill 9 = .ok (.iconst 4, 1) := dk_7 (dk_at dksX0_fill_0 9 rfl rfl)
theorem dX0_fill_10 : decode cX0_fill 10 = .ok (.if_icmp .ge 83, 3) := dk_162 0 83 (dk_at dksX0_fill_0 10 rfl rfl)
theorem dX0_fill_13 : decode cX0_fill 13 = .ok (.bipush 16, 2) := dk_16 16 (dk_at dksX0_fill_0 13 rfl rfl)
theorem dX0_fill_15 : decode cX0_fill 15 = .ok (.aload_n 0, 1) := dk_42 (dk_at dksX0_fill_0 15 rfl rfl)
theorem dX0_fill_16 : decode cX0_fill 16 = .ok (.iload_n 1, 1) := dk_27 (dk_at dksX0_fill_0 16 rfl rfl)
theorem dX0_fill_17 : decode cX0_fill 17 = .ok (.iload 4, 2) := dk_21 4 (dk_at dksX0_fill_0 17 rfl rfl)
theorem dX0_fill_19 : decode cX0_fill 19 = .ok (.invokevirtual 345, 3) := dk_182 1 89 (dk_at dksX0_fill_0 19 rfl rfl)
theorem dX0_fill_22 : decode cX0_fill 22 = .ok (.imul, 1) := dk_104 (dk_at dksX0_fill_0 22 rfl rfl)
theorem dX0_fill_23 : decode cX0_fill 23 = .ok (.istore 5, 2) := dk_54 5 (dk_at dksX0_fill_1 0 rfl rfl)
theorem dX0_fill_25 : decode cX0_fill 25 = .ok (.iconst 0, 1) := dk_3 (dk_at dksX0_fill_1 2 rfl rfl)
theorem dX0_fill_26 : decode cX0_fill 26 = .ok (.istore 6, 2) := dk_54 6 (dk_at dksX0_fill_1 3 rfl rfl)
theorem dX0_fill_28 : decode cX0_fill 28 = .ok (.iload 6, 2) := dk_21 6 (dk_at dksX0_fill_1 5 rfl rfl)
theorem dX0_fill_30 : decode cX0_fill 30 = .ok (.iconst 2, 1) := dk_5 (dk_at dksX0_fill_1 7 rfl rfl)
theorem dX0_fill_31 : decode cX0_fill 31 = .ok (.if_icmp .ge 41, 3) := dk_162 0 41 (dk_at dksX0_fill_1 8 rfl rfl)
theorem dX0_fill_34 : decode cX0_fill 34 = .ok (.iload 5, 2) := dk_21 5 (dk_at dksX0_fill_1 11 rfl rfl)
theorem dX0_fill_36 : decode cX0_fill 36 = .ok (.aload_n 0, 1) := dk_42 (dk_at dksX0_fill_1 13 rfl rfl)
theorem dX0_fill_37 : decode cX0_fill 37 = .ok (.getfield 74, 3) := dk_180 0 74 (dk_at dksX0_fill_1 14 rfl rfl)
theorem dX0_fill_40 : decode cX0_fill 40 = .ok (.iload 6, 2) := dk_21 6 (dk_at dksX0_fill_1 17 rfl rfl)
theorem dX0_fill_42 : decode cX0_fill 42 = .ok (.aaload, 1) := dk_50 (dk_at dksX0_fill_1 19 rfl rfl)
theorem dX0_fill_43 : decode cX0_fill 43 = .ok (.iload_n 1, 1) := dk_27 (dk_at dksX0_fill_1 20 rfl rfl)
theorem dX0_fill_44 : decode cX0_fill 44 = .ok (.iaload, 1) := dk_46 (dk_at dksX0_fill_1 21 rfl rfl)
theorem dX0_fill_45 : decode cX0_fill 45 = .ok (.iload 4, 2) := dk_21 4 (dk_at dksX0_fill_1 22 rfl rfl)
theorem dX0_fill_47 : decode cX0_fill 47 = .ok (.if_icmp .ne 15, 3) := dk_160 0 15 (dk_at dksX0_fill_2 0 rfl rfl)
theorem dX0_fill_50 : decode cX0_fill 50 = .ok (.aload_n 0, 1) := dk_42 (dk_at dksX0_fill_2 3 rfl rfl)
theorem dX0_fill_51 : decode cX0_fill 51 = .ok (.getfield 77, 3) := dk_180 0 77 (dk_at dksX0_fill_2 4 rfl rfl)
theorem dX0_fill_54 : decode cX0_fill 54 = .ok (.iload 6, 2) := dk_21 6 (dk_at dksX0_fill_2 7 rfl rfl)
theorem dX0_fill_56 : decode cX0_fill 56 = .ok (.aaload, 1) := dk_50 (dk_at dksX0_fill_2 9 rfl rfl)
theorem dX0_fill_57 : decode cX0_fill 57 = .ok (.iload_n 1, 1) := dk_27 (dk_at dksX0_fill_2 10 rfl rfl)
theorem dX0_fill_58 : decode cX0_fill 58 = .ok (.iaload, 1) := dk_46 (dk_at dksX0_fill_2 11 rfl rfl)
theorem dX0_fill_59 : decode cX0_fill 59 = .ok (.goto 4, 3) := dk_167 0 4 (dk_at dksX0_fill_2 12 rfl rfl)
theorem dX0_fill_62 : decode cX0_fill 62 = .ok (.iconst 0, 1) := dk_3 (dk_at dksX0_fill_2 15 rfl rfl)
theorem dX0_fill_63 : decode cX0_fill 63 = .ok (.iadd, 1) := dk_96 (dk_at dksX0_fill_2 16 rfl rfl)
theorem dX0_fill_64 : decode cX0_fill 64 = .ok (.istore 5, 2) := dk_54 5 (dk_at dksX0_fill_2 17 rfl rfl)
theorem dX0_fill_66 : decode cX0_fill 66 = .ok (.iinc 6 1, 3) := dk_132 6 1 (dk_at dksX0_fill_2 19 rfl rfl)
theorem dX0_fill_69 : decode cX0_fill 69 = .ok (.goto (-41), 3) := dk_167 255 215 (dk_at dksX0_fill_3 0 rfl rfl)
theorem dX0_fill_72 : decode cX0_fill 72 = .ok (.iload 5, 2) := dk_21 5 (dk_at dksX0_fill_3 3 rfl rfl)
theorem dX0_fill_74 : decode cX0_fill 74 = .ok (.iload_n 3, 1) := dk_29 (dk_at dksX0_fill_3 5 rfl rfl)
theorem dX0_fill_75 : decode cX0_fill 75 = .ok (.if_icmp .gt 6, 3) := dk_163 0 6 (dk_at dksX0_fill_3 6 rfl rfl)
theorem dX0_fill_78 : decode cX0_fill 78 = .ok (.goto 9, 3) := dk_167 0 9 (dk_at dksX0_fill_3 9 rfl rfl)
theorem dX0_fill_81 : decode cX0_fill 81 = .ok (.iload 4, 2) := dk_21 4 (dk_at dksX0_fill_3 12 rfl rfl)
theorem dX0_fill_83 : decode cX0_fill 83 = .ok (.istore_n 2, 1) := dk_61 (dk_at dksX0_fill_3 14 rfl rfl)
theorem dX0_fill_84 : decode cX0_fill 84 = .ok (.iload 5, 2) := dk_21 5 (dk_at dksX0_fill_3 15 rfl rfl)
theorem dX0_fill_86 : decode cX0_fill 86 = .ok (.istore_n 3, 1) := dk_62 (dk_at dksX0_fill_3 17 rfl rfl)
theorem dX0_fill_87 : decode cX0_fill 87 = .ok (.iinc 4 1, 3) := dk_132 4 1 (dk_at dksX0_fill_3 18 rfl rfl)
theorem dX0_fill_90 : decode cX0_fill 90 = .ok (.goto (-83), 3) := dk_167 255 173 (dk_at dksX0_fill_3 21 rfl rfl)
theorem dX0_fill_93 : decode cX0_fill 93 = .ok (.iload_n 2, 1) := dk_28 (dk_at dksX0_fill_4 0 rfl rfl)
theorem dX0_fill_94 : decode cX0_fill 94 = .ok (.ireturn, 1) := dk_172 (dk_at dksX0_fill_4 1 rfl rfl)
def dkwX0_again_8 : List UInt8 := [167, 255, 186, 21, 4, 172]
abbrev dktX0_again_8 : List UInt8 := dkwX0_again_8 ++ []
def dkwX0_again_7 : List UInt8 := [21, 5, 182, 1, 102, 42, 29, 21, 4, 182, 1, 102, 162, 0, 7, 21, 5, 54, 4, 132, 5, 1]
abbrev dktX0_again_7 : List UInt8 := dkwX0_again_7 ++ dktX0_again_8
def dkwX0_again_6 : List UInt8 := [153, 0, 43, 42, 21, 5, 182, 0, 171, 29, 182, 0, 187, 153, 0, 30, 21, 4, 2, 159, 0, 20, 42, 29]
abbrev dktX0_again_6 : List UInt8 := dkwX0_again_6 ++ dktX0_again_7
def dkwX0_again_5 : List UInt8 := [21, 5, 42, 180, 0, 93, 180, 0, 134, 182, 0, 126, 162, 0, 61, 42, 21, 5, 182, 0, 171, 180, 0, 178]
abbrev dktX0_again_5 : List UInt8 := dkwX0_again_5 ++ dktX0_again_6
def dkwX0_again_4 : List UInt8 := [132, 4, 1, 167, 255, 187, 27, 153, 0, 8, 29, 2, 160, 0, 5, 29, 172, 2, 54, 4, 3, 54, 5]
abbrev dktX0_again_4 : List UInt8 := dkwX0_again_4 ++ dktX0_again_5
def dkwX0_again_3 : List UInt8 := [42, 21, 4, 182, 0, 149, 180, 0, 153, 42, 29, 182, 0, 149, 180, 0, 153, 164, 0, 6, 21, 4, 62]
abbrev dktX0_again_3 : List UInt8 := dkwX0_again_3 ++ dktX0_again_4
def dkwX0_again_2 : List UInt8 := [21, 4, 122, 4, 126, 4, 160, 0, 41, 42, 21, 4, 182, 1, 92, 2, 160, 0, 31, 29, 2, 159, 0, 23]
abbrev dktX0_again_2 : List UInt8 := dkwX0_again_2 ++ dktX0_again_3
def dkwX0_again_1 : List UInt8 := [2, 62, 3, 54, 4, 21, 4, 42, 182, 0, 131, 162, 0, 66, 42, 21, 4, 182, 0, 165, 153, 0, 51, 28]
abbrev dktX0_again_1 : List UInt8 := dkwX0_again_1 ++ dktX0_again_2
def dkwX0_again_0 : List UInt8 := [42, 180, 0, 93, 198, 0, 13, 27, 133, 9, 10, 184, 0, 15, 154, 0, 5, 2, 172, 42, 182, 1, 1, 61]
abbrev dktX0_again_0 : List UInt8 := dkwX0_again_0 ++ dktX0_again_1
theorem dksX0_again_0 : cX0_again.data.toList.drop 0 = dktX0_again_0 := by decide +kernel
theorem dksX0_again_1 : cX0_again.data.toList.drop 24 = dktX0_again_1 := dk_seg dksX0_again_0 24 rfl rfl
theorem dksX0_again_2 : cX0_again.data.toList.drop 48 = dktX0_again_2 := dk_seg dksX0_again_1 24 rfl rfl
theorem dksX0_again_3 : cX0_again.data.toList.drop 72 = dktX0_again_3 := dk_seg dksX0_again_2 24 rfl rfl
theorem dksX0_again_4 : cX0_again.data.toList.drop 95 = dktX0_again_4 := dk_seg dksX0_again_3 23 rfl rfl
theorem dksX0_again_5 : cX0_again.data.toList.drop 118 = dktX0_again_5 := dk_seg dksX0_again_4 23 rfl rfl
theorem dksX0_again_6 : cX0_again.data.toList.drop 142 = dktX0_again_6 := dk_seg dksX0_again_5 24 rfl rfl
theorem dksX0_again_7 : cX0_again.data.toList.drop 166 = dktX0_again_7 := dk_seg dksX0_again_6 24 rfl rfl
theorem dksX0_again_8 : cX0_again.data.toList.drop 188 = dktX0_again_8 := dk_seg dksX0_again_7 22 rfl rfl
theorem dX0_again_0 : decode cX0_again 0 = .ok (.aload_n 0, 1) := dk_42 (dk_at dksX0_again_0 0 rfl rfl)
theorem dX0_again_1 : decode cX0_again 1 = .ok (.getfield 93, 3) := dk_180 0 93 (dk_at dksX0_again_0 1 rfl rfl)
theorem dX0_again_4 : decode cX0_again 4 = .ok (.ifnull 13, 3) := dk_198 0 13 (dk_at dksX0_again_0 4 rfl rfl)
theorem dX0_again_7 : decode cX0_again 7 = .ok (.iload_n 1, 1) := dk_27 (dk_at dksX0_again_0 7 rfl rfl)
theorem dX0_again_8 : decode cX0_again 8 = .ok (.i2l, 1) := dk_133 (dk_at dksX0_again_0 8 rfl rfl)
theorem dX0_again_9 : decode cX0_again 9 = .ok (.lconst 0, 1) := dk_9 (dk_at dksX0_again_0 9 rfl rfl)
theorem dX0_again_10 : decode cX0_again 10 = .ok (.lconst 1, 1) := dk_10 (dk_at dksX0_again_0 10 rfl rfl)
theorem dX0_again_11 : decode cX0_again 11 = .ok (.invokestatic 15, 3) := dk_184 0 15 (dk_at dksX0_again_0 11 rfl rfl)
theorem dX0_again_14 : decode cX0_again 14 = .ok (.ifCond .ne 5, 3) := dk_154 0 5 (dk_at dksX0_again_0 14 rfl rfl)
theorem dX0_again_17 : decode cX0_again 17 = .ok (.iconst (-1), 1) := dk_2 (dk_at dksX0_again_0 17 rfl rfl)
theorem dX0_again_18 : decode cX0_again 18 = .ok (.ireturn, 1) := dk_172 (dk_at dksX0_again_0 18 rfl rfl)
theorem dX0_again_19 : decode cX0_again 19 = .ok (.aload_n 0, 1) := dk_42 (dk_at dksX0_again_0 19 rfl rfl)
theorem dX0_again_20 : decode cX0_again 20 = .ok (.invokevirtual 257, 3) := dk_182 1 1 (dk_at dksX0_again_0 20 rfl rfl)
theorem dX0_again_23 : decode cX0_again 23 = .ok (.istore_n 2, 1) := dk_61 (dk_at dksX0_again_0 23 rfl rfl)
theorem dX0_again_24 : decode cX0_again 24 = .ok (.iconst (-1), 1) := dk_2 (dk_at dksX0_again_1 0 rfl rfl)
theorem dX0_again_25 : decode cX0_again 25 = .ok (.istore_n 3, 1) := dk_62 (dk_at dksX0_again_1 1 rfl rfl)
theorem dX0_again_26 : decode cX0_again 26 = .ok (.iconst 0, 1) := dk_3 (dk_at dksX0_again_1 2 rfl rfl)
theorem dX0_again_27 : decode cX0_again 27 = .ok (.istore 4, 2) := dk_54 4 (dk_at dksX0_again_1 3 rfl rfl)
theorem dX0_again_29 : decode cX0_again 29 = .ok (.iload 4, 2) := dk_21 4 (dk_at dksX0_again_1 5 rfl rfl)
theorem dX0_again_31 : decode cX0_again 31 = .ok (.aload_n 0, 1) := dk_42 (dk_at dksX0_again_1 7 rfl rfl)
theorem dX0_again_32 : decode cX0_again 32 = .ok (.invokevirtual 131, 3) := dk_182 0 131 (dk_at dksX0_again_1 8 rfl rfl)
theorem dX0_again_35 : decode cX0_again 35 = .ok (.if_icmp .ge 66, 3) := dk_162 0 66 (dk_at dksX0_again_1 11 rfl rfl)
theorem dX0_again_38 : decode cX0_again 38 = .ok (.aload_n 0, 1) := dk_42 (dk_at dksX0_again_1 14 rfl rfl)
theorem dX0_again_39 : decode cX0_again 39 = .ok (.iload 4, 2) := dk_21 4 (dk_at dksX0_again_1 15 rfl rfl)
theorem dX0_again_41 : decode cX0_again 41 = .ok (.invokevirtual 165, 3) := dk_182 0 165 (dk_at dksX0_again_1 17 rfl rfl)
theorem dX0_again_44 : decode cX0_again 44 = .ok (.ifCond .eq 51, 3) := dk_153 0 51 (dk_at dksX0_again_1 20 rfl rfl)
theorem dX0_again_47 : decode cX0_again 47 = .ok (.iload_n 2, 1) := dk_28 (dk_at dksX0_again_1 23 rfl rfl)
theorem dX0_again_48 : decode cX0_again 48 = .ok (.iload 4, 2) := dk_21 4 (dk_at dksX0_again_2 0 rfl rfl)
theorem dX0_again_50 : decode cX0_again 50 = .ok (.ishr, 1) := dk_122 (dk_at dksX0_again_2 2 rfl rfl)
theorem dX0_again_51 : decode cX0_again 51 = .ok (.iconst 1, 1) := dk_4 (dk_at dksX0_again_2 3 rfl rfl)
theorem dX0_again_52 : decode cX0_again 52 = .ok (.iand, 1) := dk_126 (dk_at dksX0_again_2 4 rfl rfl)
theorem dX0_again_53 : decode cX0_again 53 = .ok (.iconst 1, 1) := dk_4 (dk_at dksX0_again_2 5 rfl rfl)
theorem dX0_again_54 : decode cX0_again 54 = .ok (.if_icmp .ne 41, 3) := dk_160 0 41 (dk_at dksX0_again_2 6 rfl rfl)
theorem dX0_again_57 : decode cX0_again 57 = .ok (.aload_n 0, 1) := dk_42 (dk_at dksX0_again_2 9 rfl rfl)
theorem dX0_again_58 : decode cX0_again 58 = .ok (.iload 4, 2) := dk_21 4 (dk_at dksX0_again_2 10 rfl rfl)
theorem dX0_again_60 : decode cX0_again 60 = .ok (.invokevirtual 348, 3) := dk_182 1 92 (dk_at dksX0_again_2 12 rfl rfl)
theorem dX0_again_63 : decode cX0_again 63 = .ok (.iconst (-1), 1) := dk_2 (dk_at dksX0_again_2 15 rfl rfl)
theorem dX0_again_64 : decode cX0_again 64 = .ok (.if_icmp .ne 31, 3) := dk_160 0 31 (dk_at dksX0_again_2 16 rfl rfl)
theorem dX0_again_67 : decode cX0_again 67 = .ok (.iload_n 3, 1) := dk_29 (dk_at dksX0_again_2 19 rfl rfl)
theorem dX0_again_68 : decode cX0_again 68 = .ok (.iconst (-1), 1) := dk_2 (dk_at dksX0_again_2 20 rfl rfl)
theorem dX0_again_69 : decode cX0_again 69 = .ok (.if_icmp .eq 23, 3) := dk_159 0 23 (dk_at dksX0_again_2 21 rfl rfl)
theorem dX0_again_72 : decode cX0_again 72 = .ok (.aload_n 0, 1) := dk_42 (dk_at dksX0_again_3 0 rfl rfl)
theorem dX0_again_73 : decode cX0_again 73 = .ok (.iload 4, 2) := dk_21 4 (dk_at dksX0_again_3 1 rfl rfl)
theorem dX0_again_75 : decode cX0_again 75 = .ok (.invokevirtual 149, 3) := dk_182 0 149 (dk_at dksX0_again_3 3 rfl rfl)
theorem dX0_again_78 : decode cX0_again 78 = .ok (.getfield 153, 3) := dk_180 0 153 (dk_at dksX0_again_3 6 rfl rfl)
theorem dX0_again_81 : decode cX0_again 81 = .ok (.aload_n 0, 1) := dk_42 (dk_at dksX0_again_3 9 rfl rfl)
theorem dX0_again_82 : decode cX0_again 82 = .ok (.iload_n 3, 1) := dk_29 (dk_at dksX0_again_3 10 rfl rfl)
theorem dX0_again_83 : decode cX0_again 83 = .ok (.invokevirtual 149, 3) := dk_182 0 149 (dk_at dksX0_again_3 11 rfl rfl)
theorem dX0_again_86 : decode cX0_again 86 = .ok (.getfield 153, 3) := dk_180 0 153 (dk_at dksX0_again_3 14 rfl rfl)
theorem dX0_again_89 : decode cX0_again 89 = .ok (.if_icmp .le 6, 3) := dk_164 0 6 (dk_at dksX0_again_3 17 rfl rfl)
theorem dX0_again_92 : decode cX0_again 92 = .ok (.iload 4, 2) := dk_21 4 (dk_at dksX0_again_3 20 rfl rfl)
theorem dX0_again_94 : decode cX0_again 94 = .ok (.istore_n 3, 1) := dk_62 (dk_at dksX0_again_3 22 rfl rfl)
theorem dX0_again_95 : decode cX0_again 95 = .ok (.iinc 4 1, 3) := dk_132 4 1 (dk_at dksX0_again_4 0 rfl rfl)
theorem dX0_again_98 : decode cX0_again 98 = .ok (.goto (-69), 3) := dk_167 255 187 (dk_at dksX0_again_4 3 rfl rfl)
theorem dX0_again_101 : decode cX0_again 101 = .ok (.iload_n 1, 1) := dk_27 (dk_at dksX0_again_4 6 rfl rfl)
theorem dX0_again_102 : decode cX0_again 102 = .ok (.ifCond .eq 8, 3) := dk_153 0 8 (dk_at dksX0_again_4 7 rfl rfl)
theorem dX0_again_105 : decode cX0_again 105 = .ok (.iload_n 3, 1) := dk_29 (dk_at dksX0_again_4 10 rfl rfl)
theorem dX0_again_106 : decode cX0_again 106 = .ok (.iconst (-1), 1) := dk_2 (dk_at dksX0_again_4 11 rfl rfl)
theorem dX0_again_107 : decode cX0_again 107 = .ok (.if_icmp .ne 5, 3) := dk_160 0 5 (dk_at dksX0_again_4 12 rfl rfl)
theorem dX0_again_110 : decode cX0_again 110 = .ok (.iload_n 3, 1) := dk_29 (dk_at dksX0_again_4 15 rfl rfl)
theorem dX0_again_111 : decode cX0_again 111 = .ok (.ireturn, 1) := dk_172 (dk_at dksX0_again_4 16 rfl rfl)
theorem dX0_again_112 : decode cX0_again 112 = .ok (.iconst (-1), 1) := dk_2 (dk_at dksX0_again_4 17 rfl rfl)
theorem dX0_again_113 : decode cX0_again 113 = .ok (.istore 4, 2) := dk_54 4 (dk_at dksX0_again_4 18 rfl rfl)
theorem dX0_again_115 : decode cX0_again 115 = .ok (.iconst 0, 1) := dk_3 (dk_at dksX0_again_4 20 rfl rfl)
theorem dX0_again_116 : decode cX0_again 116 = .ok (.istore 5, 2) := dk_54 5 (dk_at dksX0_again_4 21 rfl rfl)
theorem dX0_again_118 : decode cX0_again 118 = .ok (.iload 5, 2) := dk_21 5 (dk_at dksX0_again_5 0 rfl rfl)
theorem dX0_again_120 : decode cX0_again 120 = .ok (.aload_n 0, 1) := dk_42 (dk_at dksX0_again_5 2 rfl rfl)
theorem dX0_again_121 : decode cX0_again 121 = .ok (.getfield 93, 3) := dk_180 0 93 (dk_at dksX0_again_5 3 rfl rfl)
theorem dX0_again_124 : decode cX0_again 124 = .ok (.getfield 134, 3) := dk_180 0 134 (dk_at dksX0_again_5 6 rfl rfl)
theorem dX0_again_127 : decode cX0_again 127 = .ok (.invokevirtual 126, 3) := dk_182 0 126 (dk_at dksX0_again_5 9 rfl rfl)
theorem dX0_again_130 : decode cX0_again 130 = .ok (.if_icmp .ge 61, 3) := dk_162 0 61 (dk_at dksX0_again_5 12 rfl rfl)
theorem dX0_again_133 : decode cX0_again 133 = .ok (.aload_n 0, 1) := dk_42 (dk_at dksX0_again_5 15 rfl rfl)
theorem dX0_again_134 : decode cX0_again 134 = .ok (.iload 5, 2) := dk_21 5 (dk_at dksX0_again_5 16 rfl rfl)
theorem dX0_again_136 : decode cX0_again 136 = .ok (.invokevirtual 171, 3) := dk_182 0 171 (dk_at dksX0_again_5 18 rfl rfl)
theorem dX0_again_139 : decode cX0_again 139 = .ok (.getfield 178, 3) := dk_180 0 178 (dk_at dksX0_again_5 21 rfl rfl)
theorem dX0_again_142 : decode cX0_again 142 = .ok (.ifCond .eq 43, 3) := dk_153 0 43 (dk_at dksX0_again_6 0 rfl rfl)
theorem dX0_again_145 : decode cX0_again 145 = .ok (.aload_n 0, 1) := dk_42 (dk_at dksX0_again_6 3 rfl rfl)
theorem dX0_again_146 : decode cX0_again 146 = .ok (.iload 5, 2) := dk_21 5 (dk_at dksX0_again_6 4 rfl rfl)
theorem dX0_again_148 : decode cX0_again 148 = .ok (.invokevirtual 171, 3) := dk_182 0 171 (dk_at dksX0_again_6 6 rfl rfl)
theorem dX0_again_151 : decode cX0_again 151 = .ok (.iload_n 3, 1) := dk_29 (dk_at dksX0_again_6 9 rfl rfl)
theorem dX0_again_152 : decode cX0_again 152 = .ok (.invokevirtual 187, 3) := dk_182 0 187 (dk_at dksX0_again_6 10 rfl rfl)
theorem dX0_again_155 : decode cX0_again 155 = .ok (.ifCond .eq 30, 3) := dk_153 0 30 (dk_at dksX0_again_6 13 rfl rfl)
theorem dX0_again_158 : decode cX0_again 158 = .ok (.iload 4, 2) := dk_21 4 (dk_at dksX0_again_6 16 rfl rfl)
theorem dX0_again_160 : decode cX0_again 160 = .ok (.iconst (-1), 1) := dk_2 (dk_at dksX0_again_6 18 rfl rfl)
theorem dX0_again_161 : decode cX0_again 161 = .ok (.if_icmp .eq 20, 3) := dk_159 0 20 (dk_at dksX0_again_6 19 rfl rfl)
theorem dX0_again_164 : decode cX0_again 164 = .ok (.aload_n 0, 1) := dk_42 (dk_at dksX0_again_6 22 rfl rfl)
theorem dX0_again_165 : decode cX0_again 165 = .ok (.iload_n 3, 1) := dk_29 (dk_at dksX0_again_6 23 rfl rfl)
theorem dX0_again_166 : decode cX0_again 166 = .ok (.iload 5, 2) := dk_21 5 (dk_at dksX0_again_7 0 rfl rfl)
theorem dX0_again_168 : decode cX0_again 168 = .ok (.invokevirtual 358, 3) := dk_182 1 102 (dk_at dksX0_again_7 2 rfl rfl)
theorem dX0_again_171 : decode cX0_again 171 = .ok (.aload_n 0, 1) := dk_42 (dk_at dksX0_again_7 5 rfl rfl)
theorem dX0_again_172 : decode cX0_again 172 = .ok (.iload_n 3, 1) := dk_29 (dk_at dksX0_again_7 6 rfl rfl)
theorem dX0_again_173 : decode cX0_again 173 = .ok (.iload 4, 2) := dk_21 4 (dk_at dksX0_again_7 7 rfl rfl)
theorem dX0_again_175 : decode cX0_again 175 = .ok (.invokevirtual 358, 3) := dk_182 1 102 (dk_at dksX0_again_7 9 rfl rfl)
theorem dX0_again_178 : decode cX0_again 178 = .ok (.if_icmp .ge 7, 3) := dk_162 0 7 (dk_at dksX0_again_7 12 rfl rfl)
theorem dX0_again_181 : decode cX0_again 181 = .ok (.iload 5, 2) := dk_21 5 (dk_at dksX0_again_7 15 rfl rfl)
theorem dX0_again_183 : decode cX0_again 183 = .ok (.istore 4, 2) := dk_54 4 (dk_at dksX0_again_7 17 rfl rfl)
theorem dX0_again_185 : decode cX0_again 185 = .ok (.iinc 5 1, 3) := dk_132 5 1 (dk_at dksX0_again_7 19 rfl rfl)
theorem dX0_again_188 : decode cX0_again 188 = .ok (.goto (-70), 3) := dk_167 255 186 (dk_at dksX0_again_8 0 rfl rfl)
theorem dX0_again_191 : decode cX0_again 191 = .ok (.iload 4, 2) := dk_21 4 (dk_at dksX0_again_8 3 rfl rfl)
theorem dX0_again_193 : decode cX0_again 193 = .ok (.ireturn, 1) := dk_172 (dk_at dksX0_again_8 5 rfl rfl)
def dkwX0_heardOf_2 : List UInt8 := [167, 0, 4, 3, 96, 62, 132, 4, 1, 167, 255, 208, 29, 172]
abbrev dktX0_heardOf_2 : List UInt8 := dkwX0_heardOf_2 ++ []
def dkwX0_heardOf_1 : List UInt8 := [180, 1, 78, 27, 160, 0, 21, 42, 180, 0, 68, 21, 4, 50, 180, 1, 79, 28, 160, 0, 7, 4]
abbrev dktX0_heardOf_1 : List UInt8 := dkwX0_heardOf_1 ++ dktX0_heardOf_2
def dkwX0_heardOf_0 : List UInt8 := [3, 62, 3, 54, 4, 21, 4, 42, 180, 0, 110, 162, 0, 45, 29, 42, 180, 0, 68, 21, 4, 50]
abbrev dktX0_heardOf_0 : List UInt8 := dkwX0_heardOf_0 ++ dktX0_heardOf_1
theorem dksX0_heardOf_0 : cX0_heardOf.data.toList.drop 0 = dktX0_heardOf_0 := by decide +kernel
theorem dksX0_heardOf_1 : cX0_heardOf.data.toList.drop 22 = dktX0_heardOf_1 := dk_seg dksX0_heardOf_0 22 rfl rfl
theorem dksX0_heardOf_2 : cX0_heardOf.data.toList.drop 44 = dktX0_heardOf_2 := dk_seg dksX0_heardOf_1 22 rfl rfl
theorem dX0_heardOf_0 : decode cX0_heardOf 0 = .ok (.iconst 0, 1) := dk_3 (dk_at dksX0_heardOf_0 0 rfl rfl)
theorem dX0_heardOf_1 : decode cX0_heardOf 1 = .ok (.istore_n 3, 1) := dk_62 (dk_at dksX0_heardOf_0 1 rfl rfl)
theorem dX0_heardOf_2 : decode cX0_heardOf 2 = .ok (.iconst 0, 1) := dk_3 (dk_at dksX0_heardOf_0 2 rfl rfl)
theorem dX0_heardOf_3 : decode cX0_heardOf 3 = .ok (.istore 4, 2) := dk_54 4 (dk_at dksX0_heardOf_0 3 rfl rfl)
theorem dX0_heardOf_5 : decode cX0_heardOf 5 = .ok (.iload 4, 2) := dk_21 4 (dk_at dksX0_heardOf_0 5 rfl rfl)
theorem dX0_heardOf_7 : decode cX0_heardOf 7 = .ok (.aload_n 0, 1) := dk_42 (dk_at dksX0_heardOf_0 7 rfl rfl)
theorem dX0_heardOf_8 : decode cX0_heardOf 8 = .ok (.getfield 110, 3) := dk_180 0 110 (dk_at dksX0_heardOf_0 8 rfl rfl)
theorem dX0_heardOf_11 : decode cX0_heardOf 11 = .ok (.if_icmp .ge 45, 3) := dk_162 0 45 (dk_at dksX0_heardOf_0 11 rfl rfl)
theorem dX0_heardOf_14 : decode cX0_heardOf 14 = .ok (.iload_n 3, 1) := dk_29 (dk_at dksX0_heardOf_0 14 rfl rfl)
theorem dX0_heardOf_15 : decode cX0_heardOf 15 = .ok (.aload_n 0, 1) := dk_42 (dk_at dksX0_heardOf_0 15 rfl rfl)
theorem dX0_heardOf_16 : decode cX0_heardOf 16 = .ok (.getfield 68, 3) := dk_180 0 68 (dk_at dksX0_heardOf_0 16 rfl rfl)
theorem dX0_heardOf_19 : decode cX0_heardOf 19 = .ok (.iload 4, 2) := dk_21 4 (dk_at dksX0_heardOf_0 19 rfl rfl)
theorem dX0_heardOf_21 : decode cX0_heardOf 21 = .ok (.aaload, 1) := dk_50 (dk_at dksX0_heardOf_0 21 rfl rfl)
theorem dX0_heardOf_22 : decode cX0_heardOf 22 = .ok (.getfield 334, 3) := dk_180 1 78 (dk_at dksX0_heardOf_1 0 rfl rfl)
theorem dX0_heardOf_25 : decode cX0_heardOf 25 = .ok (.iload_n 1, 1) := dk_27 (dk_at dksX0_heardOf_1 3 rfl rfl)
theorem dX0_heardOf_26 : decode cX0_heardOf 26 = .ok (.if_icmp .ne 21, 3) := dk_160 0 21 (dk_at dksX0_heardOf_1 4 rfl rfl)
theorem dX0_heardOf_29 : decode cX0_heardOf 29 = .ok (.aload_n 0, 1) := dk_42 (dk_at dksX0_heardOf_1 7 rfl rfl)
theorem dX0_heardOf_30 : decode cX0_heardOf 30 = .ok (.getfield 68, 3) := dk_180 0 68 (dk_at dksX0_heardOf_1 8 rfl rfl)
theorem dX0_heardOf_33 : decode cX0_heardOf 33 = .ok (.iload 4, 2) := dk_21 4 (dk_at dksX0_heardOf_1 11 rfl rfl)
theorem dX0_heardOf_35 : decode cX0_heardOf 35 = .ok (.aaload, 1) := dk_50 (dk_at dksX0_heardOf_1 13 rfl rfl)
theorem dX0_heardOf_36 : decode cX0_heardOf 36 = .ok (.getfield 335, 3) := dk_180 1 79 (dk_at dksX0_heardOf_1 14 rfl rfl)
theorem dX0_heardOf_39 : decode cX0_heardOf 39 = .ok (.iload_n 2, 1) := dk_28 (dk_at dksX0_heardOf_1 17 rfl rfl)
theorem dX0_heardOf_40 : decode cX0_heardOf 40 = .ok (.if_icmp .ne 7, 3) := dk_160 0 7 (dk_at dksX0_heardOf_1 18 rfl rfl)
theorem dX0_heardOf_43 : decode cX0_heardOf 43 = .ok (.iconst 1, 1) := dk_4 (dk_at dksX0_heardOf_1 21 rfl rfl)
theorem dX0_heardOf_44 : decode cX0_heardOf 44 = .ok (.goto 4, 3) := dk_167 0 4 (dk_at dksX0_heardOf_2 0 rfl rfl)
theorem dX0_heardOf_47 : decode cX0_heardOf 47 = .ok (.iconst 0, 1) := dk_3 (dk_at dksX0_heardOf_2 3 rfl rfl)
theorem dX0_heardOf_48 : decode cX0_heardOf 48 = .ok (.iadd, 1) := dk_96 (dk_at dksX0_heardOf_2 4 rfl rfl)
theorem dX0_heardOf_49 : decode cX0_heardOf 49 = .ok (.istore_n 3, 1) := dk_62 (dk_at dksX0_heardOf_2 5 rfl rfl)
theorem dX0_heardOf_50 : decode cX0_heardOf 50 = .ok (.iinc 4 1, 3) := dk_132 4 1 (dk_at dksX0_heardOf_2 6 rfl rfl)
theorem dX0_heardOf_53 : decode cX0_heardOf 53 = .ok (.goto (-48), 3) := dk_167 255 208 (dk_at dksX0_heardOf_2 9 rfl rfl)
theorem dX0_heardOf_56 : decode cX0_heardOf 56 = .ok (.iload_n 3, 1) := dk_29 (dk_at dksX0_heardOf_2 12 rfl rfl)
theorem dX0_heardOf_57 : decode cX0_heardOf 57 = .ok (.ireturn, 1) := dk_172 (dk_at dksX0_heardOf_2 13 rfl rfl)
def dkwX0_pleasing_4 : List UInt8 := [17, 3, 232, 28, 104, 29, 108, 172]
abbrev dktX0_pleasing_4 : List UInt8 := dkwX0_pleasing_4 ++ []
def dkwX0_pleasing_3 : List UInt8 := [160, 0, 7, 4, 167, 0, 4, 3, 96, 61, 132, 4, 1, 167, 255, 190, 29, 154, 0, 7, 2, 167, 0, 10]
abbrev dktX0_pleasing_3 : List UInt8 := dkwX0_pleasing_3 ++ dktX0_pleasing_4
def dkwX0_pleasing_2 : List UInt8 := [180, 1, 83, 2, 160, 0, 6, 167, 0, 27, 132, 3, 1, 28, 25, 5, 180, 1, 83, 25, 5, 180, 1, 80]
abbrev dktX0_pleasing_2 : List UInt8 := dkwX0_pleasing_2 ++ dktX0_pleasing_3
def dkwX0_pleasing_1 : List UInt8 := [162, 0, 63, 42, 180, 0, 68, 21, 4, 50, 58, 5, 25, 5, 180, 1, 79, 27, 160, 0, 39, 25, 5]
abbrev dktX0_pleasing_1 : List UInt8 := dkwX0_pleasing_1 ++ dktX0_pleasing_2
def dkwX0_pleasing_0 : List UInt8 := [42, 27, 182, 0, 168, 154, 0, 5, 2, 172, 3, 61, 3, 62, 3, 54, 4, 21, 4, 42, 180, 0, 110]
abbrev dktX0_pleasing_0 : List UInt8 := dkwX0_pleasing_0 ++ dktX0_pleasing_1
theorem dksX0_pleasing_0 : cX0_pleasing.data.toList.drop 0 = dktX0_pleasing_0 := by decide +kernel
theorem dksX0_pleasing_1 : cX0_pleasing.data.toList.drop 23 = dktX0_pleasing_1 := dk_seg dksX0_pleasing_0 23 rfl rfl
theorem dksX0_pleasing_2 : cX0_pleasing.data.toList.drop 46 = dktX0_pleasing_2 := dk_seg dksX0_pleasing_1 23 rfl rfl
theorem dksX0_pleasing_3 : cX0_pleasing.data.toList.drop 70 = dktX0_pleasing_3 := dk_seg dksX0_pleasing_2 24 rfl rfl
theorem dksX0_pleasing_4 : cX0_pleasing.data.toList.drop 94 = dktX0_pleasing_4 := dk_seg dksX0_pleasing_3 24 rfl rfl
theorem dX0_pleasing_0 : decode cX0_pleasing 0 = .ok (.aload_n 0, 1) := dk_42 (dk_at dksX0_pleasing_0 0 rfl rfl)
theorem dX0_pleasing_1 : decode cX0_pleasing 1 = .ok (.iload_n 1, 1) := dk_27 (dk_at dksX0_pleasing_0 1 rfl rfl)
theorem dX0_pleasing_2 : decode cX0_pleasing 2 = .ok (.invokevirtual 168, 3) := dk_182 0 168 (dk_at dksX0_pleasing_0 2 rfl rfl)
theorem dX0_pleasing_5 : decode cX0_pleasing 5 = .ok (.ifCond .ne 5, 3) := dk_154 0 5 (dk_at dksX0_pleasing_0 5 rfl rfl)
theorem dX0_pleasing_8 : decode cX0_pleasing 8 = .ok (.iconst (-1), 1) := dk_2 (dk_at dksX0_pleasing_0 8 rfl rfl)
theorem dX0_pleasing_9 : decode cX0_pleasing 9 = .ok (.ireturn, 1) := dk_172 (dk_at dksX0_pleasing_0 9 rfl rfl)
theorem dX0_pleasing_10 : decode cX0_pleasing 10 = .ok (.iconst 0, 1) := dk_3 (dk_at dksX0_pleasing_0 10 rfl rfl)
theorem dX0_pleasing_11 : decode cX0_pleasing 11 = .ok (.istore_n 2, 1) := dk_61 (dk_at dksX0_pleasing_0 11 rfl rfl)
theorem dX0_pleasing_12 : decode cX0_pleasing 12 = .ok (.iconst 0, 1) := dk_3 (dk_at dksX0_pleasing_0 12 rfl rfl)
theorem dX0_pleasing_13 : decode cX0_pleasing 13 = .ok (.istore_n 3, 1) := dk_62 (dk_at dksX0_pleasing_0 13 rfl rfl)
theorem dX0_pleasing_14 : decode cX0_pleasing 14 = .ok (.iconst 0, 1) := dk_3 (dk_at dksX0_pleasing_0 14 rfl rfl)
theorem dX0_pleasing_15 : decode cX0_pleasing 15 = .ok (.istore 4, 2) := dk_54 4 (dk_at dksX0_pleasing_0 15 rfl rfl)
theorem dX0_pleasing_17 : decode cX0_pleasing 17 = .ok (.iload 4, 2) := dk_21 4 (dk_at dksX0_pleasing_0 17 rfl rfl)
theorem dX0_pleasing_19 : decode cX0_pleasing 19 = .ok (.aload_n 0, 1) := dk_42 (dk_at dksX0_pleasing_0 19 rfl rfl)
theorem dX0_pleasing_20 : decode cX0_pleasing 20 = .ok (.getfield 110, 3) := dk_180 0 110 (dk_at dksX0_pleasing_0 20 rfl rfl)
theorem dX0_pleasing_23 : decode cX0_pleasing 23 = .ok (.if_icmp .ge 63, 3) := dk_162 0 63 (dk_at dksX0_pleasing_1 0 rfl rfl)
theorem dX0_pleasing_26 : decode cX0_pleasing 26 = .ok (.aload_n 0, 1) := dk_42 (dk_at dksX0_pleasing_1 3 rfl rfl)
theorem dX0_pleasing_27 : decode cX0_pleasing 27 = .ok (.getfield 68, 3) := dk_180 0 68 (dk_at dksX0_pleasing_1 4 rfl rfl)
theorem dX0_pleasing_30 : decode cX0_pleasing 30 = .ok (.iload 4, 2) := dk_21 4 (dk_at dksX0_pleasing_1 7 rfl rfl)
theorem dX0_pleasing_32 : decode cX0_pleasing 32 = .ok (.aaload, 1) := dk_50 (dk_at dksX0_pleasing_1 9 rfl rfl)
theorem dX0_pleasing_33 : decode cX0_pleasing 33 = .ok (.astore 5, 2) := dk_58 5 (dk_at dksX0_pleasing_1 10 rfl rfl)
theorem dX0_pleasing_35 : decode cX0_pleasing 35 = .ok (.aload 5, 2) := dk_25 5 (dk_at dksX0_pleasing_1 12 rfl rfl)
theorem dX0_pleasing_37 : decode cX0_pleasing 37 = .ok (.getfield 335, 3) := dk_180 1 79 (dk_at dksX0_pleasing_1 14 rfl rfl)
theorem dX0_pleasing_40 : decode cX0_pleasing 40 = .ok (.iload_n 1, 1) := dk_27 (dk_at dksX0_pleasing_1 17 rfl rfl)
theorem dX0_pleasing_41 : decode cX0_pleasing 41 = .ok (.if_icmp .ne 39, 3) := dk_160 0 39 (dk_at dksX0_pleasing_1 18 rfl rfl)
theorem dX0_pleasing_44 : decode cX0_pleasing 44 = .ok (.aload 5, 2) := dk_25 5 (dk_at dksX0_pleasing_1 21 rfl rfl)
theorem dX0_pleasing_46 : decode cX0_pleasing 46 = .ok (.getfield 339, 3) := dk_180 1 83 (dk_at dksX0_pleasing_2 0 rfl rfl)
theorem dX0_pleasing_49 : decode cX0_pleasing 49 = .ok (.iconst (-1), 1) := dk_2 (dk_at dksX0_pleasing_2 3 rfl rfl)
theorem dX0_pleasing_50 : decode cX0_pleasing 50 = .ok (.if_icmp .ne 6, 3) := dk_160 0 6 (dk_at dksX0_pleasing_2 4 rfl rfl)
theorem dX0_pleasing_53 : decode cX0_pleasing 53 = .ok (.goto 27, 3) := dk_167 0 27 (dk_at dksX0_pleasing_2 7 rfl rfl)
theorem dX0_pleasing_56 : decode cX0_pleasing 56 = .ok (.iinc 3 1, 3) := dk_132 3 1 (dk_at dksX0_pleasing_2 10 rfl rfl)
theorem dX0_pleasing_59 : decode cX0_pleasing 59 = .ok (.iload_n 2, 1) := dk_28 (dk_at dksX0_pleasing_2 13 rfl rfl)
theorem dX0_pleasing_60 : decode cX0_pleasing 60 = .ok (.aload 5, 2) := dk_25 5 (dk_at dksX0_pleasing_2 14 rfl rfl)
theorem dX0_pleasing_62 : decode cX0_pleasing 62 = .ok (.getfield 339, 3) := dk_180 1 83 (dk_at dksX0_pleasing_2 16 rfl rfl)
theorem dX0_pleasing_65 : decode cX0_pleasing 65 = .ok (.aload 5, 2) := dk_25 5 (dk_at dksX0_pleasing_2 19 rfl rfl)
theorem dX0_pleasing_67 : decode cX0_pleasing 67 = .ok (.getfield 336, 3) := dk_180 1 80 (dk_at dksX0_pleasing_2 21 rfl rfl)
theorem dX0_pleasing_70 : decode cX0_pleasing 70 = .ok (.if_icmp .ne 7, 3) := dk_160 0 7 (dk_at dksX0_pleasing_3 0 rfl rfl)
theorem dX0_pleasing_73 : decode cX0_pleasing 73 = .ok (.iconst 1, 1) := dk_4 (dk_at dksX0_pleasing_3 3 rfl rfl)
theorem dX0_pleasing_74 : decode cX0_pleasing 74 = .ok (.goto 4, 3) := dk_167 0 4 (dk_at dksX0_pleasing_3 4 rfl rfl)
theorem dX0_pleasing_77 : decode cX0_pleasing 77 = .ok (.iconst 0, 1) := dk_3 (dk_at dksX0_pleasing_3 7 rfl rfl)
theorem dX0_pleasing_78 : decode cX0_pleasing 78 = .ok (.iadd, 1) := dk_96 (dk_at dksX0_pleasing_3 8 rfl rfl)
theorem dX0_pleasing_79 : decode cX0_pleasing 79 = .ok (.istore_n 2, 1) := dk_61 (dk_at dksX0_pleasing_3 9 rfl rfl)
theorem dX0_pleasing_80 : decode cX0_pleasing 80 = .ok (.iinc 4 1, 3) := dk_132 4 1 (dk_at dksX0_pleasing_3 10 rfl rfl)
theorem dX0_pleasing_83 : decode cX0_pleasing 83 = .ok (.goto (-66), 3) := dk_167 255 190 (dk_at dksX0_pleasing_3 13 rfl rfl)
theorem dX0_pleasing_86 : decode cX0_pleasing 86 = .ok (.iload_n 3, 1) := dk_29 (dk_at dksX0_pleasing_3 16 rfl rfl)
theorem dX0_pleasing_87 : decode cX0_pleasing 87 = .ok (.ifCond .ne 7, 3) := dk_154 0 7 (dk_at dksX0_pleasing_3 17 rfl rfl)
theorem dX0_pleasing_90 : decode cX0_pleasing 90 = .ok (.iconst (-1), 1) := dk_2 (dk_at dksX0_pleasing_3 20 rfl rfl)
theorem dX0_pleasing_91 : decode cX0_pleasing 91 = .ok (.goto 10, 3) := dk_167 0 10 (dk_at dksX0_pleasing_3 21 rfl rfl)
theorem dX0_pleasing_94 : decode cX0_pleasing 94 = .ok (.sipush 1000, 3) := dk_17 3 232 (dk_at dksX0_pleasing_4 0 rfl rfl)
theorem dX0_pleasing_97 : decode cX0_pleasing 97 = .ok (.iload_n 2, 1) := dk_28 (dk_at dksX0_pleasing_4 3 rfl rfl)
theorem dX0_pleasing_98 : decode cX0_pleasing 98 = .ok (.imul, 1) := dk_104 (dk_at dksX0_pleasing_4 4 rfl rfl)
theorem dX0_pleasing_99 : decode cX0_pleasing 99 = .ok (.iload_n 3, 1) := dk_29 (dk_at dksX0_pleasing_4 5 rfl rfl)
theorem dX0_pleasing_100 : decode cX0_pleasing 100 = .ok (.idiv, 1) := dk_108 (dk_at dksX0_pleasing_4 6 rfl rfl)
theorem dX0_pleasing_101 : decode cX0_pleasing 101 = .ok (.ireturn, 1) := dk_172 (dk_at dksX0_pleasing_4 7 rfl rfl)
def dkwX0_right_4 : List UInt8 := [132, 5, 1, 167, 255, 189, 21, 4, 154, 0, 7, 2, 167, 0, 11, 17, 3, 232, 29, 104, 21, 4, 108, 172]
abbrev dktX0_right_4 : List UInt8 := dkwX0_right_4 ++ []
def dkwX0_right_3 : List UInt8 := [182, 1, 92, 42, 180, 0, 74, 28, 50, 21, 5, 46, 160, 0, 7, 4, 167, 0, 4, 3, 96, 62]
abbrev dktX0_right_3 : List UInt8 := dkwX0_right_3 ++ dktX0_right_4
def dkwX0_right_2 : List UInt8 := [159, 0, 45, 42, 21, 5, 182, 1, 92, 2, 160, 0, 6, 167, 0, 32, 132, 4, 1, 29, 42, 21, 5]
abbrev dktX0_right_2 : List UInt8 := dkwX0_right_2 ++ dktX0_right_3
def dkwX0_right_1 : List UInt8 := [3, 54, 5, 21, 5, 42, 182, 0, 131, 162, 0, 64, 42, 180, 0, 74, 28, 50, 21, 5, 46, 2]
abbrev dktX0_right_1 : List UInt8 := dkwX0_right_1 ++ dktX0_right_2
def dkwX0_right_0 : List UInt8 := [42, 180, 0, 93, 199, 0, 5, 2, 172, 27, 153, 0, 7, 4, 167, 0, 4, 3, 61, 3, 62, 3, 54, 4]
abbrev dktX0_right_0 : List UInt8 := dkwX0_right_0 ++ dktX0_right_1
theorem dksX0_right_0 : cX0_right.data.toList.drop 0 = dktX0_right_0 := by decide +kernel
theorem dksX0_right_1 : cX0_right.data.toList.drop 24 = dktX0_right_1 := dk_seg dksX0_right_0 24 rfl rfl
theorem dksX0_right_2 : cX0_right.data.toList.drop 46 = dktX0_right_2 := dk_seg dksX0_right_1 22 rfl rfl
theorem dksX0_right_3 : cX0_right.data.toList.drop 69 = dktX0_right_3 := dk_seg dksX0_right_2 23 rfl rfl
theorem dksX0_right_4 : cX0_right.data.toList.drop 91 = dktX0_right_4 := dk_seg dksX0_right_3 22 rfl rfl
theorem dX0_right_0 : decode cX0_right 0 = .ok (.aload_n 0, 1) := dk_42 (dk_at dksX0_right_0 0 rfl rfl)
theorem dX0_right_1 : decode cX0_right 1 = .ok (.getfield 93, 3) := dk_180 0 93 (dk_at dksX0_right_0 1 rfl rfl)
theorem dX0_right_4 : decode cX0_right 4 = .ok (.ifnonnull 5, 3) := dk_199 0 5 (dk_at dksX0_right_0 4 rfl rfl)
theorem dX0_right_7 : decode cX0_right 7 = .ok (.iconst (-1), 1) := dk_2 (dk_at dksX0_right_0 7 rfl rfl)
theorem dX0_right_8 : decode cX0_right 8 = .ok (.ireturn, 1) := dk_172 (dk_at dksX0_right_0 8 rfl rfl)
theorem dX0_right_9 : decode cX0_right 9 = .ok (.iload_n 1, 1) := dk_27 (dk_at dksX0_right_0 9 rfl rfl)
theorem dX0_right_10 : decode cX0_right 10 = .ok (.ifCond .eq 7, 3) := dk_153 0 7 (dk_at dksX0_right_0 10 rfl rfl)
theorem dX0_right_13 : decode cX0_right 13 = .ok (.iconst 1, 1) := dk_4 (dk_at dksX0_right_0 13 rfl rfl)
theorem dX0_right_14 : decode cX0_right 14 = .ok (.goto 4, 3) := dk_167 0 4 (dk_at dksX0_right_0 14 rfl rfl)
theorem dX0_right_17 : decode cX0_right 17 = .ok (.iconst 0, 1) := dk_3 (dk_at dksX0_right_0 17 rfl rfl)
theorem dX0_right_18 : decode cX0_right 18 = .ok (.istore_n 2, 1) := dk_61 (dk_at dksX0_right_0 18 rfl rfl)
theorem dX0_right_19 : decode cX0_right 19 = .ok (.iconst 0, 1) := dk_3 (dk_at dksX0_right_0 19 rfl rfl)
theorem dX0_right_20 : decode cX0_right 20 = .ok (.istore_n 3, 1) := dk_62 (dk_at dksX0_right_0 20 rfl rfl)
theorem dX0_right_21 : decode cX0_right 21 = .ok (.iconst 0, 1) := dk_3 (dk_at dksX0_right_0 21 rfl rfl)
theorem dX0_right_22 : decode cX0_right 22 = .ok (.istore 4, 2) := dk_54 4 (dk_at dksX0_right_0 22 rfl rfl)
theorem dX0_right_24 : decode cX0_right 24 = .ok (.iconst 0, 1) := dk_3 (dk_at dksX0_right_1 0 rfl rfl)
theorem dX0_right_25 : decode cX0_right 25 = .ok (.istore 5, 2) := dk_54 5 (dk_at dksX0_right_1 1 rfl rfl)
theorem dX0_right_27 : decode cX0_right 27 = .ok (.iload 5, 2) := dk_21 5 (dk_at dksX0_right_1 3 rfl rfl)
theorem dX0_right_29 : decode cX0_right 29 = .ok (.aload_n 0, 1) := dk_42 (dk_at dksX0_right_1 5 rfl rfl)
theorem dX0_right_30 : decode cX0_right 30 = .ok (.invokevirtual 131, 3) := dk_182 0 131 (dk_at dksX0_right_1 6 rfl rfl)
theorem dX0_right_33 : decode cX0_right 33 = .ok (.if_icmp .ge 64, 3) := dk_162 0 64 (dk_at dksX0_right_1 9 rfl rfl)
theorem dX0_right_36 : decode cX0_right 36 = .ok (.aload_n 0, 1) := dk_42 (dk_at dksX0_right_1 12 rfl rfl)
theorem dX0_right_37 : decode cX0_right 37 = .ok (.getfield 74, 3) := dk_180 0 74 (dk_at dksX0_right_1 13 rfl rfl)
theorem dX0_right_40 : decode cX0_right 40 = .ok (.iload_n 2, 1) := dk_28 (dk_at dksX0_right_1 16 rfl rfl)
theorem dX0_right_41 : decode cX0_right 41 = .ok (.aaload, 1) := dk_50 (dk_at dksX0_right_1 17 rfl rfl)
theorem dX0_right_42 : decode cX0_right 42 = .ok (.iload 5, 2) := dk_21 5 (dk_at dksX0_right_1 18 rfl rfl)
theorem dX0_right_44 : decode cX0_right 44 = .ok (.iaload, 1) := dk_46 (dk_at dksX0_right_1 20 rfl rfl)
theorem dX0_right_45 : decode cX0_right 45 = .ok (.iconst (-1), 1) := dk_2 (dk_at dksX0_right_1 21 rfl rfl)
theorem dX0_right_46 : decode cX0_right 46 = .ok (.if_icmp .eq 45, 3) := dk_159 0 45 (dk_at dksX0_right_2 0 rfl rfl)
theorem dX0_right_49 : decode cX0_right 49 = .ok (.aload_n 0, 1) := dk_42 (dk_at dksX0_right_2 3 rfl rfl)
theorem dX0_right_50 : decode cX0_right 50 = .ok (.iload 5, 2) := dk_21 5 (dk_at dksX0_right_2 4 rfl rfl)
theorem dX0_right_52 : decode cX0_right 52 = .ok (.invokevirtual 348, 3) := dk_182 1 92 (dk_at dksX0_right_2 6 rfl rfl)
theorem dX0_right_55 : decode cX0_right 55 = .ok (.iconst (-1), 1) := dk_2 (dk_at dksX0_right_2 9 rfl rfl)
theorem dX0_right_56 : decode cX0_right 56 = .ok (.if_icmp .ne 6, 3) := dk_160 0 6 (dk_at dksX0_right_2 10 rfl rfl)
theorem dX0_right_59 : decode cX0_right 59 = .ok (.goto 32, 3) := dk_167 0 32 (dk_at dksX0_right_2 13 rfl rfl)
theorem dX0_right_62 : decode cX0_right 62 = .ok (.iinc 4 1, 3) := dk_132 4 1 (dk_at dksX0_right_2 16 rfl rfl)
theorem dX0_right_65 : decode cX0_right 65 = .ok (.iload_n 3, 1) := dk_29 (dk_at dksX0_right_2 19 rfl rfl)
theorem dX0_right_66 : decode cX0_right 66 = .ok (.aload_n 0, 1) := dk_42 (dk_at dksX0_right_2 20 rfl rfl)
theorem dX0_right_67 : decode cX0_right 67 = .ok (.iload 5, 2) := dk_21 5 (dk_at dksX0_right_2 21 rfl rfl)
theorem dX0_right_69 : decode cX0_right 69 = .ok (.invokevirtual 348, 3) := dk_182 1 92 (dk_at dksX0_right_3 0 rfl rfl)
theorem dX0_right_72 : decode cX0_right 72 = .ok (.aload_n 0, 1) := dk_42 (dk_at dksX0_right_3 3 rfl rfl)
theorem dX0_right_73 : decode cX0_right 73 = .ok (.getfield 74, 3) := dk_180 0 74 (dk_at dksX0_right_3 4 rfl rfl)
theorem dX0_right_76 : decode cX0_right 76 = .ok (.iload_n 2, 1) := dk_28 (dk_at dksX0_right_3 7 rfl rfl)
theorem dX0_right_77 : decode cX0_right 77 = .ok (.aaload, 1) := dk_50 (dk_at dksX0_right_3 8 rfl rfl)
theorem dX0_right_78 : decode cX0_right 78 = .ok (.iload 5, 2) := dk_21 5 (dk_at dksX0_right_3 9 rfl rfl)
theorem dX0_right_80 : decode cX0_right 80 = .ok (.iaload, 1) := dk_46 (dk_at dksX0_right_3 11 rfl rfl)
theorem dX0_right_81 : decode cX0_right 81 = .ok (.if_icmp .ne 7, 3) := dk_160 0 7 (dk_at dksX0_right_3 12 rfl rfl)
theorem dX0_right_84 : decode cX0_right 84 = .ok (.iconst 1, 1) := dk_4 (dk_at dksX0_right_3 15 rfl rfl)
theorem dX0_right_85 : decode cX0_right 85 = .ok (.goto 4, 3) := dk_167 0 4 (dk_at dksX0_right_3 16 rfl rfl)
theorem dX0_right_88 : decode cX0_right 88 = .ok (.iconst 0, 1) := dk_3 (dk_at dksX0_right_3 19 rfl rfl)
theorem dX0_right_89 : decode cX0_right 89 = .ok (.iadd, 1) := dk_96 (dk_at dksX0_right_3 20 rfl rfl)
theorem dX0_right_90 : decode cX0_right 90 = .ok (.istore_n 3, 1) := dk_62 (dk_at dksX0_right_3 21 rfl rfl)
theorem dX0_right_91 : decode cX0_right 91 = .ok (.iinc 5 1, 3) := dk_132 5 1 (dk_at dksX0_right_4 0 rfl rfl)
theorem dX0_right_94 : decode cX0_right 94 = .ok (.goto (-67), 3) := dk_167 255 189 (dk_at dksX0_right_4 3 rfl rfl)
theorem dX0_right_97 : decode cX0_right 97 = .ok (.iload 4, 2) := dk_21 4 (dk_at dksX0_right_4 6 rfl rfl)
theorem dX0_right_99 : decode cX0_right 99 = .ok (.ifCond .ne 7, 3) := dk_154 0 7 (dk_at dksX0_right_4 8 rfl rfl)
theorem dX0_right_102 : decode cX0_right 102 = .ok (.iconst (-1), 1) := dk_2 (dk_at dksX0_right_4 11 rfl rfl)
theorem dX0_right_103 : decode cX0_right 103 = .ok (.goto 11, 3) := dk_167 0 11 (dk_at dksX0_right_4 12 rfl rfl)
theorem dX0_right_106 : decode cX0_right 106 = .ok (.sipush 1000, 3) := dk_17 3 232 (dk_at dksX0_right_4 15 rfl rfl)
theorem dX0_right_109 : decode cX0_right 109 = .ok (.iload_n 3, 1) := dk_29 (dk_at dksX0_right_4 18 rfl rfl)
theorem dX0_right_110 : decode cX0_right 110 = .ok (.imul, 1) := dk_104 (dk_at dksX0_right_4 19 rfl rfl)
theorem dX0_right_111 : decode cX0_right 111 = .ok (.iload 4, 2) := dk_21 4 (dk_at dksX0_right_4 20 rfl rfl)
theorem dX0_right_113 : decode cX0_right 113 = .ok (.idiv, 1) := dk_108 (dk_at dksX0_right_4 22 rfl rfl)
theorem dX0_right_114 : decode cX0_right 114 = .ok (.ireturn, 1) := dk_172 (dk_at dksX0_right_4 23 rfl rfl)
def dkwX0_image_8 : List UInt8 := [167, 255, 230, 4, 172]
abbrev dktX0_image_8 : List UInt8 := dkwX0_image_8 ++ []
def dkwX0_image_7 : List UInt8 := [180, 0, 110, 162, 0, 24, 44, 180, 1, 120, 29, 50, 42, 180, 0, 68, 29, 50, 182, 1, 121, 132, 3, 1]
abbrev dktX0_image_7 : List UInt8 := dkwX0_image_7 ++ dktX0_image_8
def dkwX0_image_6 : List UInt8 := [180, 1, 115, 29, 50, 42, 180, 0, 36, 29, 50, 182, 1, 116, 132, 3, 1, 167, 255, 230, 3, 62, 29, 42]
abbrev dktX0_image_6 : List UInt8 := dkwX0_image_6 ++ dktX0_image_7
def dkwX0_image_5 : List UInt8 := [182, 0, 171, 180, 0, 181, 79, 132, 3, 1, 167, 255, 211, 3, 62, 29, 42, 180, 0, 107, 162, 0, 24, 44]
abbrev dktX0_image_5 : List UInt8 := dkwX0_image_5 ++ dktX0_image_6
def dkwX0_image_4 : List UInt8 := [162, 0, 37, 44, 180, 1, 111, 29, 42, 29, 182, 0, 171, 180, 0, 178, 84, 44, 180, 1, 113, 29, 42, 29]
abbrev dktX0_image_4 : List UInt8 := dkwX0_image_4 ++ dktX0_image_5
def dkwX0_image_3 : List UInt8 := [181, 1, 109, 44, 42, 180, 0, 110, 181, 1, 110, 3, 62, 29, 42, 180, 0, 93, 180, 0, 134, 182, 0, 126]
abbrev dktX0_image_3 : List UInt8 := dkwX0_image_3 ++ dktX0_image_4
def dkwX0_image_2 : List UInt8 := [181, 1, 106, 44, 42, 180, 0, 100, 181, 1, 107, 44, 42, 180, 0, 103, 181, 1, 108, 44, 42, 180, 0, 107]
abbrev dktX0_image_2 : List UInt8 := dkwX0_image_2 ++ dktX0_image_3
def dkwX0_image_1 : List UInt8 := [180, 0, 82, 27, 50, 77, 44, 4, 181, 0, 116, 44, 42, 180, 0, 94, 181, 1, 105, 44, 42, 180, 0, 97]
abbrev dktX0_image_1 : List UInt8 := dkwX0_image_1 ++ dktX0_image_2
def dkwX0_image_0 : List UInt8 := [42, 180, 0, 93, 198, 0, 15, 27, 133, 9, 20, 1, 24, 184, 0, 15, 154, 0, 5, 3, 172, 42]
abbrev dktX0_image_0 : List UInt8 := dkwX0_image_0 ++ dktX0_image_1
theorem dksX0_image_0 : cX0_image.data.toList.drop 0 = dktX0_image_0 := by decide +kernel
theorem dksX0_image_1 : cX0_image.data.toList.drop 22 = dktX0_image_1 := dk_seg dksX0_image_0 22 rfl rfl
theorem dksX0_image_2 : cX0_image.data.toList.drop 46 = dktX0_image_2 := dk_seg dksX0_image_1 24 rfl rfl
theorem dksX0_image_3 : cX0_image.data.toList.drop 70 = dktX0_image_3 := dk_seg dksX0_image_2 24 rfl rfl
theorem dksX0_image_4 : cX0_image.data.toList.drop 94 = dktX0_image_4 := dk_seg dksX0_image_3 24 rfl rfl
theorem dksX0_image_5 : cX0_image.data.toList.drop 118 = dktX0_image_5 := dk_seg dksX0_image_4 24 rfl rfl
theorem dksX0_image_6 : cX0_image.data.toList.drop 142 = dktX0_image_6 := dk_seg dksX0_image_5 24 rfl rfl
theorem dksX0_image_7 : cX0_image.data.toList.drop 166 = dktX0_image_7 := dk_seg dksX0_image_6 24 rfl rfl
theorem dksX0_image_8 : cX0_image.data.toList.drop 190 = dktX0_image_8 := dk_seg dksX0_image_7 24 rfl rfl
theorem dX0_image_0 : decode cX0_image 0 = .ok (.aload_n 0, 1) := dk_42 (dk_at dksX0_image_0 0 rfl rfl)
theorem dX0_image_1 : decode cX0_image 1 = .ok (.getfield 93, 3) := dk_180 0 93 (dk_at dksX0_image_0 1 rfl rfl)
theorem dX0_image_4 : decode cX0_image 4 = .ok (.ifnull 15, 3) := dk_198 0 15 (dk_at dksX0_image_0 4 rfl rfl)
theorem dX0_image_7 : decode cX0_image 7 = .ok (.iload_n 1, 1) := dk_27 (dk_at dksX0_image_0 7 rfl rfl)
theorem dX0_image_8 : decode cX0_image 8 = .ok (.i2l, 1) := dk_133 (dk_at dksX0_image_0 8 rfl rfl)
theorem dX0_image_9 : decode cX0_image 9 = .ok (.lconst 0, 1) := dk_9 (dk_at dksX0_image_0 9 rfl rfl)
theorem dX0_image_10 : decode cX0_image 10 = .ok (.ldc2_w 280, 3) := dk_20 1 24 (dk_at dksX0_image_0 10 rfl rfl)
theorem dX0_image_13 : decode cX0_image 13 = .ok (.invokestatic 15, 3) := dk_184 0 15 (dk_at dksX0_image_0 13 rfl rfl)
theorem dX0_image_16 : decode cX0_image 16 = .ok (.ifCond .ne 5, 3) := dk_154 0 5 (dk_at dksX0_image_0 16 rfl rfl)
theorem dX0_image_19 : decode cX0_image 19 = .ok (.iconst 0, 1) := dk_3 (dk_at dksX0_image_0 19 rfl rfl)
theorem dX0_image_20 : decode cX0_image 20 = .ok (.ireturn, 1) := dk_172 (dk_at dksX0_image_0 20 rfl rfl)
theorem dX0_image_21 : decode cX0_image 21 = .ok (.aload_n 0, 1) := dk_42 (dk_at dksX0_image_0 21 rfl rfl)
theorem dX0_image_22 : decode cX0_image 22 = .ok (.getfield 82, 3) := dk_180 0 82 (dk_at dksX0_image_1 0 rfl rfl)
theorem dX0_image_25 : decode cX0_image 25 = .ok (.iload_n 1, 1) := dk_27 (dk_at dksX0_image_1 3 rfl rfl)
theorem dX0_image_26 : decode cX0_image 26 = .ok (.aaload, 1) := dk_50 (dk_at dksX0_image_1 4 rfl rfl)
theorem dX0_image_27 : decode cX0_image 27 = .ok (.astore_n 2, 1) := dk_77 (dk_at dksX0_image_1 5 rfl rfl)
theorem dX0_image_28 : decode cX0_image 28 = .ok (.aload_n 2, 1) := dk_44 (dk_at dksX0_image_1 6 rfl rfl)
theorem dX0_image_29 : decode cX0_image 29 = .ok (.iconst 1, 1) := dk_4 (dk_at dksX0_image_1 7 rfl rfl)
theorem dX0_image_30 : decode cX0_image 30 = .ok (.putfield 116, 3) := dk_181 0 116 (dk_at dksX0_image_1 8 rfl rfl)
theorem dX0_image_33 : decode cX0_image 33 = .ok (.aload_n 2, 1) := dk_44 (dk_at dksX0_image_1 11 rfl rfl)
theorem dX0_image_34 : decode cX0_image 34 = .ok (.aload_n 0, 1) := dk_42 (dk_at dksX0_image_1 12 rfl rfl)
theorem dX0_image_35 : decode cX0_image 35 = .ok (.getfield 94, 3) := dk_180 0 94 (dk_at dksX0_image_1 13 rfl rfl)
theorem dX0_image_38 : decode cX0_image 38 = .ok (.putfield 361, 3) := dk_181 1 105 (dk_at dksX0_image_1 16 rfl rfl)
theorem dX0_image_41 : decode cX0_image 41 = .ok (.aload_n 2, 1) := dk_44 (dk_at dksX0_image_1 19 rfl rfl)
theorem dX0_image_42 : decode cX0_image 42 = .ok (.aload_n 0, 1) := dk_42 (dk_at dksX0_image_1 20 rfl rfl)
theorem dX0_image_43 : decode cX0_image 43 = .ok (.getfield 97, 3) := dk_180 0 97 (dk_at dksX0_image_1 21 rfl rfl)
theorem dX0_image_46 : decode cX0_image 46 = .ok (.putfield 362, 3) := dk_181 1 106 (dk_at dksX0_image_2 0 rfl rfl)
theorem dX0_image_49 : decode cX0_image 49 = .ok (.aload_n 2, 1) := dk_44 (dk_at dksX0_image_2 3 rfl rfl)
theorem dX0_image_50 : decode cX0_image 50 = .ok (.aload_n 0, 1) := dk_42 (dk_at dksX0_image_2 4 rfl rfl)
theorem dX0_image_51 : decode cX0_image 51 = .ok (.getfield 100, 3) := dk_180 0 100 (dk_at dksX0_image_2 5 rfl rfl)
theorem dX0_image_54 : decode cX0_image 54 = .ok (.putfield 363, 3) := dk_181 1 107 (dk_at dksX0_image_2 8 rfl rfl)
theorem dX0_image_57 : decode cX0_image 57 = .ok (.aload_n 2, 1) := dk_44 (dk_at dksX0_image_2 11 rfl rfl)
theorem dX0_image_58 : decode cX0_image 58 = .ok (.aload_n 0, 1) := dk_42 (dk_at dksX0_image_2 12 rfl rfl)
theorem dX0_image_59 : decode cX0_image 59 = .ok (.getfield 103, 3) := dk_180 0 103 (dk_at dksX0_image_2 13 rfl rfl)
theorem dX0_image_62 : decode cX0_image 62 = .ok (.putfield 364, 3) := dk_181 1 108 (dk_at dksX0_image_2 16 rfl rfl)
theorem dX0_image_65 : decode cX0_image 65 = .ok (.aload_n 2, 1) := dk_44 (dk_at dksX0_image_2 19 rfl rfl)
theorem dX0_image_66 : decode cX0_image 66 = .ok (.aload_n 0, 1) := dk_42 (dk_at dksX0_image_2 20 rfl rfl)
theorem dX0_image_67 : decode cX0_image 67 = .ok (.getfield 107, 3) := dk_180 0 107 (dk_at dksX0_image_2 21 rfl rfl)
theorem dX0_image_70 : decode cX0_image 70 = .ok (.putfield 365, 3) := dk_181 1 109 (dk_at dksX0_image_3 0 rfl rfl)
theorem dX0_image_73 : decode cX0_image 73 = .ok (.aload_n 2, 1) := dk_44 (dk_at dksX0_image_3 3 rfl rfl)
theorem dX0_image_74 : decode cX0_image 74 = .ok (.aload_n 0, 1) := dk_42 (dk_at dksX0_image_3 4 rfl rfl)
theorem dX0_image_75 : decode cX0_image 75 = .ok (.getfield 110, 3) := dk_180 0 110 (dk_at dksX0_image_3 5 rfl rfl)
theorem dX0_image_78 : decode cX0_image 78 = .ok (.putfield 366, 3) := dk_181 1 110 (dk_at dksX0_image_3 8 rfl rfl)
theorem dX0_image_81 : decode cX0_image 81 = .ok (.iconst 0, 1) := dk_3 (dk_at dksX0_image_3 11 rfl rfl)
theorem dX0_image_82 : decode cX0_image 82 = .ok (.istore_n 3, 1) := dk_62 (dk_at dksX0_image_3 12 rfl rfl)
theorem dX0_image_83 : decode cX0_image 83 = .ok (.iload_n 3, 1) := dk_29 (dk_at dksX0_image_3 13 rfl rfl)
theorem dX0_image_84 : decode cX0_image 84 = .ok (.aload_n 0, 1) := dk_42 (dk_at dksX0_image_3 14 rfl rfl)
theorem dX0_image_85 : decode cX0_image 85 = .ok (.getfield 93, 3) := dk_180 0 93 (dk_at dksX0_image_3 15 rfl rfl)
theorem dX0_image_88 : decode cX0_image 88 = .ok (.getfield 134, 3) := dk_180 0 134 (dk_at dksX0_image_3 18 rfl rfl)
theorem dX0_image_91 : decode cX0_image 91 = .ok (.invokevirtual 126, 3) := dk_182 0 126 (dk_at dksX0_image_3 21 rfl rfl)
theorem dX0_image_94 : decode cX0_image 94 = .ok (.if_icmp .ge 37, 3) := dk_162 0 37 (dk_at dksX0_image_4 0 rfl rfl)
theorem dX0_image_97 : decode cX0_image 97 = .ok (.aload_n 2, 1) := dk_44 (dk_at dksX0_image_4 3 rfl rfl)
theorem dX0_image_98 : decode cX0_image 98 = .ok (.getfield 367, 3) := dk_180 1 111 (dk_at dksX0_image_4 4 rfl rfl)
theorem dX0_image_101 : decode cX0_image 101 = .ok (.iload_n 3, 1) := dk_29 (dk_at dksX0_image_4 7 rfl rfl)
theorem dX0_image_102 : decode cX0_image 102 = .ok (.aload_n 0, 1) := dk_42 (dk_at dksX0_image_4 8 rfl rfl)
theorem dX0_image_103 : decode cX0_image 103 = .ok (.iload_n 3, 1) := dk_29 (dk_at dksX0_image_4 9 rfl rfl)
theorem dX0_image_104 : decode cX0_image 104 = .ok (.invokevirtual 171, 3) := dk_182 0 171 (dk_at dksX0_image_4 10 rfl rfl)
theorem dX0_image_107 : decode cX0_image 107 = .ok (.getfield 178, 3) := dk_180 0 178 (dk_at dksX0_image_4 13 rfl rfl)
theorem dX0_image_110 : decode cX0_image 110 = .ok (.bastore, 1) := dk_84 (dk_at dksX0_image_4 16 rfl rfl)
theorem dX0_image_111 : decode cX0_image 111 = .ok (.aload_n 2, 1) := dk_44 (dk_at dksX0_image_4 17 rfl rfl)
theorem dX0_image_112 : decode cX0_image 112 = .ok (.getfield 369, 3) := dk_180 1 113 (dk_at dksX0_image_4 18 rfl rfl)
theorem dX0_image_115 : decode cX0_image 115 = .ok (.iload_n 3, 1) := dk_29 (dk_at dksX0_image_4 21 rfl rfl)
theorem dX0_image_116 : decode cX0_image 116 = .ok (.aload_n 0, 1) := dk_42 (dk_at dksX0_image_4 22 rfl rfl)
theorem dX0_image_117 : decode cX0_image 117 = .ok (.iload_n 3, 1) := dk_29 (dk_at dksX0_image_4 23 rfl rfl)
theorem dX0_image_118 : decode cX0_image 118 = .ok (.invokevirtual 171, 3) := dk_182 0 171 (dk_at dksX0_image_5 0 rfl rfl)
theorem dX0_image_121 : decode cX0_image 121 = .ok (.getfield 181, 3) := dk_180 0 181 (dk_at dksX0_image_5 3 rfl rfl)
theorem dX0_image_124 : decode cX0_image 124 = .ok (.iastore, 1) := dk_79 (dk_at dksX0_image_5 6 rfl rfl)
theorem dX0_image_125 : decode cX0_image 125 = .ok (.iinc 3 1, 3) := dk_132 3 1 (dk_at dksX0_image_5 7 rfl rfl)
theorem dX0_image_128 : decode cX0_image 128 = .ok (.goto (-45), 3) := dk_167 255 211 (dk_at dksX0_image_5 10 rfl rfl)
theorem dX0_image_131 : decode cX0_image 131 = .ok (.iconst 0, 1) := dk_3 (dk_at dksX0_image_5 13 rfl rfl)
theorem dX0_image_132 : decode cX0_image 132 = .ok (.istore_n 3, 1) := dk_62 (dk_at dksX0_image_5 14 rfl rfl)
theorem dX0_image_133 : decode cX0_image 133 = .ok (.iload_n 3, 1) := dk_29 (dk_at dksX0_image_5 15 rfl rfl)
theorem dX0_image_134 : decode cX0_image 134 = .ok (.aload_n 0, 1) := dk_42 (dk_at dksX0_image_5 16 rfl rfl)
theorem dX0_image_135 : decode cX0_image 135 = .ok (.getfield 107, 3) := dk_180 0 107 (dk_at dksX0_image_5 17 rfl rfl)
theorem dX0_image_138 : decode cX0_image 138 = .ok (.if_icmp .ge 24, 3) := dk_162 0 24 (dk_at dksX0_image_5 20 rfl rfl)
theorem dX0_image_141 : decode cX0_image 141 = .ok (.aload_n 2, 1) := dk_44 (dk_at dksX0_image_5 23 rfl rfl)
theorem dX0_image_142 : decode cX0_image 142 = .ok (.getfield 371, 3) := dk_180 1 115 (dk_at dksX0_image_6 0 rfl rfl)
theorem dX0_image_145 : decode cX0_image 145 = .ok (.iload_n 3, 1) := dk_29 (dk_at dksX0_image_6 3 rfl rfl)
theorem dX0_image_146 : decode cX0_image 146 = .ok (.aaload, 1) := dk_50 (dk_at dksX0_image_6 4 rfl rfl)
theorem dX0_image_147 : decode cX0_image 147 = .ok (.aload_n 0, 1) := dk_42 (dk_at dksX0_image_6 5 rfl rfl)
theorem dX0_image_148 : decode cX0_image 148 = .ok (.getfield 36, 3) := dk_180 0 36 (dk_at dksX0_image_6 6 rfl rfl)
theorem dX0_image_151 : decode cX0_image 151 = .ok (.iload_n 3, 1) := dk_29 (dk_at dksX0_image_6 9 rfl rfl)
theorem dX0_image_152 : decode cX0_image 152 = .ok (.aaload, 1) := dk_50 (dk_at dksX0_image_6 10 rfl rfl)
theorem dX0_image_153 : decode cX0_image 153 = .ok (.invokevirtual 372, 3) := dk_182 1 116 (dk_at dksX0_image_6 11 rfl rfl)
theorem dX0_image_156 : decode cX0_image 156 = .ok (.iinc 3 1, 3) := dk_132 3 1 (dk_at dksX0_image_6 14 rfl rfl)
theorem dX0_image_159 : decode cX0_image 159 = .ok (.goto (-26), 3) := dk_167 255 230 (dk_at dksX0_image_6 17 rfl rfl)
theorem dX0_image_162 : decode cX0_image 162 = .ok (.iconst 0, 1) := dk_3 (dk_at dksX0_image_6 20 rfl rfl)
theorem dX0_image_163 : decode cX0_image 163 = .ok (.istore_n 3, 1) := dk_62 (dk_at dksX0_image_6 21 rfl rfl)
theorem dX0_image_164 : decode cX0_image 164 = .ok (.iload_n 3, 1) := dk_29 (dk_at dksX0_image_6 22 rfl rfl)
theorem dX0_image_165 : decode cX0_image 165 = .ok (.aload_n 0, 1) := dk_42 (dk_at dksX0_image_6 23 rfl rfl)
theorem dX0_image_166 : decode cX0_image 166 = .ok (.getfield 110, 3) := dk_180 0 110 (dk_at dksX0_image_7 0 rfl rfl)
theorem dX0_image_169 : decode cX0_image 169 = .ok (.if_icmp .ge 24, 3) := dk_162 0 24 (dk_at dksX0_image_7 3 rfl rfl)
theorem dX0_image_172 : decode cX0_image 172 = .ok (.aload_n 2, 1) := dk_44 (dk_at dksX0_image_7 6 rfl rfl)
theorem dX0_image_173 : decode cX0_image 173 = .ok (.getfield 376, 3) := dk_180 1 120 (dk_at dksX0_image_7 7 rfl rfl)
theorem dX0_image_176 : decode cX0_image 176 = .ok (.iload_n 3, 1) := dk_29 (dk_at dksX0_image_7 10 rfl rfl)
theorem dX0_image_177 : decode cX0_image 177 = .ok (.aaload, 1) := dk_50 (dk_at dksX0_image_7 11 rfl rfl)
theorem dX0_image_178 : decode cX0_image 178 = .ok (.aload_n 0, 1) := dk_42 (dk_at dksX0_image_7 12 rfl rfl)
theorem dX0_image_179 : decode cX0_image 179 = .ok (.getfield 68, 3) := dk_180 0 68 (dk_at dksX0_image_7 13 rfl rfl)
theorem dX0_image_182 : decode cX0_image 182 = .ok (.iload_n 3, 1) := dk_29 (dk_at dksX0_image_7 16 rfl rfl)
theorem dX0_image_183 : decode cX0_image 183 = .ok (.aaload, 1) := dk_50 (dk_at dksX0_image_7 17 rfl rfl)
theorem dX0_image_184 : decode cX0_image 184 = .ok (.invokevirtual 377, 3) := dk_182 1 121 (dk_at dksX0_image_7 18 rfl rfl)
theorem dX0_image_187 : decode cX0_image 187 = .ok (.iinc 3 1, 3) := dk_132 3 1 (dk_at dksX0_image_7 21 rfl rfl)
theorem dX0_image_190 : decode cX0_image 190 = .ok (.goto (-26), 3) := dk_167 255 230 (dk_at dksX0_image_8 0 rfl rfl)
theorem dX0_image_193 : decode cX0_image 193 = .ok (.iconst 1, 1) := dk_4 (dk_at dksX0_image_8 3 rfl rfl)
theorem dX0_image_194 : decode cX0_image 194 = .ok (.ireturn, 1) := dk_172 (dk_at dksX0_image_8 4 rfl rfl)
