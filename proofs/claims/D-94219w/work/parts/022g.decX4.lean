set_option maxRecDepth 100000
def dkwX4_best_2 : List UInt8 := [29, 46, 182, 1, 83, 167, 0, 8, 42, 29, 182, 1, 96, 172]
abbrev dktX4_best_2 : List UInt8 := dkwX4_best_2 ++ []
def dkwX4_best_1 : List UInt8 := [42, 27, 182, 1, 105, 62, 28, 154, 0, 7, 29, 167, 0, 26, 28, 4, 160, 0, 16, 42, 42, 180, 0, 115]
abbrev dktX4_best_1 : List UInt8 := dkwX4_best_1 ++ dktX4_best_2
def dkwX4_best_0 : List UInt8 := [42, 27, 182, 1, 99, 153, 0, 12, 28, 3, 5, 184, 0, 135, 154, 0, 5, 2, 172, 42, 2, 182, 1, 102]
abbrev dktX4_best_0 : List UInt8 := dkwX4_best_0 ++ dktX4_best_1
theorem dksX4_best_0 : cX4_best.data.toList.drop 0 = dktX4_best_0 := by decide +kernel
theorem dksX4_best_1 : cX4_best.data.toList.drop 24 = dktX4_best_1 := dk_seg dksX4_best_0 24 rfl rfl
theorem dksX4_best_2 : cX4_best.data.toList.drop 48 = dktX4_best_2 := dk_seg dksX4_best_1 24 rfl rfl
theorem dX4_best_0 : decode cX4_best 0 = .ok (.aload_n 0, 1) := dk_42 (dk_at dksX4_best_0 0 rfl rfl)
theorem dX4_best_1 : decode cX4_best 1 = .ok (.iload_n 1, 1) := dk_27 (dk_at dksX4_best_0 1 rfl rfl)
theorem dX4_best_2 : decode cX4_best 2 = .ok (.invokevirtual 355, 3) := dk_182 1 99 (dk_at dksX4_best_0 2 rfl rfl)
theorem dX4_best_5 : decode cX4_best 5 = .ok (.ifCond .eq 12, 3) := dk_153 0 12 (dk_at dksX4_best_0 5 rfl rfl)
theorem dX4_best_8 : decode cX4_best 8 = .ok (.iload_n 2, 1) := dk_28 (dk_at dksX4_best_0 8 rfl rfl)
theorem dX4_best_9 : decode cX4_best 9 = .ok (.iconst 0, 1) := dk_3 (dk_at dksX4_best_0 9 rfl rfl)
theorem dX4_best_10 : decode cX4_best 10 = .ok (.iconst 2, 1) := dk_5 (dk_at dksX4_best_0 10 rfl rfl)
theorem dX4_best_11 : decode cX4_best 11 = .ok (.invokestatic 135, 3) := dk_184 0 135 (dk_at dksX4_best_0 11 rfl rfl)
theorem dX4_best_14 : decode cX4_best 14 = .ok (.ifCond .ne 5, 3) := dk_154 0 5 (dk_at dksX4_best_0 14 rfl rfl)
theorem dX4_best_17 : decode cX4_best 17 = .ok (.iconst (-1), 1) := dk_2 (dk_at dksX4_best_0 17 rfl rfl)
theorem dX4_best_18 : decode cX4_best 18 = .ok (.ireturn, 1) := dk_172 (dk_at dksX4_best_0 18 rfl rfl)
theorem dX4_best_19 : decode cX4_best 19 = .ok (.aload_n 0, 1) := dk_42 (dk_at dksX4_best_0 19 rfl rfl)
theorem dX4_best_20 : decode cX4_best 20 = .ok (.iconst (-1), 1) := dk_2 (dk_at dksX4_best_0 20 rfl rfl)
theorem dX4_best_21 : decode cX4_best 21 = .ok (.invokevirtual 358, 3) := dk_182 1 102 (dk_at dksX4_best_0 21 rfl rfl)
theorem dX4_best_24 : decode cX4_best 24 = .ok (.aload_n 0, 1) := dk_42 (dk_at dksX4_best_1 0 rfl rfl)
theorem dX4_best_25 : decode cX4_best 25 = .ok (.iload_n 1, 1) := dk_27 (dk_at dksX4_best_1 1 rfl rfl)
theorem dX4_best_26 : decode cX4_best 26 = .ok (.invokevirtual 361, 3) := dk_182 1 105 (dk_at dksX4_best_1 2 rfl rfl)
theorem dX4_best_29 : decode cX4_best 29 = .ok (.istore_n 3, 1) := dk_62 (dk_at dksX4_best_1 5 rfl rfl)
theorem dX4_best_30 : decode cX4_best 30 = .ok (.iload_n 2, 1) := dk_28 (dk_at dksX4_best_1 6 rfl rfl)
theorem dX4_best_31 : decode cX4_best 31 = .ok (.ifCond .ne 7, 3) := dk_154 0 7 (dk_at dksX4_best_1 7 rfl rfl)
theorem dX4_best_34 : decode cX4_best 34 = .ok (.iload_n 3, 1) := dk_29 (dk_at dksX4_best_1 10 rfl rfl)
theorem dX4_best_35 : decode cX4_best 35 = .ok (.goto 26, 3) := dk_167 0 26 (dk_at dksX4_best_1 11 rfl rfl)
theorem dX4_best_38 : decode cX4_best 38 = .ok (.iload_n 2, 1) := dk_28 (dk_at dksX4_best_1 14 rfl rfl)
theorem dX4_best_39 : decode cX4_best 39 = .ok (.iconst 1, 1) := dk_4 (dk_at dksX4_best_1 15 rfl rfl)
theorem dX4_best_40 : decode cX4_best 40 = .ok (.if_icmp .ne 16, 3) := dk_160 0 16 (dk_at dksX4_best_1 16 rfl rfl)
theorem dX4_best_43 : decode cX4_best 43 = .ok (.aload_n 0, 1) := dk_42 (dk_at dksX4_best_1 19 rfl rfl)
theorem dX4_best_44 : decode cX4_best 44 = .ok (.aload_n 0, 1) := dk_42 (dk_at dksX4_best_1 20 rfl rfl)
theorem dX4_best_45 : decode cX4_best 45 = .ok (.getfield 115, 3) := dk_180 0 115 (dk_at dksX4_best_1 21 rfl rfl)
theorem dX4_best_48 : decode cX4_best 48 = .ok (.iload_n 3, 1) := dk_29 (dk_at dksX4_best_2 0 rfl rfl)
theorem dX4_best_49 : decode cX4_best 49 = .ok (.iaload, 1) := dk_46 (dk_at dksX4_best_2 1 rfl rfl)
theorem dX4_best_50 : decode cX4_best 50 = .ok (.invokevirtual 339, 3) := dk_182 1 83 (dk_at dksX4_best_2 2 rfl rfl)
theorem dX4_best_53 : decode cX4_best 53 = .ok (.goto 8, 3) := dk_167 0 8 (dk_at dksX4_best_2 5 rfl rfl)
theorem dX4_best_56 : decode cX4_best 56 = .ok (.aload_n 0, 1) := dk_42 (dk_at dksX4_best_2 8 rfl rfl)
theorem dX4_best_57 : decode cX4_best 57 = .ok (.iload_n 3, 1) := dk_29 (dk_at dksX4_best_2 9 rfl rfl)
theorem dX4_best_58 : decode cX4_best 58 = .ok (.invokevirtual 352, 3) := dk_182 1 96 (dk_at dksX4_best_2 10 rfl rfl)
theorem dX4_best_61 : decode cX4_best 61 = .ok (.ireturn, 1) := dk_172 (dk_at dksX4_best_2 13 rfl rfl)
def dkwX4_isSureTime_0 : List UInt8 := [42, 180, 1, 4, 158, 0, 17, 27, 3, 16, 90, 184, 0, 135, 153, 0, 7, 4, 167, 0, 4, 3, 172]
abbrev dktX4_isSureTime_0 : List UInt8 := dkwX4_isSureTime_0 ++ []
theorem dksX4_isSureTime_0 : cX4_isSureTime.data.toList.drop 0 = dktX4_isSureTime_0 := by decide +kernel
theorem dX4_isSureTime_0 : decode cX4_isSureTime 0 = .ok (.aload_n 0, 1) := dk_42 (dk_at dksX4_isSureTime_0 0 rfl rfl)
theorem dX4_isSureTime_1 : decode cX4_isSureTime 1 = .ok (.getfield 260, 3) := dk_180 1 4 (dk_at dksX4_isSureTime_0 1 rfl rfl)
theorem dX4_isSureTime_4 : decode cX4_isSureTime 4 = .ok (.ifCond .le 17, 3) := dk_158 0 17 (dk_at dksX4_isSureTime_0 4 rfl rfl)
theorem dX4_isSureTime_7 : decode cX4_isSureTime 7 = .ok (.iload_n 1, 1) := dk_27 (dk_at dksX4_isSureTime_0 7 rfl rfl)
theorem dX4_isSureTime_8 : decode cX4_isSureTime 8 = .ok (.iconst 0, 1) := dk_3 (dk_at dksX4_isSureTime_0 8 rfl rfl)
theorem dX4_isSureTime_9 : decode cX4_isSureTime 9 = .ok (.bipush 90, 2) := dk_16 90 (dk_at dksX4_isSureTime_0 9 rfl rfl)
theorem dX4_isSureTime_11 : decode cX4_isSureTime 11 = .ok (.invokestatic 135, 3) := dk_184 0 135 (dk_at dksX4_isSureTime_0 11 rfl rfl)
theorem dX4_isSureTime_14 : decode cX4_isSureTime 14 = .ok (.ifCond .eq 7, 3) := dk_153 0 7 (dk_at dksX4_isSureTime_0 14 rfl rfl)
theorem dX4_isSureTime_17 : decode cX4_isSureTime 17 = .ok (.iconst 1, 1) := dk_4 (dk_at dksX4_isSureTime_0 17 rfl rfl)
theorem dX4_isSureTime_18 : decode cX4_isSureTime 18 = .ok (.goto 4, 3) := dk_167 0 4 (dk_at dksX4_isSureTime_0 18 rfl rfl)
theorem dX4_isSureTime_21 : decode cX4_isSureTime 21 = .ok (.iconst 0, 1) := dk_3 (dk_at dksX4_isSureTime_0 21 rfl rfl)
theorem dX4_isSureTime_22 : decode cX4_isSureTime 22 = .ok (.ireturn, 1) := dk_172 (dk_at dksX4_isSureTime_0 22 rfl rfl)
def dkwX4_finds_5 : List UInt8 := [167, 255, 183, 132, 2, 1, 167, 255, 133, 177]
abbrev dktX4_finds_5 : List UInt8 := dkwX4_finds_5 ++ []
def dkwX4_finds_4 : List UInt8 := [51, 153, 0, 17, 42, 21, 4, 29, 182, 1, 93, 153, 0, 7, 4, 167, 0, 4, 3, 84, 132, 3, 1]
abbrev dktX4_finds_4 : List UInt8 := dkwX4_finds_4 ++ dktX4_finds_5
def dkwX4_finds_3 : List UInt8 := [42, 180, 0, 112, 28, 28, 29, 184, 1, 39, 153, 0, 32, 29, 27, 159, 0, 27, 42, 180, 0, 112, 21, 4]
abbrev dktX4_finds_3 : List UInt8 := dkwX4_finds_3 ++ dktX4_finds_4
def dkwX4_finds_2 : List UInt8 := [180, 1, 4, 162, 0, 71, 42, 180, 0, 112, 28, 51, 154, 0, 62, 28, 4, 29, 120, 2, 130, 126, 54, 4]
abbrev dktX4_finds_2 : List UInt8 := dkwX4_finds_2 ++ dktX4_finds_3
def dkwX4_finds_1 : List UInt8 := [27, 182, 1, 62, 79, 42, 180, 0, 112, 28, 28, 154, 0, 7, 4, 167, 0, 4, 3, 84, 3, 62, 29, 42]
abbrev dktX4_finds_1 : List UInt8 := dkwX4_finds_1 ++ dktX4_finds_2
def dkwX4_finds_0 : List UInt8 := [3, 61, 28, 4, 42, 180, 1, 4, 120, 162, 0, 119, 42, 180, 0, 115, 28, 42, 42, 180, 1, 15, 28, 128]
abbrev dktX4_finds_0 : List UInt8 := dkwX4_finds_0 ++ dktX4_finds_1
theorem dksX4_finds_0 : cX4_finds.data.toList.drop 0 = dktX4_finds_0 := by decide +kernel
theorem dksX4_finds_1 : cX4_finds.data.toList.drop 24 = dktX4_finds_1 := dk_seg dksX4_finds_0 24 rfl rfl
theorem dksX4_finds_2 : cX4_finds.data.toList.drop 48 = dktX4_finds_2 := dk_seg dksX4_finds_1 24 rfl rfl
theorem dksX4_finds_3 : cX4_finds.data.toList.drop 72 = dktX4_finds_3 := dk_seg dksX4_finds_2 24 rfl rfl
theorem dksX4_finds_4 : cX4_finds.data.toList.drop 96 = dktX4_finds_4 := dk_seg dksX4_finds_3 24 rfl rfl
theorem dksX4_finds_5 : cX4_finds.data.toList.drop 119 = dktX4_finds_5 := dk_seg dksX4_finds_4 23 rfl rfl
theorem dX4_finds_0 : decode cX4_finds 0 = .ok (.iconst 0, 1) := dk_3 (dk_at dksX4_finds_0 0 rfl rfl)
theorem dX4_finds_1 : decode cX4_finds 1 = .ok (.istore_n 2, 1) := dk_61 (dk_at dksX4_finds_0 1 rfl rfl)
theorem dX4_finds_2 : decode cX4_finds 2 = .ok (.iload_n 2, 1) := dk_28 (dk_at dksX4_finds_0 2 rfl rfl)
theorem dX4_finds_3 : decode cX4_finds 3 = .ok (.iconst 1, 1) := dk_4 (dk_at dksX4_finds_0 3 rfl rfl)
theorem dX4_finds_4 : decode cX4_finds 4 = .ok (.aload_n 0, 1) := dk_42 (dk_at dksX4_finds_0 4 rfl rfl)
theorem dX4_finds_5 : decode cX4_finds 5 = .ok (.getfield 260, 3) := dk_180 1 4 (dk_at dksX4_finds_0 5 rfl rfl)
theorem dX4_finds_8 : decode cX4_finds 8 = .ok (.ishl, 1) := dk_120 (dk_at dksX4_finds_0 8 rfl rfl)
theorem dX4_finds_9 : decode cX4_finds 9 = .ok (.if_icmp .ge 119, 3) := dk_162 0 119 (dk_at dksX4_finds_0 9 rfl rfl)
theorem dX4_finds_12 : decode cX4_finds 12 = .ok (.aload_n 0, 1) := dk_42 (dk_at dksX4_finds_0 12 rfl rfl)
theorem dX4_finds_13 : decode cX4_finds 13 = .ok (.getfield 115, 3) := dk_180 0 115 (dk_at dksX4_finds_0 13 rfl rfl)
theorem dX4_finds_16 : decode cX4_finds 16 = .ok (.iload_n 2, 1) := dk_28 (dk_at dksX4_finds_0 16 rfl rfl)
theorem dX4_finds_17 : decode cX4_finds 17 = .ok (.aload_n 0, 1) := dk_42 (dk_at dksX4_finds_0 17 rfl rfl)
theorem dX4_finds_18 : decode cX4_finds 18 = .ok (.aload_n 0, 1) := dk_42 (dk_at dksX4_finds_0 18 rfl rfl)
theorem dX4_finds_19 : decode cX4_finds 19 = .ok (.getfield 271, 3) := dk_180 1 15 (dk_at dksX4_finds_0 19 rfl rfl)
theorem dX4_finds_22 : decode cX4_finds 22 = .ok (.iload_n 2, 1) := dk_28 (dk_at dksX4_finds_0 22 rfl rfl)
theorem dX4_finds_23 : decode cX4_finds 23 = .ok (.ior, 1) := dk_128 (dk_at dksX4_finds_0 23 rfl rfl)
theorem dX4_finds_24 : decode cX4_finds 24 = .ok (.iload_n 1, 1) := dk_27 (dk_at dksX4_finds_1 0 rfl rfl)
theorem dX4_finds_25 : decode cX4_finds 25 = .ok (.invokevirtual 318, 3) := dk_182 1 62 (dk_at dksX4_finds_1 1 rfl rfl)
theorem dX4_finds_28 : decode cX4_finds 28 = .ok (.iastore, 1) := dk_79 (dk_at dksX4_finds_1 4 rfl rfl)
theorem dX4_finds_29 : decode cX4_finds 29 = .ok (.aload_n 0, 1) := dk_42 (dk_at dksX4_finds_1 5 rfl rfl)
theorem dX4_finds_30 : decode cX4_finds 30 = .ok (.getfield 112, 3) := dk_180 0 112 (dk_at dksX4_finds_1 6 rfl rfl)
theorem dX4_finds_33 : decode cX4_finds 33 = .ok (.iload_n 2, 1) := dk_28 (dk_at dksX4_finds_1 9 rfl rfl)
theorem dX4_finds_34 : decode cX4_finds 34 = .ok (.iload_n 2, 1) := dk_28 (dk_at dksX4_finds_1 10 rfl rfl)
theorem dX4_finds_35 : decode cX4_finds 35 = .ok (.ifCond .ne 7, 3) := dk_154 0 7 (dk_at dksX4_finds_1 11 rfl rfl)
theorem dX4_finds_38 : decode cX4_finds 38 = .ok (.iconst 1, 1) := dk_4 (dk_at dksX4_finds_1 14 rfl rfl)
theorem dX4_finds_39 : decode cX4_finds 39 = .ok (.goto 4, 3) := dk_167 0 4 (dk_at dksX4_finds_1 15 rfl rfl)
theorem dX4_finds_42 : decode cX4_finds 42 = .ok (.iconst 0, 1) := dk_3 (dk_at dksX4_finds_1 18 rfl rfl)
theorem dX4_finds_43 : decode cX4_finds 43 = .ok (.bastore, 1) := dk_84 (dk_at dksX4_finds_1 19 rfl rfl)
theorem dX4_finds_44 : decode cX4_finds 44 = .ok (.iconst 0, 1) := dk_3 (dk_at dksX4_finds_1 20 rfl rfl)
theorem dX4_finds_45 : decode cX4_finds 45 = .ok (.istore_n 3, 1) := dk_62 (dk_at dksX4_finds_1 21 rfl rfl)
theorem dX4_finds_46 : decode cX4_finds 46 = .ok (.iload_n 3, 1) := dk_29 (dk_at dksX4_finds_1 22 rfl rfl)
theorem dX4_finds_47 : decode cX4_finds 47 = .ok (.aload_n 0, 1) := dk_42 (dk_at dksX4_finds_1 23 rfl rfl)
theorem dX4_finds_48 : decode cX4_finds 48 = .ok (.getfield 260, 3) := dk_180 1 4 (dk_at dksX4_finds_2 0 rfl rfl)
theorem dX4_finds_51 : decode cX4_finds 51 = .ok (.if_icmp .ge 71, 3) := dk_162 0 71 (dk_at dksX4_finds_2 3 rfl rfl)
theorem dX4_finds_54 : decode cX4_finds 54 = .ok (.aload_n 0, 1) := dk_42 (dk_at dksX4_finds_2 6 rfl rfl)
theorem dX4_finds_55 : decode cX4_finds 55 = .ok (.getfield 112, 3) := dk_180 0 112 (dk_at dksX4_finds_2 7 rfl rfl)
theorem dX4_finds_58 : decode cX4_finds 58 = .ok (.iload_n 2, 1) := dk_28 (dk_at dksX4_finds_2 10 rfl rfl)
theorem dX4_finds_59 : decode cX4_finds 59 = .ok (.baload, 1) := dk_51 (dk_at dksX4_finds_2 11 rfl rfl)
theorem dX4_finds_60 : decode cX4_finds 60 = .ok (.ifCond .ne 62, 3) := dk_154 0 62 (dk_at dksX4_finds_2 12 rfl rfl)
theorem dX4_finds_63 : decode cX4_finds 63 = .ok (.iload_n 2, 1) := dk_28 (dk_at dksX4_finds_2 15 rfl rfl)
theorem dX4_finds_64 : decode cX4_finds 64 = .ok (.iconst 1, 1) := dk_4 (dk_at dksX4_finds_2 16 rfl rfl)
theorem dX4_finds_65 : decode cX4_finds 65 = .ok (.iload_n 3, 1) := dk_29 (dk_at dksX4_finds_2 17 rfl rfl)
theorem dX4_finds_66 : decode cX4_finds 66 = .ok (.ishl, 1) := dk_120 (dk_at dksX4_finds_2 18 rfl rfl)
theorem dX4_finds_67 : decode cX4_finds 67 = .ok (.iconst (-1), 1) := dk_2 (dk_at dksX4_finds_2 19 rfl rfl)
theorem dX4_finds_68 : decode cX4_finds 68 = .ok (.ixor, 1) := dk_130 (dk_at dksX4_finds_2 20 rfl rfl)
theorem dX4_finds_69 : decode cX4_finds 69 = .ok (.iand, 1) := dk_126 (dk_at dksX4_finds_2 21 rfl rfl)
theorem dX4_finds_70 : decode cX4_finds 70 = .ok (.istore 4, 2) := dk_54 4 (dk_at dksX4_finds_2 22 rfl rfl)
theorem dX4_finds_72 : decode cX4_finds 72 = .ok (.aload_n 0, 1) := dk_42 (dk_at dksX4_finds_3 0 rfl rfl)
theorem dX4_finds_73 : decode cX4_finds 73 = .ok (.getfield 112, 3) := dk_180 0 112 (dk_at dksX4_finds_3 1 rfl rfl)
theorem dX4_finds_76 : decode cX4_finds 76 = .ok (.iload_n 2, 1) := dk_28 (dk_at dksX4_finds_3 4 rfl rfl)
theorem dX4_finds_77 : decode cX4_finds 77 = .ok (.iload_n 2, 1) := dk_28 (dk_at dksX4_finds_3 5 rfl rfl)
theorem dX4_finds_78 : decode cX4_finds 78 = .ok (.iload_n 3, 1) := dk_29 (dk_at dksX4_finds_3 6 rfl rfl)
theorem dX4_finds_79 : decode cX4_finds 79 = .ok (.invokestatic 295, 3) := dk_184 1 39 (dk_at dksX4_finds_3 7 rfl rfl)
theorem dX4_finds_82 : decode cX4_finds 82 = .ok (.ifCond .eq 32, 3) := dk_153 0 32 (dk_at dksX4_finds_3 10 rfl rfl)
theorem dX4_finds_85 : decode cX4_finds 85 = .ok (.iload_n 3, 1) := dk_29 (dk_at dksX4_finds_3 13 rfl rfl)
theorem dX4_finds_86 : decode cX4_finds 86 = .ok (.iload_n 1, 1) := dk_27 (dk_at dksX4_finds_3 14 rfl rfl)
theorem dX4_finds_87 : decode cX4_finds 87 = .ok (.if_icmp .eq 27, 3) := dk_159 0 27 (dk_at dksX4_finds_3 15 rfl rfl)
theorem dX4_finds_90 : decode cX4_finds 90 = .ok (.aload_n 0, 1) := dk_42 (dk_at dksX4_finds_3 18 rfl rfl)
theorem dX4_finds_91 : decode cX4_finds 91 = .ok (.getfield 112, 3) := dk_180 0 112 (dk_at dksX4_finds_3 19 rfl rfl)
theorem dX4_finds_94 : decode cX4_finds 94 = .ok (.iload 4, 2) := dk_21 4 (dk_at dksX4_finds_3 22 rfl rfl)
theorem dX4_finds_96 : decode cX4_finds 96 = .ok (.baload, 1) := dk_51 (dk_at dksX4_finds_4 0 rfl rfl)
theorem dX4_finds_97 : decode cX4_finds 97 = .ok (.ifCond .eq 17, 3) := dk_153 0 17 (dk_at dksX4_finds_4 1 rfl rfl)
theorem dX4_finds_100 : decode cX4_finds 100 = .ok (.aload_n 0, 1) := dk_42 (dk_at dksX4_finds_4 4 rfl rfl)
theorem dX4_finds_101 : decode cX4_finds 101 = .ok (.iload 4, 2) := dk_21 4 (dk_at dksX4_finds_4 5 rfl rfl)
theorem dX4_finds_103 : decode cX4_finds 103 = .ok (.iload_n 3, 1) := dk_29 (dk_at dksX4_finds_4 7 rfl rfl)
theorem dX4_finds_104 : decode cX4_finds 104 = .ok (.invokevirtual 349, 3) := dk_182 1 93 (dk_at dksX4_finds_4 8 rfl rfl)
theorem dX4_finds_107 : decode cX4_finds 107 = .ok (.ifCond .eq 7, 3) := dk_153 0 7 (dk_at dksX4_finds_4 11 rfl rfl)
theorem dX4_finds_110 : decode cX4_finds 110 = .ok (.iconst 1, 1) := dk_4 (dk_at dksX4_finds_4 14 rfl rfl)
theorem dX4_finds_111 : decode cX4_finds 111 = .ok (.goto 4, 3) := dk_167 0 4 (dk_at dksX4_finds_4 15 rfl rfl)
theorem dX4_finds_114 : decode cX4_finds 114 = .ok (.iconst 0, 1) := dk_3 (dk_at dksX4_finds_4 18 rfl rfl)
theorem dX4_finds_115 : decode cX4_finds 115 = .ok (.bastore, 1) := dk_84 (dk_at dksX4_finds_4 19 rfl rfl)
theorem dX4_finds_116 : decode cX4_finds 116 = .ok (.iinc 3 1, 3) := dk_132 3 1 (dk_at dksX4_finds_4 20 rfl rfl)
theorem dX4_finds_119 : decode cX4_finds 119 = .ok (.goto (-73), 3) := dk_167 255 183 (dk_at dksX4_finds_5 0 rfl rfl)
theorem dX4_finds_122 : decode cX4_finds 122 = .ok (.iinc 2 1, 3) := dk_132 2 1 (dk_at dksX4_finds_5 3 rfl rfl)
theorem dX4_finds_125 : decode cX4_finds 125 = .ok (.goto (-123), 3) := dk_167 255 133 (dk_at dksX4_finds_5 6 rfl rfl)
theorem dX4_finds_128 : decode cX4_finds 128 = .ok (.return_, 1) := dk_177 (dk_at dksX4_finds_5 9 rfl rfl)
def dkwX4_goesOn_2 : List UInt8 := [182, 1, 90, 153, 0, 7, 4, 167, 0, 4, 3, 172]
abbrev dktX4_goesOn_2 : List UInt8 := dkwX4_goesOn_2 ++ []
def dkwX4_goesOn_1 : List UInt8 := [180, 0, 48, 28, 46, 42, 180, 0, 115, 27, 46, 126, 42, 180, 0, 48, 28, 46, 160, 0, 15, 42, 28]
abbrev dktX4_goesOn_1 : List UInt8 := dkwX4_goesOn_1 ++ dktX4_goesOn_2
def dkwX4_goesOn_0 : List UInt8 := [27, 28, 184, 1, 39, 154, 0, 50, 42, 180, 0, 115, 27, 46, 28, 184, 1, 39, 154, 0, 37, 42]
abbrev dktX4_goesOn_0 : List UInt8 := dkwX4_goesOn_0 ++ dktX4_goesOn_1
theorem dksX4_goesOn_0 : cX4_goesOn.data.toList.drop 0 = dktX4_goesOn_0 := by decide +kernel
theorem dksX4_goesOn_1 : cX4_goesOn.data.toList.drop 22 = dktX4_goesOn_1 := dk_seg dksX4_goesOn_0 22 rfl rfl
theorem dksX4_goesOn_2 : cX4_goesOn.data.toList.drop 45 = dktX4_goesOn_2 := dk_seg dksX4_goesOn_1 23 rfl rfl
theorem dX4_goesOn_0 : decode cX4_goesOn 0 = .ok (.iload_n 1, 1) := dk_27 (dk_at dksX4_goesOn_0 0 rfl rfl)
theorem dX4_goesOn_1 : decode cX4_goesOn 1 = .ok (.iload_n 2, 1) := dk_28 (dk_at dksX4_goesOn_0 1 rfl rfl)
theorem dX4_goesOn_2 : decode cX4_goesOn 2 = .ok (.invokestatic 295, 3) := dk_184 1 39 (dk_at dksX4_goesOn_0 2 rfl rfl)
theorem dX4_goesOn_5 : decode cX4_goesOn 5 = .ok (.ifCond .ne 50, 3) := dk_154 0 50 (dk_at dksX4_goesOn_0 5 rfl rfl)
theorem dX4_goesOn_8 : decode cX4_goesOn 8 = .ok (.aload_n 0, 1) := dk_42 (dk_at dksX4_goesOn_0 8 rfl rfl)
theorem dX4_goesOn_9 : decode cX4_goesOn 9 = .ok (.getfield 115, 3) := dk_180 0 115 (dk_at dksX4_goesOn_0 9 rfl rfl)
theorem dX4_goesOn_12 : decode cX4_goesOn 12 = .ok (.iload_n 1, 1) := dk_27 (dk_at dksX4_goesOn_0 12 rfl rfl)
theorem dX4_goesOn_13 : decode cX4_goesOn 13 = .ok (.iaload, 1) := dk_46 (dk_at dksX4_goesOn_0 13 rfl rfl)
theorem dX4_goesOn_14 : decode cX4_goesOn 14 = .ok (.iload_n 2, 1) := dk_28 (dk_at dksX4_goesOn_0 14 rfl rfl)
theorem dX4_goesOn_15 : decode cX4_goesOn 15 = .ok (.invokestatic 295, 3) := dk_184 1 39 (dk_at dksX4_goesOn_0 15 rfl rfl)
theorem dX4_goesOn_18 : decode cX4_goesOn 18 = .ok (.ifCond .ne 37, 3) := dk_154 0 37 (dk_at dksX4_goesOn_0 18 rfl rfl)
theorem dX4_goesOn_21 : decode cX4_goesOn 21 = .ok (.aload_n 0, 1) := dk_42 (dk_at dksX4_goesOn_0 21 rfl rfl)
theorem dX4_goesOn_22 : decode cX4_goesOn 22 = .ok (.getfield 48, 3) := dk_180 0 48 (dk_at dksX4_goesOn_1 0 rfl rfl)
theorem dX4_goesOn_25 : decode cX4_goesOn 25 = .ok (.iload_n 2, 1) := dk_28 (dk_at dksX4_goesOn_1 3 rfl rfl)
theorem dX4_goesOn_26 : decode cX4_goesOn 26 = .ok (.iaload, 1) := dk_46 (dk_at dksX4_goesOn_1 4 rfl rfl)
theorem dX4_goesOn_27 : decode cX4_goesOn 27 = .ok (.aload_n 0, 1) := dk_42 (dk_at dksX4_goesOn_1 5 rfl rfl)
theorem dX4_goesOn_28 : decode cX4_goesOn 28 = .ok (.getfield 115, 3) := dk_180 0 115 (dk_at dksX4_goesOn_1 6 rfl rfl)
theorem dX4_goesOn_31 : decode cX4_goesOn 31 = .ok (.iload_n 1, 1) := dk_27 (dk_at dksX4_goesOn_1 9 rfl rfl)
theorem dX4_goesOn_32 : decode cX4_goesOn 32 = .ok (.iaload, 1) := dk_46 (dk_at dksX4_goesOn_1 10 rfl rfl)
theorem dX4_goesOn_33 : decode cX4_goesOn 33 = .ok (.iand, 1) := dk_126 (dk_at dksX4_goesOn_1 11 rfl rfl)
theorem dX4_goesOn_34 : decode cX4_goesOn 34 = .ok (.aload_n 0, 1) := dk_42 (dk_at dksX4_goesOn_1 12 rfl rfl)
theorem dX4_goesOn_35 : decode cX4_goesOn 35 = .ok (.getfield 48, 3) := dk_180 0 48 (dk_at dksX4_goesOn_1 13 rfl rfl)
theorem dX4_goesOn_38 : decode cX4_goesOn 38 = .ok (.iload_n 2, 1) := dk_28 (dk_at dksX4_goesOn_1 16 rfl rfl)
theorem dX4_goesOn_39 : decode cX4_goesOn 39 = .ok (.iaload, 1) := dk_46 (dk_at dksX4_goesOn_1 17 rfl rfl)
theorem dX4_goesOn_40 : decode cX4_goesOn 40 = .ok (.if_icmp .ne 15, 3) := dk_160 0 15 (dk_at dksX4_goesOn_1 18 rfl rfl)
theorem dX4_goesOn_43 : decode cX4_goesOn 43 = .ok (.aload_n 0, 1) := dk_42 (dk_at dksX4_goesOn_1 21 rfl rfl)
theorem dX4_goesOn_44 : decode cX4_goesOn 44 = .ok (.iload_n 2, 1) := dk_28 (dk_at dksX4_goesOn_1 22 rfl rfl)
theorem dX4_goesOn_45 : decode cX4_goesOn 45 = .ok (.invokevirtual 346, 3) := dk_182 1 90 (dk_at dksX4_goesOn_2 0 rfl rfl)
theorem dX4_goesOn_48 : decode cX4_goesOn 48 = .ok (.ifCond .eq 7, 3) := dk_153 0 7 (dk_at dksX4_goesOn_2 3 rfl rfl)
theorem dX4_goesOn_51 : decode cX4_goesOn 51 = .ok (.iconst 1, 1) := dk_4 (dk_at dksX4_goesOn_2 6 rfl rfl)
theorem dX4_goesOn_52 : decode cX4_goesOn 52 = .ok (.goto 4, 3) := dk_167 0 4 (dk_at dksX4_goesOn_2 7 rfl rfl)
theorem dX4_goesOn_55 : decode cX4_goesOn 55 = .ok (.iconst 0, 1) := dk_3 (dk_at dksX4_goesOn_2 10 rfl rfl)
theorem dX4_goesOn_56 : decode cX4_goesOn 56 = .ok (.ireturn, 1) := dk_172 (dk_at dksX4_goesOn_2 11 rfl rfl)
def dkwX4_somebodyKnows_1 : List UInt8 := [182, 1, 55, 158, 0, 5, 4, 172, 132, 2, 1, 167, 255, 223, 3, 172]
abbrev dktX4_somebodyKnows_1 : List UInt8 := dkwX4_somebodyKnows_1 ++ []
def dkwX4_somebodyKnows_0 : List UInt8 := [3, 61, 28, 42, 180, 1, 7, 162, 0, 31, 42, 180, 1, 21, 28, 184, 1, 39, 153, 0, 14, 42, 28, 27]
abbrev dktX4_somebodyKnows_0 : List UInt8 := dkwX4_somebodyKnows_0 ++ dktX4_somebodyKnows_1
theorem dksX4_somebodyKnows_0 : cX4_somebodyKnows.data.toList.drop 0 = dktX4_somebodyKnows_0 := by decide +kernel
theorem dksX4_somebodyKnows_1 : cX4_somebodyKnows.data.toList.drop 24 = dktX4_somebodyKnows_1 := dk_seg dksX4_somebodyKnows_0 24 rfl rfl
theorem dX4_somebodyKnows_0 : decode cX4_somebodyKnows 0 = .ok (.iconst 0, 1) := dk_3 (dk_at dksX4_somebodyKnows_0 0 rfl rfl)
theorem dX4_somebodyKnows_1 : decode cX4_somebodyKnows 1 = .ok (.istore_n 2, 1) := dk_61 (dk_at dksX4_somebodyKnows_0 1 rfl rfl)
theorem dX4_somebodyKnows_2 : decode cX4_somebodyKnows 2 = .ok (.iload_n 2, 1) := dk_28 (dk_at dksX4_somebodyKnows_0 2 rfl rfl)
theorem dX4_somebodyKnows_3 : decode cX4_somebodyKnows 3 = .ok (.aload_n 0, 1) := dk_42 (dk_at dksX4_somebodyKnows_0 3 rfl rfl)
theorem dX4_somebodyKnows_4 : decode cX4_somebodyKnows 4 = .ok (.getfield 263, 3) := dk_180 1 7 (dk_at dksX4_somebodyKnows_0 4 rfl rfl)
theorem dX4_somebodyKnows_7 : decode cX4_somebodyKnows 7 = .ok (.if_icmp .ge 31, 3) := dk_162 0 31 (dk_at dksX4_somebodyKnows_0 7 rfl rfl)
theorem dX4_somebodyKnows_10 : decode cX4_somebodyKnows 10 = .ok (.aload_n 0, 1) := dk_42 (dk_at dksX4_somebodyKnows_0 10 rfl rfl)
theorem dX4_somebodyKnows_11 : decode cX4_somebodyKnows 11 = .ok (.getfield 277, 3) := dk_180 1 21 (dk_at dksX4_somebodyKnows_0 11 rfl rfl)
theorem dX4_somebodyKnows_14 : decode cX4_somebodyKnows 14 = .ok (.iload_n 2, 1) := dk_28 (dk_at dksX4_somebodyKnows_0 14 rfl rfl)
theorem dX4_somebodyKnows_15 : decode cX4_somebodyKnows 15 = .ok (.invokestatic 295, 3) := dk_184 1 39 (dk_at dksX4_somebodyKnows_0 15 rfl rfl)
theorem dX4_somebodyKnows_18 : decode cX4_somebodyKnows 18 = .ok (.ifCond .eq 14, 3) := dk_153 0 14 (dk_at dksX4_somebodyKnows_0 18 rfl rfl)
theorem dX4_somebodyKnows_21 : decode cX4_somebodyKnows 21 = .ok (.aload_n 0, 1) := dk_42 (dk_at dksX4_somebodyKnows_0 21 rfl rfl)
theorem dX4_somebodyKnows_22 : decode cX4_somebodyKnows 22 = .ok (.iload_n 2, 1) := dk_28 (dk_at dksX4_somebodyKnows_0 22 rfl rfl)
theorem dX4_somebodyKnows_23 : decode cX4_somebodyKnows 23 = .ok (.iload_n 1, 1) := dk_27 (dk_at dksX4_somebodyKnows_0 23 rfl rfl)
theorem dX4_somebodyKnows_24 : decode cX4_somebodyKnows 24 = .ok (.invokevirtual 311, 3) := dk_182 1 55 (dk_at dksX4_somebodyKnows_1 0 rfl rfl)
theorem dX4_somebodyKnows_27 : decode cX4_somebodyKnows 27 = .ok (.ifCond .le 5, 3) := dk_158 0 5 (dk_at dksX4_somebodyKnows_1 3 rfl rfl)
theorem dX4_somebodyKnows_30 : decode cX4_somebodyKnows 30 = .ok (.iconst 1, 1) := dk_4 (dk_at dksX4_somebodyKnows_1 6 rfl rfl)
theorem dX4_somebodyKnows_31 : decode cX4_somebodyKnows 31 = .ok (.ireturn, 1) := dk_172 (dk_at dksX4_somebodyKnows_1 7 rfl rfl)
theorem dX4_somebodyKnows_32 : decode cX4_somebodyKnows 32 = .ok (.iinc 2 1, 3) := dk_132 2 1 (dk_at dksX4_somebodyKnows_1 8 rfl rfl)
theorem dX4_somebodyKnows_35 : decode cX4_somebodyKnows 35 = .ok (.goto (-33), 3) := dk_167 255 223 (dk_at dksX4_somebodyKnows_1 11 rfl rfl)
theorem dX4_somebodyKnows_38 : decode cX4_somebodyKnows 38 = .ok (.iconst 0, 1) := dk_3 (dk_at dksX4_somebodyKnows_1 14 rfl rfl)
theorem dX4_somebodyKnows_39 : decode cX4_somebodyKnows 39 = .ok (.ireturn, 1) := dk_172 (dk_at dksX4_somebodyKnows_1 15 rfl rfl)
def dkwX4_bestHeap_3 : List UInt8 := [182, 1, 96, 42, 28, 182, 1, 96, 162, 0, 5, 29, 61, 132, 3, 1, 167, 255, 174, 28, 172]
abbrev dktX4_bestHeap_3 : List UInt8 := dkwX4_bestHeap_3 ++ []
def dkwX4_bestHeap_2 : List UInt8 := [180, 0, 115, 28, 46, 182, 1, 83, 100, 54, 4, 21, 4, 157, 0, 21, 21, 4, 154, 0, 18, 42, 29]
abbrev dktX4_bestHeap_2 : List UInt8 := dkwX4_bestHeap_2 ++ dktX4_bestHeap_3
def dkwX4_bestHeap_1 : List UInt8 := [29, 182, 1, 96, 27, 164, 0, 6, 167, 0, 51, 42, 42, 180, 0, 115, 29, 46, 182, 1, 83, 42, 42]
abbrev dktX4_bestHeap_1 : List UInt8 := dkwX4_bestHeap_1 ++ dktX4_bestHeap_2
def dkwX4_bestHeap_0 : List UInt8 := [3, 61, 4, 62, 29, 4, 42, 180, 1, 4, 120, 162, 0, 78, 42, 180, 0, 112, 29, 51, 153, 0, 63, 42]
abbrev dktX4_bestHeap_0 : List UInt8 := dkwX4_bestHeap_0 ++ dktX4_bestHeap_1
theorem dksX4_bestHeap_0 : cX4_bestHeap.data.toList.drop 0 = dktX4_bestHeap_0 := by decide +kernel
theorem dksX4_bestHeap_1 : cX4_bestHeap.data.toList.drop 24 = dktX4_bestHeap_1 := dk_seg dksX4_bestHeap_0 24 rfl rfl
theorem dksX4_bestHeap_2 : cX4_bestHeap.data.toList.drop 47 = dktX4_bestHeap_2 := dk_seg dksX4_bestHeap_1 23 rfl rfl
theorem dksX4_bestHeap_3 : cX4_bestHeap.data.toList.drop 70 = dktX4_bestHeap_3 := dk_seg dksX4_bestHeap_2 23 rfl rfl
theorem dX4_bestHeap_0 : decode cX4_bestHeap 0 = .ok (.iconst 0, 1) := dk_3 (dk_at dksX4_bestHeap_0 0 rfl rfl)
theorem dX4_bestHeap_1 : decode cX4_bestHeap 1 = .ok (.istore_n 2, 1) := dk_61 (dk_at dksX4_bestHeap_0 1 rfl rfl)
theorem dX4_bestHeap_2 : decode cX4_bestHeap 2 = .ok (.iconst 1, 1) := dk_4 (dk_at dksX4_bestHeap_0 2 rfl rfl)
theorem dX4_bestHeap_3 : decode cX4_bestHeap 3 = .ok (.istore_n 3, 1) := dk_62 (dk_at dksX4_bestHeap_0 3 rfl rfl)
theorem dX4_bestHeap_4 : decode cX4_bestHeap 4 = .ok (.iload_n 3, 1) := dk_29 (dk_at dksX4_bestHeap_0 4 rfl rfl)
theorem dX4_bestHeap_5 : decode cX4_bestHeap 5 = .ok (.iconst 1, 1) := dk_4 (dk_at dksX4_bestHeap_0 5 rfl rfl)
theorem dX4_bestHeap_6 : decode cX4_bestHeap 6 = .ok (.aload_n 0, 1) := dk_42 (dk_at dksX4_bestHeap_0 6 rfl rfl)
theorem dX4_bestHeap_7 : decode cX4_bestHeap 7 = .ok (.getfield 260, 3) := dk_180 1 4 (dk_at dksX4_bestHeap_0 7 rfl rfl)
theorem dX4_bestHeap_10 : decode cX4_bestHeap 10 = .ok (.ishl, 1) := dk_120 (dk_at dksX4_bestHeap_0 10 rfl rfl)
theorem dX4_bestHeap_11 : decode cX4_bestHeap 11 = .ok (.if_icmp .ge 78, 3) := dk_162 0 78 (dk_at dksX4_bestHeap_0 11 rfl rfl)
theorem dX4_bestHeap_14 : decode cX4_bestHeap 14 = .ok (.aload_n 0, 1) := dk_42 (dk_at dksX4_bestHeap_0 14 rfl rfl)
theorem dX4_bestHeap_15 : decode cX4_bestHeap 15 = .ok (.getfield 112, 3) := dk_180 0 112 (dk_at dksX4_bestHeap_0 15 rfl rfl)
theorem dX4_bestHeap_18 : decode cX4_bestHeap 18 = .ok (.iload_n 3, 1) := dk_29 (dk_at dksX4_bestHeap_0 18 rfl rfl)
theorem dX4_bestHeap_19 : decode cX4_bestHeap 19 = .ok (.baload, 1) := dk_51 (dk_at dksX4_bestHeap_0 19 rfl rfl)
theorem dX4_bestHeap_20 : decode cX4_bestHeap 20 = .ok (.ifCond .eq 63, 3) := dk_153 0 63 (dk_at dksX4_bestHeap_0 20 rfl rfl)
theorem dX4_bestHeap_23 : decode cX4_bestHeap 23 = .ok (.aload_n 0, 1) := dk_42 (dk_at dksX4_bestHeap_0 23 rfl rfl)
theorem dX4_bestHeap_24 : decode cX4_bestHeap 24 = .ok (.iload_n 3, 1) := dk_29 (dk_at dksX4_bestHeap_1 0 rfl rfl)
theorem dX4_bestHeap_25 : decode cX4_bestHeap 25 = .ok (.invokevirtual 352, 3) := dk_182 1 96 (dk_at dksX4_bestHeap_1 1 rfl rfl)
theorem dX4_bestHeap_28 : decode cX4_bestHeap 28 = .ok (.iload_n 1, 1) := dk_27 (dk_at dksX4_bestHeap_1 4 rfl rfl)
theorem dX4_bestHeap_29 : decode cX4_bestHeap 29 = .ok (.if_icmp .le 6, 3) := dk_164 0 6 (dk_at dksX4_bestHeap_1 5 rfl rfl)
theorem dX4_bestHeap_32 : decode cX4_bestHeap 32 = .ok (.goto 51, 3) := dk_167 0 51 (dk_at dksX4_bestHeap_1 8 rfl rfl)
theorem dX4_bestHeap_35 : decode cX4_bestHeap 35 = .ok (.aload_n 0, 1) := dk_42 (dk_at dksX4_bestHeap_1 11 rfl rfl)
theorem dX4_bestHeap_36 : decode cX4_bestHeap 36 = .ok (.aload_n 0, 1) := dk_42 (dk_at dksX4_bestHeap_1 12 rfl rfl)
theorem dX4_bestHeap_37 : decode cX4_bestHeap 37 = .ok (.getfield 115, 3) := dk_180 0 115 (dk_at dksX4_bestHeap_1 13 rfl rfl)
theorem dX4_bestHeap_40 : decode cX4_bestHeap 40 = .ok (.iload_n 3, 1) := dk_29 (dk_at dksX4_bestHeap_1 16 rfl rfl)
theorem dX4_bestHeap_41 : decode cX4_bestHeap 41 = .ok (.iaload, 1) := dk_46 (dk_at dksX4_bestHeap_1 17 rfl rfl)
theorem dX4_bestHeap_42 : decode cX4_bestHeap 42 = .ok (.invokevirtual 339, 3) := dk_182 1 83 (dk_at dksX4_bestHeap_1 18 rfl rfl)
theorem dX4_bestHeap_45 : decode cX4_bestHeap 45 = .ok (.aload_n 0, 1) := dk_42 (dk_at dksX4_bestHeap_1 21 rfl rfl)
theorem dX4_bestHeap_46 : decode cX4_bestHeap 46 = .ok (.aload_n 0, 1) := dk_42 (dk_at dksX4_bestHeap_1 22 rfl rfl)
theorem dX4_bestHeap_47 : decode cX4_bestHeap 47 = .ok (.getfield 115, 3) := dk_180 0 115 (dk_at dksX4_bestHeap_2 0 rfl rfl)
theorem dX4_bestHeap_50 : decode cX4_bestHeap 50 = .ok (.iload_n 2, 1) := dk_28 (dk_at dksX4_bestHeap_2 3 rfl rfl)
theorem dX4_bestHeap_51 : decode cX4_bestHeap 51 = .ok (.iaload, 1) := dk_46 (dk_at dksX4_bestHeap_2 4 rfl rfl)
theorem dX4_bestHeap_52 : decode cX4_bestHeap 52 = .ok (.invokevirtual 339, 3) := dk_182 1 83 (dk_at dksX4_bestHeap_2 5 rfl rfl)
theorem dX4_bestHeap_55 : decode cX4_bestHeap 55 = .ok (.isub, 1) := dk_100 (dk_at dksX4_bestHeap_2 8 rfl rfl)
theorem dX4_bestHeap_56 : decode cX4_bestHeap 56 = .ok (.istore 4, 2) := dk_54 4 (dk_at dksX4_bestHeap_2 9 rfl rfl)
theorem dX4_bestHeap_58 : decode cX4_bestHeap 58 = .ok (.iload 4, 2) := dk_21 4 (dk_at dksX4_bestHeap_2 11 rfl rfl)
theorem dX4_bestHeap_60 : decode cX4_bestHeap 60 = .ok (.ifCond .gt 21, 3) := dk_157 0 21 (dk_at dksX4_bestHeap_2 13 rfl rfl)
theorem dX4_bestHeap_63 : decode cX4_bestHeap 63 = .ok (.iload 4, 2) := dk_21 4 (dk_at dksX4_bestHeap_2 16 rfl rfl)
theorem dX4_bestHeap_65 : decode cX4_bestHeap 65 = .ok (.ifCond .ne 18, 3) := dk_154 0 18 (dk_at dksX4_bestHeap_2 18 rfl rfl)
theorem dX4_bestHeap_68 : decode cX4_bestHeap 68 = .ok (.aload_n 0, 1) := dk_42 (dk_at dksX4_bestHeap_2 21 rfl rfl)
theorem dX4_bestHeap_69 : decode cX4_bestHeap 69 = .ok (.iload_n 3, 1) := dk_29 (dk_at dksX4_bestHeap_2 22 rfl rfl)
theorem dX4_bestHeap_70 : decode cX4_bestHeap 70 = .ok (.invokevirtual 352, 3) := dk_182 1 96 (dk_at dksX4_bestHeap_3 0 rfl rfl)
theorem dX4_bestHeap_73 : decode cX4_bestHeap 73 = .ok (.aload_n 0, 1) := dk_42 (dk_at dksX4_bestHeap_3 3 rfl rfl)
theorem dX4_bestHeap_74 : decode cX4_bestHeap 74 = .ok (.iload_n 2, 1) := dk_28 (dk_at dksX4_bestHeap_3 4 rfl rfl)
theorem dX4_bestHeap_75 : decode cX4_bestHeap 75 = .ok (.invokevirtual 352, 3) := dk_182 1 96 (dk_at dksX4_bestHeap_3 5 rfl rfl)
theorem dX4_bestHeap_78 : decode cX4_bestHeap 78 = .ok (.if_icmp .ge 5, 3) := dk_162 0 5 (dk_at dksX4_bestHeap_3 8 rfl rfl)
theorem dX4_bestHeap_81 : decode cX4_bestHeap 81 = .ok (.iload_n 3, 1) := dk_29 (dk_at dksX4_bestHeap_3 11 rfl rfl)
theorem dX4_bestHeap_82 : decode cX4_bestHeap 82 = .ok (.istore_n 2, 1) := dk_61 (dk_at dksX4_bestHeap_3 12 rfl rfl)
theorem dX4_bestHeap_83 : decode cX4_bestHeap 83 = .ok (.iinc 3 1, 3) := dk_132 3 1 (dk_at dksX4_bestHeap_3 13 rfl rfl)
theorem dX4_bestHeap_86 : decode cX4_bestHeap 86 = .ok (.goto (-82), 3) := dk_167 255 174 (dk_at dksX4_bestHeap_3 16 rfl rfl)
theorem dX4_bestHeap_89 : decode cX4_bestHeap 89 = .ok (.iload_n 2, 1) := dk_28 (dk_at dksX4_bestHeap_3 19 rfl rfl)
theorem dX4_bestHeap_90 : decode cX4_bestHeap 90 = .ok (.ireturn, 1) := dk_172 (dk_at dksX4_bestHeap_3 20 rfl rfl)
def dkwX4_hoursOf_1 : List UInt8 := [182, 1, 49, 167, 0, 4, 3, 96, 61, 132, 3, 1, 167, 255, 225, 28, 172]
abbrev dktX4_hoursOf_1 : List UInt8 := dkwX4_hoursOf_1 ++ []
def dkwX4_hoursOf_0 : List UInt8 := [3, 61, 3, 62, 29, 42, 180, 1, 4, 162, 0, 29, 28, 27, 29, 184, 1, 39, 153, 0, 11, 42, 29]
abbrev dktX4_hoursOf_0 : List UInt8 := dkwX4_hoursOf_0 ++ dktX4_hoursOf_1
theorem dksX4_hoursOf_0 : cX4_hoursOf.data.toList.drop 0 = dktX4_hoursOf_0 := by decide +kernel
theorem dksX4_hoursOf_1 : cX4_hoursOf.data.toList.drop 23 = dktX4_hoursOf_1 := dk_seg dksX4_hoursOf_0 23 rfl rfl
theorem dX4_hoursOf_0 : decode cX4_hoursOf 0 = .ok (.iconst 0, 1) := dk_3 (dk_at dksX4_hoursOf_0 0 rfl rfl)
theorem dX4_hoursOf_1 : decode cX4_hoursOf 1 = .ok (.istore_n 2, 1) := dk_61 (dk_at dksX4_hoursOf_0 1 rfl rfl)
theorem dX4_hoursOf_2 : decode cX4_hoursOf 2 = .ok (.iconst 0, 1) := dk_3 (dk_at dksX4_hoursOf_0 2 rfl rfl)
theorem dX4_hoursOf_3 : decode cX4_hoursOf 3 = .ok (.istore_n 3, 1) := dk_62 (dk_at dksX4_hoursOf_0 3 rfl rfl)
theorem dX4_hoursOf_4 : decode cX4_hoursOf 4 = .ok (.iload_n 3, 1) := dk_29 (dk_at dksX4_hoursOf_0 4 rfl rfl)
theorem dX4_hoursOf_5 : decode cX4_hoursOf 5 = .ok (.aload_n 0, 1) := dk_42 (dk_at dksX4_hoursOf_0 5 rfl rfl)
theorem dX4_hoursOf_6 : decode cX4_hoursOf 6 = .ok (.getfield 260, 3) := dk_180 1 4 (dk_at dksX4_hoursOf_0 6 rfl rfl)
theorem dX4_hoursOf_9 : decode cX4_hoursOf 9 = .ok (.if_icmp .ge 29, 3) := dk_162 0 29 (dk_at dksX4_hoursOf_0 9 rfl rfl)
theorem dX4_hoursOf_12 : decode cX4_hoursOf 12 = .ok (.iload_n 2, 1) := dk_28 (dk_at dksX4_hoursOf_0 12 rfl rfl)
theorem dX4_hoursOf_13 : decode cX4_hoursOf 13 = .ok (.iload_n 1, 1) := dk_27 (dk_at dksX4_hoursOf_0 13 rfl rfl)
theorem dX4_hoursOf_14 : decode cX4_hoursOf 14 = .ok (.iload_n 3, 1) := dk_29 (dk_at dksX4_hoursOf_0 14 rfl rfl)
theorem dX4_hoursOf_15 : decode cX4_hoursOf 15 = .ok (.invokestatic 295, 3) := dk_184 1 39 (dk_at dksX4_hoursOf_0 15 rfl rfl)
theorem dX4_hoursOf_18 : decode cX4_hoursOf 18 = .ok (.ifCond .eq 11, 3) := dk_153 0 11 (dk_at dksX4_hoursOf_0 18 rfl rfl)
theorem dX4_hoursOf_21 : decode cX4_hoursOf 21 = .ok (.aload_n 0, 1) := dk_42 (dk_at dksX4_hoursOf_0 21 rfl rfl)
theorem dX4_hoursOf_22 : decode cX4_hoursOf 22 = .ok (.iload_n 3, 1) := dk_29 (dk_at dksX4_hoursOf_0 22 rfl rfl)
theorem dX4_hoursOf_23 : decode cX4_hoursOf 23 = .ok (.invokevirtual 305, 3) := dk_182 1 49 (dk_at dksX4_hoursOf_1 0 rfl rfl)
theorem dX4_hoursOf_26 : decode cX4_hoursOf 26 = .ok (.goto 4, 3) := dk_167 0 4 (dk_at dksX4_hoursOf_1 3 rfl rfl)
theorem dX4_hoursOf_29 : decode cX4_hoursOf 29 = .ok (.iconst 0, 1) := dk_3 (dk_at dksX4_hoursOf_1 6 rfl rfl)
theorem dX4_hoursOf_30 : decode cX4_hoursOf 30 = .ok (.iadd, 1) := dk_96 (dk_at dksX4_hoursOf_1 7 rfl rfl)
theorem dX4_hoursOf_31 : decode cX4_hoursOf 31 = .ok (.istore_n 2, 1) := dk_61 (dk_at dksX4_hoursOf_1 8 rfl rfl)
theorem dX4_hoursOf_32 : decode cX4_hoursOf 32 = .ok (.iinc 3 1, 3) := dk_132 3 1 (dk_at dksX4_hoursOf_1 9 rfl rfl)
theorem dX4_hoursOf_35 : decode cX4_hoursOf 35 = .ok (.goto (-31), 3) := dk_167 255 225 (dk_at dksX4_hoursOf_1 12 rfl rfl)
theorem dX4_hoursOf_38 : decode cX4_hoursOf 38 = .ok (.iload_n 2, 1) := dk_28 (dk_at dksX4_hoursOf_1 15 rfl rfl)
theorem dX4_hoursOf_39 : decode cX4_hoursOf 39 = .ok (.ireturn, 1) := dk_172 (dk_at dksX4_hoursOf_1 16 rfl rfl)
def dkwX4_order_9 : List UInt8 := [128, 54, 4, 132, 5, 1, 167, 255, 185, 2, 172]
abbrev dktX4_order_9 : List UInt8 := dkwX4_order_9 ++ []
def dkwX4_order_8 : List UInt8 := [154, 0, 9, 132, 6, 1, 167, 255, 218, 21, 5, 28, 160, 0, 6, 21, 6, 172, 21, 4, 4, 21, 6, 120]
abbrev dktX4_order_8 : List UInt8 := dkwX4_order_8 ++ dktX4_order_9
def dkwX4_order_7 : List UInt8 := [21, 4, 21, 6, 182, 1, 93, 153, 0, 18, 42, 180, 0, 118, 21, 4, 4, 21, 6, 120, 128, 51]
abbrev dktX4_order_7 : List UInt8 := dkwX4_order_7 ++ dktX4_order_8
def dkwX4_order_6 : List UInt8 := [54, 4, 3, 54, 5, 21, 4, 29, 159, 0, 71, 3, 54, 6, 29, 21, 6, 184, 1, 39, 153, 0, 29, 42]
abbrev dktX4_order_6 : List UInt8 := dkwX4_order_6 ++ dktX4_order_7
def dkwX4_order_5 : List UInt8 := [128, 51, 153, 0, 7, 4, 167, 0, 4, 3, 84, 132, 5, 1, 167, 255, 178, 132, 4, 255, 167, 255, 146, 3]
abbrev dktX4_order_5 : List UInt8 := dkwX4_order_5 ++ dktX4_order_6
def dkwX4_order_4 : List UInt8 := [153, 0, 33, 42, 21, 4, 21, 5, 182, 1, 93, 153, 0, 22, 42, 180, 0, 118, 21, 4, 4, 21, 5, 120]
abbrev dktX4_order_4 : List UInt8 := dkwX4_order_4 ++ dktX4_order_5
def dkwX4_order_3 : List UInt8 := [154, 0, 65, 21, 4, 29, 2, 130, 126, 154, 0, 56, 42, 180, 0, 118, 21, 4, 29, 21, 5, 184, 1, 39]
abbrev dktX4_order_3 : List UInt8 := dkwX4_order_3 ++ dktX4_order_4
def dkwX4_order_2 : List UInt8 := [167, 0, 4, 3, 84, 3, 54, 5, 21, 5, 42, 180, 1, 4, 162, 0, 75, 42, 180, 0, 118, 21, 4, 51]
abbrev dktX4_order_2 : List UInt8 := dkwX4_order_2 ++ dktX4_order_3
def dkwX4_order_1 : List UInt8 := [62, 29, 54, 4, 21, 4, 155, 0, 111, 42, 180, 0, 118, 21, 4, 21, 4, 29, 160, 0, 7, 4]
abbrev dktX4_order_1 : List UInt8 := dkwX4_order_1 ++ dktX4_order_2
def dkwX4_order_0 : List UInt8 := [42, 27, 182, 1, 99, 153, 0, 7, 28, 156, 0, 5, 2, 172, 42, 2, 182, 1, 102, 42, 27, 182, 1, 105]
abbrev dktX4_order_0 : List UInt8 := dkwX4_order_0 ++ dktX4_order_1
theorem dksX4_order_0 : cX4_order.data.toList.drop 0 = dktX4_order_0 := by decide +kernel
theorem dksX4_order_1 : cX4_order.data.toList.drop 24 = dktX4_order_1 := dk_seg dksX4_order_0 24 rfl rfl
theorem dksX4_order_2 : cX4_order.data.toList.drop 46 = dktX4_order_2 := dk_seg dksX4_order_1 22 rfl rfl
theorem dksX4_order_3 : cX4_order.data.toList.drop 70 = dktX4_order_3 := dk_seg dksX4_order_2 24 rfl rfl
theorem dksX4_order_4 : cX4_order.data.toList.drop 94 = dktX4_order_4 := dk_seg dksX4_order_3 24 rfl rfl
theorem dksX4_order_5 : cX4_order.data.toList.drop 118 = dktX4_order_5 := dk_seg dksX4_order_4 24 rfl rfl
theorem dksX4_order_6 : cX4_order.data.toList.drop 142 = dktX4_order_6 := dk_seg dksX4_order_5 24 rfl rfl
theorem dksX4_order_7 : cX4_order.data.toList.drop 166 = dktX4_order_7 := dk_seg dksX4_order_6 24 rfl rfl
theorem dksX4_order_8 : cX4_order.data.toList.drop 188 = dktX4_order_8 := dk_seg dksX4_order_7 22 rfl rfl
theorem dksX4_order_9 : cX4_order.data.toList.drop 212 = dktX4_order_9 := dk_seg dksX4_order_8 24 rfl rfl
theorem dX4_order_0 : decode cX4_order 0 = .ok (.aload_n 0, 1) := dk_42 (dk_at dksX4_order_0 0 rfl rfl)
theorem dX4_order_1 : decode cX4_order 1 = .ok (.iload_n 1, 1) := dk_27 (dk_at dksX4_order_0 1 rfl rfl)
theorem dX4_order_2 : decode cX4_order 2 = .ok (.invokevirtual 355, 3) := dk_182 1 99 (dk_at dksX4_order_0 2 rfl rfl)
theorem dX4_order_5 : decode cX4_order 5 = .ok (.ifCond .eq 7, 3) := dk_153 0 7 (dk_at dksX4_order_0 5 rfl rfl)
theorem dX4_order_8 : decode cX4_order 8 = .ok (.iload_n 2, 1) := dk_28 (dk_at dksX4_order_0 8 rfl rfl)
theorem dX4_order_9 : decode cX4_order 9 = .ok (.ifCond .ge 5, 3) := dk_156 0 5 (dk_at dksX4_order_0 9 rfl rfl)
theorem dX4_order_12 : decode cX4_order 12 = .ok (.iconst (-1), 1) := dk_2 (dk_at dksX4_order_0 12 rfl rfl)
theorem dX4_order_13 : decode cX4_order 13 = .ok (.ireturn, 1) := dk_172 (dk_at dksX4_order_0 13 rfl rfl)
theorem dX4_order_14 : decode cX4_order 14 = .ok (.aload_n 0, 1) := dk_42 (dk_at dksX4_order_0 14 rfl rfl)
theorem dX4_order_15 : decode cX4_order 15 = .ok (.iconst (-1), 1) := dk_2 (dk_at dksX4_order_0 15 rfl rfl)
theorem dX4_order_16 : decode cX4_order 16 = .ok (.invokevirtual 358, 3) := dk_182 1 102 (dk_at dksX4_order_0 16 rfl rfl)
theorem dX4_order_19 : decode cX4_order 19 = .ok (.aload_n 0, 1) := dk_42 (dk_at dksX4_order_0 19 rfl rfl)
theorem dX4_order_20 : decode cX4_order 20 = .ok (.iload_n 1, 1) := dk_27 (dk_at dksX4_order_0 20 rfl rfl)
theorem dX4_order_21 : decode cX4_order 21 = .ok (.invokevirtual 361, 3) := dk_182 1 105 (dk_at dksX4_order_0 21 rfl rfl)
theorem dX4_order_24 : decode cX4_order 24 = .ok (.istore_n 3, 1) := dk_62 (dk_at dksX4_order_1 0 rfl rfl)
theorem dX4_order_25 : decode cX4_order 25 = .ok (.iload_n 3, 1) := dk_29 (dk_at dksX4_order_1 1 rfl rfl)
theorem dX4_order_26 : decode cX4_order 26 = .ok (.istore 4, 2) := dk_54 4 (dk_at dksX4_order_1 2 rfl rfl)
theorem dX4_order_28 : decode cX4_order 28 = .ok (.iload 4, 2) := dk_21 4 (dk_at dksX4_order_1 4 rfl rfl)
theorem dX4_order_30 : decode cX4_order 30 = .ok (.ifCond .lt 111, 3) := dk_155 0 111 (dk_at dksX4_order_1 6 rfl rfl)
theorem dX4_order_33 : decode cX4_order 33 = .ok (.aload_n 0, 1) := dk_42 (dk_at dksX4_order_1 9 rfl rfl)
theorem dX4_order_34 : decode cX4_order 34 = .ok (.getfield 118, 3) := dk_180 0 118 (dk_at dksX4_order_1 10 rfl rfl)
theorem dX4_order_37 : decode cX4_order 37 = .ok (.iload 4, 2) := dk_21 4 (dk_at dksX4_order_1 13 rfl rfl)
theorem dX4_order_39 : decode cX4_order 39 = .ok (.iload 4, 2) := dk_21 4 (dk_at dksX4_order_1 15 rfl rfl)
theorem dX4_order_41 : decode cX4_order 41 = .ok (.iload_n 3, 1) := dk_29 (dk_at dksX4_order_1 17 rfl rfl)
theorem dX4_order_42 : decode cX4_order 42 = .ok (.if_icmp .ne 7, 3) := dk_160 0 7 (dk_at dksX4_order_1 18 rfl rfl)
theorem dX4_order_45 : decode cX4_order 45 = .ok (.iconst 1, 1) := dk_4 (dk_at dksX4_order_1 21 rfl rfl)
theorem dX4_order_46 : decode cX4_order 46 = .ok (.goto 4, 3) := dk_167 0 4 (dk_at dksX4_order_2 0 rfl rfl)
theorem dX4_order_49 : decode cX4_order 49 = .ok (.iconst 0, 1) := dk_3 (dk_at dksX4_order_2 3 rfl rfl)
theorem dX4_order_50 : decode cX4_order 50 = .ok (.bastore, 1) := dk_84 (dk_at dksX4_order_2 4 rfl rfl)
theorem dX4_order_51 : decode cX4_order 51 = .ok (.iconst 0, 1) := dk_3 (dk_at dksX4_order_2 5 rfl rfl)
theorem dX4_order_52 : decode cX4_order 52 = .ok (.istore 5, 2) := dk_54 5 (dk_at dksX4_order_2 6 rfl rfl)
theorem dX4_order_54 : decode cX4_order 54 = .ok (.iload 5, 2) := dk_21 5 (dk_at dksX4_order_2 8 rfl rfl)
theorem dX4_order_56 : decode cX4_order 56 = .ok (.aload_n 0, 1) := dk_42 (dk_at dksX4_order_2 10 rfl rfl)
theorem dX4_order_57 : decode cX4_order 57 = .ok (.getfield 260, 3) := dk_180 1 4 (dk_at dksX4_order_2 11 rfl rfl)
theorem dX4_order_60 : decode cX4_order 60 = .ok (.if_icmp .ge 75, 3) := dk_162 0 75 (dk_at dksX4_order_2 14 rfl rfl)
theorem dX4_order_63 : decode cX4_order 63 = .ok (.aload_n 0, 1) := dk_42 (dk_at dksX4_order_2 17 rfl rfl)
theorem dX4_order_64 : decode cX4_order 64 = .ok (.getfield 118, 3) := dk_180 0 118 (dk_at dksX4_order_2 18 rfl rfl)
theorem dX4_order_67 : decode cX4_order 67 = .ok (.iload 4, 2) := dk_21 4 (dk_at dksX4_order_2 21 rfl rfl)
theorem dX4_order_69 : decode cX4_order 69 = .ok (.baload, 1) := dk_51 (dk_at dksX4_order_2 23 rfl rfl)
theorem dX4_order_70 : decode cX4_order 70 = .ok (.ifCond .ne 65, 3) := dk_154 0 65 (dk_at dksX4_order_3 0 rfl rfl)
theorem dX4_order_73 : decode cX4_order 73 = .ok (.iload 4, 2) := dk_21 4 (dk_at dksX4_order_3 3 rfl rfl)
theorem dX4_order_75 : decode cX4_order 75 = .ok (.iload_n 3, 1) := dk_29 (dk_at dksX4_order_3 5 rfl rfl)
theorem dX4_order_76 : decode cX4_order 76 = .ok (.iconst (-1), 1) := dk_2 (dk_at dksX4_order_3 6 rfl rfl)
theorem dX4_order_77 : decode cX4_order 77 = .ok (.ixor, 1) := dk_130 (dk_at dksX4_order_3 7 rfl rfl)
theorem dX4_order_78 : decode cX4_order 78 = .ok (.iand, 1) := dk_126 (dk_at dksX4_order_3 8 rfl rfl)
theorem dX4_order_79 : decode cX4_order 79 = .ok (.ifCond .ne 56, 3) := dk_154 0 56 (dk_at dksX4_order_3 9 rfl rfl)
theorem dX4_order_82 : decode cX4_order 82 = .ok (.aload_n 0, 1) := dk_42 (dk_at dksX4_order_3 12 rfl rfl)
theorem dX4_order_83 : decode cX4_order 83 = .ok (.getfield 118, 3) := dk_180 0 118 (dk_at dksX4_order_3 13 rfl rfl)
theorem dX4_order_86 : decode cX4_order 86 = .ok (.iload 4, 2) := dk_21 4 (dk_at dksX4_order_3 16 rfl rfl)
theorem dX4_order_88 : decode cX4_order 88 = .ok (.iload_n 3, 1) := dk_29 (dk_at dksX4_order_3 18 rfl rfl)
theorem dX4_order_89 : decode cX4_order 89 = .ok (.iload 5, 2) := dk_21 5 (dk_at dksX4_order_3 19 rfl rfl)
theorem dX4_order_91 : decode cX4_order 91 = .ok (.invokestatic 295, 3) := dk_184 1 39 (dk_at dksX4_order_3 21 rfl rfl)
theorem dX4_order_94 : decode cX4_order 94 = .ok (.ifCond .eq 33, 3) := dk_153 0 33 (dk_at dksX4_order_4 0 rfl rfl)
theorem dX4_order_97 : decode cX4_order 97 = .ok (.aload_n 0, 1) := dk_42 (dk_at dksX4_order_4 3 rfl rfl)
theorem dX4_order_98 : decode cX4_order 98 = .ok (.iload 4, 2) := dk_21 4 (dk_at dksX4_order_4 4 rfl rfl)
theorem dX4_order_100 : decode cX4_order 100 = .ok (.iload 5, 2) := dk_21 5 (dk_at dksX4_order_4 6 rfl rfl)
theorem dX4_order_102 : decode cX4_order 102 = .ok (.invokevirtual 349, 3) := dk_182 1 93 (dk_at dksX4_order_4 8 rfl rfl)
theorem dX4_order_105 : decode cX4_order 105 = .ok (.ifCond .eq 22, 3) := dk_153 0 22 (dk_at dksX4_order_4 11 rfl rfl)
theorem dX4_order_108 : decode cX4_order 108 = .ok (.aload_n 0, 1) := dk_42 (dk_at dksX4_order_4 14 rfl rfl)
theorem dX4_order_109 : decode cX4_order 109 = .ok (.getfield 118, 3) := dk_180 0 118 (dk_at dksX4_order_4 15 rfl rfl)
theorem dX4_order_112 : decode cX4_order 112 = .ok (.iload 4, 2) := dk_21 4 (dk_at dksX4_order_4 18 rfl rfl)
theorem dX4_order_114 : decode cX4_order 114 = .ok (.iconst 1, 1) := dk_4 (dk_at dksX4_order_4 20 rfl rfl)
theorem dX4_order_115 : decode cX4_order 115 = .ok (.iload 5, 2) := dk_21 5 (dk_at dksX4_order_4 21 rfl rfl)
theorem dX4_order_117 : decode cX4_order 117 = .ok (.ishl, 1) := dk_120 (dk_at dksX4_order_4 23 rfl rfl)
theorem dX4_order_118 : decode cX4_order 118 = .ok (.ior, 1) := dk_128 (dk_at dksX4_order_5 0 rfl rfl)
theorem dX4_order_119 : decode cX4_order 119 = .ok (.baload, 1) := dk_51 (dk_at dksX4_order_5 1 rfl rfl)
theorem dX4_order_120 : decode cX4_order 120 = .ok (.ifCond .eq 7, 3) := dk_153 0 7 (dk_at dksX4_order_5 2 rfl rfl)
theorem dX4_order_123 : decode cX4_order 123 = .ok (.iconst 1, 1) := dk_4 (dk_at dksX4_order_5 5 rfl rfl)
theorem dX4_order_124 : decode cX4_order 124 = .ok (.goto 4, 3) := dk_167 0 4 (dk_at dksX4_order_5 6 rfl rfl)
theorem dX4_order_127 : decode cX4_order 127 = .ok (.iconst 0, 1) := dk_3 (dk_at dksX4_order_5 9 rfl rfl)
theorem dX4_order_128 : decode cX4_order 128 = .ok (.bastore, 1) := dk_84 (dk_at dksX4_order_5 10 rfl rfl)
theorem dX4_order_129 : decode cX4_order 129 = .ok (.iinc 5 1, 3) := dk_132 5 1 (dk_at dksX4_order_5 11 rfl rfl)
theorem dX4_order_132 : decode cX4_order 132 = .ok (.goto (-78), 3) := dk_167 255 178 (dk_at dksX4_order_5 14 rfl rfl)
theorem dX4_order_135 : decode cX4_order 135 = .ok (.iinc 4 (-1), 3) := dk_132 4 255 (dk_at dksX4_order_5 17 rfl rfl)
theorem dX4_order_138 : decode cX4_order 138 = .ok (.goto (-110), 3) := dk_167 255 146 (dk_at dksX4_order_5 20 rfl rfl)
theorem dX4_order_141 : decode cX4_order 141 = .ok (.iconst 0, 1) := dk_3 (dk_at dksX4_order_5 23 rfl rfl)
theorem dX4_order_142 : decode cX4_order 142 = .ok (.istore 4, 2) := dk_54 4 (dk_at dksX4_order_6 0 rfl rfl)
theorem dX4_order_144 : decode cX4_order 144 = .ok (.iconst 0, 1) := dk_3 (dk_at dksX4_order_6 2 rfl rfl)
theorem dX4_order_145 : decode cX4_order 145 = .ok (.istore 5, 2) := dk_54 5 (dk_at dksX4_order_6 3 rfl rfl)
theorem dX4_order_147 : decode cX4_order 147 = .ok (.iload 4, 2) := dk_21 4 (dk_at dksX4_order_6 5 rfl rfl)
theorem dX4_order_149 : decode cX4_order 149 = .ok (.iload_n 3, 1) := dk_29 (dk_at dksX4_order_6 7 rfl rfl)
theorem dX4_order_150 : decode cX4_order 150 = .ok (.if_icmp .eq 71, 3) := dk_159 0 71 (dk_at dksX4_order_6 8 rfl rfl)
theorem dX4_order_153 : decode cX4_order 153 = .ok (.iconst 0, 1) := dk_3 (dk_at dksX4_order_6 11 rfl rfl)
theorem dX4_order_154 : decode cX4_order 154 = .ok (.istore 6, 2) := dk_54 6 (dk_at dksX4_order_6 12 rfl rfl)
theorem dX4_order_156 : decode cX4_order 156 = .ok (.iload_n 3, 1) := dk_29 (dk_at dksX4_order_6 14 rfl rfl)
theorem dX4_order_157 : decode cX4_order 157 = .ok (.iload 6, 2) := dk_21 6 (dk_at dksX4_order_6 15 rfl rfl)
theorem dX4_order_159 : decode cX4_order 159 = .ok (.invokestatic 295, 3) := dk_184 1 39 (dk_at dksX4_order_6 17 rfl rfl)
theorem dX4_order_162 : decode cX4_order 162 = .ok (.ifCond .eq 29, 3) := dk_153 0 29 (dk_at dksX4_order_6 20 rfl rfl)
theorem dX4_order_165 : decode cX4_order 165 = .ok (.aload_n 0, 1) := dk_42 (dk_at dksX4_order_6 23 rfl rfl)
theorem dX4_order_166 : decode cX4_order 166 = .ok (.iload 4, 2) := dk_21 4 (dk_at dksX4_order_7 0 rfl rfl)
theorem dX4_order_168 : decode cX4_order 168 = .ok (.iload 6, 2) := dk_21 6 (dk_at dksX4_order_7 2 rfl rfl)
theorem dX4_order_170 : decode cX4_order 170 = .ok (.invokevirtual 349, 3) := dk_182 1 93 (dk_at dksX4_order_7 4 rfl rfl)
theorem dX4_order_173 : decode cX4_order 173 = .ok (.ifCond .eq 18, 3) := dk_153 0 18 (dk_at dksX4_order_7 7 rfl rfl)
theorem dX4_order_176 : decode cX4_order 176 = .ok (.aload_n 0, 1) := dk_42 (dk_at dksX4_order_7 10 rfl rfl)
theorem dX4_order_177 : decode cX4_order 177 = .ok (.getfield 118, 3) := dk_180 0 118 (dk_at dksX4_order_7 11 rfl rfl)
theorem dX4_order_180 : decode cX4_order 180 = .ok (.iload 4, 2) := dk_21 4 (dk_at dksX4_order_7 14 rfl rfl)
theorem dX4_order_182 : decode cX4_order 182 = .ok (.iconst 1, 1) := dk_4 (dk_at dksX4_order_7 16 rfl rfl)
theorem dX4_order_183 : decode cX4_order 183 = .ok (.iload 6, 2) := dk_21 6 (dk_at dksX4_order_7 17 rfl rfl)
theorem dX4_order_185 : decode cX4_order 185 = .ok (.ishl, 1) := dk_120 (dk_at dksX4_order_7 19 rfl rfl)
theorem dX4_order_186 : decode cX4_order 186 = .ok (.ior, 1) := dk_128 (dk_at dksX4_order_7 20 rfl rfl)
theorem dX4_order_187 : decode cX4_order 187 = .ok (.baload, 1) := dk_51 (dk_at dksX4_order_7 21 rfl rfl)
theorem dX4_order_188 : decode cX4_order 188 = .ok (.ifCond .ne 9, 3) := dk_154 0 9 (dk_at dksX4_order_8 0 rfl rfl)
theorem dX4_order_191 : decode cX4_order 191 = .ok (.iinc 6 1, 3) := dk_132 6 1 (dk_at dksX4_order_8 3 rfl rfl)
theorem dX4_order_194 : decode cX4_order 194 = .ok (.goto (-38), 3) := dk_167 255 218 (dk_at dksX4_order_8 6 rfl rfl)
theorem dX4_order_197 : decode cX4_order 197 = .ok (.iload 5, 2) := dk_21 5 (dk_at dksX4_order_8 9 rfl rfl)
theorem dX4_order_199 : decode cX4_order 199 = .ok (.iload_n 2, 1) := dk_28 (dk_at dksX4_order_8 11 rfl rfl)
theorem dX4_order_200 : decode cX4_order 200 = .ok (.if_icmp .ne 6, 3) := dk_160 0 6 (dk_at dksX4_order_8 12 rfl rfl)
theorem dX4_order_203 : decode cX4_order 203 = .ok (.iload 6, 2) := dk_21 6 (dk_at dksX4_order_8 15 rfl rfl)
theorem dX4_order_205 : decode cX4_order 205 = .ok (.ireturn, 1) := dk_172 (dk_at dksX4_order_8 17 rfl rfl)
theorem dX4_order_206 : decode cX4_order 206 = .ok (.iload 4, 2) := dk_21 4 (dk_at dksX4_order_8 18 rfl rfl)
theorem dX4_order_208 : decode cX4_order 208 = .ok (.iconst 1, 1) := dk_4 (dk_at dksX4_order_8 20 rfl rfl)
theorem dX4_order_209 : decode cX4_order 209 = .ok (.iload 6, 2) := dk_21 6 (dk_at dksX4_order_8 21 rfl rfl)
theorem dX4_order_211 : decode cX4_order 211 = .ok (.ishl, 1) := dk_120 (dk_at dksX4_order_8 23 rfl rfl)
theorem dX4_order_212 : decode cX4_order 212 = .ok (.ior, 1) := dk_128 (dk_at dksX4_order_9 0 rfl rfl)
theorem dX4_order_213 : decode cX4_order 213 = .ok (.istore 4, 2) := dk_54 4 (dk_at dksX4_order_9 1 rfl rfl)
theorem dX4_order_215 : decode cX4_order 215 = .ok (.iinc 5 1, 3) := dk_132 5 1 (dk_at dksX4_order_9 3 rfl rfl)
theorem dX4_order_218 : decode cX4_order 218 = .ok (.goto (-71), 3) := dk_167 255 185 (dk_at dksX4_order_9 6 rfl rfl)
theorem dX4_order_221 : decode cX4_order 221 = .ok (.iconst (-1), 1) := dk_2 (dk_at dksX4_order_9 9 rfl rfl)
theorem dX4_order_222 : decode cX4_order 222 = .ok (.ireturn, 1) := dk_172 (dk_at dksX4_order_9 10 rfl rfl)
def dkwX4_value_1 : List UInt8 := [180, 1, 15, 182, 1, 108, 172]
abbrev dktX4_value_1 : List UInt8 := dkwX4_value_1 ++ []
def dkwX4_value_0 : List UInt8 := [42, 27, 182, 1, 125, 154, 0, 5, 2, 172, 42, 27, 182, 1, 128, 42, 27, 42, 180, 1, 21, 42]
abbrev dktX4_value_0 : List UInt8 := dkwX4_value_0 ++ dktX4_value_1
theorem dksX4_value_0 : cX4_value.data.toList.drop 0 = dktX4_value_0 := by decide +kernel
theorem dksX4_value_1 : cX4_value.data.toList.drop 22 = dktX4_value_1 := dk_seg dksX4_value_0 22 rfl rfl
theorem dX4_value_0 : decode cX4_value 0 = .ok (.aload_n 0, 1) := dk_42 (dk_at dksX4_value_0 0 rfl rfl)
theorem dX4_value_1 : decode cX4_value 1 = .ok (.iload_n 1, 1) := dk_27 (dk_at dksX4_value_0 1 rfl rfl)
theorem dX4_value_2 : decode cX4_value 2 = .ok (.invokevirtual 381, 3) := dk_182 1 125 (dk_at dksX4_value_0 2 rfl rfl)
theorem dX4_value_5 : decode cX4_value 5 = .ok (.ifCond .ne 5, 3) := dk_154 0 5 (dk_at dksX4_value_0 5 rfl rfl)
theorem dX4_value_8 : decode cX4_value 8 = .ok (.iconst (-1), 1) := dk_2 (dk_at dksX4_value_0 8 rfl rfl)
theorem dX4_value_9 : decode cX4_value 9 = .ok (.ireturn, 1) := dk_172 (dk_at dksX4_value_0 9 rfl rfl)
theorem dX4_value_10 : decode cX4_value 10 = .ok (.aload_n 0, 1) := dk_42 (dk_at dksX4_value_0 10 rfl rfl)
theorem dX4_value_11 : decode cX4_value 11 = .ok (.iload_n 1, 1) := dk_27 (dk_at dksX4_value_0 11 rfl rfl)
theorem dX4_value_12 : decode cX4_value 12 = .ok (.invokevirtual 384, 3) := dk_182 1 128 (dk_at dksX4_value_0 12 rfl rfl)
theorem dX4_value_15 : decode cX4_value 15 = .ok (.aload_n 0, 1) := dk_42 (dk_at dksX4_value_0 15 rfl rfl)
theorem dX4_value_16 : decode cX4_value 16 = .ok (.iload_n 1, 1) := dk_27 (dk_at dksX4_value_0 16 rfl rfl)
theorem dX4_value_17 : decode cX4_value 17 = .ok (.aload_n 0, 1) := dk_42 (dk_at dksX4_value_0 17 rfl rfl)
theorem dX4_value_18 : decode cX4_value 18 = .ok (.getfield 277, 3) := dk_180 1 21 (dk_at dksX4_value_0 18 rfl rfl)
theorem dX4_value_21 : decode cX4_value 21 = .ok (.aload_n 0, 1) := dk_42 (dk_at dksX4_value_0 21 rfl rfl)
theorem dX4_value_22 : decode cX4_value 22 = .ok (.getfield 271, 3) := dk_180 1 15 (dk_at dksX4_value_1 0 rfl rfl)
theorem dX4_value_25 : decode cX4_value 25 = .ok (.invokevirtual 364, 3) := dk_182 1 108 (dk_at dksX4_value_1 3 rfl rfl)
theorem dX4_value_28 : decode cX4_value 28 = .ok (.ireturn, 1) := dk_172 (dk_at dksX4_value_1 6 rfl rfl)
def dkwX4_isMeanTime_0 : List UInt8 := [42, 180, 1, 4, 158, 0, 17, 27, 3, 16, 24, 184, 0, 135, 153, 0, 7, 4, 167, 0, 4, 3, 172]
abbrev dktX4_isMeanTime_0 : List UInt8 := dkwX4_isMeanTime_0 ++ []
theorem dksX4_isMeanTime_0 : cX4_isMeanTime.data.toList.drop 0 = dktX4_isMeanTime_0 := by decide +kernel
theorem dX4_isMeanTime_0 : decode cX4_isMeanTime 0 = .ok (.aload_n 0, 1) := dk_42 (dk_at dksX4_isMeanTime_0 0 rfl rfl)
theorem dX4_isMeanTime_1 : decode cX4_isMeanTime 1 = .ok (.getfield 260, 3) := dk_180 1 4 (dk_at dksX4_isMeanTime_0 1 rfl rfl)
theorem dX4_isMeanTime_4 : decode cX4_isMeanTime 4 = .ok (.ifCond .le 17, 3) := dk_158 0 17 (dk_at dksX4_isMeanTime_0 4 rfl rfl)
theorem dX4_isMeanTime_7 : decode cX4_isMeanTime 7 = .ok (.iload_n 1, 1) := dk_27 (dk_at dksX4_isMeanTime_0 7 rfl rfl)
theorem dX4_isMeanTime_8 : decode cX4_isMeanTime 8 = .ok (.iconst 0, 1) := dk_3 (dk_at dksX4_isMeanTime_0 8 rfl rfl)
theorem dX4_isMeanTime_9 : decode cX4_isMeanTime 9 = .ok (.bipush 24, 2) := dk_16 24 (dk_at dksX4_isMeanTime_0 9 rfl rfl)
theorem dX4_isMeanTime_11 : decode cX4_isMeanTime 11 = .ok (.invokestatic 135, 3) := dk_184 0 135 (dk_at dksX4_isMeanTime_0 11 rfl rfl)
theorem dX4_isMeanTime_14 : decode cX4_isMeanTime 14 = .ok (.ifCond .eq 7, 3) := dk_153 0 7 (dk_at dksX4_isMeanTime_0 14 rfl rfl)
theorem dX4_isMeanTime_17 : decode cX4_isMeanTime 17 = .ok (.iconst 1, 1) := dk_4 (dk_at dksX4_isMeanTime_0 17 rfl rfl)
theorem dX4_isMeanTime_18 : decode cX4_isMeanTime 18 = .ok (.goto 4, 3) := dk_167 0 4 (dk_at dksX4_isMeanTime_0 18 rfl rfl)
theorem dX4_isMeanTime_21 : decode cX4_isMeanTime 21 = .ok (.iconst 0, 1) := dk_3 (dk_at dksX4_isMeanTime_0 21 rfl rfl)
theorem dX4_isMeanTime_22 : decode cX4_isMeanTime 22 = .ok (.ireturn, 1) := dk_172 (dk_at dksX4_isMeanTime_0 22 rfl rfl)
def dkwX4_worksMean_7 : List UInt8 := [177]
abbrev dktX4_worksMean_7 : List UInt8 := dkwX4_worksMean_7 ++ []
def dkwX4_worksMean_6 : List UInt8 := [167, 0, 5, 21, 5, 79, 132, 4, 1, 167, 255, 128, 132, 3, 1, 167, 255, 109, 132, 2, 1, 167, 255, 96]
abbrev dktX4_worksMean_6 : List UInt8 := dkwX4_worksMean_6 ++ dktX4_worksMean_7
def dkwX4_worksMean_5 : List UInt8 := [17, 4, 0, 104, 21, 4, 96, 21, 5, 2, 160, 0, 16, 17, 3, 232, 42, 21, 4, 182, 1, 83, 104]
abbrev dktX4_worksMean_5 : List UInt8 := dkwX4_worksMean_5 ++ dktX4_worksMean_6
def dkwX4_worksMean_4 : List UInt8 := [54, 5, 132, 7, 1, 167, 255, 225, 132, 6, 1, 167, 255, 207, 42, 180, 0, 122, 28, 16, 8, 104, 29, 96]
abbrev dktX4_worksMean_4 : List UInt8 := dkwX4_worksMean_4 ++ dktX4_worksMean_5
def dkwX4_worksMean_3 : List UInt8 := [180, 1, 4, 162, 0, 28, 21, 5, 42, 28, 29, 21, 4, 21, 6, 21, 7, 182, 1, 116, 184, 1, 120]
abbrev dktX4_worksMean_3 : List UInt8 := dkwX4_worksMean_3 ++ dktX4_worksMean_4
def dkwX4_worksMean_2 : List UInt8 := [167, 0, 100, 2, 54, 5, 3, 54, 6, 21, 6, 42, 180, 1, 7, 162, 0, 46, 3, 54, 7, 21, 7, 42]
abbrev dktX4_worksMean_2 : List UInt8 := dkwX4_worksMean_2 ++ dktX4_worksMean_3
def dkwX4_worksMean_1 : List UInt8 := [4, 42, 180, 1, 4, 120, 162, 0, 123, 21, 4, 42, 180, 1, 15, 126, 42, 180, 1, 15, 159, 0, 6]
abbrev dktX4_worksMean_1 : List UInt8 := dkwX4_worksMean_1 ++ dktX4_worksMean_2
def dkwX4_worksMean_0 : List UInt8 := [3, 61, 28, 27, 163, 0, 161, 3, 62, 29, 4, 42, 180, 1, 7, 120, 162, 0, 143, 3, 54, 4, 21, 4]
abbrev dktX4_worksMean_0 : List UInt8 := dkwX4_worksMean_0 ++ dktX4_worksMean_1
theorem dksX4_worksMean_0 : cX4_worksMean.data.toList.drop 0 = dktX4_worksMean_0 := by decide +kernel
theorem dksX4_worksMean_1 : cX4_worksMean.data.toList.drop 24 = dktX4_worksMean_1 := dk_seg dksX4_worksMean_0 24 rfl rfl
theorem dksX4_worksMean_2 : cX4_worksMean.data.toList.drop 47 = dktX4_worksMean_2 := dk_seg dksX4_worksMean_1 23 rfl rfl
theorem dksX4_worksMean_3 : cX4_worksMean.data.toList.drop 71 = dktX4_worksMean_3 := dk_seg dksX4_worksMean_2 24 rfl rfl
theorem dksX4_worksMean_4 : cX4_worksMean.data.toList.drop 94 = dktX4_worksMean_4 := dk_seg dksX4_worksMean_3 23 rfl rfl
theorem dksX4_worksMean_5 : cX4_worksMean.data.toList.drop 118 = dktX4_worksMean_5 := dk_seg dksX4_worksMean_4 24 rfl rfl
theorem dksX4_worksMean_6 : cX4_worksMean.data.toList.drop 141 = dktX4_worksMean_6 := dk_seg dksX4_worksMean_5 23 rfl rfl
theorem dksX4_worksMean_7 : cX4_worksMean.data.toList.drop 165 = dktX4_worksMean_7 := dk_seg dksX4_worksMean_6 24 rfl rfl
theorem dX4_worksMean_0 : decode cX4_worksMean 0 = .ok (.iconst 0, 1) := dk_3 (dk_at dksX4_worksMean_0 0 rfl rfl)
theorem dX4_worksMean_1 : decode cX4_worksMean 1 = .ok (.istore_n 2, 1) := dk_61 (dk_at dksX4_worksMean_0 1 rfl rfl)
theorem dX4_worksMean_2 : decode cX4_worksMean 2 = .ok (.iload_n 2, 1) := dk_28 (dk_at dksX4_worksMean_0 2 rfl rfl)
theorem dX4_worksMean_3 : decode cX4_worksMean 3 = .ok (.iload_n 1, 1) := dk_27 (dk_at dksX4_worksMean_0 3 rfl rfl)
theorem dX4_worksMean_4 : decode cX4_worksMean 4 = .ok (.if_icmp .gt 161, 3) := dk_163 0 161 (dk_at dksX4_worksMean_0 4 rfl rfl)
theorem dX4_worksMean_7 : decode cX4_worksMean 7 = .ok (.iconst 0, 1) := dk_3 (dk_at dksX4_worksMean_0 7 rfl rfl)
theorem dX4_worksMean_8 : decode cX4_worksMean 8 = .ok (.istore_n 3, 1) := dk_62 (dk_at dksX4_worksMean_0 8 rfl rfl)
theorem dX4_worksMean_9 : decode cX4_worksMean 9 = .ok (.iload_n 3, 1) := dk_29 (dk_at dksX4_worksMean_0 9 rfl rfl)
theorem dX4_worksMean_10 : decode cX4_worksMean 10 = .ok (.iconst 1, 1) := dk_4 (dk_at dksX4_worksMean_0 10 rfl rfl)
theorem dX4_worksMean_11 : decode cX4_worksMean 11 = .ok (.aload_n 0, 1) := dk_42 (dk_at dksX4_worksMean_0 11 rfl rfl)
theorem dX4_worksMean_12 : decode cX4_worksMean 12 = .ok (.getfield 263, 3) := dk_180 1 7 (dk_at dksX4_worksMean_0 12 rfl rfl)
theorem dX4_worksMean_15 : decode cX4_worksMean 15 = .ok (.ishl, 1) := dk_120 (dk_at dksX4_worksMean_0 15 rfl rfl)
theorem dX4_worksMean_16 : decode cX4_worksMean 16 = .ok (.if_icmp .ge 143, 3) := dk_162 0 143 (dk_at dksX4_worksMean_0 16 rfl rfl)
theorem dX4_worksMean_19 : decode cX4_worksMean 19 = .ok (.iconst 0, 1) := dk_3 (dk_at dksX4_worksMean_0 19 rfl rfl)
theorem dX4_worksMean_20 : decode cX4_worksMean 20 = .ok (.istore 4, 2) := dk_54 4 (dk_at dksX4_worksMean_0 20 rfl rfl)
theorem dX4_worksMean_22 : decode cX4_worksMean 22 = .ok (.iload 4, 2) := dk_21 4 (dk_at dksX4_worksMean_0 22 rfl rfl)
theorem dX4_worksMean_24 : decode cX4_worksMean 24 = .ok (.iconst 1, 1) := dk_4 (dk_at dksX4_worksMean_1 0 rfl rfl)
theorem dX4_worksMean_25 : decode cX4_worksMean 25 = .ok (.aload_n 0, 1) := dk_42 (dk_at dksX4_worksMean_1 1 rfl rfl)
theorem dX4_worksMean_26 : decode cX4_worksMean 26 = .ok (.getfield 260, 3) := dk_180 1 4 (dk_at dksX4_worksMean_1 2 rfl rfl)
theorem dX4_worksMean_29 : decode cX4_worksMean 29 = .ok (.ishl, 1) := dk_120 (dk_at dksX4_worksMean_1 5 rfl rfl)
theorem dX4_worksMean_30 : decode cX4_worksMean 30 = .ok (.if_icmp .ge 123, 3) := dk_162 0 123 (dk_at dksX4_worksMean_1 6 rfl rfl)
theorem dX4_worksMean_33 : decode cX4_worksMean 33 = .ok (.iload 4, 2) := dk_21 4 (dk_at dksX4_worksMean_1 9 rfl rfl)
theorem dX4_worksMean_35 : decode cX4_worksMean 35 = .ok (.aload_n 0, 1) := dk_42 (dk_at dksX4_worksMean_1 11 rfl rfl)
theorem dX4_worksMean_36 : decode cX4_worksMean 36 = .ok (.getfield 271, 3) := dk_180 1 15 (dk_at dksX4_worksMean_1 12 rfl rfl)
theorem dX4_worksMean_39 : decode cX4_worksMean 39 = .ok (.iand, 1) := dk_126 (dk_at dksX4_worksMean_1 15 rfl rfl)
theorem dX4_worksMean_40 : decode cX4_worksMean 40 = .ok (.aload_n 0, 1) := dk_42 (dk_at dksX4_worksMean_1 16 rfl rfl)
theorem dX4_worksMean_41 : decode cX4_worksMean 41 = .ok (.getfield 271, 3) := dk_180 1 15 (dk_at dksX4_worksMean_1 17 rfl rfl)
theorem dX4_worksMean_44 : decode cX4_worksMean 44 = .ok (.if_icmp .eq 6, 3) := dk_159 0 6 (dk_at dksX4_worksMean_1 20 rfl rfl)
theorem dX4_worksMean_47 : decode cX4_worksMean 47 = .ok (.goto 100, 3) := dk_167 0 100 (dk_at dksX4_worksMean_2 0 rfl rfl)
theorem dX4_worksMean_50 : decode cX4_worksMean 50 = .ok (.iconst (-1), 1) := dk_2 (dk_at dksX4_worksMean_2 3 rfl rfl)
theorem dX4_worksMean_51 : decode cX4_worksMean 51 = .ok (.istore 5, 2) := dk_54 5 (dk_at dksX4_worksMean_2 4 rfl rfl)
theorem dX4_worksMean_53 : decode cX4_worksMean 53 = .ok (.iconst 0, 1) := dk_3 (dk_at dksX4_worksMean_2 6 rfl rfl)
theorem dX4_worksMean_54 : decode cX4_worksMean 54 = .ok (.istore 6, 2) := dk_54 6 (dk_at dksX4_worksMean_2 7 rfl rfl)
theorem dX4_worksMean_56 : decode cX4_worksMean 56 = .ok (.iload 6, 2) := dk_21 6 (dk_at dksX4_worksMean_2 9 rfl rfl)
theorem dX4_worksMean_58 : decode cX4_worksMean 58 = .ok (.aload_n 0, 1) := dk_42 (dk_at dksX4_worksMean_2 11 rfl rfl)
theorem dX4_worksMean_59 : decode cX4_worksMean 59 = .ok (.getfield 263, 3) := dk_180 1 7 (dk_at dksX4_worksMean_2 12 rfl rfl)
theorem dX4_worksMean_62 : decode cX4_worksMean 62 = .ok (.if_icmp .ge 46, 3) := dk_162 0 46 (dk_at dksX4_worksMean_2 15 rfl rfl)
theorem dX4_worksMean_65 : decode cX4_worksMean 65 = .ok (.iconst 0, 1) := dk_3 (dk_at dksX4_worksMean_2 18 rfl rfl)
theorem dX4_worksMean_66 : decode cX4_worksMean 66 = .ok (.istore 7, 2) := dk_54 7 (dk_at dksX4_worksMean_2 19 rfl rfl)
theorem dX4_worksMean_68 : decode cX4_worksMean 68 = .ok (.iload 7, 2) := dk_21 7 (dk_at dksX4_worksMean_2 21 rfl rfl)
theorem dX4_worksMean_70 : decode cX4_worksMean 70 = .ok (.aload_n 0, 1) := dk_42 (dk_at dksX4_worksMean_2 23 rfl rfl)
theorem dX4_worksMean_71 : decode cX4_worksMean 71 = .ok (.getfield 260, 3) := dk_180 1 4 (dk_at dksX4_worksMean_3 0 rfl rfl)
theorem dX4_worksMean_74 : decode cX4_worksMean 74 = .ok (.if_icmp .ge 28, 3) := dk_162 0 28 (dk_at dksX4_worksMean_3 3 rfl rfl)
theorem dX4_worksMean_77 : decode cX4_worksMean 77 = .ok (.iload 5, 2) := dk_21 5 (dk_at dksX4_worksMean_3 6 rfl rfl)
theorem dX4_worksMean_79 : decode cX4_worksMean 79 = .ok (.aload_n 0, 1) := dk_42 (dk_at dksX4_worksMean_3 8 rfl rfl)
theorem dX4_worksMean_80 : decode cX4_worksMean 80 = .ok (.iload_n 2, 1) := dk_28 (dk_at dksX4_worksMean_3 9 rfl rfl)
theorem dX4_worksMean_81 : decode cX4_worksMean 81 = .ok (.iload_n 3, 1) := dk_29 (dk_at dksX4_worksMean_3 10 rfl rfl)
theorem dX4_worksMean_82 : decode cX4_worksMean 82 = .ok (.iload 4, 2) := dk_21 4 (dk_at dksX4_worksMean_3 11 rfl rfl)
theorem dX4_worksMean_84 : decode cX4_worksMean 84 = .ok (.iload 6, 2) := dk_21 6 (dk_at dksX4_worksMean_3 13 rfl rfl)
theorem dX4_worksMean_86 : decode cX4_worksMean 86 = .ok (.iload 7, 2) := dk_21 7 (dk_at dksX4_worksMean_3 15 rfl rfl)
theorem dX4_worksMean_88 : decode cX4_worksMean 88 = .ok (.invokevirtual 372, 3) := dk_182 1 116 (dk_at dksX4_worksMean_3 17 rfl rfl)
theorem dX4_worksMean_91 : decode cX4_worksMean 91 = .ok (.invokestatic 376, 3) := dk_184 1 120 (dk_at dksX4_worksMean_3 20 rfl rfl)
theorem dX4_worksMean_94 : decode cX4_worksMean 94 = .ok (.istore 5, 2) := dk_54 5 (dk_at dksX4_worksMean_4 0 rfl rfl)
theorem dX4_worksMean_96 : decode cX4_worksMean 96 = .ok (.iinc 7 1, 3) := dk_132 7 1 (dk_at dksX4_worksMean_4 2 rfl rfl)
theorem dX4_worksMean_99 : decode cX4_worksMean 99 = .ok (.goto (-31), 3) := dk_167 255 225 (dk_at dksX4_worksMean_4 5 rfl rfl)
theorem dX4_worksMean_102 : decode cX4_worksMean 102 = .ok (.iinc 6 1, 3) := dk_132 6 1 (dk_at dksX4_worksMean_4 8 rfl rfl)
theorem dX4_worksMean_105 : decode cX4_worksMean 105 = .ok (.goto (-49), 3) := dk_167 255 207 (dk_at dksX4_worksMean_4 11 rfl rfl)
theorem dX4_worksMean_108 : decode cX4_worksMean 108 = .ok (.aload_n 0, 1) := dk_42 (dk_at dksX4_worksMean_4 14 rfl rfl)
theorem dX4_worksMean_109 : decode cX4_worksMean 109 = .ok (.getfield 122, 3) := dk_180 0 122 (dk_at dksX4_worksMean_4 15 rfl rfl)
theorem dX4_worksMean_112 : decode cX4_worksMean 112 = .ok (.iload_n 2, 1) := dk_28 (dk_at dksX4_worksMean_4 18 rfl rfl)
theorem dX4_worksMean_113 : decode cX4_worksMean 113 = .ok (.bipush 8, 2) := dk_16 8 (dk_at dksX4_worksMean_4 19 rfl rfl)
theorem dX4_worksMean_115 : decode cX4_worksMean 115 = .ok (.imul, 1) := dk_104 (dk_at dksX4_worksMean_4 21 rfl rfl)
theorem dX4_worksMean_116 : decode cX4_worksMean 116 = .ok (.iload_n 3, 1) := dk_29 (dk_at dksX4_worksMean_4 22 rfl rfl)
theorem dX4_worksMean_117 : decode cX4_worksMean 117 = .ok (.iadd, 1) := dk_96 (dk_at dksX4_worksMean_4 23 rfl rfl)
theorem dX4_worksMean_118 : decode cX4_worksMean 118 = .ok (.sipush 1024, 3) := dk_17 4 0 (dk_at dksX4_worksMean_5 0 rfl rfl)
theorem dX4_worksMean_121 : decode cX4_worksMean 121 = .ok (.imul, 1) := dk_104 (dk_at dksX4_worksMean_5 3 rfl rfl)
theorem dX4_worksMean_122 : decode cX4_worksMean 122 = .ok (.iload 4, 2) := dk_21 4 (dk_at dksX4_worksMean_5 4 rfl rfl)
theorem dX4_worksMean_124 : decode cX4_worksMean 124 = .ok (.iadd, 1) := dk_96 (dk_at dksX4_worksMean_5 6 rfl rfl)
theorem dX4_worksMean_125 : decode cX4_worksMean 125 = .ok (.iload 5, 2) := dk_21 5 (dk_at dksX4_worksMean_5 7 rfl rfl)
theorem dX4_worksMean_127 : decode cX4_worksMean 127 = .ok (.iconst (-1), 1) := dk_2 (dk_at dksX4_worksMean_5 9 rfl rfl)
theorem dX4_worksMean_128 : decode cX4_worksMean 128 = .ok (.if_icmp .ne 16, 3) := dk_160 0 16 (dk_at dksX4_worksMean_5 10 rfl rfl)
theorem dX4_worksMean_131 : decode cX4_worksMean 131 = .ok (.sipush 1000, 3) := dk_17 3 232 (dk_at dksX4_worksMean_5 13 rfl rfl)
theorem dX4_worksMean_134 : decode cX4_worksMean 134 = .ok (.aload_n 0, 1) := dk_42 (dk_at dksX4_worksMean_5 16 rfl rfl)
theorem dX4_worksMean_135 : decode cX4_worksMean 135 = .ok (.iload 4, 2) := dk_21 4 (dk_at dksX4_worksMean_5 17 rfl rfl)
theorem dX4_worksMean_137 : decode cX4_worksMean 137 = .ok (.invokevirtual 339, 3) := dk_182 1 83 (dk_at dksX4_worksMean_5 19 rfl rfl)
theorem dX4_worksMean_140 : decode cX4_worksMean 140 = .ok (.imul, 1) := dk_104 (dk_at dksX4_worksMean_5 22 rfl rfl)
theorem dX4_worksMean_141 : decode cX4_worksMean 141 = .ok (.goto 5, 3) := dk_167 0 5 (dk_at dksX4_worksMean_6 0 rfl rfl)
theorem dX4_worksMean_144 : decode cX4_worksMean 144 = .ok (.iload 5, 2) := dk_21 5 (dk_at dksX4_worksMean_6 3 rfl rfl)
theorem dX4_worksMean_146 : decode cX4_worksMean 146 = .ok (.iastore, 1) := dk_79 (dk_at dksX4_worksMean_6 5 rfl rfl)
theorem dX4_worksMean_147 : decode cX4_worksMean 147 = .ok (.iinc 4 1, 3) := dk_132 4 1 (dk_at dksX4_worksMean_6 6 rfl rfl)
theorem dX4_worksMean_150 : decode cX4_worksMean 150 = .ok (.goto (-128), 3) := dk_167 255 128 (dk_at dksX4_worksMean_6 9 rfl rfl)
theorem dX4_worksMean_153 : decode cX4_worksMean 153 = .ok (.iinc 3 1, 3) := dk_132 3 1 (dk_at dksX4_worksMean_6 12 rfl rfl)
theorem dX4_worksMean_156 : decode cX4_worksMean 156 = .ok (.goto (-147), 3) := dk_167 255 109 (dk_at dksX4_worksMean_6 15 rfl rfl)
theorem dX4_worksMean_159 : decode cX4_worksMean 159 = .ok (.iinc 2 1, 3) := dk_132 2 1 (dk_at dksX4_worksMean_6 18 rfl rfl)
theorem dX4_worksMean_162 : decode cX4_worksMean 162 = .ok (.goto (-160), 3) := dk_167 255 96 (dk_at dksX4_worksMean_6 21 rfl rfl)
theorem dX4_worksMean_165 : decode cX4_worksMean 165 = .ok (.return_, 1) := dk_177 (dk_at dksX4_worksMean_7 0 rfl rfl)
def dkwX4_worthOf_5 : List UInt8 := [104, 96, 16, 16, 108, 172]
abbrev dktX4_worthOf_5 : List UInt8 := dkwX4_worthOf_5 ++ []
def dkwX4_worthOf_4 : List UInt8 := [120, 128, 2, 182, 1, 62, 182, 1, 112, 104, 16, 16, 21, 6, 100, 42, 27, 21, 7, 28, 29, 182, 1, 112]
abbrev dktX4_worthOf_4 : List UInt8 := dkwX4_worthOf_4 ++ dktX4_worthOf_5
def dkwX4_worthOf_3 : List UInt8 := [54, 6, 27, 42, 21, 5, 182, 1, 49, 100, 54, 7, 21, 6, 42, 27, 21, 7, 28, 42, 29, 4, 21, 5]
abbrev dktX4_worthOf_3 : List UInt8 := dkwX4_worthOf_3 ++ dktX4_worthOf_4
def dkwX4_worthOf_2 : List UInt8 := [160, 0, 13, 42, 21, 5, 182, 1, 49, 27, 164, 0, 5, 2, 172, 42, 21, 4, 21, 5, 182, 1, 55]
abbrev dktX4_worthOf_2 : List UInt8 := dkwX4_worthOf_2 ++ dktX4_worthOf_3
def dkwX4_worthOf_1 : List UInt8 := [184, 1, 39, 154, 0, 32, 42, 180, 0, 48, 21, 5, 46, 29, 126, 42, 180, 0, 48, 21, 5, 46]
abbrev dktX4_worthOf_1 : List UInt8 := dkwX4_worthOf_1 ++ dktX4_worthOf_2
def dkwX4_worthOf_0 : List UInt8 := [28, 21, 4, 184, 1, 39, 153, 0, 52, 42, 21, 4, 21, 5, 182, 1, 55, 153, 0, 41, 29, 21, 5]
abbrev dktX4_worthOf_0 : List UInt8 := dkwX4_worthOf_0 ++ dktX4_worthOf_1
theorem dksX4_worthOf_0 : cX4_worthOf.data.toList.drop 0 = dktX4_worthOf_0 := by decide +kernel
theorem dksX4_worthOf_1 : cX4_worthOf.data.toList.drop 23 = dktX4_worthOf_1 := dk_seg dksX4_worthOf_0 23 rfl rfl
theorem dksX4_worthOf_2 : cX4_worthOf.data.toList.drop 45 = dktX4_worthOf_2 := dk_seg dksX4_worthOf_1 22 rfl rfl
theorem dksX4_worthOf_3 : cX4_worthOf.data.toList.drop 68 = dktX4_worthOf_3 := dk_seg dksX4_worthOf_2 23 rfl rfl
theorem dksX4_worthOf_4 : cX4_worthOf.data.toList.drop 92 = dktX4_worthOf_4 := dk_seg dksX4_worthOf_3 24 rfl rfl
theorem dksX4_worthOf_5 : cX4_worthOf.data.toList.drop 116 = dktX4_worthOf_5 := dk_seg dksX4_worthOf_4 24 rfl rfl
theorem dX4_worthOf_0 : decode cX4_worthOf 0 = .ok (.iload_n 2, 1) := dk_28 (dk_at dksX4_worthOf_0 0 rfl rfl)
theorem dX4_worthOf_1 : decode cX4_worthOf 1 = .ok (.iload 4, 2) := dk_21 4 (dk_at dksX4_worthOf_0 1 rfl rfl)
theorem dX4_worthOf_3 : decode cX4_worthOf 3 = .ok (.invokestatic 295, 3) := dk_184 1 39 (dk_at dksX4_worthOf_0 3 rfl rfl)
theorem dX4_worthOf_6 : decode cX4_worthOf 6 = .ok (.ifCond .eq 52, 3) := dk_153 0 52 (dk_at dksX4_worthOf_0 6 rfl rfl)
theorem dX4_worthOf_9 : decode cX4_worthOf 9 = .ok (.aload_n 0, 1) := dk_42 (dk_at dksX4_worthOf_0 9 rfl rfl)
theorem dX4_worthOf_10 : decode cX4_worthOf 10 = .ok (.iload 4, 2) := dk_21 4 (dk_at dksX4_worthOf_0 10 rfl rfl)
theorem dX4_worthOf_12 : decode cX4_worthOf 12 = .ok (.iload 5, 2) := dk_21 5 (dk_at dksX4_worthOf_0 12 rfl rfl)
theorem dX4_worthOf_14 : decode cX4_worthOf 14 = .ok (.invokevirtual 311, 3) := dk_182 1 55 (dk_at dksX4_worthOf_0 14 rfl rfl)
theorem dX4_worthOf_17 : decode cX4_worthOf 17 = .ok (.ifCond .eq 41, 3) := dk_153 0 41 (dk_at dksX4_worthOf_0 17 rfl rfl)
theorem dX4_worthOf_20 : decode cX4_worthOf 20 = .ok (.iload_n 3, 1) := dk_29 (dk_at dksX4_worthOf_0 20 rfl rfl)
theorem dX4_worthOf_21 : decode cX4_worthOf 21 = .ok (.iload 5, 2) := dk_21 5 (dk_at dksX4_worthOf_0 21 rfl rfl)
theorem dX4_worthOf_23 : decode cX4_worthOf 23 = .ok (.invokestatic 295, 3) := dk_184 1 39 (dk_at dksX4_worthOf_1 0 rfl rfl)
theorem dX4_worthOf_26 : decode cX4_worthOf 26 = .ok (.ifCond .ne 32, 3) := dk_154 0 32 (dk_at dksX4_worthOf_1 3 rfl rfl)
theorem dX4_worthOf_29 : decode cX4_worthOf 29 = .ok (.aload_n 0, 1) := dk_42 (dk_at dksX4_worthOf_1 6 rfl rfl)
theorem dX4_worthOf_30 : decode cX4_worthOf 30 = .ok (.getfield 48, 3) := dk_180 0 48 (dk_at dksX4_worthOf_1 7 rfl rfl)
theorem dX4_worthOf_33 : decode cX4_worthOf 33 = .ok (.iload 5, 2) := dk_21 5 (dk_at dksX4_worthOf_1 10 rfl rfl)
theorem dX4_worthOf_35 : decode cX4_worthOf 35 = .ok (.iaload, 1) := dk_46 (dk_at dksX4_worthOf_1 12 rfl rfl)
theorem dX4_worthOf_36 : decode cX4_worthOf 36 = .ok (.iload_n 3, 1) := dk_29 (dk_at dksX4_worthOf_1 13 rfl rfl)
theorem dX4_worthOf_37 : decode cX4_worthOf 37 = .ok (.iand, 1) := dk_126 (dk_at dksX4_worthOf_1 14 rfl rfl)
theorem dX4_worthOf_38 : decode cX4_worthOf 38 = .ok (.aload_n 0, 1) := dk_42 (dk_at dksX4_worthOf_1 15 rfl rfl)
theorem dX4_worthOf_39 : decode cX4_worthOf 39 = .ok (.getfield 48, 3) := dk_180 0 48 (dk_at dksX4_worthOf_1 16 rfl rfl)
theorem dX4_worthOf_42 : decode cX4_worthOf 42 = .ok (.iload 5, 2) := dk_21 5 (dk_at dksX4_worthOf_1 19 rfl rfl)
theorem dX4_worthOf_44 : decode cX4_worthOf 44 = .ok (.iaload, 1) := dk_46 (dk_at dksX4_worthOf_1 21 rfl rfl)
theorem dX4_worthOf_45 : decode cX4_worthOf 45 = .ok (.if_icmp .ne 13, 3) := dk_160 0 13 (dk_at dksX4_worthOf_2 0 rfl rfl)
theorem dX4_worthOf_48 : decode cX4_worthOf 48 = .ok (.aload_n 0, 1) := dk_42 (dk_at dksX4_worthOf_2 3 rfl rfl)
theorem dX4_worthOf_49 : decode cX4_worthOf 49 = .ok (.iload 5, 2) := dk_21 5 (dk_at dksX4_worthOf_2 4 rfl rfl)
theorem dX4_worthOf_51 : decode cX4_worthOf 51 = .ok (.invokevirtual 305, 3) := dk_182 1 49 (dk_at dksX4_worthOf_2 6 rfl rfl)
theorem dX4_worthOf_54 : decode cX4_worthOf 54 = .ok (.iload_n 1, 1) := dk_27 (dk_at dksX4_worthOf_2 9 rfl rfl)
theorem dX4_worthOf_55 : decode cX4_worthOf 55 = .ok (.if_icmp .le 5, 3) := dk_164 0 5 (dk_at dksX4_worthOf_2 10 rfl rfl)
theorem dX4_worthOf_58 : decode cX4_worthOf 58 = .ok (.iconst (-1), 1) := dk_2 (dk_at dksX4_worthOf_2 13 rfl rfl)
theorem dX4_worthOf_59 : decode cX4_worthOf 59 = .ok (.ireturn, 1) := dk_172 (dk_at dksX4_worthOf_2 14 rfl rfl)
theorem dX4_worthOf_60 : decode cX4_worthOf 60 = .ok (.aload_n 0, 1) := dk_42 (dk_at dksX4_worthOf_2 15 rfl rfl)
theorem dX4_worthOf_61 : decode cX4_worthOf 61 = .ok (.iload 4, 2) := dk_21 4 (dk_at dksX4_worthOf_2 16 rfl rfl)
theorem dX4_worthOf_63 : decode cX4_worthOf 63 = .ok (.iload 5, 2) := dk_21 5 (dk_at dksX4_worthOf_2 18 rfl rfl)
theorem dX4_worthOf_65 : decode cX4_worthOf 65 = .ok (.invokevirtual 311, 3) := dk_182 1 55 (dk_at dksX4_worthOf_2 20 rfl rfl)
theorem dX4_worthOf_68 : decode cX4_worthOf 68 = .ok (.istore 6, 2) := dk_54 6 (dk_at dksX4_worthOf_3 0 rfl rfl)
theorem dX4_worthOf_70 : decode cX4_worthOf 70 = .ok (.iload_n 1, 1) := dk_27 (dk_at dksX4_worthOf_3 2 rfl rfl)
theorem dX4_worthOf_71 : decode cX4_worthOf 71 = .ok (.aload_n 0, 1) := dk_42 (dk_at dksX4_worthOf_3 3 rfl rfl)
theorem dX4_worthOf_72 : decode cX4_worthOf 72 = .ok (.iload 5, 2) := dk_21 5 (dk_at dksX4_worthOf_3 4 rfl rfl)
theorem dX4_worthOf_74 : decode cX4_worthOf 74 = .ok (.invokevirtual 305, 3) := dk_182 1 49 (dk_at dksX4_worthOf_3 6 rfl rfl)
theorem dX4_worthOf_77 : decode cX4_worthOf 77 = .ok (.isub, 1) := dk_100 (dk_at dksX4_worthOf_3 9 rfl rfl)
theorem dX4_worthOf_78 : decode cX4_worthOf 78 = .ok (.istore 7, 2) := dk_54 7 (dk_at dksX4_worthOf_3 10 rfl rfl)
theorem dX4_worthOf_80 : decode cX4_worthOf 80 = .ok (.iload 6, 2) := dk_21 6 (dk_at dksX4_worthOf_3 12 rfl rfl)
theorem dX4_worthOf_82 : decode cX4_worthOf 82 = .ok (.aload_n 0, 1) := dk_42 (dk_at dksX4_worthOf_3 14 rfl rfl)
theorem dX4_worthOf_83 : decode cX4_worthOf 83 = .ok (.iload_n 1, 1) := dk_27 (dk_at dksX4_worthOf_3 15 rfl rfl)
theorem dX4_worthOf_84 : decode cX4_worthOf 84 = .ok (.iload 7, 2) := dk_21 7 (dk_at dksX4_worthOf_3 16 rfl rfl)
theorem dX4_worthOf_86 : decode cX4_worthOf 86 = .ok (.iload_n 2, 1) := dk_28 (dk_at dksX4_worthOf_3 18 rfl rfl)
theorem dX4_worthOf_87 : decode cX4_worthOf 87 = .ok (.aload_n 0, 1) := dk_42 (dk_at dksX4_worthOf_3 19 rfl rfl)
theorem dX4_worthOf_88 : decode cX4_worthOf 88 = .ok (.iload_n 3, 1) := dk_29 (dk_at dksX4_worthOf_3 20 rfl rfl)
theorem dX4_worthOf_89 : decode cX4_worthOf 89 = .ok (.iconst 1, 1) := dk_4 (dk_at dksX4_worthOf_3 21 rfl rfl)
theorem dX4_worthOf_90 : decode cX4_worthOf 90 = .ok (.iload 5, 2) := dk_21 5 (dk_at dksX4_worthOf_3 22 rfl rfl)
theorem dX4_worthOf_92 : decode cX4_worthOf 92 = .ok (.ishl, 1) := dk_120 (dk_at dksX4_worthOf_4 0 rfl rfl)
theorem dX4_worthOf_93 : decode cX4_worthOf 93 = .ok (.ior, 1) := dk_128 (dk_at dksX4_worthOf_4 1 rfl rfl)
theorem dX4_worthOf_94 : decode cX4_worthOf 94 = .ok (.iconst (-1), 1) := dk_2 (dk_at dksX4_worthOf_4 2 rfl rfl)
theorem dX4_worthOf_95 : decode cX4_worthOf 95 = .ok (.invokevirtual 318, 3) := dk_182 1 62 (dk_at dksX4_worthOf_4 3 rfl rfl)
theorem dX4_worthOf_98 : decode cX4_worthOf 98 = .ok (.invokevirtual 368, 3) := dk_182 1 112 (dk_at dksX4_worthOf_4 6 rfl rfl)
theorem dX4_worthOf_101 : decode cX4_worthOf 101 = .ok (.imul, 1) := dk_104 (dk_at dksX4_worthOf_4 9 rfl rfl)
theorem dX4_worthOf_102 : decode cX4_worthOf 102 = .ok (.bipush 16, 2) := dk_16 16 (dk_at dksX4_worthOf_4 10 rfl rfl)
theorem dX4_worthOf_104 : decode cX4_worthOf 104 = .ok (.iload 6, 2) := dk_21 6 (dk_at dksX4_worthOf_4 12 rfl rfl)
theorem dX4_worthOf_106 : decode cX4_worthOf 106 = .ok (.isub, 1) := dk_100 (dk_at dksX4_worthOf_4 14 rfl rfl)
theorem dX4_worthOf_107 : decode cX4_worthOf 107 = .ok (.aload_n 0, 1) := dk_42 (dk_at dksX4_worthOf_4 15 rfl rfl)
theorem dX4_worthOf_108 : decode cX4_worthOf 108 = .ok (.iload_n 1, 1) := dk_27 (dk_at dksX4_worthOf_4 16 rfl rfl)
theorem dX4_worthOf_109 : decode cX4_worthOf 109 = .ok (.iload 7, 2) := dk_21 7 (dk_at dksX4_worthOf_4 17 rfl rfl)
theorem dX4_worthOf_111 : decode cX4_worthOf 111 = .ok (.iload_n 2, 1) := dk_28 (dk_at dksX4_worthOf_4 19 rfl rfl)
theorem dX4_worthOf_112 : decode cX4_worthOf 112 = .ok (.iload_n 3, 1) := dk_29 (dk_at dksX4_worthOf_4 20 rfl rfl)
theorem dX4_worthOf_113 : decode cX4_worthOf 113 = .ok (.invokevirtual 368, 3) := dk_182 1 112 (dk_at dksX4_worthOf_4 21 rfl rfl)
theorem dX4_worthOf_116 : decode cX4_worthOf 116 = .ok (.imul, 1) := dk_104 (dk_at dksX4_worthOf_5 0 rfl rfl)
theorem dX4_worthOf_117 : decode cX4_worthOf 117 = .ok (.iadd, 1) := dk_96 (dk_at dksX4_worthOf_5 1 rfl rfl)
theorem dX4_worthOf_118 : decode cX4_worthOf 118 = .ok (.bipush 16, 2) := dk_16 16 (dk_at dksX4_worthOf_5 2 rfl rfl)
theorem dX4_worthOf_120 : decode cX4_worthOf 120 = .ok (.idiv, 1) := dk_108 (dk_at dksX4_worthOf_5 4 rfl rfl)
theorem dX4_worthOf_121 : decode cX4_worthOf 121 = .ok (.ireturn, 1) := dk_172 (dk_at dksX4_worthOf_5 5 rfl rfl)
def dkwX4_behind_7 : List UInt8 := [153, 0, 10, 21, 8, 16, 16, 104, 54, 8, 132, 9, 1, 167, 255, 228, 22, 6, 21, 8, 133, 109, 136, 172]
abbrev dktX4_behind_7 : List UInt8 := dkwX4_behind_7 ++ []
def dkwX4_behind_6 : List UInt8 := [167, 255, 150, 4, 54, 8, 3, 54, 9, 21, 9, 42, 180, 1, 7, 162, 0, 25, 29, 21, 9, 184, 1, 39]
abbrev dktX4_behind_6 : List UInt8 := dkwX4_behind_6 ++ dktX4_behind_7
def dkwX4_behind_5 : List UInt8 := [167, 255, 198, 22, 6, 22, 9, 42, 28, 21, 8, 21, 4, 182, 1, 108, 133, 105, 97, 55, 6, 132, 8, 1]
abbrev dktX4_behind_5 : List UInt8 := dkwX4_behind_5 ++ dktX4_behind_6
def dkwX4_behind_4 : List UInt8 := [46, 133, 167, 0, 14, 16, 16, 42, 180, 0, 42, 21, 11, 46, 100, 133, 105, 55, 9, 132, 11, 1]
abbrev dktX4_behind_4 : List UInt8 := dkwX4_behind_4 ++ dktX4_behind_5
def dkwX4_behind_3 : List UInt8 := [184, 1, 39, 153, 0, 40, 22, 9, 21, 8, 21, 11, 184, 1, 39, 153, 0, 14, 42, 180, 0, 42, 21, 11]
abbrev dktX4_behind_3 : List UInt8 := dkwX4_behind_3 ++ dktX4_behind_4
def dkwX4_behind_2 : List UInt8 := [153, 0, 6, 167, 0, 88, 10, 55, 9, 3, 54, 11, 21, 11, 42, 180, 1, 7, 162, 0, 55, 29, 21, 11]
abbrev dktX4_behind_2 : List UInt8 := dkwX4_behind_2 ++ dktX4_behind_3
def dkwX4_behind_1 : List UInt8 := [21, 4, 182, 1, 108, 172, 9, 55, 6, 3, 54, 8, 21, 8, 29, 163, 0, 106, 21, 8, 29, 2, 130, 126]
abbrev dktX4_behind_1 : List UInt8 := dkwX4_behind_1 ++ dktX4_behind_2
def dkwX4_behind_0 : List UInt8 := [27, 4, 100, 42, 180, 1, 13, 108, 42, 180, 1, 13, 104, 54, 5, 21, 5, 28, 162, 0, 12, 42, 28, 29]
abbrev dktX4_behind_0 : List UInt8 := dkwX4_behind_0 ++ dktX4_behind_1
theorem dksX4_behind_0 : cX4_behind.data.toList.drop 0 = dktX4_behind_0 := by decide +kernel
theorem dksX4_behind_1 : cX4_behind.data.toList.drop 24 = dktX4_behind_1 := dk_seg dksX4_behind_0 24 rfl rfl
theorem dksX4_behind_2 : cX4_behind.data.toList.drop 48 = dktX4_behind_2 := dk_seg dksX4_behind_1 24 rfl rfl
theorem dksX4_behind_3 : cX4_behind.data.toList.drop 72 = dktX4_behind_3 := dk_seg dksX4_behind_2 24 rfl rfl
theorem dksX4_behind_4 : cX4_behind.data.toList.drop 96 = dktX4_behind_4 := dk_seg dksX4_behind_3 24 rfl rfl
theorem dksX4_behind_5 : cX4_behind.data.toList.drop 118 = dktX4_behind_5 := dk_seg dksX4_behind_4 22 rfl rfl
theorem dksX4_behind_6 : cX4_behind.data.toList.drop 142 = dktX4_behind_6 := dk_seg dksX4_behind_5 24 rfl rfl
theorem dksX4_behind_7 : cX4_behind.data.toList.drop 166 = dktX4_behind_7 := dk_seg dksX4_behind_6 24 rfl rfl
theorem dX4_behind_0 : decode cX4_behind 0 = .ok (.iload_n 1, 1) := dk_27 (dk_at dksX4_behind_0 0 rfl rfl)
theorem dX4_behind_1 : decode cX4_behind 1 = .ok (.iconst 1, 1) := dk_4 (dk_at dksX4_behind_0 1 rfl rfl)
theorem dX4_behind_2 : decode cX4_behind 2 = .ok (.isub, 1) := dk_100 (dk_at dksX4_behind_0 2 rfl rfl)
theorem dX4_behind_3 : decode cX4_behind 3 = .ok (.aload_n 0, 1) := dk_42 (dk_at dksX4_behind_0 3 rfl rfl)
theorem dX4_behind_4 : decode cX4_behind 4 = .ok (.getfield 269, 3) := dk_180 1 13 (dk_at dksX4_behind_0 4 rfl rfl)
theorem dX4_behind_7 : decode cX4_behind 7 = .ok (.idiv, 1) := dk_108 (dk_at dksX4_behind_0 7 rfl rfl)
theorem dX4_behind_8 : decode cX4_behind 8 = .ok (.aload_n 0, 1) := dk_42 (dk_at dksX4_behind_0 8 rfl rfl)
theorem dX4_behind_9 : decode cX4_behind 9 = .ok (.getfield 269, 3) := dk_180 1 13 (dk_at dksX4_behind_0 9 rfl rfl)
theorem dX4_behind_12 : decode cX4_behind 12 = .ok (.imul, 1) := dk_104 (dk_at dksX4_behind_0 12 rfl rfl)
theorem dX4_behind_13 : decode cX4_behind 13 = .ok (.istore 5, 2) := dk_54 5 (dk_at dksX4_behind_0 13 rfl rfl)
theorem dX4_behind_15 : decode cX4_behind 15 = .ok (.iload 5, 2) := dk_21 5 (dk_at dksX4_behind_0 15 rfl rfl)
theorem dX4_behind_17 : decode cX4_behind 17 = .ok (.iload_n 2, 1) := dk_28 (dk_at dksX4_behind_0 17 rfl rfl)
theorem dX4_behind_18 : decode cX4_behind 18 = .ok (.if_icmp .ge 12, 3) := dk_162 0 12 (dk_at dksX4_behind_0 18 rfl rfl)
theorem dX4_behind_21 : decode cX4_behind 21 = .ok (.aload_n 0, 1) := dk_42 (dk_at dksX4_behind_0 21 rfl rfl)
theorem dX4_behind_22 : decode cX4_behind 22 = .ok (.iload_n 2, 1) := dk_28 (dk_at dksX4_behind_0 22 rfl rfl)
theorem dX4_behind_23 : decode cX4_behind 23 = .ok (.iload_n 3, 1) := dk_29 (dk_at dksX4_behind_0 23 rfl rfl)
theorem dX4_behind_24 : decode cX4_behind 24 = .ok (.iload 4, 2) := dk_21 4 (dk_at dksX4_behind_1 0 rfl rfl)
theorem dX4_behind_26 : decode cX4_behind 26 = .ok (.invokevirtual 364, 3) := dk_182 1 108 (dk_at dksX4_behind_1 2 rfl rfl)
theorem dX4_behind_29 : decode cX4_behind 29 = .ok (.ireturn, 1) := dk_172 (dk_at dksX4_behind_1 5 rfl rfl)
theorem dX4_behind_30 : decode cX4_behind 30 = .ok (.lconst 0, 1) := dk_9 (dk_at dksX4_behind_1 6 rfl rfl)
theorem dX4_behind_31 : decode cX4_behind 31 = .ok (.lstore 6, 2) := dk_55 6 (dk_at dksX4_behind_1 7 rfl rfl)
theorem dX4_behind_33 : decode cX4_behind 33 = .ok (.iconst 0, 1) := dk_3 (dk_at dksX4_behind_1 9 rfl rfl)
theorem dX4_behind_34 : decode cX4_behind 34 = .ok (.istore 8, 2) := dk_54 8 (dk_at dksX4_behind_1 10 rfl rfl)
theorem dX4_behind_36 : decode cX4_behind 36 = .ok (.iload 8, 2) := dk_21 8 (dk_at dksX4_behind_1 12 rfl rfl)
theorem dX4_behind_38 : decode cX4_behind 38 = .ok (.iload_n 3, 1) := dk_29 (dk_at dksX4_behind_1 14 rfl rfl)
theorem dX4_behind_39 : decode cX4_behind 39 = .ok (.if_icmp .gt 106, 3) := dk_163 0 106 (dk_at dksX4_behind_1 15 rfl rfl)
theorem dX4_behind_42 : decode cX4_behind 42 = .ok (.iload 8, 2) := dk_21 8 (dk_at dksX4_behind_1 18 rfl rfl)
theorem dX4_behind_44 : decode cX4_behind 44 = .ok (.iload_n 3, 1) := dk_29 (dk_at dksX4_behind_1 20 rfl rfl)
theorem dX4_behind_45 : decode cX4_behind 45 = .ok (.iconst (-1), 1) := dk_2 (dk_at dksX4_behind_1 21 rfl rfl)
theorem dX4_behind_46 : decode cX4_behind 46 = .ok (.ixor, 1) := dk_130 (dk_at dksX4_behind_1 22 rfl rfl)
theorem dX4_behind_47 : decode cX4_behind 47 = .ok (.iand, 1) := dk_126 (dk_at dksX4_behind_1 23 rfl rfl)
theorem dX4_behind_48 : decode cX4_behind 48 = .ok (.ifCond .eq 6, 3) := dk_153 0 6 (dk_at dksX4_behind_2 0 rfl rfl)
theorem dX4_behind_51 : decode cX4_behind 51 = .ok (.goto 88, 3) := dk_167 0 88 (dk_at dksX4_behind_2 3 rfl rfl)
theorem dX4_behind_54 : decode cX4_behind 54 = .ok (.lconst 1, 1) := dk_10 (dk_at dksX4_behind_2 6 rfl rfl)
theorem dX4_behind_55 : decode cX4_behind 55 = .ok (.lstore 9, 2) := dk_55 9 (dk_at dksX4_behind_2 7 rfl rfl)
theorem dX4_behind_57 : decode cX4_behind 57 = .ok (.iconst 0, 1) := dk_3 (dk_at dksX4_behind_2 9 rfl rfl)
theorem dX4_behind_58 : decode cX4_behind 58 = .ok (.istore 11, 2) := dk_54 11 (dk_at dksX4_behind_2 10 rfl rfl)
theorem dX4_behind_60 : decode cX4_behind 60 = .ok (.iload 11, 2) := dk_21 11 (dk_at dksX4_behind_2 12 rfl rfl)
theorem dX4_behind_62 : decode cX4_behind 62 = .ok (.aload_n 0, 1) := dk_42 (dk_at dksX4_behind_2 14 rfl rfl)
theorem dX4_behind_63 : decode cX4_behind 63 = .ok (.getfield 263, 3) := dk_180 1 7 (dk_at dksX4_behind_2 15 rfl rfl)
theorem dX4_behind_66 : decode cX4_behind 66 = .ok (.if_icmp .ge 55, 3) := dk_162 0 55 (dk_at dksX4_behind_2 18 rfl rfl)
theorem dX4_behind_69 : decode cX4_behind 69 = .ok (.iload_n 3, 1) := dk_29 (dk_at dksX4_behind_2 21 rfl rfl)
theorem dX4_behind_70 : decode cX4_behind 70 = .ok (.iload 11, 2) := dk_21 11 (dk_at dksX4_behind_2 22 rfl rfl)
theorem dX4_behind_72 : decode cX4_behind 72 = .ok (.invokestatic 295, 3) := dk_184 1 39 (dk_at dksX4_behind_3 0 rfl rfl)
theorem dX4_behind_75 : decode cX4_behind 75 = .ok (.ifCond .eq 40, 3) := dk_153 0 40 (dk_at dksX4_behind_3 3 rfl rfl)
theorem dX4_behind_78 : decode cX4_behind 78 = .ok (.lload 9, 2) := dk_22 9 (dk_at dksX4_behind_3 6 rfl rfl)
theorem dX4_behind_80 : decode cX4_behind 80 = .ok (.iload 8, 2) := dk_21 8 (dk_at dksX4_behind_3 8 rfl rfl)
theorem dX4_behind_82 : decode cX4_behind 82 = .ok (.iload 11, 2) := dk_21 11 (dk_at dksX4_behind_3 10 rfl rfl)
theorem dX4_behind_84 : decode cX4_behind 84 = .ok (.invokestatic 295, 3) := dk_184 1 39 (dk_at dksX4_behind_3 12 rfl rfl)
theorem dX4_behind_87 : decode cX4_behind 87 = .ok (.ifCond .eq 14, 3) := dk_153 0 14 (dk_at dksX4_behind_3 15 rfl rfl)
theorem dX4_behind_90 : decode cX4_behind 90 = .ok (.aload_n 0, 1) := dk_42 (dk_at dksX4_behind_3 18 rfl rfl)
theorem dX4_behind_91 : decode cX4_behind 91 = .ok (.getfield 42, 3) := dk_180 0 42 (dk_at dksX4_behind_3 19 rfl rfl)
theorem dX4_behind_94 : decode cX4_behind 94 = .ok (.iload 11, 2) := dk_21 11 (dk_at dksX4_behind_3 22 rfl rfl)
theorem dX4_behind_96 : decode cX4_behind 96 = .ok (.iaload, 1) := dk_46 (dk_at dksX4_behind_4 0 rfl rfl)
theorem dX4_behind_97 : decode cX4_behind 97 = .ok (.i2l, 1) := dk_133 (dk_at dksX4_behind_4 1 rfl rfl)
theorem dX4_behind_98 : decode cX4_behind 98 = .ok (.goto 14, 3) := dk_167 0 14 (dk_at dksX4_behind_4 2 rfl rfl)
theorem dX4_behind_101 : decode cX4_behind 101 = .ok (.bipush 16, 2) := dk_16 16 (dk_at dksX4_behind_4 5 rfl rfl)
theorem dX4_behind_103 : decode cX4_behind 103 = .ok (.aload_n 0, 1) := dk_42 (dk_at dksX4_behind_4 7 rfl rfl)
theorem dX4_behind_104 : decode cX4_behind 104 = .ok (.getfield 42, 3) := dk_180 0 42 (dk_at dksX4_behind_4 8 rfl rfl)
theorem dX4_behind_107 : decode cX4_behind 107 = .ok (.iload 11, 2) := dk_21 11 (dk_at dksX4_behind_4 11 rfl rfl)
theorem dX4_behind_109 : decode cX4_behind 109 = .ok (.iaload, 1) := dk_46 (dk_at dksX4_behind_4 13 rfl rfl)
theorem dX4_behind_110 : decode cX4_behind 110 = .ok (.isub, 1) := dk_100 (dk_at dksX4_behind_4 14 rfl rfl)
theorem dX4_behind_111 : decode cX4_behind 111 = .ok (.i2l, 1) := dk_133 (dk_at dksX4_behind_4 15 rfl rfl)
theorem dX4_behind_112 : decode cX4_behind 112 = .ok (.lmul, 1) := dk_105 (dk_at dksX4_behind_4 16 rfl rfl)
theorem dX4_behind_113 : decode cX4_behind 113 = .ok (.lstore 9, 2) := dk_55 9 (dk_at dksX4_behind_4 17 rfl rfl)
theorem dX4_behind_115 : decode cX4_behind 115 = .ok (.iinc 11 1, 3) := dk_132 11 1 (dk_at dksX4_behind_4 19 rfl rfl)
theorem dX4_behind_118 : decode cX4_behind 118 = .ok (.goto (-58), 3) := dk_167 255 198 (dk_at dksX4_behind_5 0 rfl rfl)
theorem dX4_behind_121 : decode cX4_behind 121 = .ok (.lload 6, 2) := dk_22 6 (dk_at dksX4_behind_5 3 rfl rfl)
theorem dX4_behind_123 : decode cX4_behind 123 = .ok (.lload 9, 2) := dk_22 9 (dk_at dksX4_behind_5 5 rfl rfl)
theorem dX4_behind_125 : decode cX4_behind 125 = .ok (.aload_n 0, 1) := dk_42 (dk_at dksX4_behind_5 7 rfl rfl)
theorem dX4_behind_126 : decode cX4_behind 126 = .ok (.iload_n 2, 1) := dk_28 (dk_at dksX4_behind_5 8 rfl rfl)
theorem dX4_behind_127 : decode cX4_behind 127 = .ok (.iload 8, 2) := dk_21 8 (dk_at dksX4_behind_5 9 rfl rfl)
theorem dX4_behind_129 : decode cX4_behind 129 = .ok (.iload 4, 2) := dk_21 4 (dk_at dksX4_behind_5 11 rfl rfl)
theorem dX4_behind_131 : decode cX4_behind 131 = .ok (.invokevirtual 364, 3) := dk_182 1 108 (dk_at dksX4_behind_5 13 rfl rfl)
theorem dX4_behind_134 : decode cX4_behind 134 = .ok (.i2l, 1) := dk_133 (dk_at dksX4_behind_5 16 rfl rfl)
theorem dX4_behind_135 : decode cX4_behind 135 = .ok (.lmul, 1) := dk_105 (dk_at dksX4_behind_5 17 rfl rfl)
theorem dX4_behind_136 : decode cX4_behind 136 = .ok (.ladd, 1) := dk_97 (dk_at dksX4_behind_5 18 rfl rfl)
theorem dX4_behind_137 : decode cX4_behind 137 = .ok (.lstore 6, 2) := dk_55 6 (dk_at dksX4_behind_5 19 rfl rfl)
theorem dX4_behind_139 : decode cX4_behind 139 = .ok (.iinc 8 1, 3) := dk_132 8 1 (dk_at dksX4_behind_5 21 rfl rfl)
theorem dX4_behind_142 : decode cX4_behind 142 = .ok (.goto (-106), 3) := dk_167 255 150 (dk_at dksX4_behind_6 0 rfl rfl)
theorem dX4_behind_145 : decode cX4_behind 145 = .ok (.iconst 1, 1) := dk_4 (dk_at dksX4_behind_6 3 rfl rfl)
theorem dX4_behind_146 : decode cX4_behind 146 = .ok (.istore 8, 2) := dk_54 8 (dk_at dksX4_behind_6 4 rfl rfl)
theorem dX4_behind_148 : decode cX4_behind 148 = .ok (.iconst 0, 1) := dk_3 (dk_at dksX4_behind_6 6 rfl rfl)
theorem dX4_behind_149 : decode cX4_behind 149 = .ok (.istore 9, 2) := dk_54 9 (dk_at dksX4_behind_6 7 rfl rfl)
theorem dX4_behind_151 : decode cX4_behind 151 = .ok (.iload 9, 2) := dk_21 9 (dk_at dksX4_behind_6 9 rfl rfl)
theorem dX4_behind_153 : decode cX4_behind 153 = .ok (.aload_n 0, 1) := dk_42 (dk_at dksX4_behind_6 11 rfl rfl)
theorem dX4_behind_154 : decode cX4_behind 154 = .ok (.getfield 263, 3) := dk_180 1 7 (dk_at dksX4_behind_6 12 rfl rfl)
theorem dX4_behind_157 : decode cX4_behind 157 = .ok (.if_icmp .ge 25, 3) := dk_162 0 25 (dk_at dksX4_behind_6 15 rfl rfl)
theorem dX4_behind_160 : decode cX4_behind 160 = .ok (.iload_n 3, 1) := dk_29 (dk_at dksX4_behind_6 18 rfl rfl)
theorem dX4_behind_161 : decode cX4_behind 161 = .ok (.iload 9, 2) := dk_21 9 (dk_at dksX4_behind_6 19 rfl rfl)
theorem dX4_behind_163 : decode cX4_behind 163 = .ok (.invokestatic 295, 3) := dk_184 1 39 (dk_at dksX4_behind_6 21 rfl rfl)
theorem dX4_behind_166 : decode cX4_behind 166 = .ok (.ifCond .eq 10, 3) := dk_153 0 10 (dk_at dksX4_behind_7 0 rfl rfl)
theorem dX4_behind_169 : decode cX4_behind 169 = .ok (.iload 8, 2) := dk_21 8 (dk_at dksX4_behind_7 3 rfl rfl)
theorem dX4_behind_171 : decode cX4_behind 171 = .ok (.bipush 16, 2) := dk_16 16 (dk_at dksX4_behind_7 5 rfl rfl)
theorem dX4_behind_173 : decode cX4_behind 173 = .ok (.imul, 1) := dk_104 (dk_at dksX4_behind_7 7 rfl rfl)
theorem dX4_behind_174 : decode cX4_behind 174 = .ok (.istore 8, 2) := dk_54 8 (dk_at dksX4_behind_7 8 rfl rfl)
theorem dX4_behind_176 : decode cX4_behind 176 = .ok (.iinc 9 1, 3) := dk_132 9 1 (dk_at dksX4_behind_7 10 rfl rfl)
theorem dX4_behind_179 : decode cX4_behind 179 = .ok (.goto (-28), 3) := dk_167 255 228 (dk_at dksX4_behind_7 13 rfl rfl)
theorem dX4_behind_182 : decode cX4_behind 182 = .ok (.lload 6, 2) := dk_22 6 (dk_at dksX4_behind_7 16 rfl rfl)
theorem dX4_behind_184 : decode cX4_behind 184 = .ok (.iload 8, 2) := dk_21 8 (dk_at dksX4_behind_7 18 rfl rfl)
theorem dX4_behind_186 : decode cX4_behind 186 = .ok (.i2l, 1) := dk_133 (dk_at dksX4_behind_7 20 rfl rfl)
theorem dX4_behind_187 : decode cX4_behind 187 = .ok (.ldiv, 1) := dk_109 (dk_at dksX4_behind_7 21 rfl rfl)
theorem dX4_behind_188 : decode cX4_behind 188 = .ok (.l2i, 1) := dk_136 (dk_at dksX4_behind_7 22 rfl rfl)
theorem dX4_behind_189 : decode cX4_behind 189 = .ok (.ireturn, 1) := dk_172 (dk_at dksX4_behind_7 23 rfl rfl)
def dkwX4_meanAt_0 : List UInt8 := [42, 180, 0, 122, 27, 16, 8, 104, 28, 96, 17, 4, 0, 104, 29, 96, 46, 172]
abbrev dktX4_meanAt_0 : List UInt8 := dkwX4_meanAt_0 ++ []
theorem dksX4_meanAt_0 : cX4_meanAt.data.toList.drop 0 = dktX4_meanAt_0 := by decide +kernel
theorem dX4_meanAt_0 : decode cX4_meanAt 0 = .ok (.aload_n 0, 1) := dk_42 (dk_at dksX4_meanAt_0 0 rfl rfl)
theorem dX4_meanAt_1 : decode cX4_meanAt 1 = .ok (.getfield 122, 3) := dk_180 0 122 (dk_at dksX4_meanAt_0 1 rfl rfl)
theorem dX4_meanAt_4 : decode cX4_meanAt 4 = .ok (.iload_n 1, 1) := dk_27 (dk_at dksX4_meanAt_0 4 rfl rfl)
theorem dX4_meanAt_5 : decode cX4_meanAt 5 = .ok (.bipush 8, 2) := dk_16 8 (dk_at dksX4_meanAt_0 5 rfl rfl)
theorem dX4_meanAt_7 : decode cX4_meanAt 7 = .ok (.imul, 1) := dk_104 (dk_at dksX4_meanAt_0 7 rfl rfl)
theorem dX4_meanAt_8 : decode cX4_meanAt 8 = .ok (.iload_n 2, 1) := dk_28 (dk_at dksX4_meanAt_0 8 rfl rfl)
theorem dX4_meanAt_9 : decode cX4_meanAt 9 = .ok (.iadd, 1) := dk_96 (dk_at dksX4_meanAt_0 9 rfl rfl)
theorem dX4_meanAt_10 : decode cX4_meanAt 10 = .ok (.sipush 1024, 3) := dk_17 4 0 (dk_at dksX4_meanAt_0 10 rfl rfl)
theorem dX4_meanAt_13 : decode cX4_meanAt 13 = .ok (.imul, 1) := dk_104 (dk_at dksX4_meanAt_0 13 rfl rfl)
theorem dX4_meanAt_14 : decode cX4_meanAt 14 = .ok (.iload_n 3, 1) := dk_29 (dk_at dksX4_meanAt_0 14 rfl rfl)
theorem dX4_meanAt_15 : decode cX4_meanAt 15 = .ok (.iadd, 1) := dk_96 (dk_at dksX4_meanAt_0 15 rfl rfl)
theorem dX4_meanAt_16 : decode cX4_meanAt 16 = .ok (.iaload, 1) := dk_46 (dk_at dksX4_meanAt_0 16 rfl rfl)
theorem dX4_meanAt_17 : decode cX4_meanAt 17 = .ok (.ireturn, 1) := dk_172 (dk_at dksX4_meanAt_0 17 rfl rfl)
def dkwX4_next_4 : List UInt8 := [167, 255, 186, 28, 172]
abbrev dktX4_next_4 : List UInt8 := dkwX4_next_4 ++ []
def dkwX4_next_3 : List UInt8 := [167, 0, 15, 21, 6, 62, 16, 10, 21, 4, 104, 21, 5, 96, 61, 132, 5, 1, 167, 255, 204, 132, 4, 1]
abbrev dktX4_next_3 : List UInt8 := dkwX4_next_3 ++ dktX4_next_4
def dkwX4_next_2 : List UInt8 := [180, 1, 21, 42, 180, 1, 15, 21, 4, 21, 5, 182, 1, 116, 54, 6, 21, 6, 29, 163, 0, 6]
abbrev dktX4_next_2 : List UInt8 := dkwX4_next_2 ++ dktX4_next_3
def dkwX4_next_1 : List UInt8 := [42, 180, 1, 7, 162, 0, 67, 3, 54, 5, 21, 5, 42, 180, 1, 4, 162, 0, 49, 42, 27, 42]
abbrev dktX4_next_1 : List UInt8 := dkwX4_next_1 ++ dktX4_next_2
def dkwX4_next_0 : List UInt8 := [42, 27, 182, 1, 125, 154, 0, 5, 2, 172, 42, 27, 182, 1, 128, 2, 61, 2, 62, 3, 54, 4, 21, 4]
abbrev dktX4_next_0 : List UInt8 := dkwX4_next_0 ++ dktX4_next_1
theorem dksX4_next_0 : cX4_next.data.toList.drop 0 = dktX4_next_0 := by decide +kernel
theorem dksX4_next_1 : cX4_next.data.toList.drop 24 = dktX4_next_1 := dk_seg dksX4_next_0 24 rfl rfl
theorem dksX4_next_2 : cX4_next.data.toList.drop 46 = dktX4_next_2 := dk_seg dksX4_next_1 22 rfl rfl
theorem dksX4_next_3 : cX4_next.data.toList.drop 68 = dktX4_next_3 := dk_seg dksX4_next_2 22 rfl rfl
theorem dksX4_next_4 : cX4_next.data.toList.drop 92 = dktX4_next_4 := dk_seg dksX4_next_3 24 rfl rfl
theorem dX4_next_0 : decode cX4_next 0 = .ok (.aload_n 0, 1) := dk_42 (dk_at dksX4_next_0 0 rfl rfl)
theorem dX4_next_1 : decode cX4_next 1 = .ok (.iload_n 1, 1) := dk_27 (dk_at dksX4_next_0 1 rfl rfl)
theorem dX4_next_2 : decode cX4_next 2 = .ok (.invokevirtual 381, 3) := dk_182 1 125 (dk_at dksX4_next_0 2 rfl rfl)
theorem dX4_next_5 : decode cX4_next 5 = .ok (.ifCond .ne 5, 3) := dk_154 0 5 (dk_at dksX4_next_0 5 rfl rfl)
theorem dX4_next_8 : decode cX4_next 8 = .ok (.iconst (-1), 1) := dk_2 (dk_at dksX4_next_0 8 rfl rfl)
theorem dX4_next_9 : decode cX4_next 9 = .ok (.ireturn, 1) := dk_172 (dk_at dksX4_next_0 9 rfl rfl)
theorem dX4_next_10 : decode cX4_next 10 = .ok (.aload_n 0, 1) := dk_42 (dk_at dksX4_next_0 10 rfl rfl)
theorem dX4_next_11 : decode cX4_next 11 = .ok (.iload_n 1, 1) := dk_27 (dk_at dksX4_next_0 11 rfl rfl)
theorem dX4_next_12 : decode cX4_next 12 = .ok (.invokevirtual 384, 3) := dk_182 1 128 (dk_at dksX4_next_0 12 rfl rfl)
theorem dX4_next_15 : decode cX4_next 15 = .ok (.iconst (-1), 1) := dk_2 (dk_at dksX4_next_0 15 rfl rfl)
theorem dX4_next_16 : decode cX4_next 16 = .ok (.istore_n 2, 1) := dk_61 (dk_at dksX4_next_0 16 rfl rfl)
theorem dX4_next_17 : decode cX4_next 17 = .ok (.iconst (-1), 1) := dk_2 (dk_at dksX4_next_0 17 rfl rfl)
theorem dX4_next_18 : decode cX4_next 18 = .ok (.istore_n 3, 1) := dk_62 (dk_at dksX4_next_0 18 rfl rfl)
theorem dX4_next_19 : decode cX4_next 19 = .ok (.iconst 0, 1) := dk_3 (dk_at dksX4_next_0 19 rfl rfl)
theorem dX4_next_20 : decode cX4_next 20 = .ok (.istore 4, 2) := dk_54 4 (dk_at dksX4_next_0 20 rfl rfl)
theorem dX4_next_22 : decode cX4_next 22 = .ok (.iload 4, 2) := dk_21 4 (dk_at dksX4_next_0 22 rfl rfl)
theorem dX4_next_24 : decode cX4_next 24 = .ok (.aload_n 0, 1) := dk_42 (dk_at dksX4_next_1 0 rfl rfl)
theorem dX4_next_25 : decode cX4_next 25 = .ok (.getfield 263, 3) := dk_180 1 7 (dk_at dksX4_next_1 1 rfl rfl)
theorem dX4_next_28 : decode cX4_next 28 = .ok (.if_icmp .ge 67, 3) := dk_162 0 67 (dk_at dksX4_next_1 4 rfl rfl)
theorem dX4_next_31 : decode cX4_next 31 = .ok (.iconst 0, 1) := dk_3 (dk_at dksX4_next_1 7 rfl rfl)
theorem dX4_next_32 : decode cX4_next 32 = .ok (.istore 5, 2) := dk_54 5 (dk_at dksX4_next_1 8 rfl rfl)
theorem dX4_next_34 : decode cX4_next 34 = .ok (.iload 5, 2) := dk_21 5 (dk_at dksX4_next_1 10 rfl rfl)
theorem dX4_next_36 : decode cX4_next 36 = .ok (.aload_n 0, 1) := dk_42 (dk_at dksX4_next_1 12 rfl rfl)
theorem dX4_next_37 : decode cX4_next 37 = .ok (.getfield 260, 3) := dk_180 1 4 (dk_at dksX4_next_1 13 rfl rfl)
theorem dX4_next_40 : decode cX4_next 40 = .ok (.if_icmp .ge 49, 3) := dk_162 0 49 (dk_at dksX4_next_1 16 rfl rfl)
theorem dX4_next_43 : decode cX4_next 43 = .ok (.aload_n 0, 1) := dk_42 (dk_at dksX4_next_1 19 rfl rfl)
theorem dX4_next_44 : decode cX4_next 44 = .ok (.iload_n 1, 1) := dk_27 (dk_at dksX4_next_1 20 rfl rfl)
theorem dX4_next_45 : decode cX4_next 45 = .ok (.aload_n 0, 1) := dk_42 (dk_at dksX4_next_1 21 rfl rfl)
theorem dX4_next_46 : decode cX4_next 46 = .ok (.getfield 277, 3) := dk_180 1 21 (dk_at dksX4_next_2 0 rfl rfl)
theorem dX4_next_49 : decode cX4_next 49 = .ok (.aload_n 0, 1) := dk_42 (dk_at dksX4_next_2 3 rfl rfl)
theorem dX4_next_50 : decode cX4_next 50 = .ok (.getfield 271, 3) := dk_180 1 15 (dk_at dksX4_next_2 4 rfl rfl)
theorem dX4_next_53 : decode cX4_next 53 = .ok (.iload 4, 2) := dk_21 4 (dk_at dksX4_next_2 7 rfl rfl)
theorem dX4_next_55 : decode cX4_next 55 = .ok (.iload 5, 2) := dk_21 5 (dk_at dksX4_next_2 9 rfl rfl)
theorem dX4_next_57 : decode cX4_next 57 = .ok (.invokevirtual 372, 3) := dk_182 1 116 (dk_at dksX4_next_2 11 rfl rfl)
theorem dX4_next_60 : decode cX4_next 60 = .ok (.istore 6, 2) := dk_54 6 (dk_at dksX4_next_2 14 rfl rfl)
theorem dX4_next_62 : decode cX4_next 62 = .ok (.iload 6, 2) := dk_21 6 (dk_at dksX4_next_2 16 rfl rfl)
theorem dX4_next_64 : decode cX4_next 64 = .ok (.iload_n 3, 1) := dk_29 (dk_at dksX4_next_2 18 rfl rfl)
theorem dX4_next_65 : decode cX4_next 65 = .ok (.if_icmp .gt 6, 3) := dk_163 0 6 (dk_at dksX4_next_2 19 rfl rfl)
theorem dX4_next_68 : decode cX4_next 68 = .ok (.goto 15, 3) := dk_167 0 15 (dk_at dksX4_next_3 0 rfl rfl)
theorem dX4_next_71 : decode cX4_next 71 = .ok (.iload 6, 2) := dk_21 6 (dk_at dksX4_next_3 3 rfl rfl)
theorem dX4_next_73 : decode cX4_next 73 = .ok (.istore_n 3, 1) := dk_62 (dk_at dksX4_next_3 5 rfl rfl)
theorem dX4_next_74 : decode cX4_next 74 = .ok (.bipush 10, 2) := dk_16 10 (dk_at dksX4_next_3 6 rfl rfl)
theorem dX4_next_76 : decode cX4_next 76 = .ok (.iload 4, 2) := dk_21 4 (dk_at dksX4_next_3 8 rfl rfl)
theorem dX4_next_78 : decode cX4_next 78 = .ok (.imul, 1) := dk_104 (dk_at dksX4_next_3 10 rfl rfl)
theorem dX4_next_79 : decode cX4_next 79 = .ok (.iload 5, 2) := dk_21 5 (dk_at dksX4_next_3 11 rfl rfl)
theorem dX4_next_81 : decode cX4_next 81 = .ok (.iadd, 1) := dk_96 (dk_at dksX4_next_3 13 rfl rfl)
theorem dX4_next_82 : decode cX4_next 82 = .ok (.istore_n 2, 1) := dk_61 (dk_at dksX4_next_3 14 rfl rfl)
theorem dX4_next_83 : decode cX4_next 83 = .ok (.iinc 5 1, 3) := dk_132 5 1 (dk_at dksX4_next_3 15 rfl rfl)
theorem dX4_next_86 : decode cX4_next 86 = .ok (.goto (-52), 3) := dk_167 255 204 (dk_at dksX4_next_3 18 rfl rfl)
theorem dX4_next_89 : decode cX4_next 89 = .ok (.iinc 4 1, 3) := dk_132 4 1 (dk_at dksX4_next_3 21 rfl rfl)
theorem dX4_next_92 : decode cX4_next 92 = .ok (.goto (-70), 3) := dk_167 255 186 (dk_at dksX4_next_4 0 rfl rfl)
theorem dX4_next_95 : decode cX4_next 95 = .ok (.iload_n 2, 1) := dk_28 (dk_at dksX4_next_4 3 rfl rfl)
theorem dX4_next_96 : decode cX4_next 96 = .ok (.ireturn, 1) := dk_172 (dk_at dksX4_next_4 4 rfl rfl)
def dkwX4_plan_2 : List UInt8 := [79, 42, 89, 180, 1, 36, 4, 96, 181, 1, 36, 42, 180, 1, 36, 172]
abbrev dktX4_plan_2 : List UInt8 := dkwX4_plan_2 ++ []
def dkwX4_plan_1 : List UInt8 := [160, 0, 5, 2, 172, 42, 180, 0, 66, 42, 180, 1, 36, 27, 79, 42, 180, 0, 69, 42, 180, 1, 36, 28]
abbrev dktX4_plan_1 : List UInt8 := dkwX4_plan_1 ++ dktX4_plan_2
def dkwX4_plan_0 : List UInt8 := [42, 27, 182, 1, 52, 153, 0, 20, 42, 28, 182, 1, 46, 153, 0, 12, 42, 180, 1, 36, 16, 8]
abbrev dktX4_plan_0 : List UInt8 := dkwX4_plan_0 ++ dktX4_plan_1
theorem dksX4_plan_0 : cX4_plan.data.toList.drop 0 = dktX4_plan_0 := by decide +kernel
theorem dksX4_plan_1 : cX4_plan.data.toList.drop 22 = dktX4_plan_1 := dk_seg dksX4_plan_0 22 rfl rfl
theorem dksX4_plan_2 : cX4_plan.data.toList.drop 46 = dktX4_plan_2 := dk_seg dksX4_plan_1 24 rfl rfl
theorem dX4_plan_0 : decode cX4_plan 0 = .ok (.aload_n 0, 1) := dk_42 (dk_at dksX4_plan_0 0 rfl rfl)
theorem dX4_plan_1 : decode cX4_plan 1 = .ok (.iload_n 1, 1) := dk_27 (dk_at dksX4_plan_0 1 rfl rfl)
theorem dX4_plan_2 : decode cX4_plan 2 = .ok (.invokevirtual 308, 3) := dk_182 1 52 (dk_at dksX4_plan_0 2 rfl rfl)
theorem dX4_plan_5 : decode cX4_plan 5 = .ok (.ifCond .eq 20, 3) := dk_153 0 20 (dk_at dksX4_plan_0 5 rfl rfl)
theorem dX4_plan_8 : decode cX4_plan 8 = .ok (.aload_n 0, 1) := dk_42 (dk_at dksX4_plan_0 8 rfl rfl)
theorem dX4_plan_9 : decode cX4_plan 9 = .ok (.iload_n 2, 1) := dk_28 (dk_at dksX4_plan_0 9 rfl rfl)
theorem dX4_plan_10 : decode cX4_plan 10 = .ok (.invokevirtual 302, 3) := dk_182 1 46 (dk_at dksX4_plan_0 10 rfl rfl)
theorem dX4_plan_13 : decode cX4_plan 13 = .ok (.ifCond .eq 12, 3) := dk_153 0 12 (dk_at dksX4_plan_0 13 rfl rfl)
theorem dX4_plan_16 : decode cX4_plan 16 = .ok (.aload_n 0, 1) := dk_42 (dk_at dksX4_plan_0 16 rfl rfl)
theorem dX4_plan_17 : decode cX4_plan 17 = .ok (.getfield 292, 3) := dk_180 1 36 (dk_at dksX4_plan_0 17 rfl rfl)
theorem dX4_plan_20 : decode cX4_plan 20 = .ok (.bipush 8, 2) := dk_16 8 (dk_at dksX4_plan_0 20 rfl rfl)
theorem dX4_plan_22 : decode cX4_plan 22 = .ok (.if_icmp .ne 5, 3) := dk_160 0 5 (dk_at dksX4_plan_1 0 rfl rfl)
theorem dX4_plan_25 : decode cX4_plan 25 = .ok (.iconst (-1), 1) := dk_2 (dk_at dksX4_plan_1 3 rfl rfl)
theorem dX4_plan_26 : decode cX4_plan 26 = .ok (.ireturn, 1) := dk_172 (dk_at dksX4_plan_1 4 rfl rfl)
theorem dX4_plan_27 : decode cX4_plan 27 = .ok (.aload_n 0, 1) := dk_42 (dk_at dksX4_plan_1 5 rfl rfl)
theorem dX4_plan_28 : decode cX4_plan 28 = .ok (.getfield 66, 3) := dk_180 0 66 (dk_at dksX4_plan_1 6 rfl rfl)
theorem dX4_plan_31 : decode cX4_plan 31 = .ok (.aload_n 0, 1) := dk_42 (dk_at dksX4_plan_1 9 rfl rfl)
theorem dX4_plan_32 : decode cX4_plan 32 = .ok (.getfield 292, 3) := dk_180 1 36 (dk_at dksX4_plan_1 10 rfl rfl)
theorem dX4_plan_35 : decode cX4_plan 35 = .ok (.iload_n 1, 1) := dk_27 (dk_at dksX4_plan_1 13 rfl rfl)
theorem dX4_plan_36 : decode cX4_plan 36 = .ok (.iastore, 1) := dk_79 (dk_at dksX4_plan_1 14 rfl rfl)
theorem dX4_plan_37 : decode cX4_plan 37 = .ok (.aload_n 0, 1) := dk_42 (dk_at dksX4_plan_1 15 rfl rfl)
theorem dX4_plan_38 : decode cX4_plan 38 = .ok (.getfield 69, 3) := dk_180 0 69 (dk_at dksX4_plan_1 16 rfl rfl)
theorem dX4_plan_41 : decode cX4_plan 41 = .ok (.aload_n 0, 1) := dk_42 (dk_at dksX4_plan_1 19 rfl rfl)
theorem dX4_plan_42 : decode cX4_plan 42 = .ok (.getfield 292, 3) := dk_180 1 36 (dk_at dksX4_plan_1 20 rfl rfl)
theorem dX4_plan_45 : decode cX4_plan 45 = .ok (.iload_n 2, 1) := dk_28 (dk_at dksX4_plan_1 23 rfl rfl)
theorem dX4_plan_46 : decode cX4_plan 46 = .ok (.iastore, 1) := dk_79 (dk_at dksX4_plan_2 0 rfl rfl)
theorem dX4_plan_47 : decode cX4_plan 47 = .ok (.aload_n 0, 1) := dk_42 (dk_at dksX4_plan_2 1 rfl rfl)
theorem dX4_plan_48 : decode cX4_plan 48 = .ok (.dup, 1) := dk_89 (dk_at dksX4_plan_2 2 rfl rfl)
theorem dX4_plan_49 : decode cX4_plan 49 = .ok (.getfield 292, 3) := dk_180 1 36 (dk_at dksX4_plan_2 3 rfl rfl)
theorem dX4_plan_52 : decode cX4_plan 52 = .ok (.iconst 1, 1) := dk_4 (dk_at dksX4_plan_2 6 rfl rfl)
theorem dX4_plan_53 : decode cX4_plan 53 = .ok (.iadd, 1) := dk_96 (dk_at dksX4_plan_2 7 rfl rfl)
theorem dX4_plan_54 : decode cX4_plan 54 = .ok (.putfield 292, 3) := dk_181 1 36 (dk_at dksX4_plan_2 8 rfl rfl)
theorem dX4_plan_57 : decode cX4_plan 57 = .ok (.aload_n 0, 1) := dk_42 (dk_at dksX4_plan_2 11 rfl rfl)
theorem dX4_plan_58 : decode cX4_plan 58 = .ok (.getfield 292, 3) := dk_180 1 36 (dk_at dksX4_plan_2 12 rfl rfl)
theorem dX4_plan_61 : decode cX4_plan 61 = .ok (.ireturn, 1) := dk_172 (dk_at dksX4_plan_2 15 rfl rfl)
def dkwX4_clear_0 : List UInt8 := [42, 180, 1, 36, 60, 42, 3, 181, 1, 36, 27, 172]
abbrev dktX4_clear_0 : List UInt8 := dkwX4_clear_0 ++ []
theorem dksX4_clear_0 : cX4_clear.data.toList.drop 0 = dktX4_clear_0 := by decide +kernel
theorem dX4_clear_0 : decode cX4_clear 0 = .ok (.aload_n 0, 1) := dk_42 (dk_at dksX4_clear_0 0 rfl rfl)
theorem dX4_clear_1 : decode cX4_clear 1 = .ok (.getfield 292, 3) := dk_180 1 36 (dk_at dksX4_clear_0 1 rfl rfl)
theorem dX4_clear_4 : decode cX4_clear 4 = .ok (.istore_n 1, 1) := dk_60 (dk_at dksX4_clear_0 4 rfl rfl)
theorem dX4_clear_5 : decode cX4_clear 5 = .ok (.aload_n 0, 1) := dk_42 (dk_at dksX4_clear_0 5 rfl rfl)
theorem dX4_clear_6 : decode cX4_clear 6 = .ok (.iconst 0, 1) := dk_3 (dk_at dksX4_clear_0 6 rfl rfl)
theorem dX4_clear_7 : decode cX4_clear 7 = .ok (.putfield 292, 3) := dk_181 1 36 (dk_at dksX4_clear_0 7 rfl rfl)
theorem dX4_clear_10 : decode cX4_clear 10 = .ok (.iload_n 1, 1) := dk_27 (dk_at dksX4_clear_0 10 rfl rfl)
theorem dX4_clear_11 : decode cX4_clear 11 = .ok (.ireturn, 1) := dk_172 (dk_at dksX4_clear_0 11 rfl rfl)
def dkwX4_judge_1 : List UInt8 := [42, 182, 1, 135, 167, 0, 7, 42, 182, 1, 138, 172]
abbrev dktX4_judge_1 : List UInt8 := dkwX4_judge_1 ++ []
def dkwX4_judge_0 : List UInt8 := [42, 180, 1, 4, 153, 0, 12, 27, 3, 4, 184, 0, 135, 154, 0, 7, 2, 167, 0, 18, 27, 154, 0, 10]
abbrev dktX4_judge_0 : List UInt8 := dkwX4_judge_0 ++ dktX4_judge_1
theorem dksX4_judge_0 : cX4_judge.data.toList.drop 0 = dktX4_judge_0 := by decide +kernel
theorem dksX4_judge_1 : cX4_judge.data.toList.drop 24 = dktX4_judge_1 := dk_seg dksX4_judge_0 24 rfl rfl
theorem dX4_judge_0 : decode cX4_judge 0 = .ok (.aload_n 0, 1) := dk_42 (dk_at dksX4_judge_0 0 rfl rfl)
theorem dX4_judge_1 : decode cX4_judge 1 = .ok (.getfield 260, 3) := dk_180 1 4 (dk_at dksX4_judge_0 1 rfl rfl)
theorem dX4_judge_4 : decode cX4_judge 4 = .ok (.ifCond .eq 12, 3) := dk_153 0 12 (dk_at dksX4_judge_0 4 rfl rfl)
theorem dX4_judge_7 : decode cX4_judge 7 = .ok (.iload_n 1, 1) := dk_27 (dk_at dksX4_judge_0 7 rfl rfl)
theorem dX4_judge_8 : decode cX4_judge 8 = .ok (.iconst 0, 1) := dk_3 (dk_at dksX4_judge_0 8 rfl rfl)
theorem dX4_judge_9 : decode cX4_judge 9 = .ok (.iconst 1, 1) := dk_4 (dk_at dksX4_judge_0 9 rfl rfl)
theorem dX4_judge_10 : decode cX4_judge 10 = .ok (.invokestatic 135, 3) := dk_184 0 135 (dk_at dksX4_judge_0 10 rfl rfl)
theorem dX4_judge_13 : decode cX4_judge 13 = .ok (.ifCond .ne 7, 3) := dk_154 0 7 (dk_at dksX4_judge_0 13 rfl rfl)
theorem dX4_judge_16 : decode cX4_judge 16 = .ok (.iconst (-1), 1) := dk_2 (dk_at dksX4_judge_0 16 rfl rfl)
theorem dX4_judge_17 : decode cX4_judge 17 = .ok (.goto 18, 3) := dk_167 0 18 (dk_at dksX4_judge_0 17 rfl rfl)
theorem dX4_judge_20 : decode cX4_judge 20 = .ok (.iload_n 1, 1) := dk_27 (dk_at dksX4_judge_0 20 rfl rfl)
theorem dX4_judge_21 : decode cX4_judge 21 = .ok (.ifCond .ne 10, 3) := dk_154 0 10 (dk_at dksX4_judge_0 21 rfl rfl)
theorem dX4_judge_24 : decode cX4_judge 24 = .ok (.aload_n 0, 1) := dk_42 (dk_at dksX4_judge_1 0 rfl rfl)
theorem dX4_judge_25 : decode cX4_judge 25 = .ok (.invokevirtual 391, 3) := dk_182 1 135 (dk_at dksX4_judge_1 1 rfl rfl)
theorem dX4_judge_28 : decode cX4_judge 28 = .ok (.goto 7, 3) := dk_167 0 7 (dk_at dksX4_judge_1 4 rfl rfl)
theorem dX4_judge_31 : decode cX4_judge 31 = .ok (.aload_n 0, 1) := dk_42 (dk_at dksX4_judge_1 7 rfl rfl)
theorem dX4_judge_32 : decode cX4_judge 32 = .ok (.invokevirtual 394, 3) := dk_182 1 138 (dk_at dksX4_judge_1 8 rfl rfl)
theorem dX4_judge_35 : decode cX4_judge 35 = .ok (.ireturn, 1) := dk_172 (dk_at dksX4_judge_1 11 rfl rfl)
def dkwX4_meanOfRow_14 : List UInt8 := [97, 66, 132, 5, 1, 167, 255, 227, 20, 1, 133, 33, 105, 31, 109, 136, 172]
abbrev dktX4_meanOfRow_14 : List UInt8 := dkwX4_meanOfRow_14 ++ []
def dkwX4_meanOfRow_13 : List UInt8 := [21, 5, 17, 4, 0, 162, 0, 27, 33, 42, 180, 0, 125, 21, 5, 47, 42, 21, 5, 182, 1, 83, 133, 105]
abbrev dktX4_meanOfRow_13 : List UInt8 := dkwX4_meanOfRow_13 ++ dktX4_meanOfRow_14
def dkwX4_meanOfRow_12 : List UInt8 := [132, 7, 1, 167, 255, 231, 31, 20, 1, 131, 105, 64, 132, 3, 1, 167, 255, 1, 9, 66, 3, 54, 5]
abbrev dktX4_meanOfRow_12 : List UInt8 := dkwX4_meanOfRow_12 ++ dktX4_meanOfRow_13
def dkwX4_meanOfRow_11 : List UInt8 := [21, 7, 17, 4, 0, 162, 0, 23, 42, 180, 0, 125, 21, 7, 42, 180, 0, 128, 21, 7, 47, 80]
abbrev dktX4_meanOfRow_11 : List UInt8 := dkwX4_meanOfRow_11 ++ dktX4_meanOfRow_12
def dkwX4_meanOfRow_10 : List UInt8 := [21, 8, 100, 133, 42, 180, 0, 125, 21, 7, 47, 105, 97, 80, 132, 7, 1, 167, 255, 126, 3, 54, 7]
abbrev dktX4_meanOfRow_10 : List UInt8 := dkwX4_meanOfRow_10 ++ dktX4_meanOfRow_11
def dkwX4_meanOfRow_9 : List UInt8 := [21, 8, 133, 42, 180, 0, 125, 21, 7, 47, 105, 97, 80, 42, 180, 0, 128, 21, 7, 92, 47, 16, 16]
abbrev dktX4_meanOfRow_9 : List UInt8 := dkwX4_meanOfRow_9 ++ dktX4_meanOfRow_10
def dkwX4_meanOfRow_8 : List UInt8 := [167, 0, 4, 3, 54, 8, 42, 180, 0, 128, 42, 21, 7, 4, 21, 5, 120, 128, 2, 182, 1, 62, 92, 47]
abbrev dktX4_meanOfRow_8 : List UInt8 := dkwX4_meanOfRow_8 ++ dktX4_meanOfRow_9
def dkwX4_meanOfRow_7 : List UInt8 := [46, 21, 7, 126, 42, 180, 0, 48, 21, 5, 46, 160, 0, 14, 42, 21, 4, 21, 5, 182, 1, 55]
abbrev dktX4_meanOfRow_7 : List UInt8 := dkwX4_meanOfRow_7 ++ dktX4_meanOfRow_8
def dkwX4_meanOfRow_6 : List UInt8 := [167, 0, 107, 21, 6, 153, 0, 44, 21, 7, 21, 5, 184, 1, 39, 154, 0, 34, 42, 180, 0, 48, 21, 5]
abbrev dktX4_meanOfRow_6 : List UInt8 := dkwX4_meanOfRow_6 ++ dktX4_meanOfRow_7
def dkwX4_meanOfRow_5 : List UInt8 := [54, 7, 21, 7, 17, 4, 0, 162, 0, 128, 42, 180, 0, 125, 21, 7, 47, 9, 148, 154, 0, 6]
abbrev dktX4_meanOfRow_5 : List UInt8 := dkwX4_meanOfRow_5 ++ dktX4_meanOfRow_6
def dkwX4_meanOfRow_4 : List UInt8 := [21, 7, 17, 4, 0, 162, 0, 17, 42, 180, 0, 128, 21, 7, 9, 80, 132, 7, 1, 167, 255, 237, 3]
abbrev dktX4_meanOfRow_4 : List UInt8 := dkwX4_meanOfRow_4 ++ dktX4_meanOfRow_5
def dkwX4_meanOfRow_3 : List UInt8 := [153, 0, 18, 42, 21, 4, 21, 5, 182, 1, 55, 158, 0, 7, 4, 167, 0, 4, 3, 54, 6, 3, 54, 7]
abbrev dktX4_meanOfRow_3 : List UInt8 := dkwX4_meanOfRow_3 ++ dktX4_meanOfRow_4
def dkwX4_meanOfRow_2 : List UInt8 := [180, 0, 66, 29, 46, 54, 4, 42, 180, 0, 69, 29, 46, 54, 5, 42, 180, 1, 21, 21, 4, 184, 1, 39]
abbrev dktX4_meanOfRow_2 : List UInt8 := dkwX4_meanOfRow_2 ++ dktX4_meanOfRow_3
def dkwX4_meanOfRow_1 : List UInt8 := [167, 0, 4, 9, 80, 132, 1, 1, 167, 255, 227, 10, 64, 3, 62, 29, 42, 180, 1, 36, 162, 0, 253, 42]
abbrev dktX4_meanOfRow_1 : List UInt8 := dkwX4_meanOfRow_1 ++ dktX4_meanOfRow_2
def dkwX4_meanOfRow_0 : List UInt8 := [3, 60, 27, 17, 4, 0, 162, 0, 28, 42, 180, 0, 125, 27, 27, 42, 180, 1, 15, 160, 0, 7, 10]
abbrev dktX4_meanOfRow_0 : List UInt8 := dkwX4_meanOfRow_0 ++ dktX4_meanOfRow_1
theorem dksX4_meanOfRow_0 : cX4_meanOfRow.data.toList.drop 0 = dktX4_meanOfRow_0 := by decide +kernel
theorem dksX4_meanOfRow_1 : cX4_meanOfRow.data.toList.drop 23 = dktX4_meanOfRow_1 := dk_seg dksX4_meanOfRow_0 23 rfl rfl
theorem dksX4_meanOfRow_2 : cX4_meanOfRow.data.toList.drop 47 = dktX4_meanOfRow_2 := dk_seg dksX4_meanOfRow_1 24 rfl rfl
theorem dksX4_meanOfRow_3 : cX4_meanOfRow.data.toList.drop 71 = dktX4_meanOfRow_3 := dk_seg dksX4_meanOfRow_2 24 rfl rfl
theorem dksX4_meanOfRow_4 : cX4_meanOfRow.data.toList.drop 95 = dktX4_meanOfRow_4 := dk_seg dksX4_meanOfRow_3 24 rfl rfl
theorem dksX4_meanOfRow_5 : cX4_meanOfRow.data.toList.drop 118 = dktX4_meanOfRow_5 := dk_seg dksX4_meanOfRow_4 23 rfl rfl
theorem dksX4_meanOfRow_6 : cX4_meanOfRow.data.toList.drop 140 = dktX4_meanOfRow_6 := dk_seg dksX4_meanOfRow_5 22 rfl rfl
theorem dksX4_meanOfRow_7 : cX4_meanOfRow.data.toList.drop 164 = dktX4_meanOfRow_7 := dk_seg dksX4_meanOfRow_6 24 rfl rfl
theorem dksX4_meanOfRow_8 : cX4_meanOfRow.data.toList.drop 186 = dktX4_meanOfRow_8 := dk_seg dksX4_meanOfRow_7 22 rfl rfl
theorem dksX4_meanOfRow_9 : cX4_meanOfRow.data.toList.drop 210 = dktX4_meanOfRow_9 := dk_seg dksX4_meanOfRow_8 24 rfl rfl
theorem dksX4_meanOfRow_10 : cX4_meanOfRow.data.toList.drop 233 = dktX4_meanOfRow_10 := dk_seg dksX4_meanOfRow_9 23 rfl rfl
theorem dksX4_meanOfRow_11 : cX4_meanOfRow.data.toList.drop 256 = dktX4_meanOfRow_11 := dk_seg dksX4_meanOfRow_10 23 rfl rfl
theorem dksX4_meanOfRow_12 : cX4_meanOfRow.data.toList.drop 278 = dktX4_meanOfRow_12 := dk_seg dksX4_meanOfRow_11 22 rfl rfl
theorem dksX4_meanOfRow_13 : cX4_meanOfRow.data.toList.drop 301 = dktX4_meanOfRow_13 := dk_seg dksX4_meanOfRow_12 23 rfl rfl
theorem dksX4_meanOfRow_14 : cX4_meanOfRow.data.toList.drop 325 = dktX4_meanOfRow_14 := dk_seg dksX4_meanOfRow_13 24 rfl rfl
theorem dX4_meanOfRow_0 : decode cX4_meanOfRow 0 = .ok (.iconst 0, 1) := dk_3 (dk_at dksX4_meanOfRow_0 0 rfl rfl)
theorem dX4_meanOfRow_1 : decode cX4_meanOfRow 1 = .ok (.istore_n 1, 1) := dk_60 (dk_at dksX4_meanOfRow_0 1 rfl rfl)
theorem dX4_meanOfRow_2 : decode cX4_meanOfRow 2 = .ok (.iload_n 1, 1) := dk_27 (dk_at dksX4_meanOfRow_0 2 rfl rfl)
theorem dX4_meanOfRow_3 : decode cX4_meanOfRow 3 = .ok (.sipush 1024, 3) := dk_17 4 0 (dk_at dksX4_meanOfRow_0 3 rfl rfl)
theorem dX4_meanOfRow_6 : decode cX4_meanOfRow 6 = .ok (.if_icmp .ge 28, 3) := dk_162 0 28 (dk_at dksX4_meanOfRow_0 6 rfl rfl)
theorem dX4_meanOfRow_9 : decode cX4_meanOfRow 9 = .ok (.aload_n 0, 1) := dk_42 (dk_at dksX4_meanOfRow_0 9 rfl rfl)
theorem dX4_meanOfRow_10 : decode cX4_meanOfRow 10 = .ok (.getfield 125, 3) := dk_180 0 125 (dk_at dksX4_meanOfRow_0 10 rfl rfl)
theorem dX4_meanOfRow_13 : decode cX4_meanOfRow 13 = .ok (.iload_n 1, 1) := dk_27 (dk_at dksX4_meanOfRow_0 13 rfl rfl)
theorem dX4_meanOfRow_14 : decode cX4_meanOfRow 14 = .ok (.iload_n 1, 1) := dk_27 (dk_at dksX4_meanOfRow_0 14 rfl rfl)
theorem dX4_meanOfRow_15 : decode cX4_meanOfRow 15 = .ok (.aload_n 0, 1) := dk_42 (dk_at dksX4_meanOfRow_0 15 rfl rfl)
theorem dX4_meanOfRow_16 : decode cX4_meanOfRow 16 = .ok (.getfield 271, 3) := dk_180 1 15 (dk_at dksX4_meanOfRow_0 16 rfl rfl)
theorem dX4_meanOfRow_19 : decode cX4_meanOfRow 19 = .ok (.if_icmp .ne 7, 3) := dk_160 0 7 (dk_at dksX4_meanOfRow_0 19 rfl rfl)
theorem dX4_meanOfRow_22 : decode cX4_meanOfRow 22 = .ok (.lconst 1, 1) := dk_10 (dk_at dksX4_meanOfRow_0 22 rfl rfl)
theorem dX4_meanOfRow_23 : decode cX4_meanOfRow 23 = .ok (.goto 4, 3) := dk_167 0 4 (dk_at dksX4_meanOfRow_1 0 rfl rfl)
theorem dX4_meanOfRow_26 : decode cX4_meanOfRow 26 = .ok (.lconst 0, 1) := dk_9 (dk_at dksX4_meanOfRow_1 3 rfl rfl)
theorem dX4_meanOfRow_27 : decode cX4_meanOfRow 27 = .ok (.lastore, 1) := dk_80 (dk_at dksX4_meanOfRow_1 4 rfl rfl)
theorem dX4_meanOfRow_28 : decode cX4_meanOfRow 28 = .ok (.iinc 1 1, 3) := dk_132 1 1 (dk_at dksX4_meanOfRow_1 5 rfl rfl)
theorem dX4_meanOfRow_31 : decode cX4_meanOfRow 31 = .ok (.goto (-29), 3) := dk_167 255 227 (dk_at dksX4_meanOfRow_1 8 rfl rfl)
theorem dX4_meanOfRow_34 : decode cX4_meanOfRow 34 = .ok (.lconst 1, 1) := dk_10 (dk_at dksX4_meanOfRow_1 11 rfl rfl)
theorem dX4_meanOfRow_35 : decode cX4_meanOfRow 35 = .ok (.lstore_n 1, 1) := dk_64 (dk_at dksX4_meanOfRow_1 12 rfl rfl)
theorem dX4_meanOfRow_36 : decode cX4_meanOfRow 36 = .ok (.iconst 0, 1) := dk_3 (dk_at dksX4_meanOfRow_1 13 rfl rfl)
theorem dX4_meanOfRow_37 : decode cX4_meanOfRow 37 = .ok (.istore_n 3, 1) := dk_62 (dk_at dksX4_meanOfRow_1 14 rfl rfl)
theorem dX4_meanOfRow_38 : decode cX4_meanOfRow 38 = .ok (.iload_n 3, 1) := dk_29 (dk_at dksX4_meanOfRow_1 15 rfl rfl)
theorem dX4_meanOfRow_39 : decode cX4_meanOfRow 39 = .ok (.aload_n 0, 1) := dk_42 (dk_at dksX4_meanOfRow_1 16 rfl rfl)
theorem dX4_meanOfRow_40 : decode cX4_meanOfRow 40 = .ok (.getfield 292, 3) := dk_180 1 36 (dk_at dksX4_meanOfRow_1 17 rfl rfl)
theorem dX4_meanOfRow_43 : decode cX4_meanOfRow 43 = .ok (.if_icmp .ge 253, 3) := dk_162 0 253 (dk_at dksX4_meanOfRow_1 20 rfl rfl)
theorem dX4_meanOfRow_46 : decode cX4_meanOfRow 46 = .ok (.aload_n 0, 1) := dk_42 (dk_at dksX4_meanOfRow_1 23 rfl rfl)
theorem dX4_meanOfRow_47 : decode cX4_meanOfRow 47 = .ok (.getfield 66, 3) := dk_180 0 66 (dk_at dksX4_meanOfRow_2 0 rfl rfl)
theorem dX4_meanOfRow_50 : decode cX4_meanOfRow 50 = .ok (.iload_n 3, 1) := dk_29 (dk_at dksX4_meanOfRow_2 3 rfl rfl)
theorem dX4_meanOfRow_51 : decode cX4_meanOfRow 51 = .ok (.iaload, 1) := dk_46 (dk_at dksX4_meanOfRow_2 4 rfl rfl)
theorem dX4_meanOfRow_52 : decode cX4_meanOfRow 52 = .ok (.istore 4, 2) := dk_54 4 (dk_at dksX4_meanOfRow_2 5 rfl rfl)
theorem dX4_meanOfRow_54 : decode cX4_meanOfRow 54 = .ok (.aload_n 0, 1) := dk_42 (dk_at dksX4_meanOfRow_2 7 rfl rfl)
theorem dX4_meanOfRow_55 : decode cX4_meanOfRow 55 = .ok (.getfield 69, 3) := dk_180 0 69 (dk_at dksX4_meanOfRow_2 8 rfl rfl)
theorem dX4_meanOfRow_58 : decode cX4_meanOfRow 58 = .ok (.iload_n 3, 1) := dk_29 (dk_at dksX4_meanOfRow_2 11 rfl rfl)
theorem dX4_meanOfRow_59 : decode cX4_meanOfRow 59 = .ok (.iaload, 1) := dk_46 (dk_at dksX4_meanOfRow_2 12 rfl rfl)
theorem dX4_meanOfRow_60 : decode cX4_meanOfRow 60 = .ok (.istore 5, 2) := dk_54 5 (dk_at dksX4_meanOfRow_2 13 rfl rfl)
theorem dX4_meanOfRow_62 : decode cX4_meanOfRow 62 = .ok (.aload_n 0, 1) := dk_42 (dk_at dksX4_meanOfRow_2 15 rfl rfl)
theorem dX4_meanOfRow_63 : decode cX4_meanOfRow 63 = .ok (.getfield 277, 3) := dk_180 1 21 (dk_at dksX4_meanOfRow_2 16 rfl rfl)
theorem dX4_meanOfRow_66 : decode cX4_meanOfRow 66 = .ok (.iload 4, 2) := dk_21 4 (dk_at dksX4_meanOfRow_2 19 rfl rfl)
theorem dX4_meanOfRow_68 : decode cX4_meanOfRow 68 = .ok (.invokestatic 295, 3) := dk_184 1 39 (dk_at dksX4_meanOfRow_2 21 rfl rfl)
theorem dX4_meanOfRow_71 : decode cX4_meanOfRow 71 = .ok (.ifCond .eq 18, 3) := dk_153 0 18 (dk_at dksX4_meanOfRow_3 0 rfl rfl)
theorem dX4_meanOfRow_74 : decode cX4_meanOfRow 74 = .ok (.aload_n 0, 1) := dk_42 (dk_at dksX4_meanOfRow_3 3 rfl rfl)
theorem dX4_meanOfRow_75 : decode cX4_meanOfRow 75 = .ok (.iload 4, 2) := dk_21 4 (dk_at dksX4_meanOfRow_3 4 rfl rfl)
theorem dX4_meanOfRow_77 : decode cX4_meanOfRow 77 = .ok (.iload 5, 2) := dk_21 5 (dk_at dksX4_meanOfRow_3 6 rfl rfl)
theorem dX4_meanOfRow_79 : decode cX4_meanOfRow 79 = .ok (.invokevirtual 311, 3) := dk_182 1 55 (dk_at dksX4_meanOfRow_3 8 rfl rfl)
theorem dX4_meanOfRow_82 : decode cX4_meanOfRow 82 = .ok (.ifCond .le 7, 3) := dk_158 0 7 (dk_at dksX4_meanOfRow_3 11 rfl rfl)
theorem dX4_meanOfRow_85 : decode cX4_meanOfRow 85 = .ok (.iconst 1, 1) := dk_4 (dk_at dksX4_meanOfRow_3 14 rfl rfl)
theorem dX4_meanOfRow_86 : decode cX4_meanOfRow 86 = .ok (.goto 4, 3) := dk_167 0 4 (dk_at dksX4_meanOfRow_3 15 rfl rfl)
theorem dX4_meanOfRow_89 : decode cX4_meanOfRow 89 = .ok (.iconst 0, 1) := dk_3 (dk_at dksX4_meanOfRow_3 18 rfl rfl)
theorem dX4_meanOfRow_90 : decode cX4_meanOfRow 90 = .ok (.istore 6, 2) := dk_54 6 (dk_at dksX4_meanOfRow_3 19 rfl rfl)
theorem dX4_meanOfRow_92 : decode cX4_meanOfRow 92 = .ok (.iconst 0, 1) := dk_3 (dk_at dksX4_meanOfRow_3 21 rfl rfl)
theorem dX4_meanOfRow_93 : decode cX4_meanOfRow 93 = .ok (.istore 7, 2) := dk_54 7 (dk_at dksX4_meanOfRow_3 22 rfl rfl)
theorem dX4_meanOfRow_95 : decode cX4_meanOfRow 95 = .ok (.iload 7, 2) := dk_21 7 (dk_at dksX4_meanOfRow_4 0 rfl rfl)
theorem dX4_meanOfRow_97 : decode cX4_meanOfRow 97 = .ok (.sipush 1024, 3) := dk_17 4 0 (dk_at dksX4_meanOfRow_4 2 rfl rfl)
theorem dX4_meanOfRow_100 : decode cX4_meanOfRow 100 = .ok (.if_icmp .ge 17, 3) := dk_162 0 17 (dk_at dksX4_meanOfRow_4 5 rfl rfl)
theorem dX4_meanOfRow_103 : decode cX4_meanOfRow 103 = .ok (.aload_n 0, 1) := dk_42 (dk_at dksX4_meanOfRow_4 8 rfl rfl)
theorem dX4_meanOfRow_104 : decode cX4_meanOfRow 104 = .ok (.getfield 128, 3) := dk_180 0 128 (dk_at dksX4_meanOfRow_4 9 rfl rfl)
theorem dX4_meanOfRow_107 : decode cX4_meanOfRow 107 = .ok (.iload 7, 2) := dk_21 7 (dk_at dksX4_meanOfRow_4 12 rfl rfl)
theorem dX4_meanOfRow_109 : decode cX4_meanOfRow 109 = .ok (.lconst 0, 1) := dk_9 (dk_at dksX4_meanOfRow_4 14 rfl rfl)
theorem dX4_meanOfRow_110 : decode cX4_meanOfRow 110 = .ok (.lastore, 1) := dk_80 (dk_at dksX4_meanOfRow_4 15 rfl rfl)
theorem dX4_meanOfRow_111 : decode cX4_meanOfRow 111 = .ok (.iinc 7 1, 3) := dk_132 7 1 (dk_at dksX4_meanOfRow_4 16 rfl rfl)
theorem dX4_meanOfRow_114 : decode cX4_meanOfRow 114 = .ok (.goto (-19), 3) := dk_167 255 237 (dk_at dksX4_meanOfRow_4 19 rfl rfl)
theorem dX4_meanOfRow_117 : decode cX4_meanOfRow 117 = .ok (.iconst 0, 1) := dk_3 (dk_at dksX4_meanOfRow_4 22 rfl rfl)
theorem dX4_meanOfRow_118 : decode cX4_meanOfRow 118 = .ok (.istore 7, 2) := dk_54 7 (dk_at dksX4_meanOfRow_5 0 rfl rfl)
theorem dX4_meanOfRow_120 : decode cX4_meanOfRow 120 = .ok (.iload 7, 2) := dk_21 7 (dk_at dksX4_meanOfRow_5 2 rfl rfl)
theorem dX4_meanOfRow_122 : decode cX4_meanOfRow 122 = .ok (.sipush 1024, 3) := dk_17 4 0 (dk_at dksX4_meanOfRow_5 4 rfl rfl)
theorem dX4_meanOfRow_125 : decode cX4_meanOfRow 125 = .ok (.if_icmp .ge 128, 3) := dk_162 0 128 (dk_at dksX4_meanOfRow_5 7 rfl rfl)
theorem dX4_meanOfRow_128 : decode cX4_meanOfRow 128 = .ok (.aload_n 0, 1) := dk_42 (dk_at dksX4_meanOfRow_5 10 rfl rfl)
theorem dX4_meanOfRow_129 : decode cX4_meanOfRow 129 = .ok (.getfield 125, 3) := dk_180 0 125 (dk_at dksX4_meanOfRow_5 11 rfl rfl)
theorem dX4_meanOfRow_132 : decode cX4_meanOfRow 132 = .ok (.iload 7, 2) := dk_21 7 (dk_at dksX4_meanOfRow_5 14 rfl rfl)
theorem dX4_meanOfRow_134 : decode cX4_meanOfRow 134 = .ok (.laload, 1) := dk_47 (dk_at dksX4_meanOfRow_5 16 rfl rfl)
theorem dX4_meanOfRow_135 : decode cX4_meanOfRow 135 = .ok (.lconst 0, 1) := dk_9 (dk_at dksX4_meanOfRow_5 17 rfl rfl)
theorem dX4_meanOfRow_136 : decode cX4_meanOfRow 136 = .ok (.lcmp, 1) := dk_148 (dk_at dksX4_meanOfRow_5 18 rfl rfl)
theorem dX4_meanOfRow_137 : decode cX4_meanOfRow 137 = .ok (.ifCond .ne 6, 3) := dk_154 0 6 (dk_at dksX4_meanOfRow_5 19 rfl rfl)
theorem dX4_meanOfRow_140 : decode cX4_meanOfRow 140 = .ok (.goto 107, 3) := dk_167 0 107 (dk_at dksX4_meanOfRow_6 0 rfl rfl)
theorem dX4_meanOfRow_143 : decode cX4_meanOfRow 143 = .ok (.iload 6, 2) := dk_21 6 (dk_at dksX4_meanOfRow_6 3 rfl rfl)
theorem dX4_meanOfRow_145 : decode cX4_meanOfRow 145 = .ok (.ifCond .eq 44, 3) := dk_153 0 44 (dk_at dksX4_meanOfRow_6 5 rfl rfl)
theorem dX4_meanOfRow_148 : decode cX4_meanOfRow 148 = .ok (.iload 7, 2) := dk_21 7 (dk_at dksX4_meanOfRow_6 8 rfl rfl)
theorem dX4_meanOfRow_150 : decode cX4_meanOfRow 150 = .ok (.iload 5, 2) := dk_21 5 (dk_at dksX4_meanOfRow_6 10 rfl rfl)
theorem dX4_meanOfRow_152 : decode cX4_meanOfRow 152 = .ok (.invokestatic 295, 3) := dk_184 1 39 (dk_at dksX4_meanOfRow_6 12 rfl rfl)
theorem dX4_meanOfRow_155 : decode cX4_meanOfRow 155 = .ok (.ifCond .ne 34, 3) := dk_154 0 34 (dk_at dksX4_meanOfRow_6 15 rfl rfl)
theorem dX4_meanOfRow_158 : decode cX4_meanOfRow 158 = .ok (.aload_n 0, 1) := dk_42 (dk_at dksX4_meanOfRow_6 18 rfl rfl)
theorem dX4_meanOfRow_159 : decode cX4_meanOfRow 159 = .ok (.getfield 48, 3) := dk_180 0 48 (dk_at dksX4_meanOfRow_6 19 rfl rfl)
theorem dX4_meanOfRow_162 : decode cX4_meanOfRow 162 = .ok (.iload 5, 2) := dk_21 5 (dk_at dksX4_meanOfRow_6 22 rfl rfl)
theorem dX4_meanOfRow_164 : decode cX4_meanOfRow 164 = .ok (.iaload, 1) := dk_46 (dk_at dksX4_meanOfRow_7 0 rfl rfl)
theorem dX4_meanOfRow_165 : decode cX4_meanOfRow 165 = .ok (.iload 7, 2) := dk_21 7 (dk_at dksX4_meanOfRow_7 1 rfl rfl)
theorem dX4_meanOfRow_167 : decode cX4_meanOfRow 167 = .ok (.iand, 1) := dk_126 (dk_at dksX4_meanOfRow_7 3 rfl rfl)
theorem dX4_meanOfRow_168 : decode cX4_meanOfRow 168 = .ok (.aload_n 0, 1) := dk_42 (dk_at dksX4_meanOfRow_7 4 rfl rfl)
theorem dX4_meanOfRow_169 : decode cX4_meanOfRow 169 = .ok (.getfield 48, 3) := dk_180 0 48 (dk_at dksX4_meanOfRow_7 5 rfl rfl)
theorem dX4_meanOfRow_172 : decode cX4_meanOfRow 172 = .ok (.iload 5, 2) := dk_21 5 (dk_at dksX4_meanOfRow_7 8 rfl rfl)
theorem dX4_meanOfRow_174 : decode cX4_meanOfRow 174 = .ok (.iaload, 1) := dk_46 (dk_at dksX4_meanOfRow_7 10 rfl rfl)
theorem dX4_meanOfRow_175 : decode cX4_meanOfRow 175 = .ok (.if_icmp .ne 14, 3) := dk_160 0 14 (dk_at dksX4_meanOfRow_7 11 rfl rfl)
theorem dX4_meanOfRow_178 : decode cX4_meanOfRow 178 = .ok (.aload_n 0, 1) := dk_42 (dk_at dksX4_meanOfRow_7 14 rfl rfl)
theorem dX4_meanOfRow_179 : decode cX4_meanOfRow 179 = .ok (.iload 4, 2) := dk_21 4 (dk_at dksX4_meanOfRow_7 15 rfl rfl)
theorem dX4_meanOfRow_181 : decode cX4_meanOfRow 181 = .ok (.iload 5, 2) := dk_21 5 (dk_at dksX4_meanOfRow_7 17 rfl rfl)
theorem dX4_meanOfRow_183 : decode cX4_meanOfRow 183 = .ok (.invokevirtual 311, 3) := dk_182 1 55 (dk_at dksX4_meanOfRow_7 19 rfl rfl)
theorem dX4_meanOfRow_186 : decode cX4_meanOfRow 186 = .ok (.goto 4, 3) := dk_167 0 4 (dk_at dksX4_meanOfRow_8 0 rfl rfl)
theorem dX4_meanOfRow_189 : decode cX4_meanOfRow 189 = .ok (.iconst 0, 1) := dk_3 (dk_at dksX4_meanOfRow_8 3 rfl rfl)
theorem dX4_meanOfRow_190 : decode cX4_meanOfRow 190 = .ok (.istore 8, 2) := dk_54 8 (dk_at dksX4_meanOfRow_8 4 rfl rfl)
theorem dX4_meanOfRow_192 : decode cX4_meanOfRow 192 = .ok (.aload_n 0, 1) := dk_42 (dk_at dksX4_meanOfRow_8 6 rfl rfl)
theorem dX4_meanOfRow_193 : decode cX4_meanOfRow 193 = .ok (.getfield 128, 3) := dk_180 0 128 (dk_at dksX4_meanOfRow_8 7 rfl rfl)
theorem dX4_meanOfRow_196 : decode cX4_meanOfRow 196 = .ok (.aload_n 0, 1) := dk_42 (dk_at dksX4_meanOfRow_8 10 rfl rfl)
theorem dX4_meanOfRow_197 : decode cX4_meanOfRow 197 = .ok (.iload 7, 2) := dk_21 7 (dk_at dksX4_meanOfRow_8 11 rfl rfl)
theorem dX4_meanOfRow_199 : decode cX4_meanOfRow 199 = .ok (.iconst 1, 1) := dk_4 (dk_at dksX4_meanOfRow_8 13 rfl rfl)
theorem dX4_meanOfRow_200 : decode cX4_meanOfRow 200 = .ok (.iload 5, 2) := dk_21 5 (dk_at dksX4_meanOfRow_8 14 rfl rfl)
theorem dX4_meanOfRow_202 : decode cX4_meanOfRow 202 = .ok (.ishl, 1) := dk_120 (dk_at dksX4_meanOfRow_8 16 rfl rfl)
theorem dX4_meanOfRow_203 : decode cX4_meanOfRow 203 = .ok (.ior, 1) := dk_128 (dk_at dksX4_meanOfRow_8 17 rfl rfl)
theorem dX4_meanOfRow_204 : decode cX4_meanOfRow 204 = .ok (.iconst (-1), 1) := dk_2 (dk_at dksX4_meanOfRow_8 18 rfl rfl)
theorem dX4_meanOfRow_205 : decode cX4_meanOfRow 205 = .ok (.invokevirtual 318, 3) := dk_182 1 62 (dk_at dksX4_meanOfRow_8 19 rfl rfl)
theorem dX4_meanOfRow_208 : decode cX4_meanOfRow 208 = .ok (.dup2, 1) := dk_92 (dk_at dksX4_meanOfRow_8 22 rfl rfl)
theorem dX4_meanOfRow_209 : decode cX4_meanOfRow 209 = .ok (.laload, 1) := dk_47 (dk_at dksX4_meanOfRow_8 23 rfl rfl)
theorem dX4_meanOfRow_210 : decode cX4_meanOfRow 210 = .ok (.iload 8, 2) := dk_21 8 (dk_at dksX4_meanOfRow_9 0 rfl rfl)
theorem dX4_meanOfRow_212 : decode cX4_meanOfRow 212 = .ok (.i2l, 1) := dk_133 (dk_at dksX4_meanOfRow_9 2 rfl rfl)
theorem dX4_meanOfRow_213 : decode cX4_meanOfRow 213 = .ok (.aload_n 0, 1) := dk_42 (dk_at dksX4_meanOfRow_9 3 rfl rfl)
theorem dX4_meanOfRow_214 : decode cX4_meanOfRow 214 = .ok (.getfield 125, 3) := dk_180 0 125 (dk_at dksX4_meanOfRow_9 4 rfl rfl)
theorem dX4_meanOfRow_217 : decode cX4_meanOfRow 217 = .ok (.iload 7, 2) := dk_21 7 (dk_at dksX4_meanOfRow_9 7 rfl rfl)
theorem dX4_meanOfRow_219 : decode cX4_meanOfRow 219 = .ok (.laload, 1) := dk_47 (dk_at dksX4_meanOfRow_9 9 rfl rfl)
theorem dX4_meanOfRow_220 : decode cX4_meanOfRow 220 = .ok (.lmul, 1) := dk_105 (dk_at dksX4_meanOfRow_9 10 rfl rfl)
theorem dX4_meanOfRow_221 : decode cX4_meanOfRow 221 = .ok (.ladd, 1) := dk_97 (dk_at dksX4_meanOfRow_9 11 rfl rfl)
theorem dX4_meanOfRow_222 : decode cX4_meanOfRow 222 = .ok (.lastore, 1) := dk_80 (dk_at dksX4_meanOfRow_9 12 rfl rfl)
theorem dX4_meanOfRow_223 : decode cX4_meanOfRow 223 = .ok (.aload_n 0, 1) := dk_42 (dk_at dksX4_meanOfRow_9 13 rfl rfl)
theorem dX4_meanOfRow_224 : decode cX4_meanOfRow 224 = .ok (.getfield 128, 3) := dk_180 0 128 (dk_at dksX4_meanOfRow_9 14 rfl rfl)
theorem dX4_meanOfRow_227 : decode cX4_meanOfRow 227 = .ok (.iload 7, 2) := dk_21 7 (dk_at dksX4_meanOfRow_9 17 rfl rfl)
theorem dX4_meanOfRow_229 : decode cX4_meanOfRow 229 = .ok (.dup2, 1) := dk_92 (dk_at dksX4_meanOfRow_9 19 rfl rfl)
theorem dX4_meanOfRow_230 : decode cX4_meanOfRow 230 = .ok (.laload, 1) := dk_47 (dk_at dksX4_meanOfRow_9 20 rfl rfl)
theorem dX4_meanOfRow_231 : decode cX4_meanOfRow 231 = .ok (.bipush 16, 2) := dk_16 16 (dk_at dksX4_meanOfRow_9 21 rfl rfl)
theorem dX4_meanOfRow_233 : decode cX4_meanOfRow 233 = .ok (.iload 8, 2) := dk_21 8 (dk_at dksX4_meanOfRow_10 0 rfl rfl)
theorem dX4_meanOfRow_235 : decode cX4_meanOfRow 235 = .ok (.isub, 1) := dk_100 (dk_at dksX4_meanOfRow_10 2 rfl rfl)
theorem dX4_meanOfRow_236 : decode cX4_meanOfRow 236 = .ok (.i2l, 1) := dk_133 (dk_at dksX4_meanOfRow_10 3 rfl rfl)
theorem dX4_meanOfRow_237 : decode cX4_meanOfRow 237 = .ok (.aload_n 0, 1) := dk_42 (dk_at dksX4_meanOfRow_10 4 rfl rfl)
theorem dX4_meanOfRow_238 : decode cX4_meanOfRow 238 = .ok (.getfield 125, 3) := dk_180 0 125 (dk_at dksX4_meanOfRow_10 5 rfl rfl)
theorem dX4_meanOfRow_241 : decode cX4_meanOfRow 241 = .ok (.iload 7, 2) := dk_21 7 (dk_at dksX4_meanOfRow_10 8 rfl rfl)
theorem dX4_meanOfRow_243 : decode cX4_meanOfRow 243 = .ok (.laload, 1) := dk_47 (dk_at dksX4_meanOfRow_10 10 rfl rfl)
theorem dX4_meanOfRow_244 : decode cX4_meanOfRow 244 = .ok (.lmul, 1) := dk_105 (dk_at dksX4_meanOfRow_10 11 rfl rfl)
theorem dX4_meanOfRow_245 : decode cX4_meanOfRow 245 = .ok (.ladd, 1) := dk_97 (dk_at dksX4_meanOfRow_10 12 rfl rfl)
theorem dX4_meanOfRow_246 : decode cX4_meanOfRow 246 = .ok (.lastore, 1) := dk_80 (dk_at dksX4_meanOfRow_10 13 rfl rfl)
theorem dX4_meanOfRow_247 : decode cX4_meanOfRow 247 = .ok (.iinc 7 1, 3) := dk_132 7 1 (dk_at dksX4_meanOfRow_10 14 rfl rfl)
theorem dX4_meanOfRow_250 : decode cX4_meanOfRow 250 = .ok (.goto (-130), 3) := dk_167 255 126 (dk_at dksX4_meanOfRow_10 17 rfl rfl)
theorem dX4_meanOfRow_253 : decode cX4_meanOfRow 253 = .ok (.iconst 0, 1) := dk_3 (dk_at dksX4_meanOfRow_10 20 rfl rfl)
theorem dX4_meanOfRow_254 : decode cX4_meanOfRow 254 = .ok (.istore 7, 2) := dk_54 7 (dk_at dksX4_meanOfRow_10 21 rfl rfl)
theorem dX4_meanOfRow_256 : decode cX4_meanOfRow 256 = .ok (.iload 7, 2) := dk_21 7 (dk_at dksX4_meanOfRow_11 0 rfl rfl)
theorem dX4_meanOfRow_258 : decode cX4_meanOfRow 258 = .ok (.sipush 1024, 3) := dk_17 4 0 (dk_at dksX4_meanOfRow_11 2 rfl rfl)
theorem dX4_meanOfRow_261 : decode cX4_meanOfRow 261 = .ok (.if_icmp .ge 23, 3) := dk_162 0 23 (dk_at dksX4_meanOfRow_11 5 rfl rfl)
theorem dX4_meanOfRow_264 : decode cX4_meanOfRow 264 = .ok (.aload_n 0, 1) := dk_42 (dk_at dksX4_meanOfRow_11 8 rfl rfl)
theorem dX4_meanOfRow_265 : decode cX4_meanOfRow 265 = .ok (.getfield 125, 3) := dk_180 0 125 (dk_at dksX4_meanOfRow_11 9 rfl rfl)
theorem dX4_meanOfRow_268 : decode cX4_meanOfRow 268 = .ok (.iload 7, 2) := dk_21 7 (dk_at dksX4_meanOfRow_11 12 rfl rfl)
theorem dX4_meanOfRow_270 : decode cX4_meanOfRow 270 = .ok (.aload_n 0, 1) := dk_42 (dk_at dksX4_meanOfRow_11 14 rfl rfl)
theorem dX4_meanOfRow_271 : decode cX4_meanOfRow 271 = .ok (.getfield 128, 3) := dk_180 0 128 (dk_at dksX4_meanOfRow_11 15 rfl rfl)
theorem dX4_meanOfRow_274 : decode cX4_meanOfRow 274 = .ok (.iload 7, 2) := dk_21 7 (dk_at dksX4_meanOfRow_11 18 rfl rfl)
theorem dX4_meanOfRow_276 : decode cX4_meanOfRow 276 = .ok (.laload, 1) := dk_47 (dk_at dksX4_meanOfRow_11 20 rfl rfl)
theorem dX4_meanOfRow_277 : decode cX4_meanOfRow 277 = .ok (.lastore, 1) := dk_80 (dk_at dksX4_meanOfRow_11 21 rfl rfl)
theorem dX4_meanOfRow_278 : decode cX4_meanOfRow 278 = .ok (.iinc 7 1, 3) := dk_132 7 1 (dk_at dksX4_meanOfRow_12 0 rfl rfl)
theorem dX4_meanOfRow_281 : decode cX4_meanOfRow 281 = .ok (.goto (-25), 3) := dk_167 255 231 (dk_at dksX4_meanOfRow_12 3 rfl rfl)
theorem dX4_meanOfRow_284 : decode cX4_meanOfRow 284 = .ok (.lload_n 1, 1) := dk_31 (dk_at dksX4_meanOfRow_12 6 rfl rfl)
theorem dX4_meanOfRow_285 : decode cX4_meanOfRow 285 = .ok (.ldc2_w 387, 3) := dk_20 1 131 (dk_at dksX4_meanOfRow_12 7 rfl rfl)
theorem dX4_meanOfRow_288 : decode cX4_meanOfRow 288 = .ok (.lmul, 1) := dk_105 (dk_at dksX4_meanOfRow_12 10 rfl rfl)
theorem dX4_meanOfRow_289 : decode cX4_meanOfRow 289 = .ok (.lstore_n 1, 1) := dk_64 (dk_at dksX4_meanOfRow_12 11 rfl rfl)
theorem dX4_meanOfRow_290 : decode cX4_meanOfRow 290 = .ok (.iinc 3 1, 3) := dk_132 3 1 (dk_at dksX4_meanOfRow_12 12 rfl rfl)
theorem dX4_meanOfRow_293 : decode cX4_meanOfRow 293 = .ok (.goto (-255), 3) := dk_167 255 1 (dk_at dksX4_meanOfRow_12 15 rfl rfl)
theorem dX4_meanOfRow_296 : decode cX4_meanOfRow 296 = .ok (.lconst 0, 1) := dk_9 (dk_at dksX4_meanOfRow_12 18 rfl rfl)
theorem dX4_meanOfRow_297 : decode cX4_meanOfRow 297 = .ok (.lstore_n 3, 1) := dk_66 (dk_at dksX4_meanOfRow_12 19 rfl rfl)
theorem dX4_meanOfRow_298 : decode cX4_meanOfRow 298 = .ok (.iconst 0, 1) := dk_3 (dk_at dksX4_meanOfRow_12 20 rfl rfl)
theorem dX4_meanOfRow_299 : decode cX4_meanOfRow 299 = .ok (.istore 5, 2) := dk_54 5 (dk_at dksX4_meanOfRow_12 21 rfl rfl)
theorem dX4_meanOfRow_301 : decode cX4_meanOfRow 301 = .ok (.iload 5, 2) := dk_21 5 (dk_at dksX4_meanOfRow_13 0 rfl rfl)
theorem dX4_meanOfRow_303 : decode cX4_meanOfRow 303 = .ok (.sipush 1024, 3) := dk_17 4 0 (dk_at dksX4_meanOfRow_13 2 rfl rfl)
theorem dX4_meanOfRow_306 : decode cX4_meanOfRow 306 = .ok (.if_icmp .ge 27, 3) := dk_162 0 27 (dk_at dksX4_meanOfRow_13 5 rfl rfl)
theorem dX4_meanOfRow_309 : decode cX4_meanOfRow 309 = .ok (.lload_n 3, 1) := dk_33 (dk_at dksX4_meanOfRow_13 8 rfl rfl)
theorem dX4_meanOfRow_310 : decode cX4_meanOfRow 310 = .ok (.aload_n 0, 1) := dk_42 (dk_at dksX4_meanOfRow_13 9 rfl rfl)
theorem dX4_meanOfRow_311 : decode cX4_meanOfRow 311 = .ok (.getfield 125, 3) := dk_180 0 125 (dk_at dksX4_meanOfRow_13 10 rfl rfl)
theorem dX4_meanOfRow_314 : decode cX4_meanOfRow 314 = .ok (.iload 5, 2) := dk_21 5 (dk_at dksX4_meanOfRow_13 13 rfl rfl)
theorem dX4_meanOfRow_316 : decode cX4_meanOfRow 316 = .ok (.laload, 1) := dk_47 (dk_at dksX4_meanOfRow_13 15 rfl rfl)
theorem dX4_meanOfRow_317 : decode cX4_meanOfRow 317 = .ok (.aload_n 0, 1) := dk_42 (dk_at dksX4_meanOfRow_13 16 rfl rfl)
theorem dX4_meanOfRow_318 : decode cX4_meanOfRow 318 = .ok (.iload 5, 2) := dk_21 5 (dk_at dksX4_meanOfRow_13 17 rfl rfl)
theorem dX4_meanOfRow_320 : decode cX4_meanOfRow 320 = .ok (.invokevirtual 339, 3) := dk_182 1 83 (dk_at dksX4_meanOfRow_13 19 rfl rfl)
theorem dX4_meanOfRow_323 : decode cX4_meanOfRow 323 = .ok (.i2l, 1) := dk_133 (dk_at dksX4_meanOfRow_13 22 rfl rfl)
theorem dX4_meanOfRow_324 : decode cX4_meanOfRow 324 = .ok (.lmul, 1) := dk_105 (dk_at dksX4_meanOfRow_13 23 rfl rfl)
theorem dX4_meanOfRow_325 : decode cX4_meanOfRow 325 = .ok (.ladd, 1) := dk_97 (dk_at dksX4_meanOfRow_14 0 rfl rfl)
theorem dX4_meanOfRow_326 : decode cX4_meanOfRow 326 = .ok (.lstore_n 3, 1) := dk_66 (dk_at dksX4_meanOfRow_14 1 rfl rfl)
theorem dX4_meanOfRow_327 : decode cX4_meanOfRow 327 = .ok (.iinc 5 1, 3) := dk_132 5 1 (dk_at dksX4_meanOfRow_14 2 rfl rfl)
theorem dX4_meanOfRow_330 : decode cX4_meanOfRow 330 = .ok (.goto (-29), 3) := dk_167 255 227 (dk_at dksX4_meanOfRow_14 5 rfl rfl)
theorem dX4_meanOfRow_333 : decode cX4_meanOfRow 333 = .ok (.ldc2_w 389, 3) := dk_20 1 133 (dk_at dksX4_meanOfRow_14 8 rfl rfl)
theorem dX4_meanOfRow_336 : decode cX4_meanOfRow 336 = .ok (.lload_n 3, 1) := dk_33 (dk_at dksX4_meanOfRow_14 11 rfl rfl)
theorem dX4_meanOfRow_337 : decode cX4_meanOfRow 337 = .ok (.lmul, 1) := dk_105 (dk_at dksX4_meanOfRow_14 12 rfl rfl)
theorem dX4_meanOfRow_338 : decode cX4_meanOfRow 338 = .ok (.lload_n 1, 1) := dk_31 (dk_at dksX4_meanOfRow_14 13 rfl rfl)
theorem dX4_meanOfRow_339 : decode cX4_meanOfRow 339 = .ok (.ldiv, 1) := dk_109 (dk_at dksX4_meanOfRow_14 14 rfl rfl)
theorem dX4_meanOfRow_340 : decode cX4_meanOfRow 340 = .ok (.l2i, 1) := dk_136 (dk_at dksX4_meanOfRow_14 15 rfl rfl)
theorem dX4_meanOfRow_341 : decode cX4_meanOfRow 341 = .ok (.ireturn, 1) := dk_172 (dk_at dksX4_meanOfRow_14 16 rfl rfl)
