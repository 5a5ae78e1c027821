set_option maxRecDepth 100000
def dkwX4_monthLine_1 : List UInt8 := [154, 0, 5, 3, 172, 42, 42, 180, 0, 204, 181, 0, 226, 42, 182, 0, 220, 172]
abbrev dktX4_monthLine_1 : List UInt8 := dkwX4_monthLine_1 ++ []
def dkwX4_monthLine_0 : List UInt8 := [42, 180, 0, 226, 2, 159, 0, 5, 3, 172, 42, 182, 0, 207, 42, 16, 9, 16, 40, 182, 0, 216]
abbrev dktX4_monthLine_0 : List UInt8 := dkwX4_monthLine_0 ++ dktX4_monthLine_1
theorem dksX4_monthLine_0 : cX4_monthLine.data.toList.drop 0 = dktX4_monthLine_0 := by decide +kernel
theorem dksX4_monthLine_1 : cX4_monthLine.data.toList.drop 22 = dktX4_monthLine_1 := dk_seg dksX4_monthLine_0 22 rfl rfl
theorem dX4_monthLine_0 : decode cX4_monthLine 0 = .ok (.aload_n 0, 1) := dk_42 (dk_at dksX4_monthLine_0 0 rfl rfl)
theorem dX4_monthLine_1 : decode cX4_monthLine 1 = .ok (.getfield 226, 3) := dk_180 0 226 (dk_at dksX4_monthLine_0 1 rfl rfl)
theorem dX4_monthLine_4 : decode cX4_monthLine 4 = .ok (.iconst (-1), 1) := dk_2 (dk_at dksX4_monthLine_0 4 rfl rfl)
theorem dX4_monthLine_5 : decode cX4_monthLine 5 = .ok (.if_icmp .eq 5, 3) := dk_159 0 5 (dk_at dksX4_monthLine_0 5 rfl rfl)
theorem dX4_monthLine_8 : decode cX4_monthLine 8 = .ok (.iconst 0, 1) := dk_3 (dk_at dksX4_monthLine_0 8 rfl rfl)
theorem dX4_monthLine_9 : decode cX4_monthLine 9 = .ok (.ireturn, 1) := dk_172 (dk_at dksX4_monthLine_0 9 rfl rfl)
theorem dX4_monthLine_10 : decode cX4_monthLine 10 = .ok (.aload_n 0, 1) := dk_42 (dk_at dksX4_monthLine_0 10 rfl rfl)
theorem dX4_monthLine_11 : decode cX4_monthLine 11 = .ok (.invokevirtual 207, 3) := dk_182 0 207 (dk_at dksX4_monthLine_0 11 rfl rfl)
theorem dX4_monthLine_14 : decode cX4_monthLine 14 = .ok (.aload_n 0, 1) := dk_42 (dk_at dksX4_monthLine_0 14 rfl rfl)
theorem dX4_monthLine_15 : decode cX4_monthLine 15 = .ok (.bipush 9, 2) := dk_16 9 (dk_at dksX4_monthLine_0 15 rfl rfl)
theorem dX4_monthLine_17 : decode cX4_monthLine 17 = .ok (.bipush 40, 2) := dk_16 40 (dk_at dksX4_monthLine_0 17 rfl rfl)
theorem dX4_monthLine_19 : decode cX4_monthLine 19 = .ok (.invokevirtual 216, 3) := dk_182 0 216 (dk_at dksX4_monthLine_0 19 rfl rfl)
theorem dX4_monthLine_22 : decode cX4_monthLine 22 = .ok (.ifCond .ne 5, 3) := dk_154 0 5 (dk_at dksX4_monthLine_1 0 rfl rfl)
theorem dX4_monthLine_25 : decode cX4_monthLine 25 = .ok (.iconst 0, 1) := dk_3 (dk_at dksX4_monthLine_1 3 rfl rfl)
theorem dX4_monthLine_26 : decode cX4_monthLine 26 = .ok (.ireturn, 1) := dk_172 (dk_at dksX4_monthLine_1 4 rfl rfl)
theorem dX4_monthLine_27 : decode cX4_monthLine 27 = .ok (.aload_n 0, 1) := dk_42 (dk_at dksX4_monthLine_1 5 rfl rfl)
theorem dX4_monthLine_28 : decode cX4_monthLine 28 = .ok (.aload_n 0, 1) := dk_42 (dk_at dksX4_monthLine_1 6 rfl rfl)
theorem dX4_monthLine_29 : decode cX4_monthLine 29 = .ok (.getfield 204, 3) := dk_180 0 204 (dk_at dksX4_monthLine_1 7 rfl rfl)
theorem dX4_monthLine_32 : decode cX4_monthLine 32 = .ok (.putfield 226, 3) := dk_181 0 226 (dk_at dksX4_monthLine_1 10 rfl rfl)
theorem dX4_monthLine_35 : decode cX4_monthLine 35 = .ok (.aload_n 0, 1) := dk_42 (dk_at dksX4_monthLine_1 13 rfl rfl)
theorem dX4_monthLine_36 : decode cX4_monthLine 36 = .ok (.invokevirtual 220, 3) := dk_182 0 220 (dk_at dksX4_monthLine_1 14 rfl rfl)
theorem dX4_monthLine_39 : decode cX4_monthLine 39 = .ok (.ireturn, 1) := dk_172 (dk_at dksX4_monthLine_1 17 rfl rfl)
def dkwX4_coupleLine_2 : List UInt8 := [43, 28, 92, 46, 4, 29, 120, 128, 79, 42, 182, 0, 207, 42, 182, 0, 220, 172]
abbrev dktX4_coupleLine_2 : List UInt8 := dkwX4_coupleLine_2 ++ []
def dkwX4_coupleLine_1 : List UInt8 := [62, 29, 2, 159, 0, 19, 29, 28, 159, 0, 14, 43, 28, 46, 29, 122, 4, 126, 4, 160, 0, 5, 3, 172]
abbrev dktX4_coupleLine_1 : List UInt8 := dkwX4_coupleLine_1 ++ dktX4_coupleLine_2
def dkwX4_coupleLine_0 : List UInt8 := [42, 182, 0, 207, 42, 182, 0, 210, 61, 28, 2, 160, 0, 5, 3, 172, 42, 182, 0, 207, 42, 182, 0, 210]
abbrev dktX4_coupleLine_0 : List UInt8 := dkwX4_coupleLine_0 ++ dktX4_coupleLine_1
theorem dksX4_coupleLine_0 : cX4_coupleLine.data.toList.drop 0 = dktX4_coupleLine_0 := by decide +kernel
theorem dksX4_coupleLine_1 : cX4_coupleLine.data.toList.drop 24 = dktX4_coupleLine_1 := dk_seg dksX4_coupleLine_0 24 rfl rfl
theorem dksX4_coupleLine_2 : cX4_coupleLine.data.toList.drop 48 = dktX4_coupleLine_2 := dk_seg dksX4_coupleLine_1 24 rfl rfl
theorem dX4_coupleLine_0 : decode cX4_coupleLine 0 = .ok (.aload_n 0, 1) := dk_42 (dk_at dksX4_coupleLine_0 0 rfl rfl)
theorem dX4_coupleLine_1 : decode cX4_coupleLine 1 = .ok (.invokevirtual 207, 3) := dk_182 0 207 (dk_at dksX4_coupleLine_0 1 rfl rfl)
theorem dX4_coupleLine_4 : decode cX4_coupleLine 4 = .ok (.aload_n 0, 1) := dk_42 (dk_at dksX4_coupleLine_0 4 rfl rfl)
theorem dX4_coupleLine_5 : decode cX4_coupleLine 5 = .ok (.invokevirtual 210, 3) := dk_182 0 210 (dk_at dksX4_coupleLine_0 5 rfl rfl)
theorem dX4_coupleLine_8 : decode cX4_coupleLine 8 = .ok (.istore_n 2, 1) := dk_61 (dk_at dksX4_coupleLine_0 8 rfl rfl)
theorem dX4_coupleLine_9 : decode cX4_coupleLine 9 = .ok (.iload_n 2, 1) := dk_28 (dk_at dksX4_coupleLine_0 9 rfl rfl)
theorem dX4_coupleLine_10 : decode cX4_coupleLine 10 = .ok (.iconst (-1), 1) := dk_2 (dk_at dksX4_coupleLine_0 10 rfl rfl)
theorem dX4_coupleLine_11 : decode cX4_coupleLine 11 = .ok (.if_icmp .ne 5, 3) := dk_160 0 5 (dk_at dksX4_coupleLine_0 11 rfl rfl)
theorem dX4_coupleLine_14 : decode cX4_coupleLine 14 = .ok (.iconst 0, 1) := dk_3 (dk_at dksX4_coupleLine_0 14 rfl rfl)
theorem dX4_coupleLine_15 : decode cX4_coupleLine 15 = .ok (.ireturn, 1) := dk_172 (dk_at dksX4_coupleLine_0 15 rfl rfl)
theorem dX4_coupleLine_16 : decode cX4_coupleLine 16 = .ok (.aload_n 0, 1) := dk_42 (dk_at dksX4_coupleLine_0 16 rfl rfl)
theorem dX4_coupleLine_17 : decode cX4_coupleLine 17 = .ok (.invokevirtual 207, 3) := dk_182 0 207 (dk_at dksX4_coupleLine_0 17 rfl rfl)
theorem dX4_coupleLine_20 : decode cX4_coupleLine 20 = .ok (.aload_n 0, 1) := dk_42 (dk_at dksX4_coupleLine_0 20 rfl rfl)
theorem dX4_coupleLine_21 : decode cX4_coupleLine 21 = .ok (.invokevirtual 210, 3) := dk_182 0 210 (dk_at dksX4_coupleLine_0 21 rfl rfl)
theorem dX4_coupleLine_24 : decode cX4_coupleLine 24 = .ok (.istore_n 3, 1) := dk_62 (dk_at dksX4_coupleLine_1 0 rfl rfl)
theorem dX4_coupleLine_25 : decode cX4_coupleLine 25 = .ok (.iload_n 3, 1) := dk_29 (dk_at dksX4_coupleLine_1 1 rfl rfl)
theorem dX4_coupleLine_26 : decode cX4_coupleLine 26 = .ok (.iconst (-1), 1) := dk_2 (dk_at dksX4_coupleLine_1 2 rfl rfl)
theorem dX4_coupleLine_27 : decode cX4_coupleLine 27 = .ok (.if_icmp .eq 19, 3) := dk_159 0 19 (dk_at dksX4_coupleLine_1 3 rfl rfl)
theorem dX4_coupleLine_30 : decode cX4_coupleLine 30 = .ok (.iload_n 3, 1) := dk_29 (dk_at dksX4_coupleLine_1 6 rfl rfl)
theorem dX4_coupleLine_31 : decode cX4_coupleLine 31 = .ok (.iload_n 2, 1) := dk_28 (dk_at dksX4_coupleLine_1 7 rfl rfl)
theorem dX4_coupleLine_32 : decode cX4_coupleLine 32 = .ok (.if_icmp .eq 14, 3) := dk_159 0 14 (dk_at dksX4_coupleLine_1 8 rfl rfl)
theorem dX4_coupleLine_35 : decode cX4_coupleLine 35 = .ok (.aload_n 1, 1) := dk_43 (dk_at dksX4_coupleLine_1 11 rfl rfl)
theorem dX4_coupleLine_36 : decode cX4_coupleLine 36 = .ok (.iload_n 2, 1) := dk_28 (dk_at dksX4_coupleLine_1 12 rfl rfl)
theorem dX4_coupleLine_37 : decode cX4_coupleLine 37 = .ok (.iaload, 1) := dk_46 (dk_at dksX4_coupleLine_1 13 rfl rfl)
theorem dX4_coupleLine_38 : decode cX4_coupleLine 38 = .ok (.iload_n 3, 1) := dk_29 (dk_at dksX4_coupleLine_1 14 rfl rfl)
theorem dX4_coupleLine_39 : decode cX4_coupleLine 39 = .ok (.ishr, 1) := dk_122 (dk_at dksX4_coupleLine_1 15 rfl rfl)
theorem dX4_coupleLine_40 : decode cX4_coupleLine 40 = .ok (.iconst 1, 1) := dk_4 (dk_at dksX4_coupleLine_1 16 rfl rfl)
theorem dX4_coupleLine_41 : decode cX4_coupleLine 41 = .ok (.iand, 1) := dk_126 (dk_at dksX4_coupleLine_1 17 rfl rfl)
theorem dX4_coupleLine_42 : decode cX4_coupleLine 42 = .ok (.iconst 1, 1) := dk_4 (dk_at dksX4_coupleLine_1 18 rfl rfl)
theorem dX4_coupleLine_43 : decode cX4_coupleLine 43 = .ok (.if_icmp .ne 5, 3) := dk_160 0 5 (dk_at dksX4_coupleLine_1 19 rfl rfl)
theorem dX4_coupleLine_46 : decode cX4_coupleLine 46 = .ok (.iconst 0, 1) := dk_3 (dk_at dksX4_coupleLine_1 22 rfl rfl)
theorem dX4_coupleLine_47 : decode cX4_coupleLine 47 = .ok (.ireturn, 1) := dk_172 (dk_at dksX4_coupleLine_1 23 rfl rfl)
theorem dX4_coupleLine_48 : decode cX4_coupleLine 48 = .ok (.aload_n 1, 1) := dk_43 (dk_at dksX4_coupleLine_2 0 rfl rfl)
theorem dX4_coupleLine_49 : decode cX4_coupleLine 49 = .ok (.iload_n 2, 1) := dk_28 (dk_at dksX4_coupleLine_2 1 rfl rfl)
theorem dX4_coupleLine_50 : decode cX4_coupleLine 50 = .ok (.dup2, 1) := dk_92 (dk_at dksX4_coupleLine_2 2 rfl rfl)
theorem dX4_coupleLine_51 : decode cX4_coupleLine 51 = .ok (.iaload, 1) := dk_46 (dk_at dksX4_coupleLine_2 3 rfl rfl)
theorem dX4_coupleLine_52 : decode cX4_coupleLine 52 = .ok (.iconst 1, 1) := dk_4 (dk_at dksX4_coupleLine_2 4 rfl rfl)
theorem dX4_coupleLine_53 : decode cX4_coupleLine 53 = .ok (.iload_n 3, 1) := dk_29 (dk_at dksX4_coupleLine_2 5 rfl rfl)
theorem dX4_coupleLine_54 : decode cX4_coupleLine 54 = .ok (.ishl, 1) := dk_120 (dk_at dksX4_coupleLine_2 6 rfl rfl)
theorem dX4_coupleLine_55 : decode cX4_coupleLine 55 = .ok (.ior, 1) := dk_128 (dk_at dksX4_coupleLine_2 7 rfl rfl)
theorem dX4_coupleLine_56 : decode cX4_coupleLine 56 = .ok (.iastore, 1) := dk_79 (dk_at dksX4_coupleLine_2 8 rfl rfl)
theorem dX4_coupleLine_57 : decode cX4_coupleLine 57 = .ok (.aload_n 0, 1) := dk_42 (dk_at dksX4_coupleLine_2 9 rfl rfl)
theorem dX4_coupleLine_58 : decode cX4_coupleLine 58 = .ok (.invokevirtual 207, 3) := dk_182 0 207 (dk_at dksX4_coupleLine_2 10 rfl rfl)
theorem dX4_coupleLine_61 : decode cX4_coupleLine 61 = .ok (.aload_n 0, 1) := dk_42 (dk_at dksX4_coupleLine_2 13 rfl rfl)
theorem dX4_coupleLine_62 : decode cX4_coupleLine 62 = .ok (.invokevirtual 220, 3) := dk_182 0 220 (dk_at dksX4_coupleLine_2 14 rfl rfl)
theorem dX4_coupleLine_65 : decode cX4_coupleLine 65 = .ok (.ireturn, 1) := dk_172 (dk_at dksX4_coupleLine_2 17 rfl rfl)
def dkwX4_tongue_13 : List UInt8 := [42, 180, 1, 4, 172]
abbrev dktX4_tongue_13 : List UInt8 := dkwX4_tongue_13 ++ []
def dkwX4_tongue_12 : List UInt8 := [60, 27, 6, 162, 0, 16, 42, 180, 0, 78, 27, 3, 84, 132, 1, 1, 167, 255, 241, 42, 3, 181, 0, 131]
abbrev dktX4_tongue_12 : List UInt8 := dkwX4_tongue_12 ++ dktX4_tongue_13
def dkwX4_tongue_11 : List UInt8 := [181, 1, 24, 42, 3, 181, 1, 27, 42, 3, 181, 1, 30, 42, 9, 181, 1, 33, 42, 3, 181, 1, 36, 3]
abbrev dktX4_tongue_11 : List UInt8 := dkwX4_tongue_11 ++ dktX4_tongue_12
def dkwX4_tongue_10 : List UInt8 := [181, 1, 15, 42, 3, 181, 1, 18, 42, 4, 42, 180, 1, 7, 120, 4, 100, 181, 1, 21, 42, 2]
abbrev dktX4_tongue_10 : List UInt8 := dkwX4_tongue_10 ++ dktX4_tongue_11
def dkwX4_tongue_9 : List UInt8 := [162, 0, 21, 42, 180, 0, 54, 27, 42, 180, 0, 36, 27, 46, 79, 132, 1, 1, 167, 255, 235, 42, 3]
abbrev dktX4_tongue_9 : List UInt8 := dkwX4_tongue_9 ++ dktX4_tongue_10
def dkwX4_tongue_8 : List UInt8 := [180, 0, 45, 27, 42, 180, 0, 27, 27, 46, 79, 132, 1, 1, 167, 255, 235, 3, 60, 27, 16, 24]
abbrev dktX4_tongue_8 : List UInt8 := dkwX4_tongue_8 ++ dktX4_tongue_9
def dkwX4_tongue_7 : List UInt8 := [79, 42, 180, 0, 57, 27, 3, 79, 132, 1, 1, 167, 255, 229, 3, 60, 27, 16, 60, 162, 0, 21, 42]
abbrev dktX4_tongue_7 : List UInt8 := dkwX4_tongue_7 ++ dktX4_tongue_8
def dkwX4_tongue_6 : List UInt8 := [132, 1, 1, 167, 255, 170, 3, 60, 27, 6, 162, 0, 28, 42, 180, 0, 42, 27, 42, 180, 0, 24, 27, 46]
abbrev dktX4_tongue_6 : List UInt8 := dkwX4_tongue_6 ++ dktX4_tongue_7
def dkwX4_tongue_5 : List UInt8 := [180, 0, 33, 27, 46, 79, 42, 180, 0, 72, 27, 2, 79, 42, 180, 0, 72, 16, 10, 27, 96, 2, 79]
abbrev dktX4_tongue_5 : List UInt8 := dkwX4_tongue_5 ++ dktX4_tongue_6
def dkwX4_tongue_4 : List UInt8 := [27, 104, 4, 96, 46, 79, 42, 180, 0, 48, 27, 42, 180, 0, 30, 27, 46, 79, 42, 180, 0, 51, 27, 42]
abbrev dktX4_tongue_4 : List UInt8 := dkwX4_tongue_4 ++ dktX4_tongue_5
def dkwX4_tongue_3 : List UInt8 := [104, 42, 180, 0, 17, 5, 27, 104, 46, 79, 42, 180, 0, 39, 5, 27, 104, 4, 96, 42, 180, 0, 17, 5]
abbrev dktX4_tongue_3 : List UInt8 := dkwX4_tongue_3 ++ dktX4_tongue_4
def dkwX4_tongue_2 : List UInt8 := [167, 0, 7, 42, 180, 0, 226, 181, 1, 13, 3, 60, 27, 16, 10, 162, 0, 86, 42, 180, 0, 39, 5, 27]
abbrev dktX4_tongue_2 : List UInt8 := dkwX4_tongue_2 ++ dktX4_tongue_3
def dkwX4_tongue_1 : List UInt8 := [181, 1, 7, 42, 42, 180, 0, 223, 181, 1, 10, 42, 42, 180, 0, 226, 2, 160, 0, 8, 16, 20]
abbrev dktX4_tongue_1 : List UInt8 := dkwX4_tongue_1 ++ dktX4_tongue_2
def dkwX4_tongue_0 : List UInt8 := [42, 182, 1, 1, 2, 159, 0, 5, 2, 172, 42, 42, 180, 0, 194, 181, 1, 4, 42, 42, 180, 0, 201]
abbrev dktX4_tongue_0 : List UInt8 := dkwX4_tongue_0 ++ dktX4_tongue_1
theorem dksX4_tongue_0 : cX4_tongue.data.toList.drop 0 = dktX4_tongue_0 := by decide +kernel
theorem dksX4_tongue_1 : cX4_tongue.data.toList.drop 23 = dktX4_tongue_1 := dk_seg dksX4_tongue_0 23 rfl rfl
theorem dksX4_tongue_2 : cX4_tongue.data.toList.drop 45 = dktX4_tongue_2 := dk_seg dksX4_tongue_1 22 rfl rfl
theorem dksX4_tongue_3 : cX4_tongue.data.toList.drop 69 = dktX4_tongue_3 := dk_seg dksX4_tongue_2 24 rfl rfl
theorem dksX4_tongue_4 : cX4_tongue.data.toList.drop 93 = dktX4_tongue_4 := dk_seg dksX4_tongue_3 24 rfl rfl
theorem dksX4_tongue_5 : cX4_tongue.data.toList.drop 117 = dktX4_tongue_5 := dk_seg dksX4_tongue_4 24 rfl rfl
theorem dksX4_tongue_6 : cX4_tongue.data.toList.drop 140 = dktX4_tongue_6 := dk_seg dksX4_tongue_5 23 rfl rfl
theorem dksX4_tongue_7 : cX4_tongue.data.toList.drop 164 = dktX4_tongue_7 := dk_seg dksX4_tongue_6 24 rfl rfl
theorem dksX4_tongue_8 : cX4_tongue.data.toList.drop 187 = dktX4_tongue_8 := dk_seg dksX4_tongue_7 23 rfl rfl
theorem dksX4_tongue_9 : cX4_tongue.data.toList.drop 209 = dktX4_tongue_9 := dk_seg dksX4_tongue_8 22 rfl rfl
theorem dksX4_tongue_10 : cX4_tongue.data.toList.drop 232 = dktX4_tongue_10 := dk_seg dksX4_tongue_9 23 rfl rfl
theorem dksX4_tongue_11 : cX4_tongue.data.toList.drop 254 = dktX4_tongue_11 := dk_seg dksX4_tongue_10 22 rfl rfl
theorem dksX4_tongue_12 : cX4_tongue.data.toList.drop 278 = dktX4_tongue_12 := dk_seg dksX4_tongue_11 24 rfl rfl
theorem dksX4_tongue_13 : cX4_tongue.data.toList.drop 302 = dktX4_tongue_13 := dk_seg dksX4_tongue_12 24 rfl rfl
theorem dX4_tongue_0 : decode cX4_tongue 0 = .ok (.aload_n 0, 1) := dk_42 (dk_at dksX4_tongue_0 0 rfl rfl)
theorem dX4_tongue_1 : decode cX4_tongue 1 = .ok (.invokevirtual 257, 3) := dk_182 1 1 (dk_at dksX4_tongue_0 1 rfl rfl)
theorem dX4_tongue_4 : decode cX4_tongue 4 = .ok (.iconst (-1), 1) := dk_2 (dk_at dksX4_tongue_0 4 rfl rfl)
theorem dX4_tongue_5 : decode cX4_tongue 5 = .ok (.if_icmp .eq 5, 3) := dk_159 0 5 (dk_at dksX4_tongue_0 5 rfl rfl)
theorem dX4_tongue_8 : decode cX4_tongue 8 = .ok (.iconst (-1), 1) := dk_2 (dk_at dksX4_tongue_0 8 rfl rfl)
theorem dX4_tongue_9 : decode cX4_tongue 9 = .ok (.ireturn, 1) := dk_172 (dk_at dksX4_tongue_0 9 rfl rfl)
theorem dX4_tongue_10 : decode cX4_tongue 10 = .ok (.aload_n 0, 1) := dk_42 (dk_at dksX4_tongue_0 10 rfl rfl)
theorem dX4_tongue_11 : decode cX4_tongue 11 = .ok (.aload_n 0, 1) := dk_42 (dk_at dksX4_tongue_0 11 rfl rfl)
theorem dX4_tongue_12 : decode cX4_tongue 12 = .ok (.getfield 194, 3) := dk_180 0 194 (dk_at dksX4_tongue_0 12 rfl rfl)
theorem dX4_tongue_15 : decode cX4_tongue 15 = .ok (.putfield 260, 3) := dk_181 1 4 (dk_at dksX4_tongue_0 15 rfl rfl)
theorem dX4_tongue_18 : decode cX4_tongue 18 = .ok (.aload_n 0, 1) := dk_42 (dk_at dksX4_tongue_0 18 rfl rfl)
theorem dX4_tongue_19 : decode cX4_tongue 19 = .ok (.aload_n 0, 1) := dk_42 (dk_at dksX4_tongue_0 19 rfl rfl)
theorem dX4_tongue_20 : decode cX4_tongue 20 = .ok (.getfield 201, 3) := dk_180 0 201 (dk_at dksX4_tongue_0 20 rfl rfl)
theorem dX4_tongue_23 : decode cX4_tongue 23 = .ok (.putfield 263, 3) := dk_181 1 7 (dk_at dksX4_tongue_1 0 rfl rfl)
theorem dX4_tongue_26 : decode cX4_tongue 26 = .ok (.aload_n 0, 1) := dk_42 (dk_at dksX4_tongue_1 3 rfl rfl)
theorem dX4_tongue_27 : decode cX4_tongue 27 = .ok (.aload_n 0, 1) := dk_42 (dk_at dksX4_tongue_1 4 rfl rfl)
theorem dX4_tongue_28 : decode cX4_tongue 28 = .ok (.getfield 223, 3) := dk_180 0 223 (dk_at dksX4_tongue_1 5 rfl rfl)
theorem dX4_tongue_31 : decode cX4_tongue 31 = .ok (.putfield 266, 3) := dk_181 1 10 (dk_at dksX4_tongue_1 8 rfl rfl)
theorem dX4_tongue_34 : decode cX4_tongue 34 = .ok (.aload_n 0, 1) := dk_42 (dk_at dksX4_tongue_1 11 rfl rfl)
theorem dX4_tongue_35 : decode cX4_tongue 35 = .ok (.aload_n 0, 1) := dk_42 (dk_at dksX4_tongue_1 12 rfl rfl)
theorem dX4_tongue_36 : decode cX4_tongue 36 = .ok (.getfield 226, 3) := dk_180 0 226 (dk_at dksX4_tongue_1 13 rfl rfl)
theorem dX4_tongue_39 : decode cX4_tongue 39 = .ok (.iconst (-1), 1) := dk_2 (dk_at dksX4_tongue_1 16 rfl rfl)
theorem dX4_tongue_40 : decode cX4_tongue 40 = .ok (.if_icmp .ne 8, 3) := dk_160 0 8 (dk_at dksX4_tongue_1 17 rfl rfl)
theorem dX4_tongue_43 : decode cX4_tongue 43 = .ok (.bipush 20, 2) := dk_16 20 (dk_at dksX4_tongue_1 20 rfl rfl)
theorem dX4_tongue_45 : decode cX4_tongue 45 = .ok (.goto 7, 3) := dk_167 0 7 (dk_at dksX4_tongue_2 0 rfl rfl)
theorem dX4_tongue_48 : decode cX4_tongue 48 = .ok (.aload_n 0, 1) := dk_42 (dk_at dksX4_tongue_2 3 rfl rfl)
theorem dX4_tongue_49 : decode cX4_tongue 49 = .ok (.getfield 226, 3) := dk_180 0 226 (dk_at dksX4_tongue_2 4 rfl rfl)
theorem dX4_tongue_52 : decode cX4_tongue 52 = .ok (.putfield 269, 3) := dk_181 1 13 (dk_at dksX4_tongue_2 7 rfl rfl)
theorem dX4_tongue_55 : decode cX4_tongue 55 = .ok (.iconst 0, 1) := dk_3 (dk_at dksX4_tongue_2 10 rfl rfl)
theorem dX4_tongue_56 : decode cX4_tongue 56 = .ok (.istore_n 1, 1) := dk_60 (dk_at dksX4_tongue_2 11 rfl rfl)
theorem dX4_tongue_57 : decode cX4_tongue 57 = .ok (.iload_n 1, 1) := dk_27 (dk_at dksX4_tongue_2 12 rfl rfl)
theorem dX4_tongue_58 : decode cX4_tongue 58 = .ok (.bipush 10, 2) := dk_16 10 (dk_at dksX4_tongue_2 13 rfl rfl)
theorem dX4_tongue_60 : decode cX4_tongue 60 = .ok (.if_icmp .ge 86, 3) := dk_162 0 86 (dk_at dksX4_tongue_2 15 rfl rfl)
theorem dX4_tongue_63 : decode cX4_tongue 63 = .ok (.aload_n 0, 1) := dk_42 (dk_at dksX4_tongue_2 18 rfl rfl)
theorem dX4_tongue_64 : decode cX4_tongue 64 = .ok (.getfield 39, 3) := dk_180 0 39 (dk_at dksX4_tongue_2 19 rfl rfl)
theorem dX4_tongue_67 : decode cX4_tongue 67 = .ok (.iconst 2, 1) := dk_5 (dk_at dksX4_tongue_2 22 rfl rfl)
theorem dX4_tongue_68 : decode cX4_tongue 68 = .ok (.iload_n 1, 1) := dk_27 (dk_at dksX4_tongue_2 23 rfl rfl)
theorem dX4_tongue_69 : decode cX4_tongue 69 = .ok (.imul, 1) := dk_104 (dk_at dksX4_tongue_3 0 rfl rfl)
theorem dX4_tongue_70 : decode cX4_tongue 70 = .ok (.aload_n 0, 1) := dk_42 (dk_at dksX4_tongue_3 1 rfl rfl)
theorem dX4_tongue_71 : decode cX4_tongue 71 = .ok (.getfield 17, 3) := dk_180 0 17 (dk_at dksX4_tongue_3 2 rfl rfl)
theorem dX4_tongue_74 : decode cX4_tongue 74 = .ok (.iconst 2, 1) := dk_5 (dk_at dksX4_tongue_3 5 rfl rfl)
theorem dX4_tongue_75 : decode cX4_tongue 75 = .ok (.iload_n 1, 1) := dk_27 (dk_at dksX4_tongue_3 6 rfl rfl)
theorem dX4_tongue_76 : decode cX4_tongue 76 = .ok (.imul, 1) := dk_104 (dk_at dksX4_tongue_3 7 rfl rfl)
theorem dX4_tongue_77 : decode cX4_tongue 77 = .ok (.iaload, 1) := dk_46 (dk_at dksX4_tongue_3 8 rfl rfl)
theorem dX4_tongue_78 : decode cX4_tongue 78 = .ok (.iastore, 1) := dk_79 (dk_at dksX4_tongue_3 9 rfl rfl)
theorem dX4_tongue_79 : decode cX4_tongue 79 = .ok (.aload_n 0, 1) := dk_42 (dk_at dksX4_tongue_3 10 rfl rfl)
theorem dX4_tongue_80 : decode cX4_tongue 80 = .ok (.getfield 39, 3) := dk_180 0 39 (dk_at dksX4_tongue_3 11 rfl rfl)
theorem dX4_tongue_83 : decode cX4_tongue 83 = .ok (.iconst 2, 1) := dk_5 (dk_at dksX4_tongue_3 14 rfl rfl)
theorem dX4_tongue_84 : decode cX4_tongue 84 = .ok (.iload_n 1, 1) := dk_27 (dk_at dksX4_tongue_3 15 rfl rfl)
theorem dX4_tongue_85 : decode cX4_tongue 85 = .ok (.imul, 1) := dk_104 (dk_at dksX4_tongue_3 16 rfl rfl)
theorem dX4_tongue_86 : decode cX4_tongue 86 = .ok (.iconst 1, 1) := dk_4 (dk_at dksX4_tongue_3 17 rfl rfl)
theorem dX4_tongue_87 : decode cX4_tongue 87 = .ok (.iadd, 1) := dk_96 (dk_at dksX4_tongue_3 18 rfl rfl)
theorem dX4_tongue_88 : decode cX4_tongue 88 = .ok (.aload_n 0, 1) := dk_42 (dk_at dksX4_tongue_3 19 rfl rfl)
theorem dX4_tongue_89 : decode cX4_tongue 89 = .ok (.getfield 17, 3) := dk_180 0 17 (dk_at dksX4_tongue_3 20 rfl rfl)
theorem dX4_tongue_92 : decode cX4_tongue 92 = .ok (.iconst 2, 1) := dk_5 (dk_at dksX4_tongue_3 23 rfl rfl)
theorem dX4_tongue_93 : decode cX4_tongue 93 = .ok (.iload_n 1, 1) := dk_27 (dk_at dksX4_tongue_4 0 rfl rfl)
theorem dX4_tongue_94 : decode cX4_tongue 94 = .ok (.imul, 1) := dk_104 (dk_at dksX4_tongue_4 1 rfl rfl)
theorem dX4_tongue_95 : decode cX4_tongue 95 = .ok (.iconst 1, 1) := dk_4 (dk_at dksX4_tongue_4 2 rfl rfl)
theorem dX4_tongue_96 : decode cX4_tongue 96 = .ok (.iadd, 1) := dk_96 (dk_at dksX4_tongue_4 3 rfl rfl)
theorem dX4_tongue_97 : decode cX4_tongue 97 = .ok (.iaload, 1) := dk_46 (dk_at dksX4_tongue_4 4 rfl rfl)
theorem dX4_tongue_98 : decode cX4_tongue 98 = .ok (.iastore, 1) := dk_79 (dk_at dksX4_tongue_4 5 rfl rfl)
theorem dX4_tongue_99 : decode cX4_tongue 99 = .ok (.aload_n 0, 1) := dk_42 (dk_at dksX4_tongue_4 6 rfl rfl)
theorem dX4_tongue_100 : decode cX4_tongue 100 = .ok (.getfield 48, 3) := dk_180 0 48 (dk_at dksX4_tongue_4 7 rfl rfl)
theorem dX4_tongue_103 : decode cX4_tongue 103 = .ok (.iload_n 1, 1) := dk_27 (dk_at dksX4_tongue_4 10 rfl rfl)
theorem dX4_tongue_104 : decode cX4_tongue 104 = .ok (.aload_n 0, 1) := dk_42 (dk_at dksX4_tongue_4 11 rfl rfl)
theorem dX4_tongue_105 : decode cX4_tongue 105 = .ok (.getfield 30, 3) := dk_180 0 30 (dk_at dksX4_tongue_4 12 rfl rfl)
theorem dX4_tongue_108 : decode cX4_tongue 108 = .ok (.iload_n 1, 1) := dk_27 (dk_at dksX4_tongue_4 15 rfl rfl)
theorem dX4_tongue_109 : decode cX4_tongue 109 = .ok (.iaload, 1) := dk_46 (dk_at dksX4_tongue_4 16 rfl rfl)
theorem dX4_tongue_110 : decode cX4_tongue 110 = .ok (.iastore, 1) := dk_79 (dk_at dksX4_tongue_4 17 rfl rfl)
theorem dX4_tongue_111 : decode cX4_tongue 111 = .ok (.aload_n 0, 1) := dk_42 (dk_at dksX4_tongue_4 18 rfl rfl)
theorem dX4_tongue_112 : decode cX4_tongue 112 = .ok (.getfield 51, 3) := dk_180 0 51 (dk_at dksX4_tongue_4 19 rfl rfl)
theorem dX4_tongue_115 : decode cX4_tongue 115 = .ok (.iload_n 1, 1) := dk_27 (dk_at dksX4_tongue_4 22 rfl rfl)
theorem dX4_tongue_116 : decode cX4_tongue 116 = .ok (.aload_n 0, 1) := dk_42 (dk_at dksX4_tongue_4 23 rfl rfl)
theorem dX4_tongue_117 : decode cX4_tongue 117 = .ok (.getfield 33, 3) := dk_180 0 33 (dk_at dksX4_tongue_5 0 rfl rfl)
theorem dX4_tongue_120 : decode cX4_tongue 120 = .ok (.iload_n 1, 1) := dk_27 (dk_at dksX4_tongue_5 3 rfl rfl)
theorem dX4_tongue_121 : decode cX4_tongue 121 = .ok (.iaload, 1) := dk_46 (dk_at dksX4_tongue_5 4 rfl rfl)
theorem dX4_tongue_122 : decode cX4_tongue 122 = .ok (.iastore, 1) := dk_79 (dk_at dksX4_tongue_5 5 rfl rfl)
theorem dX4_tongue_123 : decode cX4_tongue 123 = .ok (.aload_n 0, 1) := dk_42 (dk_at dksX4_tongue_5 6 rfl rfl)
theorem dX4_tongue_124 : decode cX4_tongue 124 = .ok (.getfield 72, 3) := dk_180 0 72 (dk_at dksX4_tongue_5 7 rfl rfl)
theorem dX4_tongue_127 : decode cX4_tongue 127 = .ok (.iload_n 1, 1) := dk_27 (dk_at dksX4_tongue_5 10 rfl rfl)
theorem dX4_tongue_128 : decode cX4_tongue 128 = .ok (.iconst (-1), 1) := dk_2 (dk_at dksX4_tongue_5 11 rfl rfl)
theorem dX4_tongue_129 : decode cX4_tongue 129 = .ok (.iastore, 1) := dk_79 (dk_at dksX4_tongue_5 12 rfl rfl)
theorem dX4_tongue_130 : decode cX4_tongue 130 = .ok (.aload_n 0, 1) := dk_42 (dk_at dksX4_tongue_5 13 rfl rfl)
theorem dX4_tongue_131 : decode cX4_tongue 131 = .ok (.getfield 72, 3) := dk_180 0 72 (dk_at dksX4_tongue_5 14 rfl rfl)
theorem dX4_tongue_134 : decode cX4_tongue 134 = .ok (.bipush 10, 2) := dk_16 10 (dk_at dksX4_tongue_5 17 rfl rfl)
theorem dX4_tongue_136 : decode cX4_tongue 136 = .ok (.iload_n 1, 1) := dk_27 (dk_at dksX4_tongue_5 19 rfl rfl)
theorem dX4_tongue_137 : decode cX4_tongue 137 = .ok (.iadd, 1) := dk_96 (dk_at dksX4_tongue_5 20 rfl rfl)
theorem dX4_tongue_138 : decode cX4_tongue 138 = .ok (.iconst (-1), 1) := dk_2 (dk_at dksX4_tongue_5 21 rfl rfl)
theorem dX4_tongue_139 : decode cX4_tongue 139 = .ok (.iastore, 1) := dk_79 (dk_at dksX4_tongue_5 22 rfl rfl)
theorem dX4_tongue_140 : decode cX4_tongue 140 = .ok (.iinc 1 1, 3) := dk_132 1 1 (dk_at dksX4_tongue_6 0 rfl rfl)
theorem dX4_tongue_143 : decode cX4_tongue 143 = .ok (.goto (-86), 3) := dk_167 255 170 (dk_at dksX4_tongue_6 3 rfl rfl)
theorem dX4_tongue_146 : decode cX4_tongue 146 = .ok (.iconst 0, 1) := dk_3 (dk_at dksX4_tongue_6 6 rfl rfl)
theorem dX4_tongue_147 : decode cX4_tongue 147 = .ok (.istore_n 1, 1) := dk_60 (dk_at dksX4_tongue_6 7 rfl rfl)
theorem dX4_tongue_148 : decode cX4_tongue 148 = .ok (.iload_n 1, 1) := dk_27 (dk_at dksX4_tongue_6 8 rfl rfl)
theorem dX4_tongue_149 : decode cX4_tongue 149 = .ok (.iconst 3, 1) := dk_6 (dk_at dksX4_tongue_6 9 rfl rfl)
theorem dX4_tongue_150 : decode cX4_tongue 150 = .ok (.if_icmp .ge 28, 3) := dk_162 0 28 (dk_at dksX4_tongue_6 10 rfl rfl)
theorem dX4_tongue_153 : decode cX4_tongue 153 = .ok (.aload_n 0, 1) := dk_42 (dk_at dksX4_tongue_6 13 rfl rfl)
theorem dX4_tongue_154 : decode cX4_tongue 154 = .ok (.getfield 42, 3) := dk_180 0 42 (dk_at dksX4_tongue_6 14 rfl rfl)
theorem dX4_tongue_157 : decode cX4_tongue 157 = .ok (.iload_n 1, 1) := dk_27 (dk_at dksX4_tongue_6 17 rfl rfl)
theorem dX4_tongue_158 : decode cX4_tongue 158 = .ok (.aload_n 0, 1) := dk_42 (dk_at dksX4_tongue_6 18 rfl rfl)
theorem dX4_tongue_159 : decode cX4_tongue 159 = .ok (.getfield 24, 3) := dk_180 0 24 (dk_at dksX4_tongue_6 19 rfl rfl)
theorem dX4_tongue_162 : decode cX4_tongue 162 = .ok (.iload_n 1, 1) := dk_27 (dk_at dksX4_tongue_6 22 rfl rfl)
theorem dX4_tongue_163 : decode cX4_tongue 163 = .ok (.iaload, 1) := dk_46 (dk_at dksX4_tongue_6 23 rfl rfl)
theorem dX4_tongue_164 : decode cX4_tongue 164 = .ok (.iastore, 1) := dk_79 (dk_at dksX4_tongue_7 0 rfl rfl)
theorem dX4_tongue_165 : decode cX4_tongue 165 = .ok (.aload_n 0, 1) := dk_42 (dk_at dksX4_tongue_7 1 rfl rfl)
theorem dX4_tongue_166 : decode cX4_tongue 166 = .ok (.getfield 57, 3) := dk_180 0 57 (dk_at dksX4_tongue_7 2 rfl rfl)
theorem dX4_tongue_169 : decode cX4_tongue 169 = .ok (.iload_n 1, 1) := dk_27 (dk_at dksX4_tongue_7 5 rfl rfl)
theorem dX4_tongue_170 : decode cX4_tongue 170 = .ok (.iconst 0, 1) := dk_3 (dk_at dksX4_tongue_7 6 rfl rfl)
theorem dX4_tongue_171 : decode cX4_tongue 171 = .ok (.iastore, 1) := dk_79 (dk_at dksX4_tongue_7 7 rfl rfl)
theorem dX4_tongue_172 : decode cX4_tongue 172 = .ok (.iinc 1 1, 3) := dk_132 1 1 (dk_at dksX4_tongue_7 8 rfl rfl)
theorem dX4_tongue_175 : decode cX4_tongue 175 = .ok (.goto (-27), 3) := dk_167 255 229 (dk_at dksX4_tongue_7 11 rfl rfl)
theorem dX4_tongue_178 : decode cX4_tongue 178 = .ok (.iconst 0, 1) := dk_3 (dk_at dksX4_tongue_7 14 rfl rfl)
theorem dX4_tongue_179 : decode cX4_tongue 179 = .ok (.istore_n 1, 1) := dk_60 (dk_at dksX4_tongue_7 15 rfl rfl)
theorem dX4_tongue_180 : decode cX4_tongue 180 = .ok (.iload_n 1, 1) := dk_27 (dk_at dksX4_tongue_7 16 rfl rfl)
theorem dX4_tongue_181 : decode cX4_tongue 181 = .ok (.bipush 60, 2) := dk_16 60 (dk_at dksX4_tongue_7 17 rfl rfl)
theorem dX4_tongue_183 : decode cX4_tongue 183 = .ok (.if_icmp .ge 21, 3) := dk_162 0 21 (dk_at dksX4_tongue_7 19 rfl rfl)
theorem dX4_tongue_186 : decode cX4_tongue 186 = .ok (.aload_n 0, 1) := dk_42 (dk_at dksX4_tongue_7 22 rfl rfl)
theorem dX4_tongue_187 : decode cX4_tongue 187 = .ok (.getfield 45, 3) := dk_180 0 45 (dk_at dksX4_tongue_8 0 rfl rfl)
theorem dX4_tongue_190 : decode cX4_tongue 190 = .ok (.iload_n 1, 1) := dk_27 (dk_at dksX4_tongue_8 3 rfl rfl)
theorem dX4_tongue_191 : decode cX4_tongue 191 = .ok (.aload_n 0, 1) := dk_42 (dk_at dksX4_tongue_8 4 rfl rfl)
theorem dX4_tongue_192 : decode cX4_tongue 192 = .ok (.getfield 27, 3) := dk_180 0 27 (dk_at dksX4_tongue_8 5 rfl rfl)
theorem dX4_tongue_195 : decode cX4_tongue 195 = .ok (.iload_n 1, 1) := dk_27 (dk_at dksX4_tongue_8 8 rfl rfl)
theorem dX4_tongue_196 : decode cX4_tongue 196 = .ok (.iaload, 1) := dk_46 (dk_at dksX4_tongue_8 9 rfl rfl)
theorem dX4_tongue_197 : decode cX4_tongue 197 = .ok (.iastore, 1) := dk_79 (dk_at dksX4_tongue_8 10 rfl rfl)
theorem dX4_tongue_198 : decode cX4_tongue 198 = .ok (.iinc 1 1, 3) := dk_132 1 1 (dk_at dksX4_tongue_8 11 rfl rfl)
theorem dX4_tongue_201 : decode cX4_tongue 201 = .ok (.goto (-21), 3) := dk_167 255 235 (dk_at dksX4_tongue_8 14 rfl rfl)
theorem dX4_tongue_204 : decode cX4_tongue 204 = .ok (.iconst 0, 1) := dk_3 (dk_at dksX4_tongue_8 17 rfl rfl)
theorem dX4_tongue_205 : decode cX4_tongue 205 = .ok (.istore_n 1, 1) := dk_60 (dk_at dksX4_tongue_8 18 rfl rfl)
theorem dX4_tongue_206 : decode cX4_tongue 206 = .ok (.iload_n 1, 1) := dk_27 (dk_at dksX4_tongue_8 19 rfl rfl)
theorem dX4_tongue_207 : decode cX4_tongue 207 = .ok (.bipush 24, 2) := dk_16 24 (dk_at dksX4_tongue_8 20 rfl rfl)
theorem dX4_tongue_209 : decode cX4_tongue 209 = .ok (.if_icmp .ge 21, 3) := dk_162 0 21 (dk_at dksX4_tongue_9 0 rfl rfl)
theorem dX4_tongue_212 : decode cX4_tongue 212 = .ok (.aload_n 0, 1) := dk_42 (dk_at dksX4_tongue_9 3 rfl rfl)
theorem dX4_tongue_213 : decode cX4_tongue 213 = .ok (.getfield 54, 3) := dk_180 0 54 (dk_at dksX4_tongue_9 4 rfl rfl)
theorem dX4_tongue_216 : decode cX4_tongue 216 = .ok (.iload_n 1, 1) := dk_27 (dk_at dksX4_tongue_9 7 rfl rfl)
theorem dX4_tongue_217 : decode cX4_tongue 217 = .ok (.aload_n 0, 1) := dk_42 (dk_at dksX4_tongue_9 8 rfl rfl)
theorem dX4_tongue_218 : decode cX4_tongue 218 = .ok (.getfield 36, 3) := dk_180 0 36 (dk_at dksX4_tongue_9 9 rfl rfl)
theorem dX4_tongue_221 : decode cX4_tongue 221 = .ok (.iload_n 1, 1) := dk_27 (dk_at dksX4_tongue_9 12 rfl rfl)
theorem dX4_tongue_222 : decode cX4_tongue 222 = .ok (.iaload, 1) := dk_46 (dk_at dksX4_tongue_9 13 rfl rfl)
theorem dX4_tongue_223 : decode cX4_tongue 223 = .ok (.iastore, 1) := dk_79 (dk_at dksX4_tongue_9 14 rfl rfl)
theorem dX4_tongue_224 : decode cX4_tongue 224 = .ok (.iinc 1 1, 3) := dk_132 1 1 (dk_at dksX4_tongue_9 15 rfl rfl)
theorem dX4_tongue_227 : decode cX4_tongue 227 = .ok (.goto (-21), 3) := dk_167 255 235 (dk_at dksX4_tongue_9 18 rfl rfl)
theorem dX4_tongue_230 : decode cX4_tongue 230 = .ok (.aload_n 0, 1) := dk_42 (dk_at dksX4_tongue_9 21 rfl rfl)
theorem dX4_tongue_231 : decode cX4_tongue 231 = .ok (.iconst 0, 1) := dk_3 (dk_at dksX4_tongue_9 22 rfl rfl)
theorem dX4_tongue_232 : decode cX4_tongue 232 = .ok (.putfield 271, 3) := dk_181 1 15 (dk_at dksX4_tongue_10 0 rfl rfl)
theorem dX4_tongue_235 : decode cX4_tongue 235 = .ok (.aload_n 0, 1) := dk_42 (dk_at dksX4_tongue_10 3 rfl rfl)
theorem dX4_tongue_236 : decode cX4_tongue 236 = .ok (.iconst 0, 1) := dk_3 (dk_at dksX4_tongue_10 4 rfl rfl)
theorem dX4_tongue_237 : decode cX4_tongue 237 = .ok (.putfield 274, 3) := dk_181 1 18 (dk_at dksX4_tongue_10 5 rfl rfl)
theorem dX4_tongue_240 : decode cX4_tongue 240 = .ok (.aload_n 0, 1) := dk_42 (dk_at dksX4_tongue_10 8 rfl rfl)
theorem dX4_tongue_241 : decode cX4_tongue 241 = .ok (.iconst 1, 1) := dk_4 (dk_at dksX4_tongue_10 9 rfl rfl)
theorem dX4_tongue_242 : decode cX4_tongue 242 = .ok (.aload_n 0, 1) := dk_42 (dk_at dksX4_tongue_10 10 rfl rfl)
theorem dX4_tongue_243 : decode cX4_tongue 243 = .ok (.getfield 263, 3) := dk_180 1 7 (dk_at dksX4_tongue_10 11 rfl rfl)
theorem dX4_tongue_246 : decode cX4_tongue 246 = .ok (.ishl, 1) := dk_120 (dk_at dksX4_tongue_10 14 rfl rfl)
theorem dX4_tongue_247 : decode cX4_tongue 247 = .ok (.iconst 1, 1) := dk_4 (dk_at dksX4_tongue_10 15 rfl rfl)
theorem dX4_tongue_248 : decode cX4_tongue 248 = .ok (.isub, 1) := dk_100 (dk_at dksX4_tongue_10 16 rfl rfl)
theorem dX4_tongue_249 : decode cX4_tongue 249 = .ok (.putfield 277, 3) := dk_181 1 21 (dk_at dksX4_tongue_10 17 rfl rfl)
theorem dX4_tongue_252 : decode cX4_tongue 252 = .ok (.aload_n 0, 1) := dk_42 (dk_at dksX4_tongue_10 20 rfl rfl)
theorem dX4_tongue_253 : decode cX4_tongue 253 = .ok (.iconst (-1), 1) := dk_2 (dk_at dksX4_tongue_10 21 rfl rfl)
theorem dX4_tongue_254 : decode cX4_tongue 254 = .ok (.putfield 280, 3) := dk_181 1 24 (dk_at dksX4_tongue_11 0 rfl rfl)
theorem dX4_tongue_257 : decode cX4_tongue 257 = .ok (.aload_n 0, 1) := dk_42 (dk_at dksX4_tongue_11 3 rfl rfl)
theorem dX4_tongue_258 : decode cX4_tongue 258 = .ok (.iconst 0, 1) := dk_3 (dk_at dksX4_tongue_11 4 rfl rfl)
theorem dX4_tongue_259 : decode cX4_tongue 259 = .ok (.putfield 283, 3) := dk_181 1 27 (dk_at dksX4_tongue_11 5 rfl rfl)
theorem dX4_tongue_262 : decode cX4_tongue 262 = .ok (.aload_n 0, 1) := dk_42 (dk_at dksX4_tongue_11 8 rfl rfl)
theorem dX4_tongue_263 : decode cX4_tongue 263 = .ok (.iconst 0, 1) := dk_3 (dk_at dksX4_tongue_11 9 rfl rfl)
theorem dX4_tongue_264 : decode cX4_tongue 264 = .ok (.putfield 286, 3) := dk_181 1 30 (dk_at dksX4_tongue_11 10 rfl rfl)
theorem dX4_tongue_267 : decode cX4_tongue 267 = .ok (.aload_n 0, 1) := dk_42 (dk_at dksX4_tongue_11 13 rfl rfl)
theorem dX4_tongue_268 : decode cX4_tongue 268 = .ok (.lconst 0, 1) := dk_9 (dk_at dksX4_tongue_11 14 rfl rfl)
theorem dX4_tongue_269 : decode cX4_tongue 269 = .ok (.putfield 289, 3) := dk_181 1 33 (dk_at dksX4_tongue_11 15 rfl rfl)
theorem dX4_tongue_272 : decode cX4_tongue 272 = .ok (.aload_n 0, 1) := dk_42 (dk_at dksX4_tongue_11 18 rfl rfl)
theorem dX4_tongue_273 : decode cX4_tongue 273 = .ok (.iconst 0, 1) := dk_3 (dk_at dksX4_tongue_11 19 rfl rfl)
theorem dX4_tongue_274 : decode cX4_tongue 274 = .ok (.putfield 292, 3) := dk_181 1 36 (dk_at dksX4_tongue_11 20 rfl rfl)
theorem dX4_tongue_277 : decode cX4_tongue 277 = .ok (.iconst 0, 1) := dk_3 (dk_at dksX4_tongue_11 23 rfl rfl)
theorem dX4_tongue_278 : decode cX4_tongue 278 = .ok (.istore_n 1, 1) := dk_60 (dk_at dksX4_tongue_12 0 rfl rfl)
theorem dX4_tongue_279 : decode cX4_tongue 279 = .ok (.iload_n 1, 1) := dk_27 (dk_at dksX4_tongue_12 1 rfl rfl)
theorem dX4_tongue_280 : decode cX4_tongue 280 = .ok (.iconst 3, 1) := dk_6 (dk_at dksX4_tongue_12 2 rfl rfl)
theorem dX4_tongue_281 : decode cX4_tongue 281 = .ok (.if_icmp .ge 16, 3) := dk_162 0 16 (dk_at dksX4_tongue_12 3 rfl rfl)
theorem dX4_tongue_284 : decode cX4_tongue 284 = .ok (.aload_n 0, 1) := dk_42 (dk_at dksX4_tongue_12 6 rfl rfl)
theorem dX4_tongue_285 : decode cX4_tongue 285 = .ok (.getfield 78, 3) := dk_180 0 78 (dk_at dksX4_tongue_12 7 rfl rfl)
theorem dX4_tongue_288 : decode cX4_tongue 288 = .ok (.iload_n 1, 1) := dk_27 (dk_at dksX4_tongue_12 10 rfl rfl)
theorem dX4_tongue_289 : decode cX4_tongue 289 = .ok (.iconst 0, 1) := dk_3 (dk_at dksX4_tongue_12 11 rfl rfl)
theorem dX4_tongue_290 : decode cX4_tongue 290 = .ok (.bastore, 1) := dk_84 (dk_at dksX4_tongue_12 12 rfl rfl)
theorem dX4_tongue_291 : decode cX4_tongue 291 = .ok (.iinc 1 1, 3) := dk_132 1 1 (dk_at dksX4_tongue_12 13 rfl rfl)
theorem dX4_tongue_294 : decode cX4_tongue 294 = .ok (.goto (-15), 3) := dk_167 255 241 (dk_at dksX4_tongue_12 16 rfl rfl)
theorem dX4_tongue_297 : decode cX4_tongue 297 = .ok (.aload_n 0, 1) := dk_42 (dk_at dksX4_tongue_12 19 rfl rfl)
theorem dX4_tongue_298 : decode cX4_tongue 298 = .ok (.iconst 0, 1) := dk_3 (dk_at dksX4_tongue_12 20 rfl rfl)
theorem dX4_tongue_299 : decode cX4_tongue 299 = .ok (.putfield 131, 3) := dk_181 0 131 (dk_at dksX4_tongue_12 21 rfl rfl)
theorem dX4_tongue_302 : decode cX4_tongue 302 = .ok (.aload_n 0, 1) := dk_42 (dk_at dksX4_tongue_13 0 rfl rfl)
theorem dX4_tongue_303 : decode cX4_tongue 303 = .ok (.getfield 260, 3) := dk_180 1 4 (dk_at dksX4_tongue_13 1 rfl rfl)
theorem dX4_tongue_306 : decode cX4_tongue 306 = .ok (.ireturn, 1) := dk_172 (dk_at dksX4_tongue_13 4 rfl rfl)
def dkwX4_thing_3 : List UInt8 := [46, 172, 42, 180, 1, 15, 27, 184, 1, 39, 153, 0, 7, 4, 167, 0, 4, 3, 172, 2, 172]
abbrev dktX4_thing_3 : List UInt8 := dkwX4_thing_3 ++ []
def dkwX4_thing_2 : List UInt8 := [42, 27, 182, 1, 42, 172, 42, 27, 182, 1, 49, 172, 42, 180, 0, 48, 27, 46, 172, 42, 180, 0, 51, 27]
abbrev dktX4_thing_2 : List UInt8 := dkwX4_thing_2 ++ dktX4_thing_3
def dkwX4_thing_1 : List UInt8 := [170, 0, 0, 0, 76, 0, 0, 0, 0, 0, 0, 0, 4, 0, 0, 0, 33, 0, 0, 0, 39, 0, 0, 0, 45, 0, 0, 0, 52, 0, 0, 0, 59]
abbrev dktX4_thing_1 : List UInt8 := dkwX4_thing_1 ++ dktX4_thing_2
def dkwX4_thing_0 : List UInt8 := [42, 27, 182, 1, 46, 154, 0, 5, 2, 172, 28]
abbrev dktX4_thing_0 : List UInt8 := dkwX4_thing_0 ++ dktX4_thing_1
theorem dksX4_thing_0 : cX4_thing.data.toList.drop 0 = dktX4_thing_0 := by decide +kernel
theorem dksX4_thing_1 : cX4_thing.data.toList.drop 11 = dktX4_thing_1 := dk_seg dksX4_thing_0 11 rfl rfl
theorem dksX4_thing_2 : cX4_thing.data.toList.drop 44 = dktX4_thing_2 := dk_seg dksX4_thing_1 33 rfl rfl
theorem dksX4_thing_3 : cX4_thing.data.toList.drop 68 = dktX4_thing_3 := dk_seg dksX4_thing_2 24 rfl rfl
theorem dX4_thing_0 : decode cX4_thing 0 = .ok (.aload_n 0, 1) := dk_42 (dk_at dksX4_thing_0 0 rfl rfl)
theorem dX4_thing_1 : decode cX4_thing 1 = .ok (.iload_n 1, 1) := dk_27 (dk_at dksX4_thing_0 1 rfl rfl)
theorem dX4_thing_2 : decode cX4_thing 2 = .ok (.invokevirtual 302, 3) := dk_182 1 46 (dk_at dksX4_thing_0 2 rfl rfl)
theorem dX4_thing_5 : decode cX4_thing 5 = .ok (.ifCond .ne 5, 3) := dk_154 0 5 (dk_at dksX4_thing_0 5 rfl rfl)
theorem dX4_thing_8 : decode cX4_thing 8 = .ok (.iconst (-1), 1) := dk_2 (dk_at dksX4_thing_0 8 rfl rfl)
theorem dX4_thing_9 : decode cX4_thing 9 = .ok (.ireturn, 1) := dk_172 (dk_at dksX4_thing_0 9 rfl rfl)
theorem dX4_thing_10 : decode cX4_thing 10 = .ok (.iload_n 2, 1) := dk_28 (dk_at dksX4_thing_0 10 rfl rfl)
theorem dX4_thing_11 : decode cX4_thing 11 = .ok (.tableswitch 76 0 4 #[33, 39, 45, 52, 59], 33) := by decide +kernel
theorem dX4_thing_44 : decode cX4_thing 44 = .ok (.aload_n 0, 1) := dk_42 (dk_at dksX4_thing_2 0 rfl rfl)
theorem dX4_thing_45 : decode cX4_thing 45 = .ok (.iload_n 1, 1) := dk_27 (dk_at dksX4_thing_2 1 rfl rfl)
theorem dX4_thing_46 : decode cX4_thing 46 = .ok (.invokevirtual 298, 3) := dk_182 1 42 (dk_at dksX4_thing_2 2 rfl rfl)
theorem dX4_thing_49 : decode cX4_thing 49 = .ok (.ireturn, 1) := dk_172 (dk_at dksX4_thing_2 5 rfl rfl)
theorem dX4_thing_50 : decode cX4_thing 50 = .ok (.aload_n 0, 1) := dk_42 (dk_at dksX4_thing_2 6 rfl rfl)
theorem dX4_thing_51 : decode cX4_thing 51 = .ok (.iload_n 1, 1) := dk_27 (dk_at dksX4_thing_2 7 rfl rfl)
theorem dX4_thing_52 : decode cX4_thing 52 = .ok (.invokevirtual 305, 3) := dk_182 1 49 (dk_at dksX4_thing_2 8 rfl rfl)
theorem dX4_thing_55 : decode cX4_thing 55 = .ok (.ireturn, 1) := dk_172 (dk_at dksX4_thing_2 11 rfl rfl)
theorem dX4_thing_56 : decode cX4_thing 56 = .ok (.aload_n 0, 1) := dk_42 (dk_at dksX4_thing_2 12 rfl rfl)
theorem dX4_thing_57 : decode cX4_thing 57 = .ok (.getfield 48, 3) := dk_180 0 48 (dk_at dksX4_thing_2 13 rfl rfl)
theorem dX4_thing_60 : decode cX4_thing 60 = .ok (.iload_n 1, 1) := dk_27 (dk_at dksX4_thing_2 16 rfl rfl)
theorem dX4_thing_61 : decode cX4_thing 61 = .ok (.iaload, 1) := dk_46 (dk_at dksX4_thing_2 17 rfl rfl)
theorem dX4_thing_62 : decode cX4_thing 62 = .ok (.ireturn, 1) := dk_172 (dk_at dksX4_thing_2 18 rfl rfl)
theorem dX4_thing_63 : decode cX4_thing 63 = .ok (.aload_n 0, 1) := dk_42 (dk_at dksX4_thing_2 19 rfl rfl)
theorem dX4_thing_64 : decode cX4_thing 64 = .ok (.getfield 51, 3) := dk_180 0 51 (dk_at dksX4_thing_2 20 rfl rfl)
theorem dX4_thing_67 : decode cX4_thing 67 = .ok (.iload_n 1, 1) := dk_27 (dk_at dksX4_thing_2 23 rfl rfl)
theorem dX4_thing_68 : decode cX4_thing 68 = .ok (.iaload, 1) := dk_46 (dk_at dksX4_thing_3 0 rfl rfl)
theorem dX4_thing_69 : decode cX4_thing 69 = .ok (.ireturn, 1) := dk_172 (dk_at dksX4_thing_3 1 rfl rfl)
theorem dX4_thing_70 : decode cX4_thing 70 = .ok (.aload_n 0, 1) := dk_42 (dk_at dksX4_thing_3 2 rfl rfl)
theorem dX4_thing_71 : decode cX4_thing 71 = .ok (.getfield 271, 3) := dk_180 1 15 (dk_at dksX4_thing_3 3 rfl rfl)
theorem dX4_thing_74 : decode cX4_thing 74 = .ok (.iload_n 1, 1) := dk_27 (dk_at dksX4_thing_3 6 rfl rfl)
theorem dX4_thing_75 : decode cX4_thing 75 = .ok (.invokestatic 295, 3) := dk_184 1 39 (dk_at dksX4_thing_3 7 rfl rfl)
theorem dX4_thing_78 : decode cX4_thing 78 = .ok (.ifCond .eq 7, 3) := dk_153 0 7 (dk_at dksX4_thing_3 10 rfl rfl)
theorem dX4_thing_81 : decode cX4_thing 81 = .ok (.iconst 1, 1) := dk_4 (dk_at dksX4_thing_3 13 rfl rfl)
theorem dX4_thing_82 : decode cX4_thing 82 = .ok (.goto 4, 3) := dk_167 0 4 (dk_at dksX4_thing_3 14 rfl rfl)
theorem dX4_thing_85 : decode cX4_thing 85 = .ok (.iconst 0, 1) := dk_3 (dk_at dksX4_thing_3 17 rfl rfl)
theorem dX4_thing_86 : decode cX4_thing 86 = .ok (.ireturn, 1) := dk_172 (dk_at dksX4_thing_3 18 rfl rfl)
theorem dX4_thing_87 : decode cX4_thing 87 = .ok (.iconst (-1), 1) := dk_2 (dk_at dksX4_thing_3 19 rfl rfl)
theorem dX4_thing_88 : decode cX4_thing 88 = .ok (.ireturn, 1) := dk_172 (dk_at dksX4_thing_3 20 rfl rfl)
def dkwX4_isThing_0 : List UInt8 := [27, 3, 42, 180, 1, 4, 4, 100, 184, 0, 135, 172]
abbrev dktX4_isThing_0 : List UInt8 := dkwX4_isThing_0 ++ []
theorem dksX4_isThing_0 : cX4_isThing.data.toList.drop 0 = dktX4_isThing_0 := by decide +kernel
theorem dX4_isThing_0 : decode cX4_isThing 0 = .ok (.iload_n 1, 1) := dk_27 (dk_at dksX4_isThing_0 0 rfl rfl)
theorem dX4_isThing_1 : decode cX4_isThing 1 = .ok (.iconst 0, 1) := dk_3 (dk_at dksX4_isThing_0 1 rfl rfl)
theorem dX4_isThing_2 : decode cX4_isThing 2 = .ok (.aload_n 0, 1) := dk_42 (dk_at dksX4_isThing_0 2 rfl rfl)
theorem dX4_isThing_3 : decode cX4_isThing 3 = .ok (.getfield 260, 3) := dk_180 1 4 (dk_at dksX4_isThing_0 3 rfl rfl)
theorem dX4_isThing_6 : decode cX4_isThing 6 = .ok (.iconst 1, 1) := dk_4 (dk_at dksX4_isThing_0 6 rfl rfl)
theorem dX4_isThing_7 : decode cX4_isThing 7 = .ok (.isub, 1) := dk_100 (dk_at dksX4_isThing_0 7 rfl rfl)
theorem dX4_isThing_8 : decode cX4_isThing 8 = .ok (.invokestatic 135, 3) := dk_184 0 135 (dk_at dksX4_isThing_0 8 rfl rfl)
theorem dX4_isThing_11 : decode cX4_isThing 11 = .ok (.ireturn, 1) := dk_172 (dk_at dksX4_isThing_0 11 rfl rfl)
def dkwX4_worth_0 : List UInt8 := [42, 180, 0, 39, 5, 27, 104, 46, 172]
abbrev dktX4_worth_0 : List UInt8 := dkwX4_worth_0 ++ []
theorem dksX4_worth_0 : cX4_worth.data.toList.drop 0 = dktX4_worth_0 := by decide +kernel
theorem dX4_worth_0 : decode cX4_worth 0 = .ok (.aload_n 0, 1) := dk_42 (dk_at dksX4_worth_0 0 rfl rfl)
theorem dX4_worth_1 : decode cX4_worth 1 = .ok (.getfield 39, 3) := dk_180 0 39 (dk_at dksX4_worth_0 1 rfl rfl)
theorem dX4_worth_4 : decode cX4_worth 4 = .ok (.iconst 2, 1) := dk_5 (dk_at dksX4_worth_0 4 rfl rfl)
theorem dX4_worth_5 : decode cX4_worth 5 = .ok (.iload_n 1, 1) := dk_27 (dk_at dksX4_worth_0 5 rfl rfl)
theorem dX4_worth_6 : decode cX4_worth 6 = .ok (.imul, 1) := dk_104 (dk_at dksX4_worth_0 6 rfl rfl)
theorem dX4_worth_7 : decode cX4_worth 7 = .ok (.iaload, 1) := dk_46 (dk_at dksX4_worth_0 7 rfl rfl)
theorem dX4_worth_8 : decode cX4_worth 8 = .ok (.ireturn, 1) := dk_172 (dk_at dksX4_worth_0 8 rfl rfl)
def dkwX4_hours_0 : List UInt8 := [42, 180, 0, 39, 5, 27, 104, 4, 96, 46, 172]
abbrev dktX4_hours_0 : List UInt8 := dkwX4_hours_0 ++ []
theorem dksX4_hours_0 : cX4_hours.data.toList.drop 0 = dktX4_hours_0 := by decide +kernel
theorem dX4_hours_0 : decode cX4_hours 0 = .ok (.aload_n 0, 1) := dk_42 (dk_at dksX4_hours_0 0 rfl rfl)
theorem dX4_hours_1 : decode cX4_hours 1 = .ok (.getfield 39, 3) := dk_180 0 39 (dk_at dksX4_hours_0 1 rfl rfl)
theorem dX4_hours_4 : decode cX4_hours 4 = .ok (.iconst 2, 1) := dk_5 (dk_at dksX4_hours_0 4 rfl rfl)
theorem dX4_hours_5 : decode cX4_hours 5 = .ok (.iload_n 1, 1) := dk_27 (dk_at dksX4_hours_0 5 rfl rfl)
theorem dX4_hours_6 : decode cX4_hours 6 = .ok (.imul, 1) := dk_104 (dk_at dksX4_hours_0 6 rfl rfl)
theorem dX4_hours_7 : decode cX4_hours 7 = .ok (.iconst 1, 1) := dk_4 (dk_at dksX4_hours_0 7 rfl rfl)
theorem dX4_hours_8 : decode cX4_hours 8 = .ok (.iadd, 1) := dk_96 (dk_at dksX4_hours_0 8 rfl rfl)
theorem dX4_hours_9 : decode cX4_hours 9 = .ok (.iaload, 1) := dk_46 (dk_at dksX4_hours_0 9 rfl rfl)
theorem dX4_hours_10 : decode cX4_hours 10 = .ok (.ireturn, 1) := dk_172 (dk_at dksX4_hours_0 10 rfl rfl)
def dkwX4_has_0 : List UInt8 := [26, 27, 122, 4, 126, 4, 160, 0, 7, 4, 167, 0, 4, 3, 172]
abbrev dktX4_has_0 : List UInt8 := dkwX4_has_0 ++ []
theorem dksX4_has_0 : cX4_has.data.toList.drop 0 = dktX4_has_0 := by decide +kernel
theorem dX4_has_0 : decode cX4_has 0 = .ok (.iload_n 0, 1) := dk_26 (dk_at dksX4_has_0 0 rfl rfl)
theorem dX4_has_1 : decode cX4_has 1 = .ok (.iload_n 1, 1) := dk_27 (dk_at dksX4_has_0 1 rfl rfl)
theorem dX4_has_2 : decode cX4_has 2 = .ok (.ishr, 1) := dk_122 (dk_at dksX4_has_0 2 rfl rfl)
theorem dX4_has_3 : decode cX4_has 3 = .ok (.iconst 1, 1) := dk_4 (dk_at dksX4_has_0 3 rfl rfl)
theorem dX4_has_4 : decode cX4_has 4 = .ok (.iand, 1) := dk_126 (dk_at dksX4_has_0 4 rfl rfl)
theorem dX4_has_5 : decode cX4_has 5 = .ok (.iconst 1, 1) := dk_4 (dk_at dksX4_has_0 5 rfl rfl)
theorem dX4_has_6 : decode cX4_has 6 = .ok (.if_icmp .ne 7, 3) := dk_160 0 7 (dk_at dksX4_has_0 6 rfl rfl)
theorem dX4_has_9 : decode cX4_has 9 = .ok (.iconst 1, 1) := dk_4 (dk_at dksX4_has_0 9 rfl rfl)
theorem dX4_has_10 : decode cX4_has 10 = .ok (.goto 4, 3) := dk_167 0 4 (dk_at dksX4_has_0 10 rfl rfl)
theorem dX4_has_13 : decode cX4_has 13 = .ok (.iconst 0, 1) := dk_3 (dk_at dksX4_has_0 13 rfl rfl)
theorem dX4_has_14 : decode cX4_has 14 = .ok (.ireturn, 1) := dk_172 (dk_at dksX4_has_0 14 rfl rfl)
def dkwX4_person_2 : List UInt8 := [42, 180, 0, 57, 27, 46, 172]
abbrev dktX4_person_2 : List UInt8 := dkwX4_person_2 ++ []
def dkwX4_person_1 : List UInt8 := [180, 0, 42, 27, 46, 167, 0, 25, 28, 4, 160, 0, 14, 42, 180, 1, 21, 27, 122, 4, 126, 167, 0, 9]
abbrev dktX4_person_1 : List UInt8 := dkwX4_person_1 ++ dktX4_person_2
def dkwX4_person_0 : List UInt8 := [42, 27, 182, 1, 52, 153, 0, 12, 28, 3, 5, 184, 0, 135, 154, 0, 5, 2, 172, 28, 154, 0, 12, 42]
abbrev dktX4_person_0 : List UInt8 := dkwX4_person_0 ++ dktX4_person_1
theorem dksX4_person_0 : cX4_person.data.toList.drop 0 = dktX4_person_0 := by decide +kernel
theorem dksX4_person_1 : cX4_person.data.toList.drop 24 = dktX4_person_1 := dk_seg dksX4_person_0 24 rfl rfl
theorem dksX4_person_2 : cX4_person.data.toList.drop 48 = dktX4_person_2 := dk_seg dksX4_person_1 24 rfl rfl
theorem dX4_person_0 : decode cX4_person 0 = .ok (.aload_n 0, 1) := dk_42 (dk_at dksX4_person_0 0 rfl rfl)
theorem dX4_person_1 : decode cX4_person 1 = .ok (.iload_n 1, 1) := dk_27 (dk_at dksX4_person_0 1 rfl rfl)
theorem dX4_person_2 : decode cX4_person 2 = .ok (.invokevirtual 308, 3) := dk_182 1 52 (dk_at dksX4_person_0 2 rfl rfl)
theorem dX4_person_5 : decode cX4_person 5 = .ok (.ifCond .eq 12, 3) := dk_153 0 12 (dk_at dksX4_person_0 5 rfl rfl)
theorem dX4_person_8 : decode cX4_person 8 = .ok (.iload_n 2, 1) := dk_28 (dk_at dksX4_person_0 8 rfl rfl)
theorem dX4_person_9 : decode cX4_person 9 = .ok (.iconst 0, 1) := dk_3 (dk_at dksX4_person_0 9 rfl rfl)
theorem dX4_person_10 : decode cX4_person 10 = .ok (.iconst 2, 1) := dk_5 (dk_at dksX4_person_0 10 rfl rfl)
theorem dX4_person_11 : decode cX4_person 11 = .ok (.invokestatic 135, 3) := dk_184 0 135 (dk_at dksX4_person_0 11 rfl rfl)
theorem dX4_person_14 : decode cX4_person 14 = .ok (.ifCond .ne 5, 3) := dk_154 0 5 (dk_at dksX4_person_0 14 rfl rfl)
theorem dX4_person_17 : decode cX4_person 17 = .ok (.iconst (-1), 1) := dk_2 (dk_at dksX4_person_0 17 rfl rfl)
theorem dX4_person_18 : decode cX4_person 18 = .ok (.ireturn, 1) := dk_172 (dk_at dksX4_person_0 18 rfl rfl)
theorem dX4_person_19 : decode cX4_person 19 = .ok (.iload_n 2, 1) := dk_28 (dk_at dksX4_person_0 19 rfl rfl)
theorem dX4_person_20 : decode cX4_person 20 = .ok (.ifCond .ne 12, 3) := dk_154 0 12 (dk_at dksX4_person_0 20 rfl rfl)
theorem dX4_person_23 : decode cX4_person 23 = .ok (.aload_n 0, 1) := dk_42 (dk_at dksX4_person_0 23 rfl rfl)
theorem dX4_person_24 : decode cX4_person 24 = .ok (.getfield 42, 3) := dk_180 0 42 (dk_at dksX4_person_1 0 rfl rfl)
theorem dX4_person_27 : decode cX4_person 27 = .ok (.iload_n 1, 1) := dk_27 (dk_at dksX4_person_1 3 rfl rfl)
theorem dX4_person_28 : decode cX4_person 28 = .ok (.iaload, 1) := dk_46 (dk_at dksX4_person_1 4 rfl rfl)
theorem dX4_person_29 : decode cX4_person 29 = .ok (.goto 25, 3) := dk_167 0 25 (dk_at dksX4_person_1 5 rfl rfl)
theorem dX4_person_32 : decode cX4_person 32 = .ok (.iload_n 2, 1) := dk_28 (dk_at dksX4_person_1 8 rfl rfl)
theorem dX4_person_33 : decode cX4_person 33 = .ok (.iconst 1, 1) := dk_4 (dk_at dksX4_person_1 9 rfl rfl)
theorem dX4_person_34 : decode cX4_person 34 = .ok (.if_icmp .ne 14, 3) := dk_160 0 14 (dk_at dksX4_person_1 10 rfl rfl)
theorem dX4_person_37 : decode cX4_person 37 = .ok (.aload_n 0, 1) := dk_42 (dk_at dksX4_person_1 13 rfl rfl)
theorem dX4_person_38 : decode cX4_person 38 = .ok (.getfield 277, 3) := dk_180 1 21 (dk_at dksX4_person_1 14 rfl rfl)
theorem dX4_person_41 : decode cX4_person 41 = .ok (.iload_n 1, 1) := dk_27 (dk_at dksX4_person_1 17 rfl rfl)
theorem dX4_person_42 : decode cX4_person 42 = .ok (.ishr, 1) := dk_122 (dk_at dksX4_person_1 18 rfl rfl)
theorem dX4_person_43 : decode cX4_person 43 = .ok (.iconst 1, 1) := dk_4 (dk_at dksX4_person_1 19 rfl rfl)
theorem dX4_person_44 : decode cX4_person 44 = .ok (.iand, 1) := dk_126 (dk_at dksX4_person_1 20 rfl rfl)
theorem dX4_person_45 : decode cX4_person 45 = .ok (.goto 9, 3) := dk_167 0 9 (dk_at dksX4_person_1 21 rfl rfl)
theorem dX4_person_48 : decode cX4_person 48 = .ok (.aload_n 0, 1) := dk_42 (dk_at dksX4_person_2 0 rfl rfl)
theorem dX4_person_49 : decode cX4_person 49 = .ok (.getfield 57, 3) := dk_180 0 57 (dk_at dksX4_person_2 1 rfl rfl)
theorem dX4_person_52 : decode cX4_person 52 = .ok (.iload_n 1, 1) := dk_27 (dk_at dksX4_person_2 4 rfl rfl)
theorem dX4_person_53 : decode cX4_person 53 = .ok (.iaload, 1) := dk_46 (dk_at dksX4_person_2 5 rfl rfl)
theorem dX4_person_54 : decode cX4_person 54 = .ok (.ireturn, 1) := dk_172 (dk_at dksX4_person_2 6 rfl rfl)
def dkwX4_isPerson_0 : List UInt8 := [27, 3, 42, 180, 1, 7, 4, 100, 184, 0, 135, 172]
abbrev dktX4_isPerson_0 : List UInt8 := dkwX4_isPerson_0 ++ []
theorem dksX4_isPerson_0 : cX4_isPerson.data.toList.drop 0 = dktX4_isPerson_0 := by decide +kernel
theorem dX4_isPerson_0 : decode cX4_isPerson 0 = .ok (.iload_n 1, 1) := dk_27 (dk_at dksX4_isPerson_0 0 rfl rfl)
theorem dX4_isPerson_1 : decode cX4_isPerson 1 = .ok (.iconst 0, 1) := dk_3 (dk_at dksX4_isPerson_0 1 rfl rfl)
theorem dX4_isPerson_2 : decode cX4_isPerson 2 = .ok (.aload_n 0, 1) := dk_42 (dk_at dksX4_isPerson_0 2 rfl rfl)
theorem dX4_isPerson_3 : decode cX4_isPerson 3 = .ok (.getfield 263, 3) := dk_180 1 7 (dk_at dksX4_isPerson_0 3 rfl rfl)
theorem dX4_isPerson_6 : decode cX4_isPerson 6 = .ok (.iconst 1, 1) := dk_4 (dk_at dksX4_isPerson_0 6 rfl rfl)
theorem dX4_isPerson_7 : decode cX4_isPerson 7 = .ok (.isub, 1) := dk_100 (dk_at dksX4_isPerson_0 7 rfl rfl)
theorem dX4_isPerson_8 : decode cX4_isPerson 8 = .ok (.invokestatic 135, 3) := dk_184 0 135 (dk_at dksX4_isPerson_0 8 rfl rfl)
theorem dX4_isPerson_11 : decode cX4_isPerson 11 = .ok (.ireturn, 1) := dk_172 (dk_at dksX4_isPerson_0 11 rfl rfl)
def dkwX4_knows_2 : List UInt8 := [154, 0, 7, 2, 167, 0, 18, 42, 180, 0, 45, 5, 16, 10, 27, 104, 28, 96, 104, 4, 96, 46, 172]
abbrev dktX4_knows_2 : List UInt8 := dkwX4_knows_2 ++ []
def dkwX4_knows_1 : List UInt8 := [154, 0, 5, 2, 172, 42, 27, 28, 182, 1, 55, 54, 4, 29, 154, 0, 8, 21, 4, 167, 0, 27, 21, 4]
abbrev dktX4_knows_1 : List UInt8 := dkwX4_knows_1 ++ dktX4_knows_2
def dkwX4_knows_0 : List UInt8 := [42, 27, 182, 1, 52, 153, 0, 20, 42, 28, 182, 1, 46, 153, 0, 12, 29, 3, 4, 184, 0, 135]
abbrev dktX4_knows_0 : List UInt8 := dkwX4_knows_0 ++ dktX4_knows_1
theorem dksX4_knows_0 : cX4_knows.data.toList.drop 0 = dktX4_knows_0 := by decide +kernel
theorem dksX4_knows_1 : cX4_knows.data.toList.drop 22 = dktX4_knows_1 := dk_seg dksX4_knows_0 22 rfl rfl
theorem dksX4_knows_2 : cX4_knows.data.toList.drop 46 = dktX4_knows_2 := dk_seg dksX4_knows_1 24 rfl rfl
theorem dX4_knows_0 : decode cX4_knows 0 = .ok (.aload_n 0, 1) := dk_42 (dk_at dksX4_knows_0 0 rfl rfl)
theorem dX4_knows_1 : decode cX4_knows 1 = .ok (.iload_n 1, 1) := dk_27 (dk_at dksX4_knows_0 1 rfl rfl)
theorem dX4_knows_2 : decode cX4_knows 2 = .ok (.invokevirtual 308, 3) := dk_182 1 52 (dk_at dksX4_knows_0 2 rfl rfl)
theorem dX4_knows_5 : decode cX4_knows 5 = .ok (.ifCond .eq 20, 3) := dk_153 0 20 (dk_at dksX4_knows_0 5 rfl rfl)
theorem dX4_knows_8 : decode cX4_knows 8 = .ok (.aload_n 0, 1) := dk_42 (dk_at dksX4_knows_0 8 rfl rfl)
theorem dX4_knows_9 : decode cX4_knows 9 = .ok (.iload_n 2, 1) := dk_28 (dk_at dksX4_knows_0 9 rfl rfl)
theorem dX4_knows_10 : decode cX4_knows 10 = .ok (.invokevirtual 302, 3) := dk_182 1 46 (dk_at dksX4_knows_0 10 rfl rfl)
theorem dX4_knows_13 : decode cX4_knows 13 = .ok (.ifCond .eq 12, 3) := dk_153 0 12 (dk_at dksX4_knows_0 13 rfl rfl)
theorem dX4_knows_16 : decode cX4_knows 16 = .ok (.iload_n 3, 1) := dk_29 (dk_at dksX4_knows_0 16 rfl rfl)
theorem dX4_knows_17 : decode cX4_knows 17 = .ok (.iconst 0, 1) := dk_3 (dk_at dksX4_knows_0 17 rfl rfl)
theorem dX4_knows_18 : decode cX4_knows 18 = .ok (.iconst 1, 1) := dk_4 (dk_at dksX4_knows_0 18 rfl rfl)
theorem dX4_knows_19 : decode cX4_knows 19 = .ok (.invokestatic 135, 3) := dk_184 0 135 (dk_at dksX4_knows_0 19 rfl rfl)
theorem dX4_knows_22 : decode cX4_knows 22 = .ok (.ifCond .ne 5, 3) := dk_154 0 5 (dk_at dksX4_knows_1 0 rfl rfl)
theorem dX4_knows_25 : decode cX4_knows 25 = .ok (.iconst (-1), 1) := dk_2 (dk_at dksX4_knows_1 3 rfl rfl)
theorem dX4_knows_26 : decode cX4_knows 26 = .ok (.ireturn, 1) := dk_172 (dk_at dksX4_knows_1 4 rfl rfl)
theorem dX4_knows_27 : decode cX4_knows 27 = .ok (.aload_n 0, 1) := dk_42 (dk_at dksX4_knows_1 5 rfl rfl)
theorem dX4_knows_28 : decode cX4_knows 28 = .ok (.iload_n 1, 1) := dk_27 (dk_at dksX4_knows_1 6 rfl rfl)
theorem dX4_knows_29 : decode cX4_knows 29 = .ok (.iload_n 2, 1) := dk_28 (dk_at dksX4_knows_1 7 rfl rfl)
theorem dX4_knows_30 : decode cX4_knows 30 = .ok (.invokevirtual 311, 3) := dk_182 1 55 (dk_at dksX4_knows_1 8 rfl rfl)
theorem dX4_knows_33 : decode cX4_knows 33 = .ok (.istore 4, 2) := dk_54 4 (dk_at dksX4_knows_1 11 rfl rfl)
theorem dX4_knows_35 : decode cX4_knows 35 = .ok (.iload_n 3, 1) := dk_29 (dk_at dksX4_knows_1 13 rfl rfl)
theorem dX4_knows_36 : decode cX4_knows 36 = .ok (.ifCond .ne 8, 3) := dk_154 0 8 (dk_at dksX4_knows_1 14 rfl rfl)
theorem dX4_knows_39 : decode cX4_knows 39 = .ok (.iload 4, 2) := dk_21 4 (dk_at dksX4_knows_1 17 rfl rfl)
theorem dX4_knows_41 : decode cX4_knows 41 = .ok (.goto 27, 3) := dk_167 0 27 (dk_at dksX4_knows_1 19 rfl rfl)
theorem dX4_knows_44 : decode cX4_knows 44 = .ok (.iload 4, 2) := dk_21 4 (dk_at dksX4_knows_1 22 rfl rfl)
theorem dX4_knows_46 : decode cX4_knows 46 = .ok (.ifCond .ne 7, 3) := dk_154 0 7 (dk_at dksX4_knows_2 0 rfl rfl)
theorem dX4_knows_49 : decode cX4_knows 49 = .ok (.iconst (-1), 1) := dk_2 (dk_at dksX4_knows_2 3 rfl rfl)
theorem dX4_knows_50 : decode cX4_knows 50 = .ok (.goto 18, 3) := dk_167 0 18 (dk_at dksX4_knows_2 4 rfl rfl)
theorem dX4_knows_53 : decode cX4_knows 53 = .ok (.aload_n 0, 1) := dk_42 (dk_at dksX4_knows_2 7 rfl rfl)
theorem dX4_knows_54 : decode cX4_knows 54 = .ok (.getfield 45, 3) := dk_180 0 45 (dk_at dksX4_knows_2 8 rfl rfl)
theorem dX4_knows_57 : decode cX4_knows 57 = .ok (.iconst 2, 1) := dk_5 (dk_at dksX4_knows_2 11 rfl rfl)
theorem dX4_knows_58 : decode cX4_knows 58 = .ok (.bipush 10, 2) := dk_16 10 (dk_at dksX4_knows_2 12 rfl rfl)
theorem dX4_knows_60 : decode cX4_knows 60 = .ok (.iload_n 1, 1) := dk_27 (dk_at dksX4_knows_2 14 rfl rfl)
theorem dX4_knows_61 : decode cX4_knows 61 = .ok (.imul, 1) := dk_104 (dk_at dksX4_knows_2 15 rfl rfl)
theorem dX4_knows_62 : decode cX4_knows 62 = .ok (.iload_n 2, 1) := dk_28 (dk_at dksX4_knows_2 16 rfl rfl)
theorem dX4_knows_63 : decode cX4_knows 63 = .ok (.iadd, 1) := dk_96 (dk_at dksX4_knows_2 17 rfl rfl)
theorem dX4_knows_64 : decode cX4_knows 64 = .ok (.imul, 1) := dk_104 (dk_at dksX4_knows_2 18 rfl rfl)
theorem dX4_knows_65 : decode cX4_knows 65 = .ok (.iconst 1, 1) := dk_4 (dk_at dksX4_knows_2 19 rfl rfl)
theorem dX4_knows_66 : decode cX4_knows 66 = .ok (.iadd, 1) := dk_96 (dk_at dksX4_knows_2 20 rfl rfl)
theorem dX4_knows_67 : decode cX4_knows 67 = .ok (.iaload, 1) := dk_46 (dk_at dksX4_knows_2 21 rfl rfl)
theorem dX4_knows_68 : decode cX4_knows 68 = .ok (.ireturn, 1) := dk_172 (dk_at dksX4_knows_2 22 rfl rfl)
def dkwX4_clearly_0 : List UInt8 := [42, 180, 0, 45, 5, 16, 10, 27, 104, 28, 96, 104, 46, 172]
abbrev dktX4_clearly_0 : List UInt8 := dkwX4_clearly_0 ++ []
theorem dksX4_clearly_0 : cX4_clearly.data.toList.drop 0 = dktX4_clearly_0 := by decide +kernel
theorem dX4_clearly_0 : decode cX4_clearly 0 = .ok (.aload_n 0, 1) := dk_42 (dk_at dksX4_clearly_0 0 rfl rfl)
theorem dX4_clearly_1 : decode cX4_clearly 1 = .ok (.getfield 45, 3) := dk_180 0 45 (dk_at dksX4_clearly_0 1 rfl rfl)
theorem dX4_clearly_4 : decode cX4_clearly 4 = .ok (.iconst 2, 1) := dk_5 (dk_at dksX4_clearly_0 4 rfl rfl)
theorem dX4_clearly_5 : decode cX4_clearly 5 = .ok (.bipush 10, 2) := dk_16 10 (dk_at dksX4_clearly_0 5 rfl rfl)
theorem dX4_clearly_7 : decode cX4_clearly 7 = .ok (.iload_n 1, 1) := dk_27 (dk_at dksX4_clearly_0 7 rfl rfl)
theorem dX4_clearly_8 : decode cX4_clearly 8 = .ok (.imul, 1) := dk_104 (dk_at dksX4_clearly_0 8 rfl rfl)
theorem dX4_clearly_9 : decode cX4_clearly 9 = .ok (.iload_n 2, 1) := dk_28 (dk_at dksX4_clearly_0 9 rfl rfl)
theorem dX4_clearly_10 : decode cX4_clearly 10 = .ok (.iadd, 1) := dk_96 (dk_at dksX4_clearly_0 10 rfl rfl)
theorem dX4_clearly_11 : decode cX4_clearly 11 = .ok (.imul, 1) := dk_104 (dk_at dksX4_clearly_0 11 rfl rfl)
theorem dX4_clearly_12 : decode cX4_clearly 12 = .ok (.iaload, 1) := dk_46 (dk_at dksX4_clearly_0 12 rfl rfl)
theorem dX4_clearly_13 : decode cX4_clearly 13 = .ok (.ireturn, 1) := dk_172 (dk_at dksX4_clearly_0 13 rfl rfl)
def dkwX4_follows_0 : List UInt8 := [42, 27, 182, 1, 59, 153, 0, 12, 42, 27, 2, 182, 1, 62, 167, 0, 4, 2, 172]
abbrev dktX4_follows_0 : List UInt8 := dkwX4_follows_0 ++ []
theorem dksX4_follows_0 : cX4_follows.data.toList.drop 0 = dktX4_follows_0 := by decide +kernel
theorem dX4_follows_0 : decode cX4_follows 0 = .ok (.aload_n 0, 1) := dk_42 (dk_at dksX4_follows_0 0 rfl rfl)
theorem dX4_follows_1 : decode cX4_follows 1 = .ok (.iload_n 1, 1) := dk_27 (dk_at dksX4_follows_0 1 rfl rfl)
theorem dX4_follows_2 : decode cX4_follows 2 = .ok (.invokevirtual 315, 3) := dk_182 1 59 (dk_at dksX4_follows_0 2 rfl rfl)
theorem dX4_follows_5 : decode cX4_follows 5 = .ok (.ifCond .eq 12, 3) := dk_153 0 12 (dk_at dksX4_follows_0 5 rfl rfl)
theorem dX4_follows_8 : decode cX4_follows 8 = .ok (.aload_n 0, 1) := dk_42 (dk_at dksX4_follows_0 8 rfl rfl)
theorem dX4_follows_9 : decode cX4_follows 9 = .ok (.iload_n 1, 1) := dk_27 (dk_at dksX4_follows_0 9 rfl rfl)
theorem dX4_follows_10 : decode cX4_follows 10 = .ok (.iconst (-1), 1) := dk_2 (dk_at dksX4_follows_0 10 rfl rfl)
theorem dX4_follows_11 : decode cX4_follows 11 = .ok (.invokevirtual 318, 3) := dk_182 1 62 (dk_at dksX4_follows_0 11 rfl rfl)
theorem dX4_follows_14 : decode cX4_follows 14 = .ok (.goto 4, 3) := dk_167 0 4 (dk_at dksX4_follows_0 14 rfl rfl)
theorem dX4_follows_17 : decode cX4_follows 17 = .ok (.iconst (-1), 1) := dk_2 (dk_at dksX4_follows_0 17 rfl rfl)
theorem dX4_follows_18 : decode cX4_follows 18 = .ok (.ireturn, 1) := dk_172 (dk_at dksX4_follows_0 18 rfl rfl)
def dkwX4_isHeap_1 : List UInt8 := [167, 0, 4, 3, 172]
abbrev dktX4_isHeap_1 : List UInt8 := dkwX4_isHeap_1 ++ []
def dkwX4_isHeap_0 : List UInt8 := [42, 180, 1, 4, 158, 0, 23, 27, 3, 4, 42, 180, 1, 4, 120, 4, 100, 184, 0, 135, 153, 0, 7, 4]
abbrev dktX4_isHeap_0 : List UInt8 := dkwX4_isHeap_0 ++ dktX4_isHeap_1
theorem dksX4_isHeap_0 : cX4_isHeap.data.toList.drop 0 = dktX4_isHeap_0 := by decide +kernel
theorem dksX4_isHeap_1 : cX4_isHeap.data.toList.drop 24 = dktX4_isHeap_1 := dk_seg dksX4_isHeap_0 24 rfl rfl
theorem dX4_isHeap_0 : decode cX4_isHeap 0 = .ok (.aload_n 0, 1) := dk_42 (dk_at dksX4_isHeap_0 0 rfl rfl)
theorem dX4_isHeap_1 : decode cX4_isHeap 1 = .ok (.getfield 260, 3) := dk_180 1 4 (dk_at dksX4_isHeap_0 1 rfl rfl)
theorem dX4_isHeap_4 : decode cX4_isHeap 4 = .ok (.ifCond .le 23, 3) := dk_158 0 23 (dk_at dksX4_isHeap_0 4 rfl rfl)
theorem dX4_isHeap_7 : decode cX4_isHeap 7 = .ok (.iload_n 1, 1) := dk_27 (dk_at dksX4_isHeap_0 7 rfl rfl)
theorem dX4_isHeap_8 : decode cX4_isHeap 8 = .ok (.iconst 0, 1) := dk_3 (dk_at dksX4_isHeap_0 8 rfl rfl)
theorem dX4_isHeap_9 : decode cX4_isHeap 9 = .ok (.iconst 1, 1) := dk_4 (dk_at dksX4_isHeap_0 9 rfl rfl)
theorem dX4_isHeap_10 : decode cX4_isHeap 10 = .ok (.aload_n 0, 1) := dk_42 (dk_at dksX4_isHeap_0 10 rfl rfl)
theorem dX4_isHeap_11 : decode cX4_isHeap 11 = .ok (.getfield 260, 3) := dk_180 1 4 (dk_at dksX4_isHeap_0 11 rfl rfl)
theorem dX4_isHeap_14 : decode cX4_isHeap 14 = .ok (.ishl, 1) := dk_120 (dk_at dksX4_isHeap_0 14 rfl rfl)
theorem dX4_isHeap_15 : decode cX4_isHeap 15 = .ok (.iconst 1, 1) := dk_4 (dk_at dksX4_isHeap_0 15 rfl rfl)
theorem dX4_isHeap_16 : decode cX4_isHeap 16 = .ok (.isub, 1) := dk_100 (dk_at dksX4_isHeap_0 16 rfl rfl)
theorem dX4_isHeap_17 : decode cX4_isHeap 17 = .ok (.invokestatic 135, 3) := dk_184 0 135 (dk_at dksX4_isHeap_0 17 rfl rfl)
theorem dX4_isHeap_20 : decode cX4_isHeap 20 = .ok (.ifCond .eq 7, 3) := dk_153 0 7 (dk_at dksX4_isHeap_0 20 rfl rfl)
theorem dX4_isHeap_23 : decode cX4_isHeap 23 = .ok (.iconst 1, 1) := dk_4 (dk_at dksX4_isHeap_0 23 rfl rfl)
theorem dX4_isHeap_24 : decode cX4_isHeap 24 = .ok (.goto 4, 3) := dk_167 0 4 (dk_at dksX4_isHeap_1 0 rfl rfl)
theorem dX4_isHeap_27 : decode cX4_isHeap 27 = .ok (.iconst 0, 1) := dk_3 (dk_at dksX4_isHeap_1 3 rfl rfl)
theorem dX4_isHeap_28 : decode cX4_isHeap 28 = .ok (.ireturn, 1) := dk_172 (dk_at dksX4_isHeap_1 4 rfl rfl)
def dkwX4_withFollows_3 : List UInt8 := [21, 5, 104, 46, 120, 128, 62, 132, 5, 1, 167, 255, 195, 132, 4, 1, 167, 255, 177, 29, 172]
abbrev dktX4_withFollows_3 : List UInt8 := dkwX4_withFollows_3 ++ []
def dkwX4_withFollows_2 : List UInt8 := [160, 0, 30, 42, 180, 0, 54, 5, 21, 5, 104, 46, 28, 159, 0, 17, 29, 4, 42, 180, 0, 54, 5]
abbrev dktX4_withFollows_2 : List UInt8 := dkwX4_withFollows_2 ++ dktX4_withFollows_3
def dkwX4_withFollows_1 : List UInt8 := [162, 0, 58, 42, 180, 0, 54, 5, 21, 5, 104, 4, 96, 46, 54, 6, 21, 6, 29, 126, 21, 6]
abbrev dktX4_withFollows_1 : List UInt8 := dkwX4_withFollows_1 ++ dktX4_withFollows_2
def dkwX4_withFollows_0 : List UInt8 := [27, 62, 3, 54, 4, 21, 4, 42, 180, 1, 4, 162, 0, 76, 3, 54, 5, 21, 5, 42, 180, 1, 10]
abbrev dktX4_withFollows_0 : List UInt8 := dkwX4_withFollows_0 ++ dktX4_withFollows_1
theorem dksX4_withFollows_0 : cX4_withFollows.data.toList.drop 0 = dktX4_withFollows_0 := by decide +kernel
theorem dksX4_withFollows_1 : cX4_withFollows.data.toList.drop 23 = dktX4_withFollows_1 := dk_seg dksX4_withFollows_0 23 rfl rfl
theorem dksX4_withFollows_2 : cX4_withFollows.data.toList.drop 45 = dktX4_withFollows_2 := dk_seg dksX4_withFollows_1 22 rfl rfl
theorem dksX4_withFollows_3 : cX4_withFollows.data.toList.drop 68 = dktX4_withFollows_3 := dk_seg dksX4_withFollows_2 23 rfl rfl
theorem dX4_withFollows_0 : decode cX4_withFollows 0 = .ok (.iload_n 1, 1) := dk_27 (dk_at dksX4_withFollows_0 0 rfl rfl)
theorem dX4_withFollows_1 : decode cX4_withFollows 1 = .ok (.istore_n 3, 1) := dk_62 (dk_at dksX4_withFollows_0 1 rfl rfl)
theorem dX4_withFollows_2 : decode cX4_withFollows 2 = .ok (.iconst 0, 1) := dk_3 (dk_at dksX4_withFollows_0 2 rfl rfl)
theorem dX4_withFollows_3 : decode cX4_withFollows 3 = .ok (.istore 4, 2) := dk_54 4 (dk_at dksX4_withFollows_0 3 rfl rfl)
theorem dX4_withFollows_5 : decode cX4_withFollows 5 = .ok (.iload 4, 2) := dk_21 4 (dk_at dksX4_withFollows_0 5 rfl rfl)
theorem dX4_withFollows_7 : decode cX4_withFollows 7 = .ok (.aload_n 0, 1) := dk_42 (dk_at dksX4_withFollows_0 7 rfl rfl)
theorem dX4_withFollows_8 : decode cX4_withFollows 8 = .ok (.getfield 260, 3) := dk_180 1 4 (dk_at dksX4_withFollows_0 8 rfl rfl)
theorem dX4_withFollows_11 : decode cX4_withFollows 11 = .ok (.if_icmp .ge 76, 3) := dk_162 0 76 (dk_at dksX4_withFollows_0 11 rfl rfl)
theorem dX4_withFollows_14 : decode cX4_withFollows 14 = .ok (.iconst 0, 1) := dk_3 (dk_at dksX4_withFollows_0 14 rfl rfl)
theorem dX4_withFollows_15 : decode cX4_withFollows 15 = .ok (.istore 5, 2) := dk_54 5 (dk_at dksX4_withFollows_0 15 rfl rfl)
theorem dX4_withFollows_17 : decode cX4_withFollows 17 = .ok (.iload 5, 2) := dk_21 5 (dk_at dksX4_withFollows_0 17 rfl rfl)
theorem dX4_withFollows_19 : decode cX4_withFollows 19 = .ok (.aload_n 0, 1) := dk_42 (dk_at dksX4_withFollows_0 19 rfl rfl)
theorem dX4_withFollows_20 : decode cX4_withFollows 20 = .ok (.getfield 266, 3) := dk_180 1 10 (dk_at dksX4_withFollows_0 20 rfl rfl)
theorem dX4_withFollows_23 : decode cX4_withFollows 23 = .ok (.if_icmp .ge 58, 3) := dk_162 0 58 (dk_at dksX4_withFollows_1 0 rfl rfl)
theorem dX4_withFollows_26 : decode cX4_withFollows 26 = .ok (.aload_n 0, 1) := dk_42 (dk_at dksX4_withFollows_1 3 rfl rfl)
theorem dX4_withFollows_27 : decode cX4_withFollows 27 = .ok (.getfield 54, 3) := dk_180 0 54 (dk_at dksX4_withFollows_1 4 rfl rfl)
theorem dX4_withFollows_30 : decode cX4_withFollows 30 = .ok (.iconst 2, 1) := dk_5 (dk_at dksX4_withFollows_1 7 rfl rfl)
theorem dX4_withFollows_31 : decode cX4_withFollows 31 = .ok (.iload 5, 2) := dk_21 5 (dk_at dksX4_withFollows_1 8 rfl rfl)
theorem dX4_withFollows_33 : decode cX4_withFollows 33 = .ok (.imul, 1) := dk_104 (dk_at dksX4_withFollows_1 10 rfl rfl)
theorem dX4_withFollows_34 : decode cX4_withFollows 34 = .ok (.iconst 1, 1) := dk_4 (dk_at dksX4_withFollows_1 11 rfl rfl)
theorem dX4_withFollows_35 : decode cX4_withFollows 35 = .ok (.iadd, 1) := dk_96 (dk_at dksX4_withFollows_1 12 rfl rfl)
theorem dX4_withFollows_36 : decode cX4_withFollows 36 = .ok (.iaload, 1) := dk_46 (dk_at dksX4_withFollows_1 13 rfl rfl)
theorem dX4_withFollows_37 : decode cX4_withFollows 37 = .ok (.istore 6, 2) := dk_54 6 (dk_at dksX4_withFollows_1 14 rfl rfl)
theorem dX4_withFollows_39 : decode cX4_withFollows 39 = .ok (.iload 6, 2) := dk_21 6 (dk_at dksX4_withFollows_1 16 rfl rfl)
theorem dX4_withFollows_41 : decode cX4_withFollows 41 = .ok (.iload_n 3, 1) := dk_29 (dk_at dksX4_withFollows_1 18 rfl rfl)
theorem dX4_withFollows_42 : decode cX4_withFollows 42 = .ok (.iand, 1) := dk_126 (dk_at dksX4_withFollows_1 19 rfl rfl)
theorem dX4_withFollows_43 : decode cX4_withFollows 43 = .ok (.iload 6, 2) := dk_21 6 (dk_at dksX4_withFollows_1 20 rfl rfl)
theorem dX4_withFollows_45 : decode cX4_withFollows 45 = .ok (.if_icmp .ne 30, 3) := dk_160 0 30 (dk_at dksX4_withFollows_2 0 rfl rfl)
theorem dX4_withFollows_48 : decode cX4_withFollows 48 = .ok (.aload_n 0, 1) := dk_42 (dk_at dksX4_withFollows_2 3 rfl rfl)
theorem dX4_withFollows_49 : decode cX4_withFollows 49 = .ok (.getfield 54, 3) := dk_180 0 54 (dk_at dksX4_withFollows_2 4 rfl rfl)
theorem dX4_withFollows_52 : decode cX4_withFollows 52 = .ok (.iconst 2, 1) := dk_5 (dk_at dksX4_withFollows_2 7 rfl rfl)
theorem dX4_withFollows_53 : decode cX4_withFollows 53 = .ok (.iload 5, 2) := dk_21 5 (dk_at dksX4_withFollows_2 8 rfl rfl)
theorem dX4_withFollows_55 : decode cX4_withFollows 55 = .ok (.imul, 1) := dk_104 (dk_at dksX4_withFollows_2 10 rfl rfl)
theorem dX4_withFollows_56 : decode cX4_withFollows 56 = .ok (.iaload, 1) := dk_46 (dk_at dksX4_withFollows_2 11 rfl rfl)
theorem dX4_withFollows_57 : decode cX4_withFollows 57 = .ok (.iload_n 2, 1) := dk_28 (dk_at dksX4_withFollows_2 12 rfl rfl)
theorem dX4_withFollows_58 : decode cX4_withFollows 58 = .ok (.if_icmp .eq 17, 3) := dk_159 0 17 (dk_at dksX4_withFollows_2 13 rfl rfl)
theorem dX4_withFollows_61 : decode cX4_withFollows 61 = .ok (.iload_n 3, 1) := dk_29 (dk_at dksX4_withFollows_2 16 rfl rfl)
theorem dX4_withFollows_62 : decode cX4_withFollows 62 = .ok (.iconst 1, 1) := dk_4 (dk_at dksX4_withFollows_2 17 rfl rfl)
theorem dX4_withFollows_63 : decode cX4_withFollows 63 = .ok (.aload_n 0, 1) := dk_42 (dk_at dksX4_withFollows_2 18 rfl rfl)
theorem dX4_withFollows_64 : decode cX4_withFollows 64 = .ok (.getfield 54, 3) := dk_180 0 54 (dk_at dksX4_withFollows_2 19 rfl rfl)
theorem dX4_withFollows_67 : decode cX4_withFollows 67 = .ok (.iconst 2, 1) := dk_5 (dk_at dksX4_withFollows_2 22 rfl rfl)
theorem dX4_withFollows_68 : decode cX4_withFollows 68 = .ok (.iload 5, 2) := dk_21 5 (dk_at dksX4_withFollows_3 0 rfl rfl)
theorem dX4_withFollows_70 : decode cX4_withFollows 70 = .ok (.imul, 1) := dk_104 (dk_at dksX4_withFollows_3 2 rfl rfl)
theorem dX4_withFollows_71 : decode cX4_withFollows 71 = .ok (.iaload, 1) := dk_46 (dk_at dksX4_withFollows_3 3 rfl rfl)
theorem dX4_withFollows_72 : decode cX4_withFollows 72 = .ok (.ishl, 1) := dk_120 (dk_at dksX4_withFollows_3 4 rfl rfl)
theorem dX4_withFollows_73 : decode cX4_withFollows 73 = .ok (.ior, 1) := dk_128 (dk_at dksX4_withFollows_3 5 rfl rfl)
theorem dX4_withFollows_74 : decode cX4_withFollows 74 = .ok (.istore_n 3, 1) := dk_62 (dk_at dksX4_withFollows_3 6 rfl rfl)
theorem dX4_withFollows_75 : decode cX4_withFollows 75 = .ok (.iinc 5 1, 3) := dk_132 5 1 (dk_at dksX4_withFollows_3 7 rfl rfl)
theorem dX4_withFollows_78 : decode cX4_withFollows 78 = .ok (.goto (-61), 3) := dk_167 255 195 (dk_at dksX4_withFollows_3 10 rfl rfl)
theorem dX4_withFollows_81 : decode cX4_withFollows 81 = .ok (.iinc 4 1, 3) := dk_132 4 1 (dk_at dksX4_withFollows_3 13 rfl rfl)
theorem dX4_withFollows_84 : decode cX4_withFollows 84 = .ok (.goto (-79), 3) := dk_167 255 177 (dk_at dksX4_withFollows_3 16 rfl rfl)
theorem dX4_withFollows_87 : decode cX4_withFollows 87 = .ok (.iload_n 3, 1) := dk_29 (dk_at dksX4_withFollows_3 19 rfl rfl)
theorem dX4_withFollows_88 : decode cX4_withFollows 88 = .ok (.ireturn, 1) := dk_172 (dk_at dksX4_withFollows_3 20 rfl rfl)
def dkwX4_have_1 : List UInt8 := [181, 1, 15, 42, 180, 1, 15, 184, 1, 65, 172]
abbrev dktX4_have_1 : List UInt8 := dkwX4_have_1 ++ []
def dkwX4_have_0 : List UInt8 := [42, 27, 182, 1, 59, 154, 0, 5, 2, 172, 42, 42, 42, 180, 1, 15, 27, 128, 2, 182, 1, 62]
abbrev dktX4_have_0 : List UInt8 := dkwX4_have_0 ++ dktX4_have_1
theorem dksX4_have_0 : cX4_have.data.toList.drop 0 = dktX4_have_0 := by decide +kernel
theorem dksX4_have_1 : cX4_have.data.toList.drop 22 = dktX4_have_1 := dk_seg dksX4_have_0 22 rfl rfl
theorem dX4_have_0 : decode cX4_have 0 = .ok (.aload_n 0, 1) := dk_42 (dk_at dksX4_have_0 0 rfl rfl)
theorem dX4_have_1 : decode cX4_have 1 = .ok (.iload_n 1, 1) := dk_27 (dk_at dksX4_have_0 1 rfl rfl)
theorem dX4_have_2 : decode cX4_have 2 = .ok (.invokevirtual 315, 3) := dk_182 1 59 (dk_at dksX4_have_0 2 rfl rfl)
theorem dX4_have_5 : decode cX4_have 5 = .ok (.ifCond .ne 5, 3) := dk_154 0 5 (dk_at dksX4_have_0 5 rfl rfl)
theorem dX4_have_8 : decode cX4_have 8 = .ok (.iconst (-1), 1) := dk_2 (dk_at dksX4_have_0 8 rfl rfl)
theorem dX4_have_9 : decode cX4_have 9 = .ok (.ireturn, 1) := dk_172 (dk_at dksX4_have_0 9 rfl rfl)
theorem dX4_have_10 : decode cX4_have 10 = .ok (.aload_n 0, 1) := dk_42 (dk_at dksX4_have_0 10 rfl rfl)
theorem dX4_have_11 : decode cX4_have 11 = .ok (.aload_n 0, 1) := dk_42 (dk_at dksX4_have_0 11 rfl rfl)
theorem dX4_have_12 : decode cX4_have 12 = .ok (.aload_n 0, 1) := dk_42 (dk_at dksX4_have_0 12 rfl rfl)
theorem dX4_have_13 : decode cX4_have 13 = .ok (.getfield 271, 3) := dk_180 1 15 (dk_at dksX4_have_0 13 rfl rfl)
theorem dX4_have_16 : decode cX4_have 16 = .ok (.iload_n 1, 1) := dk_27 (dk_at dksX4_have_0 16 rfl rfl)
theorem dX4_have_17 : decode cX4_have 17 = .ok (.ior, 1) := dk_128 (dk_at dksX4_have_0 17 rfl rfl)
theorem dX4_have_18 : decode cX4_have 18 = .ok (.iconst (-1), 1) := dk_2 (dk_at dksX4_have_0 18 rfl rfl)
theorem dX4_have_19 : decode cX4_have 19 = .ok (.invokevirtual 318, 3) := dk_182 1 62 (dk_at dksX4_have_0 19 rfl rfl)
theorem dX4_have_22 : decode cX4_have 22 = .ok (.putfield 271, 3) := dk_181 1 15 (dk_at dksX4_have_1 0 rfl rfl)
theorem dX4_have_25 : decode cX4_have 25 = .ok (.aload_n 0, 1) := dk_42 (dk_at dksX4_have_1 3 rfl rfl)
theorem dX4_have_26 : decode cX4_have 26 = .ok (.getfield 271, 3) := dk_180 1 15 (dk_at dksX4_have_1 4 rfl rfl)
theorem dX4_have_29 : decode cX4_have 29 = .ok (.invokestatic 321, 3) := dk_184 1 65 (dk_at dksX4_have_1 7 rfl rfl)
theorem dX4_have_32 : decode cX4_have 32 = .ok (.ireturn, 1) := dk_172 (dk_at dksX4_have_1 10 rfl rfl)
def dkwX4_ones_1 : List UInt8 := [27, 172]
abbrev dktX4_ones_1 : List UInt8 := dkwX4_ones_1 ++ []
def dkwX4_ones_0 : List UInt8 := [3, 60, 3, 61, 28, 16, 10, 162, 0, 17, 27, 26, 28, 122, 4, 126, 96, 60, 132, 2, 1, 167, 255, 239]
abbrev dktX4_ones_0 : List UInt8 := dkwX4_ones_0 ++ dktX4_ones_1
theorem dksX4_ones_0 : cX4_ones.data.toList.drop 0 = dktX4_ones_0 := by decide +kernel
theorem dksX4_ones_1 : cX4_ones.data.toList.drop 24 = dktX4_ones_1 := dk_seg dksX4_ones_0 24 rfl rfl
theorem dX4_ones_0 : decode cX4_ones 0 = .ok (.iconst 0, 1) := dk_3 (dk_at dksX4_ones_0 0 rfl rfl)
theorem dX4_ones_1 : decode cX4_ones 1 = .ok (.istore_n 1, 1) := dk_60 (dk_at dksX4_ones_0 1 rfl rfl)
theorem dX4_ones_2 : decode cX4_ones 2 = .ok (.iconst 0, 1) := dk_3 (dk_at dksX4_ones_0 2 rfl rfl)
theorem dX4_ones_3 : decode cX4_ones 3 = .ok (.istore_n 2, 1) := dk_61 (dk_at dksX4_ones_0 3 rfl rfl)
theorem dX4_ones_4 : decode cX4_ones 4 = .ok (.iload_n 2, 1) := dk_28 (dk_at dksX4_ones_0 4 rfl rfl)
theorem dX4_ones_5 : decode cX4_ones 5 = .ok (.bipush 10, 2) := dk_16 10 (dk_at dksX4_ones_0 5 rfl rfl)
theorem dX4_ones_7 : decode cX4_ones 7 = .ok (.if_icmp .ge 17, 3) := dk_162 0 17 (dk_at dksX4_ones_0 7 rfl rfl)
theorem dX4_ones_10 : decode cX4_ones 10 = .ok (.iload_n 1, 1) := dk_27 (dk_at dksX4_ones_0 10 rfl rfl)
theorem dX4_ones_11 : decode cX4_ones 11 = .ok (.iload_n 0, 1) := dk_26 (dk_at dksX4_ones_0 11 rfl rfl)
theorem dX4_ones_12 : decode cX4_ones 12 = .ok (.iload_n 2, 1) := dk_28 (dk_at dksX4_ones_0 12 rfl rfl)
theorem dX4_ones_13 : decode cX4_ones 13 = .ok (.ishr, 1) := dk_122 (dk_at dksX4_ones_0 13 rfl rfl)
theorem dX4_ones_14 : decode cX4_ones 14 = .ok (.iconst 1, 1) := dk_4 (dk_at dksX4_ones_0 14 rfl rfl)
theorem dX4_ones_15 : decode cX4_ones 15 = .ok (.iand, 1) := dk_126 (dk_at dksX4_ones_0 15 rfl rfl)
theorem dX4_ones_16 : decode cX4_ones 16 = .ok (.iadd, 1) := dk_96 (dk_at dksX4_ones_0 16 rfl rfl)
theorem dX4_ones_17 : decode cX4_ones 17 = .ok (.istore_n 1, 1) := dk_60 (dk_at dksX4_ones_0 17 rfl rfl)
theorem dX4_ones_18 : decode cX4_ones 18 = .ok (.iinc 2 1, 3) := dk_132 2 1 (dk_at dksX4_ones_0 18 rfl rfl)
theorem dX4_ones_21 : decode cX4_ones 21 = .ok (.goto (-17), 3) := dk_167 255 239 (dk_at dksX4_ones_0 21 rfl rfl)
theorem dX4_ones_24 : decode cX4_ones 24 = .ok (.iload_n 1, 1) := dk_27 (dk_at dksX4_ones_1 0 rfl rfl)
theorem dX4_ones_25 : decode cX4_ones 25 = .ok (.ireturn, 1) := dk_172 (dk_at dksX4_ones_1 1 rfl rfl)
def dkwX4_seed_0 : List UInt8 := [27, 3, 19, 1, 68, 184, 0, 135, 154, 0, 5, 3, 172, 42, 27, 133, 181, 1, 33, 4, 172]
abbrev dktX4_seed_0 : List UInt8 := dkwX4_seed_0 ++ []
theorem dksX4_seed_0 : cX4_seed.data.toList.drop 0 = dktX4_seed_0 := by decide +kernel
theorem dX4_seed_0 : decode cX4_seed 0 = .ok (.iload_n 1, 1) := dk_27 (dk_at dksX4_seed_0 0 rfl rfl)
theorem dX4_seed_1 : decode cX4_seed 1 = .ok (.iconst 0, 1) := dk_3 (dk_at dksX4_seed_0 1 rfl rfl)
theorem dX4_seed_2 : decode cX4_seed 2 = .ok (.ldc_w 324, 3) := dk_19 1 68 (dk_at dksX4_seed_0 2 rfl rfl)
theorem dX4_seed_5 : decode cX4_seed 5 = .ok (.invokestatic 135, 3) := dk_184 0 135 (dk_at dksX4_seed_0 5 rfl rfl)
theorem dX4_seed_8 : decode cX4_seed 8 = .ok (.ifCond .ne 5, 3) := dk_154 0 5 (dk_at dksX4_seed_0 8 rfl rfl)
theorem dX4_seed_11 : decode cX4_seed 11 = .ok (.iconst 0, 1) := dk_3 (dk_at dksX4_seed_0 11 rfl rfl)
theorem dX4_seed_12 : decode cX4_seed 12 = .ok (.ireturn, 1) := dk_172 (dk_at dksX4_seed_0 12 rfl rfl)
theorem dX4_seed_13 : decode cX4_seed 13 = .ok (.aload_n 0, 1) := dk_42 (dk_at dksX4_seed_0 13 rfl rfl)
theorem dX4_seed_14 : decode cX4_seed 14 = .ok (.iload_n 1, 1) := dk_27 (dk_at dksX4_seed_0 14 rfl rfl)
theorem dX4_seed_15 : decode cX4_seed 15 = .ok (.i2l, 1) := dk_133 (dk_at dksX4_seed_0 15 rfl rfl)
theorem dX4_seed_16 : decode cX4_seed 16 = .ok (.putfield 289, 3) := dk_181 1 33 (dk_at dksX4_seed_0 16 rfl rfl)
theorem dX4_seed_19 : decode cX4_seed 19 = .ok (.iconst 1, 1) := dk_4 (dk_at dksX4_seed_0 19 rfl rfl)
theorem dX4_seed_20 : decode cX4_seed 20 = .ok (.ireturn, 1) := dk_172 (dk_at dksX4_seed_0 20 rfl rfl)
def dkwX4_may_1 : List UInt8 := [182, 1, 77, 153, 0, 7, 4, 167, 0, 4, 3, 172]
abbrev dktX4_may_1 : List UInt8 := dkwX4_may_1 ++ []
def dkwX4_may_0 : List UInt8 := [42, 27, 182, 1, 52, 153, 0, 11, 42, 28, 182, 1, 46, 154, 0, 7, 2, 167, 0, 17, 42, 27, 28]
abbrev dktX4_may_0 : List UInt8 := dkwX4_may_0 ++ dktX4_may_1
theorem dksX4_may_0 : cX4_may.data.toList.drop 0 = dktX4_may_0 := by decide +kernel
theorem dksX4_may_1 : cX4_may.data.toList.drop 23 = dktX4_may_1 := dk_seg dksX4_may_0 23 rfl rfl
theorem dX4_may_0 : decode cX4_may 0 = .ok (.aload_n 0, 1) := dk_42 (dk_at dksX4_may_0 0 rfl rfl)
theorem dX4_may_1 : decode cX4_may 1 = .ok (.iload_n 1, 1) := dk_27 (dk_at dksX4_may_0 1 rfl rfl)
theorem dX4_may_2 : decode cX4_may 2 = .ok (.invokevirtual 308, 3) := dk_182 1 52 (dk_at dksX4_may_0 2 rfl rfl)
theorem dX4_may_5 : decode cX4_may 5 = .ok (.ifCond .eq 11, 3) := dk_153 0 11 (dk_at dksX4_may_0 5 rfl rfl)
theorem dX4_may_8 : decode cX4_may 8 = .ok (.aload_n 0, 1) := dk_42 (dk_at dksX4_may_0 8 rfl rfl)
theorem dX4_may_9 : decode cX4_may 9 = .ok (.iload_n 2, 1) := dk_28 (dk_at dksX4_may_0 9 rfl rfl)
theorem dX4_may_10 : decode cX4_may 10 = .ok (.invokevirtual 302, 3) := dk_182 1 46 (dk_at dksX4_may_0 10 rfl rfl)
theorem dX4_may_13 : decode cX4_may 13 = .ok (.ifCond .ne 7, 3) := dk_154 0 7 (dk_at dksX4_may_0 13 rfl rfl)
theorem dX4_may_16 : decode cX4_may 16 = .ok (.iconst (-1), 1) := dk_2 (dk_at dksX4_may_0 16 rfl rfl)
theorem dX4_may_17 : decode cX4_may 17 = .ok (.goto 17, 3) := dk_167 0 17 (dk_at dksX4_may_0 17 rfl rfl)
theorem dX4_may_20 : decode cX4_may 20 = .ok (.aload_n 0, 1) := dk_42 (dk_at dksX4_may_0 20 rfl rfl)
theorem dX4_may_21 : decode cX4_may 21 = .ok (.iload_n 1, 1) := dk_27 (dk_at dksX4_may_0 21 rfl rfl)
theorem dX4_may_22 : decode cX4_may 22 = .ok (.iload_n 2, 1) := dk_28 (dk_at dksX4_may_0 22 rfl rfl)
theorem dX4_may_23 : decode cX4_may 23 = .ok (.invokevirtual 333, 3) := dk_182 1 77 (dk_at dksX4_may_1 0 rfl rfl)
theorem dX4_may_26 : decode cX4_may 26 = .ok (.ifCond .eq 7, 3) := dk_153 0 7 (dk_at dksX4_may_1 3 rfl rfl)
theorem dX4_may_29 : decode cX4_may 29 = .ok (.iconst 1, 1) := dk_4 (dk_at dksX4_may_1 6 rfl rfl)
theorem dX4_may_30 : decode cX4_may 30 = .ok (.goto 4, 3) := dk_167 0 4 (dk_at dksX4_may_1 7 rfl rfl)
theorem dX4_may_33 : decode cX4_may 33 = .ok (.iconst 0, 1) := dk_3 (dk_at dksX4_may_1 10 rfl rfl)
theorem dX4_may_34 : decode cX4_may 34 = .ok (.ireturn, 1) := dk_172 (dk_at dksX4_may_1 11 rfl rfl)
def dkwX4_canAsk_3 : List UInt8 := [161, 0, 7, 4, 167, 0, 4, 3, 172]
abbrev dktX4_canAsk_3 : List UInt8 := dkwX4_canAsk_3 ++ []
def dkwX4_canAsk_2 : List UInt8 := [160, 0, 31, 42, 180, 0, 57, 27, 46, 42, 180, 0, 45, 5, 16, 10, 27, 104, 28, 96, 104, 4, 96, 46]
abbrev dktX4_canAsk_2 : List UInt8 := dkwX4_canAsk_2 ++ dktX4_canAsk_3
def dkwX4_canAsk_1 : List UInt8 := [28, 184, 1, 39, 154, 0, 51, 42, 180, 0, 48, 28, 46, 42, 180, 1, 15, 126, 42, 180, 0, 48, 28, 46]
abbrev dktX4_canAsk_1 : List UInt8 := dkwX4_canAsk_1 ++ dktX4_canAsk_2
def dkwX4_canAsk_0 : List UInt8 := [42, 180, 1, 21, 27, 184, 1, 39, 153, 0, 71, 42, 27, 28, 182, 1, 55, 158, 0, 62, 42, 180, 1, 15]
abbrev dktX4_canAsk_0 : List UInt8 := dkwX4_canAsk_0 ++ dktX4_canAsk_1
theorem dksX4_canAsk_0 : cX4_canAsk.data.toList.drop 0 = dktX4_canAsk_0 := by decide +kernel
theorem dksX4_canAsk_1 : cX4_canAsk.data.toList.drop 24 = dktX4_canAsk_1 := dk_seg dksX4_canAsk_0 24 rfl rfl
theorem dksX4_canAsk_2 : cX4_canAsk.data.toList.drop 48 = dktX4_canAsk_2 := dk_seg dksX4_canAsk_1 24 rfl rfl
theorem dksX4_canAsk_3 : cX4_canAsk.data.toList.drop 72 = dktX4_canAsk_3 := dk_seg dksX4_canAsk_2 24 rfl rfl
theorem dX4_canAsk_0 : decode cX4_canAsk 0 = .ok (.aload_n 0, 1) := dk_42 (dk_at dksX4_canAsk_0 0 rfl rfl)
theorem dX4_canAsk_1 : decode cX4_canAsk 1 = .ok (.getfield 277, 3) := dk_180 1 21 (dk_at dksX4_canAsk_0 1 rfl rfl)
theorem dX4_canAsk_4 : decode cX4_canAsk 4 = .ok (.iload_n 1, 1) := dk_27 (dk_at dksX4_canAsk_0 4 rfl rfl)
theorem dX4_canAsk_5 : decode cX4_canAsk 5 = .ok (.invokestatic 295, 3) := dk_184 1 39 (dk_at dksX4_canAsk_0 5 rfl rfl)
theorem dX4_canAsk_8 : decode cX4_canAsk 8 = .ok (.ifCond .eq 71, 3) := dk_153 0 71 (dk_at dksX4_canAsk_0 8 rfl rfl)
theorem dX4_canAsk_11 : decode cX4_canAsk 11 = .ok (.aload_n 0, 1) := dk_42 (dk_at dksX4_canAsk_0 11 rfl rfl)
theorem dX4_canAsk_12 : decode cX4_canAsk 12 = .ok (.iload_n 1, 1) := dk_27 (dk_at dksX4_canAsk_0 12 rfl rfl)
theorem dX4_canAsk_13 : decode cX4_canAsk 13 = .ok (.iload_n 2, 1) := dk_28 (dk_at dksX4_canAsk_0 13 rfl rfl)
theorem dX4_canAsk_14 : decode cX4_canAsk 14 = .ok (.invokevirtual 311, 3) := dk_182 1 55 (dk_at dksX4_canAsk_0 14 rfl rfl)
theorem dX4_canAsk_17 : decode cX4_canAsk 17 = .ok (.ifCond .le 62, 3) := dk_158 0 62 (dk_at dksX4_canAsk_0 17 rfl rfl)
theorem dX4_canAsk_20 : decode cX4_canAsk 20 = .ok (.aload_n 0, 1) := dk_42 (dk_at dksX4_canAsk_0 20 rfl rfl)
theorem dX4_canAsk_21 : decode cX4_canAsk 21 = .ok (.getfield 271, 3) := dk_180 1 15 (dk_at dksX4_canAsk_0 21 rfl rfl)
theorem dX4_canAsk_24 : decode cX4_canAsk 24 = .ok (.iload_n 2, 1) := dk_28 (dk_at dksX4_canAsk_1 0 rfl rfl)
theorem dX4_canAsk_25 : decode cX4_canAsk 25 = .ok (.invokestatic 295, 3) := dk_184 1 39 (dk_at dksX4_canAsk_1 1 rfl rfl)
theorem dX4_canAsk_28 : decode cX4_canAsk 28 = .ok (.ifCond .ne 51, 3) := dk_154 0 51 (dk_at dksX4_canAsk_1 4 rfl rfl)
theorem dX4_canAsk_31 : decode cX4_canAsk 31 = .ok (.aload_n 0, 1) := dk_42 (dk_at dksX4_canAsk_1 7 rfl rfl)
theorem dX4_canAsk_32 : decode cX4_canAsk 32 = .ok (.getfield 48, 3) := dk_180 0 48 (dk_at dksX4_canAsk_1 8 rfl rfl)
theorem dX4_canAsk_35 : decode cX4_canAsk 35 = .ok (.iload_n 2, 1) := dk_28 (dk_at dksX4_canAsk_1 11 rfl rfl)
theorem dX4_canAsk_36 : decode cX4_canAsk 36 = .ok (.iaload, 1) := dk_46 (dk_at dksX4_canAsk_1 12 rfl rfl)
theorem dX4_canAsk_37 : decode cX4_canAsk 37 = .ok (.aload_n 0, 1) := dk_42 (dk_at dksX4_canAsk_1 13 rfl rfl)
theorem dX4_canAsk_38 : decode cX4_canAsk 38 = .ok (.getfield 271, 3) := dk_180 1 15 (dk_at dksX4_canAsk_1 14 rfl rfl)
theorem dX4_canAsk_41 : decode cX4_canAsk 41 = .ok (.iand, 1) := dk_126 (dk_at dksX4_canAsk_1 17 rfl rfl)
theorem dX4_canAsk_42 : decode cX4_canAsk 42 = .ok (.aload_n 0, 1) := dk_42 (dk_at dksX4_canAsk_1 18 rfl rfl)
theorem dX4_canAsk_43 : decode cX4_canAsk 43 = .ok (.getfield 48, 3) := dk_180 0 48 (dk_at dksX4_canAsk_1 19 rfl rfl)
theorem dX4_canAsk_46 : decode cX4_canAsk 46 = .ok (.iload_n 2, 1) := dk_28 (dk_at dksX4_canAsk_1 22 rfl rfl)
theorem dX4_canAsk_47 : decode cX4_canAsk 47 = .ok (.iaload, 1) := dk_46 (dk_at dksX4_canAsk_1 23 rfl rfl)
theorem dX4_canAsk_48 : decode cX4_canAsk 48 = .ok (.if_icmp .ne 31, 3) := dk_160 0 31 (dk_at dksX4_canAsk_2 0 rfl rfl)
theorem dX4_canAsk_51 : decode cX4_canAsk 51 = .ok (.aload_n 0, 1) := dk_42 (dk_at dksX4_canAsk_2 3 rfl rfl)
theorem dX4_canAsk_52 : decode cX4_canAsk 52 = .ok (.getfield 57, 3) := dk_180 0 57 (dk_at dksX4_canAsk_2 4 rfl rfl)
theorem dX4_canAsk_55 : decode cX4_canAsk 55 = .ok (.iload_n 1, 1) := dk_27 (dk_at dksX4_canAsk_2 7 rfl rfl)
theorem dX4_canAsk_56 : decode cX4_canAsk 56 = .ok (.iaload, 1) := dk_46 (dk_at dksX4_canAsk_2 8 rfl rfl)
theorem dX4_canAsk_57 : decode cX4_canAsk 57 = .ok (.aload_n 0, 1) := dk_42 (dk_at dksX4_canAsk_2 9 rfl rfl)
theorem dX4_canAsk_58 : decode cX4_canAsk 58 = .ok (.getfield 45, 3) := dk_180 0 45 (dk_at dksX4_canAsk_2 10 rfl rfl)
theorem dX4_canAsk_61 : decode cX4_canAsk 61 = .ok (.iconst 2, 1) := dk_5 (dk_at dksX4_canAsk_2 13 rfl rfl)
theorem dX4_canAsk_62 : decode cX4_canAsk 62 = .ok (.bipush 10, 2) := dk_16 10 (dk_at dksX4_canAsk_2 14 rfl rfl)
theorem dX4_canAsk_64 : decode cX4_canAsk 64 = .ok (.iload_n 1, 1) := dk_27 (dk_at dksX4_canAsk_2 16 rfl rfl)
theorem dX4_canAsk_65 : decode cX4_canAsk 65 = .ok (.imul, 1) := dk_104 (dk_at dksX4_canAsk_2 17 rfl rfl)
theorem dX4_canAsk_66 : decode cX4_canAsk 66 = .ok (.iload_n 2, 1) := dk_28 (dk_at dksX4_canAsk_2 18 rfl rfl)
theorem dX4_canAsk_67 : decode cX4_canAsk 67 = .ok (.iadd, 1) := dk_96 (dk_at dksX4_canAsk_2 19 rfl rfl)
theorem dX4_canAsk_68 : decode cX4_canAsk 68 = .ok (.imul, 1) := dk_104 (dk_at dksX4_canAsk_2 20 rfl rfl)
theorem dX4_canAsk_69 : decode cX4_canAsk 69 = .ok (.iconst 1, 1) := dk_4 (dk_at dksX4_canAsk_2 21 rfl rfl)
theorem dX4_canAsk_70 : decode cX4_canAsk 70 = .ok (.iadd, 1) := dk_96 (dk_at dksX4_canAsk_2 22 rfl rfl)
theorem dX4_canAsk_71 : decode cX4_canAsk 71 = .ok (.iaload, 1) := dk_46 (dk_at dksX4_canAsk_2 23 rfl rfl)
theorem dX4_canAsk_72 : decode cX4_canAsk 72 = .ok (.if_icmp .lt 7, 3) := dk_161 0 7 (dk_at dksX4_canAsk_3 0 rfl rfl)
theorem dX4_canAsk_75 : decode cX4_canAsk 75 = .ok (.iconst 1, 1) := dk_4 (dk_at dksX4_canAsk_3 3 rfl rfl)
theorem dX4_canAsk_76 : decode cX4_canAsk 76 = .ok (.goto 4, 3) := dk_167 0 4 (dk_at dksX4_canAsk_3 4 rfl rfl)
theorem dX4_canAsk_79 : decode cX4_canAsk 79 = .ok (.iconst 0, 1) := dk_3 (dk_at dksX4_canAsk_3 7 rfl rfl)
theorem dX4_canAsk_80 : decode cX4_canAsk 80 = .ok (.ireturn, 1) := dk_172 (dk_at dksX4_canAsk_3 8 rfl rfl)
def dkwX4_ask_14 : List UInt8 := [42, 42, 28, 182, 1, 49, 182, 1, 86, 21, 5, 172]
abbrev dktX4_ask_14 : List UInt8 := dkwX4_ask_14 ++ []
def dkwX4_ask_13 : List UInt8 := [180, 1, 27, 104, 6, 96, 21, 5, 79, 42, 89, 180, 1, 27, 4, 96, 181, 1, 27, 42, 28, 181, 1, 24]
abbrev dktX4_ask_13 : List UInt8 := dkwX4_ask_13 ++ dktX4_ask_14
def dkwX4_ask_12 : List UInt8 := [79, 42, 180, 0, 60, 7, 42, 180, 1, 27, 104, 5, 96, 42, 180, 1, 18, 79, 42, 180, 0, 60, 7, 42]
abbrev dktX4_ask_12 : List UInt8 := dkwX4_ask_12 ++ dktX4_ask_13
def dkwX4_ask_11 : List UInt8 := [180, 0, 60, 7, 42, 180, 1, 27, 104, 27, 79, 42, 180, 0, 60, 7, 42, 180, 1, 27, 104, 4, 96, 28]
abbrev dktX4_ask_11 : List UInt8 := dkwX4_ask_11 ++ dktX4_ask_12
def dkwX4_ask_10 : List UInt8 := [180, 0, 60, 21, 6, 46, 79, 132, 6, 1, 167, 255, 230, 42, 89, 180, 1, 27, 4, 100, 181, 1, 27, 42]
abbrev dktX4_ask_10 : List UInt8 := dkwX4_ask_10 ++ dktX4_ask_11
def dkwX4_ask_9 : List UInt8 := [160, 0, 45, 7, 54, 6, 21, 6, 16, 120, 162, 0, 25, 42, 180, 0, 60, 21, 6, 7, 100, 42]
abbrev dktX4_ask_9 : List UInt8 := dkwX4_ask_9 ++ dktX4_ask_10
def dkwX4_ask_8 : List UInt8 := [181, 1, 15, 42, 42, 180, 1, 15, 29, 2, 130, 126, 182, 1, 83, 54, 5, 42, 180, 1, 27, 16, 30]
abbrev dktX4_ask_8 : List UInt8 := dkwX4_ask_8 ++ dktX4_ask_9
def dkwX4_ask_7 : List UInt8 := [21, 5, 42, 180, 1, 4, 162, 0, 21, 42, 42, 42, 180, 1, 15, 4, 21, 5, 120, 128, 2, 182, 1, 62]
abbrev dktX4_ask_7 : List UInt8 := dkwX4_ask_7 ++ dktX4_ask_8
def dkwX4_ask_6 : List UInt8 := [182, 1, 55, 153, 0, 15, 42, 180, 1, 15, 21, 5, 184, 1, 39, 153, 0, 9, 132, 5, 1, 167, 255, 222]
abbrev dktX4_ask_6 : List UInt8 := dkwX4_ask_6 ++ dktX4_ask_7
def dkwX4_ask_5 : List UInt8 := [182, 1, 80, 154, 0, 70, 3, 54, 5, 21, 5, 42, 180, 1, 4, 162, 0, 31, 42, 27, 21, 5]
abbrev dktX4_ask_5 : List UInt8 := dkwX4_ask_5 ++ dktX4_ask_6
def dkwX4_ask_4 : List UInt8 := [162, 0, 20, 42, 42, 42, 180, 1, 15, 4, 28, 120, 128, 2, 182, 1, 62, 181, 1, 15, 42, 16, 64]
abbrev dktX4_ask_4 : List UInt8 := dkwX4_ask_4 ++ dktX4_ask_5
def dkwX4_ask_3 : List UInt8 := [54, 4, 42, 180, 0, 57, 27, 92, 46, 42, 28, 182, 1, 49, 96, 79, 42, 16, 16, 182, 1, 80, 21, 4]
abbrev dktX4_ask_3 : List UInt8 := dkwX4_ask_3 ++ dktX4_ask_4
def dkwX4_ask_2 : List UInt8 := [159, 0, 25, 42, 180, 0, 51, 42, 180, 1, 24, 46, 28, 184, 1, 39, 153, 0, 9, 5, 21, 4, 104]
abbrev dktX4_ask_2 : List UInt8 := dkwX4_ask_2 ++ dktX4_ask_3
def dkwX4_ask_1 : List UInt8 := [154, 0, 5, 2, 172, 42, 180, 1, 15, 62, 42, 27, 28, 182, 1, 55, 54, 4, 42, 180, 1, 24, 2]
abbrev dktX4_ask_1 : List UInt8 := dkwX4_ask_1 ++ dktX4_ask_2
def dkwX4_ask_0 : List UInt8 := [42, 27, 182, 1, 52, 153, 0, 20, 42, 28, 182, 1, 46, 153, 0, 12, 42, 27, 28, 182, 1, 77]
abbrev dktX4_ask_0 : List UInt8 := dkwX4_ask_0 ++ dktX4_ask_1
theorem dksX4_ask_0 : cX4_ask.data.toList.drop 0 = dktX4_ask_0 := by decide +kernel
theorem dksX4_ask_1 : cX4_ask.data.toList.drop 22 = dktX4_ask_1 := dk_seg dksX4_ask_0 22 rfl rfl
theorem dksX4_ask_2 : cX4_ask.data.toList.drop 45 = dktX4_ask_2 := dk_seg dksX4_ask_1 23 rfl rfl
theorem dksX4_ask_3 : cX4_ask.data.toList.drop 68 = dktX4_ask_3 := dk_seg dksX4_ask_2 23 rfl rfl
theorem dksX4_ask_4 : cX4_ask.data.toList.drop 92 = dktX4_ask_4 := dk_seg dksX4_ask_3 24 rfl rfl
theorem dksX4_ask_5 : cX4_ask.data.toList.drop 115 = dktX4_ask_5 := dk_seg dksX4_ask_4 23 rfl rfl
theorem dksX4_ask_6 : cX4_ask.data.toList.drop 137 = dktX4_ask_6 := dk_seg dksX4_ask_5 22 rfl rfl
theorem dksX4_ask_7 : cX4_ask.data.toList.drop 161 = dktX4_ask_7 := dk_seg dksX4_ask_6 24 rfl rfl
theorem dksX4_ask_8 : cX4_ask.data.toList.drop 185 = dktX4_ask_8 := dk_seg dksX4_ask_7 24 rfl rfl
theorem dksX4_ask_9 : cX4_ask.data.toList.drop 208 = dktX4_ask_9 := dk_seg dksX4_ask_8 23 rfl rfl
theorem dksX4_ask_10 : cX4_ask.data.toList.drop 230 = dktX4_ask_10 := dk_seg dksX4_ask_9 22 rfl rfl
theorem dksX4_ask_11 : cX4_ask.data.toList.drop 254 = dktX4_ask_11 := dk_seg dksX4_ask_10 24 rfl rfl
theorem dksX4_ask_12 : cX4_ask.data.toList.drop 278 = dktX4_ask_12 := dk_seg dksX4_ask_11 24 rfl rfl
theorem dksX4_ask_13 : cX4_ask.data.toList.drop 302 = dktX4_ask_13 := dk_seg dksX4_ask_12 24 rfl rfl
theorem dksX4_ask_14 : cX4_ask.data.toList.drop 326 = dktX4_ask_14 := dk_seg dksX4_ask_13 24 rfl rfl
theorem dX4_ask_0 : decode cX4_ask 0 = .ok (.aload_n 0, 1) := dk_42 (dk_at dksX4_ask_0 0 rfl rfl)
theorem dX4_ask_1 : decode cX4_ask 1 = .ok (.iload_n 1, 1) := dk_27 (dk_at dksX4_ask_0 1 rfl rfl)
theorem dX4_ask_2 : decode cX4_ask 2 = .ok (.invokevirtual 308, 3) := dk_182 1 52 (dk_at dksX4_ask_0 2 rfl rfl)
theorem dX4_ask_5 : decode cX4_ask 5 = .ok (.ifCond .eq 20, 3) := dk_153 0 20 (dk_at dksX4_ask_0 5 rfl rfl)
theorem dX4_ask_8 : decode cX4_ask 8 = .ok (.aload_n 0, 1) := dk_42 (dk_at dksX4_ask_0 8 rfl rfl)
theorem dX4_ask_9 : decode cX4_ask 9 = .ok (.iload_n 2, 1) := dk_28 (dk_at dksX4_ask_0 9 rfl rfl)
theorem dX4_ask_10 : decode cX4_ask 10 = .ok (.invokevirtual 302, 3) := dk_182 1 46 (dk_at dksX4_ask_0 10 rfl rfl)
theorem dX4_ask_13 : decode cX4_ask 13 = .ok (.ifCond .eq 12, 3) := dk_153 0 12 (dk_at dksX4_ask_0 13 rfl rfl)
theorem dX4_ask_16 : decode cX4_ask 16 = .ok (.aload_n 0, 1) := dk_42 (dk_at dksX4_ask_0 16 rfl rfl)
theorem dX4_ask_17 : decode cX4_ask 17 = .ok (.iload_n 1, 1) := dk_27 (dk_at dksX4_ask_0 17 rfl rfl)
theorem dX4_ask_18 : decode cX4_ask 18 = .ok (.iload_n 2, 1) := dk_28 (dk_at dksX4_ask_0 18 rfl rfl)
theorem dX4_ask_19 : decode cX4_ask 19 = .ok (.invokevirtual 333, 3) := dk_182 1 77 (dk_at dksX4_ask_0 19 rfl rfl)
theorem dX4_ask_22 : decode cX4_ask 22 = .ok (.ifCond .ne 5, 3) := dk_154 0 5 (dk_at dksX4_ask_1 0 rfl rfl)
theorem dX4_ask_25 : decode cX4_ask 25 = .ok (.iconst (-1), 1) := dk_2 (dk_at dksX4_ask_1 3 rfl rfl)
theorem dX4_ask_26 : decode cX4_ask 26 = .ok (.ireturn, 1) := dk_172 (dk_at dksX4_ask_1 4 rfl rfl)
theorem dX4_ask_27 : decode cX4_ask 27 = .ok (.aload_n 0, 1) := dk_42 (dk_at dksX4_ask_1 5 rfl rfl)
theorem dX4_ask_28 : decode cX4_ask 28 = .ok (.getfield 271, 3) := dk_180 1 15 (dk_at dksX4_ask_1 6 rfl rfl)
theorem dX4_ask_31 : decode cX4_ask 31 = .ok (.istore_n 3, 1) := dk_62 (dk_at dksX4_ask_1 9 rfl rfl)
theorem dX4_ask_32 : decode cX4_ask 32 = .ok (.aload_n 0, 1) := dk_42 (dk_at dksX4_ask_1 10 rfl rfl)
theorem dX4_ask_33 : decode cX4_ask 33 = .ok (.iload_n 1, 1) := dk_27 (dk_at dksX4_ask_1 11 rfl rfl)
theorem dX4_ask_34 : decode cX4_ask 34 = .ok (.iload_n 2, 1) := dk_28 (dk_at dksX4_ask_1 12 rfl rfl)
theorem dX4_ask_35 : decode cX4_ask 35 = .ok (.invokevirtual 311, 3) := dk_182 1 55 (dk_at dksX4_ask_1 13 rfl rfl)
theorem dX4_ask_38 : decode cX4_ask 38 = .ok (.istore 4, 2) := dk_54 4 (dk_at dksX4_ask_1 16 rfl rfl)
theorem dX4_ask_40 : decode cX4_ask 40 = .ok (.aload_n 0, 1) := dk_42 (dk_at dksX4_ask_1 18 rfl rfl)
theorem dX4_ask_41 : decode cX4_ask 41 = .ok (.getfield 280, 3) := dk_180 1 24 (dk_at dksX4_ask_1 19 rfl rfl)
theorem dX4_ask_44 : decode cX4_ask 44 = .ok (.iconst (-1), 1) := dk_2 (dk_at dksX4_ask_1 22 rfl rfl)
theorem dX4_ask_45 : decode cX4_ask 45 = .ok (.if_icmp .eq 25, 3) := dk_159 0 25 (dk_at dksX4_ask_2 0 rfl rfl)
theorem dX4_ask_48 : decode cX4_ask 48 = .ok (.aload_n 0, 1) := dk_42 (dk_at dksX4_ask_2 3 rfl rfl)
theorem dX4_ask_49 : decode cX4_ask 49 = .ok (.getfield 51, 3) := dk_180 0 51 (dk_at dksX4_ask_2 4 rfl rfl)
theorem dX4_ask_52 : decode cX4_ask 52 = .ok (.aload_n 0, 1) := dk_42 (dk_at dksX4_ask_2 7 rfl rfl)
theorem dX4_ask_53 : decode cX4_ask 53 = .ok (.getfield 280, 3) := dk_180 1 24 (dk_at dksX4_ask_2 8 rfl rfl)
theorem dX4_ask_56 : decode cX4_ask 56 = .ok (.iaload, 1) := dk_46 (dk_at dksX4_ask_2 11 rfl rfl)
theorem dX4_ask_57 : decode cX4_ask 57 = .ok (.iload_n 2, 1) := dk_28 (dk_at dksX4_ask_2 12 rfl rfl)
theorem dX4_ask_58 : decode cX4_ask 58 = .ok (.invokestatic 295, 3) := dk_184 1 39 (dk_at dksX4_ask_2 13 rfl rfl)
theorem dX4_ask_61 : decode cX4_ask 61 = .ok (.ifCond .eq 9, 3) := dk_153 0 9 (dk_at dksX4_ask_2 16 rfl rfl)
theorem dX4_ask_64 : decode cX4_ask 64 = .ok (.iconst 2, 1) := dk_5 (dk_at dksX4_ask_2 19 rfl rfl)
theorem dX4_ask_65 : decode cX4_ask 65 = .ok (.iload 4, 2) := dk_21 4 (dk_at dksX4_ask_2 20 rfl rfl)
theorem dX4_ask_67 : decode cX4_ask 67 = .ok (.imul, 1) := dk_104 (dk_at dksX4_ask_2 22 rfl rfl)
theorem dX4_ask_68 : decode cX4_ask 68 = .ok (.istore 4, 2) := dk_54 4 (dk_at dksX4_ask_3 0 rfl rfl)
theorem dX4_ask_70 : decode cX4_ask 70 = .ok (.aload_n 0, 1) := dk_42 (dk_at dksX4_ask_3 2 rfl rfl)
theorem dX4_ask_71 : decode cX4_ask 71 = .ok (.getfield 57, 3) := dk_180 0 57 (dk_at dksX4_ask_3 3 rfl rfl)
theorem dX4_ask_74 : decode cX4_ask 74 = .ok (.iload_n 1, 1) := dk_27 (dk_at dksX4_ask_3 6 rfl rfl)
theorem dX4_ask_75 : decode cX4_ask 75 = .ok (.dup2, 1) := dk_92 (dk_at dksX4_ask_3 7 rfl rfl)
theorem dX4_ask_76 : decode cX4_ask 76 = .ok (.iaload, 1) := dk_46 (dk_at dksX4_ask_3 8 rfl rfl)
theorem dX4_ask_77 : decode cX4_ask 77 = .ok (.aload_n 0, 1) := dk_42 (dk_at dksX4_ask_3 9 rfl rfl)
theorem dX4_ask_78 : decode cX4_ask 78 = .ok (.iload_n 2, 1) := dk_28 (dk_at dksX4_ask_3 10 rfl rfl)
theorem dX4_ask_79 : decode cX4_ask 79 = .ok (.invokevirtual 305, 3) := dk_182 1 49 (dk_at dksX4_ask_3 11 rfl rfl)
theorem dX4_ask_82 : decode cX4_ask 82 = .ok (.iadd, 1) := dk_96 (dk_at dksX4_ask_3 14 rfl rfl)
theorem dX4_ask_83 : decode cX4_ask 83 = .ok (.iastore, 1) := dk_79 (dk_at dksX4_ask_3 15 rfl rfl)
theorem dX4_ask_84 : decode cX4_ask 84 = .ok (.aload_n 0, 1) := dk_42 (dk_at dksX4_ask_3 16 rfl rfl)
theorem dX4_ask_85 : decode cX4_ask 85 = .ok (.bipush 16, 2) := dk_16 16 (dk_at dksX4_ask_3 17 rfl rfl)
theorem dX4_ask_87 : decode cX4_ask 87 = .ok (.invokevirtual 336, 3) := dk_182 1 80 (dk_at dksX4_ask_3 19 rfl rfl)
theorem dX4_ask_90 : decode cX4_ask 90 = .ok (.iload 4, 2) := dk_21 4 (dk_at dksX4_ask_3 22 rfl rfl)
theorem dX4_ask_92 : decode cX4_ask 92 = .ok (.if_icmp .ge 20, 3) := dk_162 0 20 (dk_at dksX4_ask_4 0 rfl rfl)
theorem dX4_ask_95 : decode cX4_ask 95 = .ok (.aload_n 0, 1) := dk_42 (dk_at dksX4_ask_4 3 rfl rfl)
theorem dX4_ask_96 : decode cX4_ask 96 = .ok (.aload_n 0, 1) := dk_42 (dk_at dksX4_ask_4 4 rfl rfl)
theorem dX4_ask_97 : decode cX4_ask 97 = .ok (.aload_n 0, 1) := dk_42 (dk_at dksX4_ask_4 5 rfl rfl)
theorem dX4_ask_98 : decode cX4_ask 98 = .ok (.getfield 271, 3) := dk_180 1 15 (dk_at dksX4_ask_4 6 rfl rfl)
theorem dX4_ask_101 : decode cX4_ask 101 = .ok (.iconst 1, 1) := dk_4 (dk_at dksX4_ask_4 9 rfl rfl)
theorem dX4_ask_102 : decode cX4_ask 102 = .ok (.iload_n 2, 1) := dk_28 (dk_at dksX4_ask_4 10 rfl rfl)
theorem dX4_ask_103 : decode cX4_ask 103 = .ok (.ishl, 1) := dk_120 (dk_at dksX4_ask_4 11 rfl rfl)
theorem dX4_ask_104 : decode cX4_ask 104 = .ok (.ior, 1) := dk_128 (dk_at dksX4_ask_4 12 rfl rfl)
theorem dX4_ask_105 : decode cX4_ask 105 = .ok (.iconst (-1), 1) := dk_2 (dk_at dksX4_ask_4 13 rfl rfl)
theorem dX4_ask_106 : decode cX4_ask 106 = .ok (.invokevirtual 318, 3) := dk_182 1 62 (dk_at dksX4_ask_4 14 rfl rfl)
theorem dX4_ask_109 : decode cX4_ask 109 = .ok (.putfield 271, 3) := dk_181 1 15 (dk_at dksX4_ask_4 17 rfl rfl)
theorem dX4_ask_112 : decode cX4_ask 112 = .ok (.aload_n 0, 1) := dk_42 (dk_at dksX4_ask_4 20 rfl rfl)
theorem dX4_ask_113 : decode cX4_ask 113 = .ok (.bipush 64, 2) := dk_16 64 (dk_at dksX4_ask_4 21 rfl rfl)
theorem dX4_ask_115 : decode cX4_ask 115 = .ok (.invokevirtual 336, 3) := dk_182 1 80 (dk_at dksX4_ask_5 0 rfl rfl)
theorem dX4_ask_118 : decode cX4_ask 118 = .ok (.ifCond .ne 70, 3) := dk_154 0 70 (dk_at dksX4_ask_5 3 rfl rfl)
theorem dX4_ask_121 : decode cX4_ask 121 = .ok (.iconst 0, 1) := dk_3 (dk_at dksX4_ask_5 6 rfl rfl)
theorem dX4_ask_122 : decode cX4_ask 122 = .ok (.istore 5, 2) := dk_54 5 (dk_at dksX4_ask_5 7 rfl rfl)
theorem dX4_ask_124 : decode cX4_ask 124 = .ok (.iload 5, 2) := dk_21 5 (dk_at dksX4_ask_5 9 rfl rfl)
theorem dX4_ask_126 : decode cX4_ask 126 = .ok (.aload_n 0, 1) := dk_42 (dk_at dksX4_ask_5 11 rfl rfl)
theorem dX4_ask_127 : decode cX4_ask 127 = .ok (.getfield 260, 3) := dk_180 1 4 (dk_at dksX4_ask_5 12 rfl rfl)
theorem dX4_ask_130 : decode cX4_ask 130 = .ok (.if_icmp .ge 31, 3) := dk_162 0 31 (dk_at dksX4_ask_5 15 rfl rfl)
theorem dX4_ask_133 : decode cX4_ask 133 = .ok (.aload_n 0, 1) := dk_42 (dk_at dksX4_ask_5 18 rfl rfl)
theorem dX4_ask_134 : decode cX4_ask 134 = .ok (.iload_n 1, 1) := dk_27 (dk_at dksX4_ask_5 19 rfl rfl)
theorem dX4_ask_135 : decode cX4_ask 135 = .ok (.iload 5, 2) := dk_21 5 (dk_at dksX4_ask_5 20 rfl rfl)
theorem dX4_ask_137 : decode cX4_ask 137 = .ok (.invokevirtual 311, 3) := dk_182 1 55 (dk_at dksX4_ask_6 0 rfl rfl)
theorem dX4_ask_140 : decode cX4_ask 140 = .ok (.ifCond .eq 15, 3) := dk_153 0 15 (dk_at dksX4_ask_6 3 rfl rfl)
theorem dX4_ask_143 : decode cX4_ask 143 = .ok (.aload_n 0, 1) := dk_42 (dk_at dksX4_ask_6 6 rfl rfl)
theorem dX4_ask_144 : decode cX4_ask 144 = .ok (.getfield 271, 3) := dk_180 1 15 (dk_at dksX4_ask_6 7 rfl rfl)
theorem dX4_ask_147 : decode cX4_ask 147 = .ok (.iload 5, 2) := dk_21 5 (dk_at dksX4_ask_6 10 rfl rfl)
theorem dX4_ask_149 : decode cX4_ask 149 = .ok (.invokestatic 295, 3) := dk_184 1 39 (dk_at dksX4_ask_6 12 rfl rfl)
theorem dX4_ask_152 : decode cX4_ask 152 = .ok (.ifCond .eq 9, 3) := dk_153 0 9 (dk_at dksX4_ask_6 15 rfl rfl)
theorem dX4_ask_155 : decode cX4_ask 155 = .ok (.iinc 5 1, 3) := dk_132 5 1 (dk_at dksX4_ask_6 18 rfl rfl)
theorem dX4_ask_158 : decode cX4_ask 158 = .ok (.goto (-34), 3) := dk_167 255 222 (dk_at dksX4_ask_6 21 rfl rfl)
theorem dX4_ask_161 : decode cX4_ask 161 = .ok (.iload 5, 2) := dk_21 5 (dk_at dksX4_ask_7 0 rfl rfl)
theorem dX4_ask_163 : decode cX4_ask 163 = .ok (.aload_n 0, 1) := dk_42 (dk_at dksX4_ask_7 2 rfl rfl)
theorem dX4_ask_164 : decode cX4_ask 164 = .ok (.getfield 260, 3) := dk_180 1 4 (dk_at dksX4_ask_7 3 rfl rfl)
theorem dX4_ask_167 : decode cX4_ask 167 = .ok (.if_icmp .ge 21, 3) := dk_162 0 21 (dk_at dksX4_ask_7 6 rfl rfl)
theorem dX4_ask_170 : decode cX4_ask 170 = .ok (.aload_n 0, 1) := dk_42 (dk_at dksX4_ask_7 9 rfl rfl)
theorem dX4_ask_171 : decode cX4_ask 171 = .ok (.aload_n 0, 1) := dk_42 (dk_at dksX4_ask_7 10 rfl rfl)
theorem dX4_ask_172 : decode cX4_ask 172 = .ok (.aload_n 0, 1) := dk_42 (dk_at dksX4_ask_7 11 rfl rfl)
theorem dX4_ask_173 : decode cX4_ask 173 = .ok (.getfield 271, 3) := dk_180 1 15 (dk_at dksX4_ask_7 12 rfl rfl)
theorem dX4_ask_176 : decode cX4_ask 176 = .ok (.iconst 1, 1) := dk_4 (dk_at dksX4_ask_7 15 rfl rfl)
theorem dX4_ask_177 : decode cX4_ask 177 = .ok (.iload 5, 2) := dk_21 5 (dk_at dksX4_ask_7 16 rfl rfl)
theorem dX4_ask_179 : decode cX4_ask 179 = .ok (.ishl, 1) := dk_120 (dk_at dksX4_ask_7 18 rfl rfl)
theorem dX4_ask_180 : decode cX4_ask 180 = .ok (.ior, 1) := dk_128 (dk_at dksX4_ask_7 19 rfl rfl)
theorem dX4_ask_181 : decode cX4_ask 181 = .ok (.iconst (-1), 1) := dk_2 (dk_at dksX4_ask_7 20 rfl rfl)
theorem dX4_ask_182 : decode cX4_ask 182 = .ok (.invokevirtual 318, 3) := dk_182 1 62 (dk_at dksX4_ask_7 21 rfl rfl)
theorem dX4_ask_185 : decode cX4_ask 185 = .ok (.putfield 271, 3) := dk_181 1 15 (dk_at dksX4_ask_8 0 rfl rfl)
theorem dX4_ask_188 : decode cX4_ask 188 = .ok (.aload_n 0, 1) := dk_42 (dk_at dksX4_ask_8 3 rfl rfl)
theorem dX4_ask_189 : decode cX4_ask 189 = .ok (.aload_n 0, 1) := dk_42 (dk_at dksX4_ask_8 4 rfl rfl)
theorem dX4_ask_190 : decode cX4_ask 190 = .ok (.getfield 271, 3) := dk_180 1 15 (dk_at dksX4_ask_8 5 rfl rfl)
theorem dX4_ask_193 : decode cX4_ask 193 = .ok (.iload_n 3, 1) := dk_29 (dk_at dksX4_ask_8 8 rfl rfl)
theorem dX4_ask_194 : decode cX4_ask 194 = .ok (.iconst (-1), 1) := dk_2 (dk_at dksX4_ask_8 9 rfl rfl)
theorem dX4_ask_195 : decode cX4_ask 195 = .ok (.ixor, 1) := dk_130 (dk_at dksX4_ask_8 10 rfl rfl)
theorem dX4_ask_196 : decode cX4_ask 196 = .ok (.iand, 1) := dk_126 (dk_at dksX4_ask_8 11 rfl rfl)
theorem dX4_ask_197 : decode cX4_ask 197 = .ok (.invokevirtual 339, 3) := dk_182 1 83 (dk_at dksX4_ask_8 12 rfl rfl)
theorem dX4_ask_200 : decode cX4_ask 200 = .ok (.istore 5, 2) := dk_54 5 (dk_at dksX4_ask_8 15 rfl rfl)
theorem dX4_ask_202 : decode cX4_ask 202 = .ok (.aload_n 0, 1) := dk_42 (dk_at dksX4_ask_8 17 rfl rfl)
theorem dX4_ask_203 : decode cX4_ask 203 = .ok (.getfield 283, 3) := dk_180 1 27 (dk_at dksX4_ask_8 18 rfl rfl)
theorem dX4_ask_206 : decode cX4_ask 206 = .ok (.bipush 30, 2) := dk_16 30 (dk_at dksX4_ask_8 21 rfl rfl)
theorem dX4_ask_208 : decode cX4_ask 208 = .ok (.if_icmp .ne 45, 3) := dk_160 0 45 (dk_at dksX4_ask_9 0 rfl rfl)
theorem dX4_ask_211 : decode cX4_ask 211 = .ok (.iconst 4, 1) := dk_7 (dk_at dksX4_ask_9 3 rfl rfl)
theorem dX4_ask_212 : decode cX4_ask 212 = .ok (.istore 6, 2) := dk_54 6 (dk_at dksX4_ask_9 4 rfl rfl)
theorem dX4_ask_214 : decode cX4_ask 214 = .ok (.iload 6, 2) := dk_21 6 (dk_at dksX4_ask_9 6 rfl rfl)
theorem dX4_ask_216 : decode cX4_ask 216 = .ok (.bipush 120, 2) := dk_16 120 (dk_at dksX4_ask_9 8 rfl rfl)
theorem dX4_ask_218 : decode cX4_ask 218 = .ok (.if_icmp .ge 25, 3) := dk_162 0 25 (dk_at dksX4_ask_9 10 rfl rfl)
theorem dX4_ask_221 : decode cX4_ask 221 = .ok (.aload_n 0, 1) := dk_42 (dk_at dksX4_ask_9 13 rfl rfl)
theorem dX4_ask_222 : decode cX4_ask 222 = .ok (.getfield 60, 3) := dk_180 0 60 (dk_at dksX4_ask_9 14 rfl rfl)
theorem dX4_ask_225 : decode cX4_ask 225 = .ok (.iload 6, 2) := dk_21 6 (dk_at dksX4_ask_9 17 rfl rfl)
theorem dX4_ask_227 : decode cX4_ask 227 = .ok (.iconst 4, 1) := dk_7 (dk_at dksX4_ask_9 19 rfl rfl)
theorem dX4_ask_228 : decode cX4_ask 228 = .ok (.isub, 1) := dk_100 (dk_at dksX4_ask_9 20 rfl rfl)
theorem dX4_ask_229 : decode cX4_ask 229 = .ok (.aload_n 0, 1) := dk_42 (dk_at dksX4_ask_9 21 rfl rfl)
theorem dX4_ask_230 : decode cX4_ask 230 = .ok (.getfield 60, 3) := dk_180 0 60 (dk_at dksX4_ask_10 0 rfl rfl)
theorem dX4_ask_233 : decode cX4_ask 233 = .ok (.iload 6, 2) := dk_21 6 (dk_at dksX4_ask_10 3 rfl rfl)
theorem dX4_ask_235 : decode cX4_ask 235 = .ok (.iaload, 1) := dk_46 (dk_at dksX4_ask_10 5 rfl rfl)
theorem dX4_ask_236 : decode cX4_ask 236 = .ok (.iastore, 1) := dk_79 (dk_at dksX4_ask_10 6 rfl rfl)
theorem dX4_ask_237 : decode cX4_ask 237 = .ok (.iinc 6 1, 3) := dk_132 6 1 (dk_at dksX4_ask_10 7 rfl rfl)
theorem dX4_ask_240 : decode cX4_ask 240 = .ok (.goto (-26), 3) := dk_167 255 230 (dk_at dksX4_ask_10 10 rfl rfl)
theorem dX4_ask_243 : decode cX4_ask 243 = .ok (.aload_n 0, 1) := dk_42 (dk_at dksX4_ask_10 13 rfl rfl)
theorem dX4_ask_244 : decode cX4_ask 244 = .ok (.dup, 1) := dk_89 (dk_at dksX4_ask_10 14 rfl rfl)
theorem dX4_ask_245 : decode cX4_ask 245 = .ok (.getfield 283, 3) := dk_180 1 27 (dk_at dksX4_ask_10 15 rfl rfl)
theorem dX4_ask_248 : decode cX4_ask 248 = .ok (.iconst 1, 1) := dk_4 (dk_at dksX4_ask_10 18 rfl rfl)
theorem dX4_ask_249 : decode cX4_ask 249 = .ok (.isub, 1) := dk_100 (dk_at dksX4_ask_10 19 rfl rfl)
theorem dX4_ask_250 : decode cX4_ask 250 = .ok (.putfield 283, 3) := dk_181 1 27 (dk_at dksX4_ask_10 20 rfl rfl)
theorem dX4_ask_253 : decode cX4_ask 253 = .ok (.aload_n 0, 1) := dk_42 (dk_at dksX4_ask_10 23 rfl rfl)
theorem dX4_ask_254 : decode cX4_ask 254 = .ok (.getfield 60, 3) := dk_180 0 60 (dk_at dksX4_ask_11 0 rfl rfl)
theorem dX4_ask_257 : decode cX4_ask 257 = .ok (.iconst 4, 1) := dk_7 (dk_at dksX4_ask_11 3 rfl rfl)
theorem dX4_ask_258 : decode cX4_ask 258 = .ok (.aload_n 0, 1) := dk_42 (dk_at dksX4_ask_11 4 rfl rfl)
theorem dX4_ask_259 : decode cX4_ask 259 = .ok (.getfield 283, 3) := dk_180 1 27 (dk_at dksX4_ask_11 5 rfl rfl)
theorem dX4_ask_262 : decode cX4_ask 262 = .ok (.imul, 1) := dk_104 (dk_at dksX4_ask_11 8 rfl rfl)
theorem dX4_ask_263 : decode cX4_ask 263 = .ok (.iload_n 1, 1) := dk_27 (dk_at dksX4_ask_11 9 rfl rfl)
theorem dX4_ask_264 : decode cX4_ask 264 = .ok (.iastore, 1) := dk_79 (dk_at dksX4_ask_11 10 rfl rfl)
theorem dX4_ask_265 : decode cX4_ask 265 = .ok (.aload_n 0, 1) := dk_42 (dk_at dksX4_ask_11 11 rfl rfl)
theorem dX4_ask_266 : decode cX4_ask 266 = .ok (.getfield 60, 3) := dk_180 0 60 (dk_at dksX4_ask_11 12 rfl rfl)
theorem dX4_ask_269 : decode cX4_ask 269 = .ok (.iconst 4, 1) := dk_7 (dk_at dksX4_ask_11 15 rfl rfl)
theorem dX4_ask_270 : decode cX4_ask 270 = .ok (.aload_n 0, 1) := dk_42 (dk_at dksX4_ask_11 16 rfl rfl)
theorem dX4_ask_271 : decode cX4_ask 271 = .ok (.getfield 283, 3) := dk_180 1 27 (dk_at dksX4_ask_11 17 rfl rfl)
theorem dX4_ask_274 : decode cX4_ask 274 = .ok (.imul, 1) := dk_104 (dk_at dksX4_ask_11 20 rfl rfl)
theorem dX4_ask_275 : decode cX4_ask 275 = .ok (.iconst 1, 1) := dk_4 (dk_at dksX4_ask_11 21 rfl rfl)
theorem dX4_ask_276 : decode cX4_ask 276 = .ok (.iadd, 1) := dk_96 (dk_at dksX4_ask_11 22 rfl rfl)
theorem dX4_ask_277 : decode cX4_ask 277 = .ok (.iload_n 2, 1) := dk_28 (dk_at dksX4_ask_11 23 rfl rfl)
theorem dX4_ask_278 : decode cX4_ask 278 = .ok (.iastore, 1) := dk_79 (dk_at dksX4_ask_12 0 rfl rfl)
theorem dX4_ask_279 : decode cX4_ask 279 = .ok (.aload_n 0, 1) := dk_42 (dk_at dksX4_ask_12 1 rfl rfl)
theorem dX4_ask_280 : decode cX4_ask 280 = .ok (.getfield 60, 3) := dk_180 0 60 (dk_at dksX4_ask_12 2 rfl rfl)
theorem dX4_ask_283 : decode cX4_ask 283 = .ok (.iconst 4, 1) := dk_7 (dk_at dksX4_ask_12 5 rfl rfl)
theorem dX4_ask_284 : decode cX4_ask 284 = .ok (.aload_n 0, 1) := dk_42 (dk_at dksX4_ask_12 6 rfl rfl)
theorem dX4_ask_285 : decode cX4_ask 285 = .ok (.getfield 283, 3) := dk_180 1 27 (dk_at dksX4_ask_12 7 rfl rfl)
theorem dX4_ask_288 : decode cX4_ask 288 = .ok (.imul, 1) := dk_104 (dk_at dksX4_ask_12 10 rfl rfl)
theorem dX4_ask_289 : decode cX4_ask 289 = .ok (.iconst 2, 1) := dk_5 (dk_at dksX4_ask_12 11 rfl rfl)
theorem dX4_ask_290 : decode cX4_ask 290 = .ok (.iadd, 1) := dk_96 (dk_at dksX4_ask_12 12 rfl rfl)
theorem dX4_ask_291 : decode cX4_ask 291 = .ok (.aload_n 0, 1) := dk_42 (dk_at dksX4_ask_12 13 rfl rfl)
theorem dX4_ask_292 : decode cX4_ask 292 = .ok (.getfield 274, 3) := dk_180 1 18 (dk_at dksX4_ask_12 14 rfl rfl)
theorem dX4_ask_295 : decode cX4_ask 295 = .ok (.iastore, 1) := dk_79 (dk_at dksX4_ask_12 17 rfl rfl)
theorem dX4_ask_296 : decode cX4_ask 296 = .ok (.aload_n 0, 1) := dk_42 (dk_at dksX4_ask_12 18 rfl rfl)
theorem dX4_ask_297 : decode cX4_ask 297 = .ok (.getfield 60, 3) := dk_180 0 60 (dk_at dksX4_ask_12 19 rfl rfl)
theorem dX4_ask_300 : decode cX4_ask 300 = .ok (.iconst 4, 1) := dk_7 (dk_at dksX4_ask_12 22 rfl rfl)
theorem dX4_ask_301 : decode cX4_ask 301 = .ok (.aload_n 0, 1) := dk_42 (dk_at dksX4_ask_12 23 rfl rfl)
theorem dX4_ask_302 : decode cX4_ask 302 = .ok (.getfield 283, 3) := dk_180 1 27 (dk_at dksX4_ask_13 0 rfl rfl)
theorem dX4_ask_305 : decode cX4_ask 305 = .ok (.imul, 1) := dk_104 (dk_at dksX4_ask_13 3 rfl rfl)
theorem dX4_ask_306 : decode cX4_ask 306 = .ok (.iconst 3, 1) := dk_6 (dk_at dksX4_ask_13 4 rfl rfl)
theorem dX4_ask_307 : decode cX4_ask 307 = .ok (.iadd, 1) := dk_96 (dk_at dksX4_ask_13 5 rfl rfl)
theorem dX4_ask_308 : decode cX4_ask 308 = .ok (.iload 5, 2) := dk_21 5 (dk_at dksX4_ask_13 6 rfl rfl)
theorem dX4_ask_310 : decode cX4_ask 310 = .ok (.iastore, 1) := dk_79 (dk_at dksX4_ask_13 8 rfl rfl)
theorem dX4_ask_311 : decode cX4_ask 311 = .ok (.aload_n 0, 1) := dk_42 (dk_at dksX4_ask_13 9 rfl rfl)
theorem dX4_ask_312 : decode cX4_ask 312 = .ok (.dup, 1) := dk_89 (dk_at dksX4_ask_13 10 rfl rfl)
theorem dX4_ask_313 : decode cX4_ask 313 = .ok (.getfield 283, 3) := dk_180 1 27 (dk_at dksX4_ask_13 11 rfl rfl)
theorem dX4_ask_316 : decode cX4_ask 316 = .ok (.iconst 1, 1) := dk_4 (dk_at dksX4_ask_13 14 rfl rfl)
theorem dX4_ask_317 : decode cX4_ask 317 = .ok (.iadd, 1) := dk_96 (dk_at dksX4_ask_13 15 rfl rfl)
theorem dX4_ask_318 : decode cX4_ask 318 = .ok (.putfield 283, 3) := dk_181 1 27 (dk_at dksX4_ask_13 16 rfl rfl)
theorem dX4_ask_321 : decode cX4_ask 321 = .ok (.aload_n 0, 1) := dk_42 (dk_at dksX4_ask_13 19 rfl rfl)
theorem dX4_ask_322 : decode cX4_ask 322 = .ok (.iload_n 2, 1) := dk_28 (dk_at dksX4_ask_13 20 rfl rfl)
theorem dX4_ask_323 : decode cX4_ask 323 = .ok (.putfield 280, 3) := dk_181 1 24 (dk_at dksX4_ask_13 21 rfl rfl)
theorem dX4_ask_326 : decode cX4_ask 326 = .ok (.aload_n 0, 1) := dk_42 (dk_at dksX4_ask_14 0 rfl rfl)
theorem dX4_ask_327 : decode cX4_ask 327 = .ok (.aload_n 0, 1) := dk_42 (dk_at dksX4_ask_14 1 rfl rfl)
theorem dX4_ask_328 : decode cX4_ask 328 = .ok (.iload_n 2, 1) := dk_28 (dk_at dksX4_ask_14 2 rfl rfl)
theorem dX4_ask_329 : decode cX4_ask 329 = .ok (.invokevirtual 305, 3) := dk_182 1 49 (dk_at dksX4_ask_14 3 rfl rfl)
theorem dX4_ask_332 : decode cX4_ask 332 = .ok (.invokevirtual 342, 3) := dk_182 1 86 (dk_at dksX4_ask_14 6 rfl rfl)
theorem dX4_ask_335 : decode cX4_ask 335 = .ok (.iload 5, 2) := dk_21 5 (dk_at dksX4_ask_14 9 rfl rfl)
theorem dX4_ask_337 : decode cX4_ask 337 = .ok (.ireturn, 1) := dk_172 (dk_at dksX4_ask_14 11 rfl rfl)
def dkwX4_draws_1 : List UInt8 := [20, 1, 75, 109, 27, 133, 113, 136, 172]
abbrev dktX4_draws_1 : List UInt8 := dkwX4_draws_1 ++ []
def dkwX4_draws_0 : List UInt8 := [42, 42, 180, 1, 33, 20, 1, 69, 105, 20, 1, 71, 97, 20, 1, 73, 127, 181, 1, 33, 42, 180, 1, 33]
abbrev dktX4_draws_0 : List UInt8 := dkwX4_draws_0 ++ dktX4_draws_1
theorem dksX4_draws_0 : cX4_draws.data.toList.drop 0 = dktX4_draws_0 := by decide +kernel
theorem dksX4_draws_1 : cX4_draws.data.toList.drop 24 = dktX4_draws_1 := dk_seg dksX4_draws_0 24 rfl rfl
theorem dX4_draws_0 : decode cX4_draws 0 = .ok (.aload_n 0, 1) := dk_42 (dk_at dksX4_draws_0 0 rfl rfl)
theorem dX4_draws_1 : decode cX4_draws 1 = .ok (.aload_n 0, 1) := dk_42 (dk_at dksX4_draws_0 1 rfl rfl)
theorem dX4_draws_2 : decode cX4_draws 2 = .ok (.getfield 289, 3) := dk_180 1 33 (dk_at dksX4_draws_0 2 rfl rfl)
theorem dX4_draws_5 : decode cX4_draws 5 = .ok (.ldc2_w 325, 3) := dk_20 1 69 (dk_at dksX4_draws_0 5 rfl rfl)
theorem dX4_draws_8 : decode cX4_draws 8 = .ok (.lmul, 1) := dk_105 (dk_at dksX4_draws_0 8 rfl rfl)
theorem dX4_draws_9 : decode cX4_draws 9 = .ok (.ldc2_w 327, 3) := dk_20 1 71 (dk_at dksX4_draws_0 9 rfl rfl)
theorem dX4_draws_12 : decode cX4_draws 12 = .ok (.ladd, 1) := dk_97 (dk_at dksX4_draws_0 12 rfl rfl)
theorem dX4_draws_13 : decode cX4_draws 13 = .ok (.ldc2_w 329, 3) := dk_20 1 73 (dk_at dksX4_draws_0 13 rfl rfl)
theorem dX4_draws_16 : decode cX4_draws 16 = .ok (.land, 1) := dk_127 (dk_at dksX4_draws_0 16 rfl rfl)
theorem dX4_draws_17 : decode cX4_draws 17 = .ok (.putfield 289, 3) := dk_181 1 33 (dk_at dksX4_draws_0 17 rfl rfl)
theorem dX4_draws_20 : decode cX4_draws 20 = .ok (.aload_n 0, 1) := dk_42 (dk_at dksX4_draws_0 20 rfl rfl)
theorem dX4_draws_21 : decode cX4_draws 21 = .ok (.getfield 289, 3) := dk_180 1 33 (dk_at dksX4_draws_0 21 rfl rfl)
theorem dX4_draws_24 : decode cX4_draws 24 = .ok (.ldc2_w 331, 3) := dk_20 1 75 (dk_at dksX4_draws_1 0 rfl rfl)
theorem dX4_draws_27 : decode cX4_draws 27 = .ok (.ldiv, 1) := dk_109 (dk_at dksX4_draws_1 3 rfl rfl)
theorem dX4_draws_28 : decode cX4_draws 28 = .ok (.iload_n 1, 1) := dk_27 (dk_at dksX4_draws_1 4 rfl rfl)
theorem dX4_draws_29 : decode cX4_draws 29 = .ok (.i2l, 1) := dk_133 (dk_at dksX4_draws_1 5 rfl rfl)
theorem dX4_draws_30 : decode cX4_draws 30 = .ok (.lrem, 1) := dk_113 (dk_at dksX4_draws_1 6 rfl rfl)
theorem dX4_draws_31 : decode cX4_draws 31 = .ok (.l2i, 1) := dk_136 (dk_at dksX4_draws_1 7 rfl rfl)
theorem dX4_draws_32 : decode cX4_draws 32 = .ok (.ireturn, 1) := dk_172 (dk_at dksX4_draws_1 8 rfl rfl)
def dkwX4_worths_1 : List UInt8 := [182, 1, 42, 167, 0, 4, 3, 96, 61, 132, 3, 1, 167, 255, 225, 28, 172]
abbrev dktX4_worths_1 : List UInt8 := dkwX4_worths_1 ++ []
def dkwX4_worths_0 : List UInt8 := [3, 61, 3, 62, 29, 42, 180, 1, 4, 162, 0, 29, 28, 27, 29, 184, 1, 39, 153, 0, 11, 42, 29]
abbrev dktX4_worths_0 : List UInt8 := dkwX4_worths_0 ++ dktX4_worths_1
theorem dksX4_worths_0 : cX4_worths.data.toList.drop 0 = dktX4_worths_0 := by decide +kernel
theorem dksX4_worths_1 : cX4_worths.data.toList.drop 23 = dktX4_worths_1 := dk_seg dksX4_worths_0 23 rfl rfl
theorem dX4_worths_0 : decode cX4_worths 0 = .ok (.iconst 0, 1) := dk_3 (dk_at dksX4_worths_0 0 rfl rfl)
theorem dX4_worths_1 : decode cX4_worths 1 = .ok (.istore_n 2, 1) := dk_61 (dk_at dksX4_worths_0 1 rfl rfl)
theorem dX4_worths_2 : decode cX4_worths 2 = .ok (.iconst 0, 1) := dk_3 (dk_at dksX4_worths_0 2 rfl rfl)
theorem dX4_worths_3 : decode cX4_worths 3 = .ok (.istore_n 3, 1) := dk_62 (dk_at dksX4_worths_0 3 rfl rfl)
theorem dX4_worths_4 : decode cX4_worths 4 = .ok (.iload_n 3, 1) := dk_29 (dk_at dksX4_worths_0 4 rfl rfl)
theorem dX4_worths_5 : decode cX4_worths 5 = .ok (.aload_n 0, 1) := dk_42 (dk_at dksX4_worths_0 5 rfl rfl)
theorem dX4_worths_6 : decode cX4_worths 6 = .ok (.getfield 260, 3) := dk_180 1 4 (dk_at dksX4_worths_0 6 rfl rfl)
theorem dX4_worths_9 : decode cX4_worths 9 = .ok (.if_icmp .ge 29, 3) := dk_162 0 29 (dk_at dksX4_worths_0 9 rfl rfl)
theorem dX4_worths_12 : decode cX4_worths 12 = .ok (.iload_n 2, 1) := dk_28 (dk_at dksX4_worths_0 12 rfl rfl)
theorem dX4_worths_13 : decode cX4_worths 13 = .ok (.iload_n 1, 1) := dk_27 (dk_at dksX4_worths_0 13 rfl rfl)
theorem dX4_worths_14 : decode cX4_worths 14 = .ok (.iload_n 3, 1) := dk_29 (dk_at dksX4_worths_0 14 rfl rfl)
theorem dX4_worths_15 : decode cX4_worths 15 = .ok (.invokestatic 295, 3) := dk_184 1 39 (dk_at dksX4_worths_0 15 rfl rfl)
theorem dX4_worths_18 : decode cX4_worths 18 = .ok (.ifCond .eq 11, 3) := dk_153 0 11 (dk_at dksX4_worths_0 18 rfl rfl)
theorem dX4_worths_21 : decode cX4_worths 21 = .ok (.aload_n 0, 1) := dk_42 (dk_at dksX4_worths_0 21 rfl rfl)
theorem dX4_worths_22 : decode cX4_worths 22 = .ok (.iload_n 3, 1) := dk_29 (dk_at dksX4_worths_0 22 rfl rfl)
theorem dX4_worths_23 : decode cX4_worths 23 = .ok (.invokevirtual 298, 3) := dk_182 1 42 (dk_at dksX4_worths_1 0 rfl rfl)
theorem dX4_worths_26 : decode cX4_worths 26 = .ok (.goto 4, 3) := dk_167 0 4 (dk_at dksX4_worths_1 3 rfl rfl)
theorem dX4_worths_29 : decode cX4_worths 29 = .ok (.iconst 0, 1) := dk_3 (dk_at dksX4_worths_1 6 rfl rfl)
theorem dX4_worths_30 : decode cX4_worths 30 = .ok (.iadd, 1) := dk_96 (dk_at dksX4_worths_1 7 rfl rfl)
theorem dX4_worths_31 : decode cX4_worths 31 = .ok (.istore_n 2, 1) := dk_61 (dk_at dksX4_worths_1 8 rfl rfl)
theorem dX4_worths_32 : decode cX4_worths 32 = .ok (.iinc 3 1, 3) := dk_132 3 1 (dk_at dksX4_worths_1 9 rfl rfl)
theorem dX4_worths_35 : decode cX4_worths 35 = .ok (.goto (-31), 3) := dk_167 255 225 (dk_at dksX4_worths_1 12 rfl rfl)
theorem dX4_worths_38 : decode cX4_worths 38 = .ok (.iload_n 2, 1) := dk_28 (dk_at dksX4_worths_1 15 rfl rfl)
theorem dX4_worths_39 : decode cX4_worths 39 = .ok (.ireturn, 1) := dk_172 (dk_at dksX4_worths_1 16 rfl rfl)
def dkwX4_passes_5 : List UInt8 := [177]
abbrev dktX4_passes_5 : List UInt8 := dkwX4_passes_5 ++ []
def dkwX4_passes_4 : List UInt8 := [132, 3, 1, 167, 255, 205, 42, 89, 180, 1, 18, 4, 96, 181, 1, 18, 167, 255, 167, 42, 28, 181, 1, 18]
abbrev dktX4_passes_4 : List UInt8 := dkwX4_passes_4 ++ dktX4_passes_5
def dkwX4_passes_3 : List UInt8 := [180, 0, 42, 29, 46, 161, 0, 17, 42, 89, 180, 1, 21, 4, 29, 120, 2, 130, 126, 181, 1, 21]
abbrev dktX4_passes_3 : List UInt8 := dkwX4_passes_3 ++ dktX4_passes_4
def dkwX4_passes_2 : List UInt8 := [180, 1, 7, 162, 0, 49, 42, 180, 1, 21, 29, 184, 1, 39, 153, 0, 32, 42, 16, 16, 182, 1, 80, 42]
abbrev dktX4_passes_2 : List UInt8 := dkwX4_passes_2 ++ dktX4_passes_3
def dkwX4_passes_1 : List UInt8 := [163, 0, 87, 42, 180, 1, 18, 42, 180, 1, 13, 112, 153, 0, 6, 167, 0, 59, 3, 62, 29, 42]
abbrev dktX4_passes_1 : List UInt8 := dkwX4_passes_1 ++ dktX4_passes_2
def dkwX4_passes_0 : List UInt8 := [42, 180, 1, 18, 27, 96, 61, 42, 89, 180, 1, 18, 4, 96, 181, 1, 18, 42, 180, 1, 18, 28]
abbrev dktX4_passes_0 : List UInt8 := dkwX4_passes_0 ++ dktX4_passes_1
theorem dksX4_passes_0 : cX4_passes.data.toList.drop 0 = dktX4_passes_0 := by decide +kernel
theorem dksX4_passes_1 : cX4_passes.data.toList.drop 22 = dktX4_passes_1 := dk_seg dksX4_passes_0 22 rfl rfl
theorem dksX4_passes_2 : cX4_passes.data.toList.drop 44 = dktX4_passes_2 := dk_seg dksX4_passes_1 22 rfl rfl
theorem dksX4_passes_3 : cX4_passes.data.toList.drop 68 = dktX4_passes_3 := dk_seg dksX4_passes_2 24 rfl rfl
theorem dksX4_passes_4 : cX4_passes.data.toList.drop 90 = dktX4_passes_4 := dk_seg dksX4_passes_3 22 rfl rfl
theorem dksX4_passes_5 : cX4_passes.data.toList.drop 114 = dktX4_passes_5 := dk_seg dksX4_passes_4 24 rfl rfl
theorem dX4_passes_0 : decode cX4_passes 0 = .ok (.aload_n 0, 1) := dk_42 (dk_at dksX4_passes_0 0 rfl rfl)
theorem dX4_passes_1 : decode cX4_passes 1 = .ok (.getfield 274, 3) := dk_180 1 18 (dk_at dksX4_passes_0 1 rfl rfl)
theorem dX4_passes_4 : decode cX4_passes 4 = .ok (.iload_n 1, 1) := dk_27 (dk_at dksX4_passes_0 4 rfl rfl)
theorem dX4_passes_5 : decode cX4_passes 5 = .ok (.iadd, 1) := dk_96 (dk_at dksX4_passes_0 5 rfl rfl)
theorem dX4_passes_6 : decode cX4_passes 6 = .ok (.istore_n 2, 1) := dk_61 (dk_at dksX4_passes_0 6 rfl rfl)
theorem dX4_passes_7 : decode cX4_passes 7 = .ok (.aload_n 0, 1) := dk_42 (dk_at dksX4_passes_0 7 rfl rfl)
theorem dX4_passes_8 : decode cX4_passes 8 = .ok (.dup, 1) := dk_89 (dk_at dksX4_passes_0 8 rfl rfl)
theorem dX4_passes_9 : decode cX4_passes 9 = .ok (.getfield 274, 3) := dk_180 1 18 (dk_at dksX4_passes_0 9 rfl rfl)
theorem dX4_passes_12 : decode cX4_passes 12 = .ok (.iconst 1, 1) := dk_4 (dk_at dksX4_passes_0 12 rfl rfl)
theorem dX4_passes_13 : decode cX4_passes 13 = .ok (.iadd, 1) := dk_96 (dk_at dksX4_passes_0 13 rfl rfl)
theorem dX4_passes_14 : decode cX4_passes 14 = .ok (.putfield 274, 3) := dk_181 1 18 (dk_at dksX4_passes_0 14 rfl rfl)
theorem dX4_passes_17 : decode cX4_passes 17 = .ok (.aload_n 0, 1) := dk_42 (dk_at dksX4_passes_0 17 rfl rfl)
theorem dX4_passes_18 : decode cX4_passes 18 = .ok (.getfield 274, 3) := dk_180 1 18 (dk_at dksX4_passes_0 18 rfl rfl)
theorem dX4_passes_21 : decode cX4_passes 21 = .ok (.iload_n 2, 1) := dk_28 (dk_at dksX4_passes_0 21 rfl rfl)
theorem dX4_passes_22 : decode cX4_passes 22 = .ok (.if_icmp .gt 87, 3) := dk_163 0 87 (dk_at dksX4_passes_1 0 rfl rfl)
theorem dX4_passes_25 : decode cX4_passes 25 = .ok (.aload_n 0, 1) := dk_42 (dk_at dksX4_passes_1 3 rfl rfl)
theorem dX4_passes_26 : decode cX4_passes 26 = .ok (.getfield 274, 3) := dk_180 1 18 (dk_at dksX4_passes_1 4 rfl rfl)
theorem dX4_passes_29 : decode cX4_passes 29 = .ok (.aload_n 0, 1) := dk_42 (dk_at dksX4_passes_1 7 rfl rfl)
theorem dX4_passes_30 : decode cX4_passes 30 = .ok (.getfield 269, 3) := dk_180 1 13 (dk_at dksX4_passes_1 8 rfl rfl)
theorem dX4_passes_33 : decode cX4_passes 33 = .ok (.irem, 1) := dk_112 (dk_at dksX4_passes_1 11 rfl rfl)
theorem dX4_passes_34 : decode cX4_passes 34 = .ok (.ifCond .eq 6, 3) := dk_153 0 6 (dk_at dksX4_passes_1 12 rfl rfl)
theorem dX4_passes_37 : decode cX4_passes 37 = .ok (.goto 59, 3) := dk_167 0 59 (dk_at dksX4_passes_1 15 rfl rfl)
theorem dX4_passes_40 : decode cX4_passes 40 = .ok (.iconst 0, 1) := dk_3 (dk_at dksX4_passes_1 18 rfl rfl)
theorem dX4_passes_41 : decode cX4_passes 41 = .ok (.istore_n 3, 1) := dk_62 (dk_at dksX4_passes_1 19 rfl rfl)
theorem dX4_passes_42 : decode cX4_passes 42 = .ok (.iload_n 3, 1) := dk_29 (dk_at dksX4_passes_1 20 rfl rfl)
theorem dX4_passes_43 : decode cX4_passes 43 = .ok (.aload_n 0, 1) := dk_42 (dk_at dksX4_passes_1 21 rfl rfl)
theorem dX4_passes_44 : decode cX4_passes 44 = .ok (.getfield 263, 3) := dk_180 1 7 (dk_at dksX4_passes_2 0 rfl rfl)
theorem dX4_passes_47 : decode cX4_passes 47 = .ok (.if_icmp .ge 49, 3) := dk_162 0 49 (dk_at dksX4_passes_2 3 rfl rfl)
theorem dX4_passes_50 : decode cX4_passes 50 = .ok (.aload_n 0, 1) := dk_42 (dk_at dksX4_passes_2 6 rfl rfl)
theorem dX4_passes_51 : decode cX4_passes 51 = .ok (.getfield 277, 3) := dk_180 1 21 (dk_at dksX4_passes_2 7 rfl rfl)
theorem dX4_passes_54 : decode cX4_passes 54 = .ok (.iload_n 3, 1) := dk_29 (dk_at dksX4_passes_2 10 rfl rfl)
theorem dX4_passes_55 : decode cX4_passes 55 = .ok (.invokestatic 295, 3) := dk_184 1 39 (dk_at dksX4_passes_2 11 rfl rfl)
theorem dX4_passes_58 : decode cX4_passes 58 = .ok (.ifCond .eq 32, 3) := dk_153 0 32 (dk_at dksX4_passes_2 14 rfl rfl)
theorem dX4_passes_61 : decode cX4_passes 61 = .ok (.aload_n 0, 1) := dk_42 (dk_at dksX4_passes_2 17 rfl rfl)
theorem dX4_passes_62 : decode cX4_passes 62 = .ok (.bipush 16, 2) := dk_16 16 (dk_at dksX4_passes_2 18 rfl rfl)
theorem dX4_passes_64 : decode cX4_passes 64 = .ok (.invokevirtual 336, 3) := dk_182 1 80 (dk_at dksX4_passes_2 20 rfl rfl)
theorem dX4_passes_67 : decode cX4_passes 67 = .ok (.aload_n 0, 1) := dk_42 (dk_at dksX4_passes_2 23 rfl rfl)
theorem dX4_passes_68 : decode cX4_passes 68 = .ok (.getfield 42, 3) := dk_180 0 42 (dk_at dksX4_passes_3 0 rfl rfl)
theorem dX4_passes_71 : decode cX4_passes 71 = .ok (.iload_n 3, 1) := dk_29 (dk_at dksX4_passes_3 3 rfl rfl)
theorem dX4_passes_72 : decode cX4_passes 72 = .ok (.iaload, 1) := dk_46 (dk_at dksX4_passes_3 4 rfl rfl)
theorem dX4_passes_73 : decode cX4_passes 73 = .ok (.if_icmp .lt 17, 3) := dk_161 0 17 (dk_at dksX4_passes_3 5 rfl rfl)
theorem dX4_passes_76 : decode cX4_passes 76 = .ok (.aload_n 0, 1) := dk_42 (dk_at dksX4_passes_3 8 rfl rfl)
theorem dX4_passes_77 : decode cX4_passes 77 = .ok (.dup, 1) := dk_89 (dk_at dksX4_passes_3 9 rfl rfl)
theorem dX4_passes_78 : decode cX4_passes 78 = .ok (.getfield 277, 3) := dk_180 1 21 (dk_at dksX4_passes_3 10 rfl rfl)
theorem dX4_passes_81 : decode cX4_passes 81 = .ok (.iconst 1, 1) := dk_4 (dk_at dksX4_passes_3 13 rfl rfl)
theorem dX4_passes_82 : decode cX4_passes 82 = .ok (.iload_n 3, 1) := dk_29 (dk_at dksX4_passes_3 14 rfl rfl)
theorem dX4_passes_83 : decode cX4_passes 83 = .ok (.ishl, 1) := dk_120 (dk_at dksX4_passes_3 15 rfl rfl)
theorem dX4_passes_84 : decode cX4_passes 84 = .ok (.iconst (-1), 1) := dk_2 (dk_at dksX4_passes_3 16 rfl rfl)
theorem dX4_passes_85 : decode cX4_passes 85 = .ok (.ixor, 1) := dk_130 (dk_at dksX4_passes_3 17 rfl rfl)
theorem dX4_passes_86 : decode cX4_passes 86 = .ok (.iand, 1) := dk_126 (dk_at dksX4_passes_3 18 rfl rfl)
theorem dX4_passes_87 : decode cX4_passes 87 = .ok (.putfield 277, 3) := dk_181 1 21 (dk_at dksX4_passes_3 19 rfl rfl)
theorem dX4_passes_90 : decode cX4_passes 90 = .ok (.iinc 3 1, 3) := dk_132 3 1 (dk_at dksX4_passes_4 0 rfl rfl)
theorem dX4_passes_93 : decode cX4_passes 93 = .ok (.goto (-51), 3) := dk_167 255 205 (dk_at dksX4_passes_4 3 rfl rfl)
theorem dX4_passes_96 : decode cX4_passes 96 = .ok (.aload_n 0, 1) := dk_42 (dk_at dksX4_passes_4 6 rfl rfl)
theorem dX4_passes_97 : decode cX4_passes 97 = .ok (.dup, 1) := dk_89 (dk_at dksX4_passes_4 7 rfl rfl)
theorem dX4_passes_98 : decode cX4_passes 98 = .ok (.getfield 274, 3) := dk_180 1 18 (dk_at dksX4_passes_4 8 rfl rfl)
theorem dX4_passes_101 : decode cX4_passes 101 = .ok (.iconst 1, 1) := dk_4 (dk_at dksX4_passes_4 11 rfl rfl)
theorem dX4_passes_102 : decode cX4_passes 102 = .ok (.iadd, 1) := dk_96 (dk_at dksX4_passes_4 12 rfl rfl)
theorem dX4_passes_103 : decode cX4_passes 103 = .ok (.putfield 274, 3) := dk_181 1 18 (dk_at dksX4_passes_4 13 rfl rfl)
theorem dX4_passes_106 : decode cX4_passes 106 = .ok (.goto (-89), 3) := dk_167 255 167 (dk_at dksX4_passes_4 16 rfl rfl)
theorem dX4_passes_109 : decode cX4_passes 109 = .ok (.aload_n 0, 1) := dk_42 (dk_at dksX4_passes_4 19 rfl rfl)
theorem dX4_passes_110 : decode cX4_passes 110 = .ok (.iload_n 2, 1) := dk_28 (dk_at dksX4_passes_4 20 rfl rfl)
theorem dX4_passes_111 : decode cX4_passes 111 = .ok (.putfield 274, 3) := dk_181 1 18 (dk_at dksX4_passes_4 21 rfl rfl)
theorem dX4_passes_114 : decode cX4_passes 114 = .ok (.return_, 1) := dk_177 (dk_at dksX4_passes_5 0 rfl rfl)
def dkwX4_rest_1 : List UInt8 := [42, 180, 1, 18, 172]
abbrev dktX4_rest_1 : List UInt8 := dkwX4_rest_1 ++ []
def dkwX4_rest_0 : List UInt8 := [42, 180, 1, 4, 153, 0, 13, 27, 4, 16, 100, 184, 0, 135, 154, 0, 5, 2, 172, 42, 27, 182, 1, 86]
abbrev dktX4_rest_0 : List UInt8 := dkwX4_rest_0 ++ dktX4_rest_1
theorem dksX4_rest_0 : cX4_rest.data.toList.drop 0 = dktX4_rest_0 := by decide +kernel
theorem dksX4_rest_1 : cX4_rest.data.toList.drop 24 = dktX4_rest_1 := dk_seg dksX4_rest_0 24 rfl rfl
theorem dX4_rest_0 : decode cX4_rest 0 = .ok (.aload_n 0, 1) := dk_42 (dk_at dksX4_rest_0 0 rfl rfl)
theorem dX4_rest_1 : decode cX4_rest 1 = .ok (.getfield 260, 3) := dk_180 1 4 (dk_at dksX4_rest_0 1 rfl rfl)
theorem dX4_rest_4 : decode cX4_rest 4 = .ok (.ifCond .eq 13, 3) := dk_153 0 13 (dk_at dksX4_rest_0 4 rfl rfl)
theorem dX4_rest_7 : decode cX4_rest 7 = .ok (.iload_n 1, 1) := dk_27 (dk_at dksX4_rest_0 7 rfl rfl)
theorem dX4_rest_8 : decode cX4_rest 8 = .ok (.iconst 1, 1) := dk_4 (dk_at dksX4_rest_0 8 rfl rfl)
theorem dX4_rest_9 : decode cX4_rest 9 = .ok (.bipush 100, 2) := dk_16 100 (dk_at dksX4_rest_0 9 rfl rfl)
theorem dX4_rest_11 : decode cX4_rest 11 = .ok (.invokestatic 135, 3) := dk_184 0 135 (dk_at dksX4_rest_0 11 rfl rfl)
theorem dX4_rest_14 : decode cX4_rest 14 = .ok (.ifCond .ne 5, 3) := dk_154 0 5 (dk_at dksX4_rest_0 14 rfl rfl)
theorem dX4_rest_17 : decode cX4_rest 17 = .ok (.iconst (-1), 1) := dk_2 (dk_at dksX4_rest_0 17 rfl rfl)
theorem dX4_rest_18 : decode cX4_rest 18 = .ok (.ireturn, 1) := dk_172 (dk_at dksX4_rest_0 18 rfl rfl)
theorem dX4_rest_19 : decode cX4_rest 19 = .ok (.aload_n 0, 1) := dk_42 (dk_at dksX4_rest_0 19 rfl rfl)
theorem dX4_rest_20 : decode cX4_rest 20 = .ok (.iload_n 1, 1) := dk_27 (dk_at dksX4_rest_0 20 rfl rfl)
theorem dX4_rest_21 : decode cX4_rest 21 = .ok (.invokevirtual 342, 3) := dk_182 1 86 (dk_at dksX4_rest_0 21 rfl rfl)
theorem dX4_rest_24 : decode cX4_rest 24 = .ok (.aload_n 0, 1) := dk_42 (dk_at dksX4_rest_1 0 rfl rfl)
theorem dX4_rest_25 : decode cX4_rest 25 = .ok (.getfield 274, 3) := dk_180 1 18 (dk_at dksX4_rest_1 1 rfl rfl)
theorem dX4_rest_28 : decode cX4_rest 28 = .ok (.ireturn, 1) := dk_172 (dk_at dksX4_rest_1 4 rfl rfl)
def dkwX4_log_2 : List UInt8 := [167, 0, 4, 2, 172]
abbrev dktX4_log_2 : List UInt8 := dkwX4_log_2 ++ []
def dkwX4_log_1 : List UInt8 := [153, 0, 25, 28, 3, 6, 184, 0, 135, 153, 0, 16, 42, 180, 0, 60, 7, 27, 104, 28, 96, 46]
abbrev dktX4_log_1 : List UInt8 := dkwX4_log_1 ++ dktX4_log_2
def dkwX4_log_0 : List UInt8 := [27, 2, 160, 0, 10, 42, 180, 1, 27, 167, 0, 40, 27, 3, 42, 180, 1, 27, 4, 100, 184, 0, 135]
abbrev dktX4_log_0 : List UInt8 := dkwX4_log_0 ++ dktX4_log_1
theorem dksX4_log_0 : cX4_log.data.toList.drop 0 = dktX4_log_0 := by decide +kernel
theorem dksX4_log_1 : cX4_log.data.toList.drop 23 = dktX4_log_1 := dk_seg dksX4_log_0 23 rfl rfl
theorem dksX4_log_2 : cX4_log.data.toList.drop 45 = dktX4_log_2 := dk_seg dksX4_log_1 22 rfl rfl
theorem dX4_log_0 : decode cX4_log 0 = .ok (.iload_n 1, 1) := dk_27 (dk_at dksX4_log_0 0 rfl rfl)
theorem dX4_log_1 : decode cX4_log 1 = .ok (.iconst (-1), 1) := dk_2 (dk_at dksX4_log_0 1 rfl rfl)
theorem dX4_log_2 : decode cX4_log 2 = .ok (.if_icmp .ne 10, 3) := dk_160 0 10 (dk_at dksX4_log_0 2 rfl rfl)
theorem dX4_log_5 : decode cX4_log 5 = .ok (.aload_n 0, 1) := dk_42 (dk_at dksX4_log_0 5 rfl rfl)
theorem dX4_log_6 : decode cX4_log 6 = .ok (.getfield 283, 3) := dk_180 1 27 (dk_at dksX4_log_0 6 rfl rfl)
theorem dX4_log_9 : decode cX4_log 9 = .ok (.goto 40, 3) := dk_167 0 40 (dk_at dksX4_log_0 9 rfl rfl)
theorem dX4_log_12 : decode cX4_log 12 = .ok (.iload_n 1, 1) := dk_27 (dk_at dksX4_log_0 12 rfl rfl)
theorem dX4_log_13 : decode cX4_log 13 = .ok (.iconst 0, 1) := dk_3 (dk_at dksX4_log_0 13 rfl rfl)
theorem dX4_log_14 : decode cX4_log 14 = .ok (.aload_n 0, 1) := dk_42 (dk_at dksX4_log_0 14 rfl rfl)
theorem dX4_log_15 : decode cX4_log 15 = .ok (.getfield 283, 3) := dk_180 1 27 (dk_at dksX4_log_0 15 rfl rfl)
theorem dX4_log_18 : decode cX4_log 18 = .ok (.iconst 1, 1) := dk_4 (dk_at dksX4_log_0 18 rfl rfl)
theorem dX4_log_19 : decode cX4_log 19 = .ok (.isub, 1) := dk_100 (dk_at dksX4_log_0 19 rfl rfl)
theorem dX4_log_20 : decode cX4_log 20 = .ok (.invokestatic 135, 3) := dk_184 0 135 (dk_at dksX4_log_0 20 rfl rfl)
theorem dX4_log_23 : decode cX4_log 23 = .ok (.ifCond .eq 25, 3) := dk_153 0 25 (dk_at dksX4_log_1 0 rfl rfl)
theorem dX4_log_26 : decode cX4_log 26 = .ok (.iload_n 2, 1) := dk_28 (dk_at dksX4_log_1 3 rfl rfl)
theorem dX4_log_27 : decode cX4_log 27 = .ok (.iconst 0, 1) := dk_3 (dk_at dksX4_log_1 4 rfl rfl)
theorem dX4_log_28 : decode cX4_log 28 = .ok (.iconst 3, 1) := dk_6 (dk_at dksX4_log_1 5 rfl rfl)
theorem dX4_log_29 : decode cX4_log 29 = .ok (.invokestatic 135, 3) := dk_184 0 135 (dk_at dksX4_log_1 6 rfl rfl)
theorem dX4_log_32 : decode cX4_log 32 = .ok (.ifCond .eq 16, 3) := dk_153 0 16 (dk_at dksX4_log_1 9 rfl rfl)
theorem dX4_log_35 : decode cX4_log 35 = .ok (.aload_n 0, 1) := dk_42 (dk_at dksX4_log_1 12 rfl rfl)
theorem dX4_log_36 : decode cX4_log 36 = .ok (.getfield 60, 3) := dk_180 0 60 (dk_at dksX4_log_1 13 rfl rfl)
theorem dX4_log_39 : decode cX4_log 39 = .ok (.iconst 4, 1) := dk_7 (dk_at dksX4_log_1 16 rfl rfl)
theorem dX4_log_40 : decode cX4_log 40 = .ok (.iload_n 1, 1) := dk_27 (dk_at dksX4_log_1 17 rfl rfl)
theorem dX4_log_41 : decode cX4_log 41 = .ok (.imul, 1) := dk_104 (dk_at dksX4_log_1 18 rfl rfl)
theorem dX4_log_42 : decode cX4_log 42 = .ok (.iload_n 2, 1) := dk_28 (dk_at dksX4_log_1 19 rfl rfl)
theorem dX4_log_43 : decode cX4_log 43 = .ok (.iadd, 1) := dk_96 (dk_at dksX4_log_1 20 rfl rfl)
theorem dX4_log_44 : decode cX4_log 44 = .ok (.iaload, 1) := dk_46 (dk_at dksX4_log_1 21 rfl rfl)
theorem dX4_log_45 : decode cX4_log 45 = .ok (.goto 4, 3) := dk_167 0 4 (dk_at dksX4_log_2 0 rfl rfl)
theorem dX4_log_48 : decode cX4_log 48 = .ok (.iconst (-1), 1) := dk_2 (dk_at dksX4_log_2 3 rfl rfl)
theorem dX4_log_49 : decode cX4_log 49 = .ok (.ireturn, 1) := dk_172 (dk_at dksX4_log_2 4 rfl rfl)
