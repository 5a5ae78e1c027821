set_option maxRecDepth 100000
def dkwX0_feed_2 : List UInt8 := [172]
abbrev dktX0_feed_2 : List UInt8 := dkwX0_feed_2 ++ []
def dkwX0_feed_1 : List UInt8 := [182, 0, 11, 42, 29, 182, 0, 11, 42, 21, 4, 182, 0, 11, 42, 21, 5, 182, 0, 11, 42, 180, 0, 7]
abbrev dktX0_feed_1 : List UInt8 := dkwX0_feed_1 ++ dktX0_feed_2
def dkwX0_feed_0 : List UInt8 := [42, 180, 0, 7, 16, 20, 96, 17, 1, 244, 164, 0, 5, 2, 172, 42, 27, 182, 0, 11, 42, 28]
abbrev dktX0_feed_0 : List UInt8 := dkwX0_feed_0 ++ dktX0_feed_1
theorem dksX0_feed_0 : cX0_feed.data.toList.drop 0 = dktX0_feed_0 := by decide +kernel
theorem dksX0_feed_1 : cX0_feed.data.toList.drop 22 = dktX0_feed_1 := dk_seg dksX0_feed_0 22 rfl rfl
theorem dksX0_feed_2 : cX0_feed.data.toList.drop 46 = dktX0_feed_2 := dk_seg dksX0_feed_1 24 rfl rfl
theorem dX0_feed_0 : decode cX0_feed 0 = .ok (.aload_n 0, 1) := dk_42 (dk_at dksX0_feed_0 0 rfl rfl)
theorem dX0_feed_1 : decode cX0_feed 1 = .ok (.getfield 7, 3) := dk_180 0 7 (dk_at dksX0_feed_0 1 rfl rfl)
theorem dX0_feed_4 : decode cX0_feed 4 = .ok (.bipush 20, 2) := dk_16 20 (dk_at dksX0_feed_0 4 rfl rfl)
theorem dX0_feed_6 : decode cX0_feed 6 = .ok (.iadd, 1) := dk_96 (dk_at dksX0_feed_0 6 rfl rfl)
theorem dX0_feed_7 : decode cX0_feed 7 = .ok (.sipush 500, 3) := dk_17 1 244 (dk_at dksX0_feed_0 7 rfl rfl)
theorem dX0_feed_10 : decode cX0_feed 10 = .ok (.if_icmp .le 5, 3) := dk_164 0 5 (dk_at dksX0_feed_0 10 rfl rfl)
theorem dX0_feed_13 : decode cX0_feed 13 = .ok (.iconst (-1), 1) := dk_2 (dk_at dksX0_feed_0 13 rfl rfl)
theorem dX0_feed_14 : decode cX0_feed 14 = .ok (.ireturn, 1) := dk_172 (dk_at dksX0_feed_0 14 rfl rfl)
theorem dX0_feed_15 : decode cX0_feed 15 = .ok (.aload_n 0, 1) := dk_42 (dk_at dksX0_feed_0 15 rfl rfl)
theorem dX0_feed_16 : decode cX0_feed 16 = .ok (.iload_n 1, 1) := dk_27 (dk_at dksX0_feed_0 16 rfl rfl)
theorem dX0_feed_17 : decode cX0_feed 17 = .ok (.invokevirtual 11, 3) := dk_182 0 11 (dk_at dksX0_feed_0 17 rfl rfl)
theorem dX0_feed_20 : decode cX0_feed 20 = .ok (.aload_n 0, 1) := dk_42 (dk_at dksX0_feed_0 20 rfl rfl)
theorem dX0_feed_21 : decode cX0_feed 21 = .ok (.iload_n 2, 1) := dk_28 (dk_at dksX0_feed_0 21 rfl rfl)
theorem dX0_feed_22 : decode cX0_feed 22 = .ok (.invokevirtual 11, 3) := dk_182 0 11 (dk_at dksX0_feed_1 0 rfl rfl)
theorem dX0_feed_25 : decode cX0_feed 25 = .ok (.aload_n 0, 1) := dk_42 (dk_at dksX0_feed_1 3 rfl rfl)
theorem dX0_feed_26 : decode cX0_feed 26 = .ok (.iload_n 3, 1) := dk_29 (dk_at dksX0_feed_1 4 rfl rfl)
theorem dX0_feed_27 : decode cX0_feed 27 = .ok (.invokevirtual 11, 3) := dk_182 0 11 (dk_at dksX0_feed_1 5 rfl rfl)
theorem dX0_feed_30 : decode cX0_feed 30 = .ok (.aload_n 0, 1) := dk_42 (dk_at dksX0_feed_1 8 rfl rfl)
theorem dX0_feed_31 : decode cX0_feed 31 = .ok (.iload 4, 2) := dk_21 4 (dk_at dksX0_feed_1 9 rfl rfl)
theorem dX0_feed_33 : decode cX0_feed 33 = .ok (.invokevirtual 11, 3) := dk_182 0 11 (dk_at dksX0_feed_1 11 rfl rfl)
theorem dX0_feed_36 : decode cX0_feed 36 = .ok (.aload_n 0, 1) := dk_42 (dk_at dksX0_feed_1 14 rfl rfl)
theorem dX0_feed_37 : decode cX0_feed 37 = .ok (.iload 5, 2) := dk_21 5 (dk_at dksX0_feed_1 15 rfl rfl)
theorem dX0_feed_39 : decode cX0_feed 39 = .ok (.invokevirtual 11, 3) := dk_182 0 11 (dk_at dksX0_feed_1 17 rfl rfl)
theorem dX0_feed_42 : decode cX0_feed 42 = .ok (.aload_n 0, 1) := dk_42 (dk_at dksX0_feed_1 20 rfl rfl)
theorem dX0_feed_43 : decode cX0_feed 43 = .ok (.getfield 7, 3) := dk_180 0 7 (dk_at dksX0_feed_1 21 rfl rfl)
theorem dX0_feed_46 : decode cX0_feed 46 = .ok (.ireturn, 1) := dk_172 (dk_at dksX0_feed_2 0 rfl rfl)
def dkwX0_feeds_1 : List UInt8 := [180, 0, 7, 4, 96, 181, 0, 7, 132, 2, 255, 167, 255, 223, 177]
abbrev dktX0_feeds_1 : List UInt8 := dkwX0_feeds_1 ++ []
def dkwX0_feeds_0 : List UInt8 := [6, 61, 28, 155, 0, 35, 42, 180, 0, 1, 42, 180, 0, 7, 27, 16, 8, 28, 104, 124, 145, 84, 42, 89]
abbrev dktX0_feeds_0 : List UInt8 := dkwX0_feeds_0 ++ dktX0_feeds_1
theorem dksX0_feeds_0 : cX0_feeds.data.toList.drop 0 = dktX0_feeds_0 := by decide +kernel
theorem dksX0_feeds_1 : cX0_feeds.data.toList.drop 24 = dktX0_feeds_1 := dk_seg dksX0_feeds_0 24 rfl rfl
theorem dX0_feeds_0 : decode cX0_feeds 0 = .ok (.iconst 3, 1) := dk_6 (dk_at dksX0_feeds_0 0 rfl rfl)
theorem dX0_feeds_1 : decode cX0_feeds 1 = .ok (.istore_n 2, 1) := dk_61 (dk_at dksX0_feeds_0 1 rfl rfl)
theorem dX0_feeds_2 : decode cX0_feeds 2 = .ok (.iload_n 2, 1) := dk_28 (dk_at dksX0_feeds_0 2 rfl rfl)
theorem dX0_feeds_3 : decode cX0_feeds 3 = .ok (.ifCond .lt 35, 3) := dk_155 0 35 (dk_at dksX0_feeds_0 3 rfl rfl)
theorem dX0_feeds_6 : decode cX0_feeds 6 = .ok (.aload_n 0, 1) := dk_42 (dk_at dksX0_feeds_0 6 rfl rfl)
theorem dX0_feeds_7 : decode cX0_feeds 7 = .ok (.getfield 1, 3) := dk_180 0 1 (dk_at dksX0_feeds_0 7 rfl rfl)
theorem dX0_feeds_10 : decode cX0_feeds 10 = .ok (.aload_n 0, 1) := dk_42 (dk_at dksX0_feeds_0 10 rfl rfl)
theorem dX0_feeds_11 : decode cX0_feeds 11 = .ok (.getfield 7, 3) := dk_180 0 7 (dk_at dksX0_feeds_0 11 rfl rfl)
theorem dX0_feeds_14 : decode cX0_feeds 14 = .ok (.iload_n 1, 1) := dk_27 (dk_at dksX0_feeds_0 14 rfl rfl)
theorem dX0_feeds_15 : decode cX0_feeds 15 = .ok (.bipush 8, 2) := dk_16 8 (dk_at dksX0_feeds_0 15 rfl rfl)
theorem dX0_feeds_17 : decode cX0_feeds 17 = .ok (.iload_n 2, 1) := dk_28 (dk_at dksX0_feeds_0 17 rfl rfl)
theorem dX0_feeds_18 : decode cX0_feeds 18 = .ok (.imul, 1) := dk_104 (dk_at dksX0_feeds_0 18 rfl rfl)
theorem dX0_feeds_19 : decode cX0_feeds 19 = .ok (.iushr, 1) := dk_124 (dk_at dksX0_feeds_0 19 rfl rfl)
theorem dX0_feeds_20 : decode cX0_feeds 20 = .ok (.i2b, 1) := dk_145 (dk_at dksX0_feeds_0 20 rfl rfl)
theorem dX0_feeds_21 : decode cX0_feeds 21 = .ok (.bastore, 1) := dk_84 (dk_at dksX0_feeds_0 21 rfl rfl)
theorem dX0_feeds_22 : decode cX0_feeds 22 = .ok (.aload_n 0, 1) := dk_42 (dk_at dksX0_feeds_0 22 rfl rfl)
theorem dX0_feeds_23 : decode cX0_feeds 23 = .ok (.dup, 1) := dk_89 (dk_at dksX0_feeds_0 23 rfl rfl)
theorem dX0_feeds_24 : decode cX0_feeds 24 = .ok (.getfield 7, 3) := dk_180 0 7 (dk_at dksX0_feeds_1 0 rfl rfl)
theorem dX0_feeds_27 : decode cX0_feeds 27 = .ok (.iconst 1, 1) := dk_4 (dk_at dksX0_feeds_1 3 rfl rfl)
theorem dX0_feeds_28 : decode cX0_feeds 28 = .ok (.iadd, 1) := dk_96 (dk_at dksX0_feeds_1 4 rfl rfl)
theorem dX0_feeds_29 : decode cX0_feeds 29 = .ok (.putfield 7, 3) := dk_181 0 7 (dk_at dksX0_feeds_1 5 rfl rfl)
theorem dX0_feeds_32 : decode cX0_feeds 32 = .ok (.iinc 2 (-1), 3) := dk_132 2 255 (dk_at dksX0_feeds_1 8 rfl rfl)
theorem dX0_feeds_35 : decode cX0_feeds 35 = .ok (.goto (-33), 3) := dk_167 255 223 (dk_at dksX0_feeds_1 11 rfl rfl)
theorem dX0_feeds_38 : decode cX0_feeds 38 = .ok (.return_, 1) := dk_177 (dk_at dksX0_feeds_1 14 rfl rfl)
def dkwX0_end_0 : List UInt8 := [27, 133, 9, 42, 180, 0, 7, 133, 184, 0, 15, 154, 0, 5, 3, 172, 42, 27, 181, 0, 7, 4, 172]
abbrev dktX0_end_0 : List UInt8 := dkwX0_end_0 ++ []
theorem dksX0_end_0 : cX0_end.data.toList.drop 0 = dktX0_end_0 := by decide +kernel
theorem dX0_end_0 : decode cX0_end 0 = .ok (.iload_n 1, 1) := dk_27 (dk_at dksX0_end_0 0 rfl rfl)
theorem dX0_end_1 : decode cX0_end 1 = .ok (.i2l, 1) := dk_133 (dk_at dksX0_end_0 1 rfl rfl)
theorem dX0_end_2 : decode cX0_end 2 = .ok (.lconst 0, 1) := dk_9 (dk_at dksX0_end_0 2 rfl rfl)
theorem dX0_end_3 : decode cX0_end 3 = .ok (.aload_n 0, 1) := dk_42 (dk_at dksX0_end_0 3 rfl rfl)
theorem dX0_end_4 : decode cX0_end 4 = .ok (.getfield 7, 3) := dk_180 0 7 (dk_at dksX0_end_0 4 rfl rfl)
theorem dX0_end_7 : decode cX0_end 7 = .ok (.i2l, 1) := dk_133 (dk_at dksX0_end_0 7 rfl rfl)
theorem dX0_end_8 : decode cX0_end 8 = .ok (.invokestatic 15, 3) := dk_184 0 15 (dk_at dksX0_end_0 8 rfl rfl)
theorem dX0_end_11 : decode cX0_end 11 = .ok (.ifCond .ne 5, 3) := dk_154 0 5 (dk_at dksX0_end_0 11 rfl rfl)
theorem dX0_end_14 : decode cX0_end 14 = .ok (.iconst 0, 1) := dk_3 (dk_at dksX0_end_0 14 rfl rfl)
theorem dX0_end_15 : decode cX0_end 15 = .ok (.ireturn, 1) := dk_172 (dk_at dksX0_end_0 15 rfl rfl)
theorem dX0_end_16 : decode cX0_end 16 = .ok (.aload_n 0, 1) := dk_42 (dk_at dksX0_end_0 16 rfl rfl)
theorem dX0_end_17 : decode cX0_end 17 = .ok (.iload_n 1, 1) := dk_27 (dk_at dksX0_end_0 17 rfl rfl)
theorem dX0_end_18 : decode cX0_end 18 = .ok (.putfield 7, 3) := dk_181 0 7 (dk_at dksX0_end_0 18 rfl rfl)
theorem dX0_end_21 : decode cX0_end 21 = .ok (.iconst 1, 1) := dk_4 (dk_at dksX0_end_0 21 rfl rfl)
theorem dX0_end_22 : decode cX0_end 22 = .ok (.ireturn, 1) := dk_172 (dk_at dksX0_end_0 22 rfl rfl)
def dkwX0_in_0 : List UInt8 := [30, 32, 148, 155, 0, 14, 30, 22, 4, 148, 157, 0, 7, 4, 167, 0, 4, 3, 172]
abbrev dktX0_in_0 : List UInt8 := dkwX0_in_0 ++ []
theorem dksX0_in_0 : cX0_in.data.toList.drop 0 = dktX0_in_0 := by decide +kernel
theorem dX0_in_0 : decode cX0_in 0 = .ok (.lload_n 0, 1) := dk_30 (dk_at dksX0_in_0 0 rfl rfl)
theorem dX0_in_1 : decode cX0_in 1 = .ok (.lload_n 2, 1) := dk_32 (dk_at dksX0_in_0 1 rfl rfl)
theorem dX0_in_2 : decode cX0_in 2 = .ok (.lcmp, 1) := dk_148 (dk_at dksX0_in_0 2 rfl rfl)
theorem dX0_in_3 : decode cX0_in 3 = .ok (.ifCond .lt 14, 3) := dk_155 0 14 (dk_at dksX0_in_0 3 rfl rfl)
theorem dX0_in_6 : decode cX0_in 6 = .ok (.lload_n 0, 1) := dk_30 (dk_at dksX0_in_0 6 rfl rfl)
theorem dX0_in_7 : decode cX0_in 7 = .ok (.lload 4, 2) := dk_22 4 (dk_at dksX0_in_0 7 rfl rfl)
theorem dX0_in_9 : decode cX0_in 9 = .ok (.lcmp, 1) := dk_148 (dk_at dksX0_in_0 9 rfl rfl)
theorem dX0_in_10 : decode cX0_in 10 = .ok (.ifCond .gt 7, 3) := dk_157 0 7 (dk_at dksX0_in_0 10 rfl rfl)
theorem dX0_in_13 : decode cX0_in 13 = .ok (.iconst 1, 1) := dk_4 (dk_at dksX0_in_0 13 rfl rfl)
theorem dX0_in_14 : decode cX0_in 14 = .ok (.goto 4, 3) := dk_167 0 4 (dk_at dksX0_in_0 14 rfl rfl)
theorem dX0_in_17 : decode cX0_in 17 = .ok (.iconst 0, 1) := dk_3 (dk_at dksX0_in_0 17 rfl rfl)
theorem dX0_in_18 : decode cX0_in 18 = .ok (.ireturn, 1) := dk_172 (dk_at dksX0_in_0 18 rfl rfl)
def dkwX0_fault_0 : List UInt8 := [187, 0, 19, 89, 42, 180, 0, 1, 42, 180, 0, 7, 183, 0, 21, 182, 0, 25, 172]
abbrev dktX0_fault_0 : List UInt8 := dkwX0_fault_0 ++ []
theorem dksX0_fault_0 : cX0_fault.data.toList.drop 0 = dktX0_fault_0 := by decide +kernel
theorem dX0_fault_0 : decode cX0_fault 0 = .ok (.new 19, 3) := dk_187 0 19 (dk_at dksX0_fault_0 0 rfl rfl)
theorem dX0_fault_3 : decode cX0_fault 3 = .ok (.dup, 1) := dk_89 (dk_at dksX0_fault_0 3 rfl rfl)
theorem dX0_fault_4 : decode cX0_fault 4 = .ok (.aload_n 0, 1) := dk_42 (dk_at dksX0_fault_0 4 rfl rfl)
theorem dX0_fault_5 : decode cX0_fault 5 = .ok (.getfield 1, 3) := dk_180 0 1 (dk_at dksX0_fault_0 5 rfl rfl)
theorem dX0_fault_8 : decode cX0_fault 8 = .ok (.aload_n 0, 1) := dk_42 (dk_at dksX0_fault_0 8 rfl rfl)
theorem dX0_fault_9 : decode cX0_fault 9 = .ok (.getfield 7, 3) := dk_180 0 7 (dk_at dksX0_fault_0 9 rfl rfl)
theorem dX0_fault_12 : decode cX0_fault 12 = .ok (.invokespecial 21, 3) := dk_183 0 21 (dk_at dksX0_fault_0 12 rfl rfl)
theorem dX0_fault_15 : decode cX0_fault 15 = .ok (.invokevirtual 25, 3) := dk_182 0 25 (dk_at dksX0_fault_0 15 rfl rfl)
theorem dX0_fault_18 : decode cX0_fault 18 = .ok (.ireturn, 1) := dk_172 (dk_at dksX0_fault_0 18 rfl rfl)
def dkwX0_init_9 : List UInt8 := [177]
abbrev dktX0_init_9 : List UInt8 := dkwX0_init_9 ++ []
def dkwX0_init_8 : List UInt8 := [27, 6, 162, 0, 22, 42, 180, 0, 82, 27, 187, 0, 80, 89, 183, 0, 88, 83, 132, 1, 1, 167, 255, 235]
abbrev dktX0_init_8 : List UInt8 := dkwX0_init_8 ++ dktX0_init_9
def dkwX0_init_7 : List UInt8 := [162, 0, 22, 42, 180, 0, 68, 27, 187, 0, 66, 89, 183, 0, 87, 83, 132, 1, 1, 167, 255, 234, 3, 60]
abbrev dktX0_init_7 : List UInt8 := dkwX0_init_7 ++ dktX0_init_8
def dkwX0_init_6 : List UInt8 := [180, 0, 36, 27, 187, 0, 34, 89, 183, 0, 86, 83, 132, 1, 1, 167, 255, 234, 3, 60, 27, 16, 40]
abbrev dktX0_init_6 : List UInt8 := dkwX0_init_6 ++ dktX0_init_7
def dkwX0_init_5 : List UInt8 := [197, 0, 72, 2, 181, 0, 77, 42, 6, 189, 0, 80, 181, 0, 82, 3, 60, 27, 16, 30, 162, 0, 22, 42]
abbrev dktX0_init_5 : List UInt8 := dkwX0_init_5 ++ dktX0_init_6
def dkwX0_init_4 : List UInt8 := [189, 0, 66, 181, 0, 68, 42, 5, 16, 10, 197, 0, 72, 2, 181, 0, 74, 42, 5, 16, 10]
abbrev dktX0_init_4 : List UInt8 := dkwX0_init_4 ++ dktX0_init_5
def dkwX0_init_3 : List UInt8 := [181, 0, 56, 42, 17, 4, 0, 188, 11, 181, 0, 59, 42, 17, 4, 0, 188, 11, 181, 0, 63, 42, 16, 40]
abbrev dktX0_init_3 : List UInt8 := dkwX0_init_3 ++ dktX0_init_4
def dkwX0_init_2 : List UInt8 := [17, 4, 0, 197, 0, 47, 3, 181, 0, 49, 42, 16, 8, 188, 10, 181, 0, 52, 42, 16, 8, 188, 10]
abbrev dktX0_init_2 : List UInt8 := dkwX0_init_2 ++ dktX0_init_3
def dkwX0_init_1 : List UInt8 := [17, 4, 0, 188, 4, 181, 0, 40, 42, 17, 4, 0, 188, 4, 181, 0, 44, 42, 16, 25, 16, 8]
abbrev dktX0_init_1 : List UInt8 := dkwX0_init_1 ++ dktX0_init_2
def dkwX0_init_0 : List UInt8 := [42, 183, 0, 29, 42, 17, 1, 244, 188, 8, 181, 0, 1, 42, 16, 30, 189, 0, 34, 181, 0, 36, 42]
abbrev dktX0_init_0 : List UInt8 := dkwX0_init_0 ++ dktX0_init_1
theorem dksX0_init_0 : cX0_init.data.toList.drop 0 = dktX0_init_0 := by decide +kernel
theorem dksX0_init_1 : cX0_init.data.toList.drop 23 = dktX0_init_1 := dk_seg dksX0_init_0 23 rfl rfl
theorem dksX0_init_2 : cX0_init.data.toList.drop 45 = dktX0_init_2 := dk_seg dksX0_init_1 22 rfl rfl
theorem dksX0_init_3 : cX0_init.data.toList.drop 68 = dktX0_init_3 := dk_seg dksX0_init_2 23 rfl rfl
theorem dksX0_init_4 : cX0_init.data.toList.drop 92 = dktX0_init_4 := dk_seg dksX0_init_3 24 rfl rfl
theorem dksX0_init_5 : cX0_init.data.toList.drop 113 = dktX0_init_5 := dk_seg dksX0_init_4 21 rfl rfl
theorem dksX0_init_6 : cX0_init.data.toList.drop 137 = dktX0_init_6 := dk_seg dksX0_init_5 24 rfl rfl
theorem dksX0_init_7 : cX0_init.data.toList.drop 160 = dktX0_init_7 := dk_seg dksX0_init_6 23 rfl rfl
theorem dksX0_init_8 : cX0_init.data.toList.drop 184 = dktX0_init_8 := dk_seg dksX0_init_7 24 rfl rfl
theorem dksX0_init_9 : cX0_init.data.toList.drop 208 = dktX0_init_9 := dk_seg dksX0_init_8 24 rfl rfl
theorem dX0_init_0 : decode cX0_init 0 = .ok (.aload_n 0, 1) := dk_42 (dk_at dksX0_init_0 0 rfl rfl)
theorem dX0_init_1 : decode cX0_init 1 = .ok (.invokespecial 29, 3) := dk_183 0 29 (dk_at dksX0_init_0 1 rfl rfl)
theorem dX0_init_4 : decode cX0_init 4 = .ok (.aload_n 0, 1) := dk_42 (dk_at dksX0_init_0 4 rfl rfl)
theorem dX0_init_5 : decode cX0_init 5 = .ok (.sipush 500, 3) := dk_17 1 244 (dk_at dksX0_init_0 5 rfl rfl)
theorem dX0_init_8 : decode cX0_init 8 = .ok (.newarray .byte, 2) := dk_188_8 (dk_at dksX0_init_0 8 rfl rfl)
theorem dX0_init_10 : decode cX0_init 10 = .ok (.putfield 1, 3) := dk_181 0 1 (dk_at dksX0_init_0 10 rfl rfl)
theorem dX0_init_13 : decode cX0_init 13 = .ok (.aload_n 0, 1) := dk_42 (dk_at dksX0_init_0 13 rfl rfl)
theorem dX0_init_14 : decode cX0_init 14 = .ok (.bipush 30, 2) := dk_16 30 (dk_at dksX0_init_0 14 rfl rfl)
theorem dX0_init_16 : decode cX0_init 16 = .ok (.anewarray 34, 3) := dk_189 0 34 (dk_at dksX0_init_0 16 rfl rfl)
theorem dX0_init_19 : decode cX0_init 19 = .ok (.putfield 36, 3) := dk_181 0 36 (dk_at dksX0_init_0 19 rfl rfl)
theorem dX0_init_22 : decode cX0_init 22 = .ok (.aload_n 0, 1) := dk_42 (dk_at dksX0_init_0 22 rfl rfl)
theorem dX0_init_23 : decode cX0_init 23 = .ok (.sipush 1024, 3) := dk_17 4 0 (dk_at dksX0_init_1 0 rfl rfl)
theorem dX0_init_26 : decode cX0_init 26 = .ok (.newarray .boolean, 2) := dk_188_4 (dk_at dksX0_init_1 3 rfl rfl)
theorem dX0_init_28 : decode cX0_init 28 = .ok (.putfield 40, 3) := dk_181 0 40 (dk_at dksX0_init_1 5 rfl rfl)
theorem dX0_init_31 : decode cX0_init 31 = .ok (.aload_n 0, 1) := dk_42 (dk_at dksX0_init_1 8 rfl rfl)
theorem dX0_init_32 : decode cX0_init 32 = .ok (.sipush 1024, 3) := dk_17 4 0 (dk_at dksX0_init_1 9 rfl rfl)
theorem dX0_init_35 : decode cX0_init 35 = .ok (.newarray .boolean, 2) := dk_188_4 (dk_at dksX0_init_1 12 rfl rfl)
theorem dX0_init_37 : decode cX0_init 37 = .ok (.putfield 44, 3) := dk_181 0 44 (dk_at dksX0_init_1 14 rfl rfl)
theorem dX0_init_40 : decode cX0_init 40 = .ok (.aload_n 0, 1) := dk_42 (dk_at dksX0_init_1 17 rfl rfl)
theorem dX0_init_41 : decode cX0_init 41 = .ok (.bipush 25, 2) := dk_16 25 (dk_at dksX0_init_1 18 rfl rfl)
theorem dX0_init_43 : decode cX0_init 43 = .ok (.bipush 8, 2) := dk_16 8 (dk_at dksX0_init_1 20 rfl rfl)
theorem dX0_init_45 : decode cX0_init 45 = .ok (.sipush 1024, 3) := dk_17 4 0 (dk_at dksX0_init_2 0 rfl rfl)
theorem dX0_init_48 : decode cX0_init 48 = .ok (.multianewarray 47 3, 4) := by decide +kernel
theorem dX0_init_52 : decode cX0_init 52 = .ok (.putfield 49, 3) := dk_181 0 49 (dk_at dksX0_init_2 7 rfl rfl)
theorem dX0_init_55 : decode cX0_init 55 = .ok (.aload_n 0, 1) := dk_42 (dk_at dksX0_init_2 10 rfl rfl)
theorem dX0_init_56 : decode cX0_init 56 = .ok (.bipush 8, 2) := dk_16 8 (dk_at dksX0_init_2 11 rfl rfl)
theorem dX0_init_58 : decode cX0_init 58 = .ok (.newarray .int, 2) := dk_188_10 (dk_at dksX0_init_2 13 rfl rfl)
theorem dX0_init_60 : decode cX0_init 60 = .ok (.putfield 52, 3) := dk_181 0 52 (dk_at dksX0_init_2 15 rfl rfl)
theorem dX0_init_63 : decode cX0_init 63 = .ok (.aload_n 0, 1) := dk_42 (dk_at dksX0_init_2 18 rfl rfl)
theorem dX0_init_64 : decode cX0_init 64 = .ok (.bipush 8, 2) := dk_16 8 (dk_at dksX0_init_2 19 rfl rfl)
theorem dX0_init_66 : decode cX0_init 66 = .ok (.newarray .int, 2) := dk_188_10 (dk_at dksX0_init_2 21 rfl rfl)
theorem dX0_init_68 : decode cX0_init 68 = .ok (.putfield 56, 3) := dk_181 0 56 (dk_at dksX0_init_3 0 rfl rfl)
theorem dX0_init_71 : decode cX0_init 71 = .ok (.aload_n 0, 1) := dk_42 (dk_at dksX0_init_3 3 rfl rfl)
theorem dX0_init_72 : decode cX0_init 72 = .ok (.sipush 1024, 3) := dk_17 4 0 (dk_at dksX0_init_3 4 rfl rfl)
theorem dX0_init_75 : decode cX0_init 75 = .ok (.newarray .long, 2) := dk_188_11 (dk_at dksX0_init_3 7 rfl rfl)
theorem dX0_init_77 : decode cX0_init 77 = .ok (.putfield 59, 3) := dk_181 0 59 (dk_at dksX0_init_3 9 rfl rfl)
theorem dX0_init_80 : decode cX0_init 80 = .ok (.aload_n 0, 1) := dk_42 (dk_at dksX0_init_3 12 rfl rfl)
theorem dX0_init_81 : decode cX0_init 81 = .ok (.sipush 1024, 3) := dk_17 4 0 (dk_at dksX0_init_3 13 rfl rfl)
theorem dX0_init_84 : decode cX0_init 84 = .ok (.newarray .long, 2) := dk_188_11 (dk_at dksX0_init_3 16 rfl rfl)
theorem dX0_init_86 : decode cX0_init 86 = .ok (.putfield 63, 3) := dk_181 0 63 (dk_at dksX0_init_3 18 rfl rfl)
theorem dX0_init_89 : decode cX0_init 89 = .ok (.aload_n 0, 1) := dk_42 (dk_at dksX0_init_3 21 rfl rfl)
theorem dX0_init_90 : decode cX0_init 90 = .ok (.bipush 40, 2) := dk_16 40 (dk_at dksX0_init_3 22 rfl rfl)
theorem dX0_init_92 : decode cX0_init 92 = .ok (.anewarray 66, 3) := dk_189 0 66 (dk_at dksX0_init_4 0 rfl rfl)
theorem dX0_init_95 : decode cX0_init 95 = .ok (.putfield 68, 3) := dk_181 0 68 (dk_at dksX0_init_4 3 rfl rfl)
theorem dX0_init_98 : decode cX0_init 98 = .ok (.aload_n 0, 1) := dk_42 (dk_at dksX0_init_4 6 rfl rfl)
theorem dX0_init_99 : decode cX0_init 99 = .ok (.iconst 2, 1) := dk_5 (dk_at dksX0_init_4 7 rfl rfl)
theorem dX0_init_100 : decode cX0_init 100 = .ok (.bipush 10, 2) := dk_16 10 (dk_at dksX0_init_4 8 rfl rfl)
theorem dX0_init_102 : decode cX0_init 102 = .ok (.multianewarray 72 2, 4) := by decide +kernel
theorem dX0_init_106 : decode cX0_init 106 = .ok (.putfield 74, 3) := dk_181 0 74 (dk_at dksX0_init_4 14 rfl rfl)
theorem dX0_init_109 : decode cX0_init 109 = .ok (.aload_n 0, 1) := dk_42 (dk_at dksX0_init_4 17 rfl rfl)
theorem dX0_init_110 : decode cX0_init 110 = .ok (.iconst 2, 1) := dk_5 (dk_at dksX0_init_4 18 rfl rfl)
theorem dX0_init_111 : decode cX0_init 111 = .ok (.bipush 10, 2) := dk_16 10 (dk_at dksX0_init_4 19 rfl rfl)
theorem dX0_init_113 : decode cX0_init 113 = .ok (.multianewarray 72 2, 4) := by decide +kernel
theorem dX0_init_117 : decode cX0_init 117 = .ok (.putfield 77, 3) := dk_181 0 77 (dk_at dksX0_init_5 4 rfl rfl)
theorem dX0_init_120 : decode cX0_init 120 = .ok (.aload_n 0, 1) := dk_42 (dk_at dksX0_init_5 7 rfl rfl)
theorem dX0_init_121 : decode cX0_init 121 = .ok (.iconst 3, 1) := dk_6 (dk_at dksX0_init_5 8 rfl rfl)
theorem dX0_init_122 : decode cX0_init 122 = .ok (.anewarray 80, 3) := dk_189 0 80 (dk_at dksX0_init_5 9 rfl rfl)
theorem dX0_init_125 : decode cX0_init 125 = .ok (.putfield 82, 3) := dk_181 0 82 (dk_at dksX0_init_5 12 rfl rfl)
theorem dX0_init_128 : decode cX0_init 128 = .ok (.iconst 0, 1) := dk_3 (dk_at dksX0_init_5 15 rfl rfl)
theorem dX0_init_129 : decode cX0_init 129 = .ok (.istore_n 1, 1) := dk_60 (dk_at dksX0_init_5 16 rfl rfl)
theorem dX0_init_130 : decode cX0_init 130 = .ok (.iload_n 1, 1) := dk_27 (dk_at dksX0_init_5 17 rfl rfl)
theorem dX0_init_131 : decode cX0_init 131 = .ok (.bipush 30, 2) := dk_16 30 (dk_at dksX0_init_5 18 rfl rfl)
theorem dX0_init_133 : decode cX0_init 133 = .ok (.if_icmp .ge 22, 3) := dk_162 0 22 (dk_at dksX0_init_5 20 rfl rfl)
theorem dX0_init_136 : decode cX0_init 136 = .ok (.aload_n 0, 1) := dk_42 (dk_at dksX0_init_5 23 rfl rfl)
theorem dX0_init_137 : decode cX0_init 137 = .ok (.getfield 36, 3) := dk_180 0 36 (dk_at dksX0_init_6 0 rfl rfl)
theorem dX0_init_140 : decode cX0_init 140 = .ok (.iload_n 1, 1) := dk_27 (dk_at dksX0_init_6 3 rfl rfl)
theorem dX0_init_141 : decode cX0_init 141 = .ok (.new 34, 3) := dk_187 0 34 (dk_at dksX0_init_6 4 rfl rfl)
theorem dX0_init_144 : decode cX0_init 144 = .ok (.dup, 1) := dk_89 (dk_at dksX0_init_6 7 rfl rfl)
theorem dX0_init_145 : decode cX0_init 145 = .ok (.invokespecial 86, 3) := dk_183 0 86 (dk_at dksX0_init_6 8 rfl rfl)
theorem dX0_init_148 : decode cX0_init 148 = .ok (.aastore, 1) := dk_83 (dk_at dksX0_init_6 11 rfl rfl)
theorem dX0_init_149 : decode cX0_init 149 = .ok (.iinc 1 1, 3) := dk_132 1 1 (dk_at dksX0_init_6 12 rfl rfl)
theorem dX0_init_152 : decode cX0_init 152 = .ok (.goto (-22), 3) := dk_167 255 234 (dk_at dksX0_init_6 15 rfl rfl)
theorem dX0_init_155 : decode cX0_init 155 = .ok (.iconst 0, 1) := dk_3 (dk_at dksX0_init_6 18 rfl rfl)
theorem dX0_init_156 : decode cX0_init 156 = .ok (.istore_n 1, 1) := dk_60 (dk_at dksX0_init_6 19 rfl rfl)
theorem dX0_init_157 : decode cX0_init 157 = .ok (.iload_n 1, 1) := dk_27 (dk_at dksX0_init_6 20 rfl rfl)
theorem dX0_init_158 : decode cX0_init 158 = .ok (.bipush 40, 2) := dk_16 40 (dk_at dksX0_init_6 21 rfl rfl)
theorem dX0_init_160 : decode cX0_init 160 = .ok (.if_icmp .ge 22, 3) := dk_162 0 22 (dk_at dksX0_init_7 0 rfl rfl)
theorem dX0_init_163 : decode cX0_init 163 = .ok (.aload_n 0, 1) := dk_42 (dk_at dksX0_init_7 3 rfl rfl)
theorem dX0_init_164 : decode cX0_init 164 = .ok (.getfield 68, 3) := dk_180 0 68 (dk_at dksX0_init_7 4 rfl rfl)
theorem dX0_init_167 : decode cX0_init 167 = .ok (.iload_n 1, 1) := dk_27 (dk_at dksX0_init_7 7 rfl rfl)
theorem dX0_init_168 : decode cX0_init 168 = .ok (.new 66, 3) := dk_187 0 66 (dk_at dksX0_init_7 8 rfl rfl)
theorem dX0_init_171 : decode cX0_init 171 = .ok (.dup, 1) := dk_89 (dk_at dksX0_init_7 11 rfl rfl)
theorem dX0_init_172 : decode cX0_init 172 = .ok (.invokespecial 87, 3) := dk_183 0 87 (dk_at dksX0_init_7 12 rfl rfl)
theorem dX0_init_175 : decode cX0_init 175 = .ok (.aastore, 1) := dk_83 (dk_at dksX0_init_7 15 rfl rfl)
theorem dX0_init_176 : decode cX0_init 176 = .ok (.iinc 1 1, 3) := dk_132 1 1 (dk_at dksX0_init_7 16 rfl rfl)
theorem dX0_init_179 : decode cX0_init 179 = .ok (.goto (-22), 3) := dk_167 255 234 (dk_at dksX0_init_7 19 rfl rfl)
theorem dX0_init_182 : decode cX0_init 182 = .ok (.iconst 0, 1) := dk_3 (dk_at dksX0_init_7 22 rfl rfl)
theorem dX0_init_183 : decode cX0_init 183 = .ok (.istore_n 1, 1) := dk_60 (dk_at dksX0_init_7 23 rfl rfl)
theorem dX0_init_184 : decode cX0_init 184 = .ok (.iload_n 1, 1) := dk_27 (dk_at dksX0_init_8 0 rfl rfl)
theorem dX0_init_185 : decode cX0_init 185 = .ok (.iconst 3, 1) := dk_6 (dk_at dksX0_init_8 1 rfl rfl)
theorem dX0_init_186 : decode cX0_init 186 = .ok (.if_icmp .ge 22, 3) := dk_162 0 22 (dk_at dksX0_init_8 2 rfl rfl)
theorem dX0_init_189 : decode cX0_init 189 = .ok (.aload_n 0, 1) := dk_42 (dk_at dksX0_init_8 5 rfl rfl)
theorem dX0_init_190 : decode cX0_init 190 = .ok (.getfield 82, 3) := dk_180 0 82 (dk_at dksX0_init_8 6 rfl rfl)
theorem dX0_init_193 : decode cX0_init 193 = .ok (.iload_n 1, 1) := dk_27 (dk_at dksX0_init_8 9 rfl rfl)
theorem dX0_init_194 : decode cX0_init 194 = .ok (.new 80, 3) := dk_187 0 80 (dk_at dksX0_init_8 10 rfl rfl)
theorem dX0_init_197 : decode cX0_init 197 = .ok (.dup, 1) := dk_89 (dk_at dksX0_init_8 13 rfl rfl)
theorem dX0_init_198 : decode cX0_init 198 = .ok (.invokespecial 88, 3) := dk_183 0 88 (dk_at dksX0_init_8 14 rfl rfl)
theorem dX0_init_201 : decode cX0_init 201 = .ok (.aastore, 1) := dk_83 (dk_at dksX0_init_8 17 rfl rfl)
theorem dX0_init_202 : decode cX0_init 202 = .ok (.iinc 1 1, 3) := dk_132 1 1 (dk_at dksX0_init_8 18 rfl rfl)
theorem dX0_init_205 : decode cX0_init 205 = .ok (.goto (-21), 3) := dk_167 255 235 (dk_at dksX0_init_8 21 rfl rfl)
theorem dX0_init_208 : decode cX0_init 208 = .ok (.return_, 1) := dk_177 (dk_at dksX0_init_9 0 rfl rfl)
def dkwX0_tongue_6 : List UInt8 := [182, 0, 126, 172]
abbrev dktX0_tongue_6 : List UInt8 := dkwX0_tongue_6 ++ []
def dkwX0_tongue_5 : List UInt8 := [180, 0, 82, 28, 50, 3, 181, 0, 116, 132, 2, 1, 167, 255, 238, 42, 180, 0, 93, 180, 0, 120]
abbrev dktX0_tongue_5 : List UInt8 := dkwX0_tongue_5 ++ dktX0_tongue_6
def dkwX0_tongue_4 : List UInt8 := [180, 0, 74, 4, 50, 28, 2, 79, 132, 2, 1, 167, 255, 229, 3, 61, 28, 6, 162, 0, 19, 42]
abbrev dktX0_tongue_4 : List UInt8 := dkwX0_tongue_4 ++ dktX0_tongue_5
def dkwX0_tongue_3 : List UInt8 := [3, 181, 0, 113, 3, 61, 28, 16, 10, 162, 0, 27, 42, 180, 0, 74, 3, 50, 28, 2, 79, 42]
abbrev dktX0_tongue_3 : List UInt8 := dkwX0_tongue_3 ++ dktX0_tongue_4
def dkwX0_tongue_2 : List UInt8 := [181, 0, 97, 42, 2, 181, 0, 100, 42, 9, 181, 0, 103, 42, 3, 181, 0, 107, 42, 3, 181, 0, 110, 42]
abbrev dktX0_tongue_2 : List UInt8 := dkwX0_tongue_2 ++ dktX0_tongue_3
def dkwX0_tongue_1 : List UInt8 := [2, 172, 42, 43, 180, 0, 89, 181, 0, 93, 42, 3, 181, 0, 7, 42, 3, 181, 0, 94, 42, 3]
abbrev dktX0_tongue_1 : List UInt8 := dkwX0_tongue_1 ++ dktX0_tongue_2
def dkwX0_tongue_0 : List UInt8 := [187, 0, 19, 89, 42, 180, 0, 1, 42, 180, 0, 7, 183, 0, 21, 76, 43, 182, 0, 25, 2, 159, 0, 5]
abbrev dktX0_tongue_0 : List UInt8 := dkwX0_tongue_0 ++ dktX0_tongue_1
theorem dksX0_tongue_0 : cX0_tongue.data.toList.drop 0 = dktX0_tongue_0 := by decide +kernel
theorem dksX0_tongue_1 : cX0_tongue.data.toList.drop 24 = dktX0_tongue_1 := dk_seg dksX0_tongue_0 24 rfl rfl
theorem dksX0_tongue_2 : cX0_tongue.data.toList.drop 46 = dktX0_tongue_2 := dk_seg dksX0_tongue_1 22 rfl rfl
theorem dksX0_tongue_3 : cX0_tongue.data.toList.drop 70 = dktX0_tongue_3 := dk_seg dksX0_tongue_2 24 rfl rfl
theorem dksX0_tongue_4 : cX0_tongue.data.toList.drop 92 = dktX0_tongue_4 := dk_seg dksX0_tongue_3 22 rfl rfl
theorem dksX0_tongue_5 : cX0_tongue.data.toList.drop 114 = dktX0_tongue_5 := dk_seg dksX0_tongue_4 22 rfl rfl
theorem dksX0_tongue_6 : cX0_tongue.data.toList.drop 136 = dktX0_tongue_6 := dk_seg dksX0_tongue_5 22 rfl rfl
theorem dX0_tongue_0 : decode cX0_tongue 0 = .ok (.new 19, 3) := dk_187 0 19 (dk_at dksX0_tongue_0 0 rfl rfl)
theorem dX0_tongue_3 : decode cX0_tongue 3 = .ok (.dup, 1) := dk_89 (dk_at dksX0_tongue_0 3 rfl rfl)
theorem dX0_tongue_4 : decode cX0_tongue 4 = .ok (.aload_n 0, 1) := dk_42 (dk_at dksX0_tongue_0 4 rfl rfl)
theorem dX0_tongue_5 : decode cX0_tongue 5 = .ok (.getfield 1, 3) := dk_180 0 1 (dk_at dksX0_tongue_0 5 rfl rfl)
theorem dX0_tongue_8 : decode cX0_tongue 8 = .ok (.aload_n 0, 1) := dk_42 (dk_at dksX0_tongue_0 8 rfl rfl)
theorem dX0_tongue_9 : decode cX0_tongue 9 = .ok (.getfield 7, 3) := dk_180 0 7 (dk_at dksX0_tongue_0 9 rfl rfl)
theorem dX0_tongue_12 : decode cX0_tongue 12 = .ok (.invokespecial 21, 3) := dk_183 0 21 (dk_at dksX0_tongue_0 12 rfl rfl)
theorem dX0_tongue_15 : decode cX0_tongue 15 = .ok (.astore_n 1, 1) := dk_76 (dk_at dksX0_tongue_0 15 rfl rfl)
theorem dX0_tongue_16 : decode cX0_tongue 16 = .ok (.aload_n 1, 1) := dk_43 (dk_at dksX0_tongue_0 16 rfl rfl)
theorem dX0_tongue_17 : decode cX0_tongue 17 = .ok (.invokevirtual 25, 3) := dk_182 0 25 (dk_at dksX0_tongue_0 17 rfl rfl)
theorem dX0_tongue_20 : decode cX0_tongue 20 = .ok (.iconst (-1), 1) := dk_2 (dk_at dksX0_tongue_0 20 rfl rfl)
theorem dX0_tongue_21 : decode cX0_tongue 21 = .ok (.if_icmp .eq 5, 3) := dk_159 0 5 (dk_at dksX0_tongue_0 21 rfl rfl)
theorem dX0_tongue_24 : decode cX0_tongue 24 = .ok (.iconst (-1), 1) := dk_2 (dk_at dksX0_tongue_1 0 rfl rfl)
theorem dX0_tongue_25 : decode cX0_tongue 25 = .ok (.ireturn, 1) := dk_172 (dk_at dksX0_tongue_1 1 rfl rfl)
theorem dX0_tongue_26 : decode cX0_tongue 26 = .ok (.aload_n 0, 1) := dk_42 (dk_at dksX0_tongue_1 2 rfl rfl)
theorem dX0_tongue_27 : decode cX0_tongue 27 = .ok (.aload_n 1, 1) := dk_43 (dk_at dksX0_tongue_1 3 rfl rfl)
theorem dX0_tongue_28 : decode cX0_tongue 28 = .ok (.getfield 89, 3) := dk_180 0 89 (dk_at dksX0_tongue_1 4 rfl rfl)
theorem dX0_tongue_31 : decode cX0_tongue 31 = .ok (.putfield 93, 3) := dk_181 0 93 (dk_at dksX0_tongue_1 7 rfl rfl)
theorem dX0_tongue_34 : decode cX0_tongue 34 = .ok (.aload_n 0, 1) := dk_42 (dk_at dksX0_tongue_1 10 rfl rfl)
theorem dX0_tongue_35 : decode cX0_tongue 35 = .ok (.iconst 0, 1) := dk_3 (dk_at dksX0_tongue_1 11 rfl rfl)
theorem dX0_tongue_36 : decode cX0_tongue 36 = .ok (.putfield 7, 3) := dk_181 0 7 (dk_at dksX0_tongue_1 12 rfl rfl)
theorem dX0_tongue_39 : decode cX0_tongue 39 = .ok (.aload_n 0, 1) := dk_42 (dk_at dksX0_tongue_1 15 rfl rfl)
theorem dX0_tongue_40 : decode cX0_tongue 40 = .ok (.iconst 0, 1) := dk_3 (dk_at dksX0_tongue_1 16 rfl rfl)
theorem dX0_tongue_41 : decode cX0_tongue 41 = .ok (.putfield 94, 3) := dk_181 0 94 (dk_at dksX0_tongue_1 17 rfl rfl)
theorem dX0_tongue_44 : decode cX0_tongue 44 = .ok (.aload_n 0, 1) := dk_42 (dk_at dksX0_tongue_1 20 rfl rfl)
theorem dX0_tongue_45 : decode cX0_tongue 45 = .ok (.iconst 0, 1) := dk_3 (dk_at dksX0_tongue_1 21 rfl rfl)
theorem dX0_tongue_46 : decode cX0_tongue 46 = .ok (.putfield 97, 3) := dk_181 0 97 (dk_at dksX0_tongue_2 0 rfl rfl)
theorem dX0_tongue_49 : decode cX0_tongue 49 = .ok (.aload_n 0, 1) := dk_42 (dk_at dksX0_tongue_2 3 rfl rfl)
theorem dX0_tongue_50 : decode cX0_tongue 50 = .ok (.iconst (-1), 1) := dk_2 (dk_at dksX0_tongue_2 4 rfl rfl)
theorem dX0_tongue_51 : decode cX0_tongue 51 = .ok (.putfield 100, 3) := dk_181 0 100 (dk_at dksX0_tongue_2 5 rfl rfl)
theorem dX0_tongue_54 : decode cX0_tongue 54 = .ok (.aload_n 0, 1) := dk_42 (dk_at dksX0_tongue_2 8 rfl rfl)
theorem dX0_tongue_55 : decode cX0_tongue 55 = .ok (.lconst 0, 1) := dk_9 (dk_at dksX0_tongue_2 9 rfl rfl)
theorem dX0_tongue_56 : decode cX0_tongue 56 = .ok (.putfield 103, 3) := dk_181 0 103 (dk_at dksX0_tongue_2 10 rfl rfl)
theorem dX0_tongue_59 : decode cX0_tongue 59 = .ok (.aload_n 0, 1) := dk_42 (dk_at dksX0_tongue_2 13 rfl rfl)
theorem dX0_tongue_60 : decode cX0_tongue 60 = .ok (.iconst 0, 1) := dk_3 (dk_at dksX0_tongue_2 14 rfl rfl)
theorem dX0_tongue_61 : decode cX0_tongue 61 = .ok (.putfield 107, 3) := dk_181 0 107 (dk_at dksX0_tongue_2 15 rfl rfl)
theorem dX0_tongue_64 : decode cX0_tongue 64 = .ok (.aload_n 0, 1) := dk_42 (dk_at dksX0_tongue_2 18 rfl rfl)
theorem dX0_tongue_65 : decode cX0_tongue 65 = .ok (.iconst 0, 1) := dk_3 (dk_at dksX0_tongue_2 19 rfl rfl)
theorem dX0_tongue_66 : decode cX0_tongue 66 = .ok (.putfield 110, 3) := dk_181 0 110 (dk_at dksX0_tongue_2 20 rfl rfl)
theorem dX0_tongue_69 : decode cX0_tongue 69 = .ok (.aload_n 0, 1) := dk_42 (dk_at dksX0_tongue_2 23 rfl rfl)
theorem dX0_tongue_70 : decode cX0_tongue 70 = .ok (.iconst 0, 1) := dk_3 (dk_at dksX0_tongue_3 0 rfl rfl)
theorem dX0_tongue_71 : decode cX0_tongue 71 = .ok (.putfield 113, 3) := dk_181 0 113 (dk_at dksX0_tongue_3 1 rfl rfl)
theorem dX0_tongue_74 : decode cX0_tongue 74 = .ok (.iconst 0, 1) := dk_3 (dk_at dksX0_tongue_3 4 rfl rfl)
theorem dX0_tongue_75 : decode cX0_tongue 75 = .ok (.istore_n 2, 1) := dk_61 (dk_at dksX0_tongue_3 5 rfl rfl)
theorem dX0_tongue_76 : decode cX0_tongue 76 = .ok (.iload_n 2, 1) := dk_28 (dk_at dksX0_tongue_3 6 rfl rfl)
theorem dX0_tongue_77 : decode cX0_tongue 77 = .ok (.bipush 10, 2) := dk_16 10 (dk_at dksX0_tongue_3 7 rfl rfl)
theorem dX0_tongue_79 : decode cX0_tongue 79 = .ok (.if_icmp .ge 27, 3) := dk_162 0 27 (dk_at dksX0_tongue_3 9 rfl rfl)
theorem dX0_tongue_82 : decode cX0_tongue 82 = .ok (.aload_n 0, 1) := dk_42 (dk_at dksX0_tongue_3 12 rfl rfl)
theorem dX0_tongue_83 : decode cX0_tongue 83 = .ok (.getfield 74, 3) := dk_180 0 74 (dk_at dksX0_tongue_3 13 rfl rfl)
theorem dX0_tongue_86 : decode cX0_tongue 86 = .ok (.iconst 0, 1) := dk_3 (dk_at dksX0_tongue_3 16 rfl rfl)
theorem dX0_tongue_87 : decode cX0_tongue 87 = .ok (.aaload, 1) := dk_50 (dk_at dksX0_tongue_3 17 rfl rfl)
theorem dX0_tongue_88 : decode cX0_tongue 88 = .ok (.iload_n 2, 1) := dk_28 (dk_at dksX0_tongue_3 18 rfl rfl)
theorem dX0_tongue_89 : decode cX0_tongue 89 = .ok (.iconst (-1), 1) := dk_2 (dk_at dksX0_tongue_3 19 rfl rfl)
theorem dX0_tongue_90 : decode cX0_tongue 90 = .ok (.iastore, 1) := dk_79 (dk_at dksX0_tongue_3 20 rfl rfl)
theorem dX0_tongue_91 : decode cX0_tongue 91 = .ok (.aload_n 0, 1) := dk_42 (dk_at dksX0_tongue_3 21 rfl rfl)
theorem dX0_tongue_92 : decode cX0_tongue 92 = .ok (.getfield 74, 3) := dk_180 0 74 (dk_at dksX0_tongue_4 0 rfl rfl)
theorem dX0_tongue_95 : decode cX0_tongue 95 = .ok (.iconst 1, 1) := dk_4 (dk_at dksX0_tongue_4 3 rfl rfl)
theorem dX0_tongue_96 : decode cX0_tongue 96 = .ok (.aaload, 1) := dk_50 (dk_at dksX0_tongue_4 4 rfl rfl)
theorem dX0_tongue_97 : decode cX0_tongue 97 = .ok (.iload_n 2, 1) := dk_28 (dk_at dksX0_tongue_4 5 rfl rfl)
theorem dX0_tongue_98 : decode cX0_tongue 98 = .ok (.iconst (-1), 1) := dk_2 (dk_at dksX0_tongue_4 6 rfl rfl)
theorem dX0_tongue_99 : decode cX0_tongue 99 = .ok (.iastore, 1) := dk_79 (dk_at dksX0_tongue_4 7 rfl rfl)
theorem dX0_tongue_100 : decode cX0_tongue 100 = .ok (.iinc 2 1, 3) := dk_132 2 1 (dk_at dksX0_tongue_4 8 rfl rfl)
theorem dX0_tongue_103 : decode cX0_tongue 103 = .ok (.goto (-27), 3) := dk_167 255 229 (dk_at dksX0_tongue_4 11 rfl rfl)
theorem dX0_tongue_106 : decode cX0_tongue 106 = .ok (.iconst 0, 1) := dk_3 (dk_at dksX0_tongue_4 14 rfl rfl)
theorem dX0_tongue_107 : decode cX0_tongue 107 = .ok (.istore_n 2, 1) := dk_61 (dk_at dksX0_tongue_4 15 rfl rfl)
theorem dX0_tongue_108 : decode cX0_tongue 108 = .ok (.iload_n 2, 1) := dk_28 (dk_at dksX0_tongue_4 16 rfl rfl)
theorem dX0_tongue_109 : decode cX0_tongue 109 = .ok (.iconst 3, 1) := dk_6 (dk_at dksX0_tongue_4 17 rfl rfl)
theorem dX0_tongue_110 : decode cX0_tongue 110 = .ok (.if_icmp .ge 19, 3) := dk_162 0 19 (dk_at dksX0_tongue_4 18 rfl rfl)
theorem dX0_tongue_113 : decode cX0_tongue 113 = .ok (.aload_n 0, 1) := dk_42 (dk_at dksX0_tongue_4 21 rfl rfl)
theorem dX0_tongue_114 : decode cX0_tongue 114 = .ok (.getfield 82, 3) := dk_180 0 82 (dk_at dksX0_tongue_5 0 rfl rfl)
theorem dX0_tongue_117 : decode cX0_tongue 117 = .ok (.iload_n 2, 1) := dk_28 (dk_at dksX0_tongue_5 3 rfl rfl)
theorem dX0_tongue_118 : decode cX0_tongue 118 = .ok (.aaload, 1) := dk_50 (dk_at dksX0_tongue_5 4 rfl rfl)
theorem dX0_tongue_119 : decode cX0_tongue 119 = .ok (.iconst 0, 1) := dk_3 (dk_at dksX0_tongue_5 5 rfl rfl)
theorem dX0_tongue_120 : decode cX0_tongue 120 = .ok (.putfield 116, 3) := dk_181 0 116 (dk_at dksX0_tongue_5 6 rfl rfl)
theorem dX0_tongue_123 : decode cX0_tongue 123 = .ok (.iinc 2 1, 3) := dk_132 2 1 (dk_at dksX0_tongue_5 9 rfl rfl)
theorem dX0_tongue_126 : decode cX0_tongue 126 = .ok (.goto (-18), 3) := dk_167 255 238 (dk_at dksX0_tongue_5 12 rfl rfl)
theorem dX0_tongue_129 : decode cX0_tongue 129 = .ok (.aload_n 0, 1) := dk_42 (dk_at dksX0_tongue_5 15 rfl rfl)
theorem dX0_tongue_130 : decode cX0_tongue 130 = .ok (.getfield 93, 3) := dk_180 0 93 (dk_at dksX0_tongue_5 16 rfl rfl)
theorem dX0_tongue_133 : decode cX0_tongue 133 = .ok (.getfield 120, 3) := dk_180 0 120 (dk_at dksX0_tongue_5 19 rfl rfl)
theorem dX0_tongue_136 : decode cX0_tongue 136 = .ok (.invokevirtual 126, 3) := dk_182 0 126 (dk_at dksX0_tongue_6 0 rfl rfl)
theorem dX0_tongue_139 : decode cX0_tongue 139 = .ok (.ireturn, 1) := dk_172 (dk_at dksX0_tongue_6 3 rfl rfl)
def dkwX0_thing_3 : List UInt8 := [182, 0, 165, 153, 0, 7, 4, 167, 0, 4, 3, 172, 2, 172]
abbrev dktX0_thing_3 : List UInt8 := dkwX0_thing_3 ++ []
def dkwX0_thing_2 : List UInt8 := [45, 180, 0, 153, 172, 45, 180, 0, 156, 172, 45, 180, 0, 159, 172, 45, 180, 0, 162, 172, 42, 27]
abbrev dktX0_thing_2 : List UInt8 := dkwX0_thing_2 ++ dktX0_thing_3
def dkwX0_thing_1 : List UInt8 := [170, 0, 0, 0, 0, 0, 69, 0, 0, 0, 0, 0, 0, 0, 4, 0, 0, 0, 35, 0, 0, 0, 40, 0, 0, 0, 45, 0, 0, 0, 50, 0, 0, 0, 55]
abbrev dktX0_thing_1 : List UInt8 := dkwX0_thing_1 ++ dktX0_thing_2
def dkwX0_thing_0 : List UInt8 := [42, 27, 182, 0, 145, 154, 0, 5, 2, 172, 42, 27, 182, 0, 149, 78, 28]
abbrev dktX0_thing_0 : List UInt8 := dkwX0_thing_0 ++ dktX0_thing_1
theorem dksX0_thing_0 : cX0_thing.data.toList.drop 0 = dktX0_thing_0 := by decide +kernel
theorem dksX0_thing_1 : cX0_thing.data.toList.drop 17 = dktX0_thing_1 := dk_seg dksX0_thing_0 17 rfl rfl
theorem dksX0_thing_2 : cX0_thing.data.toList.drop 52 = dktX0_thing_2 := dk_seg dksX0_thing_1 35 rfl rfl
theorem dksX0_thing_3 : cX0_thing.data.toList.drop 74 = dktX0_thing_3 := dk_seg dksX0_thing_2 22 rfl rfl
theorem dX0_thing_0 : decode cX0_thing 0 = .ok (.aload_n 0, 1) := dk_42 (dk_at dksX0_thing_0 0 rfl rfl)
theorem dX0_thing_1 : decode cX0_thing 1 = .ok (.iload_n 1, 1) := dk_27 (dk_at dksX0_thing_0 1 rfl rfl)
theorem dX0_thing_2 : decode cX0_thing 2 = .ok (.invokevirtual 145, 3) := dk_182 0 145 (dk_at dksX0_thing_0 2 rfl rfl)
theorem dX0_thing_5 : decode cX0_thing 5 = .ok (.ifCond .ne 5, 3) := dk_154 0 5 (dk_at dksX0_thing_0 5 rfl rfl)
theorem dX0_thing_8 : decode cX0_thing 8 = .ok (.iconst (-1), 1) := dk_2 (dk_at dksX0_thing_0 8 rfl rfl)
theorem dX0_thing_9 : decode cX0_thing 9 = .ok (.ireturn, 1) := dk_172 (dk_at dksX0_thing_0 9 rfl rfl)
theorem dX0_thing_10 : decode cX0_thing 10 = .ok (.aload_n 0, 1) := dk_42 (dk_at dksX0_thing_0 10 rfl rfl)
theorem dX0_thing_11 : decode cX0_thing 11 = .ok (.iload_n 1, 1) := dk_27 (dk_at dksX0_thing_0 11 rfl rfl)
theorem dX0_thing_12 : decode cX0_thing 12 = .ok (.invokevirtual 149, 3) := dk_182 0 149 (dk_at dksX0_thing_0 12 rfl rfl)
theorem dX0_thing_15 : decode cX0_thing 15 = .ok (.astore_n 3, 1) := dk_78 (dk_at dksX0_thing_0 15 rfl rfl)
theorem dX0_thing_16 : decode cX0_thing 16 = .ok (.iload_n 2, 1) := dk_28 (dk_at dksX0_thing_0 16 rfl rfl)
theorem dX0_thing_17 : decode cX0_thing 17 = .ok (.tableswitch 69 0 4 #[35, 40, 45, 50, 55], 35) := by decide +kernel
theorem dX0_thing_52 : decode cX0_thing 52 = .ok (.aload_n 3, 1) := dk_45 (dk_at dksX0_thing_2 0 rfl rfl)
theorem dX0_thing_53 : decode cX0_thing 53 = .ok (.getfield 153, 3) := dk_180 0 153 (dk_at dksX0_thing_2 1 rfl rfl)
theorem dX0_thing_56 : decode cX0_thing 56 = .ok (.ireturn, 1) := dk_172 (dk_at dksX0_thing_2 4 rfl rfl)
theorem dX0_thing_57 : decode cX0_thing 57 = .ok (.aload_n 3, 1) := dk_45 (dk_at dksX0_thing_2 5 rfl rfl)
theorem dX0_thing_58 : decode cX0_thing 58 = .ok (.getfield 156, 3) := dk_180 0 156 (dk_at dksX0_thing_2 6 rfl rfl)
theorem dX0_thing_61 : decode cX0_thing 61 = .ok (.ireturn, 1) := dk_172 (dk_at dksX0_thing_2 9 rfl rfl)
theorem dX0_thing_62 : decode cX0_thing 62 = .ok (.aload_n 3, 1) := dk_45 (dk_at dksX0_thing_2 10 rfl rfl)
theorem dX0_thing_63 : decode cX0_thing 63 = .ok (.getfield 159, 3) := dk_180 0 159 (dk_at dksX0_thing_2 11 rfl rfl)
theorem dX0_thing_66 : decode cX0_thing 66 = .ok (.ireturn, 1) := dk_172 (dk_at dksX0_thing_2 14 rfl rfl)
theorem dX0_thing_67 : decode cX0_thing 67 = .ok (.aload_n 3, 1) := dk_45 (dk_at dksX0_thing_2 15 rfl rfl)
theorem dX0_thing_68 : decode cX0_thing 68 = .ok (.getfield 162, 3) := dk_180 0 162 (dk_at dksX0_thing_2 16 rfl rfl)
theorem dX0_thing_71 : decode cX0_thing 71 = .ok (.ireturn, 1) := dk_172 (dk_at dksX0_thing_2 19 rfl rfl)
theorem dX0_thing_72 : decode cX0_thing 72 = .ok (.aload_n 0, 1) := dk_42 (dk_at dksX0_thing_2 20 rfl rfl)
theorem dX0_thing_73 : decode cX0_thing 73 = .ok (.iload_n 1, 1) := dk_27 (dk_at dksX0_thing_2 21 rfl rfl)
theorem dX0_thing_74 : decode cX0_thing 74 = .ok (.invokevirtual 165, 3) := dk_182 0 165 (dk_at dksX0_thing_3 0 rfl rfl)
theorem dX0_thing_77 : decode cX0_thing 77 = .ok (.ifCond .eq 7, 3) := dk_153 0 7 (dk_at dksX0_thing_3 3 rfl rfl)
theorem dX0_thing_80 : decode cX0_thing 80 = .ok (.iconst 1, 1) := dk_4 (dk_at dksX0_thing_3 6 rfl rfl)
theorem dX0_thing_81 : decode cX0_thing 81 = .ok (.goto 4, 3) := dk_167 0 4 (dk_at dksX0_thing_3 7 rfl rfl)
theorem dX0_thing_84 : decode cX0_thing 84 = .ok (.iconst 0, 1) := dk_3 (dk_at dksX0_thing_3 10 rfl rfl)
theorem dX0_thing_85 : decode cX0_thing 85 = .ok (.ireturn, 1) := dk_172 (dk_at dksX0_thing_3 11 rfl rfl)
theorem dX0_thing_86 : decode cX0_thing 86 = .ok (.iconst (-1), 1) := dk_2 (dk_at dksX0_thing_3 12 rfl rfl)
theorem dX0_thing_87 : decode cX0_thing 87 = .ok (.ireturn, 1) := dk_172 (dk_at dksX0_thing_3 13 rfl rfl)
def dkwX0_isThing_1 : List UInt8 := [167, 0, 4, 3, 172]
abbrev dktX0_isThing_1 : List UInt8 := dkwX0_isThing_1 ++ []
def dkwX0_isThing_0 : List UInt8 := [42, 180, 0, 93, 198, 0, 23, 27, 133, 9, 42, 182, 0, 131, 4, 100, 133, 184, 0, 15, 153, 0, 7, 4]
abbrev dktX0_isThing_0 : List UInt8 := dkwX0_isThing_0 ++ dktX0_isThing_1
theorem dksX0_isThing_0 : cX0_isThing.data.toList.drop 0 = dktX0_isThing_0 := by decide +kernel
theorem dksX0_isThing_1 : cX0_isThing.data.toList.drop 24 = dktX0_isThing_1 := dk_seg dksX0_isThing_0 24 rfl rfl
theorem dX0_isThing_0 : decode cX0_isThing 0 = .ok (.aload_n 0, 1) := dk_42 (dk_at dksX0_isThing_0 0 rfl rfl)
theorem dX0_isThing_1 : decode cX0_isThing 1 = .ok (.getfield 93, 3) := dk_180 0 93 (dk_at dksX0_isThing_0 1 rfl rfl)
theorem dX0_isThing_4 : decode cX0_isThing 4 = .ok (.ifnull 23, 3) := dk_198 0 23 (dk_at dksX0_isThing_0 4 rfl rfl)
theorem dX0_isThing_7 : decode cX0_isThing 7 = .ok (.iload_n 1, 1) := dk_27 (dk_at dksX0_isThing_0 7 rfl rfl)
theorem dX0_isThing_8 : decode cX0_isThing 8 = .ok (.i2l, 1) := dk_133 (dk_at dksX0_isThing_0 8 rfl rfl)
theorem dX0_isThing_9 : decode cX0_isThing 9 = .ok (.lconst 0, 1) := dk_9 (dk_at dksX0_isThing_0 9 rfl rfl)
theorem dX0_isThing_10 : decode cX0_isThing 10 = .ok (.aload_n 0, 1) := dk_42 (dk_at dksX0_isThing_0 10 rfl rfl)
theorem dX0_isThing_11 : decode cX0_isThing 11 = .ok (.invokevirtual 131, 3) := dk_182 0 131 (dk_at dksX0_isThing_0 11 rfl rfl)
theorem dX0_isThing_14 : decode cX0_isThing 14 = .ok (.iconst 1, 1) := dk_4 (dk_at dksX0_isThing_0 14 rfl rfl)
theorem dX0_isThing_15 : decode cX0_isThing 15 = .ok (.isub, 1) := dk_100 (dk_at dksX0_isThing_0 15 rfl rfl)
theorem dX0_isThing_16 : decode cX0_isThing 16 = .ok (.i2l, 1) := dk_133 (dk_at dksX0_isThing_0 16 rfl rfl)
theorem dX0_isThing_17 : decode cX0_isThing 17 = .ok (.invokestatic 15, 3) := dk_184 0 15 (dk_at dksX0_isThing_0 17 rfl rfl)
theorem dX0_isThing_20 : decode cX0_isThing 20 = .ok (.ifCond .eq 7, 3) := dk_153 0 7 (dk_at dksX0_isThing_0 20 rfl rfl)
theorem dX0_isThing_23 : decode cX0_isThing 23 = .ok (.iconst 1, 1) := dk_4 (dk_at dksX0_isThing_0 23 rfl rfl)
theorem dX0_isThing_24 : decode cX0_isThing 24 = .ok (.goto 4, 3) := dk_167 0 4 (dk_at dksX0_isThing_1 0 rfl rfl)
theorem dX0_isThing_27 : decode cX0_isThing 27 = .ok (.iconst 0, 1) := dk_3 (dk_at dksX0_isThing_1 3 rfl rfl)
theorem dX0_isThing_28 : decode cX0_isThing 28 = .ok (.ireturn, 1) := dk_172 (dk_at dksX0_isThing_1 4 rfl rfl)
def dkwX0_many_0 : List UInt8 := [42, 180, 0, 93, 180, 0, 120, 182, 0, 126, 172]
abbrev dktX0_many_0 : List UInt8 := dkwX0_many_0 ++ []
theorem dksX0_many_0 : cX0_many.data.toList.drop 0 = dktX0_many_0 := by decide +kernel
theorem dX0_many_0 : decode cX0_many 0 = .ok (.aload_n 0, 1) := dk_42 (dk_at dksX0_many_0 0 rfl rfl)
theorem dX0_many_1 : decode cX0_many 1 = .ok (.getfield 93, 3) := dk_180 0 93 (dk_at dksX0_many_0 1 rfl rfl)
theorem dX0_many_4 : decode cX0_many 4 = .ok (.getfield 120, 3) := dk_180 0 120 (dk_at dksX0_many_0 4 rfl rfl)
theorem dX0_many_7 : decode cX0_many 7 = .ok (.invokevirtual 126, 3) := dk_182 0 126 (dk_at dksX0_many_0 7 rfl rfl)
theorem dX0_many_10 : decode cX0_many 10 = .ok (.ireturn, 1) := dk_172 (dk_at dksX0_many_0 10 rfl rfl)
def dkwX0_at_0 : List UInt8 := [42, 180, 0, 93, 180, 0, 120, 27, 182, 0, 137, 192, 0, 141, 176]
abbrev dktX0_at_0 : List UInt8 := dkwX0_at_0 ++ []
theorem dksX0_at_0 : cX0_at.data.toList.drop 0 = dktX0_at_0 := by decide +kernel
theorem dX0_at_0 : decode cX0_at 0 = .ok (.aload_n 0, 1) := dk_42 (dk_at dksX0_at_0 0 rfl rfl)
theorem dX0_at_1 : decode cX0_at 1 = .ok (.getfield 93, 3) := dk_180 0 93 (dk_at dksX0_at_0 1 rfl rfl)
theorem dX0_at_4 : decode cX0_at 4 = .ok (.getfield 120, 3) := dk_180 0 120 (dk_at dksX0_at_0 4 rfl rfl)
theorem dX0_at_7 : decode cX0_at 7 = .ok (.iload_n 1, 1) := dk_27 (dk_at dksX0_at_0 7 rfl rfl)
theorem dX0_at_8 : decode cX0_at 8 = .ok (.invokevirtual 137, 3) := dk_182 0 137 (dk_at dksX0_at_0 8 rfl rfl)
theorem dX0_at_11 : decode cX0_at 11 = .ok (.checkcast 141, 3) := dk_192 0 141 (dk_at dksX0_at_0 11 rfl rfl)
theorem dX0_at_14 : decode cX0_at 14 = .ok (.areturn, 1) := dk_176 (dk_at dksX0_at_0 14 rfl rfl)
def dkwX0_isHad_0 : List UInt8 := [42, 180, 0, 94, 27, 122, 4, 126, 4, 160, 0, 7, 4, 167, 0, 4, 3, 172]
abbrev dktX0_isHad_0 : List UInt8 := dkwX0_isHad_0 ++ []
theorem dksX0_isHad_0 : cX0_isHad.data.toList.drop 0 = dktX0_isHad_0 := by decide +kernel
theorem dX0_isHad_0 : decode cX0_isHad 0 = .ok (.aload_n 0, 1) := dk_42 (dk_at dksX0_isHad_0 0 rfl rfl)
theorem dX0_isHad_1 : decode cX0_isHad 1 = .ok (.getfield 94, 3) := dk_180 0 94 (dk_at dksX0_isHad_0 1 rfl rfl)
theorem dX0_isHad_4 : decode cX0_isHad 4 = .ok (.iload_n 1, 1) := dk_27 (dk_at dksX0_isHad_0 4 rfl rfl)
theorem dX0_isHad_5 : decode cX0_isHad 5 = .ok (.ishr, 1) := dk_122 (dk_at dksX0_isHad_0 5 rfl rfl)
theorem dX0_isHad_6 : decode cX0_isHad 6 = .ok (.iconst 1, 1) := dk_4 (dk_at dksX0_isHad_0 6 rfl rfl)
theorem dX0_isHad_7 : decode cX0_isHad 7 = .ok (.iand, 1) := dk_126 (dk_at dksX0_isHad_0 7 rfl rfl)
theorem dX0_isHad_8 : decode cX0_isHad 8 = .ok (.iconst 1, 1) := dk_4 (dk_at dksX0_isHad_0 8 rfl rfl)
theorem dX0_isHad_9 : decode cX0_isHad 9 = .ok (.if_icmp .ne 7, 3) := dk_160 0 7 (dk_at dksX0_isHad_0 9 rfl rfl)
theorem dX0_isHad_12 : decode cX0_isHad 12 = .ok (.iconst 1, 1) := dk_4 (dk_at dksX0_isHad_0 12 rfl rfl)
theorem dX0_isHad_13 : decode cX0_isHad 13 = .ok (.goto 4, 3) := dk_167 0 4 (dk_at dksX0_isHad_0 13 rfl rfl)
theorem dX0_isHad_16 : decode cX0_isHad 16 = .ok (.iconst 0, 1) := dk_3 (dk_at dksX0_isHad_0 16 rfl rfl)
theorem dX0_isHad_17 : decode cX0_isHad 17 = .ok (.ireturn, 1) := dk_172 (dk_at dksX0_isHad_0 17 rfl rfl)
def dkwX0_person_2 : List UInt8 := [5, 160, 0, 10, 45, 180, 0, 181, 167, 0, 4, 2, 172]
abbrev dktX0_person_2 : List UInt8 := dkwX0_person_2 ++ []
def dkwX0_person_1 : List UInt8 := [167, 0, 36, 28, 4, 160, 0, 18, 45, 180, 0, 178, 153, 0, 7, 4, 167, 0, 20, 3, 167, 0, 16, 28]
abbrev dktX0_person_1 : List UInt8 := dkwX0_person_1 ++ dktX0_person_2
def dkwX0_person_0 : List UInt8 := [42, 27, 182, 0, 168, 154, 0, 5, 2, 172, 42, 27, 182, 0, 171, 78, 28, 154, 0, 10, 45, 180, 0, 175]
abbrev dktX0_person_0 : List UInt8 := dkwX0_person_0 ++ dktX0_person_1
theorem dksX0_person_0 : cX0_person.data.toList.drop 0 = dktX0_person_0 := by decide +kernel
theorem dksX0_person_1 : cX0_person.data.toList.drop 24 = dktX0_person_1 := dk_seg dksX0_person_0 24 rfl rfl
theorem dksX0_person_2 : cX0_person.data.toList.drop 48 = dktX0_person_2 := dk_seg dksX0_person_1 24 rfl rfl
theorem dX0_person_0 : decode cX0_person 0 = .ok (.aload_n 0, 1) := dk_42 (dk_at dksX0_person_0 0 rfl rfl)
theorem dX0_person_1 : decode cX0_person 1 = .ok (.iload_n 1, 1) := dk_27 (dk_at dksX0_person_0 1 rfl rfl)
theorem dX0_person_2 : decode cX0_person 2 = .ok (.invokevirtual 168, 3) := dk_182 0 168 (dk_at dksX0_person_0 2 rfl rfl)
theorem dX0_person_5 : decode cX0_person 5 = .ok (.ifCond .ne 5, 3) := dk_154 0 5 (dk_at dksX0_person_0 5 rfl rfl)
theorem dX0_person_8 : decode cX0_person 8 = .ok (.iconst (-1), 1) := dk_2 (dk_at dksX0_person_0 8 rfl rfl)
theorem dX0_person_9 : decode cX0_person 9 = .ok (.ireturn, 1) := dk_172 (dk_at dksX0_person_0 9 rfl rfl)
theorem dX0_person_10 : decode cX0_person 10 = .ok (.aload_n 0, 1) := dk_42 (dk_at dksX0_person_0 10 rfl rfl)
theorem dX0_person_11 : decode cX0_person 11 = .ok (.iload_n 1, 1) := dk_27 (dk_at dksX0_person_0 11 rfl rfl)
theorem dX0_person_12 : decode cX0_person 12 = .ok (.invokevirtual 171, 3) := dk_182 0 171 (dk_at dksX0_person_0 12 rfl rfl)
theorem dX0_person_15 : decode cX0_person 15 = .ok (.astore_n 3, 1) := dk_78 (dk_at dksX0_person_0 15 rfl rfl)
theorem dX0_person_16 : decode cX0_person 16 = .ok (.iload_n 2, 1) := dk_28 (dk_at dksX0_person_0 16 rfl rfl)
theorem dX0_person_17 : decode cX0_person 17 = .ok (.ifCond .ne 10, 3) := dk_154 0 10 (dk_at dksX0_person_0 17 rfl rfl)
theorem dX0_person_20 : decode cX0_person 20 = .ok (.aload_n 3, 1) := dk_45 (dk_at dksX0_person_0 20 rfl rfl)
theorem dX0_person_21 : decode cX0_person 21 = .ok (.getfield 175, 3) := dk_180 0 175 (dk_at dksX0_person_0 21 rfl rfl)
theorem dX0_person_24 : decode cX0_person 24 = .ok (.goto 36, 3) := dk_167 0 36 (dk_at dksX0_person_1 0 rfl rfl)
theorem dX0_person_27 : decode cX0_person 27 = .ok (.iload_n 2, 1) := dk_28 (dk_at dksX0_person_1 3 rfl rfl)
theorem dX0_person_28 : decode cX0_person 28 = .ok (.iconst 1, 1) := dk_4 (dk_at dksX0_person_1 4 rfl rfl)
theorem dX0_person_29 : decode cX0_person 29 = .ok (.if_icmp .ne 18, 3) := dk_160 0 18 (dk_at dksX0_person_1 5 rfl rfl)
theorem dX0_person_32 : decode cX0_person 32 = .ok (.aload_n 3, 1) := dk_45 (dk_at dksX0_person_1 8 rfl rfl)
theorem dX0_person_33 : decode cX0_person 33 = .ok (.getfield 178, 3) := dk_180 0 178 (dk_at dksX0_person_1 9 rfl rfl)
theorem dX0_person_36 : decode cX0_person 36 = .ok (.ifCond .eq 7, 3) := dk_153 0 7 (dk_at dksX0_person_1 12 rfl rfl)
theorem dX0_person_39 : decode cX0_person 39 = .ok (.iconst 1, 1) := dk_4 (dk_at dksX0_person_1 15 rfl rfl)
theorem dX0_person_40 : decode cX0_person 40 = .ok (.goto 20, 3) := dk_167 0 20 (dk_at dksX0_person_1 16 rfl rfl)
theorem dX0_person_43 : decode cX0_person 43 = .ok (.iconst 0, 1) := dk_3 (dk_at dksX0_person_1 19 rfl rfl)
theorem dX0_person_44 : decode cX0_person 44 = .ok (.goto 16, 3) := dk_167 0 16 (dk_at dksX0_person_1 20 rfl rfl)
theorem dX0_person_47 : decode cX0_person 47 = .ok (.iload_n 2, 1) := dk_28 (dk_at dksX0_person_1 23 rfl rfl)
theorem dX0_person_48 : decode cX0_person 48 = .ok (.iconst 2, 1) := dk_5 (dk_at dksX0_person_2 0 rfl rfl)
theorem dX0_person_49 : decode cX0_person 49 = .ok (.if_icmp .ne 10, 3) := dk_160 0 10 (dk_at dksX0_person_2 1 rfl rfl)
theorem dX0_person_52 : decode cX0_person 52 = .ok (.aload_n 3, 1) := dk_45 (dk_at dksX0_person_2 4 rfl rfl)
theorem dX0_person_53 : decode cX0_person 53 = .ok (.getfield 181, 3) := dk_180 0 181 (dk_at dksX0_person_2 5 rfl rfl)
theorem dX0_person_56 : decode cX0_person 56 = .ok (.goto 4, 3) := dk_167 0 4 (dk_at dksX0_person_2 8 rfl rfl)
theorem dX0_person_59 : decode cX0_person 59 = .ok (.iconst (-1), 1) := dk_2 (dk_at dksX0_person_2 11 rfl rfl)
theorem dX0_person_60 : decode cX0_person 60 = .ok (.ireturn, 1) := dk_172 (dk_at dksX0_person_2 12 rfl rfl)
def dkwX0_isPerson_1 : List UInt8 := [184, 0, 15, 153, 0, 7, 4, 167, 0, 4, 3, 172]
abbrev dktX0_isPerson_1 : List UInt8 := dkwX0_isPerson_1 ++ []
def dkwX0_isPerson_0 : List UInt8 := [42, 180, 0, 93, 198, 0, 29, 27, 133, 9, 42, 180, 0, 93, 180, 0, 134, 182, 0, 126, 4, 100, 133]
abbrev dktX0_isPerson_0 : List UInt8 := dkwX0_isPerson_0 ++ dktX0_isPerson_1
theorem dksX0_isPerson_0 : cX0_isPerson.data.toList.drop 0 = dktX0_isPerson_0 := by decide +kernel
theorem dksX0_isPerson_1 : cX0_isPerson.data.toList.drop 23 = dktX0_isPerson_1 := dk_seg dksX0_isPerson_0 23 rfl rfl
theorem dX0_isPerson_0 : decode cX0_isPerson 0 = .ok (.aload_n 0, 1) := dk_42 (dk_at dksX0_isPerson_0 0 rfl rfl)
theorem dX0_isPerson_1 : decode cX0_isPerson 1 = .ok (.getfield 93, 3) := dk_180 0 93 (dk_at dksX0_isPerson_0 1 rfl rfl)
theorem dX0_isPerson_4 : decode cX0_isPerson 4 = .ok (.ifnull 29, 3) := dk_198 0 29 (dk_at dksX0_isPerson_0 4 rfl rfl)
theorem dX0_isPerson_7 : decode cX0_isPerson 7 = .ok (.iload_n 1, 1) := dk_27 (dk_at dksX0_isPerson_0 7 rfl rfl)
theorem dX0_isPerson_8 : decode cX0_isPerson 8 = .ok (.i2l, 1) := dk_133 (dk_at dksX0_isPerson_0 8 rfl rfl)
theorem dX0_isPerson_9 : decode cX0_isPerson 9 = .ok (.lconst 0, 1) := dk_9 (dk_at dksX0_isPerson_0 9 rfl rfl)
theorem dX0_isPerson_10 : decode cX0_isPerson 10 = .ok (.aload_n 0, 1) := dk_42 (dk_at dksX0_isPerson_0 10 rfl rfl)
theorem dX0_isPerson_11 : decode cX0_isPerson 11 = .ok (.getfield 93, 3) := dk_180 0 93 (dk_at dksX0_isPerson_0 11 rfl rfl)
theorem dX0_isPerson_14 : decode cX0_isPerson 14 = .ok (.getfield 134, 3) := dk_180 0 134 (dk_at dksX0_isPerson_0 14 rfl rfl)
theorem dX0_isPerson_17 : decode cX0_isPerson 17 = .ok (.invokevirtual 126, 3) := dk_182 0 126 (dk_at dksX0_isPerson_0 17 rfl rfl)
theorem dX0_isPerson_20 : decode cX0_isPerson 20 = .ok (.iconst 1, 1) := dk_4 (dk_at dksX0_isPerson_0 20 rfl rfl)
theorem dX0_isPerson_21 : decode cX0_isPerson 21 = .ok (.isub, 1) := dk_100 (dk_at dksX0_isPerson_0 21 rfl rfl)
theorem dX0_isPerson_22 : decode cX0_isPerson 22 = .ok (.i2l, 1) := dk_133 (dk_at dksX0_isPerson_0 22 rfl rfl)
theorem dX0_isPerson_23 : decode cX0_isPerson 23 = .ok (.invokestatic 15, 3) := dk_184 0 15 (dk_at dksX0_isPerson_1 0 rfl rfl)
theorem dX0_isPerson_26 : decode cX0_isPerson 26 = .ok (.ifCond .eq 7, 3) := dk_153 0 7 (dk_at dksX0_isPerson_1 3 rfl rfl)
theorem dX0_isPerson_29 : decode cX0_isPerson 29 = .ok (.iconst 1, 1) := dk_4 (dk_at dksX0_isPerson_1 6 rfl rfl)
theorem dX0_isPerson_30 : decode cX0_isPerson 30 = .ok (.goto 4, 3) := dk_167 0 4 (dk_at dksX0_isPerson_1 7 rfl rfl)
theorem dX0_isPerson_33 : decode cX0_isPerson 33 = .ok (.iconst 0, 1) := dk_3 (dk_at dksX0_isPerson_1 10 rfl rfl)
theorem dX0_isPerson_34 : decode cX0_isPerson 34 = .ok (.ireturn, 1) := dk_172 (dk_at dksX0_isPerson_1 11 rfl rfl)
def dkwX0_who_0 : List UInt8 := [42, 180, 0, 93, 180, 0, 134, 27, 182, 0, 137, 192, 0, 143, 176]
abbrev dktX0_who_0 : List UInt8 := dkwX0_who_0 ++ []
theorem dksX0_who_0 : cX0_who.data.toList.drop 0 = dktX0_who_0 := by decide +kernel
theorem dX0_who_0 : decode cX0_who 0 = .ok (.aload_n 0, 1) := dk_42 (dk_at dksX0_who_0 0 rfl rfl)
theorem dX0_who_1 : decode cX0_who 1 = .ok (.getfield 93, 3) := dk_180 0 93 (dk_at dksX0_who_0 1 rfl rfl)
theorem dX0_who_4 : decode cX0_who 4 = .ok (.getfield 134, 3) := dk_180 0 134 (dk_at dksX0_who_0 4 rfl rfl)
theorem dX0_who_7 : decode cX0_who 7 = .ok (.iload_n 1, 1) := dk_27 (dk_at dksX0_who_0 7 rfl rfl)
theorem dX0_who_8 : decode cX0_who 8 = .ok (.invokevirtual 137, 3) := dk_182 0 137 (dk_at dksX0_who_0 8 rfl rfl)
theorem dX0_who_11 : decode cX0_who 11 = .ok (.checkcast 143, 3) := dk_192 0 143 (dk_at dksX0_who_0 11 rfl rfl)
theorem dX0_who_14 : decode cX0_who 14 = .ok (.areturn, 1) := dk_176 (dk_at dksX0_who_0 14 rfl rfl)
def dkwX0_knows_2 : List UInt8 := [167, 0, 23, 25, 4, 28, 182, 0, 187, 153, 0, 13, 25, 4, 180, 0, 190, 28, 46, 167, 0, 4, 2, 172]
abbrev dktX0_knows_2 : List UInt8 := dkwX0_knows_2 ++ []
def dkwX0_knows_1 : List UInt8 := [154, 0, 5, 2, 172, 42, 27, 182, 0, 171, 58, 4, 29, 154, 0, 13, 25, 4, 180, 0, 184, 28, 46]
abbrev dktX0_knows_1 : List UInt8 := dkwX0_knows_1 ++ dktX0_knows_2
def dkwX0_knows_0 : List UInt8 := [42, 27, 182, 0, 168, 153, 0, 21, 42, 28, 182, 0, 145, 153, 0, 13, 29, 133, 9, 10, 184, 0, 15]
abbrev dktX0_knows_0 : List UInt8 := dkwX0_knows_0 ++ dktX0_knows_1
theorem dksX0_knows_0 : cX0_knows.data.toList.drop 0 = dktX0_knows_0 := by decide +kernel
theorem dksX0_knows_1 : cX0_knows.data.toList.drop 23 = dktX0_knows_1 := dk_seg dksX0_knows_0 23 rfl rfl
theorem dksX0_knows_2 : cX0_knows.data.toList.drop 46 = dktX0_knows_2 := dk_seg dksX0_knows_1 23 rfl rfl
theorem dX0_knows_0 : decode cX0_knows 0 = .ok (.aload_n 0, 1) := dk_42 (dk_at dksX0_knows_0 0 rfl rfl)
theorem dX0_knows_1 : decode cX0_knows 1 = .ok (.iload_n 1, 1) := dk_27 (dk_at dksX0_knows_0 1 rfl rfl)
theorem dX0_knows_2 : decode cX0_knows 2 = .ok (.invokevirtual 168, 3) := dk_182 0 168 (dk_at dksX0_knows_0 2 rfl rfl)
theorem dX0_knows_5 : decode cX0_knows 5 = .ok (.ifCond .eq 21, 3) := dk_153 0 21 (dk_at dksX0_knows_0 5 rfl rfl)
theorem dX0_knows_8 : decode cX0_knows 8 = .ok (.aload_n 0, 1) := dk_42 (dk_at dksX0_knows_0 8 rfl rfl)
theorem dX0_knows_9 : decode cX0_knows 9 = .ok (.iload_n 2, 1) := dk_28 (dk_at dksX0_knows_0 9 rfl rfl)
theorem dX0_knows_10 : decode cX0_knows 10 = .ok (.invokevirtual 145, 3) := dk_182 0 145 (dk_at dksX0_knows_0 10 rfl rfl)
theorem dX0_knows_13 : decode cX0_knows 13 = .ok (.ifCond .eq 13, 3) := dk_153 0 13 (dk_at dksX0_knows_0 13 rfl rfl)
theorem dX0_knows_16 : decode cX0_knows 16 = .ok (.iload_n 3, 1) := dk_29 (dk_at dksX0_knows_0 16 rfl rfl)
theorem dX0_knows_17 : decode cX0_knows 17 = .ok (.i2l, 1) := dk_133 (dk_at dksX0_knows_0 17 rfl rfl)
theorem dX0_knows_18 : decode cX0_knows 18 = .ok (.lconst 0, 1) := dk_9 (dk_at dksX0_knows_0 18 rfl rfl)
theorem dX0_knows_19 : decode cX0_knows 19 = .ok (.lconst 1, 1) := dk_10 (dk_at dksX0_knows_0 19 rfl rfl)
theorem dX0_knows_20 : decode cX0_knows 20 = .ok (.invokestatic 15, 3) := dk_184 0 15 (dk_at dksX0_knows_0 20 rfl rfl)
theorem dX0_knows_23 : decode cX0_knows 23 = .ok (.ifCond .ne 5, 3) := dk_154 0 5 (dk_at dksX0_knows_1 0 rfl rfl)
theorem dX0_knows_26 : decode cX0_knows 26 = .ok (.iconst (-1), 1) := dk_2 (dk_at dksX0_knows_1 3 rfl rfl)
theorem dX0_knows_27 : decode cX0_knows 27 = .ok (.ireturn, 1) := dk_172 (dk_at dksX0_knows_1 4 rfl rfl)
theorem dX0_knows_28 : decode cX0_knows 28 = .ok (.aload_n 0, 1) := dk_42 (dk_at dksX0_knows_1 5 rfl rfl)
theorem dX0_knows_29 : decode cX0_knows 29 = .ok (.iload_n 1, 1) := dk_27 (dk_at dksX0_knows_1 6 rfl rfl)
theorem dX0_knows_30 : decode cX0_knows 30 = .ok (.invokevirtual 171, 3) := dk_182 0 171 (dk_at dksX0_knows_1 7 rfl rfl)
theorem dX0_knows_33 : decode cX0_knows 33 = .ok (.astore 4, 2) := dk_58 4 (dk_at dksX0_knows_1 10 rfl rfl)
theorem dX0_knows_35 : decode cX0_knows 35 = .ok (.iload_n 3, 1) := dk_29 (dk_at dksX0_knows_1 12 rfl rfl)
theorem dX0_knows_36 : decode cX0_knows 36 = .ok (.ifCond .ne 13, 3) := dk_154 0 13 (dk_at dksX0_knows_1 13 rfl rfl)
theorem dX0_knows_39 : decode cX0_knows 39 = .ok (.aload 4, 2) := dk_25 4 (dk_at dksX0_knows_1 16 rfl rfl)
theorem dX0_knows_41 : decode cX0_knows 41 = .ok (.getfield 184, 3) := dk_180 0 184 (dk_at dksX0_knows_1 18 rfl rfl)
theorem dX0_knows_44 : decode cX0_knows 44 = .ok (.iload_n 2, 1) := dk_28 (dk_at dksX0_knows_1 21 rfl rfl)
theorem dX0_knows_45 : decode cX0_knows 45 = .ok (.iaload, 1) := dk_46 (dk_at dksX0_knows_1 22 rfl rfl)
theorem dX0_knows_46 : decode cX0_knows 46 = .ok (.goto 23, 3) := dk_167 0 23 (dk_at dksX0_knows_2 0 rfl rfl)
theorem dX0_knows_49 : decode cX0_knows 49 = .ok (.aload 4, 2) := dk_25 4 (dk_at dksX0_knows_2 3 rfl rfl)
theorem dX0_knows_51 : decode cX0_knows 51 = .ok (.iload_n 2, 1) := dk_28 (dk_at dksX0_knows_2 5 rfl rfl)
theorem dX0_knows_52 : decode cX0_knows 52 = .ok (.invokevirtual 187, 3) := dk_182 0 187 (dk_at dksX0_knows_2 6 rfl rfl)
theorem dX0_knows_55 : decode cX0_knows 55 = .ok (.ifCond .eq 13, 3) := dk_153 0 13 (dk_at dksX0_knows_2 9 rfl rfl)
theorem dX0_knows_58 : decode cX0_knows 58 = .ok (.aload 4, 2) := dk_25 4 (dk_at dksX0_knows_2 12 rfl rfl)
theorem dX0_knows_60 : decode cX0_knows 60 = .ok (.getfield 190, 3) := dk_180 0 190 (dk_at dksX0_knows_2 14 rfl rfl)
theorem dX0_knows_63 : decode cX0_knows 63 = .ok (.iload_n 2, 1) := dk_28 (dk_at dksX0_knows_2 17 rfl rfl)
theorem dX0_knows_64 : decode cX0_knows 64 = .ok (.iaload, 1) := dk_46 (dk_at dksX0_knows_2 18 rfl rfl)
theorem dX0_knows_65 : decode cX0_knows 65 = .ok (.goto 4, 3) := dk_167 0 4 (dk_at dksX0_knows_2 19 rfl rfl)
theorem dX0_knows_68 : decode cX0_knows 68 = .ok (.iconst (-1), 1) := dk_2 (dk_at dksX0_knows_2 22 rfl rfl)
theorem dX0_knows_69 : decode cX0_knows 69 = .ok (.ireturn, 1) := dk_172 (dk_at dksX0_knows_2 23 rfl rfl)
def dkwX0_follows_0 : List UInt8 := [42, 27, 182, 0, 193, 153, 0, 15, 42, 180, 0, 93, 27, 2, 182, 0, 196, 167, 0, 4, 2, 172]
abbrev dktX0_follows_0 : List UInt8 := dkwX0_follows_0 ++ []
theorem dksX0_follows_0 : cX0_follows.data.toList.drop 0 = dktX0_follows_0 := by decide +kernel
theorem dX0_follows_0 : decode cX0_follows 0 = .ok (.aload_n 0, 1) := dk_42 (dk_at dksX0_follows_0 0 rfl rfl)
theorem dX0_follows_1 : decode cX0_follows 1 = .ok (.iload_n 1, 1) := dk_27 (dk_at dksX0_follows_0 1 rfl rfl)
theorem dX0_follows_2 : decode cX0_follows 2 = .ok (.invokevirtual 193, 3) := dk_182 0 193 (dk_at dksX0_follows_0 2 rfl rfl)
theorem dX0_follows_5 : decode cX0_follows 5 = .ok (.ifCond .eq 15, 3) := dk_153 0 15 (dk_at dksX0_follows_0 5 rfl rfl)
theorem dX0_follows_8 : decode cX0_follows 8 = .ok (.aload_n 0, 1) := dk_42 (dk_at dksX0_follows_0 8 rfl rfl)
theorem dX0_follows_9 : decode cX0_follows 9 = .ok (.getfield 93, 3) := dk_180 0 93 (dk_at dksX0_follows_0 9 rfl rfl)
theorem dX0_follows_12 : decode cX0_follows 12 = .ok (.iload_n 1, 1) := dk_27 (dk_at dksX0_follows_0 12 rfl rfl)
theorem dX0_follows_13 : decode cX0_follows 13 = .ok (.iconst (-1), 1) := dk_2 (dk_at dksX0_follows_0 13 rfl rfl)
theorem dX0_follows_14 : decode cX0_follows 14 = .ok (.invokevirtual 196, 3) := dk_182 0 196 (dk_at dksX0_follows_0 14 rfl rfl)
theorem dX0_follows_17 : decode cX0_follows 17 = .ok (.goto 4, 3) := dk_167 0 4 (dk_at dksX0_follows_0 17 rfl rfl)
theorem dX0_follows_20 : decode cX0_follows 20 = .ok (.iconst (-1), 1) := dk_2 (dk_at dksX0_follows_0 20 rfl rfl)
theorem dX0_follows_21 : decode cX0_follows 21 = .ok (.ireturn, 1) := dk_172 (dk_at dksX0_follows_0 21 rfl rfl)
def dkwX0_isHeap_1 : List UInt8 := [153, 0, 7, 4, 167, 0, 4, 3, 172]
abbrev dktX0_isHeap_1 : List UInt8 := dkwX0_isHeap_1 ++ []
def dkwX0_isHeap_0 : List UInt8 := [42, 180, 0, 93, 198, 0, 25, 27, 133, 9, 4, 42, 182, 0, 131, 120, 4, 100, 133, 184, 0, 15]
abbrev dktX0_isHeap_0 : List UInt8 := dkwX0_isHeap_0 ++ dktX0_isHeap_1
theorem dksX0_isHeap_0 : cX0_isHeap.data.toList.drop 0 = dktX0_isHeap_0 := by decide +kernel
theorem dksX0_isHeap_1 : cX0_isHeap.data.toList.drop 22 = dktX0_isHeap_1 := dk_seg dksX0_isHeap_0 22 rfl rfl
theorem dX0_isHeap_0 : decode cX0_isHeap 0 = .ok (.aload_n 0, 1) := dk_42 (dk_at dksX0_isHeap_0 0 rfl rfl)
theorem dX0_isHeap_1 : decode cX0_isHeap 1 = .ok (.getfield 93, 3) := dk_180 0 93 (dk_at dksX0_isHeap_0 1 rfl rfl)
theorem dX0_isHeap_4 : decode cX0_isHeap 4 = .ok (.ifnull 25, 3) := dk_198 0 25 (dk_at dksX0_isHeap_0 4 rfl rfl)
theorem dX0_isHeap_7 : decode cX0_isHeap 7 = .ok (.iload_n 1, 1) := dk_27 (dk_at dksX0_isHeap_0 7 rfl rfl)
theorem dX0_isHeap_8 : decode cX0_isHeap 8 = .ok (.i2l, 1) := dk_133 (dk_at dksX0_isHeap_0 8 rfl rfl)
theorem dX0_isHeap_9 : decode cX0_isHeap 9 = .ok (.lconst 0, 1) := dk_9 (dk_at dksX0_isHeap_0 9 rfl rfl)
theorem dX0_isHeap_10 : decode cX0_isHeap 10 = .ok (.iconst 1, 1) := dk_4 (dk_at dksX0_isHeap_0 10 rfl rfl)
theorem dX0_isHeap_11 : decode cX0_isHeap 11 = .ok (.aload_n 0, 1) := dk_42 (dk_at dksX0_isHeap_0 11 rfl rfl)
theorem dX0_isHeap_12 : decode cX0_isHeap 12 = .ok (.invokevirtual 131, 3) := dk_182 0 131 (dk_at dksX0_isHeap_0 12 rfl rfl)
theorem dX0_isHeap_15 : decode cX0_isHeap 15 = .ok (.ishl, 1) := dk_120 (dk_at dksX0_isHeap_0 15 rfl rfl)
theorem dX0_isHeap_16 : decode cX0_isHeap 16 = .ok (.iconst 1, 1) := dk_4 (dk_at dksX0_isHeap_0 16 rfl rfl)
theorem dX0_isHeap_17 : decode cX0_isHeap 17 = .ok (.isub, 1) := dk_100 (dk_at dksX0_isHeap_0 17 rfl rfl)
theorem dX0_isHeap_18 : decode cX0_isHeap 18 = .ok (.i2l, 1) := dk_133 (dk_at dksX0_isHeap_0 18 rfl rfl)
theorem dX0_isHeap_19 : decode cX0_isHeap 19 = .ok (.invokestatic 15, 3) := dk_184 0 15 (dk_at dksX0_isHeap_0 19 rfl rfl)
theorem dX0_isHeap_22 : decode cX0_isHeap 22 = .ok (.ifCond .eq 7, 3) := dk_153 0 7 (dk_at dksX0_isHeap_1 0 rfl rfl)
theorem dX0_isHeap_25 : decode cX0_isHeap 25 = .ok (.iconst 1, 1) := dk_4 (dk_at dksX0_isHeap_1 3 rfl rfl)
theorem dX0_isHeap_26 : decode cX0_isHeap 26 = .ok (.goto 4, 3) := dk_167 0 4 (dk_at dksX0_isHeap_1 4 rfl rfl)
theorem dX0_isHeap_29 : decode cX0_isHeap 29 = .ok (.iconst 0, 1) := dk_3 (dk_at dksX0_isHeap_1 7 rfl rfl)
theorem dX0_isHeap_30 : decode cX0_isHeap 30 = .ok (.ireturn, 1) := dk_172 (dk_at dksX0_isHeap_1 8 rfl rfl)
def dkwX0_have_0 : List UInt8 := [42, 27, 182, 0, 193, 154, 0, 5, 2, 172, 42, 27, 182, 0, 203, 61, 42, 180, 0, 94, 184, 0, 206, 172]
abbrev dktX0_have_0 : List UInt8 := dkwX0_have_0 ++ []
theorem dksX0_have_0 : cX0_have.data.toList.drop 0 = dktX0_have_0 := by decide +kernel
theorem dX0_have_0 : decode cX0_have 0 = .ok (.aload_n 0, 1) := dk_42 (dk_at dksX0_have_0 0 rfl rfl)
theorem dX0_have_1 : decode cX0_have 1 = .ok (.iload_n 1, 1) := dk_27 (dk_at dksX0_have_0 1 rfl rfl)
theorem dX0_have_2 : decode cX0_have 2 = .ok (.invokevirtual 193, 3) := dk_182 0 193 (dk_at dksX0_have_0 2 rfl rfl)
theorem dX0_have_5 : decode cX0_have 5 = .ok (.ifCond .ne 5, 3) := dk_154 0 5 (dk_at dksX0_have_0 5 rfl rfl)
theorem dX0_have_8 : decode cX0_have 8 = .ok (.iconst (-1), 1) := dk_2 (dk_at dksX0_have_0 8 rfl rfl)
theorem dX0_have_9 : decode cX0_have 9 = .ok (.ireturn, 1) := dk_172 (dk_at dksX0_have_0 9 rfl rfl)
theorem dX0_have_10 : decode cX0_have 10 = .ok (.aload_n 0, 1) := dk_42 (dk_at dksX0_have_0 10 rfl rfl)
theorem dX0_have_11 : decode cX0_have 11 = .ok (.iload_n 1, 1) := dk_27 (dk_at dksX0_have_0 11 rfl rfl)
theorem dX0_have_12 : decode cX0_have 12 = .ok (.invokevirtual 203, 3) := dk_182 0 203 (dk_at dksX0_have_0 12 rfl rfl)
theorem dX0_have_15 : decode cX0_have 15 = .ok (.istore_n 2, 1) := dk_61 (dk_at dksX0_have_0 15 rfl rfl)
theorem dX0_have_16 : decode cX0_have 16 = .ok (.aload_n 0, 1) := dk_42 (dk_at dksX0_have_0 16 rfl rfl)
theorem dX0_have_17 : decode cX0_have 17 = .ok (.getfield 94, 3) := dk_180 0 94 (dk_at dksX0_have_0 17 rfl rfl)
theorem dX0_have_20 : decode cX0_have 20 = .ok (.invokestatic 206, 3) := dk_184 0 206 (dk_at dksX0_have_0 20 rfl rfl)
theorem dX0_have_23 : decode cX0_have 23 = .ok (.ireturn, 1) := dk_172 (dk_at dksX0_have_0 23 rfl rfl)
def dkwX0_brings_1 : List UInt8 := [182, 0, 196, 181, 0, 94, 42, 180, 0, 93, 42, 180, 0, 94, 182, 0, 200, 28, 100, 172]
abbrev dktX0_brings_1 : List UInt8 := dkwX0_brings_1 ++ []
def dkwX0_brings_0 : List UInt8 := [42, 180, 0, 93, 42, 180, 0, 94, 182, 0, 200, 61, 42, 42, 180, 0, 93, 42, 180, 0, 94, 27, 128, 2]
abbrev dktX0_brings_0 : List UInt8 := dkwX0_brings_0 ++ dktX0_brings_1
theorem dksX0_brings_0 : cX0_brings.data.toList.drop 0 = dktX0_brings_0 := by decide +kernel
theorem dksX0_brings_1 : cX0_brings.data.toList.drop 24 = dktX0_brings_1 := dk_seg dksX0_brings_0 24 rfl rfl
theorem dX0_brings_0 : decode cX0_brings 0 = .ok (.aload_n 0, 1) := dk_42 (dk_at dksX0_brings_0 0 rfl rfl)
theorem dX0_brings_1 : decode cX0_brings 1 = .ok (.getfield 93, 3) := dk_180 0 93 (dk_at dksX0_brings_0 1 rfl rfl)
theorem dX0_brings_4 : decode cX0_brings 4 = .ok (.aload_n 0, 1) := dk_42 (dk_at dksX0_brings_0 4 rfl rfl)
theorem dX0_brings_5 : decode cX0_brings 5 = .ok (.getfield 94, 3) := dk_180 0 94 (dk_at dksX0_brings_0 5 rfl rfl)
theorem dX0_brings_8 : decode cX0_brings 8 = .ok (.invokevirtual 200, 3) := dk_182 0 200 (dk_at dksX0_brings_0 8 rfl rfl)
theorem dX0_brings_11 : decode cX0_brings 11 = .ok (.istore_n 2, 1) := dk_61 (dk_at dksX0_brings_0 11 rfl rfl)
theorem dX0_brings_12 : decode cX0_brings 12 = .ok (.aload_n 0, 1) := dk_42 (dk_at dksX0_brings_0 12 rfl rfl)
theorem dX0_brings_13 : decode cX0_brings 13 = .ok (.aload_n 0, 1) := dk_42 (dk_at dksX0_brings_0 13 rfl rfl)
theorem dX0_brings_14 : decode cX0_brings 14 = .ok (.getfield 93, 3) := dk_180 0 93 (dk_at dksX0_brings_0 14 rfl rfl)
theorem dX0_brings_17 : decode cX0_brings 17 = .ok (.aload_n 0, 1) := dk_42 (dk_at dksX0_brings_0 17 rfl rfl)
theorem dX0_brings_18 : decode cX0_brings 18 = .ok (.getfield 94, 3) := dk_180 0 94 (dk_at dksX0_brings_0 18 rfl rfl)
theorem dX0_brings_21 : decode cX0_brings 21 = .ok (.iload_n 1, 1) := dk_27 (dk_at dksX0_brings_0 21 rfl rfl)
theorem dX0_brings_22 : decode cX0_brings 22 = .ok (.ior, 1) := dk_128 (dk_at dksX0_brings_0 22 rfl rfl)
theorem dX0_brings_23 : decode cX0_brings 23 = .ok (.iconst (-1), 1) := dk_2 (dk_at dksX0_brings_0 23 rfl rfl)
theorem dX0_brings_24 : decode cX0_brings 24 = .ok (.invokevirtual 196, 3) := dk_182 0 196 (dk_at dksX0_brings_1 0 rfl rfl)
theorem dX0_brings_27 : decode cX0_brings 27 = .ok (.putfield 94, 3) := dk_181 0 94 (dk_at dksX0_brings_1 3 rfl rfl)
theorem dX0_brings_30 : decode cX0_brings 30 = .ok (.aload_n 0, 1) := dk_42 (dk_at dksX0_brings_1 6 rfl rfl)
theorem dX0_brings_31 : decode cX0_brings 31 = .ok (.getfield 93, 3) := dk_180 0 93 (dk_at dksX0_brings_1 7 rfl rfl)
theorem dX0_brings_34 : decode cX0_brings 34 = .ok (.aload_n 0, 1) := dk_42 (dk_at dksX0_brings_1 10 rfl rfl)
theorem dX0_brings_35 : decode cX0_brings 35 = .ok (.getfield 94, 3) := dk_180 0 94 (dk_at dksX0_brings_1 11 rfl rfl)
theorem dX0_brings_38 : decode cX0_brings 38 = .ok (.invokevirtual 200, 3) := dk_182 0 200 (dk_at dksX0_brings_1 14 rfl rfl)
theorem dX0_brings_41 : decode cX0_brings 41 = .ok (.iload_n 2, 1) := dk_28 (dk_at dksX0_brings_1 17 rfl rfl)
theorem dX0_brings_42 : decode cX0_brings 42 = .ok (.isub, 1) := dk_100 (dk_at dksX0_brings_1 18 rfl rfl)
theorem dX0_brings_43 : decode cX0_brings 43 = .ok (.ireturn, 1) := dk_172 (dk_at dksX0_brings_1 19 rfl rfl)
def dkwX0_seed_0 : List UInt8 := [27, 133, 9, 20, 0, 219, 184, 0, 15, 154, 0, 5, 3, 172, 42, 27, 133, 181, 0, 103, 4, 172]
abbrev dktX0_seed_0 : List UInt8 := dkwX0_seed_0 ++ []
theorem dksX0_seed_0 : cX0_seed.data.toList.drop 0 = dktX0_seed_0 := by decide +kernel
theorem dX0_seed_0 : decode cX0_seed 0 = .ok (.iload_n 1, 1) := dk_27 (dk_at dksX0_seed_0 0 rfl rfl)
theorem dX0_seed_1 : decode cX0_seed 1 = .ok (.i2l, 1) := dk_133 (dk_at dksX0_seed_0 1 rfl rfl)
theorem dX0_seed_2 : decode cX0_seed 2 = .ok (.lconst 0, 1) := dk_9 (dk_at dksX0_seed_0 2 rfl rfl)
theorem dX0_seed_3 : decode cX0_seed 3 = .ok (.ldc2_w 219, 3) := dk_20 0 219 (dk_at dksX0_seed_0 3 rfl rfl)
theorem dX0_seed_6 : decode cX0_seed 6 = .ok (.invokestatic 15, 3) := dk_184 0 15 (dk_at dksX0_seed_0 6 rfl rfl)
theorem dX0_seed_9 : decode cX0_seed 9 = .ok (.ifCond .ne 5, 3) := dk_154 0 5 (dk_at dksX0_seed_0 9 rfl rfl)
theorem dX0_seed_12 : decode cX0_seed 12 = .ok (.iconst 0, 1) := dk_3 (dk_at dksX0_seed_0 12 rfl rfl)
theorem dX0_seed_13 : decode cX0_seed 13 = .ok (.ireturn, 1) := dk_172 (dk_at dksX0_seed_0 13 rfl rfl)
theorem dX0_seed_14 : decode cX0_seed 14 = .ok (.aload_n 0, 1) := dk_42 (dk_at dksX0_seed_0 14 rfl rfl)
theorem dX0_seed_15 : decode cX0_seed 15 = .ok (.iload_n 1, 1) := dk_27 (dk_at dksX0_seed_0 15 rfl rfl)
theorem dX0_seed_16 : decode cX0_seed 16 = .ok (.i2l, 1) := dk_133 (dk_at dksX0_seed_0 16 rfl rfl)
theorem dX0_seed_17 : decode cX0_seed 17 = .ok (.putfield 103, 3) := dk_181 0 103 (dk_at dksX0_seed_0 17 rfl rfl)
theorem dX0_seed_20 : decode cX0_seed 20 = .ok (.iconst 1, 1) := dk_4 (dk_at dksX0_seed_0 20 rfl rfl)
theorem dX0_seed_21 : decode cX0_seed 21 = .ok (.ireturn, 1) := dk_172 (dk_at dksX0_seed_0 21 rfl rfl)
def dkwX0_rest_1 : List UInt8 := [182, 0, 229, 42, 180, 0, 97, 172]
abbrev dktX0_rest_1 : List UInt8 := dkwX0_rest_1 ++ []
def dkwX0_rest_0 : List UInt8 := [42, 180, 0, 93, 198, 0, 15, 27, 133, 10, 20, 0, 227, 184, 0, 15, 154, 0, 5, 2, 172, 42, 27]
abbrev dktX0_rest_0 : List UInt8 := dkwX0_rest_0 ++ dktX0_rest_1
theorem dksX0_rest_0 : cX0_rest.data.toList.drop 0 = dktX0_rest_0 := by decide +kernel
theorem dksX0_rest_1 : cX0_rest.data.toList.drop 23 = dktX0_rest_1 := dk_seg dksX0_rest_0 23 rfl rfl
theorem dX0_rest_0 : decode cX0_rest 0 = .ok (.aload_n 0, 1) := dk_42 (dk_at dksX0_rest_0 0 rfl rfl)
theorem dX0_rest_1 : decode cX0_rest 1 = .ok (.getfield 93, 3) := dk_180 0 93 (dk_at dksX0_rest_0 1 rfl rfl)
theorem dX0_rest_4 : decode cX0_rest 4 = .ok (.ifnull 15, 3) := dk_198 0 15 (dk_at dksX0_rest_0 4 rfl rfl)
theorem dX0_rest_7 : decode cX0_rest 7 = .ok (.iload_n 1, 1) := dk_27 (dk_at dksX0_rest_0 7 rfl rfl)
theorem dX0_rest_8 : decode cX0_rest 8 = .ok (.i2l, 1) := dk_133 (dk_at dksX0_rest_0 8 rfl rfl)
theorem dX0_rest_9 : decode cX0_rest 9 = .ok (.lconst 1, 1) := dk_10 (dk_at dksX0_rest_0 9 rfl rfl)
theorem dX0_rest_10 : decode cX0_rest 10 = .ok (.ldc2_w 227, 3) := dk_20 0 227 (dk_at dksX0_rest_0 10 rfl rfl)
theorem dX0_rest_13 : decode cX0_rest 13 = .ok (.invokestatic 15, 3) := dk_184 0 15 (dk_at dksX0_rest_0 13 rfl rfl)
theorem dX0_rest_16 : decode cX0_rest 16 = .ok (.ifCond .ne 5, 3) := dk_154 0 5 (dk_at dksX0_rest_0 16 rfl rfl)
theorem dX0_rest_19 : decode cX0_rest 19 = .ok (.iconst (-1), 1) := dk_2 (dk_at dksX0_rest_0 19 rfl rfl)
theorem dX0_rest_20 : decode cX0_rest 20 = .ok (.ireturn, 1) := dk_172 (dk_at dksX0_rest_0 20 rfl rfl)
theorem dX0_rest_21 : decode cX0_rest 21 = .ok (.aload_n 0, 1) := dk_42 (dk_at dksX0_rest_0 21 rfl rfl)
theorem dX0_rest_22 : decode cX0_rest 22 = .ok (.iload_n 1, 1) := dk_27 (dk_at dksX0_rest_0 22 rfl rfl)
theorem dX0_rest_23 : decode cX0_rest 23 = .ok (.invokevirtual 229, 3) := dk_182 0 229 (dk_at dksX0_rest_1 0 rfl rfl)
theorem dX0_rest_26 : decode cX0_rest 26 = .ok (.aload_n 0, 1) := dk_42 (dk_at dksX0_rest_1 3 rfl rfl)
theorem dX0_rest_27 : decode cX0_rest 27 = .ok (.getfield 97, 3) := dk_180 0 97 (dk_at dksX0_rest_1 4 rfl rfl)
theorem dX0_rest_30 : decode cX0_rest 30 = .ok (.ireturn, 1) := dk_172 (dk_at dksX0_rest_1 7 rfl rfl)
def dkwX0_passes_5 : List UInt8 := [167, 255, 180, 177]
abbrev dktX0_passes_5 : List UInt8 := dkwX0_passes_5 ++ []
def dkwX0_passes_4 : List UInt8 := [180, 0, 175, 162, 0, 7, 4, 167, 0, 4, 3, 181, 0, 178, 132, 4, 1, 167, 255, 194, 132, 3, 1]
abbrev dktX0_passes_4 : List UInt8 := dkwX0_passes_4 ++ dktX0_passes_5
def dkwX0_passes_3 : List UInt8 := [180, 0, 178, 153, 0, 35, 42, 21, 4, 182, 0, 171, 42, 16, 16, 182, 0, 224, 42, 21, 4, 182, 0, 171]
abbrev dktX0_passes_3 : List UInt8 := dkwX0_passes_3 ++ dktX0_passes_4
def dkwX0_passes_2 : List UInt8 := [54, 4, 21, 4, 42, 180, 0, 93, 180, 0, 134, 182, 0, 126, 162, 0, 53, 42, 21, 4, 182, 0, 171]
abbrev dktX0_passes_2 : List UInt8 := dkwX0_passes_2 ++ dktX0_passes_3
def dkwX0_passes_1 : List UInt8 := [180, 0, 221, 108, 100, 61, 42, 89, 180, 0, 97, 27, 96, 181, 0, 97, 3, 62, 29, 28, 162, 0, 77, 3]
abbrev dktX0_passes_1 : List UInt8 := dkwX0_passes_1 ++ dktX0_passes_2
def dkwX0_passes_0 : List UInt8 := [42, 180, 0, 97, 27, 96, 42, 180, 0, 93, 180, 0, 221, 108, 42, 180, 0, 97, 42, 180, 0, 93]
abbrev dktX0_passes_0 : List UInt8 := dkwX0_passes_0 ++ dktX0_passes_1
theorem dksX0_passes_0 : cX0_passes.data.toList.drop 0 = dktX0_passes_0 := by decide +kernel
theorem dksX0_passes_1 : cX0_passes.data.toList.drop 22 = dktX0_passes_1 := dk_seg dksX0_passes_0 22 rfl rfl
theorem dksX0_passes_2 : cX0_passes.data.toList.drop 46 = dktX0_passes_2 := dk_seg dksX0_passes_1 24 rfl rfl
theorem dksX0_passes_3 : cX0_passes.data.toList.drop 69 = dktX0_passes_3 := dk_seg dksX0_passes_2 23 rfl rfl
theorem dksX0_passes_4 : cX0_passes.data.toList.drop 93 = dktX0_passes_4 := dk_seg dksX0_passes_3 24 rfl rfl
theorem dksX0_passes_5 : cX0_passes.data.toList.drop 116 = dktX0_passes_5 := dk_seg dksX0_passes_4 23 rfl rfl
theorem dX0_passes_0 : decode cX0_passes 0 = .ok (.aload_n 0, 1) := dk_42 (dk_at dksX0_passes_0 0 rfl rfl)
theorem dX0_passes_1 : decode cX0_passes 1 = .ok (.getfield 97, 3) := dk_180 0 97 (dk_at dksX0_passes_0 1 rfl rfl)
theorem dX0_passes_4 : decode cX0_passes 4 = .ok (.iload_n 1, 1) := dk_27 (dk_at dksX0_passes_0 4 rfl rfl)
theorem dX0_passes_5 : decode cX0_passes 5 = .ok (.iadd, 1) := dk_96 (dk_at dksX0_passes_0 5 rfl rfl)
theorem dX0_passes_6 : decode cX0_passes 6 = .ok (.aload_n 0, 1) := dk_42 (dk_at dksX0_passes_0 6 rfl rfl)
theorem dX0_passes_7 : decode cX0_passes 7 = .ok (.getfield 93, 3) := dk_180 0 93 (dk_at dksX0_passes_0 7 rfl rfl)
theorem dX0_passes_10 : decode cX0_passes 10 = .ok (.getfield 221, 3) := dk_180 0 221 (dk_at dksX0_passes_0 10 rfl rfl)
theorem dX0_passes_13 : decode cX0_passes 13 = .ok (.idiv, 1) := dk_108 (dk_at dksX0_passes_0 13 rfl rfl)
theorem dX0_passes_14 : decode cX0_passes 14 = .ok (.aload_n 0, 1) := dk_42 (dk_at dksX0_passes_0 14 rfl rfl)
theorem dX0_passes_15 : decode cX0_passes 15 = .ok (.getfield 97, 3) := dk_180 0 97 (dk_at dksX0_passes_0 15 rfl rfl)
theorem dX0_passes_18 : decode cX0_passes 18 = .ok (.aload_n 0, 1) := dk_42 (dk_at dksX0_passes_0 18 rfl rfl)
theorem dX0_passes_19 : decode cX0_passes 19 = .ok (.getfield 93, 3) := dk_180 0 93 (dk_at dksX0_passes_0 19 rfl rfl)
theorem dX0_passes_22 : decode cX0_passes 22 = .ok (.getfield 221, 3) := dk_180 0 221 (dk_at dksX0_passes_1 0 rfl rfl)
theorem dX0_passes_25 : decode cX0_passes 25 = .ok (.idiv, 1) := dk_108 (dk_at dksX0_passes_1 3 rfl rfl)
theorem dX0_passes_26 : decode cX0_passes 26 = .ok (.isub, 1) := dk_100 (dk_at dksX0_passes_1 4 rfl rfl)
theorem dX0_passes_27 : decode cX0_passes 27 = .ok (.istore_n 2, 1) := dk_61 (dk_at dksX0_passes_1 5 rfl rfl)
theorem dX0_passes_28 : decode cX0_passes 28 = .ok (.aload_n 0, 1) := dk_42 (dk_at dksX0_passes_1 6 rfl rfl)
theorem dX0_passes_29 : decode cX0_passes 29 = .ok (.dup, 1) := dk_89 (dk_at dksX0_passes_1 7 rfl rfl)
theorem dX0_passes_30 : decode cX0_passes 30 = .ok (.getfield 97, 3) := dk_180 0 97 (dk_at dksX0_passes_1 8 rfl rfl)
theorem dX0_passes_33 : decode cX0_passes 33 = .ok (.iload_n 1, 1) := dk_27 (dk_at dksX0_passes_1 11 rfl rfl)
theorem dX0_passes_34 : decode cX0_passes 34 = .ok (.iadd, 1) := dk_96 (dk_at dksX0_passes_1 12 rfl rfl)
theorem dX0_passes_35 : decode cX0_passes 35 = .ok (.putfield 97, 3) := dk_181 0 97 (dk_at dksX0_passes_1 13 rfl rfl)
theorem dX0_passes_38 : decode cX0_passes 38 = .ok (.iconst 0, 1) := dk_3 (dk_at dksX0_passes_1 16 rfl rfl)
theorem dX0_passes_39 : decode cX0_passes 39 = .ok (.istore_n 3, 1) := dk_62 (dk_at dksX0_passes_1 17 rfl rfl)
theorem dX0_passes_40 : decode cX0_passes 40 = .ok (.iload_n 3, 1) := dk_29 (dk_at dksX0_passes_1 18 rfl rfl)
theorem dX0_passes_41 : decode cX0_passes 41 = .ok (.iload_n 2, 1) := dk_28 (dk_at dksX0_passes_1 19 rfl rfl)
theorem dX0_passes_42 : decode cX0_passes 42 = .ok (.if_icmp .ge 77, 3) := dk_162 0 77 (dk_at dksX0_passes_1 20 rfl rfl)
theorem dX0_passes_45 : decode cX0_passes 45 = .ok (.iconst 0, 1) := dk_3 (dk_at dksX0_passes_1 23 rfl rfl)
theorem dX0_passes_46 : decode cX0_passes 46 = .ok (.istore 4, 2) := dk_54 4 (dk_at dksX0_passes_2 0 rfl rfl)
theorem dX0_passes_48 : decode cX0_passes 48 = .ok (.iload 4, 2) := dk_21 4 (dk_at dksX0_passes_2 2 rfl rfl)
theorem dX0_passes_50 : decode cX0_passes 50 = .ok (.aload_n 0, 1) := dk_42 (dk_at dksX0_passes_2 4 rfl rfl)
theorem dX0_passes_51 : decode cX0_passes 51 = .ok (.getfield 93, 3) := dk_180 0 93 (dk_at dksX0_passes_2 5 rfl rfl)
theorem dX0_passes_54 : decode cX0_passes 54 = .ok (.getfield 134, 3) := dk_180 0 134 (dk_at dksX0_passes_2 8 rfl rfl)
theorem dX0_passes_57 : decode cX0_passes 57 = .ok (.invokevirtual 126, 3) := dk_182 0 126 (dk_at dksX0_passes_2 11 rfl rfl)
theorem dX0_passes_60 : decode cX0_passes 60 = .ok (.if_icmp .ge 53, 3) := dk_162 0 53 (dk_at dksX0_passes_2 14 rfl rfl)
theorem dX0_passes_63 : decode cX0_passes 63 = .ok (.aload_n 0, 1) := dk_42 (dk_at dksX0_passes_2 17 rfl rfl)
theorem dX0_passes_64 : decode cX0_passes 64 = .ok (.iload 4, 2) := dk_21 4 (dk_at dksX0_passes_2 18 rfl rfl)
theorem dX0_passes_66 : decode cX0_passes 66 = .ok (.invokevirtual 171, 3) := dk_182 0 171 (dk_at dksX0_passes_2 20 rfl rfl)
theorem dX0_passes_69 : decode cX0_passes 69 = .ok (.getfield 178, 3) := dk_180 0 178 (dk_at dksX0_passes_3 0 rfl rfl)
theorem dX0_passes_72 : decode cX0_passes 72 = .ok (.ifCond .eq 35, 3) := dk_153 0 35 (dk_at dksX0_passes_3 3 rfl rfl)
theorem dX0_passes_75 : decode cX0_passes 75 = .ok (.aload_n 0, 1) := dk_42 (dk_at dksX0_passes_3 6 rfl rfl)
theorem dX0_passes_76 : decode cX0_passes 76 = .ok (.iload 4, 2) := dk_21 4 (dk_at dksX0_passes_3 7 rfl rfl)
theorem dX0_passes_78 : decode cX0_passes 78 = .ok (.invokevirtual 171, 3) := dk_182 0 171 (dk_at dksX0_passes_3 9 rfl rfl)
theorem dX0_passes_81 : decode cX0_passes 81 = .ok (.aload_n 0, 1) := dk_42 (dk_at dksX0_passes_3 12 rfl rfl)
theorem dX0_passes_82 : decode cX0_passes 82 = .ok (.bipush 16, 2) := dk_16 16 (dk_at dksX0_passes_3 13 rfl rfl)
theorem dX0_passes_84 : decode cX0_passes 84 = .ok (.invokevirtual 224, 3) := dk_182 0 224 (dk_at dksX0_passes_3 15 rfl rfl)
theorem dX0_passes_87 : decode cX0_passes 87 = .ok (.aload_n 0, 1) := dk_42 (dk_at dksX0_passes_3 18 rfl rfl)
theorem dX0_passes_88 : decode cX0_passes 88 = .ok (.iload 4, 2) := dk_21 4 (dk_at dksX0_passes_3 19 rfl rfl)
theorem dX0_passes_90 : decode cX0_passes 90 = .ok (.invokevirtual 171, 3) := dk_182 0 171 (dk_at dksX0_passes_3 21 rfl rfl)
theorem dX0_passes_93 : decode cX0_passes 93 = .ok (.getfield 175, 3) := dk_180 0 175 (dk_at dksX0_passes_4 0 rfl rfl)
theorem dX0_passes_96 : decode cX0_passes 96 = .ok (.if_icmp .ge 7, 3) := dk_162 0 7 (dk_at dksX0_passes_4 3 rfl rfl)
theorem dX0_passes_99 : decode cX0_passes 99 = .ok (.iconst 1, 1) := dk_4 (dk_at dksX0_passes_4 6 rfl rfl)
theorem dX0_passes_100 : decode cX0_passes 100 = .ok (.goto 4, 3) := dk_167 0 4 (dk_at dksX0_passes_4 7 rfl rfl)
theorem dX0_passes_103 : decode cX0_passes 103 = .ok (.iconst 0, 1) := dk_3 (dk_at dksX0_passes_4 10 rfl rfl)
theorem dX0_passes_104 : decode cX0_passes 104 = .ok (.putfield 178, 3) := dk_181 0 178 (dk_at dksX0_passes_4 11 rfl rfl)
theorem dX0_passes_107 : decode cX0_passes 107 = .ok (.iinc 4 1, 3) := dk_132 4 1 (dk_at dksX0_passes_4 14 rfl rfl)
theorem dX0_passes_110 : decode cX0_passes 110 = .ok (.goto (-62), 3) := dk_167 255 194 (dk_at dksX0_passes_4 17 rfl rfl)
theorem dX0_passes_113 : decode cX0_passes 113 = .ok (.iinc 3 1, 3) := dk_132 3 1 (dk_at dksX0_passes_4 20 rfl rfl)
theorem dX0_passes_116 : decode cX0_passes 116 = .ok (.goto (-76), 3) := dk_167 255 180 (dk_at dksX0_passes_5 0 rfl rfl)
theorem dX0_passes_119 : decode cX0_passes 119 = .ok (.return_, 1) := dk_177 (dk_at dksX0_passes_5 3 rfl rfl)
def dkwX0_lot_1 : List UInt8 := [20, 0, 217, 109, 27, 133, 113, 136, 172]
abbrev dktX0_lot_1 : List UInt8 := dkwX0_lot_1 ++ []
def dkwX0_lot_0 : List UInt8 := [42, 42, 180, 0, 103, 20, 0, 211, 105, 20, 0, 213, 97, 20, 0, 215, 127, 181, 0, 103, 42, 180, 0, 103]
abbrev dktX0_lot_0 : List UInt8 := dkwX0_lot_0 ++ dktX0_lot_1
theorem dksX0_lot_0 : cX0_lot.data.toList.drop 0 = dktX0_lot_0 := by decide +kernel
theorem dksX0_lot_1 : cX0_lot.data.toList.drop 24 = dktX0_lot_1 := dk_seg dksX0_lot_0 24 rfl rfl
theorem dX0_lot_0 : decode cX0_lot 0 = .ok (.aload_n 0, 1) := dk_42 (dk_at dksX0_lot_0 0 rfl rfl)
theorem dX0_lot_1 : decode cX0_lot 1 = .ok (.aload_n 0, 1) := dk_42 (dk_at dksX0_lot_0 1 rfl rfl)
theorem dX0_lot_2 : decode cX0_lot 2 = .ok (.getfield 103, 3) := dk_180 0 103 (dk_at dksX0_lot_0 2 rfl rfl)
theorem dX0_lot_5 : decode cX0_lot 5 = .ok (.ldc2_w 211, 3) := dk_20 0 211 (dk_at dksX0_lot_0 5 rfl rfl)
theorem dX0_lot_8 : decode cX0_lot 8 = .ok (.lmul, 1) := dk_105 (dk_at dksX0_lot_0 8 rfl rfl)
theorem dX0_lot_9 : decode cX0_lot 9 = .ok (.ldc2_w 213, 3) := dk_20 0 213 (dk_at dksX0_lot_0 9 rfl rfl)
theorem dX0_lot_12 : decode cX0_lot 12 = .ok (.ladd, 1) := dk_97 (dk_at dksX0_lot_0 12 rfl rfl)
theorem dX0_lot_13 : decode cX0_lot 13 = .ok (.ldc2_w 215, 3) := dk_20 0 215 (dk_at dksX0_lot_0 13 rfl rfl)
theorem dX0_lot_16 : decode cX0_lot 16 = .ok (.land, 1) := dk_127 (dk_at dksX0_lot_0 16 rfl rfl)
theorem dX0_lot_17 : decode cX0_lot 17 = .ok (.putfield 103, 3) := dk_181 0 103 (dk_at dksX0_lot_0 17 rfl rfl)
theorem dX0_lot_20 : decode cX0_lot 20 = .ok (.aload_n 0, 1) := dk_42 (dk_at dksX0_lot_0 20 rfl rfl)
theorem dX0_lot_21 : decode cX0_lot 21 = .ok (.getfield 103, 3) := dk_180 0 103 (dk_at dksX0_lot_0 21 rfl rfl)
theorem dX0_lot_24 : decode cX0_lot 24 = .ok (.ldc2_w 217, 3) := dk_20 0 217 (dk_at dksX0_lot_1 0 rfl rfl)
theorem dX0_lot_27 : decode cX0_lot 27 = .ok (.ldiv, 1) := dk_109 (dk_at dksX0_lot_1 3 rfl rfl)
theorem dX0_lot_28 : decode cX0_lot 28 = .ok (.iload_n 1, 1) := dk_27 (dk_at dksX0_lot_1 4 rfl rfl)
theorem dX0_lot_29 : decode cX0_lot 29 = .ok (.i2l, 1) := dk_133 (dk_at dksX0_lot_1 5 rfl rfl)
theorem dX0_lot_30 : decode cX0_lot 30 = .ok (.lrem, 1) := dk_113 (dk_at dksX0_lot_1 6 rfl rfl)
theorem dX0_lot_31 : decode cX0_lot 31 = .ok (.l2i, 1) := dk_136 (dk_at dksX0_lot_1 7 rfl rfl)
theorem dX0_lot_32 : decode cX0_lot 32 = .ok (.ireturn, 1) := dk_172 (dk_at dksX0_lot_1 8 rfl rfl)
def dkwX0_may_1 : List UInt8 := [153, 0, 7, 4, 167, 0, 8, 3, 167, 0, 4, 2, 172]
abbrev dktX0_may_1 : List UInt8 := dkwX0_may_1 ++ []
def dkwX0_may_0 : List UInt8 := [42, 27, 182, 0, 168, 153, 0, 28, 42, 28, 182, 0, 145, 153, 0, 20, 42, 27, 28, 182, 0, 236]
abbrev dktX0_may_0 : List UInt8 := dkwX0_may_0 ++ dktX0_may_1
theorem dksX0_may_0 : cX0_may.data.toList.drop 0 = dktX0_may_0 := by decide +kernel
theorem dksX0_may_1 : cX0_may.data.toList.drop 22 = dktX0_may_1 := dk_seg dksX0_may_0 22 rfl rfl
theorem dX0_may_0 : decode cX0_may 0 = .ok (.aload_n 0, 1) := dk_42 (dk_at dksX0_may_0 0 rfl rfl)
theorem dX0_may_1 : decode cX0_may 1 = .ok (.iload_n 1, 1) := dk_27 (dk_at dksX0_may_0 1 rfl rfl)
theorem dX0_may_2 : decode cX0_may 2 = .ok (.invokevirtual 168, 3) := dk_182 0 168 (dk_at dksX0_may_0 2 rfl rfl)
theorem dX0_may_5 : decode cX0_may 5 = .ok (.ifCond .eq 28, 3) := dk_153 0 28 (dk_at dksX0_may_0 5 rfl rfl)
theorem dX0_may_8 : decode cX0_may 8 = .ok (.aload_n 0, 1) := dk_42 (dk_at dksX0_may_0 8 rfl rfl)
theorem dX0_may_9 : decode cX0_may 9 = .ok (.iload_n 2, 1) := dk_28 (dk_at dksX0_may_0 9 rfl rfl)
theorem dX0_may_10 : decode cX0_may 10 = .ok (.invokevirtual 145, 3) := dk_182 0 145 (dk_at dksX0_may_0 10 rfl rfl)
theorem dX0_may_13 : decode cX0_may 13 = .ok (.ifCond .eq 20, 3) := dk_153 0 20 (dk_at dksX0_may_0 13 rfl rfl)
theorem dX0_may_16 : decode cX0_may 16 = .ok (.aload_n 0, 1) := dk_42 (dk_at dksX0_may_0 16 rfl rfl)
theorem dX0_may_17 : decode cX0_may 17 = .ok (.iload_n 1, 1) := dk_27 (dk_at dksX0_may_0 17 rfl rfl)
theorem dX0_may_18 : decode cX0_may 18 = .ok (.iload_n 2, 1) := dk_28 (dk_at dksX0_may_0 18 rfl rfl)
theorem dX0_may_19 : decode cX0_may 19 = .ok (.invokevirtual 236, 3) := dk_182 0 236 (dk_at dksX0_may_0 19 rfl rfl)
theorem dX0_may_22 : decode cX0_may 22 = .ok (.ifCond .eq 7, 3) := dk_153 0 7 (dk_at dksX0_may_1 0 rfl rfl)
theorem dX0_may_25 : decode cX0_may 25 = .ok (.iconst 1, 1) := dk_4 (dk_at dksX0_may_1 3 rfl rfl)
theorem dX0_may_26 : decode cX0_may 26 = .ok (.goto 8, 3) := dk_167 0 8 (dk_at dksX0_may_1 4 rfl rfl)
theorem dX0_may_29 : decode cX0_may 29 = .ok (.iconst 0, 1) := dk_3 (dk_at dksX0_may_1 7 rfl rfl)
theorem dX0_may_30 : decode cX0_may 30 = .ok (.goto 4, 3) := dk_167 0 4 (dk_at dksX0_may_1 8 rfl rfl)
theorem dX0_may_33 : decode cX0_may 33 = .ok (.iconst (-1), 1) := dk_2 (dk_at dksX0_may_1 11 rfl rfl)
theorem dX0_may_34 : decode cX0_may 34 = .ok (.ireturn, 1) := dk_172 (dk_at dksX0_may_1 12 rfl rfl)
def dkwX0_mayNow_2 : List UInt8 := [180, 0, 190, 28, 46, 161, 0, 7, 4, 167, 0, 4, 3, 172]
abbrev dktX0_mayNow_2 : List UInt8 := dkwX0_mayNow_2 ++ []
def dkwX0_mayNow_1 : List UInt8 := [182, 0, 165, 154, 0, 32, 42, 28, 42, 180, 0, 94, 182, 0, 232, 153, 0, 20, 45, 180, 0, 181, 45]
abbrev dktX0_mayNow_1 : List UInt8 := dkwX0_mayNow_1 ++ dktX0_mayNow_2
def dkwX0_mayNow_0 : List UInt8 := [42, 27, 182, 0, 171, 78, 45, 180, 0, 178, 153, 0, 48, 45, 28, 182, 0, 187, 153, 0, 40, 42, 28]
abbrev dktX0_mayNow_0 : List UInt8 := dkwX0_mayNow_0 ++ dktX0_mayNow_1
theorem dksX0_mayNow_0 : cX0_mayNow.data.toList.drop 0 = dktX0_mayNow_0 := by decide +kernel
theorem dksX0_mayNow_1 : cX0_mayNow.data.toList.drop 23 = dktX0_mayNow_1 := dk_seg dksX0_mayNow_0 23 rfl rfl
theorem dksX0_mayNow_2 : cX0_mayNow.data.toList.drop 46 = dktX0_mayNow_2 := dk_seg dksX0_mayNow_1 23 rfl rfl
theorem dX0_mayNow_0 : decode cX0_mayNow 0 = .ok (.aload_n 0, 1) := dk_42 (dk_at dksX0_mayNow_0 0 rfl rfl)
theorem dX0_mayNow_1 : decode cX0_mayNow 1 = .ok (.iload_n 1, 1) := dk_27 (dk_at dksX0_mayNow_0 1 rfl rfl)
theorem dX0_mayNow_2 : decode cX0_mayNow 2 = .ok (.invokevirtual 171, 3) := dk_182 0 171 (dk_at dksX0_mayNow_0 2 rfl rfl)
theorem dX0_mayNow_5 : decode cX0_mayNow 5 = .ok (.astore_n 3, 1) := dk_78 (dk_at dksX0_mayNow_0 5 rfl rfl)
theorem dX0_mayNow_6 : decode cX0_mayNow 6 = .ok (.aload_n 3, 1) := dk_45 (dk_at dksX0_mayNow_0 6 rfl rfl)
theorem dX0_mayNow_7 : decode cX0_mayNow 7 = .ok (.getfield 178, 3) := dk_180 0 178 (dk_at dksX0_mayNow_0 7 rfl rfl)
theorem dX0_mayNow_10 : decode cX0_mayNow 10 = .ok (.ifCond .eq 48, 3) := dk_153 0 48 (dk_at dksX0_mayNow_0 10 rfl rfl)
theorem dX0_mayNow_13 : decode cX0_mayNow 13 = .ok (.aload_n 3, 1) := dk_45 (dk_at dksX0_mayNow_0 13 rfl rfl)
theorem dX0_mayNow_14 : decode cX0_mayNow 14 = .ok (.iload_n 2, 1) := dk_28 (dk_at dksX0_mayNow_0 14 rfl rfl)
theorem dX0_mayNow_15 : decode cX0_mayNow 15 = .ok (.invokevirtual 187, 3) := dk_182 0 187 (dk_at dksX0_mayNow_0 15 rfl rfl)
theorem dX0_mayNow_18 : decode cX0_mayNow 18 = .ok (.ifCond .eq 40, 3) := dk_153 0 40 (dk_at dksX0_mayNow_0 18 rfl rfl)
theorem dX0_mayNow_21 : decode cX0_mayNow 21 = .ok (.aload_n 0, 1) := dk_42 (dk_at dksX0_mayNow_0 21 rfl rfl)
theorem dX0_mayNow_22 : decode cX0_mayNow 22 = .ok (.iload_n 2, 1) := dk_28 (dk_at dksX0_mayNow_0 22 rfl rfl)
theorem dX0_mayNow_23 : decode cX0_mayNow 23 = .ok (.invokevirtual 165, 3) := dk_182 0 165 (dk_at dksX0_mayNow_1 0 rfl rfl)
theorem dX0_mayNow_26 : decode cX0_mayNow 26 = .ok (.ifCond .ne 32, 3) := dk_154 0 32 (dk_at dksX0_mayNow_1 3 rfl rfl)
theorem dX0_mayNow_29 : decode cX0_mayNow 29 = .ok (.aload_n 0, 1) := dk_42 (dk_at dksX0_mayNow_1 6 rfl rfl)
theorem dX0_mayNow_30 : decode cX0_mayNow 30 = .ok (.iload_n 2, 1) := dk_28 (dk_at dksX0_mayNow_1 7 rfl rfl)
theorem dX0_mayNow_31 : decode cX0_mayNow 31 = .ok (.aload_n 0, 1) := dk_42 (dk_at dksX0_mayNow_1 8 rfl rfl)
theorem dX0_mayNow_32 : decode cX0_mayNow 32 = .ok (.getfield 94, 3) := dk_180 0 94 (dk_at dksX0_mayNow_1 9 rfl rfl)
theorem dX0_mayNow_35 : decode cX0_mayNow 35 = .ok (.invokevirtual 232, 3) := dk_182 0 232 (dk_at dksX0_mayNow_1 12 rfl rfl)
theorem dX0_mayNow_38 : decode cX0_mayNow 38 = .ok (.ifCond .eq 20, 3) := dk_153 0 20 (dk_at dksX0_mayNow_1 15 rfl rfl)
theorem dX0_mayNow_41 : decode cX0_mayNow 41 = .ok (.aload_n 3, 1) := dk_45 (dk_at dksX0_mayNow_1 18 rfl rfl)
theorem dX0_mayNow_42 : decode cX0_mayNow 42 = .ok (.getfield 181, 3) := dk_180 0 181 (dk_at dksX0_mayNow_1 19 rfl rfl)
theorem dX0_mayNow_45 : decode cX0_mayNow 45 = .ok (.aload_n 3, 1) := dk_45 (dk_at dksX0_mayNow_1 22 rfl rfl)
theorem dX0_mayNow_46 : decode cX0_mayNow 46 = .ok (.getfield 190, 3) := dk_180 0 190 (dk_at dksX0_mayNow_2 0 rfl rfl)
theorem dX0_mayNow_49 : decode cX0_mayNow 49 = .ok (.iload_n 2, 1) := dk_28 (dk_at dksX0_mayNow_2 3 rfl rfl)
theorem dX0_mayNow_50 : decode cX0_mayNow 50 = .ok (.iaload, 1) := dk_46 (dk_at dksX0_mayNow_2 4 rfl rfl)
theorem dX0_mayNow_51 : decode cX0_mayNow 51 = .ok (.if_icmp .lt 7, 3) := dk_161 0 7 (dk_at dksX0_mayNow_2 5 rfl rfl)
theorem dX0_mayNow_54 : decode cX0_mayNow 54 = .ok (.iconst 1, 1) := dk_4 (dk_at dksX0_mayNow_2 8 rfl rfl)
theorem dX0_mayNow_55 : decode cX0_mayNow 55 = .ok (.goto 4, 3) := dk_167 0 4 (dk_at dksX0_mayNow_2 9 rfl rfl)
theorem dX0_mayNow_58 : decode cX0_mayNow 58 = .ok (.iconst 0, 1) := dk_3 (dk_at dksX0_mayNow_2 12 rfl rfl)
theorem dX0_mayNow_59 : decode cX0_mayNow 59 = .ok (.ireturn, 1) := dk_172 (dk_at dksX0_mayNow_2 13 rfl rfl)
def dkwX0_canLean_0 : List UInt8 := [42, 27, 182, 0, 149, 180, 0, 159, 28, 2, 130, 126, 154, 0, 7, 4, 167, 0, 4, 3, 172]
abbrev dktX0_canLean_0 : List UInt8 := dkwX0_canLean_0 ++ []
theorem dksX0_canLean_0 : cX0_canLean.data.toList.drop 0 = dktX0_canLean_0 := by decide +kernel
theorem dX0_canLean_0 : decode cX0_canLean 0 = .ok (.aload_n 0, 1) := dk_42 (dk_at dksX0_canLean_0 0 rfl rfl)
theorem dX0_canLean_1 : decode cX0_canLean 1 = .ok (.iload_n 1, 1) := dk_27 (dk_at dksX0_canLean_0 1 rfl rfl)
theorem dX0_canLean_2 : decode cX0_canLean 2 = .ok (.invokevirtual 149, 3) := dk_182 0 149 (dk_at dksX0_canLean_0 2 rfl rfl)
theorem dX0_canLean_5 : decode cX0_canLean 5 = .ok (.getfield 159, 3) := dk_180 0 159 (dk_at dksX0_canLean_0 5 rfl rfl)
theorem dX0_canLean_8 : decode cX0_canLean 8 = .ok (.iload_n 2, 1) := dk_28 (dk_at dksX0_canLean_0 8 rfl rfl)
theorem dX0_canLean_9 : decode cX0_canLean 9 = .ok (.iconst (-1), 1) := dk_2 (dk_at dksX0_canLean_0 9 rfl rfl)
theorem dX0_canLean_10 : decode cX0_canLean 10 = .ok (.ixor, 1) := dk_130 (dk_at dksX0_canLean_0 10 rfl rfl)
theorem dX0_canLean_11 : decode cX0_canLean 11 = .ok (.iand, 1) := dk_126 (dk_at dksX0_canLean_0 11 rfl rfl)
theorem dX0_canLean_12 : decode cX0_canLean 12 = .ok (.ifCond .ne 7, 3) := dk_154 0 7 (dk_at dksX0_canLean_0 12 rfl rfl)
theorem dX0_canLean_15 : decode cX0_canLean 15 = .ok (.iconst 1, 1) := dk_4 (dk_at dksX0_canLean_0 15 rfl rfl)
theorem dX0_canLean_16 : decode cX0_canLean 16 = .ok (.goto 4, 3) := dk_167 0 4 (dk_at dksX0_canLean_0 16 rfl rfl)
theorem dX0_canLean_19 : decode cX0_canLean 19 = .ok (.iconst 0, 1) := dk_3 (dk_at dksX0_canLean_0 19 rfl rfl)
theorem dX0_canLean_20 : decode cX0_canLean 20 = .ok (.ireturn, 1) := dk_172 (dk_at dksX0_canLean_0 20 rfl rfl)
def dkwX0_ask_7 : List UInt8 := [180, 0, 156, 182, 0, 229, 21, 5, 172]
abbrev dktX0_ask_7 : List UInt8 := dkwX0_ask_7 ++ []
def dkwX0_ask_6 : List UInt8 := [42, 28, 182, 0, 149, 180, 0, 156, 96, 181, 0, 181, 42, 28, 181, 0, 100, 42, 42, 28, 182, 0, 149]
abbrev dktX0_ask_6 : List UInt8 := dkwX0_ask_6 ++ dktX0_ask_7
def dkwX0_ask_5 : List UInt8 := [42, 45, 182, 0, 249, 182, 0, 203, 96, 54, 5, 42, 27, 28, 21, 5, 182, 0, 253, 45, 89, 180, 0, 181]
abbrev dktX0_ask_5 : List UInt8 := dkwX0_ask_5 ++ dktX0_ask_6
def dkwX0_ask_4 : List UInt8 := [4, 28, 120, 182, 0, 203, 167, 0, 4, 3, 54, 5, 42, 16, 64, 182, 0, 224, 154, 0, 17, 21, 5, 42]
abbrev dktX0_ask_4 : List UInt8 := dkwX0_ask_4 ++ dktX0_ask_5
def dkwX0_ask_3 : List UInt8 := [182, 0, 224, 21, 4, 153, 0, 7, 5, 167, 0, 4, 4, 45, 180, 0, 184, 28, 46, 104, 162, 0, 13, 42]
abbrev dktX0_ask_3 : List UInt8 := dkwX0_ask_3 ++ dktX0_ask_4
def dkwX0_ask_2 : List UInt8 := [182, 0, 149, 180, 0, 162, 28, 122, 4, 126, 4, 160, 0, 7, 4, 167, 0, 4, 3, 54, 4, 42, 16, 16]
abbrev dktX0_ask_2 : List UInt8 := dkwX0_ask_2 ++ dktX0_ask_3
def dkwX0_ask_1 : List UInt8 := [154, 0, 5, 2, 172, 42, 27, 182, 0, 171, 78, 42, 180, 0, 100, 2, 159, 0, 26, 42, 42, 180, 0, 100]
abbrev dktX0_ask_1 : List UInt8 := dkwX0_ask_1 ++ dktX0_ask_2
def dkwX0_ask_0 : List UInt8 := [42, 27, 182, 0, 168, 153, 0, 20, 42, 28, 182, 0, 145, 153, 0, 12, 42, 27, 28, 182, 0, 236]
abbrev dktX0_ask_0 : List UInt8 := dkwX0_ask_0 ++ dktX0_ask_1
theorem dksX0_ask_0 : cX0_ask.data.toList.drop 0 = dktX0_ask_0 := by decide +kernel
theorem dksX0_ask_1 : cX0_ask.data.toList.drop 22 = dktX0_ask_1 := dk_seg dksX0_ask_0 22 rfl rfl
theorem dksX0_ask_2 : cX0_ask.data.toList.drop 46 = dktX0_ask_2 := dk_seg dksX0_ask_1 24 rfl rfl
theorem dksX0_ask_3 : cX0_ask.data.toList.drop 70 = dktX0_ask_3 := dk_seg dksX0_ask_2 24 rfl rfl
theorem dksX0_ask_4 : cX0_ask.data.toList.drop 94 = dktX0_ask_4 := dk_seg dksX0_ask_3 24 rfl rfl
theorem dksX0_ask_5 : cX0_ask.data.toList.drop 118 = dktX0_ask_5 := dk_seg dksX0_ask_4 24 rfl rfl
theorem dksX0_ask_6 : cX0_ask.data.toList.drop 142 = dktX0_ask_6 := dk_seg dksX0_ask_5 24 rfl rfl
theorem dksX0_ask_7 : cX0_ask.data.toList.drop 165 = dktX0_ask_7 := dk_seg dksX0_ask_6 23 rfl rfl
theorem dX0_ask_0 : decode cX0_ask 0 = .ok (.aload_n 0, 1) := dk_42 (dk_at dksX0_ask_0 0 rfl rfl)
theorem dX0_ask_1 : decode cX0_ask 1 = .ok (.iload_n 1, 1) := dk_27 (dk_at dksX0_ask_0 1 rfl rfl)
theorem dX0_ask_2 : decode cX0_ask 2 = .ok (.invokevirtual 168, 3) := dk_182 0 168 (dk_at dksX0_ask_0 2 rfl rfl)
theorem dX0_ask_5 : decode cX0_ask 5 = .ok (.ifCond .eq 20, 3) := dk_153 0 20 (dk_at dksX0_ask_0 5 rfl rfl)
theorem dX0_ask_8 : decode cX0_ask 8 = .ok (.aload_n 0, 1) := dk_42 (dk_at dksX0_ask_0 8 rfl rfl)
theorem dX0_ask_9 : decode cX0_ask 9 = .ok (.iload_n 2, 1) := dk_28 (dk_at dksX0_ask_0 9 rfl rfl)
theorem dX0_ask_10 : decode cX0_ask 10 = .ok (.invokevirtual 145, 3) := dk_182 0 145 (dk_at dksX0_ask_0 10 rfl rfl)
theorem dX0_ask_13 : decode cX0_ask 13 = .ok (.ifCond .eq 12, 3) := dk_153 0 12 (dk_at dksX0_ask_0 13 rfl rfl)
theorem dX0_ask_16 : decode cX0_ask 16 = .ok (.aload_n 0, 1) := dk_42 (dk_at dksX0_ask_0 16 rfl rfl)
theorem dX0_ask_17 : decode cX0_ask 17 = .ok (.iload_n 1, 1) := dk_27 (dk_at dksX0_ask_0 17 rfl rfl)
theorem dX0_ask_18 : decode cX0_ask 18 = .ok (.iload_n 2, 1) := dk_28 (dk_at dksX0_ask_0 18 rfl rfl)
theorem dX0_ask_19 : decode cX0_ask 19 = .ok (.invokevirtual 236, 3) := dk_182 0 236 (dk_at dksX0_ask_0 19 rfl rfl)
theorem dX0_ask_22 : decode cX0_ask 22 = .ok (.ifCond .ne 5, 3) := dk_154 0 5 (dk_at dksX0_ask_1 0 rfl rfl)
theorem dX0_ask_25 : decode cX0_ask 25 = .ok (.iconst (-1), 1) := dk_2 (dk_at dksX0_ask_1 3 rfl rfl)
theorem dX0_ask_26 : decode cX0_ask 26 = .ok (.ireturn, 1) := dk_172 (dk_at dksX0_ask_1 4 rfl rfl)
theorem dX0_ask_27 : decode cX0_ask 27 = .ok (.aload_n 0, 1) := dk_42 (dk_at dksX0_ask_1 5 rfl rfl)
theorem dX0_ask_28 : decode cX0_ask 28 = .ok (.iload_n 1, 1) := dk_27 (dk_at dksX0_ask_1 6 rfl rfl)
theorem dX0_ask_29 : decode cX0_ask 29 = .ok (.invokevirtual 171, 3) := dk_182 0 171 (dk_at dksX0_ask_1 7 rfl rfl)
theorem dX0_ask_32 : decode cX0_ask 32 = .ok (.astore_n 3, 1) := dk_78 (dk_at dksX0_ask_1 10 rfl rfl)
theorem dX0_ask_33 : decode cX0_ask 33 = .ok (.aload_n 0, 1) := dk_42 (dk_at dksX0_ask_1 11 rfl rfl)
theorem dX0_ask_34 : decode cX0_ask 34 = .ok (.getfield 100, 3) := dk_180 0 100 (dk_at dksX0_ask_1 12 rfl rfl)
theorem dX0_ask_37 : decode cX0_ask 37 = .ok (.iconst (-1), 1) := dk_2 (dk_at dksX0_ask_1 15 rfl rfl)
theorem dX0_ask_38 : decode cX0_ask 38 = .ok (.if_icmp .eq 26, 3) := dk_159 0 26 (dk_at dksX0_ask_1 16 rfl rfl)
theorem dX0_ask_41 : decode cX0_ask 41 = .ok (.aload_n 0, 1) := dk_42 (dk_at dksX0_ask_1 19 rfl rfl)
theorem dX0_ask_42 : decode cX0_ask 42 = .ok (.aload_n 0, 1) := dk_42 (dk_at dksX0_ask_1 20 rfl rfl)
theorem dX0_ask_43 : decode cX0_ask 43 = .ok (.getfield 100, 3) := dk_180 0 100 (dk_at dksX0_ask_1 21 rfl rfl)
theorem dX0_ask_46 : decode cX0_ask 46 = .ok (.invokevirtual 149, 3) := dk_182 0 149 (dk_at dksX0_ask_2 0 rfl rfl)
theorem dX0_ask_49 : decode cX0_ask 49 = .ok (.getfield 162, 3) := dk_180 0 162 (dk_at dksX0_ask_2 3 rfl rfl)
theorem dX0_ask_52 : decode cX0_ask 52 = .ok (.iload_n 2, 1) := dk_28 (dk_at dksX0_ask_2 6 rfl rfl)
theorem dX0_ask_53 : decode cX0_ask 53 = .ok (.ishr, 1) := dk_122 (dk_at dksX0_ask_2 7 rfl rfl)
theorem dX0_ask_54 : decode cX0_ask 54 = .ok (.iconst 1, 1) := dk_4 (dk_at dksX0_ask_2 8 rfl rfl)
theorem dX0_ask_55 : decode cX0_ask 55 = .ok (.iand, 1) := dk_126 (dk_at dksX0_ask_2 9 rfl rfl)
theorem dX0_ask_56 : decode cX0_ask 56 = .ok (.iconst 1, 1) := dk_4 (dk_at dksX0_ask_2 10 rfl rfl)
theorem dX0_ask_57 : decode cX0_ask 57 = .ok (.if_icmp .ne 7, 3) := dk_160 0 7 (dk_at dksX0_ask_2 11 rfl rfl)
theorem dX0_ask_60 : decode cX0_ask 60 = .ok (.iconst 1, 1) := dk_4 (dk_at dksX0_ask_2 14 rfl rfl)
theorem dX0_ask_61 : decode cX0_ask 61 = .ok (.goto 4, 3) := dk_167 0 4 (dk_at dksX0_ask_2 15 rfl rfl)
theorem dX0_ask_64 : decode cX0_ask 64 = .ok (.iconst 0, 1) := dk_3 (dk_at dksX0_ask_2 18 rfl rfl)
theorem dX0_ask_65 : decode cX0_ask 65 = .ok (.istore 4, 2) := dk_54 4 (dk_at dksX0_ask_2 19 rfl rfl)
theorem dX0_ask_67 : decode cX0_ask 67 = .ok (.aload_n 0, 1) := dk_42 (dk_at dksX0_ask_2 21 rfl rfl)
theorem dX0_ask_68 : decode cX0_ask 68 = .ok (.bipush 16, 2) := dk_16 16 (dk_at dksX0_ask_2 22 rfl rfl)
theorem dX0_ask_70 : decode cX0_ask 70 = .ok (.invokevirtual 224, 3) := dk_182 0 224 (dk_at dksX0_ask_3 0 rfl rfl)
theorem dX0_ask_73 : decode cX0_ask 73 = .ok (.iload 4, 2) := dk_21 4 (dk_at dksX0_ask_3 3 rfl rfl)
theorem dX0_ask_75 : decode cX0_ask 75 = .ok (.ifCond .eq 7, 3) := dk_153 0 7 (dk_at dksX0_ask_3 5 rfl rfl)
theorem dX0_ask_78 : decode cX0_ask 78 = .ok (.iconst 2, 1) := dk_5 (dk_at dksX0_ask_3 8 rfl rfl)
theorem dX0_ask_79 : decode cX0_ask 79 = .ok (.goto 4, 3) := dk_167 0 4 (dk_at dksX0_ask_3 9 rfl rfl)
theorem dX0_ask_82 : decode cX0_ask 82 = .ok (.iconst 1, 1) := dk_4 (dk_at dksX0_ask_3 12 rfl rfl)
theorem dX0_ask_83 : decode cX0_ask 83 = .ok (.aload_n 3, 1) := dk_45 (dk_at dksX0_ask_3 13 rfl rfl)
theorem dX0_ask_84 : decode cX0_ask 84 = .ok (.getfield 184, 3) := dk_180 0 184 (dk_at dksX0_ask_3 14 rfl rfl)
theorem dX0_ask_87 : decode cX0_ask 87 = .ok (.iload_n 2, 1) := dk_28 (dk_at dksX0_ask_3 17 rfl rfl)
theorem dX0_ask_88 : decode cX0_ask 88 = .ok (.iaload, 1) := dk_46 (dk_at dksX0_ask_3 18 rfl rfl)
theorem dX0_ask_89 : decode cX0_ask 89 = .ok (.imul, 1) := dk_104 (dk_at dksX0_ask_3 19 rfl rfl)
theorem dX0_ask_90 : decode cX0_ask 90 = .ok (.if_icmp .ge 13, 3) := dk_162 0 13 (dk_at dksX0_ask_3 20 rfl rfl)
theorem dX0_ask_93 : decode cX0_ask 93 = .ok (.aload_n 0, 1) := dk_42 (dk_at dksX0_ask_3 23 rfl rfl)
theorem dX0_ask_94 : decode cX0_ask 94 = .ok (.iconst 1, 1) := dk_4 (dk_at dksX0_ask_4 0 rfl rfl)
theorem dX0_ask_95 : decode cX0_ask 95 = .ok (.iload_n 2, 1) := dk_28 (dk_at dksX0_ask_4 1 rfl rfl)
theorem dX0_ask_96 : decode cX0_ask 96 = .ok (.ishl, 1) := dk_120 (dk_at dksX0_ask_4 2 rfl rfl)
theorem dX0_ask_97 : decode cX0_ask 97 = .ok (.invokevirtual 203, 3) := dk_182 0 203 (dk_at dksX0_ask_4 3 rfl rfl)
theorem dX0_ask_100 : decode cX0_ask 100 = .ok (.goto 4, 3) := dk_167 0 4 (dk_at dksX0_ask_4 6 rfl rfl)
theorem dX0_ask_103 : decode cX0_ask 103 = .ok (.iconst 0, 1) := dk_3 (dk_at dksX0_ask_4 9 rfl rfl)
theorem dX0_ask_104 : decode cX0_ask 104 = .ok (.istore 5, 2) := dk_54 5 (dk_at dksX0_ask_4 10 rfl rfl)
theorem dX0_ask_106 : decode cX0_ask 106 = .ok (.aload_n 0, 1) := dk_42 (dk_at dksX0_ask_4 12 rfl rfl)
theorem dX0_ask_107 : decode cX0_ask 107 = .ok (.bipush 64, 2) := dk_16 64 (dk_at dksX0_ask_4 13 rfl rfl)
theorem dX0_ask_109 : decode cX0_ask 109 = .ok (.invokevirtual 224, 3) := dk_182 0 224 (dk_at dksX0_ask_4 15 rfl rfl)
theorem dX0_ask_112 : decode cX0_ask 112 = .ok (.ifCond .ne 17, 3) := dk_154 0 17 (dk_at dksX0_ask_4 18 rfl rfl)
theorem dX0_ask_115 : decode cX0_ask 115 = .ok (.iload 5, 2) := dk_21 5 (dk_at dksX0_ask_4 21 rfl rfl)
theorem dX0_ask_117 : decode cX0_ask 117 = .ok (.aload_n 0, 1) := dk_42 (dk_at dksX0_ask_4 23 rfl rfl)
theorem dX0_ask_118 : decode cX0_ask 118 = .ok (.aload_n 0, 1) := dk_42 (dk_at dksX0_ask_5 0 rfl rfl)
theorem dX0_ask_119 : decode cX0_ask 119 = .ok (.aload_n 3, 1) := dk_45 (dk_at dksX0_ask_5 1 rfl rfl)
theorem dX0_ask_120 : decode cX0_ask 120 = .ok (.invokevirtual 249, 3) := dk_182 0 249 (dk_at dksX0_ask_5 2 rfl rfl)
theorem dX0_ask_123 : decode cX0_ask 123 = .ok (.invokevirtual 203, 3) := dk_182 0 203 (dk_at dksX0_ask_5 5 rfl rfl)
theorem dX0_ask_126 : decode cX0_ask 126 = .ok (.iadd, 1) := dk_96 (dk_at dksX0_ask_5 8 rfl rfl)
theorem dX0_ask_127 : decode cX0_ask 127 = .ok (.istore 5, 2) := dk_54 5 (dk_at dksX0_ask_5 9 rfl rfl)
theorem dX0_ask_129 : decode cX0_ask 129 = .ok (.aload_n 0, 1) := dk_42 (dk_at dksX0_ask_5 11 rfl rfl)
theorem dX0_ask_130 : decode cX0_ask 130 = .ok (.iload_n 1, 1) := dk_27 (dk_at dksX0_ask_5 12 rfl rfl)
theorem dX0_ask_131 : decode cX0_ask 131 = .ok (.iload_n 2, 1) := dk_28 (dk_at dksX0_ask_5 13 rfl rfl)
theorem dX0_ask_132 : decode cX0_ask 132 = .ok (.iload 5, 2) := dk_21 5 (dk_at dksX0_ask_5 14 rfl rfl)
theorem dX0_ask_134 : decode cX0_ask 134 = .ok (.invokevirtual 253, 3) := dk_182 0 253 (dk_at dksX0_ask_5 16 rfl rfl)
theorem dX0_ask_137 : decode cX0_ask 137 = .ok (.aload_n 3, 1) := dk_45 (dk_at dksX0_ask_5 19 rfl rfl)
theorem dX0_ask_138 : decode cX0_ask 138 = .ok (.dup, 1) := dk_89 (dk_at dksX0_ask_5 20 rfl rfl)
theorem dX0_ask_139 : decode cX0_ask 139 = .ok (.getfield 181, 3) := dk_180 0 181 (dk_at dksX0_ask_5 21 rfl rfl)
theorem dX0_ask_142 : decode cX0_ask 142 = .ok (.aload_n 0, 1) := dk_42 (dk_at dksX0_ask_6 0 rfl rfl)
theorem dX0_ask_143 : decode cX0_ask 143 = .ok (.iload_n 2, 1) := dk_28 (dk_at dksX0_ask_6 1 rfl rfl)
theorem dX0_ask_144 : decode cX0_ask 144 = .ok (.invokevirtual 149, 3) := dk_182 0 149 (dk_at dksX0_ask_6 2 rfl rfl)
theorem dX0_ask_147 : decode cX0_ask 147 = .ok (.getfield 156, 3) := dk_180 0 156 (dk_at dksX0_ask_6 5 rfl rfl)
theorem dX0_ask_150 : decode cX0_ask 150 = .ok (.iadd, 1) := dk_96 (dk_at dksX0_ask_6 8 rfl rfl)
theorem dX0_ask_151 : decode cX0_ask 151 = .ok (.putfield 181, 3) := dk_181 0 181 (dk_at dksX0_ask_6 9 rfl rfl)
theorem dX0_ask_154 : decode cX0_ask 154 = .ok (.aload_n 0, 1) := dk_42 (dk_at dksX0_ask_6 12 rfl rfl)
theorem dX0_ask_155 : decode cX0_ask 155 = .ok (.iload_n 2, 1) := dk_28 (dk_at dksX0_ask_6 13 rfl rfl)
theorem dX0_ask_156 : decode cX0_ask 156 = .ok (.putfield 100, 3) := dk_181 0 100 (dk_at dksX0_ask_6 14 rfl rfl)
theorem dX0_ask_159 : decode cX0_ask 159 = .ok (.aload_n 0, 1) := dk_42 (dk_at dksX0_ask_6 17 rfl rfl)
theorem dX0_ask_160 : decode cX0_ask 160 = .ok (.aload_n 0, 1) := dk_42 (dk_at dksX0_ask_6 18 rfl rfl)
theorem dX0_ask_161 : decode cX0_ask 161 = .ok (.iload_n 2, 1) := dk_28 (dk_at dksX0_ask_6 19 rfl rfl)
theorem dX0_ask_162 : decode cX0_ask 162 = .ok (.invokevirtual 149, 3) := dk_182 0 149 (dk_at dksX0_ask_6 20 rfl rfl)
theorem dX0_ask_165 : decode cX0_ask 165 = .ok (.getfield 156, 3) := dk_180 0 156 (dk_at dksX0_ask_7 0 rfl rfl)
theorem dX0_ask_168 : decode cX0_ask 168 = .ok (.invokevirtual 229, 3) := dk_182 0 229 (dk_at dksX0_ask_7 3 rfl rfl)
theorem dX0_ask_171 : decode cX0_ask 171 = .ok (.iload 5, 2) := dk_21 5 (dk_at dksX0_ask_7 6 rfl rfl)
theorem dX0_ask_173 : decode cX0_ask 173 = .ok (.ireturn, 1) := dk_172 (dk_at dksX0_ask_7 8 rfl rfl)
def dkwX0_spoon_1 : List UInt8 := [154, 0, 7, 4, 28, 120, 172, 132, 2, 1, 167, 255, 225, 3, 172]
abbrev dktX0_spoon_1 : List UInt8 := dkwX0_spoon_1 ++ []
def dkwX0_spoon_0 : List UInt8 := [3, 61, 28, 42, 182, 0, 131, 162, 0, 29, 43, 28, 182, 0, 187, 153, 0, 15, 42, 28, 182, 0, 165]
abbrev dktX0_spoon_0 : List UInt8 := dkwX0_spoon_0 ++ dktX0_spoon_1
theorem dksX0_spoon_0 : cX0_spoon.data.toList.drop 0 = dktX0_spoon_0 := by decide +kernel
theorem dksX0_spoon_1 : cX0_spoon.data.toList.drop 23 = dktX0_spoon_1 := dk_seg dksX0_spoon_0 23 rfl rfl
theorem dX0_spoon_0 : decode cX0_spoon 0 = .ok (.iconst 0, 1) := dk_3 (dk_at dksX0_spoon_0 0 rfl rfl)
theorem dX0_spoon_1 : decode cX0_spoon 1 = .ok (.istore_n 2, 1) := dk_61 (dk_at dksX0_spoon_0 1 rfl rfl)
theorem dX0_spoon_2 : decode cX0_spoon 2 = .ok (.iload_n 2, 1) := dk_28 (dk_at dksX0_spoon_0 2 rfl rfl)
theorem dX0_spoon_3 : decode cX0_spoon 3 = .ok (.aload_n 0, 1) := dk_42 (dk_at dksX0_spoon_0 3 rfl rfl)
theorem dX0_spoon_4 : decode cX0_spoon 4 = .ok (.invokevirtual 131, 3) := dk_182 0 131 (dk_at dksX0_spoon_0 4 rfl rfl)
theorem dX0_spoon_7 : decode cX0_spoon 7 = .ok (.if_icmp .ge 29, 3) := dk_162 0 29 (dk_at dksX0_spoon_0 7 rfl rfl)
theorem dX0_spoon_10 : decode cX0_spoon 10 = .ok (.aload_n 1, 1) := dk_43 (dk_at dksX0_spoon_0 10 rfl rfl)
theorem dX0_spoon_11 : decode cX0_spoon 11 = .ok (.iload_n 2, 1) := dk_28 (dk_at dksX0_spoon_0 11 rfl rfl)
theorem dX0_spoon_12 : decode cX0_spoon 12 = .ok (.invokevirtual 187, 3) := dk_182 0 187 (dk_at dksX0_spoon_0 12 rfl rfl)
theorem dX0_spoon_15 : decode cX0_spoon 15 = .ok (.ifCond .eq 15, 3) := dk_153 0 15 (dk_at dksX0_spoon_0 15 rfl rfl)
theorem dX0_spoon_18 : decode cX0_spoon 18 = .ok (.aload_n 0, 1) := dk_42 (dk_at dksX0_spoon_0 18 rfl rfl)
theorem dX0_spoon_19 : decode cX0_spoon 19 = .ok (.iload_n 2, 1) := dk_28 (dk_at dksX0_spoon_0 19 rfl rfl)
theorem dX0_spoon_20 : decode cX0_spoon 20 = .ok (.invokevirtual 165, 3) := dk_182 0 165 (dk_at dksX0_spoon_0 20 rfl rfl)
theorem dX0_spoon_23 : decode cX0_spoon 23 = .ok (.ifCond .ne 7, 3) := dk_154 0 7 (dk_at dksX0_spoon_1 0 rfl rfl)
theorem dX0_spoon_26 : decode cX0_spoon 26 = .ok (.iconst 1, 1) := dk_4 (dk_at dksX0_spoon_1 3 rfl rfl)
theorem dX0_spoon_27 : decode cX0_spoon 27 = .ok (.iload_n 2, 1) := dk_28 (dk_at dksX0_spoon_1 4 rfl rfl)
theorem dX0_spoon_28 : decode cX0_spoon 28 = .ok (.ishl, 1) := dk_120 (dk_at dksX0_spoon_1 5 rfl rfl)
theorem dX0_spoon_29 : decode cX0_spoon 29 = .ok (.ireturn, 1) := dk_172 (dk_at dksX0_spoon_1 6 rfl rfl)
theorem dX0_spoon_30 : decode cX0_spoon 30 = .ok (.iinc 2 1, 3) := dk_132 2 1 (dk_at dksX0_spoon_1 7 rfl rfl)
theorem dX0_spoon_33 : decode cX0_spoon 33 = .ok (.goto (-31), 3) := dk_167 255 225 (dk_at dksX0_spoon_1 10 rfl rfl)
theorem dX0_spoon_36 : decode cX0_spoon 36 = .ok (.iconst 0, 1) := dk_3 (dk_at dksX0_spoon_1 13 rfl rfl)
theorem dX0_spoon_37 : decode cX0_spoon 37 = .ok (.ireturn, 1) := dk_172 (dk_at dksX0_spoon_1 14 rfl rfl)
def dkwX0_notes_4 : List UInt8 := [42, 180, 0, 97, 181, 0, 245, 25, 4, 29, 181, 0, 246, 42, 89, 180, 0, 107, 4, 96, 181, 0, 107, 177]
abbrev dktX0_notes_4 : List UInt8 := dkwX0_notes_4 ++ []
def dkwX0_notes_3 : List UInt8 := [180, 0, 36, 42, 180, 0, 107, 50, 58, 4, 25, 4, 27, 181, 0, 239, 25, 4, 28, 181, 0, 242, 25, 4]
abbrev dktX0_notes_3 : List UInt8 := dkwX0_notes_3 ++ dktX0_notes_4
def dkwX0_notes_2 : List UInt8 := [167, 255, 230, 42, 180, 0, 36, 16, 29, 25, 4, 83, 42, 89, 180, 0, 107, 4, 100, 181, 0, 107, 42]
abbrev dktX0_notes_2 : List UInt8 := dkwX0_notes_2 ++ dktX0_notes_3
def dkwX0_notes_1 : List UInt8 := [162, 0, 25, 42, 180, 0, 36, 21, 5, 4, 100, 42, 180, 0, 36, 21, 5, 50, 83, 132, 5, 1]
abbrev dktX0_notes_1 : List UInt8 := dkwX0_notes_1 ++ dktX0_notes_2
def dkwX0_notes_0 : List UInt8 := [42, 180, 0, 107, 16, 30, 160, 0, 62, 42, 180, 0, 36, 3, 50, 58, 4, 4, 54, 5, 21, 5, 16, 30]
abbrev dktX0_notes_0 : List UInt8 := dkwX0_notes_0 ++ dktX0_notes_1
theorem dksX0_notes_0 : cX0_notes.data.toList.drop 0 = dktX0_notes_0 := by decide +kernel
theorem dksX0_notes_1 : cX0_notes.data.toList.drop 24 = dktX0_notes_1 := dk_seg dksX0_notes_0 24 rfl rfl
theorem dksX0_notes_2 : cX0_notes.data.toList.drop 46 = dktX0_notes_2 := dk_seg dksX0_notes_1 22 rfl rfl
theorem dksX0_notes_3 : cX0_notes.data.toList.drop 69 = dktX0_notes_3 := dk_seg dksX0_notes_2 23 rfl rfl
theorem dksX0_notes_4 : cX0_notes.data.toList.drop 93 = dktX0_notes_4 := dk_seg dksX0_notes_3 24 rfl rfl
theorem dX0_notes_0 : decode cX0_notes 0 = .ok (.aload_n 0, 1) := dk_42 (dk_at dksX0_notes_0 0 rfl rfl)
theorem dX0_notes_1 : decode cX0_notes 1 = .ok (.getfield 107, 3) := dk_180 0 107 (dk_at dksX0_notes_0 1 rfl rfl)
theorem dX0_notes_4 : decode cX0_notes 4 = .ok (.bipush 30, 2) := dk_16 30 (dk_at dksX0_notes_0 4 rfl rfl)
theorem dX0_notes_6 : decode cX0_notes 6 = .ok (.if_icmp .ne 62, 3) := dk_160 0 62 (dk_at dksX0_notes_0 6 rfl rfl)
theorem dX0_notes_9 : decode cX0_notes 9 = .ok (.aload_n 0, 1) := dk_42 (dk_at dksX0_notes_0 9 rfl rfl)
theorem dX0_notes_10 : decode cX0_notes 10 = .ok (.getfield 36, 3) := dk_180 0 36 (dk_at dksX0_notes_0 10 rfl rfl)
theorem dX0_notes_13 : decode cX0_notes 13 = .ok (.iconst 0, 1) := dk_3 (dk_at dksX0_notes_0 13 rfl rfl)
theorem dX0_notes_14 : decode cX0_notes 14 = .ok (.aaload, 1) := dk_50 (dk_at dksX0_notes_0 14 rfl rfl)
theorem dX0_notes_15 : decode cX0_notes 15 = .ok (.astore 4, 2) := dk_58 4 (dk_at dksX0_notes_0 15 rfl rfl)
theorem dX0_notes_17 : decode cX0_notes 17 = .ok (.iconst 1, 1) := dk_4 (dk_at dksX0_notes_0 17 rfl rfl)
theorem dX0_notes_18 : decode cX0_notes 18 = .ok (.istore 5, 2) := dk_54 5 (dk_at dksX0_notes_0 18 rfl rfl)
theorem dX0_notes_20 : decode cX0_notes 20 = .ok (.iload 5, 2) := dk_21 5 (dk_at dksX0_notes_0 20 rfl rfl)
theorem dX0_notes_22 : decode cX0_notes 22 = .ok (.bipush 30, 2) := dk_16 30 (dk_at dksX0_notes_0 22 rfl rfl)
theorem dX0_notes_24 : decode cX0_notes 24 = .ok (.if_icmp .ge 25, 3) := dk_162 0 25 (dk_at dksX0_notes_1 0 rfl rfl)
theorem dX0_notes_27 : decode cX0_notes 27 = .ok (.aload_n 0, 1) := dk_42 (dk_at dksX0_notes_1 3 rfl rfl)
theorem dX0_notes_28 : decode cX0_notes 28 = .ok (.getfield 36, 3) := dk_180 0 36 (dk_at dksX0_notes_1 4 rfl rfl)
theorem dX0_notes_31 : decode cX0_notes 31 = .ok (.iload 5, 2) := dk_21 5 (dk_at dksX0_notes_1 7 rfl rfl)
theorem dX0_notes_33 : decode cX0_notes 33 = .ok (.iconst 1, 1) := dk_4 (dk_at dksX0_notes_1 9 rfl rfl)
theorem dX0_notes_34 : decode cX0_notes 34 = .ok (.isub, 1) := dk_100 (dk_at dksX0_notes_1 10 rfl rfl)
theorem dX0_notes_35 : decode cX0_notes 35 = .ok (.aload_n 0, 1) := dk_42 (dk_at dksX0_notes_1 11 rfl rfl)
theorem dX0_notes_36 : decode cX0_notes 36 = .ok (.getfield 36, 3) := dk_180 0 36 (dk_at dksX0_notes_1 12 rfl rfl)
theorem dX0_notes_39 : decode cX0_notes 39 = .ok (.iload 5, 2) := dk_21 5 (dk_at dksX0_notes_1 15 rfl rfl)
theorem dX0_notes_41 : decode cX0_notes 41 = .ok (.aaload, 1) := dk_50 (dk_at dksX0_notes_1 17 rfl rfl)
theorem dX0_notes_42 : decode cX0_notes 42 = .ok (.aastore, 1) := dk_83 (dk_at dksX0_notes_1 18 rfl rfl)
theorem dX0_notes_43 : decode cX0_notes 43 = .ok (.iinc 5 1, 3) := dk_132 5 1 (dk_at dksX0_notes_1 19 rfl rfl)
theorem dX0_notes_46 : decode cX0_notes 46 = .ok (.goto (-26), 3) := dk_167 255 230 (dk_at dksX0_notes_2 0 rfl rfl)
theorem dX0_notes_49 : decode cX0_notes 49 = .ok (.aload_n 0, 1) := dk_42 (dk_at dksX0_notes_2 3 rfl rfl)
theorem dX0_notes_50 : decode cX0_notes 50 = .ok (.getfield 36, 3) := dk_180 0 36 (dk_at dksX0_notes_2 4 rfl rfl)
theorem dX0_notes_53 : decode cX0_notes 53 = .ok (.bipush 29, 2) := dk_16 29 (dk_at dksX0_notes_2 7 rfl rfl)
theorem dX0_notes_55 : decode cX0_notes 55 = .ok (.aload 4, 2) := dk_25 4 (dk_at dksX0_notes_2 9 rfl rfl)
theorem dX0_notes_57 : decode cX0_notes 57 = .ok (.aastore, 1) := dk_83 (dk_at dksX0_notes_2 11 rfl rfl)
theorem dX0_notes_58 : decode cX0_notes 58 = .ok (.aload_n 0, 1) := dk_42 (dk_at dksX0_notes_2 12 rfl rfl)
theorem dX0_notes_59 : decode cX0_notes 59 = .ok (.dup, 1) := dk_89 (dk_at dksX0_notes_2 13 rfl rfl)
theorem dX0_notes_60 : decode cX0_notes 60 = .ok (.getfield 107, 3) := dk_180 0 107 (dk_at dksX0_notes_2 14 rfl rfl)
theorem dX0_notes_63 : decode cX0_notes 63 = .ok (.iconst 1, 1) := dk_4 (dk_at dksX0_notes_2 17 rfl rfl)
theorem dX0_notes_64 : decode cX0_notes 64 = .ok (.isub, 1) := dk_100 (dk_at dksX0_notes_2 18 rfl rfl)
theorem dX0_notes_65 : decode cX0_notes 65 = .ok (.putfield 107, 3) := dk_181 0 107 (dk_at dksX0_notes_2 19 rfl rfl)
theorem dX0_notes_68 : decode cX0_notes 68 = .ok (.aload_n 0, 1) := dk_42 (dk_at dksX0_notes_2 22 rfl rfl)
theorem dX0_notes_69 : decode cX0_notes 69 = .ok (.getfield 36, 3) := dk_180 0 36 (dk_at dksX0_notes_3 0 rfl rfl)
theorem dX0_notes_72 : decode cX0_notes 72 = .ok (.aload_n 0, 1) := dk_42 (dk_at dksX0_notes_3 3 rfl rfl)
theorem dX0_notes_73 : decode cX0_notes 73 = .ok (.getfield 107, 3) := dk_180 0 107 (dk_at dksX0_notes_3 4 rfl rfl)
theorem dX0_notes_76 : decode cX0_notes 76 = .ok (.aaload, 1) := dk_50 (dk_at dksX0_notes_3 7 rfl rfl)
theorem dX0_notes_77 : decode cX0_notes 77 = .ok (.astore 4, 2) := dk_58 4 (dk_at dksX0_notes_3 8 rfl rfl)
theorem dX0_notes_79 : decode cX0_notes 79 = .ok (.aload 4, 2) := dk_25 4 (dk_at dksX0_notes_3 10 rfl rfl)
theorem dX0_notes_81 : decode cX0_notes 81 = .ok (.iload_n 1, 1) := dk_27 (dk_at dksX0_notes_3 12 rfl rfl)
theorem dX0_notes_82 : decode cX0_notes 82 = .ok (.putfield 239, 3) := dk_181 0 239 (dk_at dksX0_notes_3 13 rfl rfl)
theorem dX0_notes_85 : decode cX0_notes 85 = .ok (.aload 4, 2) := dk_25 4 (dk_at dksX0_notes_3 16 rfl rfl)
theorem dX0_notes_87 : decode cX0_notes 87 = .ok (.iload_n 2, 1) := dk_28 (dk_at dksX0_notes_3 18 rfl rfl)
theorem dX0_notes_88 : decode cX0_notes 88 = .ok (.putfield 242, 3) := dk_181 0 242 (dk_at dksX0_notes_3 19 rfl rfl)
theorem dX0_notes_91 : decode cX0_notes 91 = .ok (.aload 4, 2) := dk_25 4 (dk_at dksX0_notes_3 22 rfl rfl)
theorem dX0_notes_93 : decode cX0_notes 93 = .ok (.aload_n 0, 1) := dk_42 (dk_at dksX0_notes_4 0 rfl rfl)
theorem dX0_notes_94 : decode cX0_notes 94 = .ok (.getfield 97, 3) := dk_180 0 97 (dk_at dksX0_notes_4 1 rfl rfl)
theorem dX0_notes_97 : decode cX0_notes 97 = .ok (.putfield 245, 3) := dk_181 0 245 (dk_at dksX0_notes_4 4 rfl rfl)
theorem dX0_notes_100 : decode cX0_notes 100 = .ok (.aload 4, 2) := dk_25 4 (dk_at dksX0_notes_4 7 rfl rfl)
theorem dX0_notes_102 : decode cX0_notes 102 = .ok (.iload_n 3, 1) := dk_29 (dk_at dksX0_notes_4 9 rfl rfl)
theorem dX0_notes_103 : decode cX0_notes 103 = .ok (.putfield 246, 3) := dk_181 0 246 (dk_at dksX0_notes_4 10 rfl rfl)
theorem dX0_notes_106 : decode cX0_notes 106 = .ok (.aload_n 0, 1) := dk_42 (dk_at dksX0_notes_4 13 rfl rfl)
theorem dX0_notes_107 : decode cX0_notes 107 = .ok (.dup, 1) := dk_89 (dk_at dksX0_notes_4 14 rfl rfl)
theorem dX0_notes_108 : decode cX0_notes 108 = .ok (.getfield 107, 3) := dk_180 0 107 (dk_at dksX0_notes_4 15 rfl rfl)
theorem dX0_notes_111 : decode cX0_notes 111 = .ok (.iconst 1, 1) := dk_4 (dk_at dksX0_notes_4 18 rfl rfl)
theorem dX0_notes_112 : decode cX0_notes 112 = .ok (.iadd, 1) := dk_96 (dk_at dksX0_notes_4 19 rfl rfl)
theorem dX0_notes_113 : decode cX0_notes 113 = .ok (.putfield 107, 3) := dk_181 0 107 (dk_at dksX0_notes_4 20 rfl rfl)
theorem dX0_notes_116 : decode cX0_notes 116 = .ok (.return_, 1) := dk_177 (dk_at dksX0_notes_4 23 rfl rfl)
def dkwX0_log_3 : List UInt8 := [45, 180, 0, 239, 172, 45, 180, 0, 242, 172, 45, 180, 0, 245, 172, 45, 180, 0, 246, 172, 2, 172]
abbrev dktX0_log_3 : List UInt8 := dkwX0_log_3 ++ []
def dkwX0_log_2 : List UInt8 := [170, 0, 0, 0, 0, 0, 0, 52, 0, 0, 0, 0, 0, 0, 0, 3, 0, 0, 0, 32, 0, 0, 0, 37, 0, 0, 0, 42, 0, 0, 0, 47]
abbrev dktX0_log_2 : List UInt8 := dkwX0_log_2 ++ dktX0_log_3
def dkwX0_log_1 : List UInt8 := [154, 0, 5, 2, 172, 42, 180, 0, 36, 27, 50, 78, 28]
abbrev dktX0_log_1 : List UInt8 := dkwX0_log_1 ++ dktX0_log_2
def dkwX0_log_0 : List UInt8 := [27, 2, 160, 0, 8, 42, 180, 0, 107, 172, 27, 133, 9, 42, 180, 0, 107, 4, 100, 133, 184, 0, 15]
abbrev dktX0_log_0 : List UInt8 := dkwX0_log_0 ++ dktX0_log_1
theorem dksX0_log_0 : cX0_log.data.toList.drop 0 = dktX0_log_0 := by decide +kernel
theorem dksX0_log_1 : cX0_log.data.toList.drop 23 = dktX0_log_1 := dk_seg dksX0_log_0 23 rfl rfl
theorem dksX0_log_2 : cX0_log.data.toList.drop 36 = dktX0_log_2 := dk_seg dksX0_log_1 13 rfl rfl
theorem dksX0_log_3 : cX0_log.data.toList.drop 68 = dktX0_log_3 := dk_seg dksX0_log_2 32 rfl rfl
theorem dX0_log_0 : decode cX0_log 0 = .ok (.iload_n 1, 1) := dk_27 (dk_at dksX0_log_0 0 rfl rfl)
theorem dX0_log_1 : decode cX0_log 1 = .ok (.iconst (-1), 1) := dk_2 (dk_at dksX0_log_0 1 rfl rfl)
theorem dX0_log_2 : decode cX0_log 2 = .ok (.if_icmp .ne 8, 3) := dk_160 0 8 (dk_at dksX0_log_0 2 rfl rfl)
theorem dX0_log_5 : decode cX0_log 5 = .ok (.aload_n 0, 1) := dk_42 (dk_at dksX0_log_0 5 rfl rfl)
theorem dX0_log_6 : decode cX0_log 6 = .ok (.getfield 107, 3) := dk_180 0 107 (dk_at dksX0_log_0 6 rfl rfl)
theorem dX0_log_9 : decode cX0_log 9 = .ok (.ireturn, 1) := dk_172 (dk_at dksX0_log_0 9 rfl rfl)
theorem dX0_log_10 : decode cX0_log 10 = .ok (.iload_n 1, 1) := dk_27 (dk_at dksX0_log_0 10 rfl rfl)
theorem dX0_log_11 : decode cX0_log 11 = .ok (.i2l, 1) := dk_133 (dk_at dksX0_log_0 11 rfl rfl)
theorem dX0_log_12 : decode cX0_log 12 = .ok (.lconst 0, 1) := dk_9 (dk_at dksX0_log_0 12 rfl rfl)
theorem dX0_log_13 : decode cX0_log 13 = .ok (.aload_n 0, 1) := dk_42 (dk_at dksX0_log_0 13 rfl rfl)
theorem dX0_log_14 : decode cX0_log 14 = .ok (.getfield 107, 3) := dk_180 0 107 (dk_at dksX0_log_0 14 rfl rfl)
theorem dX0_log_17 : decode cX0_log 17 = .ok (.iconst 1, 1) := dk_4 (dk_at dksX0_log_0 17 rfl rfl)
theorem dX0_log_18 : decode cX0_log 18 = .ok (.isub, 1) := dk_100 (dk_at dksX0_log_0 18 rfl rfl)
theorem dX0_log_19 : decode cX0_log 19 = .ok (.i2l, 1) := dk_133 (dk_at dksX0_log_0 19 rfl rfl)
theorem dX0_log_20 : decode cX0_log 20 = .ok (.invokestatic 15, 3) := dk_184 0 15 (dk_at dksX0_log_0 20 rfl rfl)
theorem dX0_log_23 : decode cX0_log 23 = .ok (.ifCond .ne 5, 3) := dk_154 0 5 (dk_at dksX0_log_1 0 rfl rfl)
theorem dX0_log_26 : decode cX0_log 26 = .ok (.iconst (-1), 1) := dk_2 (dk_at dksX0_log_1 3 rfl rfl)
theorem dX0_log_27 : decode cX0_log 27 = .ok (.ireturn, 1) := dk_172 (dk_at dksX0_log_1 4 rfl rfl)
theorem dX0_log_28 : decode cX0_log 28 = .ok (.aload_n 0, 1) := dk_42 (dk_at dksX0_log_1 5 rfl rfl)
theorem dX0_log_29 : decode cX0_log 29 = .ok (.getfield 36, 3) := dk_180 0 36 (dk_at dksX0_log_1 6 rfl rfl)
theorem dX0_log_32 : decode cX0_log 32 = .ok (.iload_n 1, 1) := dk_27 (dk_at dksX0_log_1 9 rfl rfl)
theorem dX0_log_33 : decode cX0_log 33 = .ok (.aaload, 1) := dk_50 (dk_at dksX0_log_1 10 rfl rfl)
theorem dX0_log_34 : decode cX0_log 34 = .ok (.astore_n 3, 1) := dk_78 (dk_at dksX0_log_1 11 rfl rfl)
theorem dX0_log_35 : decode cX0_log 35 = .ok (.iload_n 2, 1) := dk_28 (dk_at dksX0_log_1 12 rfl rfl)
theorem dX0_log_36 : decode cX0_log 36 = .ok (.tableswitch 52 0 3 #[32, 37, 42, 47], 32) := by decide +kernel
theorem dX0_log_68 : decode cX0_log 68 = .ok (.aload_n 3, 1) := dk_45 (dk_at dksX0_log_3 0 rfl rfl)
theorem dX0_log_69 : decode cX0_log 69 = .ok (.getfield 239, 3) := dk_180 0 239 (dk_at dksX0_log_3 1 rfl rfl)
theorem dX0_log_72 : decode cX0_log 72 = .ok (.ireturn, 1) := dk_172 (dk_at dksX0_log_3 4 rfl rfl)
theorem dX0_log_73 : decode cX0_log 73 = .ok (.aload_n 3, 1) := dk_45 (dk_at dksX0_log_3 5 rfl rfl)
theorem dX0_log_74 : decode cX0_log 74 = .ok (.getfield 242, 3) := dk_180 0 242 (dk_at dksX0_log_3 6 rfl rfl)
theorem dX0_log_77 : decode cX0_log 77 = .ok (.ireturn, 1) := dk_172 (dk_at dksX0_log_3 9 rfl rfl)
theorem dX0_log_78 : decode cX0_log 78 = .ok (.aload_n 3, 1) := dk_45 (dk_at dksX0_log_3 10 rfl rfl)
theorem dX0_log_79 : decode cX0_log 79 = .ok (.getfield 245, 3) := dk_180 0 245 (dk_at dksX0_log_3 11 rfl rfl)
theorem dX0_log_82 : decode cX0_log 82 = .ok (.ireturn, 1) := dk_172 (dk_at dksX0_log_3 14 rfl rfl)
theorem dX0_log_83 : decode cX0_log 83 = .ok (.aload_n 3, 1) := dk_45 (dk_at dksX0_log_3 15 rfl rfl)
theorem dX0_log_84 : decode cX0_log 84 = .ok (.getfield 246, 3) := dk_180 0 246 (dk_at dksX0_log_3 16 rfl rfl)
theorem dX0_log_87 : decode cX0_log 87 = .ok (.ireturn, 1) := dk_172 (dk_at dksX0_log_3 19 rfl rfl)
theorem dX0_log_88 : decode cX0_log 88 = .ok (.iconst (-1), 1) := dk_2 (dk_at dksX0_log_3 20 rfl rfl)
theorem dX0_log_89 : decode cX0_log 89 = .ok (.ireturn, 1) := dk_172 (dk_at dksX0_log_3 21 rfl rfl)
def dkwX0_most_2 : List UInt8 := [172]
abbrev dktX0_most_2 : List UInt8 := dkwX0_most_2 ++ []
def dkwX0_most_1 : List UInt8 := [180, 0, 246, 42, 180, 0, 36, 27, 50, 180, 0, 246, 164, 0, 5, 28, 60, 132, 2, 1, 167, 255, 217, 27]
abbrev dktX0_most_1 : List UInt8 := dkwX0_most_1 ++ dktX0_most_2
def dkwX0_most_0 : List UInt8 := [2, 60, 3, 61, 28, 42, 180, 0, 107, 162, 0, 37, 27, 2, 159, 0, 24, 42, 180, 0, 36, 28, 50]
abbrev dktX0_most_0 : List UInt8 := dkwX0_most_0 ++ dktX0_most_1
theorem dksX0_most_0 : cX0_most.data.toList.drop 0 = dktX0_most_0 := by decide +kernel
theorem dksX0_most_1 : cX0_most.data.toList.drop 23 = dktX0_most_1 := dk_seg dksX0_most_0 23 rfl rfl
theorem dksX0_most_2 : cX0_most.data.toList.drop 47 = dktX0_most_2 := dk_seg dksX0_most_1 24 rfl rfl
theorem dX0_most_0 : decode cX0_most 0 = .ok (.iconst (-1), 1) := dk_2 (dk_at dksX0_most_0 0 rfl rfl)
theorem dX0_most_1 : decode cX0_most 1 = .ok (.istore_n 1, 1) := dk_60 (dk_at dksX0_most_0 1 rfl rfl)
theorem dX0_most_2 : decode cX0_most 2 = .ok (.iconst 0, 1) := dk_3 (dk_at dksX0_most_0 2 rfl rfl)
theorem dX0_most_3 : decode cX0_most 3 = .ok (.istore_n 2, 1) := dk_61 (dk_at dksX0_most_0 3 rfl rfl)
theorem dX0_most_4 : decode cX0_most 4 = .ok (.iload_n 2, 1) := dk_28 (dk_at dksX0_most_0 4 rfl rfl)
theorem dX0_most_5 : decode cX0_most 5 = .ok (.aload_n 0, 1) := dk_42 (dk_at dksX0_most_0 5 rfl rfl)
theorem dX0_most_6 : decode cX0_most 6 = .ok (.getfield 107, 3) := dk_180 0 107 (dk_at dksX0_most_0 6 rfl rfl)
theorem dX0_most_9 : decode cX0_most 9 = .ok (.if_icmp .ge 37, 3) := dk_162 0 37 (dk_at dksX0_most_0 9 rfl rfl)
theorem dX0_most_12 : decode cX0_most 12 = .ok (.iload_n 1, 1) := dk_27 (dk_at dksX0_most_0 12 rfl rfl)
theorem dX0_most_13 : decode cX0_most 13 = .ok (.iconst (-1), 1) := dk_2 (dk_at dksX0_most_0 13 rfl rfl)
theorem dX0_most_14 : decode cX0_most 14 = .ok (.if_icmp .eq 24, 3) := dk_159 0 24 (dk_at dksX0_most_0 14 rfl rfl)
theorem dX0_most_17 : decode cX0_most 17 = .ok (.aload_n 0, 1) := dk_42 (dk_at dksX0_most_0 17 rfl rfl)
theorem dX0_most_18 : decode cX0_most 18 = .ok (.getfield 36, 3) := dk_180 0 36 (dk_at dksX0_most_0 18 rfl rfl)
theorem dX0_most_21 : decode cX0_most 21 = .ok (.iload_n 2, 1) := dk_28 (dk_at dksX0_most_0 21 rfl rfl)
theorem dX0_most_22 : decode cX0_most 22 = .ok (.aaload, 1) := dk_50 (dk_at dksX0_most_0 22 rfl rfl)
theorem dX0_most_23 : decode cX0_most 23 = .ok (.getfield 246, 3) := dk_180 0 246 (dk_at dksX0_most_1 0 rfl rfl)
theorem dX0_most_26 : decode cX0_most 26 = .ok (.aload_n 0, 1) := dk_42 (dk_at dksX0_most_1 3 rfl rfl)
theorem dX0_most_27 : decode cX0_most 27 = .ok (.getfield 36, 3) := dk_180 0 36 (dk_at dksX0_most_1 4 rfl rfl)
theorem dX0_most_30 : decode cX0_most 30 = .ok (.iload_n 1, 1) := dk_27 (dk_at dksX0_most_1 7 rfl rfl)
theorem dX0_most_31 : decode cX0_most 31 = .ok (.aaload, 1) := dk_50 (dk_at dksX0_most_1 8 rfl rfl)
theorem dX0_most_32 : decode cX0_most 32 = .ok (.getfield 246, 3) := dk_180 0 246 (dk_at dksX0_most_1 9 rfl rfl)
theorem dX0_most_35 : decode cX0_most 35 = .ok (.if_icmp .le 5, 3) := dk_164 0 5 (dk_at dksX0_most_1 12 rfl rfl)
theorem dX0_most_38 : decode cX0_most 38 = .ok (.iload_n 2, 1) := dk_28 (dk_at dksX0_most_1 15 rfl rfl)
theorem dX0_most_39 : decode cX0_most 39 = .ok (.istore_n 1, 1) := dk_60 (dk_at dksX0_most_1 16 rfl rfl)
theorem dX0_most_40 : decode cX0_most 40 = .ok (.iinc 2 1, 3) := dk_132 2 1 (dk_at dksX0_most_1 17 rfl rfl)
theorem dX0_most_43 : decode cX0_most 43 = .ok (.goto (-39), 3) := dk_167 255 217 (dk_at dksX0_most_1 20 rfl rfl)
theorem dX0_most_46 : decode cX0_most 46 = .ok (.iload_n 1, 1) := dk_27 (dk_at dksX0_most_1 23 rfl rfl)
theorem dX0_most_47 : decode cX0_most 47 = .ok (.ireturn, 1) := dk_172 (dk_at dksX0_most_2 0 rfl rfl)
def dkwX0_best_2 : List UInt8 := [167, 0, 7, 42, 180, 1, 13, 172]
abbrev dktX0_best_2 : List UInt8 := dkwX0_best_2 ++ []
def dkwX0_best_1 : List UInt8 := [2, 182, 1, 26, 28, 154, 0, 10, 42, 180, 1, 16, 167, 0, 19, 28, 4, 160, 0, 10, 42, 180, 1, 4]
abbrev dktX0_best_1 : List UInt8 := dkwX0_best_1 ++ dktX0_best_2
def dkwX0_best_0 : List UInt8 := [42, 27, 182, 1, 21, 153, 0, 15, 28, 133, 9, 20, 1, 24, 184, 0, 15, 154, 0, 5, 2, 172, 42, 27]
abbrev dktX0_best_0 : List UInt8 := dkwX0_best_0 ++ dktX0_best_1
theorem dksX0_best_0 : cX0_best.data.toList.drop 0 = dktX0_best_0 := by decide +kernel
theorem dksX0_best_1 : cX0_best.data.toList.drop 24 = dktX0_best_1 := dk_seg dksX0_best_0 24 rfl rfl
theorem dksX0_best_2 : cX0_best.data.toList.drop 48 = dktX0_best_2 := dk_seg dksX0_best_1 24 rfl rfl
theorem dX0_best_0 : decode cX0_best 0 = .ok (.aload_n 0, 1) := dk_42 (dk_at dksX0_best_0 0 rfl rfl)
theorem dX0_best_1 : decode cX0_best 1 = .ok (.iload_n 1, 1) := dk_27 (dk_at dksX0_best_0 1 rfl rfl)
theorem dX0_best_2 : decode cX0_best 2 = .ok (.invokevirtual 277, 3) := dk_182 1 21 (dk_at dksX0_best_0 2 rfl rfl)
theorem dX0_best_5 : decode cX0_best 5 = .ok (.ifCond .eq 15, 3) := dk_153 0 15 (dk_at dksX0_best_0 5 rfl rfl)
theorem dX0_best_8 : decode cX0_best 8 = .ok (.iload_n 2, 1) := dk_28 (dk_at dksX0_best_0 8 rfl rfl)
theorem dX0_best_9 : decode cX0_best 9 = .ok (.i2l, 1) := dk_133 (dk_at dksX0_best_0 9 rfl rfl)
theorem dX0_best_10 : decode cX0_best 10 = .ok (.lconst 0, 1) := dk_9 (dk_at dksX0_best_0 10 rfl rfl)
theorem dX0_best_11 : decode cX0_best 11 = .ok (.ldc2_w 280, 3) := dk_20 1 24 (dk_at dksX0_best_0 11 rfl rfl)
theorem dX0_best_14 : decode cX0_best 14 = .ok (.invokestatic 15, 3) := dk_184 0 15 (dk_at dksX0_best_0 14 rfl rfl)
theorem dX0_best_17 : decode cX0_best 17 = .ok (.ifCond .ne 5, 3) := dk_154 0 5 (dk_at dksX0_best_0 17 rfl rfl)
theorem dX0_best_20 : decode cX0_best 20 = .ok (.iconst (-1), 1) := dk_2 (dk_at dksX0_best_0 20 rfl rfl)
theorem dX0_best_21 : decode cX0_best 21 = .ok (.ireturn, 1) := dk_172 (dk_at dksX0_best_0 21 rfl rfl)
theorem dX0_best_22 : decode cX0_best 22 = .ok (.aload_n 0, 1) := dk_42 (dk_at dksX0_best_0 22 rfl rfl)
theorem dX0_best_23 : decode cX0_best 23 = .ok (.iload_n 1, 1) := dk_27 (dk_at dksX0_best_0 23 rfl rfl)
theorem dX0_best_24 : decode cX0_best 24 = .ok (.iconst (-1), 1) := dk_2 (dk_at dksX0_best_1 0 rfl rfl)
theorem dX0_best_25 : decode cX0_best 25 = .ok (.invokevirtual 282, 3) := dk_182 1 26 (dk_at dksX0_best_1 1 rfl rfl)
theorem dX0_best_28 : decode cX0_best 28 = .ok (.iload_n 2, 1) := dk_28 (dk_at dksX0_best_1 4 rfl rfl)
theorem dX0_best_29 : decode cX0_best 29 = .ok (.ifCond .ne 10, 3) := dk_154 0 10 (dk_at dksX0_best_1 5 rfl rfl)
theorem dX0_best_32 : decode cX0_best 32 = .ok (.aload_n 0, 1) := dk_42 (dk_at dksX0_best_1 8 rfl rfl)
theorem dX0_best_33 : decode cX0_best 33 = .ok (.getfield 272, 3) := dk_180 1 16 (dk_at dksX0_best_1 9 rfl rfl)
theorem dX0_best_36 : decode cX0_best 36 = .ok (.goto 19, 3) := dk_167 0 19 (dk_at dksX0_best_1 12 rfl rfl)
theorem dX0_best_39 : decode cX0_best 39 = .ok (.iload_n 2, 1) := dk_28 (dk_at dksX0_best_1 15 rfl rfl)
theorem dX0_best_40 : decode cX0_best 40 = .ok (.iconst 1, 1) := dk_4 (dk_at dksX0_best_1 16 rfl rfl)
theorem dX0_best_41 : decode cX0_best 41 = .ok (.if_icmp .ne 10, 3) := dk_160 0 10 (dk_at dksX0_best_1 17 rfl rfl)
theorem dX0_best_44 : decode cX0_best 44 = .ok (.aload_n 0, 1) := dk_42 (dk_at dksX0_best_1 20 rfl rfl)
theorem dX0_best_45 : decode cX0_best 45 = .ok (.getfield 260, 3) := dk_180 1 4 (dk_at dksX0_best_1 21 rfl rfl)
theorem dX0_best_48 : decode cX0_best 48 = .ok (.goto 7, 3) := dk_167 0 7 (dk_at dksX0_best_2 0 rfl rfl)
theorem dX0_best_51 : decode cX0_best 51 = .ok (.aload_n 0, 1) := dk_42 (dk_at dksX0_best_2 3 rfl rfl)
theorem dX0_best_52 : decode cX0_best 52 = .ok (.getfield 269, 3) := dk_180 1 13 (dk_at dksX0_best_2 4 rfl rfl)
theorem dX0_best_55 : decode cX0_best 55 = .ok (.ireturn, 1) := dk_172 (dk_at dksX0_best_2 7 rfl rfl)
