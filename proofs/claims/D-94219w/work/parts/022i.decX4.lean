set_option maxRecDepth 100000
def dkwX4_count_3 : List UInt8 := [172, 42, 180, 1, 36, 172, 42, 180, 1, 15, 172, 42, 180, 0, 131, 172, 2, 172]
abbrev dktX4_count_3 : List UInt8 := dkwX4_count_3 ++ []
def dkwX4_count_2 : List UInt8 := [42, 180, 1, 4, 172, 42, 180, 1, 7, 172, 42, 180, 1, 18, 172, 42, 180, 1, 13, 172, 42, 180, 1, 30]
abbrev dktX4_count_2 : List UInt8 := dkwX4_count_2 ++ dktX4_count_3
def dkwX4_count_1 : List UInt8 := [170, 0, 0, 0, 0, 0, 87, 0, 0, 0, 0, 0, 0, 0, 7, 0, 0, 0, 47, 0, 0, 0, 52, 0, 0, 0, 57, 0, 0, 0, 62, 0, 0, 0, 67, 0, 0, 0, 72, 0, 0, 0, 77, 0, 0, 0, 82]
abbrev dktX4_count_1 : List UInt8 := dkwX4_count_1 ++ dktX4_count_2
def dkwX4_count_0 : List UInt8 := [27]
abbrev dktX4_count_0 : List UInt8 := dkwX4_count_0 ++ dktX4_count_1
theorem dksX4_count_0 : cX4_count.data.toList.drop 0 = dktX4_count_0 := by decide +kernel
theorem dksX4_count_1 : cX4_count.data.toList.drop 1 = dktX4_count_1 := dk_seg dksX4_count_0 1 rfl rfl
theorem dksX4_count_2 : cX4_count.data.toList.drop 48 = dktX4_count_2 := dk_seg dksX4_count_1 47 rfl rfl
theorem dksX4_count_3 : cX4_count.data.toList.drop 72 = dktX4_count_3 := dk_seg dksX4_count_2 24 rfl rfl
theorem dX4_count_0 : decode cX4_count 0 = .ok (.iload_n 1, 1) := dk_27 (dk_at dksX4_count_0 0 rfl rfl)
theorem dX4_count_1 : decode cX4_count 1 = .ok (.tableswitch 87 0 7 #[47, 52, 57, 62, 67, 72, 77, 82], 47) := by decide +kernel
theorem dX4_count_48 : decode cX4_count 48 = .ok (.aload_n 0, 1) := dk_42 (dk_at dksX4_count_2 0 rfl rfl)
theorem dX4_count_49 : decode cX4_count 49 = .ok (.getfield 260, 3) := dk_180 1 4 (dk_at dksX4_count_2 1 rfl rfl)
theorem dX4_count_52 : decode cX4_count 52 = .ok (.ireturn, 1) := dk_172 (dk_at dksX4_count_2 4 rfl rfl)
theorem dX4_count_53 : decode cX4_count 53 = .ok (.aload_n 0, 1) := dk_42 (dk_at dksX4_count_2 5 rfl rfl)
theorem dX4_count_54 : decode cX4_count 54 = .ok (.getfield 263, 3) := dk_180 1 7 (dk_at dksX4_count_2 6 rfl rfl)
theorem dX4_count_57 : decode cX4_count 57 = .ok (.ireturn, 1) := dk_172 (dk_at dksX4_count_2 9 rfl rfl)
theorem dX4_count_58 : decode cX4_count 58 = .ok (.aload_n 0, 1) := dk_42 (dk_at dksX4_count_2 10 rfl rfl)
theorem dX4_count_59 : decode cX4_count 59 = .ok (.getfield 274, 3) := dk_180 1 18 (dk_at dksX4_count_2 11 rfl rfl)
theorem dX4_count_62 : decode cX4_count 62 = .ok (.ireturn, 1) := dk_172 (dk_at dksX4_count_2 14 rfl rfl)
theorem dX4_count_63 : decode cX4_count 63 = .ok (.aload_n 0, 1) := dk_42 (dk_at dksX4_count_2 15 rfl rfl)
theorem dX4_count_64 : decode cX4_count 64 = .ok (.getfield 269, 3) := dk_180 1 13 (dk_at dksX4_count_2 16 rfl rfl)
theorem dX4_count_67 : decode cX4_count 67 = .ok (.ireturn, 1) := dk_172 (dk_at dksX4_count_2 19 rfl rfl)
theorem dX4_count_68 : decode cX4_count 68 = .ok (.aload_n 0, 1) := dk_42 (dk_at dksX4_count_2 20 rfl rfl)
theorem dX4_count_69 : decode cX4_count 69 = .ok (.getfield 286, 3) := dk_180 1 30 (dk_at dksX4_count_2 21 rfl rfl)
theorem dX4_count_72 : decode cX4_count 72 = .ok (.ireturn, 1) := dk_172 (dk_at dksX4_count_3 0 rfl rfl)
theorem dX4_count_73 : decode cX4_count 73 = .ok (.aload_n 0, 1) := dk_42 (dk_at dksX4_count_3 1 rfl rfl)
theorem dX4_count_74 : decode cX4_count 74 = .ok (.getfield 292, 3) := dk_180 1 36 (dk_at dksX4_count_3 2 rfl rfl)
theorem dX4_count_77 : decode cX4_count 77 = .ok (.ireturn, 1) := dk_172 (dk_at dksX4_count_3 5 rfl rfl)
theorem dX4_count_78 : decode cX4_count 78 = .ok (.aload_n 0, 1) := dk_42 (dk_at dksX4_count_3 6 rfl rfl)
theorem dX4_count_79 : decode cX4_count 79 = .ok (.getfield 271, 3) := dk_180 1 15 (dk_at dksX4_count_3 7 rfl rfl)
theorem dX4_count_82 : decode cX4_count 82 = .ok (.ireturn, 1) := dk_172 (dk_at dksX4_count_3 10 rfl rfl)
theorem dX4_count_83 : decode cX4_count 83 = .ok (.aload_n 0, 1) := dk_42 (dk_at dksX4_count_3 11 rfl rfl)
theorem dX4_count_84 : decode cX4_count 84 = .ok (.getfield 131, 3) := dk_180 0 131 (dk_at dksX4_count_3 12 rfl rfl)
theorem dX4_count_87 : decode cX4_count 87 = .ok (.ireturn, 1) := dk_172 (dk_at dksX4_count_3 15 rfl rfl)
theorem dX4_count_88 : decode cX4_count 88 = .ok (.iconst (-1), 1) := dk_2 (dk_at dksX4_count_3 16 rfl rfl)
theorem dX4_count_89 : decode cX4_count 89 = .ok (.ireturn, 1) := dk_172 (dk_at dksX4_count_3 17 rfl rfl)
