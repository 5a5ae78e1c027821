set_option maxRecDepth 100000
def dkwX0_on_8 : List UInt8 := [132, 3, 1, 167, 255, 230, 4, 172]
abbrev dktX0_on_8 : List UInt8 := dkwX0_on_8 ++ []
def dkwX0_on_7 : List UInt8 := [42, 180, 0, 110, 162, 0, 24, 42, 180, 0, 68, 29, 50, 44, 180, 1, 120, 29, 50, 182, 1, 121]
abbrev dktX0_on_7 : List UInt8 := dkwX0_on_7 ++ dktX0_on_8
def dkwX0_on_6 : List UInt8 := [42, 180, 0, 36, 29, 50, 44, 180, 1, 115, 29, 50, 182, 1, 116, 132, 3, 1, 167, 255, 230, 3, 62, 29]
abbrev dktX0_on_6 : List UInt8 := dkwX0_on_6 ++ dktX0_on_7
def dkwX0_on_5 : List UInt8 := [180, 1, 113, 29, 46, 181, 0, 181, 132, 3, 1, 167, 255, 211, 3, 62, 29, 42, 180, 0, 107, 162, 0, 24]
abbrev dktX0_on_5 : List UInt8 := dkwX0_on_5 ++ dktX0_on_6
def dkwX0_on_4 : List UInt8 := [162, 0, 37, 42, 29, 182, 0, 171, 44, 180, 1, 111, 29, 51, 181, 0, 178, 42, 29, 182, 0, 171, 44]
abbrev dktX0_on_4 : List UInt8 := dkwX0_on_4 ++ dktX0_on_5
def dkwX0_on_3 : List UInt8 := [181, 0, 107, 42, 44, 180, 1, 110, 181, 0, 110, 3, 62, 29, 42, 180, 0, 93, 180, 0, 134, 182, 0, 126]
abbrev dktX0_on_3 : List UInt8 := dkwX0_on_3 ++ dktX0_on_4
def dkwX0_on_2 : List UInt8 := [181, 0, 97, 42, 44, 180, 1, 107, 181, 0, 100, 42, 44, 180, 1, 108, 181, 0, 103, 42, 44, 180, 1, 109]
abbrev dktX0_on_2 : List UInt8 := dkwX0_on_2 ++ dktX0_on_3
def dkwX0_on_1 : List UInt8 := [3, 172, 42, 180, 0, 82, 27, 50, 77, 42, 44, 180, 1, 105, 181, 0, 94, 42, 44, 180, 1, 106]
abbrev dktX0_on_1 : List UInt8 := dkwX0_on_1 ++ dktX0_on_2
def dkwX0_on_0 : List UInt8 := [27, 133, 9, 20, 1, 24, 184, 0, 15, 153, 0, 15, 42, 180, 0, 82, 27, 50, 180, 0, 116, 154, 0, 5]
abbrev dktX0_on_0 : List UInt8 := dkwX0_on_0 ++ dktX0_on_1
theorem dksX0_on_0 : cX0_on.data.toList.drop 0 = dktX0_on_0 := by decide +kernel
theorem dksX0_on_1 : cX0_on.data.toList.drop 24 = dktX0_on_1 := dk_seg dksX0_on_0 24 rfl rfl
theorem dksX0_on_2 : cX0_on.data.toList.drop 46 = dktX0_on_2 := dk_seg dksX0_on_1 22 rfl rfl
theorem dksX0_on_3 : cX0_on.data.toList.drop 70 = dktX0_on_3 := dk_seg dksX0_on_2 24 rfl rfl
theorem dksX0_on_4 : cX0_on.data.toList.drop 94 = dktX0_on_4 := dk_seg dksX0_on_3 24 rfl rfl
theorem dksX0_on_5 : cX0_on.data.toList.drop 117 = dktX0_on_5 := dk_seg dksX0_on_4 23 rfl rfl
theorem dksX0_on_6 : cX0_on.data.toList.drop 141 = dktX0_on_6 := dk_seg dksX0_on_5 24 rfl rfl
theorem dksX0_on_7 : cX0_on.data.toList.drop 165 = dktX0_on_7 := dk_seg dksX0_on_6 24 rfl rfl
theorem dksX0_on_8 : cX0_on.data.toList.drop 187 = dktX0_on_8 := dk_seg dksX0_on_7 22 rfl rfl
theorem dX0_on_0 : decode cX0_on 0 = .ok (.iload_n 1, 1) := dk_27 (dk_at dksX0_on_0 0 rfl rfl)
theorem dX0_on_1 : decode cX0_on 1 = .ok (.i2l, 1) := dk_133 (dk_at dksX0_on_0 1 rfl rfl)
theorem dX0_on_2 : decode cX0_on 2 = .ok (.lconst 0, 1) := dk_9 (dk_at dksX0_on_0 2 rfl rfl)
theorem dX0_on_3 : decode cX0_on 3 = .ok (.ldc2_w 280, 3) := dk_20 1 24 (dk_at dksX0_on_0 3 rfl rfl)
theorem dX0_on_6 : decode cX0_on 6 = .ok (.invokestatic 15, 3) := dk_184 0 15 (dk_at dksX0_on_0 6 rfl rfl)
theorem dX0_on_9 : decode cX0_on 9 = .ok (.ifCond .eq 15, 3) := dk_153 0 15 (dk_at dksX0_on_0 9 rfl rfl)
theorem dX0_on_12 : decode cX0_on 12 = .ok (.aload_n 0, 1) := dk_42 (dk_at dksX0_on_0 12 rfl rfl)
theorem dX0_on_13 : decode cX0_on 13 = .ok (.getfield 82, 3) := dk_180 0 82 (dk_at dksX0_on_0 13 rfl rfl)
theorem dX0_on_16 : decode cX0_on 16 = .ok (.iload_n 1, 1) := dk_27 (dk_at dksX0_on_0 16 rfl rfl)
theorem dX0_on_17 : decode cX0_on 17 = .ok (.aaload, 1) := dk_50 (dk_at dksX0_on_0 17 rfl rfl)
theorem dX0_on_18 : decode cX0_on 18 = .ok (.getfield 116, 3) := dk_180 0 116 (dk_at dksX0_on_0 18 rfl rfl)
theorem dX0_on_21 : decode cX0_on 21 = .ok (.ifCond .ne 5, 3) := dk_154 0 5 (dk_at dksX0_on_0 21 rfl rfl)
theorem dX0_on_24 : decode cX0_on 24 = .ok (.iconst 0, 1) := dk_3 (dk_at dksX0_on_1 0 rfl rfl)
theorem dX0_on_25 : decode cX0_on 25 = .ok (.ireturn, 1) := dk_172 (dk_at dksX0_on_1 1 rfl rfl)
theorem dX0_on_26 : decode cX0_on 26 = .ok (.aload_n 0, 1) := dk_42 (dk_at dksX0_on_1 2 rfl rfl)
theorem dX0_on_27 : decode cX0_on 27 = .ok (.getfield 82, 3) := dk_180 0 82 (dk_at dksX0_on_1 3 rfl rfl)
theorem dX0_on_30 : decode cX0_on 30 = .ok (.iload_n 1, 1) := dk_27 (dk_at dksX0_on_1 6 rfl rfl)
theorem dX0_on_31 : decode cX0_on 31 = .ok (.aaload, 1) := dk_50 (dk_at dksX0_on_1 7 rfl rfl)
theorem dX0_on_32 : decode cX0_on 32 = .ok (.astore_n 2, 1) := dk_77 (dk_at dksX0_on_1 8 rfl rfl)
theorem dX0_on_33 : decode cX0_on 33 = .ok (.aload_n 0, 1) := dk_42 (dk_at dksX0_on_1 9 rfl rfl)
theorem dX0_on_34 : decode cX0_on 34 = .ok (.aload_n 2, 1) := dk_44 (dk_at dksX0_on_1 10 rfl rfl)
theorem dX0_on_35 : decode cX0_on 35 = .ok (.getfield 361, 3) := dk_180 1 105 (dk_at dksX0_on_1 11 rfl rfl)
theorem dX0_on_38 : decode cX0_on 38 = .ok (.putfield 94, 3) := dk_181 0 94 (dk_at dksX0_on_1 14 rfl rfl)
theorem dX0_on_41 : decode cX0_on 41 = .ok (.aload_n 0, 1) := dk_42 (dk_at dksX0_on_1 17 rfl rfl)
theorem dX0_on_42 : decode cX0_on 42 = .ok (.aload_n 2, 1) := dk_44 (dk_at dksX0_on_1 18 rfl rfl)
theorem dX0_on_43 : decode cX0_on 43 = .ok (.getfield 362, 3) := dk_180 1 106 (dk_at dksX0_on_1 19 rfl rfl)
theorem dX0_on_46 : decode cX0_on 46 = .ok (.putfield 97, 3) := dk_181 0 97 (dk_at dksX0_on_2 0 rfl rfl)
theorem dX0_on_49 : decode cX0_on 49 = .ok (.aload_n 0, 1) := dk_42 (dk_at dksX0_on_2 3 rfl rfl)
theorem dX0_on_50 : decode cX0_on 50 = .ok (.aload_n 2, 1) := dk_44 (dk_at dksX0_on_2 4 rfl rfl)
theorem dX0_on_51 : decode cX0_on 51 = .ok (.getfield 363, 3) := dk_180 1 107 (dk_at dksX0_on_2 5 rfl rfl)
theorem dX0_on_54 : decode cX0_on 54 = .ok (.putfield 100, 3) := dk_181 0 100 (dk_at dksX0_on_2 8 rfl rfl)
theorem dX0_on_57 : decode cX0_on 57 = .ok (.aload_n 0, 1) := dk_42 (dk_at dksX0_on_2 11 rfl rfl)
theorem dX0_on_58 : decode cX0_on 58 = .ok (.aload_n 2, 1) := dk_44 (dk_at dksX0_on_2 12 rfl rfl)
theorem dX0_on_59 : decode cX0_on 59 = .ok (.getfield 364, 3) := dk_180 1 108 (dk_at dksX0_on_2 13 rfl rfl)
theorem dX0_on_62 : decode cX0_on 62 = .ok (.putfield 103, 3) := dk_181 0 103 (dk_at dksX0_on_2 16 rfl rfl)
theorem dX0_on_65 : decode cX0_on 65 = .ok (.aload_n 0, 1) := dk_42 (dk_at dksX0_on_2 19 rfl rfl)
theorem dX0_on_66 : decode cX0_on 66 = .ok (.aload_n 2, 1) := dk_44 (dk_at dksX0_on_2 20 rfl rfl)
theorem dX0_on_67 : decode cX0_on 67 = .ok (.getfield 365, 3) := dk_180 1 109 (dk_at dksX0_on_2 21 rfl rfl)
theorem dX0_on_70 : decode cX0_on 70 = .ok (.putfield 107, 3) := dk_181 0 107 (dk_at dksX0_on_3 0 rfl rfl)
theorem dX0_on_73 : decode cX0_on 73 = .ok (.aload_n 0, 1) := dk_42 (dk_at dksX0_on_3 3 rfl rfl)
theorem dX0_on_74 : decode cX0_on 74 = .ok (.aload_n 2, 1) := dk_44 (dk_at dksX0_on_3 4 rfl rfl)
theorem dX0_on_75 : decode cX0_on 75 = .ok (.getfield 366, 3) := dk_180 1 110 (dk_at dksX0_on_3 5 rfl rfl)
theorem dX0_on_78 : decode cX0_on 78 = .ok (.putfield 110, 3) := dk_181 0 110 (dk_at dksX0_on_3 8 rfl rfl)
theorem dX0_on_81 : decode cX0_on 81 = .ok (.iconst 0, 1) := dk_3 (dk_at dksX0_on_3 11 rfl rfl)
theorem dX0_on_82 : decode cX0_on 82 = .ok (.istore_n 3, 1) := dk_62 (dk_at dksX0_on_3 12 rfl rfl)
theorem dX0_on_83 : decode cX0_on 83 = .ok (.iload_n 3, 1) := dk_29 (dk_at dksX0_on_3 13 rfl rfl)
theorem dX0_on_84 : decode cX0_on 84 = .ok (.aload_n 0, 1) := dk_42 (dk_at dksX0_on_3 14 rfl rfl)
theorem dX0_on_85 : decode cX0_on 85 = .ok (.getfield 93, 3) := dk_180 0 93 (dk_at dksX0_on_3 15 rfl rfl)
theorem dX0_on_88 : decode cX0_on 88 = .ok (.getfield 134, 3) := dk_180 0 134 (dk_at dksX0_on_3 18 rfl rfl)
theorem dX0_on_91 : decode cX0_on 91 = .ok (.invokevirtual 126, 3) := dk_182 0 126 (dk_at dksX0_on_3 21 rfl rfl)
theorem dX0_on_94 : decode cX0_on 94 = .ok (.if_icmp .ge 37, 3) := dk_162 0 37 (dk_at dksX0_on_4 0 rfl rfl)
theorem dX0_on_97 : decode cX0_on 97 = .ok (.aload_n 0, 1) := dk_42 (dk_at dksX0_on_4 3 rfl rfl)
theorem dX0_on_98 : decode cX0_on 98 = .ok (.iload_n 3, 1) := dk_29 (dk_at dksX0_on_4 4 rfl rfl)
theorem dX0_on_99 : decode cX0_on 99 = .ok (.invokevirtual 171, 3) := dk_182 0 171 (dk_at dksX0_on_4 5 rfl rfl)
theorem dX0_on_102 : decode cX0_on 102 = .ok (.aload_n 2, 1) := dk_44 (dk_at dksX0_on_4 8 rfl rfl)
theorem dX0_on_103 : decode cX0_on 103 = .ok (.getfield 367, 3) := dk_180 1 111 (dk_at dksX0_on_4 9 rfl rfl)
theorem dX0_on_106 : decode cX0_on 106 = .ok (.iload_n 3, 1) := dk_29 (dk_at dksX0_on_4 12 rfl rfl)
theorem dX0_on_107 : decode cX0_on 107 = .ok (.baload, 1) := dk_51 (dk_at dksX0_on_4 13 rfl rfl)
theorem dX0_on_108 : decode cX0_on 108 = .ok (.putfield 178, 3) := dk_181 0 178 (dk_at dksX0_on_4 14 rfl rfl)
theorem dX0_on_111 : decode cX0_on 111 = .ok (.aload_n 0, 1) := dk_42 (dk_at dksX0_on_4 17 rfl rfl)
theorem dX0_on_112 : decode cX0_on 112 = .ok (.iload_n 3, 1) := dk_29 (dk_at dksX0_on_4 18 rfl rfl)
theorem dX0_on_113 : decode cX0_on 113 = .ok (.invokevirtual 171, 3) := dk_182 0 171 (dk_at dksX0_on_4 19 rfl rfl)
theorem dX0_on_116 : decode cX0_on 116 = .ok (.aload_n 2, 1) := dk_44 (dk_at dksX0_on_4 22 rfl rfl)
theorem dX0_on_117 : decode cX0_on 117 = .ok (.getfield 369, 3) := dk_180 1 113 (dk_at dksX0_on_5 0 rfl rfl)
theorem dX0_on_120 : decode cX0_on 120 = .ok (.iload_n 3, 1) := dk_29 (dk_at dksX0_on_5 3 rfl rfl)
theorem dX0_on_121 : decode cX0_on 121 = .ok (.iaload, 1) := dk_46 (dk_at dksX0_on_5 4 rfl rfl)
theorem dX0_on_122 : decode cX0_on 122 = .ok (.putfield 181, 3) := dk_181 0 181 (dk_at dksX0_on_5 5 rfl rfl)
theorem dX0_on_125 : decode cX0_on 125 = .ok (.iinc 3 1, 3) := dk_132 3 1 (dk_at dksX0_on_5 8 rfl rfl)
theorem dX0_on_128 : decode cX0_on 128 = .ok (.goto (-45), 3) := dk_167 255 211 (dk_at dksX0_on_5 11 rfl rfl)
theorem dX0_on_131 : decode cX0_on 131 = .ok (.iconst 0, 1) := dk_3 (dk_at dksX0_on_5 14 rfl rfl)
theorem dX0_on_132 : decode cX0_on 132 = .ok (.istore_n 3, 1) := dk_62 (dk_at dksX0_on_5 15 rfl rfl)
theorem dX0_on_133 : decode cX0_on 133 = .ok (.iload_n 3, 1) := dk_29 (dk_at dksX0_on_5 16 rfl rfl)
theorem dX0_on_134 : decode cX0_on 134 = .ok (.aload_n 0, 1) := dk_42 (dk_at dksX0_on_5 17 rfl rfl)
theorem dX0_on_135 : decode cX0_on 135 = .ok (.getfield 107, 3) := dk_180 0 107 (dk_at dksX0_on_5 18 rfl rfl)
theorem dX0_on_138 : decode cX0_on 138 = .ok (.if_icmp .ge 24, 3) := dk_162 0 24 (dk_at dksX0_on_5 21 rfl rfl)
theorem dX0_on_141 : decode cX0_on 141 = .ok (.aload_n 0, 1) := dk_42 (dk_at dksX0_on_6 0 rfl rfl)
theorem dX0_on_142 : decode cX0_on 142 = .ok (.getfield 36, 3) := dk_180 0 36 (dk_at dksX0_on_6 1 rfl rfl)
theorem dX0_on_145 : decode cX0_on 145 = .ok (.iload_n 3, 1) := dk_29 (dk_at dksX0_on_6 4 rfl rfl)
theorem dX0_on_146 : decode cX0_on 146 = .ok (.aaload, 1) := dk_50 (dk_at dksX0_on_6 5 rfl rfl)
theorem dX0_on_147 : decode cX0_on 147 = .ok (.aload_n 2, 1) := dk_44 (dk_at dksX0_on_6 6 rfl rfl)
theorem dX0_on_148 : decode cX0_on 148 = .ok (.getfield 371, 3) := dk_180 1 115 (dk_at dksX0_on_6 7 rfl rfl)
theorem dX0_on_151 : decode cX0_on 151 = .ok (.iload_n 3, 1) := dk_29 (dk_at dksX0_on_6 10 rfl rfl)
theorem dX0_on_152 : decode cX0_on 152 = .ok (.aaload, 1) := dk_50 (dk_at dksX0_on_6 11 rfl rfl)
theorem dX0_on_153 : decode cX0_on 153 = .ok (.invokevirtual 372, 3) := dk_182 1 116 (dk_at dksX0_on_6 12 rfl rfl)
theorem dX0_on_156 : decode cX0_on 156 = .ok (.iinc 3 1, 3) := dk_132 3 1 (dk_at dksX0_on_6 15 rfl rfl)
theorem dX0_on_159 : decode cX0_on 159 = .ok (.goto (-26), 3) := dk_167 255 230 (dk_at dksX0_on_6 18 rfl rfl)
theorem dX0_on_162 : decode cX0_on 162 = .ok (.iconst 0, 1) := dk_3 (dk_at dksX0_on_6 21 rfl rfl)
theorem dX0_on_163 : decode cX0_on 163 = .ok (.istore_n 3, 1) := dk_62 (dk_at dksX0_on_6 22 rfl rfl)
theorem dX0_on_164 : decode cX0_on 164 = .ok (.iload_n 3, 1) := dk_29 (dk_at dksX0_on_6 23 rfl rfl)
theorem dX0_on_165 : decode cX0_on 165 = .ok (.aload_n 0, 1) := dk_42 (dk_at dksX0_on_7 0 rfl rfl)
theorem dX0_on_166 : decode cX0_on 166 = .ok (.getfield 110, 3) := dk_180 0 110 (dk_at dksX0_on_7 1 rfl rfl)
theorem dX0_on_169 : decode cX0_on 169 = .ok (.if_icmp .ge 24, 3) := dk_162 0 24 (dk_at dksX0_on_7 4 rfl rfl)
theorem dX0_on_172 : decode cX0_on 172 = .ok (.aload_n 0, 1) := dk_42 (dk_at dksX0_on_7 7 rfl rfl)
theorem dX0_on_173 : decode cX0_on 173 = .ok (.getfield 68, 3) := dk_180 0 68 (dk_at dksX0_on_7 8 rfl rfl)
theorem dX0_on_176 : decode cX0_on 176 = .ok (.iload_n 3, 1) := dk_29 (dk_at dksX0_on_7 11 rfl rfl)
theorem dX0_on_177 : decode cX0_on 177 = .ok (.aaload, 1) := dk_50 (dk_at dksX0_on_7 12 rfl rfl)
theorem dX0_on_178 : decode cX0_on 178 = .ok (.aload_n 2, 1) := dk_44 (dk_at dksX0_on_7 13 rfl rfl)
theorem dX0_on_179 : decode cX0_on 179 = .ok (.getfield 376, 3) := dk_180 1 120 (dk_at dksX0_on_7 14 rfl rfl)
theorem dX0_on_182 : decode cX0_on 182 = .ok (.iload_n 3, 1) := dk_29 (dk_at dksX0_on_7 17 rfl rfl)
theorem dX0_on_183 : decode cX0_on 183 = .ok (.aaload, 1) := dk_50 (dk_at dksX0_on_7 18 rfl rfl)
theorem dX0_on_184 : decode cX0_on 184 = .ok (.invokevirtual 377, 3) := dk_182 1 121 (dk_at dksX0_on_7 19 rfl rfl)
theorem dX0_on_187 : decode cX0_on 187 = .ok (.iinc 3 1, 3) := dk_132 3 1 (dk_at dksX0_on_8 0 rfl rfl)
theorem dX0_on_190 : decode cX0_on 190 = .ok (.goto (-26), 3) := dk_167 255 230 (dk_at dksX0_on_8 3 rfl rfl)
theorem dX0_on_193 : decode cX0_on 193 = .ok (.iconst 1, 1) := dk_4 (dk_at dksX0_on_8 6 rfl rfl)
theorem dX0_on_194 : decode cX0_on 194 = .ok (.ireturn, 1) := dk_172 (dk_at dksX0_on_8 7 rfl rfl)
def dkwX0_count_5 : List UInt8 := [172, 42, 180, 0, 94, 172, 42, 180, 0, 7, 172, 2, 172]
abbrev dktX0_count_5 : List UInt8 := dkwX0_count_5 ++ []
def dkwX0_count_4 : List UInt8 := [153, 0, 13, 42, 180, 0, 93, 180, 0, 221, 167, 0, 4, 3, 172, 42, 180, 0, 110, 172, 42, 180, 0, 113]
abbrev dktX0_count_4 : List UInt8 := dkwX0_count_4 ++ dktX0_count_5
def dkwX0_count_3 : List UInt8 := [182, 0, 126, 167, 0, 4, 3, 172, 28, 153, 0, 10, 42, 180, 0, 97, 167, 0, 4, 3, 172, 28]
abbrev dktX0_count_3 : List UInt8 := dkwX0_count_3 ++ dktX0_count_4
def dkwX0_count_2 : List UInt8 := [28, 153, 0, 10, 42, 182, 0, 131, 167, 0, 4, 3, 172, 28, 153, 0, 16, 42, 180, 0, 93, 180, 0, 134]
abbrev dktX0_count_2 : List UInt8 := dkwX0_count_2 ++ dktX0_count_3
def dkwX0_count_1 : List UInt8 := [170, 0, 0, 0, 0, 127, 0, 0, 0, 0, 0, 0, 0, 7, 0, 0, 0, 46, 0, 0, 0, 59, 0, 0, 0, 78, 0, 0, 0, 91, 0, 0, 0, 107, 0, 0, 0, 112, 0, 0, 0, 117, 0, 0, 0, 122]
abbrev dktX0_count_1 : List UInt8 := dkwX0_count_1 ++ dktX0_count_2
def dkwX0_count_0 : List UInt8 := [42, 180, 0, 93, 198, 0, 7, 4, 167, 0, 4, 3, 61, 27]
abbrev dktX0_count_0 : List UInt8 := dkwX0_count_0 ++ dktX0_count_1
theorem dksX0_count_0 : cX0_count.data.toList.drop 0 = dktX0_count_0 := by decide +kernel
theorem dksX0_count_1 : cX0_count.data.toList.drop 14 = dktX0_count_1 := dk_seg dksX0_count_0 14 rfl rfl
theorem dksX0_count_2 : cX0_count.data.toList.drop 60 = dktX0_count_2 := dk_seg dksX0_count_1 46 rfl rfl
theorem dksX0_count_3 : cX0_count.data.toList.drop 84 = dktX0_count_3 := dk_seg dksX0_count_2 24 rfl rfl
theorem dksX0_count_4 : cX0_count.data.toList.drop 106 = dktX0_count_4 := dk_seg dksX0_count_3 22 rfl rfl
theorem dksX0_count_5 : cX0_count.data.toList.drop 130 = dktX0_count_5 := dk_seg dksX0_count_4 24 rfl rfl
theorem dX0_count_0 : decode cX0_count 0 = .ok (.aload_n 0, 1) := dk_42 (dk_at dksX0_count_0 0 rfl rfl)
theorem dX0_count_1 : decode cX0_count 1 = .ok (.getfield 93, 3) := dk_180 0 93 (dk_at dksX0_count_0 1 rfl rfl)
theorem dX0_count_4 : decode cX0_count 4 = .ok (.ifnull 7, 3) := dk_198 0 7 (dk_at dksX0_count_0 4 rfl rfl)
theorem dX0_count_7 : decode cX0_count 7 = .ok (.iconst 1, 1) := dk_4 (dk_at dksX0_count_0 7 rfl rfl)
theorem dX0_count_8 : decode cX0_count 8 = .ok (.goto 4, 3) := dk_167 0 4 (dk_at dksX0_count_0 8 rfl rfl)
theorem dX0_count_11 : decode cX0_count 11 = .ok (.iconst 0, 1) := dk_3 (dk_at dksX0_count_0 11 rfl rfl)
theorem dX0_count_12 : decode cX0_count 12 = .ok (.istore_n 2, 1) := dk_61 (dk_at dksX0_count_0 12 rfl rfl)
theorem dX0_count_13 : decode cX0_count 13 = .ok (.iload_n 1, 1) := dk_27 (dk_at dksX0_count_0 13 rfl rfl)
theorem dX0_count_14 : decode cX0_count 14 = .ok (.tableswitch 127 0 7 #[46, 59, 78, 91, 107, 112, 117, 122], 46) := by decide +kernel
theorem dX0_count_60 : decode cX0_count 60 = .ok (.iload_n 2, 1) := dk_28 (dk_at dksX0_count_2 0 rfl rfl)
theorem dX0_count_61 : decode cX0_count 61 = .ok (.ifCond .eq 10, 3) := dk_153 0 10 (dk_at dksX0_count_2 1 rfl rfl)
theorem dX0_count_64 : decode cX0_count 64 = .ok (.aload_n 0, 1) := dk_42 (dk_at dksX0_count_2 4 rfl rfl)
theorem dX0_count_65 : decode cX0_count 65 = .ok (.invokevirtual 131, 3) := dk_182 0 131 (dk_at dksX0_count_2 5 rfl rfl)
theorem dX0_count_68 : decode cX0_count 68 = .ok (.goto 4, 3) := dk_167 0 4 (dk_at dksX0_count_2 8 rfl rfl)
theorem dX0_count_71 : decode cX0_count 71 = .ok (.iconst 0, 1) := dk_3 (dk_at dksX0_count_2 11 rfl rfl)
theorem dX0_count_72 : decode cX0_count 72 = .ok (.ireturn, 1) := dk_172 (dk_at dksX0_count_2 12 rfl rfl)
theorem dX0_count_73 : decode cX0_count 73 = .ok (.iload_n 2, 1) := dk_28 (dk_at dksX0_count_2 13 rfl rfl)
theorem dX0_count_74 : decode cX0_count 74 = .ok (.ifCond .eq 16, 3) := dk_153 0 16 (dk_at dksX0_count_2 14 rfl rfl)
theorem dX0_count_77 : decode cX0_count 77 = .ok (.aload_n 0, 1) := dk_42 (dk_at dksX0_count_2 17 rfl rfl)
theorem dX0_count_78 : decode cX0_count 78 = .ok (.getfield 93, 3) := dk_180 0 93 (dk_at dksX0_count_2 18 rfl rfl)
theorem dX0_count_81 : decode cX0_count 81 = .ok (.getfield 134, 3) := dk_180 0 134 (dk_at dksX0_count_2 21 rfl rfl)
theorem dX0_count_84 : decode cX0_count 84 = .ok (.invokevirtual 126, 3) := dk_182 0 126 (dk_at dksX0_count_3 0 rfl rfl)
theorem dX0_count_87 : decode cX0_count 87 = .ok (.goto 4, 3) := dk_167 0 4 (dk_at dksX0_count_3 3 rfl rfl)
theorem dX0_count_90 : decode cX0_count 90 = .ok (.iconst 0, 1) := dk_3 (dk_at dksX0_count_3 6 rfl rfl)
theorem dX0_count_91 : decode cX0_count 91 = .ok (.ireturn, 1) := dk_172 (dk_at dksX0_count_3 7 rfl rfl)
theorem dX0_count_92 : decode cX0_count 92 = .ok (.iload_n 2, 1) := dk_28 (dk_at dksX0_count_3 8 rfl rfl)
theorem dX0_count_93 : decode cX0_count 93 = .ok (.ifCond .eq 10, 3) := dk_153 0 10 (dk_at dksX0_count_3 9 rfl rfl)
theorem dX0_count_96 : decode cX0_count 96 = .ok (.aload_n 0, 1) := dk_42 (dk_at dksX0_count_3 12 rfl rfl)
theorem dX0_count_97 : decode cX0_count 97 = .ok (.getfield 97, 3) := dk_180 0 97 (dk_at dksX0_count_3 13 rfl rfl)
theorem dX0_count_100 : decode cX0_count 100 = .ok (.goto 4, 3) := dk_167 0 4 (dk_at dksX0_count_3 16 rfl rfl)
theorem dX0_count_103 : decode cX0_count 103 = .ok (.iconst 0, 1) := dk_3 (dk_at dksX0_count_3 19 rfl rfl)
theorem dX0_count_104 : decode cX0_count 104 = .ok (.ireturn, 1) := dk_172 (dk_at dksX0_count_3 20 rfl rfl)
theorem dX0_count_105 : decode cX0_count 105 = .ok (.iload_n 2, 1) := dk_28 (dk_at dksX0_count_3 21 rfl rfl)
theorem dX0_count_106 : decode cX0_count 106 = .ok (.ifCond .eq 13, 3) := dk_153 0 13 (dk_at dksX0_count_4 0 rfl rfl)
theorem dX0_count_109 : decode cX0_count 109 = .ok (.aload_n 0, 1) := dk_42 (dk_at dksX0_count_4 3 rfl rfl)
theorem dX0_count_110 : decode cX0_count 110 = .ok (.getfield 93, 3) := dk_180 0 93 (dk_at dksX0_count_4 4 rfl rfl)
theorem dX0_count_113 : decode cX0_count 113 = .ok (.getfield 221, 3) := dk_180 0 221 (dk_at dksX0_count_4 7 rfl rfl)
theorem dX0_count_116 : decode cX0_count 116 = .ok (.goto 4, 3) := dk_167 0 4 (dk_at dksX0_count_4 10 rfl rfl)
theorem dX0_count_119 : decode cX0_count 119 = .ok (.iconst 0, 1) := dk_3 (dk_at dksX0_count_4 13 rfl rfl)
theorem dX0_count_120 : decode cX0_count 120 = .ok (.ireturn, 1) := dk_172 (dk_at dksX0_count_4 14 rfl rfl)
theorem dX0_count_121 : decode cX0_count 121 = .ok (.aload_n 0, 1) := dk_42 (dk_at dksX0_count_4 15 rfl rfl)
theorem dX0_count_122 : decode cX0_count 122 = .ok (.getfield 110, 3) := dk_180 0 110 (dk_at dksX0_count_4 16 rfl rfl)
theorem dX0_count_125 : decode cX0_count 125 = .ok (.ireturn, 1) := dk_172 (dk_at dksX0_count_4 19 rfl rfl)
theorem dX0_count_126 : decode cX0_count 126 = .ok (.aload_n 0, 1) := dk_42 (dk_at dksX0_count_4 20 rfl rfl)
theorem dX0_count_127 : decode cX0_count 127 = .ok (.getfield 113, 3) := dk_180 0 113 (dk_at dksX0_count_4 21 rfl rfl)
theorem dX0_count_130 : decode cX0_count 130 = .ok (.ireturn, 1) := dk_172 (dk_at dksX0_count_5 0 rfl rfl)
theorem dX0_count_131 : decode cX0_count 131 = .ok (.aload_n 0, 1) := dk_42 (dk_at dksX0_count_5 1 rfl rfl)
theorem dX0_count_132 : decode cX0_count 132 = .ok (.getfield 94, 3) := dk_180 0 94 (dk_at dksX0_count_5 2 rfl rfl)
theorem dX0_count_135 : decode cX0_count 135 = .ok (.ireturn, 1) := dk_172 (dk_at dksX0_count_5 5 rfl rfl)
theorem dX0_count_136 : decode cX0_count 136 = .ok (.aload_n 0, 1) := dk_42 (dk_at dksX0_count_5 6 rfl rfl)
theorem dX0_count_137 : decode cX0_count 137 = .ok (.getfield 7, 3) := dk_180 0 7 (dk_at dksX0_count_5 7 rfl rfl)
theorem dX0_count_140 : decode cX0_count 140 = .ok (.ireturn, 1) := dk_172 (dk_at dksX0_count_5 10 rfl rfl)
theorem dX0_count_141 : decode cX0_count 141 = .ok (.iconst (-1), 1) := dk_2 (dk_at dksX0_count_5 11 rfl rfl)
theorem dX0_count_142 : decode cX0_count 142 = .ok (.ireturn, 1) := dk_172 (dk_at dksX0_count_5 12 rfl rfl)
