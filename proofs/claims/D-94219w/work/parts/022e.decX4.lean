set_option maxRecDepth 100000
def dkwX4_init_13 : List UInt8 := [181, 0, 125, 42, 17, 4, 0, 188, 11, 181, 0, 128, 177]
abbrev dktX4_init_13 : List UInt8 := dkwX4_init_13 ++ []
def dkwX4_init_12 : List UInt8 := [17, 4, 0, 188, 4, 181, 0, 118, 42, 18, 121, 188, 10, 181, 0, 122, 42, 17, 4, 0, 188, 11]
abbrev dktX4_init_12 : List UInt8 := dkwX4_init_12 ++ dktX4_init_13
def dkwX4_init_11 : List UInt8 := [181, 0, 109, 42, 17, 4, 0, 188, 4, 181, 0, 112, 42, 17, 4, 0, 188, 10, 181, 0, 115, 42]
abbrev dktX4_init_11 : List UInt8 := dkwX4_init_11 ++ dktX4_init_12
def dkwX4_init_10 : List UInt8 := [181, 0, 100, 42, 6, 188, 10, 181, 0, 103, 42, 17, 1, 224, 188, 10, 181, 0, 106, 42, 6, 188, 11]
abbrev dktX4_init_10 : List UInt8 := dkwX4_init_10 ++ dktX4_init_11
def dkwX4_init_9 : List UInt8 := [181, 0, 91, 42, 6, 188, 10, 181, 0, 94, 42, 6, 188, 10, 181, 0, 97, 42, 17, 1, 104, 188, 10]
abbrev dktX4_init_9 : List UInt8 := dkwX4_init_9 ++ dktX4_init_10
def dkwX4_init_8 : List UInt8 := [181, 0, 82, 42, 6, 188, 10, 181, 0, 85, 42, 6, 188, 10, 181, 0, 88, 42, 16, 9, 188, 10]
abbrev dktX4_init_8 : List UInt8 := dkwX4_init_8 ++ dktX4_init_9
def dkwX4_init_7 : List UInt8 := [181, 0, 72, 42, 16, 20, 188, 10, 181, 0, 75, 42, 6, 188, 4, 181, 0, 78, 42, 6, 188, 10]
abbrev dktX4_init_7 : List UInt8 := dkwX4_init_7 ++ dktX4_init_8
def dkwX4_init_6 : List UInt8 := [181, 0, 63, 42, 16, 8, 188, 10, 181, 0, 66, 42, 16, 8, 188, 10, 181, 0, 69, 42, 16, 20, 188, 10]
abbrev dktX4_init_6 : List UInt8 := dkwX4_init_6 ++ dktX4_init_7
def dkwX4_init_5 : List UInt8 := [181, 0, 54, 42, 6, 188, 10, 181, 0, 57, 42, 16, 120, 188, 10, 181, 0, 60, 42, 17, 0, 160, 188, 10]
abbrev dktX4_init_5 : List UInt8 := dkwX4_init_5 ++ dktX4_init_6
def dkwX4_init_4 : List UInt8 := [181, 0, 45, 42, 16, 10, 188, 10, 181, 0, 48, 42, 16, 10, 188, 10, 181, 0, 51, 42, 16, 24, 188, 10]
abbrev dktX4_init_4 : List UInt8 := dkwX4_init_4 ++ dktX4_init_5
def dkwX4_init_3 : List UInt8 := [181, 0, 36, 42, 16, 20, 188, 10, 181, 0, 39, 42, 6, 188, 10, 181, 0, 42, 42, 16, 60, 188, 10]
abbrev dktX4_init_3 : List UInt8 := dkwX4_init_3 ++ dktX4_init_4
def dkwX4_init_2 : List UInt8 := [181, 0, 27, 42, 16, 10, 188, 10, 181, 0, 30, 42, 16, 10, 188, 10, 181, 0, 33, 42, 16, 24, 188, 10]
abbrev dktX4_init_2 : List UInt8 := dkwX4_init_2 ++ dktX4_init_3
def dkwX4_init_1 : List UInt8 := [188, 10, 181, 0, 17, 42, 6, 188, 11, 181, 0, 21, 42, 6, 188, 10, 181, 0, 24, 42, 16, 60, 188, 10]
abbrev dktX4_init_1 : List UInt8 := dkwX4_init_1 ++ dktX4_init_2
def dkwX4_init_0 : List UInt8 := [42, 183, 0, 1, 42, 17, 1, 244, 188, 8, 181, 0, 9, 42, 16, 10, 188, 11, 181, 0, 13, 42, 16, 20]
abbrev dktX4_init_0 : List UInt8 := dkwX4_init_0 ++ dktX4_init_1
theorem dksX4_init_0 : cX4_init.data.toList.drop 0 = dktX4_init_0 := by decide +kernel
theorem dksX4_init_1 : cX4_init.data.toList.drop 24 = dktX4_init_1 := dk_seg dksX4_init_0 24 rfl rfl
theorem dksX4_init_2 : cX4_init.data.toList.drop 48 = dktX4_init_2 := dk_seg dksX4_init_1 24 rfl rfl
theorem dksX4_init_3 : cX4_init.data.toList.drop 72 = dktX4_init_3 := dk_seg dksX4_init_2 24 rfl rfl
theorem dksX4_init_4 : cX4_init.data.toList.drop 95 = dktX4_init_4 := dk_seg dksX4_init_3 23 rfl rfl
theorem dksX4_init_5 : cX4_init.data.toList.drop 119 = dktX4_init_5 := dk_seg dksX4_init_4 24 rfl rfl
theorem dksX4_init_6 : cX4_init.data.toList.drop 143 = dktX4_init_6 := dk_seg dksX4_init_5 24 rfl rfl
theorem dksX4_init_7 : cX4_init.data.toList.drop 167 = dktX4_init_7 := dk_seg dksX4_init_6 24 rfl rfl
theorem dksX4_init_8 : cX4_init.data.toList.drop 189 = dktX4_init_8 := dk_seg dksX4_init_7 22 rfl rfl
theorem dksX4_init_9 : cX4_init.data.toList.drop 211 = dktX4_init_9 := dk_seg dksX4_init_8 22 rfl rfl
theorem dksX4_init_10 : cX4_init.data.toList.drop 234 = dktX4_init_10 := dk_seg dksX4_init_9 23 rfl rfl
theorem dksX4_init_11 : cX4_init.data.toList.drop 257 = dktX4_init_11 := dk_seg dksX4_init_10 23 rfl rfl
theorem dksX4_init_12 : cX4_init.data.toList.drop 279 = dktX4_init_12 := dk_seg dksX4_init_11 22 rfl rfl
theorem dksX4_init_13 : cX4_init.data.toList.drop 301 = dktX4_init_13 := dk_seg dksX4_init_12 22 rfl rfl
theorem dX4_init_0 : decode cX4_init 0 = .ok (.aload_n 0, 1) := dk_42 (dk_at dksX4_init_0 0 rfl rfl)
theorem dX4_init_1 : decode cX4_init 1 = .ok (.invokespecial 1, 3) := dk_183 0 1 (dk_at dksX4_init_0 1 rfl rfl)
theorem dX4_init_4 : decode cX4_init 4 = .ok (.aload_n 0, 1) := dk_42 (dk_at dksX4_init_0 4 rfl rfl)
theorem dX4_init_5 : decode cX4_init 5 = .ok (.sipush 500, 3) := dk_17 1 244 (dk_at dksX4_init_0 5 rfl rfl)
theorem dX4_init_8 : decode cX4_init 8 = .ok (.newarray .byte, 2) := dk_188_8 (dk_at dksX4_init_0 8 rfl rfl)
theorem dX4_init_10 : decode cX4_init 10 = .ok (.putfield 9, 3) := dk_181 0 9 (dk_at dksX4_init_0 10 rfl rfl)
theorem dX4_init_13 : decode cX4_init 13 = .ok (.aload_n 0, 1) := dk_42 (dk_at dksX4_init_0 13 rfl rfl)
theorem dX4_init_14 : decode cX4_init 14 = .ok (.bipush 10, 2) := dk_16 10 (dk_at dksX4_init_0 14 rfl rfl)
theorem dX4_init_16 : decode cX4_init 16 = .ok (.newarray .long, 2) := dk_188_11 (dk_at dksX4_init_0 16 rfl rfl)
theorem dX4_init_18 : decode cX4_init 18 = .ok (.putfield 13, 3) := dk_181 0 13 (dk_at dksX4_init_0 18 rfl rfl)
theorem dX4_init_21 : decode cX4_init 21 = .ok (.aload_n 0, 1) := dk_42 (dk_at dksX4_init_0 21 rfl rfl)
theorem dX4_init_22 : decode cX4_init 22 = .ok (.bipush 20, 2) := dk_16 20 (dk_at dksX4_init_0 22 rfl rfl)
theorem dX4_init_24 : decode cX4_init 24 = .ok (.newarray .int, 2) := dk_188_10 (dk_at dksX4_init_1 0 rfl rfl)
theorem dX4_init_26 : decode cX4_init 26 = .ok (.putfield 17, 3) := dk_181 0 17 (dk_at dksX4_init_1 2 rfl rfl)
theorem dX4_init_29 : decode cX4_init 29 = .ok (.aload_n 0, 1) := dk_42 (dk_at dksX4_init_1 5 rfl rfl)
theorem dX4_init_30 : decode cX4_init 30 = .ok (.iconst 3, 1) := dk_6 (dk_at dksX4_init_1 6 rfl rfl)
theorem dX4_init_31 : decode cX4_init 31 = .ok (.newarray .long, 2) := dk_188_11 (dk_at dksX4_init_1 7 rfl rfl)
theorem dX4_init_33 : decode cX4_init 33 = .ok (.putfield 21, 3) := dk_181 0 21 (dk_at dksX4_init_1 9 rfl rfl)
theorem dX4_init_36 : decode cX4_init 36 = .ok (.aload_n 0, 1) := dk_42 (dk_at dksX4_init_1 12 rfl rfl)
theorem dX4_init_37 : decode cX4_init 37 = .ok (.iconst 3, 1) := dk_6 (dk_at dksX4_init_1 13 rfl rfl)
theorem dX4_init_38 : decode cX4_init 38 = .ok (.newarray .int, 2) := dk_188_10 (dk_at dksX4_init_1 14 rfl rfl)
theorem dX4_init_40 : decode cX4_init 40 = .ok (.putfield 24, 3) := dk_181 0 24 (dk_at dksX4_init_1 16 rfl rfl)
theorem dX4_init_43 : decode cX4_init 43 = .ok (.aload_n 0, 1) := dk_42 (dk_at dksX4_init_1 19 rfl rfl)
theorem dX4_init_44 : decode cX4_init 44 = .ok (.bipush 60, 2) := dk_16 60 (dk_at dksX4_init_1 20 rfl rfl)
theorem dX4_init_46 : decode cX4_init 46 = .ok (.newarray .int, 2) := dk_188_10 (dk_at dksX4_init_1 22 rfl rfl)
theorem dX4_init_48 : decode cX4_init 48 = .ok (.putfield 27, 3) := dk_181 0 27 (dk_at dksX4_init_2 0 rfl rfl)
theorem dX4_init_51 : decode cX4_init 51 = .ok (.aload_n 0, 1) := dk_42 (dk_at dksX4_init_2 3 rfl rfl)
theorem dX4_init_52 : decode cX4_init 52 = .ok (.bipush 10, 2) := dk_16 10 (dk_at dksX4_init_2 4 rfl rfl)
theorem dX4_init_54 : decode cX4_init 54 = .ok (.newarray .int, 2) := dk_188_10 (dk_at dksX4_init_2 6 rfl rfl)
theorem dX4_init_56 : decode cX4_init 56 = .ok (.putfield 30, 3) := dk_181 0 30 (dk_at dksX4_init_2 8 rfl rfl)
theorem dX4_init_59 : decode cX4_init 59 = .ok (.aload_n 0, 1) := dk_42 (dk_at dksX4_init_2 11 rfl rfl)
theorem dX4_init_60 : decode cX4_init 60 = .ok (.bipush 10, 2) := dk_16 10 (dk_at dksX4_init_2 12 rfl rfl)
theorem dX4_init_62 : decode cX4_init 62 = .ok (.newarray .int, 2) := dk_188_10 (dk_at dksX4_init_2 14 rfl rfl)
theorem dX4_init_64 : decode cX4_init 64 = .ok (.putfield 33, 3) := dk_181 0 33 (dk_at dksX4_init_2 16 rfl rfl)
theorem dX4_init_67 : decode cX4_init 67 = .ok (.aload_n 0, 1) := dk_42 (dk_at dksX4_init_2 19 rfl rfl)
theorem dX4_init_68 : decode cX4_init 68 = .ok (.bipush 24, 2) := dk_16 24 (dk_at dksX4_init_2 20 rfl rfl)
theorem dX4_init_70 : decode cX4_init 70 = .ok (.newarray .int, 2) := dk_188_10 (dk_at dksX4_init_2 22 rfl rfl)
theorem dX4_init_72 : decode cX4_init 72 = .ok (.putfield 36, 3) := dk_181 0 36 (dk_at dksX4_init_3 0 rfl rfl)
theorem dX4_init_75 : decode cX4_init 75 = .ok (.aload_n 0, 1) := dk_42 (dk_at dksX4_init_3 3 rfl rfl)
theorem dX4_init_76 : decode cX4_init 76 = .ok (.bipush 20, 2) := dk_16 20 (dk_at dksX4_init_3 4 rfl rfl)
theorem dX4_init_78 : decode cX4_init 78 = .ok (.newarray .int, 2) := dk_188_10 (dk_at dksX4_init_3 6 rfl rfl)
theorem dX4_init_80 : decode cX4_init 80 = .ok (.putfield 39, 3) := dk_181 0 39 (dk_at dksX4_init_3 8 rfl rfl)
theorem dX4_init_83 : decode cX4_init 83 = .ok (.aload_n 0, 1) := dk_42 (dk_at dksX4_init_3 11 rfl rfl)
theorem dX4_init_84 : decode cX4_init 84 = .ok (.iconst 3, 1) := dk_6 (dk_at dksX4_init_3 12 rfl rfl)
theorem dX4_init_85 : decode cX4_init 85 = .ok (.newarray .int, 2) := dk_188_10 (dk_at dksX4_init_3 13 rfl rfl)
theorem dX4_init_87 : decode cX4_init 87 = .ok (.putfield 42, 3) := dk_181 0 42 (dk_at dksX4_init_3 15 rfl rfl)
theorem dX4_init_90 : decode cX4_init 90 = .ok (.aload_n 0, 1) := dk_42 (dk_at dksX4_init_3 18 rfl rfl)
theorem dX4_init_91 : decode cX4_init 91 = .ok (.bipush 60, 2) := dk_16 60 (dk_at dksX4_init_3 19 rfl rfl)
theorem dX4_init_93 : decode cX4_init 93 = .ok (.newarray .int, 2) := dk_188_10 (dk_at dksX4_init_3 21 rfl rfl)
theorem dX4_init_95 : decode cX4_init 95 = .ok (.putfield 45, 3) := dk_181 0 45 (dk_at dksX4_init_4 0 rfl rfl)
theorem dX4_init_98 : decode cX4_init 98 = .ok (.aload_n 0, 1) := dk_42 (dk_at dksX4_init_4 3 rfl rfl)
theorem dX4_init_99 : decode cX4_init 99 = .ok (.bipush 10, 2) := dk_16 10 (dk_at dksX4_init_4 4 rfl rfl)
theorem dX4_init_101 : decode cX4_init 101 = .ok (.newarray .int, 2) := dk_188_10 (dk_at dksX4_init_4 6 rfl rfl)
theorem dX4_init_103 : decode cX4_init 103 = .ok (.putfield 48, 3) := dk_181 0 48 (dk_at dksX4_init_4 8 rfl rfl)
theorem dX4_init_106 : decode cX4_init 106 = .ok (.aload_n 0, 1) := dk_42 (dk_at dksX4_init_4 11 rfl rfl)
theorem dX4_init_107 : decode cX4_init 107 = .ok (.bipush 10, 2) := dk_16 10 (dk_at dksX4_init_4 12 rfl rfl)
theorem dX4_init_109 : decode cX4_init 109 = .ok (.newarray .int, 2) := dk_188_10 (dk_at dksX4_init_4 14 rfl rfl)
theorem dX4_init_111 : decode cX4_init 111 = .ok (.putfield 51, 3) := dk_181 0 51 (dk_at dksX4_init_4 16 rfl rfl)
theorem dX4_init_114 : decode cX4_init 114 = .ok (.aload_n 0, 1) := dk_42 (dk_at dksX4_init_4 19 rfl rfl)
theorem dX4_init_115 : decode cX4_init 115 = .ok (.bipush 24, 2) := dk_16 24 (dk_at dksX4_init_4 20 rfl rfl)
theorem dX4_init_117 : decode cX4_init 117 = .ok (.newarray .int, 2) := dk_188_10 (dk_at dksX4_init_4 22 rfl rfl)
theorem dX4_init_119 : decode cX4_init 119 = .ok (.putfield 54, 3) := dk_181 0 54 (dk_at dksX4_init_5 0 rfl rfl)
theorem dX4_init_122 : decode cX4_init 122 = .ok (.aload_n 0, 1) := dk_42 (dk_at dksX4_init_5 3 rfl rfl)
theorem dX4_init_123 : decode cX4_init 123 = .ok (.iconst 3, 1) := dk_6 (dk_at dksX4_init_5 4 rfl rfl)
theorem dX4_init_124 : decode cX4_init 124 = .ok (.newarray .int, 2) := dk_188_10 (dk_at dksX4_init_5 5 rfl rfl)
theorem dX4_init_126 : decode cX4_init 126 = .ok (.putfield 57, 3) := dk_181 0 57 (dk_at dksX4_init_5 7 rfl rfl)
theorem dX4_init_129 : decode cX4_init 129 = .ok (.aload_n 0, 1) := dk_42 (dk_at dksX4_init_5 10 rfl rfl)
theorem dX4_init_130 : decode cX4_init 130 = .ok (.bipush 120, 2) := dk_16 120 (dk_at dksX4_init_5 11 rfl rfl)
theorem dX4_init_132 : decode cX4_init 132 = .ok (.newarray .int, 2) := dk_188_10 (dk_at dksX4_init_5 13 rfl rfl)
theorem dX4_init_134 : decode cX4_init 134 = .ok (.putfield 60, 3) := dk_181 0 60 (dk_at dksX4_init_5 15 rfl rfl)
theorem dX4_init_137 : decode cX4_init 137 = .ok (.aload_n 0, 1) := dk_42 (dk_at dksX4_init_5 18 rfl rfl)
theorem dX4_init_138 : decode cX4_init 138 = .ok (.sipush 160, 3) := dk_17 0 160 (dk_at dksX4_init_5 19 rfl rfl)
theorem dX4_init_141 : decode cX4_init 141 = .ok (.newarray .int, 2) := dk_188_10 (dk_at dksX4_init_5 22 rfl rfl)
theorem dX4_init_143 : decode cX4_init 143 = .ok (.putfield 63, 3) := dk_181 0 63 (dk_at dksX4_init_6 0 rfl rfl)
theorem dX4_init_146 : decode cX4_init 146 = .ok (.aload_n 0, 1) := dk_42 (dk_at dksX4_init_6 3 rfl rfl)
theorem dX4_init_147 : decode cX4_init 147 = .ok (.bipush 8, 2) := dk_16 8 (dk_at dksX4_init_6 4 rfl rfl)
theorem dX4_init_149 : decode cX4_init 149 = .ok (.newarray .int, 2) := dk_188_10 (dk_at dksX4_init_6 6 rfl rfl)
theorem dX4_init_151 : decode cX4_init 151 = .ok (.putfield 66, 3) := dk_181 0 66 (dk_at dksX4_init_6 8 rfl rfl)
theorem dX4_init_154 : decode cX4_init 154 = .ok (.aload_n 0, 1) := dk_42 (dk_at dksX4_init_6 11 rfl rfl)
theorem dX4_init_155 : decode cX4_init 155 = .ok (.bipush 8, 2) := dk_16 8 (dk_at dksX4_init_6 12 rfl rfl)
theorem dX4_init_157 : decode cX4_init 157 = .ok (.newarray .int, 2) := dk_188_10 (dk_at dksX4_init_6 14 rfl rfl)
theorem dX4_init_159 : decode cX4_init 159 = .ok (.putfield 69, 3) := dk_181 0 69 (dk_at dksX4_init_6 16 rfl rfl)
theorem dX4_init_162 : decode cX4_init 162 = .ok (.aload_n 0, 1) := dk_42 (dk_at dksX4_init_6 19 rfl rfl)
theorem dX4_init_163 : decode cX4_init 163 = .ok (.bipush 20, 2) := dk_16 20 (dk_at dksX4_init_6 20 rfl rfl)
theorem dX4_init_165 : decode cX4_init 165 = .ok (.newarray .int, 2) := dk_188_10 (dk_at dksX4_init_6 22 rfl rfl)
theorem dX4_init_167 : decode cX4_init 167 = .ok (.putfield 72, 3) := dk_181 0 72 (dk_at dksX4_init_7 0 rfl rfl)
theorem dX4_init_170 : decode cX4_init 170 = .ok (.aload_n 0, 1) := dk_42 (dk_at dksX4_init_7 3 rfl rfl)
theorem dX4_init_171 : decode cX4_init 171 = .ok (.bipush 20, 2) := dk_16 20 (dk_at dksX4_init_7 4 rfl rfl)
theorem dX4_init_173 : decode cX4_init 173 = .ok (.newarray .int, 2) := dk_188_10 (dk_at dksX4_init_7 6 rfl rfl)
theorem dX4_init_175 : decode cX4_init 175 = .ok (.putfield 75, 3) := dk_181 0 75 (dk_at dksX4_init_7 8 rfl rfl)
theorem dX4_init_178 : decode cX4_init 178 = .ok (.aload_n 0, 1) := dk_42 (dk_at dksX4_init_7 11 rfl rfl)
theorem dX4_init_179 : decode cX4_init 179 = .ok (.iconst 3, 1) := dk_6 (dk_at dksX4_init_7 12 rfl rfl)
theorem dX4_init_180 : decode cX4_init 180 = .ok (.newarray .boolean, 2) := dk_188_4 (dk_at dksX4_init_7 13 rfl rfl)
theorem dX4_init_182 : decode cX4_init 182 = .ok (.putfield 78, 3) := dk_181 0 78 (dk_at dksX4_init_7 15 rfl rfl)
theorem dX4_init_185 : decode cX4_init 185 = .ok (.aload_n 0, 1) := dk_42 (dk_at dksX4_init_7 18 rfl rfl)
theorem dX4_init_186 : decode cX4_init 186 = .ok (.iconst 3, 1) := dk_6 (dk_at dksX4_init_7 19 rfl rfl)
theorem dX4_init_187 : decode cX4_init 187 = .ok (.newarray .int, 2) := dk_188_10 (dk_at dksX4_init_7 20 rfl rfl)
theorem dX4_init_189 : decode cX4_init 189 = .ok (.putfield 82, 3) := dk_181 0 82 (dk_at dksX4_init_8 0 rfl rfl)
theorem dX4_init_192 : decode cX4_init 192 = .ok (.aload_n 0, 1) := dk_42 (dk_at dksX4_init_8 3 rfl rfl)
theorem dX4_init_193 : decode cX4_init 193 = .ok (.iconst 3, 1) := dk_6 (dk_at dksX4_init_8 4 rfl rfl)
theorem dX4_init_194 : decode cX4_init 194 = .ok (.newarray .int, 2) := dk_188_10 (dk_at dksX4_init_8 5 rfl rfl)
theorem dX4_init_196 : decode cX4_init 196 = .ok (.putfield 85, 3) := dk_181 0 85 (dk_at dksX4_init_8 7 rfl rfl)
theorem dX4_init_199 : decode cX4_init 199 = .ok (.aload_n 0, 1) := dk_42 (dk_at dksX4_init_8 10 rfl rfl)
theorem dX4_init_200 : decode cX4_init 200 = .ok (.iconst 3, 1) := dk_6 (dk_at dksX4_init_8 11 rfl rfl)
theorem dX4_init_201 : decode cX4_init 201 = .ok (.newarray .int, 2) := dk_188_10 (dk_at dksX4_init_8 12 rfl rfl)
theorem dX4_init_203 : decode cX4_init 203 = .ok (.putfield 88, 3) := dk_181 0 88 (dk_at dksX4_init_8 14 rfl rfl)
theorem dX4_init_206 : decode cX4_init 206 = .ok (.aload_n 0, 1) := dk_42 (dk_at dksX4_init_8 17 rfl rfl)
theorem dX4_init_207 : decode cX4_init 207 = .ok (.bipush 9, 2) := dk_16 9 (dk_at dksX4_init_8 18 rfl rfl)
theorem dX4_init_209 : decode cX4_init 209 = .ok (.newarray .int, 2) := dk_188_10 (dk_at dksX4_init_8 20 rfl rfl)
theorem dX4_init_211 : decode cX4_init 211 = .ok (.putfield 91, 3) := dk_181 0 91 (dk_at dksX4_init_9 0 rfl rfl)
theorem dX4_init_214 : decode cX4_init 214 = .ok (.aload_n 0, 1) := dk_42 (dk_at dksX4_init_9 3 rfl rfl)
theorem dX4_init_215 : decode cX4_init 215 = .ok (.iconst 3, 1) := dk_6 (dk_at dksX4_init_9 4 rfl rfl)
theorem dX4_init_216 : decode cX4_init 216 = .ok (.newarray .int, 2) := dk_188_10 (dk_at dksX4_init_9 5 rfl rfl)
theorem dX4_init_218 : decode cX4_init 218 = .ok (.putfield 94, 3) := dk_181 0 94 (dk_at dksX4_init_9 7 rfl rfl)
theorem dX4_init_221 : decode cX4_init 221 = .ok (.aload_n 0, 1) := dk_42 (dk_at dksX4_init_9 10 rfl rfl)
theorem dX4_init_222 : decode cX4_init 222 = .ok (.iconst 3, 1) := dk_6 (dk_at dksX4_init_9 11 rfl rfl)
theorem dX4_init_223 : decode cX4_init 223 = .ok (.newarray .int, 2) := dk_188_10 (dk_at dksX4_init_9 12 rfl rfl)
theorem dX4_init_225 : decode cX4_init 225 = .ok (.putfield 97, 3) := dk_181 0 97 (dk_at dksX4_init_9 14 rfl rfl)
theorem dX4_init_228 : decode cX4_init 228 = .ok (.aload_n 0, 1) := dk_42 (dk_at dksX4_init_9 17 rfl rfl)
theorem dX4_init_229 : decode cX4_init 229 = .ok (.sipush 360, 3) := dk_17 1 104 (dk_at dksX4_init_9 18 rfl rfl)
theorem dX4_init_232 : decode cX4_init 232 = .ok (.newarray .int, 2) := dk_188_10 (dk_at dksX4_init_9 21 rfl rfl)
theorem dX4_init_234 : decode cX4_init 234 = .ok (.putfield 100, 3) := dk_181 0 100 (dk_at dksX4_init_10 0 rfl rfl)
theorem dX4_init_237 : decode cX4_init 237 = .ok (.aload_n 0, 1) := dk_42 (dk_at dksX4_init_10 3 rfl rfl)
theorem dX4_init_238 : decode cX4_init 238 = .ok (.iconst 3, 1) := dk_6 (dk_at dksX4_init_10 4 rfl rfl)
theorem dX4_init_239 : decode cX4_init 239 = .ok (.newarray .int, 2) := dk_188_10 (dk_at dksX4_init_10 5 rfl rfl)
theorem dX4_init_241 : decode cX4_init 241 = .ok (.putfield 103, 3) := dk_181 0 103 (dk_at dksX4_init_10 7 rfl rfl)
theorem dX4_init_244 : decode cX4_init 244 = .ok (.aload_n 0, 1) := dk_42 (dk_at dksX4_init_10 10 rfl rfl)
theorem dX4_init_245 : decode cX4_init 245 = .ok (.sipush 480, 3) := dk_17 1 224 (dk_at dksX4_init_10 11 rfl rfl)
theorem dX4_init_248 : decode cX4_init 248 = .ok (.newarray .int, 2) := dk_188_10 (dk_at dksX4_init_10 14 rfl rfl)
theorem dX4_init_250 : decode cX4_init 250 = .ok (.putfield 106, 3) := dk_181 0 106 (dk_at dksX4_init_10 16 rfl rfl)
theorem dX4_init_253 : decode cX4_init 253 = .ok (.aload_n 0, 1) := dk_42 (dk_at dksX4_init_10 19 rfl rfl)
theorem dX4_init_254 : decode cX4_init 254 = .ok (.iconst 3, 1) := dk_6 (dk_at dksX4_init_10 20 rfl rfl)
theorem dX4_init_255 : decode cX4_init 255 = .ok (.newarray .long, 2) := dk_188_11 (dk_at dksX4_init_10 21 rfl rfl)
theorem dX4_init_257 : decode cX4_init 257 = .ok (.putfield 109, 3) := dk_181 0 109 (dk_at dksX4_init_11 0 rfl rfl)
theorem dX4_init_260 : decode cX4_init 260 = .ok (.aload_n 0, 1) := dk_42 (dk_at dksX4_init_11 3 rfl rfl)
theorem dX4_init_261 : decode cX4_init 261 = .ok (.sipush 1024, 3) := dk_17 4 0 (dk_at dksX4_init_11 4 rfl rfl)
theorem dX4_init_264 : decode cX4_init 264 = .ok (.newarray .boolean, 2) := dk_188_4 (dk_at dksX4_init_11 7 rfl rfl)
theorem dX4_init_266 : decode cX4_init 266 = .ok (.putfield 112, 3) := dk_181 0 112 (dk_at dksX4_init_11 9 rfl rfl)
theorem dX4_init_269 : decode cX4_init 269 = .ok (.aload_n 0, 1) := dk_42 (dk_at dksX4_init_11 12 rfl rfl)
theorem dX4_init_270 : decode cX4_init 270 = .ok (.sipush 1024, 3) := dk_17 4 0 (dk_at dksX4_init_11 13 rfl rfl)
theorem dX4_init_273 : decode cX4_init 273 = .ok (.newarray .int, 2) := dk_188_10 (dk_at dksX4_init_11 16 rfl rfl)
theorem dX4_init_275 : decode cX4_init 275 = .ok (.putfield 115, 3) := dk_181 0 115 (dk_at dksX4_init_11 18 rfl rfl)
theorem dX4_init_278 : decode cX4_init 278 = .ok (.aload_n 0, 1) := dk_42 (dk_at dksX4_init_11 21 rfl rfl)
theorem dX4_init_279 : decode cX4_init 279 = .ok (.sipush 1024, 3) := dk_17 4 0 (dk_at dksX4_init_12 0 rfl rfl)
theorem dX4_init_282 : decode cX4_init 282 = .ok (.newarray .boolean, 2) := dk_188_4 (dk_at dksX4_init_12 3 rfl rfl)
theorem dX4_init_284 : decode cX4_init 284 = .ok (.putfield 118, 3) := dk_181 0 118 (dk_at dksX4_init_12 5 rfl rfl)
theorem dX4_init_287 : decode cX4_init 287 = .ok (.aload_n 0, 1) := dk_42 (dk_at dksX4_init_12 8 rfl rfl)
theorem dX4_init_288 : decode cX4_init 288 = .ok (.ldc 121, 2) := dk_18 121 (dk_at dksX4_init_12 9 rfl rfl)
theorem dX4_init_290 : decode cX4_init 290 = .ok (.newarray .int, 2) := dk_188_10 (dk_at dksX4_init_12 11 rfl rfl)
theorem dX4_init_292 : decode cX4_init 292 = .ok (.putfield 122, 3) := dk_181 0 122 (dk_at dksX4_init_12 13 rfl rfl)
theorem dX4_init_295 : decode cX4_init 295 = .ok (.aload_n 0, 1) := dk_42 (dk_at dksX4_init_12 16 rfl rfl)
theorem dX4_init_296 : decode cX4_init 296 = .ok (.sipush 1024, 3) := dk_17 4 0 (dk_at dksX4_init_12 17 rfl rfl)
theorem dX4_init_299 : decode cX4_init 299 = .ok (.newarray .long, 2) := dk_188_11 (dk_at dksX4_init_12 20 rfl rfl)
theorem dX4_init_301 : decode cX4_init 301 = .ok (.putfield 125, 3) := dk_181 0 125 (dk_at dksX4_init_13 0 rfl rfl)
theorem dX4_init_304 : decode cX4_init 304 = .ok (.aload_n 0, 1) := dk_42 (dk_at dksX4_init_13 3 rfl rfl)
theorem dX4_init_305 : decode cX4_init 305 = .ok (.sipush 1024, 3) := dk_17 4 0 (dk_at dksX4_init_13 4 rfl rfl)
theorem dX4_init_308 : decode cX4_init 308 = .ok (.newarray .long, 2) := dk_188_11 (dk_at dksX4_init_13 7 rfl rfl)
theorem dX4_init_310 : decode cX4_init 310 = .ok (.putfield 128, 3) := dk_181 0 128 (dk_at dksX4_init_13 9 rfl rfl)
theorem dX4_init_313 : decode cX4_init 313 = .ok (.return_, 1) := dk_177 (dk_at dksX4_init_13 12 rfl rfl)
def dkwX4_feed_4 : List UInt8 := [122, 145, 84, 42, 89, 180, 0, 131, 4, 96, 181, 0, 131, 132, 6, 1, 167, 255, 165, 42, 180, 0, 131, 172]
abbrev dktX4_feed_4 : List UInt8 := dkwX4_feed_4 ++ []
def dkwX4_feed_3 : List UInt8 := [21, 5, 54, 7, 42, 180, 0, 9, 42, 180, 0, 131, 21, 7, 16, 24, 16, 8, 21, 6, 7, 112, 104, 100]
abbrev dktX4_feed_3 : List UInt8 := dkwX4_feed_3 ++ dktX4_feed_4
def dkwX4_feed_2 : List UInt8 := [21, 6, 16, 12, 162, 0, 7, 29, 167, 0, 17, 21, 6, 16, 16, 162, 0, 8, 21, 4, 167, 0, 5]
abbrev dktX4_feed_2 : List UInt8 := dkwX4_feed_2 ++ dktX4_feed_3
def dkwX4_feed_1 : List UInt8 := [162, 0, 90, 21, 6, 7, 162, 0, 7, 27, 167, 0, 39, 21, 6, 16, 8, 162, 0, 7, 28, 167, 0, 28]
abbrev dktX4_feed_1 : List UInt8 := dkwX4_feed_1 ++ dktX4_feed_2
def dkwX4_feed_0 : List UInt8 := [42, 180, 0, 131, 16, 20, 96, 17, 1, 244, 164, 0, 5, 2, 172, 3, 54, 6, 21, 6, 16, 20]
abbrev dktX4_feed_0 : List UInt8 := dkwX4_feed_0 ++ dktX4_feed_1
theorem dksX4_feed_0 : cX4_feed.data.toList.drop 0 = dktX4_feed_0 := by decide +kernel
theorem dksX4_feed_1 : cX4_feed.data.toList.drop 22 = dktX4_feed_1 := dk_seg dksX4_feed_0 22 rfl rfl
theorem dksX4_feed_2 : cX4_feed.data.toList.drop 46 = dktX4_feed_2 := dk_seg dksX4_feed_1 24 rfl rfl
theorem dksX4_feed_3 : cX4_feed.data.toList.drop 69 = dktX4_feed_3 := dk_seg dksX4_feed_2 23 rfl rfl
theorem dksX4_feed_4 : cX4_feed.data.toList.drop 93 = dktX4_feed_4 := dk_seg dksX4_feed_3 24 rfl rfl
theorem dX4_feed_0 : decode cX4_feed 0 = .ok (.aload_n 0, 1) := dk_42 (dk_at dksX4_feed_0 0 rfl rfl)
theorem dX4_feed_1 : decode cX4_feed 1 = .ok (.getfield 131, 3) := dk_180 0 131 (dk_at dksX4_feed_0 1 rfl rfl)
theorem dX4_feed_4 : decode cX4_feed 4 = .ok (.bipush 20, 2) := dk_16 20 (dk_at dksX4_feed_0 4 rfl rfl)
theorem dX4_feed_6 : decode cX4_feed 6 = .ok (.iadd, 1) := dk_96 (dk_at dksX4_feed_0 6 rfl rfl)
theorem dX4_feed_7 : decode cX4_feed 7 = .ok (.sipush 500, 3) := dk_17 1 244 (dk_at dksX4_feed_0 7 rfl rfl)
theorem dX4_feed_10 : decode cX4_feed 10 = .ok (.if_icmp .le 5, 3) := dk_164 0 5 (dk_at dksX4_feed_0 10 rfl rfl)
theorem dX4_feed_13 : decode cX4_feed 13 = .ok (.iconst (-1), 1) := dk_2 (dk_at dksX4_feed_0 13 rfl rfl)
theorem dX4_feed_14 : decode cX4_feed 14 = .ok (.ireturn, 1) := dk_172 (dk_at dksX4_feed_0 14 rfl rfl)
theorem dX4_feed_15 : decode cX4_feed 15 = .ok (.iconst 0, 1) := dk_3 (dk_at dksX4_feed_0 15 rfl rfl)
theorem dX4_feed_16 : decode cX4_feed 16 = .ok (.istore 6, 2) := dk_54 6 (dk_at dksX4_feed_0 16 rfl rfl)
theorem dX4_feed_18 : decode cX4_feed 18 = .ok (.iload 6, 2) := dk_21 6 (dk_at dksX4_feed_0 18 rfl rfl)
theorem dX4_feed_20 : decode cX4_feed 20 = .ok (.bipush 20, 2) := dk_16 20 (dk_at dksX4_feed_0 20 rfl rfl)
theorem dX4_feed_22 : decode cX4_feed 22 = .ok (.if_icmp .ge 90, 3) := dk_162 0 90 (dk_at dksX4_feed_1 0 rfl rfl)
theorem dX4_feed_25 : decode cX4_feed 25 = .ok (.iload 6, 2) := dk_21 6 (dk_at dksX4_feed_1 3 rfl rfl)
theorem dX4_feed_27 : decode cX4_feed 27 = .ok (.iconst 4, 1) := dk_7 (dk_at dksX4_feed_1 5 rfl rfl)
theorem dX4_feed_28 : decode cX4_feed 28 = .ok (.if_icmp .ge 7, 3) := dk_162 0 7 (dk_at dksX4_feed_1 6 rfl rfl)
theorem dX4_feed_31 : decode cX4_feed 31 = .ok (.iload_n 1, 1) := dk_27 (dk_at dksX4_feed_1 9 rfl rfl)
theorem dX4_feed_32 : decode cX4_feed 32 = .ok (.goto 39, 3) := dk_167 0 39 (dk_at dksX4_feed_1 10 rfl rfl)
theorem dX4_feed_35 : decode cX4_feed 35 = .ok (.iload 6, 2) := dk_21 6 (dk_at dksX4_feed_1 13 rfl rfl)
theorem dX4_feed_37 : decode cX4_feed 37 = .ok (.bipush 8, 2) := dk_16 8 (dk_at dksX4_feed_1 15 rfl rfl)
theorem dX4_feed_39 : decode cX4_feed 39 = .ok (.if_icmp .ge 7, 3) := dk_162 0 7 (dk_at dksX4_feed_1 17 rfl rfl)
theorem dX4_feed_42 : decode cX4_feed 42 = .ok (.iload_n 2, 1) := dk_28 (dk_at dksX4_feed_1 20 rfl rfl)
theorem dX4_feed_43 : decode cX4_feed 43 = .ok (.goto 28, 3) := dk_167 0 28 (dk_at dksX4_feed_1 21 rfl rfl)
theorem dX4_feed_46 : decode cX4_feed 46 = .ok (.iload 6, 2) := dk_21 6 (dk_at dksX4_feed_2 0 rfl rfl)
theorem dX4_feed_48 : decode cX4_feed 48 = .ok (.bipush 12, 2) := dk_16 12 (dk_at dksX4_feed_2 2 rfl rfl)
theorem dX4_feed_50 : decode cX4_feed 50 = .ok (.if_icmp .ge 7, 3) := dk_162 0 7 (dk_at dksX4_feed_2 4 rfl rfl)
theorem dX4_feed_53 : decode cX4_feed 53 = .ok (.iload_n 3, 1) := dk_29 (dk_at dksX4_feed_2 7 rfl rfl)
theorem dX4_feed_54 : decode cX4_feed 54 = .ok (.goto 17, 3) := dk_167 0 17 (dk_at dksX4_feed_2 8 rfl rfl)
theorem dX4_feed_57 : decode cX4_feed 57 = .ok (.iload 6, 2) := dk_21 6 (dk_at dksX4_feed_2 11 rfl rfl)
theorem dX4_feed_59 : decode cX4_feed 59 = .ok (.bipush 16, 2) := dk_16 16 (dk_at dksX4_feed_2 13 rfl rfl)
theorem dX4_feed_61 : decode cX4_feed 61 = .ok (.if_icmp .ge 8, 3) := dk_162 0 8 (dk_at dksX4_feed_2 15 rfl rfl)
theorem dX4_feed_64 : decode cX4_feed 64 = .ok (.iload 4, 2) := dk_21 4 (dk_at dksX4_feed_2 18 rfl rfl)
theorem dX4_feed_66 : decode cX4_feed 66 = .ok (.goto 5, 3) := dk_167 0 5 (dk_at dksX4_feed_2 20 rfl rfl)
theorem dX4_feed_69 : decode cX4_feed 69 = .ok (.iload 5, 2) := dk_21 5 (dk_at dksX4_feed_3 0 rfl rfl)
theorem dX4_feed_71 : decode cX4_feed 71 = .ok (.istore 7, 2) := dk_54 7 (dk_at dksX4_feed_3 2 rfl rfl)
theorem dX4_feed_73 : decode cX4_feed 73 = .ok (.aload_n 0, 1) := dk_42 (dk_at dksX4_feed_3 4 rfl rfl)
theorem dX4_feed_74 : decode cX4_feed 74 = .ok (.getfield 9, 3) := dk_180 0 9 (dk_at dksX4_feed_3 5 rfl rfl)
theorem dX4_feed_77 : decode cX4_feed 77 = .ok (.aload_n 0, 1) := dk_42 (dk_at dksX4_feed_3 8 rfl rfl)
theorem dX4_feed_78 : decode cX4_feed 78 = .ok (.getfield 131, 3) := dk_180 0 131 (dk_at dksX4_feed_3 9 rfl rfl)
theorem dX4_feed_81 : decode cX4_feed 81 = .ok (.iload 7, 2) := dk_21 7 (dk_at dksX4_feed_3 12 rfl rfl)
theorem dX4_feed_83 : decode cX4_feed 83 = .ok (.bipush 24, 2) := dk_16 24 (dk_at dksX4_feed_3 14 rfl rfl)
theorem dX4_feed_85 : decode cX4_feed 85 = .ok (.bipush 8, 2) := dk_16 8 (dk_at dksX4_feed_3 16 rfl rfl)
theorem dX4_feed_87 : decode cX4_feed 87 = .ok (.iload 6, 2) := dk_21 6 (dk_at dksX4_feed_3 18 rfl rfl)
theorem dX4_feed_89 : decode cX4_feed 89 = .ok (.iconst 4, 1) := dk_7 (dk_at dksX4_feed_3 20 rfl rfl)
theorem dX4_feed_90 : decode cX4_feed 90 = .ok (.irem, 1) := dk_112 (dk_at dksX4_feed_3 21 rfl rfl)
theorem dX4_feed_91 : decode cX4_feed 91 = .ok (.imul, 1) := dk_104 (dk_at dksX4_feed_3 22 rfl rfl)
theorem dX4_feed_92 : decode cX4_feed 92 = .ok (.isub, 1) := dk_100 (dk_at dksX4_feed_3 23 rfl rfl)
theorem dX4_feed_93 : decode cX4_feed 93 = .ok (.ishr, 1) := dk_122 (dk_at dksX4_feed_4 0 rfl rfl)
theorem dX4_feed_94 : decode cX4_feed 94 = .ok (.i2b, 1) := dk_145 (dk_at dksX4_feed_4 1 rfl rfl)
theorem dX4_feed_95 : decode cX4_feed 95 = .ok (.bastore, 1) := dk_84 (dk_at dksX4_feed_4 2 rfl rfl)
theorem dX4_feed_96 : decode cX4_feed 96 = .ok (.aload_n 0, 1) := dk_42 (dk_at dksX4_feed_4 3 rfl rfl)
theorem dX4_feed_97 : decode cX4_feed 97 = .ok (.dup, 1) := dk_89 (dk_at dksX4_feed_4 4 rfl rfl)
theorem dX4_feed_98 : decode cX4_feed 98 = .ok (.getfield 131, 3) := dk_180 0 131 (dk_at dksX4_feed_4 5 rfl rfl)
theorem dX4_feed_101 : decode cX4_feed 101 = .ok (.iconst 1, 1) := dk_4 (dk_at dksX4_feed_4 8 rfl rfl)
theorem dX4_feed_102 : decode cX4_feed 102 = .ok (.iadd, 1) := dk_96 (dk_at dksX4_feed_4 9 rfl rfl)
theorem dX4_feed_103 : decode cX4_feed 103 = .ok (.putfield 131, 3) := dk_181 0 131 (dk_at dksX4_feed_4 10 rfl rfl)
theorem dX4_feed_106 : decode cX4_feed 106 = .ok (.iinc 6 1, 3) := dk_132 6 1 (dk_at dksX4_feed_4 13 rfl rfl)
theorem dX4_feed_109 : decode cX4_feed 109 = .ok (.goto (-91), 3) := dk_167 255 165 (dk_at dksX4_feed_4 16 rfl rfl)
theorem dX4_feed_112 : decode cX4_feed 112 = .ok (.aload_n 0, 1) := dk_42 (dk_at dksX4_feed_4 19 rfl rfl)
theorem dX4_feed_113 : decode cX4_feed 113 = .ok (.getfield 131, 3) := dk_180 0 131 (dk_at dksX4_feed_4 20 rfl rfl)
theorem dX4_feed_116 : decode cX4_feed 116 = .ok (.ireturn, 1) := dk_172 (dk_at dksX4_feed_4 23 rfl rfl)
def dkwX4_end_0 : List UInt8 := [27, 3, 42, 180, 0, 131, 184, 0, 135, 154, 0, 5, 3, 172, 42, 27, 181, 0, 131, 4, 172]
abbrev dktX4_end_0 : List UInt8 := dkwX4_end_0 ++ []
theorem dksX4_end_0 : cX4_end.data.toList.drop 0 = dktX4_end_0 := by decide +kernel
theorem dX4_end_0 : decode cX4_end 0 = .ok (.iload_n 1, 1) := dk_27 (dk_at dksX4_end_0 0 rfl rfl)
theorem dX4_end_1 : decode cX4_end 1 = .ok (.iconst 0, 1) := dk_3 (dk_at dksX4_end_0 1 rfl rfl)
theorem dX4_end_2 : decode cX4_end 2 = .ok (.aload_n 0, 1) := dk_42 (dk_at dksX4_end_0 2 rfl rfl)
theorem dX4_end_3 : decode cX4_end 3 = .ok (.getfield 131, 3) := dk_180 0 131 (dk_at dksX4_end_0 3 rfl rfl)
theorem dX4_end_6 : decode cX4_end 6 = .ok (.invokestatic 135, 3) := dk_184 0 135 (dk_at dksX4_end_0 6 rfl rfl)
theorem dX4_end_9 : decode cX4_end 9 = .ok (.ifCond .ne 5, 3) := dk_154 0 5 (dk_at dksX4_end_0 9 rfl rfl)
theorem dX4_end_12 : decode cX4_end 12 = .ok (.iconst 0, 1) := dk_3 (dk_at dksX4_end_0 12 rfl rfl)
theorem dX4_end_13 : decode cX4_end 13 = .ok (.ireturn, 1) := dk_172 (dk_at dksX4_end_0 13 rfl rfl)
theorem dX4_end_14 : decode cX4_end 14 = .ok (.aload_n 0, 1) := dk_42 (dk_at dksX4_end_0 14 rfl rfl)
theorem dX4_end_15 : decode cX4_end 15 = .ok (.iload_n 1, 1) := dk_27 (dk_at dksX4_end_0 15 rfl rfl)
theorem dX4_end_16 : decode cX4_end 16 = .ok (.putfield 131, 3) := dk_181 0 131 (dk_at dksX4_end_0 16 rfl rfl)
theorem dX4_end_19 : decode cX4_end 19 = .ok (.iconst 1, 1) := dk_4 (dk_at dksX4_end_0 19 rfl rfl)
theorem dX4_end_20 : decode cX4_end 20 = .ok (.ireturn, 1) := dk_172 (dk_at dksX4_end_0 20 rfl rfl)
def dkwX4_in_0 : List UInt8 := [26, 27, 161, 0, 12, 26, 28, 163, 0, 7, 4, 167, 0, 4, 3, 172]
abbrev dktX4_in_0 : List UInt8 := dkwX4_in_0 ++ []
theorem dksX4_in_0 : cX4_in.data.toList.drop 0 = dktX4_in_0 := by decide +kernel
theorem dX4_in_0 : decode cX4_in 0 = .ok (.iload_n 0, 1) := dk_26 (dk_at dksX4_in_0 0 rfl rfl)
theorem dX4_in_1 : decode cX4_in 1 = .ok (.iload_n 1, 1) := dk_27 (dk_at dksX4_in_0 1 rfl rfl)
theorem dX4_in_2 : decode cX4_in 2 = .ok (.if_icmp .lt 12, 3) := dk_161 0 12 (dk_at dksX4_in_0 2 rfl rfl)
theorem dX4_in_5 : decode cX4_in 5 = .ok (.iload_n 0, 1) := dk_26 (dk_at dksX4_in_0 5 rfl rfl)
theorem dX4_in_6 : decode cX4_in 6 = .ok (.iload_n 2, 1) := dk_28 (dk_at dksX4_in_0 6 rfl rfl)
theorem dX4_in_7 : decode cX4_in 7 = .ok (.if_icmp .gt 7, 3) := dk_163 0 7 (dk_at dksX4_in_0 7 rfl rfl)
theorem dX4_in_10 : decode cX4_in 10 = .ok (.iconst 1, 1) := dk_4 (dk_at dksX4_in_0 10 rfl rfl)
theorem dX4_in_11 : decode cX4_in 11 = .ok (.goto 4, 3) := dk_167 0 4 (dk_at dksX4_in_0 11 rfl rfl)
theorem dX4_in_14 : decode cX4_in 14 = .ok (.iconst 0, 1) := dk_3 (dk_at dksX4_in_0 14 rfl rfl)
theorem dX4_in_15 : decode cX4_in 15 = .ok (.ireturn, 1) := dk_172 (dk_at dksX4_in_0 15 rfl rfl)
def dkwX4_fault_5 : List UInt8 := [180, 0, 142, 167, 0, 4, 2, 172]
abbrev dktX4_fault_5 : List UInt8 := dkwX4_fault_5 ++ []
def dkwX4_fault_4 : List UInt8 := [153, 0, 15, 42, 182, 0, 254, 154, 255, 245, 42, 180, 0, 142, 172, 42, 180, 0, 194, 154, 0, 10, 42]
abbrev dktX4_fault_4 : List UInt8 := dkwX4_fault_4 ++ dktX4_fault_5
def dkwX4_fault_3 : List UInt8 := [27, 3, 79, 132, 1, 1, 167, 255, 240, 42, 3, 181, 0, 139, 42, 182, 0, 207, 42, 180, 0, 149]
abbrev dktX4_fault_3 : List UInt8 := dkwX4_fault_3 ++ dktX4_fault_4
def dkwX4_fault_2 : List UInt8 := [180, 0, 33, 27, 3, 79, 132, 1, 1, 167, 255, 233, 3, 60, 27, 16, 60, 162, 0, 16, 42, 180, 0, 27]
abbrev dktX4_fault_2 : List UInt8 := dkwX4_fault_2 ++ dktX4_fault_3
def dkwX4_fault_1 : List UInt8 := [181, 0, 223, 42, 2, 181, 0, 226, 3, 60, 27, 16, 10, 162, 0, 23, 42, 180, 0, 30, 27, 3, 79, 42]
abbrev dktX4_fault_1 : List UInt8 := dkwX4_fault_1 ++ dktX4_fault_2
def dkwX4_fault_0 : List UInt8 := [42, 3, 181, 0, 194, 42, 3, 181, 0, 201, 42, 3, 181, 0, 244, 42, 3, 181, 0, 251, 42, 3]
abbrev dktX4_fault_0 : List UInt8 := dkwX4_fault_0 ++ dktX4_fault_1
theorem dksX4_fault_0 : cX4_fault.data.toList.drop 0 = dktX4_fault_0 := by decide +kernel
theorem dksX4_fault_1 : cX4_fault.data.toList.drop 22 = dktX4_fault_1 := dk_seg dksX4_fault_0 22 rfl rfl
theorem dksX4_fault_2 : cX4_fault.data.toList.drop 46 = dktX4_fault_2 := dk_seg dksX4_fault_1 24 rfl rfl
theorem dksX4_fault_3 : cX4_fault.data.toList.drop 70 = dktX4_fault_3 := dk_seg dksX4_fault_2 24 rfl rfl
theorem dksX4_fault_4 : cX4_fault.data.toList.drop 92 = dktX4_fault_4 := dk_seg dksX4_fault_3 22 rfl rfl
theorem dksX4_fault_5 : cX4_fault.data.toList.drop 115 = dktX4_fault_5 := dk_seg dksX4_fault_4 23 rfl rfl
theorem dX4_fault_0 : decode cX4_fault 0 = .ok (.aload_n 0, 1) := dk_42 (dk_at dksX4_fault_0 0 rfl rfl)
theorem dX4_fault_1 : decode cX4_fault 1 = .ok (.iconst 0, 1) := dk_3 (dk_at dksX4_fault_0 1 rfl rfl)
theorem dX4_fault_2 : decode cX4_fault 2 = .ok (.putfield 194, 3) := dk_181 0 194 (dk_at dksX4_fault_0 2 rfl rfl)
theorem dX4_fault_5 : decode cX4_fault 5 = .ok (.aload_n 0, 1) := dk_42 (dk_at dksX4_fault_0 5 rfl rfl)
theorem dX4_fault_6 : decode cX4_fault 6 = .ok (.iconst 0, 1) := dk_3 (dk_at dksX4_fault_0 6 rfl rfl)
theorem dX4_fault_7 : decode cX4_fault 7 = .ok (.putfield 201, 3) := dk_181 0 201 (dk_at dksX4_fault_0 7 rfl rfl)
theorem dX4_fault_10 : decode cX4_fault 10 = .ok (.aload_n 0, 1) := dk_42 (dk_at dksX4_fault_0 10 rfl rfl)
theorem dX4_fault_11 : decode cX4_fault 11 = .ok (.iconst 0, 1) := dk_3 (dk_at dksX4_fault_0 11 rfl rfl)
theorem dX4_fault_12 : decode cX4_fault 12 = .ok (.putfield 244, 3) := dk_181 0 244 (dk_at dksX4_fault_0 12 rfl rfl)
theorem dX4_fault_15 : decode cX4_fault 15 = .ok (.aload_n 0, 1) := dk_42 (dk_at dksX4_fault_0 15 rfl rfl)
theorem dX4_fault_16 : decode cX4_fault 16 = .ok (.iconst 0, 1) := dk_3 (dk_at dksX4_fault_0 16 rfl rfl)
theorem dX4_fault_17 : decode cX4_fault 17 = .ok (.putfield 251, 3) := dk_181 0 251 (dk_at dksX4_fault_0 17 rfl rfl)
theorem dX4_fault_20 : decode cX4_fault 20 = .ok (.aload_n 0, 1) := dk_42 (dk_at dksX4_fault_0 20 rfl rfl)
theorem dX4_fault_21 : decode cX4_fault 21 = .ok (.iconst 0, 1) := dk_3 (dk_at dksX4_fault_0 21 rfl rfl)
theorem dX4_fault_22 : decode cX4_fault 22 = .ok (.putfield 223, 3) := dk_181 0 223 (dk_at dksX4_fault_1 0 rfl rfl)
theorem dX4_fault_25 : decode cX4_fault 25 = .ok (.aload_n 0, 1) := dk_42 (dk_at dksX4_fault_1 3 rfl rfl)
theorem dX4_fault_26 : decode cX4_fault 26 = .ok (.iconst (-1), 1) := dk_2 (dk_at dksX4_fault_1 4 rfl rfl)
theorem dX4_fault_27 : decode cX4_fault 27 = .ok (.putfield 226, 3) := dk_181 0 226 (dk_at dksX4_fault_1 5 rfl rfl)
theorem dX4_fault_30 : decode cX4_fault 30 = .ok (.iconst 0, 1) := dk_3 (dk_at dksX4_fault_1 8 rfl rfl)
theorem dX4_fault_31 : decode cX4_fault 31 = .ok (.istore_n 1, 1) := dk_60 (dk_at dksX4_fault_1 9 rfl rfl)
theorem dX4_fault_32 : decode cX4_fault 32 = .ok (.iload_n 1, 1) := dk_27 (dk_at dksX4_fault_1 10 rfl rfl)
theorem dX4_fault_33 : decode cX4_fault 33 = .ok (.bipush 10, 2) := dk_16 10 (dk_at dksX4_fault_1 11 rfl rfl)
theorem dX4_fault_35 : decode cX4_fault 35 = .ok (.if_icmp .ge 23, 3) := dk_162 0 23 (dk_at dksX4_fault_1 13 rfl rfl)
theorem dX4_fault_38 : decode cX4_fault 38 = .ok (.aload_n 0, 1) := dk_42 (dk_at dksX4_fault_1 16 rfl rfl)
theorem dX4_fault_39 : decode cX4_fault 39 = .ok (.getfield 30, 3) := dk_180 0 30 (dk_at dksX4_fault_1 17 rfl rfl)
theorem dX4_fault_42 : decode cX4_fault 42 = .ok (.iload_n 1, 1) := dk_27 (dk_at dksX4_fault_1 20 rfl rfl)
theorem dX4_fault_43 : decode cX4_fault 43 = .ok (.iconst 0, 1) := dk_3 (dk_at dksX4_fault_1 21 rfl rfl)
theorem dX4_fault_44 : decode cX4_fault 44 = .ok (.iastore, 1) := dk_79 (dk_at dksX4_fault_1 22 rfl rfl)
theorem dX4_fault_45 : decode cX4_fault 45 = .ok (.aload_n 0, 1) := dk_42 (dk_at dksX4_fault_1 23 rfl rfl)
theorem dX4_fault_46 : decode cX4_fault 46 = .ok (.getfield 33, 3) := dk_180 0 33 (dk_at dksX4_fault_2 0 rfl rfl)
theorem dX4_fault_49 : decode cX4_fault 49 = .ok (.iload_n 1, 1) := dk_27 (dk_at dksX4_fault_2 3 rfl rfl)
theorem dX4_fault_50 : decode cX4_fault 50 = .ok (.iconst 0, 1) := dk_3 (dk_at dksX4_fault_2 4 rfl rfl)
theorem dX4_fault_51 : decode cX4_fault 51 = .ok (.iastore, 1) := dk_79 (dk_at dksX4_fault_2 5 rfl rfl)
theorem dX4_fault_52 : decode cX4_fault 52 = .ok (.iinc 1 1, 3) := dk_132 1 1 (dk_at dksX4_fault_2 6 rfl rfl)
theorem dX4_fault_55 : decode cX4_fault 55 = .ok (.goto (-23), 3) := dk_167 255 233 (dk_at dksX4_fault_2 9 rfl rfl)
theorem dX4_fault_58 : decode cX4_fault 58 = .ok (.iconst 0, 1) := dk_3 (dk_at dksX4_fault_2 12 rfl rfl)
theorem dX4_fault_59 : decode cX4_fault 59 = .ok (.istore_n 1, 1) := dk_60 (dk_at dksX4_fault_2 13 rfl rfl)
theorem dX4_fault_60 : decode cX4_fault 60 = .ok (.iload_n 1, 1) := dk_27 (dk_at dksX4_fault_2 14 rfl rfl)
theorem dX4_fault_61 : decode cX4_fault 61 = .ok (.bipush 60, 2) := dk_16 60 (dk_at dksX4_fault_2 15 rfl rfl)
theorem dX4_fault_63 : decode cX4_fault 63 = .ok (.if_icmp .ge 16, 3) := dk_162 0 16 (dk_at dksX4_fault_2 17 rfl rfl)
theorem dX4_fault_66 : decode cX4_fault 66 = .ok (.aload_n 0, 1) := dk_42 (dk_at dksX4_fault_2 20 rfl rfl)
theorem dX4_fault_67 : decode cX4_fault 67 = .ok (.getfield 27, 3) := dk_180 0 27 (dk_at dksX4_fault_2 21 rfl rfl)
theorem dX4_fault_70 : decode cX4_fault 70 = .ok (.iload_n 1, 1) := dk_27 (dk_at dksX4_fault_3 0 rfl rfl)
theorem dX4_fault_71 : decode cX4_fault 71 = .ok (.iconst 0, 1) := dk_3 (dk_at dksX4_fault_3 1 rfl rfl)
theorem dX4_fault_72 : decode cX4_fault 72 = .ok (.iastore, 1) := dk_79 (dk_at dksX4_fault_3 2 rfl rfl)
theorem dX4_fault_73 : decode cX4_fault 73 = .ok (.iinc 1 1, 3) := dk_132 1 1 (dk_at dksX4_fault_3 3 rfl rfl)
theorem dX4_fault_76 : decode cX4_fault 76 = .ok (.goto (-16), 3) := dk_167 255 240 (dk_at dksX4_fault_3 6 rfl rfl)
theorem dX4_fault_79 : decode cX4_fault 79 = .ok (.aload_n 0, 1) := dk_42 (dk_at dksX4_fault_3 9 rfl rfl)
theorem dX4_fault_80 : decode cX4_fault 80 = .ok (.iconst 0, 1) := dk_3 (dk_at dksX4_fault_3 10 rfl rfl)
theorem dX4_fault_81 : decode cX4_fault 81 = .ok (.putfield 139, 3) := dk_181 0 139 (dk_at dksX4_fault_3 11 rfl rfl)
theorem dX4_fault_84 : decode cX4_fault 84 = .ok (.aload_n 0, 1) := dk_42 (dk_at dksX4_fault_3 14 rfl rfl)
theorem dX4_fault_85 : decode cX4_fault 85 = .ok (.invokevirtual 207, 3) := dk_182 0 207 (dk_at dksX4_fault_3 15 rfl rfl)
theorem dX4_fault_88 : decode cX4_fault 88 = .ok (.aload_n 0, 1) := dk_42 (dk_at dksX4_fault_3 18 rfl rfl)
theorem dX4_fault_89 : decode cX4_fault 89 = .ok (.getfield 149, 3) := dk_180 0 149 (dk_at dksX4_fault_3 19 rfl rfl)
theorem dX4_fault_92 : decode cX4_fault 92 = .ok (.ifCond .eq 15, 3) := dk_153 0 15 (dk_at dksX4_fault_4 0 rfl rfl)
theorem dX4_fault_95 : decode cX4_fault 95 = .ok (.aload_n 0, 1) := dk_42 (dk_at dksX4_fault_4 3 rfl rfl)
theorem dX4_fault_96 : decode cX4_fault 96 = .ok (.invokevirtual 254, 3) := dk_182 0 254 (dk_at dksX4_fault_4 4 rfl rfl)
theorem dX4_fault_99 : decode cX4_fault 99 = .ok (.ifCond .ne (-11), 3) := dk_154 255 245 (dk_at dksX4_fault_4 7 rfl rfl)
theorem dX4_fault_102 : decode cX4_fault 102 = .ok (.aload_n 0, 1) := dk_42 (dk_at dksX4_fault_4 10 rfl rfl)
theorem dX4_fault_103 : decode cX4_fault 103 = .ok (.getfield 142, 3) := dk_180 0 142 (dk_at dksX4_fault_4 11 rfl rfl)
theorem dX4_fault_106 : decode cX4_fault 106 = .ok (.ireturn, 1) := dk_172 (dk_at dksX4_fault_4 14 rfl rfl)
theorem dX4_fault_107 : decode cX4_fault 107 = .ok (.aload_n 0, 1) := dk_42 (dk_at dksX4_fault_4 15 rfl rfl)
theorem dX4_fault_108 : decode cX4_fault 108 = .ok (.getfield 194, 3) := dk_180 0 194 (dk_at dksX4_fault_4 16 rfl rfl)
theorem dX4_fault_111 : decode cX4_fault 111 = .ok (.ifCond .ne 10, 3) := dk_154 0 10 (dk_at dksX4_fault_4 19 rfl rfl)
theorem dX4_fault_114 : decode cX4_fault 114 = .ok (.aload_n 0, 1) := dk_42 (dk_at dksX4_fault_4 22 rfl rfl)
theorem dX4_fault_115 : decode cX4_fault 115 = .ok (.getfield 142, 3) := dk_180 0 142 (dk_at dksX4_fault_5 0 rfl rfl)
theorem dX4_fault_118 : decode cX4_fault 118 = .ok (.goto 4, 3) := dk_167 0 4 (dk_at dksX4_fault_5 3 rfl rfl)
theorem dX4_fault_121 : decode cX4_fault 121 = .ok (.iconst (-1), 1) := dk_2 (dk_at dksX4_fault_5 6 rfl rfl)
theorem dX4_fault_122 : decode cX4_fault 122 = .ok (.ireturn, 1) := dk_172 (dk_at dksX4_fault_5 7 rfl rfl)
def dkwX4_leads_14 : List UInt8 := [181, 0, 139, 177]
abbrev dktX4_leads_14 : List UInt8 := dkwX4_leads_14 ++ []
def dkwX4_leads_13 : List UInt8 := [42, 27, 16, 59, 160, 0, 7, 6, 167, 0, 4, 7, 181, 0, 149, 42, 89, 180, 0, 139, 4, 96]
abbrev dktX4_leads_13 : List UInt8 := dkwX4_leads_13 ++ dktX4_leads_14
def dkwX4_leads_12 : List UInt8 := [181, 0, 145, 42, 89, 180, 0, 139, 4, 96, 181, 0, 139, 167, 255, 175, 42, 5, 181, 0, 149, 167, 0, 28]
abbrev dktX4_leads_12 : List UInt8 := dkwX4_leads_12 ++ dktX4_leads_13
def dkwX4_leads_11 : List UInt8 := [20, 0, 161, 42, 180, 0, 145, 105, 42, 180, 0, 9, 42, 180, 0, 139, 51, 133, 97, 20, 0, 163, 101]
abbrev dktX4_leads_11 : List UInt8 := dkwX4_leads_11 ++ dktX4_leads_12
def dkwX4_leads_10 : List UInt8 := [153, 0, 61, 42, 42, 180, 0, 145, 20, 0, 159, 148, 158, 0, 10, 42, 180, 0, 145, 167, 0, 26]
abbrev dktX4_leads_10 : List UInt8 := dkwX4_leads_10 ++ dktX4_leads_11
def dkwX4_leads_9 : List UInt8 := [180, 0, 139, 42, 180, 0, 131, 162, 0, 76, 42, 180, 0, 9, 42, 180, 0, 139, 51, 184, 0, 156]
abbrev dktX4_leads_9 : List UInt8 := dkwX4_leads_9 ++ dktX4_leads_10
def dkwX4_leads_8 : List UInt8 := [164, 0, 8, 42, 9, 181, 0, 145, 42, 4, 181, 0, 149, 167, 0, 127, 27, 184, 0, 156, 153, 0, 95, 42]
abbrev dktX4_leads_8 : List UInt8 := dkwX4_leads_8 ++ dktX4_leads_9
def dkwX4_leads_7 : List UInt8 := [180, 0, 139, 4, 96, 181, 0, 139, 167, 255, 184, 42, 180, 0, 139, 42, 180, 0, 142, 100, 16, 8]
abbrev dktX4_leads_7 : List UInt8 := dkwX4_leads_7 ++ dktX4_leads_8
def dkwX4_leads_6 : List UInt8 := [42, 42, 180, 0, 145, 16, 8, 121, 42, 180, 0, 9, 42, 180, 0, 139, 51, 133, 129, 181, 0, 145, 42, 89]
abbrev dktX4_leads_6 : List UInt8 := dkwX4_leads_6 ++ dktX4_leads_7
def dkwX4_leads_5 : List UInt8 := [180, 0, 139, 51, 184, 0, 152, 153, 0, 52, 42, 180, 0, 139, 42, 180, 0, 142, 100, 16, 8, 162, 0, 25]
abbrev dktX4_leads_5 : List UInt8 := dkwX4_leads_5 ++ dktX4_leads_6
def dkwX4_leads_4 : List UInt8 := [184, 0, 152, 153, 0, 105, 42, 180, 0, 139, 42, 180, 0, 131, 162, 0, 67, 42, 180, 0, 9, 42]
abbrev dktX4_leads_4 : List UInt8 := dkwX4_leads_4 ++ dktX4_leads_5
def dkwX4_leads_3 : List UInt8 := [42, 180, 0, 139, 42, 180, 0, 131, 160, 0, 4, 177, 42, 180, 0, 9, 42, 180, 0, 139, 51, 60, 27]
abbrev dktX4_leads_3 : List UInt8 := dkwX4_leads_3 ++ dktX4_leads_4
def dkwX4_leads_2 : List UInt8 := [181, 0, 139, 167, 255, 207, 42, 42, 180, 0, 139, 181, 0, 142, 42, 9, 181, 0, 145, 42, 3, 181, 0, 149]
abbrev dktX4_leads_2 : List UInt8 := dkwX4_leads_2 ++ dktX4_leads_3
def dkwX4_leads_1 : List UInt8 := [159, 0, 17, 42, 180, 0, 9, 42, 180, 0, 139, 51, 16, 10, 160, 0, 16, 42, 89, 180, 0, 139, 4, 96]
abbrev dktX4_leads_1 : List UInt8 := dkwX4_leads_1 ++ dktX4_leads_2
def dkwX4_leads_0 : List UInt8 := [42, 180, 0, 139, 42, 180, 0, 131, 162, 0, 44, 42, 180, 0, 9, 42, 180, 0, 139, 51, 16, 32]
abbrev dktX4_leads_0 : List UInt8 := dkwX4_leads_0 ++ dktX4_leads_1
theorem dksX4_leads_0 : cX4_leads.data.toList.drop 0 = dktX4_leads_0 := by decide +kernel
theorem dksX4_leads_1 : cX4_leads.data.toList.drop 22 = dktX4_leads_1 := dk_seg dksX4_leads_0 22 rfl rfl
theorem dksX4_leads_2 : cX4_leads.data.toList.drop 46 = dktX4_leads_2 := dk_seg dksX4_leads_1 24 rfl rfl
theorem dksX4_leads_3 : cX4_leads.data.toList.drop 70 = dktX4_leads_3 := dk_seg dksX4_leads_2 24 rfl rfl
theorem dksX4_leads_4 : cX4_leads.data.toList.drop 93 = dktX4_leads_4 := dk_seg dksX4_leads_3 23 rfl rfl
theorem dksX4_leads_5 : cX4_leads.data.toList.drop 115 = dktX4_leads_5 := dk_seg dksX4_leads_4 22 rfl rfl
theorem dksX4_leads_6 : cX4_leads.data.toList.drop 139 = dktX4_leads_6 := dk_seg dksX4_leads_5 24 rfl rfl
theorem dksX4_leads_7 : cX4_leads.data.toList.drop 163 = dktX4_leads_7 := dk_seg dksX4_leads_6 24 rfl rfl
theorem dksX4_leads_8 : cX4_leads.data.toList.drop 185 = dktX4_leads_8 := dk_seg dksX4_leads_7 22 rfl rfl
theorem dksX4_leads_9 : cX4_leads.data.toList.drop 209 = dktX4_leads_9 := dk_seg dksX4_leads_8 24 rfl rfl
theorem dksX4_leads_10 : cX4_leads.data.toList.drop 231 = dktX4_leads_10 := dk_seg dksX4_leads_9 22 rfl rfl
theorem dksX4_leads_11 : cX4_leads.data.toList.drop 253 = dktX4_leads_11 := dk_seg dksX4_leads_10 22 rfl rfl
theorem dksX4_leads_12 : cX4_leads.data.toList.drop 276 = dktX4_leads_12 := dk_seg dksX4_leads_11 23 rfl rfl
theorem dksX4_leads_13 : cX4_leads.data.toList.drop 300 = dktX4_leads_13 := dk_seg dksX4_leads_12 24 rfl rfl
theorem dksX4_leads_14 : cX4_leads.data.toList.drop 322 = dktX4_leads_14 := dk_seg dksX4_leads_13 22 rfl rfl
theorem dX4_leads_0 : decode cX4_leads 0 = .ok (.aload_n 0, 1) := dk_42 (dk_at dksX4_leads_0 0 rfl rfl)
theorem dX4_leads_1 : decode cX4_leads 1 = .ok (.getfield 139, 3) := dk_180 0 139 (dk_at dksX4_leads_0 1 rfl rfl)
theorem dX4_leads_4 : decode cX4_leads 4 = .ok (.aload_n 0, 1) := dk_42 (dk_at dksX4_leads_0 4 rfl rfl)
theorem dX4_leads_5 : decode cX4_leads 5 = .ok (.getfield 131, 3) := dk_180 0 131 (dk_at dksX4_leads_0 5 rfl rfl)
theorem dX4_leads_8 : decode cX4_leads 8 = .ok (.if_icmp .ge 44, 3) := dk_162 0 44 (dk_at dksX4_leads_0 8 rfl rfl)
theorem dX4_leads_11 : decode cX4_leads 11 = .ok (.aload_n 0, 1) := dk_42 (dk_at dksX4_leads_0 11 rfl rfl)
theorem dX4_leads_12 : decode cX4_leads 12 = .ok (.getfield 9, 3) := dk_180 0 9 (dk_at dksX4_leads_0 12 rfl rfl)
theorem dX4_leads_15 : decode cX4_leads 15 = .ok (.aload_n 0, 1) := dk_42 (dk_at dksX4_leads_0 15 rfl rfl)
theorem dX4_leads_16 : decode cX4_leads 16 = .ok (.getfield 139, 3) := dk_180 0 139 (dk_at dksX4_leads_0 16 rfl rfl)
theorem dX4_leads_19 : decode cX4_leads 19 = .ok (.baload, 1) := dk_51 (dk_at dksX4_leads_0 19 rfl rfl)
theorem dX4_leads_20 : decode cX4_leads 20 = .ok (.bipush 32, 2) := dk_16 32 (dk_at dksX4_leads_0 20 rfl rfl)
theorem dX4_leads_22 : decode cX4_leads 22 = .ok (.if_icmp .eq 17, 3) := dk_159 0 17 (dk_at dksX4_leads_1 0 rfl rfl)
theorem dX4_leads_25 : decode cX4_leads 25 = .ok (.aload_n 0, 1) := dk_42 (dk_at dksX4_leads_1 3 rfl rfl)
theorem dX4_leads_26 : decode cX4_leads 26 = .ok (.getfield 9, 3) := dk_180 0 9 (dk_at dksX4_leads_1 4 rfl rfl)
theorem dX4_leads_29 : decode cX4_leads 29 = .ok (.aload_n 0, 1) := dk_42 (dk_at dksX4_leads_1 7 rfl rfl)
theorem dX4_leads_30 : decode cX4_leads 30 = .ok (.getfield 139, 3) := dk_180 0 139 (dk_at dksX4_leads_1 8 rfl rfl)
theorem dX4_leads_33 : decode cX4_leads 33 = .ok (.baload, 1) := dk_51 (dk_at dksX4_leads_1 11 rfl rfl)
theorem dX4_leads_34 : decode cX4_leads 34 = .ok (.bipush 10, 2) := dk_16 10 (dk_at dksX4_leads_1 12 rfl rfl)
theorem dX4_leads_36 : decode cX4_leads 36 = .ok (.if_icmp .ne 16, 3) := dk_160 0 16 (dk_at dksX4_leads_1 14 rfl rfl)
theorem dX4_leads_39 : decode cX4_leads 39 = .ok (.aload_n 0, 1) := dk_42 (dk_at dksX4_leads_1 17 rfl rfl)
theorem dX4_leads_40 : decode cX4_leads 40 = .ok (.dup, 1) := dk_89 (dk_at dksX4_leads_1 18 rfl rfl)
theorem dX4_leads_41 : decode cX4_leads 41 = .ok (.getfield 139, 3) := dk_180 0 139 (dk_at dksX4_leads_1 19 rfl rfl)
theorem dX4_leads_44 : decode cX4_leads 44 = .ok (.iconst 1, 1) := dk_4 (dk_at dksX4_leads_1 22 rfl rfl)
theorem dX4_leads_45 : decode cX4_leads 45 = .ok (.iadd, 1) := dk_96 (dk_at dksX4_leads_1 23 rfl rfl)
theorem dX4_leads_46 : decode cX4_leads 46 = .ok (.putfield 139, 3) := dk_181 0 139 (dk_at dksX4_leads_2 0 rfl rfl)
theorem dX4_leads_49 : decode cX4_leads 49 = .ok (.goto (-49), 3) := dk_167 255 207 (dk_at dksX4_leads_2 3 rfl rfl)
theorem dX4_leads_52 : decode cX4_leads 52 = .ok (.aload_n 0, 1) := dk_42 (dk_at dksX4_leads_2 6 rfl rfl)
theorem dX4_leads_53 : decode cX4_leads 53 = .ok (.aload_n 0, 1) := dk_42 (dk_at dksX4_leads_2 7 rfl rfl)
theorem dX4_leads_54 : decode cX4_leads 54 = .ok (.getfield 139, 3) := dk_180 0 139 (dk_at dksX4_leads_2 8 rfl rfl)
theorem dX4_leads_57 : decode cX4_leads 57 = .ok (.putfield 142, 3) := dk_181 0 142 (dk_at dksX4_leads_2 11 rfl rfl)
theorem dX4_leads_60 : decode cX4_leads 60 = .ok (.aload_n 0, 1) := dk_42 (dk_at dksX4_leads_2 14 rfl rfl)
theorem dX4_leads_61 : decode cX4_leads 61 = .ok (.lconst 0, 1) := dk_9 (dk_at dksX4_leads_2 15 rfl rfl)
theorem dX4_leads_62 : decode cX4_leads 62 = .ok (.putfield 145, 3) := dk_181 0 145 (dk_at dksX4_leads_2 16 rfl rfl)
theorem dX4_leads_65 : decode cX4_leads 65 = .ok (.aload_n 0, 1) := dk_42 (dk_at dksX4_leads_2 19 rfl rfl)
theorem dX4_leads_66 : decode cX4_leads 66 = .ok (.iconst 0, 1) := dk_3 (dk_at dksX4_leads_2 20 rfl rfl)
theorem dX4_leads_67 : decode cX4_leads 67 = .ok (.putfield 149, 3) := dk_181 0 149 (dk_at dksX4_leads_2 21 rfl rfl)
theorem dX4_leads_70 : decode cX4_leads 70 = .ok (.aload_n 0, 1) := dk_42 (dk_at dksX4_leads_3 0 rfl rfl)
theorem dX4_leads_71 : decode cX4_leads 71 = .ok (.getfield 139, 3) := dk_180 0 139 (dk_at dksX4_leads_3 1 rfl rfl)
theorem dX4_leads_74 : decode cX4_leads 74 = .ok (.aload_n 0, 1) := dk_42 (dk_at dksX4_leads_3 4 rfl rfl)
theorem dX4_leads_75 : decode cX4_leads 75 = .ok (.getfield 131, 3) := dk_180 0 131 (dk_at dksX4_leads_3 5 rfl rfl)
theorem dX4_leads_78 : decode cX4_leads 78 = .ok (.if_icmp .ne 4, 3) := dk_160 0 4 (dk_at dksX4_leads_3 8 rfl rfl)
theorem dX4_leads_81 : decode cX4_leads 81 = .ok (.return_, 1) := dk_177 (dk_at dksX4_leads_3 11 rfl rfl)
theorem dX4_leads_82 : decode cX4_leads 82 = .ok (.aload_n 0, 1) := dk_42 (dk_at dksX4_leads_3 12 rfl rfl)
theorem dX4_leads_83 : decode cX4_leads 83 = .ok (.getfield 9, 3) := dk_180 0 9 (dk_at dksX4_leads_3 13 rfl rfl)
theorem dX4_leads_86 : decode cX4_leads 86 = .ok (.aload_n 0, 1) := dk_42 (dk_at dksX4_leads_3 16 rfl rfl)
theorem dX4_leads_87 : decode cX4_leads 87 = .ok (.getfield 139, 3) := dk_180 0 139 (dk_at dksX4_leads_3 17 rfl rfl)
theorem dX4_leads_90 : decode cX4_leads 90 = .ok (.baload, 1) := dk_51 (dk_at dksX4_leads_3 20 rfl rfl)
theorem dX4_leads_91 : decode cX4_leads 91 = .ok (.istore_n 1, 1) := dk_60 (dk_at dksX4_leads_3 21 rfl rfl)
theorem dX4_leads_92 : decode cX4_leads 92 = .ok (.iload_n 1, 1) := dk_27 (dk_at dksX4_leads_3 22 rfl rfl)
theorem dX4_leads_93 : decode cX4_leads 93 = .ok (.invokestatic 152, 3) := dk_184 0 152 (dk_at dksX4_leads_4 0 rfl rfl)
theorem dX4_leads_96 : decode cX4_leads 96 = .ok (.ifCond .eq 105, 3) := dk_153 0 105 (dk_at dksX4_leads_4 3 rfl rfl)
theorem dX4_leads_99 : decode cX4_leads 99 = .ok (.aload_n 0, 1) := dk_42 (dk_at dksX4_leads_4 6 rfl rfl)
theorem dX4_leads_100 : decode cX4_leads 100 = .ok (.getfield 139, 3) := dk_180 0 139 (dk_at dksX4_leads_4 7 rfl rfl)
theorem dX4_leads_103 : decode cX4_leads 103 = .ok (.aload_n 0, 1) := dk_42 (dk_at dksX4_leads_4 10 rfl rfl)
theorem dX4_leads_104 : decode cX4_leads 104 = .ok (.getfield 131, 3) := dk_180 0 131 (dk_at dksX4_leads_4 11 rfl rfl)
theorem dX4_leads_107 : decode cX4_leads 107 = .ok (.if_icmp .ge 67, 3) := dk_162 0 67 (dk_at dksX4_leads_4 14 rfl rfl)
theorem dX4_leads_110 : decode cX4_leads 110 = .ok (.aload_n 0, 1) := dk_42 (dk_at dksX4_leads_4 17 rfl rfl)
theorem dX4_leads_111 : decode cX4_leads 111 = .ok (.getfield 9, 3) := dk_180 0 9 (dk_at dksX4_leads_4 18 rfl rfl)
theorem dX4_leads_114 : decode cX4_leads 114 = .ok (.aload_n 0, 1) := dk_42 (dk_at dksX4_leads_4 21 rfl rfl)
theorem dX4_leads_115 : decode cX4_leads 115 = .ok (.getfield 139, 3) := dk_180 0 139 (dk_at dksX4_leads_5 0 rfl rfl)
theorem dX4_leads_118 : decode cX4_leads 118 = .ok (.baload, 1) := dk_51 (dk_at dksX4_leads_5 3 rfl rfl)
theorem dX4_leads_119 : decode cX4_leads 119 = .ok (.invokestatic 152, 3) := dk_184 0 152 (dk_at dksX4_leads_5 4 rfl rfl)
theorem dX4_leads_122 : decode cX4_leads 122 = .ok (.ifCond .eq 52, 3) := dk_153 0 52 (dk_at dksX4_leads_5 7 rfl rfl)
theorem dX4_leads_125 : decode cX4_leads 125 = .ok (.aload_n 0, 1) := dk_42 (dk_at dksX4_leads_5 10 rfl rfl)
theorem dX4_leads_126 : decode cX4_leads 126 = .ok (.getfield 139, 3) := dk_180 0 139 (dk_at dksX4_leads_5 11 rfl rfl)
theorem dX4_leads_129 : decode cX4_leads 129 = .ok (.aload_n 0, 1) := dk_42 (dk_at dksX4_leads_5 14 rfl rfl)
theorem dX4_leads_130 : decode cX4_leads 130 = .ok (.getfield 142, 3) := dk_180 0 142 (dk_at dksX4_leads_5 15 rfl rfl)
theorem dX4_leads_133 : decode cX4_leads 133 = .ok (.isub, 1) := dk_100 (dk_at dksX4_leads_5 18 rfl rfl)
theorem dX4_leads_134 : decode cX4_leads 134 = .ok (.bipush 8, 2) := dk_16 8 (dk_at dksX4_leads_5 19 rfl rfl)
theorem dX4_leads_136 : decode cX4_leads 136 = .ok (.if_icmp .ge 25, 3) := dk_162 0 25 (dk_at dksX4_leads_5 21 rfl rfl)
theorem dX4_leads_139 : decode cX4_leads 139 = .ok (.aload_n 0, 1) := dk_42 (dk_at dksX4_leads_6 0 rfl rfl)
theorem dX4_leads_140 : decode cX4_leads 140 = .ok (.aload_n 0, 1) := dk_42 (dk_at dksX4_leads_6 1 rfl rfl)
theorem dX4_leads_141 : decode cX4_leads 141 = .ok (.getfield 145, 3) := dk_180 0 145 (dk_at dksX4_leads_6 2 rfl rfl)
theorem dX4_leads_144 : decode cX4_leads 144 = .ok (.bipush 8, 2) := dk_16 8 (dk_at dksX4_leads_6 5 rfl rfl)
theorem dX4_leads_146 : decode cX4_leads 146 = .ok (.lshl, 1) := dk_121 (dk_at dksX4_leads_6 7 rfl rfl)
theorem dX4_leads_147 : decode cX4_leads 147 = .ok (.aload_n 0, 1) := dk_42 (dk_at dksX4_leads_6 8 rfl rfl)
theorem dX4_leads_148 : decode cX4_leads 148 = .ok (.getfield 9, 3) := dk_180 0 9 (dk_at dksX4_leads_6 9 rfl rfl)
theorem dX4_leads_151 : decode cX4_leads 151 = .ok (.aload_n 0, 1) := dk_42 (dk_at dksX4_leads_6 12 rfl rfl)
theorem dX4_leads_152 : decode cX4_leads 152 = .ok (.getfield 139, 3) := dk_180 0 139 (dk_at dksX4_leads_6 13 rfl rfl)
theorem dX4_leads_155 : decode cX4_leads 155 = .ok (.baload, 1) := dk_51 (dk_at dksX4_leads_6 16 rfl rfl)
theorem dX4_leads_156 : decode cX4_leads 156 = .ok (.i2l, 1) := dk_133 (dk_at dksX4_leads_6 17 rfl rfl)
theorem dX4_leads_157 : decode cX4_leads 157 = .ok (.lor, 1) := dk_129 (dk_at dksX4_leads_6 18 rfl rfl)
theorem dX4_leads_158 : decode cX4_leads 158 = .ok (.putfield 145, 3) := dk_181 0 145 (dk_at dksX4_leads_6 19 rfl rfl)
theorem dX4_leads_161 : decode cX4_leads 161 = .ok (.aload_n 0, 1) := dk_42 (dk_at dksX4_leads_6 22 rfl rfl)
theorem dX4_leads_162 : decode cX4_leads 162 = .ok (.dup, 1) := dk_89 (dk_at dksX4_leads_6 23 rfl rfl)
theorem dX4_leads_163 : decode cX4_leads 163 = .ok (.getfield 139, 3) := dk_180 0 139 (dk_at dksX4_leads_7 0 rfl rfl)
theorem dX4_leads_166 : decode cX4_leads 166 = .ok (.iconst 1, 1) := dk_4 (dk_at dksX4_leads_7 3 rfl rfl)
theorem dX4_leads_167 : decode cX4_leads 167 = .ok (.iadd, 1) := dk_96 (dk_at dksX4_leads_7 4 rfl rfl)
theorem dX4_leads_168 : decode cX4_leads 168 = .ok (.putfield 139, 3) := dk_181 0 139 (dk_at dksX4_leads_7 5 rfl rfl)
theorem dX4_leads_171 : decode cX4_leads 171 = .ok (.goto (-72), 3) := dk_167 255 184 (dk_at dksX4_leads_7 8 rfl rfl)
theorem dX4_leads_174 : decode cX4_leads 174 = .ok (.aload_n 0, 1) := dk_42 (dk_at dksX4_leads_7 11 rfl rfl)
theorem dX4_leads_175 : decode cX4_leads 175 = .ok (.getfield 139, 3) := dk_180 0 139 (dk_at dksX4_leads_7 12 rfl rfl)
theorem dX4_leads_178 : decode cX4_leads 178 = .ok (.aload_n 0, 1) := dk_42 (dk_at dksX4_leads_7 15 rfl rfl)
theorem dX4_leads_179 : decode cX4_leads 179 = .ok (.getfield 142, 3) := dk_180 0 142 (dk_at dksX4_leads_7 16 rfl rfl)
theorem dX4_leads_182 : decode cX4_leads 182 = .ok (.isub, 1) := dk_100 (dk_at dksX4_leads_7 19 rfl rfl)
theorem dX4_leads_183 : decode cX4_leads 183 = .ok (.bipush 8, 2) := dk_16 8 (dk_at dksX4_leads_7 20 rfl rfl)
theorem dX4_leads_185 : decode cX4_leads 185 = .ok (.if_icmp .le 8, 3) := dk_164 0 8 (dk_at dksX4_leads_8 0 rfl rfl)
theorem dX4_leads_188 : decode cX4_leads 188 = .ok (.aload_n 0, 1) := dk_42 (dk_at dksX4_leads_8 3 rfl rfl)
theorem dX4_leads_189 : decode cX4_leads 189 = .ok (.lconst 0, 1) := dk_9 (dk_at dksX4_leads_8 4 rfl rfl)
theorem dX4_leads_190 : decode cX4_leads 190 = .ok (.putfield 145, 3) := dk_181 0 145 (dk_at dksX4_leads_8 5 rfl rfl)
theorem dX4_leads_193 : decode cX4_leads 193 = .ok (.aload_n 0, 1) := dk_42 (dk_at dksX4_leads_8 8 rfl rfl)
theorem dX4_leads_194 : decode cX4_leads 194 = .ok (.iconst 1, 1) := dk_4 (dk_at dksX4_leads_8 9 rfl rfl)
theorem dX4_leads_195 : decode cX4_leads 195 = .ok (.putfield 149, 3) := dk_181 0 149 (dk_at dksX4_leads_8 10 rfl rfl)
theorem dX4_leads_198 : decode cX4_leads 198 = .ok (.goto 127, 3) := dk_167 0 127 (dk_at dksX4_leads_8 13 rfl rfl)
theorem dX4_leads_201 : decode cX4_leads 201 = .ok (.iload_n 1, 1) := dk_27 (dk_at dksX4_leads_8 16 rfl rfl)
theorem dX4_leads_202 : decode cX4_leads 202 = .ok (.invokestatic 156, 3) := dk_184 0 156 (dk_at dksX4_leads_8 17 rfl rfl)
theorem dX4_leads_205 : decode cX4_leads 205 = .ok (.ifCond .eq 95, 3) := dk_153 0 95 (dk_at dksX4_leads_8 20 rfl rfl)
theorem dX4_leads_208 : decode cX4_leads 208 = .ok (.aload_n 0, 1) := dk_42 (dk_at dksX4_leads_8 23 rfl rfl)
theorem dX4_leads_209 : decode cX4_leads 209 = .ok (.getfield 139, 3) := dk_180 0 139 (dk_at dksX4_leads_9 0 rfl rfl)
theorem dX4_leads_212 : decode cX4_leads 212 = .ok (.aload_n 0, 1) := dk_42 (dk_at dksX4_leads_9 3 rfl rfl)
theorem dX4_leads_213 : decode cX4_leads 213 = .ok (.getfield 131, 3) := dk_180 0 131 (dk_at dksX4_leads_9 4 rfl rfl)
theorem dX4_leads_216 : decode cX4_leads 216 = .ok (.if_icmp .ge 76, 3) := dk_162 0 76 (dk_at dksX4_leads_9 7 rfl rfl)
theorem dX4_leads_219 : decode cX4_leads 219 = .ok (.aload_n 0, 1) := dk_42 (dk_at dksX4_leads_9 10 rfl rfl)
theorem dX4_leads_220 : decode cX4_leads 220 = .ok (.getfield 9, 3) := dk_180 0 9 (dk_at dksX4_leads_9 11 rfl rfl)
theorem dX4_leads_223 : decode cX4_leads 223 = .ok (.aload_n 0, 1) := dk_42 (dk_at dksX4_leads_9 14 rfl rfl)
theorem dX4_leads_224 : decode cX4_leads 224 = .ok (.getfield 139, 3) := dk_180 0 139 (dk_at dksX4_leads_9 15 rfl rfl)
theorem dX4_leads_227 : decode cX4_leads 227 = .ok (.baload, 1) := dk_51 (dk_at dksX4_leads_9 18 rfl rfl)
theorem dX4_leads_228 : decode cX4_leads 228 = .ok (.invokestatic 156, 3) := dk_184 0 156 (dk_at dksX4_leads_9 19 rfl rfl)
theorem dX4_leads_231 : decode cX4_leads 231 = .ok (.ifCond .eq 61, 3) := dk_153 0 61 (dk_at dksX4_leads_10 0 rfl rfl)
theorem dX4_leads_234 : decode cX4_leads 234 = .ok (.aload_n 0, 1) := dk_42 (dk_at dksX4_leads_10 3 rfl rfl)
theorem dX4_leads_235 : decode cX4_leads 235 = .ok (.aload_n 0, 1) := dk_42 (dk_at dksX4_leads_10 4 rfl rfl)
theorem dX4_leads_236 : decode cX4_leads 236 = .ok (.getfield 145, 3) := dk_180 0 145 (dk_at dksX4_leads_10 5 rfl rfl)
theorem dX4_leads_239 : decode cX4_leads 239 = .ok (.ldc2_w 159, 3) := dk_20 0 159 (dk_at dksX4_leads_10 8 rfl rfl)
theorem dX4_leads_242 : decode cX4_leads 242 = .ok (.lcmp, 1) := dk_148 (dk_at dksX4_leads_10 11 rfl rfl)
theorem dX4_leads_243 : decode cX4_leads 243 = .ok (.ifCond .le 10, 3) := dk_158 0 10 (dk_at dksX4_leads_10 12 rfl rfl)
theorem dX4_leads_246 : decode cX4_leads 246 = .ok (.aload_n 0, 1) := dk_42 (dk_at dksX4_leads_10 15 rfl rfl)
theorem dX4_leads_247 : decode cX4_leads 247 = .ok (.getfield 145, 3) := dk_180 0 145 (dk_at dksX4_leads_10 16 rfl rfl)
theorem dX4_leads_250 : decode cX4_leads 250 = .ok (.goto 26, 3) := dk_167 0 26 (dk_at dksX4_leads_10 19 rfl rfl)
theorem dX4_leads_253 : decode cX4_leads 253 = .ok (.ldc2_w 161, 3) := dk_20 0 161 (dk_at dksX4_leads_11 0 rfl rfl)
theorem dX4_leads_256 : decode cX4_leads 256 = .ok (.aload_n 0, 1) := dk_42 (dk_at dksX4_leads_11 3 rfl rfl)
theorem dX4_leads_257 : decode cX4_leads 257 = .ok (.getfield 145, 3) := dk_180 0 145 (dk_at dksX4_leads_11 4 rfl rfl)
theorem dX4_leads_260 : decode cX4_leads 260 = .ok (.lmul, 1) := dk_105 (dk_at dksX4_leads_11 7 rfl rfl)
theorem dX4_leads_261 : decode cX4_leads 261 = .ok (.aload_n 0, 1) := dk_42 (dk_at dksX4_leads_11 8 rfl rfl)
theorem dX4_leads_262 : decode cX4_leads 262 = .ok (.getfield 9, 3) := dk_180 0 9 (dk_at dksX4_leads_11 9 rfl rfl)
theorem dX4_leads_265 : decode cX4_leads 265 = .ok (.aload_n 0, 1) := dk_42 (dk_at dksX4_leads_11 12 rfl rfl)
theorem dX4_leads_266 : decode cX4_leads 266 = .ok (.getfield 139, 3) := dk_180 0 139 (dk_at dksX4_leads_11 13 rfl rfl)
theorem dX4_leads_269 : decode cX4_leads 269 = .ok (.baload, 1) := dk_51 (dk_at dksX4_leads_11 16 rfl rfl)
theorem dX4_leads_270 : decode cX4_leads 270 = .ok (.i2l, 1) := dk_133 (dk_at dksX4_leads_11 17 rfl rfl)
theorem dX4_leads_271 : decode cX4_leads 271 = .ok (.ladd, 1) := dk_97 (dk_at dksX4_leads_11 18 rfl rfl)
theorem dX4_leads_272 : decode cX4_leads 272 = .ok (.ldc2_w 163, 3) := dk_20 0 163 (dk_at dksX4_leads_11 19 rfl rfl)
theorem dX4_leads_275 : decode cX4_leads 275 = .ok (.lsub, 1) := dk_101 (dk_at dksX4_leads_11 22 rfl rfl)
theorem dX4_leads_276 : decode cX4_leads 276 = .ok (.putfield 145, 3) := dk_181 0 145 (dk_at dksX4_leads_12 0 rfl rfl)
theorem dX4_leads_279 : decode cX4_leads 279 = .ok (.aload_n 0, 1) := dk_42 (dk_at dksX4_leads_12 3 rfl rfl)
theorem dX4_leads_280 : decode cX4_leads 280 = .ok (.dup, 1) := dk_89 (dk_at dksX4_leads_12 4 rfl rfl)
theorem dX4_leads_281 : decode cX4_leads 281 = .ok (.getfield 139, 3) := dk_180 0 139 (dk_at dksX4_leads_12 5 rfl rfl)
theorem dX4_leads_284 : decode cX4_leads 284 = .ok (.iconst 1, 1) := dk_4 (dk_at dksX4_leads_12 8 rfl rfl)
theorem dX4_leads_285 : decode cX4_leads 285 = .ok (.iadd, 1) := dk_96 (dk_at dksX4_leads_12 9 rfl rfl)
theorem dX4_leads_286 : decode cX4_leads 286 = .ok (.putfield 139, 3) := dk_181 0 139 (dk_at dksX4_leads_12 10 rfl rfl)
theorem dX4_leads_289 : decode cX4_leads 289 = .ok (.goto (-81), 3) := dk_167 255 175 (dk_at dksX4_leads_12 13 rfl rfl)
theorem dX4_leads_292 : decode cX4_leads 292 = .ok (.aload_n 0, 1) := dk_42 (dk_at dksX4_leads_12 16 rfl rfl)
theorem dX4_leads_293 : decode cX4_leads 293 = .ok (.iconst 2, 1) := dk_5 (dk_at dksX4_leads_12 17 rfl rfl)
theorem dX4_leads_294 : decode cX4_leads 294 = .ok (.putfield 149, 3) := dk_181 0 149 (dk_at dksX4_leads_12 18 rfl rfl)
theorem dX4_leads_297 : decode cX4_leads 297 = .ok (.goto 28, 3) := dk_167 0 28 (dk_at dksX4_leads_12 21 rfl rfl)
theorem dX4_leads_300 : decode cX4_leads 300 = .ok (.aload_n 0, 1) := dk_42 (dk_at dksX4_leads_13 0 rfl rfl)
theorem dX4_leads_301 : decode cX4_leads 301 = .ok (.iload_n 1, 1) := dk_27 (dk_at dksX4_leads_13 1 rfl rfl)
theorem dX4_leads_302 : decode cX4_leads 302 = .ok (.bipush 59, 2) := dk_16 59 (dk_at dksX4_leads_13 2 rfl rfl)
theorem dX4_leads_304 : decode cX4_leads 304 = .ok (.if_icmp .ne 7, 3) := dk_160 0 7 (dk_at dksX4_leads_13 4 rfl rfl)
theorem dX4_leads_307 : decode cX4_leads 307 = .ok (.iconst 3, 1) := dk_6 (dk_at dksX4_leads_13 7 rfl rfl)
theorem dX4_leads_308 : decode cX4_leads 308 = .ok (.goto 4, 3) := dk_167 0 4 (dk_at dksX4_leads_13 8 rfl rfl)
theorem dX4_leads_311 : decode cX4_leads 311 = .ok (.iconst 4, 1) := dk_7 (dk_at dksX4_leads_13 11 rfl rfl)
theorem dX4_leads_312 : decode cX4_leads 312 = .ok (.putfield 149, 3) := dk_181 0 149 (dk_at dksX4_leads_13 12 rfl rfl)
theorem dX4_leads_315 : decode cX4_leads 315 = .ok (.aload_n 0, 1) := dk_42 (dk_at dksX4_leads_13 15 rfl rfl)
theorem dX4_leads_316 : decode cX4_leads 316 = .ok (.dup, 1) := dk_89 (dk_at dksX4_leads_13 16 rfl rfl)
theorem dX4_leads_317 : decode cX4_leads 317 = .ok (.getfield 139, 3) := dk_180 0 139 (dk_at dksX4_leads_13 17 rfl rfl)
theorem dX4_leads_320 : decode cX4_leads 320 = .ok (.iconst 1, 1) := dk_4 (dk_at dksX4_leads_13 20 rfl rfl)
theorem dX4_leads_321 : decode cX4_leads 321 = .ok (.iadd, 1) := dk_96 (dk_at dksX4_leads_13 21 rfl rfl)
theorem dX4_leads_322 : decode cX4_leads 322 = .ok (.putfield 139, 3) := dk_181 0 139 (dk_at dksX4_leads_14 0 rfl rfl)
theorem dX4_leads_325 : decode cX4_leads 325 = .ok (.return_, 1) := dk_177 (dk_at dksX4_leads_14 3 rfl rfl)
def dkwX4_isLetter_0 : List UInt8 := [26, 16, 97, 161, 0, 13, 26, 16, 122, 163, 0, 7, 4, 167, 0, 4, 3, 172]
abbrev dktX4_isLetter_0 : List UInt8 := dkwX4_isLetter_0 ++ []
theorem dksX4_isLetter_0 : cX4_isLetter.data.toList.drop 0 = dktX4_isLetter_0 := by decide +kernel
theorem dX4_isLetter_0 : decode cX4_isLetter 0 = .ok (.iload_n 0, 1) := dk_26 (dk_at dksX4_isLetter_0 0 rfl rfl)
theorem dX4_isLetter_1 : decode cX4_isLetter 1 = .ok (.bipush 97, 2) := dk_16 97 (dk_at dksX4_isLetter_0 1 rfl rfl)
theorem dX4_isLetter_3 : decode cX4_isLetter 3 = .ok (.if_icmp .lt 13, 3) := dk_161 0 13 (dk_at dksX4_isLetter_0 3 rfl rfl)
theorem dX4_isLetter_6 : decode cX4_isLetter 6 = .ok (.iload_n 0, 1) := dk_26 (dk_at dksX4_isLetter_0 6 rfl rfl)
theorem dX4_isLetter_7 : decode cX4_isLetter 7 = .ok (.bipush 122, 2) := dk_16 122 (dk_at dksX4_isLetter_0 7 rfl rfl)
theorem dX4_isLetter_9 : decode cX4_isLetter 9 = .ok (.if_icmp .gt 7, 3) := dk_163 0 7 (dk_at dksX4_isLetter_0 9 rfl rfl)
theorem dX4_isLetter_12 : decode cX4_isLetter 12 = .ok (.iconst 1, 1) := dk_4 (dk_at dksX4_isLetter_0 12 rfl rfl)
theorem dX4_isLetter_13 : decode cX4_isLetter 13 = .ok (.goto 4, 3) := dk_167 0 4 (dk_at dksX4_isLetter_0 13 rfl rfl)
theorem dX4_isLetter_16 : decode cX4_isLetter 16 = .ok (.iconst 0, 1) := dk_3 (dk_at dksX4_isLetter_0 16 rfl rfl)
theorem dX4_isLetter_17 : decode cX4_isLetter 17 = .ok (.ireturn, 1) := dk_172 (dk_at dksX4_isLetter_0 17 rfl rfl)
def dkwX4_isDigit_0 : List UInt8 := [26, 16, 48, 161, 0, 13, 26, 16, 57, 163, 0, 7, 4, 167, 0, 4, 3, 172]
abbrev dktX4_isDigit_0 : List UInt8 := dkwX4_isDigit_0 ++ []
theorem dksX4_isDigit_0 : cX4_isDigit.data.toList.drop 0 = dktX4_isDigit_0 := by decide +kernel
theorem dX4_isDigit_0 : decode cX4_isDigit 0 = .ok (.iload_n 0, 1) := dk_26 (dk_at dksX4_isDigit_0 0 rfl rfl)
theorem dX4_isDigit_1 : decode cX4_isDigit 1 = .ok (.bipush 48, 2) := dk_16 48 (dk_at dksX4_isDigit_0 1 rfl rfl)
theorem dX4_isDigit_3 : decode cX4_isDigit 3 = .ok (.if_icmp .lt 13, 3) := dk_161 0 13 (dk_at dksX4_isDigit_0 3 rfl rfl)
theorem dX4_isDigit_6 : decode cX4_isDigit 6 = .ok (.iload_n 0, 1) := dk_26 (dk_at dksX4_isDigit_0 6 rfl rfl)
theorem dX4_isDigit_7 : decode cX4_isDigit 7 = .ok (.bipush 57, 2) := dk_16 57 (dk_at dksX4_isDigit_0 7 rfl rfl)
theorem dX4_isDigit_9 : decode cX4_isDigit 9 = .ok (.if_icmp .gt 7, 3) := dk_163 0 7 (dk_at dksX4_isDigit_0 9 rfl rfl)
theorem dX4_isDigit_12 : decode cX4_isDigit 12 = .ok (.iconst 1, 1) := dk_4 (dk_at dksX4_isDigit_0 12 rfl rfl)
theorem dX4_isDigit_13 : decode cX4_isDigit 13 = .ok (.goto 4, 3) := dk_167 0 4 (dk_at dksX4_isDigit_0 13 rfl rfl)
theorem dX4_isDigit_16 : decode cX4_isDigit 16 = .ok (.iconst 0, 1) := dk_3 (dk_at dksX4_isDigit_0 16 rfl rfl)
theorem dX4_isDigit_17 : decode cX4_isDigit 17 = .ok (.ireturn, 1) := dk_172 (dk_at dksX4_isDigit_0 17 rfl rfl)
def dkwX4_lineHere_6 : List UInt8 := [180, 0, 33, 182, 0, 247, 172]
abbrev dktX4_lineHere_6 : List UInt8 := dkwX4_lineHere_6 ++ []
def dkwX4_lineHere_5 : List UInt8 := [180, 0, 251, 16, 12, 160, 0, 5, 3, 172, 42, 89, 180, 0, 251, 4, 96, 181, 0, 251, 42, 42]
abbrev dktX4_lineHere_5 : List UInt8 := dkwX4_lineHere_5 ++ dktX4_lineHere_6
def dkwX4_lineHere_4 : List UInt8 := [181, 0, 244, 42, 42, 180, 0, 30, 182, 0, 247, 172, 42, 18, 190, 182, 0, 181, 153, 0, 12, 42]
abbrev dktX4_lineHere_4 : List UInt8 := dkwX4_lineHere_4 ++ dktX4_lineHere_5
def dkwX4_lineHere_3 : List UInt8 := [18, 189, 182, 0, 181, 153, 0, 31, 42, 180, 0, 244, 16, 20, 162, 0, 22, 42, 89, 180, 0, 244, 4, 96]
abbrev dktX4_lineHere_3 : List UInt8 := dkwX4_lineHere_3 ++ dktX4_lineHere_4
def dkwX4_lineHere_2 : List UInt8 := [153, 0, 8, 42, 182, 0, 238, 172, 42, 18, 192, 182, 0, 181, 153, 0, 8, 42, 182, 0, 241, 172, 42]
abbrev dktX4_lineHere_2 : List UInt8 := dkwX4_lineHere_2 ++ dktX4_lineHere_3
def dkwX4_lineHere_1 : List UInt8 := [182, 0, 232, 172, 42, 18, 187, 182, 0, 181, 153, 0, 8, 42, 182, 0, 235, 172, 42, 18, 191, 182, 0, 181]
abbrev dktX4_lineHere_1 : List UInt8 := dkwX4_lineHere_1 ++ dktX4_lineHere_2
def dkwX4_lineHere_0 : List UInt8 := [42, 18, 179, 182, 0, 181, 153, 0, 8, 42, 182, 0, 229, 172, 42, 18, 185, 182, 0, 181, 153, 0, 8, 42]
abbrev dktX4_lineHere_0 : List UInt8 := dkwX4_lineHere_0 ++ dktX4_lineHere_1
theorem dksX4_lineHere_0 : cX4_lineHere.data.toList.drop 0 = dktX4_lineHere_0 := by decide +kernel
theorem dksX4_lineHere_1 : cX4_lineHere.data.toList.drop 24 = dktX4_lineHere_1 := dk_seg dksX4_lineHere_0 24 rfl rfl
theorem dksX4_lineHere_2 : cX4_lineHere.data.toList.drop 48 = dktX4_lineHere_2 := dk_seg dksX4_lineHere_1 24 rfl rfl
theorem dksX4_lineHere_3 : cX4_lineHere.data.toList.drop 71 = dktX4_lineHere_3 := dk_seg dksX4_lineHere_2 23 rfl rfl
theorem dksX4_lineHere_4 : cX4_lineHere.data.toList.drop 95 = dktX4_lineHere_4 := dk_seg dksX4_lineHere_3 24 rfl rfl
theorem dksX4_lineHere_5 : cX4_lineHere.data.toList.drop 117 = dktX4_lineHere_5 := dk_seg dksX4_lineHere_4 22 rfl rfl
theorem dksX4_lineHere_6 : cX4_lineHere.data.toList.drop 139 = dktX4_lineHere_6 := dk_seg dksX4_lineHere_5 22 rfl rfl
theorem dX4_lineHere_0 : decode cX4_lineHere 0 = .ok (.aload_n 0, 1) := dk_42 (dk_at dksX4_lineHere_0 0 rfl rfl)
theorem dX4_lineHere_1 : decode cX4_lineHere 1 = .ok (.ldc 179, 2) := dk_18 179 (dk_at dksX4_lineHere_0 1 rfl rfl)
theorem dX4_lineHere_3 : decode cX4_lineHere 3 = .ok (.invokevirtual 181, 3) := dk_182 0 181 (dk_at dksX4_lineHere_0 3 rfl rfl)
theorem dX4_lineHere_6 : decode cX4_lineHere 6 = .ok (.ifCond .eq 8, 3) := dk_153 0 8 (dk_at dksX4_lineHere_0 6 rfl rfl)
theorem dX4_lineHere_9 : decode cX4_lineHere 9 = .ok (.aload_n 0, 1) := dk_42 (dk_at dksX4_lineHere_0 9 rfl rfl)
theorem dX4_lineHere_10 : decode cX4_lineHere 10 = .ok (.invokevirtual 229, 3) := dk_182 0 229 (dk_at dksX4_lineHere_0 10 rfl rfl)
theorem dX4_lineHere_13 : decode cX4_lineHere 13 = .ok (.ireturn, 1) := dk_172 (dk_at dksX4_lineHere_0 13 rfl rfl)
theorem dX4_lineHere_14 : decode cX4_lineHere 14 = .ok (.aload_n 0, 1) := dk_42 (dk_at dksX4_lineHere_0 14 rfl rfl)
theorem dX4_lineHere_15 : decode cX4_lineHere 15 = .ok (.ldc 185, 2) := dk_18 185 (dk_at dksX4_lineHere_0 15 rfl rfl)
theorem dX4_lineHere_17 : decode cX4_lineHere 17 = .ok (.invokevirtual 181, 3) := dk_182 0 181 (dk_at dksX4_lineHere_0 17 rfl rfl)
theorem dX4_lineHere_20 : decode cX4_lineHere 20 = .ok (.ifCond .eq 8, 3) := dk_153 0 8 (dk_at dksX4_lineHere_0 20 rfl rfl)
theorem dX4_lineHere_23 : decode cX4_lineHere 23 = .ok (.aload_n 0, 1) := dk_42 (dk_at dksX4_lineHere_0 23 rfl rfl)
theorem dX4_lineHere_24 : decode cX4_lineHere 24 = .ok (.invokevirtual 232, 3) := dk_182 0 232 (dk_at dksX4_lineHere_1 0 rfl rfl)
theorem dX4_lineHere_27 : decode cX4_lineHere 27 = .ok (.ireturn, 1) := dk_172 (dk_at dksX4_lineHere_1 3 rfl rfl)
theorem dX4_lineHere_28 : decode cX4_lineHere 28 = .ok (.aload_n 0, 1) := dk_42 (dk_at dksX4_lineHere_1 4 rfl rfl)
theorem dX4_lineHere_29 : decode cX4_lineHere 29 = .ok (.ldc 187, 2) := dk_18 187 (dk_at dksX4_lineHere_1 5 rfl rfl)
theorem dX4_lineHere_31 : decode cX4_lineHere 31 = .ok (.invokevirtual 181, 3) := dk_182 0 181 (dk_at dksX4_lineHere_1 7 rfl rfl)
theorem dX4_lineHere_34 : decode cX4_lineHere 34 = .ok (.ifCond .eq 8, 3) := dk_153 0 8 (dk_at dksX4_lineHere_1 10 rfl rfl)
theorem dX4_lineHere_37 : decode cX4_lineHere 37 = .ok (.aload_n 0, 1) := dk_42 (dk_at dksX4_lineHere_1 13 rfl rfl)
theorem dX4_lineHere_38 : decode cX4_lineHere 38 = .ok (.invokevirtual 235, 3) := dk_182 0 235 (dk_at dksX4_lineHere_1 14 rfl rfl)
theorem dX4_lineHere_41 : decode cX4_lineHere 41 = .ok (.ireturn, 1) := dk_172 (dk_at dksX4_lineHere_1 17 rfl rfl)
theorem dX4_lineHere_42 : decode cX4_lineHere 42 = .ok (.aload_n 0, 1) := dk_42 (dk_at dksX4_lineHere_1 18 rfl rfl)
theorem dX4_lineHere_43 : decode cX4_lineHere 43 = .ok (.ldc 191, 2) := dk_18 191 (dk_at dksX4_lineHere_1 19 rfl rfl)
theorem dX4_lineHere_45 : decode cX4_lineHere 45 = .ok (.invokevirtual 181, 3) := dk_182 0 181 (dk_at dksX4_lineHere_1 21 rfl rfl)
theorem dX4_lineHere_48 : decode cX4_lineHere 48 = .ok (.ifCond .eq 8, 3) := dk_153 0 8 (dk_at dksX4_lineHere_2 0 rfl rfl)
theorem dX4_lineHere_51 : decode cX4_lineHere 51 = .ok (.aload_n 0, 1) := dk_42 (dk_at dksX4_lineHere_2 3 rfl rfl)
theorem dX4_lineHere_52 : decode cX4_lineHere 52 = .ok (.invokevirtual 238, 3) := dk_182 0 238 (dk_at dksX4_lineHere_2 4 rfl rfl)
theorem dX4_lineHere_55 : decode cX4_lineHere 55 = .ok (.ireturn, 1) := dk_172 (dk_at dksX4_lineHere_2 7 rfl rfl)
theorem dX4_lineHere_56 : decode cX4_lineHere 56 = .ok (.aload_n 0, 1) := dk_42 (dk_at dksX4_lineHere_2 8 rfl rfl)
theorem dX4_lineHere_57 : decode cX4_lineHere 57 = .ok (.ldc 192, 2) := dk_18 192 (dk_at dksX4_lineHere_2 9 rfl rfl)
theorem dX4_lineHere_59 : decode cX4_lineHere 59 = .ok (.invokevirtual 181, 3) := dk_182 0 181 (dk_at dksX4_lineHere_2 11 rfl rfl)
theorem dX4_lineHere_62 : decode cX4_lineHere 62 = .ok (.ifCond .eq 8, 3) := dk_153 0 8 (dk_at dksX4_lineHere_2 14 rfl rfl)
theorem dX4_lineHere_65 : decode cX4_lineHere 65 = .ok (.aload_n 0, 1) := dk_42 (dk_at dksX4_lineHere_2 17 rfl rfl)
theorem dX4_lineHere_66 : decode cX4_lineHere 66 = .ok (.invokevirtual 241, 3) := dk_182 0 241 (dk_at dksX4_lineHere_2 18 rfl rfl)
theorem dX4_lineHere_69 : decode cX4_lineHere 69 = .ok (.ireturn, 1) := dk_172 (dk_at dksX4_lineHere_2 21 rfl rfl)
theorem dX4_lineHere_70 : decode cX4_lineHere 70 = .ok (.aload_n 0, 1) := dk_42 (dk_at dksX4_lineHere_2 22 rfl rfl)
theorem dX4_lineHere_71 : decode cX4_lineHere 71 = .ok (.ldc 189, 2) := dk_18 189 (dk_at dksX4_lineHere_3 0 rfl rfl)
theorem dX4_lineHere_73 : decode cX4_lineHere 73 = .ok (.invokevirtual 181, 3) := dk_182 0 181 (dk_at dksX4_lineHere_3 2 rfl rfl)
theorem dX4_lineHere_76 : decode cX4_lineHere 76 = .ok (.ifCond .eq 31, 3) := dk_153 0 31 (dk_at dksX4_lineHere_3 5 rfl rfl)
theorem dX4_lineHere_79 : decode cX4_lineHere 79 = .ok (.aload_n 0, 1) := dk_42 (dk_at dksX4_lineHere_3 8 rfl rfl)
theorem dX4_lineHere_80 : decode cX4_lineHere 80 = .ok (.getfield 244, 3) := dk_180 0 244 (dk_at dksX4_lineHere_3 9 rfl rfl)
theorem dX4_lineHere_83 : decode cX4_lineHere 83 = .ok (.bipush 20, 2) := dk_16 20 (dk_at dksX4_lineHere_3 12 rfl rfl)
theorem dX4_lineHere_85 : decode cX4_lineHere 85 = .ok (.if_icmp .ge 22, 3) := dk_162 0 22 (dk_at dksX4_lineHere_3 14 rfl rfl)
theorem dX4_lineHere_88 : decode cX4_lineHere 88 = .ok (.aload_n 0, 1) := dk_42 (dk_at dksX4_lineHere_3 17 rfl rfl)
theorem dX4_lineHere_89 : decode cX4_lineHere 89 = .ok (.dup, 1) := dk_89 (dk_at dksX4_lineHere_3 18 rfl rfl)
theorem dX4_lineHere_90 : decode cX4_lineHere 90 = .ok (.getfield 244, 3) := dk_180 0 244 (dk_at dksX4_lineHere_3 19 rfl rfl)
theorem dX4_lineHere_93 : decode cX4_lineHere 93 = .ok (.iconst 1, 1) := dk_4 (dk_at dksX4_lineHere_3 22 rfl rfl)
theorem dX4_lineHere_94 : decode cX4_lineHere 94 = .ok (.iadd, 1) := dk_96 (dk_at dksX4_lineHere_3 23 rfl rfl)
theorem dX4_lineHere_95 : decode cX4_lineHere 95 = .ok (.putfield 244, 3) := dk_181 0 244 (dk_at dksX4_lineHere_4 0 rfl rfl)
theorem dX4_lineHere_98 : decode cX4_lineHere 98 = .ok (.aload_n 0, 1) := dk_42 (dk_at dksX4_lineHere_4 3 rfl rfl)
theorem dX4_lineHere_99 : decode cX4_lineHere 99 = .ok (.aload_n 0, 1) := dk_42 (dk_at dksX4_lineHere_4 4 rfl rfl)
theorem dX4_lineHere_100 : decode cX4_lineHere 100 = .ok (.getfield 30, 3) := dk_180 0 30 (dk_at dksX4_lineHere_4 5 rfl rfl)
theorem dX4_lineHere_103 : decode cX4_lineHere 103 = .ok (.invokevirtual 247, 3) := dk_182 0 247 (dk_at dksX4_lineHere_4 8 rfl rfl)
theorem dX4_lineHere_106 : decode cX4_lineHere 106 = .ok (.ireturn, 1) := dk_172 (dk_at dksX4_lineHere_4 11 rfl rfl)
theorem dX4_lineHere_107 : decode cX4_lineHere 107 = .ok (.aload_n 0, 1) := dk_42 (dk_at dksX4_lineHere_4 12 rfl rfl)
theorem dX4_lineHere_108 : decode cX4_lineHere 108 = .ok (.ldc 190, 2) := dk_18 190 (dk_at dksX4_lineHere_4 13 rfl rfl)
theorem dX4_lineHere_110 : decode cX4_lineHere 110 = .ok (.invokevirtual 181, 3) := dk_182 0 181 (dk_at dksX4_lineHere_4 15 rfl rfl)
theorem dX4_lineHere_113 : decode cX4_lineHere 113 = .ok (.ifCond .eq 12, 3) := dk_153 0 12 (dk_at dksX4_lineHere_4 18 rfl rfl)
theorem dX4_lineHere_116 : decode cX4_lineHere 116 = .ok (.aload_n 0, 1) := dk_42 (dk_at dksX4_lineHere_4 21 rfl rfl)
theorem dX4_lineHere_117 : decode cX4_lineHere 117 = .ok (.getfield 251, 3) := dk_180 0 251 (dk_at dksX4_lineHere_5 0 rfl rfl)
theorem dX4_lineHere_120 : decode cX4_lineHere 120 = .ok (.bipush 12, 2) := dk_16 12 (dk_at dksX4_lineHere_5 3 rfl rfl)
theorem dX4_lineHere_122 : decode cX4_lineHere 122 = .ok (.if_icmp .ne 5, 3) := dk_160 0 5 (dk_at dksX4_lineHere_5 5 rfl rfl)
theorem dX4_lineHere_125 : decode cX4_lineHere 125 = .ok (.iconst 0, 1) := dk_3 (dk_at dksX4_lineHere_5 8 rfl rfl)
theorem dX4_lineHere_126 : decode cX4_lineHere 126 = .ok (.ireturn, 1) := dk_172 (dk_at dksX4_lineHere_5 9 rfl rfl)
theorem dX4_lineHere_127 : decode cX4_lineHere 127 = .ok (.aload_n 0, 1) := dk_42 (dk_at dksX4_lineHere_5 10 rfl rfl)
theorem dX4_lineHere_128 : decode cX4_lineHere 128 = .ok (.dup, 1) := dk_89 (dk_at dksX4_lineHere_5 11 rfl rfl)
theorem dX4_lineHere_129 : decode cX4_lineHere 129 = .ok (.getfield 251, 3) := dk_180 0 251 (dk_at dksX4_lineHere_5 12 rfl rfl)
theorem dX4_lineHere_132 : decode cX4_lineHere 132 = .ok (.iconst 1, 1) := dk_4 (dk_at dksX4_lineHere_5 15 rfl rfl)
theorem dX4_lineHere_133 : decode cX4_lineHere 133 = .ok (.iadd, 1) := dk_96 (dk_at dksX4_lineHere_5 16 rfl rfl)
theorem dX4_lineHere_134 : decode cX4_lineHere 134 = .ok (.putfield 251, 3) := dk_181 0 251 (dk_at dksX4_lineHere_5 17 rfl rfl)
theorem dX4_lineHere_137 : decode cX4_lineHere 137 = .ok (.aload_n 0, 1) := dk_42 (dk_at dksX4_lineHere_5 20 rfl rfl)
theorem dX4_lineHere_138 : decode cX4_lineHere 138 = .ok (.aload_n 0, 1) := dk_42 (dk_at dksX4_lineHere_5 21 rfl rfl)
theorem dX4_lineHere_139 : decode cX4_lineHere 139 = .ok (.getfield 33, 3) := dk_180 0 33 (dk_at dksX4_lineHere_6 0 rfl rfl)
theorem dX4_lineHere_142 : decode cX4_lineHere 142 = .ok (.invokevirtual 247, 3) := dk_182 0 247 (dk_at dksX4_lineHere_6 3 rfl rfl)
theorem dX4_lineHere_145 : decode cX4_lineHere 145 = .ok (.ireturn, 1) := dk_172 (dk_at dksX4_lineHere_6 6 rfl rfl)
def dkwX4_isWord_1 : List UInt8 := [3, 172]
abbrev dktX4_isWord_1 : List UInt8 := dkwX4_isWord_1 ++ []
def dkwX4_isWord_0 : List UInt8 := [42, 180, 0, 149, 4, 160, 0, 19, 42, 180, 0, 145, 43, 184, 0, 175, 148, 154, 0, 7, 4, 167, 0, 4]
abbrev dktX4_isWord_0 : List UInt8 := dkwX4_isWord_0 ++ dktX4_isWord_1
theorem dksX4_isWord_0 : cX4_isWord.data.toList.drop 0 = dktX4_isWord_0 := by decide +kernel
theorem dksX4_isWord_1 : cX4_isWord.data.toList.drop 24 = dktX4_isWord_1 := dk_seg dksX4_isWord_0 24 rfl rfl
theorem dX4_isWord_0 : decode cX4_isWord 0 = .ok (.aload_n 0, 1) := dk_42 (dk_at dksX4_isWord_0 0 rfl rfl)
theorem dX4_isWord_1 : decode cX4_isWord 1 = .ok (.getfield 149, 3) := dk_180 0 149 (dk_at dksX4_isWord_0 1 rfl rfl)
theorem dX4_isWord_4 : decode cX4_isWord 4 = .ok (.iconst 1, 1) := dk_4 (dk_at dksX4_isWord_0 4 rfl rfl)
theorem dX4_isWord_5 : decode cX4_isWord 5 = .ok (.if_icmp .ne 19, 3) := dk_160 0 19 (dk_at dksX4_isWord_0 5 rfl rfl)
theorem dX4_isWord_8 : decode cX4_isWord 8 = .ok (.aload_n 0, 1) := dk_42 (dk_at dksX4_isWord_0 8 rfl rfl)
theorem dX4_isWord_9 : decode cX4_isWord 9 = .ok (.getfield 145, 3) := dk_180 0 145 (dk_at dksX4_isWord_0 9 rfl rfl)
theorem dX4_isWord_12 : decode cX4_isWord 12 = .ok (.aload_n 1, 1) := dk_43 (dk_at dksX4_isWord_0 12 rfl rfl)
theorem dX4_isWord_13 : decode cX4_isWord 13 = .ok (.invokestatic 175, 3) := dk_184 0 175 (dk_at dksX4_isWord_0 13 rfl rfl)
theorem dX4_isWord_16 : decode cX4_isWord 16 = .ok (.lcmp, 1) := dk_148 (dk_at dksX4_isWord_0 16 rfl rfl)
theorem dX4_isWord_17 : decode cX4_isWord 17 = .ok (.ifCond .ne 7, 3) := dk_154 0 7 (dk_at dksX4_isWord_0 17 rfl rfl)
theorem dX4_isWord_20 : decode cX4_isWord 20 = .ok (.iconst 1, 1) := dk_4 (dk_at dksX4_isWord_0 20 rfl rfl)
theorem dX4_isWord_21 : decode cX4_isWord 21 = .ok (.goto 4, 3) := dk_167 0 4 (dk_at dksX4_isWord_0 21 rfl rfl)
theorem dX4_isWord_24 : decode cX4_isWord 24 = .ok (.iconst 0, 1) := dk_3 (dk_at dksX4_isWord_1 0 rfl rfl)
theorem dX4_isWord_25 : decode cX4_isWord 25 = .ok (.ireturn, 1) := dk_172 (dk_at dksX4_isWord_1 1 rfl rfl)
def dkwX4_packed_1 : List UInt8 := [132, 3, 1, 167, 255, 233, 31, 173]
abbrev dktX4_packed_1 : List UInt8 := dkwX4_packed_1 ++ []
def dkwX4_packed_0 : List UInt8 := [9, 64, 3, 62, 29, 42, 182, 0, 165, 162, 0, 21, 31, 16, 8, 121, 42, 29, 182, 0, 171, 133, 129, 64]
abbrev dktX4_packed_0 : List UInt8 := dkwX4_packed_0 ++ dktX4_packed_1
theorem dksX4_packed_0 : cX4_packed.data.toList.drop 0 = dktX4_packed_0 := by decide +kernel
theorem dksX4_packed_1 : cX4_packed.data.toList.drop 24 = dktX4_packed_1 := dk_seg dksX4_packed_0 24 rfl rfl
theorem dX4_packed_0 : decode cX4_packed 0 = .ok (.lconst 0, 1) := dk_9 (dk_at dksX4_packed_0 0 rfl rfl)
theorem dX4_packed_1 : decode cX4_packed 1 = .ok (.lstore_n 1, 1) := dk_64 (dk_at dksX4_packed_0 1 rfl rfl)
theorem dX4_packed_2 : decode cX4_packed 2 = .ok (.iconst 0, 1) := dk_3 (dk_at dksX4_packed_0 2 rfl rfl)
theorem dX4_packed_3 : decode cX4_packed 3 = .ok (.istore_n 3, 1) := dk_62 (dk_at dksX4_packed_0 3 rfl rfl)
theorem dX4_packed_4 : decode cX4_packed 4 = .ok (.iload_n 3, 1) := dk_29 (dk_at dksX4_packed_0 4 rfl rfl)
theorem dX4_packed_5 : decode cX4_packed 5 = .ok (.aload_n 0, 1) := dk_42 (dk_at dksX4_packed_0 5 rfl rfl)
theorem dX4_packed_6 : decode cX4_packed 6 = .ok (.invokevirtual 165, 3) := dk_182 0 165 (dk_at dksX4_packed_0 6 rfl rfl)
theorem dX4_packed_9 : decode cX4_packed 9 = .ok (.if_icmp .ge 21, 3) := dk_162 0 21 (dk_at dksX4_packed_0 9 rfl rfl)
theorem dX4_packed_12 : decode cX4_packed 12 = .ok (.lload_n 1, 1) := dk_31 (dk_at dksX4_packed_0 12 rfl rfl)
theorem dX4_packed_13 : decode cX4_packed 13 = .ok (.bipush 8, 2) := dk_16 8 (dk_at dksX4_packed_0 13 rfl rfl)
theorem dX4_packed_15 : decode cX4_packed 15 = .ok (.lshl, 1) := dk_121 (dk_at dksX4_packed_0 15 rfl rfl)
theorem dX4_packed_16 : decode cX4_packed 16 = .ok (.aload_n 0, 1) := dk_42 (dk_at dksX4_packed_0 16 rfl rfl)
theorem dX4_packed_17 : decode cX4_packed 17 = .ok (.iload_n 3, 1) := dk_29 (dk_at dksX4_packed_0 17 rfl rfl)
theorem dX4_packed_18 : decode cX4_packed 18 = .ok (.invokevirtual 171, 3) := dk_182 0 171 (dk_at dksX4_packed_0 18 rfl rfl)
theorem dX4_packed_21 : decode cX4_packed 21 = .ok (.i2l, 1) := dk_133 (dk_at dksX4_packed_0 21 rfl rfl)
theorem dX4_packed_22 : decode cX4_packed 22 = .ok (.lor, 1) := dk_129 (dk_at dksX4_packed_0 22 rfl rfl)
theorem dX4_packed_23 : decode cX4_packed 23 = .ok (.lstore_n 1, 1) := dk_64 (dk_at dksX4_packed_0 23 rfl rfl)
theorem dX4_packed_24 : decode cX4_packed 24 = .ok (.iinc 3 1, 3) := dk_132 3 1 (dk_at dksX4_packed_1 0 rfl rfl)
theorem dX4_packed_27 : decode cX4_packed 27 = .ok (.goto (-23), 3) := dk_167 255 233 (dk_at dksX4_packed_1 3 rfl rfl)
theorem dX4_packed_30 : decode cX4_packed 30 = .ok (.lload_n 1, 1) := dk_31 (dk_at dksX4_packed_1 6 rfl rfl)
theorem dX4_packed_31 : decode cX4_packed 31 = .ok (.lreturn, 1) := dk_173 (dk_at dksX4_packed_1 7 rfl rfl)
def dkwX4_thingLine_5 : List UInt8 := [180, 0, 194, 4, 96, 181, 0, 194, 42, 182, 0, 220, 172]
abbrev dktX4_thingLine_5 : List UInt8 := dkwX4_thingLine_5 ++ []
def dkwX4_thingLine_4 : List UInt8 := [180, 0, 194, 104, 4, 96, 42, 180, 0, 204, 79, 42, 180, 0, 13, 42, 180, 0, 194, 31, 80, 42, 89]
abbrev dktX4_thingLine_4 : List UInt8 := dkwX4_thingLine_4 ++ dktX4_thingLine_5
def dkwX4_thingLine_3 : List UInt8 := [104, 42, 180, 0, 204, 79, 42, 4, 16, 9, 182, 0, 216, 154, 0, 5, 3, 172, 42, 180, 0, 17, 5, 42]
abbrev dktX4_thingLine_3 : List UInt8 := dkwX4_thingLine_3 ++ dktX4_thingLine_4
def dkwX4_thingLine_2 : List UInt8 := [182, 0, 207, 42, 4, 16, 99, 182, 0, 216, 154, 0, 5, 3, 172, 42, 180, 0, 17, 5, 42, 180, 0, 194]
abbrev dktX4_thingLine_2 : List UInt8 := dkwX4_thingLine_2 ++ dktX4_thingLine_3
def dkwX4_thingLine_1 : List UInt8 := [182, 0, 210, 2, 160, 0, 11, 42, 182, 0, 213, 2, 159, 0, 5, 3, 172, 42, 180, 0, 145, 64, 42]
abbrev dktX4_thingLine_1 : List UInt8 := dkwX4_thingLine_1 ++ dktX4_thingLine_2
def dkwX4_thingLine_0 : List UInt8 := [42, 180, 0, 194, 16, 10, 160, 0, 5, 3, 172, 42, 182, 0, 207, 42, 182, 0, 197, 153, 0, 19, 42]
abbrev dktX4_thingLine_0 : List UInt8 := dkwX4_thingLine_0 ++ dktX4_thingLine_1
theorem dksX4_thingLine_0 : cX4_thingLine.data.toList.drop 0 = dktX4_thingLine_0 := by decide +kernel
theorem dksX4_thingLine_1 : cX4_thingLine.data.toList.drop 23 = dktX4_thingLine_1 := dk_seg dksX4_thingLine_0 23 rfl rfl
theorem dksX4_thingLine_2 : cX4_thingLine.data.toList.drop 46 = dktX4_thingLine_2 := dk_seg dksX4_thingLine_1 23 rfl rfl
theorem dksX4_thingLine_3 : cX4_thingLine.data.toList.drop 70 = dktX4_thingLine_3 := dk_seg dksX4_thingLine_2 24 rfl rfl
theorem dksX4_thingLine_4 : cX4_thingLine.data.toList.drop 94 = dktX4_thingLine_4 := dk_seg dksX4_thingLine_3 24 rfl rfl
theorem dksX4_thingLine_5 : cX4_thingLine.data.toList.drop 117 = dktX4_thingLine_5 := dk_seg dksX4_thingLine_4 23 rfl rfl
theorem dX4_thingLine_0 : decode cX4_thingLine 0 = .ok (.aload_n 0, 1) := dk_42 (dk_at dksX4_thingLine_0 0 rfl rfl)
theorem dX4_thingLine_1 : decode cX4_thingLine 1 = .ok (.getfield 194, 3) := dk_180 0 194 (dk_at dksX4_thingLine_0 1 rfl rfl)
theorem dX4_thingLine_4 : decode cX4_thingLine 4 = .ok (.bipush 10, 2) := dk_16 10 (dk_at dksX4_thingLine_0 4 rfl rfl)
theorem dX4_thingLine_6 : decode cX4_thingLine 6 = .ok (.if_icmp .ne 5, 3) := dk_160 0 5 (dk_at dksX4_thingLine_0 6 rfl rfl)
theorem dX4_thingLine_9 : decode cX4_thingLine 9 = .ok (.iconst 0, 1) := dk_3 (dk_at dksX4_thingLine_0 9 rfl rfl)
theorem dX4_thingLine_10 : decode cX4_thingLine 10 = .ok (.ireturn, 1) := dk_172 (dk_at dksX4_thingLine_0 10 rfl rfl)
theorem dX4_thingLine_11 : decode cX4_thingLine 11 = .ok (.aload_n 0, 1) := dk_42 (dk_at dksX4_thingLine_0 11 rfl rfl)
theorem dX4_thingLine_12 : decode cX4_thingLine 12 = .ok (.invokevirtual 207, 3) := dk_182 0 207 (dk_at dksX4_thingLine_0 12 rfl rfl)
theorem dX4_thingLine_15 : decode cX4_thingLine 15 = .ok (.aload_n 0, 1) := dk_42 (dk_at dksX4_thingLine_0 15 rfl rfl)
theorem dX4_thingLine_16 : decode cX4_thingLine 16 = .ok (.invokevirtual 197, 3) := dk_182 0 197 (dk_at dksX4_thingLine_0 16 rfl rfl)
theorem dX4_thingLine_19 : decode cX4_thingLine 19 = .ok (.ifCond .eq 19, 3) := dk_153 0 19 (dk_at dksX4_thingLine_0 19 rfl rfl)
theorem dX4_thingLine_22 : decode cX4_thingLine 22 = .ok (.aload_n 0, 1) := dk_42 (dk_at dksX4_thingLine_0 22 rfl rfl)
theorem dX4_thingLine_23 : decode cX4_thingLine 23 = .ok (.invokevirtual 210, 3) := dk_182 0 210 (dk_at dksX4_thingLine_1 0 rfl rfl)
theorem dX4_thingLine_26 : decode cX4_thingLine 26 = .ok (.iconst (-1), 1) := dk_2 (dk_at dksX4_thingLine_1 3 rfl rfl)
theorem dX4_thingLine_27 : decode cX4_thingLine 27 = .ok (.if_icmp .ne 11, 3) := dk_160 0 11 (dk_at dksX4_thingLine_1 4 rfl rfl)
theorem dX4_thingLine_30 : decode cX4_thingLine 30 = .ok (.aload_n 0, 1) := dk_42 (dk_at dksX4_thingLine_1 7 rfl rfl)
theorem dX4_thingLine_31 : decode cX4_thingLine 31 = .ok (.invokevirtual 213, 3) := dk_182 0 213 (dk_at dksX4_thingLine_1 8 rfl rfl)
theorem dX4_thingLine_34 : decode cX4_thingLine 34 = .ok (.iconst (-1), 1) := dk_2 (dk_at dksX4_thingLine_1 11 rfl rfl)
theorem dX4_thingLine_35 : decode cX4_thingLine 35 = .ok (.if_icmp .eq 5, 3) := dk_159 0 5 (dk_at dksX4_thingLine_1 12 rfl rfl)
theorem dX4_thingLine_38 : decode cX4_thingLine 38 = .ok (.iconst 0, 1) := dk_3 (dk_at dksX4_thingLine_1 15 rfl rfl)
theorem dX4_thingLine_39 : decode cX4_thingLine 39 = .ok (.ireturn, 1) := dk_172 (dk_at dksX4_thingLine_1 16 rfl rfl)
theorem dX4_thingLine_40 : decode cX4_thingLine 40 = .ok (.aload_n 0, 1) := dk_42 (dk_at dksX4_thingLine_1 17 rfl rfl)
theorem dX4_thingLine_41 : decode cX4_thingLine 41 = .ok (.getfield 145, 3) := dk_180 0 145 (dk_at dksX4_thingLine_1 18 rfl rfl)
theorem dX4_thingLine_44 : decode cX4_thingLine 44 = .ok (.lstore_n 1, 1) := dk_64 (dk_at dksX4_thingLine_1 21 rfl rfl)
theorem dX4_thingLine_45 : decode cX4_thingLine 45 = .ok (.aload_n 0, 1) := dk_42 (dk_at dksX4_thingLine_1 22 rfl rfl)
theorem dX4_thingLine_46 : decode cX4_thingLine 46 = .ok (.invokevirtual 207, 3) := dk_182 0 207 (dk_at dksX4_thingLine_2 0 rfl rfl)
theorem dX4_thingLine_49 : decode cX4_thingLine 49 = .ok (.aload_n 0, 1) := dk_42 (dk_at dksX4_thingLine_2 3 rfl rfl)
theorem dX4_thingLine_50 : decode cX4_thingLine 50 = .ok (.iconst 1, 1) := dk_4 (dk_at dksX4_thingLine_2 4 rfl rfl)
theorem dX4_thingLine_51 : decode cX4_thingLine 51 = .ok (.bipush 99, 2) := dk_16 99 (dk_at dksX4_thingLine_2 5 rfl rfl)
theorem dX4_thingLine_53 : decode cX4_thingLine 53 = .ok (.invokevirtual 216, 3) := dk_182 0 216 (dk_at dksX4_thingLine_2 7 rfl rfl)
theorem dX4_thingLine_56 : decode cX4_thingLine 56 = .ok (.ifCond .ne 5, 3) := dk_154 0 5 (dk_at dksX4_thingLine_2 10 rfl rfl)
theorem dX4_thingLine_59 : decode cX4_thingLine 59 = .ok (.iconst 0, 1) := dk_3 (dk_at dksX4_thingLine_2 13 rfl rfl)
theorem dX4_thingLine_60 : decode cX4_thingLine 60 = .ok (.ireturn, 1) := dk_172 (dk_at dksX4_thingLine_2 14 rfl rfl)
theorem dX4_thingLine_61 : decode cX4_thingLine 61 = .ok (.aload_n 0, 1) := dk_42 (dk_at dksX4_thingLine_2 15 rfl rfl)
theorem dX4_thingLine_62 : decode cX4_thingLine 62 = .ok (.getfield 17, 3) := dk_180 0 17 (dk_at dksX4_thingLine_2 16 rfl rfl)
theorem dX4_thingLine_65 : decode cX4_thingLine 65 = .ok (.iconst 2, 1) := dk_5 (dk_at dksX4_thingLine_2 19 rfl rfl)
theorem dX4_thingLine_66 : decode cX4_thingLine 66 = .ok (.aload_n 0, 1) := dk_42 (dk_at dksX4_thingLine_2 20 rfl rfl)
theorem dX4_thingLine_67 : decode cX4_thingLine 67 = .ok (.getfield 194, 3) := dk_180 0 194 (dk_at dksX4_thingLine_2 21 rfl rfl)
theorem dX4_thingLine_70 : decode cX4_thingLine 70 = .ok (.imul, 1) := dk_104 (dk_at dksX4_thingLine_3 0 rfl rfl)
theorem dX4_thingLine_71 : decode cX4_thingLine 71 = .ok (.aload_n 0, 1) := dk_42 (dk_at dksX4_thingLine_3 1 rfl rfl)
theorem dX4_thingLine_72 : decode cX4_thingLine 72 = .ok (.getfield 204, 3) := dk_180 0 204 (dk_at dksX4_thingLine_3 2 rfl rfl)
theorem dX4_thingLine_75 : decode cX4_thingLine 75 = .ok (.iastore, 1) := dk_79 (dk_at dksX4_thingLine_3 5 rfl rfl)
theorem dX4_thingLine_76 : decode cX4_thingLine 76 = .ok (.aload_n 0, 1) := dk_42 (dk_at dksX4_thingLine_3 6 rfl rfl)
theorem dX4_thingLine_77 : decode cX4_thingLine 77 = .ok (.iconst 1, 1) := dk_4 (dk_at dksX4_thingLine_3 7 rfl rfl)
theorem dX4_thingLine_78 : decode cX4_thingLine 78 = .ok (.bipush 9, 2) := dk_16 9 (dk_at dksX4_thingLine_3 8 rfl rfl)
theorem dX4_thingLine_80 : decode cX4_thingLine 80 = .ok (.invokevirtual 216, 3) := dk_182 0 216 (dk_at dksX4_thingLine_3 10 rfl rfl)
theorem dX4_thingLine_83 : decode cX4_thingLine 83 = .ok (.ifCond .ne 5, 3) := dk_154 0 5 (dk_at dksX4_thingLine_3 13 rfl rfl)
theorem dX4_thingLine_86 : decode cX4_thingLine 86 = .ok (.iconst 0, 1) := dk_3 (dk_at dksX4_thingLine_3 16 rfl rfl)
theorem dX4_thingLine_87 : decode cX4_thingLine 87 = .ok (.ireturn, 1) := dk_172 (dk_at dksX4_thingLine_3 17 rfl rfl)
theorem dX4_thingLine_88 : decode cX4_thingLine 88 = .ok (.aload_n 0, 1) := dk_42 (dk_at dksX4_thingLine_3 18 rfl rfl)
theorem dX4_thingLine_89 : decode cX4_thingLine 89 = .ok (.getfield 17, 3) := dk_180 0 17 (dk_at dksX4_thingLine_3 19 rfl rfl)
theorem dX4_thingLine_92 : decode cX4_thingLine 92 = .ok (.iconst 2, 1) := dk_5 (dk_at dksX4_thingLine_3 22 rfl rfl)
theorem dX4_thingLine_93 : decode cX4_thingLine 93 = .ok (.aload_n 0, 1) := dk_42 (dk_at dksX4_thingLine_3 23 rfl rfl)
theorem dX4_thingLine_94 : decode cX4_thingLine 94 = .ok (.getfield 194, 3) := dk_180 0 194 (dk_at dksX4_thingLine_4 0 rfl rfl)
theorem dX4_thingLine_97 : decode cX4_thingLine 97 = .ok (.imul, 1) := dk_104 (dk_at dksX4_thingLine_4 3 rfl rfl)
theorem dX4_thingLine_98 : decode cX4_thingLine 98 = .ok (.iconst 1, 1) := dk_4 (dk_at dksX4_thingLine_4 4 rfl rfl)
theorem dX4_thingLine_99 : decode cX4_thingLine 99 = .ok (.iadd, 1) := dk_96 (dk_at dksX4_thingLine_4 5 rfl rfl)
theorem dX4_thingLine_100 : decode cX4_thingLine 100 = .ok (.aload_n 0, 1) := dk_42 (dk_at dksX4_thingLine_4 6 rfl rfl)
theorem dX4_thingLine_101 : decode cX4_thingLine 101 = .ok (.getfield 204, 3) := dk_180 0 204 (dk_at dksX4_thingLine_4 7 rfl rfl)
theorem dX4_thingLine_104 : decode cX4_thingLine 104 = .ok (.iastore, 1) := dk_79 (dk_at dksX4_thingLine_4 10 rfl rfl)
theorem dX4_thingLine_105 : decode cX4_thingLine 105 = .ok (.aload_n 0, 1) := dk_42 (dk_at dksX4_thingLine_4 11 rfl rfl)
theorem dX4_thingLine_106 : decode cX4_thingLine 106 = .ok (.getfield 13, 3) := dk_180 0 13 (dk_at dksX4_thingLine_4 12 rfl rfl)
theorem dX4_thingLine_109 : decode cX4_thingLine 109 = .ok (.aload_n 0, 1) := dk_42 (dk_at dksX4_thingLine_4 15 rfl rfl)
theorem dX4_thingLine_110 : decode cX4_thingLine 110 = .ok (.getfield 194, 3) := dk_180 0 194 (dk_at dksX4_thingLine_4 16 rfl rfl)
theorem dX4_thingLine_113 : decode cX4_thingLine 113 = .ok (.lload_n 1, 1) := dk_31 (dk_at dksX4_thingLine_4 19 rfl rfl)
theorem dX4_thingLine_114 : decode cX4_thingLine 114 = .ok (.lastore, 1) := dk_80 (dk_at dksX4_thingLine_4 20 rfl rfl)
theorem dX4_thingLine_115 : decode cX4_thingLine 115 = .ok (.aload_n 0, 1) := dk_42 (dk_at dksX4_thingLine_4 21 rfl rfl)
theorem dX4_thingLine_116 : decode cX4_thingLine 116 = .ok (.dup, 1) := dk_89 (dk_at dksX4_thingLine_4 22 rfl rfl)
theorem dX4_thingLine_117 : decode cX4_thingLine 117 = .ok (.getfield 194, 3) := dk_180 0 194 (dk_at dksX4_thingLine_5 0 rfl rfl)
theorem dX4_thingLine_120 : decode cX4_thingLine 120 = .ok (.iconst 1, 1) := dk_4 (dk_at dksX4_thingLine_5 3 rfl rfl)
theorem dX4_thingLine_121 : decode cX4_thingLine 121 = .ok (.iadd, 1) := dk_96 (dk_at dksX4_thingLine_5 4 rfl rfl)
theorem dX4_thingLine_122 : decode cX4_thingLine 122 = .ok (.putfield 194, 3) := dk_181 0 194 (dk_at dksX4_thingLine_5 5 rfl rfl)
theorem dX4_thingLine_125 : decode cX4_thingLine 125 = .ok (.aload_n 0, 1) := dk_42 (dk_at dksX4_thingLine_5 8 rfl rfl)
theorem dX4_thingLine_126 : decode cX4_thingLine 126 = .ok (.invokevirtual 220, 3) := dk_182 0 220 (dk_at dksX4_thingLine_5 9 rfl rfl)
theorem dX4_thingLine_129 : decode cX4_thingLine 129 = .ok (.ireturn, 1) := dk_172 (dk_at dksX4_thingLine_5 12 rfl rfl)
def dkwX4_isName_3 : List UInt8 := [154, 0, 16, 42, 18, 192, 182, 0, 181, 154, 0, 7, 4, 167, 0, 4, 3, 172]
abbrev dktX4_isName_3 : List UInt8 := dkwX4_isName_3 ++ []
def dkwX4_isName_2 : List UInt8 := [18, 189, 182, 0, 181, 154, 0, 34, 42, 18, 190, 182, 0, 181, 154, 0, 25, 42, 18, 191, 182, 0, 181]
abbrev dktX4_isName_2 : List UInt8 := dkwX4_isName_2 ++ dktX4_isName_3
def dkwX4_isName_1 : List UInt8 := [154, 0, 21, 42, 18, 185, 182, 0, 181, 154, 0, 12, 42, 18, 187, 182, 0, 181, 153, 0, 5, 3, 172, 42]
abbrev dktX4_isName_1 : List UInt8 := dkwX4_isName_1 ++ dktX4_isName_2
def dkwX4_isName_0 : List UInt8 := [42, 180, 0, 149, 4, 160, 0, 39, 42, 180, 0, 145, 9, 148, 153, 0, 30, 42, 18, 179, 182, 0, 181]
abbrev dktX4_isName_0 : List UInt8 := dkwX4_isName_0 ++ dktX4_isName_1
theorem dksX4_isName_0 : cX4_isName.data.toList.drop 0 = dktX4_isName_0 := by decide +kernel
theorem dksX4_isName_1 : cX4_isName.data.toList.drop 23 = dktX4_isName_1 := dk_seg dksX4_isName_0 23 rfl rfl
theorem dksX4_isName_2 : cX4_isName.data.toList.drop 47 = dktX4_isName_2 := dk_seg dksX4_isName_1 24 rfl rfl
theorem dksX4_isName_3 : cX4_isName.data.toList.drop 70 = dktX4_isName_3 := dk_seg dksX4_isName_2 23 rfl rfl
theorem dX4_isName_0 : decode cX4_isName 0 = .ok (.aload_n 0, 1) := dk_42 (dk_at dksX4_isName_0 0 rfl rfl)
theorem dX4_isName_1 : decode cX4_isName 1 = .ok (.getfield 149, 3) := dk_180 0 149 (dk_at dksX4_isName_0 1 rfl rfl)
theorem dX4_isName_4 : decode cX4_isName 4 = .ok (.iconst 1, 1) := dk_4 (dk_at dksX4_isName_0 4 rfl rfl)
theorem dX4_isName_5 : decode cX4_isName 5 = .ok (.if_icmp .ne 39, 3) := dk_160 0 39 (dk_at dksX4_isName_0 5 rfl rfl)
theorem dX4_isName_8 : decode cX4_isName 8 = .ok (.aload_n 0, 1) := dk_42 (dk_at dksX4_isName_0 8 rfl rfl)
theorem dX4_isName_9 : decode cX4_isName 9 = .ok (.getfield 145, 3) := dk_180 0 145 (dk_at dksX4_isName_0 9 rfl rfl)
theorem dX4_isName_12 : decode cX4_isName 12 = .ok (.lconst 0, 1) := dk_9 (dk_at dksX4_isName_0 12 rfl rfl)
theorem dX4_isName_13 : decode cX4_isName 13 = .ok (.lcmp, 1) := dk_148 (dk_at dksX4_isName_0 13 rfl rfl)
theorem dX4_isName_14 : decode cX4_isName 14 = .ok (.ifCond .eq 30, 3) := dk_153 0 30 (dk_at dksX4_isName_0 14 rfl rfl)
theorem dX4_isName_17 : decode cX4_isName 17 = .ok (.aload_n 0, 1) := dk_42 (dk_at dksX4_isName_0 17 rfl rfl)
theorem dX4_isName_18 : decode cX4_isName 18 = .ok (.ldc 179, 2) := dk_18 179 (dk_at dksX4_isName_0 18 rfl rfl)
theorem dX4_isName_20 : decode cX4_isName 20 = .ok (.invokevirtual 181, 3) := dk_182 0 181 (dk_at dksX4_isName_0 20 rfl rfl)
theorem dX4_isName_23 : decode cX4_isName 23 = .ok (.ifCond .ne 21, 3) := dk_154 0 21 (dk_at dksX4_isName_1 0 rfl rfl)
theorem dX4_isName_26 : decode cX4_isName 26 = .ok (.aload_n 0, 1) := dk_42 (dk_at dksX4_isName_1 3 rfl rfl)
theorem dX4_isName_27 : decode cX4_isName 27 = .ok (.ldc 185, 2) := dk_18 185 (dk_at dksX4_isName_1 4 rfl rfl)
theorem dX4_isName_29 : decode cX4_isName 29 = .ok (.invokevirtual 181, 3) := dk_182 0 181 (dk_at dksX4_isName_1 6 rfl rfl)
theorem dX4_isName_32 : decode cX4_isName 32 = .ok (.ifCond .ne 12, 3) := dk_154 0 12 (dk_at dksX4_isName_1 9 rfl rfl)
theorem dX4_isName_35 : decode cX4_isName 35 = .ok (.aload_n 0, 1) := dk_42 (dk_at dksX4_isName_1 12 rfl rfl)
theorem dX4_isName_36 : decode cX4_isName 36 = .ok (.ldc 187, 2) := dk_18 187 (dk_at dksX4_isName_1 13 rfl rfl)
theorem dX4_isName_38 : decode cX4_isName 38 = .ok (.invokevirtual 181, 3) := dk_182 0 181 (dk_at dksX4_isName_1 15 rfl rfl)
theorem dX4_isName_41 : decode cX4_isName 41 = .ok (.ifCond .eq 5, 3) := dk_153 0 5 (dk_at dksX4_isName_1 18 rfl rfl)
theorem dX4_isName_44 : decode cX4_isName 44 = .ok (.iconst 0, 1) := dk_3 (dk_at dksX4_isName_1 21 rfl rfl)
theorem dX4_isName_45 : decode cX4_isName 45 = .ok (.ireturn, 1) := dk_172 (dk_at dksX4_isName_1 22 rfl rfl)
theorem dX4_isName_46 : decode cX4_isName 46 = .ok (.aload_n 0, 1) := dk_42 (dk_at dksX4_isName_1 23 rfl rfl)
theorem dX4_isName_47 : decode cX4_isName 47 = .ok (.ldc 189, 2) := dk_18 189 (dk_at dksX4_isName_2 0 rfl rfl)
theorem dX4_isName_49 : decode cX4_isName 49 = .ok (.invokevirtual 181, 3) := dk_182 0 181 (dk_at dksX4_isName_2 2 rfl rfl)
theorem dX4_isName_52 : decode cX4_isName 52 = .ok (.ifCond .ne 34, 3) := dk_154 0 34 (dk_at dksX4_isName_2 5 rfl rfl)
theorem dX4_isName_55 : decode cX4_isName 55 = .ok (.aload_n 0, 1) := dk_42 (dk_at dksX4_isName_2 8 rfl rfl)
theorem dX4_isName_56 : decode cX4_isName 56 = .ok (.ldc 190, 2) := dk_18 190 (dk_at dksX4_isName_2 9 rfl rfl)
theorem dX4_isName_58 : decode cX4_isName 58 = .ok (.invokevirtual 181, 3) := dk_182 0 181 (dk_at dksX4_isName_2 11 rfl rfl)
theorem dX4_isName_61 : decode cX4_isName 61 = .ok (.ifCond .ne 25, 3) := dk_154 0 25 (dk_at dksX4_isName_2 14 rfl rfl)
theorem dX4_isName_64 : decode cX4_isName 64 = .ok (.aload_n 0, 1) := dk_42 (dk_at dksX4_isName_2 17 rfl rfl)
theorem dX4_isName_65 : decode cX4_isName 65 = .ok (.ldc 191, 2) := dk_18 191 (dk_at dksX4_isName_2 18 rfl rfl)
theorem dX4_isName_67 : decode cX4_isName 67 = .ok (.invokevirtual 181, 3) := dk_182 0 181 (dk_at dksX4_isName_2 20 rfl rfl)
theorem dX4_isName_70 : decode cX4_isName 70 = .ok (.ifCond .ne 16, 3) := dk_154 0 16 (dk_at dksX4_isName_3 0 rfl rfl)
theorem dX4_isName_73 : decode cX4_isName 73 = .ok (.aload_n 0, 1) := dk_42 (dk_at dksX4_isName_3 3 rfl rfl)
theorem dX4_isName_74 : decode cX4_isName 74 = .ok (.ldc 192, 2) := dk_18 192 (dk_at dksX4_isName_3 4 rfl rfl)
theorem dX4_isName_76 : decode cX4_isName 76 = .ok (.invokevirtual 181, 3) := dk_182 0 181 (dk_at dksX4_isName_3 6 rfl rfl)
theorem dX4_isName_79 : decode cX4_isName 79 = .ok (.ifCond .ne 7, 3) := dk_154 0 7 (dk_at dksX4_isName_3 9 rfl rfl)
theorem dX4_isName_82 : decode cX4_isName 82 = .ok (.iconst 1, 1) := dk_4 (dk_at dksX4_isName_3 12 rfl rfl)
theorem dX4_isName_83 : decode cX4_isName 83 = .ok (.goto 4, 3) := dk_167 0 4 (dk_at dksX4_isName_3 13 rfl rfl)
theorem dX4_isName_86 : decode cX4_isName 86 = .ok (.iconst 0, 1) := dk_3 (dk_at dksX4_isName_3 16 rfl rfl)
theorem dX4_isName_87 : decode cX4_isName 87 = .ok (.ireturn, 1) := dk_172 (dk_at dksX4_isName_3 17 rfl rfl)
def dkwX4_thingHere_1 : List UInt8 := [180, 0, 145, 148, 154, 0, 5, 27, 172, 132, 1, 1, 167, 255, 222, 2, 172]
abbrev dktX4_thingHere_1 : List UInt8 := dkwX4_thingHere_1 ++ []
def dkwX4_thingHere_0 : List UInt8 := [3, 60, 27, 42, 180, 0, 194, 162, 0, 32, 42, 182, 0, 197, 153, 0, 25, 42, 180, 0, 13, 27, 47, 42]
abbrev dktX4_thingHere_0 : List UInt8 := dkwX4_thingHere_0 ++ dktX4_thingHere_1
theorem dksX4_thingHere_0 : cX4_thingHere.data.toList.drop 0 = dktX4_thingHere_0 := by decide +kernel
theorem dksX4_thingHere_1 : cX4_thingHere.data.toList.drop 24 = dktX4_thingHere_1 := dk_seg dksX4_thingHere_0 24 rfl rfl
theorem dX4_thingHere_0 : decode cX4_thingHere 0 = .ok (.iconst 0, 1) := dk_3 (dk_at dksX4_thingHere_0 0 rfl rfl)
theorem dX4_thingHere_1 : decode cX4_thingHere 1 = .ok (.istore_n 1, 1) := dk_60 (dk_at dksX4_thingHere_0 1 rfl rfl)
theorem dX4_thingHere_2 : decode cX4_thingHere 2 = .ok (.iload_n 1, 1) := dk_27 (dk_at dksX4_thingHere_0 2 rfl rfl)
theorem dX4_thingHere_3 : decode cX4_thingHere 3 = .ok (.aload_n 0, 1) := dk_42 (dk_at dksX4_thingHere_0 3 rfl rfl)
theorem dX4_thingHere_4 : decode cX4_thingHere 4 = .ok (.getfield 194, 3) := dk_180 0 194 (dk_at dksX4_thingHere_0 4 rfl rfl)
theorem dX4_thingHere_7 : decode cX4_thingHere 7 = .ok (.if_icmp .ge 32, 3) := dk_162 0 32 (dk_at dksX4_thingHere_0 7 rfl rfl)
theorem dX4_thingHere_10 : decode cX4_thingHere 10 = .ok (.aload_n 0, 1) := dk_42 (dk_at dksX4_thingHere_0 10 rfl rfl)
theorem dX4_thingHere_11 : decode cX4_thingHere 11 = .ok (.invokevirtual 197, 3) := dk_182 0 197 (dk_at dksX4_thingHere_0 11 rfl rfl)
theorem dX4_thingHere_14 : decode cX4_thingHere 14 = .ok (.ifCond .eq 25, 3) := dk_153 0 25 (dk_at dksX4_thingHere_0 14 rfl rfl)
theorem dX4_thingHere_17 : decode cX4_thingHere 17 = .ok (.aload_n 0, 1) := dk_42 (dk_at dksX4_thingHere_0 17 rfl rfl)
theorem dX4_thingHere_18 : decode cX4_thingHere 18 = .ok (.getfield 13, 3) := dk_180 0 13 (dk_at dksX4_thingHere_0 18 rfl rfl)
theorem dX4_thingHere_21 : decode cX4_thingHere 21 = .ok (.iload_n 1, 1) := dk_27 (dk_at dksX4_thingHere_0 21 rfl rfl)
theorem dX4_thingHere_22 : decode cX4_thingHere 22 = .ok (.laload, 1) := dk_47 (dk_at dksX4_thingHere_0 22 rfl rfl)
theorem dX4_thingHere_23 : decode cX4_thingHere 23 = .ok (.aload_n 0, 1) := dk_42 (dk_at dksX4_thingHere_0 23 rfl rfl)
theorem dX4_thingHere_24 : decode cX4_thingHere 24 = .ok (.getfield 145, 3) := dk_180 0 145 (dk_at dksX4_thingHere_1 0 rfl rfl)
theorem dX4_thingHere_27 : decode cX4_thingHere 27 = .ok (.lcmp, 1) := dk_148 (dk_at dksX4_thingHere_1 3 rfl rfl)
theorem dX4_thingHere_28 : decode cX4_thingHere 28 = .ok (.ifCond .ne 5, 3) := dk_154 0 5 (dk_at dksX4_thingHere_1 4 rfl rfl)
theorem dX4_thingHere_31 : decode cX4_thingHere 31 = .ok (.iload_n 1, 1) := dk_27 (dk_at dksX4_thingHere_1 7 rfl rfl)
theorem dX4_thingHere_32 : decode cX4_thingHere 32 = .ok (.ireturn, 1) := dk_172 (dk_at dksX4_thingHere_1 8 rfl rfl)
theorem dX4_thingHere_33 : decode cX4_thingHere 33 = .ok (.iinc 1 1, 3) := dk_132 1 1 (dk_at dksX4_thingHere_1 9 rfl rfl)
theorem dX4_thingHere_36 : decode cX4_thingHere 36 = .ok (.goto (-34), 3) := dk_167 255 222 (dk_at dksX4_thingHere_1 12 rfl rfl)
theorem dX4_thingHere_39 : decode cX4_thingHere 39 = .ok (.iconst (-1), 1) := dk_2 (dk_at dksX4_thingHere_1 15 rfl rfl)
theorem dX4_thingHere_40 : decode cX4_thingHere 40 = .ok (.ireturn, 1) := dk_172 (dk_at dksX4_thingHere_1 16 rfl rfl)
def dkwX4_personHere_1 : List UInt8 := [180, 0, 145, 148, 154, 0, 5, 27, 172, 132, 1, 1, 167, 255, 222, 2, 172]
abbrev dktX4_personHere_1 : List UInt8 := dkwX4_personHere_1 ++ []
def dkwX4_personHere_0 : List UInt8 := [3, 60, 27, 42, 180, 0, 201, 162, 0, 32, 42, 182, 0, 197, 153, 0, 25, 42, 180, 0, 21, 27, 47, 42]
abbrev dktX4_personHere_0 : List UInt8 := dkwX4_personHere_0 ++ dktX4_personHere_1
theorem dksX4_personHere_0 : cX4_personHere.data.toList.drop 0 = dktX4_personHere_0 := by decide +kernel
theorem dksX4_personHere_1 : cX4_personHere.data.toList.drop 24 = dktX4_personHere_1 := dk_seg dksX4_personHere_0 24 rfl rfl
theorem dX4_personHere_0 : decode cX4_personHere 0 = .ok (.iconst 0, 1) := dk_3 (dk_at dksX4_personHere_0 0 rfl rfl)
theorem dX4_personHere_1 : decode cX4_personHere 1 = .ok (.istore_n 1, 1) := dk_60 (dk_at dksX4_personHere_0 1 rfl rfl)
theorem dX4_personHere_2 : decode cX4_personHere 2 = .ok (.iload_n 1, 1) := dk_27 (dk_at dksX4_personHere_0 2 rfl rfl)
theorem dX4_personHere_3 : decode cX4_personHere 3 = .ok (.aload_n 0, 1) := dk_42 (dk_at dksX4_personHere_0 3 rfl rfl)
theorem dX4_personHere_4 : decode cX4_personHere 4 = .ok (.getfield 201, 3) := dk_180 0 201 (dk_at dksX4_personHere_0 4 rfl rfl)
theorem dX4_personHere_7 : decode cX4_personHere 7 = .ok (.if_icmp .ge 32, 3) := dk_162 0 32 (dk_at dksX4_personHere_0 7 rfl rfl)
theorem dX4_personHere_10 : decode cX4_personHere 10 = .ok (.aload_n 0, 1) := dk_42 (dk_at dksX4_personHere_0 10 rfl rfl)
theorem dX4_personHere_11 : decode cX4_personHere 11 = .ok (.invokevirtual 197, 3) := dk_182 0 197 (dk_at dksX4_personHere_0 11 rfl rfl)
theorem dX4_personHere_14 : decode cX4_personHere 14 = .ok (.ifCond .eq 25, 3) := dk_153 0 25 (dk_at dksX4_personHere_0 14 rfl rfl)
theorem dX4_personHere_17 : decode cX4_personHere 17 = .ok (.aload_n 0, 1) := dk_42 (dk_at dksX4_personHere_0 17 rfl rfl)
theorem dX4_personHere_18 : decode cX4_personHere 18 = .ok (.getfield 21, 3) := dk_180 0 21 (dk_at dksX4_personHere_0 18 rfl rfl)
theorem dX4_personHere_21 : decode cX4_personHere 21 = .ok (.iload_n 1, 1) := dk_27 (dk_at dksX4_personHere_0 21 rfl rfl)
theorem dX4_personHere_22 : decode cX4_personHere 22 = .ok (.laload, 1) := dk_47 (dk_at dksX4_personHere_0 22 rfl rfl)
theorem dX4_personHere_23 : decode cX4_personHere 23 = .ok (.aload_n 0, 1) := dk_42 (dk_at dksX4_personHere_0 23 rfl rfl)
theorem dX4_personHere_24 : decode cX4_personHere 24 = .ok (.getfield 145, 3) := dk_180 0 145 (dk_at dksX4_personHere_1 0 rfl rfl)
theorem dX4_personHere_27 : decode cX4_personHere 27 = .ok (.lcmp, 1) := dk_148 (dk_at dksX4_personHere_1 3 rfl rfl)
theorem dX4_personHere_28 : decode cX4_personHere 28 = .ok (.ifCond .ne 5, 3) := dk_154 0 5 (dk_at dksX4_personHere_1 4 rfl rfl)
theorem dX4_personHere_31 : decode cX4_personHere 31 = .ok (.iload_n 1, 1) := dk_27 (dk_at dksX4_personHere_1 7 rfl rfl)
theorem dX4_personHere_32 : decode cX4_personHere 32 = .ok (.ireturn, 1) := dk_172 (dk_at dksX4_personHere_1 8 rfl rfl)
theorem dX4_personHere_33 : decode cX4_personHere 33 = .ok (.iinc 1 1, 3) := dk_132 1 1 (dk_at dksX4_personHere_1 9 rfl rfl)
theorem dX4_personHere_36 : decode cX4_personHere 36 = .ok (.goto (-34), 3) := dk_167 255 222 (dk_at dksX4_personHere_1 12 rfl rfl)
theorem dX4_personHere_39 : decode cX4_personHere 39 = .ok (.iconst (-1), 1) := dk_2 (dk_at dksX4_personHere_1 15 rfl rfl)
theorem dX4_personHere_40 : decode cX4_personHere 40 = .ok (.ireturn, 1) := dk_172 (dk_at dksX4_personHere_1 16 rfl rfl)
def dkwX4_number_1 : List UInt8 := [148, 158, 0, 5, 3, 172, 42, 42, 180, 0, 145, 136, 181, 0, 204, 42, 182, 0, 207, 4, 172]
abbrev dktX4_number_1 : List UInt8 := dkwX4_number_1 ++ []
def dkwX4_number_0 : List UInt8 := [42, 180, 0, 149, 5, 160, 0, 23, 42, 180, 0, 145, 27, 133, 148, 155, 0, 13, 42, 180, 0, 145, 28, 133]
abbrev dktX4_number_0 : List UInt8 := dkwX4_number_0 ++ dktX4_number_1
theorem dksX4_number_0 : cX4_number.data.toList.drop 0 = dktX4_number_0 := by decide +kernel
theorem dksX4_number_1 : cX4_number.data.toList.drop 24 = dktX4_number_1 := dk_seg dksX4_number_0 24 rfl rfl
theorem dX4_number_0 : decode cX4_number 0 = .ok (.aload_n 0, 1) := dk_42 (dk_at dksX4_number_0 0 rfl rfl)
theorem dX4_number_1 : decode cX4_number 1 = .ok (.getfield 149, 3) := dk_180 0 149 (dk_at dksX4_number_0 1 rfl rfl)
theorem dX4_number_4 : decode cX4_number 4 = .ok (.iconst 2, 1) := dk_5 (dk_at dksX4_number_0 4 rfl rfl)
theorem dX4_number_5 : decode cX4_number 5 = .ok (.if_icmp .ne 23, 3) := dk_160 0 23 (dk_at dksX4_number_0 5 rfl rfl)
theorem dX4_number_8 : decode cX4_number 8 = .ok (.aload_n 0, 1) := dk_42 (dk_at dksX4_number_0 8 rfl rfl)
theorem dX4_number_9 : decode cX4_number 9 = .ok (.getfield 145, 3) := dk_180 0 145 (dk_at dksX4_number_0 9 rfl rfl)
theorem dX4_number_12 : decode cX4_number 12 = .ok (.iload_n 1, 1) := dk_27 (dk_at dksX4_number_0 12 rfl rfl)
theorem dX4_number_13 : decode cX4_number 13 = .ok (.i2l, 1) := dk_133 (dk_at dksX4_number_0 13 rfl rfl)
theorem dX4_number_14 : decode cX4_number 14 = .ok (.lcmp, 1) := dk_148 (dk_at dksX4_number_0 14 rfl rfl)
theorem dX4_number_15 : decode cX4_number 15 = .ok (.ifCond .lt 13, 3) := dk_155 0 13 (dk_at dksX4_number_0 15 rfl rfl)
theorem dX4_number_18 : decode cX4_number 18 = .ok (.aload_n 0, 1) := dk_42 (dk_at dksX4_number_0 18 rfl rfl)
theorem dX4_number_19 : decode cX4_number 19 = .ok (.getfield 145, 3) := dk_180 0 145 (dk_at dksX4_number_0 19 rfl rfl)
theorem dX4_number_22 : decode cX4_number 22 = .ok (.iload_n 2, 1) := dk_28 (dk_at dksX4_number_0 22 rfl rfl)
theorem dX4_number_23 : decode cX4_number 23 = .ok (.i2l, 1) := dk_133 (dk_at dksX4_number_0 23 rfl rfl)
theorem dX4_number_24 : decode cX4_number 24 = .ok (.lcmp, 1) := dk_148 (dk_at dksX4_number_1 0 rfl rfl)
theorem dX4_number_25 : decode cX4_number 25 = .ok (.ifCond .le 5, 3) := dk_158 0 5 (dk_at dksX4_number_1 1 rfl rfl)
theorem dX4_number_28 : decode cX4_number 28 = .ok (.iconst 0, 1) := dk_3 (dk_at dksX4_number_1 4 rfl rfl)
theorem dX4_number_29 : decode cX4_number 29 = .ok (.ireturn, 1) := dk_172 (dk_at dksX4_number_1 5 rfl rfl)
theorem dX4_number_30 : decode cX4_number 30 = .ok (.aload_n 0, 1) := dk_42 (dk_at dksX4_number_1 6 rfl rfl)
theorem dX4_number_31 : decode cX4_number 31 = .ok (.aload_n 0, 1) := dk_42 (dk_at dksX4_number_1 7 rfl rfl)
theorem dX4_number_32 : decode cX4_number 32 = .ok (.getfield 145, 3) := dk_180 0 145 (dk_at dksX4_number_1 8 rfl rfl)
theorem dX4_number_35 : decode cX4_number 35 = .ok (.l2i, 1) := dk_136 (dk_at dksX4_number_1 11 rfl rfl)
theorem dX4_number_36 : decode cX4_number 36 = .ok (.putfield 204, 3) := dk_181 0 204 (dk_at dksX4_number_1 12 rfl rfl)
theorem dX4_number_39 : decode cX4_number 39 = .ok (.aload_n 0, 1) := dk_42 (dk_at dksX4_number_1 15 rfl rfl)
theorem dX4_number_40 : decode cX4_number 40 = .ok (.invokevirtual 207, 3) := dk_182 0 207 (dk_at dksX4_number_1 16 rfl rfl)
theorem dX4_number_43 : decode cX4_number 43 = .ok (.iconst 1, 1) := dk_4 (dk_at dksX4_number_1 19 rfl rfl)
theorem dX4_number_44 : decode cX4_number 44 = .ok (.ireturn, 1) := dk_172 (dk_at dksX4_number_1 20 rfl rfl)
def dkwX4_closes_0 : List UInt8 := [42, 180, 0, 149, 6, 159, 0, 5, 3, 172, 42, 182, 0, 207, 4, 172]
abbrev dktX4_closes_0 : List UInt8 := dkwX4_closes_0 ++ []
theorem dksX4_closes_0 : cX4_closes.data.toList.drop 0 = dktX4_closes_0 := by decide +kernel
theorem dX4_closes_0 : decode cX4_closes 0 = .ok (.aload_n 0, 1) := dk_42 (dk_at dksX4_closes_0 0 rfl rfl)
theorem dX4_closes_1 : decode cX4_closes 1 = .ok (.getfield 149, 3) := dk_180 0 149 (dk_at dksX4_closes_0 1 rfl rfl)
theorem dX4_closes_4 : decode cX4_closes 4 = .ok (.iconst 3, 1) := dk_6 (dk_at dksX4_closes_0 4 rfl rfl)
theorem dX4_closes_5 : decode cX4_closes 5 = .ok (.if_icmp .eq 5, 3) := dk_159 0 5 (dk_at dksX4_closes_0 5 rfl rfl)
theorem dX4_closes_8 : decode cX4_closes 8 = .ok (.iconst 0, 1) := dk_3 (dk_at dksX4_closes_0 8 rfl rfl)
theorem dX4_closes_9 : decode cX4_closes 9 = .ok (.ireturn, 1) := dk_172 (dk_at dksX4_closes_0 9 rfl rfl)
theorem dX4_closes_10 : decode cX4_closes 10 = .ok (.aload_n 0, 1) := dk_42 (dk_at dksX4_closes_0 10 rfl rfl)
theorem dX4_closes_11 : decode cX4_closes 11 = .ok (.invokevirtual 207, 3) := dk_182 0 207 (dk_at dksX4_closes_0 11 rfl rfl)
theorem dX4_closes_14 : decode cX4_closes 14 = .ok (.iconst 1, 1) := dk_4 (dk_at dksX4_closes_0 14 rfl rfl)
theorem dX4_closes_15 : decode cX4_closes 15 = .ok (.ireturn, 1) := dk_172 (dk_at dksX4_closes_0 15 rfl rfl)
def dkwX4_personLine_4 : List UInt8 := [42, 182, 0, 220, 172]
abbrev dktX4_personLine_4 : List UInt8 := dkwX4_personLine_4 ++ []
def dkwX4_personLine_3 : List UInt8 := [180, 0, 204, 79, 42, 180, 0, 21, 42, 180, 0, 201, 31, 80, 42, 89, 180, 0, 201, 4, 96, 181, 0, 201]
abbrev dktX4_personLine_3 : List UInt8 := dkwX4_personLine_3 ++ dktX4_personLine_4
def dkwX4_personLine_2 : List UInt8 := [182, 0, 207, 42, 3, 16, 16, 182, 0, 216, 154, 0, 5, 3, 172, 42, 180, 0, 24, 42, 180, 0, 201, 42]
abbrev dktX4_personLine_2 : List UInt8 := dkwX4_personLine_2 ++ dktX4_personLine_3
def dkwX4_personLine_1 : List UInt8 := [182, 0, 210, 2, 160, 0, 11, 42, 182, 0, 213, 2, 159, 0, 5, 3, 172, 42, 180, 0, 145, 64, 42]
abbrev dktX4_personLine_1 : List UInt8 := dkwX4_personLine_1 ++ dktX4_personLine_2
def dkwX4_personLine_0 : List UInt8 := [42, 180, 0, 201, 6, 160, 0, 5, 3, 172, 42, 182, 0, 207, 42, 182, 0, 197, 153, 0, 19, 42]
abbrev dktX4_personLine_0 : List UInt8 := dkwX4_personLine_0 ++ dktX4_personLine_1
theorem dksX4_personLine_0 : cX4_personLine.data.toList.drop 0 = dktX4_personLine_0 := by decide +kernel
theorem dksX4_personLine_1 : cX4_personLine.data.toList.drop 22 = dktX4_personLine_1 := dk_seg dksX4_personLine_0 22 rfl rfl
theorem dksX4_personLine_2 : cX4_personLine.data.toList.drop 45 = dktX4_personLine_2 := dk_seg dksX4_personLine_1 23 rfl rfl
theorem dksX4_personLine_3 : cX4_personLine.data.toList.drop 69 = dktX4_personLine_3 := dk_seg dksX4_personLine_2 24 rfl rfl
theorem dksX4_personLine_4 : cX4_personLine.data.toList.drop 93 = dktX4_personLine_4 := dk_seg dksX4_personLine_3 24 rfl rfl
theorem dX4_personLine_0 : decode cX4_personLine 0 = .ok (.aload_n 0, 1) := dk_42 (dk_at dksX4_personLine_0 0 rfl rfl)
theorem dX4_personLine_1 : decode cX4_personLine 1 = .ok (.getfield 201, 3) := dk_180 0 201 (dk_at dksX4_personLine_0 1 rfl rfl)
theorem dX4_personLine_4 : decode cX4_personLine 4 = .ok (.iconst 3, 1) := dk_6 (dk_at dksX4_personLine_0 4 rfl rfl)
theorem dX4_personLine_5 : decode cX4_personLine 5 = .ok (.if_icmp .ne 5, 3) := dk_160 0 5 (dk_at dksX4_personLine_0 5 rfl rfl)
theorem dX4_personLine_8 : decode cX4_personLine 8 = .ok (.iconst 0, 1) := dk_3 (dk_at dksX4_personLine_0 8 rfl rfl)
theorem dX4_personLine_9 : decode cX4_personLine 9 = .ok (.ireturn, 1) := dk_172 (dk_at dksX4_personLine_0 9 rfl rfl)
theorem dX4_personLine_10 : decode cX4_personLine 10 = .ok (.aload_n 0, 1) := dk_42 (dk_at dksX4_personLine_0 10 rfl rfl)
theorem dX4_personLine_11 : decode cX4_personLine 11 = .ok (.invokevirtual 207, 3) := dk_182 0 207 (dk_at dksX4_personLine_0 11 rfl rfl)
theorem dX4_personLine_14 : decode cX4_personLine 14 = .ok (.aload_n 0, 1) := dk_42 (dk_at dksX4_personLine_0 14 rfl rfl)
theorem dX4_personLine_15 : decode cX4_personLine 15 = .ok (.invokevirtual 197, 3) := dk_182 0 197 (dk_at dksX4_personLine_0 15 rfl rfl)
theorem dX4_personLine_18 : decode cX4_personLine 18 = .ok (.ifCond .eq 19, 3) := dk_153 0 19 (dk_at dksX4_personLine_0 18 rfl rfl)
theorem dX4_personLine_21 : decode cX4_personLine 21 = .ok (.aload_n 0, 1) := dk_42 (dk_at dksX4_personLine_0 21 rfl rfl)
theorem dX4_personLine_22 : decode cX4_personLine 22 = .ok (.invokevirtual 210, 3) := dk_182 0 210 (dk_at dksX4_personLine_1 0 rfl rfl)
theorem dX4_personLine_25 : decode cX4_personLine 25 = .ok (.iconst (-1), 1) := dk_2 (dk_at dksX4_personLine_1 3 rfl rfl)
theorem dX4_personLine_26 : decode cX4_personLine 26 = .ok (.if_icmp .ne 11, 3) := dk_160 0 11 (dk_at dksX4_personLine_1 4 rfl rfl)
theorem dX4_personLine_29 : decode cX4_personLine 29 = .ok (.aload_n 0, 1) := dk_42 (dk_at dksX4_personLine_1 7 rfl rfl)
theorem dX4_personLine_30 : decode cX4_personLine 30 = .ok (.invokevirtual 213, 3) := dk_182 0 213 (dk_at dksX4_personLine_1 8 rfl rfl)
theorem dX4_personLine_33 : decode cX4_personLine 33 = .ok (.iconst (-1), 1) := dk_2 (dk_at dksX4_personLine_1 11 rfl rfl)
theorem dX4_personLine_34 : decode cX4_personLine 34 = .ok (.if_icmp .eq 5, 3) := dk_159 0 5 (dk_at dksX4_personLine_1 12 rfl rfl)
theorem dX4_personLine_37 : decode cX4_personLine 37 = .ok (.iconst 0, 1) := dk_3 (dk_at dksX4_personLine_1 15 rfl rfl)
theorem dX4_personLine_38 : decode cX4_personLine 38 = .ok (.ireturn, 1) := dk_172 (dk_at dksX4_personLine_1 16 rfl rfl)
theorem dX4_personLine_39 : decode cX4_personLine 39 = .ok (.aload_n 0, 1) := dk_42 (dk_at dksX4_personLine_1 17 rfl rfl)
theorem dX4_personLine_40 : decode cX4_personLine 40 = .ok (.getfield 145, 3) := dk_180 0 145 (dk_at dksX4_personLine_1 18 rfl rfl)
theorem dX4_personLine_43 : decode cX4_personLine 43 = .ok (.lstore_n 1, 1) := dk_64 (dk_at dksX4_personLine_1 21 rfl rfl)
theorem dX4_personLine_44 : decode cX4_personLine 44 = .ok (.aload_n 0, 1) := dk_42 (dk_at dksX4_personLine_1 22 rfl rfl)
theorem dX4_personLine_45 : decode cX4_personLine 45 = .ok (.invokevirtual 207, 3) := dk_182 0 207 (dk_at dksX4_personLine_2 0 rfl rfl)
theorem dX4_personLine_48 : decode cX4_personLine 48 = .ok (.aload_n 0, 1) := dk_42 (dk_at dksX4_personLine_2 3 rfl rfl)
theorem dX4_personLine_49 : decode cX4_personLine 49 = .ok (.iconst 0, 1) := dk_3 (dk_at dksX4_personLine_2 4 rfl rfl)
theorem dX4_personLine_50 : decode cX4_personLine 50 = .ok (.bipush 16, 2) := dk_16 16 (dk_at dksX4_personLine_2 5 rfl rfl)
theorem dX4_personLine_52 : decode cX4_personLine 52 = .ok (.invokevirtual 216, 3) := dk_182 0 216 (dk_at dksX4_personLine_2 7 rfl rfl)
theorem dX4_personLine_55 : decode cX4_personLine 55 = .ok (.ifCond .ne 5, 3) := dk_154 0 5 (dk_at dksX4_personLine_2 10 rfl rfl)
theorem dX4_personLine_58 : decode cX4_personLine 58 = .ok (.iconst 0, 1) := dk_3 (dk_at dksX4_personLine_2 13 rfl rfl)
theorem dX4_personLine_59 : decode cX4_personLine 59 = .ok (.ireturn, 1) := dk_172 (dk_at dksX4_personLine_2 14 rfl rfl)
theorem dX4_personLine_60 : decode cX4_personLine 60 = .ok (.aload_n 0, 1) := dk_42 (dk_at dksX4_personLine_2 15 rfl rfl)
theorem dX4_personLine_61 : decode cX4_personLine 61 = .ok (.getfield 24, 3) := dk_180 0 24 (dk_at dksX4_personLine_2 16 rfl rfl)
theorem dX4_personLine_64 : decode cX4_personLine 64 = .ok (.aload_n 0, 1) := dk_42 (dk_at dksX4_personLine_2 19 rfl rfl)
theorem dX4_personLine_65 : decode cX4_personLine 65 = .ok (.getfield 201, 3) := dk_180 0 201 (dk_at dksX4_personLine_2 20 rfl rfl)
theorem dX4_personLine_68 : decode cX4_personLine 68 = .ok (.aload_n 0, 1) := dk_42 (dk_at dksX4_personLine_2 23 rfl rfl)
theorem dX4_personLine_69 : decode cX4_personLine 69 = .ok (.getfield 204, 3) := dk_180 0 204 (dk_at dksX4_personLine_3 0 rfl rfl)
theorem dX4_personLine_72 : decode cX4_personLine 72 = .ok (.iastore, 1) := dk_79 (dk_at dksX4_personLine_3 3 rfl rfl)
theorem dX4_personLine_73 : decode cX4_personLine 73 = .ok (.aload_n 0, 1) := dk_42 (dk_at dksX4_personLine_3 4 rfl rfl)
theorem dX4_personLine_74 : decode cX4_personLine 74 = .ok (.getfield 21, 3) := dk_180 0 21 (dk_at dksX4_personLine_3 5 rfl rfl)
theorem dX4_personLine_77 : decode cX4_personLine 77 = .ok (.aload_n 0, 1) := dk_42 (dk_at dksX4_personLine_3 8 rfl rfl)
theorem dX4_personLine_78 : decode cX4_personLine 78 = .ok (.getfield 201, 3) := dk_180 0 201 (dk_at dksX4_personLine_3 9 rfl rfl)
theorem dX4_personLine_81 : decode cX4_personLine 81 = .ok (.lload_n 1, 1) := dk_31 (dk_at dksX4_personLine_3 12 rfl rfl)
theorem dX4_personLine_82 : decode cX4_personLine 82 = .ok (.lastore, 1) := dk_80 (dk_at dksX4_personLine_3 13 rfl rfl)
theorem dX4_personLine_83 : decode cX4_personLine 83 = .ok (.aload_n 0, 1) := dk_42 (dk_at dksX4_personLine_3 14 rfl rfl)
theorem dX4_personLine_84 : decode cX4_personLine 84 = .ok (.dup, 1) := dk_89 (dk_at dksX4_personLine_3 15 rfl rfl)
theorem dX4_personLine_85 : decode cX4_personLine 85 = .ok (.getfield 201, 3) := dk_180 0 201 (dk_at dksX4_personLine_3 16 rfl rfl)
theorem dX4_personLine_88 : decode cX4_personLine 88 = .ok (.iconst 1, 1) := dk_4 (dk_at dksX4_personLine_3 19 rfl rfl)
theorem dX4_personLine_89 : decode cX4_personLine 89 = .ok (.iadd, 1) := dk_96 (dk_at dksX4_personLine_3 20 rfl rfl)
theorem dX4_personLine_90 : decode cX4_personLine 90 = .ok (.putfield 201, 3) := dk_181 0 201 (dk_at dksX4_personLine_3 21 rfl rfl)
theorem dX4_personLine_93 : decode cX4_personLine 93 = .ok (.aload_n 0, 1) := dk_42 (dk_at dksX4_personLine_4 0 rfl rfl)
theorem dX4_personLine_94 : decode cX4_personLine 94 = .ok (.invokevirtual 220, 3) := dk_182 0 220 (dk_at dksX4_personLine_4 1 rfl rfl)
theorem dX4_personLine_97 : decode cX4_personLine 97 = .ok (.ireturn, 1) := dk_172 (dk_at dksX4_personLine_4 4 rfl rfl)
def dkwX4_knowsLine_4 : List UInt8 := [29, 4, 96, 42, 180, 0, 204, 79, 42, 182, 0, 220, 172]
abbrev dktX4_knowsLine_4 : List UInt8 := dkwX4_knowsLine_4 ++ []
def dkwX4_knowsLine_3 : List UInt8 := [42, 3, 16, 20, 182, 0, 216, 154, 0, 5, 3, 172, 42, 180, 0, 27, 29, 21, 4, 79, 42, 180, 0, 27]
abbrev dktX4_knowsLine_3 : List UInt8 := dkwX4_knowsLine_3 ++ dktX4_knowsLine_4
def dkwX4_knowsLine_2 : List UInt8 := [3, 172, 42, 182, 0, 207, 42, 4, 16, 16, 182, 0, 216, 154, 0, 5, 3, 172, 42, 180, 0, 204, 54, 4]
abbrev dktX4_knowsLine_2 : List UInt8 := dkwX4_knowsLine_2 ++ dktX4_knowsLine_3
def dkwX4_knowsLine_1 : List UInt8 := [61, 5, 16, 10, 27, 104, 28, 96, 104, 62, 28, 2, 159, 0, 12, 42, 180, 0, 27, 29, 46, 158, 0, 5]
abbrev dktX4_knowsLine_1 : List UInt8 := dkwX4_knowsLine_1 ++ dktX4_knowsLine_2
def dkwX4_knowsLine_0 : List UInt8 := [42, 182, 0, 207, 42, 182, 0, 213, 60, 27, 2, 160, 0, 5, 3, 172, 42, 182, 0, 207, 42, 182, 0, 210]
abbrev dktX4_knowsLine_0 : List UInt8 := dkwX4_knowsLine_0 ++ dktX4_knowsLine_1
theorem dksX4_knowsLine_0 : cX4_knowsLine.data.toList.drop 0 = dktX4_knowsLine_0 := by decide +kernel
theorem dksX4_knowsLine_1 : cX4_knowsLine.data.toList.drop 24 = dktX4_knowsLine_1 := dk_seg dksX4_knowsLine_0 24 rfl rfl
theorem dksX4_knowsLine_2 : cX4_knowsLine.data.toList.drop 48 = dktX4_knowsLine_2 := dk_seg dksX4_knowsLine_1 24 rfl rfl
theorem dksX4_knowsLine_3 : cX4_knowsLine.data.toList.drop 72 = dktX4_knowsLine_3 := dk_seg dksX4_knowsLine_2 24 rfl rfl
theorem dksX4_knowsLine_4 : cX4_knowsLine.data.toList.drop 96 = dktX4_knowsLine_4 := dk_seg dksX4_knowsLine_3 24 rfl rfl
theorem dX4_knowsLine_0 : decode cX4_knowsLine 0 = .ok (.aload_n 0, 1) := dk_42 (dk_at dksX4_knowsLine_0 0 rfl rfl)
theorem dX4_knowsLine_1 : decode cX4_knowsLine 1 = .ok (.invokevirtual 207, 3) := dk_182 0 207 (dk_at dksX4_knowsLine_0 1 rfl rfl)
theorem dX4_knowsLine_4 : decode cX4_knowsLine 4 = .ok (.aload_n 0, 1) := dk_42 (dk_at dksX4_knowsLine_0 4 rfl rfl)
theorem dX4_knowsLine_5 : decode cX4_knowsLine 5 = .ok (.invokevirtual 213, 3) := dk_182 0 213 (dk_at dksX4_knowsLine_0 5 rfl rfl)
theorem dX4_knowsLine_8 : decode cX4_knowsLine 8 = .ok (.istore_n 1, 1) := dk_60 (dk_at dksX4_knowsLine_0 8 rfl rfl)
theorem dX4_knowsLine_9 : decode cX4_knowsLine 9 = .ok (.iload_n 1, 1) := dk_27 (dk_at dksX4_knowsLine_0 9 rfl rfl)
theorem dX4_knowsLine_10 : decode cX4_knowsLine 10 = .ok (.iconst (-1), 1) := dk_2 (dk_at dksX4_knowsLine_0 10 rfl rfl)
theorem dX4_knowsLine_11 : decode cX4_knowsLine 11 = .ok (.if_icmp .ne 5, 3) := dk_160 0 5 (dk_at dksX4_knowsLine_0 11 rfl rfl)
theorem dX4_knowsLine_14 : decode cX4_knowsLine 14 = .ok (.iconst 0, 1) := dk_3 (dk_at dksX4_knowsLine_0 14 rfl rfl)
theorem dX4_knowsLine_15 : decode cX4_knowsLine 15 = .ok (.ireturn, 1) := dk_172 (dk_at dksX4_knowsLine_0 15 rfl rfl)
theorem dX4_knowsLine_16 : decode cX4_knowsLine 16 = .ok (.aload_n 0, 1) := dk_42 (dk_at dksX4_knowsLine_0 16 rfl rfl)
theorem dX4_knowsLine_17 : decode cX4_knowsLine 17 = .ok (.invokevirtual 207, 3) := dk_182 0 207 (dk_at dksX4_knowsLine_0 17 rfl rfl)
theorem dX4_knowsLine_20 : decode cX4_knowsLine 20 = .ok (.aload_n 0, 1) := dk_42 (dk_at dksX4_knowsLine_0 20 rfl rfl)
theorem dX4_knowsLine_21 : decode cX4_knowsLine 21 = .ok (.invokevirtual 210, 3) := dk_182 0 210 (dk_at dksX4_knowsLine_0 21 rfl rfl)
theorem dX4_knowsLine_24 : decode cX4_knowsLine 24 = .ok (.istore_n 2, 1) := dk_61 (dk_at dksX4_knowsLine_1 0 rfl rfl)
theorem dX4_knowsLine_25 : decode cX4_knowsLine 25 = .ok (.iconst 2, 1) := dk_5 (dk_at dksX4_knowsLine_1 1 rfl rfl)
theorem dX4_knowsLine_26 : decode cX4_knowsLine 26 = .ok (.bipush 10, 2) := dk_16 10 (dk_at dksX4_knowsLine_1 2 rfl rfl)
theorem dX4_knowsLine_28 : decode cX4_knowsLine 28 = .ok (.iload_n 1, 1) := dk_27 (dk_at dksX4_knowsLine_1 4 rfl rfl)
theorem dX4_knowsLine_29 : decode cX4_knowsLine 29 = .ok (.imul, 1) := dk_104 (dk_at dksX4_knowsLine_1 5 rfl rfl)
theorem dX4_knowsLine_30 : decode cX4_knowsLine 30 = .ok (.iload_n 2, 1) := dk_28 (dk_at dksX4_knowsLine_1 6 rfl rfl)
theorem dX4_knowsLine_31 : decode cX4_knowsLine 31 = .ok (.iadd, 1) := dk_96 (dk_at dksX4_knowsLine_1 7 rfl rfl)
theorem dX4_knowsLine_32 : decode cX4_knowsLine 32 = .ok (.imul, 1) := dk_104 (dk_at dksX4_knowsLine_1 8 rfl rfl)
theorem dX4_knowsLine_33 : decode cX4_knowsLine 33 = .ok (.istore_n 3, 1) := dk_62 (dk_at dksX4_knowsLine_1 9 rfl rfl)
theorem dX4_knowsLine_34 : decode cX4_knowsLine 34 = .ok (.iload_n 2, 1) := dk_28 (dk_at dksX4_knowsLine_1 10 rfl rfl)
theorem dX4_knowsLine_35 : decode cX4_knowsLine 35 = .ok (.iconst (-1), 1) := dk_2 (dk_at dksX4_knowsLine_1 11 rfl rfl)
theorem dX4_knowsLine_36 : decode cX4_knowsLine 36 = .ok (.if_icmp .eq 12, 3) := dk_159 0 12 (dk_at dksX4_knowsLine_1 12 rfl rfl)
theorem dX4_knowsLine_39 : decode cX4_knowsLine 39 = .ok (.aload_n 0, 1) := dk_42 (dk_at dksX4_knowsLine_1 15 rfl rfl)
theorem dX4_knowsLine_40 : decode cX4_knowsLine 40 = .ok (.getfield 27, 3) := dk_180 0 27 (dk_at dksX4_knowsLine_1 16 rfl rfl)
theorem dX4_knowsLine_43 : decode cX4_knowsLine 43 = .ok (.iload_n 3, 1) := dk_29 (dk_at dksX4_knowsLine_1 19 rfl rfl)
theorem dX4_knowsLine_44 : decode cX4_knowsLine 44 = .ok (.iaload, 1) := dk_46 (dk_at dksX4_knowsLine_1 20 rfl rfl)
theorem dX4_knowsLine_45 : decode cX4_knowsLine 45 = .ok (.ifCond .le 5, 3) := dk_158 0 5 (dk_at dksX4_knowsLine_1 21 rfl rfl)
theorem dX4_knowsLine_48 : decode cX4_knowsLine 48 = .ok (.iconst 0, 1) := dk_3 (dk_at dksX4_knowsLine_2 0 rfl rfl)
theorem dX4_knowsLine_49 : decode cX4_knowsLine 49 = .ok (.ireturn, 1) := dk_172 (dk_at dksX4_knowsLine_2 1 rfl rfl)
theorem dX4_knowsLine_50 : decode cX4_knowsLine 50 = .ok (.aload_n 0, 1) := dk_42 (dk_at dksX4_knowsLine_2 2 rfl rfl)
theorem dX4_knowsLine_51 : decode cX4_knowsLine 51 = .ok (.invokevirtual 207, 3) := dk_182 0 207 (dk_at dksX4_knowsLine_2 3 rfl rfl)
theorem dX4_knowsLine_54 : decode cX4_knowsLine 54 = .ok (.aload_n 0, 1) := dk_42 (dk_at dksX4_knowsLine_2 6 rfl rfl)
theorem dX4_knowsLine_55 : decode cX4_knowsLine 55 = .ok (.iconst 1, 1) := dk_4 (dk_at dksX4_knowsLine_2 7 rfl rfl)
theorem dX4_knowsLine_56 : decode cX4_knowsLine 56 = .ok (.bipush 16, 2) := dk_16 16 (dk_at dksX4_knowsLine_2 8 rfl rfl)
theorem dX4_knowsLine_58 : decode cX4_knowsLine 58 = .ok (.invokevirtual 216, 3) := dk_182 0 216 (dk_at dksX4_knowsLine_2 10 rfl rfl)
theorem dX4_knowsLine_61 : decode cX4_knowsLine 61 = .ok (.ifCond .ne 5, 3) := dk_154 0 5 (dk_at dksX4_knowsLine_2 13 rfl rfl)
theorem dX4_knowsLine_64 : decode cX4_knowsLine 64 = .ok (.iconst 0, 1) := dk_3 (dk_at dksX4_knowsLine_2 16 rfl rfl)
theorem dX4_knowsLine_65 : decode cX4_knowsLine 65 = .ok (.ireturn, 1) := dk_172 (dk_at dksX4_knowsLine_2 17 rfl rfl)
theorem dX4_knowsLine_66 : decode cX4_knowsLine 66 = .ok (.aload_n 0, 1) := dk_42 (dk_at dksX4_knowsLine_2 18 rfl rfl)
theorem dX4_knowsLine_67 : decode cX4_knowsLine 67 = .ok (.getfield 204, 3) := dk_180 0 204 (dk_at dksX4_knowsLine_2 19 rfl rfl)
theorem dX4_knowsLine_70 : decode cX4_knowsLine 70 = .ok (.istore 4, 2) := dk_54 4 (dk_at dksX4_knowsLine_2 22 rfl rfl)
theorem dX4_knowsLine_72 : decode cX4_knowsLine 72 = .ok (.aload_n 0, 1) := dk_42 (dk_at dksX4_knowsLine_3 0 rfl rfl)
theorem dX4_knowsLine_73 : decode cX4_knowsLine 73 = .ok (.iconst 0, 1) := dk_3 (dk_at dksX4_knowsLine_3 1 rfl rfl)
theorem dX4_knowsLine_74 : decode cX4_knowsLine 74 = .ok (.bipush 20, 2) := dk_16 20 (dk_at dksX4_knowsLine_3 2 rfl rfl)
theorem dX4_knowsLine_76 : decode cX4_knowsLine 76 = .ok (.invokevirtual 216, 3) := dk_182 0 216 (dk_at dksX4_knowsLine_3 4 rfl rfl)
theorem dX4_knowsLine_79 : decode cX4_knowsLine 79 = .ok (.ifCond .ne 5, 3) := dk_154 0 5 (dk_at dksX4_knowsLine_3 7 rfl rfl)
theorem dX4_knowsLine_82 : decode cX4_knowsLine 82 = .ok (.iconst 0, 1) := dk_3 (dk_at dksX4_knowsLine_3 10 rfl rfl)
theorem dX4_knowsLine_83 : decode cX4_knowsLine 83 = .ok (.ireturn, 1) := dk_172 (dk_at dksX4_knowsLine_3 11 rfl rfl)
theorem dX4_knowsLine_84 : decode cX4_knowsLine 84 = .ok (.aload_n 0, 1) := dk_42 (dk_at dksX4_knowsLine_3 12 rfl rfl)
theorem dX4_knowsLine_85 : decode cX4_knowsLine 85 = .ok (.getfield 27, 3) := dk_180 0 27 (dk_at dksX4_knowsLine_3 13 rfl rfl)
theorem dX4_knowsLine_88 : decode cX4_knowsLine 88 = .ok (.iload_n 3, 1) := dk_29 (dk_at dksX4_knowsLine_3 16 rfl rfl)
theorem dX4_knowsLine_89 : decode cX4_knowsLine 89 = .ok (.iload 4, 2) := dk_21 4 (dk_at dksX4_knowsLine_3 17 rfl rfl)
theorem dX4_knowsLine_91 : decode cX4_knowsLine 91 = .ok (.iastore, 1) := dk_79 (dk_at dksX4_knowsLine_3 19 rfl rfl)
theorem dX4_knowsLine_92 : decode cX4_knowsLine 92 = .ok (.aload_n 0, 1) := dk_42 (dk_at dksX4_knowsLine_3 20 rfl rfl)
theorem dX4_knowsLine_93 : decode cX4_knowsLine 93 = .ok (.getfield 27, 3) := dk_180 0 27 (dk_at dksX4_knowsLine_3 21 rfl rfl)
theorem dX4_knowsLine_96 : decode cX4_knowsLine 96 = .ok (.iload_n 3, 1) := dk_29 (dk_at dksX4_knowsLine_4 0 rfl rfl)
theorem dX4_knowsLine_97 : decode cX4_knowsLine 97 = .ok (.iconst 1, 1) := dk_4 (dk_at dksX4_knowsLine_4 1 rfl rfl)
theorem dX4_knowsLine_98 : decode cX4_knowsLine 98 = .ok (.iadd, 1) := dk_96 (dk_at dksX4_knowsLine_4 2 rfl rfl)
theorem dX4_knowsLine_99 : decode cX4_knowsLine 99 = .ok (.aload_n 0, 1) := dk_42 (dk_at dksX4_knowsLine_4 3 rfl rfl)
theorem dX4_knowsLine_100 : decode cX4_knowsLine 100 = .ok (.getfield 204, 3) := dk_180 0 204 (dk_at dksX4_knowsLine_4 4 rfl rfl)
theorem dX4_knowsLine_103 : decode cX4_knowsLine 103 = .ok (.iastore, 1) := dk_79 (dk_at dksX4_knowsLine_4 7 rfl rfl)
theorem dX4_knowsLine_104 : decode cX4_knowsLine 104 = .ok (.aload_n 0, 1) := dk_42 (dk_at dksX4_knowsLine_4 8 rfl rfl)
theorem dX4_knowsLine_105 : decode cX4_knowsLine 105 = .ok (.invokevirtual 220, 3) := dk_182 0 220 (dk_at dksX4_knowsLine_4 9 rfl rfl)
theorem dX4_knowsLine_108 : decode cX4_knowsLine 108 = .ok (.ireturn, 1) := dk_172 (dk_at dksX4_knowsLine_4 12 rfl rfl)
def dkwX4_followLine_6 : List UInt8 := [181, 0, 223, 42, 182, 0, 220, 172]
abbrev dktX4_followLine_6 : List UInt8 := dkwX4_followLine_6 ++ []
def dkwX4_followLine_5 : List UInt8 := [27, 79, 42, 180, 0, 36, 5, 42, 180, 0, 223, 104, 4, 96, 28, 79, 42, 89, 180, 0, 223, 4, 96]
abbrev dktX4_followLine_5 : List UInt8 := dkwX4_followLine_5 ++ dktX4_followLine_6
def dkwX4_followLine_4 : List UInt8 := [4, 160, 0, 7, 42, 182, 0, 207, 132, 3, 1, 167, 255, 182, 42, 180, 0, 36, 5, 42, 180, 0, 223, 104]
abbrev dktX4_followLine_4 : List UInt8 := dkwX4_followLine_4 ++ dktX4_followLine_5
def dkwX4_followLine_3 : List UInt8 := [27, 159, 0, 13, 28, 21, 4, 122, 4, 126, 4, 160, 0, 5, 3, 172, 28, 4, 21, 4, 120, 128, 61, 29]
abbrev dktX4_followLine_3 : List UInt8 := dkwX4_followLine_3 ++ dktX4_followLine_4
def dkwX4_followLine_2 : List UInt8 := [180, 0, 149, 6, 160, 0, 6, 167, 0, 49, 42, 182, 0, 210, 54, 4, 21, 4, 2, 159, 0, 19, 21, 4]
abbrev dktX4_followLine_2 : List UInt8 := dkwX4_followLine_2 ++ dktX4_followLine_3
def dkwX4_followLine_1 : List UInt8 := [160, 0, 5, 3, 172, 3, 61, 3, 62, 29, 5, 162, 0, 75, 42, 182, 0, 207, 29, 4, 160, 0, 14, 42]
abbrev dktX4_followLine_1 : List UInt8 := dkwX4_followLine_1 ++ dktX4_followLine_2
def dkwX4_followLine_0 : List UInt8 := [42, 180, 0, 223, 16, 12, 160, 0, 5, 3, 172, 42, 182, 0, 207, 42, 182, 0, 210, 60, 27, 2]
abbrev dktX4_followLine_0 : List UInt8 := dkwX4_followLine_0 ++ dktX4_followLine_1
theorem dksX4_followLine_0 : cX4_followLine.data.toList.drop 0 = dktX4_followLine_0 := by decide +kernel
theorem dksX4_followLine_1 : cX4_followLine.data.toList.drop 22 = dktX4_followLine_1 := dk_seg dksX4_followLine_0 22 rfl rfl
theorem dksX4_followLine_2 : cX4_followLine.data.toList.drop 46 = dktX4_followLine_2 := dk_seg dksX4_followLine_1 24 rfl rfl
theorem dksX4_followLine_3 : cX4_followLine.data.toList.drop 70 = dktX4_followLine_3 := dk_seg dksX4_followLine_2 24 rfl rfl
theorem dksX4_followLine_4 : cX4_followLine.data.toList.drop 94 = dktX4_followLine_4 := dk_seg dksX4_followLine_3 24 rfl rfl
theorem dksX4_followLine_5 : cX4_followLine.data.toList.drop 118 = dktX4_followLine_5 := dk_seg dksX4_followLine_4 24 rfl rfl
theorem dksX4_followLine_6 : cX4_followLine.data.toList.drop 141 = dktX4_followLine_6 := dk_seg dksX4_followLine_5 23 rfl rfl
theorem dX4_followLine_0 : decode cX4_followLine 0 = .ok (.aload_n 0, 1) := dk_42 (dk_at dksX4_followLine_0 0 rfl rfl)
theorem dX4_followLine_1 : decode cX4_followLine 1 = .ok (.getfield 223, 3) := dk_180 0 223 (dk_at dksX4_followLine_0 1 rfl rfl)
theorem dX4_followLine_4 : decode cX4_followLine 4 = .ok (.bipush 12, 2) := dk_16 12 (dk_at dksX4_followLine_0 4 rfl rfl)
theorem dX4_followLine_6 : decode cX4_followLine 6 = .ok (.if_icmp .ne 5, 3) := dk_160 0 5 (dk_at dksX4_followLine_0 6 rfl rfl)
theorem dX4_followLine_9 : decode cX4_followLine 9 = .ok (.iconst 0, 1) := dk_3 (dk_at dksX4_followLine_0 9 rfl rfl)
theorem dX4_followLine_10 : decode cX4_followLine 10 = .ok (.ireturn, 1) := dk_172 (dk_at dksX4_followLine_0 10 rfl rfl)
theorem dX4_followLine_11 : decode cX4_followLine 11 = .ok (.aload_n 0, 1) := dk_42 (dk_at dksX4_followLine_0 11 rfl rfl)
theorem dX4_followLine_12 : decode cX4_followLine 12 = .ok (.invokevirtual 207, 3) := dk_182 0 207 (dk_at dksX4_followLine_0 12 rfl rfl)
theorem dX4_followLine_15 : decode cX4_followLine 15 = .ok (.aload_n 0, 1) := dk_42 (dk_at dksX4_followLine_0 15 rfl rfl)
theorem dX4_followLine_16 : decode cX4_followLine 16 = .ok (.invokevirtual 210, 3) := dk_182 0 210 (dk_at dksX4_followLine_0 16 rfl rfl)
theorem dX4_followLine_19 : decode cX4_followLine 19 = .ok (.istore_n 1, 1) := dk_60 (dk_at dksX4_followLine_0 19 rfl rfl)
theorem dX4_followLine_20 : decode cX4_followLine 20 = .ok (.iload_n 1, 1) := dk_27 (dk_at dksX4_followLine_0 20 rfl rfl)
theorem dX4_followLine_21 : decode cX4_followLine 21 = .ok (.iconst (-1), 1) := dk_2 (dk_at dksX4_followLine_0 21 rfl rfl)
theorem dX4_followLine_22 : decode cX4_followLine 22 = .ok (.if_icmp .ne 5, 3) := dk_160 0 5 (dk_at dksX4_followLine_1 0 rfl rfl)
theorem dX4_followLine_25 : decode cX4_followLine 25 = .ok (.iconst 0, 1) := dk_3 (dk_at dksX4_followLine_1 3 rfl rfl)
theorem dX4_followLine_26 : decode cX4_followLine 26 = .ok (.ireturn, 1) := dk_172 (dk_at dksX4_followLine_1 4 rfl rfl)
theorem dX4_followLine_27 : decode cX4_followLine 27 = .ok (.iconst 0, 1) := dk_3 (dk_at dksX4_followLine_1 5 rfl rfl)
theorem dX4_followLine_28 : decode cX4_followLine 28 = .ok (.istore_n 2, 1) := dk_61 (dk_at dksX4_followLine_1 6 rfl rfl)
theorem dX4_followLine_29 : decode cX4_followLine 29 = .ok (.iconst 0, 1) := dk_3 (dk_at dksX4_followLine_1 7 rfl rfl)
theorem dX4_followLine_30 : decode cX4_followLine 30 = .ok (.istore_n 3, 1) := dk_62 (dk_at dksX4_followLine_1 8 rfl rfl)
theorem dX4_followLine_31 : decode cX4_followLine 31 = .ok (.iload_n 3, 1) := dk_29 (dk_at dksX4_followLine_1 9 rfl rfl)
theorem dX4_followLine_32 : decode cX4_followLine 32 = .ok (.iconst 2, 1) := dk_5 (dk_at dksX4_followLine_1 10 rfl rfl)
theorem dX4_followLine_33 : decode cX4_followLine 33 = .ok (.if_icmp .ge 75, 3) := dk_162 0 75 (dk_at dksX4_followLine_1 11 rfl rfl)
theorem dX4_followLine_36 : decode cX4_followLine 36 = .ok (.aload_n 0, 1) := dk_42 (dk_at dksX4_followLine_1 14 rfl rfl)
theorem dX4_followLine_37 : decode cX4_followLine 37 = .ok (.invokevirtual 207, 3) := dk_182 0 207 (dk_at dksX4_followLine_1 15 rfl rfl)
theorem dX4_followLine_40 : decode cX4_followLine 40 = .ok (.iload_n 3, 1) := dk_29 (dk_at dksX4_followLine_1 18 rfl rfl)
theorem dX4_followLine_41 : decode cX4_followLine 41 = .ok (.iconst 1, 1) := dk_4 (dk_at dksX4_followLine_1 19 rfl rfl)
theorem dX4_followLine_42 : decode cX4_followLine 42 = .ok (.if_icmp .ne 14, 3) := dk_160 0 14 (dk_at dksX4_followLine_1 20 rfl rfl)
theorem dX4_followLine_45 : decode cX4_followLine 45 = .ok (.aload_n 0, 1) := dk_42 (dk_at dksX4_followLine_1 23 rfl rfl)
theorem dX4_followLine_46 : decode cX4_followLine 46 = .ok (.getfield 149, 3) := dk_180 0 149 (dk_at dksX4_followLine_2 0 rfl rfl)
theorem dX4_followLine_49 : decode cX4_followLine 49 = .ok (.iconst 3, 1) := dk_6 (dk_at dksX4_followLine_2 3 rfl rfl)
theorem dX4_followLine_50 : decode cX4_followLine 50 = .ok (.if_icmp .ne 6, 3) := dk_160 0 6 (dk_at dksX4_followLine_2 4 rfl rfl)
theorem dX4_followLine_53 : decode cX4_followLine 53 = .ok (.goto 49, 3) := dk_167 0 49 (dk_at dksX4_followLine_2 7 rfl rfl)
theorem dX4_followLine_56 : decode cX4_followLine 56 = .ok (.aload_n 0, 1) := dk_42 (dk_at dksX4_followLine_2 10 rfl rfl)
theorem dX4_followLine_57 : decode cX4_followLine 57 = .ok (.invokevirtual 210, 3) := dk_182 0 210 (dk_at dksX4_followLine_2 11 rfl rfl)
theorem dX4_followLine_60 : decode cX4_followLine 60 = .ok (.istore 4, 2) := dk_54 4 (dk_at dksX4_followLine_2 14 rfl rfl)
theorem dX4_followLine_62 : decode cX4_followLine 62 = .ok (.iload 4, 2) := dk_21 4 (dk_at dksX4_followLine_2 16 rfl rfl)
theorem dX4_followLine_64 : decode cX4_followLine 64 = .ok (.iconst (-1), 1) := dk_2 (dk_at dksX4_followLine_2 18 rfl rfl)
theorem dX4_followLine_65 : decode cX4_followLine 65 = .ok (.if_icmp .eq 19, 3) := dk_159 0 19 (dk_at dksX4_followLine_2 19 rfl rfl)
theorem dX4_followLine_68 : decode cX4_followLine 68 = .ok (.iload 4, 2) := dk_21 4 (dk_at dksX4_followLine_2 22 rfl rfl)
theorem dX4_followLine_70 : decode cX4_followLine 70 = .ok (.iload_n 1, 1) := dk_27 (dk_at dksX4_followLine_3 0 rfl rfl)
theorem dX4_followLine_71 : decode cX4_followLine 71 = .ok (.if_icmp .eq 13, 3) := dk_159 0 13 (dk_at dksX4_followLine_3 1 rfl rfl)
theorem dX4_followLine_74 : decode cX4_followLine 74 = .ok (.iload_n 2, 1) := dk_28 (dk_at dksX4_followLine_3 4 rfl rfl)
theorem dX4_followLine_75 : decode cX4_followLine 75 = .ok (.iload 4, 2) := dk_21 4 (dk_at dksX4_followLine_3 5 rfl rfl)
theorem dX4_followLine_77 : decode cX4_followLine 77 = .ok (.ishr, 1) := dk_122 (dk_at dksX4_followLine_3 7 rfl rfl)
theorem dX4_followLine_78 : decode cX4_followLine 78 = .ok (.iconst 1, 1) := dk_4 (dk_at dksX4_followLine_3 8 rfl rfl)
theorem dX4_followLine_79 : decode cX4_followLine 79 = .ok (.iand, 1) := dk_126 (dk_at dksX4_followLine_3 9 rfl rfl)
theorem dX4_followLine_80 : decode cX4_followLine 80 = .ok (.iconst 1, 1) := dk_4 (dk_at dksX4_followLine_3 10 rfl rfl)
theorem dX4_followLine_81 : decode cX4_followLine 81 = .ok (.if_icmp .ne 5, 3) := dk_160 0 5 (dk_at dksX4_followLine_3 11 rfl rfl)
theorem dX4_followLine_84 : decode cX4_followLine 84 = .ok (.iconst 0, 1) := dk_3 (dk_at dksX4_followLine_3 14 rfl rfl)
theorem dX4_followLine_85 : decode cX4_followLine 85 = .ok (.ireturn, 1) := dk_172 (dk_at dksX4_followLine_3 15 rfl rfl)
theorem dX4_followLine_86 : decode cX4_followLine 86 = .ok (.iload_n 2, 1) := dk_28 (dk_at dksX4_followLine_3 16 rfl rfl)
theorem dX4_followLine_87 : decode cX4_followLine 87 = .ok (.iconst 1, 1) := dk_4 (dk_at dksX4_followLine_3 17 rfl rfl)
theorem dX4_followLine_88 : decode cX4_followLine 88 = .ok (.iload 4, 2) := dk_21 4 (dk_at dksX4_followLine_3 18 rfl rfl)
theorem dX4_followLine_90 : decode cX4_followLine 90 = .ok (.ishl, 1) := dk_120 (dk_at dksX4_followLine_3 20 rfl rfl)
theorem dX4_followLine_91 : decode cX4_followLine 91 = .ok (.ior, 1) := dk_128 (dk_at dksX4_followLine_3 21 rfl rfl)
theorem dX4_followLine_92 : decode cX4_followLine 92 = .ok (.istore_n 2, 1) := dk_61 (dk_at dksX4_followLine_3 22 rfl rfl)
theorem dX4_followLine_93 : decode cX4_followLine 93 = .ok (.iload_n 3, 1) := dk_29 (dk_at dksX4_followLine_3 23 rfl rfl)
theorem dX4_followLine_94 : decode cX4_followLine 94 = .ok (.iconst 1, 1) := dk_4 (dk_at dksX4_followLine_4 0 rfl rfl)
theorem dX4_followLine_95 : decode cX4_followLine 95 = .ok (.if_icmp .ne 7, 3) := dk_160 0 7 (dk_at dksX4_followLine_4 1 rfl rfl)
theorem dX4_followLine_98 : decode cX4_followLine 98 = .ok (.aload_n 0, 1) := dk_42 (dk_at dksX4_followLine_4 4 rfl rfl)
theorem dX4_followLine_99 : decode cX4_followLine 99 = .ok (.invokevirtual 207, 3) := dk_182 0 207 (dk_at dksX4_followLine_4 5 rfl rfl)
theorem dX4_followLine_102 : decode cX4_followLine 102 = .ok (.iinc 3 1, 3) := dk_132 3 1 (dk_at dksX4_followLine_4 8 rfl rfl)
theorem dX4_followLine_105 : decode cX4_followLine 105 = .ok (.goto (-74), 3) := dk_167 255 182 (dk_at dksX4_followLine_4 11 rfl rfl)
theorem dX4_followLine_108 : decode cX4_followLine 108 = .ok (.aload_n 0, 1) := dk_42 (dk_at dksX4_followLine_4 14 rfl rfl)
theorem dX4_followLine_109 : decode cX4_followLine 109 = .ok (.getfield 36, 3) := dk_180 0 36 (dk_at dksX4_followLine_4 15 rfl rfl)
theorem dX4_followLine_112 : decode cX4_followLine 112 = .ok (.iconst 2, 1) := dk_5 (dk_at dksX4_followLine_4 18 rfl rfl)
theorem dX4_followLine_113 : decode cX4_followLine 113 = .ok (.aload_n 0, 1) := dk_42 (dk_at dksX4_followLine_4 19 rfl rfl)
theorem dX4_followLine_114 : decode cX4_followLine 114 = .ok (.getfield 223, 3) := dk_180 0 223 (dk_at dksX4_followLine_4 20 rfl rfl)
theorem dX4_followLine_117 : decode cX4_followLine 117 = .ok (.imul, 1) := dk_104 (dk_at dksX4_followLine_4 23 rfl rfl)
theorem dX4_followLine_118 : decode cX4_followLine 118 = .ok (.iload_n 1, 1) := dk_27 (dk_at dksX4_followLine_5 0 rfl rfl)
theorem dX4_followLine_119 : decode cX4_followLine 119 = .ok (.iastore, 1) := dk_79 (dk_at dksX4_followLine_5 1 rfl rfl)
theorem dX4_followLine_120 : decode cX4_followLine 120 = .ok (.aload_n 0, 1) := dk_42 (dk_at dksX4_followLine_5 2 rfl rfl)
theorem dX4_followLine_121 : decode cX4_followLine 121 = .ok (.getfield 36, 3) := dk_180 0 36 (dk_at dksX4_followLine_5 3 rfl rfl)
theorem dX4_followLine_124 : decode cX4_followLine 124 = .ok (.iconst 2, 1) := dk_5 (dk_at dksX4_followLine_5 6 rfl rfl)
theorem dX4_followLine_125 : decode cX4_followLine 125 = .ok (.aload_n 0, 1) := dk_42 (dk_at dksX4_followLine_5 7 rfl rfl)
theorem dX4_followLine_126 : decode cX4_followLine 126 = .ok (.getfield 223, 3) := dk_180 0 223 (dk_at dksX4_followLine_5 8 rfl rfl)
theorem dX4_followLine_129 : decode cX4_followLine 129 = .ok (.imul, 1) := dk_104 (dk_at dksX4_followLine_5 11 rfl rfl)
theorem dX4_followLine_130 : decode cX4_followLine 130 = .ok (.iconst 1, 1) := dk_4 (dk_at dksX4_followLine_5 12 rfl rfl)
theorem dX4_followLine_131 : decode cX4_followLine 131 = .ok (.iadd, 1) := dk_96 (dk_at dksX4_followLine_5 13 rfl rfl)
theorem dX4_followLine_132 : decode cX4_followLine 132 = .ok (.iload_n 2, 1) := dk_28 (dk_at dksX4_followLine_5 14 rfl rfl)
theorem dX4_followLine_133 : decode cX4_followLine 133 = .ok (.iastore, 1) := dk_79 (dk_at dksX4_followLine_5 15 rfl rfl)
theorem dX4_followLine_134 : decode cX4_followLine 134 = .ok (.aload_n 0, 1) := dk_42 (dk_at dksX4_followLine_5 16 rfl rfl)
theorem dX4_followLine_135 : decode cX4_followLine 135 = .ok (.dup, 1) := dk_89 (dk_at dksX4_followLine_5 17 rfl rfl)
theorem dX4_followLine_136 : decode cX4_followLine 136 = .ok (.getfield 223, 3) := dk_180 0 223 (dk_at dksX4_followLine_5 18 rfl rfl)
theorem dX4_followLine_139 : decode cX4_followLine 139 = .ok (.iconst 1, 1) := dk_4 (dk_at dksX4_followLine_5 21 rfl rfl)
theorem dX4_followLine_140 : decode cX4_followLine 140 = .ok (.iadd, 1) := dk_96 (dk_at dksX4_followLine_5 22 rfl rfl)
theorem dX4_followLine_141 : decode cX4_followLine 141 = .ok (.putfield 223, 3) := dk_181 0 223 (dk_at dksX4_followLine_6 0 rfl rfl)
theorem dX4_followLine_144 : decode cX4_followLine 144 = .ok (.aload_n 0, 1) := dk_42 (dk_at dksX4_followLine_6 3 rfl rfl)
theorem dX4_followLine_145 : decode cX4_followLine 145 = .ok (.invokevirtual 220, 3) := dk_182 0 220 (dk_at dksX4_followLine_6 4 rfl rfl)
theorem dX4_followLine_148 : decode cX4_followLine 148 = .ok (.ireturn, 1) := dk_172 (dk_at dksX4_followLine_6 7 rfl rfl)
