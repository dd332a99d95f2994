set_option maxRecDepth 100000
def dkwX1_init_15 : List UInt8 := [167, 255, 241, 42, 182, 0, 125, 177]
abbrev dktX1_init_15 : List UInt8 := dkwX1_init_15 ++ []
def dkwX1_init_14 : List UInt8 := [79, 132, 1, 1, 167, 255, 239, 3, 60, 27, 7, 162, 0, 16, 42, 180, 0, 101, 27, 2, 79, 132, 1, 1]
abbrev dktX1_init_14 : List UInt8 := dkwX1_init_14 ++ dktX1_init_15
def dkwX1_init_13 : List UInt8 := [27, 2, 79, 132, 1, 1, 167, 255, 240, 3, 60, 27, 16, 16, 162, 0, 17, 42, 180, 0, 98, 27, 16, 6]
abbrev dktX1_init_13 : List UInt8 := dkwX1_init_13 ++ dktX1_init_14
def dkwX1_init_12 : List UInt8 := [180, 0, 89, 27, 4, 79, 132, 1, 1, 167, 255, 240, 3, 60, 27, 16, 8, 162, 0, 16, 42, 180, 0, 92]
abbrev dktX1_init_12 : List UInt8 := dkwX1_init_12 ++ dktX1_init_13
def dkwX1_init_11 : List UInt8 := [79, 42, 180, 0, 56, 27, 182, 0, 121, 132, 1, 1, 167, 255, 225, 3, 60, 27, 16, 16, 162, 0, 16, 42]
abbrev dktX1_init_11 : List UInt8 := dkwX1_init_11 ++ dktX1_init_12
def dkwX1_init_10 : List UInt8 := [181, 0, 118, 3, 60, 27, 16, 8, 162, 0, 31, 42, 180, 0, 60, 27, 27, 79, 42, 180, 0, 63, 27, 27]
abbrev dktX1_init_10 : List UInt8 := dkwX1_init_10 ++ dktX1_init_11
def dkwX1_init_9 : List UInt8 := [181, 0, 104, 42, 187, 0, 13, 89, 183, 0, 15, 181, 0, 107, 42, 18, 110, 182, 0, 112, 188, 10]
abbrev dktX1_init_9 : List UInt8 := dkwX1_init_9 ++ dktX1_init_10
def dkwX1_init_8 : List UInt8 := [42, 16, 16, 188, 10, 181, 0, 98, 42, 7, 188, 10, 181, 0, 101, 42, 187, 0, 76, 89, 183, 0, 78]
abbrev dktX1_init_8 : List UInt8 := dkwX1_init_8 ++ dktX1_init_9
def dkwX1_init_7 : List UInt8 := [188, 10, 181, 0, 89, 42, 16, 8, 188, 10, 181, 0, 92, 42, 187, 0, 53, 89, 183, 0, 55, 181, 0, 95]
abbrev dktX1_init_7 : List UInt8 := dkwX1_init_7 ++ dktX1_init_8
def dkwX1_init_6 : List UInt8 := [181, 0, 79, 42, 187, 0, 76, 89, 183, 0, 78, 181, 0, 83, 42, 3, 188, 10, 181, 0, 86, 42, 16, 16]
abbrev dktX1_init_6 : List UInt8 := dkwX1_init_6 ++ dktX1_init_7
def dkwX1_init_5 : List UInt8 := [181, 0, 69, 42, 187, 0, 66, 89, 183, 0, 68, 181, 0, 73, 42, 187, 0, 76, 89, 183, 0, 78]
abbrev dktX1_init_5 : List UInt8 := dkwX1_init_5 ++ dktX1_init_6
def dkwX1_init_4 : List UInt8 := [16, 8, 188, 10, 181, 0, 60, 42, 16, 8, 188, 10, 181, 0, 63, 42, 187, 0, 66, 89, 183, 0, 68]
abbrev dktX1_init_4 : List UInt8 := dkwX1_init_4 ++ dktX1_init_5
def dkwX1_init_3 : List UInt8 := [181, 0, 47, 42, 16, 24, 188, 10, 181, 0, 50, 42, 187, 0, 53, 89, 183, 0, 55, 181, 0, 56, 42]
abbrev dktX1_init_3 : List UInt8 := dkwX1_init_3 ++ dktX1_init_4
def dkwX1_init_2 : List UInt8 := [181, 0, 33, 42, 5, 181, 0, 37, 42, 16, 8, 181, 0, 41, 42, 7, 181, 0, 44, 42, 16, 16]
abbrev dktX1_init_2 : List UInt8 := dkwX1_init_2 ++ dktX1_init_3
def dkwX1_init_1 : List UInt8 := [16, 64, 188, 10, 181, 0, 24, 42, 16, 64, 188, 10, 181, 0, 27, 42, 187, 0, 30, 89, 183, 0, 32]
abbrev dktX1_init_1 : List UInt8 := dkwX1_init_1 ++ dktX1_init_2
def dkwX1_init_0 : List UInt8 := [42, 183, 0, 7, 42, 187, 0, 13, 89, 183, 0, 15, 181, 0, 16, 42, 16, 8, 188, 10, 181, 0, 20, 42]
abbrev dktX1_init_0 : List UInt8 := dkwX1_init_0 ++ dktX1_init_1
theorem dksX1_init_0 : cX1_init.data.toList.drop 0 = dktX1_init_0 := by decide +kernel
theorem dksX1_init_1 : cX1_init.data.toList.drop 24 = dktX1_init_1 := dk_seg dksX1_init_0 24 rfl rfl
theorem dksX1_init_2 : cX1_init.data.toList.drop 47 = dktX1_init_2 := dk_seg dksX1_init_1 23 rfl rfl
theorem dksX1_init_3 : cX1_init.data.toList.drop 69 = dktX1_init_3 := dk_seg dksX1_init_2 22 rfl rfl
theorem dksX1_init_4 : cX1_init.data.toList.drop 92 = dktX1_init_4 := dk_seg dksX1_init_3 23 rfl rfl
theorem dksX1_init_5 : cX1_init.data.toList.drop 115 = dktX1_init_5 := dk_seg dksX1_init_4 23 rfl rfl
theorem dksX1_init_6 : cX1_init.data.toList.drop 137 = dktX1_init_6 := dk_seg dksX1_init_5 22 rfl rfl
theorem dksX1_init_7 : cX1_init.data.toList.drop 161 = dktX1_init_7 := dk_seg dksX1_init_6 24 rfl rfl
theorem dksX1_init_8 : cX1_init.data.toList.drop 185 = dktX1_init_8 := dk_seg dksX1_init_7 24 rfl rfl
theorem dksX1_init_9 : cX1_init.data.toList.drop 208 = dktX1_init_9 := dk_seg dksX1_init_8 23 rfl rfl
theorem dksX1_init_10 : cX1_init.data.toList.drop 230 = dktX1_init_10 := dk_seg dksX1_init_9 22 rfl rfl
theorem dksX1_init_11 : cX1_init.data.toList.drop 254 = dktX1_init_11 := dk_seg dksX1_init_10 24 rfl rfl
theorem dksX1_init_12 : cX1_init.data.toList.drop 278 = dktX1_init_12 := dk_seg dksX1_init_11 24 rfl rfl
theorem dksX1_init_13 : cX1_init.data.toList.drop 302 = dktX1_init_13 := dk_seg dksX1_init_12 24 rfl rfl
theorem dksX1_init_14 : cX1_init.data.toList.drop 326 = dktX1_init_14 := dk_seg dksX1_init_13 24 rfl rfl
theorem dksX1_init_15 : cX1_init.data.toList.drop 350 = dktX1_init_15 := dk_seg dksX1_init_14 24 rfl rfl
theorem dX1_init_0 : decode cX1_init 0 = .ok (.aload_n 0, 1) := dk_42 (dk_at dksX1_init_0 0 rfl rfl)
theorem dX1_init_1 : decode cX1_init 1 = .ok (.invokespecial 7, 3) := dk_183 0 7 (dk_at dksX1_init_0 1 rfl rfl)
theorem dX1_init_4 : decode cX1_init 4 = .ok (.aload_n 0, 1) := dk_42 (dk_at dksX1_init_0 4 rfl rfl)
theorem dX1_init_5 : decode cX1_init 5 = .ok (.new 13, 3) := dk_187 0 13 (dk_at dksX1_init_0 5 rfl rfl)
theorem dX1_init_8 : decode cX1_init 8 = .ok (.dup, 1) := dk_89 (dk_at dksX1_init_0 8 rfl rfl)
theorem dX1_init_9 : decode cX1_init 9 = .ok (.invokespecial 15, 3) := dk_183 0 15 (dk_at dksX1_init_0 9 rfl rfl)
theorem dX1_init_12 : decode cX1_init 12 = .ok (.putfield 16, 3) := dk_181 0 16 (dk_at dksX1_init_0 12 rfl rfl)
theorem dX1_init_15 : decode cX1_init 15 = .ok (.aload_n 0, 1) := dk_42 (dk_at dksX1_init_0 15 rfl rfl)
theorem dX1_init_16 : decode cX1_init 16 = .ok (.bipush 8, 2) := dk_16 8 (dk_at dksX1_init_0 16 rfl rfl)
theorem dX1_init_18 : decode cX1_init 18 = .ok (.newarray .int, 2) := dk_188_10 (dk_at dksX1_init_0 18 rfl rfl)
theorem dX1_init_20 : decode cX1_init 20 = .ok (.putfield 20, 3) := dk_181 0 20 (dk_at dksX1_init_0 20 rfl rfl)
theorem dX1_init_23 : decode cX1_init 23 = .ok (.aload_n 0, 1) := dk_42 (dk_at dksX1_init_0 23 rfl rfl)
theorem dX1_init_24 : decode cX1_init 24 = .ok (.bipush 64, 2) := dk_16 64 (dk_at dksX1_init_1 0 rfl rfl)
theorem dX1_init_26 : decode cX1_init 26 = .ok (.newarray .int, 2) := dk_188_10 (dk_at dksX1_init_1 2 rfl rfl)
theorem dX1_init_28 : decode cX1_init 28 = .ok (.putfield 24, 3) := dk_181 0 24 (dk_at dksX1_init_1 4 rfl rfl)
theorem dX1_init_31 : decode cX1_init 31 = .ok (.aload_n 0, 1) := dk_42 (dk_at dksX1_init_1 7 rfl rfl)
theorem dX1_init_32 : decode cX1_init 32 = .ok (.bipush 64, 2) := dk_16 64 (dk_at dksX1_init_1 8 rfl rfl)
theorem dX1_init_34 : decode cX1_init 34 = .ok (.newarray .int, 2) := dk_188_10 (dk_at dksX1_init_1 10 rfl rfl)
theorem dX1_init_36 : decode cX1_init 36 = .ok (.putfield 27, 3) := dk_181 0 27 (dk_at dksX1_init_1 12 rfl rfl)
theorem dX1_init_39 : decode cX1_init 39 = .ok (.aload_n 0, 1) := dk_42 (dk_at dksX1_init_1 15 rfl rfl)
theorem dX1_init_40 : decode cX1_init 40 = .ok (.new 30, 3) := dk_187 0 30 (dk_at dksX1_init_1 16 rfl rfl)
theorem dX1_init_43 : decode cX1_init 43 = .ok (.dup, 1) := dk_89 (dk_at dksX1_init_1 19 rfl rfl)
theorem dX1_init_44 : decode cX1_init 44 = .ok (.invokespecial 32, 3) := dk_183 0 32 (dk_at dksX1_init_1 20 rfl rfl)
theorem dX1_init_47 : decode cX1_init 47 = .ok (.putfield 33, 3) := dk_181 0 33 (dk_at dksX1_init_2 0 rfl rfl)
theorem dX1_init_50 : decode cX1_init 50 = .ok (.aload_n 0, 1) := dk_42 (dk_at dksX1_init_2 3 rfl rfl)
theorem dX1_init_51 : decode cX1_init 51 = .ok (.iconst 2, 1) := dk_5 (dk_at dksX1_init_2 4 rfl rfl)
theorem dX1_init_52 : decode cX1_init 52 = .ok (.putfield 37, 3) := dk_181 0 37 (dk_at dksX1_init_2 5 rfl rfl)
theorem dX1_init_55 : decode cX1_init 55 = .ok (.aload_n 0, 1) := dk_42 (dk_at dksX1_init_2 8 rfl rfl)
theorem dX1_init_56 : decode cX1_init 56 = .ok (.bipush 8, 2) := dk_16 8 (dk_at dksX1_init_2 9 rfl rfl)
theorem dX1_init_58 : decode cX1_init 58 = .ok (.putfield 41, 3) := dk_181 0 41 (dk_at dksX1_init_2 11 rfl rfl)
theorem dX1_init_61 : decode cX1_init 61 = .ok (.aload_n 0, 1) := dk_42 (dk_at dksX1_init_2 14 rfl rfl)
theorem dX1_init_62 : decode cX1_init 62 = .ok (.iconst 4, 1) := dk_7 (dk_at dksX1_init_2 15 rfl rfl)
theorem dX1_init_63 : decode cX1_init 63 = .ok (.putfield 44, 3) := dk_181 0 44 (dk_at dksX1_init_2 16 rfl rfl)
theorem dX1_init_66 : decode cX1_init 66 = .ok (.aload_n 0, 1) := dk_42 (dk_at dksX1_init_2 19 rfl rfl)
theorem dX1_init_67 : decode cX1_init 67 = .ok (.bipush 16, 2) := dk_16 16 (dk_at dksX1_init_2 20 rfl rfl)
theorem dX1_init_69 : decode cX1_init 69 = .ok (.putfield 47, 3) := dk_181 0 47 (dk_at dksX1_init_3 0 rfl rfl)
theorem dX1_init_72 : decode cX1_init 72 = .ok (.aload_n 0, 1) := dk_42 (dk_at dksX1_init_3 3 rfl rfl)
theorem dX1_init_73 : decode cX1_init 73 = .ok (.bipush 24, 2) := dk_16 24 (dk_at dksX1_init_3 4 rfl rfl)
theorem dX1_init_75 : decode cX1_init 75 = .ok (.newarray .int, 2) := dk_188_10 (dk_at dksX1_init_3 6 rfl rfl)
theorem dX1_init_77 : decode cX1_init 77 = .ok (.putfield 50, 3) := dk_181 0 50 (dk_at dksX1_init_3 8 rfl rfl)
theorem dX1_init_80 : decode cX1_init 80 = .ok (.aload_n 0, 1) := dk_42 (dk_at dksX1_init_3 11 rfl rfl)
theorem dX1_init_81 : decode cX1_init 81 = .ok (.new 53, 3) := dk_187 0 53 (dk_at dksX1_init_3 12 rfl rfl)
theorem dX1_init_84 : decode cX1_init 84 = .ok (.dup, 1) := dk_89 (dk_at dksX1_init_3 15 rfl rfl)
theorem dX1_init_85 : decode cX1_init 85 = .ok (.invokespecial 55, 3) := dk_183 0 55 (dk_at dksX1_init_3 16 rfl rfl)
theorem dX1_init_88 : decode cX1_init 88 = .ok (.putfield 56, 3) := dk_181 0 56 (dk_at dksX1_init_3 19 rfl rfl)
theorem dX1_init_91 : decode cX1_init 91 = .ok (.aload_n 0, 1) := dk_42 (dk_at dksX1_init_3 22 rfl rfl)
theorem dX1_init_92 : decode cX1_init 92 = .ok (.bipush 8, 2) := dk_16 8 (dk_at dksX1_init_4 0 rfl rfl)
theorem dX1_init_94 : decode cX1_init 94 = .ok (.newarray .int, 2) := dk_188_10 (dk_at dksX1_init_4 2 rfl rfl)
theorem dX1_init_96 : decode cX1_init 96 = .ok (.putfield 60, 3) := dk_181 0 60 (dk_at dksX1_init_4 4 rfl rfl)
theorem dX1_init_99 : decode cX1_init 99 = .ok (.aload_n 0, 1) := dk_42 (dk_at dksX1_init_4 7 rfl rfl)
theorem dX1_init_100 : decode cX1_init 100 = .ok (.bipush 8, 2) := dk_16 8 (dk_at dksX1_init_4 8 rfl rfl)
theorem dX1_init_102 : decode cX1_init 102 = .ok (.newarray .int, 2) := dk_188_10 (dk_at dksX1_init_4 10 rfl rfl)
theorem dX1_init_104 : decode cX1_init 104 = .ok (.putfield 63, 3) := dk_181 0 63 (dk_at dksX1_init_4 12 rfl rfl)
theorem dX1_init_107 : decode cX1_init 107 = .ok (.aload_n 0, 1) := dk_42 (dk_at dksX1_init_4 15 rfl rfl)
theorem dX1_init_108 : decode cX1_init 108 = .ok (.new 66, 3) := dk_187 0 66 (dk_at dksX1_init_4 16 rfl rfl)
theorem dX1_init_111 : decode cX1_init 111 = .ok (.dup, 1) := dk_89 (dk_at dksX1_init_4 19 rfl rfl)
theorem dX1_init_112 : decode cX1_init 112 = .ok (.invokespecial 68, 3) := dk_183 0 68 (dk_at dksX1_init_4 20 rfl rfl)
theorem dX1_init_115 : decode cX1_init 115 = .ok (.putfield 69, 3) := dk_181 0 69 (dk_at dksX1_init_5 0 rfl rfl)
theorem dX1_init_118 : decode cX1_init 118 = .ok (.aload_n 0, 1) := dk_42 (dk_at dksX1_init_5 3 rfl rfl)
theorem dX1_init_119 : decode cX1_init 119 = .ok (.new 66, 3) := dk_187 0 66 (dk_at dksX1_init_5 4 rfl rfl)
theorem dX1_init_122 : decode cX1_init 122 = .ok (.dup, 1) := dk_89 (dk_at dksX1_init_5 7 rfl rfl)
theorem dX1_init_123 : decode cX1_init 123 = .ok (.invokespecial 68, 3) := dk_183 0 68 (dk_at dksX1_init_5 8 rfl rfl)
theorem dX1_init_126 : decode cX1_init 126 = .ok (.putfield 73, 3) := dk_181 0 73 (dk_at dksX1_init_5 11 rfl rfl)
theorem dX1_init_129 : decode cX1_init 129 = .ok (.aload_n 0, 1) := dk_42 (dk_at dksX1_init_5 14 rfl rfl)
theorem dX1_init_130 : decode cX1_init 130 = .ok (.new 76, 3) := dk_187 0 76 (dk_at dksX1_init_5 15 rfl rfl)
theorem dX1_init_133 : decode cX1_init 133 = .ok (.dup, 1) := dk_89 (dk_at dksX1_init_5 18 rfl rfl)
theorem dX1_init_134 : decode cX1_init 134 = .ok (.invokespecial 78, 3) := dk_183 0 78 (dk_at dksX1_init_5 19 rfl rfl)
theorem dX1_init_137 : decode cX1_init 137 = .ok (.putfield 79, 3) := dk_181 0 79 (dk_at dksX1_init_6 0 rfl rfl)
theorem dX1_init_140 : decode cX1_init 140 = .ok (.aload_n 0, 1) := dk_42 (dk_at dksX1_init_6 3 rfl rfl)
theorem dX1_init_141 : decode cX1_init 141 = .ok (.new 76, 3) := dk_187 0 76 (dk_at dksX1_init_6 4 rfl rfl)
theorem dX1_init_144 : decode cX1_init 144 = .ok (.dup, 1) := dk_89 (dk_at dksX1_init_6 7 rfl rfl)
theorem dX1_init_145 : decode cX1_init 145 = .ok (.invokespecial 78, 3) := dk_183 0 78 (dk_at dksX1_init_6 8 rfl rfl)
theorem dX1_init_148 : decode cX1_init 148 = .ok (.putfield 83, 3) := dk_181 0 83 (dk_at dksX1_init_6 11 rfl rfl)
theorem dX1_init_151 : decode cX1_init 151 = .ok (.aload_n 0, 1) := dk_42 (dk_at dksX1_init_6 14 rfl rfl)
theorem dX1_init_152 : decode cX1_init 152 = .ok (.iconst 0, 1) := dk_3 (dk_at dksX1_init_6 15 rfl rfl)
theorem dX1_init_153 : decode cX1_init 153 = .ok (.newarray .int, 2) := dk_188_10 (dk_at dksX1_init_6 16 rfl rfl)
theorem dX1_init_155 : decode cX1_init 155 = .ok (.putfield 86, 3) := dk_181 0 86 (dk_at dksX1_init_6 18 rfl rfl)
theorem dX1_init_158 : decode cX1_init 158 = .ok (.aload_n 0, 1) := dk_42 (dk_at dksX1_init_6 21 rfl rfl)
theorem dX1_init_159 : decode cX1_init 159 = .ok (.bipush 16, 2) := dk_16 16 (dk_at dksX1_init_6 22 rfl rfl)
theorem dX1_init_161 : decode cX1_init 161 = .ok (.newarray .int, 2) := dk_188_10 (dk_at dksX1_init_7 0 rfl rfl)
theorem dX1_init_163 : decode cX1_init 163 = .ok (.putfield 89, 3) := dk_181 0 89 (dk_at dksX1_init_7 2 rfl rfl)
theorem dX1_init_166 : decode cX1_init 166 = .ok (.aload_n 0, 1) := dk_42 (dk_at dksX1_init_7 5 rfl rfl)
theorem dX1_init_167 : decode cX1_init 167 = .ok (.bipush 8, 2) := dk_16 8 (dk_at dksX1_init_7 6 rfl rfl)
theorem dX1_init_169 : decode cX1_init 169 = .ok (.newarray .int, 2) := dk_188_10 (dk_at dksX1_init_7 8 rfl rfl)
theorem dX1_init_171 : decode cX1_init 171 = .ok (.putfield 92, 3) := dk_181 0 92 (dk_at dksX1_init_7 10 rfl rfl)
theorem dX1_init_174 : decode cX1_init 174 = .ok (.aload_n 0, 1) := dk_42 (dk_at dksX1_init_7 13 rfl rfl)
theorem dX1_init_175 : decode cX1_init 175 = .ok (.new 53, 3) := dk_187 0 53 (dk_at dksX1_init_7 14 rfl rfl)
theorem dX1_init_178 : decode cX1_init 178 = .ok (.dup, 1) := dk_89 (dk_at dksX1_init_7 17 rfl rfl)
theorem dX1_init_179 : decode cX1_init 179 = .ok (.invokespecial 55, 3) := dk_183 0 55 (dk_at dksX1_init_7 18 rfl rfl)
theorem dX1_init_182 : decode cX1_init 182 = .ok (.putfield 95, 3) := dk_181 0 95 (dk_at dksX1_init_7 21 rfl rfl)
theorem dX1_init_185 : decode cX1_init 185 = .ok (.aload_n 0, 1) := dk_42 (dk_at dksX1_init_8 0 rfl rfl)
theorem dX1_init_186 : decode cX1_init 186 = .ok (.bipush 16, 2) := dk_16 16 (dk_at dksX1_init_8 1 rfl rfl)
theorem dX1_init_188 : decode cX1_init 188 = .ok (.newarray .int, 2) := dk_188_10 (dk_at dksX1_init_8 3 rfl rfl)
theorem dX1_init_190 : decode cX1_init 190 = .ok (.putfield 98, 3) := dk_181 0 98 (dk_at dksX1_init_8 5 rfl rfl)
theorem dX1_init_193 : decode cX1_init 193 = .ok (.aload_n 0, 1) := dk_42 (dk_at dksX1_init_8 8 rfl rfl)
theorem dX1_init_194 : decode cX1_init 194 = .ok (.iconst 4, 1) := dk_7 (dk_at dksX1_init_8 9 rfl rfl)
theorem dX1_init_195 : decode cX1_init 195 = .ok (.newarray .int, 2) := dk_188_10 (dk_at dksX1_init_8 10 rfl rfl)
theorem dX1_init_197 : decode cX1_init 197 = .ok (.putfield 101, 3) := dk_181 0 101 (dk_at dksX1_init_8 12 rfl rfl)
theorem dX1_init_200 : decode cX1_init 200 = .ok (.aload_n 0, 1) := dk_42 (dk_at dksX1_init_8 15 rfl rfl)
theorem dX1_init_201 : decode cX1_init 201 = .ok (.new 76, 3) := dk_187 0 76 (dk_at dksX1_init_8 16 rfl rfl)
theorem dX1_init_204 : decode cX1_init 204 = .ok (.dup, 1) := dk_89 (dk_at dksX1_init_8 19 rfl rfl)
theorem dX1_init_205 : decode cX1_init 205 = .ok (.invokespecial 78, 3) := dk_183 0 78 (dk_at dksX1_init_8 20 rfl rfl)
theorem dX1_init_208 : decode cX1_init 208 = .ok (.putfield 104, 3) := dk_181 0 104 (dk_at dksX1_init_9 0 rfl rfl)
theorem dX1_init_211 : decode cX1_init 211 = .ok (.aload_n 0, 1) := dk_42 (dk_at dksX1_init_9 3 rfl rfl)
theorem dX1_init_212 : decode cX1_init 212 = .ok (.new 13, 3) := dk_187 0 13 (dk_at dksX1_init_9 4 rfl rfl)
theorem dX1_init_215 : decode cX1_init 215 = .ok (.dup, 1) := dk_89 (dk_at dksX1_init_9 7 rfl rfl)
theorem dX1_init_216 : decode cX1_init 216 = .ok (.invokespecial 15, 3) := dk_183 0 15 (dk_at dksX1_init_9 8 rfl rfl)
theorem dX1_init_219 : decode cX1_init 219 = .ok (.putfield 107, 3) := dk_181 0 107 (dk_at dksX1_init_9 11 rfl rfl)
theorem dX1_init_222 : decode cX1_init 222 = .ok (.aload_n 0, 1) := dk_42 (dk_at dksX1_init_9 14 rfl rfl)
theorem dX1_init_223 : decode cX1_init 223 = .ok (.ldc 110, 2) := dk_18 110 (dk_at dksX1_init_9 15 rfl rfl)
theorem dX1_init_225 : decode cX1_init 225 = .ok (.invokevirtual 112, 3) := dk_182 0 112 (dk_at dksX1_init_9 17 rfl rfl)
theorem dX1_init_228 : decode cX1_init 228 = .ok (.newarray .int, 2) := dk_188_10 (dk_at dksX1_init_9 20 rfl rfl)
theorem dX1_init_230 : decode cX1_init 230 = .ok (.putfield 118, 3) := dk_181 0 118 (dk_at dksX1_init_10 0 rfl rfl)
theorem dX1_init_233 : decode cX1_init 233 = .ok (.iconst 0, 1) := dk_3 (dk_at dksX1_init_10 3 rfl rfl)
theorem dX1_init_234 : decode cX1_init 234 = .ok (.istore_n 1, 1) := dk_60 (dk_at dksX1_init_10 4 rfl rfl)
theorem dX1_init_235 : decode cX1_init 235 = .ok (.iload_n 1, 1) := dk_27 (dk_at dksX1_init_10 5 rfl rfl)
theorem dX1_init_236 : decode cX1_init 236 = .ok (.bipush 8, 2) := dk_16 8 (dk_at dksX1_init_10 6 rfl rfl)
theorem dX1_init_238 : decode cX1_init 238 = .ok (.if_icmp .ge 31, 3) := dk_162 0 31 (dk_at dksX1_init_10 8 rfl rfl)
theorem dX1_init_241 : decode cX1_init 241 = .ok (.aload_n 0, 1) := dk_42 (dk_at dksX1_init_10 11 rfl rfl)
theorem dX1_init_242 : decode cX1_init 242 = .ok (.getfield 60, 3) := dk_180 0 60 (dk_at dksX1_init_10 12 rfl rfl)
theorem dX1_init_245 : decode cX1_init 245 = .ok (.iload_n 1, 1) := dk_27 (dk_at dksX1_init_10 15 rfl rfl)
theorem dX1_init_246 : decode cX1_init 246 = .ok (.iload_n 1, 1) := dk_27 (dk_at dksX1_init_10 16 rfl rfl)
theorem dX1_init_247 : decode cX1_init 247 = .ok (.iastore, 1) := dk_79 (dk_at dksX1_init_10 17 rfl rfl)
theorem dX1_init_248 : decode cX1_init 248 = .ok (.aload_n 0, 1) := dk_42 (dk_at dksX1_init_10 18 rfl rfl)
theorem dX1_init_249 : decode cX1_init 249 = .ok (.getfield 63, 3) := dk_180 0 63 (dk_at dksX1_init_10 19 rfl rfl)
theorem dX1_init_252 : decode cX1_init 252 = .ok (.iload_n 1, 1) := dk_27 (dk_at dksX1_init_10 22 rfl rfl)
theorem dX1_init_253 : decode cX1_init 253 = .ok (.iload_n 1, 1) := dk_27 (dk_at dksX1_init_10 23 rfl rfl)
theorem dX1_init_254 : decode cX1_init 254 = .ok (.iastore, 1) := dk_79 (dk_at dksX1_init_11 0 rfl rfl)
theorem dX1_init_255 : decode cX1_init 255 = .ok (.aload_n 0, 1) := dk_42 (dk_at dksX1_init_11 1 rfl rfl)
theorem dX1_init_256 : decode cX1_init 256 = .ok (.getfield 56, 3) := dk_180 0 56 (dk_at dksX1_init_11 2 rfl rfl)
theorem dX1_init_259 : decode cX1_init 259 = .ok (.iload_n 1, 1) := dk_27 (dk_at dksX1_init_11 5 rfl rfl)
theorem dX1_init_260 : decode cX1_init 260 = .ok (.invokevirtual 121, 3) := dk_182 0 121 (dk_at dksX1_init_11 6 rfl rfl)
theorem dX1_init_263 : decode cX1_init 263 = .ok (.iinc 1 1, 3) := dk_132 1 1 (dk_at dksX1_init_11 9 rfl rfl)
theorem dX1_init_266 : decode cX1_init 266 = .ok (.goto (-31), 3) := dk_167 255 225 (dk_at dksX1_init_11 12 rfl rfl)
theorem dX1_init_269 : decode cX1_init 269 = .ok (.iconst 0, 1) := dk_3 (dk_at dksX1_init_11 15 rfl rfl)
theorem dX1_init_270 : decode cX1_init 270 = .ok (.istore_n 1, 1) := dk_60 (dk_at dksX1_init_11 16 rfl rfl)
theorem dX1_init_271 : decode cX1_init 271 = .ok (.iload_n 1, 1) := dk_27 (dk_at dksX1_init_11 17 rfl rfl)
theorem dX1_init_272 : decode cX1_init 272 = .ok (.bipush 16, 2) := dk_16 16 (dk_at dksX1_init_11 18 rfl rfl)
theorem dX1_init_274 : decode cX1_init 274 = .ok (.if_icmp .ge 16, 3) := dk_162 0 16 (dk_at dksX1_init_11 20 rfl rfl)
theorem dX1_init_277 : decode cX1_init 277 = .ok (.aload_n 0, 1) := dk_42 (dk_at dksX1_init_11 23 rfl rfl)
theorem dX1_init_278 : decode cX1_init 278 = .ok (.getfield 89, 3) := dk_180 0 89 (dk_at dksX1_init_12 0 rfl rfl)
theorem dX1_init_281 : decode cX1_init 281 = .ok (.iload_n 1, 1) := dk_27 (dk_at dksX1_init_12 3 rfl rfl)
theorem dX1_init_282 : decode cX1_init 282 = .ok (.iconst 1, 1) := dk_4 (dk_at dksX1_init_12 4 rfl rfl)
theorem dX1_init_283 : decode cX1_init 283 = .ok (.iastore, 1) := dk_79 (dk_at dksX1_init_12 5 rfl rfl)
theorem dX1_init_284 : decode cX1_init 284 = .ok (.iinc 1 1, 3) := dk_132 1 1 (dk_at dksX1_init_12 6 rfl rfl)
theorem dX1_init_287 : decode cX1_init 287 = .ok (.goto (-16), 3) := dk_167 255 240 (dk_at dksX1_init_12 9 rfl rfl)
theorem dX1_init_290 : decode cX1_init 290 = .ok (.iconst 0, 1) := dk_3 (dk_at dksX1_init_12 12 rfl rfl)
theorem dX1_init_291 : decode cX1_init 291 = .ok (.istore_n 1, 1) := dk_60 (dk_at dksX1_init_12 13 rfl rfl)
theorem dX1_init_292 : decode cX1_init 292 = .ok (.iload_n 1, 1) := dk_27 (dk_at dksX1_init_12 14 rfl rfl)
theorem dX1_init_293 : decode cX1_init 293 = .ok (.bipush 8, 2) := dk_16 8 (dk_at dksX1_init_12 15 rfl rfl)
theorem dX1_init_295 : decode cX1_init 295 = .ok (.if_icmp .ge 16, 3) := dk_162 0 16 (dk_at dksX1_init_12 17 rfl rfl)
theorem dX1_init_298 : decode cX1_init 298 = .ok (.aload_n 0, 1) := dk_42 (dk_at dksX1_init_12 20 rfl rfl)
theorem dX1_init_299 : decode cX1_init 299 = .ok (.getfield 92, 3) := dk_180 0 92 (dk_at dksX1_init_12 21 rfl rfl)
theorem dX1_init_302 : decode cX1_init 302 = .ok (.iload_n 1, 1) := dk_27 (dk_at dksX1_init_13 0 rfl rfl)
theorem dX1_init_303 : decode cX1_init 303 = .ok (.iconst (-1), 1) := dk_2 (dk_at dksX1_init_13 1 rfl rfl)
theorem dX1_init_304 : decode cX1_init 304 = .ok (.iastore, 1) := dk_79 (dk_at dksX1_init_13 2 rfl rfl)
theorem dX1_init_305 : decode cX1_init 305 = .ok (.iinc 1 1, 3) := dk_132 1 1 (dk_at dksX1_init_13 3 rfl rfl)
theorem dX1_init_308 : decode cX1_init 308 = .ok (.goto (-16), 3) := dk_167 255 240 (dk_at dksX1_init_13 6 rfl rfl)
theorem dX1_init_311 : decode cX1_init 311 = .ok (.iconst 0, 1) := dk_3 (dk_at dksX1_init_13 9 rfl rfl)
theorem dX1_init_312 : decode cX1_init 312 = .ok (.istore_n 1, 1) := dk_60 (dk_at dksX1_init_13 10 rfl rfl)
theorem dX1_init_313 : decode cX1_init 313 = .ok (.iload_n 1, 1) := dk_27 (dk_at dksX1_init_13 11 rfl rfl)
theorem dX1_init_314 : decode cX1_init 314 = .ok (.bipush 16, 2) := dk_16 16 (dk_at dksX1_init_13 12 rfl rfl)
theorem dX1_init_316 : decode cX1_init 316 = .ok (.if_icmp .ge 17, 3) := dk_162 0 17 (dk_at dksX1_init_13 14 rfl rfl)
theorem dX1_init_319 : decode cX1_init 319 = .ok (.aload_n 0, 1) := dk_42 (dk_at dksX1_init_13 17 rfl rfl)
theorem dX1_init_320 : decode cX1_init 320 = .ok (.getfield 98, 3) := dk_180 0 98 (dk_at dksX1_init_13 18 rfl rfl)
theorem dX1_init_323 : decode cX1_init 323 = .ok (.iload_n 1, 1) := dk_27 (dk_at dksX1_init_13 21 rfl rfl)
theorem dX1_init_324 : decode cX1_init 324 = .ok (.bipush 6, 2) := dk_16 6 (dk_at dksX1_init_13 22 rfl rfl)
theorem dX1_init_326 : decode cX1_init 326 = .ok (.iastore, 1) := dk_79 (dk_at dksX1_init_14 0 rfl rfl)
theorem dX1_init_327 : decode cX1_init 327 = .ok (.iinc 1 1, 3) := dk_132 1 1 (dk_at dksX1_init_14 1 rfl rfl)
theorem dX1_init_330 : decode cX1_init 330 = .ok (.goto (-17), 3) := dk_167 255 239 (dk_at dksX1_init_14 4 rfl rfl)
theorem dX1_init_333 : decode cX1_init 333 = .ok (.iconst 0, 1) := dk_3 (dk_at dksX1_init_14 7 rfl rfl)
theorem dX1_init_334 : decode cX1_init 334 = .ok (.istore_n 1, 1) := dk_60 (dk_at dksX1_init_14 8 rfl rfl)
theorem dX1_init_335 : decode cX1_init 335 = .ok (.iload_n 1, 1) := dk_27 (dk_at dksX1_init_14 9 rfl rfl)
theorem dX1_init_336 : decode cX1_init 336 = .ok (.iconst 4, 1) := dk_7 (dk_at dksX1_init_14 10 rfl rfl)
theorem dX1_init_337 : decode cX1_init 337 = .ok (.if_icmp .ge 16, 3) := dk_162 0 16 (dk_at dksX1_init_14 11 rfl rfl)
theorem dX1_init_340 : decode cX1_init 340 = .ok (.aload_n 0, 1) := dk_42 (dk_at dksX1_init_14 14 rfl rfl)
theorem dX1_init_341 : decode cX1_init 341 = .ok (.getfield 101, 3) := dk_180 0 101 (dk_at dksX1_init_14 15 rfl rfl)
theorem dX1_init_344 : decode cX1_init 344 = .ok (.iload_n 1, 1) := dk_27 (dk_at dksX1_init_14 18 rfl rfl)
theorem dX1_init_345 : decode cX1_init 345 = .ok (.iconst (-1), 1) := dk_2 (dk_at dksX1_init_14 19 rfl rfl)
theorem dX1_init_346 : decode cX1_init 346 = .ok (.iastore, 1) := dk_79 (dk_at dksX1_init_14 20 rfl rfl)
theorem dX1_init_347 : decode cX1_init 347 = .ok (.iinc 1 1, 3) := dk_132 1 1 (dk_at dksX1_init_14 21 rfl rfl)
theorem dX1_init_350 : decode cX1_init 350 = .ok (.goto (-15), 3) := dk_167 255 241 (dk_at dksX1_init_15 0 rfl rfl)
theorem dX1_init_353 : decode cX1_init 353 = .ok (.aload_n 0, 1) := dk_42 (dk_at dksX1_init_15 3 rfl rfl)
theorem dX1_init_354 : decode cX1_init 354 = .ok (.invokevirtual 125, 3) := dk_182 0 125 (dk_at dksX1_init_15 4 rfl rfl)
theorem dX1_init_357 : decode cX1_init 357 = .ok (.return_, 1) := dk_177 (dk_at dksX1_init_15 7 rfl rfl)
def dkwX1_freeFrom_1 : List UInt8 := [184, 0, 131, 182, 0, 137, 132, 1, 1, 167, 255, 234, 177]
abbrev dktX1_freeFrom_1 : List UInt8 := dkwX1_freeFrom_1 ++ []
def dkwX1_freeFrom_0 : List UInt8 := [42, 180, 0, 69, 182, 0, 128, 16, 8, 60, 27, 42, 180, 0, 47, 162, 0, 20, 42, 180, 0, 69, 27]
abbrev dktX1_freeFrom_0 : List UInt8 := dkwX1_freeFrom_0 ++ dktX1_freeFrom_1
theorem dksX1_freeFrom_0 : cX1_freeFrom.data.toList.drop 0 = dktX1_freeFrom_0 := by decide +kernel
theorem dksX1_freeFrom_1 : cX1_freeFrom.data.toList.drop 23 = dktX1_freeFrom_1 := dk_seg dksX1_freeFrom_0 23 rfl rfl
theorem dX1_freeFrom_0 : decode cX1_freeFrom 0 = .ok (.aload_n 0, 1) := dk_42 (dk_at dksX1_freeFrom_0 0 rfl rfl)
theorem dX1_freeFrom_1 : decode cX1_freeFrom 1 = .ok (.getfield 69, 3) := dk_180 0 69 (dk_at dksX1_freeFrom_0 1 rfl rfl)
theorem dX1_freeFrom_4 : decode cX1_freeFrom 4 = .ok (.invokevirtual 128, 3) := dk_182 0 128 (dk_at dksX1_freeFrom_0 4 rfl rfl)
theorem dX1_freeFrom_7 : decode cX1_freeFrom 7 = .ok (.bipush 8, 2) := dk_16 8 (dk_at dksX1_freeFrom_0 7 rfl rfl)
theorem dX1_freeFrom_9 : decode cX1_freeFrom 9 = .ok (.istore_n 1, 1) := dk_60 (dk_at dksX1_freeFrom_0 9 rfl rfl)
theorem dX1_freeFrom_10 : decode cX1_freeFrom 10 = .ok (.iload_n 1, 1) := dk_27 (dk_at dksX1_freeFrom_0 10 rfl rfl)
theorem dX1_freeFrom_11 : decode cX1_freeFrom 11 = .ok (.aload_n 0, 1) := dk_42 (dk_at dksX1_freeFrom_0 11 rfl rfl)
theorem dX1_freeFrom_12 : decode cX1_freeFrom 12 = .ok (.getfield 47, 3) := dk_180 0 47 (dk_at dksX1_freeFrom_0 12 rfl rfl)
theorem dX1_freeFrom_15 : decode cX1_freeFrom 15 = .ok (.if_icmp .ge 20, 3) := dk_162 0 20 (dk_at dksX1_freeFrom_0 15 rfl rfl)
theorem dX1_freeFrom_18 : decode cX1_freeFrom 18 = .ok (.aload_n 0, 1) := dk_42 (dk_at dksX1_freeFrom_0 18 rfl rfl)
theorem dX1_freeFrom_19 : decode cX1_freeFrom 19 = .ok (.getfield 69, 3) := dk_180 0 69 (dk_at dksX1_freeFrom_0 19 rfl rfl)
theorem dX1_freeFrom_22 : decode cX1_freeFrom 22 = .ok (.iload_n 1, 1) := dk_27 (dk_at dksX1_freeFrom_0 22 rfl rfl)
theorem dX1_freeFrom_23 : decode cX1_freeFrom 23 = .ok (.invokestatic 131, 3) := dk_184 0 131 (dk_at dksX1_freeFrom_1 0 rfl rfl)
theorem dX1_freeFrom_26 : decode cX1_freeFrom 26 = .ok (.invokevirtual 137, 3) := dk_182 0 137 (dk_at dksX1_freeFrom_1 3 rfl rfl)
theorem dX1_freeFrom_29 : decode cX1_freeFrom 29 = .ok (.iinc 1 1, 3) := dk_132 1 1 (dk_at dksX1_freeFrom_1 6 rfl rfl)
theorem dX1_freeFrom_32 : decode cX1_freeFrom 32 = .ok (.goto (-22), 3) := dk_167 255 234 (dk_at dksX1_freeFrom_1 9 rfl rfl)
theorem dX1_freeFrom_35 : decode cX1_freeFrom 35 = .ok (.return_, 1) := dk_177 (dk_at dksX1_freeFrom_1 12 rfl rfl)
def dkwX1_interrupt_0 : List UInt8 := [42, 180, 1, 113, 60, 42, 4, 181, 1, 113, 27, 172]
abbrev dktX1_interrupt_0 : List UInt8 := dkwX1_interrupt_0 ++ []
theorem dksX1_interrupt_0 : cX1_interrupt.data.toList.drop 0 = dktX1_interrupt_0 := by decide +kernel
theorem dX1_interrupt_0 : decode cX1_interrupt 0 = .ok (.aload_n 0, 1) := dk_42 (dk_at dksX1_interrupt_0 0 rfl rfl)
theorem dX1_interrupt_1 : decode cX1_interrupt 1 = .ok (.getfield 369, 3) := dk_180 1 113 (dk_at dksX1_interrupt_0 1 rfl rfl)
theorem dX1_interrupt_4 : decode cX1_interrupt 4 = .ok (.istore_n 1, 1) := dk_60 (dk_at dksX1_interrupt_0 4 rfl rfl)
theorem dX1_interrupt_5 : decode cX1_interrupt 5 = .ok (.aload_n 0, 1) := dk_42 (dk_at dksX1_interrupt_0 5 rfl rfl)
theorem dX1_interrupt_6 : decode cX1_interrupt 6 = .ok (.iconst 1, 1) := dk_4 (dk_at dksX1_interrupt_0 6 rfl rfl)
theorem dX1_interrupt_7 : decode cX1_interrupt 7 = .ok (.putfield 369, 3) := dk_181 1 113 (dk_at dksX1_interrupt_0 7 rfl rfl)
theorem dX1_interrupt_10 : decode cX1_interrupt 10 = .ok (.iload_n 1, 1) := dk_27 (dk_at dksX1_interrupt_0 10 rfl rfl)
theorem dX1_interrupt_11 : decode cX1_interrupt 11 = .ok (.ireturn, 1) := dk_172 (dk_at dksX1_interrupt_0 11 rfl rfl)
theorem dX1_cycle_0 : decode cX1_cycle 0 = .ok (.aload_n 0, 1) := by decide +kernel
theorem dX1_cycle_1 : decode cX1_cycle 1 = .ok (.getfield 153, 3) := by decide +kernel
theorem dX1_cycle_4 : decode cX1_cycle 4 = .ok (.ireturn, 1) := by decide +kernel
theorem dX1_hasStopped_0 : decode cX1_hasStopped 0 = .ok (.aload_n 0, 1) := by decide +kernel
theorem dX1_hasStopped_1 : decode cX1_hasStopped 1 = .ok (.getfield 416, 3) := by decide +kernel
theorem dX1_hasStopped_4 : decode cX1_hasStopped 4 = .ok (.ireturn, 1) := by decide +kernel
def dkwX1_ends_0 : List UInt8 := [42, 180, 0, 107, 185, 2, 31, 1, 0, 172]
abbrev dktX1_ends_0 : List UInt8 := dkwX1_ends_0 ++ []
theorem dksX1_ends_0 : cX1_ends.data.toList.drop 0 = dktX1_ends_0 := by decide +kernel
theorem dX1_ends_0 : decode cX1_ends 0 = .ok (.aload_n 0, 1) := dk_42 (dk_at dksX1_ends_0 0 rfl rfl)
theorem dX1_ends_1 : decode cX1_ends 1 = .ok (.getfield 107, 3) := dk_180 0 107 (dk_at dksX1_ends_0 1 rfl rfl)
theorem dX1_ends_4 : decode cX1_ends 4 = .ok (.invokeinterface 543 1, 5) := by decide +kernel
theorem dX1_ends_9 : decode cX1_ends 9 = .ok (.ireturn, 1) := dk_172 (dk_at dksX1_ends_0 9 rfl rfl)
def dkwX1_free_0 : List UInt8 := [42, 180, 0, 69, 182, 2, 30, 172]
abbrev dktX1_free_0 : List UInt8 := dkwX1_free_0 ++ []
theorem dksX1_free_0 : cX1_free.data.toList.drop 0 = dktX1_free_0 := by decide +kernel
theorem dX1_free_0 : decode cX1_free 0 = .ok (.aload_n 0, 1) := dk_42 (dk_at dksX1_free_0 0 rfl rfl)
theorem dX1_free_1 : decode cX1_free 1 = .ok (.getfield 69, 3) := dk_180 0 69 (dk_at dksX1_free_0 1 rfl rfl)
theorem dX1_free_4 : decode cX1_free 4 = .ok (.invokevirtual 542, 3) := dk_182 2 30 (dk_at dksX1_free_0 4 rfl rfl)
theorem dX1_free_7 : decode cX1_free 7 = .ok (.ireturn, 1) := dk_172 (dk_at dksX1_free_0 7 rfl rfl)
def dkwX1_inBuffer_0 : List UInt8 := [42, 180, 0, 79, 182, 1, 240, 172]
abbrev dktX1_inBuffer_0 : List UInt8 := dkwX1_inBuffer_0 ++ []
theorem dksX1_inBuffer_0 : cX1_inBuffer.data.toList.drop 0 = dktX1_inBuffer_0 := by decide +kernel
theorem dX1_inBuffer_0 : decode cX1_inBuffer 0 = .ok (.aload_n 0, 1) := dk_42 (dk_at dksX1_inBuffer_0 0 rfl rfl)
theorem dX1_inBuffer_1 : decode cX1_inBuffer 1 = .ok (.getfield 79, 3) := dk_180 0 79 (dk_at dksX1_inBuffer_0 1 rfl rfl)
theorem dX1_inBuffer_4 : decode cX1_inBuffer 4 = .ok (.invokevirtual 496, 3) := dk_182 1 240 (dk_at dksX1_inBuffer_0 4 rfl rfl)
theorem dX1_inBuffer_7 : decode cX1_inBuffer 7 = .ok (.ireturn, 1) := dk_172 (dk_at dksX1_inBuffer_0 7 rfl rfl)
def dkwX1_inQueue_0 : List UInt8 := [42, 180, 0, 83, 182, 1, 240, 172]
abbrev dktX1_inQueue_0 : List UInt8 := dkwX1_inQueue_0 ++ []
theorem dksX1_inQueue_0 : cX1_inQueue.data.toList.drop 0 = dktX1_inQueue_0 := by decide +kernel
theorem dX1_inQueue_0 : decode cX1_inQueue 0 = .ok (.aload_n 0, 1) := dk_42 (dk_at dksX1_inQueue_0 0 rfl rfl)
theorem dX1_inQueue_1 : decode cX1_inQueue 1 = .ok (.getfield 83, 3) := dk_180 0 83 (dk_at dksX1_inQueue_0 1 rfl rfl)
theorem dX1_inQueue_4 : decode cX1_inQueue 4 = .ok (.invokevirtual 496, 3) := dk_182 1 240 (dk_at dksX1_inQueue_0 4 rfl rfl)
theorem dX1_inQueue_7 : decode cX1_inQueue 7 = .ok (.ireturn, 1) := dk_172 (dk_at dksX1_inQueue_0 7 rfl rfl)
def dkwX1_fetched_0 : List UInt8 := [42, 180, 0, 73, 182, 2, 30, 172]
abbrev dktX1_fetched_0 : List UInt8 := dkwX1_fetched_0 ++ []
theorem dksX1_fetched_0 : cX1_fetched.data.toList.drop 0 = dktX1_fetched_0 := by decide +kernel
theorem dX1_fetched_0 : decode cX1_fetched 0 = .ok (.aload_n 0, 1) := dk_42 (dk_at dksX1_fetched_0 0 rfl rfl)
theorem dX1_fetched_1 : decode cX1_fetched 1 = .ok (.getfield 73, 3) := dk_180 0 73 (dk_at dksX1_fetched_0 1 rfl rfl)
theorem dX1_fetched_4 : decode cX1_fetched 4 = .ok (.invokevirtual 542, 3) := dk_182 2 30 (dk_at dksX1_fetched_0 4 rfl rfl)
theorem dX1_fetched_7 : decode cX1_fetched 7 = .ok (.ireturn, 1) := dk_172 (dk_at dksX1_fetched_0 7 rfl rfl)
def dkwX1_returns_0 : List UInt8 := [42, 180, 0, 86, 190, 172]
abbrev dktX1_returns_0 : List UInt8 := dkwX1_returns_0 ++ []
theorem dksX1_returns_0 : cX1_returns.data.toList.drop 0 = dktX1_returns_0 := by decide +kernel
theorem dX1_returns_0 : decode cX1_returns 0 = .ok (.aload_n 0, 1) := dk_42 (dk_at dksX1_returns_0 0 rfl rfl)
theorem dX1_returns_1 : decode cX1_returns 1 = .ok (.getfield 86, 3) := dk_180 0 86 (dk_at dksX1_returns_0 1 rfl rfl)
theorem dX1_returns_4 : decode cX1_returns 4 = .ok (.arraylength, 1) := dk_190 (dk_at dksX1_returns_0 4 rfl rfl)
theorem dX1_returns_5 : decode cX1_returns 5 = .ok (.ireturn, 1) := dk_172 (dk_at dksX1_returns_0 5 rfl rfl)
def dkwX1_asked_0 : List UInt8 := [42, 180, 0, 104, 182, 1, 240, 172]
abbrev dktX1_asked_0 : List UInt8 := dkwX1_asked_0 ++ []
theorem dksX1_asked_0 : cX1_asked.data.toList.drop 0 = dktX1_asked_0 := by decide +kernel
theorem dX1_asked_0 : decode cX1_asked 0 = .ok (.aload_n 0, 1) := dk_42 (dk_at dksX1_asked_0 0 rfl rfl)
theorem dX1_asked_1 : decode cX1_asked 1 = .ok (.getfield 104, 3) := dk_180 0 104 (dk_at dksX1_asked_0 1 rfl rfl)
theorem dX1_asked_4 : decode cX1_asked 4 = .ok (.invokevirtual 496, 3) := dk_182 1 240 (dk_at dksX1_asked_0 4 rfl rfl)
theorem dX1_asked_7 : decode cX1_asked 7 = .ok (.ireturn, 1) := dk_172 (dk_at dksX1_asked_0 7 rfl rfl)
theorem dX1_wrong_0 : decode cX1_wrong 0 = .ok (.aload_n 0, 1) := by decide +kernel
theorem dX1_wrong_1 : decode cX1_wrong 1 = .ok (.getfield 322, 3) := by decide +kernel
theorem dX1_wrong_4 : decode cX1_wrong 4 = .ok (.ireturn, 1) := by decide +kernel
theorem dX1_early_0 : decode cX1_early 0 = .ok (.aload_n 0, 1) := by decide +kernel
theorem dX1_early_1 : decode cX1_early 1 = .ok (.getfield 281, 3) := by decide +kernel
theorem dX1_early_4 : decode cX1_early 4 = .ok (.ireturn, 1) := by decide +kernel
theorem dX1_thrownAway_0 : decode cX1_thrownAway 0 = .ok (.aload_n 0, 1) := by decide +kernel
theorem dX1_thrownAway_1 : decode cX1_thrownAway 1 = .ok (.getfield 337, 3) := by decide +kernel
theorem dX1_thrownAway_4 : decode cX1_thrownAway 4 = .ok (.ireturn, 1) := by decide +kernel
theorem dX1_taken_0 : decode cX1_taken 0 = .ok (.aload_n 0, 1) := by decide +kernel
theorem dX1_taken_1 : decode cX1_taken 1 = .ok (.getfield 486, 3) := by decide +kernel
theorem dX1_taken_4 : decode cX1_taken 4 = .ok (.ireturn, 1) := by decide +kernel
theorem dX1_hits_0 : decode cX1_hits 0 = .ok (.aload_n 0, 1) := by decide +kernel
theorem dX1_hits_1 : decode cX1_hits 1 = .ok (.getfield 489, 3) := by decide +kernel
theorem dX1_hits_4 : decode cX1_hits 4 = .ok (.lreturn, 1) := by decide +kernel
def dkwX1_isSame_7 : List UInt8 := [43, 180, 2, 154, 42, 180, 0, 33, 182, 2, 155, 153, 0, 7, 4, 167, 0, 4, 3, 172]
abbrev dktX1_isSame_7 : List UInt8 := dkwX1_isSame_7 ++ []
def dkwX1_isSame_6 : List UInt8 := [180, 0, 27, 29, 46, 160, 0, 7, 4, 167, 0, 4, 3, 61, 132, 3, 1, 167, 255, 222, 28, 153, 0, 21]
abbrev dktX1_isSame_6 : List UInt8 := dkwX1_isSame_6 ++ dktX1_isSame_7
def dkwX1_isSame_5 : List UInt8 := [167, 255, 217, 3, 62, 29, 16, 64, 162, 0, 34, 28, 153, 0, 22, 43, 180, 2, 122, 29, 46, 42]
abbrev dktX1_isSame_5 : List UInt8 := dkwX1_isSame_5 ++ dktX1_isSame_6
def dkwX1_isSame_4 : List UInt8 := [180, 0, 50, 42, 180, 0, 63, 29, 46, 46, 160, 0, 7, 4, 167, 0, 4, 3, 61, 132, 3, 1]
abbrev dktX1_isSame_4 : List UInt8 := dkwX1_isSame_4 ++ dktX1_isSame_5
def dkwX1_isSame_3 : List UInt8 := [3, 61, 167, 255, 200, 3, 62, 29, 16, 8, 162, 0, 39, 28, 153, 0, 27, 43, 180, 2, 119, 29, 46, 42]
abbrev dktX1_isSame_3 : List UInt8 := dkwX1_isSame_3 ++ dktX1_isSame_4
def dkwX1_isSame_2 : List UInt8 := [180, 2, 91, 160, 0, 21, 43, 25, 4, 184, 2, 110, 25, 4, 180, 2, 88, 160, 0, 7, 4, 167, 0, 4]
abbrev dktX1_isSame_2 : List UInt8 := dkwX1_isSame_2 ++ dktX1_isSame_3
def dkwX1_isSame_1 : List UInt8 := [153, 0, 53, 45, 185, 0, 170, 1, 0, 192, 1, 144, 58, 4, 28, 153, 0, 33, 43, 180, 2, 118, 25, 4]
abbrev dktX1_isSame_1 : List UInt8 := dkwX1_isSame_1 ++ dktX1_isSame_2
def dkwX1_isSame_0 : List UInt8 := [42, 182, 2, 106, 76, 4, 61, 42, 180, 0, 107, 185, 0, 208, 1, 0, 78, 45, 185, 0, 164, 1, 0]
abbrev dktX1_isSame_0 : List UInt8 := dkwX1_isSame_0 ++ dktX1_isSame_1
theorem dksX1_isSame_0 : cX1_isSame.data.toList.drop 0 = dktX1_isSame_0 := by decide +kernel
theorem dksX1_isSame_1 : cX1_isSame.data.toList.drop 23 = dktX1_isSame_1 := dk_seg dksX1_isSame_0 23 rfl rfl
theorem dksX1_isSame_2 : cX1_isSame.data.toList.drop 47 = dktX1_isSame_2 := dk_seg dksX1_isSame_1 24 rfl rfl
theorem dksX1_isSame_3 : cX1_isSame.data.toList.drop 71 = dktX1_isSame_3 := dk_seg dksX1_isSame_2 24 rfl rfl
theorem dksX1_isSame_4 : cX1_isSame.data.toList.drop 95 = dktX1_isSame_4 := dk_seg dksX1_isSame_3 24 rfl rfl
theorem dksX1_isSame_5 : cX1_isSame.data.toList.drop 117 = dktX1_isSame_5 := dk_seg dksX1_isSame_4 22 rfl rfl
theorem dksX1_isSame_6 : cX1_isSame.data.toList.drop 139 = dktX1_isSame_6 := dk_seg dksX1_isSame_5 22 rfl rfl
theorem dksX1_isSame_7 : cX1_isSame.data.toList.drop 163 = dktX1_isSame_7 := dk_seg dksX1_isSame_6 24 rfl rfl
theorem dX1_isSame_0 : decode cX1_isSame 0 = .ok (.aload_n 0, 1) := dk_42 (dk_at dksX1_isSame_0 0 rfl rfl)
theorem dX1_isSame_1 : decode cX1_isSame 1 = .ok (.invokevirtual 618, 3) := dk_182 2 106 (dk_at dksX1_isSame_0 1 rfl rfl)
theorem dX1_isSame_4 : decode cX1_isSame 4 = .ok (.astore_n 1, 1) := dk_76 (dk_at dksX1_isSame_0 4 rfl rfl)
theorem dX1_isSame_5 : decode cX1_isSame 5 = .ok (.iconst 1, 1) := dk_4 (dk_at dksX1_isSame_0 5 rfl rfl)
theorem dX1_isSame_6 : decode cX1_isSame 6 = .ok (.istore_n 2, 1) := dk_61 (dk_at dksX1_isSame_0 6 rfl rfl)
theorem dX1_isSame_7 : decode cX1_isSame 7 = .ok (.aload_n 0, 1) := dk_42 (dk_at dksX1_isSame_0 7 rfl rfl)
theorem dX1_isSame_8 : decode cX1_isSame 8 = .ok (.getfield 107, 3) := dk_180 0 107 (dk_at dksX1_isSame_0 8 rfl rfl)
theorem dX1_isSame_11 : decode cX1_isSame 11 = .ok (.invokeinterface 208 1, 5) := by decide +kernel
theorem dX1_isSame_16 : decode cX1_isSame 16 = .ok (.astore_n 3, 1) := dk_78 (dk_at dksX1_isSame_0 16 rfl rfl)
theorem dX1_isSame_17 : decode cX1_isSame 17 = .ok (.aload_n 3, 1) := dk_45 (dk_at dksX1_isSame_0 17 rfl rfl)
theorem dX1_isSame_18 : decode cX1_isSame 18 = .ok (.invokeinterface 164 1, 5) := by decide +kernel
theorem dX1_isSame_23 : decode cX1_isSame 23 = .ok (.ifCond .eq 53, 3) := dk_153 0 53 (dk_at dksX1_isSame_1 0 rfl rfl)
theorem dX1_isSame_26 : decode cX1_isSame 26 = .ok (.aload_n 3, 1) := dk_45 (dk_at dksX1_isSame_1 3 rfl rfl)
theorem dX1_isSame_27 : decode cX1_isSame 27 = .ok (.invokeinterface 170 1, 5) := by decide +kernel
theorem dX1_isSame_32 : decode cX1_isSame 32 = .ok (.checkcast 400, 3) := dk_192 1 144 (dk_at dksX1_isSame_1 9 rfl rfl)
theorem dX1_isSame_35 : decode cX1_isSame 35 = .ok (.astore 4, 2) := dk_58 4 (dk_at dksX1_isSame_1 12 rfl rfl)
theorem dX1_isSame_37 : decode cX1_isSame 37 = .ok (.iload_n 2, 1) := dk_28 (dk_at dksX1_isSame_1 14 rfl rfl)
theorem dX1_isSame_38 : decode cX1_isSame 38 = .ok (.ifCond .eq 33, 3) := dk_153 0 33 (dk_at dksX1_isSame_1 15 rfl rfl)
theorem dX1_isSame_41 : decode cX1_isSame 41 = .ok (.aload_n 1, 1) := dk_43 (dk_at dksX1_isSame_1 18 rfl rfl)
theorem dX1_isSame_42 : decode cX1_isSame 42 = .ok (.getfield 630, 3) := dk_180 2 118 (dk_at dksX1_isSame_1 19 rfl rfl)
theorem dX1_isSame_45 : decode cX1_isSame 45 = .ok (.aload 4, 2) := dk_25 4 (dk_at dksX1_isSame_1 22 rfl rfl)
theorem dX1_isSame_47 : decode cX1_isSame 47 = .ok (.getfield 603, 3) := dk_180 2 91 (dk_at dksX1_isSame_2 0 rfl rfl)
theorem dX1_isSame_50 : decode cX1_isSame 50 = .ok (.if_icmp .ne 21, 3) := dk_160 0 21 (dk_at dksX1_isSame_2 3 rfl rfl)
theorem dX1_isSame_53 : decode cX1_isSame 53 = .ok (.aload_n 1, 1) := dk_43 (dk_at dksX1_isSame_2 6 rfl rfl)
theorem dX1_isSame_54 : decode cX1_isSame 54 = .ok (.aload 4, 2) := dk_25 4 (dk_at dksX1_isSame_2 7 rfl rfl)
theorem dX1_isSame_56 : decode cX1_isSame 56 = .ok (.invokestatic 622, 3) := dk_184 2 110 (dk_at dksX1_isSame_2 9 rfl rfl)
theorem dX1_isSame_59 : decode cX1_isSame 59 = .ok (.aload 4, 2) := dk_25 4 (dk_at dksX1_isSame_2 12 rfl rfl)
theorem dX1_isSame_61 : decode cX1_isSame 61 = .ok (.getfield 600, 3) := dk_180 2 88 (dk_at dksX1_isSame_2 14 rfl rfl)
theorem dX1_isSame_64 : decode cX1_isSame 64 = .ok (.if_icmp .ne 7, 3) := dk_160 0 7 (dk_at dksX1_isSame_2 17 rfl rfl)
theorem dX1_isSame_67 : decode cX1_isSame 67 = .ok (.iconst 1, 1) := dk_4 (dk_at dksX1_isSame_2 20 rfl rfl)
theorem dX1_isSame_68 : decode cX1_isSame 68 = .ok (.goto 4, 3) := dk_167 0 4 (dk_at dksX1_isSame_2 21 rfl rfl)
theorem dX1_isSame_71 : decode cX1_isSame 71 = .ok (.iconst 0, 1) := dk_3 (dk_at dksX1_isSame_3 0 rfl rfl)
theorem dX1_isSame_72 : decode cX1_isSame 72 = .ok (.istore_n 2, 1) := dk_61 (dk_at dksX1_isSame_3 1 rfl rfl)
theorem dX1_isSame_73 : decode cX1_isSame 73 = .ok (.goto (-56), 3) := dk_167 255 200 (dk_at dksX1_isSame_3 2 rfl rfl)
theorem dX1_isSame_76 : decode cX1_isSame 76 = .ok (.iconst 0, 1) := dk_3 (dk_at dksX1_isSame_3 5 rfl rfl)
theorem dX1_isSame_77 : decode cX1_isSame 77 = .ok (.istore_n 3, 1) := dk_62 (dk_at dksX1_isSame_3 6 rfl rfl)
theorem dX1_isSame_78 : decode cX1_isSame 78 = .ok (.iload_n 3, 1) := dk_29 (dk_at dksX1_isSame_3 7 rfl rfl)
theorem dX1_isSame_79 : decode cX1_isSame 79 = .ok (.bipush 8, 2) := dk_16 8 (dk_at dksX1_isSame_3 8 rfl rfl)
theorem dX1_isSame_81 : decode cX1_isSame 81 = .ok (.if_icmp .ge 39, 3) := dk_162 0 39 (dk_at dksX1_isSame_3 10 rfl rfl)
theorem dX1_isSame_84 : decode cX1_isSame 84 = .ok (.iload_n 2, 1) := dk_28 (dk_at dksX1_isSame_3 13 rfl rfl)
theorem dX1_isSame_85 : decode cX1_isSame 85 = .ok (.ifCond .eq 27, 3) := dk_153 0 27 (dk_at dksX1_isSame_3 14 rfl rfl)
theorem dX1_isSame_88 : decode cX1_isSame 88 = .ok (.aload_n 1, 1) := dk_43 (dk_at dksX1_isSame_3 17 rfl rfl)
theorem dX1_isSame_89 : decode cX1_isSame 89 = .ok (.getfield 631, 3) := dk_180 2 119 (dk_at dksX1_isSame_3 18 rfl rfl)
theorem dX1_isSame_92 : decode cX1_isSame 92 = .ok (.iload_n 3, 1) := dk_29 (dk_at dksX1_isSame_3 21 rfl rfl)
theorem dX1_isSame_93 : decode cX1_isSame 93 = .ok (.iaload, 1) := dk_46 (dk_at dksX1_isSame_3 22 rfl rfl)
theorem dX1_isSame_94 : decode cX1_isSame 94 = .ok (.aload_n 0, 1) := dk_42 (dk_at dksX1_isSame_3 23 rfl rfl)
theorem dX1_isSame_95 : decode cX1_isSame 95 = .ok (.getfield 50, 3) := dk_180 0 50 (dk_at dksX1_isSame_4 0 rfl rfl)
theorem dX1_isSame_98 : decode cX1_isSame 98 = .ok (.aload_n 0, 1) := dk_42 (dk_at dksX1_isSame_4 3 rfl rfl)
theorem dX1_isSame_99 : decode cX1_isSame 99 = .ok (.getfield 63, 3) := dk_180 0 63 (dk_at dksX1_isSame_4 4 rfl rfl)
theorem dX1_isSame_102 : decode cX1_isSame 102 = .ok (.iload_n 3, 1) := dk_29 (dk_at dksX1_isSame_4 7 rfl rfl)
theorem dX1_isSame_103 : decode cX1_isSame 103 = .ok (.iaload, 1) := dk_46 (dk_at dksX1_isSame_4 8 rfl rfl)
theorem dX1_isSame_104 : decode cX1_isSame 104 = .ok (.iaload, 1) := dk_46 (dk_at dksX1_isSame_4 9 rfl rfl)
theorem dX1_isSame_105 : decode cX1_isSame 105 = .ok (.if_icmp .ne 7, 3) := dk_160 0 7 (dk_at dksX1_isSame_4 10 rfl rfl)
theorem dX1_isSame_108 : decode cX1_isSame 108 = .ok (.iconst 1, 1) := dk_4 (dk_at dksX1_isSame_4 13 rfl rfl)
theorem dX1_isSame_109 : decode cX1_isSame 109 = .ok (.goto 4, 3) := dk_167 0 4 (dk_at dksX1_isSame_4 14 rfl rfl)
theorem dX1_isSame_112 : decode cX1_isSame 112 = .ok (.iconst 0, 1) := dk_3 (dk_at dksX1_isSame_4 17 rfl rfl)
theorem dX1_isSame_113 : decode cX1_isSame 113 = .ok (.istore_n 2, 1) := dk_61 (dk_at dksX1_isSame_4 18 rfl rfl)
theorem dX1_isSame_114 : decode cX1_isSame 114 = .ok (.iinc 3 1, 3) := dk_132 3 1 (dk_at dksX1_isSame_4 19 rfl rfl)
theorem dX1_isSame_117 : decode cX1_isSame 117 = .ok (.goto (-39), 3) := dk_167 255 217 (dk_at dksX1_isSame_5 0 rfl rfl)
theorem dX1_isSame_120 : decode cX1_isSame 120 = .ok (.iconst 0, 1) := dk_3 (dk_at dksX1_isSame_5 3 rfl rfl)
theorem dX1_isSame_121 : decode cX1_isSame 121 = .ok (.istore_n 3, 1) := dk_62 (dk_at dksX1_isSame_5 4 rfl rfl)
theorem dX1_isSame_122 : decode cX1_isSame 122 = .ok (.iload_n 3, 1) := dk_29 (dk_at dksX1_isSame_5 5 rfl rfl)
theorem dX1_isSame_123 : decode cX1_isSame 123 = .ok (.bipush 64, 2) := dk_16 64 (dk_at dksX1_isSame_5 6 rfl rfl)
theorem dX1_isSame_125 : decode cX1_isSame 125 = .ok (.if_icmp .ge 34, 3) := dk_162 0 34 (dk_at dksX1_isSame_5 8 rfl rfl)
theorem dX1_isSame_128 : decode cX1_isSame 128 = .ok (.iload_n 2, 1) := dk_28 (dk_at dksX1_isSame_5 11 rfl rfl)
theorem dX1_isSame_129 : decode cX1_isSame 129 = .ok (.ifCond .eq 22, 3) := dk_153 0 22 (dk_at dksX1_isSame_5 12 rfl rfl)
theorem dX1_isSame_132 : decode cX1_isSame 132 = .ok (.aload_n 1, 1) := dk_43 (dk_at dksX1_isSame_5 15 rfl rfl)
theorem dX1_isSame_133 : decode cX1_isSame 133 = .ok (.getfield 634, 3) := dk_180 2 122 (dk_at dksX1_isSame_5 16 rfl rfl)
theorem dX1_isSame_136 : decode cX1_isSame 136 = .ok (.iload_n 3, 1) := dk_29 (dk_at dksX1_isSame_5 19 rfl rfl)
theorem dX1_isSame_137 : decode cX1_isSame 137 = .ok (.iaload, 1) := dk_46 (dk_at dksX1_isSame_5 20 rfl rfl)
theorem dX1_isSame_138 : decode cX1_isSame 138 = .ok (.aload_n 0, 1) := dk_42 (dk_at dksX1_isSame_5 21 rfl rfl)
theorem dX1_isSame_139 : decode cX1_isSame 139 = .ok (.getfield 27, 3) := dk_180 0 27 (dk_at dksX1_isSame_6 0 rfl rfl)
theorem dX1_isSame_142 : decode cX1_isSame 142 = .ok (.iload_n 3, 1) := dk_29 (dk_at dksX1_isSame_6 3 rfl rfl)
theorem dX1_isSame_143 : decode cX1_isSame 143 = .ok (.iaload, 1) := dk_46 (dk_at dksX1_isSame_6 4 rfl rfl)
theorem dX1_isSame_144 : decode cX1_isSame 144 = .ok (.if_icmp .ne 7, 3) := dk_160 0 7 (dk_at dksX1_isSame_6 5 rfl rfl)
theorem dX1_isSame_147 : decode cX1_isSame 147 = .ok (.iconst 1, 1) := dk_4 (dk_at dksX1_isSame_6 8 rfl rfl)
theorem dX1_isSame_148 : decode cX1_isSame 148 = .ok (.goto 4, 3) := dk_167 0 4 (dk_at dksX1_isSame_6 9 rfl rfl)
theorem dX1_isSame_151 : decode cX1_isSame 151 = .ok (.iconst 0, 1) := dk_3 (dk_at dksX1_isSame_6 12 rfl rfl)
theorem dX1_isSame_152 : decode cX1_isSame 152 = .ok (.istore_n 2, 1) := dk_61 (dk_at dksX1_isSame_6 13 rfl rfl)
theorem dX1_isSame_153 : decode cX1_isSame 153 = .ok (.iinc 3 1, 3) := dk_132 3 1 (dk_at dksX1_isSame_6 14 rfl rfl)
theorem dX1_isSame_156 : decode cX1_isSame 156 = .ok (.goto (-34), 3) := dk_167 255 222 (dk_at dksX1_isSame_6 17 rfl rfl)
theorem dX1_isSame_159 : decode cX1_isSame 159 = .ok (.iload_n 2, 1) := dk_28 (dk_at dksX1_isSame_6 20 rfl rfl)
theorem dX1_isSame_160 : decode cX1_isSame 160 = .ok (.ifCond .eq 21, 3) := dk_153 0 21 (dk_at dksX1_isSame_6 21 rfl rfl)
theorem dX1_isSame_163 : decode cX1_isSame 163 = .ok (.aload_n 1, 1) := dk_43 (dk_at dksX1_isSame_7 0 rfl rfl)
theorem dX1_isSame_164 : decode cX1_isSame 164 = .ok (.getfield 666, 3) := dk_180 2 154 (dk_at dksX1_isSame_7 1 rfl rfl)
theorem dX1_isSame_167 : decode cX1_isSame 167 = .ok (.aload_n 0, 1) := dk_42 (dk_at dksX1_isSame_7 4 rfl rfl)
theorem dX1_isSame_168 : decode cX1_isSame 168 = .ok (.getfield 33, 3) := dk_180 0 33 (dk_at dksX1_isSame_7 5 rfl rfl)
theorem dX1_isSame_171 : decode cX1_isSame 171 = .ok (.invokevirtual 667, 3) := dk_182 2 155 (dk_at dksX1_isSame_7 8 rfl rfl)
theorem dX1_isSame_174 : decode cX1_isSame 174 = .ok (.ifCond .eq 7, 3) := dk_153 0 7 (dk_at dksX1_isSame_7 11 rfl rfl)
theorem dX1_isSame_177 : decode cX1_isSame 177 = .ok (.iconst 1, 1) := dk_4 (dk_at dksX1_isSame_7 14 rfl rfl)
theorem dX1_isSame_178 : decode cX1_isSame 178 = .ok (.goto 4, 3) := dk_167 0 4 (dk_at dksX1_isSame_7 15 rfl rfl)
theorem dX1_isSame_181 : decode cX1_isSame 181 = .ok (.iconst 0, 1) := dk_3 (dk_at dksX1_isSame_7 18 rfl rfl)
theorem dX1_isSame_182 : decode cX1_isSame 182 = .ok (.ireturn, 1) := dk_172 (dk_at dksX1_isSame_7 19 rfl rfl)
def dkwX1_plain_1 : List UInt8 := [183, 2, 98, 176]
abbrev dktX1_plain_1 : List UInt8 := dkwX1_plain_1 ++ []
def dkwX1_plain_0 : List UInt8 := [187, 2, 92, 89, 42, 180, 0, 16, 42, 180, 0, 20, 42, 180, 0, 24, 42, 180, 0, 33, 182, 2, 94]
abbrev dktX1_plain_0 : List UInt8 := dkwX1_plain_0 ++ dktX1_plain_1
theorem dksX1_plain_0 : cX1_plain.data.toList.drop 0 = dktX1_plain_0 := by decide +kernel
theorem dksX1_plain_1 : cX1_plain.data.toList.drop 23 = dktX1_plain_1 := dk_seg dksX1_plain_0 23 rfl rfl
theorem dX1_plain_0 : decode cX1_plain 0 = .ok (.new 604, 3) := dk_187 2 92 (dk_at dksX1_plain_0 0 rfl rfl)
theorem dX1_plain_3 : decode cX1_plain 3 = .ok (.dup, 1) := dk_89 (dk_at dksX1_plain_0 3 rfl rfl)
theorem dX1_plain_4 : decode cX1_plain 4 = .ok (.aload_n 0, 1) := dk_42 (dk_at dksX1_plain_0 4 rfl rfl)
theorem dX1_plain_5 : decode cX1_plain 5 = .ok (.getfield 16, 3) := dk_180 0 16 (dk_at dksX1_plain_0 5 rfl rfl)
theorem dX1_plain_8 : decode cX1_plain 8 = .ok (.aload_n 0, 1) := dk_42 (dk_at dksX1_plain_0 8 rfl rfl)
theorem dX1_plain_9 : decode cX1_plain 9 = .ok (.getfield 20, 3) := dk_180 0 20 (dk_at dksX1_plain_0 9 rfl rfl)
theorem dX1_plain_12 : decode cX1_plain 12 = .ok (.aload_n 0, 1) := dk_42 (dk_at dksX1_plain_0 12 rfl rfl)
theorem dX1_plain_13 : decode cX1_plain 13 = .ok (.getfield 24, 3) := dk_180 0 24 (dk_at dksX1_plain_0 13 rfl rfl)
theorem dX1_plain_16 : decode cX1_plain 16 = .ok (.aload_n 0, 1) := dk_42 (dk_at dksX1_plain_0 16 rfl rfl)
theorem dX1_plain_17 : decode cX1_plain 17 = .ok (.getfield 33, 3) := dk_180 0 33 (dk_at dksX1_plain_0 17 rfl rfl)
theorem dX1_plain_20 : decode cX1_plain 20 = .ok (.invokevirtual 606, 3) := dk_182 2 94 (dk_at dksX1_plain_0 20 rfl rfl)
theorem dX1_plain_23 : decode cX1_plain 23 = .ok (.invokespecial 610, 3) := dk_183 2 98 (dk_at dksX1_plain_1 0 rfl rfl)
theorem dX1_plain_26 : decode cX1_plain 26 = .ok (.areturn, 1) := dk_176 (dk_at dksX1_plain_1 3 rfl rfl)
def dkwX1_follow_0 : List UInt8 := [43, 180, 2, 88, 16, 9, 160, 0, 11, 42, 182, 2, 101, 87, 16, 9, 172, 42, 182, 2, 103, 172]
abbrev dktX1_follow_0 : List UInt8 := dkwX1_follow_0 ++ []
theorem dksX1_follow_0 : cX1_follow.data.toList.drop 0 = dktX1_follow_0 := by decide +kernel
theorem dX1_follow_0 : decode cX1_follow 0 = .ok (.aload_n 1, 1) := dk_43 (dk_at dksX1_follow_0 0 rfl rfl)
theorem dX1_follow_1 : decode cX1_follow 1 = .ok (.getfield 600, 3) := dk_180 2 88 (dk_at dksX1_follow_0 1 rfl rfl)
theorem dX1_follow_4 : decode cX1_follow 4 = .ok (.bipush 9, 2) := dk_16 9 (dk_at dksX1_follow_0 4 rfl rfl)
theorem dX1_follow_6 : decode cX1_follow 6 = .ok (.if_icmp .ne 11, 3) := dk_160 0 11 (dk_at dksX1_follow_0 6 rfl rfl)
theorem dX1_follow_9 : decode cX1_follow 9 = .ok (.aload_n 0, 1) := dk_42 (dk_at dksX1_follow_0 9 rfl rfl)
theorem dX1_follow_10 : decode cX1_follow 10 = .ok (.invokevirtual 613, 3) := dk_182 2 101 (dk_at dksX1_follow_0 10 rfl rfl)
theorem dX1_follow_13 : decode cX1_follow 13 = .ok (.pop, 1) := dk_87 (dk_at dksX1_follow_0 13 rfl rfl)
theorem dX1_follow_14 : decode cX1_follow 14 = .ok (.bipush 9, 2) := dk_16 9 (dk_at dksX1_follow_0 14 rfl rfl)
theorem dX1_follow_16 : decode cX1_follow 16 = .ok (.ireturn, 1) := dk_172 (dk_at dksX1_follow_0 16 rfl rfl)
theorem dX1_follow_17 : decode cX1_follow 17 = .ok (.aload_n 0, 1) := dk_42 (dk_at dksX1_follow_0 17 rfl rfl)
theorem dX1_follow_18 : decode cX1_follow 18 = .ok (.invokevirtual 615, 3) := dk_182 2 103 (dk_at dksX1_follow_0 18 rfl rfl)
theorem dX1_follow_21 : decode cX1_follow 21 = .ok (.ireturn, 1) := dk_172 (dk_at dksX1_follow_0 21 rfl rfl)
def dkwX1_isBetween_0 : List UInt8 := [26, 27, 161, 0, 12, 26, 28, 163, 0, 7, 4, 167, 0, 4, 3, 172]
abbrev dktX1_isBetween_0 : List UInt8 := dkwX1_isBetween_0 ++ []
theorem dksX1_isBetween_0 : cX1_isBetween.data.toList.drop 0 = dktX1_isBetween_0 := by decide +kernel
theorem dX1_isBetween_0 : decode cX1_isBetween 0 = .ok (.iload_n 0, 1) := dk_26 (dk_at dksX1_isBetween_0 0 rfl rfl)
theorem dX1_isBetween_1 : decode cX1_isBetween 1 = .ok (.iload_n 1, 1) := dk_27 (dk_at dksX1_isBetween_0 1 rfl rfl)
theorem dX1_isBetween_2 : decode cX1_isBetween 2 = .ok (.if_icmp .lt 12, 3) := dk_161 0 12 (dk_at dksX1_isBetween_0 2 rfl rfl)
theorem dX1_isBetween_5 : decode cX1_isBetween 5 = .ok (.iload_n 0, 1) := dk_26 (dk_at dksX1_isBetween_0 5 rfl rfl)
theorem dX1_isBetween_6 : decode cX1_isBetween 6 = .ok (.iload_n 2, 1) := dk_28 (dk_at dksX1_isBetween_0 6 rfl rfl)
theorem dX1_isBetween_7 : decode cX1_isBetween 7 = .ok (.if_icmp .gt 7, 3) := dk_163 0 7 (dk_at dksX1_isBetween_0 7 rfl rfl)
theorem dX1_isBetween_10 : decode cX1_isBetween 10 = .ok (.iconst 1, 1) := dk_4 (dk_at dksX1_isBetween_0 10 rfl rfl)
theorem dX1_isBetween_11 : decode cX1_isBetween 11 = .ok (.goto 4, 3) := dk_167 0 4 (dk_at dksX1_isBetween_0 11 rfl rfl)
theorem dX1_isBetween_14 : decode cX1_isBetween 14 = .ok (.iconst 0, 1) := dk_3 (dk_at dksX1_isBetween_0 14 rfl rfl)
theorem dX1_isBetween_15 : decode cX1_isBetween 15 = .ok (.ireturn, 1) := dk_172 (dk_at dksX1_isBetween_0 15 rfl rfl)
def dkwX1_isAddress_0 : List UInt8 := [26, 3, 16, 63, 184, 0, 3, 172]
abbrev dktX1_isAddress_0 : List UInt8 := dkwX1_isAddress_0 ++ []
theorem dksX1_isAddress_0 : cX1_isAddress.data.toList.drop 0 = dktX1_isAddress_0 := by decide +kernel
theorem dX1_isAddress_0 : decode cX1_isAddress 0 = .ok (.iload_n 0, 1) := dk_26 (dk_at dksX1_isAddress_0 0 rfl rfl)
theorem dX1_isAddress_1 : decode cX1_isAddress 1 = .ok (.iconst 0, 1) := dk_3 (dk_at dksX1_isAddress_0 1 rfl rfl)
theorem dX1_isAddress_2 : decode cX1_isAddress 2 = .ok (.bipush 63, 2) := dk_16 63 (dk_at dksX1_isAddress_0 2 rfl rfl)
theorem dX1_isAddress_4 : decode cX1_isAddress 4 = .ok (.invokestatic 3, 3) := dk_184 0 3 (dk_at dksX1_isAddress_0 4 rfl rfl)
theorem dX1_isAddress_7 : decode cX1_isAddress 7 = .ok (.ireturn, 1) := dk_172 (dk_at dksX1_isAddress_0 7 rfl rfl)
def dkwX1_isPlace_0 : List UInt8 := [26, 3, 16, 63, 184, 0, 3, 172]
abbrev dktX1_isPlace_0 : List UInt8 := dkwX1_isPlace_0 ++ []
theorem dksX1_isPlace_0 : cX1_isPlace.data.toList.drop 0 = dktX1_isPlace_0 := by decide +kernel
theorem dX1_isPlace_0 : decode cX1_isPlace 0 = .ok (.iload_n 0, 1) := dk_26 (dk_at dksX1_isPlace_0 0 rfl rfl)
theorem dX1_isPlace_1 : decode cX1_isPlace 1 = .ok (.iconst 0, 1) := dk_3 (dk_at dksX1_isPlace_0 1 rfl rfl)
theorem dX1_isPlace_2 : decode cX1_isPlace 2 = .ok (.bipush 63, 2) := dk_16 63 (dk_at dksX1_isPlace_0 2 rfl rfl)
theorem dX1_isPlace_4 : decode cX1_isPlace 4 = .ok (.invokestatic 3, 3) := dk_184 0 3 (dk_at dksX1_isPlace_0 4 rfl rfl)
theorem dX1_isPlace_7 : decode cX1_isPlace 7 = .ok (.ireturn, 1) := dk_172 (dk_at dksX1_isPlace_0 7 rfl rfl)
def dkwX1_isWhole_7 : List UInt8 := [167, 0, 8, 29, 4, 160, 0, 7, 4, 167, 0, 4, 3, 60, 132, 2, 1, 167, 255, 81, 27, 172]
abbrev dktX1_isWhole_7 : List UInt8 := dkwX1_isWhole_7 ++ []
def dkwX1_isWhole_6 : List UInt8 := [4, 167, 0, 4, 3, 54, 4, 167, 255, 213, 27, 153, 0, 24, 21, 4, 153, 0, 10, 29, 154, 0, 15]
abbrev dktX1_isWhole_6 : List UInt8 := dkwX1_isWhole_6 ++ dktX1_isWhole_7
def dkwX1_isWhole_5 : List UInt8 := [185, 0, 170, 1, 0, 192, 0, 188, 58, 6, 21, 4, 154, 0, 12, 25, 6, 180, 1, 72, 28, 160, 0, 7]
abbrev dktX1_isWhole_5 : List UInt8 := dkwX1_isWhole_5 ++ dktX1_isWhole_6
def dkwX1_isWhole_4 : List UInt8 := [42, 180, 0, 79, 182, 0, 160, 58, 5, 25, 5, 185, 0, 164, 1, 0, 153, 0, 39, 25, 5]
abbrev dktX1_isWhole_4 : List UInt8 := dkwX1_isWhole_4 ++ dktX1_isWhole_5
def dkwX1_isWhole_3 : List UInt8 := [184, 2, 145, 154, 0, 14, 42, 180, 0, 63, 28, 184, 2, 145, 153, 0, 7, 4, 167, 0, 4, 3, 54, 4]
abbrev dktX1_isWhole_3 : List UInt8 := dkwX1_isWhole_3 ++ dktX1_isWhole_4
def dkwX1_isWhole_2 : List UInt8 := [54, 5, 29, 21, 5, 28, 160, 0, 7, 4, 167, 0, 4, 3, 96, 62, 167, 255, 217, 42, 180, 0, 60, 28]
abbrev dktX1_isWhole_2 : List UInt8 := dkwX1_isWhole_2 ++ dktX1_isWhole_3
def dkwX1_isWhole_1 : List UInt8 := [25, 4, 185, 0, 164, 1, 0, 153, 0, 35, 25, 4, 185, 0, 170, 1, 0, 192, 0, 132, 182, 2, 19]
abbrev dktX1_isWhole_1 : List UInt8 := dkwX1_isWhole_1 ++ dktX1_isWhole_2
def dkwX1_isWhole_0 : List UInt8 := [4, 60, 3, 61, 28, 42, 180, 0, 47, 162, 0, 173, 3, 62, 42, 180, 0, 69, 182, 2, 148, 58, 4]
abbrev dktX1_isWhole_0 : List UInt8 := dkwX1_isWhole_0 ++ dktX1_isWhole_1
theorem dksX1_isWhole_0 : cX1_isWhole.data.toList.drop 0 = dktX1_isWhole_0 := by decide +kernel
theorem dksX1_isWhole_1 : cX1_isWhole.data.toList.drop 23 = dktX1_isWhole_1 := dk_seg dksX1_isWhole_0 23 rfl rfl
theorem dksX1_isWhole_2 : cX1_isWhole.data.toList.drop 46 = dktX1_isWhole_2 := dk_seg dksX1_isWhole_1 23 rfl rfl
theorem dksX1_isWhole_3 : cX1_isWhole.data.toList.drop 70 = dktX1_isWhole_3 := dk_seg dksX1_isWhole_2 24 rfl rfl
theorem dksX1_isWhole_4 : cX1_isWhole.data.toList.drop 94 = dktX1_isWhole_4 := dk_seg dksX1_isWhole_3 24 rfl rfl
theorem dksX1_isWhole_5 : cX1_isWhole.data.toList.drop 115 = dktX1_isWhole_5 := dk_seg dksX1_isWhole_4 21 rfl rfl
theorem dksX1_isWhole_6 : cX1_isWhole.data.toList.drop 139 = dktX1_isWhole_6 := dk_seg dksX1_isWhole_5 24 rfl rfl
theorem dksX1_isWhole_7 : cX1_isWhole.data.toList.drop 162 = dktX1_isWhole_7 := dk_seg dksX1_isWhole_6 23 rfl rfl
theorem dX1_isWhole_0 : decode cX1_isWhole 0 = .ok (.iconst 1, 1) := dk_4 (dk_at dksX1_isWhole_0 0 rfl rfl)
theorem dX1_isWhole_1 : decode cX1_isWhole 1 = .ok (.istore_n 1, 1) := dk_60 (dk_at dksX1_isWhole_0 1 rfl rfl)
theorem dX1_isWhole_2 : decode cX1_isWhole 2 = .ok (.iconst 0, 1) := dk_3 (dk_at dksX1_isWhole_0 2 rfl rfl)
theorem dX1_isWhole_3 : decode cX1_isWhole 3 = .ok (.istore_n 2, 1) := dk_61 (dk_at dksX1_isWhole_0 3 rfl rfl)
theorem dX1_isWhole_4 : decode cX1_isWhole 4 = .ok (.iload_n 2, 1) := dk_28 (dk_at dksX1_isWhole_0 4 rfl rfl)
theorem dX1_isWhole_5 : decode cX1_isWhole 5 = .ok (.aload_n 0, 1) := dk_42 (dk_at dksX1_isWhole_0 5 rfl rfl)
theorem dX1_isWhole_6 : decode cX1_isWhole 6 = .ok (.getfield 47, 3) := dk_180 0 47 (dk_at dksX1_isWhole_0 6 rfl rfl)
theorem dX1_isWhole_9 : decode cX1_isWhole 9 = .ok (.if_icmp .ge 173, 3) := dk_162 0 173 (dk_at dksX1_isWhole_0 9 rfl rfl)
theorem dX1_isWhole_12 : decode cX1_isWhole 12 = .ok (.iconst 0, 1) := dk_3 (dk_at dksX1_isWhole_0 12 rfl rfl)
theorem dX1_isWhole_13 : decode cX1_isWhole 13 = .ok (.istore_n 3, 1) := dk_62 (dk_at dksX1_isWhole_0 13 rfl rfl)
theorem dX1_isWhole_14 : decode cX1_isWhole 14 = .ok (.aload_n 0, 1) := dk_42 (dk_at dksX1_isWhole_0 14 rfl rfl)
theorem dX1_isWhole_15 : decode cX1_isWhole 15 = .ok (.getfield 69, 3) := dk_180 0 69 (dk_at dksX1_isWhole_0 15 rfl rfl)
theorem dX1_isWhole_18 : decode cX1_isWhole 18 = .ok (.invokevirtual 660, 3) := dk_182 2 148 (dk_at dksX1_isWhole_0 18 rfl rfl)
theorem dX1_isWhole_21 : decode cX1_isWhole 21 = .ok (.astore 4, 2) := dk_58 4 (dk_at dksX1_isWhole_0 21 rfl rfl)
theorem dX1_isWhole_23 : decode cX1_isWhole 23 = .ok (.aload 4, 2) := dk_25 4 (dk_at dksX1_isWhole_1 0 rfl rfl)
theorem dX1_isWhole_25 : decode cX1_isWhole 25 = .ok (.invokeinterface 164 1, 5) := by decide +kernel
theorem dX1_isWhole_30 : decode cX1_isWhole 30 = .ok (.ifCond .eq 35, 3) := dk_153 0 35 (dk_at dksX1_isWhole_1 7 rfl rfl)
theorem dX1_isWhole_33 : decode cX1_isWhole 33 = .ok (.aload 4, 2) := dk_25 4 (dk_at dksX1_isWhole_1 10 rfl rfl)
theorem dX1_isWhole_35 : decode cX1_isWhole 35 = .ok (.invokeinterface 170 1, 5) := by decide +kernel
theorem dX1_isWhole_40 : decode cX1_isWhole 40 = .ok (.checkcast 132, 3) := dk_192 0 132 (dk_at dksX1_isWhole_1 17 rfl rfl)
theorem dX1_isWhole_43 : decode cX1_isWhole 43 = .ok (.invokevirtual 531, 3) := dk_182 2 19 (dk_at dksX1_isWhole_1 20 rfl rfl)
theorem dX1_isWhole_46 : decode cX1_isWhole 46 = .ok (.istore 5, 2) := dk_54 5 (dk_at dksX1_isWhole_2 0 rfl rfl)
theorem dX1_isWhole_48 : decode cX1_isWhole 48 = .ok (.iload_n 3, 1) := dk_29 (dk_at dksX1_isWhole_2 2 rfl rfl)
theorem dX1_isWhole_49 : decode cX1_isWhole 49 = .ok (.iload 5, 2) := dk_21 5 (dk_at dksX1_isWhole_2 3 rfl rfl)
theorem dX1_isWhole_51 : decode cX1_isWhole 51 = .ok (.iload_n 2, 1) := dk_28 (dk_at dksX1_isWhole_2 5 rfl rfl)
theorem dX1_isWhole_52 : decode cX1_isWhole 52 = .ok (.if_icmp .ne 7, 3) := dk_160 0 7 (dk_at dksX1_isWhole_2 6 rfl rfl)
theorem dX1_isWhole_55 : decode cX1_isWhole 55 = .ok (.iconst 1, 1) := dk_4 (dk_at dksX1_isWhole_2 9 rfl rfl)
theorem dX1_isWhole_56 : decode cX1_isWhole 56 = .ok (.goto 4, 3) := dk_167 0 4 (dk_at dksX1_isWhole_2 10 rfl rfl)
theorem dX1_isWhole_59 : decode cX1_isWhole 59 = .ok (.iconst 0, 1) := dk_3 (dk_at dksX1_isWhole_2 13 rfl rfl)
theorem dX1_isWhole_60 : decode cX1_isWhole 60 = .ok (.iadd, 1) := dk_96 (dk_at dksX1_isWhole_2 14 rfl rfl)
theorem dX1_isWhole_61 : decode cX1_isWhole 61 = .ok (.istore_n 3, 1) := dk_62 (dk_at dksX1_isWhole_2 15 rfl rfl)
theorem dX1_isWhole_62 : decode cX1_isWhole 62 = .ok (.goto (-39), 3) := dk_167 255 217 (dk_at dksX1_isWhole_2 16 rfl rfl)
theorem dX1_isWhole_65 : decode cX1_isWhole 65 = .ok (.aload_n 0, 1) := dk_42 (dk_at dksX1_isWhole_2 19 rfl rfl)
theorem dX1_isWhole_66 : decode cX1_isWhole 66 = .ok (.getfield 60, 3) := dk_180 0 60 (dk_at dksX1_isWhole_2 20 rfl rfl)
theorem dX1_isWhole_69 : decode cX1_isWhole 69 = .ok (.iload_n 2, 1) := dk_28 (dk_at dksX1_isWhole_2 23 rfl rfl)
theorem dX1_isWhole_70 : decode cX1_isWhole 70 = .ok (.invokestatic 657, 3) := dk_184 2 145 (dk_at dksX1_isWhole_3 0 rfl rfl)
theorem dX1_isWhole_73 : decode cX1_isWhole 73 = .ok (.ifCond .ne 14, 3) := dk_154 0 14 (dk_at dksX1_isWhole_3 3 rfl rfl)
theorem dX1_isWhole_76 : decode cX1_isWhole 76 = .ok (.aload_n 0, 1) := dk_42 (dk_at dksX1_isWhole_3 6 rfl rfl)
theorem dX1_isWhole_77 : decode cX1_isWhole 77 = .ok (.getfield 63, 3) := dk_180 0 63 (dk_at dksX1_isWhole_3 7 rfl rfl)
theorem dX1_isWhole_80 : decode cX1_isWhole 80 = .ok (.iload_n 2, 1) := dk_28 (dk_at dksX1_isWhole_3 10 rfl rfl)
theorem dX1_isWhole_81 : decode cX1_isWhole 81 = .ok (.invokestatic 657, 3) := dk_184 2 145 (dk_at dksX1_isWhole_3 11 rfl rfl)
theorem dX1_isWhole_84 : decode cX1_isWhole 84 = .ok (.ifCond .eq 7, 3) := dk_153 0 7 (dk_at dksX1_isWhole_3 14 rfl rfl)
theorem dX1_isWhole_87 : decode cX1_isWhole 87 = .ok (.iconst 1, 1) := dk_4 (dk_at dksX1_isWhole_3 17 rfl rfl)
theorem dX1_isWhole_88 : decode cX1_isWhole 88 = .ok (.goto 4, 3) := dk_167 0 4 (dk_at dksX1_isWhole_3 18 rfl rfl)
theorem dX1_isWhole_91 : decode cX1_isWhole 91 = .ok (.iconst 0, 1) := dk_3 (dk_at dksX1_isWhole_3 21 rfl rfl)
theorem dX1_isWhole_92 : decode cX1_isWhole 92 = .ok (.istore 4, 2) := dk_54 4 (dk_at dksX1_isWhole_3 22 rfl rfl)
theorem dX1_isWhole_94 : decode cX1_isWhole 94 = .ok (.aload_n 0, 1) := dk_42 (dk_at dksX1_isWhole_4 0 rfl rfl)
theorem dX1_isWhole_95 : decode cX1_isWhole 95 = .ok (.getfield 79, 3) := dk_180 0 79 (dk_at dksX1_isWhole_4 1 rfl rfl)
theorem dX1_isWhole_98 : decode cX1_isWhole 98 = .ok (.invokevirtual 160, 3) := dk_182 0 160 (dk_at dksX1_isWhole_4 4 rfl rfl)
theorem dX1_isWhole_101 : decode cX1_isWhole 101 = .ok (.astore 5, 2) := dk_58 5 (dk_at dksX1_isWhole_4 7 rfl rfl)
theorem dX1_isWhole_103 : decode cX1_isWhole 103 = .ok (.aload 5, 2) := dk_25 5 (dk_at dksX1_isWhole_4 9 rfl rfl)
theorem dX1_isWhole_105 : decode cX1_isWhole 105 = .ok (.invokeinterface 164 1, 5) := by decide +kernel
theorem dX1_isWhole_110 : decode cX1_isWhole 110 = .ok (.ifCond .eq 39, 3) := dk_153 0 39 (dk_at dksX1_isWhole_4 16 rfl rfl)
theorem dX1_isWhole_113 : decode cX1_isWhole 113 = .ok (.aload 5, 2) := dk_25 5 (dk_at dksX1_isWhole_4 19 rfl rfl)
theorem dX1_isWhole_115 : decode cX1_isWhole 115 = .ok (.invokeinterface 170 1, 5) := by decide +kernel
theorem dX1_isWhole_120 : decode cX1_isWhole 120 = .ok (.checkcast 188, 3) := dk_192 0 188 (dk_at dksX1_isWhole_5 5 rfl rfl)
theorem dX1_isWhole_123 : decode cX1_isWhole 123 = .ok (.astore 6, 2) := dk_58 6 (dk_at dksX1_isWhole_5 8 rfl rfl)
theorem dX1_isWhole_125 : decode cX1_isWhole 125 = .ok (.iload 4, 2) := dk_21 4 (dk_at dksX1_isWhole_5 10 rfl rfl)
theorem dX1_isWhole_127 : decode cX1_isWhole 127 = .ok (.ifCond .ne 12, 3) := dk_154 0 12 (dk_at dksX1_isWhole_5 12 rfl rfl)
theorem dX1_isWhole_130 : decode cX1_isWhole 130 = .ok (.aload 6, 2) := dk_25 6 (dk_at dksX1_isWhole_5 15 rfl rfl)
theorem dX1_isWhole_132 : decode cX1_isWhole 132 = .ok (.getfield 328, 3) := dk_180 1 72 (dk_at dksX1_isWhole_5 17 rfl rfl)
theorem dX1_isWhole_135 : decode cX1_isWhole 135 = .ok (.iload_n 2, 1) := dk_28 (dk_at dksX1_isWhole_5 20 rfl rfl)
theorem dX1_isWhole_136 : decode cX1_isWhole 136 = .ok (.if_icmp .ne 7, 3) := dk_160 0 7 (dk_at dksX1_isWhole_5 21 rfl rfl)
theorem dX1_isWhole_139 : decode cX1_isWhole 139 = .ok (.iconst 1, 1) := dk_4 (dk_at dksX1_isWhole_6 0 rfl rfl)
theorem dX1_isWhole_140 : decode cX1_isWhole 140 = .ok (.goto 4, 3) := dk_167 0 4 (dk_at dksX1_isWhole_6 1 rfl rfl)
theorem dX1_isWhole_143 : decode cX1_isWhole 143 = .ok (.iconst 0, 1) := dk_3 (dk_at dksX1_isWhole_6 4 rfl rfl)
theorem dX1_isWhole_144 : decode cX1_isWhole 144 = .ok (.istore 4, 2) := dk_54 4 (dk_at dksX1_isWhole_6 5 rfl rfl)
theorem dX1_isWhole_146 : decode cX1_isWhole 146 = .ok (.goto (-43), 3) := dk_167 255 213 (dk_at dksX1_isWhole_6 7 rfl rfl)
theorem dX1_isWhole_149 : decode cX1_isWhole 149 = .ok (.iload_n 1, 1) := dk_27 (dk_at dksX1_isWhole_6 10 rfl rfl)
theorem dX1_isWhole_150 : decode cX1_isWhole 150 = .ok (.ifCond .eq 24, 3) := dk_153 0 24 (dk_at dksX1_isWhole_6 11 rfl rfl)
theorem dX1_isWhole_153 : decode cX1_isWhole 153 = .ok (.iload 4, 2) := dk_21 4 (dk_at dksX1_isWhole_6 14 rfl rfl)
theorem dX1_isWhole_155 : decode cX1_isWhole 155 = .ok (.ifCond .eq 10, 3) := dk_153 0 10 (dk_at dksX1_isWhole_6 16 rfl rfl)
theorem dX1_isWhole_158 : decode cX1_isWhole 158 = .ok (.iload_n 3, 1) := dk_29 (dk_at dksX1_isWhole_6 19 rfl rfl)
theorem dX1_isWhole_159 : decode cX1_isWhole 159 = .ok (.ifCond .ne 15, 3) := dk_154 0 15 (dk_at dksX1_isWhole_6 20 rfl rfl)
theorem dX1_isWhole_162 : decode cX1_isWhole 162 = .ok (.goto 8, 3) := dk_167 0 8 (dk_at dksX1_isWhole_7 0 rfl rfl)
theorem dX1_isWhole_165 : decode cX1_isWhole 165 = .ok (.iload_n 3, 1) := dk_29 (dk_at dksX1_isWhole_7 3 rfl rfl)
theorem dX1_isWhole_166 : decode cX1_isWhole 166 = .ok (.iconst 1, 1) := dk_4 (dk_at dksX1_isWhole_7 4 rfl rfl)
theorem dX1_isWhole_167 : decode cX1_isWhole 167 = .ok (.if_icmp .ne 7, 3) := dk_160 0 7 (dk_at dksX1_isWhole_7 5 rfl rfl)
theorem dX1_isWhole_170 : decode cX1_isWhole 170 = .ok (.iconst 1, 1) := dk_4 (dk_at dksX1_isWhole_7 8 rfl rfl)
theorem dX1_isWhole_171 : decode cX1_isWhole 171 = .ok (.goto 4, 3) := dk_167 0 4 (dk_at dksX1_isWhole_7 9 rfl rfl)
theorem dX1_isWhole_174 : decode cX1_isWhole 174 = .ok (.iconst 0, 1) := dk_3 (dk_at dksX1_isWhole_7 12 rfl rfl)
theorem dX1_isWhole_175 : decode cX1_isWhole 175 = .ok (.istore_n 1, 1) := dk_60 (dk_at dksX1_isWhole_7 13 rfl rfl)
theorem dX1_isWhole_176 : decode cX1_isWhole 176 = .ok (.iinc 2 1, 3) := dk_132 2 1 (dk_at dksX1_isWhole_7 14 rfl rfl)
theorem dX1_isWhole_179 : decode cX1_isWhole 179 = .ok (.goto (-175), 3) := dk_167 255 81 (dk_at dksX1_isWhole_7 17 rfl rfl)
theorem dX1_isWhole_182 : decode cX1_isWhole 182 = .ok (.iload_n 1, 1) := dk_27 (dk_at dksX1_isWhole_7 20 rfl rfl)
theorem dX1_isWhole_183 : decode cX1_isWhole 183 = .ok (.ireturn, 1) := dk_172 (dk_at dksX1_isWhole_7 21 rfl rfl)
def dkwX1_has_1 : List UInt8 := [28, 154, 0, 9, 21, 6, 27, 160, 0, 7, 4, 167, 0, 4, 3, 61, 132, 5, 1, 167, 255, 224, 28, 172]
abbrev dktX1_has_1 : List UInt8 := dkwX1_has_1 ++ []
def dkwX1_has_0 : List UInt8 := [3, 61, 42, 78, 45, 190, 54, 4, 3, 54, 5, 21, 5, 21, 4, 162, 0, 31, 45, 21, 5, 46, 54, 6]
abbrev dktX1_has_0 : List UInt8 := dkwX1_has_0 ++ dktX1_has_1
theorem dksX1_has_0 : cX1_has.data.toList.drop 0 = dktX1_has_0 := by decide +kernel
theorem dksX1_has_1 : cX1_has.data.toList.drop 24 = dktX1_has_1 := dk_seg dksX1_has_0 24 rfl rfl
theorem dX1_has_0 : decode cX1_has 0 = .ok (.iconst 0, 1) := dk_3 (dk_at dksX1_has_0 0 rfl rfl)
theorem dX1_has_1 : decode cX1_has 1 = .ok (.istore_n 2, 1) := dk_61 (dk_at dksX1_has_0 1 rfl rfl)
theorem dX1_has_2 : decode cX1_has 2 = .ok (.aload_n 0, 1) := dk_42 (dk_at dksX1_has_0 2 rfl rfl)
theorem dX1_has_3 : decode cX1_has 3 = .ok (.astore_n 3, 1) := dk_78 (dk_at dksX1_has_0 3 rfl rfl)
theorem dX1_has_4 : decode cX1_has 4 = .ok (.aload_n 3, 1) := dk_45 (dk_at dksX1_has_0 4 rfl rfl)
theorem dX1_has_5 : decode cX1_has 5 = .ok (.arraylength, 1) := dk_190 (dk_at dksX1_has_0 5 rfl rfl)
theorem dX1_has_6 : decode cX1_has 6 = .ok (.istore 4, 2) := dk_54 4 (dk_at dksX1_has_0 6 rfl rfl)
theorem dX1_has_8 : decode cX1_has 8 = .ok (.iconst 0, 1) := dk_3 (dk_at dksX1_has_0 8 rfl rfl)
theorem dX1_has_9 : decode cX1_has 9 = .ok (.istore 5, 2) := dk_54 5 (dk_at dksX1_has_0 9 rfl rfl)
theorem dX1_has_11 : decode cX1_has 11 = .ok (.iload 5, 2) := dk_21 5 (dk_at dksX1_has_0 11 rfl rfl)
theorem dX1_has_13 : decode cX1_has 13 = .ok (.iload 4, 2) := dk_21 4 (dk_at dksX1_has_0 13 rfl rfl)
theorem dX1_has_15 : decode cX1_has 15 = .ok (.if_icmp .ge 31, 3) := dk_162 0 31 (dk_at dksX1_has_0 15 rfl rfl)
theorem dX1_has_18 : decode cX1_has 18 = .ok (.aload_n 3, 1) := dk_45 (dk_at dksX1_has_0 18 rfl rfl)
theorem dX1_has_19 : decode cX1_has 19 = .ok (.iload 5, 2) := dk_21 5 (dk_at dksX1_has_0 19 rfl rfl)
theorem dX1_has_21 : decode cX1_has 21 = .ok (.iaload, 1) := dk_46 (dk_at dksX1_has_0 21 rfl rfl)
theorem dX1_has_22 : decode cX1_has 22 = .ok (.istore 6, 2) := dk_54 6 (dk_at dksX1_has_0 22 rfl rfl)
theorem dX1_has_24 : decode cX1_has 24 = .ok (.iload_n 2, 1) := dk_28 (dk_at dksX1_has_1 0 rfl rfl)
theorem dX1_has_25 : decode cX1_has 25 = .ok (.ifCond .ne 9, 3) := dk_154 0 9 (dk_at dksX1_has_1 1 rfl rfl)
theorem dX1_has_28 : decode cX1_has 28 = .ok (.iload 6, 2) := dk_21 6 (dk_at dksX1_has_1 4 rfl rfl)
theorem dX1_has_30 : decode cX1_has 30 = .ok (.iload_n 1, 1) := dk_27 (dk_at dksX1_has_1 6 rfl rfl)
theorem dX1_has_31 : decode cX1_has 31 = .ok (.if_icmp .ne 7, 3) := dk_160 0 7 (dk_at dksX1_has_1 7 rfl rfl)
theorem dX1_has_34 : decode cX1_has 34 = .ok (.iconst 1, 1) := dk_4 (dk_at dksX1_has_1 10 rfl rfl)
theorem dX1_has_35 : decode cX1_has 35 = .ok (.goto 4, 3) := dk_167 0 4 (dk_at dksX1_has_1 11 rfl rfl)
theorem dX1_has_38 : decode cX1_has 38 = .ok (.iconst 0, 1) := dk_3 (dk_at dksX1_has_1 14 rfl rfl)
theorem dX1_has_39 : decode cX1_has 39 = .ok (.istore_n 2, 1) := dk_61 (dk_at dksX1_has_1 15 rfl rfl)
theorem dX1_has_40 : decode cX1_has 40 = .ok (.iinc 5 1, 3) := dk_132 5 1 (dk_at dksX1_has_1 16 rfl rfl)
theorem dX1_has_43 : decode cX1_has 43 = .ok (.goto (-32), 3) := dk_167 255 224 (dk_at dksX1_has_1 19 rfl rfl)
theorem dX1_has_46 : decode cX1_has 46 = .ok (.iload_n 2, 1) := dk_28 (dk_at dksX1_has_1 22 rfl rfl)
theorem dX1_has_47 : decode cX1_has 47 = .ok (.ireturn, 1) := dk_172 (dk_at dksX1_has_1 23 rfl rfl)
def dkwX1_add_5 : List UInt8 := [180, 0, 16, 185, 2, 31, 1, 0, 4, 100, 172]
abbrev dktX1_add_5 : List UInt8 := dkwX1_add_5 ++ []
def dkwX1_add_4 : List UInt8 := [180, 0, 16, 187, 0, 225, 89, 27, 28, 29, 21, 4, 21, 5, 183, 2, 72, 185, 0, 198, 2, 0, 87, 42]
abbrev dktX1_add_4 : List UInt8 := dkwX1_add_4 ++ dktX1_add_5
def dkwX1_add_3 : List UInt8 := [180, 0, 16, 185, 2, 31, 1, 0, 16, 64, 162, 0, 7, 4, 167, 0, 4, 3, 184, 0, 156, 42]
abbrev dktX1_add_3 : List UInt8 := dkwX1_add_3 ++ dktX1_add_4
def dkwX1_add_2 : List UInt8 := [153, 0, 11, 21, 5, 184, 1, 51, 153, 0, 7, 4, 167, 0, 4, 3, 184, 2, 66, 42, 182, 2, 69, 42]
abbrev dktX1_add_2 : List UInt8 := dkwX1_add_2 ++ dktX1_add_3
def dkwX1_add_1 : List UInt8 := [21, 4, 184, 2, 63, 153, 0, 7, 4, 167, 0, 4, 3, 184, 2, 66, 27, 16, 12, 16, 15, 184, 0, 3]
abbrev dktX1_add_1 : List UInt8 := dkwX1_add_1 ++ dktX1_add_2
def dkwX1_add_0 : List UInt8 := [27, 3, 16, 21, 184, 0, 3, 153, 0, 29, 28, 184, 2, 63, 153, 0, 22, 29, 184, 2, 63, 153, 0, 15]
abbrev dktX1_add_0 : List UInt8 := dkwX1_add_0 ++ dktX1_add_1
theorem dksX1_add_0 : cX1_add.data.toList.drop 0 = dktX1_add_0 := by decide +kernel
theorem dksX1_add_1 : cX1_add.data.toList.drop 24 = dktX1_add_1 := dk_seg dksX1_add_0 24 rfl rfl
theorem dksX1_add_2 : cX1_add.data.toList.drop 48 = dktX1_add_2 := dk_seg dksX1_add_1 24 rfl rfl
theorem dksX1_add_3 : cX1_add.data.toList.drop 72 = dktX1_add_3 := dk_seg dksX1_add_2 24 rfl rfl
theorem dksX1_add_4 : cX1_add.data.toList.drop 94 = dktX1_add_4 := dk_seg dksX1_add_3 22 rfl rfl
theorem dksX1_add_5 : cX1_add.data.toList.drop 118 = dktX1_add_5 := dk_seg dksX1_add_4 24 rfl rfl
theorem dX1_add_0 : decode cX1_add 0 = .ok (.iload_n 1, 1) := dk_27 (dk_at dksX1_add_0 0 rfl rfl)
theorem dX1_add_1 : decode cX1_add 1 = .ok (.iconst 0, 1) := dk_3 (dk_at dksX1_add_0 1 rfl rfl)
theorem dX1_add_2 : decode cX1_add 2 = .ok (.bipush 21, 2) := dk_16 21 (dk_at dksX1_add_0 2 rfl rfl)
theorem dX1_add_4 : decode cX1_add 4 = .ok (.invokestatic 3, 3) := dk_184 0 3 (dk_at dksX1_add_0 4 rfl rfl)
theorem dX1_add_7 : decode cX1_add 7 = .ok (.ifCond .eq 29, 3) := dk_153 0 29 (dk_at dksX1_add_0 7 rfl rfl)
theorem dX1_add_10 : decode cX1_add 10 = .ok (.iload_n 2, 1) := dk_28 (dk_at dksX1_add_0 10 rfl rfl)
theorem dX1_add_11 : decode cX1_add 11 = .ok (.invokestatic 575, 3) := dk_184 2 63 (dk_at dksX1_add_0 11 rfl rfl)
theorem dX1_add_14 : decode cX1_add 14 = .ok (.ifCond .eq 22, 3) := dk_153 0 22 (dk_at dksX1_add_0 14 rfl rfl)
theorem dX1_add_17 : decode cX1_add 17 = .ok (.iload_n 3, 1) := dk_29 (dk_at dksX1_add_0 17 rfl rfl)
theorem dX1_add_18 : decode cX1_add 18 = .ok (.invokestatic 575, 3) := dk_184 2 63 (dk_at dksX1_add_0 18 rfl rfl)
theorem dX1_add_21 : decode cX1_add 21 = .ok (.ifCond .eq 15, 3) := dk_153 0 15 (dk_at dksX1_add_0 21 rfl rfl)
theorem dX1_add_24 : decode cX1_add 24 = .ok (.iload 4, 2) := dk_21 4 (dk_at dksX1_add_1 0 rfl rfl)
theorem dX1_add_26 : decode cX1_add 26 = .ok (.invokestatic 575, 3) := dk_184 2 63 (dk_at dksX1_add_1 2 rfl rfl)
theorem dX1_add_29 : decode cX1_add 29 = .ok (.ifCond .eq 7, 3) := dk_153 0 7 (dk_at dksX1_add_1 5 rfl rfl)
theorem dX1_add_32 : decode cX1_add 32 = .ok (.iconst 1, 1) := dk_4 (dk_at dksX1_add_1 8 rfl rfl)
theorem dX1_add_33 : decode cX1_add 33 = .ok (.goto 4, 3) := dk_167 0 4 (dk_at dksX1_add_1 9 rfl rfl)
theorem dX1_add_36 : decode cX1_add 36 = .ok (.iconst 0, 1) := dk_3 (dk_at dksX1_add_1 12 rfl rfl)
theorem dX1_add_37 : decode cX1_add 37 = .ok (.invokestatic 578, 3) := dk_184 2 66 (dk_at dksX1_add_1 13 rfl rfl)
theorem dX1_add_40 : decode cX1_add 40 = .ok (.iload_n 1, 1) := dk_27 (dk_at dksX1_add_1 16 rfl rfl)
theorem dX1_add_41 : decode cX1_add 41 = .ok (.bipush 12, 2) := dk_16 12 (dk_at dksX1_add_1 17 rfl rfl)
theorem dX1_add_43 : decode cX1_add 43 = .ok (.bipush 15, 2) := dk_16 15 (dk_at dksX1_add_1 19 rfl rfl)
theorem dX1_add_45 : decode cX1_add 45 = .ok (.invokestatic 3, 3) := dk_184 0 3 (dk_at dksX1_add_1 21 rfl rfl)
theorem dX1_add_48 : decode cX1_add 48 = .ok (.ifCond .eq 11, 3) := dk_153 0 11 (dk_at dksX1_add_2 0 rfl rfl)
theorem dX1_add_51 : decode cX1_add 51 = .ok (.iload 5, 2) := dk_21 5 (dk_at dksX1_add_2 3 rfl rfl)
theorem dX1_add_53 : decode cX1_add 53 = .ok (.invokestatic 307, 3) := dk_184 1 51 (dk_at dksX1_add_2 5 rfl rfl)
theorem dX1_add_56 : decode cX1_add 56 = .ok (.ifCond .eq 7, 3) := dk_153 0 7 (dk_at dksX1_add_2 8 rfl rfl)
theorem dX1_add_59 : decode cX1_add 59 = .ok (.iconst 1, 1) := dk_4 (dk_at dksX1_add_2 11 rfl rfl)
theorem dX1_add_60 : decode cX1_add 60 = .ok (.goto 4, 3) := dk_167 0 4 (dk_at dksX1_add_2 12 rfl rfl)
theorem dX1_add_63 : decode cX1_add 63 = .ok (.iconst 0, 1) := dk_3 (dk_at dksX1_add_2 15 rfl rfl)
theorem dX1_add_64 : decode cX1_add 64 = .ok (.invokestatic 578, 3) := dk_184 2 66 (dk_at dksX1_add_2 16 rfl rfl)
theorem dX1_add_67 : decode cX1_add 67 = .ok (.aload_n 0, 1) := dk_42 (dk_at dksX1_add_2 19 rfl rfl)
theorem dX1_add_68 : decode cX1_add 68 = .ok (.invokevirtual 581, 3) := dk_182 2 69 (dk_at dksX1_add_2 20 rfl rfl)
theorem dX1_add_71 : decode cX1_add 71 = .ok (.aload_n 0, 1) := dk_42 (dk_at dksX1_add_2 23 rfl rfl)
theorem dX1_add_72 : decode cX1_add 72 = .ok (.getfield 16, 3) := dk_180 0 16 (dk_at dksX1_add_3 0 rfl rfl)
theorem dX1_add_75 : decode cX1_add 75 = .ok (.invokeinterface 543 1, 5) := by decide +kernel
theorem dX1_add_80 : decode cX1_add 80 = .ok (.bipush 64, 2) := dk_16 64 (dk_at dksX1_add_3 8 rfl rfl)
theorem dX1_add_82 : decode cX1_add 82 = .ok (.if_icmp .ge 7, 3) := dk_162 0 7 (dk_at dksX1_add_3 10 rfl rfl)
theorem dX1_add_85 : decode cX1_add 85 = .ok (.iconst 1, 1) := dk_4 (dk_at dksX1_add_3 13 rfl rfl)
theorem dX1_add_86 : decode cX1_add 86 = .ok (.goto 4, 3) := dk_167 0 4 (dk_at dksX1_add_3 14 rfl rfl)
theorem dX1_add_89 : decode cX1_add 89 = .ok (.iconst 0, 1) := dk_3 (dk_at dksX1_add_3 17 rfl rfl)
theorem dX1_add_90 : decode cX1_add 90 = .ok (.invokestatic 156, 3) := dk_184 0 156 (dk_at dksX1_add_3 18 rfl rfl)
theorem dX1_add_93 : decode cX1_add 93 = .ok (.aload_n 0, 1) := dk_42 (dk_at dksX1_add_3 21 rfl rfl)
theorem dX1_add_94 : decode cX1_add 94 = .ok (.getfield 16, 3) := dk_180 0 16 (dk_at dksX1_add_4 0 rfl rfl)
theorem dX1_add_97 : decode cX1_add 97 = .ok (.new 225, 3) := dk_187 0 225 (dk_at dksX1_add_4 3 rfl rfl)
theorem dX1_add_100 : decode cX1_add 100 = .ok (.dup, 1) := dk_89 (dk_at dksX1_add_4 6 rfl rfl)
theorem dX1_add_101 : decode cX1_add 101 = .ok (.iload_n 1, 1) := dk_27 (dk_at dksX1_add_4 7 rfl rfl)
theorem dX1_add_102 : decode cX1_add 102 = .ok (.iload_n 2, 1) := dk_28 (dk_at dksX1_add_4 8 rfl rfl)
theorem dX1_add_103 : decode cX1_add 103 = .ok (.iload_n 3, 1) := dk_29 (dk_at dksX1_add_4 9 rfl rfl)
theorem dX1_add_104 : decode cX1_add 104 = .ok (.iload 4, 2) := dk_21 4 (dk_at dksX1_add_4 10 rfl rfl)
theorem dX1_add_106 : decode cX1_add 106 = .ok (.iload 5, 2) := dk_21 5 (dk_at dksX1_add_4 12 rfl rfl)
theorem dX1_add_108 : decode cX1_add 108 = .ok (.invokespecial 584, 3) := dk_183 2 72 (dk_at dksX1_add_4 14 rfl rfl)
theorem dX1_add_111 : decode cX1_add 111 = .ok (.invokeinterface 198 2, 5) := by decide +kernel
theorem dX1_add_116 : decode cX1_add 116 = .ok (.pop, 1) := dk_87 (dk_at dksX1_add_4 22 rfl rfl)
theorem dX1_add_117 : decode cX1_add 117 = .ok (.aload_n 0, 1) := dk_42 (dk_at dksX1_add_4 23 rfl rfl)
theorem dX1_add_118 : decode cX1_add 118 = .ok (.getfield 16, 3) := dk_180 0 16 (dk_at dksX1_add_5 0 rfl rfl)
theorem dX1_add_121 : decode cX1_add 121 = .ok (.invokeinterface 543 1, 5) := by decide +kernel
theorem dX1_add_126 : decode cX1_add 126 = .ok (.iconst 1, 1) := dk_4 (dk_at dksX1_add_5 8 rfl rfl)
theorem dX1_add_127 : decode cX1_add 127 = .ok (.isub, 1) := dk_100 (dk_at dksX1_add_5 9 rfl rfl)
theorem dX1_add_128 : decode cX1_add 128 = .ok (.ireturn, 1) := dk_172 (dk_at dksX1_add_5 10 rfl rfl)
def dkwX1_isRegister_0 : List UInt8 := [26, 3, 16, 7, 184, 0, 3, 172]
abbrev dktX1_isRegister_0 : List UInt8 := dkwX1_isRegister_0 ++ []
theorem dksX1_isRegister_0 : cX1_isRegister.data.toList.drop 0 = dktX1_isRegister_0 := by decide +kernel
theorem dX1_isRegister_0 : decode cX1_isRegister 0 = .ok (.iload_n 0, 1) := dk_26 (dk_at dksX1_isRegister_0 0 rfl rfl)
theorem dX1_isRegister_1 : decode cX1_isRegister 1 = .ok (.iconst 0, 1) := dk_3 (dk_at dksX1_isRegister_0 1 rfl rfl)
theorem dX1_isRegister_2 : decode cX1_isRegister 2 = .ok (.bipush 7, 2) := dk_16 7 (dk_at dksX1_isRegister_0 2 rfl rfl)
theorem dX1_isRegister_4 : decode cX1_isRegister 4 = .ok (.invokestatic 3, 3) := dk_184 0 3 (dk_at dksX1_isRegister_0 4 rfl rfl)
theorem dX1_isRegister_7 : decode cX1_isRegister 7 = .ok (.ireturn, 1) := dk_172 (dk_at dksX1_isRegister_0 7 rfl rfl)
def dkwX1_checkArgument_0 : List UInt8 := [26, 154, 0, 11, 187, 0, 141, 89, 183, 0, 143, 191, 177]
abbrev dktX1_checkArgument_0 : List UInt8 := dkwX1_checkArgument_0 ++ []
theorem dksX1_checkArgument_0 : cX1_checkArgument.data.toList.drop 0 = dktX1_checkArgument_0 := by decide +kernel
theorem dX1_checkArgument_0 : decode cX1_checkArgument 0 = .ok (.iload_n 0, 1) := dk_26 (dk_at dksX1_checkArgument_0 0 rfl rfl)
theorem dX1_checkArgument_1 : decode cX1_checkArgument 1 = .ok (.ifCond .ne 11, 3) := dk_154 0 11 (dk_at dksX1_checkArgument_0 1 rfl rfl)
theorem dX1_checkArgument_4 : decode cX1_checkArgument 4 = .ok (.new 141, 3) := dk_187 0 141 (dk_at dksX1_checkArgument_0 4 rfl rfl)
theorem dX1_checkArgument_7 : decode cX1_checkArgument 7 = .ok (.dup, 1) := dk_89 (dk_at dksX1_checkArgument_0 7 rfl rfl)
theorem dX1_checkArgument_8 : decode cX1_checkArgument 8 = .ok (.invokespecial 143, 3) := dk_183 0 143 (dk_at dksX1_checkArgument_0 8 rfl rfl)
theorem dX1_checkArgument_11 : decode cX1_checkArgument 11 = .ok (.athrow, 1) := dk_191 (dk_at dksX1_checkArgument_0 11 rfl rfl)
theorem dX1_checkArgument_12 : decode cX1_checkArgument 12 = .ok (.return_, 1) := dk_177 (dk_at dksX1_checkArgument_0 12 rfl rfl)
def dkwX1_checkFresh_0 : List UInt8 := [42, 180, 0, 153, 154, 0, 7, 4, 167, 0, 4, 3, 184, 0, 156, 177]
abbrev dktX1_checkFresh_0 : List UInt8 := dkwX1_checkFresh_0 ++ []
theorem dksX1_checkFresh_0 : cX1_checkFresh.data.toList.drop 0 = dktX1_checkFresh_0 := by decide +kernel
theorem dX1_checkFresh_0 : decode cX1_checkFresh 0 = .ok (.aload_n 0, 1) := dk_42 (dk_at dksX1_checkFresh_0 0 rfl rfl)
theorem dX1_checkFresh_1 : decode cX1_checkFresh 1 = .ok (.getfield 153, 3) := dk_180 0 153 (dk_at dksX1_checkFresh_0 1 rfl rfl)
theorem dX1_checkFresh_4 : decode cX1_checkFresh 4 = .ok (.ifCond .ne 7, 3) := dk_154 0 7 (dk_at dksX1_checkFresh_0 4 rfl rfl)
theorem dX1_checkFresh_7 : decode cX1_checkFresh 7 = .ok (.iconst 1, 1) := dk_4 (dk_at dksX1_checkFresh_0 7 rfl rfl)
theorem dX1_checkFresh_8 : decode cX1_checkFresh 8 = .ok (.goto 4, 3) := dk_167 0 4 (dk_at dksX1_checkFresh_0 8 rfl rfl)
theorem dX1_checkFresh_11 : decode cX1_checkFresh 11 = .ok (.iconst 0, 1) := dk_3 (dk_at dksX1_checkFresh_0 11 rfl rfl)
theorem dX1_checkFresh_12 : decode cX1_checkFresh 12 = .ok (.invokestatic 156, 3) := dk_184 0 156 (dk_at dksX1_checkFresh_0 12 rfl rfl)
theorem dX1_checkFresh_15 : decode cX1_checkFresh 15 = .ok (.return_, 1) := dk_177 (dk_at dksX1_checkFresh_0 15 rfl rfl)
def dkwX1_checkState_0 : List UInt8 := [26, 154, 0, 11, 187, 0, 144, 89, 183, 0, 146, 191, 177]
abbrev dktX1_checkState_0 : List UInt8 := dkwX1_checkState_0 ++ []
theorem dksX1_checkState_0 : cX1_checkState.data.toList.drop 0 = dktX1_checkState_0 := by decide +kernel
theorem dX1_checkState_0 : decode cX1_checkState 0 = .ok (.iload_n 0, 1) := dk_26 (dk_at dksX1_checkState_0 0 rfl rfl)
theorem dX1_checkState_1 : decode cX1_checkState 1 = .ok (.ifCond .ne 11, 3) := dk_154 0 11 (dk_at dksX1_checkState_0 1 rfl rfl)
theorem dX1_checkState_4 : decode cX1_checkState 4 = .ok (.new 144, 3) := dk_187 0 144 (dk_at dksX1_checkState_0 4 rfl rfl)
theorem dX1_checkState_7 : decode cX1_checkState 7 = .ok (.dup, 1) := dk_89 (dk_at dksX1_checkState_0 7 rfl rfl)
theorem dX1_checkState_8 : decode cX1_checkState 8 = .ok (.invokespecial 146, 3) := dk_183 0 146 (dk_at dksX1_checkState_0 8 rfl rfl)
theorem dX1_checkState_11 : decode cX1_checkState 11 = .ok (.athrow, 1) := dk_191 (dk_at dksX1_checkState_0 11 rfl rfl)
theorem dX1_checkState_12 : decode cX1_checkState 12 = .ok (.return_, 1) := dk_177 (dk_at dksX1_checkState_0 12 rfl rfl)
def dkwX1_setRegister_1 : List UInt8 := [79, 42, 180, 0, 50, 27, 28, 79, 29, 172]
abbrev dktX1_setRegister_1 : List UInt8 := dkwX1_setRegister_1 ++ []
def dkwX1_setRegister_0 : List UInt8 := [27, 184, 2, 63, 184, 2, 66, 42, 182, 2, 69, 42, 180, 0, 20, 27, 46, 62, 42, 180, 0, 20, 27, 28]
abbrev dktX1_setRegister_0 : List UInt8 := dkwX1_setRegister_0 ++ dktX1_setRegister_1
theorem dksX1_setRegister_0 : cX1_setRegister.data.toList.drop 0 = dktX1_setRegister_0 := by decide +kernel
theorem dksX1_setRegister_1 : cX1_setRegister.data.toList.drop 24 = dktX1_setRegister_1 := dk_seg dksX1_setRegister_0 24 rfl rfl
theorem dX1_setRegister_0 : decode cX1_setRegister 0 = .ok (.iload_n 1, 1) := dk_27 (dk_at dksX1_setRegister_0 0 rfl rfl)
theorem dX1_setRegister_1 : decode cX1_setRegister 1 = .ok (.invokestatic 575, 3) := dk_184 2 63 (dk_at dksX1_setRegister_0 1 rfl rfl)
theorem dX1_setRegister_4 : decode cX1_setRegister 4 = .ok (.invokestatic 578, 3) := dk_184 2 66 (dk_at dksX1_setRegister_0 4 rfl rfl)
theorem dX1_setRegister_7 : decode cX1_setRegister 7 = .ok (.aload_n 0, 1) := dk_42 (dk_at dksX1_setRegister_0 7 rfl rfl)
theorem dX1_setRegister_8 : decode cX1_setRegister 8 = .ok (.invokevirtual 581, 3) := dk_182 2 69 (dk_at dksX1_setRegister_0 8 rfl rfl)
theorem dX1_setRegister_11 : decode cX1_setRegister 11 = .ok (.aload_n 0, 1) := dk_42 (dk_at dksX1_setRegister_0 11 rfl rfl)
theorem dX1_setRegister_12 : decode cX1_setRegister 12 = .ok (.getfield 20, 3) := dk_180 0 20 (dk_at dksX1_setRegister_0 12 rfl rfl)
theorem dX1_setRegister_15 : decode cX1_setRegister 15 = .ok (.iload_n 1, 1) := dk_27 (dk_at dksX1_setRegister_0 15 rfl rfl)
theorem dX1_setRegister_16 : decode cX1_setRegister 16 = .ok (.iaload, 1) := dk_46 (dk_at dksX1_setRegister_0 16 rfl rfl)
theorem dX1_setRegister_17 : decode cX1_setRegister 17 = .ok (.istore_n 3, 1) := dk_62 (dk_at dksX1_setRegister_0 17 rfl rfl)
theorem dX1_setRegister_18 : decode cX1_setRegister 18 = .ok (.aload_n 0, 1) := dk_42 (dk_at dksX1_setRegister_0 18 rfl rfl)
theorem dX1_setRegister_19 : decode cX1_setRegister 19 = .ok (.getfield 20, 3) := dk_180 0 20 (dk_at dksX1_setRegister_0 19 rfl rfl)
theorem dX1_setRegister_22 : decode cX1_setRegister 22 = .ok (.iload_n 1, 1) := dk_27 (dk_at dksX1_setRegister_0 22 rfl rfl)
theorem dX1_setRegister_23 : decode cX1_setRegister 23 = .ok (.iload_n 2, 1) := dk_28 (dk_at dksX1_setRegister_0 23 rfl rfl)
theorem dX1_setRegister_24 : decode cX1_setRegister 24 = .ok (.iastore, 1) := dk_79 (dk_at dksX1_setRegister_1 0 rfl rfl)
theorem dX1_setRegister_25 : decode cX1_setRegister 25 = .ok (.aload_n 0, 1) := dk_42 (dk_at dksX1_setRegister_1 1 rfl rfl)
theorem dX1_setRegister_26 : decode cX1_setRegister 26 = .ok (.getfield 50, 3) := dk_180 0 50 (dk_at dksX1_setRegister_1 2 rfl rfl)
theorem dX1_setRegister_29 : decode cX1_setRegister 29 = .ok (.iload_n 1, 1) := dk_27 (dk_at dksX1_setRegister_1 5 rfl rfl)
theorem dX1_setRegister_30 : decode cX1_setRegister 30 = .ok (.iload_n 2, 1) := dk_28 (dk_at dksX1_setRegister_1 6 rfl rfl)
theorem dX1_setRegister_31 : decode cX1_setRegister 31 = .ok (.iastore, 1) := dk_79 (dk_at dksX1_setRegister_1 7 rfl rfl)
theorem dX1_setRegister_32 : decode cX1_setRegister 32 = .ok (.iload_n 3, 1) := dk_29 (dk_at dksX1_setRegister_1 8 rfl rfl)
theorem dX1_setRegister_33 : decode cX1_setRegister 33 = .ok (.ireturn, 1) := dk_172 (dk_at dksX1_setRegister_1 9 rfl rfl)
def dkwX1_setWord_1 : List UInt8 := [79, 42, 180, 0, 27, 27, 28, 79, 29, 172]
abbrev dktX1_setWord_1 : List UInt8 := dkwX1_setWord_1 ++ []
def dkwX1_setWord_0 : List UInt8 := [27, 184, 0, 253, 184, 2, 66, 42, 182, 2, 69, 42, 180, 0, 24, 27, 46, 62, 42, 180, 0, 24, 27, 28]
abbrev dktX1_setWord_0 : List UInt8 := dkwX1_setWord_0 ++ dktX1_setWord_1
theorem dksX1_setWord_0 : cX1_setWord.data.toList.drop 0 = dktX1_setWord_0 := by decide +kernel
theorem dksX1_setWord_1 : cX1_setWord.data.toList.drop 24 = dktX1_setWord_1 := dk_seg dksX1_setWord_0 24 rfl rfl
theorem dX1_setWord_0 : decode cX1_setWord 0 = .ok (.iload_n 1, 1) := dk_27 (dk_at dksX1_setWord_0 0 rfl rfl)
theorem dX1_setWord_1 : decode cX1_setWord 1 = .ok (.invokestatic 253, 3) := dk_184 0 253 (dk_at dksX1_setWord_0 1 rfl rfl)
theorem dX1_setWord_4 : decode cX1_setWord 4 = .ok (.invokestatic 578, 3) := dk_184 2 66 (dk_at dksX1_setWord_0 4 rfl rfl)
theorem dX1_setWord_7 : decode cX1_setWord 7 = .ok (.aload_n 0, 1) := dk_42 (dk_at dksX1_setWord_0 7 rfl rfl)
theorem dX1_setWord_8 : decode cX1_setWord 8 = .ok (.invokevirtual 581, 3) := dk_182 2 69 (dk_at dksX1_setWord_0 8 rfl rfl)
theorem dX1_setWord_11 : decode cX1_setWord 11 = .ok (.aload_n 0, 1) := dk_42 (dk_at dksX1_setWord_0 11 rfl rfl)
theorem dX1_setWord_12 : decode cX1_setWord 12 = .ok (.getfield 24, 3) := dk_180 0 24 (dk_at dksX1_setWord_0 12 rfl rfl)
theorem dX1_setWord_15 : decode cX1_setWord 15 = .ok (.iload_n 1, 1) := dk_27 (dk_at dksX1_setWord_0 15 rfl rfl)
theorem dX1_setWord_16 : decode cX1_setWord 16 = .ok (.iaload, 1) := dk_46 (dk_at dksX1_setWord_0 16 rfl rfl)
theorem dX1_setWord_17 : decode cX1_setWord 17 = .ok (.istore_n 3, 1) := dk_62 (dk_at dksX1_setWord_0 17 rfl rfl)
theorem dX1_setWord_18 : decode cX1_setWord 18 = .ok (.aload_n 0, 1) := dk_42 (dk_at dksX1_setWord_0 18 rfl rfl)
theorem dX1_setWord_19 : decode cX1_setWord 19 = .ok (.getfield 24, 3) := dk_180 0 24 (dk_at dksX1_setWord_0 19 rfl rfl)
theorem dX1_setWord_22 : decode cX1_setWord 22 = .ok (.iload_n 1, 1) := dk_27 (dk_at dksX1_setWord_0 22 rfl rfl)
theorem dX1_setWord_23 : decode cX1_setWord 23 = .ok (.iload_n 2, 1) := dk_28 (dk_at dksX1_setWord_0 23 rfl rfl)
theorem dX1_setWord_24 : decode cX1_setWord 24 = .ok (.iastore, 1) := dk_79 (dk_at dksX1_setWord_1 0 rfl rfl)
theorem dX1_setWord_25 : decode cX1_setWord 25 = .ok (.aload_n 0, 1) := dk_42 (dk_at dksX1_setWord_1 1 rfl rfl)
theorem dX1_setWord_26 : decode cX1_setWord 26 = .ok (.getfield 27, 3) := dk_180 0 27 (dk_at dksX1_setWord_1 2 rfl rfl)
theorem dX1_setWord_29 : decode cX1_setWord 29 = .ok (.iload_n 1, 1) := dk_27 (dk_at dksX1_setWord_1 5 rfl rfl)
theorem dX1_setWord_30 : decode cX1_setWord 30 = .ok (.iload_n 2, 1) := dk_28 (dk_at dksX1_setWord_1 6 rfl rfl)
theorem dX1_setWord_31 : decode cX1_setWord 31 = .ok (.iastore, 1) := dk_79 (dk_at dksX1_setWord_1 7 rfl rfl)
theorem dX1_setWord_32 : decode cX1_setWord 32 = .ok (.iload_n 3, 1) := dk_29 (dk_at dksX1_setWord_1 8 rfl rfl)
theorem dX1_setWord_33 : decode cX1_setWord 33 = .ok (.ireturn, 1) := dk_172 (dk_at dksX1_setWord_1 9 rfl rfl)
def dkwX1_setWidth_1 : List UInt8 := [172]
abbrev dktX1_setWidth_1 : List UInt8 := dkwX1_setWidth_1 ++ []
def dkwX1_setWidth_0 : List UInt8 := [27, 4, 7, 184, 0, 3, 184, 2, 66, 42, 182, 2, 69, 42, 180, 0, 37, 61, 42, 27, 181, 0, 37, 28]
abbrev dktX1_setWidth_0 : List UInt8 := dkwX1_setWidth_0 ++ dktX1_setWidth_1
theorem dksX1_setWidth_0 : cX1_setWidth.data.toList.drop 0 = dktX1_setWidth_0 := by decide +kernel
theorem dksX1_setWidth_1 : cX1_setWidth.data.toList.drop 24 = dktX1_setWidth_1 := dk_seg dksX1_setWidth_0 24 rfl rfl
theorem dX1_setWidth_0 : decode cX1_setWidth 0 = .ok (.iload_n 1, 1) := dk_27 (dk_at dksX1_setWidth_0 0 rfl rfl)
theorem dX1_setWidth_1 : decode cX1_setWidth 1 = .ok (.iconst 1, 1) := dk_4 (dk_at dksX1_setWidth_0 1 rfl rfl)
theorem dX1_setWidth_2 : decode cX1_setWidth 2 = .ok (.iconst 4, 1) := dk_7 (dk_at dksX1_setWidth_0 2 rfl rfl)
theorem dX1_setWidth_3 : decode cX1_setWidth 3 = .ok (.invokestatic 3, 3) := dk_184 0 3 (dk_at dksX1_setWidth_0 3 rfl rfl)
theorem dX1_setWidth_6 : decode cX1_setWidth 6 = .ok (.invokestatic 578, 3) := dk_184 2 66 (dk_at dksX1_setWidth_0 6 rfl rfl)
theorem dX1_setWidth_9 : decode cX1_setWidth 9 = .ok (.aload_n 0, 1) := dk_42 (dk_at dksX1_setWidth_0 9 rfl rfl)
theorem dX1_setWidth_10 : decode cX1_setWidth 10 = .ok (.invokevirtual 581, 3) := dk_182 2 69 (dk_at dksX1_setWidth_0 10 rfl rfl)
theorem dX1_setWidth_13 : decode cX1_setWidth 13 = .ok (.aload_n 0, 1) := dk_42 (dk_at dksX1_setWidth_0 13 rfl rfl)
theorem dX1_setWidth_14 : decode cX1_setWidth 14 = .ok (.getfield 37, 3) := dk_180 0 37 (dk_at dksX1_setWidth_0 14 rfl rfl)
theorem dX1_setWidth_17 : decode cX1_setWidth 17 = .ok (.istore_n 2, 1) := dk_61 (dk_at dksX1_setWidth_0 17 rfl rfl)
theorem dX1_setWidth_18 : decode cX1_setWidth 18 = .ok (.aload_n 0, 1) := dk_42 (dk_at dksX1_setWidth_0 18 rfl rfl)
theorem dX1_setWidth_19 : decode cX1_setWidth 19 = .ok (.iload_n 1, 1) := dk_27 (dk_at dksX1_setWidth_0 19 rfl rfl)
theorem dX1_setWidth_20 : decode cX1_setWidth 20 = .ok (.putfield 37, 3) := dk_181 0 37 (dk_at dksX1_setWidth_0 20 rfl rfl)
theorem dX1_setWidth_23 : decode cX1_setWidth 23 = .ok (.iload_n 2, 1) := dk_28 (dk_at dksX1_setWidth_0 23 rfl rfl)
theorem dX1_setWidth_24 : decode cX1_setWidth 24 = .ok (.ireturn, 1) := dk_172 (dk_at dksX1_setWidth_1 0 rfl rfl)
def dkwX1_setBuffer_1 : List UInt8 := [28, 172]
abbrev dktX1_setBuffer_1 : List UInt8 := dkwX1_setBuffer_1 ++ []
def dkwX1_setBuffer_0 : List UInt8 := [27, 7, 16, 16, 184, 0, 3, 184, 2, 66, 42, 182, 2, 69, 42, 180, 0, 41, 61, 42, 27, 181, 0, 41]
abbrev dktX1_setBuffer_0 : List UInt8 := dkwX1_setBuffer_0 ++ dktX1_setBuffer_1
theorem dksX1_setBuffer_0 : cX1_setBuffer.data.toList.drop 0 = dktX1_setBuffer_0 := by decide +kernel
theorem dksX1_setBuffer_1 : cX1_setBuffer.data.toList.drop 24 = dktX1_setBuffer_1 := dk_seg dksX1_setBuffer_0 24 rfl rfl
theorem dX1_setBuffer_0 : decode cX1_setBuffer 0 = .ok (.iload_n 1, 1) := dk_27 (dk_at dksX1_setBuffer_0 0 rfl rfl)
theorem dX1_setBuffer_1 : decode cX1_setBuffer 1 = .ok (.iconst 4, 1) := dk_7 (dk_at dksX1_setBuffer_0 1 rfl rfl)
theorem dX1_setBuffer_2 : decode cX1_setBuffer 2 = .ok (.bipush 16, 2) := dk_16 16 (dk_at dksX1_setBuffer_0 2 rfl rfl)
theorem dX1_setBuffer_4 : decode cX1_setBuffer 4 = .ok (.invokestatic 3, 3) := dk_184 0 3 (dk_at dksX1_setBuffer_0 4 rfl rfl)
theorem dX1_setBuffer_7 : decode cX1_setBuffer 7 = .ok (.invokestatic 578, 3) := dk_184 2 66 (dk_at dksX1_setBuffer_0 7 rfl rfl)
theorem dX1_setBuffer_10 : decode cX1_setBuffer 10 = .ok (.aload_n 0, 1) := dk_42 (dk_at dksX1_setBuffer_0 10 rfl rfl)
theorem dX1_setBuffer_11 : decode cX1_setBuffer 11 = .ok (.invokevirtual 581, 3) := dk_182 2 69 (dk_at dksX1_setBuffer_0 11 rfl rfl)
theorem dX1_setBuffer_14 : decode cX1_setBuffer 14 = .ok (.aload_n 0, 1) := dk_42 (dk_at dksX1_setBuffer_0 14 rfl rfl)
theorem dX1_setBuffer_15 : decode cX1_setBuffer 15 = .ok (.getfield 41, 3) := dk_180 0 41 (dk_at dksX1_setBuffer_0 15 rfl rfl)
theorem dX1_setBuffer_18 : decode cX1_setBuffer 18 = .ok (.istore_n 2, 1) := dk_61 (dk_at dksX1_setBuffer_0 18 rfl rfl)
theorem dX1_setBuffer_19 : decode cX1_setBuffer 19 = .ok (.aload_n 0, 1) := dk_42 (dk_at dksX1_setBuffer_0 19 rfl rfl)
theorem dX1_setBuffer_20 : decode cX1_setBuffer 20 = .ok (.iload_n 1, 1) := dk_27 (dk_at dksX1_setBuffer_0 20 rfl rfl)
theorem dX1_setBuffer_21 : decode cX1_setBuffer 21 = .ok (.putfield 41, 3) := dk_181 0 41 (dk_at dksX1_setBuffer_0 21 rfl rfl)
theorem dX1_setBuffer_24 : decode cX1_setBuffer 24 = .ok (.iload_n 2, 1) := dk_28 (dk_at dksX1_setBuffer_1 0 rfl rfl)
theorem dX1_setBuffer_25 : decode cX1_setBuffer 25 = .ok (.ireturn, 1) := dk_172 (dk_at dksX1_setBuffer_1 1 rfl rfl)
def dkwX1_setQueue_1 : List UInt8 := [28, 172]
abbrev dktX1_setQueue_1 : List UInt8 := dkwX1_setQueue_1 ++ []
def dkwX1_setQueue_0 : List UInt8 := [27, 5, 16, 8, 184, 0, 3, 184, 2, 66, 42, 182, 2, 69, 42, 180, 0, 44, 61, 42, 27, 181, 0, 44]
abbrev dktX1_setQueue_0 : List UInt8 := dkwX1_setQueue_0 ++ dktX1_setQueue_1
theorem dksX1_setQueue_0 : cX1_setQueue.data.toList.drop 0 = dktX1_setQueue_0 := by decide +kernel
theorem dksX1_setQueue_1 : cX1_setQueue.data.toList.drop 24 = dktX1_setQueue_1 := dk_seg dksX1_setQueue_0 24 rfl rfl
theorem dX1_setQueue_0 : decode cX1_setQueue 0 = .ok (.iload_n 1, 1) := dk_27 (dk_at dksX1_setQueue_0 0 rfl rfl)
theorem dX1_setQueue_1 : decode cX1_setQueue 1 = .ok (.iconst 2, 1) := dk_5 (dk_at dksX1_setQueue_0 1 rfl rfl)
theorem dX1_setQueue_2 : decode cX1_setQueue 2 = .ok (.bipush 8, 2) := dk_16 8 (dk_at dksX1_setQueue_0 2 rfl rfl)
theorem dX1_setQueue_4 : decode cX1_setQueue 4 = .ok (.invokestatic 3, 3) := dk_184 0 3 (dk_at dksX1_setQueue_0 4 rfl rfl)
theorem dX1_setQueue_7 : decode cX1_setQueue 7 = .ok (.invokestatic 578, 3) := dk_184 2 66 (dk_at dksX1_setQueue_0 7 rfl rfl)
theorem dX1_setQueue_10 : decode cX1_setQueue 10 = .ok (.aload_n 0, 1) := dk_42 (dk_at dksX1_setQueue_0 10 rfl rfl)
theorem dX1_setQueue_11 : decode cX1_setQueue 11 = .ok (.invokevirtual 581, 3) := dk_182 2 69 (dk_at dksX1_setQueue_0 11 rfl rfl)
theorem dX1_setQueue_14 : decode cX1_setQueue 14 = .ok (.aload_n 0, 1) := dk_42 (dk_at dksX1_setQueue_0 14 rfl rfl)
theorem dX1_setQueue_15 : decode cX1_setQueue 15 = .ok (.getfield 44, 3) := dk_180 0 44 (dk_at dksX1_setQueue_0 15 rfl rfl)
theorem dX1_setQueue_18 : decode cX1_setQueue 18 = .ok (.istore_n 2, 1) := dk_61 (dk_at dksX1_setQueue_0 18 rfl rfl)
theorem dX1_setQueue_19 : decode cX1_setQueue 19 = .ok (.aload_n 0, 1) := dk_42 (dk_at dksX1_setQueue_0 19 rfl rfl)
theorem dX1_setQueue_20 : decode cX1_setQueue 20 = .ok (.iload_n 1, 1) := dk_27 (dk_at dksX1_setQueue_0 20 rfl rfl)
theorem dX1_setQueue_21 : decode cX1_setQueue 21 = .ok (.putfield 44, 3) := dk_181 0 44 (dk_at dksX1_setQueue_0 21 rfl rfl)
theorem dX1_setQueue_24 : decode cX1_setQueue 24 = .ok (.iload_n 2, 1) := dk_28 (dk_at dksX1_setQueue_1 0 rfl rfl)
theorem dX1_setQueue_25 : decode cX1_setQueue 25 = .ok (.ireturn, 1) := dk_172 (dk_at dksX1_setQueue_1 1 rfl rfl)
def dkwX1_setInner_1 : List UInt8 := [181, 0, 47, 42, 182, 0, 125, 28, 172]
abbrev dktX1_setInner_1 : List UInt8 := dkwX1_setInner_1 ++ []
def dkwX1_setInner_0 : List UInt8 := [27, 16, 10, 16, 24, 184, 0, 3, 184, 2, 66, 42, 182, 2, 69, 42, 180, 0, 47, 61, 42, 27]
abbrev dktX1_setInner_0 : List UInt8 := dkwX1_setInner_0 ++ dktX1_setInner_1
theorem dksX1_setInner_0 : cX1_setInner.data.toList.drop 0 = dktX1_setInner_0 := by decide +kernel
theorem dksX1_setInner_1 : cX1_setInner.data.toList.drop 22 = dktX1_setInner_1 := dk_seg dksX1_setInner_0 22 rfl rfl
theorem dX1_setInner_0 : decode cX1_setInner 0 = .ok (.iload_n 1, 1) := dk_27 (dk_at dksX1_setInner_0 0 rfl rfl)
theorem dX1_setInner_1 : decode cX1_setInner 1 = .ok (.bipush 10, 2) := dk_16 10 (dk_at dksX1_setInner_0 1 rfl rfl)
theorem dX1_setInner_3 : decode cX1_setInner 3 = .ok (.bipush 24, 2) := dk_16 24 (dk_at dksX1_setInner_0 3 rfl rfl)
theorem dX1_setInner_5 : decode cX1_setInner 5 = .ok (.invokestatic 3, 3) := dk_184 0 3 (dk_at dksX1_setInner_0 5 rfl rfl)
theorem dX1_setInner_8 : decode cX1_setInner 8 = .ok (.invokestatic 578, 3) := dk_184 2 66 (dk_at dksX1_setInner_0 8 rfl rfl)
theorem dX1_setInner_11 : decode cX1_setInner 11 = .ok (.aload_n 0, 1) := dk_42 (dk_at dksX1_setInner_0 11 rfl rfl)
theorem dX1_setInner_12 : decode cX1_setInner 12 = .ok (.invokevirtual 581, 3) := dk_182 2 69 (dk_at dksX1_setInner_0 12 rfl rfl)
theorem dX1_setInner_15 : decode cX1_setInner 15 = .ok (.aload_n 0, 1) := dk_42 (dk_at dksX1_setInner_0 15 rfl rfl)
theorem dX1_setInner_16 : decode cX1_setInner 16 = .ok (.getfield 47, 3) := dk_180 0 47 (dk_at dksX1_setInner_0 16 rfl rfl)
theorem dX1_setInner_19 : decode cX1_setInner 19 = .ok (.istore_n 2, 1) := dk_61 (dk_at dksX1_setInner_0 19 rfl rfl)
theorem dX1_setInner_20 : decode cX1_setInner 20 = .ok (.aload_n 0, 1) := dk_42 (dk_at dksX1_setInner_0 20 rfl rfl)
theorem dX1_setInner_21 : decode cX1_setInner 21 = .ok (.iload_n 1, 1) := dk_27 (dk_at dksX1_setInner_0 21 rfl rfl)
theorem dX1_setInner_22 : decode cX1_setInner 22 = .ok (.putfield 47, 3) := dk_181 0 47 (dk_at dksX1_setInner_1 0 rfl rfl)
theorem dX1_setInner_25 : decode cX1_setInner 25 = .ok (.aload_n 0, 1) := dk_42 (dk_at dksX1_setInner_1 3 rfl rfl)
theorem dX1_setInner_26 : decode cX1_setInner 26 = .ok (.invokevirtual 125, 3) := dk_182 0 125 (dk_at dksX1_setInner_1 4 rfl rfl)
theorem dX1_setInner_29 : decode cX1_setInner 29 = .ok (.iload_n 2, 1) := dk_28 (dk_at dksX1_setInner_1 7 rfl rfl)
theorem dX1_setInner_30 : decode cX1_setInner 30 = .ok (.ireturn, 1) := dk_172 (dk_at dksX1_setInner_1 8 rfl rfl)
def dkwX1_setHandlers_2 : List UInt8 := [180, 1, 116, 96, 62, 42, 180, 0, 33, 27, 181, 2, 75, 42, 180, 0, 33, 28, 181, 1, 116, 29, 172]
abbrev dktX1_setHandlers_2 : List UInt8 := dkwX1_setHandlers_2 ++ []
def dkwX1_setHandlers_1 : List UInt8 := [3, 184, 2, 66, 42, 182, 2, 69, 16, 64, 42, 180, 0, 33, 180, 2, 75, 104, 42, 180, 0, 33]
abbrev dktX1_setHandlers_1 : List UInt8 := dkwX1_setHandlers_1 ++ dktX1_setHandlers_2
def dkwX1_setHandlers_0 : List UInt8 := [27, 2, 16, 63, 184, 0, 3, 153, 0, 17, 28, 2, 16, 63, 184, 0, 3, 153, 0, 7, 4, 167, 0, 4]
abbrev dktX1_setHandlers_0 : List UInt8 := dkwX1_setHandlers_0 ++ dktX1_setHandlers_1
theorem dksX1_setHandlers_0 : cX1_setHandlers.data.toList.drop 0 = dktX1_setHandlers_0 := by decide +kernel
theorem dksX1_setHandlers_1 : cX1_setHandlers.data.toList.drop 24 = dktX1_setHandlers_1 := dk_seg dksX1_setHandlers_0 24 rfl rfl
theorem dksX1_setHandlers_2 : cX1_setHandlers.data.toList.drop 46 = dktX1_setHandlers_2 := dk_seg dksX1_setHandlers_1 22 rfl rfl
theorem dX1_setHandlers_0 : decode cX1_setHandlers 0 = .ok (.iload_n 1, 1) := dk_27 (dk_at dksX1_setHandlers_0 0 rfl rfl)
theorem dX1_setHandlers_1 : decode cX1_setHandlers 1 = .ok (.iconst (-1), 1) := dk_2 (dk_at dksX1_setHandlers_0 1 rfl rfl)
theorem dX1_setHandlers_2 : decode cX1_setHandlers 2 = .ok (.bipush 63, 2) := dk_16 63 (dk_at dksX1_setHandlers_0 2 rfl rfl)
theorem dX1_setHandlers_4 : decode cX1_setHandlers 4 = .ok (.invokestatic 3, 3) := dk_184 0 3 (dk_at dksX1_setHandlers_0 4 rfl rfl)
theorem dX1_setHandlers_7 : decode cX1_setHandlers 7 = .ok (.ifCond .eq 17, 3) := dk_153 0 17 (dk_at dksX1_setHandlers_0 7 rfl rfl)
theorem dX1_setHandlers_10 : decode cX1_setHandlers 10 = .ok (.iload_n 2, 1) := dk_28 (dk_at dksX1_setHandlers_0 10 rfl rfl)
theorem dX1_setHandlers_11 : decode cX1_setHandlers 11 = .ok (.iconst (-1), 1) := dk_2 (dk_at dksX1_setHandlers_0 11 rfl rfl)
theorem dX1_setHandlers_12 : decode cX1_setHandlers 12 = .ok (.bipush 63, 2) := dk_16 63 (dk_at dksX1_setHandlers_0 12 rfl rfl)
theorem dX1_setHandlers_14 : decode cX1_setHandlers 14 = .ok (.invokestatic 3, 3) := dk_184 0 3 (dk_at dksX1_setHandlers_0 14 rfl rfl)
theorem dX1_setHandlers_17 : decode cX1_setHandlers 17 = .ok (.ifCond .eq 7, 3) := dk_153 0 7 (dk_at dksX1_setHandlers_0 17 rfl rfl)
theorem dX1_setHandlers_20 : decode cX1_setHandlers 20 = .ok (.iconst 1, 1) := dk_4 (dk_at dksX1_setHandlers_0 20 rfl rfl)
theorem dX1_setHandlers_21 : decode cX1_setHandlers 21 = .ok (.goto 4, 3) := dk_167 0 4 (dk_at dksX1_setHandlers_0 21 rfl rfl)
theorem dX1_setHandlers_24 : decode cX1_setHandlers 24 = .ok (.iconst 0, 1) := dk_3 (dk_at dksX1_setHandlers_1 0 rfl rfl)
theorem dX1_setHandlers_25 : decode cX1_setHandlers 25 = .ok (.invokestatic 578, 3) := dk_184 2 66 (dk_at dksX1_setHandlers_1 1 rfl rfl)
theorem dX1_setHandlers_28 : decode cX1_setHandlers 28 = .ok (.aload_n 0, 1) := dk_42 (dk_at dksX1_setHandlers_1 4 rfl rfl)
theorem dX1_setHandlers_29 : decode cX1_setHandlers 29 = .ok (.invokevirtual 581, 3) := dk_182 2 69 (dk_at dksX1_setHandlers_1 5 rfl rfl)
theorem dX1_setHandlers_32 : decode cX1_setHandlers 32 = .ok (.bipush 64, 2) := dk_16 64 (dk_at dksX1_setHandlers_1 8 rfl rfl)
theorem dX1_setHandlers_34 : decode cX1_setHandlers 34 = .ok (.aload_n 0, 1) := dk_42 (dk_at dksX1_setHandlers_1 10 rfl rfl)
theorem dX1_setHandlers_35 : decode cX1_setHandlers 35 = .ok (.getfield 33, 3) := dk_180 0 33 (dk_at dksX1_setHandlers_1 11 rfl rfl)
theorem dX1_setHandlers_38 : decode cX1_setHandlers 38 = .ok (.getfield 587, 3) := dk_180 2 75 (dk_at dksX1_setHandlers_1 14 rfl rfl)
theorem dX1_setHandlers_41 : decode cX1_setHandlers 41 = .ok (.imul, 1) := dk_104 (dk_at dksX1_setHandlers_1 17 rfl rfl)
theorem dX1_setHandlers_42 : decode cX1_setHandlers 42 = .ok (.aload_n 0, 1) := dk_42 (dk_at dksX1_setHandlers_1 18 rfl rfl)
theorem dX1_setHandlers_43 : decode cX1_setHandlers 43 = .ok (.getfield 33, 3) := dk_180 0 33 (dk_at dksX1_setHandlers_1 19 rfl rfl)
theorem dX1_setHandlers_46 : decode cX1_setHandlers 46 = .ok (.getfield 372, 3) := dk_180 1 116 (dk_at dksX1_setHandlers_2 0 rfl rfl)
theorem dX1_setHandlers_49 : decode cX1_setHandlers 49 = .ok (.iadd, 1) := dk_96 (dk_at dksX1_setHandlers_2 3 rfl rfl)
theorem dX1_setHandlers_50 : decode cX1_setHandlers 50 = .ok (.istore_n 3, 1) := dk_62 (dk_at dksX1_setHandlers_2 4 rfl rfl)
theorem dX1_setHandlers_51 : decode cX1_setHandlers 51 = .ok (.aload_n 0, 1) := dk_42 (dk_at dksX1_setHandlers_2 5 rfl rfl)
theorem dX1_setHandlers_52 : decode cX1_setHandlers 52 = .ok (.getfield 33, 3) := dk_180 0 33 (dk_at dksX1_setHandlers_2 6 rfl rfl)
theorem dX1_setHandlers_55 : decode cX1_setHandlers 55 = .ok (.iload_n 1, 1) := dk_27 (dk_at dksX1_setHandlers_2 9 rfl rfl)
theorem dX1_setHandlers_56 : decode cX1_setHandlers 56 = .ok (.putfield 587, 3) := dk_181 2 75 (dk_at dksX1_setHandlers_2 10 rfl rfl)
theorem dX1_setHandlers_59 : decode cX1_setHandlers 59 = .ok (.aload_n 0, 1) := dk_42 (dk_at dksX1_setHandlers_2 13 rfl rfl)
theorem dX1_setHandlers_60 : decode cX1_setHandlers 60 = .ok (.getfield 33, 3) := dk_180 0 33 (dk_at dksX1_setHandlers_2 14 rfl rfl)
theorem dX1_setHandlers_63 : decode cX1_setHandlers 63 = .ok (.iload_n 2, 1) := dk_28 (dk_at dksX1_setHandlers_2 17 rfl rfl)
theorem dX1_setHandlers_64 : decode cX1_setHandlers 64 = .ok (.putfield 372, 3) := dk_181 1 116 (dk_at dksX1_setHandlers_2 18 rfl rfl)
theorem dX1_setHandlers_67 : decode cX1_setHandlers 67 = .ok (.iload_n 3, 1) := dk_29 (dk_at dksX1_setHandlers_2 21 rfl rfl)
theorem dX1_setHandlers_68 : decode cX1_setHandlers 68 = .ok (.ireturn, 1) := dk_172 (dk_at dksX1_setHandlers_2 22 rfl rfl)
def dkwX1_setTime_1 : List UInt8 := [3, 184, 2, 66, 42, 180, 0, 98, 27, 46, 62, 42, 180, 0, 98, 27, 28, 79, 29, 172]
abbrev dktX1_setTime_1 : List UInt8 := dkwX1_setTime_1 ++ []
def dkwX1_setTime_0 : List UInt8 := [27, 3, 16, 15, 184, 0, 3, 153, 0, 17, 28, 4, 16, 30, 184, 0, 3, 153, 0, 7, 4, 167, 0, 4]
abbrev dktX1_setTime_0 : List UInt8 := dkwX1_setTime_0 ++ dktX1_setTime_1
theorem dksX1_setTime_0 : cX1_setTime.data.toList.drop 0 = dktX1_setTime_0 := by decide +kernel
theorem dksX1_setTime_1 : cX1_setTime.data.toList.drop 24 = dktX1_setTime_1 := dk_seg dksX1_setTime_0 24 rfl rfl
theorem dX1_setTime_0 : decode cX1_setTime 0 = .ok (.iload_n 1, 1) := dk_27 (dk_at dksX1_setTime_0 0 rfl rfl)
theorem dX1_setTime_1 : decode cX1_setTime 1 = .ok (.iconst 0, 1) := dk_3 (dk_at dksX1_setTime_0 1 rfl rfl)
theorem dX1_setTime_2 : decode cX1_setTime 2 = .ok (.bipush 15, 2) := dk_16 15 (dk_at dksX1_setTime_0 2 rfl rfl)
theorem dX1_setTime_4 : decode cX1_setTime 4 = .ok (.invokestatic 3, 3) := dk_184 0 3 (dk_at dksX1_setTime_0 4 rfl rfl)
theorem dX1_setTime_7 : decode cX1_setTime 7 = .ok (.ifCond .eq 17, 3) := dk_153 0 17 (dk_at dksX1_setTime_0 7 rfl rfl)
theorem dX1_setTime_10 : decode cX1_setTime 10 = .ok (.iload_n 2, 1) := dk_28 (dk_at dksX1_setTime_0 10 rfl rfl)
theorem dX1_setTime_11 : decode cX1_setTime 11 = .ok (.iconst 1, 1) := dk_4 (dk_at dksX1_setTime_0 11 rfl rfl)
theorem dX1_setTime_12 : decode cX1_setTime 12 = .ok (.bipush 30, 2) := dk_16 30 (dk_at dksX1_setTime_0 12 rfl rfl)
theorem dX1_setTime_14 : decode cX1_setTime 14 = .ok (.invokestatic 3, 3) := dk_184 0 3 (dk_at dksX1_setTime_0 14 rfl rfl)
theorem dX1_setTime_17 : decode cX1_setTime 17 = .ok (.ifCond .eq 7, 3) := dk_153 0 7 (dk_at dksX1_setTime_0 17 rfl rfl)
theorem dX1_setTime_20 : decode cX1_setTime 20 = .ok (.iconst 1, 1) := dk_4 (dk_at dksX1_setTime_0 20 rfl rfl)
theorem dX1_setTime_21 : decode cX1_setTime 21 = .ok (.goto 4, 3) := dk_167 0 4 (dk_at dksX1_setTime_0 21 rfl rfl)
theorem dX1_setTime_24 : decode cX1_setTime 24 = .ok (.iconst 0, 1) := dk_3 (dk_at dksX1_setTime_1 0 rfl rfl)
theorem dX1_setTime_25 : decode cX1_setTime 25 = .ok (.invokestatic 578, 3) := dk_184 2 66 (dk_at dksX1_setTime_1 1 rfl rfl)
theorem dX1_setTime_28 : decode cX1_setTime 28 = .ok (.aload_n 0, 1) := dk_42 (dk_at dksX1_setTime_1 4 rfl rfl)
theorem dX1_setTime_29 : decode cX1_setTime 29 = .ok (.getfield 98, 3) := dk_180 0 98 (dk_at dksX1_setTime_1 5 rfl rfl)
theorem dX1_setTime_32 : decode cX1_setTime 32 = .ok (.iload_n 1, 1) := dk_27 (dk_at dksX1_setTime_1 8 rfl rfl)
theorem dX1_setTime_33 : decode cX1_setTime 33 = .ok (.iaload, 1) := dk_46 (dk_at dksX1_setTime_1 9 rfl rfl)
theorem dX1_setTime_34 : decode cX1_setTime 34 = .ok (.istore_n 3, 1) := dk_62 (dk_at dksX1_setTime_1 10 rfl rfl)
theorem dX1_setTime_35 : decode cX1_setTime 35 = .ok (.aload_n 0, 1) := dk_42 (dk_at dksX1_setTime_1 11 rfl rfl)
theorem dX1_setTime_36 : decode cX1_setTime 36 = .ok (.getfield 98, 3) := dk_180 0 98 (dk_at dksX1_setTime_1 12 rfl rfl)
theorem dX1_setTime_39 : decode cX1_setTime 39 = .ok (.iload_n 1, 1) := dk_27 (dk_at dksX1_setTime_1 15 rfl rfl)
theorem dX1_setTime_40 : decode cX1_setTime 40 = .ok (.iload_n 2, 1) := dk_28 (dk_at dksX1_setTime_1 16 rfl rfl)
theorem dX1_setTime_41 : decode cX1_setTime 41 = .ok (.iastore, 1) := dk_79 (dk_at dksX1_setTime_1 17 rfl rfl)
theorem dX1_setTime_42 : decode cX1_setTime 42 = .ok (.iload_n 3, 1) := dk_29 (dk_at dksX1_setTime_1 18 rfl rfl)
theorem dX1_setTime_43 : decode cX1_setTime 43 = .ok (.ireturn, 1) := dk_172 (dk_at dksX1_setTime_1 19 rfl rfl)
def dkwX1_run_3 : List UInt8 := [182, 2, 78, 132, 3, 1, 167, 255, 237, 42, 180, 0, 107, 185, 2, 31, 1, 0, 28, 100, 172]
abbrev dktX1_run_3 : List UInt8 := dkwX1_run_3 ++ []
def dkwX1_run_2 : List UInt8 := [180, 0, 107, 185, 2, 31, 1, 0, 61, 3, 62, 29, 27, 162, 0, 20, 42, 180, 1, 160, 154, 0, 13, 42]
abbrev dktX1_run_2 : List UInt8 := dkwX1_run_2 ++ dktX1_run_3
def dkwX1_run_1 : List UInt8 := [167, 0, 4, 3, 184, 2, 66, 42, 180, 1, 160, 154, 0, 7, 4, 167, 0, 4, 3, 184, 0, 156, 42]
abbrev dktX1_run_1 : List UInt8 := dkwX1_run_1 ++ dktX1_run_2
def dkwX1_run_0 : List UInt8 := [27, 4, 16, 60, 184, 0, 3, 153, 0, 19, 42, 180, 0, 153, 27, 96, 17, 1, 244, 163, 0, 7, 4]
abbrev dktX1_run_0 : List UInt8 := dkwX1_run_0 ++ dktX1_run_1
theorem dksX1_run_0 : cX1_run.data.toList.drop 0 = dktX1_run_0 := by decide +kernel
theorem dksX1_run_1 : cX1_run.data.toList.drop 23 = dktX1_run_1 := dk_seg dksX1_run_0 23 rfl rfl
theorem dksX1_run_2 : cX1_run.data.toList.drop 46 = dktX1_run_2 := dk_seg dksX1_run_1 23 rfl rfl
theorem dksX1_run_3 : cX1_run.data.toList.drop 70 = dktX1_run_3 := dk_seg dksX1_run_2 24 rfl rfl
theorem dX1_run_0 : decode cX1_run 0 = .ok (.iload_n 1, 1) := dk_27 (dk_at dksX1_run_0 0 rfl rfl)
theorem dX1_run_1 : decode cX1_run 1 = .ok (.iconst 1, 1) := dk_4 (dk_at dksX1_run_0 1 rfl rfl)
theorem dX1_run_2 : decode cX1_run 2 = .ok (.bipush 60, 2) := dk_16 60 (dk_at dksX1_run_0 2 rfl rfl)
theorem dX1_run_4 : decode cX1_run 4 = .ok (.invokestatic 3, 3) := dk_184 0 3 (dk_at dksX1_run_0 4 rfl rfl)
theorem dX1_run_7 : decode cX1_run 7 = .ok (.ifCond .eq 19, 3) := dk_153 0 19 (dk_at dksX1_run_0 7 rfl rfl)
theorem dX1_run_10 : decode cX1_run 10 = .ok (.aload_n 0, 1) := dk_42 (dk_at dksX1_run_0 10 rfl rfl)
theorem dX1_run_11 : decode cX1_run 11 = .ok (.getfield 153, 3) := dk_180 0 153 (dk_at dksX1_run_0 11 rfl rfl)
theorem dX1_run_14 : decode cX1_run 14 = .ok (.iload_n 1, 1) := dk_27 (dk_at dksX1_run_0 14 rfl rfl)
theorem dX1_run_15 : decode cX1_run 15 = .ok (.iadd, 1) := dk_96 (dk_at dksX1_run_0 15 rfl rfl)
theorem dX1_run_16 : decode cX1_run 16 = .ok (.sipush 500, 3) := dk_17 1 244 (dk_at dksX1_run_0 16 rfl rfl)
theorem dX1_run_19 : decode cX1_run 19 = .ok (.if_icmp .gt 7, 3) := dk_163 0 7 (dk_at dksX1_run_0 19 rfl rfl)
theorem dX1_run_22 : decode cX1_run 22 = .ok (.iconst 1, 1) := dk_4 (dk_at dksX1_run_0 22 rfl rfl)
theorem dX1_run_23 : decode cX1_run 23 = .ok (.goto 4, 3) := dk_167 0 4 (dk_at dksX1_run_1 0 rfl rfl)
theorem dX1_run_26 : decode cX1_run 26 = .ok (.iconst 0, 1) := dk_3 (dk_at dksX1_run_1 3 rfl rfl)
theorem dX1_run_27 : decode cX1_run 27 = .ok (.invokestatic 578, 3) := dk_184 2 66 (dk_at dksX1_run_1 4 rfl rfl)
theorem dX1_run_30 : decode cX1_run 30 = .ok (.aload_n 0, 1) := dk_42 (dk_at dksX1_run_1 7 rfl rfl)
theorem dX1_run_31 : decode cX1_run 31 = .ok (.getfield 416, 3) := dk_180 1 160 (dk_at dksX1_run_1 8 rfl rfl)
theorem dX1_run_34 : decode cX1_run 34 = .ok (.ifCond .ne 7, 3) := dk_154 0 7 (dk_at dksX1_run_1 11 rfl rfl)
theorem dX1_run_37 : decode cX1_run 37 = .ok (.iconst 1, 1) := dk_4 (dk_at dksX1_run_1 14 rfl rfl)
theorem dX1_run_38 : decode cX1_run 38 = .ok (.goto 4, 3) := dk_167 0 4 (dk_at dksX1_run_1 15 rfl rfl)
theorem dX1_run_41 : decode cX1_run 41 = .ok (.iconst 0, 1) := dk_3 (dk_at dksX1_run_1 18 rfl rfl)
theorem dX1_run_42 : decode cX1_run 42 = .ok (.invokestatic 156, 3) := dk_184 0 156 (dk_at dksX1_run_1 19 rfl rfl)
theorem dX1_run_45 : decode cX1_run 45 = .ok (.aload_n 0, 1) := dk_42 (dk_at dksX1_run_1 22 rfl rfl)
theorem dX1_run_46 : decode cX1_run 46 = .ok (.getfield 107, 3) := dk_180 0 107 (dk_at dksX1_run_2 0 rfl rfl)
theorem dX1_run_49 : decode cX1_run 49 = .ok (.invokeinterface 543 1, 5) := by decide +kernel
theorem dX1_run_54 : decode cX1_run 54 = .ok (.istore_n 2, 1) := dk_61 (dk_at dksX1_run_2 8 rfl rfl)
theorem dX1_run_55 : decode cX1_run 55 = .ok (.iconst 0, 1) := dk_3 (dk_at dksX1_run_2 9 rfl rfl)
theorem dX1_run_56 : decode cX1_run 56 = .ok (.istore_n 3, 1) := dk_62 (dk_at dksX1_run_2 10 rfl rfl)
theorem dX1_run_57 : decode cX1_run 57 = .ok (.iload_n 3, 1) := dk_29 (dk_at dksX1_run_2 11 rfl rfl)
theorem dX1_run_58 : decode cX1_run 58 = .ok (.iload_n 1, 1) := dk_27 (dk_at dksX1_run_2 12 rfl rfl)
theorem dX1_run_59 : decode cX1_run 59 = .ok (.if_icmp .ge 20, 3) := dk_162 0 20 (dk_at dksX1_run_2 13 rfl rfl)
theorem dX1_run_62 : decode cX1_run 62 = .ok (.aload_n 0, 1) := dk_42 (dk_at dksX1_run_2 16 rfl rfl)
theorem dX1_run_63 : decode cX1_run 63 = .ok (.getfield 416, 3) := dk_180 1 160 (dk_at dksX1_run_2 17 rfl rfl)
theorem dX1_run_66 : decode cX1_run 66 = .ok (.ifCond .ne 13, 3) := dk_154 0 13 (dk_at dksX1_run_2 20 rfl rfl)
theorem dX1_run_69 : decode cX1_run 69 = .ok (.aload_n 0, 1) := dk_42 (dk_at dksX1_run_2 23 rfl rfl)
theorem dX1_run_70 : decode cX1_run 70 = .ok (.invokevirtual 590, 3) := dk_182 2 78 (dk_at dksX1_run_3 0 rfl rfl)
theorem dX1_run_73 : decode cX1_run 73 = .ok (.iinc 3 1, 3) := dk_132 3 1 (dk_at dksX1_run_3 3 rfl rfl)
theorem dX1_run_76 : decode cX1_run 76 = .ok (.goto (-19), 3) := dk_167 255 237 (dk_at dksX1_run_3 6 rfl rfl)
theorem dX1_run_79 : decode cX1_run 79 = .ok (.aload_n 0, 1) := dk_42 (dk_at dksX1_run_3 9 rfl rfl)
theorem dX1_run_80 : decode cX1_run 80 = .ok (.getfield 107, 3) := dk_180 0 107 (dk_at dksX1_run_3 10 rfl rfl)
theorem dX1_run_83 : decode cX1_run 83 = .ok (.invokeinterface 543 1, 5) := by decide +kernel
theorem dX1_run_88 : decode cX1_run 88 = .ok (.iload_n 2, 1) := dk_28 (dk_at dksX1_run_3 18 rfl rfl)
theorem dX1_run_89 : decode cX1_run 89 = .ok (.isub, 1) := dk_100 (dk_at dksX1_run_3 19 rfl rfl)
theorem dX1_run_90 : decode cX1_run 90 = .ok (.ireturn, 1) := dk_172 (dk_at dksX1_run_3 20 rfl rfl)
def dkwX1_pass_1 : List UInt8 := [182, 2, 54, 42, 182, 2, 57, 42, 182, 2, 60, 177]
abbrev dktX1_pass_1 : List UInt8 := dkwX1_pass_1 ++ []
def dkwX1_pass_0 : List UInt8 := [42, 89, 180, 0, 153, 4, 96, 181, 0, 153, 42, 182, 2, 45, 42, 182, 2, 48, 42, 182, 2, 51, 42]
abbrev dktX1_pass_0 : List UInt8 := dkwX1_pass_0 ++ dktX1_pass_1
theorem dksX1_pass_0 : cX1_pass.data.toList.drop 0 = dktX1_pass_0 := by decide +kernel
theorem dksX1_pass_1 : cX1_pass.data.toList.drop 23 = dktX1_pass_1 := dk_seg dksX1_pass_0 23 rfl rfl
theorem dX1_pass_0 : decode cX1_pass 0 = .ok (.aload_n 0, 1) := dk_42 (dk_at dksX1_pass_0 0 rfl rfl)
theorem dX1_pass_1 : decode cX1_pass 1 = .ok (.dup, 1) := dk_89 (dk_at dksX1_pass_0 1 rfl rfl)
theorem dX1_pass_2 : decode cX1_pass 2 = .ok (.getfield 153, 3) := dk_180 0 153 (dk_at dksX1_pass_0 2 rfl rfl)
theorem dX1_pass_5 : decode cX1_pass 5 = .ok (.iconst 1, 1) := dk_4 (dk_at dksX1_pass_0 5 rfl rfl)
theorem dX1_pass_6 : decode cX1_pass 6 = .ok (.iadd, 1) := dk_96 (dk_at dksX1_pass_0 6 rfl rfl)
theorem dX1_pass_7 : decode cX1_pass 7 = .ok (.putfield 153, 3) := dk_181 0 153 (dk_at dksX1_pass_0 7 rfl rfl)
theorem dX1_pass_10 : decode cX1_pass 10 = .ok (.aload_n 0, 1) := dk_42 (dk_at dksX1_pass_0 10 rfl rfl)
theorem dX1_pass_11 : decode cX1_pass 11 = .ok (.invokevirtual 557, 3) := dk_182 2 45 (dk_at dksX1_pass_0 11 rfl rfl)
theorem dX1_pass_14 : decode cX1_pass 14 = .ok (.aload_n 0, 1) := dk_42 (dk_at dksX1_pass_0 14 rfl rfl)
theorem dX1_pass_15 : decode cX1_pass 15 = .ok (.invokevirtual 560, 3) := dk_182 2 48 (dk_at dksX1_pass_0 15 rfl rfl)
theorem dX1_pass_18 : decode cX1_pass 18 = .ok (.aload_n 0, 1) := dk_42 (dk_at dksX1_pass_0 18 rfl rfl)
theorem dX1_pass_19 : decode cX1_pass 19 = .ok (.invokevirtual 563, 3) := dk_182 2 51 (dk_at dksX1_pass_0 19 rfl rfl)
theorem dX1_pass_22 : decode cX1_pass 22 = .ok (.aload_n 0, 1) := dk_42 (dk_at dksX1_pass_0 22 rfl rfl)
theorem dX1_pass_23 : decode cX1_pass 23 = .ok (.invokevirtual 566, 3) := dk_182 2 54 (dk_at dksX1_pass_1 0 rfl rfl)
theorem dX1_pass_26 : decode cX1_pass 26 = .ok (.aload_n 0, 1) := dk_42 (dk_at dksX1_pass_1 3 rfl rfl)
theorem dX1_pass_27 : decode cX1_pass 27 = .ok (.invokevirtual 569, 3) := dk_182 2 57 (dk_at dksX1_pass_1 4 rfl rfl)
theorem dX1_pass_30 : decode cX1_pass 30 = .ok (.aload_n 0, 1) := dk_42 (dk_at dksX1_pass_1 7 rfl rfl)
theorem dX1_pass_31 : decode cX1_pass 31 = .ok (.invokevirtual 572, 3) := dk_182 2 60 (dk_at dksX1_pass_1 8 rfl rfl)
theorem dX1_pass_34 : decode cX1_pass 34 = .ok (.return_, 1) := dk_177 (dk_at dksX1_pass_1 11 rfl rfl)
def dkwX1_answer_3 : List UInt8 := [167, 255, 197, 177]
abbrev dktX1_answer_3 : List UInt8 := dkwX1_answer_3 ++ []
def dkwX1_answer_2 : List UInt8 := [180, 0, 101, 44, 180, 0, 182, 7, 112, 44, 180, 0, 182, 79, 42, 44, 180, 0, 182, 182, 0, 185]
abbrev dktX1_answer_2 : List UInt8 := dkwX1_answer_2 ++ dktX1_answer_3
def dkwX1_answer_1 : List UInt8 := [192, 0, 174, 77, 44, 180, 0, 176, 42, 180, 0, 153, 160, 0, 32, 43, 185, 0, 179, 1, 0, 42]
abbrev dktX1_answer_1 : List UInt8 := dkwX1_answer_1 ++ dktX1_answer_2
def dkwX1_answer_0 : List UInt8 := [42, 180, 0, 104, 182, 0, 160, 76, 43, 185, 0, 164, 1, 0, 153, 0, 56, 43, 185, 0, 170, 1, 0]
abbrev dktX1_answer_0 : List UInt8 := dkwX1_answer_0 ++ dktX1_answer_1
theorem dksX1_answer_0 : cX1_answer.data.toList.drop 0 = dktX1_answer_0 := by decide +kernel
theorem dksX1_answer_1 : cX1_answer.data.toList.drop 23 = dktX1_answer_1 := dk_seg dksX1_answer_0 23 rfl rfl
theorem dksX1_answer_2 : cX1_answer.data.toList.drop 45 = dktX1_answer_2 := dk_seg dksX1_answer_1 22 rfl rfl
theorem dksX1_answer_3 : cX1_answer.data.toList.drop 67 = dktX1_answer_3 := dk_seg dksX1_answer_2 22 rfl rfl
theorem dX1_answer_0 : decode cX1_answer 0 = .ok (.aload_n 0, 1) := dk_42 (dk_at dksX1_answer_0 0 rfl rfl)
theorem dX1_answer_1 : decode cX1_answer 1 = .ok (.getfield 104, 3) := dk_180 0 104 (dk_at dksX1_answer_0 1 rfl rfl)
theorem dX1_answer_4 : decode cX1_answer 4 = .ok (.invokevirtual 160, 3) := dk_182 0 160 (dk_at dksX1_answer_0 4 rfl rfl)
theorem dX1_answer_7 : decode cX1_answer 7 = .ok (.astore_n 1, 1) := dk_76 (dk_at dksX1_answer_0 7 rfl rfl)
theorem dX1_answer_8 : decode cX1_answer 8 = .ok (.aload_n 1, 1) := dk_43 (dk_at dksX1_answer_0 8 rfl rfl)
theorem dX1_answer_9 : decode cX1_answer 9 = .ok (.invokeinterface 164 1, 5) := by decide +kernel
theorem dX1_answer_14 : decode cX1_answer 14 = .ok (.ifCond .eq 56, 3) := dk_153 0 56 (dk_at dksX1_answer_0 14 rfl rfl)
theorem dX1_answer_17 : decode cX1_answer 17 = .ok (.aload_n 1, 1) := dk_43 (dk_at dksX1_answer_0 17 rfl rfl)
theorem dX1_answer_18 : decode cX1_answer 18 = .ok (.invokeinterface 170 1, 5) := by decide +kernel
theorem dX1_answer_23 : decode cX1_answer 23 = .ok (.checkcast 174, 3) := dk_192 0 174 (dk_at dksX1_answer_1 0 rfl rfl)
theorem dX1_answer_26 : decode cX1_answer 26 = .ok (.astore_n 2, 1) := dk_77 (dk_at dksX1_answer_1 3 rfl rfl)
theorem dX1_answer_27 : decode cX1_answer 27 = .ok (.aload_n 2, 1) := dk_44 (dk_at dksX1_answer_1 4 rfl rfl)
theorem dX1_answer_28 : decode cX1_answer 28 = .ok (.getfield 176, 3) := dk_180 0 176 (dk_at dksX1_answer_1 5 rfl rfl)
theorem dX1_answer_31 : decode cX1_answer 31 = .ok (.aload_n 0, 1) := dk_42 (dk_at dksX1_answer_1 8 rfl rfl)
theorem dX1_answer_32 : decode cX1_answer 32 = .ok (.getfield 153, 3) := dk_180 0 153 (dk_at dksX1_answer_1 9 rfl rfl)
theorem dX1_answer_35 : decode cX1_answer 35 = .ok (.if_icmp .ne 32, 3) := dk_160 0 32 (dk_at dksX1_answer_1 12 rfl rfl)
theorem dX1_answer_38 : decode cX1_answer 38 = .ok (.aload_n 1, 1) := dk_43 (dk_at dksX1_answer_1 15 rfl rfl)
theorem dX1_answer_39 : decode cX1_answer 39 = .ok (.invokeinterface 179 1, 5) := by decide +kernel
theorem dX1_answer_44 : decode cX1_answer 44 = .ok (.aload_n 0, 1) := dk_42 (dk_at dksX1_answer_1 21 rfl rfl)
theorem dX1_answer_45 : decode cX1_answer 45 = .ok (.getfield 101, 3) := dk_180 0 101 (dk_at dksX1_answer_2 0 rfl rfl)
theorem dX1_answer_48 : decode cX1_answer 48 = .ok (.aload_n 2, 1) := dk_44 (dk_at dksX1_answer_2 3 rfl rfl)
theorem dX1_answer_49 : decode cX1_answer 49 = .ok (.getfield 182, 3) := dk_180 0 182 (dk_at dksX1_answer_2 4 rfl rfl)
theorem dX1_answer_52 : decode cX1_answer 52 = .ok (.iconst 4, 1) := dk_7 (dk_at dksX1_answer_2 7 rfl rfl)
theorem dX1_answer_53 : decode cX1_answer 53 = .ok (.irem, 1) := dk_112 (dk_at dksX1_answer_2 8 rfl rfl)
theorem dX1_answer_54 : decode cX1_answer 54 = .ok (.aload_n 2, 1) := dk_44 (dk_at dksX1_answer_2 9 rfl rfl)
theorem dX1_answer_55 : decode cX1_answer 55 = .ok (.getfield 182, 3) := dk_180 0 182 (dk_at dksX1_answer_2 10 rfl rfl)
theorem dX1_answer_58 : decode cX1_answer 58 = .ok (.iastore, 1) := dk_79 (dk_at dksX1_answer_2 13 rfl rfl)
theorem dX1_answer_59 : decode cX1_answer 59 = .ok (.aload_n 0, 1) := dk_42 (dk_at dksX1_answer_2 14 rfl rfl)
theorem dX1_answer_60 : decode cX1_answer 60 = .ok (.aload_n 2, 1) := dk_44 (dk_at dksX1_answer_2 15 rfl rfl)
theorem dX1_answer_61 : decode cX1_answer 61 = .ok (.getfield 182, 3) := dk_180 0 182 (dk_at dksX1_answer_2 16 rfl rfl)
theorem dX1_answer_64 : decode cX1_answer 64 = .ok (.invokevirtual 185, 3) := dk_182 0 185 (dk_at dksX1_answer_2 19 rfl rfl)
theorem dX1_answer_67 : decode cX1_answer 67 = .ok (.goto (-59), 3) := dk_167 255 197 (dk_at dksX1_answer_3 0 rfl rfl)
theorem dX1_answer_70 : decode cX1_answer 70 = .ok (.return_, 1) := dk_177 (dk_at dksX1_answer_3 3 rfl rfl)
def dkwX1_come_2 : List UInt8 := [181, 0, 190, 45, 42, 180, 0, 153, 181, 0, 195, 167, 255, 206, 177]
abbrev dktX1_come_2 : List UInt8 := dkwX1_come_2 ++ []
def dkwX1_come_1 : List UInt8 := [192, 0, 188, 78, 45, 180, 0, 190, 16, 109, 160, 0, 25, 45, 180, 0, 194, 27, 160, 0, 17, 45, 16, 120]
abbrev dktX1_come_1 : List UInt8 := dkwX1_come_1 ++ dktX1_come_2
def dkwX1_come_0 : List UInt8 := [42, 180, 0, 79, 182, 0, 160, 77, 44, 185, 0, 164, 1, 0, 153, 0, 47, 44, 185, 0, 170, 1, 0]
abbrev dktX1_come_0 : List UInt8 := dkwX1_come_0 ++ dktX1_come_1
theorem dksX1_come_0 : cX1_come.data.toList.drop 0 = dktX1_come_0 := by decide +kernel
theorem dksX1_come_1 : cX1_come.data.toList.drop 23 = dktX1_come_1 := dk_seg dksX1_come_0 23 rfl rfl
theorem dksX1_come_2 : cX1_come.data.toList.drop 47 = dktX1_come_2 := dk_seg dksX1_come_1 24 rfl rfl
theorem dX1_come_0 : decode cX1_come 0 = .ok (.aload_n 0, 1) := dk_42 (dk_at dksX1_come_0 0 rfl rfl)
theorem dX1_come_1 : decode cX1_come 1 = .ok (.getfield 79, 3) := dk_180 0 79 (dk_at dksX1_come_0 1 rfl rfl)
theorem dX1_come_4 : decode cX1_come 4 = .ok (.invokevirtual 160, 3) := dk_182 0 160 (dk_at dksX1_come_0 4 rfl rfl)
theorem dX1_come_7 : decode cX1_come 7 = .ok (.astore_n 2, 1) := dk_77 (dk_at dksX1_come_0 7 rfl rfl)
theorem dX1_come_8 : decode cX1_come 8 = .ok (.aload_n 2, 1) := dk_44 (dk_at dksX1_come_0 8 rfl rfl)
theorem dX1_come_9 : decode cX1_come 9 = .ok (.invokeinterface 164 1, 5) := by decide +kernel
theorem dX1_come_14 : decode cX1_come 14 = .ok (.ifCond .eq 47, 3) := dk_153 0 47 (dk_at dksX1_come_0 14 rfl rfl)
theorem dX1_come_17 : decode cX1_come 17 = .ok (.aload_n 2, 1) := dk_44 (dk_at dksX1_come_0 17 rfl rfl)
theorem dX1_come_18 : decode cX1_come 18 = .ok (.invokeinterface 170 1, 5) := by decide +kernel
theorem dX1_come_23 : decode cX1_come 23 = .ok (.checkcast 188, 3) := dk_192 0 188 (dk_at dksX1_come_1 0 rfl rfl)
theorem dX1_come_26 : decode cX1_come 26 = .ok (.astore_n 3, 1) := dk_78 (dk_at dksX1_come_1 3 rfl rfl)
theorem dX1_come_27 : decode cX1_come 27 = .ok (.aload_n 3, 1) := dk_45 (dk_at dksX1_come_1 4 rfl rfl)
theorem dX1_come_28 : decode cX1_come 28 = .ok (.getfield 190, 3) := dk_180 0 190 (dk_at dksX1_come_1 5 rfl rfl)
theorem dX1_come_31 : decode cX1_come 31 = .ok (.bipush 109, 2) := dk_16 109 (dk_at dksX1_come_1 8 rfl rfl)
theorem dX1_come_33 : decode cX1_come 33 = .ok (.if_icmp .ne 25, 3) := dk_160 0 25 (dk_at dksX1_come_1 10 rfl rfl)
theorem dX1_come_36 : decode cX1_come 36 = .ok (.aload_n 3, 1) := dk_45 (dk_at dksX1_come_1 13 rfl rfl)
theorem dX1_come_37 : decode cX1_come 37 = .ok (.getfield 194, 3) := dk_180 0 194 (dk_at dksX1_come_1 14 rfl rfl)
theorem dX1_come_40 : decode cX1_come 40 = .ok (.iload_n 1, 1) := dk_27 (dk_at dksX1_come_1 17 rfl rfl)
theorem dX1_come_41 : decode cX1_come 41 = .ok (.if_icmp .ne 17, 3) := dk_160 0 17 (dk_at dksX1_come_1 18 rfl rfl)
theorem dX1_come_44 : decode cX1_come 44 = .ok (.aload_n 3, 1) := dk_45 (dk_at dksX1_come_1 21 rfl rfl)
theorem dX1_come_45 : decode cX1_come 45 = .ok (.bipush 120, 2) := dk_16 120 (dk_at dksX1_come_1 22 rfl rfl)
theorem dX1_come_47 : decode cX1_come 47 = .ok (.putfield 190, 3) := dk_181 0 190 (dk_at dksX1_come_2 0 rfl rfl)
theorem dX1_come_50 : decode cX1_come 50 = .ok (.aload_n 3, 1) := dk_45 (dk_at dksX1_come_2 3 rfl rfl)
theorem dX1_come_51 : decode cX1_come 51 = .ok (.aload_n 0, 1) := dk_42 (dk_at dksX1_come_2 4 rfl rfl)
theorem dX1_come_52 : decode cX1_come 52 = .ok (.getfield 153, 3) := dk_180 0 153 (dk_at dksX1_come_2 5 rfl rfl)
theorem dX1_come_55 : decode cX1_come 55 = .ok (.putfield 195, 3) := dk_181 0 195 (dk_at dksX1_come_2 8 rfl rfl)
theorem dX1_come_58 : decode cX1_come 58 = .ok (.goto (-50), 3) := dk_167 255 206 (dk_at dksX1_come_2 11 rfl rfl)
theorem dX1_come_61 : decode cX1_come 61 = .ok (.return_, 1) := dk_177 (dk_at dksX1_come_2 14 rfl rfl)
def dkwX1_endAll_2 : List UInt8 := [42, 182, 0, 217, 177]
abbrev dktX1_endAll_2 : List UInt8 := dkwX1_endAll_2 ++ []
def dkwX1_endAll_1 : List UInt8 := [185, 0, 170, 1, 0, 192, 0, 188, 77, 44, 180, 0, 209, 154, 0, 8, 42, 44, 182, 0, 213, 167, 255, 225]
abbrev dktX1_endAll_1 : List UInt8 := dkwX1_endAll_1 ++ dktX1_endAll_2
def dkwX1_endAll_0 : List UInt8 := [42, 182, 0, 204, 185, 0, 208, 1, 0, 76, 43, 185, 0, 164, 1, 0, 153, 0, 28, 43]
abbrev dktX1_endAll_0 : List UInt8 := dkwX1_endAll_0 ++ dktX1_endAll_1
theorem dksX1_endAll_0 : cX1_endAll.data.toList.drop 0 = dktX1_endAll_0 := by decide +kernel
theorem dksX1_endAll_1 : cX1_endAll.data.toList.drop 20 = dktX1_endAll_1 := dk_seg dksX1_endAll_0 20 rfl rfl
theorem dksX1_endAll_2 : cX1_endAll.data.toList.drop 44 = dktX1_endAll_2 := dk_seg dksX1_endAll_1 24 rfl rfl
theorem dX1_endAll_0 : decode cX1_endAll 0 = .ok (.aload_n 0, 1) := dk_42 (dk_at dksX1_endAll_0 0 rfl rfl)
theorem dX1_endAll_1 : decode cX1_endAll 1 = .ok (.invokevirtual 204, 3) := dk_182 0 204 (dk_at dksX1_endAll_0 1 rfl rfl)
theorem dX1_endAll_4 : decode cX1_endAll 4 = .ok (.invokeinterface 208 1, 5) := by decide +kernel
theorem dX1_endAll_9 : decode cX1_endAll 9 = .ok (.astore_n 1, 1) := dk_76 (dk_at dksX1_endAll_0 9 rfl rfl)
theorem dX1_endAll_10 : decode cX1_endAll 10 = .ok (.aload_n 1, 1) := dk_43 (dk_at dksX1_endAll_0 10 rfl rfl)
theorem dX1_endAll_11 : decode cX1_endAll 11 = .ok (.invokeinterface 164 1, 5) := by decide +kernel
theorem dX1_endAll_16 : decode cX1_endAll 16 = .ok (.ifCond .eq 28, 3) := dk_153 0 28 (dk_at dksX1_endAll_0 16 rfl rfl)
theorem dX1_endAll_19 : decode cX1_endAll 19 = .ok (.aload_n 1, 1) := dk_43 (dk_at dksX1_endAll_0 19 rfl rfl)
theorem dX1_endAll_20 : decode cX1_endAll 20 = .ok (.invokeinterface 170 1, 5) := by decide +kernel
theorem dX1_endAll_25 : decode cX1_endAll 25 = .ok (.checkcast 188, 3) := dk_192 0 188 (dk_at dksX1_endAll_1 5 rfl rfl)
theorem dX1_endAll_28 : decode cX1_endAll 28 = .ok (.astore_n 2, 1) := dk_77 (dk_at dksX1_endAll_1 8 rfl rfl)
theorem dX1_endAll_29 : decode cX1_endAll 29 = .ok (.aload_n 2, 1) := dk_44 (dk_at dksX1_endAll_1 9 rfl rfl)
theorem dX1_endAll_30 : decode cX1_endAll 30 = .ok (.getfield 209, 3) := dk_180 0 209 (dk_at dksX1_endAll_1 10 rfl rfl)
theorem dX1_endAll_33 : decode cX1_endAll 33 = .ok (.ifCond .ne 8, 3) := dk_154 0 8 (dk_at dksX1_endAll_1 13 rfl rfl)
theorem dX1_endAll_36 : decode cX1_endAll 36 = .ok (.aload_n 0, 1) := dk_42 (dk_at dksX1_endAll_1 16 rfl rfl)
theorem dX1_endAll_37 : decode cX1_endAll 37 = .ok (.aload_n 2, 1) := dk_44 (dk_at dksX1_endAll_1 17 rfl rfl)
theorem dX1_endAll_38 : decode cX1_endAll 38 = .ok (.invokevirtual 213, 3) := dk_182 0 213 (dk_at dksX1_endAll_1 18 rfl rfl)
theorem dX1_endAll_41 : decode cX1_endAll 41 = .ok (.goto (-31), 3) := dk_167 255 225 (dk_at dksX1_endAll_1 21 rfl rfl)
theorem dX1_endAll_44 : decode cX1_endAll 44 = .ok (.aload_n 0, 1) := dk_42 (dk_at dksX1_endAll_2 0 rfl rfl)
theorem dX1_endAll_45 : decode cX1_endAll 45 = .ok (.invokevirtual 217, 3) := dk_182 0 217 (dk_at dksX1_endAll_2 1 rfl rfl)
theorem dX1_endAll_48 : decode cX1_endAll 48 = .ok (.return_, 1) := dk_177 (dk_at dksX1_endAll_2 4 rfl rfl)
def dkwX1_ending_2 : List UInt8 := [180, 0, 195, 42, 180, 0, 153, 160, 0, 11, 43, 45, 185, 0, 198, 2, 0, 87, 167, 255, 209, 43, 176]
abbrev dktX1_ending_2 : List UInt8 := dkwX1_ending_2 ++ []
def dkwX1_ending_1 : List UInt8 := [153, 0, 44, 44, 185, 0, 170, 1, 0, 192, 0, 188, 78, 45, 180, 0, 190, 16, 120, 160, 0, 22, 45]
abbrev dktX1_ending_1 : List UInt8 := dkwX1_ending_1 ++ dktX1_ending_2
def dkwX1_ending_0 : List UInt8 := [187, 0, 13, 89, 183, 0, 15, 76, 42, 180, 0, 79, 182, 0, 160, 77, 44, 185, 0, 164, 1, 0]
abbrev dktX1_ending_0 : List UInt8 := dkwX1_ending_0 ++ dktX1_ending_1
theorem dksX1_ending_0 : cX1_ending.data.toList.drop 0 = dktX1_ending_0 := by decide +kernel
theorem dksX1_ending_1 : cX1_ending.data.toList.drop 22 = dktX1_ending_1 := dk_seg dksX1_ending_0 22 rfl rfl
theorem dksX1_ending_2 : cX1_ending.data.toList.drop 45 = dktX1_ending_2 := dk_seg dksX1_ending_1 23 rfl rfl
theorem dX1_ending_0 : decode cX1_ending 0 = .ok (.new 13, 3) := dk_187 0 13 (dk_at dksX1_ending_0 0 rfl rfl)
theorem dX1_ending_3 : decode cX1_ending 3 = .ok (.dup, 1) := dk_89 (dk_at dksX1_ending_0 3 rfl rfl)
theorem dX1_ending_4 : decode cX1_ending 4 = .ok (.invokespecial 15, 3) := dk_183 0 15 (dk_at dksX1_ending_0 4 rfl rfl)
theorem dX1_ending_7 : decode cX1_ending 7 = .ok (.astore_n 1, 1) := dk_76 (dk_at dksX1_ending_0 7 rfl rfl)
theorem dX1_ending_8 : decode cX1_ending 8 = .ok (.aload_n 0, 1) := dk_42 (dk_at dksX1_ending_0 8 rfl rfl)
theorem dX1_ending_9 : decode cX1_ending 9 = .ok (.getfield 79, 3) := dk_180 0 79 (dk_at dksX1_ending_0 9 rfl rfl)
theorem dX1_ending_12 : decode cX1_ending 12 = .ok (.invokevirtual 160, 3) := dk_182 0 160 (dk_at dksX1_ending_0 12 rfl rfl)
theorem dX1_ending_15 : decode cX1_ending 15 = .ok (.astore_n 2, 1) := dk_77 (dk_at dksX1_ending_0 15 rfl rfl)
theorem dX1_ending_16 : decode cX1_ending 16 = .ok (.aload_n 2, 1) := dk_44 (dk_at dksX1_ending_0 16 rfl rfl)
theorem dX1_ending_17 : decode cX1_ending 17 = .ok (.invokeinterface 164 1, 5) := by decide +kernel
theorem dX1_ending_22 : decode cX1_ending 22 = .ok (.ifCond .eq 44, 3) := dk_153 0 44 (dk_at dksX1_ending_1 0 rfl rfl)
theorem dX1_ending_25 : decode cX1_ending 25 = .ok (.aload_n 2, 1) := dk_44 (dk_at dksX1_ending_1 3 rfl rfl)
theorem dX1_ending_26 : decode cX1_ending 26 = .ok (.invokeinterface 170 1, 5) := by decide +kernel
theorem dX1_ending_31 : decode cX1_ending 31 = .ok (.checkcast 188, 3) := dk_192 0 188 (dk_at dksX1_ending_1 9 rfl rfl)
theorem dX1_ending_34 : decode cX1_ending 34 = .ok (.astore_n 3, 1) := dk_78 (dk_at dksX1_ending_1 12 rfl rfl)
theorem dX1_ending_35 : decode cX1_ending 35 = .ok (.aload_n 3, 1) := dk_45 (dk_at dksX1_ending_1 13 rfl rfl)
theorem dX1_ending_36 : decode cX1_ending 36 = .ok (.getfield 190, 3) := dk_180 0 190 (dk_at dksX1_ending_1 14 rfl rfl)
theorem dX1_ending_39 : decode cX1_ending 39 = .ok (.bipush 120, 2) := dk_16 120 (dk_at dksX1_ending_1 17 rfl rfl)
theorem dX1_ending_41 : decode cX1_ending 41 = .ok (.if_icmp .ne 22, 3) := dk_160 0 22 (dk_at dksX1_ending_1 19 rfl rfl)
theorem dX1_ending_44 : decode cX1_ending 44 = .ok (.aload_n 3, 1) := dk_45 (dk_at dksX1_ending_1 22 rfl rfl)
theorem dX1_ending_45 : decode cX1_ending 45 = .ok (.getfield 195, 3) := dk_180 0 195 (dk_at dksX1_ending_2 0 rfl rfl)
theorem dX1_ending_48 : decode cX1_ending 48 = .ok (.aload_n 0, 1) := dk_42 (dk_at dksX1_ending_2 3 rfl rfl)
theorem dX1_ending_49 : decode cX1_ending 49 = .ok (.getfield 153, 3) := dk_180 0 153 (dk_at dksX1_ending_2 4 rfl rfl)
theorem dX1_ending_52 : decode cX1_ending 52 = .ok (.if_icmp .ne 11, 3) := dk_160 0 11 (dk_at dksX1_ending_2 7 rfl rfl)
theorem dX1_ending_55 : decode cX1_ending 55 = .ok (.aload_n 1, 1) := dk_43 (dk_at dksX1_ending_2 10 rfl rfl)
theorem dX1_ending_56 : decode cX1_ending 56 = .ok (.aload_n 3, 1) := dk_45 (dk_at dksX1_ending_2 11 rfl rfl)
theorem dX1_ending_57 : decode cX1_ending 57 = .ok (.invokeinterface 198 2, 5) := by decide +kernel
theorem dX1_ending_62 : decode cX1_ending 62 = .ok (.pop, 1) := dk_87 (dk_at dksX1_ending_2 17 rfl rfl)
theorem dX1_ending_63 : decode cX1_ending 63 = .ok (.goto (-47), 3) := dk_167 255 209 (dk_at dksX1_ending_2 18 rfl rfl)
theorem dX1_ending_66 : decode cX1_ending 66 = .ok (.aload_n 1, 1) := dk_43 (dk_at dksX1_ending_2 21 rfl rfl)
theorem dX1_ending_67 : decode cX1_ending 67 = .ok (.areturn, 1) := dk_176 (dk_at dksX1_ending_2 22 rfl rfl)
def dkwX1_endOne_2 : List UInt8 := [43, 182, 0, 241, 177]
abbrev dktX1_endOne_2 : List UInt8 := dkwX1_endOne_2 ++ []
def dkwX1_endOne_1 : List UInt8 := [43, 42, 180, 0, 153, 182, 0, 232, 44, 182, 0, 235, 153, 0, 11, 42, 43, 182, 0, 238, 167, 0, 8, 42]
abbrev dktX1_endOne_1 : List UInt8 := dkwX1_endOne_1 ++ dktX1_endOne_2
def dkwX1_endOne_0 : List UInt8 := [43, 180, 0, 220, 77, 44, 182, 0, 224, 153, 0, 15, 42, 43, 182, 0, 229, 43, 16, 98, 181, 0, 190, 177]
abbrev dktX1_endOne_0 : List UInt8 := dkwX1_endOne_0 ++ dktX1_endOne_1
theorem dksX1_endOne_0 : cX1_endOne.data.toList.drop 0 = dktX1_endOne_0 := by decide +kernel
theorem dksX1_endOne_1 : cX1_endOne.data.toList.drop 24 = dktX1_endOne_1 := dk_seg dksX1_endOne_0 24 rfl rfl
theorem dksX1_endOne_2 : cX1_endOne.data.toList.drop 48 = dktX1_endOne_2 := dk_seg dksX1_endOne_1 24 rfl rfl
theorem dX1_endOne_0 : decode cX1_endOne 0 = .ok (.aload_n 1, 1) := dk_43 (dk_at dksX1_endOne_0 0 rfl rfl)
theorem dX1_endOne_1 : decode cX1_endOne 1 = .ok (.getfield 220, 3) := dk_180 0 220 (dk_at dksX1_endOne_0 1 rfl rfl)
theorem dX1_endOne_4 : decode cX1_endOne 4 = .ok (.astore_n 2, 1) := dk_77 (dk_at dksX1_endOne_0 4 rfl rfl)
theorem dX1_endOne_5 : decode cX1_endOne 5 = .ok (.aload_n 2, 1) := dk_44 (dk_at dksX1_endOne_0 5 rfl rfl)
theorem dX1_endOne_6 : decode cX1_endOne 6 = .ok (.invokevirtual 224, 3) := dk_182 0 224 (dk_at dksX1_endOne_0 6 rfl rfl)
theorem dX1_endOne_9 : decode cX1_endOne 9 = .ok (.ifCond .eq 15, 3) := dk_153 0 15 (dk_at dksX1_endOne_0 9 rfl rfl)
theorem dX1_endOne_12 : decode cX1_endOne 12 = .ok (.aload_n 0, 1) := dk_42 (dk_at dksX1_endOne_0 12 rfl rfl)
theorem dX1_endOne_13 : decode cX1_endOne 13 = .ok (.aload_n 1, 1) := dk_43 (dk_at dksX1_endOne_0 13 rfl rfl)
theorem dX1_endOne_14 : decode cX1_endOne 14 = .ok (.invokevirtual 229, 3) := dk_182 0 229 (dk_at dksX1_endOne_0 14 rfl rfl)
theorem dX1_endOne_17 : decode cX1_endOne 17 = .ok (.aload_n 1, 1) := dk_43 (dk_at dksX1_endOne_0 17 rfl rfl)
theorem dX1_endOne_18 : decode cX1_endOne 18 = .ok (.bipush 98, 2) := dk_16 98 (dk_at dksX1_endOne_0 18 rfl rfl)
theorem dX1_endOne_20 : decode cX1_endOne 20 = .ok (.putfield 190, 3) := dk_181 0 190 (dk_at dksX1_endOne_0 20 rfl rfl)
theorem dX1_endOne_23 : decode cX1_endOne 23 = .ok (.return_, 1) := dk_177 (dk_at dksX1_endOne_0 23 rfl rfl)
theorem dX1_endOne_24 : decode cX1_endOne 24 = .ok (.aload_n 1, 1) := dk_43 (dk_at dksX1_endOne_1 0 rfl rfl)
theorem dX1_endOne_25 : decode cX1_endOne 25 = .ok (.aload_n 0, 1) := dk_42 (dk_at dksX1_endOne_1 1 rfl rfl)
theorem dX1_endOne_26 : decode cX1_endOne 26 = .ok (.getfield 153, 3) := dk_180 0 153 (dk_at dksX1_endOne_1 2 rfl rfl)
theorem dX1_endOne_29 : decode cX1_endOne 29 = .ok (.invokevirtual 232, 3) := dk_182 0 232 (dk_at dksX1_endOne_1 5 rfl rfl)
theorem dX1_endOne_32 : decode cX1_endOne 32 = .ok (.aload_n 2, 1) := dk_44 (dk_at dksX1_endOne_1 8 rfl rfl)
theorem dX1_endOne_33 : decode cX1_endOne 33 = .ok (.invokevirtual 235, 3) := dk_182 0 235 (dk_at dksX1_endOne_1 9 rfl rfl)
theorem dX1_endOne_36 : decode cX1_endOne 36 = .ok (.ifCond .eq 11, 3) := dk_153 0 11 (dk_at dksX1_endOne_1 12 rfl rfl)
theorem dX1_endOne_39 : decode cX1_endOne 39 = .ok (.aload_n 0, 1) := dk_42 (dk_at dksX1_endOne_1 15 rfl rfl)
theorem dX1_endOne_40 : decode cX1_endOne 40 = .ok (.aload_n 1, 1) := dk_43 (dk_at dksX1_endOne_1 16 rfl rfl)
theorem dX1_endOne_41 : decode cX1_endOne 41 = .ok (.invokevirtual 238, 3) := dk_182 0 238 (dk_at dksX1_endOne_1 17 rfl rfl)
theorem dX1_endOne_44 : decode cX1_endOne 44 = .ok (.goto 8, 3) := dk_167 0 8 (dk_at dksX1_endOne_1 20 rfl rfl)
theorem dX1_endOne_47 : decode cX1_endOne 47 = .ok (.aload_n 0, 1) := dk_42 (dk_at dksX1_endOne_1 23 rfl rfl)
theorem dX1_endOne_48 : decode cX1_endOne 48 = .ok (.aload_n 1, 1) := dk_43 (dk_at dksX1_endOne_2 0 rfl rfl)
theorem dX1_endOne_49 : decode cX1_endOne 49 = .ok (.invokevirtual 241, 3) := dk_182 0 241 (dk_at dksX1_endOne_2 1 rfl rfl)
theorem dX1_endOne_52 : decode cX1_endOne 52 = .ok (.return_, 1) := dk_177 (dk_at dksX1_endOne_2 4 rfl rfl)
def dkwX1_findResult_4 : List UInt8 := [180, 0, 50, 43, 180, 1, 14, 46, 29, 182, 1, 17, 181, 1, 8, 177]
abbrev dktX1_findResult_4 : List UInt8 := dkwX1_findResult_4 ++ []
def dkwX1_findResult_3 : List UInt8 := [167, 0, 37, 44, 29, 182, 1, 11, 153, 0, 11, 43, 4, 181, 1, 1, 167, 0, 21, 43, 44, 42]
abbrev dktX1_findResult_3 : List UInt8 := dkwX1_findResult_3 ++ dktX1_findResult_4
def dkwX1_findResult_2 : List UInt8 := [199, 0, 60, 43, 180, 1, 1, 154, 0, 53, 43, 42, 180, 0, 27, 43, 180, 0, 250, 46, 181, 1, 8]
abbrev dktX1_findResult_2 : List UInt8 := dkwX1_findResult_2 ++ dktX1_findResult_3
def dkwX1_findResult_1 : List UInt8 := [43, 43, 180, 0, 250, 184, 0, 253, 153, 0, 7, 3, 167, 0, 4, 5, 181, 1, 1, 43, 180, 1, 4]
abbrev dktX1_findResult_1 : List UInt8 := dkwX1_findResult_1 ++ dktX1_findResult_2
def dkwX1_findResult_0 : List UInt8 := [43, 180, 0, 220, 77, 42, 180, 0, 50, 43, 180, 0, 244, 46, 62, 44, 180, 0, 247, 16, 9, 160, 0, 52]
abbrev dktX1_findResult_0 : List UInt8 := dkwX1_findResult_0 ++ dktX1_findResult_1
theorem dksX1_findResult_0 : cX1_findResult.data.toList.drop 0 = dktX1_findResult_0 := by decide +kernel
theorem dksX1_findResult_1 : cX1_findResult.data.toList.drop 24 = dktX1_findResult_1 := dk_seg dksX1_findResult_0 24 rfl rfl
theorem dksX1_findResult_2 : cX1_findResult.data.toList.drop 47 = dktX1_findResult_2 := dk_seg dksX1_findResult_1 23 rfl rfl
theorem dksX1_findResult_3 : cX1_findResult.data.toList.drop 70 = dktX1_findResult_3 := dk_seg dksX1_findResult_2 23 rfl rfl
theorem dksX1_findResult_4 : cX1_findResult.data.toList.drop 92 = dktX1_findResult_4 := dk_seg dksX1_findResult_3 22 rfl rfl
theorem dX1_findResult_0 : decode cX1_findResult 0 = .ok (.aload_n 1, 1) := dk_43 (dk_at dksX1_findResult_0 0 rfl rfl)
theorem dX1_findResult_1 : decode cX1_findResult 1 = .ok (.getfield 220, 3) := dk_180 0 220 (dk_at dksX1_findResult_0 1 rfl rfl)
theorem dX1_findResult_4 : decode cX1_findResult 4 = .ok (.astore_n 2, 1) := dk_77 (dk_at dksX1_findResult_0 4 rfl rfl)
theorem dX1_findResult_5 : decode cX1_findResult 5 = .ok (.aload_n 0, 1) := dk_42 (dk_at dksX1_findResult_0 5 rfl rfl)
theorem dX1_findResult_6 : decode cX1_findResult 6 = .ok (.getfield 50, 3) := dk_180 0 50 (dk_at dksX1_findResult_0 6 rfl rfl)
theorem dX1_findResult_9 : decode cX1_findResult 9 = .ok (.aload_n 1, 1) := dk_43 (dk_at dksX1_findResult_0 9 rfl rfl)
theorem dX1_findResult_10 : decode cX1_findResult 10 = .ok (.getfield 244, 3) := dk_180 0 244 (dk_at dksX1_findResult_0 10 rfl rfl)
theorem dX1_findResult_13 : decode cX1_findResult 13 = .ok (.iaload, 1) := dk_46 (dk_at dksX1_findResult_0 13 rfl rfl)
theorem dX1_findResult_14 : decode cX1_findResult 14 = .ok (.istore_n 3, 1) := dk_62 (dk_at dksX1_findResult_0 14 rfl rfl)
theorem dX1_findResult_15 : decode cX1_findResult 15 = .ok (.aload_n 2, 1) := dk_44 (dk_at dksX1_findResult_0 15 rfl rfl)
theorem dX1_findResult_16 : decode cX1_findResult 16 = .ok (.getfield 247, 3) := dk_180 0 247 (dk_at dksX1_findResult_0 16 rfl rfl)
theorem dX1_findResult_19 : decode cX1_findResult 19 = .ok (.bipush 9, 2) := dk_16 9 (dk_at dksX1_findResult_0 19 rfl rfl)
theorem dX1_findResult_21 : decode cX1_findResult 21 = .ok (.if_icmp .ne 52, 3) := dk_160 0 52 (dk_at dksX1_findResult_0 21 rfl rfl)
theorem dX1_findResult_24 : decode cX1_findResult 24 = .ok (.aload_n 1, 1) := dk_43 (dk_at dksX1_findResult_1 0 rfl rfl)
theorem dX1_findResult_25 : decode cX1_findResult 25 = .ok (.aload_n 1, 1) := dk_43 (dk_at dksX1_findResult_1 1 rfl rfl)
theorem dX1_findResult_26 : decode cX1_findResult 26 = .ok (.getfield 250, 3) := dk_180 0 250 (dk_at dksX1_findResult_1 2 rfl rfl)
theorem dX1_findResult_29 : decode cX1_findResult 29 = .ok (.invokestatic 253, 3) := dk_184 0 253 (dk_at dksX1_findResult_1 5 rfl rfl)
theorem dX1_findResult_32 : decode cX1_findResult 32 = .ok (.ifCond .eq 7, 3) := dk_153 0 7 (dk_at dksX1_findResult_1 8 rfl rfl)
theorem dX1_findResult_35 : decode cX1_findResult 35 = .ok (.iconst 0, 1) := dk_3 (dk_at dksX1_findResult_1 11 rfl rfl)
theorem dX1_findResult_36 : decode cX1_findResult 36 = .ok (.goto 4, 3) := dk_167 0 4 (dk_at dksX1_findResult_1 12 rfl rfl)
theorem dX1_findResult_39 : decode cX1_findResult 39 = .ok (.iconst 2, 1) := dk_5 (dk_at dksX1_findResult_1 15 rfl rfl)
theorem dX1_findResult_40 : decode cX1_findResult 40 = .ok (.putfield 257, 3) := dk_181 1 1 (dk_at dksX1_findResult_1 16 rfl rfl)
theorem dX1_findResult_43 : decode cX1_findResult 43 = .ok (.aload_n 1, 1) := dk_43 (dk_at dksX1_findResult_1 19 rfl rfl)
theorem dX1_findResult_44 : decode cX1_findResult 44 = .ok (.getfield 260, 3) := dk_180 1 4 (dk_at dksX1_findResult_1 20 rfl rfl)
theorem dX1_findResult_47 : decode cX1_findResult 47 = .ok (.ifnonnull 60, 3) := dk_199 0 60 (dk_at dksX1_findResult_2 0 rfl rfl)
theorem dX1_findResult_50 : decode cX1_findResult 50 = .ok (.aload_n 1, 1) := dk_43 (dk_at dksX1_findResult_2 3 rfl rfl)
theorem dX1_findResult_51 : decode cX1_findResult 51 = .ok (.getfield 257, 3) := dk_180 1 1 (dk_at dksX1_findResult_2 4 rfl rfl)
theorem dX1_findResult_54 : decode cX1_findResult 54 = .ok (.ifCond .ne 53, 3) := dk_154 0 53 (dk_at dksX1_findResult_2 7 rfl rfl)
theorem dX1_findResult_57 : decode cX1_findResult 57 = .ok (.aload_n 1, 1) := dk_43 (dk_at dksX1_findResult_2 10 rfl rfl)
theorem dX1_findResult_58 : decode cX1_findResult 58 = .ok (.aload_n 0, 1) := dk_42 (dk_at dksX1_findResult_2 11 rfl rfl)
theorem dX1_findResult_59 : decode cX1_findResult 59 = .ok (.getfield 27, 3) := dk_180 0 27 (dk_at dksX1_findResult_2 12 rfl rfl)
theorem dX1_findResult_62 : decode cX1_findResult 62 = .ok (.aload_n 1, 1) := dk_43 (dk_at dksX1_findResult_2 15 rfl rfl)
theorem dX1_findResult_63 : decode cX1_findResult 63 = .ok (.getfield 250, 3) := dk_180 0 250 (dk_at dksX1_findResult_2 16 rfl rfl)
theorem dX1_findResult_66 : decode cX1_findResult 66 = .ok (.iaload, 1) := dk_46 (dk_at dksX1_findResult_2 19 rfl rfl)
theorem dX1_findResult_67 : decode cX1_findResult 67 = .ok (.putfield 264, 3) := dk_181 1 8 (dk_at dksX1_findResult_2 20 rfl rfl)
theorem dX1_findResult_70 : decode cX1_findResult 70 = .ok (.goto 37, 3) := dk_167 0 37 (dk_at dksX1_findResult_3 0 rfl rfl)
theorem dX1_findResult_73 : decode cX1_findResult 73 = .ok (.aload_n 2, 1) := dk_44 (dk_at dksX1_findResult_3 3 rfl rfl)
theorem dX1_findResult_74 : decode cX1_findResult 74 = .ok (.iload_n 3, 1) := dk_29 (dk_at dksX1_findResult_3 4 rfl rfl)
theorem dX1_findResult_75 : decode cX1_findResult 75 = .ok (.invokevirtual 267, 3) := dk_182 1 11 (dk_at dksX1_findResult_3 5 rfl rfl)
theorem dX1_findResult_78 : decode cX1_findResult 78 = .ok (.ifCond .eq 11, 3) := dk_153 0 11 (dk_at dksX1_findResult_3 8 rfl rfl)
theorem dX1_findResult_81 : decode cX1_findResult 81 = .ok (.aload_n 1, 1) := dk_43 (dk_at dksX1_findResult_3 11 rfl rfl)
theorem dX1_findResult_82 : decode cX1_findResult 82 = .ok (.iconst 1, 1) := dk_4 (dk_at dksX1_findResult_3 12 rfl rfl)
theorem dX1_findResult_83 : decode cX1_findResult 83 = .ok (.putfield 257, 3) := dk_181 1 1 (dk_at dksX1_findResult_3 13 rfl rfl)
theorem dX1_findResult_86 : decode cX1_findResult 86 = .ok (.goto 21, 3) := dk_167 0 21 (dk_at dksX1_findResult_3 16 rfl rfl)
theorem dX1_findResult_89 : decode cX1_findResult 89 = .ok (.aload_n 1, 1) := dk_43 (dk_at dksX1_findResult_3 19 rfl rfl)
theorem dX1_findResult_90 : decode cX1_findResult 90 = .ok (.aload_n 2, 1) := dk_44 (dk_at dksX1_findResult_3 20 rfl rfl)
theorem dX1_findResult_91 : decode cX1_findResult 91 = .ok (.aload_n 0, 1) := dk_42 (dk_at dksX1_findResult_3 21 rfl rfl)
theorem dX1_findResult_92 : decode cX1_findResult 92 = .ok (.getfield 50, 3) := dk_180 0 50 (dk_at dksX1_findResult_4 0 rfl rfl)
theorem dX1_findResult_95 : decode cX1_findResult 95 = .ok (.aload_n 1, 1) := dk_43 (dk_at dksX1_findResult_4 3 rfl rfl)
theorem dX1_findResult_96 : decode cX1_findResult 96 = .ok (.getfield 270, 3) := dk_180 1 14 (dk_at dksX1_findResult_4 4 rfl rfl)
theorem dX1_findResult_99 : decode cX1_findResult 99 = .ok (.iaload, 1) := dk_46 (dk_at dksX1_findResult_4 7 rfl rfl)
theorem dX1_findResult_100 : decode cX1_findResult 100 = .ok (.iload_n 3, 1) := dk_29 (dk_at dksX1_findResult_4 8 rfl rfl)
theorem dX1_findResult_101 : decode cX1_findResult 101 = .ok (.invokevirtual 273, 3) := dk_182 1 17 (dk_at dksX1_findResult_4 9 rfl rfl)
theorem dX1_findResult_104 : decode cX1_findResult 104 = .ok (.putfield 264, 3) := dk_181 1 8 (dk_at dksX1_findResult_4 12 rfl rfl)
theorem dX1_findResult_107 : decode cX1_findResult 107 = .ok (.return_, 1) := dk_177 (dk_at dksX1_findResult_4 15 rfl rfl)
def dkwX1_endStore_3 : List UInt8 := [181, 1, 38, 177]
abbrev dktX1_endStore_3 : List UInt8 := dkwX1_endStore_3 ++ []
def dkwX1_endStore_2 : List UInt8 := [182, 0, 121, 42, 44, 180, 1, 31, 181, 0, 86, 42, 44, 4, 182, 1, 34, 42, 44, 180, 1, 28]
abbrev dktX1_endStore_2 : List UInt8 := dkwX1_endStore_2 ++ dktX1_endStore_3
def dkwX1_endStore_1 : List UInt8 := [198, 0, 49, 42, 89, 180, 1, 25, 4, 96, 181, 1, 25, 42, 180, 0, 95, 44, 180, 1, 28, 16, 16, 112]
abbrev dktX1_endStore_1 : List UInt8 := dkwX1_endStore_1 ++ dktX1_endStore_2
def dkwX1_endStore_0 : List UInt8 := [43, 180, 0, 250, 184, 0, 253, 154, 0, 9, 43, 5, 181, 1, 1, 177, 42, 43, 182, 1, 21, 77, 44]
abbrev dktX1_endStore_0 : List UInt8 := dkwX1_endStore_0 ++ dktX1_endStore_1
theorem dksX1_endStore_0 : cX1_endStore.data.toList.drop 0 = dktX1_endStore_0 := by decide +kernel
theorem dksX1_endStore_1 : cX1_endStore.data.toList.drop 23 = dktX1_endStore_1 := dk_seg dksX1_endStore_0 23 rfl rfl
theorem dksX1_endStore_2 : cX1_endStore.data.toList.drop 47 = dktX1_endStore_2 := dk_seg dksX1_endStore_1 24 rfl rfl
theorem dksX1_endStore_3 : cX1_endStore.data.toList.drop 69 = dktX1_endStore_3 := dk_seg dksX1_endStore_2 22 rfl rfl
theorem dX1_endStore_0 : decode cX1_endStore 0 = .ok (.aload_n 1, 1) := dk_43 (dk_at dksX1_endStore_0 0 rfl rfl)
theorem dX1_endStore_1 : decode cX1_endStore 1 = .ok (.getfield 250, 3) := dk_180 0 250 (dk_at dksX1_endStore_0 1 rfl rfl)
theorem dX1_endStore_4 : decode cX1_endStore 4 = .ok (.invokestatic 253, 3) := dk_184 0 253 (dk_at dksX1_endStore_0 4 rfl rfl)
theorem dX1_endStore_7 : decode cX1_endStore 7 = .ok (.ifCond .ne 9, 3) := dk_154 0 9 (dk_at dksX1_endStore_0 7 rfl rfl)
theorem dX1_endStore_10 : decode cX1_endStore 10 = .ok (.aload_n 1, 1) := dk_43 (dk_at dksX1_endStore_0 10 rfl rfl)
theorem dX1_endStore_11 : decode cX1_endStore 11 = .ok (.iconst 2, 1) := dk_5 (dk_at dksX1_endStore_0 11 rfl rfl)
theorem dX1_endStore_12 : decode cX1_endStore 12 = .ok (.putfield 257, 3) := dk_181 1 1 (dk_at dksX1_endStore_0 12 rfl rfl)
theorem dX1_endStore_15 : decode cX1_endStore 15 = .ok (.return_, 1) := dk_177 (dk_at dksX1_endStore_0 15 rfl rfl)
theorem dX1_endStore_16 : decode cX1_endStore 16 = .ok (.aload_n 0, 1) := dk_42 (dk_at dksX1_endStore_0 16 rfl rfl)
theorem dX1_endStore_17 : decode cX1_endStore 17 = .ok (.aload_n 1, 1) := dk_43 (dk_at dksX1_endStore_0 17 rfl rfl)
theorem dX1_endStore_18 : decode cX1_endStore 18 = .ok (.invokevirtual 277, 3) := dk_182 1 21 (dk_at dksX1_endStore_0 18 rfl rfl)
theorem dX1_endStore_21 : decode cX1_endStore 21 = .ok (.astore_n 2, 1) := dk_77 (dk_at dksX1_endStore_0 21 rfl rfl)
theorem dX1_endStore_22 : decode cX1_endStore 22 = .ok (.aload_n 2, 1) := dk_44 (dk_at dksX1_endStore_0 22 rfl rfl)
theorem dX1_endStore_23 : decode cX1_endStore 23 = .ok (.ifnull 49, 3) := dk_198 0 49 (dk_at dksX1_endStore_1 0 rfl rfl)
theorem dX1_endStore_26 : decode cX1_endStore 26 = .ok (.aload_n 0, 1) := dk_42 (dk_at dksX1_endStore_1 3 rfl rfl)
theorem dX1_endStore_27 : decode cX1_endStore 27 = .ok (.dup, 1) := dk_89 (dk_at dksX1_endStore_1 4 rfl rfl)
theorem dX1_endStore_28 : decode cX1_endStore 28 = .ok (.getfield 281, 3) := dk_180 1 25 (dk_at dksX1_endStore_1 5 rfl rfl)
theorem dX1_endStore_31 : decode cX1_endStore 31 = .ok (.iconst 1, 1) := dk_4 (dk_at dksX1_endStore_1 8 rfl rfl)
theorem dX1_endStore_32 : decode cX1_endStore 32 = .ok (.iadd, 1) := dk_96 (dk_at dksX1_endStore_1 9 rfl rfl)
theorem dX1_endStore_33 : decode cX1_endStore 33 = .ok (.putfield 281, 3) := dk_181 1 25 (dk_at dksX1_endStore_1 10 rfl rfl)
theorem dX1_endStore_36 : decode cX1_endStore 36 = .ok (.aload_n 0, 1) := dk_42 (dk_at dksX1_endStore_1 13 rfl rfl)
theorem dX1_endStore_37 : decode cX1_endStore 37 = .ok (.getfield 95, 3) := dk_180 0 95 (dk_at dksX1_endStore_1 14 rfl rfl)
theorem dX1_endStore_40 : decode cX1_endStore 40 = .ok (.aload_n 2, 1) := dk_44 (dk_at dksX1_endStore_1 17 rfl rfl)
theorem dX1_endStore_41 : decode cX1_endStore 41 = .ok (.getfield 284, 3) := dk_180 1 28 (dk_at dksX1_endStore_1 18 rfl rfl)
theorem dX1_endStore_44 : decode cX1_endStore 44 = .ok (.bipush 16, 2) := dk_16 16 (dk_at dksX1_endStore_1 21 rfl rfl)
theorem dX1_endStore_46 : decode cX1_endStore 46 = .ok (.irem, 1) := dk_112 (dk_at dksX1_endStore_1 23 rfl rfl)
theorem dX1_endStore_47 : decode cX1_endStore 47 = .ok (.invokevirtual 121, 3) := dk_182 0 121 (dk_at dksX1_endStore_2 0 rfl rfl)
theorem dX1_endStore_50 : decode cX1_endStore 50 = .ok (.aload_n 0, 1) := dk_42 (dk_at dksX1_endStore_2 3 rfl rfl)
theorem dX1_endStore_51 : decode cX1_endStore 51 = .ok (.aload_n 2, 1) := dk_44 (dk_at dksX1_endStore_2 4 rfl rfl)
theorem dX1_endStore_52 : decode cX1_endStore 52 = .ok (.getfield 287, 3) := dk_180 1 31 (dk_at dksX1_endStore_2 5 rfl rfl)
theorem dX1_endStore_55 : decode cX1_endStore 55 = .ok (.putfield 86, 3) := dk_181 0 86 (dk_at dksX1_endStore_2 8 rfl rfl)
theorem dX1_endStore_58 : decode cX1_endStore 58 = .ok (.aload_n 0, 1) := dk_42 (dk_at dksX1_endStore_2 11 rfl rfl)
theorem dX1_endStore_59 : decode cX1_endStore 59 = .ok (.aload_n 2, 1) := dk_44 (dk_at dksX1_endStore_2 12 rfl rfl)
theorem dX1_endStore_60 : decode cX1_endStore 60 = .ok (.iconst 1, 1) := dk_4 (dk_at dksX1_endStore_2 13 rfl rfl)
theorem dX1_endStore_61 : decode cX1_endStore 61 = .ok (.invokevirtual 290, 3) := dk_182 1 34 (dk_at dksX1_endStore_2 14 rfl rfl)
theorem dX1_endStore_64 : decode cX1_endStore 64 = .ok (.aload_n 0, 1) := dk_42 (dk_at dksX1_endStore_2 17 rfl rfl)
theorem dX1_endStore_65 : decode cX1_endStore 65 = .ok (.aload_n 2, 1) := dk_44 (dk_at dksX1_endStore_2 18 rfl rfl)
theorem dX1_endStore_66 : decode cX1_endStore 66 = .ok (.getfield 284, 3) := dk_180 1 28 (dk_at dksX1_endStore_2 19 rfl rfl)
theorem dX1_endStore_69 : decode cX1_endStore 69 = .ok (.putfield 294, 3) := dk_181 1 38 (dk_at dksX1_endStore_3 0 rfl rfl)
theorem dX1_endStore_72 : decode cX1_endStore 72 = .ok (.return_, 1) := dk_177 (dk_at dksX1_endStore_3 3 rfl rfl)
def dkwX1_firstTooEarly_2 : List UInt8 := [180, 1, 4, 198, 0, 14, 45, 180, 1, 4, 43, 182, 1, 41, 153, 0, 5, 45, 176, 167, 255, 198, 1, 176]
abbrev dktX1_firstTooEarly_2 : List UInt8 := dkwX1_firstTooEarly_2 ++ []
def dkwX1_firstTooEarly_1 : List UInt8 := [192, 0, 188, 78, 43, 45, 182, 1, 41, 153, 0, 34, 45, 43, 180, 0, 250, 182, 1, 45, 153, 0, 23, 45]
abbrev dktX1_firstTooEarly_1 : List UInt8 := dkwX1_firstTooEarly_1 ++ dktX1_firstTooEarly_2
def dkwX1_firstTooEarly_0 : List UInt8 := [42, 180, 0, 79, 182, 0, 160, 77, 44, 185, 0, 164, 1, 0, 153, 0, 55, 44, 185, 0, 170, 1, 0]
abbrev dktX1_firstTooEarly_0 : List UInt8 := dkwX1_firstTooEarly_0 ++ dktX1_firstTooEarly_1
theorem dksX1_firstTooEarly_0 : cX1_firstTooEarly.data.toList.drop 0 = dktX1_firstTooEarly_0 := by decide +kernel
theorem dksX1_firstTooEarly_1 : cX1_firstTooEarly.data.toList.drop 23 = dktX1_firstTooEarly_1 := dk_seg dksX1_firstTooEarly_0 23 rfl rfl
theorem dksX1_firstTooEarly_2 : cX1_firstTooEarly.data.toList.drop 47 = dktX1_firstTooEarly_2 := dk_seg dksX1_firstTooEarly_1 24 rfl rfl
theorem dX1_firstTooEarly_0 : decode cX1_firstTooEarly 0 = .ok (.aload_n 0, 1) := dk_42 (dk_at dksX1_firstTooEarly_0 0 rfl rfl)
theorem dX1_firstTooEarly_1 : decode cX1_firstTooEarly 1 = .ok (.getfield 79, 3) := dk_180 0 79 (dk_at dksX1_firstTooEarly_0 1 rfl rfl)
theorem dX1_firstTooEarly_4 : decode cX1_firstTooEarly 4 = .ok (.invokevirtual 160, 3) := dk_182 0 160 (dk_at dksX1_firstTooEarly_0 4 rfl rfl)
theorem dX1_firstTooEarly_7 : decode cX1_firstTooEarly 7 = .ok (.astore_n 2, 1) := dk_77 (dk_at dksX1_firstTooEarly_0 7 rfl rfl)
theorem dX1_firstTooEarly_8 : decode cX1_firstTooEarly 8 = .ok (.aload_n 2, 1) := dk_44 (dk_at dksX1_firstTooEarly_0 8 rfl rfl)
theorem dX1_firstTooEarly_9 : decode cX1_firstTooEarly 9 = .ok (.invokeinterface 164 1, 5) := by decide +kernel
theorem dX1_firstTooEarly_14 : decode cX1_firstTooEarly 14 = .ok (.ifCond .eq 55, 3) := dk_153 0 55 (dk_at dksX1_firstTooEarly_0 14 rfl rfl)
theorem dX1_firstTooEarly_17 : decode cX1_firstTooEarly 17 = .ok (.aload_n 2, 1) := dk_44 (dk_at dksX1_firstTooEarly_0 17 rfl rfl)
theorem dX1_firstTooEarly_18 : decode cX1_firstTooEarly 18 = .ok (.invokeinterface 170 1, 5) := by decide +kernel
theorem dX1_firstTooEarly_23 : decode cX1_firstTooEarly 23 = .ok (.checkcast 188, 3) := dk_192 0 188 (dk_at dksX1_firstTooEarly_1 0 rfl rfl)
theorem dX1_firstTooEarly_26 : decode cX1_firstTooEarly 26 = .ok (.astore_n 3, 1) := dk_78 (dk_at dksX1_firstTooEarly_1 3 rfl rfl)
theorem dX1_firstTooEarly_27 : decode cX1_firstTooEarly 27 = .ok (.aload_n 1, 1) := dk_43 (dk_at dksX1_firstTooEarly_1 4 rfl rfl)
theorem dX1_firstTooEarly_28 : decode cX1_firstTooEarly 28 = .ok (.aload_n 3, 1) := dk_45 (dk_at dksX1_firstTooEarly_1 5 rfl rfl)
theorem dX1_firstTooEarly_29 : decode cX1_firstTooEarly 29 = .ok (.invokevirtual 297, 3) := dk_182 1 41 (dk_at dksX1_firstTooEarly_1 6 rfl rfl)
theorem dX1_firstTooEarly_32 : decode cX1_firstTooEarly 32 = .ok (.ifCond .eq 34, 3) := dk_153 0 34 (dk_at dksX1_firstTooEarly_1 9 rfl rfl)
theorem dX1_firstTooEarly_35 : decode cX1_firstTooEarly 35 = .ok (.aload_n 3, 1) := dk_45 (dk_at dksX1_firstTooEarly_1 12 rfl rfl)
theorem dX1_firstTooEarly_36 : decode cX1_firstTooEarly 36 = .ok (.aload_n 1, 1) := dk_43 (dk_at dksX1_firstTooEarly_1 13 rfl rfl)
theorem dX1_firstTooEarly_37 : decode cX1_firstTooEarly 37 = .ok (.getfield 250, 3) := dk_180 0 250 (dk_at dksX1_firstTooEarly_1 14 rfl rfl)
theorem dX1_firstTooEarly_40 : decode cX1_firstTooEarly 40 = .ok (.invokevirtual 301, 3) := dk_182 1 45 (dk_at dksX1_firstTooEarly_1 17 rfl rfl)
theorem dX1_firstTooEarly_43 : decode cX1_firstTooEarly 43 = .ok (.ifCond .eq 23, 3) := dk_153 0 23 (dk_at dksX1_firstTooEarly_1 20 rfl rfl)
theorem dX1_firstTooEarly_46 : decode cX1_firstTooEarly 46 = .ok (.aload_n 3, 1) := dk_45 (dk_at dksX1_firstTooEarly_1 23 rfl rfl)
theorem dX1_firstTooEarly_47 : decode cX1_firstTooEarly 47 = .ok (.getfield 260, 3) := dk_180 1 4 (dk_at dksX1_firstTooEarly_2 0 rfl rfl)
theorem dX1_firstTooEarly_50 : decode cX1_firstTooEarly 50 = .ok (.ifnull 14, 3) := dk_198 0 14 (dk_at dksX1_firstTooEarly_2 3 rfl rfl)
theorem dX1_firstTooEarly_53 : decode cX1_firstTooEarly 53 = .ok (.aload_n 3, 1) := dk_45 (dk_at dksX1_firstTooEarly_2 6 rfl rfl)
theorem dX1_firstTooEarly_54 : decode cX1_firstTooEarly 54 = .ok (.getfield 260, 3) := dk_180 1 4 (dk_at dksX1_firstTooEarly_2 7 rfl rfl)
theorem dX1_firstTooEarly_57 : decode cX1_firstTooEarly 57 = .ok (.aload_n 1, 1) := dk_43 (dk_at dksX1_firstTooEarly_2 10 rfl rfl)
theorem dX1_firstTooEarly_58 : decode cX1_firstTooEarly 58 = .ok (.invokevirtual 297, 3) := dk_182 1 41 (dk_at dksX1_firstTooEarly_2 11 rfl rfl)
theorem dX1_firstTooEarly_61 : decode cX1_firstTooEarly 61 = .ok (.ifCond .eq 5, 3) := dk_153 0 5 (dk_at dksX1_firstTooEarly_2 14 rfl rfl)
theorem dX1_firstTooEarly_64 : decode cX1_firstTooEarly 64 = .ok (.aload_n 3, 1) := dk_45 (dk_at dksX1_firstTooEarly_2 17 rfl rfl)
theorem dX1_firstTooEarly_65 : decode cX1_firstTooEarly 65 = .ok (.areturn, 1) := dk_176 (dk_at dksX1_firstTooEarly_2 18 rfl rfl)
theorem dX1_firstTooEarly_66 : decode cX1_firstTooEarly 66 = .ok (.goto (-58), 3) := dk_167 255 198 (dk_at dksX1_firstTooEarly_2 19 rfl rfl)
theorem dX1_firstTooEarly_69 : decode cX1_firstTooEarly 69 = .ok (.aconst_null, 1) := dk_1 (dk_at dksX1_firstTooEarly_2 22 rfl rfl)
theorem dX1_firstTooEarly_70 : decode cX1_firstTooEarly 70 = .ok (.areturn, 1) := dk_176 (dk_at dksX1_firstTooEarly_2 23 rfl rfl)
def dkwX1_throwFrom_5 : List UInt8 := [153, 255, 233, 25, 5, 185, 0, 179, 1, 0, 167, 255, 223, 177]
abbrev dktX1_throwFrom_5 : List UInt8 := dkwX1_throwFrom_5 ++ []
def dkwX1_throwFrom_4 : List UInt8 := [25, 5, 185, 0, 164, 1, 0, 153, 0, 29, 25, 5, 185, 0, 170, 1, 0, 192, 0, 188, 180, 0, 209]
abbrev dktX1_throwFrom_4 : List UInt8 := dkwX1_throwFrom_4 ++ dktX1_throwFrom_5
def dkwX1_throwFrom_3 : List UInt8 := [185, 0, 179, 1, 0, 42, 25, 5, 182, 1, 78, 167, 255, 197, 42, 180, 0, 83, 182, 0, 160, 58, 5]
abbrev dktX1_throwFrom_3 : List UInt8 := dkwX1_throwFrom_3 ++ dktX1_throwFrom_4
def dkwX1_throwFrom_2 : List UInt8 := [165, 0, 7, 4, 167, 0, 4, 3, 54, 4, 21, 4, 154, 0, 7, 28, 153, 0, 15, 45]
abbrev dktX1_throwFrom_2 : List UInt8 := dkwX1_throwFrom_2 ++ dktX1_throwFrom_3
def dkwX1_throwFrom_1 : List UInt8 := [185, 0, 164, 1, 0, 153, 0, 51, 45, 185, 0, 170, 1, 0, 192, 0, 188, 58, 5, 25, 5, 43]
abbrev dktX1_throwFrom_1 : List UInt8 := dkwX1_throwFrom_1 ++ dktX1_throwFrom_2
def dkwX1_throwFrom_0 : List UInt8 := [42, 180, 0, 73, 182, 0, 128, 42, 180, 0, 79, 182, 1, 75, 78, 4, 54, 4, 21, 4, 153, 0, 60, 45]
abbrev dktX1_throwFrom_0 : List UInt8 := dkwX1_throwFrom_0 ++ dktX1_throwFrom_1
theorem dksX1_throwFrom_0 : cX1_throwFrom.data.toList.drop 0 = dktX1_throwFrom_0 := by decide +kernel
theorem dksX1_throwFrom_1 : cX1_throwFrom.data.toList.drop 24 = dktX1_throwFrom_1 := dk_seg dksX1_throwFrom_0 24 rfl rfl
theorem dksX1_throwFrom_2 : cX1_throwFrom.data.toList.drop 46 = dktX1_throwFrom_2 := dk_seg dksX1_throwFrom_1 22 rfl rfl
theorem dksX1_throwFrom_3 : cX1_throwFrom.data.toList.drop 66 = dktX1_throwFrom_3 := dk_seg dksX1_throwFrom_2 20 rfl rfl
theorem dksX1_throwFrom_4 : cX1_throwFrom.data.toList.drop 89 = dktX1_throwFrom_4 := dk_seg dksX1_throwFrom_3 23 rfl rfl
theorem dksX1_throwFrom_5 : cX1_throwFrom.data.toList.drop 112 = dktX1_throwFrom_5 := dk_seg dksX1_throwFrom_4 23 rfl rfl
theorem dX1_throwFrom_0 : decode cX1_throwFrom 0 = .ok (.aload_n 0, 1) := dk_42 (dk_at dksX1_throwFrom_0 0 rfl rfl)
theorem dX1_throwFrom_1 : decode cX1_throwFrom 1 = .ok (.getfield 73, 3) := dk_180 0 73 (dk_at dksX1_throwFrom_0 1 rfl rfl)
theorem dX1_throwFrom_4 : decode cX1_throwFrom 4 = .ok (.invokevirtual 128, 3) := dk_182 0 128 (dk_at dksX1_throwFrom_0 4 rfl rfl)
theorem dX1_throwFrom_7 : decode cX1_throwFrom 7 = .ok (.aload_n 0, 1) := dk_42 (dk_at dksX1_throwFrom_0 7 rfl rfl)
theorem dX1_throwFrom_8 : decode cX1_throwFrom 8 = .ok (.getfield 79, 3) := dk_180 0 79 (dk_at dksX1_throwFrom_0 8 rfl rfl)
theorem dX1_throwFrom_11 : decode cX1_throwFrom 11 = .ok (.invokevirtual 331, 3) := dk_182 1 75 (dk_at dksX1_throwFrom_0 11 rfl rfl)
theorem dX1_throwFrom_14 : decode cX1_throwFrom 14 = .ok (.astore_n 3, 1) := dk_78 (dk_at dksX1_throwFrom_0 14 rfl rfl)
theorem dX1_throwFrom_15 : decode cX1_throwFrom 15 = .ok (.iconst 1, 1) := dk_4 (dk_at dksX1_throwFrom_0 15 rfl rfl)
theorem dX1_throwFrom_16 : decode cX1_throwFrom 16 = .ok (.istore 4, 2) := dk_54 4 (dk_at dksX1_throwFrom_0 16 rfl rfl)
theorem dX1_throwFrom_18 : decode cX1_throwFrom 18 = .ok (.iload 4, 2) := dk_21 4 (dk_at dksX1_throwFrom_0 18 rfl rfl)
theorem dX1_throwFrom_20 : decode cX1_throwFrom 20 = .ok (.ifCond .eq 60, 3) := dk_153 0 60 (dk_at dksX1_throwFrom_0 20 rfl rfl)
theorem dX1_throwFrom_23 : decode cX1_throwFrom 23 = .ok (.aload_n 3, 1) := dk_45 (dk_at dksX1_throwFrom_0 23 rfl rfl)
theorem dX1_throwFrom_24 : decode cX1_throwFrom 24 = .ok (.invokeinterface 164 1, 5) := by decide +kernel
theorem dX1_throwFrom_29 : decode cX1_throwFrom 29 = .ok (.ifCond .eq 51, 3) := dk_153 0 51 (dk_at dksX1_throwFrom_1 5 rfl rfl)
theorem dX1_throwFrom_32 : decode cX1_throwFrom 32 = .ok (.aload_n 3, 1) := dk_45 (dk_at dksX1_throwFrom_1 8 rfl rfl)
theorem dX1_throwFrom_33 : decode cX1_throwFrom 33 = .ok (.invokeinterface 170 1, 5) := by decide +kernel
theorem dX1_throwFrom_38 : decode cX1_throwFrom 38 = .ok (.checkcast 188, 3) := dk_192 0 188 (dk_at dksX1_throwFrom_1 14 rfl rfl)
theorem dX1_throwFrom_41 : decode cX1_throwFrom 41 = .ok (.astore 5, 2) := dk_58 5 (dk_at dksX1_throwFrom_1 17 rfl rfl)
theorem dX1_throwFrom_43 : decode cX1_throwFrom 43 = .ok (.aload 5, 2) := dk_25 5 (dk_at dksX1_throwFrom_1 19 rfl rfl)
theorem dX1_throwFrom_45 : decode cX1_throwFrom 45 = .ok (.aload_n 1, 1) := dk_43 (dk_at dksX1_throwFrom_1 21 rfl rfl)
theorem dX1_throwFrom_46 : decode cX1_throwFrom 46 = .ok (.if_acmp .eq 7, 3) := dk_165 0 7 (dk_at dksX1_throwFrom_2 0 rfl rfl)
theorem dX1_throwFrom_49 : decode cX1_throwFrom 49 = .ok (.iconst 1, 1) := dk_4 (dk_at dksX1_throwFrom_2 3 rfl rfl)
theorem dX1_throwFrom_50 : decode cX1_throwFrom 50 = .ok (.goto 4, 3) := dk_167 0 4 (dk_at dksX1_throwFrom_2 4 rfl rfl)
theorem dX1_throwFrom_53 : decode cX1_throwFrom 53 = .ok (.iconst 0, 1) := dk_3 (dk_at dksX1_throwFrom_2 7 rfl rfl)
theorem dX1_throwFrom_54 : decode cX1_throwFrom 54 = .ok (.istore 4, 2) := dk_54 4 (dk_at dksX1_throwFrom_2 8 rfl rfl)
theorem dX1_throwFrom_56 : decode cX1_throwFrom 56 = .ok (.iload 4, 2) := dk_21 4 (dk_at dksX1_throwFrom_2 10 rfl rfl)
theorem dX1_throwFrom_58 : decode cX1_throwFrom 58 = .ok (.ifCond .ne 7, 3) := dk_154 0 7 (dk_at dksX1_throwFrom_2 12 rfl rfl)
theorem dX1_throwFrom_61 : decode cX1_throwFrom 61 = .ok (.iload_n 2, 1) := dk_28 (dk_at dksX1_throwFrom_2 15 rfl rfl)
theorem dX1_throwFrom_62 : decode cX1_throwFrom 62 = .ok (.ifCond .eq 15, 3) := dk_153 0 15 (dk_at dksX1_throwFrom_2 16 rfl rfl)
theorem dX1_throwFrom_65 : decode cX1_throwFrom 65 = .ok (.aload_n 3, 1) := dk_45 (dk_at dksX1_throwFrom_2 19 rfl rfl)
theorem dX1_throwFrom_66 : decode cX1_throwFrom 66 = .ok (.invokeinterface 179 1, 5) := by decide +kernel
theorem dX1_throwFrom_71 : decode cX1_throwFrom 71 = .ok (.aload_n 0, 1) := dk_42 (dk_at dksX1_throwFrom_3 5 rfl rfl)
theorem dX1_throwFrom_72 : decode cX1_throwFrom 72 = .ok (.aload 5, 2) := dk_25 5 (dk_at dksX1_throwFrom_3 6 rfl rfl)
theorem dX1_throwFrom_74 : decode cX1_throwFrom 74 = .ok (.invokevirtual 334, 3) := dk_182 1 78 (dk_at dksX1_throwFrom_3 8 rfl rfl)
theorem dX1_throwFrom_77 : decode cX1_throwFrom 77 = .ok (.goto (-59), 3) := dk_167 255 197 (dk_at dksX1_throwFrom_3 11 rfl rfl)
theorem dX1_throwFrom_80 : decode cX1_throwFrom 80 = .ok (.aload_n 0, 1) := dk_42 (dk_at dksX1_throwFrom_3 14 rfl rfl)
theorem dX1_throwFrom_81 : decode cX1_throwFrom 81 = .ok (.getfield 83, 3) := dk_180 0 83 (dk_at dksX1_throwFrom_3 15 rfl rfl)
theorem dX1_throwFrom_84 : decode cX1_throwFrom 84 = .ok (.invokevirtual 160, 3) := dk_182 0 160 (dk_at dksX1_throwFrom_3 18 rfl rfl)
theorem dX1_throwFrom_87 : decode cX1_throwFrom 87 = .ok (.astore 5, 2) := dk_58 5 (dk_at dksX1_throwFrom_3 21 rfl rfl)
theorem dX1_throwFrom_89 : decode cX1_throwFrom 89 = .ok (.aload 5, 2) := dk_25 5 (dk_at dksX1_throwFrom_4 0 rfl rfl)
theorem dX1_throwFrom_91 : decode cX1_throwFrom 91 = .ok (.invokeinterface 164 1, 5) := by decide +kernel
theorem dX1_throwFrom_96 : decode cX1_throwFrom 96 = .ok (.ifCond .eq 29, 3) := dk_153 0 29 (dk_at dksX1_throwFrom_4 7 rfl rfl)
theorem dX1_throwFrom_99 : decode cX1_throwFrom 99 = .ok (.aload 5, 2) := dk_25 5 (dk_at dksX1_throwFrom_4 10 rfl rfl)
theorem dX1_throwFrom_101 : decode cX1_throwFrom 101 = .ok (.invokeinterface 170 1, 5) := by decide +kernel
theorem dX1_throwFrom_106 : decode cX1_throwFrom 106 = .ok (.checkcast 188, 3) := dk_192 0 188 (dk_at dksX1_throwFrom_4 17 rfl rfl)
theorem dX1_throwFrom_109 : decode cX1_throwFrom 109 = .ok (.getfield 209, 3) := dk_180 0 209 (dk_at dksX1_throwFrom_4 20 rfl rfl)
theorem dX1_throwFrom_112 : decode cX1_throwFrom 112 = .ok (.ifCond .eq (-23), 3) := dk_153 255 233 (dk_at dksX1_throwFrom_5 0 rfl rfl)
theorem dX1_throwFrom_115 : decode cX1_throwFrom 115 = .ok (.aload 5, 2) := dk_25 5 (dk_at dksX1_throwFrom_5 3 rfl rfl)
theorem dX1_throwFrom_117 : decode cX1_throwFrom 117 = .ok (.invokeinterface 179 1, 5) := by decide +kernel
theorem dX1_throwFrom_122 : decode cX1_throwFrom 122 = .ok (.goto (-33), 3) := dk_167 255 223 (dk_at dksX1_throwFrom_5 10 rfl rfl)
theorem dX1_throwFrom_125 : decode cX1_throwFrom 125 = .ok (.return_, 1) := dk_177 (dk_at dksX1_throwFrom_5 13 rfl rfl)
def dkwX1_undo_2 : List UInt8 := [184, 0, 131, 182, 0, 137, 177]
abbrev dktX1_undo_2 : List UInt8 := dkwX1_undo_2 ++ []
def dkwX1_undo_1 : List UInt8 := [180, 0, 60, 43, 180, 0, 220, 180, 1, 84, 43, 180, 1, 87, 79, 42, 180, 0, 69, 43, 180, 1, 72]
abbrev dktX1_undo_1 : List UInt8 := dkwX1_undo_1 ++ dktX1_undo_2
def dkwX1_undo_0 : List UInt8 := [43, 4, 181, 0, 209, 42, 89, 180, 1, 81, 4, 96, 181, 1, 81, 43, 180, 1, 72, 2, 159, 0, 33, 42]
abbrev dktX1_undo_0 : List UInt8 := dkwX1_undo_0 ++ dktX1_undo_1
theorem dksX1_undo_0 : cX1_undo.data.toList.drop 0 = dktX1_undo_0 := by decide +kernel
theorem dksX1_undo_1 : cX1_undo.data.toList.drop 24 = dktX1_undo_1 := dk_seg dksX1_undo_0 24 rfl rfl
theorem dksX1_undo_2 : cX1_undo.data.toList.drop 47 = dktX1_undo_2 := dk_seg dksX1_undo_1 23 rfl rfl
theorem dX1_undo_0 : decode cX1_undo 0 = .ok (.aload_n 1, 1) := dk_43 (dk_at dksX1_undo_0 0 rfl rfl)
theorem dX1_undo_1 : decode cX1_undo 1 = .ok (.iconst 1, 1) := dk_4 (dk_at dksX1_undo_0 1 rfl rfl)
theorem dX1_undo_2 : decode cX1_undo 2 = .ok (.putfield 209, 3) := dk_181 0 209 (dk_at dksX1_undo_0 2 rfl rfl)
theorem dX1_undo_5 : decode cX1_undo 5 = .ok (.aload_n 0, 1) := dk_42 (dk_at dksX1_undo_0 5 rfl rfl)
theorem dX1_undo_6 : decode cX1_undo 6 = .ok (.dup, 1) := dk_89 (dk_at dksX1_undo_0 6 rfl rfl)
theorem dX1_undo_7 : decode cX1_undo 7 = .ok (.getfield 337, 3) := dk_180 1 81 (dk_at dksX1_undo_0 7 rfl rfl)
theorem dX1_undo_10 : decode cX1_undo 10 = .ok (.iconst 1, 1) := dk_4 (dk_at dksX1_undo_0 10 rfl rfl)
theorem dX1_undo_11 : decode cX1_undo 11 = .ok (.iadd, 1) := dk_96 (dk_at dksX1_undo_0 11 rfl rfl)
theorem dX1_undo_12 : decode cX1_undo 12 = .ok (.putfield 337, 3) := dk_181 1 81 (dk_at dksX1_undo_0 12 rfl rfl)
theorem dX1_undo_15 : decode cX1_undo 15 = .ok (.aload_n 1, 1) := dk_43 (dk_at dksX1_undo_0 15 rfl rfl)
theorem dX1_undo_16 : decode cX1_undo 16 = .ok (.getfield 328, 3) := dk_180 1 72 (dk_at dksX1_undo_0 16 rfl rfl)
theorem dX1_undo_19 : decode cX1_undo 19 = .ok (.iconst (-1), 1) := dk_2 (dk_at dksX1_undo_0 19 rfl rfl)
theorem dX1_undo_20 : decode cX1_undo 20 = .ok (.if_icmp .eq 33, 3) := dk_159 0 33 (dk_at dksX1_undo_0 20 rfl rfl)
theorem dX1_undo_23 : decode cX1_undo 23 = .ok (.aload_n 0, 1) := dk_42 (dk_at dksX1_undo_0 23 rfl rfl)
theorem dX1_undo_24 : decode cX1_undo 24 = .ok (.getfield 60, 3) := dk_180 0 60 (dk_at dksX1_undo_1 0 rfl rfl)
theorem dX1_undo_27 : decode cX1_undo 27 = .ok (.aload_n 1, 1) := dk_43 (dk_at dksX1_undo_1 3 rfl rfl)
theorem dX1_undo_28 : decode cX1_undo 28 = .ok (.getfield 220, 3) := dk_180 0 220 (dk_at dksX1_undo_1 4 rfl rfl)
theorem dX1_undo_31 : decode cX1_undo 31 = .ok (.getfield 340, 3) := dk_180 1 84 (dk_at dksX1_undo_1 7 rfl rfl)
theorem dX1_undo_34 : decode cX1_undo 34 = .ok (.aload_n 1, 1) := dk_43 (dk_at dksX1_undo_1 10 rfl rfl)
theorem dX1_undo_35 : decode cX1_undo 35 = .ok (.getfield 343, 3) := dk_180 1 87 (dk_at dksX1_undo_1 11 rfl rfl)
theorem dX1_undo_38 : decode cX1_undo 38 = .ok (.iastore, 1) := dk_79 (dk_at dksX1_undo_1 14 rfl rfl)
theorem dX1_undo_39 : decode cX1_undo 39 = .ok (.aload_n 0, 1) := dk_42 (dk_at dksX1_undo_1 15 rfl rfl)
theorem dX1_undo_40 : decode cX1_undo 40 = .ok (.getfield 69, 3) := dk_180 0 69 (dk_at dksX1_undo_1 16 rfl rfl)
theorem dX1_undo_43 : decode cX1_undo 43 = .ok (.aload_n 1, 1) := dk_43 (dk_at dksX1_undo_1 19 rfl rfl)
theorem dX1_undo_44 : decode cX1_undo 44 = .ok (.getfield 328, 3) := dk_180 1 72 (dk_at dksX1_undo_1 20 rfl rfl)
theorem dX1_undo_47 : decode cX1_undo 47 = .ok (.invokestatic 131, 3) := dk_184 0 131 (dk_at dksX1_undo_2 0 rfl rfl)
theorem dX1_undo_50 : decode cX1_undo 50 = .ok (.invokevirtual 137, 3) := dk_182 0 137 (dk_at dksX1_undo_2 3 rfl rfl)
theorem dX1_undo_53 : decode cX1_undo 53 = .ok (.return_, 1) := dk_177 (dk_at dksX1_undo_2 6 rfl rfl)
def dkwX1_endGoing_5 : List UInt8 := [181, 1, 38, 177]
abbrev dktX1_endGoing_5 : List UInt8 := dkwX1_endGoing_5 ++ []
def dkwX1_endGoing_4 : List UInt8 := [181, 1, 66, 42, 43, 180, 1, 69, 181, 0, 86, 42, 43, 3, 182, 1, 34, 42, 43, 180, 1, 54]
abbrev dktX1_endGoing_4 : List UInt8 := dkwX1_endGoing_4 ++ dktX1_endGoing_5
def dkwX1_endGoing_3 : List UInt8 := [180, 1, 1, 154, 0, 46, 43, 180, 1, 54, 43, 180, 1, 63, 159, 0, 35, 42, 89, 180, 1, 66, 4, 96]
abbrev dktX1_endGoing_3 : List UInt8 := dkwX1_endGoing_3 ++ dktX1_endGoing_4
def dkwX1_endGoing_2 : List UInt8 := [42, 180, 0, 50, 43, 180, 0, 244, 46, 182, 1, 56, 153, 0, 11, 43, 44, 180, 1, 60, 181, 1, 54, 43]
abbrev dktX1_endGoing_2 : List UInt8 := dkwX1_endGoing_2 ++ dktX1_endGoing_3
def dkwX1_endGoing_1 : List UInt8 := [184, 1, 51, 153, 0, 7, 3, 167, 0, 4, 6, 181, 1, 1, 43, 29, 181, 1, 54, 167, 0, 28, 44, 29]
abbrev dktX1_endGoing_1 : List UInt8 := dkwX1_endGoing_1 ++ dktX1_endGoing_2
def dkwX1_endGoing_0 : List UInt8 := [43, 180, 0, 220, 77, 42, 180, 0, 50, 43, 180, 1, 14, 46, 62, 44, 182, 1, 48, 153, 0, 27, 43, 29]
abbrev dktX1_endGoing_0 : List UInt8 := dkwX1_endGoing_0 ++ dktX1_endGoing_1
theorem dksX1_endGoing_0 : cX1_endGoing.data.toList.drop 0 = dktX1_endGoing_0 := by decide +kernel
theorem dksX1_endGoing_1 : cX1_endGoing.data.toList.drop 24 = dktX1_endGoing_1 := dk_seg dksX1_endGoing_0 24 rfl rfl
theorem dksX1_endGoing_2 : cX1_endGoing.data.toList.drop 48 = dktX1_endGoing_2 := dk_seg dksX1_endGoing_1 24 rfl rfl
theorem dksX1_endGoing_3 : cX1_endGoing.data.toList.drop 72 = dktX1_endGoing_3 := dk_seg dksX1_endGoing_2 24 rfl rfl
theorem dksX1_endGoing_4 : cX1_endGoing.data.toList.drop 96 = dktX1_endGoing_4 := dk_seg dksX1_endGoing_3 24 rfl rfl
theorem dksX1_endGoing_5 : cX1_endGoing.data.toList.drop 118 = dktX1_endGoing_5 := dk_seg dksX1_endGoing_4 22 rfl rfl
theorem dX1_endGoing_0 : decode cX1_endGoing 0 = .ok (.aload_n 1, 1) := dk_43 (dk_at dksX1_endGoing_0 0 rfl rfl)
theorem dX1_endGoing_1 : decode cX1_endGoing 1 = .ok (.getfield 220, 3) := dk_180 0 220 (dk_at dksX1_endGoing_0 1 rfl rfl)
theorem dX1_endGoing_4 : decode cX1_endGoing 4 = .ok (.astore_n 2, 1) := dk_77 (dk_at dksX1_endGoing_0 4 rfl rfl)
theorem dX1_endGoing_5 : decode cX1_endGoing 5 = .ok (.aload_n 0, 1) := dk_42 (dk_at dksX1_endGoing_0 5 rfl rfl)
theorem dX1_endGoing_6 : decode cX1_endGoing 6 = .ok (.getfield 50, 3) := dk_180 0 50 (dk_at dksX1_endGoing_0 6 rfl rfl)
theorem dX1_endGoing_9 : decode cX1_endGoing 9 = .ok (.aload_n 1, 1) := dk_43 (dk_at dksX1_endGoing_0 9 rfl rfl)
theorem dX1_endGoing_10 : decode cX1_endGoing 10 = .ok (.getfield 270, 3) := dk_180 1 14 (dk_at dksX1_endGoing_0 10 rfl rfl)
theorem dX1_endGoing_13 : decode cX1_endGoing 13 = .ok (.iaload, 1) := dk_46 (dk_at dksX1_endGoing_0 13 rfl rfl)
theorem dX1_endGoing_14 : decode cX1_endGoing 14 = .ok (.istore_n 3, 1) := dk_62 (dk_at dksX1_endGoing_0 14 rfl rfl)
theorem dX1_endGoing_15 : decode cX1_endGoing 15 = .ok (.aload_n 2, 1) := dk_44 (dk_at dksX1_endGoing_0 15 rfl rfl)
theorem dX1_endGoing_16 : decode cX1_endGoing 16 = .ok (.invokevirtual 304, 3) := dk_182 1 48 (dk_at dksX1_endGoing_0 16 rfl rfl)
theorem dX1_endGoing_19 : decode cX1_endGoing 19 = .ok (.ifCond .eq 27, 3) := dk_153 0 27 (dk_at dksX1_endGoing_0 19 rfl rfl)
theorem dX1_endGoing_22 : decode cX1_endGoing 22 = .ok (.aload_n 1, 1) := dk_43 (dk_at dksX1_endGoing_0 22 rfl rfl)
theorem dX1_endGoing_23 : decode cX1_endGoing 23 = .ok (.iload_n 3, 1) := dk_29 (dk_at dksX1_endGoing_0 23 rfl rfl)
theorem dX1_endGoing_24 : decode cX1_endGoing 24 = .ok (.invokestatic 307, 3) := dk_184 1 51 (dk_at dksX1_endGoing_1 0 rfl rfl)
theorem dX1_endGoing_27 : decode cX1_endGoing 27 = .ok (.ifCond .eq 7, 3) := dk_153 0 7 (dk_at dksX1_endGoing_1 3 rfl rfl)
theorem dX1_endGoing_30 : decode cX1_endGoing 30 = .ok (.iconst 0, 1) := dk_3 (dk_at dksX1_endGoing_1 6 rfl rfl)
theorem dX1_endGoing_31 : decode cX1_endGoing 31 = .ok (.goto 4, 3) := dk_167 0 4 (dk_at dksX1_endGoing_1 7 rfl rfl)
theorem dX1_endGoing_34 : decode cX1_endGoing 34 = .ok (.iconst 3, 1) := dk_6 (dk_at dksX1_endGoing_1 10 rfl rfl)
theorem dX1_endGoing_35 : decode cX1_endGoing 35 = .ok (.putfield 257, 3) := dk_181 1 1 (dk_at dksX1_endGoing_1 11 rfl rfl)
theorem dX1_endGoing_38 : decode cX1_endGoing 38 = .ok (.aload_n 1, 1) := dk_43 (dk_at dksX1_endGoing_1 14 rfl rfl)
theorem dX1_endGoing_39 : decode cX1_endGoing 39 = .ok (.iload_n 3, 1) := dk_29 (dk_at dksX1_endGoing_1 15 rfl rfl)
theorem dX1_endGoing_40 : decode cX1_endGoing 40 = .ok (.putfield 310, 3) := dk_181 1 54 (dk_at dksX1_endGoing_1 16 rfl rfl)
theorem dX1_endGoing_43 : decode cX1_endGoing 43 = .ok (.goto 28, 3) := dk_167 0 28 (dk_at dksX1_endGoing_1 19 rfl rfl)
theorem dX1_endGoing_46 : decode cX1_endGoing 46 = .ok (.aload_n 2, 1) := dk_44 (dk_at dksX1_endGoing_1 22 rfl rfl)
theorem dX1_endGoing_47 : decode cX1_endGoing 47 = .ok (.iload_n 3, 1) := dk_29 (dk_at dksX1_endGoing_1 23 rfl rfl)
theorem dX1_endGoing_48 : decode cX1_endGoing 48 = .ok (.aload_n 0, 1) := dk_42 (dk_at dksX1_endGoing_2 0 rfl rfl)
theorem dX1_endGoing_49 : decode cX1_endGoing 49 = .ok (.getfield 50, 3) := dk_180 0 50 (dk_at dksX1_endGoing_2 1 rfl rfl)
theorem dX1_endGoing_52 : decode cX1_endGoing 52 = .ok (.aload_n 1, 1) := dk_43 (dk_at dksX1_endGoing_2 4 rfl rfl)
theorem dX1_endGoing_53 : decode cX1_endGoing 53 = .ok (.getfield 244, 3) := dk_180 0 244 (dk_at dksX1_endGoing_2 5 rfl rfl)
theorem dX1_endGoing_56 : decode cX1_endGoing 56 = .ok (.iaload, 1) := dk_46 (dk_at dksX1_endGoing_2 8 rfl rfl)
theorem dX1_endGoing_57 : decode cX1_endGoing 57 = .ok (.invokevirtual 312, 3) := dk_182 1 56 (dk_at dksX1_endGoing_2 9 rfl rfl)
theorem dX1_endGoing_60 : decode cX1_endGoing 60 = .ok (.ifCond .eq 11, 3) := dk_153 0 11 (dk_at dksX1_endGoing_2 12 rfl rfl)
theorem dX1_endGoing_63 : decode cX1_endGoing 63 = .ok (.aload_n 1, 1) := dk_43 (dk_at dksX1_endGoing_2 15 rfl rfl)
theorem dX1_endGoing_64 : decode cX1_endGoing 64 = .ok (.aload_n 2, 1) := dk_44 (dk_at dksX1_endGoing_2 16 rfl rfl)
theorem dX1_endGoing_65 : decode cX1_endGoing 65 = .ok (.getfield 316, 3) := dk_180 1 60 (dk_at dksX1_endGoing_2 17 rfl rfl)
theorem dX1_endGoing_68 : decode cX1_endGoing 68 = .ok (.putfield 310, 3) := dk_181 1 54 (dk_at dksX1_endGoing_2 20 rfl rfl)
theorem dX1_endGoing_71 : decode cX1_endGoing 71 = .ok (.aload_n 1, 1) := dk_43 (dk_at dksX1_endGoing_2 23 rfl rfl)
theorem dX1_endGoing_72 : decode cX1_endGoing 72 = .ok (.getfield 257, 3) := dk_180 1 1 (dk_at dksX1_endGoing_3 0 rfl rfl)
theorem dX1_endGoing_75 : decode cX1_endGoing 75 = .ok (.ifCond .ne 46, 3) := dk_154 0 46 (dk_at dksX1_endGoing_3 3 rfl rfl)
theorem dX1_endGoing_78 : decode cX1_endGoing 78 = .ok (.aload_n 1, 1) := dk_43 (dk_at dksX1_endGoing_3 6 rfl rfl)
theorem dX1_endGoing_79 : decode cX1_endGoing 79 = .ok (.getfield 310, 3) := dk_180 1 54 (dk_at dksX1_endGoing_3 7 rfl rfl)
theorem dX1_endGoing_82 : decode cX1_endGoing 82 = .ok (.aload_n 1, 1) := dk_43 (dk_at dksX1_endGoing_3 10 rfl rfl)
theorem dX1_endGoing_83 : decode cX1_endGoing 83 = .ok (.getfield 319, 3) := dk_180 1 63 (dk_at dksX1_endGoing_3 11 rfl rfl)
theorem dX1_endGoing_86 : decode cX1_endGoing 86 = .ok (.if_icmp .eq 35, 3) := dk_159 0 35 (dk_at dksX1_endGoing_3 14 rfl rfl)
theorem dX1_endGoing_89 : decode cX1_endGoing 89 = .ok (.aload_n 0, 1) := dk_42 (dk_at dksX1_endGoing_3 17 rfl rfl)
theorem dX1_endGoing_90 : decode cX1_endGoing 90 = .ok (.dup, 1) := dk_89 (dk_at dksX1_endGoing_3 18 rfl rfl)
theorem dX1_endGoing_91 : decode cX1_endGoing 91 = .ok (.getfield 322, 3) := dk_180 1 66 (dk_at dksX1_endGoing_3 19 rfl rfl)
theorem dX1_endGoing_94 : decode cX1_endGoing 94 = .ok (.iconst 1, 1) := dk_4 (dk_at dksX1_endGoing_3 22 rfl rfl)
theorem dX1_endGoing_95 : decode cX1_endGoing 95 = .ok (.iadd, 1) := dk_96 (dk_at dksX1_endGoing_3 23 rfl rfl)
theorem dX1_endGoing_96 : decode cX1_endGoing 96 = .ok (.putfield 322, 3) := dk_181 1 66 (dk_at dksX1_endGoing_4 0 rfl rfl)
theorem dX1_endGoing_99 : decode cX1_endGoing 99 = .ok (.aload_n 0, 1) := dk_42 (dk_at dksX1_endGoing_4 3 rfl rfl)
theorem dX1_endGoing_100 : decode cX1_endGoing 100 = .ok (.aload_n 1, 1) := dk_43 (dk_at dksX1_endGoing_4 4 rfl rfl)
theorem dX1_endGoing_101 : decode cX1_endGoing 101 = .ok (.getfield 325, 3) := dk_180 1 69 (dk_at dksX1_endGoing_4 5 rfl rfl)
theorem dX1_endGoing_104 : decode cX1_endGoing 104 = .ok (.putfield 86, 3) := dk_181 0 86 (dk_at dksX1_endGoing_4 8 rfl rfl)
theorem dX1_endGoing_107 : decode cX1_endGoing 107 = .ok (.aload_n 0, 1) := dk_42 (dk_at dksX1_endGoing_4 11 rfl rfl)
theorem dX1_endGoing_108 : decode cX1_endGoing 108 = .ok (.aload_n 1, 1) := dk_43 (dk_at dksX1_endGoing_4 12 rfl rfl)
theorem dX1_endGoing_109 : decode cX1_endGoing 109 = .ok (.iconst 0, 1) := dk_3 (dk_at dksX1_endGoing_4 13 rfl rfl)
theorem dX1_endGoing_110 : decode cX1_endGoing 110 = .ok (.invokevirtual 290, 3) := dk_182 1 34 (dk_at dksX1_endGoing_4 14 rfl rfl)
theorem dX1_endGoing_113 : decode cX1_endGoing 113 = .ok (.aload_n 0, 1) := dk_42 (dk_at dksX1_endGoing_4 17 rfl rfl)
theorem dX1_endGoing_114 : decode cX1_endGoing 114 = .ok (.aload_n 1, 1) := dk_43 (dk_at dksX1_endGoing_4 18 rfl rfl)
theorem dX1_endGoing_115 : decode cX1_endGoing 115 = .ok (.getfield 310, 3) := dk_180 1 54 (dk_at dksX1_endGoing_4 19 rfl rfl)
theorem dX1_endGoing_118 : decode cX1_endGoing 118 = .ok (.putfield 294, 3) := dk_181 1 38 (dk_at dksX1_endGoing_5 0 rfl rfl)
theorem dX1_endGoing_121 : decode cX1_endGoing 121 = .ok (.return_, 1) := dk_177 (dk_at dksX1_endGoing_5 3 rfl rfl)
def dkwX1_writeResults_4 : List UInt8 := [167, 255, 178, 177]
abbrev dktX1_writeResults_4 : List UInt8 := dkwX1_writeResults_4 ++ []
def dkwX1_writeResults_3 : List UInt8 := [167, 0, 4, 3, 79, 42, 180, 0, 56, 45, 180, 1, 72, 182, 0, 121, 45, 42, 180, 0, 153, 182, 0, 232]
abbrev dktX1_writeResults_3 : List UInt8 := dkwX1_writeResults_3 ++ dktX1_writeResults_4
def dkwX1_writeResults_2 : List UInt8 := [132, 1, 255, 42, 180, 0, 50, 45, 180, 1, 72, 45, 180, 1, 1, 154, 0, 10, 45, 180, 1, 8]
abbrev dktX1_writeResults_2 : List UInt8 := dkwX1_writeResults_2 ++ dktX1_writeResults_3
def dkwX1_writeResults_1 : List UInt8 := [185, 0, 170, 1, 0, 192, 0, 188, 78, 45, 180, 0, 190, 16, 98, 160, 0, 53, 27, 158, 0, 49]
abbrev dktX1_writeResults_1 : List UInt8 := dkwX1_writeResults_1 ++ dktX1_writeResults_2
def dkwX1_writeResults_0 : List UInt8 := [5, 60, 42, 180, 0, 79, 182, 0, 160, 77, 44, 185, 0, 164, 1, 0, 153, 0, 75, 44]
abbrev dktX1_writeResults_0 : List UInt8 := dkwX1_writeResults_0 ++ dktX1_writeResults_1
theorem dksX1_writeResults_0 : cX1_writeResults.data.toList.drop 0 = dktX1_writeResults_0 := by decide +kernel
theorem dksX1_writeResults_1 : cX1_writeResults.data.toList.drop 20 = dktX1_writeResults_1 := dk_seg dksX1_writeResults_0 20 rfl rfl
theorem dksX1_writeResults_2 : cX1_writeResults.data.toList.drop 42 = dktX1_writeResults_2 := dk_seg dksX1_writeResults_1 22 rfl rfl
theorem dksX1_writeResults_3 : cX1_writeResults.data.toList.drop 64 = dktX1_writeResults_3 := dk_seg dksX1_writeResults_2 22 rfl rfl
theorem dksX1_writeResults_4 : cX1_writeResults.data.toList.drop 88 = dktX1_writeResults_4 := dk_seg dksX1_writeResults_3 24 rfl rfl
theorem dX1_writeResults_0 : decode cX1_writeResults 0 = .ok (.iconst 2, 1) := dk_5 (dk_at dksX1_writeResults_0 0 rfl rfl)
theorem dX1_writeResults_1 : decode cX1_writeResults 1 = .ok (.istore_n 1, 1) := dk_60 (dk_at dksX1_writeResults_0 1 rfl rfl)
theorem dX1_writeResults_2 : decode cX1_writeResults 2 = .ok (.aload_n 0, 1) := dk_42 (dk_at dksX1_writeResults_0 2 rfl rfl)
theorem dX1_writeResults_3 : decode cX1_writeResults 3 = .ok (.getfield 79, 3) := dk_180 0 79 (dk_at dksX1_writeResults_0 3 rfl rfl)
theorem dX1_writeResults_6 : decode cX1_writeResults 6 = .ok (.invokevirtual 160, 3) := dk_182 0 160 (dk_at dksX1_writeResults_0 6 rfl rfl)
theorem dX1_writeResults_9 : decode cX1_writeResults 9 = .ok (.astore_n 2, 1) := dk_77 (dk_at dksX1_writeResults_0 9 rfl rfl)
theorem dX1_writeResults_10 : decode cX1_writeResults 10 = .ok (.aload_n 2, 1) := dk_44 (dk_at dksX1_writeResults_0 10 rfl rfl)
theorem dX1_writeResults_11 : decode cX1_writeResults 11 = .ok (.invokeinterface 164 1, 5) := by decide +kernel
theorem dX1_writeResults_16 : decode cX1_writeResults 16 = .ok (.ifCond .eq 75, 3) := dk_153 0 75 (dk_at dksX1_writeResults_0 16 rfl rfl)
theorem dX1_writeResults_19 : decode cX1_writeResults 19 = .ok (.aload_n 2, 1) := dk_44 (dk_at dksX1_writeResults_0 19 rfl rfl)
theorem dX1_writeResults_20 : decode cX1_writeResults 20 = .ok (.invokeinterface 170 1, 5) := by decide +kernel
theorem dX1_writeResults_25 : decode cX1_writeResults 25 = .ok (.checkcast 188, 3) := dk_192 0 188 (dk_at dksX1_writeResults_1 5 rfl rfl)
theorem dX1_writeResults_28 : decode cX1_writeResults 28 = .ok (.astore_n 3, 1) := dk_78 (dk_at dksX1_writeResults_1 8 rfl rfl)
theorem dX1_writeResults_29 : decode cX1_writeResults 29 = .ok (.aload_n 3, 1) := dk_45 (dk_at dksX1_writeResults_1 9 rfl rfl)
theorem dX1_writeResults_30 : decode cX1_writeResults 30 = .ok (.getfield 190, 3) := dk_180 0 190 (dk_at dksX1_writeResults_1 10 rfl rfl)
theorem dX1_writeResults_33 : decode cX1_writeResults 33 = .ok (.bipush 98, 2) := dk_16 98 (dk_at dksX1_writeResults_1 13 rfl rfl)
theorem dX1_writeResults_35 : decode cX1_writeResults 35 = .ok (.if_icmp .ne 53, 3) := dk_160 0 53 (dk_at dksX1_writeResults_1 15 rfl rfl)
theorem dX1_writeResults_38 : decode cX1_writeResults 38 = .ok (.iload_n 1, 1) := dk_27 (dk_at dksX1_writeResults_1 18 rfl rfl)
theorem dX1_writeResults_39 : decode cX1_writeResults 39 = .ok (.ifCond .le 49, 3) := dk_158 0 49 (dk_at dksX1_writeResults_1 19 rfl rfl)
theorem dX1_writeResults_42 : decode cX1_writeResults 42 = .ok (.iinc 1 (-1), 3) := dk_132 1 255 (dk_at dksX1_writeResults_2 0 rfl rfl)
theorem dX1_writeResults_45 : decode cX1_writeResults 45 = .ok (.aload_n 0, 1) := dk_42 (dk_at dksX1_writeResults_2 3 rfl rfl)
theorem dX1_writeResults_46 : decode cX1_writeResults 46 = .ok (.getfield 50, 3) := dk_180 0 50 (dk_at dksX1_writeResults_2 4 rfl rfl)
theorem dX1_writeResults_49 : decode cX1_writeResults 49 = .ok (.aload_n 3, 1) := dk_45 (dk_at dksX1_writeResults_2 7 rfl rfl)
theorem dX1_writeResults_50 : decode cX1_writeResults 50 = .ok (.getfield 328, 3) := dk_180 1 72 (dk_at dksX1_writeResults_2 8 rfl rfl)
theorem dX1_writeResults_53 : decode cX1_writeResults 53 = .ok (.aload_n 3, 1) := dk_45 (dk_at dksX1_writeResults_2 11 rfl rfl)
theorem dX1_writeResults_54 : decode cX1_writeResults 54 = .ok (.getfield 257, 3) := dk_180 1 1 (dk_at dksX1_writeResults_2 12 rfl rfl)
theorem dX1_writeResults_57 : decode cX1_writeResults 57 = .ok (.ifCond .ne 10, 3) := dk_154 0 10 (dk_at dksX1_writeResults_2 15 rfl rfl)
theorem dX1_writeResults_60 : decode cX1_writeResults 60 = .ok (.aload_n 3, 1) := dk_45 (dk_at dksX1_writeResults_2 18 rfl rfl)
theorem dX1_writeResults_61 : decode cX1_writeResults 61 = .ok (.getfield 264, 3) := dk_180 1 8 (dk_at dksX1_writeResults_2 19 rfl rfl)
theorem dX1_writeResults_64 : decode cX1_writeResults 64 = .ok (.goto 4, 3) := dk_167 0 4 (dk_at dksX1_writeResults_3 0 rfl rfl)
theorem dX1_writeResults_67 : decode cX1_writeResults 67 = .ok (.iconst 0, 1) := dk_3 (dk_at dksX1_writeResults_3 3 rfl rfl)
theorem dX1_writeResults_68 : decode cX1_writeResults 68 = .ok (.iastore, 1) := dk_79 (dk_at dksX1_writeResults_3 4 rfl rfl)
theorem dX1_writeResults_69 : decode cX1_writeResults 69 = .ok (.aload_n 0, 1) := dk_42 (dk_at dksX1_writeResults_3 5 rfl rfl)
theorem dX1_writeResults_70 : decode cX1_writeResults 70 = .ok (.getfield 56, 3) := dk_180 0 56 (dk_at dksX1_writeResults_3 6 rfl rfl)
theorem dX1_writeResults_73 : decode cX1_writeResults 73 = .ok (.aload_n 3, 1) := dk_45 (dk_at dksX1_writeResults_3 9 rfl rfl)
theorem dX1_writeResults_74 : decode cX1_writeResults 74 = .ok (.getfield 328, 3) := dk_180 1 72 (dk_at dksX1_writeResults_3 10 rfl rfl)
theorem dX1_writeResults_77 : decode cX1_writeResults 77 = .ok (.invokevirtual 121, 3) := dk_182 0 121 (dk_at dksX1_writeResults_3 13 rfl rfl)
theorem dX1_writeResults_80 : decode cX1_writeResults 80 = .ok (.aload_n 3, 1) := dk_45 (dk_at dksX1_writeResults_3 16 rfl rfl)
theorem dX1_writeResults_81 : decode cX1_writeResults 81 = .ok (.aload_n 0, 1) := dk_42 (dk_at dksX1_writeResults_3 17 rfl rfl)
theorem dX1_writeResults_82 : decode cX1_writeResults 82 = .ok (.getfield 153, 3) := dk_180 0 153 (dk_at dksX1_writeResults_3 18 rfl rfl)
theorem dX1_writeResults_85 : decode cX1_writeResults 85 = .ok (.invokevirtual 232, 3) := dk_182 0 232 (dk_at dksX1_writeResults_3 21 rfl rfl)
theorem dX1_writeResults_88 : decode cX1_writeResults 88 = .ok (.goto (-78), 3) := dk_167 255 178 (dk_at dksX1_writeResults_4 0 rfl rfl)
theorem dX1_writeResults_91 : decode cX1_writeResults 91 = .ok (.return_, 1) := dk_177 (dk_at dksX1_writeResults_4 3 rfl rfl)
def dkwX1_retireAll_6 : List UInt8 := [28, 154, 0, 8, 16, 116, 167, 0, 7, 42, 182, 1, 140, 182, 1, 122, 177]
abbrev dktX1_retireAll_6 : List UInt8 := dkwX1_retireAll_6 ++ []
def dkwX1_retireAll_5 : List UInt8 := [182, 1, 133, 132, 1, 1, 167, 0, 10, 42, 45, 21, 4, 182, 1, 136, 167, 255, 166, 27, 154, 0, 20, 42]
abbrev dktX1_retireAll_5 : List UInt8 := dkwX1_retireAll_5 ++ dktX1_retireAll_6
def dkwX1_retireAll_4 : List UInt8 := [45, 182, 1, 129, 54, 4, 21, 4, 154, 0, 7, 4, 167, 0, 4, 3, 61, 28, 153, 0, 14, 42, 45]
abbrev dktX1_retireAll_4 : List UInt8 := dkwX1_retireAll_4 ++ dktX1_retireAll_5
def dkwX1_retireAll_3 : List UInt8 := [182, 1, 93, 192, 0, 188, 182, 1, 126, 153, 0, 57, 42, 180, 0, 79, 182, 1, 93, 192, 0, 188, 78, 42]
abbrev dktX1_retireAll_3 : List UInt8 := dkwX1_retireAll_3 ++ dktX1_retireAll_4
def dkwX1_retireAll_2 : List UInt8 := [42, 180, 0, 37, 162, 0, 84, 42, 180, 0, 79, 182, 1, 90, 154, 0, 74, 42, 42, 180, 0, 79]
abbrev dktX1_retireAll_2 : List UInt8 := dkwX1_retireAll_2 ++ dktX1_retireAll_3
def dkwX1_retireAll_1 : List UInt8 := [2, 159, 0, 14, 42, 182, 1, 119, 42, 16, 105, 182, 1, 122, 177, 3, 60, 4, 61, 28, 153, 0, 92, 27]
abbrev dktX1_retireAll_1 : List UInt8 := dkwX1_retireAll_1 ++ dktX1_retireAll_2
def dkwX1_retireAll_0 : List UInt8 := [42, 180, 1, 113, 153, 0, 35, 42, 180, 0, 33, 180, 1, 100, 154, 0, 25, 42, 180, 0, 33, 180, 1, 116]
abbrev dktX1_retireAll_0 : List UInt8 := dkwX1_retireAll_0 ++ dktX1_retireAll_1
theorem dksX1_retireAll_0 : cX1_retireAll.data.toList.drop 0 = dktX1_retireAll_0 := by decide +kernel
theorem dksX1_retireAll_1 : cX1_retireAll.data.toList.drop 24 = dktX1_retireAll_1 := dk_seg dksX1_retireAll_0 24 rfl rfl
theorem dksX1_retireAll_2 : cX1_retireAll.data.toList.drop 48 = dktX1_retireAll_2 := dk_seg dksX1_retireAll_1 24 rfl rfl
theorem dksX1_retireAll_3 : cX1_retireAll.data.toList.drop 70 = dktX1_retireAll_3 := dk_seg dksX1_retireAll_2 22 rfl rfl
theorem dksX1_retireAll_4 : cX1_retireAll.data.toList.drop 94 = dktX1_retireAll_4 := dk_seg dksX1_retireAll_3 24 rfl rfl
theorem dksX1_retireAll_5 : cX1_retireAll.data.toList.drop 117 = dktX1_retireAll_5 := dk_seg dksX1_retireAll_4 23 rfl rfl
theorem dksX1_retireAll_6 : cX1_retireAll.data.toList.drop 141 = dktX1_retireAll_6 := dk_seg dksX1_retireAll_5 24 rfl rfl
theorem dX1_retireAll_0 : decode cX1_retireAll 0 = .ok (.aload_n 0, 1) := dk_42 (dk_at dksX1_retireAll_0 0 rfl rfl)
theorem dX1_retireAll_1 : decode cX1_retireAll 1 = .ok (.getfield 369, 3) := dk_180 1 113 (dk_at dksX1_retireAll_0 1 rfl rfl)
theorem dX1_retireAll_4 : decode cX1_retireAll 4 = .ok (.ifCond .eq 35, 3) := dk_153 0 35 (dk_at dksX1_retireAll_0 4 rfl rfl)
theorem dX1_retireAll_7 : decode cX1_retireAll 7 = .ok (.aload_n 0, 1) := dk_42 (dk_at dksX1_retireAll_0 7 rfl rfl)
theorem dX1_retireAll_8 : decode cX1_retireAll 8 = .ok (.getfield 33, 3) := dk_180 0 33 (dk_at dksX1_retireAll_0 8 rfl rfl)
theorem dX1_retireAll_11 : decode cX1_retireAll 11 = .ok (.getfield 356, 3) := dk_180 1 100 (dk_at dksX1_retireAll_0 11 rfl rfl)
theorem dX1_retireAll_14 : decode cX1_retireAll 14 = .ok (.ifCond .ne 25, 3) := dk_154 0 25 (dk_at dksX1_retireAll_0 14 rfl rfl)
theorem dX1_retireAll_17 : decode cX1_retireAll 17 = .ok (.aload_n 0, 1) := dk_42 (dk_at dksX1_retireAll_0 17 rfl rfl)
theorem dX1_retireAll_18 : decode cX1_retireAll 18 = .ok (.getfield 33, 3) := dk_180 0 33 (dk_at dksX1_retireAll_0 18 rfl rfl)
theorem dX1_retireAll_21 : decode cX1_retireAll 21 = .ok (.getfield 372, 3) := dk_180 1 116 (dk_at dksX1_retireAll_0 21 rfl rfl)
theorem dX1_retireAll_24 : decode cX1_retireAll 24 = .ok (.iconst (-1), 1) := dk_2 (dk_at dksX1_retireAll_1 0 rfl rfl)
theorem dX1_retireAll_25 : decode cX1_retireAll 25 = .ok (.if_icmp .eq 14, 3) := dk_159 0 14 (dk_at dksX1_retireAll_1 1 rfl rfl)
theorem dX1_retireAll_28 : decode cX1_retireAll 28 = .ok (.aload_n 0, 1) := dk_42 (dk_at dksX1_retireAll_1 4 rfl rfl)
theorem dX1_retireAll_29 : decode cX1_retireAll 29 = .ok (.invokevirtual 375, 3) := dk_182 1 119 (dk_at dksX1_retireAll_1 5 rfl rfl)
theorem dX1_retireAll_32 : decode cX1_retireAll 32 = .ok (.aload_n 0, 1) := dk_42 (dk_at dksX1_retireAll_1 8 rfl rfl)
theorem dX1_retireAll_33 : decode cX1_retireAll 33 = .ok (.bipush 105, 2) := dk_16 105 (dk_at dksX1_retireAll_1 9 rfl rfl)
theorem dX1_retireAll_35 : decode cX1_retireAll 35 = .ok (.invokevirtual 378, 3) := dk_182 1 122 (dk_at dksX1_retireAll_1 11 rfl rfl)
theorem dX1_retireAll_38 : decode cX1_retireAll 38 = .ok (.return_, 1) := dk_177 (dk_at dksX1_retireAll_1 14 rfl rfl)
theorem dX1_retireAll_39 : decode cX1_retireAll 39 = .ok (.iconst 0, 1) := dk_3 (dk_at dksX1_retireAll_1 15 rfl rfl)
theorem dX1_retireAll_40 : decode cX1_retireAll 40 = .ok (.istore_n 1, 1) := dk_60 (dk_at dksX1_retireAll_1 16 rfl rfl)
theorem dX1_retireAll_41 : decode cX1_retireAll 41 = .ok (.iconst 1, 1) := dk_4 (dk_at dksX1_retireAll_1 17 rfl rfl)
theorem dX1_retireAll_42 : decode cX1_retireAll 42 = .ok (.istore_n 2, 1) := dk_61 (dk_at dksX1_retireAll_1 18 rfl rfl)
theorem dX1_retireAll_43 : decode cX1_retireAll 43 = .ok (.iload_n 2, 1) := dk_28 (dk_at dksX1_retireAll_1 19 rfl rfl)
theorem dX1_retireAll_44 : decode cX1_retireAll 44 = .ok (.ifCond .eq 92, 3) := dk_153 0 92 (dk_at dksX1_retireAll_1 20 rfl rfl)
theorem dX1_retireAll_47 : decode cX1_retireAll 47 = .ok (.iload_n 1, 1) := dk_27 (dk_at dksX1_retireAll_1 23 rfl rfl)
theorem dX1_retireAll_48 : decode cX1_retireAll 48 = .ok (.aload_n 0, 1) := dk_42 (dk_at dksX1_retireAll_2 0 rfl rfl)
theorem dX1_retireAll_49 : decode cX1_retireAll 49 = .ok (.getfield 37, 3) := dk_180 0 37 (dk_at dksX1_retireAll_2 1 rfl rfl)
theorem dX1_retireAll_52 : decode cX1_retireAll 52 = .ok (.if_icmp .ge 84, 3) := dk_162 0 84 (dk_at dksX1_retireAll_2 4 rfl rfl)
theorem dX1_retireAll_55 : decode cX1_retireAll 55 = .ok (.aload_n 0, 1) := dk_42 (dk_at dksX1_retireAll_2 7 rfl rfl)
theorem dX1_retireAll_56 : decode cX1_retireAll 56 = .ok (.getfield 79, 3) := dk_180 0 79 (dk_at dksX1_retireAll_2 8 rfl rfl)
theorem dX1_retireAll_59 : decode cX1_retireAll 59 = .ok (.invokevirtual 346, 3) := dk_182 1 90 (dk_at dksX1_retireAll_2 11 rfl rfl)
theorem dX1_retireAll_62 : decode cX1_retireAll 62 = .ok (.ifCond .ne 74, 3) := dk_154 0 74 (dk_at dksX1_retireAll_2 14 rfl rfl)
theorem dX1_retireAll_65 : decode cX1_retireAll 65 = .ok (.aload_n 0, 1) := dk_42 (dk_at dksX1_retireAll_2 17 rfl rfl)
theorem dX1_retireAll_66 : decode cX1_retireAll 66 = .ok (.aload_n 0, 1) := dk_42 (dk_at dksX1_retireAll_2 18 rfl rfl)
theorem dX1_retireAll_67 : decode cX1_retireAll 67 = .ok (.getfield 79, 3) := dk_180 0 79 (dk_at dksX1_retireAll_2 19 rfl rfl)
theorem dX1_retireAll_70 : decode cX1_retireAll 70 = .ok (.invokevirtual 349, 3) := dk_182 1 93 (dk_at dksX1_retireAll_3 0 rfl rfl)
theorem dX1_retireAll_73 : decode cX1_retireAll 73 = .ok (.checkcast 188, 3) := dk_192 0 188 (dk_at dksX1_retireAll_3 3 rfl rfl)
theorem dX1_retireAll_76 : decode cX1_retireAll 76 = .ok (.invokevirtual 382, 3) := dk_182 1 126 (dk_at dksX1_retireAll_3 6 rfl rfl)
theorem dX1_retireAll_79 : decode cX1_retireAll 79 = .ok (.ifCond .eq 57, 3) := dk_153 0 57 (dk_at dksX1_retireAll_3 9 rfl rfl)
theorem dX1_retireAll_82 : decode cX1_retireAll 82 = .ok (.aload_n 0, 1) := dk_42 (dk_at dksX1_retireAll_3 12 rfl rfl)
theorem dX1_retireAll_83 : decode cX1_retireAll 83 = .ok (.getfield 79, 3) := dk_180 0 79 (dk_at dksX1_retireAll_3 13 rfl rfl)
theorem dX1_retireAll_86 : decode cX1_retireAll 86 = .ok (.invokevirtual 349, 3) := dk_182 1 93 (dk_at dksX1_retireAll_3 16 rfl rfl)
theorem dX1_retireAll_89 : decode cX1_retireAll 89 = .ok (.checkcast 188, 3) := dk_192 0 188 (dk_at dksX1_retireAll_3 19 rfl rfl)
theorem dX1_retireAll_92 : decode cX1_retireAll 92 = .ok (.astore_n 3, 1) := dk_78 (dk_at dksX1_retireAll_3 22 rfl rfl)
theorem dX1_retireAll_93 : decode cX1_retireAll 93 = .ok (.aload_n 0, 1) := dk_42 (dk_at dksX1_retireAll_3 23 rfl rfl)
theorem dX1_retireAll_94 : decode cX1_retireAll 94 = .ok (.aload_n 3, 1) := dk_45 (dk_at dksX1_retireAll_4 0 rfl rfl)
theorem dX1_retireAll_95 : decode cX1_retireAll 95 = .ok (.invokevirtual 385, 3) := dk_182 1 129 (dk_at dksX1_retireAll_4 1 rfl rfl)
theorem dX1_retireAll_98 : decode cX1_retireAll 98 = .ok (.istore 4, 2) := dk_54 4 (dk_at dksX1_retireAll_4 4 rfl rfl)
theorem dX1_retireAll_100 : decode cX1_retireAll 100 = .ok (.iload 4, 2) := dk_21 4 (dk_at dksX1_retireAll_4 6 rfl rfl)
theorem dX1_retireAll_102 : decode cX1_retireAll 102 = .ok (.ifCond .ne 7, 3) := dk_154 0 7 (dk_at dksX1_retireAll_4 8 rfl rfl)
theorem dX1_retireAll_105 : decode cX1_retireAll 105 = .ok (.iconst 1, 1) := dk_4 (dk_at dksX1_retireAll_4 11 rfl rfl)
theorem dX1_retireAll_106 : decode cX1_retireAll 106 = .ok (.goto 4, 3) := dk_167 0 4 (dk_at dksX1_retireAll_4 12 rfl rfl)
theorem dX1_retireAll_109 : decode cX1_retireAll 109 = .ok (.iconst 0, 1) := dk_3 (dk_at dksX1_retireAll_4 15 rfl rfl)
theorem dX1_retireAll_110 : decode cX1_retireAll 110 = .ok (.istore_n 2, 1) := dk_61 (dk_at dksX1_retireAll_4 16 rfl rfl)
theorem dX1_retireAll_111 : decode cX1_retireAll 111 = .ok (.iload_n 2, 1) := dk_28 (dk_at dksX1_retireAll_4 17 rfl rfl)
theorem dX1_retireAll_112 : decode cX1_retireAll 112 = .ok (.ifCond .eq 14, 3) := dk_153 0 14 (dk_at dksX1_retireAll_4 18 rfl rfl)
theorem dX1_retireAll_115 : decode cX1_retireAll 115 = .ok (.aload_n 0, 1) := dk_42 (dk_at dksX1_retireAll_4 21 rfl rfl)
theorem dX1_retireAll_116 : decode cX1_retireAll 116 = .ok (.aload_n 3, 1) := dk_45 (dk_at dksX1_retireAll_4 22 rfl rfl)
theorem dX1_retireAll_117 : decode cX1_retireAll 117 = .ok (.invokevirtual 389, 3) := dk_182 1 133 (dk_at dksX1_retireAll_5 0 rfl rfl)
theorem dX1_retireAll_120 : decode cX1_retireAll 120 = .ok (.iinc 1 1, 3) := dk_132 1 1 (dk_at dksX1_retireAll_5 3 rfl rfl)
theorem dX1_retireAll_123 : decode cX1_retireAll 123 = .ok (.goto 10, 3) := dk_167 0 10 (dk_at dksX1_retireAll_5 6 rfl rfl)
theorem dX1_retireAll_126 : decode cX1_retireAll 126 = .ok (.aload_n 0, 1) := dk_42 (dk_at dksX1_retireAll_5 9 rfl rfl)
theorem dX1_retireAll_127 : decode cX1_retireAll 127 = .ok (.aload_n 3, 1) := dk_45 (dk_at dksX1_retireAll_5 10 rfl rfl)
theorem dX1_retireAll_128 : decode cX1_retireAll 128 = .ok (.iload 4, 2) := dk_21 4 (dk_at dksX1_retireAll_5 11 rfl rfl)
theorem dX1_retireAll_130 : decode cX1_retireAll 130 = .ok (.invokevirtual 392, 3) := dk_182 1 136 (dk_at dksX1_retireAll_5 13 rfl rfl)
theorem dX1_retireAll_133 : decode cX1_retireAll 133 = .ok (.goto (-90), 3) := dk_167 255 166 (dk_at dksX1_retireAll_5 16 rfl rfl)
theorem dX1_retireAll_136 : decode cX1_retireAll 136 = .ok (.iload_n 1, 1) := dk_27 (dk_at dksX1_retireAll_5 19 rfl rfl)
theorem dX1_retireAll_137 : decode cX1_retireAll 137 = .ok (.ifCond .ne 20, 3) := dk_154 0 20 (dk_at dksX1_retireAll_5 20 rfl rfl)
theorem dX1_retireAll_140 : decode cX1_retireAll 140 = .ok (.aload_n 0, 1) := dk_42 (dk_at dksX1_retireAll_5 23 rfl rfl)
theorem dX1_retireAll_141 : decode cX1_retireAll 141 = .ok (.iload_n 2, 1) := dk_28 (dk_at dksX1_retireAll_6 0 rfl rfl)
theorem dX1_retireAll_142 : decode cX1_retireAll 142 = .ok (.ifCond .ne 8, 3) := dk_154 0 8 (dk_at dksX1_retireAll_6 1 rfl rfl)
theorem dX1_retireAll_145 : decode cX1_retireAll 145 = .ok (.bipush 116, 2) := dk_16 116 (dk_at dksX1_retireAll_6 4 rfl rfl)
theorem dX1_retireAll_147 : decode cX1_retireAll 147 = .ok (.goto 7, 3) := dk_167 0 7 (dk_at dksX1_retireAll_6 6 rfl rfl)
theorem dX1_retireAll_150 : decode cX1_retireAll 150 = .ok (.aload_n 0, 1) := dk_42 (dk_at dksX1_retireAll_6 9 rfl rfl)
theorem dX1_retireAll_151 : decode cX1_retireAll 151 = .ok (.invokevirtual 396, 3) := dk_182 1 140 (dk_at dksX1_retireAll_6 10 rfl rfl)
theorem dX1_retireAll_154 : decode cX1_retireAll 154 = .ok (.invokevirtual 378, 3) := dk_182 1 122 (dk_at dksX1_retireAll_6 13 rfl rfl)
theorem dX1_retireAll_157 : decode cX1_retireAll 157 = .ok (.return_, 1) := dk_177 (dk_at dksX1_retireAll_6 16 rfl rfl)
def dkwX1_takeInterrupt_2 : List UInt8 := [182, 1, 155, 181, 1, 146, 42, 42, 180, 1, 146, 181, 1, 38, 177]
abbrev dktX1_takeInterrupt_2 : List UInt8 := dkwX1_takeInterrupt_2 ++ []
def dkwX1_takeInterrupt_1 : List UInt8 := [183, 1, 149, 185, 0, 198, 2, 0, 87, 42, 182, 1, 152, 42, 42, 180, 0, 33, 42, 180, 1, 146]
abbrev dktX1_takeInterrupt_1 : List UInt8 := dkwX1_takeInterrupt_1 ++ dktX1_takeInterrupt_2
def dkwX1_takeInterrupt_0 : List UInt8 := [42, 3, 181, 1, 113, 42, 180, 0, 107, 187, 1, 144, 89, 16, 9, 42, 180, 1, 146, 42, 180, 0, 153, 1]
abbrev dktX1_takeInterrupt_0 : List UInt8 := dkwX1_takeInterrupt_0 ++ dktX1_takeInterrupt_1
theorem dksX1_takeInterrupt_0 : cX1_takeInterrupt.data.toList.drop 0 = dktX1_takeInterrupt_0 := by decide +kernel
theorem dksX1_takeInterrupt_1 : cX1_takeInterrupt.data.toList.drop 24 = dktX1_takeInterrupt_1 := dk_seg dksX1_takeInterrupt_0 24 rfl rfl
theorem dksX1_takeInterrupt_2 : cX1_takeInterrupt.data.toList.drop 46 = dktX1_takeInterrupt_2 := dk_seg dksX1_takeInterrupt_1 22 rfl rfl
theorem dX1_takeInterrupt_0 : decode cX1_takeInterrupt 0 = .ok (.aload_n 0, 1) := dk_42 (dk_at dksX1_takeInterrupt_0 0 rfl rfl)
theorem dX1_takeInterrupt_1 : decode cX1_takeInterrupt 1 = .ok (.iconst 0, 1) := dk_3 (dk_at dksX1_takeInterrupt_0 1 rfl rfl)
theorem dX1_takeInterrupt_2 : decode cX1_takeInterrupt 2 = .ok (.putfield 369, 3) := dk_181 1 113 (dk_at dksX1_takeInterrupt_0 2 rfl rfl)
theorem dX1_takeInterrupt_5 : decode cX1_takeInterrupt 5 = .ok (.aload_n 0, 1) := dk_42 (dk_at dksX1_takeInterrupt_0 5 rfl rfl)
theorem dX1_takeInterrupt_6 : decode cX1_takeInterrupt 6 = .ok (.getfield 107, 3) := dk_180 0 107 (dk_at dksX1_takeInterrupt_0 6 rfl rfl)
theorem dX1_takeInterrupt_9 : decode cX1_takeInterrupt 9 = .ok (.new 400, 3) := dk_187 1 144 (dk_at dksX1_takeInterrupt_0 9 rfl rfl)
theorem dX1_takeInterrupt_12 : decode cX1_takeInterrupt 12 = .ok (.dup, 1) := dk_89 (dk_at dksX1_takeInterrupt_0 12 rfl rfl)
theorem dX1_takeInterrupt_13 : decode cX1_takeInterrupt 13 = .ok (.bipush 9, 2) := dk_16 9 (dk_at dksX1_takeInterrupt_0 13 rfl rfl)
theorem dX1_takeInterrupt_15 : decode cX1_takeInterrupt 15 = .ok (.aload_n 0, 1) := dk_42 (dk_at dksX1_takeInterrupt_0 15 rfl rfl)
theorem dX1_takeInterrupt_16 : decode cX1_takeInterrupt 16 = .ok (.getfield 402, 3) := dk_180 1 146 (dk_at dksX1_takeInterrupt_0 16 rfl rfl)
theorem dX1_takeInterrupt_19 : decode cX1_takeInterrupt 19 = .ok (.aload_n 0, 1) := dk_42 (dk_at dksX1_takeInterrupt_0 19 rfl rfl)
theorem dX1_takeInterrupt_20 : decode cX1_takeInterrupt 20 = .ok (.getfield 153, 3) := dk_180 0 153 (dk_at dksX1_takeInterrupt_0 20 rfl rfl)
theorem dX1_takeInterrupt_23 : decode cX1_takeInterrupt 23 = .ok (.aconst_null, 1) := dk_1 (dk_at dksX1_takeInterrupt_0 23 rfl rfl)
theorem dX1_takeInterrupt_24 : decode cX1_takeInterrupt 24 = .ok (.invokespecial 405, 3) := dk_183 1 149 (dk_at dksX1_takeInterrupt_1 0 rfl rfl)
theorem dX1_takeInterrupt_27 : decode cX1_takeInterrupt 27 = .ok (.invokeinterface 198 2, 5) := by decide +kernel
theorem dX1_takeInterrupt_32 : decode cX1_takeInterrupt 32 = .ok (.pop, 1) := dk_87 (dk_at dksX1_takeInterrupt_1 8 rfl rfl)
theorem dX1_takeInterrupt_33 : decode cX1_takeInterrupt 33 = .ok (.aload_n 0, 1) := dk_42 (dk_at dksX1_takeInterrupt_1 9 rfl rfl)
theorem dX1_takeInterrupt_34 : decode cX1_takeInterrupt 34 = .ok (.invokevirtual 408, 3) := dk_182 1 152 (dk_at dksX1_takeInterrupt_1 10 rfl rfl)
theorem dX1_takeInterrupt_37 : decode cX1_takeInterrupt 37 = .ok (.aload_n 0, 1) := dk_42 (dk_at dksX1_takeInterrupt_1 13 rfl rfl)
theorem dX1_takeInterrupt_38 : decode cX1_takeInterrupt 38 = .ok (.aload_n 0, 1) := dk_42 (dk_at dksX1_takeInterrupt_1 14 rfl rfl)
theorem dX1_takeInterrupt_39 : decode cX1_takeInterrupt 39 = .ok (.getfield 33, 3) := dk_180 0 33 (dk_at dksX1_takeInterrupt_1 15 rfl rfl)
theorem dX1_takeInterrupt_42 : decode cX1_takeInterrupt 42 = .ok (.aload_n 0, 1) := dk_42 (dk_at dksX1_takeInterrupt_1 18 rfl rfl)
theorem dX1_takeInterrupt_43 : decode cX1_takeInterrupt 43 = .ok (.getfield 402, 3) := dk_180 1 146 (dk_at dksX1_takeInterrupt_1 19 rfl rfl)
theorem dX1_takeInterrupt_46 : decode cX1_takeInterrupt 46 = .ok (.invokevirtual 411, 3) := dk_182 1 155 (dk_at dksX1_takeInterrupt_2 0 rfl rfl)
theorem dX1_takeInterrupt_49 : decode cX1_takeInterrupt 49 = .ok (.putfield 402, 3) := dk_181 1 146 (dk_at dksX1_takeInterrupt_2 3 rfl rfl)
theorem dX1_takeInterrupt_52 : decode cX1_takeInterrupt 52 = .ok (.aload_n 0, 1) := dk_42 (dk_at dksX1_takeInterrupt_2 6 rfl rfl)
theorem dX1_takeInterrupt_53 : decode cX1_takeInterrupt 53 = .ok (.aload_n 0, 1) := dk_42 (dk_at dksX1_takeInterrupt_2 7 rfl rfl)
theorem dX1_takeInterrupt_54 : decode cX1_takeInterrupt 54 = .ok (.getfield 402, 3) := dk_180 1 146 (dk_at dksX1_takeInterrupt_2 8 rfl rfl)
theorem dX1_takeInterrupt_57 : decode cX1_takeInterrupt 57 = .ok (.putfield 294, 3) := dk_181 1 38 (dk_at dksX1_takeInterrupt_2 11 rfl rfl)
theorem dX1_takeInterrupt_60 : decode cX1_takeInterrupt 60 = .ok (.return_, 1) := dk_177 (dk_at dksX1_takeInterrupt_2 14 rfl rfl)
def dkwX1_throwAll_1 : List UInt8 := [180, 0, 79, 182, 1, 93, 192, 0, 188, 4, 182, 1, 34, 42, 3, 188, 10, 181, 0, 86, 177]
abbrev dktX1_throwAll_1 : List UInt8 := dkwX1_throwAll_1 ++ []
def dkwX1_throwAll_0 : List UInt8 := [42, 180, 0, 79, 182, 1, 90, 153, 0, 13, 42, 180, 0, 73, 182, 0, 128, 167, 0, 18, 42, 42]
abbrev dktX1_throwAll_0 : List UInt8 := dkwX1_throwAll_0 ++ dktX1_throwAll_1
theorem dksX1_throwAll_0 : cX1_throwAll.data.toList.drop 0 = dktX1_throwAll_0 := by decide +kernel
theorem dksX1_throwAll_1 : cX1_throwAll.data.toList.drop 22 = dktX1_throwAll_1 := dk_seg dksX1_throwAll_0 22 rfl rfl
theorem dX1_throwAll_0 : decode cX1_throwAll 0 = .ok (.aload_n 0, 1) := dk_42 (dk_at dksX1_throwAll_0 0 rfl rfl)
theorem dX1_throwAll_1 : decode cX1_throwAll 1 = .ok (.getfield 79, 3) := dk_180 0 79 (dk_at dksX1_throwAll_0 1 rfl rfl)
theorem dX1_throwAll_4 : decode cX1_throwAll 4 = .ok (.invokevirtual 346, 3) := dk_182 1 90 (dk_at dksX1_throwAll_0 4 rfl rfl)
theorem dX1_throwAll_7 : decode cX1_throwAll 7 = .ok (.ifCond .eq 13, 3) := dk_153 0 13 (dk_at dksX1_throwAll_0 7 rfl rfl)
theorem dX1_throwAll_10 : decode cX1_throwAll 10 = .ok (.aload_n 0, 1) := dk_42 (dk_at dksX1_throwAll_0 10 rfl rfl)
theorem dX1_throwAll_11 : decode cX1_throwAll 11 = .ok (.getfield 73, 3) := dk_180 0 73 (dk_at dksX1_throwAll_0 11 rfl rfl)
theorem dX1_throwAll_14 : decode cX1_throwAll 14 = .ok (.invokevirtual 128, 3) := dk_182 0 128 (dk_at dksX1_throwAll_0 14 rfl rfl)
theorem dX1_throwAll_17 : decode cX1_throwAll 17 = .ok (.goto 18, 3) := dk_167 0 18 (dk_at dksX1_throwAll_0 17 rfl rfl)
theorem dX1_throwAll_20 : decode cX1_throwAll 20 = .ok (.aload_n 0, 1) := dk_42 (dk_at dksX1_throwAll_0 20 rfl rfl)
theorem dX1_throwAll_21 : decode cX1_throwAll 21 = .ok (.aload_n 0, 1) := dk_42 (dk_at dksX1_throwAll_0 21 rfl rfl)
theorem dX1_throwAll_22 : decode cX1_throwAll 22 = .ok (.getfield 79, 3) := dk_180 0 79 (dk_at dksX1_throwAll_1 0 rfl rfl)
theorem dX1_throwAll_25 : decode cX1_throwAll 25 = .ok (.invokevirtual 349, 3) := dk_182 1 93 (dk_at dksX1_throwAll_1 3 rfl rfl)
theorem dX1_throwAll_28 : decode cX1_throwAll 28 = .ok (.checkcast 188, 3) := dk_192 0 188 (dk_at dksX1_throwAll_1 6 rfl rfl)
theorem dX1_throwAll_31 : decode cX1_throwAll 31 = .ok (.iconst 1, 1) := dk_4 (dk_at dksX1_throwAll_1 9 rfl rfl)
theorem dX1_throwAll_32 : decode cX1_throwAll 32 = .ok (.invokevirtual 290, 3) := dk_182 1 34 (dk_at dksX1_throwAll_1 10 rfl rfl)
theorem dX1_throwAll_35 : decode cX1_throwAll 35 = .ok (.aload_n 0, 1) := dk_42 (dk_at dksX1_throwAll_1 13 rfl rfl)
theorem dX1_throwAll_36 : decode cX1_throwAll 36 = .ok (.iconst 0, 1) := dk_3 (dk_at dksX1_throwAll_1 14 rfl rfl)
theorem dX1_throwAll_37 : decode cX1_throwAll 37 = .ok (.newarray .int, 2) := dk_188_10 (dk_at dksX1_throwAll_1 15 rfl rfl)
theorem dX1_throwAll_39 : decode cX1_throwAll 39 = .ok (.putfield 86, 3) := dk_181 0 86 (dk_at dksX1_throwAll_1 17 rfl rfl)
theorem dX1_throwAll_42 : decode cX1_throwAll 42 = .ok (.return_, 1) := dk_177 (dk_at dksX1_throwAll_1 20 rfl rfl)
def dkwX1_lose_0 : List UInt8 := [42, 180, 0, 118, 18, 110, 27, 182, 1, 96, 92, 46, 4, 96, 79, 177]
abbrev dktX1_lose_0 : List UInt8 := dkwX1_lose_0 ++ []
theorem dksX1_lose_0 : cX1_lose.data.toList.drop 0 = dktX1_lose_0 := by decide +kernel
theorem dX1_lose_0 : decode cX1_lose 0 = .ok (.aload_n 0, 1) := dk_42 (dk_at dksX1_lose_0 0 rfl rfl)
theorem dX1_lose_1 : decode cX1_lose 1 = .ok (.getfield 118, 3) := dk_180 0 118 (dk_at dksX1_lose_0 1 rfl rfl)
theorem dX1_lose_4 : decode cX1_lose 4 = .ok (.ldc 110, 2) := dk_18 110 (dk_at dksX1_lose_0 4 rfl rfl)
theorem dX1_lose_6 : decode cX1_lose 6 = .ok (.iload_n 1, 1) := dk_27 (dk_at dksX1_lose_0 6 rfl rfl)
theorem dX1_lose_7 : decode cX1_lose 7 = .ok (.invokevirtual 352, 3) := dk_182 1 96 (dk_at dksX1_lose_0 7 rfl rfl)
theorem dX1_lose_10 : decode cX1_lose 10 = .ok (.dup2, 1) := dk_92 (dk_at dksX1_lose_0 10 rfl rfl)
theorem dX1_lose_11 : decode cX1_lose 11 = .ok (.iaload, 1) := dk_46 (dk_at dksX1_lose_0 11 rfl rfl)
theorem dX1_lose_12 : decode cX1_lose 12 = .ok (.iconst 1, 1) := dk_4 (dk_at dksX1_lose_0 12 rfl rfl)
theorem dX1_lose_13 : decode cX1_lose 13 = .ok (.iadd, 1) := dk_96 (dk_at dksX1_lose_0 13 rfl rfl)
theorem dX1_lose_14 : decode cX1_lose 14 = .ok (.iastore, 1) := dk_79 (dk_at dksX1_lose_0 14 rfl rfl)
theorem dX1_lose_15 : decode cX1_lose 15 = .ok (.return_, 1) := dk_177 (dk_at dksX1_lose_0 15 rfl rfl)
def dkwX1_canRetire_0 : List UInt8 := [43, 182, 1, 106, 153, 0, 15, 42, 43, 182, 1, 109, 154, 0, 7, 4, 167, 0, 4, 3, 172]
abbrev dktX1_canRetire_0 : List UInt8 := dkwX1_canRetire_0 ++ []
theorem dksX1_canRetire_0 : cX1_canRetire.data.toList.drop 0 = dktX1_canRetire_0 := by decide +kernel
theorem dX1_canRetire_0 : decode cX1_canRetire 0 = .ok (.aload_n 1, 1) := dk_43 (dk_at dksX1_canRetire_0 0 rfl rfl)
theorem dX1_canRetire_1 : decode cX1_canRetire 1 = .ok (.invokevirtual 362, 3) := dk_182 1 106 (dk_at dksX1_canRetire_0 1 rfl rfl)
theorem dX1_canRetire_4 : decode cX1_canRetire 4 = .ok (.ifCond .eq 15, 3) := dk_153 0 15 (dk_at dksX1_canRetire_0 4 rfl rfl)
theorem dX1_canRetire_7 : decode cX1_canRetire 7 = .ok (.aload_n 0, 1) := dk_42 (dk_at dksX1_canRetire_0 7 rfl rfl)
theorem dX1_canRetire_8 : decode cX1_canRetire 8 = .ok (.aload_n 1, 1) := dk_43 (dk_at dksX1_canRetire_0 8 rfl rfl)
theorem dX1_canRetire_9 : decode cX1_canRetire 9 = .ok (.invokevirtual 365, 3) := dk_182 1 109 (dk_at dksX1_canRetire_0 9 rfl rfl)
theorem dX1_canRetire_12 : decode cX1_canRetire 12 = .ok (.ifCond .ne 7, 3) := dk_154 0 7 (dk_at dksX1_canRetire_0 12 rfl rfl)
theorem dX1_canRetire_15 : decode cX1_canRetire 15 = .ok (.iconst 1, 1) := dk_4 (dk_at dksX1_canRetire_0 15 rfl rfl)
theorem dX1_canRetire_16 : decode cX1_canRetire 16 = .ok (.goto 4, 3) := dk_167 0 4 (dk_at dksX1_canRetire_0 16 rfl rfl)
theorem dX1_canRetire_19 : decode cX1_canRetire 19 = .ok (.iconst 0, 1) := dk_3 (dk_at dksX1_canRetire_0 19 rfl rfl)
theorem dX1_canRetire_20 : decode cX1_canRetire 20 = .ok (.ireturn, 1) := dk_172 (dk_at dksX1_canRetire_0 20 rfl rfl)
def dkwX1_lacksWord_1 : List UInt8 := [180, 0, 244, 182, 1, 103, 154, 0, 7, 4, 167, 0, 4, 3, 172]
abbrev dktX1_lacksWord_1 : List UInt8 := dkwX1_lacksWord_1 ++ []
def dkwX1_lacksWord_0 : List UInt8 := [43, 180, 0, 220, 182, 0, 235, 153, 0, 28, 43, 180, 1, 1, 154, 0, 21, 42, 180, 0, 56, 43]
abbrev dktX1_lacksWord_0 : List UInt8 := dkwX1_lacksWord_0 ++ dktX1_lacksWord_1
theorem dksX1_lacksWord_0 : cX1_lacksWord.data.toList.drop 0 = dktX1_lacksWord_0 := by decide +kernel
theorem dksX1_lacksWord_1 : cX1_lacksWord.data.toList.drop 22 = dktX1_lacksWord_1 := dk_seg dksX1_lacksWord_0 22 rfl rfl
theorem dX1_lacksWord_0 : decode cX1_lacksWord 0 = .ok (.aload_n 1, 1) := dk_43 (dk_at dksX1_lacksWord_0 0 rfl rfl)
theorem dX1_lacksWord_1 : decode cX1_lacksWord 1 = .ok (.getfield 220, 3) := dk_180 0 220 (dk_at dksX1_lacksWord_0 1 rfl rfl)
theorem dX1_lacksWord_4 : decode cX1_lacksWord 4 = .ok (.invokevirtual 235, 3) := dk_182 0 235 (dk_at dksX1_lacksWord_0 4 rfl rfl)
theorem dX1_lacksWord_7 : decode cX1_lacksWord 7 = .ok (.ifCond .eq 28, 3) := dk_153 0 28 (dk_at dksX1_lacksWord_0 7 rfl rfl)
theorem dX1_lacksWord_10 : decode cX1_lacksWord 10 = .ok (.aload_n 1, 1) := dk_43 (dk_at dksX1_lacksWord_0 10 rfl rfl)
theorem dX1_lacksWord_11 : decode cX1_lacksWord 11 = .ok (.getfield 257, 3) := dk_180 1 1 (dk_at dksX1_lacksWord_0 11 rfl rfl)
theorem dX1_lacksWord_14 : decode cX1_lacksWord 14 = .ok (.ifCond .ne 21, 3) := dk_154 0 21 (dk_at dksX1_lacksWord_0 14 rfl rfl)
theorem dX1_lacksWord_17 : decode cX1_lacksWord 17 = .ok (.aload_n 0, 1) := dk_42 (dk_at dksX1_lacksWord_0 17 rfl rfl)
theorem dX1_lacksWord_18 : decode cX1_lacksWord 18 = .ok (.getfield 56, 3) := dk_180 0 56 (dk_at dksX1_lacksWord_0 18 rfl rfl)
theorem dX1_lacksWord_21 : decode cX1_lacksWord 21 = .ok (.aload_n 1, 1) := dk_43 (dk_at dksX1_lacksWord_0 21 rfl rfl)
theorem dX1_lacksWord_22 : decode cX1_lacksWord 22 = .ok (.getfield 244, 3) := dk_180 0 244 (dk_at dksX1_lacksWord_1 0 rfl rfl)
theorem dX1_lacksWord_25 : decode cX1_lacksWord 25 = .ok (.invokevirtual 359, 3) := dk_182 1 103 (dk_at dksX1_lacksWord_1 3 rfl rfl)
theorem dX1_lacksWord_28 : decode cX1_lacksWord 28 = .ok (.ifCond .ne 7, 3) := dk_154 0 7 (dk_at dksX1_lacksWord_1 6 rfl rfl)
theorem dX1_lacksWord_31 : decode cX1_lacksWord 31 = .ok (.iconst 1, 1) := dk_4 (dk_at dksX1_lacksWord_1 9 rfl rfl)
theorem dX1_lacksWord_32 : decode cX1_lacksWord 32 = .ok (.goto 4, 3) := dk_167 0 4 (dk_at dksX1_lacksWord_1 10 rfl rfl)
theorem dX1_lacksWord_35 : decode cX1_lacksWord 35 = .ok (.iconst 0, 1) := dk_3 (dk_at dksX1_lacksWord_1 13 rfl rfl)
theorem dX1_lacksWord_36 : decode cX1_lacksWord 36 = .ok (.ireturn, 1) := dk_172 (dk_at dksX1_lacksWord_1 14 rfl rfl)
def dkwX1_trapOf_1 : List UInt8 := [160, 0, 17, 42, 180, 0, 33, 180, 1, 100, 154, 0, 7, 8, 167, 0, 7, 43, 180, 1, 1, 172]
abbrev dktX1_trapOf_1 : List UInt8 := dkwX1_trapOf_1 ++ []
def dkwX1_trapOf_0 : List UInt8 := [43, 180, 0, 220, 180, 0, 247, 16, 20, 160, 0, 5, 7, 172, 43, 180, 0, 220, 180, 0, 247, 16, 21]
abbrev dktX1_trapOf_0 : List UInt8 := dkwX1_trapOf_0 ++ dktX1_trapOf_1
theorem dksX1_trapOf_0 : cX1_trapOf.data.toList.drop 0 = dktX1_trapOf_0 := by decide +kernel
theorem dksX1_trapOf_1 : cX1_trapOf.data.toList.drop 23 = dktX1_trapOf_1 := dk_seg dksX1_trapOf_0 23 rfl rfl
theorem dX1_trapOf_0 : decode cX1_trapOf 0 = .ok (.aload_n 1, 1) := dk_43 (dk_at dksX1_trapOf_0 0 rfl rfl)
theorem dX1_trapOf_1 : decode cX1_trapOf 1 = .ok (.getfield 220, 3) := dk_180 0 220 (dk_at dksX1_trapOf_0 1 rfl rfl)
theorem dX1_trapOf_4 : decode cX1_trapOf 4 = .ok (.getfield 247, 3) := dk_180 0 247 (dk_at dksX1_trapOf_0 4 rfl rfl)
theorem dX1_trapOf_7 : decode cX1_trapOf 7 = .ok (.bipush 20, 2) := dk_16 20 (dk_at dksX1_trapOf_0 7 rfl rfl)
theorem dX1_trapOf_9 : decode cX1_trapOf 9 = .ok (.if_icmp .ne 5, 3) := dk_160 0 5 (dk_at dksX1_trapOf_0 9 rfl rfl)
theorem dX1_trapOf_12 : decode cX1_trapOf 12 = .ok (.iconst 4, 1) := dk_7 (dk_at dksX1_trapOf_0 12 rfl rfl)
theorem dX1_trapOf_13 : decode cX1_trapOf 13 = .ok (.ireturn, 1) := dk_172 (dk_at dksX1_trapOf_0 13 rfl rfl)
theorem dX1_trapOf_14 : decode cX1_trapOf 14 = .ok (.aload_n 1, 1) := dk_43 (dk_at dksX1_trapOf_0 14 rfl rfl)
theorem dX1_trapOf_15 : decode cX1_trapOf 15 = .ok (.getfield 220, 3) := dk_180 0 220 (dk_at dksX1_trapOf_0 15 rfl rfl)
theorem dX1_trapOf_18 : decode cX1_trapOf 18 = .ok (.getfield 247, 3) := dk_180 0 247 (dk_at dksX1_trapOf_0 18 rfl rfl)
theorem dX1_trapOf_21 : decode cX1_trapOf 21 = .ok (.bipush 21, 2) := dk_16 21 (dk_at dksX1_trapOf_0 21 rfl rfl)
theorem dX1_trapOf_23 : decode cX1_trapOf 23 = .ok (.if_icmp .ne 17, 3) := dk_160 0 17 (dk_at dksX1_trapOf_1 0 rfl rfl)
theorem dX1_trapOf_26 : decode cX1_trapOf 26 = .ok (.aload_n 0, 1) := dk_42 (dk_at dksX1_trapOf_1 3 rfl rfl)
theorem dX1_trapOf_27 : decode cX1_trapOf 27 = .ok (.getfield 33, 3) := dk_180 0 33 (dk_at dksX1_trapOf_1 4 rfl rfl)
theorem dX1_trapOf_30 : decode cX1_trapOf 30 = .ok (.getfield 356, 3) := dk_180 1 100 (dk_at dksX1_trapOf_1 7 rfl rfl)
theorem dX1_trapOf_33 : decode cX1_trapOf 33 = .ok (.ifCond .ne 7, 3) := dk_154 0 7 (dk_at dksX1_trapOf_1 10 rfl rfl)
theorem dX1_trapOf_36 : decode cX1_trapOf 36 = .ok (.iconst 5, 1) := dk_8 (dk_at dksX1_trapOf_1 13 rfl rfl)
theorem dX1_trapOf_37 : decode cX1_trapOf 37 = .ok (.goto 7, 3) := dk_167 0 7 (dk_at dksX1_trapOf_1 14 rfl rfl)
theorem dX1_trapOf_40 : decode cX1_trapOf 40 = .ok (.aload_n 1, 1) := dk_43 (dk_at dksX1_trapOf_1 17 rfl rfl)
theorem dX1_trapOf_41 : decode cX1_trapOf 41 = .ok (.getfield 257, 3) := dk_180 1 1 (dk_at dksX1_trapOf_1 18 rfl rfl)
theorem dX1_trapOf_44 : decode cX1_trapOf 44 = .ok (.ireturn, 1) := dk_172 (dk_at dksX1_trapOf_1 21 rfl rfl)
def dkwX1_retire_7 : List UInt8 := [180, 0, 247, 16, 18, 160, 0, 7, 4, 167, 0, 4, 3, 181, 1, 160, 177]
abbrev dktX1_retire_7 : List UInt8 := dkwX1_retire_7 ++ []
def dkwX1_retire_6 : List UInt8 := [160, 0, 22, 42, 42, 180, 0, 33, 182, 1, 172, 181, 1, 146, 42, 42, 180, 1, 146, 181, 1, 38, 42, 44]
abbrev dktX1_retire_6 : List UInt8 := dkwX1_retire_6 ++ dktX1_retire_7
def dkwX1_retire_5 : List UInt8 := [182, 1, 166, 79, 42, 43, 182, 1, 169, 42, 43, 180, 1, 54, 181, 1, 146, 44, 180, 0, 247, 16, 21]
abbrev dktX1_retire_5 : List UInt8 := dkwX1_retire_5 ++ dktX1_retire_6
def dkwX1_retire_4 : List UInt8 := [180, 0, 250, 44, 42, 180, 0, 27, 43, 180, 0, 250, 46, 42, 180, 0, 50, 43, 180, 0, 244, 46]
abbrev dktX1_retire_4 : List UInt8 := dkwX1_retire_4 ++ dktX1_retire_5
def dkwX1_retire_3 : List UInt8 := [180, 0, 63, 44, 180, 1, 84, 43, 180, 1, 72, 79, 44, 182, 0, 235, 153, 0, 34, 42, 180, 0, 27, 43]
abbrev dktX1_retire_3 : List UInt8 := dkwX1_retire_3 ++ dktX1_retire_4
def dkwX1_retire_2 : List UInt8 := [159, 0, 35, 42, 180, 0, 69, 42, 180, 0, 63, 44, 180, 1, 84, 46, 184, 0, 131, 182, 0, 137, 42]
abbrev dktX1_retire_2 : List UInt8 := dkwX1_retire_2 ++ dktX1_retire_3
def dkwX1_retire_1 : List UInt8 := [180, 1, 28, 42, 180, 0, 153, 43, 183, 1, 149, 185, 0, 198, 2, 0, 87, 43, 180, 1, 72, 2]
abbrev dktX1_retire_1 : List UInt8 := dkwX1_retire_1 ++ dktX1_retire_2
def dkwX1_retire_0 : List UInt8 := [43, 180, 0, 220, 77, 42, 180, 0, 79, 182, 1, 163, 87, 42, 180, 0, 107, 187, 1, 144, 89, 3, 43]
abbrev dktX1_retire_0 : List UInt8 := dkwX1_retire_0 ++ dktX1_retire_1
theorem dksX1_retire_0 : cX1_retire.data.toList.drop 0 = dktX1_retire_0 := by decide +kernel
theorem dksX1_retire_1 : cX1_retire.data.toList.drop 23 = dktX1_retire_1 := dk_seg dksX1_retire_0 23 rfl rfl
theorem dksX1_retire_2 : cX1_retire.data.toList.drop 45 = dktX1_retire_2 := dk_seg dksX1_retire_1 22 rfl rfl
theorem dksX1_retire_3 : cX1_retire.data.toList.drop 68 = dktX1_retire_3 := dk_seg dksX1_retire_2 23 rfl rfl
theorem dksX1_retire_4 : cX1_retire.data.toList.drop 92 = dktX1_retire_4 := dk_seg dksX1_retire_3 24 rfl rfl
theorem dksX1_retire_5 : cX1_retire.data.toList.drop 114 = dktX1_retire_5 := dk_seg dksX1_retire_4 22 rfl rfl
theorem dksX1_retire_6 : cX1_retire.data.toList.drop 137 = dktX1_retire_6 := dk_seg dksX1_retire_5 23 rfl rfl
theorem dksX1_retire_7 : cX1_retire.data.toList.drop 161 = dktX1_retire_7 := dk_seg dksX1_retire_6 24 rfl rfl
theorem dX1_retire_0 : decode cX1_retire 0 = .ok (.aload_n 1, 1) := dk_43 (dk_at dksX1_retire_0 0 rfl rfl)
theorem dX1_retire_1 : decode cX1_retire 1 = .ok (.getfield 220, 3) := dk_180 0 220 (dk_at dksX1_retire_0 1 rfl rfl)
theorem dX1_retire_4 : decode cX1_retire 4 = .ok (.astore_n 2, 1) := dk_77 (dk_at dksX1_retire_0 4 rfl rfl)
theorem dX1_retire_5 : decode cX1_retire 5 = .ok (.aload_n 0, 1) := dk_42 (dk_at dksX1_retire_0 5 rfl rfl)
theorem dX1_retire_6 : decode cX1_retire 6 = .ok (.getfield 79, 3) := dk_180 0 79 (dk_at dksX1_retire_0 6 rfl rfl)
theorem dX1_retire_9 : decode cX1_retire 9 = .ok (.invokevirtual 419, 3) := dk_182 1 163 (dk_at dksX1_retire_0 9 rfl rfl)
theorem dX1_retire_12 : decode cX1_retire 12 = .ok (.pop, 1) := dk_87 (dk_at dksX1_retire_0 12 rfl rfl)
theorem dX1_retire_13 : decode cX1_retire 13 = .ok (.aload_n 0, 1) := dk_42 (dk_at dksX1_retire_0 13 rfl rfl)
theorem dX1_retire_14 : decode cX1_retire 14 = .ok (.getfield 107, 3) := dk_180 0 107 (dk_at dksX1_retire_0 14 rfl rfl)
theorem dX1_retire_17 : decode cX1_retire 17 = .ok (.new 400, 3) := dk_187 1 144 (dk_at dksX1_retire_0 17 rfl rfl)
theorem dX1_retire_20 : decode cX1_retire 20 = .ok (.dup, 1) := dk_89 (dk_at dksX1_retire_0 20 rfl rfl)
theorem dX1_retire_21 : decode cX1_retire 21 = .ok (.iconst 0, 1) := dk_3 (dk_at dksX1_retire_0 21 rfl rfl)
theorem dX1_retire_22 : decode cX1_retire 22 = .ok (.aload_n 1, 1) := dk_43 (dk_at dksX1_retire_0 22 rfl rfl)
theorem dX1_retire_23 : decode cX1_retire 23 = .ok (.getfield 284, 3) := dk_180 1 28 (dk_at dksX1_retire_1 0 rfl rfl)
theorem dX1_retire_26 : decode cX1_retire 26 = .ok (.aload_n 0, 1) := dk_42 (dk_at dksX1_retire_1 3 rfl rfl)
theorem dX1_retire_27 : decode cX1_retire 27 = .ok (.getfield 153, 3) := dk_180 0 153 (dk_at dksX1_retire_1 4 rfl rfl)
theorem dX1_retire_30 : decode cX1_retire 30 = .ok (.aload_n 1, 1) := dk_43 (dk_at dksX1_retire_1 7 rfl rfl)
theorem dX1_retire_31 : decode cX1_retire 31 = .ok (.invokespecial 405, 3) := dk_183 1 149 (dk_at dksX1_retire_1 8 rfl rfl)
theorem dX1_retire_34 : decode cX1_retire 34 = .ok (.invokeinterface 198 2, 5) := by decide +kernel
theorem dX1_retire_39 : decode cX1_retire 39 = .ok (.pop, 1) := dk_87 (dk_at dksX1_retire_1 16 rfl rfl)
theorem dX1_retire_40 : decode cX1_retire 40 = .ok (.aload_n 1, 1) := dk_43 (dk_at dksX1_retire_1 17 rfl rfl)
theorem dX1_retire_41 : decode cX1_retire 41 = .ok (.getfield 328, 3) := dk_180 1 72 (dk_at dksX1_retire_1 18 rfl rfl)
theorem dX1_retire_44 : decode cX1_retire 44 = .ok (.iconst (-1), 1) := dk_2 (dk_at dksX1_retire_1 21 rfl rfl)
theorem dX1_retire_45 : decode cX1_retire 45 = .ok (.if_icmp .eq 35, 3) := dk_159 0 35 (dk_at dksX1_retire_2 0 rfl rfl)
theorem dX1_retire_48 : decode cX1_retire 48 = .ok (.aload_n 0, 1) := dk_42 (dk_at dksX1_retire_2 3 rfl rfl)
theorem dX1_retire_49 : decode cX1_retire 49 = .ok (.getfield 69, 3) := dk_180 0 69 (dk_at dksX1_retire_2 4 rfl rfl)
theorem dX1_retire_52 : decode cX1_retire 52 = .ok (.aload_n 0, 1) := dk_42 (dk_at dksX1_retire_2 7 rfl rfl)
theorem dX1_retire_53 : decode cX1_retire 53 = .ok (.getfield 63, 3) := dk_180 0 63 (dk_at dksX1_retire_2 8 rfl rfl)
theorem dX1_retire_56 : decode cX1_retire 56 = .ok (.aload_n 2, 1) := dk_44 (dk_at dksX1_retire_2 11 rfl rfl)
theorem dX1_retire_57 : decode cX1_retire 57 = .ok (.getfield 340, 3) := dk_180 1 84 (dk_at dksX1_retire_2 12 rfl rfl)
theorem dX1_retire_60 : decode cX1_retire 60 = .ok (.iaload, 1) := dk_46 (dk_at dksX1_retire_2 15 rfl rfl)
theorem dX1_retire_61 : decode cX1_retire 61 = .ok (.invokestatic 131, 3) := dk_184 0 131 (dk_at dksX1_retire_2 16 rfl rfl)
theorem dX1_retire_64 : decode cX1_retire 64 = .ok (.invokevirtual 137, 3) := dk_182 0 137 (dk_at dksX1_retire_2 19 rfl rfl)
theorem dX1_retire_67 : decode cX1_retire 67 = .ok (.aload_n 0, 1) := dk_42 (dk_at dksX1_retire_2 22 rfl rfl)
theorem dX1_retire_68 : decode cX1_retire 68 = .ok (.getfield 63, 3) := dk_180 0 63 (dk_at dksX1_retire_3 0 rfl rfl)
theorem dX1_retire_71 : decode cX1_retire 71 = .ok (.aload_n 2, 1) := dk_44 (dk_at dksX1_retire_3 3 rfl rfl)
theorem dX1_retire_72 : decode cX1_retire 72 = .ok (.getfield 340, 3) := dk_180 1 84 (dk_at dksX1_retire_3 4 rfl rfl)
theorem dX1_retire_75 : decode cX1_retire 75 = .ok (.aload_n 1, 1) := dk_43 (dk_at dksX1_retire_3 7 rfl rfl)
theorem dX1_retire_76 : decode cX1_retire 76 = .ok (.getfield 328, 3) := dk_180 1 72 (dk_at dksX1_retire_3 8 rfl rfl)
theorem dX1_retire_79 : decode cX1_retire 79 = .ok (.iastore, 1) := dk_79 (dk_at dksX1_retire_3 11 rfl rfl)
theorem dX1_retire_80 : decode cX1_retire 80 = .ok (.aload_n 2, 1) := dk_44 (dk_at dksX1_retire_3 12 rfl rfl)
theorem dX1_retire_81 : decode cX1_retire 81 = .ok (.invokevirtual 235, 3) := dk_182 0 235 (dk_at dksX1_retire_3 13 rfl rfl)
theorem dX1_retire_84 : decode cX1_retire 84 = .ok (.ifCond .eq 34, 3) := dk_153 0 34 (dk_at dksX1_retire_3 16 rfl rfl)
theorem dX1_retire_87 : decode cX1_retire 87 = .ok (.aload_n 0, 1) := dk_42 (dk_at dksX1_retire_3 19 rfl rfl)
theorem dX1_retire_88 : decode cX1_retire 88 = .ok (.getfield 27, 3) := dk_180 0 27 (dk_at dksX1_retire_3 20 rfl rfl)
theorem dX1_retire_91 : decode cX1_retire 91 = .ok (.aload_n 1, 1) := dk_43 (dk_at dksX1_retire_3 23 rfl rfl)
theorem dX1_retire_92 : decode cX1_retire 92 = .ok (.getfield 250, 3) := dk_180 0 250 (dk_at dksX1_retire_4 0 rfl rfl)
theorem dX1_retire_95 : decode cX1_retire 95 = .ok (.aload_n 2, 1) := dk_44 (dk_at dksX1_retire_4 3 rfl rfl)
theorem dX1_retire_96 : decode cX1_retire 96 = .ok (.aload_n 0, 1) := dk_42 (dk_at dksX1_retire_4 4 rfl rfl)
theorem dX1_retire_97 : decode cX1_retire 97 = .ok (.getfield 27, 3) := dk_180 0 27 (dk_at dksX1_retire_4 5 rfl rfl)
theorem dX1_retire_100 : decode cX1_retire 100 = .ok (.aload_n 1, 1) := dk_43 (dk_at dksX1_retire_4 8 rfl rfl)
theorem dX1_retire_101 : decode cX1_retire 101 = .ok (.getfield 250, 3) := dk_180 0 250 (dk_at dksX1_retire_4 9 rfl rfl)
theorem dX1_retire_104 : decode cX1_retire 104 = .ok (.iaload, 1) := dk_46 (dk_at dksX1_retire_4 12 rfl rfl)
theorem dX1_retire_105 : decode cX1_retire 105 = .ok (.aload_n 0, 1) := dk_42 (dk_at dksX1_retire_4 13 rfl rfl)
theorem dX1_retire_106 : decode cX1_retire 106 = .ok (.getfield 50, 3) := dk_180 0 50 (dk_at dksX1_retire_4 14 rfl rfl)
theorem dX1_retire_109 : decode cX1_retire 109 = .ok (.aload_n 1, 1) := dk_43 (dk_at dksX1_retire_4 17 rfl rfl)
theorem dX1_retire_110 : decode cX1_retire 110 = .ok (.getfield 244, 3) := dk_180 0 244 (dk_at dksX1_retire_4 18 rfl rfl)
theorem dX1_retire_113 : decode cX1_retire 113 = .ok (.iaload, 1) := dk_46 (dk_at dksX1_retire_4 21 rfl rfl)
theorem dX1_retire_114 : decode cX1_retire 114 = .ok (.invokevirtual 422, 3) := dk_182 1 166 (dk_at dksX1_retire_5 0 rfl rfl)
theorem dX1_retire_117 : decode cX1_retire 117 = .ok (.iastore, 1) := dk_79 (dk_at dksX1_retire_5 3 rfl rfl)
theorem dX1_retire_118 : decode cX1_retire 118 = .ok (.aload_n 0, 1) := dk_42 (dk_at dksX1_retire_5 4 rfl rfl)
theorem dX1_retire_119 : decode cX1_retire 119 = .ok (.aload_n 1, 1) := dk_43 (dk_at dksX1_retire_5 5 rfl rfl)
theorem dX1_retire_120 : decode cX1_retire 120 = .ok (.invokevirtual 425, 3) := dk_182 1 169 (dk_at dksX1_retire_5 6 rfl rfl)
theorem dX1_retire_123 : decode cX1_retire 123 = .ok (.aload_n 0, 1) := dk_42 (dk_at dksX1_retire_5 9 rfl rfl)
theorem dX1_retire_124 : decode cX1_retire 124 = .ok (.aload_n 1, 1) := dk_43 (dk_at dksX1_retire_5 10 rfl rfl)
theorem dX1_retire_125 : decode cX1_retire 125 = .ok (.getfield 310, 3) := dk_180 1 54 (dk_at dksX1_retire_5 11 rfl rfl)
theorem dX1_retire_128 : decode cX1_retire 128 = .ok (.putfield 402, 3) := dk_181 1 146 (dk_at dksX1_retire_5 14 rfl rfl)
theorem dX1_retire_131 : decode cX1_retire 131 = .ok (.aload_n 2, 1) := dk_44 (dk_at dksX1_retire_5 17 rfl rfl)
theorem dX1_retire_132 : decode cX1_retire 132 = .ok (.getfield 247, 3) := dk_180 0 247 (dk_at dksX1_retire_5 18 rfl rfl)
theorem dX1_retire_135 : decode cX1_retire 135 = .ok (.bipush 21, 2) := dk_16 21 (dk_at dksX1_retire_5 21 rfl rfl)
theorem dX1_retire_137 : decode cX1_retire 137 = .ok (.if_icmp .ne 22, 3) := dk_160 0 22 (dk_at dksX1_retire_6 0 rfl rfl)
theorem dX1_retire_140 : decode cX1_retire 140 = .ok (.aload_n 0, 1) := dk_42 (dk_at dksX1_retire_6 3 rfl rfl)
theorem dX1_retire_141 : decode cX1_retire 141 = .ok (.aload_n 0, 1) := dk_42 (dk_at dksX1_retire_6 4 rfl rfl)
theorem dX1_retire_142 : decode cX1_retire 142 = .ok (.getfield 33, 3) := dk_180 0 33 (dk_at dksX1_retire_6 5 rfl rfl)
theorem dX1_retire_145 : decode cX1_retire 145 = .ok (.invokevirtual 428, 3) := dk_182 1 172 (dk_at dksX1_retire_6 8 rfl rfl)
theorem dX1_retire_148 : decode cX1_retire 148 = .ok (.putfield 402, 3) := dk_181 1 146 (dk_at dksX1_retire_6 11 rfl rfl)
theorem dX1_retire_151 : decode cX1_retire 151 = .ok (.aload_n 0, 1) := dk_42 (dk_at dksX1_retire_6 14 rfl rfl)
theorem dX1_retire_152 : decode cX1_retire 152 = .ok (.aload_n 0, 1) := dk_42 (dk_at dksX1_retire_6 15 rfl rfl)
theorem dX1_retire_153 : decode cX1_retire 153 = .ok (.getfield 402, 3) := dk_180 1 146 (dk_at dksX1_retire_6 16 rfl rfl)
theorem dX1_retire_156 : decode cX1_retire 156 = .ok (.putfield 294, 3) := dk_181 1 38 (dk_at dksX1_retire_6 19 rfl rfl)
theorem dX1_retire_159 : decode cX1_retire 159 = .ok (.aload_n 0, 1) := dk_42 (dk_at dksX1_retire_6 22 rfl rfl)
theorem dX1_retire_160 : decode cX1_retire 160 = .ok (.aload_n 2, 1) := dk_44 (dk_at dksX1_retire_6 23 rfl rfl)
theorem dX1_retire_161 : decode cX1_retire 161 = .ok (.getfield 247, 3) := dk_180 0 247 (dk_at dksX1_retire_7 0 rfl rfl)
theorem dX1_retire_164 : decode cX1_retire 164 = .ok (.bipush 18, 2) := dk_16 18 (dk_at dksX1_retire_7 3 rfl rfl)
theorem dX1_retire_166 : decode cX1_retire 166 = .ok (.if_icmp .ne 7, 3) := dk_160 0 7 (dk_at dksX1_retire_7 5 rfl rfl)
theorem dX1_retire_169 : decode cX1_retire 169 = .ok (.iconst 1, 1) := dk_4 (dk_at dksX1_retire_7 8 rfl rfl)
theorem dX1_retire_170 : decode cX1_retire 170 = .ok (.goto 4, 3) := dk_167 0 4 (dk_at dksX1_retire_7 9 rfl rfl)
theorem dX1_retire_173 : decode cX1_retire 173 = .ok (.iconst 0, 1) := dk_3 (dk_at dksX1_retire_7 12 rfl rfl)
theorem dX1_retire_174 : decode cX1_retire 174 = .ok (.putfield 416, 3) := dk_181 1 160 (dk_at dksX1_retire_7 13 rfl rfl)
theorem dX1_retire_177 : decode cX1_retire 177 = .ok (.return_, 1) := dk_177 (dk_at dksX1_retire_7 16 rfl rfl)
def dkwX1_learn_4 : List UInt8 := [160, 0, 19, 42, 180, 0, 92, 43, 180, 1, 28, 16, 8, 112, 43, 180, 1, 54, 79, 177]
abbrev dktX1_learn_4 : List UInt8 := dkwX1_learn_4 ++ []
def dkwX1_learn_3 : List UInt8 := [3, 42, 180, 0, 89, 29, 46, 4, 100, 184, 1, 183, 79, 167, 0, 28, 44, 180, 0, 247, 16, 17]
abbrev dktX1_learn_3 : List UInt8 := dkwX1_learn_3 ++ dktX1_learn_4
def dkwX1_learn_2 : List UInt8 := [180, 0, 89, 29, 21, 4, 153, 0, 18, 6, 42, 180, 0, 89, 29, 46, 4, 96, 184, 1, 178, 167, 0, 15]
abbrev dktX1_learn_2 : List UInt8 := dkwX1_learn_2 ++ dktX1_learn_3
def dkwX1_learn_1 : List UInt8 := [180, 0, 50, 43, 180, 1, 14, 46, 42, 180, 0, 50, 43, 180, 0, 244, 46, 182, 1, 56, 54, 4, 42]
abbrev dktX1_learn_1 : List UInt8 := dkwX1_learn_1 ++ dktX1_learn_2
def dkwX1_learn_0 : List UInt8 := [43, 180, 0, 220, 77, 44, 182, 1, 175, 153, 0, 76, 43, 180, 1, 28, 16, 16, 112, 62, 44, 42]
abbrev dktX1_learn_0 : List UInt8 := dkwX1_learn_0 ++ dktX1_learn_1
theorem dksX1_learn_0 : cX1_learn.data.toList.drop 0 = dktX1_learn_0 := by decide +kernel
theorem dksX1_learn_1 : cX1_learn.data.toList.drop 22 = dktX1_learn_1 := dk_seg dksX1_learn_0 22 rfl rfl
theorem dksX1_learn_2 : cX1_learn.data.toList.drop 45 = dktX1_learn_2 := dk_seg dksX1_learn_1 23 rfl rfl
theorem dksX1_learn_3 : cX1_learn.data.toList.drop 69 = dktX1_learn_3 := dk_seg dksX1_learn_2 24 rfl rfl
theorem dksX1_learn_4 : cX1_learn.data.toList.drop 91 = dktX1_learn_4 := dk_seg dksX1_learn_3 22 rfl rfl
theorem dX1_learn_0 : decode cX1_learn 0 = .ok (.aload_n 1, 1) := dk_43 (dk_at dksX1_learn_0 0 rfl rfl)
theorem dX1_learn_1 : decode cX1_learn 1 = .ok (.getfield 220, 3) := dk_180 0 220 (dk_at dksX1_learn_0 1 rfl rfl)
theorem dX1_learn_4 : decode cX1_learn 4 = .ok (.astore_n 2, 1) := dk_77 (dk_at dksX1_learn_0 4 rfl rfl)
theorem dX1_learn_5 : decode cX1_learn 5 = .ok (.aload_n 2, 1) := dk_44 (dk_at dksX1_learn_0 5 rfl rfl)
theorem dX1_learn_6 : decode cX1_learn 6 = .ok (.invokevirtual 431, 3) := dk_182 1 175 (dk_at dksX1_learn_0 6 rfl rfl)
theorem dX1_learn_9 : decode cX1_learn 9 = .ok (.ifCond .eq 76, 3) := dk_153 0 76 (dk_at dksX1_learn_0 9 rfl rfl)
theorem dX1_learn_12 : decode cX1_learn 12 = .ok (.aload_n 1, 1) := dk_43 (dk_at dksX1_learn_0 12 rfl rfl)
theorem dX1_learn_13 : decode cX1_learn 13 = .ok (.getfield 284, 3) := dk_180 1 28 (dk_at dksX1_learn_0 13 rfl rfl)
theorem dX1_learn_16 : decode cX1_learn 16 = .ok (.bipush 16, 2) := dk_16 16 (dk_at dksX1_learn_0 16 rfl rfl)
theorem dX1_learn_18 : decode cX1_learn 18 = .ok (.irem, 1) := dk_112 (dk_at dksX1_learn_0 18 rfl rfl)
theorem dX1_learn_19 : decode cX1_learn 19 = .ok (.istore_n 3, 1) := dk_62 (dk_at dksX1_learn_0 19 rfl rfl)
theorem dX1_learn_20 : decode cX1_learn 20 = .ok (.aload_n 2, 1) := dk_44 (dk_at dksX1_learn_0 20 rfl rfl)
theorem dX1_learn_21 : decode cX1_learn 21 = .ok (.aload_n 0, 1) := dk_42 (dk_at dksX1_learn_0 21 rfl rfl)
theorem dX1_learn_22 : decode cX1_learn 22 = .ok (.getfield 50, 3) := dk_180 0 50 (dk_at dksX1_learn_1 0 rfl rfl)
theorem dX1_learn_25 : decode cX1_learn 25 = .ok (.aload_n 1, 1) := dk_43 (dk_at dksX1_learn_1 3 rfl rfl)
theorem dX1_learn_26 : decode cX1_learn 26 = .ok (.getfield 270, 3) := dk_180 1 14 (dk_at dksX1_learn_1 4 rfl rfl)
theorem dX1_learn_29 : decode cX1_learn 29 = .ok (.iaload, 1) := dk_46 (dk_at dksX1_learn_1 7 rfl rfl)
theorem dX1_learn_30 : decode cX1_learn 30 = .ok (.aload_n 0, 1) := dk_42 (dk_at dksX1_learn_1 8 rfl rfl)
theorem dX1_learn_31 : decode cX1_learn 31 = .ok (.getfield 50, 3) := dk_180 0 50 (dk_at dksX1_learn_1 9 rfl rfl)
theorem dX1_learn_34 : decode cX1_learn 34 = .ok (.aload_n 1, 1) := dk_43 (dk_at dksX1_learn_1 12 rfl rfl)
theorem dX1_learn_35 : decode cX1_learn 35 = .ok (.getfield 244, 3) := dk_180 0 244 (dk_at dksX1_learn_1 13 rfl rfl)
theorem dX1_learn_38 : decode cX1_learn 38 = .ok (.iaload, 1) := dk_46 (dk_at dksX1_learn_1 16 rfl rfl)
theorem dX1_learn_39 : decode cX1_learn 39 = .ok (.invokevirtual 312, 3) := dk_182 1 56 (dk_at dksX1_learn_1 17 rfl rfl)
theorem dX1_learn_42 : decode cX1_learn 42 = .ok (.istore 4, 2) := dk_54 4 (dk_at dksX1_learn_1 20 rfl rfl)
theorem dX1_learn_44 : decode cX1_learn 44 = .ok (.aload_n 0, 1) := dk_42 (dk_at dksX1_learn_1 22 rfl rfl)
theorem dX1_learn_45 : decode cX1_learn 45 = .ok (.getfield 89, 3) := dk_180 0 89 (dk_at dksX1_learn_2 0 rfl rfl)
theorem dX1_learn_48 : decode cX1_learn 48 = .ok (.iload_n 3, 1) := dk_29 (dk_at dksX1_learn_2 3 rfl rfl)
theorem dX1_learn_49 : decode cX1_learn 49 = .ok (.iload 4, 2) := dk_21 4 (dk_at dksX1_learn_2 4 rfl rfl)
theorem dX1_learn_51 : decode cX1_learn 51 = .ok (.ifCond .eq 18, 3) := dk_153 0 18 (dk_at dksX1_learn_2 6 rfl rfl)
theorem dX1_learn_54 : decode cX1_learn 54 = .ok (.iconst 3, 1) := dk_6 (dk_at dksX1_learn_2 9 rfl rfl)
theorem dX1_learn_55 : decode cX1_learn 55 = .ok (.aload_n 0, 1) := dk_42 (dk_at dksX1_learn_2 10 rfl rfl)
theorem dX1_learn_56 : decode cX1_learn 56 = .ok (.getfield 89, 3) := dk_180 0 89 (dk_at dksX1_learn_2 11 rfl rfl)
theorem dX1_learn_59 : decode cX1_learn 59 = .ok (.iload_n 3, 1) := dk_29 (dk_at dksX1_learn_2 14 rfl rfl)
theorem dX1_learn_60 : decode cX1_learn 60 = .ok (.iaload, 1) := dk_46 (dk_at dksX1_learn_2 15 rfl rfl)
theorem dX1_learn_61 : decode cX1_learn 61 = .ok (.iconst 1, 1) := dk_4 (dk_at dksX1_learn_2 16 rfl rfl)
theorem dX1_learn_62 : decode cX1_learn 62 = .ok (.iadd, 1) := dk_96 (dk_at dksX1_learn_2 17 rfl rfl)
theorem dX1_learn_63 : decode cX1_learn 63 = .ok (.invokestatic 434, 3) := dk_184 1 178 (dk_at dksX1_learn_2 18 rfl rfl)
theorem dX1_learn_66 : decode cX1_learn 66 = .ok (.goto 15, 3) := dk_167 0 15 (dk_at dksX1_learn_2 21 rfl rfl)
theorem dX1_learn_69 : decode cX1_learn 69 = .ok (.iconst 0, 1) := dk_3 (dk_at dksX1_learn_3 0 rfl rfl)
theorem dX1_learn_70 : decode cX1_learn 70 = .ok (.aload_n 0, 1) := dk_42 (dk_at dksX1_learn_3 1 rfl rfl)
theorem dX1_learn_71 : decode cX1_learn 71 = .ok (.getfield 89, 3) := dk_180 0 89 (dk_at dksX1_learn_3 2 rfl rfl)
theorem dX1_learn_74 : decode cX1_learn 74 = .ok (.iload_n 3, 1) := dk_29 (dk_at dksX1_learn_3 5 rfl rfl)
theorem dX1_learn_75 : decode cX1_learn 75 = .ok (.iaload, 1) := dk_46 (dk_at dksX1_learn_3 6 rfl rfl)
theorem dX1_learn_76 : decode cX1_learn 76 = .ok (.iconst 1, 1) := dk_4 (dk_at dksX1_learn_3 7 rfl rfl)
theorem dX1_learn_77 : decode cX1_learn 77 = .ok (.isub, 1) := dk_100 (dk_at dksX1_learn_3 8 rfl rfl)
theorem dX1_learn_78 : decode cX1_learn 78 = .ok (.invokestatic 439, 3) := dk_184 1 183 (dk_at dksX1_learn_3 9 rfl rfl)
theorem dX1_learn_81 : decode cX1_learn 81 = .ok (.iastore, 1) := dk_79 (dk_at dksX1_learn_3 12 rfl rfl)
theorem dX1_learn_82 : decode cX1_learn 82 = .ok (.goto 28, 3) := dk_167 0 28 (dk_at dksX1_learn_3 13 rfl rfl)
theorem dX1_learn_85 : decode cX1_learn 85 = .ok (.aload_n 2, 1) := dk_44 (dk_at dksX1_learn_3 16 rfl rfl)
theorem dX1_learn_86 : decode cX1_learn 86 = .ok (.getfield 247, 3) := dk_180 0 247 (dk_at dksX1_learn_3 17 rfl rfl)
theorem dX1_learn_89 : decode cX1_learn 89 = .ok (.bipush 17, 2) := dk_16 17 (dk_at dksX1_learn_3 20 rfl rfl)
theorem dX1_learn_91 : decode cX1_learn 91 = .ok (.if_icmp .ne 19, 3) := dk_160 0 19 (dk_at dksX1_learn_4 0 rfl rfl)
theorem dX1_learn_94 : decode cX1_learn 94 = .ok (.aload_n 0, 1) := dk_42 (dk_at dksX1_learn_4 3 rfl rfl)
theorem dX1_learn_95 : decode cX1_learn 95 = .ok (.getfield 92, 3) := dk_180 0 92 (dk_at dksX1_learn_4 4 rfl rfl)
theorem dX1_learn_98 : decode cX1_learn 98 = .ok (.aload_n 1, 1) := dk_43 (dk_at dksX1_learn_4 7 rfl rfl)
theorem dX1_learn_99 : decode cX1_learn 99 = .ok (.getfield 284, 3) := dk_180 1 28 (dk_at dksX1_learn_4 8 rfl rfl)
theorem dX1_learn_102 : decode cX1_learn 102 = .ok (.bipush 8, 2) := dk_16 8 (dk_at dksX1_learn_4 11 rfl rfl)
theorem dX1_learn_104 : decode cX1_learn 104 = .ok (.irem, 1) := dk_112 (dk_at dksX1_learn_4 13 rfl rfl)
theorem dX1_learn_105 : decode cX1_learn 105 = .ok (.aload_n 1, 1) := dk_43 (dk_at dksX1_learn_4 14 rfl rfl)
theorem dX1_learn_106 : decode cX1_learn 106 = .ok (.getfield 310, 3) := dk_180 1 54 (dk_at dksX1_learn_4 15 rfl rfl)
theorem dX1_learn_109 : decode cX1_learn 109 = .ok (.iastore, 1) := dk_79 (dk_at dksX1_learn_4 18 rfl rfl)
theorem dX1_learn_110 : decode cX1_learn 110 = .ok (.return_, 1) := dk_177 (dk_at dksX1_learn_4 19 rfl rfl)
def dkwX1_takeTrap_3 : List UInt8 := [180, 1, 146, 181, 1, 38, 177]
abbrev dktX1_takeTrap_3 : List UInt8 := dkwX1_takeTrap_3 ++ []
def dkwX1_takeTrap_2 : List UInt8 := [181, 1, 146, 42, 42, 180, 1, 146, 2, 160, 0, 7, 4, 167, 0, 4, 3, 181, 1, 160, 42, 42]
abbrev dktX1_takeTrap_2 : List UInt8 := dkwX1_takeTrap_2 ++ dktX1_takeTrap_3
def dkwX1_takeTrap_1 : List UInt8 := [185, 0, 198, 2, 0, 87, 42, 182, 1, 152, 42, 42, 180, 0, 33, 43, 180, 1, 28, 4, 96, 182, 1, 158]
abbrev dktX1_takeTrap_1 : List UInt8 := dkwX1_takeTrap_1 ++ dktX1_takeTrap_2
def dkwX1_takeTrap_0 : List UInt8 := [42, 180, 0, 107, 187, 1, 144, 89, 28, 43, 180, 1, 28, 42, 180, 0, 153, 43, 183, 1, 149]
abbrev dktX1_takeTrap_0 : List UInt8 := dkwX1_takeTrap_0 ++ dktX1_takeTrap_1
theorem dksX1_takeTrap_0 : cX1_takeTrap.data.toList.drop 0 = dktX1_takeTrap_0 := by decide +kernel
theorem dksX1_takeTrap_1 : cX1_takeTrap.data.toList.drop 21 = dktX1_takeTrap_1 := dk_seg dksX1_takeTrap_0 21 rfl rfl
theorem dksX1_takeTrap_2 : cX1_takeTrap.data.toList.drop 45 = dktX1_takeTrap_2 := dk_seg dksX1_takeTrap_1 24 rfl rfl
theorem dksX1_takeTrap_3 : cX1_takeTrap.data.toList.drop 67 = dktX1_takeTrap_3 := dk_seg dksX1_takeTrap_2 22 rfl rfl
theorem dX1_takeTrap_0 : decode cX1_takeTrap 0 = .ok (.aload_n 0, 1) := dk_42 (dk_at dksX1_takeTrap_0 0 rfl rfl)
theorem dX1_takeTrap_1 : decode cX1_takeTrap 1 = .ok (.getfield 107, 3) := dk_180 0 107 (dk_at dksX1_takeTrap_0 1 rfl rfl)
theorem dX1_takeTrap_4 : decode cX1_takeTrap 4 = .ok (.new 400, 3) := dk_187 1 144 (dk_at dksX1_takeTrap_0 4 rfl rfl)
theorem dX1_takeTrap_7 : decode cX1_takeTrap 7 = .ok (.dup, 1) := dk_89 (dk_at dksX1_takeTrap_0 7 rfl rfl)
theorem dX1_takeTrap_8 : decode cX1_takeTrap 8 = .ok (.iload_n 2, 1) := dk_28 (dk_at dksX1_takeTrap_0 8 rfl rfl)
theorem dX1_takeTrap_9 : decode cX1_takeTrap 9 = .ok (.aload_n 1, 1) := dk_43 (dk_at dksX1_takeTrap_0 9 rfl rfl)
theorem dX1_takeTrap_10 : decode cX1_takeTrap 10 = .ok (.getfield 284, 3) := dk_180 1 28 (dk_at dksX1_takeTrap_0 10 rfl rfl)
theorem dX1_takeTrap_13 : decode cX1_takeTrap 13 = .ok (.aload_n 0, 1) := dk_42 (dk_at dksX1_takeTrap_0 13 rfl rfl)
theorem dX1_takeTrap_14 : decode cX1_takeTrap 14 = .ok (.getfield 153, 3) := dk_180 0 153 (dk_at dksX1_takeTrap_0 14 rfl rfl)
theorem dX1_takeTrap_17 : decode cX1_takeTrap 17 = .ok (.aload_n 1, 1) := dk_43 (dk_at dksX1_takeTrap_0 17 rfl rfl)
theorem dX1_takeTrap_18 : decode cX1_takeTrap 18 = .ok (.invokespecial 405, 3) := dk_183 1 149 (dk_at dksX1_takeTrap_0 18 rfl rfl)
theorem dX1_takeTrap_21 : decode cX1_takeTrap 21 = .ok (.invokeinterface 198 2, 5) := by decide +kernel
theorem dX1_takeTrap_26 : decode cX1_takeTrap 26 = .ok (.pop, 1) := dk_87 (dk_at dksX1_takeTrap_1 5 rfl rfl)
theorem dX1_takeTrap_27 : decode cX1_takeTrap 27 = .ok (.aload_n 0, 1) := dk_42 (dk_at dksX1_takeTrap_1 6 rfl rfl)
theorem dX1_takeTrap_28 : decode cX1_takeTrap 28 = .ok (.invokevirtual 408, 3) := dk_182 1 152 (dk_at dksX1_takeTrap_1 7 rfl rfl)
theorem dX1_takeTrap_31 : decode cX1_takeTrap 31 = .ok (.aload_n 0, 1) := dk_42 (dk_at dksX1_takeTrap_1 10 rfl rfl)
theorem dX1_takeTrap_32 : decode cX1_takeTrap 32 = .ok (.aload_n 0, 1) := dk_42 (dk_at dksX1_takeTrap_1 11 rfl rfl)
theorem dX1_takeTrap_33 : decode cX1_takeTrap 33 = .ok (.getfield 33, 3) := dk_180 0 33 (dk_at dksX1_takeTrap_1 12 rfl rfl)
theorem dX1_takeTrap_36 : decode cX1_takeTrap 36 = .ok (.aload_n 1, 1) := dk_43 (dk_at dksX1_takeTrap_1 15 rfl rfl)
theorem dX1_takeTrap_37 : decode cX1_takeTrap 37 = .ok (.getfield 284, 3) := dk_180 1 28 (dk_at dksX1_takeTrap_1 16 rfl rfl)
theorem dX1_takeTrap_40 : decode cX1_takeTrap 40 = .ok (.iconst 1, 1) := dk_4 (dk_at dksX1_takeTrap_1 19 rfl rfl)
theorem dX1_takeTrap_41 : decode cX1_takeTrap 41 = .ok (.iadd, 1) := dk_96 (dk_at dksX1_takeTrap_1 20 rfl rfl)
theorem dX1_takeTrap_42 : decode cX1_takeTrap 42 = .ok (.invokevirtual 414, 3) := dk_182 1 158 (dk_at dksX1_takeTrap_1 21 rfl rfl)
theorem dX1_takeTrap_45 : decode cX1_takeTrap 45 = .ok (.putfield 402, 3) := dk_181 1 146 (dk_at dksX1_takeTrap_2 0 rfl rfl)
theorem dX1_takeTrap_48 : decode cX1_takeTrap 48 = .ok (.aload_n 0, 1) := dk_42 (dk_at dksX1_takeTrap_2 3 rfl rfl)
theorem dX1_takeTrap_49 : decode cX1_takeTrap 49 = .ok (.aload_n 0, 1) := dk_42 (dk_at dksX1_takeTrap_2 4 rfl rfl)
theorem dX1_takeTrap_50 : decode cX1_takeTrap 50 = .ok (.getfield 402, 3) := dk_180 1 146 (dk_at dksX1_takeTrap_2 5 rfl rfl)
theorem dX1_takeTrap_53 : decode cX1_takeTrap 53 = .ok (.iconst (-1), 1) := dk_2 (dk_at dksX1_takeTrap_2 8 rfl rfl)
theorem dX1_takeTrap_54 : decode cX1_takeTrap 54 = .ok (.if_icmp .ne 7, 3) := dk_160 0 7 (dk_at dksX1_takeTrap_2 9 rfl rfl)
theorem dX1_takeTrap_57 : decode cX1_takeTrap 57 = .ok (.iconst 1, 1) := dk_4 (dk_at dksX1_takeTrap_2 12 rfl rfl)
theorem dX1_takeTrap_58 : decode cX1_takeTrap 58 = .ok (.goto 4, 3) := dk_167 0 4 (dk_at dksX1_takeTrap_2 13 rfl rfl)
theorem dX1_takeTrap_61 : decode cX1_takeTrap 61 = .ok (.iconst 0, 1) := dk_3 (dk_at dksX1_takeTrap_2 16 rfl rfl)
theorem dX1_takeTrap_62 : decode cX1_takeTrap 62 = .ok (.putfield 416, 3) := dk_181 1 160 (dk_at dksX1_takeTrap_2 17 rfl rfl)
theorem dX1_takeTrap_65 : decode cX1_takeTrap 65 = .ok (.aload_n 0, 1) := dk_42 (dk_at dksX1_takeTrap_2 20 rfl rfl)
theorem dX1_takeTrap_66 : decode cX1_takeTrap 66 = .ok (.aload_n 0, 1) := dk_42 (dk_at dksX1_takeTrap_2 21 rfl rfl)
theorem dX1_takeTrap_67 : decode cX1_takeTrap 67 = .ok (.getfield 402, 3) := dk_180 1 146 (dk_at dksX1_takeTrap_3 0 rfl rfl)
theorem dX1_takeTrap_70 : decode cX1_takeTrap 70 = .ok (.putfield 294, 3) := dk_181 1 38 (dk_at dksX1_takeTrap_3 3 rfl rfl)
theorem dX1_takeTrap_73 : decode cX1_takeTrap 73 = .ok (.return_, 1) := dk_177 (dk_at dksX1_takeTrap_3 6 rfl rfl)
def dkwX1_reasonNow_1 : List UInt8 := [180, 0, 190, 60, 27, 16, 101, 160, 0, 8, 16, 100, 167, 0, 4, 27, 172]
abbrev dktX1_reasonNow_1 : List UInt8 := dkwX1_reasonNow_1 ++ []
def dkwX1_reasonNow_0 : List UInt8 := [42, 180, 0, 79, 182, 1, 90, 153, 0, 6, 16, 102, 172, 42, 180, 0, 79, 182, 1, 93, 192, 0, 188]
abbrev dktX1_reasonNow_0 : List UInt8 := dkwX1_reasonNow_0 ++ dktX1_reasonNow_1
theorem dksX1_reasonNow_0 : cX1_reasonNow.data.toList.drop 0 = dktX1_reasonNow_0 := by decide +kernel
theorem dksX1_reasonNow_1 : cX1_reasonNow.data.toList.drop 23 = dktX1_reasonNow_1 := dk_seg dksX1_reasonNow_0 23 rfl rfl
theorem dX1_reasonNow_0 : decode cX1_reasonNow 0 = .ok (.aload_n 0, 1) := dk_42 (dk_at dksX1_reasonNow_0 0 rfl rfl)
theorem dX1_reasonNow_1 : decode cX1_reasonNow 1 = .ok (.getfield 79, 3) := dk_180 0 79 (dk_at dksX1_reasonNow_0 1 rfl rfl)
theorem dX1_reasonNow_4 : decode cX1_reasonNow 4 = .ok (.invokevirtual 346, 3) := dk_182 1 90 (dk_at dksX1_reasonNow_0 4 rfl rfl)
theorem dX1_reasonNow_7 : decode cX1_reasonNow 7 = .ok (.ifCond .eq 6, 3) := dk_153 0 6 (dk_at dksX1_reasonNow_0 7 rfl rfl)
theorem dX1_reasonNow_10 : decode cX1_reasonNow 10 = .ok (.bipush 102, 2) := dk_16 102 (dk_at dksX1_reasonNow_0 10 rfl rfl)
theorem dX1_reasonNow_12 : decode cX1_reasonNow 12 = .ok (.ireturn, 1) := dk_172 (dk_at dksX1_reasonNow_0 12 rfl rfl)
theorem dX1_reasonNow_13 : decode cX1_reasonNow 13 = .ok (.aload_n 0, 1) := dk_42 (dk_at dksX1_reasonNow_0 13 rfl rfl)
theorem dX1_reasonNow_14 : decode cX1_reasonNow 14 = .ok (.getfield 79, 3) := dk_180 0 79 (dk_at dksX1_reasonNow_0 14 rfl rfl)
theorem dX1_reasonNow_17 : decode cX1_reasonNow 17 = .ok (.invokevirtual 349, 3) := dk_182 1 93 (dk_at dksX1_reasonNow_0 17 rfl rfl)
theorem dX1_reasonNow_20 : decode cX1_reasonNow 20 = .ok (.checkcast 188, 3) := dk_192 0 188 (dk_at dksX1_reasonNow_0 20 rfl rfl)
theorem dX1_reasonNow_23 : decode cX1_reasonNow 23 = .ok (.getfield 190, 3) := dk_180 0 190 (dk_at dksX1_reasonNow_1 0 rfl rfl)
theorem dX1_reasonNow_26 : decode cX1_reasonNow 26 = .ok (.istore_n 1, 1) := dk_60 (dk_at dksX1_reasonNow_1 3 rfl rfl)
theorem dX1_reasonNow_27 : decode cX1_reasonNow 27 = .ok (.iload_n 1, 1) := dk_27 (dk_at dksX1_reasonNow_1 4 rfl rfl)
theorem dX1_reasonNow_28 : decode cX1_reasonNow 28 = .ok (.bipush 101, 2) := dk_16 101 (dk_at dksX1_reasonNow_1 5 rfl rfl)
theorem dX1_reasonNow_30 : decode cX1_reasonNow 30 = .ok (.if_icmp .ne 8, 3) := dk_160 0 8 (dk_at dksX1_reasonNow_1 7 rfl rfl)
theorem dX1_reasonNow_33 : decode cX1_reasonNow 33 = .ok (.bipush 100, 2) := dk_16 100 (dk_at dksX1_reasonNow_1 10 rfl rfl)
theorem dX1_reasonNow_35 : decode cX1_reasonNow 35 = .ok (.goto 4, 3) := dk_167 0 4 (dk_at dksX1_reasonNow_1 12 rfl rfl)
theorem dX1_reasonNow_38 : decode cX1_reasonNow 38 = .ok (.iload_n 1, 1) := dk_27 (dk_at dksX1_reasonNow_1 15 rfl rfl)
theorem dX1_reasonNow_39 : decode cX1_reasonNow 39 = .ok (.ireturn, 1) := dk_172 (dk_at dksX1_reasonNow_1 16 rfl rfl)
def dkwX1_beginAll_3 : List UInt8 := [182, 1, 199, 153, 0, 15, 43, 21, 4, 182, 1, 202, 44, 185, 0, 179, 1, 0, 167, 255, 191, 177]
abbrev dktX1_beginAll_3 : List UInt8 := dkwX1_beginAll_3 ++ []
def dkwX1_beginAll_2 : List UInt8 := [180, 0, 247, 54, 4, 43, 21, 4, 182, 1, 193, 153, 0, 31, 42, 45, 182, 1, 196, 153, 0, 23, 42, 45]
abbrev dktX1_beginAll_2 : List UInt8 := dkwX1_beginAll_2 ++ dktX1_beginAll_3
def dkwX1_beginAll_1 : List UInt8 := [185, 0, 164, 1, 0, 153, 0, 62, 44, 185, 0, 170, 1, 0, 192, 0, 188, 78, 45, 180, 0, 220]
abbrev dktX1_beginAll_1 : List UInt8 := dkwX1_beginAll_1 ++ dktX1_beginAll_2
def dkwX1_beginAll_0 : List UInt8 := [187, 1, 186, 89, 42, 182, 1, 188, 183, 1, 191, 76, 42, 180, 0, 83, 182, 0, 160, 77, 44]
abbrev dktX1_beginAll_0 : List UInt8 := dkwX1_beginAll_0 ++ dktX1_beginAll_1
theorem dksX1_beginAll_0 : cX1_beginAll.data.toList.drop 0 = dktX1_beginAll_0 := by decide +kernel
theorem dksX1_beginAll_1 : cX1_beginAll.data.toList.drop 21 = dktX1_beginAll_1 := dk_seg dksX1_beginAll_0 21 rfl rfl
theorem dksX1_beginAll_2 : cX1_beginAll.data.toList.drop 43 = dktX1_beginAll_2 := dk_seg dksX1_beginAll_1 22 rfl rfl
theorem dksX1_beginAll_3 : cX1_beginAll.data.toList.drop 67 = dktX1_beginAll_3 := dk_seg dksX1_beginAll_2 24 rfl rfl
theorem dX1_beginAll_0 : decode cX1_beginAll 0 = .ok (.new 442, 3) := dk_187 1 186 (dk_at dksX1_beginAll_0 0 rfl rfl)
theorem dX1_beginAll_3 : decode cX1_beginAll 3 = .ok (.dup, 1) := dk_89 (dk_at dksX1_beginAll_0 3 rfl rfl)
theorem dX1_beginAll_4 : decode cX1_beginAll 4 = .ok (.aload_n 0, 1) := dk_42 (dk_at dksX1_beginAll_0 4 rfl rfl)
theorem dX1_beginAll_5 : decode cX1_beginAll 5 = .ok (.invokevirtual 444, 3) := dk_182 1 188 (dk_at dksX1_beginAll_0 5 rfl rfl)
theorem dX1_beginAll_8 : decode cX1_beginAll 8 = .ok (.invokespecial 447, 3) := dk_183 1 191 (dk_at dksX1_beginAll_0 8 rfl rfl)
theorem dX1_beginAll_11 : decode cX1_beginAll 11 = .ok (.astore_n 1, 1) := dk_76 (dk_at dksX1_beginAll_0 11 rfl rfl)
theorem dX1_beginAll_12 : decode cX1_beginAll 12 = .ok (.aload_n 0, 1) := dk_42 (dk_at dksX1_beginAll_0 12 rfl rfl)
theorem dX1_beginAll_13 : decode cX1_beginAll 13 = .ok (.getfield 83, 3) := dk_180 0 83 (dk_at dksX1_beginAll_0 13 rfl rfl)
theorem dX1_beginAll_16 : decode cX1_beginAll 16 = .ok (.invokevirtual 160, 3) := dk_182 0 160 (dk_at dksX1_beginAll_0 16 rfl rfl)
theorem dX1_beginAll_19 : decode cX1_beginAll 19 = .ok (.astore_n 2, 1) := dk_77 (dk_at dksX1_beginAll_0 19 rfl rfl)
theorem dX1_beginAll_20 : decode cX1_beginAll 20 = .ok (.aload_n 2, 1) := dk_44 (dk_at dksX1_beginAll_0 20 rfl rfl)
theorem dX1_beginAll_21 : decode cX1_beginAll 21 = .ok (.invokeinterface 164 1, 5) := by decide +kernel
theorem dX1_beginAll_26 : decode cX1_beginAll 26 = .ok (.ifCond .eq 62, 3) := dk_153 0 62 (dk_at dksX1_beginAll_1 5 rfl rfl)
theorem dX1_beginAll_29 : decode cX1_beginAll 29 = .ok (.aload_n 2, 1) := dk_44 (dk_at dksX1_beginAll_1 8 rfl rfl)
theorem dX1_beginAll_30 : decode cX1_beginAll 30 = .ok (.invokeinterface 170 1, 5) := by decide +kernel
theorem dX1_beginAll_35 : decode cX1_beginAll 35 = .ok (.checkcast 188, 3) := dk_192 0 188 (dk_at dksX1_beginAll_1 14 rfl rfl)
theorem dX1_beginAll_38 : decode cX1_beginAll 38 = .ok (.astore_n 3, 1) := dk_78 (dk_at dksX1_beginAll_1 17 rfl rfl)
theorem dX1_beginAll_39 : decode cX1_beginAll 39 = .ok (.aload_n 3, 1) := dk_45 (dk_at dksX1_beginAll_1 18 rfl rfl)
theorem dX1_beginAll_40 : decode cX1_beginAll 40 = .ok (.getfield 220, 3) := dk_180 0 220 (dk_at dksX1_beginAll_1 19 rfl rfl)
theorem dX1_beginAll_43 : decode cX1_beginAll 43 = .ok (.getfield 247, 3) := dk_180 0 247 (dk_at dksX1_beginAll_2 0 rfl rfl)
theorem dX1_beginAll_46 : decode cX1_beginAll 46 = .ok (.istore 4, 2) := dk_54 4 (dk_at dksX1_beginAll_2 3 rfl rfl)
theorem dX1_beginAll_48 : decode cX1_beginAll 48 = .ok (.aload_n 1, 1) := dk_43 (dk_at dksX1_beginAll_2 5 rfl rfl)
theorem dX1_beginAll_49 : decode cX1_beginAll 49 = .ok (.iload 4, 2) := dk_21 4 (dk_at dksX1_beginAll_2 6 rfl rfl)
theorem dX1_beginAll_51 : decode cX1_beginAll 51 = .ok (.invokevirtual 449, 3) := dk_182 1 193 (dk_at dksX1_beginAll_2 8 rfl rfl)
theorem dX1_beginAll_54 : decode cX1_beginAll 54 = .ok (.ifCond .eq 31, 3) := dk_153 0 31 (dk_at dksX1_beginAll_2 11 rfl rfl)
theorem dX1_beginAll_57 : decode cX1_beginAll 57 = .ok (.aload_n 0, 1) := dk_42 (dk_at dksX1_beginAll_2 14 rfl rfl)
theorem dX1_beginAll_58 : decode cX1_beginAll 58 = .ok (.aload_n 3, 1) := dk_45 (dk_at dksX1_beginAll_2 15 rfl rfl)
theorem dX1_beginAll_59 : decode cX1_beginAll 59 = .ok (.invokevirtual 452, 3) := dk_182 1 196 (dk_at dksX1_beginAll_2 16 rfl rfl)
theorem dX1_beginAll_62 : decode cX1_beginAll 62 = .ok (.ifCond .eq 23, 3) := dk_153 0 23 (dk_at dksX1_beginAll_2 19 rfl rfl)
theorem dX1_beginAll_65 : decode cX1_beginAll 65 = .ok (.aload_n 0, 1) := dk_42 (dk_at dksX1_beginAll_2 22 rfl rfl)
theorem dX1_beginAll_66 : decode cX1_beginAll 66 = .ok (.aload_n 3, 1) := dk_45 (dk_at dksX1_beginAll_2 23 rfl rfl)
theorem dX1_beginAll_67 : decode cX1_beginAll 67 = .ok (.invokevirtual 455, 3) := dk_182 1 199 (dk_at dksX1_beginAll_3 0 rfl rfl)
theorem dX1_beginAll_70 : decode cX1_beginAll 70 = .ok (.ifCond .eq 15, 3) := dk_153 0 15 (dk_at dksX1_beginAll_3 3 rfl rfl)
theorem dX1_beginAll_73 : decode cX1_beginAll 73 = .ok (.aload_n 1, 1) := dk_43 (dk_at dksX1_beginAll_3 6 rfl rfl)
theorem dX1_beginAll_74 : decode cX1_beginAll 74 = .ok (.iload 4, 2) := dk_21 4 (dk_at dksX1_beginAll_3 7 rfl rfl)
theorem dX1_beginAll_76 : decode cX1_beginAll 76 = .ok (.invokevirtual 458, 3) := dk_182 1 202 (dk_at dksX1_beginAll_3 9 rfl rfl)
theorem dX1_beginAll_79 : decode cX1_beginAll 79 = .ok (.aload_n 2, 1) := dk_44 (dk_at dksX1_beginAll_3 12 rfl rfl)
theorem dX1_beginAll_80 : decode cX1_beginAll 80 = .ok (.invokeinterface 179 1, 5) := by decide +kernel
theorem dX1_beginAll_85 : decode cX1_beginAll 85 = .ok (.goto (-65), 3) := dk_167 255 191 (dk_at dksX1_beginAll_3 18 rfl rfl)
theorem dX1_beginAll_88 : decode cX1_beginAll 88 = .ok (.return_, 1) := dk_177 (dk_at dksX1_beginAll_3 21 rfl rfl)
def dkwX1_isDividing_2 : List UInt8 := [180, 0, 220, 180, 0, 247, 8, 160, 0, 7, 4, 167, 0, 4, 3, 60, 167, 255, 207, 27, 172]
abbrev dktX1_isDividing_2 : List UInt8 := dkwX1_isDividing_2 ++ []
def dkwX1_isDividing_1 : List UInt8 := [185, 0, 170, 1, 0, 192, 0, 188, 78, 27, 154, 0, 23, 45, 180, 0, 190, 16, 120, 160, 0, 18, 45]
abbrev dktX1_isDividing_1 : List UInt8 := dkwX1_isDividing_1 ++ dktX1_isDividing_2
def dkwX1_isDividing_0 : List UInt8 := [3, 60, 42, 180, 0, 79, 182, 0, 160, 77, 44, 185, 0, 164, 1, 0, 153, 0, 46, 44]
abbrev dktX1_isDividing_0 : List UInt8 := dkwX1_isDividing_0 ++ dktX1_isDividing_1
theorem dksX1_isDividing_0 : cX1_isDividing.data.toList.drop 0 = dktX1_isDividing_0 := by decide +kernel
theorem dksX1_isDividing_1 : cX1_isDividing.data.toList.drop 20 = dktX1_isDividing_1 := dk_seg dksX1_isDividing_0 20 rfl rfl
theorem dksX1_isDividing_2 : cX1_isDividing.data.toList.drop 43 = dktX1_isDividing_2 := dk_seg dksX1_isDividing_1 23 rfl rfl
theorem dX1_isDividing_0 : decode cX1_isDividing 0 = .ok (.iconst 0, 1) := dk_3 (dk_at dksX1_isDividing_0 0 rfl rfl)
theorem dX1_isDividing_1 : decode cX1_isDividing 1 = .ok (.istore_n 1, 1) := dk_60 (dk_at dksX1_isDividing_0 1 rfl rfl)
theorem dX1_isDividing_2 : decode cX1_isDividing 2 = .ok (.aload_n 0, 1) := dk_42 (dk_at dksX1_isDividing_0 2 rfl rfl)
theorem dX1_isDividing_3 : decode cX1_isDividing 3 = .ok (.getfield 79, 3) := dk_180 0 79 (dk_at dksX1_isDividing_0 3 rfl rfl)
theorem dX1_isDividing_6 : decode cX1_isDividing 6 = .ok (.invokevirtual 160, 3) := dk_182 0 160 (dk_at dksX1_isDividing_0 6 rfl rfl)
theorem dX1_isDividing_9 : decode cX1_isDividing 9 = .ok (.astore_n 2, 1) := dk_77 (dk_at dksX1_isDividing_0 9 rfl rfl)
theorem dX1_isDividing_10 : decode cX1_isDividing 10 = .ok (.aload_n 2, 1) := dk_44 (dk_at dksX1_isDividing_0 10 rfl rfl)
theorem dX1_isDividing_11 : decode cX1_isDividing 11 = .ok (.invokeinterface 164 1, 5) := by decide +kernel
theorem dX1_isDividing_16 : decode cX1_isDividing 16 = .ok (.ifCond .eq 46, 3) := dk_153 0 46 (dk_at dksX1_isDividing_0 16 rfl rfl)
theorem dX1_isDividing_19 : decode cX1_isDividing 19 = .ok (.aload_n 2, 1) := dk_44 (dk_at dksX1_isDividing_0 19 rfl rfl)
theorem dX1_isDividing_20 : decode cX1_isDividing 20 = .ok (.invokeinterface 170 1, 5) := by decide +kernel
theorem dX1_isDividing_25 : decode cX1_isDividing 25 = .ok (.checkcast 188, 3) := dk_192 0 188 (dk_at dksX1_isDividing_1 5 rfl rfl)
theorem dX1_isDividing_28 : decode cX1_isDividing 28 = .ok (.astore_n 3, 1) := dk_78 (dk_at dksX1_isDividing_1 8 rfl rfl)
theorem dX1_isDividing_29 : decode cX1_isDividing 29 = .ok (.iload_n 1, 1) := dk_27 (dk_at dksX1_isDividing_1 9 rfl rfl)
theorem dX1_isDividing_30 : decode cX1_isDividing 30 = .ok (.ifCond .ne 23, 3) := dk_154 0 23 (dk_at dksX1_isDividing_1 10 rfl rfl)
theorem dX1_isDividing_33 : decode cX1_isDividing 33 = .ok (.aload_n 3, 1) := dk_45 (dk_at dksX1_isDividing_1 13 rfl rfl)
theorem dX1_isDividing_34 : decode cX1_isDividing 34 = .ok (.getfield 190, 3) := dk_180 0 190 (dk_at dksX1_isDividing_1 14 rfl rfl)
theorem dX1_isDividing_37 : decode cX1_isDividing 37 = .ok (.bipush 120, 2) := dk_16 120 (dk_at dksX1_isDividing_1 17 rfl rfl)
theorem dX1_isDividing_39 : decode cX1_isDividing 39 = .ok (.if_icmp .ne 18, 3) := dk_160 0 18 (dk_at dksX1_isDividing_1 19 rfl rfl)
theorem dX1_isDividing_42 : decode cX1_isDividing 42 = .ok (.aload_n 3, 1) := dk_45 (dk_at dksX1_isDividing_1 22 rfl rfl)
theorem dX1_isDividing_43 : decode cX1_isDividing 43 = .ok (.getfield 220, 3) := dk_180 0 220 (dk_at dksX1_isDividing_2 0 rfl rfl)
theorem dX1_isDividing_46 : decode cX1_isDividing 46 = .ok (.getfield 247, 3) := dk_180 0 247 (dk_at dksX1_isDividing_2 3 rfl rfl)
theorem dX1_isDividing_49 : decode cX1_isDividing 49 = .ok (.iconst 5, 1) := dk_8 (dk_at dksX1_isDividing_2 6 rfl rfl)
theorem dX1_isDividing_50 : decode cX1_isDividing 50 = .ok (.if_icmp .ne 7, 3) := dk_160 0 7 (dk_at dksX1_isDividing_2 7 rfl rfl)
theorem dX1_isDividing_53 : decode cX1_isDividing 53 = .ok (.iconst 1, 1) := dk_4 (dk_at dksX1_isDividing_2 10 rfl rfl)
theorem dX1_isDividing_54 : decode cX1_isDividing 54 = .ok (.goto 4, 3) := dk_167 0 4 (dk_at dksX1_isDividing_2 11 rfl rfl)
theorem dX1_isDividing_57 : decode cX1_isDividing 57 = .ok (.iconst 0, 1) := dk_3 (dk_at dksX1_isDividing_2 14 rfl rfl)
theorem dX1_isDividing_58 : decode cX1_isDividing 58 = .ok (.istore_n 1, 1) := dk_60 (dk_at dksX1_isDividing_2 15 rfl rfl)
theorem dX1_isDividing_59 : decode cX1_isDividing 59 = .ok (.goto (-49), 3) := dk_167 255 207 (dk_at dksX1_isDividing_2 16 rfl rfl)
theorem dX1_isDividing_62 : decode cX1_isDividing 62 = .ok (.iload_n 1, 1) := dk_27 (dk_at dksX1_isDividing_2 19 rfl rfl)
theorem dX1_isDividing_63 : decode cX1_isDividing 63 = .ok (.ireturn, 1) := dk_172 (dk_at dksX1_isDividing_2 20 rfl rfl)
def dkwX1_hasOperands_2 : List UInt8 := [43, 180, 0, 244, 182, 1, 103, 153, 0, 7, 4, 167, 0, 4, 3, 172]
abbrev dktX1_hasOperands_2 : List UInt8 := dkwX1_hasOperands_2 ++ []
def dkwX1_hasOperands_1 : List UInt8 := [153, 0, 7, 4, 167, 0, 4, 3, 62, 29, 153, 0, 28, 44, 182, 1, 208, 153, 0, 17, 42, 180, 0, 56]
abbrev dktX1_hasOperands_1 : List UInt8 := dkwX1_hasOperands_1 ++ dktX1_hasOperands_2
def dkwX1_hasOperands_0 : List UInt8 := [43, 180, 0, 220, 77, 44, 182, 1, 205, 153, 0, 17, 42, 180, 0, 56, 43, 180, 1, 14, 182, 1, 103]
abbrev dktX1_hasOperands_0 : List UInt8 := dkwX1_hasOperands_0 ++ dktX1_hasOperands_1
theorem dksX1_hasOperands_0 : cX1_hasOperands.data.toList.drop 0 = dktX1_hasOperands_0 := by decide +kernel
theorem dksX1_hasOperands_1 : cX1_hasOperands.data.toList.drop 23 = dktX1_hasOperands_1 := dk_seg dksX1_hasOperands_0 23 rfl rfl
theorem dksX1_hasOperands_2 : cX1_hasOperands.data.toList.drop 47 = dktX1_hasOperands_2 := dk_seg dksX1_hasOperands_1 24 rfl rfl
theorem dX1_hasOperands_0 : decode cX1_hasOperands 0 = .ok (.aload_n 1, 1) := dk_43 (dk_at dksX1_hasOperands_0 0 rfl rfl)
theorem dX1_hasOperands_1 : decode cX1_hasOperands 1 = .ok (.getfield 220, 3) := dk_180 0 220 (dk_at dksX1_hasOperands_0 1 rfl rfl)
theorem dX1_hasOperands_4 : decode cX1_hasOperands 4 = .ok (.astore_n 2, 1) := dk_77 (dk_at dksX1_hasOperands_0 4 rfl rfl)
theorem dX1_hasOperands_5 : decode cX1_hasOperands 5 = .ok (.aload_n 2, 1) := dk_44 (dk_at dksX1_hasOperands_0 5 rfl rfl)
theorem dX1_hasOperands_6 : decode cX1_hasOperands 6 = .ok (.invokevirtual 461, 3) := dk_182 1 205 (dk_at dksX1_hasOperands_0 6 rfl rfl)
theorem dX1_hasOperands_9 : decode cX1_hasOperands 9 = .ok (.ifCond .eq 17, 3) := dk_153 0 17 (dk_at dksX1_hasOperands_0 9 rfl rfl)
theorem dX1_hasOperands_12 : decode cX1_hasOperands 12 = .ok (.aload_n 0, 1) := dk_42 (dk_at dksX1_hasOperands_0 12 rfl rfl)
theorem dX1_hasOperands_13 : decode cX1_hasOperands 13 = .ok (.getfield 56, 3) := dk_180 0 56 (dk_at dksX1_hasOperands_0 13 rfl rfl)
theorem dX1_hasOperands_16 : decode cX1_hasOperands 16 = .ok (.aload_n 1, 1) := dk_43 (dk_at dksX1_hasOperands_0 16 rfl rfl)
theorem dX1_hasOperands_17 : decode cX1_hasOperands 17 = .ok (.getfield 270, 3) := dk_180 1 14 (dk_at dksX1_hasOperands_0 17 rfl rfl)
theorem dX1_hasOperands_20 : decode cX1_hasOperands 20 = .ok (.invokevirtual 359, 3) := dk_182 1 103 (dk_at dksX1_hasOperands_0 20 rfl rfl)
theorem dX1_hasOperands_23 : decode cX1_hasOperands 23 = .ok (.ifCond .eq 7, 3) := dk_153 0 7 (dk_at dksX1_hasOperands_1 0 rfl rfl)
theorem dX1_hasOperands_26 : decode cX1_hasOperands 26 = .ok (.iconst 1, 1) := dk_4 (dk_at dksX1_hasOperands_1 3 rfl rfl)
theorem dX1_hasOperands_27 : decode cX1_hasOperands 27 = .ok (.goto 4, 3) := dk_167 0 4 (dk_at dksX1_hasOperands_1 4 rfl rfl)
theorem dX1_hasOperands_30 : decode cX1_hasOperands 30 = .ok (.iconst 0, 1) := dk_3 (dk_at dksX1_hasOperands_1 7 rfl rfl)
theorem dX1_hasOperands_31 : decode cX1_hasOperands 31 = .ok (.istore_n 3, 1) := dk_62 (dk_at dksX1_hasOperands_1 8 rfl rfl)
theorem dX1_hasOperands_32 : decode cX1_hasOperands 32 = .ok (.iload_n 3, 1) := dk_29 (dk_at dksX1_hasOperands_1 9 rfl rfl)
theorem dX1_hasOperands_33 : decode cX1_hasOperands 33 = .ok (.ifCond .eq 28, 3) := dk_153 0 28 (dk_at dksX1_hasOperands_1 10 rfl rfl)
theorem dX1_hasOperands_36 : decode cX1_hasOperands 36 = .ok (.aload_n 2, 1) := dk_44 (dk_at dksX1_hasOperands_1 13 rfl rfl)
theorem dX1_hasOperands_37 : decode cX1_hasOperands 37 = .ok (.invokevirtual 464, 3) := dk_182 1 208 (dk_at dksX1_hasOperands_1 14 rfl rfl)
theorem dX1_hasOperands_40 : decode cX1_hasOperands 40 = .ok (.ifCond .eq 17, 3) := dk_153 0 17 (dk_at dksX1_hasOperands_1 17 rfl rfl)
theorem dX1_hasOperands_43 : decode cX1_hasOperands 43 = .ok (.aload_n 0, 1) := dk_42 (dk_at dksX1_hasOperands_1 20 rfl rfl)
theorem dX1_hasOperands_44 : decode cX1_hasOperands 44 = .ok (.getfield 56, 3) := dk_180 0 56 (dk_at dksX1_hasOperands_1 21 rfl rfl)
theorem dX1_hasOperands_47 : decode cX1_hasOperands 47 = .ok (.aload_n 1, 1) := dk_43 (dk_at dksX1_hasOperands_2 0 rfl rfl)
theorem dX1_hasOperands_48 : decode cX1_hasOperands 48 = .ok (.getfield 244, 3) := dk_180 0 244 (dk_at dksX1_hasOperands_2 1 rfl rfl)
theorem dX1_hasOperands_51 : decode cX1_hasOperands 51 = .ok (.invokevirtual 359, 3) := dk_182 1 103 (dk_at dksX1_hasOperands_2 4 rfl rfl)
theorem dX1_hasOperands_54 : decode cX1_hasOperands 54 = .ok (.ifCond .eq 7, 3) := dk_153 0 7 (dk_at dksX1_hasOperands_2 7 rfl rfl)
theorem dX1_hasOperands_57 : decode cX1_hasOperands 57 = .ok (.iconst 1, 1) := dk_4 (dk_at dksX1_hasOperands_2 10 rfl rfl)
theorem dX1_hasOperands_58 : decode cX1_hasOperands 58 = .ok (.goto 4, 3) := dk_167 0 4 (dk_at dksX1_hasOperands_2 11 rfl rfl)
theorem dX1_hasOperands_61 : decode cX1_hasOperands 61 = .ok (.iconst 0, 1) := dk_3 (dk_at dksX1_hasOperands_2 14 rfl rfl)
theorem dX1_hasOperands_62 : decode cX1_hasOperands 62 = .ok (.ireturn, 1) := dk_172 (dk_at dksX1_hasOperands_2 15 rfl rfl)
def dkwX1_begin_3 : List UInt8 := [167, 0, 17, 44, 180, 0, 247, 8, 160, 0, 8, 16, 6, 167, 0, 4, 4, 182, 1, 217, 4, 172]
abbrev dktX1_begin_3 : List UInt8 := dkwX1_begin_3 ++ []
def dkwX1_begin_2 : List UInt8 := [153, 0, 9, 42, 43, 182, 1, 214, 172, 43, 42, 180, 0, 153, 44, 180, 0, 247, 7, 160, 0, 7, 6]
abbrev dktX1_begin_2 : List UInt8 := dkwX1_begin_2 ++ dktX1_begin_3
def dkwX1_begin_1 : List UInt8 := [180, 1, 60, 96, 181, 0, 250, 44, 180, 0, 247, 16, 9, 160, 0, 19, 43, 180, 0, 250, 184, 0, 253]
abbrev dktX1_begin_1 : List UInt8 := dkwX1_begin_1 ++ dktX1_begin_2
def dkwX1_begin_0 : List UInt8 := [43, 180, 0, 220, 77, 44, 182, 1, 211, 153, 0, 21, 43, 42, 180, 0, 50, 43, 180, 1, 14, 46, 44]
abbrev dktX1_begin_0 : List UInt8 := dkwX1_begin_0 ++ dktX1_begin_1
theorem dksX1_begin_0 : cX1_begin.data.toList.drop 0 = dktX1_begin_0 := by decide +kernel
theorem dksX1_begin_1 : cX1_begin.data.toList.drop 23 = dktX1_begin_1 := dk_seg dksX1_begin_0 23 rfl rfl
theorem dksX1_begin_2 : cX1_begin.data.toList.drop 46 = dktX1_begin_2 := dk_seg dksX1_begin_1 23 rfl rfl
theorem dksX1_begin_3 : cX1_begin.data.toList.drop 69 = dktX1_begin_3 := dk_seg dksX1_begin_2 23 rfl rfl
theorem dX1_begin_0 : decode cX1_begin 0 = .ok (.aload_n 1, 1) := dk_43 (dk_at dksX1_begin_0 0 rfl rfl)
theorem dX1_begin_1 : decode cX1_begin 1 = .ok (.getfield 220, 3) := dk_180 0 220 (dk_at dksX1_begin_0 1 rfl rfl)
theorem dX1_begin_4 : decode cX1_begin 4 = .ok (.astore_n 2, 1) := dk_77 (dk_at dksX1_begin_0 4 rfl rfl)
theorem dX1_begin_5 : decode cX1_begin 5 = .ok (.aload_n 2, 1) := dk_44 (dk_at dksX1_begin_0 5 rfl rfl)
theorem dX1_begin_6 : decode cX1_begin 6 = .ok (.invokevirtual 467, 3) := dk_182 1 211 (dk_at dksX1_begin_0 6 rfl rfl)
theorem dX1_begin_9 : decode cX1_begin 9 = .ok (.ifCond .eq 21, 3) := dk_153 0 21 (dk_at dksX1_begin_0 9 rfl rfl)
theorem dX1_begin_12 : decode cX1_begin 12 = .ok (.aload_n 1, 1) := dk_43 (dk_at dksX1_begin_0 12 rfl rfl)
theorem dX1_begin_13 : decode cX1_begin 13 = .ok (.aload_n 0, 1) := dk_42 (dk_at dksX1_begin_0 13 rfl rfl)
theorem dX1_begin_14 : decode cX1_begin 14 = .ok (.getfield 50, 3) := dk_180 0 50 (dk_at dksX1_begin_0 14 rfl rfl)
theorem dX1_begin_17 : decode cX1_begin 17 = .ok (.aload_n 1, 1) := dk_43 (dk_at dksX1_begin_0 17 rfl rfl)
theorem dX1_begin_18 : decode cX1_begin 18 = .ok (.getfield 270, 3) := dk_180 1 14 (dk_at dksX1_begin_0 18 rfl rfl)
theorem dX1_begin_21 : decode cX1_begin 21 = .ok (.iaload, 1) := dk_46 (dk_at dksX1_begin_0 21 rfl rfl)
theorem dX1_begin_22 : decode cX1_begin 22 = .ok (.aload_n 2, 1) := dk_44 (dk_at dksX1_begin_0 22 rfl rfl)
theorem dX1_begin_23 : decode cX1_begin 23 = .ok (.getfield 316, 3) := dk_180 1 60 (dk_at dksX1_begin_1 0 rfl rfl)
theorem dX1_begin_26 : decode cX1_begin 26 = .ok (.iadd, 1) := dk_96 (dk_at dksX1_begin_1 3 rfl rfl)
theorem dX1_begin_27 : decode cX1_begin 27 = .ok (.putfield 250, 3) := dk_181 0 250 (dk_at dksX1_begin_1 4 rfl rfl)
theorem dX1_begin_30 : decode cX1_begin 30 = .ok (.aload_n 2, 1) := dk_44 (dk_at dksX1_begin_1 7 rfl rfl)
theorem dX1_begin_31 : decode cX1_begin 31 = .ok (.getfield 247, 3) := dk_180 0 247 (dk_at dksX1_begin_1 8 rfl rfl)
theorem dX1_begin_34 : decode cX1_begin 34 = .ok (.bipush 9, 2) := dk_16 9 (dk_at dksX1_begin_1 11 rfl rfl)
theorem dX1_begin_36 : decode cX1_begin 36 = .ok (.if_icmp .ne 19, 3) := dk_160 0 19 (dk_at dksX1_begin_1 13 rfl rfl)
theorem dX1_begin_39 : decode cX1_begin 39 = .ok (.aload_n 1, 1) := dk_43 (dk_at dksX1_begin_1 16 rfl rfl)
theorem dX1_begin_40 : decode cX1_begin 40 = .ok (.getfield 250, 3) := dk_180 0 250 (dk_at dksX1_begin_1 17 rfl rfl)
theorem dX1_begin_43 : decode cX1_begin 43 = .ok (.invokestatic 253, 3) := dk_184 0 253 (dk_at dksX1_begin_1 20 rfl rfl)
theorem dX1_begin_46 : decode cX1_begin 46 = .ok (.ifCond .eq 9, 3) := dk_153 0 9 (dk_at dksX1_begin_2 0 rfl rfl)
theorem dX1_begin_49 : decode cX1_begin 49 = .ok (.aload_n 0, 1) := dk_42 (dk_at dksX1_begin_2 3 rfl rfl)
theorem dX1_begin_50 : decode cX1_begin 50 = .ok (.aload_n 1, 1) := dk_43 (dk_at dksX1_begin_2 4 rfl rfl)
theorem dX1_begin_51 : decode cX1_begin 51 = .ok (.invokevirtual 470, 3) := dk_182 1 214 (dk_at dksX1_begin_2 5 rfl rfl)
theorem dX1_begin_54 : decode cX1_begin 54 = .ok (.ireturn, 1) := dk_172 (dk_at dksX1_begin_2 8 rfl rfl)
theorem dX1_begin_55 : decode cX1_begin 55 = .ok (.aload_n 1, 1) := dk_43 (dk_at dksX1_begin_2 9 rfl rfl)
theorem dX1_begin_56 : decode cX1_begin 56 = .ok (.aload_n 0, 1) := dk_42 (dk_at dksX1_begin_2 10 rfl rfl)
theorem dX1_begin_57 : decode cX1_begin 57 = .ok (.getfield 153, 3) := dk_180 0 153 (dk_at dksX1_begin_2 11 rfl rfl)
theorem dX1_begin_60 : decode cX1_begin 60 = .ok (.aload_n 2, 1) := dk_44 (dk_at dksX1_begin_2 14 rfl rfl)
theorem dX1_begin_61 : decode cX1_begin 61 = .ok (.getfield 247, 3) := dk_180 0 247 (dk_at dksX1_begin_2 15 rfl rfl)
theorem dX1_begin_64 : decode cX1_begin 64 = .ok (.iconst 4, 1) := dk_7 (dk_at dksX1_begin_2 18 rfl rfl)
theorem dX1_begin_65 : decode cX1_begin 65 = .ok (.if_icmp .ne 7, 3) := dk_160 0 7 (dk_at dksX1_begin_2 19 rfl rfl)
theorem dX1_begin_68 : decode cX1_begin 68 = .ok (.iconst 3, 1) := dk_6 (dk_at dksX1_begin_2 22 rfl rfl)
theorem dX1_begin_69 : decode cX1_begin 69 = .ok (.goto 17, 3) := dk_167 0 17 (dk_at dksX1_begin_3 0 rfl rfl)
theorem dX1_begin_72 : decode cX1_begin 72 = .ok (.aload_n 2, 1) := dk_44 (dk_at dksX1_begin_3 3 rfl rfl)
theorem dX1_begin_73 : decode cX1_begin 73 = .ok (.getfield 247, 3) := dk_180 0 247 (dk_at dksX1_begin_3 4 rfl rfl)
theorem dX1_begin_76 : decode cX1_begin 76 = .ok (.iconst 5, 1) := dk_8 (dk_at dksX1_begin_3 7 rfl rfl)
theorem dX1_begin_77 : decode cX1_begin 77 = .ok (.if_icmp .ne 8, 3) := dk_160 0 8 (dk_at dksX1_begin_3 8 rfl rfl)
theorem dX1_begin_80 : decode cX1_begin 80 = .ok (.bipush 6, 2) := dk_16 6 (dk_at dksX1_begin_3 11 rfl rfl)
theorem dX1_begin_82 : decode cX1_begin 82 = .ok (.goto 4, 3) := dk_167 0 4 (dk_at dksX1_begin_3 13 rfl rfl)
theorem dX1_begin_85 : decode cX1_begin 85 = .ok (.iconst 1, 1) := dk_4 (dk_at dksX1_begin_3 16 rfl rfl)
theorem dX1_begin_86 : decode cX1_begin 86 = .ok (.invokevirtual 473, 3) := dk_182 1 217 (dk_at dksX1_begin_3 17 rfl rfl)
theorem dX1_begin_89 : decode cX1_begin 89 = .ok (.iconst 1, 1) := dk_4 (dk_at dksX1_begin_3 20 rfl rfl)
theorem dX1_begin_90 : decode cX1_begin 90 = .ok (.ireturn, 1) := dk_172 (dk_at dksX1_begin_3 21 rfl rfl)
def dkwX1_beginLoad_6 : List UInt8 := [167, 0, 9, 42, 43, 44, 182, 1, 226, 172]
abbrev dktX1_beginLoad_6 : List UInt8 := dkwX1_beginLoad_6 ++ []
def dkwX1_beginLoad_5 : List UInt8 := [180, 1, 28, 16, 16, 112, 182, 1, 103, 153, 0, 5, 3, 172, 44, 199, 0, 11, 42, 43, 182, 1, 223]
abbrev dktX1_beginLoad_5 : List UInt8 := dkwX1_beginLoad_5 ++ dktX1_beginLoad_6
def dkwX1_beginLoad_4 : List UInt8 := [160, 0, 8, 25, 5, 167, 0, 4, 44, 77, 167, 255, 169, 29, 154, 0, 22, 42, 180, 0, 95, 43]
abbrev dktX1_beginLoad_4 : List UInt8 := dkwX1_beginLoad_4 ++ dktX1_beginLoad_5
def dkwX1_beginLoad_3 : List UInt8 := [167, 0, 4, 3, 62, 25, 5, 182, 1, 220, 153, 0, 20, 25, 5, 180, 0, 250, 43, 180, 0, 250]
abbrev dktX1_beginLoad_3 : List UInt8 := dkwX1_beginLoad_3 ++ dktX1_beginLoad_4
def dkwX1_beginLoad_2 : List UInt8 := [25, 5, 43, 182, 1, 41, 153, 0, 48, 29, 153, 0, 15, 25, 5, 182, 1, 106, 153, 0, 7, 4]
abbrev dktX1_beginLoad_2 : List UInt8 := dkwX1_beginLoad_2 ++ dktX1_beginLoad_3
def dkwX1_beginLoad_1 : List UInt8 := [25, 4, 185, 0, 170, 1, 0, 192, 0, 188, 58, 5, 25, 5, 180, 0, 220, 182, 0, 235, 153, 0, 57]
abbrev dktX1_beginLoad_1 : List UInt8 := dkwX1_beginLoad_1 ++ dktX1_beginLoad_2
def dkwX1_beginLoad_0 : List UInt8 := [1, 77, 4, 62, 42, 180, 0, 79, 182, 0, 160, 58, 4, 25, 4, 185, 0, 164, 1, 0, 153, 0, 83]
abbrev dktX1_beginLoad_0 : List UInt8 := dkwX1_beginLoad_0 ++ dktX1_beginLoad_1
theorem dksX1_beginLoad_0 : cX1_beginLoad.data.toList.drop 0 = dktX1_beginLoad_0 := by decide +kernel
theorem dksX1_beginLoad_1 : cX1_beginLoad.data.toList.drop 23 = dktX1_beginLoad_1 := dk_seg dksX1_beginLoad_0 23 rfl rfl
theorem dksX1_beginLoad_2 : cX1_beginLoad.data.toList.drop 46 = dktX1_beginLoad_2 := dk_seg dksX1_beginLoad_1 23 rfl rfl
theorem dksX1_beginLoad_3 : cX1_beginLoad.data.toList.drop 68 = dktX1_beginLoad_3 := dk_seg dksX1_beginLoad_2 22 rfl rfl
theorem dksX1_beginLoad_4 : cX1_beginLoad.data.toList.drop 90 = dktX1_beginLoad_4 := dk_seg dksX1_beginLoad_3 22 rfl rfl
theorem dksX1_beginLoad_5 : cX1_beginLoad.data.toList.drop 112 = dktX1_beginLoad_5 := dk_seg dksX1_beginLoad_4 22 rfl rfl
theorem dksX1_beginLoad_6 : cX1_beginLoad.data.toList.drop 135 = dktX1_beginLoad_6 := dk_seg dksX1_beginLoad_5 23 rfl rfl
theorem dX1_beginLoad_0 : decode cX1_beginLoad 0 = .ok (.aconst_null, 1) := dk_1 (dk_at dksX1_beginLoad_0 0 rfl rfl)
theorem dX1_beginLoad_1 : decode cX1_beginLoad 1 = .ok (.astore_n 2, 1) := dk_77 (dk_at dksX1_beginLoad_0 1 rfl rfl)
theorem dX1_beginLoad_2 : decode cX1_beginLoad 2 = .ok (.iconst 1, 1) := dk_4 (dk_at dksX1_beginLoad_0 2 rfl rfl)
theorem dX1_beginLoad_3 : decode cX1_beginLoad 3 = .ok (.istore_n 3, 1) := dk_62 (dk_at dksX1_beginLoad_0 3 rfl rfl)
theorem dX1_beginLoad_4 : decode cX1_beginLoad 4 = .ok (.aload_n 0, 1) := dk_42 (dk_at dksX1_beginLoad_0 4 rfl rfl)
theorem dX1_beginLoad_5 : decode cX1_beginLoad 5 = .ok (.getfield 79, 3) := dk_180 0 79 (dk_at dksX1_beginLoad_0 5 rfl rfl)
theorem dX1_beginLoad_8 : decode cX1_beginLoad 8 = .ok (.invokevirtual 160, 3) := dk_182 0 160 (dk_at dksX1_beginLoad_0 8 rfl rfl)
theorem dX1_beginLoad_11 : decode cX1_beginLoad 11 = .ok (.astore 4, 2) := dk_58 4 (dk_at dksX1_beginLoad_0 11 rfl rfl)
theorem dX1_beginLoad_13 : decode cX1_beginLoad 13 = .ok (.aload 4, 2) := dk_25 4 (dk_at dksX1_beginLoad_0 13 rfl rfl)
theorem dX1_beginLoad_15 : decode cX1_beginLoad 15 = .ok (.invokeinterface 164 1, 5) := by decide +kernel
theorem dX1_beginLoad_20 : decode cX1_beginLoad 20 = .ok (.ifCond .eq 83, 3) := dk_153 0 83 (dk_at dksX1_beginLoad_0 20 rfl rfl)
theorem dX1_beginLoad_23 : decode cX1_beginLoad 23 = .ok (.aload 4, 2) := dk_25 4 (dk_at dksX1_beginLoad_1 0 rfl rfl)
theorem dX1_beginLoad_25 : decode cX1_beginLoad 25 = .ok (.invokeinterface 170 1, 5) := by decide +kernel
theorem dX1_beginLoad_30 : decode cX1_beginLoad 30 = .ok (.checkcast 188, 3) := dk_192 0 188 (dk_at dksX1_beginLoad_1 7 rfl rfl)
theorem dX1_beginLoad_33 : decode cX1_beginLoad 33 = .ok (.astore 5, 2) := dk_58 5 (dk_at dksX1_beginLoad_1 10 rfl rfl)
theorem dX1_beginLoad_35 : decode cX1_beginLoad 35 = .ok (.aload 5, 2) := dk_25 5 (dk_at dksX1_beginLoad_1 12 rfl rfl)
theorem dX1_beginLoad_37 : decode cX1_beginLoad 37 = .ok (.getfield 220, 3) := dk_180 0 220 (dk_at dksX1_beginLoad_1 14 rfl rfl)
theorem dX1_beginLoad_40 : decode cX1_beginLoad 40 = .ok (.invokevirtual 235, 3) := dk_182 0 235 (dk_at dksX1_beginLoad_1 17 rfl rfl)
theorem dX1_beginLoad_43 : decode cX1_beginLoad 43 = .ok (.ifCond .eq 57, 3) := dk_153 0 57 (dk_at dksX1_beginLoad_1 20 rfl rfl)
theorem dX1_beginLoad_46 : decode cX1_beginLoad 46 = .ok (.aload 5, 2) := dk_25 5 (dk_at dksX1_beginLoad_2 0 rfl rfl)
theorem dX1_beginLoad_48 : decode cX1_beginLoad 48 = .ok (.aload_n 1, 1) := dk_43 (dk_at dksX1_beginLoad_2 2 rfl rfl)
theorem dX1_beginLoad_49 : decode cX1_beginLoad 49 = .ok (.invokevirtual 297, 3) := dk_182 1 41 (dk_at dksX1_beginLoad_2 3 rfl rfl)
theorem dX1_beginLoad_52 : decode cX1_beginLoad 52 = .ok (.ifCond .eq 48, 3) := dk_153 0 48 (dk_at dksX1_beginLoad_2 6 rfl rfl)
theorem dX1_beginLoad_55 : decode cX1_beginLoad 55 = .ok (.iload_n 3, 1) := dk_29 (dk_at dksX1_beginLoad_2 9 rfl rfl)
theorem dX1_beginLoad_56 : decode cX1_beginLoad 56 = .ok (.ifCond .eq 15, 3) := dk_153 0 15 (dk_at dksX1_beginLoad_2 10 rfl rfl)
theorem dX1_beginLoad_59 : decode cX1_beginLoad 59 = .ok (.aload 5, 2) := dk_25 5 (dk_at dksX1_beginLoad_2 13 rfl rfl)
theorem dX1_beginLoad_61 : decode cX1_beginLoad 61 = .ok (.invokevirtual 362, 3) := dk_182 1 106 (dk_at dksX1_beginLoad_2 15 rfl rfl)
theorem dX1_beginLoad_64 : decode cX1_beginLoad 64 = .ok (.ifCond .eq 7, 3) := dk_153 0 7 (dk_at dksX1_beginLoad_2 18 rfl rfl)
theorem dX1_beginLoad_67 : decode cX1_beginLoad 67 = .ok (.iconst 1, 1) := dk_4 (dk_at dksX1_beginLoad_2 21 rfl rfl)
theorem dX1_beginLoad_68 : decode cX1_beginLoad 68 = .ok (.goto 4, 3) := dk_167 0 4 (dk_at dksX1_beginLoad_3 0 rfl rfl)
theorem dX1_beginLoad_71 : decode cX1_beginLoad 71 = .ok (.iconst 0, 1) := dk_3 (dk_at dksX1_beginLoad_3 3 rfl rfl)
theorem dX1_beginLoad_72 : decode cX1_beginLoad 72 = .ok (.istore_n 3, 1) := dk_62 (dk_at dksX1_beginLoad_3 4 rfl rfl)
theorem dX1_beginLoad_73 : decode cX1_beginLoad 73 = .ok (.aload 5, 2) := dk_25 5 (dk_at dksX1_beginLoad_3 5 rfl rfl)
theorem dX1_beginLoad_75 : decode cX1_beginLoad 75 = .ok (.invokevirtual 476, 3) := dk_182 1 220 (dk_at dksX1_beginLoad_3 7 rfl rfl)
theorem dX1_beginLoad_78 : decode cX1_beginLoad 78 = .ok (.ifCond .eq 20, 3) := dk_153 0 20 (dk_at dksX1_beginLoad_3 10 rfl rfl)
theorem dX1_beginLoad_81 : decode cX1_beginLoad 81 = .ok (.aload 5, 2) := dk_25 5 (dk_at dksX1_beginLoad_3 13 rfl rfl)
theorem dX1_beginLoad_83 : decode cX1_beginLoad 83 = .ok (.getfield 250, 3) := dk_180 0 250 (dk_at dksX1_beginLoad_3 15 rfl rfl)
theorem dX1_beginLoad_86 : decode cX1_beginLoad 86 = .ok (.aload_n 1, 1) := dk_43 (dk_at dksX1_beginLoad_3 18 rfl rfl)
theorem dX1_beginLoad_87 : decode cX1_beginLoad 87 = .ok (.getfield 250, 3) := dk_180 0 250 (dk_at dksX1_beginLoad_3 19 rfl rfl)
theorem dX1_beginLoad_90 : decode cX1_beginLoad 90 = .ok (.if_icmp .ne 8, 3) := dk_160 0 8 (dk_at dksX1_beginLoad_4 0 rfl rfl)
theorem dX1_beginLoad_93 : decode cX1_beginLoad 93 = .ok (.aload 5, 2) := dk_25 5 (dk_at dksX1_beginLoad_4 3 rfl rfl)
theorem dX1_beginLoad_95 : decode cX1_beginLoad 95 = .ok (.goto 4, 3) := dk_167 0 4 (dk_at dksX1_beginLoad_4 5 rfl rfl)
theorem dX1_beginLoad_98 : decode cX1_beginLoad 98 = .ok (.aload_n 2, 1) := dk_44 (dk_at dksX1_beginLoad_4 8 rfl rfl)
theorem dX1_beginLoad_99 : decode cX1_beginLoad 99 = .ok (.astore_n 2, 1) := dk_77 (dk_at dksX1_beginLoad_4 9 rfl rfl)
theorem dX1_beginLoad_100 : decode cX1_beginLoad 100 = .ok (.goto (-87), 3) := dk_167 255 169 (dk_at dksX1_beginLoad_4 10 rfl rfl)
theorem dX1_beginLoad_103 : decode cX1_beginLoad 103 = .ok (.iload_n 3, 1) := dk_29 (dk_at dksX1_beginLoad_4 13 rfl rfl)
theorem dX1_beginLoad_104 : decode cX1_beginLoad 104 = .ok (.ifCond .ne 22, 3) := dk_154 0 22 (dk_at dksX1_beginLoad_4 14 rfl rfl)
theorem dX1_beginLoad_107 : decode cX1_beginLoad 107 = .ok (.aload_n 0, 1) := dk_42 (dk_at dksX1_beginLoad_4 17 rfl rfl)
theorem dX1_beginLoad_108 : decode cX1_beginLoad 108 = .ok (.getfield 95, 3) := dk_180 0 95 (dk_at dksX1_beginLoad_4 18 rfl rfl)
theorem dX1_beginLoad_111 : decode cX1_beginLoad 111 = .ok (.aload_n 1, 1) := dk_43 (dk_at dksX1_beginLoad_4 21 rfl rfl)
theorem dX1_beginLoad_112 : decode cX1_beginLoad 112 = .ok (.getfield 284, 3) := dk_180 1 28 (dk_at dksX1_beginLoad_5 0 rfl rfl)
theorem dX1_beginLoad_115 : decode cX1_beginLoad 115 = .ok (.bipush 16, 2) := dk_16 16 (dk_at dksX1_beginLoad_5 3 rfl rfl)
theorem dX1_beginLoad_117 : decode cX1_beginLoad 117 = .ok (.irem, 1) := dk_112 (dk_at dksX1_beginLoad_5 5 rfl rfl)
theorem dX1_beginLoad_118 : decode cX1_beginLoad 118 = .ok (.invokevirtual 359, 3) := dk_182 1 103 (dk_at dksX1_beginLoad_5 6 rfl rfl)
theorem dX1_beginLoad_121 : decode cX1_beginLoad 121 = .ok (.ifCond .eq 5, 3) := dk_153 0 5 (dk_at dksX1_beginLoad_5 9 rfl rfl)
theorem dX1_beginLoad_124 : decode cX1_beginLoad 124 = .ok (.iconst 0, 1) := dk_3 (dk_at dksX1_beginLoad_5 12 rfl rfl)
theorem dX1_beginLoad_125 : decode cX1_beginLoad 125 = .ok (.ireturn, 1) := dk_172 (dk_at dksX1_beginLoad_5 13 rfl rfl)
theorem dX1_beginLoad_126 : decode cX1_beginLoad 126 = .ok (.aload_n 2, 1) := dk_44 (dk_at dksX1_beginLoad_5 14 rfl rfl)
theorem dX1_beginLoad_127 : decode cX1_beginLoad 127 = .ok (.ifnonnull 11, 3) := dk_199 0 11 (dk_at dksX1_beginLoad_5 15 rfl rfl)
theorem dX1_beginLoad_130 : decode cX1_beginLoad 130 = .ok (.aload_n 0, 1) := dk_42 (dk_at dksX1_beginLoad_5 18 rfl rfl)
theorem dX1_beginLoad_131 : decode cX1_beginLoad 131 = .ok (.aload_n 1, 1) := dk_43 (dk_at dksX1_beginLoad_5 19 rfl rfl)
theorem dX1_beginLoad_132 : decode cX1_beginLoad 132 = .ok (.invokevirtual 479, 3) := dk_182 1 223 (dk_at dksX1_beginLoad_5 20 rfl rfl)
theorem dX1_beginLoad_135 : decode cX1_beginLoad 135 = .ok (.goto 9, 3) := dk_167 0 9 (dk_at dksX1_beginLoad_6 0 rfl rfl)
theorem dX1_beginLoad_138 : decode cX1_beginLoad 138 = .ok (.aload_n 0, 1) := dk_42 (dk_at dksX1_beginLoad_6 3 rfl rfl)
theorem dX1_beginLoad_139 : decode cX1_beginLoad 139 = .ok (.aload_n 1, 1) := dk_43 (dk_at dksX1_beginLoad_6 4 rfl rfl)
theorem dX1_beginLoad_140 : decode cX1_beginLoad 140 = .ok (.aload_n 2, 1) := dk_44 (dk_at dksX1_beginLoad_6 5 rfl rfl)
theorem dX1_beginLoad_141 : decode cX1_beginLoad 141 = .ok (.invokevirtual 482, 3) := dk_182 1 226 (dk_at dksX1_beginLoad_6 6 rfl rfl)
theorem dX1_beginLoad_144 : decode cX1_beginLoad 144 = .ok (.ireturn, 1) := dk_172 (dk_at dksX1_beginLoad_6 9 rfl rfl)
def dkwX1_readLine_4 : List UInt8 := [183, 1, 245, 182, 1, 247, 43, 28, 42, 180, 0, 153, 182, 1, 248, 4, 172]
abbrev dktX1_readLine_4 : List UInt8 := dkwX1_readLine_4 ++ []
def dkwX1_readLine_3 : List UInt8 := [181, 1, 233, 42, 180, 0, 104, 187, 0, 174, 89, 28, 42, 180, 0, 153, 42, 180, 0, 98, 28, 46, 96]
abbrev dktX1_readLine_3 : List UInt8 := dkwX1_readLine_3 ++ dktX1_readLine_4
def dkwX1_readLine_2 : List UInt8 := [42, 180, 0, 104, 182, 1, 240, 5, 160, 0, 5, 3, 172, 42, 89, 180, 1, 233, 20, 1, 243, 97]
abbrev dktX1_readLine_2 : List UInt8 := dkwX1_readLine_2 ++ dktX1_readLine_3
def dkwX1_readLine_1 : List UInt8 := [10, 97, 181, 1, 233, 43, 42, 180, 0, 153, 5, 182, 1, 217, 4, 172, 42, 28, 182, 1, 237, 154, 0, 54]
abbrev dktX1_readLine_1 : List UInt8 := dkwX1_readLine_1 ++ dktX1_readLine_2
def dkwX1_readLine_0 : List UInt8 := [43, 180, 0, 250, 7, 108, 61, 42, 180, 0, 101, 28, 7, 112, 46, 28, 160, 0, 24, 42, 89, 180, 1, 233]
abbrev dktX1_readLine_0 : List UInt8 := dkwX1_readLine_0 ++ dktX1_readLine_1
theorem dksX1_readLine_0 : cX1_readLine.data.toList.drop 0 = dktX1_readLine_0 := by decide +kernel
theorem dksX1_readLine_1 : cX1_readLine.data.toList.drop 24 = dktX1_readLine_1 := dk_seg dksX1_readLine_0 24 rfl rfl
theorem dksX1_readLine_2 : cX1_readLine.data.toList.drop 48 = dktX1_readLine_2 := dk_seg dksX1_readLine_1 24 rfl rfl
theorem dksX1_readLine_3 : cX1_readLine.data.toList.drop 70 = dktX1_readLine_3 := dk_seg dksX1_readLine_2 22 rfl rfl
theorem dksX1_readLine_4 : cX1_readLine.data.toList.drop 93 = dktX1_readLine_4 := dk_seg dksX1_readLine_3 23 rfl rfl
theorem dX1_readLine_0 : decode cX1_readLine 0 = .ok (.aload_n 1, 1) := dk_43 (dk_at dksX1_readLine_0 0 rfl rfl)
theorem dX1_readLine_1 : decode cX1_readLine 1 = .ok (.getfield 250, 3) := dk_180 0 250 (dk_at dksX1_readLine_0 1 rfl rfl)
theorem dX1_readLine_4 : decode cX1_readLine 4 = .ok (.iconst 4, 1) := dk_7 (dk_at dksX1_readLine_0 4 rfl rfl)
theorem dX1_readLine_5 : decode cX1_readLine 5 = .ok (.idiv, 1) := dk_108 (dk_at dksX1_readLine_0 5 rfl rfl)
theorem dX1_readLine_6 : decode cX1_readLine 6 = .ok (.istore_n 2, 1) := dk_61 (dk_at dksX1_readLine_0 6 rfl rfl)
theorem dX1_readLine_7 : decode cX1_readLine 7 = .ok (.aload_n 0, 1) := dk_42 (dk_at dksX1_readLine_0 7 rfl rfl)
theorem dX1_readLine_8 : decode cX1_readLine 8 = .ok (.getfield 101, 3) := dk_180 0 101 (dk_at dksX1_readLine_0 8 rfl rfl)
theorem dX1_readLine_11 : decode cX1_readLine 11 = .ok (.iload_n 2, 1) := dk_28 (dk_at dksX1_readLine_0 11 rfl rfl)
theorem dX1_readLine_12 : decode cX1_readLine 12 = .ok (.iconst 4, 1) := dk_7 (dk_at dksX1_readLine_0 12 rfl rfl)
theorem dX1_readLine_13 : decode cX1_readLine 13 = .ok (.irem, 1) := dk_112 (dk_at dksX1_readLine_0 13 rfl rfl)
theorem dX1_readLine_14 : decode cX1_readLine 14 = .ok (.iaload, 1) := dk_46 (dk_at dksX1_readLine_0 14 rfl rfl)
theorem dX1_readLine_15 : decode cX1_readLine 15 = .ok (.iload_n 2, 1) := dk_28 (dk_at dksX1_readLine_0 15 rfl rfl)
theorem dX1_readLine_16 : decode cX1_readLine 16 = .ok (.if_icmp .ne 24, 3) := dk_160 0 24 (dk_at dksX1_readLine_0 16 rfl rfl)
theorem dX1_readLine_19 : decode cX1_readLine 19 = .ok (.aload_n 0, 1) := dk_42 (dk_at dksX1_readLine_0 19 rfl rfl)
theorem dX1_readLine_20 : decode cX1_readLine 20 = .ok (.dup, 1) := dk_89 (dk_at dksX1_readLine_0 20 rfl rfl)
theorem dX1_readLine_21 : decode cX1_readLine 21 = .ok (.getfield 489, 3) := dk_180 1 233 (dk_at dksX1_readLine_0 21 rfl rfl)
theorem dX1_readLine_24 : decode cX1_readLine 24 = .ok (.lconst 1, 1) := dk_10 (dk_at dksX1_readLine_1 0 rfl rfl)
theorem dX1_readLine_25 : decode cX1_readLine 25 = .ok (.ladd, 1) := dk_97 (dk_at dksX1_readLine_1 1 rfl rfl)
theorem dX1_readLine_26 : decode cX1_readLine 26 = .ok (.putfield 489, 3) := dk_181 1 233 (dk_at dksX1_readLine_1 2 rfl rfl)
theorem dX1_readLine_29 : decode cX1_readLine 29 = .ok (.aload_n 1, 1) := dk_43 (dk_at dksX1_readLine_1 5 rfl rfl)
theorem dX1_readLine_30 : decode cX1_readLine 30 = .ok (.aload_n 0, 1) := dk_42 (dk_at dksX1_readLine_1 6 rfl rfl)
theorem dX1_readLine_31 : decode cX1_readLine 31 = .ok (.getfield 153, 3) := dk_180 0 153 (dk_at dksX1_readLine_1 7 rfl rfl)
theorem dX1_readLine_34 : decode cX1_readLine 34 = .ok (.iconst 2, 1) := dk_5 (dk_at dksX1_readLine_1 10 rfl rfl)
theorem dX1_readLine_35 : decode cX1_readLine 35 = .ok (.invokevirtual 473, 3) := dk_182 1 217 (dk_at dksX1_readLine_1 11 rfl rfl)
theorem dX1_readLine_38 : decode cX1_readLine 38 = .ok (.iconst 1, 1) := dk_4 (dk_at dksX1_readLine_1 14 rfl rfl)
theorem dX1_readLine_39 : decode cX1_readLine 39 = .ok (.ireturn, 1) := dk_172 (dk_at dksX1_readLine_1 15 rfl rfl)
theorem dX1_readLine_40 : decode cX1_readLine 40 = .ok (.aload_n 0, 1) := dk_42 (dk_at dksX1_readLine_1 16 rfl rfl)
theorem dX1_readLine_41 : decode cX1_readLine 41 = .ok (.iload_n 2, 1) := dk_28 (dk_at dksX1_readLine_1 17 rfl rfl)
theorem dX1_readLine_42 : decode cX1_readLine 42 = .ok (.invokevirtual 493, 3) := dk_182 1 237 (dk_at dksX1_readLine_1 18 rfl rfl)
theorem dX1_readLine_45 : decode cX1_readLine 45 = .ok (.ifCond .ne 54, 3) := dk_154 0 54 (dk_at dksX1_readLine_1 21 rfl rfl)
theorem dX1_readLine_48 : decode cX1_readLine 48 = .ok (.aload_n 0, 1) := dk_42 (dk_at dksX1_readLine_2 0 rfl rfl)
theorem dX1_readLine_49 : decode cX1_readLine 49 = .ok (.getfield 104, 3) := dk_180 0 104 (dk_at dksX1_readLine_2 1 rfl rfl)
theorem dX1_readLine_52 : decode cX1_readLine 52 = .ok (.invokevirtual 496, 3) := dk_182 1 240 (dk_at dksX1_readLine_2 4 rfl rfl)
theorem dX1_readLine_55 : decode cX1_readLine 55 = .ok (.iconst 2, 1) := dk_5 (dk_at dksX1_readLine_2 7 rfl rfl)
theorem dX1_readLine_56 : decode cX1_readLine 56 = .ok (.if_icmp .ne 5, 3) := dk_160 0 5 (dk_at dksX1_readLine_2 8 rfl rfl)
theorem dX1_readLine_59 : decode cX1_readLine 59 = .ok (.iconst 0, 1) := dk_3 (dk_at dksX1_readLine_2 11 rfl rfl)
theorem dX1_readLine_60 : decode cX1_readLine 60 = .ok (.ireturn, 1) := dk_172 (dk_at dksX1_readLine_2 12 rfl rfl)
theorem dX1_readLine_61 : decode cX1_readLine 61 = .ok (.aload_n 0, 1) := dk_42 (dk_at dksX1_readLine_2 13 rfl rfl)
theorem dX1_readLine_62 : decode cX1_readLine 62 = .ok (.dup, 1) := dk_89 (dk_at dksX1_readLine_2 14 rfl rfl)
theorem dX1_readLine_63 : decode cX1_readLine 63 = .ok (.getfield 489, 3) := dk_180 1 233 (dk_at dksX1_readLine_2 15 rfl rfl)
theorem dX1_readLine_66 : decode cX1_readLine 66 = .ok (.ldc2_w 499, 3) := dk_20 1 243 (dk_at dksX1_readLine_2 18 rfl rfl)
theorem dX1_readLine_69 : decode cX1_readLine 69 = .ok (.ladd, 1) := dk_97 (dk_at dksX1_readLine_2 21 rfl rfl)
theorem dX1_readLine_70 : decode cX1_readLine 70 = .ok (.putfield 489, 3) := dk_181 1 233 (dk_at dksX1_readLine_3 0 rfl rfl)
theorem dX1_readLine_73 : decode cX1_readLine 73 = .ok (.aload_n 0, 1) := dk_42 (dk_at dksX1_readLine_3 3 rfl rfl)
theorem dX1_readLine_74 : decode cX1_readLine 74 = .ok (.getfield 104, 3) := dk_180 0 104 (dk_at dksX1_readLine_3 4 rfl rfl)
theorem dX1_readLine_77 : decode cX1_readLine 77 = .ok (.new 174, 3) := dk_187 0 174 (dk_at dksX1_readLine_3 7 rfl rfl)
theorem dX1_readLine_80 : decode cX1_readLine 80 = .ok (.dup, 1) := dk_89 (dk_at dksX1_readLine_3 10 rfl rfl)
theorem dX1_readLine_81 : decode cX1_readLine 81 = .ok (.iload_n 2, 1) := dk_28 (dk_at dksX1_readLine_3 11 rfl rfl)
theorem dX1_readLine_82 : decode cX1_readLine 82 = .ok (.aload_n 0, 1) := dk_42 (dk_at dksX1_readLine_3 12 rfl rfl)
theorem dX1_readLine_83 : decode cX1_readLine 83 = .ok (.getfield 153, 3) := dk_180 0 153 (dk_at dksX1_readLine_3 13 rfl rfl)
theorem dX1_readLine_86 : decode cX1_readLine 86 = .ok (.aload_n 0, 1) := dk_42 (dk_at dksX1_readLine_3 16 rfl rfl)
theorem dX1_readLine_87 : decode cX1_readLine 87 = .ok (.getfield 98, 3) := dk_180 0 98 (dk_at dksX1_readLine_3 17 rfl rfl)
theorem dX1_readLine_90 : decode cX1_readLine 90 = .ok (.iload_n 2, 1) := dk_28 (dk_at dksX1_readLine_3 20 rfl rfl)
theorem dX1_readLine_91 : decode cX1_readLine 91 = .ok (.iaload, 1) := dk_46 (dk_at dksX1_readLine_3 21 rfl rfl)
theorem dX1_readLine_92 : decode cX1_readLine 92 = .ok (.iadd, 1) := dk_96 (dk_at dksX1_readLine_3 22 rfl rfl)
theorem dX1_readLine_93 : decode cX1_readLine 93 = .ok (.invokespecial 501, 3) := dk_183 1 245 (dk_at dksX1_readLine_4 0 rfl rfl)
theorem dX1_readLine_96 : decode cX1_readLine 96 = .ok (.invokevirtual 503, 3) := dk_182 1 247 (dk_at dksX1_readLine_4 3 rfl rfl)
theorem dX1_readLine_99 : decode cX1_readLine 99 = .ok (.aload_n 1, 1) := dk_43 (dk_at dksX1_readLine_4 6 rfl rfl)
theorem dX1_readLine_100 : decode cX1_readLine 100 = .ok (.iload_n 2, 1) := dk_28 (dk_at dksX1_readLine_4 7 rfl rfl)
theorem dX1_readLine_101 : decode cX1_readLine 101 = .ok (.aload_n 0, 1) := dk_42 (dk_at dksX1_readLine_4 8 rfl rfl)
theorem dX1_readLine_102 : decode cX1_readLine 102 = .ok (.getfield 153, 3) := dk_180 0 153 (dk_at dksX1_readLine_4 9 rfl rfl)
theorem dX1_readLine_105 : decode cX1_readLine 105 = .ok (.invokevirtual 504, 3) := dk_182 1 248 (dk_at dksX1_readLine_4 12 rfl rfl)
theorem dX1_readLine_108 : decode cX1_readLine 108 = .ok (.iconst 1, 1) := dk_4 (dk_at dksX1_readLine_4 15 rfl rfl)
theorem dX1_readLine_109 : decode cX1_readLine 109 = .ok (.ireturn, 1) := dk_172 (dk_at dksX1_readLine_4 16 rfl rfl)
def dkwX1_isAskedFor_2 : List UInt8 := [167, 0, 4, 3, 61, 167, 255, 217, 28, 172]
abbrev dktX1_isAskedFor_2 : List UInt8 := dkwX1_isAskedFor_2 ++ []
def dkwX1_isAskedFor_1 : List UInt8 := [185, 0, 170, 1, 0, 192, 0, 174, 58, 4, 28, 154, 0, 12, 25, 4, 180, 0, 182, 27, 160, 0, 7, 4]
abbrev dktX1_isAskedFor_1 : List UInt8 := dkwX1_isAskedFor_1 ++ dktX1_isAskedFor_2
def dkwX1_isAskedFor_0 : List UInt8 := [3, 61, 42, 180, 0, 104, 182, 0, 160, 78, 45, 185, 0, 164, 1, 0, 153, 0, 36, 45]
abbrev dktX1_isAskedFor_0 : List UInt8 := dkwX1_isAskedFor_0 ++ dktX1_isAskedFor_1
theorem dksX1_isAskedFor_0 : cX1_isAskedFor.data.toList.drop 0 = dktX1_isAskedFor_0 := by decide +kernel
theorem dksX1_isAskedFor_1 : cX1_isAskedFor.data.toList.drop 20 = dktX1_isAskedFor_1 := dk_seg dksX1_isAskedFor_0 20 rfl rfl
theorem dksX1_isAskedFor_2 : cX1_isAskedFor.data.toList.drop 44 = dktX1_isAskedFor_2 := dk_seg dksX1_isAskedFor_1 24 rfl rfl
theorem dX1_isAskedFor_0 : decode cX1_isAskedFor 0 = .ok (.iconst 0, 1) := dk_3 (dk_at dksX1_isAskedFor_0 0 rfl rfl)
theorem dX1_isAskedFor_1 : decode cX1_isAskedFor 1 = .ok (.istore_n 2, 1) := dk_61 (dk_at dksX1_isAskedFor_0 1 rfl rfl)
theorem dX1_isAskedFor_2 : decode cX1_isAskedFor 2 = .ok (.aload_n 0, 1) := dk_42 (dk_at dksX1_isAskedFor_0 2 rfl rfl)
theorem dX1_isAskedFor_3 : decode cX1_isAskedFor 3 = .ok (.getfield 104, 3) := dk_180 0 104 (dk_at dksX1_isAskedFor_0 3 rfl rfl)
theorem dX1_isAskedFor_6 : decode cX1_isAskedFor 6 = .ok (.invokevirtual 160, 3) := dk_182 0 160 (dk_at dksX1_isAskedFor_0 6 rfl rfl)
theorem dX1_isAskedFor_9 : decode cX1_isAskedFor 9 = .ok (.astore_n 3, 1) := dk_78 (dk_at dksX1_isAskedFor_0 9 rfl rfl)
theorem dX1_isAskedFor_10 : decode cX1_isAskedFor 10 = .ok (.aload_n 3, 1) := dk_45 (dk_at dksX1_isAskedFor_0 10 rfl rfl)
theorem dX1_isAskedFor_11 : decode cX1_isAskedFor 11 = .ok (.invokeinterface 164 1, 5) := by decide +kernel
theorem dX1_isAskedFor_16 : decode cX1_isAskedFor 16 = .ok (.ifCond .eq 36, 3) := dk_153 0 36 (dk_at dksX1_isAskedFor_0 16 rfl rfl)
theorem dX1_isAskedFor_19 : decode cX1_isAskedFor 19 = .ok (.aload_n 3, 1) := dk_45 (dk_at dksX1_isAskedFor_0 19 rfl rfl)
theorem dX1_isAskedFor_20 : decode cX1_isAskedFor 20 = .ok (.invokeinterface 170 1, 5) := by decide +kernel
theorem dX1_isAskedFor_25 : decode cX1_isAskedFor 25 = .ok (.checkcast 174, 3) := dk_192 0 174 (dk_at dksX1_isAskedFor_1 5 rfl rfl)
theorem dX1_isAskedFor_28 : decode cX1_isAskedFor 28 = .ok (.astore 4, 2) := dk_58 4 (dk_at dksX1_isAskedFor_1 8 rfl rfl)
theorem dX1_isAskedFor_30 : decode cX1_isAskedFor 30 = .ok (.iload_n 2, 1) := dk_28 (dk_at dksX1_isAskedFor_1 10 rfl rfl)
theorem dX1_isAskedFor_31 : decode cX1_isAskedFor 31 = .ok (.ifCond .ne 12, 3) := dk_154 0 12 (dk_at dksX1_isAskedFor_1 11 rfl rfl)
theorem dX1_isAskedFor_34 : decode cX1_isAskedFor 34 = .ok (.aload 4, 2) := dk_25 4 (dk_at dksX1_isAskedFor_1 14 rfl rfl)
theorem dX1_isAskedFor_36 : decode cX1_isAskedFor 36 = .ok (.getfield 182, 3) := dk_180 0 182 (dk_at dksX1_isAskedFor_1 16 rfl rfl)
theorem dX1_isAskedFor_39 : decode cX1_isAskedFor 39 = .ok (.iload_n 1, 1) := dk_27 (dk_at dksX1_isAskedFor_1 19 rfl rfl)
theorem dX1_isAskedFor_40 : decode cX1_isAskedFor 40 = .ok (.if_icmp .ne 7, 3) := dk_160 0 7 (dk_at dksX1_isAskedFor_1 20 rfl rfl)
theorem dX1_isAskedFor_43 : decode cX1_isAskedFor 43 = .ok (.iconst 1, 1) := dk_4 (dk_at dksX1_isAskedFor_1 23 rfl rfl)
theorem dX1_isAskedFor_44 : decode cX1_isAskedFor 44 = .ok (.goto 4, 3) := dk_167 0 4 (dk_at dksX1_isAskedFor_2 0 rfl rfl)
theorem dX1_isAskedFor_47 : decode cX1_isAskedFor 47 = .ok (.iconst 0, 1) := dk_3 (dk_at dksX1_isAskedFor_2 3 rfl rfl)
theorem dX1_isAskedFor_48 : decode cX1_isAskedFor 48 = .ok (.istore_n 2, 1) := dk_61 (dk_at dksX1_isAskedFor_2 4 rfl rfl)
theorem dX1_isAskedFor_49 : decode cX1_isAskedFor 49 = .ok (.goto (-39), 3) := dk_167 255 217 (dk_at dksX1_isAskedFor_2 5 rfl rfl)
theorem dX1_isAskedFor_52 : decode cX1_isAskedFor 52 = .ok (.iload_n 2, 1) := dk_28 (dk_at dksX1_isAskedFor_2 8 rfl rfl)
theorem dX1_isAskedFor_53 : decode cX1_isAskedFor 53 = .ok (.ireturn, 1) := dk_172 (dk_at dksX1_isAskedFor_2 9 rfl rfl)
def dkwX1_takeFrom_2 : List UInt8 := [180, 0, 50, 44, 180, 0, 244, 46, 181, 1, 8, 43, 42, 180, 0, 153, 4, 182, 1, 217, 4, 172]
abbrev dktX1_takeFrom_2 : List UInt8 := dkwX1_takeFrom_2 ++ []
def dkwX1_takeFrom_1 : List UInt8 := [154, 0, 5, 3, 172, 42, 89, 180, 1, 230, 4, 96, 181, 1, 230, 43, 44, 181, 1, 4, 43, 42]
abbrev dktX1_takeFrom_1 : List UInt8 := dkwX1_takeFrom_1 ++ dktX1_takeFrom_2
def dkwX1_takeFrom_0 : List UInt8 := [44, 180, 0, 220, 180, 0, 247, 16, 11, 159, 0, 17, 42, 180, 0, 56, 44, 180, 0, 244, 182, 1, 103]
abbrev dktX1_takeFrom_0 : List UInt8 := dkwX1_takeFrom_0 ++ dktX1_takeFrom_1
theorem dksX1_takeFrom_0 : cX1_takeFrom.data.toList.drop 0 = dktX1_takeFrom_0 := by decide +kernel
theorem dksX1_takeFrom_1 : cX1_takeFrom.data.toList.drop 23 = dktX1_takeFrom_1 := dk_seg dksX1_takeFrom_0 23 rfl rfl
theorem dksX1_takeFrom_2 : cX1_takeFrom.data.toList.drop 45 = dktX1_takeFrom_2 := dk_seg dksX1_takeFrom_1 22 rfl rfl
theorem dX1_takeFrom_0 : decode cX1_takeFrom 0 = .ok (.aload_n 2, 1) := dk_44 (dk_at dksX1_takeFrom_0 0 rfl rfl)
theorem dX1_takeFrom_1 : decode cX1_takeFrom 1 = .ok (.getfield 220, 3) := dk_180 0 220 (dk_at dksX1_takeFrom_0 1 rfl rfl)
theorem dX1_takeFrom_4 : decode cX1_takeFrom 4 = .ok (.getfield 247, 3) := dk_180 0 247 (dk_at dksX1_takeFrom_0 4 rfl rfl)
theorem dX1_takeFrom_7 : decode cX1_takeFrom 7 = .ok (.bipush 11, 2) := dk_16 11 (dk_at dksX1_takeFrom_0 7 rfl rfl)
theorem dX1_takeFrom_9 : decode cX1_takeFrom 9 = .ok (.if_icmp .eq 17, 3) := dk_159 0 17 (dk_at dksX1_takeFrom_0 9 rfl rfl)
theorem dX1_takeFrom_12 : decode cX1_takeFrom 12 = .ok (.aload_n 0, 1) := dk_42 (dk_at dksX1_takeFrom_0 12 rfl rfl)
theorem dX1_takeFrom_13 : decode cX1_takeFrom 13 = .ok (.getfield 56, 3) := dk_180 0 56 (dk_at dksX1_takeFrom_0 13 rfl rfl)
theorem dX1_takeFrom_16 : decode cX1_takeFrom 16 = .ok (.aload_n 2, 1) := dk_44 (dk_at dksX1_takeFrom_0 16 rfl rfl)
theorem dX1_takeFrom_17 : decode cX1_takeFrom 17 = .ok (.getfield 244, 3) := dk_180 0 244 (dk_at dksX1_takeFrom_0 17 rfl rfl)
theorem dX1_takeFrom_20 : decode cX1_takeFrom 20 = .ok (.invokevirtual 359, 3) := dk_182 1 103 (dk_at dksX1_takeFrom_0 20 rfl rfl)
theorem dX1_takeFrom_23 : decode cX1_takeFrom 23 = .ok (.ifCond .ne 5, 3) := dk_154 0 5 (dk_at dksX1_takeFrom_1 0 rfl rfl)
theorem dX1_takeFrom_26 : decode cX1_takeFrom 26 = .ok (.iconst 0, 1) := dk_3 (dk_at dksX1_takeFrom_1 3 rfl rfl)
theorem dX1_takeFrom_27 : decode cX1_takeFrom 27 = .ok (.ireturn, 1) := dk_172 (dk_at dksX1_takeFrom_1 4 rfl rfl)
theorem dX1_takeFrom_28 : decode cX1_takeFrom 28 = .ok (.aload_n 0, 1) := dk_42 (dk_at dksX1_takeFrom_1 5 rfl rfl)
theorem dX1_takeFrom_29 : decode cX1_takeFrom 29 = .ok (.dup, 1) := dk_89 (dk_at dksX1_takeFrom_1 6 rfl rfl)
theorem dX1_takeFrom_30 : decode cX1_takeFrom 30 = .ok (.getfield 486, 3) := dk_180 1 230 (dk_at dksX1_takeFrom_1 7 rfl rfl)
theorem dX1_takeFrom_33 : decode cX1_takeFrom 33 = .ok (.iconst 1, 1) := dk_4 (dk_at dksX1_takeFrom_1 10 rfl rfl)
theorem dX1_takeFrom_34 : decode cX1_takeFrom 34 = .ok (.iadd, 1) := dk_96 (dk_at dksX1_takeFrom_1 11 rfl rfl)
theorem dX1_takeFrom_35 : decode cX1_takeFrom 35 = .ok (.putfield 486, 3) := dk_181 1 230 (dk_at dksX1_takeFrom_1 12 rfl rfl)
theorem dX1_takeFrom_38 : decode cX1_takeFrom 38 = .ok (.aload_n 1, 1) := dk_43 (dk_at dksX1_takeFrom_1 15 rfl rfl)
theorem dX1_takeFrom_39 : decode cX1_takeFrom 39 = .ok (.aload_n 2, 1) := dk_44 (dk_at dksX1_takeFrom_1 16 rfl rfl)
theorem dX1_takeFrom_40 : decode cX1_takeFrom 40 = .ok (.putfield 260, 3) := dk_181 1 4 (dk_at dksX1_takeFrom_1 17 rfl rfl)
theorem dX1_takeFrom_43 : decode cX1_takeFrom 43 = .ok (.aload_n 1, 1) := dk_43 (dk_at dksX1_takeFrom_1 20 rfl rfl)
theorem dX1_takeFrom_44 : decode cX1_takeFrom 44 = .ok (.aload_n 0, 1) := dk_42 (dk_at dksX1_takeFrom_1 21 rfl rfl)
theorem dX1_takeFrom_45 : decode cX1_takeFrom 45 = .ok (.getfield 50, 3) := dk_180 0 50 (dk_at dksX1_takeFrom_2 0 rfl rfl)
theorem dX1_takeFrom_48 : decode cX1_takeFrom 48 = .ok (.aload_n 2, 1) := dk_44 (dk_at dksX1_takeFrom_2 3 rfl rfl)
theorem dX1_takeFrom_49 : decode cX1_takeFrom 49 = .ok (.getfield 244, 3) := dk_180 0 244 (dk_at dksX1_takeFrom_2 4 rfl rfl)
theorem dX1_takeFrom_52 : decode cX1_takeFrom 52 = .ok (.iaload, 1) := dk_46 (dk_at dksX1_takeFrom_2 7 rfl rfl)
theorem dX1_takeFrom_53 : decode cX1_takeFrom 53 = .ok (.putfield 264, 3) := dk_181 1 8 (dk_at dksX1_takeFrom_2 8 rfl rfl)
theorem dX1_takeFrom_56 : decode cX1_takeFrom 56 = .ok (.aload_n 1, 1) := dk_43 (dk_at dksX1_takeFrom_2 11 rfl rfl)
theorem dX1_takeFrom_57 : decode cX1_takeFrom 57 = .ok (.aload_n 0, 1) := dk_42 (dk_at dksX1_takeFrom_2 12 rfl rfl)
theorem dX1_takeFrom_58 : decode cX1_takeFrom 58 = .ok (.getfield 153, 3) := dk_180 0 153 (dk_at dksX1_takeFrom_2 13 rfl rfl)
theorem dX1_takeFrom_61 : decode cX1_takeFrom 61 = .ok (.iconst 1, 1) := dk_4 (dk_at dksX1_takeFrom_2 16 rfl rfl)
theorem dX1_takeFrom_62 : decode cX1_takeFrom 62 = .ok (.invokevirtual 473, 3) := dk_182 1 217 (dk_at dksX1_takeFrom_2 17 rfl rfl)
theorem dX1_takeFrom_65 : decode cX1_takeFrom 65 = .ok (.iconst 1, 1) := dk_4 (dk_at dksX1_takeFrom_2 20 rfl rfl)
theorem dX1_takeFrom_66 : decode cX1_takeFrom 66 = .ok (.ireturn, 1) := dk_172 (dk_at dksX1_takeFrom_2 21 rfl rfl)
def dkwX1_renameAll_2 : List UInt8 := [182, 2, 7, 132, 1, 255, 167, 255, 208, 177]
abbrev dktX1_renameAll_2 : List UInt8 := dkwX1_renameAll_2 ++ []
def dkwX1_renameAll_1 : List UInt8 := [182, 2, 2, 192, 0, 188, 182, 2, 3, 153, 0, 23, 42, 42, 180, 0, 73, 182, 2, 6, 192, 0, 188]
abbrev dktX1_renameAll_1 : List UInt8 := dkwX1_renameAll_1 ++ dktX1_renameAll_2
def dkwX1_renameAll_0 : List UInt8 := [42, 180, 0, 37, 60, 27, 158, 0, 50, 42, 180, 0, 73, 182, 1, 251, 154, 0, 40, 42, 42, 180, 0, 73]
abbrev dktX1_renameAll_0 : List UInt8 := dkwX1_renameAll_0 ++ dktX1_renameAll_1
theorem dksX1_renameAll_0 : cX1_renameAll.data.toList.drop 0 = dktX1_renameAll_0 := by decide +kernel
theorem dksX1_renameAll_1 : cX1_renameAll.data.toList.drop 24 = dktX1_renameAll_1 := dk_seg dksX1_renameAll_0 24 rfl rfl
theorem dksX1_renameAll_2 : cX1_renameAll.data.toList.drop 47 = dktX1_renameAll_2 := dk_seg dksX1_renameAll_1 23 rfl rfl
theorem dX1_renameAll_0 : decode cX1_renameAll 0 = .ok (.aload_n 0, 1) := dk_42 (dk_at dksX1_renameAll_0 0 rfl rfl)
theorem dX1_renameAll_1 : decode cX1_renameAll 1 = .ok (.getfield 37, 3) := dk_180 0 37 (dk_at dksX1_renameAll_0 1 rfl rfl)
theorem dX1_renameAll_4 : decode cX1_renameAll 4 = .ok (.istore_n 1, 1) := dk_60 (dk_at dksX1_renameAll_0 4 rfl rfl)
theorem dX1_renameAll_5 : decode cX1_renameAll 5 = .ok (.iload_n 1, 1) := dk_27 (dk_at dksX1_renameAll_0 5 rfl rfl)
theorem dX1_renameAll_6 : decode cX1_renameAll 6 = .ok (.ifCond .le 50, 3) := dk_158 0 50 (dk_at dksX1_renameAll_0 6 rfl rfl)
theorem dX1_renameAll_9 : decode cX1_renameAll 9 = .ok (.aload_n 0, 1) := dk_42 (dk_at dksX1_renameAll_0 9 rfl rfl)
theorem dX1_renameAll_10 : decode cX1_renameAll 10 = .ok (.getfield 73, 3) := dk_180 0 73 (dk_at dksX1_renameAll_0 10 rfl rfl)
theorem dX1_renameAll_13 : decode cX1_renameAll 13 = .ok (.invokevirtual 507, 3) := dk_182 1 251 (dk_at dksX1_renameAll_0 13 rfl rfl)
theorem dX1_renameAll_16 : decode cX1_renameAll 16 = .ok (.ifCond .ne 40, 3) := dk_154 0 40 (dk_at dksX1_renameAll_0 16 rfl rfl)
theorem dX1_renameAll_19 : decode cX1_renameAll 19 = .ok (.aload_n 0, 1) := dk_42 (dk_at dksX1_renameAll_0 19 rfl rfl)
theorem dX1_renameAll_20 : decode cX1_renameAll 20 = .ok (.aload_n 0, 1) := dk_42 (dk_at dksX1_renameAll_0 20 rfl rfl)
theorem dX1_renameAll_21 : decode cX1_renameAll 21 = .ok (.getfield 73, 3) := dk_180 0 73 (dk_at dksX1_renameAll_0 21 rfl rfl)
theorem dX1_renameAll_24 : decode cX1_renameAll 24 = .ok (.invokevirtual 514, 3) := dk_182 2 2 (dk_at dksX1_renameAll_1 0 rfl rfl)
theorem dX1_renameAll_27 : decode cX1_renameAll 27 = .ok (.checkcast 188, 3) := dk_192 0 188 (dk_at dksX1_renameAll_1 3 rfl rfl)
theorem dX1_renameAll_30 : decode cX1_renameAll 30 = .ok (.invokevirtual 515, 3) := dk_182 2 3 (dk_at dksX1_renameAll_1 6 rfl rfl)
theorem dX1_renameAll_33 : decode cX1_renameAll 33 = .ok (.ifCond .eq 23, 3) := dk_153 0 23 (dk_at dksX1_renameAll_1 9 rfl rfl)
theorem dX1_renameAll_36 : decode cX1_renameAll 36 = .ok (.aload_n 0, 1) := dk_42 (dk_at dksX1_renameAll_1 12 rfl rfl)
theorem dX1_renameAll_37 : decode cX1_renameAll 37 = .ok (.aload_n 0, 1) := dk_42 (dk_at dksX1_renameAll_1 13 rfl rfl)
theorem dX1_renameAll_38 : decode cX1_renameAll 38 = .ok (.getfield 73, 3) := dk_180 0 73 (dk_at dksX1_renameAll_1 14 rfl rfl)
theorem dX1_renameAll_41 : decode cX1_renameAll 41 = .ok (.invokevirtual 518, 3) := dk_182 2 6 (dk_at dksX1_renameAll_1 17 rfl rfl)
theorem dX1_renameAll_44 : decode cX1_renameAll 44 = .ok (.checkcast 188, 3) := dk_192 0 188 (dk_at dksX1_renameAll_1 20 rfl rfl)
theorem dX1_renameAll_47 : decode cX1_renameAll 47 = .ok (.invokevirtual 519, 3) := dk_182 2 7 (dk_at dksX1_renameAll_2 0 rfl rfl)
theorem dX1_renameAll_50 : decode cX1_renameAll 50 = .ok (.iinc 1 (-1), 3) := dk_132 1 255 (dk_at dksX1_renameAll_2 3 rfl rfl)
theorem dX1_renameAll_53 : decode cX1_renameAll 53 = .ok (.goto (-48), 3) := dk_167 255 208 (dk_at dksX1_renameAll_2 6 rfl rfl)
theorem dX1_renameAll_56 : decode cX1_renameAll 56 = .ok (.return_, 1) := dk_177 (dk_at dksX1_renameAll_2 9 rfl rfl)
def dkwX1_canRename_4 : List UInt8 := [182, 1, 255, 154, 0, 7, 4, 167, 0, 4, 3, 172]
abbrev dktX1_canRename_4 : List UInt8 := dkwX1_canRename_4 ++ []
def dkwX1_canRename_3 : List UInt8 := [154, 0, 29, 44, 182, 1, 255, 154, 0, 26, 42, 180, 0, 79, 182, 1, 93, 192, 0, 188, 180, 0, 220]
abbrev dktX1_canRename_3 : List UInt8 := dkwX1_canRename_3 ++ dktX1_canRename_4
def dkwX1_canRename_2 : List UInt8 := [180, 0, 83, 182, 1, 240, 42, 180, 0, 44, 160, 0, 5, 3, 172, 42, 180, 0, 79, 182, 1, 90]
abbrev dktX1_canRename_2 : List UInt8 := dkwX1_canRename_2 ++ dktX1_canRename_3
def dkwX1_canRename_1 : List UInt8 := [153, 0, 15, 42, 180, 0, 69, 182, 1, 251, 153, 0, 5, 3, 172, 44, 182, 1, 252, 153, 0, 19, 42]
abbrev dktX1_canRename_1 : List UInt8 := dkwX1_canRename_1 ++ dktX1_canRename_2
def dkwX1_canRename_0 : List UInt8 := [43, 180, 0, 220, 77, 42, 180, 0, 79, 182, 1, 240, 42, 180, 0, 41, 159, 0, 20, 44, 182, 0, 224]
abbrev dktX1_canRename_0 : List UInt8 := dkwX1_canRename_0 ++ dktX1_canRename_1
theorem dksX1_canRename_0 : cX1_canRename.data.toList.drop 0 = dktX1_canRename_0 := by decide +kernel
theorem dksX1_canRename_1 : cX1_canRename.data.toList.drop 23 = dktX1_canRename_1 := dk_seg dksX1_canRename_0 23 rfl rfl
theorem dksX1_canRename_2 : cX1_canRename.data.toList.drop 46 = dktX1_canRename_2 := dk_seg dksX1_canRename_1 23 rfl rfl
theorem dksX1_canRename_3 : cX1_canRename.data.toList.drop 68 = dktX1_canRename_3 := dk_seg dksX1_canRename_2 22 rfl rfl
theorem dksX1_canRename_4 : cX1_canRename.data.toList.drop 91 = dktX1_canRename_4 := dk_seg dksX1_canRename_3 23 rfl rfl
theorem dX1_canRename_0 : decode cX1_canRename 0 = .ok (.aload_n 1, 1) := dk_43 (dk_at dksX1_canRename_0 0 rfl rfl)
theorem dX1_canRename_1 : decode cX1_canRename 1 = .ok (.getfield 220, 3) := dk_180 0 220 (dk_at dksX1_canRename_0 1 rfl rfl)
theorem dX1_canRename_4 : decode cX1_canRename 4 = .ok (.astore_n 2, 1) := dk_77 (dk_at dksX1_canRename_0 4 rfl rfl)
theorem dX1_canRename_5 : decode cX1_canRename 5 = .ok (.aload_n 0, 1) := dk_42 (dk_at dksX1_canRename_0 5 rfl rfl)
theorem dX1_canRename_6 : decode cX1_canRename 6 = .ok (.getfield 79, 3) := dk_180 0 79 (dk_at dksX1_canRename_0 6 rfl rfl)
theorem dX1_canRename_9 : decode cX1_canRename 9 = .ok (.invokevirtual 496, 3) := dk_182 1 240 (dk_at dksX1_canRename_0 9 rfl rfl)
theorem dX1_canRename_12 : decode cX1_canRename 12 = .ok (.aload_n 0, 1) := dk_42 (dk_at dksX1_canRename_0 12 rfl rfl)
theorem dX1_canRename_13 : decode cX1_canRename 13 = .ok (.getfield 41, 3) := dk_180 0 41 (dk_at dksX1_canRename_0 13 rfl rfl)
theorem dX1_canRename_16 : decode cX1_canRename 16 = .ok (.if_icmp .eq 20, 3) := dk_159 0 20 (dk_at dksX1_canRename_0 16 rfl rfl)
theorem dX1_canRename_19 : decode cX1_canRename 19 = .ok (.aload_n 2, 1) := dk_44 (dk_at dksX1_canRename_0 19 rfl rfl)
theorem dX1_canRename_20 : decode cX1_canRename 20 = .ok (.invokevirtual 224, 3) := dk_182 0 224 (dk_at dksX1_canRename_0 20 rfl rfl)
theorem dX1_canRename_23 : decode cX1_canRename 23 = .ok (.ifCond .eq 15, 3) := dk_153 0 15 (dk_at dksX1_canRename_1 0 rfl rfl)
theorem dX1_canRename_26 : decode cX1_canRename 26 = .ok (.aload_n 0, 1) := dk_42 (dk_at dksX1_canRename_1 3 rfl rfl)
theorem dX1_canRename_27 : decode cX1_canRename 27 = .ok (.getfield 69, 3) := dk_180 0 69 (dk_at dksX1_canRename_1 4 rfl rfl)
theorem dX1_canRename_30 : decode cX1_canRename 30 = .ok (.invokevirtual 507, 3) := dk_182 1 251 (dk_at dksX1_canRename_1 7 rfl rfl)
theorem dX1_canRename_33 : decode cX1_canRename 33 = .ok (.ifCond .eq 5, 3) := dk_153 0 5 (dk_at dksX1_canRename_1 10 rfl rfl)
theorem dX1_canRename_36 : decode cX1_canRename 36 = .ok (.iconst 0, 1) := dk_3 (dk_at dksX1_canRename_1 13 rfl rfl)
theorem dX1_canRename_37 : decode cX1_canRename 37 = .ok (.ireturn, 1) := dk_172 (dk_at dksX1_canRename_1 14 rfl rfl)
theorem dX1_canRename_38 : decode cX1_canRename 38 = .ok (.aload_n 2, 1) := dk_44 (dk_at dksX1_canRename_1 15 rfl rfl)
theorem dX1_canRename_39 : decode cX1_canRename 39 = .ok (.invokevirtual 508, 3) := dk_182 1 252 (dk_at dksX1_canRename_1 16 rfl rfl)
theorem dX1_canRename_42 : decode cX1_canRename 42 = .ok (.ifCond .eq 19, 3) := dk_153 0 19 (dk_at dksX1_canRename_1 19 rfl rfl)
theorem dX1_canRename_45 : decode cX1_canRename 45 = .ok (.aload_n 0, 1) := dk_42 (dk_at dksX1_canRename_1 22 rfl rfl)
theorem dX1_canRename_46 : decode cX1_canRename 46 = .ok (.getfield 83, 3) := dk_180 0 83 (dk_at dksX1_canRename_2 0 rfl rfl)
theorem dX1_canRename_49 : decode cX1_canRename 49 = .ok (.invokevirtual 496, 3) := dk_182 1 240 (dk_at dksX1_canRename_2 3 rfl rfl)
theorem dX1_canRename_52 : decode cX1_canRename 52 = .ok (.aload_n 0, 1) := dk_42 (dk_at dksX1_canRename_2 6 rfl rfl)
theorem dX1_canRename_53 : decode cX1_canRename 53 = .ok (.getfield 44, 3) := dk_180 0 44 (dk_at dksX1_canRename_2 7 rfl rfl)
theorem dX1_canRename_56 : decode cX1_canRename 56 = .ok (.if_icmp .ne 5, 3) := dk_160 0 5 (dk_at dksX1_canRename_2 10 rfl rfl)
theorem dX1_canRename_59 : decode cX1_canRename 59 = .ok (.iconst 0, 1) := dk_3 (dk_at dksX1_canRename_2 13 rfl rfl)
theorem dX1_canRename_60 : decode cX1_canRename 60 = .ok (.ireturn, 1) := dk_172 (dk_at dksX1_canRename_2 14 rfl rfl)
theorem dX1_canRename_61 : decode cX1_canRename 61 = .ok (.aload_n 0, 1) := dk_42 (dk_at dksX1_canRename_2 15 rfl rfl)
theorem dX1_canRename_62 : decode cX1_canRename 62 = .ok (.getfield 79, 3) := dk_180 0 79 (dk_at dksX1_canRename_2 16 rfl rfl)
theorem dX1_canRename_65 : decode cX1_canRename 65 = .ok (.invokevirtual 346, 3) := dk_182 1 90 (dk_at dksX1_canRename_2 19 rfl rfl)
theorem dX1_canRename_68 : decode cX1_canRename 68 = .ok (.ifCond .ne 29, 3) := dk_154 0 29 (dk_at dksX1_canRename_3 0 rfl rfl)
theorem dX1_canRename_71 : decode cX1_canRename 71 = .ok (.aload_n 2, 1) := dk_44 (dk_at dksX1_canRename_3 3 rfl rfl)
theorem dX1_canRename_72 : decode cX1_canRename 72 = .ok (.invokevirtual 511, 3) := dk_182 1 255 (dk_at dksX1_canRename_3 4 rfl rfl)
theorem dX1_canRename_75 : decode cX1_canRename 75 = .ok (.ifCond .ne 26, 3) := dk_154 0 26 (dk_at dksX1_canRename_3 7 rfl rfl)
theorem dX1_canRename_78 : decode cX1_canRename 78 = .ok (.aload_n 0, 1) := dk_42 (dk_at dksX1_canRename_3 10 rfl rfl)
theorem dX1_canRename_79 : decode cX1_canRename 79 = .ok (.getfield 79, 3) := dk_180 0 79 (dk_at dksX1_canRename_3 11 rfl rfl)
theorem dX1_canRename_82 : decode cX1_canRename 82 = .ok (.invokevirtual 349, 3) := dk_182 1 93 (dk_at dksX1_canRename_3 14 rfl rfl)
theorem dX1_canRename_85 : decode cX1_canRename 85 = .ok (.checkcast 188, 3) := dk_192 0 188 (dk_at dksX1_canRename_3 17 rfl rfl)
theorem dX1_canRename_88 : decode cX1_canRename 88 = .ok (.getfield 220, 3) := dk_180 0 220 (dk_at dksX1_canRename_3 20 rfl rfl)
theorem dX1_canRename_91 : decode cX1_canRename 91 = .ok (.invokevirtual 511, 3) := dk_182 1 255 (dk_at dksX1_canRename_4 0 rfl rfl)
theorem dX1_canRename_94 : decode cX1_canRename 94 = .ok (.ifCond .ne 7, 3) := dk_154 0 7 (dk_at dksX1_canRename_4 3 rfl rfl)
theorem dX1_canRename_97 : decode cX1_canRename 97 = .ok (.iconst 1, 1) := dk_4 (dk_at dksX1_canRename_4 6 rfl rfl)
theorem dX1_canRename_98 : decode cX1_canRename 98 = .ok (.goto 4, 3) := dk_167 0 4 (dk_at dksX1_canRename_4 7 rfl rfl)
theorem dX1_canRename_101 : decode cX1_canRename 101 = .ok (.iconst 0, 1) := dk_3 (dk_at dksX1_canRename_4 10 rfl rfl)
theorem dX1_canRename_102 : decode cX1_canRename 102 = .ok (.ireturn, 1) := dk_172 (dk_at dksX1_canRename_4 11 rfl rfl)
def dkwX1_rename_7 : List UInt8 := [180, 1, 72, 43, 180, 1, 28, 4, 96, 79, 42, 180, 0, 56, 43, 180, 1, 72, 182, 0, 121, 177]
abbrev dktX1_rename_7 : List UInt8 := dkwX1_rename_7 ++ []
def dkwX1_rename_6 : List UInt8 := [43, 43, 180, 1, 63, 181, 1, 54, 44, 180, 0, 247, 16, 15, 160, 0, 29, 42, 180, 0, 50, 43]
abbrev dktX1_rename_6 : List UInt8 := dkwX1_rename_6 ++ dktX1_rename_7
def dkwX1_rename_5 : List UInt8 := [16, 113, 181, 0, 190, 42, 180, 0, 83, 43, 182, 1, 247, 167, 0, 54, 43, 42, 180, 0, 153, 182, 0, 232]
abbrev dktX1_rename_5 : List UInt8 := dkwX1_rename_5 ++ dktX1_rename_6
def dkwX1_rename_4 : List UInt8 := [180, 1, 84, 43, 180, 1, 72, 79, 42, 180, 0, 79, 43, 182, 1, 247, 44, 182, 1, 252, 153, 0, 20, 43]
abbrev dktX1_rename_4 : List UInt8 := dkwX1_rename_4 ++ dktX1_rename_5
def dkwX1_rename_3 : List UInt8 := [182, 2, 19, 181, 1, 72, 42, 180, 0, 56, 43, 180, 1, 72, 182, 2, 22, 42, 180, 0, 60, 44]
abbrev dktX1_rename_3 : List UInt8 := dkwX1_rename_3 ++ dktX1_rename_4
def dkwX1_rename_2 : List UInt8 := [42, 180, 0, 60, 44, 180, 1, 84, 46, 181, 1, 87, 43, 42, 180, 0, 69, 182, 2, 6, 192, 0, 132]
abbrev dktX1_rename_2 : List UInt8 := dkwX1_rename_2 ++ dktX1_rename_3
def dkwX1_rename_1 : List UInt8 := [181, 1, 14, 43, 42, 180, 0, 60, 44, 180, 2, 16, 46, 181, 0, 244, 44, 182, 0, 224, 153, 0, 57, 43]
abbrev dktX1_rename_1 : List UInt8 := dkwX1_rename_1 ++ dktX1_rename_2
def dkwX1_rename_0 : List UInt8 := [43, 180, 0, 220, 77, 43, 42, 180, 0, 153, 181, 2, 10, 43, 42, 180, 0, 60, 44, 180, 2, 13, 46]
abbrev dktX1_rename_0 : List UInt8 := dkwX1_rename_0 ++ dktX1_rename_1
theorem dksX1_rename_0 : cX1_rename.data.toList.drop 0 = dktX1_rename_0 := by decide +kernel
theorem dksX1_rename_1 : cX1_rename.data.toList.drop 23 = dktX1_rename_1 := dk_seg dksX1_rename_0 23 rfl rfl
theorem dksX1_rename_2 : cX1_rename.data.toList.drop 47 = dktX1_rename_2 := dk_seg dksX1_rename_1 24 rfl rfl
theorem dksX1_rename_3 : cX1_rename.data.toList.drop 70 = dktX1_rename_3 := dk_seg dksX1_rename_2 23 rfl rfl
theorem dksX1_rename_4 : cX1_rename.data.toList.drop 92 = dktX1_rename_4 := dk_seg dksX1_rename_3 22 rfl rfl
theorem dksX1_rename_5 : cX1_rename.data.toList.drop 116 = dktX1_rename_5 := dk_seg dksX1_rename_4 24 rfl rfl
theorem dksX1_rename_6 : cX1_rename.data.toList.drop 140 = dktX1_rename_6 := dk_seg dksX1_rename_5 24 rfl rfl
theorem dksX1_rename_7 : cX1_rename.data.toList.drop 162 = dktX1_rename_7 := dk_seg dksX1_rename_6 22 rfl rfl
theorem dX1_rename_0 : decode cX1_rename 0 = .ok (.aload_n 1, 1) := dk_43 (dk_at dksX1_rename_0 0 rfl rfl)
theorem dX1_rename_1 : decode cX1_rename 1 = .ok (.getfield 220, 3) := dk_180 0 220 (dk_at dksX1_rename_0 1 rfl rfl)
theorem dX1_rename_4 : decode cX1_rename 4 = .ok (.astore_n 2, 1) := dk_77 (dk_at dksX1_rename_0 4 rfl rfl)
theorem dX1_rename_5 : decode cX1_rename 5 = .ok (.aload_n 1, 1) := dk_43 (dk_at dksX1_rename_0 5 rfl rfl)
theorem dX1_rename_6 : decode cX1_rename 6 = .ok (.aload_n 0, 1) := dk_42 (dk_at dksX1_rename_0 6 rfl rfl)
theorem dX1_rename_7 : decode cX1_rename 7 = .ok (.getfield 153, 3) := dk_180 0 153 (dk_at dksX1_rename_0 7 rfl rfl)
theorem dX1_rename_10 : decode cX1_rename 10 = .ok (.putfield 522, 3) := dk_181 2 10 (dk_at dksX1_rename_0 10 rfl rfl)
theorem dX1_rename_13 : decode cX1_rename 13 = .ok (.aload_n 1, 1) := dk_43 (dk_at dksX1_rename_0 13 rfl rfl)
theorem dX1_rename_14 : decode cX1_rename 14 = .ok (.aload_n 0, 1) := dk_42 (dk_at dksX1_rename_0 14 rfl rfl)
theorem dX1_rename_15 : decode cX1_rename 15 = .ok (.getfield 60, 3) := dk_180 0 60 (dk_at dksX1_rename_0 15 rfl rfl)
theorem dX1_rename_18 : decode cX1_rename 18 = .ok (.aload_n 2, 1) := dk_44 (dk_at dksX1_rename_0 18 rfl rfl)
theorem dX1_rename_19 : decode cX1_rename 19 = .ok (.getfield 525, 3) := dk_180 2 13 (dk_at dksX1_rename_0 19 rfl rfl)
theorem dX1_rename_22 : decode cX1_rename 22 = .ok (.iaload, 1) := dk_46 (dk_at dksX1_rename_0 22 rfl rfl)
theorem dX1_rename_23 : decode cX1_rename 23 = .ok (.putfield 270, 3) := dk_181 1 14 (dk_at dksX1_rename_1 0 rfl rfl)
theorem dX1_rename_26 : decode cX1_rename 26 = .ok (.aload_n 1, 1) := dk_43 (dk_at dksX1_rename_1 3 rfl rfl)
theorem dX1_rename_27 : decode cX1_rename 27 = .ok (.aload_n 0, 1) := dk_42 (dk_at dksX1_rename_1 4 rfl rfl)
theorem dX1_rename_28 : decode cX1_rename 28 = .ok (.getfield 60, 3) := dk_180 0 60 (dk_at dksX1_rename_1 5 rfl rfl)
theorem dX1_rename_31 : decode cX1_rename 31 = .ok (.aload_n 2, 1) := dk_44 (dk_at dksX1_rename_1 8 rfl rfl)
theorem dX1_rename_32 : decode cX1_rename 32 = .ok (.getfield 528, 3) := dk_180 2 16 (dk_at dksX1_rename_1 9 rfl rfl)
theorem dX1_rename_35 : decode cX1_rename 35 = .ok (.iaload, 1) := dk_46 (dk_at dksX1_rename_1 12 rfl rfl)
theorem dX1_rename_36 : decode cX1_rename 36 = .ok (.putfield 244, 3) := dk_181 0 244 (dk_at dksX1_rename_1 13 rfl rfl)
theorem dX1_rename_39 : decode cX1_rename 39 = .ok (.aload_n 2, 1) := dk_44 (dk_at dksX1_rename_1 16 rfl rfl)
theorem dX1_rename_40 : decode cX1_rename 40 = .ok (.invokevirtual 224, 3) := dk_182 0 224 (dk_at dksX1_rename_1 17 rfl rfl)
theorem dX1_rename_43 : decode cX1_rename 43 = .ok (.ifCond .eq 57, 3) := dk_153 0 57 (dk_at dksX1_rename_1 20 rfl rfl)
theorem dX1_rename_46 : decode cX1_rename 46 = .ok (.aload_n 1, 1) := dk_43 (dk_at dksX1_rename_1 23 rfl rfl)
theorem dX1_rename_47 : decode cX1_rename 47 = .ok (.aload_n 0, 1) := dk_42 (dk_at dksX1_rename_2 0 rfl rfl)
theorem dX1_rename_48 : decode cX1_rename 48 = .ok (.getfield 60, 3) := dk_180 0 60 (dk_at dksX1_rename_2 1 rfl rfl)
theorem dX1_rename_51 : decode cX1_rename 51 = .ok (.aload_n 2, 1) := dk_44 (dk_at dksX1_rename_2 4 rfl rfl)
theorem dX1_rename_52 : decode cX1_rename 52 = .ok (.getfield 340, 3) := dk_180 1 84 (dk_at dksX1_rename_2 5 rfl rfl)
theorem dX1_rename_55 : decode cX1_rename 55 = .ok (.iaload, 1) := dk_46 (dk_at dksX1_rename_2 8 rfl rfl)
theorem dX1_rename_56 : decode cX1_rename 56 = .ok (.putfield 343, 3) := dk_181 1 87 (dk_at dksX1_rename_2 9 rfl rfl)
theorem dX1_rename_59 : decode cX1_rename 59 = .ok (.aload_n 1, 1) := dk_43 (dk_at dksX1_rename_2 12 rfl rfl)
theorem dX1_rename_60 : decode cX1_rename 60 = .ok (.aload_n 0, 1) := dk_42 (dk_at dksX1_rename_2 13 rfl rfl)
theorem dX1_rename_61 : decode cX1_rename 61 = .ok (.getfield 69, 3) := dk_180 0 69 (dk_at dksX1_rename_2 14 rfl rfl)
theorem dX1_rename_64 : decode cX1_rename 64 = .ok (.invokevirtual 518, 3) := dk_182 2 6 (dk_at dksX1_rename_2 17 rfl rfl)
theorem dX1_rename_67 : decode cX1_rename 67 = .ok (.checkcast 132, 3) := dk_192 0 132 (dk_at dksX1_rename_2 20 rfl rfl)
theorem dX1_rename_70 : decode cX1_rename 70 = .ok (.invokevirtual 531, 3) := dk_182 2 19 (dk_at dksX1_rename_3 0 rfl rfl)
theorem dX1_rename_73 : decode cX1_rename 73 = .ok (.putfield 328, 3) := dk_181 1 72 (dk_at dksX1_rename_3 3 rfl rfl)
theorem dX1_rename_76 : decode cX1_rename 76 = .ok (.aload_n 0, 1) := dk_42 (dk_at dksX1_rename_3 6 rfl rfl)
theorem dX1_rename_77 : decode cX1_rename 77 = .ok (.getfield 56, 3) := dk_180 0 56 (dk_at dksX1_rename_3 7 rfl rfl)
theorem dX1_rename_80 : decode cX1_rename 80 = .ok (.aload_n 1, 1) := dk_43 (dk_at dksX1_rename_3 10 rfl rfl)
theorem dX1_rename_81 : decode cX1_rename 81 = .ok (.getfield 328, 3) := dk_180 1 72 (dk_at dksX1_rename_3 11 rfl rfl)
theorem dX1_rename_84 : decode cX1_rename 84 = .ok (.invokevirtual 534, 3) := dk_182 2 22 (dk_at dksX1_rename_3 14 rfl rfl)
theorem dX1_rename_87 : decode cX1_rename 87 = .ok (.aload_n 0, 1) := dk_42 (dk_at dksX1_rename_3 17 rfl rfl)
theorem dX1_rename_88 : decode cX1_rename 88 = .ok (.getfield 60, 3) := dk_180 0 60 (dk_at dksX1_rename_3 18 rfl rfl)
theorem dX1_rename_91 : decode cX1_rename 91 = .ok (.aload_n 2, 1) := dk_44 (dk_at dksX1_rename_3 21 rfl rfl)
theorem dX1_rename_92 : decode cX1_rename 92 = .ok (.getfield 340, 3) := dk_180 1 84 (dk_at dksX1_rename_4 0 rfl rfl)
theorem dX1_rename_95 : decode cX1_rename 95 = .ok (.aload_n 1, 1) := dk_43 (dk_at dksX1_rename_4 3 rfl rfl)
theorem dX1_rename_96 : decode cX1_rename 96 = .ok (.getfield 328, 3) := dk_180 1 72 (dk_at dksX1_rename_4 4 rfl rfl)
theorem dX1_rename_99 : decode cX1_rename 99 = .ok (.iastore, 1) := dk_79 (dk_at dksX1_rename_4 7 rfl rfl)
theorem dX1_rename_100 : decode cX1_rename 100 = .ok (.aload_n 0, 1) := dk_42 (dk_at dksX1_rename_4 8 rfl rfl)
theorem dX1_rename_101 : decode cX1_rename 101 = .ok (.getfield 79, 3) := dk_180 0 79 (dk_at dksX1_rename_4 9 rfl rfl)
theorem dX1_rename_104 : decode cX1_rename 104 = .ok (.aload_n 1, 1) := dk_43 (dk_at dksX1_rename_4 12 rfl rfl)
theorem dX1_rename_105 : decode cX1_rename 105 = .ok (.invokevirtual 503, 3) := dk_182 1 247 (dk_at dksX1_rename_4 13 rfl rfl)
theorem dX1_rename_108 : decode cX1_rename 108 = .ok (.aload_n 2, 1) := dk_44 (dk_at dksX1_rename_4 16 rfl rfl)
theorem dX1_rename_109 : decode cX1_rename 109 = .ok (.invokevirtual 508, 3) := dk_182 1 252 (dk_at dksX1_rename_4 17 rfl rfl)
theorem dX1_rename_112 : decode cX1_rename 112 = .ok (.ifCond .eq 20, 3) := dk_153 0 20 (dk_at dksX1_rename_4 20 rfl rfl)
theorem dX1_rename_115 : decode cX1_rename 115 = .ok (.aload_n 1, 1) := dk_43 (dk_at dksX1_rename_4 23 rfl rfl)
theorem dX1_rename_116 : decode cX1_rename 116 = .ok (.bipush 113, 2) := dk_16 113 (dk_at dksX1_rename_5 0 rfl rfl)
theorem dX1_rename_118 : decode cX1_rename 118 = .ok (.putfield 190, 3) := dk_181 0 190 (dk_at dksX1_rename_5 2 rfl rfl)
theorem dX1_rename_121 : decode cX1_rename 121 = .ok (.aload_n 0, 1) := dk_42 (dk_at dksX1_rename_5 5 rfl rfl)
theorem dX1_rename_122 : decode cX1_rename 122 = .ok (.getfield 83, 3) := dk_180 0 83 (dk_at dksX1_rename_5 6 rfl rfl)
theorem dX1_rename_125 : decode cX1_rename 125 = .ok (.aload_n 1, 1) := dk_43 (dk_at dksX1_rename_5 9 rfl rfl)
theorem dX1_rename_126 : decode cX1_rename 126 = .ok (.invokevirtual 503, 3) := dk_182 1 247 (dk_at dksX1_rename_5 10 rfl rfl)
theorem dX1_rename_129 : decode cX1_rename 129 = .ok (.goto 54, 3) := dk_167 0 54 (dk_at dksX1_rename_5 13 rfl rfl)
theorem dX1_rename_132 : decode cX1_rename 132 = .ok (.aload_n 1, 1) := dk_43 (dk_at dksX1_rename_5 16 rfl rfl)
theorem dX1_rename_133 : decode cX1_rename 133 = .ok (.aload_n 0, 1) := dk_42 (dk_at dksX1_rename_5 17 rfl rfl)
theorem dX1_rename_134 : decode cX1_rename 134 = .ok (.getfield 153, 3) := dk_180 0 153 (dk_at dksX1_rename_5 18 rfl rfl)
theorem dX1_rename_137 : decode cX1_rename 137 = .ok (.invokevirtual 232, 3) := dk_182 0 232 (dk_at dksX1_rename_5 21 rfl rfl)
theorem dX1_rename_140 : decode cX1_rename 140 = .ok (.aload_n 1, 1) := dk_43 (dk_at dksX1_rename_6 0 rfl rfl)
theorem dX1_rename_141 : decode cX1_rename 141 = .ok (.aload_n 1, 1) := dk_43 (dk_at dksX1_rename_6 1 rfl rfl)
theorem dX1_rename_142 : decode cX1_rename 142 = .ok (.getfield 319, 3) := dk_180 1 63 (dk_at dksX1_rename_6 2 rfl rfl)
theorem dX1_rename_145 : decode cX1_rename 145 = .ok (.putfield 310, 3) := dk_181 1 54 (dk_at dksX1_rename_6 5 rfl rfl)
theorem dX1_rename_148 : decode cX1_rename 148 = .ok (.aload_n 2, 1) := dk_44 (dk_at dksX1_rename_6 8 rfl rfl)
theorem dX1_rename_149 : decode cX1_rename 149 = .ok (.getfield 247, 3) := dk_180 0 247 (dk_at dksX1_rename_6 9 rfl rfl)
theorem dX1_rename_152 : decode cX1_rename 152 = .ok (.bipush 15, 2) := dk_16 15 (dk_at dksX1_rename_6 12 rfl rfl)
theorem dX1_rename_154 : decode cX1_rename 154 = .ok (.if_icmp .ne 29, 3) := dk_160 0 29 (dk_at dksX1_rename_6 14 rfl rfl)
theorem dX1_rename_157 : decode cX1_rename 157 = .ok (.aload_n 0, 1) := dk_42 (dk_at dksX1_rename_6 17 rfl rfl)
theorem dX1_rename_158 : decode cX1_rename 158 = .ok (.getfield 50, 3) := dk_180 0 50 (dk_at dksX1_rename_6 18 rfl rfl)
theorem dX1_rename_161 : decode cX1_rename 161 = .ok (.aload_n 1, 1) := dk_43 (dk_at dksX1_rename_6 21 rfl rfl)
theorem dX1_rename_162 : decode cX1_rename 162 = .ok (.getfield 328, 3) := dk_180 1 72 (dk_at dksX1_rename_7 0 rfl rfl)
theorem dX1_rename_165 : decode cX1_rename 165 = .ok (.aload_n 1, 1) := dk_43 (dk_at dksX1_rename_7 3 rfl rfl)
theorem dX1_rename_166 : decode cX1_rename 166 = .ok (.getfield 284, 3) := dk_180 1 28 (dk_at dksX1_rename_7 4 rfl rfl)
theorem dX1_rename_169 : decode cX1_rename 169 = .ok (.iconst 1, 1) := dk_4 (dk_at dksX1_rename_7 7 rfl rfl)
theorem dX1_rename_170 : decode cX1_rename 170 = .ok (.iadd, 1) := dk_96 (dk_at dksX1_rename_7 8 rfl rfl)
theorem dX1_rename_171 : decode cX1_rename 171 = .ok (.iastore, 1) := dk_79 (dk_at dksX1_rename_7 9 rfl rfl)
theorem dX1_rename_172 : decode cX1_rename 172 = .ok (.aload_n 0, 1) := dk_42 (dk_at dksX1_rename_7 10 rfl rfl)
theorem dX1_rename_173 : decode cX1_rename 173 = .ok (.getfield 56, 3) := dk_180 0 56 (dk_at dksX1_rename_7 11 rfl rfl)
theorem dX1_rename_176 : decode cX1_rename 176 = .ok (.aload_n 1, 1) := dk_43 (dk_at dksX1_rename_7 14 rfl rfl)
theorem dX1_rename_177 : decode cX1_rename 177 = .ok (.getfield 328, 3) := dk_180 1 72 (dk_at dksX1_rename_7 15 rfl rfl)
theorem dX1_rename_180 : decode cX1_rename 180 = .ok (.invokevirtual 121, 3) := dk_182 0 121 (dk_at dksX1_rename_7 18 rfl rfl)
theorem dX1_rename_183 : decode cX1_rename 183 = .ok (.return_, 1) := dk_177 (dk_at dksX1_rename_7 21 rfl rfl)
def dkwX1_fetchAll_9 : List UInt8 := [167, 255, 54, 177]
abbrev dktX1_fetchAll_9 : List UInt8 := dkwX1_fetchAll_9 ++ []
def dkwX1_fetchAll_8 : List UInt8 := [3, 167, 0, 4, 27, 60, 42, 21, 6, 153, 0, 7, 2, 167, 0, 8, 25, 5, 180, 1, 63, 181, 1, 38]
abbrev dktX1_fetchAll_8 : List UInt8 := dkwX1_fetchAll_8 ++ dktX1_fetchAll_9
def dkwX1_fetchAll_7 : List UInt8 := [159, 0, 12, 44, 180, 0, 247, 16, 21, 160, 0, 7, 4, 167, 0, 4, 3, 54, 6, 21, 6, 153, 0, 7]
abbrev dktX1_fetchAll_7 : List UInt8 := dkwX1_fetchAll_7 ++ dktX1_fetchAll_8
def dkwX1_fetchAll_6 : List UInt8 := [180, 1, 38, 4, 96, 160, 0, 9, 27, 4, 100, 167, 0, 4, 3, 60, 44, 180, 0, 247, 16, 18]
abbrev dktX1_fetchAll_6 : List UInt8 := dkwX1_fetchAll_6 ++ dktX1_fetchAll_7
def dkwX1_fetchAll_5 : List UInt8 := [25, 5, 42, 180, 0, 86, 181, 1, 69, 42, 180, 0, 73, 25, 5, 182, 0, 137, 25, 5, 180, 1, 63, 42]
abbrev dktX1_fetchAll_5 : List UInt8 := dkwX1_fetchAll_5 ++ dktX1_fetchAll_6
def dkwX1_fetchAll_4 : List UInt8 := [42, 180, 0, 86, 183, 2, 38, 58, 5, 25, 5, 42, 44, 42, 180, 1, 38, 182, 2, 41, 181, 1, 63]
abbrev dktX1_fetchAll_4 : List UInt8 := dkwX1_fetchAll_4 ++ dktX1_fetchAll_5
def dkwX1_fetchAll_3 : List UInt8 := [180, 2, 35, 10, 97, 93, 181, 2, 35, 66, 187, 0, 188, 89, 44, 42, 180, 1, 38, 42, 180, 0, 153, 33]
abbrev dktX1_fetchAll_3 : List UInt8 := dkwX1_fetchAll_3 ++ dktX1_fetchAll_4
def dkwX1_fetchAll_2 : List UInt8 := [153, 0, 166, 42, 180, 0, 16, 42, 180, 1, 38, 185, 2, 32, 2, 0, 192, 0, 225, 77, 42, 42]
abbrev dktX1_fetchAll_2 : List UInt8 := dkwX1_fetchAll_2 ++ dktX1_fetchAll_3
def dkwX1_fetchAll_1 : List UInt8 := [162, 0, 188, 42, 180, 1, 38, 3, 42, 180, 0, 16, 185, 2, 31, 1, 0, 4, 100, 184, 0, 3]
abbrev dktX1_fetchAll_1 : List UInt8 := dkwX1_fetchAll_1 ++ dktX1_fetchAll_2
def dkwX1_fetchAll_0 : List UInt8 := [42, 180, 0, 37, 60, 27, 158, 0, 204, 42, 180, 0, 73, 182, 2, 30, 5, 42, 180, 0, 37, 104]
abbrev dktX1_fetchAll_0 : List UInt8 := dkwX1_fetchAll_0 ++ dktX1_fetchAll_1
theorem dksX1_fetchAll_0 : cX1_fetchAll.data.toList.drop 0 = dktX1_fetchAll_0 := by decide +kernel
theorem dksX1_fetchAll_1 : cX1_fetchAll.data.toList.drop 22 = dktX1_fetchAll_1 := dk_seg dksX1_fetchAll_0 22 rfl rfl
theorem dksX1_fetchAll_2 : cX1_fetchAll.data.toList.drop 44 = dktX1_fetchAll_2 := dk_seg dksX1_fetchAll_1 22 rfl rfl
theorem dksX1_fetchAll_3 : cX1_fetchAll.data.toList.drop 66 = dktX1_fetchAll_3 := dk_seg dksX1_fetchAll_2 22 rfl rfl
theorem dksX1_fetchAll_4 : cX1_fetchAll.data.toList.drop 90 = dktX1_fetchAll_4 := dk_seg dksX1_fetchAll_3 24 rfl rfl
theorem dksX1_fetchAll_5 : cX1_fetchAll.data.toList.drop 113 = dktX1_fetchAll_5 := dk_seg dksX1_fetchAll_4 23 rfl rfl
theorem dksX1_fetchAll_6 : cX1_fetchAll.data.toList.drop 137 = dktX1_fetchAll_6 := dk_seg dksX1_fetchAll_5 24 rfl rfl
theorem dksX1_fetchAll_7 : cX1_fetchAll.data.toList.drop 159 = dktX1_fetchAll_7 := dk_seg dksX1_fetchAll_6 22 rfl rfl
theorem dksX1_fetchAll_8 : cX1_fetchAll.data.toList.drop 183 = dktX1_fetchAll_8 := dk_seg dksX1_fetchAll_7 24 rfl rfl
theorem dksX1_fetchAll_9 : cX1_fetchAll.data.toList.drop 207 = dktX1_fetchAll_9 := dk_seg dksX1_fetchAll_8 24 rfl rfl
theorem dX1_fetchAll_0 : decode cX1_fetchAll 0 = .ok (.aload_n 0, 1) := dk_42 (dk_at dksX1_fetchAll_0 0 rfl rfl)
theorem dX1_fetchAll_1 : decode cX1_fetchAll 1 = .ok (.getfield 37, 3) := dk_180 0 37 (dk_at dksX1_fetchAll_0 1 rfl rfl)
theorem dX1_fetchAll_4 : decode cX1_fetchAll 4 = .ok (.istore_n 1, 1) := dk_60 (dk_at dksX1_fetchAll_0 4 rfl rfl)
theorem dX1_fetchAll_5 : decode cX1_fetchAll 5 = .ok (.iload_n 1, 1) := dk_27 (dk_at dksX1_fetchAll_0 5 rfl rfl)
theorem dX1_fetchAll_6 : decode cX1_fetchAll 6 = .ok (.ifCond .le 204, 3) := dk_158 0 204 (dk_at dksX1_fetchAll_0 6 rfl rfl)
theorem dX1_fetchAll_9 : decode cX1_fetchAll 9 = .ok (.aload_n 0, 1) := dk_42 (dk_at dksX1_fetchAll_0 9 rfl rfl)
theorem dX1_fetchAll_10 : decode cX1_fetchAll 10 = .ok (.getfield 73, 3) := dk_180 0 73 (dk_at dksX1_fetchAll_0 10 rfl rfl)
theorem dX1_fetchAll_13 : decode cX1_fetchAll 13 = .ok (.invokevirtual 542, 3) := dk_182 2 30 (dk_at dksX1_fetchAll_0 13 rfl rfl)
theorem dX1_fetchAll_16 : decode cX1_fetchAll 16 = .ok (.iconst 2, 1) := dk_5 (dk_at dksX1_fetchAll_0 16 rfl rfl)
theorem dX1_fetchAll_17 : decode cX1_fetchAll 17 = .ok (.aload_n 0, 1) := dk_42 (dk_at dksX1_fetchAll_0 17 rfl rfl)
theorem dX1_fetchAll_18 : decode cX1_fetchAll 18 = .ok (.getfield 37, 3) := dk_180 0 37 (dk_at dksX1_fetchAll_0 18 rfl rfl)
theorem dX1_fetchAll_21 : decode cX1_fetchAll 21 = .ok (.imul, 1) := dk_104 (dk_at dksX1_fetchAll_0 21 rfl rfl)
theorem dX1_fetchAll_22 : decode cX1_fetchAll 22 = .ok (.if_icmp .ge 188, 3) := dk_162 0 188 (dk_at dksX1_fetchAll_1 0 rfl rfl)
theorem dX1_fetchAll_25 : decode cX1_fetchAll 25 = .ok (.aload_n 0, 1) := dk_42 (dk_at dksX1_fetchAll_1 3 rfl rfl)
theorem dX1_fetchAll_26 : decode cX1_fetchAll 26 = .ok (.getfield 294, 3) := dk_180 1 38 (dk_at dksX1_fetchAll_1 4 rfl rfl)
theorem dX1_fetchAll_29 : decode cX1_fetchAll 29 = .ok (.iconst 0, 1) := dk_3 (dk_at dksX1_fetchAll_1 7 rfl rfl)
theorem dX1_fetchAll_30 : decode cX1_fetchAll 30 = .ok (.aload_n 0, 1) := dk_42 (dk_at dksX1_fetchAll_1 8 rfl rfl)
theorem dX1_fetchAll_31 : decode cX1_fetchAll 31 = .ok (.getfield 16, 3) := dk_180 0 16 (dk_at dksX1_fetchAll_1 9 rfl rfl)
theorem dX1_fetchAll_34 : decode cX1_fetchAll 34 = .ok (.invokeinterface 543 1, 5) := by decide +kernel
theorem dX1_fetchAll_39 : decode cX1_fetchAll 39 = .ok (.iconst 1, 1) := dk_4 (dk_at dksX1_fetchAll_1 17 rfl rfl)
theorem dX1_fetchAll_40 : decode cX1_fetchAll 40 = .ok (.isub, 1) := dk_100 (dk_at dksX1_fetchAll_1 18 rfl rfl)
theorem dX1_fetchAll_41 : decode cX1_fetchAll 41 = .ok (.invokestatic 3, 3) := dk_184 0 3 (dk_at dksX1_fetchAll_1 19 rfl rfl)
theorem dX1_fetchAll_44 : decode cX1_fetchAll 44 = .ok (.ifCond .eq 166, 3) := dk_153 0 166 (dk_at dksX1_fetchAll_2 0 rfl rfl)
theorem dX1_fetchAll_47 : decode cX1_fetchAll 47 = .ok (.aload_n 0, 1) := dk_42 (dk_at dksX1_fetchAll_2 3 rfl rfl)
theorem dX1_fetchAll_48 : decode cX1_fetchAll 48 = .ok (.getfield 16, 3) := dk_180 0 16 (dk_at dksX1_fetchAll_2 4 rfl rfl)
theorem dX1_fetchAll_51 : decode cX1_fetchAll 51 = .ok (.aload_n 0, 1) := dk_42 (dk_at dksX1_fetchAll_2 7 rfl rfl)
theorem dX1_fetchAll_52 : decode cX1_fetchAll 52 = .ok (.getfield 294, 3) := dk_180 1 38 (dk_at dksX1_fetchAll_2 8 rfl rfl)
theorem dX1_fetchAll_55 : decode cX1_fetchAll 55 = .ok (.invokeinterface 544 2, 5) := by decide +kernel
theorem dX1_fetchAll_60 : decode cX1_fetchAll 60 = .ok (.checkcast 225, 3) := dk_192 0 225 (dk_at dksX1_fetchAll_2 16 rfl rfl)
theorem dX1_fetchAll_63 : decode cX1_fetchAll 63 = .ok (.astore_n 2, 1) := dk_77 (dk_at dksX1_fetchAll_2 19 rfl rfl)
theorem dX1_fetchAll_64 : decode cX1_fetchAll 64 = .ok (.aload_n 0, 1) := dk_42 (dk_at dksX1_fetchAll_2 20 rfl rfl)
theorem dX1_fetchAll_65 : decode cX1_fetchAll 65 = .ok (.aload_n 0, 1) := dk_42 (dk_at dksX1_fetchAll_2 21 rfl rfl)
theorem dX1_fetchAll_66 : decode cX1_fetchAll 66 = .ok (.getfield 547, 3) := dk_180 2 35 (dk_at dksX1_fetchAll_3 0 rfl rfl)
theorem dX1_fetchAll_69 : decode cX1_fetchAll 69 = .ok (.lconst 1, 1) := dk_10 (dk_at dksX1_fetchAll_3 3 rfl rfl)
theorem dX1_fetchAll_70 : decode cX1_fetchAll 70 = .ok (.ladd, 1) := dk_97 (dk_at dksX1_fetchAll_3 4 rfl rfl)
theorem dX1_fetchAll_71 : decode cX1_fetchAll 71 = .ok (.dup2_x1, 1) := dk_93 (dk_at dksX1_fetchAll_3 5 rfl rfl)
theorem dX1_fetchAll_72 : decode cX1_fetchAll 72 = .ok (.putfield 547, 3) := dk_181 2 35 (dk_at dksX1_fetchAll_3 6 rfl rfl)
theorem dX1_fetchAll_75 : decode cX1_fetchAll 75 = .ok (.lstore_n 3, 1) := dk_66 (dk_at dksX1_fetchAll_3 9 rfl rfl)
theorem dX1_fetchAll_76 : decode cX1_fetchAll 76 = .ok (.new 188, 3) := dk_187 0 188 (dk_at dksX1_fetchAll_3 10 rfl rfl)
theorem dX1_fetchAll_79 : decode cX1_fetchAll 79 = .ok (.dup, 1) := dk_89 (dk_at dksX1_fetchAll_3 13 rfl rfl)
theorem dX1_fetchAll_80 : decode cX1_fetchAll 80 = .ok (.aload_n 2, 1) := dk_44 (dk_at dksX1_fetchAll_3 14 rfl rfl)
theorem dX1_fetchAll_81 : decode cX1_fetchAll 81 = .ok (.aload_n 0, 1) := dk_42 (dk_at dksX1_fetchAll_3 15 rfl rfl)
theorem dX1_fetchAll_82 : decode cX1_fetchAll 82 = .ok (.getfield 294, 3) := dk_180 1 38 (dk_at dksX1_fetchAll_3 16 rfl rfl)
theorem dX1_fetchAll_85 : decode cX1_fetchAll 85 = .ok (.aload_n 0, 1) := dk_42 (dk_at dksX1_fetchAll_3 19 rfl rfl)
theorem dX1_fetchAll_86 : decode cX1_fetchAll 86 = .ok (.getfield 153, 3) := dk_180 0 153 (dk_at dksX1_fetchAll_3 20 rfl rfl)
theorem dX1_fetchAll_89 : decode cX1_fetchAll 89 = .ok (.lload_n 3, 1) := dk_33 (dk_at dksX1_fetchAll_3 23 rfl rfl)
theorem dX1_fetchAll_90 : decode cX1_fetchAll 90 = .ok (.aload_n 0, 1) := dk_42 (dk_at dksX1_fetchAll_4 0 rfl rfl)
theorem dX1_fetchAll_91 : decode cX1_fetchAll 91 = .ok (.getfield 86, 3) := dk_180 0 86 (dk_at dksX1_fetchAll_4 1 rfl rfl)
theorem dX1_fetchAll_94 : decode cX1_fetchAll 94 = .ok (.invokespecial 550, 3) := dk_183 2 38 (dk_at dksX1_fetchAll_4 4 rfl rfl)
theorem dX1_fetchAll_97 : decode cX1_fetchAll 97 = .ok (.astore 5, 2) := dk_58 5 (dk_at dksX1_fetchAll_4 7 rfl rfl)
theorem dX1_fetchAll_99 : decode cX1_fetchAll 99 = .ok (.aload 5, 2) := dk_25 5 (dk_at dksX1_fetchAll_4 9 rfl rfl)
theorem dX1_fetchAll_101 : decode cX1_fetchAll 101 = .ok (.aload_n 0, 1) := dk_42 (dk_at dksX1_fetchAll_4 11 rfl rfl)
theorem dX1_fetchAll_102 : decode cX1_fetchAll 102 = .ok (.aload_n 2, 1) := dk_44 (dk_at dksX1_fetchAll_4 12 rfl rfl)
theorem dX1_fetchAll_103 : decode cX1_fetchAll 103 = .ok (.aload_n 0, 1) := dk_42 (dk_at dksX1_fetchAll_4 13 rfl rfl)
theorem dX1_fetchAll_104 : decode cX1_fetchAll 104 = .ok (.getfield 294, 3) := dk_180 1 38 (dk_at dksX1_fetchAll_4 14 rfl rfl)
theorem dX1_fetchAll_107 : decode cX1_fetchAll 107 = .ok (.invokevirtual 553, 3) := dk_182 2 41 (dk_at dksX1_fetchAll_4 17 rfl rfl)
theorem dX1_fetchAll_110 : decode cX1_fetchAll 110 = .ok (.putfield 319, 3) := dk_181 1 63 (dk_at dksX1_fetchAll_4 20 rfl rfl)
theorem dX1_fetchAll_113 : decode cX1_fetchAll 113 = .ok (.aload 5, 2) := dk_25 5 (dk_at dksX1_fetchAll_5 0 rfl rfl)
theorem dX1_fetchAll_115 : decode cX1_fetchAll 115 = .ok (.aload_n 0, 1) := dk_42 (dk_at dksX1_fetchAll_5 2 rfl rfl)
theorem dX1_fetchAll_116 : decode cX1_fetchAll 116 = .ok (.getfield 86, 3) := dk_180 0 86 (dk_at dksX1_fetchAll_5 3 rfl rfl)
theorem dX1_fetchAll_119 : decode cX1_fetchAll 119 = .ok (.putfield 325, 3) := dk_181 1 69 (dk_at dksX1_fetchAll_5 6 rfl rfl)
theorem dX1_fetchAll_122 : decode cX1_fetchAll 122 = .ok (.aload_n 0, 1) := dk_42 (dk_at dksX1_fetchAll_5 9 rfl rfl)
theorem dX1_fetchAll_123 : decode cX1_fetchAll 123 = .ok (.getfield 73, 3) := dk_180 0 73 (dk_at dksX1_fetchAll_5 10 rfl rfl)
theorem dX1_fetchAll_126 : decode cX1_fetchAll 126 = .ok (.aload 5, 2) := dk_25 5 (dk_at dksX1_fetchAll_5 13 rfl rfl)
theorem dX1_fetchAll_128 : decode cX1_fetchAll 128 = .ok (.invokevirtual 137, 3) := dk_182 0 137 (dk_at dksX1_fetchAll_5 15 rfl rfl)
theorem dX1_fetchAll_131 : decode cX1_fetchAll 131 = .ok (.aload 5, 2) := dk_25 5 (dk_at dksX1_fetchAll_5 18 rfl rfl)
theorem dX1_fetchAll_133 : decode cX1_fetchAll 133 = .ok (.getfield 319, 3) := dk_180 1 63 (dk_at dksX1_fetchAll_5 20 rfl rfl)
theorem dX1_fetchAll_136 : decode cX1_fetchAll 136 = .ok (.aload_n 0, 1) := dk_42 (dk_at dksX1_fetchAll_5 23 rfl rfl)
theorem dX1_fetchAll_137 : decode cX1_fetchAll 137 = .ok (.getfield 294, 3) := dk_180 1 38 (dk_at dksX1_fetchAll_6 0 rfl rfl)
theorem dX1_fetchAll_140 : decode cX1_fetchAll 140 = .ok (.iconst 1, 1) := dk_4 (dk_at dksX1_fetchAll_6 3 rfl rfl)
theorem dX1_fetchAll_141 : decode cX1_fetchAll 141 = .ok (.iadd, 1) := dk_96 (dk_at dksX1_fetchAll_6 4 rfl rfl)
theorem dX1_fetchAll_142 : decode cX1_fetchAll 142 = .ok (.if_icmp .ne 9, 3) := dk_160 0 9 (dk_at dksX1_fetchAll_6 5 rfl rfl)
theorem dX1_fetchAll_145 : decode cX1_fetchAll 145 = .ok (.iload_n 1, 1) := dk_27 (dk_at dksX1_fetchAll_6 8 rfl rfl)
theorem dX1_fetchAll_146 : decode cX1_fetchAll 146 = .ok (.iconst 1, 1) := dk_4 (dk_at dksX1_fetchAll_6 9 rfl rfl)
theorem dX1_fetchAll_147 : decode cX1_fetchAll 147 = .ok (.isub, 1) := dk_100 (dk_at dksX1_fetchAll_6 10 rfl rfl)
theorem dX1_fetchAll_148 : decode cX1_fetchAll 148 = .ok (.goto 4, 3) := dk_167 0 4 (dk_at dksX1_fetchAll_6 11 rfl rfl)
theorem dX1_fetchAll_151 : decode cX1_fetchAll 151 = .ok (.iconst 0, 1) := dk_3 (dk_at dksX1_fetchAll_6 14 rfl rfl)
theorem dX1_fetchAll_152 : decode cX1_fetchAll 152 = .ok (.istore_n 1, 1) := dk_60 (dk_at dksX1_fetchAll_6 15 rfl rfl)
theorem dX1_fetchAll_153 : decode cX1_fetchAll 153 = .ok (.aload_n 2, 1) := dk_44 (dk_at dksX1_fetchAll_6 16 rfl rfl)
theorem dX1_fetchAll_154 : decode cX1_fetchAll 154 = .ok (.getfield 247, 3) := dk_180 0 247 (dk_at dksX1_fetchAll_6 17 rfl rfl)
theorem dX1_fetchAll_157 : decode cX1_fetchAll 157 = .ok (.bipush 18, 2) := dk_16 18 (dk_at dksX1_fetchAll_6 20 rfl rfl)
theorem dX1_fetchAll_159 : decode cX1_fetchAll 159 = .ok (.if_icmp .eq 12, 3) := dk_159 0 12 (dk_at dksX1_fetchAll_7 0 rfl rfl)
theorem dX1_fetchAll_162 : decode cX1_fetchAll 162 = .ok (.aload_n 2, 1) := dk_44 (dk_at dksX1_fetchAll_7 3 rfl rfl)
theorem dX1_fetchAll_163 : decode cX1_fetchAll 163 = .ok (.getfield 247, 3) := dk_180 0 247 (dk_at dksX1_fetchAll_7 4 rfl rfl)
theorem dX1_fetchAll_166 : decode cX1_fetchAll 166 = .ok (.bipush 21, 2) := dk_16 21 (dk_at dksX1_fetchAll_7 7 rfl rfl)
theorem dX1_fetchAll_168 : decode cX1_fetchAll 168 = .ok (.if_icmp .ne 7, 3) := dk_160 0 7 (dk_at dksX1_fetchAll_7 9 rfl rfl)
theorem dX1_fetchAll_171 : decode cX1_fetchAll 171 = .ok (.iconst 1, 1) := dk_4 (dk_at dksX1_fetchAll_7 12 rfl rfl)
theorem dX1_fetchAll_172 : decode cX1_fetchAll 172 = .ok (.goto 4, 3) := dk_167 0 4 (dk_at dksX1_fetchAll_7 13 rfl rfl)
theorem dX1_fetchAll_175 : decode cX1_fetchAll 175 = .ok (.iconst 0, 1) := dk_3 (dk_at dksX1_fetchAll_7 16 rfl rfl)
theorem dX1_fetchAll_176 : decode cX1_fetchAll 176 = .ok (.istore 6, 2) := dk_54 6 (dk_at dksX1_fetchAll_7 17 rfl rfl)
theorem dX1_fetchAll_178 : decode cX1_fetchAll 178 = .ok (.iload 6, 2) := dk_21 6 (dk_at dksX1_fetchAll_7 19 rfl rfl)
theorem dX1_fetchAll_180 : decode cX1_fetchAll 180 = .ok (.ifCond .eq 7, 3) := dk_153 0 7 (dk_at dksX1_fetchAll_7 21 rfl rfl)
theorem dX1_fetchAll_183 : decode cX1_fetchAll 183 = .ok (.iconst 0, 1) := dk_3 (dk_at dksX1_fetchAll_8 0 rfl rfl)
theorem dX1_fetchAll_184 : decode cX1_fetchAll 184 = .ok (.goto 4, 3) := dk_167 0 4 (dk_at dksX1_fetchAll_8 1 rfl rfl)
theorem dX1_fetchAll_187 : decode cX1_fetchAll 187 = .ok (.iload_n 1, 1) := dk_27 (dk_at dksX1_fetchAll_8 4 rfl rfl)
theorem dX1_fetchAll_188 : decode cX1_fetchAll 188 = .ok (.istore_n 1, 1) := dk_60 (dk_at dksX1_fetchAll_8 5 rfl rfl)
theorem dX1_fetchAll_189 : decode cX1_fetchAll 189 = .ok (.aload_n 0, 1) := dk_42 (dk_at dksX1_fetchAll_8 6 rfl rfl)
theorem dX1_fetchAll_190 : decode cX1_fetchAll 190 = .ok (.iload 6, 2) := dk_21 6 (dk_at dksX1_fetchAll_8 7 rfl rfl)
theorem dX1_fetchAll_192 : decode cX1_fetchAll 192 = .ok (.ifCond .eq 7, 3) := dk_153 0 7 (dk_at dksX1_fetchAll_8 9 rfl rfl)
theorem dX1_fetchAll_195 : decode cX1_fetchAll 195 = .ok (.iconst (-1), 1) := dk_2 (dk_at dksX1_fetchAll_8 12 rfl rfl)
theorem dX1_fetchAll_196 : decode cX1_fetchAll 196 = .ok (.goto 8, 3) := dk_167 0 8 (dk_at dksX1_fetchAll_8 13 rfl rfl)
theorem dX1_fetchAll_199 : decode cX1_fetchAll 199 = .ok (.aload 5, 2) := dk_25 5 (dk_at dksX1_fetchAll_8 16 rfl rfl)
theorem dX1_fetchAll_201 : decode cX1_fetchAll 201 = .ok (.getfield 319, 3) := dk_180 1 63 (dk_at dksX1_fetchAll_8 18 rfl rfl)
theorem dX1_fetchAll_204 : decode cX1_fetchAll 204 = .ok (.putfield 294, 3) := dk_181 1 38 (dk_at dksX1_fetchAll_8 21 rfl rfl)
theorem dX1_fetchAll_207 : decode cX1_fetchAll 207 = .ok (.goto (-202), 3) := dk_167 255 54 (dk_at dksX1_fetchAll_9 0 rfl rfl)
theorem dX1_fetchAll_210 : decode cX1_fetchAll 210 = .ok (.return_, 1) := dk_177 (dk_at dksX1_fetchAll_9 3 rfl rfl)
def dkwX1_guessFor_4 : List UInt8 := [28, 16, 8, 112, 46, 54, 4, 21, 4, 2, 160, 0, 7, 29, 167, 0, 5, 21, 4, 172, 29, 172]
abbrev dktX1_guessFor_4 : List UInt8 := dkwX1_guessFor_4 ++ []
def dkwX1_guessFor_3 : List UInt8 := [180, 1, 60, 172, 42, 29, 182, 2, 24, 43, 180, 1, 60, 172, 42, 29, 182, 2, 27, 172, 42, 180, 0, 92]
abbrev dktX1_guessFor_3 : List UInt8 := dkwX1_guessFor_3 ++ dktX1_guessFor_4
def dkwX1_guessFor_2 : List UInt8 := [42, 180, 0, 89, 28, 16, 16, 112, 46, 5, 161, 0, 10, 43, 180, 1, 60, 167, 0, 4, 29, 172, 43]
abbrev dktX1_guessFor_2 : List UInt8 := dkwX1_guessFor_2 ++ dktX1_guessFor_3
def dkwX1_guessFor_1 : List UInt8 := [170, 0, 0, 0, 0, 0, 0, 107, 0, 0, 0, 12, 0, 0, 0, 17, 0, 0, 0, 40, 0, 0, 0, 40, 0, 0, 0, 62, 0, 0, 0, 67, 0, 0, 0, 77, 0, 0, 0, 83]
abbrev dktX1_guessFor_1 : List UInt8 := dkwX1_guessFor_1 ++ dktX1_guessFor_2
def dkwX1_guessFor_0 : List UInt8 := [28, 4, 96, 62, 43, 180, 0, 247]
abbrev dktX1_guessFor_0 : List UInt8 := dkwX1_guessFor_0 ++ dktX1_guessFor_1
theorem dksX1_guessFor_0 : cX1_guessFor.data.toList.drop 0 = dktX1_guessFor_0 := by decide +kernel
theorem dksX1_guessFor_1 : cX1_guessFor.data.toList.drop 8 = dktX1_guessFor_1 := dk_seg dksX1_guessFor_0 8 rfl rfl
theorem dksX1_guessFor_2 : cX1_guessFor.data.toList.drop 48 = dktX1_guessFor_2 := dk_seg dksX1_guessFor_1 40 rfl rfl
theorem dksX1_guessFor_3 : cX1_guessFor.data.toList.drop 71 = dktX1_guessFor_3 := dk_seg dksX1_guessFor_2 23 rfl rfl
theorem dksX1_guessFor_4 : cX1_guessFor.data.toList.drop 95 = dktX1_guessFor_4 := dk_seg dksX1_guessFor_3 24 rfl rfl
theorem dX1_guessFor_0 : decode cX1_guessFor 0 = .ok (.iload_n 2, 1) := dk_28 (dk_at dksX1_guessFor_0 0 rfl rfl)
theorem dX1_guessFor_1 : decode cX1_guessFor 1 = .ok (.iconst 1, 1) := dk_4 (dk_at dksX1_guessFor_0 1 rfl rfl)
theorem dX1_guessFor_2 : decode cX1_guessFor 2 = .ok (.iadd, 1) := dk_96 (dk_at dksX1_guessFor_0 2 rfl rfl)
theorem dX1_guessFor_3 : decode cX1_guessFor 3 = .ok (.istore_n 3, 1) := dk_62 (dk_at dksX1_guessFor_0 3 rfl rfl)
theorem dX1_guessFor_4 : decode cX1_guessFor 4 = .ok (.aload_n 1, 1) := dk_43 (dk_at dksX1_guessFor_0 4 rfl rfl)
theorem dX1_guessFor_5 : decode cX1_guessFor 5 = .ok (.getfield 247, 3) := dk_180 0 247 (dk_at dksX1_guessFor_0 5 rfl rfl)
theorem dX1_guessFor_8 : decode cX1_guessFor 8 = .ok (.tableswitch 107 12 17 #[40, 40, 62, 67, 77, 83], 40) := by decide +kernel
theorem dX1_guessFor_48 : decode cX1_guessFor 48 = .ok (.aload_n 0, 1) := dk_42 (dk_at dksX1_guessFor_2 0 rfl rfl)
theorem dX1_guessFor_49 : decode cX1_guessFor 49 = .ok (.getfield 89, 3) := dk_180 0 89 (dk_at dksX1_guessFor_2 1 rfl rfl)
theorem dX1_guessFor_52 : decode cX1_guessFor 52 = .ok (.iload_n 2, 1) := dk_28 (dk_at dksX1_guessFor_2 4 rfl rfl)
theorem dX1_guessFor_53 : decode cX1_guessFor 53 = .ok (.bipush 16, 2) := dk_16 16 (dk_at dksX1_guessFor_2 5 rfl rfl)
theorem dX1_guessFor_55 : decode cX1_guessFor 55 = .ok (.irem, 1) := dk_112 (dk_at dksX1_guessFor_2 7 rfl rfl)
theorem dX1_guessFor_56 : decode cX1_guessFor 56 = .ok (.iaload, 1) := dk_46 (dk_at dksX1_guessFor_2 8 rfl rfl)
theorem dX1_guessFor_57 : decode cX1_guessFor 57 = .ok (.iconst 2, 1) := dk_5 (dk_at dksX1_guessFor_2 9 rfl rfl)
theorem dX1_guessFor_58 : decode cX1_guessFor 58 = .ok (.if_icmp .lt 10, 3) := dk_161 0 10 (dk_at dksX1_guessFor_2 10 rfl rfl)
theorem dX1_guessFor_61 : decode cX1_guessFor 61 = .ok (.aload_n 1, 1) := dk_43 (dk_at dksX1_guessFor_2 13 rfl rfl)
theorem dX1_guessFor_62 : decode cX1_guessFor 62 = .ok (.getfield 316, 3) := dk_180 1 60 (dk_at dksX1_guessFor_2 14 rfl rfl)
theorem dX1_guessFor_65 : decode cX1_guessFor 65 = .ok (.goto 4, 3) := dk_167 0 4 (dk_at dksX1_guessFor_2 17 rfl rfl)
theorem dX1_guessFor_68 : decode cX1_guessFor 68 = .ok (.iload_n 3, 1) := dk_29 (dk_at dksX1_guessFor_2 20 rfl rfl)
theorem dX1_guessFor_69 : decode cX1_guessFor 69 = .ok (.ireturn, 1) := dk_172 (dk_at dksX1_guessFor_2 21 rfl rfl)
theorem dX1_guessFor_70 : decode cX1_guessFor 70 = .ok (.aload_n 1, 1) := dk_43 (dk_at dksX1_guessFor_2 22 rfl rfl)
theorem dX1_guessFor_71 : decode cX1_guessFor 71 = .ok (.getfield 316, 3) := dk_180 1 60 (dk_at dksX1_guessFor_3 0 rfl rfl)
theorem dX1_guessFor_74 : decode cX1_guessFor 74 = .ok (.ireturn, 1) := dk_172 (dk_at dksX1_guessFor_3 3 rfl rfl)
theorem dX1_guessFor_75 : decode cX1_guessFor 75 = .ok (.aload_n 0, 1) := dk_42 (dk_at dksX1_guessFor_3 4 rfl rfl)
theorem dX1_guessFor_76 : decode cX1_guessFor 76 = .ok (.iload_n 3, 1) := dk_29 (dk_at dksX1_guessFor_3 5 rfl rfl)
theorem dX1_guessFor_77 : decode cX1_guessFor 77 = .ok (.invokevirtual 536, 3) := dk_182 2 24 (dk_at dksX1_guessFor_3 6 rfl rfl)
theorem dX1_guessFor_80 : decode cX1_guessFor 80 = .ok (.aload_n 1, 1) := dk_43 (dk_at dksX1_guessFor_3 9 rfl rfl)
theorem dX1_guessFor_81 : decode cX1_guessFor 81 = .ok (.getfield 316, 3) := dk_180 1 60 (dk_at dksX1_guessFor_3 10 rfl rfl)
theorem dX1_guessFor_84 : decode cX1_guessFor 84 = .ok (.ireturn, 1) := dk_172 (dk_at dksX1_guessFor_3 13 rfl rfl)
theorem dX1_guessFor_85 : decode cX1_guessFor 85 = .ok (.aload_n 0, 1) := dk_42 (dk_at dksX1_guessFor_3 14 rfl rfl)
theorem dX1_guessFor_86 : decode cX1_guessFor 86 = .ok (.iload_n 3, 1) := dk_29 (dk_at dksX1_guessFor_3 15 rfl rfl)
theorem dX1_guessFor_87 : decode cX1_guessFor 87 = .ok (.invokevirtual 539, 3) := dk_182 2 27 (dk_at dksX1_guessFor_3 16 rfl rfl)
theorem dX1_guessFor_90 : decode cX1_guessFor 90 = .ok (.ireturn, 1) := dk_172 (dk_at dksX1_guessFor_3 19 rfl rfl)
theorem dX1_guessFor_91 : decode cX1_guessFor 91 = .ok (.aload_n 0, 1) := dk_42 (dk_at dksX1_guessFor_3 20 rfl rfl)
theorem dX1_guessFor_92 : decode cX1_guessFor 92 = .ok (.getfield 92, 3) := dk_180 0 92 (dk_at dksX1_guessFor_3 21 rfl rfl)
theorem dX1_guessFor_95 : decode cX1_guessFor 95 = .ok (.iload_n 2, 1) := dk_28 (dk_at dksX1_guessFor_4 0 rfl rfl)
theorem dX1_guessFor_96 : decode cX1_guessFor 96 = .ok (.bipush 8, 2) := dk_16 8 (dk_at dksX1_guessFor_4 1 rfl rfl)
theorem dX1_guessFor_98 : decode cX1_guessFor 98 = .ok (.irem, 1) := dk_112 (dk_at dksX1_guessFor_4 3 rfl rfl)
theorem dX1_guessFor_99 : decode cX1_guessFor 99 = .ok (.iaload, 1) := dk_46 (dk_at dksX1_guessFor_4 4 rfl rfl)
theorem dX1_guessFor_100 : decode cX1_guessFor 100 = .ok (.istore 4, 2) := dk_54 4 (dk_at dksX1_guessFor_4 5 rfl rfl)
theorem dX1_guessFor_102 : decode cX1_guessFor 102 = .ok (.iload 4, 2) := dk_21 4 (dk_at dksX1_guessFor_4 7 rfl rfl)
theorem dX1_guessFor_104 : decode cX1_guessFor 104 = .ok (.iconst (-1), 1) := dk_2 (dk_at dksX1_guessFor_4 9 rfl rfl)
theorem dX1_guessFor_105 : decode cX1_guessFor 105 = .ok (.if_icmp .ne 7, 3) := dk_160 0 7 (dk_at dksX1_guessFor_4 10 rfl rfl)
theorem dX1_guessFor_108 : decode cX1_guessFor 108 = .ok (.iload_n 3, 1) := dk_29 (dk_at dksX1_guessFor_4 13 rfl rfl)
theorem dX1_guessFor_109 : decode cX1_guessFor 109 = .ok (.goto 5, 3) := dk_167 0 5 (dk_at dksX1_guessFor_4 14 rfl rfl)
theorem dX1_guessFor_112 : decode cX1_guessFor 112 = .ok (.iload 4, 2) := dk_21 4 (dk_at dksX1_guessFor_4 17 rfl rfl)
theorem dX1_guessFor_114 : decode cX1_guessFor 114 = .ok (.ireturn, 1) := dk_172 (dk_at dksX1_guessFor_4 19 rfl rfl)
theorem dX1_guessFor_115 : decode cX1_guessFor 115 = .ok (.iload_n 3, 1) := dk_29 (dk_at dksX1_guessFor_4 20 rfl rfl)
theorem dX1_guessFor_116 : decode cX1_guessFor 116 = .ok (.ireturn, 1) := dk_172 (dk_at dksX1_guessFor_4 21 rfl rfl)
def dkwX1_push_2 : List UInt8 := [132, 4, 1, 167, 255, 228, 45, 28, 27, 79, 42, 45, 181, 0, 86, 177]
abbrev dktX1_push_2 : List UInt8 := dkwX1_push_2 ++ []
def dkwX1_push_1 : List UInt8 := [162, 0, 28, 45, 21, 4, 42, 180, 0, 86, 42, 180, 0, 86, 190, 28, 100, 21, 4, 96, 46, 79]
abbrev dktX1_push_1 : List UInt8 := dkwX1_push_1 ++ dktX1_push_2
def dkwX1_push_0 : List UInt8 := [42, 180, 0, 86, 190, 6, 184, 1, 178, 61, 28, 4, 96, 188, 10, 78, 3, 54, 4, 21, 4, 28]
abbrev dktX1_push_0 : List UInt8 := dkwX1_push_0 ++ dktX1_push_1
theorem dksX1_push_0 : cX1_push.data.toList.drop 0 = dktX1_push_0 := by decide +kernel
theorem dksX1_push_1 : cX1_push.data.toList.drop 22 = dktX1_push_1 := dk_seg dksX1_push_0 22 rfl rfl
theorem dksX1_push_2 : cX1_push.data.toList.drop 44 = dktX1_push_2 := dk_seg dksX1_push_1 22 rfl rfl
theorem dX1_push_0 : decode cX1_push 0 = .ok (.aload_n 0, 1) := dk_42 (dk_at dksX1_push_0 0 rfl rfl)
theorem dX1_push_1 : decode cX1_push 1 = .ok (.getfield 86, 3) := dk_180 0 86 (dk_at dksX1_push_0 1 rfl rfl)
theorem dX1_push_4 : decode cX1_push 4 = .ok (.arraylength, 1) := dk_190 (dk_at dksX1_push_0 4 rfl rfl)
theorem dX1_push_5 : decode cX1_push 5 = .ok (.iconst 3, 1) := dk_6 (dk_at dksX1_push_0 5 rfl rfl)
theorem dX1_push_6 : decode cX1_push 6 = .ok (.invokestatic 434, 3) := dk_184 1 178 (dk_at dksX1_push_0 6 rfl rfl)
theorem dX1_push_9 : decode cX1_push 9 = .ok (.istore_n 2, 1) := dk_61 (dk_at dksX1_push_0 9 rfl rfl)
theorem dX1_push_10 : decode cX1_push 10 = .ok (.iload_n 2, 1) := dk_28 (dk_at dksX1_push_0 10 rfl rfl)
theorem dX1_push_11 : decode cX1_push 11 = .ok (.iconst 1, 1) := dk_4 (dk_at dksX1_push_0 11 rfl rfl)
theorem dX1_push_12 : decode cX1_push 12 = .ok (.iadd, 1) := dk_96 (dk_at dksX1_push_0 12 rfl rfl)
theorem dX1_push_13 : decode cX1_push 13 = .ok (.newarray .int, 2) := dk_188_10 (dk_at dksX1_push_0 13 rfl rfl)
theorem dX1_push_15 : decode cX1_push 15 = .ok (.astore_n 3, 1) := dk_78 (dk_at dksX1_push_0 15 rfl rfl)
theorem dX1_push_16 : decode cX1_push 16 = .ok (.iconst 0, 1) := dk_3 (dk_at dksX1_push_0 16 rfl rfl)
theorem dX1_push_17 : decode cX1_push 17 = .ok (.istore 4, 2) := dk_54 4 (dk_at dksX1_push_0 17 rfl rfl)
theorem dX1_push_19 : decode cX1_push 19 = .ok (.iload 4, 2) := dk_21 4 (dk_at dksX1_push_0 19 rfl rfl)
theorem dX1_push_21 : decode cX1_push 21 = .ok (.iload_n 2, 1) := dk_28 (dk_at dksX1_push_0 21 rfl rfl)
theorem dX1_push_22 : decode cX1_push 22 = .ok (.if_icmp .ge 28, 3) := dk_162 0 28 (dk_at dksX1_push_1 0 rfl rfl)
theorem dX1_push_25 : decode cX1_push 25 = .ok (.aload_n 3, 1) := dk_45 (dk_at dksX1_push_1 3 rfl rfl)
theorem dX1_push_26 : decode cX1_push 26 = .ok (.iload 4, 2) := dk_21 4 (dk_at dksX1_push_1 4 rfl rfl)
theorem dX1_push_28 : decode cX1_push 28 = .ok (.aload_n 0, 1) := dk_42 (dk_at dksX1_push_1 6 rfl rfl)
theorem dX1_push_29 : decode cX1_push 29 = .ok (.getfield 86, 3) := dk_180 0 86 (dk_at dksX1_push_1 7 rfl rfl)
theorem dX1_push_32 : decode cX1_push 32 = .ok (.aload_n 0, 1) := dk_42 (dk_at dksX1_push_1 10 rfl rfl)
theorem dX1_push_33 : decode cX1_push 33 = .ok (.getfield 86, 3) := dk_180 0 86 (dk_at dksX1_push_1 11 rfl rfl)
theorem dX1_push_36 : decode cX1_push 36 = .ok (.arraylength, 1) := dk_190 (dk_at dksX1_push_1 14 rfl rfl)
theorem dX1_push_37 : decode cX1_push 37 = .ok (.iload_n 2, 1) := dk_28 (dk_at dksX1_push_1 15 rfl rfl)
theorem dX1_push_38 : decode cX1_push 38 = .ok (.isub, 1) := dk_100 (dk_at dksX1_push_1 16 rfl rfl)
theorem dX1_push_39 : decode cX1_push 39 = .ok (.iload 4, 2) := dk_21 4 (dk_at dksX1_push_1 17 rfl rfl)
theorem dX1_push_41 : decode cX1_push 41 = .ok (.iadd, 1) := dk_96 (dk_at dksX1_push_1 19 rfl rfl)
theorem dX1_push_42 : decode cX1_push 42 = .ok (.iaload, 1) := dk_46 (dk_at dksX1_push_1 20 rfl rfl)
theorem dX1_push_43 : decode cX1_push 43 = .ok (.iastore, 1) := dk_79 (dk_at dksX1_push_1 21 rfl rfl)
theorem dX1_push_44 : decode cX1_push 44 = .ok (.iinc 4 1, 3) := dk_132 4 1 (dk_at dksX1_push_2 0 rfl rfl)
theorem dX1_push_47 : decode cX1_push 47 = .ok (.goto (-28), 3) := dk_167 255 228 (dk_at dksX1_push_2 3 rfl rfl)
theorem dX1_push_50 : decode cX1_push 50 = .ok (.aload_n 3, 1) := dk_45 (dk_at dksX1_push_2 6 rfl rfl)
theorem dX1_push_51 : decode cX1_push 51 = .ok (.iload_n 2, 1) := dk_28 (dk_at dksX1_push_2 7 rfl rfl)
theorem dX1_push_52 : decode cX1_push 52 = .ok (.iload_n 1, 1) := dk_27 (dk_at dksX1_push_2 8 rfl rfl)
theorem dX1_push_53 : decode cX1_push 53 = .ok (.iastore, 1) := dk_79 (dk_at dksX1_push_2 9 rfl rfl)
theorem dX1_push_54 : decode cX1_push 54 = .ok (.aload_n 0, 1) := dk_42 (dk_at dksX1_push_2 10 rfl rfl)
theorem dX1_push_55 : decode cX1_push 55 = .ok (.aload_n 3, 1) := dk_45 (dk_at dksX1_push_2 11 rfl rfl)
theorem dX1_push_56 : decode cX1_push 56 = .ok (.putfield 86, 3) := dk_181 0 86 (dk_at dksX1_push_2 12 rfl rfl)
theorem dX1_push_59 : decode cX1_push 59 = .ok (.return_, 1) := dk_177 (dk_at dksX1_push_2 15 rfl rfl)
def dkwX1_pop_2 : List UInt8 := [190, 46, 62, 42, 44, 181, 0, 86, 29, 172]
abbrev dktX1_pop_2 : List UInt8 := dkwX1_pop_2 ++ []
def dkwX1_pop_1 : List UInt8 := [190, 162, 0, 18, 44, 29, 42, 180, 0, 86, 29, 46, 79, 132, 3, 1, 167, 255, 238, 42, 180, 0, 86, 44]
abbrev dktX1_pop_1 : List UInt8 := dkwX1_pop_1 ++ dktX1_pop_2
def dkwX1_pop_0 : List UInt8 := [42, 180, 0, 86, 190, 154, 0, 5, 27, 172, 42, 180, 0, 86, 190, 4, 100, 188, 10, 77, 3, 62, 29, 44]
abbrev dktX1_pop_0 : List UInt8 := dkwX1_pop_0 ++ dktX1_pop_1
theorem dksX1_pop_0 : cX1_pop.data.toList.drop 0 = dktX1_pop_0 := by decide +kernel
theorem dksX1_pop_1 : cX1_pop.data.toList.drop 24 = dktX1_pop_1 := dk_seg dksX1_pop_0 24 rfl rfl
theorem dksX1_pop_2 : cX1_pop.data.toList.drop 48 = dktX1_pop_2 := dk_seg dksX1_pop_1 24 rfl rfl
theorem dX1_pop_0 : decode cX1_pop 0 = .ok (.aload_n 0, 1) := dk_42 (dk_at dksX1_pop_0 0 rfl rfl)
theorem dX1_pop_1 : decode cX1_pop 1 = .ok (.getfield 86, 3) := dk_180 0 86 (dk_at dksX1_pop_0 1 rfl rfl)
theorem dX1_pop_4 : decode cX1_pop 4 = .ok (.arraylength, 1) := dk_190 (dk_at dksX1_pop_0 4 rfl rfl)
theorem dX1_pop_5 : decode cX1_pop 5 = .ok (.ifCond .ne 5, 3) := dk_154 0 5 (dk_at dksX1_pop_0 5 rfl rfl)
theorem dX1_pop_8 : decode cX1_pop 8 = .ok (.iload_n 1, 1) := dk_27 (dk_at dksX1_pop_0 8 rfl rfl)
theorem dX1_pop_9 : decode cX1_pop 9 = .ok (.ireturn, 1) := dk_172 (dk_at dksX1_pop_0 9 rfl rfl)
theorem dX1_pop_10 : decode cX1_pop 10 = .ok (.aload_n 0, 1) := dk_42 (dk_at dksX1_pop_0 10 rfl rfl)
theorem dX1_pop_11 : decode cX1_pop 11 = .ok (.getfield 86, 3) := dk_180 0 86 (dk_at dksX1_pop_0 11 rfl rfl)
theorem dX1_pop_14 : decode cX1_pop 14 = .ok (.arraylength, 1) := dk_190 (dk_at dksX1_pop_0 14 rfl rfl)
theorem dX1_pop_15 : decode cX1_pop 15 = .ok (.iconst 1, 1) := dk_4 (dk_at dksX1_pop_0 15 rfl rfl)
theorem dX1_pop_16 : decode cX1_pop 16 = .ok (.isub, 1) := dk_100 (dk_at dksX1_pop_0 16 rfl rfl)
theorem dX1_pop_17 : decode cX1_pop 17 = .ok (.newarray .int, 2) := dk_188_10 (dk_at dksX1_pop_0 17 rfl rfl)
theorem dX1_pop_19 : decode cX1_pop 19 = .ok (.astore_n 2, 1) := dk_77 (dk_at dksX1_pop_0 19 rfl rfl)
theorem dX1_pop_20 : decode cX1_pop 20 = .ok (.iconst 0, 1) := dk_3 (dk_at dksX1_pop_0 20 rfl rfl)
theorem dX1_pop_21 : decode cX1_pop 21 = .ok (.istore_n 3, 1) := dk_62 (dk_at dksX1_pop_0 21 rfl rfl)
theorem dX1_pop_22 : decode cX1_pop 22 = .ok (.iload_n 3, 1) := dk_29 (dk_at dksX1_pop_0 22 rfl rfl)
theorem dX1_pop_23 : decode cX1_pop 23 = .ok (.aload_n 2, 1) := dk_44 (dk_at dksX1_pop_0 23 rfl rfl)
theorem dX1_pop_24 : decode cX1_pop 24 = .ok (.arraylength, 1) := dk_190 (dk_at dksX1_pop_1 0 rfl rfl)
theorem dX1_pop_25 : decode cX1_pop 25 = .ok (.if_icmp .ge 18, 3) := dk_162 0 18 (dk_at dksX1_pop_1 1 rfl rfl)
theorem dX1_pop_28 : decode cX1_pop 28 = .ok (.aload_n 2, 1) := dk_44 (dk_at dksX1_pop_1 4 rfl rfl)
theorem dX1_pop_29 : decode cX1_pop 29 = .ok (.iload_n 3, 1) := dk_29 (dk_at dksX1_pop_1 5 rfl rfl)
theorem dX1_pop_30 : decode cX1_pop 30 = .ok (.aload_n 0, 1) := dk_42 (dk_at dksX1_pop_1 6 rfl rfl)
theorem dX1_pop_31 : decode cX1_pop 31 = .ok (.getfield 86, 3) := dk_180 0 86 (dk_at dksX1_pop_1 7 rfl rfl)
theorem dX1_pop_34 : decode cX1_pop 34 = .ok (.iload_n 3, 1) := dk_29 (dk_at dksX1_pop_1 10 rfl rfl)
theorem dX1_pop_35 : decode cX1_pop 35 = .ok (.iaload, 1) := dk_46 (dk_at dksX1_pop_1 11 rfl rfl)
theorem dX1_pop_36 : decode cX1_pop 36 = .ok (.iastore, 1) := dk_79 (dk_at dksX1_pop_1 12 rfl rfl)
theorem dX1_pop_37 : decode cX1_pop 37 = .ok (.iinc 3 1, 3) := dk_132 3 1 (dk_at dksX1_pop_1 13 rfl rfl)
theorem dX1_pop_40 : decode cX1_pop 40 = .ok (.goto (-18), 3) := dk_167 255 238 (dk_at dksX1_pop_1 16 rfl rfl)
theorem dX1_pop_43 : decode cX1_pop 43 = .ok (.aload_n 0, 1) := dk_42 (dk_at dksX1_pop_1 19 rfl rfl)
theorem dX1_pop_44 : decode cX1_pop 44 = .ok (.getfield 86, 3) := dk_180 0 86 (dk_at dksX1_pop_1 20 rfl rfl)
theorem dX1_pop_47 : decode cX1_pop 47 = .ok (.aload_n 2, 1) := dk_44 (dk_at dksX1_pop_1 23 rfl rfl)
theorem dX1_pop_48 : decode cX1_pop 48 = .ok (.arraylength, 1) := dk_190 (dk_at dksX1_pop_2 0 rfl rfl)
theorem dX1_pop_49 : decode cX1_pop 49 = .ok (.iaload, 1) := dk_46 (dk_at dksX1_pop_2 1 rfl rfl)
theorem dX1_pop_50 : decode cX1_pop 50 = .ok (.istore_n 3, 1) := dk_62 (dk_at dksX1_pop_2 2 rfl rfl)
theorem dX1_pop_51 : decode cX1_pop 51 = .ok (.aload_n 0, 1) := dk_42 (dk_at dksX1_pop_2 3 rfl rfl)
theorem dX1_pop_52 : decode cX1_pop 52 = .ok (.aload_n 2, 1) := dk_44 (dk_at dksX1_pop_2 4 rfl rfl)
theorem dX1_pop_53 : decode cX1_pop 53 = .ok (.putfield 86, 3) := dk_181 0 86 (dk_at dksX1_pop_2 5 rfl rfl)
theorem dX1_pop_56 : decode cX1_pop 56 = .ok (.iload_n 3, 1) := dk_29 (dk_at dksX1_pop_2 8 rfl rfl)
theorem dX1_pop_57 : decode cX1_pop 57 = .ok (.ireturn, 1) := dk_172 (dk_at dksX1_pop_2 9 rfl rfl)
def dkwX1_kindAt_0 : List UInt8 := [42, 27, 182, 2, 84, 180, 2, 88, 172]
abbrev dktX1_kindAt_0 : List UInt8 := dkwX1_kindAt_0 ++ []
theorem dksX1_kindAt_0 : cX1_kindAt.data.toList.drop 0 = dktX1_kindAt_0 := by decide +kernel
theorem dX1_kindAt_0 : decode cX1_kindAt 0 = .ok (.aload_n 0, 1) := dk_42 (dk_at dksX1_kindAt_0 0 rfl rfl)
theorem dX1_kindAt_1 : decode cX1_kindAt 1 = .ok (.iload_n 1, 1) := dk_27 (dk_at dksX1_kindAt_0 1 rfl rfl)
theorem dX1_kindAt_2 : decode cX1_kindAt 2 = .ok (.invokevirtual 596, 3) := dk_182 2 84 (dk_at dksX1_kindAt_0 2 rfl rfl)
theorem dX1_kindAt_5 : decode cX1_kindAt 5 = .ok (.getfield 600, 3) := dk_180 2 88 (dk_at dksX1_kindAt_0 5 rfl rfl)
theorem dX1_kindAt_8 : decode cX1_kindAt 8 = .ok (.ireturn, 1) := dk_172 (dk_at dksX1_kindAt_0 8 rfl rfl)
def dkwX1_endWith_1 : List UInt8 := [192, 1, 144, 176]
abbrev dktX1_endWith_1 : List UInt8 := dkwX1_endWith_1 ++ []
def dkwX1_endWith_0 : List UInt8 := [27, 42, 180, 0, 107, 185, 2, 31, 1, 0, 184, 2, 81, 42, 180, 0, 107, 27, 185, 2, 32, 2, 0]
abbrev dktX1_endWith_0 : List UInt8 := dkwX1_endWith_0 ++ dktX1_endWith_1
theorem dksX1_endWith_0 : cX1_endWith.data.toList.drop 0 = dktX1_endWith_0 := by decide +kernel
theorem dksX1_endWith_1 : cX1_endWith.data.toList.drop 23 = dktX1_endWith_1 := dk_seg dksX1_endWith_0 23 rfl rfl
theorem dX1_endWith_0 : decode cX1_endWith 0 = .ok (.iload_n 1, 1) := dk_27 (dk_at dksX1_endWith_0 0 rfl rfl)
theorem dX1_endWith_1 : decode cX1_endWith 1 = .ok (.aload_n 0, 1) := dk_42 (dk_at dksX1_endWith_0 1 rfl rfl)
theorem dX1_endWith_2 : decode cX1_endWith 2 = .ok (.getfield 107, 3) := dk_180 0 107 (dk_at dksX1_endWith_0 2 rfl rfl)
theorem dX1_endWith_5 : decode cX1_endWith 5 = .ok (.invokeinterface 543 1, 5) := by decide +kernel
theorem dX1_endWith_10 : decode cX1_endWith 10 = .ok (.invokestatic 593, 3) := dk_184 2 81 (dk_at dksX1_endWith_0 10 rfl rfl)
theorem dX1_endWith_13 : decode cX1_endWith 13 = .ok (.aload_n 0, 1) := dk_42 (dk_at dksX1_endWith_0 13 rfl rfl)
theorem dX1_endWith_14 : decode cX1_endWith 14 = .ok (.getfield 107, 3) := dk_180 0 107 (dk_at dksX1_endWith_0 14 rfl rfl)
theorem dX1_endWith_17 : decode cX1_endWith 17 = .ok (.iload_n 1, 1) := dk_27 (dk_at dksX1_endWith_0 17 rfl rfl)
theorem dX1_endWith_18 : decode cX1_endWith 18 = .ok (.invokeinterface 544 2, 5) := by decide +kernel
theorem dX1_endWith_23 : decode cX1_endWith 23 = .ok (.checkcast 400, 3) := dk_192 1 144 (dk_at dksX1_endWith_1 0 rfl rfl)
theorem dX1_endWith_26 : decode cX1_endWith 26 = .ok (.areturn, 1) := dk_176 (dk_at dksX1_endWith_1 3 rfl rfl)
def dkwX1_checkIndex_0 : List UInt8 := [26, 3, 27, 4, 100, 184, 0, 3, 154, 0, 11, 187, 0, 150, 89, 183, 0, 152, 191, 177]
abbrev dktX1_checkIndex_0 : List UInt8 := dkwX1_checkIndex_0 ++ []
theorem dksX1_checkIndex_0 : cX1_checkIndex.data.toList.drop 0 = dktX1_checkIndex_0 := by decide +kernel
theorem dX1_checkIndex_0 : decode cX1_checkIndex 0 = .ok (.iload_n 0, 1) := dk_26 (dk_at dksX1_checkIndex_0 0 rfl rfl)
theorem dX1_checkIndex_1 : decode cX1_checkIndex 1 = .ok (.iconst 0, 1) := dk_3 (dk_at dksX1_checkIndex_0 1 rfl rfl)
theorem dX1_checkIndex_2 : decode cX1_checkIndex 2 = .ok (.iload_n 1, 1) := dk_27 (dk_at dksX1_checkIndex_0 2 rfl rfl)
theorem dX1_checkIndex_3 : decode cX1_checkIndex 3 = .ok (.iconst 1, 1) := dk_4 (dk_at dksX1_checkIndex_0 3 rfl rfl)
theorem dX1_checkIndex_4 : decode cX1_checkIndex 4 = .ok (.isub, 1) := dk_100 (dk_at dksX1_checkIndex_0 4 rfl rfl)
theorem dX1_checkIndex_5 : decode cX1_checkIndex 5 = .ok (.invokestatic 3, 3) := dk_184 0 3 (dk_at dksX1_checkIndex_0 5 rfl rfl)
theorem dX1_checkIndex_8 : decode cX1_checkIndex 8 = .ok (.ifCond .ne 11, 3) := dk_154 0 11 (dk_at dksX1_checkIndex_0 8 rfl rfl)
theorem dX1_checkIndex_11 : decode cX1_checkIndex 11 = .ok (.new 150, 3) := dk_187 0 150 (dk_at dksX1_checkIndex_0 11 rfl rfl)
theorem dX1_checkIndex_14 : decode cX1_checkIndex 14 = .ok (.dup, 1) := dk_89 (dk_at dksX1_checkIndex_0 14 rfl rfl)
theorem dX1_checkIndex_15 : decode cX1_checkIndex 15 = .ok (.invokespecial 152, 3) := dk_183 0 152 (dk_at dksX1_checkIndex_0 15 rfl rfl)
theorem dX1_checkIndex_18 : decode cX1_checkIndex 18 = .ok (.athrow, 1) := dk_191 (dk_at dksX1_checkIndex_0 18 rfl rfl)
theorem dX1_checkIndex_19 : decode cX1_checkIndex 19 = .ok (.return_, 1) := dk_177 (dk_at dksX1_checkIndex_0 19 rfl rfl)
def dkwX1_placeAt_0 : List UInt8 := [42, 27, 182, 2, 84, 180, 2, 91, 172]
abbrev dktX1_placeAt_0 : List UInt8 := dkwX1_placeAt_0 ++ []
theorem dksX1_placeAt_0 : cX1_placeAt.data.toList.drop 0 = dktX1_placeAt_0 := by decide +kernel
theorem dX1_placeAt_0 : decode cX1_placeAt 0 = .ok (.aload_n 0, 1) := dk_42 (dk_at dksX1_placeAt_0 0 rfl rfl)
theorem dX1_placeAt_1 : decode cX1_placeAt 1 = .ok (.iload_n 1, 1) := dk_27 (dk_at dksX1_placeAt_0 1 rfl rfl)
theorem dX1_placeAt_2 : decode cX1_placeAt 2 = .ok (.invokevirtual 596, 3) := dk_182 2 84 (dk_at dksX1_placeAt_0 2 rfl rfl)
theorem dX1_placeAt_5 : decode cX1_placeAt 5 = .ok (.getfield 603, 3) := dk_180 2 91 (dk_at dksX1_placeAt_0 5 rfl rfl)
theorem dX1_placeAt_8 : decode cX1_placeAt 8 = .ok (.ireturn, 1) := dk_172 (dk_at dksX1_placeAt_0 8 rfl rfl)
def dkwX1_kindByPlain_0 : List UInt8 := [42, 27, 182, 2, 84, 77, 42, 27, 182, 2, 114, 44, 184, 2, 110, 172]
abbrev dktX1_kindByPlain_0 : List UInt8 := dkwX1_kindByPlain_0 ++ []
theorem dksX1_kindByPlain_0 : cX1_kindByPlain.data.toList.drop 0 = dktX1_kindByPlain_0 := by decide +kernel
theorem dX1_kindByPlain_0 : decode cX1_kindByPlain 0 = .ok (.aload_n 0, 1) := dk_42 (dk_at dksX1_kindByPlain_0 0 rfl rfl)
theorem dX1_kindByPlain_1 : decode cX1_kindByPlain 1 = .ok (.iload_n 1, 1) := dk_27 (dk_at dksX1_kindByPlain_0 1 rfl rfl)
theorem dX1_kindByPlain_2 : decode cX1_kindByPlain 2 = .ok (.invokevirtual 596, 3) := dk_182 2 84 (dk_at dksX1_kindByPlain_0 2 rfl rfl)
theorem dX1_kindByPlain_5 : decode cX1_kindByPlain 5 = .ok (.astore_n 2, 1) := dk_77 (dk_at dksX1_kindByPlain_0 5 rfl rfl)
theorem dX1_kindByPlain_6 : decode cX1_kindByPlain 6 = .ok (.aload_n 0, 1) := dk_42 (dk_at dksX1_kindByPlain_0 6 rfl rfl)
theorem dX1_kindByPlain_7 : decode cX1_kindByPlain 7 = .ok (.iload_n 1, 1) := dk_27 (dk_at dksX1_kindByPlain_0 7 rfl rfl)
theorem dX1_kindByPlain_8 : decode cX1_kindByPlain 8 = .ok (.invokevirtual 626, 3) := dk_182 2 114 (dk_at dksX1_kindByPlain_0 8 rfl rfl)
theorem dX1_kindByPlain_11 : decode cX1_kindByPlain 11 = .ok (.aload_n 2, 1) := dk_44 (dk_at dksX1_kindByPlain_0 11 rfl rfl)
theorem dX1_kindByPlain_12 : decode cX1_kindByPlain 12 = .ok (.invokestatic 622, 3) := dk_184 2 110 (dk_at dksX1_kindByPlain_0 12 rfl rfl)
theorem dX1_kindByPlain_15 : decode cX1_kindByPlain 15 = .ok (.ireturn, 1) := dk_172 (dk_at dksX1_kindByPlain_0 15 rfl rfl)
def dkwX1_plainAhead_1 : List UInt8 := [192, 1, 144, 184, 2, 110, 87, 132, 3, 1, 167, 255, 230, 44, 176]
abbrev dktX1_plainAhead_1 : List UInt8 := dkwX1_plainAhead_1 ++ []
def dkwX1_plainAhead_0 : List UInt8 := [42, 182, 2, 106, 77, 3, 62, 29, 27, 162, 0, 27, 44, 42, 180, 0, 107, 29, 185, 2, 32, 2, 0]
abbrev dktX1_plainAhead_0 : List UInt8 := dkwX1_plainAhead_0 ++ dktX1_plainAhead_1
theorem dksX1_plainAhead_0 : cX1_plainAhead.data.toList.drop 0 = dktX1_plainAhead_0 := by decide +kernel
theorem dksX1_plainAhead_1 : cX1_plainAhead.data.toList.drop 23 = dktX1_plainAhead_1 := dk_seg dksX1_plainAhead_0 23 rfl rfl
theorem dX1_plainAhead_0 : decode cX1_plainAhead 0 = .ok (.aload_n 0, 1) := dk_42 (dk_at dksX1_plainAhead_0 0 rfl rfl)
theorem dX1_plainAhead_1 : decode cX1_plainAhead 1 = .ok (.invokevirtual 618, 3) := dk_182 2 106 (dk_at dksX1_plainAhead_0 1 rfl rfl)
theorem dX1_plainAhead_4 : decode cX1_plainAhead 4 = .ok (.astore_n 2, 1) := dk_77 (dk_at dksX1_plainAhead_0 4 rfl rfl)
theorem dX1_plainAhead_5 : decode cX1_plainAhead 5 = .ok (.iconst 0, 1) := dk_3 (dk_at dksX1_plainAhead_0 5 rfl rfl)
theorem dX1_plainAhead_6 : decode cX1_plainAhead 6 = .ok (.istore_n 3, 1) := dk_62 (dk_at dksX1_plainAhead_0 6 rfl rfl)
theorem dX1_plainAhead_7 : decode cX1_plainAhead 7 = .ok (.iload_n 3, 1) := dk_29 (dk_at dksX1_plainAhead_0 7 rfl rfl)
theorem dX1_plainAhead_8 : decode cX1_plainAhead 8 = .ok (.iload_n 1, 1) := dk_27 (dk_at dksX1_plainAhead_0 8 rfl rfl)
theorem dX1_plainAhead_9 : decode cX1_plainAhead 9 = .ok (.if_icmp .ge 27, 3) := dk_162 0 27 (dk_at dksX1_plainAhead_0 9 rfl rfl)
theorem dX1_plainAhead_12 : decode cX1_plainAhead 12 = .ok (.aload_n 2, 1) := dk_44 (dk_at dksX1_plainAhead_0 12 rfl rfl)
theorem dX1_plainAhead_13 : decode cX1_plainAhead 13 = .ok (.aload_n 0, 1) := dk_42 (dk_at dksX1_plainAhead_0 13 rfl rfl)
theorem dX1_plainAhead_14 : decode cX1_plainAhead 14 = .ok (.getfield 107, 3) := dk_180 0 107 (dk_at dksX1_plainAhead_0 14 rfl rfl)
theorem dX1_plainAhead_17 : decode cX1_plainAhead 17 = .ok (.iload_n 3, 1) := dk_29 (dk_at dksX1_plainAhead_0 17 rfl rfl)
theorem dX1_plainAhead_18 : decode cX1_plainAhead 18 = .ok (.invokeinterface 544 2, 5) := by decide +kernel
theorem dX1_plainAhead_23 : decode cX1_plainAhead 23 = .ok (.checkcast 400, 3) := dk_192 1 144 (dk_at dksX1_plainAhead_1 0 rfl rfl)
theorem dX1_plainAhead_26 : decode cX1_plainAhead 26 = .ok (.invokestatic 622, 3) := dk_184 2 110 (dk_at dksX1_plainAhead_1 3 rfl rfl)
theorem dX1_plainAhead_29 : decode cX1_plainAhead 29 = .ok (.pop, 1) := dk_87 (dk_at dksX1_plainAhead_1 6 rfl rfl)
theorem dX1_plainAhead_30 : decode cX1_plainAhead 30 = .ok (.iinc 3 1, 3) := dk_132 3 1 (dk_at dksX1_plainAhead_1 7 rfl rfl)
theorem dX1_plainAhead_33 : decode cX1_plainAhead 33 = .ok (.goto (-26), 3) := dk_167 255 230 (dk_at dksX1_plainAhead_1 10 rfl rfl)
theorem dX1_plainAhead_36 : decode cX1_plainAhead 36 = .ok (.aload_n 2, 1) := dk_44 (dk_at dksX1_plainAhead_1 13 rfl rfl)
theorem dX1_plainAhead_37 : decode cX1_plainAhead 37 = .ok (.areturn, 1) := dk_176 (dk_at dksX1_plainAhead_1 14 rfl rfl)
def dkwX1_placeByPlain_0 : List UInt8 := [42, 27, 182, 2, 84, 87, 42, 27, 182, 2, 114, 180, 2, 118, 172]
abbrev dktX1_placeByPlain_0 : List UInt8 := dkwX1_placeByPlain_0 ++ []
theorem dksX1_placeByPlain_0 : cX1_placeByPlain.data.toList.drop 0 = dktX1_placeByPlain_0 := by decide +kernel
theorem dX1_placeByPlain_0 : decode cX1_placeByPlain 0 = .ok (.aload_n 0, 1) := dk_42 (dk_at dksX1_placeByPlain_0 0 rfl rfl)
theorem dX1_placeByPlain_1 : decode cX1_placeByPlain 1 = .ok (.iload_n 1, 1) := dk_27 (dk_at dksX1_placeByPlain_0 1 rfl rfl)
theorem dX1_placeByPlain_2 : decode cX1_placeByPlain 2 = .ok (.invokevirtual 596, 3) := dk_182 2 84 (dk_at dksX1_placeByPlain_0 2 rfl rfl)
theorem dX1_placeByPlain_5 : decode cX1_placeByPlain 5 = .ok (.pop, 1) := dk_87 (dk_at dksX1_placeByPlain_0 5 rfl rfl)
theorem dX1_placeByPlain_6 : decode cX1_placeByPlain 6 = .ok (.aload_n 0, 1) := dk_42 (dk_at dksX1_placeByPlain_0 6 rfl rfl)
theorem dX1_placeByPlain_7 : decode cX1_placeByPlain 7 = .ok (.iload_n 1, 1) := dk_27 (dk_at dksX1_placeByPlain_0 7 rfl rfl)
theorem dX1_placeByPlain_8 : decode cX1_placeByPlain 8 = .ok (.invokevirtual 626, 3) := dk_182 2 114 (dk_at dksX1_placeByPlain_0 8 rfl rfl)
theorem dX1_placeByPlain_11 : decode cX1_placeByPlain 11 = .ok (.getfield 630, 3) := dk_180 2 118 (dk_at dksX1_placeByPlain_0 11 rfl rfl)
theorem dX1_placeByPlain_14 : decode cX1_placeByPlain 14 = .ok (.ireturn, 1) := dk_172 (dk_at dksX1_placeByPlain_0 14 rfl rfl)
def dkwX1_register_0 : List UInt8 := [27, 184, 2, 63, 184, 2, 66, 42, 180, 0, 50, 42, 180, 0, 63, 27, 46, 46, 172]
abbrev dktX1_register_0 : List UInt8 := dkwX1_register_0 ++ []
theorem dksX1_register_0 : cX1_register.data.toList.drop 0 = dktX1_register_0 := by decide +kernel
theorem dX1_register_0 : decode cX1_register 0 = .ok (.iload_n 1, 1) := dk_27 (dk_at dksX1_register_0 0 rfl rfl)
theorem dX1_register_1 : decode cX1_register 1 = .ok (.invokestatic 575, 3) := dk_184 2 63 (dk_at dksX1_register_0 1 rfl rfl)
theorem dX1_register_4 : decode cX1_register 4 = .ok (.invokestatic 578, 3) := dk_184 2 66 (dk_at dksX1_register_0 4 rfl rfl)
theorem dX1_register_7 : decode cX1_register 7 = .ok (.aload_n 0, 1) := dk_42 (dk_at dksX1_register_0 7 rfl rfl)
theorem dX1_register_8 : decode cX1_register 8 = .ok (.getfield 50, 3) := dk_180 0 50 (dk_at dksX1_register_0 8 rfl rfl)
theorem dX1_register_11 : decode cX1_register 11 = .ok (.aload_n 0, 1) := dk_42 (dk_at dksX1_register_0 11 rfl rfl)
theorem dX1_register_12 : decode cX1_register 12 = .ok (.getfield 63, 3) := dk_180 0 63 (dk_at dksX1_register_0 12 rfl rfl)
theorem dX1_register_15 : decode cX1_register 15 = .ok (.iload_n 1, 1) := dk_27 (dk_at dksX1_register_0 15 rfl rfl)
theorem dX1_register_16 : decode cX1_register 16 = .ok (.iaload, 1) := dk_46 (dk_at dksX1_register_0 16 rfl rfl)
theorem dX1_register_17 : decode cX1_register 17 = .ok (.iaload, 1) := dk_46 (dk_at dksX1_register_0 17 rfl rfl)
theorem dX1_register_18 : decode cX1_register 18 = .ok (.ireturn, 1) := dk_172 (dk_at dksX1_register_0 18 rfl rfl)
def dkwX1_registerByPlain_1 : List UInt8 := [46, 172]
abbrev dktX1_registerByPlain_1 : List UInt8 := dkwX1_registerByPlain_1 ++ []
def dkwX1_registerByPlain_0 : List UInt8 := [27, 184, 2, 63, 184, 2, 66, 42, 42, 180, 0, 107, 185, 2, 31, 1, 0, 182, 2, 114, 180, 2, 119, 27]
abbrev dktX1_registerByPlain_0 : List UInt8 := dkwX1_registerByPlain_0 ++ dktX1_registerByPlain_1
theorem dksX1_registerByPlain_0 : cX1_registerByPlain.data.toList.drop 0 = dktX1_registerByPlain_0 := by decide +kernel
theorem dksX1_registerByPlain_1 : cX1_registerByPlain.data.toList.drop 24 = dktX1_registerByPlain_1 := dk_seg dksX1_registerByPlain_0 24 rfl rfl
theorem dX1_registerByPlain_0 : decode cX1_registerByPlain 0 = .ok (.iload_n 1, 1) := dk_27 (dk_at dksX1_registerByPlain_0 0 rfl rfl)
theorem dX1_registerByPlain_1 : decode cX1_registerByPlain 1 = .ok (.invokestatic 575, 3) := dk_184 2 63 (dk_at dksX1_registerByPlain_0 1 rfl rfl)
theorem dX1_registerByPlain_4 : decode cX1_registerByPlain 4 = .ok (.invokestatic 578, 3) := dk_184 2 66 (dk_at dksX1_registerByPlain_0 4 rfl rfl)
theorem dX1_registerByPlain_7 : decode cX1_registerByPlain 7 = .ok (.aload_n 0, 1) := dk_42 (dk_at dksX1_registerByPlain_0 7 rfl rfl)
theorem dX1_registerByPlain_8 : decode cX1_registerByPlain 8 = .ok (.aload_n 0, 1) := dk_42 (dk_at dksX1_registerByPlain_0 8 rfl rfl)
theorem dX1_registerByPlain_9 : decode cX1_registerByPlain 9 = .ok (.getfield 107, 3) := dk_180 0 107 (dk_at dksX1_registerByPlain_0 9 rfl rfl)
theorem dX1_registerByPlain_12 : decode cX1_registerByPlain 12 = .ok (.invokeinterface 543 1, 5) := by decide +kernel
theorem dX1_registerByPlain_17 : decode cX1_registerByPlain 17 = .ok (.invokevirtual 626, 3) := dk_182 2 114 (dk_at dksX1_registerByPlain_0 17 rfl rfl)
theorem dX1_registerByPlain_20 : decode cX1_registerByPlain 20 = .ok (.getfield 631, 3) := dk_180 2 119 (dk_at dksX1_registerByPlain_0 20 rfl rfl)
theorem dX1_registerByPlain_23 : decode cX1_registerByPlain 23 = .ok (.iload_n 1, 1) := dk_27 (dk_at dksX1_registerByPlain_0 23 rfl rfl)
theorem dX1_registerByPlain_24 : decode cX1_registerByPlain 24 = .ok (.iaload, 1) := dk_46 (dk_at dksX1_registerByPlain_1 0 rfl rfl)
theorem dX1_registerByPlain_25 : decode cX1_registerByPlain 25 = .ok (.ireturn, 1) := dk_172 (dk_at dksX1_registerByPlain_1 1 rfl rfl)
def dkwX1_word_0 : List UInt8 := [27, 184, 0, 253, 184, 2, 66, 42, 180, 0, 27, 27, 46, 172]
abbrev dktX1_word_0 : List UInt8 := dkwX1_word_0 ++ []
theorem dksX1_word_0 : cX1_word.data.toList.drop 0 = dktX1_word_0 := by decide +kernel
theorem dX1_word_0 : decode cX1_word 0 = .ok (.iload_n 1, 1) := dk_27 (dk_at dksX1_word_0 0 rfl rfl)
theorem dX1_word_1 : decode cX1_word 1 = .ok (.invokestatic 253, 3) := dk_184 0 253 (dk_at dksX1_word_0 1 rfl rfl)
theorem dX1_word_4 : decode cX1_word 4 = .ok (.invokestatic 578, 3) := dk_184 2 66 (dk_at dksX1_word_0 4 rfl rfl)
theorem dX1_word_7 : decode cX1_word 7 = .ok (.aload_n 0, 1) := dk_42 (dk_at dksX1_word_0 7 rfl rfl)
theorem dX1_word_8 : decode cX1_word 8 = .ok (.getfield 27, 3) := dk_180 0 27 (dk_at dksX1_word_0 8 rfl rfl)
theorem dX1_word_11 : decode cX1_word 11 = .ok (.iload_n 1, 1) := dk_27 (dk_at dksX1_word_0 11 rfl rfl)
theorem dX1_word_12 : decode cX1_word 12 = .ok (.iaload, 1) := dk_46 (dk_at dksX1_word_0 12 rfl rfl)
theorem dX1_word_13 : decode cX1_word 13 = .ok (.ireturn, 1) := dk_172 (dk_at dksX1_word_0 13 rfl rfl)
def dkwX1_wordByPlain_1 : List UInt8 := [46, 172]
abbrev dktX1_wordByPlain_1 : List UInt8 := dkwX1_wordByPlain_1 ++ []
def dkwX1_wordByPlain_0 : List UInt8 := [27, 184, 0, 253, 184, 2, 66, 42, 42, 180, 0, 107, 185, 2, 31, 1, 0, 182, 2, 114, 180, 2, 122, 27]
abbrev dktX1_wordByPlain_0 : List UInt8 := dkwX1_wordByPlain_0 ++ dktX1_wordByPlain_1
theorem dksX1_wordByPlain_0 : cX1_wordByPlain.data.toList.drop 0 = dktX1_wordByPlain_0 := by decide +kernel
theorem dksX1_wordByPlain_1 : cX1_wordByPlain.data.toList.drop 24 = dktX1_wordByPlain_1 := dk_seg dksX1_wordByPlain_0 24 rfl rfl
theorem dX1_wordByPlain_0 : decode cX1_wordByPlain 0 = .ok (.iload_n 1, 1) := dk_27 (dk_at dksX1_wordByPlain_0 0 rfl rfl)
theorem dX1_wordByPlain_1 : decode cX1_wordByPlain 1 = .ok (.invokestatic 253, 3) := dk_184 0 253 (dk_at dksX1_wordByPlain_0 1 rfl rfl)
theorem dX1_wordByPlain_4 : decode cX1_wordByPlain 4 = .ok (.invokestatic 578, 3) := dk_184 2 66 (dk_at dksX1_wordByPlain_0 4 rfl rfl)
theorem dX1_wordByPlain_7 : decode cX1_wordByPlain 7 = .ok (.aload_n 0, 1) := dk_42 (dk_at dksX1_wordByPlain_0 7 rfl rfl)
theorem dX1_wordByPlain_8 : decode cX1_wordByPlain 8 = .ok (.aload_n 0, 1) := dk_42 (dk_at dksX1_wordByPlain_0 8 rfl rfl)
theorem dX1_wordByPlain_9 : decode cX1_wordByPlain 9 = .ok (.getfield 107, 3) := dk_180 0 107 (dk_at dksX1_wordByPlain_0 9 rfl rfl)
theorem dX1_wordByPlain_12 : decode cX1_wordByPlain 12 = .ok (.invokeinterface 543 1, 5) := by decide +kernel
theorem dX1_wordByPlain_17 : decode cX1_wordByPlain 17 = .ok (.invokevirtual 626, 3) := dk_182 2 114 (dk_at dksX1_wordByPlain_0 17 rfl rfl)
theorem dX1_wordByPlain_20 : decode cX1_wordByPlain 20 = .ok (.getfield 634, 3) := dk_180 2 122 (dk_at dksX1_wordByPlain_0 20 rfl rfl)
theorem dX1_wordByPlain_23 : decode cX1_wordByPlain 23 = .ok (.iload_n 1, 1) := dk_27 (dk_at dksX1_wordByPlain_0 23 rfl rfl)
theorem dX1_wordByPlain_24 : decode cX1_wordByPlain 24 = .ok (.iaload, 1) := dk_46 (dk_at dksX1_wordByPlain_1 0 rfl rfl)
theorem dX1_wordByPlain_25 : decode cX1_wordByPlain 25 = .ok (.ireturn, 1) := dk_172 (dk_at dksX1_wordByPlain_1 1 rfl rfl)
def dkwX1_kept_0 : List UInt8 := [42, 180, 0, 33, 180, 1, 100, 184, 2, 123, 42, 180, 0, 33, 180, 2, 126, 172]
abbrev dktX1_kept_0 : List UInt8 := dkwX1_kept_0 ++ []
theorem dksX1_kept_0 : cX1_kept.data.toList.drop 0 = dktX1_kept_0 := by decide +kernel
theorem dX1_kept_0 : decode cX1_kept 0 = .ok (.aload_n 0, 1) := dk_42 (dk_at dksX1_kept_0 0 rfl rfl)
theorem dX1_kept_1 : decode cX1_kept 1 = .ok (.getfield 33, 3) := dk_180 0 33 (dk_at dksX1_kept_0 1 rfl rfl)
theorem dX1_kept_4 : decode cX1_kept 4 = .ok (.getfield 356, 3) := dk_180 1 100 (dk_at dksX1_kept_0 4 rfl rfl)
theorem dX1_kept_7 : decode cX1_kept 7 = .ok (.invokestatic 635, 3) := dk_184 2 123 (dk_at dksX1_kept_0 7 rfl rfl)
theorem dX1_kept_10 : decode cX1_kept 10 = .ok (.aload_n 0, 1) := dk_42 (dk_at dksX1_kept_0 10 rfl rfl)
theorem dX1_kept_11 : decode cX1_kept 11 = .ok (.getfield 33, 3) := dk_180 0 33 (dk_at dksX1_kept_0 11 rfl rfl)
theorem dX1_kept_14 : decode cX1_kept 14 = .ok (.getfield 638, 3) := dk_180 2 126 (dk_at dksX1_kept_0 14 rfl rfl)
theorem dX1_kept_17 : decode cX1_kept 17 = .ok (.ireturn, 1) := dk_172 (dk_at dksX1_kept_0 17 rfl rfl)
def dkwX1_checkElement_0 : List UInt8 := [26, 154, 0, 11, 187, 0, 147, 89, 183, 0, 149, 191, 177]
abbrev dktX1_checkElement_0 : List UInt8 := dkwX1_checkElement_0 ++ []
theorem dksX1_checkElement_0 : cX1_checkElement.data.toList.drop 0 = dktX1_checkElement_0 := by decide +kernel
theorem dX1_checkElement_0 : decode cX1_checkElement 0 = .ok (.iload_n 0, 1) := dk_26 (dk_at dksX1_checkElement_0 0 rfl rfl)
theorem dX1_checkElement_1 : decode cX1_checkElement 1 = .ok (.ifCond .ne 11, 3) := dk_154 0 11 (dk_at dksX1_checkElement_0 1 rfl rfl)
theorem dX1_checkElement_4 : decode cX1_checkElement 4 = .ok (.new 147, 3) := dk_187 0 147 (dk_at dksX1_checkElement_0 4 rfl rfl)
theorem dX1_checkElement_7 : decode cX1_checkElement 7 = .ok (.dup, 1) := dk_89 (dk_at dksX1_checkElement_0 7 rfl rfl)
theorem dX1_checkElement_8 : decode cX1_checkElement 8 = .ok (.invokespecial 149, 3) := dk_183 0 149 (dk_at dksX1_checkElement_0 8 rfl rfl)
theorem dX1_checkElement_11 : decode cX1_checkElement 11 = .ok (.athrow, 1) := dk_191 (dk_at dksX1_checkElement_0 11 rfl rfl)
theorem dX1_checkElement_12 : decode cX1_checkElement 12 = .ok (.return_, 1) := dk_177 (dk_at dksX1_checkElement_0 12 rfl rfl)
def dkwX1_life_5 : List UInt8 := [45, 180, 2, 141, 172]
abbrev dktX1_life_5 : List UInt8 := dkwX1_life_5 ++ []
def dkwX1_life_4 : List UInt8 := [25, 4, 180, 2, 135, 172, 25, 4, 180, 2, 10, 172, 25, 4, 180, 2, 132, 172, 25, 4, 180, 2, 138, 172]
abbrev dktX1_life_4 : List UInt8 := dkwX1_life_4 ++ dktX1_life_5
def dkwX1_life_3 : List UInt8 := [170, 0, 0, 0, 0, 0, 55, 0, 0, 0, 0, 0, 0, 0, 3, 0, 0, 0, 31, 0, 0, 0, 37, 0, 0, 0, 43, 0, 0, 0, 49]
abbrev dktX1_life_3 : List UInt8 := dkwX1_life_3 ++ dktX1_life_4
def dkwX1_life_2 : List UInt8 := [184, 2, 123, 28]
abbrev dktX1_life_2 : List UInt8 := dkwX1_life_2 ++ dktX1_life_3
def dkwX1_life_1 : List UInt8 := [198, 0, 21, 28, 5, 160, 0, 12, 25, 4, 180, 2, 132, 2, 159, 0, 7, 4, 167, 0, 4, 3]
abbrev dktX1_life_1 : List UInt8 := dkwX1_life_1 ++ dktX1_life_2
def dkwX1_life_0 : List UInt8 := [42, 27, 182, 2, 84, 78, 28, 3, 7, 184, 0, 3, 184, 2, 66, 45, 180, 2, 129, 58, 4, 25, 4]
abbrev dktX1_life_0 : List UInt8 := dkwX1_life_0 ++ dktX1_life_1
theorem dksX1_life_0 : cX1_life.data.toList.drop 0 = dktX1_life_0 := by decide +kernel
theorem dksX1_life_1 : cX1_life.data.toList.drop 23 = dktX1_life_1 := dk_seg dksX1_life_0 23 rfl rfl
theorem dksX1_life_2 : cX1_life.data.toList.drop 45 = dktX1_life_2 := dk_seg dksX1_life_1 22 rfl rfl
theorem dksX1_life_3 : cX1_life.data.toList.drop 49 = dktX1_life_3 := dk_seg dksX1_life_2 4 rfl rfl
theorem dksX1_life_4 : cX1_life.data.toList.drop 80 = dktX1_life_4 := dk_seg dksX1_life_3 31 rfl rfl
theorem dksX1_life_5 : cX1_life.data.toList.drop 104 = dktX1_life_5 := dk_seg dksX1_life_4 24 rfl rfl
theorem dX1_life_0 : decode cX1_life 0 = .ok (.aload_n 0, 1) := dk_42 (dk_at dksX1_life_0 0 rfl rfl)
theorem dX1_life_1 : decode cX1_life 1 = .ok (.iload_n 1, 1) := dk_27 (dk_at dksX1_life_0 1 rfl rfl)
theorem dX1_life_2 : decode cX1_life 2 = .ok (.invokevirtual 596, 3) := dk_182 2 84 (dk_at dksX1_life_0 2 rfl rfl)
theorem dX1_life_5 : decode cX1_life 5 = .ok (.astore_n 3, 1) := dk_78 (dk_at dksX1_life_0 5 rfl rfl)
theorem dX1_life_6 : decode cX1_life 6 = .ok (.iload_n 2, 1) := dk_28 (dk_at dksX1_life_0 6 rfl rfl)
theorem dX1_life_7 : decode cX1_life 7 = .ok (.iconst 0, 1) := dk_3 (dk_at dksX1_life_0 7 rfl rfl)
theorem dX1_life_8 : decode cX1_life 8 = .ok (.iconst 4, 1) := dk_7 (dk_at dksX1_life_0 8 rfl rfl)
theorem dX1_life_9 : decode cX1_life 9 = .ok (.invokestatic 3, 3) := dk_184 0 3 (dk_at dksX1_life_0 9 rfl rfl)
theorem dX1_life_12 : decode cX1_life 12 = .ok (.invokestatic 578, 3) := dk_184 2 66 (dk_at dksX1_life_0 12 rfl rfl)
theorem dX1_life_15 : decode cX1_life 15 = .ok (.aload_n 3, 1) := dk_45 (dk_at dksX1_life_0 15 rfl rfl)
theorem dX1_life_16 : decode cX1_life 16 = .ok (.getfield 641, 3) := dk_180 2 129 (dk_at dksX1_life_0 16 rfl rfl)
theorem dX1_life_19 : decode cX1_life 19 = .ok (.astore 4, 2) := dk_58 4 (dk_at dksX1_life_0 19 rfl rfl)
theorem dX1_life_21 : decode cX1_life 21 = .ok (.aload 4, 2) := dk_25 4 (dk_at dksX1_life_0 21 rfl rfl)
theorem dX1_life_23 : decode cX1_life 23 = .ok (.ifnull 21, 3) := dk_198 0 21 (dk_at dksX1_life_1 0 rfl rfl)
theorem dX1_life_26 : decode cX1_life 26 = .ok (.iload_n 2, 1) := dk_28 (dk_at dksX1_life_1 3 rfl rfl)
theorem dX1_life_27 : decode cX1_life 27 = .ok (.iconst 2, 1) := dk_5 (dk_at dksX1_life_1 4 rfl rfl)
theorem dX1_life_28 : decode cX1_life 28 = .ok (.if_icmp .ne 12, 3) := dk_160 0 12 (dk_at dksX1_life_1 5 rfl rfl)
theorem dX1_life_31 : decode cX1_life 31 = .ok (.aload 4, 2) := dk_25 4 (dk_at dksX1_life_1 8 rfl rfl)
theorem dX1_life_33 : decode cX1_life 33 = .ok (.getfield 644, 3) := dk_180 2 132 (dk_at dksX1_life_1 10 rfl rfl)
theorem dX1_life_36 : decode cX1_life 36 = .ok (.iconst (-1), 1) := dk_2 (dk_at dksX1_life_1 13 rfl rfl)
theorem dX1_life_37 : decode cX1_life 37 = .ok (.if_icmp .eq 7, 3) := dk_159 0 7 (dk_at dksX1_life_1 14 rfl rfl)
theorem dX1_life_40 : decode cX1_life 40 = .ok (.iconst 1, 1) := dk_4 (dk_at dksX1_life_1 17 rfl rfl)
theorem dX1_life_41 : decode cX1_life 41 = .ok (.goto 4, 3) := dk_167 0 4 (dk_at dksX1_life_1 18 rfl rfl)
theorem dX1_life_44 : decode cX1_life 44 = .ok (.iconst 0, 1) := dk_3 (dk_at dksX1_life_1 21 rfl rfl)
theorem dX1_life_45 : decode cX1_life 45 = .ok (.invokestatic 635, 3) := dk_184 2 123 (dk_at dksX1_life_2 0 rfl rfl)
theorem dX1_life_48 : decode cX1_life 48 = .ok (.iload_n 2, 1) := dk_28 (dk_at dksX1_life_2 3 rfl rfl)
theorem dX1_life_49 : decode cX1_life 49 = .ok (.tableswitch 55 0 3 #[31, 37, 43, 49], 31) := by decide +kernel
theorem dX1_life_80 : decode cX1_life 80 = .ok (.aload 4, 2) := dk_25 4 (dk_at dksX1_life_4 0 rfl rfl)
theorem dX1_life_82 : decode cX1_life 82 = .ok (.getfield 647, 3) := dk_180 2 135 (dk_at dksX1_life_4 2 rfl rfl)
theorem dX1_life_85 : decode cX1_life 85 = .ok (.ireturn, 1) := dk_172 (dk_at dksX1_life_4 5 rfl rfl)
theorem dX1_life_86 : decode cX1_life 86 = .ok (.aload 4, 2) := dk_25 4 (dk_at dksX1_life_4 6 rfl rfl)
theorem dX1_life_88 : decode cX1_life 88 = .ok (.getfield 522, 3) := dk_180 2 10 (dk_at dksX1_life_4 8 rfl rfl)
theorem dX1_life_91 : decode cX1_life 91 = .ok (.ireturn, 1) := dk_172 (dk_at dksX1_life_4 11 rfl rfl)
theorem dX1_life_92 : decode cX1_life 92 = .ok (.aload 4, 2) := dk_25 4 (dk_at dksX1_life_4 12 rfl rfl)
theorem dX1_life_94 : decode cX1_life 94 = .ok (.getfield 644, 3) := dk_180 2 132 (dk_at dksX1_life_4 14 rfl rfl)
theorem dX1_life_97 : decode cX1_life 97 = .ok (.ireturn, 1) := dk_172 (dk_at dksX1_life_4 17 rfl rfl)
theorem dX1_life_98 : decode cX1_life 98 = .ok (.aload 4, 2) := dk_25 4 (dk_at dksX1_life_4 18 rfl rfl)
theorem dX1_life_100 : decode cX1_life 100 = .ok (.getfield 650, 3) := dk_180 2 138 (dk_at dksX1_life_4 20 rfl rfl)
theorem dX1_life_103 : decode cX1_life 103 = .ok (.ireturn, 1) := dk_172 (dk_at dksX1_life_4 23 rfl rfl)
theorem dX1_life_104 : decode cX1_life 104 = .ok (.aload_n 3, 1) := dk_45 (dk_at dksX1_life_5 0 rfl rfl)
theorem dX1_life_105 : decode cX1_life 105 = .ok (.getfield 653, 3) := dk_180 2 141 (dk_at dksX1_life_5 1 rfl rfl)
theorem dX1_life_108 : decode cX1_life 108 = .ok (.ireturn, 1) := dk_172 (dk_at dksX1_life_5 4 rfl rfl)
def dkwX1_inner_0 : List UInt8 := [27, 184, 2, 63, 184, 2, 66, 42, 180, 0, 60, 27, 46, 172]
abbrev dktX1_inner_0 : List UInt8 := dkwX1_inner_0 ++ []
theorem dksX1_inner_0 : cX1_inner.data.toList.drop 0 = dktX1_inner_0 := by decide +kernel
theorem dX1_inner_0 : decode cX1_inner 0 = .ok (.iload_n 1, 1) := dk_27 (dk_at dksX1_inner_0 0 rfl rfl)
theorem dX1_inner_1 : decode cX1_inner 1 = .ok (.invokestatic 575, 3) := dk_184 2 63 (dk_at dksX1_inner_0 1 rfl rfl)
theorem dX1_inner_4 : decode cX1_inner 4 = .ok (.invokestatic 578, 3) := dk_184 2 66 (dk_at dksX1_inner_0 4 rfl rfl)
theorem dX1_inner_7 : decode cX1_inner 7 = .ok (.aload_n 0, 1) := dk_42 (dk_at dksX1_inner_0 7 rfl rfl)
theorem dX1_inner_8 : decode cX1_inner 8 = .ok (.getfield 60, 3) := dk_180 0 60 (dk_at dksX1_inner_0 8 rfl rfl)
theorem dX1_inner_11 : decode cX1_inner 11 = .ok (.iload_n 1, 1) := dk_27 (dk_at dksX1_inner_0 11 rfl rfl)
theorem dX1_inner_12 : decode cX1_inner 12 = .ok (.iaload, 1) := dk_46 (dk_at dksX1_inner_0 12 rfl rfl)
theorem dX1_inner_13 : decode cX1_inner 13 = .ok (.ireturn, 1) := dk_172 (dk_at dksX1_inner_0 13 rfl rfl)
def dkwX1_innerAnew_3 : List UInt8 := [28, 61, 167, 255, 205, 28, 172]
abbrev dktX1_innerAnew_3 : List UInt8 := dkwX1_innerAnew_3 ++ []
def dkwX1_innerAnew_2 : List UInt8 := [2, 159, 0, 23, 25, 4, 180, 0, 220, 180, 1, 84, 27, 160, 0, 11, 25, 4, 180, 1, 72, 167, 0, 4]
abbrev dktX1_innerAnew_2 : List UInt8 := dkwX1_innerAnew_2 ++ dktX1_innerAnew_3
def dkwX1_innerAnew_1 : List UInt8 := [185, 0, 164, 1, 0, 153, 0, 48, 45, 185, 0, 170, 1, 0, 192, 0, 188, 58, 4, 25, 4, 180, 1, 72]
abbrev dktX1_innerAnew_1 : List UInt8 := dkwX1_innerAnew_1 ++ dktX1_innerAnew_2
def dkwX1_innerAnew_0 : List UInt8 := [27, 184, 2, 63, 184, 2, 66, 42, 180, 0, 63, 27, 46, 61, 42, 180, 0, 79, 182, 0, 160, 78, 45]
abbrev dktX1_innerAnew_0 : List UInt8 := dkwX1_innerAnew_0 ++ dktX1_innerAnew_1
theorem dksX1_innerAnew_0 : cX1_innerAnew.data.toList.drop 0 = dktX1_innerAnew_0 := by decide +kernel
theorem dksX1_innerAnew_1 : cX1_innerAnew.data.toList.drop 23 = dktX1_innerAnew_1 := dk_seg dksX1_innerAnew_0 23 rfl rfl
theorem dksX1_innerAnew_2 : cX1_innerAnew.data.toList.drop 47 = dktX1_innerAnew_2 := dk_seg dksX1_innerAnew_1 24 rfl rfl
theorem dksX1_innerAnew_3 : cX1_innerAnew.data.toList.drop 71 = dktX1_innerAnew_3 := dk_seg dksX1_innerAnew_2 24 rfl rfl
theorem dX1_innerAnew_0 : decode cX1_innerAnew 0 = .ok (.iload_n 1, 1) := dk_27 (dk_at dksX1_innerAnew_0 0 rfl rfl)
theorem dX1_innerAnew_1 : decode cX1_innerAnew 1 = .ok (.invokestatic 575, 3) := dk_184 2 63 (dk_at dksX1_innerAnew_0 1 rfl rfl)
theorem dX1_innerAnew_4 : decode cX1_innerAnew 4 = .ok (.invokestatic 578, 3) := dk_184 2 66 (dk_at dksX1_innerAnew_0 4 rfl rfl)
theorem dX1_innerAnew_7 : decode cX1_innerAnew 7 = .ok (.aload_n 0, 1) := dk_42 (dk_at dksX1_innerAnew_0 7 rfl rfl)
theorem dX1_innerAnew_8 : decode cX1_innerAnew 8 = .ok (.getfield 63, 3) := dk_180 0 63 (dk_at dksX1_innerAnew_0 8 rfl rfl)
theorem dX1_innerAnew_11 : decode cX1_innerAnew 11 = .ok (.iload_n 1, 1) := dk_27 (dk_at dksX1_innerAnew_0 11 rfl rfl)
theorem dX1_innerAnew_12 : decode cX1_innerAnew 12 = .ok (.iaload, 1) := dk_46 (dk_at dksX1_innerAnew_0 12 rfl rfl)
theorem dX1_innerAnew_13 : decode cX1_innerAnew 13 = .ok (.istore_n 2, 1) := dk_61 (dk_at dksX1_innerAnew_0 13 rfl rfl)
theorem dX1_innerAnew_14 : decode cX1_innerAnew 14 = .ok (.aload_n 0, 1) := dk_42 (dk_at dksX1_innerAnew_0 14 rfl rfl)
theorem dX1_innerAnew_15 : decode cX1_innerAnew 15 = .ok (.getfield 79, 3) := dk_180 0 79 (dk_at dksX1_innerAnew_0 15 rfl rfl)
theorem dX1_innerAnew_18 : decode cX1_innerAnew 18 = .ok (.invokevirtual 160, 3) := dk_182 0 160 (dk_at dksX1_innerAnew_0 18 rfl rfl)
theorem dX1_innerAnew_21 : decode cX1_innerAnew 21 = .ok (.astore_n 3, 1) := dk_78 (dk_at dksX1_innerAnew_0 21 rfl rfl)
theorem dX1_innerAnew_22 : decode cX1_innerAnew 22 = .ok (.aload_n 3, 1) := dk_45 (dk_at dksX1_innerAnew_0 22 rfl rfl)
theorem dX1_innerAnew_23 : decode cX1_innerAnew 23 = .ok (.invokeinterface 164 1, 5) := by decide +kernel
theorem dX1_innerAnew_28 : decode cX1_innerAnew 28 = .ok (.ifCond .eq 48, 3) := dk_153 0 48 (dk_at dksX1_innerAnew_1 5 rfl rfl)
theorem dX1_innerAnew_31 : decode cX1_innerAnew 31 = .ok (.aload_n 3, 1) := dk_45 (dk_at dksX1_innerAnew_1 8 rfl rfl)
theorem dX1_innerAnew_32 : decode cX1_innerAnew 32 = .ok (.invokeinterface 170 1, 5) := by decide +kernel
theorem dX1_innerAnew_37 : decode cX1_innerAnew 37 = .ok (.checkcast 188, 3) := dk_192 0 188 (dk_at dksX1_innerAnew_1 14 rfl rfl)
theorem dX1_innerAnew_40 : decode cX1_innerAnew 40 = .ok (.astore 4, 2) := dk_58 4 (dk_at dksX1_innerAnew_1 17 rfl rfl)
theorem dX1_innerAnew_42 : decode cX1_innerAnew 42 = .ok (.aload 4, 2) := dk_25 4 (dk_at dksX1_innerAnew_1 19 rfl rfl)
theorem dX1_innerAnew_44 : decode cX1_innerAnew 44 = .ok (.getfield 328, 3) := dk_180 1 72 (dk_at dksX1_innerAnew_1 21 rfl rfl)
theorem dX1_innerAnew_47 : decode cX1_innerAnew 47 = .ok (.iconst (-1), 1) := dk_2 (dk_at dksX1_innerAnew_2 0 rfl rfl)
theorem dX1_innerAnew_48 : decode cX1_innerAnew 48 = .ok (.if_icmp .eq 23, 3) := dk_159 0 23 (dk_at dksX1_innerAnew_2 1 rfl rfl)
theorem dX1_innerAnew_51 : decode cX1_innerAnew 51 = .ok (.aload 4, 2) := dk_25 4 (dk_at dksX1_innerAnew_2 4 rfl rfl)
theorem dX1_innerAnew_53 : decode cX1_innerAnew 53 = .ok (.getfield 220, 3) := dk_180 0 220 (dk_at dksX1_innerAnew_2 6 rfl rfl)
theorem dX1_innerAnew_56 : decode cX1_innerAnew 56 = .ok (.getfield 340, 3) := dk_180 1 84 (dk_at dksX1_innerAnew_2 9 rfl rfl)
theorem dX1_innerAnew_59 : decode cX1_innerAnew 59 = .ok (.iload_n 1, 1) := dk_27 (dk_at dksX1_innerAnew_2 12 rfl rfl)
theorem dX1_innerAnew_60 : decode cX1_innerAnew 60 = .ok (.if_icmp .ne 11, 3) := dk_160 0 11 (dk_at dksX1_innerAnew_2 13 rfl rfl)
theorem dX1_innerAnew_63 : decode cX1_innerAnew 63 = .ok (.aload 4, 2) := dk_25 4 (dk_at dksX1_innerAnew_2 16 rfl rfl)
theorem dX1_innerAnew_65 : decode cX1_innerAnew 65 = .ok (.getfield 328, 3) := dk_180 1 72 (dk_at dksX1_innerAnew_2 18 rfl rfl)
theorem dX1_innerAnew_68 : decode cX1_innerAnew 68 = .ok (.goto 4, 3) := dk_167 0 4 (dk_at dksX1_innerAnew_2 21 rfl rfl)
theorem dX1_innerAnew_71 : decode cX1_innerAnew 71 = .ok (.iload_n 2, 1) := dk_28 (dk_at dksX1_innerAnew_3 0 rfl rfl)
theorem dX1_innerAnew_72 : decode cX1_innerAnew 72 = .ok (.istore_n 2, 1) := dk_61 (dk_at dksX1_innerAnew_3 1 rfl rfl)
theorem dX1_innerAnew_73 : decode cX1_innerAnew 73 = .ok (.goto (-51), 3) := dk_167 255 205 (dk_at dksX1_innerAnew_3 2 rfl rfl)
theorem dX1_innerAnew_76 : decode cX1_innerAnew 76 = .ok (.iload_n 2, 1) := dk_28 (dk_at dksX1_innerAnew_3 5 rfl rfl)
theorem dX1_innerAnew_77 : decode cX1_innerAnew 77 = .ok (.ireturn, 1) := dk_172 (dk_at dksX1_innerAnew_3 6 rfl rfl)
def dkwX1_stateOf_1 : List UInt8 := [172, 42, 180, 0, 60, 27, 184, 2, 145, 153, 0, 8, 16, 109, 167, 0, 5, 16, 119, 172]
abbrev dktX1_stateOf_1 : List UInt8 := dkwX1_stateOf_1 ++ []
def dkwX1_stateOf_0 : List UInt8 := [27, 42, 180, 0, 47, 184, 2, 81, 42, 180, 0, 69, 27, 184, 0, 131, 182, 2, 142, 153, 0, 6, 16, 102]
abbrev dktX1_stateOf_0 : List UInt8 := dkwX1_stateOf_0 ++ dktX1_stateOf_1
theorem dksX1_stateOf_0 : cX1_stateOf.data.toList.drop 0 = dktX1_stateOf_0 := by decide +kernel
theorem dksX1_stateOf_1 : cX1_stateOf.data.toList.drop 24 = dktX1_stateOf_1 := dk_seg dksX1_stateOf_0 24 rfl rfl
theorem dX1_stateOf_0 : decode cX1_stateOf 0 = .ok (.iload_n 1, 1) := dk_27 (dk_at dksX1_stateOf_0 0 rfl rfl)
theorem dX1_stateOf_1 : decode cX1_stateOf 1 = .ok (.aload_n 0, 1) := dk_42 (dk_at dksX1_stateOf_0 1 rfl rfl)
theorem dX1_stateOf_2 : decode cX1_stateOf 2 = .ok (.getfield 47, 3) := dk_180 0 47 (dk_at dksX1_stateOf_0 2 rfl rfl)
theorem dX1_stateOf_5 : decode cX1_stateOf 5 = .ok (.invokestatic 593, 3) := dk_184 2 81 (dk_at dksX1_stateOf_0 5 rfl rfl)
theorem dX1_stateOf_8 : decode cX1_stateOf 8 = .ok (.aload_n 0, 1) := dk_42 (dk_at dksX1_stateOf_0 8 rfl rfl)
theorem dX1_stateOf_9 : decode cX1_stateOf 9 = .ok (.getfield 69, 3) := dk_180 0 69 (dk_at dksX1_stateOf_0 9 rfl rfl)
theorem dX1_stateOf_12 : decode cX1_stateOf 12 = .ok (.iload_n 1, 1) := dk_27 (dk_at dksX1_stateOf_0 12 rfl rfl)
theorem dX1_stateOf_13 : decode cX1_stateOf 13 = .ok (.invokestatic 131, 3) := dk_184 0 131 (dk_at dksX1_stateOf_0 13 rfl rfl)
theorem dX1_stateOf_16 : decode cX1_stateOf 16 = .ok (.invokevirtual 654, 3) := dk_182 2 142 (dk_at dksX1_stateOf_0 16 rfl rfl)
theorem dX1_stateOf_19 : decode cX1_stateOf 19 = .ok (.ifCond .eq 6, 3) := dk_153 0 6 (dk_at dksX1_stateOf_0 19 rfl rfl)
theorem dX1_stateOf_22 : decode cX1_stateOf 22 = .ok (.bipush 102, 2) := dk_16 102 (dk_at dksX1_stateOf_0 22 rfl rfl)
theorem dX1_stateOf_24 : decode cX1_stateOf 24 = .ok (.ireturn, 1) := dk_172 (dk_at dksX1_stateOf_1 0 rfl rfl)
theorem dX1_stateOf_25 : decode cX1_stateOf 25 = .ok (.aload_n 0, 1) := dk_42 (dk_at dksX1_stateOf_1 1 rfl rfl)
theorem dX1_stateOf_26 : decode cX1_stateOf 26 = .ok (.getfield 60, 3) := dk_180 0 60 (dk_at dksX1_stateOf_1 2 rfl rfl)
theorem dX1_stateOf_29 : decode cX1_stateOf 29 = .ok (.iload_n 1, 1) := dk_27 (dk_at dksX1_stateOf_1 5 rfl rfl)
theorem dX1_stateOf_30 : decode cX1_stateOf 30 = .ok (.invokestatic 657, 3) := dk_184 2 145 (dk_at dksX1_stateOf_1 6 rfl rfl)
theorem dX1_stateOf_33 : decode cX1_stateOf 33 = .ok (.ifCond .eq 8, 3) := dk_153 0 8 (dk_at dksX1_stateOf_1 9 rfl rfl)
theorem dX1_stateOf_36 : decode cX1_stateOf 36 = .ok (.bipush 109, 2) := dk_16 109 (dk_at dksX1_stateOf_1 12 rfl rfl)
theorem dX1_stateOf_38 : decode cX1_stateOf 38 = .ok (.goto 5, 3) := dk_167 0 5 (dk_at dksX1_stateOf_1 14 rfl rfl)
theorem dX1_stateOf_41 : decode cX1_stateOf 41 = .ok (.bipush 119, 2) := dk_16 119 (dk_at dksX1_stateOf_1 17 rfl rfl)
theorem dX1_stateOf_43 : decode cX1_stateOf 43 = .ok (.ireturn, 1) := dk_172 (dk_at dksX1_stateOf_1 19 rfl rfl)
def dkwX1_isReady_0 : List UInt8 := [27, 42, 180, 0, 47, 184, 2, 81, 42, 180, 0, 56, 27, 182, 1, 103, 172]
abbrev dktX1_isReady_0 : List UInt8 := dkwX1_isReady_0 ++ []
theorem dksX1_isReady_0 : cX1_isReady.data.toList.drop 0 = dktX1_isReady_0 := by decide +kernel
theorem dX1_isReady_0 : decode cX1_isReady 0 = .ok (.iload_n 1, 1) := dk_27 (dk_at dksX1_isReady_0 0 rfl rfl)
theorem dX1_isReady_1 : decode cX1_isReady 1 = .ok (.aload_n 0, 1) := dk_42 (dk_at dksX1_isReady_0 1 rfl rfl)
theorem dX1_isReady_2 : decode cX1_isReady 2 = .ok (.getfield 47, 3) := dk_180 0 47 (dk_at dksX1_isReady_0 2 rfl rfl)
theorem dX1_isReady_5 : decode cX1_isReady 5 = .ok (.invokestatic 593, 3) := dk_184 2 81 (dk_at dksX1_isReady_0 5 rfl rfl)
theorem dX1_isReady_8 : decode cX1_isReady 8 = .ok (.aload_n 0, 1) := dk_42 (dk_at dksX1_isReady_0 8 rfl rfl)
theorem dX1_isReady_9 : decode cX1_isReady 9 = .ok (.getfield 56, 3) := dk_180 0 56 (dk_at dksX1_isReady_0 9 rfl rfl)
theorem dX1_isReady_12 : decode cX1_isReady 12 = .ok (.iload_n 1, 1) := dk_27 (dk_at dksX1_isReady_0 12 rfl rfl)
theorem dX1_isReady_13 : decode cX1_isReady 13 = .ok (.invokevirtual 359, 3) := dk_182 1 103 (dk_at dksX1_isReady_0 13 rfl rfl)
theorem dX1_isReady_16 : decode cX1_isReady 16 = .ok (.ireturn, 1) := dk_172 (dk_at dksX1_isReady_0 16 rfl rfl)
def dkwX1_freeAt_2 : List UInt8 := [185, 0, 170, 1, 0, 192, 0, 132, 182, 2, 19, 62, 132, 4, 1, 167, 255, 234, 29, 172]
abbrev dktX1_freeAt_2 : List UInt8 := dkwX1_freeAt_2 ++ []
def dkwX1_freeAt_1 : List UInt8 := [185, 0, 170, 1, 0, 192, 0, 132, 182, 2, 19, 62, 3, 54, 4, 21, 4, 27, 162, 0, 22, 44]
abbrev dktX1_freeAt_1 : List UInt8 := dkwX1_freeAt_1 ++ dktX1_freeAt_2
def dkwX1_freeAt_0 : List UInt8 := [27, 42, 180, 0, 69, 182, 2, 30, 184, 2, 81, 42, 180, 0, 69, 182, 2, 148, 77, 44]
abbrev dktX1_freeAt_0 : List UInt8 := dkwX1_freeAt_0 ++ dktX1_freeAt_1
theorem dksX1_freeAt_0 : cX1_freeAt.data.toList.drop 0 = dktX1_freeAt_0 := by decide +kernel
theorem dksX1_freeAt_1 : cX1_freeAt.data.toList.drop 20 = dktX1_freeAt_1 := dk_seg dksX1_freeAt_0 20 rfl rfl
theorem dksX1_freeAt_2 : cX1_freeAt.data.toList.drop 42 = dktX1_freeAt_2 := dk_seg dksX1_freeAt_1 22 rfl rfl
theorem dX1_freeAt_0 : decode cX1_freeAt 0 = .ok (.iload_n 1, 1) := dk_27 (dk_at dksX1_freeAt_0 0 rfl rfl)
theorem dX1_freeAt_1 : decode cX1_freeAt 1 = .ok (.aload_n 0, 1) := dk_42 (dk_at dksX1_freeAt_0 1 rfl rfl)
theorem dX1_freeAt_2 : decode cX1_freeAt 2 = .ok (.getfield 69, 3) := dk_180 0 69 (dk_at dksX1_freeAt_0 2 rfl rfl)
theorem dX1_freeAt_5 : decode cX1_freeAt 5 = .ok (.invokevirtual 542, 3) := dk_182 2 30 (dk_at dksX1_freeAt_0 5 rfl rfl)
theorem dX1_freeAt_8 : decode cX1_freeAt 8 = .ok (.invokestatic 593, 3) := dk_184 2 81 (dk_at dksX1_freeAt_0 8 rfl rfl)
theorem dX1_freeAt_11 : decode cX1_freeAt 11 = .ok (.aload_n 0, 1) := dk_42 (dk_at dksX1_freeAt_0 11 rfl rfl)
theorem dX1_freeAt_12 : decode cX1_freeAt 12 = .ok (.getfield 69, 3) := dk_180 0 69 (dk_at dksX1_freeAt_0 12 rfl rfl)
theorem dX1_freeAt_15 : decode cX1_freeAt 15 = .ok (.invokevirtual 660, 3) := dk_182 2 148 (dk_at dksX1_freeAt_0 15 rfl rfl)
theorem dX1_freeAt_18 : decode cX1_freeAt 18 = .ok (.astore_n 2, 1) := dk_77 (dk_at dksX1_freeAt_0 18 rfl rfl)
theorem dX1_freeAt_19 : decode cX1_freeAt 19 = .ok (.aload_n 2, 1) := dk_44 (dk_at dksX1_freeAt_0 19 rfl rfl)
theorem dX1_freeAt_20 : decode cX1_freeAt 20 = .ok (.invokeinterface 170 1, 5) := by decide +kernel
theorem dX1_freeAt_25 : decode cX1_freeAt 25 = .ok (.checkcast 132, 3) := dk_192 0 132 (dk_at dksX1_freeAt_1 5 rfl rfl)
theorem dX1_freeAt_28 : decode cX1_freeAt 28 = .ok (.invokevirtual 531, 3) := dk_182 2 19 (dk_at dksX1_freeAt_1 8 rfl rfl)
theorem dX1_freeAt_31 : decode cX1_freeAt 31 = .ok (.istore_n 3, 1) := dk_62 (dk_at dksX1_freeAt_1 11 rfl rfl)
theorem dX1_freeAt_32 : decode cX1_freeAt 32 = .ok (.iconst 0, 1) := dk_3 (dk_at dksX1_freeAt_1 12 rfl rfl)
theorem dX1_freeAt_33 : decode cX1_freeAt 33 = .ok (.istore 4, 2) := dk_54 4 (dk_at dksX1_freeAt_1 13 rfl rfl)
theorem dX1_freeAt_35 : decode cX1_freeAt 35 = .ok (.iload 4, 2) := dk_21 4 (dk_at dksX1_freeAt_1 15 rfl rfl)
theorem dX1_freeAt_37 : decode cX1_freeAt 37 = .ok (.iload_n 1, 1) := dk_27 (dk_at dksX1_freeAt_1 17 rfl rfl)
theorem dX1_freeAt_38 : decode cX1_freeAt 38 = .ok (.if_icmp .ge 22, 3) := dk_162 0 22 (dk_at dksX1_freeAt_1 18 rfl rfl)
theorem dX1_freeAt_41 : decode cX1_freeAt 41 = .ok (.aload_n 2, 1) := dk_44 (dk_at dksX1_freeAt_1 21 rfl rfl)
theorem dX1_freeAt_42 : decode cX1_freeAt 42 = .ok (.invokeinterface 170 1, 5) := by decide +kernel
theorem dX1_freeAt_47 : decode cX1_freeAt 47 = .ok (.checkcast 132, 3) := dk_192 0 132 (dk_at dksX1_freeAt_2 5 rfl rfl)
theorem dX1_freeAt_50 : decode cX1_freeAt 50 = .ok (.invokevirtual 531, 3) := dk_182 2 19 (dk_at dksX1_freeAt_2 8 rfl rfl)
theorem dX1_freeAt_53 : decode cX1_freeAt 53 = .ok (.istore_n 3, 1) := dk_62 (dk_at dksX1_freeAt_2 11 rfl rfl)
theorem dX1_freeAt_54 : decode cX1_freeAt 54 = .ok (.iinc 4 1, 3) := dk_132 4 1 (dk_at dksX1_freeAt_2 12 rfl rfl)
theorem dX1_freeAt_57 : decode cX1_freeAt 57 = .ok (.goto (-22), 3) := dk_167 255 234 (dk_at dksX1_freeAt_2 15 rfl rfl)
theorem dX1_freeAt_60 : decode cX1_freeAt 60 = .ok (.iload_n 3, 1) := dk_29 (dk_at dksX1_freeAt_2 18 rfl rfl)
theorem dX1_freeAt_61 : decode cX1_freeAt 61 = .ok (.ireturn, 1) := dk_172 (dk_at dksX1_freeAt_2 19 rfl rfl)
def dkwX1_bufferAt_0 : List UInt8 := [42, 27, 182, 2, 150, 180, 1, 28, 172]
abbrev dktX1_bufferAt_0 : List UInt8 := dkwX1_bufferAt_0 ++ []
theorem dksX1_bufferAt_0 : cX1_bufferAt.data.toList.drop 0 = dktX1_bufferAt_0 := by decide +kernel
theorem dX1_bufferAt_0 : decode cX1_bufferAt 0 = .ok (.aload_n 0, 1) := dk_42 (dk_at dksX1_bufferAt_0 0 rfl rfl)
theorem dX1_bufferAt_1 : decode cX1_bufferAt 1 = .ok (.iload_n 1, 1) := dk_27 (dk_at dksX1_bufferAt_0 1 rfl rfl)
theorem dX1_bufferAt_2 : decode cX1_bufferAt 2 = .ok (.invokevirtual 662, 3) := dk_182 2 150 (dk_at dksX1_bufferAt_0 2 rfl rfl)
theorem dX1_bufferAt_5 : decode cX1_bufferAt 5 = .ok (.getfield 284, 3) := dk_180 1 28 (dk_at dksX1_bufferAt_0 5 rfl rfl)
theorem dX1_bufferAt_8 : decode cX1_bufferAt 8 = .ok (.ireturn, 1) := dk_172 (dk_at dksX1_bufferAt_0 8 rfl rfl)
def dkwX1_flightAt_0 : List UInt8 := [27, 42, 180, 0, 79, 182, 1, 240, 184, 2, 81, 42, 180, 0, 79, 27, 182, 2, 149, 192, 0, 188, 176]
abbrev dktX1_flightAt_0 : List UInt8 := dkwX1_flightAt_0 ++ []
theorem dksX1_flightAt_0 : cX1_flightAt.data.toList.drop 0 = dktX1_flightAt_0 := by decide +kernel
theorem dX1_flightAt_0 : decode cX1_flightAt 0 = .ok (.iload_n 1, 1) := dk_27 (dk_at dksX1_flightAt_0 0 rfl rfl)
theorem dX1_flightAt_1 : decode cX1_flightAt 1 = .ok (.aload_n 0, 1) := dk_42 (dk_at dksX1_flightAt_0 1 rfl rfl)
theorem dX1_flightAt_2 : decode cX1_flightAt 2 = .ok (.getfield 79, 3) := dk_180 0 79 (dk_at dksX1_flightAt_0 2 rfl rfl)
theorem dX1_flightAt_5 : decode cX1_flightAt 5 = .ok (.invokevirtual 496, 3) := dk_182 1 240 (dk_at dksX1_flightAt_0 5 rfl rfl)
theorem dX1_flightAt_8 : decode cX1_flightAt 8 = .ok (.invokestatic 593, 3) := dk_184 2 81 (dk_at dksX1_flightAt_0 8 rfl rfl)
theorem dX1_flightAt_11 : decode cX1_flightAt 11 = .ok (.aload_n 0, 1) := dk_42 (dk_at dksX1_flightAt_0 11 rfl rfl)
theorem dX1_flightAt_12 : decode cX1_flightAt 12 = .ok (.getfield 79, 3) := dk_180 0 79 (dk_at dksX1_flightAt_0 12 rfl rfl)
theorem dX1_flightAt_15 : decode cX1_flightAt 15 = .ok (.iload_n 1, 1) := dk_27 (dk_at dksX1_flightAt_0 15 rfl rfl)
theorem dX1_flightAt_16 : decode cX1_flightAt 16 = .ok (.invokevirtual 661, 3) := dk_182 2 149 (dk_at dksX1_flightAt_0 16 rfl rfl)
theorem dX1_flightAt_19 : decode cX1_flightAt 19 = .ok (.checkcast 188, 3) := dk_192 0 188 (dk_at dksX1_flightAt_0 19 rfl rfl)
theorem dX1_flightAt_22 : decode cX1_flightAt 22 = .ok (.areturn, 1) := dk_176 (dk_at dksX1_flightAt_0 22 rfl rfl)
def dkwX1_stageAt_0 : List UInt8 := [42, 27, 182, 2, 150, 180, 0, 190, 172]
abbrev dktX1_stageAt_0 : List UInt8 := dkwX1_stageAt_0 ++ []
theorem dksX1_stageAt_0 : cX1_stageAt.data.toList.drop 0 = dktX1_stageAt_0 := by decide +kernel
theorem dX1_stageAt_0 : decode cX1_stageAt 0 = .ok (.aload_n 0, 1) := dk_42 (dk_at dksX1_stageAt_0 0 rfl rfl)
theorem dX1_stageAt_1 : decode cX1_stageAt 1 = .ok (.iload_n 1, 1) := dk_27 (dk_at dksX1_stageAt_0 1 rfl rfl)
theorem dX1_stageAt_2 : decode cX1_stageAt 2 = .ok (.invokevirtual 662, 3) := dk_182 2 150 (dk_at dksX1_stageAt_0 2 rfl rfl)
theorem dX1_stageAt_5 : decode cX1_stageAt 5 = .ok (.getfield 190, 3) := dk_180 0 190 (dk_at dksX1_stageAt_0 5 rfl rfl)
theorem dX1_stageAt_8 : decode cX1_stageAt 8 = .ok (.ireturn, 1) := dk_172 (dk_at dksX1_stageAt_0 8 rfl rfl)
def dkwX1_fetching_0 : List UInt8 := [42, 180, 1, 38, 2, 159, 0, 7, 4, 167, 0, 4, 3, 184, 2, 123, 42, 180, 1, 38, 172]
abbrev dktX1_fetching_0 : List UInt8 := dkwX1_fetching_0 ++ []
theorem dksX1_fetching_0 : cX1_fetching.data.toList.drop 0 = dktX1_fetching_0 := by decide +kernel
theorem dX1_fetching_0 : decode cX1_fetching 0 = .ok (.aload_n 0, 1) := dk_42 (dk_at dksX1_fetching_0 0 rfl rfl)
theorem dX1_fetching_1 : decode cX1_fetching 1 = .ok (.getfield 294, 3) := dk_180 1 38 (dk_at dksX1_fetching_0 1 rfl rfl)
theorem dX1_fetching_4 : decode cX1_fetching 4 = .ok (.iconst (-1), 1) := dk_2 (dk_at dksX1_fetching_0 4 rfl rfl)
theorem dX1_fetching_5 : decode cX1_fetching 5 = .ok (.if_icmp .eq 7, 3) := dk_159 0 7 (dk_at dksX1_fetching_0 5 rfl rfl)
theorem dX1_fetching_8 : decode cX1_fetching 8 = .ok (.iconst 1, 1) := dk_4 (dk_at dksX1_fetching_0 8 rfl rfl)
theorem dX1_fetching_9 : decode cX1_fetching 9 = .ok (.goto 4, 3) := dk_167 0 4 (dk_at dksX1_fetching_0 9 rfl rfl)
theorem dX1_fetching_12 : decode cX1_fetching 12 = .ok (.iconst 0, 1) := dk_3 (dk_at dksX1_fetching_0 12 rfl rfl)
theorem dX1_fetching_13 : decode cX1_fetching 13 = .ok (.invokestatic 635, 3) := dk_184 2 123 (dk_at dksX1_fetching_0 13 rfl rfl)
theorem dX1_fetching_16 : decode cX1_fetching 16 = .ok (.aload_n 0, 1) := dk_42 (dk_at dksX1_fetching_0 16 rfl rfl)
theorem dX1_fetching_17 : decode cX1_fetching 17 = .ok (.getfield 294, 3) := dk_180 1 38 (dk_at dksX1_fetching_0 17 rfl rfl)
theorem dX1_fetching_20 : decode cX1_fetching 20 = .ok (.ireturn, 1) := dk_172 (dk_at dksX1_fetching_0 20 rfl rfl)
def dkwX1_returnAt_0 : List UInt8 := [27, 42, 180, 0, 86, 190, 184, 2, 81, 42, 180, 0, 86, 42, 180, 0, 86, 190, 4, 100, 27, 100, 46, 172]
abbrev dktX1_returnAt_0 : List UInt8 := dkwX1_returnAt_0 ++ []
theorem dksX1_returnAt_0 : cX1_returnAt.data.toList.drop 0 = dktX1_returnAt_0 := by decide +kernel
theorem dX1_returnAt_0 : decode cX1_returnAt 0 = .ok (.iload_n 1, 1) := dk_27 (dk_at dksX1_returnAt_0 0 rfl rfl)
theorem dX1_returnAt_1 : decode cX1_returnAt 1 = .ok (.aload_n 0, 1) := dk_42 (dk_at dksX1_returnAt_0 1 rfl rfl)
theorem dX1_returnAt_2 : decode cX1_returnAt 2 = .ok (.getfield 86, 3) := dk_180 0 86 (dk_at dksX1_returnAt_0 2 rfl rfl)
theorem dX1_returnAt_5 : decode cX1_returnAt 5 = .ok (.arraylength, 1) := dk_190 (dk_at dksX1_returnAt_0 5 rfl rfl)
theorem dX1_returnAt_6 : decode cX1_returnAt 6 = .ok (.invokestatic 593, 3) := dk_184 2 81 (dk_at dksX1_returnAt_0 6 rfl rfl)
theorem dX1_returnAt_9 : decode cX1_returnAt 9 = .ok (.aload_n 0, 1) := dk_42 (dk_at dksX1_returnAt_0 9 rfl rfl)
theorem dX1_returnAt_10 : decode cX1_returnAt 10 = .ok (.getfield 86, 3) := dk_180 0 86 (dk_at dksX1_returnAt_0 10 rfl rfl)
theorem dX1_returnAt_13 : decode cX1_returnAt 13 = .ok (.aload_n 0, 1) := dk_42 (dk_at dksX1_returnAt_0 13 rfl rfl)
theorem dX1_returnAt_14 : decode cX1_returnAt 14 = .ok (.getfield 86, 3) := dk_180 0 86 (dk_at dksX1_returnAt_0 14 rfl rfl)
theorem dX1_returnAt_17 : decode cX1_returnAt 17 = .ok (.arraylength, 1) := dk_190 (dk_at dksX1_returnAt_0 17 rfl rfl)
theorem dX1_returnAt_18 : decode cX1_returnAt 18 = .ok (.iconst 1, 1) := dk_4 (dk_at dksX1_returnAt_0 18 rfl rfl)
theorem dX1_returnAt_19 : decode cX1_returnAt 19 = .ok (.isub, 1) := dk_100 (dk_at dksX1_returnAt_0 19 rfl rfl)
theorem dX1_returnAt_20 : decode cX1_returnAt 20 = .ok (.iload_n 1, 1) := dk_27 (dk_at dksX1_returnAt_0 20 rfl rfl)
theorem dX1_returnAt_21 : decode cX1_returnAt 21 = .ok (.isub, 1) := dk_100 (dk_at dksX1_returnAt_0 21 rfl rfl)
theorem dX1_returnAt_22 : decode cX1_returnAt 22 = .ok (.iaload, 1) := dk_46 (dk_at dksX1_returnAt_0 22 rfl rfl)
theorem dX1_returnAt_23 : decode cX1_returnAt 23 = .ok (.ireturn, 1) := dk_172 (dk_at dksX1_returnAt_0 23 rfl rfl)
def dkwX1_counter_0 : List UInt8 := [27, 3, 16, 15, 184, 0, 3, 184, 2, 66, 42, 180, 0, 89, 27, 46, 172]
abbrev dktX1_counter_0 : List UInt8 := dkwX1_counter_0 ++ []
theorem dksX1_counter_0 : cX1_counter.data.toList.drop 0 = dktX1_counter_0 := by decide +kernel
theorem dX1_counter_0 : decode cX1_counter 0 = .ok (.iload_n 1, 1) := dk_27 (dk_at dksX1_counter_0 0 rfl rfl)
theorem dX1_counter_1 : decode cX1_counter 1 = .ok (.iconst 0, 1) := dk_3 (dk_at dksX1_counter_0 1 rfl rfl)
theorem dX1_counter_2 : decode cX1_counter 2 = .ok (.bipush 15, 2) := dk_16 15 (dk_at dksX1_counter_0 2 rfl rfl)
theorem dX1_counter_4 : decode cX1_counter 4 = .ok (.invokestatic 3, 3) := dk_184 0 3 (dk_at dksX1_counter_0 4 rfl rfl)
theorem dX1_counter_7 : decode cX1_counter 7 = .ok (.invokestatic 578, 3) := dk_184 2 66 (dk_at dksX1_counter_0 7 rfl rfl)
theorem dX1_counter_10 : decode cX1_counter 10 = .ok (.aload_n 0, 1) := dk_42 (dk_at dksX1_counter_0 10 rfl rfl)
theorem dX1_counter_11 : decode cX1_counter 11 = .ok (.getfield 89, 3) := dk_180 0 89 (dk_at dksX1_counter_0 11 rfl rfl)
theorem dX1_counter_14 : decode cX1_counter 14 = .ok (.iload_n 1, 1) := dk_27 (dk_at dksX1_counter_0 14 rfl rfl)
theorem dX1_counter_15 : decode cX1_counter 15 = .ok (.iaload, 1) := dk_46 (dk_at dksX1_counter_0 15 rfl rfl)
theorem dX1_counter_16 : decode cX1_counter 16 = .ok (.ireturn, 1) := dk_172 (dk_at dksX1_counter_0 16 rfl rfl)
def dkwX1_isMarked_0 : List UInt8 := [27, 3, 16, 15, 184, 0, 3, 184, 2, 66, 42, 180, 0, 95, 27, 182, 1, 103, 172]
abbrev dktX1_isMarked_0 : List UInt8 := dkwX1_isMarked_0 ++ []
theorem dksX1_isMarked_0 : cX1_isMarked.data.toList.drop 0 = dktX1_isMarked_0 := by decide +kernel
theorem dX1_isMarked_0 : decode cX1_isMarked 0 = .ok (.iload_n 1, 1) := dk_27 (dk_at dksX1_isMarked_0 0 rfl rfl)
theorem dX1_isMarked_1 : decode cX1_isMarked 1 = .ok (.iconst 0, 1) := dk_3 (dk_at dksX1_isMarked_0 1 rfl rfl)
theorem dX1_isMarked_2 : decode cX1_isMarked 2 = .ok (.bipush 15, 2) := dk_16 15 (dk_at dksX1_isMarked_0 2 rfl rfl)
theorem dX1_isMarked_4 : decode cX1_isMarked 4 = .ok (.invokestatic 3, 3) := dk_184 0 3 (dk_at dksX1_isMarked_0 4 rfl rfl)
theorem dX1_isMarked_7 : decode cX1_isMarked 7 = .ok (.invokestatic 578, 3) := dk_184 2 66 (dk_at dksX1_isMarked_0 7 rfl rfl)
theorem dX1_isMarked_10 : decode cX1_isMarked 10 = .ok (.aload_n 0, 1) := dk_42 (dk_at dksX1_isMarked_0 10 rfl rfl)
theorem dX1_isMarked_11 : decode cX1_isMarked 11 = .ok (.getfield 95, 3) := dk_180 0 95 (dk_at dksX1_isMarked_0 11 rfl rfl)
theorem dX1_isMarked_14 : decode cX1_isMarked 14 = .ok (.iload_n 1, 1) := dk_27 (dk_at dksX1_isMarked_0 14 rfl rfl)
theorem dX1_isMarked_15 : decode cX1_isMarked 15 = .ok (.invokevirtual 359, 3) := dk_182 1 103 (dk_at dksX1_isMarked_0 15 rfl rfl)
theorem dX1_isMarked_18 : decode cX1_isMarked 18 = .ok (.ireturn, 1) := dk_172 (dk_at dksX1_isMarked_0 18 rfl rfl)
def dkwX1_lineAt_0 : List UInt8 := [27, 3, 6, 184, 0, 3, 184, 2, 66, 42, 180, 0, 101, 27, 46, 172]
abbrev dktX1_lineAt_0 : List UInt8 := dkwX1_lineAt_0 ++ []
theorem dksX1_lineAt_0 : cX1_lineAt.data.toList.drop 0 = dktX1_lineAt_0 := by decide +kernel
theorem dX1_lineAt_0 : decode cX1_lineAt 0 = .ok (.iload_n 1, 1) := dk_27 (dk_at dksX1_lineAt_0 0 rfl rfl)
theorem dX1_lineAt_1 : decode cX1_lineAt 1 = .ok (.iconst 0, 1) := dk_3 (dk_at dksX1_lineAt_0 1 rfl rfl)
theorem dX1_lineAt_2 : decode cX1_lineAt 2 = .ok (.iconst 3, 1) := dk_6 (dk_at dksX1_lineAt_0 2 rfl rfl)
theorem dX1_lineAt_3 : decode cX1_lineAt 3 = .ok (.invokestatic 3, 3) := dk_184 0 3 (dk_at dksX1_lineAt_0 3 rfl rfl)
theorem dX1_lineAt_6 : decode cX1_lineAt 6 = .ok (.invokestatic 578, 3) := dk_184 2 66 (dk_at dksX1_lineAt_0 6 rfl rfl)
theorem dX1_lineAt_9 : decode cX1_lineAt 9 = .ok (.aload_n 0, 1) := dk_42 (dk_at dksX1_lineAt_0 9 rfl rfl)
theorem dX1_lineAt_10 : decode cX1_lineAt 10 = .ok (.getfield 101, 3) := dk_180 0 101 (dk_at dksX1_lineAt_0 10 rfl rfl)
theorem dX1_lineAt_13 : decode cX1_lineAt 13 = .ok (.iload_n 1, 1) := dk_27 (dk_at dksX1_lineAt_0 13 rfl rfl)
theorem dX1_lineAt_14 : decode cX1_lineAt 14 = .ok (.iaload, 1) := dk_46 (dk_at dksX1_lineAt_0 14 rfl rfl)
theorem dX1_lineAt_15 : decode cX1_lineAt 15 = .ok (.ireturn, 1) := dk_172 (dk_at dksX1_lineAt_0 15 rfl rfl)
def dkwX1_lost_1 : List UInt8 := [46, 172]
abbrev dktX1_lost_1 : List UInt8 := dkwX1_lost_1 ++ []
def dkwX1_lost_0 : List UInt8 := [18, 110, 27, 182, 1, 96, 61, 28, 155, 0, 7, 4, 167, 0, 4, 3, 184, 2, 66, 42, 180, 0, 118, 28]
abbrev dktX1_lost_0 : List UInt8 := dkwX1_lost_0 ++ dktX1_lost_1
theorem dksX1_lost_0 : cX1_lost.data.toList.drop 0 = dktX1_lost_0 := by decide +kernel
theorem dksX1_lost_1 : cX1_lost.data.toList.drop 24 = dktX1_lost_1 := dk_seg dksX1_lost_0 24 rfl rfl
theorem dX1_lost_0 : decode cX1_lost 0 = .ok (.ldc 110, 2) := dk_18 110 (dk_at dksX1_lost_0 0 rfl rfl)
theorem dX1_lost_2 : decode cX1_lost 2 = .ok (.iload_n 1, 1) := dk_27 (dk_at dksX1_lost_0 2 rfl rfl)
theorem dX1_lost_3 : decode cX1_lost 3 = .ok (.invokevirtual 352, 3) := dk_182 1 96 (dk_at dksX1_lost_0 3 rfl rfl)
theorem dX1_lost_6 : decode cX1_lost 6 = .ok (.istore_n 2, 1) := dk_61 (dk_at dksX1_lost_0 6 rfl rfl)
theorem dX1_lost_7 : decode cX1_lost 7 = .ok (.iload_n 2, 1) := dk_28 (dk_at dksX1_lost_0 7 rfl rfl)
theorem dX1_lost_8 : decode cX1_lost 8 = .ok (.ifCond .lt 7, 3) := dk_155 0 7 (dk_at dksX1_lost_0 8 rfl rfl)
theorem dX1_lost_11 : decode cX1_lost 11 = .ok (.iconst 1, 1) := dk_4 (dk_at dksX1_lost_0 11 rfl rfl)
theorem dX1_lost_12 : decode cX1_lost 12 = .ok (.goto 4, 3) := dk_167 0 4 (dk_at dksX1_lost_0 12 rfl rfl)
theorem dX1_lost_15 : decode cX1_lost 15 = .ok (.iconst 0, 1) := dk_3 (dk_at dksX1_lost_0 15 rfl rfl)
theorem dX1_lost_16 : decode cX1_lost 16 = .ok (.invokestatic 578, 3) := dk_184 2 66 (dk_at dksX1_lost_0 16 rfl rfl)
theorem dX1_lost_19 : decode cX1_lost 19 = .ok (.aload_n 0, 1) := dk_42 (dk_at dksX1_lost_0 19 rfl rfl)
theorem dX1_lost_20 : decode cX1_lost 20 = .ok (.getfield 118, 3) := dk_180 0 118 (dk_at dksX1_lost_0 20 rfl rfl)
theorem dX1_lost_23 : decode cX1_lost 23 = .ok (.iload_n 2, 1) := dk_28 (dk_at dksX1_lost_0 23 rfl rfl)
theorem dX1_lost_24 : decode cX1_lost 24 = .ok (.iaload, 1) := dk_46 (dk_at dksX1_lost_1 0 rfl rfl)
theorem dX1_lost_25 : decode cX1_lost 25 = .ok (.ireturn, 1) := dk_172 (dk_at dksX1_lost_1 1 rfl rfl)
def dkwX1_share_1 : List UInt8 := [134, 42, 180, 0, 153, 134, 110, 174]
abbrev dktX1_share_1 : List UInt8 := dkwX1_share_1 ++ []
def dkwX1_share_0 : List UInt8 := [42, 180, 0, 153, 158, 0, 7, 4, 167, 0, 4, 3, 184, 2, 123, 42, 180, 0, 107, 185, 2, 31, 1, 0]
abbrev dktX1_share_0 : List UInt8 := dkwX1_share_0 ++ dktX1_share_1
theorem dksX1_share_0 : cX1_share.data.toList.drop 0 = dktX1_share_0 := by decide +kernel
theorem dksX1_share_1 : cX1_share.data.toList.drop 24 = dktX1_share_1 := dk_seg dksX1_share_0 24 rfl rfl
theorem dX1_share_0 : decode cX1_share 0 = .ok (.aload_n 0, 1) := dk_42 (dk_at dksX1_share_0 0 rfl rfl)
theorem dX1_share_1 : decode cX1_share 1 = .ok (.getfield 153, 3) := dk_180 0 153 (dk_at dksX1_share_0 1 rfl rfl)
theorem dX1_share_4 : decode cX1_share 4 = .ok (.ifCond .le 7, 3) := dk_158 0 7 (dk_at dksX1_share_0 4 rfl rfl)
theorem dX1_share_7 : decode cX1_share 7 = .ok (.iconst 1, 1) := dk_4 (dk_at dksX1_share_0 7 rfl rfl)
theorem dX1_share_8 : decode cX1_share 8 = .ok (.goto 4, 3) := dk_167 0 4 (dk_at dksX1_share_0 8 rfl rfl)
theorem dX1_share_11 : decode cX1_share 11 = .ok (.iconst 0, 1) := dk_3 (dk_at dksX1_share_0 11 rfl rfl)
theorem dX1_share_12 : decode cX1_share 12 = .ok (.invokestatic 635, 3) := dk_184 2 123 (dk_at dksX1_share_0 12 rfl rfl)
theorem dX1_share_15 : decode cX1_share 15 = .ok (.aload_n 0, 1) := dk_42 (dk_at dksX1_share_0 15 rfl rfl)
theorem dX1_share_16 : decode cX1_share 16 = .ok (.getfield 107, 3) := dk_180 0 107 (dk_at dksX1_share_0 16 rfl rfl)
theorem dX1_share_19 : decode cX1_share 19 = .ok (.invokeinterface 543 1, 5) := by decide +kernel
theorem dX1_share_24 : decode cX1_share 24 = .ok (.i2f, 1) := dk_134 (dk_at dksX1_share_1 0 rfl rfl)
theorem dX1_share_25 : decode cX1_share 25 = .ok (.aload_n 0, 1) := dk_42 (dk_at dksX1_share_1 1 rfl rfl)
theorem dX1_share_26 : decode cX1_share 26 = .ok (.getfield 153, 3) := dk_180 0 153 (dk_at dksX1_share_1 2 rfl rfl)
theorem dX1_share_29 : decode cX1_share 29 = .ok (.i2f, 1) := dk_134 (dk_at dksX1_share_1 5 rfl rfl)
theorem dX1_share_30 : decode cX1_share 30 = .ok (.fdiv, 1) := dk_110 (dk_at dksX1_share_1 6 rfl rfl)
theorem dX1_share_31 : decode cX1_share 31 = .ok (.freturn, 1) := dk_174 (dk_at dksX1_share_1 7 rfl rfl)
