set_option maxRecDepth 100000
def dkwX3_init_16 : List UInt8 := [132, 1, 1, 167, 255, 226, 42, 182, 0, 120, 177]
abbrev dktX3_init_16 : List UInt8 := dkwX3_init_16 ++ []
def dkwX3_init_15 : List UInt8 := [162, 0, 30, 42, 180, 0, 56, 27, 27, 79, 42, 180, 0, 59, 27, 27, 79, 42, 180, 0, 65, 27, 4, 84]
abbrev dktX3_init_15 : List UInt8 := dkwX3_init_15 ++ dktX3_init_16
def dkwX3_init_14 : List UInt8 := [7, 162, 0, 16, 42, 180, 0, 92, 27, 2, 79, 132, 1, 1, 167, 255, 241, 3, 60, 27, 16, 8]
abbrev dktX3_init_14 : List UInt8 := dkwX3_init_14 ++ dktX3_init_15
def dkwX3_init_13 : List UInt8 := [3, 60, 27, 16, 8, 162, 0, 16, 42, 180, 0, 86, 27, 2, 79, 132, 1, 1, 167, 255, 240, 3, 60, 27]
abbrev dktX3_init_13 : List UInt8 := dkwX3_init_13 ++ dktX3_init_14
def dkwX3_init_12 : List UInt8 := [162, 0, 24, 42, 180, 0, 50, 27, 16, 6, 79, 42, 180, 0, 83, 27, 4, 79, 132, 1, 1, 167, 255, 232]
abbrev dktX3_init_12 : List UInt8 := dkwX3_init_12 ++ dktX3_init_13
def dkwX3_init_11 : List UInt8 := [181, 0, 111, 42, 16, 8, 188, 10, 181, 0, 114, 42, 16, 64, 188, 10, 181, 0, 117, 3, 60, 27, 16, 16]
abbrev dktX3_init_11 : List UInt8 := dkwX3_init_11 ++ dktX3_init_12
def dkwX3_init_10 : List UInt8 := [17, 7, 212, 188, 10, 181, 0, 104, 42, 17, 7, 212, 189, 0, 107, 181, 0, 108, 42, 16, 8, 188, 10]
abbrev dktX3_init_10 : List UInt8 := dkwX3_init_10 ++ dktX3_init_11
def dkwX3_init_9 : List UInt8 := [5, 188, 10, 181, 0, 95, 42, 5, 188, 10, 181, 0, 98, 42, 17, 7, 212, 188, 10, 181, 0, 101, 42]
abbrev dktX3_init_9 : List UInt8 := dkwX3_init_9 ++ dktX3_init_10
def dkwX3_init_8 : List UInt8 := [42, 16, 8, 188, 10, 181, 0, 86, 42, 16, 16, 188, 4, 181, 0, 89, 42, 7, 188, 10, 181, 0, 92, 42]
abbrev dktX3_init_8 : List UInt8 := dkwX3_init_8 ++ dktX3_init_9
def dkwX3_init_7 : List UInt8 := [16, 28, 197, 0, 72, 2, 181, 0, 77, 42, 8, 188, 10, 181, 0, 80, 42, 16, 16, 188, 10, 181, 0, 83]
abbrev dktX3_init_7 : List UInt8 := dkwX3_init_7 ++ dktX3_init_8
def dkwX3_init_6 : List UInt8 := [42, 16, 24, 188, 10, 181, 0, 69, 42, 16, 16, 16, 28, 197, 0, 72, 2, 181, 0, 74, 42, 16, 8]
abbrev dktX3_init_6 : List UInt8 := dkwX3_init_6 ++ dktX3_init_7
def dkwX3_init_5 : List UInt8 := [42, 16, 8, 188, 10, 181, 0, 59, 42, 16, 24, 188, 10, 181, 0, 62, 42, 16, 24, 188, 4, 181, 0, 65]
abbrev dktX3_init_5 : List UInt8 := dkwX3_init_5 ++ dktX3_init_6
def dkwX3_init_4 : List UInt8 := [42, 16, 16, 188, 10, 181, 0, 50, 42, 16, 64, 188, 10, 181, 0, 53, 42, 16, 8, 188, 10, 181, 0, 56]
abbrev dktX3_init_4 : List UInt8 := dkwX3_init_4 ++ dktX3_init_5
def dkwX3_init_3 : List UInt8 := [181, 0, 38, 42, 2, 181, 0, 41, 42, 16, 8, 188, 10, 181, 0, 44, 42, 16, 64, 188, 10, 181, 0, 47]
abbrev dktX3_init_3 : List UInt8 := dkwX3_init_3 ++ dktX3_init_4
def dkwX3_init_2 : List UInt8 := [181, 0, 25, 42, 16, 8, 181, 0, 29, 42, 7, 181, 0, 32, 42, 16, 16, 181, 0, 35, 42, 2]
abbrev dktX3_init_2 : List UInt8 := dkwX3_init_2 ++ dktX3_init_3
def dkwX3_init_1 : List UInt8 := [188, 10, 181, 0, 16, 42, 16, 64, 188, 10, 181, 0, 19, 42, 16, 64, 188, 10, 181, 0, 22, 42, 5]
abbrev dktX3_init_1 : List UInt8 := dkwX3_init_1 ++ dktX3_init_2
def dkwX3_init_0 : List UInt8 := [42, 183, 0, 1, 42, 16, 64, 188, 10, 181, 0, 9, 42, 16, 64, 188, 10, 181, 0, 13, 42, 16, 64]
abbrev dktX3_init_0 : List UInt8 := dkwX3_init_0 ++ dktX3_init_1
theorem dksX3_init_0 : cX3_init.data.toList.drop 0 = dktX3_init_0 := by decide +kernel
theorem dksX3_init_1 : cX3_init.data.toList.drop 23 = dktX3_init_1 := dk_seg dksX3_init_0 23 rfl rfl
theorem dksX3_init_2 : cX3_init.data.toList.drop 46 = dktX3_init_2 := dk_seg dksX3_init_1 23 rfl rfl
theorem dksX3_init_3 : cX3_init.data.toList.drop 68 = dktX3_init_3 := dk_seg dksX3_init_2 22 rfl rfl
theorem dksX3_init_4 : cX3_init.data.toList.drop 92 = dktX3_init_4 := dk_seg dksX3_init_3 24 rfl rfl
theorem dksX3_init_5 : cX3_init.data.toList.drop 116 = dktX3_init_5 := dk_seg dksX3_init_4 24 rfl rfl
theorem dksX3_init_6 : cX3_init.data.toList.drop 140 = dktX3_init_6 := dk_seg dksX3_init_5 24 rfl rfl
theorem dksX3_init_7 : cX3_init.data.toList.drop 163 = dktX3_init_7 := dk_seg dksX3_init_6 23 rfl rfl
theorem dksX3_init_8 : cX3_init.data.toList.drop 187 = dktX3_init_8 := dk_seg dksX3_init_7 24 rfl rfl
theorem dksX3_init_9 : cX3_init.data.toList.drop 211 = dktX3_init_9 := dk_seg dksX3_init_8 24 rfl rfl
theorem dksX3_init_10 : cX3_init.data.toList.drop 234 = dktX3_init_10 := dk_seg dksX3_init_9 23 rfl rfl
theorem dksX3_init_11 : cX3_init.data.toList.drop 257 = dktX3_init_11 := dk_seg dksX3_init_10 23 rfl rfl
theorem dksX3_init_12 : cX3_init.data.toList.drop 281 = dktX3_init_12 := dk_seg dksX3_init_11 24 rfl rfl
theorem dksX3_init_13 : cX3_init.data.toList.drop 305 = dktX3_init_13 := dk_seg dksX3_init_12 24 rfl rfl
theorem dksX3_init_14 : cX3_init.data.toList.drop 329 = dktX3_init_14 := dk_seg dksX3_init_13 24 rfl rfl
theorem dksX3_init_15 : cX3_init.data.toList.drop 351 = dktX3_init_15 := dk_seg dksX3_init_14 22 rfl rfl
theorem dksX3_init_16 : cX3_init.data.toList.drop 375 = dktX3_init_16 := dk_seg dksX3_init_15 24 rfl rfl
theorem dX3_init_0 : decode cX3_init 0 = .ok (.aload_n 0, 1) := dk_42 (dk_at dksX3_init_0 0 rfl rfl)
theorem dX3_init_1 : decode cX3_init 1 = .ok (.invokespecial 1, 3) := dk_183 0 1 (dk_at dksX3_init_0 1 rfl rfl)
theorem dX3_init_4 : decode cX3_init 4 = .ok (.aload_n 0, 1) := dk_42 (dk_at dksX3_init_0 4 rfl rfl)
theorem dX3_init_5 : decode cX3_init 5 = .ok (.bipush 64, 2) := dk_16 64 (dk_at dksX3_init_0 5 rfl rfl)
theorem dX3_init_7 : decode cX3_init 7 = .ok (.newarray .int, 2) := dk_188_10 (dk_at dksX3_init_0 7 rfl rfl)
theorem dX3_init_9 : decode cX3_init 9 = .ok (.putfield 9, 3) := dk_181 0 9 (dk_at dksX3_init_0 9 rfl rfl)
theorem dX3_init_12 : decode cX3_init 12 = .ok (.aload_n 0, 1) := dk_42 (dk_at dksX3_init_0 12 rfl rfl)
theorem dX3_init_13 : decode cX3_init 13 = .ok (.bipush 64, 2) := dk_16 64 (dk_at dksX3_init_0 13 rfl rfl)
theorem dX3_init_15 : decode cX3_init 15 = .ok (.newarray .int, 2) := dk_188_10 (dk_at dksX3_init_0 15 rfl rfl)
theorem dX3_init_17 : decode cX3_init 17 = .ok (.putfield 13, 3) := dk_181 0 13 (dk_at dksX3_init_0 17 rfl rfl)
theorem dX3_init_20 : decode cX3_init 20 = .ok (.aload_n 0, 1) := dk_42 (dk_at dksX3_init_0 20 rfl rfl)
theorem dX3_init_21 : decode cX3_init 21 = .ok (.bipush 64, 2) := dk_16 64 (dk_at dksX3_init_0 21 rfl rfl)
theorem dX3_init_23 : decode cX3_init 23 = .ok (.newarray .int, 2) := dk_188_10 (dk_at dksX3_init_1 0 rfl rfl)
theorem dX3_init_25 : decode cX3_init 25 = .ok (.putfield 16, 3) := dk_181 0 16 (dk_at dksX3_init_1 2 rfl rfl)
theorem dX3_init_28 : decode cX3_init 28 = .ok (.aload_n 0, 1) := dk_42 (dk_at dksX3_init_1 5 rfl rfl)
theorem dX3_init_29 : decode cX3_init 29 = .ok (.bipush 64, 2) := dk_16 64 (dk_at dksX3_init_1 6 rfl rfl)
theorem dX3_init_31 : decode cX3_init 31 = .ok (.newarray .int, 2) := dk_188_10 (dk_at dksX3_init_1 8 rfl rfl)
theorem dX3_init_33 : decode cX3_init 33 = .ok (.putfield 19, 3) := dk_181 0 19 (dk_at dksX3_init_1 10 rfl rfl)
theorem dX3_init_36 : decode cX3_init 36 = .ok (.aload_n 0, 1) := dk_42 (dk_at dksX3_init_1 13 rfl rfl)
theorem dX3_init_37 : decode cX3_init 37 = .ok (.bipush 64, 2) := dk_16 64 (dk_at dksX3_init_1 14 rfl rfl)
theorem dX3_init_39 : decode cX3_init 39 = .ok (.newarray .int, 2) := dk_188_10 (dk_at dksX3_init_1 16 rfl rfl)
theorem dX3_init_41 : decode cX3_init 41 = .ok (.putfield 22, 3) := dk_181 0 22 (dk_at dksX3_init_1 18 rfl rfl)
theorem dX3_init_44 : decode cX3_init 44 = .ok (.aload_n 0, 1) := dk_42 (dk_at dksX3_init_1 21 rfl rfl)
theorem dX3_init_45 : decode cX3_init 45 = .ok (.iconst 2, 1) := dk_5 (dk_at dksX3_init_1 22 rfl rfl)
theorem dX3_init_46 : decode cX3_init 46 = .ok (.putfield 25, 3) := dk_181 0 25 (dk_at dksX3_init_2 0 rfl rfl)
theorem dX3_init_49 : decode cX3_init 49 = .ok (.aload_n 0, 1) := dk_42 (dk_at dksX3_init_2 3 rfl rfl)
theorem dX3_init_50 : decode cX3_init 50 = .ok (.bipush 8, 2) := dk_16 8 (dk_at dksX3_init_2 4 rfl rfl)
theorem dX3_init_52 : decode cX3_init 52 = .ok (.putfield 29, 3) := dk_181 0 29 (dk_at dksX3_init_2 6 rfl rfl)
theorem dX3_init_55 : decode cX3_init 55 = .ok (.aload_n 0, 1) := dk_42 (dk_at dksX3_init_2 9 rfl rfl)
theorem dX3_init_56 : decode cX3_init 56 = .ok (.iconst 4, 1) := dk_7 (dk_at dksX3_init_2 10 rfl rfl)
theorem dX3_init_57 : decode cX3_init 57 = .ok (.putfield 32, 3) := dk_181 0 32 (dk_at dksX3_init_2 11 rfl rfl)
theorem dX3_init_60 : decode cX3_init 60 = .ok (.aload_n 0, 1) := dk_42 (dk_at dksX3_init_2 14 rfl rfl)
theorem dX3_init_61 : decode cX3_init 61 = .ok (.bipush 16, 2) := dk_16 16 (dk_at dksX3_init_2 15 rfl rfl)
theorem dX3_init_63 : decode cX3_init 63 = .ok (.putfield 35, 3) := dk_181 0 35 (dk_at dksX3_init_2 17 rfl rfl)
theorem dX3_init_66 : decode cX3_init 66 = .ok (.aload_n 0, 1) := dk_42 (dk_at dksX3_init_2 20 rfl rfl)
theorem dX3_init_67 : decode cX3_init 67 = .ok (.iconst (-1), 1) := dk_2 (dk_at dksX3_init_2 21 rfl rfl)
theorem dX3_init_68 : decode cX3_init 68 = .ok (.putfield 38, 3) := dk_181 0 38 (dk_at dksX3_init_3 0 rfl rfl)
theorem dX3_init_71 : decode cX3_init 71 = .ok (.aload_n 0, 1) := dk_42 (dk_at dksX3_init_3 3 rfl rfl)
theorem dX3_init_72 : decode cX3_init 72 = .ok (.iconst (-1), 1) := dk_2 (dk_at dksX3_init_3 4 rfl rfl)
theorem dX3_init_73 : decode cX3_init 73 = .ok (.putfield 41, 3) := dk_181 0 41 (dk_at dksX3_init_3 5 rfl rfl)
theorem dX3_init_76 : decode cX3_init 76 = .ok (.aload_n 0, 1) := dk_42 (dk_at dksX3_init_3 8 rfl rfl)
theorem dX3_init_77 : decode cX3_init 77 = .ok (.bipush 8, 2) := dk_16 8 (dk_at dksX3_init_3 9 rfl rfl)
theorem dX3_init_79 : decode cX3_init 79 = .ok (.newarray .int, 2) := dk_188_10 (dk_at dksX3_init_3 11 rfl rfl)
theorem dX3_init_81 : decode cX3_init 81 = .ok (.putfield 44, 3) := dk_181 0 44 (dk_at dksX3_init_3 13 rfl rfl)
theorem dX3_init_84 : decode cX3_init 84 = .ok (.aload_n 0, 1) := dk_42 (dk_at dksX3_init_3 16 rfl rfl)
theorem dX3_init_85 : decode cX3_init 85 = .ok (.bipush 64, 2) := dk_16 64 (dk_at dksX3_init_3 17 rfl rfl)
theorem dX3_init_87 : decode cX3_init 87 = .ok (.newarray .int, 2) := dk_188_10 (dk_at dksX3_init_3 19 rfl rfl)
theorem dX3_init_89 : decode cX3_init 89 = .ok (.putfield 47, 3) := dk_181 0 47 (dk_at dksX3_init_3 21 rfl rfl)
theorem dX3_init_92 : decode cX3_init 92 = .ok (.aload_n 0, 1) := dk_42 (dk_at dksX3_init_4 0 rfl rfl)
theorem dX3_init_93 : decode cX3_init 93 = .ok (.bipush 16, 2) := dk_16 16 (dk_at dksX3_init_4 1 rfl rfl)
theorem dX3_init_95 : decode cX3_init 95 = .ok (.newarray .int, 2) := dk_188_10 (dk_at dksX3_init_4 3 rfl rfl)
theorem dX3_init_97 : decode cX3_init 97 = .ok (.putfield 50, 3) := dk_181 0 50 (dk_at dksX3_init_4 5 rfl rfl)
theorem dX3_init_100 : decode cX3_init 100 = .ok (.aload_n 0, 1) := dk_42 (dk_at dksX3_init_4 8 rfl rfl)
theorem dX3_init_101 : decode cX3_init 101 = .ok (.bipush 64, 2) := dk_16 64 (dk_at dksX3_init_4 9 rfl rfl)
theorem dX3_init_103 : decode cX3_init 103 = .ok (.newarray .int, 2) := dk_188_10 (dk_at dksX3_init_4 11 rfl rfl)
theorem dX3_init_105 : decode cX3_init 105 = .ok (.putfield 53, 3) := dk_181 0 53 (dk_at dksX3_init_4 13 rfl rfl)
theorem dX3_init_108 : decode cX3_init 108 = .ok (.aload_n 0, 1) := dk_42 (dk_at dksX3_init_4 16 rfl rfl)
theorem dX3_init_109 : decode cX3_init 109 = .ok (.bipush 8, 2) := dk_16 8 (dk_at dksX3_init_4 17 rfl rfl)
theorem dX3_init_111 : decode cX3_init 111 = .ok (.newarray .int, 2) := dk_188_10 (dk_at dksX3_init_4 19 rfl rfl)
theorem dX3_init_113 : decode cX3_init 113 = .ok (.putfield 56, 3) := dk_181 0 56 (dk_at dksX3_init_4 21 rfl rfl)
theorem dX3_init_116 : decode cX3_init 116 = .ok (.aload_n 0, 1) := dk_42 (dk_at dksX3_init_5 0 rfl rfl)
theorem dX3_init_117 : decode cX3_init 117 = .ok (.bipush 8, 2) := dk_16 8 (dk_at dksX3_init_5 1 rfl rfl)
theorem dX3_init_119 : decode cX3_init 119 = .ok (.newarray .int, 2) := dk_188_10 (dk_at dksX3_init_5 3 rfl rfl)
theorem dX3_init_121 : decode cX3_init 121 = .ok (.putfield 59, 3) := dk_181 0 59 (dk_at dksX3_init_5 5 rfl rfl)
theorem dX3_init_124 : decode cX3_init 124 = .ok (.aload_n 0, 1) := dk_42 (dk_at dksX3_init_5 8 rfl rfl)
theorem dX3_init_125 : decode cX3_init 125 = .ok (.bipush 24, 2) := dk_16 24 (dk_at dksX3_init_5 9 rfl rfl)
theorem dX3_init_127 : decode cX3_init 127 = .ok (.newarray .int, 2) := dk_188_10 (dk_at dksX3_init_5 11 rfl rfl)
theorem dX3_init_129 : decode cX3_init 129 = .ok (.putfield 62, 3) := dk_181 0 62 (dk_at dksX3_init_5 13 rfl rfl)
theorem dX3_init_132 : decode cX3_init 132 = .ok (.aload_n 0, 1) := dk_42 (dk_at dksX3_init_5 16 rfl rfl)
theorem dX3_init_133 : decode cX3_init 133 = .ok (.bipush 24, 2) := dk_16 24 (dk_at dksX3_init_5 17 rfl rfl)
theorem dX3_init_135 : decode cX3_init 135 = .ok (.newarray .boolean, 2) := dk_188_4 (dk_at dksX3_init_5 19 rfl rfl)
theorem dX3_init_137 : decode cX3_init 137 = .ok (.putfield 65, 3) := dk_181 0 65 (dk_at dksX3_init_5 21 rfl rfl)
theorem dX3_init_140 : decode cX3_init 140 = .ok (.aload_n 0, 1) := dk_42 (dk_at dksX3_init_6 0 rfl rfl)
theorem dX3_init_141 : decode cX3_init 141 = .ok (.bipush 24, 2) := dk_16 24 (dk_at dksX3_init_6 1 rfl rfl)
theorem dX3_init_143 : decode cX3_init 143 = .ok (.newarray .int, 2) := dk_188_10 (dk_at dksX3_init_6 3 rfl rfl)
theorem dX3_init_145 : decode cX3_init 145 = .ok (.putfield 69, 3) := dk_181 0 69 (dk_at dksX3_init_6 5 rfl rfl)
theorem dX3_init_148 : decode cX3_init 148 = .ok (.aload_n 0, 1) := dk_42 (dk_at dksX3_init_6 8 rfl rfl)
theorem dX3_init_149 : decode cX3_init 149 = .ok (.bipush 16, 2) := dk_16 16 (dk_at dksX3_init_6 9 rfl rfl)
theorem dX3_init_151 : decode cX3_init 151 = .ok (.bipush 28, 2) := dk_16 28 (dk_at dksX3_init_6 11 rfl rfl)
theorem dX3_init_153 : decode cX3_init 153 = .ok (.multianewarray 72 2, 4) := by decide +kernel
theorem dX3_init_157 : decode cX3_init 157 = .ok (.putfield 74, 3) := dk_181 0 74 (dk_at dksX3_init_6 17 rfl rfl)
theorem dX3_init_160 : decode cX3_init 160 = .ok (.aload_n 0, 1) := dk_42 (dk_at dksX3_init_6 20 rfl rfl)
theorem dX3_init_161 : decode cX3_init 161 = .ok (.bipush 8, 2) := dk_16 8 (dk_at dksX3_init_6 21 rfl rfl)
theorem dX3_init_163 : decode cX3_init 163 = .ok (.bipush 28, 2) := dk_16 28 (dk_at dksX3_init_7 0 rfl rfl)
theorem dX3_init_165 : decode cX3_init 165 = .ok (.multianewarray 72 2, 4) := by decide +kernel
theorem dX3_init_169 : decode cX3_init 169 = .ok (.putfield 77, 3) := dk_181 0 77 (dk_at dksX3_init_7 6 rfl rfl)
theorem dX3_init_172 : decode cX3_init 172 = .ok (.aload_n 0, 1) := dk_42 (dk_at dksX3_init_7 9 rfl rfl)
theorem dX3_init_173 : decode cX3_init 173 = .ok (.iconst 5, 1) := dk_8 (dk_at dksX3_init_7 10 rfl rfl)
theorem dX3_init_174 : decode cX3_init 174 = .ok (.newarray .int, 2) := dk_188_10 (dk_at dksX3_init_7 11 rfl rfl)
theorem dX3_init_176 : decode cX3_init 176 = .ok (.putfield 80, 3) := dk_181 0 80 (dk_at dksX3_init_7 13 rfl rfl)
theorem dX3_init_179 : decode cX3_init 179 = .ok (.aload_n 0, 1) := dk_42 (dk_at dksX3_init_7 16 rfl rfl)
theorem dX3_init_180 : decode cX3_init 180 = .ok (.bipush 16, 2) := dk_16 16 (dk_at dksX3_init_7 17 rfl rfl)
theorem dX3_init_182 : decode cX3_init 182 = .ok (.newarray .int, 2) := dk_188_10 (dk_at dksX3_init_7 19 rfl rfl)
theorem dX3_init_184 : decode cX3_init 184 = .ok (.putfield 83, 3) := dk_181 0 83 (dk_at dksX3_init_7 21 rfl rfl)
theorem dX3_init_187 : decode cX3_init 187 = .ok (.aload_n 0, 1) := dk_42 (dk_at dksX3_init_8 0 rfl rfl)
theorem dX3_init_188 : decode cX3_init 188 = .ok (.bipush 8, 2) := dk_16 8 (dk_at dksX3_init_8 1 rfl rfl)
theorem dX3_init_190 : decode cX3_init 190 = .ok (.newarray .int, 2) := dk_188_10 (dk_at dksX3_init_8 3 rfl rfl)
theorem dX3_init_192 : decode cX3_init 192 = .ok (.putfield 86, 3) := dk_181 0 86 (dk_at dksX3_init_8 5 rfl rfl)
theorem dX3_init_195 : decode cX3_init 195 = .ok (.aload_n 0, 1) := dk_42 (dk_at dksX3_init_8 8 rfl rfl)
theorem dX3_init_196 : decode cX3_init 196 = .ok (.bipush 16, 2) := dk_16 16 (dk_at dksX3_init_8 9 rfl rfl)
theorem dX3_init_198 : decode cX3_init 198 = .ok (.newarray .boolean, 2) := dk_188_4 (dk_at dksX3_init_8 11 rfl rfl)
theorem dX3_init_200 : decode cX3_init 200 = .ok (.putfield 89, 3) := dk_181 0 89 (dk_at dksX3_init_8 13 rfl rfl)
theorem dX3_init_203 : decode cX3_init 203 = .ok (.aload_n 0, 1) := dk_42 (dk_at dksX3_init_8 16 rfl rfl)
theorem dX3_init_204 : decode cX3_init 204 = .ok (.iconst 4, 1) := dk_7 (dk_at dksX3_init_8 17 rfl rfl)
theorem dX3_init_205 : decode cX3_init 205 = .ok (.newarray .int, 2) := dk_188_10 (dk_at dksX3_init_8 18 rfl rfl)
theorem dX3_init_207 : decode cX3_init 207 = .ok (.putfield 92, 3) := dk_181 0 92 (dk_at dksX3_init_8 20 rfl rfl)
theorem dX3_init_210 : decode cX3_init 210 = .ok (.aload_n 0, 1) := dk_42 (dk_at dksX3_init_8 23 rfl rfl)
theorem dX3_init_211 : decode cX3_init 211 = .ok (.iconst 2, 1) := dk_5 (dk_at dksX3_init_9 0 rfl rfl)
theorem dX3_init_212 : decode cX3_init 212 = .ok (.newarray .int, 2) := dk_188_10 (dk_at dksX3_init_9 1 rfl rfl)
theorem dX3_init_214 : decode cX3_init 214 = .ok (.putfield 95, 3) := dk_181 0 95 (dk_at dksX3_init_9 3 rfl rfl)
theorem dX3_init_217 : decode cX3_init 217 = .ok (.aload_n 0, 1) := dk_42 (dk_at dksX3_init_9 6 rfl rfl)
theorem dX3_init_218 : decode cX3_init 218 = .ok (.iconst 2, 1) := dk_5 (dk_at dksX3_init_9 7 rfl rfl)
theorem dX3_init_219 : decode cX3_init 219 = .ok (.newarray .int, 2) := dk_188_10 (dk_at dksX3_init_9 8 rfl rfl)
theorem dX3_init_221 : decode cX3_init 221 = .ok (.putfield 98, 3) := dk_181 0 98 (dk_at dksX3_init_9 10 rfl rfl)
theorem dX3_init_224 : decode cX3_init 224 = .ok (.aload_n 0, 1) := dk_42 (dk_at dksX3_init_9 13 rfl rfl)
theorem dX3_init_225 : decode cX3_init 225 = .ok (.sipush 2004, 3) := dk_17 7 212 (dk_at dksX3_init_9 14 rfl rfl)
theorem dX3_init_228 : decode cX3_init 228 = .ok (.newarray .int, 2) := dk_188_10 (dk_at dksX3_init_9 17 rfl rfl)
theorem dX3_init_230 : decode cX3_init 230 = .ok (.putfield 101, 3) := dk_181 0 101 (dk_at dksX3_init_9 19 rfl rfl)
theorem dX3_init_233 : decode cX3_init 233 = .ok (.aload_n 0, 1) := dk_42 (dk_at dksX3_init_9 22 rfl rfl)
theorem dX3_init_234 : decode cX3_init 234 = .ok (.sipush 2004, 3) := dk_17 7 212 (dk_at dksX3_init_10 0 rfl rfl)
theorem dX3_init_237 : decode cX3_init 237 = .ok (.newarray .int, 2) := dk_188_10 (dk_at dksX3_init_10 3 rfl rfl)
theorem dX3_init_239 : decode cX3_init 239 = .ok (.putfield 104, 3) := dk_181 0 104 (dk_at dksX3_init_10 5 rfl rfl)
theorem dX3_init_242 : decode cX3_init 242 = .ok (.aload_n 0, 1) := dk_42 (dk_at dksX3_init_10 8 rfl rfl)
theorem dX3_init_243 : decode cX3_init 243 = .ok (.sipush 2004, 3) := dk_17 7 212 (dk_at dksX3_init_10 9 rfl rfl)
theorem dX3_init_246 : decode cX3_init 246 = .ok (.anewarray 107, 3) := dk_189 0 107 (dk_at dksX3_init_10 12 rfl rfl)
theorem dX3_init_249 : decode cX3_init 249 = .ok (.putfield 108, 3) := dk_181 0 108 (dk_at dksX3_init_10 15 rfl rfl)
theorem dX3_init_252 : decode cX3_init 252 = .ok (.aload_n 0, 1) := dk_42 (dk_at dksX3_init_10 18 rfl rfl)
theorem dX3_init_253 : decode cX3_init 253 = .ok (.bipush 8, 2) := dk_16 8 (dk_at dksX3_init_10 19 rfl rfl)
theorem dX3_init_255 : decode cX3_init 255 = .ok (.newarray .int, 2) := dk_188_10 (dk_at dksX3_init_10 21 rfl rfl)
theorem dX3_init_257 : decode cX3_init 257 = .ok (.putfield 111, 3) := dk_181 0 111 (dk_at dksX3_init_11 0 rfl rfl)
theorem dX3_init_260 : decode cX3_init 260 = .ok (.aload_n 0, 1) := dk_42 (dk_at dksX3_init_11 3 rfl rfl)
theorem dX3_init_261 : decode cX3_init 261 = .ok (.bipush 8, 2) := dk_16 8 (dk_at dksX3_init_11 4 rfl rfl)
theorem dX3_init_263 : decode cX3_init 263 = .ok (.newarray .int, 2) := dk_188_10 (dk_at dksX3_init_11 6 rfl rfl)
theorem dX3_init_265 : decode cX3_init 265 = .ok (.putfield 114, 3) := dk_181 0 114 (dk_at dksX3_init_11 8 rfl rfl)
theorem dX3_init_268 : decode cX3_init 268 = .ok (.aload_n 0, 1) := dk_42 (dk_at dksX3_init_11 11 rfl rfl)
theorem dX3_init_269 : decode cX3_init 269 = .ok (.bipush 64, 2) := dk_16 64 (dk_at dksX3_init_11 12 rfl rfl)
theorem dX3_init_271 : decode cX3_init 271 = .ok (.newarray .int, 2) := dk_188_10 (dk_at dksX3_init_11 14 rfl rfl)
theorem dX3_init_273 : decode cX3_init 273 = .ok (.putfield 117, 3) := dk_181 0 117 (dk_at dksX3_init_11 16 rfl rfl)
theorem dX3_init_276 : decode cX3_init 276 = .ok (.iconst 0, 1) := dk_3 (dk_at dksX3_init_11 19 rfl rfl)
theorem dX3_init_277 : decode cX3_init 277 = .ok (.istore_n 1, 1) := dk_60 (dk_at dksX3_init_11 20 rfl rfl)
theorem dX3_init_278 : decode cX3_init 278 = .ok (.iload_n 1, 1) := dk_27 (dk_at dksX3_init_11 21 rfl rfl)
theorem dX3_init_279 : decode cX3_init 279 = .ok (.bipush 16, 2) := dk_16 16 (dk_at dksX3_init_11 22 rfl rfl)
theorem dX3_init_281 : decode cX3_init 281 = .ok (.if_icmp .ge 24, 3) := dk_162 0 24 (dk_at dksX3_init_12 0 rfl rfl)
theorem dX3_init_284 : decode cX3_init 284 = .ok (.aload_n 0, 1) := dk_42 (dk_at dksX3_init_12 3 rfl rfl)
theorem dX3_init_285 : decode cX3_init 285 = .ok (.getfield 50, 3) := dk_180 0 50 (dk_at dksX3_init_12 4 rfl rfl)
theorem dX3_init_288 : decode cX3_init 288 = .ok (.iload_n 1, 1) := dk_27 (dk_at dksX3_init_12 7 rfl rfl)
theorem dX3_init_289 : decode cX3_init 289 = .ok (.bipush 6, 2) := dk_16 6 (dk_at dksX3_init_12 8 rfl rfl)
theorem dX3_init_291 : decode cX3_init 291 = .ok (.iastore, 1) := dk_79 (dk_at dksX3_init_12 10 rfl rfl)
theorem dX3_init_292 : decode cX3_init 292 = .ok (.aload_n 0, 1) := dk_42 (dk_at dksX3_init_12 11 rfl rfl)
theorem dX3_init_293 : decode cX3_init 293 = .ok (.getfield 83, 3) := dk_180 0 83 (dk_at dksX3_init_12 12 rfl rfl)
theorem dX3_init_296 : decode cX3_init 296 = .ok (.iload_n 1, 1) := dk_27 (dk_at dksX3_init_12 15 rfl rfl)
theorem dX3_init_297 : decode cX3_init 297 = .ok (.iconst 1, 1) := dk_4 (dk_at dksX3_init_12 16 rfl rfl)
theorem dX3_init_298 : decode cX3_init 298 = .ok (.iastore, 1) := dk_79 (dk_at dksX3_init_12 17 rfl rfl)
theorem dX3_init_299 : decode cX3_init 299 = .ok (.iinc 1 1, 3) := dk_132 1 1 (dk_at dksX3_init_12 18 rfl rfl)
theorem dX3_init_302 : decode cX3_init 302 = .ok (.goto (-24), 3) := dk_167 255 232 (dk_at dksX3_init_12 21 rfl rfl)
theorem dX3_init_305 : decode cX3_init 305 = .ok (.iconst 0, 1) := dk_3 (dk_at dksX3_init_13 0 rfl rfl)
theorem dX3_init_306 : decode cX3_init 306 = .ok (.istore_n 1, 1) := dk_60 (dk_at dksX3_init_13 1 rfl rfl)
theorem dX3_init_307 : decode cX3_init 307 = .ok (.iload_n 1, 1) := dk_27 (dk_at dksX3_init_13 2 rfl rfl)
theorem dX3_init_308 : decode cX3_init 308 = .ok (.bipush 8, 2) := dk_16 8 (dk_at dksX3_init_13 3 rfl rfl)
theorem dX3_init_310 : decode cX3_init 310 = .ok (.if_icmp .ge 16, 3) := dk_162 0 16 (dk_at dksX3_init_13 5 rfl rfl)
theorem dX3_init_313 : decode cX3_init 313 = .ok (.aload_n 0, 1) := dk_42 (dk_at dksX3_init_13 8 rfl rfl)
theorem dX3_init_314 : decode cX3_init 314 = .ok (.getfield 86, 3) := dk_180 0 86 (dk_at dksX3_init_13 9 rfl rfl)
theorem dX3_init_317 : decode cX3_init 317 = .ok (.iload_n 1, 1) := dk_27 (dk_at dksX3_init_13 12 rfl rfl)
theorem dX3_init_318 : decode cX3_init 318 = .ok (.iconst (-1), 1) := dk_2 (dk_at dksX3_init_13 13 rfl rfl)
theorem dX3_init_319 : decode cX3_init 319 = .ok (.iastore, 1) := dk_79 (dk_at dksX3_init_13 14 rfl rfl)
theorem dX3_init_320 : decode cX3_init 320 = .ok (.iinc 1 1, 3) := dk_132 1 1 (dk_at dksX3_init_13 15 rfl rfl)
theorem dX3_init_323 : decode cX3_init 323 = .ok (.goto (-16), 3) := dk_167 255 240 (dk_at dksX3_init_13 18 rfl rfl)
theorem dX3_init_326 : decode cX3_init 326 = .ok (.iconst 0, 1) := dk_3 (dk_at dksX3_init_13 21 rfl rfl)
theorem dX3_init_327 : decode cX3_init 327 = .ok (.istore_n 1, 1) := dk_60 (dk_at dksX3_init_13 22 rfl rfl)
theorem dX3_init_328 : decode cX3_init 328 = .ok (.iload_n 1, 1) := dk_27 (dk_at dksX3_init_13 23 rfl rfl)
theorem dX3_init_329 : decode cX3_init 329 = .ok (.iconst 4, 1) := dk_7 (dk_at dksX3_init_14 0 rfl rfl)
theorem dX3_init_330 : decode cX3_init 330 = .ok (.if_icmp .ge 16, 3) := dk_162 0 16 (dk_at dksX3_init_14 1 rfl rfl)
theorem dX3_init_333 : decode cX3_init 333 = .ok (.aload_n 0, 1) := dk_42 (dk_at dksX3_init_14 4 rfl rfl)
theorem dX3_init_334 : decode cX3_init 334 = .ok (.getfield 92, 3) := dk_180 0 92 (dk_at dksX3_init_14 5 rfl rfl)
theorem dX3_init_337 : decode cX3_init 337 = .ok (.iload_n 1, 1) := dk_27 (dk_at dksX3_init_14 8 rfl rfl)
theorem dX3_init_338 : decode cX3_init 338 = .ok (.iconst (-1), 1) := dk_2 (dk_at dksX3_init_14 9 rfl rfl)
theorem dX3_init_339 : decode cX3_init 339 = .ok (.iastore, 1) := dk_79 (dk_at dksX3_init_14 10 rfl rfl)
theorem dX3_init_340 : decode cX3_init 340 = .ok (.iinc 1 1, 3) := dk_132 1 1 (dk_at dksX3_init_14 11 rfl rfl)
theorem dX3_init_343 : decode cX3_init 343 = .ok (.goto (-15), 3) := dk_167 255 241 (dk_at dksX3_init_14 14 rfl rfl)
theorem dX3_init_346 : decode cX3_init 346 = .ok (.iconst 0, 1) := dk_3 (dk_at dksX3_init_14 17 rfl rfl)
theorem dX3_init_347 : decode cX3_init 347 = .ok (.istore_n 1, 1) := dk_60 (dk_at dksX3_init_14 18 rfl rfl)
theorem dX3_init_348 : decode cX3_init 348 = .ok (.iload_n 1, 1) := dk_27 (dk_at dksX3_init_14 19 rfl rfl)
theorem dX3_init_349 : decode cX3_init 349 = .ok (.bipush 8, 2) := dk_16 8 (dk_at dksX3_init_14 20 rfl rfl)
theorem dX3_init_351 : decode cX3_init 351 = .ok (.if_icmp .ge 30, 3) := dk_162 0 30 (dk_at dksX3_init_15 0 rfl rfl)
theorem dX3_init_354 : decode cX3_init 354 = .ok (.aload_n 0, 1) := dk_42 (dk_at dksX3_init_15 3 rfl rfl)
theorem dX3_init_355 : decode cX3_init 355 = .ok (.getfield 56, 3) := dk_180 0 56 (dk_at dksX3_init_15 4 rfl rfl)
theorem dX3_init_358 : decode cX3_init 358 = .ok (.iload_n 1, 1) := dk_27 (dk_at dksX3_init_15 7 rfl rfl)
theorem dX3_init_359 : decode cX3_init 359 = .ok (.iload_n 1, 1) := dk_27 (dk_at dksX3_init_15 8 rfl rfl)
theorem dX3_init_360 : decode cX3_init 360 = .ok (.iastore, 1) := dk_79 (dk_at dksX3_init_15 9 rfl rfl)
theorem dX3_init_361 : decode cX3_init 361 = .ok (.aload_n 0, 1) := dk_42 (dk_at dksX3_init_15 10 rfl rfl)
theorem dX3_init_362 : decode cX3_init 362 = .ok (.getfield 59, 3) := dk_180 0 59 (dk_at dksX3_init_15 11 rfl rfl)
theorem dX3_init_365 : decode cX3_init 365 = .ok (.iload_n 1, 1) := dk_27 (dk_at dksX3_init_15 14 rfl rfl)
theorem dX3_init_366 : decode cX3_init 366 = .ok (.iload_n 1, 1) := dk_27 (dk_at dksX3_init_15 15 rfl rfl)
theorem dX3_init_367 : decode cX3_init 367 = .ok (.iastore, 1) := dk_79 (dk_at dksX3_init_15 16 rfl rfl)
theorem dX3_init_368 : decode cX3_init 368 = .ok (.aload_n 0, 1) := dk_42 (dk_at dksX3_init_15 17 rfl rfl)
theorem dX3_init_369 : decode cX3_init 369 = .ok (.getfield 65, 3) := dk_180 0 65 (dk_at dksX3_init_15 18 rfl rfl)
theorem dX3_init_372 : decode cX3_init 372 = .ok (.iload_n 1, 1) := dk_27 (dk_at dksX3_init_15 21 rfl rfl)
theorem dX3_init_373 : decode cX3_init 373 = .ok (.iconst 1, 1) := dk_4 (dk_at dksX3_init_15 22 rfl rfl)
theorem dX3_init_374 : decode cX3_init 374 = .ok (.bastore, 1) := dk_84 (dk_at dksX3_init_15 23 rfl rfl)
theorem dX3_init_375 : decode cX3_init 375 = .ok (.iinc 1 1, 3) := dk_132 1 1 (dk_at dksX3_init_16 0 rfl rfl)
theorem dX3_init_378 : decode cX3_init 378 = .ok (.goto (-30), 3) := dk_167 255 226 (dk_at dksX3_init_16 3 rfl rfl)
theorem dX3_init_381 : decode cX3_init 381 = .ok (.aload_n 0, 1) := dk_42 (dk_at dksX3_init_16 6 rfl rfl)
theorem dX3_init_382 : decode cX3_init 382 = .ok (.invokevirtual 120, 3) := dk_182 0 120 (dk_at dksX3_init_16 7 rfl rfl)
theorem dX3_init_385 : decode cX3_init 385 = .ok (.return_, 1) := dk_177 (dk_at dksX3_init_16 10 rfl rfl)
def dkwX3_laysFree_1 : List UInt8 := [180, 0, 69, 27, 16, 8, 27, 96, 79, 132, 1, 1, 167, 255, 235, 177]
abbrev dktX3_laysFree_1 : List UInt8 := dkwX3_laysFree_1 ++ []
def dkwX3_laysFree_0 : List UInt8 := [42, 42, 180, 0, 35, 16, 8, 100, 181, 0, 126, 3, 60, 27, 42, 180, 0, 126, 162, 0, 19, 42]
abbrev dktX3_laysFree_0 : List UInt8 := dkwX3_laysFree_0 ++ dktX3_laysFree_1
theorem dksX3_laysFree_0 : cX3_laysFree.data.toList.drop 0 = dktX3_laysFree_0 := by decide +kernel
theorem dksX3_laysFree_1 : cX3_laysFree.data.toList.drop 22 = dktX3_laysFree_1 := dk_seg dksX3_laysFree_0 22 rfl rfl
theorem dX3_laysFree_0 : decode cX3_laysFree 0 = .ok (.aload_n 0, 1) := dk_42 (dk_at dksX3_laysFree_0 0 rfl rfl)
theorem dX3_laysFree_1 : decode cX3_laysFree 1 = .ok (.aload_n 0, 1) := dk_42 (dk_at dksX3_laysFree_0 1 rfl rfl)
theorem dX3_laysFree_2 : decode cX3_laysFree 2 = .ok (.getfield 35, 3) := dk_180 0 35 (dk_at dksX3_laysFree_0 2 rfl rfl)
theorem dX3_laysFree_5 : decode cX3_laysFree 5 = .ok (.bipush 8, 2) := dk_16 8 (dk_at dksX3_laysFree_0 5 rfl rfl)
theorem dX3_laysFree_7 : decode cX3_laysFree 7 = .ok (.isub, 1) := dk_100 (dk_at dksX3_laysFree_0 7 rfl rfl)
theorem dX3_laysFree_8 : decode cX3_laysFree 8 = .ok (.putfield 126, 3) := dk_181 0 126 (dk_at dksX3_laysFree_0 8 rfl rfl)
theorem dX3_laysFree_11 : decode cX3_laysFree 11 = .ok (.iconst 0, 1) := dk_3 (dk_at dksX3_laysFree_0 11 rfl rfl)
theorem dX3_laysFree_12 : decode cX3_laysFree 12 = .ok (.istore_n 1, 1) := dk_60 (dk_at dksX3_laysFree_0 12 rfl rfl)
theorem dX3_laysFree_13 : decode cX3_laysFree 13 = .ok (.iload_n 1, 1) := dk_27 (dk_at dksX3_laysFree_0 13 rfl rfl)
theorem dX3_laysFree_14 : decode cX3_laysFree 14 = .ok (.aload_n 0, 1) := dk_42 (dk_at dksX3_laysFree_0 14 rfl rfl)
theorem dX3_laysFree_15 : decode cX3_laysFree 15 = .ok (.getfield 126, 3) := dk_180 0 126 (dk_at dksX3_laysFree_0 15 rfl rfl)
theorem dX3_laysFree_18 : decode cX3_laysFree 18 = .ok (.if_icmp .ge 19, 3) := dk_162 0 19 (dk_at dksX3_laysFree_0 18 rfl rfl)
theorem dX3_laysFree_21 : decode cX3_laysFree 21 = .ok (.aload_n 0, 1) := dk_42 (dk_at dksX3_laysFree_0 21 rfl rfl)
theorem dX3_laysFree_22 : decode cX3_laysFree 22 = .ok (.getfield 69, 3) := dk_180 0 69 (dk_at dksX3_laysFree_1 0 rfl rfl)
theorem dX3_laysFree_25 : decode cX3_laysFree 25 = .ok (.iload_n 1, 1) := dk_27 (dk_at dksX3_laysFree_1 3 rfl rfl)
theorem dX3_laysFree_26 : decode cX3_laysFree 26 = .ok (.bipush 8, 2) := dk_16 8 (dk_at dksX3_laysFree_1 4 rfl rfl)
theorem dX3_laysFree_28 : decode cX3_laysFree 28 = .ok (.iload_n 1, 1) := dk_27 (dk_at dksX3_laysFree_1 6 rfl rfl)
theorem dX3_laysFree_29 : decode cX3_laysFree 29 = .ok (.iadd, 1) := dk_96 (dk_at dksX3_laysFree_1 7 rfl rfl)
theorem dX3_laysFree_30 : decode cX3_laysFree 30 = .ok (.iastore, 1) := dk_79 (dk_at dksX3_laysFree_1 8 rfl rfl)
theorem dX3_laysFree_31 : decode cX3_laysFree 31 = .ok (.iinc 1 1, 3) := dk_132 1 1 (dk_at dksX3_laysFree_1 9 rfl rfl)
theorem dX3_laysFree_34 : decode cX3_laysFree 34 = .ok (.goto (-21), 3) := dk_167 255 235 (dk_at dksX3_laysFree_1 12 rfl rfl)
theorem dX3_laysFree_37 : decode cX3_laysFree 37 = .ok (.return_, 1) := dk_177 (dk_at dksX3_laysFree_1 15 rfl rfl)
theorem dX3_thrown_0 : decode cX3_thrown 0 = .ok (.aload_n 0, 1) := by decide +kernel
theorem dX3_thrown_1 : decode cX3_thrown 1 = .ok (.getfield 123, 3) := by decide +kernel
theorem dX3_thrown_4 : decode cX3_thrown 4 = .ok (.ireturn, 1) := by decide +kernel
def dkwX3_add_7 : List UInt8 := [42, 89, 180, 0, 136, 4, 96, 181, 0, 136, 42, 180, 0, 136, 4, 100, 172]
abbrev dktX3_add_7 : List UInt8 := dkwX3_add_7 ++ []
def dkwX3_add_6 : List UInt8 := [29, 79, 42, 180, 0, 19, 42, 180, 0, 136, 21, 4, 79, 42, 180, 0, 22, 42, 180, 0, 136, 21, 5, 79]
abbrev dktX3_add_6 : List UInt8 := dkwX3_add_6 ++ dktX3_add_7
def dkwX3_add_5 : List UInt8 := [42, 180, 0, 136, 27, 79, 42, 180, 0, 13, 42, 180, 0, 136, 28, 79, 42, 180, 0, 16, 42, 180, 0, 136]
abbrev dktX3_add_5 : List UInt8 := dkwX3_add_5 ++ dktX3_add_6
def dkwX3_add_4 : List UInt8 := [160, 0, 7, 5, 167, 0, 4, 3, 181, 0, 123, 42, 180, 0, 123, 158, 0, 5, 3, 172, 42, 180, 0, 9]
abbrev dktX3_add_4 : List UInt8 := dkwX3_add_4 ++ dktX3_add_5
def dkwX3_add_3 : List UInt8 := [42, 21, 6, 154, 0, 7, 4, 167, 0, 24, 42, 180, 0, 133, 157, 0, 12, 42, 180, 0, 136, 16, 64]
abbrev dktX3_add_3 : List UInt8 := dkwX3_add_3 ++ dktX3_add_4
def dkwX3_add_2 : List UInt8 := [184, 0, 129, 153, 0, 14, 21, 5, 3, 16, 63, 184, 0, 129, 153, 0, 7, 4, 167, 0, 4, 3, 54, 6]
abbrev dktX3_add_2 : List UInt8 := dkwX3_add_2 ++ dktX3_add_3
def dkwX3_add_1 : List UInt8 := [184, 0, 129, 153, 0, 40, 21, 4, 3, 16, 7, 184, 0, 129, 153, 0, 29, 27, 16, 12, 16, 15]
abbrev dktX3_add_1 : List UInt8 := dkwX3_add_1 ++ dktX3_add_2
def dkwX3_add_0 : List UInt8 := [27, 3, 16, 21, 184, 0, 129, 153, 0, 60, 28, 3, 16, 7, 184, 0, 129, 153, 0, 50, 29, 3, 16, 7]
abbrev dktX3_add_0 : List UInt8 := dkwX3_add_0 ++ dktX3_add_1
theorem dksX3_add_0 : cX3_add.data.toList.drop 0 = dktX3_add_0 := by decide +kernel
theorem dksX3_add_1 : cX3_add.data.toList.drop 24 = dktX3_add_1 := dk_seg dksX3_add_0 24 rfl rfl
theorem dksX3_add_2 : cX3_add.data.toList.drop 46 = dktX3_add_2 := dk_seg dksX3_add_1 22 rfl rfl
theorem dksX3_add_3 : cX3_add.data.toList.drop 70 = dktX3_add_3 := dk_seg dksX3_add_2 24 rfl rfl
theorem dksX3_add_4 : cX3_add.data.toList.drop 93 = dktX3_add_4 := dk_seg dksX3_add_3 23 rfl rfl
theorem dksX3_add_5 : cX3_add.data.toList.drop 117 = dktX3_add_5 := dk_seg dksX3_add_4 24 rfl rfl
theorem dksX3_add_6 : cX3_add.data.toList.drop 141 = dktX3_add_6 := dk_seg dksX3_add_5 24 rfl rfl
theorem dksX3_add_7 : cX3_add.data.toList.drop 165 = dktX3_add_7 := dk_seg dksX3_add_6 24 rfl rfl
theorem dX3_add_0 : decode cX3_add 0 = .ok (.iload_n 1, 1) := dk_27 (dk_at dksX3_add_0 0 rfl rfl)
theorem dX3_add_1 : decode cX3_add 1 = .ok (.iconst 0, 1) := dk_3 (dk_at dksX3_add_0 1 rfl rfl)
theorem dX3_add_2 : decode cX3_add 2 = .ok (.bipush 21, 2) := dk_16 21 (dk_at dksX3_add_0 2 rfl rfl)
theorem dX3_add_4 : decode cX3_add 4 = .ok (.invokestatic 129, 3) := dk_184 0 129 (dk_at dksX3_add_0 4 rfl rfl)
theorem dX3_add_7 : decode cX3_add 7 = .ok (.ifCond .eq 60, 3) := dk_153 0 60 (dk_at dksX3_add_0 7 rfl rfl)
theorem dX3_add_10 : decode cX3_add 10 = .ok (.iload_n 2, 1) := dk_28 (dk_at dksX3_add_0 10 rfl rfl)
theorem dX3_add_11 : decode cX3_add 11 = .ok (.iconst 0, 1) := dk_3 (dk_at dksX3_add_0 11 rfl rfl)
theorem dX3_add_12 : decode cX3_add 12 = .ok (.bipush 7, 2) := dk_16 7 (dk_at dksX3_add_0 12 rfl rfl)
theorem dX3_add_14 : decode cX3_add 14 = .ok (.invokestatic 129, 3) := dk_184 0 129 (dk_at dksX3_add_0 14 rfl rfl)
theorem dX3_add_17 : decode cX3_add 17 = .ok (.ifCond .eq 50, 3) := dk_153 0 50 (dk_at dksX3_add_0 17 rfl rfl)
theorem dX3_add_20 : decode cX3_add 20 = .ok (.iload_n 3, 1) := dk_29 (dk_at dksX3_add_0 20 rfl rfl)
theorem dX3_add_21 : decode cX3_add 21 = .ok (.iconst 0, 1) := dk_3 (dk_at dksX3_add_0 21 rfl rfl)
theorem dX3_add_22 : decode cX3_add 22 = .ok (.bipush 7, 2) := dk_16 7 (dk_at dksX3_add_0 22 rfl rfl)
theorem dX3_add_24 : decode cX3_add 24 = .ok (.invokestatic 129, 3) := dk_184 0 129 (dk_at dksX3_add_1 0 rfl rfl)
theorem dX3_add_27 : decode cX3_add 27 = .ok (.ifCond .eq 40, 3) := dk_153 0 40 (dk_at dksX3_add_1 3 rfl rfl)
theorem dX3_add_30 : decode cX3_add 30 = .ok (.iload 4, 2) := dk_21 4 (dk_at dksX3_add_1 6 rfl rfl)
theorem dX3_add_32 : decode cX3_add 32 = .ok (.iconst 0, 1) := dk_3 (dk_at dksX3_add_1 8 rfl rfl)
theorem dX3_add_33 : decode cX3_add 33 = .ok (.bipush 7, 2) := dk_16 7 (dk_at dksX3_add_1 9 rfl rfl)
theorem dX3_add_35 : decode cX3_add 35 = .ok (.invokestatic 129, 3) := dk_184 0 129 (dk_at dksX3_add_1 11 rfl rfl)
theorem dX3_add_38 : decode cX3_add 38 = .ok (.ifCond .eq 29, 3) := dk_153 0 29 (dk_at dksX3_add_1 14 rfl rfl)
theorem dX3_add_41 : decode cX3_add 41 = .ok (.iload_n 1, 1) := dk_27 (dk_at dksX3_add_1 17 rfl rfl)
theorem dX3_add_42 : decode cX3_add 42 = .ok (.bipush 12, 2) := dk_16 12 (dk_at dksX3_add_1 18 rfl rfl)
theorem dX3_add_44 : decode cX3_add 44 = .ok (.bipush 15, 2) := dk_16 15 (dk_at dksX3_add_1 20 rfl rfl)
theorem dX3_add_46 : decode cX3_add 46 = .ok (.invokestatic 129, 3) := dk_184 0 129 (dk_at dksX3_add_2 0 rfl rfl)
theorem dX3_add_49 : decode cX3_add 49 = .ok (.ifCond .eq 14, 3) := dk_153 0 14 (dk_at dksX3_add_2 3 rfl rfl)
theorem dX3_add_52 : decode cX3_add 52 = .ok (.iload 5, 2) := dk_21 5 (dk_at dksX3_add_2 6 rfl rfl)
theorem dX3_add_54 : decode cX3_add 54 = .ok (.iconst 0, 1) := dk_3 (dk_at dksX3_add_2 8 rfl rfl)
theorem dX3_add_55 : decode cX3_add 55 = .ok (.bipush 63, 2) := dk_16 63 (dk_at dksX3_add_2 9 rfl rfl)
theorem dX3_add_57 : decode cX3_add 57 = .ok (.invokestatic 129, 3) := dk_184 0 129 (dk_at dksX3_add_2 11 rfl rfl)
theorem dX3_add_60 : decode cX3_add 60 = .ok (.ifCond .eq 7, 3) := dk_153 0 7 (dk_at dksX3_add_2 14 rfl rfl)
theorem dX3_add_63 : decode cX3_add 63 = .ok (.iconst 1, 1) := dk_4 (dk_at dksX3_add_2 17 rfl rfl)
theorem dX3_add_64 : decode cX3_add 64 = .ok (.goto 4, 3) := dk_167 0 4 (dk_at dksX3_add_2 18 rfl rfl)
theorem dX3_add_67 : decode cX3_add 67 = .ok (.iconst 0, 1) := dk_3 (dk_at dksX3_add_2 21 rfl rfl)
theorem dX3_add_68 : decode cX3_add 68 = .ok (.istore 6, 2) := dk_54 6 (dk_at dksX3_add_2 22 rfl rfl)
theorem dX3_add_70 : decode cX3_add 70 = .ok (.aload_n 0, 1) := dk_42 (dk_at dksX3_add_3 0 rfl rfl)
theorem dX3_add_71 : decode cX3_add 71 = .ok (.iload 6, 2) := dk_21 6 (dk_at dksX3_add_3 1 rfl rfl)
theorem dX3_add_73 : decode cX3_add 73 = .ok (.ifCond .ne 7, 3) := dk_154 0 7 (dk_at dksX3_add_3 3 rfl rfl)
theorem dX3_add_76 : decode cX3_add 76 = .ok (.iconst 1, 1) := dk_4 (dk_at dksX3_add_3 6 rfl rfl)
theorem dX3_add_77 : decode cX3_add 77 = .ok (.goto 24, 3) := dk_167 0 24 (dk_at dksX3_add_3 7 rfl rfl)
theorem dX3_add_80 : decode cX3_add 80 = .ok (.aload_n 0, 1) := dk_42 (dk_at dksX3_add_3 10 rfl rfl)
theorem dX3_add_81 : decode cX3_add 81 = .ok (.getfield 133, 3) := dk_180 0 133 (dk_at dksX3_add_3 11 rfl rfl)
theorem dX3_add_84 : decode cX3_add 84 = .ok (.ifCond .gt 12, 3) := dk_157 0 12 (dk_at dksX3_add_3 14 rfl rfl)
theorem dX3_add_87 : decode cX3_add 87 = .ok (.aload_n 0, 1) := dk_42 (dk_at dksX3_add_3 17 rfl rfl)
theorem dX3_add_88 : decode cX3_add 88 = .ok (.getfield 136, 3) := dk_180 0 136 (dk_at dksX3_add_3 18 rfl rfl)
theorem dX3_add_91 : decode cX3_add 91 = .ok (.bipush 64, 2) := dk_16 64 (dk_at dksX3_add_3 21 rfl rfl)
theorem dX3_add_93 : decode cX3_add 93 = .ok (.if_icmp .ne 7, 3) := dk_160 0 7 (dk_at dksX3_add_4 0 rfl rfl)
theorem dX3_add_96 : decode cX3_add 96 = .ok (.iconst 2, 1) := dk_5 (dk_at dksX3_add_4 3 rfl rfl)
theorem dX3_add_97 : decode cX3_add 97 = .ok (.goto 4, 3) := dk_167 0 4 (dk_at dksX3_add_4 4 rfl rfl)
theorem dX3_add_100 : decode cX3_add 100 = .ok (.iconst 0, 1) := dk_3 (dk_at dksX3_add_4 7 rfl rfl)
theorem dX3_add_101 : decode cX3_add 101 = .ok (.putfield 123, 3) := dk_181 0 123 (dk_at dksX3_add_4 8 rfl rfl)
theorem dX3_add_104 : decode cX3_add 104 = .ok (.aload_n 0, 1) := dk_42 (dk_at dksX3_add_4 11 rfl rfl)
theorem dX3_add_105 : decode cX3_add 105 = .ok (.getfield 123, 3) := dk_180 0 123 (dk_at dksX3_add_4 12 rfl rfl)
theorem dX3_add_108 : decode cX3_add 108 = .ok (.ifCond .le 5, 3) := dk_158 0 5 (dk_at dksX3_add_4 15 rfl rfl)
theorem dX3_add_111 : decode cX3_add 111 = .ok (.iconst 0, 1) := dk_3 (dk_at dksX3_add_4 18 rfl rfl)
theorem dX3_add_112 : decode cX3_add 112 = .ok (.ireturn, 1) := dk_172 (dk_at dksX3_add_4 19 rfl rfl)
theorem dX3_add_113 : decode cX3_add 113 = .ok (.aload_n 0, 1) := dk_42 (dk_at dksX3_add_4 20 rfl rfl)
theorem dX3_add_114 : decode cX3_add 114 = .ok (.getfield 9, 3) := dk_180 0 9 (dk_at dksX3_add_4 21 rfl rfl)
theorem dX3_add_117 : decode cX3_add 117 = .ok (.aload_n 0, 1) := dk_42 (dk_at dksX3_add_5 0 rfl rfl)
theorem dX3_add_118 : decode cX3_add 118 = .ok (.getfield 136, 3) := dk_180 0 136 (dk_at dksX3_add_5 1 rfl rfl)
theorem dX3_add_121 : decode cX3_add 121 = .ok (.iload_n 1, 1) := dk_27 (dk_at dksX3_add_5 4 rfl rfl)
theorem dX3_add_122 : decode cX3_add 122 = .ok (.iastore, 1) := dk_79 (dk_at dksX3_add_5 5 rfl rfl)
theorem dX3_add_123 : decode cX3_add 123 = .ok (.aload_n 0, 1) := dk_42 (dk_at dksX3_add_5 6 rfl rfl)
theorem dX3_add_124 : decode cX3_add 124 = .ok (.getfield 13, 3) := dk_180 0 13 (dk_at dksX3_add_5 7 rfl rfl)
theorem dX3_add_127 : decode cX3_add 127 = .ok (.aload_n 0, 1) := dk_42 (dk_at dksX3_add_5 10 rfl rfl)
theorem dX3_add_128 : decode cX3_add 128 = .ok (.getfield 136, 3) := dk_180 0 136 (dk_at dksX3_add_5 11 rfl rfl)
theorem dX3_add_131 : decode cX3_add 131 = .ok (.iload_n 2, 1) := dk_28 (dk_at dksX3_add_5 14 rfl rfl)
theorem dX3_add_132 : decode cX3_add 132 = .ok (.iastore, 1) := dk_79 (dk_at dksX3_add_5 15 rfl rfl)
theorem dX3_add_133 : decode cX3_add 133 = .ok (.aload_n 0, 1) := dk_42 (dk_at dksX3_add_5 16 rfl rfl)
theorem dX3_add_134 : decode cX3_add 134 = .ok (.getfield 16, 3) := dk_180 0 16 (dk_at dksX3_add_5 17 rfl rfl)
theorem dX3_add_137 : decode cX3_add 137 = .ok (.aload_n 0, 1) := dk_42 (dk_at dksX3_add_5 20 rfl rfl)
theorem dX3_add_138 : decode cX3_add 138 = .ok (.getfield 136, 3) := dk_180 0 136 (dk_at dksX3_add_5 21 rfl rfl)
theorem dX3_add_141 : decode cX3_add 141 = .ok (.iload_n 3, 1) := dk_29 (dk_at dksX3_add_6 0 rfl rfl)
theorem dX3_add_142 : decode cX3_add 142 = .ok (.iastore, 1) := dk_79 (dk_at dksX3_add_6 1 rfl rfl)
theorem dX3_add_143 : decode cX3_add 143 = .ok (.aload_n 0, 1) := dk_42 (dk_at dksX3_add_6 2 rfl rfl)
theorem dX3_add_144 : decode cX3_add 144 = .ok (.getfield 19, 3) := dk_180 0 19 (dk_at dksX3_add_6 3 rfl rfl)
theorem dX3_add_147 : decode cX3_add 147 = .ok (.aload_n 0, 1) := dk_42 (dk_at dksX3_add_6 6 rfl rfl)
theorem dX3_add_148 : decode cX3_add 148 = .ok (.getfield 136, 3) := dk_180 0 136 (dk_at dksX3_add_6 7 rfl rfl)
theorem dX3_add_151 : decode cX3_add 151 = .ok (.iload 4, 2) := dk_21 4 (dk_at dksX3_add_6 10 rfl rfl)
theorem dX3_add_153 : decode cX3_add 153 = .ok (.iastore, 1) := dk_79 (dk_at dksX3_add_6 12 rfl rfl)
theorem dX3_add_154 : decode cX3_add 154 = .ok (.aload_n 0, 1) := dk_42 (dk_at dksX3_add_6 13 rfl rfl)
theorem dX3_add_155 : decode cX3_add 155 = .ok (.getfield 22, 3) := dk_180 0 22 (dk_at dksX3_add_6 14 rfl rfl)
theorem dX3_add_158 : decode cX3_add 158 = .ok (.aload_n 0, 1) := dk_42 (dk_at dksX3_add_6 17 rfl rfl)
theorem dX3_add_159 : decode cX3_add 159 = .ok (.getfield 136, 3) := dk_180 0 136 (dk_at dksX3_add_6 18 rfl rfl)
theorem dX3_add_162 : decode cX3_add 162 = .ok (.iload 5, 2) := dk_21 5 (dk_at dksX3_add_6 21 rfl rfl)
theorem dX3_add_164 : decode cX3_add 164 = .ok (.iastore, 1) := dk_79 (dk_at dksX3_add_6 23 rfl rfl)
theorem dX3_add_165 : decode cX3_add 165 = .ok (.aload_n 0, 1) := dk_42 (dk_at dksX3_add_7 0 rfl rfl)
theorem dX3_add_166 : decode cX3_add 166 = .ok (.dup, 1) := dk_89 (dk_at dksX3_add_7 1 rfl rfl)
theorem dX3_add_167 : decode cX3_add 167 = .ok (.getfield 136, 3) := dk_180 0 136 (dk_at dksX3_add_7 2 rfl rfl)
theorem dX3_add_170 : decode cX3_add 170 = .ok (.iconst 1, 1) := dk_4 (dk_at dksX3_add_7 5 rfl rfl)
theorem dX3_add_171 : decode cX3_add 171 = .ok (.iadd, 1) := dk_96 (dk_at dksX3_add_7 6 rfl rfl)
theorem dX3_add_172 : decode cX3_add 172 = .ok (.putfield 136, 3) := dk_181 0 136 (dk_at dksX3_add_7 7 rfl rfl)
theorem dX3_add_175 : decode cX3_add 175 = .ok (.aload_n 0, 1) := dk_42 (dk_at dksX3_add_7 10 rfl rfl)
theorem dX3_add_176 : decode cX3_add 176 = .ok (.getfield 136, 3) := dk_180 0 136 (dk_at dksX3_add_7 11 rfl rfl)
theorem dX3_add_179 : decode cX3_add 179 = .ok (.iconst 1, 1) := dk_4 (dk_at dksX3_add_7 14 rfl rfl)
theorem dX3_add_180 : decode cX3_add 180 = .ok (.isub, 1) := dk_100 (dk_at dksX3_add_7 15 rfl rfl)
theorem dX3_add_181 : decode cX3_add 181 = .ok (.ireturn, 1) := dk_172 (dk_at dksX3_add_7 16 rfl rfl)
def dkwX3_in_0 : List UInt8 := [26, 27, 161, 0, 12, 26, 28, 163, 0, 7, 4, 167, 0, 4, 3, 172]
abbrev dktX3_in_0 : List UInt8 := dkwX3_in_0 ++ []
theorem dksX3_in_0 : cX3_in.data.toList.drop 0 = dktX3_in_0 := by decide +kernel
theorem dX3_in_0 : decode cX3_in 0 = .ok (.iload_n 0, 1) := dk_26 (dk_at dksX3_in_0 0 rfl rfl)
theorem dX3_in_1 : decode cX3_in 1 = .ok (.iload_n 1, 1) := dk_27 (dk_at dksX3_in_0 1 rfl rfl)
theorem dX3_in_2 : decode cX3_in 2 = .ok (.if_icmp .lt 12, 3) := dk_161 0 12 (dk_at dksX3_in_0 2 rfl rfl)
theorem dX3_in_5 : decode cX3_in 5 = .ok (.iload_n 0, 1) := dk_26 (dk_at dksX3_in_0 5 rfl rfl)
theorem dX3_in_6 : decode cX3_in 6 = .ok (.iload_n 2, 1) := dk_28 (dk_at dksX3_in_0 6 rfl rfl)
theorem dX3_in_7 : decode cX3_in 7 = .ok (.if_icmp .gt 7, 3) := dk_163 0 7 (dk_at dksX3_in_0 7 rfl rfl)
theorem dX3_in_10 : decode cX3_in 10 = .ok (.iconst 1, 1) := dk_4 (dk_at dksX3_in_0 10 rfl rfl)
theorem dX3_in_11 : decode cX3_in 11 = .ok (.goto 4, 3) := dk_167 0 4 (dk_at dksX3_in_0 11 rfl rfl)
theorem dX3_in_14 : decode cX3_in 14 = .ok (.iconst 0, 1) := dk_3 (dk_at dksX3_in_0 14 rfl rfl)
theorem dX3_in_15 : decode cX3_in 15 = .ok (.ireturn, 1) := dk_172 (dk_at dksX3_in_0 15 rfl rfl)
def dkwX3_setRegister_1 : List UInt8 := [180, 0, 62, 27, 28, 79, 42, 180, 0, 44, 27, 28, 79, 29, 172]
abbrev dktX3_setRegister_1 : List UInt8 := dkwX3_setRegister_1 ++ []
def dkwX3_setRegister_0 : List UInt8 := [42, 27, 3, 16, 7, 184, 0, 129, 182, 0, 139, 153, 0, 5, 3, 172, 42, 180, 0, 62, 27, 46, 62, 42]
abbrev dktX3_setRegister_0 : List UInt8 := dkwX3_setRegister_0 ++ dktX3_setRegister_1
theorem dksX3_setRegister_0 : cX3_setRegister.data.toList.drop 0 = dktX3_setRegister_0 := by decide +kernel
theorem dksX3_setRegister_1 : cX3_setRegister.data.toList.drop 24 = dktX3_setRegister_1 := dk_seg dksX3_setRegister_0 24 rfl rfl
theorem dX3_setRegister_0 : decode cX3_setRegister 0 = .ok (.aload_n 0, 1) := dk_42 (dk_at dksX3_setRegister_0 0 rfl rfl)
theorem dX3_setRegister_1 : decode cX3_setRegister 1 = .ok (.iload_n 1, 1) := dk_27 (dk_at dksX3_setRegister_0 1 rfl rfl)
theorem dX3_setRegister_2 : decode cX3_setRegister 2 = .ok (.iconst 0, 1) := dk_3 (dk_at dksX3_setRegister_0 2 rfl rfl)
theorem dX3_setRegister_3 : decode cX3_setRegister 3 = .ok (.bipush 7, 2) := dk_16 7 (dk_at dksX3_setRegister_0 3 rfl rfl)
theorem dX3_setRegister_5 : decode cX3_setRegister 5 = .ok (.invokestatic 129, 3) := dk_184 0 129 (dk_at dksX3_setRegister_0 5 rfl rfl)
theorem dX3_setRegister_8 : decode cX3_setRegister 8 = .ok (.invokevirtual 139, 3) := dk_182 0 139 (dk_at dksX3_setRegister_0 8 rfl rfl)
theorem dX3_setRegister_11 : decode cX3_setRegister 11 = .ok (.ifCond .eq 5, 3) := dk_153 0 5 (dk_at dksX3_setRegister_0 11 rfl rfl)
theorem dX3_setRegister_14 : decode cX3_setRegister 14 = .ok (.iconst 0, 1) := dk_3 (dk_at dksX3_setRegister_0 14 rfl rfl)
theorem dX3_setRegister_15 : decode cX3_setRegister 15 = .ok (.ireturn, 1) := dk_172 (dk_at dksX3_setRegister_0 15 rfl rfl)
theorem dX3_setRegister_16 : decode cX3_setRegister 16 = .ok (.aload_n 0, 1) := dk_42 (dk_at dksX3_setRegister_0 16 rfl rfl)
theorem dX3_setRegister_17 : decode cX3_setRegister 17 = .ok (.getfield 62, 3) := dk_180 0 62 (dk_at dksX3_setRegister_0 17 rfl rfl)
theorem dX3_setRegister_20 : decode cX3_setRegister 20 = .ok (.iload_n 1, 1) := dk_27 (dk_at dksX3_setRegister_0 20 rfl rfl)
theorem dX3_setRegister_21 : decode cX3_setRegister 21 = .ok (.iaload, 1) := dk_46 (dk_at dksX3_setRegister_0 21 rfl rfl)
theorem dX3_setRegister_22 : decode cX3_setRegister 22 = .ok (.istore_n 3, 1) := dk_62 (dk_at dksX3_setRegister_0 22 rfl rfl)
theorem dX3_setRegister_23 : decode cX3_setRegister 23 = .ok (.aload_n 0, 1) := dk_42 (dk_at dksX3_setRegister_0 23 rfl rfl)
theorem dX3_setRegister_24 : decode cX3_setRegister 24 = .ok (.getfield 62, 3) := dk_180 0 62 (dk_at dksX3_setRegister_1 0 rfl rfl)
theorem dX3_setRegister_27 : decode cX3_setRegister 27 = .ok (.iload_n 1, 1) := dk_27 (dk_at dksX3_setRegister_1 3 rfl rfl)
theorem dX3_setRegister_28 : decode cX3_setRegister 28 = .ok (.iload_n 2, 1) := dk_28 (dk_at dksX3_setRegister_1 4 rfl rfl)
theorem dX3_setRegister_29 : decode cX3_setRegister 29 = .ok (.iastore, 1) := dk_79 (dk_at dksX3_setRegister_1 5 rfl rfl)
theorem dX3_setRegister_30 : decode cX3_setRegister 30 = .ok (.aload_n 0, 1) := dk_42 (dk_at dksX3_setRegister_1 6 rfl rfl)
theorem dX3_setRegister_31 : decode cX3_setRegister 31 = .ok (.getfield 44, 3) := dk_180 0 44 (dk_at dksX3_setRegister_1 7 rfl rfl)
theorem dX3_setRegister_34 : decode cX3_setRegister 34 = .ok (.iload_n 1, 1) := dk_27 (dk_at dksX3_setRegister_1 10 rfl rfl)
theorem dX3_setRegister_35 : decode cX3_setRegister 35 = .ok (.iload_n 2, 1) := dk_28 (dk_at dksX3_setRegister_1 11 rfl rfl)
theorem dX3_setRegister_36 : decode cX3_setRegister 36 = .ok (.iastore, 1) := dk_79 (dk_at dksX3_setRegister_1 12 rfl rfl)
theorem dX3_setRegister_37 : decode cX3_setRegister 37 = .ok (.iload_n 3, 1) := dk_29 (dk_at dksX3_setRegister_1 13 rfl rfl)
theorem dX3_setRegister_38 : decode cX3_setRegister 38 = .ok (.ireturn, 1) := dk_172 (dk_at dksX3_setRegister_1 14 rfl rfl)
def dkwX3_cannot_1 : List UInt8 := [42, 180, 0, 123, 158, 0, 7, 4, 167, 0, 4, 3, 172]
abbrev dktX3_cannot_1 : List UInt8 := dkwX3_cannot_1 ++ []
def dkwX3_cannot_0 : List UInt8 := [42, 27, 154, 0, 7, 4, 167, 0, 15, 42, 180, 0, 133, 158, 0, 7, 5, 167, 0, 4, 3, 181, 0, 123]
abbrev dktX3_cannot_0 : List UInt8 := dkwX3_cannot_0 ++ dktX3_cannot_1
theorem dksX3_cannot_0 : cX3_cannot.data.toList.drop 0 = dktX3_cannot_0 := by decide +kernel
theorem dksX3_cannot_1 : cX3_cannot.data.toList.drop 24 = dktX3_cannot_1 := dk_seg dksX3_cannot_0 24 rfl rfl
theorem dX3_cannot_0 : decode cX3_cannot 0 = .ok (.aload_n 0, 1) := dk_42 (dk_at dksX3_cannot_0 0 rfl rfl)
theorem dX3_cannot_1 : decode cX3_cannot 1 = .ok (.iload_n 1, 1) := dk_27 (dk_at dksX3_cannot_0 1 rfl rfl)
theorem dX3_cannot_2 : decode cX3_cannot 2 = .ok (.ifCond .ne 7, 3) := dk_154 0 7 (dk_at dksX3_cannot_0 2 rfl rfl)
theorem dX3_cannot_5 : decode cX3_cannot 5 = .ok (.iconst 1, 1) := dk_4 (dk_at dksX3_cannot_0 5 rfl rfl)
theorem dX3_cannot_6 : decode cX3_cannot 6 = .ok (.goto 15, 3) := dk_167 0 15 (dk_at dksX3_cannot_0 6 rfl rfl)
theorem dX3_cannot_9 : decode cX3_cannot 9 = .ok (.aload_n 0, 1) := dk_42 (dk_at dksX3_cannot_0 9 rfl rfl)
theorem dX3_cannot_10 : decode cX3_cannot 10 = .ok (.getfield 133, 3) := dk_180 0 133 (dk_at dksX3_cannot_0 10 rfl rfl)
theorem dX3_cannot_13 : decode cX3_cannot 13 = .ok (.ifCond .le 7, 3) := dk_158 0 7 (dk_at dksX3_cannot_0 13 rfl rfl)
theorem dX3_cannot_16 : decode cX3_cannot 16 = .ok (.iconst 2, 1) := dk_5 (dk_at dksX3_cannot_0 16 rfl rfl)
theorem dX3_cannot_17 : decode cX3_cannot 17 = .ok (.goto 4, 3) := dk_167 0 4 (dk_at dksX3_cannot_0 17 rfl rfl)
theorem dX3_cannot_20 : decode cX3_cannot 20 = .ok (.iconst 0, 1) := dk_3 (dk_at dksX3_cannot_0 20 rfl rfl)
theorem dX3_cannot_21 : decode cX3_cannot 21 = .ok (.putfield 123, 3) := dk_181 0 123 (dk_at dksX3_cannot_0 21 rfl rfl)
theorem dX3_cannot_24 : decode cX3_cannot 24 = .ok (.aload_n 0, 1) := dk_42 (dk_at dksX3_cannot_1 0 rfl rfl)
theorem dX3_cannot_25 : decode cX3_cannot 25 = .ok (.getfield 123, 3) := dk_180 0 123 (dk_at dksX3_cannot_1 1 rfl rfl)
theorem dX3_cannot_28 : decode cX3_cannot 28 = .ok (.ifCond .le 7, 3) := dk_158 0 7 (dk_at dksX3_cannot_1 4 rfl rfl)
theorem dX3_cannot_31 : decode cX3_cannot 31 = .ok (.iconst 1, 1) := dk_4 (dk_at dksX3_cannot_1 7 rfl rfl)
theorem dX3_cannot_32 : decode cX3_cannot 32 = .ok (.goto 4, 3) := dk_167 0 4 (dk_at dksX3_cannot_1 8 rfl rfl)
theorem dX3_cannot_35 : decode cX3_cannot 35 = .ok (.iconst 0, 1) := dk_3 (dk_at dksX3_cannot_1 11 rfl rfl)
theorem dX3_cannot_36 : decode cX3_cannot 36 = .ok (.ireturn, 1) := dk_172 (dk_at dksX3_cannot_1 12 rfl rfl)
def dkwX3_setWord_1 : List UInt8 := [180, 0, 53, 27, 28, 79, 42, 180, 0, 47, 27, 28, 79, 29, 172]
abbrev dktX3_setWord_1 : List UInt8 := dkwX3_setWord_1 ++ []
def dkwX3_setWord_0 : List UInt8 := [42, 27, 3, 16, 63, 184, 0, 129, 182, 0, 139, 153, 0, 5, 3, 172, 42, 180, 0, 53, 27, 46, 62, 42]
abbrev dktX3_setWord_0 : List UInt8 := dkwX3_setWord_0 ++ dktX3_setWord_1
theorem dksX3_setWord_0 : cX3_setWord.data.toList.drop 0 = dktX3_setWord_0 := by decide +kernel
theorem dksX3_setWord_1 : cX3_setWord.data.toList.drop 24 = dktX3_setWord_1 := dk_seg dksX3_setWord_0 24 rfl rfl
theorem dX3_setWord_0 : decode cX3_setWord 0 = .ok (.aload_n 0, 1) := dk_42 (dk_at dksX3_setWord_0 0 rfl rfl)
theorem dX3_setWord_1 : decode cX3_setWord 1 = .ok (.iload_n 1, 1) := dk_27 (dk_at dksX3_setWord_0 1 rfl rfl)
theorem dX3_setWord_2 : decode cX3_setWord 2 = .ok (.iconst 0, 1) := dk_3 (dk_at dksX3_setWord_0 2 rfl rfl)
theorem dX3_setWord_3 : decode cX3_setWord 3 = .ok (.bipush 63, 2) := dk_16 63 (dk_at dksX3_setWord_0 3 rfl rfl)
theorem dX3_setWord_5 : decode cX3_setWord 5 = .ok (.invokestatic 129, 3) := dk_184 0 129 (dk_at dksX3_setWord_0 5 rfl rfl)
theorem dX3_setWord_8 : decode cX3_setWord 8 = .ok (.invokevirtual 139, 3) := dk_182 0 139 (dk_at dksX3_setWord_0 8 rfl rfl)
theorem dX3_setWord_11 : decode cX3_setWord 11 = .ok (.ifCond .eq 5, 3) := dk_153 0 5 (dk_at dksX3_setWord_0 11 rfl rfl)
theorem dX3_setWord_14 : decode cX3_setWord 14 = .ok (.iconst 0, 1) := dk_3 (dk_at dksX3_setWord_0 14 rfl rfl)
theorem dX3_setWord_15 : decode cX3_setWord 15 = .ok (.ireturn, 1) := dk_172 (dk_at dksX3_setWord_0 15 rfl rfl)
theorem dX3_setWord_16 : decode cX3_setWord 16 = .ok (.aload_n 0, 1) := dk_42 (dk_at dksX3_setWord_0 16 rfl rfl)
theorem dX3_setWord_17 : decode cX3_setWord 17 = .ok (.getfield 53, 3) := dk_180 0 53 (dk_at dksX3_setWord_0 17 rfl rfl)
theorem dX3_setWord_20 : decode cX3_setWord 20 = .ok (.iload_n 1, 1) := dk_27 (dk_at dksX3_setWord_0 20 rfl rfl)
theorem dX3_setWord_21 : decode cX3_setWord 21 = .ok (.iaload, 1) := dk_46 (dk_at dksX3_setWord_0 21 rfl rfl)
theorem dX3_setWord_22 : decode cX3_setWord 22 = .ok (.istore_n 3, 1) := dk_62 (dk_at dksX3_setWord_0 22 rfl rfl)
theorem dX3_setWord_23 : decode cX3_setWord 23 = .ok (.aload_n 0, 1) := dk_42 (dk_at dksX3_setWord_0 23 rfl rfl)
theorem dX3_setWord_24 : decode cX3_setWord 24 = .ok (.getfield 53, 3) := dk_180 0 53 (dk_at dksX3_setWord_1 0 rfl rfl)
theorem dX3_setWord_27 : decode cX3_setWord 27 = .ok (.iload_n 1, 1) := dk_27 (dk_at dksX3_setWord_1 3 rfl rfl)
theorem dX3_setWord_28 : decode cX3_setWord 28 = .ok (.iload_n 2, 1) := dk_28 (dk_at dksX3_setWord_1 4 rfl rfl)
theorem dX3_setWord_29 : decode cX3_setWord 29 = .ok (.iastore, 1) := dk_79 (dk_at dksX3_setWord_1 5 rfl rfl)
theorem dX3_setWord_30 : decode cX3_setWord 30 = .ok (.aload_n 0, 1) := dk_42 (dk_at dksX3_setWord_1 6 rfl rfl)
theorem dX3_setWord_31 : decode cX3_setWord 31 = .ok (.getfield 47, 3) := dk_180 0 47 (dk_at dksX3_setWord_1 7 rfl rfl)
theorem dX3_setWord_34 : decode cX3_setWord 34 = .ok (.iload_n 1, 1) := dk_27 (dk_at dksX3_setWord_1 10 rfl rfl)
theorem dX3_setWord_35 : decode cX3_setWord 35 = .ok (.iload_n 2, 1) := dk_28 (dk_at dksX3_setWord_1 11 rfl rfl)
theorem dX3_setWord_36 : decode cX3_setWord 36 = .ok (.iastore, 1) := dk_79 (dk_at dksX3_setWord_1 12 rfl rfl)
theorem dX3_setWord_37 : decode cX3_setWord 37 = .ok (.iload_n 3, 1) := dk_29 (dk_at dksX3_setWord_1 13 rfl rfl)
theorem dX3_setWord_38 : decode cX3_setWord 38 = .ok (.ireturn, 1) := dk_172 (dk_at dksX3_setWord_1 14 rfl rfl)
def dkwX3_setWidth_1 : List UInt8 := [181, 0, 25, 28, 172]
abbrev dktX3_setWidth_1 : List UInt8 := dkwX3_setWidth_1 ++ []
def dkwX3_setWidth_0 : List UInt8 := [42, 27, 4, 7, 184, 0, 129, 182, 0, 139, 153, 0, 5, 3, 172, 42, 180, 0, 25, 61, 42, 27]
abbrev dktX3_setWidth_0 : List UInt8 := dkwX3_setWidth_0 ++ dktX3_setWidth_1
theorem dksX3_setWidth_0 : cX3_setWidth.data.toList.drop 0 = dktX3_setWidth_0 := by decide +kernel
theorem dksX3_setWidth_1 : cX3_setWidth.data.toList.drop 22 = dktX3_setWidth_1 := dk_seg dksX3_setWidth_0 22 rfl rfl
theorem dX3_setWidth_0 : decode cX3_setWidth 0 = .ok (.aload_n 0, 1) := dk_42 (dk_at dksX3_setWidth_0 0 rfl rfl)
theorem dX3_setWidth_1 : decode cX3_setWidth 1 = .ok (.iload_n 1, 1) := dk_27 (dk_at dksX3_setWidth_0 1 rfl rfl)
theorem dX3_setWidth_2 : decode cX3_setWidth 2 = .ok (.iconst 1, 1) := dk_4 (dk_at dksX3_setWidth_0 2 rfl rfl)
theorem dX3_setWidth_3 : decode cX3_setWidth 3 = .ok (.iconst 4, 1) := dk_7 (dk_at dksX3_setWidth_0 3 rfl rfl)
theorem dX3_setWidth_4 : decode cX3_setWidth 4 = .ok (.invokestatic 129, 3) := dk_184 0 129 (dk_at dksX3_setWidth_0 4 rfl rfl)
theorem dX3_setWidth_7 : decode cX3_setWidth 7 = .ok (.invokevirtual 139, 3) := dk_182 0 139 (dk_at dksX3_setWidth_0 7 rfl rfl)
theorem dX3_setWidth_10 : decode cX3_setWidth 10 = .ok (.ifCond .eq 5, 3) := dk_153 0 5 (dk_at dksX3_setWidth_0 10 rfl rfl)
theorem dX3_setWidth_13 : decode cX3_setWidth 13 = .ok (.iconst 0, 1) := dk_3 (dk_at dksX3_setWidth_0 13 rfl rfl)
theorem dX3_setWidth_14 : decode cX3_setWidth 14 = .ok (.ireturn, 1) := dk_172 (dk_at dksX3_setWidth_0 14 rfl rfl)
theorem dX3_setWidth_15 : decode cX3_setWidth 15 = .ok (.aload_n 0, 1) := dk_42 (dk_at dksX3_setWidth_0 15 rfl rfl)
theorem dX3_setWidth_16 : decode cX3_setWidth 16 = .ok (.getfield 25, 3) := dk_180 0 25 (dk_at dksX3_setWidth_0 16 rfl rfl)
theorem dX3_setWidth_19 : decode cX3_setWidth 19 = .ok (.istore_n 2, 1) := dk_61 (dk_at dksX3_setWidth_0 19 rfl rfl)
theorem dX3_setWidth_20 : decode cX3_setWidth 20 = .ok (.aload_n 0, 1) := dk_42 (dk_at dksX3_setWidth_0 20 rfl rfl)
theorem dX3_setWidth_21 : decode cX3_setWidth 21 = .ok (.iload_n 1, 1) := dk_27 (dk_at dksX3_setWidth_0 21 rfl rfl)
theorem dX3_setWidth_22 : decode cX3_setWidth 22 = .ok (.putfield 25, 3) := dk_181 0 25 (dk_at dksX3_setWidth_1 0 rfl rfl)
theorem dX3_setWidth_25 : decode cX3_setWidth 25 = .ok (.iload_n 2, 1) := dk_28 (dk_at dksX3_setWidth_1 3 rfl rfl)
theorem dX3_setWidth_26 : decode cX3_setWidth 26 = .ok (.ireturn, 1) := dk_172 (dk_at dksX3_setWidth_1 4 rfl rfl)
def dkwX3_setBuffer_1 : List UInt8 := [181, 0, 29, 28, 172]
abbrev dktX3_setBuffer_1 : List UInt8 := dkwX3_setBuffer_1 ++ []
def dkwX3_setBuffer_0 : List UInt8 := [42, 27, 7, 16, 16, 184, 0, 129, 182, 0, 139, 153, 0, 5, 3, 172, 42, 180, 0, 29, 61, 42, 27]
abbrev dktX3_setBuffer_0 : List UInt8 := dkwX3_setBuffer_0 ++ dktX3_setBuffer_1
theorem dksX3_setBuffer_0 : cX3_setBuffer.data.toList.drop 0 = dktX3_setBuffer_0 := by decide +kernel
theorem dksX3_setBuffer_1 : cX3_setBuffer.data.toList.drop 23 = dktX3_setBuffer_1 := dk_seg dksX3_setBuffer_0 23 rfl rfl
theorem dX3_setBuffer_0 : decode cX3_setBuffer 0 = .ok (.aload_n 0, 1) := dk_42 (dk_at dksX3_setBuffer_0 0 rfl rfl)
theorem dX3_setBuffer_1 : decode cX3_setBuffer 1 = .ok (.iload_n 1, 1) := dk_27 (dk_at dksX3_setBuffer_0 1 rfl rfl)
theorem dX3_setBuffer_2 : decode cX3_setBuffer 2 = .ok (.iconst 4, 1) := dk_7 (dk_at dksX3_setBuffer_0 2 rfl rfl)
theorem dX3_setBuffer_3 : decode cX3_setBuffer 3 = .ok (.bipush 16, 2) := dk_16 16 (dk_at dksX3_setBuffer_0 3 rfl rfl)
theorem dX3_setBuffer_5 : decode cX3_setBuffer 5 = .ok (.invokestatic 129, 3) := dk_184 0 129 (dk_at dksX3_setBuffer_0 5 rfl rfl)
theorem dX3_setBuffer_8 : decode cX3_setBuffer 8 = .ok (.invokevirtual 139, 3) := dk_182 0 139 (dk_at dksX3_setBuffer_0 8 rfl rfl)
theorem dX3_setBuffer_11 : decode cX3_setBuffer 11 = .ok (.ifCond .eq 5, 3) := dk_153 0 5 (dk_at dksX3_setBuffer_0 11 rfl rfl)
theorem dX3_setBuffer_14 : decode cX3_setBuffer 14 = .ok (.iconst 0, 1) := dk_3 (dk_at dksX3_setBuffer_0 14 rfl rfl)
theorem dX3_setBuffer_15 : decode cX3_setBuffer 15 = .ok (.ireturn, 1) := dk_172 (dk_at dksX3_setBuffer_0 15 rfl rfl)
theorem dX3_setBuffer_16 : decode cX3_setBuffer 16 = .ok (.aload_n 0, 1) := dk_42 (dk_at dksX3_setBuffer_0 16 rfl rfl)
theorem dX3_setBuffer_17 : decode cX3_setBuffer 17 = .ok (.getfield 29, 3) := dk_180 0 29 (dk_at dksX3_setBuffer_0 17 rfl rfl)
theorem dX3_setBuffer_20 : decode cX3_setBuffer 20 = .ok (.istore_n 2, 1) := dk_61 (dk_at dksX3_setBuffer_0 20 rfl rfl)
theorem dX3_setBuffer_21 : decode cX3_setBuffer 21 = .ok (.aload_n 0, 1) := dk_42 (dk_at dksX3_setBuffer_0 21 rfl rfl)
theorem dX3_setBuffer_22 : decode cX3_setBuffer 22 = .ok (.iload_n 1, 1) := dk_27 (dk_at dksX3_setBuffer_0 22 rfl rfl)
theorem dX3_setBuffer_23 : decode cX3_setBuffer 23 = .ok (.putfield 29, 3) := dk_181 0 29 (dk_at dksX3_setBuffer_1 0 rfl rfl)
theorem dX3_setBuffer_26 : decode cX3_setBuffer 26 = .ok (.iload_n 2, 1) := dk_28 (dk_at dksX3_setBuffer_1 3 rfl rfl)
theorem dX3_setBuffer_27 : decode cX3_setBuffer 27 = .ok (.ireturn, 1) := dk_172 (dk_at dksX3_setBuffer_1 4 rfl rfl)
def dkwX3_setQueue_1 : List UInt8 := [181, 0, 32, 28, 172]
abbrev dktX3_setQueue_1 : List UInt8 := dkwX3_setQueue_1 ++ []
def dkwX3_setQueue_0 : List UInt8 := [42, 27, 5, 16, 8, 184, 0, 129, 182, 0, 139, 153, 0, 5, 3, 172, 42, 180, 0, 32, 61, 42, 27]
abbrev dktX3_setQueue_0 : List UInt8 := dkwX3_setQueue_0 ++ dktX3_setQueue_1
theorem dksX3_setQueue_0 : cX3_setQueue.data.toList.drop 0 = dktX3_setQueue_0 := by decide +kernel
theorem dksX3_setQueue_1 : cX3_setQueue.data.toList.drop 23 = dktX3_setQueue_1 := dk_seg dksX3_setQueue_0 23 rfl rfl
theorem dX3_setQueue_0 : decode cX3_setQueue 0 = .ok (.aload_n 0, 1) := dk_42 (dk_at dksX3_setQueue_0 0 rfl rfl)
theorem dX3_setQueue_1 : decode cX3_setQueue 1 = .ok (.iload_n 1, 1) := dk_27 (dk_at dksX3_setQueue_0 1 rfl rfl)
theorem dX3_setQueue_2 : decode cX3_setQueue 2 = .ok (.iconst 2, 1) := dk_5 (dk_at dksX3_setQueue_0 2 rfl rfl)
theorem dX3_setQueue_3 : decode cX3_setQueue 3 = .ok (.bipush 8, 2) := dk_16 8 (dk_at dksX3_setQueue_0 3 rfl rfl)
theorem dX3_setQueue_5 : decode cX3_setQueue 5 = .ok (.invokestatic 129, 3) := dk_184 0 129 (dk_at dksX3_setQueue_0 5 rfl rfl)
theorem dX3_setQueue_8 : decode cX3_setQueue 8 = .ok (.invokevirtual 139, 3) := dk_182 0 139 (dk_at dksX3_setQueue_0 8 rfl rfl)
theorem dX3_setQueue_11 : decode cX3_setQueue 11 = .ok (.ifCond .eq 5, 3) := dk_153 0 5 (dk_at dksX3_setQueue_0 11 rfl rfl)
theorem dX3_setQueue_14 : decode cX3_setQueue 14 = .ok (.iconst 0, 1) := dk_3 (dk_at dksX3_setQueue_0 14 rfl rfl)
theorem dX3_setQueue_15 : decode cX3_setQueue 15 = .ok (.ireturn, 1) := dk_172 (dk_at dksX3_setQueue_0 15 rfl rfl)
theorem dX3_setQueue_16 : decode cX3_setQueue 16 = .ok (.aload_n 0, 1) := dk_42 (dk_at dksX3_setQueue_0 16 rfl rfl)
theorem dX3_setQueue_17 : decode cX3_setQueue 17 = .ok (.getfield 32, 3) := dk_180 0 32 (dk_at dksX3_setQueue_0 17 rfl rfl)
theorem dX3_setQueue_20 : decode cX3_setQueue 20 = .ok (.istore_n 2, 1) := dk_61 (dk_at dksX3_setQueue_0 20 rfl rfl)
theorem dX3_setQueue_21 : decode cX3_setQueue 21 = .ok (.aload_n 0, 1) := dk_42 (dk_at dksX3_setQueue_0 21 rfl rfl)
theorem dX3_setQueue_22 : decode cX3_setQueue 22 = .ok (.iload_n 1, 1) := dk_27 (dk_at dksX3_setQueue_0 22 rfl rfl)
theorem dX3_setQueue_23 : decode cX3_setQueue 23 = .ok (.putfield 32, 3) := dk_181 0 32 (dk_at dksX3_setQueue_1 0 rfl rfl)
theorem dX3_setQueue_26 : decode cX3_setQueue 26 = .ok (.iload_n 2, 1) := dk_28 (dk_at dksX3_setQueue_1 3 rfl rfl)
theorem dX3_setQueue_27 : decode cX3_setQueue 27 = .ok (.ireturn, 1) := dk_172 (dk_at dksX3_setQueue_1 4 rfl rfl)
def dkwX3_setInner_1 : List UInt8 := [181, 0, 35, 42, 182, 0, 120, 28, 172]
abbrev dktX3_setInner_1 : List UInt8 := dkwX3_setInner_1 ++ []
def dkwX3_setInner_0 : List UInt8 := [42, 27, 16, 10, 16, 24, 184, 0, 129, 182, 0, 139, 153, 0, 5, 3, 172, 42, 180, 0, 35, 61, 42, 27]
abbrev dktX3_setInner_0 : List UInt8 := dkwX3_setInner_0 ++ dktX3_setInner_1
theorem dksX3_setInner_0 : cX3_setInner.data.toList.drop 0 = dktX3_setInner_0 := by decide +kernel
theorem dksX3_setInner_1 : cX3_setInner.data.toList.drop 24 = dktX3_setInner_1 := dk_seg dksX3_setInner_0 24 rfl rfl
theorem dX3_setInner_0 : decode cX3_setInner 0 = .ok (.aload_n 0, 1) := dk_42 (dk_at dksX3_setInner_0 0 rfl rfl)
theorem dX3_setInner_1 : decode cX3_setInner 1 = .ok (.iload_n 1, 1) := dk_27 (dk_at dksX3_setInner_0 1 rfl rfl)
theorem dX3_setInner_2 : decode cX3_setInner 2 = .ok (.bipush 10, 2) := dk_16 10 (dk_at dksX3_setInner_0 2 rfl rfl)
theorem dX3_setInner_4 : decode cX3_setInner 4 = .ok (.bipush 24, 2) := dk_16 24 (dk_at dksX3_setInner_0 4 rfl rfl)
theorem dX3_setInner_6 : decode cX3_setInner 6 = .ok (.invokestatic 129, 3) := dk_184 0 129 (dk_at dksX3_setInner_0 6 rfl rfl)
theorem dX3_setInner_9 : decode cX3_setInner 9 = .ok (.invokevirtual 139, 3) := dk_182 0 139 (dk_at dksX3_setInner_0 9 rfl rfl)
theorem dX3_setInner_12 : decode cX3_setInner 12 = .ok (.ifCond .eq 5, 3) := dk_153 0 5 (dk_at dksX3_setInner_0 12 rfl rfl)
theorem dX3_setInner_15 : decode cX3_setInner 15 = .ok (.iconst 0, 1) := dk_3 (dk_at dksX3_setInner_0 15 rfl rfl)
theorem dX3_setInner_16 : decode cX3_setInner 16 = .ok (.ireturn, 1) := dk_172 (dk_at dksX3_setInner_0 16 rfl rfl)
theorem dX3_setInner_17 : decode cX3_setInner 17 = .ok (.aload_n 0, 1) := dk_42 (dk_at dksX3_setInner_0 17 rfl rfl)
theorem dX3_setInner_18 : decode cX3_setInner 18 = .ok (.getfield 35, 3) := dk_180 0 35 (dk_at dksX3_setInner_0 18 rfl rfl)
theorem dX3_setInner_21 : decode cX3_setInner 21 = .ok (.istore_n 2, 1) := dk_61 (dk_at dksX3_setInner_0 21 rfl rfl)
theorem dX3_setInner_22 : decode cX3_setInner 22 = .ok (.aload_n 0, 1) := dk_42 (dk_at dksX3_setInner_0 22 rfl rfl)
theorem dX3_setInner_23 : decode cX3_setInner 23 = .ok (.iload_n 1, 1) := dk_27 (dk_at dksX3_setInner_0 23 rfl rfl)
theorem dX3_setInner_24 : decode cX3_setInner 24 = .ok (.putfield 35, 3) := dk_181 0 35 (dk_at dksX3_setInner_1 0 rfl rfl)
theorem dX3_setInner_27 : decode cX3_setInner 27 = .ok (.aload_n 0, 1) := dk_42 (dk_at dksX3_setInner_1 3 rfl rfl)
theorem dX3_setInner_28 : decode cX3_setInner 28 = .ok (.invokevirtual 120, 3) := dk_182 0 120 (dk_at dksX3_setInner_1 4 rfl rfl)
theorem dX3_setInner_31 : decode cX3_setInner 31 = .ok (.iload_n 2, 1) := dk_28 (dk_at dksX3_setInner_1 7 rfl rfl)
theorem dX3_setInner_32 : decode cX3_setInner 32 = .ok (.ireturn, 1) := dk_172 (dk_at dksX3_setInner_1 8 rfl rfl)
def dkwX3_setHandlers_2 : List UInt8 := [62, 42, 27, 181, 0, 38, 42, 28, 181, 0, 41, 29, 172]
abbrev dktX3_setHandlers_2 : List UInt8 := dkwX3_setHandlers_2 ++ []
def dkwX3_setHandlers_1 : List UInt8 := [167, 0, 4, 3, 182, 0, 139, 153, 0, 5, 3, 172, 16, 64, 42, 180, 0, 38, 104, 42, 180, 0, 41, 96]
abbrev dktX3_setHandlers_1 : List UInt8 := dkwX3_setHandlers_1 ++ dktX3_setHandlers_2
def dkwX3_setHandlers_0 : List UInt8 := [42, 27, 2, 16, 63, 184, 0, 129, 153, 0, 17, 28, 2, 16, 63, 184, 0, 129, 153, 0, 7, 4]
abbrev dktX3_setHandlers_0 : List UInt8 := dkwX3_setHandlers_0 ++ dktX3_setHandlers_1
theorem dksX3_setHandlers_0 : cX3_setHandlers.data.toList.drop 0 = dktX3_setHandlers_0 := by decide +kernel
theorem dksX3_setHandlers_1 : cX3_setHandlers.data.toList.drop 22 = dktX3_setHandlers_1 := dk_seg dksX3_setHandlers_0 22 rfl rfl
theorem dksX3_setHandlers_2 : cX3_setHandlers.data.toList.drop 46 = dktX3_setHandlers_2 := dk_seg dksX3_setHandlers_1 24 rfl rfl
theorem dX3_setHandlers_0 : decode cX3_setHandlers 0 = .ok (.aload_n 0, 1) := dk_42 (dk_at dksX3_setHandlers_0 0 rfl rfl)
theorem dX3_setHandlers_1 : decode cX3_setHandlers 1 = .ok (.iload_n 1, 1) := dk_27 (dk_at dksX3_setHandlers_0 1 rfl rfl)
theorem dX3_setHandlers_2 : decode cX3_setHandlers 2 = .ok (.iconst (-1), 1) := dk_2 (dk_at dksX3_setHandlers_0 2 rfl rfl)
theorem dX3_setHandlers_3 : decode cX3_setHandlers 3 = .ok (.bipush 63, 2) := dk_16 63 (dk_at dksX3_setHandlers_0 3 rfl rfl)
theorem dX3_setHandlers_5 : decode cX3_setHandlers 5 = .ok (.invokestatic 129, 3) := dk_184 0 129 (dk_at dksX3_setHandlers_0 5 rfl rfl)
theorem dX3_setHandlers_8 : decode cX3_setHandlers 8 = .ok (.ifCond .eq 17, 3) := dk_153 0 17 (dk_at dksX3_setHandlers_0 8 rfl rfl)
theorem dX3_setHandlers_11 : decode cX3_setHandlers 11 = .ok (.iload_n 2, 1) := dk_28 (dk_at dksX3_setHandlers_0 11 rfl rfl)
theorem dX3_setHandlers_12 : decode cX3_setHandlers 12 = .ok (.iconst (-1), 1) := dk_2 (dk_at dksX3_setHandlers_0 12 rfl rfl)
theorem dX3_setHandlers_13 : decode cX3_setHandlers 13 = .ok (.bipush 63, 2) := dk_16 63 (dk_at dksX3_setHandlers_0 13 rfl rfl)
theorem dX3_setHandlers_15 : decode cX3_setHandlers 15 = .ok (.invokestatic 129, 3) := dk_184 0 129 (dk_at dksX3_setHandlers_0 15 rfl rfl)
theorem dX3_setHandlers_18 : decode cX3_setHandlers 18 = .ok (.ifCond .eq 7, 3) := dk_153 0 7 (dk_at dksX3_setHandlers_0 18 rfl rfl)
theorem dX3_setHandlers_21 : decode cX3_setHandlers 21 = .ok (.iconst 1, 1) := dk_4 (dk_at dksX3_setHandlers_0 21 rfl rfl)
theorem dX3_setHandlers_22 : decode cX3_setHandlers 22 = .ok (.goto 4, 3) := dk_167 0 4 (dk_at dksX3_setHandlers_1 0 rfl rfl)
theorem dX3_setHandlers_25 : decode cX3_setHandlers 25 = .ok (.iconst 0, 1) := dk_3 (dk_at dksX3_setHandlers_1 3 rfl rfl)
theorem dX3_setHandlers_26 : decode cX3_setHandlers 26 = .ok (.invokevirtual 139, 3) := dk_182 0 139 (dk_at dksX3_setHandlers_1 4 rfl rfl)
theorem dX3_setHandlers_29 : decode cX3_setHandlers 29 = .ok (.ifCond .eq 5, 3) := dk_153 0 5 (dk_at dksX3_setHandlers_1 7 rfl rfl)
theorem dX3_setHandlers_32 : decode cX3_setHandlers 32 = .ok (.iconst 0, 1) := dk_3 (dk_at dksX3_setHandlers_1 10 rfl rfl)
theorem dX3_setHandlers_33 : decode cX3_setHandlers 33 = .ok (.ireturn, 1) := dk_172 (dk_at dksX3_setHandlers_1 11 rfl rfl)
theorem dX3_setHandlers_34 : decode cX3_setHandlers 34 = .ok (.bipush 64, 2) := dk_16 64 (dk_at dksX3_setHandlers_1 12 rfl rfl)
theorem dX3_setHandlers_36 : decode cX3_setHandlers 36 = .ok (.aload_n 0, 1) := dk_42 (dk_at dksX3_setHandlers_1 14 rfl rfl)
theorem dX3_setHandlers_37 : decode cX3_setHandlers 37 = .ok (.getfield 38, 3) := dk_180 0 38 (dk_at dksX3_setHandlers_1 15 rfl rfl)
theorem dX3_setHandlers_40 : decode cX3_setHandlers 40 = .ok (.imul, 1) := dk_104 (dk_at dksX3_setHandlers_1 18 rfl rfl)
theorem dX3_setHandlers_41 : decode cX3_setHandlers 41 = .ok (.aload_n 0, 1) := dk_42 (dk_at dksX3_setHandlers_1 19 rfl rfl)
theorem dX3_setHandlers_42 : decode cX3_setHandlers 42 = .ok (.getfield 41, 3) := dk_180 0 41 (dk_at dksX3_setHandlers_1 20 rfl rfl)
theorem dX3_setHandlers_45 : decode cX3_setHandlers 45 = .ok (.iadd, 1) := dk_96 (dk_at dksX3_setHandlers_1 23 rfl rfl)
theorem dX3_setHandlers_46 : decode cX3_setHandlers 46 = .ok (.istore_n 3, 1) := dk_62 (dk_at dksX3_setHandlers_2 0 rfl rfl)
theorem dX3_setHandlers_47 : decode cX3_setHandlers 47 = .ok (.aload_n 0, 1) := dk_42 (dk_at dksX3_setHandlers_2 1 rfl rfl)
theorem dX3_setHandlers_48 : decode cX3_setHandlers 48 = .ok (.iload_n 1, 1) := dk_27 (dk_at dksX3_setHandlers_2 2 rfl rfl)
theorem dX3_setHandlers_49 : decode cX3_setHandlers 49 = .ok (.putfield 38, 3) := dk_181 0 38 (dk_at dksX3_setHandlers_2 3 rfl rfl)
theorem dX3_setHandlers_52 : decode cX3_setHandlers 52 = .ok (.aload_n 0, 1) := dk_42 (dk_at dksX3_setHandlers_2 6 rfl rfl)
theorem dX3_setHandlers_53 : decode cX3_setHandlers 53 = .ok (.iload_n 2, 1) := dk_28 (dk_at dksX3_setHandlers_2 7 rfl rfl)
theorem dX3_setHandlers_54 : decode cX3_setHandlers 54 = .ok (.putfield 41, 3) := dk_181 0 41 (dk_at dksX3_setHandlers_2 8 rfl rfl)
theorem dX3_setHandlers_57 : decode cX3_setHandlers 57 = .ok (.iload_n 3, 1) := dk_29 (dk_at dksX3_setHandlers_2 11 rfl rfl)
theorem dX3_setHandlers_58 : decode cX3_setHandlers 58 = .ok (.ireturn, 1) := dk_172 (dk_at dksX3_setHandlers_2 12 rfl rfl)
def dkwX3_setTime_2 : List UInt8 := [180, 0, 50, 27, 28, 79, 29, 172]
abbrev dktX3_setTime_2 : List UInt8 := dkwX3_setTime_2 ++ []
def dkwX3_setTime_1 : List UInt8 := [167, 0, 4, 4, 181, 0, 123, 42, 180, 0, 123, 158, 0, 5, 3, 172, 42, 180, 0, 50, 27, 46, 62, 42]
abbrev dktX3_setTime_1 : List UInt8 := dkwX3_setTime_1 ++ dktX3_setTime_2
def dkwX3_setTime_0 : List UInt8 := [42, 27, 3, 16, 15, 184, 0, 129, 153, 0, 17, 28, 4, 16, 30, 184, 0, 129, 153, 0, 7, 3]
abbrev dktX3_setTime_0 : List UInt8 := dkwX3_setTime_0 ++ dktX3_setTime_1
theorem dksX3_setTime_0 : cX3_setTime.data.toList.drop 0 = dktX3_setTime_0 := by decide +kernel
theorem dksX3_setTime_1 : cX3_setTime.data.toList.drop 22 = dktX3_setTime_1 := dk_seg dksX3_setTime_0 22 rfl rfl
theorem dksX3_setTime_2 : cX3_setTime.data.toList.drop 46 = dktX3_setTime_2 := dk_seg dksX3_setTime_1 24 rfl rfl
theorem dX3_setTime_0 : decode cX3_setTime 0 = .ok (.aload_n 0, 1) := dk_42 (dk_at dksX3_setTime_0 0 rfl rfl)
theorem dX3_setTime_1 : decode cX3_setTime 1 = .ok (.iload_n 1, 1) := dk_27 (dk_at dksX3_setTime_0 1 rfl rfl)
theorem dX3_setTime_2 : decode cX3_setTime 2 = .ok (.iconst 0, 1) := dk_3 (dk_at dksX3_setTime_0 2 rfl rfl)
theorem dX3_setTime_3 : decode cX3_setTime 3 = .ok (.bipush 15, 2) := dk_16 15 (dk_at dksX3_setTime_0 3 rfl rfl)
theorem dX3_setTime_5 : decode cX3_setTime 5 = .ok (.invokestatic 129, 3) := dk_184 0 129 (dk_at dksX3_setTime_0 5 rfl rfl)
theorem dX3_setTime_8 : decode cX3_setTime 8 = .ok (.ifCond .eq 17, 3) := dk_153 0 17 (dk_at dksX3_setTime_0 8 rfl rfl)
theorem dX3_setTime_11 : decode cX3_setTime 11 = .ok (.iload_n 2, 1) := dk_28 (dk_at dksX3_setTime_0 11 rfl rfl)
theorem dX3_setTime_12 : decode cX3_setTime 12 = .ok (.iconst 1, 1) := dk_4 (dk_at dksX3_setTime_0 12 rfl rfl)
theorem dX3_setTime_13 : decode cX3_setTime 13 = .ok (.bipush 30, 2) := dk_16 30 (dk_at dksX3_setTime_0 13 rfl rfl)
theorem dX3_setTime_15 : decode cX3_setTime 15 = .ok (.invokestatic 129, 3) := dk_184 0 129 (dk_at dksX3_setTime_0 15 rfl rfl)
theorem dX3_setTime_18 : decode cX3_setTime 18 = .ok (.ifCond .eq 7, 3) := dk_153 0 7 (dk_at dksX3_setTime_0 18 rfl rfl)
theorem dX3_setTime_21 : decode cX3_setTime 21 = .ok (.iconst 0, 1) := dk_3 (dk_at dksX3_setTime_0 21 rfl rfl)
theorem dX3_setTime_22 : decode cX3_setTime 22 = .ok (.goto 4, 3) := dk_167 0 4 (dk_at dksX3_setTime_1 0 rfl rfl)
theorem dX3_setTime_25 : decode cX3_setTime 25 = .ok (.iconst 1, 1) := dk_4 (dk_at dksX3_setTime_1 3 rfl rfl)
theorem dX3_setTime_26 : decode cX3_setTime 26 = .ok (.putfield 123, 3) := dk_181 0 123 (dk_at dksX3_setTime_1 4 rfl rfl)
theorem dX3_setTime_29 : decode cX3_setTime 29 = .ok (.aload_n 0, 1) := dk_42 (dk_at dksX3_setTime_1 7 rfl rfl)
theorem dX3_setTime_30 : decode cX3_setTime 30 = .ok (.getfield 123, 3) := dk_180 0 123 (dk_at dksX3_setTime_1 8 rfl rfl)
theorem dX3_setTime_33 : decode cX3_setTime 33 = .ok (.ifCond .le 5, 3) := dk_158 0 5 (dk_at dksX3_setTime_1 11 rfl rfl)
theorem dX3_setTime_36 : decode cX3_setTime 36 = .ok (.iconst 0, 1) := dk_3 (dk_at dksX3_setTime_1 14 rfl rfl)
theorem dX3_setTime_37 : decode cX3_setTime 37 = .ok (.ireturn, 1) := dk_172 (dk_at dksX3_setTime_1 15 rfl rfl)
theorem dX3_setTime_38 : decode cX3_setTime 38 = .ok (.aload_n 0, 1) := dk_42 (dk_at dksX3_setTime_1 16 rfl rfl)
theorem dX3_setTime_39 : decode cX3_setTime 39 = .ok (.getfield 50, 3) := dk_180 0 50 (dk_at dksX3_setTime_1 17 rfl rfl)
theorem dX3_setTime_42 : decode cX3_setTime 42 = .ok (.iload_n 1, 1) := dk_27 (dk_at dksX3_setTime_1 20 rfl rfl)
theorem dX3_setTime_43 : decode cX3_setTime 43 = .ok (.iaload, 1) := dk_46 (dk_at dksX3_setTime_1 21 rfl rfl)
theorem dX3_setTime_44 : decode cX3_setTime 44 = .ok (.istore_n 3, 1) := dk_62 (dk_at dksX3_setTime_1 22 rfl rfl)
theorem dX3_setTime_45 : decode cX3_setTime 45 = .ok (.aload_n 0, 1) := dk_42 (dk_at dksX3_setTime_1 23 rfl rfl)
theorem dX3_setTime_46 : decode cX3_setTime 46 = .ok (.getfield 50, 3) := dk_180 0 50 (dk_at dksX3_setTime_2 0 rfl rfl)
theorem dX3_setTime_49 : decode cX3_setTime 49 = .ok (.iload_n 1, 1) := dk_27 (dk_at dksX3_setTime_2 3 rfl rfl)
theorem dX3_setTime_50 : decode cX3_setTime 50 = .ok (.iload_n 2, 1) := dk_28 (dk_at dksX3_setTime_2 4 rfl rfl)
theorem dX3_setTime_51 : decode cX3_setTime 51 = .ok (.iastore, 1) := dk_79 (dk_at dksX3_setTime_2 5 rfl rfl)
theorem dX3_setTime_52 : decode cX3_setTime 52 = .ok (.iload_n 3, 1) := dk_29 (dk_at dksX3_setTime_2 6 rfl rfl)
theorem dX3_setTime_53 : decode cX3_setTime 53 = .ok (.ireturn, 1) := dk_172 (dk_at dksX3_setTime_2 7 rfl rfl)
def dkwX3_interrupt_0 : List UInt8 := [42, 3, 181, 0, 123, 42, 180, 0, 143, 60, 42, 4, 181, 0, 143, 27, 172]
abbrev dktX3_interrupt_0 : List UInt8 := dkwX3_interrupt_0 ++ []
theorem dksX3_interrupt_0 : cX3_interrupt.data.toList.drop 0 = dktX3_interrupt_0 := by decide +kernel
theorem dX3_interrupt_0 : decode cX3_interrupt 0 = .ok (.aload_n 0, 1) := dk_42 (dk_at dksX3_interrupt_0 0 rfl rfl)
theorem dX3_interrupt_1 : decode cX3_interrupt 1 = .ok (.iconst 0, 1) := dk_3 (dk_at dksX3_interrupt_0 1 rfl rfl)
theorem dX3_interrupt_2 : decode cX3_interrupt 2 = .ok (.putfield 123, 3) := dk_181 0 123 (dk_at dksX3_interrupt_0 2 rfl rfl)
theorem dX3_interrupt_5 : decode cX3_interrupt 5 = .ok (.aload_n 0, 1) := dk_42 (dk_at dksX3_interrupt_0 5 rfl rfl)
theorem dX3_interrupt_6 : decode cX3_interrupt 6 = .ok (.getfield 143, 3) := dk_180 0 143 (dk_at dksX3_interrupt_0 6 rfl rfl)
theorem dX3_interrupt_9 : decode cX3_interrupt 9 = .ok (.istore_n 1, 1) := dk_60 (dk_at dksX3_interrupt_0 9 rfl rfl)
theorem dX3_interrupt_10 : decode cX3_interrupt 10 = .ok (.aload_n 0, 1) := dk_42 (dk_at dksX3_interrupt_0 10 rfl rfl)
theorem dX3_interrupt_11 : decode cX3_interrupt 11 = .ok (.iconst 1, 1) := dk_4 (dk_at dksX3_interrupt_0 11 rfl rfl)
theorem dX3_interrupt_12 : decode cX3_interrupt 12 = .ok (.putfield 143, 3) := dk_181 0 143 (dk_at dksX3_interrupt_0 12 rfl rfl)
theorem dX3_interrupt_15 : decode cX3_interrupt 15 = .ok (.iload_n 1, 1) := dk_27 (dk_at dksX3_interrupt_0 15 rfl rfl)
theorem dX3_interrupt_16 : decode cX3_interrupt 16 = .ok (.ireturn, 1) := dk_172 (dk_at dksX3_interrupt_0 16 rfl rfl)
def dkwX3_run_3 : List UInt8 := [132, 3, 1, 167, 255, 230, 42, 180, 0, 150, 28, 100, 172]
abbrev dktX3_run_3 : List UInt8 := dkwX3_run_3 ++ []
def dkwX3_run_2 : List UInt8 := [62, 29, 27, 162, 0, 27, 42, 180, 0, 123, 154, 0, 20, 42, 180, 0, 147, 154, 0, 13, 42, 182, 0, 153]
abbrev dktX3_run_2 : List UInt8 := dkwX3_run_2 ++ dktX3_run_3
def dkwX3_run_1 : List UInt8 := [167, 0, 15, 42, 180, 0, 147, 153, 0, 7, 5, 167, 0, 4, 3, 181, 0, 123, 42, 180, 0, 150, 61, 3]
abbrev dktX3_run_1 : List UInt8 := dkwX3_run_1 ++ dktX3_run_2
def dkwX3_run_0 : List UInt8 := [42, 27, 4, 16, 60, 184, 0, 129, 153, 0, 15, 42, 180, 0, 133, 27, 96, 17, 1, 244, 164, 0, 7, 4]
abbrev dktX3_run_0 : List UInt8 := dkwX3_run_0 ++ dktX3_run_1
theorem dksX3_run_0 : cX3_run.data.toList.drop 0 = dktX3_run_0 := by decide +kernel
theorem dksX3_run_1 : cX3_run.data.toList.drop 24 = dktX3_run_1 := dk_seg dksX3_run_0 24 rfl rfl
theorem dksX3_run_2 : cX3_run.data.toList.drop 48 = dktX3_run_2 := dk_seg dksX3_run_1 24 rfl rfl
theorem dksX3_run_3 : cX3_run.data.toList.drop 72 = dktX3_run_3 := dk_seg dksX3_run_2 24 rfl rfl
theorem dX3_run_0 : decode cX3_run 0 = .ok (.aload_n 0, 1) := dk_42 (dk_at dksX3_run_0 0 rfl rfl)
theorem dX3_run_1 : decode cX3_run 1 = .ok (.iload_n 1, 1) := dk_27 (dk_at dksX3_run_0 1 rfl rfl)
theorem dX3_run_2 : decode cX3_run 2 = .ok (.iconst 1, 1) := dk_4 (dk_at dksX3_run_0 2 rfl rfl)
theorem dX3_run_3 : decode cX3_run 3 = .ok (.bipush 60, 2) := dk_16 60 (dk_at dksX3_run_0 3 rfl rfl)
theorem dX3_run_5 : decode cX3_run 5 = .ok (.invokestatic 129, 3) := dk_184 0 129 (dk_at dksX3_run_0 5 rfl rfl)
theorem dX3_run_8 : decode cX3_run 8 = .ok (.ifCond .eq 15, 3) := dk_153 0 15 (dk_at dksX3_run_0 8 rfl rfl)
theorem dX3_run_11 : decode cX3_run 11 = .ok (.aload_n 0, 1) := dk_42 (dk_at dksX3_run_0 11 rfl rfl)
theorem dX3_run_12 : decode cX3_run 12 = .ok (.getfield 133, 3) := dk_180 0 133 (dk_at dksX3_run_0 12 rfl rfl)
theorem dX3_run_15 : decode cX3_run 15 = .ok (.iload_n 1, 1) := dk_27 (dk_at dksX3_run_0 15 rfl rfl)
theorem dX3_run_16 : decode cX3_run 16 = .ok (.iadd, 1) := dk_96 (dk_at dksX3_run_0 16 rfl rfl)
theorem dX3_run_17 : decode cX3_run 17 = .ok (.sipush 500, 3) := dk_17 1 244 (dk_at dksX3_run_0 17 rfl rfl)
theorem dX3_run_20 : decode cX3_run 20 = .ok (.if_icmp .le 7, 3) := dk_164 0 7 (dk_at dksX3_run_0 20 rfl rfl)
theorem dX3_run_23 : decode cX3_run 23 = .ok (.iconst 1, 1) := dk_4 (dk_at dksX3_run_0 23 rfl rfl)
theorem dX3_run_24 : decode cX3_run 24 = .ok (.goto 15, 3) := dk_167 0 15 (dk_at dksX3_run_1 0 rfl rfl)
theorem dX3_run_27 : decode cX3_run 27 = .ok (.aload_n 0, 1) := dk_42 (dk_at dksX3_run_1 3 rfl rfl)
theorem dX3_run_28 : decode cX3_run 28 = .ok (.getfield 147, 3) := dk_180 0 147 (dk_at dksX3_run_1 4 rfl rfl)
theorem dX3_run_31 : decode cX3_run 31 = .ok (.ifCond .eq 7, 3) := dk_153 0 7 (dk_at dksX3_run_1 7 rfl rfl)
theorem dX3_run_34 : decode cX3_run 34 = .ok (.iconst 2, 1) := dk_5 (dk_at dksX3_run_1 10 rfl rfl)
theorem dX3_run_35 : decode cX3_run 35 = .ok (.goto 4, 3) := dk_167 0 4 (dk_at dksX3_run_1 11 rfl rfl)
theorem dX3_run_38 : decode cX3_run 38 = .ok (.iconst 0, 1) := dk_3 (dk_at dksX3_run_1 14 rfl rfl)
theorem dX3_run_39 : decode cX3_run 39 = .ok (.putfield 123, 3) := dk_181 0 123 (dk_at dksX3_run_1 15 rfl rfl)
theorem dX3_run_42 : decode cX3_run 42 = .ok (.aload_n 0, 1) := dk_42 (dk_at dksX3_run_1 18 rfl rfl)
theorem dX3_run_43 : decode cX3_run 43 = .ok (.getfield 150, 3) := dk_180 0 150 (dk_at dksX3_run_1 19 rfl rfl)
theorem dX3_run_46 : decode cX3_run 46 = .ok (.istore_n 2, 1) := dk_61 (dk_at dksX3_run_1 22 rfl rfl)
theorem dX3_run_47 : decode cX3_run 47 = .ok (.iconst 0, 1) := dk_3 (dk_at dksX3_run_1 23 rfl rfl)
theorem dX3_run_48 : decode cX3_run 48 = .ok (.istore_n 3, 1) := dk_62 (dk_at dksX3_run_2 0 rfl rfl)
theorem dX3_run_49 : decode cX3_run 49 = .ok (.iload_n 3, 1) := dk_29 (dk_at dksX3_run_2 1 rfl rfl)
theorem dX3_run_50 : decode cX3_run 50 = .ok (.iload_n 1, 1) := dk_27 (dk_at dksX3_run_2 2 rfl rfl)
theorem dX3_run_51 : decode cX3_run 51 = .ok (.if_icmp .ge 27, 3) := dk_162 0 27 (dk_at dksX3_run_2 3 rfl rfl)
theorem dX3_run_54 : decode cX3_run 54 = .ok (.aload_n 0, 1) := dk_42 (dk_at dksX3_run_2 6 rfl rfl)
theorem dX3_run_55 : decode cX3_run 55 = .ok (.getfield 123, 3) := dk_180 0 123 (dk_at dksX3_run_2 7 rfl rfl)
theorem dX3_run_58 : decode cX3_run 58 = .ok (.ifCond .ne 20, 3) := dk_154 0 20 (dk_at dksX3_run_2 10 rfl rfl)
theorem dX3_run_61 : decode cX3_run 61 = .ok (.aload_n 0, 1) := dk_42 (dk_at dksX3_run_2 13 rfl rfl)
theorem dX3_run_62 : decode cX3_run 62 = .ok (.getfield 147, 3) := dk_180 0 147 (dk_at dksX3_run_2 14 rfl rfl)
theorem dX3_run_65 : decode cX3_run 65 = .ok (.ifCond .ne 13, 3) := dk_154 0 13 (dk_at dksX3_run_2 17 rfl rfl)
theorem dX3_run_68 : decode cX3_run 68 = .ok (.aload_n 0, 1) := dk_42 (dk_at dksX3_run_2 20 rfl rfl)
theorem dX3_run_69 : decode cX3_run 69 = .ok (.invokevirtual 153, 3) := dk_182 0 153 (dk_at dksX3_run_2 21 rfl rfl)
theorem dX3_run_72 : decode cX3_run 72 = .ok (.iinc 3 1, 3) := dk_132 3 1 (dk_at dksX3_run_3 0 rfl rfl)
theorem dX3_run_75 : decode cX3_run 75 = .ok (.goto (-26), 3) := dk_167 255 230 (dk_at dksX3_run_3 3 rfl rfl)
theorem dX3_run_78 : decode cX3_run 78 = .ok (.aload_n 0, 1) := dk_42 (dk_at dksX3_run_3 6 rfl rfl)
theorem dX3_run_79 : decode cX3_run 79 = .ok (.getfield 150, 3) := dk_180 0 150 (dk_at dksX3_run_3 7 rfl rfl)
theorem dX3_run_82 : decode cX3_run 82 = .ok (.iload_n 2, 1) := dk_28 (dk_at dksX3_run_3 10 rfl rfl)
theorem dX3_run_83 : decode cX3_run 83 = .ok (.isub, 1) := dk_100 (dk_at dksX3_run_3 11 rfl rfl)
theorem dX3_run_84 : decode cX3_run 84 = .ok (.ireturn, 1) := dk_172 (dk_at dksX3_run_3 12 rfl rfl)
def dkwX3_cycles_1 : List UInt8 := [182, 0, 165, 42, 182, 0, 168, 42, 182, 0, 171, 177]
abbrev dktX3_cycles_1 : List UInt8 := dkwX3_cycles_1 ++ []
def dkwX3_cycles_0 : List UInt8 := [42, 89, 180, 0, 133, 4, 96, 181, 0, 133, 42, 182, 0, 156, 42, 182, 0, 159, 42, 182, 0, 162, 42]
abbrev dktX3_cycles_0 : List UInt8 := dkwX3_cycles_0 ++ dktX3_cycles_1
theorem dksX3_cycles_0 : cX3_cycles.data.toList.drop 0 = dktX3_cycles_0 := by decide +kernel
theorem dksX3_cycles_1 : cX3_cycles.data.toList.drop 23 = dktX3_cycles_1 := dk_seg dksX3_cycles_0 23 rfl rfl
theorem dX3_cycles_0 : decode cX3_cycles 0 = .ok (.aload_n 0, 1) := dk_42 (dk_at dksX3_cycles_0 0 rfl rfl)
theorem dX3_cycles_1 : decode cX3_cycles 1 = .ok (.dup, 1) := dk_89 (dk_at dksX3_cycles_0 1 rfl rfl)
theorem dX3_cycles_2 : decode cX3_cycles 2 = .ok (.getfield 133, 3) := dk_180 0 133 (dk_at dksX3_cycles_0 2 rfl rfl)
theorem dX3_cycles_5 : decode cX3_cycles 5 = .ok (.iconst 1, 1) := dk_4 (dk_at dksX3_cycles_0 5 rfl rfl)
theorem dX3_cycles_6 : decode cX3_cycles 6 = .ok (.iadd, 1) := dk_96 (dk_at dksX3_cycles_0 6 rfl rfl)
theorem dX3_cycles_7 : decode cX3_cycles 7 = .ok (.putfield 133, 3) := dk_181 0 133 (dk_at dksX3_cycles_0 7 rfl rfl)
theorem dX3_cycles_10 : decode cX3_cycles 10 = .ok (.aload_n 0, 1) := dk_42 (dk_at dksX3_cycles_0 10 rfl rfl)
theorem dX3_cycles_11 : decode cX3_cycles 11 = .ok (.invokevirtual 156, 3) := dk_182 0 156 (dk_at dksX3_cycles_0 11 rfl rfl)
theorem dX3_cycles_14 : decode cX3_cycles 14 = .ok (.aload_n 0, 1) := dk_42 (dk_at dksX3_cycles_0 14 rfl rfl)
theorem dX3_cycles_15 : decode cX3_cycles 15 = .ok (.invokevirtual 159, 3) := dk_182 0 159 (dk_at dksX3_cycles_0 15 rfl rfl)
theorem dX3_cycles_18 : decode cX3_cycles 18 = .ok (.aload_n 0, 1) := dk_42 (dk_at dksX3_cycles_0 18 rfl rfl)
theorem dX3_cycles_19 : decode cX3_cycles 19 = .ok (.invokevirtual 162, 3) := dk_182 0 162 (dk_at dksX3_cycles_0 19 rfl rfl)
theorem dX3_cycles_22 : decode cX3_cycles 22 = .ok (.aload_n 0, 1) := dk_42 (dk_at dksX3_cycles_0 22 rfl rfl)
theorem dX3_cycles_23 : decode cX3_cycles 23 = .ok (.invokevirtual 165, 3) := dk_182 0 165 (dk_at dksX3_cycles_1 0 rfl rfl)
theorem dX3_cycles_26 : decode cX3_cycles 26 = .ok (.aload_n 0, 1) := dk_42 (dk_at dksX3_cycles_1 3 rfl rfl)
theorem dX3_cycles_27 : decode cX3_cycles 27 = .ok (.invokevirtual 168, 3) := dk_182 0 168 (dk_at dksX3_cycles_1 4 rfl rfl)
theorem dX3_cycles_30 : decode cX3_cycles 30 = .ok (.aload_n 0, 1) := dk_42 (dk_at dksX3_cycles_1 7 rfl rfl)
theorem dX3_cycles_31 : decode cX3_cycles 31 = .ok (.invokevirtual 171, 3) := dk_182 0 171 (dk_at dksX3_cycles_1 8 rfl rfl)
theorem dX3_cycles_34 : decode cX3_cycles 34 = .ok (.return_, 1) := dk_177 (dk_at dksX3_cycles_1 11 rfl rfl)
def dkwX3_answers_7 : List UInt8 := [132, 1, 1, 167, 255, 90, 177]
abbrev dktX3_answers_7 : List UInt8 := dkwX3_answers_7 ++ []
def dkwX3_answers_6 : List UInt8 := [16, 11, 16, 120, 79, 42, 180, 0, 74, 29, 50, 16, 12, 42, 180, 0, 133, 79, 132, 3, 1, 167, 255, 192]
abbrev dktX3_answers_6 : List UInt8 := dkwX3_answers_6 ++ dktX3_answers_7
def dkwX3_answers_5 : List UInt8 := [160, 0, 42, 42, 180, 0, 74, 29, 50, 16, 14, 46, 7, 108, 28, 160, 0, 27, 42, 180, 0, 74, 29, 50]
abbrev dktX3_answers_5 : List UInt8 := dkwX3_answers_5 ++ dktX3_answers_6
def dkwX3_answers_4 : List UInt8 := [132, 1, 255, 3, 62, 29, 42, 180, 0, 198, 162, 0, 62, 42, 180, 0, 74, 29, 50, 16, 11, 46, 16, 109]
abbrev dktX3_answers_4 : List UInt8 := dkwX3_answers_4 ++ dktX3_answers_5
def dkwX3_answers_3 : List UInt8 := [96, 46, 79, 42, 180, 0, 98, 29, 42, 180, 0, 98, 29, 4, 96, 46, 79, 132, 3, 1, 167, 255, 217]
abbrev dktX3_answers_3 : List UInt8 := dkwX3_answers_3 ++ dktX3_answers_4
def dkwX3_answers_2 : List UInt8 := [181, 0, 222, 27, 62, 29, 42, 180, 0, 222, 162, 0, 37, 42, 180, 0, 95, 29, 42, 180, 0, 95, 29, 4]
abbrev dktX3_answers_2 : List UInt8 := dkwX3_answers_2 ++ dktX3_answers_3
def dkwX3_answers_1 : List UInt8 := [180, 0, 95, 27, 46, 61, 42, 180, 0, 92, 28, 7, 112, 28, 79, 42, 89, 180, 0, 222, 4, 100]
abbrev dktX3_answers_1 : List UInt8 := dkwX3_answers_1 ++ dktX3_answers_2
def dkwX3_answers_0 : List UInt8 := [3, 60, 27, 42, 180, 0, 222, 162, 0, 164, 42, 180, 0, 98, 27, 46, 42, 180, 0, 133, 160, 0, 145, 42]
abbrev dktX3_answers_0 : List UInt8 := dkwX3_answers_0 ++ dktX3_answers_1
theorem dksX3_answers_0 : cX3_answers.data.toList.drop 0 = dktX3_answers_0 := by decide +kernel
theorem dksX3_answers_1 : cX3_answers.data.toList.drop 24 = dktX3_answers_1 := dk_seg dksX3_answers_0 24 rfl rfl
theorem dksX3_answers_2 : cX3_answers.data.toList.drop 46 = dktX3_answers_2 := dk_seg dksX3_answers_1 22 rfl rfl
theorem dksX3_answers_3 : cX3_answers.data.toList.drop 70 = dktX3_answers_3 := dk_seg dksX3_answers_2 24 rfl rfl
theorem dksX3_answers_4 : cX3_answers.data.toList.drop 93 = dktX3_answers_4 := dk_seg dksX3_answers_3 23 rfl rfl
theorem dksX3_answers_5 : cX3_answers.data.toList.drop 117 = dktX3_answers_5 := dk_seg dksX3_answers_4 24 rfl rfl
theorem dksX3_answers_6 : cX3_answers.data.toList.drop 141 = dktX3_answers_6 := dk_seg dksX3_answers_5 24 rfl rfl
theorem dksX3_answers_7 : cX3_answers.data.toList.drop 165 = dktX3_answers_7 := dk_seg dksX3_answers_6 24 rfl rfl
theorem dX3_answers_0 : decode cX3_answers 0 = .ok (.iconst 0, 1) := dk_3 (dk_at dksX3_answers_0 0 rfl rfl)
theorem dX3_answers_1 : decode cX3_answers 1 = .ok (.istore_n 1, 1) := dk_60 (dk_at dksX3_answers_0 1 rfl rfl)
theorem dX3_answers_2 : decode cX3_answers 2 = .ok (.iload_n 1, 1) := dk_27 (dk_at dksX3_answers_0 2 rfl rfl)
theorem dX3_answers_3 : decode cX3_answers 3 = .ok (.aload_n 0, 1) := dk_42 (dk_at dksX3_answers_0 3 rfl rfl)
theorem dX3_answers_4 : decode cX3_answers 4 = .ok (.getfield 222, 3) := dk_180 0 222 (dk_at dksX3_answers_0 4 rfl rfl)
theorem dX3_answers_7 : decode cX3_answers 7 = .ok (.if_icmp .ge 164, 3) := dk_162 0 164 (dk_at dksX3_answers_0 7 rfl rfl)
theorem dX3_answers_10 : decode cX3_answers 10 = .ok (.aload_n 0, 1) := dk_42 (dk_at dksX3_answers_0 10 rfl rfl)
theorem dX3_answers_11 : decode cX3_answers 11 = .ok (.getfield 98, 3) := dk_180 0 98 (dk_at dksX3_answers_0 11 rfl rfl)
theorem dX3_answers_14 : decode cX3_answers 14 = .ok (.iload_n 1, 1) := dk_27 (dk_at dksX3_answers_0 14 rfl rfl)
theorem dX3_answers_15 : decode cX3_answers 15 = .ok (.iaload, 1) := dk_46 (dk_at dksX3_answers_0 15 rfl rfl)
theorem dX3_answers_16 : decode cX3_answers 16 = .ok (.aload_n 0, 1) := dk_42 (dk_at dksX3_answers_0 16 rfl rfl)
theorem dX3_answers_17 : decode cX3_answers 17 = .ok (.getfield 133, 3) := dk_180 0 133 (dk_at dksX3_answers_0 17 rfl rfl)
theorem dX3_answers_20 : decode cX3_answers 20 = .ok (.if_icmp .ne 145, 3) := dk_160 0 145 (dk_at dksX3_answers_0 20 rfl rfl)
theorem dX3_answers_23 : decode cX3_answers 23 = .ok (.aload_n 0, 1) := dk_42 (dk_at dksX3_answers_0 23 rfl rfl)
theorem dX3_answers_24 : decode cX3_answers 24 = .ok (.getfield 95, 3) := dk_180 0 95 (dk_at dksX3_answers_1 0 rfl rfl)
theorem dX3_answers_27 : decode cX3_answers 27 = .ok (.iload_n 1, 1) := dk_27 (dk_at dksX3_answers_1 3 rfl rfl)
theorem dX3_answers_28 : decode cX3_answers 28 = .ok (.iaload, 1) := dk_46 (dk_at dksX3_answers_1 4 rfl rfl)
theorem dX3_answers_29 : decode cX3_answers 29 = .ok (.istore_n 2, 1) := dk_61 (dk_at dksX3_answers_1 5 rfl rfl)
theorem dX3_answers_30 : decode cX3_answers 30 = .ok (.aload_n 0, 1) := dk_42 (dk_at dksX3_answers_1 6 rfl rfl)
theorem dX3_answers_31 : decode cX3_answers 31 = .ok (.getfield 92, 3) := dk_180 0 92 (dk_at dksX3_answers_1 7 rfl rfl)
theorem dX3_answers_34 : decode cX3_answers 34 = .ok (.iload_n 2, 1) := dk_28 (dk_at dksX3_answers_1 10 rfl rfl)
theorem dX3_answers_35 : decode cX3_answers 35 = .ok (.iconst 4, 1) := dk_7 (dk_at dksX3_answers_1 11 rfl rfl)
theorem dX3_answers_36 : decode cX3_answers 36 = .ok (.irem, 1) := dk_112 (dk_at dksX3_answers_1 12 rfl rfl)
theorem dX3_answers_37 : decode cX3_answers 37 = .ok (.iload_n 2, 1) := dk_28 (dk_at dksX3_answers_1 13 rfl rfl)
theorem dX3_answers_38 : decode cX3_answers 38 = .ok (.iastore, 1) := dk_79 (dk_at dksX3_answers_1 14 rfl rfl)
theorem dX3_answers_39 : decode cX3_answers 39 = .ok (.aload_n 0, 1) := dk_42 (dk_at dksX3_answers_1 15 rfl rfl)
theorem dX3_answers_40 : decode cX3_answers 40 = .ok (.dup, 1) := dk_89 (dk_at dksX3_answers_1 16 rfl rfl)
theorem dX3_answers_41 : decode cX3_answers 41 = .ok (.getfield 222, 3) := dk_180 0 222 (dk_at dksX3_answers_1 17 rfl rfl)
theorem dX3_answers_44 : decode cX3_answers 44 = .ok (.iconst 1, 1) := dk_4 (dk_at dksX3_answers_1 20 rfl rfl)
theorem dX3_answers_45 : decode cX3_answers 45 = .ok (.isub, 1) := dk_100 (dk_at dksX3_answers_1 21 rfl rfl)
theorem dX3_answers_46 : decode cX3_answers 46 = .ok (.putfield 222, 3) := dk_181 0 222 (dk_at dksX3_answers_2 0 rfl rfl)
theorem dX3_answers_49 : decode cX3_answers 49 = .ok (.iload_n 1, 1) := dk_27 (dk_at dksX3_answers_2 3 rfl rfl)
theorem dX3_answers_50 : decode cX3_answers 50 = .ok (.istore_n 3, 1) := dk_62 (dk_at dksX3_answers_2 4 rfl rfl)
theorem dX3_answers_51 : decode cX3_answers 51 = .ok (.iload_n 3, 1) := dk_29 (dk_at dksX3_answers_2 5 rfl rfl)
theorem dX3_answers_52 : decode cX3_answers 52 = .ok (.aload_n 0, 1) := dk_42 (dk_at dksX3_answers_2 6 rfl rfl)
theorem dX3_answers_53 : decode cX3_answers 53 = .ok (.getfield 222, 3) := dk_180 0 222 (dk_at dksX3_answers_2 7 rfl rfl)
theorem dX3_answers_56 : decode cX3_answers 56 = .ok (.if_icmp .ge 37, 3) := dk_162 0 37 (dk_at dksX3_answers_2 10 rfl rfl)
theorem dX3_answers_59 : decode cX3_answers 59 = .ok (.aload_n 0, 1) := dk_42 (dk_at dksX3_answers_2 13 rfl rfl)
theorem dX3_answers_60 : decode cX3_answers 60 = .ok (.getfield 95, 3) := dk_180 0 95 (dk_at dksX3_answers_2 14 rfl rfl)
theorem dX3_answers_63 : decode cX3_answers 63 = .ok (.iload_n 3, 1) := dk_29 (dk_at dksX3_answers_2 17 rfl rfl)
theorem dX3_answers_64 : decode cX3_answers 64 = .ok (.aload_n 0, 1) := dk_42 (dk_at dksX3_answers_2 18 rfl rfl)
theorem dX3_answers_65 : decode cX3_answers 65 = .ok (.getfield 95, 3) := dk_180 0 95 (dk_at dksX3_answers_2 19 rfl rfl)
theorem dX3_answers_68 : decode cX3_answers 68 = .ok (.iload_n 3, 1) := dk_29 (dk_at dksX3_answers_2 22 rfl rfl)
theorem dX3_answers_69 : decode cX3_answers 69 = .ok (.iconst 1, 1) := dk_4 (dk_at dksX3_answers_2 23 rfl rfl)
theorem dX3_answers_70 : decode cX3_answers 70 = .ok (.iadd, 1) := dk_96 (dk_at dksX3_answers_3 0 rfl rfl)
theorem dX3_answers_71 : decode cX3_answers 71 = .ok (.iaload, 1) := dk_46 (dk_at dksX3_answers_3 1 rfl rfl)
theorem dX3_answers_72 : decode cX3_answers 72 = .ok (.iastore, 1) := dk_79 (dk_at dksX3_answers_3 2 rfl rfl)
theorem dX3_answers_73 : decode cX3_answers 73 = .ok (.aload_n 0, 1) := dk_42 (dk_at dksX3_answers_3 3 rfl rfl)
theorem dX3_answers_74 : decode cX3_answers 74 = .ok (.getfield 98, 3) := dk_180 0 98 (dk_at dksX3_answers_3 4 rfl rfl)
theorem dX3_answers_77 : decode cX3_answers 77 = .ok (.iload_n 3, 1) := dk_29 (dk_at dksX3_answers_3 7 rfl rfl)
theorem dX3_answers_78 : decode cX3_answers 78 = .ok (.aload_n 0, 1) := dk_42 (dk_at dksX3_answers_3 8 rfl rfl)
theorem dX3_answers_79 : decode cX3_answers 79 = .ok (.getfield 98, 3) := dk_180 0 98 (dk_at dksX3_answers_3 9 rfl rfl)
theorem dX3_answers_82 : decode cX3_answers 82 = .ok (.iload_n 3, 1) := dk_29 (dk_at dksX3_answers_3 12 rfl rfl)
theorem dX3_answers_83 : decode cX3_answers 83 = .ok (.iconst 1, 1) := dk_4 (dk_at dksX3_answers_3 13 rfl rfl)
theorem dX3_answers_84 : decode cX3_answers 84 = .ok (.iadd, 1) := dk_96 (dk_at dksX3_answers_3 14 rfl rfl)
theorem dX3_answers_85 : decode cX3_answers 85 = .ok (.iaload, 1) := dk_46 (dk_at dksX3_answers_3 15 rfl rfl)
theorem dX3_answers_86 : decode cX3_answers 86 = .ok (.iastore, 1) := dk_79 (dk_at dksX3_answers_3 16 rfl rfl)
theorem dX3_answers_87 : decode cX3_answers 87 = .ok (.iinc 3 1, 3) := dk_132 3 1 (dk_at dksX3_answers_3 17 rfl rfl)
theorem dX3_answers_90 : decode cX3_answers 90 = .ok (.goto (-39), 3) := dk_167 255 217 (dk_at dksX3_answers_3 20 rfl rfl)
theorem dX3_answers_93 : decode cX3_answers 93 = .ok (.iinc 1 (-1), 3) := dk_132 1 255 (dk_at dksX3_answers_4 0 rfl rfl)
theorem dX3_answers_96 : decode cX3_answers 96 = .ok (.iconst 0, 1) := dk_3 (dk_at dksX3_answers_4 3 rfl rfl)
theorem dX3_answers_97 : decode cX3_answers 97 = .ok (.istore_n 3, 1) := dk_62 (dk_at dksX3_answers_4 4 rfl rfl)
theorem dX3_answers_98 : decode cX3_answers 98 = .ok (.iload_n 3, 1) := dk_29 (dk_at dksX3_answers_4 5 rfl rfl)
theorem dX3_answers_99 : decode cX3_answers 99 = .ok (.aload_n 0, 1) := dk_42 (dk_at dksX3_answers_4 6 rfl rfl)
theorem dX3_answers_100 : decode cX3_answers 100 = .ok (.getfield 198, 3) := dk_180 0 198 (dk_at dksX3_answers_4 7 rfl rfl)
theorem dX3_answers_103 : decode cX3_answers 103 = .ok (.if_icmp .ge 62, 3) := dk_162 0 62 (dk_at dksX3_answers_4 10 rfl rfl)
theorem dX3_answers_106 : decode cX3_answers 106 = .ok (.aload_n 0, 1) := dk_42 (dk_at dksX3_answers_4 13 rfl rfl)
theorem dX3_answers_107 : decode cX3_answers 107 = .ok (.getfield 74, 3) := dk_180 0 74 (dk_at dksX3_answers_4 14 rfl rfl)
theorem dX3_answers_110 : decode cX3_answers 110 = .ok (.iload_n 3, 1) := dk_29 (dk_at dksX3_answers_4 17 rfl rfl)
theorem dX3_answers_111 : decode cX3_answers 111 = .ok (.aaload, 1) := dk_50 (dk_at dksX3_answers_4 18 rfl rfl)
theorem dX3_answers_112 : decode cX3_answers 112 = .ok (.bipush 11, 2) := dk_16 11 (dk_at dksX3_answers_4 19 rfl rfl)
theorem dX3_answers_114 : decode cX3_answers 114 = .ok (.iaload, 1) := dk_46 (dk_at dksX3_answers_4 21 rfl rfl)
theorem dX3_answers_115 : decode cX3_answers 115 = .ok (.bipush 109, 2) := dk_16 109 (dk_at dksX3_answers_4 22 rfl rfl)
theorem dX3_answers_117 : decode cX3_answers 117 = .ok (.if_icmp .ne 42, 3) := dk_160 0 42 (dk_at dksX3_answers_5 0 rfl rfl)
theorem dX3_answers_120 : decode cX3_answers 120 = .ok (.aload_n 0, 1) := dk_42 (dk_at dksX3_answers_5 3 rfl rfl)
theorem dX3_answers_121 : decode cX3_answers 121 = .ok (.getfield 74, 3) := dk_180 0 74 (dk_at dksX3_answers_5 4 rfl rfl)
theorem dX3_answers_124 : decode cX3_answers 124 = .ok (.iload_n 3, 1) := dk_29 (dk_at dksX3_answers_5 7 rfl rfl)
theorem dX3_answers_125 : decode cX3_answers 125 = .ok (.aaload, 1) := dk_50 (dk_at dksX3_answers_5 8 rfl rfl)
theorem dX3_answers_126 : decode cX3_answers 126 = .ok (.bipush 14, 2) := dk_16 14 (dk_at dksX3_answers_5 9 rfl rfl)
theorem dX3_answers_128 : decode cX3_answers 128 = .ok (.iaload, 1) := dk_46 (dk_at dksX3_answers_5 11 rfl rfl)
theorem dX3_answers_129 : decode cX3_answers 129 = .ok (.iconst 4, 1) := dk_7 (dk_at dksX3_answers_5 12 rfl rfl)
theorem dX3_answers_130 : decode cX3_answers 130 = .ok (.idiv, 1) := dk_108 (dk_at dksX3_answers_5 13 rfl rfl)
theorem dX3_answers_131 : decode cX3_answers 131 = .ok (.iload_n 2, 1) := dk_28 (dk_at dksX3_answers_5 14 rfl rfl)
theorem dX3_answers_132 : decode cX3_answers 132 = .ok (.if_icmp .ne 27, 3) := dk_160 0 27 (dk_at dksX3_answers_5 15 rfl rfl)
theorem dX3_answers_135 : decode cX3_answers 135 = .ok (.aload_n 0, 1) := dk_42 (dk_at dksX3_answers_5 18 rfl rfl)
theorem dX3_answers_136 : decode cX3_answers 136 = .ok (.getfield 74, 3) := dk_180 0 74 (dk_at dksX3_answers_5 19 rfl rfl)
theorem dX3_answers_139 : decode cX3_answers 139 = .ok (.iload_n 3, 1) := dk_29 (dk_at dksX3_answers_5 22 rfl rfl)
theorem dX3_answers_140 : decode cX3_answers 140 = .ok (.aaload, 1) := dk_50 (dk_at dksX3_answers_5 23 rfl rfl)
theorem dX3_answers_141 : decode cX3_answers 141 = .ok (.bipush 11, 2) := dk_16 11 (dk_at dksX3_answers_6 0 rfl rfl)
theorem dX3_answers_143 : decode cX3_answers 143 = .ok (.bipush 120, 2) := dk_16 120 (dk_at dksX3_answers_6 2 rfl rfl)
theorem dX3_answers_145 : decode cX3_answers 145 = .ok (.iastore, 1) := dk_79 (dk_at dksX3_answers_6 4 rfl rfl)
theorem dX3_answers_146 : decode cX3_answers 146 = .ok (.aload_n 0, 1) := dk_42 (dk_at dksX3_answers_6 5 rfl rfl)
theorem dX3_answers_147 : decode cX3_answers 147 = .ok (.getfield 74, 3) := dk_180 0 74 (dk_at dksX3_answers_6 6 rfl rfl)
theorem dX3_answers_150 : decode cX3_answers 150 = .ok (.iload_n 3, 1) := dk_29 (dk_at dksX3_answers_6 9 rfl rfl)
theorem dX3_answers_151 : decode cX3_answers 151 = .ok (.aaload, 1) := dk_50 (dk_at dksX3_answers_6 10 rfl rfl)
theorem dX3_answers_152 : decode cX3_answers 152 = .ok (.bipush 12, 2) := dk_16 12 (dk_at dksX3_answers_6 11 rfl rfl)
theorem dX3_answers_154 : decode cX3_answers 154 = .ok (.aload_n 0, 1) := dk_42 (dk_at dksX3_answers_6 13 rfl rfl)
theorem dX3_answers_155 : decode cX3_answers 155 = .ok (.getfield 133, 3) := dk_180 0 133 (dk_at dksX3_answers_6 14 rfl rfl)
theorem dX3_answers_158 : decode cX3_answers 158 = .ok (.iastore, 1) := dk_79 (dk_at dksX3_answers_6 17 rfl rfl)
theorem dX3_answers_159 : decode cX3_answers 159 = .ok (.iinc 3 1, 3) := dk_132 3 1 (dk_at dksX3_answers_6 18 rfl rfl)
theorem dX3_answers_162 : decode cX3_answers 162 = .ok (.goto (-64), 3) := dk_167 255 192 (dk_at dksX3_answers_6 21 rfl rfl)
theorem dX3_answers_165 : decode cX3_answers 165 = .ok (.iinc 1 1, 3) := dk_132 1 1 (dk_at dksX3_answers_7 0 rfl rfl)
theorem dX3_answers_168 : decode cX3_answers 168 = .ok (.goto (-166), 3) := dk_167 255 90 (dk_at dksX3_answers_7 3 rfl rfl)
theorem dX3_answers_171 : decode cX3_answers 171 = .ok (.return_, 1) := dk_177 (dk_at dksX3_answers_7 6 rfl rfl)
def dkwX3_endings_5 : List UInt8 := [84, 45, 16, 11, 16, 101, 79, 45, 7, 42, 180, 0, 133, 79, 132, 2, 1, 167, 255, 174, 177]
abbrev dktX3_endings_5 : List UInt8 := dkwX3_endings_5 ++ []
def dkwX3_endings_4 : List UInt8 := [16, 13, 46, 158, 0, 7, 3, 167, 0, 7, 45, 16, 15, 46, 79, 42, 180, 0, 65, 45, 16, 9, 46, 4]
abbrev dktX3_endings_4 : List UInt8 := dkwX3_endings_4 ++ dktX3_endings_5
def dkwX3_endings_3 : List UInt8 := [28, 50, 78, 45, 16, 11, 46, 16, 98, 160, 0, 53, 132, 1, 1, 42, 180, 0, 62, 45, 16, 9, 46, 45]
abbrev dktX3_endings_3 : List UInt8 := dkwX3_endings_3 ++ dktX3_endings_4
def dkwX3_endings_2 : List UInt8 := [167, 255, 210, 3, 60, 3, 61, 28, 42, 180, 0, 198, 162, 0, 80, 27, 5, 162, 0, 75, 42, 180, 0, 74]
abbrev dktX3_endings_2 : List UInt8 := dkwX3_endings_2 ++ dktX3_endings_3
def dkwX3_endings_1 : List UInt8 := [42, 180, 0, 74, 27, 50, 16, 12, 46, 42, 180, 0, 133, 160, 0, 8, 42, 27, 182, 1, 30, 132, 1, 1]
abbrev dktX3_endings_1 : List UInt8 := dkwX3_endings_1 ++ dktX3_endings_2
def dkwX3_endings_0 : List UInt8 := [3, 60, 27, 42, 180, 0, 198, 162, 0, 44, 42, 180, 0, 74, 27, 50, 16, 11, 46, 16, 120, 160, 0, 24]
abbrev dktX3_endings_0 : List UInt8 := dkwX3_endings_0 ++ dktX3_endings_1
theorem dksX3_endings_0 : cX3_endings.data.toList.drop 0 = dktX3_endings_0 := by decide +kernel
theorem dksX3_endings_1 : cX3_endings.data.toList.drop 24 = dktX3_endings_1 := dk_seg dksX3_endings_0 24 rfl rfl
theorem dksX3_endings_2 : cX3_endings.data.toList.drop 48 = dktX3_endings_2 := dk_seg dksX3_endings_1 24 rfl rfl
theorem dksX3_endings_3 : cX3_endings.data.toList.drop 72 = dktX3_endings_3 := dk_seg dksX3_endings_2 24 rfl rfl
theorem dksX3_endings_4 : cX3_endings.data.toList.drop 96 = dktX3_endings_4 := dk_seg dksX3_endings_3 24 rfl rfl
theorem dksX3_endings_5 : cX3_endings.data.toList.drop 120 = dktX3_endings_5 := dk_seg dksX3_endings_4 24 rfl rfl
theorem dX3_endings_0 : decode cX3_endings 0 = .ok (.iconst 0, 1) := dk_3 (dk_at dksX3_endings_0 0 rfl rfl)
theorem dX3_endings_1 : decode cX3_endings 1 = .ok (.istore_n 1, 1) := dk_60 (dk_at dksX3_endings_0 1 rfl rfl)
theorem dX3_endings_2 : decode cX3_endings 2 = .ok (.iload_n 1, 1) := dk_27 (dk_at dksX3_endings_0 2 rfl rfl)
theorem dX3_endings_3 : decode cX3_endings 3 = .ok (.aload_n 0, 1) := dk_42 (dk_at dksX3_endings_0 3 rfl rfl)
theorem dX3_endings_4 : decode cX3_endings 4 = .ok (.getfield 198, 3) := dk_180 0 198 (dk_at dksX3_endings_0 4 rfl rfl)
theorem dX3_endings_7 : decode cX3_endings 7 = .ok (.if_icmp .ge 44, 3) := dk_162 0 44 (dk_at dksX3_endings_0 7 rfl rfl)
theorem dX3_endings_10 : decode cX3_endings 10 = .ok (.aload_n 0, 1) := dk_42 (dk_at dksX3_endings_0 10 rfl rfl)
theorem dX3_endings_11 : decode cX3_endings 11 = .ok (.getfield 74, 3) := dk_180 0 74 (dk_at dksX3_endings_0 11 rfl rfl)
theorem dX3_endings_14 : decode cX3_endings 14 = .ok (.iload_n 1, 1) := dk_27 (dk_at dksX3_endings_0 14 rfl rfl)
theorem dX3_endings_15 : decode cX3_endings 15 = .ok (.aaload, 1) := dk_50 (dk_at dksX3_endings_0 15 rfl rfl)
theorem dX3_endings_16 : decode cX3_endings 16 = .ok (.bipush 11, 2) := dk_16 11 (dk_at dksX3_endings_0 16 rfl rfl)
theorem dX3_endings_18 : decode cX3_endings 18 = .ok (.iaload, 1) := dk_46 (dk_at dksX3_endings_0 18 rfl rfl)
theorem dX3_endings_19 : decode cX3_endings 19 = .ok (.bipush 120, 2) := dk_16 120 (dk_at dksX3_endings_0 19 rfl rfl)
theorem dX3_endings_21 : decode cX3_endings 21 = .ok (.if_icmp .ne 24, 3) := dk_160 0 24 (dk_at dksX3_endings_0 21 rfl rfl)
theorem dX3_endings_24 : decode cX3_endings 24 = .ok (.aload_n 0, 1) := dk_42 (dk_at dksX3_endings_1 0 rfl rfl)
theorem dX3_endings_25 : decode cX3_endings 25 = .ok (.getfield 74, 3) := dk_180 0 74 (dk_at dksX3_endings_1 1 rfl rfl)
theorem dX3_endings_28 : decode cX3_endings 28 = .ok (.iload_n 1, 1) := dk_27 (dk_at dksX3_endings_1 4 rfl rfl)
theorem dX3_endings_29 : decode cX3_endings 29 = .ok (.aaload, 1) := dk_50 (dk_at dksX3_endings_1 5 rfl rfl)
theorem dX3_endings_30 : decode cX3_endings 30 = .ok (.bipush 12, 2) := dk_16 12 (dk_at dksX3_endings_1 6 rfl rfl)
theorem dX3_endings_32 : decode cX3_endings 32 = .ok (.iaload, 1) := dk_46 (dk_at dksX3_endings_1 8 rfl rfl)
theorem dX3_endings_33 : decode cX3_endings 33 = .ok (.aload_n 0, 1) := dk_42 (dk_at dksX3_endings_1 9 rfl rfl)
theorem dX3_endings_34 : decode cX3_endings 34 = .ok (.getfield 133, 3) := dk_180 0 133 (dk_at dksX3_endings_1 10 rfl rfl)
theorem dX3_endings_37 : decode cX3_endings 37 = .ok (.if_icmp .ne 8, 3) := dk_160 0 8 (dk_at dksX3_endings_1 13 rfl rfl)
theorem dX3_endings_40 : decode cX3_endings 40 = .ok (.aload_n 0, 1) := dk_42 (dk_at dksX3_endings_1 16 rfl rfl)
theorem dX3_endings_41 : decode cX3_endings 41 = .ok (.iload_n 1, 1) := dk_27 (dk_at dksX3_endings_1 17 rfl rfl)
theorem dX3_endings_42 : decode cX3_endings 42 = .ok (.invokevirtual 286, 3) := dk_182 1 30 (dk_at dksX3_endings_1 18 rfl rfl)
theorem dX3_endings_45 : decode cX3_endings 45 = .ok (.iinc 1 1, 3) := dk_132 1 1 (dk_at dksX3_endings_1 21 rfl rfl)
theorem dX3_endings_48 : decode cX3_endings 48 = .ok (.goto (-46), 3) := dk_167 255 210 (dk_at dksX3_endings_2 0 rfl rfl)
theorem dX3_endings_51 : decode cX3_endings 51 = .ok (.iconst 0, 1) := dk_3 (dk_at dksX3_endings_2 3 rfl rfl)
theorem dX3_endings_52 : decode cX3_endings 52 = .ok (.istore_n 1, 1) := dk_60 (dk_at dksX3_endings_2 4 rfl rfl)
theorem dX3_endings_53 : decode cX3_endings 53 = .ok (.iconst 0, 1) := dk_3 (dk_at dksX3_endings_2 5 rfl rfl)
theorem dX3_endings_54 : decode cX3_endings 54 = .ok (.istore_n 2, 1) := dk_61 (dk_at dksX3_endings_2 6 rfl rfl)
theorem dX3_endings_55 : decode cX3_endings 55 = .ok (.iload_n 2, 1) := dk_28 (dk_at dksX3_endings_2 7 rfl rfl)
theorem dX3_endings_56 : decode cX3_endings 56 = .ok (.aload_n 0, 1) := dk_42 (dk_at dksX3_endings_2 8 rfl rfl)
theorem dX3_endings_57 : decode cX3_endings 57 = .ok (.getfield 198, 3) := dk_180 0 198 (dk_at dksX3_endings_2 9 rfl rfl)
theorem dX3_endings_60 : decode cX3_endings 60 = .ok (.if_icmp .ge 80, 3) := dk_162 0 80 (dk_at dksX3_endings_2 12 rfl rfl)
theorem dX3_endings_63 : decode cX3_endings 63 = .ok (.iload_n 1, 1) := dk_27 (dk_at dksX3_endings_2 15 rfl rfl)
theorem dX3_endings_64 : decode cX3_endings 64 = .ok (.iconst 2, 1) := dk_5 (dk_at dksX3_endings_2 16 rfl rfl)
theorem dX3_endings_65 : decode cX3_endings 65 = .ok (.if_icmp .ge 75, 3) := dk_162 0 75 (dk_at dksX3_endings_2 17 rfl rfl)
theorem dX3_endings_68 : decode cX3_endings 68 = .ok (.aload_n 0, 1) := dk_42 (dk_at dksX3_endings_2 20 rfl rfl)
theorem dX3_endings_69 : decode cX3_endings 69 = .ok (.getfield 74, 3) := dk_180 0 74 (dk_at dksX3_endings_2 21 rfl rfl)
theorem dX3_endings_72 : decode cX3_endings 72 = .ok (.iload_n 2, 1) := dk_28 (dk_at dksX3_endings_3 0 rfl rfl)
theorem dX3_endings_73 : decode cX3_endings 73 = .ok (.aaload, 1) := dk_50 (dk_at dksX3_endings_3 1 rfl rfl)
theorem dX3_endings_74 : decode cX3_endings 74 = .ok (.astore_n 3, 1) := dk_78 (dk_at dksX3_endings_3 2 rfl rfl)
theorem dX3_endings_75 : decode cX3_endings 75 = .ok (.aload_n 3, 1) := dk_45 (dk_at dksX3_endings_3 3 rfl rfl)
theorem dX3_endings_76 : decode cX3_endings 76 = .ok (.bipush 11, 2) := dk_16 11 (dk_at dksX3_endings_3 4 rfl rfl)
theorem dX3_endings_78 : decode cX3_endings 78 = .ok (.iaload, 1) := dk_46 (dk_at dksX3_endings_3 6 rfl rfl)
theorem dX3_endings_79 : decode cX3_endings 79 = .ok (.bipush 98, 2) := dk_16 98 (dk_at dksX3_endings_3 7 rfl rfl)
theorem dX3_endings_81 : decode cX3_endings 81 = .ok (.if_icmp .ne 53, 3) := dk_160 0 53 (dk_at dksX3_endings_3 9 rfl rfl)
theorem dX3_endings_84 : decode cX3_endings 84 = .ok (.iinc 1 1, 3) := dk_132 1 1 (dk_at dksX3_endings_3 12 rfl rfl)
theorem dX3_endings_87 : decode cX3_endings 87 = .ok (.aload_n 0, 1) := dk_42 (dk_at dksX3_endings_3 15 rfl rfl)
theorem dX3_endings_88 : decode cX3_endings 88 = .ok (.getfield 62, 3) := dk_180 0 62 (dk_at dksX3_endings_3 16 rfl rfl)
theorem dX3_endings_91 : decode cX3_endings 91 = .ok (.aload_n 3, 1) := dk_45 (dk_at dksX3_endings_3 19 rfl rfl)
theorem dX3_endings_92 : decode cX3_endings 92 = .ok (.bipush 9, 2) := dk_16 9 (dk_at dksX3_endings_3 20 rfl rfl)
theorem dX3_endings_94 : decode cX3_endings 94 = .ok (.iaload, 1) := dk_46 (dk_at dksX3_endings_3 22 rfl rfl)
theorem dX3_endings_95 : decode cX3_endings 95 = .ok (.aload_n 3, 1) := dk_45 (dk_at dksX3_endings_3 23 rfl rfl)
theorem dX3_endings_96 : decode cX3_endings 96 = .ok (.bipush 13, 2) := dk_16 13 (dk_at dksX3_endings_4 0 rfl rfl)
theorem dX3_endings_98 : decode cX3_endings 98 = .ok (.iaload, 1) := dk_46 (dk_at dksX3_endings_4 2 rfl rfl)
theorem dX3_endings_99 : decode cX3_endings 99 = .ok (.ifCond .le 7, 3) := dk_158 0 7 (dk_at dksX3_endings_4 3 rfl rfl)
theorem dX3_endings_102 : decode cX3_endings 102 = .ok (.iconst 0, 1) := dk_3 (dk_at dksX3_endings_4 6 rfl rfl)
theorem dX3_endings_103 : decode cX3_endings 103 = .ok (.goto 7, 3) := dk_167 0 7 (dk_at dksX3_endings_4 7 rfl rfl)
theorem dX3_endings_106 : decode cX3_endings 106 = .ok (.aload_n 3, 1) := dk_45 (dk_at dksX3_endings_4 10 rfl rfl)
theorem dX3_endings_107 : decode cX3_endings 107 = .ok (.bipush 15, 2) := dk_16 15 (dk_at dksX3_endings_4 11 rfl rfl)
theorem dX3_endings_109 : decode cX3_endings 109 = .ok (.iaload, 1) := dk_46 (dk_at dksX3_endings_4 13 rfl rfl)
theorem dX3_endings_110 : decode cX3_endings 110 = .ok (.iastore, 1) := dk_79 (dk_at dksX3_endings_4 14 rfl rfl)
theorem dX3_endings_111 : decode cX3_endings 111 = .ok (.aload_n 0, 1) := dk_42 (dk_at dksX3_endings_4 15 rfl rfl)
theorem dX3_endings_112 : decode cX3_endings 112 = .ok (.getfield 65, 3) := dk_180 0 65 (dk_at dksX3_endings_4 16 rfl rfl)
theorem dX3_endings_115 : decode cX3_endings 115 = .ok (.aload_n 3, 1) := dk_45 (dk_at dksX3_endings_4 19 rfl rfl)
theorem dX3_endings_116 : decode cX3_endings 116 = .ok (.bipush 9, 2) := dk_16 9 (dk_at dksX3_endings_4 20 rfl rfl)
theorem dX3_endings_118 : decode cX3_endings 118 = .ok (.iaload, 1) := dk_46 (dk_at dksX3_endings_4 22 rfl rfl)
theorem dX3_endings_119 : decode cX3_endings 119 = .ok (.iconst 1, 1) := dk_4 (dk_at dksX3_endings_4 23 rfl rfl)
theorem dX3_endings_120 : decode cX3_endings 120 = .ok (.bastore, 1) := dk_84 (dk_at dksX3_endings_5 0 rfl rfl)
theorem dX3_endings_121 : decode cX3_endings 121 = .ok (.aload_n 3, 1) := dk_45 (dk_at dksX3_endings_5 1 rfl rfl)
theorem dX3_endings_122 : decode cX3_endings 122 = .ok (.bipush 11, 2) := dk_16 11 (dk_at dksX3_endings_5 2 rfl rfl)
theorem dX3_endings_124 : decode cX3_endings 124 = .ok (.bipush 101, 2) := dk_16 101 (dk_at dksX3_endings_5 4 rfl rfl)
theorem dX3_endings_126 : decode cX3_endings 126 = .ok (.iastore, 1) := dk_79 (dk_at dksX3_endings_5 6 rfl rfl)
theorem dX3_endings_127 : decode cX3_endings 127 = .ok (.aload_n 3, 1) := dk_45 (dk_at dksX3_endings_5 7 rfl rfl)
theorem dX3_endings_128 : decode cX3_endings 128 = .ok (.iconst 4, 1) := dk_7 (dk_at dksX3_endings_5 8 rfl rfl)
theorem dX3_endings_129 : decode cX3_endings 129 = .ok (.aload_n 0, 1) := dk_42 (dk_at dksX3_endings_5 9 rfl rfl)
theorem dX3_endings_130 : decode cX3_endings 130 = .ok (.getfield 133, 3) := dk_180 0 133 (dk_at dksX3_endings_5 10 rfl rfl)
theorem dX3_endings_133 : decode cX3_endings 133 = .ok (.iastore, 1) := dk_79 (dk_at dksX3_endings_5 13 rfl rfl)
theorem dX3_endings_134 : decode cX3_endings 134 = .ok (.iinc 2 1, 3) := dk_132 2 1 (dk_at dksX3_endings_5 14 rfl rfl)
theorem dX3_endings_137 : decode cX3_endings 137 = .ok (.goto (-82), 3) := dk_167 255 174 (dk_at dksX3_endings_5 17 rfl rfl)
theorem dX3_endings_140 : decode cX3_endings 140 = .ok (.return_, 1) := dk_177 (dk_at dksX3_endings_5 20 rfl rfl)
def dkwX3_ends_10 : List UInt8 := [182, 1, 15, 42, 44, 16, 6, 46, 182, 1, 18, 42, 27, 4, 96, 182, 1, 21, 177]
abbrev dktX3_ends_10 : List UInt8 := dkwX3_ends_10 ++ []
def dkwX3_ends_9 : List UInt8 := [16, 6, 46, 44, 8, 46, 159, 0, 35, 42, 89, 180, 1, 27, 4, 96, 181, 1, 27, 42, 44, 16, 23]
abbrev dktX3_ends_9 : List UInt8 := dkwX3_ends_9 ++ dktX3_ends_10
def dkwX3_ends_8 : List UInt8 := [182, 1, 18, 42, 21, 5, 182, 1, 21, 177, 42, 44, 29, 182, 1, 24, 44, 16, 13, 46, 154, 0, 45, 44]
abbrev dktX3_ends_8 : List UInt8 := dkwX3_ends_8 ++ dktX3_ends_9
def dkwX3_ends_7 : List UInt8 := [25, 6, 3, 46, 16, 16, 112, 4, 84, 42, 25, 6, 16, 18, 182, 1, 15, 42, 25, 6, 3, 46]
abbrev dktX3_ends_7 : List UInt8 := dkwX3_ends_7 ++ dktX3_ends_8
def dkwX3_ends_6 : List UInt8 := [42, 180, 0, 74, 21, 5, 50, 58, 6, 42, 89, 180, 1, 12, 4, 96, 181, 1, 12, 42, 180, 0, 89]
abbrev dktX3_ends_6 : List UInt8 := dkwX3_ends_6 ++ dktX3_ends_7
def dkwX3_ends_5 : List UInt8 := [167, 0, 4, 5, 79, 44, 16, 14, 21, 4, 79, 42, 27, 182, 1, 9, 54, 5, 21, 5, 2, 159, 0, 57]
abbrev dktX3_ends_5 : List UInt8 := dkwX3_ends_5 ++ dktX3_ends_6
def dkwX3_ends_4 : List UInt8 := [180, 0, 22, 44, 3, 46, 46, 96, 54, 4, 44, 16, 13, 21, 4, 184, 0, 225, 153, 0, 7, 3]
abbrev dktX3_ends_4 : List UInt8 := dkwX3_ends_4 ++ dktX3_ends_5
def dkwX3_ends_3 : List UInt8 := [7, 42, 180, 0, 133, 79, 29, 184, 0, 231, 153, 0, 114, 42, 180, 0, 62, 44, 16, 7, 46, 46, 42]
abbrev dktX3_ends_3 : List UInt8 := dkwX3_ends_3 ++ dktX3_ends_4
def dkwX3_ends_2 : List UInt8 := [79, 44, 16, 15, 42, 44, 182, 1, 6, 79, 44, 16, 11, 16, 98, 79, 177, 44, 16, 11, 16, 101, 79, 44]
abbrev dktX3_ends_2 : List UInt8 := dkwX3_ends_2 ++ dktX3_ends_3
def dkwX3_ends_1 : List UInt8 := [8, 160, 0, 19, 42, 180, 0, 62, 44, 16, 8, 46, 46, 154, 0, 7, 4, 167, 0, 7, 44, 16, 13, 46]
abbrev dktX3_ends_1 : List UInt8 := dkwX3_ends_1 ++ dktX3_ends_2
def dkwX3_ends_0 : List UInt8 := [42, 180, 0, 74, 27, 50, 77, 42, 44, 182, 0, 201, 62, 29, 184, 0, 209, 153, 0, 48, 44, 16, 13, 29]
abbrev dktX3_ends_0 : List UInt8 := dkwX3_ends_0 ++ dktX3_ends_1
theorem dksX3_ends_0 : cX3_ends.data.toList.drop 0 = dktX3_ends_0 := by decide +kernel
theorem dksX3_ends_1 : cX3_ends.data.toList.drop 24 = dktX3_ends_1 := dk_seg dksX3_ends_0 24 rfl rfl
theorem dksX3_ends_2 : cX3_ends.data.toList.drop 48 = dktX3_ends_2 := dk_seg dksX3_ends_1 24 rfl rfl
theorem dksX3_ends_3 : cX3_ends.data.toList.drop 72 = dktX3_ends_3 := dk_seg dksX3_ends_2 24 rfl rfl
theorem dksX3_ends_4 : cX3_ends.data.toList.drop 95 = dktX3_ends_4 := dk_seg dksX3_ends_3 23 rfl rfl
theorem dksX3_ends_5 : cX3_ends.data.toList.drop 117 = dktX3_ends_5 := dk_seg dksX3_ends_4 22 rfl rfl
theorem dksX3_ends_6 : cX3_ends.data.toList.drop 141 = dktX3_ends_6 := dk_seg dksX3_ends_5 24 rfl rfl
theorem dksX3_ends_7 : cX3_ends.data.toList.drop 164 = dktX3_ends_7 := dk_seg dksX3_ends_6 23 rfl rfl
theorem dksX3_ends_8 : cX3_ends.data.toList.drop 186 = dktX3_ends_8 := dk_seg dksX3_ends_7 22 rfl rfl
theorem dksX3_ends_9 : cX3_ends.data.toList.drop 210 = dktX3_ends_9 := dk_seg dksX3_ends_8 24 rfl rfl
theorem dksX3_ends_10 : cX3_ends.data.toList.drop 233 = dktX3_ends_10 := dk_seg dksX3_ends_9 23 rfl rfl
theorem dX3_ends_0 : decode cX3_ends 0 = .ok (.aload_n 0, 1) := dk_42 (dk_at dksX3_ends_0 0 rfl rfl)
theorem dX3_ends_1 : decode cX3_ends 1 = .ok (.getfield 74, 3) := dk_180 0 74 (dk_at dksX3_ends_0 1 rfl rfl)
theorem dX3_ends_4 : decode cX3_ends 4 = .ok (.iload_n 1, 1) := dk_27 (dk_at dksX3_ends_0 4 rfl rfl)
theorem dX3_ends_5 : decode cX3_ends 5 = .ok (.aaload, 1) := dk_50 (dk_at dksX3_ends_0 5 rfl rfl)
theorem dX3_ends_6 : decode cX3_ends 6 = .ok (.astore_n 2, 1) := dk_77 (dk_at dksX3_ends_0 6 rfl rfl)
theorem dX3_ends_7 : decode cX3_ends 7 = .ok (.aload_n 0, 1) := dk_42 (dk_at dksX3_ends_0 7 rfl rfl)
theorem dX3_ends_8 : decode cX3_ends 8 = .ok (.aload_n 2, 1) := dk_44 (dk_at dksX3_ends_0 8 rfl rfl)
theorem dX3_ends_9 : decode cX3_ends 9 = .ok (.invokevirtual 201, 3) := dk_182 0 201 (dk_at dksX3_ends_0 9 rfl rfl)
theorem dX3_ends_12 : decode cX3_ends 12 = .ok (.istore_n 3, 1) := dk_62 (dk_at dksX3_ends_0 12 rfl rfl)
theorem dX3_ends_13 : decode cX3_ends 13 = .ok (.iload_n 3, 1) := dk_29 (dk_at dksX3_ends_0 13 rfl rfl)
theorem dX3_ends_14 : decode cX3_ends 14 = .ok (.invokestatic 209, 3) := dk_184 0 209 (dk_at dksX3_ends_0 14 rfl rfl)
theorem dX3_ends_17 : decode cX3_ends 17 = .ok (.ifCond .eq 48, 3) := dk_153 0 48 (dk_at dksX3_ends_0 17 rfl rfl)
theorem dX3_ends_20 : decode cX3_ends 20 = .ok (.aload_n 2, 1) := dk_44 (dk_at dksX3_ends_0 20 rfl rfl)
theorem dX3_ends_21 : decode cX3_ends 21 = .ok (.bipush 13, 2) := dk_16 13 (dk_at dksX3_ends_0 21 rfl rfl)
theorem dX3_ends_23 : decode cX3_ends 23 = .ok (.iload_n 3, 1) := dk_29 (dk_at dksX3_ends_0 23 rfl rfl)
theorem dX3_ends_24 : decode cX3_ends 24 = .ok (.iconst 5, 1) := dk_8 (dk_at dksX3_ends_1 0 rfl rfl)
theorem dX3_ends_25 : decode cX3_ends 25 = .ok (.if_icmp .ne 19, 3) := dk_160 0 19 (dk_at dksX3_ends_1 1 rfl rfl)
theorem dX3_ends_28 : decode cX3_ends 28 = .ok (.aload_n 0, 1) := dk_42 (dk_at dksX3_ends_1 4 rfl rfl)
theorem dX3_ends_29 : decode cX3_ends 29 = .ok (.getfield 62, 3) := dk_180 0 62 (dk_at dksX3_ends_1 5 rfl rfl)
theorem dX3_ends_32 : decode cX3_ends 32 = .ok (.aload_n 2, 1) := dk_44 (dk_at dksX3_ends_1 8 rfl rfl)
theorem dX3_ends_33 : decode cX3_ends 33 = .ok (.bipush 8, 2) := dk_16 8 (dk_at dksX3_ends_1 9 rfl rfl)
theorem dX3_ends_35 : decode cX3_ends 35 = .ok (.iaload, 1) := dk_46 (dk_at dksX3_ends_1 11 rfl rfl)
theorem dX3_ends_36 : decode cX3_ends 36 = .ok (.iaload, 1) := dk_46 (dk_at dksX3_ends_1 12 rfl rfl)
theorem dX3_ends_37 : decode cX3_ends 37 = .ok (.ifCond .ne 7, 3) := dk_154 0 7 (dk_at dksX3_ends_1 13 rfl rfl)
theorem dX3_ends_40 : decode cX3_ends 40 = .ok (.iconst 1, 1) := dk_4 (dk_at dksX3_ends_1 16 rfl rfl)
theorem dX3_ends_41 : decode cX3_ends 41 = .ok (.goto 7, 3) := dk_167 0 7 (dk_at dksX3_ends_1 17 rfl rfl)
theorem dX3_ends_44 : decode cX3_ends 44 = .ok (.aload_n 2, 1) := dk_44 (dk_at dksX3_ends_1 20 rfl rfl)
theorem dX3_ends_45 : decode cX3_ends 45 = .ok (.bipush 13, 2) := dk_16 13 (dk_at dksX3_ends_1 21 rfl rfl)
theorem dX3_ends_47 : decode cX3_ends 47 = .ok (.iaload, 1) := dk_46 (dk_at dksX3_ends_1 23 rfl rfl)
theorem dX3_ends_48 : decode cX3_ends 48 = .ok (.iastore, 1) := dk_79 (dk_at dksX3_ends_2 0 rfl rfl)
theorem dX3_ends_49 : decode cX3_ends 49 = .ok (.aload_n 2, 1) := dk_44 (dk_at dksX3_ends_2 1 rfl rfl)
theorem dX3_ends_50 : decode cX3_ends 50 = .ok (.bipush 15, 2) := dk_16 15 (dk_at dksX3_ends_2 2 rfl rfl)
theorem dX3_ends_52 : decode cX3_ends 52 = .ok (.aload_n 0, 1) := dk_42 (dk_at dksX3_ends_2 4 rfl rfl)
theorem dX3_ends_53 : decode cX3_ends 53 = .ok (.aload_n 2, 1) := dk_44 (dk_at dksX3_ends_2 5 rfl rfl)
theorem dX3_ends_54 : decode cX3_ends 54 = .ok (.invokevirtual 262, 3) := dk_182 1 6 (dk_at dksX3_ends_2 6 rfl rfl)
theorem dX3_ends_57 : decode cX3_ends 57 = .ok (.iastore, 1) := dk_79 (dk_at dksX3_ends_2 9 rfl rfl)
theorem dX3_ends_58 : decode cX3_ends 58 = .ok (.aload_n 2, 1) := dk_44 (dk_at dksX3_ends_2 10 rfl rfl)
theorem dX3_ends_59 : decode cX3_ends 59 = .ok (.bipush 11, 2) := dk_16 11 (dk_at dksX3_ends_2 11 rfl rfl)
theorem dX3_ends_61 : decode cX3_ends 61 = .ok (.bipush 98, 2) := dk_16 98 (dk_at dksX3_ends_2 13 rfl rfl)
theorem dX3_ends_63 : decode cX3_ends 63 = .ok (.iastore, 1) := dk_79 (dk_at dksX3_ends_2 15 rfl rfl)
theorem dX3_ends_64 : decode cX3_ends 64 = .ok (.return_, 1) := dk_177 (dk_at dksX3_ends_2 16 rfl rfl)
theorem dX3_ends_65 : decode cX3_ends 65 = .ok (.aload_n 2, 1) := dk_44 (dk_at dksX3_ends_2 17 rfl rfl)
theorem dX3_ends_66 : decode cX3_ends 66 = .ok (.bipush 11, 2) := dk_16 11 (dk_at dksX3_ends_2 18 rfl rfl)
theorem dX3_ends_68 : decode cX3_ends 68 = .ok (.bipush 101, 2) := dk_16 101 (dk_at dksX3_ends_2 20 rfl rfl)
theorem dX3_ends_70 : decode cX3_ends 70 = .ok (.iastore, 1) := dk_79 (dk_at dksX3_ends_2 22 rfl rfl)
theorem dX3_ends_71 : decode cX3_ends 71 = .ok (.aload_n 2, 1) := dk_44 (dk_at dksX3_ends_2 23 rfl rfl)
theorem dX3_ends_72 : decode cX3_ends 72 = .ok (.iconst 4, 1) := dk_7 (dk_at dksX3_ends_3 0 rfl rfl)
theorem dX3_ends_73 : decode cX3_ends 73 = .ok (.aload_n 0, 1) := dk_42 (dk_at dksX3_ends_3 1 rfl rfl)
theorem dX3_ends_74 : decode cX3_ends 74 = .ok (.getfield 133, 3) := dk_180 0 133 (dk_at dksX3_ends_3 2 rfl rfl)
theorem dX3_ends_77 : decode cX3_ends 77 = .ok (.iastore, 1) := dk_79 (dk_at dksX3_ends_3 5 rfl rfl)
theorem dX3_ends_78 : decode cX3_ends 78 = .ok (.iload_n 3, 1) := dk_29 (dk_at dksX3_ends_3 6 rfl rfl)
theorem dX3_ends_79 : decode cX3_ends 79 = .ok (.invokestatic 231, 3) := dk_184 0 231 (dk_at dksX3_ends_3 7 rfl rfl)
theorem dX3_ends_82 : decode cX3_ends 82 = .ok (.ifCond .eq 114, 3) := dk_153 0 114 (dk_at dksX3_ends_3 10 rfl rfl)
theorem dX3_ends_85 : decode cX3_ends 85 = .ok (.aload_n 0, 1) := dk_42 (dk_at dksX3_ends_3 13 rfl rfl)
theorem dX3_ends_86 : decode cX3_ends 86 = .ok (.getfield 62, 3) := dk_180 0 62 (dk_at dksX3_ends_3 14 rfl rfl)
theorem dX3_ends_89 : decode cX3_ends 89 = .ok (.aload_n 2, 1) := dk_44 (dk_at dksX3_ends_3 17 rfl rfl)
theorem dX3_ends_90 : decode cX3_ends 90 = .ok (.bipush 7, 2) := dk_16 7 (dk_at dksX3_ends_3 18 rfl rfl)
theorem dX3_ends_92 : decode cX3_ends 92 = .ok (.iaload, 1) := dk_46 (dk_at dksX3_ends_3 20 rfl rfl)
theorem dX3_ends_93 : decode cX3_ends 93 = .ok (.iaload, 1) := dk_46 (dk_at dksX3_ends_3 21 rfl rfl)
theorem dX3_ends_94 : decode cX3_ends 94 = .ok (.aload_n 0, 1) := dk_42 (dk_at dksX3_ends_3 22 rfl rfl)
theorem dX3_ends_95 : decode cX3_ends 95 = .ok (.getfield 22, 3) := dk_180 0 22 (dk_at dksX3_ends_4 0 rfl rfl)
theorem dX3_ends_98 : decode cX3_ends 98 = .ok (.aload_n 2, 1) := dk_44 (dk_at dksX3_ends_4 3 rfl rfl)
theorem dX3_ends_99 : decode cX3_ends 99 = .ok (.iconst 0, 1) := dk_3 (dk_at dksX3_ends_4 4 rfl rfl)
theorem dX3_ends_100 : decode cX3_ends 100 = .ok (.iaload, 1) := dk_46 (dk_at dksX3_ends_4 5 rfl rfl)
theorem dX3_ends_101 : decode cX3_ends 101 = .ok (.iaload, 1) := dk_46 (dk_at dksX3_ends_4 6 rfl rfl)
theorem dX3_ends_102 : decode cX3_ends 102 = .ok (.iadd, 1) := dk_96 (dk_at dksX3_ends_4 7 rfl rfl)
theorem dX3_ends_103 : decode cX3_ends 103 = .ok (.istore 4, 2) := dk_54 4 (dk_at dksX3_ends_4 8 rfl rfl)
theorem dX3_ends_105 : decode cX3_ends 105 = .ok (.aload_n 2, 1) := dk_44 (dk_at dksX3_ends_4 10 rfl rfl)
theorem dX3_ends_106 : decode cX3_ends 106 = .ok (.bipush 13, 2) := dk_16 13 (dk_at dksX3_ends_4 11 rfl rfl)
theorem dX3_ends_108 : decode cX3_ends 108 = .ok (.iload 4, 2) := dk_21 4 (dk_at dksX3_ends_4 13 rfl rfl)
theorem dX3_ends_110 : decode cX3_ends 110 = .ok (.invokestatic 225, 3) := dk_184 0 225 (dk_at dksX3_ends_4 15 rfl rfl)
theorem dX3_ends_113 : decode cX3_ends 113 = .ok (.ifCond .eq 7, 3) := dk_153 0 7 (dk_at dksX3_ends_4 18 rfl rfl)
theorem dX3_ends_116 : decode cX3_ends 116 = .ok (.iconst 0, 1) := dk_3 (dk_at dksX3_ends_4 21 rfl rfl)
theorem dX3_ends_117 : decode cX3_ends 117 = .ok (.goto 4, 3) := dk_167 0 4 (dk_at dksX3_ends_5 0 rfl rfl)
theorem dX3_ends_120 : decode cX3_ends 120 = .ok (.iconst 2, 1) := dk_5 (dk_at dksX3_ends_5 3 rfl rfl)
theorem dX3_ends_121 : decode cX3_ends 121 = .ok (.iastore, 1) := dk_79 (dk_at dksX3_ends_5 4 rfl rfl)
theorem dX3_ends_122 : decode cX3_ends 122 = .ok (.aload_n 2, 1) := dk_44 (dk_at dksX3_ends_5 5 rfl rfl)
theorem dX3_ends_123 : decode cX3_ends 123 = .ok (.bipush 14, 2) := dk_16 14 (dk_at dksX3_ends_5 6 rfl rfl)
theorem dX3_ends_125 : decode cX3_ends 125 = .ok (.iload 4, 2) := dk_21 4 (dk_at dksX3_ends_5 8 rfl rfl)
theorem dX3_ends_127 : decode cX3_ends 127 = .ok (.iastore, 1) := dk_79 (dk_at dksX3_ends_5 10 rfl rfl)
theorem dX3_ends_128 : decode cX3_ends 128 = .ok (.aload_n 0, 1) := dk_42 (dk_at dksX3_ends_5 11 rfl rfl)
theorem dX3_ends_129 : decode cX3_ends 129 = .ok (.iload_n 1, 1) := dk_27 (dk_at dksX3_ends_5 12 rfl rfl)
theorem dX3_ends_130 : decode cX3_ends 130 = .ok (.invokevirtual 265, 3) := dk_182 1 9 (dk_at dksX3_ends_5 13 rfl rfl)
theorem dX3_ends_133 : decode cX3_ends 133 = .ok (.istore 5, 2) := dk_54 5 (dk_at dksX3_ends_5 16 rfl rfl)
theorem dX3_ends_135 : decode cX3_ends 135 = .ok (.iload 5, 2) := dk_21 5 (dk_at dksX3_ends_5 18 rfl rfl)
theorem dX3_ends_137 : decode cX3_ends 137 = .ok (.iconst (-1), 1) := dk_2 (dk_at dksX3_ends_5 20 rfl rfl)
theorem dX3_ends_138 : decode cX3_ends 138 = .ok (.if_icmp .eq 57, 3) := dk_159 0 57 (dk_at dksX3_ends_5 21 rfl rfl)
theorem dX3_ends_141 : decode cX3_ends 141 = .ok (.aload_n 0, 1) := dk_42 (dk_at dksX3_ends_6 0 rfl rfl)
theorem dX3_ends_142 : decode cX3_ends 142 = .ok (.getfield 74, 3) := dk_180 0 74 (dk_at dksX3_ends_6 1 rfl rfl)
theorem dX3_ends_145 : decode cX3_ends 145 = .ok (.iload 5, 2) := dk_21 5 (dk_at dksX3_ends_6 4 rfl rfl)
theorem dX3_ends_147 : decode cX3_ends 147 = .ok (.aaload, 1) := dk_50 (dk_at dksX3_ends_6 6 rfl rfl)
theorem dX3_ends_148 : decode cX3_ends 148 = .ok (.astore 6, 2) := dk_58 6 (dk_at dksX3_ends_6 7 rfl rfl)
theorem dX3_ends_150 : decode cX3_ends 150 = .ok (.aload_n 0, 1) := dk_42 (dk_at dksX3_ends_6 9 rfl rfl)
theorem dX3_ends_151 : decode cX3_ends 151 = .ok (.dup, 1) := dk_89 (dk_at dksX3_ends_6 10 rfl rfl)
theorem dX3_ends_152 : decode cX3_ends 152 = .ok (.getfield 268, 3) := dk_180 1 12 (dk_at dksX3_ends_6 11 rfl rfl)
theorem dX3_ends_155 : decode cX3_ends 155 = .ok (.iconst 1, 1) := dk_4 (dk_at dksX3_ends_6 14 rfl rfl)
theorem dX3_ends_156 : decode cX3_ends 156 = .ok (.iadd, 1) := dk_96 (dk_at dksX3_ends_6 15 rfl rfl)
theorem dX3_ends_157 : decode cX3_ends 157 = .ok (.putfield 268, 3) := dk_181 1 12 (dk_at dksX3_ends_6 16 rfl rfl)
theorem dX3_ends_160 : decode cX3_ends 160 = .ok (.aload_n 0, 1) := dk_42 (dk_at dksX3_ends_6 19 rfl rfl)
theorem dX3_ends_161 : decode cX3_ends 161 = .ok (.getfield 89, 3) := dk_180 0 89 (dk_at dksX3_ends_6 20 rfl rfl)
theorem dX3_ends_164 : decode cX3_ends 164 = .ok (.aload 6, 2) := dk_25 6 (dk_at dksX3_ends_7 0 rfl rfl)
theorem dX3_ends_166 : decode cX3_ends 166 = .ok (.iconst 0, 1) := dk_3 (dk_at dksX3_ends_7 2 rfl rfl)
theorem dX3_ends_167 : decode cX3_ends 167 = .ok (.iaload, 1) := dk_46 (dk_at dksX3_ends_7 3 rfl rfl)
theorem dX3_ends_168 : decode cX3_ends 168 = .ok (.bipush 16, 2) := dk_16 16 (dk_at dksX3_ends_7 4 rfl rfl)
theorem dX3_ends_170 : decode cX3_ends 170 = .ok (.irem, 1) := dk_112 (dk_at dksX3_ends_7 6 rfl rfl)
theorem dX3_ends_171 : decode cX3_ends 171 = .ok (.iconst 1, 1) := dk_4 (dk_at dksX3_ends_7 7 rfl rfl)
theorem dX3_ends_172 : decode cX3_ends 172 = .ok (.bastore, 1) := dk_84 (dk_at dksX3_ends_7 8 rfl rfl)
theorem dX3_ends_173 : decode cX3_ends 173 = .ok (.aload_n 0, 1) := dk_42 (dk_at dksX3_ends_7 9 rfl rfl)
theorem dX3_ends_174 : decode cX3_ends 174 = .ok (.aload 6, 2) := dk_25 6 (dk_at dksX3_ends_7 10 rfl rfl)
theorem dX3_ends_176 : decode cX3_ends 176 = .ok (.bipush 18, 2) := dk_16 18 (dk_at dksX3_ends_7 12 rfl rfl)
theorem dX3_ends_178 : decode cX3_ends 178 = .ok (.invokevirtual 271, 3) := dk_182 1 15 (dk_at dksX3_ends_7 14 rfl rfl)
theorem dX3_ends_181 : decode cX3_ends 181 = .ok (.aload_n 0, 1) := dk_42 (dk_at dksX3_ends_7 17 rfl rfl)
theorem dX3_ends_182 : decode cX3_ends 182 = .ok (.aload 6, 2) := dk_25 6 (dk_at dksX3_ends_7 18 rfl rfl)
theorem dX3_ends_184 : decode cX3_ends 184 = .ok (.iconst 0, 1) := dk_3 (dk_at dksX3_ends_7 20 rfl rfl)
theorem dX3_ends_185 : decode cX3_ends 185 = .ok (.iaload, 1) := dk_46 (dk_at dksX3_ends_7 21 rfl rfl)
theorem dX3_ends_186 : decode cX3_ends 186 = .ok (.invokevirtual 274, 3) := dk_182 1 18 (dk_at dksX3_ends_8 0 rfl rfl)
theorem dX3_ends_189 : decode cX3_ends 189 = .ok (.aload_n 0, 1) := dk_42 (dk_at dksX3_ends_8 3 rfl rfl)
theorem dX3_ends_190 : decode cX3_ends 190 = .ok (.iload 5, 2) := dk_21 5 (dk_at dksX3_ends_8 4 rfl rfl)
theorem dX3_ends_192 : decode cX3_ends 192 = .ok (.invokevirtual 277, 3) := dk_182 1 21 (dk_at dksX3_ends_8 6 rfl rfl)
theorem dX3_ends_195 : decode cX3_ends 195 = .ok (.return_, 1) := dk_177 (dk_at dksX3_ends_8 9 rfl rfl)
theorem dX3_ends_196 : decode cX3_ends 196 = .ok (.aload_n 0, 1) := dk_42 (dk_at dksX3_ends_8 10 rfl rfl)
theorem dX3_ends_197 : decode cX3_ends 197 = .ok (.aload_n 2, 1) := dk_44 (dk_at dksX3_ends_8 11 rfl rfl)
theorem dX3_ends_198 : decode cX3_ends 198 = .ok (.iload_n 3, 1) := dk_29 (dk_at dksX3_ends_8 12 rfl rfl)
theorem dX3_ends_199 : decode cX3_ends 199 = .ok (.invokevirtual 280, 3) := dk_182 1 24 (dk_at dksX3_ends_8 13 rfl rfl)
theorem dX3_ends_202 : decode cX3_ends 202 = .ok (.aload_n 2, 1) := dk_44 (dk_at dksX3_ends_8 16 rfl rfl)
theorem dX3_ends_203 : decode cX3_ends 203 = .ok (.bipush 13, 2) := dk_16 13 (dk_at dksX3_ends_8 17 rfl rfl)
theorem dX3_ends_205 : decode cX3_ends 205 = .ok (.iaload, 1) := dk_46 (dk_at dksX3_ends_8 19 rfl rfl)
theorem dX3_ends_206 : decode cX3_ends 206 = .ok (.ifCond .ne 45, 3) := dk_154 0 45 (dk_at dksX3_ends_8 20 rfl rfl)
theorem dX3_ends_209 : decode cX3_ends 209 = .ok (.aload_n 2, 1) := dk_44 (dk_at dksX3_ends_8 23 rfl rfl)
theorem dX3_ends_210 : decode cX3_ends 210 = .ok (.bipush 6, 2) := dk_16 6 (dk_at dksX3_ends_9 0 rfl rfl)
theorem dX3_ends_212 : decode cX3_ends 212 = .ok (.iaload, 1) := dk_46 (dk_at dksX3_ends_9 2 rfl rfl)
theorem dX3_ends_213 : decode cX3_ends 213 = .ok (.aload_n 2, 1) := dk_44 (dk_at dksX3_ends_9 3 rfl rfl)
theorem dX3_ends_214 : decode cX3_ends 214 = .ok (.iconst 5, 1) := dk_8 (dk_at dksX3_ends_9 4 rfl rfl)
theorem dX3_ends_215 : decode cX3_ends 215 = .ok (.iaload, 1) := dk_46 (dk_at dksX3_ends_9 5 rfl rfl)
theorem dX3_ends_216 : decode cX3_ends 216 = .ok (.if_icmp .eq 35, 3) := dk_159 0 35 (dk_at dksX3_ends_9 6 rfl rfl)
theorem dX3_ends_219 : decode cX3_ends 219 = .ok (.aload_n 0, 1) := dk_42 (dk_at dksX3_ends_9 9 rfl rfl)
theorem dX3_ends_220 : decode cX3_ends 220 = .ok (.dup, 1) := dk_89 (dk_at dksX3_ends_9 10 rfl rfl)
theorem dX3_ends_221 : decode cX3_ends 221 = .ok (.getfield 283, 3) := dk_180 1 27 (dk_at dksX3_ends_9 11 rfl rfl)
theorem dX3_ends_224 : decode cX3_ends 224 = .ok (.iconst 1, 1) := dk_4 (dk_at dksX3_ends_9 14 rfl rfl)
theorem dX3_ends_225 : decode cX3_ends 225 = .ok (.iadd, 1) := dk_96 (dk_at dksX3_ends_9 15 rfl rfl)
theorem dX3_ends_226 : decode cX3_ends 226 = .ok (.putfield 283, 3) := dk_181 1 27 (dk_at dksX3_ends_9 16 rfl rfl)
theorem dX3_ends_229 : decode cX3_ends 229 = .ok (.aload_n 0, 1) := dk_42 (dk_at dksX3_ends_9 19 rfl rfl)
theorem dX3_ends_230 : decode cX3_ends 230 = .ok (.aload_n 2, 1) := dk_44 (dk_at dksX3_ends_9 20 rfl rfl)
theorem dX3_ends_231 : decode cX3_ends 231 = .ok (.bipush 23, 2) := dk_16 23 (dk_at dksX3_ends_9 21 rfl rfl)
theorem dX3_ends_233 : decode cX3_ends 233 = .ok (.invokevirtual 271, 3) := dk_182 1 15 (dk_at dksX3_ends_10 0 rfl rfl)
theorem dX3_ends_236 : decode cX3_ends 236 = .ok (.aload_n 0, 1) := dk_42 (dk_at dksX3_ends_10 3 rfl rfl)
theorem dX3_ends_237 : decode cX3_ends 237 = .ok (.aload_n 2, 1) := dk_44 (dk_at dksX3_ends_10 4 rfl rfl)
theorem dX3_ends_238 : decode cX3_ends 238 = .ok (.bipush 6, 2) := dk_16 6 (dk_at dksX3_ends_10 5 rfl rfl)
theorem dX3_ends_240 : decode cX3_ends 240 = .ok (.iaload, 1) := dk_46 (dk_at dksX3_ends_10 7 rfl rfl)
theorem dX3_ends_241 : decode cX3_ends 241 = .ok (.invokevirtual 274, 3) := dk_182 1 18 (dk_at dksX3_ends_10 8 rfl rfl)
theorem dX3_ends_244 : decode cX3_ends 244 = .ok (.aload_n 0, 1) := dk_42 (dk_at dksX3_ends_10 11 rfl rfl)
theorem dX3_ends_245 : decode cX3_ends 245 = .ok (.iload_n 1, 1) := dk_27 (dk_at dksX3_ends_10 12 rfl rfl)
theorem dX3_ends_246 : decode cX3_ends 246 = .ok (.iconst 1, 1) := dk_4 (dk_at dksX3_ends_10 13 rfl rfl)
theorem dX3_ends_247 : decode cX3_ends 247 = .ok (.iadd, 1) := dk_96 (dk_at dksX3_ends_10 14 rfl rfl)
theorem dX3_ends_248 : decode cX3_ends 248 = .ok (.invokevirtual 277, 3) := dk_182 1 21 (dk_at dksX3_ends_10 15 rfl rfl)
theorem dX3_ends_251 : decode cX3_ends 251 = .ok (.return_, 1) := dk_177 (dk_at dksX3_ends_10 18 rfl rfl)
def dkwX3_codeOf_0 : List UInt8 := [42, 180, 0, 9, 43, 3, 46, 46, 172]
abbrev dktX3_codeOf_0 : List UInt8 := dkwX3_codeOf_0 ++ []
theorem dksX3_codeOf_0 : cX3_codeOf.data.toList.drop 0 = dktX3_codeOf_0 := by decide +kernel
theorem dX3_codeOf_0 : decode cX3_codeOf 0 = .ok (.aload_n 0, 1) := dk_42 (dk_at dksX3_codeOf_0 0 rfl rfl)
theorem dX3_codeOf_1 : decode cX3_codeOf 1 = .ok (.getfield 9, 3) := dk_180 0 9 (dk_at dksX3_codeOf_0 1 rfl rfl)
theorem dX3_codeOf_4 : decode cX3_codeOf 4 = .ok (.aload_n 1, 1) := dk_43 (dk_at dksX3_codeOf_0 4 rfl rfl)
theorem dX3_codeOf_5 : decode cX3_codeOf 5 = .ok (.iconst 0, 1) := dk_3 (dk_at dksX3_codeOf_0 5 rfl rfl)
theorem dX3_codeOf_6 : decode cX3_codeOf 6 = .ok (.iaload, 1) := dk_46 (dk_at dksX3_codeOf_0 6 rfl rfl)
theorem dX3_codeOf_7 : decode cX3_codeOf 7 = .ok (.iaload, 1) := dk_46 (dk_at dksX3_codeOf_0 7 rfl rfl)
theorem dX3_codeOf_8 : decode cX3_codeOf 8 = .ok (.ireturn, 1) := dk_172 (dk_at dksX3_codeOf_0 8 rfl rfl)
def dkwX3_hasD_0 : List UInt8 := [26, 4, 16, 9, 184, 0, 129, 154, 0, 9, 26, 16, 15, 160, 0, 7, 4, 167, 0, 4, 3, 172]
abbrev dktX3_hasD_0 : List UInt8 := dkwX3_hasD_0 ++ []
theorem dksX3_hasD_0 : cX3_hasD.data.toList.drop 0 = dktX3_hasD_0 := by decide +kernel
theorem dX3_hasD_0 : decode cX3_hasD 0 = .ok (.iload_n 0, 1) := dk_26 (dk_at dksX3_hasD_0 0 rfl rfl)
theorem dX3_hasD_1 : decode cX3_hasD 1 = .ok (.iconst 1, 1) := dk_4 (dk_at dksX3_hasD_0 1 rfl rfl)
theorem dX3_hasD_2 : decode cX3_hasD 2 = .ok (.bipush 9, 2) := dk_16 9 (dk_at dksX3_hasD_0 2 rfl rfl)
theorem dX3_hasD_4 : decode cX3_hasD 4 = .ok (.invokestatic 129, 3) := dk_184 0 129 (dk_at dksX3_hasD_0 4 rfl rfl)
theorem dX3_hasD_7 : decode cX3_hasD 7 = .ok (.ifCond .ne 9, 3) := dk_154 0 9 (dk_at dksX3_hasD_0 7 rfl rfl)
theorem dX3_hasD_10 : decode cX3_hasD 10 = .ok (.iload_n 0, 1) := dk_26 (dk_at dksX3_hasD_0 10 rfl rfl)
theorem dX3_hasD_11 : decode cX3_hasD 11 = .ok (.bipush 15, 2) := dk_16 15 (dk_at dksX3_hasD_0 11 rfl rfl)
theorem dX3_hasD_13 : decode cX3_hasD 13 = .ok (.if_icmp .ne 7, 3) := dk_160 0 7 (dk_at dksX3_hasD_0 13 rfl rfl)
theorem dX3_hasD_16 : decode cX3_hasD 16 = .ok (.iconst 1, 1) := dk_4 (dk_at dksX3_hasD_0 16 rfl rfl)
theorem dX3_hasD_17 : decode cX3_hasD 17 = .ok (.goto 4, 3) := dk_167 0 4 (dk_at dksX3_hasD_0 17 rfl rfl)
theorem dX3_hasD_20 : decode cX3_hasD 20 = .ok (.iconst 0, 1) := dk_3 (dk_at dksX3_hasD_0 20 rfl rfl)
theorem dX3_hasD_21 : decode cX3_hasD 21 = .ok (.ireturn, 1) := dk_172 (dk_at dksX3_hasD_0 21 rfl rfl)
def dkwX3_result_6 : List UInt8 := [159, 0, 10, 43, 16, 15, 46, 167, 0, 12, 42, 180, 0, 53, 43, 16, 14, 46, 46, 172]
abbrev dktX3_result_6 : List UInt8 := dkwX3_result_6 ++ []
def dkwX3_result_5 : List UInt8 := [4, 167, 0, 4, 3, 172, 43, 16, 13, 46, 158, 0, 7, 3, 167, 0, 27, 43, 16, 16, 46, 2]
abbrev dktX3_result_5 : List UInt8 := dkwX3_result_5 ++ dktX3_result_6
def dkwX3_result_4 : List UInt8 := [154, 0, 7, 3, 167, 0, 6, 28, 29, 108, 172, 28, 29, 126, 172, 28, 29, 130, 172, 28, 29, 162, 0, 7]
abbrev dktX3_result_4 : List UInt8 := dkwX3_result_4 ++ dktX3_result_5
def dkwX3_result_3 : List UInt8 := [42, 180, 0, 22, 43, 3, 46, 46, 172, 28, 29, 96, 172, 28, 29, 100, 172, 28, 29, 104, 172, 29]
abbrev dktX3_result_3 : List UInt8 := dkwX3_result_3 ++ dktX3_result_4
def dkwX3_result_2 : List UInt8 := [170, 0, 0, 0, 0, 0, 99, 0, 0, 0, 1, 0, 0, 0, 8, 0, 0, 0, 47, 0, 0, 0, 56, 0, 0, 0, 60, 0, 0, 0, 64, 0, 0, 0, 68, 0, 0, 0, 80, 0, 0, 0, 84, 0, 0, 0, 88]
abbrev dktX3_result_2 : List UInt8 := dkwX3_result_2 ++ dktX3_result_3
def dkwX3_result_1 : List UInt8 := [182, 0, 201]
abbrev dktX3_result_1 : List UInt8 := dkwX3_result_1 ++ dktX3_result_2
def dkwX3_result_0 : List UInt8 := [42, 180, 0, 62, 43, 16, 7, 46, 46, 61, 42, 180, 0, 62, 43, 16, 8, 46, 46, 62, 42, 43]
abbrev dktX3_result_0 : List UInt8 := dkwX3_result_0 ++ dktX3_result_1
theorem dksX3_result_0 : cX3_result.data.toList.drop 0 = dktX3_result_0 := by decide +kernel
theorem dksX3_result_1 : cX3_result.data.toList.drop 22 = dktX3_result_1 := dk_seg dksX3_result_0 22 rfl rfl
theorem dksX3_result_2 : cX3_result.data.toList.drop 25 = dktX3_result_2 := dk_seg dksX3_result_1 3 rfl rfl
theorem dksX3_result_3 : cX3_result.data.toList.drop 72 = dktX3_result_3 := dk_seg dksX3_result_2 47 rfl rfl
theorem dksX3_result_4 : cX3_result.data.toList.drop 94 = dktX3_result_4 := dk_seg dksX3_result_3 22 rfl rfl
theorem dksX3_result_5 : cX3_result.data.toList.drop 118 = dktX3_result_5 := dk_seg dksX3_result_4 24 rfl rfl
theorem dksX3_result_6 : cX3_result.data.toList.drop 140 = dktX3_result_6 := dk_seg dksX3_result_5 22 rfl rfl
theorem dX3_result_0 : decode cX3_result 0 = .ok (.aload_n 0, 1) := dk_42 (dk_at dksX3_result_0 0 rfl rfl)
theorem dX3_result_1 : decode cX3_result 1 = .ok (.getfield 62, 3) := dk_180 0 62 (dk_at dksX3_result_0 1 rfl rfl)
theorem dX3_result_4 : decode cX3_result 4 = .ok (.aload_n 1, 1) := dk_43 (dk_at dksX3_result_0 4 rfl rfl)
theorem dX3_result_5 : decode cX3_result 5 = .ok (.bipush 7, 2) := dk_16 7 (dk_at dksX3_result_0 5 rfl rfl)
theorem dX3_result_7 : decode cX3_result 7 = .ok (.iaload, 1) := dk_46 (dk_at dksX3_result_0 7 rfl rfl)
theorem dX3_result_8 : decode cX3_result 8 = .ok (.iaload, 1) := dk_46 (dk_at dksX3_result_0 8 rfl rfl)
theorem dX3_result_9 : decode cX3_result 9 = .ok (.istore_n 2, 1) := dk_61 (dk_at dksX3_result_0 9 rfl rfl)
theorem dX3_result_10 : decode cX3_result 10 = .ok (.aload_n 0, 1) := dk_42 (dk_at dksX3_result_0 10 rfl rfl)
theorem dX3_result_11 : decode cX3_result 11 = .ok (.getfield 62, 3) := dk_180 0 62 (dk_at dksX3_result_0 11 rfl rfl)
theorem dX3_result_14 : decode cX3_result 14 = .ok (.aload_n 1, 1) := dk_43 (dk_at dksX3_result_0 14 rfl rfl)
theorem dX3_result_15 : decode cX3_result 15 = .ok (.bipush 8, 2) := dk_16 8 (dk_at dksX3_result_0 15 rfl rfl)
theorem dX3_result_17 : decode cX3_result 17 = .ok (.iaload, 1) := dk_46 (dk_at dksX3_result_0 17 rfl rfl)
theorem dX3_result_18 : decode cX3_result 18 = .ok (.iaload, 1) := dk_46 (dk_at dksX3_result_0 18 rfl rfl)
theorem dX3_result_19 : decode cX3_result 19 = .ok (.istore_n 3, 1) := dk_62 (dk_at dksX3_result_0 19 rfl rfl)
theorem dX3_result_20 : decode cX3_result 20 = .ok (.aload_n 0, 1) := dk_42 (dk_at dksX3_result_0 20 rfl rfl)
theorem dX3_result_21 : decode cX3_result 21 = .ok (.aload_n 1, 1) := dk_43 (dk_at dksX3_result_0 21 rfl rfl)
theorem dX3_result_22 : decode cX3_result 22 = .ok (.invokevirtual 201, 3) := dk_182 0 201 (dk_at dksX3_result_1 0 rfl rfl)
theorem dX3_result_25 : decode cX3_result 25 = .ok (.tableswitch 99 1 8 #[47, 56, 60, 64, 68, 80, 84, 88], 47) := by decide +kernel
theorem dX3_result_72 : decode cX3_result 72 = .ok (.aload_n 0, 1) := dk_42 (dk_at dksX3_result_3 0 rfl rfl)
theorem dX3_result_73 : decode cX3_result 73 = .ok (.getfield 22, 3) := dk_180 0 22 (dk_at dksX3_result_3 1 rfl rfl)
theorem dX3_result_76 : decode cX3_result 76 = .ok (.aload_n 1, 1) := dk_43 (dk_at dksX3_result_3 4 rfl rfl)
theorem dX3_result_77 : decode cX3_result 77 = .ok (.iconst 0, 1) := dk_3 (dk_at dksX3_result_3 5 rfl rfl)
theorem dX3_result_78 : decode cX3_result 78 = .ok (.iaload, 1) := dk_46 (dk_at dksX3_result_3 6 rfl rfl)
theorem dX3_result_79 : decode cX3_result 79 = .ok (.iaload, 1) := dk_46 (dk_at dksX3_result_3 7 rfl rfl)
theorem dX3_result_80 : decode cX3_result 80 = .ok (.ireturn, 1) := dk_172 (dk_at dksX3_result_3 8 rfl rfl)
theorem dX3_result_81 : decode cX3_result 81 = .ok (.iload_n 2, 1) := dk_28 (dk_at dksX3_result_3 9 rfl rfl)
theorem dX3_result_82 : decode cX3_result 82 = .ok (.iload_n 3, 1) := dk_29 (dk_at dksX3_result_3 10 rfl rfl)
theorem dX3_result_83 : decode cX3_result 83 = .ok (.iadd, 1) := dk_96 (dk_at dksX3_result_3 11 rfl rfl)
theorem dX3_result_84 : decode cX3_result 84 = .ok (.ireturn, 1) := dk_172 (dk_at dksX3_result_3 12 rfl rfl)
theorem dX3_result_85 : decode cX3_result 85 = .ok (.iload_n 2, 1) := dk_28 (dk_at dksX3_result_3 13 rfl rfl)
theorem dX3_result_86 : decode cX3_result 86 = .ok (.iload_n 3, 1) := dk_29 (dk_at dksX3_result_3 14 rfl rfl)
theorem dX3_result_87 : decode cX3_result 87 = .ok (.isub, 1) := dk_100 (dk_at dksX3_result_3 15 rfl rfl)
theorem dX3_result_88 : decode cX3_result 88 = .ok (.ireturn, 1) := dk_172 (dk_at dksX3_result_3 16 rfl rfl)
theorem dX3_result_89 : decode cX3_result 89 = .ok (.iload_n 2, 1) := dk_28 (dk_at dksX3_result_3 17 rfl rfl)
theorem dX3_result_90 : decode cX3_result 90 = .ok (.iload_n 3, 1) := dk_29 (dk_at dksX3_result_3 18 rfl rfl)
theorem dX3_result_91 : decode cX3_result 91 = .ok (.imul, 1) := dk_104 (dk_at dksX3_result_3 19 rfl rfl)
theorem dX3_result_92 : decode cX3_result 92 = .ok (.ireturn, 1) := dk_172 (dk_at dksX3_result_3 20 rfl rfl)
theorem dX3_result_93 : decode cX3_result 93 = .ok (.iload_n 3, 1) := dk_29 (dk_at dksX3_result_3 21 rfl rfl)
theorem dX3_result_94 : decode cX3_result 94 = .ok (.ifCond .ne 7, 3) := dk_154 0 7 (dk_at dksX3_result_4 0 rfl rfl)
theorem dX3_result_97 : decode cX3_result 97 = .ok (.iconst 0, 1) := dk_3 (dk_at dksX3_result_4 3 rfl rfl)
theorem dX3_result_98 : decode cX3_result 98 = .ok (.goto 6, 3) := dk_167 0 6 (dk_at dksX3_result_4 4 rfl rfl)
theorem dX3_result_101 : decode cX3_result 101 = .ok (.iload_n 2, 1) := dk_28 (dk_at dksX3_result_4 7 rfl rfl)
theorem dX3_result_102 : decode cX3_result 102 = .ok (.iload_n 3, 1) := dk_29 (dk_at dksX3_result_4 8 rfl rfl)
theorem dX3_result_103 : decode cX3_result 103 = .ok (.idiv, 1) := dk_108 (dk_at dksX3_result_4 9 rfl rfl)
theorem dX3_result_104 : decode cX3_result 104 = .ok (.ireturn, 1) := dk_172 (dk_at dksX3_result_4 10 rfl rfl)
theorem dX3_result_105 : decode cX3_result 105 = .ok (.iload_n 2, 1) := dk_28 (dk_at dksX3_result_4 11 rfl rfl)
theorem dX3_result_106 : decode cX3_result 106 = .ok (.iload_n 3, 1) := dk_29 (dk_at dksX3_result_4 12 rfl rfl)
theorem dX3_result_107 : decode cX3_result 107 = .ok (.iand, 1) := dk_126 (dk_at dksX3_result_4 13 rfl rfl)
theorem dX3_result_108 : decode cX3_result 108 = .ok (.ireturn, 1) := dk_172 (dk_at dksX3_result_4 14 rfl rfl)
theorem dX3_result_109 : decode cX3_result 109 = .ok (.iload_n 2, 1) := dk_28 (dk_at dksX3_result_4 15 rfl rfl)
theorem dX3_result_110 : decode cX3_result 110 = .ok (.iload_n 3, 1) := dk_29 (dk_at dksX3_result_4 16 rfl rfl)
theorem dX3_result_111 : decode cX3_result 111 = .ok (.ixor, 1) := dk_130 (dk_at dksX3_result_4 17 rfl rfl)
theorem dX3_result_112 : decode cX3_result 112 = .ok (.ireturn, 1) := dk_172 (dk_at dksX3_result_4 18 rfl rfl)
theorem dX3_result_113 : decode cX3_result 113 = .ok (.iload_n 2, 1) := dk_28 (dk_at dksX3_result_4 19 rfl rfl)
theorem dX3_result_114 : decode cX3_result 114 = .ok (.iload_n 3, 1) := dk_29 (dk_at dksX3_result_4 20 rfl rfl)
theorem dX3_result_115 : decode cX3_result 115 = .ok (.if_icmp .ge 7, 3) := dk_162 0 7 (dk_at dksX3_result_4 21 rfl rfl)
theorem dX3_result_118 : decode cX3_result 118 = .ok (.iconst 1, 1) := dk_4 (dk_at dksX3_result_5 0 rfl rfl)
theorem dX3_result_119 : decode cX3_result 119 = .ok (.goto 4, 3) := dk_167 0 4 (dk_at dksX3_result_5 1 rfl rfl)
theorem dX3_result_122 : decode cX3_result 122 = .ok (.iconst 0, 1) := dk_3 (dk_at dksX3_result_5 4 rfl rfl)
theorem dX3_result_123 : decode cX3_result 123 = .ok (.ireturn, 1) := dk_172 (dk_at dksX3_result_5 5 rfl rfl)
theorem dX3_result_124 : decode cX3_result 124 = .ok (.aload_n 1, 1) := dk_43 (dk_at dksX3_result_5 6 rfl rfl)
theorem dX3_result_125 : decode cX3_result 125 = .ok (.bipush 13, 2) := dk_16 13 (dk_at dksX3_result_5 7 rfl rfl)
theorem dX3_result_127 : decode cX3_result 127 = .ok (.iaload, 1) := dk_46 (dk_at dksX3_result_5 9 rfl rfl)
theorem dX3_result_128 : decode cX3_result 128 = .ok (.ifCond .le 7, 3) := dk_158 0 7 (dk_at dksX3_result_5 10 rfl rfl)
theorem dX3_result_131 : decode cX3_result 131 = .ok (.iconst 0, 1) := dk_3 (dk_at dksX3_result_5 13 rfl rfl)
theorem dX3_result_132 : decode cX3_result 132 = .ok (.goto 27, 3) := dk_167 0 27 (dk_at dksX3_result_5 14 rfl rfl)
theorem dX3_result_135 : decode cX3_result 135 = .ok (.aload_n 1, 1) := dk_43 (dk_at dksX3_result_5 17 rfl rfl)
theorem dX3_result_136 : decode cX3_result 136 = .ok (.bipush 16, 2) := dk_16 16 (dk_at dksX3_result_5 18 rfl rfl)
theorem dX3_result_138 : decode cX3_result 138 = .ok (.iaload, 1) := dk_46 (dk_at dksX3_result_5 20 rfl rfl)
theorem dX3_result_139 : decode cX3_result 139 = .ok (.iconst (-1), 1) := dk_2 (dk_at dksX3_result_5 21 rfl rfl)
theorem dX3_result_140 : decode cX3_result 140 = .ok (.if_icmp .eq 10, 3) := dk_159 0 10 (dk_at dksX3_result_6 0 rfl rfl)
theorem dX3_result_143 : decode cX3_result 143 = .ok (.aload_n 1, 1) := dk_43 (dk_at dksX3_result_6 3 rfl rfl)
theorem dX3_result_144 : decode cX3_result 144 = .ok (.bipush 15, 2) := dk_16 15 (dk_at dksX3_result_6 4 rfl rfl)
theorem dX3_result_146 : decode cX3_result 146 = .ok (.iaload, 1) := dk_46 (dk_at dksX3_result_6 6 rfl rfl)
theorem dX3_result_147 : decode cX3_result 147 = .ok (.goto 12, 3) := dk_167 0 12 (dk_at dksX3_result_6 7 rfl rfl)
theorem dX3_result_150 : decode cX3_result 150 = .ok (.aload_n 0, 1) := dk_42 (dk_at dksX3_result_6 10 rfl rfl)
theorem dX3_result_151 : decode cX3_result 151 = .ok (.getfield 53, 3) := dk_180 0 53 (dk_at dksX3_result_6 11 rfl rfl)
theorem dX3_result_154 : decode cX3_result 154 = .ok (.aload_n 1, 1) := dk_43 (dk_at dksX3_result_6 14 rfl rfl)
theorem dX3_result_155 : decode cX3_result 155 = .ok (.bipush 14, 2) := dk_16 14 (dk_at dksX3_result_6 15 rfl rfl)
theorem dX3_result_157 : decode cX3_result 157 = .ok (.iaload, 1) := dk_46 (dk_at dksX3_result_6 17 rfl rfl)
theorem dX3_result_158 : decode cX3_result 158 = .ok (.iaload, 1) := dk_46 (dk_at dksX3_result_6 18 rfl rfl)
theorem dX3_result_159 : decode cX3_result 159 = .ok (.ireturn, 1) := dk_172 (dk_at dksX3_result_6 19 rfl rfl)
def dkwX3_isStore_0 : List UInt8 := [26, 16, 10, 159, 0, 9, 26, 16, 11, 160, 0, 7, 4, 167, 0, 4, 3, 172]
abbrev dktX3_isStore_0 : List UInt8 := dkwX3_isStore_0 ++ []
theorem dksX3_isStore_0 : cX3_isStore.data.toList.drop 0 = dktX3_isStore_0 := by decide +kernel
theorem dX3_isStore_0 : decode cX3_isStore 0 = .ok (.iload_n 0, 1) := dk_26 (dk_at dksX3_isStore_0 0 rfl rfl)
theorem dX3_isStore_1 : decode cX3_isStore 1 = .ok (.bipush 10, 2) := dk_16 10 (dk_at dksX3_isStore_0 1 rfl rfl)
theorem dX3_isStore_3 : decode cX3_isStore 3 = .ok (.if_icmp .eq 9, 3) := dk_159 0 9 (dk_at dksX3_isStore_0 3 rfl rfl)
theorem dX3_isStore_6 : decode cX3_isStore 6 = .ok (.iload_n 0, 1) := dk_26 (dk_at dksX3_isStore_0 6 rfl rfl)
theorem dX3_isStore_7 : decode cX3_isStore 7 = .ok (.bipush 11, 2) := dk_16 11 (dk_at dksX3_isStore_0 7 rfl rfl)
theorem dX3_isStore_9 : decode cX3_isStore 9 = .ok (.if_icmp .ne 7, 3) := dk_160 0 7 (dk_at dksX3_isStore_0 9 rfl rfl)
theorem dX3_isStore_12 : decode cX3_isStore 12 = .ok (.iconst 1, 1) := dk_4 (dk_at dksX3_isStore_0 12 rfl rfl)
theorem dX3_isStore_13 : decode cX3_isStore 13 = .ok (.goto 4, 3) := dk_167 0 4 (dk_at dksX3_isStore_0 13 rfl rfl)
theorem dX3_isStore_16 : decode cX3_isStore 16 = .ok (.iconst 0, 1) := dk_3 (dk_at dksX3_isStore_0 16 rfl rfl)
theorem dX3_isStore_17 : decode cX3_isStore 17 = .ok (.ireturn, 1) := dk_172 (dk_at dksX3_isStore_0 17 rfl rfl)
def dkwX3_isAddress_0 : List UInt8 := [26, 3, 16, 63, 184, 0, 129, 172]
abbrev dktX3_isAddress_0 : List UInt8 := dkwX3_isAddress_0 ++ []
theorem dksX3_isAddress_0 : cX3_isAddress.data.toList.drop 0 = dktX3_isAddress_0 := by decide +kernel
theorem dX3_isAddress_0 : decode cX3_isAddress 0 = .ok (.iload_n 0, 1) := dk_26 (dk_at dksX3_isAddress_0 0 rfl rfl)
theorem dX3_isAddress_1 : decode cX3_isAddress 1 = .ok (.iconst 0, 1) := dk_3 (dk_at dksX3_isAddress_0 1 rfl rfl)
theorem dX3_isAddress_2 : decode cX3_isAddress 2 = .ok (.bipush 63, 2) := dk_16 63 (dk_at dksX3_isAddress_0 2 rfl rfl)
theorem dX3_isAddress_4 : decode cX3_isAddress 4 = .ok (.invokestatic 129, 3) := dk_184 0 129 (dk_at dksX3_isAddress_0 4 rfl rfl)
theorem dX3_isAddress_7 : decode cX3_isAddress 7 = .ok (.ireturn, 1) := dk_172 (dk_at dksX3_isAddress_0 7 rfl rfl)
def dkwX3_wrongLoad_4 : List UInt8 := [46, 163, 0, 5, 29, 172, 132, 3, 1, 167, 255, 163, 2, 172]
abbrev dktX3_wrongLoad_4 : List UInt8 := dkwX3_wrongLoad_4 ++ []
def dkwX3_wrongLoad_3 : List UInt8 := [46, 160, 0, 7, 4, 167, 0, 4, 3, 54, 5, 21, 5, 153, 0, 17, 25, 4, 16, 16, 46, 44, 16, 17]
abbrev dktX3_wrongLoad_3 : List UInt8 := dkwX3_wrongLoad_3 ++ dktX3_wrongLoad_4
def dkwX3_wrongLoad_2 : List UInt8 := [16, 11, 46, 16, 113, 159, 0, 27, 25, 4, 16, 13, 46, 154, 0, 19, 25, 4, 16, 14, 46, 44, 16, 14]
abbrev dktX3_wrongLoad_2 : List UInt8 := dkwX3_wrongLoad_2 ++ dktX3_wrongLoad_3
def dkwX3_wrongLoad_1 : List UInt8 := [154, 0, 84, 42, 180, 0, 74, 29, 50, 58, 4, 42, 25, 4, 182, 0, 201, 16, 9, 160, 0, 37, 25, 4]
abbrev dktX3_wrongLoad_1 : List UInt8 := dkwX3_wrongLoad_1 ++ dktX3_wrongLoad_2
def dkwX3_wrongLoad_0 : List UInt8 := [42, 180, 0, 74, 27, 50, 77, 27, 4, 96, 62, 29, 42, 180, 0, 198, 162, 0, 91, 44, 16, 13, 46]
abbrev dktX3_wrongLoad_0 : List UInt8 := dkwX3_wrongLoad_0 ++ dktX3_wrongLoad_1
theorem dksX3_wrongLoad_0 : cX3_wrongLoad.data.toList.drop 0 = dktX3_wrongLoad_0 := by decide +kernel
theorem dksX3_wrongLoad_1 : cX3_wrongLoad.data.toList.drop 23 = dktX3_wrongLoad_1 := dk_seg dksX3_wrongLoad_0 23 rfl rfl
theorem dksX3_wrongLoad_2 : cX3_wrongLoad.data.toList.drop 47 = dktX3_wrongLoad_2 := dk_seg dksX3_wrongLoad_1 24 rfl rfl
theorem dksX3_wrongLoad_3 : cX3_wrongLoad.data.toList.drop 71 = dktX3_wrongLoad_3 := dk_seg dksX3_wrongLoad_2 24 rfl rfl
theorem dksX3_wrongLoad_4 : cX3_wrongLoad.data.toList.drop 95 = dktX3_wrongLoad_4 := dk_seg dksX3_wrongLoad_3 24 rfl rfl
theorem dX3_wrongLoad_0 : decode cX3_wrongLoad 0 = .ok (.aload_n 0, 1) := dk_42 (dk_at dksX3_wrongLoad_0 0 rfl rfl)
theorem dX3_wrongLoad_1 : decode cX3_wrongLoad 1 = .ok (.getfield 74, 3) := dk_180 0 74 (dk_at dksX3_wrongLoad_0 1 rfl rfl)
theorem dX3_wrongLoad_4 : decode cX3_wrongLoad 4 = .ok (.iload_n 1, 1) := dk_27 (dk_at dksX3_wrongLoad_0 4 rfl rfl)
theorem dX3_wrongLoad_5 : decode cX3_wrongLoad 5 = .ok (.aaload, 1) := dk_50 (dk_at dksX3_wrongLoad_0 5 rfl rfl)
theorem dX3_wrongLoad_6 : decode cX3_wrongLoad 6 = .ok (.astore_n 2, 1) := dk_77 (dk_at dksX3_wrongLoad_0 6 rfl rfl)
theorem dX3_wrongLoad_7 : decode cX3_wrongLoad 7 = .ok (.iload_n 1, 1) := dk_27 (dk_at dksX3_wrongLoad_0 7 rfl rfl)
theorem dX3_wrongLoad_8 : decode cX3_wrongLoad 8 = .ok (.iconst 1, 1) := dk_4 (dk_at dksX3_wrongLoad_0 8 rfl rfl)
theorem dX3_wrongLoad_9 : decode cX3_wrongLoad 9 = .ok (.iadd, 1) := dk_96 (dk_at dksX3_wrongLoad_0 9 rfl rfl)
theorem dX3_wrongLoad_10 : decode cX3_wrongLoad 10 = .ok (.istore_n 3, 1) := dk_62 (dk_at dksX3_wrongLoad_0 10 rfl rfl)
theorem dX3_wrongLoad_11 : decode cX3_wrongLoad 11 = .ok (.iload_n 3, 1) := dk_29 (dk_at dksX3_wrongLoad_0 11 rfl rfl)
theorem dX3_wrongLoad_12 : decode cX3_wrongLoad 12 = .ok (.aload_n 0, 1) := dk_42 (dk_at dksX3_wrongLoad_0 12 rfl rfl)
theorem dX3_wrongLoad_13 : decode cX3_wrongLoad 13 = .ok (.getfield 198, 3) := dk_180 0 198 (dk_at dksX3_wrongLoad_0 13 rfl rfl)
theorem dX3_wrongLoad_16 : decode cX3_wrongLoad 16 = .ok (.if_icmp .ge 91, 3) := dk_162 0 91 (dk_at dksX3_wrongLoad_0 16 rfl rfl)
theorem dX3_wrongLoad_19 : decode cX3_wrongLoad 19 = .ok (.aload_n 2, 1) := dk_44 (dk_at dksX3_wrongLoad_0 19 rfl rfl)
theorem dX3_wrongLoad_20 : decode cX3_wrongLoad 20 = .ok (.bipush 13, 2) := dk_16 13 (dk_at dksX3_wrongLoad_0 20 rfl rfl)
theorem dX3_wrongLoad_22 : decode cX3_wrongLoad 22 = .ok (.iaload, 1) := dk_46 (dk_at dksX3_wrongLoad_0 22 rfl rfl)
theorem dX3_wrongLoad_23 : decode cX3_wrongLoad 23 = .ok (.ifCond .ne 84, 3) := dk_154 0 84 (dk_at dksX3_wrongLoad_1 0 rfl rfl)
theorem dX3_wrongLoad_26 : decode cX3_wrongLoad 26 = .ok (.aload_n 0, 1) := dk_42 (dk_at dksX3_wrongLoad_1 3 rfl rfl)
theorem dX3_wrongLoad_27 : decode cX3_wrongLoad 27 = .ok (.getfield 74, 3) := dk_180 0 74 (dk_at dksX3_wrongLoad_1 4 rfl rfl)
theorem dX3_wrongLoad_30 : decode cX3_wrongLoad 30 = .ok (.iload_n 3, 1) := dk_29 (dk_at dksX3_wrongLoad_1 7 rfl rfl)
theorem dX3_wrongLoad_31 : decode cX3_wrongLoad 31 = .ok (.aaload, 1) := dk_50 (dk_at dksX3_wrongLoad_1 8 rfl rfl)
theorem dX3_wrongLoad_32 : decode cX3_wrongLoad 32 = .ok (.astore 4, 2) := dk_58 4 (dk_at dksX3_wrongLoad_1 9 rfl rfl)
theorem dX3_wrongLoad_34 : decode cX3_wrongLoad 34 = .ok (.aload_n 0, 1) := dk_42 (dk_at dksX3_wrongLoad_1 11 rfl rfl)
theorem dX3_wrongLoad_35 : decode cX3_wrongLoad 35 = .ok (.aload 4, 2) := dk_25 4 (dk_at dksX3_wrongLoad_1 12 rfl rfl)
theorem dX3_wrongLoad_37 : decode cX3_wrongLoad 37 = .ok (.invokevirtual 201, 3) := dk_182 0 201 (dk_at dksX3_wrongLoad_1 14 rfl rfl)
theorem dX3_wrongLoad_40 : decode cX3_wrongLoad 40 = .ok (.bipush 9, 2) := dk_16 9 (dk_at dksX3_wrongLoad_1 17 rfl rfl)
theorem dX3_wrongLoad_42 : decode cX3_wrongLoad 42 = .ok (.if_icmp .ne 37, 3) := dk_160 0 37 (dk_at dksX3_wrongLoad_1 19 rfl rfl)
theorem dX3_wrongLoad_45 : decode cX3_wrongLoad 45 = .ok (.aload 4, 2) := dk_25 4 (dk_at dksX3_wrongLoad_1 22 rfl rfl)
theorem dX3_wrongLoad_47 : decode cX3_wrongLoad 47 = .ok (.bipush 11, 2) := dk_16 11 (dk_at dksX3_wrongLoad_2 0 rfl rfl)
theorem dX3_wrongLoad_49 : decode cX3_wrongLoad 49 = .ok (.iaload, 1) := dk_46 (dk_at dksX3_wrongLoad_2 2 rfl rfl)
theorem dX3_wrongLoad_50 : decode cX3_wrongLoad 50 = .ok (.bipush 113, 2) := dk_16 113 (dk_at dksX3_wrongLoad_2 3 rfl rfl)
theorem dX3_wrongLoad_52 : decode cX3_wrongLoad 52 = .ok (.if_icmp .eq 27, 3) := dk_159 0 27 (dk_at dksX3_wrongLoad_2 5 rfl rfl)
theorem dX3_wrongLoad_55 : decode cX3_wrongLoad 55 = .ok (.aload 4, 2) := dk_25 4 (dk_at dksX3_wrongLoad_2 8 rfl rfl)
theorem dX3_wrongLoad_57 : decode cX3_wrongLoad 57 = .ok (.bipush 13, 2) := dk_16 13 (dk_at dksX3_wrongLoad_2 10 rfl rfl)
theorem dX3_wrongLoad_59 : decode cX3_wrongLoad 59 = .ok (.iaload, 1) := dk_46 (dk_at dksX3_wrongLoad_2 12 rfl rfl)
theorem dX3_wrongLoad_60 : decode cX3_wrongLoad 60 = .ok (.ifCond .ne 19, 3) := dk_154 0 19 (dk_at dksX3_wrongLoad_2 13 rfl rfl)
theorem dX3_wrongLoad_63 : decode cX3_wrongLoad 63 = .ok (.aload 4, 2) := dk_25 4 (dk_at dksX3_wrongLoad_2 16 rfl rfl)
theorem dX3_wrongLoad_65 : decode cX3_wrongLoad 65 = .ok (.bipush 14, 2) := dk_16 14 (dk_at dksX3_wrongLoad_2 18 rfl rfl)
theorem dX3_wrongLoad_67 : decode cX3_wrongLoad 67 = .ok (.iaload, 1) := dk_46 (dk_at dksX3_wrongLoad_2 20 rfl rfl)
theorem dX3_wrongLoad_68 : decode cX3_wrongLoad 68 = .ok (.aload_n 2, 1) := dk_44 (dk_at dksX3_wrongLoad_2 21 rfl rfl)
theorem dX3_wrongLoad_69 : decode cX3_wrongLoad 69 = .ok (.bipush 14, 2) := dk_16 14 (dk_at dksX3_wrongLoad_2 22 rfl rfl)
theorem dX3_wrongLoad_71 : decode cX3_wrongLoad 71 = .ok (.iaload, 1) := dk_46 (dk_at dksX3_wrongLoad_3 0 rfl rfl)
theorem dX3_wrongLoad_72 : decode cX3_wrongLoad 72 = .ok (.if_icmp .ne 7, 3) := dk_160 0 7 (dk_at dksX3_wrongLoad_3 1 rfl rfl)
theorem dX3_wrongLoad_75 : decode cX3_wrongLoad 75 = .ok (.iconst 1, 1) := dk_4 (dk_at dksX3_wrongLoad_3 4 rfl rfl)
theorem dX3_wrongLoad_76 : decode cX3_wrongLoad 76 = .ok (.goto 4, 3) := dk_167 0 4 (dk_at dksX3_wrongLoad_3 5 rfl rfl)
theorem dX3_wrongLoad_79 : decode cX3_wrongLoad 79 = .ok (.iconst 0, 1) := dk_3 (dk_at dksX3_wrongLoad_3 8 rfl rfl)
theorem dX3_wrongLoad_80 : decode cX3_wrongLoad 80 = .ok (.istore 5, 2) := dk_54 5 (dk_at dksX3_wrongLoad_3 9 rfl rfl)
theorem dX3_wrongLoad_82 : decode cX3_wrongLoad 82 = .ok (.iload 5, 2) := dk_21 5 (dk_at dksX3_wrongLoad_3 11 rfl rfl)
theorem dX3_wrongLoad_84 : decode cX3_wrongLoad 84 = .ok (.ifCond .eq 17, 3) := dk_153 0 17 (dk_at dksX3_wrongLoad_3 13 rfl rfl)
theorem dX3_wrongLoad_87 : decode cX3_wrongLoad 87 = .ok (.aload 4, 2) := dk_25 4 (dk_at dksX3_wrongLoad_3 16 rfl rfl)
theorem dX3_wrongLoad_89 : decode cX3_wrongLoad 89 = .ok (.bipush 16, 2) := dk_16 16 (dk_at dksX3_wrongLoad_3 18 rfl rfl)
theorem dX3_wrongLoad_91 : decode cX3_wrongLoad 91 = .ok (.iaload, 1) := dk_46 (dk_at dksX3_wrongLoad_3 20 rfl rfl)
theorem dX3_wrongLoad_92 : decode cX3_wrongLoad 92 = .ok (.aload_n 2, 1) := dk_44 (dk_at dksX3_wrongLoad_3 21 rfl rfl)
theorem dX3_wrongLoad_93 : decode cX3_wrongLoad 93 = .ok (.bipush 17, 2) := dk_16 17 (dk_at dksX3_wrongLoad_3 22 rfl rfl)
theorem dX3_wrongLoad_95 : decode cX3_wrongLoad 95 = .ok (.iaload, 1) := dk_46 (dk_at dksX3_wrongLoad_4 0 rfl rfl)
theorem dX3_wrongLoad_96 : decode cX3_wrongLoad 96 = .ok (.if_icmp .gt 5, 3) := dk_163 0 5 (dk_at dksX3_wrongLoad_4 1 rfl rfl)
theorem dX3_wrongLoad_99 : decode cX3_wrongLoad 99 = .ok (.iload_n 3, 1) := dk_29 (dk_at dksX3_wrongLoad_4 4 rfl rfl)
theorem dX3_wrongLoad_100 : decode cX3_wrongLoad 100 = .ok (.ireturn, 1) := dk_172 (dk_at dksX3_wrongLoad_4 5 rfl rfl)
theorem dX3_wrongLoad_101 : decode cX3_wrongLoad 101 = .ok (.iinc 3 1, 3) := dk_132 3 1 (dk_at dksX3_wrongLoad_4 6 rfl rfl)
theorem dX3_wrongLoad_104 : decode cX3_wrongLoad 104 = .ok (.goto (-93), 3) := dk_167 255 163 (dk_at dksX3_wrongLoad_4 9 rfl rfl)
theorem dX3_wrongLoad_107 : decode cX3_wrongLoad 107 = .ok (.iconst (-1), 1) := dk_2 (dk_at dksX3_wrongLoad_4 12 rfl rfl)
theorem dX3_wrongLoad_108 : decode cX3_wrongLoad 108 = .ok (.ireturn, 1) := dk_172 (dk_at dksX3_wrongLoad_4 13 rfl rfl)
def dkwX3_stackAs_1 : List UInt8 := [177]
abbrev dktX3_stackAs_1 : List UInt8 := dkwX3_stackAs_1 ++ []
def dkwX3_stackAs_0 : List UInt8 := [3, 62, 29, 7, 163, 0, 20, 42, 180, 0, 80, 29, 43, 28, 29, 96, 46, 79, 132, 3, 1, 167, 255, 237]
abbrev dktX3_stackAs_0 : List UInt8 := dkwX3_stackAs_0 ++ dktX3_stackAs_1
theorem dksX3_stackAs_0 : cX3_stackAs.data.toList.drop 0 = dktX3_stackAs_0 := by decide +kernel
theorem dksX3_stackAs_1 : cX3_stackAs.data.toList.drop 24 = dktX3_stackAs_1 := dk_seg dksX3_stackAs_0 24 rfl rfl
theorem dX3_stackAs_0 : decode cX3_stackAs 0 = .ok (.iconst 0, 1) := dk_3 (dk_at dksX3_stackAs_0 0 rfl rfl)
theorem dX3_stackAs_1 : decode cX3_stackAs 1 = .ok (.istore_n 3, 1) := dk_62 (dk_at dksX3_stackAs_0 1 rfl rfl)
theorem dX3_stackAs_2 : decode cX3_stackAs 2 = .ok (.iload_n 3, 1) := dk_29 (dk_at dksX3_stackAs_0 2 rfl rfl)
theorem dX3_stackAs_3 : decode cX3_stackAs 3 = .ok (.iconst 4, 1) := dk_7 (dk_at dksX3_stackAs_0 3 rfl rfl)
theorem dX3_stackAs_4 : decode cX3_stackAs 4 = .ok (.if_icmp .gt 20, 3) := dk_163 0 20 (dk_at dksX3_stackAs_0 4 rfl rfl)
theorem dX3_stackAs_7 : decode cX3_stackAs 7 = .ok (.aload_n 0, 1) := dk_42 (dk_at dksX3_stackAs_0 7 rfl rfl)
theorem dX3_stackAs_8 : decode cX3_stackAs 8 = .ok (.getfield 80, 3) := dk_180 0 80 (dk_at dksX3_stackAs_0 8 rfl rfl)
theorem dX3_stackAs_11 : decode cX3_stackAs 11 = .ok (.iload_n 3, 1) := dk_29 (dk_at dksX3_stackAs_0 11 rfl rfl)
theorem dX3_stackAs_12 : decode cX3_stackAs 12 = .ok (.aload_n 1, 1) := dk_43 (dk_at dksX3_stackAs_0 12 rfl rfl)
theorem dX3_stackAs_13 : decode cX3_stackAs 13 = .ok (.iload_n 2, 1) := dk_28 (dk_at dksX3_stackAs_0 13 rfl rfl)
theorem dX3_stackAs_14 : decode cX3_stackAs 14 = .ok (.iload_n 3, 1) := dk_29 (dk_at dksX3_stackAs_0 14 rfl rfl)
theorem dX3_stackAs_15 : decode cX3_stackAs 15 = .ok (.iadd, 1) := dk_96 (dk_at dksX3_stackAs_0 15 rfl rfl)
theorem dX3_stackAs_16 : decode cX3_stackAs 16 = .ok (.iaload, 1) := dk_46 (dk_at dksX3_stackAs_0 16 rfl rfl)
theorem dX3_stackAs_17 : decode cX3_stackAs 17 = .ok (.iastore, 1) := dk_79 (dk_at dksX3_stackAs_0 17 rfl rfl)
theorem dX3_stackAs_18 : decode cX3_stackAs 18 = .ok (.iinc 3 1, 3) := dk_132 3 1 (dk_at dksX3_stackAs_0 18 rfl rfl)
theorem dX3_stackAs_21 : decode cX3_stackAs 21 = .ok (.goto (-19), 3) := dk_167 255 237 (dk_at dksX3_stackAs_0 21 rfl rfl)
theorem dX3_stackAs_24 : decode cX3_stackAs 24 = .ok (.return_, 1) := dk_177 (dk_at dksX3_stackAs_1 0 rfl rfl)
def dkwX3_goesOn_0 : List UInt8 := [42, 27, 181, 0, 180, 42, 3, 181, 0, 174, 42, 3, 181, 0, 177, 177]
abbrev dktX3_goesOn_0 : List UInt8 := dkwX3_goesOn_0 ++ []
theorem dksX3_goesOn_0 : cX3_goesOn.data.toList.drop 0 = dktX3_goesOn_0 := by decide +kernel
theorem dX3_goesOn_0 : decode cX3_goesOn 0 = .ok (.aload_n 0, 1) := dk_42 (dk_at dksX3_goesOn_0 0 rfl rfl)
theorem dX3_goesOn_1 : decode cX3_goesOn 1 = .ok (.iload_n 1, 1) := dk_27 (dk_at dksX3_goesOn_0 1 rfl rfl)
theorem dX3_goesOn_2 : decode cX3_goesOn 2 = .ok (.putfield 180, 3) := dk_181 0 180 (dk_at dksX3_goesOn_0 2 rfl rfl)
theorem dX3_goesOn_5 : decode cX3_goesOn 5 = .ok (.aload_n 0, 1) := dk_42 (dk_at dksX3_goesOn_0 5 rfl rfl)
theorem dX3_goesOn_6 : decode cX3_goesOn 6 = .ok (.iconst 0, 1) := dk_3 (dk_at dksX3_goesOn_0 6 rfl rfl)
theorem dX3_goesOn_7 : decode cX3_goesOn 7 = .ok (.putfield 174, 3) := dk_181 0 174 (dk_at dksX3_goesOn_0 7 rfl rfl)
theorem dX3_goesOn_10 : decode cX3_goesOn 10 = .ok (.aload_n 0, 1) := dk_42 (dk_at dksX3_goesOn_0 10 rfl rfl)
theorem dX3_goesOn_11 : decode cX3_goesOn 11 = .ok (.iconst 0, 1) := dk_3 (dk_at dksX3_goesOn_0 11 rfl rfl)
theorem dX3_goesOn_12 : decode cX3_goesOn 12 = .ok (.putfield 177, 3) := dk_181 0 177 (dk_at dksX3_goesOn_0 12 rfl rfl)
theorem dX3_goesOn_15 : decode cX3_goesOn 15 = .ok (.return_, 1) := dk_177 (dk_at dksX3_goesOn_0 15 rfl rfl)
def dkwX3_throwsFrom_4 : List UInt8 := [181, 0, 198, 177]
abbrev dktX3_throwsFrom_4 : List UInt8 := dkwX3_throwsFrom_4 ++ []
def dkwX3_throwsFrom_3 : List UInt8 := [180, 0, 253, 4, 96, 181, 0, 253, 132, 2, 255, 167, 255, 180, 42, 42, 180, 0, 198, 27, 184, 1, 0]
abbrev dktX3_throwsFrom_3 : List UInt8 := dkwX3_throwsFrom_3 ++ dktX3_throwsFrom_4
def dkwX3_throwsFrom_2 : List UInt8 := [180, 0, 69, 42, 180, 0, 126, 45, 16, 9, 46, 79, 42, 89, 180, 0, 126, 4, 96, 181, 0, 126, 42, 89]
abbrev dktX3_throwsFrom_2 : List UInt8 := dkwX3_throwsFrom_2 ++ dktX3_throwsFrom_3
def dkwX3_throwsFrom_1 : List UInt8 := [184, 0, 209, 153, 0, 43, 42, 180, 0, 56, 42, 180, 0, 13, 45, 3, 46, 46, 45, 16, 10, 46, 79, 42]
abbrev dktX3_throwsFrom_1 : List UInt8 := dkwX3_throwsFrom_1 ++ dktX3_throwsFrom_2
def dkwX3_throwsFrom_0 : List UInt8 := [42, 180, 0, 198, 4, 100, 61, 28, 27, 161, 0, 77, 42, 180, 0, 74, 28, 50, 78, 42, 45, 182, 0, 201]
abbrev dktX3_throwsFrom_0 : List UInt8 := dkwX3_throwsFrom_0 ++ dktX3_throwsFrom_1
theorem dksX3_throwsFrom_0 : cX3_throwsFrom.data.toList.drop 0 = dktX3_throwsFrom_0 := by decide +kernel
theorem dksX3_throwsFrom_1 : cX3_throwsFrom.data.toList.drop 24 = dktX3_throwsFrom_1 := dk_seg dksX3_throwsFrom_0 24 rfl rfl
theorem dksX3_throwsFrom_2 : cX3_throwsFrom.data.toList.drop 48 = dktX3_throwsFrom_2 := dk_seg dksX3_throwsFrom_1 24 rfl rfl
theorem dksX3_throwsFrom_3 : cX3_throwsFrom.data.toList.drop 72 = dktX3_throwsFrom_3 := dk_seg dksX3_throwsFrom_2 24 rfl rfl
theorem dksX3_throwsFrom_4 : cX3_throwsFrom.data.toList.drop 95 = dktX3_throwsFrom_4 := dk_seg dksX3_throwsFrom_3 23 rfl rfl
theorem dX3_throwsFrom_0 : decode cX3_throwsFrom 0 = .ok (.aload_n 0, 1) := dk_42 (dk_at dksX3_throwsFrom_0 0 rfl rfl)
theorem dX3_throwsFrom_1 : decode cX3_throwsFrom 1 = .ok (.getfield 198, 3) := dk_180 0 198 (dk_at dksX3_throwsFrom_0 1 rfl rfl)
theorem dX3_throwsFrom_4 : decode cX3_throwsFrom 4 = .ok (.iconst 1, 1) := dk_4 (dk_at dksX3_throwsFrom_0 4 rfl rfl)
theorem dX3_throwsFrom_5 : decode cX3_throwsFrom 5 = .ok (.isub, 1) := dk_100 (dk_at dksX3_throwsFrom_0 5 rfl rfl)
theorem dX3_throwsFrom_6 : decode cX3_throwsFrom 6 = .ok (.istore_n 2, 1) := dk_61 (dk_at dksX3_throwsFrom_0 6 rfl rfl)
theorem dX3_throwsFrom_7 : decode cX3_throwsFrom 7 = .ok (.iload_n 2, 1) := dk_28 (dk_at dksX3_throwsFrom_0 7 rfl rfl)
theorem dX3_throwsFrom_8 : decode cX3_throwsFrom 8 = .ok (.iload_n 1, 1) := dk_27 (dk_at dksX3_throwsFrom_0 8 rfl rfl)
theorem dX3_throwsFrom_9 : decode cX3_throwsFrom 9 = .ok (.if_icmp .lt 77, 3) := dk_161 0 77 (dk_at dksX3_throwsFrom_0 9 rfl rfl)
theorem dX3_throwsFrom_12 : decode cX3_throwsFrom 12 = .ok (.aload_n 0, 1) := dk_42 (dk_at dksX3_throwsFrom_0 12 rfl rfl)
theorem dX3_throwsFrom_13 : decode cX3_throwsFrom 13 = .ok (.getfield 74, 3) := dk_180 0 74 (dk_at dksX3_throwsFrom_0 13 rfl rfl)
theorem dX3_throwsFrom_16 : decode cX3_throwsFrom 16 = .ok (.iload_n 2, 1) := dk_28 (dk_at dksX3_throwsFrom_0 16 rfl rfl)
theorem dX3_throwsFrom_17 : decode cX3_throwsFrom 17 = .ok (.aaload, 1) := dk_50 (dk_at dksX3_throwsFrom_0 17 rfl rfl)
theorem dX3_throwsFrom_18 : decode cX3_throwsFrom 18 = .ok (.astore_n 3, 1) := dk_78 (dk_at dksX3_throwsFrom_0 18 rfl rfl)
theorem dX3_throwsFrom_19 : decode cX3_throwsFrom 19 = .ok (.aload_n 0, 1) := dk_42 (dk_at dksX3_throwsFrom_0 19 rfl rfl)
theorem dX3_throwsFrom_20 : decode cX3_throwsFrom 20 = .ok (.aload_n 3, 1) := dk_45 (dk_at dksX3_throwsFrom_0 20 rfl rfl)
theorem dX3_throwsFrom_21 : decode cX3_throwsFrom 21 = .ok (.invokevirtual 201, 3) := dk_182 0 201 (dk_at dksX3_throwsFrom_0 21 rfl rfl)
theorem dX3_throwsFrom_24 : decode cX3_throwsFrom 24 = .ok (.invokestatic 209, 3) := dk_184 0 209 (dk_at dksX3_throwsFrom_1 0 rfl rfl)
theorem dX3_throwsFrom_27 : decode cX3_throwsFrom 27 = .ok (.ifCond .eq 43, 3) := dk_153 0 43 (dk_at dksX3_throwsFrom_1 3 rfl rfl)
theorem dX3_throwsFrom_30 : decode cX3_throwsFrom 30 = .ok (.aload_n 0, 1) := dk_42 (dk_at dksX3_throwsFrom_1 6 rfl rfl)
theorem dX3_throwsFrom_31 : decode cX3_throwsFrom 31 = .ok (.getfield 56, 3) := dk_180 0 56 (dk_at dksX3_throwsFrom_1 7 rfl rfl)
theorem dX3_throwsFrom_34 : decode cX3_throwsFrom 34 = .ok (.aload_n 0, 1) := dk_42 (dk_at dksX3_throwsFrom_1 10 rfl rfl)
theorem dX3_throwsFrom_35 : decode cX3_throwsFrom 35 = .ok (.getfield 13, 3) := dk_180 0 13 (dk_at dksX3_throwsFrom_1 11 rfl rfl)
theorem dX3_throwsFrom_38 : decode cX3_throwsFrom 38 = .ok (.aload_n 3, 1) := dk_45 (dk_at dksX3_throwsFrom_1 14 rfl rfl)
theorem dX3_throwsFrom_39 : decode cX3_throwsFrom 39 = .ok (.iconst 0, 1) := dk_3 (dk_at dksX3_throwsFrom_1 15 rfl rfl)
theorem dX3_throwsFrom_40 : decode cX3_throwsFrom 40 = .ok (.iaload, 1) := dk_46 (dk_at dksX3_throwsFrom_1 16 rfl rfl)
theorem dX3_throwsFrom_41 : decode cX3_throwsFrom 41 = .ok (.iaload, 1) := dk_46 (dk_at dksX3_throwsFrom_1 17 rfl rfl)
theorem dX3_throwsFrom_42 : decode cX3_throwsFrom 42 = .ok (.aload_n 3, 1) := dk_45 (dk_at dksX3_throwsFrom_1 18 rfl rfl)
theorem dX3_throwsFrom_43 : decode cX3_throwsFrom 43 = .ok (.bipush 10, 2) := dk_16 10 (dk_at dksX3_throwsFrom_1 19 rfl rfl)
theorem dX3_throwsFrom_45 : decode cX3_throwsFrom 45 = .ok (.iaload, 1) := dk_46 (dk_at dksX3_throwsFrom_1 21 rfl rfl)
theorem dX3_throwsFrom_46 : decode cX3_throwsFrom 46 = .ok (.iastore, 1) := dk_79 (dk_at dksX3_throwsFrom_1 22 rfl rfl)
theorem dX3_throwsFrom_47 : decode cX3_throwsFrom 47 = .ok (.aload_n 0, 1) := dk_42 (dk_at dksX3_throwsFrom_1 23 rfl rfl)
theorem dX3_throwsFrom_48 : decode cX3_throwsFrom 48 = .ok (.getfield 69, 3) := dk_180 0 69 (dk_at dksX3_throwsFrom_2 0 rfl rfl)
theorem dX3_throwsFrom_51 : decode cX3_throwsFrom 51 = .ok (.aload_n 0, 1) := dk_42 (dk_at dksX3_throwsFrom_2 3 rfl rfl)
theorem dX3_throwsFrom_52 : decode cX3_throwsFrom 52 = .ok (.getfield 126, 3) := dk_180 0 126 (dk_at dksX3_throwsFrom_2 4 rfl rfl)
theorem dX3_throwsFrom_55 : decode cX3_throwsFrom 55 = .ok (.aload_n 3, 1) := dk_45 (dk_at dksX3_throwsFrom_2 7 rfl rfl)
theorem dX3_throwsFrom_56 : decode cX3_throwsFrom 56 = .ok (.bipush 9, 2) := dk_16 9 (dk_at dksX3_throwsFrom_2 8 rfl rfl)
theorem dX3_throwsFrom_58 : decode cX3_throwsFrom 58 = .ok (.iaload, 1) := dk_46 (dk_at dksX3_throwsFrom_2 10 rfl rfl)
theorem dX3_throwsFrom_59 : decode cX3_throwsFrom 59 = .ok (.iastore, 1) := dk_79 (dk_at dksX3_throwsFrom_2 11 rfl rfl)
theorem dX3_throwsFrom_60 : decode cX3_throwsFrom 60 = .ok (.aload_n 0, 1) := dk_42 (dk_at dksX3_throwsFrom_2 12 rfl rfl)
theorem dX3_throwsFrom_61 : decode cX3_throwsFrom 61 = .ok (.dup, 1) := dk_89 (dk_at dksX3_throwsFrom_2 13 rfl rfl)
theorem dX3_throwsFrom_62 : decode cX3_throwsFrom 62 = .ok (.getfield 126, 3) := dk_180 0 126 (dk_at dksX3_throwsFrom_2 14 rfl rfl)
theorem dX3_throwsFrom_65 : decode cX3_throwsFrom 65 = .ok (.iconst 1, 1) := dk_4 (dk_at dksX3_throwsFrom_2 17 rfl rfl)
theorem dX3_throwsFrom_66 : decode cX3_throwsFrom 66 = .ok (.iadd, 1) := dk_96 (dk_at dksX3_throwsFrom_2 18 rfl rfl)
theorem dX3_throwsFrom_67 : decode cX3_throwsFrom 67 = .ok (.putfield 126, 3) := dk_181 0 126 (dk_at dksX3_throwsFrom_2 19 rfl rfl)
theorem dX3_throwsFrom_70 : decode cX3_throwsFrom 70 = .ok (.aload_n 0, 1) := dk_42 (dk_at dksX3_throwsFrom_2 22 rfl rfl)
theorem dX3_throwsFrom_71 : decode cX3_throwsFrom 71 = .ok (.dup, 1) := dk_89 (dk_at dksX3_throwsFrom_2 23 rfl rfl)
theorem dX3_throwsFrom_72 : decode cX3_throwsFrom 72 = .ok (.getfield 253, 3) := dk_180 0 253 (dk_at dksX3_throwsFrom_3 0 rfl rfl)
theorem dX3_throwsFrom_75 : decode cX3_throwsFrom 75 = .ok (.iconst 1, 1) := dk_4 (dk_at dksX3_throwsFrom_3 3 rfl rfl)
theorem dX3_throwsFrom_76 : decode cX3_throwsFrom 76 = .ok (.iadd, 1) := dk_96 (dk_at dksX3_throwsFrom_3 4 rfl rfl)
theorem dX3_throwsFrom_77 : decode cX3_throwsFrom 77 = .ok (.putfield 253, 3) := dk_181 0 253 (dk_at dksX3_throwsFrom_3 5 rfl rfl)
theorem dX3_throwsFrom_80 : decode cX3_throwsFrom 80 = .ok (.iinc 2 (-1), 3) := dk_132 2 255 (dk_at dksX3_throwsFrom_3 8 rfl rfl)
theorem dX3_throwsFrom_83 : decode cX3_throwsFrom 83 = .ok (.goto (-76), 3) := dk_167 255 180 (dk_at dksX3_throwsFrom_3 11 rfl rfl)
theorem dX3_throwsFrom_86 : decode cX3_throwsFrom 86 = .ok (.aload_n 0, 1) := dk_42 (dk_at dksX3_throwsFrom_3 14 rfl rfl)
theorem dX3_throwsFrom_87 : decode cX3_throwsFrom 87 = .ok (.aload_n 0, 1) := dk_42 (dk_at dksX3_throwsFrom_3 15 rfl rfl)
theorem dX3_throwsFrom_88 : decode cX3_throwsFrom 88 = .ok (.getfield 198, 3) := dk_180 0 198 (dk_at dksX3_throwsFrom_3 16 rfl rfl)
theorem dX3_throwsFrom_91 : decode cX3_throwsFrom 91 = .ok (.iload_n 1, 1) := dk_27 (dk_at dksX3_throwsFrom_3 19 rfl rfl)
theorem dX3_throwsFrom_92 : decode cX3_throwsFrom 92 = .ok (.invokestatic 256, 3) := dk_184 1 0 (dk_at dksX3_throwsFrom_3 20 rfl rfl)
theorem dX3_throwsFrom_95 : decode cX3_throwsFrom 95 = .ok (.putfield 198, 3) := dk_181 0 198 (dk_at dksX3_throwsFrom_4 0 rfl rfl)
theorem dX3_throwsFrom_98 : decode cX3_throwsFrom 98 = .ok (.return_, 1) := dk_177 (dk_at dksX3_throwsFrom_4 3 rfl rfl)
def dkwX3_finds_5 : List UInt8 := [167, 0, 4, 6, 79, 177]
abbrev dktX3_finds_5 : List UInt8 := dkwX3_finds_5 ++ []
def dkwX3_finds_4 : List UInt8 := [160, 0, 27, 43, 16, 6, 29, 79, 43, 16, 13, 29, 3, 16, 63, 184, 0, 129, 153, 0, 7, 3]
abbrev dktX3_finds_4 : List UInt8 := dkwX3_finds_4 ++ dktX3_finds_5
def dkwX3_finds_3 : List UInt8 := [43, 3, 46, 46, 167, 0, 8, 43, 3, 46, 4, 96, 79, 28, 16, 16, 159, 0, 9, 28, 16, 17]
abbrev dktX3_finds_3 : List UInt8 := dkwX3_finds_3 ++ dktX3_finds_4
def dkwX3_finds_2 : List UInt8 := [21, 4, 162, 0, 7, 4, 167, 0, 4, 3, 54, 5, 43, 16, 6, 21, 5, 153, 0, 14, 42, 180, 0, 22]
abbrev dktX3_finds_2 : List UInt8 := dkwX3_finds_2 ++ dktX3_finds_3
def dkwX3_finds_1 : List UInt8 := [160, 0, 17, 29, 21, 4, 160, 0, 7, 4, 167, 0, 24, 3, 167, 0, 20, 28, 16, 13, 160, 0, 13, 29]
abbrev dktX3_finds_1 : List UInt8 := dkwX3_finds_1 ++ dktX3_finds_2
def dkwX3_finds_0 : List UInt8 := [42, 180, 0, 62, 43, 16, 7, 46, 46, 62, 42, 180, 0, 62, 43, 16, 8, 46, 46, 54, 4, 28, 16, 12]
abbrev dktX3_finds_0 : List UInt8 := dkwX3_finds_0 ++ dktX3_finds_1
theorem dksX3_finds_0 : cX3_finds.data.toList.drop 0 = dktX3_finds_0 := by decide +kernel
theorem dksX3_finds_1 : cX3_finds.data.toList.drop 24 = dktX3_finds_1 := dk_seg dksX3_finds_0 24 rfl rfl
theorem dksX3_finds_2 : cX3_finds.data.toList.drop 48 = dktX3_finds_2 := dk_seg dksX3_finds_1 24 rfl rfl
theorem dksX3_finds_3 : cX3_finds.data.toList.drop 72 = dktX3_finds_3 := dk_seg dksX3_finds_2 24 rfl rfl
theorem dksX3_finds_4 : cX3_finds.data.toList.drop 94 = dktX3_finds_4 := dk_seg dksX3_finds_3 22 rfl rfl
theorem dksX3_finds_5 : cX3_finds.data.toList.drop 116 = dktX3_finds_5 := dk_seg dksX3_finds_4 22 rfl rfl
theorem dX3_finds_0 : decode cX3_finds 0 = .ok (.aload_n 0, 1) := dk_42 (dk_at dksX3_finds_0 0 rfl rfl)
theorem dX3_finds_1 : decode cX3_finds 1 = .ok (.getfield 62, 3) := dk_180 0 62 (dk_at dksX3_finds_0 1 rfl rfl)
theorem dX3_finds_4 : decode cX3_finds 4 = .ok (.aload_n 1, 1) := dk_43 (dk_at dksX3_finds_0 4 rfl rfl)
theorem dX3_finds_5 : decode cX3_finds 5 = .ok (.bipush 7, 2) := dk_16 7 (dk_at dksX3_finds_0 5 rfl rfl)
theorem dX3_finds_7 : decode cX3_finds 7 = .ok (.iaload, 1) := dk_46 (dk_at dksX3_finds_0 7 rfl rfl)
theorem dX3_finds_8 : decode cX3_finds 8 = .ok (.iaload, 1) := dk_46 (dk_at dksX3_finds_0 8 rfl rfl)
theorem dX3_finds_9 : decode cX3_finds 9 = .ok (.istore_n 3, 1) := dk_62 (dk_at dksX3_finds_0 9 rfl rfl)
theorem dX3_finds_10 : decode cX3_finds 10 = .ok (.aload_n 0, 1) := dk_42 (dk_at dksX3_finds_0 10 rfl rfl)
theorem dX3_finds_11 : decode cX3_finds 11 = .ok (.getfield 62, 3) := dk_180 0 62 (dk_at dksX3_finds_0 11 rfl rfl)
theorem dX3_finds_14 : decode cX3_finds 14 = .ok (.aload_n 1, 1) := dk_43 (dk_at dksX3_finds_0 14 rfl rfl)
theorem dX3_finds_15 : decode cX3_finds 15 = .ok (.bipush 8, 2) := dk_16 8 (dk_at dksX3_finds_0 15 rfl rfl)
theorem dX3_finds_17 : decode cX3_finds 17 = .ok (.iaload, 1) := dk_46 (dk_at dksX3_finds_0 17 rfl rfl)
theorem dX3_finds_18 : decode cX3_finds 18 = .ok (.iaload, 1) := dk_46 (dk_at dksX3_finds_0 18 rfl rfl)
theorem dX3_finds_19 : decode cX3_finds 19 = .ok (.istore 4, 2) := dk_54 4 (dk_at dksX3_finds_0 19 rfl rfl)
theorem dX3_finds_21 : decode cX3_finds 21 = .ok (.iload_n 2, 1) := dk_28 (dk_at dksX3_finds_0 21 rfl rfl)
theorem dX3_finds_22 : decode cX3_finds 22 = .ok (.bipush 12, 2) := dk_16 12 (dk_at dksX3_finds_0 22 rfl rfl)
theorem dX3_finds_24 : decode cX3_finds 24 = .ok (.if_icmp .ne 17, 3) := dk_160 0 17 (dk_at dksX3_finds_1 0 rfl rfl)
theorem dX3_finds_27 : decode cX3_finds 27 = .ok (.iload_n 3, 1) := dk_29 (dk_at dksX3_finds_1 3 rfl rfl)
theorem dX3_finds_28 : decode cX3_finds 28 = .ok (.iload 4, 2) := dk_21 4 (dk_at dksX3_finds_1 4 rfl rfl)
theorem dX3_finds_30 : decode cX3_finds 30 = .ok (.if_icmp .ne 7, 3) := dk_160 0 7 (dk_at dksX3_finds_1 6 rfl rfl)
theorem dX3_finds_33 : decode cX3_finds 33 = .ok (.iconst 1, 1) := dk_4 (dk_at dksX3_finds_1 9 rfl rfl)
theorem dX3_finds_34 : decode cX3_finds 34 = .ok (.goto 24, 3) := dk_167 0 24 (dk_at dksX3_finds_1 10 rfl rfl)
theorem dX3_finds_37 : decode cX3_finds 37 = .ok (.iconst 0, 1) := dk_3 (dk_at dksX3_finds_1 13 rfl rfl)
theorem dX3_finds_38 : decode cX3_finds 38 = .ok (.goto 20, 3) := dk_167 0 20 (dk_at dksX3_finds_1 14 rfl rfl)
theorem dX3_finds_41 : decode cX3_finds 41 = .ok (.iload_n 2, 1) := dk_28 (dk_at dksX3_finds_1 17 rfl rfl)
theorem dX3_finds_42 : decode cX3_finds 42 = .ok (.bipush 13, 2) := dk_16 13 (dk_at dksX3_finds_1 18 rfl rfl)
theorem dX3_finds_44 : decode cX3_finds 44 = .ok (.if_icmp .ne 13, 3) := dk_160 0 13 (dk_at dksX3_finds_1 20 rfl rfl)
theorem dX3_finds_47 : decode cX3_finds 47 = .ok (.iload_n 3, 1) := dk_29 (dk_at dksX3_finds_1 23 rfl rfl)
theorem dX3_finds_48 : decode cX3_finds 48 = .ok (.iload 4, 2) := dk_21 4 (dk_at dksX3_finds_2 0 rfl rfl)
theorem dX3_finds_50 : decode cX3_finds 50 = .ok (.if_icmp .ge 7, 3) := dk_162 0 7 (dk_at dksX3_finds_2 2 rfl rfl)
theorem dX3_finds_53 : decode cX3_finds 53 = .ok (.iconst 1, 1) := dk_4 (dk_at dksX3_finds_2 5 rfl rfl)
theorem dX3_finds_54 : decode cX3_finds 54 = .ok (.goto 4, 3) := dk_167 0 4 (dk_at dksX3_finds_2 6 rfl rfl)
theorem dX3_finds_57 : decode cX3_finds 57 = .ok (.iconst 0, 1) := dk_3 (dk_at dksX3_finds_2 9 rfl rfl)
theorem dX3_finds_58 : decode cX3_finds 58 = .ok (.istore 5, 2) := dk_54 5 (dk_at dksX3_finds_2 10 rfl rfl)
theorem dX3_finds_60 : decode cX3_finds 60 = .ok (.aload_n 1, 1) := dk_43 (dk_at dksX3_finds_2 12 rfl rfl)
theorem dX3_finds_61 : decode cX3_finds 61 = .ok (.bipush 6, 2) := dk_16 6 (dk_at dksX3_finds_2 13 rfl rfl)
theorem dX3_finds_63 : decode cX3_finds 63 = .ok (.iload 5, 2) := dk_21 5 (dk_at dksX3_finds_2 15 rfl rfl)
theorem dX3_finds_65 : decode cX3_finds 65 = .ok (.ifCond .eq 14, 3) := dk_153 0 14 (dk_at dksX3_finds_2 17 rfl rfl)
theorem dX3_finds_68 : decode cX3_finds 68 = .ok (.aload_n 0, 1) := dk_42 (dk_at dksX3_finds_2 20 rfl rfl)
theorem dX3_finds_69 : decode cX3_finds 69 = .ok (.getfield 22, 3) := dk_180 0 22 (dk_at dksX3_finds_2 21 rfl rfl)
theorem dX3_finds_72 : decode cX3_finds 72 = .ok (.aload_n 1, 1) := dk_43 (dk_at dksX3_finds_3 0 rfl rfl)
theorem dX3_finds_73 : decode cX3_finds 73 = .ok (.iconst 0, 1) := dk_3 (dk_at dksX3_finds_3 1 rfl rfl)
theorem dX3_finds_74 : decode cX3_finds 74 = .ok (.iaload, 1) := dk_46 (dk_at dksX3_finds_3 2 rfl rfl)
theorem dX3_finds_75 : decode cX3_finds 75 = .ok (.iaload, 1) := dk_46 (dk_at dksX3_finds_3 3 rfl rfl)
theorem dX3_finds_76 : decode cX3_finds 76 = .ok (.goto 8, 3) := dk_167 0 8 (dk_at dksX3_finds_3 4 rfl rfl)
theorem dX3_finds_79 : decode cX3_finds 79 = .ok (.aload_n 1, 1) := dk_43 (dk_at dksX3_finds_3 7 rfl rfl)
theorem dX3_finds_80 : decode cX3_finds 80 = .ok (.iconst 0, 1) := dk_3 (dk_at dksX3_finds_3 8 rfl rfl)
theorem dX3_finds_81 : decode cX3_finds 81 = .ok (.iaload, 1) := dk_46 (dk_at dksX3_finds_3 9 rfl rfl)
theorem dX3_finds_82 : decode cX3_finds 82 = .ok (.iconst 1, 1) := dk_4 (dk_at dksX3_finds_3 10 rfl rfl)
theorem dX3_finds_83 : decode cX3_finds 83 = .ok (.iadd, 1) := dk_96 (dk_at dksX3_finds_3 11 rfl rfl)
theorem dX3_finds_84 : decode cX3_finds 84 = .ok (.iastore, 1) := dk_79 (dk_at dksX3_finds_3 12 rfl rfl)
theorem dX3_finds_85 : decode cX3_finds 85 = .ok (.iload_n 2, 1) := dk_28 (dk_at dksX3_finds_3 13 rfl rfl)
theorem dX3_finds_86 : decode cX3_finds 86 = .ok (.bipush 16, 2) := dk_16 16 (dk_at dksX3_finds_3 14 rfl rfl)
theorem dX3_finds_88 : decode cX3_finds 88 = .ok (.if_icmp .eq 9, 3) := dk_159 0 9 (dk_at dksX3_finds_3 16 rfl rfl)
theorem dX3_finds_91 : decode cX3_finds 91 = .ok (.iload_n 2, 1) := dk_28 (dk_at dksX3_finds_3 19 rfl rfl)
theorem dX3_finds_92 : decode cX3_finds 92 = .ok (.bipush 17, 2) := dk_16 17 (dk_at dksX3_finds_3 20 rfl rfl)
theorem dX3_finds_94 : decode cX3_finds 94 = .ok (.if_icmp .ne 27, 3) := dk_160 0 27 (dk_at dksX3_finds_4 0 rfl rfl)
theorem dX3_finds_97 : decode cX3_finds 97 = .ok (.aload_n 1, 1) := dk_43 (dk_at dksX3_finds_4 3 rfl rfl)
theorem dX3_finds_98 : decode cX3_finds 98 = .ok (.bipush 6, 2) := dk_16 6 (dk_at dksX3_finds_4 4 rfl rfl)
theorem dX3_finds_100 : decode cX3_finds 100 = .ok (.iload_n 3, 1) := dk_29 (dk_at dksX3_finds_4 6 rfl rfl)
theorem dX3_finds_101 : decode cX3_finds 101 = .ok (.iastore, 1) := dk_79 (dk_at dksX3_finds_4 7 rfl rfl)
theorem dX3_finds_102 : decode cX3_finds 102 = .ok (.aload_n 1, 1) := dk_43 (dk_at dksX3_finds_4 8 rfl rfl)
theorem dX3_finds_103 : decode cX3_finds 103 = .ok (.bipush 13, 2) := dk_16 13 (dk_at dksX3_finds_4 9 rfl rfl)
theorem dX3_finds_105 : decode cX3_finds 105 = .ok (.iload_n 3, 1) := dk_29 (dk_at dksX3_finds_4 11 rfl rfl)
theorem dX3_finds_106 : decode cX3_finds 106 = .ok (.iconst 0, 1) := dk_3 (dk_at dksX3_finds_4 12 rfl rfl)
theorem dX3_finds_107 : decode cX3_finds 107 = .ok (.bipush 63, 2) := dk_16 63 (dk_at dksX3_finds_4 13 rfl rfl)
theorem dX3_finds_109 : decode cX3_finds 109 = .ok (.invokestatic 129, 3) := dk_184 0 129 (dk_at dksX3_finds_4 15 rfl rfl)
theorem dX3_finds_112 : decode cX3_finds 112 = .ok (.ifCond .eq 7, 3) := dk_153 0 7 (dk_at dksX3_finds_4 18 rfl rfl)
theorem dX3_finds_115 : decode cX3_finds 115 = .ok (.iconst 0, 1) := dk_3 (dk_at dksX3_finds_4 21 rfl rfl)
theorem dX3_finds_116 : decode cX3_finds 116 = .ok (.goto 4, 3) := dk_167 0 4 (dk_at dksX3_finds_5 0 rfl rfl)
theorem dX3_finds_119 : decode cX3_finds 119 = .ok (.iconst 3, 1) := dk_6 (dk_at dksX3_finds_5 3 rfl rfl)
theorem dX3_finds_120 : decode cX3_finds 120 = .ok (.iastore, 1) := dk_79 (dk_at dksX3_finds_5 4 rfl rfl)
theorem dX3_finds_121 : decode cX3_finds 121 = .ok (.return_, 1) := dk_177 (dk_at dksX3_finds_5 5 rfl rfl)
def dkwX3_retires_10 : List UInt8 := [180, 0, 74, 3, 50, 16, 11, 46, 146, 182, 1, 54, 177]
abbrev dktX3_retires_10 : List UInt8 := dkwX3_retires_10 ++ []
def dkwX3_retires_9 : List UInt8 := [28, 153, 0, 8, 16, 116, 167, 0, 25, 42, 180, 0, 198, 154, 0, 8, 16, 102, 167, 0, 13, 42]
abbrev dktX3_retires_9 : List UInt8 := dkwX3_retires_9 ++ dktX3_retires_10
def dkwX3_retires_8 : List UInt8 := [182, 1, 54, 177, 42, 182, 1, 61, 42, 45, 182, 1, 64, 132, 1, 1, 167, 255, 113, 27, 154, 0, 38, 42]
abbrev dktX3_retires_8 : List UInt8 := dkwX3_retires_8 ++ dktX3_retires_9
def dkwX3_retires_7 : List UInt8 := [180, 0, 65, 45, 16, 8, 46, 51, 154, 0, 19, 42, 27, 154, 0, 8, 16, 100, 167, 0, 5, 16, 45]
abbrev dktX3_retires_7 : List UInt8 := dkwX3_retires_7 ++ dktX3_retires_8
def dkwX3_retires_6 : List UInt8 := [158, 0, 15, 42, 45, 21, 5, 182, 1, 58, 4, 61, 167, 0, 51, 21, 4, 184, 0, 231, 153, 0, 31, 42]
abbrev dktX3_retires_6 : List UInt8 := dkwX3_retires_6 ++ dktX3_retires_7
def dkwX3_retires_5 : List UInt8 := [16, 21, 160, 0, 14, 42, 180, 1, 35, 154, 0, 7, 8, 167, 0, 7, 45, 16, 13, 46, 54, 5, 21, 5]
abbrev dktX3_retires_5 : List UInt8 := dkwX3_retires_5 ++ dktX3_retires_6
def dkwX3_retires_4 : List UInt8 := [16, 11, 46, 16, 101, 160, 0, 109, 42, 180, 0, 74, 3, 50, 78, 42, 45, 182, 0, 201, 54, 4, 21, 4]
abbrev dktX3_retires_4 : List UInt8 := dkwX3_retires_4 ++ dktX3_retires_5
def dkwX3_retires_3 : List UInt8 := [154, 0, 137, 42, 180, 0, 147, 154, 0, 130, 42, 180, 0, 198, 158, 0, 123, 42, 180, 0, 74, 3, 50]
abbrev dktX3_retires_3 : List UInt8 := dkwX3_retires_3 ++ dktX3_retires_4
def dkwX3_retires_2 : List UInt8 := [182, 1, 45, 42, 16, 105, 182, 1, 54, 177, 3, 60, 3, 61, 27, 42, 180, 0, 25, 162, 0, 141, 28]
abbrev dktX3_retires_2 : List UInt8 := dkwX3_retires_2 ++ dktX3_retires_3
def dkwX3_retires_1 : List UInt8 := [181, 0, 143, 42, 16, 9, 42, 180, 1, 38, 1, 182, 1, 41, 42, 42, 180, 1, 38, 42, 180, 0, 41]
abbrev dktX3_retires_1 : List UInt8 := dkwX3_retires_1 ++ dktX3_retires_2
def dkwX3_retires_0 : List UInt8 := [42, 180, 0, 143, 153, 0, 53, 42, 180, 1, 35, 154, 0, 46, 42, 180, 0, 41, 2, 159, 0, 38, 42, 3]
abbrev dktX3_retires_0 : List UInt8 := dkwX3_retires_0 ++ dktX3_retires_1
theorem dksX3_retires_0 : cX3_retires.data.toList.drop 0 = dktX3_retires_0 := by decide +kernel
theorem dksX3_retires_1 : cX3_retires.data.toList.drop 24 = dktX3_retires_1 := dk_seg dksX3_retires_0 24 rfl rfl
theorem dksX3_retires_2 : cX3_retires.data.toList.drop 47 = dktX3_retires_2 := dk_seg dksX3_retires_1 23 rfl rfl
theorem dksX3_retires_3 : cX3_retires.data.toList.drop 70 = dktX3_retires_3 := dk_seg dksX3_retires_2 23 rfl rfl
theorem dksX3_retires_4 : cX3_retires.data.toList.drop 93 = dktX3_retires_4 := dk_seg dksX3_retires_3 23 rfl rfl
theorem dksX3_retires_5 : cX3_retires.data.toList.drop 117 = dktX3_retires_5 := dk_seg dksX3_retires_4 24 rfl rfl
theorem dksX3_retires_6 : cX3_retires.data.toList.drop 141 = dktX3_retires_6 := dk_seg dksX3_retires_5 24 rfl rfl
theorem dksX3_retires_7 : cX3_retires.data.toList.drop 165 = dktX3_retires_7 := dk_seg dksX3_retires_6 24 rfl rfl
theorem dksX3_retires_8 : cX3_retires.data.toList.drop 188 = dktX3_retires_8 := dk_seg dksX3_retires_7 23 rfl rfl
theorem dksX3_retires_9 : cX3_retires.data.toList.drop 212 = dktX3_retires_9 := dk_seg dksX3_retires_8 24 rfl rfl
theorem dksX3_retires_10 : cX3_retires.data.toList.drop 234 = dktX3_retires_10 := dk_seg dksX3_retires_9 22 rfl rfl
theorem dX3_retires_0 : decode cX3_retires 0 = .ok (.aload_n 0, 1) := dk_42 (dk_at dksX3_retires_0 0 rfl rfl)
theorem dX3_retires_1 : decode cX3_retires 1 = .ok (.getfield 143, 3) := dk_180 0 143 (dk_at dksX3_retires_0 1 rfl rfl)
theorem dX3_retires_4 : decode cX3_retires 4 = .ok (.ifCond .eq 53, 3) := dk_153 0 53 (dk_at dksX3_retires_0 4 rfl rfl)
theorem dX3_retires_7 : decode cX3_retires 7 = .ok (.aload_n 0, 1) := dk_42 (dk_at dksX3_retires_0 7 rfl rfl)
theorem dX3_retires_8 : decode cX3_retires 8 = .ok (.getfield 291, 3) := dk_180 1 35 (dk_at dksX3_retires_0 8 rfl rfl)
theorem dX3_retires_11 : decode cX3_retires 11 = .ok (.ifCond .ne 46, 3) := dk_154 0 46 (dk_at dksX3_retires_0 11 rfl rfl)
theorem dX3_retires_14 : decode cX3_retires 14 = .ok (.aload_n 0, 1) := dk_42 (dk_at dksX3_retires_0 14 rfl rfl)
theorem dX3_retires_15 : decode cX3_retires 15 = .ok (.getfield 41, 3) := dk_180 0 41 (dk_at dksX3_retires_0 15 rfl rfl)
theorem dX3_retires_18 : decode cX3_retires 18 = .ok (.iconst (-1), 1) := dk_2 (dk_at dksX3_retires_0 18 rfl rfl)
theorem dX3_retires_19 : decode cX3_retires 19 = .ok (.if_icmp .eq 38, 3) := dk_159 0 38 (dk_at dksX3_retires_0 19 rfl rfl)
theorem dX3_retires_22 : decode cX3_retires 22 = .ok (.aload_n 0, 1) := dk_42 (dk_at dksX3_retires_0 22 rfl rfl)
theorem dX3_retires_23 : decode cX3_retires 23 = .ok (.iconst 0, 1) := dk_3 (dk_at dksX3_retires_0 23 rfl rfl)
theorem dX3_retires_24 : decode cX3_retires 24 = .ok (.putfield 143, 3) := dk_181 0 143 (dk_at dksX3_retires_1 0 rfl rfl)
theorem dX3_retires_27 : decode cX3_retires 27 = .ok (.aload_n 0, 1) := dk_42 (dk_at dksX3_retires_1 3 rfl rfl)
theorem dX3_retires_28 : decode cX3_retires 28 = .ok (.bipush 9, 2) := dk_16 9 (dk_at dksX3_retires_1 4 rfl rfl)
theorem dX3_retires_30 : decode cX3_retires 30 = .ok (.aload_n 0, 1) := dk_42 (dk_at dksX3_retires_1 6 rfl rfl)
theorem dX3_retires_31 : decode cX3_retires 31 = .ok (.getfield 294, 3) := dk_180 1 38 (dk_at dksX3_retires_1 7 rfl rfl)
theorem dX3_retires_34 : decode cX3_retires 34 = .ok (.aconst_null, 1) := dk_1 (dk_at dksX3_retires_1 10 rfl rfl)
theorem dX3_retires_35 : decode cX3_retires 35 = .ok (.invokevirtual 297, 3) := dk_182 1 41 (dk_at dksX3_retires_1 11 rfl rfl)
theorem dX3_retires_38 : decode cX3_retires 38 = .ok (.aload_n 0, 1) := dk_42 (dk_at dksX3_retires_1 14 rfl rfl)
theorem dX3_retires_39 : decode cX3_retires 39 = .ok (.aload_n 0, 1) := dk_42 (dk_at dksX3_retires_1 15 rfl rfl)
theorem dX3_retires_40 : decode cX3_retires 40 = .ok (.getfield 294, 3) := dk_180 1 38 (dk_at dksX3_retires_1 16 rfl rfl)
theorem dX3_retires_43 : decode cX3_retires 43 = .ok (.aload_n 0, 1) := dk_42 (dk_at dksX3_retires_1 19 rfl rfl)
theorem dX3_retires_44 : decode cX3_retires 44 = .ok (.getfield 41, 3) := dk_180 0 41 (dk_at dksX3_retires_1 20 rfl rfl)
theorem dX3_retires_47 : decode cX3_retires 47 = .ok (.invokevirtual 301, 3) := dk_182 1 45 (dk_at dksX3_retires_2 0 rfl rfl)
theorem dX3_retires_50 : decode cX3_retires 50 = .ok (.aload_n 0, 1) := dk_42 (dk_at dksX3_retires_2 3 rfl rfl)
theorem dX3_retires_51 : decode cX3_retires 51 = .ok (.bipush 105, 2) := dk_16 105 (dk_at dksX3_retires_2 4 rfl rfl)
theorem dX3_retires_53 : decode cX3_retires 53 = .ok (.invokevirtual 310, 3) := dk_182 1 54 (dk_at dksX3_retires_2 6 rfl rfl)
theorem dX3_retires_56 : decode cX3_retires 56 = .ok (.return_, 1) := dk_177 (dk_at dksX3_retires_2 9 rfl rfl)
theorem dX3_retires_57 : decode cX3_retires 57 = .ok (.iconst 0, 1) := dk_3 (dk_at dksX3_retires_2 10 rfl rfl)
theorem dX3_retires_58 : decode cX3_retires 58 = .ok (.istore_n 1, 1) := dk_60 (dk_at dksX3_retires_2 11 rfl rfl)
theorem dX3_retires_59 : decode cX3_retires 59 = .ok (.iconst 0, 1) := dk_3 (dk_at dksX3_retires_2 12 rfl rfl)
theorem dX3_retires_60 : decode cX3_retires 60 = .ok (.istore_n 2, 1) := dk_61 (dk_at dksX3_retires_2 13 rfl rfl)
theorem dX3_retires_61 : decode cX3_retires 61 = .ok (.iload_n 1, 1) := dk_27 (dk_at dksX3_retires_2 14 rfl rfl)
theorem dX3_retires_62 : decode cX3_retires 62 = .ok (.aload_n 0, 1) := dk_42 (dk_at dksX3_retires_2 15 rfl rfl)
theorem dX3_retires_63 : decode cX3_retires 63 = .ok (.getfield 25, 3) := dk_180 0 25 (dk_at dksX3_retires_2 16 rfl rfl)
theorem dX3_retires_66 : decode cX3_retires 66 = .ok (.if_icmp .ge 141, 3) := dk_162 0 141 (dk_at dksX3_retires_2 19 rfl rfl)
theorem dX3_retires_69 : decode cX3_retires 69 = .ok (.iload_n 2, 1) := dk_28 (dk_at dksX3_retires_2 22 rfl rfl)
theorem dX3_retires_70 : decode cX3_retires 70 = .ok (.ifCond .ne 137, 3) := dk_154 0 137 (dk_at dksX3_retires_3 0 rfl rfl)
theorem dX3_retires_73 : decode cX3_retires 73 = .ok (.aload_n 0, 1) := dk_42 (dk_at dksX3_retires_3 3 rfl rfl)
theorem dX3_retires_74 : decode cX3_retires 74 = .ok (.getfield 147, 3) := dk_180 0 147 (dk_at dksX3_retires_3 4 rfl rfl)
theorem dX3_retires_77 : decode cX3_retires 77 = .ok (.ifCond .ne 130, 3) := dk_154 0 130 (dk_at dksX3_retires_3 7 rfl rfl)
theorem dX3_retires_80 : decode cX3_retires 80 = .ok (.aload_n 0, 1) := dk_42 (dk_at dksX3_retires_3 10 rfl rfl)
theorem dX3_retires_81 : decode cX3_retires 81 = .ok (.getfield 198, 3) := dk_180 0 198 (dk_at dksX3_retires_3 11 rfl rfl)
theorem dX3_retires_84 : decode cX3_retires 84 = .ok (.ifCond .le 123, 3) := dk_158 0 123 (dk_at dksX3_retires_3 14 rfl rfl)
theorem dX3_retires_87 : decode cX3_retires 87 = .ok (.aload_n 0, 1) := dk_42 (dk_at dksX3_retires_3 17 rfl rfl)
theorem dX3_retires_88 : decode cX3_retires 88 = .ok (.getfield 74, 3) := dk_180 0 74 (dk_at dksX3_retires_3 18 rfl rfl)
theorem dX3_retires_91 : decode cX3_retires 91 = .ok (.iconst 0, 1) := dk_3 (dk_at dksX3_retires_3 21 rfl rfl)
theorem dX3_retires_92 : decode cX3_retires 92 = .ok (.aaload, 1) := dk_50 (dk_at dksX3_retires_3 22 rfl rfl)
theorem dX3_retires_93 : decode cX3_retires 93 = .ok (.bipush 11, 2) := dk_16 11 (dk_at dksX3_retires_4 0 rfl rfl)
theorem dX3_retires_95 : decode cX3_retires 95 = .ok (.iaload, 1) := dk_46 (dk_at dksX3_retires_4 2 rfl rfl)
theorem dX3_retires_96 : decode cX3_retires 96 = .ok (.bipush 101, 2) := dk_16 101 (dk_at dksX3_retires_4 3 rfl rfl)
theorem dX3_retires_98 : decode cX3_retires 98 = .ok (.if_icmp .ne 109, 3) := dk_160 0 109 (dk_at dksX3_retires_4 5 rfl rfl)
theorem dX3_retires_101 : decode cX3_retires 101 = .ok (.aload_n 0, 1) := dk_42 (dk_at dksX3_retires_4 8 rfl rfl)
theorem dX3_retires_102 : decode cX3_retires 102 = .ok (.getfield 74, 3) := dk_180 0 74 (dk_at dksX3_retires_4 9 rfl rfl)
theorem dX3_retires_105 : decode cX3_retires 105 = .ok (.iconst 0, 1) := dk_3 (dk_at dksX3_retires_4 12 rfl rfl)
theorem dX3_retires_106 : decode cX3_retires 106 = .ok (.aaload, 1) := dk_50 (dk_at dksX3_retires_4 13 rfl rfl)
theorem dX3_retires_107 : decode cX3_retires 107 = .ok (.astore_n 3, 1) := dk_78 (dk_at dksX3_retires_4 14 rfl rfl)
theorem dX3_retires_108 : decode cX3_retires 108 = .ok (.aload_n 0, 1) := dk_42 (dk_at dksX3_retires_4 15 rfl rfl)
theorem dX3_retires_109 : decode cX3_retires 109 = .ok (.aload_n 3, 1) := dk_45 (dk_at dksX3_retires_4 16 rfl rfl)
theorem dX3_retires_110 : decode cX3_retires 110 = .ok (.invokevirtual 201, 3) := dk_182 0 201 (dk_at dksX3_retires_4 17 rfl rfl)
theorem dX3_retires_113 : decode cX3_retires 113 = .ok (.istore 4, 2) := dk_54 4 (dk_at dksX3_retires_4 20 rfl rfl)
theorem dX3_retires_115 : decode cX3_retires 115 = .ok (.iload 4, 2) := dk_21 4 (dk_at dksX3_retires_4 22 rfl rfl)
theorem dX3_retires_117 : decode cX3_retires 117 = .ok (.bipush 21, 2) := dk_16 21 (dk_at dksX3_retires_5 0 rfl rfl)
theorem dX3_retires_119 : decode cX3_retires 119 = .ok (.if_icmp .ne 14, 3) := dk_160 0 14 (dk_at dksX3_retires_5 2 rfl rfl)
theorem dX3_retires_122 : decode cX3_retires 122 = .ok (.aload_n 0, 1) := dk_42 (dk_at dksX3_retires_5 5 rfl rfl)
theorem dX3_retires_123 : decode cX3_retires 123 = .ok (.getfield 291, 3) := dk_180 1 35 (dk_at dksX3_retires_5 6 rfl rfl)
theorem dX3_retires_126 : decode cX3_retires 126 = .ok (.ifCond .ne 7, 3) := dk_154 0 7 (dk_at dksX3_retires_5 9 rfl rfl)
theorem dX3_retires_129 : decode cX3_retires 129 = .ok (.iconst 5, 1) := dk_8 (dk_at dksX3_retires_5 12 rfl rfl)
theorem dX3_retires_130 : decode cX3_retires 130 = .ok (.goto 7, 3) := dk_167 0 7 (dk_at dksX3_retires_5 13 rfl rfl)
theorem dX3_retires_133 : decode cX3_retires 133 = .ok (.aload_n 3, 1) := dk_45 (dk_at dksX3_retires_5 16 rfl rfl)
theorem dX3_retires_134 : decode cX3_retires 134 = .ok (.bipush 13, 2) := dk_16 13 (dk_at dksX3_retires_5 17 rfl rfl)
theorem dX3_retires_136 : decode cX3_retires 136 = .ok (.iaload, 1) := dk_46 (dk_at dksX3_retires_5 19 rfl rfl)
theorem dX3_retires_137 : decode cX3_retires 137 = .ok (.istore 5, 2) := dk_54 5 (dk_at dksX3_retires_5 20 rfl rfl)
theorem dX3_retires_139 : decode cX3_retires 139 = .ok (.iload 5, 2) := dk_21 5 (dk_at dksX3_retires_5 22 rfl rfl)
theorem dX3_retires_141 : decode cX3_retires 141 = .ok (.ifCond .le 15, 3) := dk_158 0 15 (dk_at dksX3_retires_6 0 rfl rfl)
theorem dX3_retires_144 : decode cX3_retires 144 = .ok (.aload_n 0, 1) := dk_42 (dk_at dksX3_retires_6 3 rfl rfl)
theorem dX3_retires_145 : decode cX3_retires 145 = .ok (.aload_n 3, 1) := dk_45 (dk_at dksX3_retires_6 4 rfl rfl)
theorem dX3_retires_146 : decode cX3_retires 146 = .ok (.iload 5, 2) := dk_21 5 (dk_at dksX3_retires_6 5 rfl rfl)
theorem dX3_retires_148 : decode cX3_retires 148 = .ok (.invokevirtual 314, 3) := dk_182 1 58 (dk_at dksX3_retires_6 7 rfl rfl)
theorem dX3_retires_151 : decode cX3_retires 151 = .ok (.iconst 1, 1) := dk_4 (dk_at dksX3_retires_6 10 rfl rfl)
theorem dX3_retires_152 : decode cX3_retires 152 = .ok (.istore_n 2, 1) := dk_61 (dk_at dksX3_retires_6 11 rfl rfl)
theorem dX3_retires_153 : decode cX3_retires 153 = .ok (.goto 51, 3) := dk_167 0 51 (dk_at dksX3_retires_6 12 rfl rfl)
theorem dX3_retires_156 : decode cX3_retires 156 = .ok (.iload 4, 2) := dk_21 4 (dk_at dksX3_retires_6 15 rfl rfl)
theorem dX3_retires_158 : decode cX3_retires 158 = .ok (.invokestatic 231, 3) := dk_184 0 231 (dk_at dksX3_retires_6 17 rfl rfl)
theorem dX3_retires_161 : decode cX3_retires 161 = .ok (.ifCond .eq 31, 3) := dk_153 0 31 (dk_at dksX3_retires_6 20 rfl rfl)
theorem dX3_retires_164 : decode cX3_retires 164 = .ok (.aload_n 0, 1) := dk_42 (dk_at dksX3_retires_6 23 rfl rfl)
theorem dX3_retires_165 : decode cX3_retires 165 = .ok (.getfield 65, 3) := dk_180 0 65 (dk_at dksX3_retires_7 0 rfl rfl)
theorem dX3_retires_168 : decode cX3_retires 168 = .ok (.aload_n 3, 1) := dk_45 (dk_at dksX3_retires_7 3 rfl rfl)
theorem dX3_retires_169 : decode cX3_retires 169 = .ok (.bipush 8, 2) := dk_16 8 (dk_at dksX3_retires_7 4 rfl rfl)
theorem dX3_retires_171 : decode cX3_retires 171 = .ok (.iaload, 1) := dk_46 (dk_at dksX3_retires_7 6 rfl rfl)
theorem dX3_retires_172 : decode cX3_retires 172 = .ok (.baload, 1) := dk_51 (dk_at dksX3_retires_7 7 rfl rfl)
theorem dX3_retires_173 : decode cX3_retires 173 = .ok (.ifCond .ne 19, 3) := dk_154 0 19 (dk_at dksX3_retires_7 8 rfl rfl)
theorem dX3_retires_176 : decode cX3_retires 176 = .ok (.aload_n 0, 1) := dk_42 (dk_at dksX3_retires_7 11 rfl rfl)
theorem dX3_retires_177 : decode cX3_retires 177 = .ok (.iload_n 1, 1) := dk_27 (dk_at dksX3_retires_7 12 rfl rfl)
theorem dX3_retires_178 : decode cX3_retires 178 = .ok (.ifCond .ne 8, 3) := dk_154 0 8 (dk_at dksX3_retires_7 13 rfl rfl)
theorem dX3_retires_181 : decode cX3_retires 181 = .ok (.bipush 100, 2) := dk_16 100 (dk_at dksX3_retires_7 16 rfl rfl)
theorem dX3_retires_183 : decode cX3_retires 183 = .ok (.goto 5, 3) := dk_167 0 5 (dk_at dksX3_retires_7 18 rfl rfl)
theorem dX3_retires_186 : decode cX3_retires 186 = .ok (.bipush 45, 2) := dk_16 45 (dk_at dksX3_retires_7 21 rfl rfl)
theorem dX3_retires_188 : decode cX3_retires 188 = .ok (.invokevirtual 310, 3) := dk_182 1 54 (dk_at dksX3_retires_8 0 rfl rfl)
theorem dX3_retires_191 : decode cX3_retires 191 = .ok (.return_, 1) := dk_177 (dk_at dksX3_retires_8 3 rfl rfl)
theorem dX3_retires_192 : decode cX3_retires 192 = .ok (.aload_n 0, 1) := dk_42 (dk_at dksX3_retires_8 4 rfl rfl)
theorem dX3_retires_193 : decode cX3_retires 193 = .ok (.invokevirtual 317, 3) := dk_182 1 61 (dk_at dksX3_retires_8 5 rfl rfl)
theorem dX3_retires_196 : decode cX3_retires 196 = .ok (.aload_n 0, 1) := dk_42 (dk_at dksX3_retires_8 8 rfl rfl)
theorem dX3_retires_197 : decode cX3_retires 197 = .ok (.aload_n 3, 1) := dk_45 (dk_at dksX3_retires_8 9 rfl rfl)
theorem dX3_retires_198 : decode cX3_retires 198 = .ok (.invokevirtual 320, 3) := dk_182 1 64 (dk_at dksX3_retires_8 10 rfl rfl)
theorem dX3_retires_201 : decode cX3_retires 201 = .ok (.iinc 1 1, 3) := dk_132 1 1 (dk_at dksX3_retires_8 13 rfl rfl)
theorem dX3_retires_204 : decode cX3_retires 204 = .ok (.goto (-143), 3) := dk_167 255 113 (dk_at dksX3_retires_8 16 rfl rfl)
theorem dX3_retires_207 : decode cX3_retires 207 = .ok (.iload_n 1, 1) := dk_27 (dk_at dksX3_retires_8 19 rfl rfl)
theorem dX3_retires_208 : decode cX3_retires 208 = .ok (.ifCond .ne 38, 3) := dk_154 0 38 (dk_at dksX3_retires_8 20 rfl rfl)
theorem dX3_retires_211 : decode cX3_retires 211 = .ok (.aload_n 0, 1) := dk_42 (dk_at dksX3_retires_8 23 rfl rfl)
theorem dX3_retires_212 : decode cX3_retires 212 = .ok (.iload_n 2, 1) := dk_28 (dk_at dksX3_retires_9 0 rfl rfl)
theorem dX3_retires_213 : decode cX3_retires 213 = .ok (.ifCond .eq 8, 3) := dk_153 0 8 (dk_at dksX3_retires_9 1 rfl rfl)
theorem dX3_retires_216 : decode cX3_retires 216 = .ok (.bipush 116, 2) := dk_16 116 (dk_at dksX3_retires_9 4 rfl rfl)
theorem dX3_retires_218 : decode cX3_retires 218 = .ok (.goto 25, 3) := dk_167 0 25 (dk_at dksX3_retires_9 6 rfl rfl)
theorem dX3_retires_221 : decode cX3_retires 221 = .ok (.aload_n 0, 1) := dk_42 (dk_at dksX3_retires_9 9 rfl rfl)
theorem dX3_retires_222 : decode cX3_retires 222 = .ok (.getfield 198, 3) := dk_180 0 198 (dk_at dksX3_retires_9 10 rfl rfl)
theorem dX3_retires_225 : decode cX3_retires 225 = .ok (.ifCond .ne 8, 3) := dk_154 0 8 (dk_at dksX3_retires_9 13 rfl rfl)
theorem dX3_retires_228 : decode cX3_retires 228 = .ok (.bipush 102, 2) := dk_16 102 (dk_at dksX3_retires_9 16 rfl rfl)
theorem dX3_retires_230 : decode cX3_retires 230 = .ok (.goto 13, 3) := dk_167 0 13 (dk_at dksX3_retires_9 18 rfl rfl)
theorem dX3_retires_233 : decode cX3_retires 233 = .ok (.aload_n 0, 1) := dk_42 (dk_at dksX3_retires_9 21 rfl rfl)
theorem dX3_retires_234 : decode cX3_retires 234 = .ok (.getfield 74, 3) := dk_180 0 74 (dk_at dksX3_retires_10 0 rfl rfl)
theorem dX3_retires_237 : decode cX3_retires 237 = .ok (.iconst 0, 1) := dk_3 (dk_at dksX3_retires_10 3 rfl rfl)
theorem dX3_retires_238 : decode cX3_retires 238 = .ok (.aaload, 1) := dk_50 (dk_at dksX3_retires_10 4 rfl rfl)
theorem dX3_retires_239 : decode cX3_retires 239 = .ok (.bipush 11, 2) := dk_16 11 (dk_at dksX3_retires_10 5 rfl rfl)
theorem dX3_retires_241 : decode cX3_retires 241 = .ok (.iaload, 1) := dk_46 (dk_at dksX3_retires_10 7 rfl rfl)
theorem dX3_retires_242 : decode cX3_retires 242 = .ok (.i2c, 1) := dk_146 (dk_at dksX3_retires_10 8 rfl rfl)
theorem dX3_retires_243 : decode cX3_retires 243 = .ok (.invokevirtual 310, 3) := dk_182 1 54 (dk_at dksX3_retires_10 9 rfl rfl)
theorem dX3_retires_246 : decode cX3_retires 246 = .ok (.return_, 1) := dk_177 (dk_at dksX3_retires_10 12 rfl rfl)
def dkwX3_tellsEnd_3 : List UInt8 := [46, 79, 89, 7, 42, 180, 0, 133, 79, 83, 42, 89, 180, 0, 150, 4, 96, 181, 0, 150, 177]
abbrev dktX3_tellsEnd_3 : List UInt8 := dkwX3_tellsEnd_3 ++ []
def dkwX3_tellsEnd_2 : List UInt8 := [5, 42, 45, 182, 0, 201, 184, 0, 212, 153, 0, 9, 45, 6, 46, 167, 0, 4, 2, 79, 89, 6, 45, 7]
abbrev dktX3_tellsEnd_2 : List UInt8 := dkwX3_tellsEnd_2 ++ dktX3_tellsEnd_3
def dkwX3_tellsEnd_1 : List UInt8 := [42, 180, 0, 108, 42, 180, 0, 150, 8, 188, 10, 89, 3, 45, 4, 46, 79, 89, 4, 45, 5, 46, 79, 89]
abbrev dktX3_tellsEnd_1 : List UInt8 := dkwX3_tellsEnd_1 ++ dktX3_tellsEnd_2
def dkwX3_tellsEnd_0 : List UInt8 := [42, 180, 0, 101, 42, 180, 0, 150, 27, 79, 42, 180, 0, 104, 42, 180, 0, 150, 28, 79, 45, 198, 0, 61]
abbrev dktX3_tellsEnd_0 : List UInt8 := dkwX3_tellsEnd_0 ++ dktX3_tellsEnd_1
theorem dksX3_tellsEnd_0 : cX3_tellsEnd.data.toList.drop 0 = dktX3_tellsEnd_0 := by decide +kernel
theorem dksX3_tellsEnd_1 : cX3_tellsEnd.data.toList.drop 24 = dktX3_tellsEnd_1 := dk_seg dksX3_tellsEnd_0 24 rfl rfl
theorem dksX3_tellsEnd_2 : cX3_tellsEnd.data.toList.drop 48 = dktX3_tellsEnd_2 := dk_seg dksX3_tellsEnd_1 24 rfl rfl
theorem dksX3_tellsEnd_3 : cX3_tellsEnd.data.toList.drop 72 = dktX3_tellsEnd_3 := dk_seg dksX3_tellsEnd_2 24 rfl rfl
theorem dX3_tellsEnd_0 : decode cX3_tellsEnd 0 = .ok (.aload_n 0, 1) := dk_42 (dk_at dksX3_tellsEnd_0 0 rfl rfl)
theorem dX3_tellsEnd_1 : decode cX3_tellsEnd 1 = .ok (.getfield 101, 3) := dk_180 0 101 (dk_at dksX3_tellsEnd_0 1 rfl rfl)
theorem dX3_tellsEnd_4 : decode cX3_tellsEnd 4 = .ok (.aload_n 0, 1) := dk_42 (dk_at dksX3_tellsEnd_0 4 rfl rfl)
theorem dX3_tellsEnd_5 : decode cX3_tellsEnd 5 = .ok (.getfield 150, 3) := dk_180 0 150 (dk_at dksX3_tellsEnd_0 5 rfl rfl)
theorem dX3_tellsEnd_8 : decode cX3_tellsEnd 8 = .ok (.iload_n 1, 1) := dk_27 (dk_at dksX3_tellsEnd_0 8 rfl rfl)
theorem dX3_tellsEnd_9 : decode cX3_tellsEnd 9 = .ok (.iastore, 1) := dk_79 (dk_at dksX3_tellsEnd_0 9 rfl rfl)
theorem dX3_tellsEnd_10 : decode cX3_tellsEnd 10 = .ok (.aload_n 0, 1) := dk_42 (dk_at dksX3_tellsEnd_0 10 rfl rfl)
theorem dX3_tellsEnd_11 : decode cX3_tellsEnd 11 = .ok (.getfield 104, 3) := dk_180 0 104 (dk_at dksX3_tellsEnd_0 11 rfl rfl)
theorem dX3_tellsEnd_14 : decode cX3_tellsEnd 14 = .ok (.aload_n 0, 1) := dk_42 (dk_at dksX3_tellsEnd_0 14 rfl rfl)
theorem dX3_tellsEnd_15 : decode cX3_tellsEnd 15 = .ok (.getfield 150, 3) := dk_180 0 150 (dk_at dksX3_tellsEnd_0 15 rfl rfl)
theorem dX3_tellsEnd_18 : decode cX3_tellsEnd 18 = .ok (.iload_n 2, 1) := dk_28 (dk_at dksX3_tellsEnd_0 18 rfl rfl)
theorem dX3_tellsEnd_19 : decode cX3_tellsEnd 19 = .ok (.iastore, 1) := dk_79 (dk_at dksX3_tellsEnd_0 19 rfl rfl)
theorem dX3_tellsEnd_20 : decode cX3_tellsEnd 20 = .ok (.aload_n 3, 1) := dk_45 (dk_at dksX3_tellsEnd_0 20 rfl rfl)
theorem dX3_tellsEnd_21 : decode cX3_tellsEnd 21 = .ok (.ifnull 61, 3) := dk_198 0 61 (dk_at dksX3_tellsEnd_0 21 rfl rfl)
theorem dX3_tellsEnd_24 : decode cX3_tellsEnd 24 = .ok (.aload_n 0, 1) := dk_42 (dk_at dksX3_tellsEnd_1 0 rfl rfl)
theorem dX3_tellsEnd_25 : decode cX3_tellsEnd 25 = .ok (.getfield 108, 3) := dk_180 0 108 (dk_at dksX3_tellsEnd_1 1 rfl rfl)
theorem dX3_tellsEnd_28 : decode cX3_tellsEnd 28 = .ok (.aload_n 0, 1) := dk_42 (dk_at dksX3_tellsEnd_1 4 rfl rfl)
theorem dX3_tellsEnd_29 : decode cX3_tellsEnd 29 = .ok (.getfield 150, 3) := dk_180 0 150 (dk_at dksX3_tellsEnd_1 5 rfl rfl)
theorem dX3_tellsEnd_32 : decode cX3_tellsEnd 32 = .ok (.iconst 5, 1) := dk_8 (dk_at dksX3_tellsEnd_1 8 rfl rfl)
theorem dX3_tellsEnd_33 : decode cX3_tellsEnd 33 = .ok (.newarray .int, 2) := dk_188_10 (dk_at dksX3_tellsEnd_1 9 rfl rfl)
theorem dX3_tellsEnd_35 : decode cX3_tellsEnd 35 = .ok (.dup, 1) := dk_89 (dk_at dksX3_tellsEnd_1 11 rfl rfl)
theorem dX3_tellsEnd_36 : decode cX3_tellsEnd 36 = .ok (.iconst 0, 1) := dk_3 (dk_at dksX3_tellsEnd_1 12 rfl rfl)
theorem dX3_tellsEnd_37 : decode cX3_tellsEnd 37 = .ok (.aload_n 3, 1) := dk_45 (dk_at dksX3_tellsEnd_1 13 rfl rfl)
theorem dX3_tellsEnd_38 : decode cX3_tellsEnd 38 = .ok (.iconst 1, 1) := dk_4 (dk_at dksX3_tellsEnd_1 14 rfl rfl)
theorem dX3_tellsEnd_39 : decode cX3_tellsEnd 39 = .ok (.iaload, 1) := dk_46 (dk_at dksX3_tellsEnd_1 15 rfl rfl)
theorem dX3_tellsEnd_40 : decode cX3_tellsEnd 40 = .ok (.iastore, 1) := dk_79 (dk_at dksX3_tellsEnd_1 16 rfl rfl)
theorem dX3_tellsEnd_41 : decode cX3_tellsEnd 41 = .ok (.dup, 1) := dk_89 (dk_at dksX3_tellsEnd_1 17 rfl rfl)
theorem dX3_tellsEnd_42 : decode cX3_tellsEnd 42 = .ok (.iconst 1, 1) := dk_4 (dk_at dksX3_tellsEnd_1 18 rfl rfl)
theorem dX3_tellsEnd_43 : decode cX3_tellsEnd 43 = .ok (.aload_n 3, 1) := dk_45 (dk_at dksX3_tellsEnd_1 19 rfl rfl)
theorem dX3_tellsEnd_44 : decode cX3_tellsEnd 44 = .ok (.iconst 2, 1) := dk_5 (dk_at dksX3_tellsEnd_1 20 rfl rfl)
theorem dX3_tellsEnd_45 : decode cX3_tellsEnd 45 = .ok (.iaload, 1) := dk_46 (dk_at dksX3_tellsEnd_1 21 rfl rfl)
theorem dX3_tellsEnd_46 : decode cX3_tellsEnd 46 = .ok (.iastore, 1) := dk_79 (dk_at dksX3_tellsEnd_1 22 rfl rfl)
theorem dX3_tellsEnd_47 : decode cX3_tellsEnd 47 = .ok (.dup, 1) := dk_89 (dk_at dksX3_tellsEnd_1 23 rfl rfl)
theorem dX3_tellsEnd_48 : decode cX3_tellsEnd 48 = .ok (.iconst 2, 1) := dk_5 (dk_at dksX3_tellsEnd_2 0 rfl rfl)
theorem dX3_tellsEnd_49 : decode cX3_tellsEnd 49 = .ok (.aload_n 0, 1) := dk_42 (dk_at dksX3_tellsEnd_2 1 rfl rfl)
theorem dX3_tellsEnd_50 : decode cX3_tellsEnd 50 = .ok (.aload_n 3, 1) := dk_45 (dk_at dksX3_tellsEnd_2 2 rfl rfl)
theorem dX3_tellsEnd_51 : decode cX3_tellsEnd 51 = .ok (.invokevirtual 201, 3) := dk_182 0 201 (dk_at dksX3_tellsEnd_2 3 rfl rfl)
theorem dX3_tellsEnd_54 : decode cX3_tellsEnd 54 = .ok (.invokestatic 212, 3) := dk_184 0 212 (dk_at dksX3_tellsEnd_2 6 rfl rfl)
theorem dX3_tellsEnd_57 : decode cX3_tellsEnd 57 = .ok (.ifCond .eq 9, 3) := dk_153 0 9 (dk_at dksX3_tellsEnd_2 9 rfl rfl)
theorem dX3_tellsEnd_60 : decode cX3_tellsEnd 60 = .ok (.aload_n 3, 1) := dk_45 (dk_at dksX3_tellsEnd_2 12 rfl rfl)
theorem dX3_tellsEnd_61 : decode cX3_tellsEnd 61 = .ok (.iconst 3, 1) := dk_6 (dk_at dksX3_tellsEnd_2 13 rfl rfl)
theorem dX3_tellsEnd_62 : decode cX3_tellsEnd 62 = .ok (.iaload, 1) := dk_46 (dk_at dksX3_tellsEnd_2 14 rfl rfl)
theorem dX3_tellsEnd_63 : decode cX3_tellsEnd 63 = .ok (.goto 4, 3) := dk_167 0 4 (dk_at dksX3_tellsEnd_2 15 rfl rfl)
theorem dX3_tellsEnd_66 : decode cX3_tellsEnd 66 = .ok (.iconst (-1), 1) := dk_2 (dk_at dksX3_tellsEnd_2 18 rfl rfl)
theorem dX3_tellsEnd_67 : decode cX3_tellsEnd 67 = .ok (.iastore, 1) := dk_79 (dk_at dksX3_tellsEnd_2 19 rfl rfl)
theorem dX3_tellsEnd_68 : decode cX3_tellsEnd 68 = .ok (.dup, 1) := dk_89 (dk_at dksX3_tellsEnd_2 20 rfl rfl)
theorem dX3_tellsEnd_69 : decode cX3_tellsEnd 69 = .ok (.iconst 3, 1) := dk_6 (dk_at dksX3_tellsEnd_2 21 rfl rfl)
theorem dX3_tellsEnd_70 : decode cX3_tellsEnd 70 = .ok (.aload_n 3, 1) := dk_45 (dk_at dksX3_tellsEnd_2 22 rfl rfl)
theorem dX3_tellsEnd_71 : decode cX3_tellsEnd 71 = .ok (.iconst 4, 1) := dk_7 (dk_at dksX3_tellsEnd_2 23 rfl rfl)
theorem dX3_tellsEnd_72 : decode cX3_tellsEnd 72 = .ok (.iaload, 1) := dk_46 (dk_at dksX3_tellsEnd_3 0 rfl rfl)
theorem dX3_tellsEnd_73 : decode cX3_tellsEnd 73 = .ok (.iastore, 1) := dk_79 (dk_at dksX3_tellsEnd_3 1 rfl rfl)
theorem dX3_tellsEnd_74 : decode cX3_tellsEnd 74 = .ok (.dup, 1) := dk_89 (dk_at dksX3_tellsEnd_3 2 rfl rfl)
theorem dX3_tellsEnd_75 : decode cX3_tellsEnd 75 = .ok (.iconst 4, 1) := dk_7 (dk_at dksX3_tellsEnd_3 3 rfl rfl)
theorem dX3_tellsEnd_76 : decode cX3_tellsEnd 76 = .ok (.aload_n 0, 1) := dk_42 (dk_at dksX3_tellsEnd_3 4 rfl rfl)
theorem dX3_tellsEnd_77 : decode cX3_tellsEnd 77 = .ok (.getfield 133, 3) := dk_180 0 133 (dk_at dksX3_tellsEnd_3 5 rfl rfl)
theorem dX3_tellsEnd_80 : decode cX3_tellsEnd 80 = .ok (.iastore, 1) := dk_79 (dk_at dksX3_tellsEnd_3 8 rfl rfl)
theorem dX3_tellsEnd_81 : decode cX3_tellsEnd 81 = .ok (.aastore, 1) := dk_83 (dk_at dksX3_tellsEnd_3 9 rfl rfl)
theorem dX3_tellsEnd_82 : decode cX3_tellsEnd 82 = .ok (.aload_n 0, 1) := dk_42 (dk_at dksX3_tellsEnd_3 10 rfl rfl)
theorem dX3_tellsEnd_83 : decode cX3_tellsEnd 83 = .ok (.dup, 1) := dk_89 (dk_at dksX3_tellsEnd_3 11 rfl rfl)
theorem dX3_tellsEnd_84 : decode cX3_tellsEnd 84 = .ok (.getfield 150, 3) := dk_180 0 150 (dk_at dksX3_tellsEnd_3 12 rfl rfl)
theorem dX3_tellsEnd_87 : decode cX3_tellsEnd 87 = .ok (.iconst 1, 1) := dk_4 (dk_at dksX3_tellsEnd_3 15 rfl rfl)
theorem dX3_tellsEnd_88 : decode cX3_tellsEnd 88 = .ok (.iadd, 1) := dk_96 (dk_at dksX3_tellsEnd_3 16 rfl rfl)
theorem dX3_tellsEnd_89 : decode cX3_tellsEnd 89 = .ok (.putfield 150, 3) := dk_181 0 150 (dk_at dksX3_tellsEnd_3 17 rfl rfl)
theorem dX3_tellsEnd_92 : decode cX3_tellsEnd 92 = .ok (.return_, 1) := dk_177 (dk_at dksX3_tellsEnd_3 20 rfl rfl)
def dkwX3_isQueued_1 : List UInt8 := [167, 0, 4, 3, 172]
abbrev dktX3_isQueued_1 : List UInt8 := dkwX3_isQueued_1 ++ []
def dkwX3_isQueued_0 : List UInt8 := [26, 4, 16, 13, 184, 0, 129, 154, 0, 15, 26, 16, 16, 159, 0, 9, 26, 16, 17, 160, 0, 7, 4]
abbrev dktX3_isQueued_0 : List UInt8 := dkwX3_isQueued_0 ++ dktX3_isQueued_1
theorem dksX3_isQueued_0 : cX3_isQueued.data.toList.drop 0 = dktX3_isQueued_0 := by decide +kernel
theorem dksX3_isQueued_1 : cX3_isQueued.data.toList.drop 23 = dktX3_isQueued_1 := dk_seg dksX3_isQueued_0 23 rfl rfl
theorem dX3_isQueued_0 : decode cX3_isQueued 0 = .ok (.iload_n 0, 1) := dk_26 (dk_at dksX3_isQueued_0 0 rfl rfl)
theorem dX3_isQueued_1 : decode cX3_isQueued 1 = .ok (.iconst 1, 1) := dk_4 (dk_at dksX3_isQueued_0 1 rfl rfl)
theorem dX3_isQueued_2 : decode cX3_isQueued 2 = .ok (.bipush 13, 2) := dk_16 13 (dk_at dksX3_isQueued_0 2 rfl rfl)
theorem dX3_isQueued_4 : decode cX3_isQueued 4 = .ok (.invokestatic 129, 3) := dk_184 0 129 (dk_at dksX3_isQueued_0 4 rfl rfl)
theorem dX3_isQueued_7 : decode cX3_isQueued 7 = .ok (.ifCond .ne 15, 3) := dk_154 0 15 (dk_at dksX3_isQueued_0 7 rfl rfl)
theorem dX3_isQueued_10 : decode cX3_isQueued 10 = .ok (.iload_n 0, 1) := dk_26 (dk_at dksX3_isQueued_0 10 rfl rfl)
theorem dX3_isQueued_11 : decode cX3_isQueued 11 = .ok (.bipush 16, 2) := dk_16 16 (dk_at dksX3_isQueued_0 11 rfl rfl)
theorem dX3_isQueued_13 : decode cX3_isQueued 13 = .ok (.if_icmp .eq 9, 3) := dk_159 0 9 (dk_at dksX3_isQueued_0 13 rfl rfl)
theorem dX3_isQueued_16 : decode cX3_isQueued 16 = .ok (.iload_n 0, 1) := dk_26 (dk_at dksX3_isQueued_0 16 rfl rfl)
theorem dX3_isQueued_17 : decode cX3_isQueued 17 = .ok (.bipush 17, 2) := dk_16 17 (dk_at dksX3_isQueued_0 17 rfl rfl)
theorem dX3_isQueued_19 : decode cX3_isQueued 19 = .ok (.if_icmp .ne 7, 3) := dk_160 0 7 (dk_at dksX3_isQueued_0 19 rfl rfl)
theorem dX3_isQueued_22 : decode cX3_isQueued 22 = .ok (.iconst 1, 1) := dk_4 (dk_at dksX3_isQueued_0 22 rfl rfl)
theorem dX3_isQueued_23 : decode cX3_isQueued 23 = .ok (.goto 4, 3) := dk_167 0 4 (dk_at dksX3_isQueued_1 0 rfl rfl)
theorem dX3_isQueued_26 : decode cX3_isQueued 26 = .ok (.iconst 0, 1) := dk_3 (dk_at dksX3_isQueued_1 3 rfl rfl)
theorem dX3_isQueued_27 : decode cX3_isQueued 27 = .ok (.ireturn, 1) := dk_172 (dk_at dksX3_isQueued_1 4 rfl rfl)
def dkwX3_handles_1 : List UInt8 := [182, 1, 18, 42, 28, 181, 1, 38, 177]
abbrev dktX3_handles_1 : List UInt8 := dkwX3_handles_1 ++ []
def dkwX3_handles_0 : List UInt8 := [42, 3, 182, 1, 21, 42, 180, 0, 80, 3, 3, 79, 42, 27, 181, 1, 32, 42, 4, 181, 1, 35, 42, 28]
abbrev dktX3_handles_0 : List UInt8 := dkwX3_handles_0 ++ dktX3_handles_1
theorem dksX3_handles_0 : cX3_handles.data.toList.drop 0 = dktX3_handles_0 := by decide +kernel
theorem dksX3_handles_1 : cX3_handles.data.toList.drop 24 = dktX3_handles_1 := dk_seg dksX3_handles_0 24 rfl rfl
theorem dX3_handles_0 : decode cX3_handles 0 = .ok (.aload_n 0, 1) := dk_42 (dk_at dksX3_handles_0 0 rfl rfl)
theorem dX3_handles_1 : decode cX3_handles 1 = .ok (.iconst 0, 1) := dk_3 (dk_at dksX3_handles_0 1 rfl rfl)
theorem dX3_handles_2 : decode cX3_handles 2 = .ok (.invokevirtual 277, 3) := dk_182 1 21 (dk_at dksX3_handles_0 2 rfl rfl)
theorem dX3_handles_5 : decode cX3_handles 5 = .ok (.aload_n 0, 1) := dk_42 (dk_at dksX3_handles_0 5 rfl rfl)
theorem dX3_handles_6 : decode cX3_handles 6 = .ok (.getfield 80, 3) := dk_180 0 80 (dk_at dksX3_handles_0 6 rfl rfl)
theorem dX3_handles_9 : decode cX3_handles 9 = .ok (.iconst 0, 1) := dk_3 (dk_at dksX3_handles_0 9 rfl rfl)
theorem dX3_handles_10 : decode cX3_handles 10 = .ok (.iconst 0, 1) := dk_3 (dk_at dksX3_handles_0 10 rfl rfl)
theorem dX3_handles_11 : decode cX3_handles 11 = .ok (.iastore, 1) := dk_79 (dk_at dksX3_handles_0 11 rfl rfl)
theorem dX3_handles_12 : decode cX3_handles 12 = .ok (.aload_n 0, 1) := dk_42 (dk_at dksX3_handles_0 12 rfl rfl)
theorem dX3_handles_13 : decode cX3_handles 13 = .ok (.iload_n 1, 1) := dk_27 (dk_at dksX3_handles_0 13 rfl rfl)
theorem dX3_handles_14 : decode cX3_handles 14 = .ok (.putfield 288, 3) := dk_181 1 32 (dk_at dksX3_handles_0 14 rfl rfl)
theorem dX3_handles_17 : decode cX3_handles 17 = .ok (.aload_n 0, 1) := dk_42 (dk_at dksX3_handles_0 17 rfl rfl)
theorem dX3_handles_18 : decode cX3_handles 18 = .ok (.iconst 1, 1) := dk_4 (dk_at dksX3_handles_0 18 rfl rfl)
theorem dX3_handles_19 : decode cX3_handles 19 = .ok (.putfield 291, 3) := dk_181 1 35 (dk_at dksX3_handles_0 19 rfl rfl)
theorem dX3_handles_22 : decode cX3_handles 22 = .ok (.aload_n 0, 1) := dk_42 (dk_at dksX3_handles_0 22 rfl rfl)
theorem dX3_handles_23 : decode cX3_handles 23 = .ok (.iload_n 2, 1) := dk_28 (dk_at dksX3_handles_0 23 rfl rfl)
theorem dX3_handles_24 : decode cX3_handles 24 = .ok (.invokevirtual 274, 3) := dk_182 1 18 (dk_at dksX3_handles_1 0 rfl rfl)
theorem dX3_handles_27 : decode cX3_handles 27 = .ok (.aload_n 0, 1) := dk_42 (dk_at dksX3_handles_1 3 rfl rfl)
theorem dX3_handles_28 : decode cX3_handles 28 = .ok (.iload_n 2, 1) := dk_28 (dk_at dksX3_handles_1 4 rfl rfl)
theorem dX3_handles_29 : decode cX3_handles 29 = .ok (.putfield 294, 3) := dk_181 1 38 (dk_at dksX3_handles_1 5 rfl rfl)
theorem dX3_handles_32 : decode cX3_handles 32 = .ok (.return_, 1) := dk_177 (dk_at dksX3_handles_1 8 rfl rfl)
def dkwX3_loses_0 : List UInt8 := [27, 184, 1, 68, 2, 159, 0, 16, 42, 180, 0, 111, 27, 184, 1, 68, 92, 46, 4, 96, 79, 177]
abbrev dktX3_loses_0 : List UInt8 := dkwX3_loses_0 ++ []
theorem dksX3_loses_0 : cX3_loses.data.toList.drop 0 = dktX3_loses_0 := by decide +kernel
theorem dX3_loses_0 : decode cX3_loses 0 = .ok (.iload_n 1, 1) := dk_27 (dk_at dksX3_loses_0 0 rfl rfl)
theorem dX3_loses_1 : decode cX3_loses 1 = .ok (.invokestatic 324, 3) := dk_184 1 68 (dk_at dksX3_loses_0 1 rfl rfl)
theorem dX3_loses_4 : decode cX3_loses 4 = .ok (.iconst (-1), 1) := dk_2 (dk_at dksX3_loses_0 4 rfl rfl)
theorem dX3_loses_5 : decode cX3_loses 5 = .ok (.if_icmp .eq 16, 3) := dk_159 0 16 (dk_at dksX3_loses_0 5 rfl rfl)
theorem dX3_loses_8 : decode cX3_loses 8 = .ok (.aload_n 0, 1) := dk_42 (dk_at dksX3_loses_0 8 rfl rfl)
theorem dX3_loses_9 : decode cX3_loses 9 = .ok (.getfield 111, 3) := dk_180 0 111 (dk_at dksX3_loses_0 9 rfl rfl)
theorem dX3_loses_12 : decode cX3_loses 12 = .ok (.iload_n 1, 1) := dk_27 (dk_at dksX3_loses_0 12 rfl rfl)
theorem dX3_loses_13 : decode cX3_loses 13 = .ok (.invokestatic 324, 3) := dk_184 1 68 (dk_at dksX3_loses_0 13 rfl rfl)
theorem dX3_loses_16 : decode cX3_loses 16 = .ok (.dup2, 1) := dk_92 (dk_at dksX3_loses_0 16 rfl rfl)
theorem dX3_loses_17 : decode cX3_loses 17 = .ok (.iaload, 1) := dk_46 (dk_at dksX3_loses_0 17 rfl rfl)
theorem dX3_loses_18 : decode cX3_loses 18 = .ok (.iconst 1, 1) := dk_4 (dk_at dksX3_loses_0 18 rfl rfl)
theorem dX3_loses_19 : decode cX3_loses 19 = .ok (.iadd, 1) := dk_96 (dk_at dksX3_loses_0 19 rfl rfl)
theorem dX3_loses_20 : decode cX3_loses 20 = .ok (.iastore, 1) := dk_79 (dk_at dksX3_loses_0 20 rfl rfl)
theorem dX3_loses_21 : decode cX3_loses 21 = .ok (.return_, 1) := dk_177 (dk_at dksX3_loses_0 21 rfl rfl)
def dkwX3_reason_2 : List UInt8 := [3, 172, 4, 172, 5, 172, 6, 172, 7, 172, 8, 172, 16, 6, 172, 16, 7, 172, 2, 172]
abbrev dktX3_reason_2 : List UInt8 := dkwX3_reason_2 ++ []
def dkwX3_reason_1 : List UInt8 := [170, 0, 0, 0, 0, 0, 125, 0, 0, 0, 98, 0, 0, 0, 120, 0, 0, 0, 119, 0, 0, 0, 125, 0, 0, 0, 122, 0, 0, 0, 125, 0, 0, 0, 111, 0, 0, 0, 125, 0, 0, 0, 125, 0, 0, 0, 107, 0, 0, 0, 125, 0, 0, 0, 125, 0, 0, 0, 125, 0, 0, 0, 117, 0, 0, 0, 125, 0, 0, 0, 125, 0, 0, 0, 125, 0, 0, 0, 113, 0, 0, 0, 125, 0, 0, 0, 125, 0, 0, 0, 109, 0, 0, 0, 125, 0, 0, 0, 125, 0, 0, 0, 125, 0, 0, 0, 115]
abbrev dktX3_reason_1 : List UInt8 := dkwX3_reason_1 ++ dktX3_reason_2
def dkwX3_reason_0 : List UInt8 := [26]
abbrev dktX3_reason_0 : List UInt8 := dkwX3_reason_0 ++ dktX3_reason_1
theorem dksX3_reason_0 : cX3_reason.data.toList.drop 0 = dktX3_reason_0 := by decide +kernel
theorem dksX3_reason_1 : cX3_reason.data.toList.drop 1 = dktX3_reason_1 := dk_seg dksX3_reason_0 1 rfl rfl
theorem dksX3_reason_2 : cX3_reason.data.toList.drop 108 = dktX3_reason_2 := dk_seg dksX3_reason_1 107 rfl rfl
theorem dX3_reason_0 : decode cX3_reason 0 = .ok (.iload_n 0, 1) := dk_26 (dk_at dksX3_reason_0 0 rfl rfl)
theorem dX3_reason_1 : decode cX3_reason 1 = .ok (.tableswitch 125 98 120 #[119, 125, 122, 125, 111, 125, 125, 107, 125, 125, 125, 117, 125, 125, 125, 113, 125, 125, 109, 125, 125, 125, 115], 107) := by decide +kernel
theorem dX3_reason_108 : decode cX3_reason 108 = .ok (.iconst 0, 1) := dk_3 (dk_at dksX3_reason_2 0 rfl rfl)
theorem dX3_reason_109 : decode cX3_reason 109 = .ok (.ireturn, 1) := dk_172 (dk_at dksX3_reason_2 1 rfl rfl)
theorem dX3_reason_110 : decode cX3_reason 110 = .ok (.iconst 1, 1) := dk_4 (dk_at dksX3_reason_2 2 rfl rfl)
theorem dX3_reason_111 : decode cX3_reason 111 = .ok (.ireturn, 1) := dk_172 (dk_at dksX3_reason_2 3 rfl rfl)
theorem dX3_reason_112 : decode cX3_reason 112 = .ok (.iconst 2, 1) := dk_5 (dk_at dksX3_reason_2 4 rfl rfl)
theorem dX3_reason_113 : decode cX3_reason 113 = .ok (.ireturn, 1) := dk_172 (dk_at dksX3_reason_2 5 rfl rfl)
theorem dX3_reason_114 : decode cX3_reason 114 = .ok (.iconst 3, 1) := dk_6 (dk_at dksX3_reason_2 6 rfl rfl)
theorem dX3_reason_115 : decode cX3_reason 115 = .ok (.ireturn, 1) := dk_172 (dk_at dksX3_reason_2 7 rfl rfl)
theorem dX3_reason_116 : decode cX3_reason 116 = .ok (.iconst 4, 1) := dk_7 (dk_at dksX3_reason_2 8 rfl rfl)
theorem dX3_reason_117 : decode cX3_reason 117 = .ok (.ireturn, 1) := dk_172 (dk_at dksX3_reason_2 9 rfl rfl)
theorem dX3_reason_118 : decode cX3_reason 118 = .ok (.iconst 5, 1) := dk_8 (dk_at dksX3_reason_2 10 rfl rfl)
theorem dX3_reason_119 : decode cX3_reason 119 = .ok (.ireturn, 1) := dk_172 (dk_at dksX3_reason_2 11 rfl rfl)
theorem dX3_reason_120 : decode cX3_reason 120 = .ok (.bipush 6, 2) := dk_16 6 (dk_at dksX3_reason_2 12 rfl rfl)
theorem dX3_reason_122 : decode cX3_reason 122 = .ok (.ireturn, 1) := dk_172 (dk_at dksX3_reason_2 14 rfl rfl)
theorem dX3_reason_123 : decode cX3_reason 123 = .ok (.bipush 7, 2) := dk_16 7 (dk_at dksX3_reason_2 15 rfl rfl)
theorem dX3_reason_125 : decode cX3_reason 125 = .ok (.ireturn, 1) := dk_172 (dk_at dksX3_reason_2 17 rfl rfl)
theorem dX3_reason_126 : decode cX3_reason 126 = .ok (.iconst (-1), 1) := dk_2 (dk_at dksX3_reason_2 18 rfl rfl)
theorem dX3_reason_127 : decode cX3_reason 127 = .ok (.ireturn, 1) := dk_172 (dk_at dksX3_reason_2 19 rfl rfl)
def dkwX3_traps_2 : List UInt8 := [181, 0, 174, 42, 4, 181, 0, 147, 177, 42, 29, 4, 96, 42, 180, 0, 38, 182, 1, 45, 177]
abbrev dktX3_traps_2 : List UInt8 := dkwX3_traps_2 ++ []
def dkwX3_traps_1 : List UInt8 := [160, 0, 31, 42, 3, 182, 1, 21, 42, 180, 0, 80, 3, 3, 79, 42, 3, 181, 0, 177, 42, 4]
abbrev dktX3_traps_1 : List UInt8 := dkwX3_traps_1 ++ dktX3_traps_2
def dkwX3_traps_0 : List UInt8 := [43, 3, 46, 62, 42, 28, 29, 43, 182, 1, 41, 42, 180, 1, 35, 154, 0, 11, 42, 180, 0, 38, 2]
abbrev dktX3_traps_0 : List UInt8 := dkwX3_traps_0 ++ dktX3_traps_1
theorem dksX3_traps_0 : cX3_traps.data.toList.drop 0 = dktX3_traps_0 := by decide +kernel
theorem dksX3_traps_1 : cX3_traps.data.toList.drop 23 = dktX3_traps_1 := dk_seg dksX3_traps_0 23 rfl rfl
theorem dksX3_traps_2 : cX3_traps.data.toList.drop 45 = dktX3_traps_2 := dk_seg dksX3_traps_1 22 rfl rfl
theorem dX3_traps_0 : decode cX3_traps 0 = .ok (.aload_n 1, 1) := dk_43 (dk_at dksX3_traps_0 0 rfl rfl)
theorem dX3_traps_1 : decode cX3_traps 1 = .ok (.iconst 0, 1) := dk_3 (dk_at dksX3_traps_0 1 rfl rfl)
theorem dX3_traps_2 : decode cX3_traps 2 = .ok (.iaload, 1) := dk_46 (dk_at dksX3_traps_0 2 rfl rfl)
theorem dX3_traps_3 : decode cX3_traps 3 = .ok (.istore_n 3, 1) := dk_62 (dk_at dksX3_traps_0 3 rfl rfl)
theorem dX3_traps_4 : decode cX3_traps 4 = .ok (.aload_n 0, 1) := dk_42 (dk_at dksX3_traps_0 4 rfl rfl)
theorem dX3_traps_5 : decode cX3_traps 5 = .ok (.iload_n 2, 1) := dk_28 (dk_at dksX3_traps_0 5 rfl rfl)
theorem dX3_traps_6 : decode cX3_traps 6 = .ok (.iload_n 3, 1) := dk_29 (dk_at dksX3_traps_0 6 rfl rfl)
theorem dX3_traps_7 : decode cX3_traps 7 = .ok (.aload_n 1, 1) := dk_43 (dk_at dksX3_traps_0 7 rfl rfl)
theorem dX3_traps_8 : decode cX3_traps 8 = .ok (.invokevirtual 297, 3) := dk_182 1 41 (dk_at dksX3_traps_0 8 rfl rfl)
theorem dX3_traps_11 : decode cX3_traps 11 = .ok (.aload_n 0, 1) := dk_42 (dk_at dksX3_traps_0 11 rfl rfl)
theorem dX3_traps_12 : decode cX3_traps 12 = .ok (.getfield 291, 3) := dk_180 1 35 (dk_at dksX3_traps_0 12 rfl rfl)
theorem dX3_traps_15 : decode cX3_traps 15 = .ok (.ifCond .ne 11, 3) := dk_154 0 11 (dk_at dksX3_traps_0 15 rfl rfl)
theorem dX3_traps_18 : decode cX3_traps 18 = .ok (.aload_n 0, 1) := dk_42 (dk_at dksX3_traps_0 18 rfl rfl)
theorem dX3_traps_19 : decode cX3_traps 19 = .ok (.getfield 38, 3) := dk_180 0 38 (dk_at dksX3_traps_0 19 rfl rfl)
theorem dX3_traps_22 : decode cX3_traps 22 = .ok (.iconst (-1), 1) := dk_2 (dk_at dksX3_traps_0 22 rfl rfl)
theorem dX3_traps_23 : decode cX3_traps 23 = .ok (.if_icmp .ne 31, 3) := dk_160 0 31 (dk_at dksX3_traps_1 0 rfl rfl)
theorem dX3_traps_26 : decode cX3_traps 26 = .ok (.aload_n 0, 1) := dk_42 (dk_at dksX3_traps_1 3 rfl rfl)
theorem dX3_traps_27 : decode cX3_traps 27 = .ok (.iconst 0, 1) := dk_3 (dk_at dksX3_traps_1 4 rfl rfl)
theorem dX3_traps_28 : decode cX3_traps 28 = .ok (.invokevirtual 277, 3) := dk_182 1 21 (dk_at dksX3_traps_1 5 rfl rfl)
theorem dX3_traps_31 : decode cX3_traps 31 = .ok (.aload_n 0, 1) := dk_42 (dk_at dksX3_traps_1 8 rfl rfl)
theorem dX3_traps_32 : decode cX3_traps 32 = .ok (.getfield 80, 3) := dk_180 0 80 (dk_at dksX3_traps_1 9 rfl rfl)
theorem dX3_traps_35 : decode cX3_traps 35 = .ok (.iconst 0, 1) := dk_3 (dk_at dksX3_traps_1 12 rfl rfl)
theorem dX3_traps_36 : decode cX3_traps 36 = .ok (.iconst 0, 1) := dk_3 (dk_at dksX3_traps_1 13 rfl rfl)
theorem dX3_traps_37 : decode cX3_traps 37 = .ok (.iastore, 1) := dk_79 (dk_at dksX3_traps_1 14 rfl rfl)
theorem dX3_traps_38 : decode cX3_traps 38 = .ok (.aload_n 0, 1) := dk_42 (dk_at dksX3_traps_1 15 rfl rfl)
theorem dX3_traps_39 : decode cX3_traps 39 = .ok (.iconst 0, 1) := dk_3 (dk_at dksX3_traps_1 16 rfl rfl)
theorem dX3_traps_40 : decode cX3_traps 40 = .ok (.putfield 177, 3) := dk_181 0 177 (dk_at dksX3_traps_1 17 rfl rfl)
theorem dX3_traps_43 : decode cX3_traps 43 = .ok (.aload_n 0, 1) := dk_42 (dk_at dksX3_traps_1 20 rfl rfl)
theorem dX3_traps_44 : decode cX3_traps 44 = .ok (.iconst 1, 1) := dk_4 (dk_at dksX3_traps_1 21 rfl rfl)
theorem dX3_traps_45 : decode cX3_traps 45 = .ok (.putfield 174, 3) := dk_181 0 174 (dk_at dksX3_traps_2 0 rfl rfl)
theorem dX3_traps_48 : decode cX3_traps 48 = .ok (.aload_n 0, 1) := dk_42 (dk_at dksX3_traps_2 3 rfl rfl)
theorem dX3_traps_49 : decode cX3_traps 49 = .ok (.iconst 1, 1) := dk_4 (dk_at dksX3_traps_2 4 rfl rfl)
theorem dX3_traps_50 : decode cX3_traps 50 = .ok (.putfield 147, 3) := dk_181 0 147 (dk_at dksX3_traps_2 5 rfl rfl)
theorem dX3_traps_53 : decode cX3_traps 53 = .ok (.return_, 1) := dk_177 (dk_at dksX3_traps_2 8 rfl rfl)
theorem dX3_traps_54 : decode cX3_traps 54 = .ok (.aload_n 0, 1) := dk_42 (dk_at dksX3_traps_2 9 rfl rfl)
theorem dX3_traps_55 : decode cX3_traps 55 = .ok (.iload_n 3, 1) := dk_29 (dk_at dksX3_traps_2 10 rfl rfl)
theorem dX3_traps_56 : decode cX3_traps 56 = .ok (.iconst 1, 1) := dk_4 (dk_at dksX3_traps_2 11 rfl rfl)
theorem dX3_traps_57 : decode cX3_traps 57 = .ok (.iadd, 1) := dk_96 (dk_at dksX3_traps_2 12 rfl rfl)
theorem dX3_traps_58 : decode cX3_traps 58 = .ok (.aload_n 0, 1) := dk_42 (dk_at dksX3_traps_2 13 rfl rfl)
theorem dX3_traps_59 : decode cX3_traps 59 = .ok (.getfield 38, 3) := dk_180 0 38 (dk_at dksX3_traps_2 14 rfl rfl)
theorem dX3_traps_62 : decode cX3_traps 62 = .ok (.invokevirtual 301, 3) := dk_182 1 45 (dk_at dksX3_traps_2 17 rfl rfl)
theorem dX3_traps_65 : decode cX3_traps 65 = .ok (.return_, 1) := dk_177 (dk_at dksX3_traps_2 20 rfl rfl)
def dkwX3_leaves_2 : List UInt8 := [180, 0, 74, 42, 180, 0, 198, 43, 83, 177]
abbrev dktX3_leaves_2 : List UInt8 := dkwX3_leaves_2 ++ []
def dkwX3_leaves_1 : List UInt8 := [162, 0, 23, 42, 180, 0, 74, 28, 42, 180, 0, 74, 28, 4, 96, 50, 83, 132, 2, 1, 167, 255, 231, 42]
abbrev dktX3_leaves_1 : List UInt8 := dkwX3_leaves_1 ++ dktX3_leaves_2
def dkwX3_leaves_0 : List UInt8 := [42, 89, 180, 0, 198, 4, 100, 181, 0, 198, 42, 180, 0, 74, 3, 50, 76, 3, 61, 28, 42, 180, 0, 198]
abbrev dktX3_leaves_0 : List UInt8 := dkwX3_leaves_0 ++ dktX3_leaves_1
theorem dksX3_leaves_0 : cX3_leaves.data.toList.drop 0 = dktX3_leaves_0 := by decide +kernel
theorem dksX3_leaves_1 : cX3_leaves.data.toList.drop 24 = dktX3_leaves_1 := dk_seg dksX3_leaves_0 24 rfl rfl
theorem dksX3_leaves_2 : cX3_leaves.data.toList.drop 48 = dktX3_leaves_2 := dk_seg dksX3_leaves_1 24 rfl rfl
theorem dX3_leaves_0 : decode cX3_leaves 0 = .ok (.aload_n 0, 1) := dk_42 (dk_at dksX3_leaves_0 0 rfl rfl)
theorem dX3_leaves_1 : decode cX3_leaves 1 = .ok (.dup, 1) := dk_89 (dk_at dksX3_leaves_0 1 rfl rfl)
theorem dX3_leaves_2 : decode cX3_leaves 2 = .ok (.getfield 198, 3) := dk_180 0 198 (dk_at dksX3_leaves_0 2 rfl rfl)
theorem dX3_leaves_5 : decode cX3_leaves 5 = .ok (.iconst 1, 1) := dk_4 (dk_at dksX3_leaves_0 5 rfl rfl)
theorem dX3_leaves_6 : decode cX3_leaves 6 = .ok (.isub, 1) := dk_100 (dk_at dksX3_leaves_0 6 rfl rfl)
theorem dX3_leaves_7 : decode cX3_leaves 7 = .ok (.putfield 198, 3) := dk_181 0 198 (dk_at dksX3_leaves_0 7 rfl rfl)
theorem dX3_leaves_10 : decode cX3_leaves 10 = .ok (.aload_n 0, 1) := dk_42 (dk_at dksX3_leaves_0 10 rfl rfl)
theorem dX3_leaves_11 : decode cX3_leaves 11 = .ok (.getfield 74, 3) := dk_180 0 74 (dk_at dksX3_leaves_0 11 rfl rfl)
theorem dX3_leaves_14 : decode cX3_leaves 14 = .ok (.iconst 0, 1) := dk_3 (dk_at dksX3_leaves_0 14 rfl rfl)
theorem dX3_leaves_15 : decode cX3_leaves 15 = .ok (.aaload, 1) := dk_50 (dk_at dksX3_leaves_0 15 rfl rfl)
theorem dX3_leaves_16 : decode cX3_leaves 16 = .ok (.astore_n 1, 1) := dk_76 (dk_at dksX3_leaves_0 16 rfl rfl)
theorem dX3_leaves_17 : decode cX3_leaves 17 = .ok (.iconst 0, 1) := dk_3 (dk_at dksX3_leaves_0 17 rfl rfl)
theorem dX3_leaves_18 : decode cX3_leaves 18 = .ok (.istore_n 2, 1) := dk_61 (dk_at dksX3_leaves_0 18 rfl rfl)
theorem dX3_leaves_19 : decode cX3_leaves 19 = .ok (.iload_n 2, 1) := dk_28 (dk_at dksX3_leaves_0 19 rfl rfl)
theorem dX3_leaves_20 : decode cX3_leaves 20 = .ok (.aload_n 0, 1) := dk_42 (dk_at dksX3_leaves_0 20 rfl rfl)
theorem dX3_leaves_21 : decode cX3_leaves 21 = .ok (.getfield 198, 3) := dk_180 0 198 (dk_at dksX3_leaves_0 21 rfl rfl)
theorem dX3_leaves_24 : decode cX3_leaves 24 = .ok (.if_icmp .ge 23, 3) := dk_162 0 23 (dk_at dksX3_leaves_1 0 rfl rfl)
theorem dX3_leaves_27 : decode cX3_leaves 27 = .ok (.aload_n 0, 1) := dk_42 (dk_at dksX3_leaves_1 3 rfl rfl)
theorem dX3_leaves_28 : decode cX3_leaves 28 = .ok (.getfield 74, 3) := dk_180 0 74 (dk_at dksX3_leaves_1 4 rfl rfl)
theorem dX3_leaves_31 : decode cX3_leaves 31 = .ok (.iload_n 2, 1) := dk_28 (dk_at dksX3_leaves_1 7 rfl rfl)
theorem dX3_leaves_32 : decode cX3_leaves 32 = .ok (.aload_n 0, 1) := dk_42 (dk_at dksX3_leaves_1 8 rfl rfl)
theorem dX3_leaves_33 : decode cX3_leaves 33 = .ok (.getfield 74, 3) := dk_180 0 74 (dk_at dksX3_leaves_1 9 rfl rfl)
theorem dX3_leaves_36 : decode cX3_leaves 36 = .ok (.iload_n 2, 1) := dk_28 (dk_at dksX3_leaves_1 12 rfl rfl)
theorem dX3_leaves_37 : decode cX3_leaves 37 = .ok (.iconst 1, 1) := dk_4 (dk_at dksX3_leaves_1 13 rfl rfl)
theorem dX3_leaves_38 : decode cX3_leaves 38 = .ok (.iadd, 1) := dk_96 (dk_at dksX3_leaves_1 14 rfl rfl)
theorem dX3_leaves_39 : decode cX3_leaves 39 = .ok (.aaload, 1) := dk_50 (dk_at dksX3_leaves_1 15 rfl rfl)
theorem dX3_leaves_40 : decode cX3_leaves 40 = .ok (.aastore, 1) := dk_83 (dk_at dksX3_leaves_1 16 rfl rfl)
theorem dX3_leaves_41 : decode cX3_leaves 41 = .ok (.iinc 2 1, 3) := dk_132 2 1 (dk_at dksX3_leaves_1 17 rfl rfl)
theorem dX3_leaves_44 : decode cX3_leaves 44 = .ok (.goto (-25), 3) := dk_167 255 231 (dk_at dksX3_leaves_1 20 rfl rfl)
theorem dX3_leaves_47 : decode cX3_leaves 47 = .ok (.aload_n 0, 1) := dk_42 (dk_at dksX3_leaves_1 23 rfl rfl)
theorem dX3_leaves_48 : decode cX3_leaves 48 = .ok (.getfield 74, 3) := dk_180 0 74 (dk_at dksX3_leaves_2 0 rfl rfl)
theorem dX3_leaves_51 : decode cX3_leaves 51 = .ok (.aload_n 0, 1) := dk_42 (dk_at dksX3_leaves_2 3 rfl rfl)
theorem dX3_leaves_52 : decode cX3_leaves 52 = .ok (.getfield 198, 3) := dk_180 0 198 (dk_at dksX3_leaves_2 4 rfl rfl)
theorem dX3_leaves_55 : decode cX3_leaves 55 = .ok (.aload_n 1, 1) := dk_43 (dk_at dksX3_leaves_2 7 rfl rfl)
theorem dX3_leaves_56 : decode cX3_leaves 56 = .ok (.aastore, 1) := dk_83 (dk_at dksX3_leaves_2 8 rfl rfl)
theorem dX3_leaves_57 : decode cX3_leaves 57 = .ok (.return_, 1) := dk_177 (dk_at dksX3_leaves_2 9 rfl rfl)
def dkwX3_retire_13 : List UInt8 := [160, 0, 7, 4, 167, 0, 4, 3, 181, 0, 147, 177]
abbrev dktX3_retire_13 : List UInt8 := dkwX3_retire_13 ++ []
def dkwX3_retire_12 : List UInt8 := [181, 1, 35, 42, 42, 180, 1, 32, 181, 1, 38, 42, 42, 180, 1, 32, 182, 1, 18, 42, 29, 16, 18]
abbrev dktX3_retire_12 : List UInt8 := dkwX3_retire_12 ++ dktX3_retire_13
def dkwX3_retire_11 : List UInt8 := [160, 0, 16, 42, 180, 0, 86, 28, 16, 8, 112, 43, 16, 6, 46, 79, 29, 16, 21, 160, 0, 24, 42, 3]
abbrev dktX3_retire_11 : List UInt8 := dkwX3_retire_11 ++ dktX3_retire_12
def dkwX3_retire_10 : List UInt8 := [21, 7, 4, 96, 184, 1, 0, 167, 0, 11, 3, 21, 7, 4, 100, 184, 1, 51, 79, 29, 16, 17]
abbrev dktX3_retire_10 : List UInt8 := dkwX3_retire_10 ++ dktX3_retire_11
def dkwX3_retire_9 : List UInt8 := [180, 0, 83, 28, 16, 16, 112, 46, 54, 7, 42, 180, 0, 83, 28, 16, 16, 112, 21, 6, 153, 0, 14, 6]
abbrev dktX3_retire_9 : List UInt8 := dkwX3_retire_9 ++ dktX3_retire_10
def dkwX3_retire_8 : List UInt8 := [167, 0, 19, 3, 167, 0, 15, 21, 4, 21, 5, 162, 0, 7, 4, 167, 0, 4, 3, 54, 6, 42]
abbrev dktX3_retire_8 : List UInt8 := dkwX3_retire_8 ++ dktX3_retire_9
def dkwX3_retire_7 : List UInt8 := [180, 0, 62, 43, 16, 8, 46, 46, 54, 5, 29, 16, 12, 160, 0, 18, 21, 4, 21, 5, 160, 0, 7, 4]
abbrev dktX3_retire_7 : List UInt8 := dkwX3_retire_7 ++ dktX3_retire_8
def dkwX3_retire_6 : List UInt8 := [16, 12, 159, 0, 9, 29, 16, 13, 160, 0, 104, 42, 180, 0, 62, 43, 16, 7, 46, 46, 54, 4, 42]
abbrev dktX3_retire_6 : List UInt8 := dkwX3_retire_6 ++ dktX3_retire_7
def dkwX3_retire_5 : List UInt8 := [180, 0, 69, 42, 180, 0, 126, 43, 16, 10, 46, 79, 42, 89, 180, 0, 126, 4, 96, 181, 0, 126, 29]
abbrev dktX3_retire_5 : List UInt8 := dkwX3_retire_5 ++ dktX3_retire_6
def dkwX3_retire_4 : List UInt8 := [184, 0, 209, 153, 0, 41, 42, 180, 0, 59, 42, 180, 0, 13, 28, 46, 43, 16, 9, 46, 79, 42]
abbrev dktX3_retire_4 : List UInt8 := dkwX3_retire_4 ++ dktX3_retire_5
def dkwX3_retire_3 : List UInt8 := [46, 46, 19, 1, 49, 126, 42, 180, 0, 62, 43, 16, 8, 46, 46, 19, 1, 50, 126, 128, 79, 29]
abbrev dktX3_retire_3 : List UInt8 := dkwX3_retire_3 ++ dktX3_retire_4
def dkwX3_retire_2 : List UInt8 := [46, 46, 79, 29, 16, 11, 160, 0, 39, 42, 180, 0, 53, 43, 16, 14, 46, 42, 180, 0, 53, 43, 16, 14]
abbrev dktX3_retire_2 : List UInt8 := dkwX3_retire_2 ++ dktX3_retire_3
def dkwX3_retire_1 : List UInt8 := [181, 1, 38, 29, 16, 10, 160, 0, 21, 42, 180, 0, 53, 43, 16, 14, 46, 42, 180, 0, 62, 43, 16, 8]
abbrev dktX3_retire_1 : List UInt8 := dkwX3_retire_1 ++ dktX3_retire_2
def dkwX3_retire_0 : List UInt8 := [43, 3, 46, 61, 42, 180, 0, 9, 28, 46, 62, 42, 3, 28, 43, 182, 1, 41, 42, 43, 16, 6, 46]
abbrev dktX3_retire_0 : List UInt8 := dkwX3_retire_0 ++ dktX3_retire_1
theorem dksX3_retire_0 : cX3_retire.data.toList.drop 0 = dktX3_retire_0 := by decide +kernel
theorem dksX3_retire_1 : cX3_retire.data.toList.drop 23 = dktX3_retire_1 := dk_seg dksX3_retire_0 23 rfl rfl
theorem dksX3_retire_2 : cX3_retire.data.toList.drop 47 = dktX3_retire_2 := dk_seg dksX3_retire_1 24 rfl rfl
theorem dksX3_retire_3 : cX3_retire.data.toList.drop 71 = dktX3_retire_3 := dk_seg dksX3_retire_2 24 rfl rfl
theorem dksX3_retire_4 : cX3_retire.data.toList.drop 93 = dktX3_retire_4 := dk_seg dksX3_retire_3 22 rfl rfl
theorem dksX3_retire_5 : cX3_retire.data.toList.drop 115 = dktX3_retire_5 := dk_seg dksX3_retire_4 22 rfl rfl
theorem dksX3_retire_6 : cX3_retire.data.toList.drop 138 = dktX3_retire_6 := dk_seg dksX3_retire_5 23 rfl rfl
theorem dksX3_retire_7 : cX3_retire.data.toList.drop 161 = dktX3_retire_7 := dk_seg dksX3_retire_6 23 rfl rfl
theorem dksX3_retire_8 : cX3_retire.data.toList.drop 185 = dktX3_retire_8 := dk_seg dksX3_retire_7 24 rfl rfl
theorem dksX3_retire_9 : cX3_retire.data.toList.drop 207 = dktX3_retire_9 := dk_seg dksX3_retire_8 22 rfl rfl
theorem dksX3_retire_10 : cX3_retire.data.toList.drop 231 = dktX3_retire_10 := dk_seg dksX3_retire_9 24 rfl rfl
theorem dksX3_retire_11 : cX3_retire.data.toList.drop 253 = dktX3_retire_11 := dk_seg dksX3_retire_10 22 rfl rfl
theorem dksX3_retire_12 : cX3_retire.data.toList.drop 277 = dktX3_retire_12 := dk_seg dksX3_retire_11 24 rfl rfl
theorem dksX3_retire_13 : cX3_retire.data.toList.drop 300 = dktX3_retire_13 := dk_seg dksX3_retire_12 23 rfl rfl
theorem dX3_retire_0 : decode cX3_retire 0 = .ok (.aload_n 1, 1) := dk_43 (dk_at dksX3_retire_0 0 rfl rfl)
theorem dX3_retire_1 : decode cX3_retire 1 = .ok (.iconst 0, 1) := dk_3 (dk_at dksX3_retire_0 1 rfl rfl)
theorem dX3_retire_2 : decode cX3_retire 2 = .ok (.iaload, 1) := dk_46 (dk_at dksX3_retire_0 2 rfl rfl)
theorem dX3_retire_3 : decode cX3_retire 3 = .ok (.istore_n 2, 1) := dk_61 (dk_at dksX3_retire_0 3 rfl rfl)
theorem dX3_retire_4 : decode cX3_retire 4 = .ok (.aload_n 0, 1) := dk_42 (dk_at dksX3_retire_0 4 rfl rfl)
theorem dX3_retire_5 : decode cX3_retire 5 = .ok (.getfield 9, 3) := dk_180 0 9 (dk_at dksX3_retire_0 5 rfl rfl)
theorem dX3_retire_8 : decode cX3_retire 8 = .ok (.iload_n 2, 1) := dk_28 (dk_at dksX3_retire_0 8 rfl rfl)
theorem dX3_retire_9 : decode cX3_retire 9 = .ok (.iaload, 1) := dk_46 (dk_at dksX3_retire_0 9 rfl rfl)
theorem dX3_retire_10 : decode cX3_retire 10 = .ok (.istore_n 3, 1) := dk_62 (dk_at dksX3_retire_0 10 rfl rfl)
theorem dX3_retire_11 : decode cX3_retire 11 = .ok (.aload_n 0, 1) := dk_42 (dk_at dksX3_retire_0 11 rfl rfl)
theorem dX3_retire_12 : decode cX3_retire 12 = .ok (.iconst 0, 1) := dk_3 (dk_at dksX3_retire_0 12 rfl rfl)
theorem dX3_retire_13 : decode cX3_retire 13 = .ok (.iload_n 2, 1) := dk_28 (dk_at dksX3_retire_0 13 rfl rfl)
theorem dX3_retire_14 : decode cX3_retire 14 = .ok (.aload_n 1, 1) := dk_43 (dk_at dksX3_retire_0 14 rfl rfl)
theorem dX3_retire_15 : decode cX3_retire 15 = .ok (.invokevirtual 297, 3) := dk_182 1 41 (dk_at dksX3_retire_0 15 rfl rfl)
theorem dX3_retire_18 : decode cX3_retire 18 = .ok (.aload_n 0, 1) := dk_42 (dk_at dksX3_retire_0 18 rfl rfl)
theorem dX3_retire_19 : decode cX3_retire 19 = .ok (.aload_n 1, 1) := dk_43 (dk_at dksX3_retire_0 19 rfl rfl)
theorem dX3_retire_20 : decode cX3_retire 20 = .ok (.bipush 6, 2) := dk_16 6 (dk_at dksX3_retire_0 20 rfl rfl)
theorem dX3_retire_22 : decode cX3_retire 22 = .ok (.iaload, 1) := dk_46 (dk_at dksX3_retire_0 22 rfl rfl)
theorem dX3_retire_23 : decode cX3_retire 23 = .ok (.putfield 294, 3) := dk_181 1 38 (dk_at dksX3_retire_1 0 rfl rfl)
theorem dX3_retire_26 : decode cX3_retire 26 = .ok (.iload_n 3, 1) := dk_29 (dk_at dksX3_retire_1 3 rfl rfl)
theorem dX3_retire_27 : decode cX3_retire 27 = .ok (.bipush 10, 2) := dk_16 10 (dk_at dksX3_retire_1 4 rfl rfl)
theorem dX3_retire_29 : decode cX3_retire 29 = .ok (.if_icmp .ne 21, 3) := dk_160 0 21 (dk_at dksX3_retire_1 6 rfl rfl)
theorem dX3_retire_32 : decode cX3_retire 32 = .ok (.aload_n 0, 1) := dk_42 (dk_at dksX3_retire_1 9 rfl rfl)
theorem dX3_retire_33 : decode cX3_retire 33 = .ok (.getfield 53, 3) := dk_180 0 53 (dk_at dksX3_retire_1 10 rfl rfl)
theorem dX3_retire_36 : decode cX3_retire 36 = .ok (.aload_n 1, 1) := dk_43 (dk_at dksX3_retire_1 13 rfl rfl)
theorem dX3_retire_37 : decode cX3_retire 37 = .ok (.bipush 14, 2) := dk_16 14 (dk_at dksX3_retire_1 14 rfl rfl)
theorem dX3_retire_39 : decode cX3_retire 39 = .ok (.iaload, 1) := dk_46 (dk_at dksX3_retire_1 16 rfl rfl)
theorem dX3_retire_40 : decode cX3_retire 40 = .ok (.aload_n 0, 1) := dk_42 (dk_at dksX3_retire_1 17 rfl rfl)
theorem dX3_retire_41 : decode cX3_retire 41 = .ok (.getfield 62, 3) := dk_180 0 62 (dk_at dksX3_retire_1 18 rfl rfl)
theorem dX3_retire_44 : decode cX3_retire 44 = .ok (.aload_n 1, 1) := dk_43 (dk_at dksX3_retire_1 21 rfl rfl)
theorem dX3_retire_45 : decode cX3_retire 45 = .ok (.bipush 8, 2) := dk_16 8 (dk_at dksX3_retire_1 22 rfl rfl)
theorem dX3_retire_47 : decode cX3_retire 47 = .ok (.iaload, 1) := dk_46 (dk_at dksX3_retire_2 0 rfl rfl)
theorem dX3_retire_48 : decode cX3_retire 48 = .ok (.iaload, 1) := dk_46 (dk_at dksX3_retire_2 1 rfl rfl)
theorem dX3_retire_49 : decode cX3_retire 49 = .ok (.iastore, 1) := dk_79 (dk_at dksX3_retire_2 2 rfl rfl)
theorem dX3_retire_50 : decode cX3_retire 50 = .ok (.iload_n 3, 1) := dk_29 (dk_at dksX3_retire_2 3 rfl rfl)
theorem dX3_retire_51 : decode cX3_retire 51 = .ok (.bipush 11, 2) := dk_16 11 (dk_at dksX3_retire_2 4 rfl rfl)
theorem dX3_retire_53 : decode cX3_retire 53 = .ok (.if_icmp .ne 39, 3) := dk_160 0 39 (dk_at dksX3_retire_2 6 rfl rfl)
theorem dX3_retire_56 : decode cX3_retire 56 = .ok (.aload_n 0, 1) := dk_42 (dk_at dksX3_retire_2 9 rfl rfl)
theorem dX3_retire_57 : decode cX3_retire 57 = .ok (.getfield 53, 3) := dk_180 0 53 (dk_at dksX3_retire_2 10 rfl rfl)
theorem dX3_retire_60 : decode cX3_retire 60 = .ok (.aload_n 1, 1) := dk_43 (dk_at dksX3_retire_2 13 rfl rfl)
theorem dX3_retire_61 : decode cX3_retire 61 = .ok (.bipush 14, 2) := dk_16 14 (dk_at dksX3_retire_2 14 rfl rfl)
theorem dX3_retire_63 : decode cX3_retire 63 = .ok (.iaload, 1) := dk_46 (dk_at dksX3_retire_2 16 rfl rfl)
theorem dX3_retire_64 : decode cX3_retire 64 = .ok (.aload_n 0, 1) := dk_42 (dk_at dksX3_retire_2 17 rfl rfl)
theorem dX3_retire_65 : decode cX3_retire 65 = .ok (.getfield 53, 3) := dk_180 0 53 (dk_at dksX3_retire_2 18 rfl rfl)
theorem dX3_retire_68 : decode cX3_retire 68 = .ok (.aload_n 1, 1) := dk_43 (dk_at dksX3_retire_2 21 rfl rfl)
theorem dX3_retire_69 : decode cX3_retire 69 = .ok (.bipush 14, 2) := dk_16 14 (dk_at dksX3_retire_2 22 rfl rfl)
theorem dX3_retire_71 : decode cX3_retire 71 = .ok (.iaload, 1) := dk_46 (dk_at dksX3_retire_3 0 rfl rfl)
theorem dX3_retire_72 : decode cX3_retire 72 = .ok (.iaload, 1) := dk_46 (dk_at dksX3_retire_3 1 rfl rfl)
theorem dX3_retire_73 : decode cX3_retire 73 = .ok (.ldc_w 305, 3) := dk_19 1 49 (dk_at dksX3_retire_3 2 rfl rfl)
theorem dX3_retire_76 : decode cX3_retire 76 = .ok (.iand, 1) := dk_126 (dk_at dksX3_retire_3 5 rfl rfl)
theorem dX3_retire_77 : decode cX3_retire 77 = .ok (.aload_n 0, 1) := dk_42 (dk_at dksX3_retire_3 6 rfl rfl)
theorem dX3_retire_78 : decode cX3_retire 78 = .ok (.getfield 62, 3) := dk_180 0 62 (dk_at dksX3_retire_3 7 rfl rfl)
theorem dX3_retire_81 : decode cX3_retire 81 = .ok (.aload_n 1, 1) := dk_43 (dk_at dksX3_retire_3 10 rfl rfl)
theorem dX3_retire_82 : decode cX3_retire 82 = .ok (.bipush 8, 2) := dk_16 8 (dk_at dksX3_retire_3 11 rfl rfl)
theorem dX3_retire_84 : decode cX3_retire 84 = .ok (.iaload, 1) := dk_46 (dk_at dksX3_retire_3 13 rfl rfl)
theorem dX3_retire_85 : decode cX3_retire 85 = .ok (.iaload, 1) := dk_46 (dk_at dksX3_retire_3 14 rfl rfl)
theorem dX3_retire_86 : decode cX3_retire 86 = .ok (.ldc_w 306, 3) := dk_19 1 50 (dk_at dksX3_retire_3 15 rfl rfl)
theorem dX3_retire_89 : decode cX3_retire 89 = .ok (.iand, 1) := dk_126 (dk_at dksX3_retire_3 18 rfl rfl)
theorem dX3_retire_90 : decode cX3_retire 90 = .ok (.ior, 1) := dk_128 (dk_at dksX3_retire_3 19 rfl rfl)
theorem dX3_retire_91 : decode cX3_retire 91 = .ok (.iastore, 1) := dk_79 (dk_at dksX3_retire_3 20 rfl rfl)
theorem dX3_retire_92 : decode cX3_retire 92 = .ok (.iload_n 3, 1) := dk_29 (dk_at dksX3_retire_3 21 rfl rfl)
theorem dX3_retire_93 : decode cX3_retire 93 = .ok (.invokestatic 209, 3) := dk_184 0 209 (dk_at dksX3_retire_4 0 rfl rfl)
theorem dX3_retire_96 : decode cX3_retire 96 = .ok (.ifCond .eq 41, 3) := dk_153 0 41 (dk_at dksX3_retire_4 3 rfl rfl)
theorem dX3_retire_99 : decode cX3_retire 99 = .ok (.aload_n 0, 1) := dk_42 (dk_at dksX3_retire_4 6 rfl rfl)
theorem dX3_retire_100 : decode cX3_retire 100 = .ok (.getfield 59, 3) := dk_180 0 59 (dk_at dksX3_retire_4 7 rfl rfl)
theorem dX3_retire_103 : decode cX3_retire 103 = .ok (.aload_n 0, 1) := dk_42 (dk_at dksX3_retire_4 10 rfl rfl)
theorem dX3_retire_104 : decode cX3_retire 104 = .ok (.getfield 13, 3) := dk_180 0 13 (dk_at dksX3_retire_4 11 rfl rfl)
theorem dX3_retire_107 : decode cX3_retire 107 = .ok (.iload_n 2, 1) := dk_28 (dk_at dksX3_retire_4 14 rfl rfl)
theorem dX3_retire_108 : decode cX3_retire 108 = .ok (.iaload, 1) := dk_46 (dk_at dksX3_retire_4 15 rfl rfl)
theorem dX3_retire_109 : decode cX3_retire 109 = .ok (.aload_n 1, 1) := dk_43 (dk_at dksX3_retire_4 16 rfl rfl)
theorem dX3_retire_110 : decode cX3_retire 110 = .ok (.bipush 9, 2) := dk_16 9 (dk_at dksX3_retire_4 17 rfl rfl)
theorem dX3_retire_112 : decode cX3_retire 112 = .ok (.iaload, 1) := dk_46 (dk_at dksX3_retire_4 19 rfl rfl)
theorem dX3_retire_113 : decode cX3_retire 113 = .ok (.iastore, 1) := dk_79 (dk_at dksX3_retire_4 20 rfl rfl)
theorem dX3_retire_114 : decode cX3_retire 114 = .ok (.aload_n 0, 1) := dk_42 (dk_at dksX3_retire_4 21 rfl rfl)
theorem dX3_retire_115 : decode cX3_retire 115 = .ok (.getfield 69, 3) := dk_180 0 69 (dk_at dksX3_retire_5 0 rfl rfl)
theorem dX3_retire_118 : decode cX3_retire 118 = .ok (.aload_n 0, 1) := dk_42 (dk_at dksX3_retire_5 3 rfl rfl)
theorem dX3_retire_119 : decode cX3_retire 119 = .ok (.getfield 126, 3) := dk_180 0 126 (dk_at dksX3_retire_5 4 rfl rfl)
theorem dX3_retire_122 : decode cX3_retire 122 = .ok (.aload_n 1, 1) := dk_43 (dk_at dksX3_retire_5 7 rfl rfl)
theorem dX3_retire_123 : decode cX3_retire 123 = .ok (.bipush 10, 2) := dk_16 10 (dk_at dksX3_retire_5 8 rfl rfl)
theorem dX3_retire_125 : decode cX3_retire 125 = .ok (.iaload, 1) := dk_46 (dk_at dksX3_retire_5 10 rfl rfl)
theorem dX3_retire_126 : decode cX3_retire 126 = .ok (.iastore, 1) := dk_79 (dk_at dksX3_retire_5 11 rfl rfl)
theorem dX3_retire_127 : decode cX3_retire 127 = .ok (.aload_n 0, 1) := dk_42 (dk_at dksX3_retire_5 12 rfl rfl)
theorem dX3_retire_128 : decode cX3_retire 128 = .ok (.dup, 1) := dk_89 (dk_at dksX3_retire_5 13 rfl rfl)
theorem dX3_retire_129 : decode cX3_retire 129 = .ok (.getfield 126, 3) := dk_180 0 126 (dk_at dksX3_retire_5 14 rfl rfl)
theorem dX3_retire_132 : decode cX3_retire 132 = .ok (.iconst 1, 1) := dk_4 (dk_at dksX3_retire_5 17 rfl rfl)
theorem dX3_retire_133 : decode cX3_retire 133 = .ok (.iadd, 1) := dk_96 (dk_at dksX3_retire_5 18 rfl rfl)
theorem dX3_retire_134 : decode cX3_retire 134 = .ok (.putfield 126, 3) := dk_181 0 126 (dk_at dksX3_retire_5 19 rfl rfl)
theorem dX3_retire_137 : decode cX3_retire 137 = .ok (.iload_n 3, 1) := dk_29 (dk_at dksX3_retire_5 22 rfl rfl)
theorem dX3_retire_138 : decode cX3_retire 138 = .ok (.bipush 12, 2) := dk_16 12 (dk_at dksX3_retire_6 0 rfl rfl)
theorem dX3_retire_140 : decode cX3_retire 140 = .ok (.if_icmp .eq 9, 3) := dk_159 0 9 (dk_at dksX3_retire_6 2 rfl rfl)
theorem dX3_retire_143 : decode cX3_retire 143 = .ok (.iload_n 3, 1) := dk_29 (dk_at dksX3_retire_6 5 rfl rfl)
theorem dX3_retire_144 : decode cX3_retire 144 = .ok (.bipush 13, 2) := dk_16 13 (dk_at dksX3_retire_6 6 rfl rfl)
theorem dX3_retire_146 : decode cX3_retire 146 = .ok (.if_icmp .ne 104, 3) := dk_160 0 104 (dk_at dksX3_retire_6 8 rfl rfl)
theorem dX3_retire_149 : decode cX3_retire 149 = .ok (.aload_n 0, 1) := dk_42 (dk_at dksX3_retire_6 11 rfl rfl)
theorem dX3_retire_150 : decode cX3_retire 150 = .ok (.getfield 62, 3) := dk_180 0 62 (dk_at dksX3_retire_6 12 rfl rfl)
theorem dX3_retire_153 : decode cX3_retire 153 = .ok (.aload_n 1, 1) := dk_43 (dk_at dksX3_retire_6 15 rfl rfl)
theorem dX3_retire_154 : decode cX3_retire 154 = .ok (.bipush 7, 2) := dk_16 7 (dk_at dksX3_retire_6 16 rfl rfl)
theorem dX3_retire_156 : decode cX3_retire 156 = .ok (.iaload, 1) := dk_46 (dk_at dksX3_retire_6 18 rfl rfl)
theorem dX3_retire_157 : decode cX3_retire 157 = .ok (.iaload, 1) := dk_46 (dk_at dksX3_retire_6 19 rfl rfl)
theorem dX3_retire_158 : decode cX3_retire 158 = .ok (.istore 4, 2) := dk_54 4 (dk_at dksX3_retire_6 20 rfl rfl)
theorem dX3_retire_160 : decode cX3_retire 160 = .ok (.aload_n 0, 1) := dk_42 (dk_at dksX3_retire_6 22 rfl rfl)
theorem dX3_retire_161 : decode cX3_retire 161 = .ok (.getfield 62, 3) := dk_180 0 62 (dk_at dksX3_retire_7 0 rfl rfl)
theorem dX3_retire_164 : decode cX3_retire 164 = .ok (.aload_n 1, 1) := dk_43 (dk_at dksX3_retire_7 3 rfl rfl)
theorem dX3_retire_165 : decode cX3_retire 165 = .ok (.bipush 8, 2) := dk_16 8 (dk_at dksX3_retire_7 4 rfl rfl)
theorem dX3_retire_167 : decode cX3_retire 167 = .ok (.iaload, 1) := dk_46 (dk_at dksX3_retire_7 6 rfl rfl)
theorem dX3_retire_168 : decode cX3_retire 168 = .ok (.iaload, 1) := dk_46 (dk_at dksX3_retire_7 7 rfl rfl)
theorem dX3_retire_169 : decode cX3_retire 169 = .ok (.istore 5, 2) := dk_54 5 (dk_at dksX3_retire_7 8 rfl rfl)
theorem dX3_retire_171 : decode cX3_retire 171 = .ok (.iload_n 3, 1) := dk_29 (dk_at dksX3_retire_7 10 rfl rfl)
theorem dX3_retire_172 : decode cX3_retire 172 = .ok (.bipush 12, 2) := dk_16 12 (dk_at dksX3_retire_7 11 rfl rfl)
theorem dX3_retire_174 : decode cX3_retire 174 = .ok (.if_icmp .ne 18, 3) := dk_160 0 18 (dk_at dksX3_retire_7 13 rfl rfl)
theorem dX3_retire_177 : decode cX3_retire 177 = .ok (.iload 4, 2) := dk_21 4 (dk_at dksX3_retire_7 16 rfl rfl)
theorem dX3_retire_179 : decode cX3_retire 179 = .ok (.iload 5, 2) := dk_21 5 (dk_at dksX3_retire_7 18 rfl rfl)
theorem dX3_retire_181 : decode cX3_retire 181 = .ok (.if_icmp .ne 7, 3) := dk_160 0 7 (dk_at dksX3_retire_7 20 rfl rfl)
theorem dX3_retire_184 : decode cX3_retire 184 = .ok (.iconst 1, 1) := dk_4 (dk_at dksX3_retire_7 23 rfl rfl)
theorem dX3_retire_185 : decode cX3_retire 185 = .ok (.goto 19, 3) := dk_167 0 19 (dk_at dksX3_retire_8 0 rfl rfl)
theorem dX3_retire_188 : decode cX3_retire 188 = .ok (.iconst 0, 1) := dk_3 (dk_at dksX3_retire_8 3 rfl rfl)
theorem dX3_retire_189 : decode cX3_retire 189 = .ok (.goto 15, 3) := dk_167 0 15 (dk_at dksX3_retire_8 4 rfl rfl)
theorem dX3_retire_192 : decode cX3_retire 192 = .ok (.iload 4, 2) := dk_21 4 (dk_at dksX3_retire_8 7 rfl rfl)
theorem dX3_retire_194 : decode cX3_retire 194 = .ok (.iload 5, 2) := dk_21 5 (dk_at dksX3_retire_8 9 rfl rfl)
theorem dX3_retire_196 : decode cX3_retire 196 = .ok (.if_icmp .ge 7, 3) := dk_162 0 7 (dk_at dksX3_retire_8 11 rfl rfl)
theorem dX3_retire_199 : decode cX3_retire 199 = .ok (.iconst 1, 1) := dk_4 (dk_at dksX3_retire_8 14 rfl rfl)
theorem dX3_retire_200 : decode cX3_retire 200 = .ok (.goto 4, 3) := dk_167 0 4 (dk_at dksX3_retire_8 15 rfl rfl)
theorem dX3_retire_203 : decode cX3_retire 203 = .ok (.iconst 0, 1) := dk_3 (dk_at dksX3_retire_8 18 rfl rfl)
theorem dX3_retire_204 : decode cX3_retire 204 = .ok (.istore 6, 2) := dk_54 6 (dk_at dksX3_retire_8 19 rfl rfl)
theorem dX3_retire_206 : decode cX3_retire 206 = .ok (.aload_n 0, 1) := dk_42 (dk_at dksX3_retire_8 21 rfl rfl)
theorem dX3_retire_207 : decode cX3_retire 207 = .ok (.getfield 83, 3) := dk_180 0 83 (dk_at dksX3_retire_9 0 rfl rfl)
theorem dX3_retire_210 : decode cX3_retire 210 = .ok (.iload_n 2, 1) := dk_28 (dk_at dksX3_retire_9 3 rfl rfl)
theorem dX3_retire_211 : decode cX3_retire 211 = .ok (.bipush 16, 2) := dk_16 16 (dk_at dksX3_retire_9 4 rfl rfl)
theorem dX3_retire_213 : decode cX3_retire 213 = .ok (.irem, 1) := dk_112 (dk_at dksX3_retire_9 6 rfl rfl)
theorem dX3_retire_214 : decode cX3_retire 214 = .ok (.iaload, 1) := dk_46 (dk_at dksX3_retire_9 7 rfl rfl)
theorem dX3_retire_215 : decode cX3_retire 215 = .ok (.istore 7, 2) := dk_54 7 (dk_at dksX3_retire_9 8 rfl rfl)
theorem dX3_retire_217 : decode cX3_retire 217 = .ok (.aload_n 0, 1) := dk_42 (dk_at dksX3_retire_9 10 rfl rfl)
theorem dX3_retire_218 : decode cX3_retire 218 = .ok (.getfield 83, 3) := dk_180 0 83 (dk_at dksX3_retire_9 11 rfl rfl)
theorem dX3_retire_221 : decode cX3_retire 221 = .ok (.iload_n 2, 1) := dk_28 (dk_at dksX3_retire_9 14 rfl rfl)
theorem dX3_retire_222 : decode cX3_retire 222 = .ok (.bipush 16, 2) := dk_16 16 (dk_at dksX3_retire_9 15 rfl rfl)
theorem dX3_retire_224 : decode cX3_retire 224 = .ok (.irem, 1) := dk_112 (dk_at dksX3_retire_9 17 rfl rfl)
theorem dX3_retire_225 : decode cX3_retire 225 = .ok (.iload 6, 2) := dk_21 6 (dk_at dksX3_retire_9 18 rfl rfl)
theorem dX3_retire_227 : decode cX3_retire 227 = .ok (.ifCond .eq 14, 3) := dk_153 0 14 (dk_at dksX3_retire_9 20 rfl rfl)
theorem dX3_retire_230 : decode cX3_retire 230 = .ok (.iconst 3, 1) := dk_6 (dk_at dksX3_retire_9 23 rfl rfl)
theorem dX3_retire_231 : decode cX3_retire 231 = .ok (.iload 7, 2) := dk_21 7 (dk_at dksX3_retire_10 0 rfl rfl)
theorem dX3_retire_233 : decode cX3_retire 233 = .ok (.iconst 1, 1) := dk_4 (dk_at dksX3_retire_10 2 rfl rfl)
theorem dX3_retire_234 : decode cX3_retire 234 = .ok (.iadd, 1) := dk_96 (dk_at dksX3_retire_10 3 rfl rfl)
theorem dX3_retire_235 : decode cX3_retire 235 = .ok (.invokestatic 256, 3) := dk_184 1 0 (dk_at dksX3_retire_10 4 rfl rfl)
theorem dX3_retire_238 : decode cX3_retire 238 = .ok (.goto 11, 3) := dk_167 0 11 (dk_at dksX3_retire_10 7 rfl rfl)
theorem dX3_retire_241 : decode cX3_retire 241 = .ok (.iconst 0, 1) := dk_3 (dk_at dksX3_retire_10 10 rfl rfl)
theorem dX3_retire_242 : decode cX3_retire 242 = .ok (.iload 7, 2) := dk_21 7 (dk_at dksX3_retire_10 11 rfl rfl)
theorem dX3_retire_244 : decode cX3_retire 244 = .ok (.iconst 1, 1) := dk_4 (dk_at dksX3_retire_10 13 rfl rfl)
theorem dX3_retire_245 : decode cX3_retire 245 = .ok (.isub, 1) := dk_100 (dk_at dksX3_retire_10 14 rfl rfl)
theorem dX3_retire_246 : decode cX3_retire 246 = .ok (.invokestatic 307, 3) := dk_184 1 51 (dk_at dksX3_retire_10 15 rfl rfl)
theorem dX3_retire_249 : decode cX3_retire 249 = .ok (.iastore, 1) := dk_79 (dk_at dksX3_retire_10 18 rfl rfl)
theorem dX3_retire_250 : decode cX3_retire 250 = .ok (.iload_n 3, 1) := dk_29 (dk_at dksX3_retire_10 19 rfl rfl)
theorem dX3_retire_251 : decode cX3_retire 251 = .ok (.bipush 17, 2) := dk_16 17 (dk_at dksX3_retire_10 20 rfl rfl)
theorem dX3_retire_253 : decode cX3_retire 253 = .ok (.if_icmp .ne 16, 3) := dk_160 0 16 (dk_at dksX3_retire_11 0 rfl rfl)
theorem dX3_retire_256 : decode cX3_retire 256 = .ok (.aload_n 0, 1) := dk_42 (dk_at dksX3_retire_11 3 rfl rfl)
theorem dX3_retire_257 : decode cX3_retire 257 = .ok (.getfield 86, 3) := dk_180 0 86 (dk_at dksX3_retire_11 4 rfl rfl)
theorem dX3_retire_260 : decode cX3_retire 260 = .ok (.iload_n 2, 1) := dk_28 (dk_at dksX3_retire_11 7 rfl rfl)
theorem dX3_retire_261 : decode cX3_retire 261 = .ok (.bipush 8, 2) := dk_16 8 (dk_at dksX3_retire_11 8 rfl rfl)
theorem dX3_retire_263 : decode cX3_retire 263 = .ok (.irem, 1) := dk_112 (dk_at dksX3_retire_11 10 rfl rfl)
theorem dX3_retire_264 : decode cX3_retire 264 = .ok (.aload_n 1, 1) := dk_43 (dk_at dksX3_retire_11 11 rfl rfl)
theorem dX3_retire_265 : decode cX3_retire 265 = .ok (.bipush 6, 2) := dk_16 6 (dk_at dksX3_retire_11 12 rfl rfl)
theorem dX3_retire_267 : decode cX3_retire 267 = .ok (.iaload, 1) := dk_46 (dk_at dksX3_retire_11 14 rfl rfl)
theorem dX3_retire_268 : decode cX3_retire 268 = .ok (.iastore, 1) := dk_79 (dk_at dksX3_retire_11 15 rfl rfl)
theorem dX3_retire_269 : decode cX3_retire 269 = .ok (.iload_n 3, 1) := dk_29 (dk_at dksX3_retire_11 16 rfl rfl)
theorem dX3_retire_270 : decode cX3_retire 270 = .ok (.bipush 21, 2) := dk_16 21 (dk_at dksX3_retire_11 17 rfl rfl)
theorem dX3_retire_272 : decode cX3_retire 272 = .ok (.if_icmp .ne 24, 3) := dk_160 0 24 (dk_at dksX3_retire_11 19 rfl rfl)
theorem dX3_retire_275 : decode cX3_retire 275 = .ok (.aload_n 0, 1) := dk_42 (dk_at dksX3_retire_11 22 rfl rfl)
theorem dX3_retire_276 : decode cX3_retire 276 = .ok (.iconst 0, 1) := dk_3 (dk_at dksX3_retire_11 23 rfl rfl)
theorem dX3_retire_277 : decode cX3_retire 277 = .ok (.putfield 291, 3) := dk_181 1 35 (dk_at dksX3_retire_12 0 rfl rfl)
theorem dX3_retire_280 : decode cX3_retire 280 = .ok (.aload_n 0, 1) := dk_42 (dk_at dksX3_retire_12 3 rfl rfl)
theorem dX3_retire_281 : decode cX3_retire 281 = .ok (.aload_n 0, 1) := dk_42 (dk_at dksX3_retire_12 4 rfl rfl)
theorem dX3_retire_282 : decode cX3_retire 282 = .ok (.getfield 288, 3) := dk_180 1 32 (dk_at dksX3_retire_12 5 rfl rfl)
theorem dX3_retire_285 : decode cX3_retire 285 = .ok (.putfield 294, 3) := dk_181 1 38 (dk_at dksX3_retire_12 8 rfl rfl)
theorem dX3_retire_288 : decode cX3_retire 288 = .ok (.aload_n 0, 1) := dk_42 (dk_at dksX3_retire_12 11 rfl rfl)
theorem dX3_retire_289 : decode cX3_retire 289 = .ok (.aload_n 0, 1) := dk_42 (dk_at dksX3_retire_12 12 rfl rfl)
theorem dX3_retire_290 : decode cX3_retire 290 = .ok (.getfield 288, 3) := dk_180 1 32 (dk_at dksX3_retire_12 13 rfl rfl)
theorem dX3_retire_293 : decode cX3_retire 293 = .ok (.invokevirtual 274, 3) := dk_182 1 18 (dk_at dksX3_retire_12 16 rfl rfl)
theorem dX3_retire_296 : decode cX3_retire 296 = .ok (.aload_n 0, 1) := dk_42 (dk_at dksX3_retire_12 19 rfl rfl)
theorem dX3_retire_297 : decode cX3_retire 297 = .ok (.iload_n 3, 1) := dk_29 (dk_at dksX3_retire_12 20 rfl rfl)
theorem dX3_retire_298 : decode cX3_retire 298 = .ok (.bipush 18, 2) := dk_16 18 (dk_at dksX3_retire_12 21 rfl rfl)
theorem dX3_retire_300 : decode cX3_retire 300 = .ok (.if_icmp .ne 7, 3) := dk_160 0 7 (dk_at dksX3_retire_13 0 rfl rfl)
theorem dX3_retire_303 : decode cX3_retire 303 = .ok (.iconst 1, 1) := dk_4 (dk_at dksX3_retire_13 3 rfl rfl)
theorem dX3_retire_304 : decode cX3_retire 304 = .ok (.goto 4, 3) := dk_167 0 4 (dk_at dksX3_retire_13 4 rfl rfl)
theorem dX3_retire_307 : decode cX3_retire 307 = .ok (.iconst 0, 1) := dk_3 (dk_at dksX3_retire_13 7 rfl rfl)
theorem dX3_retire_308 : decode cX3_retire 308 = .ok (.putfield 147, 3) := dk_181 0 147 (dk_at dksX3_retire_13 8 rfl rfl)
theorem dX3_retire_311 : decode cX3_retire 311 = .ok (.return_, 1) := dk_177 (dk_at dksX3_retire_13 11 rfl rfl)
def dkwX3_begins_10 : List UInt8 := [4, 182, 0, 228, 132, 4, 1, 167, 255, 20, 177]
abbrev dktX3_begins_10 : List UInt8 := dkwX3_begins_10 ++ []
def dkwX3_begins_9 : List UInt8 := [132, 3, 1, 42, 25, 5, 4, 182, 0, 228, 167, 0, 18, 27, 5, 162, 0, 13, 132, 1, 1, 42, 25, 5]
abbrev dktX3_begins_9 : List UInt8 := dkwX3_begins_9 ++ dktX3_begins_10
def dkwX3_begins_8 : List UInt8 := [42, 21, 4, 182, 0, 250, 153, 0, 7, 4, 167, 0, 4, 3, 96, 62, 167, 0, 35, 29, 154, 0, 31]
abbrev dktX3_begins_8 : List UInt8 := dkwX3_begins_8 ++ dktX3_begins_9
def dkwX3_begins_7 : List UInt8 := [21, 6, 16, 9, 16, 11, 184, 0, 129, 153, 0, 51, 29, 154, 0, 30, 21, 6, 16, 9, 160, 0, 23, 29]
abbrev dktX3_begins_7 : List UInt8 := dkwX3_begins_7 ++ dktX3_begins_8
def dkwX3_begins_6 : List UInt8 := [54, 7, 132, 8, 1, 167, 255, 202, 21, 7, 154, 0, 11, 42, 25, 5, 16, 6, 182, 0, 228, 167, 0, 78]
abbrev dktX3_begins_6 : List UInt8 := dkwX3_begins_6 ++ dktX3_begins_7
def dkwX3_begins_5 : List UInt8 := [160, 0, 22, 42, 180, 0, 74, 21, 8, 50, 16, 11, 46, 16, 120, 160, 0, 7, 4, 167, 0, 4, 3]
abbrev dktX3_begins_5 : List UInt8 := dkwX3_begins_5 ++ dktX3_begins_6
def dkwX3_begins_4 : List UInt8 := [42, 180, 0, 198, 162, 0, 51, 21, 7, 154, 0, 33, 42, 42, 180, 0, 74, 21, 8, 50, 182, 0, 201, 8]
abbrev dktX3_begins_4 : List UInt8 := dkwX3_begins_4 ++ dktX3_begins_5
def dkwX3_begins_3 : List UInt8 := [42, 25, 5, 6, 182, 0, 228, 167, 0, 163, 21, 6, 8, 160, 0, 82, 3, 54, 7, 3, 54, 8, 21, 8]
abbrev dktX3_begins_3 : List UInt8 := dkwX3_begins_3 ++ dktX3_begins_4
def dkwX3_begins_2 : List UInt8 := [21, 6, 182, 0, 246, 154, 0, 6, 167, 0, 186, 21, 6, 7, 160, 0, 20, 28, 154, 0, 176, 132, 2, 1]
abbrev dktX3_begins_2 : List UInt8 := dkwX3_begins_2 ++ dktX3_begins_3
def dkwX3_begins_1 : List UInt8 := [50, 58, 5, 42, 25, 5, 182, 0, 201, 54, 6, 25, 5, 16, 11, 46, 16, 113, 160, 0, 200, 42, 25, 5]
abbrev dktX3_begins_1 : List UInt8 := dkwX3_begins_1 ++ dktX3_begins_2
def dkwX3_begins_0 : List UInt8 := [3, 60, 3, 61, 3, 62, 3, 54, 4, 21, 4, 42, 180, 0, 198, 162, 0, 233, 42, 180, 0, 74, 21, 4]
abbrev dktX3_begins_0 : List UInt8 := dkwX3_begins_0 ++ dktX3_begins_1
theorem dksX3_begins_0 : cX3_begins.data.toList.drop 0 = dktX3_begins_0 := by decide +kernel
theorem dksX3_begins_1 : cX3_begins.data.toList.drop 24 = dktX3_begins_1 := dk_seg dksX3_begins_0 24 rfl rfl
theorem dksX3_begins_2 : cX3_begins.data.toList.drop 48 = dktX3_begins_2 := dk_seg dksX3_begins_1 24 rfl rfl
theorem dksX3_begins_3 : cX3_begins.data.toList.drop 72 = dktX3_begins_3 := dk_seg dksX3_begins_2 24 rfl rfl
theorem dksX3_begins_4 : cX3_begins.data.toList.drop 96 = dktX3_begins_4 := dk_seg dksX3_begins_3 24 rfl rfl
theorem dksX3_begins_5 : cX3_begins.data.toList.drop 120 = dktX3_begins_5 := dk_seg dksX3_begins_4 24 rfl rfl
theorem dksX3_begins_6 : cX3_begins.data.toList.drop 143 = dktX3_begins_6 := dk_seg dksX3_begins_5 23 rfl rfl
theorem dksX3_begins_7 : cX3_begins.data.toList.drop 167 = dktX3_begins_7 := dk_seg dksX3_begins_6 24 rfl rfl
theorem dksX3_begins_8 : cX3_begins.data.toList.drop 191 = dktX3_begins_8 := dk_seg dksX3_begins_7 24 rfl rfl
theorem dksX3_begins_9 : cX3_begins.data.toList.drop 214 = dktX3_begins_9 := dk_seg dksX3_begins_8 23 rfl rfl
theorem dksX3_begins_10 : cX3_begins.data.toList.drop 238 = dktX3_begins_10 := dk_seg dksX3_begins_9 24 rfl rfl
theorem dX3_begins_0 : decode cX3_begins 0 = .ok (.iconst 0, 1) := dk_3 (dk_at dksX3_begins_0 0 rfl rfl)
theorem dX3_begins_1 : decode cX3_begins 1 = .ok (.istore_n 1, 1) := dk_60 (dk_at dksX3_begins_0 1 rfl rfl)
theorem dX3_begins_2 : decode cX3_begins 2 = .ok (.iconst 0, 1) := dk_3 (dk_at dksX3_begins_0 2 rfl rfl)
theorem dX3_begins_3 : decode cX3_begins 3 = .ok (.istore_n 2, 1) := dk_61 (dk_at dksX3_begins_0 3 rfl rfl)
theorem dX3_begins_4 : decode cX3_begins 4 = .ok (.iconst 0, 1) := dk_3 (dk_at dksX3_begins_0 4 rfl rfl)
theorem dX3_begins_5 : decode cX3_begins 5 = .ok (.istore_n 3, 1) := dk_62 (dk_at dksX3_begins_0 5 rfl rfl)
theorem dX3_begins_6 : decode cX3_begins 6 = .ok (.iconst 0, 1) := dk_3 (dk_at dksX3_begins_0 6 rfl rfl)
theorem dX3_begins_7 : decode cX3_begins 7 = .ok (.istore 4, 2) := dk_54 4 (dk_at dksX3_begins_0 7 rfl rfl)
theorem dX3_begins_9 : decode cX3_begins 9 = .ok (.iload 4, 2) := dk_21 4 (dk_at dksX3_begins_0 9 rfl rfl)
theorem dX3_begins_11 : decode cX3_begins 11 = .ok (.aload_n 0, 1) := dk_42 (dk_at dksX3_begins_0 11 rfl rfl)
theorem dX3_begins_12 : decode cX3_begins 12 = .ok (.getfield 198, 3) := dk_180 0 198 (dk_at dksX3_begins_0 12 rfl rfl)
theorem dX3_begins_15 : decode cX3_begins 15 = .ok (.if_icmp .ge 233, 3) := dk_162 0 233 (dk_at dksX3_begins_0 15 rfl rfl)
theorem dX3_begins_18 : decode cX3_begins 18 = .ok (.aload_n 0, 1) := dk_42 (dk_at dksX3_begins_0 18 rfl rfl)
theorem dX3_begins_19 : decode cX3_begins 19 = .ok (.getfield 74, 3) := dk_180 0 74 (dk_at dksX3_begins_0 19 rfl rfl)
theorem dX3_begins_22 : decode cX3_begins 22 = .ok (.iload 4, 2) := dk_21 4 (dk_at dksX3_begins_0 22 rfl rfl)
theorem dX3_begins_24 : decode cX3_begins 24 = .ok (.aaload, 1) := dk_50 (dk_at dksX3_begins_1 0 rfl rfl)
theorem dX3_begins_25 : decode cX3_begins 25 = .ok (.astore 5, 2) := dk_58 5 (dk_at dksX3_begins_1 1 rfl rfl)
theorem dX3_begins_27 : decode cX3_begins 27 = .ok (.aload_n 0, 1) := dk_42 (dk_at dksX3_begins_1 3 rfl rfl)
theorem dX3_begins_28 : decode cX3_begins 28 = .ok (.aload 5, 2) := dk_25 5 (dk_at dksX3_begins_1 4 rfl rfl)
theorem dX3_begins_30 : decode cX3_begins 30 = .ok (.invokevirtual 201, 3) := dk_182 0 201 (dk_at dksX3_begins_1 6 rfl rfl)
theorem dX3_begins_33 : decode cX3_begins 33 = .ok (.istore 6, 2) := dk_54 6 (dk_at dksX3_begins_1 9 rfl rfl)
theorem dX3_begins_35 : decode cX3_begins 35 = .ok (.aload 5, 2) := dk_25 5 (dk_at dksX3_begins_1 11 rfl rfl)
theorem dX3_begins_37 : decode cX3_begins 37 = .ok (.bipush 11, 2) := dk_16 11 (dk_at dksX3_begins_1 13 rfl rfl)
theorem dX3_begins_39 : decode cX3_begins 39 = .ok (.iaload, 1) := dk_46 (dk_at dksX3_begins_1 15 rfl rfl)
theorem dX3_begins_40 : decode cX3_begins 40 = .ok (.bipush 113, 2) := dk_16 113 (dk_at dksX3_begins_1 16 rfl rfl)
theorem dX3_begins_42 : decode cX3_begins 42 = .ok (.if_icmp .ne 200, 3) := dk_160 0 200 (dk_at dksX3_begins_1 18 rfl rfl)
theorem dX3_begins_45 : decode cX3_begins 45 = .ok (.aload_n 0, 1) := dk_42 (dk_at dksX3_begins_1 21 rfl rfl)
theorem dX3_begins_46 : decode cX3_begins 46 = .ok (.aload 5, 2) := dk_25 5 (dk_at dksX3_begins_1 22 rfl rfl)
theorem dX3_begins_48 : decode cX3_begins 48 = .ok (.iload 6, 2) := dk_21 6 (dk_at dksX3_begins_2 0 rfl rfl)
theorem dX3_begins_50 : decode cX3_begins 50 = .ok (.invokevirtual 246, 3) := dk_182 0 246 (dk_at dksX3_begins_2 2 rfl rfl)
theorem dX3_begins_53 : decode cX3_begins 53 = .ok (.ifCond .ne 6, 3) := dk_154 0 6 (dk_at dksX3_begins_2 5 rfl rfl)
theorem dX3_begins_56 : decode cX3_begins 56 = .ok (.goto 186, 3) := dk_167 0 186 (dk_at dksX3_begins_2 8 rfl rfl)
theorem dX3_begins_59 : decode cX3_begins 59 = .ok (.iload 6, 2) := dk_21 6 (dk_at dksX3_begins_2 11 rfl rfl)
theorem dX3_begins_61 : decode cX3_begins 61 = .ok (.iconst 4, 1) := dk_7 (dk_at dksX3_begins_2 13 rfl rfl)
theorem dX3_begins_62 : decode cX3_begins 62 = .ok (.if_icmp .ne 20, 3) := dk_160 0 20 (dk_at dksX3_begins_2 14 rfl rfl)
theorem dX3_begins_65 : decode cX3_begins 65 = .ok (.iload_n 2, 1) := dk_28 (dk_at dksX3_begins_2 17 rfl rfl)
theorem dX3_begins_66 : decode cX3_begins 66 = .ok (.ifCond .ne 176, 3) := dk_154 0 176 (dk_at dksX3_begins_2 18 rfl rfl)
theorem dX3_begins_69 : decode cX3_begins 69 = .ok (.iinc 2 1, 3) := dk_132 2 1 (dk_at dksX3_begins_2 21 rfl rfl)
theorem dX3_begins_72 : decode cX3_begins 72 = .ok (.aload_n 0, 1) := dk_42 (dk_at dksX3_begins_3 0 rfl rfl)
theorem dX3_begins_73 : decode cX3_begins 73 = .ok (.aload 5, 2) := dk_25 5 (dk_at dksX3_begins_3 1 rfl rfl)
theorem dX3_begins_75 : decode cX3_begins 75 = .ok (.iconst 3, 1) := dk_6 (dk_at dksX3_begins_3 3 rfl rfl)
theorem dX3_begins_76 : decode cX3_begins 76 = .ok (.invokevirtual 228, 3) := dk_182 0 228 (dk_at dksX3_begins_3 4 rfl rfl)
theorem dX3_begins_79 : decode cX3_begins 79 = .ok (.goto 163, 3) := dk_167 0 163 (dk_at dksX3_begins_3 7 rfl rfl)
theorem dX3_begins_82 : decode cX3_begins 82 = .ok (.iload 6, 2) := dk_21 6 (dk_at dksX3_begins_3 10 rfl rfl)
theorem dX3_begins_84 : decode cX3_begins 84 = .ok (.iconst 5, 1) := dk_8 (dk_at dksX3_begins_3 12 rfl rfl)
theorem dX3_begins_85 : decode cX3_begins 85 = .ok (.if_icmp .ne 82, 3) := dk_160 0 82 (dk_at dksX3_begins_3 13 rfl rfl)
theorem dX3_begins_88 : decode cX3_begins 88 = .ok (.iconst 0, 1) := dk_3 (dk_at dksX3_begins_3 16 rfl rfl)
theorem dX3_begins_89 : decode cX3_begins 89 = .ok (.istore 7, 2) := dk_54 7 (dk_at dksX3_begins_3 17 rfl rfl)
theorem dX3_begins_91 : decode cX3_begins 91 = .ok (.iconst 0, 1) := dk_3 (dk_at dksX3_begins_3 19 rfl rfl)
theorem dX3_begins_92 : decode cX3_begins 92 = .ok (.istore 8, 2) := dk_54 8 (dk_at dksX3_begins_3 20 rfl rfl)
theorem dX3_begins_94 : decode cX3_begins 94 = .ok (.iload 8, 2) := dk_21 8 (dk_at dksX3_begins_3 22 rfl rfl)
theorem dX3_begins_96 : decode cX3_begins 96 = .ok (.aload_n 0, 1) := dk_42 (dk_at dksX3_begins_4 0 rfl rfl)
theorem dX3_begins_97 : decode cX3_begins 97 = .ok (.getfield 198, 3) := dk_180 0 198 (dk_at dksX3_begins_4 1 rfl rfl)
theorem dX3_begins_100 : decode cX3_begins 100 = .ok (.if_icmp .ge 51, 3) := dk_162 0 51 (dk_at dksX3_begins_4 4 rfl rfl)
theorem dX3_begins_103 : decode cX3_begins 103 = .ok (.iload 7, 2) := dk_21 7 (dk_at dksX3_begins_4 7 rfl rfl)
theorem dX3_begins_105 : decode cX3_begins 105 = .ok (.ifCond .ne 33, 3) := dk_154 0 33 (dk_at dksX3_begins_4 9 rfl rfl)
theorem dX3_begins_108 : decode cX3_begins 108 = .ok (.aload_n 0, 1) := dk_42 (dk_at dksX3_begins_4 12 rfl rfl)
theorem dX3_begins_109 : decode cX3_begins 109 = .ok (.aload_n 0, 1) := dk_42 (dk_at dksX3_begins_4 13 rfl rfl)
theorem dX3_begins_110 : decode cX3_begins 110 = .ok (.getfield 74, 3) := dk_180 0 74 (dk_at dksX3_begins_4 14 rfl rfl)
theorem dX3_begins_113 : decode cX3_begins 113 = .ok (.iload 8, 2) := dk_21 8 (dk_at dksX3_begins_4 17 rfl rfl)
theorem dX3_begins_115 : decode cX3_begins 115 = .ok (.aaload, 1) := dk_50 (dk_at dksX3_begins_4 19 rfl rfl)
theorem dX3_begins_116 : decode cX3_begins 116 = .ok (.invokevirtual 201, 3) := dk_182 0 201 (dk_at dksX3_begins_4 20 rfl rfl)
theorem dX3_begins_119 : decode cX3_begins 119 = .ok (.iconst 5, 1) := dk_8 (dk_at dksX3_begins_4 23 rfl rfl)
theorem dX3_begins_120 : decode cX3_begins 120 = .ok (.if_icmp .ne 22, 3) := dk_160 0 22 (dk_at dksX3_begins_5 0 rfl rfl)
theorem dX3_begins_123 : decode cX3_begins 123 = .ok (.aload_n 0, 1) := dk_42 (dk_at dksX3_begins_5 3 rfl rfl)
theorem dX3_begins_124 : decode cX3_begins 124 = .ok (.getfield 74, 3) := dk_180 0 74 (dk_at dksX3_begins_5 4 rfl rfl)
theorem dX3_begins_127 : decode cX3_begins 127 = .ok (.iload 8, 2) := dk_21 8 (dk_at dksX3_begins_5 7 rfl rfl)
theorem dX3_begins_129 : decode cX3_begins 129 = .ok (.aaload, 1) := dk_50 (dk_at dksX3_begins_5 9 rfl rfl)
theorem dX3_begins_130 : decode cX3_begins 130 = .ok (.bipush 11, 2) := dk_16 11 (dk_at dksX3_begins_5 10 rfl rfl)
theorem dX3_begins_132 : decode cX3_begins 132 = .ok (.iaload, 1) := dk_46 (dk_at dksX3_begins_5 12 rfl rfl)
theorem dX3_begins_133 : decode cX3_begins 133 = .ok (.bipush 120, 2) := dk_16 120 (dk_at dksX3_begins_5 13 rfl rfl)
theorem dX3_begins_135 : decode cX3_begins 135 = .ok (.if_icmp .ne 7, 3) := dk_160 0 7 (dk_at dksX3_begins_5 15 rfl rfl)
theorem dX3_begins_138 : decode cX3_begins 138 = .ok (.iconst 1, 1) := dk_4 (dk_at dksX3_begins_5 18 rfl rfl)
theorem dX3_begins_139 : decode cX3_begins 139 = .ok (.goto 4, 3) := dk_167 0 4 (dk_at dksX3_begins_5 19 rfl rfl)
theorem dX3_begins_142 : decode cX3_begins 142 = .ok (.iconst 0, 1) := dk_3 (dk_at dksX3_begins_5 22 rfl rfl)
theorem dX3_begins_143 : decode cX3_begins 143 = .ok (.istore 7, 2) := dk_54 7 (dk_at dksX3_begins_6 0 rfl rfl)
theorem dX3_begins_145 : decode cX3_begins 145 = .ok (.iinc 8 1, 3) := dk_132 8 1 (dk_at dksX3_begins_6 2 rfl rfl)
theorem dX3_begins_148 : decode cX3_begins 148 = .ok (.goto (-54), 3) := dk_167 255 202 (dk_at dksX3_begins_6 5 rfl rfl)
theorem dX3_begins_151 : decode cX3_begins 151 = .ok (.iload 7, 2) := dk_21 7 (dk_at dksX3_begins_6 8 rfl rfl)
theorem dX3_begins_153 : decode cX3_begins 153 = .ok (.ifCond .ne 11, 3) := dk_154 0 11 (dk_at dksX3_begins_6 10 rfl rfl)
theorem dX3_begins_156 : decode cX3_begins 156 = .ok (.aload_n 0, 1) := dk_42 (dk_at dksX3_begins_6 13 rfl rfl)
theorem dX3_begins_157 : decode cX3_begins 157 = .ok (.aload 5, 2) := dk_25 5 (dk_at dksX3_begins_6 14 rfl rfl)
theorem dX3_begins_159 : decode cX3_begins 159 = .ok (.bipush 6, 2) := dk_16 6 (dk_at dksX3_begins_6 16 rfl rfl)
theorem dX3_begins_161 : decode cX3_begins 161 = .ok (.invokevirtual 228, 3) := dk_182 0 228 (dk_at dksX3_begins_6 18 rfl rfl)
theorem dX3_begins_164 : decode cX3_begins 164 = .ok (.goto 78, 3) := dk_167 0 78 (dk_at dksX3_begins_6 21 rfl rfl)
theorem dX3_begins_167 : decode cX3_begins 167 = .ok (.iload 6, 2) := dk_21 6 (dk_at dksX3_begins_7 0 rfl rfl)
theorem dX3_begins_169 : decode cX3_begins 169 = .ok (.bipush 9, 2) := dk_16 9 (dk_at dksX3_begins_7 2 rfl rfl)
theorem dX3_begins_171 : decode cX3_begins 171 = .ok (.bipush 11, 2) := dk_16 11 (dk_at dksX3_begins_7 4 rfl rfl)
theorem dX3_begins_173 : decode cX3_begins 173 = .ok (.invokestatic 129, 3) := dk_184 0 129 (dk_at dksX3_begins_7 6 rfl rfl)
theorem dX3_begins_176 : decode cX3_begins 176 = .ok (.ifCond .eq 51, 3) := dk_153 0 51 (dk_at dksX3_begins_7 9 rfl rfl)
theorem dX3_begins_179 : decode cX3_begins 179 = .ok (.iload_n 3, 1) := dk_29 (dk_at dksX3_begins_7 12 rfl rfl)
theorem dX3_begins_180 : decode cX3_begins 180 = .ok (.ifCond .ne 30, 3) := dk_154 0 30 (dk_at dksX3_begins_7 13 rfl rfl)
theorem dX3_begins_183 : decode cX3_begins 183 = .ok (.iload 6, 2) := dk_21 6 (dk_at dksX3_begins_7 16 rfl rfl)
theorem dX3_begins_185 : decode cX3_begins 185 = .ok (.bipush 9, 2) := dk_16 9 (dk_at dksX3_begins_7 18 rfl rfl)
theorem dX3_begins_187 : decode cX3_begins 187 = .ok (.if_icmp .ne 23, 3) := dk_160 0 23 (dk_at dksX3_begins_7 20 rfl rfl)
theorem dX3_begins_190 : decode cX3_begins 190 = .ok (.iload_n 3, 1) := dk_29 (dk_at dksX3_begins_7 23 rfl rfl)
theorem dX3_begins_191 : decode cX3_begins 191 = .ok (.aload_n 0, 1) := dk_42 (dk_at dksX3_begins_8 0 rfl rfl)
theorem dX3_begins_192 : decode cX3_begins 192 = .ok (.iload 4, 2) := dk_21 4 (dk_at dksX3_begins_8 1 rfl rfl)
theorem dX3_begins_194 : decode cX3_begins 194 = .ok (.invokevirtual 250, 3) := dk_182 0 250 (dk_at dksX3_begins_8 3 rfl rfl)
theorem dX3_begins_197 : decode cX3_begins 197 = .ok (.ifCond .eq 7, 3) := dk_153 0 7 (dk_at dksX3_begins_8 6 rfl rfl)
theorem dX3_begins_200 : decode cX3_begins 200 = .ok (.iconst 1, 1) := dk_4 (dk_at dksX3_begins_8 9 rfl rfl)
theorem dX3_begins_201 : decode cX3_begins 201 = .ok (.goto 4, 3) := dk_167 0 4 (dk_at dksX3_begins_8 10 rfl rfl)
theorem dX3_begins_204 : decode cX3_begins 204 = .ok (.iconst 0, 1) := dk_3 (dk_at dksX3_begins_8 13 rfl rfl)
theorem dX3_begins_205 : decode cX3_begins 205 = .ok (.iadd, 1) := dk_96 (dk_at dksX3_begins_8 14 rfl rfl)
theorem dX3_begins_206 : decode cX3_begins 206 = .ok (.istore_n 3, 1) := dk_62 (dk_at dksX3_begins_8 15 rfl rfl)
theorem dX3_begins_207 : decode cX3_begins 207 = .ok (.goto 35, 3) := dk_167 0 35 (dk_at dksX3_begins_8 16 rfl rfl)
theorem dX3_begins_210 : decode cX3_begins 210 = .ok (.iload_n 3, 1) := dk_29 (dk_at dksX3_begins_8 19 rfl rfl)
theorem dX3_begins_211 : decode cX3_begins 211 = .ok (.ifCond .ne 31, 3) := dk_154 0 31 (dk_at dksX3_begins_8 20 rfl rfl)
theorem dX3_begins_214 : decode cX3_begins 214 = .ok (.iinc 3 1, 3) := dk_132 3 1 (dk_at dksX3_begins_9 0 rfl rfl)
theorem dX3_begins_217 : decode cX3_begins 217 = .ok (.aload_n 0, 1) := dk_42 (dk_at dksX3_begins_9 3 rfl rfl)
theorem dX3_begins_218 : decode cX3_begins 218 = .ok (.aload 5, 2) := dk_25 5 (dk_at dksX3_begins_9 4 rfl rfl)
theorem dX3_begins_220 : decode cX3_begins 220 = .ok (.iconst 1, 1) := dk_4 (dk_at dksX3_begins_9 6 rfl rfl)
theorem dX3_begins_221 : decode cX3_begins 221 = .ok (.invokevirtual 228, 3) := dk_182 0 228 (dk_at dksX3_begins_9 7 rfl rfl)
theorem dX3_begins_224 : decode cX3_begins 224 = .ok (.goto 18, 3) := dk_167 0 18 (dk_at dksX3_begins_9 10 rfl rfl)
theorem dX3_begins_227 : decode cX3_begins 227 = .ok (.iload_n 1, 1) := dk_27 (dk_at dksX3_begins_9 13 rfl rfl)
theorem dX3_begins_228 : decode cX3_begins 228 = .ok (.iconst 2, 1) := dk_5 (dk_at dksX3_begins_9 14 rfl rfl)
theorem dX3_begins_229 : decode cX3_begins 229 = .ok (.if_icmp .ge 13, 3) := dk_162 0 13 (dk_at dksX3_begins_9 15 rfl rfl)
theorem dX3_begins_232 : decode cX3_begins 232 = .ok (.iinc 1 1, 3) := dk_132 1 1 (dk_at dksX3_begins_9 18 rfl rfl)
theorem dX3_begins_235 : decode cX3_begins 235 = .ok (.aload_n 0, 1) := dk_42 (dk_at dksX3_begins_9 21 rfl rfl)
theorem dX3_begins_236 : decode cX3_begins 236 = .ok (.aload 5, 2) := dk_25 5 (dk_at dksX3_begins_9 22 rfl rfl)
theorem dX3_begins_238 : decode cX3_begins 238 = .ok (.iconst 1, 1) := dk_4 (dk_at dksX3_begins_10 0 rfl rfl)
theorem dX3_begins_239 : decode cX3_begins 239 = .ok (.invokevirtual 228, 3) := dk_182 0 228 (dk_at dksX3_begins_10 1 rfl rfl)
theorem dX3_begins_242 : decode cX3_begins 242 = .ok (.iinc 4 1, 3) := dk_132 4 1 (dk_at dksX3_begins_10 4 rfl rfl)
theorem dX3_begins_245 : decode cX3_begins 245 = .ok (.goto (-236), 3) := dk_167 255 20 (dk_at dksX3_begins_10 7 rfl rfl)
theorem dX3_begins_248 : decode cX3_begins 248 = .ok (.return_, 1) := dk_177 (dk_at dksX3_begins_10 10 rfl rfl)
def dkwX3_hasOperands_3 : List UInt8 := [153, 0, 7, 4, 167, 0, 4, 3, 172]
abbrev dktX3_hasOperands_3 : List UInt8 := dkwX3_hasOperands_3 ++ []
def dkwX3_hasOperands_2 : List UInt8 := [167, 0, 4, 3, 54, 4, 29, 153, 0, 24, 21, 4, 153, 0, 15, 42, 180, 0, 65, 43, 16, 8, 46, 51]
abbrev dktX3_hasOperands_2 : List UInt8 := dkwX3_hasOperands_2 ++ dktX3_hasOperands_3
def dkwX3_hasOperands_1 : List UInt8 := [5, 16, 8, 184, 0, 129, 154, 0, 15, 28, 16, 12, 159, 0, 9, 28, 16, 13, 160, 0, 7, 4]
abbrev dktX3_hasOperands_1 : List UInt8 := dkwX3_hasOperands_1 ++ dktX3_hasOperands_2
def dkwX3_hasOperands_0 : List UInt8 := [28, 4, 159, 0, 15, 42, 180, 0, 65, 43, 16, 7, 46, 51, 153, 0, 7, 4, 167, 0, 4, 3, 62, 28]
abbrev dktX3_hasOperands_0 : List UInt8 := dkwX3_hasOperands_0 ++ dktX3_hasOperands_1
theorem dksX3_hasOperands_0 : cX3_hasOperands.data.toList.drop 0 = dktX3_hasOperands_0 := by decide +kernel
theorem dksX3_hasOperands_1 : cX3_hasOperands.data.toList.drop 24 = dktX3_hasOperands_1 := dk_seg dksX3_hasOperands_0 24 rfl rfl
theorem dksX3_hasOperands_2 : cX3_hasOperands.data.toList.drop 46 = dktX3_hasOperands_2 := dk_seg dksX3_hasOperands_1 22 rfl rfl
theorem dksX3_hasOperands_3 : cX3_hasOperands.data.toList.drop 70 = dktX3_hasOperands_3 := dk_seg dksX3_hasOperands_2 24 rfl rfl
theorem dX3_hasOperands_0 : decode cX3_hasOperands 0 = .ok (.iload_n 2, 1) := dk_28 (dk_at dksX3_hasOperands_0 0 rfl rfl)
theorem dX3_hasOperands_1 : decode cX3_hasOperands 1 = .ok (.iconst 1, 1) := dk_4 (dk_at dksX3_hasOperands_0 1 rfl rfl)
theorem dX3_hasOperands_2 : decode cX3_hasOperands 2 = .ok (.if_icmp .eq 15, 3) := dk_159 0 15 (dk_at dksX3_hasOperands_0 2 rfl rfl)
theorem dX3_hasOperands_5 : decode cX3_hasOperands 5 = .ok (.aload_n 0, 1) := dk_42 (dk_at dksX3_hasOperands_0 5 rfl rfl)
theorem dX3_hasOperands_6 : decode cX3_hasOperands 6 = .ok (.getfield 65, 3) := dk_180 0 65 (dk_at dksX3_hasOperands_0 6 rfl rfl)
theorem dX3_hasOperands_9 : decode cX3_hasOperands 9 = .ok (.aload_n 1, 1) := dk_43 (dk_at dksX3_hasOperands_0 9 rfl rfl)
theorem dX3_hasOperands_10 : decode cX3_hasOperands 10 = .ok (.bipush 7, 2) := dk_16 7 (dk_at dksX3_hasOperands_0 10 rfl rfl)
theorem dX3_hasOperands_12 : decode cX3_hasOperands 12 = .ok (.iaload, 1) := dk_46 (dk_at dksX3_hasOperands_0 12 rfl rfl)
theorem dX3_hasOperands_13 : decode cX3_hasOperands 13 = .ok (.baload, 1) := dk_51 (dk_at dksX3_hasOperands_0 13 rfl rfl)
theorem dX3_hasOperands_14 : decode cX3_hasOperands 14 = .ok (.ifCond .eq 7, 3) := dk_153 0 7 (dk_at dksX3_hasOperands_0 14 rfl rfl)
theorem dX3_hasOperands_17 : decode cX3_hasOperands 17 = .ok (.iconst 1, 1) := dk_4 (dk_at dksX3_hasOperands_0 17 rfl rfl)
theorem dX3_hasOperands_18 : decode cX3_hasOperands 18 = .ok (.goto 4, 3) := dk_167 0 4 (dk_at dksX3_hasOperands_0 18 rfl rfl)
theorem dX3_hasOperands_21 : decode cX3_hasOperands 21 = .ok (.iconst 0, 1) := dk_3 (dk_at dksX3_hasOperands_0 21 rfl rfl)
theorem dX3_hasOperands_22 : decode cX3_hasOperands 22 = .ok (.istore_n 3, 1) := dk_62 (dk_at dksX3_hasOperands_0 22 rfl rfl)
theorem dX3_hasOperands_23 : decode cX3_hasOperands 23 = .ok (.iload_n 2, 1) := dk_28 (dk_at dksX3_hasOperands_0 23 rfl rfl)
theorem dX3_hasOperands_24 : decode cX3_hasOperands 24 = .ok (.iconst 2, 1) := dk_5 (dk_at dksX3_hasOperands_1 0 rfl rfl)
theorem dX3_hasOperands_25 : decode cX3_hasOperands 25 = .ok (.bipush 8, 2) := dk_16 8 (dk_at dksX3_hasOperands_1 1 rfl rfl)
theorem dX3_hasOperands_27 : decode cX3_hasOperands 27 = .ok (.invokestatic 129, 3) := dk_184 0 129 (dk_at dksX3_hasOperands_1 3 rfl rfl)
theorem dX3_hasOperands_30 : decode cX3_hasOperands 30 = .ok (.ifCond .ne 15, 3) := dk_154 0 15 (dk_at dksX3_hasOperands_1 6 rfl rfl)
theorem dX3_hasOperands_33 : decode cX3_hasOperands 33 = .ok (.iload_n 2, 1) := dk_28 (dk_at dksX3_hasOperands_1 9 rfl rfl)
theorem dX3_hasOperands_34 : decode cX3_hasOperands 34 = .ok (.bipush 12, 2) := dk_16 12 (dk_at dksX3_hasOperands_1 10 rfl rfl)
theorem dX3_hasOperands_36 : decode cX3_hasOperands 36 = .ok (.if_icmp .eq 9, 3) := dk_159 0 9 (dk_at dksX3_hasOperands_1 12 rfl rfl)
theorem dX3_hasOperands_39 : decode cX3_hasOperands 39 = .ok (.iload_n 2, 1) := dk_28 (dk_at dksX3_hasOperands_1 15 rfl rfl)
theorem dX3_hasOperands_40 : decode cX3_hasOperands 40 = .ok (.bipush 13, 2) := dk_16 13 (dk_at dksX3_hasOperands_1 16 rfl rfl)
theorem dX3_hasOperands_42 : decode cX3_hasOperands 42 = .ok (.if_icmp .ne 7, 3) := dk_160 0 7 (dk_at dksX3_hasOperands_1 18 rfl rfl)
theorem dX3_hasOperands_45 : decode cX3_hasOperands 45 = .ok (.iconst 1, 1) := dk_4 (dk_at dksX3_hasOperands_1 21 rfl rfl)
theorem dX3_hasOperands_46 : decode cX3_hasOperands 46 = .ok (.goto 4, 3) := dk_167 0 4 (dk_at dksX3_hasOperands_2 0 rfl rfl)
theorem dX3_hasOperands_49 : decode cX3_hasOperands 49 = .ok (.iconst 0, 1) := dk_3 (dk_at dksX3_hasOperands_2 3 rfl rfl)
theorem dX3_hasOperands_50 : decode cX3_hasOperands 50 = .ok (.istore 4, 2) := dk_54 4 (dk_at dksX3_hasOperands_2 4 rfl rfl)
theorem dX3_hasOperands_52 : decode cX3_hasOperands 52 = .ok (.iload_n 3, 1) := dk_29 (dk_at dksX3_hasOperands_2 6 rfl rfl)
theorem dX3_hasOperands_53 : decode cX3_hasOperands 53 = .ok (.ifCond .eq 24, 3) := dk_153 0 24 (dk_at dksX3_hasOperands_2 7 rfl rfl)
theorem dX3_hasOperands_56 : decode cX3_hasOperands 56 = .ok (.iload 4, 2) := dk_21 4 (dk_at dksX3_hasOperands_2 10 rfl rfl)
theorem dX3_hasOperands_58 : decode cX3_hasOperands 58 = .ok (.ifCond .eq 15, 3) := dk_153 0 15 (dk_at dksX3_hasOperands_2 12 rfl rfl)
theorem dX3_hasOperands_61 : decode cX3_hasOperands 61 = .ok (.aload_n 0, 1) := dk_42 (dk_at dksX3_hasOperands_2 15 rfl rfl)
theorem dX3_hasOperands_62 : decode cX3_hasOperands 62 = .ok (.getfield 65, 3) := dk_180 0 65 (dk_at dksX3_hasOperands_2 16 rfl rfl)
theorem dX3_hasOperands_65 : decode cX3_hasOperands 65 = .ok (.aload_n 1, 1) := dk_43 (dk_at dksX3_hasOperands_2 19 rfl rfl)
theorem dX3_hasOperands_66 : decode cX3_hasOperands 66 = .ok (.bipush 8, 2) := dk_16 8 (dk_at dksX3_hasOperands_2 20 rfl rfl)
theorem dX3_hasOperands_68 : decode cX3_hasOperands 68 = .ok (.iaload, 1) := dk_46 (dk_at dksX3_hasOperands_2 22 rfl rfl)
theorem dX3_hasOperands_69 : decode cX3_hasOperands 69 = .ok (.baload, 1) := dk_51 (dk_at dksX3_hasOperands_2 23 rfl rfl)
theorem dX3_hasOperands_70 : decode cX3_hasOperands 70 = .ok (.ifCond .eq 7, 3) := dk_153 0 7 (dk_at dksX3_hasOperands_3 0 rfl rfl)
theorem dX3_hasOperands_73 : decode cX3_hasOperands 73 = .ok (.iconst 1, 1) := dk_4 (dk_at dksX3_hasOperands_3 3 rfl rfl)
theorem dX3_hasOperands_74 : decode cX3_hasOperands 74 = .ok (.goto 4, 3) := dk_167 0 4 (dk_at dksX3_hasOperands_3 4 rfl rfl)
theorem dX3_hasOperands_77 : decode cX3_hasOperands 77 = .ok (.iconst 0, 1) := dk_3 (dk_at dksX3_hasOperands_3 7 rfl rfl)
theorem dX3_hasOperands_78 : decode cX3_hasOperands 78 = .ok (.ireturn, 1) := dk_172 (dk_at dksX3_hasOperands_3 8 rfl rfl)
def dkwX3_starts_0 : List UInt8 := [43, 16, 11, 16, 120, 79, 43, 6, 42, 180, 0, 133, 79, 43, 16, 12, 42, 180, 0, 133, 28, 96, 79, 177]
abbrev dktX3_starts_0 : List UInt8 := dkwX3_starts_0 ++ []
theorem dksX3_starts_0 : cX3_starts.data.toList.drop 0 = dktX3_starts_0 := by decide +kernel
theorem dX3_starts_0 : decode cX3_starts 0 = .ok (.aload_n 1, 1) := dk_43 (dk_at dksX3_starts_0 0 rfl rfl)
theorem dX3_starts_1 : decode cX3_starts 1 = .ok (.bipush 11, 2) := dk_16 11 (dk_at dksX3_starts_0 1 rfl rfl)
theorem dX3_starts_3 : decode cX3_starts 3 = .ok (.bipush 120, 2) := dk_16 120 (dk_at dksX3_starts_0 3 rfl rfl)
theorem dX3_starts_5 : decode cX3_starts 5 = .ok (.iastore, 1) := dk_79 (dk_at dksX3_starts_0 5 rfl rfl)
theorem dX3_starts_6 : decode cX3_starts 6 = .ok (.aload_n 1, 1) := dk_43 (dk_at dksX3_starts_0 6 rfl rfl)
theorem dX3_starts_7 : decode cX3_starts 7 = .ok (.iconst 3, 1) := dk_6 (dk_at dksX3_starts_0 7 rfl rfl)
theorem dX3_starts_8 : decode cX3_starts 8 = .ok (.aload_n 0, 1) := dk_42 (dk_at dksX3_starts_0 8 rfl rfl)
theorem dX3_starts_9 : decode cX3_starts 9 = .ok (.getfield 133, 3) := dk_180 0 133 (dk_at dksX3_starts_0 9 rfl rfl)
theorem dX3_starts_12 : decode cX3_starts 12 = .ok (.iastore, 1) := dk_79 (dk_at dksX3_starts_0 12 rfl rfl)
theorem dX3_starts_13 : decode cX3_starts 13 = .ok (.aload_n 1, 1) := dk_43 (dk_at dksX3_starts_0 13 rfl rfl)
theorem dX3_starts_14 : decode cX3_starts 14 = .ok (.bipush 12, 2) := dk_16 12 (dk_at dksX3_starts_0 14 rfl rfl)
theorem dX3_starts_16 : decode cX3_starts 16 = .ok (.aload_n 0, 1) := dk_42 (dk_at dksX3_starts_0 16 rfl rfl)
theorem dX3_starts_17 : decode cX3_starts 17 = .ok (.getfield 133, 3) := dk_180 0 133 (dk_at dksX3_starts_0 17 rfl rfl)
theorem dX3_starts_20 : decode cX3_starts 20 = .ok (.iload_n 2, 1) := dk_28 (dk_at dksX3_starts_0 20 rfl rfl)
theorem dX3_starts_21 : decode cX3_starts 21 = .ok (.iadd, 1) := dk_96 (dk_at dksX3_starts_0 21 rfl rfl)
theorem dX3_starts_22 : decode cX3_starts 22 = .ok (.iastore, 1) := dk_79 (dk_at dksX3_starts_0 22 rfl rfl)
theorem dX3_starts_23 : decode cX3_starts 23 = .ok (.return_, 1) := dk_177 (dk_at dksX3_starts_0 23 rfl rfl)
def dkwX3_loads_16 : List UInt8 := [96, 181, 0, 243, 44, 16, 14, 29, 79, 42, 44, 3, 182, 0, 228, 44, 16, 11, 16, 109, 79, 4, 172]
abbrev dktX3_loads_16 : List UInt8 := dkwX3_loads_16 ++ []
def dkwX3_loads_15 : List UInt8 := [180, 0, 50, 21, 6, 46, 96, 79, 42, 89, 180, 0, 222, 4, 96, 181, 0, 222, 42, 89, 180, 0, 243, 4]
abbrev dktX3_loads_15 : List UInt8 := dkwX3_loads_15 ++ dktX3_loads_16
def dkwX3_loads_14 : List UInt8 := [180, 0, 95, 42, 180, 0, 222, 21, 6, 79, 42, 180, 0, 98, 42, 180, 0, 222, 42, 180, 0, 133, 42]
abbrev dktX3_loads_14 : List UInt8 := dkwX3_loads_14 ++ dktX3_loads_15
def dkwX3_loads_13 : List UInt8 := [154, 0, 13, 42, 180, 0, 222, 5, 160, 0, 5, 3, 172, 42, 21, 6, 182, 0, 240, 154, 0, 55, 42]
abbrev dktX3_loads_13 : List UInt8 := dkwX3_loads_13 ++ dktX3_loads_14
def dkwX3_loads_12 : List UInt8 := [181, 0, 237, 44, 16, 14, 29, 79, 42, 44, 5, 182, 0, 228, 4, 172, 42, 21, 6, 182, 0, 240]
abbrev dktX3_loads_12 : List UInt8 := dkwX3_loads_12 ++ dktX3_loads_13
def dkwX3_loads_11 : List UInt8 := [54, 6, 42, 180, 0, 92, 21, 6, 7, 112, 46, 21, 6, 160, 0, 26, 42, 89, 180, 0, 237, 4, 96]
abbrev dktX3_loads_11 : List UInt8 := dkwX3_loads_11 ++ dktX3_loads_12
def dkwX3_loads_10 : List UInt8 := [46, 46, 79, 42, 89, 180, 0, 234, 4, 96, 181, 0, 234, 42, 44, 4, 182, 0, 228, 4, 172, 29, 7, 108]
abbrev dktX3_loads_10 : List UInt8 := dkwX3_loads_10 ++ dktX3_loads_11
def dkwX3_loads_9 : List UInt8 := [16, 14, 29, 79, 44, 16, 16, 25, 6, 16, 17, 46, 79, 44, 16, 15, 42, 180, 0, 62, 25, 6, 16, 8]
abbrev dktX3_loads_9 : List UInt8 := dkwX3_loads_9 ++ dktX3_loads_10
def dkwX3_loads_8 : List UInt8 := [182, 0, 201, 16, 11, 159, 0, 16, 42, 180, 0, 65, 25, 6, 16, 8, 46, 51, 154, 0, 5, 3, 172, 44]
abbrev dktX3_loads_8 : List UInt8 := dkwX3_loads_8 ++ dktX3_loads_9
def dkwX3_loads_7 : List UInt8 := [154, 0, 5, 3, 172, 21, 4, 2, 159, 0, 84, 42, 180, 0, 74, 21, 4, 50, 58, 6, 42, 25, 6]
abbrev dktX3_loads_7 : List UInt8 := dkwX3_loads_7 ++ dktX3_loads_8
def dkwX3_loads_6 : List UInt8 := [132, 6, 1, 167, 255, 168, 42, 180, 0, 89, 44, 3, 46, 16, 16, 112, 51, 153, 0, 10, 21, 5]
abbrev dktX3_loads_6 : List UInt8 := dkwX3_loads_6 ++ dktX3_loads_7
def dkwX3_loads_5 : List UInt8 := [46, 154, 0, 17, 25, 7, 16, 14, 46, 29, 160, 0, 8, 21, 6, 167, 0, 5, 21, 4, 54, 4]
abbrev dktX3_loads_5 : List UInt8 := dkwX3_loads_5 ++ dktX3_loads_6
def dkwX3_loads_4 : List UInt8 := [160, 0, 7, 4, 167, 0, 4, 3, 54, 5, 25, 7, 16, 11, 46, 16, 101, 160, 0, 25, 25, 7, 16, 13]
abbrev dktX3_loads_4 : List UInt8 := dkwX3_loads_4 ++ dktX3_loads_5
def dkwX3_loads_3 : List UInt8 := [25, 7, 182, 0, 201, 184, 0, 231, 153, 0, 61, 21, 5, 153, 0, 17, 25, 7, 16, 11, 46, 16, 101]
abbrev dktX3_loads_3 : List UInt8 := dkwX3_loads_3 ++ dktX3_loads_4
def dkwX3_loads_2 : List UInt8 := [54, 4, 4, 54, 5, 3, 54, 6, 21, 6, 27, 162, 0, 88, 42, 180, 0, 74, 21, 6, 50, 58, 7, 42]
abbrev dktX3_loads_2 : List UInt8 := dkwX3_loads_2 ++ dktX3_loads_3
def dkwX3_loads_1 : List UInt8 := [96, 62, 29, 184, 0, 225, 154, 0, 16, 44, 16, 13, 5, 79, 42, 44, 4, 182, 0, 228, 4, 172, 2]
abbrev dktX3_loads_1 : List UInt8 := dkwX3_loads_1 ++ dktX3_loads_2
def dkwX3_loads_0 : List UInt8 := [42, 180, 0, 74, 27, 50, 77, 42, 180, 0, 62, 44, 16, 7, 46, 46, 42, 180, 0, 22, 44, 3, 46, 46]
abbrev dktX3_loads_0 : List UInt8 := dkwX3_loads_0 ++ dktX3_loads_1
theorem dksX3_loads_0 : cX3_loads.data.toList.drop 0 = dktX3_loads_0 := by decide +kernel
theorem dksX3_loads_1 : cX3_loads.data.toList.drop 24 = dktX3_loads_1 := dk_seg dksX3_loads_0 24 rfl rfl
theorem dksX3_loads_2 : cX3_loads.data.toList.drop 47 = dktX3_loads_2 := dk_seg dksX3_loads_1 23 rfl rfl
theorem dksX3_loads_3 : cX3_loads.data.toList.drop 71 = dktX3_loads_3 := dk_seg dksX3_loads_2 24 rfl rfl
theorem dksX3_loads_4 : cX3_loads.data.toList.drop 94 = dktX3_loads_4 := dk_seg dksX3_loads_3 23 rfl rfl
theorem dksX3_loads_5 : cX3_loads.data.toList.drop 118 = dktX3_loads_5 := dk_seg dksX3_loads_4 24 rfl rfl
theorem dksX3_loads_6 : cX3_loads.data.toList.drop 140 = dktX3_loads_6 := dk_seg dksX3_loads_5 22 rfl rfl
theorem dksX3_loads_7 : cX3_loads.data.toList.drop 162 = dktX3_loads_7 := dk_seg dksX3_loads_6 22 rfl rfl
theorem dksX3_loads_8 : cX3_loads.data.toList.drop 185 = dktX3_loads_8 := dk_seg dksX3_loads_7 23 rfl rfl
theorem dksX3_loads_9 : cX3_loads.data.toList.drop 209 = dktX3_loads_9 := dk_seg dksX3_loads_8 24 rfl rfl
theorem dksX3_loads_10 : cX3_loads.data.toList.drop 233 = dktX3_loads_10 := dk_seg dksX3_loads_9 24 rfl rfl
theorem dksX3_loads_11 : cX3_loads.data.toList.drop 257 = dktX3_loads_11 := dk_seg dksX3_loads_10 24 rfl rfl
theorem dksX3_loads_12 : cX3_loads.data.toList.drop 280 = dktX3_loads_12 := dk_seg dksX3_loads_11 23 rfl rfl
theorem dksX3_loads_13 : cX3_loads.data.toList.drop 302 = dktX3_loads_13 := dk_seg dksX3_loads_12 22 rfl rfl
theorem dksX3_loads_14 : cX3_loads.data.toList.drop 325 = dktX3_loads_14 := dk_seg dksX3_loads_13 23 rfl rfl
theorem dksX3_loads_15 : cX3_loads.data.toList.drop 348 = dktX3_loads_15 := dk_seg dksX3_loads_14 23 rfl rfl
theorem dksX3_loads_16 : cX3_loads.data.toList.drop 372 = dktX3_loads_16 := dk_seg dksX3_loads_15 24 rfl rfl
theorem dX3_loads_0 : decode cX3_loads 0 = .ok (.aload_n 0, 1) := dk_42 (dk_at dksX3_loads_0 0 rfl rfl)
theorem dX3_loads_1 : decode cX3_loads 1 = .ok (.getfield 74, 3) := dk_180 0 74 (dk_at dksX3_loads_0 1 rfl rfl)
theorem dX3_loads_4 : decode cX3_loads 4 = .ok (.iload_n 1, 1) := dk_27 (dk_at dksX3_loads_0 4 rfl rfl)
theorem dX3_loads_5 : decode cX3_loads 5 = .ok (.aaload, 1) := dk_50 (dk_at dksX3_loads_0 5 rfl rfl)
theorem dX3_loads_6 : decode cX3_loads 6 = .ok (.astore_n 2, 1) := dk_77 (dk_at dksX3_loads_0 6 rfl rfl)
theorem dX3_loads_7 : decode cX3_loads 7 = .ok (.aload_n 0, 1) := dk_42 (dk_at dksX3_loads_0 7 rfl rfl)
theorem dX3_loads_8 : decode cX3_loads 8 = .ok (.getfield 62, 3) := dk_180 0 62 (dk_at dksX3_loads_0 8 rfl rfl)
theorem dX3_loads_11 : decode cX3_loads 11 = .ok (.aload_n 2, 1) := dk_44 (dk_at dksX3_loads_0 11 rfl rfl)
theorem dX3_loads_12 : decode cX3_loads 12 = .ok (.bipush 7, 2) := dk_16 7 (dk_at dksX3_loads_0 12 rfl rfl)
theorem dX3_loads_14 : decode cX3_loads 14 = .ok (.iaload, 1) := dk_46 (dk_at dksX3_loads_0 14 rfl rfl)
theorem dX3_loads_15 : decode cX3_loads 15 = .ok (.iaload, 1) := dk_46 (dk_at dksX3_loads_0 15 rfl rfl)
theorem dX3_loads_16 : decode cX3_loads 16 = .ok (.aload_n 0, 1) := dk_42 (dk_at dksX3_loads_0 16 rfl rfl)
theorem dX3_loads_17 : decode cX3_loads 17 = .ok (.getfield 22, 3) := dk_180 0 22 (dk_at dksX3_loads_0 17 rfl rfl)
theorem dX3_loads_20 : decode cX3_loads 20 = .ok (.aload_n 2, 1) := dk_44 (dk_at dksX3_loads_0 20 rfl rfl)
theorem dX3_loads_21 : decode cX3_loads 21 = .ok (.iconst 0, 1) := dk_3 (dk_at dksX3_loads_0 21 rfl rfl)
theorem dX3_loads_22 : decode cX3_loads 22 = .ok (.iaload, 1) := dk_46 (dk_at dksX3_loads_0 22 rfl rfl)
theorem dX3_loads_23 : decode cX3_loads 23 = .ok (.iaload, 1) := dk_46 (dk_at dksX3_loads_0 23 rfl rfl)
theorem dX3_loads_24 : decode cX3_loads 24 = .ok (.iadd, 1) := dk_96 (dk_at dksX3_loads_1 0 rfl rfl)
theorem dX3_loads_25 : decode cX3_loads 25 = .ok (.istore_n 3, 1) := dk_62 (dk_at dksX3_loads_1 1 rfl rfl)
theorem dX3_loads_26 : decode cX3_loads 26 = .ok (.iload_n 3, 1) := dk_29 (dk_at dksX3_loads_1 2 rfl rfl)
theorem dX3_loads_27 : decode cX3_loads 27 = .ok (.invokestatic 225, 3) := dk_184 0 225 (dk_at dksX3_loads_1 3 rfl rfl)
theorem dX3_loads_30 : decode cX3_loads 30 = .ok (.ifCond .ne 16, 3) := dk_154 0 16 (dk_at dksX3_loads_1 6 rfl rfl)
theorem dX3_loads_33 : decode cX3_loads 33 = .ok (.aload_n 2, 1) := dk_44 (dk_at dksX3_loads_1 9 rfl rfl)
theorem dX3_loads_34 : decode cX3_loads 34 = .ok (.bipush 13, 2) := dk_16 13 (dk_at dksX3_loads_1 10 rfl rfl)
theorem dX3_loads_36 : decode cX3_loads 36 = .ok (.iconst 2, 1) := dk_5 (dk_at dksX3_loads_1 12 rfl rfl)
theorem dX3_loads_37 : decode cX3_loads 37 = .ok (.iastore, 1) := dk_79 (dk_at dksX3_loads_1 13 rfl rfl)
theorem dX3_loads_38 : decode cX3_loads 38 = .ok (.aload_n 0, 1) := dk_42 (dk_at dksX3_loads_1 14 rfl rfl)
theorem dX3_loads_39 : decode cX3_loads 39 = .ok (.aload_n 2, 1) := dk_44 (dk_at dksX3_loads_1 15 rfl rfl)
theorem dX3_loads_40 : decode cX3_loads 40 = .ok (.iconst 1, 1) := dk_4 (dk_at dksX3_loads_1 16 rfl rfl)
theorem dX3_loads_41 : decode cX3_loads 41 = .ok (.invokevirtual 228, 3) := dk_182 0 228 (dk_at dksX3_loads_1 17 rfl rfl)
theorem dX3_loads_44 : decode cX3_loads 44 = .ok (.iconst 1, 1) := dk_4 (dk_at dksX3_loads_1 20 rfl rfl)
theorem dX3_loads_45 : decode cX3_loads 45 = .ok (.ireturn, 1) := dk_172 (dk_at dksX3_loads_1 21 rfl rfl)
theorem dX3_loads_46 : decode cX3_loads 46 = .ok (.iconst (-1), 1) := dk_2 (dk_at dksX3_loads_1 22 rfl rfl)
theorem dX3_loads_47 : decode cX3_loads 47 = .ok (.istore 4, 2) := dk_54 4 (dk_at dksX3_loads_2 0 rfl rfl)
theorem dX3_loads_49 : decode cX3_loads 49 = .ok (.iconst 1, 1) := dk_4 (dk_at dksX3_loads_2 2 rfl rfl)
theorem dX3_loads_50 : decode cX3_loads 50 = .ok (.istore 5, 2) := dk_54 5 (dk_at dksX3_loads_2 3 rfl rfl)
theorem dX3_loads_52 : decode cX3_loads 52 = .ok (.iconst 0, 1) := dk_3 (dk_at dksX3_loads_2 5 rfl rfl)
theorem dX3_loads_53 : decode cX3_loads 53 = .ok (.istore 6, 2) := dk_54 6 (dk_at dksX3_loads_2 6 rfl rfl)
theorem dX3_loads_55 : decode cX3_loads 55 = .ok (.iload 6, 2) := dk_21 6 (dk_at dksX3_loads_2 8 rfl rfl)
theorem dX3_loads_57 : decode cX3_loads 57 = .ok (.iload_n 1, 1) := dk_27 (dk_at dksX3_loads_2 10 rfl rfl)
theorem dX3_loads_58 : decode cX3_loads 58 = .ok (.if_icmp .ge 88, 3) := dk_162 0 88 (dk_at dksX3_loads_2 11 rfl rfl)
theorem dX3_loads_61 : decode cX3_loads 61 = .ok (.aload_n 0, 1) := dk_42 (dk_at dksX3_loads_2 14 rfl rfl)
theorem dX3_loads_62 : decode cX3_loads 62 = .ok (.getfield 74, 3) := dk_180 0 74 (dk_at dksX3_loads_2 15 rfl rfl)
theorem dX3_loads_65 : decode cX3_loads 65 = .ok (.iload 6, 2) := dk_21 6 (dk_at dksX3_loads_2 18 rfl rfl)
theorem dX3_loads_67 : decode cX3_loads 67 = .ok (.aaload, 1) := dk_50 (dk_at dksX3_loads_2 20 rfl rfl)
theorem dX3_loads_68 : decode cX3_loads 68 = .ok (.astore 7, 2) := dk_58 7 (dk_at dksX3_loads_2 21 rfl rfl)
theorem dX3_loads_70 : decode cX3_loads 70 = .ok (.aload_n 0, 1) := dk_42 (dk_at dksX3_loads_2 23 rfl rfl)
theorem dX3_loads_71 : decode cX3_loads 71 = .ok (.aload 7, 2) := dk_25 7 (dk_at dksX3_loads_3 0 rfl rfl)
theorem dX3_loads_73 : decode cX3_loads 73 = .ok (.invokevirtual 201, 3) := dk_182 0 201 (dk_at dksX3_loads_3 2 rfl rfl)
theorem dX3_loads_76 : decode cX3_loads 76 = .ok (.invokestatic 231, 3) := dk_184 0 231 (dk_at dksX3_loads_3 5 rfl rfl)
theorem dX3_loads_79 : decode cX3_loads 79 = .ok (.ifCond .eq 61, 3) := dk_153 0 61 (dk_at dksX3_loads_3 8 rfl rfl)
theorem dX3_loads_82 : decode cX3_loads 82 = .ok (.iload 5, 2) := dk_21 5 (dk_at dksX3_loads_3 11 rfl rfl)
theorem dX3_loads_84 : decode cX3_loads 84 = .ok (.ifCond .eq 17, 3) := dk_153 0 17 (dk_at dksX3_loads_3 13 rfl rfl)
theorem dX3_loads_87 : decode cX3_loads 87 = .ok (.aload 7, 2) := dk_25 7 (dk_at dksX3_loads_3 16 rfl rfl)
theorem dX3_loads_89 : decode cX3_loads 89 = .ok (.bipush 11, 2) := dk_16 11 (dk_at dksX3_loads_3 18 rfl rfl)
theorem dX3_loads_91 : decode cX3_loads 91 = .ok (.iaload, 1) := dk_46 (dk_at dksX3_loads_3 20 rfl rfl)
theorem dX3_loads_92 : decode cX3_loads 92 = .ok (.bipush 101, 2) := dk_16 101 (dk_at dksX3_loads_3 21 rfl rfl)
theorem dX3_loads_94 : decode cX3_loads 94 = .ok (.if_icmp .ne 7, 3) := dk_160 0 7 (dk_at dksX3_loads_4 0 rfl rfl)
theorem dX3_loads_97 : decode cX3_loads 97 = .ok (.iconst 1, 1) := dk_4 (dk_at dksX3_loads_4 3 rfl rfl)
theorem dX3_loads_98 : decode cX3_loads 98 = .ok (.goto 4, 3) := dk_167 0 4 (dk_at dksX3_loads_4 4 rfl rfl)
theorem dX3_loads_101 : decode cX3_loads 101 = .ok (.iconst 0, 1) := dk_3 (dk_at dksX3_loads_4 7 rfl rfl)
theorem dX3_loads_102 : decode cX3_loads 102 = .ok (.istore 5, 2) := dk_54 5 (dk_at dksX3_loads_4 8 rfl rfl)
theorem dX3_loads_104 : decode cX3_loads 104 = .ok (.aload 7, 2) := dk_25 7 (dk_at dksX3_loads_4 10 rfl rfl)
theorem dX3_loads_106 : decode cX3_loads 106 = .ok (.bipush 11, 2) := dk_16 11 (dk_at dksX3_loads_4 12 rfl rfl)
theorem dX3_loads_108 : decode cX3_loads 108 = .ok (.iaload, 1) := dk_46 (dk_at dksX3_loads_4 14 rfl rfl)
theorem dX3_loads_109 : decode cX3_loads 109 = .ok (.bipush 101, 2) := dk_16 101 (dk_at dksX3_loads_4 15 rfl rfl)
theorem dX3_loads_111 : decode cX3_loads 111 = .ok (.if_icmp .ne 25, 3) := dk_160 0 25 (dk_at dksX3_loads_4 17 rfl rfl)
theorem dX3_loads_114 : decode cX3_loads 114 = .ok (.aload 7, 2) := dk_25 7 (dk_at dksX3_loads_4 20 rfl rfl)
theorem dX3_loads_116 : decode cX3_loads 116 = .ok (.bipush 13, 2) := dk_16 13 (dk_at dksX3_loads_4 22 rfl rfl)
theorem dX3_loads_118 : decode cX3_loads 118 = .ok (.iaload, 1) := dk_46 (dk_at dksX3_loads_5 0 rfl rfl)
theorem dX3_loads_119 : decode cX3_loads 119 = .ok (.ifCond .ne 17, 3) := dk_154 0 17 (dk_at dksX3_loads_5 1 rfl rfl)
theorem dX3_loads_122 : decode cX3_loads 122 = .ok (.aload 7, 2) := dk_25 7 (dk_at dksX3_loads_5 4 rfl rfl)
theorem dX3_loads_124 : decode cX3_loads 124 = .ok (.bipush 14, 2) := dk_16 14 (dk_at dksX3_loads_5 6 rfl rfl)
theorem dX3_loads_126 : decode cX3_loads 126 = .ok (.iaload, 1) := dk_46 (dk_at dksX3_loads_5 8 rfl rfl)
theorem dX3_loads_127 : decode cX3_loads 127 = .ok (.iload_n 3, 1) := dk_29 (dk_at dksX3_loads_5 9 rfl rfl)
theorem dX3_loads_128 : decode cX3_loads 128 = .ok (.if_icmp .ne 8, 3) := dk_160 0 8 (dk_at dksX3_loads_5 10 rfl rfl)
theorem dX3_loads_131 : decode cX3_loads 131 = .ok (.iload 6, 2) := dk_21 6 (dk_at dksX3_loads_5 13 rfl rfl)
theorem dX3_loads_133 : decode cX3_loads 133 = .ok (.goto 5, 3) := dk_167 0 5 (dk_at dksX3_loads_5 15 rfl rfl)
theorem dX3_loads_136 : decode cX3_loads 136 = .ok (.iload 4, 2) := dk_21 4 (dk_at dksX3_loads_5 18 rfl rfl)
theorem dX3_loads_138 : decode cX3_loads 138 = .ok (.istore 4, 2) := dk_54 4 (dk_at dksX3_loads_5 20 rfl rfl)
theorem dX3_loads_140 : decode cX3_loads 140 = .ok (.iinc 6 1, 3) := dk_132 6 1 (dk_at dksX3_loads_6 0 rfl rfl)
theorem dX3_loads_143 : decode cX3_loads 143 = .ok (.goto (-88), 3) := dk_167 255 168 (dk_at dksX3_loads_6 3 rfl rfl)
theorem dX3_loads_146 : decode cX3_loads 146 = .ok (.aload_n 0, 1) := dk_42 (dk_at dksX3_loads_6 6 rfl rfl)
theorem dX3_loads_147 : decode cX3_loads 147 = .ok (.getfield 89, 3) := dk_180 0 89 (dk_at dksX3_loads_6 7 rfl rfl)
theorem dX3_loads_150 : decode cX3_loads 150 = .ok (.aload_n 2, 1) := dk_44 (dk_at dksX3_loads_6 10 rfl rfl)
theorem dX3_loads_151 : decode cX3_loads 151 = .ok (.iconst 0, 1) := dk_3 (dk_at dksX3_loads_6 11 rfl rfl)
theorem dX3_loads_152 : decode cX3_loads 152 = .ok (.iaload, 1) := dk_46 (dk_at dksX3_loads_6 12 rfl rfl)
theorem dX3_loads_153 : decode cX3_loads 153 = .ok (.bipush 16, 2) := dk_16 16 (dk_at dksX3_loads_6 13 rfl rfl)
theorem dX3_loads_155 : decode cX3_loads 155 = .ok (.irem, 1) := dk_112 (dk_at dksX3_loads_6 15 rfl rfl)
theorem dX3_loads_156 : decode cX3_loads 156 = .ok (.baload, 1) := dk_51 (dk_at dksX3_loads_6 16 rfl rfl)
theorem dX3_loads_157 : decode cX3_loads 157 = .ok (.ifCond .eq 10, 3) := dk_153 0 10 (dk_at dksX3_loads_6 17 rfl rfl)
theorem dX3_loads_160 : decode cX3_loads 160 = .ok (.iload 5, 2) := dk_21 5 (dk_at dksX3_loads_6 20 rfl rfl)
theorem dX3_loads_162 : decode cX3_loads 162 = .ok (.ifCond .ne 5, 3) := dk_154 0 5 (dk_at dksX3_loads_7 0 rfl rfl)
theorem dX3_loads_165 : decode cX3_loads 165 = .ok (.iconst 0, 1) := dk_3 (dk_at dksX3_loads_7 3 rfl rfl)
theorem dX3_loads_166 : decode cX3_loads 166 = .ok (.ireturn, 1) := dk_172 (dk_at dksX3_loads_7 4 rfl rfl)
theorem dX3_loads_167 : decode cX3_loads 167 = .ok (.iload 4, 2) := dk_21 4 (dk_at dksX3_loads_7 5 rfl rfl)
theorem dX3_loads_169 : decode cX3_loads 169 = .ok (.iconst (-1), 1) := dk_2 (dk_at dksX3_loads_7 7 rfl rfl)
theorem dX3_loads_170 : decode cX3_loads 170 = .ok (.if_icmp .eq 84, 3) := dk_159 0 84 (dk_at dksX3_loads_7 8 rfl rfl)
theorem dX3_loads_173 : decode cX3_loads 173 = .ok (.aload_n 0, 1) := dk_42 (dk_at dksX3_loads_7 11 rfl rfl)
theorem dX3_loads_174 : decode cX3_loads 174 = .ok (.getfield 74, 3) := dk_180 0 74 (dk_at dksX3_loads_7 12 rfl rfl)
theorem dX3_loads_177 : decode cX3_loads 177 = .ok (.iload 4, 2) := dk_21 4 (dk_at dksX3_loads_7 15 rfl rfl)
theorem dX3_loads_179 : decode cX3_loads 179 = .ok (.aaload, 1) := dk_50 (dk_at dksX3_loads_7 17 rfl rfl)
theorem dX3_loads_180 : decode cX3_loads 180 = .ok (.astore 6, 2) := dk_58 6 (dk_at dksX3_loads_7 18 rfl rfl)
theorem dX3_loads_182 : decode cX3_loads 182 = .ok (.aload_n 0, 1) := dk_42 (dk_at dksX3_loads_7 20 rfl rfl)
theorem dX3_loads_183 : decode cX3_loads 183 = .ok (.aload 6, 2) := dk_25 6 (dk_at dksX3_loads_7 21 rfl rfl)
theorem dX3_loads_185 : decode cX3_loads 185 = .ok (.invokevirtual 201, 3) := dk_182 0 201 (dk_at dksX3_loads_8 0 rfl rfl)
theorem dX3_loads_188 : decode cX3_loads 188 = .ok (.bipush 11, 2) := dk_16 11 (dk_at dksX3_loads_8 3 rfl rfl)
theorem dX3_loads_190 : decode cX3_loads 190 = .ok (.if_icmp .eq 16, 3) := dk_159 0 16 (dk_at dksX3_loads_8 5 rfl rfl)
theorem dX3_loads_193 : decode cX3_loads 193 = .ok (.aload_n 0, 1) := dk_42 (dk_at dksX3_loads_8 8 rfl rfl)
theorem dX3_loads_194 : decode cX3_loads 194 = .ok (.getfield 65, 3) := dk_180 0 65 (dk_at dksX3_loads_8 9 rfl rfl)
theorem dX3_loads_197 : decode cX3_loads 197 = .ok (.aload 6, 2) := dk_25 6 (dk_at dksX3_loads_8 12 rfl rfl)
theorem dX3_loads_199 : decode cX3_loads 199 = .ok (.bipush 8, 2) := dk_16 8 (dk_at dksX3_loads_8 14 rfl rfl)
theorem dX3_loads_201 : decode cX3_loads 201 = .ok (.iaload, 1) := dk_46 (dk_at dksX3_loads_8 16 rfl rfl)
theorem dX3_loads_202 : decode cX3_loads 202 = .ok (.baload, 1) := dk_51 (dk_at dksX3_loads_8 17 rfl rfl)
theorem dX3_loads_203 : decode cX3_loads 203 = .ok (.ifCond .ne 5, 3) := dk_154 0 5 (dk_at dksX3_loads_8 18 rfl rfl)
theorem dX3_loads_206 : decode cX3_loads 206 = .ok (.iconst 0, 1) := dk_3 (dk_at dksX3_loads_8 21 rfl rfl)
theorem dX3_loads_207 : decode cX3_loads 207 = .ok (.ireturn, 1) := dk_172 (dk_at dksX3_loads_8 22 rfl rfl)
theorem dX3_loads_208 : decode cX3_loads 208 = .ok (.aload_n 2, 1) := dk_44 (dk_at dksX3_loads_8 23 rfl rfl)
theorem dX3_loads_209 : decode cX3_loads 209 = .ok (.bipush 14, 2) := dk_16 14 (dk_at dksX3_loads_9 0 rfl rfl)
theorem dX3_loads_211 : decode cX3_loads 211 = .ok (.iload_n 3, 1) := dk_29 (dk_at dksX3_loads_9 2 rfl rfl)
theorem dX3_loads_212 : decode cX3_loads 212 = .ok (.iastore, 1) := dk_79 (dk_at dksX3_loads_9 3 rfl rfl)
theorem dX3_loads_213 : decode cX3_loads 213 = .ok (.aload_n 2, 1) := dk_44 (dk_at dksX3_loads_9 4 rfl rfl)
theorem dX3_loads_214 : decode cX3_loads 214 = .ok (.bipush 16, 2) := dk_16 16 (dk_at dksX3_loads_9 5 rfl rfl)
theorem dX3_loads_216 : decode cX3_loads 216 = .ok (.aload 6, 2) := dk_25 6 (dk_at dksX3_loads_9 7 rfl rfl)
theorem dX3_loads_218 : decode cX3_loads 218 = .ok (.bipush 17, 2) := dk_16 17 (dk_at dksX3_loads_9 9 rfl rfl)
theorem dX3_loads_220 : decode cX3_loads 220 = .ok (.iaload, 1) := dk_46 (dk_at dksX3_loads_9 11 rfl rfl)
theorem dX3_loads_221 : decode cX3_loads 221 = .ok (.iastore, 1) := dk_79 (dk_at dksX3_loads_9 12 rfl rfl)
theorem dX3_loads_222 : decode cX3_loads 222 = .ok (.aload_n 2, 1) := dk_44 (dk_at dksX3_loads_9 13 rfl rfl)
theorem dX3_loads_223 : decode cX3_loads 223 = .ok (.bipush 15, 2) := dk_16 15 (dk_at dksX3_loads_9 14 rfl rfl)
theorem dX3_loads_225 : decode cX3_loads 225 = .ok (.aload_n 0, 1) := dk_42 (dk_at dksX3_loads_9 16 rfl rfl)
theorem dX3_loads_226 : decode cX3_loads 226 = .ok (.getfield 62, 3) := dk_180 0 62 (dk_at dksX3_loads_9 17 rfl rfl)
theorem dX3_loads_229 : decode cX3_loads 229 = .ok (.aload 6, 2) := dk_25 6 (dk_at dksX3_loads_9 20 rfl rfl)
theorem dX3_loads_231 : decode cX3_loads 231 = .ok (.bipush 8, 2) := dk_16 8 (dk_at dksX3_loads_9 22 rfl rfl)
theorem dX3_loads_233 : decode cX3_loads 233 = .ok (.iaload, 1) := dk_46 (dk_at dksX3_loads_10 0 rfl rfl)
theorem dX3_loads_234 : decode cX3_loads 234 = .ok (.iaload, 1) := dk_46 (dk_at dksX3_loads_10 1 rfl rfl)
theorem dX3_loads_235 : decode cX3_loads 235 = .ok (.iastore, 1) := dk_79 (dk_at dksX3_loads_10 2 rfl rfl)
theorem dX3_loads_236 : decode cX3_loads 236 = .ok (.aload_n 0, 1) := dk_42 (dk_at dksX3_loads_10 3 rfl rfl)
theorem dX3_loads_237 : decode cX3_loads 237 = .ok (.dup, 1) := dk_89 (dk_at dksX3_loads_10 4 rfl rfl)
theorem dX3_loads_238 : decode cX3_loads 238 = .ok (.getfield 234, 3) := dk_180 0 234 (dk_at dksX3_loads_10 5 rfl rfl)
theorem dX3_loads_241 : decode cX3_loads 241 = .ok (.iconst 1, 1) := dk_4 (dk_at dksX3_loads_10 8 rfl rfl)
theorem dX3_loads_242 : decode cX3_loads 242 = .ok (.iadd, 1) := dk_96 (dk_at dksX3_loads_10 9 rfl rfl)
theorem dX3_loads_243 : decode cX3_loads 243 = .ok (.putfield 234, 3) := dk_181 0 234 (dk_at dksX3_loads_10 10 rfl rfl)
theorem dX3_loads_246 : decode cX3_loads 246 = .ok (.aload_n 0, 1) := dk_42 (dk_at dksX3_loads_10 13 rfl rfl)
theorem dX3_loads_247 : decode cX3_loads 247 = .ok (.aload_n 2, 1) := dk_44 (dk_at dksX3_loads_10 14 rfl rfl)
theorem dX3_loads_248 : decode cX3_loads 248 = .ok (.iconst 1, 1) := dk_4 (dk_at dksX3_loads_10 15 rfl rfl)
theorem dX3_loads_249 : decode cX3_loads 249 = .ok (.invokevirtual 228, 3) := dk_182 0 228 (dk_at dksX3_loads_10 16 rfl rfl)
theorem dX3_loads_252 : decode cX3_loads 252 = .ok (.iconst 1, 1) := dk_4 (dk_at dksX3_loads_10 19 rfl rfl)
theorem dX3_loads_253 : decode cX3_loads 253 = .ok (.ireturn, 1) := dk_172 (dk_at dksX3_loads_10 20 rfl rfl)
theorem dX3_loads_254 : decode cX3_loads 254 = .ok (.iload_n 3, 1) := dk_29 (dk_at dksX3_loads_10 21 rfl rfl)
theorem dX3_loads_255 : decode cX3_loads 255 = .ok (.iconst 4, 1) := dk_7 (dk_at dksX3_loads_10 22 rfl rfl)
theorem dX3_loads_256 : decode cX3_loads 256 = .ok (.idiv, 1) := dk_108 (dk_at dksX3_loads_10 23 rfl rfl)
theorem dX3_loads_257 : decode cX3_loads 257 = .ok (.istore 6, 2) := dk_54 6 (dk_at dksX3_loads_11 0 rfl rfl)
theorem dX3_loads_259 : decode cX3_loads 259 = .ok (.aload_n 0, 1) := dk_42 (dk_at dksX3_loads_11 2 rfl rfl)
theorem dX3_loads_260 : decode cX3_loads 260 = .ok (.getfield 92, 3) := dk_180 0 92 (dk_at dksX3_loads_11 3 rfl rfl)
theorem dX3_loads_263 : decode cX3_loads 263 = .ok (.iload 6, 2) := dk_21 6 (dk_at dksX3_loads_11 6 rfl rfl)
theorem dX3_loads_265 : decode cX3_loads 265 = .ok (.iconst 4, 1) := dk_7 (dk_at dksX3_loads_11 8 rfl rfl)
theorem dX3_loads_266 : decode cX3_loads 266 = .ok (.irem, 1) := dk_112 (dk_at dksX3_loads_11 9 rfl rfl)
theorem dX3_loads_267 : decode cX3_loads 267 = .ok (.iaload, 1) := dk_46 (dk_at dksX3_loads_11 10 rfl rfl)
theorem dX3_loads_268 : decode cX3_loads 268 = .ok (.iload 6, 2) := dk_21 6 (dk_at dksX3_loads_11 11 rfl rfl)
theorem dX3_loads_270 : decode cX3_loads 270 = .ok (.if_icmp .ne 26, 3) := dk_160 0 26 (dk_at dksX3_loads_11 13 rfl rfl)
theorem dX3_loads_273 : decode cX3_loads 273 = .ok (.aload_n 0, 1) := dk_42 (dk_at dksX3_loads_11 16 rfl rfl)
theorem dX3_loads_274 : decode cX3_loads 274 = .ok (.dup, 1) := dk_89 (dk_at dksX3_loads_11 17 rfl rfl)
theorem dX3_loads_275 : decode cX3_loads 275 = .ok (.getfield 237, 3) := dk_180 0 237 (dk_at dksX3_loads_11 18 rfl rfl)
theorem dX3_loads_278 : decode cX3_loads 278 = .ok (.iconst 1, 1) := dk_4 (dk_at dksX3_loads_11 21 rfl rfl)
theorem dX3_loads_279 : decode cX3_loads 279 = .ok (.iadd, 1) := dk_96 (dk_at dksX3_loads_11 22 rfl rfl)
theorem dX3_loads_280 : decode cX3_loads 280 = .ok (.putfield 237, 3) := dk_181 0 237 (dk_at dksX3_loads_12 0 rfl rfl)
theorem dX3_loads_283 : decode cX3_loads 283 = .ok (.aload_n 2, 1) := dk_44 (dk_at dksX3_loads_12 3 rfl rfl)
theorem dX3_loads_284 : decode cX3_loads 284 = .ok (.bipush 14, 2) := dk_16 14 (dk_at dksX3_loads_12 4 rfl rfl)
theorem dX3_loads_286 : decode cX3_loads 286 = .ok (.iload_n 3, 1) := dk_29 (dk_at dksX3_loads_12 6 rfl rfl)
theorem dX3_loads_287 : decode cX3_loads 287 = .ok (.iastore, 1) := dk_79 (dk_at dksX3_loads_12 7 rfl rfl)
theorem dX3_loads_288 : decode cX3_loads 288 = .ok (.aload_n 0, 1) := dk_42 (dk_at dksX3_loads_12 8 rfl rfl)
theorem dX3_loads_289 : decode cX3_loads 289 = .ok (.aload_n 2, 1) := dk_44 (dk_at dksX3_loads_12 9 rfl rfl)
theorem dX3_loads_290 : decode cX3_loads 290 = .ok (.iconst 2, 1) := dk_5 (dk_at dksX3_loads_12 10 rfl rfl)
theorem dX3_loads_291 : decode cX3_loads 291 = .ok (.invokevirtual 228, 3) := dk_182 0 228 (dk_at dksX3_loads_12 11 rfl rfl)
theorem dX3_loads_294 : decode cX3_loads 294 = .ok (.iconst 1, 1) := dk_4 (dk_at dksX3_loads_12 14 rfl rfl)
theorem dX3_loads_295 : decode cX3_loads 295 = .ok (.ireturn, 1) := dk_172 (dk_at dksX3_loads_12 15 rfl rfl)
theorem dX3_loads_296 : decode cX3_loads 296 = .ok (.aload_n 0, 1) := dk_42 (dk_at dksX3_loads_12 16 rfl rfl)
theorem dX3_loads_297 : decode cX3_loads 297 = .ok (.iload 6, 2) := dk_21 6 (dk_at dksX3_loads_12 17 rfl rfl)
theorem dX3_loads_299 : decode cX3_loads 299 = .ok (.invokevirtual 240, 3) := dk_182 0 240 (dk_at dksX3_loads_12 19 rfl rfl)
theorem dX3_loads_302 : decode cX3_loads 302 = .ok (.ifCond .ne 13, 3) := dk_154 0 13 (dk_at dksX3_loads_13 0 rfl rfl)
theorem dX3_loads_305 : decode cX3_loads 305 = .ok (.aload_n 0, 1) := dk_42 (dk_at dksX3_loads_13 3 rfl rfl)
theorem dX3_loads_306 : decode cX3_loads 306 = .ok (.getfield 222, 3) := dk_180 0 222 (dk_at dksX3_loads_13 4 rfl rfl)
theorem dX3_loads_309 : decode cX3_loads 309 = .ok (.iconst 2, 1) := dk_5 (dk_at dksX3_loads_13 7 rfl rfl)
theorem dX3_loads_310 : decode cX3_loads 310 = .ok (.if_icmp .ne 5, 3) := dk_160 0 5 (dk_at dksX3_loads_13 8 rfl rfl)
theorem dX3_loads_313 : decode cX3_loads 313 = .ok (.iconst 0, 1) := dk_3 (dk_at dksX3_loads_13 11 rfl rfl)
theorem dX3_loads_314 : decode cX3_loads 314 = .ok (.ireturn, 1) := dk_172 (dk_at dksX3_loads_13 12 rfl rfl)
theorem dX3_loads_315 : decode cX3_loads 315 = .ok (.aload_n 0, 1) := dk_42 (dk_at dksX3_loads_13 13 rfl rfl)
theorem dX3_loads_316 : decode cX3_loads 316 = .ok (.iload 6, 2) := dk_21 6 (dk_at dksX3_loads_13 14 rfl rfl)
theorem dX3_loads_318 : decode cX3_loads 318 = .ok (.invokevirtual 240, 3) := dk_182 0 240 (dk_at dksX3_loads_13 16 rfl rfl)
theorem dX3_loads_321 : decode cX3_loads 321 = .ok (.ifCond .ne 55, 3) := dk_154 0 55 (dk_at dksX3_loads_13 19 rfl rfl)
theorem dX3_loads_324 : decode cX3_loads 324 = .ok (.aload_n 0, 1) := dk_42 (dk_at dksX3_loads_13 22 rfl rfl)
theorem dX3_loads_325 : decode cX3_loads 325 = .ok (.getfield 95, 3) := dk_180 0 95 (dk_at dksX3_loads_14 0 rfl rfl)
theorem dX3_loads_328 : decode cX3_loads 328 = .ok (.aload_n 0, 1) := dk_42 (dk_at dksX3_loads_14 3 rfl rfl)
theorem dX3_loads_329 : decode cX3_loads 329 = .ok (.getfield 222, 3) := dk_180 0 222 (dk_at dksX3_loads_14 4 rfl rfl)
theorem dX3_loads_332 : decode cX3_loads 332 = .ok (.iload 6, 2) := dk_21 6 (dk_at dksX3_loads_14 7 rfl rfl)
theorem dX3_loads_334 : decode cX3_loads 334 = .ok (.iastore, 1) := dk_79 (dk_at dksX3_loads_14 9 rfl rfl)
theorem dX3_loads_335 : decode cX3_loads 335 = .ok (.aload_n 0, 1) := dk_42 (dk_at dksX3_loads_14 10 rfl rfl)
theorem dX3_loads_336 : decode cX3_loads 336 = .ok (.getfield 98, 3) := dk_180 0 98 (dk_at dksX3_loads_14 11 rfl rfl)
theorem dX3_loads_339 : decode cX3_loads 339 = .ok (.aload_n 0, 1) := dk_42 (dk_at dksX3_loads_14 14 rfl rfl)
theorem dX3_loads_340 : decode cX3_loads 340 = .ok (.getfield 222, 3) := dk_180 0 222 (dk_at dksX3_loads_14 15 rfl rfl)
theorem dX3_loads_343 : decode cX3_loads 343 = .ok (.aload_n 0, 1) := dk_42 (dk_at dksX3_loads_14 18 rfl rfl)
theorem dX3_loads_344 : decode cX3_loads 344 = .ok (.getfield 133, 3) := dk_180 0 133 (dk_at dksX3_loads_14 19 rfl rfl)
theorem dX3_loads_347 : decode cX3_loads 347 = .ok (.aload_n 0, 1) := dk_42 (dk_at dksX3_loads_14 22 rfl rfl)
theorem dX3_loads_348 : decode cX3_loads 348 = .ok (.getfield 50, 3) := dk_180 0 50 (dk_at dksX3_loads_15 0 rfl rfl)
theorem dX3_loads_351 : decode cX3_loads 351 = .ok (.iload 6, 2) := dk_21 6 (dk_at dksX3_loads_15 3 rfl rfl)
theorem dX3_loads_353 : decode cX3_loads 353 = .ok (.iaload, 1) := dk_46 (dk_at dksX3_loads_15 5 rfl rfl)
theorem dX3_loads_354 : decode cX3_loads 354 = .ok (.iadd, 1) := dk_96 (dk_at dksX3_loads_15 6 rfl rfl)
theorem dX3_loads_355 : decode cX3_loads 355 = .ok (.iastore, 1) := dk_79 (dk_at dksX3_loads_15 7 rfl rfl)
theorem dX3_loads_356 : decode cX3_loads 356 = .ok (.aload_n 0, 1) := dk_42 (dk_at dksX3_loads_15 8 rfl rfl)
theorem dX3_loads_357 : decode cX3_loads 357 = .ok (.dup, 1) := dk_89 (dk_at dksX3_loads_15 9 rfl rfl)
theorem dX3_loads_358 : decode cX3_loads 358 = .ok (.getfield 222, 3) := dk_180 0 222 (dk_at dksX3_loads_15 10 rfl rfl)
theorem dX3_loads_361 : decode cX3_loads 361 = .ok (.iconst 1, 1) := dk_4 (dk_at dksX3_loads_15 13 rfl rfl)
theorem dX3_loads_362 : decode cX3_loads 362 = .ok (.iadd, 1) := dk_96 (dk_at dksX3_loads_15 14 rfl rfl)
theorem dX3_loads_363 : decode cX3_loads 363 = .ok (.putfield 222, 3) := dk_181 0 222 (dk_at dksX3_loads_15 15 rfl rfl)
theorem dX3_loads_366 : decode cX3_loads 366 = .ok (.aload_n 0, 1) := dk_42 (dk_at dksX3_loads_15 18 rfl rfl)
theorem dX3_loads_367 : decode cX3_loads 367 = .ok (.dup, 1) := dk_89 (dk_at dksX3_loads_15 19 rfl rfl)
theorem dX3_loads_368 : decode cX3_loads 368 = .ok (.getfield 243, 3) := dk_180 0 243 (dk_at dksX3_loads_15 20 rfl rfl)
theorem dX3_loads_371 : decode cX3_loads 371 = .ok (.iconst 1, 1) := dk_4 (dk_at dksX3_loads_15 23 rfl rfl)
theorem dX3_loads_372 : decode cX3_loads 372 = .ok (.iadd, 1) := dk_96 (dk_at dksX3_loads_16 0 rfl rfl)
theorem dX3_loads_373 : decode cX3_loads 373 = .ok (.putfield 243, 3) := dk_181 0 243 (dk_at dksX3_loads_16 1 rfl rfl)
theorem dX3_loads_376 : decode cX3_loads 376 = .ok (.aload_n 2, 1) := dk_44 (dk_at dksX3_loads_16 4 rfl rfl)
theorem dX3_loads_377 : decode cX3_loads 377 = .ok (.bipush 14, 2) := dk_16 14 (dk_at dksX3_loads_16 5 rfl rfl)
theorem dX3_loads_379 : decode cX3_loads 379 = .ok (.iload_n 3, 1) := dk_29 (dk_at dksX3_loads_16 7 rfl rfl)
theorem dX3_loads_380 : decode cX3_loads 380 = .ok (.iastore, 1) := dk_79 (dk_at dksX3_loads_16 8 rfl rfl)
theorem dX3_loads_381 : decode cX3_loads 381 = .ok (.aload_n 0, 1) := dk_42 (dk_at dksX3_loads_16 9 rfl rfl)
theorem dX3_loads_382 : decode cX3_loads 382 = .ok (.aload_n 2, 1) := dk_44 (dk_at dksX3_loads_16 10 rfl rfl)
theorem dX3_loads_383 : decode cX3_loads 383 = .ok (.iconst 0, 1) := dk_3 (dk_at dksX3_loads_16 11 rfl rfl)
theorem dX3_loads_384 : decode cX3_loads 384 = .ok (.invokevirtual 228, 3) := dk_182 0 228 (dk_at dksX3_loads_16 12 rfl rfl)
theorem dX3_loads_387 : decode cX3_loads 387 = .ok (.aload_n 2, 1) := dk_44 (dk_at dksX3_loads_16 15 rfl rfl)
theorem dX3_loads_388 : decode cX3_loads 388 = .ok (.bipush 11, 2) := dk_16 11 (dk_at dksX3_loads_16 16 rfl rfl)
theorem dX3_loads_390 : decode cX3_loads 390 = .ok (.bipush 109, 2) := dk_16 109 (dk_at dksX3_loads_16 18 rfl rfl)
theorem dX3_loads_392 : decode cX3_loads 392 = .ok (.iastore, 1) := dk_79 (dk_at dksX3_loads_16 20 rfl rfl)
theorem dX3_loads_393 : decode cX3_loads 393 = .ok (.iconst 1, 1) := dk_4 (dk_at dksX3_loads_16 21 rfl rfl)
theorem dX3_loads_394 : decode cX3_loads 394 = .ok (.ireturn, 1) := dk_172 (dk_at dksX3_loads_16 22 rfl rfl)
def dkwX3_isAskedFor_1 : List UInt8 := [160, 0, 7, 4, 167, 0, 4, 3, 61, 132, 3, 1, 167, 255, 225, 28, 172]
abbrev dktX3_isAskedFor_1 : List UInt8 := dkwX3_isAskedFor_1 ++ []
def dkwX3_isAskedFor_0 : List UInt8 := [3, 61, 3, 62, 29, 42, 180, 0, 222, 162, 0, 29, 28, 154, 0, 13, 42, 180, 0, 95, 29, 46, 27]
abbrev dktX3_isAskedFor_0 : List UInt8 := dkwX3_isAskedFor_0 ++ dktX3_isAskedFor_1
theorem dksX3_isAskedFor_0 : cX3_isAskedFor.data.toList.drop 0 = dktX3_isAskedFor_0 := by decide +kernel
theorem dksX3_isAskedFor_1 : cX3_isAskedFor.data.toList.drop 23 = dktX3_isAskedFor_1 := dk_seg dksX3_isAskedFor_0 23 rfl rfl
theorem dX3_isAskedFor_0 : decode cX3_isAskedFor 0 = .ok (.iconst 0, 1) := dk_3 (dk_at dksX3_isAskedFor_0 0 rfl rfl)
theorem dX3_isAskedFor_1 : decode cX3_isAskedFor 1 = .ok (.istore_n 2, 1) := dk_61 (dk_at dksX3_isAskedFor_0 1 rfl rfl)
theorem dX3_isAskedFor_2 : decode cX3_isAskedFor 2 = .ok (.iconst 0, 1) := dk_3 (dk_at dksX3_isAskedFor_0 2 rfl rfl)
theorem dX3_isAskedFor_3 : decode cX3_isAskedFor 3 = .ok (.istore_n 3, 1) := dk_62 (dk_at dksX3_isAskedFor_0 3 rfl rfl)
theorem dX3_isAskedFor_4 : decode cX3_isAskedFor 4 = .ok (.iload_n 3, 1) := dk_29 (dk_at dksX3_isAskedFor_0 4 rfl rfl)
theorem dX3_isAskedFor_5 : decode cX3_isAskedFor 5 = .ok (.aload_n 0, 1) := dk_42 (dk_at dksX3_isAskedFor_0 5 rfl rfl)
theorem dX3_isAskedFor_6 : decode cX3_isAskedFor 6 = .ok (.getfield 222, 3) := dk_180 0 222 (dk_at dksX3_isAskedFor_0 6 rfl rfl)
theorem dX3_isAskedFor_9 : decode cX3_isAskedFor 9 = .ok (.if_icmp .ge 29, 3) := dk_162 0 29 (dk_at dksX3_isAskedFor_0 9 rfl rfl)
theorem dX3_isAskedFor_12 : decode cX3_isAskedFor 12 = .ok (.iload_n 2, 1) := dk_28 (dk_at dksX3_isAskedFor_0 12 rfl rfl)
theorem dX3_isAskedFor_13 : decode cX3_isAskedFor 13 = .ok (.ifCond .ne 13, 3) := dk_154 0 13 (dk_at dksX3_isAskedFor_0 13 rfl rfl)
theorem dX3_isAskedFor_16 : decode cX3_isAskedFor 16 = .ok (.aload_n 0, 1) := dk_42 (dk_at dksX3_isAskedFor_0 16 rfl rfl)
theorem dX3_isAskedFor_17 : decode cX3_isAskedFor 17 = .ok (.getfield 95, 3) := dk_180 0 95 (dk_at dksX3_isAskedFor_0 17 rfl rfl)
theorem dX3_isAskedFor_20 : decode cX3_isAskedFor 20 = .ok (.iload_n 3, 1) := dk_29 (dk_at dksX3_isAskedFor_0 20 rfl rfl)
theorem dX3_isAskedFor_21 : decode cX3_isAskedFor 21 = .ok (.iaload, 1) := dk_46 (dk_at dksX3_isAskedFor_0 21 rfl rfl)
theorem dX3_isAskedFor_22 : decode cX3_isAskedFor 22 = .ok (.iload_n 1, 1) := dk_27 (dk_at dksX3_isAskedFor_0 22 rfl rfl)
theorem dX3_isAskedFor_23 : decode cX3_isAskedFor 23 = .ok (.if_icmp .ne 7, 3) := dk_160 0 7 (dk_at dksX3_isAskedFor_1 0 rfl rfl)
theorem dX3_isAskedFor_26 : decode cX3_isAskedFor 26 = .ok (.iconst 1, 1) := dk_4 (dk_at dksX3_isAskedFor_1 3 rfl rfl)
theorem dX3_isAskedFor_27 : decode cX3_isAskedFor 27 = .ok (.goto 4, 3) := dk_167 0 4 (dk_at dksX3_isAskedFor_1 4 rfl rfl)
theorem dX3_isAskedFor_30 : decode cX3_isAskedFor 30 = .ok (.iconst 0, 1) := dk_3 (dk_at dksX3_isAskedFor_1 7 rfl rfl)
theorem dX3_isAskedFor_31 : decode cX3_isAskedFor 31 = .ok (.istore_n 2, 1) := dk_61 (dk_at dksX3_isAskedFor_1 8 rfl rfl)
theorem dX3_isAskedFor_32 : decode cX3_isAskedFor 32 = .ok (.iinc 3 1, 3) := dk_132 3 1 (dk_at dksX3_isAskedFor_1 9 rfl rfl)
theorem dX3_isAskedFor_35 : decode cX3_isAskedFor 35 = .ok (.goto (-31), 3) := dk_167 255 225 (dk_at dksX3_isAskedFor_1 12 rfl rfl)
theorem dX3_isAskedFor_38 : decode cX3_isAskedFor 38 = .ok (.iload_n 2, 1) := dk_28 (dk_at dksX3_isAskedFor_1 15 rfl rfl)
theorem dX3_isAskedFor_39 : decode cX3_isAskedFor 39 = .ok (.ireturn, 1) := dk_172 (dk_at dksX3_isAskedFor_1 16 rfl rfl)
def dkwX3_renames_18 : List UInt8 := [167, 254, 92, 177]
abbrev dktX3_renames_18 : List UInt8 := dkwX3_renames_18 ++ []
def dkwX3_renames_17 : List UInt8 := [184, 0, 212, 153, 0, 8, 16, 113, 167, 0, 5, 16, 101, 79, 44, 7, 42, 180, 0, 133, 79, 132, 1, 1]
abbrev dktX3_renames_17 : List UInt8 := dkwX3_renames_17 ++ dktX3_renames_18
def dkwX3_renames_16 : List UInt8 := [160, 0, 9, 29, 4, 96, 167, 0, 12, 42, 180, 0, 62, 44, 16, 9, 46, 46, 79, 44, 16, 11, 21, 4]
abbrev dktX3_renames_16 : List UInt8 := dkwX3_renames_16 ++ dktX3_renames_17
def dkwX3_renames_15 : List UInt8 := [16, 15, 160, 0, 7, 4, 167, 0, 4, 3, 84, 42, 180, 0, 62, 44, 16, 9, 46, 21, 4, 16, 15]
abbrev dktX3_renames_15 : List UInt8 := dkwX3_renames_15 ++ dktX3_renames_16
def dkwX3_renames_14 : List UInt8 := [180, 0, 56, 42, 180, 0, 13, 29, 46, 44, 16, 9, 46, 79, 42, 180, 0, 65, 44, 16, 9, 46, 21, 4]
abbrev dktX3_renames_14 : List UInt8 := dkwX3_renames_14 ++ dktX3_renames_15
def dkwX3_renames_13 : List UInt8 := [132, 5, 1, 167, 255, 228, 44, 16, 10, 42, 180, 0, 56, 42, 180, 0, 13, 29, 46, 46, 79, 42]
abbrev dktX3_renames_13 : List UInt8 := dkwX3_renames_13 ++ dktX3_renames_14
def dkwX3_renames_12 : List UInt8 := [42, 180, 0, 126, 162, 0, 25, 42, 180, 0, 69, 21, 5, 42, 180, 0, 69, 21, 5, 4, 96, 46, 79]
abbrev dktX3_renames_12 : List UInt8 := dkwX3_renames_12 ++ dktX3_renames_13
def dkwX3_renames_11 : List UInt8 := [16, 9, 42, 180, 0, 69, 3, 46, 79, 42, 89, 180, 0, 126, 4, 100, 181, 0, 126, 3, 54, 5, 21, 5]
abbrev dktX3_renames_11 : List UInt8 := dkwX3_renames_11 ++ dktX3_renames_12
def dkwX3_renames_10 : List UInt8 := [16, 13, 21, 4, 16, 20, 160, 0, 7, 7, 167, 0, 4, 3, 79, 21, 4, 184, 0, 209, 153, 0, 139, 44]
abbrev dktX3_renames_10 : List UInt8 := dkwX3_renames_10 ++ dktX3_renames_11
def dkwX3_renames_9 : List UInt8 := [159, 0, 10, 21, 4, 16, 15, 160, 0, 12, 42, 180, 0, 22, 29, 46, 167, 0, 6, 29, 4, 96, 79, 44]
abbrev dktX3_renames_9 : List UInt8 := dkwX3_renames_9 ++ dktX3_renames_10
def dkwX3_renames_8 : List UInt8 := [180, 0, 19, 29, 46, 46, 79, 44, 16, 16, 2, 79, 44, 16, 14, 2, 79, 44, 16, 6, 21, 4, 16, 14]
abbrev dktX3_renames_8 : List UInt8 := dkwX3_renames_8 ++ dktX3_renames_9
def dkwX3_renames_7 : List UInt8 := [16, 7, 42, 180, 0, 56, 42, 180, 0, 16, 29, 46, 46, 79, 44, 16, 8, 42, 180, 0, 56, 42]
abbrev dktX3_renames_7 : List UInt8 := dkwX3_renames_7 ++ dktX3_renames_8
def dkwX3_renames_6 : List UInt8 := [167, 255, 209, 44, 3, 46, 62, 42, 180, 0, 9, 29, 46, 54, 4, 44, 5, 42, 180, 0, 133, 79, 44]
abbrev dktX3_renames_6 : List UInt8 := dkwX3_renames_6 ++ dktX3_renames_7
def dkwX3_renames_5 : List UInt8 := [21, 4, 42, 180, 0, 77, 29, 4, 96, 50, 21, 4, 46, 79, 132, 4, 1, 167, 255, 226, 132, 3, 1]
abbrev dktX3_renames_5 : List UInt8 := dkwX3_renames_5 ++ dktX3_renames_6
def dkwX3_renames_4 : List UInt8 := [42, 180, 0, 177, 162, 0, 45, 3, 54, 4, 21, 4, 16, 28, 162, 0, 29, 42, 180, 0, 77, 29, 50]
abbrev dktX3_renames_4 : List UInt8 := dkwX3_renames_4 ++ dktX3_renames_5
def dkwX3_renames_3 : List UInt8 := [3, 50, 29, 46, 79, 132, 3, 1, 167, 255, 236, 42, 89, 180, 0, 177, 4, 100, 181, 0, 177, 3, 62, 29]
abbrev dktX3_renames_3 : List UInt8 := dkwX3_renames_3 ++ dktX3_renames_4
def dkwX3_renames_2 : List UInt8 := [42, 89, 180, 0, 198, 4, 96, 181, 0, 198, 3, 62, 29, 16, 28, 162, 0, 20, 44, 29, 42, 180, 0, 77]
abbrev dktX3_renames_2 : List UInt8 := dkwX3_renames_2 ++ dktX3_renames_3
def dkwX3_renames_1 : List UInt8 := [180, 0, 77, 3, 50, 3, 46, 46, 182, 0, 219, 153, 1, 135, 42, 180, 0, 74, 42, 180, 0, 198, 50, 77]
abbrev dktX3_renames_1 : List UInt8 := dkwX3_renames_1 ++ dktX3_renames_2
def dkwX3_renames_0 : List UInt8 := [3, 60, 27, 42, 180, 0, 25, 162, 1, 162, 42, 180, 0, 177, 158, 1, 155, 42, 42, 180, 0, 9, 42]
abbrev dktX3_renames_0 : List UInt8 := dkwX3_renames_0 ++ dktX3_renames_1
theorem dksX3_renames_0 : cX3_renames.data.toList.drop 0 = dktX3_renames_0 := by decide +kernel
theorem dksX3_renames_1 : cX3_renames.data.toList.drop 23 = dktX3_renames_1 := dk_seg dksX3_renames_0 23 rfl rfl
theorem dksX3_renames_2 : cX3_renames.data.toList.drop 47 = dktX3_renames_2 := dk_seg dksX3_renames_1 24 rfl rfl
theorem dksX3_renames_3 : cX3_renames.data.toList.drop 71 = dktX3_renames_3 := dk_seg dksX3_renames_2 24 rfl rfl
theorem dksX3_renames_4 : cX3_renames.data.toList.drop 95 = dktX3_renames_4 := dk_seg dksX3_renames_3 24 rfl rfl
theorem dksX3_renames_5 : cX3_renames.data.toList.drop 118 = dktX3_renames_5 := dk_seg dksX3_renames_4 23 rfl rfl
theorem dksX3_renames_6 : cX3_renames.data.toList.drop 141 = dktX3_renames_6 := dk_seg dksX3_renames_5 23 rfl rfl
theorem dksX3_renames_7 : cX3_renames.data.toList.drop 164 = dktX3_renames_7 := dk_seg dksX3_renames_6 23 rfl rfl
theorem dksX3_renames_8 : cX3_renames.data.toList.drop 186 = dktX3_renames_8 := dk_seg dksX3_renames_7 22 rfl rfl
theorem dksX3_renames_9 : cX3_renames.data.toList.drop 210 = dktX3_renames_9 := dk_seg dksX3_renames_8 24 rfl rfl
theorem dksX3_renames_10 : cX3_renames.data.toList.drop 234 = dktX3_renames_10 := dk_seg dksX3_renames_9 24 rfl rfl
theorem dksX3_renames_11 : cX3_renames.data.toList.drop 258 = dktX3_renames_11 := dk_seg dksX3_renames_10 24 rfl rfl
theorem dksX3_renames_12 : cX3_renames.data.toList.drop 282 = dktX3_renames_12 := dk_seg dksX3_renames_11 24 rfl rfl
theorem dksX3_renames_13 : cX3_renames.data.toList.drop 305 = dktX3_renames_13 := dk_seg dksX3_renames_12 23 rfl rfl
theorem dksX3_renames_14 : cX3_renames.data.toList.drop 327 = dktX3_renames_14 := dk_seg dksX3_renames_13 22 rfl rfl
theorem dksX3_renames_15 : cX3_renames.data.toList.drop 351 = dktX3_renames_15 := dk_seg dksX3_renames_14 24 rfl rfl
theorem dksX3_renames_16 : cX3_renames.data.toList.drop 374 = dktX3_renames_16 := dk_seg dksX3_renames_15 23 rfl rfl
theorem dksX3_renames_17 : cX3_renames.data.toList.drop 398 = dktX3_renames_17 := dk_seg dksX3_renames_16 24 rfl rfl
theorem dksX3_renames_18 : cX3_renames.data.toList.drop 422 = dktX3_renames_18 := dk_seg dksX3_renames_17 24 rfl rfl
theorem dX3_renames_0 : decode cX3_renames 0 = .ok (.iconst 0, 1) := dk_3 (dk_at dksX3_renames_0 0 rfl rfl)
theorem dX3_renames_1 : decode cX3_renames 1 = .ok (.istore_n 1, 1) := dk_60 (dk_at dksX3_renames_0 1 rfl rfl)
theorem dX3_renames_2 : decode cX3_renames 2 = .ok (.iload_n 1, 1) := dk_27 (dk_at dksX3_renames_0 2 rfl rfl)
theorem dX3_renames_3 : decode cX3_renames 3 = .ok (.aload_n 0, 1) := dk_42 (dk_at dksX3_renames_0 3 rfl rfl)
theorem dX3_renames_4 : decode cX3_renames 4 = .ok (.getfield 25, 3) := dk_180 0 25 (dk_at dksX3_renames_0 4 rfl rfl)
theorem dX3_renames_7 : decode cX3_renames 7 = .ok (.if_icmp .ge 418, 3) := dk_162 1 162 (dk_at dksX3_renames_0 7 rfl rfl)
theorem dX3_renames_10 : decode cX3_renames 10 = .ok (.aload_n 0, 1) := dk_42 (dk_at dksX3_renames_0 10 rfl rfl)
theorem dX3_renames_11 : decode cX3_renames 11 = .ok (.getfield 177, 3) := dk_180 0 177 (dk_at dksX3_renames_0 11 rfl rfl)
theorem dX3_renames_14 : decode cX3_renames 14 = .ok (.ifCond .le 411, 3) := dk_158 1 155 (dk_at dksX3_renames_0 14 rfl rfl)
theorem dX3_renames_17 : decode cX3_renames 17 = .ok (.aload_n 0, 1) := dk_42 (dk_at dksX3_renames_0 17 rfl rfl)
theorem dX3_renames_18 : decode cX3_renames 18 = .ok (.aload_n 0, 1) := dk_42 (dk_at dksX3_renames_0 18 rfl rfl)
theorem dX3_renames_19 : decode cX3_renames 19 = .ok (.getfield 9, 3) := dk_180 0 9 (dk_at dksX3_renames_0 19 rfl rfl)
theorem dX3_renames_22 : decode cX3_renames 22 = .ok (.aload_n 0, 1) := dk_42 (dk_at dksX3_renames_0 22 rfl rfl)
theorem dX3_renames_23 : decode cX3_renames 23 = .ok (.getfield 77, 3) := dk_180 0 77 (dk_at dksX3_renames_1 0 rfl rfl)
theorem dX3_renames_26 : decode cX3_renames 26 = .ok (.iconst 0, 1) := dk_3 (dk_at dksX3_renames_1 3 rfl rfl)
theorem dX3_renames_27 : decode cX3_renames 27 = .ok (.aaload, 1) := dk_50 (dk_at dksX3_renames_1 4 rfl rfl)
theorem dX3_renames_28 : decode cX3_renames 28 = .ok (.iconst 0, 1) := dk_3 (dk_at dksX3_renames_1 5 rfl rfl)
theorem dX3_renames_29 : decode cX3_renames 29 = .ok (.iaload, 1) := dk_46 (dk_at dksX3_renames_1 6 rfl rfl)
theorem dX3_renames_30 : decode cX3_renames 30 = .ok (.iaload, 1) := dk_46 (dk_at dksX3_renames_1 7 rfl rfl)
theorem dX3_renames_31 : decode cX3_renames 31 = .ok (.invokevirtual 219, 3) := dk_182 0 219 (dk_at dksX3_renames_1 8 rfl rfl)
theorem dX3_renames_34 : decode cX3_renames 34 = .ok (.ifCond .eq 391, 3) := dk_153 1 135 (dk_at dksX3_renames_1 11 rfl rfl)
theorem dX3_renames_37 : decode cX3_renames 37 = .ok (.aload_n 0, 1) := dk_42 (dk_at dksX3_renames_1 14 rfl rfl)
theorem dX3_renames_38 : decode cX3_renames 38 = .ok (.getfield 74, 3) := dk_180 0 74 (dk_at dksX3_renames_1 15 rfl rfl)
theorem dX3_renames_41 : decode cX3_renames 41 = .ok (.aload_n 0, 1) := dk_42 (dk_at dksX3_renames_1 18 rfl rfl)
theorem dX3_renames_42 : decode cX3_renames 42 = .ok (.getfield 198, 3) := dk_180 0 198 (dk_at dksX3_renames_1 19 rfl rfl)
theorem dX3_renames_45 : decode cX3_renames 45 = .ok (.aaload, 1) := dk_50 (dk_at dksX3_renames_1 22 rfl rfl)
theorem dX3_renames_46 : decode cX3_renames 46 = .ok (.astore_n 2, 1) := dk_77 (dk_at dksX3_renames_1 23 rfl rfl)
theorem dX3_renames_47 : decode cX3_renames 47 = .ok (.aload_n 0, 1) := dk_42 (dk_at dksX3_renames_2 0 rfl rfl)
theorem dX3_renames_48 : decode cX3_renames 48 = .ok (.dup, 1) := dk_89 (dk_at dksX3_renames_2 1 rfl rfl)
theorem dX3_renames_49 : decode cX3_renames 49 = .ok (.getfield 198, 3) := dk_180 0 198 (dk_at dksX3_renames_2 2 rfl rfl)
theorem dX3_renames_52 : decode cX3_renames 52 = .ok (.iconst 1, 1) := dk_4 (dk_at dksX3_renames_2 5 rfl rfl)
theorem dX3_renames_53 : decode cX3_renames 53 = .ok (.iadd, 1) := dk_96 (dk_at dksX3_renames_2 6 rfl rfl)
theorem dX3_renames_54 : decode cX3_renames 54 = .ok (.putfield 198, 3) := dk_181 0 198 (dk_at dksX3_renames_2 7 rfl rfl)
theorem dX3_renames_57 : decode cX3_renames 57 = .ok (.iconst 0, 1) := dk_3 (dk_at dksX3_renames_2 10 rfl rfl)
theorem dX3_renames_58 : decode cX3_renames 58 = .ok (.istore_n 3, 1) := dk_62 (dk_at dksX3_renames_2 11 rfl rfl)
theorem dX3_renames_59 : decode cX3_renames 59 = .ok (.iload_n 3, 1) := dk_29 (dk_at dksX3_renames_2 12 rfl rfl)
theorem dX3_renames_60 : decode cX3_renames 60 = .ok (.bipush 28, 2) := dk_16 28 (dk_at dksX3_renames_2 13 rfl rfl)
theorem dX3_renames_62 : decode cX3_renames 62 = .ok (.if_icmp .ge 20, 3) := dk_162 0 20 (dk_at dksX3_renames_2 15 rfl rfl)
theorem dX3_renames_65 : decode cX3_renames 65 = .ok (.aload_n 2, 1) := dk_44 (dk_at dksX3_renames_2 18 rfl rfl)
theorem dX3_renames_66 : decode cX3_renames 66 = .ok (.iload_n 3, 1) := dk_29 (dk_at dksX3_renames_2 19 rfl rfl)
theorem dX3_renames_67 : decode cX3_renames 67 = .ok (.aload_n 0, 1) := dk_42 (dk_at dksX3_renames_2 20 rfl rfl)
theorem dX3_renames_68 : decode cX3_renames 68 = .ok (.getfield 77, 3) := dk_180 0 77 (dk_at dksX3_renames_2 21 rfl rfl)
theorem dX3_renames_71 : decode cX3_renames 71 = .ok (.iconst 0, 1) := dk_3 (dk_at dksX3_renames_3 0 rfl rfl)
theorem dX3_renames_72 : decode cX3_renames 72 = .ok (.aaload, 1) := dk_50 (dk_at dksX3_renames_3 1 rfl rfl)
theorem dX3_renames_73 : decode cX3_renames 73 = .ok (.iload_n 3, 1) := dk_29 (dk_at dksX3_renames_3 2 rfl rfl)
theorem dX3_renames_74 : decode cX3_renames 74 = .ok (.iaload, 1) := dk_46 (dk_at dksX3_renames_3 3 rfl rfl)
theorem dX3_renames_75 : decode cX3_renames 75 = .ok (.iastore, 1) := dk_79 (dk_at dksX3_renames_3 4 rfl rfl)
theorem dX3_renames_76 : decode cX3_renames 76 = .ok (.iinc 3 1, 3) := dk_132 3 1 (dk_at dksX3_renames_3 5 rfl rfl)
theorem dX3_renames_79 : decode cX3_renames 79 = .ok (.goto (-20), 3) := dk_167 255 236 (dk_at dksX3_renames_3 8 rfl rfl)
theorem dX3_renames_82 : decode cX3_renames 82 = .ok (.aload_n 0, 1) := dk_42 (dk_at dksX3_renames_3 11 rfl rfl)
theorem dX3_renames_83 : decode cX3_renames 83 = .ok (.dup, 1) := dk_89 (dk_at dksX3_renames_3 12 rfl rfl)
theorem dX3_renames_84 : decode cX3_renames 84 = .ok (.getfield 177, 3) := dk_180 0 177 (dk_at dksX3_renames_3 13 rfl rfl)
theorem dX3_renames_87 : decode cX3_renames 87 = .ok (.iconst 1, 1) := dk_4 (dk_at dksX3_renames_3 16 rfl rfl)
theorem dX3_renames_88 : decode cX3_renames 88 = .ok (.isub, 1) := dk_100 (dk_at dksX3_renames_3 17 rfl rfl)
theorem dX3_renames_89 : decode cX3_renames 89 = .ok (.putfield 177, 3) := dk_181 0 177 (dk_at dksX3_renames_3 18 rfl rfl)
theorem dX3_renames_92 : decode cX3_renames 92 = .ok (.iconst 0, 1) := dk_3 (dk_at dksX3_renames_3 21 rfl rfl)
theorem dX3_renames_93 : decode cX3_renames 93 = .ok (.istore_n 3, 1) := dk_62 (dk_at dksX3_renames_3 22 rfl rfl)
theorem dX3_renames_94 : decode cX3_renames 94 = .ok (.iload_n 3, 1) := dk_29 (dk_at dksX3_renames_3 23 rfl rfl)
theorem dX3_renames_95 : decode cX3_renames 95 = .ok (.aload_n 0, 1) := dk_42 (dk_at dksX3_renames_4 0 rfl rfl)
theorem dX3_renames_96 : decode cX3_renames 96 = .ok (.getfield 177, 3) := dk_180 0 177 (dk_at dksX3_renames_4 1 rfl rfl)
theorem dX3_renames_99 : decode cX3_renames 99 = .ok (.if_icmp .ge 45, 3) := dk_162 0 45 (dk_at dksX3_renames_4 4 rfl rfl)
theorem dX3_renames_102 : decode cX3_renames 102 = .ok (.iconst 0, 1) := dk_3 (dk_at dksX3_renames_4 7 rfl rfl)
theorem dX3_renames_103 : decode cX3_renames 103 = .ok (.istore 4, 2) := dk_54 4 (dk_at dksX3_renames_4 8 rfl rfl)
theorem dX3_renames_105 : decode cX3_renames 105 = .ok (.iload 4, 2) := dk_21 4 (dk_at dksX3_renames_4 10 rfl rfl)
theorem dX3_renames_107 : decode cX3_renames 107 = .ok (.bipush 28, 2) := dk_16 28 (dk_at dksX3_renames_4 12 rfl rfl)
theorem dX3_renames_109 : decode cX3_renames 109 = .ok (.if_icmp .ge 29, 3) := dk_162 0 29 (dk_at dksX3_renames_4 14 rfl rfl)
theorem dX3_renames_112 : decode cX3_renames 112 = .ok (.aload_n 0, 1) := dk_42 (dk_at dksX3_renames_4 17 rfl rfl)
theorem dX3_renames_113 : decode cX3_renames 113 = .ok (.getfield 77, 3) := dk_180 0 77 (dk_at dksX3_renames_4 18 rfl rfl)
theorem dX3_renames_116 : decode cX3_renames 116 = .ok (.iload_n 3, 1) := dk_29 (dk_at dksX3_renames_4 21 rfl rfl)
theorem dX3_renames_117 : decode cX3_renames 117 = .ok (.aaload, 1) := dk_50 (dk_at dksX3_renames_4 22 rfl rfl)
theorem dX3_renames_118 : decode cX3_renames 118 = .ok (.iload 4, 2) := dk_21 4 (dk_at dksX3_renames_5 0 rfl rfl)
theorem dX3_renames_120 : decode cX3_renames 120 = .ok (.aload_n 0, 1) := dk_42 (dk_at dksX3_renames_5 2 rfl rfl)
theorem dX3_renames_121 : decode cX3_renames 121 = .ok (.getfield 77, 3) := dk_180 0 77 (dk_at dksX3_renames_5 3 rfl rfl)
theorem dX3_renames_124 : decode cX3_renames 124 = .ok (.iload_n 3, 1) := dk_29 (dk_at dksX3_renames_5 6 rfl rfl)
theorem dX3_renames_125 : decode cX3_renames 125 = .ok (.iconst 1, 1) := dk_4 (dk_at dksX3_renames_5 7 rfl rfl)
theorem dX3_renames_126 : decode cX3_renames 126 = .ok (.iadd, 1) := dk_96 (dk_at dksX3_renames_5 8 rfl rfl)
theorem dX3_renames_127 : decode cX3_renames 127 = .ok (.aaload, 1) := dk_50 (dk_at dksX3_renames_5 9 rfl rfl)
theorem dX3_renames_128 : decode cX3_renames 128 = .ok (.iload 4, 2) := dk_21 4 (dk_at dksX3_renames_5 10 rfl rfl)
theorem dX3_renames_130 : decode cX3_renames 130 = .ok (.iaload, 1) := dk_46 (dk_at dksX3_renames_5 12 rfl rfl)
theorem dX3_renames_131 : decode cX3_renames 131 = .ok (.iastore, 1) := dk_79 (dk_at dksX3_renames_5 13 rfl rfl)
theorem dX3_renames_132 : decode cX3_renames 132 = .ok (.iinc 4 1, 3) := dk_132 4 1 (dk_at dksX3_renames_5 14 rfl rfl)
theorem dX3_renames_135 : decode cX3_renames 135 = .ok (.goto (-30), 3) := dk_167 255 226 (dk_at dksX3_renames_5 17 rfl rfl)
theorem dX3_renames_138 : decode cX3_renames 138 = .ok (.iinc 3 1, 3) := dk_132 3 1 (dk_at dksX3_renames_5 20 rfl rfl)
theorem dX3_renames_141 : decode cX3_renames 141 = .ok (.goto (-47), 3) := dk_167 255 209 (dk_at dksX3_renames_6 0 rfl rfl)
theorem dX3_renames_144 : decode cX3_renames 144 = .ok (.aload_n 2, 1) := dk_44 (dk_at dksX3_renames_6 3 rfl rfl)
theorem dX3_renames_145 : decode cX3_renames 145 = .ok (.iconst 0, 1) := dk_3 (dk_at dksX3_renames_6 4 rfl rfl)
theorem dX3_renames_146 : decode cX3_renames 146 = .ok (.iaload, 1) := dk_46 (dk_at dksX3_renames_6 5 rfl rfl)
theorem dX3_renames_147 : decode cX3_renames 147 = .ok (.istore_n 3, 1) := dk_62 (dk_at dksX3_renames_6 6 rfl rfl)
theorem dX3_renames_148 : decode cX3_renames 148 = .ok (.aload_n 0, 1) := dk_42 (dk_at dksX3_renames_6 7 rfl rfl)
theorem dX3_renames_149 : decode cX3_renames 149 = .ok (.getfield 9, 3) := dk_180 0 9 (dk_at dksX3_renames_6 8 rfl rfl)
theorem dX3_renames_152 : decode cX3_renames 152 = .ok (.iload_n 3, 1) := dk_29 (dk_at dksX3_renames_6 11 rfl rfl)
theorem dX3_renames_153 : decode cX3_renames 153 = .ok (.iaload, 1) := dk_46 (dk_at dksX3_renames_6 12 rfl rfl)
theorem dX3_renames_154 : decode cX3_renames 154 = .ok (.istore 4, 2) := dk_54 4 (dk_at dksX3_renames_6 13 rfl rfl)
theorem dX3_renames_156 : decode cX3_renames 156 = .ok (.aload_n 2, 1) := dk_44 (dk_at dksX3_renames_6 15 rfl rfl)
theorem dX3_renames_157 : decode cX3_renames 157 = .ok (.iconst 2, 1) := dk_5 (dk_at dksX3_renames_6 16 rfl rfl)
theorem dX3_renames_158 : decode cX3_renames 158 = .ok (.aload_n 0, 1) := dk_42 (dk_at dksX3_renames_6 17 rfl rfl)
theorem dX3_renames_159 : decode cX3_renames 159 = .ok (.getfield 133, 3) := dk_180 0 133 (dk_at dksX3_renames_6 18 rfl rfl)
theorem dX3_renames_162 : decode cX3_renames 162 = .ok (.iastore, 1) := dk_79 (dk_at dksX3_renames_6 21 rfl rfl)
theorem dX3_renames_163 : decode cX3_renames 163 = .ok (.aload_n 2, 1) := dk_44 (dk_at dksX3_renames_6 22 rfl rfl)
theorem dX3_renames_164 : decode cX3_renames 164 = .ok (.bipush 7, 2) := dk_16 7 (dk_at dksX3_renames_7 0 rfl rfl)
theorem dX3_renames_166 : decode cX3_renames 166 = .ok (.aload_n 0, 1) := dk_42 (dk_at dksX3_renames_7 2 rfl rfl)
theorem dX3_renames_167 : decode cX3_renames 167 = .ok (.getfield 56, 3) := dk_180 0 56 (dk_at dksX3_renames_7 3 rfl rfl)
theorem dX3_renames_170 : decode cX3_renames 170 = .ok (.aload_n 0, 1) := dk_42 (dk_at dksX3_renames_7 6 rfl rfl)
theorem dX3_renames_171 : decode cX3_renames 171 = .ok (.getfield 16, 3) := dk_180 0 16 (dk_at dksX3_renames_7 7 rfl rfl)
theorem dX3_renames_174 : decode cX3_renames 174 = .ok (.iload_n 3, 1) := dk_29 (dk_at dksX3_renames_7 10 rfl rfl)
theorem dX3_renames_175 : decode cX3_renames 175 = .ok (.iaload, 1) := dk_46 (dk_at dksX3_renames_7 11 rfl rfl)
theorem dX3_renames_176 : decode cX3_renames 176 = .ok (.iaload, 1) := dk_46 (dk_at dksX3_renames_7 12 rfl rfl)
theorem dX3_renames_177 : decode cX3_renames 177 = .ok (.iastore, 1) := dk_79 (dk_at dksX3_renames_7 13 rfl rfl)
theorem dX3_renames_178 : decode cX3_renames 178 = .ok (.aload_n 2, 1) := dk_44 (dk_at dksX3_renames_7 14 rfl rfl)
theorem dX3_renames_179 : decode cX3_renames 179 = .ok (.bipush 8, 2) := dk_16 8 (dk_at dksX3_renames_7 15 rfl rfl)
theorem dX3_renames_181 : decode cX3_renames 181 = .ok (.aload_n 0, 1) := dk_42 (dk_at dksX3_renames_7 17 rfl rfl)
theorem dX3_renames_182 : decode cX3_renames 182 = .ok (.getfield 56, 3) := dk_180 0 56 (dk_at dksX3_renames_7 18 rfl rfl)
theorem dX3_renames_185 : decode cX3_renames 185 = .ok (.aload_n 0, 1) := dk_42 (dk_at dksX3_renames_7 21 rfl rfl)
theorem dX3_renames_186 : decode cX3_renames 186 = .ok (.getfield 19, 3) := dk_180 0 19 (dk_at dksX3_renames_8 0 rfl rfl)
theorem dX3_renames_189 : decode cX3_renames 189 = .ok (.iload_n 3, 1) := dk_29 (dk_at dksX3_renames_8 3 rfl rfl)
theorem dX3_renames_190 : decode cX3_renames 190 = .ok (.iaload, 1) := dk_46 (dk_at dksX3_renames_8 4 rfl rfl)
theorem dX3_renames_191 : decode cX3_renames 191 = .ok (.iaload, 1) := dk_46 (dk_at dksX3_renames_8 5 rfl rfl)
theorem dX3_renames_192 : decode cX3_renames 192 = .ok (.iastore, 1) := dk_79 (dk_at dksX3_renames_8 6 rfl rfl)
theorem dX3_renames_193 : decode cX3_renames 193 = .ok (.aload_n 2, 1) := dk_44 (dk_at dksX3_renames_8 7 rfl rfl)
theorem dX3_renames_194 : decode cX3_renames 194 = .ok (.bipush 16, 2) := dk_16 16 (dk_at dksX3_renames_8 8 rfl rfl)
theorem dX3_renames_196 : decode cX3_renames 196 = .ok (.iconst (-1), 1) := dk_2 (dk_at dksX3_renames_8 10 rfl rfl)
theorem dX3_renames_197 : decode cX3_renames 197 = .ok (.iastore, 1) := dk_79 (dk_at dksX3_renames_8 11 rfl rfl)
theorem dX3_renames_198 : decode cX3_renames 198 = .ok (.aload_n 2, 1) := dk_44 (dk_at dksX3_renames_8 12 rfl rfl)
theorem dX3_renames_199 : decode cX3_renames 199 = .ok (.bipush 14, 2) := dk_16 14 (dk_at dksX3_renames_8 13 rfl rfl)
theorem dX3_renames_201 : decode cX3_renames 201 = .ok (.iconst (-1), 1) := dk_2 (dk_at dksX3_renames_8 15 rfl rfl)
theorem dX3_renames_202 : decode cX3_renames 202 = .ok (.iastore, 1) := dk_79 (dk_at dksX3_renames_8 16 rfl rfl)
theorem dX3_renames_203 : decode cX3_renames 203 = .ok (.aload_n 2, 1) := dk_44 (dk_at dksX3_renames_8 17 rfl rfl)
theorem dX3_renames_204 : decode cX3_renames 204 = .ok (.bipush 6, 2) := dk_16 6 (dk_at dksX3_renames_8 18 rfl rfl)
theorem dX3_renames_206 : decode cX3_renames 206 = .ok (.iload 4, 2) := dk_21 4 (dk_at dksX3_renames_8 20 rfl rfl)
theorem dX3_renames_208 : decode cX3_renames 208 = .ok (.bipush 14, 2) := dk_16 14 (dk_at dksX3_renames_8 22 rfl rfl)
theorem dX3_renames_210 : decode cX3_renames 210 = .ok (.if_icmp .eq 10, 3) := dk_159 0 10 (dk_at dksX3_renames_9 0 rfl rfl)
theorem dX3_renames_213 : decode cX3_renames 213 = .ok (.iload 4, 2) := dk_21 4 (dk_at dksX3_renames_9 3 rfl rfl)
theorem dX3_renames_215 : decode cX3_renames 215 = .ok (.bipush 15, 2) := dk_16 15 (dk_at dksX3_renames_9 5 rfl rfl)
theorem dX3_renames_217 : decode cX3_renames 217 = .ok (.if_icmp .ne 12, 3) := dk_160 0 12 (dk_at dksX3_renames_9 7 rfl rfl)
theorem dX3_renames_220 : decode cX3_renames 220 = .ok (.aload_n 0, 1) := dk_42 (dk_at dksX3_renames_9 10 rfl rfl)
theorem dX3_renames_221 : decode cX3_renames 221 = .ok (.getfield 22, 3) := dk_180 0 22 (dk_at dksX3_renames_9 11 rfl rfl)
theorem dX3_renames_224 : decode cX3_renames 224 = .ok (.iload_n 3, 1) := dk_29 (dk_at dksX3_renames_9 14 rfl rfl)
theorem dX3_renames_225 : decode cX3_renames 225 = .ok (.iaload, 1) := dk_46 (dk_at dksX3_renames_9 15 rfl rfl)
theorem dX3_renames_226 : decode cX3_renames 226 = .ok (.goto 6, 3) := dk_167 0 6 (dk_at dksX3_renames_9 16 rfl rfl)
theorem dX3_renames_229 : decode cX3_renames 229 = .ok (.iload_n 3, 1) := dk_29 (dk_at dksX3_renames_9 19 rfl rfl)
theorem dX3_renames_230 : decode cX3_renames 230 = .ok (.iconst 1, 1) := dk_4 (dk_at dksX3_renames_9 20 rfl rfl)
theorem dX3_renames_231 : decode cX3_renames 231 = .ok (.iadd, 1) := dk_96 (dk_at dksX3_renames_9 21 rfl rfl)
theorem dX3_renames_232 : decode cX3_renames 232 = .ok (.iastore, 1) := dk_79 (dk_at dksX3_renames_9 22 rfl rfl)
theorem dX3_renames_233 : decode cX3_renames 233 = .ok (.aload_n 2, 1) := dk_44 (dk_at dksX3_renames_9 23 rfl rfl)
theorem dX3_renames_234 : decode cX3_renames 234 = .ok (.bipush 13, 2) := dk_16 13 (dk_at dksX3_renames_10 0 rfl rfl)
theorem dX3_renames_236 : decode cX3_renames 236 = .ok (.iload 4, 2) := dk_21 4 (dk_at dksX3_renames_10 2 rfl rfl)
theorem dX3_renames_238 : decode cX3_renames 238 = .ok (.bipush 20, 2) := dk_16 20 (dk_at dksX3_renames_10 4 rfl rfl)
theorem dX3_renames_240 : decode cX3_renames 240 = .ok (.if_icmp .ne 7, 3) := dk_160 0 7 (dk_at dksX3_renames_10 6 rfl rfl)
theorem dX3_renames_243 : decode cX3_renames 243 = .ok (.iconst 4, 1) := dk_7 (dk_at dksX3_renames_10 9 rfl rfl)
theorem dX3_renames_244 : decode cX3_renames 244 = .ok (.goto 4, 3) := dk_167 0 4 (dk_at dksX3_renames_10 10 rfl rfl)
theorem dX3_renames_247 : decode cX3_renames 247 = .ok (.iconst 0, 1) := dk_3 (dk_at dksX3_renames_10 13 rfl rfl)
theorem dX3_renames_248 : decode cX3_renames 248 = .ok (.iastore, 1) := dk_79 (dk_at dksX3_renames_10 14 rfl rfl)
theorem dX3_renames_249 : decode cX3_renames 249 = .ok (.iload 4, 2) := dk_21 4 (dk_at dksX3_renames_10 15 rfl rfl)
theorem dX3_renames_251 : decode cX3_renames 251 = .ok (.invokestatic 209, 3) := dk_184 0 209 (dk_at dksX3_renames_10 17 rfl rfl)
theorem dX3_renames_254 : decode cX3_renames 254 = .ok (.ifCond .eq 139, 3) := dk_153 0 139 (dk_at dksX3_renames_10 20 rfl rfl)
theorem dX3_renames_257 : decode cX3_renames 257 = .ok (.aload_n 2, 1) := dk_44 (dk_at dksX3_renames_10 23 rfl rfl)
theorem dX3_renames_258 : decode cX3_renames 258 = .ok (.bipush 9, 2) := dk_16 9 (dk_at dksX3_renames_11 0 rfl rfl)
theorem dX3_renames_260 : decode cX3_renames 260 = .ok (.aload_n 0, 1) := dk_42 (dk_at dksX3_renames_11 2 rfl rfl)
theorem dX3_renames_261 : decode cX3_renames 261 = .ok (.getfield 69, 3) := dk_180 0 69 (dk_at dksX3_renames_11 3 rfl rfl)
theorem dX3_renames_264 : decode cX3_renames 264 = .ok (.iconst 0, 1) := dk_3 (dk_at dksX3_renames_11 6 rfl rfl)
theorem dX3_renames_265 : decode cX3_renames 265 = .ok (.iaload, 1) := dk_46 (dk_at dksX3_renames_11 7 rfl rfl)
theorem dX3_renames_266 : decode cX3_renames 266 = .ok (.iastore, 1) := dk_79 (dk_at dksX3_renames_11 8 rfl rfl)
theorem dX3_renames_267 : decode cX3_renames 267 = .ok (.aload_n 0, 1) := dk_42 (dk_at dksX3_renames_11 9 rfl rfl)
theorem dX3_renames_268 : decode cX3_renames 268 = .ok (.dup, 1) := dk_89 (dk_at dksX3_renames_11 10 rfl rfl)
theorem dX3_renames_269 : decode cX3_renames 269 = .ok (.getfield 126, 3) := dk_180 0 126 (dk_at dksX3_renames_11 11 rfl rfl)
theorem dX3_renames_272 : decode cX3_renames 272 = .ok (.iconst 1, 1) := dk_4 (dk_at dksX3_renames_11 14 rfl rfl)
theorem dX3_renames_273 : decode cX3_renames 273 = .ok (.isub, 1) := dk_100 (dk_at dksX3_renames_11 15 rfl rfl)
theorem dX3_renames_274 : decode cX3_renames 274 = .ok (.putfield 126, 3) := dk_181 0 126 (dk_at dksX3_renames_11 16 rfl rfl)
theorem dX3_renames_277 : decode cX3_renames 277 = .ok (.iconst 0, 1) := dk_3 (dk_at dksX3_renames_11 19 rfl rfl)
theorem dX3_renames_278 : decode cX3_renames 278 = .ok (.istore 5, 2) := dk_54 5 (dk_at dksX3_renames_11 20 rfl rfl)
theorem dX3_renames_280 : decode cX3_renames 280 = .ok (.iload 5, 2) := dk_21 5 (dk_at dksX3_renames_11 22 rfl rfl)
theorem dX3_renames_282 : decode cX3_renames 282 = .ok (.aload_n 0, 1) := dk_42 (dk_at dksX3_renames_12 0 rfl rfl)
theorem dX3_renames_283 : decode cX3_renames 283 = .ok (.getfield 126, 3) := dk_180 0 126 (dk_at dksX3_renames_12 1 rfl rfl)
theorem dX3_renames_286 : decode cX3_renames 286 = .ok (.if_icmp .ge 25, 3) := dk_162 0 25 (dk_at dksX3_renames_12 4 rfl rfl)
theorem dX3_renames_289 : decode cX3_renames 289 = .ok (.aload_n 0, 1) := dk_42 (dk_at dksX3_renames_12 7 rfl rfl)
theorem dX3_renames_290 : decode cX3_renames 290 = .ok (.getfield 69, 3) := dk_180 0 69 (dk_at dksX3_renames_12 8 rfl rfl)
theorem dX3_renames_293 : decode cX3_renames 293 = .ok (.iload 5, 2) := dk_21 5 (dk_at dksX3_renames_12 11 rfl rfl)
theorem dX3_renames_295 : decode cX3_renames 295 = .ok (.aload_n 0, 1) := dk_42 (dk_at dksX3_renames_12 13 rfl rfl)
theorem dX3_renames_296 : decode cX3_renames 296 = .ok (.getfield 69, 3) := dk_180 0 69 (dk_at dksX3_renames_12 14 rfl rfl)
theorem dX3_renames_299 : decode cX3_renames 299 = .ok (.iload 5, 2) := dk_21 5 (dk_at dksX3_renames_12 17 rfl rfl)
theorem dX3_renames_301 : decode cX3_renames 301 = .ok (.iconst 1, 1) := dk_4 (dk_at dksX3_renames_12 19 rfl rfl)
theorem dX3_renames_302 : decode cX3_renames 302 = .ok (.iadd, 1) := dk_96 (dk_at dksX3_renames_12 20 rfl rfl)
theorem dX3_renames_303 : decode cX3_renames 303 = .ok (.iaload, 1) := dk_46 (dk_at dksX3_renames_12 21 rfl rfl)
theorem dX3_renames_304 : decode cX3_renames 304 = .ok (.iastore, 1) := dk_79 (dk_at dksX3_renames_12 22 rfl rfl)
theorem dX3_renames_305 : decode cX3_renames 305 = .ok (.iinc 5 1, 3) := dk_132 5 1 (dk_at dksX3_renames_13 0 rfl rfl)
theorem dX3_renames_308 : decode cX3_renames 308 = .ok (.goto (-28), 3) := dk_167 255 228 (dk_at dksX3_renames_13 3 rfl rfl)
theorem dX3_renames_311 : decode cX3_renames 311 = .ok (.aload_n 2, 1) := dk_44 (dk_at dksX3_renames_13 6 rfl rfl)
theorem dX3_renames_312 : decode cX3_renames 312 = .ok (.bipush 10, 2) := dk_16 10 (dk_at dksX3_renames_13 7 rfl rfl)
theorem dX3_renames_314 : decode cX3_renames 314 = .ok (.aload_n 0, 1) := dk_42 (dk_at dksX3_renames_13 9 rfl rfl)
theorem dX3_renames_315 : decode cX3_renames 315 = .ok (.getfield 56, 3) := dk_180 0 56 (dk_at dksX3_renames_13 10 rfl rfl)
theorem dX3_renames_318 : decode cX3_renames 318 = .ok (.aload_n 0, 1) := dk_42 (dk_at dksX3_renames_13 13 rfl rfl)
theorem dX3_renames_319 : decode cX3_renames 319 = .ok (.getfield 13, 3) := dk_180 0 13 (dk_at dksX3_renames_13 14 rfl rfl)
theorem dX3_renames_322 : decode cX3_renames 322 = .ok (.iload_n 3, 1) := dk_29 (dk_at dksX3_renames_13 17 rfl rfl)
theorem dX3_renames_323 : decode cX3_renames 323 = .ok (.iaload, 1) := dk_46 (dk_at dksX3_renames_13 18 rfl rfl)
theorem dX3_renames_324 : decode cX3_renames 324 = .ok (.iaload, 1) := dk_46 (dk_at dksX3_renames_13 19 rfl rfl)
theorem dX3_renames_325 : decode cX3_renames 325 = .ok (.iastore, 1) := dk_79 (dk_at dksX3_renames_13 20 rfl rfl)
theorem dX3_renames_326 : decode cX3_renames 326 = .ok (.aload_n 0, 1) := dk_42 (dk_at dksX3_renames_13 21 rfl rfl)
theorem dX3_renames_327 : decode cX3_renames 327 = .ok (.getfield 56, 3) := dk_180 0 56 (dk_at dksX3_renames_14 0 rfl rfl)
theorem dX3_renames_330 : decode cX3_renames 330 = .ok (.aload_n 0, 1) := dk_42 (dk_at dksX3_renames_14 3 rfl rfl)
theorem dX3_renames_331 : decode cX3_renames 331 = .ok (.getfield 13, 3) := dk_180 0 13 (dk_at dksX3_renames_14 4 rfl rfl)
theorem dX3_renames_334 : decode cX3_renames 334 = .ok (.iload_n 3, 1) := dk_29 (dk_at dksX3_renames_14 7 rfl rfl)
theorem dX3_renames_335 : decode cX3_renames 335 = .ok (.iaload, 1) := dk_46 (dk_at dksX3_renames_14 8 rfl rfl)
theorem dX3_renames_336 : decode cX3_renames 336 = .ok (.aload_n 2, 1) := dk_44 (dk_at dksX3_renames_14 9 rfl rfl)
theorem dX3_renames_337 : decode cX3_renames 337 = .ok (.bipush 9, 2) := dk_16 9 (dk_at dksX3_renames_14 10 rfl rfl)
theorem dX3_renames_339 : decode cX3_renames 339 = .ok (.iaload, 1) := dk_46 (dk_at dksX3_renames_14 12 rfl rfl)
theorem dX3_renames_340 : decode cX3_renames 340 = .ok (.iastore, 1) := dk_79 (dk_at dksX3_renames_14 13 rfl rfl)
theorem dX3_renames_341 : decode cX3_renames 341 = .ok (.aload_n 0, 1) := dk_42 (dk_at dksX3_renames_14 14 rfl rfl)
theorem dX3_renames_342 : decode cX3_renames 342 = .ok (.getfield 65, 3) := dk_180 0 65 (dk_at dksX3_renames_14 15 rfl rfl)
theorem dX3_renames_345 : decode cX3_renames 345 = .ok (.aload_n 2, 1) := dk_44 (dk_at dksX3_renames_14 18 rfl rfl)
theorem dX3_renames_346 : decode cX3_renames 346 = .ok (.bipush 9, 2) := dk_16 9 (dk_at dksX3_renames_14 19 rfl rfl)
theorem dX3_renames_348 : decode cX3_renames 348 = .ok (.iaload, 1) := dk_46 (dk_at dksX3_renames_14 21 rfl rfl)
theorem dX3_renames_349 : decode cX3_renames 349 = .ok (.iload 4, 2) := dk_21 4 (dk_at dksX3_renames_14 22 rfl rfl)
theorem dX3_renames_351 : decode cX3_renames 351 = .ok (.bipush 15, 2) := dk_16 15 (dk_at dksX3_renames_15 0 rfl rfl)
theorem dX3_renames_353 : decode cX3_renames 353 = .ok (.if_icmp .ne 7, 3) := dk_160 0 7 (dk_at dksX3_renames_15 2 rfl rfl)
theorem dX3_renames_356 : decode cX3_renames 356 = .ok (.iconst 1, 1) := dk_4 (dk_at dksX3_renames_15 5 rfl rfl)
theorem dX3_renames_357 : decode cX3_renames 357 = .ok (.goto 4, 3) := dk_167 0 4 (dk_at dksX3_renames_15 6 rfl rfl)
theorem dX3_renames_360 : decode cX3_renames 360 = .ok (.iconst 0, 1) := dk_3 (dk_at dksX3_renames_15 9 rfl rfl)
theorem dX3_renames_361 : decode cX3_renames 361 = .ok (.bastore, 1) := dk_84 (dk_at dksX3_renames_15 10 rfl rfl)
theorem dX3_renames_362 : decode cX3_renames 362 = .ok (.aload_n 0, 1) := dk_42 (dk_at dksX3_renames_15 11 rfl rfl)
theorem dX3_renames_363 : decode cX3_renames 363 = .ok (.getfield 62, 3) := dk_180 0 62 (dk_at dksX3_renames_15 12 rfl rfl)
theorem dX3_renames_366 : decode cX3_renames 366 = .ok (.aload_n 2, 1) := dk_44 (dk_at dksX3_renames_15 15 rfl rfl)
theorem dX3_renames_367 : decode cX3_renames 367 = .ok (.bipush 9, 2) := dk_16 9 (dk_at dksX3_renames_15 16 rfl rfl)
theorem dX3_renames_369 : decode cX3_renames 369 = .ok (.iaload, 1) := dk_46 (dk_at dksX3_renames_15 18 rfl rfl)
theorem dX3_renames_370 : decode cX3_renames 370 = .ok (.iload 4, 2) := dk_21 4 (dk_at dksX3_renames_15 19 rfl rfl)
theorem dX3_renames_372 : decode cX3_renames 372 = .ok (.bipush 15, 2) := dk_16 15 (dk_at dksX3_renames_15 21 rfl rfl)
theorem dX3_renames_374 : decode cX3_renames 374 = .ok (.if_icmp .ne 9, 3) := dk_160 0 9 (dk_at dksX3_renames_16 0 rfl rfl)
theorem dX3_renames_377 : decode cX3_renames 377 = .ok (.iload_n 3, 1) := dk_29 (dk_at dksX3_renames_16 3 rfl rfl)
theorem dX3_renames_378 : decode cX3_renames 378 = .ok (.iconst 1, 1) := dk_4 (dk_at dksX3_renames_16 4 rfl rfl)
theorem dX3_renames_379 : decode cX3_renames 379 = .ok (.iadd, 1) := dk_96 (dk_at dksX3_renames_16 5 rfl rfl)
theorem dX3_renames_380 : decode cX3_renames 380 = .ok (.goto 12, 3) := dk_167 0 12 (dk_at dksX3_renames_16 6 rfl rfl)
theorem dX3_renames_383 : decode cX3_renames 383 = .ok (.aload_n 0, 1) := dk_42 (dk_at dksX3_renames_16 9 rfl rfl)
theorem dX3_renames_384 : decode cX3_renames 384 = .ok (.getfield 62, 3) := dk_180 0 62 (dk_at dksX3_renames_16 10 rfl rfl)
theorem dX3_renames_387 : decode cX3_renames 387 = .ok (.aload_n 2, 1) := dk_44 (dk_at dksX3_renames_16 13 rfl rfl)
theorem dX3_renames_388 : decode cX3_renames 388 = .ok (.bipush 9, 2) := dk_16 9 (dk_at dksX3_renames_16 14 rfl rfl)
theorem dX3_renames_390 : decode cX3_renames 390 = .ok (.iaload, 1) := dk_46 (dk_at dksX3_renames_16 16 rfl rfl)
theorem dX3_renames_391 : decode cX3_renames 391 = .ok (.iaload, 1) := dk_46 (dk_at dksX3_renames_16 17 rfl rfl)
theorem dX3_renames_392 : decode cX3_renames 392 = .ok (.iastore, 1) := dk_79 (dk_at dksX3_renames_16 18 rfl rfl)
theorem dX3_renames_393 : decode cX3_renames 393 = .ok (.aload_n 2, 1) := dk_44 (dk_at dksX3_renames_16 19 rfl rfl)
theorem dX3_renames_394 : decode cX3_renames 394 = .ok (.bipush 11, 2) := dk_16 11 (dk_at dksX3_renames_16 20 rfl rfl)
theorem dX3_renames_396 : decode cX3_renames 396 = .ok (.iload 4, 2) := dk_21 4 (dk_at dksX3_renames_16 22 rfl rfl)
theorem dX3_renames_398 : decode cX3_renames 398 = .ok (.invokestatic 212, 3) := dk_184 0 212 (dk_at dksX3_renames_17 0 rfl rfl)
theorem dX3_renames_401 : decode cX3_renames 401 = .ok (.ifCond .eq 8, 3) := dk_153 0 8 (dk_at dksX3_renames_17 3 rfl rfl)
theorem dX3_renames_404 : decode cX3_renames 404 = .ok (.bipush 113, 2) := dk_16 113 (dk_at dksX3_renames_17 6 rfl rfl)
theorem dX3_renames_406 : decode cX3_renames 406 = .ok (.goto 5, 3) := dk_167 0 5 (dk_at dksX3_renames_17 8 rfl rfl)
theorem dX3_renames_409 : decode cX3_renames 409 = .ok (.bipush 101, 2) := dk_16 101 (dk_at dksX3_renames_17 11 rfl rfl)
theorem dX3_renames_411 : decode cX3_renames 411 = .ok (.iastore, 1) := dk_79 (dk_at dksX3_renames_17 13 rfl rfl)
theorem dX3_renames_412 : decode cX3_renames 412 = .ok (.aload_n 2, 1) := dk_44 (dk_at dksX3_renames_17 14 rfl rfl)
theorem dX3_renames_413 : decode cX3_renames 413 = .ok (.iconst 4, 1) := dk_7 (dk_at dksX3_renames_17 15 rfl rfl)
theorem dX3_renames_414 : decode cX3_renames 414 = .ok (.aload_n 0, 1) := dk_42 (dk_at dksX3_renames_17 16 rfl rfl)
theorem dX3_renames_415 : decode cX3_renames 415 = .ok (.getfield 133, 3) := dk_180 0 133 (dk_at dksX3_renames_17 17 rfl rfl)
theorem dX3_renames_418 : decode cX3_renames 418 = .ok (.iastore, 1) := dk_79 (dk_at dksX3_renames_17 20 rfl rfl)
theorem dX3_renames_419 : decode cX3_renames 419 = .ok (.iinc 1 1, 3) := dk_132 1 1 (dk_at dksX3_renames_17 21 rfl rfl)
theorem dX3_renames_422 : decode cX3_renames 422 = .ok (.goto (-420), 3) := dk_167 254 92 (dk_at dksX3_renames_18 0 rfl rfl)
theorem dX3_renames_425 : decode cX3_renames 425 = .ok (.return_, 1) := dk_177 (dk_at dksX3_renames_18 3 rfl rfl)
def dkwX3_canRename_5 : List UInt8 := [167, 0, 4, 3, 172]
abbrev dktX3_canRename_5 : List UInt8 := dkwX3_canRename_5 ++ []
def dkwX3_canRename_4 : List UInt8 := [29, 154, 0, 25, 28, 154, 0, 21, 27, 184, 0, 205, 153, 0, 10, 42, 180, 0, 198, 154, 0, 7, 4]
abbrev dktX3_canRename_4 : List UInt8 := dkwX3_canRename_4 ++ dktX3_canRename_5
def dkwX3_canRename_3 : List UInt8 := [27, 184, 0, 212, 153, 0, 18, 42, 182, 0, 215, 42, 180, 0, 32, 160, 0, 7, 4, 167, 0, 4, 3, 62]
abbrev dktX3_canRename_3 : List UInt8 := dkwX3_canRename_3 ++ dktX3_canRename_4
def dkwX3_canRename_2 : List UInt8 := [180, 0, 198, 42, 180, 0, 29, 159, 0, 35, 27, 184, 0, 209, 153, 0, 10, 42, 180, 0, 126, 153, 0, 21]
abbrev dktX3_canRename_2 : List UInt8 := dkwX3_canRename_2 ++ dktX3_canRename_3
def dkwX3_canRename_1 : List UInt8 := [182, 0, 201, 184, 0, 205, 153, 0, 7, 4, 167, 0, 4, 3, 61, 132, 3, 1, 167, 255, 219, 42]
abbrev dktX3_canRename_1 : List UInt8 := dkwX3_canRename_1 ++ dktX3_canRename_2
def dkwX3_canRename_0 : List UInt8 := [3, 61, 3, 62, 29, 42, 180, 0, 198, 162, 0, 35, 28, 154, 0, 19, 42, 42, 180, 0, 74, 29, 50]
abbrev dktX3_canRename_0 : List UInt8 := dkwX3_canRename_0 ++ dktX3_canRename_1
theorem dksX3_canRename_0 : cX3_canRename.data.toList.drop 0 = dktX3_canRename_0 := by decide +kernel
theorem dksX3_canRename_1 : cX3_canRename.data.toList.drop 23 = dktX3_canRename_1 := dk_seg dksX3_canRename_0 23 rfl rfl
theorem dksX3_canRename_2 : cX3_canRename.data.toList.drop 45 = dktX3_canRename_2 := dk_seg dksX3_canRename_1 22 rfl rfl
theorem dksX3_canRename_3 : cX3_canRename.data.toList.drop 69 = dktX3_canRename_3 := dk_seg dksX3_canRename_2 24 rfl rfl
theorem dksX3_canRename_4 : cX3_canRename.data.toList.drop 93 = dktX3_canRename_4 := dk_seg dksX3_canRename_3 24 rfl rfl
theorem dksX3_canRename_5 : cX3_canRename.data.toList.drop 116 = dktX3_canRename_5 := dk_seg dksX3_canRename_4 23 rfl rfl
theorem dX3_canRename_0 : decode cX3_canRename 0 = .ok (.iconst 0, 1) := dk_3 (dk_at dksX3_canRename_0 0 rfl rfl)
theorem dX3_canRename_1 : decode cX3_canRename 1 = .ok (.istore_n 2, 1) := dk_61 (dk_at dksX3_canRename_0 1 rfl rfl)
theorem dX3_canRename_2 : decode cX3_canRename 2 = .ok (.iconst 0, 1) := dk_3 (dk_at dksX3_canRename_0 2 rfl rfl)
theorem dX3_canRename_3 : decode cX3_canRename 3 = .ok (.istore_n 3, 1) := dk_62 (dk_at dksX3_canRename_0 3 rfl rfl)
theorem dX3_canRename_4 : decode cX3_canRename 4 = .ok (.iload_n 3, 1) := dk_29 (dk_at dksX3_canRename_0 4 rfl rfl)
theorem dX3_canRename_5 : decode cX3_canRename 5 = .ok (.aload_n 0, 1) := dk_42 (dk_at dksX3_canRename_0 5 rfl rfl)
theorem dX3_canRename_6 : decode cX3_canRename 6 = .ok (.getfield 198, 3) := dk_180 0 198 (dk_at dksX3_canRename_0 6 rfl rfl)
theorem dX3_canRename_9 : decode cX3_canRename 9 = .ok (.if_icmp .ge 35, 3) := dk_162 0 35 (dk_at dksX3_canRename_0 9 rfl rfl)
theorem dX3_canRename_12 : decode cX3_canRename 12 = .ok (.iload_n 2, 1) := dk_28 (dk_at dksX3_canRename_0 12 rfl rfl)
theorem dX3_canRename_13 : decode cX3_canRename 13 = .ok (.ifCond .ne 19, 3) := dk_154 0 19 (dk_at dksX3_canRename_0 13 rfl rfl)
theorem dX3_canRename_16 : decode cX3_canRename 16 = .ok (.aload_n 0, 1) := dk_42 (dk_at dksX3_canRename_0 16 rfl rfl)
theorem dX3_canRename_17 : decode cX3_canRename 17 = .ok (.aload_n 0, 1) := dk_42 (dk_at dksX3_canRename_0 17 rfl rfl)
theorem dX3_canRename_18 : decode cX3_canRename 18 = .ok (.getfield 74, 3) := dk_180 0 74 (dk_at dksX3_canRename_0 18 rfl rfl)
theorem dX3_canRename_21 : decode cX3_canRename 21 = .ok (.iload_n 3, 1) := dk_29 (dk_at dksX3_canRename_0 21 rfl rfl)
theorem dX3_canRename_22 : decode cX3_canRename 22 = .ok (.aaload, 1) := dk_50 (dk_at dksX3_canRename_0 22 rfl rfl)
theorem dX3_canRename_23 : decode cX3_canRename 23 = .ok (.invokevirtual 201, 3) := dk_182 0 201 (dk_at dksX3_canRename_1 0 rfl rfl)
theorem dX3_canRename_26 : decode cX3_canRename 26 = .ok (.invokestatic 205, 3) := dk_184 0 205 (dk_at dksX3_canRename_1 3 rfl rfl)
theorem dX3_canRename_29 : decode cX3_canRename 29 = .ok (.ifCond .eq 7, 3) := dk_153 0 7 (dk_at dksX3_canRename_1 6 rfl rfl)
theorem dX3_canRename_32 : decode cX3_canRename 32 = .ok (.iconst 1, 1) := dk_4 (dk_at dksX3_canRename_1 9 rfl rfl)
theorem dX3_canRename_33 : decode cX3_canRename 33 = .ok (.goto 4, 3) := dk_167 0 4 (dk_at dksX3_canRename_1 10 rfl rfl)
theorem dX3_canRename_36 : decode cX3_canRename 36 = .ok (.iconst 0, 1) := dk_3 (dk_at dksX3_canRename_1 13 rfl rfl)
theorem dX3_canRename_37 : decode cX3_canRename 37 = .ok (.istore_n 2, 1) := dk_61 (dk_at dksX3_canRename_1 14 rfl rfl)
theorem dX3_canRename_38 : decode cX3_canRename 38 = .ok (.iinc 3 1, 3) := dk_132 3 1 (dk_at dksX3_canRename_1 15 rfl rfl)
theorem dX3_canRename_41 : decode cX3_canRename 41 = .ok (.goto (-37), 3) := dk_167 255 219 (dk_at dksX3_canRename_1 18 rfl rfl)
theorem dX3_canRename_44 : decode cX3_canRename 44 = .ok (.aload_n 0, 1) := dk_42 (dk_at dksX3_canRename_1 21 rfl rfl)
theorem dX3_canRename_45 : decode cX3_canRename 45 = .ok (.getfield 198, 3) := dk_180 0 198 (dk_at dksX3_canRename_2 0 rfl rfl)
theorem dX3_canRename_48 : decode cX3_canRename 48 = .ok (.aload_n 0, 1) := dk_42 (dk_at dksX3_canRename_2 3 rfl rfl)
theorem dX3_canRename_49 : decode cX3_canRename 49 = .ok (.getfield 29, 3) := dk_180 0 29 (dk_at dksX3_canRename_2 4 rfl rfl)
theorem dX3_canRename_52 : decode cX3_canRename 52 = .ok (.if_icmp .eq 35, 3) := dk_159 0 35 (dk_at dksX3_canRename_2 7 rfl rfl)
theorem dX3_canRename_55 : decode cX3_canRename 55 = .ok (.iload_n 1, 1) := dk_27 (dk_at dksX3_canRename_2 10 rfl rfl)
theorem dX3_canRename_56 : decode cX3_canRename 56 = .ok (.invokestatic 209, 3) := dk_184 0 209 (dk_at dksX3_canRename_2 11 rfl rfl)
theorem dX3_canRename_59 : decode cX3_canRename 59 = .ok (.ifCond .eq 10, 3) := dk_153 0 10 (dk_at dksX3_canRename_2 14 rfl rfl)
theorem dX3_canRename_62 : decode cX3_canRename 62 = .ok (.aload_n 0, 1) := dk_42 (dk_at dksX3_canRename_2 17 rfl rfl)
theorem dX3_canRename_63 : decode cX3_canRename 63 = .ok (.getfield 126, 3) := dk_180 0 126 (dk_at dksX3_canRename_2 18 rfl rfl)
theorem dX3_canRename_66 : decode cX3_canRename 66 = .ok (.ifCond .eq 21, 3) := dk_153 0 21 (dk_at dksX3_canRename_2 21 rfl rfl)
theorem dX3_canRename_69 : decode cX3_canRename 69 = .ok (.iload_n 1, 1) := dk_27 (dk_at dksX3_canRename_3 0 rfl rfl)
theorem dX3_canRename_70 : decode cX3_canRename 70 = .ok (.invokestatic 212, 3) := dk_184 0 212 (dk_at dksX3_canRename_3 1 rfl rfl)
theorem dX3_canRename_73 : decode cX3_canRename 73 = .ok (.ifCond .eq 18, 3) := dk_153 0 18 (dk_at dksX3_canRename_3 4 rfl rfl)
theorem dX3_canRename_76 : decode cX3_canRename 76 = .ok (.aload_n 0, 1) := dk_42 (dk_at dksX3_canRename_3 7 rfl rfl)
theorem dX3_canRename_77 : decode cX3_canRename 77 = .ok (.invokevirtual 215, 3) := dk_182 0 215 (dk_at dksX3_canRename_3 8 rfl rfl)
theorem dX3_canRename_80 : decode cX3_canRename 80 = .ok (.aload_n 0, 1) := dk_42 (dk_at dksX3_canRename_3 11 rfl rfl)
theorem dX3_canRename_81 : decode cX3_canRename 81 = .ok (.getfield 32, 3) := dk_180 0 32 (dk_at dksX3_canRename_3 12 rfl rfl)
theorem dX3_canRename_84 : decode cX3_canRename 84 = .ok (.if_icmp .ne 7, 3) := dk_160 0 7 (dk_at dksX3_canRename_3 15 rfl rfl)
theorem dX3_canRename_87 : decode cX3_canRename 87 = .ok (.iconst 1, 1) := dk_4 (dk_at dksX3_canRename_3 18 rfl rfl)
theorem dX3_canRename_88 : decode cX3_canRename 88 = .ok (.goto 4, 3) := dk_167 0 4 (dk_at dksX3_canRename_3 19 rfl rfl)
theorem dX3_canRename_91 : decode cX3_canRename 91 = .ok (.iconst 0, 1) := dk_3 (dk_at dksX3_canRename_3 22 rfl rfl)
theorem dX3_canRename_92 : decode cX3_canRename 92 = .ok (.istore_n 3, 1) := dk_62 (dk_at dksX3_canRename_3 23 rfl rfl)
theorem dX3_canRename_93 : decode cX3_canRename 93 = .ok (.iload_n 3, 1) := dk_29 (dk_at dksX3_canRename_4 0 rfl rfl)
theorem dX3_canRename_94 : decode cX3_canRename 94 = .ok (.ifCond .ne 25, 3) := dk_154 0 25 (dk_at dksX3_canRename_4 1 rfl rfl)
theorem dX3_canRename_97 : decode cX3_canRename 97 = .ok (.iload_n 2, 1) := dk_28 (dk_at dksX3_canRename_4 4 rfl rfl)
theorem dX3_canRename_98 : decode cX3_canRename 98 = .ok (.ifCond .ne 21, 3) := dk_154 0 21 (dk_at dksX3_canRename_4 5 rfl rfl)
theorem dX3_canRename_101 : decode cX3_canRename 101 = .ok (.iload_n 1, 1) := dk_27 (dk_at dksX3_canRename_4 8 rfl rfl)
theorem dX3_canRename_102 : decode cX3_canRename 102 = .ok (.invokestatic 205, 3) := dk_184 0 205 (dk_at dksX3_canRename_4 9 rfl rfl)
theorem dX3_canRename_105 : decode cX3_canRename 105 = .ok (.ifCond .eq 10, 3) := dk_153 0 10 (dk_at dksX3_canRename_4 12 rfl rfl)
theorem dX3_canRename_108 : decode cX3_canRename 108 = .ok (.aload_n 0, 1) := dk_42 (dk_at dksX3_canRename_4 15 rfl rfl)
theorem dX3_canRename_109 : decode cX3_canRename 109 = .ok (.getfield 198, 3) := dk_180 0 198 (dk_at dksX3_canRename_4 16 rfl rfl)
theorem dX3_canRename_112 : decode cX3_canRename 112 = .ok (.ifCond .ne 7, 3) := dk_154 0 7 (dk_at dksX3_canRename_4 19 rfl rfl)
theorem dX3_canRename_115 : decode cX3_canRename 115 = .ok (.iconst 1, 1) := dk_4 (dk_at dksX3_canRename_4 22 rfl rfl)
theorem dX3_canRename_116 : decode cX3_canRename 116 = .ok (.goto 4, 3) := dk_167 0 4 (dk_at dksX3_canRename_5 0 rfl rfl)
theorem dX3_canRename_119 : decode cX3_canRename 119 = .ok (.iconst 0, 1) := dk_3 (dk_at dksX3_canRename_5 3 rfl rfl)
theorem dX3_canRename_120 : decode cX3_canRename 120 = .ok (.ireturn, 1) := dk_172 (dk_at dksX3_canRename_5 4 rfl rfl)
def dkwX3_isAlone_0 : List UInt8 := [26, 16, 19, 159, 0, 9, 26, 16, 21, 160, 0, 7, 4, 167, 0, 4, 3, 172]
abbrev dktX3_isAlone_0 : List UInt8 := dkwX3_isAlone_0 ++ []
theorem dksX3_isAlone_0 : cX3_isAlone.data.toList.drop 0 = dktX3_isAlone_0 := by decide +kernel
theorem dX3_isAlone_0 : decode cX3_isAlone 0 = .ok (.iload_n 0, 1) := dk_26 (dk_at dksX3_isAlone_0 0 rfl rfl)
theorem dX3_isAlone_1 : decode cX3_isAlone 1 = .ok (.bipush 19, 2) := dk_16 19 (dk_at dksX3_isAlone_0 1 rfl rfl)
theorem dX3_isAlone_3 : decode cX3_isAlone 3 = .ok (.if_icmp .eq 9, 3) := dk_159 0 9 (dk_at dksX3_isAlone_0 3 rfl rfl)
theorem dX3_isAlone_6 : decode cX3_isAlone 6 = .ok (.iload_n 0, 1) := dk_26 (dk_at dksX3_isAlone_0 6 rfl rfl)
theorem dX3_isAlone_7 : decode cX3_isAlone 7 = .ok (.bipush 21, 2) := dk_16 21 (dk_at dksX3_isAlone_0 7 rfl rfl)
theorem dX3_isAlone_9 : decode cX3_isAlone 9 = .ok (.if_icmp .ne 7, 3) := dk_160 0 7 (dk_at dksX3_isAlone_0 9 rfl rfl)
theorem dX3_isAlone_12 : decode cX3_isAlone 12 = .ok (.iconst 1, 1) := dk_4 (dk_at dksX3_isAlone_0 12 rfl rfl)
theorem dX3_isAlone_13 : decode cX3_isAlone 13 = .ok (.goto 4, 3) := dk_167 0 4 (dk_at dksX3_isAlone_0 13 rfl rfl)
theorem dX3_isAlone_16 : decode cX3_isAlone 16 = .ok (.iconst 0, 1) := dk_3 (dk_at dksX3_isAlone_0 16 rfl rfl)
theorem dX3_isAlone_17 : decode cX3_isAlone 17 = .ok (.ireturn, 1) := dk_172 (dk_at dksX3_isAlone_0 17 rfl rfl)
def dkwX3_inQueueNow_1 : List UInt8 := [160, 0, 7, 4, 167, 0, 4, 3, 96, 60, 132, 2, 1, 167, 255, 223, 27, 172]
abbrev dktX3_inQueueNow_1 : List UInt8 := dkwX3_inQueueNow_1 ++ []
def dkwX3_inQueueNow_0 : List UInt8 := [3, 60, 3, 61, 28, 42, 180, 0, 198, 162, 0, 31, 27, 42, 180, 0, 74, 28, 50, 16, 11, 46, 16, 113]
abbrev dktX3_inQueueNow_0 : List UInt8 := dkwX3_inQueueNow_0 ++ dktX3_inQueueNow_1
theorem dksX3_inQueueNow_0 : cX3_inQueueNow.data.toList.drop 0 = dktX3_inQueueNow_0 := by decide +kernel
theorem dksX3_inQueueNow_1 : cX3_inQueueNow.data.toList.drop 24 = dktX3_inQueueNow_1 := dk_seg dksX3_inQueueNow_0 24 rfl rfl
theorem dX3_inQueueNow_0 : decode cX3_inQueueNow 0 = .ok (.iconst 0, 1) := dk_3 (dk_at dksX3_inQueueNow_0 0 rfl rfl)
theorem dX3_inQueueNow_1 : decode cX3_inQueueNow 1 = .ok (.istore_n 1, 1) := dk_60 (dk_at dksX3_inQueueNow_0 1 rfl rfl)
theorem dX3_inQueueNow_2 : decode cX3_inQueueNow 2 = .ok (.iconst 0, 1) := dk_3 (dk_at dksX3_inQueueNow_0 2 rfl rfl)
theorem dX3_inQueueNow_3 : decode cX3_inQueueNow 3 = .ok (.istore_n 2, 1) := dk_61 (dk_at dksX3_inQueueNow_0 3 rfl rfl)
theorem dX3_inQueueNow_4 : decode cX3_inQueueNow 4 = .ok (.iload_n 2, 1) := dk_28 (dk_at dksX3_inQueueNow_0 4 rfl rfl)
theorem dX3_inQueueNow_5 : decode cX3_inQueueNow 5 = .ok (.aload_n 0, 1) := dk_42 (dk_at dksX3_inQueueNow_0 5 rfl rfl)
theorem dX3_inQueueNow_6 : decode cX3_inQueueNow 6 = .ok (.getfield 198, 3) := dk_180 0 198 (dk_at dksX3_inQueueNow_0 6 rfl rfl)
theorem dX3_inQueueNow_9 : decode cX3_inQueueNow 9 = .ok (.if_icmp .ge 31, 3) := dk_162 0 31 (dk_at dksX3_inQueueNow_0 9 rfl rfl)
theorem dX3_inQueueNow_12 : decode cX3_inQueueNow 12 = .ok (.iload_n 1, 1) := dk_27 (dk_at dksX3_inQueueNow_0 12 rfl rfl)
theorem dX3_inQueueNow_13 : decode cX3_inQueueNow 13 = .ok (.aload_n 0, 1) := dk_42 (dk_at dksX3_inQueueNow_0 13 rfl rfl)
theorem dX3_inQueueNow_14 : decode cX3_inQueueNow 14 = .ok (.getfield 74, 3) := dk_180 0 74 (dk_at dksX3_inQueueNow_0 14 rfl rfl)
theorem dX3_inQueueNow_17 : decode cX3_inQueueNow 17 = .ok (.iload_n 2, 1) := dk_28 (dk_at dksX3_inQueueNow_0 17 rfl rfl)
theorem dX3_inQueueNow_18 : decode cX3_inQueueNow 18 = .ok (.aaload, 1) := dk_50 (dk_at dksX3_inQueueNow_0 18 rfl rfl)
theorem dX3_inQueueNow_19 : decode cX3_inQueueNow 19 = .ok (.bipush 11, 2) := dk_16 11 (dk_at dksX3_inQueueNow_0 19 rfl rfl)
theorem dX3_inQueueNow_21 : decode cX3_inQueueNow 21 = .ok (.iaload, 1) := dk_46 (dk_at dksX3_inQueueNow_0 21 rfl rfl)
theorem dX3_inQueueNow_22 : decode cX3_inQueueNow 22 = .ok (.bipush 113, 2) := dk_16 113 (dk_at dksX3_inQueueNow_0 22 rfl rfl)
theorem dX3_inQueueNow_24 : decode cX3_inQueueNow 24 = .ok (.if_icmp .ne 7, 3) := dk_160 0 7 (dk_at dksX3_inQueueNow_1 0 rfl rfl)
theorem dX3_inQueueNow_27 : decode cX3_inQueueNow 27 = .ok (.iconst 1, 1) := dk_4 (dk_at dksX3_inQueueNow_1 3 rfl rfl)
theorem dX3_inQueueNow_28 : decode cX3_inQueueNow 28 = .ok (.goto 4, 3) := dk_167 0 4 (dk_at dksX3_inQueueNow_1 4 rfl rfl)
theorem dX3_inQueueNow_31 : decode cX3_inQueueNow 31 = .ok (.iconst 0, 1) := dk_3 (dk_at dksX3_inQueueNow_1 7 rfl rfl)
theorem dX3_inQueueNow_32 : decode cX3_inQueueNow 32 = .ok (.iadd, 1) := dk_96 (dk_at dksX3_inQueueNow_1 8 rfl rfl)
theorem dX3_inQueueNow_33 : decode cX3_inQueueNow 33 = .ok (.istore_n 1, 1) := dk_60 (dk_at dksX3_inQueueNow_1 9 rfl rfl)
theorem dX3_inQueueNow_34 : decode cX3_inQueueNow 34 = .ok (.iinc 2 1, 3) := dk_132 2 1 (dk_at dksX3_inQueueNow_1 10 rfl rfl)
theorem dX3_inQueueNow_37 : decode cX3_inQueueNow 37 = .ok (.goto (-33), 3) := dk_167 255 223 (dk_at dksX3_inQueueNow_1 13 rfl rfl)
theorem dX3_inQueueNow_40 : decode cX3_inQueueNow 40 = .ok (.iload_n 1, 1) := dk_27 (dk_at dksX3_inQueueNow_1 16 rfl rfl)
theorem dX3_inQueueNow_41 : decode cX3_inQueueNow 41 = .ok (.ireturn, 1) := dk_172 (dk_at dksX3_inQueueNow_1 17 rfl rfl)
def dkwX3_fetches_9 : List UInt8 := [160, 0, 7, 4, 167, 0, 4, 3, 60, 132, 2, 1, 167, 255, 33, 177]
abbrev dktX3_fetches_9 : List UInt8 := dkwX3_fetches_9 ++ []
def dkwX3_fetches_8 : List UInt8 := [21, 4, 46, 16, 21, 160, 0, 7, 4, 167, 0, 4, 3, 181, 0, 174, 42, 180, 0, 180, 21, 4, 4, 96]
abbrev dktX3_fetches_8 : List UInt8 := dkwX3_fetches_8 ++ dktX3_fetches_9
def dkwX3_fetches_7 : List UInt8 := [45, 8, 46, 181, 0, 180, 42, 42, 180, 0, 9, 21, 4, 46, 16, 18, 159, 0, 15, 42, 180, 0, 9]
abbrev dktX3_fetches_7 : List UInt8 := dkwX3_fetches_7 ++ dktX3_fetches_8
def dkwX3_fetches_6 : List UInt8 := [21, 4, 46, 16, 15, 160, 0, 11, 42, 21, 4, 4, 96, 182, 0, 194, 42, 45, 16, 23, 182, 0, 186, 42]
abbrev dktX3_fetches_6 : List UInt8 := dkwX3_fetches_6 ++ dktX3_fetches_7
def dkwX3_fetches_5 : List UInt8 := [96, 181, 0, 183, 42, 45, 16, 18, 182, 0, 186, 45, 8, 42, 21, 4, 182, 0, 190, 79, 42, 180, 0, 9]
abbrev dktX3_fetches_5 : List UInt8 := dkwX3_fetches_5 ++ dktX3_fetches_6
def dkwX3_fetches_4 : List UInt8 := [21, 4, 79, 45, 4, 42, 180, 0, 133, 79, 45, 16, 17, 42, 180, 0, 183, 79, 42, 89, 180, 0, 183, 4]
abbrev dktX3_fetches_4 : List UInt8 := dkwX3_fetches_4 ++ dktX3_fetches_5
def dkwX3_fetches_3 : List UInt8 := [16, 28, 162, 0, 14, 45, 21, 4, 3, 79, 132, 4, 1, 167, 255, 241, 42, 180, 0, 180, 54, 4, 45, 3]
abbrev dktX3_fetches_3 : List UInt8 := dkwX3_fetches_3 ++ dktX3_fetches_4
def dkwX3_fetches_2 : List UInt8 := [180, 0, 77, 42, 180, 0, 177, 50, 78, 42, 89, 180, 0, 177, 4, 96, 181, 0, 177, 3, 54, 4, 21, 4]
abbrev dktX3_fetches_2 : List UInt8 := dkwX3_fetches_2 ++ dktX3_fetches_3
def dkwX3_fetches_1 : List UInt8 := [180, 0, 177, 5, 42, 180, 0, 25, 104, 162, 0, 197, 42, 180, 0, 180, 42, 180, 0, 136, 162, 0, 186, 42]
abbrev dktX3_fetches_1 : List UInt8 := dkwX3_fetches_1 ++ dktX3_fetches_2
def dkwX3_fetches_0 : List UInt8 := [4, 60, 3, 61, 28, 42, 180, 0, 25, 162, 0, 221, 27, 153, 0, 217, 42, 180, 0, 174, 154, 0, 210, 42]
abbrev dktX3_fetches_0 : List UInt8 := dkwX3_fetches_0 ++ dktX3_fetches_1
theorem dksX3_fetches_0 : cX3_fetches.data.toList.drop 0 = dktX3_fetches_0 := by decide +kernel
theorem dksX3_fetches_1 : cX3_fetches.data.toList.drop 24 = dktX3_fetches_1 := dk_seg dksX3_fetches_0 24 rfl rfl
theorem dksX3_fetches_2 : cX3_fetches.data.toList.drop 48 = dktX3_fetches_2 := dk_seg dksX3_fetches_1 24 rfl rfl
theorem dksX3_fetches_3 : cX3_fetches.data.toList.drop 72 = dktX3_fetches_3 := dk_seg dksX3_fetches_2 24 rfl rfl
theorem dksX3_fetches_4 : cX3_fetches.data.toList.drop 96 = dktX3_fetches_4 := dk_seg dksX3_fetches_3 24 rfl rfl
theorem dksX3_fetches_5 : cX3_fetches.data.toList.drop 120 = dktX3_fetches_5 := dk_seg dksX3_fetches_4 24 rfl rfl
theorem dksX3_fetches_6 : cX3_fetches.data.toList.drop 144 = dktX3_fetches_6 := dk_seg dksX3_fetches_5 24 rfl rfl
theorem dksX3_fetches_7 : cX3_fetches.data.toList.drop 168 = dktX3_fetches_7 := dk_seg dksX3_fetches_6 24 rfl rfl
theorem dksX3_fetches_8 : cX3_fetches.data.toList.drop 191 = dktX3_fetches_8 := dk_seg dksX3_fetches_7 23 rfl rfl
theorem dksX3_fetches_9 : cX3_fetches.data.toList.drop 215 = dktX3_fetches_9 := dk_seg dksX3_fetches_8 24 rfl rfl
theorem dX3_fetches_0 : decode cX3_fetches 0 = .ok (.iconst 1, 1) := dk_4 (dk_at dksX3_fetches_0 0 rfl rfl)
theorem dX3_fetches_1 : decode cX3_fetches 1 = .ok (.istore_n 1, 1) := dk_60 (dk_at dksX3_fetches_0 1 rfl rfl)
theorem dX3_fetches_2 : decode cX3_fetches 2 = .ok (.iconst 0, 1) := dk_3 (dk_at dksX3_fetches_0 2 rfl rfl)
theorem dX3_fetches_3 : decode cX3_fetches 3 = .ok (.istore_n 2, 1) := dk_61 (dk_at dksX3_fetches_0 3 rfl rfl)
theorem dX3_fetches_4 : decode cX3_fetches 4 = .ok (.iload_n 2, 1) := dk_28 (dk_at dksX3_fetches_0 4 rfl rfl)
theorem dX3_fetches_5 : decode cX3_fetches 5 = .ok (.aload_n 0, 1) := dk_42 (dk_at dksX3_fetches_0 5 rfl rfl)
theorem dX3_fetches_6 : decode cX3_fetches 6 = .ok (.getfield 25, 3) := dk_180 0 25 (dk_at dksX3_fetches_0 6 rfl rfl)
theorem dX3_fetches_9 : decode cX3_fetches 9 = .ok (.if_icmp .ge 221, 3) := dk_162 0 221 (dk_at dksX3_fetches_0 9 rfl rfl)
theorem dX3_fetches_12 : decode cX3_fetches 12 = .ok (.iload_n 1, 1) := dk_27 (dk_at dksX3_fetches_0 12 rfl rfl)
theorem dX3_fetches_13 : decode cX3_fetches 13 = .ok (.ifCond .eq 217, 3) := dk_153 0 217 (dk_at dksX3_fetches_0 13 rfl rfl)
theorem dX3_fetches_16 : decode cX3_fetches 16 = .ok (.aload_n 0, 1) := dk_42 (dk_at dksX3_fetches_0 16 rfl rfl)
theorem dX3_fetches_17 : decode cX3_fetches 17 = .ok (.getfield 174, 3) := dk_180 0 174 (dk_at dksX3_fetches_0 17 rfl rfl)
theorem dX3_fetches_20 : decode cX3_fetches 20 = .ok (.ifCond .ne 210, 3) := dk_154 0 210 (dk_at dksX3_fetches_0 20 rfl rfl)
theorem dX3_fetches_23 : decode cX3_fetches 23 = .ok (.aload_n 0, 1) := dk_42 (dk_at dksX3_fetches_0 23 rfl rfl)
theorem dX3_fetches_24 : decode cX3_fetches 24 = .ok (.getfield 177, 3) := dk_180 0 177 (dk_at dksX3_fetches_1 0 rfl rfl)
theorem dX3_fetches_27 : decode cX3_fetches 27 = .ok (.iconst 2, 1) := dk_5 (dk_at dksX3_fetches_1 3 rfl rfl)
theorem dX3_fetches_28 : decode cX3_fetches 28 = .ok (.aload_n 0, 1) := dk_42 (dk_at dksX3_fetches_1 4 rfl rfl)
theorem dX3_fetches_29 : decode cX3_fetches 29 = .ok (.getfield 25, 3) := dk_180 0 25 (dk_at dksX3_fetches_1 5 rfl rfl)
theorem dX3_fetches_32 : decode cX3_fetches 32 = .ok (.imul, 1) := dk_104 (dk_at dksX3_fetches_1 8 rfl rfl)
theorem dX3_fetches_33 : decode cX3_fetches 33 = .ok (.if_icmp .ge 197, 3) := dk_162 0 197 (dk_at dksX3_fetches_1 9 rfl rfl)
theorem dX3_fetches_36 : decode cX3_fetches 36 = .ok (.aload_n 0, 1) := dk_42 (dk_at dksX3_fetches_1 12 rfl rfl)
theorem dX3_fetches_37 : decode cX3_fetches 37 = .ok (.getfield 180, 3) := dk_180 0 180 (dk_at dksX3_fetches_1 13 rfl rfl)
theorem dX3_fetches_40 : decode cX3_fetches 40 = .ok (.aload_n 0, 1) := dk_42 (dk_at dksX3_fetches_1 16 rfl rfl)
theorem dX3_fetches_41 : decode cX3_fetches 41 = .ok (.getfield 136, 3) := dk_180 0 136 (dk_at dksX3_fetches_1 17 rfl rfl)
theorem dX3_fetches_44 : decode cX3_fetches 44 = .ok (.if_icmp .ge 186, 3) := dk_162 0 186 (dk_at dksX3_fetches_1 20 rfl rfl)
theorem dX3_fetches_47 : decode cX3_fetches 47 = .ok (.aload_n 0, 1) := dk_42 (dk_at dksX3_fetches_1 23 rfl rfl)
theorem dX3_fetches_48 : decode cX3_fetches 48 = .ok (.getfield 77, 3) := dk_180 0 77 (dk_at dksX3_fetches_2 0 rfl rfl)
theorem dX3_fetches_51 : decode cX3_fetches 51 = .ok (.aload_n 0, 1) := dk_42 (dk_at dksX3_fetches_2 3 rfl rfl)
theorem dX3_fetches_52 : decode cX3_fetches 52 = .ok (.getfield 177, 3) := dk_180 0 177 (dk_at dksX3_fetches_2 4 rfl rfl)
theorem dX3_fetches_55 : decode cX3_fetches 55 = .ok (.aaload, 1) := dk_50 (dk_at dksX3_fetches_2 7 rfl rfl)
theorem dX3_fetches_56 : decode cX3_fetches 56 = .ok (.astore_n 3, 1) := dk_78 (dk_at dksX3_fetches_2 8 rfl rfl)
theorem dX3_fetches_57 : decode cX3_fetches 57 = .ok (.aload_n 0, 1) := dk_42 (dk_at dksX3_fetches_2 9 rfl rfl)
theorem dX3_fetches_58 : decode cX3_fetches 58 = .ok (.dup, 1) := dk_89 (dk_at dksX3_fetches_2 10 rfl rfl)
theorem dX3_fetches_59 : decode cX3_fetches 59 = .ok (.getfield 177, 3) := dk_180 0 177 (dk_at dksX3_fetches_2 11 rfl rfl)
theorem dX3_fetches_62 : decode cX3_fetches 62 = .ok (.iconst 1, 1) := dk_4 (dk_at dksX3_fetches_2 14 rfl rfl)
theorem dX3_fetches_63 : decode cX3_fetches 63 = .ok (.iadd, 1) := dk_96 (dk_at dksX3_fetches_2 15 rfl rfl)
theorem dX3_fetches_64 : decode cX3_fetches 64 = .ok (.putfield 177, 3) := dk_181 0 177 (dk_at dksX3_fetches_2 16 rfl rfl)
theorem dX3_fetches_67 : decode cX3_fetches 67 = .ok (.iconst 0, 1) := dk_3 (dk_at dksX3_fetches_2 19 rfl rfl)
theorem dX3_fetches_68 : decode cX3_fetches 68 = .ok (.istore 4, 2) := dk_54 4 (dk_at dksX3_fetches_2 20 rfl rfl)
theorem dX3_fetches_70 : decode cX3_fetches 70 = .ok (.iload 4, 2) := dk_21 4 (dk_at dksX3_fetches_2 22 rfl rfl)
theorem dX3_fetches_72 : decode cX3_fetches 72 = .ok (.bipush 28, 2) := dk_16 28 (dk_at dksX3_fetches_3 0 rfl rfl)
theorem dX3_fetches_74 : decode cX3_fetches 74 = .ok (.if_icmp .ge 14, 3) := dk_162 0 14 (dk_at dksX3_fetches_3 2 rfl rfl)
theorem dX3_fetches_77 : decode cX3_fetches 77 = .ok (.aload_n 3, 1) := dk_45 (dk_at dksX3_fetches_3 5 rfl rfl)
theorem dX3_fetches_78 : decode cX3_fetches 78 = .ok (.iload 4, 2) := dk_21 4 (dk_at dksX3_fetches_3 6 rfl rfl)
theorem dX3_fetches_80 : decode cX3_fetches 80 = .ok (.iconst 0, 1) := dk_3 (dk_at dksX3_fetches_3 8 rfl rfl)
theorem dX3_fetches_81 : decode cX3_fetches 81 = .ok (.iastore, 1) := dk_79 (dk_at dksX3_fetches_3 9 rfl rfl)
theorem dX3_fetches_82 : decode cX3_fetches 82 = .ok (.iinc 4 1, 3) := dk_132 4 1 (dk_at dksX3_fetches_3 10 rfl rfl)
theorem dX3_fetches_85 : decode cX3_fetches 85 = .ok (.goto (-15), 3) := dk_167 255 241 (dk_at dksX3_fetches_3 13 rfl rfl)
theorem dX3_fetches_88 : decode cX3_fetches 88 = .ok (.aload_n 0, 1) := dk_42 (dk_at dksX3_fetches_3 16 rfl rfl)
theorem dX3_fetches_89 : decode cX3_fetches 89 = .ok (.getfield 180, 3) := dk_180 0 180 (dk_at dksX3_fetches_3 17 rfl rfl)
theorem dX3_fetches_92 : decode cX3_fetches 92 = .ok (.istore 4, 2) := dk_54 4 (dk_at dksX3_fetches_3 20 rfl rfl)
theorem dX3_fetches_94 : decode cX3_fetches 94 = .ok (.aload_n 3, 1) := dk_45 (dk_at dksX3_fetches_3 22 rfl rfl)
theorem dX3_fetches_95 : decode cX3_fetches 95 = .ok (.iconst 0, 1) := dk_3 (dk_at dksX3_fetches_3 23 rfl rfl)
theorem dX3_fetches_96 : decode cX3_fetches 96 = .ok (.iload 4, 2) := dk_21 4 (dk_at dksX3_fetches_4 0 rfl rfl)
theorem dX3_fetches_98 : decode cX3_fetches 98 = .ok (.iastore, 1) := dk_79 (dk_at dksX3_fetches_4 2 rfl rfl)
theorem dX3_fetches_99 : decode cX3_fetches 99 = .ok (.aload_n 3, 1) := dk_45 (dk_at dksX3_fetches_4 3 rfl rfl)
theorem dX3_fetches_100 : decode cX3_fetches 100 = .ok (.iconst 1, 1) := dk_4 (dk_at dksX3_fetches_4 4 rfl rfl)
theorem dX3_fetches_101 : decode cX3_fetches 101 = .ok (.aload_n 0, 1) := dk_42 (dk_at dksX3_fetches_4 5 rfl rfl)
theorem dX3_fetches_102 : decode cX3_fetches 102 = .ok (.getfield 133, 3) := dk_180 0 133 (dk_at dksX3_fetches_4 6 rfl rfl)
theorem dX3_fetches_105 : decode cX3_fetches 105 = .ok (.iastore, 1) := dk_79 (dk_at dksX3_fetches_4 9 rfl rfl)
theorem dX3_fetches_106 : decode cX3_fetches 106 = .ok (.aload_n 3, 1) := dk_45 (dk_at dksX3_fetches_4 10 rfl rfl)
theorem dX3_fetches_107 : decode cX3_fetches 107 = .ok (.bipush 17, 2) := dk_16 17 (dk_at dksX3_fetches_4 11 rfl rfl)
theorem dX3_fetches_109 : decode cX3_fetches 109 = .ok (.aload_n 0, 1) := dk_42 (dk_at dksX3_fetches_4 13 rfl rfl)
theorem dX3_fetches_110 : decode cX3_fetches 110 = .ok (.getfield 183, 3) := dk_180 0 183 (dk_at dksX3_fetches_4 14 rfl rfl)
theorem dX3_fetches_113 : decode cX3_fetches 113 = .ok (.iastore, 1) := dk_79 (dk_at dksX3_fetches_4 17 rfl rfl)
theorem dX3_fetches_114 : decode cX3_fetches 114 = .ok (.aload_n 0, 1) := dk_42 (dk_at dksX3_fetches_4 18 rfl rfl)
theorem dX3_fetches_115 : decode cX3_fetches 115 = .ok (.dup, 1) := dk_89 (dk_at dksX3_fetches_4 19 rfl rfl)
theorem dX3_fetches_116 : decode cX3_fetches 116 = .ok (.getfield 183, 3) := dk_180 0 183 (dk_at dksX3_fetches_4 20 rfl rfl)
theorem dX3_fetches_119 : decode cX3_fetches 119 = .ok (.iconst 1, 1) := dk_4 (dk_at dksX3_fetches_4 23 rfl rfl)
theorem dX3_fetches_120 : decode cX3_fetches 120 = .ok (.iadd, 1) := dk_96 (dk_at dksX3_fetches_5 0 rfl rfl)
theorem dX3_fetches_121 : decode cX3_fetches 121 = .ok (.putfield 183, 3) := dk_181 0 183 (dk_at dksX3_fetches_5 1 rfl rfl)
theorem dX3_fetches_124 : decode cX3_fetches 124 = .ok (.aload_n 0, 1) := dk_42 (dk_at dksX3_fetches_5 4 rfl rfl)
theorem dX3_fetches_125 : decode cX3_fetches 125 = .ok (.aload_n 3, 1) := dk_45 (dk_at dksX3_fetches_5 5 rfl rfl)
theorem dX3_fetches_126 : decode cX3_fetches 126 = .ok (.bipush 18, 2) := dk_16 18 (dk_at dksX3_fetches_5 6 rfl rfl)
theorem dX3_fetches_128 : decode cX3_fetches 128 = .ok (.invokevirtual 186, 3) := dk_182 0 186 (dk_at dksX3_fetches_5 8 rfl rfl)
theorem dX3_fetches_131 : decode cX3_fetches 131 = .ok (.aload_n 3, 1) := dk_45 (dk_at dksX3_fetches_5 11 rfl rfl)
theorem dX3_fetches_132 : decode cX3_fetches 132 = .ok (.iconst 5, 1) := dk_8 (dk_at dksX3_fetches_5 12 rfl rfl)
theorem dX3_fetches_133 : decode cX3_fetches 133 = .ok (.aload_n 0, 1) := dk_42 (dk_at dksX3_fetches_5 13 rfl rfl)
theorem dX3_fetches_134 : decode cX3_fetches 134 = .ok (.iload 4, 2) := dk_21 4 (dk_at dksX3_fetches_5 14 rfl rfl)
theorem dX3_fetches_136 : decode cX3_fetches 136 = .ok (.invokevirtual 190, 3) := dk_182 0 190 (dk_at dksX3_fetches_5 16 rfl rfl)
theorem dX3_fetches_139 : decode cX3_fetches 139 = .ok (.iastore, 1) := dk_79 (dk_at dksX3_fetches_5 19 rfl rfl)
theorem dX3_fetches_140 : decode cX3_fetches 140 = .ok (.aload_n 0, 1) := dk_42 (dk_at dksX3_fetches_5 20 rfl rfl)
theorem dX3_fetches_141 : decode cX3_fetches 141 = .ok (.getfield 9, 3) := dk_180 0 9 (dk_at dksX3_fetches_5 21 rfl rfl)
theorem dX3_fetches_144 : decode cX3_fetches 144 = .ok (.iload 4, 2) := dk_21 4 (dk_at dksX3_fetches_6 0 rfl rfl)
theorem dX3_fetches_146 : decode cX3_fetches 146 = .ok (.iaload, 1) := dk_46 (dk_at dksX3_fetches_6 2 rfl rfl)
theorem dX3_fetches_147 : decode cX3_fetches 147 = .ok (.bipush 15, 2) := dk_16 15 (dk_at dksX3_fetches_6 3 rfl rfl)
theorem dX3_fetches_149 : decode cX3_fetches 149 = .ok (.if_icmp .ne 11, 3) := dk_160 0 11 (dk_at dksX3_fetches_6 5 rfl rfl)
theorem dX3_fetches_152 : decode cX3_fetches 152 = .ok (.aload_n 0, 1) := dk_42 (dk_at dksX3_fetches_6 8 rfl rfl)
theorem dX3_fetches_153 : decode cX3_fetches 153 = .ok (.iload 4, 2) := dk_21 4 (dk_at dksX3_fetches_6 9 rfl rfl)
theorem dX3_fetches_155 : decode cX3_fetches 155 = .ok (.iconst 1, 1) := dk_4 (dk_at dksX3_fetches_6 11 rfl rfl)
theorem dX3_fetches_156 : decode cX3_fetches 156 = .ok (.iadd, 1) := dk_96 (dk_at dksX3_fetches_6 12 rfl rfl)
theorem dX3_fetches_157 : decode cX3_fetches 157 = .ok (.invokevirtual 194, 3) := dk_182 0 194 (dk_at dksX3_fetches_6 13 rfl rfl)
theorem dX3_fetches_160 : decode cX3_fetches 160 = .ok (.aload_n 0, 1) := dk_42 (dk_at dksX3_fetches_6 16 rfl rfl)
theorem dX3_fetches_161 : decode cX3_fetches 161 = .ok (.aload_n 3, 1) := dk_45 (dk_at dksX3_fetches_6 17 rfl rfl)
theorem dX3_fetches_162 : decode cX3_fetches 162 = .ok (.bipush 23, 2) := dk_16 23 (dk_at dksX3_fetches_6 18 rfl rfl)
theorem dX3_fetches_164 : decode cX3_fetches 164 = .ok (.invokevirtual 186, 3) := dk_182 0 186 (dk_at dksX3_fetches_6 20 rfl rfl)
theorem dX3_fetches_167 : decode cX3_fetches 167 = .ok (.aload_n 0, 1) := dk_42 (dk_at dksX3_fetches_6 23 rfl rfl)
theorem dX3_fetches_168 : decode cX3_fetches 168 = .ok (.aload_n 3, 1) := dk_45 (dk_at dksX3_fetches_7 0 rfl rfl)
theorem dX3_fetches_169 : decode cX3_fetches 169 = .ok (.iconst 5, 1) := dk_8 (dk_at dksX3_fetches_7 1 rfl rfl)
theorem dX3_fetches_170 : decode cX3_fetches 170 = .ok (.iaload, 1) := dk_46 (dk_at dksX3_fetches_7 2 rfl rfl)
theorem dX3_fetches_171 : decode cX3_fetches 171 = .ok (.putfield 180, 3) := dk_181 0 180 (dk_at dksX3_fetches_7 3 rfl rfl)
theorem dX3_fetches_174 : decode cX3_fetches 174 = .ok (.aload_n 0, 1) := dk_42 (dk_at dksX3_fetches_7 6 rfl rfl)
theorem dX3_fetches_175 : decode cX3_fetches 175 = .ok (.aload_n 0, 1) := dk_42 (dk_at dksX3_fetches_7 7 rfl rfl)
theorem dX3_fetches_176 : decode cX3_fetches 176 = .ok (.getfield 9, 3) := dk_180 0 9 (dk_at dksX3_fetches_7 8 rfl rfl)
theorem dX3_fetches_179 : decode cX3_fetches 179 = .ok (.iload 4, 2) := dk_21 4 (dk_at dksX3_fetches_7 11 rfl rfl)
theorem dX3_fetches_181 : decode cX3_fetches 181 = .ok (.iaload, 1) := dk_46 (dk_at dksX3_fetches_7 13 rfl rfl)
theorem dX3_fetches_182 : decode cX3_fetches 182 = .ok (.bipush 18, 2) := dk_16 18 (dk_at dksX3_fetches_7 14 rfl rfl)
theorem dX3_fetches_184 : decode cX3_fetches 184 = .ok (.if_icmp .eq 15, 3) := dk_159 0 15 (dk_at dksX3_fetches_7 16 rfl rfl)
theorem dX3_fetches_187 : decode cX3_fetches 187 = .ok (.aload_n 0, 1) := dk_42 (dk_at dksX3_fetches_7 19 rfl rfl)
theorem dX3_fetches_188 : decode cX3_fetches 188 = .ok (.getfield 9, 3) := dk_180 0 9 (dk_at dksX3_fetches_7 20 rfl rfl)
theorem dX3_fetches_191 : decode cX3_fetches 191 = .ok (.iload 4, 2) := dk_21 4 (dk_at dksX3_fetches_8 0 rfl rfl)
theorem dX3_fetches_193 : decode cX3_fetches 193 = .ok (.iaload, 1) := dk_46 (dk_at dksX3_fetches_8 2 rfl rfl)
theorem dX3_fetches_194 : decode cX3_fetches 194 = .ok (.bipush 21, 2) := dk_16 21 (dk_at dksX3_fetches_8 3 rfl rfl)
theorem dX3_fetches_196 : decode cX3_fetches 196 = .ok (.if_icmp .ne 7, 3) := dk_160 0 7 (dk_at dksX3_fetches_8 5 rfl rfl)
theorem dX3_fetches_199 : decode cX3_fetches 199 = .ok (.iconst 1, 1) := dk_4 (dk_at dksX3_fetches_8 8 rfl rfl)
theorem dX3_fetches_200 : decode cX3_fetches 200 = .ok (.goto 4, 3) := dk_167 0 4 (dk_at dksX3_fetches_8 9 rfl rfl)
theorem dX3_fetches_203 : decode cX3_fetches 203 = .ok (.iconst 0, 1) := dk_3 (dk_at dksX3_fetches_8 12 rfl rfl)
theorem dX3_fetches_204 : decode cX3_fetches 204 = .ok (.putfield 174, 3) := dk_181 0 174 (dk_at dksX3_fetches_8 13 rfl rfl)
theorem dX3_fetches_207 : decode cX3_fetches 207 = .ok (.aload_n 0, 1) := dk_42 (dk_at dksX3_fetches_8 16 rfl rfl)
theorem dX3_fetches_208 : decode cX3_fetches 208 = .ok (.getfield 180, 3) := dk_180 0 180 (dk_at dksX3_fetches_8 17 rfl rfl)
theorem dX3_fetches_211 : decode cX3_fetches 211 = .ok (.iload 4, 2) := dk_21 4 (dk_at dksX3_fetches_8 20 rfl rfl)
theorem dX3_fetches_213 : decode cX3_fetches 213 = .ok (.iconst 1, 1) := dk_4 (dk_at dksX3_fetches_8 22 rfl rfl)
theorem dX3_fetches_214 : decode cX3_fetches 214 = .ok (.iadd, 1) := dk_96 (dk_at dksX3_fetches_8 23 rfl rfl)
theorem dX3_fetches_215 : decode cX3_fetches 215 = .ok (.if_icmp .ne 7, 3) := dk_160 0 7 (dk_at dksX3_fetches_9 0 rfl rfl)
theorem dX3_fetches_218 : decode cX3_fetches 218 = .ok (.iconst 1, 1) := dk_4 (dk_at dksX3_fetches_9 3 rfl rfl)
theorem dX3_fetches_219 : decode cX3_fetches 219 = .ok (.goto 4, 3) := dk_167 0 4 (dk_at dksX3_fetches_9 4 rfl rfl)
theorem dX3_fetches_222 : decode cX3_fetches 222 = .ok (.iconst 0, 1) := dk_3 (dk_at dksX3_fetches_9 7 rfl rfl)
theorem dX3_fetches_223 : decode cX3_fetches 223 = .ok (.istore_n 1, 1) := dk_60 (dk_at dksX3_fetches_9 8 rfl rfl)
theorem dX3_fetches_224 : decode cX3_fetches 224 = .ok (.iinc 2 1, 3) := dk_132 2 1 (dk_at dksX3_fetches_9 9 rfl rfl)
theorem dX3_fetches_227 : decode cX3_fetches 227 = .ok (.goto (-223), 3) := dk_167 255 33 (dk_at dksX3_fetches_9 12 rfl rfl)
theorem dX3_fetches_230 : decode cX3_fetches 230 = .ok (.return_, 1) := dk_177 (dk_at dksX3_fetches_9 15 rfl rfl)
def dkwX3_keepsStack_1 : List UInt8 := [177]
abbrev dktX3_keepsStack_1 : List UInt8 := dkwX3_keepsStack_1 ++ []
def dkwX3_keepsStack_0 : List UInt8 := [3, 62, 29, 7, 163, 0, 20, 43, 28, 29, 96, 42, 180, 0, 80, 29, 46, 79, 132, 3, 1, 167, 255, 237]
abbrev dktX3_keepsStack_0 : List UInt8 := dkwX3_keepsStack_0 ++ dktX3_keepsStack_1
theorem dksX3_keepsStack_0 : cX3_keepsStack.data.toList.drop 0 = dktX3_keepsStack_0 := by decide +kernel
theorem dksX3_keepsStack_1 : cX3_keepsStack.data.toList.drop 24 = dktX3_keepsStack_1 := dk_seg dksX3_keepsStack_0 24 rfl rfl
theorem dX3_keepsStack_0 : decode cX3_keepsStack 0 = .ok (.iconst 0, 1) := dk_3 (dk_at dksX3_keepsStack_0 0 rfl rfl)
theorem dX3_keepsStack_1 : decode cX3_keepsStack 1 = .ok (.istore_n 3, 1) := dk_62 (dk_at dksX3_keepsStack_0 1 rfl rfl)
theorem dX3_keepsStack_2 : decode cX3_keepsStack 2 = .ok (.iload_n 3, 1) := dk_29 (dk_at dksX3_keepsStack_0 2 rfl rfl)
theorem dX3_keepsStack_3 : decode cX3_keepsStack 3 = .ok (.iconst 4, 1) := dk_7 (dk_at dksX3_keepsStack_0 3 rfl rfl)
theorem dX3_keepsStack_4 : decode cX3_keepsStack 4 = .ok (.if_icmp .gt 20, 3) := dk_163 0 20 (dk_at dksX3_keepsStack_0 4 rfl rfl)
theorem dX3_keepsStack_7 : decode cX3_keepsStack 7 = .ok (.aload_n 1, 1) := dk_43 (dk_at dksX3_keepsStack_0 7 rfl rfl)
theorem dX3_keepsStack_8 : decode cX3_keepsStack 8 = .ok (.iload_n 2, 1) := dk_28 (dk_at dksX3_keepsStack_0 8 rfl rfl)
theorem dX3_keepsStack_9 : decode cX3_keepsStack 9 = .ok (.iload_n 3, 1) := dk_29 (dk_at dksX3_keepsStack_0 9 rfl rfl)
theorem dX3_keepsStack_10 : decode cX3_keepsStack 10 = .ok (.iadd, 1) := dk_96 (dk_at dksX3_keepsStack_0 10 rfl rfl)
theorem dX3_keepsStack_11 : decode cX3_keepsStack 11 = .ok (.aload_n 0, 1) := dk_42 (dk_at dksX3_keepsStack_0 11 rfl rfl)
theorem dX3_keepsStack_12 : decode cX3_keepsStack 12 = .ok (.getfield 80, 3) := dk_180 0 80 (dk_at dksX3_keepsStack_0 12 rfl rfl)
theorem dX3_keepsStack_15 : decode cX3_keepsStack 15 = .ok (.iload_n 3, 1) := dk_29 (dk_at dksX3_keepsStack_0 15 rfl rfl)
theorem dX3_keepsStack_16 : decode cX3_keepsStack 16 = .ok (.iaload, 1) := dk_46 (dk_at dksX3_keepsStack_0 16 rfl rfl)
theorem dX3_keepsStack_17 : decode cX3_keepsStack 17 = .ok (.iastore, 1) := dk_79 (dk_at dksX3_keepsStack_0 17 rfl rfl)
theorem dX3_keepsStack_18 : decode cX3_keepsStack 18 = .ok (.iinc 3 1, 3) := dk_132 3 1 (dk_at dksX3_keepsStack_0 18 rfl rfl)
theorem dX3_keepsStack_21 : decode cX3_keepsStack 21 = .ok (.goto (-19), 3) := dk_167 255 237 (dk_at dksX3_keepsStack_0 21 rfl rfl)
theorem dX3_keepsStack_24 : decode cX3_keepsStack 24 = .ok (.return_, 1) := dk_177 (dk_at dksX3_keepsStack_1 0 rfl rfl)
def dkwX3_guess_5 : List UInt8 := [2, 159, 0, 15, 42, 180, 0, 86, 27, 16, 8, 112, 46, 167, 0, 6, 27, 4, 96, 172]
abbrev dktX3_guess_5 : List UInt8 := dkwX3_guess_5 ++ []
def dkwX3_guess_4 : List UInt8 := [180, 0, 80, 3, 46, 4, 96, 46, 172, 28, 16, 17, 160, 0, 28, 42, 180, 0, 86, 27, 16, 8, 112, 46]
abbrev dktX3_guess_4 : List UInt8 := dkwX3_guess_4 ++ dktX3_guess_5
def dkwX3_guess_3 : List UInt8 := [180, 0, 80, 3, 46, 158, 0, 27, 42, 180, 0, 80, 3, 92, 46, 4, 100, 79, 42, 180, 0, 80, 42]
abbrev dktX3_guess_3 : List UInt8 := dkwX3_guess_3 ++ dktX3_guess_4
def dkwX3_guess_2 : List UInt8 := [159, 0, 9, 28, 16, 15, 160, 0, 10, 42, 180, 0, 22, 27, 46, 172, 28, 16, 16, 160, 0, 36, 42]
abbrev dktX3_guess_2 : List UInt8 := dkwX3_guess_2 ++ dktX3_guess_3
def dkwX3_guess_1 : List UInt8 := [16, 16, 112, 46, 5, 161, 0, 12, 42, 180, 0, 22, 27, 46, 167, 0, 6, 27, 4, 96, 172, 28, 16, 14]
abbrev dktX3_guess_1 : List UInt8 := dkwX3_guess_1 ++ dktX3_guess_2
def dkwX3_guess_0 : List UInt8 := [42, 180, 0, 9, 27, 46, 61, 28, 16, 12, 159, 0, 9, 28, 16, 13, 160, 0, 29, 42, 180, 0, 83, 27]
abbrev dktX3_guess_0 : List UInt8 := dkwX3_guess_0 ++ dktX3_guess_1
theorem dksX3_guess_0 : cX3_guess.data.toList.drop 0 = dktX3_guess_0 := by decide +kernel
theorem dksX3_guess_1 : cX3_guess.data.toList.drop 24 = dktX3_guess_1 := dk_seg dksX3_guess_0 24 rfl rfl
theorem dksX3_guess_2 : cX3_guess.data.toList.drop 48 = dktX3_guess_2 := dk_seg dksX3_guess_1 24 rfl rfl
theorem dksX3_guess_3 : cX3_guess.data.toList.drop 71 = dktX3_guess_3 := dk_seg dksX3_guess_2 23 rfl rfl
theorem dksX3_guess_4 : cX3_guess.data.toList.drop 94 = dktX3_guess_4 := dk_seg dksX3_guess_3 23 rfl rfl
theorem dksX3_guess_5 : cX3_guess.data.toList.drop 118 = dktX3_guess_5 := dk_seg dksX3_guess_4 24 rfl rfl
theorem dX3_guess_0 : decode cX3_guess 0 = .ok (.aload_n 0, 1) := dk_42 (dk_at dksX3_guess_0 0 rfl rfl)
theorem dX3_guess_1 : decode cX3_guess 1 = .ok (.getfield 9, 3) := dk_180 0 9 (dk_at dksX3_guess_0 1 rfl rfl)
theorem dX3_guess_4 : decode cX3_guess 4 = .ok (.iload_n 1, 1) := dk_27 (dk_at dksX3_guess_0 4 rfl rfl)
theorem dX3_guess_5 : decode cX3_guess 5 = .ok (.iaload, 1) := dk_46 (dk_at dksX3_guess_0 5 rfl rfl)
theorem dX3_guess_6 : decode cX3_guess 6 = .ok (.istore_n 2, 1) := dk_61 (dk_at dksX3_guess_0 6 rfl rfl)
theorem dX3_guess_7 : decode cX3_guess 7 = .ok (.iload_n 2, 1) := dk_28 (dk_at dksX3_guess_0 7 rfl rfl)
theorem dX3_guess_8 : decode cX3_guess 8 = .ok (.bipush 12, 2) := dk_16 12 (dk_at dksX3_guess_0 8 rfl rfl)
theorem dX3_guess_10 : decode cX3_guess 10 = .ok (.if_icmp .eq 9, 3) := dk_159 0 9 (dk_at dksX3_guess_0 10 rfl rfl)
theorem dX3_guess_13 : decode cX3_guess 13 = .ok (.iload_n 2, 1) := dk_28 (dk_at dksX3_guess_0 13 rfl rfl)
theorem dX3_guess_14 : decode cX3_guess 14 = .ok (.bipush 13, 2) := dk_16 13 (dk_at dksX3_guess_0 14 rfl rfl)
theorem dX3_guess_16 : decode cX3_guess 16 = .ok (.if_icmp .ne 29, 3) := dk_160 0 29 (dk_at dksX3_guess_0 16 rfl rfl)
theorem dX3_guess_19 : decode cX3_guess 19 = .ok (.aload_n 0, 1) := dk_42 (dk_at dksX3_guess_0 19 rfl rfl)
theorem dX3_guess_20 : decode cX3_guess 20 = .ok (.getfield 83, 3) := dk_180 0 83 (dk_at dksX3_guess_0 20 rfl rfl)
theorem dX3_guess_23 : decode cX3_guess 23 = .ok (.iload_n 1, 1) := dk_27 (dk_at dksX3_guess_0 23 rfl rfl)
theorem dX3_guess_24 : decode cX3_guess 24 = .ok (.bipush 16, 2) := dk_16 16 (dk_at dksX3_guess_1 0 rfl rfl)
theorem dX3_guess_26 : decode cX3_guess 26 = .ok (.irem, 1) := dk_112 (dk_at dksX3_guess_1 2 rfl rfl)
theorem dX3_guess_27 : decode cX3_guess 27 = .ok (.iaload, 1) := dk_46 (dk_at dksX3_guess_1 3 rfl rfl)
theorem dX3_guess_28 : decode cX3_guess 28 = .ok (.iconst 2, 1) := dk_5 (dk_at dksX3_guess_1 4 rfl rfl)
theorem dX3_guess_29 : decode cX3_guess 29 = .ok (.if_icmp .lt 12, 3) := dk_161 0 12 (dk_at dksX3_guess_1 5 rfl rfl)
theorem dX3_guess_32 : decode cX3_guess 32 = .ok (.aload_n 0, 1) := dk_42 (dk_at dksX3_guess_1 8 rfl rfl)
theorem dX3_guess_33 : decode cX3_guess 33 = .ok (.getfield 22, 3) := dk_180 0 22 (dk_at dksX3_guess_1 9 rfl rfl)
theorem dX3_guess_36 : decode cX3_guess 36 = .ok (.iload_n 1, 1) := dk_27 (dk_at dksX3_guess_1 12 rfl rfl)
theorem dX3_guess_37 : decode cX3_guess 37 = .ok (.iaload, 1) := dk_46 (dk_at dksX3_guess_1 13 rfl rfl)
theorem dX3_guess_38 : decode cX3_guess 38 = .ok (.goto 6, 3) := dk_167 0 6 (dk_at dksX3_guess_1 14 rfl rfl)
theorem dX3_guess_41 : decode cX3_guess 41 = .ok (.iload_n 1, 1) := dk_27 (dk_at dksX3_guess_1 17 rfl rfl)
theorem dX3_guess_42 : decode cX3_guess 42 = .ok (.iconst 1, 1) := dk_4 (dk_at dksX3_guess_1 18 rfl rfl)
theorem dX3_guess_43 : decode cX3_guess 43 = .ok (.iadd, 1) := dk_96 (dk_at dksX3_guess_1 19 rfl rfl)
theorem dX3_guess_44 : decode cX3_guess 44 = .ok (.ireturn, 1) := dk_172 (dk_at dksX3_guess_1 20 rfl rfl)
theorem dX3_guess_45 : decode cX3_guess 45 = .ok (.iload_n 2, 1) := dk_28 (dk_at dksX3_guess_1 21 rfl rfl)
theorem dX3_guess_46 : decode cX3_guess 46 = .ok (.bipush 14, 2) := dk_16 14 (dk_at dksX3_guess_1 22 rfl rfl)
theorem dX3_guess_48 : decode cX3_guess 48 = .ok (.if_icmp .eq 9, 3) := dk_159 0 9 (dk_at dksX3_guess_2 0 rfl rfl)
theorem dX3_guess_51 : decode cX3_guess 51 = .ok (.iload_n 2, 1) := dk_28 (dk_at dksX3_guess_2 3 rfl rfl)
theorem dX3_guess_52 : decode cX3_guess 52 = .ok (.bipush 15, 2) := dk_16 15 (dk_at dksX3_guess_2 4 rfl rfl)
theorem dX3_guess_54 : decode cX3_guess 54 = .ok (.if_icmp .ne 10, 3) := dk_160 0 10 (dk_at dksX3_guess_2 6 rfl rfl)
theorem dX3_guess_57 : decode cX3_guess 57 = .ok (.aload_n 0, 1) := dk_42 (dk_at dksX3_guess_2 9 rfl rfl)
theorem dX3_guess_58 : decode cX3_guess 58 = .ok (.getfield 22, 3) := dk_180 0 22 (dk_at dksX3_guess_2 10 rfl rfl)
theorem dX3_guess_61 : decode cX3_guess 61 = .ok (.iload_n 1, 1) := dk_27 (dk_at dksX3_guess_2 13 rfl rfl)
theorem dX3_guess_62 : decode cX3_guess 62 = .ok (.iaload, 1) := dk_46 (dk_at dksX3_guess_2 14 rfl rfl)
theorem dX3_guess_63 : decode cX3_guess 63 = .ok (.ireturn, 1) := dk_172 (dk_at dksX3_guess_2 15 rfl rfl)
theorem dX3_guess_64 : decode cX3_guess 64 = .ok (.iload_n 2, 1) := dk_28 (dk_at dksX3_guess_2 16 rfl rfl)
theorem dX3_guess_65 : decode cX3_guess 65 = .ok (.bipush 16, 2) := dk_16 16 (dk_at dksX3_guess_2 17 rfl rfl)
theorem dX3_guess_67 : decode cX3_guess 67 = .ok (.if_icmp .ne 36, 3) := dk_160 0 36 (dk_at dksX3_guess_2 19 rfl rfl)
theorem dX3_guess_70 : decode cX3_guess 70 = .ok (.aload_n 0, 1) := dk_42 (dk_at dksX3_guess_2 22 rfl rfl)
theorem dX3_guess_71 : decode cX3_guess 71 = .ok (.getfield 80, 3) := dk_180 0 80 (dk_at dksX3_guess_3 0 rfl rfl)
theorem dX3_guess_74 : decode cX3_guess 74 = .ok (.iconst 0, 1) := dk_3 (dk_at dksX3_guess_3 3 rfl rfl)
theorem dX3_guess_75 : decode cX3_guess 75 = .ok (.iaload, 1) := dk_46 (dk_at dksX3_guess_3 4 rfl rfl)
theorem dX3_guess_76 : decode cX3_guess 76 = .ok (.ifCond .le 27, 3) := dk_158 0 27 (dk_at dksX3_guess_3 5 rfl rfl)
theorem dX3_guess_79 : decode cX3_guess 79 = .ok (.aload_n 0, 1) := dk_42 (dk_at dksX3_guess_3 8 rfl rfl)
theorem dX3_guess_80 : decode cX3_guess 80 = .ok (.getfield 80, 3) := dk_180 0 80 (dk_at dksX3_guess_3 9 rfl rfl)
theorem dX3_guess_83 : decode cX3_guess 83 = .ok (.iconst 0, 1) := dk_3 (dk_at dksX3_guess_3 12 rfl rfl)
theorem dX3_guess_84 : decode cX3_guess 84 = .ok (.dup2, 1) := dk_92 (dk_at dksX3_guess_3 13 rfl rfl)
theorem dX3_guess_85 : decode cX3_guess 85 = .ok (.iaload, 1) := dk_46 (dk_at dksX3_guess_3 14 rfl rfl)
theorem dX3_guess_86 : decode cX3_guess 86 = .ok (.iconst 1, 1) := dk_4 (dk_at dksX3_guess_3 15 rfl rfl)
theorem dX3_guess_87 : decode cX3_guess 87 = .ok (.isub, 1) := dk_100 (dk_at dksX3_guess_3 16 rfl rfl)
theorem dX3_guess_88 : decode cX3_guess 88 = .ok (.iastore, 1) := dk_79 (dk_at dksX3_guess_3 17 rfl rfl)
theorem dX3_guess_89 : decode cX3_guess 89 = .ok (.aload_n 0, 1) := dk_42 (dk_at dksX3_guess_3 18 rfl rfl)
theorem dX3_guess_90 : decode cX3_guess 90 = .ok (.getfield 80, 3) := dk_180 0 80 (dk_at dksX3_guess_3 19 rfl rfl)
theorem dX3_guess_93 : decode cX3_guess 93 = .ok (.aload_n 0, 1) := dk_42 (dk_at dksX3_guess_3 22 rfl rfl)
theorem dX3_guess_94 : decode cX3_guess 94 = .ok (.getfield 80, 3) := dk_180 0 80 (dk_at dksX3_guess_4 0 rfl rfl)
theorem dX3_guess_97 : decode cX3_guess 97 = .ok (.iconst 0, 1) := dk_3 (dk_at dksX3_guess_4 3 rfl rfl)
theorem dX3_guess_98 : decode cX3_guess 98 = .ok (.iaload, 1) := dk_46 (dk_at dksX3_guess_4 4 rfl rfl)
theorem dX3_guess_99 : decode cX3_guess 99 = .ok (.iconst 1, 1) := dk_4 (dk_at dksX3_guess_4 5 rfl rfl)
theorem dX3_guess_100 : decode cX3_guess 100 = .ok (.iadd, 1) := dk_96 (dk_at dksX3_guess_4 6 rfl rfl)
theorem dX3_guess_101 : decode cX3_guess 101 = .ok (.iaload, 1) := dk_46 (dk_at dksX3_guess_4 7 rfl rfl)
theorem dX3_guess_102 : decode cX3_guess 102 = .ok (.ireturn, 1) := dk_172 (dk_at dksX3_guess_4 8 rfl rfl)
theorem dX3_guess_103 : decode cX3_guess 103 = .ok (.iload_n 2, 1) := dk_28 (dk_at dksX3_guess_4 9 rfl rfl)
theorem dX3_guess_104 : decode cX3_guess 104 = .ok (.bipush 17, 2) := dk_16 17 (dk_at dksX3_guess_4 10 rfl rfl)
theorem dX3_guess_106 : decode cX3_guess 106 = .ok (.if_icmp .ne 28, 3) := dk_160 0 28 (dk_at dksX3_guess_4 12 rfl rfl)
theorem dX3_guess_109 : decode cX3_guess 109 = .ok (.aload_n 0, 1) := dk_42 (dk_at dksX3_guess_4 15 rfl rfl)
theorem dX3_guess_110 : decode cX3_guess 110 = .ok (.getfield 86, 3) := dk_180 0 86 (dk_at dksX3_guess_4 16 rfl rfl)
theorem dX3_guess_113 : decode cX3_guess 113 = .ok (.iload_n 1, 1) := dk_27 (dk_at dksX3_guess_4 19 rfl rfl)
theorem dX3_guess_114 : decode cX3_guess 114 = .ok (.bipush 8, 2) := dk_16 8 (dk_at dksX3_guess_4 20 rfl rfl)
theorem dX3_guess_116 : decode cX3_guess 116 = .ok (.irem, 1) := dk_112 (dk_at dksX3_guess_4 22 rfl rfl)
theorem dX3_guess_117 : decode cX3_guess 117 = .ok (.iaload, 1) := dk_46 (dk_at dksX3_guess_4 23 rfl rfl)
theorem dX3_guess_118 : decode cX3_guess 118 = .ok (.iconst (-1), 1) := dk_2 (dk_at dksX3_guess_5 0 rfl rfl)
theorem dX3_guess_119 : decode cX3_guess 119 = .ok (.if_icmp .eq 15, 3) := dk_159 0 15 (dk_at dksX3_guess_5 1 rfl rfl)
theorem dX3_guess_122 : decode cX3_guess 122 = .ok (.aload_n 0, 1) := dk_42 (dk_at dksX3_guess_5 4 rfl rfl)
theorem dX3_guess_123 : decode cX3_guess 123 = .ok (.getfield 86, 3) := dk_180 0 86 (dk_at dksX3_guess_5 5 rfl rfl)
theorem dX3_guess_126 : decode cX3_guess 126 = .ok (.iload_n 1, 1) := dk_27 (dk_at dksX3_guess_5 8 rfl rfl)
theorem dX3_guess_127 : decode cX3_guess 127 = .ok (.bipush 8, 2) := dk_16 8 (dk_at dksX3_guess_5 9 rfl rfl)
theorem dX3_guess_129 : decode cX3_guess 129 = .ok (.irem, 1) := dk_112 (dk_at dksX3_guess_5 11 rfl rfl)
theorem dX3_guess_130 : decode cX3_guess 130 = .ok (.iaload, 1) := dk_46 (dk_at dksX3_guess_5 12 rfl rfl)
theorem dX3_guess_131 : decode cX3_guess 131 = .ok (.goto 6, 3) := dk_167 0 6 (dk_at dksX3_guess_5 13 rfl rfl)
theorem dX3_guess_134 : decode cX3_guess 134 = .ok (.iload_n 1, 1) := dk_27 (dk_at dksX3_guess_5 16 rfl rfl)
theorem dX3_guess_135 : decode cX3_guess 135 = .ok (.iconst 1, 1) := dk_4 (dk_at dksX3_guess_5 17 rfl rfl)
theorem dX3_guess_136 : decode cX3_guess 136 = .ok (.iadd, 1) := dk_96 (dk_at dksX3_guess_5 18 rfl rfl)
theorem dX3_guess_137 : decode cX3_guess 137 = .ok (.ireturn, 1) := dk_172 (dk_at dksX3_guess_5 19 rfl rfl)
def dkwX3_pushes_2 : List UInt8 := [42, 180, 0, 80, 3, 92, 46, 4, 96, 79, 42, 180, 0, 80, 42, 180, 0, 80, 3, 46, 27, 79, 177]
abbrev dktX3_pushes_2 : List UInt8 := dkwX3_pushes_2 ++ []
def dkwX3_pushes_1 : List UInt8 := [180, 0, 80, 28, 4, 96, 46, 79, 132, 2, 1, 167, 255, 234, 42, 180, 0, 80, 3, 92, 46, 4, 100, 79]
abbrev dktX3_pushes_1 : List UInt8 := dkwX3_pushes_1 ++ dktX3_pushes_2
def dkwX3_pushes_0 : List UInt8 := [42, 180, 0, 80, 3, 46, 7, 160, 0, 40, 4, 61, 28, 7, 162, 0, 23, 42, 180, 0, 80, 28, 42]
abbrev dktX3_pushes_0 : List UInt8 := dkwX3_pushes_0 ++ dktX3_pushes_1
theorem dksX3_pushes_0 : cX3_pushes.data.toList.drop 0 = dktX3_pushes_0 := by decide +kernel
theorem dksX3_pushes_1 : cX3_pushes.data.toList.drop 23 = dktX3_pushes_1 := dk_seg dksX3_pushes_0 23 rfl rfl
theorem dksX3_pushes_2 : cX3_pushes.data.toList.drop 47 = dktX3_pushes_2 := dk_seg dksX3_pushes_1 24 rfl rfl
theorem dX3_pushes_0 : decode cX3_pushes 0 = .ok (.aload_n 0, 1) := dk_42 (dk_at dksX3_pushes_0 0 rfl rfl)
theorem dX3_pushes_1 : decode cX3_pushes 1 = .ok (.getfield 80, 3) := dk_180 0 80 (dk_at dksX3_pushes_0 1 rfl rfl)
theorem dX3_pushes_4 : decode cX3_pushes 4 = .ok (.iconst 0, 1) := dk_3 (dk_at dksX3_pushes_0 4 rfl rfl)
theorem dX3_pushes_5 : decode cX3_pushes 5 = .ok (.iaload, 1) := dk_46 (dk_at dksX3_pushes_0 5 rfl rfl)
theorem dX3_pushes_6 : decode cX3_pushes 6 = .ok (.iconst 4, 1) := dk_7 (dk_at dksX3_pushes_0 6 rfl rfl)
theorem dX3_pushes_7 : decode cX3_pushes 7 = .ok (.if_icmp .ne 40, 3) := dk_160 0 40 (dk_at dksX3_pushes_0 7 rfl rfl)
theorem dX3_pushes_10 : decode cX3_pushes 10 = .ok (.iconst 1, 1) := dk_4 (dk_at dksX3_pushes_0 10 rfl rfl)
theorem dX3_pushes_11 : decode cX3_pushes 11 = .ok (.istore_n 2, 1) := dk_61 (dk_at dksX3_pushes_0 11 rfl rfl)
theorem dX3_pushes_12 : decode cX3_pushes 12 = .ok (.iload_n 2, 1) := dk_28 (dk_at dksX3_pushes_0 12 rfl rfl)
theorem dX3_pushes_13 : decode cX3_pushes 13 = .ok (.iconst 4, 1) := dk_7 (dk_at dksX3_pushes_0 13 rfl rfl)
theorem dX3_pushes_14 : decode cX3_pushes 14 = .ok (.if_icmp .ge 23, 3) := dk_162 0 23 (dk_at dksX3_pushes_0 14 rfl rfl)
theorem dX3_pushes_17 : decode cX3_pushes 17 = .ok (.aload_n 0, 1) := dk_42 (dk_at dksX3_pushes_0 17 rfl rfl)
theorem dX3_pushes_18 : decode cX3_pushes 18 = .ok (.getfield 80, 3) := dk_180 0 80 (dk_at dksX3_pushes_0 18 rfl rfl)
theorem dX3_pushes_21 : decode cX3_pushes 21 = .ok (.iload_n 2, 1) := dk_28 (dk_at dksX3_pushes_0 21 rfl rfl)
theorem dX3_pushes_22 : decode cX3_pushes 22 = .ok (.aload_n 0, 1) := dk_42 (dk_at dksX3_pushes_0 22 rfl rfl)
theorem dX3_pushes_23 : decode cX3_pushes 23 = .ok (.getfield 80, 3) := dk_180 0 80 (dk_at dksX3_pushes_1 0 rfl rfl)
theorem dX3_pushes_26 : decode cX3_pushes 26 = .ok (.iload_n 2, 1) := dk_28 (dk_at dksX3_pushes_1 3 rfl rfl)
theorem dX3_pushes_27 : decode cX3_pushes 27 = .ok (.iconst 1, 1) := dk_4 (dk_at dksX3_pushes_1 4 rfl rfl)
theorem dX3_pushes_28 : decode cX3_pushes 28 = .ok (.iadd, 1) := dk_96 (dk_at dksX3_pushes_1 5 rfl rfl)
theorem dX3_pushes_29 : decode cX3_pushes 29 = .ok (.iaload, 1) := dk_46 (dk_at dksX3_pushes_1 6 rfl rfl)
theorem dX3_pushes_30 : decode cX3_pushes 30 = .ok (.iastore, 1) := dk_79 (dk_at dksX3_pushes_1 7 rfl rfl)
theorem dX3_pushes_31 : decode cX3_pushes 31 = .ok (.iinc 2 1, 3) := dk_132 2 1 (dk_at dksX3_pushes_1 8 rfl rfl)
theorem dX3_pushes_34 : decode cX3_pushes 34 = .ok (.goto (-22), 3) := dk_167 255 234 (dk_at dksX3_pushes_1 11 rfl rfl)
theorem dX3_pushes_37 : decode cX3_pushes 37 = .ok (.aload_n 0, 1) := dk_42 (dk_at dksX3_pushes_1 14 rfl rfl)
theorem dX3_pushes_38 : decode cX3_pushes 38 = .ok (.getfield 80, 3) := dk_180 0 80 (dk_at dksX3_pushes_1 15 rfl rfl)
theorem dX3_pushes_41 : decode cX3_pushes 41 = .ok (.iconst 0, 1) := dk_3 (dk_at dksX3_pushes_1 18 rfl rfl)
theorem dX3_pushes_42 : decode cX3_pushes 42 = .ok (.dup2, 1) := dk_92 (dk_at dksX3_pushes_1 19 rfl rfl)
theorem dX3_pushes_43 : decode cX3_pushes 43 = .ok (.iaload, 1) := dk_46 (dk_at dksX3_pushes_1 20 rfl rfl)
theorem dX3_pushes_44 : decode cX3_pushes 44 = .ok (.iconst 1, 1) := dk_4 (dk_at dksX3_pushes_1 21 rfl rfl)
theorem dX3_pushes_45 : decode cX3_pushes 45 = .ok (.isub, 1) := dk_100 (dk_at dksX3_pushes_1 22 rfl rfl)
theorem dX3_pushes_46 : decode cX3_pushes 46 = .ok (.iastore, 1) := dk_79 (dk_at dksX3_pushes_1 23 rfl rfl)
theorem dX3_pushes_47 : decode cX3_pushes 47 = .ok (.aload_n 0, 1) := dk_42 (dk_at dksX3_pushes_2 0 rfl rfl)
theorem dX3_pushes_48 : decode cX3_pushes 48 = .ok (.getfield 80, 3) := dk_180 0 80 (dk_at dksX3_pushes_2 1 rfl rfl)
theorem dX3_pushes_51 : decode cX3_pushes 51 = .ok (.iconst 0, 1) := dk_3 (dk_at dksX3_pushes_2 4 rfl rfl)
theorem dX3_pushes_52 : decode cX3_pushes 52 = .ok (.dup2, 1) := dk_92 (dk_at dksX3_pushes_2 5 rfl rfl)
theorem dX3_pushes_53 : decode cX3_pushes 53 = .ok (.iaload, 1) := dk_46 (dk_at dksX3_pushes_2 6 rfl rfl)
theorem dX3_pushes_54 : decode cX3_pushes 54 = .ok (.iconst 1, 1) := dk_4 (dk_at dksX3_pushes_2 7 rfl rfl)
theorem dX3_pushes_55 : decode cX3_pushes 55 = .ok (.iadd, 1) := dk_96 (dk_at dksX3_pushes_2 8 rfl rfl)
theorem dX3_pushes_56 : decode cX3_pushes 56 = .ok (.iastore, 1) := dk_79 (dk_at dksX3_pushes_2 9 rfl rfl)
theorem dX3_pushes_57 : decode cX3_pushes 57 = .ok (.aload_n 0, 1) := dk_42 (dk_at dksX3_pushes_2 10 rfl rfl)
theorem dX3_pushes_58 : decode cX3_pushes 58 = .ok (.getfield 80, 3) := dk_180 0 80 (dk_at dksX3_pushes_2 11 rfl rfl)
theorem dX3_pushes_61 : decode cX3_pushes 61 = .ok (.aload_n 0, 1) := dk_42 (dk_at dksX3_pushes_2 14 rfl rfl)
theorem dX3_pushes_62 : decode cX3_pushes 62 = .ok (.getfield 80, 3) := dk_180 0 80 (dk_at dksX3_pushes_2 15 rfl rfl)
theorem dX3_pushes_65 : decode cX3_pushes 65 = .ok (.iconst 0, 1) := dk_3 (dk_at dksX3_pushes_2 18 rfl rfl)
theorem dX3_pushes_66 : decode cX3_pushes 66 = .ok (.iaload, 1) := dk_46 (dk_at dksX3_pushes_2 19 rfl rfl)
theorem dX3_pushes_67 : decode cX3_pushes 67 = .ok (.iload_n 1, 1) := dk_27 (dk_at dksX3_pushes_2 20 rfl rfl)
theorem dX3_pushes_68 : decode cX3_pushes 68 = .ok (.iastore, 1) := dk_79 (dk_at dksX3_pushes_2 21 rfl rfl)
theorem dX3_pushes_69 : decode cX3_pushes 69 = .ok (.return_, 1) := dk_177 (dk_at dksX3_pushes_2 22 rfl rfl)
def dkwX3_cycle_0 : List UInt8 := [42, 3, 181, 0, 123, 42, 180, 0, 133, 172]
abbrev dktX3_cycle_0 : List UInt8 := dkwX3_cycle_0 ++ []
theorem dksX3_cycle_0 : cX3_cycle.data.toList.drop 0 = dktX3_cycle_0 := by decide +kernel
theorem dX3_cycle_0 : decode cX3_cycle 0 = .ok (.aload_n 0, 1) := dk_42 (dk_at dksX3_cycle_0 0 rfl rfl)
theorem dX3_cycle_1 : decode cX3_cycle 1 = .ok (.iconst 0, 1) := dk_3 (dk_at dksX3_cycle_0 1 rfl rfl)
theorem dX3_cycle_2 : decode cX3_cycle 2 = .ok (.putfield 123, 3) := dk_181 0 123 (dk_at dksX3_cycle_0 2 rfl rfl)
theorem dX3_cycle_5 : decode cX3_cycle 5 = .ok (.aload_n 0, 1) := dk_42 (dk_at dksX3_cycle_0 5 rfl rfl)
theorem dX3_cycle_6 : decode cX3_cycle 6 = .ok (.getfield 133, 3) := dk_180 0 133 (dk_at dksX3_cycle_0 6 rfl rfl)
theorem dX3_cycle_9 : decode cX3_cycle 9 = .ok (.ireturn, 1) := dk_172 (dk_at dksX3_cycle_0 9 rfl rfl)
def dkwX3_hasStopped_0 : List UInt8 := [42, 3, 181, 0, 123, 42, 180, 0, 147, 172]
abbrev dktX3_hasStopped_0 : List UInt8 := dkwX3_hasStopped_0 ++ []
theorem dksX3_hasStopped_0 : cX3_hasStopped.data.toList.drop 0 = dktX3_hasStopped_0 := by decide +kernel
theorem dX3_hasStopped_0 : decode cX3_hasStopped 0 = .ok (.aload_n 0, 1) := dk_42 (dk_at dksX3_hasStopped_0 0 rfl rfl)
theorem dX3_hasStopped_1 : decode cX3_hasStopped 1 = .ok (.iconst 0, 1) := dk_3 (dk_at dksX3_hasStopped_0 1 rfl rfl)
theorem dX3_hasStopped_2 : decode cX3_hasStopped 2 = .ok (.putfield 123, 3) := dk_181 0 123 (dk_at dksX3_hasStopped_0 2 rfl rfl)
theorem dX3_hasStopped_5 : decode cX3_hasStopped 5 = .ok (.aload_n 0, 1) := dk_42 (dk_at dksX3_hasStopped_0 5 rfl rfl)
theorem dX3_hasStopped_6 : decode cX3_hasStopped 6 = .ok (.getfield 147, 3) := dk_180 0 147 (dk_at dksX3_hasStopped_0 6 rfl rfl)
theorem dX3_hasStopped_9 : decode cX3_hasStopped 9 = .ok (.ireturn, 1) := dk_172 (dk_at dksX3_hasStopped_0 9 rfl rfl)
def dkwX3_ends_2_0 : List UInt8 := [42, 3, 181, 0, 123, 42, 180, 0, 150, 172]
abbrev dktX3_ends_2_0 : List UInt8 := dkwX3_ends_2_0 ++ []
theorem dksX3_ends_2_0 : cX3_ends_2.data.toList.drop 0 = dktX3_ends_2_0 := by decide +kernel
theorem dX3_ends_2_0 : decode cX3_ends_2 0 = .ok (.aload_n 0, 1) := dk_42 (dk_at dksX3_ends_2_0 0 rfl rfl)
theorem dX3_ends_2_1 : decode cX3_ends_2 1 = .ok (.iconst 0, 1) := dk_3 (dk_at dksX3_ends_2_0 1 rfl rfl)
theorem dX3_ends_2_2 : decode cX3_ends_2 2 = .ok (.putfield 123, 3) := dk_181 0 123 (dk_at dksX3_ends_2_0 2 rfl rfl)
theorem dX3_ends_2_5 : decode cX3_ends_2 5 = .ok (.aload_n 0, 1) := dk_42 (dk_at dksX3_ends_2_0 5 rfl rfl)
theorem dX3_ends_2_6 : decode cX3_ends_2 6 = .ok (.getfield 150, 3) := dk_180 0 150 (dk_at dksX3_ends_2_0 6 rfl rfl)
theorem dX3_ends_2_9 : decode cX3_ends_2 9 = .ok (.ireturn, 1) := dk_172 (dk_at dksX3_ends_2_0 9 rfl rfl)
def dkwX3_kindAt_0 : List UInt8 := [42, 27, 182, 1, 72, 153, 0, 7, 3, 167, 0, 9, 42, 180, 0, 101, 27, 46, 172]
abbrev dktX3_kindAt_0 : List UInt8 := dkwX3_kindAt_0 ++ []
theorem dksX3_kindAt_0 : cX3_kindAt.data.toList.drop 0 = dktX3_kindAt_0 := by decide +kernel
theorem dX3_kindAt_0 : decode cX3_kindAt 0 = .ok (.aload_n 0, 1) := dk_42 (dk_at dksX3_kindAt_0 0 rfl rfl)
theorem dX3_kindAt_1 : decode cX3_kindAt 1 = .ok (.iload_n 1, 1) := dk_27 (dk_at dksX3_kindAt_0 1 rfl rfl)
theorem dX3_kindAt_2 : decode cX3_kindAt 2 = .ok (.invokevirtual 328, 3) := dk_182 1 72 (dk_at dksX3_kindAt_0 2 rfl rfl)
theorem dX3_kindAt_5 : decode cX3_kindAt 5 = .ok (.ifCond .eq 7, 3) := dk_153 0 7 (dk_at dksX3_kindAt_0 5 rfl rfl)
theorem dX3_kindAt_8 : decode cX3_kindAt 8 = .ok (.iconst 0, 1) := dk_3 (dk_at dksX3_kindAt_0 8 rfl rfl)
theorem dX3_kindAt_9 : decode cX3_kindAt 9 = .ok (.goto 9, 3) := dk_167 0 9 (dk_at dksX3_kindAt_0 9 rfl rfl)
theorem dX3_kindAt_12 : decode cX3_kindAt 12 = .ok (.aload_n 0, 1) := dk_42 (dk_at dksX3_kindAt_0 12 rfl rfl)
theorem dX3_kindAt_13 : decode cX3_kindAt 13 = .ok (.getfield 101, 3) := dk_180 0 101 (dk_at dksX3_kindAt_0 13 rfl rfl)
theorem dX3_kindAt_16 : decode cX3_kindAt 16 = .ok (.iload_n 1, 1) := dk_27 (dk_at dksX3_kindAt_0 16 rfl rfl)
theorem dX3_kindAt_17 : decode cX3_kindAt 17 = .ok (.iaload, 1) := dk_46 (dk_at dksX3_kindAt_0 17 rfl rfl)
theorem dX3_kindAt_18 : decode cX3_kindAt 18 = .ok (.ireturn, 1) := dk_172 (dk_at dksX3_kindAt_0 18 rfl rfl)
def dkwX3_noEnd_1 : List UInt8 := [180, 0, 123, 158, 0, 7, 4, 167, 0, 4, 3, 172]
abbrev dktX3_noEnd_1 : List UInt8 := dkwX3_noEnd_1 ++ []
def dkwX3_noEnd_0 : List UInt8 := [42, 27, 3, 42, 180, 0, 150, 4, 100, 184, 0, 129, 153, 0, 7, 3, 167, 0, 4, 4, 181, 0, 123, 42]
abbrev dktX3_noEnd_0 : List UInt8 := dkwX3_noEnd_0 ++ dktX3_noEnd_1
theorem dksX3_noEnd_0 : cX3_noEnd.data.toList.drop 0 = dktX3_noEnd_0 := by decide +kernel
theorem dksX3_noEnd_1 : cX3_noEnd.data.toList.drop 24 = dktX3_noEnd_1 := dk_seg dksX3_noEnd_0 24 rfl rfl
theorem dX3_noEnd_0 : decode cX3_noEnd 0 = .ok (.aload_n 0, 1) := dk_42 (dk_at dksX3_noEnd_0 0 rfl rfl)
theorem dX3_noEnd_1 : decode cX3_noEnd 1 = .ok (.iload_n 1, 1) := dk_27 (dk_at dksX3_noEnd_0 1 rfl rfl)
theorem dX3_noEnd_2 : decode cX3_noEnd 2 = .ok (.iconst 0, 1) := dk_3 (dk_at dksX3_noEnd_0 2 rfl rfl)
theorem dX3_noEnd_3 : decode cX3_noEnd 3 = .ok (.aload_n 0, 1) := dk_42 (dk_at dksX3_noEnd_0 3 rfl rfl)
theorem dX3_noEnd_4 : decode cX3_noEnd 4 = .ok (.getfield 150, 3) := dk_180 0 150 (dk_at dksX3_noEnd_0 4 rfl rfl)
theorem dX3_noEnd_7 : decode cX3_noEnd 7 = .ok (.iconst 1, 1) := dk_4 (dk_at dksX3_noEnd_0 7 rfl rfl)
theorem dX3_noEnd_8 : decode cX3_noEnd 8 = .ok (.isub, 1) := dk_100 (dk_at dksX3_noEnd_0 8 rfl rfl)
theorem dX3_noEnd_9 : decode cX3_noEnd 9 = .ok (.invokestatic 129, 3) := dk_184 0 129 (dk_at dksX3_noEnd_0 9 rfl rfl)
theorem dX3_noEnd_12 : decode cX3_noEnd 12 = .ok (.ifCond .eq 7, 3) := dk_153 0 7 (dk_at dksX3_noEnd_0 12 rfl rfl)
theorem dX3_noEnd_15 : decode cX3_noEnd 15 = .ok (.iconst 0, 1) := dk_3 (dk_at dksX3_noEnd_0 15 rfl rfl)
theorem dX3_noEnd_16 : decode cX3_noEnd 16 = .ok (.goto 4, 3) := dk_167 0 4 (dk_at dksX3_noEnd_0 16 rfl rfl)
theorem dX3_noEnd_19 : decode cX3_noEnd 19 = .ok (.iconst 1, 1) := dk_4 (dk_at dksX3_noEnd_0 19 rfl rfl)
theorem dX3_noEnd_20 : decode cX3_noEnd 20 = .ok (.putfield 123, 3) := dk_181 0 123 (dk_at dksX3_noEnd_0 20 rfl rfl)
theorem dX3_noEnd_23 : decode cX3_noEnd 23 = .ok (.aload_n 0, 1) := dk_42 (dk_at dksX3_noEnd_0 23 rfl rfl)
theorem dX3_noEnd_24 : decode cX3_noEnd 24 = .ok (.getfield 123, 3) := dk_180 0 123 (dk_at dksX3_noEnd_1 0 rfl rfl)
theorem dX3_noEnd_27 : decode cX3_noEnd 27 = .ok (.ifCond .le 7, 3) := dk_158 0 7 (dk_at dksX3_noEnd_1 3 rfl rfl)
theorem dX3_noEnd_30 : decode cX3_noEnd 30 = .ok (.iconst 1, 1) := dk_4 (dk_at dksX3_noEnd_1 6 rfl rfl)
theorem dX3_noEnd_31 : decode cX3_noEnd 31 = .ok (.goto 4, 3) := dk_167 0 4 (dk_at dksX3_noEnd_1 7 rfl rfl)
theorem dX3_noEnd_34 : decode cX3_noEnd 34 = .ok (.iconst 0, 1) := dk_3 (dk_at dksX3_noEnd_1 10 rfl rfl)
theorem dX3_noEnd_35 : decode cX3_noEnd 35 = .ok (.ireturn, 1) := dk_172 (dk_at dksX3_noEnd_1 11 rfl rfl)
def dkwX3_placeAt_0 : List UInt8 := [42, 27, 182, 1, 72, 153, 0, 7, 3, 167, 0, 9, 42, 180, 0, 104, 27, 46, 172]
abbrev dktX3_placeAt_0 : List UInt8 := dkwX3_placeAt_0 ++ []
theorem dksX3_placeAt_0 : cX3_placeAt.data.toList.drop 0 = dktX3_placeAt_0 := by decide +kernel
theorem dX3_placeAt_0 : decode cX3_placeAt 0 = .ok (.aload_n 0, 1) := dk_42 (dk_at dksX3_placeAt_0 0 rfl rfl)
theorem dX3_placeAt_1 : decode cX3_placeAt 1 = .ok (.iload_n 1, 1) := dk_27 (dk_at dksX3_placeAt_0 1 rfl rfl)
theorem dX3_placeAt_2 : decode cX3_placeAt 2 = .ok (.invokevirtual 328, 3) := dk_182 1 72 (dk_at dksX3_placeAt_0 2 rfl rfl)
theorem dX3_placeAt_5 : decode cX3_placeAt 5 = .ok (.ifCond .eq 7, 3) := dk_153 0 7 (dk_at dksX3_placeAt_0 5 rfl rfl)
theorem dX3_placeAt_8 : decode cX3_placeAt 8 = .ok (.iconst 0, 1) := dk_3 (dk_at dksX3_placeAt_0 8 rfl rfl)
theorem dX3_placeAt_9 : decode cX3_placeAt 9 = .ok (.goto 9, 3) := dk_167 0 9 (dk_at dksX3_placeAt_0 9 rfl rfl)
theorem dX3_placeAt_12 : decode cX3_placeAt 12 = .ok (.aload_n 0, 1) := dk_42 (dk_at dksX3_placeAt_0 12 rfl rfl)
theorem dX3_placeAt_13 : decode cX3_placeAt 13 = .ok (.getfield 104, 3) := dk_180 0 104 (dk_at dksX3_placeAt_0 13 rfl rfl)
theorem dX3_placeAt_16 : decode cX3_placeAt 16 = .ok (.iload_n 1, 1) := dk_27 (dk_at dksX3_placeAt_0 16 rfl rfl)
theorem dX3_placeAt_17 : decode cX3_placeAt 17 = .ok (.iaload, 1) := dk_46 (dk_at dksX3_placeAt_0 17 rfl rfl)
theorem dX3_placeAt_18 : decode cX3_placeAt 18 = .ok (.ireturn, 1) := dk_172 (dk_at dksX3_placeAt_0 18 rfl rfl)
def dkwX3_kindByPlain_0 : List UInt8 := [42, 27, 182, 1, 72, 153, 0, 7, 3, 167, 0, 12, 42, 27, 4, 96, 182, 1, 96, 3, 46, 172]
abbrev dktX3_kindByPlain_0 : List UInt8 := dkwX3_kindByPlain_0 ++ []
theorem dksX3_kindByPlain_0 : cX3_kindByPlain.data.toList.drop 0 = dktX3_kindByPlain_0 := by decide +kernel
theorem dX3_kindByPlain_0 : decode cX3_kindByPlain 0 = .ok (.aload_n 0, 1) := dk_42 (dk_at dksX3_kindByPlain_0 0 rfl rfl)
theorem dX3_kindByPlain_1 : decode cX3_kindByPlain 1 = .ok (.iload_n 1, 1) := dk_27 (dk_at dksX3_kindByPlain_0 1 rfl rfl)
theorem dX3_kindByPlain_2 : decode cX3_kindByPlain 2 = .ok (.invokevirtual 328, 3) := dk_182 1 72 (dk_at dksX3_kindByPlain_0 2 rfl rfl)
theorem dX3_kindByPlain_5 : decode cX3_kindByPlain 5 = .ok (.ifCond .eq 7, 3) := dk_153 0 7 (dk_at dksX3_kindByPlain_0 5 rfl rfl)
theorem dX3_kindByPlain_8 : decode cX3_kindByPlain 8 = .ok (.iconst 0, 1) := dk_3 (dk_at dksX3_kindByPlain_0 8 rfl rfl)
theorem dX3_kindByPlain_9 : decode cX3_kindByPlain 9 = .ok (.goto 12, 3) := dk_167 0 12 (dk_at dksX3_kindByPlain_0 9 rfl rfl)
theorem dX3_kindByPlain_12 : decode cX3_kindByPlain 12 = .ok (.aload_n 0, 1) := dk_42 (dk_at dksX3_kindByPlain_0 12 rfl rfl)
theorem dX3_kindByPlain_13 : decode cX3_kindByPlain 13 = .ok (.iload_n 1, 1) := dk_27 (dk_at dksX3_kindByPlain_0 13 rfl rfl)
theorem dX3_kindByPlain_14 : decode cX3_kindByPlain 14 = .ok (.iconst 1, 1) := dk_4 (dk_at dksX3_kindByPlain_0 14 rfl rfl)
theorem dX3_kindByPlain_15 : decode cX3_kindByPlain 15 = .ok (.iadd, 1) := dk_96 (dk_at dksX3_kindByPlain_0 15 rfl rfl)
theorem dX3_kindByPlain_16 : decode cX3_kindByPlain 16 = .ok (.invokevirtual 352, 3) := dk_182 1 96 (dk_at dksX3_kindByPlain_0 16 rfl rfl)
theorem dX3_kindByPlain_19 : decode cX3_kindByPlain 19 = .ok (.iconst 0, 1) := dk_3 (dk_at dksX3_kindByPlain_0 19 rfl rfl)
theorem dX3_kindByPlain_20 : decode cX3_kindByPlain 20 = .ok (.iaload, 1) := dk_46 (dk_at dksX3_kindByPlain_0 20 rfl rfl)
theorem dX3_kindByPlain_21 : decode cX3_kindByPlain 21 = .ok (.ireturn, 1) := dk_172 (dk_at dksX3_kindByPlain_0 21 rfl rfl)
def dkwX3_plain_9 : List UInt8 := [42, 42, 180, 0, 38, 181, 1, 81, 132, 3, 1, 167, 255, 108, 44, 176]
abbrev dktX3_plain_9 : List UInt8 := dkwX3_plain_9 ++ []
def dkwX3_plain_8 : List UInt8 := [160, 0, 11, 42, 4, 181, 1, 84, 167, 0, 24, 42, 21, 4, 4, 96, 181, 1, 87, 42, 4, 181, 1, 78]
abbrev dktX3_plain_8 : List UInt8 := dkwX3_plain_8 ++ dktX3_plain_9
def dkwX3_plain_7 : List UInt8 := [154, 0, 12, 42, 21, 4, 182, 1, 93, 167, 0, 47, 42, 180, 1, 78, 154, 0, 11, 42, 180, 0, 38, 2]
abbrev dktX3_plain_7 : List UInt8 := dkwX3_plain_7 ++ dktX3_plain_8
def dkwX3_plain_6 : List UInt8 := [153, 0, 10, 44, 3, 2, 79, 167, 0, 71, 44, 3, 42, 21, 4, 182, 1, 90, 79, 44, 3, 46]
abbrev dktX3_plain_6 : List UInt8 := dkwX3_plain_6 ++ dktX3_plain_7
def dkwX3_plain_5 : List UInt8 := [180, 0, 41, 181, 1, 81, 167, 0, 94, 21, 4, 42, 180, 0, 136, 162, 0, 10, 42, 180, 1, 84]
abbrev dktX3_plain_5 : List UInt8 := dkwX3_plain_5 ++ dktX3_plain_6
def dkwX3_plain_4 : List UInt8 := [46, 16, 9, 160, 0, 30, 44, 3, 16, 9, 79, 42, 21, 4, 181, 1, 87, 42, 4, 181, 1, 78, 42, 42]
abbrev dktX3_plain_4 : List UInt8 := dkwX3_plain_4 ++ dktX3_plain_5
def dkwX3_plain_3 : List UInt8 := [77, 3, 62, 29, 27, 162, 0, 149, 42, 180, 1, 81, 54, 4, 44, 4, 21, 4, 79, 42, 180, 0, 101, 29]
abbrev dktX3_plain_3 : List UInt8 := dkwX3_plain_3 ++ dktX3_plain_4
def dkwX3_plain_2 : List UInt8 := [132, 2, 1, 167, 255, 235, 42, 3, 181, 1, 81, 42, 3, 181, 1, 78, 42, 3, 181, 1, 84, 5, 188, 10]
abbrev dktX3_plain_2 : List UInt8 := dkwX3_plain_2 ++ dktX3_plain_3
def dkwX3_plain_1 : List UInt8 := [167, 255, 235, 3, 61, 28, 16, 64, 162, 0, 21, 42, 180, 0, 117, 28, 42, 180, 0, 47, 28, 46, 79]
abbrev dktX3_plain_1 : List UInt8 := dkwX3_plain_1 ++ dktX3_plain_2
def dkwX3_plain_0 : List UInt8 := [3, 61, 28, 16, 8, 162, 0, 21, 42, 180, 0, 114, 28, 42, 180, 0, 44, 28, 46, 79, 132, 2, 1]
abbrev dktX3_plain_0 : List UInt8 := dkwX3_plain_0 ++ dktX3_plain_1
theorem dksX3_plain_0 : cX3_plain.data.toList.drop 0 = dktX3_plain_0 := by decide +kernel
theorem dksX3_plain_1 : cX3_plain.data.toList.drop 23 = dktX3_plain_1 := dk_seg dksX3_plain_0 23 rfl rfl
theorem dksX3_plain_2 : cX3_plain.data.toList.drop 46 = dktX3_plain_2 := dk_seg dksX3_plain_1 23 rfl rfl
theorem dksX3_plain_3 : cX3_plain.data.toList.drop 70 = dktX3_plain_3 := dk_seg dksX3_plain_2 24 rfl rfl
theorem dksX3_plain_4 : cX3_plain.data.toList.drop 94 = dktX3_plain_4 := dk_seg dksX3_plain_3 24 rfl rfl
theorem dksX3_plain_5 : cX3_plain.data.toList.drop 118 = dktX3_plain_5 := dk_seg dksX3_plain_4 24 rfl rfl
theorem dksX3_plain_6 : cX3_plain.data.toList.drop 140 = dktX3_plain_6 := dk_seg dksX3_plain_5 22 rfl rfl
theorem dksX3_plain_7 : cX3_plain.data.toList.drop 162 = dktX3_plain_7 := dk_seg dksX3_plain_6 22 rfl rfl
theorem dksX3_plain_8 : cX3_plain.data.toList.drop 186 = dktX3_plain_8 := dk_seg dksX3_plain_7 24 rfl rfl
theorem dksX3_plain_9 : cX3_plain.data.toList.drop 210 = dktX3_plain_9 := dk_seg dksX3_plain_8 24 rfl rfl
theorem dX3_plain_0 : decode cX3_plain 0 = .ok (.iconst 0, 1) := dk_3 (dk_at dksX3_plain_0 0 rfl rfl)
theorem dX3_plain_1 : decode cX3_plain 1 = .ok (.istore_n 2, 1) := dk_61 (dk_at dksX3_plain_0 1 rfl rfl)
theorem dX3_plain_2 : decode cX3_plain 2 = .ok (.iload_n 2, 1) := dk_28 (dk_at dksX3_plain_0 2 rfl rfl)
theorem dX3_plain_3 : decode cX3_plain 3 = .ok (.bipush 8, 2) := dk_16 8 (dk_at dksX3_plain_0 3 rfl rfl)
theorem dX3_plain_5 : decode cX3_plain 5 = .ok (.if_icmp .ge 21, 3) := dk_162 0 21 (dk_at dksX3_plain_0 5 rfl rfl)
theorem dX3_plain_8 : decode cX3_plain 8 = .ok (.aload_n 0, 1) := dk_42 (dk_at dksX3_plain_0 8 rfl rfl)
theorem dX3_plain_9 : decode cX3_plain 9 = .ok (.getfield 114, 3) := dk_180 0 114 (dk_at dksX3_plain_0 9 rfl rfl)
theorem dX3_plain_12 : decode cX3_plain 12 = .ok (.iload_n 2, 1) := dk_28 (dk_at dksX3_plain_0 12 rfl rfl)
theorem dX3_plain_13 : decode cX3_plain 13 = .ok (.aload_n 0, 1) := dk_42 (dk_at dksX3_plain_0 13 rfl rfl)
theorem dX3_plain_14 : decode cX3_plain 14 = .ok (.getfield 44, 3) := dk_180 0 44 (dk_at dksX3_plain_0 14 rfl rfl)
theorem dX3_plain_17 : decode cX3_plain 17 = .ok (.iload_n 2, 1) := dk_28 (dk_at dksX3_plain_0 17 rfl rfl)
theorem dX3_plain_18 : decode cX3_plain 18 = .ok (.iaload, 1) := dk_46 (dk_at dksX3_plain_0 18 rfl rfl)
theorem dX3_plain_19 : decode cX3_plain 19 = .ok (.iastore, 1) := dk_79 (dk_at dksX3_plain_0 19 rfl rfl)
theorem dX3_plain_20 : decode cX3_plain 20 = .ok (.iinc 2 1, 3) := dk_132 2 1 (dk_at dksX3_plain_0 20 rfl rfl)
theorem dX3_plain_23 : decode cX3_plain 23 = .ok (.goto (-21), 3) := dk_167 255 235 (dk_at dksX3_plain_1 0 rfl rfl)
theorem dX3_plain_26 : decode cX3_plain 26 = .ok (.iconst 0, 1) := dk_3 (dk_at dksX3_plain_1 3 rfl rfl)
theorem dX3_plain_27 : decode cX3_plain 27 = .ok (.istore_n 2, 1) := dk_61 (dk_at dksX3_plain_1 4 rfl rfl)
theorem dX3_plain_28 : decode cX3_plain 28 = .ok (.iload_n 2, 1) := dk_28 (dk_at dksX3_plain_1 5 rfl rfl)
theorem dX3_plain_29 : decode cX3_plain 29 = .ok (.bipush 64, 2) := dk_16 64 (dk_at dksX3_plain_1 6 rfl rfl)
theorem dX3_plain_31 : decode cX3_plain 31 = .ok (.if_icmp .ge 21, 3) := dk_162 0 21 (dk_at dksX3_plain_1 8 rfl rfl)
theorem dX3_plain_34 : decode cX3_plain 34 = .ok (.aload_n 0, 1) := dk_42 (dk_at dksX3_plain_1 11 rfl rfl)
theorem dX3_plain_35 : decode cX3_plain 35 = .ok (.getfield 117, 3) := dk_180 0 117 (dk_at dksX3_plain_1 12 rfl rfl)
theorem dX3_plain_38 : decode cX3_plain 38 = .ok (.iload_n 2, 1) := dk_28 (dk_at dksX3_plain_1 15 rfl rfl)
theorem dX3_plain_39 : decode cX3_plain 39 = .ok (.aload_n 0, 1) := dk_42 (dk_at dksX3_plain_1 16 rfl rfl)
theorem dX3_plain_40 : decode cX3_plain 40 = .ok (.getfield 47, 3) := dk_180 0 47 (dk_at dksX3_plain_1 17 rfl rfl)
theorem dX3_plain_43 : decode cX3_plain 43 = .ok (.iload_n 2, 1) := dk_28 (dk_at dksX3_plain_1 20 rfl rfl)
theorem dX3_plain_44 : decode cX3_plain 44 = .ok (.iaload, 1) := dk_46 (dk_at dksX3_plain_1 21 rfl rfl)
theorem dX3_plain_45 : decode cX3_plain 45 = .ok (.iastore, 1) := dk_79 (dk_at dksX3_plain_1 22 rfl rfl)
theorem dX3_plain_46 : decode cX3_plain 46 = .ok (.iinc 2 1, 3) := dk_132 2 1 (dk_at dksX3_plain_2 0 rfl rfl)
theorem dX3_plain_49 : decode cX3_plain 49 = .ok (.goto (-21), 3) := dk_167 255 235 (dk_at dksX3_plain_2 3 rfl rfl)
theorem dX3_plain_52 : decode cX3_plain 52 = .ok (.aload_n 0, 1) := dk_42 (dk_at dksX3_plain_2 6 rfl rfl)
theorem dX3_plain_53 : decode cX3_plain 53 = .ok (.iconst 0, 1) := dk_3 (dk_at dksX3_plain_2 7 rfl rfl)
theorem dX3_plain_54 : decode cX3_plain 54 = .ok (.putfield 337, 3) := dk_181 1 81 (dk_at dksX3_plain_2 8 rfl rfl)
theorem dX3_plain_57 : decode cX3_plain 57 = .ok (.aload_n 0, 1) := dk_42 (dk_at dksX3_plain_2 11 rfl rfl)
theorem dX3_plain_58 : decode cX3_plain 58 = .ok (.iconst 0, 1) := dk_3 (dk_at dksX3_plain_2 12 rfl rfl)
theorem dX3_plain_59 : decode cX3_plain 59 = .ok (.putfield 334, 3) := dk_181 1 78 (dk_at dksX3_plain_2 13 rfl rfl)
theorem dX3_plain_62 : decode cX3_plain 62 = .ok (.aload_n 0, 1) := dk_42 (dk_at dksX3_plain_2 16 rfl rfl)
theorem dX3_plain_63 : decode cX3_plain 63 = .ok (.iconst 0, 1) := dk_3 (dk_at dksX3_plain_2 17 rfl rfl)
theorem dX3_plain_64 : decode cX3_plain 64 = .ok (.putfield 340, 3) := dk_181 1 84 (dk_at dksX3_plain_2 18 rfl rfl)
theorem dX3_plain_67 : decode cX3_plain 67 = .ok (.iconst 2, 1) := dk_5 (dk_at dksX3_plain_2 21 rfl rfl)
theorem dX3_plain_68 : decode cX3_plain 68 = .ok (.newarray .int, 2) := dk_188_10 (dk_at dksX3_plain_2 22 rfl rfl)
theorem dX3_plain_70 : decode cX3_plain 70 = .ok (.astore_n 2, 1) := dk_77 (dk_at dksX3_plain_3 0 rfl rfl)
theorem dX3_plain_71 : decode cX3_plain 71 = .ok (.iconst 0, 1) := dk_3 (dk_at dksX3_plain_3 1 rfl rfl)
theorem dX3_plain_72 : decode cX3_plain 72 = .ok (.istore_n 3, 1) := dk_62 (dk_at dksX3_plain_3 2 rfl rfl)
theorem dX3_plain_73 : decode cX3_plain 73 = .ok (.iload_n 3, 1) := dk_29 (dk_at dksX3_plain_3 3 rfl rfl)
theorem dX3_plain_74 : decode cX3_plain 74 = .ok (.iload_n 1, 1) := dk_27 (dk_at dksX3_plain_3 4 rfl rfl)
theorem dX3_plain_75 : decode cX3_plain 75 = .ok (.if_icmp .ge 149, 3) := dk_162 0 149 (dk_at dksX3_plain_3 5 rfl rfl)
theorem dX3_plain_78 : decode cX3_plain 78 = .ok (.aload_n 0, 1) := dk_42 (dk_at dksX3_plain_3 8 rfl rfl)
theorem dX3_plain_79 : decode cX3_plain 79 = .ok (.getfield 337, 3) := dk_180 1 81 (dk_at dksX3_plain_3 9 rfl rfl)
theorem dX3_plain_82 : decode cX3_plain 82 = .ok (.istore 4, 2) := dk_54 4 (dk_at dksX3_plain_3 12 rfl rfl)
theorem dX3_plain_84 : decode cX3_plain 84 = .ok (.aload_n 2, 1) := dk_44 (dk_at dksX3_plain_3 14 rfl rfl)
theorem dX3_plain_85 : decode cX3_plain 85 = .ok (.iconst 1, 1) := dk_4 (dk_at dksX3_plain_3 15 rfl rfl)
theorem dX3_plain_86 : decode cX3_plain 86 = .ok (.iload 4, 2) := dk_21 4 (dk_at dksX3_plain_3 16 rfl rfl)
theorem dX3_plain_88 : decode cX3_plain 88 = .ok (.iastore, 1) := dk_79 (dk_at dksX3_plain_3 18 rfl rfl)
theorem dX3_plain_89 : decode cX3_plain 89 = .ok (.aload_n 0, 1) := dk_42 (dk_at dksX3_plain_3 19 rfl rfl)
theorem dX3_plain_90 : decode cX3_plain 90 = .ok (.getfield 101, 3) := dk_180 0 101 (dk_at dksX3_plain_3 20 rfl rfl)
theorem dX3_plain_93 : decode cX3_plain 93 = .ok (.iload_n 3, 1) := dk_29 (dk_at dksX3_plain_3 23 rfl rfl)
theorem dX3_plain_94 : decode cX3_plain 94 = .ok (.iaload, 1) := dk_46 (dk_at dksX3_plain_4 0 rfl rfl)
theorem dX3_plain_95 : decode cX3_plain 95 = .ok (.bipush 9, 2) := dk_16 9 (dk_at dksX3_plain_4 1 rfl rfl)
theorem dX3_plain_97 : decode cX3_plain 97 = .ok (.if_icmp .ne 30, 3) := dk_160 0 30 (dk_at dksX3_plain_4 3 rfl rfl)
theorem dX3_plain_100 : decode cX3_plain 100 = .ok (.aload_n 2, 1) := dk_44 (dk_at dksX3_plain_4 6 rfl rfl)
theorem dX3_plain_101 : decode cX3_plain 101 = .ok (.iconst 0, 1) := dk_3 (dk_at dksX3_plain_4 7 rfl rfl)
theorem dX3_plain_102 : decode cX3_plain 102 = .ok (.bipush 9, 2) := dk_16 9 (dk_at dksX3_plain_4 8 rfl rfl)
theorem dX3_plain_104 : decode cX3_plain 104 = .ok (.iastore, 1) := dk_79 (dk_at dksX3_plain_4 10 rfl rfl)
theorem dX3_plain_105 : decode cX3_plain 105 = .ok (.aload_n 0, 1) := dk_42 (dk_at dksX3_plain_4 11 rfl rfl)
theorem dX3_plain_106 : decode cX3_plain 106 = .ok (.iload 4, 2) := dk_21 4 (dk_at dksX3_plain_4 12 rfl rfl)
theorem dX3_plain_108 : decode cX3_plain 108 = .ok (.putfield 343, 3) := dk_181 1 87 (dk_at dksX3_plain_4 14 rfl rfl)
theorem dX3_plain_111 : decode cX3_plain 111 = .ok (.aload_n 0, 1) := dk_42 (dk_at dksX3_plain_4 17 rfl rfl)
theorem dX3_plain_112 : decode cX3_plain 112 = .ok (.iconst 1, 1) := dk_4 (dk_at dksX3_plain_4 18 rfl rfl)
theorem dX3_plain_113 : decode cX3_plain 113 = .ok (.putfield 334, 3) := dk_181 1 78 (dk_at dksX3_plain_4 19 rfl rfl)
theorem dX3_plain_116 : decode cX3_plain 116 = .ok (.aload_n 0, 1) := dk_42 (dk_at dksX3_plain_4 22 rfl rfl)
theorem dX3_plain_117 : decode cX3_plain 117 = .ok (.aload_n 0, 1) := dk_42 (dk_at dksX3_plain_4 23 rfl rfl)
theorem dX3_plain_118 : decode cX3_plain 118 = .ok (.getfield 41, 3) := dk_180 0 41 (dk_at dksX3_plain_5 0 rfl rfl)
theorem dX3_plain_121 : decode cX3_plain 121 = .ok (.putfield 337, 3) := dk_181 1 81 (dk_at dksX3_plain_5 3 rfl rfl)
theorem dX3_plain_124 : decode cX3_plain 124 = .ok (.goto 94, 3) := dk_167 0 94 (dk_at dksX3_plain_5 6 rfl rfl)
theorem dX3_plain_127 : decode cX3_plain 127 = .ok (.iload 4, 2) := dk_21 4 (dk_at dksX3_plain_5 9 rfl rfl)
theorem dX3_plain_129 : decode cX3_plain 129 = .ok (.aload_n 0, 1) := dk_42 (dk_at dksX3_plain_5 11 rfl rfl)
theorem dX3_plain_130 : decode cX3_plain 130 = .ok (.getfield 136, 3) := dk_180 0 136 (dk_at dksX3_plain_5 12 rfl rfl)
theorem dX3_plain_133 : decode cX3_plain 133 = .ok (.if_icmp .ge 10, 3) := dk_162 0 10 (dk_at dksX3_plain_5 15 rfl rfl)
theorem dX3_plain_136 : decode cX3_plain 136 = .ok (.aload_n 0, 1) := dk_42 (dk_at dksX3_plain_5 18 rfl rfl)
theorem dX3_plain_137 : decode cX3_plain 137 = .ok (.getfield 340, 3) := dk_180 1 84 (dk_at dksX3_plain_5 19 rfl rfl)
theorem dX3_plain_140 : decode cX3_plain 140 = .ok (.ifCond .eq 10, 3) := dk_153 0 10 (dk_at dksX3_plain_6 0 rfl rfl)
theorem dX3_plain_143 : decode cX3_plain 143 = .ok (.aload_n 2, 1) := dk_44 (dk_at dksX3_plain_6 3 rfl rfl)
theorem dX3_plain_144 : decode cX3_plain 144 = .ok (.iconst 0, 1) := dk_3 (dk_at dksX3_plain_6 4 rfl rfl)
theorem dX3_plain_145 : decode cX3_plain 145 = .ok (.iconst (-1), 1) := dk_2 (dk_at dksX3_plain_6 5 rfl rfl)
theorem dX3_plain_146 : decode cX3_plain 146 = .ok (.iastore, 1) := dk_79 (dk_at dksX3_plain_6 6 rfl rfl)
theorem dX3_plain_147 : decode cX3_plain 147 = .ok (.goto 71, 3) := dk_167 0 71 (dk_at dksX3_plain_6 7 rfl rfl)
theorem dX3_plain_150 : decode cX3_plain 150 = .ok (.aload_n 2, 1) := dk_44 (dk_at dksX3_plain_6 10 rfl rfl)
theorem dX3_plain_151 : decode cX3_plain 151 = .ok (.iconst 0, 1) := dk_3 (dk_at dksX3_plain_6 11 rfl rfl)
theorem dX3_plain_152 : decode cX3_plain 152 = .ok (.aload_n 0, 1) := dk_42 (dk_at dksX3_plain_6 12 rfl rfl)
theorem dX3_plain_153 : decode cX3_plain 153 = .ok (.iload 4, 2) := dk_21 4 (dk_at dksX3_plain_6 13 rfl rfl)
theorem dX3_plain_155 : decode cX3_plain 155 = .ok (.invokevirtual 346, 3) := dk_182 1 90 (dk_at dksX3_plain_6 15 rfl rfl)
theorem dX3_plain_158 : decode cX3_plain 158 = .ok (.iastore, 1) := dk_79 (dk_at dksX3_plain_6 18 rfl rfl)
theorem dX3_plain_159 : decode cX3_plain 159 = .ok (.aload_n 2, 1) := dk_44 (dk_at dksX3_plain_6 19 rfl rfl)
theorem dX3_plain_160 : decode cX3_plain 160 = .ok (.iconst 0, 1) := dk_3 (dk_at dksX3_plain_6 20 rfl rfl)
theorem dX3_plain_161 : decode cX3_plain 161 = .ok (.iaload, 1) := dk_46 (dk_at dksX3_plain_6 21 rfl rfl)
theorem dX3_plain_162 : decode cX3_plain 162 = .ok (.ifCond .ne 12, 3) := dk_154 0 12 (dk_at dksX3_plain_7 0 rfl rfl)
theorem dX3_plain_165 : decode cX3_plain 165 = .ok (.aload_n 0, 1) := dk_42 (dk_at dksX3_plain_7 3 rfl rfl)
theorem dX3_plain_166 : decode cX3_plain 166 = .ok (.iload 4, 2) := dk_21 4 (dk_at dksX3_plain_7 4 rfl rfl)
theorem dX3_plain_168 : decode cX3_plain 168 = .ok (.invokevirtual 349, 3) := dk_182 1 93 (dk_at dksX3_plain_7 6 rfl rfl)
theorem dX3_plain_171 : decode cX3_plain 171 = .ok (.goto 47, 3) := dk_167 0 47 (dk_at dksX3_plain_7 9 rfl rfl)
theorem dX3_plain_174 : decode cX3_plain 174 = .ok (.aload_n 0, 1) := dk_42 (dk_at dksX3_plain_7 12 rfl rfl)
theorem dX3_plain_175 : decode cX3_plain 175 = .ok (.getfield 334, 3) := dk_180 1 78 (dk_at dksX3_plain_7 13 rfl rfl)
theorem dX3_plain_178 : decode cX3_plain 178 = .ok (.ifCond .ne 11, 3) := dk_154 0 11 (dk_at dksX3_plain_7 16 rfl rfl)
theorem dX3_plain_181 : decode cX3_plain 181 = .ok (.aload_n 0, 1) := dk_42 (dk_at dksX3_plain_7 19 rfl rfl)
theorem dX3_plain_182 : decode cX3_plain 182 = .ok (.getfield 38, 3) := dk_180 0 38 (dk_at dksX3_plain_7 20 rfl rfl)
theorem dX3_plain_185 : decode cX3_plain 185 = .ok (.iconst (-1), 1) := dk_2 (dk_at dksX3_plain_7 23 rfl rfl)
theorem dX3_plain_186 : decode cX3_plain 186 = .ok (.if_icmp .ne 11, 3) := dk_160 0 11 (dk_at dksX3_plain_8 0 rfl rfl)
theorem dX3_plain_189 : decode cX3_plain 189 = .ok (.aload_n 0, 1) := dk_42 (dk_at dksX3_plain_8 3 rfl rfl)
theorem dX3_plain_190 : decode cX3_plain 190 = .ok (.iconst 1, 1) := dk_4 (dk_at dksX3_plain_8 4 rfl rfl)
theorem dX3_plain_191 : decode cX3_plain 191 = .ok (.putfield 340, 3) := dk_181 1 84 (dk_at dksX3_plain_8 5 rfl rfl)
theorem dX3_plain_194 : decode cX3_plain 194 = .ok (.goto 24, 3) := dk_167 0 24 (dk_at dksX3_plain_8 8 rfl rfl)
theorem dX3_plain_197 : decode cX3_plain 197 = .ok (.aload_n 0, 1) := dk_42 (dk_at dksX3_plain_8 11 rfl rfl)
theorem dX3_plain_198 : decode cX3_plain 198 = .ok (.iload 4, 2) := dk_21 4 (dk_at dksX3_plain_8 12 rfl rfl)
theorem dX3_plain_200 : decode cX3_plain 200 = .ok (.iconst 1, 1) := dk_4 (dk_at dksX3_plain_8 14 rfl rfl)
theorem dX3_plain_201 : decode cX3_plain 201 = .ok (.iadd, 1) := dk_96 (dk_at dksX3_plain_8 15 rfl rfl)
theorem dX3_plain_202 : decode cX3_plain 202 = .ok (.putfield 343, 3) := dk_181 1 87 (dk_at dksX3_plain_8 16 rfl rfl)
theorem dX3_plain_205 : decode cX3_plain 205 = .ok (.aload_n 0, 1) := dk_42 (dk_at dksX3_plain_8 19 rfl rfl)
theorem dX3_plain_206 : decode cX3_plain 206 = .ok (.iconst 1, 1) := dk_4 (dk_at dksX3_plain_8 20 rfl rfl)
theorem dX3_plain_207 : decode cX3_plain 207 = .ok (.putfield 334, 3) := dk_181 1 78 (dk_at dksX3_plain_8 21 rfl rfl)
theorem dX3_plain_210 : decode cX3_plain 210 = .ok (.aload_n 0, 1) := dk_42 (dk_at dksX3_plain_9 0 rfl rfl)
theorem dX3_plain_211 : decode cX3_plain 211 = .ok (.aload_n 0, 1) := dk_42 (dk_at dksX3_plain_9 1 rfl rfl)
theorem dX3_plain_212 : decode cX3_plain 212 = .ok (.getfield 38, 3) := dk_180 0 38 (dk_at dksX3_plain_9 2 rfl rfl)
theorem dX3_plain_215 : decode cX3_plain 215 = .ok (.putfield 337, 3) := dk_181 1 81 (dk_at dksX3_plain_9 5 rfl rfl)
theorem dX3_plain_218 : decode cX3_plain 218 = .ok (.iinc 3 1, 3) := dk_132 3 1 (dk_at dksX3_plain_9 8 rfl rfl)
theorem dX3_plain_221 : decode cX3_plain 221 = .ok (.goto (-148), 3) := dk_167 255 108 (dk_at dksX3_plain_9 11 rfl rfl)
theorem dX3_plain_224 : decode cX3_plain 224 = .ok (.aload_n 2, 1) := dk_44 (dk_at dksX3_plain_9 14 rfl rfl)
theorem dX3_plain_225 : decode cX3_plain 225 = .ok (.areturn, 1) := dk_176 (dk_at dksX3_plain_9 15 rfl rfl)
def dkwX3_plainTrap_6 : List UInt8 := [154, 0, 7, 8, 167, 0, 4, 3, 172]
abbrev dktX3_plainTrap_6 : List UInt8 := dkwX3_plainTrap_6 ++ []
def dkwX3_plainTrap_5 : List UInt8 := [167, 0, 31, 28, 16, 20, 160, 0, 7, 7, 167, 0, 21, 28, 16, 21, 160, 0, 14, 42, 180, 1, 78]
abbrev dktX3_plainTrap_5 : List UInt8 := dkwX3_plainTrap_5 ++ dktX3_plainTrap_6
def dkwX3_plainTrap_4 : List UInt8 := [154, 0, 7, 4, 167, 0, 49, 21, 4, 153, 0, 7, 5, 167, 0, 40, 21, 5, 153, 0, 7, 6]
abbrev dktX3_plainTrap_4 : List UInt8 := dkwX3_plainTrap_4 ++ dktX3_plainTrap_5
def dkwX3_plainTrap_3 : List UInt8 := [167, 0, 4, 3, 54, 5, 28, 8, 160, 0, 21, 42, 180, 0, 114, 42, 180, 0, 19, 27, 46, 46]
abbrev dktX3_plainTrap_3 : List UInt8 := dkwX3_plainTrap_3 ++ dktX3_plainTrap_4
def dkwX3_plainTrap_2 : List UInt8 := [28, 16, 16, 159, 0, 9, 28, 16, 17, 160, 0, 17, 29, 3, 16, 63, 184, 0, 129, 154, 0, 7, 4]
abbrev dktX3_plainTrap_2 : List UInt8 := dkwX3_plainTrap_2 ++ dktX3_plainTrap_3
def dkwX3_plainTrap_1 : List UInt8 := [184, 0, 129, 153, 0, 18, 42, 27, 182, 1, 75, 184, 0, 225, 154, 0, 7, 4, 167, 0, 4, 3, 54, 4]
abbrev dktX3_plainTrap_1 : List UInt8 := dkwX3_plainTrap_1 ++ dktX3_plainTrap_2
def dkwX3_plainTrap_0 : List UInt8 := [42, 180, 0, 9, 27, 46, 61, 42, 180, 0, 114, 42, 180, 0, 16, 27, 46, 46, 62, 28, 16, 9, 16, 11]
abbrev dktX3_plainTrap_0 : List UInt8 := dkwX3_plainTrap_0 ++ dktX3_plainTrap_1
theorem dksX3_plainTrap_0 : cX3_plainTrap.data.toList.drop 0 = dktX3_plainTrap_0 := by decide +kernel
theorem dksX3_plainTrap_1 : cX3_plainTrap.data.toList.drop 24 = dktX3_plainTrap_1 := dk_seg dksX3_plainTrap_0 24 rfl rfl
theorem dksX3_plainTrap_2 : cX3_plainTrap.data.toList.drop 48 = dktX3_plainTrap_2 := dk_seg dksX3_plainTrap_1 24 rfl rfl
theorem dksX3_plainTrap_3 : cX3_plainTrap.data.toList.drop 71 = dktX3_plainTrap_3 := dk_seg dksX3_plainTrap_2 23 rfl rfl
theorem dksX3_plainTrap_4 : cX3_plainTrap.data.toList.drop 93 = dktX3_plainTrap_4 := dk_seg dksX3_plainTrap_3 22 rfl rfl
theorem dksX3_plainTrap_5 : cX3_plainTrap.data.toList.drop 115 = dktX3_plainTrap_5 := dk_seg dksX3_plainTrap_4 22 rfl rfl
theorem dksX3_plainTrap_6 : cX3_plainTrap.data.toList.drop 138 = dktX3_plainTrap_6 := dk_seg dksX3_plainTrap_5 23 rfl rfl
theorem dX3_plainTrap_0 : decode cX3_plainTrap 0 = .ok (.aload_n 0, 1) := dk_42 (dk_at dksX3_plainTrap_0 0 rfl rfl)
theorem dX3_plainTrap_1 : decode cX3_plainTrap 1 = .ok (.getfield 9, 3) := dk_180 0 9 (dk_at dksX3_plainTrap_0 1 rfl rfl)
theorem dX3_plainTrap_4 : decode cX3_plainTrap 4 = .ok (.iload_n 1, 1) := dk_27 (dk_at dksX3_plainTrap_0 4 rfl rfl)
theorem dX3_plainTrap_5 : decode cX3_plainTrap 5 = .ok (.iaload, 1) := dk_46 (dk_at dksX3_plainTrap_0 5 rfl rfl)
theorem dX3_plainTrap_6 : decode cX3_plainTrap 6 = .ok (.istore_n 2, 1) := dk_61 (dk_at dksX3_plainTrap_0 6 rfl rfl)
theorem dX3_plainTrap_7 : decode cX3_plainTrap 7 = .ok (.aload_n 0, 1) := dk_42 (dk_at dksX3_plainTrap_0 7 rfl rfl)
theorem dX3_plainTrap_8 : decode cX3_plainTrap 8 = .ok (.getfield 114, 3) := dk_180 0 114 (dk_at dksX3_plainTrap_0 8 rfl rfl)
theorem dX3_plainTrap_11 : decode cX3_plainTrap 11 = .ok (.aload_n 0, 1) := dk_42 (dk_at dksX3_plainTrap_0 11 rfl rfl)
theorem dX3_plainTrap_12 : decode cX3_plainTrap 12 = .ok (.getfield 16, 3) := dk_180 0 16 (dk_at dksX3_plainTrap_0 12 rfl rfl)
theorem dX3_plainTrap_15 : decode cX3_plainTrap 15 = .ok (.iload_n 1, 1) := dk_27 (dk_at dksX3_plainTrap_0 15 rfl rfl)
theorem dX3_plainTrap_16 : decode cX3_plainTrap 16 = .ok (.iaload, 1) := dk_46 (dk_at dksX3_plainTrap_0 16 rfl rfl)
theorem dX3_plainTrap_17 : decode cX3_plainTrap 17 = .ok (.iaload, 1) := dk_46 (dk_at dksX3_plainTrap_0 17 rfl rfl)
theorem dX3_plainTrap_18 : decode cX3_plainTrap 18 = .ok (.istore_n 3, 1) := dk_62 (dk_at dksX3_plainTrap_0 18 rfl rfl)
theorem dX3_plainTrap_19 : decode cX3_plainTrap 19 = .ok (.iload_n 2, 1) := dk_28 (dk_at dksX3_plainTrap_0 19 rfl rfl)
theorem dX3_plainTrap_20 : decode cX3_plainTrap 20 = .ok (.bipush 9, 2) := dk_16 9 (dk_at dksX3_plainTrap_0 20 rfl rfl)
theorem dX3_plainTrap_22 : decode cX3_plainTrap 22 = .ok (.bipush 11, 2) := dk_16 11 (dk_at dksX3_plainTrap_0 22 rfl rfl)
theorem dX3_plainTrap_24 : decode cX3_plainTrap 24 = .ok (.invokestatic 129, 3) := dk_184 0 129 (dk_at dksX3_plainTrap_1 0 rfl rfl)
theorem dX3_plainTrap_27 : decode cX3_plainTrap 27 = .ok (.ifCond .eq 18, 3) := dk_153 0 18 (dk_at dksX3_plainTrap_1 3 rfl rfl)
theorem dX3_plainTrap_30 : decode cX3_plainTrap 30 = .ok (.aload_n 0, 1) := dk_42 (dk_at dksX3_plainTrap_1 6 rfl rfl)
theorem dX3_plainTrap_31 : decode cX3_plainTrap 31 = .ok (.iload_n 1, 1) := dk_27 (dk_at dksX3_plainTrap_1 7 rfl rfl)
theorem dX3_plainTrap_32 : decode cX3_plainTrap 32 = .ok (.invokevirtual 331, 3) := dk_182 1 75 (dk_at dksX3_plainTrap_1 8 rfl rfl)
theorem dX3_plainTrap_35 : decode cX3_plainTrap 35 = .ok (.invokestatic 225, 3) := dk_184 0 225 (dk_at dksX3_plainTrap_1 11 rfl rfl)
theorem dX3_plainTrap_38 : decode cX3_plainTrap 38 = .ok (.ifCond .ne 7, 3) := dk_154 0 7 (dk_at dksX3_plainTrap_1 14 rfl rfl)
theorem dX3_plainTrap_41 : decode cX3_plainTrap 41 = .ok (.iconst 1, 1) := dk_4 (dk_at dksX3_plainTrap_1 17 rfl rfl)
theorem dX3_plainTrap_42 : decode cX3_plainTrap 42 = .ok (.goto 4, 3) := dk_167 0 4 (dk_at dksX3_plainTrap_1 18 rfl rfl)
theorem dX3_plainTrap_45 : decode cX3_plainTrap 45 = .ok (.iconst 0, 1) := dk_3 (dk_at dksX3_plainTrap_1 21 rfl rfl)
theorem dX3_plainTrap_46 : decode cX3_plainTrap 46 = .ok (.istore 4, 2) := dk_54 4 (dk_at dksX3_plainTrap_1 22 rfl rfl)
theorem dX3_plainTrap_48 : decode cX3_plainTrap 48 = .ok (.iload_n 2, 1) := dk_28 (dk_at dksX3_plainTrap_2 0 rfl rfl)
theorem dX3_plainTrap_49 : decode cX3_plainTrap 49 = .ok (.bipush 16, 2) := dk_16 16 (dk_at dksX3_plainTrap_2 1 rfl rfl)
theorem dX3_plainTrap_51 : decode cX3_plainTrap 51 = .ok (.if_icmp .eq 9, 3) := dk_159 0 9 (dk_at dksX3_plainTrap_2 3 rfl rfl)
theorem dX3_plainTrap_54 : decode cX3_plainTrap 54 = .ok (.iload_n 2, 1) := dk_28 (dk_at dksX3_plainTrap_2 6 rfl rfl)
theorem dX3_plainTrap_55 : decode cX3_plainTrap 55 = .ok (.bipush 17, 2) := dk_16 17 (dk_at dksX3_plainTrap_2 7 rfl rfl)
theorem dX3_plainTrap_57 : decode cX3_plainTrap 57 = .ok (.if_icmp .ne 17, 3) := dk_160 0 17 (dk_at dksX3_plainTrap_2 9 rfl rfl)
theorem dX3_plainTrap_60 : decode cX3_plainTrap 60 = .ok (.iload_n 3, 1) := dk_29 (dk_at dksX3_plainTrap_2 12 rfl rfl)
theorem dX3_plainTrap_61 : decode cX3_plainTrap 61 = .ok (.iconst 0, 1) := dk_3 (dk_at dksX3_plainTrap_2 13 rfl rfl)
theorem dX3_plainTrap_62 : decode cX3_plainTrap 62 = .ok (.bipush 63, 2) := dk_16 63 (dk_at dksX3_plainTrap_2 14 rfl rfl)
theorem dX3_plainTrap_64 : decode cX3_plainTrap 64 = .ok (.invokestatic 129, 3) := dk_184 0 129 (dk_at dksX3_plainTrap_2 16 rfl rfl)
theorem dX3_plainTrap_67 : decode cX3_plainTrap 67 = .ok (.ifCond .ne 7, 3) := dk_154 0 7 (dk_at dksX3_plainTrap_2 19 rfl rfl)
theorem dX3_plainTrap_70 : decode cX3_plainTrap 70 = .ok (.iconst 1, 1) := dk_4 (dk_at dksX3_plainTrap_2 22 rfl rfl)
theorem dX3_plainTrap_71 : decode cX3_plainTrap 71 = .ok (.goto 4, 3) := dk_167 0 4 (dk_at dksX3_plainTrap_3 0 rfl rfl)
theorem dX3_plainTrap_74 : decode cX3_plainTrap 74 = .ok (.iconst 0, 1) := dk_3 (dk_at dksX3_plainTrap_3 3 rfl rfl)
theorem dX3_plainTrap_75 : decode cX3_plainTrap 75 = .ok (.istore 5, 2) := dk_54 5 (dk_at dksX3_plainTrap_3 4 rfl rfl)
theorem dX3_plainTrap_77 : decode cX3_plainTrap 77 = .ok (.iload_n 2, 1) := dk_28 (dk_at dksX3_plainTrap_3 6 rfl rfl)
theorem dX3_plainTrap_78 : decode cX3_plainTrap 78 = .ok (.iconst 5, 1) := dk_8 (dk_at dksX3_plainTrap_3 7 rfl rfl)
theorem dX3_plainTrap_79 : decode cX3_plainTrap 79 = .ok (.if_icmp .ne 21, 3) := dk_160 0 21 (dk_at dksX3_plainTrap_3 8 rfl rfl)
theorem dX3_plainTrap_82 : decode cX3_plainTrap 82 = .ok (.aload_n 0, 1) := dk_42 (dk_at dksX3_plainTrap_3 11 rfl rfl)
theorem dX3_plainTrap_83 : decode cX3_plainTrap 83 = .ok (.getfield 114, 3) := dk_180 0 114 (dk_at dksX3_plainTrap_3 12 rfl rfl)
theorem dX3_plainTrap_86 : decode cX3_plainTrap 86 = .ok (.aload_n 0, 1) := dk_42 (dk_at dksX3_plainTrap_3 15 rfl rfl)
theorem dX3_plainTrap_87 : decode cX3_plainTrap 87 = .ok (.getfield 19, 3) := dk_180 0 19 (dk_at dksX3_plainTrap_3 16 rfl rfl)
theorem dX3_plainTrap_90 : decode cX3_plainTrap 90 = .ok (.iload_n 1, 1) := dk_27 (dk_at dksX3_plainTrap_3 19 rfl rfl)
theorem dX3_plainTrap_91 : decode cX3_plainTrap 91 = .ok (.iaload, 1) := dk_46 (dk_at dksX3_plainTrap_3 20 rfl rfl)
theorem dX3_plainTrap_92 : decode cX3_plainTrap 92 = .ok (.iaload, 1) := dk_46 (dk_at dksX3_plainTrap_3 21 rfl rfl)
theorem dX3_plainTrap_93 : decode cX3_plainTrap 93 = .ok (.ifCond .ne 7, 3) := dk_154 0 7 (dk_at dksX3_plainTrap_4 0 rfl rfl)
theorem dX3_plainTrap_96 : decode cX3_plainTrap 96 = .ok (.iconst 1, 1) := dk_4 (dk_at dksX3_plainTrap_4 3 rfl rfl)
theorem dX3_plainTrap_97 : decode cX3_plainTrap 97 = .ok (.goto 49, 3) := dk_167 0 49 (dk_at dksX3_plainTrap_4 4 rfl rfl)
theorem dX3_plainTrap_100 : decode cX3_plainTrap 100 = .ok (.iload 4, 2) := dk_21 4 (dk_at dksX3_plainTrap_4 7 rfl rfl)
theorem dX3_plainTrap_102 : decode cX3_plainTrap 102 = .ok (.ifCond .eq 7, 3) := dk_153 0 7 (dk_at dksX3_plainTrap_4 9 rfl rfl)
theorem dX3_plainTrap_105 : decode cX3_plainTrap 105 = .ok (.iconst 2, 1) := dk_5 (dk_at dksX3_plainTrap_4 12 rfl rfl)
theorem dX3_plainTrap_106 : decode cX3_plainTrap 106 = .ok (.goto 40, 3) := dk_167 0 40 (dk_at dksX3_plainTrap_4 13 rfl rfl)
theorem dX3_plainTrap_109 : decode cX3_plainTrap 109 = .ok (.iload 5, 2) := dk_21 5 (dk_at dksX3_plainTrap_4 16 rfl rfl)
theorem dX3_plainTrap_111 : decode cX3_plainTrap 111 = .ok (.ifCond .eq 7, 3) := dk_153 0 7 (dk_at dksX3_plainTrap_4 18 rfl rfl)
theorem dX3_plainTrap_114 : decode cX3_plainTrap 114 = .ok (.iconst 3, 1) := dk_6 (dk_at dksX3_plainTrap_4 21 rfl rfl)
theorem dX3_plainTrap_115 : decode cX3_plainTrap 115 = .ok (.goto 31, 3) := dk_167 0 31 (dk_at dksX3_plainTrap_5 0 rfl rfl)
theorem dX3_plainTrap_118 : decode cX3_plainTrap 118 = .ok (.iload_n 2, 1) := dk_28 (dk_at dksX3_plainTrap_5 3 rfl rfl)
theorem dX3_plainTrap_119 : decode cX3_plainTrap 119 = .ok (.bipush 20, 2) := dk_16 20 (dk_at dksX3_plainTrap_5 4 rfl rfl)
theorem dX3_plainTrap_121 : decode cX3_plainTrap 121 = .ok (.if_icmp .ne 7, 3) := dk_160 0 7 (dk_at dksX3_plainTrap_5 6 rfl rfl)
theorem dX3_plainTrap_124 : decode cX3_plainTrap 124 = .ok (.iconst 4, 1) := dk_7 (dk_at dksX3_plainTrap_5 9 rfl rfl)
theorem dX3_plainTrap_125 : decode cX3_plainTrap 125 = .ok (.goto 21, 3) := dk_167 0 21 (dk_at dksX3_plainTrap_5 10 rfl rfl)
theorem dX3_plainTrap_128 : decode cX3_plainTrap 128 = .ok (.iload_n 2, 1) := dk_28 (dk_at dksX3_plainTrap_5 13 rfl rfl)
theorem dX3_plainTrap_129 : decode cX3_plainTrap 129 = .ok (.bipush 21, 2) := dk_16 21 (dk_at dksX3_plainTrap_5 14 rfl rfl)
theorem dX3_plainTrap_131 : decode cX3_plainTrap 131 = .ok (.if_icmp .ne 14, 3) := dk_160 0 14 (dk_at dksX3_plainTrap_5 16 rfl rfl)
theorem dX3_plainTrap_134 : decode cX3_plainTrap 134 = .ok (.aload_n 0, 1) := dk_42 (dk_at dksX3_plainTrap_5 19 rfl rfl)
theorem dX3_plainTrap_135 : decode cX3_plainTrap 135 = .ok (.getfield 334, 3) := dk_180 1 78 (dk_at dksX3_plainTrap_5 20 rfl rfl)
theorem dX3_plainTrap_138 : decode cX3_plainTrap 138 = .ok (.ifCond .ne 7, 3) := dk_154 0 7 (dk_at dksX3_plainTrap_6 0 rfl rfl)
theorem dX3_plainTrap_141 : decode cX3_plainTrap 141 = .ok (.iconst 5, 1) := dk_8 (dk_at dksX3_plainTrap_6 3 rfl rfl)
theorem dX3_plainTrap_142 : decode cX3_plainTrap 142 = .ok (.goto 4, 3) := dk_167 0 4 (dk_at dksX3_plainTrap_6 4 rfl rfl)
theorem dX3_plainTrap_145 : decode cX3_plainTrap 145 = .ok (.iconst 0, 1) := dk_3 (dk_at dksX3_plainTrap_6 7 rfl rfl)
theorem dX3_plainTrap_146 : decode cX3_plainTrap 146 = .ok (.ireturn, 1) := dk_172 (dk_at dksX3_plainTrap_6 8 rfl rfl)
def dkwX3_address_0 : List UInt8 := [42, 180, 0, 114, 42, 180, 0, 16, 27, 46, 46, 42, 180, 0, 22, 27, 46, 96, 172]
abbrev dktX3_address_0 : List UInt8 := dkwX3_address_0 ++ []
theorem dksX3_address_0 : cX3_address.data.toList.drop 0 = dktX3_address_0 := by decide +kernel
theorem dX3_address_0 : decode cX3_address 0 = .ok (.aload_n 0, 1) := dk_42 (dk_at dksX3_address_0 0 rfl rfl)
theorem dX3_address_1 : decode cX3_address 1 = .ok (.getfield 114, 3) := dk_180 0 114 (dk_at dksX3_address_0 1 rfl rfl)
theorem dX3_address_4 : decode cX3_address 4 = .ok (.aload_n 0, 1) := dk_42 (dk_at dksX3_address_0 4 rfl rfl)
theorem dX3_address_5 : decode cX3_address 5 = .ok (.getfield 16, 3) := dk_180 0 16 (dk_at dksX3_address_0 5 rfl rfl)
theorem dX3_address_8 : decode cX3_address 8 = .ok (.iload_n 1, 1) := dk_27 (dk_at dksX3_address_0 8 rfl rfl)
theorem dX3_address_9 : decode cX3_address 9 = .ok (.iaload, 1) := dk_46 (dk_at dksX3_address_0 9 rfl rfl)
theorem dX3_address_10 : decode cX3_address 10 = .ok (.iaload, 1) := dk_46 (dk_at dksX3_address_0 10 rfl rfl)
theorem dX3_address_11 : decode cX3_address 11 = .ok (.aload_n 0, 1) := dk_42 (dk_at dksX3_address_0 11 rfl rfl)
theorem dX3_address_12 : decode cX3_address 12 = .ok (.getfield 22, 3) := dk_180 0 22 (dk_at dksX3_address_0 12 rfl rfl)
theorem dX3_address_15 : decode cX3_address 15 = .ok (.iload_n 1, 1) := dk_27 (dk_at dksX3_address_0 15 rfl rfl)
theorem dX3_address_16 : decode cX3_address 16 = .ok (.iaload, 1) := dk_46 (dk_at dksX3_address_0 16 rfl rfl)
theorem dX3_address_17 : decode cX3_address 17 = .ok (.iadd, 1) := dk_96 (dk_at dksX3_address_0 17 rfl rfl)
theorem dX3_address_18 : decode cX3_address 18 = .ok (.ireturn, 1) := dk_172 (dk_at dksX3_address_0 18 rfl rfl)
def dkwX3_plainDoes_16 : List UInt8 := [167, 0, 3, 177]
abbrev dktX3_plainDoes_16 : List UInt8 := dkwX3_plainDoes_16 ++ []
def dkwX3_plainDoes_15 : List UInt8 := [167, 0, 27, 42, 4, 181, 1, 84, 167, 0, 19, 42, 3, 181, 1, 78, 42, 42, 180, 1, 87, 181, 1, 81]
abbrev dktX3_plainDoes_15 : List UInt8 := dkwX3_plainDoes_15 ++ dktX3_plainDoes_16
def dkwX3_plainDoes_14 : List UInt8 := [180, 0, 114, 21, 5, 42, 180, 1, 81, 79, 42, 21, 6, 181, 1, 81, 167, 0, 35, 42, 29, 181, 1, 81]
abbrev dktX3_plainDoes_14 : List UInt8 := dkwX3_plainDoes_14 ++ dktX3_plainDoes_15
def dkwX3_plainDoes_13 : List UInt8 := [167, 0, 7, 42, 180, 1, 81, 181, 1, 81, 167, 0, 64, 42, 21, 6, 181, 1, 81, 167, 0, 55, 42]
abbrev dktX3_plainDoes_13 : List UInt8 := dkwX3_plainDoes_13 ++ dktX3_plainDoes_14
def dkwX3_plainDoes_12 : List UInt8 := [21, 6, 167, 0, 7, 42, 180, 1, 81, 181, 1, 81, 167, 0, 86, 42, 29, 21, 4, 162, 0, 8, 21, 6]
abbrev dktX3_plainDoes_12 : List UInt8 := dkwX3_plainDoes_12 ++ dktX3_plainDoes_13
def dkwX3_plainDoes_11 : List UInt8 := [96, 46, 19, 1, 49, 126, 21, 4, 19, 1, 50, 126, 128, 79, 167, 0, 108, 42, 29, 21, 4, 160, 0, 8]
abbrev dktX3_plainDoes_11 : List UInt8 := dkwX3_plainDoes_11 ++ dktX3_plainDoes_12
def dkwX3_plainDoes_10 : List UInt8 := [21, 6, 96, 21, 4, 79, 167, 0, 140, 42, 180, 0, 117, 29, 21, 6, 96, 42, 180, 0, 117, 29, 21, 6]
abbrev dktX3_plainDoes_10 : List UInt8 := dkwX3_plainDoes_10 ++ dktX3_plainDoes_11
def dkwX3_plainDoes_9 : List UInt8 := [42, 180, 0, 114, 21, 5, 42, 180, 0, 117, 29, 21, 6, 96, 46, 79, 167, 0, 154, 42, 180, 0, 117, 29]
abbrev dktX3_plainDoes_9 : List UInt8 := dkwX3_plainDoes_9 ++ dktX3_plainDoes_10
def dkwX3_plainDoes_8 : List UInt8 := [167, 0, 194, 42, 180, 0, 114, 21, 5, 29, 21, 4, 162, 0, 7, 4, 167, 0, 4, 3, 79, 167, 0, 173]
abbrev dktX3_plainDoes_8 : List UInt8 := dkwX3_plainDoes_8 ++ dktX3_plainDoes_9
def dkwX3_plainDoes_7 : List UInt8 := [180, 0, 114, 21, 5, 29, 21, 4, 126, 79, 167, 0, 208, 42, 180, 0, 114, 21, 5, 29, 21, 4, 130, 79]
abbrev dktX3_plainDoes_7 : List UInt8 := dkwX3_plainDoes_7 ++ dktX3_plainDoes_8
def dkwX3_plainDoes_6 : List UInt8 := [21, 4, 104, 79, 167, 0, 236, 42, 180, 0, 114, 21, 5, 29, 21, 4, 108, 79, 167, 0, 222, 42]
abbrev dktX3_plainDoes_6 : List UInt8 := dkwX3_plainDoes_6 ++ dktX3_plainDoes_7
def dkwX3_plainDoes_5 : List UInt8 := [167, 1, 8, 42, 180, 0, 114, 21, 5, 29, 21, 4, 100, 79, 167, 0, 250, 42, 180, 0, 114, 21, 5, 29]
abbrev dktX3_plainDoes_5 : List UInt8 := dkwX3_plainDoes_5 ++ dktX3_plainDoes_6
def dkwX3_plainDoes_4 : List UInt8 := [42, 180, 0, 114, 21, 5, 21, 6, 79, 167, 1, 22, 42, 180, 0, 114, 21, 5, 29, 21, 4, 96, 79]
abbrev dktX3_plainDoes_4 : List UInt8 := dkwX3_plainDoes_4 ++ dktX3_plainDoes_5
def dkwX3_plainDoes_3 : List UInt8 := [170, 0, 0, 0, 0, 0, 1, 131, 0, 0, 0, 1, 0, 0, 0, 21, 0, 0, 0, 100, 0, 0, 0, 112, 0, 0, 0, 126, 0, 0, 0, 140, 0, 0, 0, 154, 0, 0, 0, 168, 0, 0, 0, 182, 0, 0, 0, 196, 0, 0, 0, 217, 0, 0, 0, 236, 0, 0, 0, 250, 0, 0, 1, 26, 0, 0, 1, 48, 0, 0, 1, 70, 0, 0, 1, 79, 0, 0, 1, 99, 0, 0, 1, 99, 0, 0, 1, 107, 0, 0, 1, 131, 0, 0, 1, 131, 0, 0, 1, 115]
abbrev dktX3_plainDoes_3 : List UInt8 := dkwX3_plainDoes_3 ++ dktX3_plainDoes_4
def dkwX3_plainDoes_2 : List UInt8 := [42, 27, 4, 96, 181, 1, 81, 28]
abbrev dktX3_plainDoes_2 : List UInt8 := dkwX3_plainDoes_2 ++ dktX3_plainDoes_3
def dkwX3_plainDoes_1 : List UInt8 := [180, 0, 19, 27, 46, 46, 54, 4, 42, 180, 0, 13, 27, 46, 54, 5, 42, 180, 0, 22, 27, 46, 54, 6]
abbrev dktX3_plainDoes_1 : List UInt8 := dkwX3_plainDoes_1 ++ dktX3_plainDoes_2
def dkwX3_plainDoes_0 : List UInt8 := [42, 180, 0, 9, 27, 46, 61, 42, 180, 0, 114, 42, 180, 0, 16, 27, 46, 46, 62, 42, 180, 0, 114, 42]
abbrev dktX3_plainDoes_0 : List UInt8 := dkwX3_plainDoes_0 ++ dktX3_plainDoes_1
theorem dksX3_plainDoes_0 : cX3_plainDoes.data.toList.drop 0 = dktX3_plainDoes_0 := by decide +kernel
theorem dksX3_plainDoes_1 : cX3_plainDoes.data.toList.drop 24 = dktX3_plainDoes_1 := dk_seg dksX3_plainDoes_0 24 rfl rfl
theorem dksX3_plainDoes_2 : cX3_plainDoes.data.toList.drop 48 = dktX3_plainDoes_2 := dk_seg dksX3_plainDoes_1 24 rfl rfl
theorem dksX3_plainDoes_3 : cX3_plainDoes.data.toList.drop 56 = dktX3_plainDoes_3 := dk_seg dksX3_plainDoes_2 8 rfl rfl
theorem dksX3_plainDoes_4 : cX3_plainDoes.data.toList.drop 156 = dktX3_plainDoes_4 := dk_seg dksX3_plainDoes_3 100 rfl rfl
theorem dksX3_plainDoes_5 : cX3_plainDoes.data.toList.drop 179 = dktX3_plainDoes_5 := dk_seg dksX3_plainDoes_4 23 rfl rfl
theorem dksX3_plainDoes_6 : cX3_plainDoes.data.toList.drop 203 = dktX3_plainDoes_6 := dk_seg dksX3_plainDoes_5 24 rfl rfl
theorem dksX3_plainDoes_7 : cX3_plainDoes.data.toList.drop 225 = dktX3_plainDoes_7 := dk_seg dksX3_plainDoes_6 22 rfl rfl
theorem dksX3_plainDoes_8 : cX3_plainDoes.data.toList.drop 249 = dktX3_plainDoes_8 := dk_seg dksX3_plainDoes_7 24 rfl rfl
theorem dksX3_plainDoes_9 : cX3_plainDoes.data.toList.drop 273 = dktX3_plainDoes_9 := dk_seg dksX3_plainDoes_8 24 rfl rfl
theorem dksX3_plainDoes_10 : cX3_plainDoes.data.toList.drop 297 = dktX3_plainDoes_10 := dk_seg dksX3_plainDoes_9 24 rfl rfl
theorem dksX3_plainDoes_11 : cX3_plainDoes.data.toList.drop 321 = dktX3_plainDoes_11 := dk_seg dksX3_plainDoes_10 24 rfl rfl
theorem dksX3_plainDoes_12 : cX3_plainDoes.data.toList.drop 345 = dktX3_plainDoes_12 := dk_seg dksX3_plainDoes_11 24 rfl rfl
theorem dksX3_plainDoes_13 : cX3_plainDoes.data.toList.drop 369 = dktX3_plainDoes_13 := dk_seg dksX3_plainDoes_12 24 rfl rfl
theorem dksX3_plainDoes_14 : cX3_plainDoes.data.toList.drop 392 = dktX3_plainDoes_14 := dk_seg dksX3_plainDoes_13 23 rfl rfl
theorem dksX3_plainDoes_15 : cX3_plainDoes.data.toList.drop 416 = dktX3_plainDoes_15 := dk_seg dksX3_plainDoes_14 24 rfl rfl
theorem dksX3_plainDoes_16 : cX3_plainDoes.data.toList.drop 440 = dktX3_plainDoes_16 := dk_seg dksX3_plainDoes_15 24 rfl rfl
theorem dX3_plainDoes_0 : decode cX3_plainDoes 0 = .ok (.aload_n 0, 1) := dk_42 (dk_at dksX3_plainDoes_0 0 rfl rfl)
theorem dX3_plainDoes_1 : decode cX3_plainDoes 1 = .ok (.getfield 9, 3) := dk_180 0 9 (dk_at dksX3_plainDoes_0 1 rfl rfl)
theorem dX3_plainDoes_4 : decode cX3_plainDoes 4 = .ok (.iload_n 1, 1) := dk_27 (dk_at dksX3_plainDoes_0 4 rfl rfl)
theorem dX3_plainDoes_5 : decode cX3_plainDoes 5 = .ok (.iaload, 1) := dk_46 (dk_at dksX3_plainDoes_0 5 rfl rfl)
theorem dX3_plainDoes_6 : decode cX3_plainDoes 6 = .ok (.istore_n 2, 1) := dk_61 (dk_at dksX3_plainDoes_0 6 rfl rfl)
theorem dX3_plainDoes_7 : decode cX3_plainDoes 7 = .ok (.aload_n 0, 1) := dk_42 (dk_at dksX3_plainDoes_0 7 rfl rfl)
theorem dX3_plainDoes_8 : decode cX3_plainDoes 8 = .ok (.getfield 114, 3) := dk_180 0 114 (dk_at dksX3_plainDoes_0 8 rfl rfl)
theorem dX3_plainDoes_11 : decode cX3_plainDoes 11 = .ok (.aload_n 0, 1) := dk_42 (dk_at dksX3_plainDoes_0 11 rfl rfl)
theorem dX3_plainDoes_12 : decode cX3_plainDoes 12 = .ok (.getfield 16, 3) := dk_180 0 16 (dk_at dksX3_plainDoes_0 12 rfl rfl)
theorem dX3_plainDoes_15 : decode cX3_plainDoes 15 = .ok (.iload_n 1, 1) := dk_27 (dk_at dksX3_plainDoes_0 15 rfl rfl)
theorem dX3_plainDoes_16 : decode cX3_plainDoes 16 = .ok (.iaload, 1) := dk_46 (dk_at dksX3_plainDoes_0 16 rfl rfl)
theorem dX3_plainDoes_17 : decode cX3_plainDoes 17 = .ok (.iaload, 1) := dk_46 (dk_at dksX3_plainDoes_0 17 rfl rfl)
theorem dX3_plainDoes_18 : decode cX3_plainDoes 18 = .ok (.istore_n 3, 1) := dk_62 (dk_at dksX3_plainDoes_0 18 rfl rfl)
theorem dX3_plainDoes_19 : decode cX3_plainDoes 19 = .ok (.aload_n 0, 1) := dk_42 (dk_at dksX3_plainDoes_0 19 rfl rfl)
theorem dX3_plainDoes_20 : decode cX3_plainDoes 20 = .ok (.getfield 114, 3) := dk_180 0 114 (dk_at dksX3_plainDoes_0 20 rfl rfl)
theorem dX3_plainDoes_23 : decode cX3_plainDoes 23 = .ok (.aload_n 0, 1) := dk_42 (dk_at dksX3_plainDoes_0 23 rfl rfl)
theorem dX3_plainDoes_24 : decode cX3_plainDoes 24 = .ok (.getfield 19, 3) := dk_180 0 19 (dk_at dksX3_plainDoes_1 0 rfl rfl)
theorem dX3_plainDoes_27 : decode cX3_plainDoes 27 = .ok (.iload_n 1, 1) := dk_27 (dk_at dksX3_plainDoes_1 3 rfl rfl)
theorem dX3_plainDoes_28 : decode cX3_plainDoes 28 = .ok (.iaload, 1) := dk_46 (dk_at dksX3_plainDoes_1 4 rfl rfl)
theorem dX3_plainDoes_29 : decode cX3_plainDoes 29 = .ok (.iaload, 1) := dk_46 (dk_at dksX3_plainDoes_1 5 rfl rfl)
theorem dX3_plainDoes_30 : decode cX3_plainDoes 30 = .ok (.istore 4, 2) := dk_54 4 (dk_at dksX3_plainDoes_1 6 rfl rfl)
theorem dX3_plainDoes_32 : decode cX3_plainDoes 32 = .ok (.aload_n 0, 1) := dk_42 (dk_at dksX3_plainDoes_1 8 rfl rfl)
theorem dX3_plainDoes_33 : decode cX3_plainDoes 33 = .ok (.getfield 13, 3) := dk_180 0 13 (dk_at dksX3_plainDoes_1 9 rfl rfl)
theorem dX3_plainDoes_36 : decode cX3_plainDoes 36 = .ok (.iload_n 1, 1) := dk_27 (dk_at dksX3_plainDoes_1 12 rfl rfl)
theorem dX3_plainDoes_37 : decode cX3_plainDoes 37 = .ok (.iaload, 1) := dk_46 (dk_at dksX3_plainDoes_1 13 rfl rfl)
theorem dX3_plainDoes_38 : decode cX3_plainDoes 38 = .ok (.istore 5, 2) := dk_54 5 (dk_at dksX3_plainDoes_1 14 rfl rfl)
theorem dX3_plainDoes_40 : decode cX3_plainDoes 40 = .ok (.aload_n 0, 1) := dk_42 (dk_at dksX3_plainDoes_1 16 rfl rfl)
theorem dX3_plainDoes_41 : decode cX3_plainDoes 41 = .ok (.getfield 22, 3) := dk_180 0 22 (dk_at dksX3_plainDoes_1 17 rfl rfl)
theorem dX3_plainDoes_44 : decode cX3_plainDoes 44 = .ok (.iload_n 1, 1) := dk_27 (dk_at dksX3_plainDoes_1 20 rfl rfl)
theorem dX3_plainDoes_45 : decode cX3_plainDoes 45 = .ok (.iaload, 1) := dk_46 (dk_at dksX3_plainDoes_1 21 rfl rfl)
theorem dX3_plainDoes_46 : decode cX3_plainDoes 46 = .ok (.istore 6, 2) := dk_54 6 (dk_at dksX3_plainDoes_1 22 rfl rfl)
theorem dX3_plainDoes_48 : decode cX3_plainDoes 48 = .ok (.aload_n 0, 1) := dk_42 (dk_at dksX3_plainDoes_2 0 rfl rfl)
theorem dX3_plainDoes_49 : decode cX3_plainDoes 49 = .ok (.iload_n 1, 1) := dk_27 (dk_at dksX3_plainDoes_2 1 rfl rfl)
theorem dX3_plainDoes_50 : decode cX3_plainDoes 50 = .ok (.iconst 1, 1) := dk_4 (dk_at dksX3_plainDoes_2 2 rfl rfl)
theorem dX3_plainDoes_51 : decode cX3_plainDoes 51 = .ok (.iadd, 1) := dk_96 (dk_at dksX3_plainDoes_2 3 rfl rfl)
theorem dX3_plainDoes_52 : decode cX3_plainDoes 52 = .ok (.putfield 337, 3) := dk_181 1 81 (dk_at dksX3_plainDoes_2 4 rfl rfl)
theorem dX3_plainDoes_55 : decode cX3_plainDoes 55 = .ok (.iload_n 2, 1) := dk_28 (dk_at dksX3_plainDoes_2 7 rfl rfl)
theorem dX3_plainDoes_56 : decode cX3_plainDoes 56 = .ok (.tableswitch 387 1 21 #[100, 112, 126, 140, 154, 168, 182, 196, 217, 236, 250, 282, 304, 326, 335, 355, 355, 363, 387, 387, 371], 100) := by decide +kernel
theorem dX3_plainDoes_156 : decode cX3_plainDoes 156 = .ok (.aload_n 0, 1) := dk_42 (dk_at dksX3_plainDoes_4 0 rfl rfl)
theorem dX3_plainDoes_157 : decode cX3_plainDoes 157 = .ok (.getfield 114, 3) := dk_180 0 114 (dk_at dksX3_plainDoes_4 1 rfl rfl)
theorem dX3_plainDoes_160 : decode cX3_plainDoes 160 = .ok (.iload 5, 2) := dk_21 5 (dk_at dksX3_plainDoes_4 4 rfl rfl)
theorem dX3_plainDoes_162 : decode cX3_plainDoes 162 = .ok (.iload 6, 2) := dk_21 6 (dk_at dksX3_plainDoes_4 6 rfl rfl)
theorem dX3_plainDoes_164 : decode cX3_plainDoes 164 = .ok (.iastore, 1) := dk_79 (dk_at dksX3_plainDoes_4 8 rfl rfl)
theorem dX3_plainDoes_165 : decode cX3_plainDoes 165 = .ok (.goto 278, 3) := dk_167 1 22 (dk_at dksX3_plainDoes_4 9 rfl rfl)
theorem dX3_plainDoes_168 : decode cX3_plainDoes 168 = .ok (.aload_n 0, 1) := dk_42 (dk_at dksX3_plainDoes_4 12 rfl rfl)
theorem dX3_plainDoes_169 : decode cX3_plainDoes 169 = .ok (.getfield 114, 3) := dk_180 0 114 (dk_at dksX3_plainDoes_4 13 rfl rfl)
theorem dX3_plainDoes_172 : decode cX3_plainDoes 172 = .ok (.iload 5, 2) := dk_21 5 (dk_at dksX3_plainDoes_4 16 rfl rfl)
theorem dX3_plainDoes_174 : decode cX3_plainDoes 174 = .ok (.iload_n 3, 1) := dk_29 (dk_at dksX3_plainDoes_4 18 rfl rfl)
theorem dX3_plainDoes_175 : decode cX3_plainDoes 175 = .ok (.iload 4, 2) := dk_21 4 (dk_at dksX3_plainDoes_4 19 rfl rfl)
theorem dX3_plainDoes_177 : decode cX3_plainDoes 177 = .ok (.iadd, 1) := dk_96 (dk_at dksX3_plainDoes_4 21 rfl rfl)
theorem dX3_plainDoes_178 : decode cX3_plainDoes 178 = .ok (.iastore, 1) := dk_79 (dk_at dksX3_plainDoes_4 22 rfl rfl)
theorem dX3_plainDoes_179 : decode cX3_plainDoes 179 = .ok (.goto 264, 3) := dk_167 1 8 (dk_at dksX3_plainDoes_5 0 rfl rfl)
theorem dX3_plainDoes_182 : decode cX3_plainDoes 182 = .ok (.aload_n 0, 1) := dk_42 (dk_at dksX3_plainDoes_5 3 rfl rfl)
theorem dX3_plainDoes_183 : decode cX3_plainDoes 183 = .ok (.getfield 114, 3) := dk_180 0 114 (dk_at dksX3_plainDoes_5 4 rfl rfl)
theorem dX3_plainDoes_186 : decode cX3_plainDoes 186 = .ok (.iload 5, 2) := dk_21 5 (dk_at dksX3_plainDoes_5 7 rfl rfl)
theorem dX3_plainDoes_188 : decode cX3_plainDoes 188 = .ok (.iload_n 3, 1) := dk_29 (dk_at dksX3_plainDoes_5 9 rfl rfl)
theorem dX3_plainDoes_189 : decode cX3_plainDoes 189 = .ok (.iload 4, 2) := dk_21 4 (dk_at dksX3_plainDoes_5 10 rfl rfl)
theorem dX3_plainDoes_191 : decode cX3_plainDoes 191 = .ok (.isub, 1) := dk_100 (dk_at dksX3_plainDoes_5 12 rfl rfl)
theorem dX3_plainDoes_192 : decode cX3_plainDoes 192 = .ok (.iastore, 1) := dk_79 (dk_at dksX3_plainDoes_5 13 rfl rfl)
theorem dX3_plainDoes_193 : decode cX3_plainDoes 193 = .ok (.goto 250, 3) := dk_167 0 250 (dk_at dksX3_plainDoes_5 14 rfl rfl)
theorem dX3_plainDoes_196 : decode cX3_plainDoes 196 = .ok (.aload_n 0, 1) := dk_42 (dk_at dksX3_plainDoes_5 17 rfl rfl)
theorem dX3_plainDoes_197 : decode cX3_plainDoes 197 = .ok (.getfield 114, 3) := dk_180 0 114 (dk_at dksX3_plainDoes_5 18 rfl rfl)
theorem dX3_plainDoes_200 : decode cX3_plainDoes 200 = .ok (.iload 5, 2) := dk_21 5 (dk_at dksX3_plainDoes_5 21 rfl rfl)
theorem dX3_plainDoes_202 : decode cX3_plainDoes 202 = .ok (.iload_n 3, 1) := dk_29 (dk_at dksX3_plainDoes_5 23 rfl rfl)
theorem dX3_plainDoes_203 : decode cX3_plainDoes 203 = .ok (.iload 4, 2) := dk_21 4 (dk_at dksX3_plainDoes_6 0 rfl rfl)
theorem dX3_plainDoes_205 : decode cX3_plainDoes 205 = .ok (.imul, 1) := dk_104 (dk_at dksX3_plainDoes_6 2 rfl rfl)
theorem dX3_plainDoes_206 : decode cX3_plainDoes 206 = .ok (.iastore, 1) := dk_79 (dk_at dksX3_plainDoes_6 3 rfl rfl)
theorem dX3_plainDoes_207 : decode cX3_plainDoes 207 = .ok (.goto 236, 3) := dk_167 0 236 (dk_at dksX3_plainDoes_6 4 rfl rfl)
theorem dX3_plainDoes_210 : decode cX3_plainDoes 210 = .ok (.aload_n 0, 1) := dk_42 (dk_at dksX3_plainDoes_6 7 rfl rfl)
theorem dX3_plainDoes_211 : decode cX3_plainDoes 211 = .ok (.getfield 114, 3) := dk_180 0 114 (dk_at dksX3_plainDoes_6 8 rfl rfl)
theorem dX3_plainDoes_214 : decode cX3_plainDoes 214 = .ok (.iload 5, 2) := dk_21 5 (dk_at dksX3_plainDoes_6 11 rfl rfl)
theorem dX3_plainDoes_216 : decode cX3_plainDoes 216 = .ok (.iload_n 3, 1) := dk_29 (dk_at dksX3_plainDoes_6 13 rfl rfl)
theorem dX3_plainDoes_217 : decode cX3_plainDoes 217 = .ok (.iload 4, 2) := dk_21 4 (dk_at dksX3_plainDoes_6 14 rfl rfl)
theorem dX3_plainDoes_219 : decode cX3_plainDoes 219 = .ok (.idiv, 1) := dk_108 (dk_at dksX3_plainDoes_6 16 rfl rfl)
theorem dX3_plainDoes_220 : decode cX3_plainDoes 220 = .ok (.iastore, 1) := dk_79 (dk_at dksX3_plainDoes_6 17 rfl rfl)
theorem dX3_plainDoes_221 : decode cX3_plainDoes 221 = .ok (.goto 222, 3) := dk_167 0 222 (dk_at dksX3_plainDoes_6 18 rfl rfl)
theorem dX3_plainDoes_224 : decode cX3_plainDoes 224 = .ok (.aload_n 0, 1) := dk_42 (dk_at dksX3_plainDoes_6 21 rfl rfl)
theorem dX3_plainDoes_225 : decode cX3_plainDoes 225 = .ok (.getfield 114, 3) := dk_180 0 114 (dk_at dksX3_plainDoes_7 0 rfl rfl)
theorem dX3_plainDoes_228 : decode cX3_plainDoes 228 = .ok (.iload 5, 2) := dk_21 5 (dk_at dksX3_plainDoes_7 3 rfl rfl)
theorem dX3_plainDoes_230 : decode cX3_plainDoes 230 = .ok (.iload_n 3, 1) := dk_29 (dk_at dksX3_plainDoes_7 5 rfl rfl)
theorem dX3_plainDoes_231 : decode cX3_plainDoes 231 = .ok (.iload 4, 2) := dk_21 4 (dk_at dksX3_plainDoes_7 6 rfl rfl)
theorem dX3_plainDoes_233 : decode cX3_plainDoes 233 = .ok (.iand, 1) := dk_126 (dk_at dksX3_plainDoes_7 8 rfl rfl)
theorem dX3_plainDoes_234 : decode cX3_plainDoes 234 = .ok (.iastore, 1) := dk_79 (dk_at dksX3_plainDoes_7 9 rfl rfl)
theorem dX3_plainDoes_235 : decode cX3_plainDoes 235 = .ok (.goto 208, 3) := dk_167 0 208 (dk_at dksX3_plainDoes_7 10 rfl rfl)
theorem dX3_plainDoes_238 : decode cX3_plainDoes 238 = .ok (.aload_n 0, 1) := dk_42 (dk_at dksX3_plainDoes_7 13 rfl rfl)
theorem dX3_plainDoes_239 : decode cX3_plainDoes 239 = .ok (.getfield 114, 3) := dk_180 0 114 (dk_at dksX3_plainDoes_7 14 rfl rfl)
theorem dX3_plainDoes_242 : decode cX3_plainDoes 242 = .ok (.iload 5, 2) := dk_21 5 (dk_at dksX3_plainDoes_7 17 rfl rfl)
theorem dX3_plainDoes_244 : decode cX3_plainDoes 244 = .ok (.iload_n 3, 1) := dk_29 (dk_at dksX3_plainDoes_7 19 rfl rfl)
theorem dX3_plainDoes_245 : decode cX3_plainDoes 245 = .ok (.iload 4, 2) := dk_21 4 (dk_at dksX3_plainDoes_7 20 rfl rfl)
theorem dX3_plainDoes_247 : decode cX3_plainDoes 247 = .ok (.ixor, 1) := dk_130 (dk_at dksX3_plainDoes_7 22 rfl rfl)
theorem dX3_plainDoes_248 : decode cX3_plainDoes 248 = .ok (.iastore, 1) := dk_79 (dk_at dksX3_plainDoes_7 23 rfl rfl)
theorem dX3_plainDoes_249 : decode cX3_plainDoes 249 = .ok (.goto 194, 3) := dk_167 0 194 (dk_at dksX3_plainDoes_8 0 rfl rfl)
theorem dX3_plainDoes_252 : decode cX3_plainDoes 252 = .ok (.aload_n 0, 1) := dk_42 (dk_at dksX3_plainDoes_8 3 rfl rfl)
theorem dX3_plainDoes_253 : decode cX3_plainDoes 253 = .ok (.getfield 114, 3) := dk_180 0 114 (dk_at dksX3_plainDoes_8 4 rfl rfl)
theorem dX3_plainDoes_256 : decode cX3_plainDoes 256 = .ok (.iload 5, 2) := dk_21 5 (dk_at dksX3_plainDoes_8 7 rfl rfl)
theorem dX3_plainDoes_258 : decode cX3_plainDoes 258 = .ok (.iload_n 3, 1) := dk_29 (dk_at dksX3_plainDoes_8 9 rfl rfl)
theorem dX3_plainDoes_259 : decode cX3_plainDoes 259 = .ok (.iload 4, 2) := dk_21 4 (dk_at dksX3_plainDoes_8 10 rfl rfl)
theorem dX3_plainDoes_261 : decode cX3_plainDoes 261 = .ok (.if_icmp .ge 7, 3) := dk_162 0 7 (dk_at dksX3_plainDoes_8 12 rfl rfl)
theorem dX3_plainDoes_264 : decode cX3_plainDoes 264 = .ok (.iconst 1, 1) := dk_4 (dk_at dksX3_plainDoes_8 15 rfl rfl)
theorem dX3_plainDoes_265 : decode cX3_plainDoes 265 = .ok (.goto 4, 3) := dk_167 0 4 (dk_at dksX3_plainDoes_8 16 rfl rfl)
theorem dX3_plainDoes_268 : decode cX3_plainDoes 268 = .ok (.iconst 0, 1) := dk_3 (dk_at dksX3_plainDoes_8 19 rfl rfl)
theorem dX3_plainDoes_269 : decode cX3_plainDoes 269 = .ok (.iastore, 1) := dk_79 (dk_at dksX3_plainDoes_8 20 rfl rfl)
theorem dX3_plainDoes_270 : decode cX3_plainDoes 270 = .ok (.goto 173, 3) := dk_167 0 173 (dk_at dksX3_plainDoes_8 21 rfl rfl)
theorem dX3_plainDoes_273 : decode cX3_plainDoes 273 = .ok (.aload_n 0, 1) := dk_42 (dk_at dksX3_plainDoes_9 0 rfl rfl)
theorem dX3_plainDoes_274 : decode cX3_plainDoes 274 = .ok (.getfield 114, 3) := dk_180 0 114 (dk_at dksX3_plainDoes_9 1 rfl rfl)
theorem dX3_plainDoes_277 : decode cX3_plainDoes 277 = .ok (.iload 5, 2) := dk_21 5 (dk_at dksX3_plainDoes_9 4 rfl rfl)
theorem dX3_plainDoes_279 : decode cX3_plainDoes 279 = .ok (.aload_n 0, 1) := dk_42 (dk_at dksX3_plainDoes_9 6 rfl rfl)
theorem dX3_plainDoes_280 : decode cX3_plainDoes 280 = .ok (.getfield 117, 3) := dk_180 0 117 (dk_at dksX3_plainDoes_9 7 rfl rfl)
theorem dX3_plainDoes_283 : decode cX3_plainDoes 283 = .ok (.iload_n 3, 1) := dk_29 (dk_at dksX3_plainDoes_9 10 rfl rfl)
theorem dX3_plainDoes_284 : decode cX3_plainDoes 284 = .ok (.iload 6, 2) := dk_21 6 (dk_at dksX3_plainDoes_9 11 rfl rfl)
theorem dX3_plainDoes_286 : decode cX3_plainDoes 286 = .ok (.iadd, 1) := dk_96 (dk_at dksX3_plainDoes_9 13 rfl rfl)
theorem dX3_plainDoes_287 : decode cX3_plainDoes 287 = .ok (.iaload, 1) := dk_46 (dk_at dksX3_plainDoes_9 14 rfl rfl)
theorem dX3_plainDoes_288 : decode cX3_plainDoes 288 = .ok (.iastore, 1) := dk_79 (dk_at dksX3_plainDoes_9 15 rfl rfl)
theorem dX3_plainDoes_289 : decode cX3_plainDoes 289 = .ok (.goto 154, 3) := dk_167 0 154 (dk_at dksX3_plainDoes_9 16 rfl rfl)
theorem dX3_plainDoes_292 : decode cX3_plainDoes 292 = .ok (.aload_n 0, 1) := dk_42 (dk_at dksX3_plainDoes_9 19 rfl rfl)
theorem dX3_plainDoes_293 : decode cX3_plainDoes 293 = .ok (.getfield 117, 3) := dk_180 0 117 (dk_at dksX3_plainDoes_9 20 rfl rfl)
theorem dX3_plainDoes_296 : decode cX3_plainDoes 296 = .ok (.iload_n 3, 1) := dk_29 (dk_at dksX3_plainDoes_9 23 rfl rfl)
theorem dX3_plainDoes_297 : decode cX3_plainDoes 297 = .ok (.iload 6, 2) := dk_21 6 (dk_at dksX3_plainDoes_10 0 rfl rfl)
theorem dX3_plainDoes_299 : decode cX3_plainDoes 299 = .ok (.iadd, 1) := dk_96 (dk_at dksX3_plainDoes_10 2 rfl rfl)
theorem dX3_plainDoes_300 : decode cX3_plainDoes 300 = .ok (.iload 4, 2) := dk_21 4 (dk_at dksX3_plainDoes_10 3 rfl rfl)
theorem dX3_plainDoes_302 : decode cX3_plainDoes 302 = .ok (.iastore, 1) := dk_79 (dk_at dksX3_plainDoes_10 5 rfl rfl)
theorem dX3_plainDoes_303 : decode cX3_plainDoes 303 = .ok (.goto 140, 3) := dk_167 0 140 (dk_at dksX3_plainDoes_10 6 rfl rfl)
theorem dX3_plainDoes_306 : decode cX3_plainDoes 306 = .ok (.aload_n 0, 1) := dk_42 (dk_at dksX3_plainDoes_10 9 rfl rfl)
theorem dX3_plainDoes_307 : decode cX3_plainDoes 307 = .ok (.getfield 117, 3) := dk_180 0 117 (dk_at dksX3_plainDoes_10 10 rfl rfl)
theorem dX3_plainDoes_310 : decode cX3_plainDoes 310 = .ok (.iload_n 3, 1) := dk_29 (dk_at dksX3_plainDoes_10 13 rfl rfl)
theorem dX3_plainDoes_311 : decode cX3_plainDoes 311 = .ok (.iload 6, 2) := dk_21 6 (dk_at dksX3_plainDoes_10 14 rfl rfl)
theorem dX3_plainDoes_313 : decode cX3_plainDoes 313 = .ok (.iadd, 1) := dk_96 (dk_at dksX3_plainDoes_10 16 rfl rfl)
theorem dX3_plainDoes_314 : decode cX3_plainDoes 314 = .ok (.aload_n 0, 1) := dk_42 (dk_at dksX3_plainDoes_10 17 rfl rfl)
theorem dX3_plainDoes_315 : decode cX3_plainDoes 315 = .ok (.getfield 117, 3) := dk_180 0 117 (dk_at dksX3_plainDoes_10 18 rfl rfl)
theorem dX3_plainDoes_318 : decode cX3_plainDoes 318 = .ok (.iload_n 3, 1) := dk_29 (dk_at dksX3_plainDoes_10 21 rfl rfl)
theorem dX3_plainDoes_319 : decode cX3_plainDoes 319 = .ok (.iload 6, 2) := dk_21 6 (dk_at dksX3_plainDoes_10 22 rfl rfl)
theorem dX3_plainDoes_321 : decode cX3_plainDoes 321 = .ok (.iadd, 1) := dk_96 (dk_at dksX3_plainDoes_11 0 rfl rfl)
theorem dX3_plainDoes_322 : decode cX3_plainDoes 322 = .ok (.iaload, 1) := dk_46 (dk_at dksX3_plainDoes_11 1 rfl rfl)
theorem dX3_plainDoes_323 : decode cX3_plainDoes 323 = .ok (.ldc_w 305, 3) := dk_19 1 49 (dk_at dksX3_plainDoes_11 2 rfl rfl)
theorem dX3_plainDoes_326 : decode cX3_plainDoes 326 = .ok (.iand, 1) := dk_126 (dk_at dksX3_plainDoes_11 5 rfl rfl)
theorem dX3_plainDoes_327 : decode cX3_plainDoes 327 = .ok (.iload 4, 2) := dk_21 4 (dk_at dksX3_plainDoes_11 6 rfl rfl)
theorem dX3_plainDoes_329 : decode cX3_plainDoes 329 = .ok (.ldc_w 306, 3) := dk_19 1 50 (dk_at dksX3_plainDoes_11 8 rfl rfl)
theorem dX3_plainDoes_332 : decode cX3_plainDoes 332 = .ok (.iand, 1) := dk_126 (dk_at dksX3_plainDoes_11 11 rfl rfl)
theorem dX3_plainDoes_333 : decode cX3_plainDoes 333 = .ok (.ior, 1) := dk_128 (dk_at dksX3_plainDoes_11 12 rfl rfl)
theorem dX3_plainDoes_334 : decode cX3_plainDoes 334 = .ok (.iastore, 1) := dk_79 (dk_at dksX3_plainDoes_11 13 rfl rfl)
theorem dX3_plainDoes_335 : decode cX3_plainDoes 335 = .ok (.goto 108, 3) := dk_167 0 108 (dk_at dksX3_plainDoes_11 14 rfl rfl)
theorem dX3_plainDoes_338 : decode cX3_plainDoes 338 = .ok (.aload_n 0, 1) := dk_42 (dk_at dksX3_plainDoes_11 17 rfl rfl)
theorem dX3_plainDoes_339 : decode cX3_plainDoes 339 = .ok (.iload_n 3, 1) := dk_29 (dk_at dksX3_plainDoes_11 18 rfl rfl)
theorem dX3_plainDoes_340 : decode cX3_plainDoes 340 = .ok (.iload 4, 2) := dk_21 4 (dk_at dksX3_plainDoes_11 19 rfl rfl)
theorem dX3_plainDoes_342 : decode cX3_plainDoes 342 = .ok (.if_icmp .ne 8, 3) := dk_160 0 8 (dk_at dksX3_plainDoes_11 21 rfl rfl)
theorem dX3_plainDoes_345 : decode cX3_plainDoes 345 = .ok (.iload 6, 2) := dk_21 6 (dk_at dksX3_plainDoes_12 0 rfl rfl)
theorem dX3_plainDoes_347 : decode cX3_plainDoes 347 = .ok (.goto 7, 3) := dk_167 0 7 (dk_at dksX3_plainDoes_12 2 rfl rfl)
theorem dX3_plainDoes_350 : decode cX3_plainDoes 350 = .ok (.aload_n 0, 1) := dk_42 (dk_at dksX3_plainDoes_12 5 rfl rfl)
theorem dX3_plainDoes_351 : decode cX3_plainDoes 351 = .ok (.getfield 337, 3) := dk_180 1 81 (dk_at dksX3_plainDoes_12 6 rfl rfl)
theorem dX3_plainDoes_354 : decode cX3_plainDoes 354 = .ok (.putfield 337, 3) := dk_181 1 81 (dk_at dksX3_plainDoes_12 9 rfl rfl)
theorem dX3_plainDoes_357 : decode cX3_plainDoes 357 = .ok (.goto 86, 3) := dk_167 0 86 (dk_at dksX3_plainDoes_12 12 rfl rfl)
theorem dX3_plainDoes_360 : decode cX3_plainDoes 360 = .ok (.aload_n 0, 1) := dk_42 (dk_at dksX3_plainDoes_12 15 rfl rfl)
theorem dX3_plainDoes_361 : decode cX3_plainDoes 361 = .ok (.iload_n 3, 1) := dk_29 (dk_at dksX3_plainDoes_12 16 rfl rfl)
theorem dX3_plainDoes_362 : decode cX3_plainDoes 362 = .ok (.iload 4, 2) := dk_21 4 (dk_at dksX3_plainDoes_12 17 rfl rfl)
theorem dX3_plainDoes_364 : decode cX3_plainDoes 364 = .ok (.if_icmp .ge 8, 3) := dk_162 0 8 (dk_at dksX3_plainDoes_12 19 rfl rfl)
theorem dX3_plainDoes_367 : decode cX3_plainDoes 367 = .ok (.iload 6, 2) := dk_21 6 (dk_at dksX3_plainDoes_12 22 rfl rfl)
theorem dX3_plainDoes_369 : decode cX3_plainDoes 369 = .ok (.goto 7, 3) := dk_167 0 7 (dk_at dksX3_plainDoes_13 0 rfl rfl)
theorem dX3_plainDoes_372 : decode cX3_plainDoes 372 = .ok (.aload_n 0, 1) := dk_42 (dk_at dksX3_plainDoes_13 3 rfl rfl)
theorem dX3_plainDoes_373 : decode cX3_plainDoes 373 = .ok (.getfield 337, 3) := dk_180 1 81 (dk_at dksX3_plainDoes_13 4 rfl rfl)
theorem dX3_plainDoes_376 : decode cX3_plainDoes 376 = .ok (.putfield 337, 3) := dk_181 1 81 (dk_at dksX3_plainDoes_13 7 rfl rfl)
theorem dX3_plainDoes_379 : decode cX3_plainDoes 379 = .ok (.goto 64, 3) := dk_167 0 64 (dk_at dksX3_plainDoes_13 10 rfl rfl)
theorem dX3_plainDoes_382 : decode cX3_plainDoes 382 = .ok (.aload_n 0, 1) := dk_42 (dk_at dksX3_plainDoes_13 13 rfl rfl)
theorem dX3_plainDoes_383 : decode cX3_plainDoes 383 = .ok (.iload 6, 2) := dk_21 6 (dk_at dksX3_plainDoes_13 14 rfl rfl)
theorem dX3_plainDoes_385 : decode cX3_plainDoes 385 = .ok (.putfield 337, 3) := dk_181 1 81 (dk_at dksX3_plainDoes_13 16 rfl rfl)
theorem dX3_plainDoes_388 : decode cX3_plainDoes 388 = .ok (.goto 55, 3) := dk_167 0 55 (dk_at dksX3_plainDoes_13 19 rfl rfl)
theorem dX3_plainDoes_391 : decode cX3_plainDoes 391 = .ok (.aload_n 0, 1) := dk_42 (dk_at dksX3_plainDoes_13 22 rfl rfl)
theorem dX3_plainDoes_392 : decode cX3_plainDoes 392 = .ok (.getfield 114, 3) := dk_180 0 114 (dk_at dksX3_plainDoes_14 0 rfl rfl)
theorem dX3_plainDoes_395 : decode cX3_plainDoes 395 = .ok (.iload 5, 2) := dk_21 5 (dk_at dksX3_plainDoes_14 3 rfl rfl)
theorem dX3_plainDoes_397 : decode cX3_plainDoes 397 = .ok (.aload_n 0, 1) := dk_42 (dk_at dksX3_plainDoes_14 5 rfl rfl)
theorem dX3_plainDoes_398 : decode cX3_plainDoes 398 = .ok (.getfield 337, 3) := dk_180 1 81 (dk_at dksX3_plainDoes_14 6 rfl rfl)
theorem dX3_plainDoes_401 : decode cX3_plainDoes 401 = .ok (.iastore, 1) := dk_79 (dk_at dksX3_plainDoes_14 9 rfl rfl)
theorem dX3_plainDoes_402 : decode cX3_plainDoes 402 = .ok (.aload_n 0, 1) := dk_42 (dk_at dksX3_plainDoes_14 10 rfl rfl)
theorem dX3_plainDoes_403 : decode cX3_plainDoes 403 = .ok (.iload 6, 2) := dk_21 6 (dk_at dksX3_plainDoes_14 11 rfl rfl)
theorem dX3_plainDoes_405 : decode cX3_plainDoes 405 = .ok (.putfield 337, 3) := dk_181 1 81 (dk_at dksX3_plainDoes_14 13 rfl rfl)
theorem dX3_plainDoes_408 : decode cX3_plainDoes 408 = .ok (.goto 35, 3) := dk_167 0 35 (dk_at dksX3_plainDoes_14 16 rfl rfl)
theorem dX3_plainDoes_411 : decode cX3_plainDoes 411 = .ok (.aload_n 0, 1) := dk_42 (dk_at dksX3_plainDoes_14 19 rfl rfl)
theorem dX3_plainDoes_412 : decode cX3_plainDoes 412 = .ok (.iload_n 3, 1) := dk_29 (dk_at dksX3_plainDoes_14 20 rfl rfl)
theorem dX3_plainDoes_413 : decode cX3_plainDoes 413 = .ok (.putfield 337, 3) := dk_181 1 81 (dk_at dksX3_plainDoes_14 21 rfl rfl)
theorem dX3_plainDoes_416 : decode cX3_plainDoes 416 = .ok (.goto 27, 3) := dk_167 0 27 (dk_at dksX3_plainDoes_15 0 rfl rfl)
theorem dX3_plainDoes_419 : decode cX3_plainDoes 419 = .ok (.aload_n 0, 1) := dk_42 (dk_at dksX3_plainDoes_15 3 rfl rfl)
theorem dX3_plainDoes_420 : decode cX3_plainDoes 420 = .ok (.iconst 1, 1) := dk_4 (dk_at dksX3_plainDoes_15 4 rfl rfl)
theorem dX3_plainDoes_421 : decode cX3_plainDoes 421 = .ok (.putfield 340, 3) := dk_181 1 84 (dk_at dksX3_plainDoes_15 5 rfl rfl)
theorem dX3_plainDoes_424 : decode cX3_plainDoes 424 = .ok (.goto 19, 3) := dk_167 0 19 (dk_at dksX3_plainDoes_15 8 rfl rfl)
theorem dX3_plainDoes_427 : decode cX3_plainDoes 427 = .ok (.aload_n 0, 1) := dk_42 (dk_at dksX3_plainDoes_15 11 rfl rfl)
theorem dX3_plainDoes_428 : decode cX3_plainDoes 428 = .ok (.iconst 0, 1) := dk_3 (dk_at dksX3_plainDoes_15 12 rfl rfl)
theorem dX3_plainDoes_429 : decode cX3_plainDoes 429 = .ok (.putfield 334, 3) := dk_181 1 78 (dk_at dksX3_plainDoes_15 13 rfl rfl)
theorem dX3_plainDoes_432 : decode cX3_plainDoes 432 = .ok (.aload_n 0, 1) := dk_42 (dk_at dksX3_plainDoes_15 16 rfl rfl)
theorem dX3_plainDoes_433 : decode cX3_plainDoes 433 = .ok (.aload_n 0, 1) := dk_42 (dk_at dksX3_plainDoes_15 17 rfl rfl)
theorem dX3_plainDoes_434 : decode cX3_plainDoes 434 = .ok (.getfield 343, 3) := dk_180 1 87 (dk_at dksX3_plainDoes_15 18 rfl rfl)
theorem dX3_plainDoes_437 : decode cX3_plainDoes 437 = .ok (.putfield 337, 3) := dk_181 1 81 (dk_at dksX3_plainDoes_15 21 rfl rfl)
theorem dX3_plainDoes_440 : decode cX3_plainDoes 440 = .ok (.goto 3, 3) := dk_167 0 3 (dk_at dksX3_plainDoes_16 0 rfl rfl)
theorem dX3_plainDoes_443 : decode cX3_plainDoes 443 = .ok (.return_, 1) := dk_177 (dk_at dksX3_plainDoes_16 3 rfl rfl)
def dkwX3_placeByPlain_0 : List UInt8 := [42, 27, 182, 1, 72, 153, 0, 7, 3, 167, 0, 12, 42, 27, 4, 96, 182, 1, 96, 4, 46, 172]
abbrev dktX3_placeByPlain_0 : List UInt8 := dkwX3_placeByPlain_0 ++ []
theorem dksX3_placeByPlain_0 : cX3_placeByPlain.data.toList.drop 0 = dktX3_placeByPlain_0 := by decide +kernel
theorem dX3_placeByPlain_0 : decode cX3_placeByPlain 0 = .ok (.aload_n 0, 1) := dk_42 (dk_at dksX3_placeByPlain_0 0 rfl rfl)
theorem dX3_placeByPlain_1 : decode cX3_placeByPlain 1 = .ok (.iload_n 1, 1) := dk_27 (dk_at dksX3_placeByPlain_0 1 rfl rfl)
theorem dX3_placeByPlain_2 : decode cX3_placeByPlain 2 = .ok (.invokevirtual 328, 3) := dk_182 1 72 (dk_at dksX3_placeByPlain_0 2 rfl rfl)
theorem dX3_placeByPlain_5 : decode cX3_placeByPlain 5 = .ok (.ifCond .eq 7, 3) := dk_153 0 7 (dk_at dksX3_placeByPlain_0 5 rfl rfl)
theorem dX3_placeByPlain_8 : decode cX3_placeByPlain 8 = .ok (.iconst 0, 1) := dk_3 (dk_at dksX3_placeByPlain_0 8 rfl rfl)
theorem dX3_placeByPlain_9 : decode cX3_placeByPlain 9 = .ok (.goto 12, 3) := dk_167 0 12 (dk_at dksX3_placeByPlain_0 9 rfl rfl)
theorem dX3_placeByPlain_12 : decode cX3_placeByPlain 12 = .ok (.aload_n 0, 1) := dk_42 (dk_at dksX3_placeByPlain_0 12 rfl rfl)
theorem dX3_placeByPlain_13 : decode cX3_placeByPlain 13 = .ok (.iload_n 1, 1) := dk_27 (dk_at dksX3_placeByPlain_0 13 rfl rfl)
theorem dX3_placeByPlain_14 : decode cX3_placeByPlain 14 = .ok (.iconst 1, 1) := dk_4 (dk_at dksX3_placeByPlain_0 14 rfl rfl)
theorem dX3_placeByPlain_15 : decode cX3_placeByPlain 15 = .ok (.iadd, 1) := dk_96 (dk_at dksX3_placeByPlain_0 15 rfl rfl)
theorem dX3_placeByPlain_16 : decode cX3_placeByPlain 16 = .ok (.invokevirtual 352, 3) := dk_182 1 96 (dk_at dksX3_placeByPlain_0 16 rfl rfl)
theorem dX3_placeByPlain_19 : decode cX3_placeByPlain 19 = .ok (.iconst 1, 1) := dk_4 (dk_at dksX3_placeByPlain_0 19 rfl rfl)
theorem dX3_placeByPlain_20 : decode cX3_placeByPlain 20 = .ok (.iaload, 1) := dk_46 (dk_at dksX3_placeByPlain_0 20 rfl rfl)
theorem dX3_placeByPlain_21 : decode cX3_placeByPlain 21 = .ok (.ireturn, 1) := dk_172 (dk_at dksX3_placeByPlain_0 21 rfl rfl)
def dkwX3_register_1 : List UInt8 := [158, 0, 7, 3, 167, 0, 14, 42, 180, 0, 62, 42, 180, 0, 59, 27, 46, 46, 172]
abbrev dktX3_register_1 : List UInt8 := dkwX3_register_1 ++ []
def dkwX3_register_0 : List UInt8 := [42, 27, 3, 16, 7, 184, 0, 129, 153, 0, 7, 3, 167, 0, 4, 4, 181, 0, 123, 42, 180, 0, 123]
abbrev dktX3_register_0 : List UInt8 := dkwX3_register_0 ++ dktX3_register_1
theorem dksX3_register_0 : cX3_register.data.toList.drop 0 = dktX3_register_0 := by decide +kernel
theorem dksX3_register_1 : cX3_register.data.toList.drop 23 = dktX3_register_1 := dk_seg dksX3_register_0 23 rfl rfl
theorem dX3_register_0 : decode cX3_register 0 = .ok (.aload_n 0, 1) := dk_42 (dk_at dksX3_register_0 0 rfl rfl)
theorem dX3_register_1 : decode cX3_register 1 = .ok (.iload_n 1, 1) := dk_27 (dk_at dksX3_register_0 1 rfl rfl)
theorem dX3_register_2 : decode cX3_register 2 = .ok (.iconst 0, 1) := dk_3 (dk_at dksX3_register_0 2 rfl rfl)
theorem dX3_register_3 : decode cX3_register 3 = .ok (.bipush 7, 2) := dk_16 7 (dk_at dksX3_register_0 3 rfl rfl)
theorem dX3_register_5 : decode cX3_register 5 = .ok (.invokestatic 129, 3) := dk_184 0 129 (dk_at dksX3_register_0 5 rfl rfl)
theorem dX3_register_8 : decode cX3_register 8 = .ok (.ifCond .eq 7, 3) := dk_153 0 7 (dk_at dksX3_register_0 8 rfl rfl)
theorem dX3_register_11 : decode cX3_register 11 = .ok (.iconst 0, 1) := dk_3 (dk_at dksX3_register_0 11 rfl rfl)
theorem dX3_register_12 : decode cX3_register 12 = .ok (.goto 4, 3) := dk_167 0 4 (dk_at dksX3_register_0 12 rfl rfl)
theorem dX3_register_15 : decode cX3_register 15 = .ok (.iconst 1, 1) := dk_4 (dk_at dksX3_register_0 15 rfl rfl)
theorem dX3_register_16 : decode cX3_register 16 = .ok (.putfield 123, 3) := dk_181 0 123 (dk_at dksX3_register_0 16 rfl rfl)
theorem dX3_register_19 : decode cX3_register 19 = .ok (.aload_n 0, 1) := dk_42 (dk_at dksX3_register_0 19 rfl rfl)
theorem dX3_register_20 : decode cX3_register 20 = .ok (.getfield 123, 3) := dk_180 0 123 (dk_at dksX3_register_0 20 rfl rfl)
theorem dX3_register_23 : decode cX3_register 23 = .ok (.ifCond .le 7, 3) := dk_158 0 7 (dk_at dksX3_register_1 0 rfl rfl)
theorem dX3_register_26 : decode cX3_register 26 = .ok (.iconst 0, 1) := dk_3 (dk_at dksX3_register_1 3 rfl rfl)
theorem dX3_register_27 : decode cX3_register 27 = .ok (.goto 14, 3) := dk_167 0 14 (dk_at dksX3_register_1 4 rfl rfl)
theorem dX3_register_30 : decode cX3_register 30 = .ok (.aload_n 0, 1) := dk_42 (dk_at dksX3_register_1 7 rfl rfl)
theorem dX3_register_31 : decode cX3_register 31 = .ok (.getfield 62, 3) := dk_180 0 62 (dk_at dksX3_register_1 8 rfl rfl)
theorem dX3_register_34 : decode cX3_register 34 = .ok (.aload_n 0, 1) := dk_42 (dk_at dksX3_register_1 11 rfl rfl)
theorem dX3_register_35 : decode cX3_register 35 = .ok (.getfield 59, 3) := dk_180 0 59 (dk_at dksX3_register_1 12 rfl rfl)
theorem dX3_register_38 : decode cX3_register 38 = .ok (.iload_n 1, 1) := dk_27 (dk_at dksX3_register_1 15 rfl rfl)
theorem dX3_register_39 : decode cX3_register 39 = .ok (.iaload, 1) := dk_46 (dk_at dksX3_register_1 16 rfl rfl)
theorem dX3_register_40 : decode cX3_register 40 = .ok (.iaload, 1) := dk_46 (dk_at dksX3_register_1 17 rfl rfl)
theorem dX3_register_41 : decode cX3_register 41 = .ok (.ireturn, 1) := dk_172 (dk_at dksX3_register_1 18 rfl rfl)
def dkwX3_registerByPlain_2 : List UInt8 := [27, 46, 172]
abbrev dktX3_registerByPlain_2 : List UInt8 := dkwX3_registerByPlain_2 ++ []
def dkwX3_registerByPlain_1 : List UInt8 := [182, 1, 96, 77, 42, 180, 0, 123, 157, 0, 8, 44, 190, 154, 0, 7, 3, 167, 0, 9, 42, 180, 0, 114]
abbrev dktX3_registerByPlain_1 : List UInt8 := dkwX3_registerByPlain_1 ++ dktX3_registerByPlain_2
def dkwX3_registerByPlain_0 : List UInt8 := [42, 27, 3, 16, 7, 184, 0, 129, 153, 0, 7, 3, 167, 0, 4, 4, 181, 0, 123, 42, 42, 180, 0, 150]
abbrev dktX3_registerByPlain_0 : List UInt8 := dkwX3_registerByPlain_0 ++ dktX3_registerByPlain_1
theorem dksX3_registerByPlain_0 : cX3_registerByPlain.data.toList.drop 0 = dktX3_registerByPlain_0 := by decide +kernel
theorem dksX3_registerByPlain_1 : cX3_registerByPlain.data.toList.drop 24 = dktX3_registerByPlain_1 := dk_seg dksX3_registerByPlain_0 24 rfl rfl
theorem dksX3_registerByPlain_2 : cX3_registerByPlain.data.toList.drop 48 = dktX3_registerByPlain_2 := dk_seg dksX3_registerByPlain_1 24 rfl rfl
theorem dX3_registerByPlain_0 : decode cX3_registerByPlain 0 = .ok (.aload_n 0, 1) := dk_42 (dk_at dksX3_registerByPlain_0 0 rfl rfl)
theorem dX3_registerByPlain_1 : decode cX3_registerByPlain 1 = .ok (.iload_n 1, 1) := dk_27 (dk_at dksX3_registerByPlain_0 1 rfl rfl)
theorem dX3_registerByPlain_2 : decode cX3_registerByPlain 2 = .ok (.iconst 0, 1) := dk_3 (dk_at dksX3_registerByPlain_0 2 rfl rfl)
theorem dX3_registerByPlain_3 : decode cX3_registerByPlain 3 = .ok (.bipush 7, 2) := dk_16 7 (dk_at dksX3_registerByPlain_0 3 rfl rfl)
theorem dX3_registerByPlain_5 : decode cX3_registerByPlain 5 = .ok (.invokestatic 129, 3) := dk_184 0 129 (dk_at dksX3_registerByPlain_0 5 rfl rfl)
theorem dX3_registerByPlain_8 : decode cX3_registerByPlain 8 = .ok (.ifCond .eq 7, 3) := dk_153 0 7 (dk_at dksX3_registerByPlain_0 8 rfl rfl)
theorem dX3_registerByPlain_11 : decode cX3_registerByPlain 11 = .ok (.iconst 0, 1) := dk_3 (dk_at dksX3_registerByPlain_0 11 rfl rfl)
theorem dX3_registerByPlain_12 : decode cX3_registerByPlain 12 = .ok (.goto 4, 3) := dk_167 0 4 (dk_at dksX3_registerByPlain_0 12 rfl rfl)
theorem dX3_registerByPlain_15 : decode cX3_registerByPlain 15 = .ok (.iconst 1, 1) := dk_4 (dk_at dksX3_registerByPlain_0 15 rfl rfl)
theorem dX3_registerByPlain_16 : decode cX3_registerByPlain 16 = .ok (.putfield 123, 3) := dk_181 0 123 (dk_at dksX3_registerByPlain_0 16 rfl rfl)
theorem dX3_registerByPlain_19 : decode cX3_registerByPlain 19 = .ok (.aload_n 0, 1) := dk_42 (dk_at dksX3_registerByPlain_0 19 rfl rfl)
theorem dX3_registerByPlain_20 : decode cX3_registerByPlain 20 = .ok (.aload_n 0, 1) := dk_42 (dk_at dksX3_registerByPlain_0 20 rfl rfl)
theorem dX3_registerByPlain_21 : decode cX3_registerByPlain 21 = .ok (.getfield 150, 3) := dk_180 0 150 (dk_at dksX3_registerByPlain_0 21 rfl rfl)
theorem dX3_registerByPlain_24 : decode cX3_registerByPlain 24 = .ok (.invokevirtual 352, 3) := dk_182 1 96 (dk_at dksX3_registerByPlain_1 0 rfl rfl)
theorem dX3_registerByPlain_27 : decode cX3_registerByPlain 27 = .ok (.astore_n 2, 1) := dk_77 (dk_at dksX3_registerByPlain_1 3 rfl rfl)
theorem dX3_registerByPlain_28 : decode cX3_registerByPlain 28 = .ok (.aload_n 0, 1) := dk_42 (dk_at dksX3_registerByPlain_1 4 rfl rfl)
theorem dX3_registerByPlain_29 : decode cX3_registerByPlain 29 = .ok (.getfield 123, 3) := dk_180 0 123 (dk_at dksX3_registerByPlain_1 5 rfl rfl)
theorem dX3_registerByPlain_32 : decode cX3_registerByPlain 32 = .ok (.ifCond .gt 8, 3) := dk_157 0 8 (dk_at dksX3_registerByPlain_1 8 rfl rfl)
theorem dX3_registerByPlain_35 : decode cX3_registerByPlain 35 = .ok (.aload_n 2, 1) := dk_44 (dk_at dksX3_registerByPlain_1 11 rfl rfl)
theorem dX3_registerByPlain_36 : decode cX3_registerByPlain 36 = .ok (.arraylength, 1) := dk_190 (dk_at dksX3_registerByPlain_1 12 rfl rfl)
theorem dX3_registerByPlain_37 : decode cX3_registerByPlain 37 = .ok (.ifCond .ne 7, 3) := dk_154 0 7 (dk_at dksX3_registerByPlain_1 13 rfl rfl)
theorem dX3_registerByPlain_40 : decode cX3_registerByPlain 40 = .ok (.iconst 0, 1) := dk_3 (dk_at dksX3_registerByPlain_1 16 rfl rfl)
theorem dX3_registerByPlain_41 : decode cX3_registerByPlain 41 = .ok (.goto 9, 3) := dk_167 0 9 (dk_at dksX3_registerByPlain_1 17 rfl rfl)
theorem dX3_registerByPlain_44 : decode cX3_registerByPlain 44 = .ok (.aload_n 0, 1) := dk_42 (dk_at dksX3_registerByPlain_1 20 rfl rfl)
theorem dX3_registerByPlain_45 : decode cX3_registerByPlain 45 = .ok (.getfield 114, 3) := dk_180 0 114 (dk_at dksX3_registerByPlain_1 21 rfl rfl)
theorem dX3_registerByPlain_48 : decode cX3_registerByPlain 48 = .ok (.iload_n 1, 1) := dk_27 (dk_at dksX3_registerByPlain_2 0 rfl rfl)
theorem dX3_registerByPlain_49 : decode cX3_registerByPlain 49 = .ok (.iaload, 1) := dk_46 (dk_at dksX3_registerByPlain_2 1 rfl rfl)
theorem dX3_registerByPlain_50 : decode cX3_registerByPlain 50 = .ok (.ireturn, 1) := dk_172 (dk_at dksX3_registerByPlain_2 2 rfl rfl)
def dkwX3_word_1 : List UInt8 := [167, 0, 9, 42, 180, 0, 53, 27, 46, 172]
abbrev dktX3_word_1 : List UInt8 := dkwX3_word_1 ++ []
def dkwX3_word_0 : List UInt8 := [42, 27, 184, 0, 225, 153, 0, 7, 3, 167, 0, 4, 4, 181, 0, 123, 42, 180, 0, 123, 158, 0, 7, 3]
abbrev dktX3_word_0 : List UInt8 := dkwX3_word_0 ++ dktX3_word_1
theorem dksX3_word_0 : cX3_word.data.toList.drop 0 = dktX3_word_0 := by decide +kernel
theorem dksX3_word_1 : cX3_word.data.toList.drop 24 = dktX3_word_1 := dk_seg dksX3_word_0 24 rfl rfl
theorem dX3_word_0 : decode cX3_word 0 = .ok (.aload_n 0, 1) := dk_42 (dk_at dksX3_word_0 0 rfl rfl)
theorem dX3_word_1 : decode cX3_word 1 = .ok (.iload_n 1, 1) := dk_27 (dk_at dksX3_word_0 1 rfl rfl)
theorem dX3_word_2 : decode cX3_word 2 = .ok (.invokestatic 225, 3) := dk_184 0 225 (dk_at dksX3_word_0 2 rfl rfl)
theorem dX3_word_5 : decode cX3_word 5 = .ok (.ifCond .eq 7, 3) := dk_153 0 7 (dk_at dksX3_word_0 5 rfl rfl)
theorem dX3_word_8 : decode cX3_word 8 = .ok (.iconst 0, 1) := dk_3 (dk_at dksX3_word_0 8 rfl rfl)
theorem dX3_word_9 : decode cX3_word 9 = .ok (.goto 4, 3) := dk_167 0 4 (dk_at dksX3_word_0 9 rfl rfl)
theorem dX3_word_12 : decode cX3_word 12 = .ok (.iconst 1, 1) := dk_4 (dk_at dksX3_word_0 12 rfl rfl)
theorem dX3_word_13 : decode cX3_word 13 = .ok (.putfield 123, 3) := dk_181 0 123 (dk_at dksX3_word_0 13 rfl rfl)
theorem dX3_word_16 : decode cX3_word 16 = .ok (.aload_n 0, 1) := dk_42 (dk_at dksX3_word_0 16 rfl rfl)
theorem dX3_word_17 : decode cX3_word 17 = .ok (.getfield 123, 3) := dk_180 0 123 (dk_at dksX3_word_0 17 rfl rfl)
theorem dX3_word_20 : decode cX3_word 20 = .ok (.ifCond .le 7, 3) := dk_158 0 7 (dk_at dksX3_word_0 20 rfl rfl)
theorem dX3_word_23 : decode cX3_word 23 = .ok (.iconst 0, 1) := dk_3 (dk_at dksX3_word_0 23 rfl rfl)
theorem dX3_word_24 : decode cX3_word 24 = .ok (.goto 9, 3) := dk_167 0 9 (dk_at dksX3_word_1 0 rfl rfl)
theorem dX3_word_27 : decode cX3_word 27 = .ok (.aload_n 0, 1) := dk_42 (dk_at dksX3_word_1 3 rfl rfl)
theorem dX3_word_28 : decode cX3_word 28 = .ok (.getfield 53, 3) := dk_180 0 53 (dk_at dksX3_word_1 4 rfl rfl)
theorem dX3_word_31 : decode cX3_word 31 = .ok (.iload_n 1, 1) := dk_27 (dk_at dksX3_word_1 7 rfl rfl)
theorem dX3_word_32 : decode cX3_word 32 = .ok (.iaload, 1) := dk_46 (dk_at dksX3_word_1 8 rfl rfl)
theorem dX3_word_33 : decode cX3_word 33 = .ok (.ireturn, 1) := dk_172 (dk_at dksX3_word_1 9 rfl rfl)
def dkwX3_wordByPlain_1 : List UInt8 := [77, 42, 180, 0, 123, 157, 0, 8, 44, 190, 154, 0, 7, 3, 167, 0, 9, 42, 180, 0, 117, 27, 46, 172]
abbrev dktX3_wordByPlain_1 : List UInt8 := dkwX3_wordByPlain_1 ++ []
def dkwX3_wordByPlain_0 : List UInt8 := [42, 27, 184, 0, 225, 153, 0, 7, 3, 167, 0, 4, 4, 181, 0, 123, 42, 42, 180, 0, 150, 182, 1, 96]
abbrev dktX3_wordByPlain_0 : List UInt8 := dkwX3_wordByPlain_0 ++ dktX3_wordByPlain_1
theorem dksX3_wordByPlain_0 : cX3_wordByPlain.data.toList.drop 0 = dktX3_wordByPlain_0 := by decide +kernel
theorem dksX3_wordByPlain_1 : cX3_wordByPlain.data.toList.drop 24 = dktX3_wordByPlain_1 := dk_seg dksX3_wordByPlain_0 24 rfl rfl
theorem dX3_wordByPlain_0 : decode cX3_wordByPlain 0 = .ok (.aload_n 0, 1) := dk_42 (dk_at dksX3_wordByPlain_0 0 rfl rfl)
theorem dX3_wordByPlain_1 : decode cX3_wordByPlain 1 = .ok (.iload_n 1, 1) := dk_27 (dk_at dksX3_wordByPlain_0 1 rfl rfl)
theorem dX3_wordByPlain_2 : decode cX3_wordByPlain 2 = .ok (.invokestatic 225, 3) := dk_184 0 225 (dk_at dksX3_wordByPlain_0 2 rfl rfl)
theorem dX3_wordByPlain_5 : decode cX3_wordByPlain 5 = .ok (.ifCond .eq 7, 3) := dk_153 0 7 (dk_at dksX3_wordByPlain_0 5 rfl rfl)
theorem dX3_wordByPlain_8 : decode cX3_wordByPlain 8 = .ok (.iconst 0, 1) := dk_3 (dk_at dksX3_wordByPlain_0 8 rfl rfl)
theorem dX3_wordByPlain_9 : decode cX3_wordByPlain 9 = .ok (.goto 4, 3) := dk_167 0 4 (dk_at dksX3_wordByPlain_0 9 rfl rfl)
theorem dX3_wordByPlain_12 : decode cX3_wordByPlain 12 = .ok (.iconst 1, 1) := dk_4 (dk_at dksX3_wordByPlain_0 12 rfl rfl)
theorem dX3_wordByPlain_13 : decode cX3_wordByPlain 13 = .ok (.putfield 123, 3) := dk_181 0 123 (dk_at dksX3_wordByPlain_0 13 rfl rfl)
theorem dX3_wordByPlain_16 : decode cX3_wordByPlain 16 = .ok (.aload_n 0, 1) := dk_42 (dk_at dksX3_wordByPlain_0 16 rfl rfl)
theorem dX3_wordByPlain_17 : decode cX3_wordByPlain 17 = .ok (.aload_n 0, 1) := dk_42 (dk_at dksX3_wordByPlain_0 17 rfl rfl)
theorem dX3_wordByPlain_18 : decode cX3_wordByPlain 18 = .ok (.getfield 150, 3) := dk_180 0 150 (dk_at dksX3_wordByPlain_0 18 rfl rfl)
theorem dX3_wordByPlain_21 : decode cX3_wordByPlain 21 = .ok (.invokevirtual 352, 3) := dk_182 1 96 (dk_at dksX3_wordByPlain_0 21 rfl rfl)
theorem dX3_wordByPlain_24 : decode cX3_wordByPlain 24 = .ok (.astore_n 2, 1) := dk_77 (dk_at dksX3_wordByPlain_1 0 rfl rfl)
theorem dX3_wordByPlain_25 : decode cX3_wordByPlain 25 = .ok (.aload_n 0, 1) := dk_42 (dk_at dksX3_wordByPlain_1 1 rfl rfl)
theorem dX3_wordByPlain_26 : decode cX3_wordByPlain 26 = .ok (.getfield 123, 3) := dk_180 0 123 (dk_at dksX3_wordByPlain_1 2 rfl rfl)
theorem dX3_wordByPlain_29 : decode cX3_wordByPlain 29 = .ok (.ifCond .gt 8, 3) := dk_157 0 8 (dk_at dksX3_wordByPlain_1 5 rfl rfl)
theorem dX3_wordByPlain_32 : decode cX3_wordByPlain 32 = .ok (.aload_n 2, 1) := dk_44 (dk_at dksX3_wordByPlain_1 8 rfl rfl)
theorem dX3_wordByPlain_33 : decode cX3_wordByPlain 33 = .ok (.arraylength, 1) := dk_190 (dk_at dksX3_wordByPlain_1 9 rfl rfl)
theorem dX3_wordByPlain_34 : decode cX3_wordByPlain 34 = .ok (.ifCond .ne 7, 3) := dk_154 0 7 (dk_at dksX3_wordByPlain_1 10 rfl rfl)
theorem dX3_wordByPlain_37 : decode cX3_wordByPlain 37 = .ok (.iconst 0, 1) := dk_3 (dk_at dksX3_wordByPlain_1 13 rfl rfl)
theorem dX3_wordByPlain_38 : decode cX3_wordByPlain 38 = .ok (.goto 9, 3) := dk_167 0 9 (dk_at dksX3_wordByPlain_1 14 rfl rfl)
theorem dX3_wordByPlain_41 : decode cX3_wordByPlain 41 = .ok (.aload_n 0, 1) := dk_42 (dk_at dksX3_wordByPlain_1 17 rfl rfl)
theorem dX3_wordByPlain_42 : decode cX3_wordByPlain 42 = .ok (.getfield 117, 3) := dk_180 0 117 (dk_at dksX3_wordByPlain_1 18 rfl rfl)
theorem dX3_wordByPlain_45 : decode cX3_wordByPlain 45 = .ok (.iload_n 1, 1) := dk_27 (dk_at dksX3_wordByPlain_1 21 rfl rfl)
theorem dX3_wordByPlain_46 : decode cX3_wordByPlain 46 = .ok (.iaload, 1) := dk_46 (dk_at dksX3_wordByPlain_1 22 rfl rfl)
theorem dX3_wordByPlain_47 : decode cX3_wordByPlain 47 = .ok (.ireturn, 1) := dk_172 (dk_at dksX3_wordByPlain_1 23 rfl rfl)
def dkwX3_kept_1 : List UInt8 := [167, 0, 7, 42, 180, 1, 32, 172]
abbrev dktX3_kept_1 : List UInt8 := dkwX3_kept_1 ++ []
def dkwX3_kept_0 : List UInt8 := [42, 42, 180, 1, 35, 153, 0, 7, 3, 167, 0, 4, 4, 181, 0, 123, 42, 180, 0, 123, 158, 0, 7, 3]
abbrev dktX3_kept_0 : List UInt8 := dkwX3_kept_0 ++ dktX3_kept_1
theorem dksX3_kept_0 : cX3_kept.data.toList.drop 0 = dktX3_kept_0 := by decide +kernel
theorem dksX3_kept_1 : cX3_kept.data.toList.drop 24 = dktX3_kept_1 := dk_seg dksX3_kept_0 24 rfl rfl
theorem dX3_kept_0 : decode cX3_kept 0 = .ok (.aload_n 0, 1) := dk_42 (dk_at dksX3_kept_0 0 rfl rfl)
theorem dX3_kept_1 : decode cX3_kept 1 = .ok (.aload_n 0, 1) := dk_42 (dk_at dksX3_kept_0 1 rfl rfl)
theorem dX3_kept_2 : decode cX3_kept 2 = .ok (.getfield 291, 3) := dk_180 1 35 (dk_at dksX3_kept_0 2 rfl rfl)
theorem dX3_kept_5 : decode cX3_kept 5 = .ok (.ifCond .eq 7, 3) := dk_153 0 7 (dk_at dksX3_kept_0 5 rfl rfl)
theorem dX3_kept_8 : decode cX3_kept 8 = .ok (.iconst 0, 1) := dk_3 (dk_at dksX3_kept_0 8 rfl rfl)
theorem dX3_kept_9 : decode cX3_kept 9 = .ok (.goto 4, 3) := dk_167 0 4 (dk_at dksX3_kept_0 9 rfl rfl)
theorem dX3_kept_12 : decode cX3_kept 12 = .ok (.iconst 1, 1) := dk_4 (dk_at dksX3_kept_0 12 rfl rfl)
theorem dX3_kept_13 : decode cX3_kept 13 = .ok (.putfield 123, 3) := dk_181 0 123 (dk_at dksX3_kept_0 13 rfl rfl)
theorem dX3_kept_16 : decode cX3_kept 16 = .ok (.aload_n 0, 1) := dk_42 (dk_at dksX3_kept_0 16 rfl rfl)
theorem dX3_kept_17 : decode cX3_kept 17 = .ok (.getfield 123, 3) := dk_180 0 123 (dk_at dksX3_kept_0 17 rfl rfl)
theorem dX3_kept_20 : decode cX3_kept 20 = .ok (.ifCond .le 7, 3) := dk_158 0 7 (dk_at dksX3_kept_0 20 rfl rfl)
theorem dX3_kept_23 : decode cX3_kept 23 = .ok (.iconst 0, 1) := dk_3 (dk_at dksX3_kept_0 23 rfl rfl)
theorem dX3_kept_24 : decode cX3_kept 24 = .ok (.goto 7, 3) := dk_167 0 7 (dk_at dksX3_kept_1 0 rfl rfl)
theorem dX3_kept_27 : decode cX3_kept 27 = .ok (.aload_n 0, 1) := dk_42 (dk_at dksX3_kept_1 3 rfl rfl)
theorem dX3_kept_28 : decode cX3_kept 28 = .ok (.getfield 288, 3) := dk_180 1 32 (dk_at dksX3_kept_1 4 rfl rfl)
theorem dX3_kept_31 : decode cX3_kept 31 = .ok (.ireturn, 1) := dk_172 (dk_at dksX3_kept_1 7 rfl rfl)
def dkwX3_life_3 : List UInt8 := [180, 0, 108, 27, 50, 28, 46, 167, 0, 4, 3, 172]
abbrev dktX3_life_3 : List UInt8 := dkwX3_life_3 ++ []
def dkwX3_life_2 : List UInt8 := [4, 167, 0, 4, 3, 62, 42, 29, 153, 0, 7, 3, 167, 0, 4, 6, 181, 0, 123, 29, 153, 0, 14, 42]
abbrev dktX3_life_2 : List UInt8 := dkwX3_life_2 ++ dktX3_life_3
def dkwX3_life_1 : List UInt8 := [172, 42, 180, 0, 101, 27, 46, 16, 9, 159, 0, 19, 42, 180, 0, 108, 27, 50, 28, 46, 2, 159, 0, 7]
abbrev dktX3_life_1 : List UInt8 := dkwX3_life_1 ++ dktX3_life_2
def dkwX3_life_0 : List UInt8 := [42, 27, 182, 1, 72, 153, 0, 5, 3, 172, 28, 3, 7, 184, 0, 129, 154, 0, 9, 42, 5, 182, 1, 100]
abbrev dktX3_life_0 : List UInt8 := dkwX3_life_0 ++ dktX3_life_1
theorem dksX3_life_0 : cX3_life.data.toList.drop 0 = dktX3_life_0 := by decide +kernel
theorem dksX3_life_1 : cX3_life.data.toList.drop 24 = dktX3_life_1 := dk_seg dksX3_life_0 24 rfl rfl
theorem dksX3_life_2 : cX3_life.data.toList.drop 48 = dktX3_life_2 := dk_seg dksX3_life_1 24 rfl rfl
theorem dksX3_life_3 : cX3_life.data.toList.drop 72 = dktX3_life_3 := dk_seg dksX3_life_2 24 rfl rfl
theorem dX3_life_0 : decode cX3_life 0 = .ok (.aload_n 0, 1) := dk_42 (dk_at dksX3_life_0 0 rfl rfl)
theorem dX3_life_1 : decode cX3_life 1 = .ok (.iload_n 1, 1) := dk_27 (dk_at dksX3_life_0 1 rfl rfl)
theorem dX3_life_2 : decode cX3_life 2 = .ok (.invokevirtual 328, 3) := dk_182 1 72 (dk_at dksX3_life_0 2 rfl rfl)
theorem dX3_life_5 : decode cX3_life 5 = .ok (.ifCond .eq 5, 3) := dk_153 0 5 (dk_at dksX3_life_0 5 rfl rfl)
theorem dX3_life_8 : decode cX3_life 8 = .ok (.iconst 0, 1) := dk_3 (dk_at dksX3_life_0 8 rfl rfl)
theorem dX3_life_9 : decode cX3_life 9 = .ok (.ireturn, 1) := dk_172 (dk_at dksX3_life_0 9 rfl rfl)
theorem dX3_life_10 : decode cX3_life 10 = .ok (.iload_n 2, 1) := dk_28 (dk_at dksX3_life_0 10 rfl rfl)
theorem dX3_life_11 : decode cX3_life 11 = .ok (.iconst 0, 1) := dk_3 (dk_at dksX3_life_0 11 rfl rfl)
theorem dX3_life_12 : decode cX3_life 12 = .ok (.iconst 4, 1) := dk_7 (dk_at dksX3_life_0 12 rfl rfl)
theorem dX3_life_13 : decode cX3_life 13 = .ok (.invokestatic 129, 3) := dk_184 0 129 (dk_at dksX3_life_0 13 rfl rfl)
theorem dX3_life_16 : decode cX3_life 16 = .ok (.ifCond .ne 9, 3) := dk_154 0 9 (dk_at dksX3_life_0 16 rfl rfl)
theorem dX3_life_19 : decode cX3_life 19 = .ok (.aload_n 0, 1) := dk_42 (dk_at dksX3_life_0 19 rfl rfl)
theorem dX3_life_20 : decode cX3_life 20 = .ok (.iconst 2, 1) := dk_5 (dk_at dksX3_life_0 20 rfl rfl)
theorem dX3_life_21 : decode cX3_life 21 = .ok (.invokevirtual 356, 3) := dk_182 1 100 (dk_at dksX3_life_0 21 rfl rfl)
theorem dX3_life_24 : decode cX3_life 24 = .ok (.ireturn, 1) := dk_172 (dk_at dksX3_life_1 0 rfl rfl)
theorem dX3_life_25 : decode cX3_life 25 = .ok (.aload_n 0, 1) := dk_42 (dk_at dksX3_life_1 1 rfl rfl)
theorem dX3_life_26 : decode cX3_life 26 = .ok (.getfield 101, 3) := dk_180 0 101 (dk_at dksX3_life_1 2 rfl rfl)
theorem dX3_life_29 : decode cX3_life 29 = .ok (.iload_n 1, 1) := dk_27 (dk_at dksX3_life_1 5 rfl rfl)
theorem dX3_life_30 : decode cX3_life 30 = .ok (.iaload, 1) := dk_46 (dk_at dksX3_life_1 6 rfl rfl)
theorem dX3_life_31 : decode cX3_life 31 = .ok (.bipush 9, 2) := dk_16 9 (dk_at dksX3_life_1 7 rfl rfl)
theorem dX3_life_33 : decode cX3_life 33 = .ok (.if_icmp .eq 19, 3) := dk_159 0 19 (dk_at dksX3_life_1 9 rfl rfl)
theorem dX3_life_36 : decode cX3_life 36 = .ok (.aload_n 0, 1) := dk_42 (dk_at dksX3_life_1 12 rfl rfl)
theorem dX3_life_37 : decode cX3_life 37 = .ok (.getfield 108, 3) := dk_180 0 108 (dk_at dksX3_life_1 13 rfl rfl)
theorem dX3_life_40 : decode cX3_life 40 = .ok (.iload_n 1, 1) := dk_27 (dk_at dksX3_life_1 16 rfl rfl)
theorem dX3_life_41 : decode cX3_life 41 = .ok (.aaload, 1) := dk_50 (dk_at dksX3_life_1 17 rfl rfl)
theorem dX3_life_42 : decode cX3_life 42 = .ok (.iload_n 2, 1) := dk_28 (dk_at dksX3_life_1 18 rfl rfl)
theorem dX3_life_43 : decode cX3_life 43 = .ok (.iaload, 1) := dk_46 (dk_at dksX3_life_1 19 rfl rfl)
theorem dX3_life_44 : decode cX3_life 44 = .ok (.iconst (-1), 1) := dk_2 (dk_at dksX3_life_1 20 rfl rfl)
theorem dX3_life_45 : decode cX3_life 45 = .ok (.if_icmp .eq 7, 3) := dk_159 0 7 (dk_at dksX3_life_1 21 rfl rfl)
theorem dX3_life_48 : decode cX3_life 48 = .ok (.iconst 1, 1) := dk_4 (dk_at dksX3_life_2 0 rfl rfl)
theorem dX3_life_49 : decode cX3_life 49 = .ok (.goto 4, 3) := dk_167 0 4 (dk_at dksX3_life_2 1 rfl rfl)
theorem dX3_life_52 : decode cX3_life 52 = .ok (.iconst 0, 1) := dk_3 (dk_at dksX3_life_2 4 rfl rfl)
theorem dX3_life_53 : decode cX3_life 53 = .ok (.istore_n 3, 1) := dk_62 (dk_at dksX3_life_2 5 rfl rfl)
theorem dX3_life_54 : decode cX3_life 54 = .ok (.aload_n 0, 1) := dk_42 (dk_at dksX3_life_2 6 rfl rfl)
theorem dX3_life_55 : decode cX3_life 55 = .ok (.iload_n 3, 1) := dk_29 (dk_at dksX3_life_2 7 rfl rfl)
theorem dX3_life_56 : decode cX3_life 56 = .ok (.ifCond .eq 7, 3) := dk_153 0 7 (dk_at dksX3_life_2 8 rfl rfl)
theorem dX3_life_59 : decode cX3_life 59 = .ok (.iconst 0, 1) := dk_3 (dk_at dksX3_life_2 11 rfl rfl)
theorem dX3_life_60 : decode cX3_life 60 = .ok (.goto 4, 3) := dk_167 0 4 (dk_at dksX3_life_2 12 rfl rfl)
theorem dX3_life_63 : decode cX3_life 63 = .ok (.iconst 3, 1) := dk_6 (dk_at dksX3_life_2 15 rfl rfl)
theorem dX3_life_64 : decode cX3_life 64 = .ok (.putfield 123, 3) := dk_181 0 123 (dk_at dksX3_life_2 16 rfl rfl)
theorem dX3_life_67 : decode cX3_life 67 = .ok (.iload_n 3, 1) := dk_29 (dk_at dksX3_life_2 19 rfl rfl)
theorem dX3_life_68 : decode cX3_life 68 = .ok (.ifCond .eq 14, 3) := dk_153 0 14 (dk_at dksX3_life_2 20 rfl rfl)
theorem dX3_life_71 : decode cX3_life 71 = .ok (.aload_n 0, 1) := dk_42 (dk_at dksX3_life_2 23 rfl rfl)
theorem dX3_life_72 : decode cX3_life 72 = .ok (.getfield 108, 3) := dk_180 0 108 (dk_at dksX3_life_3 0 rfl rfl)
theorem dX3_life_75 : decode cX3_life 75 = .ok (.iload_n 1, 1) := dk_27 (dk_at dksX3_life_3 3 rfl rfl)
theorem dX3_life_76 : decode cX3_life 76 = .ok (.aaload, 1) := dk_50 (dk_at dksX3_life_3 4 rfl rfl)
theorem dX3_life_77 : decode cX3_life 77 = .ok (.iload_n 2, 1) := dk_28 (dk_at dksX3_life_3 5 rfl rfl)
theorem dX3_life_78 : decode cX3_life 78 = .ok (.iaload, 1) := dk_46 (dk_at dksX3_life_3 6 rfl rfl)
theorem dX3_life_79 : decode cX3_life 79 = .ok (.goto 4, 3) := dk_167 0 4 (dk_at dksX3_life_3 7 rfl rfl)
theorem dX3_life_82 : decode cX3_life 82 = .ok (.iconst 0, 1) := dk_3 (dk_at dksX3_life_3 10 rfl rfl)
theorem dX3_life_83 : decode cX3_life 83 = .ok (.ireturn, 1) := dk_172 (dk_at dksX3_life_3 11 rfl rfl)
def dkwX3_raises_0 : List UInt8 := [42, 27, 181, 0, 123, 3, 172]
abbrev dktX3_raises_0 : List UInt8 := dkwX3_raises_0 ++ []
theorem dksX3_raises_0 : cX3_raises.data.toList.drop 0 = dktX3_raises_0 := by decide +kernel
theorem dX3_raises_0 : decode cX3_raises 0 = .ok (.aload_n 0, 1) := dk_42 (dk_at dksX3_raises_0 0 rfl rfl)
theorem dX3_raises_1 : decode cX3_raises 1 = .ok (.iload_n 1, 1) := dk_27 (dk_at dksX3_raises_0 1 rfl rfl)
theorem dX3_raises_2 : decode cX3_raises 2 = .ok (.putfield 123, 3) := dk_181 0 123 (dk_at dksX3_raises_0 2 rfl rfl)
theorem dX3_raises_5 : decode cX3_raises 5 = .ok (.iconst 0, 1) := dk_3 (dk_at dksX3_raises_0 5 rfl rfl)
theorem dX3_raises_6 : decode cX3_raises 6 = .ok (.ireturn, 1) := dk_172 (dk_at dksX3_raises_0 6 rfl rfl)
def dkwX3_inner_1 : List UInt8 := [158, 0, 7, 3, 167, 0, 9, 42, 180, 0, 56, 27, 46, 172]
abbrev dktX3_inner_1 : List UInt8 := dkwX3_inner_1 ++ []
def dkwX3_inner_0 : List UInt8 := [42, 27, 3, 16, 7, 184, 0, 129, 153, 0, 7, 3, 167, 0, 4, 4, 181, 0, 123, 42, 180, 0, 123]
abbrev dktX3_inner_0 : List UInt8 := dkwX3_inner_0 ++ dktX3_inner_1
theorem dksX3_inner_0 : cX3_inner.data.toList.drop 0 = dktX3_inner_0 := by decide +kernel
theorem dksX3_inner_1 : cX3_inner.data.toList.drop 23 = dktX3_inner_1 := dk_seg dksX3_inner_0 23 rfl rfl
theorem dX3_inner_0 : decode cX3_inner 0 = .ok (.aload_n 0, 1) := dk_42 (dk_at dksX3_inner_0 0 rfl rfl)
theorem dX3_inner_1 : decode cX3_inner 1 = .ok (.iload_n 1, 1) := dk_27 (dk_at dksX3_inner_0 1 rfl rfl)
theorem dX3_inner_2 : decode cX3_inner 2 = .ok (.iconst 0, 1) := dk_3 (dk_at dksX3_inner_0 2 rfl rfl)
theorem dX3_inner_3 : decode cX3_inner 3 = .ok (.bipush 7, 2) := dk_16 7 (dk_at dksX3_inner_0 3 rfl rfl)
theorem dX3_inner_5 : decode cX3_inner 5 = .ok (.invokestatic 129, 3) := dk_184 0 129 (dk_at dksX3_inner_0 5 rfl rfl)
theorem dX3_inner_8 : decode cX3_inner 8 = .ok (.ifCond .eq 7, 3) := dk_153 0 7 (dk_at dksX3_inner_0 8 rfl rfl)
theorem dX3_inner_11 : decode cX3_inner 11 = .ok (.iconst 0, 1) := dk_3 (dk_at dksX3_inner_0 11 rfl rfl)
theorem dX3_inner_12 : decode cX3_inner 12 = .ok (.goto 4, 3) := dk_167 0 4 (dk_at dksX3_inner_0 12 rfl rfl)
theorem dX3_inner_15 : decode cX3_inner 15 = .ok (.iconst 1, 1) := dk_4 (dk_at dksX3_inner_0 15 rfl rfl)
theorem dX3_inner_16 : decode cX3_inner 16 = .ok (.putfield 123, 3) := dk_181 0 123 (dk_at dksX3_inner_0 16 rfl rfl)
theorem dX3_inner_19 : decode cX3_inner 19 = .ok (.aload_n 0, 1) := dk_42 (dk_at dksX3_inner_0 19 rfl rfl)
theorem dX3_inner_20 : decode cX3_inner 20 = .ok (.getfield 123, 3) := dk_180 0 123 (dk_at dksX3_inner_0 20 rfl rfl)
theorem dX3_inner_23 : decode cX3_inner 23 = .ok (.ifCond .le 7, 3) := dk_158 0 7 (dk_at dksX3_inner_1 0 rfl rfl)
theorem dX3_inner_26 : decode cX3_inner 26 = .ok (.iconst 0, 1) := dk_3 (dk_at dksX3_inner_1 3 rfl rfl)
theorem dX3_inner_27 : decode cX3_inner 27 = .ok (.goto 9, 3) := dk_167 0 9 (dk_at dksX3_inner_1 4 rfl rfl)
theorem dX3_inner_30 : decode cX3_inner 30 = .ok (.aload_n 0, 1) := dk_42 (dk_at dksX3_inner_1 7 rfl rfl)
theorem dX3_inner_31 : decode cX3_inner 31 = .ok (.getfield 56, 3) := dk_180 0 56 (dk_at dksX3_inner_1 8 rfl rfl)
theorem dX3_inner_34 : decode cX3_inner 34 = .ok (.iload_n 1, 1) := dk_27 (dk_at dksX3_inner_1 11 rfl rfl)
theorem dX3_inner_35 : decode cX3_inner 35 = .ok (.iaload, 1) := dk_46 (dk_at dksX3_inner_1 12 rfl rfl)
theorem dX3_inner_36 : decode cX3_inner 36 = .ok (.ireturn, 1) := dk_172 (dk_at dksX3_inner_1 13 rfl rfl)
def dkwX3_innerAnew_0 : List UInt8 := [42, 27, 182, 1, 103, 172]
abbrev dktX3_innerAnew_0 : List UInt8 := dkwX3_innerAnew_0 ++ []
theorem dksX3_innerAnew_0 : cX3_innerAnew.data.toList.drop 0 = dktX3_innerAnew_0 := by decide +kernel
theorem dX3_innerAnew_0 : decode cX3_innerAnew 0 = .ok (.aload_n 0, 1) := dk_42 (dk_at dksX3_innerAnew_0 0 rfl rfl)
theorem dX3_innerAnew_1 : decode cX3_innerAnew 1 = .ok (.iload_n 1, 1) := dk_27 (dk_at dksX3_innerAnew_0 1 rfl rfl)
theorem dX3_innerAnew_2 : decode cX3_innerAnew 2 = .ok (.invokevirtual 359, 3) := dk_182 1 103 (dk_at dksX3_innerAnew_0 2 rfl rfl)
theorem dX3_innerAnew_5 : decode cX3_innerAnew 5 = .ok (.ireturn, 1) := dk_172 (dk_at dksX3_innerAnew_0 5 rfl rfl)
def dkwX3_stateOf_4 : List UInt8 := [16, 102, 167, 0, 14, 29, 153, 0, 8, 16, 109, 167, 0, 5, 16, 119, 172]
abbrev dktX3_stateOf_4 : List UInt8 := dkwX3_stateOf_4 ++ []
def dkwX3_stateOf_3 : List UInt8 := [21, 4, 46, 27, 160, 0, 7, 4, 167, 0, 4, 3, 62, 132, 4, 1, 167, 255, 225, 28, 153, 0, 8]
abbrev dktX3_stateOf_3 : List UInt8 := dkwX3_stateOf_3 ++ dktX3_stateOf_4
def dkwX3_stateOf_2 : List UInt8 := [132, 4, 1, 167, 255, 223, 3, 54, 4, 21, 4, 16, 8, 162, 0, 30, 29, 154, 0, 14, 42, 180, 0, 56]
abbrev dktX3_stateOf_2 : List UInt8 := dkwX3_stateOf_2 ++ dktX3_stateOf_3
def dkwX3_stateOf_1 : List UInt8 := [162, 0, 30, 28, 154, 0, 14, 42, 180, 0, 69, 21, 4, 46, 27, 160, 0, 7, 4, 167, 0, 4, 3, 61]
abbrev dktX3_stateOf_1 : List UInt8 := dkwX3_stateOf_1 ++ dktX3_stateOf_2
def dkwX3_stateOf_0 : List UInt8 := [42, 27, 182, 1, 106, 153, 0, 6, 16, 32, 172, 3, 61, 3, 62, 3, 54, 4, 21, 4, 42, 180, 0, 126]
abbrev dktX3_stateOf_0 : List UInt8 := dkwX3_stateOf_0 ++ dktX3_stateOf_1
theorem dksX3_stateOf_0 : cX3_stateOf.data.toList.drop 0 = dktX3_stateOf_0 := by decide +kernel
theorem dksX3_stateOf_1 : cX3_stateOf.data.toList.drop 24 = dktX3_stateOf_1 := dk_seg dksX3_stateOf_0 24 rfl rfl
theorem dksX3_stateOf_2 : cX3_stateOf.data.toList.drop 48 = dktX3_stateOf_2 := dk_seg dksX3_stateOf_1 24 rfl rfl
theorem dksX3_stateOf_3 : cX3_stateOf.data.toList.drop 72 = dktX3_stateOf_3 := dk_seg dksX3_stateOf_2 24 rfl rfl
theorem dksX3_stateOf_4 : cX3_stateOf.data.toList.drop 95 = dktX3_stateOf_4 := dk_seg dksX3_stateOf_3 23 rfl rfl
theorem dX3_stateOf_0 : decode cX3_stateOf 0 = .ok (.aload_n 0, 1) := dk_42 (dk_at dksX3_stateOf_0 0 rfl rfl)
theorem dX3_stateOf_1 : decode cX3_stateOf 1 = .ok (.iload_n 1, 1) := dk_27 (dk_at dksX3_stateOf_0 1 rfl rfl)
theorem dX3_stateOf_2 : decode cX3_stateOf 2 = .ok (.invokevirtual 362, 3) := dk_182 1 106 (dk_at dksX3_stateOf_0 2 rfl rfl)
theorem dX3_stateOf_5 : decode cX3_stateOf 5 = .ok (.ifCond .eq 6, 3) := dk_153 0 6 (dk_at dksX3_stateOf_0 5 rfl rfl)
theorem dX3_stateOf_8 : decode cX3_stateOf 8 = .ok (.bipush 32, 2) := dk_16 32 (dk_at dksX3_stateOf_0 8 rfl rfl)
theorem dX3_stateOf_10 : decode cX3_stateOf 10 = .ok (.ireturn, 1) := dk_172 (dk_at dksX3_stateOf_0 10 rfl rfl)
theorem dX3_stateOf_11 : decode cX3_stateOf 11 = .ok (.iconst 0, 1) := dk_3 (dk_at dksX3_stateOf_0 11 rfl rfl)
theorem dX3_stateOf_12 : decode cX3_stateOf 12 = .ok (.istore_n 2, 1) := dk_61 (dk_at dksX3_stateOf_0 12 rfl rfl)
theorem dX3_stateOf_13 : decode cX3_stateOf 13 = .ok (.iconst 0, 1) := dk_3 (dk_at dksX3_stateOf_0 13 rfl rfl)
theorem dX3_stateOf_14 : decode cX3_stateOf 14 = .ok (.istore_n 3, 1) := dk_62 (dk_at dksX3_stateOf_0 14 rfl rfl)
theorem dX3_stateOf_15 : decode cX3_stateOf 15 = .ok (.iconst 0, 1) := dk_3 (dk_at dksX3_stateOf_0 15 rfl rfl)
theorem dX3_stateOf_16 : decode cX3_stateOf 16 = .ok (.istore 4, 2) := dk_54 4 (dk_at dksX3_stateOf_0 16 rfl rfl)
theorem dX3_stateOf_18 : decode cX3_stateOf 18 = .ok (.iload 4, 2) := dk_21 4 (dk_at dksX3_stateOf_0 18 rfl rfl)
theorem dX3_stateOf_20 : decode cX3_stateOf 20 = .ok (.aload_n 0, 1) := dk_42 (dk_at dksX3_stateOf_0 20 rfl rfl)
theorem dX3_stateOf_21 : decode cX3_stateOf 21 = .ok (.getfield 126, 3) := dk_180 0 126 (dk_at dksX3_stateOf_0 21 rfl rfl)
theorem dX3_stateOf_24 : decode cX3_stateOf 24 = .ok (.if_icmp .ge 30, 3) := dk_162 0 30 (dk_at dksX3_stateOf_1 0 rfl rfl)
theorem dX3_stateOf_27 : decode cX3_stateOf 27 = .ok (.iload_n 2, 1) := dk_28 (dk_at dksX3_stateOf_1 3 rfl rfl)
theorem dX3_stateOf_28 : decode cX3_stateOf 28 = .ok (.ifCond .ne 14, 3) := dk_154 0 14 (dk_at dksX3_stateOf_1 4 rfl rfl)
theorem dX3_stateOf_31 : decode cX3_stateOf 31 = .ok (.aload_n 0, 1) := dk_42 (dk_at dksX3_stateOf_1 7 rfl rfl)
theorem dX3_stateOf_32 : decode cX3_stateOf 32 = .ok (.getfield 69, 3) := dk_180 0 69 (dk_at dksX3_stateOf_1 8 rfl rfl)
theorem dX3_stateOf_35 : decode cX3_stateOf 35 = .ok (.iload 4, 2) := dk_21 4 (dk_at dksX3_stateOf_1 11 rfl rfl)
theorem dX3_stateOf_37 : decode cX3_stateOf 37 = .ok (.iaload, 1) := dk_46 (dk_at dksX3_stateOf_1 13 rfl rfl)
theorem dX3_stateOf_38 : decode cX3_stateOf 38 = .ok (.iload_n 1, 1) := dk_27 (dk_at dksX3_stateOf_1 14 rfl rfl)
theorem dX3_stateOf_39 : decode cX3_stateOf 39 = .ok (.if_icmp .ne 7, 3) := dk_160 0 7 (dk_at dksX3_stateOf_1 15 rfl rfl)
theorem dX3_stateOf_42 : decode cX3_stateOf 42 = .ok (.iconst 1, 1) := dk_4 (dk_at dksX3_stateOf_1 18 rfl rfl)
theorem dX3_stateOf_43 : decode cX3_stateOf 43 = .ok (.goto 4, 3) := dk_167 0 4 (dk_at dksX3_stateOf_1 19 rfl rfl)
theorem dX3_stateOf_46 : decode cX3_stateOf 46 = .ok (.iconst 0, 1) := dk_3 (dk_at dksX3_stateOf_1 22 rfl rfl)
theorem dX3_stateOf_47 : decode cX3_stateOf 47 = .ok (.istore_n 2, 1) := dk_61 (dk_at dksX3_stateOf_1 23 rfl rfl)
theorem dX3_stateOf_48 : decode cX3_stateOf 48 = .ok (.iinc 4 1, 3) := dk_132 4 1 (dk_at dksX3_stateOf_2 0 rfl rfl)
theorem dX3_stateOf_51 : decode cX3_stateOf 51 = .ok (.goto (-33), 3) := dk_167 255 223 (dk_at dksX3_stateOf_2 3 rfl rfl)
theorem dX3_stateOf_54 : decode cX3_stateOf 54 = .ok (.iconst 0, 1) := dk_3 (dk_at dksX3_stateOf_2 6 rfl rfl)
theorem dX3_stateOf_55 : decode cX3_stateOf 55 = .ok (.istore 4, 2) := dk_54 4 (dk_at dksX3_stateOf_2 7 rfl rfl)
theorem dX3_stateOf_57 : decode cX3_stateOf 57 = .ok (.iload 4, 2) := dk_21 4 (dk_at dksX3_stateOf_2 9 rfl rfl)
theorem dX3_stateOf_59 : decode cX3_stateOf 59 = .ok (.bipush 8, 2) := dk_16 8 (dk_at dksX3_stateOf_2 11 rfl rfl)
theorem dX3_stateOf_61 : decode cX3_stateOf 61 = .ok (.if_icmp .ge 30, 3) := dk_162 0 30 (dk_at dksX3_stateOf_2 13 rfl rfl)
theorem dX3_stateOf_64 : decode cX3_stateOf 64 = .ok (.iload_n 3, 1) := dk_29 (dk_at dksX3_stateOf_2 16 rfl rfl)
theorem dX3_stateOf_65 : decode cX3_stateOf 65 = .ok (.ifCond .ne 14, 3) := dk_154 0 14 (dk_at dksX3_stateOf_2 17 rfl rfl)
theorem dX3_stateOf_68 : decode cX3_stateOf 68 = .ok (.aload_n 0, 1) := dk_42 (dk_at dksX3_stateOf_2 20 rfl rfl)
theorem dX3_stateOf_69 : decode cX3_stateOf 69 = .ok (.getfield 56, 3) := dk_180 0 56 (dk_at dksX3_stateOf_2 21 rfl rfl)
theorem dX3_stateOf_72 : decode cX3_stateOf 72 = .ok (.iload 4, 2) := dk_21 4 (dk_at dksX3_stateOf_3 0 rfl rfl)
theorem dX3_stateOf_74 : decode cX3_stateOf 74 = .ok (.iaload, 1) := dk_46 (dk_at dksX3_stateOf_3 2 rfl rfl)
theorem dX3_stateOf_75 : decode cX3_stateOf 75 = .ok (.iload_n 1, 1) := dk_27 (dk_at dksX3_stateOf_3 3 rfl rfl)
theorem dX3_stateOf_76 : decode cX3_stateOf 76 = .ok (.if_icmp .ne 7, 3) := dk_160 0 7 (dk_at dksX3_stateOf_3 4 rfl rfl)
theorem dX3_stateOf_79 : decode cX3_stateOf 79 = .ok (.iconst 1, 1) := dk_4 (dk_at dksX3_stateOf_3 7 rfl rfl)
theorem dX3_stateOf_80 : decode cX3_stateOf 80 = .ok (.goto 4, 3) := dk_167 0 4 (dk_at dksX3_stateOf_3 8 rfl rfl)
theorem dX3_stateOf_83 : decode cX3_stateOf 83 = .ok (.iconst 0, 1) := dk_3 (dk_at dksX3_stateOf_3 11 rfl rfl)
theorem dX3_stateOf_84 : decode cX3_stateOf 84 = .ok (.istore_n 3, 1) := dk_62 (dk_at dksX3_stateOf_3 12 rfl rfl)
theorem dX3_stateOf_85 : decode cX3_stateOf 85 = .ok (.iinc 4 1, 3) := dk_132 4 1 (dk_at dksX3_stateOf_3 13 rfl rfl)
theorem dX3_stateOf_88 : decode cX3_stateOf 88 = .ok (.goto (-31), 3) := dk_167 255 225 (dk_at dksX3_stateOf_3 16 rfl rfl)
theorem dX3_stateOf_91 : decode cX3_stateOf 91 = .ok (.iload_n 2, 1) := dk_28 (dk_at dksX3_stateOf_3 19 rfl rfl)
theorem dX3_stateOf_92 : decode cX3_stateOf 92 = .ok (.ifCond .eq 8, 3) := dk_153 0 8 (dk_at dksX3_stateOf_3 20 rfl rfl)
theorem dX3_stateOf_95 : decode cX3_stateOf 95 = .ok (.bipush 102, 2) := dk_16 102 (dk_at dksX3_stateOf_4 0 rfl rfl)
theorem dX3_stateOf_97 : decode cX3_stateOf 97 = .ok (.goto 14, 3) := dk_167 0 14 (dk_at dksX3_stateOf_4 2 rfl rfl)
theorem dX3_stateOf_100 : decode cX3_stateOf 100 = .ok (.iload_n 3, 1) := dk_29 (dk_at dksX3_stateOf_4 5 rfl rfl)
theorem dX3_stateOf_101 : decode cX3_stateOf 101 = .ok (.ifCond .eq 8, 3) := dk_153 0 8 (dk_at dksX3_stateOf_4 6 rfl rfl)
theorem dX3_stateOf_104 : decode cX3_stateOf 104 = .ok (.bipush 109, 2) := dk_16 109 (dk_at dksX3_stateOf_4 9 rfl rfl)
theorem dX3_stateOf_106 : decode cX3_stateOf 106 = .ok (.goto 5, 3) := dk_167 0 5 (dk_at dksX3_stateOf_4 11 rfl rfl)
theorem dX3_stateOf_109 : decode cX3_stateOf 109 = .ok (.bipush 119, 2) := dk_16 119 (dk_at dksX3_stateOf_4 14 rfl rfl)
theorem dX3_stateOf_111 : decode cX3_stateOf 111 = .ok (.ireturn, 1) := dk_172 (dk_at dksX3_stateOf_4 16 rfl rfl)
def dkwX3_noInner_1 : List UInt8 := [180, 0, 123, 158, 0, 7, 4, 167, 0, 4, 3, 172]
abbrev dktX3_noInner_1 : List UInt8 := dkwX3_noInner_1 ++ []
def dkwX3_noInner_0 : List UInt8 := [42, 27, 3, 42, 180, 0, 35, 4, 100, 184, 0, 129, 153, 0, 7, 3, 167, 0, 4, 4, 181, 0, 123, 42]
abbrev dktX3_noInner_0 : List UInt8 := dkwX3_noInner_0 ++ dktX3_noInner_1
theorem dksX3_noInner_0 : cX3_noInner.data.toList.drop 0 = dktX3_noInner_0 := by decide +kernel
theorem dksX3_noInner_1 : cX3_noInner.data.toList.drop 24 = dktX3_noInner_1 := dk_seg dksX3_noInner_0 24 rfl rfl
theorem dX3_noInner_0 : decode cX3_noInner 0 = .ok (.aload_n 0, 1) := dk_42 (dk_at dksX3_noInner_0 0 rfl rfl)
theorem dX3_noInner_1 : decode cX3_noInner 1 = .ok (.iload_n 1, 1) := dk_27 (dk_at dksX3_noInner_0 1 rfl rfl)
theorem dX3_noInner_2 : decode cX3_noInner 2 = .ok (.iconst 0, 1) := dk_3 (dk_at dksX3_noInner_0 2 rfl rfl)
theorem dX3_noInner_3 : decode cX3_noInner 3 = .ok (.aload_n 0, 1) := dk_42 (dk_at dksX3_noInner_0 3 rfl rfl)
theorem dX3_noInner_4 : decode cX3_noInner 4 = .ok (.getfield 35, 3) := dk_180 0 35 (dk_at dksX3_noInner_0 4 rfl rfl)
theorem dX3_noInner_7 : decode cX3_noInner 7 = .ok (.iconst 1, 1) := dk_4 (dk_at dksX3_noInner_0 7 rfl rfl)
theorem dX3_noInner_8 : decode cX3_noInner 8 = .ok (.isub, 1) := dk_100 (dk_at dksX3_noInner_0 8 rfl rfl)
theorem dX3_noInner_9 : decode cX3_noInner 9 = .ok (.invokestatic 129, 3) := dk_184 0 129 (dk_at dksX3_noInner_0 9 rfl rfl)
theorem dX3_noInner_12 : decode cX3_noInner 12 = .ok (.ifCond .eq 7, 3) := dk_153 0 7 (dk_at dksX3_noInner_0 12 rfl rfl)
theorem dX3_noInner_15 : decode cX3_noInner 15 = .ok (.iconst 0, 1) := dk_3 (dk_at dksX3_noInner_0 15 rfl rfl)
theorem dX3_noInner_16 : decode cX3_noInner 16 = .ok (.goto 4, 3) := dk_167 0 4 (dk_at dksX3_noInner_0 16 rfl rfl)
theorem dX3_noInner_19 : decode cX3_noInner 19 = .ok (.iconst 1, 1) := dk_4 (dk_at dksX3_noInner_0 19 rfl rfl)
theorem dX3_noInner_20 : decode cX3_noInner 20 = .ok (.putfield 123, 3) := dk_181 0 123 (dk_at dksX3_noInner_0 20 rfl rfl)
theorem dX3_noInner_23 : decode cX3_noInner 23 = .ok (.aload_n 0, 1) := dk_42 (dk_at dksX3_noInner_0 23 rfl rfl)
theorem dX3_noInner_24 : decode cX3_noInner 24 = .ok (.getfield 123, 3) := dk_180 0 123 (dk_at dksX3_noInner_1 0 rfl rfl)
theorem dX3_noInner_27 : decode cX3_noInner 27 = .ok (.ifCond .le 7, 3) := dk_158 0 7 (dk_at dksX3_noInner_1 3 rfl rfl)
theorem dX3_noInner_30 : decode cX3_noInner 30 = .ok (.iconst 1, 1) := dk_4 (dk_at dksX3_noInner_1 6 rfl rfl)
theorem dX3_noInner_31 : decode cX3_noInner 31 = .ok (.goto 4, 3) := dk_167 0 4 (dk_at dksX3_noInner_1 7 rfl rfl)
theorem dX3_noInner_34 : decode cX3_noInner 34 = .ok (.iconst 0, 1) := dk_3 (dk_at dksX3_noInner_1 10 rfl rfl)
theorem dX3_noInner_35 : decode cX3_noInner 35 = .ok (.ireturn, 1) := dk_172 (dk_at dksX3_noInner_1 11 rfl rfl)
def dkwX3_isReady_0 : List UInt8 := [42, 27, 182, 1, 106, 154, 0, 16, 42, 180, 0, 65, 27, 51, 153, 0, 7, 4, 167, 0, 4, 3, 172]
abbrev dktX3_isReady_0 : List UInt8 := dkwX3_isReady_0 ++ []
theorem dksX3_isReady_0 : cX3_isReady.data.toList.drop 0 = dktX3_isReady_0 := by decide +kernel
theorem dX3_isReady_0 : decode cX3_isReady 0 = .ok (.aload_n 0, 1) := dk_42 (dk_at dksX3_isReady_0 0 rfl rfl)
theorem dX3_isReady_1 : decode cX3_isReady 1 = .ok (.iload_n 1, 1) := dk_27 (dk_at dksX3_isReady_0 1 rfl rfl)
theorem dX3_isReady_2 : decode cX3_isReady 2 = .ok (.invokevirtual 362, 3) := dk_182 1 106 (dk_at dksX3_isReady_0 2 rfl rfl)
theorem dX3_isReady_5 : decode cX3_isReady 5 = .ok (.ifCond .ne 16, 3) := dk_154 0 16 (dk_at dksX3_isReady_0 5 rfl rfl)
theorem dX3_isReady_8 : decode cX3_isReady 8 = .ok (.aload_n 0, 1) := dk_42 (dk_at dksX3_isReady_0 8 rfl rfl)
theorem dX3_isReady_9 : decode cX3_isReady 9 = .ok (.getfield 65, 3) := dk_180 0 65 (dk_at dksX3_isReady_0 9 rfl rfl)
theorem dX3_isReady_12 : decode cX3_isReady 12 = .ok (.iload_n 1, 1) := dk_27 (dk_at dksX3_isReady_0 12 rfl rfl)
theorem dX3_isReady_13 : decode cX3_isReady 13 = .ok (.baload, 1) := dk_51 (dk_at dksX3_isReady_0 13 rfl rfl)
theorem dX3_isReady_14 : decode cX3_isReady 14 = .ok (.ifCond .eq 7, 3) := dk_153 0 7 (dk_at dksX3_isReady_0 14 rfl rfl)
theorem dX3_isReady_17 : decode cX3_isReady 17 = .ok (.iconst 1, 1) := dk_4 (dk_at dksX3_isReady_0 17 rfl rfl)
theorem dX3_isReady_18 : decode cX3_isReady 18 = .ok (.goto 4, 3) := dk_167 0 4 (dk_at dksX3_isReady_0 18 rfl rfl)
theorem dX3_isReady_21 : decode cX3_isReady 21 = .ok (.iconst 0, 1) := dk_3 (dk_at dksX3_isReady_0 21 rfl rfl)
theorem dX3_isReady_22 : decode cX3_isReady 22 = .ok (.ireturn, 1) := dk_172 (dk_at dksX3_isReady_0 22 rfl rfl)
def dkwX3_free_0 : List UInt8 := [42, 3, 181, 0, 123, 42, 180, 0, 126, 172]
abbrev dktX3_free_0 : List UInt8 := dkwX3_free_0 ++ []
theorem dksX3_free_0 : cX3_free.data.toList.drop 0 = dktX3_free_0 := by decide +kernel
theorem dX3_free_0 : decode cX3_free 0 = .ok (.aload_n 0, 1) := dk_42 (dk_at dksX3_free_0 0 rfl rfl)
theorem dX3_free_1 : decode cX3_free 1 = .ok (.iconst 0, 1) := dk_3 (dk_at dksX3_free_0 1 rfl rfl)
theorem dX3_free_2 : decode cX3_free 2 = .ok (.putfield 123, 3) := dk_181 0 123 (dk_at dksX3_free_0 2 rfl rfl)
theorem dX3_free_5 : decode cX3_free 5 = .ok (.aload_n 0, 1) := dk_42 (dk_at dksX3_free_0 5 rfl rfl)
theorem dX3_free_6 : decode cX3_free 6 = .ok (.getfield 126, 3) := dk_180 0 126 (dk_at dksX3_free_0 6 rfl rfl)
theorem dX3_free_9 : decode cX3_free 9 = .ok (.ireturn, 1) := dk_172 (dk_at dksX3_free_0 9 rfl rfl)
def dkwX3_freeAt_1 : List UInt8 := [180, 0, 123, 158, 0, 7, 3, 167, 0, 9, 42, 180, 0, 69, 27, 46, 172]
abbrev dktX3_freeAt_1 : List UInt8 := dkwX3_freeAt_1 ++ []
def dkwX3_freeAt_0 : List UInt8 := [42, 27, 3, 42, 180, 0, 126, 4, 100, 184, 0, 129, 153, 0, 7, 3, 167, 0, 4, 4, 181, 0, 123, 42]
abbrev dktX3_freeAt_0 : List UInt8 := dkwX3_freeAt_0 ++ dktX3_freeAt_1
theorem dksX3_freeAt_0 : cX3_freeAt.data.toList.drop 0 = dktX3_freeAt_0 := by decide +kernel
theorem dksX3_freeAt_1 : cX3_freeAt.data.toList.drop 24 = dktX3_freeAt_1 := dk_seg dksX3_freeAt_0 24 rfl rfl
theorem dX3_freeAt_0 : decode cX3_freeAt 0 = .ok (.aload_n 0, 1) := dk_42 (dk_at dksX3_freeAt_0 0 rfl rfl)
theorem dX3_freeAt_1 : decode cX3_freeAt 1 = .ok (.iload_n 1, 1) := dk_27 (dk_at dksX3_freeAt_0 1 rfl rfl)
theorem dX3_freeAt_2 : decode cX3_freeAt 2 = .ok (.iconst 0, 1) := dk_3 (dk_at dksX3_freeAt_0 2 rfl rfl)
theorem dX3_freeAt_3 : decode cX3_freeAt 3 = .ok (.aload_n 0, 1) := dk_42 (dk_at dksX3_freeAt_0 3 rfl rfl)
theorem dX3_freeAt_4 : decode cX3_freeAt 4 = .ok (.getfield 126, 3) := dk_180 0 126 (dk_at dksX3_freeAt_0 4 rfl rfl)
theorem dX3_freeAt_7 : decode cX3_freeAt 7 = .ok (.iconst 1, 1) := dk_4 (dk_at dksX3_freeAt_0 7 rfl rfl)
theorem dX3_freeAt_8 : decode cX3_freeAt 8 = .ok (.isub, 1) := dk_100 (dk_at dksX3_freeAt_0 8 rfl rfl)
theorem dX3_freeAt_9 : decode cX3_freeAt 9 = .ok (.invokestatic 129, 3) := dk_184 0 129 (dk_at dksX3_freeAt_0 9 rfl rfl)
theorem dX3_freeAt_12 : decode cX3_freeAt 12 = .ok (.ifCond .eq 7, 3) := dk_153 0 7 (dk_at dksX3_freeAt_0 12 rfl rfl)
theorem dX3_freeAt_15 : decode cX3_freeAt 15 = .ok (.iconst 0, 1) := dk_3 (dk_at dksX3_freeAt_0 15 rfl rfl)
theorem dX3_freeAt_16 : decode cX3_freeAt 16 = .ok (.goto 4, 3) := dk_167 0 4 (dk_at dksX3_freeAt_0 16 rfl rfl)
theorem dX3_freeAt_19 : decode cX3_freeAt 19 = .ok (.iconst 1, 1) := dk_4 (dk_at dksX3_freeAt_0 19 rfl rfl)
theorem dX3_freeAt_20 : decode cX3_freeAt 20 = .ok (.putfield 123, 3) := dk_181 0 123 (dk_at dksX3_freeAt_0 20 rfl rfl)
theorem dX3_freeAt_23 : decode cX3_freeAt 23 = .ok (.aload_n 0, 1) := dk_42 (dk_at dksX3_freeAt_0 23 rfl rfl)
theorem dX3_freeAt_24 : decode cX3_freeAt 24 = .ok (.getfield 123, 3) := dk_180 0 123 (dk_at dksX3_freeAt_1 0 rfl rfl)
theorem dX3_freeAt_27 : decode cX3_freeAt 27 = .ok (.ifCond .le 7, 3) := dk_158 0 7 (dk_at dksX3_freeAt_1 3 rfl rfl)
theorem dX3_freeAt_30 : decode cX3_freeAt 30 = .ok (.iconst 0, 1) := dk_3 (dk_at dksX3_freeAt_1 6 rfl rfl)
theorem dX3_freeAt_31 : decode cX3_freeAt 31 = .ok (.goto 9, 3) := dk_167 0 9 (dk_at dksX3_freeAt_1 7 rfl rfl)
theorem dX3_freeAt_34 : decode cX3_freeAt 34 = .ok (.aload_n 0, 1) := dk_42 (dk_at dksX3_freeAt_1 10 rfl rfl)
theorem dX3_freeAt_35 : decode cX3_freeAt 35 = .ok (.getfield 69, 3) := dk_180 0 69 (dk_at dksX3_freeAt_1 11 rfl rfl)
theorem dX3_freeAt_38 : decode cX3_freeAt 38 = .ok (.iload_n 1, 1) := dk_27 (dk_at dksX3_freeAt_1 14 rfl rfl)
theorem dX3_freeAt_39 : decode cX3_freeAt 39 = .ok (.iaload, 1) := dk_46 (dk_at dksX3_freeAt_1 15 rfl rfl)
theorem dX3_freeAt_40 : decode cX3_freeAt 40 = .ok (.ireturn, 1) := dk_172 (dk_at dksX3_freeAt_1 16 rfl rfl)
def dkwX3_inBuffer_0 : List UInt8 := [42, 3, 181, 0, 123, 42, 180, 0, 198, 172]
abbrev dktX3_inBuffer_0 : List UInt8 := dkwX3_inBuffer_0 ++ []
theorem dksX3_inBuffer_0 : cX3_inBuffer.data.toList.drop 0 = dktX3_inBuffer_0 := by decide +kernel
theorem dX3_inBuffer_0 : decode cX3_inBuffer 0 = .ok (.aload_n 0, 1) := dk_42 (dk_at dksX3_inBuffer_0 0 rfl rfl)
theorem dX3_inBuffer_1 : decode cX3_inBuffer 1 = .ok (.iconst 0, 1) := dk_3 (dk_at dksX3_inBuffer_0 1 rfl rfl)
theorem dX3_inBuffer_2 : decode cX3_inBuffer 2 = .ok (.putfield 123, 3) := dk_181 0 123 (dk_at dksX3_inBuffer_0 2 rfl rfl)
theorem dX3_inBuffer_5 : decode cX3_inBuffer 5 = .ok (.aload_n 0, 1) := dk_42 (dk_at dksX3_inBuffer_0 5 rfl rfl)
theorem dX3_inBuffer_6 : decode cX3_inBuffer 6 = .ok (.getfield 198, 3) := dk_180 0 198 (dk_at dksX3_inBuffer_0 6 rfl rfl)
theorem dX3_inBuffer_9 : decode cX3_inBuffer 9 = .ok (.ireturn, 1) := dk_172 (dk_at dksX3_inBuffer_0 9 rfl rfl)
def dkwX3_bufferAt_1 : List UInt8 := [180, 0, 123, 158, 0, 7, 3, 167, 0, 11, 42, 180, 0, 74, 27, 50, 3, 46, 172]
abbrev dktX3_bufferAt_1 : List UInt8 := dkwX3_bufferAt_1 ++ []
def dkwX3_bufferAt_0 : List UInt8 := [42, 27, 3, 42, 180, 0, 198, 4, 100, 184, 0, 129, 153, 0, 7, 3, 167, 0, 4, 4, 181, 0, 123, 42]
abbrev dktX3_bufferAt_0 : List UInt8 := dkwX3_bufferAt_0 ++ dktX3_bufferAt_1
theorem dksX3_bufferAt_0 : cX3_bufferAt.data.toList.drop 0 = dktX3_bufferAt_0 := by decide +kernel
theorem dksX3_bufferAt_1 : cX3_bufferAt.data.toList.drop 24 = dktX3_bufferAt_1 := dk_seg dksX3_bufferAt_0 24 rfl rfl
theorem dX3_bufferAt_0 : decode cX3_bufferAt 0 = .ok (.aload_n 0, 1) := dk_42 (dk_at dksX3_bufferAt_0 0 rfl rfl)
theorem dX3_bufferAt_1 : decode cX3_bufferAt 1 = .ok (.iload_n 1, 1) := dk_27 (dk_at dksX3_bufferAt_0 1 rfl rfl)
theorem dX3_bufferAt_2 : decode cX3_bufferAt 2 = .ok (.iconst 0, 1) := dk_3 (dk_at dksX3_bufferAt_0 2 rfl rfl)
theorem dX3_bufferAt_3 : decode cX3_bufferAt 3 = .ok (.aload_n 0, 1) := dk_42 (dk_at dksX3_bufferAt_0 3 rfl rfl)
theorem dX3_bufferAt_4 : decode cX3_bufferAt 4 = .ok (.getfield 198, 3) := dk_180 0 198 (dk_at dksX3_bufferAt_0 4 rfl rfl)
theorem dX3_bufferAt_7 : decode cX3_bufferAt 7 = .ok (.iconst 1, 1) := dk_4 (dk_at dksX3_bufferAt_0 7 rfl rfl)
theorem dX3_bufferAt_8 : decode cX3_bufferAt 8 = .ok (.isub, 1) := dk_100 (dk_at dksX3_bufferAt_0 8 rfl rfl)
theorem dX3_bufferAt_9 : decode cX3_bufferAt 9 = .ok (.invokestatic 129, 3) := dk_184 0 129 (dk_at dksX3_bufferAt_0 9 rfl rfl)
theorem dX3_bufferAt_12 : decode cX3_bufferAt 12 = .ok (.ifCond .eq 7, 3) := dk_153 0 7 (dk_at dksX3_bufferAt_0 12 rfl rfl)
theorem dX3_bufferAt_15 : decode cX3_bufferAt 15 = .ok (.iconst 0, 1) := dk_3 (dk_at dksX3_bufferAt_0 15 rfl rfl)
theorem dX3_bufferAt_16 : decode cX3_bufferAt 16 = .ok (.goto 4, 3) := dk_167 0 4 (dk_at dksX3_bufferAt_0 16 rfl rfl)
theorem dX3_bufferAt_19 : decode cX3_bufferAt 19 = .ok (.iconst 1, 1) := dk_4 (dk_at dksX3_bufferAt_0 19 rfl rfl)
theorem dX3_bufferAt_20 : decode cX3_bufferAt 20 = .ok (.putfield 123, 3) := dk_181 0 123 (dk_at dksX3_bufferAt_0 20 rfl rfl)
theorem dX3_bufferAt_23 : decode cX3_bufferAt 23 = .ok (.aload_n 0, 1) := dk_42 (dk_at dksX3_bufferAt_0 23 rfl rfl)
theorem dX3_bufferAt_24 : decode cX3_bufferAt 24 = .ok (.getfield 123, 3) := dk_180 0 123 (dk_at dksX3_bufferAt_1 0 rfl rfl)
theorem dX3_bufferAt_27 : decode cX3_bufferAt 27 = .ok (.ifCond .le 7, 3) := dk_158 0 7 (dk_at dksX3_bufferAt_1 3 rfl rfl)
theorem dX3_bufferAt_30 : decode cX3_bufferAt 30 = .ok (.iconst 0, 1) := dk_3 (dk_at dksX3_bufferAt_1 6 rfl rfl)
theorem dX3_bufferAt_31 : decode cX3_bufferAt 31 = .ok (.goto 11, 3) := dk_167 0 11 (dk_at dksX3_bufferAt_1 7 rfl rfl)
theorem dX3_bufferAt_34 : decode cX3_bufferAt 34 = .ok (.aload_n 0, 1) := dk_42 (dk_at dksX3_bufferAt_1 10 rfl rfl)
theorem dX3_bufferAt_35 : decode cX3_bufferAt 35 = .ok (.getfield 74, 3) := dk_180 0 74 (dk_at dksX3_bufferAt_1 11 rfl rfl)
theorem dX3_bufferAt_38 : decode cX3_bufferAt 38 = .ok (.iload_n 1, 1) := dk_27 (dk_at dksX3_bufferAt_1 14 rfl rfl)
theorem dX3_bufferAt_39 : decode cX3_bufferAt 39 = .ok (.aaload, 1) := dk_50 (dk_at dksX3_bufferAt_1 15 rfl rfl)
theorem dX3_bufferAt_40 : decode cX3_bufferAt 40 = .ok (.iconst 0, 1) := dk_3 (dk_at dksX3_bufferAt_1 16 rfl rfl)
theorem dX3_bufferAt_41 : decode cX3_bufferAt 41 = .ok (.iaload, 1) := dk_46 (dk_at dksX3_bufferAt_1 17 rfl rfl)
theorem dX3_bufferAt_42 : decode cX3_bufferAt 42 = .ok (.ireturn, 1) := dk_172 (dk_at dksX3_bufferAt_1 18 rfl rfl)
def dkwX3_stageAt_1 : List UInt8 := [180, 0, 123, 158, 0, 8, 16, 32, 167, 0, 13, 42, 180, 0, 74, 27, 50, 16, 11, 46, 146, 172]
abbrev dktX3_stageAt_1 : List UInt8 := dkwX3_stageAt_1 ++ []
def dkwX3_stageAt_0 : List UInt8 := [42, 27, 3, 42, 180, 0, 198, 4, 100, 184, 0, 129, 153, 0, 7, 3, 167, 0, 4, 4, 181, 0, 123, 42]
abbrev dktX3_stageAt_0 : List UInt8 := dkwX3_stageAt_0 ++ dktX3_stageAt_1
theorem dksX3_stageAt_0 : cX3_stageAt.data.toList.drop 0 = dktX3_stageAt_0 := by decide +kernel
theorem dksX3_stageAt_1 : cX3_stageAt.data.toList.drop 24 = dktX3_stageAt_1 := dk_seg dksX3_stageAt_0 24 rfl rfl
theorem dX3_stageAt_0 : decode cX3_stageAt 0 = .ok (.aload_n 0, 1) := dk_42 (dk_at dksX3_stageAt_0 0 rfl rfl)
theorem dX3_stageAt_1 : decode cX3_stageAt 1 = .ok (.iload_n 1, 1) := dk_27 (dk_at dksX3_stageAt_0 1 rfl rfl)
theorem dX3_stageAt_2 : decode cX3_stageAt 2 = .ok (.iconst 0, 1) := dk_3 (dk_at dksX3_stageAt_0 2 rfl rfl)
theorem dX3_stageAt_3 : decode cX3_stageAt 3 = .ok (.aload_n 0, 1) := dk_42 (dk_at dksX3_stageAt_0 3 rfl rfl)
theorem dX3_stageAt_4 : decode cX3_stageAt 4 = .ok (.getfield 198, 3) := dk_180 0 198 (dk_at dksX3_stageAt_0 4 rfl rfl)
theorem dX3_stageAt_7 : decode cX3_stageAt 7 = .ok (.iconst 1, 1) := dk_4 (dk_at dksX3_stageAt_0 7 rfl rfl)
theorem dX3_stageAt_8 : decode cX3_stageAt 8 = .ok (.isub, 1) := dk_100 (dk_at dksX3_stageAt_0 8 rfl rfl)
theorem dX3_stageAt_9 : decode cX3_stageAt 9 = .ok (.invokestatic 129, 3) := dk_184 0 129 (dk_at dksX3_stageAt_0 9 rfl rfl)
theorem dX3_stageAt_12 : decode cX3_stageAt 12 = .ok (.ifCond .eq 7, 3) := dk_153 0 7 (dk_at dksX3_stageAt_0 12 rfl rfl)
theorem dX3_stageAt_15 : decode cX3_stageAt 15 = .ok (.iconst 0, 1) := dk_3 (dk_at dksX3_stageAt_0 15 rfl rfl)
theorem dX3_stageAt_16 : decode cX3_stageAt 16 = .ok (.goto 4, 3) := dk_167 0 4 (dk_at dksX3_stageAt_0 16 rfl rfl)
theorem dX3_stageAt_19 : decode cX3_stageAt 19 = .ok (.iconst 1, 1) := dk_4 (dk_at dksX3_stageAt_0 19 rfl rfl)
theorem dX3_stageAt_20 : decode cX3_stageAt 20 = .ok (.putfield 123, 3) := dk_181 0 123 (dk_at dksX3_stageAt_0 20 rfl rfl)
theorem dX3_stageAt_23 : decode cX3_stageAt 23 = .ok (.aload_n 0, 1) := dk_42 (dk_at dksX3_stageAt_0 23 rfl rfl)
theorem dX3_stageAt_24 : decode cX3_stageAt 24 = .ok (.getfield 123, 3) := dk_180 0 123 (dk_at dksX3_stageAt_1 0 rfl rfl)
theorem dX3_stageAt_27 : decode cX3_stageAt 27 = .ok (.ifCond .le 8, 3) := dk_158 0 8 (dk_at dksX3_stageAt_1 3 rfl rfl)
theorem dX3_stageAt_30 : decode cX3_stageAt 30 = .ok (.bipush 32, 2) := dk_16 32 (dk_at dksX3_stageAt_1 6 rfl rfl)
theorem dX3_stageAt_32 : decode cX3_stageAt 32 = .ok (.goto 13, 3) := dk_167 0 13 (dk_at dksX3_stageAt_1 8 rfl rfl)
theorem dX3_stageAt_35 : decode cX3_stageAt 35 = .ok (.aload_n 0, 1) := dk_42 (dk_at dksX3_stageAt_1 11 rfl rfl)
theorem dX3_stageAt_36 : decode cX3_stageAt 36 = .ok (.getfield 74, 3) := dk_180 0 74 (dk_at dksX3_stageAt_1 12 rfl rfl)
theorem dX3_stageAt_39 : decode cX3_stageAt 39 = .ok (.iload_n 1, 1) := dk_27 (dk_at dksX3_stageAt_1 15 rfl rfl)
theorem dX3_stageAt_40 : decode cX3_stageAt 40 = .ok (.aaload, 1) := dk_50 (dk_at dksX3_stageAt_1 16 rfl rfl)
theorem dX3_stageAt_41 : decode cX3_stageAt 41 = .ok (.bipush 11, 2) := dk_16 11 (dk_at dksX3_stageAt_1 17 rfl rfl)
theorem dX3_stageAt_43 : decode cX3_stageAt 43 = .ok (.iaload, 1) := dk_46 (dk_at dksX3_stageAt_1 19 rfl rfl)
theorem dX3_stageAt_44 : decode cX3_stageAt 44 = .ok (.i2c, 1) := dk_146 (dk_at dksX3_stageAt_1 20 rfl rfl)
theorem dX3_stageAt_45 : decode cX3_stageAt 45 = .ok (.ireturn, 1) := dk_172 (dk_at dksX3_stageAt_1 21 rfl rfl)
def dkwX3_inQueue_0 : List UInt8 := [42, 3, 181, 0, 123, 42, 182, 0, 215, 172]
abbrev dktX3_inQueue_0 : List UInt8 := dkwX3_inQueue_0 ++ []
theorem dksX3_inQueue_0 : cX3_inQueue.data.toList.drop 0 = dktX3_inQueue_0 := by decide +kernel
theorem dX3_inQueue_0 : decode cX3_inQueue 0 = .ok (.aload_n 0, 1) := dk_42 (dk_at dksX3_inQueue_0 0 rfl rfl)
theorem dX3_inQueue_1 : decode cX3_inQueue 1 = .ok (.iconst 0, 1) := dk_3 (dk_at dksX3_inQueue_0 1 rfl rfl)
theorem dX3_inQueue_2 : decode cX3_inQueue 2 = .ok (.putfield 123, 3) := dk_181 0 123 (dk_at dksX3_inQueue_0 2 rfl rfl)
theorem dX3_inQueue_5 : decode cX3_inQueue 5 = .ok (.aload_n 0, 1) := dk_42 (dk_at dksX3_inQueue_0 5 rfl rfl)
theorem dX3_inQueue_6 : decode cX3_inQueue 6 = .ok (.invokevirtual 215, 3) := dk_182 0 215 (dk_at dksX3_inQueue_0 6 rfl rfl)
theorem dX3_inQueue_9 : decode cX3_inQueue 9 = .ok (.ireturn, 1) := dk_172 (dk_at dksX3_inQueue_0 9 rfl rfl)
def dkwX3_fetched_0 : List UInt8 := [42, 3, 181, 0, 123, 42, 180, 0, 177, 172]
abbrev dktX3_fetched_0 : List UInt8 := dkwX3_fetched_0 ++ []
theorem dksX3_fetched_0 : cX3_fetched.data.toList.drop 0 = dktX3_fetched_0 := by decide +kernel
theorem dX3_fetched_0 : decode cX3_fetched 0 = .ok (.aload_n 0, 1) := dk_42 (dk_at dksX3_fetched_0 0 rfl rfl)
theorem dX3_fetched_1 : decode cX3_fetched 1 = .ok (.iconst 0, 1) := dk_3 (dk_at dksX3_fetched_0 1 rfl rfl)
theorem dX3_fetched_2 : decode cX3_fetched 2 = .ok (.putfield 123, 3) := dk_181 0 123 (dk_at dksX3_fetched_0 2 rfl rfl)
theorem dX3_fetched_5 : decode cX3_fetched 5 = .ok (.aload_n 0, 1) := dk_42 (dk_at dksX3_fetched_0 5 rfl rfl)
theorem dX3_fetched_6 : decode cX3_fetched 6 = .ok (.getfield 177, 3) := dk_180 0 177 (dk_at dksX3_fetched_0 6 rfl rfl)
theorem dX3_fetched_9 : decode cX3_fetched 9 = .ok (.ireturn, 1) := dk_172 (dk_at dksX3_fetched_0 9 rfl rfl)
def dkwX3_fetching_1 : List UInt8 := [167, 0, 7, 42, 180, 0, 180, 172]
abbrev dktX3_fetching_1 : List UInt8 := dkwX3_fetching_1 ++ []
def dkwX3_fetching_0 : List UInt8 := [42, 42, 180, 0, 174, 153, 0, 7, 4, 167, 0, 4, 3, 181, 0, 123, 42, 180, 0, 123, 158, 0, 7, 3]
abbrev dktX3_fetching_0 : List UInt8 := dkwX3_fetching_0 ++ dktX3_fetching_1
theorem dksX3_fetching_0 : cX3_fetching.data.toList.drop 0 = dktX3_fetching_0 := by decide +kernel
theorem dksX3_fetching_1 : cX3_fetching.data.toList.drop 24 = dktX3_fetching_1 := dk_seg dksX3_fetching_0 24 rfl rfl
theorem dX3_fetching_0 : decode cX3_fetching 0 = .ok (.aload_n 0, 1) := dk_42 (dk_at dksX3_fetching_0 0 rfl rfl)
theorem dX3_fetching_1 : decode cX3_fetching 1 = .ok (.aload_n 0, 1) := dk_42 (dk_at dksX3_fetching_0 1 rfl rfl)
theorem dX3_fetching_2 : decode cX3_fetching 2 = .ok (.getfield 174, 3) := dk_180 0 174 (dk_at dksX3_fetching_0 2 rfl rfl)
theorem dX3_fetching_5 : decode cX3_fetching 5 = .ok (.ifCond .eq 7, 3) := dk_153 0 7 (dk_at dksX3_fetching_0 5 rfl rfl)
theorem dX3_fetching_8 : decode cX3_fetching 8 = .ok (.iconst 1, 1) := dk_4 (dk_at dksX3_fetching_0 8 rfl rfl)
theorem dX3_fetching_9 : decode cX3_fetching 9 = .ok (.goto 4, 3) := dk_167 0 4 (dk_at dksX3_fetching_0 9 rfl rfl)
theorem dX3_fetching_12 : decode cX3_fetching 12 = .ok (.iconst 0, 1) := dk_3 (dk_at dksX3_fetching_0 12 rfl rfl)
theorem dX3_fetching_13 : decode cX3_fetching 13 = .ok (.putfield 123, 3) := dk_181 0 123 (dk_at dksX3_fetching_0 13 rfl rfl)
theorem dX3_fetching_16 : decode cX3_fetching 16 = .ok (.aload_n 0, 1) := dk_42 (dk_at dksX3_fetching_0 16 rfl rfl)
theorem dX3_fetching_17 : decode cX3_fetching 17 = .ok (.getfield 123, 3) := dk_180 0 123 (dk_at dksX3_fetching_0 17 rfl rfl)
theorem dX3_fetching_20 : decode cX3_fetching 20 = .ok (.ifCond .le 7, 3) := dk_158 0 7 (dk_at dksX3_fetching_0 20 rfl rfl)
theorem dX3_fetching_23 : decode cX3_fetching 23 = .ok (.iconst 0, 1) := dk_3 (dk_at dksX3_fetching_0 23 rfl rfl)
theorem dX3_fetching_24 : decode cX3_fetching 24 = .ok (.goto 7, 3) := dk_167 0 7 (dk_at dksX3_fetching_1 0 rfl rfl)
theorem dX3_fetching_27 : decode cX3_fetching 27 = .ok (.aload_n 0, 1) := dk_42 (dk_at dksX3_fetching_1 3 rfl rfl)
theorem dX3_fetching_28 : decode cX3_fetching 28 = .ok (.getfield 180, 3) := dk_180 0 180 (dk_at dksX3_fetching_1 4 rfl rfl)
theorem dX3_fetching_31 : decode cX3_fetching 31 = .ok (.ireturn, 1) := dk_172 (dk_at dksX3_fetching_1 7 rfl rfl)
def dkwX3_returns_0 : List UInt8 := [42, 3, 181, 0, 123, 42, 180, 0, 80, 3, 46, 172]
abbrev dktX3_returns_0 : List UInt8 := dkwX3_returns_0 ++ []
theorem dksX3_returns_0 : cX3_returns.data.toList.drop 0 = dktX3_returns_0 := by decide +kernel
theorem dX3_returns_0 : decode cX3_returns 0 = .ok (.aload_n 0, 1) := dk_42 (dk_at dksX3_returns_0 0 rfl rfl)
theorem dX3_returns_1 : decode cX3_returns 1 = .ok (.iconst 0, 1) := dk_3 (dk_at dksX3_returns_0 1 rfl rfl)
theorem dX3_returns_2 : decode cX3_returns 2 = .ok (.putfield 123, 3) := dk_181 0 123 (dk_at dksX3_returns_0 2 rfl rfl)
theorem dX3_returns_5 : decode cX3_returns 5 = .ok (.aload_n 0, 1) := dk_42 (dk_at dksX3_returns_0 5 rfl rfl)
theorem dX3_returns_6 : decode cX3_returns 6 = .ok (.getfield 80, 3) := dk_180 0 80 (dk_at dksX3_returns_0 6 rfl rfl)
theorem dX3_returns_9 : decode cX3_returns 9 = .ok (.iconst 0, 1) := dk_3 (dk_at dksX3_returns_0 9 rfl rfl)
theorem dX3_returns_10 : decode cX3_returns 10 = .ok (.iaload, 1) := dk_46 (dk_at dksX3_returns_0 10 rfl rfl)
theorem dX3_returns_11 : decode cX3_returns 11 = .ok (.ireturn, 1) := dk_172 (dk_at dksX3_returns_0 11 rfl rfl)
def dkwX3_returnAt_2 : List UInt8 := [27, 100, 46, 172]
abbrev dktX3_returnAt_2 : List UInt8 := dkwX3_returnAt_2 ++ []
def dkwX3_returnAt_1 : List UInt8 := [181, 0, 123, 42, 180, 0, 123, 158, 0, 7, 3, 167, 0, 16, 42, 180, 0, 80, 42, 180, 0, 80, 3, 46]
abbrev dktX3_returnAt_1 : List UInt8 := dkwX3_returnAt_1 ++ dktX3_returnAt_2
def dkwX3_returnAt_0 : List UInt8 := [42, 27, 3, 42, 180, 0, 80, 3, 46, 4, 100, 184, 0, 129, 153, 0, 7, 3, 167, 0, 4, 4]
abbrev dktX3_returnAt_0 : List UInt8 := dkwX3_returnAt_0 ++ dktX3_returnAt_1
theorem dksX3_returnAt_0 : cX3_returnAt.data.toList.drop 0 = dktX3_returnAt_0 := by decide +kernel
theorem dksX3_returnAt_1 : cX3_returnAt.data.toList.drop 22 = dktX3_returnAt_1 := dk_seg dksX3_returnAt_0 22 rfl rfl
theorem dksX3_returnAt_2 : cX3_returnAt.data.toList.drop 46 = dktX3_returnAt_2 := dk_seg dksX3_returnAt_1 24 rfl rfl
theorem dX3_returnAt_0 : decode cX3_returnAt 0 = .ok (.aload_n 0, 1) := dk_42 (dk_at dksX3_returnAt_0 0 rfl rfl)
theorem dX3_returnAt_1 : decode cX3_returnAt 1 = .ok (.iload_n 1, 1) := dk_27 (dk_at dksX3_returnAt_0 1 rfl rfl)
theorem dX3_returnAt_2 : decode cX3_returnAt 2 = .ok (.iconst 0, 1) := dk_3 (dk_at dksX3_returnAt_0 2 rfl rfl)
theorem dX3_returnAt_3 : decode cX3_returnAt 3 = .ok (.aload_n 0, 1) := dk_42 (dk_at dksX3_returnAt_0 3 rfl rfl)
theorem dX3_returnAt_4 : decode cX3_returnAt 4 = .ok (.getfield 80, 3) := dk_180 0 80 (dk_at dksX3_returnAt_0 4 rfl rfl)
theorem dX3_returnAt_7 : decode cX3_returnAt 7 = .ok (.iconst 0, 1) := dk_3 (dk_at dksX3_returnAt_0 7 rfl rfl)
theorem dX3_returnAt_8 : decode cX3_returnAt 8 = .ok (.iaload, 1) := dk_46 (dk_at dksX3_returnAt_0 8 rfl rfl)
theorem dX3_returnAt_9 : decode cX3_returnAt 9 = .ok (.iconst 1, 1) := dk_4 (dk_at dksX3_returnAt_0 9 rfl rfl)
theorem dX3_returnAt_10 : decode cX3_returnAt 10 = .ok (.isub, 1) := dk_100 (dk_at dksX3_returnAt_0 10 rfl rfl)
theorem dX3_returnAt_11 : decode cX3_returnAt 11 = .ok (.invokestatic 129, 3) := dk_184 0 129 (dk_at dksX3_returnAt_0 11 rfl rfl)
theorem dX3_returnAt_14 : decode cX3_returnAt 14 = .ok (.ifCond .eq 7, 3) := dk_153 0 7 (dk_at dksX3_returnAt_0 14 rfl rfl)
theorem dX3_returnAt_17 : decode cX3_returnAt 17 = .ok (.iconst 0, 1) := dk_3 (dk_at dksX3_returnAt_0 17 rfl rfl)
theorem dX3_returnAt_18 : decode cX3_returnAt 18 = .ok (.goto 4, 3) := dk_167 0 4 (dk_at dksX3_returnAt_0 18 rfl rfl)
theorem dX3_returnAt_21 : decode cX3_returnAt 21 = .ok (.iconst 1, 1) := dk_4 (dk_at dksX3_returnAt_0 21 rfl rfl)
theorem dX3_returnAt_22 : decode cX3_returnAt 22 = .ok (.putfield 123, 3) := dk_181 0 123 (dk_at dksX3_returnAt_1 0 rfl rfl)
theorem dX3_returnAt_25 : decode cX3_returnAt 25 = .ok (.aload_n 0, 1) := dk_42 (dk_at dksX3_returnAt_1 3 rfl rfl)
theorem dX3_returnAt_26 : decode cX3_returnAt 26 = .ok (.getfield 123, 3) := dk_180 0 123 (dk_at dksX3_returnAt_1 4 rfl rfl)
theorem dX3_returnAt_29 : decode cX3_returnAt 29 = .ok (.ifCond .le 7, 3) := dk_158 0 7 (dk_at dksX3_returnAt_1 7 rfl rfl)
theorem dX3_returnAt_32 : decode cX3_returnAt 32 = .ok (.iconst 0, 1) := dk_3 (dk_at dksX3_returnAt_1 10 rfl rfl)
theorem dX3_returnAt_33 : decode cX3_returnAt 33 = .ok (.goto 16, 3) := dk_167 0 16 (dk_at dksX3_returnAt_1 11 rfl rfl)
theorem dX3_returnAt_36 : decode cX3_returnAt 36 = .ok (.aload_n 0, 1) := dk_42 (dk_at dksX3_returnAt_1 14 rfl rfl)
theorem dX3_returnAt_37 : decode cX3_returnAt 37 = .ok (.getfield 80, 3) := dk_180 0 80 (dk_at dksX3_returnAt_1 15 rfl rfl)
theorem dX3_returnAt_40 : decode cX3_returnAt 40 = .ok (.aload_n 0, 1) := dk_42 (dk_at dksX3_returnAt_1 18 rfl rfl)
theorem dX3_returnAt_41 : decode cX3_returnAt 41 = .ok (.getfield 80, 3) := dk_180 0 80 (dk_at dksX3_returnAt_1 19 rfl rfl)
theorem dX3_returnAt_44 : decode cX3_returnAt 44 = .ok (.iconst 0, 1) := dk_3 (dk_at dksX3_returnAt_1 22 rfl rfl)
theorem dX3_returnAt_45 : decode cX3_returnAt 45 = .ok (.iaload, 1) := dk_46 (dk_at dksX3_returnAt_1 23 rfl rfl)
theorem dX3_returnAt_46 : decode cX3_returnAt 46 = .ok (.iload_n 1, 1) := dk_27 (dk_at dksX3_returnAt_2 0 rfl rfl)
theorem dX3_returnAt_47 : decode cX3_returnAt 47 = .ok (.isub, 1) := dk_100 (dk_at dksX3_returnAt_2 1 rfl rfl)
theorem dX3_returnAt_48 : decode cX3_returnAt 48 = .ok (.iaload, 1) := dk_46 (dk_at dksX3_returnAt_2 2 rfl rfl)
theorem dX3_returnAt_49 : decode cX3_returnAt 49 = .ok (.ireturn, 1) := dk_172 (dk_at dksX3_returnAt_2 3 rfl rfl)
def dkwX3_counter_1 : List UInt8 := [158, 0, 7, 3, 167, 0, 9, 42, 180, 0, 83, 27, 46, 172]
abbrev dktX3_counter_1 : List UInt8 := dkwX3_counter_1 ++ []
def dkwX3_counter_0 : List UInt8 := [42, 27, 3, 16, 15, 184, 0, 129, 153, 0, 7, 3, 167, 0, 4, 4, 181, 0, 123, 42, 180, 0, 123]
abbrev dktX3_counter_0 : List UInt8 := dkwX3_counter_0 ++ dktX3_counter_1
theorem dksX3_counter_0 : cX3_counter.data.toList.drop 0 = dktX3_counter_0 := by decide +kernel
theorem dksX3_counter_1 : cX3_counter.data.toList.drop 23 = dktX3_counter_1 := dk_seg dksX3_counter_0 23 rfl rfl
theorem dX3_counter_0 : decode cX3_counter 0 = .ok (.aload_n 0, 1) := dk_42 (dk_at dksX3_counter_0 0 rfl rfl)
theorem dX3_counter_1 : decode cX3_counter 1 = .ok (.iload_n 1, 1) := dk_27 (dk_at dksX3_counter_0 1 rfl rfl)
theorem dX3_counter_2 : decode cX3_counter 2 = .ok (.iconst 0, 1) := dk_3 (dk_at dksX3_counter_0 2 rfl rfl)
theorem dX3_counter_3 : decode cX3_counter 3 = .ok (.bipush 15, 2) := dk_16 15 (dk_at dksX3_counter_0 3 rfl rfl)
theorem dX3_counter_5 : decode cX3_counter 5 = .ok (.invokestatic 129, 3) := dk_184 0 129 (dk_at dksX3_counter_0 5 rfl rfl)
theorem dX3_counter_8 : decode cX3_counter 8 = .ok (.ifCond .eq 7, 3) := dk_153 0 7 (dk_at dksX3_counter_0 8 rfl rfl)
theorem dX3_counter_11 : decode cX3_counter 11 = .ok (.iconst 0, 1) := dk_3 (dk_at dksX3_counter_0 11 rfl rfl)
theorem dX3_counter_12 : decode cX3_counter 12 = .ok (.goto 4, 3) := dk_167 0 4 (dk_at dksX3_counter_0 12 rfl rfl)
theorem dX3_counter_15 : decode cX3_counter 15 = .ok (.iconst 1, 1) := dk_4 (dk_at dksX3_counter_0 15 rfl rfl)
theorem dX3_counter_16 : decode cX3_counter 16 = .ok (.putfield 123, 3) := dk_181 0 123 (dk_at dksX3_counter_0 16 rfl rfl)
theorem dX3_counter_19 : decode cX3_counter 19 = .ok (.aload_n 0, 1) := dk_42 (dk_at dksX3_counter_0 19 rfl rfl)
theorem dX3_counter_20 : decode cX3_counter 20 = .ok (.getfield 123, 3) := dk_180 0 123 (dk_at dksX3_counter_0 20 rfl rfl)
theorem dX3_counter_23 : decode cX3_counter 23 = .ok (.ifCond .le 7, 3) := dk_158 0 7 (dk_at dksX3_counter_1 0 rfl rfl)
theorem dX3_counter_26 : decode cX3_counter 26 = .ok (.iconst 0, 1) := dk_3 (dk_at dksX3_counter_1 3 rfl rfl)
theorem dX3_counter_27 : decode cX3_counter 27 = .ok (.goto 9, 3) := dk_167 0 9 (dk_at dksX3_counter_1 4 rfl rfl)
theorem dX3_counter_30 : decode cX3_counter 30 = .ok (.aload_n 0, 1) := dk_42 (dk_at dksX3_counter_1 7 rfl rfl)
theorem dX3_counter_31 : decode cX3_counter 31 = .ok (.getfield 83, 3) := dk_180 0 83 (dk_at dksX3_counter_1 8 rfl rfl)
theorem dX3_counter_34 : decode cX3_counter 34 = .ok (.iload_n 1, 1) := dk_27 (dk_at dksX3_counter_1 11 rfl rfl)
theorem dX3_counter_35 : decode cX3_counter 35 = .ok (.iaload, 1) := dk_46 (dk_at dksX3_counter_1 12 rfl rfl)
theorem dX3_counter_36 : decode cX3_counter 36 = .ok (.ireturn, 1) := dk_172 (dk_at dksX3_counter_1 13 rfl rfl)
def dkwX3_isMarked_1 : List UInt8 := [154, 0, 16, 42, 180, 0, 89, 27, 51, 153, 0, 7, 4, 167, 0, 4, 3, 172]
abbrev dktX3_isMarked_1 : List UInt8 := dkwX3_isMarked_1 ++ []
def dkwX3_isMarked_0 : List UInt8 := [42, 27, 3, 16, 15, 184, 0, 129, 153, 0, 7, 3, 167, 0, 4, 4, 181, 0, 123, 42, 180, 0, 123]
abbrev dktX3_isMarked_0 : List UInt8 := dkwX3_isMarked_0 ++ dktX3_isMarked_1
theorem dksX3_isMarked_0 : cX3_isMarked.data.toList.drop 0 = dktX3_isMarked_0 := by decide +kernel
theorem dksX3_isMarked_1 : cX3_isMarked.data.toList.drop 23 = dktX3_isMarked_1 := dk_seg dksX3_isMarked_0 23 rfl rfl
theorem dX3_isMarked_0 : decode cX3_isMarked 0 = .ok (.aload_n 0, 1) := dk_42 (dk_at dksX3_isMarked_0 0 rfl rfl)
theorem dX3_isMarked_1 : decode cX3_isMarked 1 = .ok (.iload_n 1, 1) := dk_27 (dk_at dksX3_isMarked_0 1 rfl rfl)
theorem dX3_isMarked_2 : decode cX3_isMarked 2 = .ok (.iconst 0, 1) := dk_3 (dk_at dksX3_isMarked_0 2 rfl rfl)
theorem dX3_isMarked_3 : decode cX3_isMarked 3 = .ok (.bipush 15, 2) := dk_16 15 (dk_at dksX3_isMarked_0 3 rfl rfl)
theorem dX3_isMarked_5 : decode cX3_isMarked 5 = .ok (.invokestatic 129, 3) := dk_184 0 129 (dk_at dksX3_isMarked_0 5 rfl rfl)
theorem dX3_isMarked_8 : decode cX3_isMarked 8 = .ok (.ifCond .eq 7, 3) := dk_153 0 7 (dk_at dksX3_isMarked_0 8 rfl rfl)
theorem dX3_isMarked_11 : decode cX3_isMarked 11 = .ok (.iconst 0, 1) := dk_3 (dk_at dksX3_isMarked_0 11 rfl rfl)
theorem dX3_isMarked_12 : decode cX3_isMarked 12 = .ok (.goto 4, 3) := dk_167 0 4 (dk_at dksX3_isMarked_0 12 rfl rfl)
theorem dX3_isMarked_15 : decode cX3_isMarked 15 = .ok (.iconst 1, 1) := dk_4 (dk_at dksX3_isMarked_0 15 rfl rfl)
theorem dX3_isMarked_16 : decode cX3_isMarked 16 = .ok (.putfield 123, 3) := dk_181 0 123 (dk_at dksX3_isMarked_0 16 rfl rfl)
theorem dX3_isMarked_19 : decode cX3_isMarked 19 = .ok (.aload_n 0, 1) := dk_42 (dk_at dksX3_isMarked_0 19 rfl rfl)
theorem dX3_isMarked_20 : decode cX3_isMarked 20 = .ok (.getfield 123, 3) := dk_180 0 123 (dk_at dksX3_isMarked_0 20 rfl rfl)
theorem dX3_isMarked_23 : decode cX3_isMarked 23 = .ok (.ifCond .ne 16, 3) := dk_154 0 16 (dk_at dksX3_isMarked_1 0 rfl rfl)
theorem dX3_isMarked_26 : decode cX3_isMarked 26 = .ok (.aload_n 0, 1) := dk_42 (dk_at dksX3_isMarked_1 3 rfl rfl)
theorem dX3_isMarked_27 : decode cX3_isMarked 27 = .ok (.getfield 89, 3) := dk_180 0 89 (dk_at dksX3_isMarked_1 4 rfl rfl)
theorem dX3_isMarked_30 : decode cX3_isMarked 30 = .ok (.iload_n 1, 1) := dk_27 (dk_at dksX3_isMarked_1 7 rfl rfl)
theorem dX3_isMarked_31 : decode cX3_isMarked 31 = .ok (.baload, 1) := dk_51 (dk_at dksX3_isMarked_1 8 rfl rfl)
theorem dX3_isMarked_32 : decode cX3_isMarked 32 = .ok (.ifCond .eq 7, 3) := dk_153 0 7 (dk_at dksX3_isMarked_1 9 rfl rfl)
theorem dX3_isMarked_35 : decode cX3_isMarked 35 = .ok (.iconst 1, 1) := dk_4 (dk_at dksX3_isMarked_1 12 rfl rfl)
theorem dX3_isMarked_36 : decode cX3_isMarked 36 = .ok (.goto 4, 3) := dk_167 0 4 (dk_at dksX3_isMarked_1 13 rfl rfl)
theorem dX3_isMarked_39 : decode cX3_isMarked 39 = .ok (.iconst 0, 1) := dk_3 (dk_at dksX3_isMarked_1 16 rfl rfl)
theorem dX3_isMarked_40 : decode cX3_isMarked 40 = .ok (.ireturn, 1) := dk_172 (dk_at dksX3_isMarked_1 17 rfl rfl)
def dkwX3_lineAt_1 : List UInt8 := [158, 0, 7, 3, 167, 0, 9, 42, 180, 0, 92, 27, 46, 172]
abbrev dktX3_lineAt_1 : List UInt8 := dkwX3_lineAt_1 ++ []
def dkwX3_lineAt_0 : List UInt8 := [42, 27, 3, 6, 184, 0, 129, 153, 0, 7, 3, 167, 0, 4, 4, 181, 0, 123, 42, 180, 0, 123]
abbrev dktX3_lineAt_0 : List UInt8 := dkwX3_lineAt_0 ++ dktX3_lineAt_1
theorem dksX3_lineAt_0 : cX3_lineAt.data.toList.drop 0 = dktX3_lineAt_0 := by decide +kernel
theorem dksX3_lineAt_1 : cX3_lineAt.data.toList.drop 22 = dktX3_lineAt_1 := dk_seg dksX3_lineAt_0 22 rfl rfl
theorem dX3_lineAt_0 : decode cX3_lineAt 0 = .ok (.aload_n 0, 1) := dk_42 (dk_at dksX3_lineAt_0 0 rfl rfl)
theorem dX3_lineAt_1 : decode cX3_lineAt 1 = .ok (.iload_n 1, 1) := dk_27 (dk_at dksX3_lineAt_0 1 rfl rfl)
theorem dX3_lineAt_2 : decode cX3_lineAt 2 = .ok (.iconst 0, 1) := dk_3 (dk_at dksX3_lineAt_0 2 rfl rfl)
theorem dX3_lineAt_3 : decode cX3_lineAt 3 = .ok (.iconst 3, 1) := dk_6 (dk_at dksX3_lineAt_0 3 rfl rfl)
theorem dX3_lineAt_4 : decode cX3_lineAt 4 = .ok (.invokestatic 129, 3) := dk_184 0 129 (dk_at dksX3_lineAt_0 4 rfl rfl)
theorem dX3_lineAt_7 : decode cX3_lineAt 7 = .ok (.ifCond .eq 7, 3) := dk_153 0 7 (dk_at dksX3_lineAt_0 7 rfl rfl)
theorem dX3_lineAt_10 : decode cX3_lineAt 10 = .ok (.iconst 0, 1) := dk_3 (dk_at dksX3_lineAt_0 10 rfl rfl)
theorem dX3_lineAt_11 : decode cX3_lineAt 11 = .ok (.goto 4, 3) := dk_167 0 4 (dk_at dksX3_lineAt_0 11 rfl rfl)
theorem dX3_lineAt_14 : decode cX3_lineAt 14 = .ok (.iconst 1, 1) := dk_4 (dk_at dksX3_lineAt_0 14 rfl rfl)
theorem dX3_lineAt_15 : decode cX3_lineAt 15 = .ok (.putfield 123, 3) := dk_181 0 123 (dk_at dksX3_lineAt_0 15 rfl rfl)
theorem dX3_lineAt_18 : decode cX3_lineAt 18 = .ok (.aload_n 0, 1) := dk_42 (dk_at dksX3_lineAt_0 18 rfl rfl)
theorem dX3_lineAt_19 : decode cX3_lineAt 19 = .ok (.getfield 123, 3) := dk_180 0 123 (dk_at dksX3_lineAt_0 19 rfl rfl)
theorem dX3_lineAt_22 : decode cX3_lineAt 22 = .ok (.ifCond .le 7, 3) := dk_158 0 7 (dk_at dksX3_lineAt_1 0 rfl rfl)
theorem dX3_lineAt_25 : decode cX3_lineAt 25 = .ok (.iconst 0, 1) := dk_3 (dk_at dksX3_lineAt_1 3 rfl rfl)
theorem dX3_lineAt_26 : decode cX3_lineAt 26 = .ok (.goto 9, 3) := dk_167 0 9 (dk_at dksX3_lineAt_1 4 rfl rfl)
theorem dX3_lineAt_29 : decode cX3_lineAt 29 = .ok (.aload_n 0, 1) := dk_42 (dk_at dksX3_lineAt_1 7 rfl rfl)
theorem dX3_lineAt_30 : decode cX3_lineAt 30 = .ok (.getfield 92, 3) := dk_180 0 92 (dk_at dksX3_lineAt_1 8 rfl rfl)
theorem dX3_lineAt_33 : decode cX3_lineAt 33 = .ok (.iload_n 1, 1) := dk_27 (dk_at dksX3_lineAt_1 11 rfl rfl)
theorem dX3_lineAt_34 : decode cX3_lineAt 34 = .ok (.iaload, 1) := dk_46 (dk_at dksX3_lineAt_1 12 rfl rfl)
theorem dX3_lineAt_35 : decode cX3_lineAt 35 = .ok (.ireturn, 1) := dk_172 (dk_at dksX3_lineAt_1 13 rfl rfl)
def dkwX3_asked_0 : List UInt8 := [42, 3, 181, 0, 123, 42, 180, 0, 222, 172]
abbrev dktX3_asked_0 : List UInt8 := dkwX3_asked_0 ++ []
theorem dksX3_asked_0 : cX3_asked.data.toList.drop 0 = dktX3_asked_0 := by decide +kernel
theorem dX3_asked_0 : decode cX3_asked 0 = .ok (.aload_n 0, 1) := dk_42 (dk_at dksX3_asked_0 0 rfl rfl)
theorem dX3_asked_1 : decode cX3_asked 1 = .ok (.iconst 0, 1) := dk_3 (dk_at dksX3_asked_0 1 rfl rfl)
theorem dX3_asked_2 : decode cX3_asked 2 = .ok (.putfield 123, 3) := dk_181 0 123 (dk_at dksX3_asked_0 2 rfl rfl)
theorem dX3_asked_5 : decode cX3_asked 5 = .ok (.aload_n 0, 1) := dk_42 (dk_at dksX3_asked_0 5 rfl rfl)
theorem dX3_asked_6 : decode cX3_asked 6 = .ok (.getfield 222, 3) := dk_180 0 222 (dk_at dksX3_asked_0 6 rfl rfl)
theorem dX3_asked_9 : decode cX3_asked 9 = .ok (.ireturn, 1) := dk_172 (dk_at dksX3_asked_0 9 rfl rfl)
def dkwX3_lost_1 : List UInt8 := [3, 167, 0, 12, 42, 180, 0, 111, 27, 184, 1, 68, 46, 172]
abbrev dktX3_lost_1 : List UInt8 := dkwX3_lost_1 ++ []
def dkwX3_lost_0 : List UInt8 := [42, 27, 184, 1, 68, 2, 160, 0, 7, 4, 167, 0, 4, 3, 181, 0, 123, 42, 180, 0, 123, 158, 0, 7]
abbrev dktX3_lost_0 : List UInt8 := dkwX3_lost_0 ++ dktX3_lost_1
theorem dksX3_lost_0 : cX3_lost.data.toList.drop 0 = dktX3_lost_0 := by decide +kernel
theorem dksX3_lost_1 : cX3_lost.data.toList.drop 24 = dktX3_lost_1 := dk_seg dksX3_lost_0 24 rfl rfl
theorem dX3_lost_0 : decode cX3_lost 0 = .ok (.aload_n 0, 1) := dk_42 (dk_at dksX3_lost_0 0 rfl rfl)
theorem dX3_lost_1 : decode cX3_lost 1 = .ok (.iload_n 1, 1) := dk_27 (dk_at dksX3_lost_0 1 rfl rfl)
theorem dX3_lost_2 : decode cX3_lost 2 = .ok (.invokestatic 324, 3) := dk_184 1 68 (dk_at dksX3_lost_0 2 rfl rfl)
theorem dX3_lost_5 : decode cX3_lost 5 = .ok (.iconst (-1), 1) := dk_2 (dk_at dksX3_lost_0 5 rfl rfl)
theorem dX3_lost_6 : decode cX3_lost 6 = .ok (.if_icmp .ne 7, 3) := dk_160 0 7 (dk_at dksX3_lost_0 6 rfl rfl)
theorem dX3_lost_9 : decode cX3_lost 9 = .ok (.iconst 1, 1) := dk_4 (dk_at dksX3_lost_0 9 rfl rfl)
theorem dX3_lost_10 : decode cX3_lost 10 = .ok (.goto 4, 3) := dk_167 0 4 (dk_at dksX3_lost_0 10 rfl rfl)
theorem dX3_lost_13 : decode cX3_lost 13 = .ok (.iconst 0, 1) := dk_3 (dk_at dksX3_lost_0 13 rfl rfl)
theorem dX3_lost_14 : decode cX3_lost 14 = .ok (.putfield 123, 3) := dk_181 0 123 (dk_at dksX3_lost_0 14 rfl rfl)
theorem dX3_lost_17 : decode cX3_lost 17 = .ok (.aload_n 0, 1) := dk_42 (dk_at dksX3_lost_0 17 rfl rfl)
theorem dX3_lost_18 : decode cX3_lost 18 = .ok (.getfield 123, 3) := dk_180 0 123 (dk_at dksX3_lost_0 18 rfl rfl)
theorem dX3_lost_21 : decode cX3_lost 21 = .ok (.ifCond .le 7, 3) := dk_158 0 7 (dk_at dksX3_lost_0 21 rfl rfl)
theorem dX3_lost_24 : decode cX3_lost 24 = .ok (.iconst 0, 1) := dk_3 (dk_at dksX3_lost_1 0 rfl rfl)
theorem dX3_lost_25 : decode cX3_lost 25 = .ok (.goto 12, 3) := dk_167 0 12 (dk_at dksX3_lost_1 1 rfl rfl)
theorem dX3_lost_28 : decode cX3_lost 28 = .ok (.aload_n 0, 1) := dk_42 (dk_at dksX3_lost_1 4 rfl rfl)
theorem dX3_lost_29 : decode cX3_lost 29 = .ok (.getfield 111, 3) := dk_180 0 111 (dk_at dksX3_lost_1 5 rfl rfl)
theorem dX3_lost_32 : decode cX3_lost 32 = .ok (.iload_n 1, 1) := dk_27 (dk_at dksX3_lost_1 8 rfl rfl)
theorem dX3_lost_33 : decode cX3_lost 33 = .ok (.invokestatic 324, 3) := dk_184 1 68 (dk_at dksX3_lost_1 9 rfl rfl)
theorem dX3_lost_36 : decode cX3_lost 36 = .ok (.iaload, 1) := dk_46 (dk_at dksX3_lost_1 12 rfl rfl)
theorem dX3_lost_37 : decode cX3_lost 37 = .ok (.ireturn, 1) := dk_172 (dk_at dksX3_lost_1 13 rfl rfl)
def dkwX3_wrong_0 : List UInt8 := [42, 3, 181, 0, 123, 42, 180, 1, 27, 172]
abbrev dktX3_wrong_0 : List UInt8 := dkwX3_wrong_0 ++ []
theorem dksX3_wrong_0 : cX3_wrong.data.toList.drop 0 = dktX3_wrong_0 := by decide +kernel
theorem dX3_wrong_0 : decode cX3_wrong 0 = .ok (.aload_n 0, 1) := dk_42 (dk_at dksX3_wrong_0 0 rfl rfl)
theorem dX3_wrong_1 : decode cX3_wrong 1 = .ok (.iconst 0, 1) := dk_3 (dk_at dksX3_wrong_0 1 rfl rfl)
theorem dX3_wrong_2 : decode cX3_wrong 2 = .ok (.putfield 123, 3) := dk_181 0 123 (dk_at dksX3_wrong_0 2 rfl rfl)
theorem dX3_wrong_5 : decode cX3_wrong 5 = .ok (.aload_n 0, 1) := dk_42 (dk_at dksX3_wrong_0 5 rfl rfl)
theorem dX3_wrong_6 : decode cX3_wrong 6 = .ok (.getfield 283, 3) := dk_180 1 27 (dk_at dksX3_wrong_0 6 rfl rfl)
theorem dX3_wrong_9 : decode cX3_wrong 9 = .ok (.ireturn, 1) := dk_172 (dk_at dksX3_wrong_0 9 rfl rfl)
def dkwX3_early_0 : List UInt8 := [42, 3, 181, 0, 123, 42, 180, 1, 12, 172]
abbrev dktX3_early_0 : List UInt8 := dkwX3_early_0 ++ []
theorem dksX3_early_0 : cX3_early.data.toList.drop 0 = dktX3_early_0 := by decide +kernel
theorem dX3_early_0 : decode cX3_early 0 = .ok (.aload_n 0, 1) := dk_42 (dk_at dksX3_early_0 0 rfl rfl)
theorem dX3_early_1 : decode cX3_early 1 = .ok (.iconst 0, 1) := dk_3 (dk_at dksX3_early_0 1 rfl rfl)
theorem dX3_early_2 : decode cX3_early 2 = .ok (.putfield 123, 3) := dk_181 0 123 (dk_at dksX3_early_0 2 rfl rfl)
theorem dX3_early_5 : decode cX3_early 5 = .ok (.aload_n 0, 1) := dk_42 (dk_at dksX3_early_0 5 rfl rfl)
theorem dX3_early_6 : decode cX3_early 6 = .ok (.getfield 268, 3) := dk_180 1 12 (dk_at dksX3_early_0 6 rfl rfl)
theorem dX3_early_9 : decode cX3_early 9 = .ok (.ireturn, 1) := dk_172 (dk_at dksX3_early_0 9 rfl rfl)
def dkwX3_thrownAway_0 : List UInt8 := [42, 3, 181, 0, 123, 42, 180, 0, 253, 172]
abbrev dktX3_thrownAway_0 : List UInt8 := dkwX3_thrownAway_0 ++ []
theorem dksX3_thrownAway_0 : cX3_thrownAway.data.toList.drop 0 = dktX3_thrownAway_0 := by decide +kernel
theorem dX3_thrownAway_0 : decode cX3_thrownAway 0 = .ok (.aload_n 0, 1) := dk_42 (dk_at dksX3_thrownAway_0 0 rfl rfl)
theorem dX3_thrownAway_1 : decode cX3_thrownAway 1 = .ok (.iconst 0, 1) := dk_3 (dk_at dksX3_thrownAway_0 1 rfl rfl)
theorem dX3_thrownAway_2 : decode cX3_thrownAway 2 = .ok (.putfield 123, 3) := dk_181 0 123 (dk_at dksX3_thrownAway_0 2 rfl rfl)
theorem dX3_thrownAway_5 : decode cX3_thrownAway 5 = .ok (.aload_n 0, 1) := dk_42 (dk_at dksX3_thrownAway_0 5 rfl rfl)
theorem dX3_thrownAway_6 : decode cX3_thrownAway 6 = .ok (.getfield 253, 3) := dk_180 0 253 (dk_at dksX3_thrownAway_0 6 rfl rfl)
theorem dX3_thrownAway_9 : decode cX3_thrownAway 9 = .ok (.ireturn, 1) := dk_172 (dk_at dksX3_thrownAway_0 9 rfl rfl)
def dkwX3_taken_0 : List UInt8 := [42, 3, 181, 0, 123, 42, 180, 0, 234, 172]
abbrev dktX3_taken_0 : List UInt8 := dkwX3_taken_0 ++ []
theorem dksX3_taken_0 : cX3_taken.data.toList.drop 0 = dktX3_taken_0 := by decide +kernel
theorem dX3_taken_0 : decode cX3_taken 0 = .ok (.aload_n 0, 1) := dk_42 (dk_at dksX3_taken_0 0 rfl rfl)
theorem dX3_taken_1 : decode cX3_taken 1 = .ok (.iconst 0, 1) := dk_3 (dk_at dksX3_taken_0 1 rfl rfl)
theorem dX3_taken_2 : decode cX3_taken 2 = .ok (.putfield 123, 3) := dk_181 0 123 (dk_at dksX3_taken_0 2 rfl rfl)
theorem dX3_taken_5 : decode cX3_taken 5 = .ok (.aload_n 0, 1) := dk_42 (dk_at dksX3_taken_0 5 rfl rfl)
theorem dX3_taken_6 : decode cX3_taken 6 = .ok (.getfield 234, 3) := dk_180 0 234 (dk_at dksX3_taken_0 6 rfl rfl)
theorem dX3_taken_9 : decode cX3_taken 9 = .ok (.ireturn, 1) := dk_172 (dk_at dksX3_taken_0 9 rfl rfl)
def dkwX3_hits_0 : List UInt8 := [42, 3, 181, 0, 123, 42, 180, 0, 237, 133, 20, 1, 109, 42, 180, 0, 243, 133, 105, 97, 173]
abbrev dktX3_hits_0 : List UInt8 := dkwX3_hits_0 ++ []
theorem dksX3_hits_0 : cX3_hits.data.toList.drop 0 = dktX3_hits_0 := by decide +kernel
theorem dX3_hits_0 : decode cX3_hits 0 = .ok (.aload_n 0, 1) := dk_42 (dk_at dksX3_hits_0 0 rfl rfl)
theorem dX3_hits_1 : decode cX3_hits 1 = .ok (.iconst 0, 1) := dk_3 (dk_at dksX3_hits_0 1 rfl rfl)
theorem dX3_hits_2 : decode cX3_hits 2 = .ok (.putfield 123, 3) := dk_181 0 123 (dk_at dksX3_hits_0 2 rfl rfl)
theorem dX3_hits_5 : decode cX3_hits 5 = .ok (.aload_n 0, 1) := dk_42 (dk_at dksX3_hits_0 5 rfl rfl)
theorem dX3_hits_6 : decode cX3_hits 6 = .ok (.getfield 237, 3) := dk_180 0 237 (dk_at dksX3_hits_0 6 rfl rfl)
theorem dX3_hits_9 : decode cX3_hits 9 = .ok (.i2l, 1) := dk_133 (dk_at dksX3_hits_0 9 rfl rfl)
theorem dX3_hits_10 : decode cX3_hits 10 = .ok (.ldc2_w 365, 3) := dk_20 1 109 (dk_at dksX3_hits_0 10 rfl rfl)
theorem dX3_hits_13 : decode cX3_hits 13 = .ok (.aload_n 0, 1) := dk_42 (dk_at dksX3_hits_0 13 rfl rfl)
theorem dX3_hits_14 : decode cX3_hits 14 = .ok (.getfield 243, 3) := dk_180 0 243 (dk_at dksX3_hits_0 14 rfl rfl)
theorem dX3_hits_17 : decode cX3_hits 17 = .ok (.i2l, 1) := dk_133 (dk_at dksX3_hits_0 17 rfl rfl)
theorem dX3_hits_18 : decode cX3_hits 18 = .ok (.lmul, 1) := dk_105 (dk_at dksX3_hits_0 18 rfl rfl)
theorem dX3_hits_19 : decode cX3_hits 19 = .ok (.ladd, 1) := dk_97 (dk_at dksX3_hits_0 19 rfl rfl)
theorem dX3_hits_20 : decode cX3_hits 20 = .ok (.lreturn, 1) := dk_173 (dk_at dksX3_hits_0 20 rfl rfl)
def dkwX3_share_1 : List UInt8 := [167, 0, 14, 42, 180, 0, 150, 134, 42, 180, 0, 133, 134, 110, 174]
abbrev dktX3_share_1 : List UInt8 := dkwX3_share_1 ++ []
def dkwX3_share_0 : List UInt8 := [42, 42, 180, 0, 133, 154, 0, 7, 4, 167, 0, 4, 3, 181, 0, 123, 42, 180, 0, 123, 158, 0, 7, 11]
abbrev dktX3_share_0 : List UInt8 := dkwX3_share_0 ++ dktX3_share_1
theorem dksX3_share_0 : cX3_share.data.toList.drop 0 = dktX3_share_0 := by decide +kernel
theorem dksX3_share_1 : cX3_share.data.toList.drop 24 = dktX3_share_1 := dk_seg dksX3_share_0 24 rfl rfl
theorem dX3_share_0 : decode cX3_share 0 = .ok (.aload_n 0, 1) := dk_42 (dk_at dksX3_share_0 0 rfl rfl)
theorem dX3_share_1 : decode cX3_share 1 = .ok (.aload_n 0, 1) := dk_42 (dk_at dksX3_share_0 1 rfl rfl)
theorem dX3_share_2 : decode cX3_share 2 = .ok (.getfield 133, 3) := dk_180 0 133 (dk_at dksX3_share_0 2 rfl rfl)
theorem dX3_share_5 : decode cX3_share 5 = .ok (.ifCond .ne 7, 3) := dk_154 0 7 (dk_at dksX3_share_0 5 rfl rfl)
theorem dX3_share_8 : decode cX3_share 8 = .ok (.iconst 1, 1) := dk_4 (dk_at dksX3_share_0 8 rfl rfl)
theorem dX3_share_9 : decode cX3_share 9 = .ok (.goto 4, 3) := dk_167 0 4 (dk_at dksX3_share_0 9 rfl rfl)
theorem dX3_share_12 : decode cX3_share 12 = .ok (.iconst 0, 1) := dk_3 (dk_at dksX3_share_0 12 rfl rfl)
theorem dX3_share_13 : decode cX3_share 13 = .ok (.putfield 123, 3) := dk_181 0 123 (dk_at dksX3_share_0 13 rfl rfl)
theorem dX3_share_16 : decode cX3_share 16 = .ok (.aload_n 0, 1) := dk_42 (dk_at dksX3_share_0 16 rfl rfl)
theorem dX3_share_17 : decode cX3_share 17 = .ok (.getfield 123, 3) := dk_180 0 123 (dk_at dksX3_share_0 17 rfl rfl)
theorem dX3_share_20 : decode cX3_share 20 = .ok (.ifCond .le 7, 3) := dk_158 0 7 (dk_at dksX3_share_0 20 rfl rfl)
theorem dX3_share_23 : decode cX3_share 23 = .ok (.fconst 0, 1) := dk_11 (dk_at dksX3_share_0 23 rfl rfl)
theorem dX3_share_24 : decode cX3_share 24 = .ok (.goto 14, 3) := dk_167 0 14 (dk_at dksX3_share_1 0 rfl rfl)
theorem dX3_share_27 : decode cX3_share 27 = .ok (.aload_n 0, 1) := dk_42 (dk_at dksX3_share_1 3 rfl rfl)
theorem dX3_share_28 : decode cX3_share 28 = .ok (.getfield 150, 3) := dk_180 0 150 (dk_at dksX3_share_1 4 rfl rfl)
theorem dX3_share_31 : decode cX3_share 31 = .ok (.i2f, 1) := dk_134 (dk_at dksX3_share_1 7 rfl rfl)
theorem dX3_share_32 : decode cX3_share 32 = .ok (.aload_n 0, 1) := dk_42 (dk_at dksX3_share_1 8 rfl rfl)
theorem dX3_share_33 : decode cX3_share 33 = .ok (.getfield 133, 3) := dk_180 0 133 (dk_at dksX3_share_1 9 rfl rfl)
theorem dX3_share_36 : decode cX3_share 36 = .ok (.i2f, 1) := dk_134 (dk_at dksX3_share_1 12 rfl rfl)
theorem dX3_share_37 : decode cX3_share 37 = .ok (.fdiv, 1) := dk_110 (dk_at dksX3_share_1 13 rfl rfl)
theorem dX3_share_38 : decode cX3_share 38 = .ok (.freturn, 1) := dk_174 (dk_at dksX3_share_1 14 rfl rfl)
def dkwX3_isSame_0 : List UInt8 := [42, 3, 181, 0, 123, 4, 172]
abbrev dktX3_isSame_0 : List UInt8 := dkwX3_isSame_0 ++ []
theorem dksX3_isSame_0 : cX3_isSame.data.toList.drop 0 = dktX3_isSame_0 := by decide +kernel
theorem dX3_isSame_0 : decode cX3_isSame 0 = .ok (.aload_n 0, 1) := dk_42 (dk_at dksX3_isSame_0 0 rfl rfl)
theorem dX3_isSame_1 : decode cX3_isSame 1 = .ok (.iconst 0, 1) := dk_3 (dk_at dksX3_isSame_0 1 rfl rfl)
theorem dX3_isSame_2 : decode cX3_isSame 2 = .ok (.putfield 123, 3) := dk_181 0 123 (dk_at dksX3_isSame_0 2 rfl rfl)
theorem dX3_isSame_5 : decode cX3_isSame 5 = .ok (.iconst 1, 1) := dk_4 (dk_at dksX3_isSame_0 5 rfl rfl)
theorem dX3_isSame_6 : decode cX3_isSame 6 = .ok (.ireturn, 1) := dk_172 (dk_at dksX3_isSame_0 6 rfl rfl)
def dkwX3_isWhole_0 : List UInt8 := [42, 3, 181, 0, 123, 4, 172]
abbrev dktX3_isWhole_0 : List UInt8 := dkwX3_isWhole_0 ++ []
theorem dksX3_isWhole_0 : cX3_isWhole.data.toList.drop 0 = dktX3_isWhole_0 := by decide +kernel
theorem dX3_isWhole_0 : decode cX3_isWhole 0 = .ok (.aload_n 0, 1) := dk_42 (dk_at dksX3_isWhole_0 0 rfl rfl)
theorem dX3_isWhole_1 : decode cX3_isWhole 1 = .ok (.iconst 0, 1) := dk_3 (dk_at dksX3_isWhole_0 1 rfl rfl)
theorem dX3_isWhole_2 : decode cX3_isWhole 2 = .ok (.putfield 123, 3) := dk_181 0 123 (dk_at dksX3_isWhole_0 2 rfl rfl)
theorem dX3_isWhole_5 : decode cX3_isWhole 5 = .ok (.iconst 1, 1) := dk_4 (dk_at dksX3_isWhole_0 5 rfl rfl)
theorem dX3_isWhole_6 : decode cX3_isWhole 6 = .ok (.ireturn, 1) := dk_172 (dk_at dksX3_isWhole_0 6 rfl rfl)
