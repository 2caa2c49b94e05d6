/-! decode rows of HairRope -/
set_option maxRecDepth 100000
def dkwX0_init_12 : List UInt8 := [180, 0, 40, 182, 0, 115, 177]
abbrev dktX0_init_12 : List UInt8 := dkwX0_init_12 ++ []
def dkwX0_init_11 : List UInt8 := [180, 0, 58, 27, 187, 0, 48, 89, 183, 0, 50, 83, 132, 1, 1, 167, 255, 234, 42, 180, 0, 51, 42]
abbrev dktX0_init_11 : List UInt8 := dkwX0_init_11 ++ dktX0_init_12
def dkwX0_init_10 : List UInt8 := [181, 0, 109, 42, 16, 6, 16, 6, 197, 0, 82, 2, 181, 0, 112, 3, 60, 27, 16, 40, 162, 0, 22, 42]
abbrev dktX0_init_10 : List UInt8 := dkwX0_init_10 ++ dktX0_init_11
def dkwX0_init_9 : List UInt8 := [181, 0, 100, 42, 16, 20, 188, 10, 181, 0, 103, 42, 16, 20, 188, 4, 181, 0, 106, 42, 16, 6, 188, 10]
abbrev dktX0_init_9 : List UInt8 := dkwX0_init_9 ++ dktX0_init_10
def dkwX0_init_8 : List UInt8 := [181, 0, 90, 42, 16, 6, 188, 10, 181, 0, 94, 42, 16, 6, 188, 10, 181, 0, 97, 42, 16, 20, 188, 10]
abbrev dktX0_init_8 : List UInt8 := dkwX0_init_8 ++ dktX0_init_9
def dkwX0_init_7 : List UInt8 := [197, 0, 82, 2, 181, 0, 84, 42, 16, 6, 16, 6, 197, 0, 82, 2, 181, 0, 87, 42, 16, 64, 188, 10]
abbrev dktX0_init_7 : List UInt8 := dkwX0_init_7 ++ dktX0_init_8
def dkwX0_init_6 : List UInt8 := [42, 187, 0, 72, 89, 183, 0, 74, 181, 0, 75, 42, 6, 188, 4, 181, 0, 78, 42, 16, 64, 16, 6]
abbrev dktX0_init_6 : List UInt8 := dkwX0_init_6 ++ dktX0_init_7
def dkwX0_init_5 : List UInt8 := [89, 5, 187, 0, 48, 89, 183, 0, 50, 83, 181, 0, 62, 42, 187, 0, 65, 89, 183, 0, 67, 181, 0, 68]
abbrev dktX0_init_5 : List UInt8 := dkwX0_init_5 ++ dktX0_init_6
def dkwX0_init_4 : List UInt8 := [6, 189, 0, 48, 89, 3, 187, 0, 48, 89, 183, 0, 50, 83, 89, 4, 187, 0, 48, 89, 183, 0, 50, 83]
abbrev dktX0_init_4 : List UInt8 := dkwX0_init_4 ++ dktX0_init_5
def dkwX0_init_3 : List UInt8 := [181, 0, 51, 42, 187, 0, 48, 89, 183, 0, 50, 181, 0, 55, 42, 16, 40, 189, 0, 48, 181, 0, 58, 42]
abbrev dktX0_init_3 : List UInt8 := dkwX0_init_3 ++ dktX0_init_4
def dkwX0_init_2 : List UInt8 := [187, 0, 37, 89, 183, 0, 39, 181, 0, 40, 42, 2, 181, 0, 44, 42, 187, 0, 48, 89, 183, 0, 50]
abbrev dktX0_init_2 : List UInt8 := dkwX0_init_2 ++ dktX0_init_3
def dkwX0_init_1 : List UInt8 := [181, 0, 24, 42, 187, 0, 28, 89, 42, 180, 0, 24, 42, 180, 0, 17, 183, 0, 30, 181, 0, 33, 42]
abbrev dktX0_init_1 : List UInt8 := dkwX0_init_1 ++ dktX0_init_2
def dkwX0_init_0 : List UInt8 := [42, 183, 0, 8, 42, 187, 0, 14, 89, 183, 0, 16, 181, 0, 17, 42, 187, 0, 21, 89, 183, 0, 23]
abbrev dktX0_init_0 : List UInt8 := dkwX0_init_0 ++ dktX0_init_1
theorem dksX0_init_0 : cX0_init.data.toList.drop 0 = dktX0_init_0 := by decide +kernel
theorem dksX0_init_1 : cX0_init.data.toList.drop 23 = dktX0_init_1 := dk_seg dksX0_init_0 23 rfl rfl
theorem dksX0_init_2 : cX0_init.data.toList.drop 46 = dktX0_init_2 := dk_seg dksX0_init_1 23 rfl rfl
theorem dksX0_init_3 : cX0_init.data.toList.drop 69 = dktX0_init_3 := dk_seg dksX0_init_2 23 rfl rfl
theorem dksX0_init_4 : cX0_init.data.toList.drop 93 = dktX0_init_4 := dk_seg dksX0_init_3 24 rfl rfl
theorem dksX0_init_5 : cX0_init.data.toList.drop 117 = dktX0_init_5 := dk_seg dksX0_init_4 24 rfl rfl
theorem dksX0_init_6 : cX0_init.data.toList.drop 141 = dktX0_init_6 := dk_seg dksX0_init_5 24 rfl rfl
theorem dksX0_init_7 : cX0_init.data.toList.drop 164 = dktX0_init_7 := dk_seg dksX0_init_6 23 rfl rfl
theorem dksX0_init_8 : cX0_init.data.toList.drop 188 = dktX0_init_8 := dk_seg dksX0_init_7 24 rfl rfl
theorem dksX0_init_9 : cX0_init.data.toList.drop 212 = dktX0_init_9 := dk_seg dksX0_init_8 24 rfl rfl
theorem dksX0_init_10 : cX0_init.data.toList.drop 236 = dktX0_init_10 := dk_seg dksX0_init_9 24 rfl rfl
theorem dksX0_init_11 : cX0_init.data.toList.drop 260 = dktX0_init_11 := dk_seg dksX0_init_10 24 rfl rfl
theorem dksX0_init_12 : cX0_init.data.toList.drop 283 = dktX0_init_12 := dk_seg dksX0_init_11 23 rfl rfl
theorem dX0_init_0 : decode cX0_init 0 = .ok (.aload_n 0, 1) := dk_42 (dk_at dksX0_init_0 0 rfl rfl)
theorem dX0_init_1 : decode cX0_init 1 = .ok (.invokespecial 8, 3) := dk_183 0 8 (dk_at dksX0_init_0 1 rfl rfl)
theorem dX0_init_4 : decode cX0_init 4 = .ok (.aload_n 0, 1) := dk_42 (dk_at dksX0_init_0 4 rfl rfl)
theorem dX0_init_5 : decode cX0_init 5 = .ok (.new 14, 3) := dk_187 0 14 (dk_at dksX0_init_0 5 rfl rfl)
theorem dX0_init_8 : decode cX0_init 8 = .ok (.dup, 1) := dk_89 (dk_at dksX0_init_0 8 rfl rfl)
theorem dX0_init_9 : decode cX0_init 9 = .ok (.invokespecial 16, 3) := dk_183 0 16 (dk_at dksX0_init_0 9 rfl rfl)
theorem dX0_init_12 : decode cX0_init 12 = .ok (.putfield 17, 3) := dk_181 0 17 (dk_at dksX0_init_0 12 rfl rfl)
theorem dX0_init_15 : decode cX0_init 15 = .ok (.aload_n 0, 1) := dk_42 (dk_at dksX0_init_0 15 rfl rfl)
theorem dX0_init_16 : decode cX0_init 16 = .ok (.new 21, 3) := dk_187 0 21 (dk_at dksX0_init_0 16 rfl rfl)
theorem dX0_init_19 : decode cX0_init 19 = .ok (.dup, 1) := dk_89 (dk_at dksX0_init_0 19 rfl rfl)
theorem dX0_init_20 : decode cX0_init 20 = .ok (.invokespecial 23, 3) := dk_183 0 23 (dk_at dksX0_init_0 20 rfl rfl)
theorem dX0_init_23 : decode cX0_init 23 = .ok (.putfield 24, 3) := dk_181 0 24 (dk_at dksX0_init_1 0 rfl rfl)
theorem dX0_init_26 : decode cX0_init 26 = .ok (.aload_n 0, 1) := dk_42 (dk_at dksX0_init_1 3 rfl rfl)
theorem dX0_init_27 : decode cX0_init 27 = .ok (.new 28, 3) := dk_187 0 28 (dk_at dksX0_init_1 4 rfl rfl)
theorem dX0_init_30 : decode cX0_init 30 = .ok (.dup, 1) := dk_89 (dk_at dksX0_init_1 7 rfl rfl)
theorem dX0_init_31 : decode cX0_init 31 = .ok (.aload_n 0, 1) := dk_42 (dk_at dksX0_init_1 8 rfl rfl)
theorem dX0_init_32 : decode cX0_init 32 = .ok (.getfield 24, 3) := dk_180 0 24 (dk_at dksX0_init_1 9 rfl rfl)
theorem dX0_init_35 : decode cX0_init 35 = .ok (.aload_n 0, 1) := dk_42 (dk_at dksX0_init_1 12 rfl rfl)
theorem dX0_init_36 : decode cX0_init 36 = .ok (.getfield 17, 3) := dk_180 0 17 (dk_at dksX0_init_1 13 rfl rfl)
theorem dX0_init_39 : decode cX0_init 39 = .ok (.invokespecial 30, 3) := dk_183 0 30 (dk_at dksX0_init_1 16 rfl rfl)
theorem dX0_init_42 : decode cX0_init 42 = .ok (.putfield 33, 3) := dk_181 0 33 (dk_at dksX0_init_1 19 rfl rfl)
theorem dX0_init_45 : decode cX0_init 45 = .ok (.aload_n 0, 1) := dk_42 (dk_at dksX0_init_1 22 rfl rfl)
theorem dX0_init_46 : decode cX0_init 46 = .ok (.new 37, 3) := dk_187 0 37 (dk_at dksX0_init_2 0 rfl rfl)
theorem dX0_init_49 : decode cX0_init 49 = .ok (.dup, 1) := dk_89 (dk_at dksX0_init_2 3 rfl rfl)
theorem dX0_init_50 : decode cX0_init 50 = .ok (.invokespecial 39, 3) := dk_183 0 39 (dk_at dksX0_init_2 4 rfl rfl)
theorem dX0_init_53 : decode cX0_init 53 = .ok (.putfield 40, 3) := dk_181 0 40 (dk_at dksX0_init_2 7 rfl rfl)
theorem dX0_init_56 : decode cX0_init 56 = .ok (.aload_n 0, 1) := dk_42 (dk_at dksX0_init_2 10 rfl rfl)
theorem dX0_init_57 : decode cX0_init 57 = .ok (.iconst (-1), 1) := dk_2 (dk_at dksX0_init_2 11 rfl rfl)
theorem dX0_init_58 : decode cX0_init 58 = .ok (.putfield 44, 3) := dk_181 0 44 (dk_at dksX0_init_2 12 rfl rfl)
theorem dX0_init_61 : decode cX0_init 61 = .ok (.aload_n 0, 1) := dk_42 (dk_at dksX0_init_2 15 rfl rfl)
theorem dX0_init_62 : decode cX0_init 62 = .ok (.new 48, 3) := dk_187 0 48 (dk_at dksX0_init_2 16 rfl rfl)
theorem dX0_init_65 : decode cX0_init 65 = .ok (.dup, 1) := dk_89 (dk_at dksX0_init_2 19 rfl rfl)
theorem dX0_init_66 : decode cX0_init 66 = .ok (.invokespecial 50, 3) := dk_183 0 50 (dk_at dksX0_init_2 20 rfl rfl)
theorem dX0_init_69 : decode cX0_init 69 = .ok (.putfield 51, 3) := dk_181 0 51 (dk_at dksX0_init_3 0 rfl rfl)
theorem dX0_init_72 : decode cX0_init 72 = .ok (.aload_n 0, 1) := dk_42 (dk_at dksX0_init_3 3 rfl rfl)
theorem dX0_init_73 : decode cX0_init 73 = .ok (.new 48, 3) := dk_187 0 48 (dk_at dksX0_init_3 4 rfl rfl)
theorem dX0_init_76 : decode cX0_init 76 = .ok (.dup, 1) := dk_89 (dk_at dksX0_init_3 7 rfl rfl)
theorem dX0_init_77 : decode cX0_init 77 = .ok (.invokespecial 50, 3) := dk_183 0 50 (dk_at dksX0_init_3 8 rfl rfl)
theorem dX0_init_80 : decode cX0_init 80 = .ok (.putfield 55, 3) := dk_181 0 55 (dk_at dksX0_init_3 11 rfl rfl)
theorem dX0_init_83 : decode cX0_init 83 = .ok (.aload_n 0, 1) := dk_42 (dk_at dksX0_init_3 14 rfl rfl)
theorem dX0_init_84 : decode cX0_init 84 = .ok (.bipush 40, 2) := dk_16 40 (dk_at dksX0_init_3 15 rfl rfl)
theorem dX0_init_86 : decode cX0_init 86 = .ok (.anewarray 48, 3) := dk_189 0 48 (dk_at dksX0_init_3 17 rfl rfl)
theorem dX0_init_89 : decode cX0_init 89 = .ok (.putfield 58, 3) := dk_181 0 58 (dk_at dksX0_init_3 20 rfl rfl)
theorem dX0_init_92 : decode cX0_init 92 = .ok (.aload_n 0, 1) := dk_42 (dk_at dksX0_init_3 23 rfl rfl)
theorem dX0_init_93 : decode cX0_init 93 = .ok (.iconst 3, 1) := dk_6 (dk_at dksX0_init_4 0 rfl rfl)
theorem dX0_init_94 : decode cX0_init 94 = .ok (.anewarray 48, 3) := dk_189 0 48 (dk_at dksX0_init_4 1 rfl rfl)
theorem dX0_init_97 : decode cX0_init 97 = .ok (.dup, 1) := dk_89 (dk_at dksX0_init_4 4 rfl rfl)
theorem dX0_init_98 : decode cX0_init 98 = .ok (.iconst 0, 1) := dk_3 (dk_at dksX0_init_4 5 rfl rfl)
theorem dX0_init_99 : decode cX0_init 99 = .ok (.new 48, 3) := dk_187 0 48 (dk_at dksX0_init_4 6 rfl rfl)
theorem dX0_init_102 : decode cX0_init 102 = .ok (.dup, 1) := dk_89 (dk_at dksX0_init_4 9 rfl rfl)
theorem dX0_init_103 : decode cX0_init 103 = .ok (.invokespecial 50, 3) := dk_183 0 50 (dk_at dksX0_init_4 10 rfl rfl)
theorem dX0_init_106 : decode cX0_init 106 = .ok (.aastore, 1) := dk_83 (dk_at dksX0_init_4 13 rfl rfl)
theorem dX0_init_107 : decode cX0_init 107 = .ok (.dup, 1) := dk_89 (dk_at dksX0_init_4 14 rfl rfl)
theorem dX0_init_108 : decode cX0_init 108 = .ok (.iconst 1, 1) := dk_4 (dk_at dksX0_init_4 15 rfl rfl)
theorem dX0_init_109 : decode cX0_init 109 = .ok (.new 48, 3) := dk_187 0 48 (dk_at dksX0_init_4 16 rfl rfl)
theorem dX0_init_112 : decode cX0_init 112 = .ok (.dup, 1) := dk_89 (dk_at dksX0_init_4 19 rfl rfl)
theorem dX0_init_113 : decode cX0_init 113 = .ok (.invokespecial 50, 3) := dk_183 0 50 (dk_at dksX0_init_4 20 rfl rfl)
theorem dX0_init_116 : decode cX0_init 116 = .ok (.aastore, 1) := dk_83 (dk_at dksX0_init_4 23 rfl rfl)
theorem dX0_init_117 : decode cX0_init 117 = .ok (.dup, 1) := dk_89 (dk_at dksX0_init_5 0 rfl rfl)
theorem dX0_init_118 : decode cX0_init 118 = .ok (.iconst 2, 1) := dk_5 (dk_at dksX0_init_5 1 rfl rfl)
theorem dX0_init_119 : decode cX0_init 119 = .ok (.new 48, 3) := dk_187 0 48 (dk_at dksX0_init_5 2 rfl rfl)
theorem dX0_init_122 : decode cX0_init 122 = .ok (.dup, 1) := dk_89 (dk_at dksX0_init_5 5 rfl rfl)
theorem dX0_init_123 : decode cX0_init 123 = .ok (.invokespecial 50, 3) := dk_183 0 50 (dk_at dksX0_init_5 6 rfl rfl)
theorem dX0_init_126 : decode cX0_init 126 = .ok (.aastore, 1) := dk_83 (dk_at dksX0_init_5 9 rfl rfl)
theorem dX0_init_127 : decode cX0_init 127 = .ok (.putfield 62, 3) := dk_181 0 62 (dk_at dksX0_init_5 10 rfl rfl)
theorem dX0_init_130 : decode cX0_init 130 = .ok (.aload_n 0, 1) := dk_42 (dk_at dksX0_init_5 13 rfl rfl)
theorem dX0_init_131 : decode cX0_init 131 = .ok (.new 65, 3) := dk_187 0 65 (dk_at dksX0_init_5 14 rfl rfl)
theorem dX0_init_134 : decode cX0_init 134 = .ok (.dup, 1) := dk_89 (dk_at dksX0_init_5 17 rfl rfl)
theorem dX0_init_135 : decode cX0_init 135 = .ok (.invokespecial 67, 3) := dk_183 0 67 (dk_at dksX0_init_5 18 rfl rfl)
theorem dX0_init_138 : decode cX0_init 138 = .ok (.putfield 68, 3) := dk_181 0 68 (dk_at dksX0_init_5 21 rfl rfl)
theorem dX0_init_141 : decode cX0_init 141 = .ok (.aload_n 0, 1) := dk_42 (dk_at dksX0_init_6 0 rfl rfl)
theorem dX0_init_142 : decode cX0_init 142 = .ok (.new 72, 3) := dk_187 0 72 (dk_at dksX0_init_6 1 rfl rfl)
theorem dX0_init_145 : decode cX0_init 145 = .ok (.dup, 1) := dk_89 (dk_at dksX0_init_6 4 rfl rfl)
theorem dX0_init_146 : decode cX0_init 146 = .ok (.invokespecial 74, 3) := dk_183 0 74 (dk_at dksX0_init_6 5 rfl rfl)
theorem dX0_init_149 : decode cX0_init 149 = .ok (.putfield 75, 3) := dk_181 0 75 (dk_at dksX0_init_6 8 rfl rfl)
theorem dX0_init_152 : decode cX0_init 152 = .ok (.aload_n 0, 1) := dk_42 (dk_at dksX0_init_6 11 rfl rfl)
theorem dX0_init_153 : decode cX0_init 153 = .ok (.iconst 3, 1) := dk_6 (dk_at dksX0_init_6 12 rfl rfl)
theorem dX0_init_154 : decode cX0_init 154 = .ok (.newarray .boolean, 2) := dk_188_4 (dk_at dksX0_init_6 13 rfl rfl)
theorem dX0_init_156 : decode cX0_init 156 = .ok (.putfield 78, 3) := dk_181 0 78 (dk_at dksX0_init_6 15 rfl rfl)
theorem dX0_init_159 : decode cX0_init 159 = .ok (.aload_n 0, 1) := dk_42 (dk_at dksX0_init_6 18 rfl rfl)
theorem dX0_init_160 : decode cX0_init 160 = .ok (.bipush 64, 2) := dk_16 64 (dk_at dksX0_init_6 19 rfl rfl)
theorem dX0_init_162 : decode cX0_init 162 = .ok (.bipush 6, 2) := dk_16 6 (dk_at dksX0_init_6 21 rfl rfl)
theorem dX0_init_164 : decode cX0_init 164 = .ok (.multianewarray 82 2, 4) := by decide +kernel
theorem dX0_init_168 : decode cX0_init 168 = .ok (.putfield 84, 3) := dk_181 0 84 (dk_at dksX0_init_7 4 rfl rfl)
theorem dX0_init_171 : decode cX0_init 171 = .ok (.aload_n 0, 1) := dk_42 (dk_at dksX0_init_7 7 rfl rfl)
theorem dX0_init_172 : decode cX0_init 172 = .ok (.bipush 6, 2) := dk_16 6 (dk_at dksX0_init_7 8 rfl rfl)
theorem dX0_init_174 : decode cX0_init 174 = .ok (.bipush 6, 2) := dk_16 6 (dk_at dksX0_init_7 10 rfl rfl)
theorem dX0_init_176 : decode cX0_init 176 = .ok (.multianewarray 82 2, 4) := by decide +kernel
theorem dX0_init_180 : decode cX0_init 180 = .ok (.putfield 87, 3) := dk_181 0 87 (dk_at dksX0_init_7 16 rfl rfl)
theorem dX0_init_183 : decode cX0_init 183 = .ok (.aload_n 0, 1) := dk_42 (dk_at dksX0_init_7 19 rfl rfl)
theorem dX0_init_184 : decode cX0_init 184 = .ok (.bipush 64, 2) := dk_16 64 (dk_at dksX0_init_7 20 rfl rfl)
theorem dX0_init_186 : decode cX0_init 186 = .ok (.newarray .int, 2) := dk_188_10 (dk_at dksX0_init_7 22 rfl rfl)
theorem dX0_init_188 : decode cX0_init 188 = .ok (.putfield 90, 3) := dk_181 0 90 (dk_at dksX0_init_8 0 rfl rfl)
theorem dX0_init_191 : decode cX0_init 191 = .ok (.aload_n 0, 1) := dk_42 (dk_at dksX0_init_8 3 rfl rfl)
theorem dX0_init_192 : decode cX0_init 192 = .ok (.bipush 6, 2) := dk_16 6 (dk_at dksX0_init_8 4 rfl rfl)
theorem dX0_init_194 : decode cX0_init 194 = .ok (.newarray .int, 2) := dk_188_10 (dk_at dksX0_init_8 6 rfl rfl)
theorem dX0_init_196 : decode cX0_init 196 = .ok (.putfield 94, 3) := dk_181 0 94 (dk_at dksX0_init_8 8 rfl rfl)
theorem dX0_init_199 : decode cX0_init 199 = .ok (.aload_n 0, 1) := dk_42 (dk_at dksX0_init_8 11 rfl rfl)
theorem dX0_init_200 : decode cX0_init 200 = .ok (.bipush 6, 2) := dk_16 6 (dk_at dksX0_init_8 12 rfl rfl)
theorem dX0_init_202 : decode cX0_init 202 = .ok (.newarray .int, 2) := dk_188_10 (dk_at dksX0_init_8 14 rfl rfl)
theorem dX0_init_204 : decode cX0_init 204 = .ok (.putfield 97, 3) := dk_181 0 97 (dk_at dksX0_init_8 16 rfl rfl)
theorem dX0_init_207 : decode cX0_init 207 = .ok (.aload_n 0, 1) := dk_42 (dk_at dksX0_init_8 19 rfl rfl)
theorem dX0_init_208 : decode cX0_init 208 = .ok (.bipush 20, 2) := dk_16 20 (dk_at dksX0_init_8 20 rfl rfl)
theorem dX0_init_210 : decode cX0_init 210 = .ok (.newarray .int, 2) := dk_188_10 (dk_at dksX0_init_8 22 rfl rfl)
theorem dX0_init_212 : decode cX0_init 212 = .ok (.putfield 100, 3) := dk_181 0 100 (dk_at dksX0_init_9 0 rfl rfl)
theorem dX0_init_215 : decode cX0_init 215 = .ok (.aload_n 0, 1) := dk_42 (dk_at dksX0_init_9 3 rfl rfl)
theorem dX0_init_216 : decode cX0_init 216 = .ok (.bipush 20, 2) := dk_16 20 (dk_at dksX0_init_9 4 rfl rfl)
theorem dX0_init_218 : decode cX0_init 218 = .ok (.newarray .int, 2) := dk_188_10 (dk_at dksX0_init_9 6 rfl rfl)
theorem dX0_init_220 : decode cX0_init 220 = .ok (.putfield 103, 3) := dk_181 0 103 (dk_at dksX0_init_9 8 rfl rfl)
theorem dX0_init_223 : decode cX0_init 223 = .ok (.aload_n 0, 1) := dk_42 (dk_at dksX0_init_9 11 rfl rfl)
theorem dX0_init_224 : decode cX0_init 224 = .ok (.bipush 20, 2) := dk_16 20 (dk_at dksX0_init_9 12 rfl rfl)
theorem dX0_init_226 : decode cX0_init 226 = .ok (.newarray .boolean, 2) := dk_188_4 (dk_at dksX0_init_9 14 rfl rfl)
theorem dX0_init_228 : decode cX0_init 228 = .ok (.putfield 106, 3) := dk_181 0 106 (dk_at dksX0_init_9 16 rfl rfl)
theorem dX0_init_231 : decode cX0_init 231 = .ok (.aload_n 0, 1) := dk_42 (dk_at dksX0_init_9 19 rfl rfl)
theorem dX0_init_232 : decode cX0_init 232 = .ok (.bipush 6, 2) := dk_16 6 (dk_at dksX0_init_9 20 rfl rfl)
theorem dX0_init_234 : decode cX0_init 234 = .ok (.newarray .int, 2) := dk_188_10 (dk_at dksX0_init_9 22 rfl rfl)
theorem dX0_init_236 : decode cX0_init 236 = .ok (.putfield 109, 3) := dk_181 0 109 (dk_at dksX0_init_10 0 rfl rfl)
theorem dX0_init_239 : decode cX0_init 239 = .ok (.aload_n 0, 1) := dk_42 (dk_at dksX0_init_10 3 rfl rfl)
theorem dX0_init_240 : decode cX0_init 240 = .ok (.bipush 6, 2) := dk_16 6 (dk_at dksX0_init_10 4 rfl rfl)
theorem dX0_init_242 : decode cX0_init 242 = .ok (.bipush 6, 2) := dk_16 6 (dk_at dksX0_init_10 6 rfl rfl)
theorem dX0_init_244 : decode cX0_init 244 = .ok (.multianewarray 82 2, 4) := by decide +kernel
theorem dX0_init_248 : decode cX0_init 248 = .ok (.putfield 112, 3) := dk_181 0 112 (dk_at dksX0_init_10 12 rfl rfl)
theorem dX0_init_251 : decode cX0_init 251 = .ok (.iconst 0, 1) := dk_3 (dk_at dksX0_init_10 15 rfl rfl)
theorem dX0_init_252 : decode cX0_init 252 = .ok (.istore_n 1, 1) := dk_60 (dk_at dksX0_init_10 16 rfl rfl)
theorem dX0_init_253 : decode cX0_init 253 = .ok (.iload_n 1, 1) := dk_27 (dk_at dksX0_init_10 17 rfl rfl)
theorem dX0_init_254 : decode cX0_init 254 = .ok (.bipush 40, 2) := dk_16 40 (dk_at dksX0_init_10 18 rfl rfl)
theorem dX0_init_256 : decode cX0_init 256 = .ok (.if_icmp .ge 22, 3) := dk_162 0 22 (dk_at dksX0_init_10 20 rfl rfl)
theorem dX0_init_259 : decode cX0_init 259 = .ok (.aload_n 0, 1) := dk_42 (dk_at dksX0_init_10 23 rfl rfl)
theorem dX0_init_260 : decode cX0_init 260 = .ok (.getfield 58, 3) := dk_180 0 58 (dk_at dksX0_init_11 0 rfl rfl)
theorem dX0_init_263 : decode cX0_init 263 = .ok (.iload_n 1, 1) := dk_27 (dk_at dksX0_init_11 3 rfl rfl)
theorem dX0_init_264 : decode cX0_init 264 = .ok (.new 48, 3) := dk_187 0 48 (dk_at dksX0_init_11 4 rfl rfl)
theorem dX0_init_267 : decode cX0_init 267 = .ok (.dup, 1) := dk_89 (dk_at dksX0_init_11 7 rfl rfl)
theorem dX0_init_268 : decode cX0_init 268 = .ok (.invokespecial 50, 3) := dk_183 0 50 (dk_at dksX0_init_11 8 rfl rfl)
theorem dX0_init_271 : decode cX0_init 271 = .ok (.aastore, 1) := dk_83 (dk_at dksX0_init_11 11 rfl rfl)
theorem dX0_init_272 : decode cX0_init 272 = .ok (.iinc 1 1, 3) := dk_132 1 1 (dk_at dksX0_init_11 12 rfl rfl)
theorem dX0_init_275 : decode cX0_init 275 = .ok (.goto (-22), 3) := dk_167 255 234 (dk_at dksX0_init_11 15 rfl rfl)
theorem dX0_init_278 : decode cX0_init 278 = .ok (.aload_n 0, 1) := dk_42 (dk_at dksX0_init_11 18 rfl rfl)
theorem dX0_init_279 : decode cX0_init 279 = .ok (.getfield 51, 3) := dk_180 0 51 (dk_at dksX0_init_11 19 rfl rfl)
theorem dX0_init_282 : decode cX0_init 282 = .ok (.aload_n 0, 1) := dk_42 (dk_at dksX0_init_11 22 rfl rfl)
theorem dX0_init_283 : decode cX0_init 283 = .ok (.getfield 40, 3) := dk_180 0 40 (dk_at dksX0_init_12 0 rfl rfl)
theorem dX0_init_286 : decode cX0_init 286 = .ok (.invokevirtual 115, 3) := dk_182 0 115 (dk_at dksX0_init_12 3 rfl rfl)
theorem dX0_init_289 : decode cX0_init 289 = .ok (.return_, 1) := dk_177 (dk_at dksX0_init_12 6 rfl rfl)
def dkwX0_feed_2 : List UInt8 := [180, 0, 24, 180, 0, 119, 172]
abbrev dktX0_feed_2 : List UInt8 := dkwX0_feed_2 ++ []
def dkwX0_feed_1 : List UInt8 := [28, 182, 0, 122, 42, 29, 182, 0, 122, 42, 21, 4, 182, 0, 122, 42, 21, 5, 182, 0, 122, 42]
abbrev dktX0_feed_1 : List UInt8 := dkwX0_feed_1 ++ dktX0_feed_2
def dkwX0_feed_0 : List UInt8 := [42, 180, 0, 24, 180, 0, 119, 16, 20, 96, 17, 7, 208, 164, 0, 5, 2, 172, 42, 27, 182, 0, 122, 42]
abbrev dktX0_feed_0 : List UInt8 := dkwX0_feed_0 ++ dktX0_feed_1
theorem dksX0_feed_0 : cX0_feed.data.toList.drop 0 = dktX0_feed_0 := by decide +kernel
theorem dksX0_feed_1 : cX0_feed.data.toList.drop 24 = dktX0_feed_1 := dk_seg dksX0_feed_0 24 rfl rfl
theorem dksX0_feed_2 : cX0_feed.data.toList.drop 46 = dktX0_feed_2 := dk_seg dksX0_feed_1 22 rfl rfl
theorem dX0_feed_0 : decode cX0_feed 0 = .ok (.aload_n 0, 1) := dk_42 (dk_at dksX0_feed_0 0 rfl rfl)
theorem dX0_feed_1 : decode cX0_feed 1 = .ok (.getfield 24, 3) := dk_180 0 24 (dk_at dksX0_feed_0 1 rfl rfl)
theorem dX0_feed_4 : decode cX0_feed 4 = .ok (.getfield 119, 3) := dk_180 0 119 (dk_at dksX0_feed_0 4 rfl rfl)
theorem dX0_feed_7 : decode cX0_feed 7 = .ok (.bipush 20, 2) := dk_16 20 (dk_at dksX0_feed_0 7 rfl rfl)
theorem dX0_feed_9 : decode cX0_feed 9 = .ok (.iadd, 1) := dk_96 (dk_at dksX0_feed_0 9 rfl rfl)
theorem dX0_feed_10 : decode cX0_feed 10 = .ok (.sipush 2000, 3) := dk_17 7 208 (dk_at dksX0_feed_0 10 rfl rfl)
theorem dX0_feed_13 : decode cX0_feed 13 = .ok (.if_icmp .le 5, 3) := dk_164 0 5 (dk_at dksX0_feed_0 13 rfl rfl)
theorem dX0_feed_16 : decode cX0_feed 16 = .ok (.iconst (-1), 1) := dk_2 (dk_at dksX0_feed_0 16 rfl rfl)
theorem dX0_feed_17 : decode cX0_feed 17 = .ok (.ireturn, 1) := dk_172 (dk_at dksX0_feed_0 17 rfl rfl)
theorem dX0_feed_18 : decode cX0_feed 18 = .ok (.aload_n 0, 1) := dk_42 (dk_at dksX0_feed_0 18 rfl rfl)
theorem dX0_feed_19 : decode cX0_feed 19 = .ok (.iload_n 1, 1) := dk_27 (dk_at dksX0_feed_0 19 rfl rfl)
theorem dX0_feed_20 : decode cX0_feed 20 = .ok (.invokevirtual 122, 3) := dk_182 0 122 (dk_at dksX0_feed_0 20 rfl rfl)
theorem dX0_feed_23 : decode cX0_feed 23 = .ok (.aload_n 0, 1) := dk_42 (dk_at dksX0_feed_0 23 rfl rfl)
theorem dX0_feed_24 : decode cX0_feed 24 = .ok (.iload_n 2, 1) := dk_28 (dk_at dksX0_feed_1 0 rfl rfl)
theorem dX0_feed_25 : decode cX0_feed 25 = .ok (.invokevirtual 122, 3) := dk_182 0 122 (dk_at dksX0_feed_1 1 rfl rfl)
theorem dX0_feed_28 : decode cX0_feed 28 = .ok (.aload_n 0, 1) := dk_42 (dk_at dksX0_feed_1 4 rfl rfl)
theorem dX0_feed_29 : decode cX0_feed 29 = .ok (.iload_n 3, 1) := dk_29 (dk_at dksX0_feed_1 5 rfl rfl)
theorem dX0_feed_30 : decode cX0_feed 30 = .ok (.invokevirtual 122, 3) := dk_182 0 122 (dk_at dksX0_feed_1 6 rfl rfl)
theorem dX0_feed_33 : decode cX0_feed 33 = .ok (.aload_n 0, 1) := dk_42 (dk_at dksX0_feed_1 9 rfl rfl)
theorem dX0_feed_34 : decode cX0_feed 34 = .ok (.iload 4, 2) := dk_21 4 (dk_at dksX0_feed_1 10 rfl rfl)
theorem dX0_feed_36 : decode cX0_feed 36 = .ok (.invokevirtual 122, 3) := dk_182 0 122 (dk_at dksX0_feed_1 12 rfl rfl)
theorem dX0_feed_39 : decode cX0_feed 39 = .ok (.aload_n 0, 1) := dk_42 (dk_at dksX0_feed_1 15 rfl rfl)
theorem dX0_feed_40 : decode cX0_feed 40 = .ok (.iload 5, 2) := dk_21 5 (dk_at dksX0_feed_1 16 rfl rfl)
theorem dX0_feed_42 : decode cX0_feed 42 = .ok (.invokevirtual 122, 3) := dk_182 0 122 (dk_at dksX0_feed_1 18 rfl rfl)
theorem dX0_feed_45 : decode cX0_feed 45 = .ok (.aload_n 0, 1) := dk_42 (dk_at dksX0_feed_1 21 rfl rfl)
theorem dX0_feed_46 : decode cX0_feed 46 = .ok (.getfield 24, 3) := dk_180 0 24 (dk_at dksX0_feed_2 0 rfl rfl)
theorem dX0_feed_49 : decode cX0_feed 49 = .ok (.getfield 119, 3) := dk_180 0 119 (dk_at dksX0_feed_2 3 rfl rfl)
theorem dX0_feed_52 : decode cX0_feed 52 = .ok (.ireturn, 1) := dk_172 (dk_at dksX0_feed_2 6 rfl rfl)
def dkwX0_typed_1 : List UInt8 := [145, 84, 42, 180, 0, 24, 89, 180, 0, 119, 4, 96, 181, 0, 119, 132, 2, 248, 167, 255, 217, 177]
abbrev dktX0_typed_1 : List UInt8 := dkwX0_typed_1 ++ []
def dkwX0_typed_0 : List UInt8 := [16, 24, 61, 28, 155, 0, 41, 42, 180, 0, 24, 180, 0, 126, 42, 180, 0, 24, 180, 0, 119, 27, 28, 122]
abbrev dktX0_typed_0 : List UInt8 := dkwX0_typed_0 ++ dktX0_typed_1
theorem dksX0_typed_0 : cX0_typed.data.toList.drop 0 = dktX0_typed_0 := by decide +kernel
theorem dksX0_typed_1 : cX0_typed.data.toList.drop 24 = dktX0_typed_1 := dk_seg dksX0_typed_0 24 rfl rfl
theorem dX0_typed_0 : decode cX0_typed 0 = .ok (.bipush 24, 2) := dk_16 24 (dk_at dksX0_typed_0 0 rfl rfl)
theorem dX0_typed_2 : decode cX0_typed 2 = .ok (.istore_n 2, 1) := dk_61 (dk_at dksX0_typed_0 2 rfl rfl)
theorem dX0_typed_3 : decode cX0_typed 3 = .ok (.iload_n 2, 1) := dk_28 (dk_at dksX0_typed_0 3 rfl rfl)
theorem dX0_typed_4 : decode cX0_typed 4 = .ok (.ifCond .lt 41, 3) := dk_155 0 41 (dk_at dksX0_typed_0 4 rfl rfl)
theorem dX0_typed_7 : decode cX0_typed 7 = .ok (.aload_n 0, 1) := dk_42 (dk_at dksX0_typed_0 7 rfl rfl)
theorem dX0_typed_8 : decode cX0_typed 8 = .ok (.getfield 24, 3) := dk_180 0 24 (dk_at dksX0_typed_0 8 rfl rfl)
theorem dX0_typed_11 : decode cX0_typed 11 = .ok (.getfield 126, 3) := dk_180 0 126 (dk_at dksX0_typed_0 11 rfl rfl)
theorem dX0_typed_14 : decode cX0_typed 14 = .ok (.aload_n 0, 1) := dk_42 (dk_at dksX0_typed_0 14 rfl rfl)
theorem dX0_typed_15 : decode cX0_typed 15 = .ok (.getfield 24, 3) := dk_180 0 24 (dk_at dksX0_typed_0 15 rfl rfl)
theorem dX0_typed_18 : decode cX0_typed 18 = .ok (.getfield 119, 3) := dk_180 0 119 (dk_at dksX0_typed_0 18 rfl rfl)
theorem dX0_typed_21 : decode cX0_typed 21 = .ok (.iload_n 1, 1) := dk_27 (dk_at dksX0_typed_0 21 rfl rfl)
theorem dX0_typed_22 : decode cX0_typed 22 = .ok (.iload_n 2, 1) := dk_28 (dk_at dksX0_typed_0 22 rfl rfl)
theorem dX0_typed_23 : decode cX0_typed 23 = .ok (.ishr, 1) := dk_122 (dk_at dksX0_typed_0 23 rfl rfl)
theorem dX0_typed_24 : decode cX0_typed 24 = .ok (.i2b, 1) := dk_145 (dk_at dksX0_typed_1 0 rfl rfl)
theorem dX0_typed_25 : decode cX0_typed 25 = .ok (.bastore, 1) := dk_84 (dk_at dksX0_typed_1 1 rfl rfl)
theorem dX0_typed_26 : decode cX0_typed 26 = .ok (.aload_n 0, 1) := dk_42 (dk_at dksX0_typed_1 2 rfl rfl)
theorem dX0_typed_27 : decode cX0_typed 27 = .ok (.getfield 24, 3) := dk_180 0 24 (dk_at dksX0_typed_1 3 rfl rfl)
theorem dX0_typed_30 : decode cX0_typed 30 = .ok (.dup, 1) := dk_89 (dk_at dksX0_typed_1 6 rfl rfl)
theorem dX0_typed_31 : decode cX0_typed 31 = .ok (.getfield 119, 3) := dk_180 0 119 (dk_at dksX0_typed_1 7 rfl rfl)
theorem dX0_typed_34 : decode cX0_typed 34 = .ok (.iconst 1, 1) := dk_4 (dk_at dksX0_typed_1 10 rfl rfl)
theorem dX0_typed_35 : decode cX0_typed 35 = .ok (.iadd, 1) := dk_96 (dk_at dksX0_typed_1 11 rfl rfl)
theorem dX0_typed_36 : decode cX0_typed 36 = .ok (.putfield 119, 3) := dk_181 0 119 (dk_at dksX0_typed_1 12 rfl rfl)
theorem dX0_typed_39 : decode cX0_typed 39 = .ok (.iinc 2 (-8), 3) := dk_132 2 248 (dk_at dksX0_typed_1 15 rfl rfl)
theorem dX0_typed_42 : decode cX0_typed 42 = .ok (.goto (-39), 3) := dk_167 255 217 (dk_at dksX0_typed_1 18 rfl rfl)
theorem dX0_typed_45 : decode cX0_typed 45 = .ok (.return_, 1) := dk_177 (dk_at dksX0_typed_1 21 rfl rfl)
def dkwX0_back_1 : List UInt8 := [180, 0, 119, 27, 100, 181, 0, 119, 42, 180, 0, 24, 180, 0, 119, 172]
abbrev dktX0_back_1 : List UInt8 := dkwX0_back_1 ++ []
def dkwX0_back_0 : List UInt8 := [27, 155, 0, 14, 27, 42, 180, 0, 24, 180, 0, 119, 164, 0, 5, 2, 172, 42, 180, 0, 24, 89]
abbrev dktX0_back_0 : List UInt8 := dkwX0_back_0 ++ dktX0_back_1
theorem dksX0_back_0 : cX0_back.data.toList.drop 0 = dktX0_back_0 := by decide +kernel
theorem dksX0_back_1 : cX0_back.data.toList.drop 22 = dktX0_back_1 := dk_seg dksX0_back_0 22 rfl rfl
theorem dX0_back_0 : decode cX0_back 0 = .ok (.iload_n 1, 1) := dk_27 (dk_at dksX0_back_0 0 rfl rfl)
theorem dX0_back_1 : decode cX0_back 1 = .ok (.ifCond .lt 14, 3) := dk_155 0 14 (dk_at dksX0_back_0 1 rfl rfl)
theorem dX0_back_4 : decode cX0_back 4 = .ok (.iload_n 1, 1) := dk_27 (dk_at dksX0_back_0 4 rfl rfl)
theorem dX0_back_5 : decode cX0_back 5 = .ok (.aload_n 0, 1) := dk_42 (dk_at dksX0_back_0 5 rfl rfl)
theorem dX0_back_6 : decode cX0_back 6 = .ok (.getfield 24, 3) := dk_180 0 24 (dk_at dksX0_back_0 6 rfl rfl)
theorem dX0_back_9 : decode cX0_back 9 = .ok (.getfield 119, 3) := dk_180 0 119 (dk_at dksX0_back_0 9 rfl rfl)
theorem dX0_back_12 : decode cX0_back 12 = .ok (.if_icmp .le 5, 3) := dk_164 0 5 (dk_at dksX0_back_0 12 rfl rfl)
theorem dX0_back_15 : decode cX0_back 15 = .ok (.iconst (-1), 1) := dk_2 (dk_at dksX0_back_0 15 rfl rfl)
theorem dX0_back_16 : decode cX0_back 16 = .ok (.ireturn, 1) := dk_172 (dk_at dksX0_back_0 16 rfl rfl)
theorem dX0_back_17 : decode cX0_back 17 = .ok (.aload_n 0, 1) := dk_42 (dk_at dksX0_back_0 17 rfl rfl)
theorem dX0_back_18 : decode cX0_back 18 = .ok (.getfield 24, 3) := dk_180 0 24 (dk_at dksX0_back_0 18 rfl rfl)
theorem dX0_back_21 : decode cX0_back 21 = .ok (.dup, 1) := dk_89 (dk_at dksX0_back_0 21 rfl rfl)
theorem dX0_back_22 : decode cX0_back 22 = .ok (.getfield 119, 3) := dk_180 0 119 (dk_at dksX0_back_1 0 rfl rfl)
theorem dX0_back_25 : decode cX0_back 25 = .ok (.iload_n 1, 1) := dk_27 (dk_at dksX0_back_1 3 rfl rfl)
theorem dX0_back_26 : decode cX0_back 26 = .ok (.isub, 1) := dk_100 (dk_at dksX0_back_1 4 rfl rfl)
theorem dX0_back_27 : decode cX0_back 27 = .ok (.putfield 119, 3) := dk_181 0 119 (dk_at dksX0_back_1 5 rfl rfl)
theorem dX0_back_30 : decode cX0_back 30 = .ok (.aload_n 0, 1) := dk_42 (dk_at dksX0_back_1 8 rfl rfl)
theorem dX0_back_31 : decode cX0_back 31 = .ok (.getfield 24, 3) := dk_180 0 24 (dk_at dksX0_back_1 9 rfl rfl)
theorem dX0_back_34 : decode cX0_back 34 = .ok (.getfield 119, 3) := dk_180 0 119 (dk_at dksX0_back_1 12 rfl rfl)
theorem dX0_back_37 : decode cX0_back 37 = .ok (.ireturn, 1) := dk_172 (dk_at dksX0_back_1 15 rfl rfl)
def dkwX0_read_3 : List UInt8 := [180, 0, 143, 181, 0, 44, 42, 180, 0, 24, 3, 181, 0, 119, 27, 172]
abbrev dktX0_read_3 : List UInt8 := dkwX0_read_3 ++ []
def dkwX0_read_2 : List UInt8 := [180, 0, 78, 28, 3, 84, 132, 2, 1, 167, 255, 241, 167, 0, 17, 77, 44, 180, 0, 140, 60, 42, 44]
abbrev dktX0_read_2 : List UInt8 := dkwX0_read_2 ++ dktX0_read_3
def dkwX0_read_1 : List UInt8 := [180, 0, 40, 182, 0, 115, 42, 3, 181, 0, 134, 42, 3, 181, 0, 137, 3, 61, 28, 6, 162, 0, 16, 42]
abbrev dktX0_read_1 : List UInt8 := dkwX0_read_1 ++ dktX0_read_2
def dkwX0_read_0 : List UInt8 := [3, 60, 42, 2, 181, 0, 44, 42, 42, 180, 0, 33, 182, 0, 130, 181, 0, 40, 42, 180, 0, 51, 42]
abbrev dktX0_read_0 : List UInt8 := dkwX0_read_0 ++ dktX0_read_1
theorem dksX0_read_0 : cX0_read.data.toList.drop 0 = dktX0_read_0 := by decide +kernel
theorem dksX0_read_1 : cX0_read.data.toList.drop 23 = dktX0_read_1 := dk_seg dksX0_read_0 23 rfl rfl
theorem dksX0_read_2 : cX0_read.data.toList.drop 47 = dktX0_read_2 := dk_seg dksX0_read_1 24 rfl rfl
theorem dksX0_read_3 : cX0_read.data.toList.drop 70 = dktX0_read_3 := dk_seg dksX0_read_2 23 rfl rfl
theorem dX0_read_0 : decode cX0_read 0 = .ok (.iconst 0, 1) := dk_3 (dk_at dksX0_read_0 0 rfl rfl)
theorem dX0_read_1 : decode cX0_read 1 = .ok (.istore_n 1, 1) := dk_60 (dk_at dksX0_read_0 1 rfl rfl)
theorem dX0_read_2 : decode cX0_read 2 = .ok (.aload_n 0, 1) := dk_42 (dk_at dksX0_read_0 2 rfl rfl)
theorem dX0_read_3 : decode cX0_read 3 = .ok (.iconst (-1), 1) := dk_2 (dk_at dksX0_read_0 3 rfl rfl)
theorem dX0_read_4 : decode cX0_read 4 = .ok (.putfield 44, 3) := dk_181 0 44 (dk_at dksX0_read_0 4 rfl rfl)
theorem dX0_read_7 : decode cX0_read 7 = .ok (.aload_n 0, 1) := dk_42 (dk_at dksX0_read_0 7 rfl rfl)
theorem dX0_read_8 : decode cX0_read 8 = .ok (.aload_n 0, 1) := dk_42 (dk_at dksX0_read_0 8 rfl rfl)
theorem dX0_read_9 : decode cX0_read 9 = .ok (.getfield 33, 3) := dk_180 0 33 (dk_at dksX0_read_0 9 rfl rfl)
theorem dX0_read_12 : decode cX0_read 12 = .ok (.invokevirtual 130, 3) := dk_182 0 130 (dk_at dksX0_read_0 12 rfl rfl)
theorem dX0_read_15 : decode cX0_read 15 = .ok (.putfield 40, 3) := dk_181 0 40 (dk_at dksX0_read_0 15 rfl rfl)
theorem dX0_read_18 : decode cX0_read 18 = .ok (.aload_n 0, 1) := dk_42 (dk_at dksX0_read_0 18 rfl rfl)
theorem dX0_read_19 : decode cX0_read 19 = .ok (.getfield 51, 3) := dk_180 0 51 (dk_at dksX0_read_0 19 rfl rfl)
theorem dX0_read_22 : decode cX0_read 22 = .ok (.aload_n 0, 1) := dk_42 (dk_at dksX0_read_0 22 rfl rfl)
theorem dX0_read_23 : decode cX0_read 23 = .ok (.getfield 40, 3) := dk_180 0 40 (dk_at dksX0_read_1 0 rfl rfl)
theorem dX0_read_26 : decode cX0_read 26 = .ok (.invokevirtual 115, 3) := dk_182 0 115 (dk_at dksX0_read_1 3 rfl rfl)
theorem dX0_read_29 : decode cX0_read 29 = .ok (.aload_n 0, 1) := dk_42 (dk_at dksX0_read_1 6 rfl rfl)
theorem dX0_read_30 : decode cX0_read 30 = .ok (.iconst 0, 1) := dk_3 (dk_at dksX0_read_1 7 rfl rfl)
theorem dX0_read_31 : decode cX0_read 31 = .ok (.putfield 134, 3) := dk_181 0 134 (dk_at dksX0_read_1 8 rfl rfl)
theorem dX0_read_34 : decode cX0_read 34 = .ok (.aload_n 0, 1) := dk_42 (dk_at dksX0_read_1 11 rfl rfl)
theorem dX0_read_35 : decode cX0_read 35 = .ok (.iconst 0, 1) := dk_3 (dk_at dksX0_read_1 12 rfl rfl)
theorem dX0_read_36 : decode cX0_read 36 = .ok (.putfield 137, 3) := dk_181 0 137 (dk_at dksX0_read_1 13 rfl rfl)
theorem dX0_read_39 : decode cX0_read 39 = .ok (.iconst 0, 1) := dk_3 (dk_at dksX0_read_1 16 rfl rfl)
theorem dX0_read_40 : decode cX0_read 40 = .ok (.istore_n 2, 1) := dk_61 (dk_at dksX0_read_1 17 rfl rfl)
theorem dX0_read_41 : decode cX0_read 41 = .ok (.iload_n 2, 1) := dk_28 (dk_at dksX0_read_1 18 rfl rfl)
theorem dX0_read_42 : decode cX0_read 42 = .ok (.iconst 3, 1) := dk_6 (dk_at dksX0_read_1 19 rfl rfl)
theorem dX0_read_43 : decode cX0_read 43 = .ok (.if_icmp .ge 16, 3) := dk_162 0 16 (dk_at dksX0_read_1 20 rfl rfl)
theorem dX0_read_46 : decode cX0_read 46 = .ok (.aload_n 0, 1) := dk_42 (dk_at dksX0_read_1 23 rfl rfl)
theorem dX0_read_47 : decode cX0_read 47 = .ok (.getfield 78, 3) := dk_180 0 78 (dk_at dksX0_read_2 0 rfl rfl)
theorem dX0_read_50 : decode cX0_read 50 = .ok (.iload_n 2, 1) := dk_28 (dk_at dksX0_read_2 3 rfl rfl)
theorem dX0_read_51 : decode cX0_read 51 = .ok (.iconst 0, 1) := dk_3 (dk_at dksX0_read_2 4 rfl rfl)
theorem dX0_read_52 : decode cX0_read 52 = .ok (.bastore, 1) := dk_84 (dk_at dksX0_read_2 5 rfl rfl)
theorem dX0_read_53 : decode cX0_read 53 = .ok (.iinc 2 1, 3) := dk_132 2 1 (dk_at dksX0_read_2 6 rfl rfl)
theorem dX0_read_56 : decode cX0_read 56 = .ok (.goto (-15), 3) := dk_167 255 241 (dk_at dksX0_read_2 9 rfl rfl)
theorem dX0_read_59 : decode cX0_read 59 = .ok (.goto 17, 3) := dk_167 0 17 (dk_at dksX0_read_2 12 rfl rfl)
theorem dX0_read_62 : decode cX0_read 62 = .ok (.astore_n 2, 1) := dk_77 (dk_at dksX0_read_2 15 rfl rfl)
theorem dX0_read_63 : decode cX0_read 63 = .ok (.aload_n 2, 1) := dk_44 (dk_at dksX0_read_2 16 rfl rfl)
theorem dX0_read_64 : decode cX0_read 64 = .ok (.getfield 140, 3) := dk_180 0 140 (dk_at dksX0_read_2 17 rfl rfl)
theorem dX0_read_67 : decode cX0_read 67 = .ok (.istore_n 1, 1) := dk_60 (dk_at dksX0_read_2 20 rfl rfl)
theorem dX0_read_68 : decode cX0_read 68 = .ok (.aload_n 0, 1) := dk_42 (dk_at dksX0_read_2 21 rfl rfl)
theorem dX0_read_69 : decode cX0_read 69 = .ok (.aload_n 2, 1) := dk_44 (dk_at dksX0_read_2 22 rfl rfl)
theorem dX0_read_70 : decode cX0_read 70 = .ok (.getfield 143, 3) := dk_180 0 143 (dk_at dksX0_read_3 0 rfl rfl)
theorem dX0_read_73 : decode cX0_read 73 = .ok (.putfield 44, 3) := dk_181 0 44 (dk_at dksX0_read_3 3 rfl rfl)
theorem dX0_read_76 : decode cX0_read 76 = .ok (.aload_n 0, 1) := dk_42 (dk_at dksX0_read_3 6 rfl rfl)
theorem dX0_read_77 : decode cX0_read 77 = .ok (.getfield 24, 3) := dk_180 0 24 (dk_at dksX0_read_3 7 rfl rfl)
theorem dX0_read_80 : decode cX0_read 80 = .ok (.iconst 0, 1) := dk_3 (dk_at dksX0_read_3 10 rfl rfl)
theorem dX0_read_81 : decode cX0_read 81 = .ok (.putfield 119, 3) := dk_181 0 119 (dk_at dksX0_read_3 11 rfl rfl)
theorem dX0_read_84 : decode cX0_read 84 = .ok (.iload_n 1, 1) := dk_27 (dk_at dksX0_read_3 14 rfl rfl)
theorem dX0_read_85 : decode cX0_read 85 = .ok (.ireturn, 1) := dk_172 (dk_at dksX0_read_3 15 rfl rfl)
theorem dX0_place_0 : decode cX0_place 0 = .ok (.aload_n 0, 1) := by decide +kernel
theorem dX0_place_1 : decode cX0_place 1 = .ok (.getfield 44, 3) := by decide +kernel
theorem dX0_place_4 : decode cX0_place 4 = .ok (.ireturn, 1) := by decide +kernel
def dkwX0_house_6 : List UInt8 := [172, 42, 180, 0, 51, 180, 0, 198, 27, 46, 172, 2, 172]
abbrev dktX0_house_6 : List UInt8 := dkwX0_house_6 ++ []
def dkwX0_house_5 : List UInt8 := [180, 0, 51, 42, 180, 0, 40, 27, 182, 0, 192, 172, 42, 180, 0, 51, 42, 180, 0, 40, 27, 182, 0, 195]
abbrev dktX0_house_5 : List UInt8 := dkwX0_house_5 ++ dktX0_house_6
def dkwX0_house_4 : List UInt8 := [180, 0, 51, 180, 0, 186, 27, 46, 172, 42, 180, 0, 51, 42, 180, 0, 40, 27, 182, 0, 188, 172, 42]
abbrev dktX0_house_4 : List UInt8 := dkwX0_house_4 ++ dktX0_house_5
def dkwX0_house_3 : List UInt8 := [180, 0, 176, 172, 42, 180, 0, 51, 27, 182, 0, 179, 172, 42, 180, 0, 51, 180, 0, 183, 27, 46, 172, 42]
abbrev dktX0_house_3 : List UInt8 := dkwX0_house_3 ++ dktX0_house_4
def dkwX0_house_2 : List UInt8 := [42, 180, 0, 51, 180, 0, 167, 27, 46, 172, 42, 180, 0, 40, 180, 0, 144, 27, 182, 0, 170, 192, 0, 174]
abbrev dktX0_house_2 : List UInt8 := dkwX0_house_2 ++ dktX0_house_3
def dkwX0_house_1 : List UInt8 := [170, 0, 0, 0, 155, 0, 0, 0, 0, 0, 0, 0, 8, 0, 0, 0, 49, 0, 0, 0, 59, 0, 0, 0, 77, 0, 0, 0, 86, 0, 0, 0, 96, 0, 0, 0, 106, 0, 0, 0, 119, 0, 0, 0, 132, 0, 0, 0, 145]
abbrev dktX0_house_1 : List UInt8 := dkwX0_house_1 ++ dktX0_house_2
def dkwX0_house_0 : List UInt8 := [42, 27, 182, 0, 160, 154, 0, 5, 2, 172, 28]
abbrev dktX0_house_0 : List UInt8 := dkwX0_house_0 ++ dktX0_house_1
theorem dksX0_house_0 : cX0_house.data.toList.drop 0 = dktX0_house_0 := by decide +kernel
theorem dksX0_house_1 : cX0_house.data.toList.drop 11 = dktX0_house_1 := dk_seg dksX0_house_0 11 rfl rfl
theorem dksX0_house_2 : cX0_house.data.toList.drop 60 = dktX0_house_2 := dk_seg dksX0_house_1 49 rfl rfl
theorem dksX0_house_3 : cX0_house.data.toList.drop 84 = dktX0_house_3 := dk_seg dksX0_house_2 24 rfl rfl
theorem dksX0_house_4 : cX0_house.data.toList.drop 108 = dktX0_house_4 := dk_seg dksX0_house_3 24 rfl rfl
theorem dksX0_house_5 : cX0_house.data.toList.drop 131 = dktX0_house_5 := dk_seg dksX0_house_4 23 rfl rfl
theorem dksX0_house_6 : cX0_house.data.toList.drop 155 = dktX0_house_6 := dk_seg dksX0_house_5 24 rfl rfl
theorem dX0_house_0 : decode cX0_house 0 = .ok (.aload_n 0, 1) := dk_42 (dk_at dksX0_house_0 0 rfl rfl)
theorem dX0_house_1 : decode cX0_house 1 = .ok (.iload_n 1, 1) := dk_27 (dk_at dksX0_house_0 1 rfl rfl)
theorem dX0_house_2 : decode cX0_house 2 = .ok (.invokevirtual 160, 3) := dk_182 0 160 (dk_at dksX0_house_0 2 rfl rfl)
theorem dX0_house_5 : decode cX0_house 5 = .ok (.ifCond .ne 5, 3) := dk_154 0 5 (dk_at dksX0_house_0 5 rfl rfl)
theorem dX0_house_8 : decode cX0_house 8 = .ok (.iconst (-1), 1) := dk_2 (dk_at dksX0_house_0 8 rfl rfl)
theorem dX0_house_9 : decode cX0_house 9 = .ok (.ireturn, 1) := dk_172 (dk_at dksX0_house_0 9 rfl rfl)
theorem dX0_house_10 : decode cX0_house 10 = .ok (.iload_n 2, 1) := dk_28 (dk_at dksX0_house_0 10 rfl rfl)
theorem dX0_house_11 : decode cX0_house 11 = .ok (.tableswitch 155 0 8 #[49, 59, 77, 86, 96, 106, 119, 132, 145], 49) := by decide +kernel
theorem dX0_house_60 : decode cX0_house 60 = .ok (.aload_n 0, 1) := dk_42 (dk_at dksX0_house_2 0 rfl rfl)
theorem dX0_house_61 : decode cX0_house 61 = .ok (.getfield 51, 3) := dk_180 0 51 (dk_at dksX0_house_2 1 rfl rfl)
theorem dX0_house_64 : decode cX0_house 64 = .ok (.getfield 167, 3) := dk_180 0 167 (dk_at dksX0_house_2 4 rfl rfl)
theorem dX0_house_67 : decode cX0_house 67 = .ok (.iload_n 1, 1) := dk_27 (dk_at dksX0_house_2 7 rfl rfl)
theorem dX0_house_68 : decode cX0_house 68 = .ok (.iaload, 1) := dk_46 (dk_at dksX0_house_2 8 rfl rfl)
theorem dX0_house_69 : decode cX0_house 69 = .ok (.ireturn, 1) := dk_172 (dk_at dksX0_house_2 9 rfl rfl)
theorem dX0_house_70 : decode cX0_house 70 = .ok (.aload_n 0, 1) := dk_42 (dk_at dksX0_house_2 10 rfl rfl)
theorem dX0_house_71 : decode cX0_house 71 = .ok (.getfield 40, 3) := dk_180 0 40 (dk_at dksX0_house_2 11 rfl rfl)
theorem dX0_house_74 : decode cX0_house 74 = .ok (.getfield 144, 3) := dk_180 0 144 (dk_at dksX0_house_2 14 rfl rfl)
theorem dX0_house_77 : decode cX0_house 77 = .ok (.iload_n 1, 1) := dk_27 (dk_at dksX0_house_2 17 rfl rfl)
theorem dX0_house_78 : decode cX0_house 78 = .ok (.invokevirtual 170, 3) := dk_182 0 170 (dk_at dksX0_house_2 18 rfl rfl)
theorem dX0_house_81 : decode cX0_house 81 = .ok (.checkcast 174, 3) := dk_192 0 174 (dk_at dksX0_house_2 21 rfl rfl)
theorem dX0_house_84 : decode cX0_house 84 = .ok (.getfield 176, 3) := dk_180 0 176 (dk_at dksX0_house_3 0 rfl rfl)
theorem dX0_house_87 : decode cX0_house 87 = .ok (.ireturn, 1) := dk_172 (dk_at dksX0_house_3 3 rfl rfl)
theorem dX0_house_88 : decode cX0_house 88 = .ok (.aload_n 0, 1) := dk_42 (dk_at dksX0_house_3 4 rfl rfl)
theorem dX0_house_89 : decode cX0_house 89 = .ok (.getfield 51, 3) := dk_180 0 51 (dk_at dksX0_house_3 5 rfl rfl)
theorem dX0_house_92 : decode cX0_house 92 = .ok (.iload_n 1, 1) := dk_27 (dk_at dksX0_house_3 8 rfl rfl)
theorem dX0_house_93 : decode cX0_house 93 = .ok (.invokevirtual 179, 3) := dk_182 0 179 (dk_at dksX0_house_3 9 rfl rfl)
theorem dX0_house_96 : decode cX0_house 96 = .ok (.ireturn, 1) := dk_172 (dk_at dksX0_house_3 12 rfl rfl)
theorem dX0_house_97 : decode cX0_house 97 = .ok (.aload_n 0, 1) := dk_42 (dk_at dksX0_house_3 13 rfl rfl)
theorem dX0_house_98 : decode cX0_house 98 = .ok (.getfield 51, 3) := dk_180 0 51 (dk_at dksX0_house_3 14 rfl rfl)
theorem dX0_house_101 : decode cX0_house 101 = .ok (.getfield 183, 3) := dk_180 0 183 (dk_at dksX0_house_3 17 rfl rfl)
theorem dX0_house_104 : decode cX0_house 104 = .ok (.iload_n 1, 1) := dk_27 (dk_at dksX0_house_3 20 rfl rfl)
theorem dX0_house_105 : decode cX0_house 105 = .ok (.iaload, 1) := dk_46 (dk_at dksX0_house_3 21 rfl rfl)
theorem dX0_house_106 : decode cX0_house 106 = .ok (.ireturn, 1) := dk_172 (dk_at dksX0_house_3 22 rfl rfl)
theorem dX0_house_107 : decode cX0_house 107 = .ok (.aload_n 0, 1) := dk_42 (dk_at dksX0_house_3 23 rfl rfl)
theorem dX0_house_108 : decode cX0_house 108 = .ok (.getfield 51, 3) := dk_180 0 51 (dk_at dksX0_house_4 0 rfl rfl)
theorem dX0_house_111 : decode cX0_house 111 = .ok (.getfield 186, 3) := dk_180 0 186 (dk_at dksX0_house_4 3 rfl rfl)
theorem dX0_house_114 : decode cX0_house 114 = .ok (.iload_n 1, 1) := dk_27 (dk_at dksX0_house_4 6 rfl rfl)
theorem dX0_house_115 : decode cX0_house 115 = .ok (.iaload, 1) := dk_46 (dk_at dksX0_house_4 7 rfl rfl)
theorem dX0_house_116 : decode cX0_house 116 = .ok (.ireturn, 1) := dk_172 (dk_at dksX0_house_4 8 rfl rfl)
theorem dX0_house_117 : decode cX0_house 117 = .ok (.aload_n 0, 1) := dk_42 (dk_at dksX0_house_4 9 rfl rfl)
theorem dX0_house_118 : decode cX0_house 118 = .ok (.getfield 51, 3) := dk_180 0 51 (dk_at dksX0_house_4 10 rfl rfl)
theorem dX0_house_121 : decode cX0_house 121 = .ok (.aload_n 0, 1) := dk_42 (dk_at dksX0_house_4 13 rfl rfl)
theorem dX0_house_122 : decode cX0_house 122 = .ok (.getfield 40, 3) := dk_180 0 40 (dk_at dksX0_house_4 14 rfl rfl)
theorem dX0_house_125 : decode cX0_house 125 = .ok (.iload_n 1, 1) := dk_27 (dk_at dksX0_house_4 17 rfl rfl)
theorem dX0_house_126 : decode cX0_house 126 = .ok (.invokevirtual 188, 3) := dk_182 0 188 (dk_at dksX0_house_4 18 rfl rfl)
theorem dX0_house_129 : decode cX0_house 129 = .ok (.ireturn, 1) := dk_172 (dk_at dksX0_house_4 21 rfl rfl)
theorem dX0_house_130 : decode cX0_house 130 = .ok (.aload_n 0, 1) := dk_42 (dk_at dksX0_house_4 22 rfl rfl)
theorem dX0_house_131 : decode cX0_house 131 = .ok (.getfield 51, 3) := dk_180 0 51 (dk_at dksX0_house_5 0 rfl rfl)
theorem dX0_house_134 : decode cX0_house 134 = .ok (.aload_n 0, 1) := dk_42 (dk_at dksX0_house_5 3 rfl rfl)
theorem dX0_house_135 : decode cX0_house 135 = .ok (.getfield 40, 3) := dk_180 0 40 (dk_at dksX0_house_5 4 rfl rfl)
theorem dX0_house_138 : decode cX0_house 138 = .ok (.iload_n 1, 1) := dk_27 (dk_at dksX0_house_5 7 rfl rfl)
theorem dX0_house_139 : decode cX0_house 139 = .ok (.invokevirtual 192, 3) := dk_182 0 192 (dk_at dksX0_house_5 8 rfl rfl)
theorem dX0_house_142 : decode cX0_house 142 = .ok (.ireturn, 1) := dk_172 (dk_at dksX0_house_5 11 rfl rfl)
theorem dX0_house_143 : decode cX0_house 143 = .ok (.aload_n 0, 1) := dk_42 (dk_at dksX0_house_5 12 rfl rfl)
theorem dX0_house_144 : decode cX0_house 144 = .ok (.getfield 51, 3) := dk_180 0 51 (dk_at dksX0_house_5 13 rfl rfl)
theorem dX0_house_147 : decode cX0_house 147 = .ok (.aload_n 0, 1) := dk_42 (dk_at dksX0_house_5 16 rfl rfl)
theorem dX0_house_148 : decode cX0_house 148 = .ok (.getfield 40, 3) := dk_180 0 40 (dk_at dksX0_house_5 17 rfl rfl)
theorem dX0_house_151 : decode cX0_house 151 = .ok (.iload_n 1, 1) := dk_27 (dk_at dksX0_house_5 20 rfl rfl)
theorem dX0_house_152 : decode cX0_house 152 = .ok (.invokevirtual 195, 3) := dk_182 0 195 (dk_at dksX0_house_5 21 rfl rfl)
theorem dX0_house_155 : decode cX0_house 155 = .ok (.ireturn, 1) := dk_172 (dk_at dksX0_house_6 0 rfl rfl)
theorem dX0_house_156 : decode cX0_house 156 = .ok (.aload_n 0, 1) := dk_42 (dk_at dksX0_house_6 1 rfl rfl)
theorem dX0_house_157 : decode cX0_house 157 = .ok (.getfield 51, 3) := dk_180 0 51 (dk_at dksX0_house_6 2 rfl rfl)
theorem dX0_house_160 : decode cX0_house 160 = .ok (.getfield 198, 3) := dk_180 0 198 (dk_at dksX0_house_6 5 rfl rfl)
theorem dX0_house_163 : decode cX0_house 163 = .ok (.iload_n 1, 1) := dk_27 (dk_at dksX0_house_6 8 rfl rfl)
theorem dX0_house_164 : decode cX0_house 164 = .ok (.iaload, 1) := dk_46 (dk_at dksX0_house_6 9 rfl rfl)
theorem dX0_house_165 : decode cX0_house 165 = .ok (.ireturn, 1) := dk_172 (dk_at dksX0_house_6 10 rfl rfl)
theorem dX0_house_166 : decode cX0_house 166 = .ok (.iconst (-1), 1) := dk_2 (dk_at dksX0_house_6 11 rfl rfl)
theorem dX0_house_167 : decode cX0_house 167 = .ok (.ireturn, 1) := dk_172 (dk_at dksX0_house_6 12 rfl rfl)
def dkwX0_isHouse_0 : List UInt8 := [27, 3, 42, 182, 0, 154, 4, 100, 184, 0, 156, 172]
abbrev dktX0_isHouse_0 : List UInt8 := dkwX0_isHouse_0 ++ []
theorem dksX0_isHouse_0 : cX0_isHouse.data.toList.drop 0 = dktX0_isHouse_0 := by decide +kernel
theorem dX0_isHouse_0 : decode cX0_isHouse 0 = .ok (.iload_n 1, 1) := dk_27 (dk_at dksX0_isHouse_0 0 rfl rfl)
theorem dX0_isHouse_1 : decode cX0_isHouse 1 = .ok (.iconst 0, 1) := dk_3 (dk_at dksX0_isHouse_0 1 rfl rfl)
theorem dX0_isHouse_2 : decode cX0_isHouse 2 = .ok (.aload_n 0, 1) := dk_42 (dk_at dksX0_isHouse_0 2 rfl rfl)
theorem dX0_isHouse_3 : decode cX0_isHouse 3 = .ok (.invokevirtual 154, 3) := dk_182 0 154 (dk_at dksX0_isHouse_0 3 rfl rfl)
theorem dX0_isHouse_6 : decode cX0_isHouse 6 = .ok (.iconst 1, 1) := dk_4 (dk_at dksX0_isHouse_0 6 rfl rfl)
theorem dX0_isHouse_7 : decode cX0_isHouse 7 = .ok (.isub, 1) := dk_100 (dk_at dksX0_isHouse_0 7 rfl rfl)
theorem dX0_isHouse_8 : decode cX0_isHouse 8 = .ok (.invokestatic 156, 3) := dk_184 0 156 (dk_at dksX0_isHouse_0 8 rfl rfl)
theorem dX0_isHouse_11 : decode cX0_isHouse 11 = .ok (.ireturn, 1) := dk_172 (dk_at dksX0_isHouse_0 11 rfl rfl)
def dkwX0_houses_0 : List UInt8 := [42, 180, 0, 40, 180, 0, 144, 182, 0, 148, 172]
abbrev dktX0_houses_0 : List UInt8 := dkwX0_houses_0 ++ []
theorem dksX0_houses_0 : cX0_houses.data.toList.drop 0 = dktX0_houses_0 := by decide +kernel
theorem dX0_houses_0 : decode cX0_houses 0 = .ok (.aload_n 0, 1) := dk_42 (dk_at dksX0_houses_0 0 rfl rfl)
theorem dX0_houses_1 : decode cX0_houses 1 = .ok (.getfield 40, 3) := dk_180 0 40 (dk_at dksX0_houses_0 1 rfl rfl)
theorem dX0_houses_4 : decode cX0_houses 4 = .ok (.getfield 144, 3) := dk_180 0 144 (dk_at dksX0_houses_0 4 rfl rfl)
theorem dX0_houses_7 : decode cX0_houses 7 = .ok (.invokevirtual 148, 3) := dk_182 0 148 (dk_at dksX0_houses_0 7 rfl rfl)
theorem dX0_houses_10 : decode cX0_houses 10 = .ok (.ireturn, 1) := dk_172 (dk_at dksX0_houses_0 10 rfl rfl)
def dkwX0_isIn_0 : List UInt8 := [26, 27, 161, 0, 12, 26, 28, 163, 0, 7, 4, 167, 0, 4, 3, 172]
abbrev dktX0_isIn_0 : List UInt8 := dkwX0_isIn_0 ++ []
theorem dksX0_isIn_0 : cX0_isIn.data.toList.drop 0 = dktX0_isIn_0 := by decide +kernel
theorem dX0_isIn_0 : decode cX0_isIn 0 = .ok (.iload_n 0, 1) := dk_26 (dk_at dksX0_isIn_0 0 rfl rfl)
theorem dX0_isIn_1 : decode cX0_isIn 1 = .ok (.iload_n 1, 1) := dk_27 (dk_at dksX0_isIn_0 1 rfl rfl)
theorem dX0_isIn_2 : decode cX0_isIn 2 = .ok (.if_icmp .lt 12, 3) := dk_161 0 12 (dk_at dksX0_isIn_0 2 rfl rfl)
theorem dX0_isIn_5 : decode cX0_isIn 5 = .ok (.iload_n 0, 1) := dk_26 (dk_at dksX0_isIn_0 5 rfl rfl)
theorem dX0_isIn_6 : decode cX0_isIn 6 = .ok (.iload_n 2, 1) := dk_28 (dk_at dksX0_isIn_0 6 rfl rfl)
theorem dX0_isIn_7 : decode cX0_isIn 7 = .ok (.if_icmp .gt 7, 3) := dk_163 0 7 (dk_at dksX0_isIn_0 7 rfl rfl)
theorem dX0_isIn_10 : decode cX0_isIn 10 = .ok (.iconst 1, 1) := dk_4 (dk_at dksX0_isIn_0 10 rfl rfl)
theorem dX0_isIn_11 : decode cX0_isIn 11 = .ok (.goto 4, 3) := dk_167 0 4 (dk_at dksX0_isIn_0 11 rfl rfl)
theorem dX0_isIn_14 : decode cX0_isIn 14 = .ok (.iconst 0, 1) := dk_3 (dk_at dksX0_isIn_0 14 rfl rfl)
theorem dX0_isIn_15 : decode cX0_isIn 15 = .ok (.ireturn, 1) := dk_172 (dk_at dksX0_isIn_0 15 rfl rfl)
def dkwX0_likes_1 : List UInt8 := [172]
abbrev dktX0_likes_1 : List UInt8 := dkwX0_likes_1 ++ []
def dkwX0_likes_0 : List UInt8 := [42, 27, 28, 182, 0, 201, 153, 0, 17, 42, 180, 0, 40, 180, 0, 205, 27, 50, 28, 46, 167, 0, 4, 2]
abbrev dktX0_likes_0 : List UInt8 := dkwX0_likes_0 ++ dktX0_likes_1
theorem dksX0_likes_0 : cX0_likes.data.toList.drop 0 = dktX0_likes_0 := by decide +kernel
theorem dksX0_likes_1 : cX0_likes.data.toList.drop 24 = dktX0_likes_1 := dk_seg dksX0_likes_0 24 rfl rfl
theorem dX0_likes_0 : decode cX0_likes 0 = .ok (.aload_n 0, 1) := dk_42 (dk_at dksX0_likes_0 0 rfl rfl)
theorem dX0_likes_1 : decode cX0_likes 1 = .ok (.iload_n 1, 1) := dk_27 (dk_at dksX0_likes_0 1 rfl rfl)
theorem dX0_likes_2 : decode cX0_likes 2 = .ok (.iload_n 2, 1) := dk_28 (dk_at dksX0_likes_0 2 rfl rfl)
theorem dX0_likes_3 : decode cX0_likes 3 = .ok (.invokevirtual 201, 3) := dk_182 0 201 (dk_at dksX0_likes_0 3 rfl rfl)
theorem dX0_likes_6 : decode cX0_likes 6 = .ok (.ifCond .eq 17, 3) := dk_153 0 17 (dk_at dksX0_likes_0 6 rfl rfl)
theorem dX0_likes_9 : decode cX0_likes 9 = .ok (.aload_n 0, 1) := dk_42 (dk_at dksX0_likes_0 9 rfl rfl)
theorem dX0_likes_10 : decode cX0_likes 10 = .ok (.getfield 40, 3) := dk_180 0 40 (dk_at dksX0_likes_0 10 rfl rfl)
theorem dX0_likes_13 : decode cX0_likes 13 = .ok (.getfield 205, 3) := dk_180 0 205 (dk_at dksX0_likes_0 13 rfl rfl)
theorem dX0_likes_16 : decode cX0_likes 16 = .ok (.iload_n 1, 1) := dk_27 (dk_at dksX0_likes_0 16 rfl rfl)
theorem dX0_likes_17 : decode cX0_likes 17 = .ok (.aaload, 1) := dk_50 (dk_at dksX0_likes_0 17 rfl rfl)
theorem dX0_likes_18 : decode cX0_likes 18 = .ok (.iload_n 2, 1) := dk_28 (dk_at dksX0_likes_0 18 rfl rfl)
theorem dX0_likes_19 : decode cX0_likes 19 = .ok (.iaload, 1) := dk_46 (dk_at dksX0_likes_0 19 rfl rfl)
theorem dX0_likes_20 : decode cX0_likes 20 = .ok (.goto 4, 3) := dk_167 0 4 (dk_at dksX0_likes_0 20 rfl rfl)
theorem dX0_likes_23 : decode cX0_likes 23 = .ok (.iconst (-1), 1) := dk_2 (dk_at dksX0_likes_0 23 rfl rfl)
theorem dX0_likes_24 : decode cX0_likes 24 = .ok (.ireturn, 1) := dk_172 (dk_at dksX0_likes_1 0 rfl rfl)
def dkwX0_areTwo_1 : List UInt8 := [167, 0, 4, 3, 172]
abbrev dktX0_areTwo_1 : List UInt8 := dkwX0_areTwo_1 ++ []
def dkwX0_areTwo_0 : List UInt8 := [42, 27, 182, 0, 160, 153, 0, 20, 42, 28, 182, 0, 160, 153, 0, 12, 27, 28, 159, 0, 7, 4]
abbrev dktX0_areTwo_0 : List UInt8 := dkwX0_areTwo_0 ++ dktX0_areTwo_1
theorem dksX0_areTwo_0 : cX0_areTwo.data.toList.drop 0 = dktX0_areTwo_0 := by decide +kernel
theorem dksX0_areTwo_1 : cX0_areTwo.data.toList.drop 22 = dktX0_areTwo_1 := dk_seg dksX0_areTwo_0 22 rfl rfl
theorem dX0_areTwo_0 : decode cX0_areTwo 0 = .ok (.aload_n 0, 1) := dk_42 (dk_at dksX0_areTwo_0 0 rfl rfl)
theorem dX0_areTwo_1 : decode cX0_areTwo 1 = .ok (.iload_n 1, 1) := dk_27 (dk_at dksX0_areTwo_0 1 rfl rfl)
theorem dX0_areTwo_2 : decode cX0_areTwo 2 = .ok (.invokevirtual 160, 3) := dk_182 0 160 (dk_at dksX0_areTwo_0 2 rfl rfl)
theorem dX0_areTwo_5 : decode cX0_areTwo 5 = .ok (.ifCond .eq 20, 3) := dk_153 0 20 (dk_at dksX0_areTwo_0 5 rfl rfl)
theorem dX0_areTwo_8 : decode cX0_areTwo 8 = .ok (.aload_n 0, 1) := dk_42 (dk_at dksX0_areTwo_0 8 rfl rfl)
theorem dX0_areTwo_9 : decode cX0_areTwo 9 = .ok (.iload_n 2, 1) := dk_28 (dk_at dksX0_areTwo_0 9 rfl rfl)
theorem dX0_areTwo_10 : decode cX0_areTwo 10 = .ok (.invokevirtual 160, 3) := dk_182 0 160 (dk_at dksX0_areTwo_0 10 rfl rfl)
theorem dX0_areTwo_13 : decode cX0_areTwo 13 = .ok (.ifCond .eq 12, 3) := dk_153 0 12 (dk_at dksX0_areTwo_0 13 rfl rfl)
theorem dX0_areTwo_16 : decode cX0_areTwo 16 = .ok (.iload_n 1, 1) := dk_27 (dk_at dksX0_areTwo_0 16 rfl rfl)
theorem dX0_areTwo_17 : decode cX0_areTwo 17 = .ok (.iload_n 2, 1) := dk_28 (dk_at dksX0_areTwo_0 17 rfl rfl)
theorem dX0_areTwo_18 : decode cX0_areTwo 18 = .ok (.if_icmp .eq 7, 3) := dk_159 0 7 (dk_at dksX0_areTwo_0 18 rfl rfl)
theorem dX0_areTwo_21 : decode cX0_areTwo 21 = .ok (.iconst 1, 1) := dk_4 (dk_at dksX0_areTwo_0 21 rfl rfl)
theorem dX0_areTwo_22 : decode cX0_areTwo 22 = .ok (.goto 4, 3) := dk_167 0 4 (dk_at dksX0_areTwo_1 0 rfl rfl)
theorem dX0_areTwo_25 : decode cX0_areTwo 25 = .ok (.iconst 0, 1) := dk_3 (dk_at dksX0_areTwo_1 3 rfl rfl)
theorem dX0_areTwo_26 : decode cX0_areTwo 26 = .ok (.ireturn, 1) := dk_172 (dk_at dksX0_areTwo_1 4 rfl rfl)
def dkwX0_joins_1 : List UInt8 := [180, 0, 205, 27, 50, 28, 46, 182, 0, 208, 167, 0, 4, 2, 172]
abbrev dktX0_joins_1 : List UInt8 := dkwX0_joins_1 ++ []
def dkwX0_joins_0 : List UInt8 := [42, 27, 28, 182, 0, 201, 153, 0, 30, 42, 180, 0, 51, 42, 180, 0, 40, 27, 28, 42, 180, 0, 40]
abbrev dktX0_joins_0 : List UInt8 := dkwX0_joins_0 ++ dktX0_joins_1
theorem dksX0_joins_0 : cX0_joins.data.toList.drop 0 = dktX0_joins_0 := by decide +kernel
theorem dksX0_joins_1 : cX0_joins.data.toList.drop 23 = dktX0_joins_1 := dk_seg dksX0_joins_0 23 rfl rfl
theorem dX0_joins_0 : decode cX0_joins 0 = .ok (.aload_n 0, 1) := dk_42 (dk_at dksX0_joins_0 0 rfl rfl)
theorem dX0_joins_1 : decode cX0_joins 1 = .ok (.iload_n 1, 1) := dk_27 (dk_at dksX0_joins_0 1 rfl rfl)
theorem dX0_joins_2 : decode cX0_joins 2 = .ok (.iload_n 2, 1) := dk_28 (dk_at dksX0_joins_0 2 rfl rfl)
theorem dX0_joins_3 : decode cX0_joins 3 = .ok (.invokevirtual 201, 3) := dk_182 0 201 (dk_at dksX0_joins_0 3 rfl rfl)
theorem dX0_joins_6 : decode cX0_joins 6 = .ok (.ifCond .eq 30, 3) := dk_153 0 30 (dk_at dksX0_joins_0 6 rfl rfl)
theorem dX0_joins_9 : decode cX0_joins 9 = .ok (.aload_n 0, 1) := dk_42 (dk_at dksX0_joins_0 9 rfl rfl)
theorem dX0_joins_10 : decode cX0_joins 10 = .ok (.getfield 51, 3) := dk_180 0 51 (dk_at dksX0_joins_0 10 rfl rfl)
theorem dX0_joins_13 : decode cX0_joins 13 = .ok (.aload_n 0, 1) := dk_42 (dk_at dksX0_joins_0 13 rfl rfl)
theorem dX0_joins_14 : decode cX0_joins 14 = .ok (.getfield 40, 3) := dk_180 0 40 (dk_at dksX0_joins_0 14 rfl rfl)
theorem dX0_joins_17 : decode cX0_joins 17 = .ok (.iload_n 1, 1) := dk_27 (dk_at dksX0_joins_0 17 rfl rfl)
theorem dX0_joins_18 : decode cX0_joins 18 = .ok (.iload_n 2, 1) := dk_28 (dk_at dksX0_joins_0 18 rfl rfl)
theorem dX0_joins_19 : decode cX0_joins 19 = .ok (.aload_n 0, 1) := dk_42 (dk_at dksX0_joins_0 19 rfl rfl)
theorem dX0_joins_20 : decode cX0_joins 20 = .ok (.getfield 40, 3) := dk_180 0 40 (dk_at dksX0_joins_0 20 rfl rfl)
theorem dX0_joins_23 : decode cX0_joins 23 = .ok (.getfield 205, 3) := dk_180 0 205 (dk_at dksX0_joins_1 0 rfl rfl)
theorem dX0_joins_26 : decode cX0_joins 26 = .ok (.iload_n 1, 1) := dk_27 (dk_at dksX0_joins_1 3 rfl rfl)
theorem dX0_joins_27 : decode cX0_joins 27 = .ok (.aaload, 1) := dk_50 (dk_at dksX0_joins_1 4 rfl rfl)
theorem dX0_joins_28 : decode cX0_joins 28 = .ok (.iload_n 2, 1) := dk_28 (dk_at dksX0_joins_1 5 rfl rfl)
theorem dX0_joins_29 : decode cX0_joins 29 = .ok (.iaload, 1) := dk_46 (dk_at dksX0_joins_1 6 rfl rfl)
theorem dX0_joins_30 : decode cX0_joins 30 = .ok (.invokevirtual 208, 3) := dk_182 0 208 (dk_at dksX0_joins_1 7 rfl rfl)
theorem dX0_joins_33 : decode cX0_joins 33 = .ok (.goto 4, 3) := dk_167 0 4 (dk_at dksX0_joins_1 10 rfl rfl)
theorem dX0_joins_36 : decode cX0_joins 36 = .ok (.iconst (-1), 1) := dk_2 (dk_at dksX0_joins_1 13 rfl rfl)
theorem dX0_joins_37 : decode cX0_joins 37 = .ok (.ireturn, 1) := dk_172 (dk_at dksX0_joins_1 14 rfl rfl)
def dkwX0_at_0 : List UInt8 := [42, 27, 182, 0, 212, 153, 0, 15, 42, 180, 0, 51, 180, 0, 215, 27, 46, 167, 0, 4, 2, 172]
abbrev dktX0_at_0 : List UInt8 := dkwX0_at_0 ++ []
theorem dksX0_at_0 : cX0_at.data.toList.drop 0 = dktX0_at_0 := by decide +kernel
theorem dX0_at_0 : decode cX0_at 0 = .ok (.aload_n 0, 1) := dk_42 (dk_at dksX0_at_0 0 rfl rfl)
theorem dX0_at_1 : decode cX0_at 1 = .ok (.iload_n 1, 1) := dk_27 (dk_at dksX0_at_0 1 rfl rfl)
theorem dX0_at_2 : decode cX0_at 2 = .ok (.invokevirtual 212, 3) := dk_182 0 212 (dk_at dksX0_at_0 2 rfl rfl)
theorem dX0_at_5 : decode cX0_at 5 = .ok (.ifCond .eq 15, 3) := dk_153 0 15 (dk_at dksX0_at_0 5 rfl rfl)
theorem dX0_at_8 : decode cX0_at 8 = .ok (.aload_n 0, 1) := dk_42 (dk_at dksX0_at_0 8 rfl rfl)
theorem dX0_at_9 : decode cX0_at 9 = .ok (.getfield 51, 3) := dk_180 0 51 (dk_at dksX0_at_0 9 rfl rfl)
theorem dX0_at_12 : decode cX0_at 12 = .ok (.getfield 215, 3) := dk_180 0 215 (dk_at dksX0_at_0 12 rfl rfl)
theorem dX0_at_15 : decode cX0_at 15 = .ok (.iload_n 1, 1) := dk_27 (dk_at dksX0_at_0 15 rfl rfl)
theorem dX0_at_16 : decode cX0_at 16 = .ok (.iaload, 1) := dk_46 (dk_at dksX0_at_0 16 rfl rfl)
theorem dX0_at_17 : decode cX0_at 17 = .ok (.goto 4, 3) := dk_167 0 4 (dk_at dksX0_at_0 17 rfl rfl)
theorem dX0_at_20 : decode cX0_at 20 = .ok (.iconst (-1), 1) := dk_2 (dk_at dksX0_at_0 20 rfl rfl)
theorem dX0_at_21 : decode cX0_at 21 = .ok (.ireturn, 1) := dk_172 (dk_at dksX0_at_0 21 rfl rfl)
def dkwX0_isPlace_0 : List UInt8 := [27, 3, 42, 180, 0, 51, 180, 0, 164, 4, 100, 184, 0, 156, 172]
abbrev dktX0_isPlace_0 : List UInt8 := dkwX0_isPlace_0 ++ []
theorem dksX0_isPlace_0 : cX0_isPlace.data.toList.drop 0 = dktX0_isPlace_0 := by decide +kernel
theorem dX0_isPlace_0 : decode cX0_isPlace 0 = .ok (.iload_n 1, 1) := dk_27 (dk_at dksX0_isPlace_0 0 rfl rfl)
theorem dX0_isPlace_1 : decode cX0_isPlace 1 = .ok (.iconst 0, 1) := dk_3 (dk_at dksX0_isPlace_0 1 rfl rfl)
theorem dX0_isPlace_2 : decode cX0_isPlace 2 = .ok (.aload_n 0, 1) := dk_42 (dk_at dksX0_isPlace_0 2 rfl rfl)
theorem dX0_isPlace_3 : decode cX0_isPlace 3 = .ok (.getfield 51, 3) := dk_180 0 51 (dk_at dksX0_isPlace_0 3 rfl rfl)
theorem dX0_isPlace_6 : decode cX0_isPlace 6 = .ok (.getfield 164, 3) := dk_180 0 164 (dk_at dksX0_isPlace_0 6 rfl rfl)
theorem dX0_isPlace_9 : decode cX0_isPlace 9 = .ok (.iconst 1, 1) := dk_4 (dk_at dksX0_isPlace_0 9 rfl rfl)
theorem dX0_isPlace_10 : decode cX0_isPlace 10 = .ok (.isub, 1) := dk_100 (dk_at dksX0_isPlace_0 10 rfl rfl)
theorem dX0_isPlace_11 : decode cX0_isPlace 11 = .ok (.invokestatic 156, 3) := dk_184 0 156 (dk_at dksX0_isPlace_0 11 rfl rfl)
theorem dX0_isPlace_14 : decode cX0_isPlace 14 = .ok (.ireturn, 1) := dk_172 (dk_at dksX0_isPlace_0 14 rfl rfl)
def dkwX0_splice_2 : List UInt8 := [182, 0, 236, 42, 180, 0, 51, 182, 0, 240, 172]
abbrev dktX0_splice_2 : List UInt8 := dkwX0_splice_2 ++ []
def dkwX0_splice_1 : List UInt8 := [180, 0, 167, 27, 46, 154, 0, 5, 2, 172, 42, 182, 0, 233, 42, 180, 0, 51, 42, 180, 0, 40, 27]
abbrev dktX0_splice_1 : List UInt8 := dkwX0_splice_1 ++ dktX0_splice_2
def dkwX0_splice_0 : List UInt8 := [42, 27, 182, 0, 160, 153, 0, 26, 42, 180, 0, 51, 27, 182, 0, 230, 154, 0, 15, 42, 180, 0, 51]
abbrev dktX0_splice_0 : List UInt8 := dkwX0_splice_0 ++ dktX0_splice_1
theorem dksX0_splice_0 : cX0_splice.data.toList.drop 0 = dktX0_splice_0 := by decide +kernel
theorem dksX0_splice_1 : cX0_splice.data.toList.drop 23 = dktX0_splice_1 := dk_seg dksX0_splice_0 23 rfl rfl
theorem dksX0_splice_2 : cX0_splice.data.toList.drop 46 = dktX0_splice_2 := dk_seg dksX0_splice_1 23 rfl rfl
theorem dX0_splice_0 : decode cX0_splice 0 = .ok (.aload_n 0, 1) := dk_42 (dk_at dksX0_splice_0 0 rfl rfl)
theorem dX0_splice_1 : decode cX0_splice 1 = .ok (.iload_n 1, 1) := dk_27 (dk_at dksX0_splice_0 1 rfl rfl)
theorem dX0_splice_2 : decode cX0_splice 2 = .ok (.invokevirtual 160, 3) := dk_182 0 160 (dk_at dksX0_splice_0 2 rfl rfl)
theorem dX0_splice_5 : decode cX0_splice 5 = .ok (.ifCond .eq 26, 3) := dk_153 0 26 (dk_at dksX0_splice_0 5 rfl rfl)
theorem dX0_splice_8 : decode cX0_splice 8 = .ok (.aload_n 0, 1) := dk_42 (dk_at dksX0_splice_0 8 rfl rfl)
theorem dX0_splice_9 : decode cX0_splice 9 = .ok (.getfield 51, 3) := dk_180 0 51 (dk_at dksX0_splice_0 9 rfl rfl)
theorem dX0_splice_12 : decode cX0_splice 12 = .ok (.iload_n 1, 1) := dk_27 (dk_at dksX0_splice_0 12 rfl rfl)
theorem dX0_splice_13 : decode cX0_splice 13 = .ok (.invokevirtual 230, 3) := dk_182 0 230 (dk_at dksX0_splice_0 13 rfl rfl)
theorem dX0_splice_16 : decode cX0_splice 16 = .ok (.ifCond .ne 15, 3) := dk_154 0 15 (dk_at dksX0_splice_0 16 rfl rfl)
theorem dX0_splice_19 : decode cX0_splice 19 = .ok (.aload_n 0, 1) := dk_42 (dk_at dksX0_splice_0 19 rfl rfl)
theorem dX0_splice_20 : decode cX0_splice 20 = .ok (.getfield 51, 3) := dk_180 0 51 (dk_at dksX0_splice_0 20 rfl rfl)
theorem dX0_splice_23 : decode cX0_splice 23 = .ok (.getfield 167, 3) := dk_180 0 167 (dk_at dksX0_splice_1 0 rfl rfl)
theorem dX0_splice_26 : decode cX0_splice 26 = .ok (.iload_n 1, 1) := dk_27 (dk_at dksX0_splice_1 3 rfl rfl)
theorem dX0_splice_27 : decode cX0_splice 27 = .ok (.iaload, 1) := dk_46 (dk_at dksX0_splice_1 4 rfl rfl)
theorem dX0_splice_28 : decode cX0_splice 28 = .ok (.ifCond .ne 5, 3) := dk_154 0 5 (dk_at dksX0_splice_1 5 rfl rfl)
theorem dX0_splice_31 : decode cX0_splice 31 = .ok (.iconst (-1), 1) := dk_2 (dk_at dksX0_splice_1 8 rfl rfl)
theorem dX0_splice_32 : decode cX0_splice 32 = .ok (.ireturn, 1) := dk_172 (dk_at dksX0_splice_1 9 rfl rfl)
theorem dX0_splice_33 : decode cX0_splice 33 = .ok (.aload_n 0, 1) := dk_42 (dk_at dksX0_splice_1 10 rfl rfl)
theorem dX0_splice_34 : decode cX0_splice 34 = .ok (.invokevirtual 233, 3) := dk_182 0 233 (dk_at dksX0_splice_1 11 rfl rfl)
theorem dX0_splice_37 : decode cX0_splice 37 = .ok (.aload_n 0, 1) := dk_42 (dk_at dksX0_splice_1 14 rfl rfl)
theorem dX0_splice_38 : decode cX0_splice 38 = .ok (.getfield 51, 3) := dk_180 0 51 (dk_at dksX0_splice_1 15 rfl rfl)
theorem dX0_splice_41 : decode cX0_splice 41 = .ok (.aload_n 0, 1) := dk_42 (dk_at dksX0_splice_1 18 rfl rfl)
theorem dX0_splice_42 : decode cX0_splice 42 = .ok (.getfield 40, 3) := dk_180 0 40 (dk_at dksX0_splice_1 19 rfl rfl)
theorem dX0_splice_45 : decode cX0_splice 45 = .ok (.iload_n 1, 1) := dk_27 (dk_at dksX0_splice_1 22 rfl rfl)
theorem dX0_splice_46 : decode cX0_splice 46 = .ok (.invokevirtual 236, 3) := dk_182 0 236 (dk_at dksX0_splice_2 0 rfl rfl)
theorem dX0_splice_49 : decode cX0_splice 49 = .ok (.aload_n 0, 1) := dk_42 (dk_at dksX0_splice_2 3 rfl rfl)
theorem dX0_splice_50 : decode cX0_splice 50 = .ok (.getfield 51, 3) := dk_180 0 51 (dk_at dksX0_splice_2 4 rfl rfl)
theorem dX0_splice_53 : decode cX0_splice 53 = .ok (.invokevirtual 240, 3) := dk_182 0 240 (dk_at dksX0_splice_2 7 rfl rfl)
theorem dX0_splice_56 : decode cX0_splice 56 = .ok (.ireturn, 1) := dk_172 (dk_at dksX0_splice_2 10 rfl rfl)
def dkwX0_keeps_1 : List UInt8 := [16, 40, 112, 181, 0, 218, 42, 16, 40, 42, 180, 0, 134, 4, 96, 184, 0, 225, 181, 0, 134, 177]
abbrev dktX0_keeps_1 : List UInt8 := dkwX0_keeps_1 ++ []
def dkwX0_keeps_0 : List UInt8 := [42, 180, 0, 58, 42, 180, 0, 218, 50, 42, 180, 0, 51, 182, 0, 221, 42, 42, 180, 0, 218, 4, 96]
abbrev dktX0_keeps_0 : List UInt8 := dkwX0_keeps_0 ++ dktX0_keeps_1
theorem dksX0_keeps_0 : cX0_keeps.data.toList.drop 0 = dktX0_keeps_0 := by decide +kernel
theorem dksX0_keeps_1 : cX0_keeps.data.toList.drop 23 = dktX0_keeps_1 := dk_seg dksX0_keeps_0 23 rfl rfl
theorem dX0_keeps_0 : decode cX0_keeps 0 = .ok (.aload_n 0, 1) := dk_42 (dk_at dksX0_keeps_0 0 rfl rfl)
theorem dX0_keeps_1 : decode cX0_keeps 1 = .ok (.getfield 58, 3) := dk_180 0 58 (dk_at dksX0_keeps_0 1 rfl rfl)
theorem dX0_keeps_4 : decode cX0_keeps 4 = .ok (.aload_n 0, 1) := dk_42 (dk_at dksX0_keeps_0 4 rfl rfl)
theorem dX0_keeps_5 : decode cX0_keeps 5 = .ok (.getfield 218, 3) := dk_180 0 218 (dk_at dksX0_keeps_0 5 rfl rfl)
theorem dX0_keeps_8 : decode cX0_keeps 8 = .ok (.aaload, 1) := dk_50 (dk_at dksX0_keeps_0 8 rfl rfl)
theorem dX0_keeps_9 : decode cX0_keeps 9 = .ok (.aload_n 0, 1) := dk_42 (dk_at dksX0_keeps_0 9 rfl rfl)
theorem dX0_keeps_10 : decode cX0_keeps 10 = .ok (.getfield 51, 3) := dk_180 0 51 (dk_at dksX0_keeps_0 10 rfl rfl)
theorem dX0_keeps_13 : decode cX0_keeps 13 = .ok (.invokevirtual 221, 3) := dk_182 0 221 (dk_at dksX0_keeps_0 13 rfl rfl)
theorem dX0_keeps_16 : decode cX0_keeps 16 = .ok (.aload_n 0, 1) := dk_42 (dk_at dksX0_keeps_0 16 rfl rfl)
theorem dX0_keeps_17 : decode cX0_keeps 17 = .ok (.aload_n 0, 1) := dk_42 (dk_at dksX0_keeps_0 17 rfl rfl)
theorem dX0_keeps_18 : decode cX0_keeps 18 = .ok (.getfield 218, 3) := dk_180 0 218 (dk_at dksX0_keeps_0 18 rfl rfl)
theorem dX0_keeps_21 : decode cX0_keeps 21 = .ok (.iconst 1, 1) := dk_4 (dk_at dksX0_keeps_0 21 rfl rfl)
theorem dX0_keeps_22 : decode cX0_keeps 22 = .ok (.iadd, 1) := dk_96 (dk_at dksX0_keeps_0 22 rfl rfl)
theorem dX0_keeps_23 : decode cX0_keeps 23 = .ok (.bipush 40, 2) := dk_16 40 (dk_at dksX0_keeps_1 0 rfl rfl)
theorem dX0_keeps_25 : decode cX0_keeps 25 = .ok (.irem, 1) := dk_112 (dk_at dksX0_keeps_1 2 rfl rfl)
theorem dX0_keeps_26 : decode cX0_keeps 26 = .ok (.putfield 218, 3) := dk_181 0 218 (dk_at dksX0_keeps_1 3 rfl rfl)
theorem dX0_keeps_29 : decode cX0_keeps 29 = .ok (.aload_n 0, 1) := dk_42 (dk_at dksX0_keeps_1 6 rfl rfl)
theorem dX0_keeps_30 : decode cX0_keeps 30 = .ok (.bipush 40, 2) := dk_16 40 (dk_at dksX0_keeps_1 7 rfl rfl)
theorem dX0_keeps_32 : decode cX0_keeps 32 = .ok (.aload_n 0, 1) := dk_42 (dk_at dksX0_keeps_1 9 rfl rfl)
theorem dX0_keeps_33 : decode cX0_keeps 33 = .ok (.getfield 134, 3) := dk_180 0 134 (dk_at dksX0_keeps_1 10 rfl rfl)
theorem dX0_keeps_36 : decode cX0_keeps 36 = .ok (.iconst 1, 1) := dk_4 (dk_at dksX0_keeps_1 13 rfl rfl)
theorem dX0_keeps_37 : decode cX0_keeps 37 = .ok (.iadd, 1) := dk_96 (dk_at dksX0_keeps_1 14 rfl rfl)
theorem dX0_keeps_38 : decode cX0_keeps 38 = .ok (.invokestatic 225, 3) := dk_184 0 225 (dk_at dksX0_keeps_1 15 rfl rfl)
theorem dX0_keeps_41 : decode cX0_keeps 41 = .ok (.putfield 134, 3) := dk_181 0 134 (dk_at dksX0_keeps_1 18 rfl rfl)
theorem dX0_keeps_44 : decode cX0_keeps 44 = .ok (.return_, 1) := dk_177 (dk_at dksX0_keeps_1 21 rfl rfl)
def dkwX0_unsplice_2 : List UInt8 := [182, 0, 243, 27, 172]
abbrev dktX0_unsplice_2 : List UInt8 := dkwX0_unsplice_2 ++ []
def dkwX0_unsplice_1 : List UInt8 := [180, 0, 164, 4, 100, 46, 60, 42, 182, 0, 233, 42, 180, 0, 51, 42, 180, 0, 51, 180, 0, 164, 4, 100]
abbrev dktX0_unsplice_1 : List UInt8 := dkwX0_unsplice_1 ++ dktX0_unsplice_2
def dkwX0_unsplice_0 : List UInt8 := [42, 180, 0, 51, 180, 0, 164, 154, 0, 5, 2, 172, 42, 180, 0, 51, 180, 0, 215, 42, 180, 0, 51]
abbrev dktX0_unsplice_0 : List UInt8 := dkwX0_unsplice_0 ++ dktX0_unsplice_1
theorem dksX0_unsplice_0 : cX0_unsplice.data.toList.drop 0 = dktX0_unsplice_0 := by decide +kernel
theorem dksX0_unsplice_1 : cX0_unsplice.data.toList.drop 23 = dktX0_unsplice_1 := dk_seg dksX0_unsplice_0 23 rfl rfl
theorem dksX0_unsplice_2 : cX0_unsplice.data.toList.drop 47 = dktX0_unsplice_2 := dk_seg dksX0_unsplice_1 24 rfl rfl
theorem dX0_unsplice_0 : decode cX0_unsplice 0 = .ok (.aload_n 0, 1) := dk_42 (dk_at dksX0_unsplice_0 0 rfl rfl)
theorem dX0_unsplice_1 : decode cX0_unsplice 1 = .ok (.getfield 51, 3) := dk_180 0 51 (dk_at dksX0_unsplice_0 1 rfl rfl)
theorem dX0_unsplice_4 : decode cX0_unsplice 4 = .ok (.getfield 164, 3) := dk_180 0 164 (dk_at dksX0_unsplice_0 4 rfl rfl)
theorem dX0_unsplice_7 : decode cX0_unsplice 7 = .ok (.ifCond .ne 5, 3) := dk_154 0 5 (dk_at dksX0_unsplice_0 7 rfl rfl)
theorem dX0_unsplice_10 : decode cX0_unsplice 10 = .ok (.iconst (-1), 1) := dk_2 (dk_at dksX0_unsplice_0 10 rfl rfl)
theorem dX0_unsplice_11 : decode cX0_unsplice 11 = .ok (.ireturn, 1) := dk_172 (dk_at dksX0_unsplice_0 11 rfl rfl)
theorem dX0_unsplice_12 : decode cX0_unsplice 12 = .ok (.aload_n 0, 1) := dk_42 (dk_at dksX0_unsplice_0 12 rfl rfl)
theorem dX0_unsplice_13 : decode cX0_unsplice 13 = .ok (.getfield 51, 3) := dk_180 0 51 (dk_at dksX0_unsplice_0 13 rfl rfl)
theorem dX0_unsplice_16 : decode cX0_unsplice 16 = .ok (.getfield 215, 3) := dk_180 0 215 (dk_at dksX0_unsplice_0 16 rfl rfl)
theorem dX0_unsplice_19 : decode cX0_unsplice 19 = .ok (.aload_n 0, 1) := dk_42 (dk_at dksX0_unsplice_0 19 rfl rfl)
theorem dX0_unsplice_20 : decode cX0_unsplice 20 = .ok (.getfield 51, 3) := dk_180 0 51 (dk_at dksX0_unsplice_0 20 rfl rfl)
theorem dX0_unsplice_23 : decode cX0_unsplice 23 = .ok (.getfield 164, 3) := dk_180 0 164 (dk_at dksX0_unsplice_1 0 rfl rfl)
theorem dX0_unsplice_26 : decode cX0_unsplice 26 = .ok (.iconst 1, 1) := dk_4 (dk_at dksX0_unsplice_1 3 rfl rfl)
theorem dX0_unsplice_27 : decode cX0_unsplice 27 = .ok (.isub, 1) := dk_100 (dk_at dksX0_unsplice_1 4 rfl rfl)
theorem dX0_unsplice_28 : decode cX0_unsplice 28 = .ok (.iaload, 1) := dk_46 (dk_at dksX0_unsplice_1 5 rfl rfl)
theorem dX0_unsplice_29 : decode cX0_unsplice 29 = .ok (.istore_n 1, 1) := dk_60 (dk_at dksX0_unsplice_1 6 rfl rfl)
theorem dX0_unsplice_30 : decode cX0_unsplice 30 = .ok (.aload_n 0, 1) := dk_42 (dk_at dksX0_unsplice_1 7 rfl rfl)
theorem dX0_unsplice_31 : decode cX0_unsplice 31 = .ok (.invokevirtual 233, 3) := dk_182 0 233 (dk_at dksX0_unsplice_1 8 rfl rfl)
theorem dX0_unsplice_34 : decode cX0_unsplice 34 = .ok (.aload_n 0, 1) := dk_42 (dk_at dksX0_unsplice_1 11 rfl rfl)
theorem dX0_unsplice_35 : decode cX0_unsplice 35 = .ok (.getfield 51, 3) := dk_180 0 51 (dk_at dksX0_unsplice_1 12 rfl rfl)
theorem dX0_unsplice_38 : decode cX0_unsplice 38 = .ok (.aload_n 0, 1) := dk_42 (dk_at dksX0_unsplice_1 15 rfl rfl)
theorem dX0_unsplice_39 : decode cX0_unsplice 39 = .ok (.getfield 51, 3) := dk_180 0 51 (dk_at dksX0_unsplice_1 16 rfl rfl)
theorem dX0_unsplice_42 : decode cX0_unsplice 42 = .ok (.getfield 164, 3) := dk_180 0 164 (dk_at dksX0_unsplice_1 19 rfl rfl)
theorem dX0_unsplice_45 : decode cX0_unsplice 45 = .ok (.iconst 1, 1) := dk_4 (dk_at dksX0_unsplice_1 22 rfl rfl)
theorem dX0_unsplice_46 : decode cX0_unsplice 46 = .ok (.isub, 1) := dk_100 (dk_at dksX0_unsplice_1 23 rfl rfl)
theorem dX0_unsplice_47 : decode cX0_unsplice 47 = .ok (.invokevirtual 243, 3) := dk_182 0 243 (dk_at dksX0_unsplice_2 0 rfl rfl)
theorem dX0_unsplice_50 : decode cX0_unsplice 50 = .ok (.iload_n 1, 1) := dk_27 (dk_at dksX0_unsplice_2 3 rfl rfl)
theorem dX0_unsplice_51 : decode cX0_unsplice 51 = .ok (.ireturn, 1) := dk_172 (dk_at dksX0_unsplice_2 4 rfl rfl)
def dkwX0_haul_2 : List UInt8 := [181, 1, 3, 167, 0, 13, 42, 180, 0, 51, 28, 5, 108, 182, 0, 243, 42, 180, 0, 51, 180, 0, 164, 172]
abbrev dktX0_haul_2 : List UInt8 := dkwX0_haul_2 ++ []
def dkwX0_haul_1 : List UInt8 := [27, 182, 1, 0, 61, 42, 182, 0, 233, 28, 156, 0, 19, 42, 180, 0, 51, 89, 180, 1, 3, 27, 96]
abbrev dktX0_haul_1 : List UInt8 := dkwX0_haul_1 ++ dktX0_haul_2
def dkwX0_haul_0 : List UInt8 := [27, 184, 0, 249, 153, 0, 10, 42, 182, 0, 252, 154, 0, 5, 2, 172, 42, 180, 0, 51, 42, 180, 0, 40]
abbrev dktX0_haul_0 : List UInt8 := dkwX0_haul_0 ++ dktX0_haul_1
theorem dksX0_haul_0 : cX0_haul.data.toList.drop 0 = dktX0_haul_0 := by decide +kernel
theorem dksX0_haul_1 : cX0_haul.data.toList.drop 24 = dktX0_haul_1 := dk_seg dksX0_haul_0 24 rfl rfl
theorem dksX0_haul_2 : cX0_haul.data.toList.drop 47 = dktX0_haul_2 := dk_seg dksX0_haul_1 23 rfl rfl
theorem dX0_haul_0 : decode cX0_haul 0 = .ok (.iload_n 1, 1) := dk_27 (dk_at dksX0_haul_0 0 rfl rfl)
theorem dX0_haul_1 : decode cX0_haul 1 = .ok (.invokestatic 249, 3) := dk_184 0 249 (dk_at dksX0_haul_0 1 rfl rfl)
theorem dX0_haul_4 : decode cX0_haul 4 = .ok (.ifCond .eq 10, 3) := dk_153 0 10 (dk_at dksX0_haul_0 4 rfl rfl)
theorem dX0_haul_7 : decode cX0_haul 7 = .ok (.aload_n 0, 1) := dk_42 (dk_at dksX0_haul_0 7 rfl rfl)
theorem dX0_haul_8 : decode cX0_haul 8 = .ok (.invokevirtual 252, 3) := dk_182 0 252 (dk_at dksX0_haul_0 8 rfl rfl)
theorem dX0_haul_11 : decode cX0_haul 11 = .ok (.ifCond .ne 5, 3) := dk_154 0 5 (dk_at dksX0_haul_0 11 rfl rfl)
theorem dX0_haul_14 : decode cX0_haul 14 = .ok (.iconst (-1), 1) := dk_2 (dk_at dksX0_haul_0 14 rfl rfl)
theorem dX0_haul_15 : decode cX0_haul 15 = .ok (.ireturn, 1) := dk_172 (dk_at dksX0_haul_0 15 rfl rfl)
theorem dX0_haul_16 : decode cX0_haul 16 = .ok (.aload_n 0, 1) := dk_42 (dk_at dksX0_haul_0 16 rfl rfl)
theorem dX0_haul_17 : decode cX0_haul 17 = .ok (.getfield 51, 3) := dk_180 0 51 (dk_at dksX0_haul_0 17 rfl rfl)
theorem dX0_haul_20 : decode cX0_haul 20 = .ok (.aload_n 0, 1) := dk_42 (dk_at dksX0_haul_0 20 rfl rfl)
theorem dX0_haul_21 : decode cX0_haul 21 = .ok (.getfield 40, 3) := dk_180 0 40 (dk_at dksX0_haul_0 21 rfl rfl)
theorem dX0_haul_24 : decode cX0_haul 24 = .ok (.iload_n 1, 1) := dk_27 (dk_at dksX0_haul_1 0 rfl rfl)
theorem dX0_haul_25 : decode cX0_haul 25 = .ok (.invokevirtual 256, 3) := dk_182 1 0 (dk_at dksX0_haul_1 1 rfl rfl)
theorem dX0_haul_28 : decode cX0_haul 28 = .ok (.istore_n 2, 1) := dk_61 (dk_at dksX0_haul_1 4 rfl rfl)
theorem dX0_haul_29 : decode cX0_haul 29 = .ok (.aload_n 0, 1) := dk_42 (dk_at dksX0_haul_1 5 rfl rfl)
theorem dX0_haul_30 : decode cX0_haul 30 = .ok (.invokevirtual 233, 3) := dk_182 0 233 (dk_at dksX0_haul_1 6 rfl rfl)
theorem dX0_haul_33 : decode cX0_haul 33 = .ok (.iload_n 2, 1) := dk_28 (dk_at dksX0_haul_1 9 rfl rfl)
theorem dX0_haul_34 : decode cX0_haul 34 = .ok (.ifCond .ge 19, 3) := dk_156 0 19 (dk_at dksX0_haul_1 10 rfl rfl)
theorem dX0_haul_37 : decode cX0_haul 37 = .ok (.aload_n 0, 1) := dk_42 (dk_at dksX0_haul_1 13 rfl rfl)
theorem dX0_haul_38 : decode cX0_haul 38 = .ok (.getfield 51, 3) := dk_180 0 51 (dk_at dksX0_haul_1 14 rfl rfl)
theorem dX0_haul_41 : decode cX0_haul 41 = .ok (.dup, 1) := dk_89 (dk_at dksX0_haul_1 17 rfl rfl)
theorem dX0_haul_42 : decode cX0_haul 42 = .ok (.getfield 259, 3) := dk_180 1 3 (dk_at dksX0_haul_1 18 rfl rfl)
theorem dX0_haul_45 : decode cX0_haul 45 = .ok (.iload_n 1, 1) := dk_27 (dk_at dksX0_haul_1 21 rfl rfl)
theorem dX0_haul_46 : decode cX0_haul 46 = .ok (.iadd, 1) := dk_96 (dk_at dksX0_haul_1 22 rfl rfl)
theorem dX0_haul_47 : decode cX0_haul 47 = .ok (.putfield 259, 3) := dk_181 1 3 (dk_at dksX0_haul_2 0 rfl rfl)
theorem dX0_haul_50 : decode cX0_haul 50 = .ok (.goto 13, 3) := dk_167 0 13 (dk_at dksX0_haul_2 3 rfl rfl)
theorem dX0_haul_53 : decode cX0_haul 53 = .ok (.aload_n 0, 1) := dk_42 (dk_at dksX0_haul_2 6 rfl rfl)
theorem dX0_haul_54 : decode cX0_haul 54 = .ok (.getfield 51, 3) := dk_180 0 51 (dk_at dksX0_haul_2 7 rfl rfl)
theorem dX0_haul_57 : decode cX0_haul 57 = .ok (.iload_n 2, 1) := dk_28 (dk_at dksX0_haul_2 10 rfl rfl)
theorem dX0_haul_58 : decode cX0_haul 58 = .ok (.iconst 2, 1) := dk_5 (dk_at dksX0_haul_2 11 rfl rfl)
theorem dX0_haul_59 : decode cX0_haul 59 = .ok (.idiv, 1) := dk_108 (dk_at dksX0_haul_2 12 rfl rfl)
theorem dX0_haul_60 : decode cX0_haul 60 = .ok (.invokevirtual 243, 3) := dk_182 0 243 (dk_at dksX0_haul_2 13 rfl rfl)
theorem dX0_haul_63 : decode cX0_haul 63 = .ok (.aload_n 0, 1) := dk_42 (dk_at dksX0_haul_2 16 rfl rfl)
theorem dX0_haul_64 : decode cX0_haul 64 = .ok (.getfield 51, 3) := dk_180 0 51 (dk_at dksX0_haul_2 17 rfl rfl)
theorem dX0_haul_67 : decode cX0_haul 67 = .ok (.getfield 164, 3) := dk_180 0 164 (dk_at dksX0_haul_2 20 rfl rfl)
theorem dX0_haul_70 : decode cX0_haul 70 = .ok (.ireturn, 1) := dk_172 (dk_at dksX0_haul_2 23 rfl rfl)
def dkwX0_isHaul_0 : List UInt8 := [26, 3, 17, 3, 231, 184, 0, 156, 172]
abbrev dktX0_isHaul_0 : List UInt8 := dkwX0_isHaul_0 ++ []
theorem dksX0_isHaul_0 : cX0_isHaul.data.toList.drop 0 = dktX0_isHaul_0 := by decide +kernel
theorem dX0_isHaul_0 : decode cX0_isHaul 0 = .ok (.iload_n 0, 1) := dk_26 (dk_at dksX0_isHaul_0 0 rfl rfl)
theorem dX0_isHaul_1 : decode cX0_isHaul 1 = .ok (.iconst 0, 1) := dk_3 (dk_at dksX0_isHaul_0 1 rfl rfl)
theorem dX0_isHaul_2 : decode cX0_isHaul 2 = .ok (.sipush 999, 3) := dk_17 3 231 (dk_at dksX0_isHaul_0 2 rfl rfl)
theorem dX0_isHaul_5 : decode cX0_isHaul 5 = .ok (.invokestatic 156, 3) := dk_184 0 156 (dk_at dksX0_isHaul_0 5 rfl rfl)
theorem dX0_isHaul_8 : decode cX0_isHaul 8 = .ok (.ireturn, 1) := dk_172 (dk_at dksX0_isHaul_0 8 rfl rfl)
def dkwX0_isLong_0 : List UInt8 := [42, 180, 0, 51, 182, 0, 240, 42, 180, 0, 40, 180, 0, 246, 161, 0, 7, 4, 167, 0, 4, 3, 172]
abbrev dktX0_isLong_0 : List UInt8 := dkwX0_isLong_0 ++ []
theorem dksX0_isLong_0 : cX0_isLong.data.toList.drop 0 = dktX0_isLong_0 := by decide +kernel
theorem dX0_isLong_0 : decode cX0_isLong 0 = .ok (.aload_n 0, 1) := dk_42 (dk_at dksX0_isLong_0 0 rfl rfl)
theorem dX0_isLong_1 : decode cX0_isLong 1 = .ok (.getfield 51, 3) := dk_180 0 51 (dk_at dksX0_isLong_0 1 rfl rfl)
theorem dX0_isLong_4 : decode cX0_isLong 4 = .ok (.invokevirtual 240, 3) := dk_182 0 240 (dk_at dksX0_isLong_0 4 rfl rfl)
theorem dX0_isLong_7 : decode cX0_isLong 7 = .ok (.aload_n 0, 1) := dk_42 (dk_at dksX0_isLong_0 7 rfl rfl)
theorem dX0_isLong_8 : decode cX0_isLong 8 = .ok (.getfield 40, 3) := dk_180 0 40 (dk_at dksX0_isLong_0 8 rfl rfl)
theorem dX0_isLong_11 : decode cX0_isLong 11 = .ok (.getfield 246, 3) := dk_180 0 246 (dk_at dksX0_isLong_0 11 rfl rfl)
theorem dX0_isLong_14 : decode cX0_isLong 14 = .ok (.if_icmp .lt 7, 3) := dk_161 0 7 (dk_at dksX0_isLong_0 14 rfl rfl)
theorem dX0_isLong_17 : decode cX0_isLong 17 = .ok (.iconst 1, 1) := dk_4 (dk_at dksX0_isLong_0 17 rfl rfl)
theorem dX0_isLong_18 : decode cX0_isLong 18 = .ok (.goto 4, 3) := dk_167 0 4 (dk_at dksX0_isLong_0 18 rfl rfl)
theorem dX0_isLong_21 : decode cX0_isLong 21 = .ok (.iconst 0, 1) := dk_3 (dk_at dksX0_isLong_0 21 rfl rfl)
theorem dX0_isLong_22 : decode cX0_isLong 22 = .ok (.ireturn, 1) := dk_172 (dk_at dksX0_isLong_0 22 rfl rfl)
def dkwX0_years_1 : List UInt8 := [180, 0, 68, 182, 1, 12, 42, 180, 0, 51, 180, 1, 16, 172]
abbrev dktX0_years_1 : List UInt8 := dkwX0_years_1 ++ []
def dkwX0_years_0 : List UInt8 := [27, 184, 1, 9, 154, 0, 5, 2, 172, 27, 158, 0, 7, 42, 182, 0, 233, 42, 42, 180, 0, 51, 27, 42]
abbrev dktX0_years_0 : List UInt8 := dkwX0_years_0 ++ dktX0_years_1
theorem dksX0_years_0 : cX0_years.data.toList.drop 0 = dktX0_years_0 := by decide +kernel
theorem dksX0_years_1 : cX0_years.data.toList.drop 24 = dktX0_years_1 := dk_seg dksX0_years_0 24 rfl rfl
theorem dX0_years_0 : decode cX0_years 0 = .ok (.iload_n 1, 1) := dk_27 (dk_at dksX0_years_0 0 rfl rfl)
theorem dX0_years_1 : decode cX0_years 1 = .ok (.invokestatic 265, 3) := dk_184 1 9 (dk_at dksX0_years_0 1 rfl rfl)
theorem dX0_years_4 : decode cX0_years 4 = .ok (.ifCond .ne 5, 3) := dk_154 0 5 (dk_at dksX0_years_0 4 rfl rfl)
theorem dX0_years_7 : decode cX0_years 7 = .ok (.iconst (-1), 1) := dk_2 (dk_at dksX0_years_0 7 rfl rfl)
theorem dX0_years_8 : decode cX0_years 8 = .ok (.ireturn, 1) := dk_172 (dk_at dksX0_years_0 8 rfl rfl)
theorem dX0_years_9 : decode cX0_years 9 = .ok (.iload_n 1, 1) := dk_27 (dk_at dksX0_years_0 9 rfl rfl)
theorem dX0_years_10 : decode cX0_years 10 = .ok (.ifCond .le 7, 3) := dk_158 0 7 (dk_at dksX0_years_0 10 rfl rfl)
theorem dX0_years_13 : decode cX0_years 13 = .ok (.aload_n 0, 1) := dk_42 (dk_at dksX0_years_0 13 rfl rfl)
theorem dX0_years_14 : decode cX0_years 14 = .ok (.invokevirtual 233, 3) := dk_182 0 233 (dk_at dksX0_years_0 14 rfl rfl)
theorem dX0_years_17 : decode cX0_years 17 = .ok (.aload_n 0, 1) := dk_42 (dk_at dksX0_years_0 17 rfl rfl)
theorem dX0_years_18 : decode cX0_years 18 = .ok (.aload_n 0, 1) := dk_42 (dk_at dksX0_years_0 18 rfl rfl)
theorem dX0_years_19 : decode cX0_years 19 = .ok (.getfield 51, 3) := dk_180 0 51 (dk_at dksX0_years_0 19 rfl rfl)
theorem dX0_years_22 : decode cX0_years 22 = .ok (.iload_n 1, 1) := dk_27 (dk_at dksX0_years_0 22 rfl rfl)
theorem dX0_years_23 : decode cX0_years 23 = .ok (.aload_n 0, 1) := dk_42 (dk_at dksX0_years_0 23 rfl rfl)
theorem dX0_years_24 : decode cX0_years 24 = .ok (.getfield 68, 3) := dk_180 0 68 (dk_at dksX0_years_1 0 rfl rfl)
theorem dX0_years_27 : decode cX0_years 27 = .ok (.invokevirtual 268, 3) := dk_182 1 12 (dk_at dksX0_years_1 3 rfl rfl)
theorem dX0_years_30 : decode cX0_years 30 = .ok (.aload_n 0, 1) := dk_42 (dk_at dksX0_years_1 6 rfl rfl)
theorem dX0_years_31 : decode cX0_years 31 = .ok (.getfield 51, 3) := dk_180 0 51 (dk_at dksX0_years_1 7 rfl rfl)
theorem dX0_years_34 : decode cX0_years 34 = .ok (.getfield 272, 3) := dk_180 1 16 (dk_at dksX0_years_1 10 rfl rfl)
theorem dX0_years_37 : decode cX0_years 37 = .ok (.ireturn, 1) := dk_172 (dk_at dksX0_years_1 13 rfl rfl)
def dkwX0_isAhead_0 : List UInt8 := [26, 3, 16, 60, 184, 0, 156, 172]
abbrev dktX0_isAhead_0 : List UInt8 := dkwX0_isAhead_0 ++ []
theorem dksX0_isAhead_0 : cX0_isAhead.data.toList.drop 0 = dktX0_isAhead_0 := by decide +kernel
theorem dX0_isAhead_0 : decode cX0_isAhead 0 = .ok (.iload_n 0, 1) := dk_26 (dk_at dksX0_isAhead_0 0 rfl rfl)
theorem dX0_isAhead_1 : decode cX0_isAhead 1 = .ok (.iconst 0, 1) := dk_3 (dk_at dksX0_isAhead_0 1 rfl rfl)
theorem dX0_isAhead_2 : decode cX0_isAhead 2 = .ok (.bipush 60, 2) := dk_16 60 (dk_at dksX0_isAhead_0 2 rfl rfl)
theorem dX0_isAhead_4 : decode cX0_isAhead 4 = .ok (.invokestatic 156, 3) := dk_184 0 156 (dk_at dksX0_isAhead_0 4 rfl rfl)
theorem dX0_isAhead_7 : decode cX0_isAhead 7 = .ok (.ireturn, 1) := dk_172 (dk_at dksX0_isAhead_0 7 rfl rfl)
def dkwX0_runs_1 : List UInt8 := [177]
abbrev dktX0_runs_1 : List UInt8 := dkwX0_runs_1 ++ []
def dkwX0_runs_0 : List UInt8 := [3, 54, 4, 21, 4, 28, 162, 0, 18, 43, 42, 180, 0, 40, 45, 182, 1, 5, 132, 4, 1, 167, 255, 238]
abbrev dktX0_runs_0 : List UInt8 := dkwX0_runs_0 ++ dktX0_runs_1
theorem dksX0_runs_0 : cX0_runs.data.toList.drop 0 = dktX0_runs_0 := by decide +kernel
theorem dksX0_runs_1 : cX0_runs.data.toList.drop 24 = dktX0_runs_1 := dk_seg dksX0_runs_0 24 rfl rfl
theorem dX0_runs_0 : decode cX0_runs 0 = .ok (.iconst 0, 1) := dk_3 (dk_at dksX0_runs_0 0 rfl rfl)
theorem dX0_runs_1 : decode cX0_runs 1 = .ok (.istore 4, 2) := dk_54 4 (dk_at dksX0_runs_0 1 rfl rfl)
theorem dX0_runs_3 : decode cX0_runs 3 = .ok (.iload 4, 2) := dk_21 4 (dk_at dksX0_runs_0 3 rfl rfl)
theorem dX0_runs_5 : decode cX0_runs 5 = .ok (.iload_n 2, 1) := dk_28 (dk_at dksX0_runs_0 5 rfl rfl)
theorem dX0_runs_6 : decode cX0_runs 6 = .ok (.if_icmp .ge 18, 3) := dk_162 0 18 (dk_at dksX0_runs_0 6 rfl rfl)
theorem dX0_runs_9 : decode cX0_runs 9 = .ok (.aload_n 1, 1) := dk_43 (dk_at dksX0_runs_0 9 rfl rfl)
theorem dX0_runs_10 : decode cX0_runs 10 = .ok (.aload_n 0, 1) := dk_42 (dk_at dksX0_runs_0 10 rfl rfl)
theorem dX0_runs_11 : decode cX0_runs 11 = .ok (.getfield 40, 3) := dk_180 0 40 (dk_at dksX0_runs_0 11 rfl rfl)
theorem dX0_runs_14 : decode cX0_runs 14 = .ok (.aload_n 3, 1) := dk_45 (dk_at dksX0_runs_0 14 rfl rfl)
theorem dX0_runs_15 : decode cX0_runs 15 = .ok (.invokevirtual 261, 3) := dk_182 1 5 (dk_at dksX0_runs_0 15 rfl rfl)
theorem dX0_runs_18 : decode cX0_runs 18 = .ok (.iinc 4 1, 3) := dk_132 4 1 (dk_at dksX0_runs_0 18 rfl rfl)
theorem dX0_runs_21 : decode cX0_runs 21 = .ok (.goto (-18), 3) := dk_167 255 238 (dk_at dksX0_runs_0 21 rfl rfl)
theorem dX0_runs_24 : decode cX0_runs 24 = .ok (.return_, 1) := dk_177 (dk_at dksX0_runs_1 0 rfl rfl)
def dkwX0_lot_0 : List UInt8 := [26, 17, 0, 219, 184, 0, 2, 27, 184, 0, 2, 4, 124, 28, 112, 172]
abbrev dktX0_lot_0 : List UInt8 := dkwX0_lot_0 ++ []
theorem dksX0_lot_0 : cX0_lot.data.toList.drop 0 = dktX0_lot_0 := by decide +kernel
theorem dX0_lot_0 : decode cX0_lot 0 = .ok (.iload_n 0, 1) := dk_26 (dk_at dksX0_lot_0 0 rfl rfl)
theorem dX0_lot_1 : decode cX0_lot 1 = .ok (.sipush 219, 3) := dk_17 0 219 (dk_at dksX0_lot_0 1 rfl rfl)
theorem dX0_lot_4 : decode cX0_lot 4 = .ok (.invokestatic 2, 3) := dk_184 0 2 (dk_at dksX0_lot_0 4 rfl rfl)
theorem dX0_lot_7 : decode cX0_lot 7 = .ok (.iload_n 1, 1) := dk_27 (dk_at dksX0_lot_0 7 rfl rfl)
theorem dX0_lot_8 : decode cX0_lot 8 = .ok (.invokestatic 2, 3) := dk_184 0 2 (dk_at dksX0_lot_0 8 rfl rfl)
theorem dX0_lot_11 : decode cX0_lot 11 = .ok (.iconst 1, 1) := dk_4 (dk_at dksX0_lot_0 11 rfl rfl)
theorem dX0_lot_12 : decode cX0_lot 12 = .ok (.iushr, 1) := dk_124 (dk_at dksX0_lot_0 12 rfl rfl)
theorem dX0_lot_13 : decode cX0_lot 13 = .ok (.iload_n 2, 1) := dk_28 (dk_at dksX0_lot_0 13 rfl rfl)
theorem dX0_lot_14 : decode cX0_lot 14 = .ok (.irem, 1) := dk_112 (dk_at dksX0_lot_0 14 rfl rfl)
theorem dX0_lot_15 : decode cX0_lot 15 = .ok (.ireturn, 1) := dk_172 (dk_at dksX0_lot_0 15 rfl rfl)
def dkwX0_mixed_0 : List UInt8 := [26, 27, 130, 18, 1, 104, 17, 48, 57, 96, 61, 28, 28, 16, 15, 124, 130, 172]
abbrev dktX0_mixed_0 : List UInt8 := dkwX0_mixed_0 ++ []
theorem dksX0_mixed_0 : cX0_mixed.data.toList.drop 0 = dktX0_mixed_0 := by decide +kernel
theorem dX0_mixed_0 : decode cX0_mixed 0 = .ok (.iload_n 0, 1) := dk_26 (dk_at dksX0_mixed_0 0 rfl rfl)
theorem dX0_mixed_1 : decode cX0_mixed 1 = .ok (.iload_n 1, 1) := dk_27 (dk_at dksX0_mixed_0 1 rfl rfl)
theorem dX0_mixed_2 : decode cX0_mixed 2 = .ok (.ixor, 1) := dk_130 (dk_at dksX0_mixed_0 2 rfl rfl)
theorem dX0_mixed_3 : decode cX0_mixed 3 = .ok (.ldc 1, 2) := dk_18 1 (dk_at dksX0_mixed_0 3 rfl rfl)
theorem dX0_mixed_5 : decode cX0_mixed 5 = .ok (.imul, 1) := dk_104 (dk_at dksX0_mixed_0 5 rfl rfl)
theorem dX0_mixed_6 : decode cX0_mixed 6 = .ok (.sipush 12345, 3) := dk_17 48 57 (dk_at dksX0_mixed_0 6 rfl rfl)
theorem dX0_mixed_9 : decode cX0_mixed 9 = .ok (.iadd, 1) := dk_96 (dk_at dksX0_mixed_0 9 rfl rfl)
theorem dX0_mixed_10 : decode cX0_mixed 10 = .ok (.istore_n 2, 1) := dk_61 (dk_at dksX0_mixed_0 10 rfl rfl)
theorem dX0_mixed_11 : decode cX0_mixed 11 = .ok (.iload_n 2, 1) := dk_28 (dk_at dksX0_mixed_0 11 rfl rfl)
theorem dX0_mixed_12 : decode cX0_mixed 12 = .ok (.iload_n 2, 1) := dk_28 (dk_at dksX0_mixed_0 12 rfl rfl)
theorem dX0_mixed_13 : decode cX0_mixed 13 = .ok (.bipush 15, 2) := dk_16 15 (dk_at dksX0_mixed_0 13 rfl rfl)
theorem dX0_mixed_15 : decode cX0_mixed 15 = .ok (.iushr, 1) := dk_124 (dk_at dksX0_mixed_0 15 rfl rfl)
theorem dX0_mixed_16 : decode cX0_mixed 16 = .ok (.ixor, 1) := dk_130 (dk_at dksX0_mixed_0 16 rfl rfl)
theorem dX0_mixed_17 : decode cX0_mixed 17 = .ok (.ireturn, 1) := dk_172 (dk_at dksX0_mixed_0 17 rfl rfl)
def dkwX0_undo_2 : List UInt8 := [182, 0, 221, 4, 172]
abbrev dktX0_undo_2 : List UInt8 := dkwX0_undo_2 ++ []
def dkwX0_undo_1 : List UInt8 := [16, 40, 96, 4, 100, 16, 40, 112, 181, 0, 218, 42, 180, 0, 51, 42, 180, 0, 58, 42, 180, 0, 218, 50]
abbrev dktX0_undo_1 : List UInt8 := dkwX0_undo_1 ++ dktX0_undo_2
def dkwX0_undo_0 : List UInt8 := [42, 180, 0, 134, 154, 0, 5, 3, 172, 42, 89, 180, 0, 134, 4, 100, 181, 0, 134, 42, 42, 180, 0, 218]
abbrev dktX0_undo_0 : List UInt8 := dkwX0_undo_0 ++ dktX0_undo_1
theorem dksX0_undo_0 : cX0_undo.data.toList.drop 0 = dktX0_undo_0 := by decide +kernel
theorem dksX0_undo_1 : cX0_undo.data.toList.drop 24 = dktX0_undo_1 := dk_seg dksX0_undo_0 24 rfl rfl
theorem dksX0_undo_2 : cX0_undo.data.toList.drop 48 = dktX0_undo_2 := dk_seg dksX0_undo_1 24 rfl rfl
theorem dX0_undo_0 : decode cX0_undo 0 = .ok (.aload_n 0, 1) := dk_42 (dk_at dksX0_undo_0 0 rfl rfl)
theorem dX0_undo_1 : decode cX0_undo 1 = .ok (.getfield 134, 3) := dk_180 0 134 (dk_at dksX0_undo_0 1 rfl rfl)
theorem dX0_undo_4 : decode cX0_undo 4 = .ok (.ifCond .ne 5, 3) := dk_154 0 5 (dk_at dksX0_undo_0 4 rfl rfl)
theorem dX0_undo_7 : decode cX0_undo 7 = .ok (.iconst 0, 1) := dk_3 (dk_at dksX0_undo_0 7 rfl rfl)
theorem dX0_undo_8 : decode cX0_undo 8 = .ok (.ireturn, 1) := dk_172 (dk_at dksX0_undo_0 8 rfl rfl)
theorem dX0_undo_9 : decode cX0_undo 9 = .ok (.aload_n 0, 1) := dk_42 (dk_at dksX0_undo_0 9 rfl rfl)
theorem dX0_undo_10 : decode cX0_undo 10 = .ok (.dup, 1) := dk_89 (dk_at dksX0_undo_0 10 rfl rfl)
theorem dX0_undo_11 : decode cX0_undo 11 = .ok (.getfield 134, 3) := dk_180 0 134 (dk_at dksX0_undo_0 11 rfl rfl)
theorem dX0_undo_14 : decode cX0_undo 14 = .ok (.iconst 1, 1) := dk_4 (dk_at dksX0_undo_0 14 rfl rfl)
theorem dX0_undo_15 : decode cX0_undo 15 = .ok (.isub, 1) := dk_100 (dk_at dksX0_undo_0 15 rfl rfl)
theorem dX0_undo_16 : decode cX0_undo 16 = .ok (.putfield 134, 3) := dk_181 0 134 (dk_at dksX0_undo_0 16 rfl rfl)
theorem dX0_undo_19 : decode cX0_undo 19 = .ok (.aload_n 0, 1) := dk_42 (dk_at dksX0_undo_0 19 rfl rfl)
theorem dX0_undo_20 : decode cX0_undo 20 = .ok (.aload_n 0, 1) := dk_42 (dk_at dksX0_undo_0 20 rfl rfl)
theorem dX0_undo_21 : decode cX0_undo 21 = .ok (.getfield 218, 3) := dk_180 0 218 (dk_at dksX0_undo_0 21 rfl rfl)
theorem dX0_undo_24 : decode cX0_undo 24 = .ok (.bipush 40, 2) := dk_16 40 (dk_at dksX0_undo_1 0 rfl rfl)
theorem dX0_undo_26 : decode cX0_undo 26 = .ok (.iadd, 1) := dk_96 (dk_at dksX0_undo_1 2 rfl rfl)
theorem dX0_undo_27 : decode cX0_undo 27 = .ok (.iconst 1, 1) := dk_4 (dk_at dksX0_undo_1 3 rfl rfl)
theorem dX0_undo_28 : decode cX0_undo 28 = .ok (.isub, 1) := dk_100 (dk_at dksX0_undo_1 4 rfl rfl)
theorem dX0_undo_29 : decode cX0_undo 29 = .ok (.bipush 40, 2) := dk_16 40 (dk_at dksX0_undo_1 5 rfl rfl)
theorem dX0_undo_31 : decode cX0_undo 31 = .ok (.irem, 1) := dk_112 (dk_at dksX0_undo_1 7 rfl rfl)
theorem dX0_undo_32 : decode cX0_undo 32 = .ok (.putfield 218, 3) := dk_181 0 218 (dk_at dksX0_undo_1 8 rfl rfl)
theorem dX0_undo_35 : decode cX0_undo 35 = .ok (.aload_n 0, 1) := dk_42 (dk_at dksX0_undo_1 11 rfl rfl)
theorem dX0_undo_36 : decode cX0_undo 36 = .ok (.getfield 51, 3) := dk_180 0 51 (dk_at dksX0_undo_1 12 rfl rfl)
theorem dX0_undo_39 : decode cX0_undo 39 = .ok (.aload_n 0, 1) := dk_42 (dk_at dksX0_undo_1 15 rfl rfl)
theorem dX0_undo_40 : decode cX0_undo 40 = .ok (.getfield 58, 3) := dk_180 0 58 (dk_at dksX0_undo_1 16 rfl rfl)
theorem dX0_undo_43 : decode cX0_undo 43 = .ok (.aload_n 0, 1) := dk_42 (dk_at dksX0_undo_1 19 rfl rfl)
theorem dX0_undo_44 : decode cX0_undo 44 = .ok (.getfield 218, 3) := dk_180 0 218 (dk_at dksX0_undo_1 20 rfl rfl)
theorem dX0_undo_47 : decode cX0_undo 47 = .ok (.aaload, 1) := dk_50 (dk_at dksX0_undo_1 23 rfl rfl)
theorem dX0_undo_48 : decode cX0_undo 48 = .ok (.invokevirtual 221, 3) := dk_182 0 221 (dk_at dksX0_undo_2 0 rfl rfl)
theorem dX0_undo_51 : decode cX0_undo 51 = .ok (.iconst 1, 1) := dk_4 (dk_at dksX0_undo_2 3 rfl rfl)
theorem dX0_undo_52 : decode cX0_undo 52 = .ok (.ireturn, 1) := dk_172 (dk_at dksX0_undo_2 4 rfl rfl)
def dkwX0_most_0 : List UInt8 := [42, 42, 180, 0, 51, 182, 1, 19, 172]
abbrev dktX0_most_0 : List UInt8 := dkwX0_most_0 ++ []
theorem dksX0_most_0 : cX0_most.data.toList.drop 0 = dktX0_most_0 := by decide +kernel
theorem dX0_most_0 : decode cX0_most 0 = .ok (.aload_n 0, 1) := dk_42 (dk_at dksX0_most_0 0 rfl rfl)
theorem dX0_most_1 : decode cX0_most 1 = .ok (.aload_n 0, 1) := dk_42 (dk_at dksX0_most_0 1 rfl rfl)
theorem dX0_most_2 : decode cX0_most 2 = .ok (.getfield 51, 3) := dk_180 0 51 (dk_at dksX0_most_0 2 rfl rfl)
theorem dX0_most_5 : decode cX0_most 5 = .ok (.invokevirtual 275, 3) := dk_182 1 19 (dk_at dksX0_most_0 5 rfl rfl)
theorem dX0_most_8 : decode cX0_most 8 = .ok (.ireturn, 1) := dk_172 (dk_at dksX0_most_0 8 rfl rfl)
def dkwX0_mostOf_1 : List UInt8 := [167, 255, 237, 28, 156, 0, 8, 16, 254, 167, 0, 4, 28, 172]
abbrev dktX0_mostOf_1 : List UInt8 := dkwX0_mostOf_1 ++ []
def dkwX0_mostOf_0 : List UInt8 := [17, 3, 231, 61, 28, 155, 0, 21, 43, 42, 180, 0, 40, 28, 182, 1, 0, 155, 0, 9, 132, 2, 255]
abbrev dktX0_mostOf_0 : List UInt8 := dkwX0_mostOf_0 ++ dktX0_mostOf_1
theorem dksX0_mostOf_0 : cX0_mostOf.data.toList.drop 0 = dktX0_mostOf_0 := by decide +kernel
theorem dksX0_mostOf_1 : cX0_mostOf.data.toList.drop 23 = dktX0_mostOf_1 := dk_seg dksX0_mostOf_0 23 rfl rfl
theorem dX0_mostOf_0 : decode cX0_mostOf 0 = .ok (.sipush 999, 3) := dk_17 3 231 (dk_at dksX0_mostOf_0 0 rfl rfl)
theorem dX0_mostOf_3 : decode cX0_mostOf 3 = .ok (.istore_n 2, 1) := dk_61 (dk_at dksX0_mostOf_0 3 rfl rfl)
theorem dX0_mostOf_4 : decode cX0_mostOf 4 = .ok (.iload_n 2, 1) := dk_28 (dk_at dksX0_mostOf_0 4 rfl rfl)
theorem dX0_mostOf_5 : decode cX0_mostOf 5 = .ok (.ifCond .lt 21, 3) := dk_155 0 21 (dk_at dksX0_mostOf_0 5 rfl rfl)
theorem dX0_mostOf_8 : decode cX0_mostOf 8 = .ok (.aload_n 1, 1) := dk_43 (dk_at dksX0_mostOf_0 8 rfl rfl)
theorem dX0_mostOf_9 : decode cX0_mostOf 9 = .ok (.aload_n 0, 1) := dk_42 (dk_at dksX0_mostOf_0 9 rfl rfl)
theorem dX0_mostOf_10 : decode cX0_mostOf 10 = .ok (.getfield 40, 3) := dk_180 0 40 (dk_at dksX0_mostOf_0 10 rfl rfl)
theorem dX0_mostOf_13 : decode cX0_mostOf 13 = .ok (.iload_n 2, 1) := dk_28 (dk_at dksX0_mostOf_0 13 rfl rfl)
theorem dX0_mostOf_14 : decode cX0_mostOf 14 = .ok (.invokevirtual 256, 3) := dk_182 1 0 (dk_at dksX0_mostOf_0 14 rfl rfl)
theorem dX0_mostOf_17 : decode cX0_mostOf 17 = .ok (.ifCond .lt 9, 3) := dk_155 0 9 (dk_at dksX0_mostOf_0 17 rfl rfl)
theorem dX0_mostOf_20 : decode cX0_mostOf 20 = .ok (.iinc 2 (-1), 3) := dk_132 2 255 (dk_at dksX0_mostOf_0 20 rfl rfl)
theorem dX0_mostOf_23 : decode cX0_mostOf 23 = .ok (.goto (-19), 3) := dk_167 255 237 (dk_at dksX0_mostOf_1 0 rfl rfl)
theorem dX0_mostOf_26 : decode cX0_mostOf 26 = .ok (.iload_n 2, 1) := dk_28 (dk_at dksX0_mostOf_1 3 rfl rfl)
theorem dX0_mostOf_27 : decode cX0_mostOf 27 = .ok (.ifCond .ge 8, 3) := dk_156 0 8 (dk_at dksX0_mostOf_1 4 rfl rfl)
theorem dX0_mostOf_30 : decode cX0_mostOf 30 = .ok (.bipush (-2), 2) := dk_16 254 (dk_at dksX0_mostOf_1 7 rfl rfl)
theorem dX0_mostOf_32 : decode cX0_mostOf 32 = .ok (.goto 4, 3) := dk_167 0 4 (dk_at dksX0_mostOf_1 9 rfl rfl)
theorem dX0_mostOf_35 : decode cX0_mostOf 35 = .ok (.iload_n 2, 1) := dk_28 (dk_at dksX0_mostOf_1 12 rfl rfl)
theorem dX0_mostOf_36 : decode cX0_mostOf 36 = .ok (.ireturn, 1) := dk_172 (dk_at dksX0_mostOf_1 13 rfl rfl)
def dkwX0_lasts_2 : List UInt8 := [180, 0, 55, 42, 180, 0, 40, 42, 180, 0, 75, 182, 1, 5, 132, 2, 1, 167, 255, 215, 16, 254, 172]
abbrev dktX0_lasts_2 : List UInt8 := dkwX0_lasts_2 ++ []
def dkwX0_lasts_1 : List UInt8 := [16, 60, 163, 0, 41, 42, 180, 0, 55, 42, 180, 0, 40, 27, 182, 1, 0, 155, 0, 5, 28, 172, 42]
abbrev dktX0_lasts_1 : List UInt8 := dkwX0_lasts_1 ++ dktX0_lasts_2
def dkwX0_lasts_0 : List UInt8 := [27, 184, 0, 249, 154, 0, 5, 2, 172, 42, 180, 0, 55, 42, 180, 0, 51, 182, 0, 221, 3, 61, 28]
abbrev dktX0_lasts_0 : List UInt8 := dkwX0_lasts_0 ++ dktX0_lasts_1
theorem dksX0_lasts_0 : cX0_lasts.data.toList.drop 0 = dktX0_lasts_0 := by decide +kernel
theorem dksX0_lasts_1 : cX0_lasts.data.toList.drop 23 = dktX0_lasts_1 := dk_seg dksX0_lasts_0 23 rfl rfl
theorem dksX0_lasts_2 : cX0_lasts.data.toList.drop 46 = dktX0_lasts_2 := dk_seg dksX0_lasts_1 23 rfl rfl
theorem dX0_lasts_0 : decode cX0_lasts 0 = .ok (.iload_n 1, 1) := dk_27 (dk_at dksX0_lasts_0 0 rfl rfl)
theorem dX0_lasts_1 : decode cX0_lasts 1 = .ok (.invokestatic 249, 3) := dk_184 0 249 (dk_at dksX0_lasts_0 1 rfl rfl)
theorem dX0_lasts_4 : decode cX0_lasts 4 = .ok (.ifCond .ne 5, 3) := dk_154 0 5 (dk_at dksX0_lasts_0 4 rfl rfl)
theorem dX0_lasts_7 : decode cX0_lasts 7 = .ok (.iconst (-1), 1) := dk_2 (dk_at dksX0_lasts_0 7 rfl rfl)
theorem dX0_lasts_8 : decode cX0_lasts 8 = .ok (.ireturn, 1) := dk_172 (dk_at dksX0_lasts_0 8 rfl rfl)
theorem dX0_lasts_9 : decode cX0_lasts 9 = .ok (.aload_n 0, 1) := dk_42 (dk_at dksX0_lasts_0 9 rfl rfl)
theorem dX0_lasts_10 : decode cX0_lasts 10 = .ok (.getfield 55, 3) := dk_180 0 55 (dk_at dksX0_lasts_0 10 rfl rfl)
theorem dX0_lasts_13 : decode cX0_lasts 13 = .ok (.aload_n 0, 1) := dk_42 (dk_at dksX0_lasts_0 13 rfl rfl)
theorem dX0_lasts_14 : decode cX0_lasts 14 = .ok (.getfield 51, 3) := dk_180 0 51 (dk_at dksX0_lasts_0 14 rfl rfl)
theorem dX0_lasts_17 : decode cX0_lasts 17 = .ok (.invokevirtual 221, 3) := dk_182 0 221 (dk_at dksX0_lasts_0 17 rfl rfl)
theorem dX0_lasts_20 : decode cX0_lasts 20 = .ok (.iconst 0, 1) := dk_3 (dk_at dksX0_lasts_0 20 rfl rfl)
theorem dX0_lasts_21 : decode cX0_lasts 21 = .ok (.istore_n 2, 1) := dk_61 (dk_at dksX0_lasts_0 21 rfl rfl)
theorem dX0_lasts_22 : decode cX0_lasts 22 = .ok (.iload_n 2, 1) := dk_28 (dk_at dksX0_lasts_0 22 rfl rfl)
theorem dX0_lasts_23 : decode cX0_lasts 23 = .ok (.bipush 60, 2) := dk_16 60 (dk_at dksX0_lasts_1 0 rfl rfl)
theorem dX0_lasts_25 : decode cX0_lasts 25 = .ok (.if_icmp .gt 41, 3) := dk_163 0 41 (dk_at dksX0_lasts_1 2 rfl rfl)
theorem dX0_lasts_28 : decode cX0_lasts 28 = .ok (.aload_n 0, 1) := dk_42 (dk_at dksX0_lasts_1 5 rfl rfl)
theorem dX0_lasts_29 : decode cX0_lasts 29 = .ok (.getfield 55, 3) := dk_180 0 55 (dk_at dksX0_lasts_1 6 rfl rfl)
theorem dX0_lasts_32 : decode cX0_lasts 32 = .ok (.aload_n 0, 1) := dk_42 (dk_at dksX0_lasts_1 9 rfl rfl)
theorem dX0_lasts_33 : decode cX0_lasts 33 = .ok (.getfield 40, 3) := dk_180 0 40 (dk_at dksX0_lasts_1 10 rfl rfl)
theorem dX0_lasts_36 : decode cX0_lasts 36 = .ok (.iload_n 1, 1) := dk_27 (dk_at dksX0_lasts_1 13 rfl rfl)
theorem dX0_lasts_37 : decode cX0_lasts 37 = .ok (.invokevirtual 256, 3) := dk_182 1 0 (dk_at dksX0_lasts_1 14 rfl rfl)
theorem dX0_lasts_40 : decode cX0_lasts 40 = .ok (.ifCond .lt 5, 3) := dk_155 0 5 (dk_at dksX0_lasts_1 17 rfl rfl)
theorem dX0_lasts_43 : decode cX0_lasts 43 = .ok (.iload_n 2, 1) := dk_28 (dk_at dksX0_lasts_1 20 rfl rfl)
theorem dX0_lasts_44 : decode cX0_lasts 44 = .ok (.ireturn, 1) := dk_172 (dk_at dksX0_lasts_1 21 rfl rfl)
theorem dX0_lasts_45 : decode cX0_lasts 45 = .ok (.aload_n 0, 1) := dk_42 (dk_at dksX0_lasts_1 22 rfl rfl)
theorem dX0_lasts_46 : decode cX0_lasts 46 = .ok (.getfield 55, 3) := dk_180 0 55 (dk_at dksX0_lasts_2 0 rfl rfl)
theorem dX0_lasts_49 : decode cX0_lasts 49 = .ok (.aload_n 0, 1) := dk_42 (dk_at dksX0_lasts_2 3 rfl rfl)
theorem dX0_lasts_50 : decode cX0_lasts 50 = .ok (.getfield 40, 3) := dk_180 0 40 (dk_at dksX0_lasts_2 4 rfl rfl)
theorem dX0_lasts_53 : decode cX0_lasts 53 = .ok (.aload_n 0, 1) := dk_42 (dk_at dksX0_lasts_2 7 rfl rfl)
theorem dX0_lasts_54 : decode cX0_lasts 54 = .ok (.getfield 75, 3) := dk_180 0 75 (dk_at dksX0_lasts_2 8 rfl rfl)
theorem dX0_lasts_57 : decode cX0_lasts 57 = .ok (.invokevirtual 261, 3) := dk_182 1 5 (dk_at dksX0_lasts_2 11 rfl rfl)
theorem dX0_lasts_60 : decode cX0_lasts 60 = .ok (.iinc 2 1, 3) := dk_132 2 1 (dk_at dksX0_lasts_2 14 rfl rfl)
theorem dX0_lasts_63 : decode cX0_lasts 63 = .ok (.goto (-41), 3) := dk_167 255 215 (dk_at dksX0_lasts_2 17 rfl rfl)
theorem dX0_lasts_66 : decode cX0_lasts 66 = .ok (.bipush (-2), 2) := dk_16 254 (dk_at dksX0_lasts_2 20 rfl rfl)
theorem dX0_lasts_68 : decode cX0_lasts 68 = .ok (.ireturn, 1) := dk_172 (dk_at dksX0_lasts_2 22 rfl rfl)
def dkwX0_harvest_3 : List UInt8 := [54, 5, 132, 6, 1, 167, 255, 219, 29, 154, 0, 8, 21, 4, 167, 0, 5, 21, 5, 172]
abbrev dktX0_harvest_3 : List UInt8 := dkwX0_harvest_3 ++ []
def dkwX0_harvest_2 : List UInt8 := [21, 6, 182, 1, 23, 54, 7, 21, 7, 21, 5, 163, 0, 6, 167, 0, 11, 21, 6, 54, 4, 21, 7]
abbrev dktX0_harvest_2 : List UInt8 := dkwX0_harvest_2 ++ dktX0_harvest_3
def dkwX0_harvest_1 : List UInt8 := [154, 0, 5, 2, 172, 3, 54, 4, 2, 54, 5, 4, 54, 6, 21, 6, 28, 163, 0, 37, 42, 27, 28]
abbrev dktX0_harvest_1 : List UInt8 := dkwX0_harvest_1 ++ dktX0_harvest_2
def dkwX0_harvest_0 : List UInt8 := [42, 27, 182, 0, 160, 153, 0, 22, 28, 4, 16, 60, 184, 0, 156, 153, 0, 12, 29, 3, 4, 184, 0, 156]
abbrev dktX0_harvest_0 : List UInt8 := dkwX0_harvest_0 ++ dktX0_harvest_1
theorem dksX0_harvest_0 : cX0_harvest.data.toList.drop 0 = dktX0_harvest_0 := by decide +kernel
theorem dksX0_harvest_1 : cX0_harvest.data.toList.drop 24 = dktX0_harvest_1 := dk_seg dksX0_harvest_0 24 rfl rfl
theorem dksX0_harvest_2 : cX0_harvest.data.toList.drop 47 = dktX0_harvest_2 := dk_seg dksX0_harvest_1 23 rfl rfl
theorem dksX0_harvest_3 : cX0_harvest.data.toList.drop 70 = dktX0_harvest_3 := dk_seg dksX0_harvest_2 23 rfl rfl
theorem dX0_harvest_0 : decode cX0_harvest 0 = .ok (.aload_n 0, 1) := dk_42 (dk_at dksX0_harvest_0 0 rfl rfl)
theorem dX0_harvest_1 : decode cX0_harvest 1 = .ok (.iload_n 1, 1) := dk_27 (dk_at dksX0_harvest_0 1 rfl rfl)
theorem dX0_harvest_2 : decode cX0_harvest 2 = .ok (.invokevirtual 160, 3) := dk_182 0 160 (dk_at dksX0_harvest_0 2 rfl rfl)
theorem dX0_harvest_5 : decode cX0_harvest 5 = .ok (.ifCond .eq 22, 3) := dk_153 0 22 (dk_at dksX0_harvest_0 5 rfl rfl)
theorem dX0_harvest_8 : decode cX0_harvest 8 = .ok (.iload_n 2, 1) := dk_28 (dk_at dksX0_harvest_0 8 rfl rfl)
theorem dX0_harvest_9 : decode cX0_harvest 9 = .ok (.iconst 1, 1) := dk_4 (dk_at dksX0_harvest_0 9 rfl rfl)
theorem dX0_harvest_10 : decode cX0_harvest 10 = .ok (.bipush 60, 2) := dk_16 60 (dk_at dksX0_harvest_0 10 rfl rfl)
theorem dX0_harvest_12 : decode cX0_harvest 12 = .ok (.invokestatic 156, 3) := dk_184 0 156 (dk_at dksX0_harvest_0 12 rfl rfl)
theorem dX0_harvest_15 : decode cX0_harvest 15 = .ok (.ifCond .eq 12, 3) := dk_153 0 12 (dk_at dksX0_harvest_0 15 rfl rfl)
theorem dX0_harvest_18 : decode cX0_harvest 18 = .ok (.iload_n 3, 1) := dk_29 (dk_at dksX0_harvest_0 18 rfl rfl)
theorem dX0_harvest_19 : decode cX0_harvest 19 = .ok (.iconst 0, 1) := dk_3 (dk_at dksX0_harvest_0 19 rfl rfl)
theorem dX0_harvest_20 : decode cX0_harvest 20 = .ok (.iconst 1, 1) := dk_4 (dk_at dksX0_harvest_0 20 rfl rfl)
theorem dX0_harvest_21 : decode cX0_harvest 21 = .ok (.invokestatic 156, 3) := dk_184 0 156 (dk_at dksX0_harvest_0 21 rfl rfl)
theorem dX0_harvest_24 : decode cX0_harvest 24 = .ok (.ifCond .ne 5, 3) := dk_154 0 5 (dk_at dksX0_harvest_1 0 rfl rfl)
theorem dX0_harvest_27 : decode cX0_harvest 27 = .ok (.iconst (-1), 1) := dk_2 (dk_at dksX0_harvest_1 3 rfl rfl)
theorem dX0_harvest_28 : decode cX0_harvest 28 = .ok (.ireturn, 1) := dk_172 (dk_at dksX0_harvest_1 4 rfl rfl)
theorem dX0_harvest_29 : decode cX0_harvest 29 = .ok (.iconst 0, 1) := dk_3 (dk_at dksX0_harvest_1 5 rfl rfl)
theorem dX0_harvest_30 : decode cX0_harvest 30 = .ok (.istore 4, 2) := dk_54 4 (dk_at dksX0_harvest_1 6 rfl rfl)
theorem dX0_harvest_32 : decode cX0_harvest 32 = .ok (.iconst (-1), 1) := dk_2 (dk_at dksX0_harvest_1 8 rfl rfl)
theorem dX0_harvest_33 : decode cX0_harvest 33 = .ok (.istore 5, 2) := dk_54 5 (dk_at dksX0_harvest_1 9 rfl rfl)
theorem dX0_harvest_35 : decode cX0_harvest 35 = .ok (.iconst 1, 1) := dk_4 (dk_at dksX0_harvest_1 11 rfl rfl)
theorem dX0_harvest_36 : decode cX0_harvest 36 = .ok (.istore 6, 2) := dk_54 6 (dk_at dksX0_harvest_1 12 rfl rfl)
theorem dX0_harvest_38 : decode cX0_harvest 38 = .ok (.iload 6, 2) := dk_21 6 (dk_at dksX0_harvest_1 14 rfl rfl)
theorem dX0_harvest_40 : decode cX0_harvest 40 = .ok (.iload_n 2, 1) := dk_28 (dk_at dksX0_harvest_1 16 rfl rfl)
theorem dX0_harvest_41 : decode cX0_harvest 41 = .ok (.if_icmp .gt 37, 3) := dk_163 0 37 (dk_at dksX0_harvest_1 17 rfl rfl)
theorem dX0_harvest_44 : decode cX0_harvest 44 = .ok (.aload_n 0, 1) := dk_42 (dk_at dksX0_harvest_1 20 rfl rfl)
theorem dX0_harvest_45 : decode cX0_harvest 45 = .ok (.iload_n 1, 1) := dk_27 (dk_at dksX0_harvest_1 21 rfl rfl)
theorem dX0_harvest_46 : decode cX0_harvest 46 = .ok (.iload_n 2, 1) := dk_28 (dk_at dksX0_harvest_1 22 rfl rfl)
theorem dX0_harvest_47 : decode cX0_harvest 47 = .ok (.iload 6, 2) := dk_21 6 (dk_at dksX0_harvest_2 0 rfl rfl)
theorem dX0_harvest_49 : decode cX0_harvest 49 = .ok (.invokevirtual 279, 3) := dk_182 1 23 (dk_at dksX0_harvest_2 2 rfl rfl)
theorem dX0_harvest_52 : decode cX0_harvest 52 = .ok (.istore 7, 2) := dk_54 7 (dk_at dksX0_harvest_2 5 rfl rfl)
theorem dX0_harvest_54 : decode cX0_harvest 54 = .ok (.iload 7, 2) := dk_21 7 (dk_at dksX0_harvest_2 7 rfl rfl)
theorem dX0_harvest_56 : decode cX0_harvest 56 = .ok (.iload 5, 2) := dk_21 5 (dk_at dksX0_harvest_2 9 rfl rfl)
theorem dX0_harvest_58 : decode cX0_harvest 58 = .ok (.if_icmp .gt 6, 3) := dk_163 0 6 (dk_at dksX0_harvest_2 11 rfl rfl)
theorem dX0_harvest_61 : decode cX0_harvest 61 = .ok (.goto 11, 3) := dk_167 0 11 (dk_at dksX0_harvest_2 14 rfl rfl)
theorem dX0_harvest_64 : decode cX0_harvest 64 = .ok (.iload 6, 2) := dk_21 6 (dk_at dksX0_harvest_2 17 rfl rfl)
theorem dX0_harvest_66 : decode cX0_harvest 66 = .ok (.istore 4, 2) := dk_54 4 (dk_at dksX0_harvest_2 19 rfl rfl)
theorem dX0_harvest_68 : decode cX0_harvest 68 = .ok (.iload 7, 2) := dk_21 7 (dk_at dksX0_harvest_2 21 rfl rfl)
theorem dX0_harvest_70 : decode cX0_harvest 70 = .ok (.istore 5, 2) := dk_54 5 (dk_at dksX0_harvest_3 0 rfl rfl)
theorem dX0_harvest_72 : decode cX0_harvest 72 = .ok (.iinc 6 1, 3) := dk_132 6 1 (dk_at dksX0_harvest_3 2 rfl rfl)
theorem dX0_harvest_75 : decode cX0_harvest 75 = .ok (.goto (-37), 3) := dk_167 255 219 (dk_at dksX0_harvest_3 5 rfl rfl)
theorem dX0_harvest_78 : decode cX0_harvest 78 = .ok (.iload_n 3, 1) := dk_29 (dk_at dksX0_harvest_3 8 rfl rfl)
theorem dX0_harvest_79 : decode cX0_harvest 79 = .ok (.ifCond .ne 8, 3) := dk_154 0 8 (dk_at dksX0_harvest_3 9 rfl rfl)
theorem dX0_harvest_82 : decode cX0_harvest 82 = .ok (.iload 4, 2) := dk_21 4 (dk_at dksX0_harvest_3 12 rfl rfl)
theorem dX0_harvest_84 : decode cX0_harvest 84 = .ok (.goto 5, 3) := dk_167 0 5 (dk_at dksX0_harvest_3 14 rfl rfl)
theorem dX0_harvest_87 : decode cX0_harvest 87 = .ok (.iload 5, 2) := dk_21 5 (dk_at dksX0_harvest_3 17 rfl rfl)
theorem dX0_harvest_89 : decode cX0_harvest 89 = .ok (.ireturn, 1) := dk_172 (dk_at dksX0_harvest_3 19 rfl rfl)
def dkwX0_givenBy_3 : List UInt8 := [180, 0, 167, 27, 3, 79, 132, 5, 1, 167, 255, 192, 21, 4, 172]
abbrev dktX0_givenBy_3 : List UInt8 := dkwX0_givenBy_3 ++ []
def dkwX0_givenBy_2 : List UInt8 := [159, 0, 6, 167, 0, 27, 21, 4, 42, 180, 0, 55, 180, 0, 167, 27, 46, 96, 54, 4, 42, 180, 0, 55]
abbrev dktX0_givenBy_2 : List UInt8 := dkwX0_givenBy_2 ++ dktX0_givenBy_3
def dkwX0_givenBy_1 : List UInt8 := [180, 0, 55, 42, 180, 0, 40, 42, 180, 0, 75, 182, 1, 5, 21, 5, 29, 112, 153, 0, 12, 21, 5, 28]
abbrev dktX0_givenBy_1 : List UInt8 := dkwX0_givenBy_1 ++ dktX0_givenBy_2
def dkwX0_givenBy_0 : List UInt8 := [3, 54, 4, 42, 180, 0, 55, 42, 180, 0, 51, 182, 0, 221, 4, 54, 5, 21, 5, 28, 163, 0, 64, 42]
abbrev dktX0_givenBy_0 : List UInt8 := dkwX0_givenBy_0 ++ dktX0_givenBy_1
theorem dksX0_givenBy_0 : cX0_givenBy.data.toList.drop 0 = dktX0_givenBy_0 := by decide +kernel
theorem dksX0_givenBy_1 : cX0_givenBy.data.toList.drop 24 = dktX0_givenBy_1 := dk_seg dksX0_givenBy_0 24 rfl rfl
theorem dksX0_givenBy_2 : cX0_givenBy.data.toList.drop 48 = dktX0_givenBy_2 := dk_seg dksX0_givenBy_1 24 rfl rfl
theorem dksX0_givenBy_3 : cX0_givenBy.data.toList.drop 72 = dktX0_givenBy_3 := dk_seg dksX0_givenBy_2 24 rfl rfl
theorem dX0_givenBy_0 : decode cX0_givenBy 0 = .ok (.iconst 0, 1) := dk_3 (dk_at dksX0_givenBy_0 0 rfl rfl)
theorem dX0_givenBy_1 : decode cX0_givenBy 1 = .ok (.istore 4, 2) := dk_54 4 (dk_at dksX0_givenBy_0 1 rfl rfl)
theorem dX0_givenBy_3 : decode cX0_givenBy 3 = .ok (.aload_n 0, 1) := dk_42 (dk_at dksX0_givenBy_0 3 rfl rfl)
theorem dX0_givenBy_4 : decode cX0_givenBy 4 = .ok (.getfield 55, 3) := dk_180 0 55 (dk_at dksX0_givenBy_0 4 rfl rfl)
theorem dX0_givenBy_7 : decode cX0_givenBy 7 = .ok (.aload_n 0, 1) := dk_42 (dk_at dksX0_givenBy_0 7 rfl rfl)
theorem dX0_givenBy_8 : decode cX0_givenBy 8 = .ok (.getfield 51, 3) := dk_180 0 51 (dk_at dksX0_givenBy_0 8 rfl rfl)
theorem dX0_givenBy_11 : decode cX0_givenBy 11 = .ok (.invokevirtual 221, 3) := dk_182 0 221 (dk_at dksX0_givenBy_0 11 rfl rfl)
theorem dX0_givenBy_14 : decode cX0_givenBy 14 = .ok (.iconst 1, 1) := dk_4 (dk_at dksX0_givenBy_0 14 rfl rfl)
theorem dX0_givenBy_15 : decode cX0_givenBy 15 = .ok (.istore 5, 2) := dk_54 5 (dk_at dksX0_givenBy_0 15 rfl rfl)
theorem dX0_givenBy_17 : decode cX0_givenBy 17 = .ok (.iload 5, 2) := dk_21 5 (dk_at dksX0_givenBy_0 17 rfl rfl)
theorem dX0_givenBy_19 : decode cX0_givenBy 19 = .ok (.iload_n 2, 1) := dk_28 (dk_at dksX0_givenBy_0 19 rfl rfl)
theorem dX0_givenBy_20 : decode cX0_givenBy 20 = .ok (.if_icmp .gt 64, 3) := dk_163 0 64 (dk_at dksX0_givenBy_0 20 rfl rfl)
theorem dX0_givenBy_23 : decode cX0_givenBy 23 = .ok (.aload_n 0, 1) := dk_42 (dk_at dksX0_givenBy_0 23 rfl rfl)
theorem dX0_givenBy_24 : decode cX0_givenBy 24 = .ok (.getfield 55, 3) := dk_180 0 55 (dk_at dksX0_givenBy_1 0 rfl rfl)
theorem dX0_givenBy_27 : decode cX0_givenBy 27 = .ok (.aload_n 0, 1) := dk_42 (dk_at dksX0_givenBy_1 3 rfl rfl)
theorem dX0_givenBy_28 : decode cX0_givenBy 28 = .ok (.getfield 40, 3) := dk_180 0 40 (dk_at dksX0_givenBy_1 4 rfl rfl)
theorem dX0_givenBy_31 : decode cX0_givenBy 31 = .ok (.aload_n 0, 1) := dk_42 (dk_at dksX0_givenBy_1 7 rfl rfl)
theorem dX0_givenBy_32 : decode cX0_givenBy 32 = .ok (.getfield 75, 3) := dk_180 0 75 (dk_at dksX0_givenBy_1 8 rfl rfl)
theorem dX0_givenBy_35 : decode cX0_givenBy 35 = .ok (.invokevirtual 261, 3) := dk_182 1 5 (dk_at dksX0_givenBy_1 11 rfl rfl)
theorem dX0_givenBy_38 : decode cX0_givenBy 38 = .ok (.iload 5, 2) := dk_21 5 (dk_at dksX0_givenBy_1 14 rfl rfl)
theorem dX0_givenBy_40 : decode cX0_givenBy 40 = .ok (.iload_n 3, 1) := dk_29 (dk_at dksX0_givenBy_1 16 rfl rfl)
theorem dX0_givenBy_41 : decode cX0_givenBy 41 = .ok (.irem, 1) := dk_112 (dk_at dksX0_givenBy_1 17 rfl rfl)
theorem dX0_givenBy_42 : decode cX0_givenBy 42 = .ok (.ifCond .eq 12, 3) := dk_153 0 12 (dk_at dksX0_givenBy_1 18 rfl rfl)
theorem dX0_givenBy_45 : decode cX0_givenBy 45 = .ok (.iload 5, 2) := dk_21 5 (dk_at dksX0_givenBy_1 21 rfl rfl)
theorem dX0_givenBy_47 : decode cX0_givenBy 47 = .ok (.iload_n 2, 1) := dk_28 (dk_at dksX0_givenBy_1 23 rfl rfl)
theorem dX0_givenBy_48 : decode cX0_givenBy 48 = .ok (.if_icmp .eq 6, 3) := dk_159 0 6 (dk_at dksX0_givenBy_2 0 rfl rfl)
theorem dX0_givenBy_51 : decode cX0_givenBy 51 = .ok (.goto 27, 3) := dk_167 0 27 (dk_at dksX0_givenBy_2 3 rfl rfl)
theorem dX0_givenBy_54 : decode cX0_givenBy 54 = .ok (.iload 4, 2) := dk_21 4 (dk_at dksX0_givenBy_2 6 rfl rfl)
theorem dX0_givenBy_56 : decode cX0_givenBy 56 = .ok (.aload_n 0, 1) := dk_42 (dk_at dksX0_givenBy_2 8 rfl rfl)
theorem dX0_givenBy_57 : decode cX0_givenBy 57 = .ok (.getfield 55, 3) := dk_180 0 55 (dk_at dksX0_givenBy_2 9 rfl rfl)
theorem dX0_givenBy_60 : decode cX0_givenBy 60 = .ok (.getfield 167, 3) := dk_180 0 167 (dk_at dksX0_givenBy_2 12 rfl rfl)
theorem dX0_givenBy_63 : decode cX0_givenBy 63 = .ok (.iload_n 1, 1) := dk_27 (dk_at dksX0_givenBy_2 15 rfl rfl)
theorem dX0_givenBy_64 : decode cX0_givenBy 64 = .ok (.iaload, 1) := dk_46 (dk_at dksX0_givenBy_2 16 rfl rfl)
theorem dX0_givenBy_65 : decode cX0_givenBy 65 = .ok (.iadd, 1) := dk_96 (dk_at dksX0_givenBy_2 17 rfl rfl)
theorem dX0_givenBy_66 : decode cX0_givenBy 66 = .ok (.istore 4, 2) := dk_54 4 (dk_at dksX0_givenBy_2 18 rfl rfl)
theorem dX0_givenBy_68 : decode cX0_givenBy 68 = .ok (.aload_n 0, 1) := dk_42 (dk_at dksX0_givenBy_2 20 rfl rfl)
theorem dX0_givenBy_69 : decode cX0_givenBy 69 = .ok (.getfield 55, 3) := dk_180 0 55 (dk_at dksX0_givenBy_2 21 rfl rfl)
theorem dX0_givenBy_72 : decode cX0_givenBy 72 = .ok (.getfield 167, 3) := dk_180 0 167 (dk_at dksX0_givenBy_3 0 rfl rfl)
theorem dX0_givenBy_75 : decode cX0_givenBy 75 = .ok (.iload_n 1, 1) := dk_27 (dk_at dksX0_givenBy_3 3 rfl rfl)
theorem dX0_givenBy_76 : decode cX0_givenBy 76 = .ok (.iconst 0, 1) := dk_3 (dk_at dksX0_givenBy_3 4 rfl rfl)
theorem dX0_givenBy_77 : decode cX0_givenBy 77 = .ok (.iastore, 1) := dk_79 (dk_at dksX0_givenBy_3 5 rfl rfl)
theorem dX0_givenBy_78 : decode cX0_givenBy 78 = .ok (.iinc 5 1, 3) := dk_132 5 1 (dk_at dksX0_givenBy_3 6 rfl rfl)
theorem dX0_givenBy_81 : decode cX0_givenBy 81 = .ok (.goto (-64), 3) := dk_167 255 192 (dk_at dksX0_givenBy_3 9 rfl rfl)
theorem dX0_givenBy_84 : decode cX0_givenBy 84 = .ok (.iload 4, 2) := dk_21 4 (dk_at dksX0_givenBy_3 12 rfl rfl)
theorem dX0_givenBy_86 : decode cX0_givenBy 86 = .ok (.ireturn, 1) := dk_172 (dk_at dksX0_givenBy_3 14 rfl rfl)
def dkwX0_swap_5 : List UInt8 := [182, 1, 19, 61, 132, 4, 1, 167, 255, 160, 132, 3, 1, 167, 255, 138, 27, 172]
abbrev dktX0_swap_5 : List UInt8 := dkwX0_swap_5 ++ []
def dkwX0_swap_4 : List UInt8 := [182, 1, 19, 28, 163, 0, 6, 167, 0, 20, 16, 10, 29, 104, 21, 4, 96, 60, 42, 42, 180, 0, 55]
abbrev dktX0_swap_4 : List UInt8 := dkwX0_swap_4 ++ dktX0_swap_5
def dkwX0_swap_3 : List UInt8 := [180, 0, 55, 180, 0, 215, 21, 4, 42, 180, 0, 51, 180, 0, 215, 29, 46, 79, 42, 42, 180, 0, 55]
abbrev dktX0_swap_3 : List UInt8 := dkwX0_swap_3 ++ dktX0_swap_4
def dkwX0_swap_2 : List UInt8 := [182, 0, 221, 42, 180, 0, 55, 180, 0, 215, 29, 42, 180, 0, 51, 180, 0, 215, 21, 4, 46, 79, 42]
abbrev dktX0_swap_2 : List UInt8 := dkwX0_swap_2 ++ dktX0_swap_3
def dkwX0_swap_1 : List UInt8 := [54, 4, 21, 4, 42, 180, 0, 51, 180, 0, 164, 162, 0, 90, 42, 180, 0, 55, 42, 180, 0, 51]
abbrev dktX0_swap_1 : List UInt8 := dkwX0_swap_1 ++ dktX0_swap_2
def dkwX0_swap_0 : List UInt8 := [16, 254, 60, 42, 182, 1, 27, 61, 3, 62, 29, 42, 180, 0, 51, 180, 0, 164, 162, 0, 113, 29, 4, 96]
abbrev dktX0_swap_0 : List UInt8 := dkwX0_swap_0 ++ dktX0_swap_1
theorem dksX0_swap_0 : cX0_swap.data.toList.drop 0 = dktX0_swap_0 := by decide +kernel
theorem dksX0_swap_1 : cX0_swap.data.toList.drop 24 = dktX0_swap_1 := dk_seg dksX0_swap_0 24 rfl rfl
theorem dksX0_swap_2 : cX0_swap.data.toList.drop 46 = dktX0_swap_2 := dk_seg dksX0_swap_1 22 rfl rfl
theorem dksX0_swap_3 : cX0_swap.data.toList.drop 69 = dktX0_swap_3 := dk_seg dksX0_swap_2 23 rfl rfl
theorem dksX0_swap_4 : cX0_swap.data.toList.drop 92 = dktX0_swap_4 := dk_seg dksX0_swap_3 23 rfl rfl
theorem dksX0_swap_5 : cX0_swap.data.toList.drop 115 = dktX0_swap_5 := dk_seg dksX0_swap_4 23 rfl rfl
theorem dX0_swap_0 : decode cX0_swap 0 = .ok (.bipush (-2), 2) := dk_16 254 (dk_at dksX0_swap_0 0 rfl rfl)
theorem dX0_swap_2 : decode cX0_swap 2 = .ok (.istore_n 1, 1) := dk_60 (dk_at dksX0_swap_0 2 rfl rfl)
theorem dX0_swap_3 : decode cX0_swap 3 = .ok (.aload_n 0, 1) := dk_42 (dk_at dksX0_swap_0 3 rfl rfl)
theorem dX0_swap_4 : decode cX0_swap 4 = .ok (.invokevirtual 283, 3) := dk_182 1 27 (dk_at dksX0_swap_0 4 rfl rfl)
theorem dX0_swap_7 : decode cX0_swap 7 = .ok (.istore_n 2, 1) := dk_61 (dk_at dksX0_swap_0 7 rfl rfl)
theorem dX0_swap_8 : decode cX0_swap 8 = .ok (.iconst 0, 1) := dk_3 (dk_at dksX0_swap_0 8 rfl rfl)
theorem dX0_swap_9 : decode cX0_swap 9 = .ok (.istore_n 3, 1) := dk_62 (dk_at dksX0_swap_0 9 rfl rfl)
theorem dX0_swap_10 : decode cX0_swap 10 = .ok (.iload_n 3, 1) := dk_29 (dk_at dksX0_swap_0 10 rfl rfl)
theorem dX0_swap_11 : decode cX0_swap 11 = .ok (.aload_n 0, 1) := dk_42 (dk_at dksX0_swap_0 11 rfl rfl)
theorem dX0_swap_12 : decode cX0_swap 12 = .ok (.getfield 51, 3) := dk_180 0 51 (dk_at dksX0_swap_0 12 rfl rfl)
theorem dX0_swap_15 : decode cX0_swap 15 = .ok (.getfield 164, 3) := dk_180 0 164 (dk_at dksX0_swap_0 15 rfl rfl)
theorem dX0_swap_18 : decode cX0_swap 18 = .ok (.if_icmp .ge 113, 3) := dk_162 0 113 (dk_at dksX0_swap_0 18 rfl rfl)
theorem dX0_swap_21 : decode cX0_swap 21 = .ok (.iload_n 3, 1) := dk_29 (dk_at dksX0_swap_0 21 rfl rfl)
theorem dX0_swap_22 : decode cX0_swap 22 = .ok (.iconst 1, 1) := dk_4 (dk_at dksX0_swap_0 22 rfl rfl)
theorem dX0_swap_23 : decode cX0_swap 23 = .ok (.iadd, 1) := dk_96 (dk_at dksX0_swap_0 23 rfl rfl)
theorem dX0_swap_24 : decode cX0_swap 24 = .ok (.istore 4, 2) := dk_54 4 (dk_at dksX0_swap_1 0 rfl rfl)
theorem dX0_swap_26 : decode cX0_swap 26 = .ok (.iload 4, 2) := dk_21 4 (dk_at dksX0_swap_1 2 rfl rfl)
theorem dX0_swap_28 : decode cX0_swap 28 = .ok (.aload_n 0, 1) := dk_42 (dk_at dksX0_swap_1 4 rfl rfl)
theorem dX0_swap_29 : decode cX0_swap 29 = .ok (.getfield 51, 3) := dk_180 0 51 (dk_at dksX0_swap_1 5 rfl rfl)
theorem dX0_swap_32 : decode cX0_swap 32 = .ok (.getfield 164, 3) := dk_180 0 164 (dk_at dksX0_swap_1 8 rfl rfl)
theorem dX0_swap_35 : decode cX0_swap 35 = .ok (.if_icmp .ge 90, 3) := dk_162 0 90 (dk_at dksX0_swap_1 11 rfl rfl)
theorem dX0_swap_38 : decode cX0_swap 38 = .ok (.aload_n 0, 1) := dk_42 (dk_at dksX0_swap_1 14 rfl rfl)
theorem dX0_swap_39 : decode cX0_swap 39 = .ok (.getfield 55, 3) := dk_180 0 55 (dk_at dksX0_swap_1 15 rfl rfl)
theorem dX0_swap_42 : decode cX0_swap 42 = .ok (.aload_n 0, 1) := dk_42 (dk_at dksX0_swap_1 18 rfl rfl)
theorem dX0_swap_43 : decode cX0_swap 43 = .ok (.getfield 51, 3) := dk_180 0 51 (dk_at dksX0_swap_1 19 rfl rfl)
theorem dX0_swap_46 : decode cX0_swap 46 = .ok (.invokevirtual 221, 3) := dk_182 0 221 (dk_at dksX0_swap_2 0 rfl rfl)
theorem dX0_swap_49 : decode cX0_swap 49 = .ok (.aload_n 0, 1) := dk_42 (dk_at dksX0_swap_2 3 rfl rfl)
theorem dX0_swap_50 : decode cX0_swap 50 = .ok (.getfield 55, 3) := dk_180 0 55 (dk_at dksX0_swap_2 4 rfl rfl)
theorem dX0_swap_53 : decode cX0_swap 53 = .ok (.getfield 215, 3) := dk_180 0 215 (dk_at dksX0_swap_2 7 rfl rfl)
theorem dX0_swap_56 : decode cX0_swap 56 = .ok (.iload_n 3, 1) := dk_29 (dk_at dksX0_swap_2 10 rfl rfl)
theorem dX0_swap_57 : decode cX0_swap 57 = .ok (.aload_n 0, 1) := dk_42 (dk_at dksX0_swap_2 11 rfl rfl)
theorem dX0_swap_58 : decode cX0_swap 58 = .ok (.getfield 51, 3) := dk_180 0 51 (dk_at dksX0_swap_2 12 rfl rfl)
theorem dX0_swap_61 : decode cX0_swap 61 = .ok (.getfield 215, 3) := dk_180 0 215 (dk_at dksX0_swap_2 15 rfl rfl)
theorem dX0_swap_64 : decode cX0_swap 64 = .ok (.iload 4, 2) := dk_21 4 (dk_at dksX0_swap_2 18 rfl rfl)
theorem dX0_swap_66 : decode cX0_swap 66 = .ok (.iaload, 1) := dk_46 (dk_at dksX0_swap_2 20 rfl rfl)
theorem dX0_swap_67 : decode cX0_swap 67 = .ok (.iastore, 1) := dk_79 (dk_at dksX0_swap_2 21 rfl rfl)
theorem dX0_swap_68 : decode cX0_swap 68 = .ok (.aload_n 0, 1) := dk_42 (dk_at dksX0_swap_2 22 rfl rfl)
theorem dX0_swap_69 : decode cX0_swap 69 = .ok (.getfield 55, 3) := dk_180 0 55 (dk_at dksX0_swap_3 0 rfl rfl)
theorem dX0_swap_72 : decode cX0_swap 72 = .ok (.getfield 215, 3) := dk_180 0 215 (dk_at dksX0_swap_3 3 rfl rfl)
theorem dX0_swap_75 : decode cX0_swap 75 = .ok (.iload 4, 2) := dk_21 4 (dk_at dksX0_swap_3 6 rfl rfl)
theorem dX0_swap_77 : decode cX0_swap 77 = .ok (.aload_n 0, 1) := dk_42 (dk_at dksX0_swap_3 8 rfl rfl)
theorem dX0_swap_78 : decode cX0_swap 78 = .ok (.getfield 51, 3) := dk_180 0 51 (dk_at dksX0_swap_3 9 rfl rfl)
theorem dX0_swap_81 : decode cX0_swap 81 = .ok (.getfield 215, 3) := dk_180 0 215 (dk_at dksX0_swap_3 12 rfl rfl)
theorem dX0_swap_84 : decode cX0_swap 84 = .ok (.iload_n 3, 1) := dk_29 (dk_at dksX0_swap_3 15 rfl rfl)
theorem dX0_swap_85 : decode cX0_swap 85 = .ok (.iaload, 1) := dk_46 (dk_at dksX0_swap_3 16 rfl rfl)
theorem dX0_swap_86 : decode cX0_swap 86 = .ok (.iastore, 1) := dk_79 (dk_at dksX0_swap_3 17 rfl rfl)
theorem dX0_swap_87 : decode cX0_swap 87 = .ok (.aload_n 0, 1) := dk_42 (dk_at dksX0_swap_3 18 rfl rfl)
theorem dX0_swap_88 : decode cX0_swap 88 = .ok (.aload_n 0, 1) := dk_42 (dk_at dksX0_swap_3 19 rfl rfl)
theorem dX0_swap_89 : decode cX0_swap 89 = .ok (.getfield 55, 3) := dk_180 0 55 (dk_at dksX0_swap_3 20 rfl rfl)
theorem dX0_swap_92 : decode cX0_swap 92 = .ok (.invokevirtual 275, 3) := dk_182 1 19 (dk_at dksX0_swap_4 0 rfl rfl)
theorem dX0_swap_95 : decode cX0_swap 95 = .ok (.iload_n 2, 1) := dk_28 (dk_at dksX0_swap_4 3 rfl rfl)
theorem dX0_swap_96 : decode cX0_swap 96 = .ok (.if_icmp .gt 6, 3) := dk_163 0 6 (dk_at dksX0_swap_4 4 rfl rfl)
theorem dX0_swap_99 : decode cX0_swap 99 = .ok (.goto 20, 3) := dk_167 0 20 (dk_at dksX0_swap_4 7 rfl rfl)
theorem dX0_swap_102 : decode cX0_swap 102 = .ok (.bipush 10, 2) := dk_16 10 (dk_at dksX0_swap_4 10 rfl rfl)
theorem dX0_swap_104 : decode cX0_swap 104 = .ok (.iload_n 3, 1) := dk_29 (dk_at dksX0_swap_4 12 rfl rfl)
theorem dX0_swap_105 : decode cX0_swap 105 = .ok (.imul, 1) := dk_104 (dk_at dksX0_swap_4 13 rfl rfl)
theorem dX0_swap_106 : decode cX0_swap 106 = .ok (.iload 4, 2) := dk_21 4 (dk_at dksX0_swap_4 14 rfl rfl)
theorem dX0_swap_108 : decode cX0_swap 108 = .ok (.iadd, 1) := dk_96 (dk_at dksX0_swap_4 16 rfl rfl)
theorem dX0_swap_109 : decode cX0_swap 109 = .ok (.istore_n 1, 1) := dk_60 (dk_at dksX0_swap_4 17 rfl rfl)
theorem dX0_swap_110 : decode cX0_swap 110 = .ok (.aload_n 0, 1) := dk_42 (dk_at dksX0_swap_4 18 rfl rfl)
theorem dX0_swap_111 : decode cX0_swap 111 = .ok (.aload_n 0, 1) := dk_42 (dk_at dksX0_swap_4 19 rfl rfl)
theorem dX0_swap_112 : decode cX0_swap 112 = .ok (.getfield 55, 3) := dk_180 0 55 (dk_at dksX0_swap_4 20 rfl rfl)
theorem dX0_swap_115 : decode cX0_swap 115 = .ok (.invokevirtual 275, 3) := dk_182 1 19 (dk_at dksX0_swap_5 0 rfl rfl)
theorem dX0_swap_118 : decode cX0_swap 118 = .ok (.istore_n 2, 1) := dk_61 (dk_at dksX0_swap_5 3 rfl rfl)
theorem dX0_swap_119 : decode cX0_swap 119 = .ok (.iinc 4 1, 3) := dk_132 4 1 (dk_at dksX0_swap_5 4 rfl rfl)
theorem dX0_swap_122 : decode cX0_swap 122 = .ok (.goto (-96), 3) := dk_167 255 160 (dk_at dksX0_swap_5 7 rfl rfl)
theorem dX0_swap_125 : decode cX0_swap 125 = .ok (.iinc 3 1, 3) := dk_132 3 1 (dk_at dksX0_swap_5 10 rfl rfl)
theorem dX0_swap_128 : decode cX0_swap 128 = .ok (.goto (-118), 3) := dk_167 255 138 (dk_at dksX0_swap_5 13 rfl rfl)
theorem dX0_swap_131 : decode cX0_swap 131 = .ok (.iload_n 1, 1) := dk_27 (dk_at dksX0_swap_5 16 rfl rfl)
theorem dX0_swap_132 : decode cX0_swap 132 = .ok (.ireturn, 1) := dk_172 (dk_at dksX0_swap_5 17 rfl rfl)
def dkwX0_quarrel_2 : List UInt8 := [132, 3, 1, 167, 255, 223, 28, 155, 0, 7, 27, 154, 0, 7, 28, 167, 0, 8, 42, 28, 182, 1, 32, 172]
abbrev dktX0_quarrel_2 : List UInt8 := dkwX0_quarrel_2 ++ []
def dkwX0_quarrel_1 : List UInt8 := [162, 0, 28, 28, 155, 0, 16, 42, 29, 182, 1, 32, 42, 28, 182, 1, 32, 162, 0, 5, 29, 61]
abbrev dktX0_quarrel_1 : List UInt8 := dkwX0_quarrel_1 ++ dktX0_quarrel_2
def dkwX0_quarrel_0 : List UInt8 := [27, 3, 4, 184, 0, 156, 154, 0, 5, 2, 172, 16, 254, 61, 4, 62, 29, 42, 180, 0, 51, 180, 0, 164]
abbrev dktX0_quarrel_0 : List UInt8 := dkwX0_quarrel_0 ++ dktX0_quarrel_1
theorem dksX0_quarrel_0 : cX0_quarrel.data.toList.drop 0 = dktX0_quarrel_0 := by decide +kernel
theorem dksX0_quarrel_1 : cX0_quarrel.data.toList.drop 24 = dktX0_quarrel_1 := dk_seg dksX0_quarrel_0 24 rfl rfl
theorem dksX0_quarrel_2 : cX0_quarrel.data.toList.drop 46 = dktX0_quarrel_2 := dk_seg dksX0_quarrel_1 22 rfl rfl
theorem dX0_quarrel_0 : decode cX0_quarrel 0 = .ok (.iload_n 1, 1) := dk_27 (dk_at dksX0_quarrel_0 0 rfl rfl)
theorem dX0_quarrel_1 : decode cX0_quarrel 1 = .ok (.iconst 0, 1) := dk_3 (dk_at dksX0_quarrel_0 1 rfl rfl)
theorem dX0_quarrel_2 : decode cX0_quarrel 2 = .ok (.iconst 1, 1) := dk_4 (dk_at dksX0_quarrel_0 2 rfl rfl)
theorem dX0_quarrel_3 : decode cX0_quarrel 3 = .ok (.invokestatic 156, 3) := dk_184 0 156 (dk_at dksX0_quarrel_0 3 rfl rfl)
theorem dX0_quarrel_6 : decode cX0_quarrel 6 = .ok (.ifCond .ne 5, 3) := dk_154 0 5 (dk_at dksX0_quarrel_0 6 rfl rfl)
theorem dX0_quarrel_9 : decode cX0_quarrel 9 = .ok (.iconst (-1), 1) := dk_2 (dk_at dksX0_quarrel_0 9 rfl rfl)
theorem dX0_quarrel_10 : decode cX0_quarrel 10 = .ok (.ireturn, 1) := dk_172 (dk_at dksX0_quarrel_0 10 rfl rfl)
theorem dX0_quarrel_11 : decode cX0_quarrel 11 = .ok (.bipush (-2), 2) := dk_16 254 (dk_at dksX0_quarrel_0 11 rfl rfl)
theorem dX0_quarrel_13 : decode cX0_quarrel 13 = .ok (.istore_n 2, 1) := dk_61 (dk_at dksX0_quarrel_0 13 rfl rfl)
theorem dX0_quarrel_14 : decode cX0_quarrel 14 = .ok (.iconst 1, 1) := dk_4 (dk_at dksX0_quarrel_0 14 rfl rfl)
theorem dX0_quarrel_15 : decode cX0_quarrel 15 = .ok (.istore_n 3, 1) := dk_62 (dk_at dksX0_quarrel_0 15 rfl rfl)
theorem dX0_quarrel_16 : decode cX0_quarrel 16 = .ok (.iload_n 3, 1) := dk_29 (dk_at dksX0_quarrel_0 16 rfl rfl)
theorem dX0_quarrel_17 : decode cX0_quarrel 17 = .ok (.aload_n 0, 1) := dk_42 (dk_at dksX0_quarrel_0 17 rfl rfl)
theorem dX0_quarrel_18 : decode cX0_quarrel 18 = .ok (.getfield 51, 3) := dk_180 0 51 (dk_at dksX0_quarrel_0 18 rfl rfl)
theorem dX0_quarrel_21 : decode cX0_quarrel 21 = .ok (.getfield 164, 3) := dk_180 0 164 (dk_at dksX0_quarrel_0 21 rfl rfl)
theorem dX0_quarrel_24 : decode cX0_quarrel 24 = .ok (.if_icmp .ge 28, 3) := dk_162 0 28 (dk_at dksX0_quarrel_1 0 rfl rfl)
theorem dX0_quarrel_27 : decode cX0_quarrel 27 = .ok (.iload_n 2, 1) := dk_28 (dk_at dksX0_quarrel_1 3 rfl rfl)
theorem dX0_quarrel_28 : decode cX0_quarrel 28 = .ok (.ifCond .lt 16, 3) := dk_155 0 16 (dk_at dksX0_quarrel_1 4 rfl rfl)
theorem dX0_quarrel_31 : decode cX0_quarrel 31 = .ok (.aload_n 0, 1) := dk_42 (dk_at dksX0_quarrel_1 7 rfl rfl)
theorem dX0_quarrel_32 : decode cX0_quarrel 32 = .ok (.iload_n 3, 1) := dk_29 (dk_at dksX0_quarrel_1 8 rfl rfl)
theorem dX0_quarrel_33 : decode cX0_quarrel 33 = .ok (.invokevirtual 288, 3) := dk_182 1 32 (dk_at dksX0_quarrel_1 9 rfl rfl)
theorem dX0_quarrel_36 : decode cX0_quarrel 36 = .ok (.aload_n 0, 1) := dk_42 (dk_at dksX0_quarrel_1 12 rfl rfl)
theorem dX0_quarrel_37 : decode cX0_quarrel 37 = .ok (.iload_n 2, 1) := dk_28 (dk_at dksX0_quarrel_1 13 rfl rfl)
theorem dX0_quarrel_38 : decode cX0_quarrel 38 = .ok (.invokevirtual 288, 3) := dk_182 1 32 (dk_at dksX0_quarrel_1 14 rfl rfl)
theorem dX0_quarrel_41 : decode cX0_quarrel 41 = .ok (.if_icmp .ge 5, 3) := dk_162 0 5 (dk_at dksX0_quarrel_1 17 rfl rfl)
theorem dX0_quarrel_44 : decode cX0_quarrel 44 = .ok (.iload_n 3, 1) := dk_29 (dk_at dksX0_quarrel_1 20 rfl rfl)
theorem dX0_quarrel_45 : decode cX0_quarrel 45 = .ok (.istore_n 2, 1) := dk_61 (dk_at dksX0_quarrel_1 21 rfl rfl)
theorem dX0_quarrel_46 : decode cX0_quarrel 46 = .ok (.iinc 3 1, 3) := dk_132 3 1 (dk_at dksX0_quarrel_2 0 rfl rfl)
theorem dX0_quarrel_49 : decode cX0_quarrel 49 = .ok (.goto (-33), 3) := dk_167 255 223 (dk_at dksX0_quarrel_2 3 rfl rfl)
theorem dX0_quarrel_52 : decode cX0_quarrel 52 = .ok (.iload_n 2, 1) := dk_28 (dk_at dksX0_quarrel_2 6 rfl rfl)
theorem dX0_quarrel_53 : decode cX0_quarrel 53 = .ok (.ifCond .lt 7, 3) := dk_155 0 7 (dk_at dksX0_quarrel_2 7 rfl rfl)
theorem dX0_quarrel_56 : decode cX0_quarrel 56 = .ok (.iload_n 1, 1) := dk_27 (dk_at dksX0_quarrel_2 10 rfl rfl)
theorem dX0_quarrel_57 : decode cX0_quarrel 57 = .ok (.ifCond .ne 7, 3) := dk_154 0 7 (dk_at dksX0_quarrel_2 11 rfl rfl)
theorem dX0_quarrel_60 : decode cX0_quarrel 60 = .ok (.iload_n 2, 1) := dk_28 (dk_at dksX0_quarrel_2 14 rfl rfl)
theorem dX0_quarrel_61 : decode cX0_quarrel 61 = .ok (.goto 8, 3) := dk_167 0 8 (dk_at dksX0_quarrel_2 15 rfl rfl)
theorem dX0_quarrel_64 : decode cX0_quarrel 64 = .ok (.aload_n 0, 1) := dk_42 (dk_at dksX0_quarrel_2 18 rfl rfl)
theorem dX0_quarrel_65 : decode cX0_quarrel 65 = .ok (.iload_n 2, 1) := dk_28 (dk_at dksX0_quarrel_2 19 rfl rfl)
theorem dX0_quarrel_66 : decode cX0_quarrel 66 = .ok (.invokevirtual 288, 3) := dk_182 1 32 (dk_at dksX0_quarrel_2 20 rfl rfl)
theorem dX0_quarrel_69 : decode cX0_quarrel 69 = .ok (.ireturn, 1) := dk_172 (dk_at dksX0_quarrel_2 23 rfl rfl)
def dkwX0_joinAt_1 : List UInt8 := [172]
abbrev dktX0_joinAt_1 : List UInt8 := dkwX0_joinAt_1 ++ []
def dkwX0_joinAt_0 : List UInt8 := [42, 42, 180, 0, 51, 180, 0, 215, 27, 4, 100, 46, 42, 180, 0, 51, 180, 0, 215, 27, 46, 182, 1, 30]
abbrev dktX0_joinAt_0 : List UInt8 := dkwX0_joinAt_0 ++ dktX0_joinAt_1
theorem dksX0_joinAt_0 : cX0_joinAt.data.toList.drop 0 = dktX0_joinAt_0 := by decide +kernel
theorem dksX0_joinAt_1 : cX0_joinAt.data.toList.drop 24 = dktX0_joinAt_1 := dk_seg dksX0_joinAt_0 24 rfl rfl
theorem dX0_joinAt_0 : decode cX0_joinAt 0 = .ok (.aload_n 0, 1) := dk_42 (dk_at dksX0_joinAt_0 0 rfl rfl)
theorem dX0_joinAt_1 : decode cX0_joinAt 1 = .ok (.aload_n 0, 1) := dk_42 (dk_at dksX0_joinAt_0 1 rfl rfl)
theorem dX0_joinAt_2 : decode cX0_joinAt 2 = .ok (.getfield 51, 3) := dk_180 0 51 (dk_at dksX0_joinAt_0 2 rfl rfl)
theorem dX0_joinAt_5 : decode cX0_joinAt 5 = .ok (.getfield 215, 3) := dk_180 0 215 (dk_at dksX0_joinAt_0 5 rfl rfl)
theorem dX0_joinAt_8 : decode cX0_joinAt 8 = .ok (.iload_n 1, 1) := dk_27 (dk_at dksX0_joinAt_0 8 rfl rfl)
theorem dX0_joinAt_9 : decode cX0_joinAt 9 = .ok (.iconst 1, 1) := dk_4 (dk_at dksX0_joinAt_0 9 rfl rfl)
theorem dX0_joinAt_10 : decode cX0_joinAt 10 = .ok (.isub, 1) := dk_100 (dk_at dksX0_joinAt_0 10 rfl rfl)
theorem dX0_joinAt_11 : decode cX0_joinAt 11 = .ok (.iaload, 1) := dk_46 (dk_at dksX0_joinAt_0 11 rfl rfl)
theorem dX0_joinAt_12 : decode cX0_joinAt 12 = .ok (.aload_n 0, 1) := dk_42 (dk_at dksX0_joinAt_0 12 rfl rfl)
theorem dX0_joinAt_13 : decode cX0_joinAt 13 = .ok (.getfield 51, 3) := dk_180 0 51 (dk_at dksX0_joinAt_0 13 rfl rfl)
theorem dX0_joinAt_16 : decode cX0_joinAt 16 = .ok (.getfield 215, 3) := dk_180 0 215 (dk_at dksX0_joinAt_0 16 rfl rfl)
theorem dX0_joinAt_19 : decode cX0_joinAt 19 = .ok (.iload_n 1, 1) := dk_27 (dk_at dksX0_joinAt_0 19 rfl rfl)
theorem dX0_joinAt_20 : decode cX0_joinAt 20 = .ok (.iaload, 1) := dk_46 (dk_at dksX0_joinAt_0 20 rfl rfl)
theorem dX0_joinAt_21 : decode cX0_joinAt 21 = .ok (.invokevirtual 286, 3) := dk_182 1 30 (dk_at dksX0_joinAt_0 21 rfl rfl)
theorem dX0_joinAt_24 : decode cX0_joinAt 24 = .ok (.ireturn, 1) := dk_172 (dk_at dksX0_joinAt_1 0 rfl rfl)
def dkwX0_weakest_2 : List UInt8 := [108, 167, 0, 8, 4, 28, 5, 112, 100, 172]
abbrev dktX0_weakest_2 : List UInt8 := dkwX0_weakest_2 ++ []
def dkwX0_weakest_1 : List UInt8 := [184, 1, 35, 4, 96, 182, 1, 0, 61, 28, 156, 0, 8, 16, 254, 167, 0, 18, 27, 154, 0, 9, 28, 5]
abbrev dktX0_weakest_1 : List UInt8 := dkwX0_weakest_1 ++ dktX0_weakest_2
def dkwX0_weakest_0 : List UInt8 := [27, 3, 4, 184, 0, 156, 154, 0, 5, 2, 172, 42, 180, 0, 51, 42, 180, 0, 40, 2, 42, 182, 1, 27]
abbrev dktX0_weakest_0 : List UInt8 := dkwX0_weakest_0 ++ dktX0_weakest_1
theorem dksX0_weakest_0 : cX0_weakest.data.toList.drop 0 = dktX0_weakest_0 := by decide +kernel
theorem dksX0_weakest_1 : cX0_weakest.data.toList.drop 24 = dktX0_weakest_1 := dk_seg dksX0_weakest_0 24 rfl rfl
theorem dksX0_weakest_2 : cX0_weakest.data.toList.drop 48 = dktX0_weakest_2 := dk_seg dksX0_weakest_1 24 rfl rfl
theorem dX0_weakest_0 : decode cX0_weakest 0 = .ok (.iload_n 1, 1) := dk_27 (dk_at dksX0_weakest_0 0 rfl rfl)
theorem dX0_weakest_1 : decode cX0_weakest 1 = .ok (.iconst 0, 1) := dk_3 (dk_at dksX0_weakest_0 1 rfl rfl)
theorem dX0_weakest_2 : decode cX0_weakest 2 = .ok (.iconst 1, 1) := dk_4 (dk_at dksX0_weakest_0 2 rfl rfl)
theorem dX0_weakest_3 : decode cX0_weakest 3 = .ok (.invokestatic 156, 3) := dk_184 0 156 (dk_at dksX0_weakest_0 3 rfl rfl)
theorem dX0_weakest_6 : decode cX0_weakest 6 = .ok (.ifCond .ne 5, 3) := dk_154 0 5 (dk_at dksX0_weakest_0 6 rfl rfl)
theorem dX0_weakest_9 : decode cX0_weakest 9 = .ok (.iconst (-1), 1) := dk_2 (dk_at dksX0_weakest_0 9 rfl rfl)
theorem dX0_weakest_10 : decode cX0_weakest 10 = .ok (.ireturn, 1) := dk_172 (dk_at dksX0_weakest_0 10 rfl rfl)
theorem dX0_weakest_11 : decode cX0_weakest 11 = .ok (.aload_n 0, 1) := dk_42 (dk_at dksX0_weakest_0 11 rfl rfl)
theorem dX0_weakest_12 : decode cX0_weakest 12 = .ok (.getfield 51, 3) := dk_180 0 51 (dk_at dksX0_weakest_0 12 rfl rfl)
theorem dX0_weakest_15 : decode cX0_weakest 15 = .ok (.aload_n 0, 1) := dk_42 (dk_at dksX0_weakest_0 15 rfl rfl)
theorem dX0_weakest_16 : decode cX0_weakest 16 = .ok (.getfield 40, 3) := dk_180 0 40 (dk_at dksX0_weakest_0 16 rfl rfl)
theorem dX0_weakest_19 : decode cX0_weakest 19 = .ok (.iconst (-1), 1) := dk_2 (dk_at dksX0_weakest_0 19 rfl rfl)
theorem dX0_weakest_20 : decode cX0_weakest 20 = .ok (.aload_n 0, 1) := dk_42 (dk_at dksX0_weakest_0 20 rfl rfl)
theorem dX0_weakest_21 : decode cX0_weakest 21 = .ok (.invokevirtual 283, 3) := dk_182 1 27 (dk_at dksX0_weakest_0 21 rfl rfl)
theorem dX0_weakest_24 : decode cX0_weakest 24 = .ok (.invokestatic 291, 3) := dk_184 1 35 (dk_at dksX0_weakest_1 0 rfl rfl)
theorem dX0_weakest_27 : decode cX0_weakest 27 = .ok (.iconst 1, 1) := dk_4 (dk_at dksX0_weakest_1 3 rfl rfl)
theorem dX0_weakest_28 : decode cX0_weakest 28 = .ok (.iadd, 1) := dk_96 (dk_at dksX0_weakest_1 4 rfl rfl)
theorem dX0_weakest_29 : decode cX0_weakest 29 = .ok (.invokevirtual 256, 3) := dk_182 1 0 (dk_at dksX0_weakest_1 5 rfl rfl)
theorem dX0_weakest_32 : decode cX0_weakest 32 = .ok (.istore_n 2, 1) := dk_61 (dk_at dksX0_weakest_1 8 rfl rfl)
theorem dX0_weakest_33 : decode cX0_weakest 33 = .ok (.iload_n 2, 1) := dk_28 (dk_at dksX0_weakest_1 9 rfl rfl)
theorem dX0_weakest_34 : decode cX0_weakest 34 = .ok (.ifCond .ge 8, 3) := dk_156 0 8 (dk_at dksX0_weakest_1 10 rfl rfl)
theorem dX0_weakest_37 : decode cX0_weakest 37 = .ok (.bipush (-2), 2) := dk_16 254 (dk_at dksX0_weakest_1 13 rfl rfl)
theorem dX0_weakest_39 : decode cX0_weakest 39 = .ok (.goto 18, 3) := dk_167 0 18 (dk_at dksX0_weakest_1 15 rfl rfl)
theorem dX0_weakest_42 : decode cX0_weakest 42 = .ok (.iload_n 1, 1) := dk_27 (dk_at dksX0_weakest_1 18 rfl rfl)
theorem dX0_weakest_43 : decode cX0_weakest 43 = .ok (.ifCond .ne 9, 3) := dk_154 0 9 (dk_at dksX0_weakest_1 19 rfl rfl)
theorem dX0_weakest_46 : decode cX0_weakest 46 = .ok (.iload_n 2, 1) := dk_28 (dk_at dksX0_weakest_1 22 rfl rfl)
theorem dX0_weakest_47 : decode cX0_weakest 47 = .ok (.iconst 2, 1) := dk_5 (dk_at dksX0_weakest_1 23 rfl rfl)
theorem dX0_weakest_48 : decode cX0_weakest 48 = .ok (.idiv, 1) := dk_108 (dk_at dksX0_weakest_2 0 rfl rfl)
theorem dX0_weakest_49 : decode cX0_weakest 49 = .ok (.goto 8, 3) := dk_167 0 8 (dk_at dksX0_weakest_2 1 rfl rfl)
theorem dX0_weakest_52 : decode cX0_weakest 52 = .ok (.iconst 1, 1) := dk_4 (dk_at dksX0_weakest_2 4 rfl rfl)
theorem dX0_weakest_53 : decode cX0_weakest 53 = .ok (.iload_n 2, 1) := dk_28 (dk_at dksX0_weakest_2 5 rfl rfl)
theorem dX0_weakest_54 : decode cX0_weakest 54 = .ok (.iconst 2, 1) := dk_5 (dk_at dksX0_weakest_2 6 rfl rfl)
theorem dX0_weakest_55 : decode cX0_weakest 55 = .ok (.irem, 1) := dk_112 (dk_at dksX0_weakest_2 7 rfl rfl)
theorem dX0_weakest_56 : decode cX0_weakest 56 = .ok (.isub, 1) := dk_100 (dk_at dksX0_weakest_2 8 rfl rfl)
theorem dX0_weakest_57 : decode cX0_weakest 57 = .ok (.ireturn, 1) := dk_172 (dk_at dksX0_weakest_2 9 rfl rfl)
def dkwX0_below_0 : List UInt8 := [42, 27, 182, 0, 212, 153, 0, 14, 42, 180, 0, 51, 27, 182, 1, 38, 167, 0, 4, 2, 172]
abbrev dktX0_below_0 : List UInt8 := dkwX0_below_0 ++ []
theorem dksX0_below_0 : cX0_below.data.toList.drop 0 = dktX0_below_0 := by decide +kernel
theorem dX0_below_0 : decode cX0_below 0 = .ok (.aload_n 0, 1) := dk_42 (dk_at dksX0_below_0 0 rfl rfl)
theorem dX0_below_1 : decode cX0_below 1 = .ok (.iload_n 1, 1) := dk_27 (dk_at dksX0_below_0 1 rfl rfl)
theorem dX0_below_2 : decode cX0_below 2 = .ok (.invokevirtual 212, 3) := dk_182 0 212 (dk_at dksX0_below_0 2 rfl rfl)
theorem dX0_below_5 : decode cX0_below 5 = .ok (.ifCond .eq 14, 3) := dk_153 0 14 (dk_at dksX0_below_0 5 rfl rfl)
theorem dX0_below_8 : decode cX0_below 8 = .ok (.aload_n 0, 1) := dk_42 (dk_at dksX0_below_0 8 rfl rfl)
theorem dX0_below_9 : decode cX0_below 9 = .ok (.getfield 51, 3) := dk_180 0 51 (dk_at dksX0_below_0 9 rfl rfl)
theorem dX0_below_12 : decode cX0_below 12 = .ok (.iload_n 1, 1) := dk_27 (dk_at dksX0_below_0 12 rfl rfl)
theorem dX0_below_13 : decode cX0_below 13 = .ok (.invokevirtual 294, 3) := dk_182 1 38 (dk_at dksX0_below_0 13 rfl rfl)
theorem dX0_below_16 : decode cX0_below 16 = .ok (.goto 4, 3) := dk_167 0 4 (dk_at dksX0_below_0 16 rfl rfl)
theorem dX0_below_19 : decode cX0_below 19 = .ok (.iconst (-1), 1) := dk_2 (dk_at dksX0_below_0 19 rfl rfl)
theorem dX0_below_20 : decode cX0_below 20 = .ok (.ireturn, 1) := dk_172 (dk_at dksX0_below_0 20 rfl rfl)
def dkwX0_share_2 : List UInt8 := [3, 172]
abbrev dktX0_share_2 : List UInt8 := dkwX0_share_2 ++ []
def dkwX0_share_1 : List UInt8 := [17, 3, 232, 42, 180, 0, 51, 180, 0, 183, 27, 46, 104, 42, 180, 0, 51, 182, 0, 240, 108, 167, 0, 4]
abbrev dktX0_share_1 : List UInt8 := dkwX0_share_1 ++ dktX0_share_2
def dkwX0_share_0 : List UInt8 := [42, 27, 182, 0, 160, 154, 0, 7, 2, 167, 0, 39, 42, 180, 0, 51, 27, 182, 0, 230, 153, 0, 27]
abbrev dktX0_share_0 : List UInt8 := dkwX0_share_0 ++ dktX0_share_1
theorem dksX0_share_0 : cX0_share.data.toList.drop 0 = dktX0_share_0 := by decide +kernel
theorem dksX0_share_1 : cX0_share.data.toList.drop 23 = dktX0_share_1 := dk_seg dksX0_share_0 23 rfl rfl
theorem dksX0_share_2 : cX0_share.data.toList.drop 47 = dktX0_share_2 := dk_seg dksX0_share_1 24 rfl rfl
theorem dX0_share_0 : decode cX0_share 0 = .ok (.aload_n 0, 1) := dk_42 (dk_at dksX0_share_0 0 rfl rfl)
theorem dX0_share_1 : decode cX0_share 1 = .ok (.iload_n 1, 1) := dk_27 (dk_at dksX0_share_0 1 rfl rfl)
theorem dX0_share_2 : decode cX0_share 2 = .ok (.invokevirtual 160, 3) := dk_182 0 160 (dk_at dksX0_share_0 2 rfl rfl)
theorem dX0_share_5 : decode cX0_share 5 = .ok (.ifCond .ne 7, 3) := dk_154 0 7 (dk_at dksX0_share_0 5 rfl rfl)
theorem dX0_share_8 : decode cX0_share 8 = .ok (.iconst (-1), 1) := dk_2 (dk_at dksX0_share_0 8 rfl rfl)
theorem dX0_share_9 : decode cX0_share 9 = .ok (.goto 39, 3) := dk_167 0 39 (dk_at dksX0_share_0 9 rfl rfl)
theorem dX0_share_12 : decode cX0_share 12 = .ok (.aload_n 0, 1) := dk_42 (dk_at dksX0_share_0 12 rfl rfl)
theorem dX0_share_13 : decode cX0_share 13 = .ok (.getfield 51, 3) := dk_180 0 51 (dk_at dksX0_share_0 13 rfl rfl)
theorem dX0_share_16 : decode cX0_share 16 = .ok (.iload_n 1, 1) := dk_27 (dk_at dksX0_share_0 16 rfl rfl)
theorem dX0_share_17 : decode cX0_share 17 = .ok (.invokevirtual 230, 3) := dk_182 0 230 (dk_at dksX0_share_0 17 rfl rfl)
theorem dX0_share_20 : decode cX0_share 20 = .ok (.ifCond .eq 27, 3) := dk_153 0 27 (dk_at dksX0_share_0 20 rfl rfl)
theorem dX0_share_23 : decode cX0_share 23 = .ok (.sipush 1000, 3) := dk_17 3 232 (dk_at dksX0_share_1 0 rfl rfl)
theorem dX0_share_26 : decode cX0_share 26 = .ok (.aload_n 0, 1) := dk_42 (dk_at dksX0_share_1 3 rfl rfl)
theorem dX0_share_27 : decode cX0_share 27 = .ok (.getfield 51, 3) := dk_180 0 51 (dk_at dksX0_share_1 4 rfl rfl)
theorem dX0_share_30 : decode cX0_share 30 = .ok (.getfield 183, 3) := dk_180 0 183 (dk_at dksX0_share_1 7 rfl rfl)
theorem dX0_share_33 : decode cX0_share 33 = .ok (.iload_n 1, 1) := dk_27 (dk_at dksX0_share_1 10 rfl rfl)
theorem dX0_share_34 : decode cX0_share 34 = .ok (.iaload, 1) := dk_46 (dk_at dksX0_share_1 11 rfl rfl)
theorem dX0_share_35 : decode cX0_share 35 = .ok (.imul, 1) := dk_104 (dk_at dksX0_share_1 12 rfl rfl)
theorem dX0_share_36 : decode cX0_share 36 = .ok (.aload_n 0, 1) := dk_42 (dk_at dksX0_share_1 13 rfl rfl)
theorem dX0_share_37 : decode cX0_share 37 = .ok (.getfield 51, 3) := dk_180 0 51 (dk_at dksX0_share_1 14 rfl rfl)
theorem dX0_share_40 : decode cX0_share 40 = .ok (.invokevirtual 240, 3) := dk_182 0 240 (dk_at dksX0_share_1 17 rfl rfl)
theorem dX0_share_43 : decode cX0_share 43 = .ok (.idiv, 1) := dk_108 (dk_at dksX0_share_1 20 rfl rfl)
theorem dX0_share_44 : decode cX0_share 44 = .ok (.goto 4, 3) := dk_167 0 4 (dk_at dksX0_share_1 21 rfl rfl)
theorem dX0_share_47 : decode cX0_share 47 = .ok (.iconst 0, 1) := dk_3 (dk_at dksX0_share_2 0 rfl rfl)
theorem dX0_share_48 : decode cX0_share 48 = .ok (.ireturn, 1) := dk_172 (dk_at dksX0_share_2 1 rfl rfl)
def dkwX0_greyest_4 : List UInt8 := [180, 0, 186, 42, 180, 0, 51, 180, 0, 215, 28, 46, 46, 172]
abbrev dktX0_greyest_4 : List UInt8 := dkwX0_greyest_4 ++ []
def dkwX0_greyest_3 : List UInt8 := [132, 3, 1, 167, 255, 199, 28, 155, 0, 7, 27, 154, 0, 7, 28, 167, 0, 20, 42, 180, 0, 51]
abbrev dktX0_greyest_3 : List UInt8 := dkwX0_greyest_3 ++ dktX0_greyest_4
def dkwX0_greyest_2 : List UInt8 := [42, 180, 0, 51, 180, 0, 186, 42, 180, 0, 51, 180, 0, 215, 28, 46, 46, 162, 0, 5, 29, 61]
abbrev dktX0_greyest_2 : List UInt8 := dkwX0_greyest_2 ++ dktX0_greyest_3
def dkwX0_greyest_1 : List UInt8 := [162, 0, 52, 28, 155, 0, 40, 42, 180, 0, 51, 180, 0, 186, 42, 180, 0, 51, 180, 0, 215, 29, 46, 46]
abbrev dktX0_greyest_1 : List UInt8 := dkwX0_greyest_1 ++ dktX0_greyest_2
def dkwX0_greyest_0 : List UInt8 := [27, 3, 4, 184, 0, 156, 154, 0, 5, 2, 172, 16, 254, 61, 3, 62, 29, 42, 180, 0, 51, 180, 0, 164]
abbrev dktX0_greyest_0 : List UInt8 := dkwX0_greyest_0 ++ dktX0_greyest_1
theorem dksX0_greyest_0 : cX0_greyest.data.toList.drop 0 = dktX0_greyest_0 := by decide +kernel
theorem dksX0_greyest_1 : cX0_greyest.data.toList.drop 24 = dktX0_greyest_1 := dk_seg dksX0_greyest_0 24 rfl rfl
theorem dksX0_greyest_2 : cX0_greyest.data.toList.drop 48 = dktX0_greyest_2 := dk_seg dksX0_greyest_1 24 rfl rfl
theorem dksX0_greyest_3 : cX0_greyest.data.toList.drop 70 = dktX0_greyest_3 := dk_seg dksX0_greyest_2 22 rfl rfl
theorem dksX0_greyest_4 : cX0_greyest.data.toList.drop 92 = dktX0_greyest_4 := dk_seg dksX0_greyest_3 22 rfl rfl
theorem dX0_greyest_0 : decode cX0_greyest 0 = .ok (.iload_n 1, 1) := dk_27 (dk_at dksX0_greyest_0 0 rfl rfl)
theorem dX0_greyest_1 : decode cX0_greyest 1 = .ok (.iconst 0, 1) := dk_3 (dk_at dksX0_greyest_0 1 rfl rfl)
theorem dX0_greyest_2 : decode cX0_greyest 2 = .ok (.iconst 1, 1) := dk_4 (dk_at dksX0_greyest_0 2 rfl rfl)
theorem dX0_greyest_3 : decode cX0_greyest 3 = .ok (.invokestatic 156, 3) := dk_184 0 156 (dk_at dksX0_greyest_0 3 rfl rfl)
theorem dX0_greyest_6 : decode cX0_greyest 6 = .ok (.ifCond .ne 5, 3) := dk_154 0 5 (dk_at dksX0_greyest_0 6 rfl rfl)
theorem dX0_greyest_9 : decode cX0_greyest 9 = .ok (.iconst (-1), 1) := dk_2 (dk_at dksX0_greyest_0 9 rfl rfl)
theorem dX0_greyest_10 : decode cX0_greyest 10 = .ok (.ireturn, 1) := dk_172 (dk_at dksX0_greyest_0 10 rfl rfl)
theorem dX0_greyest_11 : decode cX0_greyest 11 = .ok (.bipush (-2), 2) := dk_16 254 (dk_at dksX0_greyest_0 11 rfl rfl)
theorem dX0_greyest_13 : decode cX0_greyest 13 = .ok (.istore_n 2, 1) := dk_61 (dk_at dksX0_greyest_0 13 rfl rfl)
theorem dX0_greyest_14 : decode cX0_greyest 14 = .ok (.iconst 0, 1) := dk_3 (dk_at dksX0_greyest_0 14 rfl rfl)
theorem dX0_greyest_15 : decode cX0_greyest 15 = .ok (.istore_n 3, 1) := dk_62 (dk_at dksX0_greyest_0 15 rfl rfl)
theorem dX0_greyest_16 : decode cX0_greyest 16 = .ok (.iload_n 3, 1) := dk_29 (dk_at dksX0_greyest_0 16 rfl rfl)
theorem dX0_greyest_17 : decode cX0_greyest 17 = .ok (.aload_n 0, 1) := dk_42 (dk_at dksX0_greyest_0 17 rfl rfl)
theorem dX0_greyest_18 : decode cX0_greyest 18 = .ok (.getfield 51, 3) := dk_180 0 51 (dk_at dksX0_greyest_0 18 rfl rfl)
theorem dX0_greyest_21 : decode cX0_greyest 21 = .ok (.getfield 164, 3) := dk_180 0 164 (dk_at dksX0_greyest_0 21 rfl rfl)
theorem dX0_greyest_24 : decode cX0_greyest 24 = .ok (.if_icmp .ge 52, 3) := dk_162 0 52 (dk_at dksX0_greyest_1 0 rfl rfl)
theorem dX0_greyest_27 : decode cX0_greyest 27 = .ok (.iload_n 2, 1) := dk_28 (dk_at dksX0_greyest_1 3 rfl rfl)
theorem dX0_greyest_28 : decode cX0_greyest 28 = .ok (.ifCond .lt 40, 3) := dk_155 0 40 (dk_at dksX0_greyest_1 4 rfl rfl)
theorem dX0_greyest_31 : decode cX0_greyest 31 = .ok (.aload_n 0, 1) := dk_42 (dk_at dksX0_greyest_1 7 rfl rfl)
theorem dX0_greyest_32 : decode cX0_greyest 32 = .ok (.getfield 51, 3) := dk_180 0 51 (dk_at dksX0_greyest_1 8 rfl rfl)
theorem dX0_greyest_35 : decode cX0_greyest 35 = .ok (.getfield 186, 3) := dk_180 0 186 (dk_at dksX0_greyest_1 11 rfl rfl)
theorem dX0_greyest_38 : decode cX0_greyest 38 = .ok (.aload_n 0, 1) := dk_42 (dk_at dksX0_greyest_1 14 rfl rfl)
theorem dX0_greyest_39 : decode cX0_greyest 39 = .ok (.getfield 51, 3) := dk_180 0 51 (dk_at dksX0_greyest_1 15 rfl rfl)
theorem dX0_greyest_42 : decode cX0_greyest 42 = .ok (.getfield 215, 3) := dk_180 0 215 (dk_at dksX0_greyest_1 18 rfl rfl)
theorem dX0_greyest_45 : decode cX0_greyest 45 = .ok (.iload_n 3, 1) := dk_29 (dk_at dksX0_greyest_1 21 rfl rfl)
theorem dX0_greyest_46 : decode cX0_greyest 46 = .ok (.iaload, 1) := dk_46 (dk_at dksX0_greyest_1 22 rfl rfl)
theorem dX0_greyest_47 : decode cX0_greyest 47 = .ok (.iaload, 1) := dk_46 (dk_at dksX0_greyest_1 23 rfl rfl)
theorem dX0_greyest_48 : decode cX0_greyest 48 = .ok (.aload_n 0, 1) := dk_42 (dk_at dksX0_greyest_2 0 rfl rfl)
theorem dX0_greyest_49 : decode cX0_greyest 49 = .ok (.getfield 51, 3) := dk_180 0 51 (dk_at dksX0_greyest_2 1 rfl rfl)
theorem dX0_greyest_52 : decode cX0_greyest 52 = .ok (.getfield 186, 3) := dk_180 0 186 (dk_at dksX0_greyest_2 4 rfl rfl)
theorem dX0_greyest_55 : decode cX0_greyest 55 = .ok (.aload_n 0, 1) := dk_42 (dk_at dksX0_greyest_2 7 rfl rfl)
theorem dX0_greyest_56 : decode cX0_greyest 56 = .ok (.getfield 51, 3) := dk_180 0 51 (dk_at dksX0_greyest_2 8 rfl rfl)
theorem dX0_greyest_59 : decode cX0_greyest 59 = .ok (.getfield 215, 3) := dk_180 0 215 (dk_at dksX0_greyest_2 11 rfl rfl)
theorem dX0_greyest_62 : decode cX0_greyest 62 = .ok (.iload_n 2, 1) := dk_28 (dk_at dksX0_greyest_2 14 rfl rfl)
theorem dX0_greyest_63 : decode cX0_greyest 63 = .ok (.iaload, 1) := dk_46 (dk_at dksX0_greyest_2 15 rfl rfl)
theorem dX0_greyest_64 : decode cX0_greyest 64 = .ok (.iaload, 1) := dk_46 (dk_at dksX0_greyest_2 16 rfl rfl)
theorem dX0_greyest_65 : decode cX0_greyest 65 = .ok (.if_icmp .ge 5, 3) := dk_162 0 5 (dk_at dksX0_greyest_2 17 rfl rfl)
theorem dX0_greyest_68 : decode cX0_greyest 68 = .ok (.iload_n 3, 1) := dk_29 (dk_at dksX0_greyest_2 20 rfl rfl)
theorem dX0_greyest_69 : decode cX0_greyest 69 = .ok (.istore_n 2, 1) := dk_61 (dk_at dksX0_greyest_2 21 rfl rfl)
theorem dX0_greyest_70 : decode cX0_greyest 70 = .ok (.iinc 3 1, 3) := dk_132 3 1 (dk_at dksX0_greyest_3 0 rfl rfl)
theorem dX0_greyest_73 : decode cX0_greyest 73 = .ok (.goto (-57), 3) := dk_167 255 199 (dk_at dksX0_greyest_3 3 rfl rfl)
theorem dX0_greyest_76 : decode cX0_greyest 76 = .ok (.iload_n 2, 1) := dk_28 (dk_at dksX0_greyest_3 6 rfl rfl)
theorem dX0_greyest_77 : decode cX0_greyest 77 = .ok (.ifCond .lt 7, 3) := dk_155 0 7 (dk_at dksX0_greyest_3 7 rfl rfl)
theorem dX0_greyest_80 : decode cX0_greyest 80 = .ok (.iload_n 1, 1) := dk_27 (dk_at dksX0_greyest_3 10 rfl rfl)
theorem dX0_greyest_81 : decode cX0_greyest 81 = .ok (.ifCond .ne 7, 3) := dk_154 0 7 (dk_at dksX0_greyest_3 11 rfl rfl)
theorem dX0_greyest_84 : decode cX0_greyest 84 = .ok (.iload_n 2, 1) := dk_28 (dk_at dksX0_greyest_3 14 rfl rfl)
theorem dX0_greyest_85 : decode cX0_greyest 85 = .ok (.goto 20, 3) := dk_167 0 20 (dk_at dksX0_greyest_3 15 rfl rfl)
theorem dX0_greyest_88 : decode cX0_greyest 88 = .ok (.aload_n 0, 1) := dk_42 (dk_at dksX0_greyest_3 18 rfl rfl)
theorem dX0_greyest_89 : decode cX0_greyest 89 = .ok (.getfield 51, 3) := dk_180 0 51 (dk_at dksX0_greyest_3 19 rfl rfl)
theorem dX0_greyest_92 : decode cX0_greyest 92 = .ok (.getfield 186, 3) := dk_180 0 186 (dk_at dksX0_greyest_4 0 rfl rfl)
theorem dX0_greyest_95 : decode cX0_greyest 95 = .ok (.aload_n 0, 1) := dk_42 (dk_at dksX0_greyest_4 3 rfl rfl)
theorem dX0_greyest_96 : decode cX0_greyest 96 = .ok (.getfield 51, 3) := dk_180 0 51 (dk_at dksX0_greyest_4 4 rfl rfl)
theorem dX0_greyest_99 : decode cX0_greyest 99 = .ok (.getfield 215, 3) := dk_180 0 215 (dk_at dksX0_greyest_4 7 rfl rfl)
theorem dX0_greyest_102 : decode cX0_greyest 102 = .ok (.iload_n 2, 1) := dk_28 (dk_at dksX0_greyest_4 10 rfl rfl)
theorem dX0_greyest_103 : decode cX0_greyest 103 = .ok (.iaload, 1) := dk_46 (dk_at dksX0_greyest_4 11 rfl rfl)
theorem dX0_greyest_104 : decode cX0_greyest 104 = .ok (.iaload, 1) := dk_46 (dk_at dksX0_greyest_4 12 rfl rfl)
theorem dX0_greyest_105 : decode cX0_greyest 105 = .ok (.ireturn, 1) := dk_172 (dk_at dksX0_greyest_4 13 rfl rfl)
def dkwX0_orders_1 : List UInt8 := [182, 1, 69, 172]
abbrev dktX0_orders_1 : List UInt8 := dkwX0_orders_1 ++ []
def dkwX0_orders_0 : List UInt8 := [27, 184, 0, 249, 154, 0, 5, 2, 172, 42, 42, 180, 0, 51, 182, 1, 66, 42, 42, 180, 0, 51, 27]
abbrev dktX0_orders_0 : List UInt8 := dkwX0_orders_0 ++ dktX0_orders_1
theorem dksX0_orders_0 : cX0_orders.data.toList.drop 0 = dktX0_orders_0 := by decide +kernel
theorem dksX0_orders_1 : cX0_orders.data.toList.drop 23 = dktX0_orders_1 := dk_seg dksX0_orders_0 23 rfl rfl
theorem dX0_orders_0 : decode cX0_orders 0 = .ok (.iload_n 1, 1) := dk_27 (dk_at dksX0_orders_0 0 rfl rfl)
theorem dX0_orders_1 : decode cX0_orders 1 = .ok (.invokestatic 249, 3) := dk_184 0 249 (dk_at dksX0_orders_0 1 rfl rfl)
theorem dX0_orders_4 : decode cX0_orders 4 = .ok (.ifCond .ne 5, 3) := dk_154 0 5 (dk_at dksX0_orders_0 4 rfl rfl)
theorem dX0_orders_7 : decode cX0_orders 7 = .ok (.iconst (-1), 1) := dk_2 (dk_at dksX0_orders_0 7 rfl rfl)
theorem dX0_orders_8 : decode cX0_orders 8 = .ok (.ireturn, 1) := dk_172 (dk_at dksX0_orders_0 8 rfl rfl)
theorem dX0_orders_9 : decode cX0_orders 9 = .ok (.aload_n 0, 1) := dk_42 (dk_at dksX0_orders_0 9 rfl rfl)
theorem dX0_orders_10 : decode cX0_orders 10 = .ok (.aload_n 0, 1) := dk_42 (dk_at dksX0_orders_0 10 rfl rfl)
theorem dX0_orders_11 : decode cX0_orders 11 = .ok (.getfield 51, 3) := dk_180 0 51 (dk_at dksX0_orders_0 11 rfl rfl)
theorem dX0_orders_14 : decode cX0_orders 14 = .ok (.invokevirtual 322, 3) := dk_182 1 66 (dk_at dksX0_orders_0 14 rfl rfl)
theorem dX0_orders_17 : decode cX0_orders 17 = .ok (.aload_n 0, 1) := dk_42 (dk_at dksX0_orders_0 17 rfl rfl)
theorem dX0_orders_18 : decode cX0_orders 18 = .ok (.aload_n 0, 1) := dk_42 (dk_at dksX0_orders_0 18 rfl rfl)
theorem dX0_orders_19 : decode cX0_orders 19 = .ok (.getfield 51, 3) := dk_180 0 51 (dk_at dksX0_orders_0 19 rfl rfl)
theorem dX0_orders_22 : decode cX0_orders 22 = .ok (.iload_n 1, 1) := dk_27 (dk_at dksX0_orders_0 22 rfl rfl)
theorem dX0_orders_23 : decode cX0_orders 23 = .ok (.invokevirtual 325, 3) := dk_182 1 69 (dk_at dksX0_orders_1 0 rfl rfl)
theorem dX0_orders_26 : decode cX0_orders 26 = .ok (.ireturn, 1) := dk_172 (dk_at dksX0_orders_1 3 rfl rfl)
def dkwX0_laysJoins_2 : List UInt8 := [79, 132, 3, 1, 167, 255, 216, 132, 2, 1, 167, 255, 200, 177]
abbrev dktX0_laysJoins_2 : List UInt8 := dkwX0_laysJoins_2 ++ []
def dkwX0_laysJoins_1 : List UInt8 := [28, 50, 29, 43, 42, 180, 0, 40, 28, 29, 42, 180, 0, 40, 180, 0, 205, 28, 50, 29, 46, 182, 0, 208]
abbrev dktX0_laysJoins_1 : List UInt8 := dkwX0_laysJoins_1 ++ dktX0_laysJoins_2
def dkwX0_laysJoins_0 : List UInt8 := [3, 61, 28, 42, 182, 0, 154, 162, 0, 54, 3, 62, 29, 42, 182, 0, 154, 162, 0, 38, 42, 180, 0, 87]
abbrev dktX0_laysJoins_0 : List UInt8 := dkwX0_laysJoins_0 ++ dktX0_laysJoins_1
theorem dksX0_laysJoins_0 : cX0_laysJoins.data.toList.drop 0 = dktX0_laysJoins_0 := by decide +kernel
theorem dksX0_laysJoins_1 : cX0_laysJoins.data.toList.drop 24 = dktX0_laysJoins_1 := dk_seg dksX0_laysJoins_0 24 rfl rfl
theorem dksX0_laysJoins_2 : cX0_laysJoins.data.toList.drop 48 = dktX0_laysJoins_2 := dk_seg dksX0_laysJoins_1 24 rfl rfl
theorem dX0_laysJoins_0 : decode cX0_laysJoins 0 = .ok (.iconst 0, 1) := dk_3 (dk_at dksX0_laysJoins_0 0 rfl rfl)
theorem dX0_laysJoins_1 : decode cX0_laysJoins 1 = .ok (.istore_n 2, 1) := dk_61 (dk_at dksX0_laysJoins_0 1 rfl rfl)
theorem dX0_laysJoins_2 : decode cX0_laysJoins 2 = .ok (.iload_n 2, 1) := dk_28 (dk_at dksX0_laysJoins_0 2 rfl rfl)
theorem dX0_laysJoins_3 : decode cX0_laysJoins 3 = .ok (.aload_n 0, 1) := dk_42 (dk_at dksX0_laysJoins_0 3 rfl rfl)
theorem dX0_laysJoins_4 : decode cX0_laysJoins 4 = .ok (.invokevirtual 154, 3) := dk_182 0 154 (dk_at dksX0_laysJoins_0 4 rfl rfl)
theorem dX0_laysJoins_7 : decode cX0_laysJoins 7 = .ok (.if_icmp .ge 54, 3) := dk_162 0 54 (dk_at dksX0_laysJoins_0 7 rfl rfl)
theorem dX0_laysJoins_10 : decode cX0_laysJoins 10 = .ok (.iconst 0, 1) := dk_3 (dk_at dksX0_laysJoins_0 10 rfl rfl)
theorem dX0_laysJoins_11 : decode cX0_laysJoins 11 = .ok (.istore_n 3, 1) := dk_62 (dk_at dksX0_laysJoins_0 11 rfl rfl)
theorem dX0_laysJoins_12 : decode cX0_laysJoins 12 = .ok (.iload_n 3, 1) := dk_29 (dk_at dksX0_laysJoins_0 12 rfl rfl)
theorem dX0_laysJoins_13 : decode cX0_laysJoins 13 = .ok (.aload_n 0, 1) := dk_42 (dk_at dksX0_laysJoins_0 13 rfl rfl)
theorem dX0_laysJoins_14 : decode cX0_laysJoins 14 = .ok (.invokevirtual 154, 3) := dk_182 0 154 (dk_at dksX0_laysJoins_0 14 rfl rfl)
theorem dX0_laysJoins_17 : decode cX0_laysJoins 17 = .ok (.if_icmp .ge 38, 3) := dk_162 0 38 (dk_at dksX0_laysJoins_0 17 rfl rfl)
theorem dX0_laysJoins_20 : decode cX0_laysJoins 20 = .ok (.aload_n 0, 1) := dk_42 (dk_at dksX0_laysJoins_0 20 rfl rfl)
theorem dX0_laysJoins_21 : decode cX0_laysJoins 21 = .ok (.getfield 87, 3) := dk_180 0 87 (dk_at dksX0_laysJoins_0 21 rfl rfl)
theorem dX0_laysJoins_24 : decode cX0_laysJoins 24 = .ok (.iload_n 2, 1) := dk_28 (dk_at dksX0_laysJoins_1 0 rfl rfl)
theorem dX0_laysJoins_25 : decode cX0_laysJoins 25 = .ok (.aaload, 1) := dk_50 (dk_at dksX0_laysJoins_1 1 rfl rfl)
theorem dX0_laysJoins_26 : decode cX0_laysJoins 26 = .ok (.iload_n 3, 1) := dk_29 (dk_at dksX0_laysJoins_1 2 rfl rfl)
theorem dX0_laysJoins_27 : decode cX0_laysJoins 27 = .ok (.aload_n 1, 1) := dk_43 (dk_at dksX0_laysJoins_1 3 rfl rfl)
theorem dX0_laysJoins_28 : decode cX0_laysJoins 28 = .ok (.aload_n 0, 1) := dk_42 (dk_at dksX0_laysJoins_1 4 rfl rfl)
theorem dX0_laysJoins_29 : decode cX0_laysJoins 29 = .ok (.getfield 40, 3) := dk_180 0 40 (dk_at dksX0_laysJoins_1 5 rfl rfl)
theorem dX0_laysJoins_32 : decode cX0_laysJoins 32 = .ok (.iload_n 2, 1) := dk_28 (dk_at dksX0_laysJoins_1 8 rfl rfl)
theorem dX0_laysJoins_33 : decode cX0_laysJoins 33 = .ok (.iload_n 3, 1) := dk_29 (dk_at dksX0_laysJoins_1 9 rfl rfl)
theorem dX0_laysJoins_34 : decode cX0_laysJoins 34 = .ok (.aload_n 0, 1) := dk_42 (dk_at dksX0_laysJoins_1 10 rfl rfl)
theorem dX0_laysJoins_35 : decode cX0_laysJoins 35 = .ok (.getfield 40, 3) := dk_180 0 40 (dk_at dksX0_laysJoins_1 11 rfl rfl)
theorem dX0_laysJoins_38 : decode cX0_laysJoins 38 = .ok (.getfield 205, 3) := dk_180 0 205 (dk_at dksX0_laysJoins_1 14 rfl rfl)
theorem dX0_laysJoins_41 : decode cX0_laysJoins 41 = .ok (.iload_n 2, 1) := dk_28 (dk_at dksX0_laysJoins_1 17 rfl rfl)
theorem dX0_laysJoins_42 : decode cX0_laysJoins 42 = .ok (.aaload, 1) := dk_50 (dk_at dksX0_laysJoins_1 18 rfl rfl)
theorem dX0_laysJoins_43 : decode cX0_laysJoins 43 = .ok (.iload_n 3, 1) := dk_29 (dk_at dksX0_laysJoins_1 19 rfl rfl)
theorem dX0_laysJoins_44 : decode cX0_laysJoins 44 = .ok (.iaload, 1) := dk_46 (dk_at dksX0_laysJoins_1 20 rfl rfl)
theorem dX0_laysJoins_45 : decode cX0_laysJoins 45 = .ok (.invokevirtual 208, 3) := dk_182 0 208 (dk_at dksX0_laysJoins_1 21 rfl rfl)
theorem dX0_laysJoins_48 : decode cX0_laysJoins 48 = .ok (.iastore, 1) := dk_79 (dk_at dksX0_laysJoins_2 0 rfl rfl)
theorem dX0_laysJoins_49 : decode cX0_laysJoins 49 = .ok (.iinc 3 1, 3) := dk_132 3 1 (dk_at dksX0_laysJoins_2 1 rfl rfl)
theorem dX0_laysJoins_52 : decode cX0_laysJoins 52 = .ok (.goto (-40), 3) := dk_167 255 216 (dk_at dksX0_laysJoins_2 4 rfl rfl)
theorem dX0_laysJoins_55 : decode cX0_laysJoins 55 = .ok (.iinc 2 1, 3) := dk_132 2 1 (dk_at dksX0_laysJoins_2 7 rfl rfl)
theorem dX0_laysJoins_58 : decode cX0_laysJoins 58 = .ok (.goto (-56), 3) := dk_167 255 200 (dk_at dksX0_laysJoins_2 10 rfl rfl)
theorem dX0_laysJoins_61 : decode cX0_laysJoins 61 = .ok (.return_, 1) := dk_177 (dk_at dksX0_laysJoins_2 13 rfl rfl)
def dkwX0_laysOrders_1 : List UInt8 := [182, 1, 63, 96, 62, 132, 4, 1, 167, 255, 235, 29, 172]
abbrev dktX0_laysOrders_1 : List UInt8 := dkwX0_laysOrders_1 ++ []
def dkwX0_laysOrders_0 : List UInt8 := [3, 62, 42, 43, 28, 182, 1, 59, 4, 54, 4, 21, 4, 42, 182, 1, 41, 162, 0, 18, 29, 42, 21, 4]
abbrev dktX0_laysOrders_0 : List UInt8 := dkwX0_laysOrders_0 ++ dktX0_laysOrders_1
theorem dksX0_laysOrders_0 : cX0_laysOrders.data.toList.drop 0 = dktX0_laysOrders_0 := by decide +kernel
theorem dksX0_laysOrders_1 : cX0_laysOrders.data.toList.drop 24 = dktX0_laysOrders_1 := dk_seg dksX0_laysOrders_0 24 rfl rfl
theorem dX0_laysOrders_0 : decode cX0_laysOrders 0 = .ok (.iconst 0, 1) := dk_3 (dk_at dksX0_laysOrders_0 0 rfl rfl)
theorem dX0_laysOrders_1 : decode cX0_laysOrders 1 = .ok (.istore_n 3, 1) := dk_62 (dk_at dksX0_laysOrders_0 1 rfl rfl)
theorem dX0_laysOrders_2 : decode cX0_laysOrders 2 = .ok (.aload_n 0, 1) := dk_42 (dk_at dksX0_laysOrders_0 2 rfl rfl)
theorem dX0_laysOrders_3 : decode cX0_laysOrders 3 = .ok (.aload_n 1, 1) := dk_43 (dk_at dksX0_laysOrders_0 3 rfl rfl)
theorem dX0_laysOrders_4 : decode cX0_laysOrders 4 = .ok (.iload_n 2, 1) := dk_28 (dk_at dksX0_laysOrders_0 4 rfl rfl)
theorem dX0_laysOrders_5 : decode cX0_laysOrders 5 = .ok (.invokevirtual 315, 3) := dk_182 1 59 (dk_at dksX0_laysOrders_0 5 rfl rfl)
theorem dX0_laysOrders_8 : decode cX0_laysOrders 8 = .ok (.iconst 1, 1) := dk_4 (dk_at dksX0_laysOrders_0 8 rfl rfl)
theorem dX0_laysOrders_9 : decode cX0_laysOrders 9 = .ok (.istore 4, 2) := dk_54 4 (dk_at dksX0_laysOrders_0 9 rfl rfl)
theorem dX0_laysOrders_11 : decode cX0_laysOrders 11 = .ok (.iload 4, 2) := dk_21 4 (dk_at dksX0_laysOrders_0 11 rfl rfl)
theorem dX0_laysOrders_13 : decode cX0_laysOrders 13 = .ok (.aload_n 0, 1) := dk_42 (dk_at dksX0_laysOrders_0 13 rfl rfl)
theorem dX0_laysOrders_14 : decode cX0_laysOrders 14 = .ok (.invokevirtual 297, 3) := dk_182 1 41 (dk_at dksX0_laysOrders_0 14 rfl rfl)
theorem dX0_laysOrders_17 : decode cX0_laysOrders 17 = .ok (.if_icmp .ge 18, 3) := dk_162 0 18 (dk_at dksX0_laysOrders_0 17 rfl rfl)
theorem dX0_laysOrders_20 : decode cX0_laysOrders 20 = .ok (.iload_n 3, 1) := dk_29 (dk_at dksX0_laysOrders_0 20 rfl rfl)
theorem dX0_laysOrders_21 : decode cX0_laysOrders 21 = .ok (.aload_n 0, 1) := dk_42 (dk_at dksX0_laysOrders_0 21 rfl rfl)
theorem dX0_laysOrders_22 : decode cX0_laysOrders 22 = .ok (.iload 4, 2) := dk_21 4 (dk_at dksX0_laysOrders_0 22 rfl rfl)
theorem dX0_laysOrders_24 : decode cX0_laysOrders 24 = .ok (.invokevirtual 319, 3) := dk_182 1 63 (dk_at dksX0_laysOrders_1 0 rfl rfl)
theorem dX0_laysOrders_27 : decode cX0_laysOrders 27 = .ok (.iadd, 1) := dk_96 (dk_at dksX0_laysOrders_1 3 rfl rfl)
theorem dX0_laysOrders_28 : decode cX0_laysOrders 28 = .ok (.istore_n 3, 1) := dk_62 (dk_at dksX0_laysOrders_1 4 rfl rfl)
theorem dX0_laysOrders_29 : decode cX0_laysOrders 29 = .ok (.iinc 4 1, 3) := dk_132 4 1 (dk_at dksX0_laysOrders_1 5 rfl rfl)
theorem dX0_laysOrders_32 : decode cX0_laysOrders 32 = .ok (.goto (-21), 3) := dk_167 255 235 (dk_at dksX0_laysOrders_1 8 rfl rfl)
theorem dX0_laysOrders_35 : decode cX0_laysOrders 35 = .ok (.iload_n 3, 1) := dk_29 (dk_at dksX0_laysOrders_1 11 rfl rfl)
theorem dX0_laysOrders_36 : decode cX0_laysOrders 36 = .ok (.ireturn, 1) := dk_172 (dk_at dksX0_laysOrders_1 12 rfl rfl)
def dkwX0_laysWays_4 : List UInt8 := [167, 255, 166, 177]
abbrev dktX0_laysWays_4 : List UInt8 := dkwX0_laysWays_4 ++ []
def dkwX0_laysWays_3 : List UInt8 := [42, 43, 28, 29, 21, 5, 182, 1, 52, 167, 0, 4, 3, 79, 132, 5, 1, 167, 255, 212, 132, 3, 1]
abbrev dktX0_laysWays_3 : List UInt8 := dkwX0_laysWays_3 ++ dktX0_laysWays_4
def dkwX0_laysWays_2 : List UInt8 := [182, 0, 154, 162, 0, 41, 42, 180, 0, 84, 29, 50, 21, 5, 29, 21, 5, 122, 4, 126, 4, 160, 0, 15]
abbrev dktX0_laysWays_2 : List UInt8 := dkwX0_laysWays_2 ++ dktX0_laysWays_3
def dkwX0_laysWays_1 : List UInt8 := [180, 0, 90, 29, 29, 4, 100, 126, 46, 43, 21, 4, 182, 1, 49, 96, 79, 3, 54, 5, 21, 5, 42]
abbrev dktX0_laysWays_1 : List UInt8 := dkwX0_laysWays_1 ++ dktX0_laysWays_2
def dkwX0_laysWays_0 : List UInt8 := [4, 62, 29, 42, 182, 1, 41, 162, 0, 88, 29, 184, 1, 44, 54, 4, 42, 180, 0, 90, 29, 42]
abbrev dktX0_laysWays_0 : List UInt8 := dkwX0_laysWays_0 ++ dktX0_laysWays_1
theorem dksX0_laysWays_0 : cX0_laysWays.data.toList.drop 0 = dktX0_laysWays_0 := by decide +kernel
theorem dksX0_laysWays_1 : cX0_laysWays.data.toList.drop 22 = dktX0_laysWays_1 := dk_seg dksX0_laysWays_0 22 rfl rfl
theorem dksX0_laysWays_2 : cX0_laysWays.data.toList.drop 45 = dktX0_laysWays_2 := dk_seg dksX0_laysWays_1 23 rfl rfl
theorem dksX0_laysWays_3 : cX0_laysWays.data.toList.drop 69 = dktX0_laysWays_3 := dk_seg dksX0_laysWays_2 24 rfl rfl
theorem dksX0_laysWays_4 : cX0_laysWays.data.toList.drop 92 = dktX0_laysWays_4 := dk_seg dksX0_laysWays_3 23 rfl rfl
theorem dX0_laysWays_0 : decode cX0_laysWays 0 = .ok (.iconst 1, 1) := dk_4 (dk_at dksX0_laysWays_0 0 rfl rfl)
theorem dX0_laysWays_1 : decode cX0_laysWays 1 = .ok (.istore_n 3, 1) := dk_62 (dk_at dksX0_laysWays_0 1 rfl rfl)
theorem dX0_laysWays_2 : decode cX0_laysWays 2 = .ok (.iload_n 3, 1) := dk_29 (dk_at dksX0_laysWays_0 2 rfl rfl)
theorem dX0_laysWays_3 : decode cX0_laysWays 3 = .ok (.aload_n 0, 1) := dk_42 (dk_at dksX0_laysWays_0 3 rfl rfl)
theorem dX0_laysWays_4 : decode cX0_laysWays 4 = .ok (.invokevirtual 297, 3) := dk_182 1 41 (dk_at dksX0_laysWays_0 4 rfl rfl)
theorem dX0_laysWays_7 : decode cX0_laysWays 7 = .ok (.if_icmp .ge 88, 3) := dk_162 0 88 (dk_at dksX0_laysWays_0 7 rfl rfl)
theorem dX0_laysWays_10 : decode cX0_laysWays 10 = .ok (.iload_n 3, 1) := dk_29 (dk_at dksX0_laysWays_0 10 rfl rfl)
theorem dX0_laysWays_11 : decode cX0_laysWays 11 = .ok (.invokestatic 300, 3) := dk_184 1 44 (dk_at dksX0_laysWays_0 11 rfl rfl)
theorem dX0_laysWays_14 : decode cX0_laysWays 14 = .ok (.istore 4, 2) := dk_54 4 (dk_at dksX0_laysWays_0 14 rfl rfl)
theorem dX0_laysWays_16 : decode cX0_laysWays 16 = .ok (.aload_n 0, 1) := dk_42 (dk_at dksX0_laysWays_0 16 rfl rfl)
theorem dX0_laysWays_17 : decode cX0_laysWays 17 = .ok (.getfield 90, 3) := dk_180 0 90 (dk_at dksX0_laysWays_0 17 rfl rfl)
theorem dX0_laysWays_20 : decode cX0_laysWays 20 = .ok (.iload_n 3, 1) := dk_29 (dk_at dksX0_laysWays_0 20 rfl rfl)
theorem dX0_laysWays_21 : decode cX0_laysWays 21 = .ok (.aload_n 0, 1) := dk_42 (dk_at dksX0_laysWays_0 21 rfl rfl)
theorem dX0_laysWays_22 : decode cX0_laysWays 22 = .ok (.getfield 90, 3) := dk_180 0 90 (dk_at dksX0_laysWays_1 0 rfl rfl)
theorem dX0_laysWays_25 : decode cX0_laysWays 25 = .ok (.iload_n 3, 1) := dk_29 (dk_at dksX0_laysWays_1 3 rfl rfl)
theorem dX0_laysWays_26 : decode cX0_laysWays 26 = .ok (.iload_n 3, 1) := dk_29 (dk_at dksX0_laysWays_1 4 rfl rfl)
theorem dX0_laysWays_27 : decode cX0_laysWays 27 = .ok (.iconst 1, 1) := dk_4 (dk_at dksX0_laysWays_1 5 rfl rfl)
theorem dX0_laysWays_28 : decode cX0_laysWays 28 = .ok (.isub, 1) := dk_100 (dk_at dksX0_laysWays_1 6 rfl rfl)
theorem dX0_laysWays_29 : decode cX0_laysWays 29 = .ok (.iand, 1) := dk_126 (dk_at dksX0_laysWays_1 7 rfl rfl)
theorem dX0_laysWays_30 : decode cX0_laysWays 30 = .ok (.iaload, 1) := dk_46 (dk_at dksX0_laysWays_1 8 rfl rfl)
theorem dX0_laysWays_31 : decode cX0_laysWays 31 = .ok (.aload_n 1, 1) := dk_43 (dk_at dksX0_laysWays_1 9 rfl rfl)
theorem dX0_laysWays_32 : decode cX0_laysWays 32 = .ok (.iload 4, 2) := dk_21 4 (dk_at dksX0_laysWays_1 10 rfl rfl)
theorem dX0_laysWays_34 : decode cX0_laysWays 34 = .ok (.invokevirtual 305, 3) := dk_182 1 49 (dk_at dksX0_laysWays_1 12 rfl rfl)
theorem dX0_laysWays_37 : decode cX0_laysWays 37 = .ok (.iadd, 1) := dk_96 (dk_at dksX0_laysWays_1 15 rfl rfl)
theorem dX0_laysWays_38 : decode cX0_laysWays 38 = .ok (.iastore, 1) := dk_79 (dk_at dksX0_laysWays_1 16 rfl rfl)
theorem dX0_laysWays_39 : decode cX0_laysWays 39 = .ok (.iconst 0, 1) := dk_3 (dk_at dksX0_laysWays_1 17 rfl rfl)
theorem dX0_laysWays_40 : decode cX0_laysWays 40 = .ok (.istore 5, 2) := dk_54 5 (dk_at dksX0_laysWays_1 18 rfl rfl)
theorem dX0_laysWays_42 : decode cX0_laysWays 42 = .ok (.iload 5, 2) := dk_21 5 (dk_at dksX0_laysWays_1 20 rfl rfl)
theorem dX0_laysWays_44 : decode cX0_laysWays 44 = .ok (.aload_n 0, 1) := dk_42 (dk_at dksX0_laysWays_1 22 rfl rfl)
theorem dX0_laysWays_45 : decode cX0_laysWays 45 = .ok (.invokevirtual 154, 3) := dk_182 0 154 (dk_at dksX0_laysWays_2 0 rfl rfl)
theorem dX0_laysWays_48 : decode cX0_laysWays 48 = .ok (.if_icmp .ge 41, 3) := dk_162 0 41 (dk_at dksX0_laysWays_2 3 rfl rfl)
theorem dX0_laysWays_51 : decode cX0_laysWays 51 = .ok (.aload_n 0, 1) := dk_42 (dk_at dksX0_laysWays_2 6 rfl rfl)
theorem dX0_laysWays_52 : decode cX0_laysWays 52 = .ok (.getfield 84, 3) := dk_180 0 84 (dk_at dksX0_laysWays_2 7 rfl rfl)
theorem dX0_laysWays_55 : decode cX0_laysWays 55 = .ok (.iload_n 3, 1) := dk_29 (dk_at dksX0_laysWays_2 10 rfl rfl)
theorem dX0_laysWays_56 : decode cX0_laysWays 56 = .ok (.aaload, 1) := dk_50 (dk_at dksX0_laysWays_2 11 rfl rfl)
theorem dX0_laysWays_57 : decode cX0_laysWays 57 = .ok (.iload 5, 2) := dk_21 5 (dk_at dksX0_laysWays_2 12 rfl rfl)
theorem dX0_laysWays_59 : decode cX0_laysWays 59 = .ok (.iload_n 3, 1) := dk_29 (dk_at dksX0_laysWays_2 14 rfl rfl)
theorem dX0_laysWays_60 : decode cX0_laysWays 60 = .ok (.iload 5, 2) := dk_21 5 (dk_at dksX0_laysWays_2 15 rfl rfl)
theorem dX0_laysWays_62 : decode cX0_laysWays 62 = .ok (.ishr, 1) := dk_122 (dk_at dksX0_laysWays_2 17 rfl rfl)
theorem dX0_laysWays_63 : decode cX0_laysWays 63 = .ok (.iconst 1, 1) := dk_4 (dk_at dksX0_laysWays_2 18 rfl rfl)
theorem dX0_laysWays_64 : decode cX0_laysWays 64 = .ok (.iand, 1) := dk_126 (dk_at dksX0_laysWays_2 19 rfl rfl)
theorem dX0_laysWays_65 : decode cX0_laysWays 65 = .ok (.iconst 1, 1) := dk_4 (dk_at dksX0_laysWays_2 20 rfl rfl)
theorem dX0_laysWays_66 : decode cX0_laysWays 66 = .ok (.if_icmp .ne 15, 3) := dk_160 0 15 (dk_at dksX0_laysWays_2 21 rfl rfl)
theorem dX0_laysWays_69 : decode cX0_laysWays 69 = .ok (.aload_n 0, 1) := dk_42 (dk_at dksX0_laysWays_3 0 rfl rfl)
theorem dX0_laysWays_70 : decode cX0_laysWays 70 = .ok (.aload_n 1, 1) := dk_43 (dk_at dksX0_laysWays_3 1 rfl rfl)
theorem dX0_laysWays_71 : decode cX0_laysWays 71 = .ok (.iload_n 2, 1) := dk_28 (dk_at dksX0_laysWays_3 2 rfl rfl)
theorem dX0_laysWays_72 : decode cX0_laysWays 72 = .ok (.iload_n 3, 1) := dk_29 (dk_at dksX0_laysWays_3 3 rfl rfl)
theorem dX0_laysWays_73 : decode cX0_laysWays 73 = .ok (.iload 5, 2) := dk_21 5 (dk_at dksX0_laysWays_3 4 rfl rfl)
theorem dX0_laysWays_75 : decode cX0_laysWays 75 = .ok (.invokevirtual 308, 3) := dk_182 1 52 (dk_at dksX0_laysWays_3 6 rfl rfl)
theorem dX0_laysWays_78 : decode cX0_laysWays 78 = .ok (.goto 4, 3) := dk_167 0 4 (dk_at dksX0_laysWays_3 9 rfl rfl)
theorem dX0_laysWays_81 : decode cX0_laysWays 81 = .ok (.iconst 0, 1) := dk_3 (dk_at dksX0_laysWays_3 12 rfl rfl)
theorem dX0_laysWays_82 : decode cX0_laysWays 82 = .ok (.iastore, 1) := dk_79 (dk_at dksX0_laysWays_3 13 rfl rfl)
theorem dX0_laysWays_83 : decode cX0_laysWays 83 = .ok (.iinc 5 1, 3) := dk_132 5 1 (dk_at dksX0_laysWays_3 14 rfl rfl)
theorem dX0_laysWays_86 : decode cX0_laysWays 86 = .ok (.goto (-44), 3) := dk_167 255 212 (dk_at dksX0_laysWays_3 17 rfl rfl)
theorem dX0_laysWays_89 : decode cX0_laysWays 89 = .ok (.iinc 3 1, 3) := dk_132 3 1 (dk_at dksX0_laysWays_3 20 rfl rfl)
theorem dX0_laysWays_92 : decode cX0_laysWays 92 = .ok (.goto (-90), 3) := dk_167 255 166 (dk_at dksX0_laysWays_4 0 rfl rfl)
theorem dX0_laysWays_95 : decode cX0_laysWays 95 = .ok (.return_, 1) := dk_177 (dk_at dksX0_laysWays_4 3 rfl rfl)
def dkwX0_allHouses_0 : List UInt8 := [4, 42, 182, 0, 154, 120, 172]
abbrev dktX0_allHouses_0 : List UInt8 := dkwX0_allHouses_0 ++ []
theorem dksX0_allHouses_0 : cX0_allHouses.data.toList.drop 0 = dktX0_allHouses_0 := by decide +kernel
theorem dX0_allHouses_0 : decode cX0_allHouses 0 = .ok (.iconst 1, 1) := dk_4 (dk_at dksX0_allHouses_0 0 rfl rfl)
theorem dX0_allHouses_1 : decode cX0_allHouses 1 = .ok (.aload_n 0, 1) := dk_42 (dk_at dksX0_allHouses_0 1 rfl rfl)
theorem dX0_allHouses_2 : decode cX0_allHouses 2 = .ok (.invokevirtual 154, 3) := dk_182 0 154 (dk_at dksX0_allHouses_0 2 rfl rfl)
theorem dX0_allHouses_5 : decode cX0_allHouses 5 = .ok (.ishl, 1) := dk_120 (dk_at dksX0_allHouses_0 5 rfl rfl)
theorem dX0_allHouses_6 : decode cX0_allHouses 6 = .ok (.ireturn, 1) := dk_172 (dk_at dksX0_allHouses_0 6 rfl rfl)
def dkwX0_waysOf_4 : List UInt8 := [21, 7, 46, 96, 54, 6, 132, 7, 1, 167, 255, 207, 21, 6, 172]
abbrev dktX0_waysOf_4 : List UInt8 := dkwX0_waysOf_4 ++ []
def dkwX0_waysOf_3 : List UInt8 := [46, 96, 42, 180, 0, 87, 21, 4, 50, 21, 7, 46, 163, 0, 18, 21, 6, 42, 180, 0, 84, 21, 5, 50]
abbrev dktX0_waysOf_3 : List UInt8 := dkwX0_waysOf_3 ++ dktX0_waysOf_4
def dkwX0_waysOf_2 : List UInt8 := [154, 0, 5, 4, 172, 3, 54, 7, 21, 7, 42, 182, 0, 154, 162, 0, 46, 28, 42, 180, 0, 90, 21, 5]
abbrev dktX0_waysOf_2 : List UInt8 := dkwX0_waysOf_2 ++ dktX0_waysOf_3
def dkwX0_waysOf_1 : List UInt8 := [180, 0, 90, 21, 5, 46, 96, 43, 42, 180, 0, 40, 21, 4, 182, 1, 56, 164, 0, 5, 3, 172, 21, 5]
abbrev dktX0_waysOf_1 : List UInt8 := dkwX0_waysOf_1 ++ dktX0_waysOf_2
def dkwX0_waysOf_0 : List UInt8 := [29, 4, 21, 4, 120, 2, 130, 126, 54, 5, 3, 54, 6, 43, 21, 4, 182, 1, 49, 153, 0, 25, 28, 42]
abbrev dktX0_waysOf_0 : List UInt8 := dkwX0_waysOf_0 ++ dktX0_waysOf_1
theorem dksX0_waysOf_0 : cX0_waysOf.data.toList.drop 0 = dktX0_waysOf_0 := by decide +kernel
theorem dksX0_waysOf_1 : cX0_waysOf.data.toList.drop 24 = dktX0_waysOf_1 := dk_seg dksX0_waysOf_0 24 rfl rfl
theorem dksX0_waysOf_2 : cX0_waysOf.data.toList.drop 48 = dktX0_waysOf_2 := dk_seg dksX0_waysOf_1 24 rfl rfl
theorem dksX0_waysOf_3 : cX0_waysOf.data.toList.drop 72 = dktX0_waysOf_3 := dk_seg dksX0_waysOf_2 24 rfl rfl
theorem dksX0_waysOf_4 : cX0_waysOf.data.toList.drop 96 = dktX0_waysOf_4 := dk_seg dksX0_waysOf_3 24 rfl rfl
theorem dX0_waysOf_0 : decode cX0_waysOf 0 = .ok (.iload_n 3, 1) := dk_29 (dk_at dksX0_waysOf_0 0 rfl rfl)
theorem dX0_waysOf_1 : decode cX0_waysOf 1 = .ok (.iconst 1, 1) := dk_4 (dk_at dksX0_waysOf_0 1 rfl rfl)
theorem dX0_waysOf_2 : decode cX0_waysOf 2 = .ok (.iload 4, 2) := dk_21 4 (dk_at dksX0_waysOf_0 2 rfl rfl)
theorem dX0_waysOf_4 : decode cX0_waysOf 4 = .ok (.ishl, 1) := dk_120 (dk_at dksX0_waysOf_0 4 rfl rfl)
theorem dX0_waysOf_5 : decode cX0_waysOf 5 = .ok (.iconst (-1), 1) := dk_2 (dk_at dksX0_waysOf_0 5 rfl rfl)
theorem dX0_waysOf_6 : decode cX0_waysOf 6 = .ok (.ixor, 1) := dk_130 (dk_at dksX0_waysOf_0 6 rfl rfl)
theorem dX0_waysOf_7 : decode cX0_waysOf 7 = .ok (.iand, 1) := dk_126 (dk_at dksX0_waysOf_0 7 rfl rfl)
theorem dX0_waysOf_8 : decode cX0_waysOf 8 = .ok (.istore 5, 2) := dk_54 5 (dk_at dksX0_waysOf_0 8 rfl rfl)
theorem dX0_waysOf_10 : decode cX0_waysOf 10 = .ok (.iconst 0, 1) := dk_3 (dk_at dksX0_waysOf_0 10 rfl rfl)
theorem dX0_waysOf_11 : decode cX0_waysOf 11 = .ok (.istore 6, 2) := dk_54 6 (dk_at dksX0_waysOf_0 11 rfl rfl)
theorem dX0_waysOf_13 : decode cX0_waysOf 13 = .ok (.aload_n 1, 1) := dk_43 (dk_at dksX0_waysOf_0 13 rfl rfl)
theorem dX0_waysOf_14 : decode cX0_waysOf 14 = .ok (.iload 4, 2) := dk_21 4 (dk_at dksX0_waysOf_0 14 rfl rfl)
theorem dX0_waysOf_16 : decode cX0_waysOf 16 = .ok (.invokevirtual 305, 3) := dk_182 1 49 (dk_at dksX0_waysOf_0 16 rfl rfl)
theorem dX0_waysOf_19 : decode cX0_waysOf 19 = .ok (.ifCond .eq 25, 3) := dk_153 0 25 (dk_at dksX0_waysOf_0 19 rfl rfl)
theorem dX0_waysOf_22 : decode cX0_waysOf 22 = .ok (.iload_n 2, 1) := dk_28 (dk_at dksX0_waysOf_0 22 rfl rfl)
theorem dX0_waysOf_23 : decode cX0_waysOf 23 = .ok (.aload_n 0, 1) := dk_42 (dk_at dksX0_waysOf_0 23 rfl rfl)
theorem dX0_waysOf_24 : decode cX0_waysOf 24 = .ok (.getfield 90, 3) := dk_180 0 90 (dk_at dksX0_waysOf_1 0 rfl rfl)
theorem dX0_waysOf_27 : decode cX0_waysOf 27 = .ok (.iload 5, 2) := dk_21 5 (dk_at dksX0_waysOf_1 3 rfl rfl)
theorem dX0_waysOf_29 : decode cX0_waysOf 29 = .ok (.iaload, 1) := dk_46 (dk_at dksX0_waysOf_1 5 rfl rfl)
theorem dX0_waysOf_30 : decode cX0_waysOf 30 = .ok (.iadd, 1) := dk_96 (dk_at dksX0_waysOf_1 6 rfl rfl)
theorem dX0_waysOf_31 : decode cX0_waysOf 31 = .ok (.aload_n 1, 1) := dk_43 (dk_at dksX0_waysOf_1 7 rfl rfl)
theorem dX0_waysOf_32 : decode cX0_waysOf 32 = .ok (.aload_n 0, 1) := dk_42 (dk_at dksX0_waysOf_1 8 rfl rfl)
theorem dX0_waysOf_33 : decode cX0_waysOf 33 = .ok (.getfield 40, 3) := dk_180 0 40 (dk_at dksX0_waysOf_1 9 rfl rfl)
theorem dX0_waysOf_36 : decode cX0_waysOf 36 = .ok (.iload 4, 2) := dk_21 4 (dk_at dksX0_waysOf_1 12 rfl rfl)
theorem dX0_waysOf_38 : decode cX0_waysOf 38 = .ok (.invokevirtual 312, 3) := dk_182 1 56 (dk_at dksX0_waysOf_1 14 rfl rfl)
theorem dX0_waysOf_41 : decode cX0_waysOf 41 = .ok (.if_icmp .le 5, 3) := dk_164 0 5 (dk_at dksX0_waysOf_1 17 rfl rfl)
theorem dX0_waysOf_44 : decode cX0_waysOf 44 = .ok (.iconst 0, 1) := dk_3 (dk_at dksX0_waysOf_1 20 rfl rfl)
theorem dX0_waysOf_45 : decode cX0_waysOf 45 = .ok (.ireturn, 1) := dk_172 (dk_at dksX0_waysOf_1 21 rfl rfl)
theorem dX0_waysOf_46 : decode cX0_waysOf 46 = .ok (.iload 5, 2) := dk_21 5 (dk_at dksX0_waysOf_1 22 rfl rfl)
theorem dX0_waysOf_48 : decode cX0_waysOf 48 = .ok (.ifCond .ne 5, 3) := dk_154 0 5 (dk_at dksX0_waysOf_2 0 rfl rfl)
theorem dX0_waysOf_51 : decode cX0_waysOf 51 = .ok (.iconst 1, 1) := dk_4 (dk_at dksX0_waysOf_2 3 rfl rfl)
theorem dX0_waysOf_52 : decode cX0_waysOf 52 = .ok (.ireturn, 1) := dk_172 (dk_at dksX0_waysOf_2 4 rfl rfl)
theorem dX0_waysOf_53 : decode cX0_waysOf 53 = .ok (.iconst 0, 1) := dk_3 (dk_at dksX0_waysOf_2 5 rfl rfl)
theorem dX0_waysOf_54 : decode cX0_waysOf 54 = .ok (.istore 7, 2) := dk_54 7 (dk_at dksX0_waysOf_2 6 rfl rfl)
theorem dX0_waysOf_56 : decode cX0_waysOf 56 = .ok (.iload 7, 2) := dk_21 7 (dk_at dksX0_waysOf_2 8 rfl rfl)
theorem dX0_waysOf_58 : decode cX0_waysOf 58 = .ok (.aload_n 0, 1) := dk_42 (dk_at dksX0_waysOf_2 10 rfl rfl)
theorem dX0_waysOf_59 : decode cX0_waysOf 59 = .ok (.invokevirtual 154, 3) := dk_182 0 154 (dk_at dksX0_waysOf_2 11 rfl rfl)
theorem dX0_waysOf_62 : decode cX0_waysOf 62 = .ok (.if_icmp .ge 46, 3) := dk_162 0 46 (dk_at dksX0_waysOf_2 14 rfl rfl)
theorem dX0_waysOf_65 : decode cX0_waysOf 65 = .ok (.iload_n 2, 1) := dk_28 (dk_at dksX0_waysOf_2 17 rfl rfl)
theorem dX0_waysOf_66 : decode cX0_waysOf 66 = .ok (.aload_n 0, 1) := dk_42 (dk_at dksX0_waysOf_2 18 rfl rfl)
theorem dX0_waysOf_67 : decode cX0_waysOf 67 = .ok (.getfield 90, 3) := dk_180 0 90 (dk_at dksX0_waysOf_2 19 rfl rfl)
theorem dX0_waysOf_70 : decode cX0_waysOf 70 = .ok (.iload 5, 2) := dk_21 5 (dk_at dksX0_waysOf_2 22 rfl rfl)
theorem dX0_waysOf_72 : decode cX0_waysOf 72 = .ok (.iaload, 1) := dk_46 (dk_at dksX0_waysOf_3 0 rfl rfl)
theorem dX0_waysOf_73 : decode cX0_waysOf 73 = .ok (.iadd, 1) := dk_96 (dk_at dksX0_waysOf_3 1 rfl rfl)
theorem dX0_waysOf_74 : decode cX0_waysOf 74 = .ok (.aload_n 0, 1) := dk_42 (dk_at dksX0_waysOf_3 2 rfl rfl)
theorem dX0_waysOf_75 : decode cX0_waysOf 75 = .ok (.getfield 87, 3) := dk_180 0 87 (dk_at dksX0_waysOf_3 3 rfl rfl)
theorem dX0_waysOf_78 : decode cX0_waysOf 78 = .ok (.iload 4, 2) := dk_21 4 (dk_at dksX0_waysOf_3 6 rfl rfl)
theorem dX0_waysOf_80 : decode cX0_waysOf 80 = .ok (.aaload, 1) := dk_50 (dk_at dksX0_waysOf_3 8 rfl rfl)
theorem dX0_waysOf_81 : decode cX0_waysOf 81 = .ok (.iload 7, 2) := dk_21 7 (dk_at dksX0_waysOf_3 9 rfl rfl)
theorem dX0_waysOf_83 : decode cX0_waysOf 83 = .ok (.iaload, 1) := dk_46 (dk_at dksX0_waysOf_3 11 rfl rfl)
theorem dX0_waysOf_84 : decode cX0_waysOf 84 = .ok (.if_icmp .gt 18, 3) := dk_163 0 18 (dk_at dksX0_waysOf_3 12 rfl rfl)
theorem dX0_waysOf_87 : decode cX0_waysOf 87 = .ok (.iload 6, 2) := dk_21 6 (dk_at dksX0_waysOf_3 15 rfl rfl)
theorem dX0_waysOf_89 : decode cX0_waysOf 89 = .ok (.aload_n 0, 1) := dk_42 (dk_at dksX0_waysOf_3 17 rfl rfl)
theorem dX0_waysOf_90 : decode cX0_waysOf 90 = .ok (.getfield 84, 3) := dk_180 0 84 (dk_at dksX0_waysOf_3 18 rfl rfl)
theorem dX0_waysOf_93 : decode cX0_waysOf 93 = .ok (.iload 5, 2) := dk_21 5 (dk_at dksX0_waysOf_3 21 rfl rfl)
theorem dX0_waysOf_95 : decode cX0_waysOf 95 = .ok (.aaload, 1) := dk_50 (dk_at dksX0_waysOf_3 23 rfl rfl)
theorem dX0_waysOf_96 : decode cX0_waysOf 96 = .ok (.iload 7, 2) := dk_21 7 (dk_at dksX0_waysOf_4 0 rfl rfl)
theorem dX0_waysOf_98 : decode cX0_waysOf 98 = .ok (.iaload, 1) := dk_46 (dk_at dksX0_waysOf_4 2 rfl rfl)
theorem dX0_waysOf_99 : decode cX0_waysOf 99 = .ok (.iadd, 1) := dk_96 (dk_at dksX0_waysOf_4 3 rfl rfl)
theorem dX0_waysOf_100 : decode cX0_waysOf 100 = .ok (.istore 6, 2) := dk_54 6 (dk_at dksX0_waysOf_4 4 rfl rfl)
theorem dX0_waysOf_102 : decode cX0_waysOf 102 = .ok (.iinc 7 1, 3) := dk_132 7 1 (dk_at dksX0_waysOf_4 6 rfl rfl)
theorem dX0_waysOf_105 : decode cX0_waysOf 105 = .ok (.goto (-49), 3) := dk_167 255 207 (dk_at dksX0_waysOf_4 9 rfl rfl)
theorem dX0_waysOf_108 : decode cX0_waysOf 108 = .ok (.iload 6, 2) := dk_21 6 (dk_at dksX0_waysOf_4 12 rfl rfl)
theorem dX0_waysOf_110 : decode cX0_waysOf 110 = .ok (.ireturn, 1) := dk_172 (dk_at dksX0_waysOf_4 14 rfl rfl)
def dkwX0_reaching_2 : List UInt8 := [172]
abbrev dktX0_reaching_2 : List UInt8 := dkwX0_reaching_2 ++ []
def dkwX0_reaching_1 : List UInt8 := [180, 0, 246, 161, 0, 20, 28, 42, 180, 0, 84, 27, 50, 29, 46, 96, 61, 132, 3, 1, 167, 255, 218, 28]
abbrev dktX0_reaching_1 : List UInt8 := dkwX0_reaching_1 ++ dktX0_reaching_2
def dkwX0_reaching_0 : List UInt8 := [3, 61, 3, 62, 29, 42, 182, 0, 154, 162, 0, 36, 42, 180, 0, 90, 27, 46, 42, 180, 0, 40]
abbrev dktX0_reaching_0 : List UInt8 := dkwX0_reaching_0 ++ dktX0_reaching_1
theorem dksX0_reaching_0 : cX0_reaching.data.toList.drop 0 = dktX0_reaching_0 := by decide +kernel
theorem dksX0_reaching_1 : cX0_reaching.data.toList.drop 22 = dktX0_reaching_1 := dk_seg dksX0_reaching_0 22 rfl rfl
theorem dksX0_reaching_2 : cX0_reaching.data.toList.drop 46 = dktX0_reaching_2 := dk_seg dksX0_reaching_1 24 rfl rfl
theorem dX0_reaching_0 : decode cX0_reaching 0 = .ok (.iconst 0, 1) := dk_3 (dk_at dksX0_reaching_0 0 rfl rfl)
theorem dX0_reaching_1 : decode cX0_reaching 1 = .ok (.istore_n 2, 1) := dk_61 (dk_at dksX0_reaching_0 1 rfl rfl)
theorem dX0_reaching_2 : decode cX0_reaching 2 = .ok (.iconst 0, 1) := dk_3 (dk_at dksX0_reaching_0 2 rfl rfl)
theorem dX0_reaching_3 : decode cX0_reaching 3 = .ok (.istore_n 3, 1) := dk_62 (dk_at dksX0_reaching_0 3 rfl rfl)
theorem dX0_reaching_4 : decode cX0_reaching 4 = .ok (.iload_n 3, 1) := dk_29 (dk_at dksX0_reaching_0 4 rfl rfl)
theorem dX0_reaching_5 : decode cX0_reaching 5 = .ok (.aload_n 0, 1) := dk_42 (dk_at dksX0_reaching_0 5 rfl rfl)
theorem dX0_reaching_6 : decode cX0_reaching 6 = .ok (.invokevirtual 154, 3) := dk_182 0 154 (dk_at dksX0_reaching_0 6 rfl rfl)
theorem dX0_reaching_9 : decode cX0_reaching 9 = .ok (.if_icmp .ge 36, 3) := dk_162 0 36 (dk_at dksX0_reaching_0 9 rfl rfl)
theorem dX0_reaching_12 : decode cX0_reaching 12 = .ok (.aload_n 0, 1) := dk_42 (dk_at dksX0_reaching_0 12 rfl rfl)
theorem dX0_reaching_13 : decode cX0_reaching 13 = .ok (.getfield 90, 3) := dk_180 0 90 (dk_at dksX0_reaching_0 13 rfl rfl)
theorem dX0_reaching_16 : decode cX0_reaching 16 = .ok (.iload_n 1, 1) := dk_27 (dk_at dksX0_reaching_0 16 rfl rfl)
theorem dX0_reaching_17 : decode cX0_reaching 17 = .ok (.iaload, 1) := dk_46 (dk_at dksX0_reaching_0 17 rfl rfl)
theorem dX0_reaching_18 : decode cX0_reaching 18 = .ok (.aload_n 0, 1) := dk_42 (dk_at dksX0_reaching_0 18 rfl rfl)
theorem dX0_reaching_19 : decode cX0_reaching 19 = .ok (.getfield 40, 3) := dk_180 0 40 (dk_at dksX0_reaching_0 19 rfl rfl)
theorem dX0_reaching_22 : decode cX0_reaching 22 = .ok (.getfield 246, 3) := dk_180 0 246 (dk_at dksX0_reaching_1 0 rfl rfl)
theorem dX0_reaching_25 : decode cX0_reaching 25 = .ok (.if_icmp .lt 20, 3) := dk_161 0 20 (dk_at dksX0_reaching_1 3 rfl rfl)
theorem dX0_reaching_28 : decode cX0_reaching 28 = .ok (.iload_n 2, 1) := dk_28 (dk_at dksX0_reaching_1 6 rfl rfl)
theorem dX0_reaching_29 : decode cX0_reaching 29 = .ok (.aload_n 0, 1) := dk_42 (dk_at dksX0_reaching_1 7 rfl rfl)
theorem dX0_reaching_30 : decode cX0_reaching 30 = .ok (.getfield 84, 3) := dk_180 0 84 (dk_at dksX0_reaching_1 8 rfl rfl)
theorem dX0_reaching_33 : decode cX0_reaching 33 = .ok (.iload_n 1, 1) := dk_27 (dk_at dksX0_reaching_1 11 rfl rfl)
theorem dX0_reaching_34 : decode cX0_reaching 34 = .ok (.aaload, 1) := dk_50 (dk_at dksX0_reaching_1 12 rfl rfl)
theorem dX0_reaching_35 : decode cX0_reaching 35 = .ok (.iload_n 3, 1) := dk_29 (dk_at dksX0_reaching_1 13 rfl rfl)
theorem dX0_reaching_36 : decode cX0_reaching 36 = .ok (.iaload, 1) := dk_46 (dk_at dksX0_reaching_1 14 rfl rfl)
theorem dX0_reaching_37 : decode cX0_reaching 37 = .ok (.iadd, 1) := dk_96 (dk_at dksX0_reaching_1 15 rfl rfl)
theorem dX0_reaching_38 : decode cX0_reaching 38 = .ok (.istore_n 2, 1) := dk_61 (dk_at dksX0_reaching_1 16 rfl rfl)
theorem dX0_reaching_39 : decode cX0_reaching 39 = .ok (.iinc 3 1, 3) := dk_132 3 1 (dk_at dksX0_reaching_1 17 rfl rfl)
theorem dX0_reaching_42 : decode cX0_reaching 42 = .ok (.goto (-38), 3) := dk_167 255 218 (dk_at dksX0_reaching_1 20 rfl rfl)
theorem dX0_reaching_45 : decode cX0_reaching 45 = .ok (.iload_n 2, 1) := dk_28 (dk_at dksX0_reaching_1 23 rfl rfl)
theorem dX0_reaching_46 : decode cX0_reaching 46 = .ok (.ireturn, 1) := dk_172 (dk_at dksX0_reaching_2 0 rfl rfl)
def dkwX0_peak_1 : List UInt8 := [182, 1, 69, 154, 0, 9, 132, 1, 255, 167, 255, 237, 27, 156, 0, 8, 16, 254, 167, 0, 4, 27, 172]
abbrev dktX0_peak_1 : List UInt8 := dkwX0_peak_1 ++ []
def dkwX0_peak_0 : List UInt8 := [42, 42, 180, 0, 51, 182, 1, 66, 17, 3, 231, 60, 27, 155, 0, 21, 42, 42, 180, 0, 51, 27]
abbrev dktX0_peak_0 : List UInt8 := dkwX0_peak_0 ++ dktX0_peak_1
theorem dksX0_peak_0 : cX0_peak.data.toList.drop 0 = dktX0_peak_0 := by decide +kernel
theorem dksX0_peak_1 : cX0_peak.data.toList.drop 22 = dktX0_peak_1 := dk_seg dksX0_peak_0 22 rfl rfl
theorem dX0_peak_0 : decode cX0_peak 0 = .ok (.aload_n 0, 1) := dk_42 (dk_at dksX0_peak_0 0 rfl rfl)
theorem dX0_peak_1 : decode cX0_peak 1 = .ok (.aload_n 0, 1) := dk_42 (dk_at dksX0_peak_0 1 rfl rfl)
theorem dX0_peak_2 : decode cX0_peak 2 = .ok (.getfield 51, 3) := dk_180 0 51 (dk_at dksX0_peak_0 2 rfl rfl)
theorem dX0_peak_5 : decode cX0_peak 5 = .ok (.invokevirtual 322, 3) := dk_182 1 66 (dk_at dksX0_peak_0 5 rfl rfl)
theorem dX0_peak_8 : decode cX0_peak 8 = .ok (.sipush 999, 3) := dk_17 3 231 (dk_at dksX0_peak_0 8 rfl rfl)
theorem dX0_peak_11 : decode cX0_peak 11 = .ok (.istore_n 1, 1) := dk_60 (dk_at dksX0_peak_0 11 rfl rfl)
theorem dX0_peak_12 : decode cX0_peak 12 = .ok (.iload_n 1, 1) := dk_27 (dk_at dksX0_peak_0 12 rfl rfl)
theorem dX0_peak_13 : decode cX0_peak 13 = .ok (.ifCond .lt 21, 3) := dk_155 0 21 (dk_at dksX0_peak_0 13 rfl rfl)
theorem dX0_peak_16 : decode cX0_peak 16 = .ok (.aload_n 0, 1) := dk_42 (dk_at dksX0_peak_0 16 rfl rfl)
theorem dX0_peak_17 : decode cX0_peak 17 = .ok (.aload_n 0, 1) := dk_42 (dk_at dksX0_peak_0 17 rfl rfl)
theorem dX0_peak_18 : decode cX0_peak 18 = .ok (.getfield 51, 3) := dk_180 0 51 (dk_at dksX0_peak_0 18 rfl rfl)
theorem dX0_peak_21 : decode cX0_peak 21 = .ok (.iload_n 1, 1) := dk_27 (dk_at dksX0_peak_0 21 rfl rfl)
theorem dX0_peak_22 : decode cX0_peak 22 = .ok (.invokevirtual 325, 3) := dk_182 1 69 (dk_at dksX0_peak_1 0 rfl rfl)
theorem dX0_peak_25 : decode cX0_peak 25 = .ok (.ifCond .ne 9, 3) := dk_154 0 9 (dk_at dksX0_peak_1 3 rfl rfl)
theorem dX0_peak_28 : decode cX0_peak 28 = .ok (.iinc 1 (-1), 3) := dk_132 1 255 (dk_at dksX0_peak_1 6 rfl rfl)
theorem dX0_peak_31 : decode cX0_peak 31 = .ok (.goto (-19), 3) := dk_167 255 237 (dk_at dksX0_peak_1 9 rfl rfl)
theorem dX0_peak_34 : decode cX0_peak 34 = .ok (.iload_n 1, 1) := dk_27 (dk_at dksX0_peak_1 12 rfl rfl)
theorem dX0_peak_35 : decode cX0_peak 35 = .ok (.ifCond .ge 8, 3) := dk_156 0 8 (dk_at dksX0_peak_1 13 rfl rfl)
theorem dX0_peak_38 : decode cX0_peak 38 = .ok (.bipush (-2), 2) := dk_16 254 (dk_at dksX0_peak_1 16 rfl rfl)
theorem dX0_peak_40 : decode cX0_peak 40 = .ok (.goto 4, 3) := dk_167 0 4 (dk_at dksX0_peak_1 18 rfl rfl)
theorem dX0_peak_43 : decode cX0_peak 43 = .ok (.iload_n 1, 1) := dk_27 (dk_at dksX0_peak_1 21 rfl rfl)
theorem dX0_peak_44 : decode cX0_peak 44 = .ok (.ireturn, 1) := dk_172 (dk_at dksX0_peak_1 22 rfl rfl)
def dkwX0_fewest_7 : List UInt8 := [162, 0, 12, 42, 180, 0, 94, 28, 46, 167, 0, 4, 2, 172]
abbrev dktX0_fewest_7 : List UInt8 := dkwX0_fewest_7 ++ []
def dkwX0_fewest_6 : List UInt8 := [19, 1, 73, 160, 0, 8, 16, 254, 167, 0, 27, 28, 2, 160, 0, 7, 29, 167, 0, 18, 28, 29]
abbrev dktX0_fewest_6 : List UInt8 := dkwX0_fewest_6 ++ dktX0_fewest_7
def dkwX0_fewest_5 : List UInt8 := [21, 6, 42, 180, 0, 97, 21, 6, 46, 79, 132, 6, 1, 167, 255, 232, 132, 4, 1, 167, 255, 161, 29]
abbrev dktX0_fewest_5 : List UInt8 := dkwX0_fewest_5 ++ dktX0_fewest_6
def dkwX0_fewest_4 : List UInt8 := [154, 0, 6, 167, 0, 36, 21, 5, 62, 3, 54, 6, 21, 6, 21, 5, 162, 0, 23, 42, 180, 0, 94]
abbrev dktX0_fewest_4 : List UInt8 := dkwX0_fewest_4 ++ dktX0_fewest_5
def dkwX0_fewest_3 : List UInt8 := [167, 0, 61, 42, 21, 4, 27, 182, 1, 77, 21, 5, 29, 160, 0, 15, 42, 21, 5, 182, 1, 81]
abbrev dktX0_fewest_3 : List UInt8 := dkwX0_fewest_3 ++ dktX0_fewest_4
def dkwX0_fewest_2 : List UInt8 := [21, 4, 184, 1, 74, 54, 5, 21, 5, 29, 163, 0, 73, 42, 21, 4, 182, 1, 63, 154, 0, 6]
abbrev dktX0_fewest_2 : List UInt8 := dkwX0_fewest_2 ++ dktX0_fewest_3
def dkwX0_fewest_1 : List UInt8 := [182, 1, 66, 42, 42, 180, 0, 51, 27, 182, 1, 59, 4, 54, 4, 21, 4, 42, 182, 1, 41, 162, 0, 92]
abbrev dktX0_fewest_1 : List UInt8 := dkwX0_fewest_1 ++ dktX0_fewest_2
def dkwX0_fewest_0 : List UInt8 := [27, 184, 0, 249, 153, 0, 8, 28, 2, 162, 0, 5, 2, 172, 19, 1, 73, 62, 42, 42, 180, 0, 51]
abbrev dktX0_fewest_0 : List UInt8 := dkwX0_fewest_0 ++ dktX0_fewest_1
theorem dksX0_fewest_0 : cX0_fewest.data.toList.drop 0 = dktX0_fewest_0 := by decide +kernel
theorem dksX0_fewest_1 : cX0_fewest.data.toList.drop 23 = dktX0_fewest_1 := dk_seg dksX0_fewest_0 23 rfl rfl
theorem dksX0_fewest_2 : cX0_fewest.data.toList.drop 47 = dktX0_fewest_2 := dk_seg dksX0_fewest_1 24 rfl rfl
theorem dksX0_fewest_3 : cX0_fewest.data.toList.drop 69 = dktX0_fewest_3 := dk_seg dksX0_fewest_2 22 rfl rfl
theorem dksX0_fewest_4 : cX0_fewest.data.toList.drop 91 = dktX0_fewest_4 := dk_seg dksX0_fewest_3 22 rfl rfl
theorem dksX0_fewest_5 : cX0_fewest.data.toList.drop 114 = dktX0_fewest_5 := dk_seg dksX0_fewest_4 23 rfl rfl
theorem dksX0_fewest_6 : cX0_fewest.data.toList.drop 137 = dktX0_fewest_6 := dk_seg dksX0_fewest_5 23 rfl rfl
theorem dksX0_fewest_7 : cX0_fewest.data.toList.drop 159 = dktX0_fewest_7 := dk_seg dksX0_fewest_6 22 rfl rfl
theorem dX0_fewest_0 : decode cX0_fewest 0 = .ok (.iload_n 1, 1) := dk_27 (dk_at dksX0_fewest_0 0 rfl rfl)
theorem dX0_fewest_1 : decode cX0_fewest 1 = .ok (.invokestatic 249, 3) := dk_184 0 249 (dk_at dksX0_fewest_0 1 rfl rfl)
theorem dX0_fewest_4 : decode cX0_fewest 4 = .ok (.ifCond .eq 8, 3) := dk_153 0 8 (dk_at dksX0_fewest_0 4 rfl rfl)
theorem dX0_fewest_7 : decode cX0_fewest 7 = .ok (.iload_n 2, 1) := dk_28 (dk_at dksX0_fewest_0 7 rfl rfl)
theorem dX0_fewest_8 : decode cX0_fewest 8 = .ok (.iconst (-1), 1) := dk_2 (dk_at dksX0_fewest_0 8 rfl rfl)
theorem dX0_fewest_9 : decode cX0_fewest 9 = .ok (.if_icmp .ge 5, 3) := dk_162 0 5 (dk_at dksX0_fewest_0 9 rfl rfl)
theorem dX0_fewest_12 : decode cX0_fewest 12 = .ok (.iconst (-1), 1) := dk_2 (dk_at dksX0_fewest_0 12 rfl rfl)
theorem dX0_fewest_13 : decode cX0_fewest 13 = .ok (.ireturn, 1) := dk_172 (dk_at dksX0_fewest_0 13 rfl rfl)
theorem dX0_fewest_14 : decode cX0_fewest 14 = .ok (.ldc_w 329, 3) := dk_19 1 73 (dk_at dksX0_fewest_0 14 rfl rfl)
theorem dX0_fewest_17 : decode cX0_fewest 17 = .ok (.istore_n 3, 1) := dk_62 (dk_at dksX0_fewest_0 17 rfl rfl)
theorem dX0_fewest_18 : decode cX0_fewest 18 = .ok (.aload_n 0, 1) := dk_42 (dk_at dksX0_fewest_0 18 rfl rfl)
theorem dX0_fewest_19 : decode cX0_fewest 19 = .ok (.aload_n 0, 1) := dk_42 (dk_at dksX0_fewest_0 19 rfl rfl)
theorem dX0_fewest_20 : decode cX0_fewest 20 = .ok (.getfield 51, 3) := dk_180 0 51 (dk_at dksX0_fewest_0 20 rfl rfl)
theorem dX0_fewest_23 : decode cX0_fewest 23 = .ok (.invokevirtual 322, 3) := dk_182 1 66 (dk_at dksX0_fewest_1 0 rfl rfl)
theorem dX0_fewest_26 : decode cX0_fewest 26 = .ok (.aload_n 0, 1) := dk_42 (dk_at dksX0_fewest_1 3 rfl rfl)
theorem dX0_fewest_27 : decode cX0_fewest 27 = .ok (.aload_n 0, 1) := dk_42 (dk_at dksX0_fewest_1 4 rfl rfl)
theorem dX0_fewest_28 : decode cX0_fewest 28 = .ok (.getfield 51, 3) := dk_180 0 51 (dk_at dksX0_fewest_1 5 rfl rfl)
theorem dX0_fewest_31 : decode cX0_fewest 31 = .ok (.iload_n 1, 1) := dk_27 (dk_at dksX0_fewest_1 8 rfl rfl)
theorem dX0_fewest_32 : decode cX0_fewest 32 = .ok (.invokevirtual 315, 3) := dk_182 1 59 (dk_at dksX0_fewest_1 9 rfl rfl)
theorem dX0_fewest_35 : decode cX0_fewest 35 = .ok (.iconst 1, 1) := dk_4 (dk_at dksX0_fewest_1 12 rfl rfl)
theorem dX0_fewest_36 : decode cX0_fewest 36 = .ok (.istore 4, 2) := dk_54 4 (dk_at dksX0_fewest_1 13 rfl rfl)
theorem dX0_fewest_38 : decode cX0_fewest 38 = .ok (.iload 4, 2) := dk_21 4 (dk_at dksX0_fewest_1 15 rfl rfl)
theorem dX0_fewest_40 : decode cX0_fewest 40 = .ok (.aload_n 0, 1) := dk_42 (dk_at dksX0_fewest_1 17 rfl rfl)
theorem dX0_fewest_41 : decode cX0_fewest 41 = .ok (.invokevirtual 297, 3) := dk_182 1 41 (dk_at dksX0_fewest_1 18 rfl rfl)
theorem dX0_fewest_44 : decode cX0_fewest 44 = .ok (.if_icmp .ge 92, 3) := dk_162 0 92 (dk_at dksX0_fewest_1 21 rfl rfl)
theorem dX0_fewest_47 : decode cX0_fewest 47 = .ok (.iload 4, 2) := dk_21 4 (dk_at dksX0_fewest_2 0 rfl rfl)
theorem dX0_fewest_49 : decode cX0_fewest 49 = .ok (.invokestatic 330, 3) := dk_184 1 74 (dk_at dksX0_fewest_2 2 rfl rfl)
theorem dX0_fewest_52 : decode cX0_fewest 52 = .ok (.istore 5, 2) := dk_54 5 (dk_at dksX0_fewest_2 5 rfl rfl)
theorem dX0_fewest_54 : decode cX0_fewest 54 = .ok (.iload 5, 2) := dk_21 5 (dk_at dksX0_fewest_2 7 rfl rfl)
theorem dX0_fewest_56 : decode cX0_fewest 56 = .ok (.iload_n 3, 1) := dk_29 (dk_at dksX0_fewest_2 9 rfl rfl)
theorem dX0_fewest_57 : decode cX0_fewest 57 = .ok (.if_icmp .gt 73, 3) := dk_163 0 73 (dk_at dksX0_fewest_2 10 rfl rfl)
theorem dX0_fewest_60 : decode cX0_fewest 60 = .ok (.aload_n 0, 1) := dk_42 (dk_at dksX0_fewest_2 13 rfl rfl)
theorem dX0_fewest_61 : decode cX0_fewest 61 = .ok (.iload 4, 2) := dk_21 4 (dk_at dksX0_fewest_2 14 rfl rfl)
theorem dX0_fewest_63 : decode cX0_fewest 63 = .ok (.invokevirtual 319, 3) := dk_182 1 63 (dk_at dksX0_fewest_2 16 rfl rfl)
theorem dX0_fewest_66 : decode cX0_fewest 66 = .ok (.ifCond .ne 6, 3) := dk_154 0 6 (dk_at dksX0_fewest_2 19 rfl rfl)
theorem dX0_fewest_69 : decode cX0_fewest 69 = .ok (.goto 61, 3) := dk_167 0 61 (dk_at dksX0_fewest_3 0 rfl rfl)
theorem dX0_fewest_72 : decode cX0_fewest 72 = .ok (.aload_n 0, 1) := dk_42 (dk_at dksX0_fewest_3 3 rfl rfl)
theorem dX0_fewest_73 : decode cX0_fewest 73 = .ok (.iload 4, 2) := dk_21 4 (dk_at dksX0_fewest_3 4 rfl rfl)
theorem dX0_fewest_75 : decode cX0_fewest 75 = .ok (.iload_n 1, 1) := dk_27 (dk_at dksX0_fewest_3 6 rfl rfl)
theorem dX0_fewest_76 : decode cX0_fewest 76 = .ok (.invokevirtual 333, 3) := dk_182 1 77 (dk_at dksX0_fewest_3 7 rfl rfl)
theorem dX0_fewest_79 : decode cX0_fewest 79 = .ok (.iload 5, 2) := dk_21 5 (dk_at dksX0_fewest_3 10 rfl rfl)
theorem dX0_fewest_81 : decode cX0_fewest 81 = .ok (.iload_n 3, 1) := dk_29 (dk_at dksX0_fewest_3 12 rfl rfl)
theorem dX0_fewest_82 : decode cX0_fewest 82 = .ok (.if_icmp .ne 15, 3) := dk_160 0 15 (dk_at dksX0_fewest_3 13 rfl rfl)
theorem dX0_fewest_85 : decode cX0_fewest 85 = .ok (.aload_n 0, 1) := dk_42 (dk_at dksX0_fewest_3 16 rfl rfl)
theorem dX0_fewest_86 : decode cX0_fewest 86 = .ok (.iload 5, 2) := dk_21 5 (dk_at dksX0_fewest_3 17 rfl rfl)
theorem dX0_fewest_88 : decode cX0_fewest 88 = .ok (.invokevirtual 337, 3) := dk_182 1 81 (dk_at dksX0_fewest_3 19 rfl rfl)
theorem dX0_fewest_91 : decode cX0_fewest 91 = .ok (.ifCond .ne 6, 3) := dk_154 0 6 (dk_at dksX0_fewest_4 0 rfl rfl)
theorem dX0_fewest_94 : decode cX0_fewest 94 = .ok (.goto 36, 3) := dk_167 0 36 (dk_at dksX0_fewest_4 3 rfl rfl)
theorem dX0_fewest_97 : decode cX0_fewest 97 = .ok (.iload 5, 2) := dk_21 5 (dk_at dksX0_fewest_4 6 rfl rfl)
theorem dX0_fewest_99 : decode cX0_fewest 99 = .ok (.istore_n 3, 1) := dk_62 (dk_at dksX0_fewest_4 8 rfl rfl)
theorem dX0_fewest_100 : decode cX0_fewest 100 = .ok (.iconst 0, 1) := dk_3 (dk_at dksX0_fewest_4 9 rfl rfl)
theorem dX0_fewest_101 : decode cX0_fewest 101 = .ok (.istore 6, 2) := dk_54 6 (dk_at dksX0_fewest_4 10 rfl rfl)
theorem dX0_fewest_103 : decode cX0_fewest 103 = .ok (.iload 6, 2) := dk_21 6 (dk_at dksX0_fewest_4 12 rfl rfl)
theorem dX0_fewest_105 : decode cX0_fewest 105 = .ok (.iload 5, 2) := dk_21 5 (dk_at dksX0_fewest_4 14 rfl rfl)
theorem dX0_fewest_107 : decode cX0_fewest 107 = .ok (.if_icmp .ge 23, 3) := dk_162 0 23 (dk_at dksX0_fewest_4 16 rfl rfl)
theorem dX0_fewest_110 : decode cX0_fewest 110 = .ok (.aload_n 0, 1) := dk_42 (dk_at dksX0_fewest_4 19 rfl rfl)
theorem dX0_fewest_111 : decode cX0_fewest 111 = .ok (.getfield 94, 3) := dk_180 0 94 (dk_at dksX0_fewest_4 20 rfl rfl)
theorem dX0_fewest_114 : decode cX0_fewest 114 = .ok (.iload 6, 2) := dk_21 6 (dk_at dksX0_fewest_5 0 rfl rfl)
theorem dX0_fewest_116 : decode cX0_fewest 116 = .ok (.aload_n 0, 1) := dk_42 (dk_at dksX0_fewest_5 2 rfl rfl)
theorem dX0_fewest_117 : decode cX0_fewest 117 = .ok (.getfield 97, 3) := dk_180 0 97 (dk_at dksX0_fewest_5 3 rfl rfl)
theorem dX0_fewest_120 : decode cX0_fewest 120 = .ok (.iload 6, 2) := dk_21 6 (dk_at dksX0_fewest_5 6 rfl rfl)
theorem dX0_fewest_122 : decode cX0_fewest 122 = .ok (.iaload, 1) := dk_46 (dk_at dksX0_fewest_5 8 rfl rfl)
theorem dX0_fewest_123 : decode cX0_fewest 123 = .ok (.iastore, 1) := dk_79 (dk_at dksX0_fewest_5 9 rfl rfl)
theorem dX0_fewest_124 : decode cX0_fewest 124 = .ok (.iinc 6 1, 3) := dk_132 6 1 (dk_at dksX0_fewest_5 10 rfl rfl)
theorem dX0_fewest_127 : decode cX0_fewest 127 = .ok (.goto (-24), 3) := dk_167 255 232 (dk_at dksX0_fewest_5 13 rfl rfl)
theorem dX0_fewest_130 : decode cX0_fewest 130 = .ok (.iinc 4 1, 3) := dk_132 4 1 (dk_at dksX0_fewest_5 16 rfl rfl)
theorem dX0_fewest_133 : decode cX0_fewest 133 = .ok (.goto (-95), 3) := dk_167 255 161 (dk_at dksX0_fewest_5 19 rfl rfl)
theorem dX0_fewest_136 : decode cX0_fewest 136 = .ok (.iload_n 3, 1) := dk_29 (dk_at dksX0_fewest_5 22 rfl rfl)
theorem dX0_fewest_137 : decode cX0_fewest 137 = .ok (.ldc_w 329, 3) := dk_19 1 73 (dk_at dksX0_fewest_6 0 rfl rfl)
theorem dX0_fewest_140 : decode cX0_fewest 140 = .ok (.if_icmp .ne 8, 3) := dk_160 0 8 (dk_at dksX0_fewest_6 3 rfl rfl)
theorem dX0_fewest_143 : decode cX0_fewest 143 = .ok (.bipush (-2), 2) := dk_16 254 (dk_at dksX0_fewest_6 6 rfl rfl)
theorem dX0_fewest_145 : decode cX0_fewest 145 = .ok (.goto 27, 3) := dk_167 0 27 (dk_at dksX0_fewest_6 8 rfl rfl)
theorem dX0_fewest_148 : decode cX0_fewest 148 = .ok (.iload_n 2, 1) := dk_28 (dk_at dksX0_fewest_6 11 rfl rfl)
theorem dX0_fewest_149 : decode cX0_fewest 149 = .ok (.iconst (-1), 1) := dk_2 (dk_at dksX0_fewest_6 12 rfl rfl)
theorem dX0_fewest_150 : decode cX0_fewest 150 = .ok (.if_icmp .ne 7, 3) := dk_160 0 7 (dk_at dksX0_fewest_6 13 rfl rfl)
theorem dX0_fewest_153 : decode cX0_fewest 153 = .ok (.iload_n 3, 1) := dk_29 (dk_at dksX0_fewest_6 16 rfl rfl)
theorem dX0_fewest_154 : decode cX0_fewest 154 = .ok (.goto 18, 3) := dk_167 0 18 (dk_at dksX0_fewest_6 17 rfl rfl)
theorem dX0_fewest_157 : decode cX0_fewest 157 = .ok (.iload_n 2, 1) := dk_28 (dk_at dksX0_fewest_6 20 rfl rfl)
theorem dX0_fewest_158 : decode cX0_fewest 158 = .ok (.iload_n 3, 1) := dk_29 (dk_at dksX0_fewest_6 21 rfl rfl)
theorem dX0_fewest_159 : decode cX0_fewest 159 = .ok (.if_icmp .ge 12, 3) := dk_162 0 12 (dk_at dksX0_fewest_7 0 rfl rfl)
theorem dX0_fewest_162 : decode cX0_fewest 162 = .ok (.aload_n 0, 1) := dk_42 (dk_at dksX0_fewest_7 3 rfl rfl)
theorem dX0_fewest_163 : decode cX0_fewest 163 = .ok (.getfield 94, 3) := dk_180 0 94 (dk_at dksX0_fewest_7 4 rfl rfl)
theorem dX0_fewest_166 : decode cX0_fewest 166 = .ok (.iload_n 2, 1) := dk_28 (dk_at dksX0_fewest_7 7 rfl rfl)
theorem dX0_fewest_167 : decode cX0_fewest 167 = .ok (.iaload, 1) := dk_46 (dk_at dksX0_fewest_7 8 rfl rfl)
theorem dX0_fewest_168 : decode cX0_fewest 168 = .ok (.goto 4, 3) := dk_167 0 4 (dk_at dksX0_fewest_7 9 rfl rfl)
theorem dX0_fewest_171 : decode cX0_fewest 171 = .ok (.iconst (-1), 1) := dk_2 (dk_at dksX0_fewest_7 12 rfl rfl)
theorem dX0_fewest_172 : decode cX0_fewest 172 = .ok (.ireturn, 1) := dk_172 (dk_at dksX0_fewest_7 13 rfl rfl)
def dkwX0_laysRow_3 : List UInt8 := [54, 4, 29, 4, 21, 6, 120, 2, 130, 126, 62, 132, 5, 1, 167, 255, 180, 177]
abbrev dktX0_laysRow_3 : List UInt8 := dkwX0_laysRow_3 ++ []
def dkwX0_laysRow_2 : List UInt8 := [21, 6, 46, 164, 0, 9, 132, 6, 1, 167, 255, 215, 42, 180, 0, 97, 21, 5, 21, 6, 79, 21, 6]
abbrev dktX0_laysRow_2 : List UInt8 := dkwX0_laysRow_2 ++ dktX0_laysRow_3
def dkwX0_laysRow_1 : List UInt8 := [153, 0, 29, 21, 4, 155, 0, 30, 28, 42, 180, 0, 90, 29, 46, 96, 42, 180, 0, 87, 21, 4, 50]
abbrev dktX0_laysRow_1 : List UInt8 := dkwX0_laysRow_1 ++ dktX0_laysRow_2
def dkwX0_laysRow_0 : List UInt8 := [27, 62, 2, 54, 4, 3, 54, 5, 29, 153, 0, 78, 3, 54, 6, 42, 180, 0, 84, 29, 50, 21, 6, 46]
abbrev dktX0_laysRow_0 : List UInt8 := dkwX0_laysRow_0 ++ dktX0_laysRow_1
theorem dksX0_laysRow_0 : cX0_laysRow.data.toList.drop 0 = dktX0_laysRow_0 := by decide +kernel
theorem dksX0_laysRow_1 : cX0_laysRow.data.toList.drop 24 = dktX0_laysRow_1 := dk_seg dksX0_laysRow_0 24 rfl rfl
theorem dksX0_laysRow_2 : cX0_laysRow.data.toList.drop 47 = dktX0_laysRow_2 := dk_seg dksX0_laysRow_1 23 rfl rfl
theorem dksX0_laysRow_3 : cX0_laysRow.data.toList.drop 70 = dktX0_laysRow_3 := dk_seg dksX0_laysRow_2 23 rfl rfl
theorem dX0_laysRow_0 : decode cX0_laysRow 0 = .ok (.iload_n 1, 1) := dk_27 (dk_at dksX0_laysRow_0 0 rfl rfl)
theorem dX0_laysRow_1 : decode cX0_laysRow 1 = .ok (.istore_n 3, 1) := dk_62 (dk_at dksX0_laysRow_0 1 rfl rfl)
theorem dX0_laysRow_2 : decode cX0_laysRow 2 = .ok (.iconst (-1), 1) := dk_2 (dk_at dksX0_laysRow_0 2 rfl rfl)
theorem dX0_laysRow_3 : decode cX0_laysRow 3 = .ok (.istore 4, 2) := dk_54 4 (dk_at dksX0_laysRow_0 3 rfl rfl)
theorem dX0_laysRow_5 : decode cX0_laysRow 5 = .ok (.iconst 0, 1) := dk_3 (dk_at dksX0_laysRow_0 5 rfl rfl)
theorem dX0_laysRow_6 : decode cX0_laysRow 6 = .ok (.istore 5, 2) := dk_54 5 (dk_at dksX0_laysRow_0 6 rfl rfl)
theorem dX0_laysRow_8 : decode cX0_laysRow 8 = .ok (.iload_n 3, 1) := dk_29 (dk_at dksX0_laysRow_0 8 rfl rfl)
theorem dX0_laysRow_9 : decode cX0_laysRow 9 = .ok (.ifCond .eq 78, 3) := dk_153 0 78 (dk_at dksX0_laysRow_0 9 rfl rfl)
theorem dX0_laysRow_12 : decode cX0_laysRow 12 = .ok (.iconst 0, 1) := dk_3 (dk_at dksX0_laysRow_0 12 rfl rfl)
theorem dX0_laysRow_13 : decode cX0_laysRow 13 = .ok (.istore 6, 2) := dk_54 6 (dk_at dksX0_laysRow_0 13 rfl rfl)
theorem dX0_laysRow_15 : decode cX0_laysRow 15 = .ok (.aload_n 0, 1) := dk_42 (dk_at dksX0_laysRow_0 15 rfl rfl)
theorem dX0_laysRow_16 : decode cX0_laysRow 16 = .ok (.getfield 84, 3) := dk_180 0 84 (dk_at dksX0_laysRow_0 16 rfl rfl)
theorem dX0_laysRow_19 : decode cX0_laysRow 19 = .ok (.iload_n 3, 1) := dk_29 (dk_at dksX0_laysRow_0 19 rfl rfl)
theorem dX0_laysRow_20 : decode cX0_laysRow 20 = .ok (.aaload, 1) := dk_50 (dk_at dksX0_laysRow_0 20 rfl rfl)
theorem dX0_laysRow_21 : decode cX0_laysRow 21 = .ok (.iload 6, 2) := dk_21 6 (dk_at dksX0_laysRow_0 21 rfl rfl)
theorem dX0_laysRow_23 : decode cX0_laysRow 23 = .ok (.iaload, 1) := dk_46 (dk_at dksX0_laysRow_0 23 rfl rfl)
theorem dX0_laysRow_24 : decode cX0_laysRow 24 = .ok (.ifCond .eq 29, 3) := dk_153 0 29 (dk_at dksX0_laysRow_1 0 rfl rfl)
theorem dX0_laysRow_27 : decode cX0_laysRow 27 = .ok (.iload 4, 2) := dk_21 4 (dk_at dksX0_laysRow_1 3 rfl rfl)
theorem dX0_laysRow_29 : decode cX0_laysRow 29 = .ok (.ifCond .lt 30, 3) := dk_155 0 30 (dk_at dksX0_laysRow_1 5 rfl rfl)
theorem dX0_laysRow_32 : decode cX0_laysRow 32 = .ok (.iload_n 2, 1) := dk_28 (dk_at dksX0_laysRow_1 8 rfl rfl)
theorem dX0_laysRow_33 : decode cX0_laysRow 33 = .ok (.aload_n 0, 1) := dk_42 (dk_at dksX0_laysRow_1 9 rfl rfl)
theorem dX0_laysRow_34 : decode cX0_laysRow 34 = .ok (.getfield 90, 3) := dk_180 0 90 (dk_at dksX0_laysRow_1 10 rfl rfl)
theorem dX0_laysRow_37 : decode cX0_laysRow 37 = .ok (.iload_n 3, 1) := dk_29 (dk_at dksX0_laysRow_1 13 rfl rfl)
theorem dX0_laysRow_38 : decode cX0_laysRow 38 = .ok (.iaload, 1) := dk_46 (dk_at dksX0_laysRow_1 14 rfl rfl)
theorem dX0_laysRow_39 : decode cX0_laysRow 39 = .ok (.iadd, 1) := dk_96 (dk_at dksX0_laysRow_1 15 rfl rfl)
theorem dX0_laysRow_40 : decode cX0_laysRow 40 = .ok (.aload_n 0, 1) := dk_42 (dk_at dksX0_laysRow_1 16 rfl rfl)
theorem dX0_laysRow_41 : decode cX0_laysRow 41 = .ok (.getfield 87, 3) := dk_180 0 87 (dk_at dksX0_laysRow_1 17 rfl rfl)
theorem dX0_laysRow_44 : decode cX0_laysRow 44 = .ok (.iload 4, 2) := dk_21 4 (dk_at dksX0_laysRow_1 20 rfl rfl)
theorem dX0_laysRow_46 : decode cX0_laysRow 46 = .ok (.aaload, 1) := dk_50 (dk_at dksX0_laysRow_1 22 rfl rfl)
theorem dX0_laysRow_47 : decode cX0_laysRow 47 = .ok (.iload 6, 2) := dk_21 6 (dk_at dksX0_laysRow_2 0 rfl rfl)
theorem dX0_laysRow_49 : decode cX0_laysRow 49 = .ok (.iaload, 1) := dk_46 (dk_at dksX0_laysRow_2 2 rfl rfl)
theorem dX0_laysRow_50 : decode cX0_laysRow 50 = .ok (.if_icmp .le 9, 3) := dk_164 0 9 (dk_at dksX0_laysRow_2 3 rfl rfl)
theorem dX0_laysRow_53 : decode cX0_laysRow 53 = .ok (.iinc 6 1, 3) := dk_132 6 1 (dk_at dksX0_laysRow_2 6 rfl rfl)
theorem dX0_laysRow_56 : decode cX0_laysRow 56 = .ok (.goto (-41), 3) := dk_167 255 215 (dk_at dksX0_laysRow_2 9 rfl rfl)
theorem dX0_laysRow_59 : decode cX0_laysRow 59 = .ok (.aload_n 0, 1) := dk_42 (dk_at dksX0_laysRow_2 12 rfl rfl)
theorem dX0_laysRow_60 : decode cX0_laysRow 60 = .ok (.getfield 97, 3) := dk_180 0 97 (dk_at dksX0_laysRow_2 13 rfl rfl)
theorem dX0_laysRow_63 : decode cX0_laysRow 63 = .ok (.iload 5, 2) := dk_21 5 (dk_at dksX0_laysRow_2 16 rfl rfl)
theorem dX0_laysRow_65 : decode cX0_laysRow 65 = .ok (.iload 6, 2) := dk_21 6 (dk_at dksX0_laysRow_2 18 rfl rfl)
theorem dX0_laysRow_67 : decode cX0_laysRow 67 = .ok (.iastore, 1) := dk_79 (dk_at dksX0_laysRow_2 20 rfl rfl)
theorem dX0_laysRow_68 : decode cX0_laysRow 68 = .ok (.iload 6, 2) := dk_21 6 (dk_at dksX0_laysRow_2 21 rfl rfl)
theorem dX0_laysRow_70 : decode cX0_laysRow 70 = .ok (.istore 4, 2) := dk_54 4 (dk_at dksX0_laysRow_3 0 rfl rfl)
theorem dX0_laysRow_72 : decode cX0_laysRow 72 = .ok (.iload_n 3, 1) := dk_29 (dk_at dksX0_laysRow_3 2 rfl rfl)
theorem dX0_laysRow_73 : decode cX0_laysRow 73 = .ok (.iconst 1, 1) := dk_4 (dk_at dksX0_laysRow_3 3 rfl rfl)
theorem dX0_laysRow_74 : decode cX0_laysRow 74 = .ok (.iload 6, 2) := dk_21 6 (dk_at dksX0_laysRow_3 4 rfl rfl)
theorem dX0_laysRow_76 : decode cX0_laysRow 76 = .ok (.ishl, 1) := dk_120 (dk_at dksX0_laysRow_3 6 rfl rfl)
theorem dX0_laysRow_77 : decode cX0_laysRow 77 = .ok (.iconst (-1), 1) := dk_2 (dk_at dksX0_laysRow_3 7 rfl rfl)
theorem dX0_laysRow_78 : decode cX0_laysRow 78 = .ok (.ixor, 1) := dk_130 (dk_at dksX0_laysRow_3 8 rfl rfl)
theorem dX0_laysRow_79 : decode cX0_laysRow 79 = .ok (.iand, 1) := dk_126 (dk_at dksX0_laysRow_3 9 rfl rfl)
theorem dX0_laysRow_80 : decode cX0_laysRow 80 = .ok (.istore_n 3, 1) := dk_62 (dk_at dksX0_laysRow_3 10 rfl rfl)
theorem dX0_laysRow_81 : decode cX0_laysRow 81 = .ok (.iinc 5 1, 3) := dk_132 5 1 (dk_at dksX0_laysRow_3 11 rfl rfl)
theorem dX0_laysRow_84 : decode cX0_laysRow 84 = .ok (.goto (-76), 3) := dk_167 255 180 (dk_at dksX0_laysRow_3 14 rfl rfl)
theorem dX0_laysRow_87 : decode cX0_laysRow 87 = .ok (.return_, 1) := dk_177 (dk_at dksX0_laysRow_3 17 rfl rfl)
def dkwX0_isLower_2 : List UInt8 := [167, 255, 212, 3, 172]
abbrev dktX0_isLower_2 : List UInt8 := dkwX0_isLower_2 ++ []
def dkwX0_isLower_1 : List UInt8 := [180, 0, 97, 28, 46, 42, 180, 0, 94, 28, 46, 162, 0, 7, 4, 167, 0, 4, 3, 172, 132, 2, 1]
abbrev dktX0_isLower_1 : List UInt8 := dkwX0_isLower_1 ++ dktX0_isLower_2
def dkwX0_isLower_0 : List UInt8 := [3, 61, 28, 27, 162, 0, 45, 42, 180, 0, 97, 28, 46, 42, 180, 0, 94, 28, 46, 159, 0, 24, 42]
abbrev dktX0_isLower_0 : List UInt8 := dkwX0_isLower_0 ++ dktX0_isLower_1
theorem dksX0_isLower_0 : cX0_isLower.data.toList.drop 0 = dktX0_isLower_0 := by decide +kernel
theorem dksX0_isLower_1 : cX0_isLower.data.toList.drop 23 = dktX0_isLower_1 := dk_seg dksX0_isLower_0 23 rfl rfl
theorem dksX0_isLower_2 : cX0_isLower.data.toList.drop 46 = dktX0_isLower_2 := dk_seg dksX0_isLower_1 23 rfl rfl
theorem dX0_isLower_0 : decode cX0_isLower 0 = .ok (.iconst 0, 1) := dk_3 (dk_at dksX0_isLower_0 0 rfl rfl)
theorem dX0_isLower_1 : decode cX0_isLower 1 = .ok (.istore_n 2, 1) := dk_61 (dk_at dksX0_isLower_0 1 rfl rfl)
theorem dX0_isLower_2 : decode cX0_isLower 2 = .ok (.iload_n 2, 1) := dk_28 (dk_at dksX0_isLower_0 2 rfl rfl)
theorem dX0_isLower_3 : decode cX0_isLower 3 = .ok (.iload_n 1, 1) := dk_27 (dk_at dksX0_isLower_0 3 rfl rfl)
theorem dX0_isLower_4 : decode cX0_isLower 4 = .ok (.if_icmp .ge 45, 3) := dk_162 0 45 (dk_at dksX0_isLower_0 4 rfl rfl)
theorem dX0_isLower_7 : decode cX0_isLower 7 = .ok (.aload_n 0, 1) := dk_42 (dk_at dksX0_isLower_0 7 rfl rfl)
theorem dX0_isLower_8 : decode cX0_isLower 8 = .ok (.getfield 97, 3) := dk_180 0 97 (dk_at dksX0_isLower_0 8 rfl rfl)
theorem dX0_isLower_11 : decode cX0_isLower 11 = .ok (.iload_n 2, 1) := dk_28 (dk_at dksX0_isLower_0 11 rfl rfl)
theorem dX0_isLower_12 : decode cX0_isLower 12 = .ok (.iaload, 1) := dk_46 (dk_at dksX0_isLower_0 12 rfl rfl)
theorem dX0_isLower_13 : decode cX0_isLower 13 = .ok (.aload_n 0, 1) := dk_42 (dk_at dksX0_isLower_0 13 rfl rfl)
theorem dX0_isLower_14 : decode cX0_isLower 14 = .ok (.getfield 94, 3) := dk_180 0 94 (dk_at dksX0_isLower_0 14 rfl rfl)
theorem dX0_isLower_17 : decode cX0_isLower 17 = .ok (.iload_n 2, 1) := dk_28 (dk_at dksX0_isLower_0 17 rfl rfl)
theorem dX0_isLower_18 : decode cX0_isLower 18 = .ok (.iaload, 1) := dk_46 (dk_at dksX0_isLower_0 18 rfl rfl)
theorem dX0_isLower_19 : decode cX0_isLower 19 = .ok (.if_icmp .eq 24, 3) := dk_159 0 24 (dk_at dksX0_isLower_0 19 rfl rfl)
theorem dX0_isLower_22 : decode cX0_isLower 22 = .ok (.aload_n 0, 1) := dk_42 (dk_at dksX0_isLower_0 22 rfl rfl)
theorem dX0_isLower_23 : decode cX0_isLower 23 = .ok (.getfield 97, 3) := dk_180 0 97 (dk_at dksX0_isLower_1 0 rfl rfl)
theorem dX0_isLower_26 : decode cX0_isLower 26 = .ok (.iload_n 2, 1) := dk_28 (dk_at dksX0_isLower_1 3 rfl rfl)
theorem dX0_isLower_27 : decode cX0_isLower 27 = .ok (.iaload, 1) := dk_46 (dk_at dksX0_isLower_1 4 rfl rfl)
theorem dX0_isLower_28 : decode cX0_isLower 28 = .ok (.aload_n 0, 1) := dk_42 (dk_at dksX0_isLower_1 5 rfl rfl)
theorem dX0_isLower_29 : decode cX0_isLower 29 = .ok (.getfield 94, 3) := dk_180 0 94 (dk_at dksX0_isLower_1 6 rfl rfl)
theorem dX0_isLower_32 : decode cX0_isLower 32 = .ok (.iload_n 2, 1) := dk_28 (dk_at dksX0_isLower_1 9 rfl rfl)
theorem dX0_isLower_33 : decode cX0_isLower 33 = .ok (.iaload, 1) := dk_46 (dk_at dksX0_isLower_1 10 rfl rfl)
theorem dX0_isLower_34 : decode cX0_isLower 34 = .ok (.if_icmp .ge 7, 3) := dk_162 0 7 (dk_at dksX0_isLower_1 11 rfl rfl)
theorem dX0_isLower_37 : decode cX0_isLower 37 = .ok (.iconst 1, 1) := dk_4 (dk_at dksX0_isLower_1 14 rfl rfl)
theorem dX0_isLower_38 : decode cX0_isLower 38 = .ok (.goto 4, 3) := dk_167 0 4 (dk_at dksX0_isLower_1 15 rfl rfl)
theorem dX0_isLower_41 : decode cX0_isLower 41 = .ok (.iconst 0, 1) := dk_3 (dk_at dksX0_isLower_1 18 rfl rfl)
theorem dX0_isLower_42 : decode cX0_isLower 42 = .ok (.ireturn, 1) := dk_172 (dk_at dksX0_isLower_1 19 rfl rfl)
theorem dX0_isLower_43 : decode cX0_isLower 43 = .ok (.iinc 2 1, 3) := dk_132 2 1 (dk_at dksX0_isLower_1 20 rfl rfl)
theorem dX0_isLower_46 : decode cX0_isLower 46 = .ok (.goto (-44), 3) := dk_167 255 212 (dk_at dksX0_isLower_2 0 rfl rfl)
theorem dX0_isLower_49 : decode cX0_isLower 49 = .ok (.iconst 0, 1) := dk_3 (dk_at dksX0_isLower_2 3 rfl rfl)
theorem dX0_isLower_50 : decode cX0_isLower 50 = .ok (.ireturn, 1) := dk_172 (dk_at dksX0_isLower_2 4 rfl rfl)
def dkwX0_needed_3 : List UInt8 := [167, 255, 225, 29, 153, 0, 7, 28, 167, 0, 5, 16, 254, 172]
abbrev dktX0_needed_3 : List UInt8 := dkwX0_needed_3 ++ []
def dkwX0_needed_2 : List UInt8 := [42, 21, 4, 182, 1, 63, 154, 0, 6, 167, 0, 10, 28, 21, 4, 126, 61, 4, 62, 132, 4, 1]
abbrev dktX0_needed_2 : List UInt8 := dkwX0_needed_2 ++ dktX0_needed_3
def dkwX0_needed_1 : List UInt8 := [182, 1, 66, 42, 42, 180, 0, 51, 27, 182, 1, 59, 4, 54, 4, 21, 4, 42, 182, 1, 41, 162, 0, 28]
abbrev dktX0_needed_1 : List UInt8 := dkwX0_needed_1 ++ dktX0_needed_2
def dkwX0_needed_0 : List UInt8 := [27, 184, 0, 249, 154, 0, 5, 2, 172, 42, 182, 1, 41, 4, 100, 61, 3, 62, 42, 42, 180, 0, 51]
abbrev dktX0_needed_0 : List UInt8 := dkwX0_needed_0 ++ dktX0_needed_1
theorem dksX0_needed_0 : cX0_needed.data.toList.drop 0 = dktX0_needed_0 := by decide +kernel
theorem dksX0_needed_1 : cX0_needed.data.toList.drop 23 = dktX0_needed_1 := dk_seg dksX0_needed_0 23 rfl rfl
theorem dksX0_needed_2 : cX0_needed.data.toList.drop 47 = dktX0_needed_2 := dk_seg dksX0_needed_1 24 rfl rfl
theorem dksX0_needed_3 : cX0_needed.data.toList.drop 69 = dktX0_needed_3 := dk_seg dksX0_needed_2 22 rfl rfl
theorem dX0_needed_0 : decode cX0_needed 0 = .ok (.iload_n 1, 1) := dk_27 (dk_at dksX0_needed_0 0 rfl rfl)
theorem dX0_needed_1 : decode cX0_needed 1 = .ok (.invokestatic 249, 3) := dk_184 0 249 (dk_at dksX0_needed_0 1 rfl rfl)
theorem dX0_needed_4 : decode cX0_needed 4 = .ok (.ifCond .ne 5, 3) := dk_154 0 5 (dk_at dksX0_needed_0 4 rfl rfl)
theorem dX0_needed_7 : decode cX0_needed 7 = .ok (.iconst (-1), 1) := dk_2 (dk_at dksX0_needed_0 7 rfl rfl)
theorem dX0_needed_8 : decode cX0_needed 8 = .ok (.ireturn, 1) := dk_172 (dk_at dksX0_needed_0 8 rfl rfl)
theorem dX0_needed_9 : decode cX0_needed 9 = .ok (.aload_n 0, 1) := dk_42 (dk_at dksX0_needed_0 9 rfl rfl)
theorem dX0_needed_10 : decode cX0_needed 10 = .ok (.invokevirtual 297, 3) := dk_182 1 41 (dk_at dksX0_needed_0 10 rfl rfl)
theorem dX0_needed_13 : decode cX0_needed 13 = .ok (.iconst 1, 1) := dk_4 (dk_at dksX0_needed_0 13 rfl rfl)
theorem dX0_needed_14 : decode cX0_needed 14 = .ok (.isub, 1) := dk_100 (dk_at dksX0_needed_0 14 rfl rfl)
theorem dX0_needed_15 : decode cX0_needed 15 = .ok (.istore_n 2, 1) := dk_61 (dk_at dksX0_needed_0 15 rfl rfl)
theorem dX0_needed_16 : decode cX0_needed 16 = .ok (.iconst 0, 1) := dk_3 (dk_at dksX0_needed_0 16 rfl rfl)
theorem dX0_needed_17 : decode cX0_needed 17 = .ok (.istore_n 3, 1) := dk_62 (dk_at dksX0_needed_0 17 rfl rfl)
theorem dX0_needed_18 : decode cX0_needed 18 = .ok (.aload_n 0, 1) := dk_42 (dk_at dksX0_needed_0 18 rfl rfl)
theorem dX0_needed_19 : decode cX0_needed 19 = .ok (.aload_n 0, 1) := dk_42 (dk_at dksX0_needed_0 19 rfl rfl)
theorem dX0_needed_20 : decode cX0_needed 20 = .ok (.getfield 51, 3) := dk_180 0 51 (dk_at dksX0_needed_0 20 rfl rfl)
theorem dX0_needed_23 : decode cX0_needed 23 = .ok (.invokevirtual 322, 3) := dk_182 1 66 (dk_at dksX0_needed_1 0 rfl rfl)
theorem dX0_needed_26 : decode cX0_needed 26 = .ok (.aload_n 0, 1) := dk_42 (dk_at dksX0_needed_1 3 rfl rfl)
theorem dX0_needed_27 : decode cX0_needed 27 = .ok (.aload_n 0, 1) := dk_42 (dk_at dksX0_needed_1 4 rfl rfl)
theorem dX0_needed_28 : decode cX0_needed 28 = .ok (.getfield 51, 3) := dk_180 0 51 (dk_at dksX0_needed_1 5 rfl rfl)
theorem dX0_needed_31 : decode cX0_needed 31 = .ok (.iload_n 1, 1) := dk_27 (dk_at dksX0_needed_1 8 rfl rfl)
theorem dX0_needed_32 : decode cX0_needed 32 = .ok (.invokevirtual 315, 3) := dk_182 1 59 (dk_at dksX0_needed_1 9 rfl rfl)
theorem dX0_needed_35 : decode cX0_needed 35 = .ok (.iconst 1, 1) := dk_4 (dk_at dksX0_needed_1 12 rfl rfl)
theorem dX0_needed_36 : decode cX0_needed 36 = .ok (.istore 4, 2) := dk_54 4 (dk_at dksX0_needed_1 13 rfl rfl)
theorem dX0_needed_38 : decode cX0_needed 38 = .ok (.iload 4, 2) := dk_21 4 (dk_at dksX0_needed_1 15 rfl rfl)
theorem dX0_needed_40 : decode cX0_needed 40 = .ok (.aload_n 0, 1) := dk_42 (dk_at dksX0_needed_1 17 rfl rfl)
theorem dX0_needed_41 : decode cX0_needed 41 = .ok (.invokevirtual 297, 3) := dk_182 1 41 (dk_at dksX0_needed_1 18 rfl rfl)
theorem dX0_needed_44 : decode cX0_needed 44 = .ok (.if_icmp .ge 28, 3) := dk_162 0 28 (dk_at dksX0_needed_1 21 rfl rfl)
theorem dX0_needed_47 : decode cX0_needed 47 = .ok (.aload_n 0, 1) := dk_42 (dk_at dksX0_needed_2 0 rfl rfl)
theorem dX0_needed_48 : decode cX0_needed 48 = .ok (.iload 4, 2) := dk_21 4 (dk_at dksX0_needed_2 1 rfl rfl)
theorem dX0_needed_50 : decode cX0_needed 50 = .ok (.invokevirtual 319, 3) := dk_182 1 63 (dk_at dksX0_needed_2 3 rfl rfl)
theorem dX0_needed_53 : decode cX0_needed 53 = .ok (.ifCond .ne 6, 3) := dk_154 0 6 (dk_at dksX0_needed_2 6 rfl rfl)
theorem dX0_needed_56 : decode cX0_needed 56 = .ok (.goto 10, 3) := dk_167 0 10 (dk_at dksX0_needed_2 9 rfl rfl)
theorem dX0_needed_59 : decode cX0_needed 59 = .ok (.iload_n 2, 1) := dk_28 (dk_at dksX0_needed_2 12 rfl rfl)
theorem dX0_needed_60 : decode cX0_needed 60 = .ok (.iload 4, 2) := dk_21 4 (dk_at dksX0_needed_2 13 rfl rfl)
theorem dX0_needed_62 : decode cX0_needed 62 = .ok (.iand, 1) := dk_126 (dk_at dksX0_needed_2 15 rfl rfl)
theorem dX0_needed_63 : decode cX0_needed 63 = .ok (.istore_n 2, 1) := dk_61 (dk_at dksX0_needed_2 16 rfl rfl)
theorem dX0_needed_64 : decode cX0_needed 64 = .ok (.iconst 1, 1) := dk_4 (dk_at dksX0_needed_2 17 rfl rfl)
theorem dX0_needed_65 : decode cX0_needed 65 = .ok (.istore_n 3, 1) := dk_62 (dk_at dksX0_needed_2 18 rfl rfl)
theorem dX0_needed_66 : decode cX0_needed 66 = .ok (.iinc 4 1, 3) := dk_132 4 1 (dk_at dksX0_needed_2 19 rfl rfl)
theorem dX0_needed_69 : decode cX0_needed 69 = .ok (.goto (-31), 3) := dk_167 255 225 (dk_at dksX0_needed_3 0 rfl rfl)
theorem dX0_needed_72 : decode cX0_needed 72 = .ok (.iload_n 3, 1) := dk_29 (dk_at dksX0_needed_3 3 rfl rfl)
theorem dX0_needed_73 : decode cX0_needed 73 = .ok (.ifCond .eq 7, 3) := dk_153 0 7 (dk_at dksX0_needed_3 4 rfl rfl)
theorem dX0_needed_76 : decode cX0_needed 76 = .ok (.iload_n 2, 1) := dk_28 (dk_at dksX0_needed_3 7 rfl rfl)
theorem dX0_needed_77 : decode cX0_needed 77 = .ok (.goto 5, 3) := dk_167 0 5 (dk_at dksX0_needed_3 8 rfl rfl)
theorem dX0_needed_80 : decode cX0_needed 80 = .ok (.bipush (-2), 2) := dk_16 254 (dk_at dksX0_needed_3 11 rfl rfl)
theorem dX0_needed_82 : decode cX0_needed 82 = .ok (.ireturn, 1) := dk_172 (dk_at dksX0_needed_3 13 rfl rfl)
def dkwX0_soon_3 : List UInt8 := [167, 255, 210, 16, 254, 172]
abbrev dktX0_soon_3 : List UInt8 := dkwX0_soon_3 ++ []
def dkwX0_soon_2 : List UInt8 := [158, 0, 5, 28, 172, 42, 180, 0, 55, 42, 180, 0, 40, 42, 180, 0, 75, 182, 1, 5, 132, 2, 1]
abbrev dktX0_soon_2 : List UInt8 := dkwX0_soon_2 ++ dktX0_soon_3
def dkwX0_soon_1 : List UInt8 := [16, 60, 163, 0, 46, 42, 42, 180, 0, 55, 182, 1, 66, 42, 42, 180, 0, 55, 27, 182, 1, 69]
abbrev dktX0_soon_1 : List UInt8 := dkwX0_soon_1 ++ dktX0_soon_2
def dkwX0_soon_0 : List UInt8 := [27, 184, 0, 249, 154, 0, 5, 2, 172, 42, 180, 0, 55, 42, 180, 0, 51, 182, 0, 221, 3, 61, 28]
abbrev dktX0_soon_0 : List UInt8 := dkwX0_soon_0 ++ dktX0_soon_1
theorem dksX0_soon_0 : cX0_soon.data.toList.drop 0 = dktX0_soon_0 := by decide +kernel
theorem dksX0_soon_1 : cX0_soon.data.toList.drop 23 = dktX0_soon_1 := dk_seg dksX0_soon_0 23 rfl rfl
theorem dksX0_soon_2 : cX0_soon.data.toList.drop 45 = dktX0_soon_2 := dk_seg dksX0_soon_1 22 rfl rfl
theorem dksX0_soon_3 : cX0_soon.data.toList.drop 68 = dktX0_soon_3 := dk_seg dksX0_soon_2 23 rfl rfl
theorem dX0_soon_0 : decode cX0_soon 0 = .ok (.iload_n 1, 1) := dk_27 (dk_at dksX0_soon_0 0 rfl rfl)
theorem dX0_soon_1 : decode cX0_soon 1 = .ok (.invokestatic 249, 3) := dk_184 0 249 (dk_at dksX0_soon_0 1 rfl rfl)
theorem dX0_soon_4 : decode cX0_soon 4 = .ok (.ifCond .ne 5, 3) := dk_154 0 5 (dk_at dksX0_soon_0 4 rfl rfl)
theorem dX0_soon_7 : decode cX0_soon 7 = .ok (.iconst (-1), 1) := dk_2 (dk_at dksX0_soon_0 7 rfl rfl)
theorem dX0_soon_8 : decode cX0_soon 8 = .ok (.ireturn, 1) := dk_172 (dk_at dksX0_soon_0 8 rfl rfl)
theorem dX0_soon_9 : decode cX0_soon 9 = .ok (.aload_n 0, 1) := dk_42 (dk_at dksX0_soon_0 9 rfl rfl)
theorem dX0_soon_10 : decode cX0_soon 10 = .ok (.getfield 55, 3) := dk_180 0 55 (dk_at dksX0_soon_0 10 rfl rfl)
theorem dX0_soon_13 : decode cX0_soon 13 = .ok (.aload_n 0, 1) := dk_42 (dk_at dksX0_soon_0 13 rfl rfl)
theorem dX0_soon_14 : decode cX0_soon 14 = .ok (.getfield 51, 3) := dk_180 0 51 (dk_at dksX0_soon_0 14 rfl rfl)
theorem dX0_soon_17 : decode cX0_soon 17 = .ok (.invokevirtual 221, 3) := dk_182 0 221 (dk_at dksX0_soon_0 17 rfl rfl)
theorem dX0_soon_20 : decode cX0_soon 20 = .ok (.iconst 0, 1) := dk_3 (dk_at dksX0_soon_0 20 rfl rfl)
theorem dX0_soon_21 : decode cX0_soon 21 = .ok (.istore_n 2, 1) := dk_61 (dk_at dksX0_soon_0 21 rfl rfl)
theorem dX0_soon_22 : decode cX0_soon 22 = .ok (.iload_n 2, 1) := dk_28 (dk_at dksX0_soon_0 22 rfl rfl)
theorem dX0_soon_23 : decode cX0_soon 23 = .ok (.bipush 60, 2) := dk_16 60 (dk_at dksX0_soon_1 0 rfl rfl)
theorem dX0_soon_25 : decode cX0_soon 25 = .ok (.if_icmp .gt 46, 3) := dk_163 0 46 (dk_at dksX0_soon_1 2 rfl rfl)
theorem dX0_soon_28 : decode cX0_soon 28 = .ok (.aload_n 0, 1) := dk_42 (dk_at dksX0_soon_1 5 rfl rfl)
theorem dX0_soon_29 : decode cX0_soon 29 = .ok (.aload_n 0, 1) := dk_42 (dk_at dksX0_soon_1 6 rfl rfl)
theorem dX0_soon_30 : decode cX0_soon 30 = .ok (.getfield 55, 3) := dk_180 0 55 (dk_at dksX0_soon_1 7 rfl rfl)
theorem dX0_soon_33 : decode cX0_soon 33 = .ok (.invokevirtual 322, 3) := dk_182 1 66 (dk_at dksX0_soon_1 10 rfl rfl)
theorem dX0_soon_36 : decode cX0_soon 36 = .ok (.aload_n 0, 1) := dk_42 (dk_at dksX0_soon_1 13 rfl rfl)
theorem dX0_soon_37 : decode cX0_soon 37 = .ok (.aload_n 0, 1) := dk_42 (dk_at dksX0_soon_1 14 rfl rfl)
theorem dX0_soon_38 : decode cX0_soon 38 = .ok (.getfield 55, 3) := dk_180 0 55 (dk_at dksX0_soon_1 15 rfl rfl)
theorem dX0_soon_41 : decode cX0_soon 41 = .ok (.iload_n 1, 1) := dk_27 (dk_at dksX0_soon_1 18 rfl rfl)
theorem dX0_soon_42 : decode cX0_soon 42 = .ok (.invokevirtual 325, 3) := dk_182 1 69 (dk_at dksX0_soon_1 19 rfl rfl)
theorem dX0_soon_45 : decode cX0_soon 45 = .ok (.ifCond .le 5, 3) := dk_158 0 5 (dk_at dksX0_soon_2 0 rfl rfl)
theorem dX0_soon_48 : decode cX0_soon 48 = .ok (.iload_n 2, 1) := dk_28 (dk_at dksX0_soon_2 3 rfl rfl)
theorem dX0_soon_49 : decode cX0_soon 49 = .ok (.ireturn, 1) := dk_172 (dk_at dksX0_soon_2 4 rfl rfl)
theorem dX0_soon_50 : decode cX0_soon 50 = .ok (.aload_n 0, 1) := dk_42 (dk_at dksX0_soon_2 5 rfl rfl)
theorem dX0_soon_51 : decode cX0_soon 51 = .ok (.getfield 55, 3) := dk_180 0 55 (dk_at dksX0_soon_2 6 rfl rfl)
theorem dX0_soon_54 : decode cX0_soon 54 = .ok (.aload_n 0, 1) := dk_42 (dk_at dksX0_soon_2 9 rfl rfl)
theorem dX0_soon_55 : decode cX0_soon 55 = .ok (.getfield 40, 3) := dk_180 0 40 (dk_at dksX0_soon_2 10 rfl rfl)
theorem dX0_soon_58 : decode cX0_soon 58 = .ok (.aload_n 0, 1) := dk_42 (dk_at dksX0_soon_2 13 rfl rfl)
theorem dX0_soon_59 : decode cX0_soon 59 = .ok (.getfield 75, 3) := dk_180 0 75 (dk_at dksX0_soon_2 14 rfl rfl)
theorem dX0_soon_62 : decode cX0_soon 62 = .ok (.invokevirtual 261, 3) := dk_182 1 5 (dk_at dksX0_soon_2 17 rfl rfl)
theorem dX0_soon_65 : decode cX0_soon 65 = .ok (.iinc 2 1, 3) := dk_132 2 1 (dk_at dksX0_soon_2 20 rfl rfl)
theorem dX0_soon_68 : decode cX0_soon 68 = .ok (.goto (-46), 3) := dk_167 255 210 (dk_at dksX0_soon_3 0 rfl rfl)
theorem dX0_soon_71 : decode cX0_soon 71 = .ok (.bipush (-2), 2) := dk_16 254 (dk_at dksX0_soon_3 3 rfl rfl)
theorem dX0_soon_73 : decode cX0_soon 73 = .ok (.ireturn, 1) := dk_172 (dk_at dksX0_soon_3 5 rfl rfl)
def dkwX0_peace_7 : List UInt8 := [167, 255, 191, 16, 254, 172]
abbrev dktX0_peace_7 : List UInt8 := dkwX0_peace_7 ++ []
def dkwX0_peace_6 : List UInt8 := [21, 4, 182, 1, 94, 42, 21, 5, 182, 1, 94, 184, 1, 90, 172, 132, 5, 1, 167, 255, 209, 132, 4, 1]
abbrev dktX0_peace_6 : List UInt8 := dkwX0_peace_6 ++ dktX0_peace_7
def dkwX0_peace_5 : List UInt8 := [42, 27, 42, 21, 4, 182, 1, 94, 42, 21, 5, 182, 1, 94, 182, 1, 87, 153, 0, 21, 28, 5, 42]
abbrev dktX0_peace_5 : List UInt8 := dkwX0_peace_5 ++ dktX0_peace_6
def dkwX0_peace_4 : List UInt8 := [167, 255, 219, 3, 54, 4, 21, 4, 29, 162, 0, 65, 21, 4, 4, 96, 54, 5, 21, 5, 29, 162, 0, 47]
abbrev dktX0_peace_4 : List UInt8 := dkwX0_peace_4 ++ dktX0_peace_5
def dkwX0_peace_3 : List UInt8 := [182, 1, 87, 153, 0, 16, 28, 4, 42, 21, 4, 182, 1, 94, 2, 184, 1, 90, 172, 132, 4, 1]
abbrev dktX0_peace_3 : List UInt8 := dkwX0_peace_3 ++ dktX0_peace_4
def dkwX0_peace_2 : List UInt8 := [184, 1, 90, 172, 3, 54, 4, 21, 4, 29, 162, 0, 37, 42, 27, 42, 21, 4, 182, 1, 94, 2]
abbrev dktX0_peace_2 : List UInt8 := dkwX0_peace_2 ++ dktX0_peace_3
def dkwX0_peace_1 : List UInt8 := [182, 0, 154, 4, 100, 104, 5, 108, 62, 42, 27, 2, 2, 182, 1, 87, 153, 0, 11, 28, 3, 2, 2]
abbrev dktX0_peace_1 : List UInt8 := dkwX0_peace_1 ++ dktX0_peace_2
def dkwX0_peace_0 : List UInt8 := [27, 184, 0, 249, 153, 0, 12, 28, 3, 5, 184, 0, 156, 154, 0, 5, 2, 172, 42, 182, 0, 154, 42]
abbrev dktX0_peace_0 : List UInt8 := dkwX0_peace_0 ++ dktX0_peace_1
theorem dksX0_peace_0 : cX0_peace.data.toList.drop 0 = dktX0_peace_0 := by decide +kernel
theorem dksX0_peace_1 : cX0_peace.data.toList.drop 23 = dktX0_peace_1 := dk_seg dksX0_peace_0 23 rfl rfl
theorem dksX0_peace_2 : cX0_peace.data.toList.drop 46 = dktX0_peace_2 := dk_seg dksX0_peace_1 23 rfl rfl
theorem dksX0_peace_3 : cX0_peace.data.toList.drop 68 = dktX0_peace_3 := dk_seg dksX0_peace_2 22 rfl rfl
theorem dksX0_peace_4 : cX0_peace.data.toList.drop 90 = dktX0_peace_4 := dk_seg dksX0_peace_3 22 rfl rfl
theorem dksX0_peace_5 : cX0_peace.data.toList.drop 114 = dktX0_peace_5 := dk_seg dksX0_peace_4 24 rfl rfl
theorem dksX0_peace_6 : cX0_peace.data.toList.drop 137 = dktX0_peace_6 := dk_seg dksX0_peace_5 23 rfl rfl
theorem dksX0_peace_7 : cX0_peace.data.toList.drop 161 = dktX0_peace_7 := dk_seg dksX0_peace_6 24 rfl rfl
theorem dX0_peace_0 : decode cX0_peace 0 = .ok (.iload_n 1, 1) := dk_27 (dk_at dksX0_peace_0 0 rfl rfl)
theorem dX0_peace_1 : decode cX0_peace 1 = .ok (.invokestatic 249, 3) := dk_184 0 249 (dk_at dksX0_peace_0 1 rfl rfl)
theorem dX0_peace_4 : decode cX0_peace 4 = .ok (.ifCond .eq 12, 3) := dk_153 0 12 (dk_at dksX0_peace_0 4 rfl rfl)
theorem dX0_peace_7 : decode cX0_peace 7 = .ok (.iload_n 2, 1) := dk_28 (dk_at dksX0_peace_0 7 rfl rfl)
theorem dX0_peace_8 : decode cX0_peace 8 = .ok (.iconst 0, 1) := dk_3 (dk_at dksX0_peace_0 8 rfl rfl)
theorem dX0_peace_9 : decode cX0_peace 9 = .ok (.iconst 2, 1) := dk_5 (dk_at dksX0_peace_0 9 rfl rfl)
theorem dX0_peace_10 : decode cX0_peace 10 = .ok (.invokestatic 156, 3) := dk_184 0 156 (dk_at dksX0_peace_0 10 rfl rfl)
theorem dX0_peace_13 : decode cX0_peace 13 = .ok (.ifCond .ne 5, 3) := dk_154 0 5 (dk_at dksX0_peace_0 13 rfl rfl)
theorem dX0_peace_16 : decode cX0_peace 16 = .ok (.iconst (-1), 1) := dk_2 (dk_at dksX0_peace_0 16 rfl rfl)
theorem dX0_peace_17 : decode cX0_peace 17 = .ok (.ireturn, 1) := dk_172 (dk_at dksX0_peace_0 17 rfl rfl)
theorem dX0_peace_18 : decode cX0_peace 18 = .ok (.aload_n 0, 1) := dk_42 (dk_at dksX0_peace_0 18 rfl rfl)
theorem dX0_peace_19 : decode cX0_peace 19 = .ok (.invokevirtual 154, 3) := dk_182 0 154 (dk_at dksX0_peace_0 19 rfl rfl)
theorem dX0_peace_22 : decode cX0_peace 22 = .ok (.aload_n 0, 1) := dk_42 (dk_at dksX0_peace_0 22 rfl rfl)
theorem dX0_peace_23 : decode cX0_peace 23 = .ok (.invokevirtual 154, 3) := dk_182 0 154 (dk_at dksX0_peace_1 0 rfl rfl)
theorem dX0_peace_26 : decode cX0_peace 26 = .ok (.iconst 1, 1) := dk_4 (dk_at dksX0_peace_1 3 rfl rfl)
theorem dX0_peace_27 : decode cX0_peace 27 = .ok (.isub, 1) := dk_100 (dk_at dksX0_peace_1 4 rfl rfl)
theorem dX0_peace_28 : decode cX0_peace 28 = .ok (.imul, 1) := dk_104 (dk_at dksX0_peace_1 5 rfl rfl)
theorem dX0_peace_29 : decode cX0_peace 29 = .ok (.iconst 2, 1) := dk_5 (dk_at dksX0_peace_1 6 rfl rfl)
theorem dX0_peace_30 : decode cX0_peace 30 = .ok (.idiv, 1) := dk_108 (dk_at dksX0_peace_1 7 rfl rfl)
theorem dX0_peace_31 : decode cX0_peace 31 = .ok (.istore_n 3, 1) := dk_62 (dk_at dksX0_peace_1 8 rfl rfl)
theorem dX0_peace_32 : decode cX0_peace 32 = .ok (.aload_n 0, 1) := dk_42 (dk_at dksX0_peace_1 9 rfl rfl)
theorem dX0_peace_33 : decode cX0_peace 33 = .ok (.iload_n 1, 1) := dk_27 (dk_at dksX0_peace_1 10 rfl rfl)
theorem dX0_peace_34 : decode cX0_peace 34 = .ok (.iconst (-1), 1) := dk_2 (dk_at dksX0_peace_1 11 rfl rfl)
theorem dX0_peace_35 : decode cX0_peace 35 = .ok (.iconst (-1), 1) := dk_2 (dk_at dksX0_peace_1 12 rfl rfl)
theorem dX0_peace_36 : decode cX0_peace 36 = .ok (.invokevirtual 343, 3) := dk_182 1 87 (dk_at dksX0_peace_1 13 rfl rfl)
theorem dX0_peace_39 : decode cX0_peace 39 = .ok (.ifCond .eq 11, 3) := dk_153 0 11 (dk_at dksX0_peace_1 16 rfl rfl)
theorem dX0_peace_42 : decode cX0_peace 42 = .ok (.iload_n 2, 1) := dk_28 (dk_at dksX0_peace_1 19 rfl rfl)
theorem dX0_peace_43 : decode cX0_peace 43 = .ok (.iconst 0, 1) := dk_3 (dk_at dksX0_peace_1 20 rfl rfl)
theorem dX0_peace_44 : decode cX0_peace 44 = .ok (.iconst (-1), 1) := dk_2 (dk_at dksX0_peace_1 21 rfl rfl)
theorem dX0_peace_45 : decode cX0_peace 45 = .ok (.iconst (-1), 1) := dk_2 (dk_at dksX0_peace_1 22 rfl rfl)
theorem dX0_peace_46 : decode cX0_peace 46 = .ok (.invokestatic 346, 3) := dk_184 1 90 (dk_at dksX0_peace_2 0 rfl rfl)
theorem dX0_peace_49 : decode cX0_peace 49 = .ok (.ireturn, 1) := dk_172 (dk_at dksX0_peace_2 3 rfl rfl)
theorem dX0_peace_50 : decode cX0_peace 50 = .ok (.iconst 0, 1) := dk_3 (dk_at dksX0_peace_2 4 rfl rfl)
theorem dX0_peace_51 : decode cX0_peace 51 = .ok (.istore 4, 2) := dk_54 4 (dk_at dksX0_peace_2 5 rfl rfl)
theorem dX0_peace_53 : decode cX0_peace 53 = .ok (.iload 4, 2) := dk_21 4 (dk_at dksX0_peace_2 7 rfl rfl)
theorem dX0_peace_55 : decode cX0_peace 55 = .ok (.iload_n 3, 1) := dk_29 (dk_at dksX0_peace_2 9 rfl rfl)
theorem dX0_peace_56 : decode cX0_peace 56 = .ok (.if_icmp .ge 37, 3) := dk_162 0 37 (dk_at dksX0_peace_2 10 rfl rfl)
theorem dX0_peace_59 : decode cX0_peace 59 = .ok (.aload_n 0, 1) := dk_42 (dk_at dksX0_peace_2 13 rfl rfl)
theorem dX0_peace_60 : decode cX0_peace 60 = .ok (.iload_n 1, 1) := dk_27 (dk_at dksX0_peace_2 14 rfl rfl)
theorem dX0_peace_61 : decode cX0_peace 61 = .ok (.aload_n 0, 1) := dk_42 (dk_at dksX0_peace_2 15 rfl rfl)
theorem dX0_peace_62 : decode cX0_peace 62 = .ok (.iload 4, 2) := dk_21 4 (dk_at dksX0_peace_2 16 rfl rfl)
theorem dX0_peace_64 : decode cX0_peace 64 = .ok (.invokevirtual 350, 3) := dk_182 1 94 (dk_at dksX0_peace_2 18 rfl rfl)
theorem dX0_peace_67 : decode cX0_peace 67 = .ok (.iconst (-1), 1) := dk_2 (dk_at dksX0_peace_2 21 rfl rfl)
theorem dX0_peace_68 : decode cX0_peace 68 = .ok (.invokevirtual 343, 3) := dk_182 1 87 (dk_at dksX0_peace_3 0 rfl rfl)
theorem dX0_peace_71 : decode cX0_peace 71 = .ok (.ifCond .eq 16, 3) := dk_153 0 16 (dk_at dksX0_peace_3 3 rfl rfl)
theorem dX0_peace_74 : decode cX0_peace 74 = .ok (.iload_n 2, 1) := dk_28 (dk_at dksX0_peace_3 6 rfl rfl)
theorem dX0_peace_75 : decode cX0_peace 75 = .ok (.iconst 1, 1) := dk_4 (dk_at dksX0_peace_3 7 rfl rfl)
theorem dX0_peace_76 : decode cX0_peace 76 = .ok (.aload_n 0, 1) := dk_42 (dk_at dksX0_peace_3 8 rfl rfl)
theorem dX0_peace_77 : decode cX0_peace 77 = .ok (.iload 4, 2) := dk_21 4 (dk_at dksX0_peace_3 9 rfl rfl)
theorem dX0_peace_79 : decode cX0_peace 79 = .ok (.invokevirtual 350, 3) := dk_182 1 94 (dk_at dksX0_peace_3 11 rfl rfl)
theorem dX0_peace_82 : decode cX0_peace 82 = .ok (.iconst (-1), 1) := dk_2 (dk_at dksX0_peace_3 14 rfl rfl)
theorem dX0_peace_83 : decode cX0_peace 83 = .ok (.invokestatic 346, 3) := dk_184 1 90 (dk_at dksX0_peace_3 15 rfl rfl)
theorem dX0_peace_86 : decode cX0_peace 86 = .ok (.ireturn, 1) := dk_172 (dk_at dksX0_peace_3 18 rfl rfl)
theorem dX0_peace_87 : decode cX0_peace 87 = .ok (.iinc 4 1, 3) := dk_132 4 1 (dk_at dksX0_peace_3 19 rfl rfl)
theorem dX0_peace_90 : decode cX0_peace 90 = .ok (.goto (-37), 3) := dk_167 255 219 (dk_at dksX0_peace_4 0 rfl rfl)
theorem dX0_peace_93 : decode cX0_peace 93 = .ok (.iconst 0, 1) := dk_3 (dk_at dksX0_peace_4 3 rfl rfl)
theorem dX0_peace_94 : decode cX0_peace 94 = .ok (.istore 4, 2) := dk_54 4 (dk_at dksX0_peace_4 4 rfl rfl)
theorem dX0_peace_96 : decode cX0_peace 96 = .ok (.iload 4, 2) := dk_21 4 (dk_at dksX0_peace_4 6 rfl rfl)
theorem dX0_peace_98 : decode cX0_peace 98 = .ok (.iload_n 3, 1) := dk_29 (dk_at dksX0_peace_4 8 rfl rfl)
theorem dX0_peace_99 : decode cX0_peace 99 = .ok (.if_icmp .ge 65, 3) := dk_162 0 65 (dk_at dksX0_peace_4 9 rfl rfl)
theorem dX0_peace_102 : decode cX0_peace 102 = .ok (.iload 4, 2) := dk_21 4 (dk_at dksX0_peace_4 12 rfl rfl)
theorem dX0_peace_104 : decode cX0_peace 104 = .ok (.iconst 1, 1) := dk_4 (dk_at dksX0_peace_4 14 rfl rfl)
theorem dX0_peace_105 : decode cX0_peace 105 = .ok (.iadd, 1) := dk_96 (dk_at dksX0_peace_4 15 rfl rfl)
theorem dX0_peace_106 : decode cX0_peace 106 = .ok (.istore 5, 2) := dk_54 5 (dk_at dksX0_peace_4 16 rfl rfl)
theorem dX0_peace_108 : decode cX0_peace 108 = .ok (.iload 5, 2) := dk_21 5 (dk_at dksX0_peace_4 18 rfl rfl)
theorem dX0_peace_110 : decode cX0_peace 110 = .ok (.iload_n 3, 1) := dk_29 (dk_at dksX0_peace_4 20 rfl rfl)
theorem dX0_peace_111 : decode cX0_peace 111 = .ok (.if_icmp .ge 47, 3) := dk_162 0 47 (dk_at dksX0_peace_4 21 rfl rfl)
theorem dX0_peace_114 : decode cX0_peace 114 = .ok (.aload_n 0, 1) := dk_42 (dk_at dksX0_peace_5 0 rfl rfl)
theorem dX0_peace_115 : decode cX0_peace 115 = .ok (.iload_n 1, 1) := dk_27 (dk_at dksX0_peace_5 1 rfl rfl)
theorem dX0_peace_116 : decode cX0_peace 116 = .ok (.aload_n 0, 1) := dk_42 (dk_at dksX0_peace_5 2 rfl rfl)
theorem dX0_peace_117 : decode cX0_peace 117 = .ok (.iload 4, 2) := dk_21 4 (dk_at dksX0_peace_5 3 rfl rfl)
theorem dX0_peace_119 : decode cX0_peace 119 = .ok (.invokevirtual 350, 3) := dk_182 1 94 (dk_at dksX0_peace_5 5 rfl rfl)
theorem dX0_peace_122 : decode cX0_peace 122 = .ok (.aload_n 0, 1) := dk_42 (dk_at dksX0_peace_5 8 rfl rfl)
theorem dX0_peace_123 : decode cX0_peace 123 = .ok (.iload 5, 2) := dk_21 5 (dk_at dksX0_peace_5 9 rfl rfl)
theorem dX0_peace_125 : decode cX0_peace 125 = .ok (.invokevirtual 350, 3) := dk_182 1 94 (dk_at dksX0_peace_5 11 rfl rfl)
theorem dX0_peace_128 : decode cX0_peace 128 = .ok (.invokevirtual 343, 3) := dk_182 1 87 (dk_at dksX0_peace_5 14 rfl rfl)
theorem dX0_peace_131 : decode cX0_peace 131 = .ok (.ifCond .eq 21, 3) := dk_153 0 21 (dk_at dksX0_peace_5 17 rfl rfl)
theorem dX0_peace_134 : decode cX0_peace 134 = .ok (.iload_n 2, 1) := dk_28 (dk_at dksX0_peace_5 20 rfl rfl)
theorem dX0_peace_135 : decode cX0_peace 135 = .ok (.iconst 2, 1) := dk_5 (dk_at dksX0_peace_5 21 rfl rfl)
theorem dX0_peace_136 : decode cX0_peace 136 = .ok (.aload_n 0, 1) := dk_42 (dk_at dksX0_peace_5 22 rfl rfl)
theorem dX0_peace_137 : decode cX0_peace 137 = .ok (.iload 4, 2) := dk_21 4 (dk_at dksX0_peace_6 0 rfl rfl)
theorem dX0_peace_139 : decode cX0_peace 139 = .ok (.invokevirtual 350, 3) := dk_182 1 94 (dk_at dksX0_peace_6 2 rfl rfl)
theorem dX0_peace_142 : decode cX0_peace 142 = .ok (.aload_n 0, 1) := dk_42 (dk_at dksX0_peace_6 5 rfl rfl)
theorem dX0_peace_143 : decode cX0_peace 143 = .ok (.iload 5, 2) := dk_21 5 (dk_at dksX0_peace_6 6 rfl rfl)
theorem dX0_peace_145 : decode cX0_peace 145 = .ok (.invokevirtual 350, 3) := dk_182 1 94 (dk_at dksX0_peace_6 8 rfl rfl)
theorem dX0_peace_148 : decode cX0_peace 148 = .ok (.invokestatic 346, 3) := dk_184 1 90 (dk_at dksX0_peace_6 11 rfl rfl)
theorem dX0_peace_151 : decode cX0_peace 151 = .ok (.ireturn, 1) := dk_172 (dk_at dksX0_peace_6 14 rfl rfl)
theorem dX0_peace_152 : decode cX0_peace 152 = .ok (.iinc 5 1, 3) := dk_132 5 1 (dk_at dksX0_peace_6 15 rfl rfl)
theorem dX0_peace_155 : decode cX0_peace 155 = .ok (.goto (-47), 3) := dk_167 255 209 (dk_at dksX0_peace_6 18 rfl rfl)
theorem dX0_peace_158 : decode cX0_peace 158 = .ok (.iinc 4 1, 3) := dk_132 4 1 (dk_at dksX0_peace_6 21 rfl rfl)
theorem dX0_peace_161 : decode cX0_peace 161 = .ok (.goto (-65), 3) := dk_167 255 191 (dk_at dksX0_peace_7 0 rfl rfl)
theorem dX0_peace_164 : decode cX0_peace 164 = .ok (.bipush (-2), 2) := dk_16 254 (dk_at dksX0_peace_7 3 rfl rfl)
theorem dX0_peace_166 : decode cX0_peace 166 = .ok (.ireturn, 1) := dk_172 (dk_at dksX0_peace_7 5 rfl rfl)
def dkwX0_isPeace_1 : List UInt8 := [182, 1, 84, 42, 42, 180, 0, 51, 27, 182, 1, 69, 158, 0, 7, 4, 167, 0, 4, 3, 172]
abbrev dktX0_isPeace_1 : List UInt8 := dkwX0_isPeace_1 ++ []
def dkwX0_isPeace_0 : List UInt8 := [42, 42, 180, 0, 51, 182, 1, 66, 28, 155, 0, 8, 42, 28, 182, 1, 84, 29, 155, 0, 8, 42, 29]
abbrev dktX0_isPeace_0 : List UInt8 := dkwX0_isPeace_0 ++ dktX0_isPeace_1
theorem dksX0_isPeace_0 : cX0_isPeace.data.toList.drop 0 = dktX0_isPeace_0 := by decide +kernel
theorem dksX0_isPeace_1 : cX0_isPeace.data.toList.drop 23 = dktX0_isPeace_1 := dk_seg dksX0_isPeace_0 23 rfl rfl
theorem dX0_isPeace_0 : decode cX0_isPeace 0 = .ok (.aload_n 0, 1) := dk_42 (dk_at dksX0_isPeace_0 0 rfl rfl)
theorem dX0_isPeace_1 : decode cX0_isPeace 1 = .ok (.aload_n 0, 1) := dk_42 (dk_at dksX0_isPeace_0 1 rfl rfl)
theorem dX0_isPeace_2 : decode cX0_isPeace 2 = .ok (.getfield 51, 3) := dk_180 0 51 (dk_at dksX0_isPeace_0 2 rfl rfl)
theorem dX0_isPeace_5 : decode cX0_isPeace 5 = .ok (.invokevirtual 322, 3) := dk_182 1 66 (dk_at dksX0_isPeace_0 5 rfl rfl)
theorem dX0_isPeace_8 : decode cX0_isPeace 8 = .ok (.iload_n 2, 1) := dk_28 (dk_at dksX0_isPeace_0 8 rfl rfl)
theorem dX0_isPeace_9 : decode cX0_isPeace 9 = .ok (.ifCond .lt 8, 3) := dk_155 0 8 (dk_at dksX0_isPeace_0 9 rfl rfl)
theorem dX0_isPeace_12 : decode cX0_isPeace 12 = .ok (.aload_n 0, 1) := dk_42 (dk_at dksX0_isPeace_0 12 rfl rfl)
theorem dX0_isPeace_13 : decode cX0_isPeace 13 = .ok (.iload_n 2, 1) := dk_28 (dk_at dksX0_isPeace_0 13 rfl rfl)
theorem dX0_isPeace_14 : decode cX0_isPeace 14 = .ok (.invokevirtual 340, 3) := dk_182 1 84 (dk_at dksX0_isPeace_0 14 rfl rfl)
theorem dX0_isPeace_17 : decode cX0_isPeace 17 = .ok (.iload_n 3, 1) := dk_29 (dk_at dksX0_isPeace_0 17 rfl rfl)
theorem dX0_isPeace_18 : decode cX0_isPeace 18 = .ok (.ifCond .lt 8, 3) := dk_155 0 8 (dk_at dksX0_isPeace_0 18 rfl rfl)
theorem dX0_isPeace_21 : decode cX0_isPeace 21 = .ok (.aload_n 0, 1) := dk_42 (dk_at dksX0_isPeace_0 21 rfl rfl)
theorem dX0_isPeace_22 : decode cX0_isPeace 22 = .ok (.iload_n 3, 1) := dk_29 (dk_at dksX0_isPeace_0 22 rfl rfl)
theorem dX0_isPeace_23 : decode cX0_isPeace 23 = .ok (.invokevirtual 340, 3) := dk_182 1 84 (dk_at dksX0_isPeace_1 0 rfl rfl)
theorem dX0_isPeace_26 : decode cX0_isPeace 26 = .ok (.aload_n 0, 1) := dk_42 (dk_at dksX0_isPeace_1 3 rfl rfl)
theorem dX0_isPeace_27 : decode cX0_isPeace 27 = .ok (.aload_n 0, 1) := dk_42 (dk_at dksX0_isPeace_1 4 rfl rfl)
theorem dX0_isPeace_28 : decode cX0_isPeace 28 = .ok (.getfield 51, 3) := dk_180 0 51 (dk_at dksX0_isPeace_1 5 rfl rfl)
theorem dX0_isPeace_31 : decode cX0_isPeace 31 = .ok (.iload_n 1, 1) := dk_27 (dk_at dksX0_isPeace_1 8 rfl rfl)
theorem dX0_isPeace_32 : decode cX0_isPeace 32 = .ok (.invokevirtual 325, 3) := dk_182 1 69 (dk_at dksX0_isPeace_1 9 rfl rfl)
theorem dX0_isPeace_35 : decode cX0_isPeace 35 = .ok (.ifCond .le 7, 3) := dk_158 0 7 (dk_at dksX0_isPeace_1 12 rfl rfl)
theorem dX0_isPeace_38 : decode cX0_isPeace 38 = .ok (.iconst 1, 1) := dk_4 (dk_at dksX0_isPeace_1 15 rfl rfl)
theorem dX0_isPeace_39 : decode cX0_isPeace 39 = .ok (.goto 4, 3) := dk_167 0 4 (dk_at dksX0_isPeace_1 16 rfl rfl)
theorem dX0_isPeace_42 : decode cX0_isPeace 42 = .ok (.iconst 0, 1) := dk_3 (dk_at dksX0_isPeace_1 19 rfl rfl)
theorem dX0_isPeace_43 : decode cX0_isPeace 43 = .ok (.ireturn, 1) := dk_172 (dk_at dksX0_isPeace_1 20 rfl rfl)
def dkwX0_befriends_2 : List UInt8 := [180, 0, 40, 29, 28, 16, 9, 182, 0, 208, 79, 177]
abbrev dktX0_befriends_2 : List UInt8 := dkwX0_befriends_2 ++ []
def dkwX0_befriends_1 : List UInt8 := [180, 0, 40, 28, 29, 16, 9, 182, 0, 208, 79, 42, 180, 0, 87, 29, 50, 28, 42, 180, 0, 51, 42]
abbrev dktX0_befriends_1 : List UInt8 := dkwX0_befriends_1 ++ dktX0_befriends_2
def dkwX0_befriends_0 : List UInt8 := [27, 16, 10, 108, 61, 27, 16, 10, 112, 62, 42, 180, 0, 87, 28, 50, 29, 42, 180, 0, 51, 42]
abbrev dktX0_befriends_0 : List UInt8 := dkwX0_befriends_0 ++ dktX0_befriends_1
theorem dksX0_befriends_0 : cX0_befriends.data.toList.drop 0 = dktX0_befriends_0 := by decide +kernel
theorem dksX0_befriends_1 : cX0_befriends.data.toList.drop 22 = dktX0_befriends_1 := dk_seg dksX0_befriends_0 22 rfl rfl
theorem dksX0_befriends_2 : cX0_befriends.data.toList.drop 45 = dktX0_befriends_2 := dk_seg dksX0_befriends_1 23 rfl rfl
theorem dX0_befriends_0 : decode cX0_befriends 0 = .ok (.iload_n 1, 1) := dk_27 (dk_at dksX0_befriends_0 0 rfl rfl)
theorem dX0_befriends_1 : decode cX0_befriends 1 = .ok (.bipush 10, 2) := dk_16 10 (dk_at dksX0_befriends_0 1 rfl rfl)
theorem dX0_befriends_3 : decode cX0_befriends 3 = .ok (.idiv, 1) := dk_108 (dk_at dksX0_befriends_0 3 rfl rfl)
theorem dX0_befriends_4 : decode cX0_befriends 4 = .ok (.istore_n 2, 1) := dk_61 (dk_at dksX0_befriends_0 4 rfl rfl)
theorem dX0_befriends_5 : decode cX0_befriends 5 = .ok (.iload_n 1, 1) := dk_27 (dk_at dksX0_befriends_0 5 rfl rfl)
theorem dX0_befriends_6 : decode cX0_befriends 6 = .ok (.bipush 10, 2) := dk_16 10 (dk_at dksX0_befriends_0 6 rfl rfl)
theorem dX0_befriends_8 : decode cX0_befriends 8 = .ok (.irem, 1) := dk_112 (dk_at dksX0_befriends_0 8 rfl rfl)
theorem dX0_befriends_9 : decode cX0_befriends 9 = .ok (.istore_n 3, 1) := dk_62 (dk_at dksX0_befriends_0 9 rfl rfl)
theorem dX0_befriends_10 : decode cX0_befriends 10 = .ok (.aload_n 0, 1) := dk_42 (dk_at dksX0_befriends_0 10 rfl rfl)
theorem dX0_befriends_11 : decode cX0_befriends 11 = .ok (.getfield 87, 3) := dk_180 0 87 (dk_at dksX0_befriends_0 11 rfl rfl)
theorem dX0_befriends_14 : decode cX0_befriends 14 = .ok (.iload_n 2, 1) := dk_28 (dk_at dksX0_befriends_0 14 rfl rfl)
theorem dX0_befriends_15 : decode cX0_befriends 15 = .ok (.aaload, 1) := dk_50 (dk_at dksX0_befriends_0 15 rfl rfl)
theorem dX0_befriends_16 : decode cX0_befriends 16 = .ok (.iload_n 3, 1) := dk_29 (dk_at dksX0_befriends_0 16 rfl rfl)
theorem dX0_befriends_17 : decode cX0_befriends 17 = .ok (.aload_n 0, 1) := dk_42 (dk_at dksX0_befriends_0 17 rfl rfl)
theorem dX0_befriends_18 : decode cX0_befriends 18 = .ok (.getfield 51, 3) := dk_180 0 51 (dk_at dksX0_befriends_0 18 rfl rfl)
theorem dX0_befriends_21 : decode cX0_befriends 21 = .ok (.aload_n 0, 1) := dk_42 (dk_at dksX0_befriends_0 21 rfl rfl)
theorem dX0_befriends_22 : decode cX0_befriends 22 = .ok (.getfield 40, 3) := dk_180 0 40 (dk_at dksX0_befriends_1 0 rfl rfl)
theorem dX0_befriends_25 : decode cX0_befriends 25 = .ok (.iload_n 2, 1) := dk_28 (dk_at dksX0_befriends_1 3 rfl rfl)
theorem dX0_befriends_26 : decode cX0_befriends 26 = .ok (.iload_n 3, 1) := dk_29 (dk_at dksX0_befriends_1 4 rfl rfl)
theorem dX0_befriends_27 : decode cX0_befriends 27 = .ok (.bipush 9, 2) := dk_16 9 (dk_at dksX0_befriends_1 5 rfl rfl)
theorem dX0_befriends_29 : decode cX0_befriends 29 = .ok (.invokevirtual 208, 3) := dk_182 0 208 (dk_at dksX0_befriends_1 7 rfl rfl)
theorem dX0_befriends_32 : decode cX0_befriends 32 = .ok (.iastore, 1) := dk_79 (dk_at dksX0_befriends_1 10 rfl rfl)
theorem dX0_befriends_33 : decode cX0_befriends 33 = .ok (.aload_n 0, 1) := dk_42 (dk_at dksX0_befriends_1 11 rfl rfl)
theorem dX0_befriends_34 : decode cX0_befriends 34 = .ok (.getfield 87, 3) := dk_180 0 87 (dk_at dksX0_befriends_1 12 rfl rfl)
theorem dX0_befriends_37 : decode cX0_befriends 37 = .ok (.iload_n 3, 1) := dk_29 (dk_at dksX0_befriends_1 15 rfl rfl)
theorem dX0_befriends_38 : decode cX0_befriends 38 = .ok (.aaload, 1) := dk_50 (dk_at dksX0_befriends_1 16 rfl rfl)
theorem dX0_befriends_39 : decode cX0_befriends 39 = .ok (.iload_n 2, 1) := dk_28 (dk_at dksX0_befriends_1 17 rfl rfl)
theorem dX0_befriends_40 : decode cX0_befriends 40 = .ok (.aload_n 0, 1) := dk_42 (dk_at dksX0_befriends_1 18 rfl rfl)
theorem dX0_befriends_41 : decode cX0_befriends 41 = .ok (.getfield 51, 3) := dk_180 0 51 (dk_at dksX0_befriends_1 19 rfl rfl)
theorem dX0_befriends_44 : decode cX0_befriends 44 = .ok (.aload_n 0, 1) := dk_42 (dk_at dksX0_befriends_1 22 rfl rfl)
theorem dX0_befriends_45 : decode cX0_befriends 45 = .ok (.getfield 40, 3) := dk_180 0 40 (dk_at dksX0_befriends_2 0 rfl rfl)
theorem dX0_befriends_48 : decode cX0_befriends 48 = .ok (.iload_n 3, 1) := dk_29 (dk_at dksX0_befriends_2 3 rfl rfl)
theorem dX0_befriends_49 : decode cX0_befriends 49 = .ok (.iload_n 2, 1) := dk_28 (dk_at dksX0_befriends_2 4 rfl rfl)
theorem dX0_befriends_50 : decode cX0_befriends 50 = .ok (.bipush 9, 2) := dk_16 9 (dk_at dksX0_befriends_2 5 rfl rfl)
theorem dX0_befriends_52 : decode cX0_befriends 52 = .ok (.invokevirtual 208, 3) := dk_182 0 208 (dk_at dksX0_befriends_2 7 rfl rfl)
theorem dX0_befriends_55 : decode cX0_befriends 55 = .ok (.iastore, 1) := dk_79 (dk_at dksX0_befriends_2 10 rfl rfl)
theorem dX0_befriends_56 : decode cX0_befriends 56 = .ok (.return_, 1) := dk_177 (dk_at dksX0_befriends_2 11 rfl rfl)
def dkwX0_peaceBy_0 : List UInt8 := [26, 154, 0, 7, 27, 167, 0, 13, 26, 4, 160, 0, 7, 28, 167, 0, 4, 29, 172]
abbrev dktX0_peaceBy_0 : List UInt8 := dkwX0_peaceBy_0 ++ []
theorem dksX0_peaceBy_0 : cX0_peaceBy.data.toList.drop 0 = dktX0_peaceBy_0 := by decide +kernel
theorem dX0_peaceBy_0 : decode cX0_peaceBy 0 = .ok (.iload_n 0, 1) := dk_26 (dk_at dksX0_peaceBy_0 0 rfl rfl)
theorem dX0_peaceBy_1 : decode cX0_peaceBy 1 = .ok (.ifCond .ne 7, 3) := dk_154 0 7 (dk_at dksX0_peaceBy_0 1 rfl rfl)
theorem dX0_peaceBy_4 : decode cX0_peaceBy 4 = .ok (.iload_n 1, 1) := dk_27 (dk_at dksX0_peaceBy_0 4 rfl rfl)
theorem dX0_peaceBy_5 : decode cX0_peaceBy 5 = .ok (.goto 13, 3) := dk_167 0 13 (dk_at dksX0_peaceBy_0 5 rfl rfl)
theorem dX0_peaceBy_8 : decode cX0_peaceBy 8 = .ok (.iload_n 0, 1) := dk_26 (dk_at dksX0_peaceBy_0 8 rfl rfl)
theorem dX0_peaceBy_9 : decode cX0_peaceBy 9 = .ok (.iconst 1, 1) := dk_4 (dk_at dksX0_peaceBy_0 9 rfl rfl)
theorem dX0_peaceBy_10 : decode cX0_peaceBy 10 = .ok (.if_icmp .ne 7, 3) := dk_160 0 7 (dk_at dksX0_peaceBy_0 10 rfl rfl)
theorem dX0_peaceBy_13 : decode cX0_peaceBy 13 = .ok (.iload_n 2, 1) := dk_28 (dk_at dksX0_peaceBy_0 13 rfl rfl)
theorem dX0_peaceBy_14 : decode cX0_peaceBy 14 = .ok (.goto 4, 3) := dk_167 0 4 (dk_at dksX0_peaceBy_0 14 rfl rfl)
theorem dX0_peaceBy_17 : decode cX0_peaceBy 17 = .ok (.iload_n 3, 1) := dk_29 (dk_at dksX0_peaceBy_0 17 rfl rfl)
theorem dX0_peaceBy_18 : decode cX0_peaceBy 18 = .ok (.ireturn, 1) := dk_172 (dk_at dksX0_peaceBy_0 18 rfl rfl)
def dkwX0_twoOf_2 : List UInt8 := [167, 255, 228, 132, 3, 1, 167, 255, 209, 2, 172]
abbrev dktX0_twoOf_2 : List UInt8 := dkwX0_twoOf_2 ++ []
def dkwX0_twoOf_1 : List UInt8 := [162, 0, 25, 28, 27, 160, 0, 11, 16, 10, 29, 104, 21, 4, 96, 172, 132, 2, 1, 132, 4, 1]
abbrev dktX0_twoOf_1 : List UInt8 := dkwX0_twoOf_1 ++ dktX0_twoOf_2
def dkwX0_twoOf_0 : List UInt8 := [3, 61, 3, 62, 29, 42, 182, 0, 154, 162, 0, 45, 29, 4, 96, 54, 4, 21, 4, 42, 182, 0, 154]
abbrev dktX0_twoOf_0 : List UInt8 := dkwX0_twoOf_0 ++ dktX0_twoOf_1
theorem dksX0_twoOf_0 : cX0_twoOf.data.toList.drop 0 = dktX0_twoOf_0 := by decide +kernel
theorem dksX0_twoOf_1 : cX0_twoOf.data.toList.drop 23 = dktX0_twoOf_1 := dk_seg dksX0_twoOf_0 23 rfl rfl
theorem dksX0_twoOf_2 : cX0_twoOf.data.toList.drop 45 = dktX0_twoOf_2 := dk_seg dksX0_twoOf_1 22 rfl rfl
theorem dX0_twoOf_0 : decode cX0_twoOf 0 = .ok (.iconst 0, 1) := dk_3 (dk_at dksX0_twoOf_0 0 rfl rfl)
theorem dX0_twoOf_1 : decode cX0_twoOf 1 = .ok (.istore_n 2, 1) := dk_61 (dk_at dksX0_twoOf_0 1 rfl rfl)
theorem dX0_twoOf_2 : decode cX0_twoOf 2 = .ok (.iconst 0, 1) := dk_3 (dk_at dksX0_twoOf_0 2 rfl rfl)
theorem dX0_twoOf_3 : decode cX0_twoOf 3 = .ok (.istore_n 3, 1) := dk_62 (dk_at dksX0_twoOf_0 3 rfl rfl)
theorem dX0_twoOf_4 : decode cX0_twoOf 4 = .ok (.iload_n 3, 1) := dk_29 (dk_at dksX0_twoOf_0 4 rfl rfl)
theorem dX0_twoOf_5 : decode cX0_twoOf 5 = .ok (.aload_n 0, 1) := dk_42 (dk_at dksX0_twoOf_0 5 rfl rfl)
theorem dX0_twoOf_6 : decode cX0_twoOf 6 = .ok (.invokevirtual 154, 3) := dk_182 0 154 (dk_at dksX0_twoOf_0 6 rfl rfl)
theorem dX0_twoOf_9 : decode cX0_twoOf 9 = .ok (.if_icmp .ge 45, 3) := dk_162 0 45 (dk_at dksX0_twoOf_0 9 rfl rfl)
theorem dX0_twoOf_12 : decode cX0_twoOf 12 = .ok (.iload_n 3, 1) := dk_29 (dk_at dksX0_twoOf_0 12 rfl rfl)
theorem dX0_twoOf_13 : decode cX0_twoOf 13 = .ok (.iconst 1, 1) := dk_4 (dk_at dksX0_twoOf_0 13 rfl rfl)
theorem dX0_twoOf_14 : decode cX0_twoOf 14 = .ok (.iadd, 1) := dk_96 (dk_at dksX0_twoOf_0 14 rfl rfl)
theorem dX0_twoOf_15 : decode cX0_twoOf 15 = .ok (.istore 4, 2) := dk_54 4 (dk_at dksX0_twoOf_0 15 rfl rfl)
theorem dX0_twoOf_17 : decode cX0_twoOf 17 = .ok (.iload 4, 2) := dk_21 4 (dk_at dksX0_twoOf_0 17 rfl rfl)
theorem dX0_twoOf_19 : decode cX0_twoOf 19 = .ok (.aload_n 0, 1) := dk_42 (dk_at dksX0_twoOf_0 19 rfl rfl)
theorem dX0_twoOf_20 : decode cX0_twoOf 20 = .ok (.invokevirtual 154, 3) := dk_182 0 154 (dk_at dksX0_twoOf_0 20 rfl rfl)
theorem dX0_twoOf_23 : decode cX0_twoOf 23 = .ok (.if_icmp .ge 25, 3) := dk_162 0 25 (dk_at dksX0_twoOf_1 0 rfl rfl)
theorem dX0_twoOf_26 : decode cX0_twoOf 26 = .ok (.iload_n 2, 1) := dk_28 (dk_at dksX0_twoOf_1 3 rfl rfl)
theorem dX0_twoOf_27 : decode cX0_twoOf 27 = .ok (.iload_n 1, 1) := dk_27 (dk_at dksX0_twoOf_1 4 rfl rfl)
theorem dX0_twoOf_28 : decode cX0_twoOf 28 = .ok (.if_icmp .ne 11, 3) := dk_160 0 11 (dk_at dksX0_twoOf_1 5 rfl rfl)
theorem dX0_twoOf_31 : decode cX0_twoOf 31 = .ok (.bipush 10, 2) := dk_16 10 (dk_at dksX0_twoOf_1 8 rfl rfl)
theorem dX0_twoOf_33 : decode cX0_twoOf 33 = .ok (.iload_n 3, 1) := dk_29 (dk_at dksX0_twoOf_1 10 rfl rfl)
theorem dX0_twoOf_34 : decode cX0_twoOf 34 = .ok (.imul, 1) := dk_104 (dk_at dksX0_twoOf_1 11 rfl rfl)
theorem dX0_twoOf_35 : decode cX0_twoOf 35 = .ok (.iload 4, 2) := dk_21 4 (dk_at dksX0_twoOf_1 12 rfl rfl)
theorem dX0_twoOf_37 : decode cX0_twoOf 37 = .ok (.iadd, 1) := dk_96 (dk_at dksX0_twoOf_1 14 rfl rfl)
theorem dX0_twoOf_38 : decode cX0_twoOf 38 = .ok (.ireturn, 1) := dk_172 (dk_at dksX0_twoOf_1 15 rfl rfl)
theorem dX0_twoOf_39 : decode cX0_twoOf 39 = .ok (.iinc 2 1, 3) := dk_132 2 1 (dk_at dksX0_twoOf_1 16 rfl rfl)
theorem dX0_twoOf_42 : decode cX0_twoOf 42 = .ok (.iinc 4 1, 3) := dk_132 4 1 (dk_at dksX0_twoOf_1 19 rfl rfl)
theorem dX0_twoOf_45 : decode cX0_twoOf 45 = .ok (.goto (-28), 3) := dk_167 255 228 (dk_at dksX0_twoOf_2 0 rfl rfl)
theorem dX0_twoOf_48 : decode cX0_twoOf 48 = .ok (.iinc 3 1, 3) := dk_132 3 1 (dk_at dksX0_twoOf_2 3 rfl rfl)
theorem dX0_twoOf_51 : decode cX0_twoOf 51 = .ok (.goto (-47), 3) := dk_167 255 209 (dk_at dksX0_twoOf_2 6 rfl rfl)
theorem dX0_twoOf_54 : decode cX0_twoOf 54 = .ok (.iconst (-1), 1) := dk_2 (dk_at dksX0_twoOf_2 9 rfl rfl)
theorem dX0_twoOf_55 : decode cX0_twoOf 55 = .ok (.ireturn, 1) := dk_172 (dk_at dksX0_twoOf_2 10 rfl rfl)
def dkwX0_rests_3 : List UInt8 := [62, 132, 2, 1, 132, 4, 1, 167, 255, 198, 27, 154, 0, 7, 28, 167, 0, 4, 29, 172]
abbrev dktX0_rests_3 : List UInt8 := dkwX0_rests_3 ++ []
def dkwX0_rests_2 : List UInt8 := [154, 0, 6, 167, 0, 25, 28, 153, 0, 15, 21, 4, 184, 1, 74, 29, 184, 1, 74, 162, 0, 6, 21, 4]
abbrev dktX0_rests_2 : List UInt8 := dkwX0_rests_2 ++ dktX0_rests_3
def dkwX0_rests_1 : List UInt8 := [182, 1, 41, 162, 0, 55, 21, 4, 42, 182, 1, 103, 2, 130, 126, 154, 0, 37, 42, 21, 4, 182, 1, 109]
abbrev dktX0_rests_1 : List UInt8 := dkwX0_rests_1 ++ dktX0_rests_2
def dkwX0_rests_0 : List UInt8 := [27, 3, 4, 184, 0, 156, 154, 0, 5, 2, 172, 3, 61, 16, 254, 62, 3, 54, 4, 21, 4, 42]
abbrev dktX0_rests_0 : List UInt8 := dkwX0_rests_0 ++ dktX0_rests_1
theorem dksX0_rests_0 : cX0_rests.data.toList.drop 0 = dktX0_rests_0 := by decide +kernel
theorem dksX0_rests_1 : cX0_rests.data.toList.drop 22 = dktX0_rests_1 := dk_seg dksX0_rests_0 22 rfl rfl
theorem dksX0_rests_2 : cX0_rests.data.toList.drop 46 = dktX0_rests_2 := dk_seg dksX0_rests_1 24 rfl rfl
theorem dksX0_rests_3 : cX0_rests.data.toList.drop 70 = dktX0_rests_3 := dk_seg dksX0_rests_2 24 rfl rfl
theorem dX0_rests_0 : decode cX0_rests 0 = .ok (.iload_n 1, 1) := dk_27 (dk_at dksX0_rests_0 0 rfl rfl)
theorem dX0_rests_1 : decode cX0_rests 1 = .ok (.iconst 0, 1) := dk_3 (dk_at dksX0_rests_0 1 rfl rfl)
theorem dX0_rests_2 : decode cX0_rests 2 = .ok (.iconst 1, 1) := dk_4 (dk_at dksX0_rests_0 2 rfl rfl)
theorem dX0_rests_3 : decode cX0_rests 3 = .ok (.invokestatic 156, 3) := dk_184 0 156 (dk_at dksX0_rests_0 3 rfl rfl)
theorem dX0_rests_6 : decode cX0_rests 6 = .ok (.ifCond .ne 5, 3) := dk_154 0 5 (dk_at dksX0_rests_0 6 rfl rfl)
theorem dX0_rests_9 : decode cX0_rests 9 = .ok (.iconst (-1), 1) := dk_2 (dk_at dksX0_rests_0 9 rfl rfl)
theorem dX0_rests_10 : decode cX0_rests 10 = .ok (.ireturn, 1) := dk_172 (dk_at dksX0_rests_0 10 rfl rfl)
theorem dX0_rests_11 : decode cX0_rests 11 = .ok (.iconst 0, 1) := dk_3 (dk_at dksX0_rests_0 11 rfl rfl)
theorem dX0_rests_12 : decode cX0_rests 12 = .ok (.istore_n 2, 1) := dk_61 (dk_at dksX0_rests_0 12 rfl rfl)
theorem dX0_rests_13 : decode cX0_rests 13 = .ok (.bipush (-2), 2) := dk_16 254 (dk_at dksX0_rests_0 13 rfl rfl)
theorem dX0_rests_15 : decode cX0_rests 15 = .ok (.istore_n 3, 1) := dk_62 (dk_at dksX0_rests_0 15 rfl rfl)
theorem dX0_rests_16 : decode cX0_rests 16 = .ok (.iconst 0, 1) := dk_3 (dk_at dksX0_rests_0 16 rfl rfl)
theorem dX0_rests_17 : decode cX0_rests 17 = .ok (.istore 4, 2) := dk_54 4 (dk_at dksX0_rests_0 17 rfl rfl)
theorem dX0_rests_19 : decode cX0_rests 19 = .ok (.iload 4, 2) := dk_21 4 (dk_at dksX0_rests_0 19 rfl rfl)
theorem dX0_rests_21 : decode cX0_rests 21 = .ok (.aload_n 0, 1) := dk_42 (dk_at dksX0_rests_0 21 rfl rfl)
theorem dX0_rests_22 : decode cX0_rests 22 = .ok (.invokevirtual 297, 3) := dk_182 1 41 (dk_at dksX0_rests_1 0 rfl rfl)
theorem dX0_rests_25 : decode cX0_rests 25 = .ok (.if_icmp .ge 55, 3) := dk_162 0 55 (dk_at dksX0_rests_1 3 rfl rfl)
theorem dX0_rests_28 : decode cX0_rests 28 = .ok (.iload 4, 2) := dk_21 4 (dk_at dksX0_rests_1 6 rfl rfl)
theorem dX0_rests_30 : decode cX0_rests 30 = .ok (.aload_n 0, 1) := dk_42 (dk_at dksX0_rests_1 8 rfl rfl)
theorem dX0_rests_31 : decode cX0_rests 31 = .ok (.invokevirtual 359, 3) := dk_182 1 103 (dk_at dksX0_rests_1 9 rfl rfl)
theorem dX0_rests_34 : decode cX0_rests 34 = .ok (.iconst (-1), 1) := dk_2 (dk_at dksX0_rests_1 12 rfl rfl)
theorem dX0_rests_35 : decode cX0_rests 35 = .ok (.ixor, 1) := dk_130 (dk_at dksX0_rests_1 13 rfl rfl)
theorem dX0_rests_36 : decode cX0_rests 36 = .ok (.iand, 1) := dk_126 (dk_at dksX0_rests_1 14 rfl rfl)
theorem dX0_rests_37 : decode cX0_rests 37 = .ok (.ifCond .ne 37, 3) := dk_154 0 37 (dk_at dksX0_rests_1 15 rfl rfl)
theorem dX0_rests_40 : decode cX0_rests 40 = .ok (.aload_n 0, 1) := dk_42 (dk_at dksX0_rests_1 18 rfl rfl)
theorem dX0_rests_41 : decode cX0_rests 41 = .ok (.iload 4, 2) := dk_21 4 (dk_at dksX0_rests_1 19 rfl rfl)
theorem dX0_rests_43 : decode cX0_rests 43 = .ok (.invokevirtual 365, 3) := dk_182 1 109 (dk_at dksX0_rests_1 21 rfl rfl)
theorem dX0_rests_46 : decode cX0_rests 46 = .ok (.ifCond .ne 6, 3) := dk_154 0 6 (dk_at dksX0_rests_2 0 rfl rfl)
theorem dX0_rests_49 : decode cX0_rests 49 = .ok (.goto 25, 3) := dk_167 0 25 (dk_at dksX0_rests_2 3 rfl rfl)
theorem dX0_rests_52 : decode cX0_rests 52 = .ok (.iload_n 2, 1) := dk_28 (dk_at dksX0_rests_2 6 rfl rfl)
theorem dX0_rests_53 : decode cX0_rests 53 = .ok (.ifCond .eq 15, 3) := dk_153 0 15 (dk_at dksX0_rests_2 7 rfl rfl)
theorem dX0_rests_56 : decode cX0_rests 56 = .ok (.iload 4, 2) := dk_21 4 (dk_at dksX0_rests_2 10 rfl rfl)
theorem dX0_rests_58 : decode cX0_rests 58 = .ok (.invokestatic 330, 3) := dk_184 1 74 (dk_at dksX0_rests_2 12 rfl rfl)
theorem dX0_rests_61 : decode cX0_rests 61 = .ok (.iload_n 3, 1) := dk_29 (dk_at dksX0_rests_2 15 rfl rfl)
theorem dX0_rests_62 : decode cX0_rests 62 = .ok (.invokestatic 330, 3) := dk_184 1 74 (dk_at dksX0_rests_2 16 rfl rfl)
theorem dX0_rests_65 : decode cX0_rests 65 = .ok (.if_icmp .ge 6, 3) := dk_162 0 6 (dk_at dksX0_rests_2 19 rfl rfl)
theorem dX0_rests_68 : decode cX0_rests 68 = .ok (.iload 4, 2) := dk_21 4 (dk_at dksX0_rests_2 22 rfl rfl)
theorem dX0_rests_70 : decode cX0_rests 70 = .ok (.istore_n 3, 1) := dk_62 (dk_at dksX0_rests_3 0 rfl rfl)
theorem dX0_rests_71 : decode cX0_rests 71 = .ok (.iinc 2 1, 3) := dk_132 2 1 (dk_at dksX0_rests_3 1 rfl rfl)
theorem dX0_rests_74 : decode cX0_rests 74 = .ok (.iinc 4 1, 3) := dk_132 4 1 (dk_at dksX0_rests_3 4 rfl rfl)
theorem dX0_rests_77 : decode cX0_rests 77 = .ok (.goto (-58), 3) := dk_167 255 198 (dk_at dksX0_rests_3 7 rfl rfl)
theorem dX0_rests_80 : decode cX0_rests 80 = .ok (.iload_n 1, 1) := dk_27 (dk_at dksX0_rests_3 10 rfl rfl)
theorem dX0_rests_81 : decode cX0_rests 81 = .ok (.ifCond .ne 7, 3) := dk_154 0 7 (dk_at dksX0_rests_3 11 rfl rfl)
theorem dX0_rests_84 : decode cX0_rests 84 = .ok (.iload_n 2, 1) := dk_28 (dk_at dksX0_rests_3 14 rfl rfl)
theorem dX0_rests_85 : decode cX0_rests 85 = .ok (.goto 4, 3) := dk_167 0 4 (dk_at dksX0_rests_3 15 rfl rfl)
theorem dX0_rests_88 : decode cX0_rests 88 = .ok (.iload_n 3, 1) := dk_29 (dk_at dksX0_rests_3 18 rfl rfl)
theorem dX0_rests_89 : decode cX0_rests 89 = .ok (.ireturn, 1) := dk_172 (dk_at dksX0_rests_3 19 rfl rfl)
def dkwX0_givers_1 : List UInt8 := [4, 28, 120, 167, 0, 4, 3, 128, 60, 132, 2, 1, 167, 255, 224, 27, 172]
abbrev dktX0_givers_1 : List UInt8 := dkwX0_givers_1 ++ []
def dkwX0_givers_0 : List UInt8 := [3, 60, 3, 61, 28, 42, 182, 0, 154, 162, 0, 30, 27, 42, 180, 0, 51, 28, 182, 1, 49, 158, 0, 9]
abbrev dktX0_givers_0 : List UInt8 := dkwX0_givers_0 ++ dktX0_givers_1
theorem dksX0_givers_0 : cX0_givers.data.toList.drop 0 = dktX0_givers_0 := by decide +kernel
theorem dksX0_givers_1 : cX0_givers.data.toList.drop 24 = dktX0_givers_1 := dk_seg dksX0_givers_0 24 rfl rfl
theorem dX0_givers_0 : decode cX0_givers 0 = .ok (.iconst 0, 1) := dk_3 (dk_at dksX0_givers_0 0 rfl rfl)
theorem dX0_givers_1 : decode cX0_givers 1 = .ok (.istore_n 1, 1) := dk_60 (dk_at dksX0_givers_0 1 rfl rfl)
theorem dX0_givers_2 : decode cX0_givers 2 = .ok (.iconst 0, 1) := dk_3 (dk_at dksX0_givers_0 2 rfl rfl)
theorem dX0_givers_3 : decode cX0_givers 3 = .ok (.istore_n 2, 1) := dk_61 (dk_at dksX0_givers_0 3 rfl rfl)
theorem dX0_givers_4 : decode cX0_givers 4 = .ok (.iload_n 2, 1) := dk_28 (dk_at dksX0_givers_0 4 rfl rfl)
theorem dX0_givers_5 : decode cX0_givers 5 = .ok (.aload_n 0, 1) := dk_42 (dk_at dksX0_givers_0 5 rfl rfl)
theorem dX0_givers_6 : decode cX0_givers 6 = .ok (.invokevirtual 154, 3) := dk_182 0 154 (dk_at dksX0_givers_0 6 rfl rfl)
theorem dX0_givers_9 : decode cX0_givers 9 = .ok (.if_icmp .ge 30, 3) := dk_162 0 30 (dk_at dksX0_givers_0 9 rfl rfl)
theorem dX0_givers_12 : decode cX0_givers 12 = .ok (.iload_n 1, 1) := dk_27 (dk_at dksX0_givers_0 12 rfl rfl)
theorem dX0_givers_13 : decode cX0_givers 13 = .ok (.aload_n 0, 1) := dk_42 (dk_at dksX0_givers_0 13 rfl rfl)
theorem dX0_givers_14 : decode cX0_givers 14 = .ok (.getfield 51, 3) := dk_180 0 51 (dk_at dksX0_givers_0 14 rfl rfl)
theorem dX0_givers_17 : decode cX0_givers 17 = .ok (.iload_n 2, 1) := dk_28 (dk_at dksX0_givers_0 17 rfl rfl)
theorem dX0_givers_18 : decode cX0_givers 18 = .ok (.invokevirtual 305, 3) := dk_182 1 49 (dk_at dksX0_givers_0 18 rfl rfl)
theorem dX0_givers_21 : decode cX0_givers 21 = .ok (.ifCond .le 9, 3) := dk_158 0 9 (dk_at dksX0_givers_0 21 rfl rfl)
theorem dX0_givers_24 : decode cX0_givers 24 = .ok (.iconst 1, 1) := dk_4 (dk_at dksX0_givers_1 0 rfl rfl)
theorem dX0_givers_25 : decode cX0_givers 25 = .ok (.iload_n 2, 1) := dk_28 (dk_at dksX0_givers_1 1 rfl rfl)
theorem dX0_givers_26 : decode cX0_givers 26 = .ok (.ishl, 1) := dk_120 (dk_at dksX0_givers_1 2 rfl rfl)
theorem dX0_givers_27 : decode cX0_givers 27 = .ok (.goto 4, 3) := dk_167 0 4 (dk_at dksX0_givers_1 3 rfl rfl)
theorem dX0_givers_30 : decode cX0_givers 30 = .ok (.iconst 0, 1) := dk_3 (dk_at dksX0_givers_1 6 rfl rfl)
theorem dX0_givers_31 : decode cX0_givers 31 = .ok (.ior, 1) := dk_128 (dk_at dksX0_givers_1 7 rfl rfl)
theorem dX0_givers_32 : decode cX0_givers 32 = .ok (.istore_n 1, 1) := dk_60 (dk_at dksX0_givers_1 8 rfl rfl)
theorem dX0_givers_33 : decode cX0_givers 33 = .ok (.iinc 2 1, 3) := dk_132 2 1 (dk_at dksX0_givers_1 9 rfl rfl)
theorem dX0_givers_36 : decode cX0_givers 36 = .ok (.goto (-32), 3) := dk_167 255 224 (dk_at dksX0_givers_1 12 rfl rfl)
theorem dX0_givers_39 : decode cX0_givers 39 = .ok (.iload_n 1, 1) := dk_27 (dk_at dksX0_givers_1 15 rfl rfl)
theorem dX0_givers_40 : decode cX0_givers 40 = .ok (.ireturn, 1) := dk_172 (dk_at dksX0_givers_1 16 rfl rfl)
def dkwX0_isRest_2 : List UInt8 := [167, 255, 212, 4, 172]
abbrev dktX0_isRest_2 : List UInt8 := dkwX0_isRest_2 ++ []
def dkwX0_isRest_1 : List UInt8 := [27, 4, 28, 120, 130, 182, 1, 106, 42, 28, 27, 182, 1, 106, 164, 0, 5, 3, 172, 132, 2, 1]
abbrev dktX0_isRest_1 : List UInt8 := dkwX0_isRest_1 ++ dktX0_isRest_2
def dkwX0_isRest_0 : List UInt8 := [3, 61, 28, 42, 182, 0, 154, 162, 0, 42, 42, 182, 1, 103, 28, 122, 4, 126, 4, 160, 0, 24, 42, 28]
abbrev dktX0_isRest_0 : List UInt8 := dkwX0_isRest_0 ++ dktX0_isRest_1
theorem dksX0_isRest_0 : cX0_isRest.data.toList.drop 0 = dktX0_isRest_0 := by decide +kernel
theorem dksX0_isRest_1 : cX0_isRest.data.toList.drop 24 = dktX0_isRest_1 := dk_seg dksX0_isRest_0 24 rfl rfl
theorem dksX0_isRest_2 : cX0_isRest.data.toList.drop 46 = dktX0_isRest_2 := dk_seg dksX0_isRest_1 22 rfl rfl
theorem dX0_isRest_0 : decode cX0_isRest 0 = .ok (.iconst 0, 1) := dk_3 (dk_at dksX0_isRest_0 0 rfl rfl)
theorem dX0_isRest_1 : decode cX0_isRest 1 = .ok (.istore_n 2, 1) := dk_61 (dk_at dksX0_isRest_0 1 rfl rfl)
theorem dX0_isRest_2 : decode cX0_isRest 2 = .ok (.iload_n 2, 1) := dk_28 (dk_at dksX0_isRest_0 2 rfl rfl)
theorem dX0_isRest_3 : decode cX0_isRest 3 = .ok (.aload_n 0, 1) := dk_42 (dk_at dksX0_isRest_0 3 rfl rfl)
theorem dX0_isRest_4 : decode cX0_isRest 4 = .ok (.invokevirtual 154, 3) := dk_182 0 154 (dk_at dksX0_isRest_0 4 rfl rfl)
theorem dX0_isRest_7 : decode cX0_isRest 7 = .ok (.if_icmp .ge 42, 3) := dk_162 0 42 (dk_at dksX0_isRest_0 7 rfl rfl)
theorem dX0_isRest_10 : decode cX0_isRest 10 = .ok (.aload_n 0, 1) := dk_42 (dk_at dksX0_isRest_0 10 rfl rfl)
theorem dX0_isRest_11 : decode cX0_isRest 11 = .ok (.invokevirtual 359, 3) := dk_182 1 103 (dk_at dksX0_isRest_0 11 rfl rfl)
theorem dX0_isRest_14 : decode cX0_isRest 14 = .ok (.iload_n 2, 1) := dk_28 (dk_at dksX0_isRest_0 14 rfl rfl)
theorem dX0_isRest_15 : decode cX0_isRest 15 = .ok (.ishr, 1) := dk_122 (dk_at dksX0_isRest_0 15 rfl rfl)
theorem dX0_isRest_16 : decode cX0_isRest 16 = .ok (.iconst 1, 1) := dk_4 (dk_at dksX0_isRest_0 16 rfl rfl)
theorem dX0_isRest_17 : decode cX0_isRest 17 = .ok (.iand, 1) := dk_126 (dk_at dksX0_isRest_0 17 rfl rfl)
theorem dX0_isRest_18 : decode cX0_isRest 18 = .ok (.iconst 1, 1) := dk_4 (dk_at dksX0_isRest_0 18 rfl rfl)
theorem dX0_isRest_19 : decode cX0_isRest 19 = .ok (.if_icmp .ne 24, 3) := dk_160 0 24 (dk_at dksX0_isRest_0 19 rfl rfl)
theorem dX0_isRest_22 : decode cX0_isRest 22 = .ok (.aload_n 0, 1) := dk_42 (dk_at dksX0_isRest_0 22 rfl rfl)
theorem dX0_isRest_23 : decode cX0_isRest 23 = .ok (.iload_n 2, 1) := dk_28 (dk_at dksX0_isRest_0 23 rfl rfl)
theorem dX0_isRest_24 : decode cX0_isRest 24 = .ok (.iload_n 1, 1) := dk_27 (dk_at dksX0_isRest_1 0 rfl rfl)
theorem dX0_isRest_25 : decode cX0_isRest 25 = .ok (.iconst 1, 1) := dk_4 (dk_at dksX0_isRest_1 1 rfl rfl)
theorem dX0_isRest_26 : decode cX0_isRest 26 = .ok (.iload_n 2, 1) := dk_28 (dk_at dksX0_isRest_1 2 rfl rfl)
theorem dX0_isRest_27 : decode cX0_isRest 27 = .ok (.ishl, 1) := dk_120 (dk_at dksX0_isRest_1 3 rfl rfl)
theorem dX0_isRest_28 : decode cX0_isRest 28 = .ok (.ixor, 1) := dk_130 (dk_at dksX0_isRest_1 4 rfl rfl)
theorem dX0_isRest_29 : decode cX0_isRest 29 = .ok (.invokevirtual 362, 3) := dk_182 1 106 (dk_at dksX0_isRest_1 5 rfl rfl)
theorem dX0_isRest_32 : decode cX0_isRest 32 = .ok (.aload_n 0, 1) := dk_42 (dk_at dksX0_isRest_1 8 rfl rfl)
theorem dX0_isRest_33 : decode cX0_isRest 33 = .ok (.iload_n 2, 1) := dk_28 (dk_at dksX0_isRest_1 9 rfl rfl)
theorem dX0_isRest_34 : decode cX0_isRest 34 = .ok (.iload_n 1, 1) := dk_27 (dk_at dksX0_isRest_1 10 rfl rfl)
theorem dX0_isRest_35 : decode cX0_isRest 35 = .ok (.invokevirtual 362, 3) := dk_182 1 106 (dk_at dksX0_isRest_1 11 rfl rfl)
theorem dX0_isRest_38 : decode cX0_isRest 38 = .ok (.if_icmp .le 5, 3) := dk_164 0 5 (dk_at dksX0_isRest_1 14 rfl rfl)
theorem dX0_isRest_41 : decode cX0_isRest 41 = .ok (.iconst 0, 1) := dk_3 (dk_at dksX0_isRest_1 17 rfl rfl)
theorem dX0_isRest_42 : decode cX0_isRest 42 = .ok (.ireturn, 1) := dk_172 (dk_at dksX0_isRest_1 18 rfl rfl)
theorem dX0_isRest_43 : decode cX0_isRest 43 = .ok (.iinc 2 1, 3) := dk_132 2 1 (dk_at dksX0_isRest_1 19 rfl rfl)
theorem dX0_isRest_46 : decode cX0_isRest 46 = .ok (.goto (-44), 3) := dk_167 255 212 (dk_at dksX0_isRest_2 0 rfl rfl)
theorem dX0_isRest_49 : decode cX0_isRest 49 = .ok (.iconst 1, 1) := dk_4 (dk_at dksX0_isRest_2 3 rfl rfl)
theorem dX0_isRest_50 : decode cX0_isRest 50 = .ok (.ireturn, 1) := dk_172 (dk_at dksX0_isRest_2 4 rfl rfl)
def dkwX0_worth_2 : List UInt8 := [182, 0, 195, 167, 0, 4, 3, 100, 172]
abbrev dktX0_worth_2 : List UInt8 := dkwX0_worth_2 ++ []
def dkwX0_worth_1 : List UInt8 := [4, 160, 0, 29, 42, 180, 0, 51, 27, 182, 0, 230, 154, 0, 18, 42, 180, 0, 51, 42, 180, 0, 40, 27]
abbrev dktX0_worth_1 : List UInt8 := dkwX0_worth_1 ++ dktX0_worth_2
def dkwX0_worth_0 : List UInt8 := [42, 28, 182, 1, 97, 153, 0, 13, 42, 180, 0, 40, 180, 1, 100, 167, 0, 4, 3, 28, 27, 122, 4, 126]
abbrev dktX0_worth_0 : List UInt8 := dkwX0_worth_0 ++ dktX0_worth_1
theorem dksX0_worth_0 : cX0_worth.data.toList.drop 0 = dktX0_worth_0 := by decide +kernel
theorem dksX0_worth_1 : cX0_worth.data.toList.drop 24 = dktX0_worth_1 := dk_seg dksX0_worth_0 24 rfl rfl
theorem dksX0_worth_2 : cX0_worth.data.toList.drop 48 = dktX0_worth_2 := dk_seg dksX0_worth_1 24 rfl rfl
theorem dX0_worth_0 : decode cX0_worth 0 = .ok (.aload_n 0, 1) := dk_42 (dk_at dksX0_worth_0 0 rfl rfl)
theorem dX0_worth_1 : decode cX0_worth 1 = .ok (.iload_n 2, 1) := dk_28 (dk_at dksX0_worth_0 1 rfl rfl)
theorem dX0_worth_2 : decode cX0_worth 2 = .ok (.invokevirtual 353, 3) := dk_182 1 97 (dk_at dksX0_worth_0 2 rfl rfl)
theorem dX0_worth_5 : decode cX0_worth 5 = .ok (.ifCond .eq 13, 3) := dk_153 0 13 (dk_at dksX0_worth_0 5 rfl rfl)
theorem dX0_worth_8 : decode cX0_worth 8 = .ok (.aload_n 0, 1) := dk_42 (dk_at dksX0_worth_0 8 rfl rfl)
theorem dX0_worth_9 : decode cX0_worth 9 = .ok (.getfield 40, 3) := dk_180 0 40 (dk_at dksX0_worth_0 9 rfl rfl)
theorem dX0_worth_12 : decode cX0_worth 12 = .ok (.getfield 356, 3) := dk_180 1 100 (dk_at dksX0_worth_0 12 rfl rfl)
theorem dX0_worth_15 : decode cX0_worth 15 = .ok (.goto 4, 3) := dk_167 0 4 (dk_at dksX0_worth_0 15 rfl rfl)
theorem dX0_worth_18 : decode cX0_worth 18 = .ok (.iconst 0, 1) := dk_3 (dk_at dksX0_worth_0 18 rfl rfl)
theorem dX0_worth_19 : decode cX0_worth 19 = .ok (.iload_n 2, 1) := dk_28 (dk_at dksX0_worth_0 19 rfl rfl)
theorem dX0_worth_20 : decode cX0_worth 20 = .ok (.iload_n 1, 1) := dk_27 (dk_at dksX0_worth_0 20 rfl rfl)
theorem dX0_worth_21 : decode cX0_worth 21 = .ok (.ishr, 1) := dk_122 (dk_at dksX0_worth_0 21 rfl rfl)
theorem dX0_worth_22 : decode cX0_worth 22 = .ok (.iconst 1, 1) := dk_4 (dk_at dksX0_worth_0 22 rfl rfl)
theorem dX0_worth_23 : decode cX0_worth 23 = .ok (.iand, 1) := dk_126 (dk_at dksX0_worth_0 23 rfl rfl)
theorem dX0_worth_24 : decode cX0_worth 24 = .ok (.iconst 1, 1) := dk_4 (dk_at dksX0_worth_1 0 rfl rfl)
theorem dX0_worth_25 : decode cX0_worth 25 = .ok (.if_icmp .ne 29, 3) := dk_160 0 29 (dk_at dksX0_worth_1 1 rfl rfl)
theorem dX0_worth_28 : decode cX0_worth 28 = .ok (.aload_n 0, 1) := dk_42 (dk_at dksX0_worth_1 4 rfl rfl)
theorem dX0_worth_29 : decode cX0_worth 29 = .ok (.getfield 51, 3) := dk_180 0 51 (dk_at dksX0_worth_1 5 rfl rfl)
theorem dX0_worth_32 : decode cX0_worth 32 = .ok (.iload_n 1, 1) := dk_27 (dk_at dksX0_worth_1 8 rfl rfl)
theorem dX0_worth_33 : decode cX0_worth 33 = .ok (.invokevirtual 230, 3) := dk_182 0 230 (dk_at dksX0_worth_1 9 rfl rfl)
theorem dX0_worth_36 : decode cX0_worth 36 = .ok (.ifCond .ne 18, 3) := dk_154 0 18 (dk_at dksX0_worth_1 12 rfl rfl)
theorem dX0_worth_39 : decode cX0_worth 39 = .ok (.aload_n 0, 1) := dk_42 (dk_at dksX0_worth_1 15 rfl rfl)
theorem dX0_worth_40 : decode cX0_worth 40 = .ok (.getfield 51, 3) := dk_180 0 51 (dk_at dksX0_worth_1 16 rfl rfl)
theorem dX0_worth_43 : decode cX0_worth 43 = .ok (.aload_n 0, 1) := dk_42 (dk_at dksX0_worth_1 19 rfl rfl)
theorem dX0_worth_44 : decode cX0_worth 44 = .ok (.getfield 40, 3) := dk_180 0 40 (dk_at dksX0_worth_1 20 rfl rfl)
theorem dX0_worth_47 : decode cX0_worth 47 = .ok (.iload_n 1, 1) := dk_27 (dk_at dksX0_worth_1 23 rfl rfl)
theorem dX0_worth_48 : decode cX0_worth 48 = .ok (.invokevirtual 195, 3) := dk_182 0 195 (dk_at dksX0_worth_2 0 rfl rfl)
theorem dX0_worth_51 : decode cX0_worth 51 = .ok (.goto 4, 3) := dk_167 0 4 (dk_at dksX0_worth_2 3 rfl rfl)
theorem dX0_worth_54 : decode cX0_worth 54 = .ok (.iconst 0, 1) := dk_3 (dk_at dksX0_worth_2 6 rfl rfl)
theorem dX0_worth_55 : decode cX0_worth 55 = .ok (.isub, 1) := dk_100 (dk_at dksX0_worth_2 7 rfl rfl)
theorem dX0_worth_56 : decode cX0_worth 56 = .ok (.ireturn, 1) := dk_172 (dk_at dksX0_worth_2 8 rfl rfl)
def dkwX0_isEnough_2 : List UInt8 := [180, 0, 246, 161, 0, 7, 4, 167, 0, 4, 3, 172]
abbrev dktX0_isEnough_2 : List UInt8 := dkwX0_isEnough_2 ++ []
def dkwX0_isEnough_1 : List UInt8 := [180, 0, 51, 29, 182, 1, 49, 167, 0, 4, 3, 96, 61, 132, 3, 1, 167, 255, 221, 28, 42, 180, 0, 40]
abbrev dktX0_isEnough_1 : List UInt8 := dkwX0_isEnough_1 ++ dktX0_isEnough_2
def dkwX0_isEnough_0 : List UInt8 := [3, 61, 3, 62, 29, 42, 182, 0, 154, 162, 0, 33, 28, 27, 29, 122, 4, 126, 4, 160, 0, 14, 42]
abbrev dktX0_isEnough_0 : List UInt8 := dkwX0_isEnough_0 ++ dktX0_isEnough_1
theorem dksX0_isEnough_0 : cX0_isEnough.data.toList.drop 0 = dktX0_isEnough_0 := by decide +kernel
theorem dksX0_isEnough_1 : cX0_isEnough.data.toList.drop 23 = dktX0_isEnough_1 := dk_seg dksX0_isEnough_0 23 rfl rfl
theorem dksX0_isEnough_2 : cX0_isEnough.data.toList.drop 47 = dktX0_isEnough_2 := dk_seg dksX0_isEnough_1 24 rfl rfl
theorem dX0_isEnough_0 : decode cX0_isEnough 0 = .ok (.iconst 0, 1) := dk_3 (dk_at dksX0_isEnough_0 0 rfl rfl)
theorem dX0_isEnough_1 : decode cX0_isEnough 1 = .ok (.istore_n 2, 1) := dk_61 (dk_at dksX0_isEnough_0 1 rfl rfl)
theorem dX0_isEnough_2 : decode cX0_isEnough 2 = .ok (.iconst 0, 1) := dk_3 (dk_at dksX0_isEnough_0 2 rfl rfl)
theorem dX0_isEnough_3 : decode cX0_isEnough 3 = .ok (.istore_n 3, 1) := dk_62 (dk_at dksX0_isEnough_0 3 rfl rfl)
theorem dX0_isEnough_4 : decode cX0_isEnough 4 = .ok (.iload_n 3, 1) := dk_29 (dk_at dksX0_isEnough_0 4 rfl rfl)
theorem dX0_isEnough_5 : decode cX0_isEnough 5 = .ok (.aload_n 0, 1) := dk_42 (dk_at dksX0_isEnough_0 5 rfl rfl)
theorem dX0_isEnough_6 : decode cX0_isEnough 6 = .ok (.invokevirtual 154, 3) := dk_182 0 154 (dk_at dksX0_isEnough_0 6 rfl rfl)
theorem dX0_isEnough_9 : decode cX0_isEnough 9 = .ok (.if_icmp .ge 33, 3) := dk_162 0 33 (dk_at dksX0_isEnough_0 9 rfl rfl)
theorem dX0_isEnough_12 : decode cX0_isEnough 12 = .ok (.iload_n 2, 1) := dk_28 (dk_at dksX0_isEnough_0 12 rfl rfl)
theorem dX0_isEnough_13 : decode cX0_isEnough 13 = .ok (.iload_n 1, 1) := dk_27 (dk_at dksX0_isEnough_0 13 rfl rfl)
theorem dX0_isEnough_14 : decode cX0_isEnough 14 = .ok (.iload_n 3, 1) := dk_29 (dk_at dksX0_isEnough_0 14 rfl rfl)
theorem dX0_isEnough_15 : decode cX0_isEnough 15 = .ok (.ishr, 1) := dk_122 (dk_at dksX0_isEnough_0 15 rfl rfl)
theorem dX0_isEnough_16 : decode cX0_isEnough 16 = .ok (.iconst 1, 1) := dk_4 (dk_at dksX0_isEnough_0 16 rfl rfl)
theorem dX0_isEnough_17 : decode cX0_isEnough 17 = .ok (.iand, 1) := dk_126 (dk_at dksX0_isEnough_0 17 rfl rfl)
theorem dX0_isEnough_18 : decode cX0_isEnough 18 = .ok (.iconst 1, 1) := dk_4 (dk_at dksX0_isEnough_0 18 rfl rfl)
theorem dX0_isEnough_19 : decode cX0_isEnough 19 = .ok (.if_icmp .ne 14, 3) := dk_160 0 14 (dk_at dksX0_isEnough_0 19 rfl rfl)
theorem dX0_isEnough_22 : decode cX0_isEnough 22 = .ok (.aload_n 0, 1) := dk_42 (dk_at dksX0_isEnough_0 22 rfl rfl)
theorem dX0_isEnough_23 : decode cX0_isEnough 23 = .ok (.getfield 51, 3) := dk_180 0 51 (dk_at dksX0_isEnough_1 0 rfl rfl)
theorem dX0_isEnough_26 : decode cX0_isEnough 26 = .ok (.iload_n 3, 1) := dk_29 (dk_at dksX0_isEnough_1 3 rfl rfl)
theorem dX0_isEnough_27 : decode cX0_isEnough 27 = .ok (.invokevirtual 305, 3) := dk_182 1 49 (dk_at dksX0_isEnough_1 4 rfl rfl)
theorem dX0_isEnough_30 : decode cX0_isEnough 30 = .ok (.goto 4, 3) := dk_167 0 4 (dk_at dksX0_isEnough_1 7 rfl rfl)
theorem dX0_isEnough_33 : decode cX0_isEnough 33 = .ok (.iconst 0, 1) := dk_3 (dk_at dksX0_isEnough_1 10 rfl rfl)
theorem dX0_isEnough_34 : decode cX0_isEnough 34 = .ok (.iadd, 1) := dk_96 (dk_at dksX0_isEnough_1 11 rfl rfl)
theorem dX0_isEnough_35 : decode cX0_isEnough 35 = .ok (.istore_n 2, 1) := dk_61 (dk_at dksX0_isEnough_1 12 rfl rfl)
theorem dX0_isEnough_36 : decode cX0_isEnough 36 = .ok (.iinc 3 1, 3) := dk_132 3 1 (dk_at dksX0_isEnough_1 13 rfl rfl)
theorem dX0_isEnough_39 : decode cX0_isEnough 39 = .ok (.goto (-35), 3) := dk_167 255 221 (dk_at dksX0_isEnough_1 16 rfl rfl)
theorem dX0_isEnough_42 : decode cX0_isEnough 42 = .ok (.iload_n 2, 1) := dk_28 (dk_at dksX0_isEnough_1 19 rfl rfl)
theorem dX0_isEnough_43 : decode cX0_isEnough 43 = .ok (.aload_n 0, 1) := dk_42 (dk_at dksX0_isEnough_1 20 rfl rfl)
theorem dX0_isEnough_44 : decode cX0_isEnough 44 = .ok (.getfield 40, 3) := dk_180 0 40 (dk_at dksX0_isEnough_1 21 rfl rfl)
theorem dX0_isEnough_47 : decode cX0_isEnough 47 = .ok (.getfield 246, 3) := dk_180 0 246 (dk_at dksX0_isEnough_2 0 rfl rfl)
theorem dX0_isEnough_50 : decode cX0_isEnough 50 = .ok (.if_icmp .lt 7, 3) := dk_161 0 7 (dk_at dksX0_isEnough_2 3 rfl rfl)
theorem dX0_isEnough_53 : decode cX0_isEnough 53 = .ok (.iconst 1, 1) := dk_4 (dk_at dksX0_isEnough_2 6 rfl rfl)
theorem dX0_isEnough_54 : decode cX0_isEnough 54 = .ok (.goto 4, 3) := dk_167 0 4 (dk_at dksX0_isEnough_2 7 rfl rfl)
theorem dX0_isEnough_57 : decode cX0_isEnough 57 = .ok (.iconst 0, 1) := dk_3 (dk_at dksX0_isEnough_2 10 rfl rfl)
theorem dX0_isEnough_58 : decode cX0_isEnough 58 = .ok (.ireturn, 1) := dk_172 (dk_at dksX0_isEnough_2 11 rfl rfl)
def dkwX0_pivots_1 : List UInt8 := [182, 1, 97, 153, 0, 7, 3, 167, 0, 6, 4, 28, 120, 128, 60, 132, 2, 1, 167, 255, 218, 27, 172]
abbrev dktX0_pivots_1 : List UInt8 := dkwX0_pivots_1 ++ []
def dkwX0_pivots_0 : List UInt8 := [3, 60, 3, 61, 28, 42, 182, 0, 154, 162, 0, 36, 27, 42, 42, 182, 1, 103, 4, 28, 120, 2, 130, 126]
abbrev dktX0_pivots_0 : List UInt8 := dkwX0_pivots_0 ++ dktX0_pivots_1
theorem dksX0_pivots_0 : cX0_pivots.data.toList.drop 0 = dktX0_pivots_0 := by decide +kernel
theorem dksX0_pivots_1 : cX0_pivots.data.toList.drop 24 = dktX0_pivots_1 := dk_seg dksX0_pivots_0 24 rfl rfl
theorem dX0_pivots_0 : decode cX0_pivots 0 = .ok (.iconst 0, 1) := dk_3 (dk_at dksX0_pivots_0 0 rfl rfl)
theorem dX0_pivots_1 : decode cX0_pivots 1 = .ok (.istore_n 1, 1) := dk_60 (dk_at dksX0_pivots_0 1 rfl rfl)
theorem dX0_pivots_2 : decode cX0_pivots 2 = .ok (.iconst 0, 1) := dk_3 (dk_at dksX0_pivots_0 2 rfl rfl)
theorem dX0_pivots_3 : decode cX0_pivots 3 = .ok (.istore_n 2, 1) := dk_61 (dk_at dksX0_pivots_0 3 rfl rfl)
theorem dX0_pivots_4 : decode cX0_pivots 4 = .ok (.iload_n 2, 1) := dk_28 (dk_at dksX0_pivots_0 4 rfl rfl)
theorem dX0_pivots_5 : decode cX0_pivots 5 = .ok (.aload_n 0, 1) := dk_42 (dk_at dksX0_pivots_0 5 rfl rfl)
theorem dX0_pivots_6 : decode cX0_pivots 6 = .ok (.invokevirtual 154, 3) := dk_182 0 154 (dk_at dksX0_pivots_0 6 rfl rfl)
theorem dX0_pivots_9 : decode cX0_pivots 9 = .ok (.if_icmp .ge 36, 3) := dk_162 0 36 (dk_at dksX0_pivots_0 9 rfl rfl)
theorem dX0_pivots_12 : decode cX0_pivots 12 = .ok (.iload_n 1, 1) := dk_27 (dk_at dksX0_pivots_0 12 rfl rfl)
theorem dX0_pivots_13 : decode cX0_pivots 13 = .ok (.aload_n 0, 1) := dk_42 (dk_at dksX0_pivots_0 13 rfl rfl)
theorem dX0_pivots_14 : decode cX0_pivots 14 = .ok (.aload_n 0, 1) := dk_42 (dk_at dksX0_pivots_0 14 rfl rfl)
theorem dX0_pivots_15 : decode cX0_pivots 15 = .ok (.invokevirtual 359, 3) := dk_182 1 103 (dk_at dksX0_pivots_0 15 rfl rfl)
theorem dX0_pivots_18 : decode cX0_pivots 18 = .ok (.iconst 1, 1) := dk_4 (dk_at dksX0_pivots_0 18 rfl rfl)
theorem dX0_pivots_19 : decode cX0_pivots 19 = .ok (.iload_n 2, 1) := dk_28 (dk_at dksX0_pivots_0 19 rfl rfl)
theorem dX0_pivots_20 : decode cX0_pivots 20 = .ok (.ishl, 1) := dk_120 (dk_at dksX0_pivots_0 20 rfl rfl)
theorem dX0_pivots_21 : decode cX0_pivots 21 = .ok (.iconst (-1), 1) := dk_2 (dk_at dksX0_pivots_0 21 rfl rfl)
theorem dX0_pivots_22 : decode cX0_pivots 22 = .ok (.ixor, 1) := dk_130 (dk_at dksX0_pivots_0 22 rfl rfl)
theorem dX0_pivots_23 : decode cX0_pivots 23 = .ok (.iand, 1) := dk_126 (dk_at dksX0_pivots_0 23 rfl rfl)
theorem dX0_pivots_24 : decode cX0_pivots 24 = .ok (.invokevirtual 353, 3) := dk_182 1 97 (dk_at dksX0_pivots_1 0 rfl rfl)
theorem dX0_pivots_27 : decode cX0_pivots 27 = .ok (.ifCond .eq 7, 3) := dk_153 0 7 (dk_at dksX0_pivots_1 3 rfl rfl)
theorem dX0_pivots_30 : decode cX0_pivots 30 = .ok (.iconst 0, 1) := dk_3 (dk_at dksX0_pivots_1 6 rfl rfl)
theorem dX0_pivots_31 : decode cX0_pivots 31 = .ok (.goto 6, 3) := dk_167 0 6 (dk_at dksX0_pivots_1 7 rfl rfl)
theorem dX0_pivots_34 : decode cX0_pivots 34 = .ok (.iconst 1, 1) := dk_4 (dk_at dksX0_pivots_1 10 rfl rfl)
theorem dX0_pivots_35 : decode cX0_pivots 35 = .ok (.iload_n 2, 1) := dk_28 (dk_at dksX0_pivots_1 11 rfl rfl)
theorem dX0_pivots_36 : decode cX0_pivots 36 = .ok (.ishl, 1) := dk_120 (dk_at dksX0_pivots_1 12 rfl rfl)
theorem dX0_pivots_37 : decode cX0_pivots 37 = .ok (.ior, 1) := dk_128 (dk_at dksX0_pivots_1 13 rfl rfl)
theorem dX0_pivots_38 : decode cX0_pivots 38 = .ok (.istore_n 1, 1) := dk_60 (dk_at dksX0_pivots_1 14 rfl rfl)
theorem dX0_pivots_39 : decode cX0_pivots 39 = .ok (.iinc 2 1, 3) := dk_132 2 1 (dk_at dksX0_pivots_1 15 rfl rfl)
theorem dX0_pivots_42 : decode cX0_pivots 42 = .ok (.goto (-38), 3) := dk_167 255 218 (dk_at dksX0_pivots_1 18 rfl rfl)
theorem dX0_pivots_45 : decode cX0_pivots 45 = .ok (.iload_n 1, 1) := dk_27 (dk_at dksX0_pivots_1 21 rfl rfl)
theorem dX0_pivots_46 : decode cX0_pivots 46 = .ok (.ireturn, 1) := dk_172 (dk_at dksX0_pivots_1 22 rfl rfl)
def dkwX0_then_3 : List UInt8 := [180, 0, 186, 27, 46, 172]
abbrev dktX0_then_3 : List UInt8 := dkwX0_then_3 ++ []
def dkwX0_then_2 : List UInt8 := [182, 1, 12, 29, 154, 0, 15, 42, 180, 0, 55, 180, 0, 167, 27, 46, 167, 0, 12, 42, 180, 0, 55]
abbrev dktX0_then_2 : List UInt8 := dkwX0_then_2 ++ dktX0_then_3
def dkwX0_then_1 : List UInt8 := [2, 172, 42, 180, 0, 55, 42, 180, 0, 51, 182, 0, 221, 42, 42, 180, 0, 55, 28, 42, 180, 0, 68]
abbrev dktX0_then_1 : List UInt8 := dkwX0_then_1 ++ dktX0_then_2
def dkwX0_then_0 : List UInt8 := [42, 27, 182, 0, 160, 153, 0, 19, 28, 184, 1, 9, 153, 0, 12, 29, 3, 4, 184, 0, 156, 154, 0, 5]
abbrev dktX0_then_0 : List UInt8 := dkwX0_then_0 ++ dktX0_then_1
theorem dksX0_then_0 : cX0_then.data.toList.drop 0 = dktX0_then_0 := by decide +kernel
theorem dksX0_then_1 : cX0_then.data.toList.drop 24 = dktX0_then_1 := dk_seg dksX0_then_0 24 rfl rfl
theorem dksX0_then_2 : cX0_then.data.toList.drop 47 = dktX0_then_2 := dk_seg dksX0_then_1 23 rfl rfl
theorem dksX0_then_3 : cX0_then.data.toList.drop 70 = dktX0_then_3 := dk_seg dksX0_then_2 23 rfl rfl
theorem dX0_then_0 : decode cX0_then 0 = .ok (.aload_n 0, 1) := dk_42 (dk_at dksX0_then_0 0 rfl rfl)
theorem dX0_then_1 : decode cX0_then 1 = .ok (.iload_n 1, 1) := dk_27 (dk_at dksX0_then_0 1 rfl rfl)
theorem dX0_then_2 : decode cX0_then 2 = .ok (.invokevirtual 160, 3) := dk_182 0 160 (dk_at dksX0_then_0 2 rfl rfl)
theorem dX0_then_5 : decode cX0_then 5 = .ok (.ifCond .eq 19, 3) := dk_153 0 19 (dk_at dksX0_then_0 5 rfl rfl)
theorem dX0_then_8 : decode cX0_then 8 = .ok (.iload_n 2, 1) := dk_28 (dk_at dksX0_then_0 8 rfl rfl)
theorem dX0_then_9 : decode cX0_then 9 = .ok (.invokestatic 265, 3) := dk_184 1 9 (dk_at dksX0_then_0 9 rfl rfl)
theorem dX0_then_12 : decode cX0_then 12 = .ok (.ifCond .eq 12, 3) := dk_153 0 12 (dk_at dksX0_then_0 12 rfl rfl)
theorem dX0_then_15 : decode cX0_then 15 = .ok (.iload_n 3, 1) := dk_29 (dk_at dksX0_then_0 15 rfl rfl)
theorem dX0_then_16 : decode cX0_then 16 = .ok (.iconst 0, 1) := dk_3 (dk_at dksX0_then_0 16 rfl rfl)
theorem dX0_then_17 : decode cX0_then 17 = .ok (.iconst 1, 1) := dk_4 (dk_at dksX0_then_0 17 rfl rfl)
theorem dX0_then_18 : decode cX0_then 18 = .ok (.invokestatic 156, 3) := dk_184 0 156 (dk_at dksX0_then_0 18 rfl rfl)
theorem dX0_then_21 : decode cX0_then 21 = .ok (.ifCond .ne 5, 3) := dk_154 0 5 (dk_at dksX0_then_0 21 rfl rfl)
theorem dX0_then_24 : decode cX0_then 24 = .ok (.iconst (-1), 1) := dk_2 (dk_at dksX0_then_1 0 rfl rfl)
theorem dX0_then_25 : decode cX0_then 25 = .ok (.ireturn, 1) := dk_172 (dk_at dksX0_then_1 1 rfl rfl)
theorem dX0_then_26 : decode cX0_then 26 = .ok (.aload_n 0, 1) := dk_42 (dk_at dksX0_then_1 2 rfl rfl)
theorem dX0_then_27 : decode cX0_then 27 = .ok (.getfield 55, 3) := dk_180 0 55 (dk_at dksX0_then_1 3 rfl rfl)
theorem dX0_then_30 : decode cX0_then 30 = .ok (.aload_n 0, 1) := dk_42 (dk_at dksX0_then_1 6 rfl rfl)
theorem dX0_then_31 : decode cX0_then 31 = .ok (.getfield 51, 3) := dk_180 0 51 (dk_at dksX0_then_1 7 rfl rfl)
theorem dX0_then_34 : decode cX0_then 34 = .ok (.invokevirtual 221, 3) := dk_182 0 221 (dk_at dksX0_then_1 10 rfl rfl)
theorem dX0_then_37 : decode cX0_then 37 = .ok (.aload_n 0, 1) := dk_42 (dk_at dksX0_then_1 13 rfl rfl)
theorem dX0_then_38 : decode cX0_then 38 = .ok (.aload_n 0, 1) := dk_42 (dk_at dksX0_then_1 14 rfl rfl)
theorem dX0_then_39 : decode cX0_then 39 = .ok (.getfield 55, 3) := dk_180 0 55 (dk_at dksX0_then_1 15 rfl rfl)
theorem dX0_then_42 : decode cX0_then 42 = .ok (.iload_n 2, 1) := dk_28 (dk_at dksX0_then_1 18 rfl rfl)
theorem dX0_then_43 : decode cX0_then 43 = .ok (.aload_n 0, 1) := dk_42 (dk_at dksX0_then_1 19 rfl rfl)
theorem dX0_then_44 : decode cX0_then 44 = .ok (.getfield 68, 3) := dk_180 0 68 (dk_at dksX0_then_1 20 rfl rfl)
theorem dX0_then_47 : decode cX0_then 47 = .ok (.invokevirtual 268, 3) := dk_182 1 12 (dk_at dksX0_then_2 0 rfl rfl)
theorem dX0_then_50 : decode cX0_then 50 = .ok (.iload_n 3, 1) := dk_29 (dk_at dksX0_then_2 3 rfl rfl)
theorem dX0_then_51 : decode cX0_then 51 = .ok (.ifCond .ne 15, 3) := dk_154 0 15 (dk_at dksX0_then_2 4 rfl rfl)
theorem dX0_then_54 : decode cX0_then 54 = .ok (.aload_n 0, 1) := dk_42 (dk_at dksX0_then_2 7 rfl rfl)
theorem dX0_then_55 : decode cX0_then 55 = .ok (.getfield 55, 3) := dk_180 0 55 (dk_at dksX0_then_2 8 rfl rfl)
theorem dX0_then_58 : decode cX0_then 58 = .ok (.getfield 167, 3) := dk_180 0 167 (dk_at dksX0_then_2 11 rfl rfl)
theorem dX0_then_61 : decode cX0_then 61 = .ok (.iload_n 1, 1) := dk_27 (dk_at dksX0_then_2 14 rfl rfl)
theorem dX0_then_62 : decode cX0_then 62 = .ok (.iaload, 1) := dk_46 (dk_at dksX0_then_2 15 rfl rfl)
theorem dX0_then_63 : decode cX0_then 63 = .ok (.goto 12, 3) := dk_167 0 12 (dk_at dksX0_then_2 16 rfl rfl)
theorem dX0_then_66 : decode cX0_then 66 = .ok (.aload_n 0, 1) := dk_42 (dk_at dksX0_then_2 19 rfl rfl)
theorem dX0_then_67 : decode cX0_then 67 = .ok (.getfield 55, 3) := dk_180 0 55 (dk_at dksX0_then_2 20 rfl rfl)
theorem dX0_then_70 : decode cX0_then 70 = .ok (.getfield 186, 3) := dk_180 0 186 (dk_at dksX0_then_3 0 rfl rfl)
theorem dX0_then_73 : decode cX0_then 73 = .ok (.iload_n 1, 1) := dk_27 (dk_at dksX0_then_3 3 rfl rfl)
theorem dX0_then_74 : decode cX0_then 74 = .ok (.iaload, 1) := dk_46 (dk_at dksX0_then_3 4 rfl rfl)
theorem dX0_then_75 : decode cX0_then 75 = .ok (.ireturn, 1) := dk_172 (dk_at dksX0_then_3 5 rfl rfl)
def dkwX0_year_5 : List UInt8 := [167, 255, 182, 21, 5, 172]
abbrev dktX0_year_5 : List UInt8 := dkwX0_year_5 ++ []
def dkwX0_year_4 : List UInt8 := [42, 180, 0, 55, 180, 0, 167, 27, 46, 28, 161, 0, 7, 4, 167, 0, 4, 3, 96, 54, 5, 132, 6, 1]
abbrev dktX0_year_4 : List UInt8 := dkwX0_year_4 ++ dktX0_year_5
def dkwX0_year_3 : List UInt8 := [180, 1, 112, 21, 6, 96, 181, 1, 115, 42, 42, 180, 0, 55, 29, 42, 180, 0, 68, 182, 1, 12, 21, 5]
abbrev dktX0_year_3 : List UInt8 := dkwX0_year_3 ++ dktX0_year_4
def dkwX0_year_2 : List UInt8 := [21, 4, 162, 0, 73, 42, 180, 0, 55, 42, 180, 0, 51, 182, 0, 221, 42, 180, 0, 55, 42, 180, 0, 40]
abbrev dktX0_year_2 : List UInt8 := dkwX0_year_2 ++ dktX0_year_3
def dkwX0_year_1 : List UInt8 := [153, 0, 14, 21, 4, 4, 16, 20, 184, 0, 156, 154, 0, 5, 2, 172, 3, 54, 5, 3, 54, 6, 21, 6]
abbrev dktX0_year_1 : List UInt8 := dkwX0_year_1 ++ dktX0_year_2
def dkwX0_year_0 : List UInt8 := [42, 27, 182, 0, 160, 153, 0, 31, 28, 3, 16, 99, 184, 0, 156, 153, 0, 21, 29, 184, 1, 9]
abbrev dktX0_year_0 : List UInt8 := dkwX0_year_0 ++ dktX0_year_1
theorem dksX0_year_0 : cX0_year.data.toList.drop 0 = dktX0_year_0 := by decide +kernel
theorem dksX0_year_1 : cX0_year.data.toList.drop 22 = dktX0_year_1 := dk_seg dksX0_year_0 22 rfl rfl
theorem dksX0_year_2 : cX0_year.data.toList.drop 46 = dktX0_year_2 := dk_seg dksX0_year_1 24 rfl rfl
theorem dksX0_year_3 : cX0_year.data.toList.drop 70 = dktX0_year_3 := dk_seg dksX0_year_2 24 rfl rfl
theorem dksX0_year_4 : cX0_year.data.toList.drop 94 = dktX0_year_4 := dk_seg dksX0_year_3 24 rfl rfl
theorem dksX0_year_5 : cX0_year.data.toList.drop 118 = dktX0_year_5 := dk_seg dksX0_year_4 24 rfl rfl
theorem dX0_year_0 : decode cX0_year 0 = .ok (.aload_n 0, 1) := dk_42 (dk_at dksX0_year_0 0 rfl rfl)
theorem dX0_year_1 : decode cX0_year 1 = .ok (.iload_n 1, 1) := dk_27 (dk_at dksX0_year_0 1 rfl rfl)
theorem dX0_year_2 : decode cX0_year 2 = .ok (.invokevirtual 160, 3) := dk_182 0 160 (dk_at dksX0_year_0 2 rfl rfl)
theorem dX0_year_5 : decode cX0_year 5 = .ok (.ifCond .eq 31, 3) := dk_153 0 31 (dk_at dksX0_year_0 5 rfl rfl)
theorem dX0_year_8 : decode cX0_year 8 = .ok (.iload_n 2, 1) := dk_28 (dk_at dksX0_year_0 8 rfl rfl)
theorem dX0_year_9 : decode cX0_year 9 = .ok (.iconst 0, 1) := dk_3 (dk_at dksX0_year_0 9 rfl rfl)
theorem dX0_year_10 : decode cX0_year 10 = .ok (.bipush 99, 2) := dk_16 99 (dk_at dksX0_year_0 10 rfl rfl)
theorem dX0_year_12 : decode cX0_year 12 = .ok (.invokestatic 156, 3) := dk_184 0 156 (dk_at dksX0_year_0 12 rfl rfl)
theorem dX0_year_15 : decode cX0_year 15 = .ok (.ifCond .eq 21, 3) := dk_153 0 21 (dk_at dksX0_year_0 15 rfl rfl)
theorem dX0_year_18 : decode cX0_year 18 = .ok (.iload_n 3, 1) := dk_29 (dk_at dksX0_year_0 18 rfl rfl)
theorem dX0_year_19 : decode cX0_year 19 = .ok (.invokestatic 265, 3) := dk_184 1 9 (dk_at dksX0_year_0 19 rfl rfl)
theorem dX0_year_22 : decode cX0_year 22 = .ok (.ifCond .eq 14, 3) := dk_153 0 14 (dk_at dksX0_year_1 0 rfl rfl)
theorem dX0_year_25 : decode cX0_year 25 = .ok (.iload 4, 2) := dk_21 4 (dk_at dksX0_year_1 3 rfl rfl)
theorem dX0_year_27 : decode cX0_year 27 = .ok (.iconst 1, 1) := dk_4 (dk_at dksX0_year_1 5 rfl rfl)
theorem dX0_year_28 : decode cX0_year 28 = .ok (.bipush 20, 2) := dk_16 20 (dk_at dksX0_year_1 6 rfl rfl)
theorem dX0_year_30 : decode cX0_year 30 = .ok (.invokestatic 156, 3) := dk_184 0 156 (dk_at dksX0_year_1 8 rfl rfl)
theorem dX0_year_33 : decode cX0_year 33 = .ok (.ifCond .ne 5, 3) := dk_154 0 5 (dk_at dksX0_year_1 11 rfl rfl)
theorem dX0_year_36 : decode cX0_year 36 = .ok (.iconst (-1), 1) := dk_2 (dk_at dksX0_year_1 14 rfl rfl)
theorem dX0_year_37 : decode cX0_year 37 = .ok (.ireturn, 1) := dk_172 (dk_at dksX0_year_1 15 rfl rfl)
theorem dX0_year_38 : decode cX0_year 38 = .ok (.iconst 0, 1) := dk_3 (dk_at dksX0_year_1 16 rfl rfl)
theorem dX0_year_39 : decode cX0_year 39 = .ok (.istore 5, 2) := dk_54 5 (dk_at dksX0_year_1 17 rfl rfl)
theorem dX0_year_41 : decode cX0_year 41 = .ok (.iconst 0, 1) := dk_3 (dk_at dksX0_year_1 19 rfl rfl)
theorem dX0_year_42 : decode cX0_year 42 = .ok (.istore 6, 2) := dk_54 6 (dk_at dksX0_year_1 20 rfl rfl)
theorem dX0_year_44 : decode cX0_year 44 = .ok (.iload 6, 2) := dk_21 6 (dk_at dksX0_year_1 22 rfl rfl)
theorem dX0_year_46 : decode cX0_year 46 = .ok (.iload 4, 2) := dk_21 4 (dk_at dksX0_year_2 0 rfl rfl)
theorem dX0_year_48 : decode cX0_year 48 = .ok (.if_icmp .ge 73, 3) := dk_162 0 73 (dk_at dksX0_year_2 2 rfl rfl)
theorem dX0_year_51 : decode cX0_year 51 = .ok (.aload_n 0, 1) := dk_42 (dk_at dksX0_year_2 5 rfl rfl)
theorem dX0_year_52 : decode cX0_year 52 = .ok (.getfield 55, 3) := dk_180 0 55 (dk_at dksX0_year_2 6 rfl rfl)
theorem dX0_year_55 : decode cX0_year 55 = .ok (.aload_n 0, 1) := dk_42 (dk_at dksX0_year_2 9 rfl rfl)
theorem dX0_year_56 : decode cX0_year 56 = .ok (.getfield 51, 3) := dk_180 0 51 (dk_at dksX0_year_2 10 rfl rfl)
theorem dX0_year_59 : decode cX0_year 59 = .ok (.invokevirtual 221, 3) := dk_182 0 221 (dk_at dksX0_year_2 13 rfl rfl)
theorem dX0_year_62 : decode cX0_year 62 = .ok (.aload_n 0, 1) := dk_42 (dk_at dksX0_year_2 16 rfl rfl)
theorem dX0_year_63 : decode cX0_year 63 = .ok (.getfield 55, 3) := dk_180 0 55 (dk_at dksX0_year_2 17 rfl rfl)
theorem dX0_year_66 : decode cX0_year 66 = .ok (.aload_n 0, 1) := dk_42 (dk_at dksX0_year_2 20 rfl rfl)
theorem dX0_year_67 : decode cX0_year 67 = .ok (.getfield 40, 3) := dk_180 0 40 (dk_at dksX0_year_2 21 rfl rfl)
theorem dX0_year_70 : decode cX0_year 70 = .ok (.getfield 368, 3) := dk_180 1 112 (dk_at dksX0_year_3 0 rfl rfl)
theorem dX0_year_73 : decode cX0_year 73 = .ok (.iload 6, 2) := dk_21 6 (dk_at dksX0_year_3 3 rfl rfl)
theorem dX0_year_75 : decode cX0_year 75 = .ok (.iadd, 1) := dk_96 (dk_at dksX0_year_3 5 rfl rfl)
theorem dX0_year_76 : decode cX0_year 76 = .ok (.putfield 371, 3) := dk_181 1 115 (dk_at dksX0_year_3 6 rfl rfl)
theorem dX0_year_79 : decode cX0_year 79 = .ok (.aload_n 0, 1) := dk_42 (dk_at dksX0_year_3 9 rfl rfl)
theorem dX0_year_80 : decode cX0_year 80 = .ok (.aload_n 0, 1) := dk_42 (dk_at dksX0_year_3 10 rfl rfl)
theorem dX0_year_81 : decode cX0_year 81 = .ok (.getfield 55, 3) := dk_180 0 55 (dk_at dksX0_year_3 11 rfl rfl)
theorem dX0_year_84 : decode cX0_year 84 = .ok (.iload_n 3, 1) := dk_29 (dk_at dksX0_year_3 14 rfl rfl)
theorem dX0_year_85 : decode cX0_year 85 = .ok (.aload_n 0, 1) := dk_42 (dk_at dksX0_year_3 15 rfl rfl)
theorem dX0_year_86 : decode cX0_year 86 = .ok (.getfield 68, 3) := dk_180 0 68 (dk_at dksX0_year_3 16 rfl rfl)
theorem dX0_year_89 : decode cX0_year 89 = .ok (.invokevirtual 268, 3) := dk_182 1 12 (dk_at dksX0_year_3 19 rfl rfl)
theorem dX0_year_92 : decode cX0_year 92 = .ok (.iload 5, 2) := dk_21 5 (dk_at dksX0_year_3 22 rfl rfl)
theorem dX0_year_94 : decode cX0_year 94 = .ok (.aload_n 0, 1) := dk_42 (dk_at dksX0_year_4 0 rfl rfl)
theorem dX0_year_95 : decode cX0_year 95 = .ok (.getfield 55, 3) := dk_180 0 55 (dk_at dksX0_year_4 1 rfl rfl)
theorem dX0_year_98 : decode cX0_year 98 = .ok (.getfield 167, 3) := dk_180 0 167 (dk_at dksX0_year_4 4 rfl rfl)
theorem dX0_year_101 : decode cX0_year 101 = .ok (.iload_n 1, 1) := dk_27 (dk_at dksX0_year_4 7 rfl rfl)
theorem dX0_year_102 : decode cX0_year 102 = .ok (.iaload, 1) := dk_46 (dk_at dksX0_year_4 8 rfl rfl)
theorem dX0_year_103 : decode cX0_year 103 = .ok (.iload_n 2, 1) := dk_28 (dk_at dksX0_year_4 9 rfl rfl)
theorem dX0_year_104 : decode cX0_year 104 = .ok (.if_icmp .lt 7, 3) := dk_161 0 7 (dk_at dksX0_year_4 10 rfl rfl)
theorem dX0_year_107 : decode cX0_year 107 = .ok (.iconst 1, 1) := dk_4 (dk_at dksX0_year_4 13 rfl rfl)
theorem dX0_year_108 : decode cX0_year 108 = .ok (.goto 4, 3) := dk_167 0 4 (dk_at dksX0_year_4 14 rfl rfl)
theorem dX0_year_111 : decode cX0_year 111 = .ok (.iconst 0, 1) := dk_3 (dk_at dksX0_year_4 17 rfl rfl)
theorem dX0_year_112 : decode cX0_year 112 = .ok (.iadd, 1) := dk_96 (dk_at dksX0_year_4 18 rfl rfl)
theorem dX0_year_113 : decode cX0_year 113 = .ok (.istore 5, 2) := dk_54 5 (dk_at dksX0_year_4 19 rfl rfl)
theorem dX0_year_115 : decode cX0_year 115 = .ok (.iinc 6 1, 3) := dk_132 6 1 (dk_at dksX0_year_4 21 rfl rfl)
theorem dX0_year_118 : decode cX0_year 118 = .ok (.goto (-74), 3) := dk_167 255 182 (dk_at dksX0_year_5 0 rfl rfl)
theorem dX0_year_121 : decode cX0_year 121 = .ok (.iload 5, 2) := dk_21 5 (dk_at dksX0_year_5 3 rfl rfl)
theorem dX0_year_123 : decode cX0_year 123 = .ok (.ireturn, 1) := dk_172 (dk_at dksX0_year_5 5 rfl rfl)
def dkwX0_tell_3 : List UInt8 := [181, 0, 137, 42, 180, 0, 137, 4, 100, 172]
abbrev dktX0_tell_3 : List UInt8 := dkwX0_tell_3 ++ []
def dkwX0_tell_2 : List UInt8 := [180, 0, 137, 28, 79, 42, 180, 0, 106, 42, 180, 0, 137, 29, 84, 42, 89, 180, 0, 137, 4, 96]
abbrev dktX0_tell_2 : List UInt8 := dkwX0_tell_2 ++ dktX0_tell_3
def dkwX0_tell_1 : List UInt8 := [16, 20, 160, 0, 5, 2, 172, 42, 180, 0, 100, 42, 180, 0, 137, 27, 79, 42, 180, 0, 103, 42]
abbrev dktX0_tell_1 : List UInt8 := dkwX0_tell_1 ++ dktX0_tell_2
def dkwX0_tell_0 : List UInt8 := [27, 3, 8, 184, 0, 156, 153, 0, 22, 28, 3, 16, 99, 184, 0, 156, 153, 0, 12, 42, 180, 0, 137]
abbrev dktX0_tell_0 : List UInt8 := dkwX0_tell_0 ++ dktX0_tell_1
theorem dksX0_tell_0 : cX0_tell.data.toList.drop 0 = dktX0_tell_0 := by decide +kernel
theorem dksX0_tell_1 : cX0_tell.data.toList.drop 23 = dktX0_tell_1 := dk_seg dksX0_tell_0 23 rfl rfl
theorem dksX0_tell_2 : cX0_tell.data.toList.drop 45 = dktX0_tell_2 := dk_seg dksX0_tell_1 22 rfl rfl
theorem dksX0_tell_3 : cX0_tell.data.toList.drop 67 = dktX0_tell_3 := dk_seg dksX0_tell_2 22 rfl rfl
theorem dX0_tell_0 : decode cX0_tell 0 = .ok (.iload_n 1, 1) := dk_27 (dk_at dksX0_tell_0 0 rfl rfl)
theorem dX0_tell_1 : decode cX0_tell 1 = .ok (.iconst 0, 1) := dk_3 (dk_at dksX0_tell_0 1 rfl rfl)
theorem dX0_tell_2 : decode cX0_tell 2 = .ok (.iconst 5, 1) := dk_8 (dk_at dksX0_tell_0 2 rfl rfl)
theorem dX0_tell_3 : decode cX0_tell 3 = .ok (.invokestatic 156, 3) := dk_184 0 156 (dk_at dksX0_tell_0 3 rfl rfl)
theorem dX0_tell_6 : decode cX0_tell 6 = .ok (.ifCond .eq 22, 3) := dk_153 0 22 (dk_at dksX0_tell_0 6 rfl rfl)
theorem dX0_tell_9 : decode cX0_tell 9 = .ok (.iload_n 2, 1) := dk_28 (dk_at dksX0_tell_0 9 rfl rfl)
theorem dX0_tell_10 : decode cX0_tell 10 = .ok (.iconst 0, 1) := dk_3 (dk_at dksX0_tell_0 10 rfl rfl)
theorem dX0_tell_11 : decode cX0_tell 11 = .ok (.bipush 99, 2) := dk_16 99 (dk_at dksX0_tell_0 11 rfl rfl)
theorem dX0_tell_13 : decode cX0_tell 13 = .ok (.invokestatic 156, 3) := dk_184 0 156 (dk_at dksX0_tell_0 13 rfl rfl)
theorem dX0_tell_16 : decode cX0_tell 16 = .ok (.ifCond .eq 12, 3) := dk_153 0 12 (dk_at dksX0_tell_0 16 rfl rfl)
theorem dX0_tell_19 : decode cX0_tell 19 = .ok (.aload_n 0, 1) := dk_42 (dk_at dksX0_tell_0 19 rfl rfl)
theorem dX0_tell_20 : decode cX0_tell 20 = .ok (.getfield 137, 3) := dk_180 0 137 (dk_at dksX0_tell_0 20 rfl rfl)
theorem dX0_tell_23 : decode cX0_tell 23 = .ok (.bipush 20, 2) := dk_16 20 (dk_at dksX0_tell_1 0 rfl rfl)
theorem dX0_tell_25 : decode cX0_tell 25 = .ok (.if_icmp .ne 5, 3) := dk_160 0 5 (dk_at dksX0_tell_1 2 rfl rfl)
theorem dX0_tell_28 : decode cX0_tell 28 = .ok (.iconst (-1), 1) := dk_2 (dk_at dksX0_tell_1 5 rfl rfl)
theorem dX0_tell_29 : decode cX0_tell 29 = .ok (.ireturn, 1) := dk_172 (dk_at dksX0_tell_1 6 rfl rfl)
theorem dX0_tell_30 : decode cX0_tell 30 = .ok (.aload_n 0, 1) := dk_42 (dk_at dksX0_tell_1 7 rfl rfl)
theorem dX0_tell_31 : decode cX0_tell 31 = .ok (.getfield 100, 3) := dk_180 0 100 (dk_at dksX0_tell_1 8 rfl rfl)
theorem dX0_tell_34 : decode cX0_tell 34 = .ok (.aload_n 0, 1) := dk_42 (dk_at dksX0_tell_1 11 rfl rfl)
theorem dX0_tell_35 : decode cX0_tell 35 = .ok (.getfield 137, 3) := dk_180 0 137 (dk_at dksX0_tell_1 12 rfl rfl)
theorem dX0_tell_38 : decode cX0_tell 38 = .ok (.iload_n 1, 1) := dk_27 (dk_at dksX0_tell_1 15 rfl rfl)
theorem dX0_tell_39 : decode cX0_tell 39 = .ok (.iastore, 1) := dk_79 (dk_at dksX0_tell_1 16 rfl rfl)
theorem dX0_tell_40 : decode cX0_tell 40 = .ok (.aload_n 0, 1) := dk_42 (dk_at dksX0_tell_1 17 rfl rfl)
theorem dX0_tell_41 : decode cX0_tell 41 = .ok (.getfield 103, 3) := dk_180 0 103 (dk_at dksX0_tell_1 18 rfl rfl)
theorem dX0_tell_44 : decode cX0_tell 44 = .ok (.aload_n 0, 1) := dk_42 (dk_at dksX0_tell_1 21 rfl rfl)
theorem dX0_tell_45 : decode cX0_tell 45 = .ok (.getfield 137, 3) := dk_180 0 137 (dk_at dksX0_tell_2 0 rfl rfl)
theorem dX0_tell_48 : decode cX0_tell 48 = .ok (.iload_n 2, 1) := dk_28 (dk_at dksX0_tell_2 3 rfl rfl)
theorem dX0_tell_49 : decode cX0_tell 49 = .ok (.iastore, 1) := dk_79 (dk_at dksX0_tell_2 4 rfl rfl)
theorem dX0_tell_50 : decode cX0_tell 50 = .ok (.aload_n 0, 1) := dk_42 (dk_at dksX0_tell_2 5 rfl rfl)
theorem dX0_tell_51 : decode cX0_tell 51 = .ok (.getfield 106, 3) := dk_180 0 106 (dk_at dksX0_tell_2 6 rfl rfl)
theorem dX0_tell_54 : decode cX0_tell 54 = .ok (.aload_n 0, 1) := dk_42 (dk_at dksX0_tell_2 9 rfl rfl)
theorem dX0_tell_55 : decode cX0_tell 55 = .ok (.getfield 137, 3) := dk_180 0 137 (dk_at dksX0_tell_2 10 rfl rfl)
theorem dX0_tell_58 : decode cX0_tell 58 = .ok (.iload_n 3, 1) := dk_29 (dk_at dksX0_tell_2 13 rfl rfl)
theorem dX0_tell_59 : decode cX0_tell 59 = .ok (.bastore, 1) := dk_84 (dk_at dksX0_tell_2 14 rfl rfl)
theorem dX0_tell_60 : decode cX0_tell 60 = .ok (.aload_n 0, 1) := dk_42 (dk_at dksX0_tell_2 15 rfl rfl)
theorem dX0_tell_61 : decode cX0_tell 61 = .ok (.dup, 1) := dk_89 (dk_at dksX0_tell_2 16 rfl rfl)
theorem dX0_tell_62 : decode cX0_tell 62 = .ok (.getfield 137, 3) := dk_180 0 137 (dk_at dksX0_tell_2 17 rfl rfl)
theorem dX0_tell_65 : decode cX0_tell 65 = .ok (.iconst 1, 1) := dk_4 (dk_at dksX0_tell_2 20 rfl rfl)
theorem dX0_tell_66 : decode cX0_tell 66 = .ok (.iadd, 1) := dk_96 (dk_at dksX0_tell_2 21 rfl rfl)
theorem dX0_tell_67 : decode cX0_tell 67 = .ok (.putfield 137, 3) := dk_181 0 137 (dk_at dksX0_tell_3 0 rfl rfl)
theorem dX0_tell_70 : decode cX0_tell 70 = .ok (.aload_n 0, 1) := dk_42 (dk_at dksX0_tell_3 3 rfl rfl)
theorem dX0_tell_71 : decode cX0_tell 71 = .ok (.getfield 137, 3) := dk_180 0 137 (dk_at dksX0_tell_3 4 rfl rfl)
theorem dX0_tell_74 : decode cX0_tell 74 = .ok (.iconst 1, 1) := dk_4 (dk_at dksX0_tell_3 7 rfl rfl)
theorem dX0_tell_75 : decode cX0_tell 75 = .ok (.isub, 1) := dk_100 (dk_at dksX0_tell_3 8 rfl rfl)
theorem dX0_tell_76 : decode cX0_tell 76 = .ok (.ireturn, 1) := dk_172 (dk_at dksX0_tell_3 9 rfl rfl)
def dkwX0_forget_0 : List UInt8 := [42, 180, 0, 137, 60, 42, 3, 181, 0, 137, 27, 172]
abbrev dktX0_forget_0 : List UInt8 := dkwX0_forget_0 ++ []
theorem dksX0_forget_0 : cX0_forget.data.toList.drop 0 = dktX0_forget_0 := by decide +kernel
theorem dX0_forget_0 : decode cX0_forget 0 = .ok (.aload_n 0, 1) := dk_42 (dk_at dksX0_forget_0 0 rfl rfl)
theorem dX0_forget_1 : decode cX0_forget 1 = .ok (.getfield 137, 3) := dk_180 0 137 (dk_at dksX0_forget_0 1 rfl rfl)
theorem dX0_forget_4 : decode cX0_forget 4 = .ok (.istore_n 1, 1) := dk_60 (dk_at dksX0_forget_0 4 rfl rfl)
theorem dX0_forget_5 : decode cX0_forget 5 = .ok (.aload_n 0, 1) := dk_42 (dk_at dksX0_forget_0 5 rfl rfl)
theorem dX0_forget_6 : decode cX0_forget 6 = .ok (.iconst 0, 1) := dk_3 (dk_at dksX0_forget_0 6 rfl rfl)
theorem dX0_forget_7 : decode cX0_forget 7 = .ok (.putfield 137, 3) := dk_181 0 137 (dk_at dksX0_forget_0 7 rfl rfl)
theorem dX0_forget_10 : decode cX0_forget 10 = .ok (.iload_n 1, 1) := dk_27 (dk_at dksX0_forget_0 10 rfl rfl)
theorem dX0_forget_11 : decode cX0_forget 11 = .ok (.ireturn, 1) := dk_172 (dk_at dksX0_forget_0 11 rfl rfl)
def dkwX0_rows_2 : List UInt8 := [167, 0, 7, 42, 180, 1, 122, 172]
abbrev dktX0_rows_2 : List UInt8 := dkwX0_rows_2 ++ []
def dkwX0_rows_1 : List UInt8 := [4, 184, 0, 156, 154, 0, 5, 2, 172, 42, 27, 28, 182, 1, 129, 29, 154, 0, 10, 42, 180, 1, 119]
abbrev dktX0_rows_1 : List UInt8 := dkwX0_rows_1 ++ dktX0_rows_2
def dkwX0_rows_0 : List UInt8 := [27, 3, 42, 180, 0, 137, 184, 0, 156, 153, 0, 22, 28, 4, 16, 6, 184, 0, 156, 153, 0, 12, 29, 3]
abbrev dktX0_rows_0 : List UInt8 := dkwX0_rows_0 ++ dktX0_rows_1
theorem dksX0_rows_0 : cX0_rows.data.toList.drop 0 = dktX0_rows_0 := by decide +kernel
theorem dksX0_rows_1 : cX0_rows.data.toList.drop 24 = dktX0_rows_1 := dk_seg dksX0_rows_0 24 rfl rfl
theorem dksX0_rows_2 : cX0_rows.data.toList.drop 47 = dktX0_rows_2 := dk_seg dksX0_rows_1 23 rfl rfl
theorem dX0_rows_0 : decode cX0_rows 0 = .ok (.iload_n 1, 1) := dk_27 (dk_at dksX0_rows_0 0 rfl rfl)
theorem dX0_rows_1 : decode cX0_rows 1 = .ok (.iconst 0, 1) := dk_3 (dk_at dksX0_rows_0 1 rfl rfl)
theorem dX0_rows_2 : decode cX0_rows 2 = .ok (.aload_n 0, 1) := dk_42 (dk_at dksX0_rows_0 2 rfl rfl)
theorem dX0_rows_3 : decode cX0_rows 3 = .ok (.getfield 137, 3) := dk_180 0 137 (dk_at dksX0_rows_0 3 rfl rfl)
theorem dX0_rows_6 : decode cX0_rows 6 = .ok (.invokestatic 156, 3) := dk_184 0 156 (dk_at dksX0_rows_0 6 rfl rfl)
theorem dX0_rows_9 : decode cX0_rows 9 = .ok (.ifCond .eq 22, 3) := dk_153 0 22 (dk_at dksX0_rows_0 9 rfl rfl)
theorem dX0_rows_12 : decode cX0_rows 12 = .ok (.iload_n 2, 1) := dk_28 (dk_at dksX0_rows_0 12 rfl rfl)
theorem dX0_rows_13 : decode cX0_rows 13 = .ok (.iconst 1, 1) := dk_4 (dk_at dksX0_rows_0 13 rfl rfl)
theorem dX0_rows_14 : decode cX0_rows 14 = .ok (.bipush 6, 2) := dk_16 6 (dk_at dksX0_rows_0 14 rfl rfl)
theorem dX0_rows_16 : decode cX0_rows 16 = .ok (.invokestatic 156, 3) := dk_184 0 156 (dk_at dksX0_rows_0 16 rfl rfl)
theorem dX0_rows_19 : decode cX0_rows 19 = .ok (.ifCond .eq 12, 3) := dk_153 0 12 (dk_at dksX0_rows_0 19 rfl rfl)
theorem dX0_rows_22 : decode cX0_rows 22 = .ok (.iload_n 3, 1) := dk_29 (dk_at dksX0_rows_0 22 rfl rfl)
theorem dX0_rows_23 : decode cX0_rows 23 = .ok (.iconst 0, 1) := dk_3 (dk_at dksX0_rows_0 23 rfl rfl)
theorem dX0_rows_24 : decode cX0_rows 24 = .ok (.iconst 1, 1) := dk_4 (dk_at dksX0_rows_1 0 rfl rfl)
theorem dX0_rows_25 : decode cX0_rows 25 = .ok (.invokestatic 156, 3) := dk_184 0 156 (dk_at dksX0_rows_1 1 rfl rfl)
theorem dX0_rows_28 : decode cX0_rows 28 = .ok (.ifCond .ne 5, 3) := dk_154 0 5 (dk_at dksX0_rows_1 4 rfl rfl)
theorem dX0_rows_31 : decode cX0_rows 31 = .ok (.iconst (-1), 1) := dk_2 (dk_at dksX0_rows_1 7 rfl rfl)
theorem dX0_rows_32 : decode cX0_rows 32 = .ok (.ireturn, 1) := dk_172 (dk_at dksX0_rows_1 8 rfl rfl)
theorem dX0_rows_33 : decode cX0_rows 33 = .ok (.aload_n 0, 1) := dk_42 (dk_at dksX0_rows_1 9 rfl rfl)
theorem dX0_rows_34 : decode cX0_rows 34 = .ok (.iload_n 1, 1) := dk_27 (dk_at dksX0_rows_1 10 rfl rfl)
theorem dX0_rows_35 : decode cX0_rows 35 = .ok (.iload_n 2, 1) := dk_28 (dk_at dksX0_rows_1 11 rfl rfl)
theorem dX0_rows_36 : decode cX0_rows 36 = .ok (.invokevirtual 385, 3) := dk_182 1 129 (dk_at dksX0_rows_1 12 rfl rfl)
theorem dX0_rows_39 : decode cX0_rows 39 = .ok (.iload_n 3, 1) := dk_29 (dk_at dksX0_rows_1 15 rfl rfl)
theorem dX0_rows_40 : decode cX0_rows 40 = .ok (.ifCond .ne 10, 3) := dk_154 0 10 (dk_at dksX0_rows_1 16 rfl rfl)
theorem dX0_rows_43 : decode cX0_rows 43 = .ok (.aload_n 0, 1) := dk_42 (dk_at dksX0_rows_1 19 rfl rfl)
theorem dX0_rows_44 : decode cX0_rows 44 = .ok (.getfield 375, 3) := dk_180 1 119 (dk_at dksX0_rows_1 20 rfl rfl)
theorem dX0_rows_47 : decode cX0_rows 47 = .ok (.goto 7, 3) := dk_167 0 7 (dk_at dksX0_rows_2 0 rfl rfl)
theorem dX0_rows_50 : decode cX0_rows 50 = .ok (.aload_n 0, 1) := dk_42 (dk_at dksX0_rows_2 3 rfl rfl)
theorem dX0_rows_51 : decode cX0_rows 51 = .ok (.getfield 378, 3) := dk_180 1 122 (dk_at dksX0_rows_2 4 rfl rfl)
theorem dX0_rows_54 : decode cX0_rows 54 = .ok (.ireturn, 1) := dk_172 (dk_at dksX0_rows_2 7 rfl rfl)
def dkwX0_laysFits_2 : List UInt8 := [167, 255, 221, 42, 3, 28, 27, 3, 3, 182, 1, 125, 177]
abbrev dktX0_laysFits_2 : List UInt8 := dkwX0_laysFits_2 ++ []
def dkwX0_laysFits_1 : List UInt8 := [16, 6, 162, 0, 19, 42, 180, 0, 112, 29, 50, 21, 4, 3, 79, 132, 4, 1, 167, 255, 236, 132, 3, 1]
abbrev dktX0_laysFits_1 : List UInt8 := dkwX0_laysFits_1 ++ dktX0_laysFits_2
def dkwX0_laysFits_0 : List UInt8 := [42, 3, 181, 1, 119, 42, 16, 254, 181, 1, 122, 3, 62, 29, 16, 6, 162, 0, 35, 3, 54, 4, 21, 4]
abbrev dktX0_laysFits_0 : List UInt8 := dkwX0_laysFits_0 ++ dktX0_laysFits_1
theorem dksX0_laysFits_0 : cX0_laysFits.data.toList.drop 0 = dktX0_laysFits_0 := by decide +kernel
theorem dksX0_laysFits_1 : cX0_laysFits.data.toList.drop 24 = dktX0_laysFits_1 := dk_seg dksX0_laysFits_0 24 rfl rfl
theorem dksX0_laysFits_2 : cX0_laysFits.data.toList.drop 48 = dktX0_laysFits_2 := dk_seg dksX0_laysFits_1 24 rfl rfl
theorem dX0_laysFits_0 : decode cX0_laysFits 0 = .ok (.aload_n 0, 1) := dk_42 (dk_at dksX0_laysFits_0 0 rfl rfl)
theorem dX0_laysFits_1 : decode cX0_laysFits 1 = .ok (.iconst 0, 1) := dk_3 (dk_at dksX0_laysFits_0 1 rfl rfl)
theorem dX0_laysFits_2 : decode cX0_laysFits 2 = .ok (.putfield 375, 3) := dk_181 1 119 (dk_at dksX0_laysFits_0 2 rfl rfl)
theorem dX0_laysFits_5 : decode cX0_laysFits 5 = .ok (.aload_n 0, 1) := dk_42 (dk_at dksX0_laysFits_0 5 rfl rfl)
theorem dX0_laysFits_6 : decode cX0_laysFits 6 = .ok (.bipush (-2), 2) := dk_16 254 (dk_at dksX0_laysFits_0 6 rfl rfl)
theorem dX0_laysFits_8 : decode cX0_laysFits 8 = .ok (.putfield 378, 3) := dk_181 1 122 (dk_at dksX0_laysFits_0 8 rfl rfl)
theorem dX0_laysFits_11 : decode cX0_laysFits 11 = .ok (.iconst 0, 1) := dk_3 (dk_at dksX0_laysFits_0 11 rfl rfl)
theorem dX0_laysFits_12 : decode cX0_laysFits 12 = .ok (.istore_n 3, 1) := dk_62 (dk_at dksX0_laysFits_0 12 rfl rfl)
theorem dX0_laysFits_13 : decode cX0_laysFits 13 = .ok (.iload_n 3, 1) := dk_29 (dk_at dksX0_laysFits_0 13 rfl rfl)
theorem dX0_laysFits_14 : decode cX0_laysFits 14 = .ok (.bipush 6, 2) := dk_16 6 (dk_at dksX0_laysFits_0 14 rfl rfl)
theorem dX0_laysFits_16 : decode cX0_laysFits 16 = .ok (.if_icmp .ge 35, 3) := dk_162 0 35 (dk_at dksX0_laysFits_0 16 rfl rfl)
theorem dX0_laysFits_19 : decode cX0_laysFits 19 = .ok (.iconst 0, 1) := dk_3 (dk_at dksX0_laysFits_0 19 rfl rfl)
theorem dX0_laysFits_20 : decode cX0_laysFits 20 = .ok (.istore 4, 2) := dk_54 4 (dk_at dksX0_laysFits_0 20 rfl rfl)
theorem dX0_laysFits_22 : decode cX0_laysFits 22 = .ok (.iload 4, 2) := dk_21 4 (dk_at dksX0_laysFits_0 22 rfl rfl)
theorem dX0_laysFits_24 : decode cX0_laysFits 24 = .ok (.bipush 6, 2) := dk_16 6 (dk_at dksX0_laysFits_1 0 rfl rfl)
theorem dX0_laysFits_26 : decode cX0_laysFits 26 = .ok (.if_icmp .ge 19, 3) := dk_162 0 19 (dk_at dksX0_laysFits_1 2 rfl rfl)
theorem dX0_laysFits_29 : decode cX0_laysFits 29 = .ok (.aload_n 0, 1) := dk_42 (dk_at dksX0_laysFits_1 5 rfl rfl)
theorem dX0_laysFits_30 : decode cX0_laysFits 30 = .ok (.getfield 112, 3) := dk_180 0 112 (dk_at dksX0_laysFits_1 6 rfl rfl)
theorem dX0_laysFits_33 : decode cX0_laysFits 33 = .ok (.iload_n 3, 1) := dk_29 (dk_at dksX0_laysFits_1 9 rfl rfl)
theorem dX0_laysFits_34 : decode cX0_laysFits 34 = .ok (.aaload, 1) := dk_50 (dk_at dksX0_laysFits_1 10 rfl rfl)
theorem dX0_laysFits_35 : decode cX0_laysFits 35 = .ok (.iload 4, 2) := dk_21 4 (dk_at dksX0_laysFits_1 11 rfl rfl)
theorem dX0_laysFits_37 : decode cX0_laysFits 37 = .ok (.iconst 0, 1) := dk_3 (dk_at dksX0_laysFits_1 13 rfl rfl)
theorem dX0_laysFits_38 : decode cX0_laysFits 38 = .ok (.iastore, 1) := dk_79 (dk_at dksX0_laysFits_1 14 rfl rfl)
theorem dX0_laysFits_39 : decode cX0_laysFits 39 = .ok (.iinc 4 1, 3) := dk_132 4 1 (dk_at dksX0_laysFits_1 15 rfl rfl)
theorem dX0_laysFits_42 : decode cX0_laysFits 42 = .ok (.goto (-20), 3) := dk_167 255 236 (dk_at dksX0_laysFits_1 18 rfl rfl)
theorem dX0_laysFits_45 : decode cX0_laysFits 45 = .ok (.iinc 3 1, 3) := dk_132 3 1 (dk_at dksX0_laysFits_1 21 rfl rfl)
theorem dX0_laysFits_48 : decode cX0_laysFits 48 = .ok (.goto (-35), 3) := dk_167 255 221 (dk_at dksX0_laysFits_2 0 rfl rfl)
theorem dX0_laysFits_51 : decode cX0_laysFits 51 = .ok (.aload_n 0, 1) := dk_42 (dk_at dksX0_laysFits_2 3 rfl rfl)
theorem dX0_laysFits_52 : decode cX0_laysFits 52 = .ok (.iconst 0, 1) := dk_3 (dk_at dksX0_laysFits_2 4 rfl rfl)
theorem dX0_laysFits_53 : decode cX0_laysFits 53 = .ok (.iload_n 2, 1) := dk_28 (dk_at dksX0_laysFits_2 5 rfl rfl)
theorem dX0_laysFits_54 : decode cX0_laysFits 54 = .ok (.iload_n 1, 1) := dk_27 (dk_at dksX0_laysFits_2 6 rfl rfl)
theorem dX0_laysFits_55 : decode cX0_laysFits 55 = .ok (.iconst 0, 1) := dk_3 (dk_at dksX0_laysFits_2 7 rfl rfl)
theorem dX0_laysFits_56 : decode cX0_laysFits 56 = .ok (.iconst 0, 1) := dk_3 (dk_at dksX0_laysFits_2 8 rfl rfl)
theorem dX0_laysFits_57 : decode cX0_laysFits 57 = .ok (.invokevirtual 381, 3) := dk_182 1 125 (dk_at dksX0_laysFits_2 9 rfl rfl)
theorem dX0_laysFits_60 : decode cX0_laysFits 60 = .ok (.return_, 1) := dk_177 (dk_at dksX0_laysFits_2 12 rfl rfl)
def dkwX0_rowsFit_5 : List UInt8 := [21, 6, 120, 128, 16, 6, 21, 5, 104, 21, 6, 96, 182, 1, 125, 132, 6, 1, 167, 255, 198, 177]
abbrev dktX0_rowsFit_5 : List UInt8 := dkwX0_rowsFit_5 ++ []
def dkwX0_rowsFit_4 : List UInt8 := [160, 0, 6, 167, 0, 35, 42, 180, 0, 109, 27, 21, 6, 79, 42, 27, 4, 96, 28, 29, 21, 4, 4]
abbrev dktX0_rowsFit_4 : List UInt8 := dkwX0_rowsFit_4 ++ dktX0_rowsFit_5
def dkwX0_rowsFit_3 : List UInt8 := [167, 255, 228, 177, 3, 54, 6, 21, 6, 42, 182, 0, 154, 162, 0, 55, 21, 4, 21, 6, 122, 4, 126, 4]
abbrev dktX0_rowsFit_3 : List UInt8 := dkwX0_rowsFit_3 ++ dktX0_rowsFit_4
def dkwX0_rowsFit_2 : List UInt8 := [42, 180, 0, 112, 21, 6, 50, 42, 180, 0, 109, 21, 6, 46, 92, 46, 4, 96, 79, 132, 6, 1]
abbrev dktX0_rowsFit_2 : List UInt8 := dkwX0_rowsFit_2 ++ dktX0_rowsFit_3
def dkwX0_rowsFit_1 : List UInt8 := [21, 5, 181, 1, 122, 42, 89, 180, 1, 119, 4, 96, 181, 1, 119, 3, 54, 6, 21, 6, 28, 162, 0, 28]
abbrev dktX0_rowsFit_1 : List UInt8 := dkwX0_rowsFit_1 ++ dktX0_rowsFit_2
def dkwX0_rowsFit_0 : List UInt8 := [27, 28, 160, 0, 71, 42, 29, 28, 182, 1, 116, 154, 0, 4, 177, 42, 180, 1, 119, 154, 0, 9, 42]
abbrev dktX0_rowsFit_0 : List UInt8 := dkwX0_rowsFit_0 ++ dktX0_rowsFit_1
theorem dksX0_rowsFit_0 : cX0_rowsFit.data.toList.drop 0 = dktX0_rowsFit_0 := by decide +kernel
theorem dksX0_rowsFit_1 : cX0_rowsFit.data.toList.drop 23 = dktX0_rowsFit_1 := dk_seg dksX0_rowsFit_0 23 rfl rfl
theorem dksX0_rowsFit_2 : cX0_rowsFit.data.toList.drop 47 = dktX0_rowsFit_2 := dk_seg dksX0_rowsFit_1 24 rfl rfl
theorem dksX0_rowsFit_3 : cX0_rowsFit.data.toList.drop 69 = dktX0_rowsFit_3 := dk_seg dksX0_rowsFit_2 22 rfl rfl
theorem dksX0_rowsFit_4 : cX0_rowsFit.data.toList.drop 93 = dktX0_rowsFit_4 := dk_seg dksX0_rowsFit_3 24 rfl rfl
theorem dksX0_rowsFit_5 : cX0_rowsFit.data.toList.drop 116 = dktX0_rowsFit_5 := dk_seg dksX0_rowsFit_4 23 rfl rfl
theorem dX0_rowsFit_0 : decode cX0_rowsFit 0 = .ok (.iload_n 1, 1) := dk_27 (dk_at dksX0_rowsFit_0 0 rfl rfl)
theorem dX0_rowsFit_1 : decode cX0_rowsFit 1 = .ok (.iload_n 2, 1) := dk_28 (dk_at dksX0_rowsFit_0 1 rfl rfl)
theorem dX0_rowsFit_2 : decode cX0_rowsFit 2 = .ok (.if_icmp .ne 71, 3) := dk_160 0 71 (dk_at dksX0_rowsFit_0 2 rfl rfl)
theorem dX0_rowsFit_5 : decode cX0_rowsFit 5 = .ok (.aload_n 0, 1) := dk_42 (dk_at dksX0_rowsFit_0 5 rfl rfl)
theorem dX0_rowsFit_6 : decode cX0_rowsFit 6 = .ok (.iload_n 3, 1) := dk_29 (dk_at dksX0_rowsFit_0 6 rfl rfl)
theorem dX0_rowsFit_7 : decode cX0_rowsFit 7 = .ok (.iload_n 2, 1) := dk_28 (dk_at dksX0_rowsFit_0 7 rfl rfl)
theorem dX0_rowsFit_8 : decode cX0_rowsFit 8 = .ok (.invokevirtual 372, 3) := dk_182 1 116 (dk_at dksX0_rowsFit_0 8 rfl rfl)
theorem dX0_rowsFit_11 : decode cX0_rowsFit 11 = .ok (.ifCond .ne 4, 3) := dk_154 0 4 (dk_at dksX0_rowsFit_0 11 rfl rfl)
theorem dX0_rowsFit_14 : decode cX0_rowsFit 14 = .ok (.return_, 1) := dk_177 (dk_at dksX0_rowsFit_0 14 rfl rfl)
theorem dX0_rowsFit_15 : decode cX0_rowsFit 15 = .ok (.aload_n 0, 1) := dk_42 (dk_at dksX0_rowsFit_0 15 rfl rfl)
theorem dX0_rowsFit_16 : decode cX0_rowsFit 16 = .ok (.getfield 375, 3) := dk_180 1 119 (dk_at dksX0_rowsFit_0 16 rfl rfl)
theorem dX0_rowsFit_19 : decode cX0_rowsFit 19 = .ok (.ifCond .ne 9, 3) := dk_154 0 9 (dk_at dksX0_rowsFit_0 19 rfl rfl)
theorem dX0_rowsFit_22 : decode cX0_rowsFit 22 = .ok (.aload_n 0, 1) := dk_42 (dk_at dksX0_rowsFit_0 22 rfl rfl)
theorem dX0_rowsFit_23 : decode cX0_rowsFit 23 = .ok (.iload 5, 2) := dk_21 5 (dk_at dksX0_rowsFit_1 0 rfl rfl)
theorem dX0_rowsFit_25 : decode cX0_rowsFit 25 = .ok (.putfield 378, 3) := dk_181 1 122 (dk_at dksX0_rowsFit_1 2 rfl rfl)
theorem dX0_rowsFit_28 : decode cX0_rowsFit 28 = .ok (.aload_n 0, 1) := dk_42 (dk_at dksX0_rowsFit_1 5 rfl rfl)
theorem dX0_rowsFit_29 : decode cX0_rowsFit 29 = .ok (.dup, 1) := dk_89 (dk_at dksX0_rowsFit_1 6 rfl rfl)
theorem dX0_rowsFit_30 : decode cX0_rowsFit 30 = .ok (.getfield 375, 3) := dk_180 1 119 (dk_at dksX0_rowsFit_1 7 rfl rfl)
theorem dX0_rowsFit_33 : decode cX0_rowsFit 33 = .ok (.iconst 1, 1) := dk_4 (dk_at dksX0_rowsFit_1 10 rfl rfl)
theorem dX0_rowsFit_34 : decode cX0_rowsFit 34 = .ok (.iadd, 1) := dk_96 (dk_at dksX0_rowsFit_1 11 rfl rfl)
theorem dX0_rowsFit_35 : decode cX0_rowsFit 35 = .ok (.putfield 375, 3) := dk_181 1 119 (dk_at dksX0_rowsFit_1 12 rfl rfl)
theorem dX0_rowsFit_38 : decode cX0_rowsFit 38 = .ok (.iconst 0, 1) := dk_3 (dk_at dksX0_rowsFit_1 15 rfl rfl)
theorem dX0_rowsFit_39 : decode cX0_rowsFit 39 = .ok (.istore 6, 2) := dk_54 6 (dk_at dksX0_rowsFit_1 16 rfl rfl)
theorem dX0_rowsFit_41 : decode cX0_rowsFit 41 = .ok (.iload 6, 2) := dk_21 6 (dk_at dksX0_rowsFit_1 18 rfl rfl)
theorem dX0_rowsFit_43 : decode cX0_rowsFit 43 = .ok (.iload_n 2, 1) := dk_28 (dk_at dksX0_rowsFit_1 20 rfl rfl)
theorem dX0_rowsFit_44 : decode cX0_rowsFit 44 = .ok (.if_icmp .ge 28, 3) := dk_162 0 28 (dk_at dksX0_rowsFit_1 21 rfl rfl)
theorem dX0_rowsFit_47 : decode cX0_rowsFit 47 = .ok (.aload_n 0, 1) := dk_42 (dk_at dksX0_rowsFit_2 0 rfl rfl)
theorem dX0_rowsFit_48 : decode cX0_rowsFit 48 = .ok (.getfield 112, 3) := dk_180 0 112 (dk_at dksX0_rowsFit_2 1 rfl rfl)
theorem dX0_rowsFit_51 : decode cX0_rowsFit 51 = .ok (.iload 6, 2) := dk_21 6 (dk_at dksX0_rowsFit_2 4 rfl rfl)
theorem dX0_rowsFit_53 : decode cX0_rowsFit 53 = .ok (.aaload, 1) := dk_50 (dk_at dksX0_rowsFit_2 6 rfl rfl)
theorem dX0_rowsFit_54 : decode cX0_rowsFit 54 = .ok (.aload_n 0, 1) := dk_42 (dk_at dksX0_rowsFit_2 7 rfl rfl)
theorem dX0_rowsFit_55 : decode cX0_rowsFit 55 = .ok (.getfield 109, 3) := dk_180 0 109 (dk_at dksX0_rowsFit_2 8 rfl rfl)
theorem dX0_rowsFit_58 : decode cX0_rowsFit 58 = .ok (.iload 6, 2) := dk_21 6 (dk_at dksX0_rowsFit_2 11 rfl rfl)
theorem dX0_rowsFit_60 : decode cX0_rowsFit 60 = .ok (.iaload, 1) := dk_46 (dk_at dksX0_rowsFit_2 13 rfl rfl)
theorem dX0_rowsFit_61 : decode cX0_rowsFit 61 = .ok (.dup2, 1) := dk_92 (dk_at dksX0_rowsFit_2 14 rfl rfl)
theorem dX0_rowsFit_62 : decode cX0_rowsFit 62 = .ok (.iaload, 1) := dk_46 (dk_at dksX0_rowsFit_2 15 rfl rfl)
theorem dX0_rowsFit_63 : decode cX0_rowsFit 63 = .ok (.iconst 1, 1) := dk_4 (dk_at dksX0_rowsFit_2 16 rfl rfl)
theorem dX0_rowsFit_64 : decode cX0_rowsFit 64 = .ok (.iadd, 1) := dk_96 (dk_at dksX0_rowsFit_2 17 rfl rfl)
theorem dX0_rowsFit_65 : decode cX0_rowsFit 65 = .ok (.iastore, 1) := dk_79 (dk_at dksX0_rowsFit_2 18 rfl rfl)
theorem dX0_rowsFit_66 : decode cX0_rowsFit 66 = .ok (.iinc 6 1, 3) := dk_132 6 1 (dk_at dksX0_rowsFit_2 19 rfl rfl)
theorem dX0_rowsFit_69 : decode cX0_rowsFit 69 = .ok (.goto (-28), 3) := dk_167 255 228 (dk_at dksX0_rowsFit_3 0 rfl rfl)
theorem dX0_rowsFit_72 : decode cX0_rowsFit 72 = .ok (.return_, 1) := dk_177 (dk_at dksX0_rowsFit_3 3 rfl rfl)
theorem dX0_rowsFit_73 : decode cX0_rowsFit 73 = .ok (.iconst 0, 1) := dk_3 (dk_at dksX0_rowsFit_3 4 rfl rfl)
theorem dX0_rowsFit_74 : decode cX0_rowsFit 74 = .ok (.istore 6, 2) := dk_54 6 (dk_at dksX0_rowsFit_3 5 rfl rfl)
theorem dX0_rowsFit_76 : decode cX0_rowsFit 76 = .ok (.iload 6, 2) := dk_21 6 (dk_at dksX0_rowsFit_3 7 rfl rfl)
theorem dX0_rowsFit_78 : decode cX0_rowsFit 78 = .ok (.aload_n 0, 1) := dk_42 (dk_at dksX0_rowsFit_3 9 rfl rfl)
theorem dX0_rowsFit_79 : decode cX0_rowsFit 79 = .ok (.invokevirtual 154, 3) := dk_182 0 154 (dk_at dksX0_rowsFit_3 10 rfl rfl)
theorem dX0_rowsFit_82 : decode cX0_rowsFit 82 = .ok (.if_icmp .ge 55, 3) := dk_162 0 55 (dk_at dksX0_rowsFit_3 13 rfl rfl)
theorem dX0_rowsFit_85 : decode cX0_rowsFit 85 = .ok (.iload 4, 2) := dk_21 4 (dk_at dksX0_rowsFit_3 16 rfl rfl)
theorem dX0_rowsFit_87 : decode cX0_rowsFit 87 = .ok (.iload 6, 2) := dk_21 6 (dk_at dksX0_rowsFit_3 18 rfl rfl)
theorem dX0_rowsFit_89 : decode cX0_rowsFit 89 = .ok (.ishr, 1) := dk_122 (dk_at dksX0_rowsFit_3 20 rfl rfl)
theorem dX0_rowsFit_90 : decode cX0_rowsFit 90 = .ok (.iconst 1, 1) := dk_4 (dk_at dksX0_rowsFit_3 21 rfl rfl)
theorem dX0_rowsFit_91 : decode cX0_rowsFit 91 = .ok (.iand, 1) := dk_126 (dk_at dksX0_rowsFit_3 22 rfl rfl)
theorem dX0_rowsFit_92 : decode cX0_rowsFit 92 = .ok (.iconst 1, 1) := dk_4 (dk_at dksX0_rowsFit_3 23 rfl rfl)
theorem dX0_rowsFit_93 : decode cX0_rowsFit 93 = .ok (.if_icmp .ne 6, 3) := dk_160 0 6 (dk_at dksX0_rowsFit_4 0 rfl rfl)
theorem dX0_rowsFit_96 : decode cX0_rowsFit 96 = .ok (.goto 35, 3) := dk_167 0 35 (dk_at dksX0_rowsFit_4 3 rfl rfl)
theorem dX0_rowsFit_99 : decode cX0_rowsFit 99 = .ok (.aload_n 0, 1) := dk_42 (dk_at dksX0_rowsFit_4 6 rfl rfl)
theorem dX0_rowsFit_100 : decode cX0_rowsFit 100 = .ok (.getfield 109, 3) := dk_180 0 109 (dk_at dksX0_rowsFit_4 7 rfl rfl)
theorem dX0_rowsFit_103 : decode cX0_rowsFit 103 = .ok (.iload_n 1, 1) := dk_27 (dk_at dksX0_rowsFit_4 10 rfl rfl)
theorem dX0_rowsFit_104 : decode cX0_rowsFit 104 = .ok (.iload 6, 2) := dk_21 6 (dk_at dksX0_rowsFit_4 11 rfl rfl)
theorem dX0_rowsFit_106 : decode cX0_rowsFit 106 = .ok (.iastore, 1) := dk_79 (dk_at dksX0_rowsFit_4 13 rfl rfl)
theorem dX0_rowsFit_107 : decode cX0_rowsFit 107 = .ok (.aload_n 0, 1) := dk_42 (dk_at dksX0_rowsFit_4 14 rfl rfl)
theorem dX0_rowsFit_108 : decode cX0_rowsFit 108 = .ok (.iload_n 1, 1) := dk_27 (dk_at dksX0_rowsFit_4 15 rfl rfl)
theorem dX0_rowsFit_109 : decode cX0_rowsFit 109 = .ok (.iconst 1, 1) := dk_4 (dk_at dksX0_rowsFit_4 16 rfl rfl)
theorem dX0_rowsFit_110 : decode cX0_rowsFit 110 = .ok (.iadd, 1) := dk_96 (dk_at dksX0_rowsFit_4 17 rfl rfl)
theorem dX0_rowsFit_111 : decode cX0_rowsFit 111 = .ok (.iload_n 2, 1) := dk_28 (dk_at dksX0_rowsFit_4 18 rfl rfl)
theorem dX0_rowsFit_112 : decode cX0_rowsFit 112 = .ok (.iload_n 3, 1) := dk_29 (dk_at dksX0_rowsFit_4 19 rfl rfl)
theorem dX0_rowsFit_113 : decode cX0_rowsFit 113 = .ok (.iload 4, 2) := dk_21 4 (dk_at dksX0_rowsFit_4 20 rfl rfl)
theorem dX0_rowsFit_115 : decode cX0_rowsFit 115 = .ok (.iconst 1, 1) := dk_4 (dk_at dksX0_rowsFit_4 22 rfl rfl)
theorem dX0_rowsFit_116 : decode cX0_rowsFit 116 = .ok (.iload 6, 2) := dk_21 6 (dk_at dksX0_rowsFit_5 0 rfl rfl)
theorem dX0_rowsFit_118 : decode cX0_rowsFit 118 = .ok (.ishl, 1) := dk_120 (dk_at dksX0_rowsFit_5 2 rfl rfl)
theorem dX0_rowsFit_119 : decode cX0_rowsFit 119 = .ok (.ior, 1) := dk_128 (dk_at dksX0_rowsFit_5 3 rfl rfl)
theorem dX0_rowsFit_120 : decode cX0_rowsFit 120 = .ok (.bipush 6, 2) := dk_16 6 (dk_at dksX0_rowsFit_5 4 rfl rfl)
theorem dX0_rowsFit_122 : decode cX0_rowsFit 122 = .ok (.iload 5, 2) := dk_21 5 (dk_at dksX0_rowsFit_5 6 rfl rfl)
theorem dX0_rowsFit_124 : decode cX0_rowsFit 124 = .ok (.imul, 1) := dk_104 (dk_at dksX0_rowsFit_5 8 rfl rfl)
theorem dX0_rowsFit_125 : decode cX0_rowsFit 125 = .ok (.iload 6, 2) := dk_21 6 (dk_at dksX0_rowsFit_5 9 rfl rfl)
theorem dX0_rowsFit_127 : decode cX0_rowsFit 127 = .ok (.iadd, 1) := dk_96 (dk_at dksX0_rowsFit_5 11 rfl rfl)
theorem dX0_rowsFit_128 : decode cX0_rowsFit 128 = .ok (.invokevirtual 381, 3) := dk_182 1 125 (dk_at dksX0_rowsFit_5 12 rfl rfl)
theorem dX0_rowsFit_131 : decode cX0_rowsFit 131 = .ok (.iinc 6 1, 3) := dk_132 6 1 (dk_at dksX0_rowsFit_5 15 rfl rfl)
theorem dX0_rowsFit_134 : decode cX0_rowsFit 134 = .ok (.goto (-58), 3) := dk_167 255 198 (dk_at dksX0_rowsFit_5 18 rfl rfl)
theorem dX0_rowsFit_137 : decode cX0_rowsFit 137 = .ok (.return_, 1) := dk_177 (dk_at dksX0_rowsFit_5 21 rfl rfl)
def dkwX0_isSo_3 : List UInt8 := [167, 255, 191, 4, 172]
abbrev dktX0_isSo_3 : List UInt8 := dkwX0_isSo_3 ++ []
def dkwX0_isSo_2 : List UInt8 := [161, 0, 7, 4, 167, 0, 4, 3, 42, 180, 0, 106, 29, 51, 159, 0, 5, 3, 172, 132, 3, 1]
abbrev dktX0_isSo_2 : List UInt8 := dkwX0_isSo_2 ++ dktX0_isSo_3
def dkwX0_isSo_1 : List UInt8 := [180, 0, 40, 42, 180, 0, 109, 42, 180, 0, 100, 29, 46, 46, 182, 1, 56, 42, 180, 0, 103, 29, 46]
abbrev dktX0_isSo_1 : List UInt8 := dkwX0_isSo_1 ++ dktX0_isSo_2
def dkwX0_isSo_0 : List UInt8 := [3, 62, 29, 27, 162, 0, 66, 42, 180, 0, 100, 29, 46, 28, 162, 0, 48, 42, 180, 0, 51, 42]
abbrev dktX0_isSo_0 : List UInt8 := dkwX0_isSo_0 ++ dktX0_isSo_1
theorem dksX0_isSo_0 : cX0_isSo.data.toList.drop 0 = dktX0_isSo_0 := by decide +kernel
theorem dksX0_isSo_1 : cX0_isSo.data.toList.drop 22 = dktX0_isSo_1 := dk_seg dksX0_isSo_0 22 rfl rfl
theorem dksX0_isSo_2 : cX0_isSo.data.toList.drop 45 = dktX0_isSo_2 := dk_seg dksX0_isSo_1 23 rfl rfl
theorem dksX0_isSo_3 : cX0_isSo.data.toList.drop 67 = dktX0_isSo_3 := dk_seg dksX0_isSo_2 22 rfl rfl
theorem dX0_isSo_0 : decode cX0_isSo 0 = .ok (.iconst 0, 1) := dk_3 (dk_at dksX0_isSo_0 0 rfl rfl)
theorem dX0_isSo_1 : decode cX0_isSo 1 = .ok (.istore_n 3, 1) := dk_62 (dk_at dksX0_isSo_0 1 rfl rfl)
theorem dX0_isSo_2 : decode cX0_isSo 2 = .ok (.iload_n 3, 1) := dk_29 (dk_at dksX0_isSo_0 2 rfl rfl)
theorem dX0_isSo_3 : decode cX0_isSo 3 = .ok (.iload_n 1, 1) := dk_27 (dk_at dksX0_isSo_0 3 rfl rfl)
theorem dX0_isSo_4 : decode cX0_isSo 4 = .ok (.if_icmp .ge 66, 3) := dk_162 0 66 (dk_at dksX0_isSo_0 4 rfl rfl)
theorem dX0_isSo_7 : decode cX0_isSo 7 = .ok (.aload_n 0, 1) := dk_42 (dk_at dksX0_isSo_0 7 rfl rfl)
theorem dX0_isSo_8 : decode cX0_isSo 8 = .ok (.getfield 100, 3) := dk_180 0 100 (dk_at dksX0_isSo_0 8 rfl rfl)
theorem dX0_isSo_11 : decode cX0_isSo 11 = .ok (.iload_n 3, 1) := dk_29 (dk_at dksX0_isSo_0 11 rfl rfl)
theorem dX0_isSo_12 : decode cX0_isSo 12 = .ok (.iaload, 1) := dk_46 (dk_at dksX0_isSo_0 12 rfl rfl)
theorem dX0_isSo_13 : decode cX0_isSo 13 = .ok (.iload_n 2, 1) := dk_28 (dk_at dksX0_isSo_0 13 rfl rfl)
theorem dX0_isSo_14 : decode cX0_isSo 14 = .ok (.if_icmp .ge 48, 3) := dk_162 0 48 (dk_at dksX0_isSo_0 14 rfl rfl)
theorem dX0_isSo_17 : decode cX0_isSo 17 = .ok (.aload_n 0, 1) := dk_42 (dk_at dksX0_isSo_0 17 rfl rfl)
theorem dX0_isSo_18 : decode cX0_isSo 18 = .ok (.getfield 51, 3) := dk_180 0 51 (dk_at dksX0_isSo_0 18 rfl rfl)
theorem dX0_isSo_21 : decode cX0_isSo 21 = .ok (.aload_n 0, 1) := dk_42 (dk_at dksX0_isSo_0 21 rfl rfl)
theorem dX0_isSo_22 : decode cX0_isSo 22 = .ok (.getfield 40, 3) := dk_180 0 40 (dk_at dksX0_isSo_1 0 rfl rfl)
theorem dX0_isSo_25 : decode cX0_isSo 25 = .ok (.aload_n 0, 1) := dk_42 (dk_at dksX0_isSo_1 3 rfl rfl)
theorem dX0_isSo_26 : decode cX0_isSo 26 = .ok (.getfield 109, 3) := dk_180 0 109 (dk_at dksX0_isSo_1 4 rfl rfl)
theorem dX0_isSo_29 : decode cX0_isSo 29 = .ok (.aload_n 0, 1) := dk_42 (dk_at dksX0_isSo_1 7 rfl rfl)
theorem dX0_isSo_30 : decode cX0_isSo 30 = .ok (.getfield 100, 3) := dk_180 0 100 (dk_at dksX0_isSo_1 8 rfl rfl)
theorem dX0_isSo_33 : decode cX0_isSo 33 = .ok (.iload_n 3, 1) := dk_29 (dk_at dksX0_isSo_1 11 rfl rfl)
theorem dX0_isSo_34 : decode cX0_isSo 34 = .ok (.iaload, 1) := dk_46 (dk_at dksX0_isSo_1 12 rfl rfl)
theorem dX0_isSo_35 : decode cX0_isSo 35 = .ok (.iaload, 1) := dk_46 (dk_at dksX0_isSo_1 13 rfl rfl)
theorem dX0_isSo_36 : decode cX0_isSo 36 = .ok (.invokevirtual 312, 3) := dk_182 1 56 (dk_at dksX0_isSo_1 14 rfl rfl)
theorem dX0_isSo_39 : decode cX0_isSo 39 = .ok (.aload_n 0, 1) := dk_42 (dk_at dksX0_isSo_1 17 rfl rfl)
theorem dX0_isSo_40 : decode cX0_isSo 40 = .ok (.getfield 103, 3) := dk_180 0 103 (dk_at dksX0_isSo_1 18 rfl rfl)
theorem dX0_isSo_43 : decode cX0_isSo 43 = .ok (.iload_n 3, 1) := dk_29 (dk_at dksX0_isSo_1 21 rfl rfl)
theorem dX0_isSo_44 : decode cX0_isSo 44 = .ok (.iaload, 1) := dk_46 (dk_at dksX0_isSo_1 22 rfl rfl)
theorem dX0_isSo_45 : decode cX0_isSo 45 = .ok (.if_icmp .lt 7, 3) := dk_161 0 7 (dk_at dksX0_isSo_2 0 rfl rfl)
theorem dX0_isSo_48 : decode cX0_isSo 48 = .ok (.iconst 1, 1) := dk_4 (dk_at dksX0_isSo_2 3 rfl rfl)
theorem dX0_isSo_49 : decode cX0_isSo 49 = .ok (.goto 4, 3) := dk_167 0 4 (dk_at dksX0_isSo_2 4 rfl rfl)
theorem dX0_isSo_52 : decode cX0_isSo 52 = .ok (.iconst 0, 1) := dk_3 (dk_at dksX0_isSo_2 7 rfl rfl)
theorem dX0_isSo_53 : decode cX0_isSo 53 = .ok (.aload_n 0, 1) := dk_42 (dk_at dksX0_isSo_2 8 rfl rfl)
theorem dX0_isSo_54 : decode cX0_isSo 54 = .ok (.getfield 106, 3) := dk_180 0 106 (dk_at dksX0_isSo_2 9 rfl rfl)
theorem dX0_isSo_57 : decode cX0_isSo 57 = .ok (.iload_n 3, 1) := dk_29 (dk_at dksX0_isSo_2 12 rfl rfl)
theorem dX0_isSo_58 : decode cX0_isSo 58 = .ok (.baload, 1) := dk_51 (dk_at dksX0_isSo_2 13 rfl rfl)
theorem dX0_isSo_59 : decode cX0_isSo 59 = .ok (.if_icmp .eq 5, 3) := dk_159 0 5 (dk_at dksX0_isSo_2 14 rfl rfl)
theorem dX0_isSo_62 : decode cX0_isSo 62 = .ok (.iconst 0, 1) := dk_3 (dk_at dksX0_isSo_2 17 rfl rfl)
theorem dX0_isSo_63 : decode cX0_isSo 63 = .ok (.ireturn, 1) := dk_172 (dk_at dksX0_isSo_2 18 rfl rfl)
theorem dX0_isSo_64 : decode cX0_isSo 64 = .ok (.iinc 3 1, 3) := dk_132 3 1 (dk_at dksX0_isSo_2 19 rfl rfl)
theorem dX0_isSo_67 : decode cX0_isSo 67 = .ok (.goto (-65), 3) := dk_167 255 191 (dk_at dksX0_isSo_3 0 rfl rfl)
theorem dX0_isSo_70 : decode cX0_isSo 70 = .ok (.iconst 1, 1) := dk_4 (dk_at dksX0_isSo_3 3 rfl rfl)
theorem dX0_isSo_71 : decode cX0_isSo 71 = .ok (.ireturn, 1) := dk_172 (dk_at dksX0_isSo_3 4 rfl rfl)
def dkwX0_feel_6 : List UInt8 := [167, 0, 11, 21, 6, 54, 4, 21, 8, 54, 5, 132, 6, 1, 167, 255, 151, 21, 4, 172]
abbrev dktX0_feel_6 : List UInt8 := dkwX0_feel_6 ++ []
def dkwX0_feel_5 : List UInt8 := [167, 255, 208, 21, 7, 42, 180, 1, 119, 21, 7, 100, 184, 1, 35, 54, 8, 21, 8, 21, 5, 161, 0, 6]
abbrev dktX0_feel_5 : List UInt8 := dkwX0_feel_5 ++ dktX0_feel_6
def dkwX0_feel_4 : List UInt8 := [29, 161, 0, 16, 42, 180, 0, 112, 21, 6, 50, 21, 8, 46, 167, 0, 4, 3, 96, 54, 7, 132, 8, 1]
abbrev dktX0_feel_4 : List UInt8 := dkwX0_feel_4 ++ dktX0_feel_5
def dkwX0_feel_3 : List UInt8 := [21, 8, 42, 182, 0, 154, 162, 0, 45, 21, 7, 42, 180, 0, 51, 42, 180, 0, 40, 21, 8, 182, 1, 56]
abbrev dktX0_feel_3 : List UInt8 := dkwX0_feel_3 ++ dktX0_feel_4
def dkwX0_feel_2 : List UInt8 := [54, 5, 3, 54, 6, 21, 6, 28, 162, 0, 105, 42, 180, 1, 119, 158, 0, 98, 3, 54, 7, 3, 54, 8]
abbrev dktX0_feel_2 : List UInt8 := dkwX0_feel_2 ++ dktX0_feel_3
def dkwX0_feel_1 : List UInt8 := [16, 99, 184, 0, 156, 154, 0, 5, 2, 172, 42, 27, 28, 182, 1, 129, 16, 254, 54, 4, 19, 1, 73]
abbrev dktX0_feel_1 : List UInt8 := dkwX0_feel_1 ++ dktX0_feel_2
def dkwX0_feel_0 : List UInt8 := [27, 3, 42, 180, 0, 137, 184, 0, 156, 153, 0, 23, 28, 4, 16, 6, 184, 0, 156, 153, 0, 13, 29, 3]
abbrev dktX0_feel_0 : List UInt8 := dkwX0_feel_0 ++ dktX0_feel_1
theorem dksX0_feel_0 : cX0_feel.data.toList.drop 0 = dktX0_feel_0 := by decide +kernel
theorem dksX0_feel_1 : cX0_feel.data.toList.drop 24 = dktX0_feel_1 := dk_seg dksX0_feel_0 24 rfl rfl
theorem dksX0_feel_2 : cX0_feel.data.toList.drop 47 = dktX0_feel_2 := dk_seg dksX0_feel_1 23 rfl rfl
theorem dksX0_feel_3 : cX0_feel.data.toList.drop 71 = dktX0_feel_3 := dk_seg dksX0_feel_2 24 rfl rfl
theorem dksX0_feel_4 : cX0_feel.data.toList.drop 95 = dktX0_feel_4 := dk_seg dksX0_feel_3 24 rfl rfl
theorem dksX0_feel_5 : cX0_feel.data.toList.drop 119 = dktX0_feel_5 := dk_seg dksX0_feel_4 24 rfl rfl
theorem dksX0_feel_6 : cX0_feel.data.toList.drop 143 = dktX0_feel_6 := dk_seg dksX0_feel_5 24 rfl rfl
theorem dX0_feel_0 : decode cX0_feel 0 = .ok (.iload_n 1, 1) := dk_27 (dk_at dksX0_feel_0 0 rfl rfl)
theorem dX0_feel_1 : decode cX0_feel 1 = .ok (.iconst 0, 1) := dk_3 (dk_at dksX0_feel_0 1 rfl rfl)
theorem dX0_feel_2 : decode cX0_feel 2 = .ok (.aload_n 0, 1) := dk_42 (dk_at dksX0_feel_0 2 rfl rfl)
theorem dX0_feel_3 : decode cX0_feel 3 = .ok (.getfield 137, 3) := dk_180 0 137 (dk_at dksX0_feel_0 3 rfl rfl)
theorem dX0_feel_6 : decode cX0_feel 6 = .ok (.invokestatic 156, 3) := dk_184 0 156 (dk_at dksX0_feel_0 6 rfl rfl)
theorem dX0_feel_9 : decode cX0_feel 9 = .ok (.ifCond .eq 23, 3) := dk_153 0 23 (dk_at dksX0_feel_0 9 rfl rfl)
theorem dX0_feel_12 : decode cX0_feel 12 = .ok (.iload_n 2, 1) := dk_28 (dk_at dksX0_feel_0 12 rfl rfl)
theorem dX0_feel_13 : decode cX0_feel 13 = .ok (.iconst 1, 1) := dk_4 (dk_at dksX0_feel_0 13 rfl rfl)
theorem dX0_feel_14 : decode cX0_feel 14 = .ok (.bipush 6, 2) := dk_16 6 (dk_at dksX0_feel_0 14 rfl rfl)
theorem dX0_feel_16 : decode cX0_feel 16 = .ok (.invokestatic 156, 3) := dk_184 0 156 (dk_at dksX0_feel_0 16 rfl rfl)
theorem dX0_feel_19 : decode cX0_feel 19 = .ok (.ifCond .eq 13, 3) := dk_153 0 13 (dk_at dksX0_feel_0 19 rfl rfl)
theorem dX0_feel_22 : decode cX0_feel 22 = .ok (.iload_n 3, 1) := dk_29 (dk_at dksX0_feel_0 22 rfl rfl)
theorem dX0_feel_23 : decode cX0_feel 23 = .ok (.iconst 0, 1) := dk_3 (dk_at dksX0_feel_0 23 rfl rfl)
theorem dX0_feel_24 : decode cX0_feel 24 = .ok (.bipush 99, 2) := dk_16 99 (dk_at dksX0_feel_1 0 rfl rfl)
theorem dX0_feel_26 : decode cX0_feel 26 = .ok (.invokestatic 156, 3) := dk_184 0 156 (dk_at dksX0_feel_1 2 rfl rfl)
theorem dX0_feel_29 : decode cX0_feel 29 = .ok (.ifCond .ne 5, 3) := dk_154 0 5 (dk_at dksX0_feel_1 5 rfl rfl)
theorem dX0_feel_32 : decode cX0_feel 32 = .ok (.iconst (-1), 1) := dk_2 (dk_at dksX0_feel_1 8 rfl rfl)
theorem dX0_feel_33 : decode cX0_feel 33 = .ok (.ireturn, 1) := dk_172 (dk_at dksX0_feel_1 9 rfl rfl)
theorem dX0_feel_34 : decode cX0_feel 34 = .ok (.aload_n 0, 1) := dk_42 (dk_at dksX0_feel_1 10 rfl rfl)
theorem dX0_feel_35 : decode cX0_feel 35 = .ok (.iload_n 1, 1) := dk_27 (dk_at dksX0_feel_1 11 rfl rfl)
theorem dX0_feel_36 : decode cX0_feel 36 = .ok (.iload_n 2, 1) := dk_28 (dk_at dksX0_feel_1 12 rfl rfl)
theorem dX0_feel_37 : decode cX0_feel 37 = .ok (.invokevirtual 385, 3) := dk_182 1 129 (dk_at dksX0_feel_1 13 rfl rfl)
theorem dX0_feel_40 : decode cX0_feel 40 = .ok (.bipush (-2), 2) := dk_16 254 (dk_at dksX0_feel_1 16 rfl rfl)
theorem dX0_feel_42 : decode cX0_feel 42 = .ok (.istore 4, 2) := dk_54 4 (dk_at dksX0_feel_1 18 rfl rfl)
theorem dX0_feel_44 : decode cX0_feel 44 = .ok (.ldc_w 329, 3) := dk_19 1 73 (dk_at dksX0_feel_1 20 rfl rfl)
theorem dX0_feel_47 : decode cX0_feel 47 = .ok (.istore 5, 2) := dk_54 5 (dk_at dksX0_feel_2 0 rfl rfl)
theorem dX0_feel_49 : decode cX0_feel 49 = .ok (.iconst 0, 1) := dk_3 (dk_at dksX0_feel_2 2 rfl rfl)
theorem dX0_feel_50 : decode cX0_feel 50 = .ok (.istore 6, 2) := dk_54 6 (dk_at dksX0_feel_2 3 rfl rfl)
theorem dX0_feel_52 : decode cX0_feel 52 = .ok (.iload 6, 2) := dk_21 6 (dk_at dksX0_feel_2 5 rfl rfl)
theorem dX0_feel_54 : decode cX0_feel 54 = .ok (.iload_n 2, 1) := dk_28 (dk_at dksX0_feel_2 7 rfl rfl)
theorem dX0_feel_55 : decode cX0_feel 55 = .ok (.if_icmp .ge 105, 3) := dk_162 0 105 (dk_at dksX0_feel_2 8 rfl rfl)
theorem dX0_feel_58 : decode cX0_feel 58 = .ok (.aload_n 0, 1) := dk_42 (dk_at dksX0_feel_2 11 rfl rfl)
theorem dX0_feel_59 : decode cX0_feel 59 = .ok (.getfield 375, 3) := dk_180 1 119 (dk_at dksX0_feel_2 12 rfl rfl)
theorem dX0_feel_62 : decode cX0_feel 62 = .ok (.ifCond .le 98, 3) := dk_158 0 98 (dk_at dksX0_feel_2 15 rfl rfl)
theorem dX0_feel_65 : decode cX0_feel 65 = .ok (.iconst 0, 1) := dk_3 (dk_at dksX0_feel_2 18 rfl rfl)
theorem dX0_feel_66 : decode cX0_feel 66 = .ok (.istore 7, 2) := dk_54 7 (dk_at dksX0_feel_2 19 rfl rfl)
theorem dX0_feel_68 : decode cX0_feel 68 = .ok (.iconst 0, 1) := dk_3 (dk_at dksX0_feel_2 21 rfl rfl)
theorem dX0_feel_69 : decode cX0_feel 69 = .ok (.istore 8, 2) := dk_54 8 (dk_at dksX0_feel_2 22 rfl rfl)
theorem dX0_feel_71 : decode cX0_feel 71 = .ok (.iload 8, 2) := dk_21 8 (dk_at dksX0_feel_3 0 rfl rfl)
theorem dX0_feel_73 : decode cX0_feel 73 = .ok (.aload_n 0, 1) := dk_42 (dk_at dksX0_feel_3 2 rfl rfl)
theorem dX0_feel_74 : decode cX0_feel 74 = .ok (.invokevirtual 154, 3) := dk_182 0 154 (dk_at dksX0_feel_3 3 rfl rfl)
theorem dX0_feel_77 : decode cX0_feel 77 = .ok (.if_icmp .ge 45, 3) := dk_162 0 45 (dk_at dksX0_feel_3 6 rfl rfl)
theorem dX0_feel_80 : decode cX0_feel 80 = .ok (.iload 7, 2) := dk_21 7 (dk_at dksX0_feel_3 9 rfl rfl)
theorem dX0_feel_82 : decode cX0_feel 82 = .ok (.aload_n 0, 1) := dk_42 (dk_at dksX0_feel_3 11 rfl rfl)
theorem dX0_feel_83 : decode cX0_feel 83 = .ok (.getfield 51, 3) := dk_180 0 51 (dk_at dksX0_feel_3 12 rfl rfl)
theorem dX0_feel_86 : decode cX0_feel 86 = .ok (.aload_n 0, 1) := dk_42 (dk_at dksX0_feel_3 15 rfl rfl)
theorem dX0_feel_87 : decode cX0_feel 87 = .ok (.getfield 40, 3) := dk_180 0 40 (dk_at dksX0_feel_3 16 rfl rfl)
theorem dX0_feel_90 : decode cX0_feel 90 = .ok (.iload 8, 2) := dk_21 8 (dk_at dksX0_feel_3 19 rfl rfl)
theorem dX0_feel_92 : decode cX0_feel 92 = .ok (.invokevirtual 312, 3) := dk_182 1 56 (dk_at dksX0_feel_3 21 rfl rfl)
theorem dX0_feel_95 : decode cX0_feel 95 = .ok (.iload_n 3, 1) := dk_29 (dk_at dksX0_feel_4 0 rfl rfl)
theorem dX0_feel_96 : decode cX0_feel 96 = .ok (.if_icmp .lt 16, 3) := dk_161 0 16 (dk_at dksX0_feel_4 1 rfl rfl)
theorem dX0_feel_99 : decode cX0_feel 99 = .ok (.aload_n 0, 1) := dk_42 (dk_at dksX0_feel_4 4 rfl rfl)
theorem dX0_feel_100 : decode cX0_feel 100 = .ok (.getfield 112, 3) := dk_180 0 112 (dk_at dksX0_feel_4 5 rfl rfl)
theorem dX0_feel_103 : decode cX0_feel 103 = .ok (.iload 6, 2) := dk_21 6 (dk_at dksX0_feel_4 8 rfl rfl)
theorem dX0_feel_105 : decode cX0_feel 105 = .ok (.aaload, 1) := dk_50 (dk_at dksX0_feel_4 10 rfl rfl)
theorem dX0_feel_106 : decode cX0_feel 106 = .ok (.iload 8, 2) := dk_21 8 (dk_at dksX0_feel_4 11 rfl rfl)
theorem dX0_feel_108 : decode cX0_feel 108 = .ok (.iaload, 1) := dk_46 (dk_at dksX0_feel_4 13 rfl rfl)
theorem dX0_feel_109 : decode cX0_feel 109 = .ok (.goto 4, 3) := dk_167 0 4 (dk_at dksX0_feel_4 14 rfl rfl)
theorem dX0_feel_112 : decode cX0_feel 112 = .ok (.iconst 0, 1) := dk_3 (dk_at dksX0_feel_4 17 rfl rfl)
theorem dX0_feel_113 : decode cX0_feel 113 = .ok (.iadd, 1) := dk_96 (dk_at dksX0_feel_4 18 rfl rfl)
theorem dX0_feel_114 : decode cX0_feel 114 = .ok (.istore 7, 2) := dk_54 7 (dk_at dksX0_feel_4 19 rfl rfl)
theorem dX0_feel_116 : decode cX0_feel 116 = .ok (.iinc 8 1, 3) := dk_132 8 1 (dk_at dksX0_feel_4 21 rfl rfl)
theorem dX0_feel_119 : decode cX0_feel 119 = .ok (.goto (-48), 3) := dk_167 255 208 (dk_at dksX0_feel_5 0 rfl rfl)
theorem dX0_feel_122 : decode cX0_feel 122 = .ok (.iload 7, 2) := dk_21 7 (dk_at dksX0_feel_5 3 rfl rfl)
theorem dX0_feel_124 : decode cX0_feel 124 = .ok (.aload_n 0, 1) := dk_42 (dk_at dksX0_feel_5 5 rfl rfl)
theorem dX0_feel_125 : decode cX0_feel 125 = .ok (.getfield 375, 3) := dk_180 1 119 (dk_at dksX0_feel_5 6 rfl rfl)
theorem dX0_feel_128 : decode cX0_feel 128 = .ok (.iload 7, 2) := dk_21 7 (dk_at dksX0_feel_5 9 rfl rfl)
theorem dX0_feel_130 : decode cX0_feel 130 = .ok (.isub, 1) := dk_100 (dk_at dksX0_feel_5 11 rfl rfl)
theorem dX0_feel_131 : decode cX0_feel 131 = .ok (.invokestatic 291, 3) := dk_184 1 35 (dk_at dksX0_feel_5 12 rfl rfl)
theorem dX0_feel_134 : decode cX0_feel 134 = .ok (.istore 8, 2) := dk_54 8 (dk_at dksX0_feel_5 15 rfl rfl)
theorem dX0_feel_136 : decode cX0_feel 136 = .ok (.iload 8, 2) := dk_21 8 (dk_at dksX0_feel_5 17 rfl rfl)
theorem dX0_feel_138 : decode cX0_feel 138 = .ok (.iload 5, 2) := dk_21 5 (dk_at dksX0_feel_5 19 rfl rfl)
theorem dX0_feel_140 : decode cX0_feel 140 = .ok (.if_icmp .lt 6, 3) := dk_161 0 6 (dk_at dksX0_feel_5 21 rfl rfl)
theorem dX0_feel_143 : decode cX0_feel 143 = .ok (.goto 11, 3) := dk_167 0 11 (dk_at dksX0_feel_6 0 rfl rfl)
theorem dX0_feel_146 : decode cX0_feel 146 = .ok (.iload 6, 2) := dk_21 6 (dk_at dksX0_feel_6 3 rfl rfl)
theorem dX0_feel_148 : decode cX0_feel 148 = .ok (.istore 4, 2) := dk_54 4 (dk_at dksX0_feel_6 5 rfl rfl)
theorem dX0_feel_150 : decode cX0_feel 150 = .ok (.iload 8, 2) := dk_21 8 (dk_at dksX0_feel_6 7 rfl rfl)
theorem dX0_feel_152 : decode cX0_feel 152 = .ok (.istore 5, 2) := dk_54 5 (dk_at dksX0_feel_6 9 rfl rfl)
theorem dX0_feel_154 : decode cX0_feel 154 = .ok (.iinc 6 1, 3) := dk_132 6 1 (dk_at dksX0_feel_6 11 rfl rfl)
theorem dX0_feel_157 : decode cX0_feel 157 = .ok (.goto (-105), 3) := dk_167 255 151 (dk_at dksX0_feel_6 14 rfl rfl)
theorem dX0_feel_160 : decode cX0_feel 160 = .ok (.iload 4, 2) := dk_21 4 (dk_at dksX0_feel_6 17 rfl rfl)
theorem dX0_feel_162 : decode cX0_feel 162 = .ok (.ireturn, 1) := dk_172 (dk_at dksX0_feel_6 19 rfl rfl)
def dkwX0_hold_1 : List UInt8 := [42, 180, 0, 78, 27, 4, 84, 4, 172]
abbrev dktX0_hold_1 : List UInt8 := dkwX0_hold_1 ++ []
def dkwX0_hold_0 : List UInt8 := [27, 3, 5, 184, 0, 156, 154, 0, 5, 3, 172, 42, 180, 0, 62, 27, 50, 42, 180, 0, 51, 182, 0, 221]
abbrev dktX0_hold_0 : List UInt8 := dkwX0_hold_0 ++ dktX0_hold_1
theorem dksX0_hold_0 : cX0_hold.data.toList.drop 0 = dktX0_hold_0 := by decide +kernel
theorem dksX0_hold_1 : cX0_hold.data.toList.drop 24 = dktX0_hold_1 := dk_seg dksX0_hold_0 24 rfl rfl
theorem dX0_hold_0 : decode cX0_hold 0 = .ok (.iload_n 1, 1) := dk_27 (dk_at dksX0_hold_0 0 rfl rfl)
theorem dX0_hold_1 : decode cX0_hold 1 = .ok (.iconst 0, 1) := dk_3 (dk_at dksX0_hold_0 1 rfl rfl)
theorem dX0_hold_2 : decode cX0_hold 2 = .ok (.iconst 2, 1) := dk_5 (dk_at dksX0_hold_0 2 rfl rfl)
theorem dX0_hold_3 : decode cX0_hold 3 = .ok (.invokestatic 156, 3) := dk_184 0 156 (dk_at dksX0_hold_0 3 rfl rfl)
theorem dX0_hold_6 : decode cX0_hold 6 = .ok (.ifCond .ne 5, 3) := dk_154 0 5 (dk_at dksX0_hold_0 6 rfl rfl)
theorem dX0_hold_9 : decode cX0_hold 9 = .ok (.iconst 0, 1) := dk_3 (dk_at dksX0_hold_0 9 rfl rfl)
theorem dX0_hold_10 : decode cX0_hold 10 = .ok (.ireturn, 1) := dk_172 (dk_at dksX0_hold_0 10 rfl rfl)
theorem dX0_hold_11 : decode cX0_hold 11 = .ok (.aload_n 0, 1) := dk_42 (dk_at dksX0_hold_0 11 rfl rfl)
theorem dX0_hold_12 : decode cX0_hold 12 = .ok (.getfield 62, 3) := dk_180 0 62 (dk_at dksX0_hold_0 12 rfl rfl)
theorem dX0_hold_15 : decode cX0_hold 15 = .ok (.iload_n 1, 1) := dk_27 (dk_at dksX0_hold_0 15 rfl rfl)
theorem dX0_hold_16 : decode cX0_hold 16 = .ok (.aaload, 1) := dk_50 (dk_at dksX0_hold_0 16 rfl rfl)
theorem dX0_hold_17 : decode cX0_hold 17 = .ok (.aload_n 0, 1) := dk_42 (dk_at dksX0_hold_0 17 rfl rfl)
theorem dX0_hold_18 : decode cX0_hold 18 = .ok (.getfield 51, 3) := dk_180 0 51 (dk_at dksX0_hold_0 18 rfl rfl)
theorem dX0_hold_21 : decode cX0_hold 21 = .ok (.invokevirtual 221, 3) := dk_182 0 221 (dk_at dksX0_hold_0 21 rfl rfl)
theorem dX0_hold_24 : decode cX0_hold 24 = .ok (.aload_n 0, 1) := dk_42 (dk_at dksX0_hold_1 0 rfl rfl)
theorem dX0_hold_25 : decode cX0_hold 25 = .ok (.getfield 78, 3) := dk_180 0 78 (dk_at dksX0_hold_1 1 rfl rfl)
theorem dX0_hold_28 : decode cX0_hold 28 = .ok (.iload_n 1, 1) := dk_27 (dk_at dksX0_hold_1 4 rfl rfl)
theorem dX0_hold_29 : decode cX0_hold 29 = .ok (.iconst 1, 1) := dk_4 (dk_at dksX0_hold_1 5 rfl rfl)
theorem dX0_hold_30 : decode cX0_hold 30 = .ok (.bastore, 1) := dk_84 (dk_at dksX0_hold_1 6 rfl rfl)
theorem dX0_hold_31 : decode cX0_hold 31 = .ok (.iconst 1, 1) := dk_4 (dk_at dksX0_hold_1 7 rfl rfl)
theorem dX0_hold_32 : decode cX0_hold 32 = .ok (.ireturn, 1) := dk_172 (dk_at dksX0_hold_1 8 rfl rfl)
def dkwX0_restore_1 : List UInt8 := [42, 180, 0, 62, 27, 50, 182, 0, 221, 42, 3, 181, 0, 134, 4, 172]
abbrev dktX0_restore_1 : List UInt8 := dkwX0_restore_1 ++ []
def dkwX0_restore_0 : List UInt8 := [27, 3, 5, 184, 0, 156, 153, 0, 12, 42, 180, 0, 78, 27, 51, 154, 0, 5, 3, 172, 42, 180, 0, 51]
abbrev dktX0_restore_0 : List UInt8 := dkwX0_restore_0 ++ dktX0_restore_1
theorem dksX0_restore_0 : cX0_restore.data.toList.drop 0 = dktX0_restore_0 := by decide +kernel
theorem dksX0_restore_1 : cX0_restore.data.toList.drop 24 = dktX0_restore_1 := dk_seg dksX0_restore_0 24 rfl rfl
theorem dX0_restore_0 : decode cX0_restore 0 = .ok (.iload_n 1, 1) := dk_27 (dk_at dksX0_restore_0 0 rfl rfl)
theorem dX0_restore_1 : decode cX0_restore 1 = .ok (.iconst 0, 1) := dk_3 (dk_at dksX0_restore_0 1 rfl rfl)
theorem dX0_restore_2 : decode cX0_restore 2 = .ok (.iconst 2, 1) := dk_5 (dk_at dksX0_restore_0 2 rfl rfl)
theorem dX0_restore_3 : decode cX0_restore 3 = .ok (.invokestatic 156, 3) := dk_184 0 156 (dk_at dksX0_restore_0 3 rfl rfl)
theorem dX0_restore_6 : decode cX0_restore 6 = .ok (.ifCond .eq 12, 3) := dk_153 0 12 (dk_at dksX0_restore_0 6 rfl rfl)
theorem dX0_restore_9 : decode cX0_restore 9 = .ok (.aload_n 0, 1) := dk_42 (dk_at dksX0_restore_0 9 rfl rfl)
theorem dX0_restore_10 : decode cX0_restore 10 = .ok (.getfield 78, 3) := dk_180 0 78 (dk_at dksX0_restore_0 10 rfl rfl)
theorem dX0_restore_13 : decode cX0_restore 13 = .ok (.iload_n 1, 1) := dk_27 (dk_at dksX0_restore_0 13 rfl rfl)
theorem dX0_restore_14 : decode cX0_restore 14 = .ok (.baload, 1) := dk_51 (dk_at dksX0_restore_0 14 rfl rfl)
theorem dX0_restore_15 : decode cX0_restore 15 = .ok (.ifCond .ne 5, 3) := dk_154 0 5 (dk_at dksX0_restore_0 15 rfl rfl)
theorem dX0_restore_18 : decode cX0_restore 18 = .ok (.iconst 0, 1) := dk_3 (dk_at dksX0_restore_0 18 rfl rfl)
theorem dX0_restore_19 : decode cX0_restore 19 = .ok (.ireturn, 1) := dk_172 (dk_at dksX0_restore_0 19 rfl rfl)
theorem dX0_restore_20 : decode cX0_restore 20 = .ok (.aload_n 0, 1) := dk_42 (dk_at dksX0_restore_0 20 rfl rfl)
theorem dX0_restore_21 : decode cX0_restore 21 = .ok (.getfield 51, 3) := dk_180 0 51 (dk_at dksX0_restore_0 21 rfl rfl)
theorem dX0_restore_24 : decode cX0_restore 24 = .ok (.aload_n 0, 1) := dk_42 (dk_at dksX0_restore_1 0 rfl rfl)
theorem dX0_restore_25 : decode cX0_restore 25 = .ok (.getfield 62, 3) := dk_180 0 62 (dk_at dksX0_restore_1 1 rfl rfl)
theorem dX0_restore_28 : decode cX0_restore 28 = .ok (.iload_n 1, 1) := dk_27 (dk_at dksX0_restore_1 4 rfl rfl)
theorem dX0_restore_29 : decode cX0_restore 29 = .ok (.aaload, 1) := dk_50 (dk_at dksX0_restore_1 5 rfl rfl)
theorem dX0_restore_30 : decode cX0_restore 30 = .ok (.invokevirtual 221, 3) := dk_182 0 221 (dk_at dksX0_restore_1 6 rfl rfl)
theorem dX0_restore_33 : decode cX0_restore 33 = .ok (.aload_n 0, 1) := dk_42 (dk_at dksX0_restore_1 9 rfl rfl)
theorem dX0_restore_34 : decode cX0_restore 34 = .ok (.iconst 0, 1) := dk_3 (dk_at dksX0_restore_1 10 rfl rfl)
theorem dX0_restore_35 : decode cX0_restore 35 = .ok (.putfield 134, 3) := dk_181 0 134 (dk_at dksX0_restore_1 11 rfl rfl)
theorem dX0_restore_38 : decode cX0_restore 38 = .ok (.iconst 1, 1) := dk_4 (dk_at dksX0_restore_1 14 rfl rfl)
theorem dX0_restore_39 : decode cX0_restore 39 = .ok (.ireturn, 1) := dk_172 (dk_at dksX0_restore_1 15 rfl rfl)
def dkwX0_count_14 : List UInt8 := [180, 0, 186, 29, 46, 96, 61, 132, 3, 1, 167, 255, 233, 28, 172, 2, 172]
abbrev dktX0_count_14 : List UInt8 := dkwX0_count_14 ++ []
def dkwX0_count_13 : List UInt8 := [61, 132, 3, 1, 167, 255, 223, 28, 172, 3, 62, 29, 42, 182, 0, 154, 162, 0, 21, 28, 42, 180, 0, 51]
abbrev dktX0_count_13 : List UInt8 := dkwX0_count_13 ++ dktX0_count_14
def dkwX0_count_12 : List UInt8 := [162, 0, 31, 28, 42, 180, 0, 51, 180, 0, 167, 29, 46, 154, 0, 9, 4, 29, 120, 167, 0, 4, 3, 128]
abbrev dktX0_count_12 : List UInt8 := dkwX0_count_12 ++ dktX0_count_13
def dkwX0_count_11 : List UInt8 := [180, 0, 198, 29, 46, 96, 61, 132, 3, 1, 167, 255, 233, 28, 172, 3, 62, 29, 42, 182, 0, 154]
abbrev dktX0_count_11 : List UInt8 := dkwX0_count_11 ++ dktX0_count_12
def dkwX0_count_10 : List UInt8 := [42, 180, 0, 40, 180, 1, 100, 172, 3, 62, 29, 42, 182, 0, 154, 162, 0, 21, 28, 42, 180, 0, 51]
abbrev dktX0_count_10 : List UInt8 := dkwX0_count_10 ++ dktX0_count_11
def dkwX0_count_9 : List UInt8 := [51, 153, 0, 7, 4, 167, 0, 4, 3, 96, 172, 42, 182, 0, 252, 153, 0, 7, 4, 167, 0, 4, 3, 172]
abbrev dktX0_count_9 : List UInt8 := dkwX0_count_9 ++ dktX0_count_10
def dkwX0_count_8 : List UInt8 := [167, 0, 4, 3, 42, 180, 0, 78, 4, 51, 153, 0, 7, 4, 167, 0, 4, 3, 96, 42, 180, 0, 78, 5]
abbrev dktX0_count_8 : List UInt8 := dkwX0_count_8 ++ dktX0_count_9
def dkwX0_count_7 : List UInt8 := [180, 0, 119, 172, 42, 180, 0, 134, 172, 42, 180, 0, 137, 172, 42, 180, 0, 78, 3, 51, 153, 0, 7, 4]
abbrev dktX0_count_7 : List UInt8 := dkwX0_count_7 ++ dktX0_count_8
def dkwX0_count_6 : List UInt8 := [153, 0, 9, 4, 29, 120, 167, 0, 4, 3, 128, 61, 132, 3, 1, 167, 255, 224, 28, 172, 42, 180, 0, 24]
abbrev dktX0_count_6 : List UInt8 := dkwX0_count_6 ++ dktX0_count_7
def dkwX0_count_5 : List UInt8 := [167, 255, 233, 28, 172, 3, 62, 29, 42, 182, 0, 154, 162, 0, 30, 28, 42, 180, 0, 51, 29, 182, 0, 230]
abbrev dktX0_count_5 : List UInt8 := dkwX0_count_5 ++ dktX0_count_6
def dkwX0_count_4 : List UInt8 := [62, 29, 42, 182, 0, 154, 162, 0, 21, 28, 42, 180, 0, 51, 180, 0, 167, 29, 46, 96, 61, 132, 3, 1]
abbrev dktX0_count_4 : List UInt8 := dkwX0_count_4 ++ dktX0_count_5
def dkwX0_count_3 : List UInt8 := [180, 0, 51, 180, 0, 164, 172, 42, 180, 0, 51, 182, 0, 240, 172, 42, 180, 0, 51, 180, 1, 3, 172, 3]
abbrev dktX0_count_3 : List UInt8 := dkwX0_count_3 ++ dktX0_count_4
def dkwX0_count_2 : List UInt8 := [42, 182, 0, 154, 172, 42, 180, 0, 40, 180, 0, 246, 172, 42, 180, 0, 51, 180, 1, 16, 172, 42]
abbrev dktX0_count_2 : List UInt8 := dkwX0_count_2 ++ dktX0_count_3
def dkwX0_count_1 : List UInt8 := [170, 0, 0, 1, 123, 0, 0, 0, 0, 0, 0, 0, 16, 0, 0, 0, 81, 0, 0, 0, 86, 0, 0, 0, 94, 0, 0, 0, 102, 0, 0, 0, 110, 0, 0, 0, 118, 0, 0, 0, 126, 0, 0, 0, 156, 0, 0, 0, 195, 0, 0, 0, 203, 0, 0, 0, 208, 0, 0, 0, 213, 0, 0, 1, 2, 0, 0, 1, 15, 0, 0, 1, 23, 0, 0, 1, 53, 0, 0, 1, 93]
abbrev dktX0_count_1 : List UInt8 := dkwX0_count_1 ++ dktX0_count_2
def dkwX0_count_0 : List UInt8 := [3, 61, 27]
abbrev dktX0_count_0 : List UInt8 := dkwX0_count_0 ++ dktX0_count_1
theorem dksX0_count_0 : cX0_count.data.toList.drop 0 = dktX0_count_0 := by decide +kernel
theorem dksX0_count_1 : cX0_count.data.toList.drop 3 = dktX0_count_1 := dk_seg dksX0_count_0 3 rfl rfl
theorem dksX0_count_2 : cX0_count.data.toList.drop 84 = dktX0_count_2 := dk_seg dksX0_count_1 81 rfl rfl
theorem dksX0_count_3 : cX0_count.data.toList.drop 106 = dktX0_count_3 := dk_seg dksX0_count_2 22 rfl rfl
theorem dksX0_count_4 : cX0_count.data.toList.drop 130 = dktX0_count_4 := dk_seg dksX0_count_3 24 rfl rfl
theorem dksX0_count_5 : cX0_count.data.toList.drop 154 = dktX0_count_5 := dk_seg dksX0_count_4 24 rfl rfl
theorem dksX0_count_6 : cX0_count.data.toList.drop 178 = dktX0_count_6 := dk_seg dksX0_count_5 24 rfl rfl
theorem dksX0_count_7 : cX0_count.data.toList.drop 202 = dktX0_count_7 := dk_seg dksX0_count_6 24 rfl rfl
theorem dksX0_count_8 : cX0_count.data.toList.drop 226 = dktX0_count_8 := dk_seg dksX0_count_7 24 rfl rfl
theorem dksX0_count_9 : cX0_count.data.toList.drop 250 = dktX0_count_9 := dk_seg dksX0_count_8 24 rfl rfl
theorem dksX0_count_10 : cX0_count.data.toList.drop 274 = dktX0_count_10 := dk_seg dksX0_count_9 24 rfl rfl
theorem dksX0_count_11 : cX0_count.data.toList.drop 297 = dktX0_count_11 := dk_seg dksX0_count_10 23 rfl rfl
theorem dksX0_count_12 : cX0_count.data.toList.drop 319 = dktX0_count_12 := dk_seg dksX0_count_11 22 rfl rfl
theorem dksX0_count_13 : cX0_count.data.toList.drop 343 = dktX0_count_13 := dk_seg dksX0_count_12 24 rfl rfl
theorem dksX0_count_14 : cX0_count.data.toList.drop 367 = dktX0_count_14 := dk_seg dksX0_count_13 24 rfl rfl
theorem dX0_count_0 : decode cX0_count 0 = .ok (.iconst 0, 1) := dk_3 (dk_at dksX0_count_0 0 rfl rfl)
theorem dX0_count_1 : decode cX0_count 1 = .ok (.istore_n 2, 1) := dk_61 (dk_at dksX0_count_0 1 rfl rfl)
theorem dX0_count_2 : decode cX0_count 2 = .ok (.iload_n 1, 1) := dk_27 (dk_at dksX0_count_0 2 rfl rfl)
theorem dX0_count_3 : decode cX0_count 3 = .ok (.tableswitch 379 0 16 #[81, 86, 94, 102, 110, 118, 126, 156, 195, 203, 208, 213, 258, 271, 279, 309, 349], 81) := by decide +kernel
theorem dX0_count_84 : decode cX0_count 84 = .ok (.aload_n 0, 1) := dk_42 (dk_at dksX0_count_2 0 rfl rfl)
theorem dX0_count_85 : decode cX0_count 85 = .ok (.invokevirtual 154, 3) := dk_182 0 154 (dk_at dksX0_count_2 1 rfl rfl)
theorem dX0_count_88 : decode cX0_count 88 = .ok (.ireturn, 1) := dk_172 (dk_at dksX0_count_2 4 rfl rfl)
theorem dX0_count_89 : decode cX0_count 89 = .ok (.aload_n 0, 1) := dk_42 (dk_at dksX0_count_2 5 rfl rfl)
theorem dX0_count_90 : decode cX0_count 90 = .ok (.getfield 40, 3) := dk_180 0 40 (dk_at dksX0_count_2 6 rfl rfl)
theorem dX0_count_93 : decode cX0_count 93 = .ok (.getfield 246, 3) := dk_180 0 246 (dk_at dksX0_count_2 9 rfl rfl)
theorem dX0_count_96 : decode cX0_count 96 = .ok (.ireturn, 1) := dk_172 (dk_at dksX0_count_2 12 rfl rfl)
theorem dX0_count_97 : decode cX0_count 97 = .ok (.aload_n 0, 1) := dk_42 (dk_at dksX0_count_2 13 rfl rfl)
theorem dX0_count_98 : decode cX0_count 98 = .ok (.getfield 51, 3) := dk_180 0 51 (dk_at dksX0_count_2 14 rfl rfl)
theorem dX0_count_101 : decode cX0_count 101 = .ok (.getfield 272, 3) := dk_180 1 16 (dk_at dksX0_count_2 17 rfl rfl)
theorem dX0_count_104 : decode cX0_count 104 = .ok (.ireturn, 1) := dk_172 (dk_at dksX0_count_2 20 rfl rfl)
theorem dX0_count_105 : decode cX0_count 105 = .ok (.aload_n 0, 1) := dk_42 (dk_at dksX0_count_2 21 rfl rfl)
theorem dX0_count_106 : decode cX0_count 106 = .ok (.getfield 51, 3) := dk_180 0 51 (dk_at dksX0_count_3 0 rfl rfl)
theorem dX0_count_109 : decode cX0_count 109 = .ok (.getfield 164, 3) := dk_180 0 164 (dk_at dksX0_count_3 3 rfl rfl)
theorem dX0_count_112 : decode cX0_count 112 = .ok (.ireturn, 1) := dk_172 (dk_at dksX0_count_3 6 rfl rfl)
theorem dX0_count_113 : decode cX0_count 113 = .ok (.aload_n 0, 1) := dk_42 (dk_at dksX0_count_3 7 rfl rfl)
theorem dX0_count_114 : decode cX0_count 114 = .ok (.getfield 51, 3) := dk_180 0 51 (dk_at dksX0_count_3 8 rfl rfl)
theorem dX0_count_117 : decode cX0_count 117 = .ok (.invokevirtual 240, 3) := dk_182 0 240 (dk_at dksX0_count_3 11 rfl rfl)
theorem dX0_count_120 : decode cX0_count 120 = .ok (.ireturn, 1) := dk_172 (dk_at dksX0_count_3 14 rfl rfl)
theorem dX0_count_121 : decode cX0_count 121 = .ok (.aload_n 0, 1) := dk_42 (dk_at dksX0_count_3 15 rfl rfl)
theorem dX0_count_122 : decode cX0_count 122 = .ok (.getfield 51, 3) := dk_180 0 51 (dk_at dksX0_count_3 16 rfl rfl)
theorem dX0_count_125 : decode cX0_count 125 = .ok (.getfield 259, 3) := dk_180 1 3 (dk_at dksX0_count_3 19 rfl rfl)
theorem dX0_count_128 : decode cX0_count 128 = .ok (.ireturn, 1) := dk_172 (dk_at dksX0_count_3 22 rfl rfl)
theorem dX0_count_129 : decode cX0_count 129 = .ok (.iconst 0, 1) := dk_3 (dk_at dksX0_count_3 23 rfl rfl)
theorem dX0_count_130 : decode cX0_count 130 = .ok (.istore_n 3, 1) := dk_62 (dk_at dksX0_count_4 0 rfl rfl)
theorem dX0_count_131 : decode cX0_count 131 = .ok (.iload_n 3, 1) := dk_29 (dk_at dksX0_count_4 1 rfl rfl)
theorem dX0_count_132 : decode cX0_count 132 = .ok (.aload_n 0, 1) := dk_42 (dk_at dksX0_count_4 2 rfl rfl)
theorem dX0_count_133 : decode cX0_count 133 = .ok (.invokevirtual 154, 3) := dk_182 0 154 (dk_at dksX0_count_4 3 rfl rfl)
theorem dX0_count_136 : decode cX0_count 136 = .ok (.if_icmp .ge 21, 3) := dk_162 0 21 (dk_at dksX0_count_4 6 rfl rfl)
theorem dX0_count_139 : decode cX0_count 139 = .ok (.iload_n 2, 1) := dk_28 (dk_at dksX0_count_4 9 rfl rfl)
theorem dX0_count_140 : decode cX0_count 140 = .ok (.aload_n 0, 1) := dk_42 (dk_at dksX0_count_4 10 rfl rfl)
theorem dX0_count_141 : decode cX0_count 141 = .ok (.getfield 51, 3) := dk_180 0 51 (dk_at dksX0_count_4 11 rfl rfl)
theorem dX0_count_144 : decode cX0_count 144 = .ok (.getfield 167, 3) := dk_180 0 167 (dk_at dksX0_count_4 14 rfl rfl)
theorem dX0_count_147 : decode cX0_count 147 = .ok (.iload_n 3, 1) := dk_29 (dk_at dksX0_count_4 17 rfl rfl)
theorem dX0_count_148 : decode cX0_count 148 = .ok (.iaload, 1) := dk_46 (dk_at dksX0_count_4 18 rfl rfl)
theorem dX0_count_149 : decode cX0_count 149 = .ok (.iadd, 1) := dk_96 (dk_at dksX0_count_4 19 rfl rfl)
theorem dX0_count_150 : decode cX0_count 150 = .ok (.istore_n 2, 1) := dk_61 (dk_at dksX0_count_4 20 rfl rfl)
theorem dX0_count_151 : decode cX0_count 151 = .ok (.iinc 3 1, 3) := dk_132 3 1 (dk_at dksX0_count_4 21 rfl rfl)
theorem dX0_count_154 : decode cX0_count 154 = .ok (.goto (-23), 3) := dk_167 255 233 (dk_at dksX0_count_5 0 rfl rfl)
theorem dX0_count_157 : decode cX0_count 157 = .ok (.iload_n 2, 1) := dk_28 (dk_at dksX0_count_5 3 rfl rfl)
theorem dX0_count_158 : decode cX0_count 158 = .ok (.ireturn, 1) := dk_172 (dk_at dksX0_count_5 4 rfl rfl)
theorem dX0_count_159 : decode cX0_count 159 = .ok (.iconst 0, 1) := dk_3 (dk_at dksX0_count_5 5 rfl rfl)
theorem dX0_count_160 : decode cX0_count 160 = .ok (.istore_n 3, 1) := dk_62 (dk_at dksX0_count_5 6 rfl rfl)
theorem dX0_count_161 : decode cX0_count 161 = .ok (.iload_n 3, 1) := dk_29 (dk_at dksX0_count_5 7 rfl rfl)
theorem dX0_count_162 : decode cX0_count 162 = .ok (.aload_n 0, 1) := dk_42 (dk_at dksX0_count_5 8 rfl rfl)
theorem dX0_count_163 : decode cX0_count 163 = .ok (.invokevirtual 154, 3) := dk_182 0 154 (dk_at dksX0_count_5 9 rfl rfl)
theorem dX0_count_166 : decode cX0_count 166 = .ok (.if_icmp .ge 30, 3) := dk_162 0 30 (dk_at dksX0_count_5 12 rfl rfl)
theorem dX0_count_169 : decode cX0_count 169 = .ok (.iload_n 2, 1) := dk_28 (dk_at dksX0_count_5 15 rfl rfl)
theorem dX0_count_170 : decode cX0_count 170 = .ok (.aload_n 0, 1) := dk_42 (dk_at dksX0_count_5 16 rfl rfl)
theorem dX0_count_171 : decode cX0_count 171 = .ok (.getfield 51, 3) := dk_180 0 51 (dk_at dksX0_count_5 17 rfl rfl)
theorem dX0_count_174 : decode cX0_count 174 = .ok (.iload_n 3, 1) := dk_29 (dk_at dksX0_count_5 20 rfl rfl)
theorem dX0_count_175 : decode cX0_count 175 = .ok (.invokevirtual 230, 3) := dk_182 0 230 (dk_at dksX0_count_5 21 rfl rfl)
theorem dX0_count_178 : decode cX0_count 178 = .ok (.ifCond .eq 9, 3) := dk_153 0 9 (dk_at dksX0_count_6 0 rfl rfl)
theorem dX0_count_181 : decode cX0_count 181 = .ok (.iconst 1, 1) := dk_4 (dk_at dksX0_count_6 3 rfl rfl)
theorem dX0_count_182 : decode cX0_count 182 = .ok (.iload_n 3, 1) := dk_29 (dk_at dksX0_count_6 4 rfl rfl)
theorem dX0_count_183 : decode cX0_count 183 = .ok (.ishl, 1) := dk_120 (dk_at dksX0_count_6 5 rfl rfl)
theorem dX0_count_184 : decode cX0_count 184 = .ok (.goto 4, 3) := dk_167 0 4 (dk_at dksX0_count_6 6 rfl rfl)
theorem dX0_count_187 : decode cX0_count 187 = .ok (.iconst 0, 1) := dk_3 (dk_at dksX0_count_6 9 rfl rfl)
theorem dX0_count_188 : decode cX0_count 188 = .ok (.ior, 1) := dk_128 (dk_at dksX0_count_6 10 rfl rfl)
theorem dX0_count_189 : decode cX0_count 189 = .ok (.istore_n 2, 1) := dk_61 (dk_at dksX0_count_6 11 rfl rfl)
theorem dX0_count_190 : decode cX0_count 190 = .ok (.iinc 3 1, 3) := dk_132 3 1 (dk_at dksX0_count_6 12 rfl rfl)
theorem dX0_count_193 : decode cX0_count 193 = .ok (.goto (-32), 3) := dk_167 255 224 (dk_at dksX0_count_6 15 rfl rfl)
theorem dX0_count_196 : decode cX0_count 196 = .ok (.iload_n 2, 1) := dk_28 (dk_at dksX0_count_6 18 rfl rfl)
theorem dX0_count_197 : decode cX0_count 197 = .ok (.ireturn, 1) := dk_172 (dk_at dksX0_count_6 19 rfl rfl)
theorem dX0_count_198 : decode cX0_count 198 = .ok (.aload_n 0, 1) := dk_42 (dk_at dksX0_count_6 20 rfl rfl)
theorem dX0_count_199 : decode cX0_count 199 = .ok (.getfield 24, 3) := dk_180 0 24 (dk_at dksX0_count_6 21 rfl rfl)
theorem dX0_count_202 : decode cX0_count 202 = .ok (.getfield 119, 3) := dk_180 0 119 (dk_at dksX0_count_7 0 rfl rfl)
theorem dX0_count_205 : decode cX0_count 205 = .ok (.ireturn, 1) := dk_172 (dk_at dksX0_count_7 3 rfl rfl)
theorem dX0_count_206 : decode cX0_count 206 = .ok (.aload_n 0, 1) := dk_42 (dk_at dksX0_count_7 4 rfl rfl)
theorem dX0_count_207 : decode cX0_count 207 = .ok (.getfield 134, 3) := dk_180 0 134 (dk_at dksX0_count_7 5 rfl rfl)
theorem dX0_count_210 : decode cX0_count 210 = .ok (.ireturn, 1) := dk_172 (dk_at dksX0_count_7 8 rfl rfl)
theorem dX0_count_211 : decode cX0_count 211 = .ok (.aload_n 0, 1) := dk_42 (dk_at dksX0_count_7 9 rfl rfl)
theorem dX0_count_212 : decode cX0_count 212 = .ok (.getfield 137, 3) := dk_180 0 137 (dk_at dksX0_count_7 10 rfl rfl)
theorem dX0_count_215 : decode cX0_count 215 = .ok (.ireturn, 1) := dk_172 (dk_at dksX0_count_7 13 rfl rfl)
theorem dX0_count_216 : decode cX0_count 216 = .ok (.aload_n 0, 1) := dk_42 (dk_at dksX0_count_7 14 rfl rfl)
theorem dX0_count_217 : decode cX0_count 217 = .ok (.getfield 78, 3) := dk_180 0 78 (dk_at dksX0_count_7 15 rfl rfl)
theorem dX0_count_220 : decode cX0_count 220 = .ok (.iconst 0, 1) := dk_3 (dk_at dksX0_count_7 18 rfl rfl)
theorem dX0_count_221 : decode cX0_count 221 = .ok (.baload, 1) := dk_51 (dk_at dksX0_count_7 19 rfl rfl)
theorem dX0_count_222 : decode cX0_count 222 = .ok (.ifCond .eq 7, 3) := dk_153 0 7 (dk_at dksX0_count_7 20 rfl rfl)
theorem dX0_count_225 : decode cX0_count 225 = .ok (.iconst 1, 1) := dk_4 (dk_at dksX0_count_7 23 rfl rfl)
theorem dX0_count_226 : decode cX0_count 226 = .ok (.goto 4, 3) := dk_167 0 4 (dk_at dksX0_count_8 0 rfl rfl)
theorem dX0_count_229 : decode cX0_count 229 = .ok (.iconst 0, 1) := dk_3 (dk_at dksX0_count_8 3 rfl rfl)
theorem dX0_count_230 : decode cX0_count 230 = .ok (.aload_n 0, 1) := dk_42 (dk_at dksX0_count_8 4 rfl rfl)
theorem dX0_count_231 : decode cX0_count 231 = .ok (.getfield 78, 3) := dk_180 0 78 (dk_at dksX0_count_8 5 rfl rfl)
theorem dX0_count_234 : decode cX0_count 234 = .ok (.iconst 1, 1) := dk_4 (dk_at dksX0_count_8 8 rfl rfl)
theorem dX0_count_235 : decode cX0_count 235 = .ok (.baload, 1) := dk_51 (dk_at dksX0_count_8 9 rfl rfl)
theorem dX0_count_236 : decode cX0_count 236 = .ok (.ifCond .eq 7, 3) := dk_153 0 7 (dk_at dksX0_count_8 10 rfl rfl)
theorem dX0_count_239 : decode cX0_count 239 = .ok (.iconst 1, 1) := dk_4 (dk_at dksX0_count_8 13 rfl rfl)
theorem dX0_count_240 : decode cX0_count 240 = .ok (.goto 4, 3) := dk_167 0 4 (dk_at dksX0_count_8 14 rfl rfl)
theorem dX0_count_243 : decode cX0_count 243 = .ok (.iconst 0, 1) := dk_3 (dk_at dksX0_count_8 17 rfl rfl)
theorem dX0_count_244 : decode cX0_count 244 = .ok (.iadd, 1) := dk_96 (dk_at dksX0_count_8 18 rfl rfl)
theorem dX0_count_245 : decode cX0_count 245 = .ok (.aload_n 0, 1) := dk_42 (dk_at dksX0_count_8 19 rfl rfl)
theorem dX0_count_246 : decode cX0_count 246 = .ok (.getfield 78, 3) := dk_180 0 78 (dk_at dksX0_count_8 20 rfl rfl)
theorem dX0_count_249 : decode cX0_count 249 = .ok (.iconst 2, 1) := dk_5 (dk_at dksX0_count_8 23 rfl rfl)
theorem dX0_count_250 : decode cX0_count 250 = .ok (.baload, 1) := dk_51 (dk_at dksX0_count_9 0 rfl rfl)
theorem dX0_count_251 : decode cX0_count 251 = .ok (.ifCond .eq 7, 3) := dk_153 0 7 (dk_at dksX0_count_9 1 rfl rfl)
theorem dX0_count_254 : decode cX0_count 254 = .ok (.iconst 1, 1) := dk_4 (dk_at dksX0_count_9 4 rfl rfl)
theorem dX0_count_255 : decode cX0_count 255 = .ok (.goto 4, 3) := dk_167 0 4 (dk_at dksX0_count_9 5 rfl rfl)
theorem dX0_count_258 : decode cX0_count 258 = .ok (.iconst 0, 1) := dk_3 (dk_at dksX0_count_9 8 rfl rfl)
theorem dX0_count_259 : decode cX0_count 259 = .ok (.iadd, 1) := dk_96 (dk_at dksX0_count_9 9 rfl rfl)
theorem dX0_count_260 : decode cX0_count 260 = .ok (.ireturn, 1) := dk_172 (dk_at dksX0_count_9 10 rfl rfl)
theorem dX0_count_261 : decode cX0_count 261 = .ok (.aload_n 0, 1) := dk_42 (dk_at dksX0_count_9 11 rfl rfl)
theorem dX0_count_262 : decode cX0_count 262 = .ok (.invokevirtual 252, 3) := dk_182 0 252 (dk_at dksX0_count_9 12 rfl rfl)
theorem dX0_count_265 : decode cX0_count 265 = .ok (.ifCond .eq 7, 3) := dk_153 0 7 (dk_at dksX0_count_9 15 rfl rfl)
theorem dX0_count_268 : decode cX0_count 268 = .ok (.iconst 1, 1) := dk_4 (dk_at dksX0_count_9 18 rfl rfl)
theorem dX0_count_269 : decode cX0_count 269 = .ok (.goto 4, 3) := dk_167 0 4 (dk_at dksX0_count_9 19 rfl rfl)
theorem dX0_count_272 : decode cX0_count 272 = .ok (.iconst 0, 1) := dk_3 (dk_at dksX0_count_9 22 rfl rfl)
theorem dX0_count_273 : decode cX0_count 273 = .ok (.ireturn, 1) := dk_172 (dk_at dksX0_count_9 23 rfl rfl)
theorem dX0_count_274 : decode cX0_count 274 = .ok (.aload_n 0, 1) := dk_42 (dk_at dksX0_count_10 0 rfl rfl)
theorem dX0_count_275 : decode cX0_count 275 = .ok (.getfield 40, 3) := dk_180 0 40 (dk_at dksX0_count_10 1 rfl rfl)
theorem dX0_count_278 : decode cX0_count 278 = .ok (.getfield 356, 3) := dk_180 1 100 (dk_at dksX0_count_10 4 rfl rfl)
theorem dX0_count_281 : decode cX0_count 281 = .ok (.ireturn, 1) := dk_172 (dk_at dksX0_count_10 7 rfl rfl)
theorem dX0_count_282 : decode cX0_count 282 = .ok (.iconst 0, 1) := dk_3 (dk_at dksX0_count_10 8 rfl rfl)
theorem dX0_count_283 : decode cX0_count 283 = .ok (.istore_n 3, 1) := dk_62 (dk_at dksX0_count_10 9 rfl rfl)
theorem dX0_count_284 : decode cX0_count 284 = .ok (.iload_n 3, 1) := dk_29 (dk_at dksX0_count_10 10 rfl rfl)
theorem dX0_count_285 : decode cX0_count 285 = .ok (.aload_n 0, 1) := dk_42 (dk_at dksX0_count_10 11 rfl rfl)
theorem dX0_count_286 : decode cX0_count 286 = .ok (.invokevirtual 154, 3) := dk_182 0 154 (dk_at dksX0_count_10 12 rfl rfl)
theorem dX0_count_289 : decode cX0_count 289 = .ok (.if_icmp .ge 21, 3) := dk_162 0 21 (dk_at dksX0_count_10 15 rfl rfl)
theorem dX0_count_292 : decode cX0_count 292 = .ok (.iload_n 2, 1) := dk_28 (dk_at dksX0_count_10 18 rfl rfl)
theorem dX0_count_293 : decode cX0_count 293 = .ok (.aload_n 0, 1) := dk_42 (dk_at dksX0_count_10 19 rfl rfl)
theorem dX0_count_294 : decode cX0_count 294 = .ok (.getfield 51, 3) := dk_180 0 51 (dk_at dksX0_count_10 20 rfl rfl)
theorem dX0_count_297 : decode cX0_count 297 = .ok (.getfield 198, 3) := dk_180 0 198 (dk_at dksX0_count_11 0 rfl rfl)
theorem dX0_count_300 : decode cX0_count 300 = .ok (.iload_n 3, 1) := dk_29 (dk_at dksX0_count_11 3 rfl rfl)
theorem dX0_count_301 : decode cX0_count 301 = .ok (.iaload, 1) := dk_46 (dk_at dksX0_count_11 4 rfl rfl)
theorem dX0_count_302 : decode cX0_count 302 = .ok (.iadd, 1) := dk_96 (dk_at dksX0_count_11 5 rfl rfl)
theorem dX0_count_303 : decode cX0_count 303 = .ok (.istore_n 2, 1) := dk_61 (dk_at dksX0_count_11 6 rfl rfl)
theorem dX0_count_304 : decode cX0_count 304 = .ok (.iinc 3 1, 3) := dk_132 3 1 (dk_at dksX0_count_11 7 rfl rfl)
theorem dX0_count_307 : decode cX0_count 307 = .ok (.goto (-23), 3) := dk_167 255 233 (dk_at dksX0_count_11 10 rfl rfl)
theorem dX0_count_310 : decode cX0_count 310 = .ok (.iload_n 2, 1) := dk_28 (dk_at dksX0_count_11 13 rfl rfl)
theorem dX0_count_311 : decode cX0_count 311 = .ok (.ireturn, 1) := dk_172 (dk_at dksX0_count_11 14 rfl rfl)
theorem dX0_count_312 : decode cX0_count 312 = .ok (.iconst 0, 1) := dk_3 (dk_at dksX0_count_11 15 rfl rfl)
theorem dX0_count_313 : decode cX0_count 313 = .ok (.istore_n 3, 1) := dk_62 (dk_at dksX0_count_11 16 rfl rfl)
theorem dX0_count_314 : decode cX0_count 314 = .ok (.iload_n 3, 1) := dk_29 (dk_at dksX0_count_11 17 rfl rfl)
theorem dX0_count_315 : decode cX0_count 315 = .ok (.aload_n 0, 1) := dk_42 (dk_at dksX0_count_11 18 rfl rfl)
theorem dX0_count_316 : decode cX0_count 316 = .ok (.invokevirtual 154, 3) := dk_182 0 154 (dk_at dksX0_count_11 19 rfl rfl)
theorem dX0_count_319 : decode cX0_count 319 = .ok (.if_icmp .ge 31, 3) := dk_162 0 31 (dk_at dksX0_count_12 0 rfl rfl)
theorem dX0_count_322 : decode cX0_count 322 = .ok (.iload_n 2, 1) := dk_28 (dk_at dksX0_count_12 3 rfl rfl)
theorem dX0_count_323 : decode cX0_count 323 = .ok (.aload_n 0, 1) := dk_42 (dk_at dksX0_count_12 4 rfl rfl)
theorem dX0_count_324 : decode cX0_count 324 = .ok (.getfield 51, 3) := dk_180 0 51 (dk_at dksX0_count_12 5 rfl rfl)
theorem dX0_count_327 : decode cX0_count 327 = .ok (.getfield 167, 3) := dk_180 0 167 (dk_at dksX0_count_12 8 rfl rfl)
theorem dX0_count_330 : decode cX0_count 330 = .ok (.iload_n 3, 1) := dk_29 (dk_at dksX0_count_12 11 rfl rfl)
theorem dX0_count_331 : decode cX0_count 331 = .ok (.iaload, 1) := dk_46 (dk_at dksX0_count_12 12 rfl rfl)
theorem dX0_count_332 : decode cX0_count 332 = .ok (.ifCond .ne 9, 3) := dk_154 0 9 (dk_at dksX0_count_12 13 rfl rfl)
theorem dX0_count_335 : decode cX0_count 335 = .ok (.iconst 1, 1) := dk_4 (dk_at dksX0_count_12 16 rfl rfl)
theorem dX0_count_336 : decode cX0_count 336 = .ok (.iload_n 3, 1) := dk_29 (dk_at dksX0_count_12 17 rfl rfl)
theorem dX0_count_337 : decode cX0_count 337 = .ok (.ishl, 1) := dk_120 (dk_at dksX0_count_12 18 rfl rfl)
theorem dX0_count_338 : decode cX0_count 338 = .ok (.goto 4, 3) := dk_167 0 4 (dk_at dksX0_count_12 19 rfl rfl)
theorem dX0_count_341 : decode cX0_count 341 = .ok (.iconst 0, 1) := dk_3 (dk_at dksX0_count_12 22 rfl rfl)
theorem dX0_count_342 : decode cX0_count 342 = .ok (.ior, 1) := dk_128 (dk_at dksX0_count_12 23 rfl rfl)
theorem dX0_count_343 : decode cX0_count 343 = .ok (.istore_n 2, 1) := dk_61 (dk_at dksX0_count_13 0 rfl rfl)
theorem dX0_count_344 : decode cX0_count 344 = .ok (.iinc 3 1, 3) := dk_132 3 1 (dk_at dksX0_count_13 1 rfl rfl)
theorem dX0_count_347 : decode cX0_count 347 = .ok (.goto (-33), 3) := dk_167 255 223 (dk_at dksX0_count_13 4 rfl rfl)
theorem dX0_count_350 : decode cX0_count 350 = .ok (.iload_n 2, 1) := dk_28 (dk_at dksX0_count_13 7 rfl rfl)
theorem dX0_count_351 : decode cX0_count 351 = .ok (.ireturn, 1) := dk_172 (dk_at dksX0_count_13 8 rfl rfl)
theorem dX0_count_352 : decode cX0_count 352 = .ok (.iconst 0, 1) := dk_3 (dk_at dksX0_count_13 9 rfl rfl)
theorem dX0_count_353 : decode cX0_count 353 = .ok (.istore_n 3, 1) := dk_62 (dk_at dksX0_count_13 10 rfl rfl)
theorem dX0_count_354 : decode cX0_count 354 = .ok (.iload_n 3, 1) := dk_29 (dk_at dksX0_count_13 11 rfl rfl)
theorem dX0_count_355 : decode cX0_count 355 = .ok (.aload_n 0, 1) := dk_42 (dk_at dksX0_count_13 12 rfl rfl)
theorem dX0_count_356 : decode cX0_count 356 = .ok (.invokevirtual 154, 3) := dk_182 0 154 (dk_at dksX0_count_13 13 rfl rfl)
theorem dX0_count_359 : decode cX0_count 359 = .ok (.if_icmp .ge 21, 3) := dk_162 0 21 (dk_at dksX0_count_13 16 rfl rfl)
theorem dX0_count_362 : decode cX0_count 362 = .ok (.iload_n 2, 1) := dk_28 (dk_at dksX0_count_13 19 rfl rfl)
theorem dX0_count_363 : decode cX0_count 363 = .ok (.aload_n 0, 1) := dk_42 (dk_at dksX0_count_13 20 rfl rfl)
theorem dX0_count_364 : decode cX0_count 364 = .ok (.getfield 51, 3) := dk_180 0 51 (dk_at dksX0_count_13 21 rfl rfl)
theorem dX0_count_367 : decode cX0_count 367 = .ok (.getfield 186, 3) := dk_180 0 186 (dk_at dksX0_count_14 0 rfl rfl)
theorem dX0_count_370 : decode cX0_count 370 = .ok (.iload_n 3, 1) := dk_29 (dk_at dksX0_count_14 3 rfl rfl)
theorem dX0_count_371 : decode cX0_count 371 = .ok (.iaload, 1) := dk_46 (dk_at dksX0_count_14 4 rfl rfl)
theorem dX0_count_372 : decode cX0_count 372 = .ok (.iadd, 1) := dk_96 (dk_at dksX0_count_14 5 rfl rfl)
theorem dX0_count_373 : decode cX0_count 373 = .ok (.istore_n 2, 1) := dk_61 (dk_at dksX0_count_14 6 rfl rfl)
theorem dX0_count_374 : decode cX0_count 374 = .ok (.iinc 3 1, 3) := dk_132 3 1 (dk_at dksX0_count_14 7 rfl rfl)
theorem dX0_count_377 : decode cX0_count 377 = .ok (.goto (-23), 3) := dk_167 255 233 (dk_at dksX0_count_14 10 rfl rfl)
theorem dX0_count_380 : decode cX0_count 380 = .ok (.iload_n 2, 1) := dk_28 (dk_at dksX0_count_14 13 rfl rfl)
theorem dX0_count_381 : decode cX0_count 381 = .ok (.ireturn, 1) := dk_172 (dk_at dksX0_count_14 14 rfl rfl)
theorem dX0_count_382 : decode cX0_count 382 = .ok (.iconst (-1), 1) := dk_2 (dk_at dksX0_count_14 15 rfl rfl)
theorem dX0_count_383 : decode cX0_count 383 = .ok (.ireturn, 1) := dk_172 (dk_at dksX0_count_14 16 rfl rfl)
