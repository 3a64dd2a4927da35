set_option maxRecDepth 100000
set_option maxRecDepth 100000
abbrev cX0_init : ByteArray := prog_1_method_4_code
def yX0_init : MethodName := ⟨RX0, "<init>", "()V"⟩
def dkwX0_init_17 : List UInt8 := [180, 0, 148, 27, 4, 100, 50, 28, 47, 97, 80, 132, 2, 1, 167, 255, 217, 132, 1, 1, 167, 255, 194, 177]
abbrev dktX0_init_17 : List UInt8 := dkwX0_init_17 ++ []
def dkwX0_init_16 : List UInt8 := [163, 0, 40, 42, 180, 0, 148, 27, 50, 28, 42, 180, 0, 148, 27, 4, 100, 50, 28, 4, 100, 47, 42]
abbrev dktX0_init_16 : List UInt8 := dkwX0_init_16 ++ dktX0_init_17
def dkwX0_init_15 : List UInt8 := [167, 255, 234, 3, 60, 27, 16, 60, 163, 0, 62, 42, 180, 0, 148, 27, 50, 3, 10, 80, 4, 61, 28, 27]
abbrev dktX0_init_15 : List UInt8 := dkwX0_init_15 ++ dktX0_init_16
def dkwX0_init_14 : List UInt8 := [27, 16, 6, 163, 0, 22, 42, 180, 0, 120, 27, 187, 0, 118, 89, 183, 0, 152, 83, 132, 1, 1]
abbrev dktX0_init_14 : List UInt8 := dkwX0_init_14 ++ dktX0_init_15
def dkwX0_init_13 : List UInt8 := [162, 0, 22, 42, 180, 0, 62, 27, 187, 0, 60, 89, 183, 0, 151, 83, 132, 1, 1, 167, 255, 234, 3, 60]
abbrev dktX0_init_13 : List UInt8 := dkwX0_init_13 ++ dktX0_init_14
def dkwX0_init_12 : List UInt8 := [188, 4, 181, 0, 143, 42, 16, 61, 16, 61, 197, 0, 146, 2, 181, 0, 148, 3, 60, 27, 16, 6]
abbrev dktX0_init_12 : List UInt8 := dkwX0_init_12 ++ dktX0_init_13
def dkwX0_init_11 : List UInt8 := [188, 10, 181, 0, 134, 42, 16, 60, 188, 10, 181, 0, 137, 42, 16, 60, 188, 4, 181, 0, 140, 42, 16, 60]
abbrev dktX0_init_11 : List UInt8 := dkwX0_init_11 ++ dktX0_init_12
def dkwX0_init_10 : List UInt8 := [187, 0, 124, 89, 183, 0, 126, 181, 0, 127, 42, 187, 0, 124, 89, 183, 0, 126, 181, 0, 131, 42, 16, 60]
abbrev dktX0_init_10 : List UInt8 := dkwX0_init_10 ++ dktX0_init_11
def dkwX0_init_9 : List UInt8 := [181, 0, 111, 42, 17, 0, 200, 189, 0, 109, 181, 0, 115, 42, 16, 7, 189, 0, 118, 181, 0, 120, 42]
abbrev dktX0_init_9 : List UInt8 := dkwX0_init_9 ++ dktX0_init_10
def dkwX0_init_8 : List UInt8 := [181, 0, 101, 42, 16, 6, 17, 0, 200, 197, 0, 104, 2, 181, 0, 106, 42, 17, 0, 200, 189, 0, 109]
abbrev dktX0_init_8 : List UInt8 := dkwX0_init_8 ++ dktX0_init_9
def dkwX0_init_7 : List UInt8 := [181, 0, 92, 42, 16, 60, 188, 4, 181, 0, 95, 42, 16, 6, 188, 10, 181, 0, 98, 42, 16, 6, 188, 4]
abbrev dktX0_init_7 : List UInt8 := dkwX0_init_7 ++ dktX0_init_8
def dkwX0_init_6 : List UInt8 := [181, 0, 82, 42, 16, 60, 188, 10, 181, 0, 86, 42, 16, 60, 188, 10, 181, 0, 89, 42, 16, 60, 188, 10]
abbrev dktX0_init_6 : List UInt8 := dkwX0_init_6 ++ dktX0_init_7
def dkwX0_init_5 : List UInt8 := [181, 0, 72, 42, 16, 60, 188, 10, 181, 0, 76, 42, 16, 60, 188, 10, 181, 0, 79, 42, 16, 60, 188, 4]
abbrev dktX0_init_5 : List UInt8 := dkwX0_init_5 ++ dktX0_init_6
def dkwX0_init_4 : List UInt8 := [16, 6, 189, 0, 60, 181, 0, 62, 42, 16, 54, 189, 0, 66, 181, 0, 68, 42, 16, 60, 188, 10]
abbrev dktX0_init_4 : List UInt8 := dkwX0_init_4 ++ dktX0_init_5
def dkwX0_init_3 : List UInt8 := [183, 0, 41, 181, 0, 46, 42, 2, 181, 0, 49, 42, 187, 0, 53, 89, 183, 0, 55, 181, 0, 56, 42]
abbrev dktX0_init_3 : List UInt8 := dkwX0_init_3 ++ dktX0_init_4
def dkwX0_init_2 : List UInt8 := [183, 0, 32, 181, 0, 35, 42, 187, 0, 39, 89, 183, 0, 41, 181, 0, 42, 42, 187, 0, 39, 89]
abbrev dktX0_init_2 : List UInt8 := dkwX0_init_2 ++ dktX0_init_3
def dkwX0_init_1 : List UInt8 := [42, 16, 60, 189, 0, 24, 181, 0, 26, 42, 187, 0, 30, 89, 42, 180, 0, 13, 42, 180, 0, 20]
abbrev dktX0_init_1 : List UInt8 := dkwX0_init_1 ++ dktX0_init_2
def dkwX0_init_0 : List UInt8 := [42, 183, 0, 7, 42, 17, 15, 160, 188, 8, 181, 0, 13, 42, 187, 0, 17, 89, 183, 0, 19, 181, 0, 20]
abbrev dktX0_init_0 : List UInt8 := dkwX0_init_0 ++ dktX0_init_1
theorem dksX0_init_0 : cX0_init.data.toList.drop 0 = dktX0_init_0 := by decide +kernel
theorem dksX0_init_1 : cX0_init.data.toList.drop 24 = dktX0_init_1 := dk_seg dksX0_init_0 24 rfl rfl
theorem dksX0_init_2 : cX0_init.data.toList.drop 46 = dktX0_init_2 := dk_seg dksX0_init_1 22 rfl rfl
theorem dksX0_init_3 : cX0_init.data.toList.drop 68 = dktX0_init_3 := dk_seg dksX0_init_2 22 rfl rfl
theorem dksX0_init_4 : cX0_init.data.toList.drop 91 = dktX0_init_4 := dk_seg dksX0_init_3 23 rfl rfl
theorem dksX0_init_5 : cX0_init.data.toList.drop 113 = dktX0_init_5 := dk_seg dksX0_init_4 22 rfl rfl
theorem dksX0_init_6 : cX0_init.data.toList.drop 137 = dktX0_init_6 := dk_seg dksX0_init_5 24 rfl rfl
theorem dksX0_init_7 : cX0_init.data.toList.drop 161 = dktX0_init_7 := dk_seg dksX0_init_6 24 rfl rfl
theorem dksX0_init_8 : cX0_init.data.toList.drop 185 = dktX0_init_8 := dk_seg dksX0_init_7 24 rfl rfl
theorem dksX0_init_9 : cX0_init.data.toList.drop 208 = dktX0_init_9 := dk_seg dksX0_init_8 23 rfl rfl
theorem dksX0_init_10 : cX0_init.data.toList.drop 231 = dktX0_init_10 := dk_seg dksX0_init_9 23 rfl rfl
theorem dksX0_init_11 : cX0_init.data.toList.drop 255 = dktX0_init_11 := dk_seg dksX0_init_10 24 rfl rfl
theorem dksX0_init_12 : cX0_init.data.toList.drop 279 = dktX0_init_12 := dk_seg dksX0_init_11 24 rfl rfl
theorem dksX0_init_13 : cX0_init.data.toList.drop 301 = dktX0_init_13 := dk_seg dksX0_init_12 22 rfl rfl
theorem dksX0_init_14 : cX0_init.data.toList.drop 325 = dktX0_init_14 := dk_seg dksX0_init_13 24 rfl rfl
theorem dksX0_init_15 : cX0_init.data.toList.drop 347 = dktX0_init_15 := dk_seg dksX0_init_14 22 rfl rfl
theorem dksX0_init_16 : cX0_init.data.toList.drop 371 = dktX0_init_16 := dk_seg dksX0_init_15 24 rfl rfl
theorem dksX0_init_17 : cX0_init.data.toList.drop 394 = dktX0_init_17 := dk_seg dksX0_init_16 23 rfl rfl
theorem dX0_init_0 : decode cX0_init 0 = .ok (.aload_n 0, 1) := dk_42 (dk_at dksX0_init_0 0 rfl rfl)
theorem dX0_init_1 : decode cX0_init 1 = .ok (.invokespecial 7, 3) := dk_183 0 7 (dk_at dksX0_init_0 1 rfl rfl)
theorem dX0_init_4 : decode cX0_init 4 = .ok (.aload_n 0, 1) := dk_42 (dk_at dksX0_init_0 4 rfl rfl)
theorem dX0_init_5 : decode cX0_init 5 = .ok (.sipush 4000, 3) := dk_17 15 160 (dk_at dksX0_init_0 5 rfl rfl)
theorem dX0_init_8 : decode cX0_init 8 = .ok (.newarray .byte, 2) := dk_188_8 (dk_at dksX0_init_0 8 rfl rfl)
theorem dX0_init_10 : decode cX0_init 10 = .ok (.putfield 13, 3) := dk_181 0 13 (dk_at dksX0_init_0 10 rfl rfl)
theorem dX0_init_13 : decode cX0_init 13 = .ok (.aload_n 0, 1) := dk_42 (dk_at dksX0_init_0 13 rfl rfl)
theorem dX0_init_14 : decode cX0_init 14 = .ok (.new 17, 3) := dk_187 0 17 (dk_at dksX0_init_0 14 rfl rfl)
theorem dX0_init_17 : decode cX0_init 17 = .ok (.dup, 1) := dk_89 (dk_at dksX0_init_0 17 rfl rfl)
theorem dX0_init_18 : decode cX0_init 18 = .ok (.invokespecial 19, 3) := dk_183 0 19 (dk_at dksX0_init_0 18 rfl rfl)
theorem dX0_init_21 : decode cX0_init 21 = .ok (.putfield 20, 3) := dk_181 0 20 (dk_at dksX0_init_0 21 rfl rfl)
theorem dX0_init_24 : decode cX0_init 24 = .ok (.aload_n 0, 1) := dk_42 (dk_at dksX0_init_1 0 rfl rfl)
theorem dX0_init_25 : decode cX0_init 25 = .ok (.bipush 60, 2) := dk_16 60 (dk_at dksX0_init_1 1 rfl rfl)
theorem dX0_init_27 : decode cX0_init 27 = .ok (.anewarray 24, 3) := dk_189 0 24 (dk_at dksX0_init_1 3 rfl rfl)
theorem dX0_init_30 : decode cX0_init 30 = .ok (.putfield 26, 3) := dk_181 0 26 (dk_at dksX0_init_1 6 rfl rfl)
theorem dX0_init_33 : decode cX0_init 33 = .ok (.aload_n 0, 1) := dk_42 (dk_at dksX0_init_1 9 rfl rfl)
theorem dX0_init_34 : decode cX0_init 34 = .ok (.new 30, 3) := dk_187 0 30 (dk_at dksX0_init_1 10 rfl rfl)
theorem dX0_init_37 : decode cX0_init 37 = .ok (.dup, 1) := dk_89 (dk_at dksX0_init_1 13 rfl rfl)
theorem dX0_init_38 : decode cX0_init 38 = .ok (.aload_n 0, 1) := dk_42 (dk_at dksX0_init_1 14 rfl rfl)
theorem dX0_init_39 : decode cX0_init 39 = .ok (.getfield 13, 3) := dk_180 0 13 (dk_at dksX0_init_1 15 rfl rfl)
theorem dX0_init_42 : decode cX0_init 42 = .ok (.aload_n 0, 1) := dk_42 (dk_at dksX0_init_1 18 rfl rfl)
theorem dX0_init_43 : decode cX0_init 43 = .ok (.getfield 20, 3) := dk_180 0 20 (dk_at dksX0_init_1 19 rfl rfl)
theorem dX0_init_46 : decode cX0_init 46 = .ok (.invokespecial 32, 3) := dk_183 0 32 (dk_at dksX0_init_2 0 rfl rfl)
theorem dX0_init_49 : decode cX0_init 49 = .ok (.putfield 35, 3) := dk_181 0 35 (dk_at dksX0_init_2 3 rfl rfl)
theorem dX0_init_52 : decode cX0_init 52 = .ok (.aload_n 0, 1) := dk_42 (dk_at dksX0_init_2 6 rfl rfl)
theorem dX0_init_53 : decode cX0_init 53 = .ok (.new 39, 3) := dk_187 0 39 (dk_at dksX0_init_2 7 rfl rfl)
theorem dX0_init_56 : decode cX0_init 56 = .ok (.dup, 1) := dk_89 (dk_at dksX0_init_2 10 rfl rfl)
theorem dX0_init_57 : decode cX0_init 57 = .ok (.invokespecial 41, 3) := dk_183 0 41 (dk_at dksX0_init_2 11 rfl rfl)
theorem dX0_init_60 : decode cX0_init 60 = .ok (.putfield 42, 3) := dk_181 0 42 (dk_at dksX0_init_2 14 rfl rfl)
theorem dX0_init_63 : decode cX0_init 63 = .ok (.aload_n 0, 1) := dk_42 (dk_at dksX0_init_2 17 rfl rfl)
theorem dX0_init_64 : decode cX0_init 64 = .ok (.new 39, 3) := dk_187 0 39 (dk_at dksX0_init_2 18 rfl rfl)
theorem dX0_init_67 : decode cX0_init 67 = .ok (.dup, 1) := dk_89 (dk_at dksX0_init_2 21 rfl rfl)
theorem dX0_init_68 : decode cX0_init 68 = .ok (.invokespecial 41, 3) := dk_183 0 41 (dk_at dksX0_init_3 0 rfl rfl)
theorem dX0_init_71 : decode cX0_init 71 = .ok (.putfield 46, 3) := dk_181 0 46 (dk_at dksX0_init_3 3 rfl rfl)
theorem dX0_init_74 : decode cX0_init 74 = .ok (.aload_n 0, 1) := dk_42 (dk_at dksX0_init_3 6 rfl rfl)
theorem dX0_init_75 : decode cX0_init 75 = .ok (.iconst (-1), 1) := dk_2 (dk_at dksX0_init_3 7 rfl rfl)
theorem dX0_init_76 : decode cX0_init 76 = .ok (.putfield 49, 3) := dk_181 0 49 (dk_at dksX0_init_3 8 rfl rfl)
theorem dX0_init_79 : decode cX0_init 79 = .ok (.aload_n 0, 1) := dk_42 (dk_at dksX0_init_3 11 rfl rfl)
theorem dX0_init_80 : decode cX0_init 80 = .ok (.new 53, 3) := dk_187 0 53 (dk_at dksX0_init_3 12 rfl rfl)
theorem dX0_init_83 : decode cX0_init 83 = .ok (.dup, 1) := dk_89 (dk_at dksX0_init_3 15 rfl rfl)
theorem dX0_init_84 : decode cX0_init 84 = .ok (.invokespecial 55, 3) := dk_183 0 55 (dk_at dksX0_init_3 16 rfl rfl)
theorem dX0_init_87 : decode cX0_init 87 = .ok (.putfield 56, 3) := dk_181 0 56 (dk_at dksX0_init_3 19 rfl rfl)
theorem dX0_init_90 : decode cX0_init 90 = .ok (.aload_n 0, 1) := dk_42 (dk_at dksX0_init_3 22 rfl rfl)
theorem dX0_init_91 : decode cX0_init 91 = .ok (.bipush 6, 2) := dk_16 6 (dk_at dksX0_init_4 0 rfl rfl)
theorem dX0_init_93 : decode cX0_init 93 = .ok (.anewarray 60, 3) := dk_189 0 60 (dk_at dksX0_init_4 2 rfl rfl)
theorem dX0_init_96 : decode cX0_init 96 = .ok (.putfield 62, 3) := dk_181 0 62 (dk_at dksX0_init_4 5 rfl rfl)
theorem dX0_init_99 : decode cX0_init 99 = .ok (.aload_n 0, 1) := dk_42 (dk_at dksX0_init_4 8 rfl rfl)
theorem dX0_init_100 : decode cX0_init 100 = .ok (.bipush 54, 2) := dk_16 54 (dk_at dksX0_init_4 9 rfl rfl)
theorem dX0_init_102 : decode cX0_init 102 = .ok (.anewarray 66, 3) := dk_189 0 66 (dk_at dksX0_init_4 11 rfl rfl)
theorem dX0_init_105 : decode cX0_init 105 = .ok (.putfield 68, 3) := dk_181 0 68 (dk_at dksX0_init_4 14 rfl rfl)
theorem dX0_init_108 : decode cX0_init 108 = .ok (.aload_n 0, 1) := dk_42 (dk_at dksX0_init_4 17 rfl rfl)
theorem dX0_init_109 : decode cX0_init 109 = .ok (.bipush 60, 2) := dk_16 60 (dk_at dksX0_init_4 18 rfl rfl)
theorem dX0_init_111 : decode cX0_init 111 = .ok (.newarray .int, 2) := dk_188_10 (dk_at dksX0_init_4 20 rfl rfl)
theorem dX0_init_113 : decode cX0_init 113 = .ok (.putfield 72, 3) := dk_181 0 72 (dk_at dksX0_init_5 0 rfl rfl)
theorem dX0_init_116 : decode cX0_init 116 = .ok (.aload_n 0, 1) := dk_42 (dk_at dksX0_init_5 3 rfl rfl)
theorem dX0_init_117 : decode cX0_init 117 = .ok (.bipush 60, 2) := dk_16 60 (dk_at dksX0_init_5 4 rfl rfl)
theorem dX0_init_119 : decode cX0_init 119 = .ok (.newarray .int, 2) := dk_188_10 (dk_at dksX0_init_5 6 rfl rfl)
theorem dX0_init_121 : decode cX0_init 121 = .ok (.putfield 76, 3) := dk_181 0 76 (dk_at dksX0_init_5 8 rfl rfl)
theorem dX0_init_124 : decode cX0_init 124 = .ok (.aload_n 0, 1) := dk_42 (dk_at dksX0_init_5 11 rfl rfl)
theorem dX0_init_125 : decode cX0_init 125 = .ok (.bipush 60, 2) := dk_16 60 (dk_at dksX0_init_5 12 rfl rfl)
theorem dX0_init_127 : decode cX0_init 127 = .ok (.newarray .int, 2) := dk_188_10 (dk_at dksX0_init_5 14 rfl rfl)
theorem dX0_init_129 : decode cX0_init 129 = .ok (.putfield 79, 3) := dk_181 0 79 (dk_at dksX0_init_5 16 rfl rfl)
theorem dX0_init_132 : decode cX0_init 132 = .ok (.aload_n 0, 1) := dk_42 (dk_at dksX0_init_5 19 rfl rfl)
theorem dX0_init_133 : decode cX0_init 133 = .ok (.bipush 60, 2) := dk_16 60 (dk_at dksX0_init_5 20 rfl rfl)
theorem dX0_init_135 : decode cX0_init 135 = .ok (.newarray .boolean, 2) := dk_188_4 (dk_at dksX0_init_5 22 rfl rfl)
theorem dX0_init_137 : decode cX0_init 137 = .ok (.putfield 82, 3) := dk_181 0 82 (dk_at dksX0_init_6 0 rfl rfl)
theorem dX0_init_140 : decode cX0_init 140 = .ok (.aload_n 0, 1) := dk_42 (dk_at dksX0_init_6 3 rfl rfl)
theorem dX0_init_141 : decode cX0_init 141 = .ok (.bipush 60, 2) := dk_16 60 (dk_at dksX0_init_6 4 rfl rfl)
theorem dX0_init_143 : decode cX0_init 143 = .ok (.newarray .int, 2) := dk_188_10 (dk_at dksX0_init_6 6 rfl rfl)
theorem dX0_init_145 : decode cX0_init 145 = .ok (.putfield 86, 3) := dk_181 0 86 (dk_at dksX0_init_6 8 rfl rfl)
theorem dX0_init_148 : decode cX0_init 148 = .ok (.aload_n 0, 1) := dk_42 (dk_at dksX0_init_6 11 rfl rfl)
theorem dX0_init_149 : decode cX0_init 149 = .ok (.bipush 60, 2) := dk_16 60 (dk_at dksX0_init_6 12 rfl rfl)
theorem dX0_init_151 : decode cX0_init 151 = .ok (.newarray .int, 2) := dk_188_10 (dk_at dksX0_init_6 14 rfl rfl)
theorem dX0_init_153 : decode cX0_init 153 = .ok (.putfield 89, 3) := dk_181 0 89 (dk_at dksX0_init_6 16 rfl rfl)
theorem dX0_init_156 : decode cX0_init 156 = .ok (.aload_n 0, 1) := dk_42 (dk_at dksX0_init_6 19 rfl rfl)
theorem dX0_init_157 : decode cX0_init 157 = .ok (.bipush 60, 2) := dk_16 60 (dk_at dksX0_init_6 20 rfl rfl)
theorem dX0_init_159 : decode cX0_init 159 = .ok (.newarray .int, 2) := dk_188_10 (dk_at dksX0_init_6 22 rfl rfl)
theorem dX0_init_161 : decode cX0_init 161 = .ok (.putfield 92, 3) := dk_181 0 92 (dk_at dksX0_init_7 0 rfl rfl)
theorem dX0_init_164 : decode cX0_init 164 = .ok (.aload_n 0, 1) := dk_42 (dk_at dksX0_init_7 3 rfl rfl)
theorem dX0_init_165 : decode cX0_init 165 = .ok (.bipush 60, 2) := dk_16 60 (dk_at dksX0_init_7 4 rfl rfl)
theorem dX0_init_167 : decode cX0_init 167 = .ok (.newarray .boolean, 2) := dk_188_4 (dk_at dksX0_init_7 6 rfl rfl)
theorem dX0_init_169 : decode cX0_init 169 = .ok (.putfield 95, 3) := dk_181 0 95 (dk_at dksX0_init_7 8 rfl rfl)
theorem dX0_init_172 : decode cX0_init 172 = .ok (.aload_n 0, 1) := dk_42 (dk_at dksX0_init_7 11 rfl rfl)
theorem dX0_init_173 : decode cX0_init 173 = .ok (.bipush 6, 2) := dk_16 6 (dk_at dksX0_init_7 12 rfl rfl)
theorem dX0_init_175 : decode cX0_init 175 = .ok (.newarray .int, 2) := dk_188_10 (dk_at dksX0_init_7 14 rfl rfl)
theorem dX0_init_177 : decode cX0_init 177 = .ok (.putfield 98, 3) := dk_181 0 98 (dk_at dksX0_init_7 16 rfl rfl)
theorem dX0_init_180 : decode cX0_init 180 = .ok (.aload_n 0, 1) := dk_42 (dk_at dksX0_init_7 19 rfl rfl)
theorem dX0_init_181 : decode cX0_init 181 = .ok (.bipush 6, 2) := dk_16 6 (dk_at dksX0_init_7 20 rfl rfl)
theorem dX0_init_183 : decode cX0_init 183 = .ok (.newarray .boolean, 2) := dk_188_4 (dk_at dksX0_init_7 22 rfl rfl)
theorem dX0_init_185 : decode cX0_init 185 = .ok (.putfield 101, 3) := dk_181 0 101 (dk_at dksX0_init_8 0 rfl rfl)
theorem dX0_init_188 : decode cX0_init 188 = .ok (.aload_n 0, 1) := dk_42 (dk_at dksX0_init_8 3 rfl rfl)
theorem dX0_init_189 : decode cX0_init 189 = .ok (.bipush 6, 2) := dk_16 6 (dk_at dksX0_init_8 4 rfl rfl)
theorem dX0_init_191 : decode cX0_init 191 = .ok (.sipush 200, 3) := dk_17 0 200 (dk_at dksX0_init_8 6 rfl rfl)
theorem dX0_init_194 : decode cX0_init 194 = .ok (.multianewarray 104 2, 4) := by decide +kernel
theorem dX0_init_198 : decode cX0_init 198 = .ok (.putfield 106, 3) := dk_181 0 106 (dk_at dksX0_init_8 13 rfl rfl)
theorem dX0_init_201 : decode cX0_init 201 = .ok (.aload_n 0, 1) := dk_42 (dk_at dksX0_init_8 16 rfl rfl)
theorem dX0_init_202 : decode cX0_init 202 = .ok (.sipush 200, 3) := dk_17 0 200 (dk_at dksX0_init_8 17 rfl rfl)
theorem dX0_init_205 : decode cX0_init 205 = .ok (.anewarray 109, 3) := dk_189 0 109 (dk_at dksX0_init_8 20 rfl rfl)
theorem dX0_init_208 : decode cX0_init 208 = .ok (.putfield 111, 3) := dk_181 0 111 (dk_at dksX0_init_9 0 rfl rfl)
theorem dX0_init_211 : decode cX0_init 211 = .ok (.aload_n 0, 1) := dk_42 (dk_at dksX0_init_9 3 rfl rfl)
theorem dX0_init_212 : decode cX0_init 212 = .ok (.sipush 200, 3) := dk_17 0 200 (dk_at dksX0_init_9 4 rfl rfl)
theorem dX0_init_215 : decode cX0_init 215 = .ok (.anewarray 109, 3) := dk_189 0 109 (dk_at dksX0_init_9 7 rfl rfl)
theorem dX0_init_218 : decode cX0_init 218 = .ok (.putfield 115, 3) := dk_181 0 115 (dk_at dksX0_init_9 10 rfl rfl)
theorem dX0_init_221 : decode cX0_init 221 = .ok (.aload_n 0, 1) := dk_42 (dk_at dksX0_init_9 13 rfl rfl)
theorem dX0_init_222 : decode cX0_init 222 = .ok (.bipush 7, 2) := dk_16 7 (dk_at dksX0_init_9 14 rfl rfl)
theorem dX0_init_224 : decode cX0_init 224 = .ok (.anewarray 118, 3) := dk_189 0 118 (dk_at dksX0_init_9 16 rfl rfl)
theorem dX0_init_227 : decode cX0_init 227 = .ok (.putfield 120, 3) := dk_181 0 120 (dk_at dksX0_init_9 19 rfl rfl)
theorem dX0_init_230 : decode cX0_init 230 = .ok (.aload_n 0, 1) := dk_42 (dk_at dksX0_init_9 22 rfl rfl)
theorem dX0_init_231 : decode cX0_init 231 = .ok (.new 124, 3) := dk_187 0 124 (dk_at dksX0_init_10 0 rfl rfl)
theorem dX0_init_234 : decode cX0_init 234 = .ok (.dup, 1) := dk_89 (dk_at dksX0_init_10 3 rfl rfl)
theorem dX0_init_235 : decode cX0_init 235 = .ok (.invokespecial 126, 3) := dk_183 0 126 (dk_at dksX0_init_10 4 rfl rfl)
theorem dX0_init_238 : decode cX0_init 238 = .ok (.putfield 127, 3) := dk_181 0 127 (dk_at dksX0_init_10 7 rfl rfl)
theorem dX0_init_241 : decode cX0_init 241 = .ok (.aload_n 0, 1) := dk_42 (dk_at dksX0_init_10 10 rfl rfl)
theorem dX0_init_242 : decode cX0_init 242 = .ok (.new 124, 3) := dk_187 0 124 (dk_at dksX0_init_10 11 rfl rfl)
theorem dX0_init_245 : decode cX0_init 245 = .ok (.dup, 1) := dk_89 (dk_at dksX0_init_10 14 rfl rfl)
theorem dX0_init_246 : decode cX0_init 246 = .ok (.invokespecial 126, 3) := dk_183 0 126 (dk_at dksX0_init_10 15 rfl rfl)
theorem dX0_init_249 : decode cX0_init 249 = .ok (.putfield 131, 3) := dk_181 0 131 (dk_at dksX0_init_10 18 rfl rfl)
theorem dX0_init_252 : decode cX0_init 252 = .ok (.aload_n 0, 1) := dk_42 (dk_at dksX0_init_10 21 rfl rfl)
theorem dX0_init_253 : decode cX0_init 253 = .ok (.bipush 60, 2) := dk_16 60 (dk_at dksX0_init_10 22 rfl rfl)
theorem dX0_init_255 : decode cX0_init 255 = .ok (.newarray .int, 2) := dk_188_10 (dk_at dksX0_init_11 0 rfl rfl)
theorem dX0_init_257 : decode cX0_init 257 = .ok (.putfield 134, 3) := dk_181 0 134 (dk_at dksX0_init_11 2 rfl rfl)
theorem dX0_init_260 : decode cX0_init 260 = .ok (.aload_n 0, 1) := dk_42 (dk_at dksX0_init_11 5 rfl rfl)
theorem dX0_init_261 : decode cX0_init 261 = .ok (.bipush 60, 2) := dk_16 60 (dk_at dksX0_init_11 6 rfl rfl)
theorem dX0_init_263 : decode cX0_init 263 = .ok (.newarray .int, 2) := dk_188_10 (dk_at dksX0_init_11 8 rfl rfl)
theorem dX0_init_265 : decode cX0_init 265 = .ok (.putfield 137, 3) := dk_181 0 137 (dk_at dksX0_init_11 10 rfl rfl)
theorem dX0_init_268 : decode cX0_init 268 = .ok (.aload_n 0, 1) := dk_42 (dk_at dksX0_init_11 13 rfl rfl)
theorem dX0_init_269 : decode cX0_init 269 = .ok (.bipush 60, 2) := dk_16 60 (dk_at dksX0_init_11 14 rfl rfl)
theorem dX0_init_271 : decode cX0_init 271 = .ok (.newarray .boolean, 2) := dk_188_4 (dk_at dksX0_init_11 16 rfl rfl)
theorem dX0_init_273 : decode cX0_init 273 = .ok (.putfield 140, 3) := dk_181 0 140 (dk_at dksX0_init_11 18 rfl rfl)
theorem dX0_init_276 : decode cX0_init 276 = .ok (.aload_n 0, 1) := dk_42 (dk_at dksX0_init_11 21 rfl rfl)
theorem dX0_init_277 : decode cX0_init 277 = .ok (.bipush 60, 2) := dk_16 60 (dk_at dksX0_init_11 22 rfl rfl)
theorem dX0_init_279 : decode cX0_init 279 = .ok (.newarray .boolean, 2) := dk_188_4 (dk_at dksX0_init_12 0 rfl rfl)
theorem dX0_init_281 : decode cX0_init 281 = .ok (.putfield 143, 3) := dk_181 0 143 (dk_at dksX0_init_12 2 rfl rfl)
theorem dX0_init_284 : decode cX0_init 284 = .ok (.aload_n 0, 1) := dk_42 (dk_at dksX0_init_12 5 rfl rfl)
theorem dX0_init_285 : decode cX0_init 285 = .ok (.bipush 61, 2) := dk_16 61 (dk_at dksX0_init_12 6 rfl rfl)
theorem dX0_init_287 : decode cX0_init 287 = .ok (.bipush 61, 2) := dk_16 61 (dk_at dksX0_init_12 8 rfl rfl)
theorem dX0_init_289 : decode cX0_init 289 = .ok (.multianewarray 146 2, 4) := by decide +kernel
theorem dX0_init_293 : decode cX0_init 293 = .ok (.putfield 148, 3) := dk_181 0 148 (dk_at dksX0_init_12 14 rfl rfl)
theorem dX0_init_296 : decode cX0_init 296 = .ok (.iconst 0, 1) := dk_3 (dk_at dksX0_init_12 17 rfl rfl)
theorem dX0_init_297 : decode cX0_init 297 = .ok (.istore_n 1, 1) := dk_60 (dk_at dksX0_init_12 18 rfl rfl)
theorem dX0_init_298 : decode cX0_init 298 = .ok (.iload_n 1, 1) := dk_27 (dk_at dksX0_init_12 19 rfl rfl)
theorem dX0_init_299 : decode cX0_init 299 = .ok (.bipush 6, 2) := dk_16 6 (dk_at dksX0_init_12 20 rfl rfl)
theorem dX0_init_301 : decode cX0_init 301 = .ok (.if_icmp .ge 22, 3) := dk_162 0 22 (dk_at dksX0_init_13 0 rfl rfl)
theorem dX0_init_304 : decode cX0_init 304 = .ok (.aload_n 0, 1) := dk_42 (dk_at dksX0_init_13 3 rfl rfl)
theorem dX0_init_305 : decode cX0_init 305 = .ok (.getfield 62, 3) := dk_180 0 62 (dk_at dksX0_init_13 4 rfl rfl)
theorem dX0_init_308 : decode cX0_init 308 = .ok (.iload_n 1, 1) := dk_27 (dk_at dksX0_init_13 7 rfl rfl)
theorem dX0_init_309 : decode cX0_init 309 = .ok (.new 60, 3) := dk_187 0 60 (dk_at dksX0_init_13 8 rfl rfl)
theorem dX0_init_312 : decode cX0_init 312 = .ok (.dup, 1) := dk_89 (dk_at dksX0_init_13 11 rfl rfl)
theorem dX0_init_313 : decode cX0_init 313 = .ok (.invokespecial 151, 3) := dk_183 0 151 (dk_at dksX0_init_13 12 rfl rfl)
theorem dX0_init_316 : decode cX0_init 316 = .ok (.aastore, 1) := dk_83 (dk_at dksX0_init_13 15 rfl rfl)
theorem dX0_init_317 : decode cX0_init 317 = .ok (.iinc 1 1, 3) := dk_132 1 1 (dk_at dksX0_init_13 16 rfl rfl)
theorem dX0_init_320 : decode cX0_init 320 = .ok (.goto (-22), 3) := dk_167 255 234 (dk_at dksX0_init_13 19 rfl rfl)
theorem dX0_init_323 : decode cX0_init 323 = .ok (.iconst 0, 1) := dk_3 (dk_at dksX0_init_13 22 rfl rfl)
theorem dX0_init_324 : decode cX0_init 324 = .ok (.istore_n 1, 1) := dk_60 (dk_at dksX0_init_13 23 rfl rfl)
theorem dX0_init_325 : decode cX0_init 325 = .ok (.iload_n 1, 1) := dk_27 (dk_at dksX0_init_14 0 rfl rfl)
theorem dX0_init_326 : decode cX0_init 326 = .ok (.bipush 6, 2) := dk_16 6 (dk_at dksX0_init_14 1 rfl rfl)
theorem dX0_init_328 : decode cX0_init 328 = .ok (.if_icmp .gt 22, 3) := dk_163 0 22 (dk_at dksX0_init_14 3 rfl rfl)
theorem dX0_init_331 : decode cX0_init 331 = .ok (.aload_n 0, 1) := dk_42 (dk_at dksX0_init_14 6 rfl rfl)
theorem dX0_init_332 : decode cX0_init 332 = .ok (.getfield 120, 3) := dk_180 0 120 (dk_at dksX0_init_14 7 rfl rfl)
theorem dX0_init_335 : decode cX0_init 335 = .ok (.iload_n 1, 1) := dk_27 (dk_at dksX0_init_14 10 rfl rfl)
theorem dX0_init_336 : decode cX0_init 336 = .ok (.new 118, 3) := dk_187 0 118 (dk_at dksX0_init_14 11 rfl rfl)
theorem dX0_init_339 : decode cX0_init 339 = .ok (.dup, 1) := dk_89 (dk_at dksX0_init_14 14 rfl rfl)
theorem dX0_init_340 : decode cX0_init 340 = .ok (.invokespecial 152, 3) := dk_183 0 152 (dk_at dksX0_init_14 15 rfl rfl)
theorem dX0_init_343 : decode cX0_init 343 = .ok (.aastore, 1) := dk_83 (dk_at dksX0_init_14 18 rfl rfl)
theorem dX0_init_344 : decode cX0_init 344 = .ok (.iinc 1 1, 3) := dk_132 1 1 (dk_at dksX0_init_14 19 rfl rfl)
theorem dX0_init_347 : decode cX0_init 347 = .ok (.goto (-22), 3) := dk_167 255 234 (dk_at dksX0_init_15 0 rfl rfl)
theorem dX0_init_350 : decode cX0_init 350 = .ok (.iconst 0, 1) := dk_3 (dk_at dksX0_init_15 3 rfl rfl)
theorem dX0_init_351 : decode cX0_init 351 = .ok (.istore_n 1, 1) := dk_60 (dk_at dksX0_init_15 4 rfl rfl)
theorem dX0_init_352 : decode cX0_init 352 = .ok (.iload_n 1, 1) := dk_27 (dk_at dksX0_init_15 5 rfl rfl)
theorem dX0_init_353 : decode cX0_init 353 = .ok (.bipush 60, 2) := dk_16 60 (dk_at dksX0_init_15 6 rfl rfl)
theorem dX0_init_355 : decode cX0_init 355 = .ok (.if_icmp .gt 62, 3) := dk_163 0 62 (dk_at dksX0_init_15 8 rfl rfl)
theorem dX0_init_358 : decode cX0_init 358 = .ok (.aload_n 0, 1) := dk_42 (dk_at dksX0_init_15 11 rfl rfl)
theorem dX0_init_359 : decode cX0_init 359 = .ok (.getfield 148, 3) := dk_180 0 148 (dk_at dksX0_init_15 12 rfl rfl)
theorem dX0_init_362 : decode cX0_init 362 = .ok (.iload_n 1, 1) := dk_27 (dk_at dksX0_init_15 15 rfl rfl)
theorem dX0_init_363 : decode cX0_init 363 = .ok (.aaload, 1) := dk_50 (dk_at dksX0_init_15 16 rfl rfl)
theorem dX0_init_364 : decode cX0_init 364 = .ok (.iconst 0, 1) := dk_3 (dk_at dksX0_init_15 17 rfl rfl)
theorem dX0_init_365 : decode cX0_init 365 = .ok (.lconst 1, 1) := dk_10 (dk_at dksX0_init_15 18 rfl rfl)
theorem dX0_init_366 : decode cX0_init 366 = .ok (.lastore, 1) := dk_80 (dk_at dksX0_init_15 19 rfl rfl)
theorem dX0_init_367 : decode cX0_init 367 = .ok (.iconst 1, 1) := dk_4 (dk_at dksX0_init_15 20 rfl rfl)
theorem dX0_init_368 : decode cX0_init 368 = .ok (.istore_n 2, 1) := dk_61 (dk_at dksX0_init_15 21 rfl rfl)
theorem dX0_init_369 : decode cX0_init 369 = .ok (.iload_n 2, 1) := dk_28 (dk_at dksX0_init_15 22 rfl rfl)
theorem dX0_init_370 : decode cX0_init 370 = .ok (.iload_n 1, 1) := dk_27 (dk_at dksX0_init_15 23 rfl rfl)
theorem dX0_init_371 : decode cX0_init 371 = .ok (.if_icmp .gt 40, 3) := dk_163 0 40 (dk_at dksX0_init_16 0 rfl rfl)
theorem dX0_init_374 : decode cX0_init 374 = .ok (.aload_n 0, 1) := dk_42 (dk_at dksX0_init_16 3 rfl rfl)
theorem dX0_init_375 : decode cX0_init 375 = .ok (.getfield 148, 3) := dk_180 0 148 (dk_at dksX0_init_16 4 rfl rfl)
theorem dX0_init_378 : decode cX0_init 378 = .ok (.iload_n 1, 1) := dk_27 (dk_at dksX0_init_16 7 rfl rfl)
theorem dX0_init_379 : decode cX0_init 379 = .ok (.aaload, 1) := dk_50 (dk_at dksX0_init_16 8 rfl rfl)
theorem dX0_init_380 : decode cX0_init 380 = .ok (.iload_n 2, 1) := dk_28 (dk_at dksX0_init_16 9 rfl rfl)
theorem dX0_init_381 : decode cX0_init 381 = .ok (.aload_n 0, 1) := dk_42 (dk_at dksX0_init_16 10 rfl rfl)
theorem dX0_init_382 : decode cX0_init 382 = .ok (.getfield 148, 3) := dk_180 0 148 (dk_at dksX0_init_16 11 rfl rfl)
theorem dX0_init_385 : decode cX0_init 385 = .ok (.iload_n 1, 1) := dk_27 (dk_at dksX0_init_16 14 rfl rfl)
theorem dX0_init_386 : decode cX0_init 386 = .ok (.iconst 1, 1) := dk_4 (dk_at dksX0_init_16 15 rfl rfl)
theorem dX0_init_387 : decode cX0_init 387 = .ok (.isub, 1) := dk_100 (dk_at dksX0_init_16 16 rfl rfl)
theorem dX0_init_388 : decode cX0_init 388 = .ok (.aaload, 1) := dk_50 (dk_at dksX0_init_16 17 rfl rfl)
theorem dX0_init_389 : decode cX0_init 389 = .ok (.iload_n 2, 1) := dk_28 (dk_at dksX0_init_16 18 rfl rfl)
theorem dX0_init_390 : decode cX0_init 390 = .ok (.iconst 1, 1) := dk_4 (dk_at dksX0_init_16 19 rfl rfl)
theorem dX0_init_391 : decode cX0_init 391 = .ok (.isub, 1) := dk_100 (dk_at dksX0_init_16 20 rfl rfl)
theorem dX0_init_392 : decode cX0_init 392 = .ok (.laload, 1) := dk_47 (dk_at dksX0_init_16 21 rfl rfl)
theorem dX0_init_393 : decode cX0_init 393 = .ok (.aload_n 0, 1) := dk_42 (dk_at dksX0_init_16 22 rfl rfl)
theorem dX0_init_394 : decode cX0_init 394 = .ok (.getfield 148, 3) := dk_180 0 148 (dk_at dksX0_init_17 0 rfl rfl)
theorem dX0_init_397 : decode cX0_init 397 = .ok (.iload_n 1, 1) := dk_27 (dk_at dksX0_init_17 3 rfl rfl)
theorem dX0_init_398 : decode cX0_init 398 = .ok (.iconst 1, 1) := dk_4 (dk_at dksX0_init_17 4 rfl rfl)
theorem dX0_init_399 : decode cX0_init 399 = .ok (.isub, 1) := dk_100 (dk_at dksX0_init_17 5 rfl rfl)
theorem dX0_init_400 : decode cX0_init 400 = .ok (.aaload, 1) := dk_50 (dk_at dksX0_init_17 6 rfl rfl)
theorem dX0_init_401 : decode cX0_init 401 = .ok (.iload_n 2, 1) := dk_28 (dk_at dksX0_init_17 7 rfl rfl)
theorem dX0_init_402 : decode cX0_init 402 = .ok (.laload, 1) := dk_47 (dk_at dksX0_init_17 8 rfl rfl)
theorem dX0_init_403 : decode cX0_init 403 = .ok (.ladd, 1) := dk_97 (dk_at dksX0_init_17 9 rfl rfl)
theorem dX0_init_404 : decode cX0_init 404 = .ok (.lastore, 1) := dk_80 (dk_at dksX0_init_17 10 rfl rfl)
theorem dX0_init_405 : decode cX0_init 405 = .ok (.iinc 2 1, 3) := dk_132 2 1 (dk_at dksX0_init_17 11 rfl rfl)
theorem dX0_init_408 : decode cX0_init 408 = .ok (.goto (-39), 3) := dk_167 255 217 (dk_at dksX0_init_17 14 rfl rfl)
theorem dX0_init_411 : decode cX0_init 411 = .ok (.iinc 1 1, 3) := dk_132 1 1 (dk_at dksX0_init_17 17 rfl rfl)
theorem dX0_init_414 : decode cX0_init 414 = .ok (.goto (-62), 3) := dk_167 255 194 (dk_at dksX0_init_17 20 rfl rfl)
theorem dX0_init_417 : decode cX0_init 417 = .ok (.return_, 1) := dk_177 (dk_at dksX0_init_17 23 rfl rfl)
abbrev cX0_feed : ByteArray := prog_1_method_6_code
def yX0_feed : MethodName := ⟨RX0, "feed", "(IIIII)I"⟩
def dkwX0_feed_4 : List UInt8 := [122, 145, 84, 42, 89, 180, 0, 160, 4, 96, 181, 0, 160, 132, 6, 1, 167, 255, 165, 42, 180, 0, 160, 172]
abbrev dktX0_feed_4 : List UInt8 := dkwX0_feed_4 ++ []
def dkwX0_feed_3 : List UInt8 := [21, 5, 54, 7, 42, 180, 0, 13, 42, 180, 0, 160, 21, 7, 16, 24, 16, 8, 21, 6, 7, 112, 104, 100]
abbrev dktX0_feed_3 : List UInt8 := dkwX0_feed_3 ++ dktX0_feed_4
def dkwX0_feed_2 : List UInt8 := [21, 6, 16, 12, 162, 0, 7, 29, 167, 0, 17, 21, 6, 16, 16, 162, 0, 8, 21, 4, 167, 0, 5]
abbrev dktX0_feed_2 : List UInt8 := dkwX0_feed_2 ++ dktX0_feed_3
def dkwX0_feed_1 : List UInt8 := [162, 0, 90, 21, 6, 7, 162, 0, 7, 27, 167, 0, 39, 21, 6, 16, 8, 162, 0, 7, 28, 167, 0, 28]
abbrev dktX0_feed_1 : List UInt8 := dkwX0_feed_1 ++ dktX0_feed_2
def dkwX0_feed_0 : List UInt8 := [42, 180, 0, 160, 16, 20, 96, 17, 15, 160, 164, 0, 6, 16, 251, 172, 3, 54, 6, 21, 6, 16, 20]
abbrev dktX0_feed_0 : List UInt8 := dkwX0_feed_0 ++ dktX0_feed_1
theorem dksX0_feed_0 : cX0_feed.data.toList.drop 0 = dktX0_feed_0 := by decide +kernel
theorem dksX0_feed_1 : cX0_feed.data.toList.drop 23 = dktX0_feed_1 := dk_seg dksX0_feed_0 23 rfl rfl
theorem dksX0_feed_2 : cX0_feed.data.toList.drop 47 = dktX0_feed_2 := dk_seg dksX0_feed_1 24 rfl rfl
theorem dksX0_feed_3 : cX0_feed.data.toList.drop 70 = dktX0_feed_3 := dk_seg dksX0_feed_2 23 rfl rfl
theorem dksX0_feed_4 : cX0_feed.data.toList.drop 94 = dktX0_feed_4 := dk_seg dksX0_feed_3 24 rfl rfl
theorem dX0_feed_0 : decode cX0_feed 0 = .ok (.aload_n 0, 1) := dk_42 (dk_at dksX0_feed_0 0 rfl rfl)
theorem dX0_feed_1 : decode cX0_feed 1 = .ok (.getfield 160, 3) := dk_180 0 160 (dk_at dksX0_feed_0 1 rfl rfl)
theorem dX0_feed_4 : decode cX0_feed 4 = .ok (.bipush 20, 2) := dk_16 20 (dk_at dksX0_feed_0 4 rfl rfl)
theorem dX0_feed_6 : decode cX0_feed 6 = .ok (.iadd, 1) := dk_96 (dk_at dksX0_feed_0 6 rfl rfl)
theorem dX0_feed_7 : decode cX0_feed 7 = .ok (.sipush 4000, 3) := dk_17 15 160 (dk_at dksX0_feed_0 7 rfl rfl)
theorem dX0_feed_10 : decode cX0_feed 10 = .ok (.if_icmp .le 6, 3) := dk_164 0 6 (dk_at dksX0_feed_0 10 rfl rfl)
theorem dX0_feed_13 : decode cX0_feed 13 = .ok (.bipush (-5), 2) := dk_16 251 (dk_at dksX0_feed_0 13 rfl rfl)
theorem dX0_feed_15 : decode cX0_feed 15 = .ok (.ireturn, 1) := dk_172 (dk_at dksX0_feed_0 15 rfl rfl)
theorem dX0_feed_16 : decode cX0_feed 16 = .ok (.iconst 0, 1) := dk_3 (dk_at dksX0_feed_0 16 rfl rfl)
theorem dX0_feed_17 : decode cX0_feed 17 = .ok (.istore 6, 2) := dk_54 6 (dk_at dksX0_feed_0 17 rfl rfl)
theorem dX0_feed_19 : decode cX0_feed 19 = .ok (.iload 6, 2) := dk_21 6 (dk_at dksX0_feed_0 19 rfl rfl)
theorem dX0_feed_21 : decode cX0_feed 21 = .ok (.bipush 20, 2) := dk_16 20 (dk_at dksX0_feed_0 21 rfl rfl)
theorem dX0_feed_23 : decode cX0_feed 23 = .ok (.if_icmp .ge 90, 3) := dk_162 0 90 (dk_at dksX0_feed_1 0 rfl rfl)
theorem dX0_feed_26 : decode cX0_feed 26 = .ok (.iload 6, 2) := dk_21 6 (dk_at dksX0_feed_1 3 rfl rfl)
theorem dX0_feed_28 : decode cX0_feed 28 = .ok (.iconst 4, 1) := dk_7 (dk_at dksX0_feed_1 5 rfl rfl)
theorem dX0_feed_29 : decode cX0_feed 29 = .ok (.if_icmp .ge 7, 3) := dk_162 0 7 (dk_at dksX0_feed_1 6 rfl rfl)
theorem dX0_feed_32 : decode cX0_feed 32 = .ok (.iload_n 1, 1) := dk_27 (dk_at dksX0_feed_1 9 rfl rfl)
theorem dX0_feed_33 : decode cX0_feed 33 = .ok (.goto 39, 3) := dk_167 0 39 (dk_at dksX0_feed_1 10 rfl rfl)
theorem dX0_feed_36 : decode cX0_feed 36 = .ok (.iload 6, 2) := dk_21 6 (dk_at dksX0_feed_1 13 rfl rfl)
theorem dX0_feed_38 : decode cX0_feed 38 = .ok (.bipush 8, 2) := dk_16 8 (dk_at dksX0_feed_1 15 rfl rfl)
theorem dX0_feed_40 : decode cX0_feed 40 = .ok (.if_icmp .ge 7, 3) := dk_162 0 7 (dk_at dksX0_feed_1 17 rfl rfl)
theorem dX0_feed_43 : decode cX0_feed 43 = .ok (.iload_n 2, 1) := dk_28 (dk_at dksX0_feed_1 20 rfl rfl)
theorem dX0_feed_44 : decode cX0_feed 44 = .ok (.goto 28, 3) := dk_167 0 28 (dk_at dksX0_feed_1 21 rfl rfl)
theorem dX0_feed_47 : decode cX0_feed 47 = .ok (.iload 6, 2) := dk_21 6 (dk_at dksX0_feed_2 0 rfl rfl)
theorem dX0_feed_49 : decode cX0_feed 49 = .ok (.bipush 12, 2) := dk_16 12 (dk_at dksX0_feed_2 2 rfl rfl)
theorem dX0_feed_51 : decode cX0_feed 51 = .ok (.if_icmp .ge 7, 3) := dk_162 0 7 (dk_at dksX0_feed_2 4 rfl rfl)
theorem dX0_feed_54 : decode cX0_feed 54 = .ok (.iload_n 3, 1) := dk_29 (dk_at dksX0_feed_2 7 rfl rfl)
theorem dX0_feed_55 : decode cX0_feed 55 = .ok (.goto 17, 3) := dk_167 0 17 (dk_at dksX0_feed_2 8 rfl rfl)
theorem dX0_feed_58 : decode cX0_feed 58 = .ok (.iload 6, 2) := dk_21 6 (dk_at dksX0_feed_2 11 rfl rfl)
theorem dX0_feed_60 : decode cX0_feed 60 = .ok (.bipush 16, 2) := dk_16 16 (dk_at dksX0_feed_2 13 rfl rfl)
theorem dX0_feed_62 : decode cX0_feed 62 = .ok (.if_icmp .ge 8, 3) := dk_162 0 8 (dk_at dksX0_feed_2 15 rfl rfl)
theorem dX0_feed_65 : decode cX0_feed 65 = .ok (.iload 4, 2) := dk_21 4 (dk_at dksX0_feed_2 18 rfl rfl)
theorem dX0_feed_67 : decode cX0_feed 67 = .ok (.goto 5, 3) := dk_167 0 5 (dk_at dksX0_feed_2 20 rfl rfl)
theorem dX0_feed_70 : decode cX0_feed 70 = .ok (.iload 5, 2) := dk_21 5 (dk_at dksX0_feed_3 0 rfl rfl)
theorem dX0_feed_72 : decode cX0_feed 72 = .ok (.istore 7, 2) := dk_54 7 (dk_at dksX0_feed_3 2 rfl rfl)
theorem dX0_feed_74 : decode cX0_feed 74 = .ok (.aload_n 0, 1) := dk_42 (dk_at dksX0_feed_3 4 rfl rfl)
theorem dX0_feed_75 : decode cX0_feed 75 = .ok (.getfield 13, 3) := dk_180 0 13 (dk_at dksX0_feed_3 5 rfl rfl)
theorem dX0_feed_78 : decode cX0_feed 78 = .ok (.aload_n 0, 1) := dk_42 (dk_at dksX0_feed_3 8 rfl rfl)
theorem dX0_feed_79 : decode cX0_feed 79 = .ok (.getfield 160, 3) := dk_180 0 160 (dk_at dksX0_feed_3 9 rfl rfl)
theorem dX0_feed_82 : decode cX0_feed 82 = .ok (.iload 7, 2) := dk_21 7 (dk_at dksX0_feed_3 12 rfl rfl)
theorem dX0_feed_84 : decode cX0_feed 84 = .ok (.bipush 24, 2) := dk_16 24 (dk_at dksX0_feed_3 14 rfl rfl)
theorem dX0_feed_86 : decode cX0_feed 86 = .ok (.bipush 8, 2) := dk_16 8 (dk_at dksX0_feed_3 16 rfl rfl)
theorem dX0_feed_88 : decode cX0_feed 88 = .ok (.iload 6, 2) := dk_21 6 (dk_at dksX0_feed_3 18 rfl rfl)
theorem dX0_feed_90 : decode cX0_feed 90 = .ok (.iconst 4, 1) := dk_7 (dk_at dksX0_feed_3 20 rfl rfl)
theorem dX0_feed_91 : decode cX0_feed 91 = .ok (.irem, 1) := dk_112 (dk_at dksX0_feed_3 21 rfl rfl)
theorem dX0_feed_92 : decode cX0_feed 92 = .ok (.imul, 1) := dk_104 (dk_at dksX0_feed_3 22 rfl rfl)
theorem dX0_feed_93 : decode cX0_feed 93 = .ok (.isub, 1) := dk_100 (dk_at dksX0_feed_3 23 rfl rfl)
theorem dX0_feed_94 : decode cX0_feed 94 = .ok (.ishr, 1) := dk_122 (dk_at dksX0_feed_4 0 rfl rfl)
theorem dX0_feed_95 : decode cX0_feed 95 = .ok (.i2b, 1) := dk_145 (dk_at dksX0_feed_4 1 rfl rfl)
theorem dX0_feed_96 : decode cX0_feed 96 = .ok (.bastore, 1) := dk_84 (dk_at dksX0_feed_4 2 rfl rfl)
theorem dX0_feed_97 : decode cX0_feed 97 = .ok (.aload_n 0, 1) := dk_42 (dk_at dksX0_feed_4 3 rfl rfl)
theorem dX0_feed_98 : decode cX0_feed 98 = .ok (.dup, 1) := dk_89 (dk_at dksX0_feed_4 4 rfl rfl)
theorem dX0_feed_99 : decode cX0_feed 99 = .ok (.getfield 160, 3) := dk_180 0 160 (dk_at dksX0_feed_4 5 rfl rfl)
theorem dX0_feed_102 : decode cX0_feed 102 = .ok (.iconst 1, 1) := dk_4 (dk_at dksX0_feed_4 8 rfl rfl)
theorem dX0_feed_103 : decode cX0_feed 103 = .ok (.iadd, 1) := dk_96 (dk_at dksX0_feed_4 9 rfl rfl)
theorem dX0_feed_104 : decode cX0_feed 104 = .ok (.putfield 160, 3) := dk_181 0 160 (dk_at dksX0_feed_4 10 rfl rfl)
theorem dX0_feed_107 : decode cX0_feed 107 = .ok (.iinc 6 1, 3) := dk_132 6 1 (dk_at dksX0_feed_4 13 rfl rfl)
theorem dX0_feed_110 : decode cX0_feed 110 = .ok (.goto (-91), 3) := dk_167 255 165 (dk_at dksX0_feed_4 16 rfl rfl)
theorem dX0_feed_113 : decode cX0_feed 113 = .ok (.aload_n 0, 1) := dk_42 (dk_at dksX0_feed_4 19 rfl rfl)
theorem dX0_feed_114 : decode cX0_feed 114 = .ok (.getfield 160, 3) := dk_180 0 160 (dk_at dksX0_feed_4 20 rfl rfl)
theorem dX0_feed_117 : decode cX0_feed 117 = .ok (.ireturn, 1) := dk_172 (dk_at dksX0_feed_4 23 rfl rfl)
abbrev cX0_cut : ByteArray := prog_1_method_7_code
def yX0_cut : MethodName := ⟨RX0, "cut", "(I)I"⟩
def dkwX0_cut_0 : List UInt8 := [27, 3, 42, 180, 0, 160, 184, 0, 163, 154, 0, 6, 16, 254, 172, 42, 27, 181, 0, 160, 27, 172]
abbrev dktX0_cut_0 : List UInt8 := dkwX0_cut_0 ++ []
theorem dksX0_cut_0 : cX0_cut.data.toList.drop 0 = dktX0_cut_0 := by decide +kernel
theorem dX0_cut_0 : decode cX0_cut 0 = .ok (.iload_n 1, 1) := dk_27 (dk_at dksX0_cut_0 0 rfl rfl)
theorem dX0_cut_1 : decode cX0_cut 1 = .ok (.iconst 0, 1) := dk_3 (dk_at dksX0_cut_0 1 rfl rfl)
theorem dX0_cut_2 : decode cX0_cut 2 = .ok (.aload_n 0, 1) := dk_42 (dk_at dksX0_cut_0 2 rfl rfl)
theorem dX0_cut_3 : decode cX0_cut 3 = .ok (.getfield 160, 3) := dk_180 0 160 (dk_at dksX0_cut_0 3 rfl rfl)
theorem dX0_cut_6 : decode cX0_cut 6 = .ok (.invokestatic 163, 3) := dk_184 0 163 (dk_at dksX0_cut_0 6 rfl rfl)
theorem dX0_cut_9 : decode cX0_cut 9 = .ok (.ifCond .ne 6, 3) := dk_154 0 6 (dk_at dksX0_cut_0 9 rfl rfl)
theorem dX0_cut_12 : decode cX0_cut 12 = .ok (.bipush (-2), 2) := dk_16 254 (dk_at dksX0_cut_0 12 rfl rfl)
theorem dX0_cut_14 : decode cX0_cut 14 = .ok (.ireturn, 1) := dk_172 (dk_at dksX0_cut_0 14 rfl rfl)
theorem dX0_cut_15 : decode cX0_cut 15 = .ok (.aload_n 0, 1) := dk_42 (dk_at dksX0_cut_0 15 rfl rfl)
theorem dX0_cut_16 : decode cX0_cut 16 = .ok (.iload_n 1, 1) := dk_27 (dk_at dksX0_cut_0 16 rfl rfl)
theorem dX0_cut_17 : decode cX0_cut 17 = .ok (.putfield 160, 3) := dk_181 0 160 (dk_at dksX0_cut_0 17 rfl rfl)
theorem dX0_cut_20 : decode cX0_cut 20 = .ok (.iload_n 1, 1) := dk_27 (dk_at dksX0_cut_0 20 rfl rfl)
theorem dX0_cut_21 : decode cX0_cut 21 = .ok (.ireturn, 1) := dk_172 (dk_at dksX0_cut_0 21 rfl rfl)
abbrev cX0_within : ByteArray := prog_1_method_1_code
def yX0_within : MethodName := ⟨RX0, "within", "(III)Z"⟩
def dkwX0_within_0 : List UInt8 := [26, 27, 161, 0, 12, 26, 28, 163, 0, 7, 4, 167, 0, 4, 3, 172]
abbrev dktX0_within_0 : List UInt8 := dkwX0_within_0 ++ []
theorem dksX0_within_0 : cX0_within.data.toList.drop 0 = dktX0_within_0 := by decide +kernel
theorem dX0_within_0 : decode cX0_within 0 = .ok (.iload_n 0, 1) := dk_26 (dk_at dksX0_within_0 0 rfl rfl)
theorem dX0_within_1 : decode cX0_within 1 = .ok (.iload_n 1, 1) := dk_27 (dk_at dksX0_within_0 1 rfl rfl)
theorem dX0_within_2 : decode cX0_within 2 = .ok (.if_icmp .lt 12, 3) := dk_161 0 12 (dk_at dksX0_within_0 2 rfl rfl)
theorem dX0_within_5 : decode cX0_within 5 = .ok (.iload_n 0, 1) := dk_26 (dk_at dksX0_within_0 5 rfl rfl)
theorem dX0_within_6 : decode cX0_within 6 = .ok (.iload_n 2, 1) := dk_28 (dk_at dksX0_within_0 6 rfl rfl)
theorem dX0_within_7 : decode cX0_within 7 = .ok (.if_icmp .gt 7, 3) := dk_163 0 7 (dk_at dksX0_within_0 7 rfl rfl)
theorem dX0_within_10 : decode cX0_within 10 = .ok (.iconst 1, 1) := dk_4 (dk_at dksX0_within_0 10 rfl rfl)
theorem dX0_within_11 : decode cX0_within 11 = .ok (.goto 4, 3) := dk_167 0 4 (dk_at dksX0_within_0 11 rfl rfl)
theorem dX0_within_14 : decode cX0_within 14 = .ok (.iconst 0, 1) := dk_3 (dk_at dksX0_within_0 14 rfl rfl)
theorem dX0_within_15 : decode cX0_within 15 = .ok (.ireturn, 1) := dk_172 (dk_at dksX0_within_0 15 rfl rfl)
abbrev cX0_day : ByteArray := prog_1_method_8_code
def yX0_day : MethodName := ⟨RX0, "day", "(I)I"⟩
def dkwX0_day_1 : List UInt8 := [3, 3, 3, 182, 0, 173, 27, 172]
abbrev dktX0_day_1 : List UInt8 := dkwX0_day_1 ++ []
def dkwX0_day_0 : List UInt8 := [27, 42, 180, 0, 167, 18, 172, 184, 0, 163, 154, 0, 6, 16, 254, 172, 42, 27, 181, 0, 167, 42, 3, 27]
abbrev dktX0_day_0 : List UInt8 := dkwX0_day_0 ++ dktX0_day_1
theorem dksX0_day_0 : cX0_day.data.toList.drop 0 = dktX0_day_0 := by decide +kernel
theorem dksX0_day_1 : cX0_day.data.toList.drop 24 = dktX0_day_1 := dk_seg dksX0_day_0 24 rfl rfl
theorem dX0_day_0 : decode cX0_day 0 = .ok (.iload_n 1, 1) := dk_27 (dk_at dksX0_day_0 0 rfl rfl)
theorem dX0_day_1 : decode cX0_day 1 = .ok (.aload_n 0, 1) := dk_42 (dk_at dksX0_day_0 1 rfl rfl)
theorem dX0_day_2 : decode cX0_day 2 = .ok (.getfield 167, 3) := dk_180 0 167 (dk_at dksX0_day_0 2 rfl rfl)
theorem dX0_day_5 : decode cX0_day 5 = .ok (.ldc 172, 2) := dk_18 172 (dk_at dksX0_day_0 5 rfl rfl)
theorem dX0_day_7 : decode cX0_day 7 = .ok (.invokestatic 163, 3) := dk_184 0 163 (dk_at dksX0_day_0 7 rfl rfl)
theorem dX0_day_10 : decode cX0_day 10 = .ok (.ifCond .ne 6, 3) := dk_154 0 6 (dk_at dksX0_day_0 10 rfl rfl)
theorem dX0_day_13 : decode cX0_day 13 = .ok (.bipush (-2), 2) := dk_16 254 (dk_at dksX0_day_0 13 rfl rfl)
theorem dX0_day_15 : decode cX0_day 15 = .ok (.ireturn, 1) := dk_172 (dk_at dksX0_day_0 15 rfl rfl)
theorem dX0_day_16 : decode cX0_day 16 = .ok (.aload_n 0, 1) := dk_42 (dk_at dksX0_day_0 16 rfl rfl)
theorem dX0_day_17 : decode cX0_day 17 = .ok (.iload_n 1, 1) := dk_27 (dk_at dksX0_day_0 17 rfl rfl)
theorem dX0_day_18 : decode cX0_day 18 = .ok (.putfield 167, 3) := dk_181 0 167 (dk_at dksX0_day_0 18 rfl rfl)
theorem dX0_day_21 : decode cX0_day 21 = .ok (.aload_n 0, 1) := dk_42 (dk_at dksX0_day_0 21 rfl rfl)
theorem dX0_day_22 : decode cX0_day 22 = .ok (.iconst 0, 1) := dk_3 (dk_at dksX0_day_0 22 rfl rfl)
theorem dX0_day_23 : decode cX0_day 23 = .ok (.iload_n 1, 1) := dk_27 (dk_at dksX0_day_0 23 rfl rfl)
theorem dX0_day_24 : decode cX0_day 24 = .ok (.iconst 0, 1) := dk_3 (dk_at dksX0_day_1 0 rfl rfl)
theorem dX0_day_25 : decode cX0_day 25 = .ok (.iconst 0, 1) := dk_3 (dk_at dksX0_day_1 1 rfl rfl)
theorem dX0_day_26 : decode cX0_day 26 = .ok (.iconst 0, 1) := dk_3 (dk_at dksX0_day_1 2 rfl rfl)
theorem dX0_day_27 : decode cX0_day 27 = .ok (.invokevirtual 173, 3) := dk_182 0 173 (dk_at dksX0_day_1 3 rfl rfl)
theorem dX0_day_30 : decode cX0_day 30 = .ok (.iload_n 1, 1) := dk_27 (dk_at dksX0_day_1 6 rfl rfl)
theorem dX0_day_31 : decode cX0_day 31 = .ok (.ireturn, 1) := dk_172 (dk_at dksX0_day_1 7 rfl rfl)
abbrev cX0_write : ByteArray := prog_1_method_5_code
def yX0_write : MethodName := ⟨RX0, "write", "(IIIII)V"⟩
def dkwX0_write_1 : List UInt8 := [177]
abbrev dktX0_write_1 : List UInt8 := dkwX0_write_1 ++ []
def dkwX0_write_0 : List UInt8 := [42, 180, 0, 56, 27, 28, 29, 21, 4, 21, 5, 182, 0, 153, 42, 89, 180, 0, 157, 4, 96, 181, 0, 157]
abbrev dktX0_write_0 : List UInt8 := dkwX0_write_0 ++ dktX0_write_1
theorem dksX0_write_0 : cX0_write.data.toList.drop 0 = dktX0_write_0 := by decide +kernel
theorem dksX0_write_1 : cX0_write.data.toList.drop 24 = dktX0_write_1 := dk_seg dksX0_write_0 24 rfl rfl
theorem dX0_write_0 : decode cX0_write 0 = .ok (.aload_n 0, 1) := dk_42 (dk_at dksX0_write_0 0 rfl rfl)
theorem dX0_write_1 : decode cX0_write 1 = .ok (.getfield 56, 3) := dk_180 0 56 (dk_at dksX0_write_0 1 rfl rfl)
theorem dX0_write_4 : decode cX0_write 4 = .ok (.iload_n 1, 1) := dk_27 (dk_at dksX0_write_0 4 rfl rfl)
theorem dX0_write_5 : decode cX0_write 5 = .ok (.iload_n 2, 1) := dk_28 (dk_at dksX0_write_0 5 rfl rfl)
theorem dX0_write_6 : decode cX0_write 6 = .ok (.iload_n 3, 1) := dk_29 (dk_at dksX0_write_0 6 rfl rfl)
theorem dX0_write_7 : decode cX0_write 7 = .ok (.iload 4, 2) := dk_21 4 (dk_at dksX0_write_0 7 rfl rfl)
theorem dX0_write_9 : decode cX0_write 9 = .ok (.iload 5, 2) := dk_21 5 (dk_at dksX0_write_0 9 rfl rfl)
theorem dX0_write_11 : decode cX0_write 11 = .ok (.invokevirtual 153, 3) := dk_182 0 153 (dk_at dksX0_write_0 11 rfl rfl)
theorem dX0_write_14 : decode cX0_write 14 = .ok (.aload_n 0, 1) := dk_42 (dk_at dksX0_write_0 14 rfl rfl)
theorem dX0_write_15 : decode cX0_write 15 = .ok (.dup, 1) := dk_89 (dk_at dksX0_write_0 15 rfl rfl)
theorem dX0_write_16 : decode cX0_write 16 = .ok (.getfield 157, 3) := dk_180 0 157 (dk_at dksX0_write_0 16 rfl rfl)
theorem dX0_write_19 : decode cX0_write 19 = .ok (.iconst 1, 1) := dk_4 (dk_at dksX0_write_0 19 rfl rfl)
theorem dX0_write_20 : decode cX0_write 20 = .ok (.iadd, 1) := dk_96 (dk_at dksX0_write_0 20 rfl rfl)
theorem dX0_write_21 : decode cX0_write 21 = .ok (.putfield 157, 3) := dk_181 0 157 (dk_at dksX0_write_0 21 rfl rfl)
theorem dX0_write_24 : decode cX0_write 24 = .ok (.return_, 1) := dk_177 (dk_at dksX0_write_1 0 rfl rfl)
abbrev cX0_area : ByteArray := prog_1_method_9_code
def yX0_area : MethodName := ⟨RX0, "area", "(I)I"⟩
def dkwX0_area_1 : List UInt8 := [16, 251, 172, 42, 4, 27, 3, 3, 3, 182, 0, 173, 42, 180, 0, 20, 27, 182, 0, 179, 172]
abbrev dktX0_area_1 : List UInt8 := dkwX0_area_1 ++ []
def dkwX0_area_0 : List UInt8 := [27, 3, 5, 184, 0, 163, 154, 0, 6, 16, 254, 172, 42, 180, 0, 20, 180, 0, 176, 16, 24, 160, 0, 6]
abbrev dktX0_area_0 : List UInt8 := dkwX0_area_0 ++ dktX0_area_1
theorem dksX0_area_0 : cX0_area.data.toList.drop 0 = dktX0_area_0 := by decide +kernel
theorem dksX0_area_1 : cX0_area.data.toList.drop 24 = dktX0_area_1 := dk_seg dksX0_area_0 24 rfl rfl
theorem dX0_area_0 : decode cX0_area 0 = .ok (.iload_n 1, 1) := dk_27 (dk_at dksX0_area_0 0 rfl rfl)
theorem dX0_area_1 : decode cX0_area 1 = .ok (.iconst 0, 1) := dk_3 (dk_at dksX0_area_0 1 rfl rfl)
theorem dX0_area_2 : decode cX0_area 2 = .ok (.iconst 2, 1) := dk_5 (dk_at dksX0_area_0 2 rfl rfl)
theorem dX0_area_3 : decode cX0_area 3 = .ok (.invokestatic 163, 3) := dk_184 0 163 (dk_at dksX0_area_0 3 rfl rfl)
theorem dX0_area_6 : decode cX0_area 6 = .ok (.ifCond .ne 6, 3) := dk_154 0 6 (dk_at dksX0_area_0 6 rfl rfl)
theorem dX0_area_9 : decode cX0_area 9 = .ok (.bipush (-2), 2) := dk_16 254 (dk_at dksX0_area_0 9 rfl rfl)
theorem dX0_area_11 : decode cX0_area 11 = .ok (.ireturn, 1) := dk_172 (dk_at dksX0_area_0 11 rfl rfl)
theorem dX0_area_12 : decode cX0_area 12 = .ok (.aload_n 0, 1) := dk_42 (dk_at dksX0_area_0 12 rfl rfl)
theorem dX0_area_13 : decode cX0_area 13 = .ok (.getfield 20, 3) := dk_180 0 20 (dk_at dksX0_area_0 13 rfl rfl)
theorem dX0_area_16 : decode cX0_area 16 = .ok (.getfield 176, 3) := dk_180 0 176 (dk_at dksX0_area_0 16 rfl rfl)
theorem dX0_area_19 : decode cX0_area 19 = .ok (.bipush 24, 2) := dk_16 24 (dk_at dksX0_area_0 19 rfl rfl)
theorem dX0_area_21 : decode cX0_area 21 = .ok (.if_icmp .ne 6, 3) := dk_160 0 6 (dk_at dksX0_area_0 21 rfl rfl)
theorem dX0_area_24 : decode cX0_area 24 = .ok (.bipush (-5), 2) := dk_16 251 (dk_at dksX0_area_1 0 rfl rfl)
theorem dX0_area_26 : decode cX0_area 26 = .ok (.ireturn, 1) := dk_172 (dk_at dksX0_area_1 2 rfl rfl)
theorem dX0_area_27 : decode cX0_area 27 = .ok (.aload_n 0, 1) := dk_42 (dk_at dksX0_area_1 3 rfl rfl)
theorem dX0_area_28 : decode cX0_area 28 = .ok (.iconst 1, 1) := dk_4 (dk_at dksX0_area_1 4 rfl rfl)
theorem dX0_area_29 : decode cX0_area 29 = .ok (.iload_n 1, 1) := dk_27 (dk_at dksX0_area_1 5 rfl rfl)
theorem dX0_area_30 : decode cX0_area 30 = .ok (.iconst 0, 1) := dk_3 (dk_at dksX0_area_1 6 rfl rfl)
theorem dX0_area_31 : decode cX0_area 31 = .ok (.iconst 0, 1) := dk_3 (dk_at dksX0_area_1 7 rfl rfl)
theorem dX0_area_32 : decode cX0_area 32 = .ok (.iconst 0, 1) := dk_3 (dk_at dksX0_area_1 8 rfl rfl)
theorem dX0_area_33 : decode cX0_area 33 = .ok (.invokevirtual 173, 3) := dk_182 0 173 (dk_at dksX0_area_1 9 rfl rfl)
theorem dX0_area_36 : decode cX0_area 36 = .ok (.aload_n 0, 1) := dk_42 (dk_at dksX0_area_1 12 rfl rfl)
theorem dX0_area_37 : decode cX0_area 37 = .ok (.getfield 20, 3) := dk_180 0 20 (dk_at dksX0_area_1 13 rfl rfl)
theorem dX0_area_40 : decode cX0_area 40 = .ok (.iload_n 1, 1) := dk_27 (dk_at dksX0_area_1 16 rfl rfl)
theorem dX0_area_41 : decode cX0_area 41 = .ok (.invokevirtual 179, 3) := dk_182 0 179 (dk_at dksX0_area_1 17 rfl rfl)
theorem dX0_area_44 : decode cX0_area 44 = .ok (.ireturn, 1) := dk_172 (dk_at dksX0_area_1 20 rfl rfl)
abbrev cX0_border : ByteArray := prog_1_method_10_code
def yX0_border : MethodName := ⟨RX0, "border", "(IIII)I"⟩
def dkwX0_border_3 : List UInt8 := [42, 180, 0, 20, 27, 28, 29, 21, 4, 182, 0, 192, 172]
abbrev dktX0_border_3 : List UInt8 := dkwX0_border_3 ++ []
def dkwX0_border_2 : List UInt8 := [180, 0, 20, 180, 0, 189, 16, 60, 160, 0, 6, 16, 251, 172, 42, 5, 27, 28, 29, 21, 4, 182, 0, 173]
abbrev dktX0_border_2 : List UInt8 := dkwX0_border_2 ++ dktX0_border_3
def dkwX0_border_1 : List UInt8 := [29, 28, 17, 3, 231, 184, 0, 163, 153, 0, 11, 21, 4, 184, 0, 186, 154, 0, 6, 16, 254, 172, 42]
abbrev dktX0_border_1 : List UInt8 := dkwX0_border_1 ++ dktX0_border_2
def dkwX0_border_0 : List UInt8 := [42, 180, 0, 20, 27, 182, 0, 182, 154, 0, 5, 2, 172, 28, 3, 17, 3, 231, 184, 0, 163, 153, 0, 22]
abbrev dktX0_border_0 : List UInt8 := dkwX0_border_0 ++ dktX0_border_1
theorem dksX0_border_0 : cX0_border.data.toList.drop 0 = dktX0_border_0 := by decide +kernel
theorem dksX0_border_1 : cX0_border.data.toList.drop 24 = dktX0_border_1 := dk_seg dksX0_border_0 24 rfl rfl
theorem dksX0_border_2 : cX0_border.data.toList.drop 47 = dktX0_border_2 := dk_seg dksX0_border_1 23 rfl rfl
theorem dksX0_border_3 : cX0_border.data.toList.drop 71 = dktX0_border_3 := dk_seg dksX0_border_2 24 rfl rfl
theorem dX0_border_0 : decode cX0_border 0 = .ok (.aload_n 0, 1) := dk_42 (dk_at dksX0_border_0 0 rfl rfl)
theorem dX0_border_1 : decode cX0_border 1 = .ok (.getfield 20, 3) := dk_180 0 20 (dk_at dksX0_border_0 1 rfl rfl)
theorem dX0_border_4 : decode cX0_border 4 = .ok (.iload_n 1, 1) := dk_27 (dk_at dksX0_border_0 4 rfl rfl)
theorem dX0_border_5 : decode cX0_border 5 = .ok (.invokevirtual 182, 3) := dk_182 0 182 (dk_at dksX0_border_0 5 rfl rfl)
theorem dX0_border_8 : decode cX0_border 8 = .ok (.ifCond .ne 5, 3) := dk_154 0 5 (dk_at dksX0_border_0 8 rfl rfl)
theorem dX0_border_11 : decode cX0_border 11 = .ok (.iconst (-1), 1) := dk_2 (dk_at dksX0_border_0 11 rfl rfl)
theorem dX0_border_12 : decode cX0_border 12 = .ok (.ireturn, 1) := dk_172 (dk_at dksX0_border_0 12 rfl rfl)
theorem dX0_border_13 : decode cX0_border 13 = .ok (.iload_n 2, 1) := dk_28 (dk_at dksX0_border_0 13 rfl rfl)
theorem dX0_border_14 : decode cX0_border 14 = .ok (.iconst 0, 1) := dk_3 (dk_at dksX0_border_0 14 rfl rfl)
theorem dX0_border_15 : decode cX0_border 15 = .ok (.sipush 999, 3) := dk_17 3 231 (dk_at dksX0_border_0 15 rfl rfl)
theorem dX0_border_18 : decode cX0_border 18 = .ok (.invokestatic 163, 3) := dk_184 0 163 (dk_at dksX0_border_0 18 rfl rfl)
theorem dX0_border_21 : decode cX0_border 21 = .ok (.ifCond .eq 22, 3) := dk_153 0 22 (dk_at dksX0_border_0 21 rfl rfl)
theorem dX0_border_24 : decode cX0_border 24 = .ok (.iload_n 3, 1) := dk_29 (dk_at dksX0_border_1 0 rfl rfl)
theorem dX0_border_25 : decode cX0_border 25 = .ok (.iload_n 2, 1) := dk_28 (dk_at dksX0_border_1 1 rfl rfl)
theorem dX0_border_26 : decode cX0_border 26 = .ok (.sipush 999, 3) := dk_17 3 231 (dk_at dksX0_border_1 2 rfl rfl)
theorem dX0_border_29 : decode cX0_border 29 = .ok (.invokestatic 163, 3) := dk_184 0 163 (dk_at dksX0_border_1 5 rfl rfl)
theorem dX0_border_32 : decode cX0_border 32 = .ok (.ifCond .eq 11, 3) := dk_153 0 11 (dk_at dksX0_border_1 8 rfl rfl)
theorem dX0_border_35 : decode cX0_border 35 = .ok (.iload 4, 2) := dk_21 4 (dk_at dksX0_border_1 11 rfl rfl)
theorem dX0_border_37 : decode cX0_border 37 = .ok (.invokestatic 186, 3) := dk_184 0 186 (dk_at dksX0_border_1 13 rfl rfl)
theorem dX0_border_40 : decode cX0_border 40 = .ok (.ifCond .ne 6, 3) := dk_154 0 6 (dk_at dksX0_border_1 16 rfl rfl)
theorem dX0_border_43 : decode cX0_border 43 = .ok (.bipush (-2), 2) := dk_16 254 (dk_at dksX0_border_1 19 rfl rfl)
theorem dX0_border_45 : decode cX0_border 45 = .ok (.ireturn, 1) := dk_172 (dk_at dksX0_border_1 21 rfl rfl)
theorem dX0_border_46 : decode cX0_border 46 = .ok (.aload_n 0, 1) := dk_42 (dk_at dksX0_border_1 22 rfl rfl)
theorem dX0_border_47 : decode cX0_border 47 = .ok (.getfield 20, 3) := dk_180 0 20 (dk_at dksX0_border_2 0 rfl rfl)
theorem dX0_border_50 : decode cX0_border 50 = .ok (.getfield 189, 3) := dk_180 0 189 (dk_at dksX0_border_2 3 rfl rfl)
theorem dX0_border_53 : decode cX0_border 53 = .ok (.bipush 60, 2) := dk_16 60 (dk_at dksX0_border_2 6 rfl rfl)
theorem dX0_border_55 : decode cX0_border 55 = .ok (.if_icmp .ne 6, 3) := dk_160 0 6 (dk_at dksX0_border_2 8 rfl rfl)
theorem dX0_border_58 : decode cX0_border 58 = .ok (.bipush (-5), 2) := dk_16 251 (dk_at dksX0_border_2 11 rfl rfl)
theorem dX0_border_60 : decode cX0_border 60 = .ok (.ireturn, 1) := dk_172 (dk_at dksX0_border_2 13 rfl rfl)
theorem dX0_border_61 : decode cX0_border 61 = .ok (.aload_n 0, 1) := dk_42 (dk_at dksX0_border_2 14 rfl rfl)
theorem dX0_border_62 : decode cX0_border 62 = .ok (.iconst 2, 1) := dk_5 (dk_at dksX0_border_2 15 rfl rfl)
theorem dX0_border_63 : decode cX0_border 63 = .ok (.iload_n 1, 1) := dk_27 (dk_at dksX0_border_2 16 rfl rfl)
theorem dX0_border_64 : decode cX0_border 64 = .ok (.iload_n 2, 1) := dk_28 (dk_at dksX0_border_2 17 rfl rfl)
theorem dX0_border_65 : decode cX0_border 65 = .ok (.iload_n 3, 1) := dk_29 (dk_at dksX0_border_2 18 rfl rfl)
theorem dX0_border_66 : decode cX0_border 66 = .ok (.iload 4, 2) := dk_21 4 (dk_at dksX0_border_2 19 rfl rfl)
theorem dX0_border_68 : decode cX0_border 68 = .ok (.invokevirtual 173, 3) := dk_182 0 173 (dk_at dksX0_border_2 21 rfl rfl)
theorem dX0_border_71 : decode cX0_border 71 = .ok (.aload_n 0, 1) := dk_42 (dk_at dksX0_border_3 0 rfl rfl)
theorem dX0_border_72 : decode cX0_border 72 = .ok (.getfield 20, 3) := dk_180 0 20 (dk_at dksX0_border_3 1 rfl rfl)
theorem dX0_border_75 : decode cX0_border 75 = .ok (.iload_n 1, 1) := dk_27 (dk_at dksX0_border_3 4 rfl rfl)
theorem dX0_border_76 : decode cX0_border 76 = .ok (.iload_n 2, 1) := dk_28 (dk_at dksX0_border_3 5 rfl rfl)
theorem dX0_border_77 : decode cX0_border 77 = .ok (.iload_n 3, 1) := dk_29 (dk_at dksX0_border_3 6 rfl rfl)
theorem dX0_border_78 : decode cX0_border 78 = .ok (.iload 4, 2) := dk_21 4 (dk_at dksX0_border_3 7 rfl rfl)
theorem dX0_border_80 : decode cX0_border 80 = .ok (.invokevirtual 192, 3) := dk_182 0 192 (dk_at dksX0_border_3 9 rfl rfl)
theorem dX0_border_83 : decode cX0_border 83 = .ok (.ireturn, 1) := dk_172 (dk_at dksX0_border_3 12 rfl rfl)
abbrev cX0_areaOf : ByteArray := prog_1_method_11_code
def yX0_areaOf : MethodName := ⟨RX0, "areaOf", "(III)I"⟩
def dkwX0_areaOf_1 : List UInt8 := [154, 0, 6, 16, 254, 172, 42, 180, 0, 20, 27, 28, 29, 182, 0, 196, 172]
abbrev dktX0_areaOf_1 : List UInt8 := dkwX0_areaOf_1 ++ []
def dkwX0_areaOf_0 : List UInt8 := [27, 3, 5, 184, 0, 163, 153, 0, 21, 28, 3, 17, 3, 231, 184, 0, 163, 153, 0, 10, 29, 184, 0, 186]
abbrev dktX0_areaOf_0 : List UInt8 := dkwX0_areaOf_0 ++ dktX0_areaOf_1
theorem dksX0_areaOf_0 : cX0_areaOf.data.toList.drop 0 = dktX0_areaOf_0 := by decide +kernel
theorem dksX0_areaOf_1 : cX0_areaOf.data.toList.drop 24 = dktX0_areaOf_1 := dk_seg dksX0_areaOf_0 24 rfl rfl
theorem dX0_areaOf_0 : decode cX0_areaOf 0 = .ok (.iload_n 1, 1) := dk_27 (dk_at dksX0_areaOf_0 0 rfl rfl)
theorem dX0_areaOf_1 : decode cX0_areaOf 1 = .ok (.iconst 0, 1) := dk_3 (dk_at dksX0_areaOf_0 1 rfl rfl)
theorem dX0_areaOf_2 : decode cX0_areaOf 2 = .ok (.iconst 2, 1) := dk_5 (dk_at dksX0_areaOf_0 2 rfl rfl)
theorem dX0_areaOf_3 : decode cX0_areaOf 3 = .ok (.invokestatic 163, 3) := dk_184 0 163 (dk_at dksX0_areaOf_0 3 rfl rfl)
theorem dX0_areaOf_6 : decode cX0_areaOf 6 = .ok (.ifCond .eq 21, 3) := dk_153 0 21 (dk_at dksX0_areaOf_0 6 rfl rfl)
theorem dX0_areaOf_9 : decode cX0_areaOf 9 = .ok (.iload_n 2, 1) := dk_28 (dk_at dksX0_areaOf_0 9 rfl rfl)
theorem dX0_areaOf_10 : decode cX0_areaOf 10 = .ok (.iconst 0, 1) := dk_3 (dk_at dksX0_areaOf_0 10 rfl rfl)
theorem dX0_areaOf_11 : decode cX0_areaOf 11 = .ok (.sipush 999, 3) := dk_17 3 231 (dk_at dksX0_areaOf_0 11 rfl rfl)
theorem dX0_areaOf_14 : decode cX0_areaOf 14 = .ok (.invokestatic 163, 3) := dk_184 0 163 (dk_at dksX0_areaOf_0 14 rfl rfl)
theorem dX0_areaOf_17 : decode cX0_areaOf 17 = .ok (.ifCond .eq 10, 3) := dk_153 0 10 (dk_at dksX0_areaOf_0 17 rfl rfl)
theorem dX0_areaOf_20 : decode cX0_areaOf 20 = .ok (.iload_n 3, 1) := dk_29 (dk_at dksX0_areaOf_0 20 rfl rfl)
theorem dX0_areaOf_21 : decode cX0_areaOf 21 = .ok (.invokestatic 186, 3) := dk_184 0 186 (dk_at dksX0_areaOf_0 21 rfl rfl)
theorem dX0_areaOf_24 : decode cX0_areaOf 24 = .ok (.ifCond .ne 6, 3) := dk_154 0 6 (dk_at dksX0_areaOf_1 0 rfl rfl)
theorem dX0_areaOf_27 : decode cX0_areaOf 27 = .ok (.bipush (-2), 2) := dk_16 254 (dk_at dksX0_areaOf_1 3 rfl rfl)
theorem dX0_areaOf_29 : decode cX0_areaOf 29 = .ok (.ireturn, 1) := dk_172 (dk_at dksX0_areaOf_1 5 rfl rfl)
theorem dX0_areaOf_30 : decode cX0_areaOf 30 = .ok (.aload_n 0, 1) := dk_42 (dk_at dksX0_areaOf_1 6 rfl rfl)
theorem dX0_areaOf_31 : decode cX0_areaOf 31 = .ok (.getfield 20, 3) := dk_180 0 20 (dk_at dksX0_areaOf_1 7 rfl rfl)
theorem dX0_areaOf_34 : decode cX0_areaOf 34 = .ok (.iload_n 1, 1) := dk_27 (dk_at dksX0_areaOf_1 10 rfl rfl)
theorem dX0_areaOf_35 : decode cX0_areaOf 35 = .ok (.iload_n 2, 1) := dk_28 (dk_at dksX0_areaOf_1 11 rfl rfl)
theorem dX0_areaOf_36 : decode cX0_areaOf 36 = .ok (.iload_n 3, 1) := dk_29 (dk_at dksX0_areaOf_1 12 rfl rfl)
theorem dX0_areaOf_37 : decode cX0_areaOf 37 = .ok (.invokevirtual 196, 3) := dk_182 0 196 (dk_at dksX0_areaOf_1 13 rfl rfl)
theorem dX0_areaOf_40 : decode cX0_areaOf 40 = .ok (.ireturn, 1) := dk_172 (dk_at dksX0_areaOf_1 16 rfl rfl)
abbrev cX0_person : ByteArray := prog_1_method_13_code
def yX0_person : MethodName := ⟨RX0, "person", "(III)I"⟩
def dkwX0_person_2 : List UInt8 := [180, 0, 200, 4, 96, 181, 0, 200, 42, 6, 27, 28, 29, 3, 182, 0, 173, 42, 180, 0, 200, 4, 100, 172]
abbrev dktX0_person_2 : List UInt8 := dkwX0_person_2 ++ []
def dkwX0_person_1 : List UInt8 := [16, 251, 172, 42, 180, 0, 26, 42, 180, 0, 200, 187, 0, 24, 89, 27, 28, 29, 183, 0, 207, 83, 42, 89]
abbrev dktX0_person_1 : List UInt8 := dkwX0_person_1 ++ dktX0_person_2
def dkwX0_person_0 : List UInt8 := [27, 28, 29, 17, 7, 108, 184, 0, 203, 154, 0, 6, 16, 254, 172, 42, 180, 0, 200, 16, 60, 160, 0, 6]
abbrev dktX0_person_0 : List UInt8 := dkwX0_person_0 ++ dktX0_person_1
theorem dksX0_person_0 : cX0_person.data.toList.drop 0 = dktX0_person_0 := by decide +kernel
theorem dksX0_person_1 : cX0_person.data.toList.drop 24 = dktX0_person_1 := dk_seg dksX0_person_0 24 rfl rfl
theorem dksX0_person_2 : cX0_person.data.toList.drop 48 = dktX0_person_2 := dk_seg dksX0_person_1 24 rfl rfl
theorem dX0_person_0 : decode cX0_person 0 = .ok (.iload_n 1, 1) := dk_27 (dk_at dksX0_person_0 0 rfl rfl)
theorem dX0_person_1 : decode cX0_person 1 = .ok (.iload_n 2, 1) := dk_28 (dk_at dksX0_person_0 1 rfl rfl)
theorem dX0_person_2 : decode cX0_person 2 = .ok (.iload_n 3, 1) := dk_29 (dk_at dksX0_person_0 2 rfl rfl)
theorem dX0_person_3 : decode cX0_person 3 = .ok (.sipush 1900, 3) := dk_17 7 108 (dk_at dksX0_person_0 3 rfl rfl)
theorem dX0_person_6 : decode cX0_person 6 = .ok (.invokestatic 203, 3) := dk_184 0 203 (dk_at dksX0_person_0 6 rfl rfl)
theorem dX0_person_9 : decode cX0_person 9 = .ok (.ifCond .ne 6, 3) := dk_154 0 6 (dk_at dksX0_person_0 9 rfl rfl)
theorem dX0_person_12 : decode cX0_person 12 = .ok (.bipush (-2), 2) := dk_16 254 (dk_at dksX0_person_0 12 rfl rfl)
theorem dX0_person_14 : decode cX0_person 14 = .ok (.ireturn, 1) := dk_172 (dk_at dksX0_person_0 14 rfl rfl)
theorem dX0_person_15 : decode cX0_person 15 = .ok (.aload_n 0, 1) := dk_42 (dk_at dksX0_person_0 15 rfl rfl)
theorem dX0_person_16 : decode cX0_person 16 = .ok (.getfield 200, 3) := dk_180 0 200 (dk_at dksX0_person_0 16 rfl rfl)
theorem dX0_person_19 : decode cX0_person 19 = .ok (.bipush 60, 2) := dk_16 60 (dk_at dksX0_person_0 19 rfl rfl)
theorem dX0_person_21 : decode cX0_person 21 = .ok (.if_icmp .ne 6, 3) := dk_160 0 6 (dk_at dksX0_person_0 21 rfl rfl)
theorem dX0_person_24 : decode cX0_person 24 = .ok (.bipush (-5), 2) := dk_16 251 (dk_at dksX0_person_1 0 rfl rfl)
theorem dX0_person_26 : decode cX0_person 26 = .ok (.ireturn, 1) := dk_172 (dk_at dksX0_person_1 2 rfl rfl)
theorem dX0_person_27 : decode cX0_person 27 = .ok (.aload_n 0, 1) := dk_42 (dk_at dksX0_person_1 3 rfl rfl)
theorem dX0_person_28 : decode cX0_person 28 = .ok (.getfield 26, 3) := dk_180 0 26 (dk_at dksX0_person_1 4 rfl rfl)
theorem dX0_person_31 : decode cX0_person 31 = .ok (.aload_n 0, 1) := dk_42 (dk_at dksX0_person_1 7 rfl rfl)
theorem dX0_person_32 : decode cX0_person 32 = .ok (.getfield 200, 3) := dk_180 0 200 (dk_at dksX0_person_1 8 rfl rfl)
theorem dX0_person_35 : decode cX0_person 35 = .ok (.new 24, 3) := dk_187 0 24 (dk_at dksX0_person_1 11 rfl rfl)
theorem dX0_person_38 : decode cX0_person 38 = .ok (.dup, 1) := dk_89 (dk_at dksX0_person_1 14 rfl rfl)
theorem dX0_person_39 : decode cX0_person 39 = .ok (.iload_n 1, 1) := dk_27 (dk_at dksX0_person_1 15 rfl rfl)
theorem dX0_person_40 : decode cX0_person 40 = .ok (.iload_n 2, 1) := dk_28 (dk_at dksX0_person_1 16 rfl rfl)
theorem dX0_person_41 : decode cX0_person 41 = .ok (.iload_n 3, 1) := dk_29 (dk_at dksX0_person_1 17 rfl rfl)
theorem dX0_person_42 : decode cX0_person 42 = .ok (.invokespecial 207, 3) := dk_183 0 207 (dk_at dksX0_person_1 18 rfl rfl)
theorem dX0_person_45 : decode cX0_person 45 = .ok (.aastore, 1) := dk_83 (dk_at dksX0_person_1 21 rfl rfl)
theorem dX0_person_46 : decode cX0_person 46 = .ok (.aload_n 0, 1) := dk_42 (dk_at dksX0_person_1 22 rfl rfl)
theorem dX0_person_47 : decode cX0_person 47 = .ok (.dup, 1) := dk_89 (dk_at dksX0_person_1 23 rfl rfl)
theorem dX0_person_48 : decode cX0_person 48 = .ok (.getfield 200, 3) := dk_180 0 200 (dk_at dksX0_person_2 0 rfl rfl)
theorem dX0_person_51 : decode cX0_person 51 = .ok (.iconst 1, 1) := dk_4 (dk_at dksX0_person_2 3 rfl rfl)
theorem dX0_person_52 : decode cX0_person 52 = .ok (.iadd, 1) := dk_96 (dk_at dksX0_person_2 4 rfl rfl)
theorem dX0_person_53 : decode cX0_person 53 = .ok (.putfield 200, 3) := dk_181 0 200 (dk_at dksX0_person_2 5 rfl rfl)
theorem dX0_person_56 : decode cX0_person 56 = .ok (.aload_n 0, 1) := dk_42 (dk_at dksX0_person_2 8 rfl rfl)
theorem dX0_person_57 : decode cX0_person 57 = .ok (.iconst 3, 1) := dk_6 (dk_at dksX0_person_2 9 rfl rfl)
theorem dX0_person_58 : decode cX0_person 58 = .ok (.iload_n 1, 1) := dk_27 (dk_at dksX0_person_2 10 rfl rfl)
theorem dX0_person_59 : decode cX0_person 59 = .ok (.iload_n 2, 1) := dk_28 (dk_at dksX0_person_2 11 rfl rfl)
theorem dX0_person_60 : decode cX0_person 60 = .ok (.iload_n 3, 1) := dk_29 (dk_at dksX0_person_2 12 rfl rfl)
theorem dX0_person_61 : decode cX0_person 61 = .ok (.iconst 0, 1) := dk_3 (dk_at dksX0_person_2 13 rfl rfl)
theorem dX0_person_62 : decode cX0_person 62 = .ok (.invokevirtual 173, 3) := dk_182 0 173 (dk_at dksX0_person_2 14 rfl rfl)
theorem dX0_person_65 : decode cX0_person 65 = .ok (.aload_n 0, 1) := dk_42 (dk_at dksX0_person_2 17 rfl rfl)
theorem dX0_person_66 : decode cX0_person 66 = .ok (.getfield 200, 3) := dk_180 0 200 (dk_at dksX0_person_2 18 rfl rfl)
theorem dX0_person_69 : decode cX0_person 69 = .ok (.iconst 1, 1) := dk_4 (dk_at dksX0_person_2 21 rfl rfl)
theorem dX0_person_70 : decode cX0_person 70 = .ok (.isub, 1) := dk_100 (dk_at dksX0_person_2 22 rfl rfl)
theorem dX0_person_71 : decode cX0_person 71 = .ok (.ireturn, 1) := dk_172 (dk_at dksX0_person_2 23 rfl rfl)
abbrev cX0_move : ByteArray := prog_1_method_14_code
def yX0_move : MethodName := ⟨RX0, "move", "(III)I"⟩
def dkwX0_move_2 : List UInt8 := [16, 251, 172, 42, 7, 27, 28, 29, 3, 182, 0, 173, 42, 180, 0, 26, 27, 50, 28, 29, 182, 0, 216, 172]
abbrev dktX0_move_2 : List UInt8 := dkwX0_move_2 ++ []
def dkwX0_move_1 : List UInt8 := [184, 0, 163, 154, 0, 6, 16, 254, 172, 42, 180, 0, 26, 27, 50, 180, 0, 213, 16, 10, 160, 0, 6]
abbrev dktX0_move_1 : List UInt8 := dkwX0_move_1 ++ dktX0_move_2
def dkwX0_move_0 : List UInt8 := [42, 27, 182, 0, 210, 154, 0, 5, 2, 172, 28, 184, 0, 186, 153, 0, 14, 29, 2, 17, 3, 231]
abbrev dktX0_move_0 : List UInt8 := dkwX0_move_0 ++ dktX0_move_1
theorem dksX0_move_0 : cX0_move.data.toList.drop 0 = dktX0_move_0 := by decide +kernel
theorem dksX0_move_1 : cX0_move.data.toList.drop 22 = dktX0_move_1 := dk_seg dksX0_move_0 22 rfl rfl
theorem dksX0_move_2 : cX0_move.data.toList.drop 45 = dktX0_move_2 := dk_seg dksX0_move_1 23 rfl rfl
theorem dX0_move_0 : decode cX0_move 0 = .ok (.aload_n 0, 1) := dk_42 (dk_at dksX0_move_0 0 rfl rfl)
theorem dX0_move_1 : decode cX0_move 1 = .ok (.iload_n 1, 1) := dk_27 (dk_at dksX0_move_0 1 rfl rfl)
theorem dX0_move_2 : decode cX0_move 2 = .ok (.invokevirtual 210, 3) := dk_182 0 210 (dk_at dksX0_move_0 2 rfl rfl)
theorem dX0_move_5 : decode cX0_move 5 = .ok (.ifCond .ne 5, 3) := dk_154 0 5 (dk_at dksX0_move_0 5 rfl rfl)
theorem dX0_move_8 : decode cX0_move 8 = .ok (.iconst (-1), 1) := dk_2 (dk_at dksX0_move_0 8 rfl rfl)
theorem dX0_move_9 : decode cX0_move 9 = .ok (.ireturn, 1) := dk_172 (dk_at dksX0_move_0 9 rfl rfl)
theorem dX0_move_10 : decode cX0_move 10 = .ok (.iload_n 2, 1) := dk_28 (dk_at dksX0_move_0 10 rfl rfl)
theorem dX0_move_11 : decode cX0_move 11 = .ok (.invokestatic 186, 3) := dk_184 0 186 (dk_at dksX0_move_0 11 rfl rfl)
theorem dX0_move_14 : decode cX0_move 14 = .ok (.ifCond .eq 14, 3) := dk_153 0 14 (dk_at dksX0_move_0 14 rfl rfl)
theorem dX0_move_17 : decode cX0_move 17 = .ok (.iload_n 3, 1) := dk_29 (dk_at dksX0_move_0 17 rfl rfl)
theorem dX0_move_18 : decode cX0_move 18 = .ok (.iconst (-1), 1) := dk_2 (dk_at dksX0_move_0 18 rfl rfl)
theorem dX0_move_19 : decode cX0_move 19 = .ok (.sipush 999, 3) := dk_17 3 231 (dk_at dksX0_move_0 19 rfl rfl)
theorem dX0_move_22 : decode cX0_move 22 = .ok (.invokestatic 163, 3) := dk_184 0 163 (dk_at dksX0_move_1 0 rfl rfl)
theorem dX0_move_25 : decode cX0_move 25 = .ok (.ifCond .ne 6, 3) := dk_154 0 6 (dk_at dksX0_move_1 3 rfl rfl)
theorem dX0_move_28 : decode cX0_move 28 = .ok (.bipush (-2), 2) := dk_16 254 (dk_at dksX0_move_1 6 rfl rfl)
theorem dX0_move_30 : decode cX0_move 30 = .ok (.ireturn, 1) := dk_172 (dk_at dksX0_move_1 8 rfl rfl)
theorem dX0_move_31 : decode cX0_move 31 = .ok (.aload_n 0, 1) := dk_42 (dk_at dksX0_move_1 9 rfl rfl)
theorem dX0_move_32 : decode cX0_move 32 = .ok (.getfield 26, 3) := dk_180 0 26 (dk_at dksX0_move_1 10 rfl rfl)
theorem dX0_move_35 : decode cX0_move 35 = .ok (.iload_n 1, 1) := dk_27 (dk_at dksX0_move_1 13 rfl rfl)
theorem dX0_move_36 : decode cX0_move 36 = .ok (.aaload, 1) := dk_50 (dk_at dksX0_move_1 14 rfl rfl)
theorem dX0_move_37 : decode cX0_move 37 = .ok (.getfield 213, 3) := dk_180 0 213 (dk_at dksX0_move_1 15 rfl rfl)
theorem dX0_move_40 : decode cX0_move 40 = .ok (.bipush 10, 2) := dk_16 10 (dk_at dksX0_move_1 18 rfl rfl)
theorem dX0_move_42 : decode cX0_move 42 = .ok (.if_icmp .ne 6, 3) := dk_160 0 6 (dk_at dksX0_move_1 20 rfl rfl)
theorem dX0_move_45 : decode cX0_move 45 = .ok (.bipush (-5), 2) := dk_16 251 (dk_at dksX0_move_2 0 rfl rfl)
theorem dX0_move_47 : decode cX0_move 47 = .ok (.ireturn, 1) := dk_172 (dk_at dksX0_move_2 2 rfl rfl)
theorem dX0_move_48 : decode cX0_move 48 = .ok (.aload_n 0, 1) := dk_42 (dk_at dksX0_move_2 3 rfl rfl)
theorem dX0_move_49 : decode cX0_move 49 = .ok (.iconst 4, 1) := dk_7 (dk_at dksX0_move_2 4 rfl rfl)
theorem dX0_move_50 : decode cX0_move 50 = .ok (.iload_n 1, 1) := dk_27 (dk_at dksX0_move_2 5 rfl rfl)
theorem dX0_move_51 : decode cX0_move 51 = .ok (.iload_n 2, 1) := dk_28 (dk_at dksX0_move_2 6 rfl rfl)
theorem dX0_move_52 : decode cX0_move 52 = .ok (.iload_n 3, 1) := dk_29 (dk_at dksX0_move_2 7 rfl rfl)
theorem dX0_move_53 : decode cX0_move 53 = .ok (.iconst 0, 1) := dk_3 (dk_at dksX0_move_2 8 rfl rfl)
theorem dX0_move_54 : decode cX0_move 54 = .ok (.invokevirtual 173, 3) := dk_182 0 173 (dk_at dksX0_move_2 9 rfl rfl)
theorem dX0_move_57 : decode cX0_move 57 = .ok (.aload_n 0, 1) := dk_42 (dk_at dksX0_move_2 12 rfl rfl)
theorem dX0_move_58 : decode cX0_move 58 = .ok (.getfield 26, 3) := dk_180 0 26 (dk_at dksX0_move_2 13 rfl rfl)
theorem dX0_move_61 : decode cX0_move 61 = .ok (.iload_n 1, 1) := dk_27 (dk_at dksX0_move_2 16 rfl rfl)
theorem dX0_move_62 : decode cX0_move 62 = .ok (.aaload, 1) := dk_50 (dk_at dksX0_move_2 17 rfl rfl)
theorem dX0_move_63 : decode cX0_move 63 = .ok (.iload_n 2, 1) := dk_28 (dk_at dksX0_move_2 18 rfl rfl)
theorem dX0_move_64 : decode cX0_move 64 = .ok (.iload_n 3, 1) := dk_29 (dk_at dksX0_move_2 19 rfl rfl)
theorem dX0_move_65 : decode cX0_move 65 = .ok (.invokevirtual 216, 3) := dk_182 0 216 (dk_at dksX0_move_2 20 rfl rfl)
theorem dX0_move_68 : decode cX0_move 68 = .ok (.ireturn, 1) := dk_172 (dk_at dksX0_move_2 23 rfl rfl)
abbrev cX0_isPerson : ByteArray := prog_1_method_12_code
def yX0_isPerson : MethodName := ⟨RX0, "isPerson", "(I)Z"⟩
def dkwX0_isPerson_0 : List UInt8 := [27, 3, 42, 180, 0, 200, 4, 100, 184, 0, 163, 172]
abbrev dktX0_isPerson_0 : List UInt8 := dkwX0_isPerson_0 ++ []
theorem dksX0_isPerson_0 : cX0_isPerson.data.toList.drop 0 = dktX0_isPerson_0 := by decide +kernel
theorem dX0_isPerson_0 : decode cX0_isPerson 0 = .ok (.iload_n 1, 1) := dk_27 (dk_at dksX0_isPerson_0 0 rfl rfl)
theorem dX0_isPerson_1 : decode cX0_isPerson 1 = .ok (.iconst 0, 1) := dk_3 (dk_at dksX0_isPerson_0 1 rfl rfl)
theorem dX0_isPerson_2 : decode cX0_isPerson 2 = .ok (.aload_n 0, 1) := dk_42 (dk_at dksX0_isPerson_0 2 rfl rfl)
theorem dX0_isPerson_3 : decode cX0_isPerson 3 = .ok (.getfield 200, 3) := dk_180 0 200 (dk_at dksX0_isPerson_0 3 rfl rfl)
theorem dX0_isPerson_6 : decode cX0_isPerson 6 = .ok (.iconst 1, 1) := dk_4 (dk_at dksX0_isPerson_0 6 rfl rfl)
theorem dX0_isPerson_7 : decode cX0_isPerson 7 = .ok (.isub, 1) := dk_100 (dk_at dksX0_isPerson_0 7 rfl rfl)
theorem dX0_isPerson_8 : decode cX0_isPerson 8 = .ok (.invokestatic 163, 3) := dk_184 0 163 (dk_at dksX0_isPerson_0 8 rfl rfl)
theorem dX0_isPerson_11 : decode cX0_isPerson 11 = .ok (.ireturn, 1) := dk_172 (dk_at dksX0_isPerson_0 11 rfl rfl)
abbrev cX0_fact : ByteArray := prog_1_method_15_code
def yX0_fact : MethodName := ⟨RX0, "fact", "(IIIII)I"⟩
def dkwX0_fact_4 : List UInt8 := [21, 5, 182, 0, 223, 172]
abbrev dktX0_fact_4 : List UInt8 := dkwX0_fact_4 ++ []
def dkwX0_fact_3 : List UInt8 := [8, 27, 5, 28, 104, 29, 96, 21, 4, 21, 5, 182, 0, 173, 42, 180, 0, 26, 27, 50, 28, 29, 21, 4]
abbrev dktX0_fact_3 : List UInt8 := dkwX0_fact_3 ++ dktX0_fact_4
def dkwX0_fact_2 : List UInt8 := [154, 0, 6, 16, 254, 172, 42, 180, 0, 26, 27, 50, 180, 0, 220, 16, 12, 160, 0, 6, 16, 251, 172, 42]
abbrev dktX0_fact_2 : List UInt8 := dkwX0_fact_2 ++ dktX0_fact_3
def dkwX0_fact_1 : List UInt8 := [184, 0, 163, 153, 0, 23, 21, 4, 184, 0, 186, 153, 0, 15, 21, 5, 21, 4, 18, 172, 184, 0, 163]
abbrev dktX0_fact_1 : List UInt8 := dkwX0_fact_1 ++ dktX0_fact_2
def dkwX0_fact_0 : List UInt8 := [42, 27, 182, 0, 210, 154, 0, 5, 2, 172, 28, 3, 16, 9, 184, 0, 163, 153, 0, 32, 29, 3, 4]
abbrev dktX0_fact_0 : List UInt8 := dkwX0_fact_0 ++ dktX0_fact_1
theorem dksX0_fact_0 : cX0_fact.data.toList.drop 0 = dktX0_fact_0 := by decide +kernel
theorem dksX0_fact_1 : cX0_fact.data.toList.drop 23 = dktX0_fact_1 := dk_seg dksX0_fact_0 23 rfl rfl
theorem dksX0_fact_2 : cX0_fact.data.toList.drop 46 = dktX0_fact_2 := dk_seg dksX0_fact_1 23 rfl rfl
theorem dksX0_fact_3 : cX0_fact.data.toList.drop 70 = dktX0_fact_3 := dk_seg dksX0_fact_2 24 rfl rfl
theorem dksX0_fact_4 : cX0_fact.data.toList.drop 94 = dktX0_fact_4 := dk_seg dksX0_fact_3 24 rfl rfl
theorem dX0_fact_0 : decode cX0_fact 0 = .ok (.aload_n 0, 1) := dk_42 (dk_at dksX0_fact_0 0 rfl rfl)
theorem dX0_fact_1 : decode cX0_fact 1 = .ok (.iload_n 1, 1) := dk_27 (dk_at dksX0_fact_0 1 rfl rfl)
theorem dX0_fact_2 : decode cX0_fact 2 = .ok (.invokevirtual 210, 3) := dk_182 0 210 (dk_at dksX0_fact_0 2 rfl rfl)
theorem dX0_fact_5 : decode cX0_fact 5 = .ok (.ifCond .ne 5, 3) := dk_154 0 5 (dk_at dksX0_fact_0 5 rfl rfl)
theorem dX0_fact_8 : decode cX0_fact 8 = .ok (.iconst (-1), 1) := dk_2 (dk_at dksX0_fact_0 8 rfl rfl)
theorem dX0_fact_9 : decode cX0_fact 9 = .ok (.ireturn, 1) := dk_172 (dk_at dksX0_fact_0 9 rfl rfl)
theorem dX0_fact_10 : decode cX0_fact 10 = .ok (.iload_n 2, 1) := dk_28 (dk_at dksX0_fact_0 10 rfl rfl)
theorem dX0_fact_11 : decode cX0_fact 11 = .ok (.iconst 0, 1) := dk_3 (dk_at dksX0_fact_0 11 rfl rfl)
theorem dX0_fact_12 : decode cX0_fact 12 = .ok (.bipush 9, 2) := dk_16 9 (dk_at dksX0_fact_0 12 rfl rfl)
theorem dX0_fact_14 : decode cX0_fact 14 = .ok (.invokestatic 163, 3) := dk_184 0 163 (dk_at dksX0_fact_0 14 rfl rfl)
theorem dX0_fact_17 : decode cX0_fact 17 = .ok (.ifCond .eq 32, 3) := dk_153 0 32 (dk_at dksX0_fact_0 17 rfl rfl)
theorem dX0_fact_20 : decode cX0_fact 20 = .ok (.iload_n 3, 1) := dk_29 (dk_at dksX0_fact_0 20 rfl rfl)
theorem dX0_fact_21 : decode cX0_fact 21 = .ok (.iconst 0, 1) := dk_3 (dk_at dksX0_fact_0 21 rfl rfl)
theorem dX0_fact_22 : decode cX0_fact 22 = .ok (.iconst 1, 1) := dk_4 (dk_at dksX0_fact_0 22 rfl rfl)
theorem dX0_fact_23 : decode cX0_fact 23 = .ok (.invokestatic 163, 3) := dk_184 0 163 (dk_at dksX0_fact_1 0 rfl rfl)
theorem dX0_fact_26 : decode cX0_fact 26 = .ok (.ifCond .eq 23, 3) := dk_153 0 23 (dk_at dksX0_fact_1 3 rfl rfl)
theorem dX0_fact_29 : decode cX0_fact 29 = .ok (.iload 4, 2) := dk_21 4 (dk_at dksX0_fact_1 6 rfl rfl)
theorem dX0_fact_31 : decode cX0_fact 31 = .ok (.invokestatic 186, 3) := dk_184 0 186 (dk_at dksX0_fact_1 8 rfl rfl)
theorem dX0_fact_34 : decode cX0_fact 34 = .ok (.ifCond .eq 15, 3) := dk_153 0 15 (dk_at dksX0_fact_1 11 rfl rfl)
theorem dX0_fact_37 : decode cX0_fact 37 = .ok (.iload 5, 2) := dk_21 5 (dk_at dksX0_fact_1 14 rfl rfl)
theorem dX0_fact_39 : decode cX0_fact 39 = .ok (.iload 4, 2) := dk_21 4 (dk_at dksX0_fact_1 16 rfl rfl)
theorem dX0_fact_41 : decode cX0_fact 41 = .ok (.ldc 172, 2) := dk_18 172 (dk_at dksX0_fact_1 18 rfl rfl)
theorem dX0_fact_43 : decode cX0_fact 43 = .ok (.invokestatic 163, 3) := dk_184 0 163 (dk_at dksX0_fact_1 20 rfl rfl)
theorem dX0_fact_46 : decode cX0_fact 46 = .ok (.ifCond .ne 6, 3) := dk_154 0 6 (dk_at dksX0_fact_2 0 rfl rfl)
theorem dX0_fact_49 : decode cX0_fact 49 = .ok (.bipush (-2), 2) := dk_16 254 (dk_at dksX0_fact_2 3 rfl rfl)
theorem dX0_fact_51 : decode cX0_fact 51 = .ok (.ireturn, 1) := dk_172 (dk_at dksX0_fact_2 5 rfl rfl)
theorem dX0_fact_52 : decode cX0_fact 52 = .ok (.aload_n 0, 1) := dk_42 (dk_at dksX0_fact_2 6 rfl rfl)
theorem dX0_fact_53 : decode cX0_fact 53 = .ok (.getfield 26, 3) := dk_180 0 26 (dk_at dksX0_fact_2 7 rfl rfl)
theorem dX0_fact_56 : decode cX0_fact 56 = .ok (.iload_n 1, 1) := dk_27 (dk_at dksX0_fact_2 10 rfl rfl)
theorem dX0_fact_57 : decode cX0_fact 57 = .ok (.aaload, 1) := dk_50 (dk_at dksX0_fact_2 11 rfl rfl)
theorem dX0_fact_58 : decode cX0_fact 58 = .ok (.getfield 220, 3) := dk_180 0 220 (dk_at dksX0_fact_2 12 rfl rfl)
theorem dX0_fact_61 : decode cX0_fact 61 = .ok (.bipush 12, 2) := dk_16 12 (dk_at dksX0_fact_2 15 rfl rfl)
theorem dX0_fact_63 : decode cX0_fact 63 = .ok (.if_icmp .ne 6, 3) := dk_160 0 6 (dk_at dksX0_fact_2 17 rfl rfl)
theorem dX0_fact_66 : decode cX0_fact 66 = .ok (.bipush (-5), 2) := dk_16 251 (dk_at dksX0_fact_2 20 rfl rfl)
theorem dX0_fact_68 : decode cX0_fact 68 = .ok (.ireturn, 1) := dk_172 (dk_at dksX0_fact_2 22 rfl rfl)
theorem dX0_fact_69 : decode cX0_fact 69 = .ok (.aload_n 0, 1) := dk_42 (dk_at dksX0_fact_2 23 rfl rfl)
theorem dX0_fact_70 : decode cX0_fact 70 = .ok (.iconst 5, 1) := dk_8 (dk_at dksX0_fact_3 0 rfl rfl)
theorem dX0_fact_71 : decode cX0_fact 71 = .ok (.iload_n 1, 1) := dk_27 (dk_at dksX0_fact_3 1 rfl rfl)
theorem dX0_fact_72 : decode cX0_fact 72 = .ok (.iconst 2, 1) := dk_5 (dk_at dksX0_fact_3 2 rfl rfl)
theorem dX0_fact_73 : decode cX0_fact 73 = .ok (.iload_n 2, 1) := dk_28 (dk_at dksX0_fact_3 3 rfl rfl)
theorem dX0_fact_74 : decode cX0_fact 74 = .ok (.imul, 1) := dk_104 (dk_at dksX0_fact_3 4 rfl rfl)
theorem dX0_fact_75 : decode cX0_fact 75 = .ok (.iload_n 3, 1) := dk_29 (dk_at dksX0_fact_3 5 rfl rfl)
theorem dX0_fact_76 : decode cX0_fact 76 = .ok (.iadd, 1) := dk_96 (dk_at dksX0_fact_3 6 rfl rfl)
theorem dX0_fact_77 : decode cX0_fact 77 = .ok (.iload 4, 2) := dk_21 4 (dk_at dksX0_fact_3 7 rfl rfl)
theorem dX0_fact_79 : decode cX0_fact 79 = .ok (.iload 5, 2) := dk_21 5 (dk_at dksX0_fact_3 9 rfl rfl)
theorem dX0_fact_81 : decode cX0_fact 81 = .ok (.invokevirtual 173, 3) := dk_182 0 173 (dk_at dksX0_fact_3 11 rfl rfl)
theorem dX0_fact_84 : decode cX0_fact 84 = .ok (.aload_n 0, 1) := dk_42 (dk_at dksX0_fact_3 14 rfl rfl)
theorem dX0_fact_85 : decode cX0_fact 85 = .ok (.getfield 26, 3) := dk_180 0 26 (dk_at dksX0_fact_3 15 rfl rfl)
theorem dX0_fact_88 : decode cX0_fact 88 = .ok (.iload_n 1, 1) := dk_27 (dk_at dksX0_fact_3 18 rfl rfl)
theorem dX0_fact_89 : decode cX0_fact 89 = .ok (.aaload, 1) := dk_50 (dk_at dksX0_fact_3 19 rfl rfl)
theorem dX0_fact_90 : decode cX0_fact 90 = .ok (.iload_n 2, 1) := dk_28 (dk_at dksX0_fact_3 20 rfl rfl)
theorem dX0_fact_91 : decode cX0_fact 91 = .ok (.iload_n 3, 1) := dk_29 (dk_at dksX0_fact_3 21 rfl rfl)
theorem dX0_fact_92 : decode cX0_fact 92 = .ok (.iload 4, 2) := dk_21 4 (dk_at dksX0_fact_3 22 rfl rfl)
theorem dX0_fact_94 : decode cX0_fact 94 = .ok (.iload 5, 2) := dk_21 5 (dk_at dksX0_fact_4 0 rfl rfl)
theorem dX0_fact_96 : decode cX0_fact 96 = .ok (.invokevirtual 223, 3) := dk_182 0 223 (dk_at dksX0_fact_4 2 rfl rfl)
theorem dX0_fact_99 : decode cX0_fact 99 = .ok (.ireturn, 1) := dk_172 (dk_at dksX0_fact_4 5 rfl rfl)
abbrev cX0_die : ByteArray := prog_1_method_16_code
def yX0_die : MethodName := ⟨RX0, "die", "(II)I"⟩
def dkwX0_die_2 : List UInt8 := [42, 180, 0, 26, 27, 50, 28, 182, 0, 233, 42, 16, 6, 27, 28, 3, 3, 182, 0, 173, 4, 172]
abbrev dktX0_die_2 : List UInt8 := dkwX0_die_2 ++ []
def dkwX0_die_1 : List UInt8 := [180, 0, 226, 162, 0, 6, 16, 254, 172, 42, 180, 0, 26, 27, 50, 180, 0, 229, 153, 0, 6, 16, 252, 172]
abbrev dktX0_die_1 : List UInt8 := dkwX0_die_1 ++ dktX0_die_2
def dkwX0_die_0 : List UInt8 := [42, 27, 182, 0, 210, 154, 0, 5, 2, 172, 28, 184, 0, 186, 153, 0, 16, 28, 42, 180, 0, 26, 27, 50]
abbrev dktX0_die_0 : List UInt8 := dkwX0_die_0 ++ dktX0_die_1
theorem dksX0_die_0 : cX0_die.data.toList.drop 0 = dktX0_die_0 := by decide +kernel
theorem dksX0_die_1 : cX0_die.data.toList.drop 24 = dktX0_die_1 := dk_seg dksX0_die_0 24 rfl rfl
theorem dksX0_die_2 : cX0_die.data.toList.drop 48 = dktX0_die_2 := dk_seg dksX0_die_1 24 rfl rfl
theorem dX0_die_0 : decode cX0_die 0 = .ok (.aload_n 0, 1) := dk_42 (dk_at dksX0_die_0 0 rfl rfl)
theorem dX0_die_1 : decode cX0_die 1 = .ok (.iload_n 1, 1) := dk_27 (dk_at dksX0_die_0 1 rfl rfl)
theorem dX0_die_2 : decode cX0_die 2 = .ok (.invokevirtual 210, 3) := dk_182 0 210 (dk_at dksX0_die_0 2 rfl rfl)
theorem dX0_die_5 : decode cX0_die 5 = .ok (.ifCond .ne 5, 3) := dk_154 0 5 (dk_at dksX0_die_0 5 rfl rfl)
theorem dX0_die_8 : decode cX0_die 8 = .ok (.iconst (-1), 1) := dk_2 (dk_at dksX0_die_0 8 rfl rfl)
theorem dX0_die_9 : decode cX0_die 9 = .ok (.ireturn, 1) := dk_172 (dk_at dksX0_die_0 9 rfl rfl)
theorem dX0_die_10 : decode cX0_die 10 = .ok (.iload_n 2, 1) := dk_28 (dk_at dksX0_die_0 10 rfl rfl)
theorem dX0_die_11 : decode cX0_die 11 = .ok (.invokestatic 186, 3) := dk_184 0 186 (dk_at dksX0_die_0 11 rfl rfl)
theorem dX0_die_14 : decode cX0_die 14 = .ok (.ifCond .eq 16, 3) := dk_153 0 16 (dk_at dksX0_die_0 14 rfl rfl)
theorem dX0_die_17 : decode cX0_die 17 = .ok (.iload_n 2, 1) := dk_28 (dk_at dksX0_die_0 17 rfl rfl)
theorem dX0_die_18 : decode cX0_die 18 = .ok (.aload_n 0, 1) := dk_42 (dk_at dksX0_die_0 18 rfl rfl)
theorem dX0_die_19 : decode cX0_die 19 = .ok (.getfield 26, 3) := dk_180 0 26 (dk_at dksX0_die_0 19 rfl rfl)
theorem dX0_die_22 : decode cX0_die 22 = .ok (.iload_n 1, 1) := dk_27 (dk_at dksX0_die_0 22 rfl rfl)
theorem dX0_die_23 : decode cX0_die 23 = .ok (.aaload, 1) := dk_50 (dk_at dksX0_die_0 23 rfl rfl)
theorem dX0_die_24 : decode cX0_die 24 = .ok (.getfield 226, 3) := dk_180 0 226 (dk_at dksX0_die_1 0 rfl rfl)
theorem dX0_die_27 : decode cX0_die 27 = .ok (.if_icmp .ge 6, 3) := dk_162 0 6 (dk_at dksX0_die_1 3 rfl rfl)
theorem dX0_die_30 : decode cX0_die 30 = .ok (.bipush (-2), 2) := dk_16 254 (dk_at dksX0_die_1 6 rfl rfl)
theorem dX0_die_32 : decode cX0_die 32 = .ok (.ireturn, 1) := dk_172 (dk_at dksX0_die_1 8 rfl rfl)
theorem dX0_die_33 : decode cX0_die 33 = .ok (.aload_n 0, 1) := dk_42 (dk_at dksX0_die_1 9 rfl rfl)
theorem dX0_die_34 : decode cX0_die 34 = .ok (.getfield 26, 3) := dk_180 0 26 (dk_at dksX0_die_1 10 rfl rfl)
theorem dX0_die_37 : decode cX0_die 37 = .ok (.iload_n 1, 1) := dk_27 (dk_at dksX0_die_1 13 rfl rfl)
theorem dX0_die_38 : decode cX0_die 38 = .ok (.aaload, 1) := dk_50 (dk_at dksX0_die_1 14 rfl rfl)
theorem dX0_die_39 : decode cX0_die 39 = .ok (.getfield 229, 3) := dk_180 0 229 (dk_at dksX0_die_1 15 rfl rfl)
theorem dX0_die_42 : decode cX0_die 42 = .ok (.ifCond .eq 6, 3) := dk_153 0 6 (dk_at dksX0_die_1 18 rfl rfl)
theorem dX0_die_45 : decode cX0_die 45 = .ok (.bipush (-4), 2) := dk_16 252 (dk_at dksX0_die_1 21 rfl rfl)
theorem dX0_die_47 : decode cX0_die 47 = .ok (.ireturn, 1) := dk_172 (dk_at dksX0_die_1 23 rfl rfl)
theorem dX0_die_48 : decode cX0_die 48 = .ok (.aload_n 0, 1) := dk_42 (dk_at dksX0_die_2 0 rfl rfl)
theorem dX0_die_49 : decode cX0_die 49 = .ok (.getfield 26, 3) := dk_180 0 26 (dk_at dksX0_die_2 1 rfl rfl)
theorem dX0_die_52 : decode cX0_die 52 = .ok (.iload_n 1, 1) := dk_27 (dk_at dksX0_die_2 4 rfl rfl)
theorem dX0_die_53 : decode cX0_die 53 = .ok (.aaload, 1) := dk_50 (dk_at dksX0_die_2 5 rfl rfl)
theorem dX0_die_54 : decode cX0_die 54 = .ok (.iload_n 2, 1) := dk_28 (dk_at dksX0_die_2 6 rfl rfl)
theorem dX0_die_55 : decode cX0_die 55 = .ok (.invokevirtual 233, 3) := dk_182 0 233 (dk_at dksX0_die_2 7 rfl rfl)
theorem dX0_die_58 : decode cX0_die 58 = .ok (.aload_n 0, 1) := dk_42 (dk_at dksX0_die_2 10 rfl rfl)
theorem dX0_die_59 : decode cX0_die 59 = .ok (.bipush 6, 2) := dk_16 6 (dk_at dksX0_die_2 11 rfl rfl)
theorem dX0_die_61 : decode cX0_die 61 = .ok (.iload_n 1, 1) := dk_27 (dk_at dksX0_die_2 13 rfl rfl)
theorem dX0_die_62 : decode cX0_die 62 = .ok (.iload_n 2, 1) := dk_28 (dk_at dksX0_die_2 14 rfl rfl)
theorem dX0_die_63 : decode cX0_die 63 = .ok (.iconst 0, 1) := dk_3 (dk_at dksX0_die_2 15 rfl rfl)
theorem dX0_die_64 : decode cX0_die 64 = .ok (.iconst 0, 1) := dk_3 (dk_at dksX0_die_2 16 rfl rfl)
theorem dX0_die_65 : decode cX0_die 65 = .ok (.invokevirtual 173, 3) := dk_182 0 173 (dk_at dksX0_die_2 17 rfl rfl)
theorem dX0_die_68 : decode cX0_die 68 = .ok (.iconst 1, 1) := dk_4 (dk_at dksX0_die_2 20 rfl rfl)
theorem dX0_die_69 : decode cX0_die 69 = .ok (.ireturn, 1) := dk_172 (dk_at dksX0_die_2 21 rfl rfl)
abbrev cX0_age : ByteArray := prog_1_method_17_code
def yX0_age : MethodName := ⟨RX0, "age", "(II)I"⟩
def dkwX0_age_2 : List UInt8 := [4, 167, 0, 4, 3, 182, 0, 243, 172]
abbrev dktX0_age_2 : List UInt8 := dkwX0_age_2 ++ []
def dkwX0_age_1 : List UInt8 := [42, 180, 0, 26, 27, 50, 28, 42, 180, 0, 237, 153, 0, 17, 42, 180, 0, 42, 180, 0, 240, 153, 0, 7]
abbrev dktX0_age_1 : List UInt8 := dkwX0_age_1 ++ dktX0_age_2
def dkwX0_age_0 : List UInt8 := [42, 27, 182, 0, 210, 154, 0, 7, 2, 167, 0, 47, 28, 184, 0, 186, 154, 0, 8, 16, 254, 167, 0, 35]
abbrev dktX0_age_0 : List UInt8 := dkwX0_age_0 ++ dktX0_age_1
theorem dksX0_age_0 : cX0_age.data.toList.drop 0 = dktX0_age_0 := by decide +kernel
theorem dksX0_age_1 : cX0_age.data.toList.drop 24 = dktX0_age_1 := dk_seg dksX0_age_0 24 rfl rfl
theorem dksX0_age_2 : cX0_age.data.toList.drop 48 = dktX0_age_2 := dk_seg dksX0_age_1 24 rfl rfl
theorem dX0_age_0 : decode cX0_age 0 = .ok (.aload_n 0, 1) := dk_42 (dk_at dksX0_age_0 0 rfl rfl)
theorem dX0_age_1 : decode cX0_age 1 = .ok (.iload_n 1, 1) := dk_27 (dk_at dksX0_age_0 1 rfl rfl)
theorem dX0_age_2 : decode cX0_age 2 = .ok (.invokevirtual 210, 3) := dk_182 0 210 (dk_at dksX0_age_0 2 rfl rfl)
theorem dX0_age_5 : decode cX0_age 5 = .ok (.ifCond .ne 7, 3) := dk_154 0 7 (dk_at dksX0_age_0 5 rfl rfl)
theorem dX0_age_8 : decode cX0_age 8 = .ok (.iconst (-1), 1) := dk_2 (dk_at dksX0_age_0 8 rfl rfl)
theorem dX0_age_9 : decode cX0_age 9 = .ok (.goto 47, 3) := dk_167 0 47 (dk_at dksX0_age_0 9 rfl rfl)
theorem dX0_age_12 : decode cX0_age 12 = .ok (.iload_n 2, 1) := dk_28 (dk_at dksX0_age_0 12 rfl rfl)
theorem dX0_age_13 : decode cX0_age 13 = .ok (.invokestatic 186, 3) := dk_184 0 186 (dk_at dksX0_age_0 13 rfl rfl)
theorem dX0_age_16 : decode cX0_age 16 = .ok (.ifCond .ne 8, 3) := dk_154 0 8 (dk_at dksX0_age_0 16 rfl rfl)
theorem dX0_age_19 : decode cX0_age 19 = .ok (.bipush (-2), 2) := dk_16 254 (dk_at dksX0_age_0 19 rfl rfl)
theorem dX0_age_21 : decode cX0_age 21 = .ok (.goto 35, 3) := dk_167 0 35 (dk_at dksX0_age_0 21 rfl rfl)
theorem dX0_age_24 : decode cX0_age 24 = .ok (.aload_n 0, 1) := dk_42 (dk_at dksX0_age_1 0 rfl rfl)
theorem dX0_age_25 : decode cX0_age 25 = .ok (.getfield 26, 3) := dk_180 0 26 (dk_at dksX0_age_1 1 rfl rfl)
theorem dX0_age_28 : decode cX0_age 28 = .ok (.iload_n 1, 1) := dk_27 (dk_at dksX0_age_1 4 rfl rfl)
theorem dX0_age_29 : decode cX0_age 29 = .ok (.aaload, 1) := dk_50 (dk_at dksX0_age_1 5 rfl rfl)
theorem dX0_age_30 : decode cX0_age 30 = .ok (.iload_n 2, 1) := dk_28 (dk_at dksX0_age_1 6 rfl rfl)
theorem dX0_age_31 : decode cX0_age 31 = .ok (.aload_n 0, 1) := dk_42 (dk_at dksX0_age_1 7 rfl rfl)
theorem dX0_age_32 : decode cX0_age 32 = .ok (.getfield 237, 3) := dk_180 0 237 (dk_at dksX0_age_1 8 rfl rfl)
theorem dX0_age_35 : decode cX0_age 35 = .ok (.ifCond .eq 17, 3) := dk_153 0 17 (dk_at dksX0_age_1 11 rfl rfl)
theorem dX0_age_38 : decode cX0_age 38 = .ok (.aload_n 0, 1) := dk_42 (dk_at dksX0_age_1 14 rfl rfl)
theorem dX0_age_39 : decode cX0_age 39 = .ok (.getfield 42, 3) := dk_180 0 42 (dk_at dksX0_age_1 15 rfl rfl)
theorem dX0_age_42 : decode cX0_age 42 = .ok (.getfield 240, 3) := dk_180 0 240 (dk_at dksX0_age_1 18 rfl rfl)
theorem dX0_age_45 : decode cX0_age 45 = .ok (.ifCond .eq 7, 3) := dk_153 0 7 (dk_at dksX0_age_1 21 rfl rfl)
theorem dX0_age_48 : decode cX0_age 48 = .ok (.iconst 1, 1) := dk_4 (dk_at dksX0_age_2 0 rfl rfl)
theorem dX0_age_49 : decode cX0_age 49 = .ok (.goto 4, 3) := dk_167 0 4 (dk_at dksX0_age_2 1 rfl rfl)
theorem dX0_age_52 : decode cX0_age 52 = .ok (.iconst 0, 1) := dk_3 (dk_at dksX0_age_2 4 rfl rfl)
theorem dX0_age_53 : decode cX0_age 53 = .ok (.invokevirtual 243, 3) := dk_182 0 243 (dk_at dksX0_age_2 5 rfl rfl)
theorem dX0_age_56 : decode cX0_age 56 = .ok (.ireturn, 1) := dk_172 (dk_at dksX0_age_2 8 rfl rfl)
abbrev cX0_addressOf : ByteArray := prog_1_method_18_code
def yX0_addressOf : MethodName := ⟨RX0, "addressOf", "(II)I"⟩
def dkwX0_addressOf_1 : List UInt8 := [42, 180, 0, 26, 27, 50, 28, 182, 0, 247, 172]
abbrev dktX0_addressOf_1 : List UInt8 := dkwX0_addressOf_1 ++ []
def dkwX0_addressOf_0 : List UInt8 := [42, 27, 182, 0, 210, 154, 0, 7, 2, 167, 0, 25, 28, 184, 0, 186, 154, 0, 8, 16, 254, 167, 0, 13]
abbrev dktX0_addressOf_0 : List UInt8 := dkwX0_addressOf_0 ++ dktX0_addressOf_1
theorem dksX0_addressOf_0 : cX0_addressOf.data.toList.drop 0 = dktX0_addressOf_0 := by decide +kernel
theorem dksX0_addressOf_1 : cX0_addressOf.data.toList.drop 24 = dktX0_addressOf_1 := dk_seg dksX0_addressOf_0 24 rfl rfl
theorem dX0_addressOf_0 : decode cX0_addressOf 0 = .ok (.aload_n 0, 1) := dk_42 (dk_at dksX0_addressOf_0 0 rfl rfl)
theorem dX0_addressOf_1 : decode cX0_addressOf 1 = .ok (.iload_n 1, 1) := dk_27 (dk_at dksX0_addressOf_0 1 rfl rfl)
theorem dX0_addressOf_2 : decode cX0_addressOf 2 = .ok (.invokevirtual 210, 3) := dk_182 0 210 (dk_at dksX0_addressOf_0 2 rfl rfl)
theorem dX0_addressOf_5 : decode cX0_addressOf 5 = .ok (.ifCond .ne 7, 3) := dk_154 0 7 (dk_at dksX0_addressOf_0 5 rfl rfl)
theorem dX0_addressOf_8 : decode cX0_addressOf 8 = .ok (.iconst (-1), 1) := dk_2 (dk_at dksX0_addressOf_0 8 rfl rfl)
theorem dX0_addressOf_9 : decode cX0_addressOf 9 = .ok (.goto 25, 3) := dk_167 0 25 (dk_at dksX0_addressOf_0 9 rfl rfl)
theorem dX0_addressOf_12 : decode cX0_addressOf 12 = .ok (.iload_n 2, 1) := dk_28 (dk_at dksX0_addressOf_0 12 rfl rfl)
theorem dX0_addressOf_13 : decode cX0_addressOf 13 = .ok (.invokestatic 186, 3) := dk_184 0 186 (dk_at dksX0_addressOf_0 13 rfl rfl)
theorem dX0_addressOf_16 : decode cX0_addressOf 16 = .ok (.ifCond .ne 8, 3) := dk_154 0 8 (dk_at dksX0_addressOf_0 16 rfl rfl)
theorem dX0_addressOf_19 : decode cX0_addressOf 19 = .ok (.bipush (-2), 2) := dk_16 254 (dk_at dksX0_addressOf_0 19 rfl rfl)
theorem dX0_addressOf_21 : decode cX0_addressOf 21 = .ok (.goto 13, 3) := dk_167 0 13 (dk_at dksX0_addressOf_0 21 rfl rfl)
theorem dX0_addressOf_24 : decode cX0_addressOf 24 = .ok (.aload_n 0, 1) := dk_42 (dk_at dksX0_addressOf_1 0 rfl rfl)
theorem dX0_addressOf_25 : decode cX0_addressOf 25 = .ok (.getfield 26, 3) := dk_180 0 26 (dk_at dksX0_addressOf_1 1 rfl rfl)
theorem dX0_addressOf_28 : decode cX0_addressOf 28 = .ok (.iload_n 1, 1) := dk_27 (dk_at dksX0_addressOf_1 4 rfl rfl)
theorem dX0_addressOf_29 : decode cX0_addressOf 29 = .ok (.aaload, 1) := dk_50 (dk_at dksX0_addressOf_1 5 rfl rfl)
theorem dX0_addressOf_30 : decode cX0_addressOf 30 = .ok (.iload_n 2, 1) := dk_28 (dk_at dksX0_addressOf_1 6 rfl rfl)
theorem dX0_addressOf_31 : decode cX0_addressOf 31 = .ok (.invokevirtual 247, 3) := dk_182 0 247 (dk_at dksX0_addressOf_1 7 rfl rfl)
theorem dX0_addressOf_34 : decode cX0_addressOf 34 = .ok (.ireturn, 1) := dk_172 (dk_at dksX0_addressOf_1 10 rfl rfl)
abbrev cX0_is : ByteArray := prog_1_method_19_code
def yX0_is : MethodName := ⟨RX0, "is", "(III)I"⟩
def dkwX0_is_1 : List UInt8 := [184, 0, 186, 154, 0, 8, 16, 254, 167, 0, 14, 42, 180, 0, 26, 27, 50, 28, 29, 182, 0, 250, 172]
abbrev dktX0_is_1 : List UInt8 := dkwX0_is_1 ++ []
def dkwX0_is_0 : List UInt8 := [42, 27, 182, 0, 210, 154, 0, 7, 2, 167, 0, 36, 28, 3, 16, 9, 184, 0, 163, 153, 0, 10, 29]
abbrev dktX0_is_0 : List UInt8 := dkwX0_is_0 ++ dktX0_is_1
theorem dksX0_is_0 : cX0_is.data.toList.drop 0 = dktX0_is_0 := by decide +kernel
theorem dksX0_is_1 : cX0_is.data.toList.drop 23 = dktX0_is_1 := dk_seg dksX0_is_0 23 rfl rfl
theorem dX0_is_0 : decode cX0_is 0 = .ok (.aload_n 0, 1) := dk_42 (dk_at dksX0_is_0 0 rfl rfl)
theorem dX0_is_1 : decode cX0_is 1 = .ok (.iload_n 1, 1) := dk_27 (dk_at dksX0_is_0 1 rfl rfl)
theorem dX0_is_2 : decode cX0_is 2 = .ok (.invokevirtual 210, 3) := dk_182 0 210 (dk_at dksX0_is_0 2 rfl rfl)
theorem dX0_is_5 : decode cX0_is 5 = .ok (.ifCond .ne 7, 3) := dk_154 0 7 (dk_at dksX0_is_0 5 rfl rfl)
theorem dX0_is_8 : decode cX0_is 8 = .ok (.iconst (-1), 1) := dk_2 (dk_at dksX0_is_0 8 rfl rfl)
theorem dX0_is_9 : decode cX0_is 9 = .ok (.goto 36, 3) := dk_167 0 36 (dk_at dksX0_is_0 9 rfl rfl)
theorem dX0_is_12 : decode cX0_is 12 = .ok (.iload_n 2, 1) := dk_28 (dk_at dksX0_is_0 12 rfl rfl)
theorem dX0_is_13 : decode cX0_is 13 = .ok (.iconst 0, 1) := dk_3 (dk_at dksX0_is_0 13 rfl rfl)
theorem dX0_is_14 : decode cX0_is 14 = .ok (.bipush 9, 2) := dk_16 9 (dk_at dksX0_is_0 14 rfl rfl)
theorem dX0_is_16 : decode cX0_is 16 = .ok (.invokestatic 163, 3) := dk_184 0 163 (dk_at dksX0_is_0 16 rfl rfl)
theorem dX0_is_19 : decode cX0_is 19 = .ok (.ifCond .eq 10, 3) := dk_153 0 10 (dk_at dksX0_is_0 19 rfl rfl)
theorem dX0_is_22 : decode cX0_is 22 = .ok (.iload_n 3, 1) := dk_29 (dk_at dksX0_is_0 22 rfl rfl)
theorem dX0_is_23 : decode cX0_is 23 = .ok (.invokestatic 186, 3) := dk_184 0 186 (dk_at dksX0_is_1 0 rfl rfl)
theorem dX0_is_26 : decode cX0_is 26 = .ok (.ifCond .ne 8, 3) := dk_154 0 8 (dk_at dksX0_is_1 3 rfl rfl)
theorem dX0_is_29 : decode cX0_is 29 = .ok (.bipush (-2), 2) := dk_16 254 (dk_at dksX0_is_1 6 rfl rfl)
theorem dX0_is_31 : decode cX0_is 31 = .ok (.goto 14, 3) := dk_167 0 14 (dk_at dksX0_is_1 8 rfl rfl)
theorem dX0_is_34 : decode cX0_is 34 = .ok (.aload_n 0, 1) := dk_42 (dk_at dksX0_is_1 11 rfl rfl)
theorem dX0_is_35 : decode cX0_is 35 = .ok (.getfield 26, 3) := dk_180 0 26 (dk_at dksX0_is_1 12 rfl rfl)
theorem dX0_is_38 : decode cX0_is 38 = .ok (.iload_n 1, 1) := dk_27 (dk_at dksX0_is_1 15 rfl rfl)
theorem dX0_is_39 : decode cX0_is 39 = .ok (.aaload, 1) := dk_50 (dk_at dksX0_is_1 16 rfl rfl)
theorem dX0_is_40 : decode cX0_is 40 = .ok (.iload_n 2, 1) := dk_28 (dk_at dksX0_is_1 17 rfl rfl)
theorem dX0_is_41 : decode cX0_is 41 = .ok (.iload_n 3, 1) := dk_29 (dk_at dksX0_is_1 18 rfl rfl)
theorem dX0_is_42 : decode cX0_is 42 = .ok (.invokevirtual 250, 3) := dk_182 0 250 (dk_at dksX0_is_1 19 rfl rfl)
theorem dX0_is_45 : decode cX0_is 45 = .ok (.ireturn, 1) := dk_172 (dk_at dksX0_is_1 22 rfl rfl)
abbrev cX0_law : ByteArray := prog_1_method_20_code
def yX0_law : MethodName := ⟨RX0, "law", "()I"⟩
def dkwX0_law_3 : List UInt8 := [3, 3, 182, 0, 173, 42, 180, 0, 42, 180, 1, 3, 172]
abbrev dktX0_law_3 : List UInt8 := dkwX0_law_3 ++ []
def dkwX0_law_2 : List UInt8 := [45, 181, 0, 46, 42, 4, 181, 0, 237, 42, 182, 1, 0, 42, 16, 7, 42, 180, 0, 42, 180, 1, 3, 3]
abbrev dktX0_law_2 : List UInt8 := dkwX0_law_2 ++ dktX0_law_3
def dkwX0_law_1 : List UInt8 := [2, 159, 0, 9, 17, 252, 24, 28, 100, 172, 42, 180, 0, 42, 78, 42, 42, 180, 0, 46, 181, 0, 42, 42]
abbrev dktX0_law_1 : List UInt8 := dkwX0_law_1 ++ dktX0_law_2
def dkwX0_law_0 : List UInt8 := [42, 180, 0, 160, 60, 42, 3, 181, 0, 160, 42, 180, 0, 35, 42, 180, 0, 46, 27, 182, 0, 252, 61, 28]
abbrev dktX0_law_0 : List UInt8 := dkwX0_law_0 ++ dktX0_law_1
theorem dksX0_law_0 : cX0_law.data.toList.drop 0 = dktX0_law_0 := by decide +kernel
theorem dksX0_law_1 : cX0_law.data.toList.drop 24 = dktX0_law_1 := dk_seg dksX0_law_0 24 rfl rfl
theorem dksX0_law_2 : cX0_law.data.toList.drop 48 = dktX0_law_2 := dk_seg dksX0_law_1 24 rfl rfl
theorem dksX0_law_3 : cX0_law.data.toList.drop 72 = dktX0_law_3 := dk_seg dksX0_law_2 24 rfl rfl
theorem dX0_law_0 : decode cX0_law 0 = .ok (.aload_n 0, 1) := dk_42 (dk_at dksX0_law_0 0 rfl rfl)
theorem dX0_law_1 : decode cX0_law 1 = .ok (.getfield 160, 3) := dk_180 0 160 (dk_at dksX0_law_0 1 rfl rfl)
theorem dX0_law_4 : decode cX0_law 4 = .ok (.istore_n 1, 1) := dk_60 (dk_at dksX0_law_0 4 rfl rfl)
theorem dX0_law_5 : decode cX0_law 5 = .ok (.aload_n 0, 1) := dk_42 (dk_at dksX0_law_0 5 rfl rfl)
theorem dX0_law_6 : decode cX0_law 6 = .ok (.iconst 0, 1) := dk_3 (dk_at dksX0_law_0 6 rfl rfl)
theorem dX0_law_7 : decode cX0_law 7 = .ok (.putfield 160, 3) := dk_181 0 160 (dk_at dksX0_law_0 7 rfl rfl)
theorem dX0_law_10 : decode cX0_law 10 = .ok (.aload_n 0, 1) := dk_42 (dk_at dksX0_law_0 10 rfl rfl)
theorem dX0_law_11 : decode cX0_law 11 = .ok (.getfield 35, 3) := dk_180 0 35 (dk_at dksX0_law_0 11 rfl rfl)
theorem dX0_law_14 : decode cX0_law 14 = .ok (.aload_n 0, 1) := dk_42 (dk_at dksX0_law_0 14 rfl rfl)
theorem dX0_law_15 : decode cX0_law 15 = .ok (.getfield 46, 3) := dk_180 0 46 (dk_at dksX0_law_0 15 rfl rfl)
theorem dX0_law_18 : decode cX0_law 18 = .ok (.iload_n 1, 1) := dk_27 (dk_at dksX0_law_0 18 rfl rfl)
theorem dX0_law_19 : decode cX0_law 19 = .ok (.invokevirtual 252, 3) := dk_182 0 252 (dk_at dksX0_law_0 19 rfl rfl)
theorem dX0_law_22 : decode cX0_law 22 = .ok (.istore_n 2, 1) := dk_61 (dk_at dksX0_law_0 22 rfl rfl)
theorem dX0_law_23 : decode cX0_law 23 = .ok (.iload_n 2, 1) := dk_28 (dk_at dksX0_law_0 23 rfl rfl)
theorem dX0_law_24 : decode cX0_law 24 = .ok (.iconst (-1), 1) := dk_2 (dk_at dksX0_law_1 0 rfl rfl)
theorem dX0_law_25 : decode cX0_law 25 = .ok (.if_icmp .eq 9, 3) := dk_159 0 9 (dk_at dksX0_law_1 1 rfl rfl)
theorem dX0_law_28 : decode cX0_law 28 = .ok (.sipush (-1000), 3) := dk_17 252 24 (dk_at dksX0_law_1 4 rfl rfl)
theorem dX0_law_31 : decode cX0_law 31 = .ok (.iload_n 2, 1) := dk_28 (dk_at dksX0_law_1 7 rfl rfl)
theorem dX0_law_32 : decode cX0_law 32 = .ok (.isub, 1) := dk_100 (dk_at dksX0_law_1 8 rfl rfl)
theorem dX0_law_33 : decode cX0_law 33 = .ok (.ireturn, 1) := dk_172 (dk_at dksX0_law_1 9 rfl rfl)
theorem dX0_law_34 : decode cX0_law 34 = .ok (.aload_n 0, 1) := dk_42 (dk_at dksX0_law_1 10 rfl rfl)
theorem dX0_law_35 : decode cX0_law 35 = .ok (.getfield 42, 3) := dk_180 0 42 (dk_at dksX0_law_1 11 rfl rfl)
theorem dX0_law_38 : decode cX0_law 38 = .ok (.astore_n 3, 1) := dk_78 (dk_at dksX0_law_1 14 rfl rfl)
theorem dX0_law_39 : decode cX0_law 39 = .ok (.aload_n 0, 1) := dk_42 (dk_at dksX0_law_1 15 rfl rfl)
theorem dX0_law_40 : decode cX0_law 40 = .ok (.aload_n 0, 1) := dk_42 (dk_at dksX0_law_1 16 rfl rfl)
theorem dX0_law_41 : decode cX0_law 41 = .ok (.getfield 46, 3) := dk_180 0 46 (dk_at dksX0_law_1 17 rfl rfl)
theorem dX0_law_44 : decode cX0_law 44 = .ok (.putfield 42, 3) := dk_181 0 42 (dk_at dksX0_law_1 20 rfl rfl)
theorem dX0_law_47 : decode cX0_law 47 = .ok (.aload_n 0, 1) := dk_42 (dk_at dksX0_law_1 23 rfl rfl)
theorem dX0_law_48 : decode cX0_law 48 = .ok (.aload_n 3, 1) := dk_45 (dk_at dksX0_law_2 0 rfl rfl)
theorem dX0_law_49 : decode cX0_law 49 = .ok (.putfield 46, 3) := dk_181 0 46 (dk_at dksX0_law_2 1 rfl rfl)
theorem dX0_law_52 : decode cX0_law 52 = .ok (.aload_n 0, 1) := dk_42 (dk_at dksX0_law_2 4 rfl rfl)
theorem dX0_law_53 : decode cX0_law 53 = .ok (.iconst 1, 1) := dk_4 (dk_at dksX0_law_2 5 rfl rfl)
theorem dX0_law_54 : decode cX0_law 54 = .ok (.putfield 237, 3) := dk_181 0 237 (dk_at dksX0_law_2 6 rfl rfl)
theorem dX0_law_57 : decode cX0_law 57 = .ok (.aload_n 0, 1) := dk_42 (dk_at dksX0_law_2 9 rfl rfl)
theorem dX0_law_58 : decode cX0_law 58 = .ok (.invokevirtual 256, 3) := dk_182 1 0 (dk_at dksX0_law_2 10 rfl rfl)
theorem dX0_law_61 : decode cX0_law 61 = .ok (.aload_n 0, 1) := dk_42 (dk_at dksX0_law_2 13 rfl rfl)
theorem dX0_law_62 : decode cX0_law 62 = .ok (.bipush 7, 2) := dk_16 7 (dk_at dksX0_law_2 14 rfl rfl)
theorem dX0_law_64 : decode cX0_law 64 = .ok (.aload_n 0, 1) := dk_42 (dk_at dksX0_law_2 16 rfl rfl)
theorem dX0_law_65 : decode cX0_law 65 = .ok (.getfield 42, 3) := dk_180 0 42 (dk_at dksX0_law_2 17 rfl rfl)
theorem dX0_law_68 : decode cX0_law 68 = .ok (.getfield 259, 3) := dk_180 1 3 (dk_at dksX0_law_2 20 rfl rfl)
theorem dX0_law_71 : decode cX0_law 71 = .ok (.iconst 0, 1) := dk_3 (dk_at dksX0_law_2 23 rfl rfl)
theorem dX0_law_72 : decode cX0_law 72 = .ok (.iconst 0, 1) := dk_3 (dk_at dksX0_law_3 0 rfl rfl)
theorem dX0_law_73 : decode cX0_law 73 = .ok (.iconst 0, 1) := dk_3 (dk_at dksX0_law_3 1 rfl rfl)
theorem dX0_law_74 : decode cX0_law 74 = .ok (.invokevirtual 173, 3) := dk_182 0 173 (dk_at dksX0_law_3 2 rfl rfl)
theorem dX0_law_77 : decode cX0_law 77 = .ok (.aload_n 0, 1) := dk_42 (dk_at dksX0_law_3 5 rfl rfl)
theorem dX0_law_78 : decode cX0_law 78 = .ok (.getfield 42, 3) := dk_180 0 42 (dk_at dksX0_law_3 6 rfl rfl)
theorem dX0_law_81 : decode cX0_law 81 = .ok (.getfield 259, 3) := dk_180 1 3 (dk_at dksX0_law_3 9 rfl rfl)
theorem dX0_law_84 : decode cX0_law 84 = .ok (.ireturn, 1) := dk_172 (dk_at dksX0_law_3 12 rfl rfl)
abbrev cX0_begin : ByteArray := prog_1_method_21_code
def yX0_begin : MethodName := ⟨RX0, "begin", "()V"⟩
def dkwX0_begin_4 : List UInt8 := [132, 1, 1, 167, 255, 238, 42, 3, 181, 1, 31, 42, 3, 181, 1, 34, 177]
abbrev dktX0_begin_4 : List UInt8 := dkwX0_begin_4 ++ []
def dkwX0_begin_3 : List UInt8 := [180, 0, 86, 2, 184, 1, 24, 3, 60, 27, 16, 6, 163, 0, 18, 42, 180, 0, 120, 27, 50, 182, 1, 30]
abbrev dktX0_begin_3 : List UInt8 := dkwX0_begin_3 ++ dktX0_begin_4
def dkwX0_begin_2 : List UInt8 := [181, 1, 15, 42, 3, 181, 1, 18, 42, 3, 181, 1, 21, 42, 180, 0, 72, 3, 184, 1, 24, 42]
abbrev dktX0_begin_2 : List UInt8 := dkwX0_begin_2 ++ dktX0_begin_3
def dkwX0_begin_1 : List UInt8 := [132, 1, 1, 167, 255, 238, 42, 3, 181, 1, 6, 42, 3, 181, 1, 9, 42, 3, 181, 1, 12, 42, 3]
abbrev dktX0_begin_1 : List UInt8 := dkwX0_begin_1 ++ dktX0_begin_2
def dkwX0_begin_0 : List UInt8 := [42, 2, 181, 0, 49, 3, 60, 27, 16, 6, 162, 0, 18, 42, 180, 0, 62, 27, 50, 182, 1, 5]
abbrev dktX0_begin_0 : List UInt8 := dkwX0_begin_0 ++ dktX0_begin_1
theorem dksX0_begin_0 : cX0_begin.data.toList.drop 0 = dktX0_begin_0 := by decide +kernel
theorem dksX0_begin_1 : cX0_begin.data.toList.drop 22 = dktX0_begin_1 := dk_seg dksX0_begin_0 22 rfl rfl
theorem dksX0_begin_2 : cX0_begin.data.toList.drop 45 = dktX0_begin_2 := dk_seg dksX0_begin_1 23 rfl rfl
theorem dksX0_begin_3 : cX0_begin.data.toList.drop 67 = dktX0_begin_3 := dk_seg dksX0_begin_2 22 rfl rfl
theorem dksX0_begin_4 : cX0_begin.data.toList.drop 91 = dktX0_begin_4 := dk_seg dksX0_begin_3 24 rfl rfl
theorem dX0_begin_0 : decode cX0_begin 0 = .ok (.aload_n 0, 1) := dk_42 (dk_at dksX0_begin_0 0 rfl rfl)
theorem dX0_begin_1 : decode cX0_begin 1 = .ok (.iconst (-1), 1) := dk_2 (dk_at dksX0_begin_0 1 rfl rfl)
theorem dX0_begin_2 : decode cX0_begin 2 = .ok (.putfield 49, 3) := dk_181 0 49 (dk_at dksX0_begin_0 2 rfl rfl)
theorem dX0_begin_5 : decode cX0_begin 5 = .ok (.iconst 0, 1) := dk_3 (dk_at dksX0_begin_0 5 rfl rfl)
theorem dX0_begin_6 : decode cX0_begin 6 = .ok (.istore_n 1, 1) := dk_60 (dk_at dksX0_begin_0 6 rfl rfl)
theorem dX0_begin_7 : decode cX0_begin 7 = .ok (.iload_n 1, 1) := dk_27 (dk_at dksX0_begin_0 7 rfl rfl)
theorem dX0_begin_8 : decode cX0_begin 8 = .ok (.bipush 6, 2) := dk_16 6 (dk_at dksX0_begin_0 8 rfl rfl)
theorem dX0_begin_10 : decode cX0_begin 10 = .ok (.if_icmp .ge 18, 3) := dk_162 0 18 (dk_at dksX0_begin_0 10 rfl rfl)
theorem dX0_begin_13 : decode cX0_begin 13 = .ok (.aload_n 0, 1) := dk_42 (dk_at dksX0_begin_0 13 rfl rfl)
theorem dX0_begin_14 : decode cX0_begin 14 = .ok (.getfield 62, 3) := dk_180 0 62 (dk_at dksX0_begin_0 14 rfl rfl)
theorem dX0_begin_17 : decode cX0_begin 17 = .ok (.iload_n 1, 1) := dk_27 (dk_at dksX0_begin_0 17 rfl rfl)
theorem dX0_begin_18 : decode cX0_begin 18 = .ok (.aaload, 1) := dk_50 (dk_at dksX0_begin_0 18 rfl rfl)
theorem dX0_begin_19 : decode cX0_begin 19 = .ok (.invokevirtual 261, 3) := dk_182 1 5 (dk_at dksX0_begin_0 19 rfl rfl)
theorem dX0_begin_22 : decode cX0_begin 22 = .ok (.iinc 1 1, 3) := dk_132 1 1 (dk_at dksX0_begin_1 0 rfl rfl)
theorem dX0_begin_25 : decode cX0_begin 25 = .ok (.goto (-18), 3) := dk_167 255 238 (dk_at dksX0_begin_1 3 rfl rfl)
theorem dX0_begin_28 : decode cX0_begin 28 = .ok (.aload_n 0, 1) := dk_42 (dk_at dksX0_begin_1 6 rfl rfl)
theorem dX0_begin_29 : decode cX0_begin 29 = .ok (.iconst 0, 1) := dk_3 (dk_at dksX0_begin_1 7 rfl rfl)
theorem dX0_begin_30 : decode cX0_begin 30 = .ok (.putfield 262, 3) := dk_181 1 6 (dk_at dksX0_begin_1 8 rfl rfl)
theorem dX0_begin_33 : decode cX0_begin 33 = .ok (.aload_n 0, 1) := dk_42 (dk_at dksX0_begin_1 11 rfl rfl)
theorem dX0_begin_34 : decode cX0_begin 34 = .ok (.iconst 0, 1) := dk_3 (dk_at dksX0_begin_1 12 rfl rfl)
theorem dX0_begin_35 : decode cX0_begin 35 = .ok (.putfield 265, 3) := dk_181 1 9 (dk_at dksX0_begin_1 13 rfl rfl)
theorem dX0_begin_38 : decode cX0_begin 38 = .ok (.aload_n 0, 1) := dk_42 (dk_at dksX0_begin_1 16 rfl rfl)
theorem dX0_begin_39 : decode cX0_begin 39 = .ok (.iconst 0, 1) := dk_3 (dk_at dksX0_begin_1 17 rfl rfl)
theorem dX0_begin_40 : decode cX0_begin 40 = .ok (.putfield 268, 3) := dk_181 1 12 (dk_at dksX0_begin_1 18 rfl rfl)
theorem dX0_begin_43 : decode cX0_begin 43 = .ok (.aload_n 0, 1) := dk_42 (dk_at dksX0_begin_1 21 rfl rfl)
theorem dX0_begin_44 : decode cX0_begin 44 = .ok (.iconst 0, 1) := dk_3 (dk_at dksX0_begin_1 22 rfl rfl)
theorem dX0_begin_45 : decode cX0_begin 45 = .ok (.putfield 271, 3) := dk_181 1 15 (dk_at dksX0_begin_2 0 rfl rfl)
theorem dX0_begin_48 : decode cX0_begin 48 = .ok (.aload_n 0, 1) := dk_42 (dk_at dksX0_begin_2 3 rfl rfl)
theorem dX0_begin_49 : decode cX0_begin 49 = .ok (.iconst 0, 1) := dk_3 (dk_at dksX0_begin_2 4 rfl rfl)
theorem dX0_begin_50 : decode cX0_begin 50 = .ok (.putfield 274, 3) := dk_181 1 18 (dk_at dksX0_begin_2 5 rfl rfl)
theorem dX0_begin_53 : decode cX0_begin 53 = .ok (.aload_n 0, 1) := dk_42 (dk_at dksX0_begin_2 8 rfl rfl)
theorem dX0_begin_54 : decode cX0_begin 54 = .ok (.iconst 0, 1) := dk_3 (dk_at dksX0_begin_2 9 rfl rfl)
theorem dX0_begin_55 : decode cX0_begin 55 = .ok (.putfield 277, 3) := dk_181 1 21 (dk_at dksX0_begin_2 10 rfl rfl)
theorem dX0_begin_58 : decode cX0_begin 58 = .ok (.aload_n 0, 1) := dk_42 (dk_at dksX0_begin_2 13 rfl rfl)
theorem dX0_begin_59 : decode cX0_begin 59 = .ok (.getfield 72, 3) := dk_180 0 72 (dk_at dksX0_begin_2 14 rfl rfl)
theorem dX0_begin_62 : decode cX0_begin 62 = .ok (.iconst 0, 1) := dk_3 (dk_at dksX0_begin_2 17 rfl rfl)
theorem dX0_begin_63 : decode cX0_begin 63 = .ok (.invokestatic 280, 3) := dk_184 1 24 (dk_at dksX0_begin_2 18 rfl rfl)
theorem dX0_begin_66 : decode cX0_begin 66 = .ok (.aload_n 0, 1) := dk_42 (dk_at dksX0_begin_2 21 rfl rfl)
theorem dX0_begin_67 : decode cX0_begin 67 = .ok (.getfield 86, 3) := dk_180 0 86 (dk_at dksX0_begin_3 0 rfl rfl)
theorem dX0_begin_70 : decode cX0_begin 70 = .ok (.iconst (-1), 1) := dk_2 (dk_at dksX0_begin_3 3 rfl rfl)
theorem dX0_begin_71 : decode cX0_begin 71 = .ok (.invokestatic 280, 3) := dk_184 1 24 (dk_at dksX0_begin_3 4 rfl rfl)
theorem dX0_begin_74 : decode cX0_begin 74 = .ok (.iconst 0, 1) := dk_3 (dk_at dksX0_begin_3 7 rfl rfl)
theorem dX0_begin_75 : decode cX0_begin 75 = .ok (.istore_n 1, 1) := dk_60 (dk_at dksX0_begin_3 8 rfl rfl)
theorem dX0_begin_76 : decode cX0_begin 76 = .ok (.iload_n 1, 1) := dk_27 (dk_at dksX0_begin_3 9 rfl rfl)
theorem dX0_begin_77 : decode cX0_begin 77 = .ok (.bipush 6, 2) := dk_16 6 (dk_at dksX0_begin_3 10 rfl rfl)
theorem dX0_begin_79 : decode cX0_begin 79 = .ok (.if_icmp .gt 18, 3) := dk_163 0 18 (dk_at dksX0_begin_3 12 rfl rfl)
theorem dX0_begin_82 : decode cX0_begin 82 = .ok (.aload_n 0, 1) := dk_42 (dk_at dksX0_begin_3 15 rfl rfl)
theorem dX0_begin_83 : decode cX0_begin 83 = .ok (.getfield 120, 3) := dk_180 0 120 (dk_at dksX0_begin_3 16 rfl rfl)
theorem dX0_begin_86 : decode cX0_begin 86 = .ok (.iload_n 1, 1) := dk_27 (dk_at dksX0_begin_3 19 rfl rfl)
theorem dX0_begin_87 : decode cX0_begin 87 = .ok (.aaload, 1) := dk_50 (dk_at dksX0_begin_3 20 rfl rfl)
theorem dX0_begin_88 : decode cX0_begin 88 = .ok (.invokevirtual 286, 3) := dk_182 1 30 (dk_at dksX0_begin_3 21 rfl rfl)
theorem dX0_begin_91 : decode cX0_begin 91 = .ok (.iinc 1 1, 3) := dk_132 1 1 (dk_at dksX0_begin_4 0 rfl rfl)
theorem dX0_begin_94 : decode cX0_begin 94 = .ok (.goto (-18), 3) := dk_167 255 238 (dk_at dksX0_begin_4 3 rfl rfl)
theorem dX0_begin_97 : decode cX0_begin 97 = .ok (.aload_n 0, 1) := dk_42 (dk_at dksX0_begin_4 6 rfl rfl)
theorem dX0_begin_98 : decode cX0_begin 98 = .ok (.iconst 0, 1) := dk_3 (dk_at dksX0_begin_4 7 rfl rfl)
theorem dX0_begin_99 : decode cX0_begin 99 = .ok (.putfield 287, 3) := dk_181 1 31 (dk_at dksX0_begin_4 8 rfl rfl)
theorem dX0_begin_102 : decode cX0_begin 102 = .ok (.aload_n 0, 1) := dk_42 (dk_at dksX0_begin_4 11 rfl rfl)
theorem dX0_begin_103 : decode cX0_begin 103 = .ok (.iconst 0, 1) := dk_3 (dk_at dksX0_begin_4 12 rfl rfl)
theorem dX0_begin_104 : decode cX0_begin 104 = .ok (.putfield 290, 3) := dk_181 1 34 (dk_at dksX0_begin_4 13 rfl rfl)
theorem dX0_begin_107 : decode cX0_begin 107 = .ok (.return_, 1) := dk_177 (dk_at dksX0_begin_4 16 rfl rfl)
abbrev cX0_days : ByteArray := prog_1_method_22_code
def yX0_days : MethodName := ⟨RX0, "days", "(I)I"⟩
def dkwX0_days_1 : List UInt8 := [180, 1, 37, 27, 46, 167, 0, 5, 16, 254, 172]
abbrev dktX0_days_1 : List UInt8 := dkwX0_days_1 ++ []
def dkwX0_days_0 : List UInt8 := [42, 180, 0, 237, 154, 0, 7, 2, 167, 0, 26, 27, 3, 6, 184, 0, 163, 153, 0, 15, 42, 180, 0, 42]
abbrev dktX0_days_0 : List UInt8 := dkwX0_days_0 ++ dktX0_days_1
theorem dksX0_days_0 : cX0_days.data.toList.drop 0 = dktX0_days_0 := by decide +kernel
theorem dksX0_days_1 : cX0_days.data.toList.drop 24 = dktX0_days_1 := dk_seg dksX0_days_0 24 rfl rfl
theorem dX0_days_0 : decode cX0_days 0 = .ok (.aload_n 0, 1) := dk_42 (dk_at dksX0_days_0 0 rfl rfl)
theorem dX0_days_1 : decode cX0_days 1 = .ok (.getfield 237, 3) := dk_180 0 237 (dk_at dksX0_days_0 1 rfl rfl)
theorem dX0_days_4 : decode cX0_days 4 = .ok (.ifCond .ne 7, 3) := dk_154 0 7 (dk_at dksX0_days_0 4 rfl rfl)
theorem dX0_days_7 : decode cX0_days 7 = .ok (.iconst (-1), 1) := dk_2 (dk_at dksX0_days_0 7 rfl rfl)
theorem dX0_days_8 : decode cX0_days 8 = .ok (.goto 26, 3) := dk_167 0 26 (dk_at dksX0_days_0 8 rfl rfl)
theorem dX0_days_11 : decode cX0_days 11 = .ok (.iload_n 1, 1) := dk_27 (dk_at dksX0_days_0 11 rfl rfl)
theorem dX0_days_12 : decode cX0_days 12 = .ok (.iconst 0, 1) := dk_3 (dk_at dksX0_days_0 12 rfl rfl)
theorem dX0_days_13 : decode cX0_days 13 = .ok (.iconst 3, 1) := dk_6 (dk_at dksX0_days_0 13 rfl rfl)
theorem dX0_days_14 : decode cX0_days 14 = .ok (.invokestatic 163, 3) := dk_184 0 163 (dk_at dksX0_days_0 14 rfl rfl)
theorem dX0_days_17 : decode cX0_days 17 = .ok (.ifCond .eq 15, 3) := dk_153 0 15 (dk_at dksX0_days_0 17 rfl rfl)
theorem dX0_days_20 : decode cX0_days 20 = .ok (.aload_n 0, 1) := dk_42 (dk_at dksX0_days_0 20 rfl rfl)
theorem dX0_days_21 : decode cX0_days 21 = .ok (.getfield 42, 3) := dk_180 0 42 (dk_at dksX0_days_0 21 rfl rfl)
theorem dX0_days_24 : decode cX0_days 24 = .ok (.getfield 293, 3) := dk_180 1 37 (dk_at dksX0_days_1 0 rfl rfl)
theorem dX0_days_27 : decode cX0_days 27 = .ok (.iload_n 1, 1) := dk_27 (dk_at dksX0_days_1 3 rfl rfl)
theorem dX0_days_28 : decode cX0_days 28 = .ok (.iaload, 1) := dk_46 (dk_at dksX0_days_1 4 rfl rfl)
theorem dX0_days_29 : decode cX0_days 29 = .ok (.goto 5, 3) := dk_167 0 5 (dk_at dksX0_days_1 5 rfl rfl)
theorem dX0_days_32 : decode cX0_days 32 = .ok (.bipush (-2), 2) := dk_16 254 (dk_at dksX0_days_1 8 rfl rfl)
theorem dX0_days_34 : decode cX0_days 34 = .ok (.ireturn, 1) := dk_172 (dk_at dksX0_days_1 10 rfl rfl)
abbrev cX0_contest : ByteArray := prog_1_method_24_code
def yX0_contest : MethodName := ⟨RX0, "contest", "(II)I"⟩
def dkwX0_contest_3 : List UInt8 := [27, 50, 180, 1, 61, 172, 42, 180, 0, 62, 27, 50, 182, 1, 64, 172, 16, 254, 172]
abbrev dktX0_contest_3 : List UInt8 := dkwX0_contest_3 ++ []
def dkwX0_contest_2 : List UInt8 := [45, 180, 1, 47, 172, 45, 180, 1, 52, 172, 45, 180, 1, 55, 172, 45, 180, 1, 58, 172, 42, 180, 0, 62]
abbrev dktX0_contest_2 : List UInt8 := dkwX0_contest_2 ++ dktX0_contest_3
def dkwX0_contest_1 : List UInt8 := [170, 0, 0, 0, 0, 0, 79, 0, 0, 0, 0, 0, 0, 0, 5, 0, 0, 0, 39, 0, 0, 0, 44, 0, 0, 0, 49, 0, 0, 0, 54, 0, 0, 0, 59, 0, 0, 0, 69]
abbrev dktX0_contest_1 : List UInt8 := dkwX0_contest_1 ++ dktX0_contest_2
def dkwX0_contest_0 : List UInt8 := [42, 27, 182, 1, 40, 154, 0, 5, 2, 172, 42, 180, 0, 42, 180, 1, 43, 27, 50, 78, 28]
abbrev dktX0_contest_0 : List UInt8 := dkwX0_contest_0 ++ dktX0_contest_1
theorem dksX0_contest_0 : cX0_contest.data.toList.drop 0 = dktX0_contest_0 := by decide +kernel
theorem dksX0_contest_1 : cX0_contest.data.toList.drop 21 = dktX0_contest_1 := dk_seg dksX0_contest_0 21 rfl rfl
theorem dksX0_contest_2 : cX0_contest.data.toList.drop 60 = dktX0_contest_2 := dk_seg dksX0_contest_1 39 rfl rfl
theorem dksX0_contest_3 : cX0_contest.data.toList.drop 84 = dktX0_contest_3 := dk_seg dksX0_contest_2 24 rfl rfl
theorem dX0_contest_0 : decode cX0_contest 0 = .ok (.aload_n 0, 1) := dk_42 (dk_at dksX0_contest_0 0 rfl rfl)
theorem dX0_contest_1 : decode cX0_contest 1 = .ok (.iload_n 1, 1) := dk_27 (dk_at dksX0_contest_0 1 rfl rfl)
theorem dX0_contest_2 : decode cX0_contest 2 = .ok (.invokevirtual 296, 3) := dk_182 1 40 (dk_at dksX0_contest_0 2 rfl rfl)
theorem dX0_contest_5 : decode cX0_contest 5 = .ok (.ifCond .ne 5, 3) := dk_154 0 5 (dk_at dksX0_contest_0 5 rfl rfl)
theorem dX0_contest_8 : decode cX0_contest 8 = .ok (.iconst (-1), 1) := dk_2 (dk_at dksX0_contest_0 8 rfl rfl)
theorem dX0_contest_9 : decode cX0_contest 9 = .ok (.ireturn, 1) := dk_172 (dk_at dksX0_contest_0 9 rfl rfl)
theorem dX0_contest_10 : decode cX0_contest 10 = .ok (.aload_n 0, 1) := dk_42 (dk_at dksX0_contest_0 10 rfl rfl)
theorem dX0_contest_11 : decode cX0_contest 11 = .ok (.getfield 42, 3) := dk_180 0 42 (dk_at dksX0_contest_0 11 rfl rfl)
theorem dX0_contest_14 : decode cX0_contest 14 = .ok (.getfield 299, 3) := dk_180 1 43 (dk_at dksX0_contest_0 14 rfl rfl)
theorem dX0_contest_17 : decode cX0_contest 17 = .ok (.iload_n 1, 1) := dk_27 (dk_at dksX0_contest_0 17 rfl rfl)
theorem dX0_contest_18 : decode cX0_contest 18 = .ok (.aaload, 1) := dk_50 (dk_at dksX0_contest_0 18 rfl rfl)
theorem dX0_contest_19 : decode cX0_contest 19 = .ok (.astore_n 3, 1) := dk_78 (dk_at dksX0_contest_0 19 rfl rfl)
theorem dX0_contest_20 : decode cX0_contest 20 = .ok (.iload_n 2, 1) := dk_28 (dk_at dksX0_contest_0 20 rfl rfl)
theorem dX0_contest_21 : decode cX0_contest 21 = .ok (.tableswitch 79 0 5 #[39, 44, 49, 54, 59, 69], 39) := by decide +kernel
theorem dX0_contest_60 : decode cX0_contest 60 = .ok (.aload_n 3, 1) := dk_45 (dk_at dksX0_contest_2 0 rfl rfl)
theorem dX0_contest_61 : decode cX0_contest 61 = .ok (.getfield 303, 3) := dk_180 1 47 (dk_at dksX0_contest_2 1 rfl rfl)
theorem dX0_contest_64 : decode cX0_contest 64 = .ok (.ireturn, 1) := dk_172 (dk_at dksX0_contest_2 4 rfl rfl)
theorem dX0_contest_65 : decode cX0_contest 65 = .ok (.aload_n 3, 1) := dk_45 (dk_at dksX0_contest_2 5 rfl rfl)
theorem dX0_contest_66 : decode cX0_contest 66 = .ok (.getfield 308, 3) := dk_180 1 52 (dk_at dksX0_contest_2 6 rfl rfl)
theorem dX0_contest_69 : decode cX0_contest 69 = .ok (.ireturn, 1) := dk_172 (dk_at dksX0_contest_2 9 rfl rfl)
theorem dX0_contest_70 : decode cX0_contest 70 = .ok (.aload_n 3, 1) := dk_45 (dk_at dksX0_contest_2 10 rfl rfl)
theorem dX0_contest_71 : decode cX0_contest 71 = .ok (.getfield 311, 3) := dk_180 1 55 (dk_at dksX0_contest_2 11 rfl rfl)
theorem dX0_contest_74 : decode cX0_contest 74 = .ok (.ireturn, 1) := dk_172 (dk_at dksX0_contest_2 14 rfl rfl)
theorem dX0_contest_75 : decode cX0_contest 75 = .ok (.aload_n 3, 1) := dk_45 (dk_at dksX0_contest_2 15 rfl rfl)
theorem dX0_contest_76 : decode cX0_contest 76 = .ok (.getfield 314, 3) := dk_180 1 58 (dk_at dksX0_contest_2 16 rfl rfl)
theorem dX0_contest_79 : decode cX0_contest 79 = .ok (.ireturn, 1) := dk_172 (dk_at dksX0_contest_2 19 rfl rfl)
theorem dX0_contest_80 : decode cX0_contest 80 = .ok (.aload_n 0, 1) := dk_42 (dk_at dksX0_contest_2 20 rfl rfl)
theorem dX0_contest_81 : decode cX0_contest 81 = .ok (.getfield 62, 3) := dk_180 0 62 (dk_at dksX0_contest_2 21 rfl rfl)
theorem dX0_contest_84 : decode cX0_contest 84 = .ok (.iload_n 1, 1) := dk_27 (dk_at dksX0_contest_3 0 rfl rfl)
theorem dX0_contest_85 : decode cX0_contest 85 = .ok (.aaload, 1) := dk_50 (dk_at dksX0_contest_3 1 rfl rfl)
theorem dX0_contest_86 : decode cX0_contest 86 = .ok (.getfield 317, 3) := dk_180 1 61 (dk_at dksX0_contest_3 2 rfl rfl)
theorem dX0_contest_89 : decode cX0_contest 89 = .ok (.ireturn, 1) := dk_172 (dk_at dksX0_contest_3 5 rfl rfl)
theorem dX0_contest_90 : decode cX0_contest 90 = .ok (.aload_n 0, 1) := dk_42 (dk_at dksX0_contest_3 6 rfl rfl)
theorem dX0_contest_91 : decode cX0_contest 91 = .ok (.getfield 62, 3) := dk_180 0 62 (dk_at dksX0_contest_3 7 rfl rfl)
theorem dX0_contest_94 : decode cX0_contest 94 = .ok (.iload_n 1, 1) := dk_27 (dk_at dksX0_contest_3 10 rfl rfl)
theorem dX0_contest_95 : decode cX0_contest 95 = .ok (.aaload, 1) := dk_50 (dk_at dksX0_contest_3 11 rfl rfl)
theorem dX0_contest_96 : decode cX0_contest 96 = .ok (.invokevirtual 320, 3) := dk_182 1 64 (dk_at dksX0_contest_3 12 rfl rfl)
theorem dX0_contest_99 : decode cX0_contest 99 = .ok (.ireturn, 1) := dk_172 (dk_at dksX0_contest_3 15 rfl rfl)
theorem dX0_contest_100 : decode cX0_contest 100 = .ok (.bipush (-2), 2) := dk_16 254 (dk_at dksX0_contest_3 16 rfl rfl)
theorem dX0_contest_102 : decode cX0_contest 102 = .ok (.ireturn, 1) := dk_172 (dk_at dksX0_contest_3 18 rfl rfl)
abbrev cX0_isContest : ByteArray := prog_1_method_23_code
def yX0_isContest : MethodName := ⟨RX0, "isContest", "(I)Z"⟩
def dkwX0_isContest_1 : List UInt8 := [4, 167, 0, 4, 3, 172]
abbrev dktX0_isContest_1 : List UInt8 := dkwX0_isContest_1 ++ []
def dkwX0_isContest_0 : List UInt8 := [42, 180, 0, 237, 153, 0, 24, 27, 3, 42, 180, 0, 42, 180, 1, 3, 4, 100, 184, 0, 163, 153, 0, 7]
abbrev dktX0_isContest_0 : List UInt8 := dkwX0_isContest_0 ++ dktX0_isContest_1
theorem dksX0_isContest_0 : cX0_isContest.data.toList.drop 0 = dktX0_isContest_0 := by decide +kernel
theorem dksX0_isContest_1 : cX0_isContest.data.toList.drop 24 = dktX0_isContest_1 := dk_seg dksX0_isContest_0 24 rfl rfl
theorem dX0_isContest_0 : decode cX0_isContest 0 = .ok (.aload_n 0, 1) := dk_42 (dk_at dksX0_isContest_0 0 rfl rfl)
theorem dX0_isContest_1 : decode cX0_isContest 1 = .ok (.getfield 237, 3) := dk_180 0 237 (dk_at dksX0_isContest_0 1 rfl rfl)
theorem dX0_isContest_4 : decode cX0_isContest 4 = .ok (.ifCond .eq 24, 3) := dk_153 0 24 (dk_at dksX0_isContest_0 4 rfl rfl)
theorem dX0_isContest_7 : decode cX0_isContest 7 = .ok (.iload_n 1, 1) := dk_27 (dk_at dksX0_isContest_0 7 rfl rfl)
theorem dX0_isContest_8 : decode cX0_isContest 8 = .ok (.iconst 0, 1) := dk_3 (dk_at dksX0_isContest_0 8 rfl rfl)
theorem dX0_isContest_9 : decode cX0_isContest 9 = .ok (.aload_n 0, 1) := dk_42 (dk_at dksX0_isContest_0 9 rfl rfl)
theorem dX0_isContest_10 : decode cX0_isContest 10 = .ok (.getfield 42, 3) := dk_180 0 42 (dk_at dksX0_isContest_0 10 rfl rfl)
theorem dX0_isContest_13 : decode cX0_isContest 13 = .ok (.getfield 259, 3) := dk_180 1 3 (dk_at dksX0_isContest_0 13 rfl rfl)
theorem dX0_isContest_16 : decode cX0_isContest 16 = .ok (.iconst 1, 1) := dk_4 (dk_at dksX0_isContest_0 16 rfl rfl)
theorem dX0_isContest_17 : decode cX0_isContest 17 = .ok (.isub, 1) := dk_100 (dk_at dksX0_isContest_0 17 rfl rfl)
theorem dX0_isContest_18 : decode cX0_isContest 18 = .ok (.invokestatic 163, 3) := dk_184 0 163 (dk_at dksX0_isContest_0 18 rfl rfl)
theorem dX0_isContest_21 : decode cX0_isContest 21 = .ok (.ifCond .eq 7, 3) := dk_153 0 7 (dk_at dksX0_isContest_0 21 rfl rfl)
theorem dX0_isContest_24 : decode cX0_isContest 24 = .ok (.iconst 1, 1) := dk_4 (dk_at dksX0_isContest_1 0 rfl rfl)
theorem dX0_isContest_25 : decode cX0_isContest 25 = .ok (.goto 4, 3) := dk_167 0 4 (dk_at dksX0_isContest_1 1 rfl rfl)
theorem dX0_isContest_28 : decode cX0_isContest 28 = .ok (.iconst 0, 1) := dk_3 (dk_at dksX0_isContest_1 4 rfl rfl)
theorem dX0_isContest_29 : decode cX0_isContest 29 = .ok (.ireturn, 1) := dk_172 (dk_at dksX0_isContest_1 5 rfl rfl)
abbrev cX0_may : ByteArray := prog_1_method_26_code
def yX0_may : MethodName := ⟨RX0, "may", "(II)I"⟩
def dkwX0_may_4 : List UInt8 := [181, 0, 49, 3, 172]
abbrev dktX0_may_4 : List UInt8 := dkwX0_may_4 ++ []
def dkwX0_may_3 : List UInt8 := [153, 0, 5, 4, 172, 42, 42, 180, 0, 42, 45, 42, 180, 0, 26, 27, 50, 42, 180, 0, 20, 182, 1, 79]
abbrev dktX0_may_3 : List UInt8 := dkwX0_may_3 ++ dktX0_may_4
def dkwX0_may_2 : List UInt8 := [180, 1, 76, 78, 42, 180, 0, 42, 45, 42, 180, 0, 26, 27, 50, 42, 180, 0, 20, 182, 1, 72]
abbrev dktX0_may_2 : List UInt8 := dkwX0_may_2 ++ dktX0_may_3
def dkwX0_may_1 : List UInt8 := [154, 0, 6, 16, 254, 172, 28, 154, 0, 13, 42, 180, 0, 42, 180, 1, 68, 167, 0, 10, 42, 180, 0, 42]
abbrev dktX0_may_1 : List UInt8 := dkwX0_may_1 ++ dktX0_may_2
def dkwX0_may_0 : List UInt8 := [42, 180, 0, 237, 153, 0, 11, 42, 27, 182, 0, 210, 154, 0, 5, 2, 172, 28, 3, 4, 184, 0, 163]
abbrev dktX0_may_0 : List UInt8 := dkwX0_may_0 ++ dktX0_may_1
theorem dksX0_may_0 : cX0_may.data.toList.drop 0 = dktX0_may_0 := by decide +kernel
theorem dksX0_may_1 : cX0_may.data.toList.drop 23 = dktX0_may_1 := dk_seg dksX0_may_0 23 rfl rfl
theorem dksX0_may_2 : cX0_may.data.toList.drop 47 = dktX0_may_2 := dk_seg dksX0_may_1 24 rfl rfl
theorem dksX0_may_3 : cX0_may.data.toList.drop 69 = dktX0_may_3 := dk_seg dksX0_may_2 22 rfl rfl
theorem dksX0_may_4 : cX0_may.data.toList.drop 93 = dktX0_may_4 := dk_seg dksX0_may_3 24 rfl rfl
theorem dX0_may_0 : decode cX0_may 0 = .ok (.aload_n 0, 1) := dk_42 (dk_at dksX0_may_0 0 rfl rfl)
theorem dX0_may_1 : decode cX0_may 1 = .ok (.getfield 237, 3) := dk_180 0 237 (dk_at dksX0_may_0 1 rfl rfl)
theorem dX0_may_4 : decode cX0_may 4 = .ok (.ifCond .eq 11, 3) := dk_153 0 11 (dk_at dksX0_may_0 4 rfl rfl)
theorem dX0_may_7 : decode cX0_may 7 = .ok (.aload_n 0, 1) := dk_42 (dk_at dksX0_may_0 7 rfl rfl)
theorem dX0_may_8 : decode cX0_may 8 = .ok (.iload_n 1, 1) := dk_27 (dk_at dksX0_may_0 8 rfl rfl)
theorem dX0_may_9 : decode cX0_may 9 = .ok (.invokevirtual 210, 3) := dk_182 0 210 (dk_at dksX0_may_0 9 rfl rfl)
theorem dX0_may_12 : decode cX0_may 12 = .ok (.ifCond .ne 5, 3) := dk_154 0 5 (dk_at dksX0_may_0 12 rfl rfl)
theorem dX0_may_15 : decode cX0_may 15 = .ok (.iconst (-1), 1) := dk_2 (dk_at dksX0_may_0 15 rfl rfl)
theorem dX0_may_16 : decode cX0_may 16 = .ok (.ireturn, 1) := dk_172 (dk_at dksX0_may_0 16 rfl rfl)
theorem dX0_may_17 : decode cX0_may 17 = .ok (.iload_n 2, 1) := dk_28 (dk_at dksX0_may_0 17 rfl rfl)
theorem dX0_may_18 : decode cX0_may 18 = .ok (.iconst 0, 1) := dk_3 (dk_at dksX0_may_0 18 rfl rfl)
theorem dX0_may_19 : decode cX0_may 19 = .ok (.iconst 1, 1) := dk_4 (dk_at dksX0_may_0 19 rfl rfl)
theorem dX0_may_20 : decode cX0_may 20 = .ok (.invokestatic 163, 3) := dk_184 0 163 (dk_at dksX0_may_0 20 rfl rfl)
theorem dX0_may_23 : decode cX0_may 23 = .ok (.ifCond .ne 6, 3) := dk_154 0 6 (dk_at dksX0_may_1 0 rfl rfl)
theorem dX0_may_26 : decode cX0_may 26 = .ok (.bipush (-2), 2) := dk_16 254 (dk_at dksX0_may_1 3 rfl rfl)
theorem dX0_may_28 : decode cX0_may 28 = .ok (.ireturn, 1) := dk_172 (dk_at dksX0_may_1 5 rfl rfl)
theorem dX0_may_29 : decode cX0_may 29 = .ok (.iload_n 2, 1) := dk_28 (dk_at dksX0_may_1 6 rfl rfl)
theorem dX0_may_30 : decode cX0_may 30 = .ok (.ifCond .ne 13, 3) := dk_154 0 13 (dk_at dksX0_may_1 7 rfl rfl)
theorem dX0_may_33 : decode cX0_may 33 = .ok (.aload_n 0, 1) := dk_42 (dk_at dksX0_may_1 10 rfl rfl)
theorem dX0_may_34 : decode cX0_may 34 = .ok (.getfield 42, 3) := dk_180 0 42 (dk_at dksX0_may_1 11 rfl rfl)
theorem dX0_may_37 : decode cX0_may 37 = .ok (.getfield 324, 3) := dk_180 1 68 (dk_at dksX0_may_1 14 rfl rfl)
theorem dX0_may_40 : decode cX0_may 40 = .ok (.goto 10, 3) := dk_167 0 10 (dk_at dksX0_may_1 17 rfl rfl)
theorem dX0_may_43 : decode cX0_may 43 = .ok (.aload_n 0, 1) := dk_42 (dk_at dksX0_may_1 20 rfl rfl)
theorem dX0_may_44 : decode cX0_may 44 = .ok (.getfield 42, 3) := dk_180 0 42 (dk_at dksX0_may_1 21 rfl rfl)
theorem dX0_may_47 : decode cX0_may 47 = .ok (.getfield 332, 3) := dk_180 1 76 (dk_at dksX0_may_2 0 rfl rfl)
theorem dX0_may_50 : decode cX0_may 50 = .ok (.astore_n 3, 1) := dk_78 (dk_at dksX0_may_2 3 rfl rfl)
theorem dX0_may_51 : decode cX0_may 51 = .ok (.aload_n 0, 1) := dk_42 (dk_at dksX0_may_2 4 rfl rfl)
theorem dX0_may_52 : decode cX0_may 52 = .ok (.getfield 42, 3) := dk_180 0 42 (dk_at dksX0_may_2 5 rfl rfl)
theorem dX0_may_55 : decode cX0_may 55 = .ok (.aload_n 3, 1) := dk_45 (dk_at dksX0_may_2 8 rfl rfl)
theorem dX0_may_56 : decode cX0_may 56 = .ok (.aload_n 0, 1) := dk_42 (dk_at dksX0_may_2 9 rfl rfl)
theorem dX0_may_57 : decode cX0_may 57 = .ok (.getfield 26, 3) := dk_180 0 26 (dk_at dksX0_may_2 10 rfl rfl)
theorem dX0_may_60 : decode cX0_may 60 = .ok (.iload_n 1, 1) := dk_27 (dk_at dksX0_may_2 13 rfl rfl)
theorem dX0_may_61 : decode cX0_may 61 = .ok (.aaload, 1) := dk_50 (dk_at dksX0_may_2 14 rfl rfl)
theorem dX0_may_62 : decode cX0_may 62 = .ok (.aload_n 0, 1) := dk_42 (dk_at dksX0_may_2 15 rfl rfl)
theorem dX0_may_63 : decode cX0_may 63 = .ok (.getfield 20, 3) := dk_180 0 20 (dk_at dksX0_may_2 16 rfl rfl)
theorem dX0_may_66 : decode cX0_may 66 = .ok (.invokevirtual 328, 3) := dk_182 1 72 (dk_at dksX0_may_2 19 rfl rfl)
theorem dX0_may_69 : decode cX0_may 69 = .ok (.ifCond .eq 5, 3) := dk_153 0 5 (dk_at dksX0_may_3 0 rfl rfl)
theorem dX0_may_72 : decode cX0_may 72 = .ok (.iconst 1, 1) := dk_4 (dk_at dksX0_may_3 3 rfl rfl)
theorem dX0_may_73 : decode cX0_may 73 = .ok (.ireturn, 1) := dk_172 (dk_at dksX0_may_3 4 rfl rfl)
theorem dX0_may_74 : decode cX0_may 74 = .ok (.aload_n 0, 1) := dk_42 (dk_at dksX0_may_3 5 rfl rfl)
theorem dX0_may_75 : decode cX0_may 75 = .ok (.aload_n 0, 1) := dk_42 (dk_at dksX0_may_3 6 rfl rfl)
theorem dX0_may_76 : decode cX0_may 76 = .ok (.getfield 42, 3) := dk_180 0 42 (dk_at dksX0_may_3 7 rfl rfl)
theorem dX0_may_79 : decode cX0_may 79 = .ok (.aload_n 3, 1) := dk_45 (dk_at dksX0_may_3 10 rfl rfl)
theorem dX0_may_80 : decode cX0_may 80 = .ok (.aload_n 0, 1) := dk_42 (dk_at dksX0_may_3 11 rfl rfl)
theorem dX0_may_81 : decode cX0_may 81 = .ok (.getfield 26, 3) := dk_180 0 26 (dk_at dksX0_may_3 12 rfl rfl)
theorem dX0_may_84 : decode cX0_may 84 = .ok (.iload_n 1, 1) := dk_27 (dk_at dksX0_may_3 15 rfl rfl)
theorem dX0_may_85 : decode cX0_may 85 = .ok (.aaload, 1) := dk_50 (dk_at dksX0_may_3 16 rfl rfl)
theorem dX0_may_86 : decode cX0_may 86 = .ok (.aload_n 0, 1) := dk_42 (dk_at dksX0_may_3 17 rfl rfl)
theorem dX0_may_87 : decode cX0_may 87 = .ok (.getfield 20, 3) := dk_180 0 20 (dk_at dksX0_may_3 18 rfl rfl)
theorem dX0_may_90 : decode cX0_may 90 = .ok (.invokevirtual 335, 3) := dk_182 1 79 (dk_at dksX0_may_3 21 rfl rfl)
theorem dX0_may_93 : decode cX0_may 93 = .ok (.putfield 49, 3) := dk_181 0 49 (dk_at dksX0_may_4 0 rfl rfl)
theorem dX0_may_96 : decode cX0_may 96 = .ok (.iconst 0, 1) := dk_3 (dk_at dksX0_may_4 3 rfl rfl)
theorem dX0_may_97 : decode cX0_may 97 = .ok (.ireturn, 1) := dk_172 (dk_at dksX0_may_4 4 rfl rfl)
abbrev cX0_place : ByteArray := prog_1_method_27_code
def yX0_place : MethodName := ⟨RX0, "place", "()I"⟩
theorem dX0_place_0 : decode cX0_place 0 = .ok (.aload_n 0, 1) := by decide +kernel
theorem dX0_place_1 : decode cX0_place 1 = .ok (.getfield 49, 3) := by decide +kernel
theorem dX0_place_4 : decode cX0_place 4 = .ok (.ireturn, 1) := by decide +kernel
abbrev cX0_stand : ByteArray := prog_1_method_28_code
def yX0_stand : MethodName := ⟨RX0, "stand", "(III)I"⟩
def dkwX0_stand_8 : List UInt8 := [96, 181, 1, 6, 42, 16, 8, 27, 28, 29, 3, 182, 0, 173, 42, 180, 1, 6, 4, 100, 172]
abbrev dktX0_stand_8 : List UInt8 := dkwX0_stand_8 ++ []
def dkwX0_stand_7 : List UInt8 := [180, 0, 68, 42, 180, 1, 6, 187, 0, 66, 89, 27, 28, 29, 183, 1, 92, 83, 42, 89, 180, 1, 6, 4]
abbrev dktX0_stand_7 : List UInt8 := dkwX0_stand_7 ++ dktX0_stand_8
def dkwX0_stand_6 : List UInt8 := [180, 1, 90, 25, 4, 180, 1, 89, 28, 79, 25, 4, 89, 180, 1, 89, 4, 96, 181, 1, 89, 42]
abbrev dktX0_stand_6 : List UInt8 := dkwX0_stand_6 ++ dktX0_stand_7
def dkwX0_stand_5 : List UInt8 := [182, 1, 86, 153, 0, 6, 16, 252, 172, 25, 4, 180, 1, 89, 16, 9, 160, 0, 6, 16, 251, 172, 25, 4]
abbrev dktX0_stand_5 : List UInt8 := dkwX0_stand_5 ++ dktX0_stand_6
def dkwX0_stand_4 : List UInt8 := [153, 0, 28, 42, 180, 0, 26, 28, 50, 42, 180, 0, 167, 182, 1, 83, 153, 0, 12, 25, 4, 28]
abbrev dktX0_stand_4 : List UInt8 := dkwX0_stand_4 ++ dktX0_stand_5
def dkwX0_stand_3 : List UInt8 := [180, 0, 42, 42, 180, 0, 42, 180, 1, 76, 42, 180, 0, 26, 28, 50, 42, 180, 0, 20, 182, 1, 72]
abbrev dktX0_stand_3 : List UInt8 := dkwX0_stand_3 ++ dktX0_stand_4
def dkwX0_stand_2 : List UInt8 := [163, 0, 10, 42, 180, 1, 9, 153, 0, 6, 16, 253, 172, 42, 180, 0, 62, 27, 50, 58, 4, 42]
abbrev dktX0_stand_2 : List UInt8 := dkwX0_stand_2 ++ dktX0_stand_3
def dkwX0_stand_1 : List UInt8 := [184, 0, 163, 154, 0, 6, 16, 254, 172, 42, 180, 0, 167, 42, 180, 0, 42, 180, 1, 37, 3, 46]
abbrev dktX0_stand_1 : List UInt8 := dkwX0_stand_1 ++ dktX0_stand_2
def dkwX0_stand_0 : List UInt8 := [42, 27, 182, 1, 40, 153, 0, 11, 42, 28, 182, 0, 210, 154, 0, 5, 2, 172, 29, 2, 16, 7]
abbrev dktX0_stand_0 : List UInt8 := dkwX0_stand_0 ++ dktX0_stand_1
theorem dksX0_stand_0 : cX0_stand.data.toList.drop 0 = dktX0_stand_0 := by decide +kernel
theorem dksX0_stand_1 : cX0_stand.data.toList.drop 22 = dktX0_stand_1 := dk_seg dksX0_stand_0 22 rfl rfl
theorem dksX0_stand_2 : cX0_stand.data.toList.drop 44 = dktX0_stand_2 := dk_seg dksX0_stand_1 22 rfl rfl
theorem dksX0_stand_3 : cX0_stand.data.toList.drop 66 = dktX0_stand_3 := dk_seg dksX0_stand_2 22 rfl rfl
theorem dksX0_stand_4 : cX0_stand.data.toList.drop 89 = dktX0_stand_4 := dk_seg dksX0_stand_3 23 rfl rfl
theorem dksX0_stand_5 : cX0_stand.data.toList.drop 111 = dktX0_stand_5 := dk_seg dksX0_stand_4 22 rfl rfl
theorem dksX0_stand_6 : cX0_stand.data.toList.drop 135 = dktX0_stand_6 := dk_seg dksX0_stand_5 24 rfl rfl
theorem dksX0_stand_7 : cX0_stand.data.toList.drop 157 = dktX0_stand_7 := dk_seg dksX0_stand_6 22 rfl rfl
theorem dksX0_stand_8 : cX0_stand.data.toList.drop 181 = dktX0_stand_8 := dk_seg dksX0_stand_7 24 rfl rfl
theorem dX0_stand_0 : decode cX0_stand 0 = .ok (.aload_n 0, 1) := dk_42 (dk_at dksX0_stand_0 0 rfl rfl)
theorem dX0_stand_1 : decode cX0_stand 1 = .ok (.iload_n 1, 1) := dk_27 (dk_at dksX0_stand_0 1 rfl rfl)
theorem dX0_stand_2 : decode cX0_stand 2 = .ok (.invokevirtual 296, 3) := dk_182 1 40 (dk_at dksX0_stand_0 2 rfl rfl)
theorem dX0_stand_5 : decode cX0_stand 5 = .ok (.ifCond .eq 11, 3) := dk_153 0 11 (dk_at dksX0_stand_0 5 rfl rfl)
theorem dX0_stand_8 : decode cX0_stand 8 = .ok (.aload_n 0, 1) := dk_42 (dk_at dksX0_stand_0 8 rfl rfl)
theorem dX0_stand_9 : decode cX0_stand 9 = .ok (.iload_n 2, 1) := dk_28 (dk_at dksX0_stand_0 9 rfl rfl)
theorem dX0_stand_10 : decode cX0_stand 10 = .ok (.invokevirtual 210, 3) := dk_182 0 210 (dk_at dksX0_stand_0 10 rfl rfl)
theorem dX0_stand_13 : decode cX0_stand 13 = .ok (.ifCond .ne 5, 3) := dk_154 0 5 (dk_at dksX0_stand_0 13 rfl rfl)
theorem dX0_stand_16 : decode cX0_stand 16 = .ok (.iconst (-1), 1) := dk_2 (dk_at dksX0_stand_0 16 rfl rfl)
theorem dX0_stand_17 : decode cX0_stand 17 = .ok (.ireturn, 1) := dk_172 (dk_at dksX0_stand_0 17 rfl rfl)
theorem dX0_stand_18 : decode cX0_stand 18 = .ok (.iload_n 3, 1) := dk_29 (dk_at dksX0_stand_0 18 rfl rfl)
theorem dX0_stand_19 : decode cX0_stand 19 = .ok (.iconst (-1), 1) := dk_2 (dk_at dksX0_stand_0 19 rfl rfl)
theorem dX0_stand_20 : decode cX0_stand 20 = .ok (.bipush 7, 2) := dk_16 7 (dk_at dksX0_stand_0 20 rfl rfl)
theorem dX0_stand_22 : decode cX0_stand 22 = .ok (.invokestatic 163, 3) := dk_184 0 163 (dk_at dksX0_stand_1 0 rfl rfl)
theorem dX0_stand_25 : decode cX0_stand 25 = .ok (.ifCond .ne 6, 3) := dk_154 0 6 (dk_at dksX0_stand_1 3 rfl rfl)
theorem dX0_stand_28 : decode cX0_stand 28 = .ok (.bipush (-2), 2) := dk_16 254 (dk_at dksX0_stand_1 6 rfl rfl)
theorem dX0_stand_30 : decode cX0_stand 30 = .ok (.ireturn, 1) := dk_172 (dk_at dksX0_stand_1 8 rfl rfl)
theorem dX0_stand_31 : decode cX0_stand 31 = .ok (.aload_n 0, 1) := dk_42 (dk_at dksX0_stand_1 9 rfl rfl)
theorem dX0_stand_32 : decode cX0_stand 32 = .ok (.getfield 167, 3) := dk_180 0 167 (dk_at dksX0_stand_1 10 rfl rfl)
theorem dX0_stand_35 : decode cX0_stand 35 = .ok (.aload_n 0, 1) := dk_42 (dk_at dksX0_stand_1 13 rfl rfl)
theorem dX0_stand_36 : decode cX0_stand 36 = .ok (.getfield 42, 3) := dk_180 0 42 (dk_at dksX0_stand_1 14 rfl rfl)
theorem dX0_stand_39 : decode cX0_stand 39 = .ok (.getfield 293, 3) := dk_180 1 37 (dk_at dksX0_stand_1 17 rfl rfl)
theorem dX0_stand_42 : decode cX0_stand 42 = .ok (.iconst 0, 1) := dk_3 (dk_at dksX0_stand_1 20 rfl rfl)
theorem dX0_stand_43 : decode cX0_stand 43 = .ok (.iaload, 1) := dk_46 (dk_at dksX0_stand_1 21 rfl rfl)
theorem dX0_stand_44 : decode cX0_stand 44 = .ok (.if_icmp .gt 10, 3) := dk_163 0 10 (dk_at dksX0_stand_2 0 rfl rfl)
theorem dX0_stand_47 : decode cX0_stand 47 = .ok (.aload_n 0, 1) := dk_42 (dk_at dksX0_stand_2 3 rfl rfl)
theorem dX0_stand_48 : decode cX0_stand 48 = .ok (.getfield 265, 3) := dk_180 1 9 (dk_at dksX0_stand_2 4 rfl rfl)
theorem dX0_stand_51 : decode cX0_stand 51 = .ok (.ifCond .eq 6, 3) := dk_153 0 6 (dk_at dksX0_stand_2 7 rfl rfl)
theorem dX0_stand_54 : decode cX0_stand 54 = .ok (.bipush (-3), 2) := dk_16 253 (dk_at dksX0_stand_2 10 rfl rfl)
theorem dX0_stand_56 : decode cX0_stand 56 = .ok (.ireturn, 1) := dk_172 (dk_at dksX0_stand_2 12 rfl rfl)
theorem dX0_stand_57 : decode cX0_stand 57 = .ok (.aload_n 0, 1) := dk_42 (dk_at dksX0_stand_2 13 rfl rfl)
theorem dX0_stand_58 : decode cX0_stand 58 = .ok (.getfield 62, 3) := dk_180 0 62 (dk_at dksX0_stand_2 14 rfl rfl)
theorem dX0_stand_61 : decode cX0_stand 61 = .ok (.iload_n 1, 1) := dk_27 (dk_at dksX0_stand_2 17 rfl rfl)
theorem dX0_stand_62 : decode cX0_stand 62 = .ok (.aaload, 1) := dk_50 (dk_at dksX0_stand_2 18 rfl rfl)
theorem dX0_stand_63 : decode cX0_stand 63 = .ok (.astore 4, 2) := dk_58 4 (dk_at dksX0_stand_2 19 rfl rfl)
theorem dX0_stand_65 : decode cX0_stand 65 = .ok (.aload_n 0, 1) := dk_42 (dk_at dksX0_stand_2 21 rfl rfl)
theorem dX0_stand_66 : decode cX0_stand 66 = .ok (.getfield 42, 3) := dk_180 0 42 (dk_at dksX0_stand_3 0 rfl rfl)
theorem dX0_stand_69 : decode cX0_stand 69 = .ok (.aload_n 0, 1) := dk_42 (dk_at dksX0_stand_3 3 rfl rfl)
theorem dX0_stand_70 : decode cX0_stand 70 = .ok (.getfield 42, 3) := dk_180 0 42 (dk_at dksX0_stand_3 4 rfl rfl)
theorem dX0_stand_73 : decode cX0_stand 73 = .ok (.getfield 332, 3) := dk_180 1 76 (dk_at dksX0_stand_3 7 rfl rfl)
theorem dX0_stand_76 : decode cX0_stand 76 = .ok (.aload_n 0, 1) := dk_42 (dk_at dksX0_stand_3 10 rfl rfl)
theorem dX0_stand_77 : decode cX0_stand 77 = .ok (.getfield 26, 3) := dk_180 0 26 (dk_at dksX0_stand_3 11 rfl rfl)
theorem dX0_stand_80 : decode cX0_stand 80 = .ok (.iload_n 2, 1) := dk_28 (dk_at dksX0_stand_3 14 rfl rfl)
theorem dX0_stand_81 : decode cX0_stand 81 = .ok (.aaload, 1) := dk_50 (dk_at dksX0_stand_3 15 rfl rfl)
theorem dX0_stand_82 : decode cX0_stand 82 = .ok (.aload_n 0, 1) := dk_42 (dk_at dksX0_stand_3 16 rfl rfl)
theorem dX0_stand_83 : decode cX0_stand 83 = .ok (.getfield 20, 3) := dk_180 0 20 (dk_at dksX0_stand_3 17 rfl rfl)
theorem dX0_stand_86 : decode cX0_stand 86 = .ok (.invokevirtual 328, 3) := dk_182 1 72 (dk_at dksX0_stand_3 20 rfl rfl)
theorem dX0_stand_89 : decode cX0_stand 89 = .ok (.ifCond .eq 28, 3) := dk_153 0 28 (dk_at dksX0_stand_4 0 rfl rfl)
theorem dX0_stand_92 : decode cX0_stand 92 = .ok (.aload_n 0, 1) := dk_42 (dk_at dksX0_stand_4 3 rfl rfl)
theorem dX0_stand_93 : decode cX0_stand 93 = .ok (.getfield 26, 3) := dk_180 0 26 (dk_at dksX0_stand_4 4 rfl rfl)
theorem dX0_stand_96 : decode cX0_stand 96 = .ok (.iload_n 2, 1) := dk_28 (dk_at dksX0_stand_4 7 rfl rfl)
theorem dX0_stand_97 : decode cX0_stand 97 = .ok (.aaload, 1) := dk_50 (dk_at dksX0_stand_4 8 rfl rfl)
theorem dX0_stand_98 : decode cX0_stand 98 = .ok (.aload_n 0, 1) := dk_42 (dk_at dksX0_stand_4 9 rfl rfl)
theorem dX0_stand_99 : decode cX0_stand 99 = .ok (.getfield 167, 3) := dk_180 0 167 (dk_at dksX0_stand_4 10 rfl rfl)
theorem dX0_stand_102 : decode cX0_stand 102 = .ok (.invokevirtual 339, 3) := dk_182 1 83 (dk_at dksX0_stand_4 13 rfl rfl)
theorem dX0_stand_105 : decode cX0_stand 105 = .ok (.ifCond .eq 12, 3) := dk_153 0 12 (dk_at dksX0_stand_4 16 rfl rfl)
theorem dX0_stand_108 : decode cX0_stand 108 = .ok (.aload 4, 2) := dk_25 4 (dk_at dksX0_stand_4 19 rfl rfl)
theorem dX0_stand_110 : decode cX0_stand 110 = .ok (.iload_n 2, 1) := dk_28 (dk_at dksX0_stand_4 21 rfl rfl)
theorem dX0_stand_111 : decode cX0_stand 111 = .ok (.invokevirtual 342, 3) := dk_182 1 86 (dk_at dksX0_stand_5 0 rfl rfl)
theorem dX0_stand_114 : decode cX0_stand 114 = .ok (.ifCond .eq 6, 3) := dk_153 0 6 (dk_at dksX0_stand_5 3 rfl rfl)
theorem dX0_stand_117 : decode cX0_stand 117 = .ok (.bipush (-4), 2) := dk_16 252 (dk_at dksX0_stand_5 6 rfl rfl)
theorem dX0_stand_119 : decode cX0_stand 119 = .ok (.ireturn, 1) := dk_172 (dk_at dksX0_stand_5 8 rfl rfl)
theorem dX0_stand_120 : decode cX0_stand 120 = .ok (.aload 4, 2) := dk_25 4 (dk_at dksX0_stand_5 9 rfl rfl)
theorem dX0_stand_122 : decode cX0_stand 122 = .ok (.getfield 345, 3) := dk_180 1 89 (dk_at dksX0_stand_5 11 rfl rfl)
theorem dX0_stand_125 : decode cX0_stand 125 = .ok (.bipush 9, 2) := dk_16 9 (dk_at dksX0_stand_5 14 rfl rfl)
theorem dX0_stand_127 : decode cX0_stand 127 = .ok (.if_icmp .ne 6, 3) := dk_160 0 6 (dk_at dksX0_stand_5 16 rfl rfl)
theorem dX0_stand_130 : decode cX0_stand 130 = .ok (.bipush (-5), 2) := dk_16 251 (dk_at dksX0_stand_5 19 rfl rfl)
theorem dX0_stand_132 : decode cX0_stand 132 = .ok (.ireturn, 1) := dk_172 (dk_at dksX0_stand_5 21 rfl rfl)
theorem dX0_stand_133 : decode cX0_stand 133 = .ok (.aload 4, 2) := dk_25 4 (dk_at dksX0_stand_5 22 rfl rfl)
theorem dX0_stand_135 : decode cX0_stand 135 = .ok (.getfield 346, 3) := dk_180 1 90 (dk_at dksX0_stand_6 0 rfl rfl)
theorem dX0_stand_138 : decode cX0_stand 138 = .ok (.aload 4, 2) := dk_25 4 (dk_at dksX0_stand_6 3 rfl rfl)
theorem dX0_stand_140 : decode cX0_stand 140 = .ok (.getfield 345, 3) := dk_180 1 89 (dk_at dksX0_stand_6 5 rfl rfl)
theorem dX0_stand_143 : decode cX0_stand 143 = .ok (.iload_n 2, 1) := dk_28 (dk_at dksX0_stand_6 8 rfl rfl)
theorem dX0_stand_144 : decode cX0_stand 144 = .ok (.iastore, 1) := dk_79 (dk_at dksX0_stand_6 9 rfl rfl)
theorem dX0_stand_145 : decode cX0_stand 145 = .ok (.aload 4, 2) := dk_25 4 (dk_at dksX0_stand_6 10 rfl rfl)
theorem dX0_stand_147 : decode cX0_stand 147 = .ok (.dup, 1) := dk_89 (dk_at dksX0_stand_6 12 rfl rfl)
theorem dX0_stand_148 : decode cX0_stand 148 = .ok (.getfield 345, 3) := dk_180 1 89 (dk_at dksX0_stand_6 13 rfl rfl)
theorem dX0_stand_151 : decode cX0_stand 151 = .ok (.iconst 1, 1) := dk_4 (dk_at dksX0_stand_6 16 rfl rfl)
theorem dX0_stand_152 : decode cX0_stand 152 = .ok (.iadd, 1) := dk_96 (dk_at dksX0_stand_6 17 rfl rfl)
theorem dX0_stand_153 : decode cX0_stand 153 = .ok (.putfield 345, 3) := dk_181 1 89 (dk_at dksX0_stand_6 18 rfl rfl)
theorem dX0_stand_156 : decode cX0_stand 156 = .ok (.aload_n 0, 1) := dk_42 (dk_at dksX0_stand_6 21 rfl rfl)
theorem dX0_stand_157 : decode cX0_stand 157 = .ok (.getfield 68, 3) := dk_180 0 68 (dk_at dksX0_stand_7 0 rfl rfl)
theorem dX0_stand_160 : decode cX0_stand 160 = .ok (.aload_n 0, 1) := dk_42 (dk_at dksX0_stand_7 3 rfl rfl)
theorem dX0_stand_161 : decode cX0_stand 161 = .ok (.getfield 262, 3) := dk_180 1 6 (dk_at dksX0_stand_7 4 rfl rfl)
theorem dX0_stand_164 : decode cX0_stand 164 = .ok (.new 66, 3) := dk_187 0 66 (dk_at dksX0_stand_7 7 rfl rfl)
theorem dX0_stand_167 : decode cX0_stand 167 = .ok (.dup, 1) := dk_89 (dk_at dksX0_stand_7 10 rfl rfl)
theorem dX0_stand_168 : decode cX0_stand 168 = .ok (.iload_n 1, 1) := dk_27 (dk_at dksX0_stand_7 11 rfl rfl)
theorem dX0_stand_169 : decode cX0_stand 169 = .ok (.iload_n 2, 1) := dk_28 (dk_at dksX0_stand_7 12 rfl rfl)
theorem dX0_stand_170 : decode cX0_stand 170 = .ok (.iload_n 3, 1) := dk_29 (dk_at dksX0_stand_7 13 rfl rfl)
theorem dX0_stand_171 : decode cX0_stand 171 = .ok (.invokespecial 348, 3) := dk_183 1 92 (dk_at dksX0_stand_7 14 rfl rfl)
theorem dX0_stand_174 : decode cX0_stand 174 = .ok (.aastore, 1) := dk_83 (dk_at dksX0_stand_7 17 rfl rfl)
theorem dX0_stand_175 : decode cX0_stand 175 = .ok (.aload_n 0, 1) := dk_42 (dk_at dksX0_stand_7 18 rfl rfl)
theorem dX0_stand_176 : decode cX0_stand 176 = .ok (.dup, 1) := dk_89 (dk_at dksX0_stand_7 19 rfl rfl)
theorem dX0_stand_177 : decode cX0_stand 177 = .ok (.getfield 262, 3) := dk_180 1 6 (dk_at dksX0_stand_7 20 rfl rfl)
theorem dX0_stand_180 : decode cX0_stand 180 = .ok (.iconst 1, 1) := dk_4 (dk_at dksX0_stand_7 23 rfl rfl)
theorem dX0_stand_181 : decode cX0_stand 181 = .ok (.iadd, 1) := dk_96 (dk_at dksX0_stand_8 0 rfl rfl)
theorem dX0_stand_182 : decode cX0_stand 182 = .ok (.putfield 262, 3) := dk_181 1 6 (dk_at dksX0_stand_8 1 rfl rfl)
theorem dX0_stand_185 : decode cX0_stand 185 = .ok (.aload_n 0, 1) := dk_42 (dk_at dksX0_stand_8 4 rfl rfl)
theorem dX0_stand_186 : decode cX0_stand 186 = .ok (.bipush 8, 2) := dk_16 8 (dk_at dksX0_stand_8 5 rfl rfl)
theorem dX0_stand_188 : decode cX0_stand 188 = .ok (.iload_n 1, 1) := dk_27 (dk_at dksX0_stand_8 7 rfl rfl)
theorem dX0_stand_189 : decode cX0_stand 189 = .ok (.iload_n 2, 1) := dk_28 (dk_at dksX0_stand_8 8 rfl rfl)
theorem dX0_stand_190 : decode cX0_stand 190 = .ok (.iload_n 3, 1) := dk_29 (dk_at dksX0_stand_8 9 rfl rfl)
theorem dX0_stand_191 : decode cX0_stand 191 = .ok (.iconst 0, 1) := dk_3 (dk_at dksX0_stand_8 10 rfl rfl)
theorem dX0_stand_192 : decode cX0_stand 192 = .ok (.invokevirtual 173, 3) := dk_182 0 173 (dk_at dksX0_stand_8 11 rfl rfl)
theorem dX0_stand_195 : decode cX0_stand 195 = .ok (.aload_n 0, 1) := dk_42 (dk_at dksX0_stand_8 14 rfl rfl)
theorem dX0_stand_196 : decode cX0_stand 196 = .ok (.getfield 262, 3) := dk_180 1 6 (dk_at dksX0_stand_8 15 rfl rfl)
theorem dX0_stand_199 : decode cX0_stand 199 = .ok (.iconst 1, 1) := dk_4 (dk_at dksX0_stand_8 18 rfl rfl)
theorem dX0_stand_200 : decode cX0_stand 200 = .ok (.isub, 1) := dk_100 (dk_at dksX0_stand_8 19 rfl rfl)
theorem dX0_stand_201 : decode cX0_stand 201 = .ok (.ireturn, 1) := dk_172 (dk_at dksX0_stand_8 20 rfl rfl)
abbrev cX0_sign : ByteArray := prog_1_method_30_code
def yX0_sign : MethodName := ⟨RX0, "sign", "(II)I"⟩
def dkwX0_sign_9 : List UInt8 := [3, 182, 0, 173, 45, 180, 1, 115, 172]
abbrev dktX0_sign_9 : List UInt8 := dkwX0_sign_9 ++ []
def dkwX0_sign_8 : List UInt8 := [180, 1, 115, 4, 96, 181, 1, 115, 42, 180, 0, 72, 28, 92, 46, 4, 96, 79, 42, 16, 9, 27, 28, 3]
abbrev dktX0_sign_8 : List UInt8 := dkwX0_sign_8 ++ dktX0_sign_9
def dkwX0_sign_7 : List UInt8 := [180, 1, 112, 160, 0, 6, 16, 252, 172, 45, 89, 180, 1, 108, 10, 28, 121, 129, 181, 1, 108, 45, 89]
abbrev dktX0_sign_7 : List UInt8 := dkwX0_sign_7 ++ dktX0_sign_8
def dkwX0_sign_6 : List UInt8 := [180, 1, 108, 28, 123, 10, 127, 10, 148, 153, 0, 19, 42, 180, 0, 72, 28, 46, 42, 180, 0, 42]
abbrev dktX0_sign_6 : List UInt8 := dkwX0_sign_6 ++ dktX0_sign_7
def dkwX0_sign_5 : List UInt8 := [180, 0, 167, 182, 1, 105, 153, 0, 7, 4, 167, 0, 4, 3, 54, 5, 21, 5, 153, 0, 32, 45]
abbrev dktX0_sign_5 : List UInt8 := dkwX0_sign_5 ++ dktX0_sign_6
def dkwX0_sign_4 : List UInt8 := [180, 0, 42, 180, 1, 43, 45, 180, 1, 102, 50, 180, 1, 47, 25, 4, 42, 180, 0, 167, 182, 0, 247, 42]
abbrev dktX0_sign_4 : List UInt8 := dkwX0_sign_4 ++ dktX0_sign_5
def dkwX0_sign_3 : List UInt8 := [180, 0, 167, 182, 1, 83, 153, 0, 53, 42, 28, 182, 1, 99, 153, 0, 45, 42, 180, 0, 20, 42]
abbrev dktX0_sign_3 : List UInt8 := dkwX0_sign_3 ++ dktX0_sign_4
def dkwX0_sign_2 : List UInt8 := [180, 0, 68, 27, 50, 78, 42, 180, 0, 26, 28, 50, 58, 4, 45, 180, 1, 96, 154, 0, 65, 25, 4, 42]
abbrev dktX0_sign_2 : List UInt8 := dkwX0_sign_2 ++ dktX0_sign_3
def dkwX0_sign_1 : List UInt8 := [180, 0, 42, 180, 1, 37, 3, 46, 163, 0, 10, 42, 180, 1, 9, 153, 0, 6, 16, 253, 172, 42]
abbrev dktX0_sign_1 : List UInt8 := dkwX0_sign_1 ++ dktX0_sign_2
def dkwX0_sign_0 : List UInt8 := [42, 27, 182, 1, 93, 153, 0, 11, 42, 28, 182, 0, 210, 154, 0, 5, 2, 172, 42, 180, 0, 167, 42]
abbrev dktX0_sign_0 : List UInt8 := dkwX0_sign_0 ++ dktX0_sign_1
theorem dksX0_sign_0 : cX0_sign.data.toList.drop 0 = dktX0_sign_0 := by decide +kernel
theorem dksX0_sign_1 : cX0_sign.data.toList.drop 23 = dktX0_sign_1 := dk_seg dksX0_sign_0 23 rfl rfl
theorem dksX0_sign_2 : cX0_sign.data.toList.drop 45 = dktX0_sign_2 := dk_seg dksX0_sign_1 22 rfl rfl
theorem dksX0_sign_3 : cX0_sign.data.toList.drop 69 = dktX0_sign_3 := dk_seg dksX0_sign_2 24 rfl rfl
theorem dksX0_sign_4 : cX0_sign.data.toList.drop 91 = dktX0_sign_4 := dk_seg dksX0_sign_3 22 rfl rfl
theorem dksX0_sign_5 : cX0_sign.data.toList.drop 115 = dktX0_sign_5 := dk_seg dksX0_sign_4 24 rfl rfl
theorem dksX0_sign_6 : cX0_sign.data.toList.drop 137 = dktX0_sign_6 := dk_seg dksX0_sign_5 22 rfl rfl
theorem dksX0_sign_7 : cX0_sign.data.toList.drop 159 = dktX0_sign_7 := dk_seg dksX0_sign_6 22 rfl rfl
theorem dksX0_sign_8 : cX0_sign.data.toList.drop 182 = dktX0_sign_8 := dk_seg dksX0_sign_7 23 rfl rfl
theorem dksX0_sign_9 : cX0_sign.data.toList.drop 206 = dktX0_sign_9 := dk_seg dksX0_sign_8 24 rfl rfl
theorem dX0_sign_0 : decode cX0_sign 0 = .ok (.aload_n 0, 1) := dk_42 (dk_at dksX0_sign_0 0 rfl rfl)
theorem dX0_sign_1 : decode cX0_sign 1 = .ok (.iload_n 1, 1) := dk_27 (dk_at dksX0_sign_0 1 rfl rfl)
theorem dX0_sign_2 : decode cX0_sign 2 = .ok (.invokevirtual 349, 3) := dk_182 1 93 (dk_at dksX0_sign_0 2 rfl rfl)
theorem dX0_sign_5 : decode cX0_sign 5 = .ok (.ifCond .eq 11, 3) := dk_153 0 11 (dk_at dksX0_sign_0 5 rfl rfl)
theorem dX0_sign_8 : decode cX0_sign 8 = .ok (.aload_n 0, 1) := dk_42 (dk_at dksX0_sign_0 8 rfl rfl)
theorem dX0_sign_9 : decode cX0_sign 9 = .ok (.iload_n 2, 1) := dk_28 (dk_at dksX0_sign_0 9 rfl rfl)
theorem dX0_sign_10 : decode cX0_sign 10 = .ok (.invokevirtual 210, 3) := dk_182 0 210 (dk_at dksX0_sign_0 10 rfl rfl)
theorem dX0_sign_13 : decode cX0_sign 13 = .ok (.ifCond .ne 5, 3) := dk_154 0 5 (dk_at dksX0_sign_0 13 rfl rfl)
theorem dX0_sign_16 : decode cX0_sign 16 = .ok (.iconst (-1), 1) := dk_2 (dk_at dksX0_sign_0 16 rfl rfl)
theorem dX0_sign_17 : decode cX0_sign 17 = .ok (.ireturn, 1) := dk_172 (dk_at dksX0_sign_0 17 rfl rfl)
theorem dX0_sign_18 : decode cX0_sign 18 = .ok (.aload_n 0, 1) := dk_42 (dk_at dksX0_sign_0 18 rfl rfl)
theorem dX0_sign_19 : decode cX0_sign 19 = .ok (.getfield 167, 3) := dk_180 0 167 (dk_at dksX0_sign_0 19 rfl rfl)
theorem dX0_sign_22 : decode cX0_sign 22 = .ok (.aload_n 0, 1) := dk_42 (dk_at dksX0_sign_0 22 rfl rfl)
theorem dX0_sign_23 : decode cX0_sign 23 = .ok (.getfield 42, 3) := dk_180 0 42 (dk_at dksX0_sign_1 0 rfl rfl)
theorem dX0_sign_26 : decode cX0_sign 26 = .ok (.getfield 293, 3) := dk_180 1 37 (dk_at dksX0_sign_1 3 rfl rfl)
theorem dX0_sign_29 : decode cX0_sign 29 = .ok (.iconst 0, 1) := dk_3 (dk_at dksX0_sign_1 6 rfl rfl)
theorem dX0_sign_30 : decode cX0_sign 30 = .ok (.iaload, 1) := dk_46 (dk_at dksX0_sign_1 7 rfl rfl)
theorem dX0_sign_31 : decode cX0_sign 31 = .ok (.if_icmp .gt 10, 3) := dk_163 0 10 (dk_at dksX0_sign_1 8 rfl rfl)
theorem dX0_sign_34 : decode cX0_sign 34 = .ok (.aload_n 0, 1) := dk_42 (dk_at dksX0_sign_1 11 rfl rfl)
theorem dX0_sign_35 : decode cX0_sign 35 = .ok (.getfield 265, 3) := dk_180 1 9 (dk_at dksX0_sign_1 12 rfl rfl)
theorem dX0_sign_38 : decode cX0_sign 38 = .ok (.ifCond .eq 6, 3) := dk_153 0 6 (dk_at dksX0_sign_1 15 rfl rfl)
theorem dX0_sign_41 : decode cX0_sign 41 = .ok (.bipush (-3), 2) := dk_16 253 (dk_at dksX0_sign_1 18 rfl rfl)
theorem dX0_sign_43 : decode cX0_sign 43 = .ok (.ireturn, 1) := dk_172 (dk_at dksX0_sign_1 20 rfl rfl)
theorem dX0_sign_44 : decode cX0_sign 44 = .ok (.aload_n 0, 1) := dk_42 (dk_at dksX0_sign_1 21 rfl rfl)
theorem dX0_sign_45 : decode cX0_sign 45 = .ok (.getfield 68, 3) := dk_180 0 68 (dk_at dksX0_sign_2 0 rfl rfl)
theorem dX0_sign_48 : decode cX0_sign 48 = .ok (.iload_n 1, 1) := dk_27 (dk_at dksX0_sign_2 3 rfl rfl)
theorem dX0_sign_49 : decode cX0_sign 49 = .ok (.aaload, 1) := dk_50 (dk_at dksX0_sign_2 4 rfl rfl)
theorem dX0_sign_50 : decode cX0_sign 50 = .ok (.astore_n 3, 1) := dk_78 (dk_at dksX0_sign_2 5 rfl rfl)
theorem dX0_sign_51 : decode cX0_sign 51 = .ok (.aload_n 0, 1) := dk_42 (dk_at dksX0_sign_2 6 rfl rfl)
theorem dX0_sign_52 : decode cX0_sign 52 = .ok (.getfield 26, 3) := dk_180 0 26 (dk_at dksX0_sign_2 7 rfl rfl)
theorem dX0_sign_55 : decode cX0_sign 55 = .ok (.iload_n 2, 1) := dk_28 (dk_at dksX0_sign_2 10 rfl rfl)
theorem dX0_sign_56 : decode cX0_sign 56 = .ok (.aaload, 1) := dk_50 (dk_at dksX0_sign_2 11 rfl rfl)
theorem dX0_sign_57 : decode cX0_sign 57 = .ok (.astore 4, 2) := dk_58 4 (dk_at dksX0_sign_2 12 rfl rfl)
theorem dX0_sign_59 : decode cX0_sign 59 = .ok (.aload_n 3, 1) := dk_45 (dk_at dksX0_sign_2 14 rfl rfl)
theorem dX0_sign_60 : decode cX0_sign 60 = .ok (.getfield 352, 3) := dk_180 1 96 (dk_at dksX0_sign_2 15 rfl rfl)
theorem dX0_sign_63 : decode cX0_sign 63 = .ok (.ifCond .ne 65, 3) := dk_154 0 65 (dk_at dksX0_sign_2 18 rfl rfl)
theorem dX0_sign_66 : decode cX0_sign 66 = .ok (.aload 4, 2) := dk_25 4 (dk_at dksX0_sign_2 21 rfl rfl)
theorem dX0_sign_68 : decode cX0_sign 68 = .ok (.aload_n 0, 1) := dk_42 (dk_at dksX0_sign_2 23 rfl rfl)
theorem dX0_sign_69 : decode cX0_sign 69 = .ok (.getfield 167, 3) := dk_180 0 167 (dk_at dksX0_sign_3 0 rfl rfl)
theorem dX0_sign_72 : decode cX0_sign 72 = .ok (.invokevirtual 339, 3) := dk_182 1 83 (dk_at dksX0_sign_3 3 rfl rfl)
theorem dX0_sign_75 : decode cX0_sign 75 = .ok (.ifCond .eq 53, 3) := dk_153 0 53 (dk_at dksX0_sign_3 6 rfl rfl)
theorem dX0_sign_78 : decode cX0_sign 78 = .ok (.aload_n 0, 1) := dk_42 (dk_at dksX0_sign_3 9 rfl rfl)
theorem dX0_sign_79 : decode cX0_sign 79 = .ok (.iload_n 2, 1) := dk_28 (dk_at dksX0_sign_3 10 rfl rfl)
theorem dX0_sign_80 : decode cX0_sign 80 = .ok (.invokevirtual 355, 3) := dk_182 1 99 (dk_at dksX0_sign_3 11 rfl rfl)
theorem dX0_sign_83 : decode cX0_sign 83 = .ok (.ifCond .eq 45, 3) := dk_153 0 45 (dk_at dksX0_sign_3 14 rfl rfl)
theorem dX0_sign_86 : decode cX0_sign 86 = .ok (.aload_n 0, 1) := dk_42 (dk_at dksX0_sign_3 17 rfl rfl)
theorem dX0_sign_87 : decode cX0_sign 87 = .ok (.getfield 20, 3) := dk_180 0 20 (dk_at dksX0_sign_3 18 rfl rfl)
theorem dX0_sign_90 : decode cX0_sign 90 = .ok (.aload_n 0, 1) := dk_42 (dk_at dksX0_sign_3 21 rfl rfl)
theorem dX0_sign_91 : decode cX0_sign 91 = .ok (.getfield 42, 3) := dk_180 0 42 (dk_at dksX0_sign_4 0 rfl rfl)
theorem dX0_sign_94 : decode cX0_sign 94 = .ok (.getfield 299, 3) := dk_180 1 43 (dk_at dksX0_sign_4 3 rfl rfl)
theorem dX0_sign_97 : decode cX0_sign 97 = .ok (.aload_n 3, 1) := dk_45 (dk_at dksX0_sign_4 6 rfl rfl)
theorem dX0_sign_98 : decode cX0_sign 98 = .ok (.getfield 358, 3) := dk_180 1 102 (dk_at dksX0_sign_4 7 rfl rfl)
theorem dX0_sign_101 : decode cX0_sign 101 = .ok (.aaload, 1) := dk_50 (dk_at dksX0_sign_4 10 rfl rfl)
theorem dX0_sign_102 : decode cX0_sign 102 = .ok (.getfield 303, 3) := dk_180 1 47 (dk_at dksX0_sign_4 11 rfl rfl)
theorem dX0_sign_105 : decode cX0_sign 105 = .ok (.aload 4, 2) := dk_25 4 (dk_at dksX0_sign_4 14 rfl rfl)
theorem dX0_sign_107 : decode cX0_sign 107 = .ok (.aload_n 0, 1) := dk_42 (dk_at dksX0_sign_4 16 rfl rfl)
theorem dX0_sign_108 : decode cX0_sign 108 = .ok (.getfield 167, 3) := dk_180 0 167 (dk_at dksX0_sign_4 17 rfl rfl)
theorem dX0_sign_111 : decode cX0_sign 111 = .ok (.invokevirtual 247, 3) := dk_182 0 247 (dk_at dksX0_sign_4 20 rfl rfl)
theorem dX0_sign_114 : decode cX0_sign 114 = .ok (.aload_n 0, 1) := dk_42 (dk_at dksX0_sign_4 23 rfl rfl)
theorem dX0_sign_115 : decode cX0_sign 115 = .ok (.getfield 167, 3) := dk_180 0 167 (dk_at dksX0_sign_5 0 rfl rfl)
theorem dX0_sign_118 : decode cX0_sign 118 = .ok (.invokevirtual 361, 3) := dk_182 1 105 (dk_at dksX0_sign_5 3 rfl rfl)
theorem dX0_sign_121 : decode cX0_sign 121 = .ok (.ifCond .eq 7, 3) := dk_153 0 7 (dk_at dksX0_sign_5 6 rfl rfl)
theorem dX0_sign_124 : decode cX0_sign 124 = .ok (.iconst 1, 1) := dk_4 (dk_at dksX0_sign_5 9 rfl rfl)
theorem dX0_sign_125 : decode cX0_sign 125 = .ok (.goto 4, 3) := dk_167 0 4 (dk_at dksX0_sign_5 10 rfl rfl)
theorem dX0_sign_128 : decode cX0_sign 128 = .ok (.iconst 0, 1) := dk_3 (dk_at dksX0_sign_5 13 rfl rfl)
theorem dX0_sign_129 : decode cX0_sign 129 = .ok (.istore 5, 2) := dk_54 5 (dk_at dksX0_sign_5 14 rfl rfl)
theorem dX0_sign_131 : decode cX0_sign 131 = .ok (.iload 5, 2) := dk_21 5 (dk_at dksX0_sign_5 16 rfl rfl)
theorem dX0_sign_133 : decode cX0_sign 133 = .ok (.ifCond .eq 32, 3) := dk_153 0 32 (dk_at dksX0_sign_5 18 rfl rfl)
theorem dX0_sign_136 : decode cX0_sign 136 = .ok (.aload_n 3, 1) := dk_45 (dk_at dksX0_sign_5 21 rfl rfl)
theorem dX0_sign_137 : decode cX0_sign 137 = .ok (.getfield 364, 3) := dk_180 1 108 (dk_at dksX0_sign_6 0 rfl rfl)
theorem dX0_sign_140 : decode cX0_sign 140 = .ok (.iload_n 2, 1) := dk_28 (dk_at dksX0_sign_6 3 rfl rfl)
theorem dX0_sign_141 : decode cX0_sign 141 = .ok (.lshr, 1) := dk_123 (dk_at dksX0_sign_6 4 rfl rfl)
theorem dX0_sign_142 : decode cX0_sign 142 = .ok (.lconst 1, 1) := dk_10 (dk_at dksX0_sign_6 5 rfl rfl)
theorem dX0_sign_143 : decode cX0_sign 143 = .ok (.land, 1) := dk_127 (dk_at dksX0_sign_6 6 rfl rfl)
theorem dX0_sign_144 : decode cX0_sign 144 = .ok (.lconst 1, 1) := dk_10 (dk_at dksX0_sign_6 7 rfl rfl)
theorem dX0_sign_145 : decode cX0_sign 145 = .ok (.lcmp, 1) := dk_148 (dk_at dksX0_sign_6 8 rfl rfl)
theorem dX0_sign_146 : decode cX0_sign 146 = .ok (.ifCond .eq 19, 3) := dk_153 0 19 (dk_at dksX0_sign_6 9 rfl rfl)
theorem dX0_sign_149 : decode cX0_sign 149 = .ok (.aload_n 0, 1) := dk_42 (dk_at dksX0_sign_6 12 rfl rfl)
theorem dX0_sign_150 : decode cX0_sign 150 = .ok (.getfield 72, 3) := dk_180 0 72 (dk_at dksX0_sign_6 13 rfl rfl)
theorem dX0_sign_153 : decode cX0_sign 153 = .ok (.iload_n 2, 1) := dk_28 (dk_at dksX0_sign_6 16 rfl rfl)
theorem dX0_sign_154 : decode cX0_sign 154 = .ok (.iaload, 1) := dk_46 (dk_at dksX0_sign_6 17 rfl rfl)
theorem dX0_sign_155 : decode cX0_sign 155 = .ok (.aload_n 0, 1) := dk_42 (dk_at dksX0_sign_6 18 rfl rfl)
theorem dX0_sign_156 : decode cX0_sign 156 = .ok (.getfield 42, 3) := dk_180 0 42 (dk_at dksX0_sign_6 19 rfl rfl)
theorem dX0_sign_159 : decode cX0_sign 159 = .ok (.getfield 368, 3) := dk_180 1 112 (dk_at dksX0_sign_7 0 rfl rfl)
theorem dX0_sign_162 : decode cX0_sign 162 = .ok (.if_icmp .ne 6, 3) := dk_160 0 6 (dk_at dksX0_sign_7 3 rfl rfl)
theorem dX0_sign_165 : decode cX0_sign 165 = .ok (.bipush (-4), 2) := dk_16 252 (dk_at dksX0_sign_7 6 rfl rfl)
theorem dX0_sign_167 : decode cX0_sign 167 = .ok (.ireturn, 1) := dk_172 (dk_at dksX0_sign_7 8 rfl rfl)
theorem dX0_sign_168 : decode cX0_sign 168 = .ok (.aload_n 3, 1) := dk_45 (dk_at dksX0_sign_7 9 rfl rfl)
theorem dX0_sign_169 : decode cX0_sign 169 = .ok (.dup, 1) := dk_89 (dk_at dksX0_sign_7 10 rfl rfl)
theorem dX0_sign_170 : decode cX0_sign 170 = .ok (.getfield 364, 3) := dk_180 1 108 (dk_at dksX0_sign_7 11 rfl rfl)
theorem dX0_sign_173 : decode cX0_sign 173 = .ok (.lconst 1, 1) := dk_10 (dk_at dksX0_sign_7 14 rfl rfl)
theorem dX0_sign_174 : decode cX0_sign 174 = .ok (.iload_n 2, 1) := dk_28 (dk_at dksX0_sign_7 15 rfl rfl)
theorem dX0_sign_175 : decode cX0_sign 175 = .ok (.lshl, 1) := dk_121 (dk_at dksX0_sign_7 16 rfl rfl)
theorem dX0_sign_176 : decode cX0_sign 176 = .ok (.lor, 1) := dk_129 (dk_at dksX0_sign_7 17 rfl rfl)
theorem dX0_sign_177 : decode cX0_sign 177 = .ok (.putfield 364, 3) := dk_181 1 108 (dk_at dksX0_sign_7 18 rfl rfl)
theorem dX0_sign_180 : decode cX0_sign 180 = .ok (.aload_n 3, 1) := dk_45 (dk_at dksX0_sign_7 21 rfl rfl)
theorem dX0_sign_181 : decode cX0_sign 181 = .ok (.dup, 1) := dk_89 (dk_at dksX0_sign_7 22 rfl rfl)
theorem dX0_sign_182 : decode cX0_sign 182 = .ok (.getfield 371, 3) := dk_180 1 115 (dk_at dksX0_sign_8 0 rfl rfl)
theorem dX0_sign_185 : decode cX0_sign 185 = .ok (.iconst 1, 1) := dk_4 (dk_at dksX0_sign_8 3 rfl rfl)
theorem dX0_sign_186 : decode cX0_sign 186 = .ok (.iadd, 1) := dk_96 (dk_at dksX0_sign_8 4 rfl rfl)
theorem dX0_sign_187 : decode cX0_sign 187 = .ok (.putfield 371, 3) := dk_181 1 115 (dk_at dksX0_sign_8 5 rfl rfl)
theorem dX0_sign_190 : decode cX0_sign 190 = .ok (.aload_n 0, 1) := dk_42 (dk_at dksX0_sign_8 8 rfl rfl)
theorem dX0_sign_191 : decode cX0_sign 191 = .ok (.getfield 72, 3) := dk_180 0 72 (dk_at dksX0_sign_8 9 rfl rfl)
theorem dX0_sign_194 : decode cX0_sign 194 = .ok (.iload_n 2, 1) := dk_28 (dk_at dksX0_sign_8 12 rfl rfl)
theorem dX0_sign_195 : decode cX0_sign 195 = .ok (.dup2, 1) := dk_92 (dk_at dksX0_sign_8 13 rfl rfl)
theorem dX0_sign_196 : decode cX0_sign 196 = .ok (.iaload, 1) := dk_46 (dk_at dksX0_sign_8 14 rfl rfl)
theorem dX0_sign_197 : decode cX0_sign 197 = .ok (.iconst 1, 1) := dk_4 (dk_at dksX0_sign_8 15 rfl rfl)
theorem dX0_sign_198 : decode cX0_sign 198 = .ok (.iadd, 1) := dk_96 (dk_at dksX0_sign_8 16 rfl rfl)
theorem dX0_sign_199 : decode cX0_sign 199 = .ok (.iastore, 1) := dk_79 (dk_at dksX0_sign_8 17 rfl rfl)
theorem dX0_sign_200 : decode cX0_sign 200 = .ok (.aload_n 0, 1) := dk_42 (dk_at dksX0_sign_8 18 rfl rfl)
theorem dX0_sign_201 : decode cX0_sign 201 = .ok (.bipush 9, 2) := dk_16 9 (dk_at dksX0_sign_8 19 rfl rfl)
theorem dX0_sign_203 : decode cX0_sign 203 = .ok (.iload_n 1, 1) := dk_27 (dk_at dksX0_sign_8 21 rfl rfl)
theorem dX0_sign_204 : decode cX0_sign 204 = .ok (.iload_n 2, 1) := dk_28 (dk_at dksX0_sign_8 22 rfl rfl)
theorem dX0_sign_205 : decode cX0_sign 205 = .ok (.iconst 0, 1) := dk_3 (dk_at dksX0_sign_8 23 rfl rfl)
theorem dX0_sign_206 : decode cX0_sign 206 = .ok (.iconst 0, 1) := dk_3 (dk_at dksX0_sign_9 0 rfl rfl)
theorem dX0_sign_207 : decode cX0_sign 207 = .ok (.invokevirtual 173, 3) := dk_182 0 173 (dk_at dksX0_sign_9 1 rfl rfl)
theorem dX0_sign_210 : decode cX0_sign 210 = .ok (.aload_n 3, 1) := dk_45 (dk_at dksX0_sign_9 4 rfl rfl)
theorem dX0_sign_211 : decode cX0_sign 211 = .ok (.getfield 371, 3) := dk_180 1 115 (dk_at dksX0_sign_9 5 rfl rfl)
theorem dX0_sign_214 : decode cX0_sign 214 = .ok (.ireturn, 1) := dk_172 (dk_at dksX0_sign_9 8 rfl rfl)
abbrev cX0_isNomination : ByteArray := prog_1_method_29_code
def yX0_isNomination : MethodName := ⟨RX0, "isNomination", "(I)Z"⟩
def dkwX0_isNomination_0 : List UInt8 := [27, 3, 42, 180, 1, 6, 4, 100, 184, 0, 163, 172]
abbrev dktX0_isNomination_0 : List UInt8 := dkwX0_isNomination_0 ++ []
theorem dksX0_isNomination_0 : cX0_isNomination.data.toList.drop 0 = dktX0_isNomination_0 := by decide +kernel
theorem dX0_isNomination_0 : decode cX0_isNomination 0 = .ok (.iload_n 1, 1) := dk_27 (dk_at dksX0_isNomination_0 0 rfl rfl)
theorem dX0_isNomination_1 : decode cX0_isNomination 1 = .ok (.iconst 0, 1) := dk_3 (dk_at dksX0_isNomination_0 1 rfl rfl)
theorem dX0_isNomination_2 : decode cX0_isNomination 2 = .ok (.aload_n 0, 1) := dk_42 (dk_at dksX0_isNomination_0 2 rfl rfl)
theorem dX0_isNomination_3 : decode cX0_isNomination 3 = .ok (.getfield 262, 3) := dk_180 1 6 (dk_at dksX0_isNomination_0 3 rfl rfl)
theorem dX0_isNomination_6 : decode cX0_isNomination 6 = .ok (.iconst 1, 1) := dk_4 (dk_at dksX0_isNomination_0 6 rfl rfl)
theorem dX0_isNomination_7 : decode cX0_isNomination 7 = .ok (.isub, 1) := dk_100 (dk_at dksX0_isNomination_0 7 rfl rfl)
theorem dX0_isNomination_8 : decode cX0_isNomination 8 = .ok (.invokestatic 163, 3) := dk_184 0 163 (dk_at dksX0_isNomination_0 8 rfl rfl)
theorem dX0_isNomination_11 : decode cX0_isNomination 11 = .ok (.ireturn, 1) := dk_172 (dk_at dksX0_isNomination_0 11 rfl rfl)
abbrev cX0_mayVote : ByteArray := prog_1_method_25_code
def yX0_mayVote : MethodName := ⟨RX0, "mayVote", "(I)Z"⟩
def dkwX0_mayVote_1 : List UInt8 := [172]
abbrev dktX0_mayVote_1 : List UInt8 := dkwX0_mayVote_1 ++ []
def dkwX0_mayVote_0 : List UInt8 := [42, 180, 0, 42, 42, 180, 0, 42, 180, 1, 68, 42, 180, 0, 26, 27, 50, 42, 180, 0, 20, 182, 1, 72]
abbrev dktX0_mayVote_0 : List UInt8 := dkwX0_mayVote_0 ++ dktX0_mayVote_1
theorem dksX0_mayVote_0 : cX0_mayVote.data.toList.drop 0 = dktX0_mayVote_0 := by decide +kernel
theorem dksX0_mayVote_1 : cX0_mayVote.data.toList.drop 24 = dktX0_mayVote_1 := dk_seg dksX0_mayVote_0 24 rfl rfl
theorem dX0_mayVote_0 : decode cX0_mayVote 0 = .ok (.aload_n 0, 1) := dk_42 (dk_at dksX0_mayVote_0 0 rfl rfl)
theorem dX0_mayVote_1 : decode cX0_mayVote 1 = .ok (.getfield 42, 3) := dk_180 0 42 (dk_at dksX0_mayVote_0 1 rfl rfl)
theorem dX0_mayVote_4 : decode cX0_mayVote 4 = .ok (.aload_n 0, 1) := dk_42 (dk_at dksX0_mayVote_0 4 rfl rfl)
theorem dX0_mayVote_5 : decode cX0_mayVote 5 = .ok (.getfield 42, 3) := dk_180 0 42 (dk_at dksX0_mayVote_0 5 rfl rfl)
theorem dX0_mayVote_8 : decode cX0_mayVote 8 = .ok (.getfield 324, 3) := dk_180 1 68 (dk_at dksX0_mayVote_0 8 rfl rfl)
theorem dX0_mayVote_11 : decode cX0_mayVote 11 = .ok (.aload_n 0, 1) := dk_42 (dk_at dksX0_mayVote_0 11 rfl rfl)
theorem dX0_mayVote_12 : decode cX0_mayVote 12 = .ok (.getfield 26, 3) := dk_180 0 26 (dk_at dksX0_mayVote_0 12 rfl rfl)
theorem dX0_mayVote_15 : decode cX0_mayVote 15 = .ok (.iload_n 1, 1) := dk_27 (dk_at dksX0_mayVote_0 15 rfl rfl)
theorem dX0_mayVote_16 : decode cX0_mayVote 16 = .ok (.aaload, 1) := dk_50 (dk_at dksX0_mayVote_0 16 rfl rfl)
theorem dX0_mayVote_17 : decode cX0_mayVote 17 = .ok (.aload_n 0, 1) := dk_42 (dk_at dksX0_mayVote_0 17 rfl rfl)
theorem dX0_mayVote_18 : decode cX0_mayVote 18 = .ok (.getfield 20, 3) := dk_180 0 20 (dk_at dksX0_mayVote_0 18 rfl rfl)
theorem dX0_mayVote_21 : decode cX0_mayVote 21 = .ok (.invokevirtual 328, 3) := dk_182 1 72 (dk_at dksX0_mayVote_0 21 rfl rfl)
theorem dX0_mayVote_24 : decode cX0_mayVote 24 = .ok (.ireturn, 1) := dk_172 (dk_at dksX0_mayVote_1 0 rfl rfl)
abbrev cX0_withdraw : ByteArray := prog_1_method_31_code
def yX0_withdraw : MethodName := ⟨RX0, "withdraw", "(I)I"⟩
def dkwX0_withdraw_2 : List UInt8 := [180, 0, 68, 27, 50, 6, 181, 1, 118, 42, 16, 10, 27, 3, 3, 3, 182, 0, 173, 4, 172]
abbrev dktX0_withdraw_2 : List UInt8 := dkwX0_withdraw_2 ++ []
def dkwX0_withdraw_1 : List UInt8 := [27, 50, 180, 1, 96, 153, 0, 6, 16, 252, 172, 42, 180, 0, 68, 27, 50, 4, 181, 1, 96, 42]
abbrev dktX0_withdraw_1 : List UInt8 := dkwX0_withdraw_1 ++ dktX0_withdraw_2
def dkwX0_withdraw_0 : List UInt8 := [42, 27, 182, 1, 93, 154, 0, 5, 2, 172, 42, 180, 1, 9, 153, 0, 6, 16, 253, 172, 42, 180, 0, 68]
abbrev dktX0_withdraw_0 : List UInt8 := dkwX0_withdraw_0 ++ dktX0_withdraw_1
theorem dksX0_withdraw_0 : cX0_withdraw.data.toList.drop 0 = dktX0_withdraw_0 := by decide +kernel
theorem dksX0_withdraw_1 : cX0_withdraw.data.toList.drop 24 = dktX0_withdraw_1 := dk_seg dksX0_withdraw_0 24 rfl rfl
theorem dksX0_withdraw_2 : cX0_withdraw.data.toList.drop 46 = dktX0_withdraw_2 := dk_seg dksX0_withdraw_1 22 rfl rfl
theorem dX0_withdraw_0 : decode cX0_withdraw 0 = .ok (.aload_n 0, 1) := dk_42 (dk_at dksX0_withdraw_0 0 rfl rfl)
theorem dX0_withdraw_1 : decode cX0_withdraw 1 = .ok (.iload_n 1, 1) := dk_27 (dk_at dksX0_withdraw_0 1 rfl rfl)
theorem dX0_withdraw_2 : decode cX0_withdraw 2 = .ok (.invokevirtual 349, 3) := dk_182 1 93 (dk_at dksX0_withdraw_0 2 rfl rfl)
theorem dX0_withdraw_5 : decode cX0_withdraw 5 = .ok (.ifCond .ne 5, 3) := dk_154 0 5 (dk_at dksX0_withdraw_0 5 rfl rfl)
theorem dX0_withdraw_8 : decode cX0_withdraw 8 = .ok (.iconst (-1), 1) := dk_2 (dk_at dksX0_withdraw_0 8 rfl rfl)
theorem dX0_withdraw_9 : decode cX0_withdraw 9 = .ok (.ireturn, 1) := dk_172 (dk_at dksX0_withdraw_0 9 rfl rfl)
theorem dX0_withdraw_10 : decode cX0_withdraw 10 = .ok (.aload_n 0, 1) := dk_42 (dk_at dksX0_withdraw_0 10 rfl rfl)
theorem dX0_withdraw_11 : decode cX0_withdraw 11 = .ok (.getfield 265, 3) := dk_180 1 9 (dk_at dksX0_withdraw_0 11 rfl rfl)
theorem dX0_withdraw_14 : decode cX0_withdraw 14 = .ok (.ifCond .eq 6, 3) := dk_153 0 6 (dk_at dksX0_withdraw_0 14 rfl rfl)
theorem dX0_withdraw_17 : decode cX0_withdraw 17 = .ok (.bipush (-3), 2) := dk_16 253 (dk_at dksX0_withdraw_0 17 rfl rfl)
theorem dX0_withdraw_19 : decode cX0_withdraw 19 = .ok (.ireturn, 1) := dk_172 (dk_at dksX0_withdraw_0 19 rfl rfl)
theorem dX0_withdraw_20 : decode cX0_withdraw 20 = .ok (.aload_n 0, 1) := dk_42 (dk_at dksX0_withdraw_0 20 rfl rfl)
theorem dX0_withdraw_21 : decode cX0_withdraw 21 = .ok (.getfield 68, 3) := dk_180 0 68 (dk_at dksX0_withdraw_0 21 rfl rfl)
theorem dX0_withdraw_24 : decode cX0_withdraw 24 = .ok (.iload_n 1, 1) := dk_27 (dk_at dksX0_withdraw_1 0 rfl rfl)
theorem dX0_withdraw_25 : decode cX0_withdraw 25 = .ok (.aaload, 1) := dk_50 (dk_at dksX0_withdraw_1 1 rfl rfl)
theorem dX0_withdraw_26 : decode cX0_withdraw 26 = .ok (.getfield 352, 3) := dk_180 1 96 (dk_at dksX0_withdraw_1 2 rfl rfl)
theorem dX0_withdraw_29 : decode cX0_withdraw 29 = .ok (.ifCond .eq 6, 3) := dk_153 0 6 (dk_at dksX0_withdraw_1 5 rfl rfl)
theorem dX0_withdraw_32 : decode cX0_withdraw 32 = .ok (.bipush (-4), 2) := dk_16 252 (dk_at dksX0_withdraw_1 8 rfl rfl)
theorem dX0_withdraw_34 : decode cX0_withdraw 34 = .ok (.ireturn, 1) := dk_172 (dk_at dksX0_withdraw_1 10 rfl rfl)
theorem dX0_withdraw_35 : decode cX0_withdraw 35 = .ok (.aload_n 0, 1) := dk_42 (dk_at dksX0_withdraw_1 11 rfl rfl)
theorem dX0_withdraw_36 : decode cX0_withdraw 36 = .ok (.getfield 68, 3) := dk_180 0 68 (dk_at dksX0_withdraw_1 12 rfl rfl)
theorem dX0_withdraw_39 : decode cX0_withdraw 39 = .ok (.iload_n 1, 1) := dk_27 (dk_at dksX0_withdraw_1 15 rfl rfl)
theorem dX0_withdraw_40 : decode cX0_withdraw 40 = .ok (.aaload, 1) := dk_50 (dk_at dksX0_withdraw_1 16 rfl rfl)
theorem dX0_withdraw_41 : decode cX0_withdraw 41 = .ok (.iconst 1, 1) := dk_4 (dk_at dksX0_withdraw_1 17 rfl rfl)
theorem dX0_withdraw_42 : decode cX0_withdraw 42 = .ok (.putfield 352, 3) := dk_181 1 96 (dk_at dksX0_withdraw_1 18 rfl rfl)
theorem dX0_withdraw_45 : decode cX0_withdraw 45 = .ok (.aload_n 0, 1) := dk_42 (dk_at dksX0_withdraw_1 21 rfl rfl)
theorem dX0_withdraw_46 : decode cX0_withdraw 46 = .ok (.getfield 68, 3) := dk_180 0 68 (dk_at dksX0_withdraw_2 0 rfl rfl)
theorem dX0_withdraw_49 : decode cX0_withdraw 49 = .ok (.iload_n 1, 1) := dk_27 (dk_at dksX0_withdraw_2 3 rfl rfl)
theorem dX0_withdraw_50 : decode cX0_withdraw 50 = .ok (.aaload, 1) := dk_50 (dk_at dksX0_withdraw_2 4 rfl rfl)
theorem dX0_withdraw_51 : decode cX0_withdraw 51 = .ok (.iconst 3, 1) := dk_6 (dk_at dksX0_withdraw_2 5 rfl rfl)
theorem dX0_withdraw_52 : decode cX0_withdraw 52 = .ok (.putfield 374, 3) := dk_181 1 118 (dk_at dksX0_withdraw_2 6 rfl rfl)
theorem dX0_withdraw_55 : decode cX0_withdraw 55 = .ok (.aload_n 0, 1) := dk_42 (dk_at dksX0_withdraw_2 9 rfl rfl)
theorem dX0_withdraw_56 : decode cX0_withdraw 56 = .ok (.bipush 10, 2) := dk_16 10 (dk_at dksX0_withdraw_2 10 rfl rfl)
theorem dX0_withdraw_58 : decode cX0_withdraw 58 = .ok (.iload_n 1, 1) := dk_27 (dk_at dksX0_withdraw_2 12 rfl rfl)
theorem dX0_withdraw_59 : decode cX0_withdraw 59 = .ok (.iconst 0, 1) := dk_3 (dk_at dksX0_withdraw_2 13 rfl rfl)
theorem dX0_withdraw_60 : decode cX0_withdraw 60 = .ok (.iconst 0, 1) := dk_3 (dk_at dksX0_withdraw_2 14 rfl rfl)
theorem dX0_withdraw_61 : decode cX0_withdraw 61 = .ok (.iconst 0, 1) := dk_3 (dk_at dksX0_withdraw_2 15 rfl rfl)
theorem dX0_withdraw_62 : decode cX0_withdraw 62 = .ok (.invokevirtual 173, 3) := dk_182 0 173 (dk_at dksX0_withdraw_2 16 rfl rfl)
theorem dX0_withdraw_65 : decode cX0_withdraw 65 = .ok (.iconst 1, 1) := dk_4 (dk_at dksX0_withdraw_2 19 rfl rfl)
theorem dX0_withdraw_66 : decode cX0_withdraw 66 = .ok (.ireturn, 1) := dk_172 (dk_at dksX0_withdraw_2 20 rfl rfl)
abbrev cX0_nomination : ByteArray := prog_1_method_32_code
def yX0_nomination : MethodName := ⟨RX0, "nomination", "(II)I"⟩
def dkwX0_nomination_3 : List UInt8 := [172, 45, 180, 1, 127, 172, 16, 254, 172]
abbrev dktX0_nomination_3 : List UInt8 := dkwX0_nomination_3 ++ []
def dkwX0_nomination_2 : List UInt8 := [45, 180, 1, 102, 172, 45, 180, 1, 121, 172, 45, 180, 1, 124, 172, 45, 180, 1, 115, 172, 45, 180, 1, 118]
abbrev dktX0_nomination_2 : List UInt8 := dkwX0_nomination_2 ++ dktX0_nomination_3
def dkwX0_nomination_1 : List UInt8 := [170, 0, 0, 0, 0, 68, 0, 0, 0, 0, 0, 0, 0, 5, 0, 0, 0, 38, 0, 0, 0, 43, 0, 0, 0, 48, 0, 0, 0, 53, 0, 0, 0, 58, 0, 0, 0, 63]
abbrev dktX0_nomination_1 : List UInt8 := dkwX0_nomination_1 ++ dktX0_nomination_2
def dkwX0_nomination_0 : List UInt8 := [42, 27, 182, 1, 93, 154, 0, 5, 2, 172, 42, 180, 0, 68, 27, 50, 78, 28]
abbrev dktX0_nomination_0 : List UInt8 := dkwX0_nomination_0 ++ dktX0_nomination_1
theorem dksX0_nomination_0 : cX0_nomination.data.toList.drop 0 = dktX0_nomination_0 := by decide +kernel
theorem dksX0_nomination_1 : cX0_nomination.data.toList.drop 18 = dktX0_nomination_1 := dk_seg dksX0_nomination_0 18 rfl rfl
theorem dksX0_nomination_2 : cX0_nomination.data.toList.drop 56 = dktX0_nomination_2 := dk_seg dksX0_nomination_1 38 rfl rfl
theorem dksX0_nomination_3 : cX0_nomination.data.toList.drop 80 = dktX0_nomination_3 := dk_seg dksX0_nomination_2 24 rfl rfl
theorem dX0_nomination_0 : decode cX0_nomination 0 = .ok (.aload_n 0, 1) := dk_42 (dk_at dksX0_nomination_0 0 rfl rfl)
theorem dX0_nomination_1 : decode cX0_nomination 1 = .ok (.iload_n 1, 1) := dk_27 (dk_at dksX0_nomination_0 1 rfl rfl)
theorem dX0_nomination_2 : decode cX0_nomination 2 = .ok (.invokevirtual 349, 3) := dk_182 1 93 (dk_at dksX0_nomination_0 2 rfl rfl)
theorem dX0_nomination_5 : decode cX0_nomination 5 = .ok (.ifCond .ne 5, 3) := dk_154 0 5 (dk_at dksX0_nomination_0 5 rfl rfl)
theorem dX0_nomination_8 : decode cX0_nomination 8 = .ok (.iconst (-1), 1) := dk_2 (dk_at dksX0_nomination_0 8 rfl rfl)
theorem dX0_nomination_9 : decode cX0_nomination 9 = .ok (.ireturn, 1) := dk_172 (dk_at dksX0_nomination_0 9 rfl rfl)
theorem dX0_nomination_10 : decode cX0_nomination 10 = .ok (.aload_n 0, 1) := dk_42 (dk_at dksX0_nomination_0 10 rfl rfl)
theorem dX0_nomination_11 : decode cX0_nomination 11 = .ok (.getfield 68, 3) := dk_180 0 68 (dk_at dksX0_nomination_0 11 rfl rfl)
theorem dX0_nomination_14 : decode cX0_nomination 14 = .ok (.iload_n 1, 1) := dk_27 (dk_at dksX0_nomination_0 14 rfl rfl)
theorem dX0_nomination_15 : decode cX0_nomination 15 = .ok (.aaload, 1) := dk_50 (dk_at dksX0_nomination_0 15 rfl rfl)
theorem dX0_nomination_16 : decode cX0_nomination 16 = .ok (.astore_n 3, 1) := dk_78 (dk_at dksX0_nomination_0 16 rfl rfl)
theorem dX0_nomination_17 : decode cX0_nomination 17 = .ok (.iload_n 2, 1) := dk_28 (dk_at dksX0_nomination_0 17 rfl rfl)
theorem dX0_nomination_18 : decode cX0_nomination 18 = .ok (.tableswitch 68 0 5 #[38, 43, 48, 53, 58, 63], 38) := by decide +kernel
theorem dX0_nomination_56 : decode cX0_nomination 56 = .ok (.aload_n 3, 1) := dk_45 (dk_at dksX0_nomination_2 0 rfl rfl)
theorem dX0_nomination_57 : decode cX0_nomination 57 = .ok (.getfield 358, 3) := dk_180 1 102 (dk_at dksX0_nomination_2 1 rfl rfl)
theorem dX0_nomination_60 : decode cX0_nomination 60 = .ok (.ireturn, 1) := dk_172 (dk_at dksX0_nomination_2 4 rfl rfl)
theorem dX0_nomination_61 : decode cX0_nomination 61 = .ok (.aload_n 3, 1) := dk_45 (dk_at dksX0_nomination_2 5 rfl rfl)
theorem dX0_nomination_62 : decode cX0_nomination 62 = .ok (.getfield 377, 3) := dk_180 1 121 (dk_at dksX0_nomination_2 6 rfl rfl)
theorem dX0_nomination_65 : decode cX0_nomination 65 = .ok (.ireturn, 1) := dk_172 (dk_at dksX0_nomination_2 9 rfl rfl)
theorem dX0_nomination_66 : decode cX0_nomination 66 = .ok (.aload_n 3, 1) := dk_45 (dk_at dksX0_nomination_2 10 rfl rfl)
theorem dX0_nomination_67 : decode cX0_nomination 67 = .ok (.getfield 380, 3) := dk_180 1 124 (dk_at dksX0_nomination_2 11 rfl rfl)
theorem dX0_nomination_70 : decode cX0_nomination 70 = .ok (.ireturn, 1) := dk_172 (dk_at dksX0_nomination_2 14 rfl rfl)
theorem dX0_nomination_71 : decode cX0_nomination 71 = .ok (.aload_n 3, 1) := dk_45 (dk_at dksX0_nomination_2 15 rfl rfl)
theorem dX0_nomination_72 : decode cX0_nomination 72 = .ok (.getfield 371, 3) := dk_180 1 115 (dk_at dksX0_nomination_2 16 rfl rfl)
theorem dX0_nomination_75 : decode cX0_nomination 75 = .ok (.ireturn, 1) := dk_172 (dk_at dksX0_nomination_2 19 rfl rfl)
theorem dX0_nomination_76 : decode cX0_nomination 76 = .ok (.aload_n 3, 1) := dk_45 (dk_at dksX0_nomination_2 20 rfl rfl)
theorem dX0_nomination_77 : decode cX0_nomination 77 = .ok (.getfield 374, 3) := dk_180 1 118 (dk_at dksX0_nomination_2 21 rfl rfl)
theorem dX0_nomination_80 : decode cX0_nomination 80 = .ok (.ireturn, 1) := dk_172 (dk_at dksX0_nomination_3 0 rfl rfl)
theorem dX0_nomination_81 : decode cX0_nomination 81 = .ok (.aload_n 3, 1) := dk_45 (dk_at dksX0_nomination_3 1 rfl rfl)
theorem dX0_nomination_82 : decode cX0_nomination 82 = .ok (.getfield 383, 3) := dk_180 1 127 (dk_at dksX0_nomination_3 2 rfl rfl)
theorem dX0_nomination_85 : decode cX0_nomination 85 = .ok (.ireturn, 1) := dk_172 (dk_at dksX0_nomination_3 5 rfl rfl)
theorem dX0_nomination_86 : decode cX0_nomination 86 = .ok (.bipush (-2), 2) := dk_16 254 (dk_at dksX0_nomination_3 6 rfl rfl)
theorem dX0_nomination_88 : decode cX0_nomination 88 = .ok (.ireturn, 1) := dk_172 (dk_at dksX0_nomination_3 8 rfl rfl)
abbrev cX0_freeze : ByteArray := prog_1_method_36_code
def yX0_freeze : MethodName := ⟨RX0, "freeze", "()I"⟩
def dkwX0_freeze_5 : List UInt8 := [3, 182, 0, 173, 42, 180, 1, 12, 172]
abbrev dktX0_freeze_5 : List UInt8 := dkwX0_freeze_5 ++ []
def dkwX0_freeze_4 : List UInt8 := [182, 1, 99, 153, 0, 9, 42, 27, 28, 182, 1, 140, 132, 1, 1, 167, 255, 200, 42, 16, 11, 3, 3, 3]
abbrev dktX0_freeze_4 : List UInt8 := dkwX0_freeze_4 ++ dktX0_freeze_5
def dkwX0_freeze_3 : List UInt8 := [180, 0, 26, 27, 50, 42, 180, 0, 42, 180, 1, 37, 4, 46, 182, 1, 83, 153, 0, 17, 42, 27]
abbrev dktX0_freeze_3 : List UInt8 := dkwX0_freeze_3 ++ dktX0_freeze_4
def dkwX0_freeze_2 : List UInt8 := [182, 1, 134, 3, 60, 27, 42, 180, 0, 200, 162, 0, 54, 42, 27, 182, 1, 137, 61, 28, 153, 0, 38, 42]
abbrev dktX0_freeze_2 : List UInt8 := dkwX0_freeze_2 ++ dktX0_freeze_3
def dkwX0_freeze_1 : List UInt8 := [162, 0, 6, 16, 253, 172, 42, 180, 1, 9, 153, 0, 6, 16, 252, 172, 42, 4, 181, 1, 9, 42]
abbrev dktX0_freeze_1 : List UInt8 := dkwX0_freeze_1 ++ dktX0_freeze_2
def dkwX0_freeze_0 : List UInt8 := [42, 180, 0, 237, 154, 0, 5, 2, 172, 42, 180, 0, 167, 42, 180, 0, 42, 180, 1, 37, 4, 46]
abbrev dktX0_freeze_0 : List UInt8 := dkwX0_freeze_0 ++ dktX0_freeze_1
theorem dksX0_freeze_0 : cX0_freeze.data.toList.drop 0 = dktX0_freeze_0 := by decide +kernel
theorem dksX0_freeze_1 : cX0_freeze.data.toList.drop 22 = dktX0_freeze_1 := dk_seg dksX0_freeze_0 22 rfl rfl
theorem dksX0_freeze_2 : cX0_freeze.data.toList.drop 44 = dktX0_freeze_2 := dk_seg dksX0_freeze_1 22 rfl rfl
theorem dksX0_freeze_3 : cX0_freeze.data.toList.drop 68 = dktX0_freeze_3 := dk_seg dksX0_freeze_2 24 rfl rfl
theorem dksX0_freeze_4 : cX0_freeze.data.toList.drop 90 = dktX0_freeze_4 := dk_seg dksX0_freeze_3 22 rfl rfl
theorem dksX0_freeze_5 : cX0_freeze.data.toList.drop 114 = dktX0_freeze_5 := dk_seg dksX0_freeze_4 24 rfl rfl
theorem dX0_freeze_0 : decode cX0_freeze 0 = .ok (.aload_n 0, 1) := dk_42 (dk_at dksX0_freeze_0 0 rfl rfl)
theorem dX0_freeze_1 : decode cX0_freeze 1 = .ok (.getfield 237, 3) := dk_180 0 237 (dk_at dksX0_freeze_0 1 rfl rfl)
theorem dX0_freeze_4 : decode cX0_freeze 4 = .ok (.ifCond .ne 5, 3) := dk_154 0 5 (dk_at dksX0_freeze_0 4 rfl rfl)
theorem dX0_freeze_7 : decode cX0_freeze 7 = .ok (.iconst (-1), 1) := dk_2 (dk_at dksX0_freeze_0 7 rfl rfl)
theorem dX0_freeze_8 : decode cX0_freeze 8 = .ok (.ireturn, 1) := dk_172 (dk_at dksX0_freeze_0 8 rfl rfl)
theorem dX0_freeze_9 : decode cX0_freeze 9 = .ok (.aload_n 0, 1) := dk_42 (dk_at dksX0_freeze_0 9 rfl rfl)
theorem dX0_freeze_10 : decode cX0_freeze 10 = .ok (.getfield 167, 3) := dk_180 0 167 (dk_at dksX0_freeze_0 10 rfl rfl)
theorem dX0_freeze_13 : decode cX0_freeze 13 = .ok (.aload_n 0, 1) := dk_42 (dk_at dksX0_freeze_0 13 rfl rfl)
theorem dX0_freeze_14 : decode cX0_freeze 14 = .ok (.getfield 42, 3) := dk_180 0 42 (dk_at dksX0_freeze_0 14 rfl rfl)
theorem dX0_freeze_17 : decode cX0_freeze 17 = .ok (.getfield 293, 3) := dk_180 1 37 (dk_at dksX0_freeze_0 17 rfl rfl)
theorem dX0_freeze_20 : decode cX0_freeze 20 = .ok (.iconst 1, 1) := dk_4 (dk_at dksX0_freeze_0 20 rfl rfl)
theorem dX0_freeze_21 : decode cX0_freeze 21 = .ok (.iaload, 1) := dk_46 (dk_at dksX0_freeze_0 21 rfl rfl)
theorem dX0_freeze_22 : decode cX0_freeze 22 = .ok (.if_icmp .ge 6, 3) := dk_162 0 6 (dk_at dksX0_freeze_1 0 rfl rfl)
theorem dX0_freeze_25 : decode cX0_freeze 25 = .ok (.bipush (-3), 2) := dk_16 253 (dk_at dksX0_freeze_1 3 rfl rfl)
theorem dX0_freeze_27 : decode cX0_freeze 27 = .ok (.ireturn, 1) := dk_172 (dk_at dksX0_freeze_1 5 rfl rfl)
theorem dX0_freeze_28 : decode cX0_freeze 28 = .ok (.aload_n 0, 1) := dk_42 (dk_at dksX0_freeze_1 6 rfl rfl)
theorem dX0_freeze_29 : decode cX0_freeze 29 = .ok (.getfield 265, 3) := dk_180 1 9 (dk_at dksX0_freeze_1 7 rfl rfl)
theorem dX0_freeze_32 : decode cX0_freeze 32 = .ok (.ifCond .eq 6, 3) := dk_153 0 6 (dk_at dksX0_freeze_1 10 rfl rfl)
theorem dX0_freeze_35 : decode cX0_freeze 35 = .ok (.bipush (-4), 2) := dk_16 252 (dk_at dksX0_freeze_1 13 rfl rfl)
theorem dX0_freeze_37 : decode cX0_freeze 37 = .ok (.ireturn, 1) := dk_172 (dk_at dksX0_freeze_1 15 rfl rfl)
theorem dX0_freeze_38 : decode cX0_freeze 38 = .ok (.aload_n 0, 1) := dk_42 (dk_at dksX0_freeze_1 16 rfl rfl)
theorem dX0_freeze_39 : decode cX0_freeze 39 = .ok (.iconst 1, 1) := dk_4 (dk_at dksX0_freeze_1 17 rfl rfl)
theorem dX0_freeze_40 : decode cX0_freeze 40 = .ok (.putfield 265, 3) := dk_181 1 9 (dk_at dksX0_freeze_1 18 rfl rfl)
theorem dX0_freeze_43 : decode cX0_freeze 43 = .ok (.aload_n 0, 1) := dk_42 (dk_at dksX0_freeze_1 21 rfl rfl)
theorem dX0_freeze_44 : decode cX0_freeze 44 = .ok (.invokevirtual 390, 3) := dk_182 1 134 (dk_at dksX0_freeze_2 0 rfl rfl)
theorem dX0_freeze_47 : decode cX0_freeze 47 = .ok (.iconst 0, 1) := dk_3 (dk_at dksX0_freeze_2 3 rfl rfl)
theorem dX0_freeze_48 : decode cX0_freeze 48 = .ok (.istore_n 1, 1) := dk_60 (dk_at dksX0_freeze_2 4 rfl rfl)
theorem dX0_freeze_49 : decode cX0_freeze 49 = .ok (.iload_n 1, 1) := dk_27 (dk_at dksX0_freeze_2 5 rfl rfl)
theorem dX0_freeze_50 : decode cX0_freeze 50 = .ok (.aload_n 0, 1) := dk_42 (dk_at dksX0_freeze_2 6 rfl rfl)
theorem dX0_freeze_51 : decode cX0_freeze 51 = .ok (.getfield 200, 3) := dk_180 0 200 (dk_at dksX0_freeze_2 7 rfl rfl)
theorem dX0_freeze_54 : decode cX0_freeze 54 = .ok (.if_icmp .ge 54, 3) := dk_162 0 54 (dk_at dksX0_freeze_2 10 rfl rfl)
theorem dX0_freeze_57 : decode cX0_freeze 57 = .ok (.aload_n 0, 1) := dk_42 (dk_at dksX0_freeze_2 13 rfl rfl)
theorem dX0_freeze_58 : decode cX0_freeze 58 = .ok (.iload_n 1, 1) := dk_27 (dk_at dksX0_freeze_2 14 rfl rfl)
theorem dX0_freeze_59 : decode cX0_freeze 59 = .ok (.invokevirtual 393, 3) := dk_182 1 137 (dk_at dksX0_freeze_2 15 rfl rfl)
theorem dX0_freeze_62 : decode cX0_freeze 62 = .ok (.istore_n 2, 1) := dk_61 (dk_at dksX0_freeze_2 18 rfl rfl)
theorem dX0_freeze_63 : decode cX0_freeze 63 = .ok (.iload_n 2, 1) := dk_28 (dk_at dksX0_freeze_2 19 rfl rfl)
theorem dX0_freeze_64 : decode cX0_freeze 64 = .ok (.ifCond .eq 38, 3) := dk_153 0 38 (dk_at dksX0_freeze_2 20 rfl rfl)
theorem dX0_freeze_67 : decode cX0_freeze 67 = .ok (.aload_n 0, 1) := dk_42 (dk_at dksX0_freeze_2 23 rfl rfl)
theorem dX0_freeze_68 : decode cX0_freeze 68 = .ok (.getfield 26, 3) := dk_180 0 26 (dk_at dksX0_freeze_3 0 rfl rfl)
theorem dX0_freeze_71 : decode cX0_freeze 71 = .ok (.iload_n 1, 1) := dk_27 (dk_at dksX0_freeze_3 3 rfl rfl)
theorem dX0_freeze_72 : decode cX0_freeze 72 = .ok (.aaload, 1) := dk_50 (dk_at dksX0_freeze_3 4 rfl rfl)
theorem dX0_freeze_73 : decode cX0_freeze 73 = .ok (.aload_n 0, 1) := dk_42 (dk_at dksX0_freeze_3 5 rfl rfl)
theorem dX0_freeze_74 : decode cX0_freeze 74 = .ok (.getfield 42, 3) := dk_180 0 42 (dk_at dksX0_freeze_3 6 rfl rfl)
theorem dX0_freeze_77 : decode cX0_freeze 77 = .ok (.getfield 293, 3) := dk_180 1 37 (dk_at dksX0_freeze_3 9 rfl rfl)
theorem dX0_freeze_80 : decode cX0_freeze 80 = .ok (.iconst 1, 1) := dk_4 (dk_at dksX0_freeze_3 12 rfl rfl)
theorem dX0_freeze_81 : decode cX0_freeze 81 = .ok (.iaload, 1) := dk_46 (dk_at dksX0_freeze_3 13 rfl rfl)
theorem dX0_freeze_82 : decode cX0_freeze 82 = .ok (.invokevirtual 339, 3) := dk_182 1 83 (dk_at dksX0_freeze_3 14 rfl rfl)
theorem dX0_freeze_85 : decode cX0_freeze 85 = .ok (.ifCond .eq 17, 3) := dk_153 0 17 (dk_at dksX0_freeze_3 17 rfl rfl)
theorem dX0_freeze_88 : decode cX0_freeze 88 = .ok (.aload_n 0, 1) := dk_42 (dk_at dksX0_freeze_3 20 rfl rfl)
theorem dX0_freeze_89 : decode cX0_freeze 89 = .ok (.iload_n 1, 1) := dk_27 (dk_at dksX0_freeze_3 21 rfl rfl)
theorem dX0_freeze_90 : decode cX0_freeze 90 = .ok (.invokevirtual 355, 3) := dk_182 1 99 (dk_at dksX0_freeze_4 0 rfl rfl)
theorem dX0_freeze_93 : decode cX0_freeze 93 = .ok (.ifCond .eq 9, 3) := dk_153 0 9 (dk_at dksX0_freeze_4 3 rfl rfl)
theorem dX0_freeze_96 : decode cX0_freeze 96 = .ok (.aload_n 0, 1) := dk_42 (dk_at dksX0_freeze_4 6 rfl rfl)
theorem dX0_freeze_97 : decode cX0_freeze 97 = .ok (.iload_n 1, 1) := dk_27 (dk_at dksX0_freeze_4 7 rfl rfl)
theorem dX0_freeze_98 : decode cX0_freeze 98 = .ok (.iload_n 2, 1) := dk_28 (dk_at dksX0_freeze_4 8 rfl rfl)
theorem dX0_freeze_99 : decode cX0_freeze 99 = .ok (.invokevirtual 396, 3) := dk_182 1 140 (dk_at dksX0_freeze_4 9 rfl rfl)
theorem dX0_freeze_102 : decode cX0_freeze 102 = .ok (.iinc 1 1, 3) := dk_132 1 1 (dk_at dksX0_freeze_4 12 rfl rfl)
theorem dX0_freeze_105 : decode cX0_freeze 105 = .ok (.goto (-56), 3) := dk_167 255 200 (dk_at dksX0_freeze_4 15 rfl rfl)
theorem dX0_freeze_108 : decode cX0_freeze 108 = .ok (.aload_n 0, 1) := dk_42 (dk_at dksX0_freeze_4 18 rfl rfl)
theorem dX0_freeze_109 : decode cX0_freeze 109 = .ok (.bipush 11, 2) := dk_16 11 (dk_at dksX0_freeze_4 19 rfl rfl)
theorem dX0_freeze_111 : decode cX0_freeze 111 = .ok (.iconst 0, 1) := dk_3 (dk_at dksX0_freeze_4 21 rfl rfl)
theorem dX0_freeze_112 : decode cX0_freeze 112 = .ok (.iconst 0, 1) := dk_3 (dk_at dksX0_freeze_4 22 rfl rfl)
theorem dX0_freeze_113 : decode cX0_freeze 113 = .ok (.iconst 0, 1) := dk_3 (dk_at dksX0_freeze_4 23 rfl rfl)
theorem dX0_freeze_114 : decode cX0_freeze 114 = .ok (.iconst 0, 1) := dk_3 (dk_at dksX0_freeze_5 0 rfl rfl)
theorem dX0_freeze_115 : decode cX0_freeze 115 = .ok (.invokevirtual 173, 3) := dk_182 0 173 (dk_at dksX0_freeze_5 1 rfl rfl)
theorem dX0_freeze_118 : decode cX0_freeze 118 = .ok (.aload_n 0, 1) := dk_42 (dk_at dksX0_freeze_5 4 rfl rfl)
theorem dX0_freeze_119 : decode cX0_freeze 119 = .ok (.getfield 268, 3) := dk_180 1 12 (dk_at dksX0_freeze_5 5 rfl rfl)
theorem dX0_freeze_122 : decode cX0_freeze 122 = .ok (.ireturn, 1) := dk_172 (dk_at dksX0_freeze_5 8 rfl rfl)
abbrev cX0_nominate : ByteArray := prog_1_method_35_code
def yX0_nominate : MethodName := ⟨RX0, "nominate", "()V"⟩
def dkwX0_nominate_4 : List UInt8 := [167, 255, 163, 177]
abbrev dktX0_nominate_4 : List UInt8 := dkwX0_nominate_4 ++ []
def dkwX0_nominate_3 : List UInt8 := [180, 1, 118, 4, 160, 0, 17, 42, 180, 0, 62, 44, 180, 1, 102, 50, 44, 27, 182, 1, 131, 132, 1, 1]
abbrev dktX0_nominate_3 : List UInt8 := dkwX0_nominate_3 ++ dktX0_nominate_4
def dkwX0_nominate_2 : List UInt8 := [44, 180, 1, 115, 42, 180, 0, 42, 180, 1, 130, 162, 0, 7, 5, 167, 0, 4, 4, 181, 1, 118, 44]
abbrev dktX0_nominate_2 : List UInt8 := dkwX0_nominate_2 ++ dktX0_nominate_3
def dkwX0_nominate_1 : List UInt8 := [44, 42, 180, 0, 26, 44, 180, 1, 121, 50, 42, 180, 0, 167, 182, 1, 83, 154, 0, 7, 7, 167, 0, 22]
abbrev dktX0_nominate_1 : List UInt8 := dkwX0_nominate_1 ++ dktX0_nominate_2
def dkwX0_nominate_0 : List UInt8 := [3, 60, 27, 42, 180, 1, 6, 162, 0, 91, 42, 180, 0, 68, 27, 50, 77, 44, 180, 1, 96, 154, 0, 71]
abbrev dktX0_nominate_0 : List UInt8 := dkwX0_nominate_0 ++ dktX0_nominate_1
theorem dksX0_nominate_0 : cX0_nominate.data.toList.drop 0 = dktX0_nominate_0 := by decide +kernel
theorem dksX0_nominate_1 : cX0_nominate.data.toList.drop 24 = dktX0_nominate_1 := dk_seg dksX0_nominate_0 24 rfl rfl
theorem dksX0_nominate_2 : cX0_nominate.data.toList.drop 48 = dktX0_nominate_2 := dk_seg dksX0_nominate_1 24 rfl rfl
theorem dksX0_nominate_3 : cX0_nominate.data.toList.drop 71 = dktX0_nominate_3 := dk_seg dksX0_nominate_2 23 rfl rfl
theorem dksX0_nominate_4 : cX0_nominate.data.toList.drop 95 = dktX0_nominate_4 := dk_seg dksX0_nominate_3 24 rfl rfl
theorem dX0_nominate_0 : decode cX0_nominate 0 = .ok (.iconst 0, 1) := dk_3 (dk_at dksX0_nominate_0 0 rfl rfl)
theorem dX0_nominate_1 : decode cX0_nominate 1 = .ok (.istore_n 1, 1) := dk_60 (dk_at dksX0_nominate_0 1 rfl rfl)
theorem dX0_nominate_2 : decode cX0_nominate 2 = .ok (.iload_n 1, 1) := dk_27 (dk_at dksX0_nominate_0 2 rfl rfl)
theorem dX0_nominate_3 : decode cX0_nominate 3 = .ok (.aload_n 0, 1) := dk_42 (dk_at dksX0_nominate_0 3 rfl rfl)
theorem dX0_nominate_4 : decode cX0_nominate 4 = .ok (.getfield 262, 3) := dk_180 1 6 (dk_at dksX0_nominate_0 4 rfl rfl)
theorem dX0_nominate_7 : decode cX0_nominate 7 = .ok (.if_icmp .ge 91, 3) := dk_162 0 91 (dk_at dksX0_nominate_0 7 rfl rfl)
theorem dX0_nominate_10 : decode cX0_nominate 10 = .ok (.aload_n 0, 1) := dk_42 (dk_at dksX0_nominate_0 10 rfl rfl)
theorem dX0_nominate_11 : decode cX0_nominate 11 = .ok (.getfield 68, 3) := dk_180 0 68 (dk_at dksX0_nominate_0 11 rfl rfl)
theorem dX0_nominate_14 : decode cX0_nominate 14 = .ok (.iload_n 1, 1) := dk_27 (dk_at dksX0_nominate_0 14 rfl rfl)
theorem dX0_nominate_15 : decode cX0_nominate 15 = .ok (.aaload, 1) := dk_50 (dk_at dksX0_nominate_0 15 rfl rfl)
theorem dX0_nominate_16 : decode cX0_nominate 16 = .ok (.astore_n 2, 1) := dk_77 (dk_at dksX0_nominate_0 16 rfl rfl)
theorem dX0_nominate_17 : decode cX0_nominate 17 = .ok (.aload_n 2, 1) := dk_44 (dk_at dksX0_nominate_0 17 rfl rfl)
theorem dX0_nominate_18 : decode cX0_nominate 18 = .ok (.getfield 352, 3) := dk_180 1 96 (dk_at dksX0_nominate_0 18 rfl rfl)
theorem dX0_nominate_21 : decode cX0_nominate 21 = .ok (.ifCond .ne 71, 3) := dk_154 0 71 (dk_at dksX0_nominate_0 21 rfl rfl)
theorem dX0_nominate_24 : decode cX0_nominate 24 = .ok (.aload_n 2, 1) := dk_44 (dk_at dksX0_nominate_1 0 rfl rfl)
theorem dX0_nominate_25 : decode cX0_nominate 25 = .ok (.aload_n 0, 1) := dk_42 (dk_at dksX0_nominate_1 1 rfl rfl)
theorem dX0_nominate_26 : decode cX0_nominate 26 = .ok (.getfield 26, 3) := dk_180 0 26 (dk_at dksX0_nominate_1 2 rfl rfl)
theorem dX0_nominate_29 : decode cX0_nominate 29 = .ok (.aload_n 2, 1) := dk_44 (dk_at dksX0_nominate_1 5 rfl rfl)
theorem dX0_nominate_30 : decode cX0_nominate 30 = .ok (.getfield 377, 3) := dk_180 1 121 (dk_at dksX0_nominate_1 6 rfl rfl)
theorem dX0_nominate_33 : decode cX0_nominate 33 = .ok (.aaload, 1) := dk_50 (dk_at dksX0_nominate_1 9 rfl rfl)
theorem dX0_nominate_34 : decode cX0_nominate 34 = .ok (.aload_n 0, 1) := dk_42 (dk_at dksX0_nominate_1 10 rfl rfl)
theorem dX0_nominate_35 : decode cX0_nominate 35 = .ok (.getfield 167, 3) := dk_180 0 167 (dk_at dksX0_nominate_1 11 rfl rfl)
theorem dX0_nominate_38 : decode cX0_nominate 38 = .ok (.invokevirtual 339, 3) := dk_182 1 83 (dk_at dksX0_nominate_1 14 rfl rfl)
theorem dX0_nominate_41 : decode cX0_nominate 41 = .ok (.ifCond .ne 7, 3) := dk_154 0 7 (dk_at dksX0_nominate_1 17 rfl rfl)
theorem dX0_nominate_44 : decode cX0_nominate 44 = .ok (.iconst 4, 1) := dk_7 (dk_at dksX0_nominate_1 20 rfl rfl)
theorem dX0_nominate_45 : decode cX0_nominate 45 = .ok (.goto 22, 3) := dk_167 0 22 (dk_at dksX0_nominate_1 21 rfl rfl)
theorem dX0_nominate_48 : decode cX0_nominate 48 = .ok (.aload_n 2, 1) := dk_44 (dk_at dksX0_nominate_2 0 rfl rfl)
theorem dX0_nominate_49 : decode cX0_nominate 49 = .ok (.getfield 371, 3) := dk_180 1 115 (dk_at dksX0_nominate_2 1 rfl rfl)
theorem dX0_nominate_52 : decode cX0_nominate 52 = .ok (.aload_n 0, 1) := dk_42 (dk_at dksX0_nominate_2 4 rfl rfl)
theorem dX0_nominate_53 : decode cX0_nominate 53 = .ok (.getfield 42, 3) := dk_180 0 42 (dk_at dksX0_nominate_2 5 rfl rfl)
theorem dX0_nominate_56 : decode cX0_nominate 56 = .ok (.getfield 386, 3) := dk_180 1 130 (dk_at dksX0_nominate_2 8 rfl rfl)
theorem dX0_nominate_59 : decode cX0_nominate 59 = .ok (.if_icmp .ge 7, 3) := dk_162 0 7 (dk_at dksX0_nominate_2 11 rfl rfl)
theorem dX0_nominate_62 : decode cX0_nominate 62 = .ok (.iconst 2, 1) := dk_5 (dk_at dksX0_nominate_2 14 rfl rfl)
theorem dX0_nominate_63 : decode cX0_nominate 63 = .ok (.goto 4, 3) := dk_167 0 4 (dk_at dksX0_nominate_2 15 rfl rfl)
theorem dX0_nominate_66 : decode cX0_nominate 66 = .ok (.iconst 1, 1) := dk_4 (dk_at dksX0_nominate_2 18 rfl rfl)
theorem dX0_nominate_67 : decode cX0_nominate 67 = .ok (.putfield 374, 3) := dk_181 1 118 (dk_at dksX0_nominate_2 19 rfl rfl)
theorem dX0_nominate_70 : decode cX0_nominate 70 = .ok (.aload_n 2, 1) := dk_44 (dk_at dksX0_nominate_2 22 rfl rfl)
theorem dX0_nominate_71 : decode cX0_nominate 71 = .ok (.getfield 374, 3) := dk_180 1 118 (dk_at dksX0_nominate_3 0 rfl rfl)
theorem dX0_nominate_74 : decode cX0_nominate 74 = .ok (.iconst 1, 1) := dk_4 (dk_at dksX0_nominate_3 3 rfl rfl)
theorem dX0_nominate_75 : decode cX0_nominate 75 = .ok (.if_icmp .ne 17, 3) := dk_160 0 17 (dk_at dksX0_nominate_3 4 rfl rfl)
theorem dX0_nominate_78 : decode cX0_nominate 78 = .ok (.aload_n 0, 1) := dk_42 (dk_at dksX0_nominate_3 7 rfl rfl)
theorem dX0_nominate_79 : decode cX0_nominate 79 = .ok (.getfield 62, 3) := dk_180 0 62 (dk_at dksX0_nominate_3 8 rfl rfl)
theorem dX0_nominate_82 : decode cX0_nominate 82 = .ok (.aload_n 2, 1) := dk_44 (dk_at dksX0_nominate_3 11 rfl rfl)
theorem dX0_nominate_83 : decode cX0_nominate 83 = .ok (.getfield 358, 3) := dk_180 1 102 (dk_at dksX0_nominate_3 12 rfl rfl)
theorem dX0_nominate_86 : decode cX0_nominate 86 = .ok (.aaload, 1) := dk_50 (dk_at dksX0_nominate_3 15 rfl rfl)
theorem dX0_nominate_87 : decode cX0_nominate 87 = .ok (.aload_n 2, 1) := dk_44 (dk_at dksX0_nominate_3 16 rfl rfl)
theorem dX0_nominate_88 : decode cX0_nominate 88 = .ok (.iload_n 1, 1) := dk_27 (dk_at dksX0_nominate_3 17 rfl rfl)
theorem dX0_nominate_89 : decode cX0_nominate 89 = .ok (.invokevirtual 387, 3) := dk_182 1 131 (dk_at dksX0_nominate_3 18 rfl rfl)
theorem dX0_nominate_92 : decode cX0_nominate 92 = .ok (.iinc 1 1, 3) := dk_132 1 1 (dk_at dksX0_nominate_3 21 rfl rfl)
theorem dX0_nominate_95 : decode cX0_nominate 95 = .ok (.goto (-93), 3) := dk_167 255 163 (dk_at dksX0_nominate_4 0 rfl rfl)
theorem dX0_nominate_98 : decode cX0_nominate 98 = .ok (.return_, 1) := dk_177 (dk_at dksX0_nominate_4 3 rfl rfl)
abbrev cX0_sheetOf : ByteArray := prog_1_method_33_code
def yX0_sheetOf : MethodName := ⟨RX0, "sheetOf", "(I)I"⟩
def dkwX0_sheetOf_3 : List UInt8 := [167, 0, 4, 3, 128, 54, 4, 132, 5, 1, 167, 255, 203, 21, 4, 172]
abbrev dktX0_sheetOf_3 : List UInt8 := dkwX0_sheetOf_3 ++ []
def dkwX0_sheetOf_2 : List UInt8 := [180, 0, 42, 180, 1, 43, 21, 5, 50, 180, 1, 47, 29, 28, 182, 1, 105, 153, 0, 10, 4, 21, 5, 120]
abbrev dktX0_sheetOf_2 : List UInt8 := dkwX0_sheetOf_2 ++ dktX0_sheetOf_3
def dkwX0_sheetOf_1 : List UInt8 := [3, 54, 5, 21, 5, 42, 180, 0, 42, 180, 1, 3, 162, 0, 47, 21, 4, 42, 180, 0, 20, 42]
abbrev dktX0_sheetOf_1 : List UInt8 := dkwX0_sheetOf_1 ++ dktX0_sheetOf_2
def dkwX0_sheetOf_0 : List UInt8 := [42, 180, 0, 42, 180, 1, 37, 4, 46, 61, 42, 180, 0, 26, 27, 50, 28, 182, 0, 247, 62, 3, 54, 4]
abbrev dktX0_sheetOf_0 : List UInt8 := dkwX0_sheetOf_0 ++ dktX0_sheetOf_1
theorem dksX0_sheetOf_0 : cX0_sheetOf.data.toList.drop 0 = dktX0_sheetOf_0 := by decide +kernel
theorem dksX0_sheetOf_1 : cX0_sheetOf.data.toList.drop 24 = dktX0_sheetOf_1 := dk_seg dksX0_sheetOf_0 24 rfl rfl
theorem dksX0_sheetOf_2 : cX0_sheetOf.data.toList.drop 46 = dktX0_sheetOf_2 := dk_seg dksX0_sheetOf_1 22 rfl rfl
theorem dksX0_sheetOf_3 : cX0_sheetOf.data.toList.drop 70 = dktX0_sheetOf_3 := dk_seg dksX0_sheetOf_2 24 rfl rfl
theorem dX0_sheetOf_0 : decode cX0_sheetOf 0 = .ok (.aload_n 0, 1) := dk_42 (dk_at dksX0_sheetOf_0 0 rfl rfl)
theorem dX0_sheetOf_1 : decode cX0_sheetOf 1 = .ok (.getfield 42, 3) := dk_180 0 42 (dk_at dksX0_sheetOf_0 1 rfl rfl)
theorem dX0_sheetOf_4 : decode cX0_sheetOf 4 = .ok (.getfield 293, 3) := dk_180 1 37 (dk_at dksX0_sheetOf_0 4 rfl rfl)
theorem dX0_sheetOf_7 : decode cX0_sheetOf 7 = .ok (.iconst 1, 1) := dk_4 (dk_at dksX0_sheetOf_0 7 rfl rfl)
theorem dX0_sheetOf_8 : decode cX0_sheetOf 8 = .ok (.iaload, 1) := dk_46 (dk_at dksX0_sheetOf_0 8 rfl rfl)
theorem dX0_sheetOf_9 : decode cX0_sheetOf 9 = .ok (.istore_n 2, 1) := dk_61 (dk_at dksX0_sheetOf_0 9 rfl rfl)
theorem dX0_sheetOf_10 : decode cX0_sheetOf 10 = .ok (.aload_n 0, 1) := dk_42 (dk_at dksX0_sheetOf_0 10 rfl rfl)
theorem dX0_sheetOf_11 : decode cX0_sheetOf 11 = .ok (.getfield 26, 3) := dk_180 0 26 (dk_at dksX0_sheetOf_0 11 rfl rfl)
theorem dX0_sheetOf_14 : decode cX0_sheetOf 14 = .ok (.iload_n 1, 1) := dk_27 (dk_at dksX0_sheetOf_0 14 rfl rfl)
theorem dX0_sheetOf_15 : decode cX0_sheetOf 15 = .ok (.aaload, 1) := dk_50 (dk_at dksX0_sheetOf_0 15 rfl rfl)
theorem dX0_sheetOf_16 : decode cX0_sheetOf 16 = .ok (.iload_n 2, 1) := dk_28 (dk_at dksX0_sheetOf_0 16 rfl rfl)
theorem dX0_sheetOf_17 : decode cX0_sheetOf 17 = .ok (.invokevirtual 247, 3) := dk_182 0 247 (dk_at dksX0_sheetOf_0 17 rfl rfl)
theorem dX0_sheetOf_20 : decode cX0_sheetOf 20 = .ok (.istore_n 3, 1) := dk_62 (dk_at dksX0_sheetOf_0 20 rfl rfl)
theorem dX0_sheetOf_21 : decode cX0_sheetOf 21 = .ok (.iconst 0, 1) := dk_3 (dk_at dksX0_sheetOf_0 21 rfl rfl)
theorem dX0_sheetOf_22 : decode cX0_sheetOf 22 = .ok (.istore 4, 2) := dk_54 4 (dk_at dksX0_sheetOf_0 22 rfl rfl)
theorem dX0_sheetOf_24 : decode cX0_sheetOf 24 = .ok (.iconst 0, 1) := dk_3 (dk_at dksX0_sheetOf_1 0 rfl rfl)
theorem dX0_sheetOf_25 : decode cX0_sheetOf 25 = .ok (.istore 5, 2) := dk_54 5 (dk_at dksX0_sheetOf_1 1 rfl rfl)
theorem dX0_sheetOf_27 : decode cX0_sheetOf 27 = .ok (.iload 5, 2) := dk_21 5 (dk_at dksX0_sheetOf_1 3 rfl rfl)
theorem dX0_sheetOf_29 : decode cX0_sheetOf 29 = .ok (.aload_n 0, 1) := dk_42 (dk_at dksX0_sheetOf_1 5 rfl rfl)
theorem dX0_sheetOf_30 : decode cX0_sheetOf 30 = .ok (.getfield 42, 3) := dk_180 0 42 (dk_at dksX0_sheetOf_1 6 rfl rfl)
theorem dX0_sheetOf_33 : decode cX0_sheetOf 33 = .ok (.getfield 259, 3) := dk_180 1 3 (dk_at dksX0_sheetOf_1 9 rfl rfl)
theorem dX0_sheetOf_36 : decode cX0_sheetOf 36 = .ok (.if_icmp .ge 47, 3) := dk_162 0 47 (dk_at dksX0_sheetOf_1 12 rfl rfl)
theorem dX0_sheetOf_39 : decode cX0_sheetOf 39 = .ok (.iload 4, 2) := dk_21 4 (dk_at dksX0_sheetOf_1 15 rfl rfl)
theorem dX0_sheetOf_41 : decode cX0_sheetOf 41 = .ok (.aload_n 0, 1) := dk_42 (dk_at dksX0_sheetOf_1 17 rfl rfl)
theorem dX0_sheetOf_42 : decode cX0_sheetOf 42 = .ok (.getfield 20, 3) := dk_180 0 20 (dk_at dksX0_sheetOf_1 18 rfl rfl)
theorem dX0_sheetOf_45 : decode cX0_sheetOf 45 = .ok (.aload_n 0, 1) := dk_42 (dk_at dksX0_sheetOf_1 21 rfl rfl)
theorem dX0_sheetOf_46 : decode cX0_sheetOf 46 = .ok (.getfield 42, 3) := dk_180 0 42 (dk_at dksX0_sheetOf_2 0 rfl rfl)
theorem dX0_sheetOf_49 : decode cX0_sheetOf 49 = .ok (.getfield 299, 3) := dk_180 1 43 (dk_at dksX0_sheetOf_2 3 rfl rfl)
theorem dX0_sheetOf_52 : decode cX0_sheetOf 52 = .ok (.iload 5, 2) := dk_21 5 (dk_at dksX0_sheetOf_2 6 rfl rfl)
theorem dX0_sheetOf_54 : decode cX0_sheetOf 54 = .ok (.aaload, 1) := dk_50 (dk_at dksX0_sheetOf_2 8 rfl rfl)
theorem dX0_sheetOf_55 : decode cX0_sheetOf 55 = .ok (.getfield 303, 3) := dk_180 1 47 (dk_at dksX0_sheetOf_2 9 rfl rfl)
theorem dX0_sheetOf_58 : decode cX0_sheetOf 58 = .ok (.iload_n 3, 1) := dk_29 (dk_at dksX0_sheetOf_2 12 rfl rfl)
theorem dX0_sheetOf_59 : decode cX0_sheetOf 59 = .ok (.iload_n 2, 1) := dk_28 (dk_at dksX0_sheetOf_2 13 rfl rfl)
theorem dX0_sheetOf_60 : decode cX0_sheetOf 60 = .ok (.invokevirtual 361, 3) := dk_182 1 105 (dk_at dksX0_sheetOf_2 14 rfl rfl)
theorem dX0_sheetOf_63 : decode cX0_sheetOf 63 = .ok (.ifCond .eq 10, 3) := dk_153 0 10 (dk_at dksX0_sheetOf_2 17 rfl rfl)
theorem dX0_sheetOf_66 : decode cX0_sheetOf 66 = .ok (.iconst 1, 1) := dk_4 (dk_at dksX0_sheetOf_2 20 rfl rfl)
theorem dX0_sheetOf_67 : decode cX0_sheetOf 67 = .ok (.iload 5, 2) := dk_21 5 (dk_at dksX0_sheetOf_2 21 rfl rfl)
theorem dX0_sheetOf_69 : decode cX0_sheetOf 69 = .ok (.ishl, 1) := dk_120 (dk_at dksX0_sheetOf_2 23 rfl rfl)
theorem dX0_sheetOf_70 : decode cX0_sheetOf 70 = .ok (.goto 4, 3) := dk_167 0 4 (dk_at dksX0_sheetOf_3 0 rfl rfl)
theorem dX0_sheetOf_73 : decode cX0_sheetOf 73 = .ok (.iconst 0, 1) := dk_3 (dk_at dksX0_sheetOf_3 3 rfl rfl)
theorem dX0_sheetOf_74 : decode cX0_sheetOf 74 = .ok (.ior, 1) := dk_128 (dk_at dksX0_sheetOf_3 4 rfl rfl)
theorem dX0_sheetOf_75 : decode cX0_sheetOf 75 = .ok (.istore 4, 2) := dk_54 4 (dk_at dksX0_sheetOf_3 5 rfl rfl)
theorem dX0_sheetOf_77 : decode cX0_sheetOf 77 = .ok (.iinc 5 1, 3) := dk_132 5 1 (dk_at dksX0_sheetOf_3 7 rfl rfl)
theorem dX0_sheetOf_80 : decode cX0_sheetOf 80 = .ok (.goto (-53), 3) := dk_167 255 203 (dk_at dksX0_sheetOf_3 10 rfl rfl)
theorem dX0_sheetOf_83 : decode cX0_sheetOf 83 = .ok (.iload 4, 2) := dk_21 4 (dk_at dksX0_sheetOf_3 13 rfl rfl)
theorem dX0_sheetOf_85 : decode cX0_sheetOf 85 = .ok (.ireturn, 1) := dk_172 (dk_at dksX0_sheetOf_3 15 rfl rfl)
abbrev cX0_enroll : ByteArray := prog_1_method_34_code
def yX0_enroll : MethodName := ⟨RX0, "enroll", "(II)V"⟩
def dkwX0_enroll_2 : List UInt8 := [181, 1, 12, 177]
abbrev dktX0_enroll_2 : List UInt8 := dkwX0_enroll_2 ++ []
def dkwX0_enroll_1 : List UInt8 := [42, 180, 1, 12, 4, 84, 42, 180, 0, 86, 27, 42, 180, 1, 12, 79, 42, 89, 180, 1, 12, 4, 96]
abbrev dktX0_enroll_1 : List UInt8 := dkwX0_enroll_1 ++ dktX0_enroll_2
def dkwX0_enroll_0 : List UInt8 := [42, 180, 0, 76, 42, 180, 1, 12, 27, 79, 42, 180, 0, 79, 42, 180, 1, 12, 28, 79, 42, 180, 0, 82]
abbrev dktX0_enroll_0 : List UInt8 := dkwX0_enroll_0 ++ dktX0_enroll_1
theorem dksX0_enroll_0 : cX0_enroll.data.toList.drop 0 = dktX0_enroll_0 := by decide +kernel
theorem dksX0_enroll_1 : cX0_enroll.data.toList.drop 24 = dktX0_enroll_1 := dk_seg dksX0_enroll_0 24 rfl rfl
theorem dksX0_enroll_2 : cX0_enroll.data.toList.drop 47 = dktX0_enroll_2 := dk_seg dksX0_enroll_1 23 rfl rfl
theorem dX0_enroll_0 : decode cX0_enroll 0 = .ok (.aload_n 0, 1) := dk_42 (dk_at dksX0_enroll_0 0 rfl rfl)
theorem dX0_enroll_1 : decode cX0_enroll 1 = .ok (.getfield 76, 3) := dk_180 0 76 (dk_at dksX0_enroll_0 1 rfl rfl)
theorem dX0_enroll_4 : decode cX0_enroll 4 = .ok (.aload_n 0, 1) := dk_42 (dk_at dksX0_enroll_0 4 rfl rfl)
theorem dX0_enroll_5 : decode cX0_enroll 5 = .ok (.getfield 268, 3) := dk_180 1 12 (dk_at dksX0_enroll_0 5 rfl rfl)
theorem dX0_enroll_8 : decode cX0_enroll 8 = .ok (.iload_n 1, 1) := dk_27 (dk_at dksX0_enroll_0 8 rfl rfl)
theorem dX0_enroll_9 : decode cX0_enroll 9 = .ok (.iastore, 1) := dk_79 (dk_at dksX0_enroll_0 9 rfl rfl)
theorem dX0_enroll_10 : decode cX0_enroll 10 = .ok (.aload_n 0, 1) := dk_42 (dk_at dksX0_enroll_0 10 rfl rfl)
theorem dX0_enroll_11 : decode cX0_enroll 11 = .ok (.getfield 79, 3) := dk_180 0 79 (dk_at dksX0_enroll_0 11 rfl rfl)
theorem dX0_enroll_14 : decode cX0_enroll 14 = .ok (.aload_n 0, 1) := dk_42 (dk_at dksX0_enroll_0 14 rfl rfl)
theorem dX0_enroll_15 : decode cX0_enroll 15 = .ok (.getfield 268, 3) := dk_180 1 12 (dk_at dksX0_enroll_0 15 rfl rfl)
theorem dX0_enroll_18 : decode cX0_enroll 18 = .ok (.iload_n 2, 1) := dk_28 (dk_at dksX0_enroll_0 18 rfl rfl)
theorem dX0_enroll_19 : decode cX0_enroll 19 = .ok (.iastore, 1) := dk_79 (dk_at dksX0_enroll_0 19 rfl rfl)
theorem dX0_enroll_20 : decode cX0_enroll 20 = .ok (.aload_n 0, 1) := dk_42 (dk_at dksX0_enroll_0 20 rfl rfl)
theorem dX0_enroll_21 : decode cX0_enroll 21 = .ok (.getfield 82, 3) := dk_180 0 82 (dk_at dksX0_enroll_0 21 rfl rfl)
theorem dX0_enroll_24 : decode cX0_enroll 24 = .ok (.aload_n 0, 1) := dk_42 (dk_at dksX0_enroll_1 0 rfl rfl)
theorem dX0_enroll_25 : decode cX0_enroll 25 = .ok (.getfield 268, 3) := dk_180 1 12 (dk_at dksX0_enroll_1 1 rfl rfl)
theorem dX0_enroll_28 : decode cX0_enroll 28 = .ok (.iconst 1, 1) := dk_4 (dk_at dksX0_enroll_1 4 rfl rfl)
theorem dX0_enroll_29 : decode cX0_enroll 29 = .ok (.bastore, 1) := dk_84 (dk_at dksX0_enroll_1 5 rfl rfl)
theorem dX0_enroll_30 : decode cX0_enroll 30 = .ok (.aload_n 0, 1) := dk_42 (dk_at dksX0_enroll_1 6 rfl rfl)
theorem dX0_enroll_31 : decode cX0_enroll 31 = .ok (.getfield 86, 3) := dk_180 0 86 (dk_at dksX0_enroll_1 7 rfl rfl)
theorem dX0_enroll_34 : decode cX0_enroll 34 = .ok (.iload_n 1, 1) := dk_27 (dk_at dksX0_enroll_1 10 rfl rfl)
theorem dX0_enroll_35 : decode cX0_enroll 35 = .ok (.aload_n 0, 1) := dk_42 (dk_at dksX0_enroll_1 11 rfl rfl)
theorem dX0_enroll_36 : decode cX0_enroll 36 = .ok (.getfield 268, 3) := dk_180 1 12 (dk_at dksX0_enroll_1 12 rfl rfl)
theorem dX0_enroll_39 : decode cX0_enroll 39 = .ok (.iastore, 1) := dk_79 (dk_at dksX0_enroll_1 15 rfl rfl)
theorem dX0_enroll_40 : decode cX0_enroll 40 = .ok (.aload_n 0, 1) := dk_42 (dk_at dksX0_enroll_1 16 rfl rfl)
theorem dX0_enroll_41 : decode cX0_enroll 41 = .ok (.dup, 1) := dk_89 (dk_at dksX0_enroll_1 17 rfl rfl)
theorem dX0_enroll_42 : decode cX0_enroll 42 = .ok (.getfield 268, 3) := dk_180 1 12 (dk_at dksX0_enroll_1 18 rfl rfl)
theorem dX0_enroll_45 : decode cX0_enroll 45 = .ok (.iconst 1, 1) := dk_4 (dk_at dksX0_enroll_1 21 rfl rfl)
theorem dX0_enroll_46 : decode cX0_enroll 46 = .ok (.iadd, 1) := dk_96 (dk_at dksX0_enroll_1 22 rfl rfl)
theorem dX0_enroll_47 : decode cX0_enroll 47 = .ok (.putfield 268, 3) := dk_181 1 12 (dk_at dksX0_enroll_2 0 rfl rfl)
theorem dX0_enroll_50 : decode cX0_enroll 50 = .ok (.return_, 1) := dk_177 (dk_at dksX0_enroll_2 3 rfl rfl)
abbrev cX0_roll : ByteArray := prog_1_method_37_code
def yX0_roll : MethodName := ⟨RX0, "roll", "(II)I"⟩
def dkwX0_roll_3 : List UInt8 := [167, 0, 4, 3, 172, 16, 254, 172]
abbrev dktX0_roll_3 : List UInt8 := dkwX0_roll_3 ++ []
def dkwX0_roll_2 : List UInt8 := [42, 180, 0, 76, 27, 46, 172, 42, 180, 0, 79, 27, 46, 172, 42, 180, 0, 82, 27, 51, 153, 0, 7, 4]
abbrev dktX0_roll_2 : List UInt8 := dkwX0_roll_2 ++ dktX0_roll_3
def dkwX0_roll_1 : List UInt8 := [170, 0, 0, 0, 0, 0, 56, 0, 0, 0, 0, 0, 0, 0, 2, 0, 0, 0, 27, 0, 0, 0, 34, 0, 0, 0, 41]
abbrev dktX0_roll_1 : List UInt8 := dkwX0_roll_1 ++ dktX0_roll_2
def dkwX0_roll_0 : List UInt8 := [27, 3, 42, 180, 1, 12, 4, 100, 184, 0, 163, 154, 0, 5, 2, 172, 28]
abbrev dktX0_roll_0 : List UInt8 := dkwX0_roll_0 ++ dktX0_roll_1
theorem dksX0_roll_0 : cX0_roll.data.toList.drop 0 = dktX0_roll_0 := by decide +kernel
theorem dksX0_roll_1 : cX0_roll.data.toList.drop 17 = dktX0_roll_1 := dk_seg dksX0_roll_0 17 rfl rfl
theorem dksX0_roll_2 : cX0_roll.data.toList.drop 44 = dktX0_roll_2 := dk_seg dksX0_roll_1 27 rfl rfl
theorem dksX0_roll_3 : cX0_roll.data.toList.drop 68 = dktX0_roll_3 := dk_seg dksX0_roll_2 24 rfl rfl
theorem dX0_roll_0 : decode cX0_roll 0 = .ok (.iload_n 1, 1) := dk_27 (dk_at dksX0_roll_0 0 rfl rfl)
theorem dX0_roll_1 : decode cX0_roll 1 = .ok (.iconst 0, 1) := dk_3 (dk_at dksX0_roll_0 1 rfl rfl)
theorem dX0_roll_2 : decode cX0_roll 2 = .ok (.aload_n 0, 1) := dk_42 (dk_at dksX0_roll_0 2 rfl rfl)
theorem dX0_roll_3 : decode cX0_roll 3 = .ok (.getfield 268, 3) := dk_180 1 12 (dk_at dksX0_roll_0 3 rfl rfl)
theorem dX0_roll_6 : decode cX0_roll 6 = .ok (.iconst 1, 1) := dk_4 (dk_at dksX0_roll_0 6 rfl rfl)
theorem dX0_roll_7 : decode cX0_roll 7 = .ok (.isub, 1) := dk_100 (dk_at dksX0_roll_0 7 rfl rfl)
theorem dX0_roll_8 : decode cX0_roll 8 = .ok (.invokestatic 163, 3) := dk_184 0 163 (dk_at dksX0_roll_0 8 rfl rfl)
theorem dX0_roll_11 : decode cX0_roll 11 = .ok (.ifCond .ne 5, 3) := dk_154 0 5 (dk_at dksX0_roll_0 11 rfl rfl)
theorem dX0_roll_14 : decode cX0_roll 14 = .ok (.iconst (-1), 1) := dk_2 (dk_at dksX0_roll_0 14 rfl rfl)
theorem dX0_roll_15 : decode cX0_roll 15 = .ok (.ireturn, 1) := dk_172 (dk_at dksX0_roll_0 15 rfl rfl)
theorem dX0_roll_16 : decode cX0_roll 16 = .ok (.iload_n 2, 1) := dk_28 (dk_at dksX0_roll_0 16 rfl rfl)
theorem dX0_roll_17 : decode cX0_roll 17 = .ok (.tableswitch 56 0 2 #[27, 34, 41], 27) := by decide +kernel
theorem dX0_roll_44 : decode cX0_roll 44 = .ok (.aload_n 0, 1) := dk_42 (dk_at dksX0_roll_2 0 rfl rfl)
theorem dX0_roll_45 : decode cX0_roll 45 = .ok (.getfield 76, 3) := dk_180 0 76 (dk_at dksX0_roll_2 1 rfl rfl)
theorem dX0_roll_48 : decode cX0_roll 48 = .ok (.iload_n 1, 1) := dk_27 (dk_at dksX0_roll_2 4 rfl rfl)
theorem dX0_roll_49 : decode cX0_roll 49 = .ok (.iaload, 1) := dk_46 (dk_at dksX0_roll_2 5 rfl rfl)
theorem dX0_roll_50 : decode cX0_roll 50 = .ok (.ireturn, 1) := dk_172 (dk_at dksX0_roll_2 6 rfl rfl)
theorem dX0_roll_51 : decode cX0_roll 51 = .ok (.aload_n 0, 1) := dk_42 (dk_at dksX0_roll_2 7 rfl rfl)
theorem dX0_roll_52 : decode cX0_roll 52 = .ok (.getfield 79, 3) := dk_180 0 79 (dk_at dksX0_roll_2 8 rfl rfl)
theorem dX0_roll_55 : decode cX0_roll 55 = .ok (.iload_n 1, 1) := dk_27 (dk_at dksX0_roll_2 11 rfl rfl)
theorem dX0_roll_56 : decode cX0_roll 56 = .ok (.iaload, 1) := dk_46 (dk_at dksX0_roll_2 12 rfl rfl)
theorem dX0_roll_57 : decode cX0_roll 57 = .ok (.ireturn, 1) := dk_172 (dk_at dksX0_roll_2 13 rfl rfl)
theorem dX0_roll_58 : decode cX0_roll 58 = .ok (.aload_n 0, 1) := dk_42 (dk_at dksX0_roll_2 14 rfl rfl)
theorem dX0_roll_59 : decode cX0_roll 59 = .ok (.getfield 82, 3) := dk_180 0 82 (dk_at dksX0_roll_2 15 rfl rfl)
theorem dX0_roll_62 : decode cX0_roll 62 = .ok (.iload_n 1, 1) := dk_27 (dk_at dksX0_roll_2 18 rfl rfl)
theorem dX0_roll_63 : decode cX0_roll 63 = .ok (.baload, 1) := dk_51 (dk_at dksX0_roll_2 19 rfl rfl)
theorem dX0_roll_64 : decode cX0_roll 64 = .ok (.ifCond .eq 7, 3) := dk_153 0 7 (dk_at dksX0_roll_2 20 rfl rfl)
theorem dX0_roll_67 : decode cX0_roll 67 = .ok (.iconst 1, 1) := dk_4 (dk_at dksX0_roll_2 23 rfl rfl)
theorem dX0_roll_68 : decode cX0_roll 68 = .ok (.goto 4, 3) := dk_167 0 4 (dk_at dksX0_roll_3 0 rfl rfl)
theorem dX0_roll_71 : decode cX0_roll 71 = .ok (.iconst 0, 1) := dk_3 (dk_at dksX0_roll_3 3 rfl rfl)
theorem dX0_roll_72 : decode cX0_roll 72 = .ok (.ireturn, 1) := dk_172 (dk_at dksX0_roll_3 4 rfl rfl)
theorem dX0_roll_73 : decode cX0_roll 73 = .ok (.bipush (-2), 2) := dk_16 254 (dk_at dksX0_roll_3 5 rfl rfl)
theorem dX0_roll_75 : decode cX0_roll 75 = .ok (.ireturn, 1) := dk_172 (dk_at dksX0_roll_3 7 rfl rfl)
abbrev cX0_appeal : ByteArray := prog_1_method_40_code
def yX0_appeal : MethodName := ⟨RX0, "appeal", "(II)I"⟩
def dkwX0_appeal_4 : List UInt8 := [4, 96, 181, 1, 15, 42, 16, 12, 27, 28, 3, 3, 182, 0, 173, 42, 180, 1, 15, 4, 100, 172]
abbrev dktX0_appeal_4 : List UInt8 := dkwX0_appeal_4 ++ []
def dkwX0_appeal_3 : List UInt8 := [180, 0, 92, 42, 180, 1, 15, 28, 79, 42, 180, 0, 95, 42, 180, 1, 15, 3, 84, 42, 89, 180, 1, 15]
abbrev dktX0_appeal_3 : List UInt8 := dkwX0_appeal_3 ++ dktX0_appeal_4
def dkwX0_appeal_2 : List UInt8 := [172, 42, 180, 1, 15, 16, 60, 160, 0, 6, 16, 251, 172, 42, 180, 0, 89, 42, 180, 1, 15, 27, 79, 42]
abbrev dktX0_appeal_2 : List UInt8 := dkwX0_appeal_2 ++ dktX0_appeal_3
def dkwX0_appeal_1 : List UInt8 := [180, 1, 9, 153, 0, 19, 42, 180, 0, 167, 42, 180, 0, 42, 180, 1, 37, 6, 46, 164, 0, 6, 16, 253]
abbrev dktX0_appeal_1 : List UInt8 := dkwX0_appeal_1 ++ dktX0_appeal_2
def dkwX0_appeal_0 : List UInt8 := [42, 27, 182, 0, 210, 154, 0, 5, 2, 172, 28, 3, 4, 184, 0, 163, 154, 0, 6, 16, 254, 172, 42]
abbrev dktX0_appeal_0 : List UInt8 := dkwX0_appeal_0 ++ dktX0_appeal_1
theorem dksX0_appeal_0 : cX0_appeal.data.toList.drop 0 = dktX0_appeal_0 := by decide +kernel
theorem dksX0_appeal_1 : cX0_appeal.data.toList.drop 23 = dktX0_appeal_1 := dk_seg dksX0_appeal_0 23 rfl rfl
theorem dksX0_appeal_2 : cX0_appeal.data.toList.drop 47 = dktX0_appeal_2 := dk_seg dksX0_appeal_1 24 rfl rfl
theorem dksX0_appeal_3 : cX0_appeal.data.toList.drop 71 = dktX0_appeal_3 := dk_seg dksX0_appeal_2 24 rfl rfl
theorem dksX0_appeal_4 : cX0_appeal.data.toList.drop 95 = dktX0_appeal_4 := dk_seg dksX0_appeal_3 24 rfl rfl
theorem dX0_appeal_0 : decode cX0_appeal 0 = .ok (.aload_n 0, 1) := dk_42 (dk_at dksX0_appeal_0 0 rfl rfl)
theorem dX0_appeal_1 : decode cX0_appeal 1 = .ok (.iload_n 1, 1) := dk_27 (dk_at dksX0_appeal_0 1 rfl rfl)
theorem dX0_appeal_2 : decode cX0_appeal 2 = .ok (.invokevirtual 210, 3) := dk_182 0 210 (dk_at dksX0_appeal_0 2 rfl rfl)
theorem dX0_appeal_5 : decode cX0_appeal 5 = .ok (.ifCond .ne 5, 3) := dk_154 0 5 (dk_at dksX0_appeal_0 5 rfl rfl)
theorem dX0_appeal_8 : decode cX0_appeal 8 = .ok (.iconst (-1), 1) := dk_2 (dk_at dksX0_appeal_0 8 rfl rfl)
theorem dX0_appeal_9 : decode cX0_appeal 9 = .ok (.ireturn, 1) := dk_172 (dk_at dksX0_appeal_0 9 rfl rfl)
theorem dX0_appeal_10 : decode cX0_appeal 10 = .ok (.iload_n 2, 1) := dk_28 (dk_at dksX0_appeal_0 10 rfl rfl)
theorem dX0_appeal_11 : decode cX0_appeal 11 = .ok (.iconst 0, 1) := dk_3 (dk_at dksX0_appeal_0 11 rfl rfl)
theorem dX0_appeal_12 : decode cX0_appeal 12 = .ok (.iconst 1, 1) := dk_4 (dk_at dksX0_appeal_0 12 rfl rfl)
theorem dX0_appeal_13 : decode cX0_appeal 13 = .ok (.invokestatic 163, 3) := dk_184 0 163 (dk_at dksX0_appeal_0 13 rfl rfl)
theorem dX0_appeal_16 : decode cX0_appeal 16 = .ok (.ifCond .ne 6, 3) := dk_154 0 6 (dk_at dksX0_appeal_0 16 rfl rfl)
theorem dX0_appeal_19 : decode cX0_appeal 19 = .ok (.bipush (-2), 2) := dk_16 254 (dk_at dksX0_appeal_0 19 rfl rfl)
theorem dX0_appeal_21 : decode cX0_appeal 21 = .ok (.ireturn, 1) := dk_172 (dk_at dksX0_appeal_0 21 rfl rfl)
theorem dX0_appeal_22 : decode cX0_appeal 22 = .ok (.aload_n 0, 1) := dk_42 (dk_at dksX0_appeal_0 22 rfl rfl)
theorem dX0_appeal_23 : decode cX0_appeal 23 = .ok (.getfield 265, 3) := dk_180 1 9 (dk_at dksX0_appeal_1 0 rfl rfl)
theorem dX0_appeal_26 : decode cX0_appeal 26 = .ok (.ifCond .eq 19, 3) := dk_153 0 19 (dk_at dksX0_appeal_1 3 rfl rfl)
theorem dX0_appeal_29 : decode cX0_appeal 29 = .ok (.aload_n 0, 1) := dk_42 (dk_at dksX0_appeal_1 6 rfl rfl)
theorem dX0_appeal_30 : decode cX0_appeal 30 = .ok (.getfield 167, 3) := dk_180 0 167 (dk_at dksX0_appeal_1 7 rfl rfl)
theorem dX0_appeal_33 : decode cX0_appeal 33 = .ok (.aload_n 0, 1) := dk_42 (dk_at dksX0_appeal_1 10 rfl rfl)
theorem dX0_appeal_34 : decode cX0_appeal 34 = .ok (.getfield 42, 3) := dk_180 0 42 (dk_at dksX0_appeal_1 11 rfl rfl)
theorem dX0_appeal_37 : decode cX0_appeal 37 = .ok (.getfield 293, 3) := dk_180 1 37 (dk_at dksX0_appeal_1 14 rfl rfl)
theorem dX0_appeal_40 : decode cX0_appeal 40 = .ok (.iconst 3, 1) := dk_6 (dk_at dksX0_appeal_1 17 rfl rfl)
theorem dX0_appeal_41 : decode cX0_appeal 41 = .ok (.iaload, 1) := dk_46 (dk_at dksX0_appeal_1 18 rfl rfl)
theorem dX0_appeal_42 : decode cX0_appeal 42 = .ok (.if_icmp .le 6, 3) := dk_164 0 6 (dk_at dksX0_appeal_1 19 rfl rfl)
theorem dX0_appeal_45 : decode cX0_appeal 45 = .ok (.bipush (-3), 2) := dk_16 253 (dk_at dksX0_appeal_1 22 rfl rfl)
theorem dX0_appeal_47 : decode cX0_appeal 47 = .ok (.ireturn, 1) := dk_172 (dk_at dksX0_appeal_2 0 rfl rfl)
theorem dX0_appeal_48 : decode cX0_appeal 48 = .ok (.aload_n 0, 1) := dk_42 (dk_at dksX0_appeal_2 1 rfl rfl)
theorem dX0_appeal_49 : decode cX0_appeal 49 = .ok (.getfield 271, 3) := dk_180 1 15 (dk_at dksX0_appeal_2 2 rfl rfl)
theorem dX0_appeal_52 : decode cX0_appeal 52 = .ok (.bipush 60, 2) := dk_16 60 (dk_at dksX0_appeal_2 5 rfl rfl)
theorem dX0_appeal_54 : decode cX0_appeal 54 = .ok (.if_icmp .ne 6, 3) := dk_160 0 6 (dk_at dksX0_appeal_2 7 rfl rfl)
theorem dX0_appeal_57 : decode cX0_appeal 57 = .ok (.bipush (-5), 2) := dk_16 251 (dk_at dksX0_appeal_2 10 rfl rfl)
theorem dX0_appeal_59 : decode cX0_appeal 59 = .ok (.ireturn, 1) := dk_172 (dk_at dksX0_appeal_2 12 rfl rfl)
theorem dX0_appeal_60 : decode cX0_appeal 60 = .ok (.aload_n 0, 1) := dk_42 (dk_at dksX0_appeal_2 13 rfl rfl)
theorem dX0_appeal_61 : decode cX0_appeal 61 = .ok (.getfield 89, 3) := dk_180 0 89 (dk_at dksX0_appeal_2 14 rfl rfl)
theorem dX0_appeal_64 : decode cX0_appeal 64 = .ok (.aload_n 0, 1) := dk_42 (dk_at dksX0_appeal_2 17 rfl rfl)
theorem dX0_appeal_65 : decode cX0_appeal 65 = .ok (.getfield 271, 3) := dk_180 1 15 (dk_at dksX0_appeal_2 18 rfl rfl)
theorem dX0_appeal_68 : decode cX0_appeal 68 = .ok (.iload_n 1, 1) := dk_27 (dk_at dksX0_appeal_2 21 rfl rfl)
theorem dX0_appeal_69 : decode cX0_appeal 69 = .ok (.iastore, 1) := dk_79 (dk_at dksX0_appeal_2 22 rfl rfl)
theorem dX0_appeal_70 : decode cX0_appeal 70 = .ok (.aload_n 0, 1) := dk_42 (dk_at dksX0_appeal_2 23 rfl rfl)
theorem dX0_appeal_71 : decode cX0_appeal 71 = .ok (.getfield 92, 3) := dk_180 0 92 (dk_at dksX0_appeal_3 0 rfl rfl)
theorem dX0_appeal_74 : decode cX0_appeal 74 = .ok (.aload_n 0, 1) := dk_42 (dk_at dksX0_appeal_3 3 rfl rfl)
theorem dX0_appeal_75 : decode cX0_appeal 75 = .ok (.getfield 271, 3) := dk_180 1 15 (dk_at dksX0_appeal_3 4 rfl rfl)
theorem dX0_appeal_78 : decode cX0_appeal 78 = .ok (.iload_n 2, 1) := dk_28 (dk_at dksX0_appeal_3 7 rfl rfl)
theorem dX0_appeal_79 : decode cX0_appeal 79 = .ok (.iastore, 1) := dk_79 (dk_at dksX0_appeal_3 8 rfl rfl)
theorem dX0_appeal_80 : decode cX0_appeal 80 = .ok (.aload_n 0, 1) := dk_42 (dk_at dksX0_appeal_3 9 rfl rfl)
theorem dX0_appeal_81 : decode cX0_appeal 81 = .ok (.getfield 95, 3) := dk_180 0 95 (dk_at dksX0_appeal_3 10 rfl rfl)
theorem dX0_appeal_84 : decode cX0_appeal 84 = .ok (.aload_n 0, 1) := dk_42 (dk_at dksX0_appeal_3 13 rfl rfl)
theorem dX0_appeal_85 : decode cX0_appeal 85 = .ok (.getfield 271, 3) := dk_180 1 15 (dk_at dksX0_appeal_3 14 rfl rfl)
theorem dX0_appeal_88 : decode cX0_appeal 88 = .ok (.iconst 0, 1) := dk_3 (dk_at dksX0_appeal_3 17 rfl rfl)
theorem dX0_appeal_89 : decode cX0_appeal 89 = .ok (.bastore, 1) := dk_84 (dk_at dksX0_appeal_3 18 rfl rfl)
theorem dX0_appeal_90 : decode cX0_appeal 90 = .ok (.aload_n 0, 1) := dk_42 (dk_at dksX0_appeal_3 19 rfl rfl)
theorem dX0_appeal_91 : decode cX0_appeal 91 = .ok (.dup, 1) := dk_89 (dk_at dksX0_appeal_3 20 rfl rfl)
theorem dX0_appeal_92 : decode cX0_appeal 92 = .ok (.getfield 271, 3) := dk_180 1 15 (dk_at dksX0_appeal_3 21 rfl rfl)
theorem dX0_appeal_95 : decode cX0_appeal 95 = .ok (.iconst 1, 1) := dk_4 (dk_at dksX0_appeal_4 0 rfl rfl)
theorem dX0_appeal_96 : decode cX0_appeal 96 = .ok (.iadd, 1) := dk_96 (dk_at dksX0_appeal_4 1 rfl rfl)
theorem dX0_appeal_97 : decode cX0_appeal 97 = .ok (.putfield 271, 3) := dk_181 1 15 (dk_at dksX0_appeal_4 2 rfl rfl)
theorem dX0_appeal_100 : decode cX0_appeal 100 = .ok (.aload_n 0, 1) := dk_42 (dk_at dksX0_appeal_4 5 rfl rfl)
theorem dX0_appeal_101 : decode cX0_appeal 101 = .ok (.bipush 12, 2) := dk_16 12 (dk_at dksX0_appeal_4 6 rfl rfl)
theorem dX0_appeal_103 : decode cX0_appeal 103 = .ok (.iload_n 1, 1) := dk_27 (dk_at dksX0_appeal_4 8 rfl rfl)
theorem dX0_appeal_104 : decode cX0_appeal 104 = .ok (.iload_n 2, 1) := dk_28 (dk_at dksX0_appeal_4 9 rfl rfl)
theorem dX0_appeal_105 : decode cX0_appeal 105 = .ok (.iconst 0, 1) := dk_3 (dk_at dksX0_appeal_4 10 rfl rfl)
theorem dX0_appeal_106 : decode cX0_appeal 106 = .ok (.iconst 0, 1) := dk_3 (dk_at dksX0_appeal_4 11 rfl rfl)
theorem dX0_appeal_107 : decode cX0_appeal 107 = .ok (.invokevirtual 173, 3) := dk_182 0 173 (dk_at dksX0_appeal_4 12 rfl rfl)
theorem dX0_appeal_110 : decode cX0_appeal 110 = .ok (.aload_n 0, 1) := dk_42 (dk_at dksX0_appeal_4 15 rfl rfl)
theorem dX0_appeal_111 : decode cX0_appeal 111 = .ok (.getfield 271, 3) := dk_180 1 15 (dk_at dksX0_appeal_4 16 rfl rfl)
theorem dX0_appeal_114 : decode cX0_appeal 114 = .ok (.iconst 1, 1) := dk_4 (dk_at dksX0_appeal_4 19 rfl rfl)
theorem dX0_appeal_115 : decode cX0_appeal 115 = .ok (.isub, 1) := dk_100 (dk_at dksX0_appeal_4 20 rfl rfl)
theorem dX0_appeal_116 : decode cX0_appeal 116 = .ok (.ireturn, 1) := dk_172 (dk_at dksX0_appeal_4 21 rfl rfl)
abbrev cX0_decide : ByteArray := prog_1_method_41_code
def yX0_decide : MethodName := ⟨RX0, "decide", "(II)I"⟩
def dkwX0_decide_8 : List UInt8 := [27, 28, 3, 3, 182, 0, 173, 42, 182, 1, 144, 172]
abbrev dktX0_decide_8 : List UInt8 := dkwX0_decide_8 ++ []
def dkwX0_decide_7 : List UInt8 := [42, 180, 0, 82, 21, 4, 42, 180, 0, 92, 27, 46, 154, 0, 7, 4, 167, 0, 4, 3, 84, 42, 16, 13]
abbrev dktX0_decide_7 : List UInt8 := dkwX0_decide_7 ++ dktX0_decide_8
def dkwX0_decide_6 : List UInt8 := [153, 0, 13, 42, 29, 21, 6, 182, 1, 140, 167, 0, 35, 28, 4, 160, 0, 30, 21, 4, 2, 159, 0, 24]
abbrev dktX0_decide_6 : List UInt8 := dkwX0_decide_6 ++ dktX0_decide_7
def dkwX0_decide_5 : List UInt8 := [21, 5, 153, 0, 11, 21, 6, 154, 0, 6, 16, 252, 172, 42, 180, 0, 95, 27, 4, 84, 21, 5]
abbrev dktX0_decide_5 : List UInt8 := dkwX0_decide_5 ++ dktX0_decide_6
def dkwX0_decide_4 : List UInt8 := [153, 0, 11, 42, 29, 182, 1, 137, 167, 0, 4, 3, 54, 6, 42, 180, 0, 95, 27, 51, 154, 0, 13]
abbrev dktX0_decide_4 : List UInt8 := dkwX0_decide_4 ++ dktX0_decide_5
def dkwX0_decide_3 : List UInt8 := [180, 0, 92, 27, 46, 154, 0, 13, 21, 4, 2, 160, 0, 7, 4, 167, 0, 4, 3, 54, 5, 21, 5]
abbrev dktX0_decide_3 : List UInt8 := dkwX0_decide_3 ++ dktX0_decide_4
def dkwX0_decide_2 : List UInt8 := [172, 42, 180, 0, 89, 27, 46, 62, 42, 180, 0, 86, 29, 46, 54, 4, 28, 4, 160, 0, 22, 42]
abbrev dktX0_decide_2 : List UInt8 := dkwX0_decide_2 ++ dktX0_decide_3
def dkwX0_decide_1 : List UInt8 := [154, 0, 6, 16, 254, 172, 42, 180, 0, 167, 42, 180, 0, 42, 180, 1, 37, 6, 46, 164, 0, 6, 16, 253]
abbrev dktX0_decide_1 : List UInt8 := dkwX0_decide_1 ++ dktX0_decide_2
def dkwX0_decide_0 : List UInt8 := [27, 3, 42, 180, 1, 15, 4, 100, 184, 0, 163, 154, 0, 5, 2, 172, 28, 3, 4, 184, 0, 163]
abbrev dktX0_decide_0 : List UInt8 := dkwX0_decide_0 ++ dktX0_decide_1
theorem dksX0_decide_0 : cX0_decide.data.toList.drop 0 = dktX0_decide_0 := by decide +kernel
theorem dksX0_decide_1 : cX0_decide.data.toList.drop 22 = dktX0_decide_1 := dk_seg dksX0_decide_0 22 rfl rfl
theorem dksX0_decide_2 : cX0_decide.data.toList.drop 46 = dktX0_decide_2 := dk_seg dksX0_decide_1 24 rfl rfl
theorem dksX0_decide_3 : cX0_decide.data.toList.drop 68 = dktX0_decide_3 := dk_seg dksX0_decide_2 22 rfl rfl
theorem dksX0_decide_4 : cX0_decide.data.toList.drop 91 = dktX0_decide_4 := dk_seg dksX0_decide_3 23 rfl rfl
theorem dksX0_decide_5 : cX0_decide.data.toList.drop 114 = dktX0_decide_5 := dk_seg dksX0_decide_4 23 rfl rfl
theorem dksX0_decide_6 : cX0_decide.data.toList.drop 136 = dktX0_decide_6 := dk_seg dksX0_decide_5 22 rfl rfl
theorem dksX0_decide_7 : cX0_decide.data.toList.drop 160 = dktX0_decide_7 := dk_seg dksX0_decide_6 24 rfl rfl
theorem dksX0_decide_8 : cX0_decide.data.toList.drop 184 = dktX0_decide_8 := dk_seg dksX0_decide_7 24 rfl rfl
theorem dX0_decide_0 : decode cX0_decide 0 = .ok (.iload_n 1, 1) := dk_27 (dk_at dksX0_decide_0 0 rfl rfl)
theorem dX0_decide_1 : decode cX0_decide 1 = .ok (.iconst 0, 1) := dk_3 (dk_at dksX0_decide_0 1 rfl rfl)
theorem dX0_decide_2 : decode cX0_decide 2 = .ok (.aload_n 0, 1) := dk_42 (dk_at dksX0_decide_0 2 rfl rfl)
theorem dX0_decide_3 : decode cX0_decide 3 = .ok (.getfield 271, 3) := dk_180 1 15 (dk_at dksX0_decide_0 3 rfl rfl)
theorem dX0_decide_6 : decode cX0_decide 6 = .ok (.iconst 1, 1) := dk_4 (dk_at dksX0_decide_0 6 rfl rfl)
theorem dX0_decide_7 : decode cX0_decide 7 = .ok (.isub, 1) := dk_100 (dk_at dksX0_decide_0 7 rfl rfl)
theorem dX0_decide_8 : decode cX0_decide 8 = .ok (.invokestatic 163, 3) := dk_184 0 163 (dk_at dksX0_decide_0 8 rfl rfl)
theorem dX0_decide_11 : decode cX0_decide 11 = .ok (.ifCond .ne 5, 3) := dk_154 0 5 (dk_at dksX0_decide_0 11 rfl rfl)
theorem dX0_decide_14 : decode cX0_decide 14 = .ok (.iconst (-1), 1) := dk_2 (dk_at dksX0_decide_0 14 rfl rfl)
theorem dX0_decide_15 : decode cX0_decide 15 = .ok (.ireturn, 1) := dk_172 (dk_at dksX0_decide_0 15 rfl rfl)
theorem dX0_decide_16 : decode cX0_decide 16 = .ok (.iload_n 2, 1) := dk_28 (dk_at dksX0_decide_0 16 rfl rfl)
theorem dX0_decide_17 : decode cX0_decide 17 = .ok (.iconst 0, 1) := dk_3 (dk_at dksX0_decide_0 17 rfl rfl)
theorem dX0_decide_18 : decode cX0_decide 18 = .ok (.iconst 1, 1) := dk_4 (dk_at dksX0_decide_0 18 rfl rfl)
theorem dX0_decide_19 : decode cX0_decide 19 = .ok (.invokestatic 163, 3) := dk_184 0 163 (dk_at dksX0_decide_0 19 rfl rfl)
theorem dX0_decide_22 : decode cX0_decide 22 = .ok (.ifCond .ne 6, 3) := dk_154 0 6 (dk_at dksX0_decide_1 0 rfl rfl)
theorem dX0_decide_25 : decode cX0_decide 25 = .ok (.bipush (-2), 2) := dk_16 254 (dk_at dksX0_decide_1 3 rfl rfl)
theorem dX0_decide_27 : decode cX0_decide 27 = .ok (.ireturn, 1) := dk_172 (dk_at dksX0_decide_1 5 rfl rfl)
theorem dX0_decide_28 : decode cX0_decide 28 = .ok (.aload_n 0, 1) := dk_42 (dk_at dksX0_decide_1 6 rfl rfl)
theorem dX0_decide_29 : decode cX0_decide 29 = .ok (.getfield 167, 3) := dk_180 0 167 (dk_at dksX0_decide_1 7 rfl rfl)
theorem dX0_decide_32 : decode cX0_decide 32 = .ok (.aload_n 0, 1) := dk_42 (dk_at dksX0_decide_1 10 rfl rfl)
theorem dX0_decide_33 : decode cX0_decide 33 = .ok (.getfield 42, 3) := dk_180 0 42 (dk_at dksX0_decide_1 11 rfl rfl)
theorem dX0_decide_36 : decode cX0_decide 36 = .ok (.getfield 293, 3) := dk_180 1 37 (dk_at dksX0_decide_1 14 rfl rfl)
theorem dX0_decide_39 : decode cX0_decide 39 = .ok (.iconst 3, 1) := dk_6 (dk_at dksX0_decide_1 17 rfl rfl)
theorem dX0_decide_40 : decode cX0_decide 40 = .ok (.iaload, 1) := dk_46 (dk_at dksX0_decide_1 18 rfl rfl)
theorem dX0_decide_41 : decode cX0_decide 41 = .ok (.if_icmp .le 6, 3) := dk_164 0 6 (dk_at dksX0_decide_1 19 rfl rfl)
theorem dX0_decide_44 : decode cX0_decide 44 = .ok (.bipush (-3), 2) := dk_16 253 (dk_at dksX0_decide_1 22 rfl rfl)
theorem dX0_decide_46 : decode cX0_decide 46 = .ok (.ireturn, 1) := dk_172 (dk_at dksX0_decide_2 0 rfl rfl)
theorem dX0_decide_47 : decode cX0_decide 47 = .ok (.aload_n 0, 1) := dk_42 (dk_at dksX0_decide_2 1 rfl rfl)
theorem dX0_decide_48 : decode cX0_decide 48 = .ok (.getfield 89, 3) := dk_180 0 89 (dk_at dksX0_decide_2 2 rfl rfl)
theorem dX0_decide_51 : decode cX0_decide 51 = .ok (.iload_n 1, 1) := dk_27 (dk_at dksX0_decide_2 5 rfl rfl)
theorem dX0_decide_52 : decode cX0_decide 52 = .ok (.iaload, 1) := dk_46 (dk_at dksX0_decide_2 6 rfl rfl)
theorem dX0_decide_53 : decode cX0_decide 53 = .ok (.istore_n 3, 1) := dk_62 (dk_at dksX0_decide_2 7 rfl rfl)
theorem dX0_decide_54 : decode cX0_decide 54 = .ok (.aload_n 0, 1) := dk_42 (dk_at dksX0_decide_2 8 rfl rfl)
theorem dX0_decide_55 : decode cX0_decide 55 = .ok (.getfield 86, 3) := dk_180 0 86 (dk_at dksX0_decide_2 9 rfl rfl)
theorem dX0_decide_58 : decode cX0_decide 58 = .ok (.iload_n 3, 1) := dk_29 (dk_at dksX0_decide_2 12 rfl rfl)
theorem dX0_decide_59 : decode cX0_decide 59 = .ok (.iaload, 1) := dk_46 (dk_at dksX0_decide_2 13 rfl rfl)
theorem dX0_decide_60 : decode cX0_decide 60 = .ok (.istore 4, 2) := dk_54 4 (dk_at dksX0_decide_2 14 rfl rfl)
theorem dX0_decide_62 : decode cX0_decide 62 = .ok (.iload_n 2, 1) := dk_28 (dk_at dksX0_decide_2 16 rfl rfl)
theorem dX0_decide_63 : decode cX0_decide 63 = .ok (.iconst 1, 1) := dk_4 (dk_at dksX0_decide_2 17 rfl rfl)
theorem dX0_decide_64 : decode cX0_decide 64 = .ok (.if_icmp .ne 22, 3) := dk_160 0 22 (dk_at dksX0_decide_2 18 rfl rfl)
theorem dX0_decide_67 : decode cX0_decide 67 = .ok (.aload_n 0, 1) := dk_42 (dk_at dksX0_decide_2 21 rfl rfl)
theorem dX0_decide_68 : decode cX0_decide 68 = .ok (.getfield 92, 3) := dk_180 0 92 (dk_at dksX0_decide_3 0 rfl rfl)
theorem dX0_decide_71 : decode cX0_decide 71 = .ok (.iload_n 1, 1) := dk_27 (dk_at dksX0_decide_3 3 rfl rfl)
theorem dX0_decide_72 : decode cX0_decide 72 = .ok (.iaload, 1) := dk_46 (dk_at dksX0_decide_3 4 rfl rfl)
theorem dX0_decide_73 : decode cX0_decide 73 = .ok (.ifCond .ne 13, 3) := dk_154 0 13 (dk_at dksX0_decide_3 5 rfl rfl)
theorem dX0_decide_76 : decode cX0_decide 76 = .ok (.iload 4, 2) := dk_21 4 (dk_at dksX0_decide_3 8 rfl rfl)
theorem dX0_decide_78 : decode cX0_decide 78 = .ok (.iconst (-1), 1) := dk_2 (dk_at dksX0_decide_3 10 rfl rfl)
theorem dX0_decide_79 : decode cX0_decide 79 = .ok (.if_icmp .ne 7, 3) := dk_160 0 7 (dk_at dksX0_decide_3 11 rfl rfl)
theorem dX0_decide_82 : decode cX0_decide 82 = .ok (.iconst 1, 1) := dk_4 (dk_at dksX0_decide_3 14 rfl rfl)
theorem dX0_decide_83 : decode cX0_decide 83 = .ok (.goto 4, 3) := dk_167 0 4 (dk_at dksX0_decide_3 15 rfl rfl)
theorem dX0_decide_86 : decode cX0_decide 86 = .ok (.iconst 0, 1) := dk_3 (dk_at dksX0_decide_3 18 rfl rfl)
theorem dX0_decide_87 : decode cX0_decide 87 = .ok (.istore 5, 2) := dk_54 5 (dk_at dksX0_decide_3 19 rfl rfl)
theorem dX0_decide_89 : decode cX0_decide 89 = .ok (.iload 5, 2) := dk_21 5 (dk_at dksX0_decide_3 21 rfl rfl)
theorem dX0_decide_91 : decode cX0_decide 91 = .ok (.ifCond .eq 11, 3) := dk_153 0 11 (dk_at dksX0_decide_4 0 rfl rfl)
theorem dX0_decide_94 : decode cX0_decide 94 = .ok (.aload_n 0, 1) := dk_42 (dk_at dksX0_decide_4 3 rfl rfl)
theorem dX0_decide_95 : decode cX0_decide 95 = .ok (.iload_n 3, 1) := dk_29 (dk_at dksX0_decide_4 4 rfl rfl)
theorem dX0_decide_96 : decode cX0_decide 96 = .ok (.invokevirtual 393, 3) := dk_182 1 137 (dk_at dksX0_decide_4 5 rfl rfl)
theorem dX0_decide_99 : decode cX0_decide 99 = .ok (.goto 4, 3) := dk_167 0 4 (dk_at dksX0_decide_4 8 rfl rfl)
theorem dX0_decide_102 : decode cX0_decide 102 = .ok (.iconst 0, 1) := dk_3 (dk_at dksX0_decide_4 11 rfl rfl)
theorem dX0_decide_103 : decode cX0_decide 103 = .ok (.istore 6, 2) := dk_54 6 (dk_at dksX0_decide_4 12 rfl rfl)
theorem dX0_decide_105 : decode cX0_decide 105 = .ok (.aload_n 0, 1) := dk_42 (dk_at dksX0_decide_4 14 rfl rfl)
theorem dX0_decide_106 : decode cX0_decide 106 = .ok (.getfield 95, 3) := dk_180 0 95 (dk_at dksX0_decide_4 15 rfl rfl)
theorem dX0_decide_109 : decode cX0_decide 109 = .ok (.iload_n 1, 1) := dk_27 (dk_at dksX0_decide_4 18 rfl rfl)
theorem dX0_decide_110 : decode cX0_decide 110 = .ok (.baload, 1) := dk_51 (dk_at dksX0_decide_4 19 rfl rfl)
theorem dX0_decide_111 : decode cX0_decide 111 = .ok (.ifCond .ne 13, 3) := dk_154 0 13 (dk_at dksX0_decide_4 20 rfl rfl)
theorem dX0_decide_114 : decode cX0_decide 114 = .ok (.iload 5, 2) := dk_21 5 (dk_at dksX0_decide_5 0 rfl rfl)
theorem dX0_decide_116 : decode cX0_decide 116 = .ok (.ifCond .eq 11, 3) := dk_153 0 11 (dk_at dksX0_decide_5 2 rfl rfl)
theorem dX0_decide_119 : decode cX0_decide 119 = .ok (.iload 6, 2) := dk_21 6 (dk_at dksX0_decide_5 5 rfl rfl)
theorem dX0_decide_121 : decode cX0_decide 121 = .ok (.ifCond .ne 6, 3) := dk_154 0 6 (dk_at dksX0_decide_5 7 rfl rfl)
theorem dX0_decide_124 : decode cX0_decide 124 = .ok (.bipush (-4), 2) := dk_16 252 (dk_at dksX0_decide_5 10 rfl rfl)
theorem dX0_decide_126 : decode cX0_decide 126 = .ok (.ireturn, 1) := dk_172 (dk_at dksX0_decide_5 12 rfl rfl)
theorem dX0_decide_127 : decode cX0_decide 127 = .ok (.aload_n 0, 1) := dk_42 (dk_at dksX0_decide_5 13 rfl rfl)
theorem dX0_decide_128 : decode cX0_decide 128 = .ok (.getfield 95, 3) := dk_180 0 95 (dk_at dksX0_decide_5 14 rfl rfl)
theorem dX0_decide_131 : decode cX0_decide 131 = .ok (.iload_n 1, 1) := dk_27 (dk_at dksX0_decide_5 17 rfl rfl)
theorem dX0_decide_132 : decode cX0_decide 132 = .ok (.iconst 1, 1) := dk_4 (dk_at dksX0_decide_5 18 rfl rfl)
theorem dX0_decide_133 : decode cX0_decide 133 = .ok (.bastore, 1) := dk_84 (dk_at dksX0_decide_5 19 rfl rfl)
theorem dX0_decide_134 : decode cX0_decide 134 = .ok (.iload 5, 2) := dk_21 5 (dk_at dksX0_decide_5 20 rfl rfl)
theorem dX0_decide_136 : decode cX0_decide 136 = .ok (.ifCond .eq 13, 3) := dk_153 0 13 (dk_at dksX0_decide_6 0 rfl rfl)
theorem dX0_decide_139 : decode cX0_decide 139 = .ok (.aload_n 0, 1) := dk_42 (dk_at dksX0_decide_6 3 rfl rfl)
theorem dX0_decide_140 : decode cX0_decide 140 = .ok (.iload_n 3, 1) := dk_29 (dk_at dksX0_decide_6 4 rfl rfl)
theorem dX0_decide_141 : decode cX0_decide 141 = .ok (.iload 6, 2) := dk_21 6 (dk_at dksX0_decide_6 5 rfl rfl)
theorem dX0_decide_143 : decode cX0_decide 143 = .ok (.invokevirtual 396, 3) := dk_182 1 140 (dk_at dksX0_decide_6 7 rfl rfl)
theorem dX0_decide_146 : decode cX0_decide 146 = .ok (.goto 35, 3) := dk_167 0 35 (dk_at dksX0_decide_6 10 rfl rfl)
theorem dX0_decide_149 : decode cX0_decide 149 = .ok (.iload_n 2, 1) := dk_28 (dk_at dksX0_decide_6 13 rfl rfl)
theorem dX0_decide_150 : decode cX0_decide 150 = .ok (.iconst 1, 1) := dk_4 (dk_at dksX0_decide_6 14 rfl rfl)
theorem dX0_decide_151 : decode cX0_decide 151 = .ok (.if_icmp .ne 30, 3) := dk_160 0 30 (dk_at dksX0_decide_6 15 rfl rfl)
theorem dX0_decide_154 : decode cX0_decide 154 = .ok (.iload 4, 2) := dk_21 4 (dk_at dksX0_decide_6 18 rfl rfl)
theorem dX0_decide_156 : decode cX0_decide 156 = .ok (.iconst (-1), 1) := dk_2 (dk_at dksX0_decide_6 20 rfl rfl)
theorem dX0_decide_157 : decode cX0_decide 157 = .ok (.if_icmp .eq 24, 3) := dk_159 0 24 (dk_at dksX0_decide_6 21 rfl rfl)
theorem dX0_decide_160 : decode cX0_decide 160 = .ok (.aload_n 0, 1) := dk_42 (dk_at dksX0_decide_7 0 rfl rfl)
theorem dX0_decide_161 : decode cX0_decide 161 = .ok (.getfield 82, 3) := dk_180 0 82 (dk_at dksX0_decide_7 1 rfl rfl)
theorem dX0_decide_164 : decode cX0_decide 164 = .ok (.iload 4, 2) := dk_21 4 (dk_at dksX0_decide_7 4 rfl rfl)
theorem dX0_decide_166 : decode cX0_decide 166 = .ok (.aload_n 0, 1) := dk_42 (dk_at dksX0_decide_7 6 rfl rfl)
theorem dX0_decide_167 : decode cX0_decide 167 = .ok (.getfield 92, 3) := dk_180 0 92 (dk_at dksX0_decide_7 7 rfl rfl)
theorem dX0_decide_170 : decode cX0_decide 170 = .ok (.iload_n 1, 1) := dk_27 (dk_at dksX0_decide_7 10 rfl rfl)
theorem dX0_decide_171 : decode cX0_decide 171 = .ok (.iaload, 1) := dk_46 (dk_at dksX0_decide_7 11 rfl rfl)
theorem dX0_decide_172 : decode cX0_decide 172 = .ok (.ifCond .ne 7, 3) := dk_154 0 7 (dk_at dksX0_decide_7 12 rfl rfl)
theorem dX0_decide_175 : decode cX0_decide 175 = .ok (.iconst 1, 1) := dk_4 (dk_at dksX0_decide_7 15 rfl rfl)
theorem dX0_decide_176 : decode cX0_decide 176 = .ok (.goto 4, 3) := dk_167 0 4 (dk_at dksX0_decide_7 16 rfl rfl)
theorem dX0_decide_179 : decode cX0_decide 179 = .ok (.iconst 0, 1) := dk_3 (dk_at dksX0_decide_7 19 rfl rfl)
theorem dX0_decide_180 : decode cX0_decide 180 = .ok (.bastore, 1) := dk_84 (dk_at dksX0_decide_7 20 rfl rfl)
theorem dX0_decide_181 : decode cX0_decide 181 = .ok (.aload_n 0, 1) := dk_42 (dk_at dksX0_decide_7 21 rfl rfl)
theorem dX0_decide_182 : decode cX0_decide 182 = .ok (.bipush 13, 2) := dk_16 13 (dk_at dksX0_decide_7 22 rfl rfl)
theorem dX0_decide_184 : decode cX0_decide 184 = .ok (.iload_n 1, 1) := dk_27 (dk_at dksX0_decide_8 0 rfl rfl)
theorem dX0_decide_185 : decode cX0_decide 185 = .ok (.iload_n 2, 1) := dk_28 (dk_at dksX0_decide_8 1 rfl rfl)
theorem dX0_decide_186 : decode cX0_decide 186 = .ok (.iconst 0, 1) := dk_3 (dk_at dksX0_decide_8 2 rfl rfl)
theorem dX0_decide_187 : decode cX0_decide 187 = .ok (.iconst 0, 1) := dk_3 (dk_at dksX0_decide_8 3 rfl rfl)
theorem dX0_decide_188 : decode cX0_decide 188 = .ok (.invokevirtual 173, 3) := dk_182 0 173 (dk_at dksX0_decide_8 4 rfl rfl)
theorem dX0_decide_191 : decode cX0_decide 191 = .ok (.aload_n 0, 1) := dk_42 (dk_at dksX0_decide_8 7 rfl rfl)
theorem dX0_decide_192 : decode cX0_decide 192 = .ok (.invokevirtual 400, 3) := dk_182 1 144 (dk_at dksX0_decide_8 8 rfl rfl)
theorem dX0_decide_195 : decode cX0_decide 195 = .ok (.ireturn, 1) := dk_172 (dk_at dksX0_decide_8 11 rfl rfl)
abbrev cX0_onRoll : ByteArray := prog_1_method_39_code
def yX0_onRoll : MethodName := ⟨RX0, "onRoll", "()I"⟩
def dkwX0_onRoll_1 : List UInt8 := [167, 0, 4, 3, 96, 60, 132, 2, 1, 167, 255, 228, 27, 172]
abbrev dktX0_onRoll_1 : List UInt8 := dkwX0_onRoll_1 ++ []
def dkwX0_onRoll_0 : List UInt8 := [3, 60, 3, 61, 28, 42, 180, 1, 12, 162, 0, 26, 27, 42, 180, 0, 82, 28, 51, 153, 0, 7, 4]
abbrev dktX0_onRoll_0 : List UInt8 := dkwX0_onRoll_0 ++ dktX0_onRoll_1
theorem dksX0_onRoll_0 : cX0_onRoll.data.toList.drop 0 = dktX0_onRoll_0 := by decide +kernel
theorem dksX0_onRoll_1 : cX0_onRoll.data.toList.drop 23 = dktX0_onRoll_1 := dk_seg dksX0_onRoll_0 23 rfl rfl
theorem dX0_onRoll_0 : decode cX0_onRoll 0 = .ok (.iconst 0, 1) := dk_3 (dk_at dksX0_onRoll_0 0 rfl rfl)
theorem dX0_onRoll_1 : decode cX0_onRoll 1 = .ok (.istore_n 1, 1) := dk_60 (dk_at dksX0_onRoll_0 1 rfl rfl)
theorem dX0_onRoll_2 : decode cX0_onRoll 2 = .ok (.iconst 0, 1) := dk_3 (dk_at dksX0_onRoll_0 2 rfl rfl)
theorem dX0_onRoll_3 : decode cX0_onRoll 3 = .ok (.istore_n 2, 1) := dk_61 (dk_at dksX0_onRoll_0 3 rfl rfl)
theorem dX0_onRoll_4 : decode cX0_onRoll 4 = .ok (.iload_n 2, 1) := dk_28 (dk_at dksX0_onRoll_0 4 rfl rfl)
theorem dX0_onRoll_5 : decode cX0_onRoll 5 = .ok (.aload_n 0, 1) := dk_42 (dk_at dksX0_onRoll_0 5 rfl rfl)
theorem dX0_onRoll_6 : decode cX0_onRoll 6 = .ok (.getfield 268, 3) := dk_180 1 12 (dk_at dksX0_onRoll_0 6 rfl rfl)
theorem dX0_onRoll_9 : decode cX0_onRoll 9 = .ok (.if_icmp .ge 26, 3) := dk_162 0 26 (dk_at dksX0_onRoll_0 9 rfl rfl)
theorem dX0_onRoll_12 : decode cX0_onRoll 12 = .ok (.iload_n 1, 1) := dk_27 (dk_at dksX0_onRoll_0 12 rfl rfl)
theorem dX0_onRoll_13 : decode cX0_onRoll 13 = .ok (.aload_n 0, 1) := dk_42 (dk_at dksX0_onRoll_0 13 rfl rfl)
theorem dX0_onRoll_14 : decode cX0_onRoll 14 = .ok (.getfield 82, 3) := dk_180 0 82 (dk_at dksX0_onRoll_0 14 rfl rfl)
theorem dX0_onRoll_17 : decode cX0_onRoll 17 = .ok (.iload_n 2, 1) := dk_28 (dk_at dksX0_onRoll_0 17 rfl rfl)
theorem dX0_onRoll_18 : decode cX0_onRoll 18 = .ok (.baload, 1) := dk_51 (dk_at dksX0_onRoll_0 18 rfl rfl)
theorem dX0_onRoll_19 : decode cX0_onRoll 19 = .ok (.ifCond .eq 7, 3) := dk_153 0 7 (dk_at dksX0_onRoll_0 19 rfl rfl)
theorem dX0_onRoll_22 : decode cX0_onRoll 22 = .ok (.iconst 1, 1) := dk_4 (dk_at dksX0_onRoll_0 22 rfl rfl)
theorem dX0_onRoll_23 : decode cX0_onRoll 23 = .ok (.goto 4, 3) := dk_167 0 4 (dk_at dksX0_onRoll_1 0 rfl rfl)
theorem dX0_onRoll_26 : decode cX0_onRoll 26 = .ok (.iconst 0, 1) := dk_3 (dk_at dksX0_onRoll_1 3 rfl rfl)
theorem dX0_onRoll_27 : decode cX0_onRoll 27 = .ok (.iadd, 1) := dk_96 (dk_at dksX0_onRoll_1 4 rfl rfl)
theorem dX0_onRoll_28 : decode cX0_onRoll 28 = .ok (.istore_n 1, 1) := dk_60 (dk_at dksX0_onRoll_1 5 rfl rfl)
theorem dX0_onRoll_29 : decode cX0_onRoll 29 = .ok (.iinc 2 1, 3) := dk_132 2 1 (dk_at dksX0_onRoll_1 6 rfl rfl)
theorem dX0_onRoll_32 : decode cX0_onRoll 32 = .ok (.goto (-28), 3) := dk_167 255 228 (dk_at dksX0_onRoll_1 9 rfl rfl)
theorem dX0_onRoll_35 : decode cX0_onRoll 35 = .ok (.iload_n 1, 1) := dk_27 (dk_at dksX0_onRoll_1 12 rfl rfl)
theorem dX0_onRoll_36 : decode cX0_onRoll 36 = .ok (.ireturn, 1) := dk_172 (dk_at dksX0_onRoll_1 13 rfl rfl)
abbrev cX0_sheets : ByteArray := prog_1_method_43_code
def yX0_sheets : MethodName := ⟨RX0, "sheets", "(II)I"⟩
def dkwX0_sheets_4 : List UInt8 := [167, 255, 213, 28, 154, 0, 7, 29, 167, 0, 15, 28, 4, 160, 0, 8, 21, 4, 167, 0, 5, 16, 254, 172]
abbrev dktX0_sheets_4 : List UInt8 := dkwX0_sheets_4 ++ []
def dkwX0_sheets_3 : List UInt8 := [42, 180, 0, 79, 21, 5, 46, 29, 160, 0, 7, 4, 167, 0, 4, 3, 96, 54, 4, 132, 5, 1]
abbrev dktX0_sheets_3 : List UInt8 := dkwX0_sheets_3 ++ dktX0_sheets_4
def dkwX0_sheets_2 : List UInt8 := [3, 54, 5, 21, 5, 42, 180, 1, 12, 162, 0, 40, 21, 4, 42, 180, 0, 82, 21, 5, 51, 153, 0, 18]
abbrev dktX0_sheets_2 : List UInt8 := dkwX0_sheets_2 ++ dktX0_sheets_3
def dkwX0_sheets_1 : List UInt8 := [153, 0, 15, 42, 29, 182, 1, 147, 62, 132, 4, 1, 167, 255, 237, 29, 154, 0, 5, 2, 172, 3, 54, 4]
abbrev dktX0_sheets_1 : List UInt8 := dkwX0_sheets_1 ++ dktX0_sheets_2
def dkwX0_sheets_0 : List UInt8 := [27, 156, 0, 7, 3, 167, 0, 8, 42, 3, 182, 1, 147, 62, 3, 54, 4, 21, 4, 27, 162, 0, 19, 29]
abbrev dktX0_sheets_0 : List UInt8 := dkwX0_sheets_0 ++ dktX0_sheets_1
theorem dksX0_sheets_0 : cX0_sheets.data.toList.drop 0 = dktX0_sheets_0 := by decide +kernel
theorem dksX0_sheets_1 : cX0_sheets.data.toList.drop 24 = dktX0_sheets_1 := dk_seg dksX0_sheets_0 24 rfl rfl
theorem dksX0_sheets_2 : cX0_sheets.data.toList.drop 48 = dktX0_sheets_2 := dk_seg dksX0_sheets_1 24 rfl rfl
theorem dksX0_sheets_3 : cX0_sheets.data.toList.drop 72 = dktX0_sheets_3 := dk_seg dksX0_sheets_2 24 rfl rfl
theorem dksX0_sheets_4 : cX0_sheets.data.toList.drop 94 = dktX0_sheets_4 := dk_seg dksX0_sheets_3 22 rfl rfl
theorem dX0_sheets_0 : decode cX0_sheets 0 = .ok (.iload_n 1, 1) := dk_27 (dk_at dksX0_sheets_0 0 rfl rfl)
theorem dX0_sheets_1 : decode cX0_sheets 1 = .ok (.ifCond .ge 7, 3) := dk_156 0 7 (dk_at dksX0_sheets_0 1 rfl rfl)
theorem dX0_sheets_4 : decode cX0_sheets 4 = .ok (.iconst 0, 1) := dk_3 (dk_at dksX0_sheets_0 4 rfl rfl)
theorem dX0_sheets_5 : decode cX0_sheets 5 = .ok (.goto 8, 3) := dk_167 0 8 (dk_at dksX0_sheets_0 5 rfl rfl)
theorem dX0_sheets_8 : decode cX0_sheets 8 = .ok (.aload_n 0, 1) := dk_42 (dk_at dksX0_sheets_0 8 rfl rfl)
theorem dX0_sheets_9 : decode cX0_sheets 9 = .ok (.iconst 0, 1) := dk_3 (dk_at dksX0_sheets_0 9 rfl rfl)
theorem dX0_sheets_10 : decode cX0_sheets 10 = .ok (.invokevirtual 403, 3) := dk_182 1 147 (dk_at dksX0_sheets_0 10 rfl rfl)
theorem dX0_sheets_13 : decode cX0_sheets 13 = .ok (.istore_n 3, 1) := dk_62 (dk_at dksX0_sheets_0 13 rfl rfl)
theorem dX0_sheets_14 : decode cX0_sheets 14 = .ok (.iconst 0, 1) := dk_3 (dk_at dksX0_sheets_0 14 rfl rfl)
theorem dX0_sheets_15 : decode cX0_sheets 15 = .ok (.istore 4, 2) := dk_54 4 (dk_at dksX0_sheets_0 15 rfl rfl)
theorem dX0_sheets_17 : decode cX0_sheets 17 = .ok (.iload 4, 2) := dk_21 4 (dk_at dksX0_sheets_0 17 rfl rfl)
theorem dX0_sheets_19 : decode cX0_sheets 19 = .ok (.iload_n 1, 1) := dk_27 (dk_at dksX0_sheets_0 19 rfl rfl)
theorem dX0_sheets_20 : decode cX0_sheets 20 = .ok (.if_icmp .ge 19, 3) := dk_162 0 19 (dk_at dksX0_sheets_0 20 rfl rfl)
theorem dX0_sheets_23 : decode cX0_sheets 23 = .ok (.iload_n 3, 1) := dk_29 (dk_at dksX0_sheets_0 23 rfl rfl)
theorem dX0_sheets_24 : decode cX0_sheets 24 = .ok (.ifCond .eq 15, 3) := dk_153 0 15 (dk_at dksX0_sheets_1 0 rfl rfl)
theorem dX0_sheets_27 : decode cX0_sheets 27 = .ok (.aload_n 0, 1) := dk_42 (dk_at dksX0_sheets_1 3 rfl rfl)
theorem dX0_sheets_28 : decode cX0_sheets 28 = .ok (.iload_n 3, 1) := dk_29 (dk_at dksX0_sheets_1 4 rfl rfl)
theorem dX0_sheets_29 : decode cX0_sheets 29 = .ok (.invokevirtual 403, 3) := dk_182 1 147 (dk_at dksX0_sheets_1 5 rfl rfl)
theorem dX0_sheets_32 : decode cX0_sheets 32 = .ok (.istore_n 3, 1) := dk_62 (dk_at dksX0_sheets_1 8 rfl rfl)
theorem dX0_sheets_33 : decode cX0_sheets 33 = .ok (.iinc 4 1, 3) := dk_132 4 1 (dk_at dksX0_sheets_1 9 rfl rfl)
theorem dX0_sheets_36 : decode cX0_sheets 36 = .ok (.goto (-19), 3) := dk_167 255 237 (dk_at dksX0_sheets_1 12 rfl rfl)
theorem dX0_sheets_39 : decode cX0_sheets 39 = .ok (.iload_n 3, 1) := dk_29 (dk_at dksX0_sheets_1 15 rfl rfl)
theorem dX0_sheets_40 : decode cX0_sheets 40 = .ok (.ifCond .ne 5, 3) := dk_154 0 5 (dk_at dksX0_sheets_1 16 rfl rfl)
theorem dX0_sheets_43 : decode cX0_sheets 43 = .ok (.iconst (-1), 1) := dk_2 (dk_at dksX0_sheets_1 19 rfl rfl)
theorem dX0_sheets_44 : decode cX0_sheets 44 = .ok (.ireturn, 1) := dk_172 (dk_at dksX0_sheets_1 20 rfl rfl)
theorem dX0_sheets_45 : decode cX0_sheets 45 = .ok (.iconst 0, 1) := dk_3 (dk_at dksX0_sheets_1 21 rfl rfl)
theorem dX0_sheets_46 : decode cX0_sheets 46 = .ok (.istore 4, 2) := dk_54 4 (dk_at dksX0_sheets_1 22 rfl rfl)
theorem dX0_sheets_48 : decode cX0_sheets 48 = .ok (.iconst 0, 1) := dk_3 (dk_at dksX0_sheets_2 0 rfl rfl)
theorem dX0_sheets_49 : decode cX0_sheets 49 = .ok (.istore 5, 2) := dk_54 5 (dk_at dksX0_sheets_2 1 rfl rfl)
theorem dX0_sheets_51 : decode cX0_sheets 51 = .ok (.iload 5, 2) := dk_21 5 (dk_at dksX0_sheets_2 3 rfl rfl)
theorem dX0_sheets_53 : decode cX0_sheets 53 = .ok (.aload_n 0, 1) := dk_42 (dk_at dksX0_sheets_2 5 rfl rfl)
theorem dX0_sheets_54 : decode cX0_sheets 54 = .ok (.getfield 268, 3) := dk_180 1 12 (dk_at dksX0_sheets_2 6 rfl rfl)
theorem dX0_sheets_57 : decode cX0_sheets 57 = .ok (.if_icmp .ge 40, 3) := dk_162 0 40 (dk_at dksX0_sheets_2 9 rfl rfl)
theorem dX0_sheets_60 : decode cX0_sheets 60 = .ok (.iload 4, 2) := dk_21 4 (dk_at dksX0_sheets_2 12 rfl rfl)
theorem dX0_sheets_62 : decode cX0_sheets 62 = .ok (.aload_n 0, 1) := dk_42 (dk_at dksX0_sheets_2 14 rfl rfl)
theorem dX0_sheets_63 : decode cX0_sheets 63 = .ok (.getfield 82, 3) := dk_180 0 82 (dk_at dksX0_sheets_2 15 rfl rfl)
theorem dX0_sheets_66 : decode cX0_sheets 66 = .ok (.iload 5, 2) := dk_21 5 (dk_at dksX0_sheets_2 18 rfl rfl)
theorem dX0_sheets_68 : decode cX0_sheets 68 = .ok (.baload, 1) := dk_51 (dk_at dksX0_sheets_2 20 rfl rfl)
theorem dX0_sheets_69 : decode cX0_sheets 69 = .ok (.ifCond .eq 18, 3) := dk_153 0 18 (dk_at dksX0_sheets_2 21 rfl rfl)
theorem dX0_sheets_72 : decode cX0_sheets 72 = .ok (.aload_n 0, 1) := dk_42 (dk_at dksX0_sheets_3 0 rfl rfl)
theorem dX0_sheets_73 : decode cX0_sheets 73 = .ok (.getfield 79, 3) := dk_180 0 79 (dk_at dksX0_sheets_3 1 rfl rfl)
theorem dX0_sheets_76 : decode cX0_sheets 76 = .ok (.iload 5, 2) := dk_21 5 (dk_at dksX0_sheets_3 4 rfl rfl)
theorem dX0_sheets_78 : decode cX0_sheets 78 = .ok (.iaload, 1) := dk_46 (dk_at dksX0_sheets_3 6 rfl rfl)
theorem dX0_sheets_79 : decode cX0_sheets 79 = .ok (.iload_n 3, 1) := dk_29 (dk_at dksX0_sheets_3 7 rfl rfl)
theorem dX0_sheets_80 : decode cX0_sheets 80 = .ok (.if_icmp .ne 7, 3) := dk_160 0 7 (dk_at dksX0_sheets_3 8 rfl rfl)
theorem dX0_sheets_83 : decode cX0_sheets 83 = .ok (.iconst 1, 1) := dk_4 (dk_at dksX0_sheets_3 11 rfl rfl)
theorem dX0_sheets_84 : decode cX0_sheets 84 = .ok (.goto 4, 3) := dk_167 0 4 (dk_at dksX0_sheets_3 12 rfl rfl)
theorem dX0_sheets_87 : decode cX0_sheets 87 = .ok (.iconst 0, 1) := dk_3 (dk_at dksX0_sheets_3 15 rfl rfl)
theorem dX0_sheets_88 : decode cX0_sheets 88 = .ok (.iadd, 1) := dk_96 (dk_at dksX0_sheets_3 16 rfl rfl)
theorem dX0_sheets_89 : decode cX0_sheets 89 = .ok (.istore 4, 2) := dk_54 4 (dk_at dksX0_sheets_3 17 rfl rfl)
theorem dX0_sheets_91 : decode cX0_sheets 91 = .ok (.iinc 5 1, 3) := dk_132 5 1 (dk_at dksX0_sheets_3 19 rfl rfl)
theorem dX0_sheets_94 : decode cX0_sheets 94 = .ok (.goto (-43), 3) := dk_167 255 213 (dk_at dksX0_sheets_4 0 rfl rfl)
theorem dX0_sheets_97 : decode cX0_sheets 97 = .ok (.iload_n 2, 1) := dk_28 (dk_at dksX0_sheets_4 3 rfl rfl)
theorem dX0_sheets_98 : decode cX0_sheets 98 = .ok (.ifCond .ne 7, 3) := dk_154 0 7 (dk_at dksX0_sheets_4 4 rfl rfl)
theorem dX0_sheets_101 : decode cX0_sheets 101 = .ok (.iload_n 3, 1) := dk_29 (dk_at dksX0_sheets_4 7 rfl rfl)
theorem dX0_sheets_102 : decode cX0_sheets 102 = .ok (.goto 15, 3) := dk_167 0 15 (dk_at dksX0_sheets_4 8 rfl rfl)
theorem dX0_sheets_105 : decode cX0_sheets 105 = .ok (.iload_n 2, 1) := dk_28 (dk_at dksX0_sheets_4 11 rfl rfl)
theorem dX0_sheets_106 : decode cX0_sheets 106 = .ok (.iconst 1, 1) := dk_4 (dk_at dksX0_sheets_4 12 rfl rfl)
theorem dX0_sheets_107 : decode cX0_sheets 107 = .ok (.if_icmp .ne 8, 3) := dk_160 0 8 (dk_at dksX0_sheets_4 13 rfl rfl)
theorem dX0_sheets_110 : decode cX0_sheets 110 = .ok (.iload 4, 2) := dk_21 4 (dk_at dksX0_sheets_4 16 rfl rfl)
theorem dX0_sheets_112 : decode cX0_sheets 112 = .ok (.goto 5, 3) := dk_167 0 5 (dk_at dksX0_sheets_4 18 rfl rfl)
theorem dX0_sheets_115 : decode cX0_sheets 115 = .ok (.bipush (-2), 2) := dk_16 254 (dk_at dksX0_sheets_4 21 rfl rfl)
theorem dX0_sheets_117 : decode cX0_sheets 117 = .ok (.ireturn, 1) := dk_172 (dk_at dksX0_sheets_4 23 rfl rfl)
abbrev cX0_nextSheet : ByteArray := prog_1_method_42_code
def yX0_nextSheet : MethodName := ⟨RX0, "nextSheet", "(I)I"⟩
def dkwX0_nextSheet_2 : List UInt8 := [167, 0, 4, 28, 61, 132, 3, 1, 167, 255, 205, 28, 172]
abbrev dktX0_nextSheet_2 : List UInt8 := dkwX0_nextSheet_2 ++ []
def dkwX0_nextSheet_1 : List UInt8 := [29, 51, 153, 0, 24, 21, 4, 27, 164, 0, 18, 28, 153, 0, 9, 21, 4, 28, 162, 0, 8, 21, 4]
abbrev dktX0_nextSheet_1 : List UInt8 := dkwX0_nextSheet_1 ++ dktX0_nextSheet_2
def dkwX0_nextSheet_0 : List UInt8 := [3, 61, 3, 62, 29, 42, 180, 1, 12, 162, 0, 49, 42, 180, 0, 79, 29, 46, 54, 4, 42, 180, 0, 82]
abbrev dktX0_nextSheet_0 : List UInt8 := dkwX0_nextSheet_0 ++ dktX0_nextSheet_1
theorem dksX0_nextSheet_0 : cX0_nextSheet.data.toList.drop 0 = dktX0_nextSheet_0 := by decide +kernel
theorem dksX0_nextSheet_1 : cX0_nextSheet.data.toList.drop 24 = dktX0_nextSheet_1 := dk_seg dksX0_nextSheet_0 24 rfl rfl
theorem dksX0_nextSheet_2 : cX0_nextSheet.data.toList.drop 47 = dktX0_nextSheet_2 := dk_seg dksX0_nextSheet_1 23 rfl rfl
theorem dX0_nextSheet_0 : decode cX0_nextSheet 0 = .ok (.iconst 0, 1) := dk_3 (dk_at dksX0_nextSheet_0 0 rfl rfl)
theorem dX0_nextSheet_1 : decode cX0_nextSheet 1 = .ok (.istore_n 2, 1) := dk_61 (dk_at dksX0_nextSheet_0 1 rfl rfl)
theorem dX0_nextSheet_2 : decode cX0_nextSheet 2 = .ok (.iconst 0, 1) := dk_3 (dk_at dksX0_nextSheet_0 2 rfl rfl)
theorem dX0_nextSheet_3 : decode cX0_nextSheet 3 = .ok (.istore_n 3, 1) := dk_62 (dk_at dksX0_nextSheet_0 3 rfl rfl)
theorem dX0_nextSheet_4 : decode cX0_nextSheet 4 = .ok (.iload_n 3, 1) := dk_29 (dk_at dksX0_nextSheet_0 4 rfl rfl)
theorem dX0_nextSheet_5 : decode cX0_nextSheet 5 = .ok (.aload_n 0, 1) := dk_42 (dk_at dksX0_nextSheet_0 5 rfl rfl)
theorem dX0_nextSheet_6 : decode cX0_nextSheet 6 = .ok (.getfield 268, 3) := dk_180 1 12 (dk_at dksX0_nextSheet_0 6 rfl rfl)
theorem dX0_nextSheet_9 : decode cX0_nextSheet 9 = .ok (.if_icmp .ge 49, 3) := dk_162 0 49 (dk_at dksX0_nextSheet_0 9 rfl rfl)
theorem dX0_nextSheet_12 : decode cX0_nextSheet 12 = .ok (.aload_n 0, 1) := dk_42 (dk_at dksX0_nextSheet_0 12 rfl rfl)
theorem dX0_nextSheet_13 : decode cX0_nextSheet 13 = .ok (.getfield 79, 3) := dk_180 0 79 (dk_at dksX0_nextSheet_0 13 rfl rfl)
theorem dX0_nextSheet_16 : decode cX0_nextSheet 16 = .ok (.iload_n 3, 1) := dk_29 (dk_at dksX0_nextSheet_0 16 rfl rfl)
theorem dX0_nextSheet_17 : decode cX0_nextSheet 17 = .ok (.iaload, 1) := dk_46 (dk_at dksX0_nextSheet_0 17 rfl rfl)
theorem dX0_nextSheet_18 : decode cX0_nextSheet 18 = .ok (.istore 4, 2) := dk_54 4 (dk_at dksX0_nextSheet_0 18 rfl rfl)
theorem dX0_nextSheet_20 : decode cX0_nextSheet 20 = .ok (.aload_n 0, 1) := dk_42 (dk_at dksX0_nextSheet_0 20 rfl rfl)
theorem dX0_nextSheet_21 : decode cX0_nextSheet 21 = .ok (.getfield 82, 3) := dk_180 0 82 (dk_at dksX0_nextSheet_0 21 rfl rfl)
theorem dX0_nextSheet_24 : decode cX0_nextSheet 24 = .ok (.iload_n 3, 1) := dk_29 (dk_at dksX0_nextSheet_1 0 rfl rfl)
theorem dX0_nextSheet_25 : decode cX0_nextSheet 25 = .ok (.baload, 1) := dk_51 (dk_at dksX0_nextSheet_1 1 rfl rfl)
theorem dX0_nextSheet_26 : decode cX0_nextSheet 26 = .ok (.ifCond .eq 24, 3) := dk_153 0 24 (dk_at dksX0_nextSheet_1 2 rfl rfl)
theorem dX0_nextSheet_29 : decode cX0_nextSheet 29 = .ok (.iload 4, 2) := dk_21 4 (dk_at dksX0_nextSheet_1 5 rfl rfl)
theorem dX0_nextSheet_31 : decode cX0_nextSheet 31 = .ok (.iload_n 1, 1) := dk_27 (dk_at dksX0_nextSheet_1 7 rfl rfl)
theorem dX0_nextSheet_32 : decode cX0_nextSheet 32 = .ok (.if_icmp .le 18, 3) := dk_164 0 18 (dk_at dksX0_nextSheet_1 8 rfl rfl)
theorem dX0_nextSheet_35 : decode cX0_nextSheet 35 = .ok (.iload_n 2, 1) := dk_28 (dk_at dksX0_nextSheet_1 11 rfl rfl)
theorem dX0_nextSheet_36 : decode cX0_nextSheet 36 = .ok (.ifCond .eq 9, 3) := dk_153 0 9 (dk_at dksX0_nextSheet_1 12 rfl rfl)
theorem dX0_nextSheet_39 : decode cX0_nextSheet 39 = .ok (.iload 4, 2) := dk_21 4 (dk_at dksX0_nextSheet_1 15 rfl rfl)
theorem dX0_nextSheet_41 : decode cX0_nextSheet 41 = .ok (.iload_n 2, 1) := dk_28 (dk_at dksX0_nextSheet_1 17 rfl rfl)
theorem dX0_nextSheet_42 : decode cX0_nextSheet 42 = .ok (.if_icmp .ge 8, 3) := dk_162 0 8 (dk_at dksX0_nextSheet_1 18 rfl rfl)
theorem dX0_nextSheet_45 : decode cX0_nextSheet 45 = .ok (.iload 4, 2) := dk_21 4 (dk_at dksX0_nextSheet_1 21 rfl rfl)
theorem dX0_nextSheet_47 : decode cX0_nextSheet 47 = .ok (.goto 4, 3) := dk_167 0 4 (dk_at dksX0_nextSheet_2 0 rfl rfl)
theorem dX0_nextSheet_50 : decode cX0_nextSheet 50 = .ok (.iload_n 2, 1) := dk_28 (dk_at dksX0_nextSheet_2 3 rfl rfl)
theorem dX0_nextSheet_51 : decode cX0_nextSheet 51 = .ok (.istore_n 2, 1) := dk_61 (dk_at dksX0_nextSheet_2 4 rfl rfl)
theorem dX0_nextSheet_52 : decode cX0_nextSheet 52 = .ok (.iinc 3 1, 3) := dk_132 3 1 (dk_at dksX0_nextSheet_2 5 rfl rfl)
theorem dX0_nextSheet_55 : decode cX0_nextSheet 55 = .ok (.goto (-51), 3) := dk_167 255 205 (dk_at dksX0_nextSheet_2 8 rfl rfl)
theorem dX0_nextSheet_58 : decode cX0_nextSheet 58 = .ok (.iload_n 2, 1) := dk_28 (dk_at dksX0_nextSheet_2 11 rfl rfl)
theorem dX0_nextSheet_59 : decode cX0_nextSheet 59 = .ok (.ireturn, 1) := dk_172 (dk_at dksX0_nextSheet_2 12 rfl rfl)
abbrev cX0_candidate : ByteArray := prog_1_method_45_code
def yX0_candidate : MethodName := ⟨RX0, "candidate", "(III)I"⟩
def dkwX0_candidate_4 : List UInt8 := [16, 254, 172]
abbrev dktX0_candidate_4 : List UInt8 := dkwX0_candidate_4 ++ []
def dkwX0_candidate_3 : List UInt8 := [25, 4, 180, 1, 162, 28, 51, 153, 0, 7, 4, 167, 0, 4, 3, 172, 25, 4, 180, 1, 165, 28, 46, 172]
abbrev dktX0_candidate_3 : List UInt8 := dkwX0_candidate_3 ++ dktX0_candidate_4
def dkwX0_candidate_2 : List UInt8 := [25, 4, 180, 1, 154, 28, 46, 172, 25, 4, 180, 1, 156, 28, 46, 172, 25, 4, 180, 1, 159, 28, 46, 172]
abbrev dktX0_candidate_2 : List UInt8 := dkwX0_candidate_2 ++ dktX0_candidate_3
def dkwX0_candidate_1 : List UInt8 := [170, 0, 0, 0, 0, 0, 0, 84, 0, 0, 0, 0, 0, 0, 0, 4, 0, 0, 0, 36, 0, 0, 0, 44, 0, 0, 0, 52, 0, 0, 0, 60, 0, 0, 0, 76]
abbrev dktX0_candidate_1 : List UInt8 := dkwX0_candidate_1 ++ dktX0_candidate_2
def dkwX0_candidate_0 : List UInt8 := [42, 27, 28, 182, 1, 150, 154, 0, 5, 2, 172, 42, 180, 0, 62, 27, 50, 58, 4, 29]
abbrev dktX0_candidate_0 : List UInt8 := dkwX0_candidate_0 ++ dktX0_candidate_1
theorem dksX0_candidate_0 : cX0_candidate.data.toList.drop 0 = dktX0_candidate_0 := by decide +kernel
theorem dksX0_candidate_1 : cX0_candidate.data.toList.drop 20 = dktX0_candidate_1 := dk_seg dksX0_candidate_0 20 rfl rfl
theorem dksX0_candidate_2 : cX0_candidate.data.toList.drop 56 = dktX0_candidate_2 := dk_seg dksX0_candidate_1 36 rfl rfl
theorem dksX0_candidate_3 : cX0_candidate.data.toList.drop 80 = dktX0_candidate_3 := dk_seg dksX0_candidate_2 24 rfl rfl
theorem dksX0_candidate_4 : cX0_candidate.data.toList.drop 104 = dktX0_candidate_4 := dk_seg dksX0_candidate_3 24 rfl rfl
theorem dX0_candidate_0 : decode cX0_candidate 0 = .ok (.aload_n 0, 1) := dk_42 (dk_at dksX0_candidate_0 0 rfl rfl)
theorem dX0_candidate_1 : decode cX0_candidate 1 = .ok (.iload_n 1, 1) := dk_27 (dk_at dksX0_candidate_0 1 rfl rfl)
theorem dX0_candidate_2 : decode cX0_candidate 2 = .ok (.iload_n 2, 1) := dk_28 (dk_at dksX0_candidate_0 2 rfl rfl)
theorem dX0_candidate_3 : decode cX0_candidate 3 = .ok (.invokevirtual 406, 3) := dk_182 1 150 (dk_at dksX0_candidate_0 3 rfl rfl)
theorem dX0_candidate_6 : decode cX0_candidate 6 = .ok (.ifCond .ne 5, 3) := dk_154 0 5 (dk_at dksX0_candidate_0 6 rfl rfl)
theorem dX0_candidate_9 : decode cX0_candidate 9 = .ok (.iconst (-1), 1) := dk_2 (dk_at dksX0_candidate_0 9 rfl rfl)
theorem dX0_candidate_10 : decode cX0_candidate 10 = .ok (.ireturn, 1) := dk_172 (dk_at dksX0_candidate_0 10 rfl rfl)
theorem dX0_candidate_11 : decode cX0_candidate 11 = .ok (.aload_n 0, 1) := dk_42 (dk_at dksX0_candidate_0 11 rfl rfl)
theorem dX0_candidate_12 : decode cX0_candidate 12 = .ok (.getfield 62, 3) := dk_180 0 62 (dk_at dksX0_candidate_0 12 rfl rfl)
theorem dX0_candidate_15 : decode cX0_candidate 15 = .ok (.iload_n 1, 1) := dk_27 (dk_at dksX0_candidate_0 15 rfl rfl)
theorem dX0_candidate_16 : decode cX0_candidate 16 = .ok (.aaload, 1) := dk_50 (dk_at dksX0_candidate_0 16 rfl rfl)
theorem dX0_candidate_17 : decode cX0_candidate 17 = .ok (.astore 4, 2) := dk_58 4 (dk_at dksX0_candidate_0 17 rfl rfl)
theorem dX0_candidate_19 : decode cX0_candidate 19 = .ok (.iload_n 3, 1) := dk_29 (dk_at dksX0_candidate_0 19 rfl rfl)
theorem dX0_candidate_20 : decode cX0_candidate 20 = .ok (.tableswitch 84 0 4 #[36, 44, 52, 60, 76], 36) := by decide +kernel
theorem dX0_candidate_56 : decode cX0_candidate 56 = .ok (.aload 4, 2) := dk_25 4 (dk_at dksX0_candidate_2 0 rfl rfl)
theorem dX0_candidate_58 : decode cX0_candidate 58 = .ok (.getfield 410, 3) := dk_180 1 154 (dk_at dksX0_candidate_2 2 rfl rfl)
theorem dX0_candidate_61 : decode cX0_candidate 61 = .ok (.iload_n 2, 1) := dk_28 (dk_at dksX0_candidate_2 5 rfl rfl)
theorem dX0_candidate_62 : decode cX0_candidate 62 = .ok (.iaload, 1) := dk_46 (dk_at dksX0_candidate_2 6 rfl rfl)
theorem dX0_candidate_63 : decode cX0_candidate 63 = .ok (.ireturn, 1) := dk_172 (dk_at dksX0_candidate_2 7 rfl rfl)
theorem dX0_candidate_64 : decode cX0_candidate 64 = .ok (.aload 4, 2) := dk_25 4 (dk_at dksX0_candidate_2 8 rfl rfl)
theorem dX0_candidate_66 : decode cX0_candidate 66 = .ok (.getfield 412, 3) := dk_180 1 156 (dk_at dksX0_candidate_2 10 rfl rfl)
theorem dX0_candidate_69 : decode cX0_candidate 69 = .ok (.iload_n 2, 1) := dk_28 (dk_at dksX0_candidate_2 13 rfl rfl)
theorem dX0_candidate_70 : decode cX0_candidate 70 = .ok (.iaload, 1) := dk_46 (dk_at dksX0_candidate_2 14 rfl rfl)
theorem dX0_candidate_71 : decode cX0_candidate 71 = .ok (.ireturn, 1) := dk_172 (dk_at dksX0_candidate_2 15 rfl rfl)
theorem dX0_candidate_72 : decode cX0_candidate 72 = .ok (.aload 4, 2) := dk_25 4 (dk_at dksX0_candidate_2 16 rfl rfl)
theorem dX0_candidate_74 : decode cX0_candidate 74 = .ok (.getfield 415, 3) := dk_180 1 159 (dk_at dksX0_candidate_2 18 rfl rfl)
theorem dX0_candidate_77 : decode cX0_candidate 77 = .ok (.iload_n 2, 1) := dk_28 (dk_at dksX0_candidate_2 21 rfl rfl)
theorem dX0_candidate_78 : decode cX0_candidate 78 = .ok (.iaload, 1) := dk_46 (dk_at dksX0_candidate_2 22 rfl rfl)
theorem dX0_candidate_79 : decode cX0_candidate 79 = .ok (.ireturn, 1) := dk_172 (dk_at dksX0_candidate_2 23 rfl rfl)
theorem dX0_candidate_80 : decode cX0_candidate 80 = .ok (.aload 4, 2) := dk_25 4 (dk_at dksX0_candidate_3 0 rfl rfl)
theorem dX0_candidate_82 : decode cX0_candidate 82 = .ok (.getfield 418, 3) := dk_180 1 162 (dk_at dksX0_candidate_3 2 rfl rfl)
theorem dX0_candidate_85 : decode cX0_candidate 85 = .ok (.iload_n 2, 1) := dk_28 (dk_at dksX0_candidate_3 5 rfl rfl)
theorem dX0_candidate_86 : decode cX0_candidate 86 = .ok (.baload, 1) := dk_51 (dk_at dksX0_candidate_3 6 rfl rfl)
theorem dX0_candidate_87 : decode cX0_candidate 87 = .ok (.ifCond .eq 7, 3) := dk_153 0 7 (dk_at dksX0_candidate_3 7 rfl rfl)
theorem dX0_candidate_90 : decode cX0_candidate 90 = .ok (.iconst 1, 1) := dk_4 (dk_at dksX0_candidate_3 10 rfl rfl)
theorem dX0_candidate_91 : decode cX0_candidate 91 = .ok (.goto 4, 3) := dk_167 0 4 (dk_at dksX0_candidate_3 11 rfl rfl)
theorem dX0_candidate_94 : decode cX0_candidate 94 = .ok (.iconst 0, 1) := dk_3 (dk_at dksX0_candidate_3 14 rfl rfl)
theorem dX0_candidate_95 : decode cX0_candidate 95 = .ok (.ireturn, 1) := dk_172 (dk_at dksX0_candidate_3 15 rfl rfl)
theorem dX0_candidate_96 : decode cX0_candidate 96 = .ok (.aload 4, 2) := dk_25 4 (dk_at dksX0_candidate_3 16 rfl rfl)
theorem dX0_candidate_98 : decode cX0_candidate 98 = .ok (.getfield 421, 3) := dk_180 1 165 (dk_at dksX0_candidate_3 18 rfl rfl)
theorem dX0_candidate_101 : decode cX0_candidate 101 = .ok (.iload_n 2, 1) := dk_28 (dk_at dksX0_candidate_3 21 rfl rfl)
theorem dX0_candidate_102 : decode cX0_candidate 102 = .ok (.iaload, 1) := dk_46 (dk_at dksX0_candidate_3 22 rfl rfl)
theorem dX0_candidate_103 : decode cX0_candidate 103 = .ok (.ireturn, 1) := dk_172 (dk_at dksX0_candidate_3 23 rfl rfl)
theorem dX0_candidate_104 : decode cX0_candidate 104 = .ok (.bipush (-2), 2) := dk_16 254 (dk_at dksX0_candidate_4 0 rfl rfl)
theorem dX0_candidate_106 : decode cX0_candidate 106 = .ok (.ireturn, 1) := dk_172 (dk_at dksX0_candidate_4 2 rfl rfl)
abbrev cX0_isCandidate : ByteArray := prog_1_method_44_code
def yX0_isCandidate : MethodName := ⟨RX0, "isCandidate", "(II)Z"⟩
def dkwX0_isCandidate_1 : List UInt8 := [153, 0, 7, 4, 167, 0, 4, 3, 172]
abbrev dktX0_isCandidate_1 : List UInt8 := dkwX0_isCandidate_1 ++ []
def dkwX0_isCandidate_0 : List UInt8 := [42, 27, 182, 1, 40, 153, 0, 26, 28, 3, 42, 180, 0, 62, 27, 50, 180, 1, 61, 4, 100, 184, 0, 163]
abbrev dktX0_isCandidate_0 : List UInt8 := dkwX0_isCandidate_0 ++ dktX0_isCandidate_1
theorem dksX0_isCandidate_0 : cX0_isCandidate.data.toList.drop 0 = dktX0_isCandidate_0 := by decide +kernel
theorem dksX0_isCandidate_1 : cX0_isCandidate.data.toList.drop 24 = dktX0_isCandidate_1 := dk_seg dksX0_isCandidate_0 24 rfl rfl
theorem dX0_isCandidate_0 : decode cX0_isCandidate 0 = .ok (.aload_n 0, 1) := dk_42 (dk_at dksX0_isCandidate_0 0 rfl rfl)
theorem dX0_isCandidate_1 : decode cX0_isCandidate 1 = .ok (.iload_n 1, 1) := dk_27 (dk_at dksX0_isCandidate_0 1 rfl rfl)
theorem dX0_isCandidate_2 : decode cX0_isCandidate 2 = .ok (.invokevirtual 296, 3) := dk_182 1 40 (dk_at dksX0_isCandidate_0 2 rfl rfl)
theorem dX0_isCandidate_5 : decode cX0_isCandidate 5 = .ok (.ifCond .eq 26, 3) := dk_153 0 26 (dk_at dksX0_isCandidate_0 5 rfl rfl)
theorem dX0_isCandidate_8 : decode cX0_isCandidate 8 = .ok (.iload_n 2, 1) := dk_28 (dk_at dksX0_isCandidate_0 8 rfl rfl)
theorem dX0_isCandidate_9 : decode cX0_isCandidate 9 = .ok (.iconst 0, 1) := dk_3 (dk_at dksX0_isCandidate_0 9 rfl rfl)
theorem dX0_isCandidate_10 : decode cX0_isCandidate 10 = .ok (.aload_n 0, 1) := dk_42 (dk_at dksX0_isCandidate_0 10 rfl rfl)
theorem dX0_isCandidate_11 : decode cX0_isCandidate 11 = .ok (.getfield 62, 3) := dk_180 0 62 (dk_at dksX0_isCandidate_0 11 rfl rfl)
theorem dX0_isCandidate_14 : decode cX0_isCandidate 14 = .ok (.iload_n 1, 1) := dk_27 (dk_at dksX0_isCandidate_0 14 rfl rfl)
theorem dX0_isCandidate_15 : decode cX0_isCandidate 15 = .ok (.aaload, 1) := dk_50 (dk_at dksX0_isCandidate_0 15 rfl rfl)
theorem dX0_isCandidate_16 : decode cX0_isCandidate 16 = .ok (.getfield 317, 3) := dk_180 1 61 (dk_at dksX0_isCandidate_0 16 rfl rfl)
theorem dX0_isCandidate_19 : decode cX0_isCandidate 19 = .ok (.iconst 1, 1) := dk_4 (dk_at dksX0_isCandidate_0 19 rfl rfl)
theorem dX0_isCandidate_20 : decode cX0_isCandidate 20 = .ok (.isub, 1) := dk_100 (dk_at dksX0_isCandidate_0 20 rfl rfl)
theorem dX0_isCandidate_21 : decode cX0_isCandidate 21 = .ok (.invokestatic 163, 3) := dk_184 0 163 (dk_at dksX0_isCandidate_0 21 rfl rfl)
theorem dX0_isCandidate_24 : decode cX0_isCandidate 24 = .ok (.ifCond .eq 7, 3) := dk_153 0 7 (dk_at dksX0_isCandidate_1 0 rfl rfl)
theorem dX0_isCandidate_27 : decode cX0_isCandidate 27 = .ok (.iconst 1, 1) := dk_4 (dk_at dksX0_isCandidate_1 3 rfl rfl)
theorem dX0_isCandidate_28 : decode cX0_isCandidate 28 = .ok (.goto 4, 3) := dk_167 0 4 (dk_at dksX0_isCandidate_1 4 rfl rfl)
theorem dX0_isCandidate_31 : decode cX0_isCandidate 31 = .ok (.iconst 0, 1) := dk_3 (dk_at dksX0_isCandidate_1 7 rfl rfl)
theorem dX0_isCandidate_32 : decode cX0_isCandidate 32 = .ok (.ireturn, 1) := dk_172 (dk_at dksX0_isCandidate_1 8 rfl rfl)
abbrev cX0_lots : ByteArray := prog_1_method_46_code
def yX0_lots : MethodName := ⟨RX0, "lots", "(IJ)I"⟩
def dkwX0_lots_2 : List UInt8 := [27, 32, 16, 32, 123, 136, 32, 136, 3, 182, 0, 173, 42, 180, 0, 62, 27, 50, 180, 1, 61, 172]
abbrev dktX0_lots_2 : List UInt8 := dkwX0_lots_2 ++ []
def dkwX0_lots_1 : List UInt8 := [27, 50, 180, 1, 167, 153, 0, 6, 16, 252, 172, 42, 180, 0, 62, 27, 50, 32, 182, 1, 170, 42, 16, 14]
abbrev dktX0_lots_1 : List UInt8 := dkwX0_lots_1 ++ dktX0_lots_2
def dkwX0_lots_0 : List UInt8 := [42, 27, 182, 1, 40, 154, 0, 5, 2, 172, 42, 180, 1, 9, 154, 0, 6, 16, 253, 172, 42, 180, 0, 62]
abbrev dktX0_lots_0 : List UInt8 := dkwX0_lots_0 ++ dktX0_lots_1
theorem dksX0_lots_0 : cX0_lots.data.toList.drop 0 = dktX0_lots_0 := by decide +kernel
theorem dksX0_lots_1 : cX0_lots.data.toList.drop 24 = dktX0_lots_1 := dk_seg dksX0_lots_0 24 rfl rfl
theorem dksX0_lots_2 : cX0_lots.data.toList.drop 48 = dktX0_lots_2 := dk_seg dksX0_lots_1 24 rfl rfl
theorem dX0_lots_0 : decode cX0_lots 0 = .ok (.aload_n 0, 1) := dk_42 (dk_at dksX0_lots_0 0 rfl rfl)
theorem dX0_lots_1 : decode cX0_lots 1 = .ok (.iload_n 1, 1) := dk_27 (dk_at dksX0_lots_0 1 rfl rfl)
theorem dX0_lots_2 : decode cX0_lots 2 = .ok (.invokevirtual 296, 3) := dk_182 1 40 (dk_at dksX0_lots_0 2 rfl rfl)
theorem dX0_lots_5 : decode cX0_lots 5 = .ok (.ifCond .ne 5, 3) := dk_154 0 5 (dk_at dksX0_lots_0 5 rfl rfl)
theorem dX0_lots_8 : decode cX0_lots 8 = .ok (.iconst (-1), 1) := dk_2 (dk_at dksX0_lots_0 8 rfl rfl)
theorem dX0_lots_9 : decode cX0_lots 9 = .ok (.ireturn, 1) := dk_172 (dk_at dksX0_lots_0 9 rfl rfl)
theorem dX0_lots_10 : decode cX0_lots 10 = .ok (.aload_n 0, 1) := dk_42 (dk_at dksX0_lots_0 10 rfl rfl)
theorem dX0_lots_11 : decode cX0_lots 11 = .ok (.getfield 265, 3) := dk_180 1 9 (dk_at dksX0_lots_0 11 rfl rfl)
theorem dX0_lots_14 : decode cX0_lots 14 = .ok (.ifCond .ne 6, 3) := dk_154 0 6 (dk_at dksX0_lots_0 14 rfl rfl)
theorem dX0_lots_17 : decode cX0_lots 17 = .ok (.bipush (-3), 2) := dk_16 253 (dk_at dksX0_lots_0 17 rfl rfl)
theorem dX0_lots_19 : decode cX0_lots 19 = .ok (.ireturn, 1) := dk_172 (dk_at dksX0_lots_0 19 rfl rfl)
theorem dX0_lots_20 : decode cX0_lots 20 = .ok (.aload_n 0, 1) := dk_42 (dk_at dksX0_lots_0 20 rfl rfl)
theorem dX0_lots_21 : decode cX0_lots 21 = .ok (.getfield 62, 3) := dk_180 0 62 (dk_at dksX0_lots_0 21 rfl rfl)
theorem dX0_lots_24 : decode cX0_lots 24 = .ok (.iload_n 1, 1) := dk_27 (dk_at dksX0_lots_1 0 rfl rfl)
theorem dX0_lots_25 : decode cX0_lots 25 = .ok (.aaload, 1) := dk_50 (dk_at dksX0_lots_1 1 rfl rfl)
theorem dX0_lots_26 : decode cX0_lots 26 = .ok (.getfield 423, 3) := dk_180 1 167 (dk_at dksX0_lots_1 2 rfl rfl)
theorem dX0_lots_29 : decode cX0_lots 29 = .ok (.ifCond .eq 6, 3) := dk_153 0 6 (dk_at dksX0_lots_1 5 rfl rfl)
theorem dX0_lots_32 : decode cX0_lots 32 = .ok (.bipush (-4), 2) := dk_16 252 (dk_at dksX0_lots_1 8 rfl rfl)
theorem dX0_lots_34 : decode cX0_lots 34 = .ok (.ireturn, 1) := dk_172 (dk_at dksX0_lots_1 10 rfl rfl)
theorem dX0_lots_35 : decode cX0_lots 35 = .ok (.aload_n 0, 1) := dk_42 (dk_at dksX0_lots_1 11 rfl rfl)
theorem dX0_lots_36 : decode cX0_lots 36 = .ok (.getfield 62, 3) := dk_180 0 62 (dk_at dksX0_lots_1 12 rfl rfl)
theorem dX0_lots_39 : decode cX0_lots 39 = .ok (.iload_n 1, 1) := dk_27 (dk_at dksX0_lots_1 15 rfl rfl)
theorem dX0_lots_40 : decode cX0_lots 40 = .ok (.aaload, 1) := dk_50 (dk_at dksX0_lots_1 16 rfl rfl)
theorem dX0_lots_41 : decode cX0_lots 41 = .ok (.lload_n 2, 1) := dk_32 (dk_at dksX0_lots_1 17 rfl rfl)
theorem dX0_lots_42 : decode cX0_lots 42 = .ok (.invokevirtual 426, 3) := dk_182 1 170 (dk_at dksX0_lots_1 18 rfl rfl)
theorem dX0_lots_45 : decode cX0_lots 45 = .ok (.aload_n 0, 1) := dk_42 (dk_at dksX0_lots_1 21 rfl rfl)
theorem dX0_lots_46 : decode cX0_lots 46 = .ok (.bipush 14, 2) := dk_16 14 (dk_at dksX0_lots_1 22 rfl rfl)
theorem dX0_lots_48 : decode cX0_lots 48 = .ok (.iload_n 1, 1) := dk_27 (dk_at dksX0_lots_2 0 rfl rfl)
theorem dX0_lots_49 : decode cX0_lots 49 = .ok (.lload_n 2, 1) := dk_32 (dk_at dksX0_lots_2 1 rfl rfl)
theorem dX0_lots_50 : decode cX0_lots 50 = .ok (.bipush 32, 2) := dk_16 32 (dk_at dksX0_lots_2 2 rfl rfl)
theorem dX0_lots_52 : decode cX0_lots 52 = .ok (.lshr, 1) := dk_123 (dk_at dksX0_lots_2 4 rfl rfl)
theorem dX0_lots_53 : decode cX0_lots 53 = .ok (.l2i, 1) := dk_136 (dk_at dksX0_lots_2 5 rfl rfl)
theorem dX0_lots_54 : decode cX0_lots 54 = .ok (.lload_n 2, 1) := dk_32 (dk_at dksX0_lots_2 6 rfl rfl)
theorem dX0_lots_55 : decode cX0_lots 55 = .ok (.l2i, 1) := dk_136 (dk_at dksX0_lots_2 7 rfl rfl)
theorem dX0_lots_56 : decode cX0_lots 56 = .ok (.iconst 0, 1) := dk_3 (dk_at dksX0_lots_2 8 rfl rfl)
theorem dX0_lots_57 : decode cX0_lots 57 = .ok (.invokevirtual 173, 3) := dk_182 0 173 (dk_at dksX0_lots_2 9 rfl rfl)
theorem dX0_lots_60 : decode cX0_lots 60 = .ok (.aload_n 0, 1) := dk_42 (dk_at dksX0_lots_2 12 rfl rfl)
theorem dX0_lots_61 : decode cX0_lots 61 = .ok (.getfield 62, 3) := dk_180 0 62 (dk_at dksX0_lots_2 13 rfl rfl)
theorem dX0_lots_64 : decode cX0_lots 64 = .ok (.iload_n 1, 1) := dk_27 (dk_at dksX0_lots_2 16 rfl rfl)
theorem dX0_lots_65 : decode cX0_lots 65 = .ok (.aaload, 1) := dk_50 (dk_at dksX0_lots_2 17 rfl rfl)
theorem dX0_lots_66 : decode cX0_lots 66 = .ok (.getfield 317, 3) := dk_180 1 61 (dk_at dksX0_lots_2 18 rfl rfl)
theorem dX0_lots_69 : decode cX0_lots 69 = .ok (.ireturn, 1) := dk_172 (dk_at dksX0_lots_2 21 rfl rfl)
abbrev cX0_stepped : ByteArray := prog_1_method_2_code
def yX0_stepped : MethodName := ⟨RX0, "stepped", "(J)J"⟩
def dkwX0_stepped_0 : List UInt8 := [30, 20, 0, 3, 105, 20, 0, 5, 97, 173]
abbrev dktX0_stepped_0 : List UInt8 := dkwX0_stepped_0 ++ []
theorem dksX0_stepped_0 : cX0_stepped.data.toList.drop 0 = dktX0_stepped_0 := by decide +kernel
theorem dX0_stepped_0 : decode cX0_stepped 0 = .ok (.lload_n 0, 1) := dk_30 (dk_at dksX0_stepped_0 0 rfl rfl)
theorem dX0_stepped_1 : decode cX0_stepped 1 = .ok (.ldc2_w 3, 3) := dk_20 0 3 (dk_at dksX0_stepped_0 1 rfl rfl)
theorem dX0_stepped_4 : decode cX0_stepped 4 = .ok (.lmul, 1) := dk_105 (dk_at dksX0_stepped_0 4 rfl rfl)
theorem dX0_stepped_5 : decode cX0_stepped 5 = .ok (.ldc2_w 5, 3) := dk_20 0 5 (dk_at dksX0_stepped_0 5 rfl rfl)
theorem dX0_stepped_8 : decode cX0_stepped 8 = .ok (.ladd, 1) := dk_97 (dk_at dksX0_stepped_0 8 rfl rfl)
theorem dX0_stepped_9 : decode cX0_stepped 9 = .ok (.lreturn, 1) := dk_173 (dk_at dksX0_stepped_0 9 rfl rfl)
abbrev cX0_placeOf : ByteArray := prog_1_method_3_code
def yX0_placeOf : MethodName := ⟨RX0, "placeOf", "(JI)I"⟩
def dkwX0_placeOf_0 : List UInt8 := [30, 16, 33, 125, 28, 133, 113, 136, 172]
abbrev dktX0_placeOf_0 : List UInt8 := dkwX0_placeOf_0 ++ []
theorem dksX0_placeOf_0 : cX0_placeOf.data.toList.drop 0 = dktX0_placeOf_0 := by decide +kernel
theorem dX0_placeOf_0 : decode cX0_placeOf 0 = .ok (.lload_n 0, 1) := dk_30 (dk_at dksX0_placeOf_0 0 rfl rfl)
theorem dX0_placeOf_1 : decode cX0_placeOf 1 = .ok (.bipush 33, 2) := dk_16 33 (dk_at dksX0_placeOf_0 1 rfl rfl)
theorem dX0_placeOf_3 : decode cX0_placeOf 3 = .ok (.lushr, 1) := dk_125 (dk_at dksX0_placeOf_0 3 rfl rfl)
theorem dX0_placeOf_4 : decode cX0_placeOf 4 = .ok (.iload_n 2, 1) := dk_28 (dk_at dksX0_placeOf_0 4 rfl rfl)
theorem dX0_placeOf_5 : decode cX0_placeOf 5 = .ok (.i2l, 1) := dk_133 (dk_at dksX0_placeOf_0 5 rfl rfl)
theorem dX0_placeOf_6 : decode cX0_placeOf 6 = .ok (.lrem, 1) := dk_113 (dk_at dksX0_placeOf_0 6 rfl rfl)
theorem dX0_placeOf_7 : decode cX0_placeOf 7 = .ok (.l2i, 1) := dk_136 (dk_at dksX0_placeOf_0 7 rfl rfl)
theorem dX0_placeOf_8 : decode cX0_placeOf 8 = .ok (.ireturn, 1) := dk_172 (dk_at dksX0_placeOf_0 8 rfl rfl)
abbrev cX0_station : ByteArray := prog_1_method_47_code
def yX0_station : MethodName := ⟨RX0, "station", "()I"⟩
def dkwX0_station_3 : List UInt8 := [181, 1, 18, 42, 16, 15, 3, 3, 3, 3, 182, 0, 173, 42, 180, 1, 18, 4, 100, 172]
abbrev dktX0_station_3 : List UInt8 := dkwX0_station_3 ++ []
def dkwX0_station_2 : List UInt8 := [180, 1, 18, 3, 79, 42, 180, 0, 101, 42, 180, 1, 18, 3, 84, 42, 89, 180, 1, 18, 4, 96]
abbrev dktX0_station_2 : List UInt8 := dkwX0_station_2 ++ dktX0_station_3
def dkwX0_station_1 : List UInt8 := [164, 0, 6, 16, 253, 172, 42, 180, 1, 18, 16, 6, 160, 0, 6, 16, 251, 172, 42, 180, 0, 98, 42]
abbrev dktX0_station_1 : List UInt8 := dkwX0_station_1 ++ dktX0_station_2
def dkwX0_station_0 : List UInt8 := [42, 180, 0, 237, 154, 0, 5, 2, 172, 42, 180, 0, 167, 42, 180, 0, 42, 180, 1, 37, 6, 46]
abbrev dktX0_station_0 : List UInt8 := dkwX0_station_0 ++ dktX0_station_1
theorem dksX0_station_0 : cX0_station.data.toList.drop 0 = dktX0_station_0 := by decide +kernel
theorem dksX0_station_1 : cX0_station.data.toList.drop 22 = dktX0_station_1 := dk_seg dksX0_station_0 22 rfl rfl
theorem dksX0_station_2 : cX0_station.data.toList.drop 45 = dktX0_station_2 := dk_seg dksX0_station_1 23 rfl rfl
theorem dksX0_station_3 : cX0_station.data.toList.drop 67 = dktX0_station_3 := dk_seg dksX0_station_2 22 rfl rfl
theorem dX0_station_0 : decode cX0_station 0 = .ok (.aload_n 0, 1) := dk_42 (dk_at dksX0_station_0 0 rfl rfl)
theorem dX0_station_1 : decode cX0_station 1 = .ok (.getfield 237, 3) := dk_180 0 237 (dk_at dksX0_station_0 1 rfl rfl)
theorem dX0_station_4 : decode cX0_station 4 = .ok (.ifCond .ne 5, 3) := dk_154 0 5 (dk_at dksX0_station_0 4 rfl rfl)
theorem dX0_station_7 : decode cX0_station 7 = .ok (.iconst (-1), 1) := dk_2 (dk_at dksX0_station_0 7 rfl rfl)
theorem dX0_station_8 : decode cX0_station 8 = .ok (.ireturn, 1) := dk_172 (dk_at dksX0_station_0 8 rfl rfl)
theorem dX0_station_9 : decode cX0_station 9 = .ok (.aload_n 0, 1) := dk_42 (dk_at dksX0_station_0 9 rfl rfl)
theorem dX0_station_10 : decode cX0_station 10 = .ok (.getfield 167, 3) := dk_180 0 167 (dk_at dksX0_station_0 10 rfl rfl)
theorem dX0_station_13 : decode cX0_station 13 = .ok (.aload_n 0, 1) := dk_42 (dk_at dksX0_station_0 13 rfl rfl)
theorem dX0_station_14 : decode cX0_station 14 = .ok (.getfield 42, 3) := dk_180 0 42 (dk_at dksX0_station_0 14 rfl rfl)
theorem dX0_station_17 : decode cX0_station 17 = .ok (.getfield 293, 3) := dk_180 1 37 (dk_at dksX0_station_0 17 rfl rfl)
theorem dX0_station_20 : decode cX0_station 20 = .ok (.iconst 3, 1) := dk_6 (dk_at dksX0_station_0 20 rfl rfl)
theorem dX0_station_21 : decode cX0_station 21 = .ok (.iaload, 1) := dk_46 (dk_at dksX0_station_0 21 rfl rfl)
theorem dX0_station_22 : decode cX0_station 22 = .ok (.if_icmp .le 6, 3) := dk_164 0 6 (dk_at dksX0_station_1 0 rfl rfl)
theorem dX0_station_25 : decode cX0_station 25 = .ok (.bipush (-3), 2) := dk_16 253 (dk_at dksX0_station_1 3 rfl rfl)
theorem dX0_station_27 : decode cX0_station 27 = .ok (.ireturn, 1) := dk_172 (dk_at dksX0_station_1 5 rfl rfl)
theorem dX0_station_28 : decode cX0_station 28 = .ok (.aload_n 0, 1) := dk_42 (dk_at dksX0_station_1 6 rfl rfl)
theorem dX0_station_29 : decode cX0_station 29 = .ok (.getfield 274, 3) := dk_180 1 18 (dk_at dksX0_station_1 7 rfl rfl)
theorem dX0_station_32 : decode cX0_station 32 = .ok (.bipush 6, 2) := dk_16 6 (dk_at dksX0_station_1 10 rfl rfl)
theorem dX0_station_34 : decode cX0_station 34 = .ok (.if_icmp .ne 6, 3) := dk_160 0 6 (dk_at dksX0_station_1 12 rfl rfl)
theorem dX0_station_37 : decode cX0_station 37 = .ok (.bipush (-5), 2) := dk_16 251 (dk_at dksX0_station_1 15 rfl rfl)
theorem dX0_station_39 : decode cX0_station 39 = .ok (.ireturn, 1) := dk_172 (dk_at dksX0_station_1 17 rfl rfl)
theorem dX0_station_40 : decode cX0_station 40 = .ok (.aload_n 0, 1) := dk_42 (dk_at dksX0_station_1 18 rfl rfl)
theorem dX0_station_41 : decode cX0_station 41 = .ok (.getfield 98, 3) := dk_180 0 98 (dk_at dksX0_station_1 19 rfl rfl)
theorem dX0_station_44 : decode cX0_station 44 = .ok (.aload_n 0, 1) := dk_42 (dk_at dksX0_station_1 22 rfl rfl)
theorem dX0_station_45 : decode cX0_station 45 = .ok (.getfield 274, 3) := dk_180 1 18 (dk_at dksX0_station_2 0 rfl rfl)
theorem dX0_station_48 : decode cX0_station 48 = .ok (.iconst 0, 1) := dk_3 (dk_at dksX0_station_2 3 rfl rfl)
theorem dX0_station_49 : decode cX0_station 49 = .ok (.iastore, 1) := dk_79 (dk_at dksX0_station_2 4 rfl rfl)
theorem dX0_station_50 : decode cX0_station 50 = .ok (.aload_n 0, 1) := dk_42 (dk_at dksX0_station_2 5 rfl rfl)
theorem dX0_station_51 : decode cX0_station 51 = .ok (.getfield 101, 3) := dk_180 0 101 (dk_at dksX0_station_2 6 rfl rfl)
theorem dX0_station_54 : decode cX0_station 54 = .ok (.aload_n 0, 1) := dk_42 (dk_at dksX0_station_2 9 rfl rfl)
theorem dX0_station_55 : decode cX0_station 55 = .ok (.getfield 274, 3) := dk_180 1 18 (dk_at dksX0_station_2 10 rfl rfl)
theorem dX0_station_58 : decode cX0_station 58 = .ok (.iconst 0, 1) := dk_3 (dk_at dksX0_station_2 13 rfl rfl)
theorem dX0_station_59 : decode cX0_station 59 = .ok (.bastore, 1) := dk_84 (dk_at dksX0_station_2 14 rfl rfl)
theorem dX0_station_60 : decode cX0_station 60 = .ok (.aload_n 0, 1) := dk_42 (dk_at dksX0_station_2 15 rfl rfl)
theorem dX0_station_61 : decode cX0_station 61 = .ok (.dup, 1) := dk_89 (dk_at dksX0_station_2 16 rfl rfl)
theorem dX0_station_62 : decode cX0_station 62 = .ok (.getfield 274, 3) := dk_180 1 18 (dk_at dksX0_station_2 17 rfl rfl)
theorem dX0_station_65 : decode cX0_station 65 = .ok (.iconst 1, 1) := dk_4 (dk_at dksX0_station_2 20 rfl rfl)
theorem dX0_station_66 : decode cX0_station 66 = .ok (.iadd, 1) := dk_96 (dk_at dksX0_station_2 21 rfl rfl)
theorem dX0_station_67 : decode cX0_station 67 = .ok (.putfield 274, 3) := dk_181 1 18 (dk_at dksX0_station_3 0 rfl rfl)
theorem dX0_station_70 : decode cX0_station 70 = .ok (.aload_n 0, 1) := dk_42 (dk_at dksX0_station_3 3 rfl rfl)
theorem dX0_station_71 : decode cX0_station 71 = .ok (.bipush 15, 2) := dk_16 15 (dk_at dksX0_station_3 4 rfl rfl)
theorem dX0_station_73 : decode cX0_station 73 = .ok (.iconst 0, 1) := dk_3 (dk_at dksX0_station_3 6 rfl rfl)
theorem dX0_station_74 : decode cX0_station 74 = .ok (.iconst 0, 1) := dk_3 (dk_at dksX0_station_3 7 rfl rfl)
theorem dX0_station_75 : decode cX0_station 75 = .ok (.iconst 0, 1) := dk_3 (dk_at dksX0_station_3 8 rfl rfl)
theorem dX0_station_76 : decode cX0_station 76 = .ok (.iconst 0, 1) := dk_3 (dk_at dksX0_station_3 9 rfl rfl)
theorem dX0_station_77 : decode cX0_station 77 = .ok (.invokevirtual 173, 3) := dk_182 0 173 (dk_at dksX0_station_3 10 rfl rfl)
theorem dX0_station_80 : decode cX0_station 80 = .ok (.aload_n 0, 1) := dk_42 (dk_at dksX0_station_3 13 rfl rfl)
theorem dX0_station_81 : decode cX0_station 81 = .ok (.getfield 274, 3) := dk_180 1 18 (dk_at dksX0_station_3 14 rfl rfl)
theorem dX0_station_84 : decode cX0_station 84 = .ok (.iconst 1, 1) := dk_4 (dk_at dksX0_station_3 17 rfl rfl)
theorem dX0_station_85 : decode cX0_station 85 = .ok (.isub, 1) := dk_100 (dk_at dksX0_station_3 18 rfl rfl)
theorem dX0_station_86 : decode cX0_station 86 = .ok (.ireturn, 1) := dk_172 (dk_at dksX0_station_3 19 rfl rfl)
abbrev cX0_clock : ByteArray := prog_1_method_51_code
def yX0_clock : MethodName := ⟨RX0, "clock", "(II)I"⟩
def dkwX0_clock_2 : List UInt8 := [172]
abbrev dktX0_clock_2 : List UInt8 := dkwX0_clock_2 ++ []
def dkwX0_clock_1 : List UInt8 := [180, 0, 98, 27, 46, 62, 42, 180, 0, 98, 27, 28, 79, 42, 16, 16, 27, 28, 3, 3, 182, 0, 173, 29]
abbrev dktX0_clock_1 : List UInt8 := dkwX0_clock_1 ++ dktX0_clock_2
def dkwX0_clock_0 : List UInt8 := [42, 27, 182, 1, 174, 154, 0, 5, 2, 172, 28, 3, 16, 9, 184, 0, 163, 154, 0, 6, 16, 254, 172, 42]
abbrev dktX0_clock_0 : List UInt8 := dkwX0_clock_0 ++ dktX0_clock_1
theorem dksX0_clock_0 : cX0_clock.data.toList.drop 0 = dktX0_clock_0 := by decide +kernel
theorem dksX0_clock_1 : cX0_clock.data.toList.drop 24 = dktX0_clock_1 := dk_seg dksX0_clock_0 24 rfl rfl
theorem dksX0_clock_2 : cX0_clock.data.toList.drop 48 = dktX0_clock_2 := dk_seg dksX0_clock_1 24 rfl rfl
theorem dX0_clock_0 : decode cX0_clock 0 = .ok (.aload_n 0, 1) := dk_42 (dk_at dksX0_clock_0 0 rfl rfl)
theorem dX0_clock_1 : decode cX0_clock 1 = .ok (.iload_n 1, 1) := dk_27 (dk_at dksX0_clock_0 1 rfl rfl)
theorem dX0_clock_2 : decode cX0_clock 2 = .ok (.invokevirtual 430, 3) := dk_182 1 174 (dk_at dksX0_clock_0 2 rfl rfl)
theorem dX0_clock_5 : decode cX0_clock 5 = .ok (.ifCond .ne 5, 3) := dk_154 0 5 (dk_at dksX0_clock_0 5 rfl rfl)
theorem dX0_clock_8 : decode cX0_clock 8 = .ok (.iconst (-1), 1) := dk_2 (dk_at dksX0_clock_0 8 rfl rfl)
theorem dX0_clock_9 : decode cX0_clock 9 = .ok (.ireturn, 1) := dk_172 (dk_at dksX0_clock_0 9 rfl rfl)
theorem dX0_clock_10 : decode cX0_clock 10 = .ok (.iload_n 2, 1) := dk_28 (dk_at dksX0_clock_0 10 rfl rfl)
theorem dX0_clock_11 : decode cX0_clock 11 = .ok (.iconst 0, 1) := dk_3 (dk_at dksX0_clock_0 11 rfl rfl)
theorem dX0_clock_12 : decode cX0_clock 12 = .ok (.bipush 9, 2) := dk_16 9 (dk_at dksX0_clock_0 12 rfl rfl)
theorem dX0_clock_14 : decode cX0_clock 14 = .ok (.invokestatic 163, 3) := dk_184 0 163 (dk_at dksX0_clock_0 14 rfl rfl)
theorem dX0_clock_17 : decode cX0_clock 17 = .ok (.ifCond .ne 6, 3) := dk_154 0 6 (dk_at dksX0_clock_0 17 rfl rfl)
theorem dX0_clock_20 : decode cX0_clock 20 = .ok (.bipush (-2), 2) := dk_16 254 (dk_at dksX0_clock_0 20 rfl rfl)
theorem dX0_clock_22 : decode cX0_clock 22 = .ok (.ireturn, 1) := dk_172 (dk_at dksX0_clock_0 22 rfl rfl)
theorem dX0_clock_23 : decode cX0_clock 23 = .ok (.aload_n 0, 1) := dk_42 (dk_at dksX0_clock_0 23 rfl rfl)
theorem dX0_clock_24 : decode cX0_clock 24 = .ok (.getfield 98, 3) := dk_180 0 98 (dk_at dksX0_clock_1 0 rfl rfl)
theorem dX0_clock_27 : decode cX0_clock 27 = .ok (.iload_n 1, 1) := dk_27 (dk_at dksX0_clock_1 3 rfl rfl)
theorem dX0_clock_28 : decode cX0_clock 28 = .ok (.iaload, 1) := dk_46 (dk_at dksX0_clock_1 4 rfl rfl)
theorem dX0_clock_29 : decode cX0_clock 29 = .ok (.istore_n 3, 1) := dk_62 (dk_at dksX0_clock_1 5 rfl rfl)
theorem dX0_clock_30 : decode cX0_clock 30 = .ok (.aload_n 0, 1) := dk_42 (dk_at dksX0_clock_1 6 rfl rfl)
theorem dX0_clock_31 : decode cX0_clock 31 = .ok (.getfield 98, 3) := dk_180 0 98 (dk_at dksX0_clock_1 7 rfl rfl)
theorem dX0_clock_34 : decode cX0_clock 34 = .ok (.iload_n 1, 1) := dk_27 (dk_at dksX0_clock_1 10 rfl rfl)
theorem dX0_clock_35 : decode cX0_clock 35 = .ok (.iload_n 2, 1) := dk_28 (dk_at dksX0_clock_1 11 rfl rfl)
theorem dX0_clock_36 : decode cX0_clock 36 = .ok (.iastore, 1) := dk_79 (dk_at dksX0_clock_1 12 rfl rfl)
theorem dX0_clock_37 : decode cX0_clock 37 = .ok (.aload_n 0, 1) := dk_42 (dk_at dksX0_clock_1 13 rfl rfl)
theorem dX0_clock_38 : decode cX0_clock 38 = .ok (.bipush 16, 2) := dk_16 16 (dk_at dksX0_clock_1 14 rfl rfl)
theorem dX0_clock_40 : decode cX0_clock 40 = .ok (.iload_n 1, 1) := dk_27 (dk_at dksX0_clock_1 16 rfl rfl)
theorem dX0_clock_41 : decode cX0_clock 41 = .ok (.iload_n 2, 1) := dk_28 (dk_at dksX0_clock_1 17 rfl rfl)
theorem dX0_clock_42 : decode cX0_clock 42 = .ok (.iconst 0, 1) := dk_3 (dk_at dksX0_clock_1 18 rfl rfl)
theorem dX0_clock_43 : decode cX0_clock 43 = .ok (.iconst 0, 1) := dk_3 (dk_at dksX0_clock_1 19 rfl rfl)
theorem dX0_clock_44 : decode cX0_clock 44 = .ok (.invokevirtual 173, 3) := dk_182 0 173 (dk_at dksX0_clock_1 20 rfl rfl)
theorem dX0_clock_47 : decode cX0_clock 47 = .ok (.iload_n 3, 1) := dk_29 (dk_at dksX0_clock_1 23 rfl rfl)
theorem dX0_clock_48 : decode cX0_clock 48 = .ok (.ireturn, 1) := dk_172 (dk_at dksX0_clock_2 0 rfl rfl)
abbrev cX0_isStation : ByteArray := prog_1_method_48_code
def yX0_isStation : MethodName := ⟨RX0, "isStation", "(I)Z"⟩
def dkwX0_isStation_0 : List UInt8 := [27, 3, 42, 180, 1, 18, 4, 100, 184, 0, 163, 172]
abbrev dktX0_isStation_0 : List UInt8 := dkwX0_isStation_0 ++ []
theorem dksX0_isStation_0 : cX0_isStation.data.toList.drop 0 = dktX0_isStation_0 := by decide +kernel
theorem dX0_isStation_0 : decode cX0_isStation 0 = .ok (.iload_n 1, 1) := dk_27 (dk_at dksX0_isStation_0 0 rfl rfl)
theorem dX0_isStation_1 : decode cX0_isStation 1 = .ok (.iconst 0, 1) := dk_3 (dk_at dksX0_isStation_0 1 rfl rfl)
theorem dX0_isStation_2 : decode cX0_isStation 2 = .ok (.aload_n 0, 1) := dk_42 (dk_at dksX0_isStation_0 2 rfl rfl)
theorem dX0_isStation_3 : decode cX0_isStation 3 = .ok (.getfield 274, 3) := dk_180 1 18 (dk_at dksX0_isStation_0 3 rfl rfl)
theorem dX0_isStation_6 : decode cX0_isStation 6 = .ok (.iconst 1, 1) := dk_4 (dk_at dksX0_isStation_0 6 rfl rfl)
theorem dX0_isStation_7 : decode cX0_isStation 7 = .ok (.isub, 1) := dk_100 (dk_at dksX0_isStation_0 7 rfl rfl)
theorem dX0_isStation_8 : decode cX0_isStation 8 = .ok (.invokestatic 163, 3) := dk_184 0 163 (dk_at dksX0_isStation_0 8 rfl rfl)
theorem dX0_isStation_11 : decode cX0_isStation 11 = .ok (.ireturn, 1) := dk_172 (dk_at dksX0_isStation_0 11 rfl rfl)
abbrev cX0_cutLine : ByteArray := prog_1_method_52_code
def yX0_cutLine : MethodName := ⟨RX0, "cutLine", "(I)I"⟩
def dkwX0_cutLine_4 : List UInt8 := [180, 0, 101, 27, 4, 84, 42, 16, 17, 27, 3, 3, 3, 182, 0, 173, 4, 172]
abbrev dktX0_cutLine_4 : List UInt8 := dkwX0_cutLine_4 ++ []
def dkwX0_cutLine_3 : List UInt8 := [61, 28, 17, 0, 200, 162, 0, 18, 42, 180, 0, 106, 27, 50, 28, 2, 84, 132, 2, 1, 167, 255, 237, 42]
abbrev dktX0_cutLine_3 : List UInt8 := dkwX0_cutLine_3 ++ dktX0_cutLine_4
def dkwX0_cutLine_2 : List UInt8 := [180, 0, 106, 27, 50, 28, 42, 27, 28, 182, 1, 183, 145, 84, 132, 2, 1, 167, 255, 230, 42, 180, 1, 21]
abbrev dktX0_cutLine_2 : List UInt8 := dkwX0_cutLine_2 ++ dktX0_cutLine_3
def dkwX0_cutLine_1 : List UInt8 := [172, 42, 180, 0, 101, 27, 51, 153, 0, 6, 16, 252, 172, 3, 61, 28, 42, 180, 1, 21, 162, 0, 24, 42]
abbrev dktX0_cutLine_1 : List UInt8 := dkwX0_cutLine_1 ++ dktX0_cutLine_2
def dkwX0_cutLine_0 : List UInt8 := [42, 27, 182, 1, 174, 154, 0, 5, 2, 172, 42, 180, 0, 120, 27, 50, 180, 1, 180, 153, 0, 6, 16, 253]
abbrev dktX0_cutLine_0 : List UInt8 := dkwX0_cutLine_0 ++ dktX0_cutLine_1
theorem dksX0_cutLine_0 : cX0_cutLine.data.toList.drop 0 = dktX0_cutLine_0 := by decide +kernel
theorem dksX0_cutLine_1 : cX0_cutLine.data.toList.drop 24 = dktX0_cutLine_1 := dk_seg dksX0_cutLine_0 24 rfl rfl
theorem dksX0_cutLine_2 : cX0_cutLine.data.toList.drop 48 = dktX0_cutLine_2 := dk_seg dksX0_cutLine_1 24 rfl rfl
theorem dksX0_cutLine_3 : cX0_cutLine.data.toList.drop 72 = dktX0_cutLine_3 := dk_seg dksX0_cutLine_2 24 rfl rfl
theorem dksX0_cutLine_4 : cX0_cutLine.data.toList.drop 96 = dktX0_cutLine_4 := dk_seg dksX0_cutLine_3 24 rfl rfl
theorem dX0_cutLine_0 : decode cX0_cutLine 0 = .ok (.aload_n 0, 1) := dk_42 (dk_at dksX0_cutLine_0 0 rfl rfl)
theorem dX0_cutLine_1 : decode cX0_cutLine 1 = .ok (.iload_n 1, 1) := dk_27 (dk_at dksX0_cutLine_0 1 rfl rfl)
theorem dX0_cutLine_2 : decode cX0_cutLine 2 = .ok (.invokevirtual 430, 3) := dk_182 1 174 (dk_at dksX0_cutLine_0 2 rfl rfl)
theorem dX0_cutLine_5 : decode cX0_cutLine 5 = .ok (.ifCond .ne 5, 3) := dk_154 0 5 (dk_at dksX0_cutLine_0 5 rfl rfl)
theorem dX0_cutLine_8 : decode cX0_cutLine 8 = .ok (.iconst (-1), 1) := dk_2 (dk_at dksX0_cutLine_0 8 rfl rfl)
theorem dX0_cutLine_9 : decode cX0_cutLine 9 = .ok (.ireturn, 1) := dk_172 (dk_at dksX0_cutLine_0 9 rfl rfl)
theorem dX0_cutLine_10 : decode cX0_cutLine 10 = .ok (.aload_n 0, 1) := dk_42 (dk_at dksX0_cutLine_0 10 rfl rfl)
theorem dX0_cutLine_11 : decode cX0_cutLine 11 = .ok (.getfield 120, 3) := dk_180 0 120 (dk_at dksX0_cutLine_0 11 rfl rfl)
theorem dX0_cutLine_14 : decode cX0_cutLine 14 = .ok (.iload_n 1, 1) := dk_27 (dk_at dksX0_cutLine_0 14 rfl rfl)
theorem dX0_cutLine_15 : decode cX0_cutLine 15 = .ok (.aaload, 1) := dk_50 (dk_at dksX0_cutLine_0 15 rfl rfl)
theorem dX0_cutLine_16 : decode cX0_cutLine 16 = .ok (.getfield 436, 3) := dk_180 1 180 (dk_at dksX0_cutLine_0 16 rfl rfl)
theorem dX0_cutLine_19 : decode cX0_cutLine 19 = .ok (.ifCond .eq 6, 3) := dk_153 0 6 (dk_at dksX0_cutLine_0 19 rfl rfl)
theorem dX0_cutLine_22 : decode cX0_cutLine 22 = .ok (.bipush (-3), 2) := dk_16 253 (dk_at dksX0_cutLine_0 22 rfl rfl)
theorem dX0_cutLine_24 : decode cX0_cutLine 24 = .ok (.ireturn, 1) := dk_172 (dk_at dksX0_cutLine_1 0 rfl rfl)
theorem dX0_cutLine_25 : decode cX0_cutLine 25 = .ok (.aload_n 0, 1) := dk_42 (dk_at dksX0_cutLine_1 1 rfl rfl)
theorem dX0_cutLine_26 : decode cX0_cutLine 26 = .ok (.getfield 101, 3) := dk_180 0 101 (dk_at dksX0_cutLine_1 2 rfl rfl)
theorem dX0_cutLine_29 : decode cX0_cutLine 29 = .ok (.iload_n 1, 1) := dk_27 (dk_at dksX0_cutLine_1 5 rfl rfl)
theorem dX0_cutLine_30 : decode cX0_cutLine 30 = .ok (.baload, 1) := dk_51 (dk_at dksX0_cutLine_1 6 rfl rfl)
theorem dX0_cutLine_31 : decode cX0_cutLine 31 = .ok (.ifCond .eq 6, 3) := dk_153 0 6 (dk_at dksX0_cutLine_1 7 rfl rfl)
theorem dX0_cutLine_34 : decode cX0_cutLine 34 = .ok (.bipush (-4), 2) := dk_16 252 (dk_at dksX0_cutLine_1 10 rfl rfl)
theorem dX0_cutLine_36 : decode cX0_cutLine 36 = .ok (.ireturn, 1) := dk_172 (dk_at dksX0_cutLine_1 12 rfl rfl)
theorem dX0_cutLine_37 : decode cX0_cutLine 37 = .ok (.iconst 0, 1) := dk_3 (dk_at dksX0_cutLine_1 13 rfl rfl)
theorem dX0_cutLine_38 : decode cX0_cutLine 38 = .ok (.istore_n 2, 1) := dk_61 (dk_at dksX0_cutLine_1 14 rfl rfl)
theorem dX0_cutLine_39 : decode cX0_cutLine 39 = .ok (.iload_n 2, 1) := dk_28 (dk_at dksX0_cutLine_1 15 rfl rfl)
theorem dX0_cutLine_40 : decode cX0_cutLine 40 = .ok (.aload_n 0, 1) := dk_42 (dk_at dksX0_cutLine_1 16 rfl rfl)
theorem dX0_cutLine_41 : decode cX0_cutLine 41 = .ok (.getfield 277, 3) := dk_180 1 21 (dk_at dksX0_cutLine_1 17 rfl rfl)
theorem dX0_cutLine_44 : decode cX0_cutLine 44 = .ok (.if_icmp .ge 24, 3) := dk_162 0 24 (dk_at dksX0_cutLine_1 20 rfl rfl)
theorem dX0_cutLine_47 : decode cX0_cutLine 47 = .ok (.aload_n 0, 1) := dk_42 (dk_at dksX0_cutLine_1 23 rfl rfl)
theorem dX0_cutLine_48 : decode cX0_cutLine 48 = .ok (.getfield 106, 3) := dk_180 0 106 (dk_at dksX0_cutLine_2 0 rfl rfl)
theorem dX0_cutLine_51 : decode cX0_cutLine 51 = .ok (.iload_n 1, 1) := dk_27 (dk_at dksX0_cutLine_2 3 rfl rfl)
theorem dX0_cutLine_52 : decode cX0_cutLine 52 = .ok (.aaload, 1) := dk_50 (dk_at dksX0_cutLine_2 4 rfl rfl)
theorem dX0_cutLine_53 : decode cX0_cutLine 53 = .ok (.iload_n 2, 1) := dk_28 (dk_at dksX0_cutLine_2 5 rfl rfl)
theorem dX0_cutLine_54 : decode cX0_cutLine 54 = .ok (.aload_n 0, 1) := dk_42 (dk_at dksX0_cutLine_2 6 rfl rfl)
theorem dX0_cutLine_55 : decode cX0_cutLine 55 = .ok (.iload_n 1, 1) := dk_27 (dk_at dksX0_cutLine_2 7 rfl rfl)
theorem dX0_cutLine_56 : decode cX0_cutLine 56 = .ok (.iload_n 2, 1) := dk_28 (dk_at dksX0_cutLine_2 8 rfl rfl)
theorem dX0_cutLine_57 : decode cX0_cutLine 57 = .ok (.invokevirtual 439, 3) := dk_182 1 183 (dk_at dksX0_cutLine_2 9 rfl rfl)
theorem dX0_cutLine_60 : decode cX0_cutLine 60 = .ok (.i2b, 1) := dk_145 (dk_at dksX0_cutLine_2 12 rfl rfl)
theorem dX0_cutLine_61 : decode cX0_cutLine 61 = .ok (.bastore, 1) := dk_84 (dk_at dksX0_cutLine_2 13 rfl rfl)
theorem dX0_cutLine_62 : decode cX0_cutLine 62 = .ok (.iinc 2 1, 3) := dk_132 2 1 (dk_at dksX0_cutLine_2 14 rfl rfl)
theorem dX0_cutLine_65 : decode cX0_cutLine 65 = .ok (.goto (-26), 3) := dk_167 255 230 (dk_at dksX0_cutLine_2 17 rfl rfl)
theorem dX0_cutLine_68 : decode cX0_cutLine 68 = .ok (.aload_n 0, 1) := dk_42 (dk_at dksX0_cutLine_2 20 rfl rfl)
theorem dX0_cutLine_69 : decode cX0_cutLine 69 = .ok (.getfield 277, 3) := dk_180 1 21 (dk_at dksX0_cutLine_2 21 rfl rfl)
theorem dX0_cutLine_72 : decode cX0_cutLine 72 = .ok (.istore_n 2, 1) := dk_61 (dk_at dksX0_cutLine_3 0 rfl rfl)
theorem dX0_cutLine_73 : decode cX0_cutLine 73 = .ok (.iload_n 2, 1) := dk_28 (dk_at dksX0_cutLine_3 1 rfl rfl)
theorem dX0_cutLine_74 : decode cX0_cutLine 74 = .ok (.sipush 200, 3) := dk_17 0 200 (dk_at dksX0_cutLine_3 2 rfl rfl)
theorem dX0_cutLine_77 : decode cX0_cutLine 77 = .ok (.if_icmp .ge 18, 3) := dk_162 0 18 (dk_at dksX0_cutLine_3 5 rfl rfl)
theorem dX0_cutLine_80 : decode cX0_cutLine 80 = .ok (.aload_n 0, 1) := dk_42 (dk_at dksX0_cutLine_3 8 rfl rfl)
theorem dX0_cutLine_81 : decode cX0_cutLine 81 = .ok (.getfield 106, 3) := dk_180 0 106 (dk_at dksX0_cutLine_3 9 rfl rfl)
theorem dX0_cutLine_84 : decode cX0_cutLine 84 = .ok (.iload_n 1, 1) := dk_27 (dk_at dksX0_cutLine_3 12 rfl rfl)
theorem dX0_cutLine_85 : decode cX0_cutLine 85 = .ok (.aaload, 1) := dk_50 (dk_at dksX0_cutLine_3 13 rfl rfl)
theorem dX0_cutLine_86 : decode cX0_cutLine 86 = .ok (.iload_n 2, 1) := dk_28 (dk_at dksX0_cutLine_3 14 rfl rfl)
theorem dX0_cutLine_87 : decode cX0_cutLine 87 = .ok (.iconst (-1), 1) := dk_2 (dk_at dksX0_cutLine_3 15 rfl rfl)
theorem dX0_cutLine_88 : decode cX0_cutLine 88 = .ok (.bastore, 1) := dk_84 (dk_at dksX0_cutLine_3 16 rfl rfl)
theorem dX0_cutLine_89 : decode cX0_cutLine 89 = .ok (.iinc 2 1, 3) := dk_132 2 1 (dk_at dksX0_cutLine_3 17 rfl rfl)
theorem dX0_cutLine_92 : decode cX0_cutLine 92 = .ok (.goto (-19), 3) := dk_167 255 237 (dk_at dksX0_cutLine_3 20 rfl rfl)
theorem dX0_cutLine_95 : decode cX0_cutLine 95 = .ok (.aload_n 0, 1) := dk_42 (dk_at dksX0_cutLine_3 23 rfl rfl)
theorem dX0_cutLine_96 : decode cX0_cutLine 96 = .ok (.getfield 101, 3) := dk_180 0 101 (dk_at dksX0_cutLine_4 0 rfl rfl)
theorem dX0_cutLine_99 : decode cX0_cutLine 99 = .ok (.iload_n 1, 1) := dk_27 (dk_at dksX0_cutLine_4 3 rfl rfl)
theorem dX0_cutLine_100 : decode cX0_cutLine 100 = .ok (.iconst 1, 1) := dk_4 (dk_at dksX0_cutLine_4 4 rfl rfl)
theorem dX0_cutLine_101 : decode cX0_cutLine 101 = .ok (.bastore, 1) := dk_84 (dk_at dksX0_cutLine_4 5 rfl rfl)
theorem dX0_cutLine_102 : decode cX0_cutLine 102 = .ok (.aload_n 0, 1) := dk_42 (dk_at dksX0_cutLine_4 6 rfl rfl)
theorem dX0_cutLine_103 : decode cX0_cutLine 103 = .ok (.bipush 17, 2) := dk_16 17 (dk_at dksX0_cutLine_4 7 rfl rfl)
theorem dX0_cutLine_105 : decode cX0_cutLine 105 = .ok (.iload_n 1, 1) := dk_27 (dk_at dksX0_cutLine_4 9 rfl rfl)
theorem dX0_cutLine_106 : decode cX0_cutLine 106 = .ok (.iconst 0, 1) := dk_3 (dk_at dksX0_cutLine_4 10 rfl rfl)
theorem dX0_cutLine_107 : decode cX0_cutLine 107 = .ok (.iconst 0, 1) := dk_3 (dk_at dksX0_cutLine_4 11 rfl rfl)
theorem dX0_cutLine_108 : decode cX0_cutLine 108 = .ok (.iconst 0, 1) := dk_3 (dk_at dksX0_cutLine_4 12 rfl rfl)
theorem dX0_cutLine_109 : decode cX0_cutLine 109 = .ok (.invokevirtual 173, 3) := dk_182 0 173 (dk_at dksX0_cutLine_4 13 rfl rfl)
theorem dX0_cutLine_112 : decode cX0_cutLine 112 = .ok (.iconst 1, 1) := dk_4 (dk_at dksX0_cutLine_4 16 rfl rfl)
theorem dX0_cutLine_113 : decode cX0_cutLine 113 = .ok (.ireturn, 1) := dk_172 (dk_at dksX0_cutLine_4 17 rfl rfl)
abbrev cX0_knownTo : ByteArray := prog_1_method_53_code
def yX0_knownTo : MethodName := ⟨RX0, "knownTo", "(II)I"⟩
def dkwX0_knownTo_2 : List UInt8 := [180, 1, 189, 167, 0, 4, 2, 172]
abbrev dktX0_knownTo_2 : List UInt8 := dkwX0_knownTo_2 ++ []
def dkwX0_knownTo_1 : List UInt8 := [27, 51, 153, 0, 14, 42, 180, 0, 106, 27, 50, 28, 51, 167, 0, 18, 45, 180, 1, 190, 153, 0, 10, 45]
abbrev dktX0_knownTo_1 : List UInt8 := dkwX0_knownTo_1 ++ dktX0_knownTo_2
def dkwX0_knownTo_0 : List UInt8 := [42, 180, 0, 111, 28, 50, 78, 45, 180, 1, 186, 27, 160, 0, 8, 45, 180, 1, 189, 172, 42, 180, 0, 101]
abbrev dktX0_knownTo_0 : List UInt8 := dkwX0_knownTo_0 ++ dktX0_knownTo_1
theorem dksX0_knownTo_0 : cX0_knownTo.data.toList.drop 0 = dktX0_knownTo_0 := by decide +kernel
theorem dksX0_knownTo_1 : cX0_knownTo.data.toList.drop 24 = dktX0_knownTo_1 := dk_seg dksX0_knownTo_0 24 rfl rfl
theorem dksX0_knownTo_2 : cX0_knownTo.data.toList.drop 48 = dktX0_knownTo_2 := dk_seg dksX0_knownTo_1 24 rfl rfl
theorem dX0_knownTo_0 : decode cX0_knownTo 0 = .ok (.aload_n 0, 1) := dk_42 (dk_at dksX0_knownTo_0 0 rfl rfl)
theorem dX0_knownTo_1 : decode cX0_knownTo 1 = .ok (.getfield 111, 3) := dk_180 0 111 (dk_at dksX0_knownTo_0 1 rfl rfl)
theorem dX0_knownTo_4 : decode cX0_knownTo 4 = .ok (.iload_n 2, 1) := dk_28 (dk_at dksX0_knownTo_0 4 rfl rfl)
theorem dX0_knownTo_5 : decode cX0_knownTo 5 = .ok (.aaload, 1) := dk_50 (dk_at dksX0_knownTo_0 5 rfl rfl)
theorem dX0_knownTo_6 : decode cX0_knownTo 6 = .ok (.astore_n 3, 1) := dk_78 (dk_at dksX0_knownTo_0 6 rfl rfl)
theorem dX0_knownTo_7 : decode cX0_knownTo 7 = .ok (.aload_n 3, 1) := dk_45 (dk_at dksX0_knownTo_0 7 rfl rfl)
theorem dX0_knownTo_8 : decode cX0_knownTo 8 = .ok (.getfield 442, 3) := dk_180 1 186 (dk_at dksX0_knownTo_0 8 rfl rfl)
theorem dX0_knownTo_11 : decode cX0_knownTo 11 = .ok (.iload_n 1, 1) := dk_27 (dk_at dksX0_knownTo_0 11 rfl rfl)
theorem dX0_knownTo_12 : decode cX0_knownTo 12 = .ok (.if_icmp .ne 8, 3) := dk_160 0 8 (dk_at dksX0_knownTo_0 12 rfl rfl)
theorem dX0_knownTo_15 : decode cX0_knownTo 15 = .ok (.aload_n 3, 1) := dk_45 (dk_at dksX0_knownTo_0 15 rfl rfl)
theorem dX0_knownTo_16 : decode cX0_knownTo 16 = .ok (.getfield 445, 3) := dk_180 1 189 (dk_at dksX0_knownTo_0 16 rfl rfl)
theorem dX0_knownTo_19 : decode cX0_knownTo 19 = .ok (.ireturn, 1) := dk_172 (dk_at dksX0_knownTo_0 19 rfl rfl)
theorem dX0_knownTo_20 : decode cX0_knownTo 20 = .ok (.aload_n 0, 1) := dk_42 (dk_at dksX0_knownTo_0 20 rfl rfl)
theorem dX0_knownTo_21 : decode cX0_knownTo 21 = .ok (.getfield 101, 3) := dk_180 0 101 (dk_at dksX0_knownTo_0 21 rfl rfl)
theorem dX0_knownTo_24 : decode cX0_knownTo 24 = .ok (.iload_n 1, 1) := dk_27 (dk_at dksX0_knownTo_1 0 rfl rfl)
theorem dX0_knownTo_25 : decode cX0_knownTo 25 = .ok (.baload, 1) := dk_51 (dk_at dksX0_knownTo_1 1 rfl rfl)
theorem dX0_knownTo_26 : decode cX0_knownTo 26 = .ok (.ifCond .eq 14, 3) := dk_153 0 14 (dk_at dksX0_knownTo_1 2 rfl rfl)
theorem dX0_knownTo_29 : decode cX0_knownTo 29 = .ok (.aload_n 0, 1) := dk_42 (dk_at dksX0_knownTo_1 5 rfl rfl)
theorem dX0_knownTo_30 : decode cX0_knownTo 30 = .ok (.getfield 106, 3) := dk_180 0 106 (dk_at dksX0_knownTo_1 6 rfl rfl)
theorem dX0_knownTo_33 : decode cX0_knownTo 33 = .ok (.iload_n 1, 1) := dk_27 (dk_at dksX0_knownTo_1 9 rfl rfl)
theorem dX0_knownTo_34 : decode cX0_knownTo 34 = .ok (.aaload, 1) := dk_50 (dk_at dksX0_knownTo_1 10 rfl rfl)
theorem dX0_knownTo_35 : decode cX0_knownTo 35 = .ok (.iload_n 2, 1) := dk_28 (dk_at dksX0_knownTo_1 11 rfl rfl)
theorem dX0_knownTo_36 : decode cX0_knownTo 36 = .ok (.baload, 1) := dk_51 (dk_at dksX0_knownTo_1 12 rfl rfl)
theorem dX0_knownTo_37 : decode cX0_knownTo 37 = .ok (.goto 18, 3) := dk_167 0 18 (dk_at dksX0_knownTo_1 13 rfl rfl)
theorem dX0_knownTo_40 : decode cX0_knownTo 40 = .ok (.aload_n 3, 1) := dk_45 (dk_at dksX0_knownTo_1 16 rfl rfl)
theorem dX0_knownTo_41 : decode cX0_knownTo 41 = .ok (.getfield 446, 3) := dk_180 1 190 (dk_at dksX0_knownTo_1 17 rfl rfl)
theorem dX0_knownTo_44 : decode cX0_knownTo 44 = .ok (.ifCond .eq 10, 3) := dk_153 0 10 (dk_at dksX0_knownTo_1 20 rfl rfl)
theorem dX0_knownTo_47 : decode cX0_knownTo 47 = .ok (.aload_n 3, 1) := dk_45 (dk_at dksX0_knownTo_1 23 rfl rfl)
theorem dX0_knownTo_48 : decode cX0_knownTo 48 = .ok (.getfield 445, 3) := dk_180 1 189 (dk_at dksX0_knownTo_2 0 rfl rfl)
theorem dX0_knownTo_51 : decode cX0_knownTo 51 = .ok (.goto 4, 3) := dk_167 0 4 (dk_at dksX0_knownTo_2 3 rfl rfl)
theorem dX0_knownTo_54 : decode cX0_knownTo 54 = .ok (.iconst (-1), 1) := dk_2 (dk_at dksX0_knownTo_2 6 rfl rfl)
theorem dX0_knownTo_55 : decode cX0_knownTo 55 = .ok (.ireturn, 1) := dk_172 (dk_at dksX0_knownTo_2 7 rfl rfl)
abbrev cX0_mend : ByteArray := prog_1_method_58_code
def yX0_mend : MethodName := ⟨RX0, "mend", "(I)I"⟩
def dkwX0_mend_5 : List UInt8 := [16, 18, 27, 3, 3, 3, 182, 0, 173, 29, 172]
abbrev dktX0_mend_5 : List UInt8 := dkwX0_mend_5 ++ []
def dkwX0_mend_4 : List UInt8 := [96, 62, 25, 5, 180, 1, 189, 5, 160, 0, 9, 42, 25, 5, 182, 1, 226, 132, 4, 1, 167, 255, 181, 42]
abbrev dktX0_mend_4 : List UInt8 := dkwX0_mend_4 ++ dktX0_mend_5
def dkwX0_mend_3 : List UInt8 := [25, 5, 182, 1, 222, 29, 21, 6, 153, 0, 15, 25, 5, 182, 1, 194, 154, 0, 7, 4, 167, 0, 4, 3]
abbrev dktX0_mend_3 : List UInt8 := dkwX0_mend_3 ++ dktX0_mend_4
def dkwX0_mend_2 : List UInt8 := [180, 0, 115, 21, 4, 50, 58, 5, 25, 5, 182, 1, 194, 54, 6, 25, 5, 180, 1, 190, 154, 0, 9, 42]
abbrev dktX0_mend_2 : List UInt8 := dkwX0_mend_2 ++ dktX0_mend_3
def dkwX0_mend_1 : List UInt8 := [180, 0, 101, 27, 3, 84, 42, 27, 182, 1, 219, 61, 3, 62, 3, 54, 4, 21, 4, 28, 162, 0, 75, 42]
abbrev dktX0_mend_1 : List UInt8 := dkwX0_mend_1 ++ dktX0_mend_2
def dkwX0_mend_0 : List UInt8 := [42, 27, 182, 1, 174, 154, 0, 5, 2, 172, 42, 180, 0, 101, 27, 51, 154, 0, 6, 16, 252, 172, 42]
abbrev dktX0_mend_0 : List UInt8 := dkwX0_mend_0 ++ dktX0_mend_1
theorem dksX0_mend_0 : cX0_mend.data.toList.drop 0 = dktX0_mend_0 := by decide +kernel
theorem dksX0_mend_1 : cX0_mend.data.toList.drop 23 = dktX0_mend_1 := dk_seg dksX0_mend_0 23 rfl rfl
theorem dksX0_mend_2 : cX0_mend.data.toList.drop 47 = dktX0_mend_2 := dk_seg dksX0_mend_1 24 rfl rfl
theorem dksX0_mend_3 : cX0_mend.data.toList.drop 71 = dktX0_mend_3 := dk_seg dksX0_mend_2 24 rfl rfl
theorem dksX0_mend_4 : cX0_mend.data.toList.drop 95 = dktX0_mend_4 := dk_seg dksX0_mend_3 24 rfl rfl
theorem dksX0_mend_5 : cX0_mend.data.toList.drop 119 = dktX0_mend_5 := dk_seg dksX0_mend_4 24 rfl rfl
theorem dX0_mend_0 : decode cX0_mend 0 = .ok (.aload_n 0, 1) := dk_42 (dk_at dksX0_mend_0 0 rfl rfl)
theorem dX0_mend_1 : decode cX0_mend 1 = .ok (.iload_n 1, 1) := dk_27 (dk_at dksX0_mend_0 1 rfl rfl)
theorem dX0_mend_2 : decode cX0_mend 2 = .ok (.invokevirtual 430, 3) := dk_182 1 174 (dk_at dksX0_mend_0 2 rfl rfl)
theorem dX0_mend_5 : decode cX0_mend 5 = .ok (.ifCond .ne 5, 3) := dk_154 0 5 (dk_at dksX0_mend_0 5 rfl rfl)
theorem dX0_mend_8 : decode cX0_mend 8 = .ok (.iconst (-1), 1) := dk_2 (dk_at dksX0_mend_0 8 rfl rfl)
theorem dX0_mend_9 : decode cX0_mend 9 = .ok (.ireturn, 1) := dk_172 (dk_at dksX0_mend_0 9 rfl rfl)
theorem dX0_mend_10 : decode cX0_mend 10 = .ok (.aload_n 0, 1) := dk_42 (dk_at dksX0_mend_0 10 rfl rfl)
theorem dX0_mend_11 : decode cX0_mend 11 = .ok (.getfield 101, 3) := dk_180 0 101 (dk_at dksX0_mend_0 11 rfl rfl)
theorem dX0_mend_14 : decode cX0_mend 14 = .ok (.iload_n 1, 1) := dk_27 (dk_at dksX0_mend_0 14 rfl rfl)
theorem dX0_mend_15 : decode cX0_mend 15 = .ok (.baload, 1) := dk_51 (dk_at dksX0_mend_0 15 rfl rfl)
theorem dX0_mend_16 : decode cX0_mend 16 = .ok (.ifCond .ne 6, 3) := dk_154 0 6 (dk_at dksX0_mend_0 16 rfl rfl)
theorem dX0_mend_19 : decode cX0_mend 19 = .ok (.bipush (-4), 2) := dk_16 252 (dk_at dksX0_mend_0 19 rfl rfl)
theorem dX0_mend_21 : decode cX0_mend 21 = .ok (.ireturn, 1) := dk_172 (dk_at dksX0_mend_0 21 rfl rfl)
theorem dX0_mend_22 : decode cX0_mend 22 = .ok (.aload_n 0, 1) := dk_42 (dk_at dksX0_mend_0 22 rfl rfl)
theorem dX0_mend_23 : decode cX0_mend 23 = .ok (.getfield 101, 3) := dk_180 0 101 (dk_at dksX0_mend_1 0 rfl rfl)
theorem dX0_mend_26 : decode cX0_mend 26 = .ok (.iload_n 1, 1) := dk_27 (dk_at dksX0_mend_1 3 rfl rfl)
theorem dX0_mend_27 : decode cX0_mend 27 = .ok (.iconst 0, 1) := dk_3 (dk_at dksX0_mend_1 4 rfl rfl)
theorem dX0_mend_28 : decode cX0_mend 28 = .ok (.bastore, 1) := dk_84 (dk_at dksX0_mend_1 5 rfl rfl)
theorem dX0_mend_29 : decode cX0_mend 29 = .ok (.aload_n 0, 1) := dk_42 (dk_at dksX0_mend_1 6 rfl rfl)
theorem dX0_mend_30 : decode cX0_mend 30 = .ok (.iload_n 1, 1) := dk_27 (dk_at dksX0_mend_1 7 rfl rfl)
theorem dX0_mend_31 : decode cX0_mend 31 = .ok (.invokevirtual 475, 3) := dk_182 1 219 (dk_at dksX0_mend_1 8 rfl rfl)
theorem dX0_mend_34 : decode cX0_mend 34 = .ok (.istore_n 2, 1) := dk_61 (dk_at dksX0_mend_1 11 rfl rfl)
theorem dX0_mend_35 : decode cX0_mend 35 = .ok (.iconst 0, 1) := dk_3 (dk_at dksX0_mend_1 12 rfl rfl)
theorem dX0_mend_36 : decode cX0_mend 36 = .ok (.istore_n 3, 1) := dk_62 (dk_at dksX0_mend_1 13 rfl rfl)
theorem dX0_mend_37 : decode cX0_mend 37 = .ok (.iconst 0, 1) := dk_3 (dk_at dksX0_mend_1 14 rfl rfl)
theorem dX0_mend_38 : decode cX0_mend 38 = .ok (.istore 4, 2) := dk_54 4 (dk_at dksX0_mend_1 15 rfl rfl)
theorem dX0_mend_40 : decode cX0_mend 40 = .ok (.iload 4, 2) := dk_21 4 (dk_at dksX0_mend_1 17 rfl rfl)
theorem dX0_mend_42 : decode cX0_mend 42 = .ok (.iload_n 2, 1) := dk_28 (dk_at dksX0_mend_1 19 rfl rfl)
theorem dX0_mend_43 : decode cX0_mend 43 = .ok (.if_icmp .ge 75, 3) := dk_162 0 75 (dk_at dksX0_mend_1 20 rfl rfl)
theorem dX0_mend_46 : decode cX0_mend 46 = .ok (.aload_n 0, 1) := dk_42 (dk_at dksX0_mend_1 23 rfl rfl)
theorem dX0_mend_47 : decode cX0_mend 47 = .ok (.getfield 115, 3) := dk_180 0 115 (dk_at dksX0_mend_2 0 rfl rfl)
theorem dX0_mend_50 : decode cX0_mend 50 = .ok (.iload 4, 2) := dk_21 4 (dk_at dksX0_mend_2 3 rfl rfl)
theorem dX0_mend_52 : decode cX0_mend 52 = .ok (.aaload, 1) := dk_50 (dk_at dksX0_mend_2 5 rfl rfl)
theorem dX0_mend_53 : decode cX0_mend 53 = .ok (.astore 5, 2) := dk_58 5 (dk_at dksX0_mend_2 6 rfl rfl)
theorem dX0_mend_55 : decode cX0_mend 55 = .ok (.aload 5, 2) := dk_25 5 (dk_at dksX0_mend_2 8 rfl rfl)
theorem dX0_mend_57 : decode cX0_mend 57 = .ok (.invokevirtual 450, 3) := dk_182 1 194 (dk_at dksX0_mend_2 10 rfl rfl)
theorem dX0_mend_60 : decode cX0_mend 60 = .ok (.istore 6, 2) := dk_54 6 (dk_at dksX0_mend_2 13 rfl rfl)
theorem dX0_mend_62 : decode cX0_mend 62 = .ok (.aload 5, 2) := dk_25 5 (dk_at dksX0_mend_2 15 rfl rfl)
theorem dX0_mend_64 : decode cX0_mend 64 = .ok (.getfield 446, 3) := dk_180 1 190 (dk_at dksX0_mend_2 17 rfl rfl)
theorem dX0_mend_67 : decode cX0_mend 67 = .ok (.ifCond .ne 9, 3) := dk_154 0 9 (dk_at dksX0_mend_2 20 rfl rfl)
theorem dX0_mend_70 : decode cX0_mend 70 = .ok (.aload_n 0, 1) := dk_42 (dk_at dksX0_mend_2 23 rfl rfl)
theorem dX0_mend_71 : decode cX0_mend 71 = .ok (.aload 5, 2) := dk_25 5 (dk_at dksX0_mend_3 0 rfl rfl)
theorem dX0_mend_73 : decode cX0_mend 73 = .ok (.invokevirtual 478, 3) := dk_182 1 222 (dk_at dksX0_mend_3 2 rfl rfl)
theorem dX0_mend_76 : decode cX0_mend 76 = .ok (.iload_n 3, 1) := dk_29 (dk_at dksX0_mend_3 5 rfl rfl)
theorem dX0_mend_77 : decode cX0_mend 77 = .ok (.iload 6, 2) := dk_21 6 (dk_at dksX0_mend_3 6 rfl rfl)
theorem dX0_mend_79 : decode cX0_mend 79 = .ok (.ifCond .eq 15, 3) := dk_153 0 15 (dk_at dksX0_mend_3 8 rfl rfl)
theorem dX0_mend_82 : decode cX0_mend 82 = .ok (.aload 5, 2) := dk_25 5 (dk_at dksX0_mend_3 11 rfl rfl)
theorem dX0_mend_84 : decode cX0_mend 84 = .ok (.invokevirtual 450, 3) := dk_182 1 194 (dk_at dksX0_mend_3 13 rfl rfl)
theorem dX0_mend_87 : decode cX0_mend 87 = .ok (.ifCond .ne 7, 3) := dk_154 0 7 (dk_at dksX0_mend_3 16 rfl rfl)
theorem dX0_mend_90 : decode cX0_mend 90 = .ok (.iconst 1, 1) := dk_4 (dk_at dksX0_mend_3 19 rfl rfl)
theorem dX0_mend_91 : decode cX0_mend 91 = .ok (.goto 4, 3) := dk_167 0 4 (dk_at dksX0_mend_3 20 rfl rfl)
theorem dX0_mend_94 : decode cX0_mend 94 = .ok (.iconst 0, 1) := dk_3 (dk_at dksX0_mend_3 23 rfl rfl)
theorem dX0_mend_95 : decode cX0_mend 95 = .ok (.iadd, 1) := dk_96 (dk_at dksX0_mend_4 0 rfl rfl)
theorem dX0_mend_96 : decode cX0_mend 96 = .ok (.istore_n 3, 1) := dk_62 (dk_at dksX0_mend_4 1 rfl rfl)
theorem dX0_mend_97 : decode cX0_mend 97 = .ok (.aload 5, 2) := dk_25 5 (dk_at dksX0_mend_4 2 rfl rfl)
theorem dX0_mend_99 : decode cX0_mend 99 = .ok (.getfield 445, 3) := dk_180 1 189 (dk_at dksX0_mend_4 4 rfl rfl)
theorem dX0_mend_102 : decode cX0_mend 102 = .ok (.iconst 2, 1) := dk_5 (dk_at dksX0_mend_4 7 rfl rfl)
theorem dX0_mend_103 : decode cX0_mend 103 = .ok (.if_icmp .ne 9, 3) := dk_160 0 9 (dk_at dksX0_mend_4 8 rfl rfl)
theorem dX0_mend_106 : decode cX0_mend 106 = .ok (.aload_n 0, 1) := dk_42 (dk_at dksX0_mend_4 11 rfl rfl)
theorem dX0_mend_107 : decode cX0_mend 107 = .ok (.aload 5, 2) := dk_25 5 (dk_at dksX0_mend_4 12 rfl rfl)
theorem dX0_mend_109 : decode cX0_mend 109 = .ok (.invokevirtual 482, 3) := dk_182 1 226 (dk_at dksX0_mend_4 14 rfl rfl)
theorem dX0_mend_112 : decode cX0_mend 112 = .ok (.iinc 4 1, 3) := dk_132 4 1 (dk_at dksX0_mend_4 17 rfl rfl)
theorem dX0_mend_115 : decode cX0_mend 115 = .ok (.goto (-75), 3) := dk_167 255 181 (dk_at dksX0_mend_4 20 rfl rfl)
theorem dX0_mend_118 : decode cX0_mend 118 = .ok (.aload_n 0, 1) := dk_42 (dk_at dksX0_mend_4 23 rfl rfl)
theorem dX0_mend_119 : decode cX0_mend 119 = .ok (.bipush 18, 2) := dk_16 18 (dk_at dksX0_mend_5 0 rfl rfl)
theorem dX0_mend_121 : decode cX0_mend 121 = .ok (.iload_n 1, 1) := dk_27 (dk_at dksX0_mend_5 2 rfl rfl)
theorem dX0_mend_122 : decode cX0_mend 122 = .ok (.iconst 0, 1) := dk_3 (dk_at dksX0_mend_5 3 rfl rfl)
theorem dX0_mend_123 : decode cX0_mend 123 = .ok (.iconst 0, 1) := dk_3 (dk_at dksX0_mend_5 4 rfl rfl)
theorem dX0_mend_124 : decode cX0_mend 124 = .ok (.iconst 0, 1) := dk_3 (dk_at dksX0_mend_5 5 rfl rfl)
theorem dX0_mend_125 : decode cX0_mend 125 = .ok (.invokevirtual 173, 3) := dk_182 0 173 (dk_at dksX0_mend_5 6 rfl rfl)
theorem dX0_mend_128 : decode cX0_mend 128 = .ok (.iload_n 3, 1) := dk_29 (dk_at dksX0_mend_5 9 rfl rfl)
theorem dX0_mend_129 : decode cX0_mend 129 = .ok (.ireturn, 1) := dk_172 (dk_at dksX0_mend_5 10 rfl rfl)
abbrev cX0_sortIssues : ByteArray := prog_1_method_57_code
def yX0_sortIssues : MethodName := ⟨RX0, "sortIssues", "(I)I"⟩
def dkwX0_sortIssues_4 : List UInt8 := [28, 172]
abbrev dktX0_sortIssues_4 : List UInt8 := dkwX0_sortIssues_4 ++ []
def dkwX0_sortIssues_3 : List UInt8 := [132, 5, 255, 167, 255, 215, 42, 180, 0, 115, 21, 5, 25, 4, 83, 132, 2, 1, 132, 3, 1, 167, 255, 169]
abbrev dktX0_sortIssues_3 : List UInt8 := dkwX0_sortIssues_3 ++ dktX0_sortIssues_4
def dkwX0_sortIssues_2 : List UInt8 := [100, 50, 182, 1, 202, 153, 0, 25, 42, 180, 0, 115, 21, 5, 42, 180, 0, 115, 21, 5, 4, 100, 50, 83]
abbrev dktX0_sortIssues_2 : List UInt8 := dkwX0_sortIssues_2 ++ dktX0_sortIssues_3
def dkwX0_sortIssues_1 : List UInt8 := [180, 1, 186, 27, 160, 0, 62, 28, 54, 5, 21, 5, 158, 0, 42, 25, 4, 42, 180, 0, 115, 21, 5, 4]
abbrev dktX0_sortIssues_1 : List UInt8 := dkwX0_sortIssues_1 ++ dktX0_sortIssues_2
def dkwX0_sortIssues_0 : List UInt8 := [3, 61, 3, 62, 29, 42, 180, 1, 21, 162, 0, 85, 42, 180, 0, 111, 29, 50, 58, 4, 25, 4]
abbrev dktX0_sortIssues_0 : List UInt8 := dkwX0_sortIssues_0 ++ dktX0_sortIssues_1
theorem dksX0_sortIssues_0 : cX0_sortIssues.data.toList.drop 0 = dktX0_sortIssues_0 := by decide +kernel
theorem dksX0_sortIssues_1 : cX0_sortIssues.data.toList.drop 22 = dktX0_sortIssues_1 := dk_seg dksX0_sortIssues_0 22 rfl rfl
theorem dksX0_sortIssues_2 : cX0_sortIssues.data.toList.drop 46 = dktX0_sortIssues_2 := dk_seg dksX0_sortIssues_1 24 rfl rfl
theorem dksX0_sortIssues_3 : cX0_sortIssues.data.toList.drop 70 = dktX0_sortIssues_3 := dk_seg dksX0_sortIssues_2 24 rfl rfl
theorem dksX0_sortIssues_4 : cX0_sortIssues.data.toList.drop 94 = dktX0_sortIssues_4 := dk_seg dksX0_sortIssues_3 24 rfl rfl
theorem dX0_sortIssues_0 : decode cX0_sortIssues 0 = .ok (.iconst 0, 1) := dk_3 (dk_at dksX0_sortIssues_0 0 rfl rfl)
theorem dX0_sortIssues_1 : decode cX0_sortIssues 1 = .ok (.istore_n 2, 1) := dk_61 (dk_at dksX0_sortIssues_0 1 rfl rfl)
theorem dX0_sortIssues_2 : decode cX0_sortIssues 2 = .ok (.iconst 0, 1) := dk_3 (dk_at dksX0_sortIssues_0 2 rfl rfl)
theorem dX0_sortIssues_3 : decode cX0_sortIssues 3 = .ok (.istore_n 3, 1) := dk_62 (dk_at dksX0_sortIssues_0 3 rfl rfl)
theorem dX0_sortIssues_4 : decode cX0_sortIssues 4 = .ok (.iload_n 3, 1) := dk_29 (dk_at dksX0_sortIssues_0 4 rfl rfl)
theorem dX0_sortIssues_5 : decode cX0_sortIssues 5 = .ok (.aload_n 0, 1) := dk_42 (dk_at dksX0_sortIssues_0 5 rfl rfl)
theorem dX0_sortIssues_6 : decode cX0_sortIssues 6 = .ok (.getfield 277, 3) := dk_180 1 21 (dk_at dksX0_sortIssues_0 6 rfl rfl)
theorem dX0_sortIssues_9 : decode cX0_sortIssues 9 = .ok (.if_icmp .ge 85, 3) := dk_162 0 85 (dk_at dksX0_sortIssues_0 9 rfl rfl)
theorem dX0_sortIssues_12 : decode cX0_sortIssues 12 = .ok (.aload_n 0, 1) := dk_42 (dk_at dksX0_sortIssues_0 12 rfl rfl)
theorem dX0_sortIssues_13 : decode cX0_sortIssues 13 = .ok (.getfield 111, 3) := dk_180 0 111 (dk_at dksX0_sortIssues_0 13 rfl rfl)
theorem dX0_sortIssues_16 : decode cX0_sortIssues 16 = .ok (.iload_n 3, 1) := dk_29 (dk_at dksX0_sortIssues_0 16 rfl rfl)
theorem dX0_sortIssues_17 : decode cX0_sortIssues 17 = .ok (.aaload, 1) := dk_50 (dk_at dksX0_sortIssues_0 17 rfl rfl)
theorem dX0_sortIssues_18 : decode cX0_sortIssues 18 = .ok (.astore 4, 2) := dk_58 4 (dk_at dksX0_sortIssues_0 18 rfl rfl)
theorem dX0_sortIssues_20 : decode cX0_sortIssues 20 = .ok (.aload 4, 2) := dk_25 4 (dk_at dksX0_sortIssues_0 20 rfl rfl)
theorem dX0_sortIssues_22 : decode cX0_sortIssues 22 = .ok (.getfield 442, 3) := dk_180 1 186 (dk_at dksX0_sortIssues_1 0 rfl rfl)
theorem dX0_sortIssues_25 : decode cX0_sortIssues 25 = .ok (.iload_n 1, 1) := dk_27 (dk_at dksX0_sortIssues_1 3 rfl rfl)
theorem dX0_sortIssues_26 : decode cX0_sortIssues 26 = .ok (.if_icmp .ne 62, 3) := dk_160 0 62 (dk_at dksX0_sortIssues_1 4 rfl rfl)
theorem dX0_sortIssues_29 : decode cX0_sortIssues 29 = .ok (.iload_n 2, 1) := dk_28 (dk_at dksX0_sortIssues_1 7 rfl rfl)
theorem dX0_sortIssues_30 : decode cX0_sortIssues 30 = .ok (.istore 5, 2) := dk_54 5 (dk_at dksX0_sortIssues_1 8 rfl rfl)
theorem dX0_sortIssues_32 : decode cX0_sortIssues 32 = .ok (.iload 5, 2) := dk_21 5 (dk_at dksX0_sortIssues_1 10 rfl rfl)
theorem dX0_sortIssues_34 : decode cX0_sortIssues 34 = .ok (.ifCond .le 42, 3) := dk_158 0 42 (dk_at dksX0_sortIssues_1 12 rfl rfl)
theorem dX0_sortIssues_37 : decode cX0_sortIssues 37 = .ok (.aload 4, 2) := dk_25 4 (dk_at dksX0_sortIssues_1 15 rfl rfl)
theorem dX0_sortIssues_39 : decode cX0_sortIssues 39 = .ok (.aload_n 0, 1) := dk_42 (dk_at dksX0_sortIssues_1 17 rfl rfl)
theorem dX0_sortIssues_40 : decode cX0_sortIssues 40 = .ok (.getfield 115, 3) := dk_180 0 115 (dk_at dksX0_sortIssues_1 18 rfl rfl)
theorem dX0_sortIssues_43 : decode cX0_sortIssues 43 = .ok (.iload 5, 2) := dk_21 5 (dk_at dksX0_sortIssues_1 21 rfl rfl)
theorem dX0_sortIssues_45 : decode cX0_sortIssues 45 = .ok (.iconst 1, 1) := dk_4 (dk_at dksX0_sortIssues_1 23 rfl rfl)
theorem dX0_sortIssues_46 : decode cX0_sortIssues 46 = .ok (.isub, 1) := dk_100 (dk_at dksX0_sortIssues_2 0 rfl rfl)
theorem dX0_sortIssues_47 : decode cX0_sortIssues 47 = .ok (.aaload, 1) := dk_50 (dk_at dksX0_sortIssues_2 1 rfl rfl)
theorem dX0_sortIssues_48 : decode cX0_sortIssues 48 = .ok (.invokevirtual 458, 3) := dk_182 1 202 (dk_at dksX0_sortIssues_2 2 rfl rfl)
theorem dX0_sortIssues_51 : decode cX0_sortIssues 51 = .ok (.ifCond .eq 25, 3) := dk_153 0 25 (dk_at dksX0_sortIssues_2 5 rfl rfl)
theorem dX0_sortIssues_54 : decode cX0_sortIssues 54 = .ok (.aload_n 0, 1) := dk_42 (dk_at dksX0_sortIssues_2 8 rfl rfl)
theorem dX0_sortIssues_55 : decode cX0_sortIssues 55 = .ok (.getfield 115, 3) := dk_180 0 115 (dk_at dksX0_sortIssues_2 9 rfl rfl)
theorem dX0_sortIssues_58 : decode cX0_sortIssues 58 = .ok (.iload 5, 2) := dk_21 5 (dk_at dksX0_sortIssues_2 12 rfl rfl)
theorem dX0_sortIssues_60 : decode cX0_sortIssues 60 = .ok (.aload_n 0, 1) := dk_42 (dk_at dksX0_sortIssues_2 14 rfl rfl)
theorem dX0_sortIssues_61 : decode cX0_sortIssues 61 = .ok (.getfield 115, 3) := dk_180 0 115 (dk_at dksX0_sortIssues_2 15 rfl rfl)
theorem dX0_sortIssues_64 : decode cX0_sortIssues 64 = .ok (.iload 5, 2) := dk_21 5 (dk_at dksX0_sortIssues_2 18 rfl rfl)
theorem dX0_sortIssues_66 : decode cX0_sortIssues 66 = .ok (.iconst 1, 1) := dk_4 (dk_at dksX0_sortIssues_2 20 rfl rfl)
theorem dX0_sortIssues_67 : decode cX0_sortIssues 67 = .ok (.isub, 1) := dk_100 (dk_at dksX0_sortIssues_2 21 rfl rfl)
theorem dX0_sortIssues_68 : decode cX0_sortIssues 68 = .ok (.aaload, 1) := dk_50 (dk_at dksX0_sortIssues_2 22 rfl rfl)
theorem dX0_sortIssues_69 : decode cX0_sortIssues 69 = .ok (.aastore, 1) := dk_83 (dk_at dksX0_sortIssues_2 23 rfl rfl)
theorem dX0_sortIssues_70 : decode cX0_sortIssues 70 = .ok (.iinc 5 (-1), 3) := dk_132 5 255 (dk_at dksX0_sortIssues_3 0 rfl rfl)
theorem dX0_sortIssues_73 : decode cX0_sortIssues 73 = .ok (.goto (-41), 3) := dk_167 255 215 (dk_at dksX0_sortIssues_3 3 rfl rfl)
theorem dX0_sortIssues_76 : decode cX0_sortIssues 76 = .ok (.aload_n 0, 1) := dk_42 (dk_at dksX0_sortIssues_3 6 rfl rfl)
theorem dX0_sortIssues_77 : decode cX0_sortIssues 77 = .ok (.getfield 115, 3) := dk_180 0 115 (dk_at dksX0_sortIssues_3 7 rfl rfl)
theorem dX0_sortIssues_80 : decode cX0_sortIssues 80 = .ok (.iload 5, 2) := dk_21 5 (dk_at dksX0_sortIssues_3 10 rfl rfl)
theorem dX0_sortIssues_82 : decode cX0_sortIssues 82 = .ok (.aload 4, 2) := dk_25 4 (dk_at dksX0_sortIssues_3 12 rfl rfl)
theorem dX0_sortIssues_84 : decode cX0_sortIssues 84 = .ok (.aastore, 1) := dk_83 (dk_at dksX0_sortIssues_3 14 rfl rfl)
theorem dX0_sortIssues_85 : decode cX0_sortIssues 85 = .ok (.iinc 2 1, 3) := dk_132 2 1 (dk_at dksX0_sortIssues_3 15 rfl rfl)
theorem dX0_sortIssues_88 : decode cX0_sortIssues 88 = .ok (.iinc 3 1, 3) := dk_132 3 1 (dk_at dksX0_sortIssues_3 18 rfl rfl)
theorem dX0_sortIssues_91 : decode cX0_sortIssues 91 = .ok (.goto (-87), 3) := dk_167 255 169 (dk_at dksX0_sortIssues_3 21 rfl rfl)
theorem dX0_sortIssues_94 : decode cX0_sortIssues 94 = .ok (.iload_n 2, 1) := dk_28 (dk_at dksX0_sortIssues_4 0 rfl rfl)
theorem dX0_sortIssues_95 : decode cX0_sortIssues 95 = .ok (.ireturn, 1) := dk_172 (dk_at dksX0_sortIssues_4 1 rfl rfl)
abbrev cX0_settle : ByteArray := prog_1_method_55_code
def yX0_settle : MethodName := ⟨RX0, "settle", "(LElectionHouse$Issue;)V"⟩
def dkwX0_settle_3 : List UInt8 := [43, 7, 181, 1, 189, 177]
abbrev dktX0_settle_3 : List UInt8 := dkwX0_settle_3 ++ []
def dkwX0_settle_2 : List UInt8 := [182, 1, 202, 153, 0, 7, 4, 167, 0, 4, 3, 62, 29, 153, 0, 11, 44, 7, 181, 1, 189, 167, 0, 8]
abbrev dktX0_settle_2 : List UInt8 := dkwX0_settle_2 ++ dktX0_settle_3
def dkwX0_settle_1 : List UInt8 := [199, 0, 4, 177, 44, 180, 1, 189, 6, 159, 0, 24, 44, 180, 1, 186, 16, 6, 159, 0, 11, 43, 44]
abbrev dktX0_settle_1 : List UInt8 := dkwX0_settle_1 ++ dktX0_settle_2
def dkwX0_settle_0 : List UInt8 := [43, 4, 181, 1, 190, 43, 182, 1, 194, 153, 0, 11, 42, 43, 182, 1, 198, 167, 0, 4, 1, 77, 44]
abbrev dktX0_settle_0 : List UInt8 := dkwX0_settle_0 ++ dktX0_settle_1
theorem dksX0_settle_0 : cX0_settle.data.toList.drop 0 = dktX0_settle_0 := by decide +kernel
theorem dksX0_settle_1 : cX0_settle.data.toList.drop 23 = dktX0_settle_1 := dk_seg dksX0_settle_0 23 rfl rfl
theorem dksX0_settle_2 : cX0_settle.data.toList.drop 46 = dktX0_settle_2 := dk_seg dksX0_settle_1 23 rfl rfl
theorem dksX0_settle_3 : cX0_settle.data.toList.drop 70 = dktX0_settle_3 := dk_seg dksX0_settle_2 24 rfl rfl
theorem dX0_settle_0 : decode cX0_settle 0 = .ok (.aload_n 1, 1) := dk_43 (dk_at dksX0_settle_0 0 rfl rfl)
theorem dX0_settle_1 : decode cX0_settle 1 = .ok (.iconst 1, 1) := dk_4 (dk_at dksX0_settle_0 1 rfl rfl)
theorem dX0_settle_2 : decode cX0_settle 2 = .ok (.putfield 446, 3) := dk_181 1 190 (dk_at dksX0_settle_0 2 rfl rfl)
theorem dX0_settle_5 : decode cX0_settle 5 = .ok (.aload_n 1, 1) := dk_43 (dk_at dksX0_settle_0 5 rfl rfl)
theorem dX0_settle_6 : decode cX0_settle 6 = .ok (.invokevirtual 450, 3) := dk_182 1 194 (dk_at dksX0_settle_0 6 rfl rfl)
theorem dX0_settle_9 : decode cX0_settle 9 = .ok (.ifCond .eq 11, 3) := dk_153 0 11 (dk_at dksX0_settle_0 9 rfl rfl)
theorem dX0_settle_12 : decode cX0_settle 12 = .ok (.aload_n 0, 1) := dk_42 (dk_at dksX0_settle_0 12 rfl rfl)
theorem dX0_settle_13 : decode cX0_settle 13 = .ok (.aload_n 1, 1) := dk_43 (dk_at dksX0_settle_0 13 rfl rfl)
theorem dX0_settle_14 : decode cX0_settle 14 = .ok (.invokevirtual 454, 3) := dk_182 1 198 (dk_at dksX0_settle_0 14 rfl rfl)
theorem dX0_settle_17 : decode cX0_settle 17 = .ok (.goto 4, 3) := dk_167 0 4 (dk_at dksX0_settle_0 17 rfl rfl)
theorem dX0_settle_20 : decode cX0_settle 20 = .ok (.aconst_null, 1) := dk_1 (dk_at dksX0_settle_0 20 rfl rfl)
theorem dX0_settle_21 : decode cX0_settle 21 = .ok (.astore_n 2, 1) := dk_77 (dk_at dksX0_settle_0 21 rfl rfl)
theorem dX0_settle_22 : decode cX0_settle 22 = .ok (.aload_n 2, 1) := dk_44 (dk_at dksX0_settle_0 22 rfl rfl)
theorem dX0_settle_23 : decode cX0_settle 23 = .ok (.ifnonnull 4, 3) := dk_199 0 4 (dk_at dksX0_settle_1 0 rfl rfl)
theorem dX0_settle_26 : decode cX0_settle 26 = .ok (.return_, 1) := dk_177 (dk_at dksX0_settle_1 3 rfl rfl)
theorem dX0_settle_27 : decode cX0_settle 27 = .ok (.aload_n 2, 1) := dk_44 (dk_at dksX0_settle_1 4 rfl rfl)
theorem dX0_settle_28 : decode cX0_settle 28 = .ok (.getfield 445, 3) := dk_180 1 189 (dk_at dksX0_settle_1 5 rfl rfl)
theorem dX0_settle_31 : decode cX0_settle 31 = .ok (.iconst 3, 1) := dk_6 (dk_at dksX0_settle_1 8 rfl rfl)
theorem dX0_settle_32 : decode cX0_settle 32 = .ok (.if_icmp .eq 24, 3) := dk_159 0 24 (dk_at dksX0_settle_1 9 rfl rfl)
theorem dX0_settle_35 : decode cX0_settle 35 = .ok (.aload_n 2, 1) := dk_44 (dk_at dksX0_settle_1 12 rfl rfl)
theorem dX0_settle_36 : decode cX0_settle 36 = .ok (.getfield 442, 3) := dk_180 1 186 (dk_at dksX0_settle_1 13 rfl rfl)
theorem dX0_settle_39 : decode cX0_settle 39 = .ok (.bipush 6, 2) := dk_16 6 (dk_at dksX0_settle_1 16 rfl rfl)
theorem dX0_settle_41 : decode cX0_settle 41 = .ok (.if_icmp .eq 11, 3) := dk_159 0 11 (dk_at dksX0_settle_1 18 rfl rfl)
theorem dX0_settle_44 : decode cX0_settle 44 = .ok (.aload_n 1, 1) := dk_43 (dk_at dksX0_settle_1 21 rfl rfl)
theorem dX0_settle_45 : decode cX0_settle 45 = .ok (.aload_n 2, 1) := dk_44 (dk_at dksX0_settle_1 22 rfl rfl)
theorem dX0_settle_46 : decode cX0_settle 46 = .ok (.invokevirtual 458, 3) := dk_182 1 202 (dk_at dksX0_settle_2 0 rfl rfl)
theorem dX0_settle_49 : decode cX0_settle 49 = .ok (.ifCond .eq 7, 3) := dk_153 0 7 (dk_at dksX0_settle_2 3 rfl rfl)
theorem dX0_settle_52 : decode cX0_settle 52 = .ok (.iconst 1, 1) := dk_4 (dk_at dksX0_settle_2 6 rfl rfl)
theorem dX0_settle_53 : decode cX0_settle 53 = .ok (.goto 4, 3) := dk_167 0 4 (dk_at dksX0_settle_2 7 rfl rfl)
theorem dX0_settle_56 : decode cX0_settle 56 = .ok (.iconst 0, 1) := dk_3 (dk_at dksX0_settle_2 10 rfl rfl)
theorem dX0_settle_57 : decode cX0_settle 57 = .ok (.istore_n 3, 1) := dk_62 (dk_at dksX0_settle_2 11 rfl rfl)
theorem dX0_settle_58 : decode cX0_settle 58 = .ok (.iload_n 3, 1) := dk_29 (dk_at dksX0_settle_2 12 rfl rfl)
theorem dX0_settle_59 : decode cX0_settle 59 = .ok (.ifCond .eq 11, 3) := dk_153 0 11 (dk_at dksX0_settle_2 13 rfl rfl)
theorem dX0_settle_62 : decode cX0_settle 62 = .ok (.aload_n 2, 1) := dk_44 (dk_at dksX0_settle_2 16 rfl rfl)
theorem dX0_settle_63 : decode cX0_settle 63 = .ok (.iconst 4, 1) := dk_7 (dk_at dksX0_settle_2 17 rfl rfl)
theorem dX0_settle_64 : decode cX0_settle 64 = .ok (.putfield 445, 3) := dk_181 1 189 (dk_at dksX0_settle_2 18 rfl rfl)
theorem dX0_settle_67 : decode cX0_settle 67 = .ok (.goto 8, 3) := dk_167 0 8 (dk_at dksX0_settle_2 21 rfl rfl)
theorem dX0_settle_70 : decode cX0_settle 70 = .ok (.aload_n 1, 1) := dk_43 (dk_at dksX0_settle_3 0 rfl rfl)
theorem dX0_settle_71 : decode cX0_settle 71 = .ok (.iconst 4, 1) := dk_7 (dk_at dksX0_settle_3 1 rfl rfl)
theorem dX0_settle_72 : decode cX0_settle 72 = .ok (.putfield 445, 3) := dk_181 1 189 (dk_at dksX0_settle_3 2 rfl rfl)
theorem dX0_settle_75 : decode cX0_settle 75 = .ok (.return_, 1) := dk_177 (dk_at dksX0_settle_3 5 rfl rfl)
abbrev cX0_rivalOf : ByteArray := prog_1_method_54_code
def yX0_rivalOf : MethodName := ⟨RX0, "rivalOf", "(LElectionHouse$Issue;)LElectionHouse$Issue;"⟩
def dkwX0_rivalOf_2 : List UInt8 := [45, 176, 132, 2, 1, 167, 255, 206, 1, 176]
abbrev dktX0_rivalOf_2 : List UInt8 := dkwX0_rivalOf_2 ++ []
def dkwX0_rivalOf_1 : List UInt8 := [180, 1, 193, 43, 180, 1, 193, 160, 0, 19, 45, 180, 1, 190, 153, 0, 12, 45, 182, 1, 194, 153, 0, 5]
abbrev dktX0_rivalOf_1 : List UInt8 := dkwX0_rivalOf_1 ++ dktX0_rivalOf_2
def dkwX0_rivalOf_0 : List UInt8 := [3, 61, 28, 42, 180, 1, 21, 162, 0, 48, 42, 180, 0, 111, 28, 50, 78, 45, 43, 165, 0, 30, 45]
abbrev dktX0_rivalOf_0 : List UInt8 := dkwX0_rivalOf_0 ++ dktX0_rivalOf_1
theorem dksX0_rivalOf_0 : cX0_rivalOf.data.toList.drop 0 = dktX0_rivalOf_0 := by decide +kernel
theorem dksX0_rivalOf_1 : cX0_rivalOf.data.toList.drop 23 = dktX0_rivalOf_1 := dk_seg dksX0_rivalOf_0 23 rfl rfl
theorem dksX0_rivalOf_2 : cX0_rivalOf.data.toList.drop 47 = dktX0_rivalOf_2 := dk_seg dksX0_rivalOf_1 24 rfl rfl
theorem dX0_rivalOf_0 : decode cX0_rivalOf 0 = .ok (.iconst 0, 1) := dk_3 (dk_at dksX0_rivalOf_0 0 rfl rfl)
theorem dX0_rivalOf_1 : decode cX0_rivalOf 1 = .ok (.istore_n 2, 1) := dk_61 (dk_at dksX0_rivalOf_0 1 rfl rfl)
theorem dX0_rivalOf_2 : decode cX0_rivalOf 2 = .ok (.iload_n 2, 1) := dk_28 (dk_at dksX0_rivalOf_0 2 rfl rfl)
theorem dX0_rivalOf_3 : decode cX0_rivalOf 3 = .ok (.aload_n 0, 1) := dk_42 (dk_at dksX0_rivalOf_0 3 rfl rfl)
theorem dX0_rivalOf_4 : decode cX0_rivalOf 4 = .ok (.getfield 277, 3) := dk_180 1 21 (dk_at dksX0_rivalOf_0 4 rfl rfl)
theorem dX0_rivalOf_7 : decode cX0_rivalOf 7 = .ok (.if_icmp .ge 48, 3) := dk_162 0 48 (dk_at dksX0_rivalOf_0 7 rfl rfl)
theorem dX0_rivalOf_10 : decode cX0_rivalOf 10 = .ok (.aload_n 0, 1) := dk_42 (dk_at dksX0_rivalOf_0 10 rfl rfl)
theorem dX0_rivalOf_11 : decode cX0_rivalOf 11 = .ok (.getfield 111, 3) := dk_180 0 111 (dk_at dksX0_rivalOf_0 11 rfl rfl)
theorem dX0_rivalOf_14 : decode cX0_rivalOf 14 = .ok (.iload_n 2, 1) := dk_28 (dk_at dksX0_rivalOf_0 14 rfl rfl)
theorem dX0_rivalOf_15 : decode cX0_rivalOf 15 = .ok (.aaload, 1) := dk_50 (dk_at dksX0_rivalOf_0 15 rfl rfl)
theorem dX0_rivalOf_16 : decode cX0_rivalOf 16 = .ok (.astore_n 3, 1) := dk_78 (dk_at dksX0_rivalOf_0 16 rfl rfl)
theorem dX0_rivalOf_17 : decode cX0_rivalOf 17 = .ok (.aload_n 3, 1) := dk_45 (dk_at dksX0_rivalOf_0 17 rfl rfl)
theorem dX0_rivalOf_18 : decode cX0_rivalOf 18 = .ok (.aload_n 1, 1) := dk_43 (dk_at dksX0_rivalOf_0 18 rfl rfl)
theorem dX0_rivalOf_19 : decode cX0_rivalOf 19 = .ok (.if_acmp .eq 30, 3) := dk_165 0 30 (dk_at dksX0_rivalOf_0 19 rfl rfl)
theorem dX0_rivalOf_22 : decode cX0_rivalOf 22 = .ok (.aload_n 3, 1) := dk_45 (dk_at dksX0_rivalOf_0 22 rfl rfl)
theorem dX0_rivalOf_23 : decode cX0_rivalOf 23 = .ok (.getfield 449, 3) := dk_180 1 193 (dk_at dksX0_rivalOf_1 0 rfl rfl)
theorem dX0_rivalOf_26 : decode cX0_rivalOf 26 = .ok (.aload_n 1, 1) := dk_43 (dk_at dksX0_rivalOf_1 3 rfl rfl)
theorem dX0_rivalOf_27 : decode cX0_rivalOf 27 = .ok (.getfield 449, 3) := dk_180 1 193 (dk_at dksX0_rivalOf_1 4 rfl rfl)
theorem dX0_rivalOf_30 : decode cX0_rivalOf 30 = .ok (.if_icmp .ne 19, 3) := dk_160 0 19 (dk_at dksX0_rivalOf_1 7 rfl rfl)
theorem dX0_rivalOf_33 : decode cX0_rivalOf 33 = .ok (.aload_n 3, 1) := dk_45 (dk_at dksX0_rivalOf_1 10 rfl rfl)
theorem dX0_rivalOf_34 : decode cX0_rivalOf 34 = .ok (.getfield 446, 3) := dk_180 1 190 (dk_at dksX0_rivalOf_1 11 rfl rfl)
theorem dX0_rivalOf_37 : decode cX0_rivalOf 37 = .ok (.ifCond .eq 12, 3) := dk_153 0 12 (dk_at dksX0_rivalOf_1 14 rfl rfl)
theorem dX0_rivalOf_40 : decode cX0_rivalOf 40 = .ok (.aload_n 3, 1) := dk_45 (dk_at dksX0_rivalOf_1 17 rfl rfl)
theorem dX0_rivalOf_41 : decode cX0_rivalOf 41 = .ok (.invokevirtual 450, 3) := dk_182 1 194 (dk_at dksX0_rivalOf_1 18 rfl rfl)
theorem dX0_rivalOf_44 : decode cX0_rivalOf 44 = .ok (.ifCond .eq 5, 3) := dk_153 0 5 (dk_at dksX0_rivalOf_1 21 rfl rfl)
theorem dX0_rivalOf_47 : decode cX0_rivalOf 47 = .ok (.aload_n 3, 1) := dk_45 (dk_at dksX0_rivalOf_2 0 rfl rfl)
theorem dX0_rivalOf_48 : decode cX0_rivalOf 48 = .ok (.areturn, 1) := dk_176 (dk_at dksX0_rivalOf_2 1 rfl rfl)
theorem dX0_rivalOf_49 : decode cX0_rivalOf 49 = .ok (.iinc 2 1, 3) := dk_132 2 1 (dk_at dksX0_rivalOf_2 2 rfl rfl)
theorem dX0_rivalOf_52 : decode cX0_rivalOf 52 = .ok (.goto (-50), 3) := dk_167 255 206 (dk_at dksX0_rivalOf_2 5 rfl rfl)
theorem dX0_rivalOf_55 : decode cX0_rivalOf 55 = .ok (.aconst_null, 1) := dk_1 (dk_at dksX0_rivalOf_2 8 rfl rfl)
theorem dX0_rivalOf_56 : decode cX0_rivalOf 56 = .ok (.areturn, 1) := dk_176 (dk_at dksX0_rivalOf_2 9 rfl rfl)
abbrev cX0_intoBox : ByteArray := prog_1_method_56_code
def yX0_intoBox : MethodName := ⟨RX0, "intoBox", "(LElectionHouse$Issue;)V"⟩
def dkwX0_intoBox_1 : List UInt8 := [180, 1, 206, 182, 1, 212, 182, 1, 215, 177]
abbrev dktX0_intoBox_1 : List UInt8 := dkwX0_intoBox_1 ++ []
def dkwX0_intoBox_0 : List UInt8 := [43, 6, 181, 1, 189, 42, 180, 0, 120, 43, 180, 1, 186, 50, 43, 180, 1, 206, 43, 180, 1, 209, 42, 43]
abbrev dktX0_intoBox_0 : List UInt8 := dkwX0_intoBox_0 ++ dktX0_intoBox_1
theorem dksX0_intoBox_0 : cX0_intoBox.data.toList.drop 0 = dktX0_intoBox_0 := by decide +kernel
theorem dksX0_intoBox_1 : cX0_intoBox.data.toList.drop 24 = dktX0_intoBox_1 := dk_seg dksX0_intoBox_0 24 rfl rfl
theorem dX0_intoBox_0 : decode cX0_intoBox 0 = .ok (.aload_n 1, 1) := dk_43 (dk_at dksX0_intoBox_0 0 rfl rfl)
theorem dX0_intoBox_1 : decode cX0_intoBox 1 = .ok (.iconst 3, 1) := dk_6 (dk_at dksX0_intoBox_0 1 rfl rfl)
theorem dX0_intoBox_2 : decode cX0_intoBox 2 = .ok (.putfield 445, 3) := dk_181 1 189 (dk_at dksX0_intoBox_0 2 rfl rfl)
theorem dX0_intoBox_5 : decode cX0_intoBox 5 = .ok (.aload_n 0, 1) := dk_42 (dk_at dksX0_intoBox_0 5 rfl rfl)
theorem dX0_intoBox_6 : decode cX0_intoBox 6 = .ok (.getfield 120, 3) := dk_180 0 120 (dk_at dksX0_intoBox_0 6 rfl rfl)
theorem dX0_intoBox_9 : decode cX0_intoBox 9 = .ok (.aload_n 1, 1) := dk_43 (dk_at dksX0_intoBox_0 9 rfl rfl)
theorem dX0_intoBox_10 : decode cX0_intoBox 10 = .ok (.getfield 442, 3) := dk_180 1 186 (dk_at dksX0_intoBox_0 10 rfl rfl)
theorem dX0_intoBox_13 : decode cX0_intoBox 13 = .ok (.aaload, 1) := dk_50 (dk_at dksX0_intoBox_0 13 rfl rfl)
theorem dX0_intoBox_14 : decode cX0_intoBox 14 = .ok (.aload_n 1, 1) := dk_43 (dk_at dksX0_intoBox_0 14 rfl rfl)
theorem dX0_intoBox_15 : decode cX0_intoBox 15 = .ok (.getfield 462, 3) := dk_180 1 206 (dk_at dksX0_intoBox_0 15 rfl rfl)
theorem dX0_intoBox_18 : decode cX0_intoBox 18 = .ok (.aload_n 1, 1) := dk_43 (dk_at dksX0_intoBox_0 18 rfl rfl)
theorem dX0_intoBox_19 : decode cX0_intoBox 19 = .ok (.getfield 465, 3) := dk_180 1 209 (dk_at dksX0_intoBox_0 19 rfl rfl)
theorem dX0_intoBox_22 : decode cX0_intoBox 22 = .ok (.aload_n 0, 1) := dk_42 (dk_at dksX0_intoBox_0 22 rfl rfl)
theorem dX0_intoBox_23 : decode cX0_intoBox 23 = .ok (.aload_n 1, 1) := dk_43 (dk_at dksX0_intoBox_0 23 rfl rfl)
theorem dX0_intoBox_24 : decode cX0_intoBox 24 = .ok (.getfield 462, 3) := dk_180 1 206 (dk_at dksX0_intoBox_1 0 rfl rfl)
theorem dX0_intoBox_27 : decode cX0_intoBox 27 = .ok (.invokevirtual 468, 3) := dk_182 1 212 (dk_at dksX0_intoBox_1 3 rfl rfl)
theorem dX0_intoBox_30 : decode cX0_intoBox 30 = .ok (.invokevirtual 471, 3) := dk_182 1 215 (dk_at dksX0_intoBox_1 6 rfl rfl)
theorem dX0_intoBox_33 : decode cX0_intoBox 33 = .ok (.return_, 1) := dk_177 (dk_at dksX0_intoBox_1 9 rfl rfl)
abbrev cX0_fieldsOf : ByteArray := prog_1_method_64_code
def yX0_fieldsOf : MethodName := ⟨RX0, "fieldsOf", "(I)I"⟩
def dkwX0_fieldsOf_1 : List UInt8 := [29, 50, 180, 1, 61, 167, 0, 4, 3, 96, 61, 132, 3, 1, 167, 255, 222, 28, 172]
abbrev dktX0_fieldsOf_1 : List UInt8 := dkwX0_fieldsOf_1 ++ []
def dkwX0_fieldsOf_0 : List UInt8 := [3, 61, 3, 62, 29, 16, 6, 162, 0, 34, 28, 27, 29, 122, 4, 126, 4, 160, 0, 15, 42, 180, 0, 62]
abbrev dktX0_fieldsOf_0 : List UInt8 := dkwX0_fieldsOf_0 ++ dktX0_fieldsOf_1
theorem dksX0_fieldsOf_0 : cX0_fieldsOf.data.toList.drop 0 = dktX0_fieldsOf_0 := by decide +kernel
theorem dksX0_fieldsOf_1 : cX0_fieldsOf.data.toList.drop 24 = dktX0_fieldsOf_1 := dk_seg dksX0_fieldsOf_0 24 rfl rfl
theorem dX0_fieldsOf_0 : decode cX0_fieldsOf 0 = .ok (.iconst 0, 1) := dk_3 (dk_at dksX0_fieldsOf_0 0 rfl rfl)
theorem dX0_fieldsOf_1 : decode cX0_fieldsOf 1 = .ok (.istore_n 2, 1) := dk_61 (dk_at dksX0_fieldsOf_0 1 rfl rfl)
theorem dX0_fieldsOf_2 : decode cX0_fieldsOf 2 = .ok (.iconst 0, 1) := dk_3 (dk_at dksX0_fieldsOf_0 2 rfl rfl)
theorem dX0_fieldsOf_3 : decode cX0_fieldsOf 3 = .ok (.istore_n 3, 1) := dk_62 (dk_at dksX0_fieldsOf_0 3 rfl rfl)
theorem dX0_fieldsOf_4 : decode cX0_fieldsOf 4 = .ok (.iload_n 3, 1) := dk_29 (dk_at dksX0_fieldsOf_0 4 rfl rfl)
theorem dX0_fieldsOf_5 : decode cX0_fieldsOf 5 = .ok (.bipush 6, 2) := dk_16 6 (dk_at dksX0_fieldsOf_0 5 rfl rfl)
theorem dX0_fieldsOf_7 : decode cX0_fieldsOf 7 = .ok (.if_icmp .ge 34, 3) := dk_162 0 34 (dk_at dksX0_fieldsOf_0 7 rfl rfl)
theorem dX0_fieldsOf_10 : decode cX0_fieldsOf 10 = .ok (.iload_n 2, 1) := dk_28 (dk_at dksX0_fieldsOf_0 10 rfl rfl)
theorem dX0_fieldsOf_11 : decode cX0_fieldsOf 11 = .ok (.iload_n 1, 1) := dk_27 (dk_at dksX0_fieldsOf_0 11 rfl rfl)
theorem dX0_fieldsOf_12 : decode cX0_fieldsOf 12 = .ok (.iload_n 3, 1) := dk_29 (dk_at dksX0_fieldsOf_0 12 rfl rfl)
theorem dX0_fieldsOf_13 : decode cX0_fieldsOf 13 = .ok (.ishr, 1) := dk_122 (dk_at dksX0_fieldsOf_0 13 rfl rfl)
theorem dX0_fieldsOf_14 : decode cX0_fieldsOf 14 = .ok (.iconst 1, 1) := dk_4 (dk_at dksX0_fieldsOf_0 14 rfl rfl)
theorem dX0_fieldsOf_15 : decode cX0_fieldsOf 15 = .ok (.iand, 1) := dk_126 (dk_at dksX0_fieldsOf_0 15 rfl rfl)
theorem dX0_fieldsOf_16 : decode cX0_fieldsOf 16 = .ok (.iconst 1, 1) := dk_4 (dk_at dksX0_fieldsOf_0 16 rfl rfl)
theorem dX0_fieldsOf_17 : decode cX0_fieldsOf 17 = .ok (.if_icmp .ne 15, 3) := dk_160 0 15 (dk_at dksX0_fieldsOf_0 17 rfl rfl)
theorem dX0_fieldsOf_20 : decode cX0_fieldsOf 20 = .ok (.aload_n 0, 1) := dk_42 (dk_at dksX0_fieldsOf_0 20 rfl rfl)
theorem dX0_fieldsOf_21 : decode cX0_fieldsOf 21 = .ok (.getfield 62, 3) := dk_180 0 62 (dk_at dksX0_fieldsOf_0 21 rfl rfl)
theorem dX0_fieldsOf_24 : decode cX0_fieldsOf 24 = .ok (.iload_n 3, 1) := dk_29 (dk_at dksX0_fieldsOf_1 0 rfl rfl)
theorem dX0_fieldsOf_25 : decode cX0_fieldsOf 25 = .ok (.aaload, 1) := dk_50 (dk_at dksX0_fieldsOf_1 1 rfl rfl)
theorem dX0_fieldsOf_26 : decode cX0_fieldsOf 26 = .ok (.getfield 317, 3) := dk_180 1 61 (dk_at dksX0_fieldsOf_1 2 rfl rfl)
theorem dX0_fieldsOf_29 : decode cX0_fieldsOf 29 = .ok (.goto 4, 3) := dk_167 0 4 (dk_at dksX0_fieldsOf_1 5 rfl rfl)
theorem dX0_fieldsOf_32 : decode cX0_fieldsOf 32 = .ok (.iconst 0, 1) := dk_3 (dk_at dksX0_fieldsOf_1 8 rfl rfl)
theorem dX0_fieldsOf_33 : decode cX0_fieldsOf 33 = .ok (.iadd, 1) := dk_96 (dk_at dksX0_fieldsOf_1 9 rfl rfl)
theorem dX0_fieldsOf_34 : decode cX0_fieldsOf 34 = .ok (.istore_n 2, 1) := dk_61 (dk_at dksX0_fieldsOf_1 10 rfl rfl)
theorem dX0_fieldsOf_35 : decode cX0_fieldsOf 35 = .ok (.iinc 3 1, 3) := dk_132 3 1 (dk_at dksX0_fieldsOf_1 11 rfl rfl)
theorem dX0_fieldsOf_38 : decode cX0_fieldsOf 38 = .ok (.goto (-34), 3) := dk_167 255 222 (dk_at dksX0_fieldsOf_1 14 rfl rfl)
theorem dX0_fieldsOf_41 : decode cX0_fieldsOf 41 = .ok (.iload_n 2, 1) := dk_28 (dk_at dksX0_fieldsOf_1 17 rfl rfl)
theorem dX0_fieldsOf_42 : decode cX0_fieldsOf 42 = .ok (.ireturn, 1) := dk_172 (dk_at dksX0_fieldsOf_1 18 rfl rfl)
abbrev cX0_checkIn : ByteArray := prog_1_method_61_code
def yX0_checkIn : MethodName := ⟨RX0, "checkIn", "(II)I"⟩
def dkwX0_checkIn_7 : List UInt8 := [46, 42, 180, 0, 101, 27, 51, 154, 0, 7, 4, 167, 0, 4, 3, 182, 1, 242, 172]
abbrev dktX0_checkIn_7 : List UInt8 := dkwX0_checkIn_7 ++ []
def dkwX0_checkIn_6 : List UInt8 := [132, 3, 1, 167, 255, 195, 42, 16, 19, 27, 28, 3, 3, 182, 0, 173, 42, 28, 27, 42, 180, 0, 98, 27]
abbrev dktX0_checkIn_6 : List UInt8 := dkwX0_checkIn_6 ++ dktX0_checkIn_7
def dkwX0_checkIn_5 : List UInt8 := [180, 1, 186, 16, 6, 160, 0, 17, 25, 4, 182, 1, 194, 153, 0, 9, 25, 4, 7, 181, 1, 189]
abbrev dktX0_checkIn_5 : List UInt8 := dkwX0_checkIn_5 ++ dktX0_checkIn_6
def dkwX0_checkIn_4 : List UInt8 := [154, 0, 50, 42, 180, 0, 111, 29, 50, 58, 4, 25, 4, 180, 1, 193, 28, 160, 0, 27, 25, 4]
abbrev dktX0_checkIn_4 : List UInt8 := dkwX0_checkIn_4 ++ dktX0_checkIn_5
def dkwX0_checkIn_3 : List UInt8 := [160, 0, 6, 16, 251, 172, 3, 62, 29, 42, 180, 1, 21, 162, 0, 59, 42, 180, 0, 101, 27, 51]
abbrev dktX0_checkIn_3 : List UInt8 := dkwX0_checkIn_3 ++ dktX0_checkIn_4
def dkwX0_checkIn_2 : List UInt8 := [153, 0, 12, 42, 27, 28, 182, 1, 239, 153, 0, 6, 16, 252, 172, 42, 180, 1, 21, 17, 0, 200]
abbrev dktX0_checkIn_2 : List UInt8 := dkwX0_checkIn_2 ++ dktX0_checkIn_3
def dkwX0_checkIn_1 : List UInt8 := [153, 0, 15, 42, 180, 0, 120, 27, 50, 180, 1, 180, 153, 0, 6, 16, 253, 172, 42, 28, 182, 1, 236]
abbrev dktX0_checkIn_1 : List UInt8 := dkwX0_checkIn_1 ++ dktX0_checkIn_2
def dkwX0_checkIn_0 : List UInt8 := [42, 27, 182, 1, 174, 153, 0, 11, 42, 28, 182, 0, 210, 154, 0, 5, 2, 172, 42, 182, 1, 233]
abbrev dktX0_checkIn_0 : List UInt8 := dkwX0_checkIn_0 ++ dktX0_checkIn_1
theorem dksX0_checkIn_0 : cX0_checkIn.data.toList.drop 0 = dktX0_checkIn_0 := by decide +kernel
theorem dksX0_checkIn_1 : cX0_checkIn.data.toList.drop 22 = dktX0_checkIn_1 := dk_seg dksX0_checkIn_0 22 rfl rfl
theorem dksX0_checkIn_2 : cX0_checkIn.data.toList.drop 45 = dktX0_checkIn_2 := dk_seg dksX0_checkIn_1 23 rfl rfl
theorem dksX0_checkIn_3 : cX0_checkIn.data.toList.drop 67 = dktX0_checkIn_3 := dk_seg dksX0_checkIn_2 22 rfl rfl
theorem dksX0_checkIn_4 : cX0_checkIn.data.toList.drop 89 = dktX0_checkIn_4 := dk_seg dksX0_checkIn_3 22 rfl rfl
theorem dksX0_checkIn_5 : cX0_checkIn.data.toList.drop 111 = dktX0_checkIn_5 := dk_seg dksX0_checkIn_4 22 rfl rfl
theorem dksX0_checkIn_6 : cX0_checkIn.data.toList.drop 133 = dktX0_checkIn_6 := dk_seg dksX0_checkIn_5 22 rfl rfl
theorem dksX0_checkIn_7 : cX0_checkIn.data.toList.drop 157 = dktX0_checkIn_7 := dk_seg dksX0_checkIn_6 24 rfl rfl
theorem dX0_checkIn_0 : decode cX0_checkIn 0 = .ok (.aload_n 0, 1) := dk_42 (dk_at dksX0_checkIn_0 0 rfl rfl)
theorem dX0_checkIn_1 : decode cX0_checkIn 1 = .ok (.iload_n 1, 1) := dk_27 (dk_at dksX0_checkIn_0 1 rfl rfl)
theorem dX0_checkIn_2 : decode cX0_checkIn 2 = .ok (.invokevirtual 430, 3) := dk_182 1 174 (dk_at dksX0_checkIn_0 2 rfl rfl)
theorem dX0_checkIn_5 : decode cX0_checkIn 5 = .ok (.ifCond .eq 11, 3) := dk_153 0 11 (dk_at dksX0_checkIn_0 5 rfl rfl)
theorem dX0_checkIn_8 : decode cX0_checkIn 8 = .ok (.aload_n 0, 1) := dk_42 (dk_at dksX0_checkIn_0 8 rfl rfl)
theorem dX0_checkIn_9 : decode cX0_checkIn 9 = .ok (.iload_n 2, 1) := dk_28 (dk_at dksX0_checkIn_0 9 rfl rfl)
theorem dX0_checkIn_10 : decode cX0_checkIn 10 = .ok (.invokevirtual 210, 3) := dk_182 0 210 (dk_at dksX0_checkIn_0 10 rfl rfl)
theorem dX0_checkIn_13 : decode cX0_checkIn 13 = .ok (.ifCond .ne 5, 3) := dk_154 0 5 (dk_at dksX0_checkIn_0 13 rfl rfl)
theorem dX0_checkIn_16 : decode cX0_checkIn 16 = .ok (.iconst (-1), 1) := dk_2 (dk_at dksX0_checkIn_0 16 rfl rfl)
theorem dX0_checkIn_17 : decode cX0_checkIn 17 = .ok (.ireturn, 1) := dk_172 (dk_at dksX0_checkIn_0 17 rfl rfl)
theorem dX0_checkIn_18 : decode cX0_checkIn 18 = .ok (.aload_n 0, 1) := dk_42 (dk_at dksX0_checkIn_0 18 rfl rfl)
theorem dX0_checkIn_19 : decode cX0_checkIn 19 = .ok (.invokevirtual 489, 3) := dk_182 1 233 (dk_at dksX0_checkIn_0 19 rfl rfl)
theorem dX0_checkIn_22 : decode cX0_checkIn 22 = .ok (.ifCond .eq 15, 3) := dk_153 0 15 (dk_at dksX0_checkIn_1 0 rfl rfl)
theorem dX0_checkIn_25 : decode cX0_checkIn 25 = .ok (.aload_n 0, 1) := dk_42 (dk_at dksX0_checkIn_1 3 rfl rfl)
theorem dX0_checkIn_26 : decode cX0_checkIn 26 = .ok (.getfield 120, 3) := dk_180 0 120 (dk_at dksX0_checkIn_1 4 rfl rfl)
theorem dX0_checkIn_29 : decode cX0_checkIn 29 = .ok (.iload_n 1, 1) := dk_27 (dk_at dksX0_checkIn_1 7 rfl rfl)
theorem dX0_checkIn_30 : decode cX0_checkIn 30 = .ok (.aaload, 1) := dk_50 (dk_at dksX0_checkIn_1 8 rfl rfl)
theorem dX0_checkIn_31 : decode cX0_checkIn 31 = .ok (.getfield 436, 3) := dk_180 1 180 (dk_at dksX0_checkIn_1 9 rfl rfl)
theorem dX0_checkIn_34 : decode cX0_checkIn 34 = .ok (.ifCond .eq 6, 3) := dk_153 0 6 (dk_at dksX0_checkIn_1 12 rfl rfl)
theorem dX0_checkIn_37 : decode cX0_checkIn 37 = .ok (.bipush (-3), 2) := dk_16 253 (dk_at dksX0_checkIn_1 15 rfl rfl)
theorem dX0_checkIn_39 : decode cX0_checkIn 39 = .ok (.ireturn, 1) := dk_172 (dk_at dksX0_checkIn_1 17 rfl rfl)
theorem dX0_checkIn_40 : decode cX0_checkIn 40 = .ok (.aload_n 0, 1) := dk_42 (dk_at dksX0_checkIn_1 18 rfl rfl)
theorem dX0_checkIn_41 : decode cX0_checkIn 41 = .ok (.iload_n 2, 1) := dk_28 (dk_at dksX0_checkIn_1 19 rfl rfl)
theorem dX0_checkIn_42 : decode cX0_checkIn 42 = .ok (.invokevirtual 492, 3) := dk_182 1 236 (dk_at dksX0_checkIn_1 20 rfl rfl)
theorem dX0_checkIn_45 : decode cX0_checkIn 45 = .ok (.ifCond .eq 12, 3) := dk_153 0 12 (dk_at dksX0_checkIn_2 0 rfl rfl)
theorem dX0_checkIn_48 : decode cX0_checkIn 48 = .ok (.aload_n 0, 1) := dk_42 (dk_at dksX0_checkIn_2 3 rfl rfl)
theorem dX0_checkIn_49 : decode cX0_checkIn 49 = .ok (.iload_n 1, 1) := dk_27 (dk_at dksX0_checkIn_2 4 rfl rfl)
theorem dX0_checkIn_50 : decode cX0_checkIn 50 = .ok (.iload_n 2, 1) := dk_28 (dk_at dksX0_checkIn_2 5 rfl rfl)
theorem dX0_checkIn_51 : decode cX0_checkIn 51 = .ok (.invokevirtual 495, 3) := dk_182 1 239 (dk_at dksX0_checkIn_2 6 rfl rfl)
theorem dX0_checkIn_54 : decode cX0_checkIn 54 = .ok (.ifCond .eq 6, 3) := dk_153 0 6 (dk_at dksX0_checkIn_2 9 rfl rfl)
theorem dX0_checkIn_57 : decode cX0_checkIn 57 = .ok (.bipush (-4), 2) := dk_16 252 (dk_at dksX0_checkIn_2 12 rfl rfl)
theorem dX0_checkIn_59 : decode cX0_checkIn 59 = .ok (.ireturn, 1) := dk_172 (dk_at dksX0_checkIn_2 14 rfl rfl)
theorem dX0_checkIn_60 : decode cX0_checkIn 60 = .ok (.aload_n 0, 1) := dk_42 (dk_at dksX0_checkIn_2 15 rfl rfl)
theorem dX0_checkIn_61 : decode cX0_checkIn 61 = .ok (.getfield 277, 3) := dk_180 1 21 (dk_at dksX0_checkIn_2 16 rfl rfl)
theorem dX0_checkIn_64 : decode cX0_checkIn 64 = .ok (.sipush 200, 3) := dk_17 0 200 (dk_at dksX0_checkIn_2 19 rfl rfl)
theorem dX0_checkIn_67 : decode cX0_checkIn 67 = .ok (.if_icmp .ne 6, 3) := dk_160 0 6 (dk_at dksX0_checkIn_3 0 rfl rfl)
theorem dX0_checkIn_70 : decode cX0_checkIn 70 = .ok (.bipush (-5), 2) := dk_16 251 (dk_at dksX0_checkIn_3 3 rfl rfl)
theorem dX0_checkIn_72 : decode cX0_checkIn 72 = .ok (.ireturn, 1) := dk_172 (dk_at dksX0_checkIn_3 5 rfl rfl)
theorem dX0_checkIn_73 : decode cX0_checkIn 73 = .ok (.iconst 0, 1) := dk_3 (dk_at dksX0_checkIn_3 6 rfl rfl)
theorem dX0_checkIn_74 : decode cX0_checkIn 74 = .ok (.istore_n 3, 1) := dk_62 (dk_at dksX0_checkIn_3 7 rfl rfl)
theorem dX0_checkIn_75 : decode cX0_checkIn 75 = .ok (.iload_n 3, 1) := dk_29 (dk_at dksX0_checkIn_3 8 rfl rfl)
theorem dX0_checkIn_76 : decode cX0_checkIn 76 = .ok (.aload_n 0, 1) := dk_42 (dk_at dksX0_checkIn_3 9 rfl rfl)
theorem dX0_checkIn_77 : decode cX0_checkIn 77 = .ok (.getfield 277, 3) := dk_180 1 21 (dk_at dksX0_checkIn_3 10 rfl rfl)
theorem dX0_checkIn_80 : decode cX0_checkIn 80 = .ok (.if_icmp .ge 59, 3) := dk_162 0 59 (dk_at dksX0_checkIn_3 13 rfl rfl)
theorem dX0_checkIn_83 : decode cX0_checkIn 83 = .ok (.aload_n 0, 1) := dk_42 (dk_at dksX0_checkIn_3 16 rfl rfl)
theorem dX0_checkIn_84 : decode cX0_checkIn 84 = .ok (.getfield 101, 3) := dk_180 0 101 (dk_at dksX0_checkIn_3 17 rfl rfl)
theorem dX0_checkIn_87 : decode cX0_checkIn 87 = .ok (.iload_n 1, 1) := dk_27 (dk_at dksX0_checkIn_3 20 rfl rfl)
theorem dX0_checkIn_88 : decode cX0_checkIn 88 = .ok (.baload, 1) := dk_51 (dk_at dksX0_checkIn_3 21 rfl rfl)
theorem dX0_checkIn_89 : decode cX0_checkIn 89 = .ok (.ifCond .ne 50, 3) := dk_154 0 50 (dk_at dksX0_checkIn_4 0 rfl rfl)
theorem dX0_checkIn_92 : decode cX0_checkIn 92 = .ok (.aload_n 0, 1) := dk_42 (dk_at dksX0_checkIn_4 3 rfl rfl)
theorem dX0_checkIn_93 : decode cX0_checkIn 93 = .ok (.getfield 111, 3) := dk_180 0 111 (dk_at dksX0_checkIn_4 4 rfl rfl)
theorem dX0_checkIn_96 : decode cX0_checkIn 96 = .ok (.iload_n 3, 1) := dk_29 (dk_at dksX0_checkIn_4 7 rfl rfl)
theorem dX0_checkIn_97 : decode cX0_checkIn 97 = .ok (.aaload, 1) := dk_50 (dk_at dksX0_checkIn_4 8 rfl rfl)
theorem dX0_checkIn_98 : decode cX0_checkIn 98 = .ok (.astore 4, 2) := dk_58 4 (dk_at dksX0_checkIn_4 9 rfl rfl)
theorem dX0_checkIn_100 : decode cX0_checkIn 100 = .ok (.aload 4, 2) := dk_25 4 (dk_at dksX0_checkIn_4 11 rfl rfl)
theorem dX0_checkIn_102 : decode cX0_checkIn 102 = .ok (.getfield 449, 3) := dk_180 1 193 (dk_at dksX0_checkIn_4 13 rfl rfl)
theorem dX0_checkIn_105 : decode cX0_checkIn 105 = .ok (.iload_n 2, 1) := dk_28 (dk_at dksX0_checkIn_4 16 rfl rfl)
theorem dX0_checkIn_106 : decode cX0_checkIn 106 = .ok (.if_icmp .ne 27, 3) := dk_160 0 27 (dk_at dksX0_checkIn_4 17 rfl rfl)
theorem dX0_checkIn_109 : decode cX0_checkIn 109 = .ok (.aload 4, 2) := dk_25 4 (dk_at dksX0_checkIn_4 20 rfl rfl)
theorem dX0_checkIn_111 : decode cX0_checkIn 111 = .ok (.getfield 442, 3) := dk_180 1 186 (dk_at dksX0_checkIn_5 0 rfl rfl)
theorem dX0_checkIn_114 : decode cX0_checkIn 114 = .ok (.bipush 6, 2) := dk_16 6 (dk_at dksX0_checkIn_5 3 rfl rfl)
theorem dX0_checkIn_116 : decode cX0_checkIn 116 = .ok (.if_icmp .ne 17, 3) := dk_160 0 17 (dk_at dksX0_checkIn_5 5 rfl rfl)
theorem dX0_checkIn_119 : decode cX0_checkIn 119 = .ok (.aload 4, 2) := dk_25 4 (dk_at dksX0_checkIn_5 8 rfl rfl)
theorem dX0_checkIn_121 : decode cX0_checkIn 121 = .ok (.invokevirtual 450, 3) := dk_182 1 194 (dk_at dksX0_checkIn_5 10 rfl rfl)
theorem dX0_checkIn_124 : decode cX0_checkIn 124 = .ok (.ifCond .eq 9, 3) := dk_153 0 9 (dk_at dksX0_checkIn_5 13 rfl rfl)
theorem dX0_checkIn_127 : decode cX0_checkIn 127 = .ok (.aload 4, 2) := dk_25 4 (dk_at dksX0_checkIn_5 16 rfl rfl)
theorem dX0_checkIn_129 : decode cX0_checkIn 129 = .ok (.iconst 4, 1) := dk_7 (dk_at dksX0_checkIn_5 18 rfl rfl)
theorem dX0_checkIn_130 : decode cX0_checkIn 130 = .ok (.putfield 445, 3) := dk_181 1 189 (dk_at dksX0_checkIn_5 19 rfl rfl)
theorem dX0_checkIn_133 : decode cX0_checkIn 133 = .ok (.iinc 3 1, 3) := dk_132 3 1 (dk_at dksX0_checkIn_6 0 rfl rfl)
theorem dX0_checkIn_136 : decode cX0_checkIn 136 = .ok (.goto (-61), 3) := dk_167 255 195 (dk_at dksX0_checkIn_6 3 rfl rfl)
theorem dX0_checkIn_139 : decode cX0_checkIn 139 = .ok (.aload_n 0, 1) := dk_42 (dk_at dksX0_checkIn_6 6 rfl rfl)
theorem dX0_checkIn_140 : decode cX0_checkIn 140 = .ok (.bipush 19, 2) := dk_16 19 (dk_at dksX0_checkIn_6 7 rfl rfl)
theorem dX0_checkIn_142 : decode cX0_checkIn 142 = .ok (.iload_n 1, 1) := dk_27 (dk_at dksX0_checkIn_6 9 rfl rfl)
theorem dX0_checkIn_143 : decode cX0_checkIn 143 = .ok (.iload_n 2, 1) := dk_28 (dk_at dksX0_checkIn_6 10 rfl rfl)
theorem dX0_checkIn_144 : decode cX0_checkIn 144 = .ok (.iconst 0, 1) := dk_3 (dk_at dksX0_checkIn_6 11 rfl rfl)
theorem dX0_checkIn_145 : decode cX0_checkIn 145 = .ok (.iconst 0, 1) := dk_3 (dk_at dksX0_checkIn_6 12 rfl rfl)
theorem dX0_checkIn_146 : decode cX0_checkIn 146 = .ok (.invokevirtual 173, 3) := dk_182 0 173 (dk_at dksX0_checkIn_6 13 rfl rfl)
theorem dX0_checkIn_149 : decode cX0_checkIn 149 = .ok (.aload_n 0, 1) := dk_42 (dk_at dksX0_checkIn_6 16 rfl rfl)
theorem dX0_checkIn_150 : decode cX0_checkIn 150 = .ok (.iload_n 2, 1) := dk_28 (dk_at dksX0_checkIn_6 17 rfl rfl)
theorem dX0_checkIn_151 : decode cX0_checkIn 151 = .ok (.iload_n 1, 1) := dk_27 (dk_at dksX0_checkIn_6 18 rfl rfl)
theorem dX0_checkIn_152 : decode cX0_checkIn 152 = .ok (.aload_n 0, 1) := dk_42 (dk_at dksX0_checkIn_6 19 rfl rfl)
theorem dX0_checkIn_153 : decode cX0_checkIn 153 = .ok (.getfield 98, 3) := dk_180 0 98 (dk_at dksX0_checkIn_6 20 rfl rfl)
theorem dX0_checkIn_156 : decode cX0_checkIn 156 = .ok (.iload_n 1, 1) := dk_27 (dk_at dksX0_checkIn_6 23 rfl rfl)
theorem dX0_checkIn_157 : decode cX0_checkIn 157 = .ok (.iaload, 1) := dk_46 (dk_at dksX0_checkIn_7 0 rfl rfl)
theorem dX0_checkIn_158 : decode cX0_checkIn 158 = .ok (.aload_n 0, 1) := dk_42 (dk_at dksX0_checkIn_7 1 rfl rfl)
theorem dX0_checkIn_159 : decode cX0_checkIn 159 = .ok (.getfield 101, 3) := dk_180 0 101 (dk_at dksX0_checkIn_7 2 rfl rfl)
theorem dX0_checkIn_162 : decode cX0_checkIn 162 = .ok (.iload_n 1, 1) := dk_27 (dk_at dksX0_checkIn_7 5 rfl rfl)
theorem dX0_checkIn_163 : decode cX0_checkIn 163 = .ok (.baload, 1) := dk_51 (dk_at dksX0_checkIn_7 6 rfl rfl)
theorem dX0_checkIn_164 : decode cX0_checkIn 164 = .ok (.ifCond .ne 7, 3) := dk_154 0 7 (dk_at dksX0_checkIn_7 7 rfl rfl)
theorem dX0_checkIn_167 : decode cX0_checkIn 167 = .ok (.iconst 1, 1) := dk_4 (dk_at dksX0_checkIn_7 10 rfl rfl)
theorem dX0_checkIn_168 : decode cX0_checkIn 168 = .ok (.goto 4, 3) := dk_167 0 4 (dk_at dksX0_checkIn_7 11 rfl rfl)
theorem dX0_checkIn_171 : decode cX0_checkIn 171 = .ok (.iconst 0, 1) := dk_3 (dk_at dksX0_checkIn_7 14 rfl rfl)
theorem dX0_checkIn_172 : decode cX0_checkIn 172 = .ok (.invokevirtual 498, 3) := dk_182 1 242 (dk_at dksX0_checkIn_7 15 rfl rfl)
theorem dX0_checkIn_175 : decode cX0_checkIn 175 = .ok (.ireturn, 1) := dk_172 (dk_at dksX0_checkIn_7 18 rfl rfl)
abbrev cX0_isVoting : ByteArray := prog_1_method_50_code
def yX0_isVoting : MethodName := ⟨RX0, "isVoting", "()Z"⟩
def dkwX0_isVoting_1 : List UInt8 := [180, 1, 37, 6, 46, 184, 0, 163, 153, 0, 7, 4, 167, 0, 4, 3, 172]
abbrev dktX0_isVoting_1 : List UInt8 := dkwX0_isVoting_1 ++ []
def dkwX0_isVoting_0 : List UInt8 := [42, 180, 1, 9, 153, 0, 35, 42, 180, 0, 167, 42, 180, 0, 42, 180, 1, 37, 5, 46, 42, 180, 0, 42]
abbrev dktX0_isVoting_0 : List UInt8 := dkwX0_isVoting_0 ++ dktX0_isVoting_1
theorem dksX0_isVoting_0 : cX0_isVoting.data.toList.drop 0 = dktX0_isVoting_0 := by decide +kernel
theorem dksX0_isVoting_1 : cX0_isVoting.data.toList.drop 24 = dktX0_isVoting_1 := dk_seg dksX0_isVoting_0 24 rfl rfl
theorem dX0_isVoting_0 : decode cX0_isVoting 0 = .ok (.aload_n 0, 1) := dk_42 (dk_at dksX0_isVoting_0 0 rfl rfl)
theorem dX0_isVoting_1 : decode cX0_isVoting 1 = .ok (.getfield 265, 3) := dk_180 1 9 (dk_at dksX0_isVoting_0 1 rfl rfl)
theorem dX0_isVoting_4 : decode cX0_isVoting 4 = .ok (.ifCond .eq 35, 3) := dk_153 0 35 (dk_at dksX0_isVoting_0 4 rfl rfl)
theorem dX0_isVoting_7 : decode cX0_isVoting 7 = .ok (.aload_n 0, 1) := dk_42 (dk_at dksX0_isVoting_0 7 rfl rfl)
theorem dX0_isVoting_8 : decode cX0_isVoting 8 = .ok (.getfield 167, 3) := dk_180 0 167 (dk_at dksX0_isVoting_0 8 rfl rfl)
theorem dX0_isVoting_11 : decode cX0_isVoting 11 = .ok (.aload_n 0, 1) := dk_42 (dk_at dksX0_isVoting_0 11 rfl rfl)
theorem dX0_isVoting_12 : decode cX0_isVoting 12 = .ok (.getfield 42, 3) := dk_180 0 42 (dk_at dksX0_isVoting_0 12 rfl rfl)
theorem dX0_isVoting_15 : decode cX0_isVoting 15 = .ok (.getfield 293, 3) := dk_180 1 37 (dk_at dksX0_isVoting_0 15 rfl rfl)
theorem dX0_isVoting_18 : decode cX0_isVoting 18 = .ok (.iconst 2, 1) := dk_5 (dk_at dksX0_isVoting_0 18 rfl rfl)
theorem dX0_isVoting_19 : decode cX0_isVoting 19 = .ok (.iaload, 1) := dk_46 (dk_at dksX0_isVoting_0 19 rfl rfl)
theorem dX0_isVoting_20 : decode cX0_isVoting 20 = .ok (.aload_n 0, 1) := dk_42 (dk_at dksX0_isVoting_0 20 rfl rfl)
theorem dX0_isVoting_21 : decode cX0_isVoting 21 = .ok (.getfield 42, 3) := dk_180 0 42 (dk_at dksX0_isVoting_0 21 rfl rfl)
theorem dX0_isVoting_24 : decode cX0_isVoting 24 = .ok (.getfield 293, 3) := dk_180 1 37 (dk_at dksX0_isVoting_1 0 rfl rfl)
theorem dX0_isVoting_27 : decode cX0_isVoting 27 = .ok (.iconst 3, 1) := dk_6 (dk_at dksX0_isVoting_1 3 rfl rfl)
theorem dX0_isVoting_28 : decode cX0_isVoting 28 = .ok (.iaload, 1) := dk_46 (dk_at dksX0_isVoting_1 4 rfl rfl)
theorem dX0_isVoting_29 : decode cX0_isVoting 29 = .ok (.invokestatic 163, 3) := dk_184 0 163 (dk_at dksX0_isVoting_1 5 rfl rfl)
theorem dX0_isVoting_32 : decode cX0_isVoting 32 = .ok (.ifCond .eq 7, 3) := dk_153 0 7 (dk_at dksX0_isVoting_1 8 rfl rfl)
theorem dX0_isVoting_35 : decode cX0_isVoting 35 = .ok (.iconst 1, 1) := dk_4 (dk_at dksX0_isVoting_1 11 rfl rfl)
theorem dX0_isVoting_36 : decode cX0_isVoting 36 = .ok (.goto 4, 3) := dk_167 0 4 (dk_at dksX0_isVoting_1 12 rfl rfl)
theorem dX0_isVoting_39 : decode cX0_isVoting 39 = .ok (.iconst 0, 1) := dk_3 (dk_at dksX0_isVoting_1 15 rfl rfl)
theorem dX0_isVoting_40 : decode cX0_isVoting 40 = .ok (.ireturn, 1) := dk_172 (dk_at dksX0_isVoting_1 16 rfl rfl)
abbrev cX0_isOnRoll : ByteArray := prog_1_method_38_code
def yX0_isOnRoll : MethodName := ⟨RX0, "isOnRoll", "(I)Z"⟩
def dkwX0_isOnRoll_1 : List UInt8 := [4, 167, 0, 4, 3, 172]
abbrev dktX0_isOnRoll_1 : List UInt8 := dkwX0_isOnRoll_1 ++ []
def dkwX0_isOnRoll_0 : List UInt8 := [42, 180, 0, 86, 27, 46, 2, 159, 0, 21, 42, 180, 0, 82, 42, 180, 0, 86, 27, 46, 51, 153, 0, 7]
abbrev dktX0_isOnRoll_0 : List UInt8 := dkwX0_isOnRoll_0 ++ dktX0_isOnRoll_1
theorem dksX0_isOnRoll_0 : cX0_isOnRoll.data.toList.drop 0 = dktX0_isOnRoll_0 := by decide +kernel
theorem dksX0_isOnRoll_1 : cX0_isOnRoll.data.toList.drop 24 = dktX0_isOnRoll_1 := dk_seg dksX0_isOnRoll_0 24 rfl rfl
theorem dX0_isOnRoll_0 : decode cX0_isOnRoll 0 = .ok (.aload_n 0, 1) := dk_42 (dk_at dksX0_isOnRoll_0 0 rfl rfl)
theorem dX0_isOnRoll_1 : decode cX0_isOnRoll 1 = .ok (.getfield 86, 3) := dk_180 0 86 (dk_at dksX0_isOnRoll_0 1 rfl rfl)
theorem dX0_isOnRoll_4 : decode cX0_isOnRoll 4 = .ok (.iload_n 1, 1) := dk_27 (dk_at dksX0_isOnRoll_0 4 rfl rfl)
theorem dX0_isOnRoll_5 : decode cX0_isOnRoll 5 = .ok (.iaload, 1) := dk_46 (dk_at dksX0_isOnRoll_0 5 rfl rfl)
theorem dX0_isOnRoll_6 : decode cX0_isOnRoll 6 = .ok (.iconst (-1), 1) := dk_2 (dk_at dksX0_isOnRoll_0 6 rfl rfl)
theorem dX0_isOnRoll_7 : decode cX0_isOnRoll 7 = .ok (.if_icmp .eq 21, 3) := dk_159 0 21 (dk_at dksX0_isOnRoll_0 7 rfl rfl)
theorem dX0_isOnRoll_10 : decode cX0_isOnRoll 10 = .ok (.aload_n 0, 1) := dk_42 (dk_at dksX0_isOnRoll_0 10 rfl rfl)
theorem dX0_isOnRoll_11 : decode cX0_isOnRoll 11 = .ok (.getfield 82, 3) := dk_180 0 82 (dk_at dksX0_isOnRoll_0 11 rfl rfl)
theorem dX0_isOnRoll_14 : decode cX0_isOnRoll 14 = .ok (.aload_n 0, 1) := dk_42 (dk_at dksX0_isOnRoll_0 14 rfl rfl)
theorem dX0_isOnRoll_15 : decode cX0_isOnRoll 15 = .ok (.getfield 86, 3) := dk_180 0 86 (dk_at dksX0_isOnRoll_0 15 rfl rfl)
theorem dX0_isOnRoll_18 : decode cX0_isOnRoll 18 = .ok (.iload_n 1, 1) := dk_27 (dk_at dksX0_isOnRoll_0 18 rfl rfl)
theorem dX0_isOnRoll_19 : decode cX0_isOnRoll 19 = .ok (.iaload, 1) := dk_46 (dk_at dksX0_isOnRoll_0 19 rfl rfl)
theorem dX0_isOnRoll_20 : decode cX0_isOnRoll 20 = .ok (.baload, 1) := dk_51 (dk_at dksX0_isOnRoll_0 20 rfl rfl)
theorem dX0_isOnRoll_21 : decode cX0_isOnRoll 21 = .ok (.ifCond .eq 7, 3) := dk_153 0 7 (dk_at dksX0_isOnRoll_0 21 rfl rfl)
theorem dX0_isOnRoll_24 : decode cX0_isOnRoll 24 = .ok (.iconst 1, 1) := dk_4 (dk_at dksX0_isOnRoll_1 0 rfl rfl)
theorem dX0_isOnRoll_25 : decode cX0_isOnRoll 25 = .ok (.goto 4, 3) := dk_167 0 4 (dk_at dksX0_isOnRoll_1 1 rfl rfl)
theorem dX0_isOnRoll_28 : decode cX0_isOnRoll 28 = .ok (.iconst 0, 1) := dk_3 (dk_at dksX0_isOnRoll_1 4 rfl rfl)
theorem dX0_isOnRoll_29 : decode cX0_isOnRoll 29 = .ok (.ireturn, 1) := dk_172 (dk_at dksX0_isOnRoll_1 5 rfl rfl)
abbrev cX0_hasIssue : ByteArray := prog_1_method_59_code
def yX0_hasIssue : MethodName := ⟨RX0, "hasIssue", "(II)Z"⟩
def dkwX0_hasIssue_3 : List UInt8 := [153, 0, 10, 21, 6, 154, 0, 5, 4, 172, 132, 3, 1, 167, 255, 173, 3, 172]
abbrev dktX0_hasIssue_3 : List UInt8 := dkwX0_hasIssue_3 ++ []
def dkwX0_hasIssue_2 : List UInt8 := [159, 0, 7, 4, 167, 0, 4, 3, 54, 6, 25, 4, 180, 1, 193, 28, 160, 0, 18, 21, 5, 184, 1, 229]
abbrev dktX0_hasIssue_2 : List UInt8 := dkwX0_hasIssue_2 ++ dktX0_hasIssue_3
def dkwX0_hasIssue_1 : List UInt8 := [54, 5, 42, 180, 0, 101, 27, 51, 154, 0, 23, 25, 4, 180, 1, 186, 16, 6, 160, 0, 13, 21, 5, 6]
abbrev dktX0_hasIssue_1 : List UInt8 := dkwX0_hasIssue_1 ++ dktX0_hasIssue_2
def dkwX0_hasIssue_0 : List UInt8 := [3, 62, 29, 42, 180, 1, 21, 162, 0, 81, 42, 180, 0, 111, 29, 50, 58, 4, 42, 27, 29, 182, 1, 183]
abbrev dktX0_hasIssue_0 : List UInt8 := dkwX0_hasIssue_0 ++ dktX0_hasIssue_1
theorem dksX0_hasIssue_0 : cX0_hasIssue.data.toList.drop 0 = dktX0_hasIssue_0 := by decide +kernel
theorem dksX0_hasIssue_1 : cX0_hasIssue.data.toList.drop 24 = dktX0_hasIssue_1 := dk_seg dksX0_hasIssue_0 24 rfl rfl
theorem dksX0_hasIssue_2 : cX0_hasIssue.data.toList.drop 48 = dktX0_hasIssue_2 := dk_seg dksX0_hasIssue_1 24 rfl rfl
theorem dksX0_hasIssue_3 : cX0_hasIssue.data.toList.drop 72 = dktX0_hasIssue_3 := dk_seg dksX0_hasIssue_2 24 rfl rfl
theorem dX0_hasIssue_0 : decode cX0_hasIssue 0 = .ok (.iconst 0, 1) := dk_3 (dk_at dksX0_hasIssue_0 0 rfl rfl)
theorem dX0_hasIssue_1 : decode cX0_hasIssue 1 = .ok (.istore_n 3, 1) := dk_62 (dk_at dksX0_hasIssue_0 1 rfl rfl)
theorem dX0_hasIssue_2 : decode cX0_hasIssue 2 = .ok (.iload_n 3, 1) := dk_29 (dk_at dksX0_hasIssue_0 2 rfl rfl)
theorem dX0_hasIssue_3 : decode cX0_hasIssue 3 = .ok (.aload_n 0, 1) := dk_42 (dk_at dksX0_hasIssue_0 3 rfl rfl)
theorem dX0_hasIssue_4 : decode cX0_hasIssue 4 = .ok (.getfield 277, 3) := dk_180 1 21 (dk_at dksX0_hasIssue_0 4 rfl rfl)
theorem dX0_hasIssue_7 : decode cX0_hasIssue 7 = .ok (.if_icmp .ge 81, 3) := dk_162 0 81 (dk_at dksX0_hasIssue_0 7 rfl rfl)
theorem dX0_hasIssue_10 : decode cX0_hasIssue 10 = .ok (.aload_n 0, 1) := dk_42 (dk_at dksX0_hasIssue_0 10 rfl rfl)
theorem dX0_hasIssue_11 : decode cX0_hasIssue 11 = .ok (.getfield 111, 3) := dk_180 0 111 (dk_at dksX0_hasIssue_0 11 rfl rfl)
theorem dX0_hasIssue_14 : decode cX0_hasIssue 14 = .ok (.iload_n 3, 1) := dk_29 (dk_at dksX0_hasIssue_0 14 rfl rfl)
theorem dX0_hasIssue_15 : decode cX0_hasIssue 15 = .ok (.aaload, 1) := dk_50 (dk_at dksX0_hasIssue_0 15 rfl rfl)
theorem dX0_hasIssue_16 : decode cX0_hasIssue 16 = .ok (.astore 4, 2) := dk_58 4 (dk_at dksX0_hasIssue_0 16 rfl rfl)
theorem dX0_hasIssue_18 : decode cX0_hasIssue 18 = .ok (.aload_n 0, 1) := dk_42 (dk_at dksX0_hasIssue_0 18 rfl rfl)
theorem dX0_hasIssue_19 : decode cX0_hasIssue 19 = .ok (.iload_n 1, 1) := dk_27 (dk_at dksX0_hasIssue_0 19 rfl rfl)
theorem dX0_hasIssue_20 : decode cX0_hasIssue 20 = .ok (.iload_n 3, 1) := dk_29 (dk_at dksX0_hasIssue_0 20 rfl rfl)
theorem dX0_hasIssue_21 : decode cX0_hasIssue 21 = .ok (.invokevirtual 439, 3) := dk_182 1 183 (dk_at dksX0_hasIssue_0 21 rfl rfl)
theorem dX0_hasIssue_24 : decode cX0_hasIssue 24 = .ok (.istore 5, 2) := dk_54 5 (dk_at dksX0_hasIssue_1 0 rfl rfl)
theorem dX0_hasIssue_26 : decode cX0_hasIssue 26 = .ok (.aload_n 0, 1) := dk_42 (dk_at dksX0_hasIssue_1 2 rfl rfl)
theorem dX0_hasIssue_27 : decode cX0_hasIssue 27 = .ok (.getfield 101, 3) := dk_180 0 101 (dk_at dksX0_hasIssue_1 3 rfl rfl)
theorem dX0_hasIssue_30 : decode cX0_hasIssue 30 = .ok (.iload_n 1, 1) := dk_27 (dk_at dksX0_hasIssue_1 6 rfl rfl)
theorem dX0_hasIssue_31 : decode cX0_hasIssue 31 = .ok (.baload, 1) := dk_51 (dk_at dksX0_hasIssue_1 7 rfl rfl)
theorem dX0_hasIssue_32 : decode cX0_hasIssue 32 = .ok (.ifCond .ne 23, 3) := dk_154 0 23 (dk_at dksX0_hasIssue_1 8 rfl rfl)
theorem dX0_hasIssue_35 : decode cX0_hasIssue 35 = .ok (.aload 4, 2) := dk_25 4 (dk_at dksX0_hasIssue_1 11 rfl rfl)
theorem dX0_hasIssue_37 : decode cX0_hasIssue 37 = .ok (.getfield 442, 3) := dk_180 1 186 (dk_at dksX0_hasIssue_1 13 rfl rfl)
theorem dX0_hasIssue_40 : decode cX0_hasIssue 40 = .ok (.bipush 6, 2) := dk_16 6 (dk_at dksX0_hasIssue_1 16 rfl rfl)
theorem dX0_hasIssue_42 : decode cX0_hasIssue 42 = .ok (.if_icmp .ne 13, 3) := dk_160 0 13 (dk_at dksX0_hasIssue_1 18 rfl rfl)
theorem dX0_hasIssue_45 : decode cX0_hasIssue 45 = .ok (.iload 5, 2) := dk_21 5 (dk_at dksX0_hasIssue_1 21 rfl rfl)
theorem dX0_hasIssue_47 : decode cX0_hasIssue 47 = .ok (.iconst 3, 1) := dk_6 (dk_at dksX0_hasIssue_1 23 rfl rfl)
theorem dX0_hasIssue_48 : decode cX0_hasIssue 48 = .ok (.if_icmp .eq 7, 3) := dk_159 0 7 (dk_at dksX0_hasIssue_2 0 rfl rfl)
theorem dX0_hasIssue_51 : decode cX0_hasIssue 51 = .ok (.iconst 1, 1) := dk_4 (dk_at dksX0_hasIssue_2 3 rfl rfl)
theorem dX0_hasIssue_52 : decode cX0_hasIssue 52 = .ok (.goto 4, 3) := dk_167 0 4 (dk_at dksX0_hasIssue_2 4 rfl rfl)
theorem dX0_hasIssue_55 : decode cX0_hasIssue 55 = .ok (.iconst 0, 1) := dk_3 (dk_at dksX0_hasIssue_2 7 rfl rfl)
theorem dX0_hasIssue_56 : decode cX0_hasIssue 56 = .ok (.istore 6, 2) := dk_54 6 (dk_at dksX0_hasIssue_2 8 rfl rfl)
theorem dX0_hasIssue_58 : decode cX0_hasIssue 58 = .ok (.aload 4, 2) := dk_25 4 (dk_at dksX0_hasIssue_2 10 rfl rfl)
theorem dX0_hasIssue_60 : decode cX0_hasIssue 60 = .ok (.getfield 449, 3) := dk_180 1 193 (dk_at dksX0_hasIssue_2 12 rfl rfl)
theorem dX0_hasIssue_63 : decode cX0_hasIssue 63 = .ok (.iload_n 2, 1) := dk_28 (dk_at dksX0_hasIssue_2 15 rfl rfl)
theorem dX0_hasIssue_64 : decode cX0_hasIssue 64 = .ok (.if_icmp .ne 18, 3) := dk_160 0 18 (dk_at dksX0_hasIssue_2 16 rfl rfl)
theorem dX0_hasIssue_67 : decode cX0_hasIssue 67 = .ok (.iload 5, 2) := dk_21 5 (dk_at dksX0_hasIssue_2 19 rfl rfl)
theorem dX0_hasIssue_69 : decode cX0_hasIssue 69 = .ok (.invokestatic 485, 3) := dk_184 1 229 (dk_at dksX0_hasIssue_2 21 rfl rfl)
theorem dX0_hasIssue_72 : decode cX0_hasIssue 72 = .ok (.ifCond .eq 10, 3) := dk_153 0 10 (dk_at dksX0_hasIssue_3 0 rfl rfl)
theorem dX0_hasIssue_75 : decode cX0_hasIssue 75 = .ok (.iload 6, 2) := dk_21 6 (dk_at dksX0_hasIssue_3 3 rfl rfl)
theorem dX0_hasIssue_77 : decode cX0_hasIssue 77 = .ok (.ifCond .ne 5, 3) := dk_154 0 5 (dk_at dksX0_hasIssue_3 5 rfl rfl)
theorem dX0_hasIssue_80 : decode cX0_hasIssue 80 = .ok (.iconst 1, 1) := dk_4 (dk_at dksX0_hasIssue_3 8 rfl rfl)
theorem dX0_hasIssue_81 : decode cX0_hasIssue 81 = .ok (.ireturn, 1) := dk_172 (dk_at dksX0_hasIssue_3 9 rfl rfl)
theorem dX0_hasIssue_82 : decode cX0_hasIssue 82 = .ok (.iinc 3 1, 3) := dk_132 3 1 (dk_at dksX0_hasIssue_3 10 rfl rfl)
theorem dX0_hasIssue_85 : decode cX0_hasIssue 85 = .ok (.goto (-83), 3) := dk_167 255 173 (dk_at dksX0_hasIssue_3 13 rfl rfl)
theorem dX0_hasIssue_88 : decode cX0_hasIssue 88 = .ok (.iconst 0, 1) := dk_3 (dk_at dksX0_hasIssue_3 16 rfl rfl)
theorem dX0_hasIssue_89 : decode cX0_hasIssue 89 = .ok (.ireturn, 1) := dk_172 (dk_at dksX0_hasIssue_3 17 rfl rfl)
abbrev cX0_give : ByteArray := prog_1_method_60_code
def yX0_give : MethodName := ⟨RX0, "give", "(IIIZ)I"⟩
def dkwX0_give_2 : List UInt8 := [89, 180, 1, 21, 4, 96, 181, 1, 21, 42, 180, 1, 21, 4, 100, 172]
abbrev dktX0_give_2 : List UInt8 := dkwX0_give_2 ++ []
def dkwX0_give_1 : List UInt8 := [183, 1, 231, 58, 5, 25, 5, 21, 4, 181, 1, 190, 42, 180, 0, 111, 42, 180, 1, 21, 25, 5, 83, 42]
abbrev dktX0_give_1 : List UInt8 := dkwX0_give_1 ++ dktX0_give_2
def dkwX0_give_0 : List UInt8 := [187, 0, 109, 89, 42, 180, 1, 21, 27, 28, 29, 42, 180, 0, 79, 42, 180, 0, 86, 27, 46, 46]
abbrev dktX0_give_0 : List UInt8 := dkwX0_give_0 ++ dktX0_give_1
theorem dksX0_give_0 : cX0_give.data.toList.drop 0 = dktX0_give_0 := by decide +kernel
theorem dksX0_give_1 : cX0_give.data.toList.drop 22 = dktX0_give_1 := dk_seg dksX0_give_0 22 rfl rfl
theorem dksX0_give_2 : cX0_give.data.toList.drop 46 = dktX0_give_2 := dk_seg dksX0_give_1 24 rfl rfl
theorem dX0_give_0 : decode cX0_give 0 = .ok (.new 109, 3) := dk_187 0 109 (dk_at dksX0_give_0 0 rfl rfl)
theorem dX0_give_3 : decode cX0_give 3 = .ok (.dup, 1) := dk_89 (dk_at dksX0_give_0 3 rfl rfl)
theorem dX0_give_4 : decode cX0_give 4 = .ok (.aload_n 0, 1) := dk_42 (dk_at dksX0_give_0 4 rfl rfl)
theorem dX0_give_5 : decode cX0_give 5 = .ok (.getfield 277, 3) := dk_180 1 21 (dk_at dksX0_give_0 5 rfl rfl)
theorem dX0_give_8 : decode cX0_give 8 = .ok (.iload_n 1, 1) := dk_27 (dk_at dksX0_give_0 8 rfl rfl)
theorem dX0_give_9 : decode cX0_give 9 = .ok (.iload_n 2, 1) := dk_28 (dk_at dksX0_give_0 9 rfl rfl)
theorem dX0_give_10 : decode cX0_give 10 = .ok (.iload_n 3, 1) := dk_29 (dk_at dksX0_give_0 10 rfl rfl)
theorem dX0_give_11 : decode cX0_give 11 = .ok (.aload_n 0, 1) := dk_42 (dk_at dksX0_give_0 11 rfl rfl)
theorem dX0_give_12 : decode cX0_give 12 = .ok (.getfield 79, 3) := dk_180 0 79 (dk_at dksX0_give_0 12 rfl rfl)
theorem dX0_give_15 : decode cX0_give 15 = .ok (.aload_n 0, 1) := dk_42 (dk_at dksX0_give_0 15 rfl rfl)
theorem dX0_give_16 : decode cX0_give 16 = .ok (.getfield 86, 3) := dk_180 0 86 (dk_at dksX0_give_0 16 rfl rfl)
theorem dX0_give_19 : decode cX0_give 19 = .ok (.iload_n 1, 1) := dk_27 (dk_at dksX0_give_0 19 rfl rfl)
theorem dX0_give_20 : decode cX0_give 20 = .ok (.iaload, 1) := dk_46 (dk_at dksX0_give_0 20 rfl rfl)
theorem dX0_give_21 : decode cX0_give 21 = .ok (.iaload, 1) := dk_46 (dk_at dksX0_give_0 21 rfl rfl)
theorem dX0_give_22 : decode cX0_give 22 = .ok (.invokespecial 487, 3) := dk_183 1 231 (dk_at dksX0_give_1 0 rfl rfl)
theorem dX0_give_25 : decode cX0_give 25 = .ok (.astore 5, 2) := dk_58 5 (dk_at dksX0_give_1 3 rfl rfl)
theorem dX0_give_27 : decode cX0_give 27 = .ok (.aload 5, 2) := dk_25 5 (dk_at dksX0_give_1 5 rfl rfl)
theorem dX0_give_29 : decode cX0_give 29 = .ok (.iload 4, 2) := dk_21 4 (dk_at dksX0_give_1 7 rfl rfl)
theorem dX0_give_31 : decode cX0_give 31 = .ok (.putfield 446, 3) := dk_181 1 190 (dk_at dksX0_give_1 9 rfl rfl)
theorem dX0_give_34 : decode cX0_give 34 = .ok (.aload_n 0, 1) := dk_42 (dk_at dksX0_give_1 12 rfl rfl)
theorem dX0_give_35 : decode cX0_give 35 = .ok (.getfield 111, 3) := dk_180 0 111 (dk_at dksX0_give_1 13 rfl rfl)
theorem dX0_give_38 : decode cX0_give 38 = .ok (.aload_n 0, 1) := dk_42 (dk_at dksX0_give_1 16 rfl rfl)
theorem dX0_give_39 : decode cX0_give 39 = .ok (.getfield 277, 3) := dk_180 1 21 (dk_at dksX0_give_1 17 rfl rfl)
theorem dX0_give_42 : decode cX0_give 42 = .ok (.aload 5, 2) := dk_25 5 (dk_at dksX0_give_1 20 rfl rfl)
theorem dX0_give_44 : decode cX0_give 44 = .ok (.aastore, 1) := dk_83 (dk_at dksX0_give_1 22 rfl rfl)
theorem dX0_give_45 : decode cX0_give 45 = .ok (.aload_n 0, 1) := dk_42 (dk_at dksX0_give_1 23 rfl rfl)
theorem dX0_give_46 : decode cX0_give 46 = .ok (.dup, 1) := dk_89 (dk_at dksX0_give_2 0 rfl rfl)
theorem dX0_give_47 : decode cX0_give 47 = .ok (.getfield 277, 3) := dk_180 1 21 (dk_at dksX0_give_2 1 rfl rfl)
theorem dX0_give_50 : decode cX0_give 50 = .ok (.iconst 1, 1) := dk_4 (dk_at dksX0_give_2 4 rfl rfl)
theorem dX0_give_51 : decode cX0_give 51 = .ok (.iadd, 1) := dk_96 (dk_at dksX0_give_2 5 rfl rfl)
theorem dX0_give_52 : decode cX0_give 52 = .ok (.putfield 277, 3) := dk_181 1 21 (dk_at dksX0_give_2 6 rfl rfl)
theorem dX0_give_55 : decode cX0_give 55 = .ok (.aload_n 0, 1) := dk_42 (dk_at dksX0_give_2 9 rfl rfl)
theorem dX0_give_56 : decode cX0_give 56 = .ok (.getfield 277, 3) := dk_180 1 21 (dk_at dksX0_give_2 10 rfl rfl)
theorem dX0_give_59 : decode cX0_give 59 = .ok (.iconst 1, 1) := dk_4 (dk_at dksX0_give_2 13 rfl rfl)
theorem dX0_give_60 : decode cX0_give 60 = .ok (.isub, 1) := dk_100 (dk_at dksX0_give_2 14 rfl rfl)
theorem dX0_give_61 : decode cX0_give 61 = .ok (.ireturn, 1) := dk_172 (dk_at dksX0_give_2 15 rfl rfl)
abbrev cX0_spoil : ByteArray := prog_1_method_63_code
def yX0_spoil : MethodName := ⟨RX0, "spoil", "(I)I"⟩
def dkwX0_spoil_6 : List UInt8 := [29, 4, 96, 172]
abbrev dktX0_spoil_6 : List UInt8 := dkwX0_spoil_6 ++ []
def dkwX0_spoil_5 : List UInt8 := [180, 1, 249, 161, 0, 6, 16, 252, 172, 44, 4, 181, 1, 189, 42, 16, 20, 27, 3, 3, 3, 182, 0, 173]
abbrev dktX0_spoil_5 : List UInt8 := dkwX0_spoil_5 ++ dktX0_spoil_6
def dkwX0_spoil_4 : List UInt8 := [167, 255, 196, 44, 180, 1, 186, 16, 6, 159, 0, 21, 44, 180, 1, 189, 154, 0, 14, 29, 42, 180, 0, 42]
abbrev dktX0_spoil_4 : List UInt8 := dkwX0_spoil_4 ++ dktX0_spoil_5
def dkwX0_spoil_3 : List UInt8 := [180, 1, 186, 21, 4, 182, 1, 183, 4, 160, 0, 7, 4, 167, 0, 4, 3, 96, 62, 132, 4, 1]
abbrev dktX0_spoil_3 : List UInt8 := dkwX0_spoil_3 ++ dktX0_spoil_4
def dkwX0_spoil_2 : List UInt8 := [159, 0, 48, 29, 42, 180, 0, 111, 21, 4, 50, 180, 1, 193, 44, 180, 1, 193, 160, 0, 21, 42, 44]
abbrev dktX0_spoil_2 : List UInt8 := dkwX0_spoil_2 ++ dktX0_spoil_3
def dkwX0_spoil_1 : List UInt8 := [27, 50, 77, 3, 62, 3, 54, 4, 21, 4, 42, 180, 1, 21, 162, 0, 57, 44, 180, 1, 186, 16, 6]
abbrev dktX0_spoil_1 : List UInt8 := dkwX0_spoil_1 ++ dktX0_spoil_2
def dkwX0_spoil_0 : List UInt8 := [42, 27, 182, 1, 246, 154, 0, 5, 2, 172, 42, 182, 1, 233, 154, 0, 6, 16, 253, 172, 42, 180, 0, 111]
abbrev dktX0_spoil_0 : List UInt8 := dkwX0_spoil_0 ++ dktX0_spoil_1
theorem dksX0_spoil_0 : cX0_spoil.data.toList.drop 0 = dktX0_spoil_0 := by decide +kernel
theorem dksX0_spoil_1 : cX0_spoil.data.toList.drop 24 = dktX0_spoil_1 := dk_seg dksX0_spoil_0 24 rfl rfl
theorem dksX0_spoil_2 : cX0_spoil.data.toList.drop 47 = dktX0_spoil_2 := dk_seg dksX0_spoil_1 23 rfl rfl
theorem dksX0_spoil_3 : cX0_spoil.data.toList.drop 70 = dktX0_spoil_3 := dk_seg dksX0_spoil_2 23 rfl rfl
theorem dksX0_spoil_4 : cX0_spoil.data.toList.drop 92 = dktX0_spoil_4 := dk_seg dksX0_spoil_3 22 rfl rfl
theorem dksX0_spoil_5 : cX0_spoil.data.toList.drop 116 = dktX0_spoil_5 := dk_seg dksX0_spoil_4 24 rfl rfl
theorem dksX0_spoil_6 : cX0_spoil.data.toList.drop 140 = dktX0_spoil_6 := dk_seg dksX0_spoil_5 24 rfl rfl
theorem dX0_spoil_0 : decode cX0_spoil 0 = .ok (.aload_n 0, 1) := dk_42 (dk_at dksX0_spoil_0 0 rfl rfl)
theorem dX0_spoil_1 : decode cX0_spoil 1 = .ok (.iload_n 1, 1) := dk_27 (dk_at dksX0_spoil_0 1 rfl rfl)
theorem dX0_spoil_2 : decode cX0_spoil 2 = .ok (.invokevirtual 502, 3) := dk_182 1 246 (dk_at dksX0_spoil_0 2 rfl rfl)
theorem dX0_spoil_5 : decode cX0_spoil 5 = .ok (.ifCond .ne 5, 3) := dk_154 0 5 (dk_at dksX0_spoil_0 5 rfl rfl)
theorem dX0_spoil_8 : decode cX0_spoil 8 = .ok (.iconst (-1), 1) := dk_2 (dk_at dksX0_spoil_0 8 rfl rfl)
theorem dX0_spoil_9 : decode cX0_spoil 9 = .ok (.ireturn, 1) := dk_172 (dk_at dksX0_spoil_0 9 rfl rfl)
theorem dX0_spoil_10 : decode cX0_spoil 10 = .ok (.aload_n 0, 1) := dk_42 (dk_at dksX0_spoil_0 10 rfl rfl)
theorem dX0_spoil_11 : decode cX0_spoil 11 = .ok (.invokevirtual 489, 3) := dk_182 1 233 (dk_at dksX0_spoil_0 11 rfl rfl)
theorem dX0_spoil_14 : decode cX0_spoil 14 = .ok (.ifCond .ne 6, 3) := dk_154 0 6 (dk_at dksX0_spoil_0 14 rfl rfl)
theorem dX0_spoil_17 : decode cX0_spoil 17 = .ok (.bipush (-3), 2) := dk_16 253 (dk_at dksX0_spoil_0 17 rfl rfl)
theorem dX0_spoil_19 : decode cX0_spoil 19 = .ok (.ireturn, 1) := dk_172 (dk_at dksX0_spoil_0 19 rfl rfl)
theorem dX0_spoil_20 : decode cX0_spoil 20 = .ok (.aload_n 0, 1) := dk_42 (dk_at dksX0_spoil_0 20 rfl rfl)
theorem dX0_spoil_21 : decode cX0_spoil 21 = .ok (.getfield 111, 3) := dk_180 0 111 (dk_at dksX0_spoil_0 21 rfl rfl)
theorem dX0_spoil_24 : decode cX0_spoil 24 = .ok (.iload_n 1, 1) := dk_27 (dk_at dksX0_spoil_1 0 rfl rfl)
theorem dX0_spoil_25 : decode cX0_spoil 25 = .ok (.aaload, 1) := dk_50 (dk_at dksX0_spoil_1 1 rfl rfl)
theorem dX0_spoil_26 : decode cX0_spoil 26 = .ok (.astore_n 2, 1) := dk_77 (dk_at dksX0_spoil_1 2 rfl rfl)
theorem dX0_spoil_27 : decode cX0_spoil 27 = .ok (.iconst 0, 1) := dk_3 (dk_at dksX0_spoil_1 3 rfl rfl)
theorem dX0_spoil_28 : decode cX0_spoil 28 = .ok (.istore_n 3, 1) := dk_62 (dk_at dksX0_spoil_1 4 rfl rfl)
theorem dX0_spoil_29 : decode cX0_spoil 29 = .ok (.iconst 0, 1) := dk_3 (dk_at dksX0_spoil_1 5 rfl rfl)
theorem dX0_spoil_30 : decode cX0_spoil 30 = .ok (.istore 4, 2) := dk_54 4 (dk_at dksX0_spoil_1 6 rfl rfl)
theorem dX0_spoil_32 : decode cX0_spoil 32 = .ok (.iload 4, 2) := dk_21 4 (dk_at dksX0_spoil_1 8 rfl rfl)
theorem dX0_spoil_34 : decode cX0_spoil 34 = .ok (.aload_n 0, 1) := dk_42 (dk_at dksX0_spoil_1 10 rfl rfl)
theorem dX0_spoil_35 : decode cX0_spoil 35 = .ok (.getfield 277, 3) := dk_180 1 21 (dk_at dksX0_spoil_1 11 rfl rfl)
theorem dX0_spoil_38 : decode cX0_spoil 38 = .ok (.if_icmp .ge 57, 3) := dk_162 0 57 (dk_at dksX0_spoil_1 14 rfl rfl)
theorem dX0_spoil_41 : decode cX0_spoil 41 = .ok (.aload_n 2, 1) := dk_44 (dk_at dksX0_spoil_1 17 rfl rfl)
theorem dX0_spoil_42 : decode cX0_spoil 42 = .ok (.getfield 442, 3) := dk_180 1 186 (dk_at dksX0_spoil_1 18 rfl rfl)
theorem dX0_spoil_45 : decode cX0_spoil 45 = .ok (.bipush 6, 2) := dk_16 6 (dk_at dksX0_spoil_1 21 rfl rfl)
theorem dX0_spoil_47 : decode cX0_spoil 47 = .ok (.if_icmp .eq 48, 3) := dk_159 0 48 (dk_at dksX0_spoil_2 0 rfl rfl)
theorem dX0_spoil_50 : decode cX0_spoil 50 = .ok (.iload_n 3, 1) := dk_29 (dk_at dksX0_spoil_2 3 rfl rfl)
theorem dX0_spoil_51 : decode cX0_spoil 51 = .ok (.aload_n 0, 1) := dk_42 (dk_at dksX0_spoil_2 4 rfl rfl)
theorem dX0_spoil_52 : decode cX0_spoil 52 = .ok (.getfield 111, 3) := dk_180 0 111 (dk_at dksX0_spoil_2 5 rfl rfl)
theorem dX0_spoil_55 : decode cX0_spoil 55 = .ok (.iload 4, 2) := dk_21 4 (dk_at dksX0_spoil_2 8 rfl rfl)
theorem dX0_spoil_57 : decode cX0_spoil 57 = .ok (.aaload, 1) := dk_50 (dk_at dksX0_spoil_2 10 rfl rfl)
theorem dX0_spoil_58 : decode cX0_spoil 58 = .ok (.getfield 449, 3) := dk_180 1 193 (dk_at dksX0_spoil_2 11 rfl rfl)
theorem dX0_spoil_61 : decode cX0_spoil 61 = .ok (.aload_n 2, 1) := dk_44 (dk_at dksX0_spoil_2 14 rfl rfl)
theorem dX0_spoil_62 : decode cX0_spoil 62 = .ok (.getfield 449, 3) := dk_180 1 193 (dk_at dksX0_spoil_2 15 rfl rfl)
theorem dX0_spoil_65 : decode cX0_spoil 65 = .ok (.if_icmp .ne 21, 3) := dk_160 0 21 (dk_at dksX0_spoil_2 18 rfl rfl)
theorem dX0_spoil_68 : decode cX0_spoil 68 = .ok (.aload_n 0, 1) := dk_42 (dk_at dksX0_spoil_2 21 rfl rfl)
theorem dX0_spoil_69 : decode cX0_spoil 69 = .ok (.aload_n 2, 1) := dk_44 (dk_at dksX0_spoil_2 22 rfl rfl)
theorem dX0_spoil_70 : decode cX0_spoil 70 = .ok (.getfield 442, 3) := dk_180 1 186 (dk_at dksX0_spoil_3 0 rfl rfl)
theorem dX0_spoil_73 : decode cX0_spoil 73 = .ok (.iload 4, 2) := dk_21 4 (dk_at dksX0_spoil_3 3 rfl rfl)
theorem dX0_spoil_75 : decode cX0_spoil 75 = .ok (.invokevirtual 439, 3) := dk_182 1 183 (dk_at dksX0_spoil_3 5 rfl rfl)
theorem dX0_spoil_78 : decode cX0_spoil 78 = .ok (.iconst 1, 1) := dk_4 (dk_at dksX0_spoil_3 8 rfl rfl)
theorem dX0_spoil_79 : decode cX0_spoil 79 = .ok (.if_icmp .ne 7, 3) := dk_160 0 7 (dk_at dksX0_spoil_3 9 rfl rfl)
theorem dX0_spoil_82 : decode cX0_spoil 82 = .ok (.iconst 1, 1) := dk_4 (dk_at dksX0_spoil_3 12 rfl rfl)
theorem dX0_spoil_83 : decode cX0_spoil 83 = .ok (.goto 4, 3) := dk_167 0 4 (dk_at dksX0_spoil_3 13 rfl rfl)
theorem dX0_spoil_86 : decode cX0_spoil 86 = .ok (.iconst 0, 1) := dk_3 (dk_at dksX0_spoil_3 16 rfl rfl)
theorem dX0_spoil_87 : decode cX0_spoil 87 = .ok (.iadd, 1) := dk_96 (dk_at dksX0_spoil_3 17 rfl rfl)
theorem dX0_spoil_88 : decode cX0_spoil 88 = .ok (.istore_n 3, 1) := dk_62 (dk_at dksX0_spoil_3 18 rfl rfl)
theorem dX0_spoil_89 : decode cX0_spoil 89 = .ok (.iinc 4 1, 3) := dk_132 4 1 (dk_at dksX0_spoil_3 19 rfl rfl)
theorem dX0_spoil_92 : decode cX0_spoil 92 = .ok (.goto (-60), 3) := dk_167 255 196 (dk_at dksX0_spoil_4 0 rfl rfl)
theorem dX0_spoil_95 : decode cX0_spoil 95 = .ok (.aload_n 2, 1) := dk_44 (dk_at dksX0_spoil_4 3 rfl rfl)
theorem dX0_spoil_96 : decode cX0_spoil 96 = .ok (.getfield 442, 3) := dk_180 1 186 (dk_at dksX0_spoil_4 4 rfl rfl)
theorem dX0_spoil_99 : decode cX0_spoil 99 = .ok (.bipush 6, 2) := dk_16 6 (dk_at dksX0_spoil_4 7 rfl rfl)
theorem dX0_spoil_101 : decode cX0_spoil 101 = .ok (.if_icmp .eq 21, 3) := dk_159 0 21 (dk_at dksX0_spoil_4 9 rfl rfl)
theorem dX0_spoil_104 : decode cX0_spoil 104 = .ok (.aload_n 2, 1) := dk_44 (dk_at dksX0_spoil_4 12 rfl rfl)
theorem dX0_spoil_105 : decode cX0_spoil 105 = .ok (.getfield 445, 3) := dk_180 1 189 (dk_at dksX0_spoil_4 13 rfl rfl)
theorem dX0_spoil_108 : decode cX0_spoil 108 = .ok (.ifCond .ne 14, 3) := dk_154 0 14 (dk_at dksX0_spoil_4 16 rfl rfl)
theorem dX0_spoil_111 : decode cX0_spoil 111 = .ok (.iload_n 3, 1) := dk_29 (dk_at dksX0_spoil_4 19 rfl rfl)
theorem dX0_spoil_112 : decode cX0_spoil 112 = .ok (.aload_n 0, 1) := dk_42 (dk_at dksX0_spoil_4 20 rfl rfl)
theorem dX0_spoil_113 : decode cX0_spoil 113 = .ok (.getfield 42, 3) := dk_180 0 42 (dk_at dksX0_spoil_4 21 rfl rfl)
theorem dX0_spoil_116 : decode cX0_spoil 116 = .ok (.getfield 505, 3) := dk_180 1 249 (dk_at dksX0_spoil_5 0 rfl rfl)
theorem dX0_spoil_119 : decode cX0_spoil 119 = .ok (.if_icmp .lt 6, 3) := dk_161 0 6 (dk_at dksX0_spoil_5 3 rfl rfl)
theorem dX0_spoil_122 : decode cX0_spoil 122 = .ok (.bipush (-4), 2) := dk_16 252 (dk_at dksX0_spoil_5 6 rfl rfl)
theorem dX0_spoil_124 : decode cX0_spoil 124 = .ok (.ireturn, 1) := dk_172 (dk_at dksX0_spoil_5 8 rfl rfl)
theorem dX0_spoil_125 : decode cX0_spoil 125 = .ok (.aload_n 2, 1) := dk_44 (dk_at dksX0_spoil_5 9 rfl rfl)
theorem dX0_spoil_126 : decode cX0_spoil 126 = .ok (.iconst 1, 1) := dk_4 (dk_at dksX0_spoil_5 10 rfl rfl)
theorem dX0_spoil_127 : decode cX0_spoil 127 = .ok (.putfield 445, 3) := dk_181 1 189 (dk_at dksX0_spoil_5 11 rfl rfl)
theorem dX0_spoil_130 : decode cX0_spoil 130 = .ok (.aload_n 0, 1) := dk_42 (dk_at dksX0_spoil_5 14 rfl rfl)
theorem dX0_spoil_131 : decode cX0_spoil 131 = .ok (.bipush 20, 2) := dk_16 20 (dk_at dksX0_spoil_5 15 rfl rfl)
theorem dX0_spoil_133 : decode cX0_spoil 133 = .ok (.iload_n 1, 1) := dk_27 (dk_at dksX0_spoil_5 17 rfl rfl)
theorem dX0_spoil_134 : decode cX0_spoil 134 = .ok (.iconst 0, 1) := dk_3 (dk_at dksX0_spoil_5 18 rfl rfl)
theorem dX0_spoil_135 : decode cX0_spoil 135 = .ok (.iconst 0, 1) := dk_3 (dk_at dksX0_spoil_5 19 rfl rfl)
theorem dX0_spoil_136 : decode cX0_spoil 136 = .ok (.iconst 0, 1) := dk_3 (dk_at dksX0_spoil_5 20 rfl rfl)
theorem dX0_spoil_137 : decode cX0_spoil 137 = .ok (.invokevirtual 173, 3) := dk_182 0 173 (dk_at dksX0_spoil_5 21 rfl rfl)
theorem dX0_spoil_140 : decode cX0_spoil 140 = .ok (.iload_n 3, 1) := dk_29 (dk_at dksX0_spoil_6 0 rfl rfl)
theorem dX0_spoil_141 : decode cX0_spoil 141 = .ok (.iconst 1, 1) := dk_4 (dk_at dksX0_spoil_6 1 rfl rfl)
theorem dX0_spoil_142 : decode cX0_spoil 142 = .ok (.iadd, 1) := dk_96 (dk_at dksX0_spoil_6 2 rfl rfl)
theorem dX0_spoil_143 : decode cX0_spoil 143 = .ok (.ireturn, 1) := dk_172 (dk_at dksX0_spoil_6 3 rfl rfl)
abbrev cX0_isIssue : ByteArray := prog_1_method_62_code
def yX0_isIssue : MethodName := ⟨RX0, "isIssue", "(I)Z"⟩
def dkwX0_isIssue_0 : List UInt8 := [27, 3, 42, 180, 1, 21, 4, 100, 184, 0, 163, 172]
abbrev dktX0_isIssue_0 : List UInt8 := dkwX0_isIssue_0 ++ []
theorem dksX0_isIssue_0 : cX0_isIssue.data.toList.drop 0 = dktX0_isIssue_0 := by decide +kernel
theorem dX0_isIssue_0 : decode cX0_isIssue 0 = .ok (.iload_n 1, 1) := dk_27 (dk_at dksX0_isIssue_0 0 rfl rfl)
theorem dX0_isIssue_1 : decode cX0_isIssue 1 = .ok (.iconst 0, 1) := dk_3 (dk_at dksX0_isIssue_0 1 rfl rfl)
theorem dX0_isIssue_2 : decode cX0_isIssue 2 = .ok (.aload_n 0, 1) := dk_42 (dk_at dksX0_isIssue_0 2 rfl rfl)
theorem dX0_isIssue_3 : decode cX0_isIssue 3 = .ok (.getfield 277, 3) := dk_180 1 21 (dk_at dksX0_isIssue_0 3 rfl rfl)
theorem dX0_isIssue_6 : decode cX0_isIssue 6 = .ok (.iconst 1, 1) := dk_4 (dk_at dksX0_isIssue_0 6 rfl rfl)
theorem dX0_isIssue_7 : decode cX0_isIssue 7 = .ok (.isub, 1) := dk_100 (dk_at dksX0_isIssue_0 7 rfl rfl)
theorem dX0_isIssue_8 : decode cX0_isIssue 8 = .ok (.invokestatic 163, 3) := dk_184 0 163 (dk_at dksX0_isIssue_0 8 rfl rfl)
theorem dX0_isIssue_11 : decode cX0_isIssue 11 = .ok (.ireturn, 1) := dk_172 (dk_at dksX0_isIssue_0 11 rfl rfl)
abbrev cX0_put : ByteArray := prog_1_method_66_code
def yX0_put : MethodName := ⟨RX0, "put", "(I)I"⟩
def dkwX0_put_5 : List UInt8 := [3, 3, 182, 0, 173, 45, 180, 1, 189, 172]
abbrev dktX0_put_5 : List UInt8 := dkwX0_put_5 ++ []
def dkwX0_put_4 : List UInt8 := [153, 0, 11, 45, 5, 181, 1, 189, 167, 0, 8, 42, 45, 182, 1, 226, 42, 16, 21, 45, 180, 1, 186, 3]
abbrev dktX0_put_4 : List UInt8 := dkwX0_put_4 ++ dktX0_put_5
def dkwX0_put_3 : List UInt8 := [42, 180, 0, 13, 3, 45, 180, 1, 209, 3, 28, 184, 1, 255, 42, 180, 0, 101, 45, 180, 1, 186, 51]
abbrev dktX0_put_3 : List UInt8 := dkwX0_put_3 ++ dktX0_put_4
def dkwX0_put_2 : List UInt8 := [180, 1, 189, 153, 0, 6, 16, 252, 172, 42, 28, 45, 180, 1, 206, 182, 1, 252, 154, 0, 6, 16, 254, 172]
abbrev dktX0_put_2 : List UInt8 := dkwX0_put_2 ++ dktX0_put_3
def dkwX0_put_1 : List UInt8 := [154, 0, 6, 16, 253, 172, 42, 180, 0, 111, 27, 50, 78, 45, 180, 1, 186, 16, 6, 159, 0, 10, 45]
abbrev dktX0_put_1 : List UInt8 := dkwX0_put_1 ++ dktX0_put_2
def dkwX0_put_0 : List UInt8 := [42, 180, 0, 160, 61, 42, 3, 181, 0, 160, 42, 27, 182, 1, 246, 154, 0, 5, 2, 172, 42, 182, 1, 233]
abbrev dktX0_put_0 : List UInt8 := dkwX0_put_0 ++ dktX0_put_1
theorem dksX0_put_0 : cX0_put.data.toList.drop 0 = dktX0_put_0 := by decide +kernel
theorem dksX0_put_1 : cX0_put.data.toList.drop 24 = dktX0_put_1 := dk_seg dksX0_put_0 24 rfl rfl
theorem dksX0_put_2 : cX0_put.data.toList.drop 47 = dktX0_put_2 := dk_seg dksX0_put_1 23 rfl rfl
theorem dksX0_put_3 : cX0_put.data.toList.drop 71 = dktX0_put_3 := dk_seg dksX0_put_2 24 rfl rfl
theorem dksX0_put_4 : cX0_put.data.toList.drop 94 = dktX0_put_4 := dk_seg dksX0_put_3 23 rfl rfl
theorem dksX0_put_5 : cX0_put.data.toList.drop 118 = dktX0_put_5 := dk_seg dksX0_put_4 24 rfl rfl
theorem dX0_put_0 : decode cX0_put 0 = .ok (.aload_n 0, 1) := dk_42 (dk_at dksX0_put_0 0 rfl rfl)
theorem dX0_put_1 : decode cX0_put 1 = .ok (.getfield 160, 3) := dk_180 0 160 (dk_at dksX0_put_0 1 rfl rfl)
theorem dX0_put_4 : decode cX0_put 4 = .ok (.istore_n 2, 1) := dk_61 (dk_at dksX0_put_0 4 rfl rfl)
theorem dX0_put_5 : decode cX0_put 5 = .ok (.aload_n 0, 1) := dk_42 (dk_at dksX0_put_0 5 rfl rfl)
theorem dX0_put_6 : decode cX0_put 6 = .ok (.iconst 0, 1) := dk_3 (dk_at dksX0_put_0 6 rfl rfl)
theorem dX0_put_7 : decode cX0_put 7 = .ok (.putfield 160, 3) := dk_181 0 160 (dk_at dksX0_put_0 7 rfl rfl)
theorem dX0_put_10 : decode cX0_put 10 = .ok (.aload_n 0, 1) := dk_42 (dk_at dksX0_put_0 10 rfl rfl)
theorem dX0_put_11 : decode cX0_put 11 = .ok (.iload_n 1, 1) := dk_27 (dk_at dksX0_put_0 11 rfl rfl)
theorem dX0_put_12 : decode cX0_put 12 = .ok (.invokevirtual 502, 3) := dk_182 1 246 (dk_at dksX0_put_0 12 rfl rfl)
theorem dX0_put_15 : decode cX0_put 15 = .ok (.ifCond .ne 5, 3) := dk_154 0 5 (dk_at dksX0_put_0 15 rfl rfl)
theorem dX0_put_18 : decode cX0_put 18 = .ok (.iconst (-1), 1) := dk_2 (dk_at dksX0_put_0 18 rfl rfl)
theorem dX0_put_19 : decode cX0_put 19 = .ok (.ireturn, 1) := dk_172 (dk_at dksX0_put_0 19 rfl rfl)
theorem dX0_put_20 : decode cX0_put 20 = .ok (.aload_n 0, 1) := dk_42 (dk_at dksX0_put_0 20 rfl rfl)
theorem dX0_put_21 : decode cX0_put 21 = .ok (.invokevirtual 489, 3) := dk_182 1 233 (dk_at dksX0_put_0 21 rfl rfl)
theorem dX0_put_24 : decode cX0_put 24 = .ok (.ifCond .ne 6, 3) := dk_154 0 6 (dk_at dksX0_put_1 0 rfl rfl)
theorem dX0_put_27 : decode cX0_put 27 = .ok (.bipush (-3), 2) := dk_16 253 (dk_at dksX0_put_1 3 rfl rfl)
theorem dX0_put_29 : decode cX0_put 29 = .ok (.ireturn, 1) := dk_172 (dk_at dksX0_put_1 5 rfl rfl)
theorem dX0_put_30 : decode cX0_put 30 = .ok (.aload_n 0, 1) := dk_42 (dk_at dksX0_put_1 6 rfl rfl)
theorem dX0_put_31 : decode cX0_put 31 = .ok (.getfield 111, 3) := dk_180 0 111 (dk_at dksX0_put_1 7 rfl rfl)
theorem dX0_put_34 : decode cX0_put 34 = .ok (.iload_n 1, 1) := dk_27 (dk_at dksX0_put_1 10 rfl rfl)
theorem dX0_put_35 : decode cX0_put 35 = .ok (.aaload, 1) := dk_50 (dk_at dksX0_put_1 11 rfl rfl)
theorem dX0_put_36 : decode cX0_put 36 = .ok (.astore_n 3, 1) := dk_78 (dk_at dksX0_put_1 12 rfl rfl)
theorem dX0_put_37 : decode cX0_put 37 = .ok (.aload_n 3, 1) := dk_45 (dk_at dksX0_put_1 13 rfl rfl)
theorem dX0_put_38 : decode cX0_put 38 = .ok (.getfield 442, 3) := dk_180 1 186 (dk_at dksX0_put_1 14 rfl rfl)
theorem dX0_put_41 : decode cX0_put 41 = .ok (.bipush 6, 2) := dk_16 6 (dk_at dksX0_put_1 17 rfl rfl)
theorem dX0_put_43 : decode cX0_put 43 = .ok (.if_icmp .eq 10, 3) := dk_159 0 10 (dk_at dksX0_put_1 19 rfl rfl)
theorem dX0_put_46 : decode cX0_put 46 = .ok (.aload_n 3, 1) := dk_45 (dk_at dksX0_put_1 22 rfl rfl)
theorem dX0_put_47 : decode cX0_put 47 = .ok (.getfield 445, 3) := dk_180 1 189 (dk_at dksX0_put_2 0 rfl rfl)
theorem dX0_put_50 : decode cX0_put 50 = .ok (.ifCond .eq 6, 3) := dk_153 0 6 (dk_at dksX0_put_2 3 rfl rfl)
theorem dX0_put_53 : decode cX0_put 53 = .ok (.bipush (-4), 2) := dk_16 252 (dk_at dksX0_put_2 6 rfl rfl)
theorem dX0_put_55 : decode cX0_put 55 = .ok (.ireturn, 1) := dk_172 (dk_at dksX0_put_2 8 rfl rfl)
theorem dX0_put_56 : decode cX0_put 56 = .ok (.aload_n 0, 1) := dk_42 (dk_at dksX0_put_2 9 rfl rfl)
theorem dX0_put_57 : decode cX0_put 57 = .ok (.iload_n 2, 1) := dk_28 (dk_at dksX0_put_2 10 rfl rfl)
theorem dX0_put_58 : decode cX0_put 58 = .ok (.aload_n 3, 1) := dk_45 (dk_at dksX0_put_2 11 rfl rfl)
theorem dX0_put_59 : decode cX0_put 59 = .ok (.getfield 462, 3) := dk_180 1 206 (dk_at dksX0_put_2 12 rfl rfl)
theorem dX0_put_62 : decode cX0_put 62 = .ok (.invokevirtual 508, 3) := dk_182 1 252 (dk_at dksX0_put_2 15 rfl rfl)
theorem dX0_put_65 : decode cX0_put 65 = .ok (.ifCond .ne 6, 3) := dk_154 0 6 (dk_at dksX0_put_2 18 rfl rfl)
theorem dX0_put_68 : decode cX0_put 68 = .ok (.bipush (-2), 2) := dk_16 254 (dk_at dksX0_put_2 21 rfl rfl)
theorem dX0_put_70 : decode cX0_put 70 = .ok (.ireturn, 1) := dk_172 (dk_at dksX0_put_2 23 rfl rfl)
theorem dX0_put_71 : decode cX0_put 71 = .ok (.aload_n 0, 1) := dk_42 (dk_at dksX0_put_3 0 rfl rfl)
theorem dX0_put_72 : decode cX0_put 72 = .ok (.getfield 13, 3) := dk_180 0 13 (dk_at dksX0_put_3 1 rfl rfl)
theorem dX0_put_75 : decode cX0_put 75 = .ok (.iconst 0, 1) := dk_3 (dk_at dksX0_put_3 4 rfl rfl)
theorem dX0_put_76 : decode cX0_put 76 = .ok (.aload_n 3, 1) := dk_45 (dk_at dksX0_put_3 5 rfl rfl)
theorem dX0_put_77 : decode cX0_put 77 = .ok (.getfield 465, 3) := dk_180 1 209 (dk_at dksX0_put_3 6 rfl rfl)
theorem dX0_put_80 : decode cX0_put 80 = .ok (.iconst 0, 1) := dk_3 (dk_at dksX0_put_3 9 rfl rfl)
theorem dX0_put_81 : decode cX0_put 81 = .ok (.iload_n 2, 1) := dk_28 (dk_at dksX0_put_3 10 rfl rfl)
theorem dX0_put_82 : decode cX0_put 82 = .ok (.invokestatic 511, 3) := dk_184 1 255 (dk_at dksX0_put_3 11 rfl rfl)
theorem dX0_put_85 : decode cX0_put 85 = .ok (.aload_n 0, 1) := dk_42 (dk_at dksX0_put_3 14 rfl rfl)
theorem dX0_put_86 : decode cX0_put 86 = .ok (.getfield 101, 3) := dk_180 0 101 (dk_at dksX0_put_3 15 rfl rfl)
theorem dX0_put_89 : decode cX0_put 89 = .ok (.aload_n 3, 1) := dk_45 (dk_at dksX0_put_3 18 rfl rfl)
theorem dX0_put_90 : decode cX0_put 90 = .ok (.getfield 442, 3) := dk_180 1 186 (dk_at dksX0_put_3 19 rfl rfl)
theorem dX0_put_93 : decode cX0_put 93 = .ok (.baload, 1) := dk_51 (dk_at dksX0_put_3 22 rfl rfl)
theorem dX0_put_94 : decode cX0_put 94 = .ok (.ifCond .eq 11, 3) := dk_153 0 11 (dk_at dksX0_put_4 0 rfl rfl)
theorem dX0_put_97 : decode cX0_put 97 = .ok (.aload_n 3, 1) := dk_45 (dk_at dksX0_put_4 3 rfl rfl)
theorem dX0_put_98 : decode cX0_put 98 = .ok (.iconst 2, 1) := dk_5 (dk_at dksX0_put_4 4 rfl rfl)
theorem dX0_put_99 : decode cX0_put 99 = .ok (.putfield 445, 3) := dk_181 1 189 (dk_at dksX0_put_4 5 rfl rfl)
theorem dX0_put_102 : decode cX0_put 102 = .ok (.goto 8, 3) := dk_167 0 8 (dk_at dksX0_put_4 8 rfl rfl)
theorem dX0_put_105 : decode cX0_put 105 = .ok (.aload_n 0, 1) := dk_42 (dk_at dksX0_put_4 11 rfl rfl)
theorem dX0_put_106 : decode cX0_put 106 = .ok (.aload_n 3, 1) := dk_45 (dk_at dksX0_put_4 12 rfl rfl)
theorem dX0_put_107 : decode cX0_put 107 = .ok (.invokevirtual 482, 3) := dk_182 1 226 (dk_at dksX0_put_4 13 rfl rfl)
theorem dX0_put_110 : decode cX0_put 110 = .ok (.aload_n 0, 1) := dk_42 (dk_at dksX0_put_4 16 rfl rfl)
theorem dX0_put_111 : decode cX0_put 111 = .ok (.bipush 21, 2) := dk_16 21 (dk_at dksX0_put_4 17 rfl rfl)
theorem dX0_put_113 : decode cX0_put 113 = .ok (.aload_n 3, 1) := dk_45 (dk_at dksX0_put_4 19 rfl rfl)
theorem dX0_put_114 : decode cX0_put 114 = .ok (.getfield 442, 3) := dk_180 1 186 (dk_at dksX0_put_4 20 rfl rfl)
theorem dX0_put_117 : decode cX0_put 117 = .ok (.iconst 0, 1) := dk_3 (dk_at dksX0_put_4 23 rfl rfl)
theorem dX0_put_118 : decode cX0_put 118 = .ok (.iconst 0, 1) := dk_3 (dk_at dksX0_put_5 0 rfl rfl)
theorem dX0_put_119 : decode cX0_put 119 = .ok (.iconst 0, 1) := dk_3 (dk_at dksX0_put_5 1 rfl rfl)
theorem dX0_put_120 : decode cX0_put 120 = .ok (.invokevirtual 173, 3) := dk_182 0 173 (dk_at dksX0_put_5 2 rfl rfl)
theorem dX0_put_123 : decode cX0_put 123 = .ok (.aload_n 3, 1) := dk_45 (dk_at dksX0_put_5 5 rfl rfl)
theorem dX0_put_124 : decode cX0_put 124 = .ok (.getfield 445, 3) := dk_180 1 189 (dk_at dksX0_put_5 6 rfl rfl)
theorem dX0_put_127 : decode cX0_put 127 = .ok (.ireturn, 1) := dk_172 (dk_at dksX0_put_5 9 rfl rfl)
