set_option maxRecDepth 100000
set_option maxRecDepth 100000
abbrev cX8_init : ByteArray := prog_5_method_1_code
def yX8_init : MethodName := ⟨RX8, "<init>", "()V"⟩
def dkwX8_init_13 : List UInt8 := [16, 60, 188, 4, 181, 0, 125, 42, 16, 9, 188, 11, 181, 0, 128, 177]
abbrev dktX8_init_13 : List UInt8 := dkwX8_init_13 ++ []
def dkwX8_init_12 : List UInt8 := [16, 9, 188, 10, 181, 0, 116, 42, 16, 9, 188, 10, 181, 0, 119, 42, 16, 8, 188, 10, 181, 0, 122, 42]
abbrev dktX8_init_12 : List UInt8 := dkwX8_init_12 ++ dktX8_init_13
def dkwX8_init_11 : List UInt8 := [16, 9, 188, 10, 181, 0, 107, 42, 16, 9, 188, 4, 181, 0, 110, 42, 16, 9, 188, 10, 181, 0, 113, 42]
abbrev dktX8_init_11 : List UInt8 := dkwX8_init_11 ++ dktX8_init_12
def dkwX8_init_10 : List UInt8 := [16, 81, 188, 10, 181, 0, 98, 42, 16, 9, 188, 10, 181, 0, 101, 42, 16, 9, 188, 10, 181, 0, 104, 42]
abbrev dktX8_init_10 : List UInt8 := dkwX8_init_10 ++ dktX8_init_11
def dkwX8_init_9 : List UInt8 := [197, 0, 24, 2, 181, 0, 89, 42, 16, 9, 188, 4, 181, 0, 92, 42, 16, 81, 188, 10, 181, 0, 95, 42]
abbrev dktX8_init_9 : List UInt8 := dkwX8_init_9 ++ dktX8_init_10
def dkwX8_init_8 : List UInt8 := [197, 0, 81, 2, 181, 0, 83, 42, 16, 9, 16, 9, 197, 0, 81, 2, 181, 0, 86, 42, 16, 9, 16, 9]
abbrev dktX8_init_8 : List UInt8 := dkwX8_init_8 ++ dktX8_init_9
def dkwX8_init_7 : List UInt8 := [16, 9, 188, 11, 181, 0, 75, 42, 16, 9, 16, 9, 197, 0, 24, 2, 181, 0, 78, 42, 16, 9, 16, 9]
abbrev dktX8_init_7 : List UInt8 := dkwX8_init_7 ++ dktX8_init_8
def dkwX8_init_6 : List UInt8 := [16, 60, 188, 11, 181, 0, 66, 42, 16, 60, 188, 10, 181, 0, 69, 42, 16, 9, 188, 4, 181, 0, 72, 42]
abbrev dktX8_init_6 : List UInt8 := dkwX8_init_6 ++ dktX8_init_7
def dkwX8_init_5 : List UInt8 := [197, 0, 15, 2, 181, 0, 57, 42, 16, 60, 188, 8, 181, 0, 60, 42, 16, 60, 188, 8, 181, 0, 63, 42]
abbrev dktX8_init_5 : List UInt8 := dkwX8_init_5 ++ dktX8_init_6
def dkwX8_init_4 : List UInt8 := [181, 0, 48, 42, 16, 9, 188, 4, 181, 0, 51, 42, 16, 9, 188, 4, 181, 0, 54, 42, 16, 9, 16, 60]
abbrev dktX8_init_4 : List UInt8 := dkwX8_init_4 ++ dktX8_init_5
def dkwX8_init_3 : List UInt8 := [181, 0, 39, 42, 16, 40, 188, 10, 181, 0, 42, 42, 16, 40, 188, 10, 181, 0, 45, 42, 16, 9, 188, 10]
abbrev dktX8_init_3 : List UInt8 := dkwX8_init_3 ++ dktX8_init_4
def dkwX8_init_2 : List UInt8 := [188, 10, 181, 0, 29, 42, 16, 9, 188, 11, 181, 0, 33, 42, 16, 40, 16, 9, 197, 0, 37, 2]
abbrev dktX8_init_2 : List UInt8 := dkwX8_init_2 ++ dktX8_init_3
def dkwX8_init_1 : List UInt8 := [42, 16, 9, 188, 8, 181, 0, 20, 42, 16, 60, 16, 9, 197, 0, 24, 2, 181, 0, 26, 42, 16, 60]
abbrev dktX8_init_1 : List UInt8 := dkwX8_init_1 ++ dktX8_init_2
def dkwX8_init_0 : List UInt8 := [42, 183, 0, 3, 42, 16, 9, 188, 4, 181, 0, 9, 42, 16, 60, 16, 9, 197, 0, 15, 2, 181, 0, 17]
abbrev dktX8_init_0 : List UInt8 := dkwX8_init_0 ++ dktX8_init_1
theorem dksX8_init_0 : cX8_init.data.toList.drop 0 = dktX8_init_0 := by decide +kernel
theorem dksX8_init_1 : cX8_init.data.toList.drop 24 = dktX8_init_1 := dk_seg dksX8_init_0 24 rfl rfl
theorem dksX8_init_2 : cX8_init.data.toList.drop 47 = dktX8_init_2 := dk_seg dksX8_init_1 23 rfl rfl
theorem dksX8_init_3 : cX8_init.data.toList.drop 69 = dktX8_init_3 := dk_seg dksX8_init_2 22 rfl rfl
theorem dksX8_init_4 : cX8_init.data.toList.drop 93 = dktX8_init_4 := dk_seg dksX8_init_3 24 rfl rfl
theorem dksX8_init_5 : cX8_init.data.toList.drop 117 = dktX8_init_5 := dk_seg dksX8_init_4 24 rfl rfl
theorem dksX8_init_6 : cX8_init.data.toList.drop 141 = dktX8_init_6 := dk_seg dksX8_init_5 24 rfl rfl
theorem dksX8_init_7 : cX8_init.data.toList.drop 165 = dktX8_init_7 := dk_seg dksX8_init_6 24 rfl rfl
theorem dksX8_init_8 : cX8_init.data.toList.drop 189 = dktX8_init_8 := dk_seg dksX8_init_7 24 rfl rfl
theorem dksX8_init_9 : cX8_init.data.toList.drop 213 = dktX8_init_9 := dk_seg dksX8_init_8 24 rfl rfl
theorem dksX8_init_10 : cX8_init.data.toList.drop 237 = dktX8_init_10 := dk_seg dksX8_init_9 24 rfl rfl
theorem dksX8_init_11 : cX8_init.data.toList.drop 261 = dktX8_init_11 := dk_seg dksX8_init_10 24 rfl rfl
theorem dksX8_init_12 : cX8_init.data.toList.drop 285 = dktX8_init_12 := dk_seg dksX8_init_11 24 rfl rfl
theorem dksX8_init_13 : cX8_init.data.toList.drop 309 = dktX8_init_13 := dk_seg dksX8_init_12 24 rfl rfl
theorem dX8_init_0 : decode cX8_init 0 = .ok (.aload_n 0, 1) := dk_42 (dk_at dksX8_init_0 0 rfl rfl)
theorem dX8_init_1 : decode cX8_init 1 = .ok (.invokespecial 3, 3) := dk_183 0 3 (dk_at dksX8_init_0 1 rfl rfl)
theorem dX8_init_4 : decode cX8_init 4 = .ok (.aload_n 0, 1) := dk_42 (dk_at dksX8_init_0 4 rfl rfl)
theorem dX8_init_5 : decode cX8_init 5 = .ok (.bipush 9, 2) := dk_16 9 (dk_at dksX8_init_0 5 rfl rfl)
theorem dX8_init_7 : decode cX8_init 7 = .ok (.newarray .boolean, 2) := dk_188_4 (dk_at dksX8_init_0 7 rfl rfl)
theorem dX8_init_9 : decode cX8_init 9 = .ok (.putfield 9, 3) := dk_181 0 9 (dk_at dksX8_init_0 9 rfl rfl)
theorem dX8_init_12 : decode cX8_init 12 = .ok (.aload_n 0, 1) := dk_42 (dk_at dksX8_init_0 12 rfl rfl)
theorem dX8_init_13 : decode cX8_init 13 = .ok (.bipush 60, 2) := dk_16 60 (dk_at dksX8_init_0 13 rfl rfl)
theorem dX8_init_15 : decode cX8_init 15 = .ok (.bipush 9, 2) := dk_16 9 (dk_at dksX8_init_0 15 rfl rfl)
theorem dX8_init_17 : decode cX8_init 17 = .ok (.multianewarray 15 2, 4) := by decide +kernel
theorem dX8_init_21 : decode cX8_init 21 = .ok (.putfield 17, 3) := dk_181 0 17 (dk_at dksX8_init_0 21 rfl rfl)
theorem dX8_init_24 : decode cX8_init 24 = .ok (.aload_n 0, 1) := dk_42 (dk_at dksX8_init_1 0 rfl rfl)
theorem dX8_init_25 : decode cX8_init 25 = .ok (.bipush 9, 2) := dk_16 9 (dk_at dksX8_init_1 1 rfl rfl)
theorem dX8_init_27 : decode cX8_init 27 = .ok (.newarray .byte, 2) := dk_188_8 (dk_at dksX8_init_1 3 rfl rfl)
theorem dX8_init_29 : decode cX8_init 29 = .ok (.putfield 20, 3) := dk_181 0 20 (dk_at dksX8_init_1 5 rfl rfl)
theorem dX8_init_32 : decode cX8_init 32 = .ok (.aload_n 0, 1) := dk_42 (dk_at dksX8_init_1 8 rfl rfl)
theorem dX8_init_33 : decode cX8_init 33 = .ok (.bipush 60, 2) := dk_16 60 (dk_at dksX8_init_1 9 rfl rfl)
theorem dX8_init_35 : decode cX8_init 35 = .ok (.bipush 9, 2) := dk_16 9 (dk_at dksX8_init_1 11 rfl rfl)
theorem dX8_init_37 : decode cX8_init 37 = .ok (.multianewarray 24 2, 4) := by decide +kernel
theorem dX8_init_41 : decode cX8_init 41 = .ok (.putfield 26, 3) := dk_181 0 26 (dk_at dksX8_init_1 17 rfl rfl)
theorem dX8_init_44 : decode cX8_init 44 = .ok (.aload_n 0, 1) := dk_42 (dk_at dksX8_init_1 20 rfl rfl)
theorem dX8_init_45 : decode cX8_init 45 = .ok (.bipush 60, 2) := dk_16 60 (dk_at dksX8_init_1 21 rfl rfl)
theorem dX8_init_47 : decode cX8_init 47 = .ok (.newarray .int, 2) := dk_188_10 (dk_at dksX8_init_2 0 rfl rfl)
theorem dX8_init_49 : decode cX8_init 49 = .ok (.putfield 29, 3) := dk_181 0 29 (dk_at dksX8_init_2 2 rfl rfl)
theorem dX8_init_52 : decode cX8_init 52 = .ok (.aload_n 0, 1) := dk_42 (dk_at dksX8_init_2 5 rfl rfl)
theorem dX8_init_53 : decode cX8_init 53 = .ok (.bipush 9, 2) := dk_16 9 (dk_at dksX8_init_2 6 rfl rfl)
theorem dX8_init_55 : decode cX8_init 55 = .ok (.newarray .long, 2) := dk_188_11 (dk_at dksX8_init_2 8 rfl rfl)
theorem dX8_init_57 : decode cX8_init 57 = .ok (.putfield 33, 3) := dk_181 0 33 (dk_at dksX8_init_2 10 rfl rfl)
theorem dX8_init_60 : decode cX8_init 60 = .ok (.aload_n 0, 1) := dk_42 (dk_at dksX8_init_2 13 rfl rfl)
theorem dX8_init_61 : decode cX8_init 61 = .ok (.bipush 40, 2) := dk_16 40 (dk_at dksX8_init_2 14 rfl rfl)
theorem dX8_init_63 : decode cX8_init 63 = .ok (.bipush 9, 2) := dk_16 9 (dk_at dksX8_init_2 16 rfl rfl)
theorem dX8_init_65 : decode cX8_init 65 = .ok (.multianewarray 37 2, 4) := by decide +kernel
theorem dX8_init_69 : decode cX8_init 69 = .ok (.putfield 39, 3) := dk_181 0 39 (dk_at dksX8_init_3 0 rfl rfl)
theorem dX8_init_72 : decode cX8_init 72 = .ok (.aload_n 0, 1) := dk_42 (dk_at dksX8_init_3 3 rfl rfl)
theorem dX8_init_73 : decode cX8_init 73 = .ok (.bipush 40, 2) := dk_16 40 (dk_at dksX8_init_3 4 rfl rfl)
theorem dX8_init_75 : decode cX8_init 75 = .ok (.newarray .int, 2) := dk_188_10 (dk_at dksX8_init_3 6 rfl rfl)
theorem dX8_init_77 : decode cX8_init 77 = .ok (.putfield 42, 3) := dk_181 0 42 (dk_at dksX8_init_3 8 rfl rfl)
theorem dX8_init_80 : decode cX8_init 80 = .ok (.aload_n 0, 1) := dk_42 (dk_at dksX8_init_3 11 rfl rfl)
theorem dX8_init_81 : decode cX8_init 81 = .ok (.bipush 40, 2) := dk_16 40 (dk_at dksX8_init_3 12 rfl rfl)
theorem dX8_init_83 : decode cX8_init 83 = .ok (.newarray .int, 2) := dk_188_10 (dk_at dksX8_init_3 14 rfl rfl)
theorem dX8_init_85 : decode cX8_init 85 = .ok (.putfield 45, 3) := dk_181 0 45 (dk_at dksX8_init_3 16 rfl rfl)
theorem dX8_init_88 : decode cX8_init 88 = .ok (.aload_n 0, 1) := dk_42 (dk_at dksX8_init_3 19 rfl rfl)
theorem dX8_init_89 : decode cX8_init 89 = .ok (.bipush 9, 2) := dk_16 9 (dk_at dksX8_init_3 20 rfl rfl)
theorem dX8_init_91 : decode cX8_init 91 = .ok (.newarray .int, 2) := dk_188_10 (dk_at dksX8_init_3 22 rfl rfl)
theorem dX8_init_93 : decode cX8_init 93 = .ok (.putfield 48, 3) := dk_181 0 48 (dk_at dksX8_init_4 0 rfl rfl)
theorem dX8_init_96 : decode cX8_init 96 = .ok (.aload_n 0, 1) := dk_42 (dk_at dksX8_init_4 3 rfl rfl)
theorem dX8_init_97 : decode cX8_init 97 = .ok (.bipush 9, 2) := dk_16 9 (dk_at dksX8_init_4 4 rfl rfl)
theorem dX8_init_99 : decode cX8_init 99 = .ok (.newarray .boolean, 2) := dk_188_4 (dk_at dksX8_init_4 6 rfl rfl)
theorem dX8_init_101 : decode cX8_init 101 = .ok (.putfield 51, 3) := dk_181 0 51 (dk_at dksX8_init_4 8 rfl rfl)
theorem dX8_init_104 : decode cX8_init 104 = .ok (.aload_n 0, 1) := dk_42 (dk_at dksX8_init_4 11 rfl rfl)
theorem dX8_init_105 : decode cX8_init 105 = .ok (.bipush 9, 2) := dk_16 9 (dk_at dksX8_init_4 12 rfl rfl)
theorem dX8_init_107 : decode cX8_init 107 = .ok (.newarray .boolean, 2) := dk_188_4 (dk_at dksX8_init_4 14 rfl rfl)
theorem dX8_init_109 : decode cX8_init 109 = .ok (.putfield 54, 3) := dk_181 0 54 (dk_at dksX8_init_4 16 rfl rfl)
theorem dX8_init_112 : decode cX8_init 112 = .ok (.aload_n 0, 1) := dk_42 (dk_at dksX8_init_4 19 rfl rfl)
theorem dX8_init_113 : decode cX8_init 113 = .ok (.bipush 9, 2) := dk_16 9 (dk_at dksX8_init_4 20 rfl rfl)
theorem dX8_init_115 : decode cX8_init 115 = .ok (.bipush 60, 2) := dk_16 60 (dk_at dksX8_init_4 22 rfl rfl)
theorem dX8_init_117 : decode cX8_init 117 = .ok (.multianewarray 15 2, 4) := by decide +kernel
theorem dX8_init_121 : decode cX8_init 121 = .ok (.putfield 57, 3) := dk_181 0 57 (dk_at dksX8_init_5 4 rfl rfl)
theorem dX8_init_124 : decode cX8_init 124 = .ok (.aload_n 0, 1) := dk_42 (dk_at dksX8_init_5 7 rfl rfl)
theorem dX8_init_125 : decode cX8_init 125 = .ok (.bipush 60, 2) := dk_16 60 (dk_at dksX8_init_5 8 rfl rfl)
theorem dX8_init_127 : decode cX8_init 127 = .ok (.newarray .byte, 2) := dk_188_8 (dk_at dksX8_init_5 10 rfl rfl)
theorem dX8_init_129 : decode cX8_init 129 = .ok (.putfield 60, 3) := dk_181 0 60 (dk_at dksX8_init_5 12 rfl rfl)
theorem dX8_init_132 : decode cX8_init 132 = .ok (.aload_n 0, 1) := dk_42 (dk_at dksX8_init_5 15 rfl rfl)
theorem dX8_init_133 : decode cX8_init 133 = .ok (.bipush 60, 2) := dk_16 60 (dk_at dksX8_init_5 16 rfl rfl)
theorem dX8_init_135 : decode cX8_init 135 = .ok (.newarray .byte, 2) := dk_188_8 (dk_at dksX8_init_5 18 rfl rfl)
theorem dX8_init_137 : decode cX8_init 137 = .ok (.putfield 63, 3) := dk_181 0 63 (dk_at dksX8_init_5 20 rfl rfl)
theorem dX8_init_140 : decode cX8_init 140 = .ok (.aload_n 0, 1) := dk_42 (dk_at dksX8_init_5 23 rfl rfl)
theorem dX8_init_141 : decode cX8_init 141 = .ok (.bipush 60, 2) := dk_16 60 (dk_at dksX8_init_6 0 rfl rfl)
theorem dX8_init_143 : decode cX8_init 143 = .ok (.newarray .long, 2) := dk_188_11 (dk_at dksX8_init_6 2 rfl rfl)
theorem dX8_init_145 : decode cX8_init 145 = .ok (.putfield 66, 3) := dk_181 0 66 (dk_at dksX8_init_6 4 rfl rfl)
theorem dX8_init_148 : decode cX8_init 148 = .ok (.aload_n 0, 1) := dk_42 (dk_at dksX8_init_6 7 rfl rfl)
theorem dX8_init_149 : decode cX8_init 149 = .ok (.bipush 60, 2) := dk_16 60 (dk_at dksX8_init_6 8 rfl rfl)
theorem dX8_init_151 : decode cX8_init 151 = .ok (.newarray .int, 2) := dk_188_10 (dk_at dksX8_init_6 10 rfl rfl)
theorem dX8_init_153 : decode cX8_init 153 = .ok (.putfield 69, 3) := dk_181 0 69 (dk_at dksX8_init_6 12 rfl rfl)
theorem dX8_init_156 : decode cX8_init 156 = .ok (.aload_n 0, 1) := dk_42 (dk_at dksX8_init_6 15 rfl rfl)
theorem dX8_init_157 : decode cX8_init 157 = .ok (.bipush 9, 2) := dk_16 9 (dk_at dksX8_init_6 16 rfl rfl)
theorem dX8_init_159 : decode cX8_init 159 = .ok (.newarray .boolean, 2) := dk_188_4 (dk_at dksX8_init_6 18 rfl rfl)
theorem dX8_init_161 : decode cX8_init 161 = .ok (.putfield 72, 3) := dk_181 0 72 (dk_at dksX8_init_6 20 rfl rfl)
theorem dX8_init_164 : decode cX8_init 164 = .ok (.aload_n 0, 1) := dk_42 (dk_at dksX8_init_6 23 rfl rfl)
theorem dX8_init_165 : decode cX8_init 165 = .ok (.bipush 9, 2) := dk_16 9 (dk_at dksX8_init_7 0 rfl rfl)
theorem dX8_init_167 : decode cX8_init 167 = .ok (.newarray .long, 2) := dk_188_11 (dk_at dksX8_init_7 2 rfl rfl)
theorem dX8_init_169 : decode cX8_init 169 = .ok (.putfield 75, 3) := dk_181 0 75 (dk_at dksX8_init_7 4 rfl rfl)
theorem dX8_init_172 : decode cX8_init 172 = .ok (.aload_n 0, 1) := dk_42 (dk_at dksX8_init_7 7 rfl rfl)
theorem dX8_init_173 : decode cX8_init 173 = .ok (.bipush 9, 2) := dk_16 9 (dk_at dksX8_init_7 8 rfl rfl)
theorem dX8_init_175 : decode cX8_init 175 = .ok (.bipush 9, 2) := dk_16 9 (dk_at dksX8_init_7 10 rfl rfl)
theorem dX8_init_177 : decode cX8_init 177 = .ok (.multianewarray 24 2, 4) := by decide +kernel
theorem dX8_init_181 : decode cX8_init 181 = .ok (.putfield 78, 3) := dk_181 0 78 (dk_at dksX8_init_7 16 rfl rfl)
theorem dX8_init_184 : decode cX8_init 184 = .ok (.aload_n 0, 1) := dk_42 (dk_at dksX8_init_7 19 rfl rfl)
theorem dX8_init_185 : decode cX8_init 185 = .ok (.bipush 9, 2) := dk_16 9 (dk_at dksX8_init_7 20 rfl rfl)
theorem dX8_init_187 : decode cX8_init 187 = .ok (.bipush 9, 2) := dk_16 9 (dk_at dksX8_init_7 22 rfl rfl)
theorem dX8_init_189 : decode cX8_init 189 = .ok (.multianewarray 81 2, 4) := by decide +kernel
theorem dX8_init_193 : decode cX8_init 193 = .ok (.putfield 83, 3) := dk_181 0 83 (dk_at dksX8_init_8 4 rfl rfl)
theorem dX8_init_196 : decode cX8_init 196 = .ok (.aload_n 0, 1) := dk_42 (dk_at dksX8_init_8 7 rfl rfl)
theorem dX8_init_197 : decode cX8_init 197 = .ok (.bipush 9, 2) := dk_16 9 (dk_at dksX8_init_8 8 rfl rfl)
theorem dX8_init_199 : decode cX8_init 199 = .ok (.bipush 9, 2) := dk_16 9 (dk_at dksX8_init_8 10 rfl rfl)
theorem dX8_init_201 : decode cX8_init 201 = .ok (.multianewarray 81 2, 4) := by decide +kernel
theorem dX8_init_205 : decode cX8_init 205 = .ok (.putfield 86, 3) := dk_181 0 86 (dk_at dksX8_init_8 16 rfl rfl)
theorem dX8_init_208 : decode cX8_init 208 = .ok (.aload_n 0, 1) := dk_42 (dk_at dksX8_init_8 19 rfl rfl)
theorem dX8_init_209 : decode cX8_init 209 = .ok (.bipush 9, 2) := dk_16 9 (dk_at dksX8_init_8 20 rfl rfl)
theorem dX8_init_211 : decode cX8_init 211 = .ok (.bipush 9, 2) := dk_16 9 (dk_at dksX8_init_8 22 rfl rfl)
theorem dX8_init_213 : decode cX8_init 213 = .ok (.multianewarray 24 2, 4) := by decide +kernel
theorem dX8_init_217 : decode cX8_init 217 = .ok (.putfield 89, 3) := dk_181 0 89 (dk_at dksX8_init_9 4 rfl rfl)
theorem dX8_init_220 : decode cX8_init 220 = .ok (.aload_n 0, 1) := dk_42 (dk_at dksX8_init_9 7 rfl rfl)
theorem dX8_init_221 : decode cX8_init 221 = .ok (.bipush 9, 2) := dk_16 9 (dk_at dksX8_init_9 8 rfl rfl)
theorem dX8_init_223 : decode cX8_init 223 = .ok (.newarray .boolean, 2) := dk_188_4 (dk_at dksX8_init_9 10 rfl rfl)
theorem dX8_init_225 : decode cX8_init 225 = .ok (.putfield 92, 3) := dk_181 0 92 (dk_at dksX8_init_9 12 rfl rfl)
theorem dX8_init_228 : decode cX8_init 228 = .ok (.aload_n 0, 1) := dk_42 (dk_at dksX8_init_9 15 rfl rfl)
theorem dX8_init_229 : decode cX8_init 229 = .ok (.bipush 81, 2) := dk_16 81 (dk_at dksX8_init_9 16 rfl rfl)
theorem dX8_init_231 : decode cX8_init 231 = .ok (.newarray .int, 2) := dk_188_10 (dk_at dksX8_init_9 18 rfl rfl)
theorem dX8_init_233 : decode cX8_init 233 = .ok (.putfield 95, 3) := dk_181 0 95 (dk_at dksX8_init_9 20 rfl rfl)
theorem dX8_init_236 : decode cX8_init 236 = .ok (.aload_n 0, 1) := dk_42 (dk_at dksX8_init_9 23 rfl rfl)
theorem dX8_init_237 : decode cX8_init 237 = .ok (.bipush 81, 2) := dk_16 81 (dk_at dksX8_init_10 0 rfl rfl)
theorem dX8_init_239 : decode cX8_init 239 = .ok (.newarray .int, 2) := dk_188_10 (dk_at dksX8_init_10 2 rfl rfl)
theorem dX8_init_241 : decode cX8_init 241 = .ok (.putfield 98, 3) := dk_181 0 98 (dk_at dksX8_init_10 4 rfl rfl)
theorem dX8_init_244 : decode cX8_init 244 = .ok (.aload_n 0, 1) := dk_42 (dk_at dksX8_init_10 7 rfl rfl)
theorem dX8_init_245 : decode cX8_init 245 = .ok (.bipush 9, 2) := dk_16 9 (dk_at dksX8_init_10 8 rfl rfl)
theorem dX8_init_247 : decode cX8_init 247 = .ok (.newarray .int, 2) := dk_188_10 (dk_at dksX8_init_10 10 rfl rfl)
theorem dX8_init_249 : decode cX8_init 249 = .ok (.putfield 101, 3) := dk_181 0 101 (dk_at dksX8_init_10 12 rfl rfl)
theorem dX8_init_252 : decode cX8_init 252 = .ok (.aload_n 0, 1) := dk_42 (dk_at dksX8_init_10 15 rfl rfl)
theorem dX8_init_253 : decode cX8_init 253 = .ok (.bipush 9, 2) := dk_16 9 (dk_at dksX8_init_10 16 rfl rfl)
theorem dX8_init_255 : decode cX8_init 255 = .ok (.newarray .int, 2) := dk_188_10 (dk_at dksX8_init_10 18 rfl rfl)
theorem dX8_init_257 : decode cX8_init 257 = .ok (.putfield 104, 3) := dk_181 0 104 (dk_at dksX8_init_10 20 rfl rfl)
theorem dX8_init_260 : decode cX8_init 260 = .ok (.aload_n 0, 1) := dk_42 (dk_at dksX8_init_10 23 rfl rfl)
theorem dX8_init_261 : decode cX8_init 261 = .ok (.bipush 9, 2) := dk_16 9 (dk_at dksX8_init_11 0 rfl rfl)
theorem dX8_init_263 : decode cX8_init 263 = .ok (.newarray .int, 2) := dk_188_10 (dk_at dksX8_init_11 2 rfl rfl)
theorem dX8_init_265 : decode cX8_init 265 = .ok (.putfield 107, 3) := dk_181 0 107 (dk_at dksX8_init_11 4 rfl rfl)
theorem dX8_init_268 : decode cX8_init 268 = .ok (.aload_n 0, 1) := dk_42 (dk_at dksX8_init_11 7 rfl rfl)
theorem dX8_init_269 : decode cX8_init 269 = .ok (.bipush 9, 2) := dk_16 9 (dk_at dksX8_init_11 8 rfl rfl)
theorem dX8_init_271 : decode cX8_init 271 = .ok (.newarray .boolean, 2) := dk_188_4 (dk_at dksX8_init_11 10 rfl rfl)
theorem dX8_init_273 : decode cX8_init 273 = .ok (.putfield 110, 3) := dk_181 0 110 (dk_at dksX8_init_11 12 rfl rfl)
theorem dX8_init_276 : decode cX8_init 276 = .ok (.aload_n 0, 1) := dk_42 (dk_at dksX8_init_11 15 rfl rfl)
theorem dX8_init_277 : decode cX8_init 277 = .ok (.bipush 9, 2) := dk_16 9 (dk_at dksX8_init_11 16 rfl rfl)
theorem dX8_init_279 : decode cX8_init 279 = .ok (.newarray .int, 2) := dk_188_10 (dk_at dksX8_init_11 18 rfl rfl)
theorem dX8_init_281 : decode cX8_init 281 = .ok (.putfield 113, 3) := dk_181 0 113 (dk_at dksX8_init_11 20 rfl rfl)
theorem dX8_init_284 : decode cX8_init 284 = .ok (.aload_n 0, 1) := dk_42 (dk_at dksX8_init_11 23 rfl rfl)
theorem dX8_init_285 : decode cX8_init 285 = .ok (.bipush 9, 2) := dk_16 9 (dk_at dksX8_init_12 0 rfl rfl)
theorem dX8_init_287 : decode cX8_init 287 = .ok (.newarray .int, 2) := dk_188_10 (dk_at dksX8_init_12 2 rfl rfl)
theorem dX8_init_289 : decode cX8_init 289 = .ok (.putfield 116, 3) := dk_181 0 116 (dk_at dksX8_init_12 4 rfl rfl)
theorem dX8_init_292 : decode cX8_init 292 = .ok (.aload_n 0, 1) := dk_42 (dk_at dksX8_init_12 7 rfl rfl)
theorem dX8_init_293 : decode cX8_init 293 = .ok (.bipush 9, 2) := dk_16 9 (dk_at dksX8_init_12 8 rfl rfl)
theorem dX8_init_295 : decode cX8_init 295 = .ok (.newarray .int, 2) := dk_188_10 (dk_at dksX8_init_12 10 rfl rfl)
theorem dX8_init_297 : decode cX8_init 297 = .ok (.putfield 119, 3) := dk_181 0 119 (dk_at dksX8_init_12 12 rfl rfl)
theorem dX8_init_300 : decode cX8_init 300 = .ok (.aload_n 0, 1) := dk_42 (dk_at dksX8_init_12 15 rfl rfl)
theorem dX8_init_301 : decode cX8_init 301 = .ok (.bipush 8, 2) := dk_16 8 (dk_at dksX8_init_12 16 rfl rfl)
theorem dX8_init_303 : decode cX8_init 303 = .ok (.newarray .int, 2) := dk_188_10 (dk_at dksX8_init_12 18 rfl rfl)
theorem dX8_init_305 : decode cX8_init 305 = .ok (.putfield 122, 3) := dk_181 0 122 (dk_at dksX8_init_12 20 rfl rfl)
theorem dX8_init_308 : decode cX8_init 308 = .ok (.aload_n 0, 1) := dk_42 (dk_at dksX8_init_12 23 rfl rfl)
theorem dX8_init_309 : decode cX8_init 309 = .ok (.bipush 60, 2) := dk_16 60 (dk_at dksX8_init_13 0 rfl rfl)
theorem dX8_init_311 : decode cX8_init 311 = .ok (.newarray .boolean, 2) := dk_188_4 (dk_at dksX8_init_13 2 rfl rfl)
theorem dX8_init_313 : decode cX8_init 313 = .ok (.putfield 125, 3) := dk_181 0 125 (dk_at dksX8_init_13 4 rfl rfl)
theorem dX8_init_316 : decode cX8_init 316 = .ok (.aload_n 0, 1) := dk_42 (dk_at dksX8_init_13 7 rfl rfl)
theorem dX8_init_317 : decode cX8_init 317 = .ok (.bipush 9, 2) := dk_16 9 (dk_at dksX8_init_13 8 rfl rfl)
theorem dX8_init_319 : decode cX8_init 319 = .ok (.newarray .long, 2) := dk_188_11 (dk_at dksX8_init_13 10 rfl rfl)
theorem dX8_init_321 : decode cX8_init 321 = .ok (.putfield 128, 3) := dk_181 0 128 (dk_at dksX8_init_13 12 rfl rfl)
theorem dX8_init_324 : decode cX8_init 324 = .ok (.return_, 1) := dk_177 (dk_at dksX8_init_13 15 rfl rfl)
abbrev cX8_beginFirsts : ByteArray := prog_5_method_79_code
def yX8_beginFirsts : MethodName := ⟨RX8, "beginFirsts", "()V"⟩
def dkwX8_beginFirsts_0 : List UInt8 := [42, 180, 0, 122, 3, 184, 1, 163, 42, 180, 0, 125, 3, 184, 1, 31, 42, 3, 181, 1, 200, 177]
abbrev dktX8_beginFirsts_0 : List UInt8 := dkwX8_beginFirsts_0 ++ []
theorem dksX8_beginFirsts_0 : cX8_beginFirsts.data.toList.drop 0 = dktX8_beginFirsts_0 := by decide +kernel
theorem dX8_beginFirsts_0 : decode cX8_beginFirsts 0 = .ok (.aload_n 0, 1) := dk_42 (dk_at dksX8_beginFirsts_0 0 rfl rfl)
theorem dX8_beginFirsts_1 : decode cX8_beginFirsts 1 = .ok (.getfield 122, 3) := dk_180 0 122 (dk_at dksX8_beginFirsts_0 1 rfl rfl)
theorem dX8_beginFirsts_4 : decode cX8_beginFirsts 4 = .ok (.iconst 0, 1) := dk_3 (dk_at dksX8_beginFirsts_0 4 rfl rfl)
theorem dX8_beginFirsts_5 : decode cX8_beginFirsts 5 = .ok (.invokestatic 419, 3) := dk_184 1 163 (dk_at dksX8_beginFirsts_0 5 rfl rfl)
theorem dX8_beginFirsts_8 : decode cX8_beginFirsts 8 = .ok (.aload_n 0, 1) := dk_42 (dk_at dksX8_beginFirsts_0 8 rfl rfl)
theorem dX8_beginFirsts_9 : decode cX8_beginFirsts 9 = .ok (.getfield 125, 3) := dk_180 0 125 (dk_at dksX8_beginFirsts_0 9 rfl rfl)
theorem dX8_beginFirsts_12 : decode cX8_beginFirsts 12 = .ok (.iconst 0, 1) := dk_3 (dk_at dksX8_beginFirsts_0 12 rfl rfl)
theorem dX8_beginFirsts_13 : decode cX8_beginFirsts 13 = .ok (.invokestatic 287, 3) := dk_184 1 31 (dk_at dksX8_beginFirsts_0 13 rfl rfl)
theorem dX8_beginFirsts_16 : decode cX8_beginFirsts 16 = .ok (.aload_n 0, 1) := dk_42 (dk_at dksX8_beginFirsts_0 16 rfl rfl)
theorem dX8_beginFirsts_17 : decode cX8_beginFirsts 17 = .ok (.iconst 0, 1) := dk_3 (dk_at dksX8_beginFirsts_0 17 rfl rfl)
theorem dX8_beginFirsts_18 : decode cX8_beginFirsts 18 = .ok (.putfield 456, 3) := dk_181 1 200 (dk_at dksX8_beginFirsts_0 18 rfl rfl)
theorem dX8_beginFirsts_21 : decode cX8_beginFirsts 21 = .ok (.return_, 1) := dk_177 (dk_at dksX8_beginFirsts_0 21 rfl rfl)
abbrev cX8_begin : ByteArray := prog_5_method_2_code
def yX8_begin : MethodName := ⟨RX8, "begin", "(LElectionHouse$Way;LElectionHouse$Contest;I)V"⟩
def dkwX8_begin_5 : List UInt8 := [3, 181, 0, 161, 42, 3, 181, 0, 164, 42, 3, 181, 0, 167, 42, 3, 181, 0, 170, 177]
abbrev dktX8_begin_5 : List UInt8 := dkwX8_begin_5 ++ []
def dkwX8_begin_4 : List UInt8 := [180, 0, 54, 21, 4, 3, 84, 132, 4, 1, 167, 255, 182, 42, 3, 181, 0, 155, 42, 3, 181, 0, 158, 42]
abbrev dktX8_begin_4 : List UInt8 := dkwX8_begin_4 ++ dktX8_begin_5
def dkwX8_begin_3 : List UInt8 := [21, 4, 51, 153, 0, 7, 4, 167, 0, 4, 3, 96, 181, 0, 149, 42, 180, 0, 51, 21, 4, 3, 84, 42]
abbrev dktX8_begin_3 : List UInt8 := dkwX8_begin_3 ++ dktX8_begin_4
def dkwX8_begin_2 : List UInt8 := [180, 0, 152, 21, 4, 51, 154, 0, 7, 4, 167, 0, 4, 3, 84, 42, 89, 180, 0, 149, 42, 180, 0, 9]
abbrev dktX8_begin_2 : List UInt8 := dkwX8_begin_2 ++ dktX8_begin_3
def dkwX8_begin_1 : List UInt8 := [3, 181, 0, 149, 3, 54, 4, 21, 4, 42, 180, 0, 148, 162, 0, 71, 42, 180, 0, 9, 21, 4, 44]
abbrev dktX8_begin_1 : List UInt8 := dkwX8_begin_1 ++ dktX8_begin_2
def dkwX8_begin_0 : List UInt8 := [42, 43, 181, 0, 131, 42, 44, 181, 0, 135, 42, 29, 181, 0, 139, 42, 44, 180, 0, 143, 181, 0, 148, 42]
abbrev dktX8_begin_0 : List UInt8 := dkwX8_begin_0 ++ dktX8_begin_1
theorem dksX8_begin_0 : cX8_begin.data.toList.drop 0 = dktX8_begin_0 := by decide +kernel
theorem dksX8_begin_1 : cX8_begin.data.toList.drop 24 = dktX8_begin_1 := dk_seg dksX8_begin_0 24 rfl rfl
theorem dksX8_begin_2 : cX8_begin.data.toList.drop 47 = dktX8_begin_2 := dk_seg dksX8_begin_1 23 rfl rfl
theorem dksX8_begin_3 : cX8_begin.data.toList.drop 71 = dktX8_begin_3 := dk_seg dksX8_begin_2 24 rfl rfl
theorem dksX8_begin_4 : cX8_begin.data.toList.drop 95 = dktX8_begin_4 := dk_seg dksX8_begin_3 24 rfl rfl
theorem dksX8_begin_5 : cX8_begin.data.toList.drop 119 = dktX8_begin_5 := dk_seg dksX8_begin_4 24 rfl rfl
theorem dX8_begin_0 : decode cX8_begin 0 = .ok (.aload_n 0, 1) := dk_42 (dk_at dksX8_begin_0 0 rfl rfl)
theorem dX8_begin_1 : decode cX8_begin 1 = .ok (.aload_n 1, 1) := dk_43 (dk_at dksX8_begin_0 1 rfl rfl)
theorem dX8_begin_2 : decode cX8_begin 2 = .ok (.putfield 131, 3) := dk_181 0 131 (dk_at dksX8_begin_0 2 rfl rfl)
theorem dX8_begin_5 : decode cX8_begin 5 = .ok (.aload_n 0, 1) := dk_42 (dk_at dksX8_begin_0 5 rfl rfl)
theorem dX8_begin_6 : decode cX8_begin 6 = .ok (.aload_n 2, 1) := dk_44 (dk_at dksX8_begin_0 6 rfl rfl)
theorem dX8_begin_7 : decode cX8_begin 7 = .ok (.putfield 135, 3) := dk_181 0 135 (dk_at dksX8_begin_0 7 rfl rfl)
theorem dX8_begin_10 : decode cX8_begin 10 = .ok (.aload_n 0, 1) := dk_42 (dk_at dksX8_begin_0 10 rfl rfl)
theorem dX8_begin_11 : decode cX8_begin 11 = .ok (.iload_n 3, 1) := dk_29 (dk_at dksX8_begin_0 11 rfl rfl)
theorem dX8_begin_12 : decode cX8_begin 12 = .ok (.putfield 139, 3) := dk_181 0 139 (dk_at dksX8_begin_0 12 rfl rfl)
theorem dX8_begin_15 : decode cX8_begin 15 = .ok (.aload_n 0, 1) := dk_42 (dk_at dksX8_begin_0 15 rfl rfl)
theorem dX8_begin_16 : decode cX8_begin 16 = .ok (.aload_n 2, 1) := dk_44 (dk_at dksX8_begin_0 16 rfl rfl)
theorem dX8_begin_17 : decode cX8_begin 17 = .ok (.getfield 143, 3) := dk_180 0 143 (dk_at dksX8_begin_0 17 rfl rfl)
theorem dX8_begin_20 : decode cX8_begin 20 = .ok (.putfield 148, 3) := dk_181 0 148 (dk_at dksX8_begin_0 20 rfl rfl)
theorem dX8_begin_23 : decode cX8_begin 23 = .ok (.aload_n 0, 1) := dk_42 (dk_at dksX8_begin_0 23 rfl rfl)
theorem dX8_begin_24 : decode cX8_begin 24 = .ok (.iconst 0, 1) := dk_3 (dk_at dksX8_begin_1 0 rfl rfl)
theorem dX8_begin_25 : decode cX8_begin 25 = .ok (.putfield 149, 3) := dk_181 0 149 (dk_at dksX8_begin_1 1 rfl rfl)
theorem dX8_begin_28 : decode cX8_begin 28 = .ok (.iconst 0, 1) := dk_3 (dk_at dksX8_begin_1 4 rfl rfl)
theorem dX8_begin_29 : decode cX8_begin 29 = .ok (.istore 4, 2) := dk_54 4 (dk_at dksX8_begin_1 5 rfl rfl)
theorem dX8_begin_31 : decode cX8_begin 31 = .ok (.iload 4, 2) := dk_21 4 (dk_at dksX8_begin_1 7 rfl rfl)
theorem dX8_begin_33 : decode cX8_begin 33 = .ok (.aload_n 0, 1) := dk_42 (dk_at dksX8_begin_1 9 rfl rfl)
theorem dX8_begin_34 : decode cX8_begin 34 = .ok (.getfield 148, 3) := dk_180 0 148 (dk_at dksX8_begin_1 10 rfl rfl)
theorem dX8_begin_37 : decode cX8_begin 37 = .ok (.if_icmp .ge 71, 3) := dk_162 0 71 (dk_at dksX8_begin_1 13 rfl rfl)
theorem dX8_begin_40 : decode cX8_begin 40 = .ok (.aload_n 0, 1) := dk_42 (dk_at dksX8_begin_1 16 rfl rfl)
theorem dX8_begin_41 : decode cX8_begin 41 = .ok (.getfield 9, 3) := dk_180 0 9 (dk_at dksX8_begin_1 17 rfl rfl)
theorem dX8_begin_44 : decode cX8_begin 44 = .ok (.iload 4, 2) := dk_21 4 (dk_at dksX8_begin_1 20 rfl rfl)
theorem dX8_begin_46 : decode cX8_begin 46 = .ok (.aload_n 2, 1) := dk_44 (dk_at dksX8_begin_1 22 rfl rfl)
theorem dX8_begin_47 : decode cX8_begin 47 = .ok (.getfield 152, 3) := dk_180 0 152 (dk_at dksX8_begin_2 0 rfl rfl)
theorem dX8_begin_50 : decode cX8_begin 50 = .ok (.iload 4, 2) := dk_21 4 (dk_at dksX8_begin_2 3 rfl rfl)
theorem dX8_begin_52 : decode cX8_begin 52 = .ok (.baload, 1) := dk_51 (dk_at dksX8_begin_2 5 rfl rfl)
theorem dX8_begin_53 : decode cX8_begin 53 = .ok (.ifCond .ne 7, 3) := dk_154 0 7 (dk_at dksX8_begin_2 6 rfl rfl)
theorem dX8_begin_56 : decode cX8_begin 56 = .ok (.iconst 1, 1) := dk_4 (dk_at dksX8_begin_2 9 rfl rfl)
theorem dX8_begin_57 : decode cX8_begin 57 = .ok (.goto 4, 3) := dk_167 0 4 (dk_at dksX8_begin_2 10 rfl rfl)
theorem dX8_begin_60 : decode cX8_begin 60 = .ok (.iconst 0, 1) := dk_3 (dk_at dksX8_begin_2 13 rfl rfl)
theorem dX8_begin_61 : decode cX8_begin 61 = .ok (.bastore, 1) := dk_84 (dk_at dksX8_begin_2 14 rfl rfl)
theorem dX8_begin_62 : decode cX8_begin 62 = .ok (.aload_n 0, 1) := dk_42 (dk_at dksX8_begin_2 15 rfl rfl)
theorem dX8_begin_63 : decode cX8_begin 63 = .ok (.dup, 1) := dk_89 (dk_at dksX8_begin_2 16 rfl rfl)
theorem dX8_begin_64 : decode cX8_begin 64 = .ok (.getfield 149, 3) := dk_180 0 149 (dk_at dksX8_begin_2 17 rfl rfl)
theorem dX8_begin_67 : decode cX8_begin 67 = .ok (.aload_n 0, 1) := dk_42 (dk_at dksX8_begin_2 20 rfl rfl)
theorem dX8_begin_68 : decode cX8_begin 68 = .ok (.getfield 9, 3) := dk_180 0 9 (dk_at dksX8_begin_2 21 rfl rfl)
theorem dX8_begin_71 : decode cX8_begin 71 = .ok (.iload 4, 2) := dk_21 4 (dk_at dksX8_begin_3 0 rfl rfl)
theorem dX8_begin_73 : decode cX8_begin 73 = .ok (.baload, 1) := dk_51 (dk_at dksX8_begin_3 2 rfl rfl)
theorem dX8_begin_74 : decode cX8_begin 74 = .ok (.ifCond .eq 7, 3) := dk_153 0 7 (dk_at dksX8_begin_3 3 rfl rfl)
theorem dX8_begin_77 : decode cX8_begin 77 = .ok (.iconst 1, 1) := dk_4 (dk_at dksX8_begin_3 6 rfl rfl)
theorem dX8_begin_78 : decode cX8_begin 78 = .ok (.goto 4, 3) := dk_167 0 4 (dk_at dksX8_begin_3 7 rfl rfl)
theorem dX8_begin_81 : decode cX8_begin 81 = .ok (.iconst 0, 1) := dk_3 (dk_at dksX8_begin_3 10 rfl rfl)
theorem dX8_begin_82 : decode cX8_begin 82 = .ok (.iadd, 1) := dk_96 (dk_at dksX8_begin_3 11 rfl rfl)
theorem dX8_begin_83 : decode cX8_begin 83 = .ok (.putfield 149, 3) := dk_181 0 149 (dk_at dksX8_begin_3 12 rfl rfl)
theorem dX8_begin_86 : decode cX8_begin 86 = .ok (.aload_n 0, 1) := dk_42 (dk_at dksX8_begin_3 15 rfl rfl)
theorem dX8_begin_87 : decode cX8_begin 87 = .ok (.getfield 51, 3) := dk_180 0 51 (dk_at dksX8_begin_3 16 rfl rfl)
theorem dX8_begin_90 : decode cX8_begin 90 = .ok (.iload 4, 2) := dk_21 4 (dk_at dksX8_begin_3 19 rfl rfl)
theorem dX8_begin_92 : decode cX8_begin 92 = .ok (.iconst 0, 1) := dk_3 (dk_at dksX8_begin_3 21 rfl rfl)
theorem dX8_begin_93 : decode cX8_begin 93 = .ok (.bastore, 1) := dk_84 (dk_at dksX8_begin_3 22 rfl rfl)
theorem dX8_begin_94 : decode cX8_begin 94 = .ok (.aload_n 0, 1) := dk_42 (dk_at dksX8_begin_3 23 rfl rfl)
theorem dX8_begin_95 : decode cX8_begin 95 = .ok (.getfield 54, 3) := dk_180 0 54 (dk_at dksX8_begin_4 0 rfl rfl)
theorem dX8_begin_98 : decode cX8_begin 98 = .ok (.iload 4, 2) := dk_21 4 (dk_at dksX8_begin_4 3 rfl rfl)
theorem dX8_begin_100 : decode cX8_begin 100 = .ok (.iconst 0, 1) := dk_3 (dk_at dksX8_begin_4 5 rfl rfl)
theorem dX8_begin_101 : decode cX8_begin 101 = .ok (.bastore, 1) := dk_84 (dk_at dksX8_begin_4 6 rfl rfl)
theorem dX8_begin_102 : decode cX8_begin 102 = .ok (.iinc 4 1, 3) := dk_132 4 1 (dk_at dksX8_begin_4 7 rfl rfl)
theorem dX8_begin_105 : decode cX8_begin 105 = .ok (.goto (-74), 3) := dk_167 255 182 (dk_at dksX8_begin_4 10 rfl rfl)
theorem dX8_begin_108 : decode cX8_begin 108 = .ok (.aload_n 0, 1) := dk_42 (dk_at dksX8_begin_4 13 rfl rfl)
theorem dX8_begin_109 : decode cX8_begin 109 = .ok (.iconst 0, 1) := dk_3 (dk_at dksX8_begin_4 14 rfl rfl)
theorem dX8_begin_110 : decode cX8_begin 110 = .ok (.putfield 155, 3) := dk_181 0 155 (dk_at dksX8_begin_4 15 rfl rfl)
theorem dX8_begin_113 : decode cX8_begin 113 = .ok (.aload_n 0, 1) := dk_42 (dk_at dksX8_begin_4 18 rfl rfl)
theorem dX8_begin_114 : decode cX8_begin 114 = .ok (.iconst 0, 1) := dk_3 (dk_at dksX8_begin_4 19 rfl rfl)
theorem dX8_begin_115 : decode cX8_begin 115 = .ok (.putfield 158, 3) := dk_181 0 158 (dk_at dksX8_begin_4 20 rfl rfl)
theorem dX8_begin_118 : decode cX8_begin 118 = .ok (.aload_n 0, 1) := dk_42 (dk_at dksX8_begin_4 23 rfl rfl)
theorem dX8_begin_119 : decode cX8_begin 119 = .ok (.iconst 0, 1) := dk_3 (dk_at dksX8_begin_5 0 rfl rfl)
theorem dX8_begin_120 : decode cX8_begin 120 = .ok (.putfield 161, 3) := dk_181 0 161 (dk_at dksX8_begin_5 1 rfl rfl)
theorem dX8_begin_123 : decode cX8_begin 123 = .ok (.aload_n 0, 1) := dk_42 (dk_at dksX8_begin_5 4 rfl rfl)
theorem dX8_begin_124 : decode cX8_begin 124 = .ok (.iconst 0, 1) := dk_3 (dk_at dksX8_begin_5 5 rfl rfl)
theorem dX8_begin_125 : decode cX8_begin 125 = .ok (.putfield 164, 3) := dk_181 0 164 (dk_at dksX8_begin_5 6 rfl rfl)
theorem dX8_begin_128 : decode cX8_begin 128 = .ok (.aload_n 0, 1) := dk_42 (dk_at dksX8_begin_5 9 rfl rfl)
theorem dX8_begin_129 : decode cX8_begin 129 = .ok (.iconst 0, 1) := dk_3 (dk_at dksX8_begin_5 10 rfl rfl)
theorem dX8_begin_130 : decode cX8_begin 130 = .ok (.putfield 167, 3) := dk_181 0 167 (dk_at dksX8_begin_5 11 rfl rfl)
theorem dX8_begin_133 : decode cX8_begin 133 = .ok (.aload_n 0, 1) := dk_42 (dk_at dksX8_begin_5 14 rfl rfl)
theorem dX8_begin_134 : decode cX8_begin 134 = .ok (.iconst 0, 1) := dk_3 (dk_at dksX8_begin_5 15 rfl rfl)
theorem dX8_begin_135 : decode cX8_begin 135 = .ok (.putfield 170, 3) := dk_181 0 170 (dk_at dksX8_begin_5 16 rfl rfl)
theorem dX8_begin_138 : decode cX8_begin 138 = .ok (.return_, 1) := dk_177 (dk_at dksX8_begin_5 19 rfl rfl)
abbrev cX8_add : ByteArray := prog_5_method_3_code
def yX8_add : MethodName := ⟨RX8, "add", "([BI)V"⟩
def dkwX8_add_4 : List UInt8 := [4, 96, 181, 0, 161, 167, 0, 7, 42, 182, 0, 177, 177]
abbrev dktX8_add_4 : List UInt8 := dkwX8_add_4 ++ []
def dkwX8_add_3 : List UInt8 := [180, 0, 158, 4, 96, 181, 0, 158, 167, 0, 28, 42, 29, 182, 0, 173, 153, 0, 16, 42, 89, 180, 0, 161]
abbrev dktX8_add_3 : List UInt8 := dkwX8_add_3 ++ dktX8_add_4
def dkwX8_add_2 : List UInt8 := [51, 158, 0, 7, 4, 167, 0, 4, 3, 96, 62, 132, 4, 1, 167, 255, 199, 29, 154, 0, 16, 42, 89]
abbrev dktX8_add_2 : List UInt8 := dkwX8_add_2 ++ dktX8_add_3
def dkwX8_add_1 : List UInt8 := [21, 4, 51, 153, 0, 12, 43, 28, 21, 4, 96, 51, 167, 0, 4, 3, 84, 29, 42, 180, 0, 20, 21, 4]
abbrev dktX8_add_1 : List UInt8 := dkwX8_add_1 ++ dktX8_add_2
def dkwX8_add_0 : List UInt8 := [3, 62, 3, 54, 4, 21, 4, 42, 180, 0, 148, 162, 0, 54, 42, 180, 0, 20, 21, 4, 42, 180, 0, 9]
abbrev dktX8_add_0 : List UInt8 := dkwX8_add_0 ++ dktX8_add_1
theorem dksX8_add_0 : cX8_add.data.toList.drop 0 = dktX8_add_0 := by decide +kernel
theorem dksX8_add_1 : cX8_add.data.toList.drop 24 = dktX8_add_1 := dk_seg dksX8_add_0 24 rfl rfl
theorem dksX8_add_2 : cX8_add.data.toList.drop 48 = dktX8_add_2 := dk_seg dksX8_add_1 24 rfl rfl
theorem dksX8_add_3 : cX8_add.data.toList.drop 71 = dktX8_add_3 := dk_seg dksX8_add_2 23 rfl rfl
theorem dksX8_add_4 : cX8_add.data.toList.drop 95 = dktX8_add_4 := dk_seg dksX8_add_3 24 rfl rfl
theorem dX8_add_0 : decode cX8_add 0 = .ok (.iconst 0, 1) := dk_3 (dk_at dksX8_add_0 0 rfl rfl)
theorem dX8_add_1 : decode cX8_add 1 = .ok (.istore_n 3, 1) := dk_62 (dk_at dksX8_add_0 1 rfl rfl)
theorem dX8_add_2 : decode cX8_add 2 = .ok (.iconst 0, 1) := dk_3 (dk_at dksX8_add_0 2 rfl rfl)
theorem dX8_add_3 : decode cX8_add 3 = .ok (.istore 4, 2) := dk_54 4 (dk_at dksX8_add_0 3 rfl rfl)
theorem dX8_add_5 : decode cX8_add 5 = .ok (.iload 4, 2) := dk_21 4 (dk_at dksX8_add_0 5 rfl rfl)
theorem dX8_add_7 : decode cX8_add 7 = .ok (.aload_n 0, 1) := dk_42 (dk_at dksX8_add_0 7 rfl rfl)
theorem dX8_add_8 : decode cX8_add 8 = .ok (.getfield 148, 3) := dk_180 0 148 (dk_at dksX8_add_0 8 rfl rfl)
theorem dX8_add_11 : decode cX8_add 11 = .ok (.if_icmp .ge 54, 3) := dk_162 0 54 (dk_at dksX8_add_0 11 rfl rfl)
theorem dX8_add_14 : decode cX8_add 14 = .ok (.aload_n 0, 1) := dk_42 (dk_at dksX8_add_0 14 rfl rfl)
theorem dX8_add_15 : decode cX8_add 15 = .ok (.getfield 20, 3) := dk_180 0 20 (dk_at dksX8_add_0 15 rfl rfl)
theorem dX8_add_18 : decode cX8_add 18 = .ok (.iload 4, 2) := dk_21 4 (dk_at dksX8_add_0 18 rfl rfl)
theorem dX8_add_20 : decode cX8_add 20 = .ok (.aload_n 0, 1) := dk_42 (dk_at dksX8_add_0 20 rfl rfl)
theorem dX8_add_21 : decode cX8_add 21 = .ok (.getfield 9, 3) := dk_180 0 9 (dk_at dksX8_add_0 21 rfl rfl)
theorem dX8_add_24 : decode cX8_add 24 = .ok (.iload 4, 2) := dk_21 4 (dk_at dksX8_add_1 0 rfl rfl)
theorem dX8_add_26 : decode cX8_add 26 = .ok (.baload, 1) := dk_51 (dk_at dksX8_add_1 2 rfl rfl)
theorem dX8_add_27 : decode cX8_add 27 = .ok (.ifCond .eq 12, 3) := dk_153 0 12 (dk_at dksX8_add_1 3 rfl rfl)
theorem dX8_add_30 : decode cX8_add 30 = .ok (.aload_n 1, 1) := dk_43 (dk_at dksX8_add_1 6 rfl rfl)
theorem dX8_add_31 : decode cX8_add 31 = .ok (.iload_n 2, 1) := dk_28 (dk_at dksX8_add_1 7 rfl rfl)
theorem dX8_add_32 : decode cX8_add 32 = .ok (.iload 4, 2) := dk_21 4 (dk_at dksX8_add_1 8 rfl rfl)
theorem dX8_add_34 : decode cX8_add 34 = .ok (.iadd, 1) := dk_96 (dk_at dksX8_add_1 10 rfl rfl)
theorem dX8_add_35 : decode cX8_add 35 = .ok (.baload, 1) := dk_51 (dk_at dksX8_add_1 11 rfl rfl)
theorem dX8_add_36 : decode cX8_add 36 = .ok (.goto 4, 3) := dk_167 0 4 (dk_at dksX8_add_1 12 rfl rfl)
theorem dX8_add_39 : decode cX8_add 39 = .ok (.iconst 0, 1) := dk_3 (dk_at dksX8_add_1 15 rfl rfl)
theorem dX8_add_40 : decode cX8_add 40 = .ok (.bastore, 1) := dk_84 (dk_at dksX8_add_1 16 rfl rfl)
theorem dX8_add_41 : decode cX8_add 41 = .ok (.iload_n 3, 1) := dk_29 (dk_at dksX8_add_1 17 rfl rfl)
theorem dX8_add_42 : decode cX8_add 42 = .ok (.aload_n 0, 1) := dk_42 (dk_at dksX8_add_1 18 rfl rfl)
theorem dX8_add_43 : decode cX8_add 43 = .ok (.getfield 20, 3) := dk_180 0 20 (dk_at dksX8_add_1 19 rfl rfl)
theorem dX8_add_46 : decode cX8_add 46 = .ok (.iload 4, 2) := dk_21 4 (dk_at dksX8_add_1 22 rfl rfl)
theorem dX8_add_48 : decode cX8_add 48 = .ok (.baload, 1) := dk_51 (dk_at dksX8_add_2 0 rfl rfl)
theorem dX8_add_49 : decode cX8_add 49 = .ok (.ifCond .le 7, 3) := dk_158 0 7 (dk_at dksX8_add_2 1 rfl rfl)
theorem dX8_add_52 : decode cX8_add 52 = .ok (.iconst 1, 1) := dk_4 (dk_at dksX8_add_2 4 rfl rfl)
theorem dX8_add_53 : decode cX8_add 53 = .ok (.goto 4, 3) := dk_167 0 4 (dk_at dksX8_add_2 5 rfl rfl)
theorem dX8_add_56 : decode cX8_add 56 = .ok (.iconst 0, 1) := dk_3 (dk_at dksX8_add_2 8 rfl rfl)
theorem dX8_add_57 : decode cX8_add 57 = .ok (.iadd, 1) := dk_96 (dk_at dksX8_add_2 9 rfl rfl)
theorem dX8_add_58 : decode cX8_add 58 = .ok (.istore_n 3, 1) := dk_62 (dk_at dksX8_add_2 10 rfl rfl)
theorem dX8_add_59 : decode cX8_add 59 = .ok (.iinc 4 1, 3) := dk_132 4 1 (dk_at dksX8_add_2 11 rfl rfl)
theorem dX8_add_62 : decode cX8_add 62 = .ok (.goto (-57), 3) := dk_167 255 199 (dk_at dksX8_add_2 14 rfl rfl)
theorem dX8_add_65 : decode cX8_add 65 = .ok (.iload_n 3, 1) := dk_29 (dk_at dksX8_add_2 17 rfl rfl)
theorem dX8_add_66 : decode cX8_add 66 = .ok (.ifCond .ne 16, 3) := dk_154 0 16 (dk_at dksX8_add_2 18 rfl rfl)
theorem dX8_add_69 : decode cX8_add 69 = .ok (.aload_n 0, 1) := dk_42 (dk_at dksX8_add_2 21 rfl rfl)
theorem dX8_add_70 : decode cX8_add 70 = .ok (.dup, 1) := dk_89 (dk_at dksX8_add_2 22 rfl rfl)
theorem dX8_add_71 : decode cX8_add 71 = .ok (.getfield 158, 3) := dk_180 0 158 (dk_at dksX8_add_3 0 rfl rfl)
theorem dX8_add_74 : decode cX8_add 74 = .ok (.iconst 1, 1) := dk_4 (dk_at dksX8_add_3 3 rfl rfl)
theorem dX8_add_75 : decode cX8_add 75 = .ok (.iadd, 1) := dk_96 (dk_at dksX8_add_3 4 rfl rfl)
theorem dX8_add_76 : decode cX8_add 76 = .ok (.putfield 158, 3) := dk_181 0 158 (dk_at dksX8_add_3 5 rfl rfl)
theorem dX8_add_79 : decode cX8_add 79 = .ok (.goto 28, 3) := dk_167 0 28 (dk_at dksX8_add_3 8 rfl rfl)
theorem dX8_add_82 : decode cX8_add 82 = .ok (.aload_n 0, 1) := dk_42 (dk_at dksX8_add_3 11 rfl rfl)
theorem dX8_add_83 : decode cX8_add 83 = .ok (.iload_n 3, 1) := dk_29 (dk_at dksX8_add_3 12 rfl rfl)
theorem dX8_add_84 : decode cX8_add 84 = .ok (.invokevirtual 173, 3) := dk_182 0 173 (dk_at dksX8_add_3 13 rfl rfl)
theorem dX8_add_87 : decode cX8_add 87 = .ok (.ifCond .eq 16, 3) := dk_153 0 16 (dk_at dksX8_add_3 16 rfl rfl)
theorem dX8_add_90 : decode cX8_add 90 = .ok (.aload_n 0, 1) := dk_42 (dk_at dksX8_add_3 19 rfl rfl)
theorem dX8_add_91 : decode cX8_add 91 = .ok (.dup, 1) := dk_89 (dk_at dksX8_add_3 20 rfl rfl)
theorem dX8_add_92 : decode cX8_add 92 = .ok (.getfield 161, 3) := dk_180 0 161 (dk_at dksX8_add_3 21 rfl rfl)
theorem dX8_add_95 : decode cX8_add 95 = .ok (.iconst 1, 1) := dk_4 (dk_at dksX8_add_4 0 rfl rfl)
theorem dX8_add_96 : decode cX8_add 96 = .ok (.iadd, 1) := dk_96 (dk_at dksX8_add_4 1 rfl rfl)
theorem dX8_add_97 : decode cX8_add 97 = .ok (.putfield 161, 3) := dk_181 0 161 (dk_at dksX8_add_4 2 rfl rfl)
theorem dX8_add_100 : decode cX8_add 100 = .ok (.goto 7, 3) := dk_167 0 7 (dk_at dksX8_add_4 5 rfl rfl)
theorem dX8_add_103 : decode cX8_add 103 = .ok (.aload_n 0, 1) := dk_42 (dk_at dksX8_add_4 8 rfl rfl)
theorem dX8_add_104 : decode cX8_add 104 = .ok (.invokevirtual 177, 3) := dk_182 0 177 (dk_at dksX8_add_4 9 rfl rfl)
theorem dX8_add_107 : decode cX8_add 107 = .ok (.return_, 1) := dk_177 (dk_at dksX8_add_4 12 rfl rfl)
abbrev cX8_isSpoiled : ByteArray := prog_5_method_4_code
def yX8_isSpoiled : MethodName := ⟨RX8, "isSpoiled", "(I)Z"⟩
def dkwX8_isSpoiled_4 : List UInt8 := [167, 0, 4, 3, 172, 42, 182, 0, 191, 154, 0, 7, 4, 167, 0, 4, 3, 172, 3, 172]
abbrev dktX8_isSpoiled_4 : List UInt8 := dkwX8_isSpoiled_4 ++ []
def dkwX8_isSpoiled_3 : List UInt8 := [167, 0, 4, 3, 172, 42, 42, 180, 0, 26, 42, 180, 0, 155, 50, 182, 0, 187, 154, 0, 7, 4]
abbrev dktX8_isSpoiled_3 : List UInt8 := dkwX8_isSpoiled_3 ++ dktX8_isSpoiled_4
def dkwX8_isSpoiled_2 : List UInt8 := [27, 4, 164, 0, 7, 4, 167, 0, 4, 3, 172, 27, 42, 180, 0, 131, 180, 0, 185, 164, 0, 7, 4]
abbrev dktX8_isSpoiled_2 : List UInt8 := dkwX8_isSpoiled_2 ++ dktX8_isSpoiled_3
def dkwX8_isSpoiled_1 : List UInt8 := [170, 0, 0, 0, 136, 0, 0, 0, 0, 0, 0, 0, 14, 0, 0, 0, 73, 0, 0, 0, 84, 0, 0, 0, 136, 0, 0, 0, 136, 0, 0, 0, 136, 0, 0, 0, 101, 0, 0, 0, 101, 0, 0, 0, 136, 0, 0, 0, 136, 0, 0, 0, 136, 0, 0, 0, 136, 0, 0, 0, 101, 0, 0, 0, 101, 0, 0, 0, 101, 0, 0, 0, 123]
abbrev dktX8_isSpoiled_1 : List UInt8 := dkwX8_isSpoiled_1 ++ dktX8_isSpoiled_2
def dkwX8_isSpoiled_0 : List UInt8 := [42, 180, 0, 131, 180, 0, 180]
abbrev dktX8_isSpoiled_0 : List UInt8 := dkwX8_isSpoiled_0 ++ dktX8_isSpoiled_1
theorem dksX8_isSpoiled_0 : cX8_isSpoiled.data.toList.drop 0 = dktX8_isSpoiled_0 := by decide +kernel
theorem dksX8_isSpoiled_1 : cX8_isSpoiled.data.toList.drop 7 = dktX8_isSpoiled_1 := dk_seg dksX8_isSpoiled_0 7 rfl rfl
theorem dksX8_isSpoiled_2 : cX8_isSpoiled.data.toList.drop 80 = dktX8_isSpoiled_2 := dk_seg dksX8_isSpoiled_1 73 rfl rfl
theorem dksX8_isSpoiled_3 : cX8_isSpoiled.data.toList.drop 103 = dktX8_isSpoiled_3 := dk_seg dksX8_isSpoiled_2 23 rfl rfl
theorem dksX8_isSpoiled_4 : cX8_isSpoiled.data.toList.drop 125 = dktX8_isSpoiled_4 := dk_seg dksX8_isSpoiled_3 22 rfl rfl
theorem dX8_isSpoiled_0 : decode cX8_isSpoiled 0 = .ok (.aload_n 0, 1) := dk_42 (dk_at dksX8_isSpoiled_0 0 rfl rfl)
theorem dX8_isSpoiled_1 : decode cX8_isSpoiled 1 = .ok (.getfield 131, 3) := dk_180 0 131 (dk_at dksX8_isSpoiled_0 1 rfl rfl)
theorem dX8_isSpoiled_4 : decode cX8_isSpoiled 4 = .ok (.getfield 180, 3) := dk_180 0 180 (dk_at dksX8_isSpoiled_0 4 rfl rfl)
theorem dX8_isSpoiled_7 : decode cX8_isSpoiled 7 = .ok (.tableswitch 136 0 14 #[73, 84, 136, 136, 136, 101, 101, 136, 136, 136, 136, 101, 101, 101, 123], 73) := by decide +kernel
theorem dX8_isSpoiled_80 : decode cX8_isSpoiled 80 = .ok (.iload_n 1, 1) := dk_27 (dk_at dksX8_isSpoiled_2 0 rfl rfl)
theorem dX8_isSpoiled_81 : decode cX8_isSpoiled 81 = .ok (.iconst 1, 1) := dk_4 (dk_at dksX8_isSpoiled_2 1 rfl rfl)
theorem dX8_isSpoiled_82 : decode cX8_isSpoiled 82 = .ok (.if_icmp .le 7, 3) := dk_164 0 7 (dk_at dksX8_isSpoiled_2 2 rfl rfl)
theorem dX8_isSpoiled_85 : decode cX8_isSpoiled 85 = .ok (.iconst 1, 1) := dk_4 (dk_at dksX8_isSpoiled_2 5 rfl rfl)
theorem dX8_isSpoiled_86 : decode cX8_isSpoiled 86 = .ok (.goto 4, 3) := dk_167 0 4 (dk_at dksX8_isSpoiled_2 6 rfl rfl)
theorem dX8_isSpoiled_89 : decode cX8_isSpoiled 89 = .ok (.iconst 0, 1) := dk_3 (dk_at dksX8_isSpoiled_2 9 rfl rfl)
theorem dX8_isSpoiled_90 : decode cX8_isSpoiled 90 = .ok (.ireturn, 1) := dk_172 (dk_at dksX8_isSpoiled_2 10 rfl rfl)
theorem dX8_isSpoiled_91 : decode cX8_isSpoiled 91 = .ok (.iload_n 1, 1) := dk_27 (dk_at dksX8_isSpoiled_2 11 rfl rfl)
theorem dX8_isSpoiled_92 : decode cX8_isSpoiled 92 = .ok (.aload_n 0, 1) := dk_42 (dk_at dksX8_isSpoiled_2 12 rfl rfl)
theorem dX8_isSpoiled_93 : decode cX8_isSpoiled 93 = .ok (.getfield 131, 3) := dk_180 0 131 (dk_at dksX8_isSpoiled_2 13 rfl rfl)
theorem dX8_isSpoiled_96 : decode cX8_isSpoiled 96 = .ok (.getfield 185, 3) := dk_180 0 185 (dk_at dksX8_isSpoiled_2 16 rfl rfl)
theorem dX8_isSpoiled_99 : decode cX8_isSpoiled 99 = .ok (.if_icmp .le 7, 3) := dk_164 0 7 (dk_at dksX8_isSpoiled_2 19 rfl rfl)
theorem dX8_isSpoiled_102 : decode cX8_isSpoiled 102 = .ok (.iconst 1, 1) := dk_4 (dk_at dksX8_isSpoiled_2 22 rfl rfl)
theorem dX8_isSpoiled_103 : decode cX8_isSpoiled 103 = .ok (.goto 4, 3) := dk_167 0 4 (dk_at dksX8_isSpoiled_3 0 rfl rfl)
theorem dX8_isSpoiled_106 : decode cX8_isSpoiled 106 = .ok (.iconst 0, 1) := dk_3 (dk_at dksX8_isSpoiled_3 3 rfl rfl)
theorem dX8_isSpoiled_107 : decode cX8_isSpoiled 107 = .ok (.ireturn, 1) := dk_172 (dk_at dksX8_isSpoiled_3 4 rfl rfl)
theorem dX8_isSpoiled_108 : decode cX8_isSpoiled 108 = .ok (.aload_n 0, 1) := dk_42 (dk_at dksX8_isSpoiled_3 5 rfl rfl)
theorem dX8_isSpoiled_109 : decode cX8_isSpoiled 109 = .ok (.aload_n 0, 1) := dk_42 (dk_at dksX8_isSpoiled_3 6 rfl rfl)
theorem dX8_isSpoiled_110 : decode cX8_isSpoiled 110 = .ok (.getfield 26, 3) := dk_180 0 26 (dk_at dksX8_isSpoiled_3 7 rfl rfl)
theorem dX8_isSpoiled_113 : decode cX8_isSpoiled 113 = .ok (.aload_n 0, 1) := dk_42 (dk_at dksX8_isSpoiled_3 10 rfl rfl)
theorem dX8_isSpoiled_114 : decode cX8_isSpoiled 114 = .ok (.getfield 155, 3) := dk_180 0 155 (dk_at dksX8_isSpoiled_3 11 rfl rfl)
theorem dX8_isSpoiled_117 : decode cX8_isSpoiled 117 = .ok (.aaload, 1) := dk_50 (dk_at dksX8_isSpoiled_3 14 rfl rfl)
theorem dX8_isSpoiled_118 : decode cX8_isSpoiled 118 = .ok (.invokevirtual 187, 3) := dk_182 0 187 (dk_at dksX8_isSpoiled_3 15 rfl rfl)
theorem dX8_isSpoiled_121 : decode cX8_isSpoiled 121 = .ok (.ifCond .ne 7, 3) := dk_154 0 7 (dk_at dksX8_isSpoiled_3 18 rfl rfl)
theorem dX8_isSpoiled_124 : decode cX8_isSpoiled 124 = .ok (.iconst 1, 1) := dk_4 (dk_at dksX8_isSpoiled_3 21 rfl rfl)
theorem dX8_isSpoiled_125 : decode cX8_isSpoiled 125 = .ok (.goto 4, 3) := dk_167 0 4 (dk_at dksX8_isSpoiled_4 0 rfl rfl)
theorem dX8_isSpoiled_128 : decode cX8_isSpoiled 128 = .ok (.iconst 0, 1) := dk_3 (dk_at dksX8_isSpoiled_4 3 rfl rfl)
theorem dX8_isSpoiled_129 : decode cX8_isSpoiled 129 = .ok (.ireturn, 1) := dk_172 (dk_at dksX8_isSpoiled_4 4 rfl rfl)
theorem dX8_isSpoiled_130 : decode cX8_isSpoiled 130 = .ok (.aload_n 0, 1) := dk_42 (dk_at dksX8_isSpoiled_4 5 rfl rfl)
theorem dX8_isSpoiled_131 : decode cX8_isSpoiled 131 = .ok (.invokevirtual 191, 3) := dk_182 0 191 (dk_at dksX8_isSpoiled_4 6 rfl rfl)
theorem dX8_isSpoiled_134 : decode cX8_isSpoiled 134 = .ok (.ifCond .ne 7, 3) := dk_154 0 7 (dk_at dksX8_isSpoiled_4 9 rfl rfl)
theorem dX8_isSpoiled_137 : decode cX8_isSpoiled 137 = .ok (.iconst 1, 1) := dk_4 (dk_at dksX8_isSpoiled_4 12 rfl rfl)
theorem dX8_isSpoiled_138 : decode cX8_isSpoiled 138 = .ok (.goto 4, 3) := dk_167 0 4 (dk_at dksX8_isSpoiled_4 13 rfl rfl)
theorem dX8_isSpoiled_141 : decode cX8_isSpoiled 141 = .ok (.iconst 0, 1) := dk_3 (dk_at dksX8_isSpoiled_4 16 rfl rfl)
theorem dX8_isSpoiled_142 : decode cX8_isSpoiled 142 = .ok (.ireturn, 1) := dk_172 (dk_at dksX8_isSpoiled_4 17 rfl rfl)
theorem dX8_isSpoiled_143 : decode cX8_isSpoiled 143 = .ok (.iconst 0, 1) := dk_3 (dk_at dksX8_isSpoiled_4 18 rfl rfl)
theorem dX8_isSpoiled_144 : decode cX8_isSpoiled 144 = .ok (.ireturn, 1) := dk_172 (dk_at dksX8_isSpoiled_4 19 rfl rfl)
abbrev cX8_rank : ByteArray := prog_5_method_6_code
def yX8_rank : MethodName := ⟨RX8, "rank", "([I)I"⟩
def dkwX8_rank_4 : List UInt8 := [167, 255, 171, 28, 172]
abbrev dktX8_rank_4 : List UInt8 := dkwX8_rank_4 ++ []
def dkwX8_rank_3 : List UInt8 := [167, 255, 212, 29, 153, 0, 17, 21, 5, 2, 159, 0, 11, 43, 28, 21, 5, 79, 132, 2, 1, 132, 4, 1]
abbrev dktX8_rank_3 : List UInt8 := dkwX8_rank_3 ++ dktX8_rank_4
def dkwX8_rank_2 : List UInt8 := [160, 0, 19, 21, 5, 2, 160, 0, 7, 4, 167, 0, 4, 3, 62, 21, 6, 54, 5, 132, 6, 1]
abbrev dktX8_rank_2 : List UInt8 := dkwX8_rank_2 ++ dktX8_rank_3
def dkwX8_rank_1 : List UInt8 := [21, 6, 42, 180, 0, 148, 162, 0, 41, 29, 153, 0, 37, 42, 180, 0, 20, 21, 6, 51, 21, 4]
abbrev dktX8_rank_1 : List UInt8 := dkwX8_rank_1 ++ dktX8_rank_2
def dkwX8_rank_0 : List UInt8 := [3, 61, 4, 62, 4, 54, 4, 21, 4, 16, 10, 162, 0, 84, 29, 153, 0, 80, 2, 54, 5, 3, 54, 6]
abbrev dktX8_rank_0 : List UInt8 := dkwX8_rank_0 ++ dktX8_rank_1
theorem dksX8_rank_0 : cX8_rank.data.toList.drop 0 = dktX8_rank_0 := by decide +kernel
theorem dksX8_rank_1 : cX8_rank.data.toList.drop 24 = dktX8_rank_1 := dk_seg dksX8_rank_0 24 rfl rfl
theorem dksX8_rank_2 : cX8_rank.data.toList.drop 46 = dktX8_rank_2 := dk_seg dksX8_rank_1 22 rfl rfl
theorem dksX8_rank_3 : cX8_rank.data.toList.drop 68 = dktX8_rank_3 := dk_seg dksX8_rank_2 22 rfl rfl
theorem dksX8_rank_4 : cX8_rank.data.toList.drop 92 = dktX8_rank_4 := dk_seg dksX8_rank_3 24 rfl rfl
theorem dX8_rank_0 : decode cX8_rank 0 = .ok (.iconst 0, 1) := dk_3 (dk_at dksX8_rank_0 0 rfl rfl)
theorem dX8_rank_1 : decode cX8_rank 1 = .ok (.istore_n 2, 1) := dk_61 (dk_at dksX8_rank_0 1 rfl rfl)
theorem dX8_rank_2 : decode cX8_rank 2 = .ok (.iconst 1, 1) := dk_4 (dk_at dksX8_rank_0 2 rfl rfl)
theorem dX8_rank_3 : decode cX8_rank 3 = .ok (.istore_n 3, 1) := dk_62 (dk_at dksX8_rank_0 3 rfl rfl)
theorem dX8_rank_4 : decode cX8_rank 4 = .ok (.iconst 1, 1) := dk_4 (dk_at dksX8_rank_0 4 rfl rfl)
theorem dX8_rank_5 : decode cX8_rank 5 = .ok (.istore 4, 2) := dk_54 4 (dk_at dksX8_rank_0 5 rfl rfl)
theorem dX8_rank_7 : decode cX8_rank 7 = .ok (.iload 4, 2) := dk_21 4 (dk_at dksX8_rank_0 7 rfl rfl)
theorem dX8_rank_9 : decode cX8_rank 9 = .ok (.bipush 10, 2) := dk_16 10 (dk_at dksX8_rank_0 9 rfl rfl)
theorem dX8_rank_11 : decode cX8_rank 11 = .ok (.if_icmp .ge 84, 3) := dk_162 0 84 (dk_at dksX8_rank_0 11 rfl rfl)
theorem dX8_rank_14 : decode cX8_rank 14 = .ok (.iload_n 3, 1) := dk_29 (dk_at dksX8_rank_0 14 rfl rfl)
theorem dX8_rank_15 : decode cX8_rank 15 = .ok (.ifCond .eq 80, 3) := dk_153 0 80 (dk_at dksX8_rank_0 15 rfl rfl)
theorem dX8_rank_18 : decode cX8_rank 18 = .ok (.iconst (-1), 1) := dk_2 (dk_at dksX8_rank_0 18 rfl rfl)
theorem dX8_rank_19 : decode cX8_rank 19 = .ok (.istore 5, 2) := dk_54 5 (dk_at dksX8_rank_0 19 rfl rfl)
theorem dX8_rank_21 : decode cX8_rank 21 = .ok (.iconst 0, 1) := dk_3 (dk_at dksX8_rank_0 21 rfl rfl)
theorem dX8_rank_22 : decode cX8_rank 22 = .ok (.istore 6, 2) := dk_54 6 (dk_at dksX8_rank_0 22 rfl rfl)
theorem dX8_rank_24 : decode cX8_rank 24 = .ok (.iload 6, 2) := dk_21 6 (dk_at dksX8_rank_1 0 rfl rfl)
theorem dX8_rank_26 : decode cX8_rank 26 = .ok (.aload_n 0, 1) := dk_42 (dk_at dksX8_rank_1 2 rfl rfl)
theorem dX8_rank_27 : decode cX8_rank 27 = .ok (.getfield 148, 3) := dk_180 0 148 (dk_at dksX8_rank_1 3 rfl rfl)
theorem dX8_rank_30 : decode cX8_rank 30 = .ok (.if_icmp .ge 41, 3) := dk_162 0 41 (dk_at dksX8_rank_1 6 rfl rfl)
theorem dX8_rank_33 : decode cX8_rank 33 = .ok (.iload_n 3, 1) := dk_29 (dk_at dksX8_rank_1 9 rfl rfl)
theorem dX8_rank_34 : decode cX8_rank 34 = .ok (.ifCond .eq 37, 3) := dk_153 0 37 (dk_at dksX8_rank_1 10 rfl rfl)
theorem dX8_rank_37 : decode cX8_rank 37 = .ok (.aload_n 0, 1) := dk_42 (dk_at dksX8_rank_1 13 rfl rfl)
theorem dX8_rank_38 : decode cX8_rank 38 = .ok (.getfield 20, 3) := dk_180 0 20 (dk_at dksX8_rank_1 14 rfl rfl)
theorem dX8_rank_41 : decode cX8_rank 41 = .ok (.iload 6, 2) := dk_21 6 (dk_at dksX8_rank_1 17 rfl rfl)
theorem dX8_rank_43 : decode cX8_rank 43 = .ok (.baload, 1) := dk_51 (dk_at dksX8_rank_1 19 rfl rfl)
theorem dX8_rank_44 : decode cX8_rank 44 = .ok (.iload 4, 2) := dk_21 4 (dk_at dksX8_rank_1 20 rfl rfl)
theorem dX8_rank_46 : decode cX8_rank 46 = .ok (.if_icmp .ne 19, 3) := dk_160 0 19 (dk_at dksX8_rank_2 0 rfl rfl)
theorem dX8_rank_49 : decode cX8_rank 49 = .ok (.iload 5, 2) := dk_21 5 (dk_at dksX8_rank_2 3 rfl rfl)
theorem dX8_rank_51 : decode cX8_rank 51 = .ok (.iconst (-1), 1) := dk_2 (dk_at dksX8_rank_2 5 rfl rfl)
theorem dX8_rank_52 : decode cX8_rank 52 = .ok (.if_icmp .ne 7, 3) := dk_160 0 7 (dk_at dksX8_rank_2 6 rfl rfl)
theorem dX8_rank_55 : decode cX8_rank 55 = .ok (.iconst 1, 1) := dk_4 (dk_at dksX8_rank_2 9 rfl rfl)
theorem dX8_rank_56 : decode cX8_rank 56 = .ok (.goto 4, 3) := dk_167 0 4 (dk_at dksX8_rank_2 10 rfl rfl)
theorem dX8_rank_59 : decode cX8_rank 59 = .ok (.iconst 0, 1) := dk_3 (dk_at dksX8_rank_2 13 rfl rfl)
theorem dX8_rank_60 : decode cX8_rank 60 = .ok (.istore_n 3, 1) := dk_62 (dk_at dksX8_rank_2 14 rfl rfl)
theorem dX8_rank_61 : decode cX8_rank 61 = .ok (.iload 6, 2) := dk_21 6 (dk_at dksX8_rank_2 15 rfl rfl)
theorem dX8_rank_63 : decode cX8_rank 63 = .ok (.istore 5, 2) := dk_54 5 (dk_at dksX8_rank_2 17 rfl rfl)
theorem dX8_rank_65 : decode cX8_rank 65 = .ok (.iinc 6 1, 3) := dk_132 6 1 (dk_at dksX8_rank_2 19 rfl rfl)
theorem dX8_rank_68 : decode cX8_rank 68 = .ok (.goto (-44), 3) := dk_167 255 212 (dk_at dksX8_rank_3 0 rfl rfl)
theorem dX8_rank_71 : decode cX8_rank 71 = .ok (.iload_n 3, 1) := dk_29 (dk_at dksX8_rank_3 3 rfl rfl)
theorem dX8_rank_72 : decode cX8_rank 72 = .ok (.ifCond .eq 17, 3) := dk_153 0 17 (dk_at dksX8_rank_3 4 rfl rfl)
theorem dX8_rank_75 : decode cX8_rank 75 = .ok (.iload 5, 2) := dk_21 5 (dk_at dksX8_rank_3 7 rfl rfl)
theorem dX8_rank_77 : decode cX8_rank 77 = .ok (.iconst (-1), 1) := dk_2 (dk_at dksX8_rank_3 9 rfl rfl)
theorem dX8_rank_78 : decode cX8_rank 78 = .ok (.if_icmp .eq 11, 3) := dk_159 0 11 (dk_at dksX8_rank_3 10 rfl rfl)
theorem dX8_rank_81 : decode cX8_rank 81 = .ok (.aload_n 1, 1) := dk_43 (dk_at dksX8_rank_3 13 rfl rfl)
theorem dX8_rank_82 : decode cX8_rank 82 = .ok (.iload_n 2, 1) := dk_28 (dk_at dksX8_rank_3 14 rfl rfl)
theorem dX8_rank_83 : decode cX8_rank 83 = .ok (.iload 5, 2) := dk_21 5 (dk_at dksX8_rank_3 15 rfl rfl)
theorem dX8_rank_85 : decode cX8_rank 85 = .ok (.iastore, 1) := dk_79 (dk_at dksX8_rank_3 17 rfl rfl)
theorem dX8_rank_86 : decode cX8_rank 86 = .ok (.iinc 2 1, 3) := dk_132 2 1 (dk_at dksX8_rank_3 18 rfl rfl)
theorem dX8_rank_89 : decode cX8_rank 89 = .ok (.iinc 4 1, 3) := dk_132 4 1 (dk_at dksX8_rank_3 21 rfl rfl)
theorem dX8_rank_92 : decode cX8_rank 92 = .ok (.goto (-85), 3) := dk_167 255 171 (dk_at dksX8_rank_4 0 rfl rfl)
theorem dX8_rank_95 : decode cX8_rank 95 = .ok (.iload_n 2, 1) := dk_28 (dk_at dksX8_rank_4 3 rfl rfl)
theorem dX8_rank_96 : decode cX8_rank 96 = .ok (.ireturn, 1) := dk_172 (dk_at dksX8_rank_4 4 rfl rfl)
abbrev cX8_isOneList : ByteArray := prog_5_method_5_code
def yX8_isOneList : MethodName := ⟨RX8, "isOneList", "()Z"⟩
def dkwX8_isOneList_2 : List UInt8 := [61, 29, 60, 132, 3, 1, 167, 255, 208, 28, 172]
abbrev dktX8_isOneList_2 : List UInt8 := dkwX8_isOneList_2 ++ []
def dkwX8_isOneList_1 : List UInt8 := [27, 2, 159, 0, 16, 42, 27, 182, 0, 195, 42, 29, 182, 0, 195, 160, 0, 7, 4, 167, 0, 4, 3, 126]
abbrev dktX8_isOneList_1 : List UInt8 := dkwX8_isOneList_1 ++ dktX8_isOneList_2
def dkwX8_isOneList_0 : List UInt8 := [2, 60, 4, 61, 3, 62, 29, 42, 180, 0, 148, 162, 0, 46, 42, 180, 0, 20, 29, 51, 158, 0, 31, 28]
abbrev dktX8_isOneList_0 : List UInt8 := dkwX8_isOneList_0 ++ dktX8_isOneList_1
theorem dksX8_isOneList_0 : cX8_isOneList.data.toList.drop 0 = dktX8_isOneList_0 := by decide +kernel
theorem dksX8_isOneList_1 : cX8_isOneList.data.toList.drop 24 = dktX8_isOneList_1 := dk_seg dksX8_isOneList_0 24 rfl rfl
theorem dksX8_isOneList_2 : cX8_isOneList.data.toList.drop 48 = dktX8_isOneList_2 := dk_seg dksX8_isOneList_1 24 rfl rfl
theorem dX8_isOneList_0 : decode cX8_isOneList 0 = .ok (.iconst (-1), 1) := dk_2 (dk_at dksX8_isOneList_0 0 rfl rfl)
theorem dX8_isOneList_1 : decode cX8_isOneList 1 = .ok (.istore_n 1, 1) := dk_60 (dk_at dksX8_isOneList_0 1 rfl rfl)
theorem dX8_isOneList_2 : decode cX8_isOneList 2 = .ok (.iconst 1, 1) := dk_4 (dk_at dksX8_isOneList_0 2 rfl rfl)
theorem dX8_isOneList_3 : decode cX8_isOneList 3 = .ok (.istore_n 2, 1) := dk_61 (dk_at dksX8_isOneList_0 3 rfl rfl)
theorem dX8_isOneList_4 : decode cX8_isOneList 4 = .ok (.iconst 0, 1) := dk_3 (dk_at dksX8_isOneList_0 4 rfl rfl)
theorem dX8_isOneList_5 : decode cX8_isOneList 5 = .ok (.istore_n 3, 1) := dk_62 (dk_at dksX8_isOneList_0 5 rfl rfl)
theorem dX8_isOneList_6 : decode cX8_isOneList 6 = .ok (.iload_n 3, 1) := dk_29 (dk_at dksX8_isOneList_0 6 rfl rfl)
theorem dX8_isOneList_7 : decode cX8_isOneList 7 = .ok (.aload_n 0, 1) := dk_42 (dk_at dksX8_isOneList_0 7 rfl rfl)
theorem dX8_isOneList_8 : decode cX8_isOneList 8 = .ok (.getfield 148, 3) := dk_180 0 148 (dk_at dksX8_isOneList_0 8 rfl rfl)
theorem dX8_isOneList_11 : decode cX8_isOneList 11 = .ok (.if_icmp .ge 46, 3) := dk_162 0 46 (dk_at dksX8_isOneList_0 11 rfl rfl)
theorem dX8_isOneList_14 : decode cX8_isOneList 14 = .ok (.aload_n 0, 1) := dk_42 (dk_at dksX8_isOneList_0 14 rfl rfl)
theorem dX8_isOneList_15 : decode cX8_isOneList 15 = .ok (.getfield 20, 3) := dk_180 0 20 (dk_at dksX8_isOneList_0 15 rfl rfl)
theorem dX8_isOneList_18 : decode cX8_isOneList 18 = .ok (.iload_n 3, 1) := dk_29 (dk_at dksX8_isOneList_0 18 rfl rfl)
theorem dX8_isOneList_19 : decode cX8_isOneList 19 = .ok (.baload, 1) := dk_51 (dk_at dksX8_isOneList_0 19 rfl rfl)
theorem dX8_isOneList_20 : decode cX8_isOneList 20 = .ok (.ifCond .le 31, 3) := dk_158 0 31 (dk_at dksX8_isOneList_0 20 rfl rfl)
theorem dX8_isOneList_23 : decode cX8_isOneList 23 = .ok (.iload_n 2, 1) := dk_28 (dk_at dksX8_isOneList_0 23 rfl rfl)
theorem dX8_isOneList_24 : decode cX8_isOneList 24 = .ok (.iload_n 1, 1) := dk_27 (dk_at dksX8_isOneList_1 0 rfl rfl)
theorem dX8_isOneList_25 : decode cX8_isOneList 25 = .ok (.iconst (-1), 1) := dk_2 (dk_at dksX8_isOneList_1 1 rfl rfl)
theorem dX8_isOneList_26 : decode cX8_isOneList 26 = .ok (.if_icmp .eq 16, 3) := dk_159 0 16 (dk_at dksX8_isOneList_1 2 rfl rfl)
theorem dX8_isOneList_29 : decode cX8_isOneList 29 = .ok (.aload_n 0, 1) := dk_42 (dk_at dksX8_isOneList_1 5 rfl rfl)
theorem dX8_isOneList_30 : decode cX8_isOneList 30 = .ok (.iload_n 1, 1) := dk_27 (dk_at dksX8_isOneList_1 6 rfl rfl)
theorem dX8_isOneList_31 : decode cX8_isOneList 31 = .ok (.invokevirtual 195, 3) := dk_182 0 195 (dk_at dksX8_isOneList_1 7 rfl rfl)
theorem dX8_isOneList_34 : decode cX8_isOneList 34 = .ok (.aload_n 0, 1) := dk_42 (dk_at dksX8_isOneList_1 10 rfl rfl)
theorem dX8_isOneList_35 : decode cX8_isOneList 35 = .ok (.iload_n 3, 1) := dk_29 (dk_at dksX8_isOneList_1 11 rfl rfl)
theorem dX8_isOneList_36 : decode cX8_isOneList 36 = .ok (.invokevirtual 195, 3) := dk_182 0 195 (dk_at dksX8_isOneList_1 12 rfl rfl)
theorem dX8_isOneList_39 : decode cX8_isOneList 39 = .ok (.if_icmp .ne 7, 3) := dk_160 0 7 (dk_at dksX8_isOneList_1 15 rfl rfl)
theorem dX8_isOneList_42 : decode cX8_isOneList 42 = .ok (.iconst 1, 1) := dk_4 (dk_at dksX8_isOneList_1 18 rfl rfl)
theorem dX8_isOneList_43 : decode cX8_isOneList 43 = .ok (.goto 4, 3) := dk_167 0 4 (dk_at dksX8_isOneList_1 19 rfl rfl)
theorem dX8_isOneList_46 : decode cX8_isOneList 46 = .ok (.iconst 0, 1) := dk_3 (dk_at dksX8_isOneList_1 22 rfl rfl)
theorem dX8_isOneList_47 : decode cX8_isOneList 47 = .ok (.iand, 1) := dk_126 (dk_at dksX8_isOneList_1 23 rfl rfl)
theorem dX8_isOneList_48 : decode cX8_isOneList 48 = .ok (.istore_n 2, 1) := dk_61 (dk_at dksX8_isOneList_2 0 rfl rfl)
theorem dX8_isOneList_49 : decode cX8_isOneList 49 = .ok (.iload_n 3, 1) := dk_29 (dk_at dksX8_isOneList_2 1 rfl rfl)
theorem dX8_isOneList_50 : decode cX8_isOneList 50 = .ok (.istore_n 1, 1) := dk_60 (dk_at dksX8_isOneList_2 2 rfl rfl)
theorem dX8_isOneList_51 : decode cX8_isOneList 51 = .ok (.iinc 3 1, 3) := dk_132 3 1 (dk_at dksX8_isOneList_2 3 rfl rfl)
theorem dX8_isOneList_54 : decode cX8_isOneList 54 = .ok (.goto (-48), 3) := dk_167 255 208 (dk_at dksX8_isOneList_2 6 rfl rfl)
theorem dX8_isOneList_57 : decode cX8_isOneList 57 = .ok (.iload_n 2, 1) := dk_28 (dk_at dksX8_isOneList_2 9 rfl rfl)
theorem dX8_isOneList_58 : decode cX8_isOneList 58 = .ok (.ireturn, 1) := dk_172 (dk_at dksX8_isOneList_2 10 rfl rfl)
abbrev cX8_listOf : ByteArray := prog_5_method_59_code
def yX8_listOf : MethodName := ⟨RX8, "listOf", "(I)I"⟩
def dkwX8_listOf_2 : List UInt8 := [160, 0, 5, 28, 172, 132, 2, 1, 167, 255, 203, 27, 172]
abbrev dktX8_listOf_2 : List UInt8 := dkwX8_listOf_2 ++ []
def dkwX8_listOf_1 : List UInt8 := [46, 2, 159, 0, 26, 42, 180, 0, 135, 180, 1, 157, 28, 46, 42, 180, 0, 135, 180, 1, 157, 27, 46]
abbrev dktX8_listOf_1 : List UInt8 := dkwX8_listOf_1 ++ dktX8_listOf_2
def dkwX8_listOf_0 : List UInt8 := [3, 61, 28, 27, 162, 0, 54, 42, 180, 0, 9, 28, 51, 153, 0, 39, 42, 180, 0, 135, 180, 1, 157, 28]
abbrev dktX8_listOf_0 : List UInt8 := dkwX8_listOf_0 ++ dktX8_listOf_1
theorem dksX8_listOf_0 : cX8_listOf.data.toList.drop 0 = dktX8_listOf_0 := by decide +kernel
theorem dksX8_listOf_1 : cX8_listOf.data.toList.drop 24 = dktX8_listOf_1 := dk_seg dksX8_listOf_0 24 rfl rfl
theorem dksX8_listOf_2 : cX8_listOf.data.toList.drop 47 = dktX8_listOf_2 := dk_seg dksX8_listOf_1 23 rfl rfl
theorem dX8_listOf_0 : decode cX8_listOf 0 = .ok (.iconst 0, 1) := dk_3 (dk_at dksX8_listOf_0 0 rfl rfl)
theorem dX8_listOf_1 : decode cX8_listOf 1 = .ok (.istore_n 2, 1) := dk_61 (dk_at dksX8_listOf_0 1 rfl rfl)
theorem dX8_listOf_2 : decode cX8_listOf 2 = .ok (.iload_n 2, 1) := dk_28 (dk_at dksX8_listOf_0 2 rfl rfl)
theorem dX8_listOf_3 : decode cX8_listOf 3 = .ok (.iload_n 1, 1) := dk_27 (dk_at dksX8_listOf_0 3 rfl rfl)
theorem dX8_listOf_4 : decode cX8_listOf 4 = .ok (.if_icmp .ge 54, 3) := dk_162 0 54 (dk_at dksX8_listOf_0 4 rfl rfl)
theorem dX8_listOf_7 : decode cX8_listOf 7 = .ok (.aload_n 0, 1) := dk_42 (dk_at dksX8_listOf_0 7 rfl rfl)
theorem dX8_listOf_8 : decode cX8_listOf 8 = .ok (.getfield 9, 3) := dk_180 0 9 (dk_at dksX8_listOf_0 8 rfl rfl)
theorem dX8_listOf_11 : decode cX8_listOf 11 = .ok (.iload_n 2, 1) := dk_28 (dk_at dksX8_listOf_0 11 rfl rfl)
theorem dX8_listOf_12 : decode cX8_listOf 12 = .ok (.baload, 1) := dk_51 (dk_at dksX8_listOf_0 12 rfl rfl)
theorem dX8_listOf_13 : decode cX8_listOf 13 = .ok (.ifCond .eq 39, 3) := dk_153 0 39 (dk_at dksX8_listOf_0 13 rfl rfl)
theorem dX8_listOf_16 : decode cX8_listOf 16 = .ok (.aload_n 0, 1) := dk_42 (dk_at dksX8_listOf_0 16 rfl rfl)
theorem dX8_listOf_17 : decode cX8_listOf 17 = .ok (.getfield 135, 3) := dk_180 0 135 (dk_at dksX8_listOf_0 17 rfl rfl)
theorem dX8_listOf_20 : decode cX8_listOf 20 = .ok (.getfield 413, 3) := dk_180 1 157 (dk_at dksX8_listOf_0 20 rfl rfl)
theorem dX8_listOf_23 : decode cX8_listOf 23 = .ok (.iload_n 2, 1) := dk_28 (dk_at dksX8_listOf_0 23 rfl rfl)
theorem dX8_listOf_24 : decode cX8_listOf 24 = .ok (.iaload, 1) := dk_46 (dk_at dksX8_listOf_1 0 rfl rfl)
theorem dX8_listOf_25 : decode cX8_listOf 25 = .ok (.iconst (-1), 1) := dk_2 (dk_at dksX8_listOf_1 1 rfl rfl)
theorem dX8_listOf_26 : decode cX8_listOf 26 = .ok (.if_icmp .eq 26, 3) := dk_159 0 26 (dk_at dksX8_listOf_1 2 rfl rfl)
theorem dX8_listOf_29 : decode cX8_listOf 29 = .ok (.aload_n 0, 1) := dk_42 (dk_at dksX8_listOf_1 5 rfl rfl)
theorem dX8_listOf_30 : decode cX8_listOf 30 = .ok (.getfield 135, 3) := dk_180 0 135 (dk_at dksX8_listOf_1 6 rfl rfl)
theorem dX8_listOf_33 : decode cX8_listOf 33 = .ok (.getfield 413, 3) := dk_180 1 157 (dk_at dksX8_listOf_1 9 rfl rfl)
theorem dX8_listOf_36 : decode cX8_listOf 36 = .ok (.iload_n 2, 1) := dk_28 (dk_at dksX8_listOf_1 12 rfl rfl)
theorem dX8_listOf_37 : decode cX8_listOf 37 = .ok (.iaload, 1) := dk_46 (dk_at dksX8_listOf_1 13 rfl rfl)
theorem dX8_listOf_38 : decode cX8_listOf 38 = .ok (.aload_n 0, 1) := dk_42 (dk_at dksX8_listOf_1 14 rfl rfl)
theorem dX8_listOf_39 : decode cX8_listOf 39 = .ok (.getfield 135, 3) := dk_180 0 135 (dk_at dksX8_listOf_1 15 rfl rfl)
theorem dX8_listOf_42 : decode cX8_listOf 42 = .ok (.getfield 413, 3) := dk_180 1 157 (dk_at dksX8_listOf_1 18 rfl rfl)
theorem dX8_listOf_45 : decode cX8_listOf 45 = .ok (.iload_n 1, 1) := dk_27 (dk_at dksX8_listOf_1 21 rfl rfl)
theorem dX8_listOf_46 : decode cX8_listOf 46 = .ok (.iaload, 1) := dk_46 (dk_at dksX8_listOf_1 22 rfl rfl)
theorem dX8_listOf_47 : decode cX8_listOf 47 = .ok (.if_icmp .ne 5, 3) := dk_160 0 5 (dk_at dksX8_listOf_2 0 rfl rfl)
theorem dX8_listOf_50 : decode cX8_listOf 50 = .ok (.iload_n 2, 1) := dk_28 (dk_at dksX8_listOf_2 3 rfl rfl)
theorem dX8_listOf_51 : decode cX8_listOf 51 = .ok (.ireturn, 1) := dk_172 (dk_at dksX8_listOf_2 4 rfl rfl)
theorem dX8_listOf_52 : decode cX8_listOf 52 = .ok (.iinc 2 1, 3) := dk_132 2 1 (dk_at dksX8_listOf_2 5 rfl rfl)
theorem dX8_listOf_55 : decode cX8_listOf 55 = .ok (.goto (-53), 3) := dk_167 255 203 (dk_at dksX8_listOf_2 8 rfl rfl)
theorem dX8_listOf_58 : decode cX8_listOf 58 = .ok (.iload_n 1, 1) := dk_27 (dk_at dksX8_listOf_2 11 rfl rfl)
theorem dX8_listOf_59 : decode cX8_listOf 59 = .ok (.ireturn, 1) := dk_172 (dk_at dksX8_listOf_2 12 rfl rfl)
abbrev cX8_insert : ByteArray := prog_5_method_8_code
def yX8_insert : MethodName := ⟨RX8, "insert", "()V"⟩
def dkwX8_insert_3 : List UInt8 := [184, 0, 203, 42, 89, 180, 0, 155, 4, 96, 181, 0, 155, 177]
abbrev dktX8_insert_3 : List UInt8 := dkwX8_insert_3 ++ []
def dkwX8_insert_2 : List UInt8 := [184, 0, 203, 132, 1, 255, 167, 255, 209, 42, 180, 0, 20, 3, 42, 180, 0, 17, 27, 50, 3, 16, 9]
abbrev dktX8_insert_2 : List UInt8 := dkwX8_insert_2 ++ dktX8_insert_3
def dkwX8_insert_1 : List UInt8 := [182, 0, 199, 153, 0, 30, 42, 180, 0, 17, 27, 4, 100, 50, 3, 42, 180, 0, 17, 27, 50, 3, 16, 9]
abbrev dktX8_insert_1 : List UInt8 := dkwX8_insert_1 ++ dktX8_insert_2
def dkwX8_insert_0 : List UInt8 := [42, 180, 0, 155, 60, 27, 158, 0, 49, 42, 42, 180, 0, 20, 42, 180, 0, 17, 27, 4, 100, 50]
abbrev dktX8_insert_0 : List UInt8 := dkwX8_insert_0 ++ dktX8_insert_1
theorem dksX8_insert_0 : cX8_insert.data.toList.drop 0 = dktX8_insert_0 := by decide +kernel
theorem dksX8_insert_1 : cX8_insert.data.toList.drop 22 = dktX8_insert_1 := dk_seg dksX8_insert_0 22 rfl rfl
theorem dksX8_insert_2 : cX8_insert.data.toList.drop 46 = dktX8_insert_2 := dk_seg dksX8_insert_1 24 rfl rfl
theorem dksX8_insert_3 : cX8_insert.data.toList.drop 69 = dktX8_insert_3 := dk_seg dksX8_insert_2 23 rfl rfl
theorem dX8_insert_0 : decode cX8_insert 0 = .ok (.aload_n 0, 1) := dk_42 (dk_at dksX8_insert_0 0 rfl rfl)
theorem dX8_insert_1 : decode cX8_insert 1 = .ok (.getfield 155, 3) := dk_180 0 155 (dk_at dksX8_insert_0 1 rfl rfl)
theorem dX8_insert_4 : decode cX8_insert 4 = .ok (.istore_n 1, 1) := dk_60 (dk_at dksX8_insert_0 4 rfl rfl)
theorem dX8_insert_5 : decode cX8_insert 5 = .ok (.iload_n 1, 1) := dk_27 (dk_at dksX8_insert_0 5 rfl rfl)
theorem dX8_insert_6 : decode cX8_insert 6 = .ok (.ifCond .le 49, 3) := dk_158 0 49 (dk_at dksX8_insert_0 6 rfl rfl)
theorem dX8_insert_9 : decode cX8_insert 9 = .ok (.aload_n 0, 1) := dk_42 (dk_at dksX8_insert_0 9 rfl rfl)
theorem dX8_insert_10 : decode cX8_insert 10 = .ok (.aload_n 0, 1) := dk_42 (dk_at dksX8_insert_0 10 rfl rfl)
theorem dX8_insert_11 : decode cX8_insert 11 = .ok (.getfield 20, 3) := dk_180 0 20 (dk_at dksX8_insert_0 11 rfl rfl)
theorem dX8_insert_14 : decode cX8_insert 14 = .ok (.aload_n 0, 1) := dk_42 (dk_at dksX8_insert_0 14 rfl rfl)
theorem dX8_insert_15 : decode cX8_insert 15 = .ok (.getfield 17, 3) := dk_180 0 17 (dk_at dksX8_insert_0 15 rfl rfl)
theorem dX8_insert_18 : decode cX8_insert 18 = .ok (.iload_n 1, 1) := dk_27 (dk_at dksX8_insert_0 18 rfl rfl)
theorem dX8_insert_19 : decode cX8_insert 19 = .ok (.iconst 1, 1) := dk_4 (dk_at dksX8_insert_0 19 rfl rfl)
theorem dX8_insert_20 : decode cX8_insert 20 = .ok (.isub, 1) := dk_100 (dk_at dksX8_insert_0 20 rfl rfl)
theorem dX8_insert_21 : decode cX8_insert 21 = .ok (.aaload, 1) := dk_50 (dk_at dksX8_insert_0 21 rfl rfl)
theorem dX8_insert_22 : decode cX8_insert 22 = .ok (.invokevirtual 199, 3) := dk_182 0 199 (dk_at dksX8_insert_1 0 rfl rfl)
theorem dX8_insert_25 : decode cX8_insert 25 = .ok (.ifCond .eq 30, 3) := dk_153 0 30 (dk_at dksX8_insert_1 3 rfl rfl)
theorem dX8_insert_28 : decode cX8_insert 28 = .ok (.aload_n 0, 1) := dk_42 (dk_at dksX8_insert_1 6 rfl rfl)
theorem dX8_insert_29 : decode cX8_insert 29 = .ok (.getfield 17, 3) := dk_180 0 17 (dk_at dksX8_insert_1 7 rfl rfl)
theorem dX8_insert_32 : decode cX8_insert 32 = .ok (.iload_n 1, 1) := dk_27 (dk_at dksX8_insert_1 10 rfl rfl)
theorem dX8_insert_33 : decode cX8_insert 33 = .ok (.iconst 1, 1) := dk_4 (dk_at dksX8_insert_1 11 rfl rfl)
theorem dX8_insert_34 : decode cX8_insert 34 = .ok (.isub, 1) := dk_100 (dk_at dksX8_insert_1 12 rfl rfl)
theorem dX8_insert_35 : decode cX8_insert 35 = .ok (.aaload, 1) := dk_50 (dk_at dksX8_insert_1 13 rfl rfl)
theorem dX8_insert_36 : decode cX8_insert 36 = .ok (.iconst 0, 1) := dk_3 (dk_at dksX8_insert_1 14 rfl rfl)
theorem dX8_insert_37 : decode cX8_insert 37 = .ok (.aload_n 0, 1) := dk_42 (dk_at dksX8_insert_1 15 rfl rfl)
theorem dX8_insert_38 : decode cX8_insert 38 = .ok (.getfield 17, 3) := dk_180 0 17 (dk_at dksX8_insert_1 16 rfl rfl)
theorem dX8_insert_41 : decode cX8_insert 41 = .ok (.iload_n 1, 1) := dk_27 (dk_at dksX8_insert_1 19 rfl rfl)
theorem dX8_insert_42 : decode cX8_insert 42 = .ok (.aaload, 1) := dk_50 (dk_at dksX8_insert_1 20 rfl rfl)
theorem dX8_insert_43 : decode cX8_insert 43 = .ok (.iconst 0, 1) := dk_3 (dk_at dksX8_insert_1 21 rfl rfl)
theorem dX8_insert_44 : decode cX8_insert 44 = .ok (.bipush 9, 2) := dk_16 9 (dk_at dksX8_insert_1 22 rfl rfl)
theorem dX8_insert_46 : decode cX8_insert 46 = .ok (.invokestatic 203, 3) := dk_184 0 203 (dk_at dksX8_insert_2 0 rfl rfl)
theorem dX8_insert_49 : decode cX8_insert 49 = .ok (.iinc 1 (-1), 3) := dk_132 1 255 (dk_at dksX8_insert_2 3 rfl rfl)
theorem dX8_insert_52 : decode cX8_insert 52 = .ok (.goto (-47), 3) := dk_167 255 209 (dk_at dksX8_insert_2 6 rfl rfl)
theorem dX8_insert_55 : decode cX8_insert 55 = .ok (.aload_n 0, 1) := dk_42 (dk_at dksX8_insert_2 9 rfl rfl)
theorem dX8_insert_56 : decode cX8_insert 56 = .ok (.getfield 20, 3) := dk_180 0 20 (dk_at dksX8_insert_2 10 rfl rfl)
theorem dX8_insert_59 : decode cX8_insert 59 = .ok (.iconst 0, 1) := dk_3 (dk_at dksX8_insert_2 13 rfl rfl)
theorem dX8_insert_60 : decode cX8_insert 60 = .ok (.aload_n 0, 1) := dk_42 (dk_at dksX8_insert_2 14 rfl rfl)
theorem dX8_insert_61 : decode cX8_insert 61 = .ok (.getfield 17, 3) := dk_180 0 17 (dk_at dksX8_insert_2 15 rfl rfl)
theorem dX8_insert_64 : decode cX8_insert 64 = .ok (.iload_n 1, 1) := dk_27 (dk_at dksX8_insert_2 18 rfl rfl)
theorem dX8_insert_65 : decode cX8_insert 65 = .ok (.aaload, 1) := dk_50 (dk_at dksX8_insert_2 19 rfl rfl)
theorem dX8_insert_66 : decode cX8_insert 66 = .ok (.iconst 0, 1) := dk_3 (dk_at dksX8_insert_2 20 rfl rfl)
theorem dX8_insert_67 : decode cX8_insert 67 = .ok (.bipush 9, 2) := dk_16 9 (dk_at dksX8_insert_2 21 rfl rfl)
theorem dX8_insert_69 : decode cX8_insert 69 = .ok (.invokestatic 203, 3) := dk_184 0 203 (dk_at dksX8_insert_3 0 rfl rfl)
theorem dX8_insert_72 : decode cX8_insert 72 = .ok (.aload_n 0, 1) := dk_42 (dk_at dksX8_insert_3 3 rfl rfl)
theorem dX8_insert_73 : decode cX8_insert 73 = .ok (.dup, 1) := dk_89 (dk_at dksX8_insert_3 4 rfl rfl)
theorem dX8_insert_74 : decode cX8_insert 74 = .ok (.getfield 155, 3) := dk_180 0 155 (dk_at dksX8_insert_3 5 rfl rfl)
theorem dX8_insert_77 : decode cX8_insert 77 = .ok (.iconst 1, 1) := dk_4 (dk_at dksX8_insert_3 8 rfl rfl)
theorem dX8_insert_78 : decode cX8_insert 78 = .ok (.iadd, 1) := dk_96 (dk_at dksX8_insert_3 9 rfl rfl)
theorem dX8_insert_79 : decode cX8_insert 79 = .ok (.putfield 155, 3) := dk_181 0 155 (dk_at dksX8_insert_3 10 rfl rfl)
theorem dX8_insert_82 : decode cX8_insert 82 = .ok (.return_, 1) := dk_177 (dk_at dksX8_insert_3 13 rfl rfl)
abbrev cX8_isLess : ByteArray := prog_5_method_7_code
def yX8_isLess : MethodName := ⟨RX8, "isLess", "([B[B)Z"⟩
def dkwX8_isLess_1 : List UInt8 := [51, 162, 0, 7, 4, 167, 0, 4, 3, 172, 132, 3, 1, 167, 255, 221, 3, 172]
abbrev dktX8_isLess_1 : List UInt8 := dkwX8_isLess_1 ++ []
def dkwX8_isLess_0 : List UInt8 := [3, 62, 29, 42, 180, 0, 148, 162, 0, 33, 43, 29, 51, 44, 29, 51, 159, 0, 18, 43, 29, 51, 44, 29]
abbrev dktX8_isLess_0 : List UInt8 := dkwX8_isLess_0 ++ dktX8_isLess_1
theorem dksX8_isLess_0 : cX8_isLess.data.toList.drop 0 = dktX8_isLess_0 := by decide +kernel
theorem dksX8_isLess_1 : cX8_isLess.data.toList.drop 24 = dktX8_isLess_1 := dk_seg dksX8_isLess_0 24 rfl rfl
theorem dX8_isLess_0 : decode cX8_isLess 0 = .ok (.iconst 0, 1) := dk_3 (dk_at dksX8_isLess_0 0 rfl rfl)
theorem dX8_isLess_1 : decode cX8_isLess 1 = .ok (.istore_n 3, 1) := dk_62 (dk_at dksX8_isLess_0 1 rfl rfl)
theorem dX8_isLess_2 : decode cX8_isLess 2 = .ok (.iload_n 3, 1) := dk_29 (dk_at dksX8_isLess_0 2 rfl rfl)
theorem dX8_isLess_3 : decode cX8_isLess 3 = .ok (.aload_n 0, 1) := dk_42 (dk_at dksX8_isLess_0 3 rfl rfl)
theorem dX8_isLess_4 : decode cX8_isLess 4 = .ok (.getfield 148, 3) := dk_180 0 148 (dk_at dksX8_isLess_0 4 rfl rfl)
theorem dX8_isLess_7 : decode cX8_isLess 7 = .ok (.if_icmp .ge 33, 3) := dk_162 0 33 (dk_at dksX8_isLess_0 7 rfl rfl)
theorem dX8_isLess_10 : decode cX8_isLess 10 = .ok (.aload_n 1, 1) := dk_43 (dk_at dksX8_isLess_0 10 rfl rfl)
theorem dX8_isLess_11 : decode cX8_isLess 11 = .ok (.iload_n 3, 1) := dk_29 (dk_at dksX8_isLess_0 11 rfl rfl)
theorem dX8_isLess_12 : decode cX8_isLess 12 = .ok (.baload, 1) := dk_51 (dk_at dksX8_isLess_0 12 rfl rfl)
theorem dX8_isLess_13 : decode cX8_isLess 13 = .ok (.aload_n 2, 1) := dk_44 (dk_at dksX8_isLess_0 13 rfl rfl)
theorem dX8_isLess_14 : decode cX8_isLess 14 = .ok (.iload_n 3, 1) := dk_29 (dk_at dksX8_isLess_0 14 rfl rfl)
theorem dX8_isLess_15 : decode cX8_isLess 15 = .ok (.baload, 1) := dk_51 (dk_at dksX8_isLess_0 15 rfl rfl)
theorem dX8_isLess_16 : decode cX8_isLess 16 = .ok (.if_icmp .eq 18, 3) := dk_159 0 18 (dk_at dksX8_isLess_0 16 rfl rfl)
theorem dX8_isLess_19 : decode cX8_isLess 19 = .ok (.aload_n 1, 1) := dk_43 (dk_at dksX8_isLess_0 19 rfl rfl)
theorem dX8_isLess_20 : decode cX8_isLess 20 = .ok (.iload_n 3, 1) := dk_29 (dk_at dksX8_isLess_0 20 rfl rfl)
theorem dX8_isLess_21 : decode cX8_isLess 21 = .ok (.baload, 1) := dk_51 (dk_at dksX8_isLess_0 21 rfl rfl)
theorem dX8_isLess_22 : decode cX8_isLess 22 = .ok (.aload_n 2, 1) := dk_44 (dk_at dksX8_isLess_0 22 rfl rfl)
theorem dX8_isLess_23 : decode cX8_isLess 23 = .ok (.iload_n 3, 1) := dk_29 (dk_at dksX8_isLess_0 23 rfl rfl)
theorem dX8_isLess_24 : decode cX8_isLess 24 = .ok (.baload, 1) := dk_51 (dk_at dksX8_isLess_1 0 rfl rfl)
theorem dX8_isLess_25 : decode cX8_isLess 25 = .ok (.if_icmp .ge 7, 3) := dk_162 0 7 (dk_at dksX8_isLess_1 1 rfl rfl)
theorem dX8_isLess_28 : decode cX8_isLess 28 = .ok (.iconst 1, 1) := dk_4 (dk_at dksX8_isLess_1 4 rfl rfl)
theorem dX8_isLess_29 : decode cX8_isLess 29 = .ok (.goto 4, 3) := dk_167 0 4 (dk_at dksX8_isLess_1 5 rfl rfl)
theorem dX8_isLess_32 : decode cX8_isLess 32 = .ok (.iconst 0, 1) := dk_3 (dk_at dksX8_isLess_1 8 rfl rfl)
theorem dX8_isLess_33 : decode cX8_isLess 33 = .ok (.ireturn, 1) := dk_172 (dk_at dksX8_isLess_1 9 rfl rfl)
theorem dX8_isLess_34 : decode cX8_isLess 34 = .ok (.iinc 3 1, 3) := dk_132 3 1 (dk_at dksX8_isLess_1 10 rfl rfl)
theorem dX8_isLess_37 : decode cX8_isLess 37 = .ok (.goto (-35), 3) := dk_167 255 221 (dk_at dksX8_isLess_1 13 rfl rfl)
theorem dX8_isLess_40 : decode cX8_isLess 40 = .ok (.iconst 0, 1) := dk_3 (dk_at dksX8_isLess_1 16 rfl rfl)
theorem dX8_isLess_41 : decode cX8_isLess 41 = .ok (.ireturn, 1) := dk_172 (dk_at dksX8_isLess_1 17 rfl rfl)
abbrev cX8_run : ByteArray := prog_5_method_81_code
def yX8_run : MethodName := ⟨RX8, "run", "()V"⟩
def dkwX8_run_5 : List UInt8 := [182, 1, 254, 167, 0, 14, 42, 182, 2, 1, 167, 0, 7, 42, 182, 2, 4, 177]
abbrev dktX8_run_5 : List UInt8 := dkwX8_run_5 ++ []
def dkwX8_run_4 : List UInt8 := [42, 182, 1, 245, 167, 0, 35, 42, 182, 1, 248, 167, 0, 28, 42, 182, 1, 251, 167, 0, 21, 42]
abbrev dktX8_run_4 : List UInt8 := dkwX8_run_4 ++ dktX8_run_5
def dkwX8_run_3 : List UInt8 := [170, 0, 0, 0, 0, 0, 106, 0, 0, 0, 0, 0, 0, 0, 13, 0, 0, 0, 71, 0, 0, 0, 71, 0, 0, 0, 71, 0, 0, 0, 71, 0, 0, 0, 78, 0, 0, 0, 71, 0, 0, 0, 85, 0, 0, 0, 106, 0, 0, 0, 106, 0, 0, 0, 106, 0, 0, 0, 106, 0, 0, 0, 92, 0, 0, 0, 99, 0, 0, 0, 99]
abbrev dktX8_run_3 : List UInt8 := dkwX8_run_3 ++ dktX8_run_4
def dkwX8_run_2 : List UInt8 := [51, 153, 0, 8, 42, 27, 182, 0, 219, 132, 1, 1, 167, 255, 231, 177, 42, 180, 0, 131, 180, 0, 180]
abbrev dktX8_run_2 : List UInt8 := dkwX8_run_2 ++ dktX8_run_3
def dkwX8_run_1 : List UInt8 := [180, 0, 131, 180, 0, 185, 163, 0, 34, 3, 60, 27, 42, 180, 0, 148, 162, 0, 23, 42, 180, 0, 9, 27]
abbrev dktX8_run_1 : List UInt8 := dkwX8_run_1 ++ dktX8_run_2
def dkwX8_run_0 : List UInt8 := [42, 180, 0, 131, 180, 0, 180, 16, 14, 160, 0, 8, 42, 182, 1, 242, 177, 42, 180, 0, 149, 42]
abbrev dktX8_run_0 : List UInt8 := dkwX8_run_0 ++ dktX8_run_1
theorem dksX8_run_0 : cX8_run.data.toList.drop 0 = dktX8_run_0 := by decide +kernel
theorem dksX8_run_1 : cX8_run.data.toList.drop 22 = dktX8_run_1 := dk_seg dksX8_run_0 22 rfl rfl
theorem dksX8_run_2 : cX8_run.data.toList.drop 46 = dktX8_run_2 := dk_seg dksX8_run_1 24 rfl rfl
theorem dksX8_run_3 : cX8_run.data.toList.drop 69 = dktX8_run_3 := dk_seg dksX8_run_2 23 rfl rfl
theorem dksX8_run_4 : cX8_run.data.toList.drop 140 = dktX8_run_4 := dk_seg dksX8_run_3 71 rfl rfl
theorem dksX8_run_5 : cX8_run.data.toList.drop 162 = dktX8_run_5 := dk_seg dksX8_run_4 22 rfl rfl
theorem dX8_run_0 : decode cX8_run 0 = .ok (.aload_n 0, 1) := dk_42 (dk_at dksX8_run_0 0 rfl rfl)
theorem dX8_run_1 : decode cX8_run 1 = .ok (.getfield 131, 3) := dk_180 0 131 (dk_at dksX8_run_0 1 rfl rfl)
theorem dX8_run_4 : decode cX8_run 4 = .ok (.getfield 180, 3) := dk_180 0 180 (dk_at dksX8_run_0 4 rfl rfl)
theorem dX8_run_7 : decode cX8_run 7 = .ok (.bipush 14, 2) := dk_16 14 (dk_at dksX8_run_0 7 rfl rfl)
theorem dX8_run_9 : decode cX8_run 9 = .ok (.if_icmp .ne 8, 3) := dk_160 0 8 (dk_at dksX8_run_0 9 rfl rfl)
theorem dX8_run_12 : decode cX8_run 12 = .ok (.aload_n 0, 1) := dk_42 (dk_at dksX8_run_0 12 rfl rfl)
theorem dX8_run_13 : decode cX8_run 13 = .ok (.invokevirtual 498, 3) := dk_182 1 242 (dk_at dksX8_run_0 13 rfl rfl)
theorem dX8_run_16 : decode cX8_run 16 = .ok (.return_, 1) := dk_177 (dk_at dksX8_run_0 16 rfl rfl)
theorem dX8_run_17 : decode cX8_run 17 = .ok (.aload_n 0, 1) := dk_42 (dk_at dksX8_run_0 17 rfl rfl)
theorem dX8_run_18 : decode cX8_run 18 = .ok (.getfield 149, 3) := dk_180 0 149 (dk_at dksX8_run_0 18 rfl rfl)
theorem dX8_run_21 : decode cX8_run 21 = .ok (.aload_n 0, 1) := dk_42 (dk_at dksX8_run_0 21 rfl rfl)
theorem dX8_run_22 : decode cX8_run 22 = .ok (.getfield 131, 3) := dk_180 0 131 (dk_at dksX8_run_1 0 rfl rfl)
theorem dX8_run_25 : decode cX8_run 25 = .ok (.getfield 185, 3) := dk_180 0 185 (dk_at dksX8_run_1 3 rfl rfl)
theorem dX8_run_28 : decode cX8_run 28 = .ok (.if_icmp .gt 34, 3) := dk_163 0 34 (dk_at dksX8_run_1 6 rfl rfl)
theorem dX8_run_31 : decode cX8_run 31 = .ok (.iconst 0, 1) := dk_3 (dk_at dksX8_run_1 9 rfl rfl)
theorem dX8_run_32 : decode cX8_run 32 = .ok (.istore_n 1, 1) := dk_60 (dk_at dksX8_run_1 10 rfl rfl)
theorem dX8_run_33 : decode cX8_run 33 = .ok (.iload_n 1, 1) := dk_27 (dk_at dksX8_run_1 11 rfl rfl)
theorem dX8_run_34 : decode cX8_run 34 = .ok (.aload_n 0, 1) := dk_42 (dk_at dksX8_run_1 12 rfl rfl)
theorem dX8_run_35 : decode cX8_run 35 = .ok (.getfield 148, 3) := dk_180 0 148 (dk_at dksX8_run_1 13 rfl rfl)
theorem dX8_run_38 : decode cX8_run 38 = .ok (.if_icmp .ge 23, 3) := dk_162 0 23 (dk_at dksX8_run_1 16 rfl rfl)
theorem dX8_run_41 : decode cX8_run 41 = .ok (.aload_n 0, 1) := dk_42 (dk_at dksX8_run_1 19 rfl rfl)
theorem dX8_run_42 : decode cX8_run 42 = .ok (.getfield 9, 3) := dk_180 0 9 (dk_at dksX8_run_1 20 rfl rfl)
theorem dX8_run_45 : decode cX8_run 45 = .ok (.iload_n 1, 1) := dk_27 (dk_at dksX8_run_1 23 rfl rfl)
theorem dX8_run_46 : decode cX8_run 46 = .ok (.baload, 1) := dk_51 (dk_at dksX8_run_2 0 rfl rfl)
theorem dX8_run_47 : decode cX8_run 47 = .ok (.ifCond .eq 8, 3) := dk_153 0 8 (dk_at dksX8_run_2 1 rfl rfl)
theorem dX8_run_50 : decode cX8_run 50 = .ok (.aload_n 0, 1) := dk_42 (dk_at dksX8_run_2 4 rfl rfl)
theorem dX8_run_51 : decode cX8_run 51 = .ok (.iload_n 1, 1) := dk_27 (dk_at dksX8_run_2 5 rfl rfl)
theorem dX8_run_52 : decode cX8_run 52 = .ok (.invokevirtual 219, 3) := dk_182 0 219 (dk_at dksX8_run_2 6 rfl rfl)
theorem dX8_run_55 : decode cX8_run 55 = .ok (.iinc 1 1, 3) := dk_132 1 1 (dk_at dksX8_run_2 9 rfl rfl)
theorem dX8_run_58 : decode cX8_run 58 = .ok (.goto (-25), 3) := dk_167 255 231 (dk_at dksX8_run_2 12 rfl rfl)
theorem dX8_run_61 : decode cX8_run 61 = .ok (.return_, 1) := dk_177 (dk_at dksX8_run_2 15 rfl rfl)
theorem dX8_run_62 : decode cX8_run 62 = .ok (.aload_n 0, 1) := dk_42 (dk_at dksX8_run_2 16 rfl rfl)
theorem dX8_run_63 : decode cX8_run 63 = .ok (.getfield 131, 3) := dk_180 0 131 (dk_at dksX8_run_2 17 rfl rfl)
theorem dX8_run_66 : decode cX8_run 66 = .ok (.getfield 180, 3) := dk_180 0 180 (dk_at dksX8_run_2 20 rfl rfl)
theorem dX8_run_69 : decode cX8_run 69 = .ok (.tableswitch 106 0 13 #[71, 71, 71, 71, 78, 71, 85, 106, 106, 106, 106, 92, 99, 99], 71) := by decide +kernel
theorem dX8_run_140 : decode cX8_run 140 = .ok (.aload_n 0, 1) := dk_42 (dk_at dksX8_run_4 0 rfl rfl)
theorem dX8_run_141 : decode cX8_run 141 = .ok (.invokevirtual 501, 3) := dk_182 1 245 (dk_at dksX8_run_4 1 rfl rfl)
theorem dX8_run_144 : decode cX8_run 144 = .ok (.goto 35, 3) := dk_167 0 35 (dk_at dksX8_run_4 4 rfl rfl)
theorem dX8_run_147 : decode cX8_run 147 = .ok (.aload_n 0, 1) := dk_42 (dk_at dksX8_run_4 7 rfl rfl)
theorem dX8_run_148 : decode cX8_run 148 = .ok (.invokevirtual 504, 3) := dk_182 1 248 (dk_at dksX8_run_4 8 rfl rfl)
theorem dX8_run_151 : decode cX8_run 151 = .ok (.goto 28, 3) := dk_167 0 28 (dk_at dksX8_run_4 11 rfl rfl)
theorem dX8_run_154 : decode cX8_run 154 = .ok (.aload_n 0, 1) := dk_42 (dk_at dksX8_run_4 14 rfl rfl)
theorem dX8_run_155 : decode cX8_run 155 = .ok (.invokevirtual 507, 3) := dk_182 1 251 (dk_at dksX8_run_4 15 rfl rfl)
theorem dX8_run_158 : decode cX8_run 158 = .ok (.goto 21, 3) := dk_167 0 21 (dk_at dksX8_run_4 18 rfl rfl)
theorem dX8_run_161 : decode cX8_run 161 = .ok (.aload_n 0, 1) := dk_42 (dk_at dksX8_run_4 21 rfl rfl)
theorem dX8_run_162 : decode cX8_run 162 = .ok (.invokevirtual 510, 3) := dk_182 1 254 (dk_at dksX8_run_5 0 rfl rfl)
theorem dX8_run_165 : decode cX8_run 165 = .ok (.goto 14, 3) := dk_167 0 14 (dk_at dksX8_run_5 3 rfl rfl)
theorem dX8_run_168 : decode cX8_run 168 = .ok (.aload_n 0, 1) := dk_42 (dk_at dksX8_run_5 6 rfl rfl)
theorem dX8_run_169 : decode cX8_run 169 = .ok (.invokevirtual 513, 3) := dk_182 2 1 (dk_at dksX8_run_5 7 rfl rfl)
theorem dX8_run_172 : decode cX8_run 172 = .ok (.goto 7, 3) := dk_167 0 7 (dk_at dksX8_run_5 10 rfl rfl)
theorem dX8_run_175 : decode cX8_run 175 = .ok (.aload_n 0, 1) := dk_42 (dk_at dksX8_run_5 13 rfl rfl)
theorem dX8_run_176 : decode cX8_run 176 = .ok (.invokevirtual 516, 3) := dk_182 2 4 (dk_at dksX8_run_5 14 rfl rfl)
theorem dX8_run_179 : decode cX8_run 179 = .ok (.return_, 1) := dk_177 (dk_at dksX8_run_5 17 rfl rfl)
abbrev cX8_byLists : ByteArray := prog_5_method_78_code
def yX8_byLists : MethodName := ⟨RX8, "byLists", "()V"⟩
def dkwX8_byLists_5 : List UInt8 := [182, 1, 237, 42, 182, 1, 239, 177]
abbrev dktX8_byLists_5 : List UInt8 := dkwX8_byLists_5 ++ []
def dkwX8_byLists_4 : List UInt8 := [153, 0, 10, 42, 182, 1, 234, 167, 0, 15, 42, 42, 180, 0, 131, 180, 0, 185, 4, 182, 1, 203, 42]
abbrev dktX8_byLists_4 : List UInt8 := dkwX8_byLists_4 ++ dktX8_byLists_5
def dkwX8_byLists_3 : List UInt8 := [3, 181, 0, 170, 42, 182, 1, 231, 42, 180, 1, 169, 158, 0, 36, 42, 180, 0, 131, 180, 1, 213]
abbrev dktX8_byLists_3 : List UInt8 := dkwX8_byLists_3 ++ dktX8_byLists_4
def dkwX8_byLists_2 : List UInt8 := [180, 0, 131, 180, 1, 213, 153, 0, 18, 42, 180, 0, 131, 180, 0, 185, 42, 180, 1, 200, 96, 167, 0, 4]
abbrev dktX8_byLists_2 : List UInt8 := dkwX8_byLists_2 ++ dktX8_byLists_3
def dkwX8_byLists_1 : List UInt8 := [184, 0, 203, 42, 182, 1, 228, 42, 180, 0, 128, 3, 42, 180, 0, 33, 3, 16, 9, 184, 0, 203, 42, 42]
abbrev dktX8_byLists_1 : List UInt8 := dkwX8_byLists_1 ++ dktX8_byLists_2
def dkwX8_byLists_0 : List UInt8 := [42, 182, 1, 222, 42, 182, 1, 225, 42, 182, 0, 254, 42, 180, 0, 33, 3, 42, 180, 0, 128, 3, 16, 9]
abbrev dktX8_byLists_0 : List UInt8 := dkwX8_byLists_0 ++ dktX8_byLists_1
theorem dksX8_byLists_0 : cX8_byLists.data.toList.drop 0 = dktX8_byLists_0 := by decide +kernel
theorem dksX8_byLists_1 : cX8_byLists.data.toList.drop 24 = dktX8_byLists_1 := dk_seg dksX8_byLists_0 24 rfl rfl
theorem dksX8_byLists_2 : cX8_byLists.data.toList.drop 48 = dktX8_byLists_2 := dk_seg dksX8_byLists_1 24 rfl rfl
theorem dksX8_byLists_3 : cX8_byLists.data.toList.drop 72 = dktX8_byLists_3 := dk_seg dksX8_byLists_2 24 rfl rfl
theorem dksX8_byLists_4 : cX8_byLists.data.toList.drop 94 = dktX8_byLists_4 := dk_seg dksX8_byLists_3 22 rfl rfl
theorem dksX8_byLists_5 : cX8_byLists.data.toList.drop 117 = dktX8_byLists_5 := dk_seg dksX8_byLists_4 23 rfl rfl
theorem dX8_byLists_0 : decode cX8_byLists 0 = .ok (.aload_n 0, 1) := dk_42 (dk_at dksX8_byLists_0 0 rfl rfl)
theorem dX8_byLists_1 : decode cX8_byLists 1 = .ok (.invokevirtual 478, 3) := dk_182 1 222 (dk_at dksX8_byLists_0 1 rfl rfl)
theorem dX8_byLists_4 : decode cX8_byLists 4 = .ok (.aload_n 0, 1) := dk_42 (dk_at dksX8_byLists_0 4 rfl rfl)
theorem dX8_byLists_5 : decode cX8_byLists 5 = .ok (.invokevirtual 481, 3) := dk_182 1 225 (dk_at dksX8_byLists_0 5 rfl rfl)
theorem dX8_byLists_8 : decode cX8_byLists 8 = .ok (.aload_n 0, 1) := dk_42 (dk_at dksX8_byLists_0 8 rfl rfl)
theorem dX8_byLists_9 : decode cX8_byLists 9 = .ok (.invokevirtual 254, 3) := dk_182 0 254 (dk_at dksX8_byLists_0 9 rfl rfl)
theorem dX8_byLists_12 : decode cX8_byLists 12 = .ok (.aload_n 0, 1) := dk_42 (dk_at dksX8_byLists_0 12 rfl rfl)
theorem dX8_byLists_13 : decode cX8_byLists 13 = .ok (.getfield 33, 3) := dk_180 0 33 (dk_at dksX8_byLists_0 13 rfl rfl)
theorem dX8_byLists_16 : decode cX8_byLists 16 = .ok (.iconst 0, 1) := dk_3 (dk_at dksX8_byLists_0 16 rfl rfl)
theorem dX8_byLists_17 : decode cX8_byLists 17 = .ok (.aload_n 0, 1) := dk_42 (dk_at dksX8_byLists_0 17 rfl rfl)
theorem dX8_byLists_18 : decode cX8_byLists 18 = .ok (.getfield 128, 3) := dk_180 0 128 (dk_at dksX8_byLists_0 18 rfl rfl)
theorem dX8_byLists_21 : decode cX8_byLists 21 = .ok (.iconst 0, 1) := dk_3 (dk_at dksX8_byLists_0 21 rfl rfl)
theorem dX8_byLists_22 : decode cX8_byLists 22 = .ok (.bipush 9, 2) := dk_16 9 (dk_at dksX8_byLists_0 22 rfl rfl)
theorem dX8_byLists_24 : decode cX8_byLists 24 = .ok (.invokestatic 203, 3) := dk_184 0 203 (dk_at dksX8_byLists_1 0 rfl rfl)
theorem dX8_byLists_27 : decode cX8_byLists 27 = .ok (.aload_n 0, 1) := dk_42 (dk_at dksX8_byLists_1 3 rfl rfl)
theorem dX8_byLists_28 : decode cX8_byLists 28 = .ok (.invokevirtual 484, 3) := dk_182 1 228 (dk_at dksX8_byLists_1 4 rfl rfl)
theorem dX8_byLists_31 : decode cX8_byLists 31 = .ok (.aload_n 0, 1) := dk_42 (dk_at dksX8_byLists_1 7 rfl rfl)
theorem dX8_byLists_32 : decode cX8_byLists 32 = .ok (.getfield 128, 3) := dk_180 0 128 (dk_at dksX8_byLists_1 8 rfl rfl)
theorem dX8_byLists_35 : decode cX8_byLists 35 = .ok (.iconst 0, 1) := dk_3 (dk_at dksX8_byLists_1 11 rfl rfl)
theorem dX8_byLists_36 : decode cX8_byLists 36 = .ok (.aload_n 0, 1) := dk_42 (dk_at dksX8_byLists_1 12 rfl rfl)
theorem dX8_byLists_37 : decode cX8_byLists 37 = .ok (.getfield 33, 3) := dk_180 0 33 (dk_at dksX8_byLists_1 13 rfl rfl)
theorem dX8_byLists_40 : decode cX8_byLists 40 = .ok (.iconst 0, 1) := dk_3 (dk_at dksX8_byLists_1 16 rfl rfl)
theorem dX8_byLists_41 : decode cX8_byLists 41 = .ok (.bipush 9, 2) := dk_16 9 (dk_at dksX8_byLists_1 17 rfl rfl)
theorem dX8_byLists_43 : decode cX8_byLists 43 = .ok (.invokestatic 203, 3) := dk_184 0 203 (dk_at dksX8_byLists_1 19 rfl rfl)
theorem dX8_byLists_46 : decode cX8_byLists 46 = .ok (.aload_n 0, 1) := dk_42 (dk_at dksX8_byLists_1 22 rfl rfl)
theorem dX8_byLists_47 : decode cX8_byLists 47 = .ok (.aload_n 0, 1) := dk_42 (dk_at dksX8_byLists_1 23 rfl rfl)
theorem dX8_byLists_48 : decode cX8_byLists 48 = .ok (.getfield 131, 3) := dk_180 0 131 (dk_at dksX8_byLists_2 0 rfl rfl)
theorem dX8_byLists_51 : decode cX8_byLists 51 = .ok (.getfield 469, 3) := dk_180 1 213 (dk_at dksX8_byLists_2 3 rfl rfl)
theorem dX8_byLists_54 : decode cX8_byLists 54 = .ok (.ifCond .eq 18, 3) := dk_153 0 18 (dk_at dksX8_byLists_2 6 rfl rfl)
theorem dX8_byLists_57 : decode cX8_byLists 57 = .ok (.aload_n 0, 1) := dk_42 (dk_at dksX8_byLists_2 9 rfl rfl)
theorem dX8_byLists_58 : decode cX8_byLists 58 = .ok (.getfield 131, 3) := dk_180 0 131 (dk_at dksX8_byLists_2 10 rfl rfl)
theorem dX8_byLists_61 : decode cX8_byLists 61 = .ok (.getfield 185, 3) := dk_180 0 185 (dk_at dksX8_byLists_2 13 rfl rfl)
theorem dX8_byLists_64 : decode cX8_byLists 64 = .ok (.aload_n 0, 1) := dk_42 (dk_at dksX8_byLists_2 16 rfl rfl)
theorem dX8_byLists_65 : decode cX8_byLists 65 = .ok (.getfield 456, 3) := dk_180 1 200 (dk_at dksX8_byLists_2 17 rfl rfl)
theorem dX8_byLists_68 : decode cX8_byLists 68 = .ok (.iadd, 1) := dk_96 (dk_at dksX8_byLists_2 20 rfl rfl)
theorem dX8_byLists_69 : decode cX8_byLists 69 = .ok (.goto 4, 3) := dk_167 0 4 (dk_at dksX8_byLists_2 21 rfl rfl)
theorem dX8_byLists_72 : decode cX8_byLists 72 = .ok (.iconst 0, 1) := dk_3 (dk_at dksX8_byLists_3 0 rfl rfl)
theorem dX8_byLists_73 : decode cX8_byLists 73 = .ok (.putfield 170, 3) := dk_181 0 170 (dk_at dksX8_byLists_3 1 rfl rfl)
theorem dX8_byLists_76 : decode cX8_byLists 76 = .ok (.aload_n 0, 1) := dk_42 (dk_at dksX8_byLists_3 4 rfl rfl)
theorem dX8_byLists_77 : decode cX8_byLists 77 = .ok (.invokevirtual 487, 3) := dk_182 1 231 (dk_at dksX8_byLists_3 5 rfl rfl)
theorem dX8_byLists_80 : decode cX8_byLists 80 = .ok (.aload_n 0, 1) := dk_42 (dk_at dksX8_byLists_3 8 rfl rfl)
theorem dX8_byLists_81 : decode cX8_byLists 81 = .ok (.getfield 425, 3) := dk_180 1 169 (dk_at dksX8_byLists_3 9 rfl rfl)
theorem dX8_byLists_84 : decode cX8_byLists 84 = .ok (.ifCond .le 36, 3) := dk_158 0 36 (dk_at dksX8_byLists_3 12 rfl rfl)
theorem dX8_byLists_87 : decode cX8_byLists 87 = .ok (.aload_n 0, 1) := dk_42 (dk_at dksX8_byLists_3 15 rfl rfl)
theorem dX8_byLists_88 : decode cX8_byLists 88 = .ok (.getfield 131, 3) := dk_180 0 131 (dk_at dksX8_byLists_3 16 rfl rfl)
theorem dX8_byLists_91 : decode cX8_byLists 91 = .ok (.getfield 469, 3) := dk_180 1 213 (dk_at dksX8_byLists_3 19 rfl rfl)
theorem dX8_byLists_94 : decode cX8_byLists 94 = .ok (.ifCond .eq 10, 3) := dk_153 0 10 (dk_at dksX8_byLists_4 0 rfl rfl)
theorem dX8_byLists_97 : decode cX8_byLists 97 = .ok (.aload_n 0, 1) := dk_42 (dk_at dksX8_byLists_4 3 rfl rfl)
theorem dX8_byLists_98 : decode cX8_byLists 98 = .ok (.invokevirtual 490, 3) := dk_182 1 234 (dk_at dksX8_byLists_4 4 rfl rfl)
theorem dX8_byLists_101 : decode cX8_byLists 101 = .ok (.goto 15, 3) := dk_167 0 15 (dk_at dksX8_byLists_4 7 rfl rfl)
theorem dX8_byLists_104 : decode cX8_byLists 104 = .ok (.aload_n 0, 1) := dk_42 (dk_at dksX8_byLists_4 10 rfl rfl)
theorem dX8_byLists_105 : decode cX8_byLists 105 = .ok (.aload_n 0, 1) := dk_42 (dk_at dksX8_byLists_4 11 rfl rfl)
theorem dX8_byLists_106 : decode cX8_byLists 106 = .ok (.getfield 131, 3) := dk_180 0 131 (dk_at dksX8_byLists_4 12 rfl rfl)
theorem dX8_byLists_109 : decode cX8_byLists 109 = .ok (.getfield 185, 3) := dk_180 0 185 (dk_at dksX8_byLists_4 15 rfl rfl)
theorem dX8_byLists_112 : decode cX8_byLists 112 = .ok (.iconst 1, 1) := dk_4 (dk_at dksX8_byLists_4 18 rfl rfl)
theorem dX8_byLists_113 : decode cX8_byLists 113 = .ok (.invokevirtual 459, 3) := dk_182 1 203 (dk_at dksX8_byLists_4 19 rfl rfl)
theorem dX8_byLists_116 : decode cX8_byLists 116 = .ok (.aload_n 0, 1) := dk_42 (dk_at dksX8_byLists_4 22 rfl rfl)
theorem dX8_byLists_117 : decode cX8_byLists 117 = .ok (.invokevirtual 493, 3) := dk_182 1 237 (dk_at dksX8_byLists_5 0 rfl rfl)
theorem dX8_byLists_120 : decode cX8_byLists 120 = .ok (.aload_n 0, 1) := dk_42 (dk_at dksX8_byLists_5 3 rfl rfl)
theorem dX8_byLists_121 : decode cX8_byLists 121 = .ok (.invokevirtual 495, 3) := dk_182 1 239 (dk_at dksX8_byLists_5 4 rfl rfl)
theorem dX8_byLists_124 : decode cX8_byLists 124 = .ok (.return_, 1) := dk_177 (dk_at dksX8_byLists_5 7 rfl rfl)
abbrev cX8_gatherLists : ByteArray := prog_5_method_61_code
def yX8_gatherLists : MethodName := ⟨RX8, "gatherLists", "()V"⟩
def dkwX8_gatherLists_4 : List UInt8 := [79, 132, 1, 1, 167, 255, 182, 177]
abbrev dktX8_gatherLists_4 : List UInt8 := dkwX8_gatherLists_4 ++ []
def dkwX8_gatherLists_3 : List UInt8 := [180, 1, 160, 29, 79, 42, 89, 180, 1, 160, 4, 96, 181, 1, 160, 42, 180, 0, 107, 29, 92, 46, 4, 96]
abbrev dktX8_gatherLists_3 : List UInt8 := dkwX8_gatherLists_3 ++ dktX8_gatherLists_4
def dkwX8_gatherLists_2 : List UInt8 := [153, 0, 47, 42, 28, 182, 0, 195, 62, 42, 29, 182, 1, 166, 154, 0, 23, 42, 180, 0, 101, 42]
abbrev dktX8_gatherLists_2 : List UInt8 := dkwX8_gatherLists_2 ++ dktX8_gatherLists_3
def dkwX8_gatherLists_1 : List UInt8 := [42, 180, 0, 148, 162, 0, 72, 42, 180, 0, 135, 180, 0, 212, 27, 46, 61, 42, 180, 0, 9, 28, 51]
abbrev dktX8_gatherLists_1 : List UInt8 := dkwX8_gatherLists_1 ++ dktX8_gatherLists_2
def dkwX8_gatherLists_0 : List UInt8 := [42, 3, 181, 1, 160, 42, 180, 0, 104, 3, 184, 1, 163, 42, 180, 0, 107, 3, 184, 1, 163, 3, 60, 27]
abbrev dktX8_gatherLists_0 : List UInt8 := dkwX8_gatherLists_0 ++ dktX8_gatherLists_1
theorem dksX8_gatherLists_0 : cX8_gatherLists.data.toList.drop 0 = dktX8_gatherLists_0 := by decide +kernel
theorem dksX8_gatherLists_1 : cX8_gatherLists.data.toList.drop 24 = dktX8_gatherLists_1 := dk_seg dksX8_gatherLists_0 24 rfl rfl
theorem dksX8_gatherLists_2 : cX8_gatherLists.data.toList.drop 47 = dktX8_gatherLists_2 := dk_seg dksX8_gatherLists_1 23 rfl rfl
theorem dksX8_gatherLists_3 : cX8_gatherLists.data.toList.drop 69 = dktX8_gatherLists_3 := dk_seg dksX8_gatherLists_2 22 rfl rfl
theorem dksX8_gatherLists_4 : cX8_gatherLists.data.toList.drop 93 = dktX8_gatherLists_4 := dk_seg dksX8_gatherLists_3 24 rfl rfl
theorem dX8_gatherLists_0 : decode cX8_gatherLists 0 = .ok (.aload_n 0, 1) := dk_42 (dk_at dksX8_gatherLists_0 0 rfl rfl)
theorem dX8_gatherLists_1 : decode cX8_gatherLists 1 = .ok (.iconst 0, 1) := dk_3 (dk_at dksX8_gatherLists_0 1 rfl rfl)
theorem dX8_gatherLists_2 : decode cX8_gatherLists 2 = .ok (.putfield 416, 3) := dk_181 1 160 (dk_at dksX8_gatherLists_0 2 rfl rfl)
theorem dX8_gatherLists_5 : decode cX8_gatherLists 5 = .ok (.aload_n 0, 1) := dk_42 (dk_at dksX8_gatherLists_0 5 rfl rfl)
theorem dX8_gatherLists_6 : decode cX8_gatherLists 6 = .ok (.getfield 104, 3) := dk_180 0 104 (dk_at dksX8_gatherLists_0 6 rfl rfl)
theorem dX8_gatherLists_9 : decode cX8_gatherLists 9 = .ok (.iconst 0, 1) := dk_3 (dk_at dksX8_gatherLists_0 9 rfl rfl)
theorem dX8_gatherLists_10 : decode cX8_gatherLists 10 = .ok (.invokestatic 419, 3) := dk_184 1 163 (dk_at dksX8_gatherLists_0 10 rfl rfl)
theorem dX8_gatherLists_13 : decode cX8_gatherLists 13 = .ok (.aload_n 0, 1) := dk_42 (dk_at dksX8_gatherLists_0 13 rfl rfl)
theorem dX8_gatherLists_14 : decode cX8_gatherLists 14 = .ok (.getfield 107, 3) := dk_180 0 107 (dk_at dksX8_gatherLists_0 14 rfl rfl)
theorem dX8_gatherLists_17 : decode cX8_gatherLists 17 = .ok (.iconst 0, 1) := dk_3 (dk_at dksX8_gatherLists_0 17 rfl rfl)
theorem dX8_gatherLists_18 : decode cX8_gatherLists 18 = .ok (.invokestatic 419, 3) := dk_184 1 163 (dk_at dksX8_gatherLists_0 18 rfl rfl)
theorem dX8_gatherLists_21 : decode cX8_gatherLists 21 = .ok (.iconst 0, 1) := dk_3 (dk_at dksX8_gatherLists_0 21 rfl rfl)
theorem dX8_gatherLists_22 : decode cX8_gatherLists 22 = .ok (.istore_n 1, 1) := dk_60 (dk_at dksX8_gatherLists_0 22 rfl rfl)
theorem dX8_gatherLists_23 : decode cX8_gatherLists 23 = .ok (.iload_n 1, 1) := dk_27 (dk_at dksX8_gatherLists_0 23 rfl rfl)
theorem dX8_gatherLists_24 : decode cX8_gatherLists 24 = .ok (.aload_n 0, 1) := dk_42 (dk_at dksX8_gatherLists_1 0 rfl rfl)
theorem dX8_gatherLists_25 : decode cX8_gatherLists 25 = .ok (.getfield 148, 3) := dk_180 0 148 (dk_at dksX8_gatherLists_1 1 rfl rfl)
theorem dX8_gatherLists_28 : decode cX8_gatherLists 28 = .ok (.if_icmp .ge 72, 3) := dk_162 0 72 (dk_at dksX8_gatherLists_1 4 rfl rfl)
theorem dX8_gatherLists_31 : decode cX8_gatherLists 31 = .ok (.aload_n 0, 1) := dk_42 (dk_at dksX8_gatherLists_1 7 rfl rfl)
theorem dX8_gatherLists_32 : decode cX8_gatherLists 32 = .ok (.getfield 135, 3) := dk_180 0 135 (dk_at dksX8_gatherLists_1 8 rfl rfl)
theorem dX8_gatherLists_35 : decode cX8_gatherLists 35 = .ok (.getfield 212, 3) := dk_180 0 212 (dk_at dksX8_gatherLists_1 11 rfl rfl)
theorem dX8_gatherLists_38 : decode cX8_gatherLists 38 = .ok (.iload_n 1, 1) := dk_27 (dk_at dksX8_gatherLists_1 14 rfl rfl)
theorem dX8_gatherLists_39 : decode cX8_gatherLists 39 = .ok (.iaload, 1) := dk_46 (dk_at dksX8_gatherLists_1 15 rfl rfl)
theorem dX8_gatherLists_40 : decode cX8_gatherLists 40 = .ok (.istore_n 2, 1) := dk_61 (dk_at dksX8_gatherLists_1 16 rfl rfl)
theorem dX8_gatherLists_41 : decode cX8_gatherLists 41 = .ok (.aload_n 0, 1) := dk_42 (dk_at dksX8_gatherLists_1 17 rfl rfl)
theorem dX8_gatherLists_42 : decode cX8_gatherLists 42 = .ok (.getfield 9, 3) := dk_180 0 9 (dk_at dksX8_gatherLists_1 18 rfl rfl)
theorem dX8_gatherLists_45 : decode cX8_gatherLists 45 = .ok (.iload_n 2, 1) := dk_28 (dk_at dksX8_gatherLists_1 21 rfl rfl)
theorem dX8_gatherLists_46 : decode cX8_gatherLists 46 = .ok (.baload, 1) := dk_51 (dk_at dksX8_gatherLists_1 22 rfl rfl)
theorem dX8_gatherLists_47 : decode cX8_gatherLists 47 = .ok (.ifCond .eq 47, 3) := dk_153 0 47 (dk_at dksX8_gatherLists_2 0 rfl rfl)
theorem dX8_gatherLists_50 : decode cX8_gatherLists 50 = .ok (.aload_n 0, 1) := dk_42 (dk_at dksX8_gatherLists_2 3 rfl rfl)
theorem dX8_gatherLists_51 : decode cX8_gatherLists 51 = .ok (.iload_n 2, 1) := dk_28 (dk_at dksX8_gatherLists_2 4 rfl rfl)
theorem dX8_gatherLists_52 : decode cX8_gatherLists 52 = .ok (.invokevirtual 195, 3) := dk_182 0 195 (dk_at dksX8_gatherLists_2 5 rfl rfl)
theorem dX8_gatherLists_55 : decode cX8_gatherLists 55 = .ok (.istore_n 3, 1) := dk_62 (dk_at dksX8_gatherLists_2 8 rfl rfl)
theorem dX8_gatherLists_56 : decode cX8_gatherLists 56 = .ok (.aload_n 0, 1) := dk_42 (dk_at dksX8_gatherLists_2 9 rfl rfl)
theorem dX8_gatherLists_57 : decode cX8_gatherLists 57 = .ok (.iload_n 3, 1) := dk_29 (dk_at dksX8_gatherLists_2 10 rfl rfl)
theorem dX8_gatherLists_58 : decode cX8_gatherLists 58 = .ok (.invokevirtual 422, 3) := dk_182 1 166 (dk_at dksX8_gatherLists_2 11 rfl rfl)
theorem dX8_gatherLists_61 : decode cX8_gatherLists 61 = .ok (.ifCond .ne 23, 3) := dk_154 0 23 (dk_at dksX8_gatherLists_2 14 rfl rfl)
theorem dX8_gatherLists_64 : decode cX8_gatherLists 64 = .ok (.aload_n 0, 1) := dk_42 (dk_at dksX8_gatherLists_2 17 rfl rfl)
theorem dX8_gatherLists_65 : decode cX8_gatherLists 65 = .ok (.getfield 101, 3) := dk_180 0 101 (dk_at dksX8_gatherLists_2 18 rfl rfl)
theorem dX8_gatherLists_68 : decode cX8_gatherLists 68 = .ok (.aload_n 0, 1) := dk_42 (dk_at dksX8_gatherLists_2 21 rfl rfl)
theorem dX8_gatherLists_69 : decode cX8_gatherLists 69 = .ok (.getfield 416, 3) := dk_180 1 160 (dk_at dksX8_gatherLists_3 0 rfl rfl)
theorem dX8_gatherLists_72 : decode cX8_gatherLists 72 = .ok (.iload_n 3, 1) := dk_29 (dk_at dksX8_gatherLists_3 3 rfl rfl)
theorem dX8_gatherLists_73 : decode cX8_gatherLists 73 = .ok (.iastore, 1) := dk_79 (dk_at dksX8_gatherLists_3 4 rfl rfl)
theorem dX8_gatherLists_74 : decode cX8_gatherLists 74 = .ok (.aload_n 0, 1) := dk_42 (dk_at dksX8_gatherLists_3 5 rfl rfl)
theorem dX8_gatherLists_75 : decode cX8_gatherLists 75 = .ok (.dup, 1) := dk_89 (dk_at dksX8_gatherLists_3 6 rfl rfl)
theorem dX8_gatherLists_76 : decode cX8_gatherLists 76 = .ok (.getfield 416, 3) := dk_180 1 160 (dk_at dksX8_gatherLists_3 7 rfl rfl)
theorem dX8_gatherLists_79 : decode cX8_gatherLists 79 = .ok (.iconst 1, 1) := dk_4 (dk_at dksX8_gatherLists_3 10 rfl rfl)
theorem dX8_gatherLists_80 : decode cX8_gatherLists 80 = .ok (.iadd, 1) := dk_96 (dk_at dksX8_gatherLists_3 11 rfl rfl)
theorem dX8_gatherLists_81 : decode cX8_gatherLists 81 = .ok (.putfield 416, 3) := dk_181 1 160 (dk_at dksX8_gatherLists_3 12 rfl rfl)
theorem dX8_gatherLists_84 : decode cX8_gatherLists 84 = .ok (.aload_n 0, 1) := dk_42 (dk_at dksX8_gatherLists_3 15 rfl rfl)
theorem dX8_gatherLists_85 : decode cX8_gatherLists 85 = .ok (.getfield 107, 3) := dk_180 0 107 (dk_at dksX8_gatherLists_3 16 rfl rfl)
theorem dX8_gatherLists_88 : decode cX8_gatherLists 88 = .ok (.iload_n 3, 1) := dk_29 (dk_at dksX8_gatherLists_3 19 rfl rfl)
theorem dX8_gatherLists_89 : decode cX8_gatherLists 89 = .ok (.dup2, 1) := dk_92 (dk_at dksX8_gatherLists_3 20 rfl rfl)
theorem dX8_gatherLists_90 : decode cX8_gatherLists 90 = .ok (.iaload, 1) := dk_46 (dk_at dksX8_gatherLists_3 21 rfl rfl)
theorem dX8_gatherLists_91 : decode cX8_gatherLists 91 = .ok (.iconst 1, 1) := dk_4 (dk_at dksX8_gatherLists_3 22 rfl rfl)
theorem dX8_gatherLists_92 : decode cX8_gatherLists 92 = .ok (.iadd, 1) := dk_96 (dk_at dksX8_gatherLists_3 23 rfl rfl)
theorem dX8_gatherLists_93 : decode cX8_gatherLists 93 = .ok (.iastore, 1) := dk_79 (dk_at dksX8_gatherLists_4 0 rfl rfl)
theorem dX8_gatherLists_94 : decode cX8_gatherLists 94 = .ok (.iinc 1 1, 3) := dk_132 1 1 (dk_at dksX8_gatherLists_4 1 rfl rfl)
theorem dX8_gatherLists_97 : decode cX8_gatherLists 97 = .ok (.goto (-74), 3) := dk_167 255 182 (dk_at dksX8_gatherLists_4 4 rfl rfl)
theorem dX8_gatherLists_100 : decode cX8_gatherLists 100 = .ok (.return_, 1) := dk_177 (dk_at dksX8_gatherLists_4 7 rfl rfl)
abbrev cX8_isList : ByteArray := prog_5_method_60_code
def yX8_isList : MethodName := ⟨RX8, "isList", "(I)Z"⟩
def dkwX8_isList_1 : List UInt8 := [132, 2, 1, 167, 255, 233, 3, 172]
abbrev dktX8_isList_1 : List UInt8 := dkwX8_isList_1 ++ []
def dkwX8_isList_0 : List UInt8 := [3, 61, 28, 42, 180, 1, 160, 162, 0, 21, 42, 180, 0, 101, 28, 46, 27, 160, 0, 5, 4, 172]
abbrev dktX8_isList_0 : List UInt8 := dkwX8_isList_0 ++ dktX8_isList_1
theorem dksX8_isList_0 : cX8_isList.data.toList.drop 0 = dktX8_isList_0 := by decide +kernel
theorem dksX8_isList_1 : cX8_isList.data.toList.drop 22 = dktX8_isList_1 := dk_seg dksX8_isList_0 22 rfl rfl
theorem dX8_isList_0 : decode cX8_isList 0 = .ok (.iconst 0, 1) := dk_3 (dk_at dksX8_isList_0 0 rfl rfl)
theorem dX8_isList_1 : decode cX8_isList 1 = .ok (.istore_n 2, 1) := dk_61 (dk_at dksX8_isList_0 1 rfl rfl)
theorem dX8_isList_2 : decode cX8_isList 2 = .ok (.iload_n 2, 1) := dk_28 (dk_at dksX8_isList_0 2 rfl rfl)
theorem dX8_isList_3 : decode cX8_isList 3 = .ok (.aload_n 0, 1) := dk_42 (dk_at dksX8_isList_0 3 rfl rfl)
theorem dX8_isList_4 : decode cX8_isList 4 = .ok (.getfield 416, 3) := dk_180 1 160 (dk_at dksX8_isList_0 4 rfl rfl)
theorem dX8_isList_7 : decode cX8_isList 7 = .ok (.if_icmp .ge 21, 3) := dk_162 0 21 (dk_at dksX8_isList_0 7 rfl rfl)
theorem dX8_isList_10 : decode cX8_isList 10 = .ok (.aload_n 0, 1) := dk_42 (dk_at dksX8_isList_0 10 rfl rfl)
theorem dX8_isList_11 : decode cX8_isList 11 = .ok (.getfield 101, 3) := dk_180 0 101 (dk_at dksX8_isList_0 11 rfl rfl)
theorem dX8_isList_14 : decode cX8_isList 14 = .ok (.iload_n 2, 1) := dk_28 (dk_at dksX8_isList_0 14 rfl rfl)
theorem dX8_isList_15 : decode cX8_isList 15 = .ok (.iaload, 1) := dk_46 (dk_at dksX8_isList_0 15 rfl rfl)
theorem dX8_isList_16 : decode cX8_isList 16 = .ok (.iload_n 1, 1) := dk_27 (dk_at dksX8_isList_0 16 rfl rfl)
theorem dX8_isList_17 : decode cX8_isList 17 = .ok (.if_icmp .ne 5, 3) := dk_160 0 5 (dk_at dksX8_isList_0 17 rfl rfl)
theorem dX8_isList_20 : decode cX8_isList 20 = .ok (.iconst 1, 1) := dk_4 (dk_at dksX8_isList_0 20 rfl rfl)
theorem dX8_isList_21 : decode cX8_isList 21 = .ok (.ireturn, 1) := dk_172 (dk_at dksX8_isList_0 21 rfl rfl)
theorem dX8_isList_22 : decode cX8_isList 22 = .ok (.iinc 2 1, 3) := dk_132 2 1 (dk_at dksX8_isList_1 0 rfl rfl)
theorem dX8_isList_25 : decode cX8_isList 25 = .ok (.goto (-23), 3) := dk_167 255 233 (dk_at dksX8_isList_1 3 rfl rfl)
theorem dX8_isList_28 : decode cX8_isList 28 = .ok (.iconst 0, 1) := dk_3 (dk_at dksX8_isList_1 6 rfl rfl)
theorem dX8_isList_29 : decode cX8_isList 29 = .ok (.ireturn, 1) := dk_172 (dk_at dksX8_isList_1 7 rfl rfl)
abbrev cX8_countLists : ByteArray := prog_5_method_62_code
def yX8_countLists : MethodName := ⟨RX8, "countLists", "()V"⟩
def dkwX8_countLists_3 : List UInt8 := [79, 132, 1, 1, 167, 255, 190, 177]
abbrev dktX8_countLists_3 : List UInt8 := dkwX8_countLists_3 ++ []
def dkwX8_countLists_2 : List UInt8 := [10, 97, 80, 29, 61, 132, 3, 1, 167, 255, 222, 42, 180, 0, 104, 42, 28, 182, 0, 195, 92, 46, 4, 96]
abbrev dktX8_countLists_2 : List UInt8 := dkwX8_countLists_2 ++ dktX8_countLists_3
def dkwX8_countLists_1 : List UInt8 := [180, 0, 148, 162, 0, 32, 42, 180, 0, 17, 27, 50, 29, 51, 158, 0, 15, 42, 180, 0, 33, 29, 92, 47]
abbrev dktX8_countLists_1 : List UInt8 := dkwX8_countLists_1 ++ dktX8_countLists_2
def dkwX8_countLists_0 : List UInt8 := [42, 180, 0, 33, 9, 184, 0, 242, 3, 60, 27, 42, 180, 0, 155, 162, 0, 64, 2, 61, 3, 62, 29, 42]
abbrev dktX8_countLists_0 : List UInt8 := dkwX8_countLists_0 ++ dktX8_countLists_1
theorem dksX8_countLists_0 : cX8_countLists.data.toList.drop 0 = dktX8_countLists_0 := by decide +kernel
theorem dksX8_countLists_1 : cX8_countLists.data.toList.drop 24 = dktX8_countLists_1 := dk_seg dksX8_countLists_0 24 rfl rfl
theorem dksX8_countLists_2 : cX8_countLists.data.toList.drop 48 = dktX8_countLists_2 := dk_seg dksX8_countLists_1 24 rfl rfl
theorem dksX8_countLists_3 : cX8_countLists.data.toList.drop 72 = dktX8_countLists_3 := dk_seg dksX8_countLists_2 24 rfl rfl
theorem dX8_countLists_0 : decode cX8_countLists 0 = .ok (.aload_n 0, 1) := dk_42 (dk_at dksX8_countLists_0 0 rfl rfl)
theorem dX8_countLists_1 : decode cX8_countLists 1 = .ok (.getfield 33, 3) := dk_180 0 33 (dk_at dksX8_countLists_0 1 rfl rfl)
theorem dX8_countLists_4 : decode cX8_countLists 4 = .ok (.lconst 0, 1) := dk_9 (dk_at dksX8_countLists_0 4 rfl rfl)
theorem dX8_countLists_5 : decode cX8_countLists 5 = .ok (.invokestatic 242, 3) := dk_184 0 242 (dk_at dksX8_countLists_0 5 rfl rfl)
theorem dX8_countLists_8 : decode cX8_countLists 8 = .ok (.iconst 0, 1) := dk_3 (dk_at dksX8_countLists_0 8 rfl rfl)
theorem dX8_countLists_9 : decode cX8_countLists 9 = .ok (.istore_n 1, 1) := dk_60 (dk_at dksX8_countLists_0 9 rfl rfl)
theorem dX8_countLists_10 : decode cX8_countLists 10 = .ok (.iload_n 1, 1) := dk_27 (dk_at dksX8_countLists_0 10 rfl rfl)
theorem dX8_countLists_11 : decode cX8_countLists 11 = .ok (.aload_n 0, 1) := dk_42 (dk_at dksX8_countLists_0 11 rfl rfl)
theorem dX8_countLists_12 : decode cX8_countLists 12 = .ok (.getfield 155, 3) := dk_180 0 155 (dk_at dksX8_countLists_0 12 rfl rfl)
theorem dX8_countLists_15 : decode cX8_countLists 15 = .ok (.if_icmp .ge 64, 3) := dk_162 0 64 (dk_at dksX8_countLists_0 15 rfl rfl)
theorem dX8_countLists_18 : decode cX8_countLists 18 = .ok (.iconst (-1), 1) := dk_2 (dk_at dksX8_countLists_0 18 rfl rfl)
theorem dX8_countLists_19 : decode cX8_countLists 19 = .ok (.istore_n 2, 1) := dk_61 (dk_at dksX8_countLists_0 19 rfl rfl)
theorem dX8_countLists_20 : decode cX8_countLists 20 = .ok (.iconst 0, 1) := dk_3 (dk_at dksX8_countLists_0 20 rfl rfl)
theorem dX8_countLists_21 : decode cX8_countLists 21 = .ok (.istore_n 3, 1) := dk_62 (dk_at dksX8_countLists_0 21 rfl rfl)
theorem dX8_countLists_22 : decode cX8_countLists 22 = .ok (.iload_n 3, 1) := dk_29 (dk_at dksX8_countLists_0 22 rfl rfl)
theorem dX8_countLists_23 : decode cX8_countLists 23 = .ok (.aload_n 0, 1) := dk_42 (dk_at dksX8_countLists_0 23 rfl rfl)
theorem dX8_countLists_24 : decode cX8_countLists 24 = .ok (.getfield 148, 3) := dk_180 0 148 (dk_at dksX8_countLists_1 0 rfl rfl)
theorem dX8_countLists_27 : decode cX8_countLists 27 = .ok (.if_icmp .ge 32, 3) := dk_162 0 32 (dk_at dksX8_countLists_1 3 rfl rfl)
theorem dX8_countLists_30 : decode cX8_countLists 30 = .ok (.aload_n 0, 1) := dk_42 (dk_at dksX8_countLists_1 6 rfl rfl)
theorem dX8_countLists_31 : decode cX8_countLists 31 = .ok (.getfield 17, 3) := dk_180 0 17 (dk_at dksX8_countLists_1 7 rfl rfl)
theorem dX8_countLists_34 : decode cX8_countLists 34 = .ok (.iload_n 1, 1) := dk_27 (dk_at dksX8_countLists_1 10 rfl rfl)
theorem dX8_countLists_35 : decode cX8_countLists 35 = .ok (.aaload, 1) := dk_50 (dk_at dksX8_countLists_1 11 rfl rfl)
theorem dX8_countLists_36 : decode cX8_countLists 36 = .ok (.iload_n 3, 1) := dk_29 (dk_at dksX8_countLists_1 12 rfl rfl)
theorem dX8_countLists_37 : decode cX8_countLists 37 = .ok (.baload, 1) := dk_51 (dk_at dksX8_countLists_1 13 rfl rfl)
theorem dX8_countLists_38 : decode cX8_countLists 38 = .ok (.ifCond .le 15, 3) := dk_158 0 15 (dk_at dksX8_countLists_1 14 rfl rfl)
theorem dX8_countLists_41 : decode cX8_countLists 41 = .ok (.aload_n 0, 1) := dk_42 (dk_at dksX8_countLists_1 17 rfl rfl)
theorem dX8_countLists_42 : decode cX8_countLists 42 = .ok (.getfield 33, 3) := dk_180 0 33 (dk_at dksX8_countLists_1 18 rfl rfl)
theorem dX8_countLists_45 : decode cX8_countLists 45 = .ok (.iload_n 3, 1) := dk_29 (dk_at dksX8_countLists_1 21 rfl rfl)
theorem dX8_countLists_46 : decode cX8_countLists 46 = .ok (.dup2, 1) := dk_92 (dk_at dksX8_countLists_1 22 rfl rfl)
theorem dX8_countLists_47 : decode cX8_countLists 47 = .ok (.laload, 1) := dk_47 (dk_at dksX8_countLists_1 23 rfl rfl)
theorem dX8_countLists_48 : decode cX8_countLists 48 = .ok (.lconst 1, 1) := dk_10 (dk_at dksX8_countLists_2 0 rfl rfl)
theorem dX8_countLists_49 : decode cX8_countLists 49 = .ok (.ladd, 1) := dk_97 (dk_at dksX8_countLists_2 1 rfl rfl)
theorem dX8_countLists_50 : decode cX8_countLists 50 = .ok (.lastore, 1) := dk_80 (dk_at dksX8_countLists_2 2 rfl rfl)
theorem dX8_countLists_51 : decode cX8_countLists 51 = .ok (.iload_n 3, 1) := dk_29 (dk_at dksX8_countLists_2 3 rfl rfl)
theorem dX8_countLists_52 : decode cX8_countLists 52 = .ok (.istore_n 2, 1) := dk_61 (dk_at dksX8_countLists_2 4 rfl rfl)
theorem dX8_countLists_53 : decode cX8_countLists 53 = .ok (.iinc 3 1, 3) := dk_132 3 1 (dk_at dksX8_countLists_2 5 rfl rfl)
theorem dX8_countLists_56 : decode cX8_countLists 56 = .ok (.goto (-34), 3) := dk_167 255 222 (dk_at dksX8_countLists_2 8 rfl rfl)
theorem dX8_countLists_59 : decode cX8_countLists 59 = .ok (.aload_n 0, 1) := dk_42 (dk_at dksX8_countLists_2 11 rfl rfl)
theorem dX8_countLists_60 : decode cX8_countLists 60 = .ok (.getfield 104, 3) := dk_180 0 104 (dk_at dksX8_countLists_2 12 rfl rfl)
theorem dX8_countLists_63 : decode cX8_countLists 63 = .ok (.aload_n 0, 1) := dk_42 (dk_at dksX8_countLists_2 15 rfl rfl)
theorem dX8_countLists_64 : decode cX8_countLists 64 = .ok (.iload_n 2, 1) := dk_28 (dk_at dksX8_countLists_2 16 rfl rfl)
theorem dX8_countLists_65 : decode cX8_countLists 65 = .ok (.invokevirtual 195, 3) := dk_182 0 195 (dk_at dksX8_countLists_2 17 rfl rfl)
theorem dX8_countLists_68 : decode cX8_countLists 68 = .ok (.dup2, 1) := dk_92 (dk_at dksX8_countLists_2 20 rfl rfl)
theorem dX8_countLists_69 : decode cX8_countLists 69 = .ok (.iaload, 1) := dk_46 (dk_at dksX8_countLists_2 21 rfl rfl)
theorem dX8_countLists_70 : decode cX8_countLists 70 = .ok (.iconst 1, 1) := dk_4 (dk_at dksX8_countLists_2 22 rfl rfl)
theorem dX8_countLists_71 : decode cX8_countLists 71 = .ok (.iadd, 1) := dk_96 (dk_at dksX8_countLists_2 23 rfl rfl)
theorem dX8_countLists_72 : decode cX8_countLists 72 = .ok (.iastore, 1) := dk_79 (dk_at dksX8_countLists_3 0 rfl rfl)
theorem dX8_countLists_73 : decode cX8_countLists 73 = .ok (.iinc 1 1, 3) := dk_132 1 1 (dk_at dksX8_countLists_3 1 rfl rfl)
theorem dX8_countLists_76 : decode cX8_countLists 76 = .ok (.goto (-66), 3) := dk_167 255 190 (dk_at dksX8_countLists_3 4 rfl rfl)
theorem dX8_countLists_79 : decode cX8_countLists 79 = .ok (.return_, 1) := dk_177 (dk_at dksX8_countLists_3 7 rfl rfl)
abbrev cX8_tell : ByteArray := prog_5_method_10_code
def yX8_tell : MethodName := ⟨RX8, "tell", "()V"⟩
def dkwX8_tell_3 : List UInt8 := [4, 96, 181, 0, 164, 177]
abbrev dktX8_tell_3 : List UInt8 := dkwX8_tell_3 ++ []
def dkwX8_tell_2 : List UInt8 := [180, 0, 42, 42, 180, 0, 164, 3, 79, 42, 180, 0, 45, 42, 180, 0, 164, 2, 79, 42, 89, 180, 0, 164]
abbrev dktX8_tell_2 : List UInt8 := dkwX8_tell_2 ++ dktX8_tell_3
def dkwX8_tell_1 : List UInt8 := [27, 51, 153, 0, 12, 42, 180, 0, 33, 27, 47, 167, 0, 4, 9, 80, 132, 1, 1, 167, 255, 215, 42]
abbrev dktX8_tell_1 : List UInt8 := dkwX8_tell_1 ++ dktX8_tell_2
def dkwX8_tell_0 : List UInt8 := [3, 60, 27, 42, 180, 0, 148, 162, 0, 39, 42, 180, 0, 39, 42, 180, 0, 164, 50, 27, 42, 180, 0, 9]
abbrev dktX8_tell_0 : List UInt8 := dkwX8_tell_0 ++ dktX8_tell_1
theorem dksX8_tell_0 : cX8_tell.data.toList.drop 0 = dktX8_tell_0 := by decide +kernel
theorem dksX8_tell_1 : cX8_tell.data.toList.drop 24 = dktX8_tell_1 := dk_seg dksX8_tell_0 24 rfl rfl
theorem dksX8_tell_2 : cX8_tell.data.toList.drop 47 = dktX8_tell_2 := dk_seg dksX8_tell_1 23 rfl rfl
theorem dksX8_tell_3 : cX8_tell.data.toList.drop 71 = dktX8_tell_3 := dk_seg dksX8_tell_2 24 rfl rfl
theorem dX8_tell_0 : decode cX8_tell 0 = .ok (.iconst 0, 1) := dk_3 (dk_at dksX8_tell_0 0 rfl rfl)
theorem dX8_tell_1 : decode cX8_tell 1 = .ok (.istore_n 1, 1) := dk_60 (dk_at dksX8_tell_0 1 rfl rfl)
theorem dX8_tell_2 : decode cX8_tell 2 = .ok (.iload_n 1, 1) := dk_27 (dk_at dksX8_tell_0 2 rfl rfl)
theorem dX8_tell_3 : decode cX8_tell 3 = .ok (.aload_n 0, 1) := dk_42 (dk_at dksX8_tell_0 3 rfl rfl)
theorem dX8_tell_4 : decode cX8_tell 4 = .ok (.getfield 148, 3) := dk_180 0 148 (dk_at dksX8_tell_0 4 rfl rfl)
theorem dX8_tell_7 : decode cX8_tell 7 = .ok (.if_icmp .ge 39, 3) := dk_162 0 39 (dk_at dksX8_tell_0 7 rfl rfl)
theorem dX8_tell_10 : decode cX8_tell 10 = .ok (.aload_n 0, 1) := dk_42 (dk_at dksX8_tell_0 10 rfl rfl)
theorem dX8_tell_11 : decode cX8_tell 11 = .ok (.getfield 39, 3) := dk_180 0 39 (dk_at dksX8_tell_0 11 rfl rfl)
theorem dX8_tell_14 : decode cX8_tell 14 = .ok (.aload_n 0, 1) := dk_42 (dk_at dksX8_tell_0 14 rfl rfl)
theorem dX8_tell_15 : decode cX8_tell 15 = .ok (.getfield 164, 3) := dk_180 0 164 (dk_at dksX8_tell_0 15 rfl rfl)
theorem dX8_tell_18 : decode cX8_tell 18 = .ok (.aaload, 1) := dk_50 (dk_at dksX8_tell_0 18 rfl rfl)
theorem dX8_tell_19 : decode cX8_tell 19 = .ok (.iload_n 1, 1) := dk_27 (dk_at dksX8_tell_0 19 rfl rfl)
theorem dX8_tell_20 : decode cX8_tell 20 = .ok (.aload_n 0, 1) := dk_42 (dk_at dksX8_tell_0 20 rfl rfl)
theorem dX8_tell_21 : decode cX8_tell 21 = .ok (.getfield 9, 3) := dk_180 0 9 (dk_at dksX8_tell_0 21 rfl rfl)
theorem dX8_tell_24 : decode cX8_tell 24 = .ok (.iload_n 1, 1) := dk_27 (dk_at dksX8_tell_1 0 rfl rfl)
theorem dX8_tell_25 : decode cX8_tell 25 = .ok (.baload, 1) := dk_51 (dk_at dksX8_tell_1 1 rfl rfl)
theorem dX8_tell_26 : decode cX8_tell 26 = .ok (.ifCond .eq 12, 3) := dk_153 0 12 (dk_at dksX8_tell_1 2 rfl rfl)
theorem dX8_tell_29 : decode cX8_tell 29 = .ok (.aload_n 0, 1) := dk_42 (dk_at dksX8_tell_1 5 rfl rfl)
theorem dX8_tell_30 : decode cX8_tell 30 = .ok (.getfield 33, 3) := dk_180 0 33 (dk_at dksX8_tell_1 6 rfl rfl)
theorem dX8_tell_33 : decode cX8_tell 33 = .ok (.iload_n 1, 1) := dk_27 (dk_at dksX8_tell_1 9 rfl rfl)
theorem dX8_tell_34 : decode cX8_tell 34 = .ok (.laload, 1) := dk_47 (dk_at dksX8_tell_1 10 rfl rfl)
theorem dX8_tell_35 : decode cX8_tell 35 = .ok (.goto 4, 3) := dk_167 0 4 (dk_at dksX8_tell_1 11 rfl rfl)
theorem dX8_tell_38 : decode cX8_tell 38 = .ok (.lconst 0, 1) := dk_9 (dk_at dksX8_tell_1 14 rfl rfl)
theorem dX8_tell_39 : decode cX8_tell 39 = .ok (.lastore, 1) := dk_80 (dk_at dksX8_tell_1 15 rfl rfl)
theorem dX8_tell_40 : decode cX8_tell 40 = .ok (.iinc 1 1, 3) := dk_132 1 1 (dk_at dksX8_tell_1 16 rfl rfl)
theorem dX8_tell_43 : decode cX8_tell 43 = .ok (.goto (-41), 3) := dk_167 255 215 (dk_at dksX8_tell_1 19 rfl rfl)
theorem dX8_tell_46 : decode cX8_tell 46 = .ok (.aload_n 0, 1) := dk_42 (dk_at dksX8_tell_1 22 rfl rfl)
theorem dX8_tell_47 : decode cX8_tell 47 = .ok (.getfield 42, 3) := dk_180 0 42 (dk_at dksX8_tell_2 0 rfl rfl)
theorem dX8_tell_50 : decode cX8_tell 50 = .ok (.aload_n 0, 1) := dk_42 (dk_at dksX8_tell_2 3 rfl rfl)
theorem dX8_tell_51 : decode cX8_tell 51 = .ok (.getfield 164, 3) := dk_180 0 164 (dk_at dksX8_tell_2 4 rfl rfl)
theorem dX8_tell_54 : decode cX8_tell 54 = .ok (.iconst 0, 1) := dk_3 (dk_at dksX8_tell_2 7 rfl rfl)
theorem dX8_tell_55 : decode cX8_tell 55 = .ok (.iastore, 1) := dk_79 (dk_at dksX8_tell_2 8 rfl rfl)
theorem dX8_tell_56 : decode cX8_tell 56 = .ok (.aload_n 0, 1) := dk_42 (dk_at dksX8_tell_2 9 rfl rfl)
theorem dX8_tell_57 : decode cX8_tell 57 = .ok (.getfield 45, 3) := dk_180 0 45 (dk_at dksX8_tell_2 10 rfl rfl)
theorem dX8_tell_60 : decode cX8_tell 60 = .ok (.aload_n 0, 1) := dk_42 (dk_at dksX8_tell_2 13 rfl rfl)
theorem dX8_tell_61 : decode cX8_tell 61 = .ok (.getfield 164, 3) := dk_180 0 164 (dk_at dksX8_tell_2 14 rfl rfl)
theorem dX8_tell_64 : decode cX8_tell 64 = .ok (.iconst (-1), 1) := dk_2 (dk_at dksX8_tell_2 17 rfl rfl)
theorem dX8_tell_65 : decode cX8_tell 65 = .ok (.iastore, 1) := dk_79 (dk_at dksX8_tell_2 18 rfl rfl)
theorem dX8_tell_66 : decode cX8_tell 66 = .ok (.aload_n 0, 1) := dk_42 (dk_at dksX8_tell_2 19 rfl rfl)
theorem dX8_tell_67 : decode cX8_tell 67 = .ok (.dup, 1) := dk_89 (dk_at dksX8_tell_2 20 rfl rfl)
theorem dX8_tell_68 : decode cX8_tell 68 = .ok (.getfield 164, 3) := dk_180 0 164 (dk_at dksX8_tell_2 21 rfl rfl)
theorem dX8_tell_71 : decode cX8_tell 71 = .ok (.iconst 1, 1) := dk_4 (dk_at dksX8_tell_3 0 rfl rfl)
theorem dX8_tell_72 : decode cX8_tell 72 = .ok (.iadd, 1) := dk_96 (dk_at dksX8_tell_3 1 rfl rfl)
theorem dX8_tell_73 : decode cX8_tell 73 = .ok (.putfield 164, 3) := dk_181 0 164 (dk_at dksX8_tell_3 2 rfl rfl)
theorem dX8_tell_76 : decode cX8_tell 76 = .ok (.return_, 1) := dk_177 (dk_at dksX8_tell_3 5 rfl rfl)
abbrev cX8_tellLists : ByteArray := prog_5_method_76_code
def yX8_tellLists : MethodName := ⟨RX8, "tellLists", "()V"⟩
def dkwX8_tellLists_2 : List UInt8 := [182, 0, 254, 177]
abbrev dktX8_tellLists_2 : List UInt8 := dkwX8_tellLists_2 ++ []
def dkwX8_tellLists_1 : List UInt8 := [51, 153, 0, 11, 42, 27, 182, 0, 195, 167, 0, 4, 27, 46, 133, 80, 132, 1, 1, 167, 255, 215, 42]
abbrev dktX8_tellLists_1 : List UInt8 := dkwX8_tellLists_1 ++ dktX8_tellLists_2
def dkwX8_tellLists_0 : List UInt8 := [3, 60, 27, 42, 180, 0, 148, 162, 0, 39, 42, 180, 0, 33, 27, 42, 180, 0, 104, 42, 180, 0, 9, 27]
abbrev dktX8_tellLists_0 : List UInt8 := dkwX8_tellLists_0 ++ dktX8_tellLists_1
theorem dksX8_tellLists_0 : cX8_tellLists.data.toList.drop 0 = dktX8_tellLists_0 := by decide +kernel
theorem dksX8_tellLists_1 : cX8_tellLists.data.toList.drop 24 = dktX8_tellLists_1 := dk_seg dksX8_tellLists_0 24 rfl rfl
theorem dksX8_tellLists_2 : cX8_tellLists.data.toList.drop 47 = dktX8_tellLists_2 := dk_seg dksX8_tellLists_1 23 rfl rfl
theorem dX8_tellLists_0 : decode cX8_tellLists 0 = .ok (.iconst 0, 1) := dk_3 (dk_at dksX8_tellLists_0 0 rfl rfl)
theorem dX8_tellLists_1 : decode cX8_tellLists 1 = .ok (.istore_n 1, 1) := dk_60 (dk_at dksX8_tellLists_0 1 rfl rfl)
theorem dX8_tellLists_2 : decode cX8_tellLists 2 = .ok (.iload_n 1, 1) := dk_27 (dk_at dksX8_tellLists_0 2 rfl rfl)
theorem dX8_tellLists_3 : decode cX8_tellLists 3 = .ok (.aload_n 0, 1) := dk_42 (dk_at dksX8_tellLists_0 3 rfl rfl)
theorem dX8_tellLists_4 : decode cX8_tellLists 4 = .ok (.getfield 148, 3) := dk_180 0 148 (dk_at dksX8_tellLists_0 4 rfl rfl)
theorem dX8_tellLists_7 : decode cX8_tellLists 7 = .ok (.if_icmp .ge 39, 3) := dk_162 0 39 (dk_at dksX8_tellLists_0 7 rfl rfl)
theorem dX8_tellLists_10 : decode cX8_tellLists 10 = .ok (.aload_n 0, 1) := dk_42 (dk_at dksX8_tellLists_0 10 rfl rfl)
theorem dX8_tellLists_11 : decode cX8_tellLists 11 = .ok (.getfield 33, 3) := dk_180 0 33 (dk_at dksX8_tellLists_0 11 rfl rfl)
theorem dX8_tellLists_14 : decode cX8_tellLists 14 = .ok (.iload_n 1, 1) := dk_27 (dk_at dksX8_tellLists_0 14 rfl rfl)
theorem dX8_tellLists_15 : decode cX8_tellLists 15 = .ok (.aload_n 0, 1) := dk_42 (dk_at dksX8_tellLists_0 15 rfl rfl)
theorem dX8_tellLists_16 : decode cX8_tellLists 16 = .ok (.getfield 104, 3) := dk_180 0 104 (dk_at dksX8_tellLists_0 16 rfl rfl)
theorem dX8_tellLists_19 : decode cX8_tellLists 19 = .ok (.aload_n 0, 1) := dk_42 (dk_at dksX8_tellLists_0 19 rfl rfl)
theorem dX8_tellLists_20 : decode cX8_tellLists 20 = .ok (.getfield 9, 3) := dk_180 0 9 (dk_at dksX8_tellLists_0 20 rfl rfl)
theorem dX8_tellLists_23 : decode cX8_tellLists 23 = .ok (.iload_n 1, 1) := dk_27 (dk_at dksX8_tellLists_0 23 rfl rfl)
theorem dX8_tellLists_24 : decode cX8_tellLists 24 = .ok (.baload, 1) := dk_51 (dk_at dksX8_tellLists_1 0 rfl rfl)
theorem dX8_tellLists_25 : decode cX8_tellLists 25 = .ok (.ifCond .eq 11, 3) := dk_153 0 11 (dk_at dksX8_tellLists_1 1 rfl rfl)
theorem dX8_tellLists_28 : decode cX8_tellLists 28 = .ok (.aload_n 0, 1) := dk_42 (dk_at dksX8_tellLists_1 4 rfl rfl)
theorem dX8_tellLists_29 : decode cX8_tellLists 29 = .ok (.iload_n 1, 1) := dk_27 (dk_at dksX8_tellLists_1 5 rfl rfl)
theorem dX8_tellLists_30 : decode cX8_tellLists 30 = .ok (.invokevirtual 195, 3) := dk_182 0 195 (dk_at dksX8_tellLists_1 6 rfl rfl)
theorem dX8_tellLists_33 : decode cX8_tellLists 33 = .ok (.goto 4, 3) := dk_167 0 4 (dk_at dksX8_tellLists_1 9 rfl rfl)
theorem dX8_tellLists_36 : decode cX8_tellLists 36 = .ok (.iload_n 1, 1) := dk_27 (dk_at dksX8_tellLists_1 12 rfl rfl)
theorem dX8_tellLists_37 : decode cX8_tellLists 37 = .ok (.iaload, 1) := dk_46 (dk_at dksX8_tellLists_1 13 rfl rfl)
theorem dX8_tellLists_38 : decode cX8_tellLists 38 = .ok (.i2l, 1) := dk_133 (dk_at dksX8_tellLists_1 14 rfl rfl)
theorem dX8_tellLists_39 : decode cX8_tellLists 39 = .ok (.lastore, 1) := dk_80 (dk_at dksX8_tellLists_1 15 rfl rfl)
theorem dX8_tellLists_40 : decode cX8_tellLists 40 = .ok (.iinc 1 1, 3) := dk_132 1 1 (dk_at dksX8_tellLists_1 16 rfl rfl)
theorem dX8_tellLists_43 : decode cX8_tellLists 43 = .ok (.goto (-41), 3) := dk_167 255 215 (dk_at dksX8_tellLists_1 19 rfl rfl)
theorem dX8_tellLists_46 : decode cX8_tellLists 46 = .ok (.aload_n 0, 1) := dk_42 (dk_at dksX8_tellLists_1 22 rfl rfl)
theorem dX8_tellLists_47 : decode cX8_tellLists 47 = .ok (.invokevirtual 254, 3) := dk_182 0 254 (dk_at dksX8_tellLists_2 0 rfl rfl)
theorem dX8_tellLists_50 : decode cX8_tellLists 50 = .ok (.return_, 1) := dk_177 (dk_at dksX8_tellLists_2 3 rfl rfl)
abbrev cX8_admit : ByteArray := prog_5_method_63_code
def yX8_admit : MethodName := ⟨RX8, "admit", "()V"⟩
def dkwX8_admit_6 : List UInt8 := [132, 2, 1, 167, 255, 192, 177]
abbrev dktX8_admit_6 : List UInt8 := dkwX8_admit_6 ++ []
def dkwX8_admit_5 : List UInt8 := [42, 180, 0, 110, 29, 51, 153, 0, 12, 42, 180, 0, 104, 29, 46, 167, 0, 4, 3, 96, 181, 1, 169]
abbrev dktX8_admit_5 : List UInt8 := dkwX8_admit_5 ++ dktX8_admit_6
def dkwX8_admit_4 : List UInt8 := [62, 42, 180, 0, 110, 29, 92, 51, 27, 154, 0, 7, 4, 167, 0, 4, 3, 128, 84, 42, 89, 180, 1, 169]
abbrev dktX8_admit_4 : List UInt8 := dkwX8_admit_4 ++ dktX8_admit_5
def dkwX8_admit_3 : List UInt8 := [128, 60, 132, 2, 1, 167, 255, 189, 3, 61, 28, 42, 180, 1, 160, 162, 0, 62, 42, 180, 0, 101, 28, 46]
abbrev dktX8_admit_3 : List UInt8 := dkwX8_admit_3 ++ dktX8_admit_4
def dkwX8_admit_2 : List UInt8 := [180, 1, 175, 42, 180, 0, 155, 104, 161, 0, 7, 4, 167, 0, 4, 3, 84, 27, 42, 180, 0, 110, 29, 51]
abbrev dktX8_admit_2 : List UInt8 := dkwX8_admit_2 ++ dktX8_admit_3
def dkwX8_admit_1 : List UInt8 := [42, 180, 0, 110, 29, 42, 180, 0, 104, 29, 46, 42, 180, 0, 131, 180, 1, 172, 104, 42, 180, 0, 131]
abbrev dktX8_admit_1 : List UInt8 := dkwX8_admit_1 ++ dktX8_admit_2
def dkwX8_admit_0 : List UInt8 := [42, 3, 181, 1, 169, 3, 60, 3, 61, 28, 42, 180, 1, 160, 162, 0, 65, 42, 180, 0, 101, 28, 46, 62]
abbrev dktX8_admit_0 : List UInt8 := dkwX8_admit_0 ++ dktX8_admit_1
theorem dksX8_admit_0 : cX8_admit.data.toList.drop 0 = dktX8_admit_0 := by decide +kernel
theorem dksX8_admit_1 : cX8_admit.data.toList.drop 24 = dktX8_admit_1 := dk_seg dksX8_admit_0 24 rfl rfl
theorem dksX8_admit_2 : cX8_admit.data.toList.drop 47 = dktX8_admit_2 := dk_seg dksX8_admit_1 23 rfl rfl
theorem dksX8_admit_3 : cX8_admit.data.toList.drop 71 = dktX8_admit_3 := dk_seg dksX8_admit_2 24 rfl rfl
theorem dksX8_admit_4 : cX8_admit.data.toList.drop 95 = dktX8_admit_4 := dk_seg dksX8_admit_3 24 rfl rfl
theorem dksX8_admit_5 : cX8_admit.data.toList.drop 119 = dktX8_admit_5 := dk_seg dksX8_admit_4 24 rfl rfl
theorem dksX8_admit_6 : cX8_admit.data.toList.drop 142 = dktX8_admit_6 := dk_seg dksX8_admit_5 23 rfl rfl
theorem dX8_admit_0 : decode cX8_admit 0 = .ok (.aload_n 0, 1) := dk_42 (dk_at dksX8_admit_0 0 rfl rfl)
theorem dX8_admit_1 : decode cX8_admit 1 = .ok (.iconst 0, 1) := dk_3 (dk_at dksX8_admit_0 1 rfl rfl)
theorem dX8_admit_2 : decode cX8_admit 2 = .ok (.putfield 425, 3) := dk_181 1 169 (dk_at dksX8_admit_0 2 rfl rfl)
theorem dX8_admit_5 : decode cX8_admit 5 = .ok (.iconst 0, 1) := dk_3 (dk_at dksX8_admit_0 5 rfl rfl)
theorem dX8_admit_6 : decode cX8_admit 6 = .ok (.istore_n 1, 1) := dk_60 (dk_at dksX8_admit_0 6 rfl rfl)
theorem dX8_admit_7 : decode cX8_admit 7 = .ok (.iconst 0, 1) := dk_3 (dk_at dksX8_admit_0 7 rfl rfl)
theorem dX8_admit_8 : decode cX8_admit 8 = .ok (.istore_n 2, 1) := dk_61 (dk_at dksX8_admit_0 8 rfl rfl)
theorem dX8_admit_9 : decode cX8_admit 9 = .ok (.iload_n 2, 1) := dk_28 (dk_at dksX8_admit_0 9 rfl rfl)
theorem dX8_admit_10 : decode cX8_admit 10 = .ok (.aload_n 0, 1) := dk_42 (dk_at dksX8_admit_0 10 rfl rfl)
theorem dX8_admit_11 : decode cX8_admit 11 = .ok (.getfield 416, 3) := dk_180 1 160 (dk_at dksX8_admit_0 11 rfl rfl)
theorem dX8_admit_14 : decode cX8_admit 14 = .ok (.if_icmp .ge 65, 3) := dk_162 0 65 (dk_at dksX8_admit_0 14 rfl rfl)
theorem dX8_admit_17 : decode cX8_admit 17 = .ok (.aload_n 0, 1) := dk_42 (dk_at dksX8_admit_0 17 rfl rfl)
theorem dX8_admit_18 : decode cX8_admit 18 = .ok (.getfield 101, 3) := dk_180 0 101 (dk_at dksX8_admit_0 18 rfl rfl)
theorem dX8_admit_21 : decode cX8_admit 21 = .ok (.iload_n 2, 1) := dk_28 (dk_at dksX8_admit_0 21 rfl rfl)
theorem dX8_admit_22 : decode cX8_admit 22 = .ok (.iaload, 1) := dk_46 (dk_at dksX8_admit_0 22 rfl rfl)
theorem dX8_admit_23 : decode cX8_admit 23 = .ok (.istore_n 3, 1) := dk_62 (dk_at dksX8_admit_0 23 rfl rfl)
theorem dX8_admit_24 : decode cX8_admit 24 = .ok (.aload_n 0, 1) := dk_42 (dk_at dksX8_admit_1 0 rfl rfl)
theorem dX8_admit_25 : decode cX8_admit 25 = .ok (.getfield 110, 3) := dk_180 0 110 (dk_at dksX8_admit_1 1 rfl rfl)
theorem dX8_admit_28 : decode cX8_admit 28 = .ok (.iload_n 3, 1) := dk_29 (dk_at dksX8_admit_1 4 rfl rfl)
theorem dX8_admit_29 : decode cX8_admit 29 = .ok (.aload_n 0, 1) := dk_42 (dk_at dksX8_admit_1 5 rfl rfl)
theorem dX8_admit_30 : decode cX8_admit 30 = .ok (.getfield 104, 3) := dk_180 0 104 (dk_at dksX8_admit_1 6 rfl rfl)
theorem dX8_admit_33 : decode cX8_admit 33 = .ok (.iload_n 3, 1) := dk_29 (dk_at dksX8_admit_1 9 rfl rfl)
theorem dX8_admit_34 : decode cX8_admit 34 = .ok (.iaload, 1) := dk_46 (dk_at dksX8_admit_1 10 rfl rfl)
theorem dX8_admit_35 : decode cX8_admit 35 = .ok (.aload_n 0, 1) := dk_42 (dk_at dksX8_admit_1 11 rfl rfl)
theorem dX8_admit_36 : decode cX8_admit 36 = .ok (.getfield 131, 3) := dk_180 0 131 (dk_at dksX8_admit_1 12 rfl rfl)
theorem dX8_admit_39 : decode cX8_admit 39 = .ok (.getfield 428, 3) := dk_180 1 172 (dk_at dksX8_admit_1 15 rfl rfl)
theorem dX8_admit_42 : decode cX8_admit 42 = .ok (.imul, 1) := dk_104 (dk_at dksX8_admit_1 18 rfl rfl)
theorem dX8_admit_43 : decode cX8_admit 43 = .ok (.aload_n 0, 1) := dk_42 (dk_at dksX8_admit_1 19 rfl rfl)
theorem dX8_admit_44 : decode cX8_admit 44 = .ok (.getfield 131, 3) := dk_180 0 131 (dk_at dksX8_admit_1 20 rfl rfl)
theorem dX8_admit_47 : decode cX8_admit 47 = .ok (.getfield 431, 3) := dk_180 1 175 (dk_at dksX8_admit_2 0 rfl rfl)
theorem dX8_admit_50 : decode cX8_admit 50 = .ok (.aload_n 0, 1) := dk_42 (dk_at dksX8_admit_2 3 rfl rfl)
theorem dX8_admit_51 : decode cX8_admit 51 = .ok (.getfield 155, 3) := dk_180 0 155 (dk_at dksX8_admit_2 4 rfl rfl)
theorem dX8_admit_54 : decode cX8_admit 54 = .ok (.imul, 1) := dk_104 (dk_at dksX8_admit_2 7 rfl rfl)
theorem dX8_admit_55 : decode cX8_admit 55 = .ok (.if_icmp .lt 7, 3) := dk_161 0 7 (dk_at dksX8_admit_2 8 rfl rfl)
theorem dX8_admit_58 : decode cX8_admit 58 = .ok (.iconst 1, 1) := dk_4 (dk_at dksX8_admit_2 11 rfl rfl)
theorem dX8_admit_59 : decode cX8_admit 59 = .ok (.goto 4, 3) := dk_167 0 4 (dk_at dksX8_admit_2 12 rfl rfl)
theorem dX8_admit_62 : decode cX8_admit 62 = .ok (.iconst 0, 1) := dk_3 (dk_at dksX8_admit_2 15 rfl rfl)
theorem dX8_admit_63 : decode cX8_admit 63 = .ok (.bastore, 1) := dk_84 (dk_at dksX8_admit_2 16 rfl rfl)
theorem dX8_admit_64 : decode cX8_admit 64 = .ok (.iload_n 1, 1) := dk_27 (dk_at dksX8_admit_2 17 rfl rfl)
theorem dX8_admit_65 : decode cX8_admit 65 = .ok (.aload_n 0, 1) := dk_42 (dk_at dksX8_admit_2 18 rfl rfl)
theorem dX8_admit_66 : decode cX8_admit 66 = .ok (.getfield 110, 3) := dk_180 0 110 (dk_at dksX8_admit_2 19 rfl rfl)
theorem dX8_admit_69 : decode cX8_admit 69 = .ok (.iload_n 3, 1) := dk_29 (dk_at dksX8_admit_2 22 rfl rfl)
theorem dX8_admit_70 : decode cX8_admit 70 = .ok (.baload, 1) := dk_51 (dk_at dksX8_admit_2 23 rfl rfl)
theorem dX8_admit_71 : decode cX8_admit 71 = .ok (.ior, 1) := dk_128 (dk_at dksX8_admit_3 0 rfl rfl)
theorem dX8_admit_72 : decode cX8_admit 72 = .ok (.istore_n 1, 1) := dk_60 (dk_at dksX8_admit_3 1 rfl rfl)
theorem dX8_admit_73 : decode cX8_admit 73 = .ok (.iinc 2 1, 3) := dk_132 2 1 (dk_at dksX8_admit_3 2 rfl rfl)
theorem dX8_admit_76 : decode cX8_admit 76 = .ok (.goto (-67), 3) := dk_167 255 189 (dk_at dksX8_admit_3 5 rfl rfl)
theorem dX8_admit_79 : decode cX8_admit 79 = .ok (.iconst 0, 1) := dk_3 (dk_at dksX8_admit_3 8 rfl rfl)
theorem dX8_admit_80 : decode cX8_admit 80 = .ok (.istore_n 2, 1) := dk_61 (dk_at dksX8_admit_3 9 rfl rfl)
theorem dX8_admit_81 : decode cX8_admit 81 = .ok (.iload_n 2, 1) := dk_28 (dk_at dksX8_admit_3 10 rfl rfl)
theorem dX8_admit_82 : decode cX8_admit 82 = .ok (.aload_n 0, 1) := dk_42 (dk_at dksX8_admit_3 11 rfl rfl)
theorem dX8_admit_83 : decode cX8_admit 83 = .ok (.getfield 416, 3) := dk_180 1 160 (dk_at dksX8_admit_3 12 rfl rfl)
theorem dX8_admit_86 : decode cX8_admit 86 = .ok (.if_icmp .ge 62, 3) := dk_162 0 62 (dk_at dksX8_admit_3 15 rfl rfl)
theorem dX8_admit_89 : decode cX8_admit 89 = .ok (.aload_n 0, 1) := dk_42 (dk_at dksX8_admit_3 18 rfl rfl)
theorem dX8_admit_90 : decode cX8_admit 90 = .ok (.getfield 101, 3) := dk_180 0 101 (dk_at dksX8_admit_3 19 rfl rfl)
theorem dX8_admit_93 : decode cX8_admit 93 = .ok (.iload_n 2, 1) := dk_28 (dk_at dksX8_admit_3 22 rfl rfl)
theorem dX8_admit_94 : decode cX8_admit 94 = .ok (.iaload, 1) := dk_46 (dk_at dksX8_admit_3 23 rfl rfl)
theorem dX8_admit_95 : decode cX8_admit 95 = .ok (.istore_n 3, 1) := dk_62 (dk_at dksX8_admit_4 0 rfl rfl)
theorem dX8_admit_96 : decode cX8_admit 96 = .ok (.aload_n 0, 1) := dk_42 (dk_at dksX8_admit_4 1 rfl rfl)
theorem dX8_admit_97 : decode cX8_admit 97 = .ok (.getfield 110, 3) := dk_180 0 110 (dk_at dksX8_admit_4 2 rfl rfl)
theorem dX8_admit_100 : decode cX8_admit 100 = .ok (.iload_n 3, 1) := dk_29 (dk_at dksX8_admit_4 5 rfl rfl)
theorem dX8_admit_101 : decode cX8_admit 101 = .ok (.dup2, 1) := dk_92 (dk_at dksX8_admit_4 6 rfl rfl)
theorem dX8_admit_102 : decode cX8_admit 102 = .ok (.baload, 1) := dk_51 (dk_at dksX8_admit_4 7 rfl rfl)
theorem dX8_admit_103 : decode cX8_admit 103 = .ok (.iload_n 1, 1) := dk_27 (dk_at dksX8_admit_4 8 rfl rfl)
theorem dX8_admit_104 : decode cX8_admit 104 = .ok (.ifCond .ne 7, 3) := dk_154 0 7 (dk_at dksX8_admit_4 9 rfl rfl)
theorem dX8_admit_107 : decode cX8_admit 107 = .ok (.iconst 1, 1) := dk_4 (dk_at dksX8_admit_4 12 rfl rfl)
theorem dX8_admit_108 : decode cX8_admit 108 = .ok (.goto 4, 3) := dk_167 0 4 (dk_at dksX8_admit_4 13 rfl rfl)
theorem dX8_admit_111 : decode cX8_admit 111 = .ok (.iconst 0, 1) := dk_3 (dk_at dksX8_admit_4 16 rfl rfl)
theorem dX8_admit_112 : decode cX8_admit 112 = .ok (.ior, 1) := dk_128 (dk_at dksX8_admit_4 17 rfl rfl)
theorem dX8_admit_113 : decode cX8_admit 113 = .ok (.bastore, 1) := dk_84 (dk_at dksX8_admit_4 18 rfl rfl)
theorem dX8_admit_114 : decode cX8_admit 114 = .ok (.aload_n 0, 1) := dk_42 (dk_at dksX8_admit_4 19 rfl rfl)
theorem dX8_admit_115 : decode cX8_admit 115 = .ok (.dup, 1) := dk_89 (dk_at dksX8_admit_4 20 rfl rfl)
theorem dX8_admit_116 : decode cX8_admit 116 = .ok (.getfield 425, 3) := dk_180 1 169 (dk_at dksX8_admit_4 21 rfl rfl)
theorem dX8_admit_119 : decode cX8_admit 119 = .ok (.aload_n 0, 1) := dk_42 (dk_at dksX8_admit_5 0 rfl rfl)
theorem dX8_admit_120 : decode cX8_admit 120 = .ok (.getfield 110, 3) := dk_180 0 110 (dk_at dksX8_admit_5 1 rfl rfl)
theorem dX8_admit_123 : decode cX8_admit 123 = .ok (.iload_n 3, 1) := dk_29 (dk_at dksX8_admit_5 4 rfl rfl)
theorem dX8_admit_124 : decode cX8_admit 124 = .ok (.baload, 1) := dk_51 (dk_at dksX8_admit_5 5 rfl rfl)
theorem dX8_admit_125 : decode cX8_admit 125 = .ok (.ifCond .eq 12, 3) := dk_153 0 12 (dk_at dksX8_admit_5 6 rfl rfl)
theorem dX8_admit_128 : decode cX8_admit 128 = .ok (.aload_n 0, 1) := dk_42 (dk_at dksX8_admit_5 9 rfl rfl)
theorem dX8_admit_129 : decode cX8_admit 129 = .ok (.getfield 104, 3) := dk_180 0 104 (dk_at dksX8_admit_5 10 rfl rfl)
theorem dX8_admit_132 : decode cX8_admit 132 = .ok (.iload_n 3, 1) := dk_29 (dk_at dksX8_admit_5 13 rfl rfl)
theorem dX8_admit_133 : decode cX8_admit 133 = .ok (.iaload, 1) := dk_46 (dk_at dksX8_admit_5 14 rfl rfl)
theorem dX8_admit_134 : decode cX8_admit 134 = .ok (.goto 4, 3) := dk_167 0 4 (dk_at dksX8_admit_5 15 rfl rfl)
theorem dX8_admit_137 : decode cX8_admit 137 = .ok (.iconst 0, 1) := dk_3 (dk_at dksX8_admit_5 18 rfl rfl)
theorem dX8_admit_138 : decode cX8_admit 138 = .ok (.iadd, 1) := dk_96 (dk_at dksX8_admit_5 19 rfl rfl)
theorem dX8_admit_139 : decode cX8_admit 139 = .ok (.putfield 425, 3) := dk_181 1 169 (dk_at dksX8_admit_5 20 rfl rfl)
theorem dX8_admit_142 : decode cX8_admit 142 = .ok (.iinc 2 1, 3) := dk_132 2 1 (dk_at dksX8_admit_6 0 rfl rfl)
theorem dX8_admit_145 : decode cX8_admit 145 = .ok (.goto (-64), 3) := dk_167 255 192 (dk_at dksX8_admit_6 3 rfl rfl)
theorem dX8_admit_148 : decode cX8_admit 148 = .ok (.return_, 1) := dk_177 (dk_at dksX8_admit_6 6 rfl rfl)
abbrev cX8_level : ByteArray := prog_5_method_73_code
def yX8_level : MethodName := ⟨RX8, "level", "()V"⟩
def dkwX8_level_6 : List UInt8 := [180, 0, 113, 21, 4, 46, 42, 21, 4, 182, 1, 197, 100, 184, 1, 122, 79, 132, 3, 1, 167, 255, 212, 177]
abbrev dktX8_level_6 : List UInt8 := dkwX8_level_6 ++ []
def dkwX8_level_5 : List UInt8 := [29, 42, 180, 1, 160, 162, 0, 42, 42, 180, 0, 101, 29, 46, 54, 4, 42, 180, 0, 113, 21, 4, 3, 42]
abbrev dktX8_level_5 : List UInt8 := dkwX8_level_5 ++ dktX8_level_6
def dkwX8_level_4 : List UInt8 := [181, 0, 170, 42, 42, 180, 0, 170, 42, 180, 1, 200, 100, 27, 96, 3, 182, 1, 203, 167, 255, 215, 3, 62]
abbrev dktX8_level_4 : List UInt8 := dkwX8_level_4 ++ dktX8_level_5
def dkwX8_level_3 : List UInt8 := [104, 61, 42, 180, 0, 170, 28, 162, 0, 39, 42, 182, 1, 206, 153, 0, 32, 42, 89, 180, 0, 170, 4, 96]
abbrev dktX8_level_3 : List UInt8 := dkwX8_level_3 ++ dktX8_level_4
def dkwX8_level_2 : List UInt8 := [167, 255, 214, 42, 42, 180, 0, 170, 42, 180, 1, 200, 100, 27, 96, 3, 182, 1, 203, 5, 42, 180, 0, 170]
abbrev dktX8_level_2 : List UInt8 := dkwX8_level_2 ++ dktX8_level_3
def dkwX8_level_1 : List UInt8 := [153, 0, 16, 42, 42, 180, 0, 101, 28, 46, 182, 1, 197, 167, 0, 4, 3, 96, 60, 132, 2, 1]
abbrev dktX8_level_1 : List UInt8 := dkwX8_level_1 ++ dktX8_level_2
def dkwX8_level_0 : List UInt8 := [3, 60, 3, 61, 28, 42, 180, 1, 160, 162, 0, 40, 27, 42, 180, 0, 110, 42, 180, 0, 101, 28, 46, 51]
abbrev dktX8_level_0 : List UInt8 := dkwX8_level_0 ++ dktX8_level_1
theorem dksX8_level_0 : cX8_level.data.toList.drop 0 = dktX8_level_0 := by decide +kernel
theorem dksX8_level_1 : cX8_level.data.toList.drop 24 = dktX8_level_1 := dk_seg dksX8_level_0 24 rfl rfl
theorem dksX8_level_2 : cX8_level.data.toList.drop 46 = dktX8_level_2 := dk_seg dksX8_level_1 22 rfl rfl
theorem dksX8_level_3 : cX8_level.data.toList.drop 70 = dktX8_level_3 := dk_seg dksX8_level_2 24 rfl rfl
theorem dksX8_level_4 : cX8_level.data.toList.drop 94 = dktX8_level_4 := dk_seg dksX8_level_3 24 rfl rfl
theorem dksX8_level_5 : cX8_level.data.toList.drop 118 = dktX8_level_5 := dk_seg dksX8_level_4 24 rfl rfl
theorem dksX8_level_6 : cX8_level.data.toList.drop 142 = dktX8_level_6 := dk_seg dksX8_level_5 24 rfl rfl
theorem dX8_level_0 : decode cX8_level 0 = .ok (.iconst 0, 1) := dk_3 (dk_at dksX8_level_0 0 rfl rfl)
theorem dX8_level_1 : decode cX8_level 1 = .ok (.istore_n 1, 1) := dk_60 (dk_at dksX8_level_0 1 rfl rfl)
theorem dX8_level_2 : decode cX8_level 2 = .ok (.iconst 0, 1) := dk_3 (dk_at dksX8_level_0 2 rfl rfl)
theorem dX8_level_3 : decode cX8_level 3 = .ok (.istore_n 2, 1) := dk_61 (dk_at dksX8_level_0 3 rfl rfl)
theorem dX8_level_4 : decode cX8_level 4 = .ok (.iload_n 2, 1) := dk_28 (dk_at dksX8_level_0 4 rfl rfl)
theorem dX8_level_5 : decode cX8_level 5 = .ok (.aload_n 0, 1) := dk_42 (dk_at dksX8_level_0 5 rfl rfl)
theorem dX8_level_6 : decode cX8_level 6 = .ok (.getfield 416, 3) := dk_180 1 160 (dk_at dksX8_level_0 6 rfl rfl)
theorem dX8_level_9 : decode cX8_level 9 = .ok (.if_icmp .ge 40, 3) := dk_162 0 40 (dk_at dksX8_level_0 9 rfl rfl)
theorem dX8_level_12 : decode cX8_level 12 = .ok (.iload_n 1, 1) := dk_27 (dk_at dksX8_level_0 12 rfl rfl)
theorem dX8_level_13 : decode cX8_level 13 = .ok (.aload_n 0, 1) := dk_42 (dk_at dksX8_level_0 13 rfl rfl)
theorem dX8_level_14 : decode cX8_level 14 = .ok (.getfield 110, 3) := dk_180 0 110 (dk_at dksX8_level_0 14 rfl rfl)
theorem dX8_level_17 : decode cX8_level 17 = .ok (.aload_n 0, 1) := dk_42 (dk_at dksX8_level_0 17 rfl rfl)
theorem dX8_level_18 : decode cX8_level 18 = .ok (.getfield 101, 3) := dk_180 0 101 (dk_at dksX8_level_0 18 rfl rfl)
theorem dX8_level_21 : decode cX8_level 21 = .ok (.iload_n 2, 1) := dk_28 (dk_at dksX8_level_0 21 rfl rfl)
theorem dX8_level_22 : decode cX8_level 22 = .ok (.iaload, 1) := dk_46 (dk_at dksX8_level_0 22 rfl rfl)
theorem dX8_level_23 : decode cX8_level 23 = .ok (.baload, 1) := dk_51 (dk_at dksX8_level_0 23 rfl rfl)
theorem dX8_level_24 : decode cX8_level 24 = .ok (.ifCond .eq 16, 3) := dk_153 0 16 (dk_at dksX8_level_1 0 rfl rfl)
theorem dX8_level_27 : decode cX8_level 27 = .ok (.aload_n 0, 1) := dk_42 (dk_at dksX8_level_1 3 rfl rfl)
theorem dX8_level_28 : decode cX8_level 28 = .ok (.aload_n 0, 1) := dk_42 (dk_at dksX8_level_1 4 rfl rfl)
theorem dX8_level_29 : decode cX8_level 29 = .ok (.getfield 101, 3) := dk_180 0 101 (dk_at dksX8_level_1 5 rfl rfl)
theorem dX8_level_32 : decode cX8_level 32 = .ok (.iload_n 2, 1) := dk_28 (dk_at dksX8_level_1 8 rfl rfl)
theorem dX8_level_33 : decode cX8_level 33 = .ok (.iaload, 1) := dk_46 (dk_at dksX8_level_1 9 rfl rfl)
theorem dX8_level_34 : decode cX8_level 34 = .ok (.invokevirtual 453, 3) := dk_182 1 197 (dk_at dksX8_level_1 10 rfl rfl)
theorem dX8_level_37 : decode cX8_level 37 = .ok (.goto 4, 3) := dk_167 0 4 (dk_at dksX8_level_1 13 rfl rfl)
theorem dX8_level_40 : decode cX8_level 40 = .ok (.iconst 0, 1) := dk_3 (dk_at dksX8_level_1 16 rfl rfl)
theorem dX8_level_41 : decode cX8_level 41 = .ok (.iadd, 1) := dk_96 (dk_at dksX8_level_1 17 rfl rfl)
theorem dX8_level_42 : decode cX8_level 42 = .ok (.istore_n 1, 1) := dk_60 (dk_at dksX8_level_1 18 rfl rfl)
theorem dX8_level_43 : decode cX8_level 43 = .ok (.iinc 2 1, 3) := dk_132 2 1 (dk_at dksX8_level_1 19 rfl rfl)
theorem dX8_level_46 : decode cX8_level 46 = .ok (.goto (-42), 3) := dk_167 255 214 (dk_at dksX8_level_2 0 rfl rfl)
theorem dX8_level_49 : decode cX8_level 49 = .ok (.aload_n 0, 1) := dk_42 (dk_at dksX8_level_2 3 rfl rfl)
theorem dX8_level_50 : decode cX8_level 50 = .ok (.aload_n 0, 1) := dk_42 (dk_at dksX8_level_2 4 rfl rfl)
theorem dX8_level_51 : decode cX8_level 51 = .ok (.getfield 170, 3) := dk_180 0 170 (dk_at dksX8_level_2 5 rfl rfl)
theorem dX8_level_54 : decode cX8_level 54 = .ok (.aload_n 0, 1) := dk_42 (dk_at dksX8_level_2 8 rfl rfl)
theorem dX8_level_55 : decode cX8_level 55 = .ok (.getfield 456, 3) := dk_180 1 200 (dk_at dksX8_level_2 9 rfl rfl)
theorem dX8_level_58 : decode cX8_level 58 = .ok (.isub, 1) := dk_100 (dk_at dksX8_level_2 12 rfl rfl)
theorem dX8_level_59 : decode cX8_level 59 = .ok (.iload_n 1, 1) := dk_27 (dk_at dksX8_level_2 13 rfl rfl)
theorem dX8_level_60 : decode cX8_level 60 = .ok (.iadd, 1) := dk_96 (dk_at dksX8_level_2 14 rfl rfl)
theorem dX8_level_61 : decode cX8_level 61 = .ok (.iconst 0, 1) := dk_3 (dk_at dksX8_level_2 15 rfl rfl)
theorem dX8_level_62 : decode cX8_level 62 = .ok (.invokevirtual 459, 3) := dk_182 1 203 (dk_at dksX8_level_2 16 rfl rfl)
theorem dX8_level_65 : decode cX8_level 65 = .ok (.iconst 2, 1) := dk_5 (dk_at dksX8_level_2 19 rfl rfl)
theorem dX8_level_66 : decode cX8_level 66 = .ok (.aload_n 0, 1) := dk_42 (dk_at dksX8_level_2 20 rfl rfl)
theorem dX8_level_67 : decode cX8_level 67 = .ok (.getfield 170, 3) := dk_180 0 170 (dk_at dksX8_level_2 21 rfl rfl)
theorem dX8_level_70 : decode cX8_level 70 = .ok (.imul, 1) := dk_104 (dk_at dksX8_level_3 0 rfl rfl)
theorem dX8_level_71 : decode cX8_level 71 = .ok (.istore_n 2, 1) := dk_61 (dk_at dksX8_level_3 1 rfl rfl)
theorem dX8_level_72 : decode cX8_level 72 = .ok (.aload_n 0, 1) := dk_42 (dk_at dksX8_level_3 2 rfl rfl)
theorem dX8_level_73 : decode cX8_level 73 = .ok (.getfield 170, 3) := dk_180 0 170 (dk_at dksX8_level_3 3 rfl rfl)
theorem dX8_level_76 : decode cX8_level 76 = .ok (.iload_n 2, 1) := dk_28 (dk_at dksX8_level_3 6 rfl rfl)
theorem dX8_level_77 : decode cX8_level 77 = .ok (.if_icmp .ge 39, 3) := dk_162 0 39 (dk_at dksX8_level_3 7 rfl rfl)
theorem dX8_level_80 : decode cX8_level 80 = .ok (.aload_n 0, 1) := dk_42 (dk_at dksX8_level_3 10 rfl rfl)
theorem dX8_level_81 : decode cX8_level 81 = .ok (.invokevirtual 462, 3) := dk_182 1 206 (dk_at dksX8_level_3 11 rfl rfl)
theorem dX8_level_84 : decode cX8_level 84 = .ok (.ifCond .eq 32, 3) := dk_153 0 32 (dk_at dksX8_level_3 14 rfl rfl)
theorem dX8_level_87 : decode cX8_level 87 = .ok (.aload_n 0, 1) := dk_42 (dk_at dksX8_level_3 17 rfl rfl)
theorem dX8_level_88 : decode cX8_level 88 = .ok (.dup, 1) := dk_89 (dk_at dksX8_level_3 18 rfl rfl)
theorem dX8_level_89 : decode cX8_level 89 = .ok (.getfield 170, 3) := dk_180 0 170 (dk_at dksX8_level_3 19 rfl rfl)
theorem dX8_level_92 : decode cX8_level 92 = .ok (.iconst 1, 1) := dk_4 (dk_at dksX8_level_3 22 rfl rfl)
theorem dX8_level_93 : decode cX8_level 93 = .ok (.iadd, 1) := dk_96 (dk_at dksX8_level_3 23 rfl rfl)
theorem dX8_level_94 : decode cX8_level 94 = .ok (.putfield 170, 3) := dk_181 0 170 (dk_at dksX8_level_4 0 rfl rfl)
theorem dX8_level_97 : decode cX8_level 97 = .ok (.aload_n 0, 1) := dk_42 (dk_at dksX8_level_4 3 rfl rfl)
theorem dX8_level_98 : decode cX8_level 98 = .ok (.aload_n 0, 1) := dk_42 (dk_at dksX8_level_4 4 rfl rfl)
theorem dX8_level_99 : decode cX8_level 99 = .ok (.getfield 170, 3) := dk_180 0 170 (dk_at dksX8_level_4 5 rfl rfl)
theorem dX8_level_102 : decode cX8_level 102 = .ok (.aload_n 0, 1) := dk_42 (dk_at dksX8_level_4 8 rfl rfl)
theorem dX8_level_103 : decode cX8_level 103 = .ok (.getfield 456, 3) := dk_180 1 200 (dk_at dksX8_level_4 9 rfl rfl)
theorem dX8_level_106 : decode cX8_level 106 = .ok (.isub, 1) := dk_100 (dk_at dksX8_level_4 12 rfl rfl)
theorem dX8_level_107 : decode cX8_level 107 = .ok (.iload_n 1, 1) := dk_27 (dk_at dksX8_level_4 13 rfl rfl)
theorem dX8_level_108 : decode cX8_level 108 = .ok (.iadd, 1) := dk_96 (dk_at dksX8_level_4 14 rfl rfl)
theorem dX8_level_109 : decode cX8_level 109 = .ok (.iconst 0, 1) := dk_3 (dk_at dksX8_level_4 15 rfl rfl)
theorem dX8_level_110 : decode cX8_level 110 = .ok (.invokevirtual 459, 3) := dk_182 1 203 (dk_at dksX8_level_4 16 rfl rfl)
theorem dX8_level_113 : decode cX8_level 113 = .ok (.goto (-41), 3) := dk_167 255 215 (dk_at dksX8_level_4 19 rfl rfl)
theorem dX8_level_116 : decode cX8_level 116 = .ok (.iconst 0, 1) := dk_3 (dk_at dksX8_level_4 22 rfl rfl)
theorem dX8_level_117 : decode cX8_level 117 = .ok (.istore_n 3, 1) := dk_62 (dk_at dksX8_level_4 23 rfl rfl)
theorem dX8_level_118 : decode cX8_level 118 = .ok (.iload_n 3, 1) := dk_29 (dk_at dksX8_level_5 0 rfl rfl)
theorem dX8_level_119 : decode cX8_level 119 = .ok (.aload_n 0, 1) := dk_42 (dk_at dksX8_level_5 1 rfl rfl)
theorem dX8_level_120 : decode cX8_level 120 = .ok (.getfield 416, 3) := dk_180 1 160 (dk_at dksX8_level_5 2 rfl rfl)
theorem dX8_level_123 : decode cX8_level 123 = .ok (.if_icmp .ge 42, 3) := dk_162 0 42 (dk_at dksX8_level_5 5 rfl rfl)
theorem dX8_level_126 : decode cX8_level 126 = .ok (.aload_n 0, 1) := dk_42 (dk_at dksX8_level_5 8 rfl rfl)
theorem dX8_level_127 : decode cX8_level 127 = .ok (.getfield 101, 3) := dk_180 0 101 (dk_at dksX8_level_5 9 rfl rfl)
theorem dX8_level_130 : decode cX8_level 130 = .ok (.iload_n 3, 1) := dk_29 (dk_at dksX8_level_5 12 rfl rfl)
theorem dX8_level_131 : decode cX8_level 131 = .ok (.iaload, 1) := dk_46 (dk_at dksX8_level_5 13 rfl rfl)
theorem dX8_level_132 : decode cX8_level 132 = .ok (.istore 4, 2) := dk_54 4 (dk_at dksX8_level_5 14 rfl rfl)
theorem dX8_level_134 : decode cX8_level 134 = .ok (.aload_n 0, 1) := dk_42 (dk_at dksX8_level_5 16 rfl rfl)
theorem dX8_level_135 : decode cX8_level 135 = .ok (.getfield 113, 3) := dk_180 0 113 (dk_at dksX8_level_5 17 rfl rfl)
theorem dX8_level_138 : decode cX8_level 138 = .ok (.iload 4, 2) := dk_21 4 (dk_at dksX8_level_5 20 rfl rfl)
theorem dX8_level_140 : decode cX8_level 140 = .ok (.iconst 0, 1) := dk_3 (dk_at dksX8_level_5 22 rfl rfl)
theorem dX8_level_141 : decode cX8_level 141 = .ok (.aload_n 0, 1) := dk_42 (dk_at dksX8_level_5 23 rfl rfl)
theorem dX8_level_142 : decode cX8_level 142 = .ok (.getfield 113, 3) := dk_180 0 113 (dk_at dksX8_level_6 0 rfl rfl)
theorem dX8_level_145 : decode cX8_level 145 = .ok (.iload 4, 2) := dk_21 4 (dk_at dksX8_level_6 3 rfl rfl)
theorem dX8_level_147 : decode cX8_level 147 = .ok (.iaload, 1) := dk_46 (dk_at dksX8_level_6 5 rfl rfl)
theorem dX8_level_148 : decode cX8_level 148 = .ok (.aload_n 0, 1) := dk_42 (dk_at dksX8_level_6 6 rfl rfl)
theorem dX8_level_149 : decode cX8_level 149 = .ok (.iload 4, 2) := dk_21 4 (dk_at dksX8_level_6 7 rfl rfl)
theorem dX8_level_151 : decode cX8_level 151 = .ok (.invokevirtual 453, 3) := dk_182 1 197 (dk_at dksX8_level_6 9 rfl rfl)
theorem dX8_level_154 : decode cX8_level 154 = .ok (.isub, 1) := dk_100 (dk_at dksX8_level_6 12 rfl rfl)
theorem dX8_level_155 : decode cX8_level 155 = .ok (.invokestatic 378, 3) := dk_184 1 122 (dk_at dksX8_level_6 13 rfl rfl)
theorem dX8_level_158 : decode cX8_level 158 = .ok (.iastore, 1) := dk_79 (dk_at dksX8_level_6 16 rfl rfl)
theorem dX8_level_159 : decode cX8_level 159 = .ok (.iinc 3 1, 3) := dk_132 3 1 (dk_at dksX8_level_6 17 rfl rfl)
theorem dX8_level_162 : decode cX8_level 162 = .ok (.goto (-44), 3) := dk_167 255 212 (dk_at dksX8_level_6 20 rfl rfl)
theorem dX8_level_165 : decode cX8_level 165 = .ok (.return_, 1) := dk_177 (dk_at dksX8_level_6 23 rfl rfl)
abbrev cX8_firstOf : ByteArray := prog_5_method_71_code
def yX8_firstOf : MethodName := ⟨RX8, "firstOf", "(I)I"⟩
def dkwX8_firstOf_1 : List UInt8 := [180, 0, 135, 180, 1, 157, 27, 46, 46, 172]
abbrev dktX8_firstOf_1 : List UInt8 := dkwX8_firstOf_1 ++ []
def dkwX8_firstOf_0 : List UInt8 := [42, 180, 0, 135, 180, 1, 157, 27, 46, 2, 160, 0, 7, 3, 167, 0, 17, 42, 180, 0, 122, 42]
abbrev dktX8_firstOf_0 : List UInt8 := dkwX8_firstOf_0 ++ dktX8_firstOf_1
theorem dksX8_firstOf_0 : cX8_firstOf.data.toList.drop 0 = dktX8_firstOf_0 := by decide +kernel
theorem dksX8_firstOf_1 : cX8_firstOf.data.toList.drop 22 = dktX8_firstOf_1 := dk_seg dksX8_firstOf_0 22 rfl rfl
theorem dX8_firstOf_0 : decode cX8_firstOf 0 = .ok (.aload_n 0, 1) := dk_42 (dk_at dksX8_firstOf_0 0 rfl rfl)
theorem dX8_firstOf_1 : decode cX8_firstOf 1 = .ok (.getfield 135, 3) := dk_180 0 135 (dk_at dksX8_firstOf_0 1 rfl rfl)
theorem dX8_firstOf_4 : decode cX8_firstOf 4 = .ok (.getfield 413, 3) := dk_180 1 157 (dk_at dksX8_firstOf_0 4 rfl rfl)
theorem dX8_firstOf_7 : decode cX8_firstOf 7 = .ok (.iload_n 1, 1) := dk_27 (dk_at dksX8_firstOf_0 7 rfl rfl)
theorem dX8_firstOf_8 : decode cX8_firstOf 8 = .ok (.iaload, 1) := dk_46 (dk_at dksX8_firstOf_0 8 rfl rfl)
theorem dX8_firstOf_9 : decode cX8_firstOf 9 = .ok (.iconst (-1), 1) := dk_2 (dk_at dksX8_firstOf_0 9 rfl rfl)
theorem dX8_firstOf_10 : decode cX8_firstOf 10 = .ok (.if_icmp .ne 7, 3) := dk_160 0 7 (dk_at dksX8_firstOf_0 10 rfl rfl)
theorem dX8_firstOf_13 : decode cX8_firstOf 13 = .ok (.iconst 0, 1) := dk_3 (dk_at dksX8_firstOf_0 13 rfl rfl)
theorem dX8_firstOf_14 : decode cX8_firstOf 14 = .ok (.goto 17, 3) := dk_167 0 17 (dk_at dksX8_firstOf_0 14 rfl rfl)
theorem dX8_firstOf_17 : decode cX8_firstOf 17 = .ok (.aload_n 0, 1) := dk_42 (dk_at dksX8_firstOf_0 17 rfl rfl)
theorem dX8_firstOf_18 : decode cX8_firstOf 18 = .ok (.getfield 122, 3) := dk_180 0 122 (dk_at dksX8_firstOf_0 18 rfl rfl)
theorem dX8_firstOf_21 : decode cX8_firstOf 21 = .ok (.aload_n 0, 1) := dk_42 (dk_at dksX8_firstOf_0 21 rfl rfl)
theorem dX8_firstOf_22 : decode cX8_firstOf 22 = .ok (.getfield 135, 3) := dk_180 0 135 (dk_at dksX8_firstOf_1 0 rfl rfl)
theorem dX8_firstOf_25 : decode cX8_firstOf 25 = .ok (.getfield 413, 3) := dk_180 1 157 (dk_at dksX8_firstOf_1 3 rfl rfl)
theorem dX8_firstOf_28 : decode cX8_firstOf 28 = .ok (.iload_n 1, 1) := dk_27 (dk_at dksX8_firstOf_1 6 rfl rfl)
theorem dX8_firstOf_29 : decode cX8_firstOf 29 = .ok (.iaload, 1) := dk_46 (dk_at dksX8_firstOf_1 7 rfl rfl)
theorem dX8_firstOf_30 : decode cX8_firstOf 30 = .ok (.iaload, 1) := dk_46 (dk_at dksX8_firstOf_1 8 rfl rfl)
theorem dX8_firstOf_31 : decode cX8_firstOf 31 = .ok (.ireturn, 1) := dk_172 (dk_at dksX8_firstOf_1 9 rfl rfl)
abbrev cX8_deal : ByteArray := prog_5_method_70_code
def yX8_deal : MethodName := ⟨RX8, "deal", "(IZ)V"⟩
def dkwX8_deal_1 : List UInt8 := [182, 1, 190, 167, 0, 9, 42, 27, 28, 182, 1, 194, 177]
abbrev dktX8_deal_1 : List UInt8 := dkwX8_deal_1 ++ []
def dkwX8_deal_0 : List UInt8 := [42, 180, 0, 113, 3, 184, 1, 163, 42, 180, 0, 131, 180, 1, 21, 8, 162, 0, 12, 42, 27, 28]
abbrev dktX8_deal_0 : List UInt8 := dkwX8_deal_0 ++ dktX8_deal_1
theorem dksX8_deal_0 : cX8_deal.data.toList.drop 0 = dktX8_deal_0 := by decide +kernel
theorem dksX8_deal_1 : cX8_deal.data.toList.drop 22 = dktX8_deal_1 := dk_seg dksX8_deal_0 22 rfl rfl
theorem dX8_deal_0 : decode cX8_deal 0 = .ok (.aload_n 0, 1) := dk_42 (dk_at dksX8_deal_0 0 rfl rfl)
theorem dX8_deal_1 : decode cX8_deal 1 = .ok (.getfield 113, 3) := dk_180 0 113 (dk_at dksX8_deal_0 1 rfl rfl)
theorem dX8_deal_4 : decode cX8_deal 4 = .ok (.iconst 0, 1) := dk_3 (dk_at dksX8_deal_0 4 rfl rfl)
theorem dX8_deal_5 : decode cX8_deal 5 = .ok (.invokestatic 419, 3) := dk_184 1 163 (dk_at dksX8_deal_0 5 rfl rfl)
theorem dX8_deal_8 : decode cX8_deal 8 = .ok (.aload_n 0, 1) := dk_42 (dk_at dksX8_deal_0 8 rfl rfl)
theorem dX8_deal_9 : decode cX8_deal 9 = .ok (.getfield 131, 3) := dk_180 0 131 (dk_at dksX8_deal_0 9 rfl rfl)
theorem dX8_deal_12 : decode cX8_deal 12 = .ok (.getfield 277, 3) := dk_180 1 21 (dk_at dksX8_deal_0 12 rfl rfl)
theorem dX8_deal_15 : decode cX8_deal 15 = .ok (.iconst 5, 1) := dk_8 (dk_at dksX8_deal_0 15 rfl rfl)
theorem dX8_deal_16 : decode cX8_deal 16 = .ok (.if_icmp .ge 12, 3) := dk_162 0 12 (dk_at dksX8_deal_0 16 rfl rfl)
theorem dX8_deal_19 : decode cX8_deal 19 = .ok (.aload_n 0, 1) := dk_42 (dk_at dksX8_deal_0 19 rfl rfl)
theorem dX8_deal_20 : decode cX8_deal 20 = .ok (.iload_n 1, 1) := dk_27 (dk_at dksX8_deal_0 20 rfl rfl)
theorem dX8_deal_21 : decode cX8_deal 21 = .ok (.iload_n 2, 1) := dk_28 (dk_at dksX8_deal_0 21 rfl rfl)
theorem dX8_deal_22 : decode cX8_deal 22 = .ok (.invokevirtual 446, 3) := dk_182 1 190 (dk_at dksX8_deal_1 0 rfl rfl)
theorem dX8_deal_25 : decode cX8_deal 25 = .ok (.goto 9, 3) := dk_167 0 9 (dk_at dksX8_deal_1 3 rfl rfl)
theorem dX8_deal_28 : decode cX8_deal 28 = .ok (.aload_n 0, 1) := dk_42 (dk_at dksX8_deal_1 6 rfl rfl)
theorem dX8_deal_29 : decode cX8_deal 29 = .ok (.iload_n 1, 1) := dk_27 (dk_at dksX8_deal_1 7 rfl rfl)
theorem dX8_deal_30 : decode cX8_deal 30 = .ok (.iload_n 2, 1) := dk_28 (dk_at dksX8_deal_1 8 rfl rfl)
theorem dX8_deal_31 : decode cX8_deal 31 = .ok (.invokevirtual 450, 3) := dk_182 1 194 (dk_at dksX8_deal_1 9 rfl rfl)
theorem dX8_deal_34 : decode cX8_deal 34 = .ok (.return_, 1) := dk_177 (dk_at dksX8_deal_1 12 rfl rfl)
abbrev cX8_byDivisors : ByteArray := prog_5_method_65_code
def yX8_byDivisors : MethodName := ⟨RX8, "byDivisors", "(IZ)V"⟩
def dkwX8_byDivisors_7 : List UInt8 := [4, 96, 79, 132, 4, 1, 167, 255, 92, 177]
abbrev dktX8_byDivisors_7 : List UInt8 := dkwX8_byDivisors_7 ++ []
def dkwX8_byDivisors_6 : List UInt8 := [21, 5, 2, 159, 0, 7, 4, 167, 0, 4, 3, 62, 29, 153, 0, 14, 42, 180, 0, 113, 21, 5, 92, 46]
abbrev dktX8_byDivisors_6 : List UInt8 := dkwX8_byDivisors_6 ++ dktX8_byDivisors_7
def dkwX8_byDivisors_5 : List UInt8 := [180, 0, 113, 21, 7, 46, 182, 1, 177, 104, 164, 0, 7, 21, 7, 54, 5, 132, 6, 1, 167, 255, 141]
abbrev dktX8_byDivisors_5 : List UInt8 := dkwX8_byDivisors_5 ++ dktX8_byDivisors_6
def dkwX8_byDivisors_4 : List UInt8 := [46, 42, 42, 180, 0, 113, 21, 5, 46, 182, 1, 177, 104, 42, 180, 0, 104, 21, 5, 46, 42, 42]
abbrev dktX8_byDivisors_4 : List UInt8 := dkwX8_byDivisors_4 ++ dktX8_byDivisors_5
def dkwX8_byDivisors_3 : List UInt8 := [4, 167, 0, 4, 3, 54, 8, 21, 8, 153, 0, 54, 21, 5, 2, 159, 0, 44, 42, 180, 0, 104, 21, 7]
abbrev dktX8_byDivisors_3 : List UInt8 := dkwX8_byDivisors_3 ++ dktX8_byDivisors_4
def dkwX8_byDivisors_2 : List UInt8 := [153, 0, 28, 28, 153, 0, 20, 42, 180, 0, 113, 21, 7, 46, 42, 180, 0, 107, 21, 7, 46, 162, 0, 7]
abbrev dktX8_byDivisors_2 : List UInt8 := dkwX8_byDivisors_2 ++ dktX8_byDivisors_3
def dkwX8_byDivisors_1 : List UInt8 := [180, 1, 160, 162, 0, 112, 42, 180, 0, 101, 21, 6, 46, 54, 7, 42, 180, 0, 110, 21, 7, 51]
abbrev dktX8_byDivisors_1 : List UInt8 := dkwX8_byDivisors_1 ++ dktX8_byDivisors_2
def dkwX8_byDivisors_0 : List UInt8 := [4, 62, 3, 54, 4, 21, 4, 27, 162, 0, 164, 29, 153, 0, 160, 2, 54, 5, 3, 54, 6, 21, 6, 42]
abbrev dktX8_byDivisors_0 : List UInt8 := dkwX8_byDivisors_0 ++ dktX8_byDivisors_1
theorem dksX8_byDivisors_0 : cX8_byDivisors.data.toList.drop 0 = dktX8_byDivisors_0 := by decide +kernel
theorem dksX8_byDivisors_1 : cX8_byDivisors.data.toList.drop 24 = dktX8_byDivisors_1 := dk_seg dksX8_byDivisors_0 24 rfl rfl
theorem dksX8_byDivisors_2 : cX8_byDivisors.data.toList.drop 46 = dktX8_byDivisors_2 := dk_seg dksX8_byDivisors_1 22 rfl rfl
theorem dksX8_byDivisors_3 : cX8_byDivisors.data.toList.drop 70 = dktX8_byDivisors_3 := dk_seg dksX8_byDivisors_2 24 rfl rfl
theorem dksX8_byDivisors_4 : cX8_byDivisors.data.toList.drop 94 = dktX8_byDivisors_4 := dk_seg dksX8_byDivisors_3 24 rfl rfl
theorem dksX8_byDivisors_5 : cX8_byDivisors.data.toList.drop 116 = dktX8_byDivisors_5 := dk_seg dksX8_byDivisors_4 22 rfl rfl
theorem dksX8_byDivisors_6 : cX8_byDivisors.data.toList.drop 139 = dktX8_byDivisors_6 := dk_seg dksX8_byDivisors_5 23 rfl rfl
theorem dksX8_byDivisors_7 : cX8_byDivisors.data.toList.drop 163 = dktX8_byDivisors_7 := dk_seg dksX8_byDivisors_6 24 rfl rfl
theorem dX8_byDivisors_0 : decode cX8_byDivisors 0 = .ok (.iconst 1, 1) := dk_4 (dk_at dksX8_byDivisors_0 0 rfl rfl)
theorem dX8_byDivisors_1 : decode cX8_byDivisors 1 = .ok (.istore_n 3, 1) := dk_62 (dk_at dksX8_byDivisors_0 1 rfl rfl)
theorem dX8_byDivisors_2 : decode cX8_byDivisors 2 = .ok (.iconst 0, 1) := dk_3 (dk_at dksX8_byDivisors_0 2 rfl rfl)
theorem dX8_byDivisors_3 : decode cX8_byDivisors 3 = .ok (.istore 4, 2) := dk_54 4 (dk_at dksX8_byDivisors_0 3 rfl rfl)
theorem dX8_byDivisors_5 : decode cX8_byDivisors 5 = .ok (.iload 4, 2) := dk_21 4 (dk_at dksX8_byDivisors_0 5 rfl rfl)
theorem dX8_byDivisors_7 : decode cX8_byDivisors 7 = .ok (.iload_n 1, 1) := dk_27 (dk_at dksX8_byDivisors_0 7 rfl rfl)
theorem dX8_byDivisors_8 : decode cX8_byDivisors 8 = .ok (.if_icmp .ge 164, 3) := dk_162 0 164 (dk_at dksX8_byDivisors_0 8 rfl rfl)
theorem dX8_byDivisors_11 : decode cX8_byDivisors 11 = .ok (.iload_n 3, 1) := dk_29 (dk_at dksX8_byDivisors_0 11 rfl rfl)
theorem dX8_byDivisors_12 : decode cX8_byDivisors 12 = .ok (.ifCond .eq 160, 3) := dk_153 0 160 (dk_at dksX8_byDivisors_0 12 rfl rfl)
theorem dX8_byDivisors_15 : decode cX8_byDivisors 15 = .ok (.iconst (-1), 1) := dk_2 (dk_at dksX8_byDivisors_0 15 rfl rfl)
theorem dX8_byDivisors_16 : decode cX8_byDivisors 16 = .ok (.istore 5, 2) := dk_54 5 (dk_at dksX8_byDivisors_0 16 rfl rfl)
theorem dX8_byDivisors_18 : decode cX8_byDivisors 18 = .ok (.iconst 0, 1) := dk_3 (dk_at dksX8_byDivisors_0 18 rfl rfl)
theorem dX8_byDivisors_19 : decode cX8_byDivisors 19 = .ok (.istore 6, 2) := dk_54 6 (dk_at dksX8_byDivisors_0 19 rfl rfl)
theorem dX8_byDivisors_21 : decode cX8_byDivisors 21 = .ok (.iload 6, 2) := dk_21 6 (dk_at dksX8_byDivisors_0 21 rfl rfl)
theorem dX8_byDivisors_23 : decode cX8_byDivisors 23 = .ok (.aload_n 0, 1) := dk_42 (dk_at dksX8_byDivisors_0 23 rfl rfl)
theorem dX8_byDivisors_24 : decode cX8_byDivisors 24 = .ok (.getfield 416, 3) := dk_180 1 160 (dk_at dksX8_byDivisors_1 0 rfl rfl)
theorem dX8_byDivisors_27 : decode cX8_byDivisors 27 = .ok (.if_icmp .ge 112, 3) := dk_162 0 112 (dk_at dksX8_byDivisors_1 3 rfl rfl)
theorem dX8_byDivisors_30 : decode cX8_byDivisors 30 = .ok (.aload_n 0, 1) := dk_42 (dk_at dksX8_byDivisors_1 6 rfl rfl)
theorem dX8_byDivisors_31 : decode cX8_byDivisors 31 = .ok (.getfield 101, 3) := dk_180 0 101 (dk_at dksX8_byDivisors_1 7 rfl rfl)
theorem dX8_byDivisors_34 : decode cX8_byDivisors 34 = .ok (.iload 6, 2) := dk_21 6 (dk_at dksX8_byDivisors_1 10 rfl rfl)
theorem dX8_byDivisors_36 : decode cX8_byDivisors 36 = .ok (.iaload, 1) := dk_46 (dk_at dksX8_byDivisors_1 12 rfl rfl)
theorem dX8_byDivisors_37 : decode cX8_byDivisors 37 = .ok (.istore 7, 2) := dk_54 7 (dk_at dksX8_byDivisors_1 13 rfl rfl)
theorem dX8_byDivisors_39 : decode cX8_byDivisors 39 = .ok (.aload_n 0, 1) := dk_42 (dk_at dksX8_byDivisors_1 15 rfl rfl)
theorem dX8_byDivisors_40 : decode cX8_byDivisors 40 = .ok (.getfield 110, 3) := dk_180 0 110 (dk_at dksX8_byDivisors_1 16 rfl rfl)
theorem dX8_byDivisors_43 : decode cX8_byDivisors 43 = .ok (.iload 7, 2) := dk_21 7 (dk_at dksX8_byDivisors_1 19 rfl rfl)
theorem dX8_byDivisors_45 : decode cX8_byDivisors 45 = .ok (.baload, 1) := dk_51 (dk_at dksX8_byDivisors_1 21 rfl rfl)
theorem dX8_byDivisors_46 : decode cX8_byDivisors 46 = .ok (.ifCond .eq 28, 3) := dk_153 0 28 (dk_at dksX8_byDivisors_2 0 rfl rfl)
theorem dX8_byDivisors_49 : decode cX8_byDivisors 49 = .ok (.iload_n 2, 1) := dk_28 (dk_at dksX8_byDivisors_2 3 rfl rfl)
theorem dX8_byDivisors_50 : decode cX8_byDivisors 50 = .ok (.ifCond .eq 20, 3) := dk_153 0 20 (dk_at dksX8_byDivisors_2 4 rfl rfl)
theorem dX8_byDivisors_53 : decode cX8_byDivisors 53 = .ok (.aload_n 0, 1) := dk_42 (dk_at dksX8_byDivisors_2 7 rfl rfl)
theorem dX8_byDivisors_54 : decode cX8_byDivisors 54 = .ok (.getfield 113, 3) := dk_180 0 113 (dk_at dksX8_byDivisors_2 8 rfl rfl)
theorem dX8_byDivisors_57 : decode cX8_byDivisors 57 = .ok (.iload 7, 2) := dk_21 7 (dk_at dksX8_byDivisors_2 11 rfl rfl)
theorem dX8_byDivisors_59 : decode cX8_byDivisors 59 = .ok (.iaload, 1) := dk_46 (dk_at dksX8_byDivisors_2 13 rfl rfl)
theorem dX8_byDivisors_60 : decode cX8_byDivisors 60 = .ok (.aload_n 0, 1) := dk_42 (dk_at dksX8_byDivisors_2 14 rfl rfl)
theorem dX8_byDivisors_61 : decode cX8_byDivisors 61 = .ok (.getfield 107, 3) := dk_180 0 107 (dk_at dksX8_byDivisors_2 15 rfl rfl)
theorem dX8_byDivisors_64 : decode cX8_byDivisors 64 = .ok (.iload 7, 2) := dk_21 7 (dk_at dksX8_byDivisors_2 18 rfl rfl)
theorem dX8_byDivisors_66 : decode cX8_byDivisors 66 = .ok (.iaload, 1) := dk_46 (dk_at dksX8_byDivisors_2 20 rfl rfl)
theorem dX8_byDivisors_67 : decode cX8_byDivisors 67 = .ok (.if_icmp .ge 7, 3) := dk_162 0 7 (dk_at dksX8_byDivisors_2 21 rfl rfl)
theorem dX8_byDivisors_70 : decode cX8_byDivisors 70 = .ok (.iconst 1, 1) := dk_4 (dk_at dksX8_byDivisors_3 0 rfl rfl)
theorem dX8_byDivisors_71 : decode cX8_byDivisors 71 = .ok (.goto 4, 3) := dk_167 0 4 (dk_at dksX8_byDivisors_3 1 rfl rfl)
theorem dX8_byDivisors_74 : decode cX8_byDivisors 74 = .ok (.iconst 0, 1) := dk_3 (dk_at dksX8_byDivisors_3 4 rfl rfl)
theorem dX8_byDivisors_75 : decode cX8_byDivisors 75 = .ok (.istore 8, 2) := dk_54 8 (dk_at dksX8_byDivisors_3 5 rfl rfl)
theorem dX8_byDivisors_77 : decode cX8_byDivisors 77 = .ok (.iload 8, 2) := dk_21 8 (dk_at dksX8_byDivisors_3 7 rfl rfl)
theorem dX8_byDivisors_79 : decode cX8_byDivisors 79 = .ok (.ifCond .eq 54, 3) := dk_153 0 54 (dk_at dksX8_byDivisors_3 9 rfl rfl)
theorem dX8_byDivisors_82 : decode cX8_byDivisors 82 = .ok (.iload 5, 2) := dk_21 5 (dk_at dksX8_byDivisors_3 12 rfl rfl)
theorem dX8_byDivisors_84 : decode cX8_byDivisors 84 = .ok (.iconst (-1), 1) := dk_2 (dk_at dksX8_byDivisors_3 14 rfl rfl)
theorem dX8_byDivisors_85 : decode cX8_byDivisors 85 = .ok (.if_icmp .eq 44, 3) := dk_159 0 44 (dk_at dksX8_byDivisors_3 15 rfl rfl)
theorem dX8_byDivisors_88 : decode cX8_byDivisors 88 = .ok (.aload_n 0, 1) := dk_42 (dk_at dksX8_byDivisors_3 18 rfl rfl)
theorem dX8_byDivisors_89 : decode cX8_byDivisors 89 = .ok (.getfield 104, 3) := dk_180 0 104 (dk_at dksX8_byDivisors_3 19 rfl rfl)
theorem dX8_byDivisors_92 : decode cX8_byDivisors 92 = .ok (.iload 7, 2) := dk_21 7 (dk_at dksX8_byDivisors_3 22 rfl rfl)
theorem dX8_byDivisors_94 : decode cX8_byDivisors 94 = .ok (.iaload, 1) := dk_46 (dk_at dksX8_byDivisors_4 0 rfl rfl)
theorem dX8_byDivisors_95 : decode cX8_byDivisors 95 = .ok (.aload_n 0, 1) := dk_42 (dk_at dksX8_byDivisors_4 1 rfl rfl)
theorem dX8_byDivisors_96 : decode cX8_byDivisors 96 = .ok (.aload_n 0, 1) := dk_42 (dk_at dksX8_byDivisors_4 2 rfl rfl)
theorem dX8_byDivisors_97 : decode cX8_byDivisors 97 = .ok (.getfield 113, 3) := dk_180 0 113 (dk_at dksX8_byDivisors_4 3 rfl rfl)
theorem dX8_byDivisors_100 : decode cX8_byDivisors 100 = .ok (.iload 5, 2) := dk_21 5 (dk_at dksX8_byDivisors_4 6 rfl rfl)
theorem dX8_byDivisors_102 : decode cX8_byDivisors 102 = .ok (.iaload, 1) := dk_46 (dk_at dksX8_byDivisors_4 8 rfl rfl)
theorem dX8_byDivisors_103 : decode cX8_byDivisors 103 = .ok (.invokevirtual 433, 3) := dk_182 1 177 (dk_at dksX8_byDivisors_4 9 rfl rfl)
theorem dX8_byDivisors_106 : decode cX8_byDivisors 106 = .ok (.imul, 1) := dk_104 (dk_at dksX8_byDivisors_4 12 rfl rfl)
theorem dX8_byDivisors_107 : decode cX8_byDivisors 107 = .ok (.aload_n 0, 1) := dk_42 (dk_at dksX8_byDivisors_4 13 rfl rfl)
theorem dX8_byDivisors_108 : decode cX8_byDivisors 108 = .ok (.getfield 104, 3) := dk_180 0 104 (dk_at dksX8_byDivisors_4 14 rfl rfl)
theorem dX8_byDivisors_111 : decode cX8_byDivisors 111 = .ok (.iload 5, 2) := dk_21 5 (dk_at dksX8_byDivisors_4 17 rfl rfl)
theorem dX8_byDivisors_113 : decode cX8_byDivisors 113 = .ok (.iaload, 1) := dk_46 (dk_at dksX8_byDivisors_4 19 rfl rfl)
theorem dX8_byDivisors_114 : decode cX8_byDivisors 114 = .ok (.aload_n 0, 1) := dk_42 (dk_at dksX8_byDivisors_4 20 rfl rfl)
theorem dX8_byDivisors_115 : decode cX8_byDivisors 115 = .ok (.aload_n 0, 1) := dk_42 (dk_at dksX8_byDivisors_4 21 rfl rfl)
theorem dX8_byDivisors_116 : decode cX8_byDivisors 116 = .ok (.getfield 113, 3) := dk_180 0 113 (dk_at dksX8_byDivisors_5 0 rfl rfl)
theorem dX8_byDivisors_119 : decode cX8_byDivisors 119 = .ok (.iload 7, 2) := dk_21 7 (dk_at dksX8_byDivisors_5 3 rfl rfl)
theorem dX8_byDivisors_121 : decode cX8_byDivisors 121 = .ok (.iaload, 1) := dk_46 (dk_at dksX8_byDivisors_5 5 rfl rfl)
theorem dX8_byDivisors_122 : decode cX8_byDivisors 122 = .ok (.invokevirtual 433, 3) := dk_182 1 177 (dk_at dksX8_byDivisors_5 6 rfl rfl)
theorem dX8_byDivisors_125 : decode cX8_byDivisors 125 = .ok (.imul, 1) := dk_104 (dk_at dksX8_byDivisors_5 9 rfl rfl)
theorem dX8_byDivisors_126 : decode cX8_byDivisors 126 = .ok (.if_icmp .le 7, 3) := dk_164 0 7 (dk_at dksX8_byDivisors_5 10 rfl rfl)
theorem dX8_byDivisors_129 : decode cX8_byDivisors 129 = .ok (.iload 7, 2) := dk_21 7 (dk_at dksX8_byDivisors_5 13 rfl rfl)
theorem dX8_byDivisors_131 : decode cX8_byDivisors 131 = .ok (.istore 5, 2) := dk_54 5 (dk_at dksX8_byDivisors_5 15 rfl rfl)
theorem dX8_byDivisors_133 : decode cX8_byDivisors 133 = .ok (.iinc 6 1, 3) := dk_132 6 1 (dk_at dksX8_byDivisors_5 17 rfl rfl)
theorem dX8_byDivisors_136 : decode cX8_byDivisors 136 = .ok (.goto (-115), 3) := dk_167 255 141 (dk_at dksX8_byDivisors_5 20 rfl rfl)
theorem dX8_byDivisors_139 : decode cX8_byDivisors 139 = .ok (.iload 5, 2) := dk_21 5 (dk_at dksX8_byDivisors_6 0 rfl rfl)
theorem dX8_byDivisors_141 : decode cX8_byDivisors 141 = .ok (.iconst (-1), 1) := dk_2 (dk_at dksX8_byDivisors_6 2 rfl rfl)
theorem dX8_byDivisors_142 : decode cX8_byDivisors 142 = .ok (.if_icmp .eq 7, 3) := dk_159 0 7 (dk_at dksX8_byDivisors_6 3 rfl rfl)
theorem dX8_byDivisors_145 : decode cX8_byDivisors 145 = .ok (.iconst 1, 1) := dk_4 (dk_at dksX8_byDivisors_6 6 rfl rfl)
theorem dX8_byDivisors_146 : decode cX8_byDivisors 146 = .ok (.goto 4, 3) := dk_167 0 4 (dk_at dksX8_byDivisors_6 7 rfl rfl)
theorem dX8_byDivisors_149 : decode cX8_byDivisors 149 = .ok (.iconst 0, 1) := dk_3 (dk_at dksX8_byDivisors_6 10 rfl rfl)
theorem dX8_byDivisors_150 : decode cX8_byDivisors 150 = .ok (.istore_n 3, 1) := dk_62 (dk_at dksX8_byDivisors_6 11 rfl rfl)
theorem dX8_byDivisors_151 : decode cX8_byDivisors 151 = .ok (.iload_n 3, 1) := dk_29 (dk_at dksX8_byDivisors_6 12 rfl rfl)
theorem dX8_byDivisors_152 : decode cX8_byDivisors 152 = .ok (.ifCond .eq 14, 3) := dk_153 0 14 (dk_at dksX8_byDivisors_6 13 rfl rfl)
theorem dX8_byDivisors_155 : decode cX8_byDivisors 155 = .ok (.aload_n 0, 1) := dk_42 (dk_at dksX8_byDivisors_6 16 rfl rfl)
theorem dX8_byDivisors_156 : decode cX8_byDivisors 156 = .ok (.getfield 113, 3) := dk_180 0 113 (dk_at dksX8_byDivisors_6 17 rfl rfl)
theorem dX8_byDivisors_159 : decode cX8_byDivisors 159 = .ok (.iload 5, 2) := dk_21 5 (dk_at dksX8_byDivisors_6 20 rfl rfl)
theorem dX8_byDivisors_161 : decode cX8_byDivisors 161 = .ok (.dup2, 1) := dk_92 (dk_at dksX8_byDivisors_6 22 rfl rfl)
theorem dX8_byDivisors_162 : decode cX8_byDivisors 162 = .ok (.iaload, 1) := dk_46 (dk_at dksX8_byDivisors_6 23 rfl rfl)
theorem dX8_byDivisors_163 : decode cX8_byDivisors 163 = .ok (.iconst 1, 1) := dk_4 (dk_at dksX8_byDivisors_7 0 rfl rfl)
theorem dX8_byDivisors_164 : decode cX8_byDivisors 164 = .ok (.iadd, 1) := dk_96 (dk_at dksX8_byDivisors_7 1 rfl rfl)
theorem dX8_byDivisors_165 : decode cX8_byDivisors 165 = .ok (.iastore, 1) := dk_79 (dk_at dksX8_byDivisors_7 2 rfl rfl)
theorem dX8_byDivisors_166 : decode cX8_byDivisors 166 = .ok (.iinc 4 1, 3) := dk_132 4 1 (dk_at dksX8_byDivisors_7 3 rfl rfl)
theorem dX8_byDivisors_169 : decode cX8_byDivisors 169 = .ok (.goto (-164), 3) := dk_167 255 92 (dk_at dksX8_byDivisors_7 6 rfl rfl)
theorem dX8_byDivisors_172 : decode cX8_byDivisors 172 = .ok (.return_, 1) := dk_177 (dk_at dksX8_byDivisors_7 9 rfl rfl)
abbrev cX8_divisor : ByteArray := prog_5_method_64_code
def yX8_divisor : MethodName := ⟨RX8, "divisor", "(I)I"⟩
def dkwX8_divisor_3 : List UInt8 := [16, 14, 167, 0, 10, 16, 20, 27, 104, 16, 10, 96, 172]
abbrev dktX8_divisor_3 : List UInt8 := dkwX8_divisor_3 ++ []
def dkwX8_divisor_2 : List UInt8 := [27, 4, 96, 172, 5, 27, 104, 4, 96, 172, 6, 27, 104, 4, 96, 172, 27, 5, 96, 172, 27, 154, 0, 8]
abbrev dktX8_divisor_2 : List UInt8 := dkwX8_divisor_2 ++ dktX8_divisor_3
def dkwX8_divisor_1 : List UInt8 := [170, 0, 0, 0, 49, 0, 0, 0, 0, 0, 0, 0, 3, 0, 0, 0, 29, 0, 0, 0, 33, 0, 0, 0, 39, 0, 0, 0, 45]
abbrev dktX8_divisor_1 : List UInt8 := dkwX8_divisor_1 ++ dktX8_divisor_2
def dkwX8_divisor_0 : List UInt8 := [42, 180, 0, 131, 180, 1, 21]
abbrev dktX8_divisor_0 : List UInt8 := dkwX8_divisor_0 ++ dktX8_divisor_1
theorem dksX8_divisor_0 : cX8_divisor.data.toList.drop 0 = dktX8_divisor_0 := by decide +kernel
theorem dksX8_divisor_1 : cX8_divisor.data.toList.drop 7 = dktX8_divisor_1 := dk_seg dksX8_divisor_0 7 rfl rfl
theorem dksX8_divisor_2 : cX8_divisor.data.toList.drop 36 = dktX8_divisor_2 := dk_seg dksX8_divisor_1 29 rfl rfl
theorem dksX8_divisor_3 : cX8_divisor.data.toList.drop 60 = dktX8_divisor_3 := dk_seg dksX8_divisor_2 24 rfl rfl
theorem dX8_divisor_0 : decode cX8_divisor 0 = .ok (.aload_n 0, 1) := dk_42 (dk_at dksX8_divisor_0 0 rfl rfl)
theorem dX8_divisor_1 : decode cX8_divisor 1 = .ok (.getfield 131, 3) := dk_180 0 131 (dk_at dksX8_divisor_0 1 rfl rfl)
theorem dX8_divisor_4 : decode cX8_divisor 4 = .ok (.getfield 277, 3) := dk_180 1 21 (dk_at dksX8_divisor_0 4 rfl rfl)
theorem dX8_divisor_7 : decode cX8_divisor 7 = .ok (.tableswitch 49 0 3 #[29, 33, 39, 45], 29) := by decide +kernel
theorem dX8_divisor_36 : decode cX8_divisor 36 = .ok (.iload_n 1, 1) := dk_27 (dk_at dksX8_divisor_2 0 rfl rfl)
theorem dX8_divisor_37 : decode cX8_divisor 37 = .ok (.iconst 1, 1) := dk_4 (dk_at dksX8_divisor_2 1 rfl rfl)
theorem dX8_divisor_38 : decode cX8_divisor 38 = .ok (.iadd, 1) := dk_96 (dk_at dksX8_divisor_2 2 rfl rfl)
theorem dX8_divisor_39 : decode cX8_divisor 39 = .ok (.ireturn, 1) := dk_172 (dk_at dksX8_divisor_2 3 rfl rfl)
theorem dX8_divisor_40 : decode cX8_divisor 40 = .ok (.iconst 2, 1) := dk_5 (dk_at dksX8_divisor_2 4 rfl rfl)
theorem dX8_divisor_41 : decode cX8_divisor 41 = .ok (.iload_n 1, 1) := dk_27 (dk_at dksX8_divisor_2 5 rfl rfl)
theorem dX8_divisor_42 : decode cX8_divisor 42 = .ok (.imul, 1) := dk_104 (dk_at dksX8_divisor_2 6 rfl rfl)
theorem dX8_divisor_43 : decode cX8_divisor 43 = .ok (.iconst 1, 1) := dk_4 (dk_at dksX8_divisor_2 7 rfl rfl)
theorem dX8_divisor_44 : decode cX8_divisor 44 = .ok (.iadd, 1) := dk_96 (dk_at dksX8_divisor_2 8 rfl rfl)
theorem dX8_divisor_45 : decode cX8_divisor 45 = .ok (.ireturn, 1) := dk_172 (dk_at dksX8_divisor_2 9 rfl rfl)
theorem dX8_divisor_46 : decode cX8_divisor 46 = .ok (.iconst 3, 1) := dk_6 (dk_at dksX8_divisor_2 10 rfl rfl)
theorem dX8_divisor_47 : decode cX8_divisor 47 = .ok (.iload_n 1, 1) := dk_27 (dk_at dksX8_divisor_2 11 rfl rfl)
theorem dX8_divisor_48 : decode cX8_divisor 48 = .ok (.imul, 1) := dk_104 (dk_at dksX8_divisor_2 12 rfl rfl)
theorem dX8_divisor_49 : decode cX8_divisor 49 = .ok (.iconst 1, 1) := dk_4 (dk_at dksX8_divisor_2 13 rfl rfl)
theorem dX8_divisor_50 : decode cX8_divisor 50 = .ok (.iadd, 1) := dk_96 (dk_at dksX8_divisor_2 14 rfl rfl)
theorem dX8_divisor_51 : decode cX8_divisor 51 = .ok (.ireturn, 1) := dk_172 (dk_at dksX8_divisor_2 15 rfl rfl)
theorem dX8_divisor_52 : decode cX8_divisor 52 = .ok (.iload_n 1, 1) := dk_27 (dk_at dksX8_divisor_2 16 rfl rfl)
theorem dX8_divisor_53 : decode cX8_divisor 53 = .ok (.iconst 2, 1) := dk_5 (dk_at dksX8_divisor_2 17 rfl rfl)
theorem dX8_divisor_54 : decode cX8_divisor 54 = .ok (.iadd, 1) := dk_96 (dk_at dksX8_divisor_2 18 rfl rfl)
theorem dX8_divisor_55 : decode cX8_divisor 55 = .ok (.ireturn, 1) := dk_172 (dk_at dksX8_divisor_2 19 rfl rfl)
theorem dX8_divisor_56 : decode cX8_divisor 56 = .ok (.iload_n 1, 1) := dk_27 (dk_at dksX8_divisor_2 20 rfl rfl)
theorem dX8_divisor_57 : decode cX8_divisor 57 = .ok (.ifCond .ne 8, 3) := dk_154 0 8 (dk_at dksX8_divisor_2 21 rfl rfl)
theorem dX8_divisor_60 : decode cX8_divisor 60 = .ok (.bipush 14, 2) := dk_16 14 (dk_at dksX8_divisor_3 0 rfl rfl)
theorem dX8_divisor_62 : decode cX8_divisor 62 = .ok (.goto 10, 3) := dk_167 0 10 (dk_at dksX8_divisor_3 2 rfl rfl)
theorem dX8_divisor_65 : decode cX8_divisor 65 = .ok (.bipush 20, 2) := dk_16 20 (dk_at dksX8_divisor_3 5 rfl rfl)
theorem dX8_divisor_67 : decode cX8_divisor 67 = .ok (.iload_n 1, 1) := dk_27 (dk_at dksX8_divisor_3 7 rfl rfl)
theorem dX8_divisor_68 : decode cX8_divisor 68 = .ok (.imul, 1) := dk_104 (dk_at dksX8_divisor_3 8 rfl rfl)
theorem dX8_divisor_69 : decode cX8_divisor 69 = .ok (.bipush 10, 2) := dk_16 10 (dk_at dksX8_divisor_3 9 rfl rfl)
theorem dX8_divisor_71 : decode cX8_divisor 71 = .ok (.iadd, 1) := dk_96 (dk_at dksX8_divisor_3 11 rfl rfl)
theorem dX8_divisor_72 : decode cX8_divisor 72 = .ok (.ireturn, 1) := dk_172 (dk_at dksX8_divisor_3 12 rfl rfl)
abbrev cX8_byQuotas : ByteArray := prog_5_method_67_code
def yX8_byQuotas : MethodName := ⟨RX8, "byQuotas", "(IZ)V"⟩
def dkwX8_byQuotas_10 : List UInt8 := [177]
abbrev dktX8_byQuotas_10 : List UInt8 := dkwX8_byQuotas_10 ++ []
def dkwX8_byQuotas_9 : List UInt8 := [182, 1, 180, 54, 4, 42, 29, 27, 100, 21, 4, 182, 1, 183, 42, 27, 29, 100, 21, 4, 28, 182, 1, 186]
abbrev dktX8_byQuotas_9 : List UInt8 := dkwX8_byQuotas_9 ++ dktX8_byQuotas_10
def dkwX8_byQuotas_8 : List UInt8 := [180, 0, 113, 21, 5, 46, 79, 29, 42, 180, 0, 113, 21, 5, 46, 96, 62, 132, 4, 1, 167, 255, 52, 42]
abbrev dktX8_byQuotas_8 : List UInt8 := dkwX8_byQuotas_8 ++ dktX8_byQuotas_9
def dkwX8_byQuotas_7 : List UInt8 := [153, 0, 23, 42, 180, 0, 113, 21, 5, 46, 42, 180, 0, 107, 21, 5, 46, 184, 1, 143, 167, 0, 10, 42]
abbrev dktX8_byQuotas_7 : List UInt8 := dkwX8_byQuotas_7 ++ dktX8_byQuotas_8
def dkwX8_byQuotas_6 : List UInt8 := [21, 8, 108, 79, 42, 180, 0, 116, 21, 5, 21, 7, 21, 8, 112, 79, 42, 180, 0, 113, 21, 5, 28]
abbrev dktX8_byQuotas_6 : List UInt8 := dkwX8_byQuotas_6 ++ dktX8_byQuotas_7
def dkwX8_byQuotas_5 : List UInt8 := [27, 4, 96, 108, 4, 96, 167, 0, 7, 42, 180, 1, 169, 54, 8, 42, 180, 0, 113, 21, 5, 21, 7]
abbrev dktX8_byQuotas_5 : List UInt8 := dkwX8_byQuotas_5 ++ dktX8_byQuotas_6
def dkwX8_byQuotas_4 : List UInt8 := [46, 27, 21, 6, 96, 104, 54, 7, 42, 180, 0, 131, 180, 1, 21, 16, 6, 160, 0, 16, 42, 180, 1, 169]
abbrev dktX8_byQuotas_4 : List UInt8 := dkwX8_byQuotas_4 ++ dktX8_byQuotas_5
def dkwX8_byQuotas_3 : List UInt8 := [180, 1, 21, 16, 6, 160, 0, 13, 42, 180, 0, 104, 21, 5, 46, 167, 0, 15, 42, 180, 0, 104, 21, 5]
abbrev dktX8_byQuotas_3 : List UInt8 := dkwX8_byQuotas_3 ++ dktX8_byQuotas_4
def dkwX8_byQuotas_2 : List UInt8 := [42, 180, 0, 131, 180, 1, 21, 16, 7, 160, 0, 7, 4, 167, 0, 4, 5, 54, 6, 42, 180, 0, 131]
abbrev dktX8_byQuotas_2 : List UInt8 := dkwX8_byQuotas_2 ++ dktX8_byQuotas_3
def dkwX8_byQuotas_1 : List UInt8 := [180, 0, 110, 21, 5, 51, 153, 0, 176, 42, 180, 0, 131, 180, 1, 21, 8, 160, 0, 7, 3, 167, 0, 20]
abbrev dktX8_byQuotas_1 : List UInt8 := dkwX8_byQuotas_1 ++ dktX8_byQuotas_2
def dkwX8_byQuotas_0 : List UInt8 := [3, 62, 3, 54, 4, 21, 4, 42, 180, 1, 160, 162, 0, 201, 42, 180, 0, 101, 21, 4, 46, 54, 5, 42]
abbrev dktX8_byQuotas_0 : List UInt8 := dkwX8_byQuotas_0 ++ dktX8_byQuotas_1
theorem dksX8_byQuotas_0 : cX8_byQuotas.data.toList.drop 0 = dktX8_byQuotas_0 := by decide +kernel
theorem dksX8_byQuotas_1 : cX8_byQuotas.data.toList.drop 24 = dktX8_byQuotas_1 := dk_seg dksX8_byQuotas_0 24 rfl rfl
theorem dksX8_byQuotas_2 : cX8_byQuotas.data.toList.drop 48 = dktX8_byQuotas_2 := dk_seg dksX8_byQuotas_1 24 rfl rfl
theorem dksX8_byQuotas_3 : cX8_byQuotas.data.toList.drop 71 = dktX8_byQuotas_3 := dk_seg dksX8_byQuotas_2 23 rfl rfl
theorem dksX8_byQuotas_4 : cX8_byQuotas.data.toList.drop 95 = dktX8_byQuotas_4 := dk_seg dksX8_byQuotas_3 24 rfl rfl
theorem dksX8_byQuotas_5 : cX8_byQuotas.data.toList.drop 119 = dktX8_byQuotas_5 := dk_seg dksX8_byQuotas_4 24 rfl rfl
theorem dksX8_byQuotas_6 : cX8_byQuotas.data.toList.drop 142 = dktX8_byQuotas_6 := dk_seg dksX8_byQuotas_5 23 rfl rfl
theorem dksX8_byQuotas_7 : cX8_byQuotas.data.toList.drop 165 = dktX8_byQuotas_7 := dk_seg dksX8_byQuotas_6 23 rfl rfl
theorem dksX8_byQuotas_8 : cX8_byQuotas.data.toList.drop 189 = dktX8_byQuotas_8 := dk_seg dksX8_byQuotas_7 24 rfl rfl
theorem dksX8_byQuotas_9 : cX8_byQuotas.data.toList.drop 213 = dktX8_byQuotas_9 := dk_seg dksX8_byQuotas_8 24 rfl rfl
theorem dksX8_byQuotas_10 : cX8_byQuotas.data.toList.drop 237 = dktX8_byQuotas_10 := dk_seg dksX8_byQuotas_9 24 rfl rfl
theorem dX8_byQuotas_0 : decode cX8_byQuotas 0 = .ok (.iconst 0, 1) := dk_3 (dk_at dksX8_byQuotas_0 0 rfl rfl)
theorem dX8_byQuotas_1 : decode cX8_byQuotas 1 = .ok (.istore_n 3, 1) := dk_62 (dk_at dksX8_byQuotas_0 1 rfl rfl)
theorem dX8_byQuotas_2 : decode cX8_byQuotas 2 = .ok (.iconst 0, 1) := dk_3 (dk_at dksX8_byQuotas_0 2 rfl rfl)
theorem dX8_byQuotas_3 : decode cX8_byQuotas 3 = .ok (.istore 4, 2) := dk_54 4 (dk_at dksX8_byQuotas_0 3 rfl rfl)
theorem dX8_byQuotas_5 : decode cX8_byQuotas 5 = .ok (.iload 4, 2) := dk_21 4 (dk_at dksX8_byQuotas_0 5 rfl rfl)
theorem dX8_byQuotas_7 : decode cX8_byQuotas 7 = .ok (.aload_n 0, 1) := dk_42 (dk_at dksX8_byQuotas_0 7 rfl rfl)
theorem dX8_byQuotas_8 : decode cX8_byQuotas 8 = .ok (.getfield 416, 3) := dk_180 1 160 (dk_at dksX8_byQuotas_0 8 rfl rfl)
theorem dX8_byQuotas_11 : decode cX8_byQuotas 11 = .ok (.if_icmp .ge 201, 3) := dk_162 0 201 (dk_at dksX8_byQuotas_0 11 rfl rfl)
theorem dX8_byQuotas_14 : decode cX8_byQuotas 14 = .ok (.aload_n 0, 1) := dk_42 (dk_at dksX8_byQuotas_0 14 rfl rfl)
theorem dX8_byQuotas_15 : decode cX8_byQuotas 15 = .ok (.getfield 101, 3) := dk_180 0 101 (dk_at dksX8_byQuotas_0 15 rfl rfl)
theorem dX8_byQuotas_18 : decode cX8_byQuotas 18 = .ok (.iload 4, 2) := dk_21 4 (dk_at dksX8_byQuotas_0 18 rfl rfl)
theorem dX8_byQuotas_20 : decode cX8_byQuotas 20 = .ok (.iaload, 1) := dk_46 (dk_at dksX8_byQuotas_0 20 rfl rfl)
theorem dX8_byQuotas_21 : decode cX8_byQuotas 21 = .ok (.istore 5, 2) := dk_54 5 (dk_at dksX8_byQuotas_0 21 rfl rfl)
theorem dX8_byQuotas_23 : decode cX8_byQuotas 23 = .ok (.aload_n 0, 1) := dk_42 (dk_at dksX8_byQuotas_0 23 rfl rfl)
theorem dX8_byQuotas_24 : decode cX8_byQuotas 24 = .ok (.getfield 110, 3) := dk_180 0 110 (dk_at dksX8_byQuotas_1 0 rfl rfl)
theorem dX8_byQuotas_27 : decode cX8_byQuotas 27 = .ok (.iload 5, 2) := dk_21 5 (dk_at dksX8_byQuotas_1 3 rfl rfl)
theorem dX8_byQuotas_29 : decode cX8_byQuotas 29 = .ok (.baload, 1) := dk_51 (dk_at dksX8_byQuotas_1 5 rfl rfl)
theorem dX8_byQuotas_30 : decode cX8_byQuotas 30 = .ok (.ifCond .eq 176, 3) := dk_153 0 176 (dk_at dksX8_byQuotas_1 6 rfl rfl)
theorem dX8_byQuotas_33 : decode cX8_byQuotas 33 = .ok (.aload_n 0, 1) := dk_42 (dk_at dksX8_byQuotas_1 9 rfl rfl)
theorem dX8_byQuotas_34 : decode cX8_byQuotas 34 = .ok (.getfield 131, 3) := dk_180 0 131 (dk_at dksX8_byQuotas_1 10 rfl rfl)
theorem dX8_byQuotas_37 : decode cX8_byQuotas 37 = .ok (.getfield 277, 3) := dk_180 1 21 (dk_at dksX8_byQuotas_1 13 rfl rfl)
theorem dX8_byQuotas_40 : decode cX8_byQuotas 40 = .ok (.iconst 5, 1) := dk_8 (dk_at dksX8_byQuotas_1 16 rfl rfl)
theorem dX8_byQuotas_41 : decode cX8_byQuotas 41 = .ok (.if_icmp .ne 7, 3) := dk_160 0 7 (dk_at dksX8_byQuotas_1 17 rfl rfl)
theorem dX8_byQuotas_44 : decode cX8_byQuotas 44 = .ok (.iconst 0, 1) := dk_3 (dk_at dksX8_byQuotas_1 20 rfl rfl)
theorem dX8_byQuotas_45 : decode cX8_byQuotas 45 = .ok (.goto 20, 3) := dk_167 0 20 (dk_at dksX8_byQuotas_1 21 rfl rfl)
theorem dX8_byQuotas_48 : decode cX8_byQuotas 48 = .ok (.aload_n 0, 1) := dk_42 (dk_at dksX8_byQuotas_2 0 rfl rfl)
theorem dX8_byQuotas_49 : decode cX8_byQuotas 49 = .ok (.getfield 131, 3) := dk_180 0 131 (dk_at dksX8_byQuotas_2 1 rfl rfl)
theorem dX8_byQuotas_52 : decode cX8_byQuotas 52 = .ok (.getfield 277, 3) := dk_180 1 21 (dk_at dksX8_byQuotas_2 4 rfl rfl)
theorem dX8_byQuotas_55 : decode cX8_byQuotas 55 = .ok (.bipush 7, 2) := dk_16 7 (dk_at dksX8_byQuotas_2 7 rfl rfl)
theorem dX8_byQuotas_57 : decode cX8_byQuotas 57 = .ok (.if_icmp .ne 7, 3) := dk_160 0 7 (dk_at dksX8_byQuotas_2 9 rfl rfl)
theorem dX8_byQuotas_60 : decode cX8_byQuotas 60 = .ok (.iconst 1, 1) := dk_4 (dk_at dksX8_byQuotas_2 12 rfl rfl)
theorem dX8_byQuotas_61 : decode cX8_byQuotas 61 = .ok (.goto 4, 3) := dk_167 0 4 (dk_at dksX8_byQuotas_2 13 rfl rfl)
theorem dX8_byQuotas_64 : decode cX8_byQuotas 64 = .ok (.iconst 2, 1) := dk_5 (dk_at dksX8_byQuotas_2 16 rfl rfl)
theorem dX8_byQuotas_65 : decode cX8_byQuotas 65 = .ok (.istore 6, 2) := dk_54 6 (dk_at dksX8_byQuotas_2 17 rfl rfl)
theorem dX8_byQuotas_67 : decode cX8_byQuotas 67 = .ok (.aload_n 0, 1) := dk_42 (dk_at dksX8_byQuotas_2 19 rfl rfl)
theorem dX8_byQuotas_68 : decode cX8_byQuotas 68 = .ok (.getfield 131, 3) := dk_180 0 131 (dk_at dksX8_byQuotas_2 20 rfl rfl)
theorem dX8_byQuotas_71 : decode cX8_byQuotas 71 = .ok (.getfield 277, 3) := dk_180 1 21 (dk_at dksX8_byQuotas_3 0 rfl rfl)
theorem dX8_byQuotas_74 : decode cX8_byQuotas 74 = .ok (.bipush 6, 2) := dk_16 6 (dk_at dksX8_byQuotas_3 3 rfl rfl)
theorem dX8_byQuotas_76 : decode cX8_byQuotas 76 = .ok (.if_icmp .ne 13, 3) := dk_160 0 13 (dk_at dksX8_byQuotas_3 5 rfl rfl)
theorem dX8_byQuotas_79 : decode cX8_byQuotas 79 = .ok (.aload_n 0, 1) := dk_42 (dk_at dksX8_byQuotas_3 8 rfl rfl)
theorem dX8_byQuotas_80 : decode cX8_byQuotas 80 = .ok (.getfield 104, 3) := dk_180 0 104 (dk_at dksX8_byQuotas_3 9 rfl rfl)
theorem dX8_byQuotas_83 : decode cX8_byQuotas 83 = .ok (.iload 5, 2) := dk_21 5 (dk_at dksX8_byQuotas_3 12 rfl rfl)
theorem dX8_byQuotas_85 : decode cX8_byQuotas 85 = .ok (.iaload, 1) := dk_46 (dk_at dksX8_byQuotas_3 14 rfl rfl)
theorem dX8_byQuotas_86 : decode cX8_byQuotas 86 = .ok (.goto 15, 3) := dk_167 0 15 (dk_at dksX8_byQuotas_3 15 rfl rfl)
theorem dX8_byQuotas_89 : decode cX8_byQuotas 89 = .ok (.aload_n 0, 1) := dk_42 (dk_at dksX8_byQuotas_3 18 rfl rfl)
theorem dX8_byQuotas_90 : decode cX8_byQuotas 90 = .ok (.getfield 104, 3) := dk_180 0 104 (dk_at dksX8_byQuotas_3 19 rfl rfl)
theorem dX8_byQuotas_93 : decode cX8_byQuotas 93 = .ok (.iload 5, 2) := dk_21 5 (dk_at dksX8_byQuotas_3 22 rfl rfl)
theorem dX8_byQuotas_95 : decode cX8_byQuotas 95 = .ok (.iaload, 1) := dk_46 (dk_at dksX8_byQuotas_4 0 rfl rfl)
theorem dX8_byQuotas_96 : decode cX8_byQuotas 96 = .ok (.iload_n 1, 1) := dk_27 (dk_at dksX8_byQuotas_4 1 rfl rfl)
theorem dX8_byQuotas_97 : decode cX8_byQuotas 97 = .ok (.iload 6, 2) := dk_21 6 (dk_at dksX8_byQuotas_4 2 rfl rfl)
theorem dX8_byQuotas_99 : decode cX8_byQuotas 99 = .ok (.iadd, 1) := dk_96 (dk_at dksX8_byQuotas_4 4 rfl rfl)
theorem dX8_byQuotas_100 : decode cX8_byQuotas 100 = .ok (.imul, 1) := dk_104 (dk_at dksX8_byQuotas_4 5 rfl rfl)
theorem dX8_byQuotas_101 : decode cX8_byQuotas 101 = .ok (.istore 7, 2) := dk_54 7 (dk_at dksX8_byQuotas_4 6 rfl rfl)
theorem dX8_byQuotas_103 : decode cX8_byQuotas 103 = .ok (.aload_n 0, 1) := dk_42 (dk_at dksX8_byQuotas_4 8 rfl rfl)
theorem dX8_byQuotas_104 : decode cX8_byQuotas 104 = .ok (.getfield 131, 3) := dk_180 0 131 (dk_at dksX8_byQuotas_4 9 rfl rfl)
theorem dX8_byQuotas_107 : decode cX8_byQuotas 107 = .ok (.getfield 277, 3) := dk_180 1 21 (dk_at dksX8_byQuotas_4 12 rfl rfl)
theorem dX8_byQuotas_110 : decode cX8_byQuotas 110 = .ok (.bipush 6, 2) := dk_16 6 (dk_at dksX8_byQuotas_4 15 rfl rfl)
theorem dX8_byQuotas_112 : decode cX8_byQuotas 112 = .ok (.if_icmp .ne 16, 3) := dk_160 0 16 (dk_at dksX8_byQuotas_4 17 rfl rfl)
theorem dX8_byQuotas_115 : decode cX8_byQuotas 115 = .ok (.aload_n 0, 1) := dk_42 (dk_at dksX8_byQuotas_4 20 rfl rfl)
theorem dX8_byQuotas_116 : decode cX8_byQuotas 116 = .ok (.getfield 425, 3) := dk_180 1 169 (dk_at dksX8_byQuotas_4 21 rfl rfl)
theorem dX8_byQuotas_119 : decode cX8_byQuotas 119 = .ok (.iload_n 1, 1) := dk_27 (dk_at dksX8_byQuotas_5 0 rfl rfl)
theorem dX8_byQuotas_120 : decode cX8_byQuotas 120 = .ok (.iconst 1, 1) := dk_4 (dk_at dksX8_byQuotas_5 1 rfl rfl)
theorem dX8_byQuotas_121 : decode cX8_byQuotas 121 = .ok (.iadd, 1) := dk_96 (dk_at dksX8_byQuotas_5 2 rfl rfl)
theorem dX8_byQuotas_122 : decode cX8_byQuotas 122 = .ok (.idiv, 1) := dk_108 (dk_at dksX8_byQuotas_5 3 rfl rfl)
theorem dX8_byQuotas_123 : decode cX8_byQuotas 123 = .ok (.iconst 1, 1) := dk_4 (dk_at dksX8_byQuotas_5 4 rfl rfl)
theorem dX8_byQuotas_124 : decode cX8_byQuotas 124 = .ok (.iadd, 1) := dk_96 (dk_at dksX8_byQuotas_5 5 rfl rfl)
theorem dX8_byQuotas_125 : decode cX8_byQuotas 125 = .ok (.goto 7, 3) := dk_167 0 7 (dk_at dksX8_byQuotas_5 6 rfl rfl)
theorem dX8_byQuotas_128 : decode cX8_byQuotas 128 = .ok (.aload_n 0, 1) := dk_42 (dk_at dksX8_byQuotas_5 9 rfl rfl)
theorem dX8_byQuotas_129 : decode cX8_byQuotas 129 = .ok (.getfield 425, 3) := dk_180 1 169 (dk_at dksX8_byQuotas_5 10 rfl rfl)
theorem dX8_byQuotas_132 : decode cX8_byQuotas 132 = .ok (.istore 8, 2) := dk_54 8 (dk_at dksX8_byQuotas_5 13 rfl rfl)
theorem dX8_byQuotas_134 : decode cX8_byQuotas 134 = .ok (.aload_n 0, 1) := dk_42 (dk_at dksX8_byQuotas_5 15 rfl rfl)
theorem dX8_byQuotas_135 : decode cX8_byQuotas 135 = .ok (.getfield 113, 3) := dk_180 0 113 (dk_at dksX8_byQuotas_5 16 rfl rfl)
theorem dX8_byQuotas_138 : decode cX8_byQuotas 138 = .ok (.iload 5, 2) := dk_21 5 (dk_at dksX8_byQuotas_5 19 rfl rfl)
theorem dX8_byQuotas_140 : decode cX8_byQuotas 140 = .ok (.iload 7, 2) := dk_21 7 (dk_at dksX8_byQuotas_5 21 rfl rfl)
theorem dX8_byQuotas_142 : decode cX8_byQuotas 142 = .ok (.iload 8, 2) := dk_21 8 (dk_at dksX8_byQuotas_6 0 rfl rfl)
theorem dX8_byQuotas_144 : decode cX8_byQuotas 144 = .ok (.idiv, 1) := dk_108 (dk_at dksX8_byQuotas_6 2 rfl rfl)
theorem dX8_byQuotas_145 : decode cX8_byQuotas 145 = .ok (.iastore, 1) := dk_79 (dk_at dksX8_byQuotas_6 3 rfl rfl)
theorem dX8_byQuotas_146 : decode cX8_byQuotas 146 = .ok (.aload_n 0, 1) := dk_42 (dk_at dksX8_byQuotas_6 4 rfl rfl)
theorem dX8_byQuotas_147 : decode cX8_byQuotas 147 = .ok (.getfield 116, 3) := dk_180 0 116 (dk_at dksX8_byQuotas_6 5 rfl rfl)
theorem dX8_byQuotas_150 : decode cX8_byQuotas 150 = .ok (.iload 5, 2) := dk_21 5 (dk_at dksX8_byQuotas_6 8 rfl rfl)
theorem dX8_byQuotas_152 : decode cX8_byQuotas 152 = .ok (.iload 7, 2) := dk_21 7 (dk_at dksX8_byQuotas_6 10 rfl rfl)
theorem dX8_byQuotas_154 : decode cX8_byQuotas 154 = .ok (.iload 8, 2) := dk_21 8 (dk_at dksX8_byQuotas_6 12 rfl rfl)
theorem dX8_byQuotas_156 : decode cX8_byQuotas 156 = .ok (.irem, 1) := dk_112 (dk_at dksX8_byQuotas_6 14 rfl rfl)
theorem dX8_byQuotas_157 : decode cX8_byQuotas 157 = .ok (.iastore, 1) := dk_79 (dk_at dksX8_byQuotas_6 15 rfl rfl)
theorem dX8_byQuotas_158 : decode cX8_byQuotas 158 = .ok (.aload_n 0, 1) := dk_42 (dk_at dksX8_byQuotas_6 16 rfl rfl)
theorem dX8_byQuotas_159 : decode cX8_byQuotas 159 = .ok (.getfield 113, 3) := dk_180 0 113 (dk_at dksX8_byQuotas_6 17 rfl rfl)
theorem dX8_byQuotas_162 : decode cX8_byQuotas 162 = .ok (.iload 5, 2) := dk_21 5 (dk_at dksX8_byQuotas_6 20 rfl rfl)
theorem dX8_byQuotas_164 : decode cX8_byQuotas 164 = .ok (.iload_n 2, 1) := dk_28 (dk_at dksX8_byQuotas_6 22 rfl rfl)
theorem dX8_byQuotas_165 : decode cX8_byQuotas 165 = .ok (.ifCond .eq 23, 3) := dk_153 0 23 (dk_at dksX8_byQuotas_7 0 rfl rfl)
theorem dX8_byQuotas_168 : decode cX8_byQuotas 168 = .ok (.aload_n 0, 1) := dk_42 (dk_at dksX8_byQuotas_7 3 rfl rfl)
theorem dX8_byQuotas_169 : decode cX8_byQuotas 169 = .ok (.getfield 113, 3) := dk_180 0 113 (dk_at dksX8_byQuotas_7 4 rfl rfl)
theorem dX8_byQuotas_172 : decode cX8_byQuotas 172 = .ok (.iload 5, 2) := dk_21 5 (dk_at dksX8_byQuotas_7 7 rfl rfl)
theorem dX8_byQuotas_174 : decode cX8_byQuotas 174 = .ok (.iaload, 1) := dk_46 (dk_at dksX8_byQuotas_7 9 rfl rfl)
theorem dX8_byQuotas_175 : decode cX8_byQuotas 175 = .ok (.aload_n 0, 1) := dk_42 (dk_at dksX8_byQuotas_7 10 rfl rfl)
theorem dX8_byQuotas_176 : decode cX8_byQuotas 176 = .ok (.getfield 107, 3) := dk_180 0 107 (dk_at dksX8_byQuotas_7 11 rfl rfl)
theorem dX8_byQuotas_179 : decode cX8_byQuotas 179 = .ok (.iload 5, 2) := dk_21 5 (dk_at dksX8_byQuotas_7 14 rfl rfl)
theorem dX8_byQuotas_181 : decode cX8_byQuotas 181 = .ok (.iaload, 1) := dk_46 (dk_at dksX8_byQuotas_7 16 rfl rfl)
theorem dX8_byQuotas_182 : decode cX8_byQuotas 182 = .ok (.invokestatic 399, 3) := dk_184 1 143 (dk_at dksX8_byQuotas_7 17 rfl rfl)
theorem dX8_byQuotas_185 : decode cX8_byQuotas 185 = .ok (.goto 10, 3) := dk_167 0 10 (dk_at dksX8_byQuotas_7 20 rfl rfl)
theorem dX8_byQuotas_188 : decode cX8_byQuotas 188 = .ok (.aload_n 0, 1) := dk_42 (dk_at dksX8_byQuotas_7 23 rfl rfl)
theorem dX8_byQuotas_189 : decode cX8_byQuotas 189 = .ok (.getfield 113, 3) := dk_180 0 113 (dk_at dksX8_byQuotas_8 0 rfl rfl)
theorem dX8_byQuotas_192 : decode cX8_byQuotas 192 = .ok (.iload 5, 2) := dk_21 5 (dk_at dksX8_byQuotas_8 3 rfl rfl)
theorem dX8_byQuotas_194 : decode cX8_byQuotas 194 = .ok (.iaload, 1) := dk_46 (dk_at dksX8_byQuotas_8 5 rfl rfl)
theorem dX8_byQuotas_195 : decode cX8_byQuotas 195 = .ok (.iastore, 1) := dk_79 (dk_at dksX8_byQuotas_8 6 rfl rfl)
theorem dX8_byQuotas_196 : decode cX8_byQuotas 196 = .ok (.iload_n 3, 1) := dk_29 (dk_at dksX8_byQuotas_8 7 rfl rfl)
theorem dX8_byQuotas_197 : decode cX8_byQuotas 197 = .ok (.aload_n 0, 1) := dk_42 (dk_at dksX8_byQuotas_8 8 rfl rfl)
theorem dX8_byQuotas_198 : decode cX8_byQuotas 198 = .ok (.getfield 113, 3) := dk_180 0 113 (dk_at dksX8_byQuotas_8 9 rfl rfl)
theorem dX8_byQuotas_201 : decode cX8_byQuotas 201 = .ok (.iload 5, 2) := dk_21 5 (dk_at dksX8_byQuotas_8 12 rfl rfl)
theorem dX8_byQuotas_203 : decode cX8_byQuotas 203 = .ok (.iaload, 1) := dk_46 (dk_at dksX8_byQuotas_8 14 rfl rfl)
theorem dX8_byQuotas_204 : decode cX8_byQuotas 204 = .ok (.iadd, 1) := dk_96 (dk_at dksX8_byQuotas_8 15 rfl rfl)
theorem dX8_byQuotas_205 : decode cX8_byQuotas 205 = .ok (.istore_n 3, 1) := dk_62 (dk_at dksX8_byQuotas_8 16 rfl rfl)
theorem dX8_byQuotas_206 : decode cX8_byQuotas 206 = .ok (.iinc 4 1, 3) := dk_132 4 1 (dk_at dksX8_byQuotas_8 17 rfl rfl)
theorem dX8_byQuotas_209 : decode cX8_byQuotas 209 = .ok (.goto (-204), 3) := dk_167 255 52 (dk_at dksX8_byQuotas_8 20 rfl rfl)
theorem dX8_byQuotas_212 : decode cX8_byQuotas 212 = .ok (.aload_n 0, 1) := dk_42 (dk_at dksX8_byQuotas_8 23 rfl rfl)
theorem dX8_byQuotas_213 : decode cX8_byQuotas 213 = .ok (.invokevirtual 436, 3) := dk_182 1 180 (dk_at dksX8_byQuotas_9 0 rfl rfl)
theorem dX8_byQuotas_216 : decode cX8_byQuotas 216 = .ok (.istore 4, 2) := dk_54 4 (dk_at dksX8_byQuotas_9 3 rfl rfl)
theorem dX8_byQuotas_218 : decode cX8_byQuotas 218 = .ok (.aload_n 0, 1) := dk_42 (dk_at dksX8_byQuotas_9 5 rfl rfl)
theorem dX8_byQuotas_219 : decode cX8_byQuotas 219 = .ok (.iload_n 3, 1) := dk_29 (dk_at dksX8_byQuotas_9 6 rfl rfl)
theorem dX8_byQuotas_220 : decode cX8_byQuotas 220 = .ok (.iload_n 1, 1) := dk_27 (dk_at dksX8_byQuotas_9 7 rfl rfl)
theorem dX8_byQuotas_221 : decode cX8_byQuotas 221 = .ok (.isub, 1) := dk_100 (dk_at dksX8_byQuotas_9 8 rfl rfl)
theorem dX8_byQuotas_222 : decode cX8_byQuotas 222 = .ok (.iload 4, 2) := dk_21 4 (dk_at dksX8_byQuotas_9 9 rfl rfl)
theorem dX8_byQuotas_224 : decode cX8_byQuotas 224 = .ok (.invokevirtual 439, 3) := dk_182 1 183 (dk_at dksX8_byQuotas_9 11 rfl rfl)
theorem dX8_byQuotas_227 : decode cX8_byQuotas 227 = .ok (.aload_n 0, 1) := dk_42 (dk_at dksX8_byQuotas_9 14 rfl rfl)
theorem dX8_byQuotas_228 : decode cX8_byQuotas 228 = .ok (.iload_n 1, 1) := dk_27 (dk_at dksX8_byQuotas_9 15 rfl rfl)
theorem dX8_byQuotas_229 : decode cX8_byQuotas 229 = .ok (.iload_n 3, 1) := dk_29 (dk_at dksX8_byQuotas_9 16 rfl rfl)
theorem dX8_byQuotas_230 : decode cX8_byQuotas 230 = .ok (.isub, 1) := dk_100 (dk_at dksX8_byQuotas_9 17 rfl rfl)
theorem dX8_byQuotas_231 : decode cX8_byQuotas 231 = .ok (.iload 4, 2) := dk_21 4 (dk_at dksX8_byQuotas_9 18 rfl rfl)
theorem dX8_byQuotas_233 : decode cX8_byQuotas 233 = .ok (.iload_n 2, 1) := dk_28 (dk_at dksX8_byQuotas_9 20 rfl rfl)
theorem dX8_byQuotas_234 : decode cX8_byQuotas 234 = .ok (.invokevirtual 442, 3) := dk_182 1 186 (dk_at dksX8_byQuotas_9 21 rfl rfl)
theorem dX8_byQuotas_237 : decode cX8_byQuotas 237 = .ok (.return_, 1) := dk_177 (dk_at dksX8_byQuotas_10 0 rfl rfl)
abbrev cX8_sortRemainders : ByteArray := prog_5_method_66_code
def yX8_sortRemainders : MethodName := ⟨RX8, "sortRemainders", "()I"⟩
def dkwX8_sortRemainders_4 : List UInt8 := [167, 255, 165, 27, 172]
abbrev dktX8_sortRemainders_4 : List UInt8 := dkwX8_sortRemainders_4 ++ []
def dkwX8_sortRemainders_3 : List UInt8 := [4, 100, 46, 79, 132, 4, 255, 167, 255, 209, 42, 180, 0, 119, 21, 4, 29, 79, 132, 1, 1, 132, 2, 1]
abbrev dktX8_sortRemainders_3 : List UInt8 := dkwX8_sortRemainders_3 ++ dktX8_sortRemainders_4
def dkwX8_sortRemainders_2 : List UInt8 := [180, 0, 119, 21, 4, 4, 100, 46, 46, 164, 0, 25, 42, 180, 0, 119, 21, 4, 42, 180, 0, 119, 21, 4]
abbrev dktX8_sortRemainders_2 : List UInt8 := dkwX8_sortRemainders_2 ++ dktX8_sortRemainders_3
def dkwX8_sortRemainders_1 : List UInt8 := [51, 153, 0, 67, 27, 54, 4, 21, 4, 158, 0, 48, 42, 180, 0, 116, 29, 46, 42, 180, 0, 116, 42]
abbrev dktX8_sortRemainders_1 : List UInt8 := dkwX8_sortRemainders_1 ++ dktX8_sortRemainders_2
def dkwX8_sortRemainders_0 : List UInt8 := [3, 60, 3, 61, 28, 42, 180, 1, 160, 162, 0, 89, 42, 180, 0, 101, 28, 46, 62, 42, 180, 0, 110, 29]
abbrev dktX8_sortRemainders_0 : List UInt8 := dkwX8_sortRemainders_0 ++ dktX8_sortRemainders_1
theorem dksX8_sortRemainders_0 : cX8_sortRemainders.data.toList.drop 0 = dktX8_sortRemainders_0 := by decide +kernel
theorem dksX8_sortRemainders_1 : cX8_sortRemainders.data.toList.drop 24 = dktX8_sortRemainders_1 := dk_seg dksX8_sortRemainders_0 24 rfl rfl
theorem dksX8_sortRemainders_2 : cX8_sortRemainders.data.toList.drop 47 = dktX8_sortRemainders_2 := dk_seg dksX8_sortRemainders_1 23 rfl rfl
theorem dksX8_sortRemainders_3 : cX8_sortRemainders.data.toList.drop 71 = dktX8_sortRemainders_3 := dk_seg dksX8_sortRemainders_2 24 rfl rfl
theorem dksX8_sortRemainders_4 : cX8_sortRemainders.data.toList.drop 95 = dktX8_sortRemainders_4 := dk_seg dksX8_sortRemainders_3 24 rfl rfl
theorem dX8_sortRemainders_0 : decode cX8_sortRemainders 0 = .ok (.iconst 0, 1) := dk_3 (dk_at dksX8_sortRemainders_0 0 rfl rfl)
theorem dX8_sortRemainders_1 : decode cX8_sortRemainders 1 = .ok (.istore_n 1, 1) := dk_60 (dk_at dksX8_sortRemainders_0 1 rfl rfl)
theorem dX8_sortRemainders_2 : decode cX8_sortRemainders 2 = .ok (.iconst 0, 1) := dk_3 (dk_at dksX8_sortRemainders_0 2 rfl rfl)
theorem dX8_sortRemainders_3 : decode cX8_sortRemainders 3 = .ok (.istore_n 2, 1) := dk_61 (dk_at dksX8_sortRemainders_0 3 rfl rfl)
theorem dX8_sortRemainders_4 : decode cX8_sortRemainders 4 = .ok (.iload_n 2, 1) := dk_28 (dk_at dksX8_sortRemainders_0 4 rfl rfl)
theorem dX8_sortRemainders_5 : decode cX8_sortRemainders 5 = .ok (.aload_n 0, 1) := dk_42 (dk_at dksX8_sortRemainders_0 5 rfl rfl)
theorem dX8_sortRemainders_6 : decode cX8_sortRemainders 6 = .ok (.getfield 416, 3) := dk_180 1 160 (dk_at dksX8_sortRemainders_0 6 rfl rfl)
theorem dX8_sortRemainders_9 : decode cX8_sortRemainders 9 = .ok (.if_icmp .ge 89, 3) := dk_162 0 89 (dk_at dksX8_sortRemainders_0 9 rfl rfl)
theorem dX8_sortRemainders_12 : decode cX8_sortRemainders 12 = .ok (.aload_n 0, 1) := dk_42 (dk_at dksX8_sortRemainders_0 12 rfl rfl)
theorem dX8_sortRemainders_13 : decode cX8_sortRemainders 13 = .ok (.getfield 101, 3) := dk_180 0 101 (dk_at dksX8_sortRemainders_0 13 rfl rfl)
theorem dX8_sortRemainders_16 : decode cX8_sortRemainders 16 = .ok (.iload_n 2, 1) := dk_28 (dk_at dksX8_sortRemainders_0 16 rfl rfl)
theorem dX8_sortRemainders_17 : decode cX8_sortRemainders 17 = .ok (.iaload, 1) := dk_46 (dk_at dksX8_sortRemainders_0 17 rfl rfl)
theorem dX8_sortRemainders_18 : decode cX8_sortRemainders 18 = .ok (.istore_n 3, 1) := dk_62 (dk_at dksX8_sortRemainders_0 18 rfl rfl)
theorem dX8_sortRemainders_19 : decode cX8_sortRemainders 19 = .ok (.aload_n 0, 1) := dk_42 (dk_at dksX8_sortRemainders_0 19 rfl rfl)
theorem dX8_sortRemainders_20 : decode cX8_sortRemainders 20 = .ok (.getfield 110, 3) := dk_180 0 110 (dk_at dksX8_sortRemainders_0 20 rfl rfl)
theorem dX8_sortRemainders_23 : decode cX8_sortRemainders 23 = .ok (.iload_n 3, 1) := dk_29 (dk_at dksX8_sortRemainders_0 23 rfl rfl)
theorem dX8_sortRemainders_24 : decode cX8_sortRemainders 24 = .ok (.baload, 1) := dk_51 (dk_at dksX8_sortRemainders_1 0 rfl rfl)
theorem dX8_sortRemainders_25 : decode cX8_sortRemainders 25 = .ok (.ifCond .eq 67, 3) := dk_153 0 67 (dk_at dksX8_sortRemainders_1 1 rfl rfl)
theorem dX8_sortRemainders_28 : decode cX8_sortRemainders 28 = .ok (.iload_n 1, 1) := dk_27 (dk_at dksX8_sortRemainders_1 4 rfl rfl)
theorem dX8_sortRemainders_29 : decode cX8_sortRemainders 29 = .ok (.istore 4, 2) := dk_54 4 (dk_at dksX8_sortRemainders_1 5 rfl rfl)
theorem dX8_sortRemainders_31 : decode cX8_sortRemainders 31 = .ok (.iload 4, 2) := dk_21 4 (dk_at dksX8_sortRemainders_1 7 rfl rfl)
theorem dX8_sortRemainders_33 : decode cX8_sortRemainders 33 = .ok (.ifCond .le 48, 3) := dk_158 0 48 (dk_at dksX8_sortRemainders_1 9 rfl rfl)
theorem dX8_sortRemainders_36 : decode cX8_sortRemainders 36 = .ok (.aload_n 0, 1) := dk_42 (dk_at dksX8_sortRemainders_1 12 rfl rfl)
theorem dX8_sortRemainders_37 : decode cX8_sortRemainders 37 = .ok (.getfield 116, 3) := dk_180 0 116 (dk_at dksX8_sortRemainders_1 13 rfl rfl)
theorem dX8_sortRemainders_40 : decode cX8_sortRemainders 40 = .ok (.iload_n 3, 1) := dk_29 (dk_at dksX8_sortRemainders_1 16 rfl rfl)
theorem dX8_sortRemainders_41 : decode cX8_sortRemainders 41 = .ok (.iaload, 1) := dk_46 (dk_at dksX8_sortRemainders_1 17 rfl rfl)
theorem dX8_sortRemainders_42 : decode cX8_sortRemainders 42 = .ok (.aload_n 0, 1) := dk_42 (dk_at dksX8_sortRemainders_1 18 rfl rfl)
theorem dX8_sortRemainders_43 : decode cX8_sortRemainders 43 = .ok (.getfield 116, 3) := dk_180 0 116 (dk_at dksX8_sortRemainders_1 19 rfl rfl)
theorem dX8_sortRemainders_46 : decode cX8_sortRemainders 46 = .ok (.aload_n 0, 1) := dk_42 (dk_at dksX8_sortRemainders_1 22 rfl rfl)
theorem dX8_sortRemainders_47 : decode cX8_sortRemainders 47 = .ok (.getfield 119, 3) := dk_180 0 119 (dk_at dksX8_sortRemainders_2 0 rfl rfl)
theorem dX8_sortRemainders_50 : decode cX8_sortRemainders 50 = .ok (.iload 4, 2) := dk_21 4 (dk_at dksX8_sortRemainders_2 3 rfl rfl)
theorem dX8_sortRemainders_52 : decode cX8_sortRemainders 52 = .ok (.iconst 1, 1) := dk_4 (dk_at dksX8_sortRemainders_2 5 rfl rfl)
theorem dX8_sortRemainders_53 : decode cX8_sortRemainders 53 = .ok (.isub, 1) := dk_100 (dk_at dksX8_sortRemainders_2 6 rfl rfl)
theorem dX8_sortRemainders_54 : decode cX8_sortRemainders 54 = .ok (.iaload, 1) := dk_46 (dk_at dksX8_sortRemainders_2 7 rfl rfl)
theorem dX8_sortRemainders_55 : decode cX8_sortRemainders 55 = .ok (.iaload, 1) := dk_46 (dk_at dksX8_sortRemainders_2 8 rfl rfl)
theorem dX8_sortRemainders_56 : decode cX8_sortRemainders 56 = .ok (.if_icmp .le 25, 3) := dk_164 0 25 (dk_at dksX8_sortRemainders_2 9 rfl rfl)
theorem dX8_sortRemainders_59 : decode cX8_sortRemainders 59 = .ok (.aload_n 0, 1) := dk_42 (dk_at dksX8_sortRemainders_2 12 rfl rfl)
theorem dX8_sortRemainders_60 : decode cX8_sortRemainders 60 = .ok (.getfield 119, 3) := dk_180 0 119 (dk_at dksX8_sortRemainders_2 13 rfl rfl)
theorem dX8_sortRemainders_63 : decode cX8_sortRemainders 63 = .ok (.iload 4, 2) := dk_21 4 (dk_at dksX8_sortRemainders_2 16 rfl rfl)
theorem dX8_sortRemainders_65 : decode cX8_sortRemainders 65 = .ok (.aload_n 0, 1) := dk_42 (dk_at dksX8_sortRemainders_2 18 rfl rfl)
theorem dX8_sortRemainders_66 : decode cX8_sortRemainders 66 = .ok (.getfield 119, 3) := dk_180 0 119 (dk_at dksX8_sortRemainders_2 19 rfl rfl)
theorem dX8_sortRemainders_69 : decode cX8_sortRemainders 69 = .ok (.iload 4, 2) := dk_21 4 (dk_at dksX8_sortRemainders_2 22 rfl rfl)
theorem dX8_sortRemainders_71 : decode cX8_sortRemainders 71 = .ok (.iconst 1, 1) := dk_4 (dk_at dksX8_sortRemainders_3 0 rfl rfl)
theorem dX8_sortRemainders_72 : decode cX8_sortRemainders 72 = .ok (.isub, 1) := dk_100 (dk_at dksX8_sortRemainders_3 1 rfl rfl)
theorem dX8_sortRemainders_73 : decode cX8_sortRemainders 73 = .ok (.iaload, 1) := dk_46 (dk_at dksX8_sortRemainders_3 2 rfl rfl)
theorem dX8_sortRemainders_74 : decode cX8_sortRemainders 74 = .ok (.iastore, 1) := dk_79 (dk_at dksX8_sortRemainders_3 3 rfl rfl)
theorem dX8_sortRemainders_75 : decode cX8_sortRemainders 75 = .ok (.iinc 4 (-1), 3) := dk_132 4 255 (dk_at dksX8_sortRemainders_3 4 rfl rfl)
theorem dX8_sortRemainders_78 : decode cX8_sortRemainders 78 = .ok (.goto (-47), 3) := dk_167 255 209 (dk_at dksX8_sortRemainders_3 7 rfl rfl)
theorem dX8_sortRemainders_81 : decode cX8_sortRemainders 81 = .ok (.aload_n 0, 1) := dk_42 (dk_at dksX8_sortRemainders_3 10 rfl rfl)
theorem dX8_sortRemainders_82 : decode cX8_sortRemainders 82 = .ok (.getfield 119, 3) := dk_180 0 119 (dk_at dksX8_sortRemainders_3 11 rfl rfl)
theorem dX8_sortRemainders_85 : decode cX8_sortRemainders 85 = .ok (.iload 4, 2) := dk_21 4 (dk_at dksX8_sortRemainders_3 14 rfl rfl)
theorem dX8_sortRemainders_87 : decode cX8_sortRemainders 87 = .ok (.iload_n 3, 1) := dk_29 (dk_at dksX8_sortRemainders_3 16 rfl rfl)
theorem dX8_sortRemainders_88 : decode cX8_sortRemainders 88 = .ok (.iastore, 1) := dk_79 (dk_at dksX8_sortRemainders_3 17 rfl rfl)
theorem dX8_sortRemainders_89 : decode cX8_sortRemainders 89 = .ok (.iinc 1 1, 3) := dk_132 1 1 (dk_at dksX8_sortRemainders_3 18 rfl rfl)
theorem dX8_sortRemainders_92 : decode cX8_sortRemainders 92 = .ok (.iinc 2 1, 3) := dk_132 2 1 (dk_at dksX8_sortRemainders_3 21 rfl rfl)
theorem dX8_sortRemainders_95 : decode cX8_sortRemainders 95 = .ok (.goto (-91), 3) := dk_167 255 165 (dk_at dksX8_sortRemainders_4 0 rfl rfl)
theorem dX8_sortRemainders_98 : decode cX8_sortRemainders 98 = .ok (.iload_n 1, 1) := dk_27 (dk_at dksX8_sortRemainders_4 3 rfl rfl)
theorem dX8_sortRemainders_99 : decode cX8_sortRemainders 99 = .ok (.ireturn, 1) := dk_172 (dk_at dksX8_sortRemainders_4 4 rfl rfl)
abbrev cX8_takeBack : ByteArray := prog_5_method_68_code
def yX8_takeBack : MethodName := ⟨RX8, "takeBack", "(II)V"⟩
def dkwX8_takeBack_3 : List UInt8 := [132, 4, 255, 167, 255, 192, 167, 255, 180, 177]
abbrev dktX8_takeBack_3 : List UInt8 := dkwX8_takeBack_3 ++ []
def dkwX8_takeBack_2 : List UInt8 := [180, 0, 113, 21, 5, 92, 46, 42, 180, 0, 113, 21, 5, 46, 158, 0, 7, 4, 167, 0, 4, 3, 100, 79]
abbrev dktX8_takeBack_2 : List UInt8 := dkwX8_takeBack_2 ++ dktX8_takeBack_3
def dkwX8_takeBack_1 : List UInt8 := [21, 4, 46, 54, 5, 29, 42, 180, 0, 113, 21, 5, 46, 158, 0, 7, 4, 167, 0, 4, 3, 100, 62, 42]
abbrev dktX8_takeBack_1 : List UInt8 := dkwX8_takeBack_1 ++ dktX8_takeBack_2
def dkwX8_takeBack_0 : List UInt8 := [27, 62, 29, 158, 0, 78, 28, 4, 100, 54, 4, 21, 4, 155, 0, 65, 29, 158, 0, 61, 42, 180, 0, 119]
abbrev dktX8_takeBack_0 : List UInt8 := dkwX8_takeBack_0 ++ dktX8_takeBack_1
theorem dksX8_takeBack_0 : cX8_takeBack.data.toList.drop 0 = dktX8_takeBack_0 := by decide +kernel
theorem dksX8_takeBack_1 : cX8_takeBack.data.toList.drop 24 = dktX8_takeBack_1 := dk_seg dksX8_takeBack_0 24 rfl rfl
theorem dksX8_takeBack_2 : cX8_takeBack.data.toList.drop 48 = dktX8_takeBack_2 := dk_seg dksX8_takeBack_1 24 rfl rfl
theorem dksX8_takeBack_3 : cX8_takeBack.data.toList.drop 72 = dktX8_takeBack_3 := dk_seg dksX8_takeBack_2 24 rfl rfl
theorem dX8_takeBack_0 : decode cX8_takeBack 0 = .ok (.iload_n 1, 1) := dk_27 (dk_at dksX8_takeBack_0 0 rfl rfl)
theorem dX8_takeBack_1 : decode cX8_takeBack 1 = .ok (.istore_n 3, 1) := dk_62 (dk_at dksX8_takeBack_0 1 rfl rfl)
theorem dX8_takeBack_2 : decode cX8_takeBack 2 = .ok (.iload_n 3, 1) := dk_29 (dk_at dksX8_takeBack_0 2 rfl rfl)
theorem dX8_takeBack_3 : decode cX8_takeBack 3 = .ok (.ifCond .le 78, 3) := dk_158 0 78 (dk_at dksX8_takeBack_0 3 rfl rfl)
theorem dX8_takeBack_6 : decode cX8_takeBack 6 = .ok (.iload_n 2, 1) := dk_28 (dk_at dksX8_takeBack_0 6 rfl rfl)
theorem dX8_takeBack_7 : decode cX8_takeBack 7 = .ok (.iconst 1, 1) := dk_4 (dk_at dksX8_takeBack_0 7 rfl rfl)
theorem dX8_takeBack_8 : decode cX8_takeBack 8 = .ok (.isub, 1) := dk_100 (dk_at dksX8_takeBack_0 8 rfl rfl)
theorem dX8_takeBack_9 : decode cX8_takeBack 9 = .ok (.istore 4, 2) := dk_54 4 (dk_at dksX8_takeBack_0 9 rfl rfl)
theorem dX8_takeBack_11 : decode cX8_takeBack 11 = .ok (.iload 4, 2) := dk_21 4 (dk_at dksX8_takeBack_0 11 rfl rfl)
theorem dX8_takeBack_13 : decode cX8_takeBack 13 = .ok (.ifCond .lt 65, 3) := dk_155 0 65 (dk_at dksX8_takeBack_0 13 rfl rfl)
theorem dX8_takeBack_16 : decode cX8_takeBack 16 = .ok (.iload_n 3, 1) := dk_29 (dk_at dksX8_takeBack_0 16 rfl rfl)
theorem dX8_takeBack_17 : decode cX8_takeBack 17 = .ok (.ifCond .le 61, 3) := dk_158 0 61 (dk_at dksX8_takeBack_0 17 rfl rfl)
theorem dX8_takeBack_20 : decode cX8_takeBack 20 = .ok (.aload_n 0, 1) := dk_42 (dk_at dksX8_takeBack_0 20 rfl rfl)
theorem dX8_takeBack_21 : decode cX8_takeBack 21 = .ok (.getfield 119, 3) := dk_180 0 119 (dk_at dksX8_takeBack_0 21 rfl rfl)
theorem dX8_takeBack_24 : decode cX8_takeBack 24 = .ok (.iload 4, 2) := dk_21 4 (dk_at dksX8_takeBack_1 0 rfl rfl)
theorem dX8_takeBack_26 : decode cX8_takeBack 26 = .ok (.iaload, 1) := dk_46 (dk_at dksX8_takeBack_1 2 rfl rfl)
theorem dX8_takeBack_27 : decode cX8_takeBack 27 = .ok (.istore 5, 2) := dk_54 5 (dk_at dksX8_takeBack_1 3 rfl rfl)
theorem dX8_takeBack_29 : decode cX8_takeBack 29 = .ok (.iload_n 3, 1) := dk_29 (dk_at dksX8_takeBack_1 5 rfl rfl)
theorem dX8_takeBack_30 : decode cX8_takeBack 30 = .ok (.aload_n 0, 1) := dk_42 (dk_at dksX8_takeBack_1 6 rfl rfl)
theorem dX8_takeBack_31 : decode cX8_takeBack 31 = .ok (.getfield 113, 3) := dk_180 0 113 (dk_at dksX8_takeBack_1 7 rfl rfl)
theorem dX8_takeBack_34 : decode cX8_takeBack 34 = .ok (.iload 5, 2) := dk_21 5 (dk_at dksX8_takeBack_1 10 rfl rfl)
theorem dX8_takeBack_36 : decode cX8_takeBack 36 = .ok (.iaload, 1) := dk_46 (dk_at dksX8_takeBack_1 12 rfl rfl)
theorem dX8_takeBack_37 : decode cX8_takeBack 37 = .ok (.ifCond .le 7, 3) := dk_158 0 7 (dk_at dksX8_takeBack_1 13 rfl rfl)
theorem dX8_takeBack_40 : decode cX8_takeBack 40 = .ok (.iconst 1, 1) := dk_4 (dk_at dksX8_takeBack_1 16 rfl rfl)
theorem dX8_takeBack_41 : decode cX8_takeBack 41 = .ok (.goto 4, 3) := dk_167 0 4 (dk_at dksX8_takeBack_1 17 rfl rfl)
theorem dX8_takeBack_44 : decode cX8_takeBack 44 = .ok (.iconst 0, 1) := dk_3 (dk_at dksX8_takeBack_1 20 rfl rfl)
theorem dX8_takeBack_45 : decode cX8_takeBack 45 = .ok (.isub, 1) := dk_100 (dk_at dksX8_takeBack_1 21 rfl rfl)
theorem dX8_takeBack_46 : decode cX8_takeBack 46 = .ok (.istore_n 3, 1) := dk_62 (dk_at dksX8_takeBack_1 22 rfl rfl)
theorem dX8_takeBack_47 : decode cX8_takeBack 47 = .ok (.aload_n 0, 1) := dk_42 (dk_at dksX8_takeBack_1 23 rfl rfl)
theorem dX8_takeBack_48 : decode cX8_takeBack 48 = .ok (.getfield 113, 3) := dk_180 0 113 (dk_at dksX8_takeBack_2 0 rfl rfl)
theorem dX8_takeBack_51 : decode cX8_takeBack 51 = .ok (.iload 5, 2) := dk_21 5 (dk_at dksX8_takeBack_2 3 rfl rfl)
theorem dX8_takeBack_53 : decode cX8_takeBack 53 = .ok (.dup2, 1) := dk_92 (dk_at dksX8_takeBack_2 5 rfl rfl)
theorem dX8_takeBack_54 : decode cX8_takeBack 54 = .ok (.iaload, 1) := dk_46 (dk_at dksX8_takeBack_2 6 rfl rfl)
theorem dX8_takeBack_55 : decode cX8_takeBack 55 = .ok (.aload_n 0, 1) := dk_42 (dk_at dksX8_takeBack_2 7 rfl rfl)
theorem dX8_takeBack_56 : decode cX8_takeBack 56 = .ok (.getfield 113, 3) := dk_180 0 113 (dk_at dksX8_takeBack_2 8 rfl rfl)
theorem dX8_takeBack_59 : decode cX8_takeBack 59 = .ok (.iload 5, 2) := dk_21 5 (dk_at dksX8_takeBack_2 11 rfl rfl)
theorem dX8_takeBack_61 : decode cX8_takeBack 61 = .ok (.iaload, 1) := dk_46 (dk_at dksX8_takeBack_2 13 rfl rfl)
theorem dX8_takeBack_62 : decode cX8_takeBack 62 = .ok (.ifCond .le 7, 3) := dk_158 0 7 (dk_at dksX8_takeBack_2 14 rfl rfl)
theorem dX8_takeBack_65 : decode cX8_takeBack 65 = .ok (.iconst 1, 1) := dk_4 (dk_at dksX8_takeBack_2 17 rfl rfl)
theorem dX8_takeBack_66 : decode cX8_takeBack 66 = .ok (.goto 4, 3) := dk_167 0 4 (dk_at dksX8_takeBack_2 18 rfl rfl)
theorem dX8_takeBack_69 : decode cX8_takeBack 69 = .ok (.iconst 0, 1) := dk_3 (dk_at dksX8_takeBack_2 21 rfl rfl)
theorem dX8_takeBack_70 : decode cX8_takeBack 70 = .ok (.isub, 1) := dk_100 (dk_at dksX8_takeBack_2 22 rfl rfl)
theorem dX8_takeBack_71 : decode cX8_takeBack 71 = .ok (.iastore, 1) := dk_79 (dk_at dksX8_takeBack_2 23 rfl rfl)
theorem dX8_takeBack_72 : decode cX8_takeBack 72 = .ok (.iinc 4 (-1), 3) := dk_132 4 255 (dk_at dksX8_takeBack_3 0 rfl rfl)
theorem dX8_takeBack_75 : decode cX8_takeBack 75 = .ok (.goto (-64), 3) := dk_167 255 192 (dk_at dksX8_takeBack_3 3 rfl rfl)
theorem dX8_takeBack_78 : decode cX8_takeBack 78 = .ok (.goto (-76), 3) := dk_167 255 180 (dk_at dksX8_takeBack_3 6 rfl rfl)
theorem dX8_takeBack_81 : decode cX8_takeBack 81 = .ok (.return_, 1) := dk_177 (dk_at dksX8_takeBack_3 9 rfl rfl)
abbrev cX8_addTo : ByteArray := prog_5_method_69_code
def yX8_addTo : MethodName := ⟨RX8, "addTo", "(IIZ)V"⟩
def dkwX8_addTo_3 : List UInt8 := [4, 96, 79, 132, 4, 255, 4, 54, 5, 132, 6, 1, 167, 255, 195, 167, 255, 176, 177]
abbrev dktX8_addTo_3 : List UInt8 := dkwX8_addTo_3 ++ []
def dkwX8_addTo_2 : List UInt8 := [180, 0, 113, 21, 7, 46, 42, 180, 0, 107, 21, 7, 46, 162, 0, 20, 42, 180, 0, 113, 21, 7, 92, 46]
abbrev dktX8_addTo_2 : List UInt8 := dkwX8_addTo_2 ++ dktX8_addTo_3
def dkwX8_addTo_1 : List UInt8 := [28, 162, 0, 61, 21, 4, 158, 0, 56, 42, 180, 0, 119, 21, 6, 46, 54, 7, 29, 153, 0, 20, 42]
abbrev dktX8_addTo_1 : List UInt8 := dkwX8_addTo_1 ++ dktX8_addTo_2
def dkwX8_addTo_0 : List UInt8 := [27, 54, 4, 4, 54, 5, 21, 4, 158, 0, 81, 21, 5, 153, 0, 76, 3, 54, 5, 3, 54, 6, 21, 6]
abbrev dktX8_addTo_0 : List UInt8 := dkwX8_addTo_0 ++ dktX8_addTo_1
theorem dksX8_addTo_0 : cX8_addTo.data.toList.drop 0 = dktX8_addTo_0 := by decide +kernel
theorem dksX8_addTo_1 : cX8_addTo.data.toList.drop 24 = dktX8_addTo_1 := dk_seg dksX8_addTo_0 24 rfl rfl
theorem dksX8_addTo_2 : cX8_addTo.data.toList.drop 47 = dktX8_addTo_2 := dk_seg dksX8_addTo_1 23 rfl rfl
theorem dksX8_addTo_3 : cX8_addTo.data.toList.drop 71 = dktX8_addTo_3 := dk_seg dksX8_addTo_2 24 rfl rfl
theorem dX8_addTo_0 : decode cX8_addTo 0 = .ok (.iload_n 1, 1) := dk_27 (dk_at dksX8_addTo_0 0 rfl rfl)
theorem dX8_addTo_1 : decode cX8_addTo 1 = .ok (.istore 4, 2) := dk_54 4 (dk_at dksX8_addTo_0 1 rfl rfl)
theorem dX8_addTo_3 : decode cX8_addTo 3 = .ok (.iconst 1, 1) := dk_4 (dk_at dksX8_addTo_0 3 rfl rfl)
theorem dX8_addTo_4 : decode cX8_addTo 4 = .ok (.istore 5, 2) := dk_54 5 (dk_at dksX8_addTo_0 4 rfl rfl)
theorem dX8_addTo_6 : decode cX8_addTo 6 = .ok (.iload 4, 2) := dk_21 4 (dk_at dksX8_addTo_0 6 rfl rfl)
theorem dX8_addTo_8 : decode cX8_addTo 8 = .ok (.ifCond .le 81, 3) := dk_158 0 81 (dk_at dksX8_addTo_0 8 rfl rfl)
theorem dX8_addTo_11 : decode cX8_addTo 11 = .ok (.iload 5, 2) := dk_21 5 (dk_at dksX8_addTo_0 11 rfl rfl)
theorem dX8_addTo_13 : decode cX8_addTo 13 = .ok (.ifCond .eq 76, 3) := dk_153 0 76 (dk_at dksX8_addTo_0 13 rfl rfl)
theorem dX8_addTo_16 : decode cX8_addTo 16 = .ok (.iconst 0, 1) := dk_3 (dk_at dksX8_addTo_0 16 rfl rfl)
theorem dX8_addTo_17 : decode cX8_addTo 17 = .ok (.istore 5, 2) := dk_54 5 (dk_at dksX8_addTo_0 17 rfl rfl)
theorem dX8_addTo_19 : decode cX8_addTo 19 = .ok (.iconst 0, 1) := dk_3 (dk_at dksX8_addTo_0 19 rfl rfl)
theorem dX8_addTo_20 : decode cX8_addTo 20 = .ok (.istore 6, 2) := dk_54 6 (dk_at dksX8_addTo_0 20 rfl rfl)
theorem dX8_addTo_22 : decode cX8_addTo 22 = .ok (.iload 6, 2) := dk_21 6 (dk_at dksX8_addTo_0 22 rfl rfl)
theorem dX8_addTo_24 : decode cX8_addTo 24 = .ok (.iload_n 2, 1) := dk_28 (dk_at dksX8_addTo_1 0 rfl rfl)
theorem dX8_addTo_25 : decode cX8_addTo 25 = .ok (.if_icmp .ge 61, 3) := dk_162 0 61 (dk_at dksX8_addTo_1 1 rfl rfl)
theorem dX8_addTo_28 : decode cX8_addTo 28 = .ok (.iload 4, 2) := dk_21 4 (dk_at dksX8_addTo_1 4 rfl rfl)
theorem dX8_addTo_30 : decode cX8_addTo 30 = .ok (.ifCond .le 56, 3) := dk_158 0 56 (dk_at dksX8_addTo_1 6 rfl rfl)
theorem dX8_addTo_33 : decode cX8_addTo 33 = .ok (.aload_n 0, 1) := dk_42 (dk_at dksX8_addTo_1 9 rfl rfl)
theorem dX8_addTo_34 : decode cX8_addTo 34 = .ok (.getfield 119, 3) := dk_180 0 119 (dk_at dksX8_addTo_1 10 rfl rfl)
theorem dX8_addTo_37 : decode cX8_addTo 37 = .ok (.iload 6, 2) := dk_21 6 (dk_at dksX8_addTo_1 13 rfl rfl)
theorem dX8_addTo_39 : decode cX8_addTo 39 = .ok (.iaload, 1) := dk_46 (dk_at dksX8_addTo_1 15 rfl rfl)
theorem dX8_addTo_40 : decode cX8_addTo 40 = .ok (.istore 7, 2) := dk_54 7 (dk_at dksX8_addTo_1 16 rfl rfl)
theorem dX8_addTo_42 : decode cX8_addTo 42 = .ok (.iload_n 3, 1) := dk_29 (dk_at dksX8_addTo_1 18 rfl rfl)
theorem dX8_addTo_43 : decode cX8_addTo 43 = .ok (.ifCond .eq 20, 3) := dk_153 0 20 (dk_at dksX8_addTo_1 19 rfl rfl)
theorem dX8_addTo_46 : decode cX8_addTo 46 = .ok (.aload_n 0, 1) := dk_42 (dk_at dksX8_addTo_1 22 rfl rfl)
theorem dX8_addTo_47 : decode cX8_addTo 47 = .ok (.getfield 113, 3) := dk_180 0 113 (dk_at dksX8_addTo_2 0 rfl rfl)
theorem dX8_addTo_50 : decode cX8_addTo 50 = .ok (.iload 7, 2) := dk_21 7 (dk_at dksX8_addTo_2 3 rfl rfl)
theorem dX8_addTo_52 : decode cX8_addTo 52 = .ok (.iaload, 1) := dk_46 (dk_at dksX8_addTo_2 5 rfl rfl)
theorem dX8_addTo_53 : decode cX8_addTo 53 = .ok (.aload_n 0, 1) := dk_42 (dk_at dksX8_addTo_2 6 rfl rfl)
theorem dX8_addTo_54 : decode cX8_addTo 54 = .ok (.getfield 107, 3) := dk_180 0 107 (dk_at dksX8_addTo_2 7 rfl rfl)
theorem dX8_addTo_57 : decode cX8_addTo 57 = .ok (.iload 7, 2) := dk_21 7 (dk_at dksX8_addTo_2 10 rfl rfl)
theorem dX8_addTo_59 : decode cX8_addTo 59 = .ok (.iaload, 1) := dk_46 (dk_at dksX8_addTo_2 12 rfl rfl)
theorem dX8_addTo_60 : decode cX8_addTo 60 = .ok (.if_icmp .ge 20, 3) := dk_162 0 20 (dk_at dksX8_addTo_2 13 rfl rfl)
theorem dX8_addTo_63 : decode cX8_addTo 63 = .ok (.aload_n 0, 1) := dk_42 (dk_at dksX8_addTo_2 16 rfl rfl)
theorem dX8_addTo_64 : decode cX8_addTo 64 = .ok (.getfield 113, 3) := dk_180 0 113 (dk_at dksX8_addTo_2 17 rfl rfl)
theorem dX8_addTo_67 : decode cX8_addTo 67 = .ok (.iload 7, 2) := dk_21 7 (dk_at dksX8_addTo_2 20 rfl rfl)
theorem dX8_addTo_69 : decode cX8_addTo 69 = .ok (.dup2, 1) := dk_92 (dk_at dksX8_addTo_2 22 rfl rfl)
theorem dX8_addTo_70 : decode cX8_addTo 70 = .ok (.iaload, 1) := dk_46 (dk_at dksX8_addTo_2 23 rfl rfl)
theorem dX8_addTo_71 : decode cX8_addTo 71 = .ok (.iconst 1, 1) := dk_4 (dk_at dksX8_addTo_3 0 rfl rfl)
theorem dX8_addTo_72 : decode cX8_addTo 72 = .ok (.iadd, 1) := dk_96 (dk_at dksX8_addTo_3 1 rfl rfl)
theorem dX8_addTo_73 : decode cX8_addTo 73 = .ok (.iastore, 1) := dk_79 (dk_at dksX8_addTo_3 2 rfl rfl)
theorem dX8_addTo_74 : decode cX8_addTo 74 = .ok (.iinc 4 (-1), 3) := dk_132 4 255 (dk_at dksX8_addTo_3 3 rfl rfl)
theorem dX8_addTo_77 : decode cX8_addTo 77 = .ok (.iconst 1, 1) := dk_4 (dk_at dksX8_addTo_3 6 rfl rfl)
theorem dX8_addTo_78 : decode cX8_addTo 78 = .ok (.istore 5, 2) := dk_54 5 (dk_at dksX8_addTo_3 7 rfl rfl)
theorem dX8_addTo_80 : decode cX8_addTo 80 = .ok (.iinc 6 1, 3) := dk_132 6 1 (dk_at dksX8_addTo_3 9 rfl rfl)
theorem dX8_addTo_83 : decode cX8_addTo 83 = .ok (.goto (-61), 3) := dk_167 255 195 (dk_at dksX8_addTo_3 12 rfl rfl)
theorem dX8_addTo_86 : decode cX8_addTo 86 = .ok (.goto (-80), 3) := dk_167 255 176 (dk_at dksX8_addTo_3 15 rfl rfl)
theorem dX8_addTo_89 : decode cX8_addTo 89 = .ok (.return_, 1) := dk_177 (dk_at dksX8_addTo_3 18 rfl rfl)
abbrev cX8_isOver : ByteArray := prog_5_method_72_code
def yX8_isOver : MethodName := ⟨RX8, "isOver", "()Z"⟩
def dkwX8_isOver_2 : List UInt8 := [128, 60, 132, 2, 1, 167, 255, 207, 27, 172]
abbrev dktX8_isOver_2 : List UInt8 := dkwX8_isOver_2 ++ []
def dkwX8_isOver_1 : List UInt8 := [29, 51, 153, 0, 21, 42, 29, 182, 1, 197, 42, 180, 0, 113, 29, 46, 164, 0, 7, 4, 167, 0, 4, 3]
abbrev dktX8_isOver_1 : List UInt8 := dkwX8_isOver_1 ++ dktX8_isOver_2
def dkwX8_isOver_0 : List UInt8 := [3, 60, 3, 61, 28, 42, 180, 1, 160, 162, 0, 47, 42, 180, 0, 101, 28, 46, 62, 27, 42, 180, 0, 110]
abbrev dktX8_isOver_0 : List UInt8 := dkwX8_isOver_0 ++ dktX8_isOver_1
theorem dksX8_isOver_0 : cX8_isOver.data.toList.drop 0 = dktX8_isOver_0 := by decide +kernel
theorem dksX8_isOver_1 : cX8_isOver.data.toList.drop 24 = dktX8_isOver_1 := dk_seg dksX8_isOver_0 24 rfl rfl
theorem dksX8_isOver_2 : cX8_isOver.data.toList.drop 48 = dktX8_isOver_2 := dk_seg dksX8_isOver_1 24 rfl rfl
theorem dX8_isOver_0 : decode cX8_isOver 0 = .ok (.iconst 0, 1) := dk_3 (dk_at dksX8_isOver_0 0 rfl rfl)
theorem dX8_isOver_1 : decode cX8_isOver 1 = .ok (.istore_n 1, 1) := dk_60 (dk_at dksX8_isOver_0 1 rfl rfl)
theorem dX8_isOver_2 : decode cX8_isOver 2 = .ok (.iconst 0, 1) := dk_3 (dk_at dksX8_isOver_0 2 rfl rfl)
theorem dX8_isOver_3 : decode cX8_isOver 3 = .ok (.istore_n 2, 1) := dk_61 (dk_at dksX8_isOver_0 3 rfl rfl)
theorem dX8_isOver_4 : decode cX8_isOver 4 = .ok (.iload_n 2, 1) := dk_28 (dk_at dksX8_isOver_0 4 rfl rfl)
theorem dX8_isOver_5 : decode cX8_isOver 5 = .ok (.aload_n 0, 1) := dk_42 (dk_at dksX8_isOver_0 5 rfl rfl)
theorem dX8_isOver_6 : decode cX8_isOver 6 = .ok (.getfield 416, 3) := dk_180 1 160 (dk_at dksX8_isOver_0 6 rfl rfl)
theorem dX8_isOver_9 : decode cX8_isOver 9 = .ok (.if_icmp .ge 47, 3) := dk_162 0 47 (dk_at dksX8_isOver_0 9 rfl rfl)
theorem dX8_isOver_12 : decode cX8_isOver 12 = .ok (.aload_n 0, 1) := dk_42 (dk_at dksX8_isOver_0 12 rfl rfl)
theorem dX8_isOver_13 : decode cX8_isOver 13 = .ok (.getfield 101, 3) := dk_180 0 101 (dk_at dksX8_isOver_0 13 rfl rfl)
theorem dX8_isOver_16 : decode cX8_isOver 16 = .ok (.iload_n 2, 1) := dk_28 (dk_at dksX8_isOver_0 16 rfl rfl)
theorem dX8_isOver_17 : decode cX8_isOver 17 = .ok (.iaload, 1) := dk_46 (dk_at dksX8_isOver_0 17 rfl rfl)
theorem dX8_isOver_18 : decode cX8_isOver 18 = .ok (.istore_n 3, 1) := dk_62 (dk_at dksX8_isOver_0 18 rfl rfl)
theorem dX8_isOver_19 : decode cX8_isOver 19 = .ok (.iload_n 1, 1) := dk_27 (dk_at dksX8_isOver_0 19 rfl rfl)
theorem dX8_isOver_20 : decode cX8_isOver 20 = .ok (.aload_n 0, 1) := dk_42 (dk_at dksX8_isOver_0 20 rfl rfl)
theorem dX8_isOver_21 : decode cX8_isOver 21 = .ok (.getfield 110, 3) := dk_180 0 110 (dk_at dksX8_isOver_0 21 rfl rfl)
theorem dX8_isOver_24 : decode cX8_isOver 24 = .ok (.iload_n 3, 1) := dk_29 (dk_at dksX8_isOver_1 0 rfl rfl)
theorem dX8_isOver_25 : decode cX8_isOver 25 = .ok (.baload, 1) := dk_51 (dk_at dksX8_isOver_1 1 rfl rfl)
theorem dX8_isOver_26 : decode cX8_isOver 26 = .ok (.ifCond .eq 21, 3) := dk_153 0 21 (dk_at dksX8_isOver_1 2 rfl rfl)
theorem dX8_isOver_29 : decode cX8_isOver 29 = .ok (.aload_n 0, 1) := dk_42 (dk_at dksX8_isOver_1 5 rfl rfl)
theorem dX8_isOver_30 : decode cX8_isOver 30 = .ok (.iload_n 3, 1) := dk_29 (dk_at dksX8_isOver_1 6 rfl rfl)
theorem dX8_isOver_31 : decode cX8_isOver 31 = .ok (.invokevirtual 453, 3) := dk_182 1 197 (dk_at dksX8_isOver_1 7 rfl rfl)
theorem dX8_isOver_34 : decode cX8_isOver 34 = .ok (.aload_n 0, 1) := dk_42 (dk_at dksX8_isOver_1 10 rfl rfl)
theorem dX8_isOver_35 : decode cX8_isOver 35 = .ok (.getfield 113, 3) := dk_180 0 113 (dk_at dksX8_isOver_1 11 rfl rfl)
theorem dX8_isOver_38 : decode cX8_isOver 38 = .ok (.iload_n 3, 1) := dk_29 (dk_at dksX8_isOver_1 14 rfl rfl)
theorem dX8_isOver_39 : decode cX8_isOver 39 = .ok (.iaload, 1) := dk_46 (dk_at dksX8_isOver_1 15 rfl rfl)
theorem dX8_isOver_40 : decode cX8_isOver 40 = .ok (.if_icmp .le 7, 3) := dk_164 0 7 (dk_at dksX8_isOver_1 16 rfl rfl)
theorem dX8_isOver_43 : decode cX8_isOver 43 = .ok (.iconst 1, 1) := dk_4 (dk_at dksX8_isOver_1 19 rfl rfl)
theorem dX8_isOver_44 : decode cX8_isOver 44 = .ok (.goto 4, 3) := dk_167 0 4 (dk_at dksX8_isOver_1 20 rfl rfl)
theorem dX8_isOver_47 : decode cX8_isOver 47 = .ok (.iconst 0, 1) := dk_3 (dk_at dksX8_isOver_1 23 rfl rfl)
theorem dX8_isOver_48 : decode cX8_isOver 48 = .ok (.ior, 1) := dk_128 (dk_at dksX8_isOver_2 0 rfl rfl)
theorem dX8_isOver_49 : decode cX8_isOver 49 = .ok (.istore_n 1, 1) := dk_60 (dk_at dksX8_isOver_2 1 rfl rfl)
theorem dX8_isOver_50 : decode cX8_isOver 50 = .ok (.iinc 2 1, 3) := dk_132 2 1 (dk_at dksX8_isOver_2 2 rfl rfl)
theorem dX8_isOver_53 : decode cX8_isOver 53 = .ok (.goto (-49), 3) := dk_167 255 207 (dk_at dksX8_isOver_2 5 rfl rfl)
theorem dX8_isOver_56 : decode cX8_isOver 56 = .ok (.iload_n 1, 1) := dk_27 (dk_at dksX8_isOver_2 8 rfl rfl)
theorem dX8_isOver_57 : decode cX8_isOver 57 = .ok (.ireturn, 1) := dk_172 (dk_at dksX8_isOver_2 9 rfl rfl)
abbrev cX8_fill : ByteArray := prog_5_method_75_code
def yX8_fill : MethodName := ⟨RX8, "fill", "()V"⟩
def dkwX8_fill_7 : List UInt8 := [167, 255, 94, 177]
abbrev dktX8_fill_7 : List UInt8 := dkwX8_fill_7 ++ []
def dkwX8_fill_6 : List UInt8 := [42, 29, 182, 1, 219, 167, 0, 4, 2, 54, 4, 167, 255, 214, 42, 180, 0, 101, 28, 2, 79, 132, 1, 1]
abbrev dktX8_fill_6 : List UInt8 := dkwX8_fill_6 ++ dktX8_fill_7
def dkwX8_fill_5 : List UInt8 := [21, 4, 182, 0, 219, 42, 180, 0, 113, 29, 92, 46, 4, 100, 79, 42, 180, 0, 113, 29, 46, 158, 0, 11]
abbrev dktX8_fill_5 : List UInt8 := dkwX8_fill_5 ++ dktX8_fill_6
def dkwX8_fill_4 : List UInt8 := [29, 46, 158, 0, 11, 42, 29, 182, 1, 219, 167, 0, 4, 2, 54, 4, 21, 4, 2, 159, 0, 42, 42]
abbrev dktX8_fill_4 : List UInt8 := dkwX8_fill_4 ++ dktX8_fill_5
def dkwX8_fill_3 : List UInt8 := [46, 46, 164, 0, 5, 29, 61, 132, 3, 1, 167, 255, 191, 42, 180, 0, 101, 28, 46, 62, 42, 180, 0, 113]
abbrev dktX8_fill_3 : List UInt8 := dkwX8_fill_3 ++ dktX8_fill_4
def dkwX8_fill_2 : List UInt8 := [153, 0, 31, 28, 2, 159, 0, 24, 42, 180, 0, 104, 21, 4, 46, 42, 180, 0, 104, 42, 180, 0, 101, 28]
abbrev dktX8_fill_2 : List UInt8 := dkwX8_fill_2 ++ dktX8_fill_3
def dkwX8_fill_1 : List UInt8 := [180, 0, 101, 29, 46, 54, 4, 21, 4, 2, 159, 0, 7, 4, 167, 0, 4, 3, 54, 5, 21, 5]
abbrev dktX8_fill_1 : List UInt8 := dkwX8_fill_1 ++ dktX8_fill_2
def dkwX8_fill_0 : List UInt8 := [3, 60, 27, 42, 180, 1, 160, 162, 0, 160, 2, 61, 3, 62, 29, 42, 180, 1, 160, 162, 0, 63, 42]
abbrev dktX8_fill_0 : List UInt8 := dkwX8_fill_0 ++ dktX8_fill_1
theorem dksX8_fill_0 : cX8_fill.data.toList.drop 0 = dktX8_fill_0 := by decide +kernel
theorem dksX8_fill_1 : cX8_fill.data.toList.drop 23 = dktX8_fill_1 := dk_seg dksX8_fill_0 23 rfl rfl
theorem dksX8_fill_2 : cX8_fill.data.toList.drop 45 = dktX8_fill_2 := dk_seg dksX8_fill_1 22 rfl rfl
theorem dksX8_fill_3 : cX8_fill.data.toList.drop 69 = dktX8_fill_3 := dk_seg dksX8_fill_2 24 rfl rfl
theorem dksX8_fill_4 : cX8_fill.data.toList.drop 93 = dktX8_fill_4 := dk_seg dksX8_fill_3 24 rfl rfl
theorem dksX8_fill_5 : cX8_fill.data.toList.drop 116 = dktX8_fill_5 := dk_seg dksX8_fill_4 23 rfl rfl
theorem dksX8_fill_6 : cX8_fill.data.toList.drop 140 = dktX8_fill_6 := dk_seg dksX8_fill_5 24 rfl rfl
theorem dksX8_fill_7 : cX8_fill.data.toList.drop 164 = dktX8_fill_7 := dk_seg dksX8_fill_6 24 rfl rfl
theorem dX8_fill_0 : decode cX8_fill 0 = .ok (.iconst 0, 1) := dk_3 (dk_at dksX8_fill_0 0 rfl rfl)
theorem dX8_fill_1 : decode cX8_fill 1 = .ok (.istore_n 1, 1) := dk_60 (dk_at dksX8_fill_0 1 rfl rfl)
theorem dX8_fill_2 : decode cX8_fill 2 = .ok (.iload_n 1, 1) := dk_27 (dk_at dksX8_fill_0 2 rfl rfl)
theorem dX8_fill_3 : decode cX8_fill 3 = .ok (.aload_n 0, 1) := dk_42 (dk_at dksX8_fill_0 3 rfl rfl)
theorem dX8_fill_4 : decode cX8_fill 4 = .ok (.getfield 416, 3) := dk_180 1 160 (dk_at dksX8_fill_0 4 rfl rfl)
theorem dX8_fill_7 : decode cX8_fill 7 = .ok (.if_icmp .ge 160, 3) := dk_162 0 160 (dk_at dksX8_fill_0 7 rfl rfl)
theorem dX8_fill_10 : decode cX8_fill 10 = .ok (.iconst (-1), 1) := dk_2 (dk_at dksX8_fill_0 10 rfl rfl)
theorem dX8_fill_11 : decode cX8_fill 11 = .ok (.istore_n 2, 1) := dk_61 (dk_at dksX8_fill_0 11 rfl rfl)
theorem dX8_fill_12 : decode cX8_fill 12 = .ok (.iconst 0, 1) := dk_3 (dk_at dksX8_fill_0 12 rfl rfl)
theorem dX8_fill_13 : decode cX8_fill 13 = .ok (.istore_n 3, 1) := dk_62 (dk_at dksX8_fill_0 13 rfl rfl)
theorem dX8_fill_14 : decode cX8_fill 14 = .ok (.iload_n 3, 1) := dk_29 (dk_at dksX8_fill_0 14 rfl rfl)
theorem dX8_fill_15 : decode cX8_fill 15 = .ok (.aload_n 0, 1) := dk_42 (dk_at dksX8_fill_0 15 rfl rfl)
theorem dX8_fill_16 : decode cX8_fill 16 = .ok (.getfield 416, 3) := dk_180 1 160 (dk_at dksX8_fill_0 16 rfl rfl)
theorem dX8_fill_19 : decode cX8_fill 19 = .ok (.if_icmp .ge 63, 3) := dk_162 0 63 (dk_at dksX8_fill_0 19 rfl rfl)
theorem dX8_fill_22 : decode cX8_fill 22 = .ok (.aload_n 0, 1) := dk_42 (dk_at dksX8_fill_0 22 rfl rfl)
theorem dX8_fill_23 : decode cX8_fill 23 = .ok (.getfield 101, 3) := dk_180 0 101 (dk_at dksX8_fill_1 0 rfl rfl)
theorem dX8_fill_26 : decode cX8_fill 26 = .ok (.iload_n 3, 1) := dk_29 (dk_at dksX8_fill_1 3 rfl rfl)
theorem dX8_fill_27 : decode cX8_fill 27 = .ok (.iaload, 1) := dk_46 (dk_at dksX8_fill_1 4 rfl rfl)
theorem dX8_fill_28 : decode cX8_fill 28 = .ok (.istore 4, 2) := dk_54 4 (dk_at dksX8_fill_1 5 rfl rfl)
theorem dX8_fill_30 : decode cX8_fill 30 = .ok (.iload 4, 2) := dk_21 4 (dk_at dksX8_fill_1 7 rfl rfl)
theorem dX8_fill_32 : decode cX8_fill 32 = .ok (.iconst (-1), 1) := dk_2 (dk_at dksX8_fill_1 9 rfl rfl)
theorem dX8_fill_33 : decode cX8_fill 33 = .ok (.if_icmp .eq 7, 3) := dk_159 0 7 (dk_at dksX8_fill_1 10 rfl rfl)
theorem dX8_fill_36 : decode cX8_fill 36 = .ok (.iconst 1, 1) := dk_4 (dk_at dksX8_fill_1 13 rfl rfl)
theorem dX8_fill_37 : decode cX8_fill 37 = .ok (.goto 4, 3) := dk_167 0 4 (dk_at dksX8_fill_1 14 rfl rfl)
theorem dX8_fill_40 : decode cX8_fill 40 = .ok (.iconst 0, 1) := dk_3 (dk_at dksX8_fill_1 17 rfl rfl)
theorem dX8_fill_41 : decode cX8_fill 41 = .ok (.istore 5, 2) := dk_54 5 (dk_at dksX8_fill_1 18 rfl rfl)
theorem dX8_fill_43 : decode cX8_fill 43 = .ok (.iload 5, 2) := dk_21 5 (dk_at dksX8_fill_1 20 rfl rfl)
theorem dX8_fill_45 : decode cX8_fill 45 = .ok (.ifCond .eq 31, 3) := dk_153 0 31 (dk_at dksX8_fill_2 0 rfl rfl)
theorem dX8_fill_48 : decode cX8_fill 48 = .ok (.iload_n 2, 1) := dk_28 (dk_at dksX8_fill_2 3 rfl rfl)
theorem dX8_fill_49 : decode cX8_fill 49 = .ok (.iconst (-1), 1) := dk_2 (dk_at dksX8_fill_2 4 rfl rfl)
theorem dX8_fill_50 : decode cX8_fill 50 = .ok (.if_icmp .eq 24, 3) := dk_159 0 24 (dk_at dksX8_fill_2 5 rfl rfl)
theorem dX8_fill_53 : decode cX8_fill 53 = .ok (.aload_n 0, 1) := dk_42 (dk_at dksX8_fill_2 8 rfl rfl)
theorem dX8_fill_54 : decode cX8_fill 54 = .ok (.getfield 104, 3) := dk_180 0 104 (dk_at dksX8_fill_2 9 rfl rfl)
theorem dX8_fill_57 : decode cX8_fill 57 = .ok (.iload 4, 2) := dk_21 4 (dk_at dksX8_fill_2 12 rfl rfl)
theorem dX8_fill_59 : decode cX8_fill 59 = .ok (.iaload, 1) := dk_46 (dk_at dksX8_fill_2 14 rfl rfl)
theorem dX8_fill_60 : decode cX8_fill 60 = .ok (.aload_n 0, 1) := dk_42 (dk_at dksX8_fill_2 15 rfl rfl)
theorem dX8_fill_61 : decode cX8_fill 61 = .ok (.getfield 104, 3) := dk_180 0 104 (dk_at dksX8_fill_2 16 rfl rfl)
theorem dX8_fill_64 : decode cX8_fill 64 = .ok (.aload_n 0, 1) := dk_42 (dk_at dksX8_fill_2 19 rfl rfl)
theorem dX8_fill_65 : decode cX8_fill 65 = .ok (.getfield 101, 3) := dk_180 0 101 (dk_at dksX8_fill_2 20 rfl rfl)
theorem dX8_fill_68 : decode cX8_fill 68 = .ok (.iload_n 2, 1) := dk_28 (dk_at dksX8_fill_2 23 rfl rfl)
theorem dX8_fill_69 : decode cX8_fill 69 = .ok (.iaload, 1) := dk_46 (dk_at dksX8_fill_3 0 rfl rfl)
theorem dX8_fill_70 : decode cX8_fill 70 = .ok (.iaload, 1) := dk_46 (dk_at dksX8_fill_3 1 rfl rfl)
theorem dX8_fill_71 : decode cX8_fill 71 = .ok (.if_icmp .le 5, 3) := dk_164 0 5 (dk_at dksX8_fill_3 2 rfl rfl)
theorem dX8_fill_74 : decode cX8_fill 74 = .ok (.iload_n 3, 1) := dk_29 (dk_at dksX8_fill_3 5 rfl rfl)
theorem dX8_fill_75 : decode cX8_fill 75 = .ok (.istore_n 2, 1) := dk_61 (dk_at dksX8_fill_3 6 rfl rfl)
theorem dX8_fill_76 : decode cX8_fill 76 = .ok (.iinc 3 1, 3) := dk_132 3 1 (dk_at dksX8_fill_3 7 rfl rfl)
theorem dX8_fill_79 : decode cX8_fill 79 = .ok (.goto (-65), 3) := dk_167 255 191 (dk_at dksX8_fill_3 10 rfl rfl)
theorem dX8_fill_82 : decode cX8_fill 82 = .ok (.aload_n 0, 1) := dk_42 (dk_at dksX8_fill_3 13 rfl rfl)
theorem dX8_fill_83 : decode cX8_fill 83 = .ok (.getfield 101, 3) := dk_180 0 101 (dk_at dksX8_fill_3 14 rfl rfl)
theorem dX8_fill_86 : decode cX8_fill 86 = .ok (.iload_n 2, 1) := dk_28 (dk_at dksX8_fill_3 17 rfl rfl)
theorem dX8_fill_87 : decode cX8_fill 87 = .ok (.iaload, 1) := dk_46 (dk_at dksX8_fill_3 18 rfl rfl)
theorem dX8_fill_88 : decode cX8_fill 88 = .ok (.istore_n 3, 1) := dk_62 (dk_at dksX8_fill_3 19 rfl rfl)
theorem dX8_fill_89 : decode cX8_fill 89 = .ok (.aload_n 0, 1) := dk_42 (dk_at dksX8_fill_3 20 rfl rfl)
theorem dX8_fill_90 : decode cX8_fill 90 = .ok (.getfield 113, 3) := dk_180 0 113 (dk_at dksX8_fill_3 21 rfl rfl)
theorem dX8_fill_93 : decode cX8_fill 93 = .ok (.iload_n 3, 1) := dk_29 (dk_at dksX8_fill_4 0 rfl rfl)
theorem dX8_fill_94 : decode cX8_fill 94 = .ok (.iaload, 1) := dk_46 (dk_at dksX8_fill_4 1 rfl rfl)
theorem dX8_fill_95 : decode cX8_fill 95 = .ok (.ifCond .le 11, 3) := dk_158 0 11 (dk_at dksX8_fill_4 2 rfl rfl)
theorem dX8_fill_98 : decode cX8_fill 98 = .ok (.aload_n 0, 1) := dk_42 (dk_at dksX8_fill_4 5 rfl rfl)
theorem dX8_fill_99 : decode cX8_fill 99 = .ok (.iload_n 3, 1) := dk_29 (dk_at dksX8_fill_4 6 rfl rfl)
theorem dX8_fill_100 : decode cX8_fill 100 = .ok (.invokevirtual 475, 3) := dk_182 1 219 (dk_at dksX8_fill_4 7 rfl rfl)
theorem dX8_fill_103 : decode cX8_fill 103 = .ok (.goto 4, 3) := dk_167 0 4 (dk_at dksX8_fill_4 10 rfl rfl)
theorem dX8_fill_106 : decode cX8_fill 106 = .ok (.iconst (-1), 1) := dk_2 (dk_at dksX8_fill_4 13 rfl rfl)
theorem dX8_fill_107 : decode cX8_fill 107 = .ok (.istore 4, 2) := dk_54 4 (dk_at dksX8_fill_4 14 rfl rfl)
theorem dX8_fill_109 : decode cX8_fill 109 = .ok (.iload 4, 2) := dk_21 4 (dk_at dksX8_fill_4 16 rfl rfl)
theorem dX8_fill_111 : decode cX8_fill 111 = .ok (.iconst (-1), 1) := dk_2 (dk_at dksX8_fill_4 18 rfl rfl)
theorem dX8_fill_112 : decode cX8_fill 112 = .ok (.if_icmp .eq 42, 3) := dk_159 0 42 (dk_at dksX8_fill_4 19 rfl rfl)
theorem dX8_fill_115 : decode cX8_fill 115 = .ok (.aload_n 0, 1) := dk_42 (dk_at dksX8_fill_4 22 rfl rfl)
theorem dX8_fill_116 : decode cX8_fill 116 = .ok (.iload 4, 2) := dk_21 4 (dk_at dksX8_fill_5 0 rfl rfl)
theorem dX8_fill_118 : decode cX8_fill 118 = .ok (.invokevirtual 219, 3) := dk_182 0 219 (dk_at dksX8_fill_5 2 rfl rfl)
theorem dX8_fill_121 : decode cX8_fill 121 = .ok (.aload_n 0, 1) := dk_42 (dk_at dksX8_fill_5 5 rfl rfl)
theorem dX8_fill_122 : decode cX8_fill 122 = .ok (.getfield 113, 3) := dk_180 0 113 (dk_at dksX8_fill_5 6 rfl rfl)
theorem dX8_fill_125 : decode cX8_fill 125 = .ok (.iload_n 3, 1) := dk_29 (dk_at dksX8_fill_5 9 rfl rfl)
theorem dX8_fill_126 : decode cX8_fill 126 = .ok (.dup2, 1) := dk_92 (dk_at dksX8_fill_5 10 rfl rfl)
theorem dX8_fill_127 : decode cX8_fill 127 = .ok (.iaload, 1) := dk_46 (dk_at dksX8_fill_5 11 rfl rfl)
theorem dX8_fill_128 : decode cX8_fill 128 = .ok (.iconst 1, 1) := dk_4 (dk_at dksX8_fill_5 12 rfl rfl)
theorem dX8_fill_129 : decode cX8_fill 129 = .ok (.isub, 1) := dk_100 (dk_at dksX8_fill_5 13 rfl rfl)
theorem dX8_fill_130 : decode cX8_fill 130 = .ok (.iastore, 1) := dk_79 (dk_at dksX8_fill_5 14 rfl rfl)
theorem dX8_fill_131 : decode cX8_fill 131 = .ok (.aload_n 0, 1) := dk_42 (dk_at dksX8_fill_5 15 rfl rfl)
theorem dX8_fill_132 : decode cX8_fill 132 = .ok (.getfield 113, 3) := dk_180 0 113 (dk_at dksX8_fill_5 16 rfl rfl)
theorem dX8_fill_135 : decode cX8_fill 135 = .ok (.iload_n 3, 1) := dk_29 (dk_at dksX8_fill_5 19 rfl rfl)
theorem dX8_fill_136 : decode cX8_fill 136 = .ok (.iaload, 1) := dk_46 (dk_at dksX8_fill_5 20 rfl rfl)
theorem dX8_fill_137 : decode cX8_fill 137 = .ok (.ifCond .le 11, 3) := dk_158 0 11 (dk_at dksX8_fill_5 21 rfl rfl)
theorem dX8_fill_140 : decode cX8_fill 140 = .ok (.aload_n 0, 1) := dk_42 (dk_at dksX8_fill_6 0 rfl rfl)
theorem dX8_fill_141 : decode cX8_fill 141 = .ok (.iload_n 3, 1) := dk_29 (dk_at dksX8_fill_6 1 rfl rfl)
theorem dX8_fill_142 : decode cX8_fill 142 = .ok (.invokevirtual 475, 3) := dk_182 1 219 (dk_at dksX8_fill_6 2 rfl rfl)
theorem dX8_fill_145 : decode cX8_fill 145 = .ok (.goto 4, 3) := dk_167 0 4 (dk_at dksX8_fill_6 5 rfl rfl)
theorem dX8_fill_148 : decode cX8_fill 148 = .ok (.iconst (-1), 1) := dk_2 (dk_at dksX8_fill_6 8 rfl rfl)
theorem dX8_fill_149 : decode cX8_fill 149 = .ok (.istore 4, 2) := dk_54 4 (dk_at dksX8_fill_6 9 rfl rfl)
theorem dX8_fill_151 : decode cX8_fill 151 = .ok (.goto (-42), 3) := dk_167 255 214 (dk_at dksX8_fill_6 11 rfl rfl)
theorem dX8_fill_154 : decode cX8_fill 154 = .ok (.aload_n 0, 1) := dk_42 (dk_at dksX8_fill_6 14 rfl rfl)
theorem dX8_fill_155 : decode cX8_fill 155 = .ok (.getfield 101, 3) := dk_180 0 101 (dk_at dksX8_fill_6 15 rfl rfl)
theorem dX8_fill_158 : decode cX8_fill 158 = .ok (.iload_n 2, 1) := dk_28 (dk_at dksX8_fill_6 18 rfl rfl)
theorem dX8_fill_159 : decode cX8_fill 159 = .ok (.iconst (-1), 1) := dk_2 (dk_at dksX8_fill_6 19 rfl rfl)
theorem dX8_fill_160 : decode cX8_fill 160 = .ok (.iastore, 1) := dk_79 (dk_at dksX8_fill_6 20 rfl rfl)
theorem dX8_fill_161 : decode cX8_fill 161 = .ok (.iinc 1 1, 3) := dk_132 1 1 (dk_at dksX8_fill_6 21 rfl rfl)
theorem dX8_fill_164 : decode cX8_fill 164 = .ok (.goto (-162), 3) := dk_167 255 94 (dk_at dksX8_fill_7 0 rfl rfl)
theorem dX8_fill_167 : decode cX8_fill 167 = .ok (.return_, 1) := dk_177 (dk_at dksX8_fill_7 3 rfl rfl)
abbrev cX8_nextOf : ByteArray := prog_5_method_74_code
def yX8_nextOf : MethodName := ⟨RX8, "nextOf", "(I)I"⟩
def dkwX8_nextOf_5 : List UInt8 := [47, 42, 180, 0, 33, 28, 47, 148, 158, 0, 6, 21, 4, 61, 132, 3, 1, 167, 255, 126, 28, 172]
abbrev dktX8_nextOf_5 : List UInt8 := dkwX8_nextOf_5 ++ []
def dkwX8_nextOf_4 : List UInt8 := [153, 0, 38, 28, 2, 159, 0, 30, 42, 180, 0, 131, 180, 1, 209, 153, 0, 23, 42, 180, 0, 33, 21, 4]
abbrev dktX8_nextOf_4 : List UInt8 := dkwX8_nextOf_4 ++ dktX8_nextOf_5
def dkwX8_nextOf_3 : List UInt8 := [180, 0, 135, 180, 1, 216, 21, 4, 46, 51, 154, 0, 7, 4, 167, 0, 4, 3, 54, 5, 21, 5]
abbrev dktX8_nextOf_3 : List UInt8 := dkwX8_nextOf_3 ++ dktX8_nextOf_4
def dkwX8_nextOf_2 : List UInt8 := [21, 4, 182, 0, 195, 27, 160, 0, 35, 42, 180, 0, 131, 180, 1, 213, 153, 0, 21, 42, 180, 0, 125, 42]
abbrev dktX8_nextOf_2 : List UInt8 := dkwX8_nextOf_2 ++ dktX8_nextOf_3
def dkwX8_nextOf_1 : List UInt8 := [180, 0, 135, 180, 0, 212, 29, 46, 167, 0, 4, 29, 54, 4, 42, 21, 4, 182, 0, 209, 153, 0, 45, 42]
abbrev dktX8_nextOf_1 : List UInt8 := dkwX8_nextOf_1 ++ dktX8_nextOf_2
def dkwX8_nextOf_0 : List UInt8 := [2, 61, 3, 62, 29, 42, 180, 0, 148, 162, 0, 128, 42, 180, 0, 131, 180, 1, 209, 153, 0, 15, 42]
abbrev dktX8_nextOf_0 : List UInt8 := dkwX8_nextOf_0 ++ dktX8_nextOf_1
theorem dksX8_nextOf_0 : cX8_nextOf.data.toList.drop 0 = dktX8_nextOf_0 := by decide +kernel
theorem dksX8_nextOf_1 : cX8_nextOf.data.toList.drop 23 = dktX8_nextOf_1 := dk_seg dksX8_nextOf_0 23 rfl rfl
theorem dksX8_nextOf_2 : cX8_nextOf.data.toList.drop 47 = dktX8_nextOf_2 := dk_seg dksX8_nextOf_1 24 rfl rfl
theorem dksX8_nextOf_3 : cX8_nextOf.data.toList.drop 71 = dktX8_nextOf_3 := dk_seg dksX8_nextOf_2 24 rfl rfl
theorem dksX8_nextOf_4 : cX8_nextOf.data.toList.drop 93 = dktX8_nextOf_4 := dk_seg dksX8_nextOf_3 22 rfl rfl
theorem dksX8_nextOf_5 : cX8_nextOf.data.toList.drop 117 = dktX8_nextOf_5 := dk_seg dksX8_nextOf_4 24 rfl rfl
theorem dX8_nextOf_0 : decode cX8_nextOf 0 = .ok (.iconst (-1), 1) := dk_2 (dk_at dksX8_nextOf_0 0 rfl rfl)
theorem dX8_nextOf_1 : decode cX8_nextOf 1 = .ok (.istore_n 2, 1) := dk_61 (dk_at dksX8_nextOf_0 1 rfl rfl)
theorem dX8_nextOf_2 : decode cX8_nextOf 2 = .ok (.iconst 0, 1) := dk_3 (dk_at dksX8_nextOf_0 2 rfl rfl)
theorem dX8_nextOf_3 : decode cX8_nextOf 3 = .ok (.istore_n 3, 1) := dk_62 (dk_at dksX8_nextOf_0 3 rfl rfl)
theorem dX8_nextOf_4 : decode cX8_nextOf 4 = .ok (.iload_n 3, 1) := dk_29 (dk_at dksX8_nextOf_0 4 rfl rfl)
theorem dX8_nextOf_5 : decode cX8_nextOf 5 = .ok (.aload_n 0, 1) := dk_42 (dk_at dksX8_nextOf_0 5 rfl rfl)
theorem dX8_nextOf_6 : decode cX8_nextOf 6 = .ok (.getfield 148, 3) := dk_180 0 148 (dk_at dksX8_nextOf_0 6 rfl rfl)
theorem dX8_nextOf_9 : decode cX8_nextOf 9 = .ok (.if_icmp .ge 128, 3) := dk_162 0 128 (dk_at dksX8_nextOf_0 9 rfl rfl)
theorem dX8_nextOf_12 : decode cX8_nextOf 12 = .ok (.aload_n 0, 1) := dk_42 (dk_at dksX8_nextOf_0 12 rfl rfl)
theorem dX8_nextOf_13 : decode cX8_nextOf 13 = .ok (.getfield 131, 3) := dk_180 0 131 (dk_at dksX8_nextOf_0 13 rfl rfl)
theorem dX8_nextOf_16 : decode cX8_nextOf 16 = .ok (.getfield 465, 3) := dk_180 1 209 (dk_at dksX8_nextOf_0 16 rfl rfl)
theorem dX8_nextOf_19 : decode cX8_nextOf 19 = .ok (.ifCond .eq 15, 3) := dk_153 0 15 (dk_at dksX8_nextOf_0 19 rfl rfl)
theorem dX8_nextOf_22 : decode cX8_nextOf 22 = .ok (.aload_n 0, 1) := dk_42 (dk_at dksX8_nextOf_0 22 rfl rfl)
theorem dX8_nextOf_23 : decode cX8_nextOf 23 = .ok (.getfield 135, 3) := dk_180 0 135 (dk_at dksX8_nextOf_1 0 rfl rfl)
theorem dX8_nextOf_26 : decode cX8_nextOf 26 = .ok (.getfield 212, 3) := dk_180 0 212 (dk_at dksX8_nextOf_1 3 rfl rfl)
theorem dX8_nextOf_29 : decode cX8_nextOf 29 = .ok (.iload_n 3, 1) := dk_29 (dk_at dksX8_nextOf_1 6 rfl rfl)
theorem dX8_nextOf_30 : decode cX8_nextOf 30 = .ok (.iaload, 1) := dk_46 (dk_at dksX8_nextOf_1 7 rfl rfl)
theorem dX8_nextOf_31 : decode cX8_nextOf 31 = .ok (.goto 4, 3) := dk_167 0 4 (dk_at dksX8_nextOf_1 8 rfl rfl)
theorem dX8_nextOf_34 : decode cX8_nextOf 34 = .ok (.iload_n 3, 1) := dk_29 (dk_at dksX8_nextOf_1 11 rfl rfl)
theorem dX8_nextOf_35 : decode cX8_nextOf 35 = .ok (.istore 4, 2) := dk_54 4 (dk_at dksX8_nextOf_1 12 rfl rfl)
theorem dX8_nextOf_37 : decode cX8_nextOf 37 = .ok (.aload_n 0, 1) := dk_42 (dk_at dksX8_nextOf_1 14 rfl rfl)
theorem dX8_nextOf_38 : decode cX8_nextOf 38 = .ok (.iload 4, 2) := dk_21 4 (dk_at dksX8_nextOf_1 15 rfl rfl)
theorem dX8_nextOf_40 : decode cX8_nextOf 40 = .ok (.invokevirtual 209, 3) := dk_182 0 209 (dk_at dksX8_nextOf_1 17 rfl rfl)
theorem dX8_nextOf_43 : decode cX8_nextOf 43 = .ok (.ifCond .eq 45, 3) := dk_153 0 45 (dk_at dksX8_nextOf_1 20 rfl rfl)
theorem dX8_nextOf_46 : decode cX8_nextOf 46 = .ok (.aload_n 0, 1) := dk_42 (dk_at dksX8_nextOf_1 23 rfl rfl)
theorem dX8_nextOf_47 : decode cX8_nextOf 47 = .ok (.iload 4, 2) := dk_21 4 (dk_at dksX8_nextOf_2 0 rfl rfl)
theorem dX8_nextOf_49 : decode cX8_nextOf 49 = .ok (.invokevirtual 195, 3) := dk_182 0 195 (dk_at dksX8_nextOf_2 2 rfl rfl)
theorem dX8_nextOf_52 : decode cX8_nextOf 52 = .ok (.iload_n 1, 1) := dk_27 (dk_at dksX8_nextOf_2 5 rfl rfl)
theorem dX8_nextOf_53 : decode cX8_nextOf 53 = .ok (.if_icmp .ne 35, 3) := dk_160 0 35 (dk_at dksX8_nextOf_2 6 rfl rfl)
theorem dX8_nextOf_56 : decode cX8_nextOf 56 = .ok (.aload_n 0, 1) := dk_42 (dk_at dksX8_nextOf_2 9 rfl rfl)
theorem dX8_nextOf_57 : decode cX8_nextOf 57 = .ok (.getfield 131, 3) := dk_180 0 131 (dk_at dksX8_nextOf_2 10 rfl rfl)
theorem dX8_nextOf_60 : decode cX8_nextOf 60 = .ok (.getfield 469, 3) := dk_180 1 213 (dk_at dksX8_nextOf_2 13 rfl rfl)
theorem dX8_nextOf_63 : decode cX8_nextOf 63 = .ok (.ifCond .eq 21, 3) := dk_153 0 21 (dk_at dksX8_nextOf_2 16 rfl rfl)
theorem dX8_nextOf_66 : decode cX8_nextOf 66 = .ok (.aload_n 0, 1) := dk_42 (dk_at dksX8_nextOf_2 19 rfl rfl)
theorem dX8_nextOf_67 : decode cX8_nextOf 67 = .ok (.getfield 125, 3) := dk_180 0 125 (dk_at dksX8_nextOf_2 20 rfl rfl)
theorem dX8_nextOf_70 : decode cX8_nextOf 70 = .ok (.aload_n 0, 1) := dk_42 (dk_at dksX8_nextOf_2 23 rfl rfl)
theorem dX8_nextOf_71 : decode cX8_nextOf 71 = .ok (.getfield 135, 3) := dk_180 0 135 (dk_at dksX8_nextOf_3 0 rfl rfl)
theorem dX8_nextOf_74 : decode cX8_nextOf 74 = .ok (.getfield 472, 3) := dk_180 1 216 (dk_at dksX8_nextOf_3 3 rfl rfl)
theorem dX8_nextOf_77 : decode cX8_nextOf 77 = .ok (.iload 4, 2) := dk_21 4 (dk_at dksX8_nextOf_3 6 rfl rfl)
theorem dX8_nextOf_79 : decode cX8_nextOf 79 = .ok (.iaload, 1) := dk_46 (dk_at dksX8_nextOf_3 8 rfl rfl)
theorem dX8_nextOf_80 : decode cX8_nextOf 80 = .ok (.baload, 1) := dk_51 (dk_at dksX8_nextOf_3 9 rfl rfl)
theorem dX8_nextOf_81 : decode cX8_nextOf 81 = .ok (.ifCond .ne 7, 3) := dk_154 0 7 (dk_at dksX8_nextOf_3 10 rfl rfl)
theorem dX8_nextOf_84 : decode cX8_nextOf 84 = .ok (.iconst 1, 1) := dk_4 (dk_at dksX8_nextOf_3 13 rfl rfl)
theorem dX8_nextOf_85 : decode cX8_nextOf 85 = .ok (.goto 4, 3) := dk_167 0 4 (dk_at dksX8_nextOf_3 14 rfl rfl)
theorem dX8_nextOf_88 : decode cX8_nextOf 88 = .ok (.iconst 0, 1) := dk_3 (dk_at dksX8_nextOf_3 17 rfl rfl)
theorem dX8_nextOf_89 : decode cX8_nextOf 89 = .ok (.istore 5, 2) := dk_54 5 (dk_at dksX8_nextOf_3 18 rfl rfl)
theorem dX8_nextOf_91 : decode cX8_nextOf 91 = .ok (.iload 5, 2) := dk_21 5 (dk_at dksX8_nextOf_3 20 rfl rfl)
theorem dX8_nextOf_93 : decode cX8_nextOf 93 = .ok (.ifCond .eq 38, 3) := dk_153 0 38 (dk_at dksX8_nextOf_4 0 rfl rfl)
theorem dX8_nextOf_96 : decode cX8_nextOf 96 = .ok (.iload_n 2, 1) := dk_28 (dk_at dksX8_nextOf_4 3 rfl rfl)
theorem dX8_nextOf_97 : decode cX8_nextOf 97 = .ok (.iconst (-1), 1) := dk_2 (dk_at dksX8_nextOf_4 4 rfl rfl)
theorem dX8_nextOf_98 : decode cX8_nextOf 98 = .ok (.if_icmp .eq 30, 3) := dk_159 0 30 (dk_at dksX8_nextOf_4 5 rfl rfl)
theorem dX8_nextOf_101 : decode cX8_nextOf 101 = .ok (.aload_n 0, 1) := dk_42 (dk_at dksX8_nextOf_4 8 rfl rfl)
theorem dX8_nextOf_102 : decode cX8_nextOf 102 = .ok (.getfield 131, 3) := dk_180 0 131 (dk_at dksX8_nextOf_4 9 rfl rfl)
theorem dX8_nextOf_105 : decode cX8_nextOf 105 = .ok (.getfield 465, 3) := dk_180 1 209 (dk_at dksX8_nextOf_4 12 rfl rfl)
theorem dX8_nextOf_108 : decode cX8_nextOf 108 = .ok (.ifCond .eq 23, 3) := dk_153 0 23 (dk_at dksX8_nextOf_4 15 rfl rfl)
theorem dX8_nextOf_111 : decode cX8_nextOf 111 = .ok (.aload_n 0, 1) := dk_42 (dk_at dksX8_nextOf_4 18 rfl rfl)
theorem dX8_nextOf_112 : decode cX8_nextOf 112 = .ok (.getfield 33, 3) := dk_180 0 33 (dk_at dksX8_nextOf_4 19 rfl rfl)
theorem dX8_nextOf_115 : decode cX8_nextOf 115 = .ok (.iload 4, 2) := dk_21 4 (dk_at dksX8_nextOf_4 22 rfl rfl)
theorem dX8_nextOf_117 : decode cX8_nextOf 117 = .ok (.laload, 1) := dk_47 (dk_at dksX8_nextOf_5 0 rfl rfl)
theorem dX8_nextOf_118 : decode cX8_nextOf 118 = .ok (.aload_n 0, 1) := dk_42 (dk_at dksX8_nextOf_5 1 rfl rfl)
theorem dX8_nextOf_119 : decode cX8_nextOf 119 = .ok (.getfield 33, 3) := dk_180 0 33 (dk_at dksX8_nextOf_5 2 rfl rfl)
theorem dX8_nextOf_122 : decode cX8_nextOf 122 = .ok (.iload_n 2, 1) := dk_28 (dk_at dksX8_nextOf_5 5 rfl rfl)
theorem dX8_nextOf_123 : decode cX8_nextOf 123 = .ok (.laload, 1) := dk_47 (dk_at dksX8_nextOf_5 6 rfl rfl)
theorem dX8_nextOf_124 : decode cX8_nextOf 124 = .ok (.lcmp, 1) := dk_148 (dk_at dksX8_nextOf_5 7 rfl rfl)
theorem dX8_nextOf_125 : decode cX8_nextOf 125 = .ok (.ifCond .le 6, 3) := dk_158 0 6 (dk_at dksX8_nextOf_5 8 rfl rfl)
theorem dX8_nextOf_128 : decode cX8_nextOf 128 = .ok (.iload 4, 2) := dk_21 4 (dk_at dksX8_nextOf_5 11 rfl rfl)
theorem dX8_nextOf_130 : decode cX8_nextOf 130 = .ok (.istore_n 2, 1) := dk_61 (dk_at dksX8_nextOf_5 13 rfl rfl)
theorem dX8_nextOf_131 : decode cX8_nextOf 131 = .ok (.iinc 3 1, 3) := dk_132 3 1 (dk_at dksX8_nextOf_5 14 rfl rfl)
theorem dX8_nextOf_134 : decode cX8_nextOf 134 = .ok (.goto (-130), 3) := dk_167 255 126 (dk_at dksX8_nextOf_5 17 rfl rfl)
theorem dX8_nextOf_137 : decode cX8_nextOf 137 = .ok (.iload_n 2, 1) := dk_28 (dk_at dksX8_nextOf_5 20 rfl rfl)
theorem dX8_nextOf_138 : decode cX8_nextOf 138 = .ok (.ireturn, 1) := dk_172 (dk_at dksX8_nextOf_5 21 rfl rfl)
abbrev cX8_isIn : ByteArray := prog_5_method_12_code
def yX8_isIn : MethodName := ⟨RX8, "isIn", "(I)Z"⟩
def dkwX8_isIn_1 : List UInt8 := [154, 0, 7, 4, 167, 0, 4, 3, 172]
abbrev dktX8_isIn_1 : List UInt8 := dkwX8_isIn_1 ++ []
def dkwX8_isIn_0 : List UInt8 := [42, 180, 0, 9, 27, 51, 153, 0, 25, 42, 180, 0, 51, 27, 51, 154, 0, 16, 42, 180, 0, 54, 27, 51]
abbrev dktX8_isIn_0 : List UInt8 := dkwX8_isIn_0 ++ dktX8_isIn_1
theorem dksX8_isIn_0 : cX8_isIn.data.toList.drop 0 = dktX8_isIn_0 := by decide +kernel
theorem dksX8_isIn_1 : cX8_isIn.data.toList.drop 24 = dktX8_isIn_1 := dk_seg dksX8_isIn_0 24 rfl rfl
theorem dX8_isIn_0 : decode cX8_isIn 0 = .ok (.aload_n 0, 1) := dk_42 (dk_at dksX8_isIn_0 0 rfl rfl)
theorem dX8_isIn_1 : decode cX8_isIn 1 = .ok (.getfield 9, 3) := dk_180 0 9 (dk_at dksX8_isIn_0 1 rfl rfl)
theorem dX8_isIn_4 : decode cX8_isIn 4 = .ok (.iload_n 1, 1) := dk_27 (dk_at dksX8_isIn_0 4 rfl rfl)
theorem dX8_isIn_5 : decode cX8_isIn 5 = .ok (.baload, 1) := dk_51 (dk_at dksX8_isIn_0 5 rfl rfl)
theorem dX8_isIn_6 : decode cX8_isIn 6 = .ok (.ifCond .eq 25, 3) := dk_153 0 25 (dk_at dksX8_isIn_0 6 rfl rfl)
theorem dX8_isIn_9 : decode cX8_isIn 9 = .ok (.aload_n 0, 1) := dk_42 (dk_at dksX8_isIn_0 9 rfl rfl)
theorem dX8_isIn_10 : decode cX8_isIn 10 = .ok (.getfield 51, 3) := dk_180 0 51 (dk_at dksX8_isIn_0 10 rfl rfl)
theorem dX8_isIn_13 : decode cX8_isIn 13 = .ok (.iload_n 1, 1) := dk_27 (dk_at dksX8_isIn_0 13 rfl rfl)
theorem dX8_isIn_14 : decode cX8_isIn 14 = .ok (.baload, 1) := dk_51 (dk_at dksX8_isIn_0 14 rfl rfl)
theorem dX8_isIn_15 : decode cX8_isIn 15 = .ok (.ifCond .ne 16, 3) := dk_154 0 16 (dk_at dksX8_isIn_0 15 rfl rfl)
theorem dX8_isIn_18 : decode cX8_isIn 18 = .ok (.aload_n 0, 1) := dk_42 (dk_at dksX8_isIn_0 18 rfl rfl)
theorem dX8_isIn_19 : decode cX8_isIn 19 = .ok (.getfield 54, 3) := dk_180 0 54 (dk_at dksX8_isIn_0 19 rfl rfl)
theorem dX8_isIn_22 : decode cX8_isIn 22 = .ok (.iload_n 1, 1) := dk_27 (dk_at dksX8_isIn_0 22 rfl rfl)
theorem dX8_isIn_23 : decode cX8_isIn 23 = .ok (.baload, 1) := dk_51 (dk_at dksX8_isIn_0 23 rfl rfl)
theorem dX8_isIn_24 : decode cX8_isIn 24 = .ok (.ifCond .ne 7, 3) := dk_154 0 7 (dk_at dksX8_isIn_1 0 rfl rfl)
theorem dX8_isIn_27 : decode cX8_isIn 27 = .ok (.iconst 1, 1) := dk_4 (dk_at dksX8_isIn_1 3 rfl rfl)
theorem dX8_isIn_28 : decode cX8_isIn 28 = .ok (.goto 4, 3) := dk_167 0 4 (dk_at dksX8_isIn_1 4 rfl rfl)
theorem dX8_isIn_31 : decode cX8_isIn 31 = .ok (.iconst 0, 1) := dk_3 (dk_at dksX8_isIn_1 7 rfl rfl)
theorem dX8_isIn_32 : decode cX8_isIn 32 = .ok (.ireturn, 1) := dk_172 (dk_at dksX8_isIn_1 8 rfl rfl)
abbrev cX8_elect : ByteArray := prog_5_method_14_code
def yX8_elect : MethodName := ⟨RX8, "elect", "(I)V"⟩
def dkwX8_elect_1 : List UInt8 := [27, 4, 84, 177]
abbrev dktX8_elect_1 : List UInt8 := dkwX8_elect_1 ++ []
def dkwX8_elect_0 : List UInt8 := [42, 180, 0, 48, 42, 180, 0, 167, 27, 79, 42, 89, 180, 0, 167, 4, 96, 181, 0, 167, 42, 180, 0, 51]
abbrev dktX8_elect_0 : List UInt8 := dkwX8_elect_0 ++ dktX8_elect_1
theorem dksX8_elect_0 : cX8_elect.data.toList.drop 0 = dktX8_elect_0 := by decide +kernel
theorem dksX8_elect_1 : cX8_elect.data.toList.drop 24 = dktX8_elect_1 := dk_seg dksX8_elect_0 24 rfl rfl
theorem dX8_elect_0 : decode cX8_elect 0 = .ok (.aload_n 0, 1) := dk_42 (dk_at dksX8_elect_0 0 rfl rfl)
theorem dX8_elect_1 : decode cX8_elect 1 = .ok (.getfield 48, 3) := dk_180 0 48 (dk_at dksX8_elect_0 1 rfl rfl)
theorem dX8_elect_4 : decode cX8_elect 4 = .ok (.aload_n 0, 1) := dk_42 (dk_at dksX8_elect_0 4 rfl rfl)
theorem dX8_elect_5 : decode cX8_elect 5 = .ok (.getfield 167, 3) := dk_180 0 167 (dk_at dksX8_elect_0 5 rfl rfl)
theorem dX8_elect_8 : decode cX8_elect 8 = .ok (.iload_n 1, 1) := dk_27 (dk_at dksX8_elect_0 8 rfl rfl)
theorem dX8_elect_9 : decode cX8_elect 9 = .ok (.iastore, 1) := dk_79 (dk_at dksX8_elect_0 9 rfl rfl)
theorem dX8_elect_10 : decode cX8_elect 10 = .ok (.aload_n 0, 1) := dk_42 (dk_at dksX8_elect_0 10 rfl rfl)
theorem dX8_elect_11 : decode cX8_elect 11 = .ok (.dup, 1) := dk_89 (dk_at dksX8_elect_0 11 rfl rfl)
theorem dX8_elect_12 : decode cX8_elect 12 = .ok (.getfield 167, 3) := dk_180 0 167 (dk_at dksX8_elect_0 12 rfl rfl)
theorem dX8_elect_15 : decode cX8_elect 15 = .ok (.iconst 1, 1) := dk_4 (dk_at dksX8_elect_0 15 rfl rfl)
theorem dX8_elect_16 : decode cX8_elect 16 = .ok (.iadd, 1) := dk_96 (dk_at dksX8_elect_0 16 rfl rfl)
theorem dX8_elect_17 : decode cX8_elect 17 = .ok (.putfield 167, 3) := dk_181 0 167 (dk_at dksX8_elect_0 17 rfl rfl)
theorem dX8_elect_20 : decode cX8_elect 20 = .ok (.aload_n 0, 1) := dk_42 (dk_at dksX8_elect_0 20 rfl rfl)
theorem dX8_elect_21 : decode cX8_elect 21 = .ok (.getfield 51, 3) := dk_180 0 51 (dk_at dksX8_elect_0 21 rfl rfl)
theorem dX8_elect_24 : decode cX8_elect 24 = .ok (.iload_n 1, 1) := dk_27 (dk_at dksX8_elect_1 0 rfl rfl)
theorem dX8_elect_25 : decode cX8_elect 25 = .ok (.iconst 1, 1) := dk_4 (dk_at dksX8_elect_1 1 rfl rfl)
theorem dX8_elect_26 : decode cX8_elect 26 = .ok (.bastore, 1) := dk_84 (dk_at dksX8_elect_1 2 rfl rfl)
theorem dX8_elect_27 : decode cX8_elect 27 = .ok (.return_, 1) := dk_177 (dk_at dksX8_elect_1 3 rfl rfl)
abbrev cX8_tellSeats : ByteArray := prog_5_method_77_code
def yX8_tellSeats : MethodName := ⟨RX8, "tellSeats", "()V"⟩
def dkwX8_tellSeats_3 : List UInt8 := [167, 255, 204, 132, 1, 1, 167, 255, 181, 42, 182, 0, 254, 177]
abbrev dktX8_tellSeats_3 : List UInt8 := dkwX8_tellSeats_3 ++ []
def dkwX8_tellSeats_2 : List UInt8 := [28, 46, 182, 0, 195, 42, 27, 182, 0, 195, 160, 0, 7, 10, 167, 0, 4, 9, 97, 80, 132, 2, 1]
abbrev dktX8_tellSeats_2 : List UInt8 := dkwX8_tellSeats_2 ++ dktX8_tellSeats_3
def dkwX8_tellSeats_1 : List UInt8 := [162, 0, 50, 42, 180, 0, 33, 27, 92, 47, 42, 180, 0, 9, 27, 51, 153, 0, 25, 42, 42, 180, 0, 48]
abbrev dktX8_tellSeats_1 : List UInt8 := dkwX8_tellSeats_1 ++ dktX8_tellSeats_2
def dkwX8_tellSeats_0 : List UInt8 := [3, 60, 27, 42, 180, 0, 148, 162, 0, 73, 42, 180, 0, 33, 27, 9, 80, 3, 61, 28, 42, 180, 0, 167]
abbrev dktX8_tellSeats_0 : List UInt8 := dkwX8_tellSeats_0 ++ dktX8_tellSeats_1
theorem dksX8_tellSeats_0 : cX8_tellSeats.data.toList.drop 0 = dktX8_tellSeats_0 := by decide +kernel
theorem dksX8_tellSeats_1 : cX8_tellSeats.data.toList.drop 24 = dktX8_tellSeats_1 := dk_seg dksX8_tellSeats_0 24 rfl rfl
theorem dksX8_tellSeats_2 : cX8_tellSeats.data.toList.drop 48 = dktX8_tellSeats_2 := dk_seg dksX8_tellSeats_1 24 rfl rfl
theorem dksX8_tellSeats_3 : cX8_tellSeats.data.toList.drop 71 = dktX8_tellSeats_3 := dk_seg dksX8_tellSeats_2 23 rfl rfl
theorem dX8_tellSeats_0 : decode cX8_tellSeats 0 = .ok (.iconst 0, 1) := dk_3 (dk_at dksX8_tellSeats_0 0 rfl rfl)
theorem dX8_tellSeats_1 : decode cX8_tellSeats 1 = .ok (.istore_n 1, 1) := dk_60 (dk_at dksX8_tellSeats_0 1 rfl rfl)
theorem dX8_tellSeats_2 : decode cX8_tellSeats 2 = .ok (.iload_n 1, 1) := dk_27 (dk_at dksX8_tellSeats_0 2 rfl rfl)
theorem dX8_tellSeats_3 : decode cX8_tellSeats 3 = .ok (.aload_n 0, 1) := dk_42 (dk_at dksX8_tellSeats_0 3 rfl rfl)
theorem dX8_tellSeats_4 : decode cX8_tellSeats 4 = .ok (.getfield 148, 3) := dk_180 0 148 (dk_at dksX8_tellSeats_0 4 rfl rfl)
theorem dX8_tellSeats_7 : decode cX8_tellSeats 7 = .ok (.if_icmp .ge 73, 3) := dk_162 0 73 (dk_at dksX8_tellSeats_0 7 rfl rfl)
theorem dX8_tellSeats_10 : decode cX8_tellSeats 10 = .ok (.aload_n 0, 1) := dk_42 (dk_at dksX8_tellSeats_0 10 rfl rfl)
theorem dX8_tellSeats_11 : decode cX8_tellSeats 11 = .ok (.getfield 33, 3) := dk_180 0 33 (dk_at dksX8_tellSeats_0 11 rfl rfl)
theorem dX8_tellSeats_14 : decode cX8_tellSeats 14 = .ok (.iload_n 1, 1) := dk_27 (dk_at dksX8_tellSeats_0 14 rfl rfl)
theorem dX8_tellSeats_15 : decode cX8_tellSeats 15 = .ok (.lconst 0, 1) := dk_9 (dk_at dksX8_tellSeats_0 15 rfl rfl)
theorem dX8_tellSeats_16 : decode cX8_tellSeats 16 = .ok (.lastore, 1) := dk_80 (dk_at dksX8_tellSeats_0 16 rfl rfl)
theorem dX8_tellSeats_17 : decode cX8_tellSeats 17 = .ok (.iconst 0, 1) := dk_3 (dk_at dksX8_tellSeats_0 17 rfl rfl)
theorem dX8_tellSeats_18 : decode cX8_tellSeats 18 = .ok (.istore_n 2, 1) := dk_61 (dk_at dksX8_tellSeats_0 18 rfl rfl)
theorem dX8_tellSeats_19 : decode cX8_tellSeats 19 = .ok (.iload_n 2, 1) := dk_28 (dk_at dksX8_tellSeats_0 19 rfl rfl)
theorem dX8_tellSeats_20 : decode cX8_tellSeats 20 = .ok (.aload_n 0, 1) := dk_42 (dk_at dksX8_tellSeats_0 20 rfl rfl)
theorem dX8_tellSeats_21 : decode cX8_tellSeats 21 = .ok (.getfield 167, 3) := dk_180 0 167 (dk_at dksX8_tellSeats_0 21 rfl rfl)
theorem dX8_tellSeats_24 : decode cX8_tellSeats 24 = .ok (.if_icmp .ge 50, 3) := dk_162 0 50 (dk_at dksX8_tellSeats_1 0 rfl rfl)
theorem dX8_tellSeats_27 : decode cX8_tellSeats 27 = .ok (.aload_n 0, 1) := dk_42 (dk_at dksX8_tellSeats_1 3 rfl rfl)
theorem dX8_tellSeats_28 : decode cX8_tellSeats 28 = .ok (.getfield 33, 3) := dk_180 0 33 (dk_at dksX8_tellSeats_1 4 rfl rfl)
theorem dX8_tellSeats_31 : decode cX8_tellSeats 31 = .ok (.iload_n 1, 1) := dk_27 (dk_at dksX8_tellSeats_1 7 rfl rfl)
theorem dX8_tellSeats_32 : decode cX8_tellSeats 32 = .ok (.dup2, 1) := dk_92 (dk_at dksX8_tellSeats_1 8 rfl rfl)
theorem dX8_tellSeats_33 : decode cX8_tellSeats 33 = .ok (.laload, 1) := dk_47 (dk_at dksX8_tellSeats_1 9 rfl rfl)
theorem dX8_tellSeats_34 : decode cX8_tellSeats 34 = .ok (.aload_n 0, 1) := dk_42 (dk_at dksX8_tellSeats_1 10 rfl rfl)
theorem dX8_tellSeats_35 : decode cX8_tellSeats 35 = .ok (.getfield 9, 3) := dk_180 0 9 (dk_at dksX8_tellSeats_1 11 rfl rfl)
theorem dX8_tellSeats_38 : decode cX8_tellSeats 38 = .ok (.iload_n 1, 1) := dk_27 (dk_at dksX8_tellSeats_1 14 rfl rfl)
theorem dX8_tellSeats_39 : decode cX8_tellSeats 39 = .ok (.baload, 1) := dk_51 (dk_at dksX8_tellSeats_1 15 rfl rfl)
theorem dX8_tellSeats_40 : decode cX8_tellSeats 40 = .ok (.ifCond .eq 25, 3) := dk_153 0 25 (dk_at dksX8_tellSeats_1 16 rfl rfl)
theorem dX8_tellSeats_43 : decode cX8_tellSeats 43 = .ok (.aload_n 0, 1) := dk_42 (dk_at dksX8_tellSeats_1 19 rfl rfl)
theorem dX8_tellSeats_44 : decode cX8_tellSeats 44 = .ok (.aload_n 0, 1) := dk_42 (dk_at dksX8_tellSeats_1 20 rfl rfl)
theorem dX8_tellSeats_45 : decode cX8_tellSeats 45 = .ok (.getfield 48, 3) := dk_180 0 48 (dk_at dksX8_tellSeats_1 21 rfl rfl)
theorem dX8_tellSeats_48 : decode cX8_tellSeats 48 = .ok (.iload_n 2, 1) := dk_28 (dk_at dksX8_tellSeats_2 0 rfl rfl)
theorem dX8_tellSeats_49 : decode cX8_tellSeats 49 = .ok (.iaload, 1) := dk_46 (dk_at dksX8_tellSeats_2 1 rfl rfl)
theorem dX8_tellSeats_50 : decode cX8_tellSeats 50 = .ok (.invokevirtual 195, 3) := dk_182 0 195 (dk_at dksX8_tellSeats_2 2 rfl rfl)
theorem dX8_tellSeats_53 : decode cX8_tellSeats 53 = .ok (.aload_n 0, 1) := dk_42 (dk_at dksX8_tellSeats_2 5 rfl rfl)
theorem dX8_tellSeats_54 : decode cX8_tellSeats 54 = .ok (.iload_n 1, 1) := dk_27 (dk_at dksX8_tellSeats_2 6 rfl rfl)
theorem dX8_tellSeats_55 : decode cX8_tellSeats 55 = .ok (.invokevirtual 195, 3) := dk_182 0 195 (dk_at dksX8_tellSeats_2 7 rfl rfl)
theorem dX8_tellSeats_58 : decode cX8_tellSeats 58 = .ok (.if_icmp .ne 7, 3) := dk_160 0 7 (dk_at dksX8_tellSeats_2 10 rfl rfl)
theorem dX8_tellSeats_61 : decode cX8_tellSeats 61 = .ok (.lconst 1, 1) := dk_10 (dk_at dksX8_tellSeats_2 13 rfl rfl)
theorem dX8_tellSeats_62 : decode cX8_tellSeats 62 = .ok (.goto 4, 3) := dk_167 0 4 (dk_at dksX8_tellSeats_2 14 rfl rfl)
theorem dX8_tellSeats_65 : decode cX8_tellSeats 65 = .ok (.lconst 0, 1) := dk_9 (dk_at dksX8_tellSeats_2 17 rfl rfl)
theorem dX8_tellSeats_66 : decode cX8_tellSeats 66 = .ok (.ladd, 1) := dk_97 (dk_at dksX8_tellSeats_2 18 rfl rfl)
theorem dX8_tellSeats_67 : decode cX8_tellSeats 67 = .ok (.lastore, 1) := dk_80 (dk_at dksX8_tellSeats_2 19 rfl rfl)
theorem dX8_tellSeats_68 : decode cX8_tellSeats 68 = .ok (.iinc 2 1, 3) := dk_132 2 1 (dk_at dksX8_tellSeats_2 20 rfl rfl)
theorem dX8_tellSeats_71 : decode cX8_tellSeats 71 = .ok (.goto (-52), 3) := dk_167 255 204 (dk_at dksX8_tellSeats_3 0 rfl rfl)
theorem dX8_tellSeats_74 : decode cX8_tellSeats 74 = .ok (.iinc 1 1, 3) := dk_132 1 1 (dk_at dksX8_tellSeats_3 3 rfl rfl)
theorem dX8_tellSeats_77 : decode cX8_tellSeats 77 = .ok (.goto (-75), 3) := dk_167 255 181 (dk_at dksX8_tellSeats_3 6 rfl rfl)
theorem dX8_tellSeats_80 : decode cX8_tellSeats 80 = .ok (.aload_n 0, 1) := dk_42 (dk_at dksX8_tellSeats_3 9 rfl rfl)
theorem dX8_tellSeats_81 : decode cX8_tellSeats 81 = .ok (.invokevirtual 254, 3) := dk_182 0 254 (dk_at dksX8_tellSeats_3 10 rfl rfl)
theorem dX8_tellSeats_84 : decode cX8_tellSeats 84 = .ok (.return_, 1) := dk_177 (dk_at dksX8_tellSeats_3 13 rfl rfl)
abbrev cX8_bySums : ByteArray := prog_5_method_23_code
def yX8_bySums : MethodName := ⟨RX8, "bySums", "()V"⟩
def dkwX8_bySums_1 : List UInt8 := [182, 0, 254, 42, 9, 182, 0, 227, 60, 177]
abbrev dktX8_bySums_1 : List UInt8 := dkwX8_bySums_1 ++ []
def dkwX8_bySums_0 : List UInt8 := [42, 180, 0, 131, 180, 0, 180, 8, 160, 0, 10, 42, 182, 0, 248, 167, 0, 7, 42, 182, 0, 251, 42]
abbrev dktX8_bySums_0 : List UInt8 := dkwX8_bySums_0 ++ dktX8_bySums_1
theorem dksX8_bySums_0 : cX8_bySums.data.toList.drop 0 = dktX8_bySums_0 := by decide +kernel
theorem dksX8_bySums_1 : cX8_bySums.data.toList.drop 23 = dktX8_bySums_1 := dk_seg dksX8_bySums_0 23 rfl rfl
theorem dX8_bySums_0 : decode cX8_bySums 0 = .ok (.aload_n 0, 1) := dk_42 (dk_at dksX8_bySums_0 0 rfl rfl)
theorem dX8_bySums_1 : decode cX8_bySums 1 = .ok (.getfield 131, 3) := dk_180 0 131 (dk_at dksX8_bySums_0 1 rfl rfl)
theorem dX8_bySums_4 : decode cX8_bySums 4 = .ok (.getfield 180, 3) := dk_180 0 180 (dk_at dksX8_bySums_0 4 rfl rfl)
theorem dX8_bySums_7 : decode cX8_bySums 7 = .ok (.iconst 5, 1) := dk_8 (dk_at dksX8_bySums_0 7 rfl rfl)
theorem dX8_bySums_8 : decode cX8_bySums 8 = .ok (.if_icmp .ne 10, 3) := dk_160 0 10 (dk_at dksX8_bySums_0 8 rfl rfl)
theorem dX8_bySums_11 : decode cX8_bySums 11 = .ok (.aload_n 0, 1) := dk_42 (dk_at dksX8_bySums_0 11 rfl rfl)
theorem dX8_bySums_12 : decode cX8_bySums 12 = .ok (.invokevirtual 248, 3) := dk_182 0 248 (dk_at dksX8_bySums_0 12 rfl rfl)
theorem dX8_bySums_15 : decode cX8_bySums 15 = .ok (.goto 7, 3) := dk_167 0 7 (dk_at dksX8_bySums_0 15 rfl rfl)
theorem dX8_bySums_18 : decode cX8_bySums 18 = .ok (.aload_n 0, 1) := dk_42 (dk_at dksX8_bySums_0 18 rfl rfl)
theorem dX8_bySums_19 : decode cX8_bySums 19 = .ok (.invokevirtual 251, 3) := dk_182 0 251 (dk_at dksX8_bySums_0 19 rfl rfl)
theorem dX8_bySums_22 : decode cX8_bySums 22 = .ok (.aload_n 0, 1) := dk_42 (dk_at dksX8_bySums_0 22 rfl rfl)
theorem dX8_bySums_23 : decode cX8_bySums 23 = .ok (.invokevirtual 254, 3) := dk_182 0 254 (dk_at dksX8_bySums_1 0 rfl rfl)
theorem dX8_bySums_26 : decode cX8_bySums 26 = .ok (.aload_n 0, 1) := dk_42 (dk_at dksX8_bySums_1 3 rfl rfl)
theorem dX8_bySums_27 : decode cX8_bySums 27 = .ok (.lconst 0, 1) := dk_9 (dk_at dksX8_bySums_1 4 rfl rfl)
theorem dX8_bySums_28 : decode cX8_bySums 28 = .ok (.invokevirtual 227, 3) := dk_182 0 227 (dk_at dksX8_bySums_1 5 rfl rfl)
theorem dX8_bySums_31 : decode cX8_bySums 31 = .ok (.istore_n 1, 1) := dk_60 (dk_at dksX8_bySums_1 8 rfl rfl)
theorem dX8_bySums_32 : decode cX8_bySums 32 = .ok (.return_, 1) := dk_177 (dk_at dksX8_bySums_1 9 rfl rfl)
abbrev cX8_places : ByteArray := prog_5_method_22_code
def yX8_places : MethodName := ⟨RX8, "places", "()V"⟩
def dkwX8_places_2 : List UInt8 := [42, 180, 0, 149, 4, 100, 28, 100, 133, 97, 80, 132, 2, 1, 167, 255, 218, 132, 1, 1, 167, 255, 202, 177]
abbrev dktX8_places_2 : List UInt8 := dkwX8_places_2 ++ []
def dkwX8_places_1 : List UInt8 := [28, 42, 180, 0, 29, 27, 46, 162, 0, 34, 42, 180, 0, 33, 42, 180, 0, 26, 27, 50, 28, 46, 92, 47]
abbrev dktX8_places_1 : List UInt8 := dkwX8_places_1 ++ dktX8_places_2
def dkwX8_places_0 : List UInt8 := [42, 182, 0, 239, 42, 180, 0, 33, 9, 184, 0, 242, 3, 60, 27, 42, 180, 0, 155, 162, 0, 52, 3, 61]
abbrev dktX8_places_0 : List UInt8 := dkwX8_places_0 ++ dktX8_places_1
theorem dksX8_places_0 : cX8_places.data.toList.drop 0 = dktX8_places_0 := by decide +kernel
theorem dksX8_places_1 : cX8_places.data.toList.drop 24 = dktX8_places_1 := dk_seg dksX8_places_0 24 rfl rfl
theorem dksX8_places_2 : cX8_places.data.toList.drop 48 = dktX8_places_2 := dk_seg dksX8_places_1 24 rfl rfl
theorem dX8_places_0 : decode cX8_places 0 = .ok (.aload_n 0, 1) := dk_42 (dk_at dksX8_places_0 0 rfl rfl)
theorem dX8_places_1 : decode cX8_places 1 = .ok (.invokevirtual 239, 3) := dk_182 0 239 (dk_at dksX8_places_0 1 rfl rfl)
theorem dX8_places_4 : decode cX8_places 4 = .ok (.aload_n 0, 1) := dk_42 (dk_at dksX8_places_0 4 rfl rfl)
theorem dX8_places_5 : decode cX8_places 5 = .ok (.getfield 33, 3) := dk_180 0 33 (dk_at dksX8_places_0 5 rfl rfl)
theorem dX8_places_8 : decode cX8_places 8 = .ok (.lconst 0, 1) := dk_9 (dk_at dksX8_places_0 8 rfl rfl)
theorem dX8_places_9 : decode cX8_places 9 = .ok (.invokestatic 242, 3) := dk_184 0 242 (dk_at dksX8_places_0 9 rfl rfl)
theorem dX8_places_12 : decode cX8_places 12 = .ok (.iconst 0, 1) := dk_3 (dk_at dksX8_places_0 12 rfl rfl)
theorem dX8_places_13 : decode cX8_places 13 = .ok (.istore_n 1, 1) := dk_60 (dk_at dksX8_places_0 13 rfl rfl)
theorem dX8_places_14 : decode cX8_places 14 = .ok (.iload_n 1, 1) := dk_27 (dk_at dksX8_places_0 14 rfl rfl)
theorem dX8_places_15 : decode cX8_places 15 = .ok (.aload_n 0, 1) := dk_42 (dk_at dksX8_places_0 15 rfl rfl)
theorem dX8_places_16 : decode cX8_places 16 = .ok (.getfield 155, 3) := dk_180 0 155 (dk_at dksX8_places_0 16 rfl rfl)
theorem dX8_places_19 : decode cX8_places 19 = .ok (.if_icmp .ge 52, 3) := dk_162 0 52 (dk_at dksX8_places_0 19 rfl rfl)
theorem dX8_places_22 : decode cX8_places 22 = .ok (.iconst 0, 1) := dk_3 (dk_at dksX8_places_0 22 rfl rfl)
theorem dX8_places_23 : decode cX8_places 23 = .ok (.istore_n 2, 1) := dk_61 (dk_at dksX8_places_0 23 rfl rfl)
theorem dX8_places_24 : decode cX8_places 24 = .ok (.iload_n 2, 1) := dk_28 (dk_at dksX8_places_1 0 rfl rfl)
theorem dX8_places_25 : decode cX8_places 25 = .ok (.aload_n 0, 1) := dk_42 (dk_at dksX8_places_1 1 rfl rfl)
theorem dX8_places_26 : decode cX8_places 26 = .ok (.getfield 29, 3) := dk_180 0 29 (dk_at dksX8_places_1 2 rfl rfl)
theorem dX8_places_29 : decode cX8_places 29 = .ok (.iload_n 1, 1) := dk_27 (dk_at dksX8_places_1 5 rfl rfl)
theorem dX8_places_30 : decode cX8_places 30 = .ok (.iaload, 1) := dk_46 (dk_at dksX8_places_1 6 rfl rfl)
theorem dX8_places_31 : decode cX8_places 31 = .ok (.if_icmp .ge 34, 3) := dk_162 0 34 (dk_at dksX8_places_1 7 rfl rfl)
theorem dX8_places_34 : decode cX8_places 34 = .ok (.aload_n 0, 1) := dk_42 (dk_at dksX8_places_1 10 rfl rfl)
theorem dX8_places_35 : decode cX8_places 35 = .ok (.getfield 33, 3) := dk_180 0 33 (dk_at dksX8_places_1 11 rfl rfl)
theorem dX8_places_38 : decode cX8_places 38 = .ok (.aload_n 0, 1) := dk_42 (dk_at dksX8_places_1 14 rfl rfl)
theorem dX8_places_39 : decode cX8_places 39 = .ok (.getfield 26, 3) := dk_180 0 26 (dk_at dksX8_places_1 15 rfl rfl)
theorem dX8_places_42 : decode cX8_places 42 = .ok (.iload_n 1, 1) := dk_27 (dk_at dksX8_places_1 18 rfl rfl)
theorem dX8_places_43 : decode cX8_places 43 = .ok (.aaload, 1) := dk_50 (dk_at dksX8_places_1 19 rfl rfl)
theorem dX8_places_44 : decode cX8_places 44 = .ok (.iload_n 2, 1) := dk_28 (dk_at dksX8_places_1 20 rfl rfl)
theorem dX8_places_45 : decode cX8_places 45 = .ok (.iaload, 1) := dk_46 (dk_at dksX8_places_1 21 rfl rfl)
theorem dX8_places_46 : decode cX8_places 46 = .ok (.dup2, 1) := dk_92 (dk_at dksX8_places_1 22 rfl rfl)
theorem dX8_places_47 : decode cX8_places 47 = .ok (.laload, 1) := dk_47 (dk_at dksX8_places_1 23 rfl rfl)
theorem dX8_places_48 : decode cX8_places 48 = .ok (.aload_n 0, 1) := dk_42 (dk_at dksX8_places_2 0 rfl rfl)
theorem dX8_places_49 : decode cX8_places 49 = .ok (.getfield 149, 3) := dk_180 0 149 (dk_at dksX8_places_2 1 rfl rfl)
theorem dX8_places_52 : decode cX8_places 52 = .ok (.iconst 1, 1) := dk_4 (dk_at dksX8_places_2 4 rfl rfl)
theorem dX8_places_53 : decode cX8_places 53 = .ok (.isub, 1) := dk_100 (dk_at dksX8_places_2 5 rfl rfl)
theorem dX8_places_54 : decode cX8_places 54 = .ok (.iload_n 2, 1) := dk_28 (dk_at dksX8_places_2 6 rfl rfl)
theorem dX8_places_55 : decode cX8_places 55 = .ok (.isub, 1) := dk_100 (dk_at dksX8_places_2 7 rfl rfl)
theorem dX8_places_56 : decode cX8_places 56 = .ok (.i2l, 1) := dk_133 (dk_at dksX8_places_2 8 rfl rfl)
theorem dX8_places_57 : decode cX8_places 57 = .ok (.ladd, 1) := dk_97 (dk_at dksX8_places_2 9 rfl rfl)
theorem dX8_places_58 : decode cX8_places 58 = .ok (.lastore, 1) := dk_80 (dk_at dksX8_places_2 10 rfl rfl)
theorem dX8_places_59 : decode cX8_places 59 = .ok (.iinc 2 1, 3) := dk_132 2 1 (dk_at dksX8_places_2 11 rfl rfl)
theorem dX8_places_62 : decode cX8_places 62 = .ok (.goto (-38), 3) := dk_167 255 218 (dk_at dksX8_places_2 14 rfl rfl)
theorem dX8_places_65 : decode cX8_places 65 = .ok (.iinc 1 1, 3) := dk_132 1 1 (dk_at dksX8_places_2 17 rfl rfl)
theorem dX8_places_68 : decode cX8_places 68 = .ok (.goto (-54), 3) := dk_167 255 202 (dk_at dksX8_places_2 20 rfl rfl)
theorem dX8_places_71 : decode cX8_places 71 = .ok (.return_, 1) := dk_177 (dk_at dksX8_places_2 23 rfl rfl)
abbrev cX8_rankAll : ByteArray := prog_5_method_9_code
def yX8_rankAll : MethodName := ⟨RX8, "rankAll", "()V"⟩
def dkwX8_rankAll_2 : List UInt8 := [167, 255, 212, 177]
abbrev dktX8_rankAll_2 : List UInt8 := dkwX8_rankAll_2 ++ []
def dkwX8_rankAll_1 : List UInt8 := [184, 0, 203, 42, 180, 0, 29, 27, 42, 42, 180, 0, 26, 27, 50, 182, 0, 187, 79, 132, 1, 1]
abbrev dktX8_rankAll_1 : List UInt8 := dkwX8_rankAll_1 ++ dktX8_rankAll_2
def dkwX8_rankAll_0 : List UInt8 := [3, 60, 27, 42, 180, 0, 155, 162, 0, 42, 42, 180, 0, 17, 27, 50, 3, 42, 180, 0, 20, 3, 16, 9]
abbrev dktX8_rankAll_0 : List UInt8 := dkwX8_rankAll_0 ++ dktX8_rankAll_1
theorem dksX8_rankAll_0 : cX8_rankAll.data.toList.drop 0 = dktX8_rankAll_0 := by decide +kernel
theorem dksX8_rankAll_1 : cX8_rankAll.data.toList.drop 24 = dktX8_rankAll_1 := dk_seg dksX8_rankAll_0 24 rfl rfl
theorem dksX8_rankAll_2 : cX8_rankAll.data.toList.drop 46 = dktX8_rankAll_2 := dk_seg dksX8_rankAll_1 22 rfl rfl
theorem dX8_rankAll_0 : decode cX8_rankAll 0 = .ok (.iconst 0, 1) := dk_3 (dk_at dksX8_rankAll_0 0 rfl rfl)
theorem dX8_rankAll_1 : decode cX8_rankAll 1 = .ok (.istore_n 1, 1) := dk_60 (dk_at dksX8_rankAll_0 1 rfl rfl)
theorem dX8_rankAll_2 : decode cX8_rankAll 2 = .ok (.iload_n 1, 1) := dk_27 (dk_at dksX8_rankAll_0 2 rfl rfl)
theorem dX8_rankAll_3 : decode cX8_rankAll 3 = .ok (.aload_n 0, 1) := dk_42 (dk_at dksX8_rankAll_0 3 rfl rfl)
theorem dX8_rankAll_4 : decode cX8_rankAll 4 = .ok (.getfield 155, 3) := dk_180 0 155 (dk_at dksX8_rankAll_0 4 rfl rfl)
theorem dX8_rankAll_7 : decode cX8_rankAll 7 = .ok (.if_icmp .ge 42, 3) := dk_162 0 42 (dk_at dksX8_rankAll_0 7 rfl rfl)
theorem dX8_rankAll_10 : decode cX8_rankAll 10 = .ok (.aload_n 0, 1) := dk_42 (dk_at dksX8_rankAll_0 10 rfl rfl)
theorem dX8_rankAll_11 : decode cX8_rankAll 11 = .ok (.getfield 17, 3) := dk_180 0 17 (dk_at dksX8_rankAll_0 11 rfl rfl)
theorem dX8_rankAll_14 : decode cX8_rankAll 14 = .ok (.iload_n 1, 1) := dk_27 (dk_at dksX8_rankAll_0 14 rfl rfl)
theorem dX8_rankAll_15 : decode cX8_rankAll 15 = .ok (.aaload, 1) := dk_50 (dk_at dksX8_rankAll_0 15 rfl rfl)
theorem dX8_rankAll_16 : decode cX8_rankAll 16 = .ok (.iconst 0, 1) := dk_3 (dk_at dksX8_rankAll_0 16 rfl rfl)
theorem dX8_rankAll_17 : decode cX8_rankAll 17 = .ok (.aload_n 0, 1) := dk_42 (dk_at dksX8_rankAll_0 17 rfl rfl)
theorem dX8_rankAll_18 : decode cX8_rankAll 18 = .ok (.getfield 20, 3) := dk_180 0 20 (dk_at dksX8_rankAll_0 18 rfl rfl)
theorem dX8_rankAll_21 : decode cX8_rankAll 21 = .ok (.iconst 0, 1) := dk_3 (dk_at dksX8_rankAll_0 21 rfl rfl)
theorem dX8_rankAll_22 : decode cX8_rankAll 22 = .ok (.bipush 9, 2) := dk_16 9 (dk_at dksX8_rankAll_0 22 rfl rfl)
theorem dX8_rankAll_24 : decode cX8_rankAll 24 = .ok (.invokestatic 203, 3) := dk_184 0 203 (dk_at dksX8_rankAll_1 0 rfl rfl)
theorem dX8_rankAll_27 : decode cX8_rankAll 27 = .ok (.aload_n 0, 1) := dk_42 (dk_at dksX8_rankAll_1 3 rfl rfl)
theorem dX8_rankAll_28 : decode cX8_rankAll 28 = .ok (.getfield 29, 3) := dk_180 0 29 (dk_at dksX8_rankAll_1 4 rfl rfl)
theorem dX8_rankAll_31 : decode cX8_rankAll 31 = .ok (.iload_n 1, 1) := dk_27 (dk_at dksX8_rankAll_1 7 rfl rfl)
theorem dX8_rankAll_32 : decode cX8_rankAll 32 = .ok (.aload_n 0, 1) := dk_42 (dk_at dksX8_rankAll_1 8 rfl rfl)
theorem dX8_rankAll_33 : decode cX8_rankAll 33 = .ok (.aload_n 0, 1) := dk_42 (dk_at dksX8_rankAll_1 9 rfl rfl)
theorem dX8_rankAll_34 : decode cX8_rankAll 34 = .ok (.getfield 26, 3) := dk_180 0 26 (dk_at dksX8_rankAll_1 10 rfl rfl)
theorem dX8_rankAll_37 : decode cX8_rankAll 37 = .ok (.iload_n 1, 1) := dk_27 (dk_at dksX8_rankAll_1 13 rfl rfl)
theorem dX8_rankAll_38 : decode cX8_rankAll 38 = .ok (.aaload, 1) := dk_50 (dk_at dksX8_rankAll_1 14 rfl rfl)
theorem dX8_rankAll_39 : decode cX8_rankAll 39 = .ok (.invokevirtual 187, 3) := dk_182 0 187 (dk_at dksX8_rankAll_1 15 rfl rfl)
theorem dX8_rankAll_42 : decode cX8_rankAll 42 = .ok (.iastore, 1) := dk_79 (dk_at dksX8_rankAll_1 18 rfl rfl)
theorem dX8_rankAll_43 : decode cX8_rankAll 43 = .ok (.iinc 1 1, 3) := dk_132 1 1 (dk_at dksX8_rankAll_1 19 rfl rfl)
theorem dX8_rankAll_46 : decode cX8_rankAll 46 = .ok (.goto (-44), 3) := dk_167 255 212 (dk_at dksX8_rankAll_2 0 rfl rfl)
theorem dX8_rankAll_49 : decode cX8_rankAll 49 = .ok (.return_, 1) := dk_177 (dk_at dksX8_rankAll_2 3 rfl rfl)
abbrev cX8_sums : ByteArray := prog_5_method_21_code
def yX8_sums : MethodName := ⟨RX8, "sums", "()V"⟩
def dkwX8_sums_3 : List UInt8 := [167, 0, 4, 9, 97, 80, 132, 2, 1, 167, 255, 197, 132, 1, 1, 167, 255, 174, 177]
abbrev dktX8_sums_3 : List UInt8 := dkwX8_sums_3 ++ []
def dkwX8_sums_2 : List UInt8 := [180, 0, 17, 28, 50, 27, 51, 133, 167, 0, 19, 42, 180, 0, 17, 28, 50, 27, 51, 158, 0, 7, 10]
abbrev dktX8_sums_2 : List UInt8 := dkwX8_sums_2 ++ dktX8_sums_3
def dkwX8_sums_1 : List UInt8 := [162, 0, 57, 42, 180, 0, 33, 27, 92, 47, 42, 180, 0, 131, 180, 0, 180, 6, 160, 0, 15, 42]
abbrev dktX8_sums_1 : List UInt8 := dkwX8_sums_1 ++ dktX8_sums_2
def dkwX8_sums_0 : List UInt8 := [3, 60, 27, 42, 180, 0, 148, 162, 0, 80, 42, 180, 0, 33, 27, 9, 80, 3, 61, 28, 42, 180, 0, 155]
abbrev dktX8_sums_0 : List UInt8 := dkwX8_sums_0 ++ dktX8_sums_1
theorem dksX8_sums_0 : cX8_sums.data.toList.drop 0 = dktX8_sums_0 := by decide +kernel
theorem dksX8_sums_1 : cX8_sums.data.toList.drop 24 = dktX8_sums_1 := dk_seg dksX8_sums_0 24 rfl rfl
theorem dksX8_sums_2 : cX8_sums.data.toList.drop 46 = dktX8_sums_2 := dk_seg dksX8_sums_1 22 rfl rfl
theorem dksX8_sums_3 : cX8_sums.data.toList.drop 69 = dktX8_sums_3 := dk_seg dksX8_sums_2 23 rfl rfl
theorem dX8_sums_0 : decode cX8_sums 0 = .ok (.iconst 0, 1) := dk_3 (dk_at dksX8_sums_0 0 rfl rfl)
theorem dX8_sums_1 : decode cX8_sums 1 = .ok (.istore_n 1, 1) := dk_60 (dk_at dksX8_sums_0 1 rfl rfl)
theorem dX8_sums_2 : decode cX8_sums 2 = .ok (.iload_n 1, 1) := dk_27 (dk_at dksX8_sums_0 2 rfl rfl)
theorem dX8_sums_3 : decode cX8_sums 3 = .ok (.aload_n 0, 1) := dk_42 (dk_at dksX8_sums_0 3 rfl rfl)
theorem dX8_sums_4 : decode cX8_sums 4 = .ok (.getfield 148, 3) := dk_180 0 148 (dk_at dksX8_sums_0 4 rfl rfl)
theorem dX8_sums_7 : decode cX8_sums 7 = .ok (.if_icmp .ge 80, 3) := dk_162 0 80 (dk_at dksX8_sums_0 7 rfl rfl)
theorem dX8_sums_10 : decode cX8_sums 10 = .ok (.aload_n 0, 1) := dk_42 (dk_at dksX8_sums_0 10 rfl rfl)
theorem dX8_sums_11 : decode cX8_sums 11 = .ok (.getfield 33, 3) := dk_180 0 33 (dk_at dksX8_sums_0 11 rfl rfl)
theorem dX8_sums_14 : decode cX8_sums 14 = .ok (.iload_n 1, 1) := dk_27 (dk_at dksX8_sums_0 14 rfl rfl)
theorem dX8_sums_15 : decode cX8_sums 15 = .ok (.lconst 0, 1) := dk_9 (dk_at dksX8_sums_0 15 rfl rfl)
theorem dX8_sums_16 : decode cX8_sums 16 = .ok (.lastore, 1) := dk_80 (dk_at dksX8_sums_0 16 rfl rfl)
theorem dX8_sums_17 : decode cX8_sums 17 = .ok (.iconst 0, 1) := dk_3 (dk_at dksX8_sums_0 17 rfl rfl)
theorem dX8_sums_18 : decode cX8_sums 18 = .ok (.istore_n 2, 1) := dk_61 (dk_at dksX8_sums_0 18 rfl rfl)
theorem dX8_sums_19 : decode cX8_sums 19 = .ok (.iload_n 2, 1) := dk_28 (dk_at dksX8_sums_0 19 rfl rfl)
theorem dX8_sums_20 : decode cX8_sums 20 = .ok (.aload_n 0, 1) := dk_42 (dk_at dksX8_sums_0 20 rfl rfl)
theorem dX8_sums_21 : decode cX8_sums 21 = .ok (.getfield 155, 3) := dk_180 0 155 (dk_at dksX8_sums_0 21 rfl rfl)
theorem dX8_sums_24 : decode cX8_sums 24 = .ok (.if_icmp .ge 57, 3) := dk_162 0 57 (dk_at dksX8_sums_1 0 rfl rfl)
theorem dX8_sums_27 : decode cX8_sums 27 = .ok (.aload_n 0, 1) := dk_42 (dk_at dksX8_sums_1 3 rfl rfl)
theorem dX8_sums_28 : decode cX8_sums 28 = .ok (.getfield 33, 3) := dk_180 0 33 (dk_at dksX8_sums_1 4 rfl rfl)
theorem dX8_sums_31 : decode cX8_sums 31 = .ok (.iload_n 1, 1) := dk_27 (dk_at dksX8_sums_1 7 rfl rfl)
theorem dX8_sums_32 : decode cX8_sums 32 = .ok (.dup2, 1) := dk_92 (dk_at dksX8_sums_1 8 rfl rfl)
theorem dX8_sums_33 : decode cX8_sums 33 = .ok (.laload, 1) := dk_47 (dk_at dksX8_sums_1 9 rfl rfl)
theorem dX8_sums_34 : decode cX8_sums 34 = .ok (.aload_n 0, 1) := dk_42 (dk_at dksX8_sums_1 10 rfl rfl)
theorem dX8_sums_35 : decode cX8_sums 35 = .ok (.getfield 131, 3) := dk_180 0 131 (dk_at dksX8_sums_1 11 rfl rfl)
theorem dX8_sums_38 : decode cX8_sums 38 = .ok (.getfield 180, 3) := dk_180 0 180 (dk_at dksX8_sums_1 14 rfl rfl)
theorem dX8_sums_41 : decode cX8_sums 41 = .ok (.iconst 3, 1) := dk_6 (dk_at dksX8_sums_1 17 rfl rfl)
theorem dX8_sums_42 : decode cX8_sums 42 = .ok (.if_icmp .ne 15, 3) := dk_160 0 15 (dk_at dksX8_sums_1 18 rfl rfl)
theorem dX8_sums_45 : decode cX8_sums 45 = .ok (.aload_n 0, 1) := dk_42 (dk_at dksX8_sums_1 21 rfl rfl)
theorem dX8_sums_46 : decode cX8_sums 46 = .ok (.getfield 17, 3) := dk_180 0 17 (dk_at dksX8_sums_2 0 rfl rfl)
theorem dX8_sums_49 : decode cX8_sums 49 = .ok (.iload_n 2, 1) := dk_28 (dk_at dksX8_sums_2 3 rfl rfl)
theorem dX8_sums_50 : decode cX8_sums 50 = .ok (.aaload, 1) := dk_50 (dk_at dksX8_sums_2 4 rfl rfl)
theorem dX8_sums_51 : decode cX8_sums 51 = .ok (.iload_n 1, 1) := dk_27 (dk_at dksX8_sums_2 5 rfl rfl)
theorem dX8_sums_52 : decode cX8_sums 52 = .ok (.baload, 1) := dk_51 (dk_at dksX8_sums_2 6 rfl rfl)
theorem dX8_sums_53 : decode cX8_sums 53 = .ok (.i2l, 1) := dk_133 (dk_at dksX8_sums_2 7 rfl rfl)
theorem dX8_sums_54 : decode cX8_sums 54 = .ok (.goto 19, 3) := dk_167 0 19 (dk_at dksX8_sums_2 8 rfl rfl)
theorem dX8_sums_57 : decode cX8_sums 57 = .ok (.aload_n 0, 1) := dk_42 (dk_at dksX8_sums_2 11 rfl rfl)
theorem dX8_sums_58 : decode cX8_sums 58 = .ok (.getfield 17, 3) := dk_180 0 17 (dk_at dksX8_sums_2 12 rfl rfl)
theorem dX8_sums_61 : decode cX8_sums 61 = .ok (.iload_n 2, 1) := dk_28 (dk_at dksX8_sums_2 15 rfl rfl)
theorem dX8_sums_62 : decode cX8_sums 62 = .ok (.aaload, 1) := dk_50 (dk_at dksX8_sums_2 16 rfl rfl)
theorem dX8_sums_63 : decode cX8_sums 63 = .ok (.iload_n 1, 1) := dk_27 (dk_at dksX8_sums_2 17 rfl rfl)
theorem dX8_sums_64 : decode cX8_sums 64 = .ok (.baload, 1) := dk_51 (dk_at dksX8_sums_2 18 rfl rfl)
theorem dX8_sums_65 : decode cX8_sums 65 = .ok (.ifCond .le 7, 3) := dk_158 0 7 (dk_at dksX8_sums_2 19 rfl rfl)
theorem dX8_sums_68 : decode cX8_sums 68 = .ok (.lconst 1, 1) := dk_10 (dk_at dksX8_sums_2 22 rfl rfl)
theorem dX8_sums_69 : decode cX8_sums 69 = .ok (.goto 4, 3) := dk_167 0 4 (dk_at dksX8_sums_3 0 rfl rfl)
theorem dX8_sums_72 : decode cX8_sums 72 = .ok (.lconst 0, 1) := dk_9 (dk_at dksX8_sums_3 3 rfl rfl)
theorem dX8_sums_73 : decode cX8_sums 73 = .ok (.ladd, 1) := dk_97 (dk_at dksX8_sums_3 4 rfl rfl)
theorem dX8_sums_74 : decode cX8_sums 74 = .ok (.lastore, 1) := dk_80 (dk_at dksX8_sums_3 5 rfl rfl)
theorem dX8_sums_75 : decode cX8_sums 75 = .ok (.iinc 2 1, 3) := dk_132 2 1 (dk_at dksX8_sums_3 6 rfl rfl)
theorem dX8_sums_78 : decode cX8_sums 78 = .ok (.goto (-59), 3) := dk_167 255 197 (dk_at dksX8_sums_3 9 rfl rfl)
theorem dX8_sums_81 : decode cX8_sums 81 = .ok (.iinc 1 1, 3) := dk_132 1 1 (dk_at dksX8_sums_3 12 rfl rfl)
theorem dX8_sums_84 : decode cX8_sums 84 = .ok (.goto (-82), 3) := dk_167 255 174 (dk_at dksX8_sums_3 15 rfl rfl)
theorem dX8_sums_87 : decode cX8_sums 87 = .ok (.return_, 1) := dk_177 (dk_at dksX8_sums_3 18 rfl rfl)
abbrev cX8_electAll : ByteArray := prog_5_method_16_code
def yX8_electAll : MethodName := ⟨RX8, "electAll", "(J)Z"⟩
def dkwX8_electAll_2 : List UInt8 := [29, 172]
abbrev dktX8_electAll_2 : List UInt8 := dkwX8_electAll_2 ++ []
def dkwX8_electAll_1 : List UInt8 := [180, 0, 185, 162, 0, 21, 42, 21, 4, 182, 0, 219, 4, 62, 42, 31, 182, 0, 215, 54, 4, 167, 255, 221]
abbrev dktX8_electAll_1 : List UInt8 := dkwX8_electAll_1 ++ dktX8_electAll_2
def dkwX8_electAll_0 : List UInt8 := [3, 62, 42, 31, 182, 0, 215, 54, 4, 21, 4, 2, 159, 0, 35, 42, 180, 0, 167, 42, 180, 0, 131]
abbrev dktX8_electAll_0 : List UInt8 := dkwX8_electAll_0 ++ dktX8_electAll_1
theorem dksX8_electAll_0 : cX8_electAll.data.toList.drop 0 = dktX8_electAll_0 := by decide +kernel
theorem dksX8_electAll_1 : cX8_electAll.data.toList.drop 23 = dktX8_electAll_1 := dk_seg dksX8_electAll_0 23 rfl rfl
theorem dksX8_electAll_2 : cX8_electAll.data.toList.drop 47 = dktX8_electAll_2 := dk_seg dksX8_electAll_1 24 rfl rfl
theorem dX8_electAll_0 : decode cX8_electAll 0 = .ok (.iconst 0, 1) := dk_3 (dk_at dksX8_electAll_0 0 rfl rfl)
theorem dX8_electAll_1 : decode cX8_electAll 1 = .ok (.istore_n 3, 1) := dk_62 (dk_at dksX8_electAll_0 1 rfl rfl)
theorem dX8_electAll_2 : decode cX8_electAll 2 = .ok (.aload_n 0, 1) := dk_42 (dk_at dksX8_electAll_0 2 rfl rfl)
theorem dX8_electAll_3 : decode cX8_electAll 3 = .ok (.lload_n 1, 1) := dk_31 (dk_at dksX8_electAll_0 3 rfl rfl)
theorem dX8_electAll_4 : decode cX8_electAll 4 = .ok (.invokevirtual 215, 3) := dk_182 0 215 (dk_at dksX8_electAll_0 4 rfl rfl)
theorem dX8_electAll_7 : decode cX8_electAll 7 = .ok (.istore 4, 2) := dk_54 4 (dk_at dksX8_electAll_0 7 rfl rfl)
theorem dX8_electAll_9 : decode cX8_electAll 9 = .ok (.iload 4, 2) := dk_21 4 (dk_at dksX8_electAll_0 9 rfl rfl)
theorem dX8_electAll_11 : decode cX8_electAll 11 = .ok (.iconst (-1), 1) := dk_2 (dk_at dksX8_electAll_0 11 rfl rfl)
theorem dX8_electAll_12 : decode cX8_electAll 12 = .ok (.if_icmp .eq 35, 3) := dk_159 0 35 (dk_at dksX8_electAll_0 12 rfl rfl)
theorem dX8_electAll_15 : decode cX8_electAll 15 = .ok (.aload_n 0, 1) := dk_42 (dk_at dksX8_electAll_0 15 rfl rfl)
theorem dX8_electAll_16 : decode cX8_electAll 16 = .ok (.getfield 167, 3) := dk_180 0 167 (dk_at dksX8_electAll_0 16 rfl rfl)
theorem dX8_electAll_19 : decode cX8_electAll 19 = .ok (.aload_n 0, 1) := dk_42 (dk_at dksX8_electAll_0 19 rfl rfl)
theorem dX8_electAll_20 : decode cX8_electAll 20 = .ok (.getfield 131, 3) := dk_180 0 131 (dk_at dksX8_electAll_0 20 rfl rfl)
theorem dX8_electAll_23 : decode cX8_electAll 23 = .ok (.getfield 185, 3) := dk_180 0 185 (dk_at dksX8_electAll_1 0 rfl rfl)
theorem dX8_electAll_26 : decode cX8_electAll 26 = .ok (.if_icmp .ge 21, 3) := dk_162 0 21 (dk_at dksX8_electAll_1 3 rfl rfl)
theorem dX8_electAll_29 : decode cX8_electAll 29 = .ok (.aload_n 0, 1) := dk_42 (dk_at dksX8_electAll_1 6 rfl rfl)
theorem dX8_electAll_30 : decode cX8_electAll 30 = .ok (.iload 4, 2) := dk_21 4 (dk_at dksX8_electAll_1 7 rfl rfl)
theorem dX8_electAll_32 : decode cX8_electAll 32 = .ok (.invokevirtual 219, 3) := dk_182 0 219 (dk_at dksX8_electAll_1 9 rfl rfl)
theorem dX8_electAll_35 : decode cX8_electAll 35 = .ok (.iconst 1, 1) := dk_4 (dk_at dksX8_electAll_1 12 rfl rfl)
theorem dX8_electAll_36 : decode cX8_electAll 36 = .ok (.istore_n 3, 1) := dk_62 (dk_at dksX8_electAll_1 13 rfl rfl)
theorem dX8_electAll_37 : decode cX8_electAll 37 = .ok (.aload_n 0, 1) := dk_42 (dk_at dksX8_electAll_1 14 rfl rfl)
theorem dX8_electAll_38 : decode cX8_electAll 38 = .ok (.lload_n 1, 1) := dk_31 (dk_at dksX8_electAll_1 15 rfl rfl)
theorem dX8_electAll_39 : decode cX8_electAll 39 = .ok (.invokevirtual 215, 3) := dk_182 0 215 (dk_at dksX8_electAll_1 16 rfl rfl)
theorem dX8_electAll_42 : decode cX8_electAll 42 = .ok (.istore 4, 2) := dk_54 4 (dk_at dksX8_electAll_1 19 rfl rfl)
theorem dX8_electAll_44 : decode cX8_electAll 44 = .ok (.goto (-35), 3) := dk_167 255 221 (dk_at dksX8_electAll_1 21 rfl rfl)
theorem dX8_electAll_47 : decode cX8_electAll 47 = .ok (.iload_n 3, 1) := dk_29 (dk_at dksX8_electAll_2 0 rfl rfl)
theorem dX8_electAll_48 : decode cX8_electAll 48 = .ok (.ireturn, 1) := dk_172 (dk_at dksX8_electAll_2 1 rfl rfl)
abbrev cX8_most : ByteArray := prog_5_method_15_code
def yX8_most : MethodName := ⟨RX8, "most", "(J)I"⟩
def dkwX8_most_3 : List UInt8 := [132, 4, 1, 167, 255, 186, 29, 172]
abbrev dktX8_most_3 : List UInt8 := dkwX8_most_3 ++ []
def dkwX8_most_2 : List UInt8 := [2, 159, 0, 20, 42, 180, 0, 33, 21, 5, 47, 42, 180, 0, 33, 29, 47, 148, 158, 0, 6, 21, 5, 62]
abbrev dktX8_most_2 : List UInt8 := dkwX8_most_2 ++ dktX8_most_3
def dkwX8_most_1 : List UInt8 := [54, 5, 42, 21, 5, 182, 0, 209, 153, 0, 40, 42, 180, 0, 33, 21, 5, 47, 31, 148, 155, 0, 28, 29]
abbrev dktX8_most_1 : List UInt8 := dkwX8_most_1 ++ dktX8_most_2
def dkwX8_most_0 : List UInt8 := [2, 62, 3, 54, 4, 21, 4, 42, 180, 0, 148, 162, 0, 67, 42, 180, 0, 135, 180, 0, 212, 21, 4, 46]
abbrev dktX8_most_0 : List UInt8 := dkwX8_most_0 ++ dktX8_most_1
theorem dksX8_most_0 : cX8_most.data.toList.drop 0 = dktX8_most_0 := by decide +kernel
theorem dksX8_most_1 : cX8_most.data.toList.drop 24 = dktX8_most_1 := dk_seg dksX8_most_0 24 rfl rfl
theorem dksX8_most_2 : cX8_most.data.toList.drop 48 = dktX8_most_2 := dk_seg dksX8_most_1 24 rfl rfl
theorem dksX8_most_3 : cX8_most.data.toList.drop 72 = dktX8_most_3 := dk_seg dksX8_most_2 24 rfl rfl
theorem dX8_most_0 : decode cX8_most 0 = .ok (.iconst (-1), 1) := dk_2 (dk_at dksX8_most_0 0 rfl rfl)
theorem dX8_most_1 : decode cX8_most 1 = .ok (.istore_n 3, 1) := dk_62 (dk_at dksX8_most_0 1 rfl rfl)
theorem dX8_most_2 : decode cX8_most 2 = .ok (.iconst 0, 1) := dk_3 (dk_at dksX8_most_0 2 rfl rfl)
theorem dX8_most_3 : decode cX8_most 3 = .ok (.istore 4, 2) := dk_54 4 (dk_at dksX8_most_0 3 rfl rfl)
theorem dX8_most_5 : decode cX8_most 5 = .ok (.iload 4, 2) := dk_21 4 (dk_at dksX8_most_0 5 rfl rfl)
theorem dX8_most_7 : decode cX8_most 7 = .ok (.aload_n 0, 1) := dk_42 (dk_at dksX8_most_0 7 rfl rfl)
theorem dX8_most_8 : decode cX8_most 8 = .ok (.getfield 148, 3) := dk_180 0 148 (dk_at dksX8_most_0 8 rfl rfl)
theorem dX8_most_11 : decode cX8_most 11 = .ok (.if_icmp .ge 67, 3) := dk_162 0 67 (dk_at dksX8_most_0 11 rfl rfl)
theorem dX8_most_14 : decode cX8_most 14 = .ok (.aload_n 0, 1) := dk_42 (dk_at dksX8_most_0 14 rfl rfl)
theorem dX8_most_15 : decode cX8_most 15 = .ok (.getfield 135, 3) := dk_180 0 135 (dk_at dksX8_most_0 15 rfl rfl)
theorem dX8_most_18 : decode cX8_most 18 = .ok (.getfield 212, 3) := dk_180 0 212 (dk_at dksX8_most_0 18 rfl rfl)
theorem dX8_most_21 : decode cX8_most 21 = .ok (.iload 4, 2) := dk_21 4 (dk_at dksX8_most_0 21 rfl rfl)
theorem dX8_most_23 : decode cX8_most 23 = .ok (.iaload, 1) := dk_46 (dk_at dksX8_most_0 23 rfl rfl)
theorem dX8_most_24 : decode cX8_most 24 = .ok (.istore 5, 2) := dk_54 5 (dk_at dksX8_most_1 0 rfl rfl)
theorem dX8_most_26 : decode cX8_most 26 = .ok (.aload_n 0, 1) := dk_42 (dk_at dksX8_most_1 2 rfl rfl)
theorem dX8_most_27 : decode cX8_most 27 = .ok (.iload 5, 2) := dk_21 5 (dk_at dksX8_most_1 3 rfl rfl)
theorem dX8_most_29 : decode cX8_most 29 = .ok (.invokevirtual 209, 3) := dk_182 0 209 (dk_at dksX8_most_1 5 rfl rfl)
theorem dX8_most_32 : decode cX8_most 32 = .ok (.ifCond .eq 40, 3) := dk_153 0 40 (dk_at dksX8_most_1 8 rfl rfl)
theorem dX8_most_35 : decode cX8_most 35 = .ok (.aload_n 0, 1) := dk_42 (dk_at dksX8_most_1 11 rfl rfl)
theorem dX8_most_36 : decode cX8_most 36 = .ok (.getfield 33, 3) := dk_180 0 33 (dk_at dksX8_most_1 12 rfl rfl)
theorem dX8_most_39 : decode cX8_most 39 = .ok (.iload 5, 2) := dk_21 5 (dk_at dksX8_most_1 15 rfl rfl)
theorem dX8_most_41 : decode cX8_most 41 = .ok (.laload, 1) := dk_47 (dk_at dksX8_most_1 17 rfl rfl)
theorem dX8_most_42 : decode cX8_most 42 = .ok (.lload_n 1, 1) := dk_31 (dk_at dksX8_most_1 18 rfl rfl)
theorem dX8_most_43 : decode cX8_most 43 = .ok (.lcmp, 1) := dk_148 (dk_at dksX8_most_1 19 rfl rfl)
theorem dX8_most_44 : decode cX8_most 44 = .ok (.ifCond .lt 28, 3) := dk_155 0 28 (dk_at dksX8_most_1 20 rfl rfl)
theorem dX8_most_47 : decode cX8_most 47 = .ok (.iload_n 3, 1) := dk_29 (dk_at dksX8_most_1 23 rfl rfl)
theorem dX8_most_48 : decode cX8_most 48 = .ok (.iconst (-1), 1) := dk_2 (dk_at dksX8_most_2 0 rfl rfl)
theorem dX8_most_49 : decode cX8_most 49 = .ok (.if_icmp .eq 20, 3) := dk_159 0 20 (dk_at dksX8_most_2 1 rfl rfl)
theorem dX8_most_52 : decode cX8_most 52 = .ok (.aload_n 0, 1) := dk_42 (dk_at dksX8_most_2 4 rfl rfl)
theorem dX8_most_53 : decode cX8_most 53 = .ok (.getfield 33, 3) := dk_180 0 33 (dk_at dksX8_most_2 5 rfl rfl)
theorem dX8_most_56 : decode cX8_most 56 = .ok (.iload 5, 2) := dk_21 5 (dk_at dksX8_most_2 8 rfl rfl)
theorem dX8_most_58 : decode cX8_most 58 = .ok (.laload, 1) := dk_47 (dk_at dksX8_most_2 10 rfl rfl)
theorem dX8_most_59 : decode cX8_most 59 = .ok (.aload_n 0, 1) := dk_42 (dk_at dksX8_most_2 11 rfl rfl)
theorem dX8_most_60 : decode cX8_most 60 = .ok (.getfield 33, 3) := dk_180 0 33 (dk_at dksX8_most_2 12 rfl rfl)
theorem dX8_most_63 : decode cX8_most 63 = .ok (.iload_n 3, 1) := dk_29 (dk_at dksX8_most_2 15 rfl rfl)
theorem dX8_most_64 : decode cX8_most 64 = .ok (.laload, 1) := dk_47 (dk_at dksX8_most_2 16 rfl rfl)
theorem dX8_most_65 : decode cX8_most 65 = .ok (.lcmp, 1) := dk_148 (dk_at dksX8_most_2 17 rfl rfl)
theorem dX8_most_66 : decode cX8_most 66 = .ok (.ifCond .le 6, 3) := dk_158 0 6 (dk_at dksX8_most_2 18 rfl rfl)
theorem dX8_most_69 : decode cX8_most 69 = .ok (.iload 5, 2) := dk_21 5 (dk_at dksX8_most_2 21 rfl rfl)
theorem dX8_most_71 : decode cX8_most 71 = .ok (.istore_n 3, 1) := dk_62 (dk_at dksX8_most_2 23 rfl rfl)
theorem dX8_most_72 : decode cX8_most 72 = .ok (.iinc 4 1, 3) := dk_132 4 1 (dk_at dksX8_most_3 0 rfl rfl)
theorem dX8_most_75 : decode cX8_most 75 = .ok (.goto (-70), 3) := dk_167 255 186 (dk_at dksX8_most_3 3 rfl rfl)
theorem dX8_most_78 : decode cX8_most 78 = .ok (.iload_n 3, 1) := dk_29 (dk_at dksX8_most_3 6 rfl rfl)
theorem dX8_most_79 : decode cX8_most 79 = .ok (.ireturn, 1) := dk_172 (dk_at dksX8_most_3 7 rfl rfl)
abbrev cX8_byMedians : ByteArray := prog_5_method_26_code
def yX8_byMedians : MethodName := ⟨RX8, "byMedians", "()V"⟩
def dkwX8_byMedians_7 : List UInt8 := [132, 2, 1, 167, 255, 211, 42, 27, 182, 0, 219, 167, 255, 185, 177]
abbrev dktX8_byMedians_7 : List UInt8 := dkwX8_byMedians_7 ++ []
def dkwX8_byMedians_6 : List UInt8 := [182, 0, 209, 153, 0, 19, 27, 2, 159, 0, 12, 42, 29, 27, 182, 1, 4, 153, 0, 5, 29, 60]
abbrev dktX8_byMedians_6 : List UInt8 := dkwX8_byMedians_6 ++ dktX8_byMedians_7
def dkwX8_byMedians_5 : List UInt8 := [60, 3, 61, 28, 42, 180, 0, 148, 162, 0, 43, 42, 180, 0, 135, 180, 0, 212, 28, 46, 62, 42, 29]
abbrev dktX8_byMedians_5 : List UInt8 := dkwX8_byMedians_5 ++ dktX8_byMedians_6
def dkwX8_byMedians_4 : List UInt8 := [182, 0, 254, 132, 1, 1, 167, 255, 177, 42, 180, 0, 167, 42, 180, 0, 131, 180, 0, 185, 162, 0, 63, 2]
abbrev dktX8_byMedians_4 : List UInt8 := dkwX8_byMedians_4 ++ dktX8_byMedians_5
def dkwX8_byMedians_3 : List UInt8 := [27, 160, 0, 7, 10, 167, 0, 4, 9, 97, 80, 132, 3, 1, 167, 255, 219, 132, 2, 1, 167, 255, 203, 42]
abbrev dktX8_byMedians_3 : List UInt8 := dkwX8_byMedians_3 ++ dktX8_byMedians_4
def dkwX8_byMedians_2 : List UInt8 := [62, 29, 42, 180, 0, 155, 162, 0, 35, 42, 180, 0, 33, 28, 92, 47, 42, 180, 0, 17, 29, 50, 28, 51]
abbrev dktX8_byMedians_2 : List UInt8 := dkwX8_byMedians_2 ++ dktX8_byMedians_3
def dkwX8_byMedians_1 : List UInt8 := [16, 10, 162, 0, 79, 42, 180, 0, 33, 9, 184, 0, 242, 3, 61, 28, 42, 180, 0, 148, 162, 0, 51, 3]
abbrev dktX8_byMedians_1 : List UInt8 := dkwX8_byMedians_1 ++ dktX8_byMedians_2
def dkwX8_byMedians_0 : List UInt8 := [3, 60, 27, 42, 180, 0, 148, 162, 0, 14, 42, 27, 182, 1, 1, 132, 1, 1, 167, 255, 240, 3, 60, 27]
abbrev dktX8_byMedians_0 : List UInt8 := dkwX8_byMedians_0 ++ dktX8_byMedians_1
theorem dksX8_byMedians_0 : cX8_byMedians.data.toList.drop 0 = dktX8_byMedians_0 := by decide +kernel
theorem dksX8_byMedians_1 : cX8_byMedians.data.toList.drop 24 = dktX8_byMedians_1 := dk_seg dksX8_byMedians_0 24 rfl rfl
theorem dksX8_byMedians_2 : cX8_byMedians.data.toList.drop 48 = dktX8_byMedians_2 := dk_seg dksX8_byMedians_1 24 rfl rfl
theorem dksX8_byMedians_3 : cX8_byMedians.data.toList.drop 72 = dktX8_byMedians_3 := dk_seg dksX8_byMedians_2 24 rfl rfl
theorem dksX8_byMedians_4 : cX8_byMedians.data.toList.drop 96 = dktX8_byMedians_4 := dk_seg dksX8_byMedians_3 24 rfl rfl
theorem dksX8_byMedians_5 : cX8_byMedians.data.toList.drop 120 = dktX8_byMedians_5 := dk_seg dksX8_byMedians_4 24 rfl rfl
theorem dksX8_byMedians_6 : cX8_byMedians.data.toList.drop 143 = dktX8_byMedians_6 := dk_seg dksX8_byMedians_5 23 rfl rfl
theorem dksX8_byMedians_7 : cX8_byMedians.data.toList.drop 165 = dktX8_byMedians_7 := dk_seg dksX8_byMedians_6 22 rfl rfl
theorem dX8_byMedians_0 : decode cX8_byMedians 0 = .ok (.iconst 0, 1) := dk_3 (dk_at dksX8_byMedians_0 0 rfl rfl)
theorem dX8_byMedians_1 : decode cX8_byMedians 1 = .ok (.istore_n 1, 1) := dk_60 (dk_at dksX8_byMedians_0 1 rfl rfl)
theorem dX8_byMedians_2 : decode cX8_byMedians 2 = .ok (.iload_n 1, 1) := dk_27 (dk_at dksX8_byMedians_0 2 rfl rfl)
theorem dX8_byMedians_3 : decode cX8_byMedians 3 = .ok (.aload_n 0, 1) := dk_42 (dk_at dksX8_byMedians_0 3 rfl rfl)
theorem dX8_byMedians_4 : decode cX8_byMedians 4 = .ok (.getfield 148, 3) := dk_180 0 148 (dk_at dksX8_byMedians_0 4 rfl rfl)
theorem dX8_byMedians_7 : decode cX8_byMedians 7 = .ok (.if_icmp .ge 14, 3) := dk_162 0 14 (dk_at dksX8_byMedians_0 7 rfl rfl)
theorem dX8_byMedians_10 : decode cX8_byMedians 10 = .ok (.aload_n 0, 1) := dk_42 (dk_at dksX8_byMedians_0 10 rfl rfl)
theorem dX8_byMedians_11 : decode cX8_byMedians 11 = .ok (.iload_n 1, 1) := dk_27 (dk_at dksX8_byMedians_0 11 rfl rfl)
theorem dX8_byMedians_12 : decode cX8_byMedians 12 = .ok (.invokevirtual 257, 3) := dk_182 1 1 (dk_at dksX8_byMedians_0 12 rfl rfl)
theorem dX8_byMedians_15 : decode cX8_byMedians 15 = .ok (.iinc 1 1, 3) := dk_132 1 1 (dk_at dksX8_byMedians_0 15 rfl rfl)
theorem dX8_byMedians_18 : decode cX8_byMedians 18 = .ok (.goto (-16), 3) := dk_167 255 240 (dk_at dksX8_byMedians_0 18 rfl rfl)
theorem dX8_byMedians_21 : decode cX8_byMedians 21 = .ok (.iconst 0, 1) := dk_3 (dk_at dksX8_byMedians_0 21 rfl rfl)
theorem dX8_byMedians_22 : decode cX8_byMedians 22 = .ok (.istore_n 1, 1) := dk_60 (dk_at dksX8_byMedians_0 22 rfl rfl)
theorem dX8_byMedians_23 : decode cX8_byMedians 23 = .ok (.iload_n 1, 1) := dk_27 (dk_at dksX8_byMedians_0 23 rfl rfl)
theorem dX8_byMedians_24 : decode cX8_byMedians 24 = .ok (.bipush 10, 2) := dk_16 10 (dk_at dksX8_byMedians_1 0 rfl rfl)
theorem dX8_byMedians_26 : decode cX8_byMedians 26 = .ok (.if_icmp .ge 79, 3) := dk_162 0 79 (dk_at dksX8_byMedians_1 2 rfl rfl)
theorem dX8_byMedians_29 : decode cX8_byMedians 29 = .ok (.aload_n 0, 1) := dk_42 (dk_at dksX8_byMedians_1 5 rfl rfl)
theorem dX8_byMedians_30 : decode cX8_byMedians 30 = .ok (.getfield 33, 3) := dk_180 0 33 (dk_at dksX8_byMedians_1 6 rfl rfl)
theorem dX8_byMedians_33 : decode cX8_byMedians 33 = .ok (.lconst 0, 1) := dk_9 (dk_at dksX8_byMedians_1 9 rfl rfl)
theorem dX8_byMedians_34 : decode cX8_byMedians 34 = .ok (.invokestatic 242, 3) := dk_184 0 242 (dk_at dksX8_byMedians_1 10 rfl rfl)
theorem dX8_byMedians_37 : decode cX8_byMedians 37 = .ok (.iconst 0, 1) := dk_3 (dk_at dksX8_byMedians_1 13 rfl rfl)
theorem dX8_byMedians_38 : decode cX8_byMedians 38 = .ok (.istore_n 2, 1) := dk_61 (dk_at dksX8_byMedians_1 14 rfl rfl)
theorem dX8_byMedians_39 : decode cX8_byMedians 39 = .ok (.iload_n 2, 1) := dk_28 (dk_at dksX8_byMedians_1 15 rfl rfl)
theorem dX8_byMedians_40 : decode cX8_byMedians 40 = .ok (.aload_n 0, 1) := dk_42 (dk_at dksX8_byMedians_1 16 rfl rfl)
theorem dX8_byMedians_41 : decode cX8_byMedians 41 = .ok (.getfield 148, 3) := dk_180 0 148 (dk_at dksX8_byMedians_1 17 rfl rfl)
theorem dX8_byMedians_44 : decode cX8_byMedians 44 = .ok (.if_icmp .ge 51, 3) := dk_162 0 51 (dk_at dksX8_byMedians_1 20 rfl rfl)
theorem dX8_byMedians_47 : decode cX8_byMedians 47 = .ok (.iconst 0, 1) := dk_3 (dk_at dksX8_byMedians_1 23 rfl rfl)
theorem dX8_byMedians_48 : decode cX8_byMedians 48 = .ok (.istore_n 3, 1) := dk_62 (dk_at dksX8_byMedians_2 0 rfl rfl)
theorem dX8_byMedians_49 : decode cX8_byMedians 49 = .ok (.iload_n 3, 1) := dk_29 (dk_at dksX8_byMedians_2 1 rfl rfl)
theorem dX8_byMedians_50 : decode cX8_byMedians 50 = .ok (.aload_n 0, 1) := dk_42 (dk_at dksX8_byMedians_2 2 rfl rfl)
theorem dX8_byMedians_51 : decode cX8_byMedians 51 = .ok (.getfield 155, 3) := dk_180 0 155 (dk_at dksX8_byMedians_2 3 rfl rfl)
theorem dX8_byMedians_54 : decode cX8_byMedians 54 = .ok (.if_icmp .ge 35, 3) := dk_162 0 35 (dk_at dksX8_byMedians_2 6 rfl rfl)
theorem dX8_byMedians_57 : decode cX8_byMedians 57 = .ok (.aload_n 0, 1) := dk_42 (dk_at dksX8_byMedians_2 9 rfl rfl)
theorem dX8_byMedians_58 : decode cX8_byMedians 58 = .ok (.getfield 33, 3) := dk_180 0 33 (dk_at dksX8_byMedians_2 10 rfl rfl)
theorem dX8_byMedians_61 : decode cX8_byMedians 61 = .ok (.iload_n 2, 1) := dk_28 (dk_at dksX8_byMedians_2 13 rfl rfl)
theorem dX8_byMedians_62 : decode cX8_byMedians 62 = .ok (.dup2, 1) := dk_92 (dk_at dksX8_byMedians_2 14 rfl rfl)
theorem dX8_byMedians_63 : decode cX8_byMedians 63 = .ok (.laload, 1) := dk_47 (dk_at dksX8_byMedians_2 15 rfl rfl)
theorem dX8_byMedians_64 : decode cX8_byMedians 64 = .ok (.aload_n 0, 1) := dk_42 (dk_at dksX8_byMedians_2 16 rfl rfl)
theorem dX8_byMedians_65 : decode cX8_byMedians 65 = .ok (.getfield 17, 3) := dk_180 0 17 (dk_at dksX8_byMedians_2 17 rfl rfl)
theorem dX8_byMedians_68 : decode cX8_byMedians 68 = .ok (.iload_n 3, 1) := dk_29 (dk_at dksX8_byMedians_2 20 rfl rfl)
theorem dX8_byMedians_69 : decode cX8_byMedians 69 = .ok (.aaload, 1) := dk_50 (dk_at dksX8_byMedians_2 21 rfl rfl)
theorem dX8_byMedians_70 : decode cX8_byMedians 70 = .ok (.iload_n 2, 1) := dk_28 (dk_at dksX8_byMedians_2 22 rfl rfl)
theorem dX8_byMedians_71 : decode cX8_byMedians 71 = .ok (.baload, 1) := dk_51 (dk_at dksX8_byMedians_2 23 rfl rfl)
theorem dX8_byMedians_72 : decode cX8_byMedians 72 = .ok (.iload_n 1, 1) := dk_27 (dk_at dksX8_byMedians_3 0 rfl rfl)
theorem dX8_byMedians_73 : decode cX8_byMedians 73 = .ok (.if_icmp .ne 7, 3) := dk_160 0 7 (dk_at dksX8_byMedians_3 1 rfl rfl)
theorem dX8_byMedians_76 : decode cX8_byMedians 76 = .ok (.lconst 1, 1) := dk_10 (dk_at dksX8_byMedians_3 4 rfl rfl)
theorem dX8_byMedians_77 : decode cX8_byMedians 77 = .ok (.goto 4, 3) := dk_167 0 4 (dk_at dksX8_byMedians_3 5 rfl rfl)
theorem dX8_byMedians_80 : decode cX8_byMedians 80 = .ok (.lconst 0, 1) := dk_9 (dk_at dksX8_byMedians_3 8 rfl rfl)
theorem dX8_byMedians_81 : decode cX8_byMedians 81 = .ok (.ladd, 1) := dk_97 (dk_at dksX8_byMedians_3 9 rfl rfl)
theorem dX8_byMedians_82 : decode cX8_byMedians 82 = .ok (.lastore, 1) := dk_80 (dk_at dksX8_byMedians_3 10 rfl rfl)
theorem dX8_byMedians_83 : decode cX8_byMedians 83 = .ok (.iinc 3 1, 3) := dk_132 3 1 (dk_at dksX8_byMedians_3 11 rfl rfl)
theorem dX8_byMedians_86 : decode cX8_byMedians 86 = .ok (.goto (-37), 3) := dk_167 255 219 (dk_at dksX8_byMedians_3 14 rfl rfl)
theorem dX8_byMedians_89 : decode cX8_byMedians 89 = .ok (.iinc 2 1, 3) := dk_132 2 1 (dk_at dksX8_byMedians_3 17 rfl rfl)
theorem dX8_byMedians_92 : decode cX8_byMedians 92 = .ok (.goto (-53), 3) := dk_167 255 203 (dk_at dksX8_byMedians_3 20 rfl rfl)
theorem dX8_byMedians_95 : decode cX8_byMedians 95 = .ok (.aload_n 0, 1) := dk_42 (dk_at dksX8_byMedians_3 23 rfl rfl)
theorem dX8_byMedians_96 : decode cX8_byMedians 96 = .ok (.invokevirtual 254, 3) := dk_182 0 254 (dk_at dksX8_byMedians_4 0 rfl rfl)
theorem dX8_byMedians_99 : decode cX8_byMedians 99 = .ok (.iinc 1 1, 3) := dk_132 1 1 (dk_at dksX8_byMedians_4 3 rfl rfl)
theorem dX8_byMedians_102 : decode cX8_byMedians 102 = .ok (.goto (-79), 3) := dk_167 255 177 (dk_at dksX8_byMedians_4 6 rfl rfl)
theorem dX8_byMedians_105 : decode cX8_byMedians 105 = .ok (.aload_n 0, 1) := dk_42 (dk_at dksX8_byMedians_4 9 rfl rfl)
theorem dX8_byMedians_106 : decode cX8_byMedians 106 = .ok (.getfield 167, 3) := dk_180 0 167 (dk_at dksX8_byMedians_4 10 rfl rfl)
theorem dX8_byMedians_109 : decode cX8_byMedians 109 = .ok (.aload_n 0, 1) := dk_42 (dk_at dksX8_byMedians_4 13 rfl rfl)
theorem dX8_byMedians_110 : decode cX8_byMedians 110 = .ok (.getfield 131, 3) := dk_180 0 131 (dk_at dksX8_byMedians_4 14 rfl rfl)
theorem dX8_byMedians_113 : decode cX8_byMedians 113 = .ok (.getfield 185, 3) := dk_180 0 185 (dk_at dksX8_byMedians_4 17 rfl rfl)
theorem dX8_byMedians_116 : decode cX8_byMedians 116 = .ok (.if_icmp .ge 63, 3) := dk_162 0 63 (dk_at dksX8_byMedians_4 20 rfl rfl)
theorem dX8_byMedians_119 : decode cX8_byMedians 119 = .ok (.iconst (-1), 1) := dk_2 (dk_at dksX8_byMedians_4 23 rfl rfl)
theorem dX8_byMedians_120 : decode cX8_byMedians 120 = .ok (.istore_n 1, 1) := dk_60 (dk_at dksX8_byMedians_5 0 rfl rfl)
theorem dX8_byMedians_121 : decode cX8_byMedians 121 = .ok (.iconst 0, 1) := dk_3 (dk_at dksX8_byMedians_5 1 rfl rfl)
theorem dX8_byMedians_122 : decode cX8_byMedians 122 = .ok (.istore_n 2, 1) := dk_61 (dk_at dksX8_byMedians_5 2 rfl rfl)
theorem dX8_byMedians_123 : decode cX8_byMedians 123 = .ok (.iload_n 2, 1) := dk_28 (dk_at dksX8_byMedians_5 3 rfl rfl)
theorem dX8_byMedians_124 : decode cX8_byMedians 124 = .ok (.aload_n 0, 1) := dk_42 (dk_at dksX8_byMedians_5 4 rfl rfl)
theorem dX8_byMedians_125 : decode cX8_byMedians 125 = .ok (.getfield 148, 3) := dk_180 0 148 (dk_at dksX8_byMedians_5 5 rfl rfl)
theorem dX8_byMedians_128 : decode cX8_byMedians 128 = .ok (.if_icmp .ge 43, 3) := dk_162 0 43 (dk_at dksX8_byMedians_5 8 rfl rfl)
theorem dX8_byMedians_131 : decode cX8_byMedians 131 = .ok (.aload_n 0, 1) := dk_42 (dk_at dksX8_byMedians_5 11 rfl rfl)
theorem dX8_byMedians_132 : decode cX8_byMedians 132 = .ok (.getfield 135, 3) := dk_180 0 135 (dk_at dksX8_byMedians_5 12 rfl rfl)
theorem dX8_byMedians_135 : decode cX8_byMedians 135 = .ok (.getfield 212, 3) := dk_180 0 212 (dk_at dksX8_byMedians_5 15 rfl rfl)
theorem dX8_byMedians_138 : decode cX8_byMedians 138 = .ok (.iload_n 2, 1) := dk_28 (dk_at dksX8_byMedians_5 18 rfl rfl)
theorem dX8_byMedians_139 : decode cX8_byMedians 139 = .ok (.iaload, 1) := dk_46 (dk_at dksX8_byMedians_5 19 rfl rfl)
theorem dX8_byMedians_140 : decode cX8_byMedians 140 = .ok (.istore_n 3, 1) := dk_62 (dk_at dksX8_byMedians_5 20 rfl rfl)
theorem dX8_byMedians_141 : decode cX8_byMedians 141 = .ok (.aload_n 0, 1) := dk_42 (dk_at dksX8_byMedians_5 21 rfl rfl)
theorem dX8_byMedians_142 : decode cX8_byMedians 142 = .ok (.iload_n 3, 1) := dk_29 (dk_at dksX8_byMedians_5 22 rfl rfl)
theorem dX8_byMedians_143 : decode cX8_byMedians 143 = .ok (.invokevirtual 209, 3) := dk_182 0 209 (dk_at dksX8_byMedians_6 0 rfl rfl)
theorem dX8_byMedians_146 : decode cX8_byMedians 146 = .ok (.ifCond .eq 19, 3) := dk_153 0 19 (dk_at dksX8_byMedians_6 3 rfl rfl)
theorem dX8_byMedians_149 : decode cX8_byMedians 149 = .ok (.iload_n 1, 1) := dk_27 (dk_at dksX8_byMedians_6 6 rfl rfl)
theorem dX8_byMedians_150 : decode cX8_byMedians 150 = .ok (.iconst (-1), 1) := dk_2 (dk_at dksX8_byMedians_6 7 rfl rfl)
theorem dX8_byMedians_151 : decode cX8_byMedians 151 = .ok (.if_icmp .eq 12, 3) := dk_159 0 12 (dk_at dksX8_byMedians_6 8 rfl rfl)
theorem dX8_byMedians_154 : decode cX8_byMedians 154 = .ok (.aload_n 0, 1) := dk_42 (dk_at dksX8_byMedians_6 11 rfl rfl)
theorem dX8_byMedians_155 : decode cX8_byMedians 155 = .ok (.iload_n 3, 1) := dk_29 (dk_at dksX8_byMedians_6 12 rfl rfl)
theorem dX8_byMedians_156 : decode cX8_byMedians 156 = .ok (.iload_n 1, 1) := dk_27 (dk_at dksX8_byMedians_6 13 rfl rfl)
theorem dX8_byMedians_157 : decode cX8_byMedians 157 = .ok (.invokevirtual 260, 3) := dk_182 1 4 (dk_at dksX8_byMedians_6 14 rfl rfl)
theorem dX8_byMedians_160 : decode cX8_byMedians 160 = .ok (.ifCond .eq 5, 3) := dk_153 0 5 (dk_at dksX8_byMedians_6 17 rfl rfl)
theorem dX8_byMedians_163 : decode cX8_byMedians 163 = .ok (.iload_n 3, 1) := dk_29 (dk_at dksX8_byMedians_6 20 rfl rfl)
theorem dX8_byMedians_164 : decode cX8_byMedians 164 = .ok (.istore_n 1, 1) := dk_60 (dk_at dksX8_byMedians_6 21 rfl rfl)
theorem dX8_byMedians_165 : decode cX8_byMedians 165 = .ok (.iinc 2 1, 3) := dk_132 2 1 (dk_at dksX8_byMedians_7 0 rfl rfl)
theorem dX8_byMedians_168 : decode cX8_byMedians 168 = .ok (.goto (-45), 3) := dk_167 255 211 (dk_at dksX8_byMedians_7 3 rfl rfl)
theorem dX8_byMedians_171 : decode cX8_byMedians 171 = .ok (.aload_n 0, 1) := dk_42 (dk_at dksX8_byMedians_7 6 rfl rfl)
theorem dX8_byMedians_172 : decode cX8_byMedians 172 = .ok (.iload_n 1, 1) := dk_27 (dk_at dksX8_byMedians_7 7 rfl rfl)
theorem dX8_byMedians_173 : decode cX8_byMedians 173 = .ok (.invokevirtual 219, 3) := dk_182 0 219 (dk_at dksX8_byMedians_7 8 rfl rfl)
theorem dX8_byMedians_176 : decode cX8_byMedians 176 = .ok (.goto (-71), 3) := dk_167 255 185 (dk_at dksX8_byMedians_7 11 rfl rfl)
theorem dX8_byMedians_179 : decode cX8_byMedians 179 = .ok (.return_, 1) := dk_177 (dk_at dksX8_byMedians_7 14 rfl rfl)
abbrev cX8_sortMarks : ByteArray := prog_5_method_24_code
def yX8_sortMarks : MethodName := ⟨RX8, "sortMarks", "(I)V"⟩
def dkwX8_sortMarks_3 : List UInt8 := [28, 50, 27, 51, 84, 132, 2, 1, 167, 255, 178, 177]
abbrev dktX8_sortMarks_3 : List UInt8 := dkwX8_sortMarks_3 ++ []
def dkwX8_sortMarks_2 : List UInt8 := [27, 50, 29, 4, 100, 51, 84, 132, 3, 255, 167, 255, 210, 42, 180, 0, 57, 27, 50, 29, 42, 180, 0, 17]
abbrev dktX8_sortMarks_2 : List UInt8 := dkwX8_sortMarks_2 ++ dktX8_sortMarks_3
def dkwX8_sortMarks_1 : List UInt8 := [100, 51, 42, 180, 0, 17, 28, 50, 27, 51, 162, 0, 27, 42, 180, 0, 57, 27, 50, 29, 42, 180, 0, 57]
abbrev dktX8_sortMarks_1 : List UInt8 := dkwX8_sortMarks_1 ++ dktX8_sortMarks_2
def dkwX8_sortMarks_0 : List UInt8 := [3, 61, 28, 42, 180, 0, 155, 162, 0, 76, 28, 62, 29, 158, 0, 48, 42, 180, 0, 57, 27, 50, 29, 4]
abbrev dktX8_sortMarks_0 : List UInt8 := dkwX8_sortMarks_0 ++ dktX8_sortMarks_1
theorem dksX8_sortMarks_0 : cX8_sortMarks.data.toList.drop 0 = dktX8_sortMarks_0 := by decide +kernel
theorem dksX8_sortMarks_1 : cX8_sortMarks.data.toList.drop 24 = dktX8_sortMarks_1 := dk_seg dksX8_sortMarks_0 24 rfl rfl
theorem dksX8_sortMarks_2 : cX8_sortMarks.data.toList.drop 48 = dktX8_sortMarks_2 := dk_seg dksX8_sortMarks_1 24 rfl rfl
theorem dksX8_sortMarks_3 : cX8_sortMarks.data.toList.drop 72 = dktX8_sortMarks_3 := dk_seg dksX8_sortMarks_2 24 rfl rfl
theorem dX8_sortMarks_0 : decode cX8_sortMarks 0 = .ok (.iconst 0, 1) := dk_3 (dk_at dksX8_sortMarks_0 0 rfl rfl)
theorem dX8_sortMarks_1 : decode cX8_sortMarks 1 = .ok (.istore_n 2, 1) := dk_61 (dk_at dksX8_sortMarks_0 1 rfl rfl)
theorem dX8_sortMarks_2 : decode cX8_sortMarks 2 = .ok (.iload_n 2, 1) := dk_28 (dk_at dksX8_sortMarks_0 2 rfl rfl)
theorem dX8_sortMarks_3 : decode cX8_sortMarks 3 = .ok (.aload_n 0, 1) := dk_42 (dk_at dksX8_sortMarks_0 3 rfl rfl)
theorem dX8_sortMarks_4 : decode cX8_sortMarks 4 = .ok (.getfield 155, 3) := dk_180 0 155 (dk_at dksX8_sortMarks_0 4 rfl rfl)
theorem dX8_sortMarks_7 : decode cX8_sortMarks 7 = .ok (.if_icmp .ge 76, 3) := dk_162 0 76 (dk_at dksX8_sortMarks_0 7 rfl rfl)
theorem dX8_sortMarks_10 : decode cX8_sortMarks 10 = .ok (.iload_n 2, 1) := dk_28 (dk_at dksX8_sortMarks_0 10 rfl rfl)
theorem dX8_sortMarks_11 : decode cX8_sortMarks 11 = .ok (.istore_n 3, 1) := dk_62 (dk_at dksX8_sortMarks_0 11 rfl rfl)
theorem dX8_sortMarks_12 : decode cX8_sortMarks 12 = .ok (.iload_n 3, 1) := dk_29 (dk_at dksX8_sortMarks_0 12 rfl rfl)
theorem dX8_sortMarks_13 : decode cX8_sortMarks 13 = .ok (.ifCond .le 48, 3) := dk_158 0 48 (dk_at dksX8_sortMarks_0 13 rfl rfl)
theorem dX8_sortMarks_16 : decode cX8_sortMarks 16 = .ok (.aload_n 0, 1) := dk_42 (dk_at dksX8_sortMarks_0 16 rfl rfl)
theorem dX8_sortMarks_17 : decode cX8_sortMarks 17 = .ok (.getfield 57, 3) := dk_180 0 57 (dk_at dksX8_sortMarks_0 17 rfl rfl)
theorem dX8_sortMarks_20 : decode cX8_sortMarks 20 = .ok (.iload_n 1, 1) := dk_27 (dk_at dksX8_sortMarks_0 20 rfl rfl)
theorem dX8_sortMarks_21 : decode cX8_sortMarks 21 = .ok (.aaload, 1) := dk_50 (dk_at dksX8_sortMarks_0 21 rfl rfl)
theorem dX8_sortMarks_22 : decode cX8_sortMarks 22 = .ok (.iload_n 3, 1) := dk_29 (dk_at dksX8_sortMarks_0 22 rfl rfl)
theorem dX8_sortMarks_23 : decode cX8_sortMarks 23 = .ok (.iconst 1, 1) := dk_4 (dk_at dksX8_sortMarks_0 23 rfl rfl)
theorem dX8_sortMarks_24 : decode cX8_sortMarks 24 = .ok (.isub, 1) := dk_100 (dk_at dksX8_sortMarks_1 0 rfl rfl)
theorem dX8_sortMarks_25 : decode cX8_sortMarks 25 = .ok (.baload, 1) := dk_51 (dk_at dksX8_sortMarks_1 1 rfl rfl)
theorem dX8_sortMarks_26 : decode cX8_sortMarks 26 = .ok (.aload_n 0, 1) := dk_42 (dk_at dksX8_sortMarks_1 2 rfl rfl)
theorem dX8_sortMarks_27 : decode cX8_sortMarks 27 = .ok (.getfield 17, 3) := dk_180 0 17 (dk_at dksX8_sortMarks_1 3 rfl rfl)
theorem dX8_sortMarks_30 : decode cX8_sortMarks 30 = .ok (.iload_n 2, 1) := dk_28 (dk_at dksX8_sortMarks_1 6 rfl rfl)
theorem dX8_sortMarks_31 : decode cX8_sortMarks 31 = .ok (.aaload, 1) := dk_50 (dk_at dksX8_sortMarks_1 7 rfl rfl)
theorem dX8_sortMarks_32 : decode cX8_sortMarks 32 = .ok (.iload_n 1, 1) := dk_27 (dk_at dksX8_sortMarks_1 8 rfl rfl)
theorem dX8_sortMarks_33 : decode cX8_sortMarks 33 = .ok (.baload, 1) := dk_51 (dk_at dksX8_sortMarks_1 9 rfl rfl)
theorem dX8_sortMarks_34 : decode cX8_sortMarks 34 = .ok (.if_icmp .ge 27, 3) := dk_162 0 27 (dk_at dksX8_sortMarks_1 10 rfl rfl)
theorem dX8_sortMarks_37 : decode cX8_sortMarks 37 = .ok (.aload_n 0, 1) := dk_42 (dk_at dksX8_sortMarks_1 13 rfl rfl)
theorem dX8_sortMarks_38 : decode cX8_sortMarks 38 = .ok (.getfield 57, 3) := dk_180 0 57 (dk_at dksX8_sortMarks_1 14 rfl rfl)
theorem dX8_sortMarks_41 : decode cX8_sortMarks 41 = .ok (.iload_n 1, 1) := dk_27 (dk_at dksX8_sortMarks_1 17 rfl rfl)
theorem dX8_sortMarks_42 : decode cX8_sortMarks 42 = .ok (.aaload, 1) := dk_50 (dk_at dksX8_sortMarks_1 18 rfl rfl)
theorem dX8_sortMarks_43 : decode cX8_sortMarks 43 = .ok (.iload_n 3, 1) := dk_29 (dk_at dksX8_sortMarks_1 19 rfl rfl)
theorem dX8_sortMarks_44 : decode cX8_sortMarks 44 = .ok (.aload_n 0, 1) := dk_42 (dk_at dksX8_sortMarks_1 20 rfl rfl)
theorem dX8_sortMarks_45 : decode cX8_sortMarks 45 = .ok (.getfield 57, 3) := dk_180 0 57 (dk_at dksX8_sortMarks_1 21 rfl rfl)
theorem dX8_sortMarks_48 : decode cX8_sortMarks 48 = .ok (.iload_n 1, 1) := dk_27 (dk_at dksX8_sortMarks_2 0 rfl rfl)
theorem dX8_sortMarks_49 : decode cX8_sortMarks 49 = .ok (.aaload, 1) := dk_50 (dk_at dksX8_sortMarks_2 1 rfl rfl)
theorem dX8_sortMarks_50 : decode cX8_sortMarks 50 = .ok (.iload_n 3, 1) := dk_29 (dk_at dksX8_sortMarks_2 2 rfl rfl)
theorem dX8_sortMarks_51 : decode cX8_sortMarks 51 = .ok (.iconst 1, 1) := dk_4 (dk_at dksX8_sortMarks_2 3 rfl rfl)
theorem dX8_sortMarks_52 : decode cX8_sortMarks 52 = .ok (.isub, 1) := dk_100 (dk_at dksX8_sortMarks_2 4 rfl rfl)
theorem dX8_sortMarks_53 : decode cX8_sortMarks 53 = .ok (.baload, 1) := dk_51 (dk_at dksX8_sortMarks_2 5 rfl rfl)
theorem dX8_sortMarks_54 : decode cX8_sortMarks 54 = .ok (.bastore, 1) := dk_84 (dk_at dksX8_sortMarks_2 6 rfl rfl)
theorem dX8_sortMarks_55 : decode cX8_sortMarks 55 = .ok (.iinc 3 (-1), 3) := dk_132 3 255 (dk_at dksX8_sortMarks_2 7 rfl rfl)
theorem dX8_sortMarks_58 : decode cX8_sortMarks 58 = .ok (.goto (-46), 3) := dk_167 255 210 (dk_at dksX8_sortMarks_2 10 rfl rfl)
theorem dX8_sortMarks_61 : decode cX8_sortMarks 61 = .ok (.aload_n 0, 1) := dk_42 (dk_at dksX8_sortMarks_2 13 rfl rfl)
theorem dX8_sortMarks_62 : decode cX8_sortMarks 62 = .ok (.getfield 57, 3) := dk_180 0 57 (dk_at dksX8_sortMarks_2 14 rfl rfl)
theorem dX8_sortMarks_65 : decode cX8_sortMarks 65 = .ok (.iload_n 1, 1) := dk_27 (dk_at dksX8_sortMarks_2 17 rfl rfl)
theorem dX8_sortMarks_66 : decode cX8_sortMarks 66 = .ok (.aaload, 1) := dk_50 (dk_at dksX8_sortMarks_2 18 rfl rfl)
theorem dX8_sortMarks_67 : decode cX8_sortMarks 67 = .ok (.iload_n 3, 1) := dk_29 (dk_at dksX8_sortMarks_2 19 rfl rfl)
theorem dX8_sortMarks_68 : decode cX8_sortMarks 68 = .ok (.aload_n 0, 1) := dk_42 (dk_at dksX8_sortMarks_2 20 rfl rfl)
theorem dX8_sortMarks_69 : decode cX8_sortMarks 69 = .ok (.getfield 17, 3) := dk_180 0 17 (dk_at dksX8_sortMarks_2 21 rfl rfl)
theorem dX8_sortMarks_72 : decode cX8_sortMarks 72 = .ok (.iload_n 2, 1) := dk_28 (dk_at dksX8_sortMarks_3 0 rfl rfl)
theorem dX8_sortMarks_73 : decode cX8_sortMarks 73 = .ok (.aaload, 1) := dk_50 (dk_at dksX8_sortMarks_3 1 rfl rfl)
theorem dX8_sortMarks_74 : decode cX8_sortMarks 74 = .ok (.iload_n 1, 1) := dk_27 (dk_at dksX8_sortMarks_3 2 rfl rfl)
theorem dX8_sortMarks_75 : decode cX8_sortMarks 75 = .ok (.baload, 1) := dk_51 (dk_at dksX8_sortMarks_3 3 rfl rfl)
theorem dX8_sortMarks_76 : decode cX8_sortMarks 76 = .ok (.bastore, 1) := dk_84 (dk_at dksX8_sortMarks_3 4 rfl rfl)
theorem dX8_sortMarks_77 : decode cX8_sortMarks 77 = .ok (.iinc 2 1, 3) := dk_132 2 1 (dk_at dksX8_sortMarks_3 5 rfl rfl)
theorem dX8_sortMarks_80 : decode cX8_sortMarks 80 = .ok (.goto (-78), 3) := dk_167 255 178 (dk_at dksX8_sortMarks_3 8 rfl rfl)
theorem dX8_sortMarks_83 : decode cX8_sortMarks 83 = .ok (.return_, 1) := dk_177 (dk_at dksX8_sortMarks_3 11 rfl rfl)
abbrev cX8_isGraded : ByteArray := prog_5_method_25_code
def yX8_isGraded : MethodName := ⟨RX8, "isGraded", "(II)Z"⟩
def dkwX8_isGraded_6 : List UInt8 := [132, 3, 255, 167, 255, 158, 3, 172]
abbrev dktX8_isGraded_6 : List UInt8 := dkwX8_isGraded_6 ++ []
def dkwX8_isGraded_5 : List UInt8 := [180, 0, 63, 21, 4, 4, 96, 42, 180, 0, 63, 21, 4, 29, 21, 4, 100, 4, 100, 184, 0, 203]
abbrev dktX8_isGraded_5 : List UInt8 := dkwX8_isGraded_5 ++ dktX8_isGraded_6
def dkwX8_isGraded_4 : List UInt8 := [180, 0, 60, 21, 4, 4, 96, 42, 180, 0, 60, 21, 4, 29, 21, 4, 100, 4, 100, 184, 0, 203, 42]
abbrev dktX8_isGraded_4 : List UInt8 := dkwX8_isGraded_4 ++ dktX8_isGraded_5
def dkwX8_isGraded_3 : List UInt8 := [180, 0, 60, 21, 4, 51, 42, 180, 0, 63, 21, 4, 51, 164, 0, 7, 4, 167, 0, 4, 3, 172, 42]
abbrev dktX8_isGraded_3 : List UInt8 := dkwX8_isGraded_3 ++ dktX8_isGraded_4
def dkwX8_isGraded_2 : List UInt8 := [5, 108, 54, 4, 42, 180, 0, 60, 21, 4, 51, 42, 180, 0, 63, 21, 4, 51, 159, 0, 26, 42]
abbrev dktX8_isGraded_2 : List UInt8 := dkwX8_isGraded_2 ++ dktX8_isGraded_3
def dkwX8_isGraded_1 : List UInt8 := [50, 3, 42, 180, 0, 63, 3, 42, 180, 0, 155, 184, 0, 203, 42, 180, 0, 155, 62, 29, 158, 0, 100, 29]
abbrev dktX8_isGraded_1 : List UInt8 := dkwX8_isGraded_1 ++ dktX8_isGraded_2
def dkwX8_isGraded_0 : List UInt8 := [42, 180, 0, 57, 27, 50, 3, 42, 180, 0, 60, 3, 42, 180, 0, 155, 184, 0, 203, 42, 180, 0, 57, 28]
abbrev dktX8_isGraded_0 : List UInt8 := dkwX8_isGraded_0 ++ dktX8_isGraded_1
theorem dksX8_isGraded_0 : cX8_isGraded.data.toList.drop 0 = dktX8_isGraded_0 := by decide +kernel
theorem dksX8_isGraded_1 : cX8_isGraded.data.toList.drop 24 = dktX8_isGraded_1 := dk_seg dksX8_isGraded_0 24 rfl rfl
theorem dksX8_isGraded_2 : cX8_isGraded.data.toList.drop 48 = dktX8_isGraded_2 := dk_seg dksX8_isGraded_1 24 rfl rfl
theorem dksX8_isGraded_3 : cX8_isGraded.data.toList.drop 70 = dktX8_isGraded_3 := dk_seg dksX8_isGraded_2 22 rfl rfl
theorem dksX8_isGraded_4 : cX8_isGraded.data.toList.drop 93 = dktX8_isGraded_4 := dk_seg dksX8_isGraded_3 23 rfl rfl
theorem dksX8_isGraded_5 : cX8_isGraded.data.toList.drop 116 = dktX8_isGraded_5 := dk_seg dksX8_isGraded_4 23 rfl rfl
theorem dksX8_isGraded_6 : cX8_isGraded.data.toList.drop 138 = dktX8_isGraded_6 := dk_seg dksX8_isGraded_5 22 rfl rfl
theorem dX8_isGraded_0 : decode cX8_isGraded 0 = .ok (.aload_n 0, 1) := dk_42 (dk_at dksX8_isGraded_0 0 rfl rfl)
theorem dX8_isGraded_1 : decode cX8_isGraded 1 = .ok (.getfield 57, 3) := dk_180 0 57 (dk_at dksX8_isGraded_0 1 rfl rfl)
theorem dX8_isGraded_4 : decode cX8_isGraded 4 = .ok (.iload_n 1, 1) := dk_27 (dk_at dksX8_isGraded_0 4 rfl rfl)
theorem dX8_isGraded_5 : decode cX8_isGraded 5 = .ok (.aaload, 1) := dk_50 (dk_at dksX8_isGraded_0 5 rfl rfl)
theorem dX8_isGraded_6 : decode cX8_isGraded 6 = .ok (.iconst 0, 1) := dk_3 (dk_at dksX8_isGraded_0 6 rfl rfl)
theorem dX8_isGraded_7 : decode cX8_isGraded 7 = .ok (.aload_n 0, 1) := dk_42 (dk_at dksX8_isGraded_0 7 rfl rfl)
theorem dX8_isGraded_8 : decode cX8_isGraded 8 = .ok (.getfield 60, 3) := dk_180 0 60 (dk_at dksX8_isGraded_0 8 rfl rfl)
theorem dX8_isGraded_11 : decode cX8_isGraded 11 = .ok (.iconst 0, 1) := dk_3 (dk_at dksX8_isGraded_0 11 rfl rfl)
theorem dX8_isGraded_12 : decode cX8_isGraded 12 = .ok (.aload_n 0, 1) := dk_42 (dk_at dksX8_isGraded_0 12 rfl rfl)
theorem dX8_isGraded_13 : decode cX8_isGraded 13 = .ok (.getfield 155, 3) := dk_180 0 155 (dk_at dksX8_isGraded_0 13 rfl rfl)
theorem dX8_isGraded_16 : decode cX8_isGraded 16 = .ok (.invokestatic 203, 3) := dk_184 0 203 (dk_at dksX8_isGraded_0 16 rfl rfl)
theorem dX8_isGraded_19 : decode cX8_isGraded 19 = .ok (.aload_n 0, 1) := dk_42 (dk_at dksX8_isGraded_0 19 rfl rfl)
theorem dX8_isGraded_20 : decode cX8_isGraded 20 = .ok (.getfield 57, 3) := dk_180 0 57 (dk_at dksX8_isGraded_0 20 rfl rfl)
theorem dX8_isGraded_23 : decode cX8_isGraded 23 = .ok (.iload_n 2, 1) := dk_28 (dk_at dksX8_isGraded_0 23 rfl rfl)
theorem dX8_isGraded_24 : decode cX8_isGraded 24 = .ok (.aaload, 1) := dk_50 (dk_at dksX8_isGraded_1 0 rfl rfl)
theorem dX8_isGraded_25 : decode cX8_isGraded 25 = .ok (.iconst 0, 1) := dk_3 (dk_at dksX8_isGraded_1 1 rfl rfl)
theorem dX8_isGraded_26 : decode cX8_isGraded 26 = .ok (.aload_n 0, 1) := dk_42 (dk_at dksX8_isGraded_1 2 rfl rfl)
theorem dX8_isGraded_27 : decode cX8_isGraded 27 = .ok (.getfield 63, 3) := dk_180 0 63 (dk_at dksX8_isGraded_1 3 rfl rfl)
theorem dX8_isGraded_30 : decode cX8_isGraded 30 = .ok (.iconst 0, 1) := dk_3 (dk_at dksX8_isGraded_1 6 rfl rfl)
theorem dX8_isGraded_31 : decode cX8_isGraded 31 = .ok (.aload_n 0, 1) := dk_42 (dk_at dksX8_isGraded_1 7 rfl rfl)
theorem dX8_isGraded_32 : decode cX8_isGraded 32 = .ok (.getfield 155, 3) := dk_180 0 155 (dk_at dksX8_isGraded_1 8 rfl rfl)
theorem dX8_isGraded_35 : decode cX8_isGraded 35 = .ok (.invokestatic 203, 3) := dk_184 0 203 (dk_at dksX8_isGraded_1 11 rfl rfl)
theorem dX8_isGraded_38 : decode cX8_isGraded 38 = .ok (.aload_n 0, 1) := dk_42 (dk_at dksX8_isGraded_1 14 rfl rfl)
theorem dX8_isGraded_39 : decode cX8_isGraded 39 = .ok (.getfield 155, 3) := dk_180 0 155 (dk_at dksX8_isGraded_1 15 rfl rfl)
theorem dX8_isGraded_42 : decode cX8_isGraded 42 = .ok (.istore_n 3, 1) := dk_62 (dk_at dksX8_isGraded_1 18 rfl rfl)
theorem dX8_isGraded_43 : decode cX8_isGraded 43 = .ok (.iload_n 3, 1) := dk_29 (dk_at dksX8_isGraded_1 19 rfl rfl)
theorem dX8_isGraded_44 : decode cX8_isGraded 44 = .ok (.ifCond .le 100, 3) := dk_158 0 100 (dk_at dksX8_isGraded_1 20 rfl rfl)
theorem dX8_isGraded_47 : decode cX8_isGraded 47 = .ok (.iload_n 3, 1) := dk_29 (dk_at dksX8_isGraded_1 23 rfl rfl)
theorem dX8_isGraded_48 : decode cX8_isGraded 48 = .ok (.iconst 2, 1) := dk_5 (dk_at dksX8_isGraded_2 0 rfl rfl)
theorem dX8_isGraded_49 : decode cX8_isGraded 49 = .ok (.idiv, 1) := dk_108 (dk_at dksX8_isGraded_2 1 rfl rfl)
theorem dX8_isGraded_50 : decode cX8_isGraded 50 = .ok (.istore 4, 2) := dk_54 4 (dk_at dksX8_isGraded_2 2 rfl rfl)
theorem dX8_isGraded_52 : decode cX8_isGraded 52 = .ok (.aload_n 0, 1) := dk_42 (dk_at dksX8_isGraded_2 4 rfl rfl)
theorem dX8_isGraded_53 : decode cX8_isGraded 53 = .ok (.getfield 60, 3) := dk_180 0 60 (dk_at dksX8_isGraded_2 5 rfl rfl)
theorem dX8_isGraded_56 : decode cX8_isGraded 56 = .ok (.iload 4, 2) := dk_21 4 (dk_at dksX8_isGraded_2 8 rfl rfl)
theorem dX8_isGraded_58 : decode cX8_isGraded 58 = .ok (.baload, 1) := dk_51 (dk_at dksX8_isGraded_2 10 rfl rfl)
theorem dX8_isGraded_59 : decode cX8_isGraded 59 = .ok (.aload_n 0, 1) := dk_42 (dk_at dksX8_isGraded_2 11 rfl rfl)
theorem dX8_isGraded_60 : decode cX8_isGraded 60 = .ok (.getfield 63, 3) := dk_180 0 63 (dk_at dksX8_isGraded_2 12 rfl rfl)
theorem dX8_isGraded_63 : decode cX8_isGraded 63 = .ok (.iload 4, 2) := dk_21 4 (dk_at dksX8_isGraded_2 15 rfl rfl)
theorem dX8_isGraded_65 : decode cX8_isGraded 65 = .ok (.baload, 1) := dk_51 (dk_at dksX8_isGraded_2 17 rfl rfl)
theorem dX8_isGraded_66 : decode cX8_isGraded 66 = .ok (.if_icmp .eq 26, 3) := dk_159 0 26 (dk_at dksX8_isGraded_2 18 rfl rfl)
theorem dX8_isGraded_69 : decode cX8_isGraded 69 = .ok (.aload_n 0, 1) := dk_42 (dk_at dksX8_isGraded_2 21 rfl rfl)
theorem dX8_isGraded_70 : decode cX8_isGraded 70 = .ok (.getfield 60, 3) := dk_180 0 60 (dk_at dksX8_isGraded_3 0 rfl rfl)
theorem dX8_isGraded_73 : decode cX8_isGraded 73 = .ok (.iload 4, 2) := dk_21 4 (dk_at dksX8_isGraded_3 3 rfl rfl)
theorem dX8_isGraded_75 : decode cX8_isGraded 75 = .ok (.baload, 1) := dk_51 (dk_at dksX8_isGraded_3 5 rfl rfl)
theorem dX8_isGraded_76 : decode cX8_isGraded 76 = .ok (.aload_n 0, 1) := dk_42 (dk_at dksX8_isGraded_3 6 rfl rfl)
theorem dX8_isGraded_77 : decode cX8_isGraded 77 = .ok (.getfield 63, 3) := dk_180 0 63 (dk_at dksX8_isGraded_3 7 rfl rfl)
theorem dX8_isGraded_80 : decode cX8_isGraded 80 = .ok (.iload 4, 2) := dk_21 4 (dk_at dksX8_isGraded_3 10 rfl rfl)
theorem dX8_isGraded_82 : decode cX8_isGraded 82 = .ok (.baload, 1) := dk_51 (dk_at dksX8_isGraded_3 12 rfl rfl)
theorem dX8_isGraded_83 : decode cX8_isGraded 83 = .ok (.if_icmp .le 7, 3) := dk_164 0 7 (dk_at dksX8_isGraded_3 13 rfl rfl)
theorem dX8_isGraded_86 : decode cX8_isGraded 86 = .ok (.iconst 1, 1) := dk_4 (dk_at dksX8_isGraded_3 16 rfl rfl)
theorem dX8_isGraded_87 : decode cX8_isGraded 87 = .ok (.goto 4, 3) := dk_167 0 4 (dk_at dksX8_isGraded_3 17 rfl rfl)
theorem dX8_isGraded_90 : decode cX8_isGraded 90 = .ok (.iconst 0, 1) := dk_3 (dk_at dksX8_isGraded_3 20 rfl rfl)
theorem dX8_isGraded_91 : decode cX8_isGraded 91 = .ok (.ireturn, 1) := dk_172 (dk_at dksX8_isGraded_3 21 rfl rfl)
theorem dX8_isGraded_92 : decode cX8_isGraded 92 = .ok (.aload_n 0, 1) := dk_42 (dk_at dksX8_isGraded_3 22 rfl rfl)
theorem dX8_isGraded_93 : decode cX8_isGraded 93 = .ok (.getfield 60, 3) := dk_180 0 60 (dk_at dksX8_isGraded_4 0 rfl rfl)
theorem dX8_isGraded_96 : decode cX8_isGraded 96 = .ok (.iload 4, 2) := dk_21 4 (dk_at dksX8_isGraded_4 3 rfl rfl)
theorem dX8_isGraded_98 : decode cX8_isGraded 98 = .ok (.iconst 1, 1) := dk_4 (dk_at dksX8_isGraded_4 5 rfl rfl)
theorem dX8_isGraded_99 : decode cX8_isGraded 99 = .ok (.iadd, 1) := dk_96 (dk_at dksX8_isGraded_4 6 rfl rfl)
theorem dX8_isGraded_100 : decode cX8_isGraded 100 = .ok (.aload_n 0, 1) := dk_42 (dk_at dksX8_isGraded_4 7 rfl rfl)
theorem dX8_isGraded_101 : decode cX8_isGraded 101 = .ok (.getfield 60, 3) := dk_180 0 60 (dk_at dksX8_isGraded_4 8 rfl rfl)
theorem dX8_isGraded_104 : decode cX8_isGraded 104 = .ok (.iload 4, 2) := dk_21 4 (dk_at dksX8_isGraded_4 11 rfl rfl)
theorem dX8_isGraded_106 : decode cX8_isGraded 106 = .ok (.iload_n 3, 1) := dk_29 (dk_at dksX8_isGraded_4 13 rfl rfl)
theorem dX8_isGraded_107 : decode cX8_isGraded 107 = .ok (.iload 4, 2) := dk_21 4 (dk_at dksX8_isGraded_4 14 rfl rfl)
theorem dX8_isGraded_109 : decode cX8_isGraded 109 = .ok (.isub, 1) := dk_100 (dk_at dksX8_isGraded_4 16 rfl rfl)
theorem dX8_isGraded_110 : decode cX8_isGraded 110 = .ok (.iconst 1, 1) := dk_4 (dk_at dksX8_isGraded_4 17 rfl rfl)
theorem dX8_isGraded_111 : decode cX8_isGraded 111 = .ok (.isub, 1) := dk_100 (dk_at dksX8_isGraded_4 18 rfl rfl)
theorem dX8_isGraded_112 : decode cX8_isGraded 112 = .ok (.invokestatic 203, 3) := dk_184 0 203 (dk_at dksX8_isGraded_4 19 rfl rfl)
theorem dX8_isGraded_115 : decode cX8_isGraded 115 = .ok (.aload_n 0, 1) := dk_42 (dk_at dksX8_isGraded_4 22 rfl rfl)
theorem dX8_isGraded_116 : decode cX8_isGraded 116 = .ok (.getfield 63, 3) := dk_180 0 63 (dk_at dksX8_isGraded_5 0 rfl rfl)
theorem dX8_isGraded_119 : decode cX8_isGraded 119 = .ok (.iload 4, 2) := dk_21 4 (dk_at dksX8_isGraded_5 3 rfl rfl)
theorem dX8_isGraded_121 : decode cX8_isGraded 121 = .ok (.iconst 1, 1) := dk_4 (dk_at dksX8_isGraded_5 5 rfl rfl)
theorem dX8_isGraded_122 : decode cX8_isGraded 122 = .ok (.iadd, 1) := dk_96 (dk_at dksX8_isGraded_5 6 rfl rfl)
theorem dX8_isGraded_123 : decode cX8_isGraded 123 = .ok (.aload_n 0, 1) := dk_42 (dk_at dksX8_isGraded_5 7 rfl rfl)
theorem dX8_isGraded_124 : decode cX8_isGraded 124 = .ok (.getfield 63, 3) := dk_180 0 63 (dk_at dksX8_isGraded_5 8 rfl rfl)
theorem dX8_isGraded_127 : decode cX8_isGraded 127 = .ok (.iload 4, 2) := dk_21 4 (dk_at dksX8_isGraded_5 11 rfl rfl)
theorem dX8_isGraded_129 : decode cX8_isGraded 129 = .ok (.iload_n 3, 1) := dk_29 (dk_at dksX8_isGraded_5 13 rfl rfl)
theorem dX8_isGraded_130 : decode cX8_isGraded 130 = .ok (.iload 4, 2) := dk_21 4 (dk_at dksX8_isGraded_5 14 rfl rfl)
theorem dX8_isGraded_132 : decode cX8_isGraded 132 = .ok (.isub, 1) := dk_100 (dk_at dksX8_isGraded_5 16 rfl rfl)
theorem dX8_isGraded_133 : decode cX8_isGraded 133 = .ok (.iconst 1, 1) := dk_4 (dk_at dksX8_isGraded_5 17 rfl rfl)
theorem dX8_isGraded_134 : decode cX8_isGraded 134 = .ok (.isub, 1) := dk_100 (dk_at dksX8_isGraded_5 18 rfl rfl)
theorem dX8_isGraded_135 : decode cX8_isGraded 135 = .ok (.invokestatic 203, 3) := dk_184 0 203 (dk_at dksX8_isGraded_5 19 rfl rfl)
theorem dX8_isGraded_138 : decode cX8_isGraded 138 = .ok (.iinc 3 (-1), 3) := dk_132 3 255 (dk_at dksX8_isGraded_6 0 rfl rfl)
theorem dX8_isGraded_141 : decode cX8_isGraded 141 = .ok (.goto (-98), 3) := dk_167 255 158 (dk_at dksX8_isGraded_6 3 rfl rfl)
theorem dX8_isGraded_144 : decode cX8_isGraded 144 = .ok (.iconst 0, 1) := dk_3 (dk_at dksX8_isGraded_6 6 rfl rfl)
theorem dX8_isGraded_145 : decode cX8_isGraded 145 = .ok (.ireturn, 1) := dk_172 (dk_at dksX8_isGraded_6 7 rfl rfl)
abbrev cX8_byLeaving : ByteArray := prog_5_method_29_code
def yX8_byLeaving : MethodName := ⟨RX8, "byLeaving", "()V"⟩
def dkwX8_byLeaving_2 : List UInt8 := [182, 1, 16, 167, 255, 212, 42, 9, 182, 0, 227, 61, 177]
abbrev dktX8_byLeaving_2 : List UInt8 := dkwX8_byLeaving_2 ++ []
def dkwX8_byLeaving_1 : List UInt8 := [180, 0, 131, 180, 0, 185, 164, 0, 7, 4, 167, 0, 4, 3, 60, 27, 153, 255, 223, 42, 42, 182, 1, 13]
abbrev dktX8_byLeaving_1 : List UInt8 := dkwX8_byLeaving_1 ++ dktX8_byLeaving_2
def dkwX8_byLeaving_0 : List UInt8 := [42, 182, 0, 239, 4, 60, 27, 153, 0, 46, 42, 182, 1, 10, 42, 182, 0, 254, 42, 182, 0, 223, 42]
abbrev dktX8_byLeaving_0 : List UInt8 := dkwX8_byLeaving_0 ++ dktX8_byLeaving_1
theorem dksX8_byLeaving_0 : cX8_byLeaving.data.toList.drop 0 = dktX8_byLeaving_0 := by decide +kernel
theorem dksX8_byLeaving_1 : cX8_byLeaving.data.toList.drop 23 = dktX8_byLeaving_1 := dk_seg dksX8_byLeaving_0 23 rfl rfl
theorem dksX8_byLeaving_2 : cX8_byLeaving.data.toList.drop 47 = dktX8_byLeaving_2 := dk_seg dksX8_byLeaving_1 24 rfl rfl
theorem dX8_byLeaving_0 : decode cX8_byLeaving 0 = .ok (.aload_n 0, 1) := dk_42 (dk_at dksX8_byLeaving_0 0 rfl rfl)
theorem dX8_byLeaving_1 : decode cX8_byLeaving 1 = .ok (.invokevirtual 239, 3) := dk_182 0 239 (dk_at dksX8_byLeaving_0 1 rfl rfl)
theorem dX8_byLeaving_4 : decode cX8_byLeaving 4 = .ok (.iconst 1, 1) := dk_4 (dk_at dksX8_byLeaving_0 4 rfl rfl)
theorem dX8_byLeaving_5 : decode cX8_byLeaving 5 = .ok (.istore_n 1, 1) := dk_60 (dk_at dksX8_byLeaving_0 5 rfl rfl)
theorem dX8_byLeaving_6 : decode cX8_byLeaving 6 = .ok (.iload_n 1, 1) := dk_27 (dk_at dksX8_byLeaving_0 6 rfl rfl)
theorem dX8_byLeaving_7 : decode cX8_byLeaving 7 = .ok (.ifCond .eq 46, 3) := dk_153 0 46 (dk_at dksX8_byLeaving_0 7 rfl rfl)
theorem dX8_byLeaving_10 : decode cX8_byLeaving 10 = .ok (.aload_n 0, 1) := dk_42 (dk_at dksX8_byLeaving_0 10 rfl rfl)
theorem dX8_byLeaving_11 : decode cX8_byLeaving 11 = .ok (.invokevirtual 266, 3) := dk_182 1 10 (dk_at dksX8_byLeaving_0 11 rfl rfl)
theorem dX8_byLeaving_14 : decode cX8_byLeaving 14 = .ok (.aload_n 0, 1) := dk_42 (dk_at dksX8_byLeaving_0 14 rfl rfl)
theorem dX8_byLeaving_15 : decode cX8_byLeaving 15 = .ok (.invokevirtual 254, 3) := dk_182 0 254 (dk_at dksX8_byLeaving_0 15 rfl rfl)
theorem dX8_byLeaving_18 : decode cX8_byLeaving 18 = .ok (.aload_n 0, 1) := dk_42 (dk_at dksX8_byLeaving_0 18 rfl rfl)
theorem dX8_byLeaving_19 : decode cX8_byLeaving 19 = .ok (.invokevirtual 223, 3) := dk_182 0 223 (dk_at dksX8_byLeaving_0 19 rfl rfl)
theorem dX8_byLeaving_22 : decode cX8_byLeaving 22 = .ok (.aload_n 0, 1) := dk_42 (dk_at dksX8_byLeaving_0 22 rfl rfl)
theorem dX8_byLeaving_23 : decode cX8_byLeaving 23 = .ok (.getfield 131, 3) := dk_180 0 131 (dk_at dksX8_byLeaving_1 0 rfl rfl)
theorem dX8_byLeaving_26 : decode cX8_byLeaving 26 = .ok (.getfield 185, 3) := dk_180 0 185 (dk_at dksX8_byLeaving_1 3 rfl rfl)
theorem dX8_byLeaving_29 : decode cX8_byLeaving 29 = .ok (.if_icmp .le 7, 3) := dk_164 0 7 (dk_at dksX8_byLeaving_1 6 rfl rfl)
theorem dX8_byLeaving_32 : decode cX8_byLeaving 32 = .ok (.iconst 1, 1) := dk_4 (dk_at dksX8_byLeaving_1 9 rfl rfl)
theorem dX8_byLeaving_33 : decode cX8_byLeaving 33 = .ok (.goto 4, 3) := dk_167 0 4 (dk_at dksX8_byLeaving_1 10 rfl rfl)
theorem dX8_byLeaving_36 : decode cX8_byLeaving 36 = .ok (.iconst 0, 1) := dk_3 (dk_at dksX8_byLeaving_1 13 rfl rfl)
theorem dX8_byLeaving_37 : decode cX8_byLeaving 37 = .ok (.istore_n 1, 1) := dk_60 (dk_at dksX8_byLeaving_1 14 rfl rfl)
theorem dX8_byLeaving_38 : decode cX8_byLeaving 38 = .ok (.iload_n 1, 1) := dk_27 (dk_at dksX8_byLeaving_1 15 rfl rfl)
theorem dX8_byLeaving_39 : decode cX8_byLeaving 39 = .ok (.ifCond .eq (-33), 3) := dk_153 255 223 (dk_at dksX8_byLeaving_1 16 rfl rfl)
theorem dX8_byLeaving_42 : decode cX8_byLeaving 42 = .ok (.aload_n 0, 1) := dk_42 (dk_at dksX8_byLeaving_1 19 rfl rfl)
theorem dX8_byLeaving_43 : decode cX8_byLeaving 43 = .ok (.aload_n 0, 1) := dk_42 (dk_at dksX8_byLeaving_1 20 rfl rfl)
theorem dX8_byLeaving_44 : decode cX8_byLeaving 44 = .ok (.invokevirtual 269, 3) := dk_182 1 13 (dk_at dksX8_byLeaving_1 21 rfl rfl)
theorem dX8_byLeaving_47 : decode cX8_byLeaving 47 = .ok (.invokevirtual 272, 3) := dk_182 1 16 (dk_at dksX8_byLeaving_2 0 rfl rfl)
theorem dX8_byLeaving_50 : decode cX8_byLeaving 50 = .ok (.goto (-44), 3) := dk_167 255 212 (dk_at dksX8_byLeaving_2 3 rfl rfl)
theorem dX8_byLeaving_53 : decode cX8_byLeaving 53 = .ok (.aload_n 0, 1) := dk_42 (dk_at dksX8_byLeaving_2 6 rfl rfl)
theorem dX8_byLeaving_54 : decode cX8_byLeaving 54 = .ok (.lconst 0, 1) := dk_9 (dk_at dksX8_byLeaving_2 7 rfl rfl)
theorem dX8_byLeaving_55 : decode cX8_byLeaving 55 = .ok (.invokevirtual 227, 3) := dk_182 0 227 (dk_at dksX8_byLeaving_2 8 rfl rfl)
theorem dX8_byLeaving_58 : decode cX8_byLeaving 58 = .ok (.istore_n 2, 1) := dk_61 (dk_at dksX8_byLeaving_2 11 rfl rfl)
theorem dX8_byLeaving_59 : decode cX8_byLeaving 59 = .ok (.return_, 1) := dk_177 (dk_at dksX8_byLeaving_2 12 rfl rfl)
abbrev cX8_firsts : ByteArray := prog_5_method_27_code
def yX8_firsts : MethodName := ⟨RX8, "firsts", "()V"⟩
def dkwX8_firsts_1 : List UInt8 := [28, 2, 159, 0, 13, 42, 180, 0, 33, 28, 92, 47, 10, 97, 80, 132, 1, 1, 167, 255, 224, 177]
abbrev dktX8_firsts_1 : List UInt8 := dkwX8_firsts_1 ++ []
def dkwX8_firsts_0 : List UInt8 := [42, 180, 0, 33, 9, 184, 0, 242, 3, 60, 27, 42, 180, 0, 155, 162, 0, 30, 42, 27, 182, 1, 7, 61]
abbrev dktX8_firsts_0 : List UInt8 := dkwX8_firsts_0 ++ dktX8_firsts_1
theorem dksX8_firsts_0 : cX8_firsts.data.toList.drop 0 = dktX8_firsts_0 := by decide +kernel
theorem dksX8_firsts_1 : cX8_firsts.data.toList.drop 24 = dktX8_firsts_1 := dk_seg dksX8_firsts_0 24 rfl rfl
theorem dX8_firsts_0 : decode cX8_firsts 0 = .ok (.aload_n 0, 1) := dk_42 (dk_at dksX8_firsts_0 0 rfl rfl)
theorem dX8_firsts_1 : decode cX8_firsts 1 = .ok (.getfield 33, 3) := dk_180 0 33 (dk_at dksX8_firsts_0 1 rfl rfl)
theorem dX8_firsts_4 : decode cX8_firsts 4 = .ok (.lconst 0, 1) := dk_9 (dk_at dksX8_firsts_0 4 rfl rfl)
theorem dX8_firsts_5 : decode cX8_firsts 5 = .ok (.invokestatic 242, 3) := dk_184 0 242 (dk_at dksX8_firsts_0 5 rfl rfl)
theorem dX8_firsts_8 : decode cX8_firsts 8 = .ok (.iconst 0, 1) := dk_3 (dk_at dksX8_firsts_0 8 rfl rfl)
theorem dX8_firsts_9 : decode cX8_firsts 9 = .ok (.istore_n 1, 1) := dk_60 (dk_at dksX8_firsts_0 9 rfl rfl)
theorem dX8_firsts_10 : decode cX8_firsts 10 = .ok (.iload_n 1, 1) := dk_27 (dk_at dksX8_firsts_0 10 rfl rfl)
theorem dX8_firsts_11 : decode cX8_firsts 11 = .ok (.aload_n 0, 1) := dk_42 (dk_at dksX8_firsts_0 11 rfl rfl)
theorem dX8_firsts_12 : decode cX8_firsts 12 = .ok (.getfield 155, 3) := dk_180 0 155 (dk_at dksX8_firsts_0 12 rfl rfl)
theorem dX8_firsts_15 : decode cX8_firsts 15 = .ok (.if_icmp .ge 30, 3) := dk_162 0 30 (dk_at dksX8_firsts_0 15 rfl rfl)
theorem dX8_firsts_18 : decode cX8_firsts 18 = .ok (.aload_n 0, 1) := dk_42 (dk_at dksX8_firsts_0 18 rfl rfl)
theorem dX8_firsts_19 : decode cX8_firsts 19 = .ok (.iload_n 1, 1) := dk_27 (dk_at dksX8_firsts_0 19 rfl rfl)
theorem dX8_firsts_20 : decode cX8_firsts 20 = .ok (.invokevirtual 263, 3) := dk_182 1 7 (dk_at dksX8_firsts_0 20 rfl rfl)
theorem dX8_firsts_23 : decode cX8_firsts 23 = .ok (.istore_n 2, 1) := dk_61 (dk_at dksX8_firsts_0 23 rfl rfl)
theorem dX8_firsts_24 : decode cX8_firsts 24 = .ok (.iload_n 2, 1) := dk_28 (dk_at dksX8_firsts_1 0 rfl rfl)
theorem dX8_firsts_25 : decode cX8_firsts 25 = .ok (.iconst (-1), 1) := dk_2 (dk_at dksX8_firsts_1 1 rfl rfl)
theorem dX8_firsts_26 : decode cX8_firsts 26 = .ok (.if_icmp .eq 13, 3) := dk_159 0 13 (dk_at dksX8_firsts_1 2 rfl rfl)
theorem dX8_firsts_29 : decode cX8_firsts 29 = .ok (.aload_n 0, 1) := dk_42 (dk_at dksX8_firsts_1 5 rfl rfl)
theorem dX8_firsts_30 : decode cX8_firsts 30 = .ok (.getfield 33, 3) := dk_180 0 33 (dk_at dksX8_firsts_1 6 rfl rfl)
theorem dX8_firsts_33 : decode cX8_firsts 33 = .ok (.iload_n 2, 1) := dk_28 (dk_at dksX8_firsts_1 9 rfl rfl)
theorem dX8_firsts_34 : decode cX8_firsts 34 = .ok (.dup2, 1) := dk_92 (dk_at dksX8_firsts_1 10 rfl rfl)
theorem dX8_firsts_35 : decode cX8_firsts 35 = .ok (.laload, 1) := dk_47 (dk_at dksX8_firsts_1 11 rfl rfl)
theorem dX8_firsts_36 : decode cX8_firsts 36 = .ok (.lconst 1, 1) := dk_10 (dk_at dksX8_firsts_1 12 rfl rfl)
theorem dX8_firsts_37 : decode cX8_firsts 37 = .ok (.ladd, 1) := dk_97 (dk_at dksX8_firsts_1 13 rfl rfl)
theorem dX8_firsts_38 : decode cX8_firsts 38 = .ok (.lastore, 1) := dk_80 (dk_at dksX8_firsts_1 14 rfl rfl)
theorem dX8_firsts_39 : decode cX8_firsts 39 = .ok (.iinc 1 1, 3) := dk_132 1 1 (dk_at dksX8_firsts_1 15 rfl rfl)
theorem dX8_firsts_42 : decode cX8_firsts 42 = .ok (.goto (-32), 3) := dk_167 255 224 (dk_at dksX8_firsts_1 18 rfl rfl)
theorem dX8_firsts_45 : decode cX8_firsts 45 = .ok (.return_, 1) := dk_177 (dk_at dksX8_firsts_1 21 rfl rfl)
abbrev cX8_nextOn : ByteArray := prog_5_method_28_code
def yX8_nextOn : MethodName := ⟨RX8, "nextOn", "(I)I"⟩
def dkwX8_nextOn_1 : List UInt8 := [153, 0, 12, 42, 180, 0, 26, 27, 50, 28, 46, 172, 132, 2, 1, 167, 255, 219, 2, 172]
abbrev dktX8_nextOn_1 : List UInt8 := dkwX8_nextOn_1 ++ []
def dkwX8_nextOn_0 : List UInt8 := [3, 61, 28, 42, 180, 0, 29, 27, 46, 162, 0, 33, 42, 42, 180, 0, 26, 27, 50, 28, 46, 182, 0, 209]
abbrev dktX8_nextOn_0 : List UInt8 := dkwX8_nextOn_0 ++ dktX8_nextOn_1
theorem dksX8_nextOn_0 : cX8_nextOn.data.toList.drop 0 = dktX8_nextOn_0 := by decide +kernel
theorem dksX8_nextOn_1 : cX8_nextOn.data.toList.drop 24 = dktX8_nextOn_1 := dk_seg dksX8_nextOn_0 24 rfl rfl
theorem dX8_nextOn_0 : decode cX8_nextOn 0 = .ok (.iconst 0, 1) := dk_3 (dk_at dksX8_nextOn_0 0 rfl rfl)
theorem dX8_nextOn_1 : decode cX8_nextOn 1 = .ok (.istore_n 2, 1) := dk_61 (dk_at dksX8_nextOn_0 1 rfl rfl)
theorem dX8_nextOn_2 : decode cX8_nextOn 2 = .ok (.iload_n 2, 1) := dk_28 (dk_at dksX8_nextOn_0 2 rfl rfl)
theorem dX8_nextOn_3 : decode cX8_nextOn 3 = .ok (.aload_n 0, 1) := dk_42 (dk_at dksX8_nextOn_0 3 rfl rfl)
theorem dX8_nextOn_4 : decode cX8_nextOn 4 = .ok (.getfield 29, 3) := dk_180 0 29 (dk_at dksX8_nextOn_0 4 rfl rfl)
theorem dX8_nextOn_7 : decode cX8_nextOn 7 = .ok (.iload_n 1, 1) := dk_27 (dk_at dksX8_nextOn_0 7 rfl rfl)
theorem dX8_nextOn_8 : decode cX8_nextOn 8 = .ok (.iaload, 1) := dk_46 (dk_at dksX8_nextOn_0 8 rfl rfl)
theorem dX8_nextOn_9 : decode cX8_nextOn 9 = .ok (.if_icmp .ge 33, 3) := dk_162 0 33 (dk_at dksX8_nextOn_0 9 rfl rfl)
theorem dX8_nextOn_12 : decode cX8_nextOn 12 = .ok (.aload_n 0, 1) := dk_42 (dk_at dksX8_nextOn_0 12 rfl rfl)
theorem dX8_nextOn_13 : decode cX8_nextOn 13 = .ok (.aload_n 0, 1) := dk_42 (dk_at dksX8_nextOn_0 13 rfl rfl)
theorem dX8_nextOn_14 : decode cX8_nextOn 14 = .ok (.getfield 26, 3) := dk_180 0 26 (dk_at dksX8_nextOn_0 14 rfl rfl)
theorem dX8_nextOn_17 : decode cX8_nextOn 17 = .ok (.iload_n 1, 1) := dk_27 (dk_at dksX8_nextOn_0 17 rfl rfl)
theorem dX8_nextOn_18 : decode cX8_nextOn 18 = .ok (.aaload, 1) := dk_50 (dk_at dksX8_nextOn_0 18 rfl rfl)
theorem dX8_nextOn_19 : decode cX8_nextOn 19 = .ok (.iload_n 2, 1) := dk_28 (dk_at dksX8_nextOn_0 19 rfl rfl)
theorem dX8_nextOn_20 : decode cX8_nextOn 20 = .ok (.iaload, 1) := dk_46 (dk_at dksX8_nextOn_0 20 rfl rfl)
theorem dX8_nextOn_21 : decode cX8_nextOn 21 = .ok (.invokevirtual 209, 3) := dk_182 0 209 (dk_at dksX8_nextOn_0 21 rfl rfl)
theorem dX8_nextOn_24 : decode cX8_nextOn 24 = .ok (.ifCond .eq 12, 3) := dk_153 0 12 (dk_at dksX8_nextOn_1 0 rfl rfl)
theorem dX8_nextOn_27 : decode cX8_nextOn 27 = .ok (.aload_n 0, 1) := dk_42 (dk_at dksX8_nextOn_1 3 rfl rfl)
theorem dX8_nextOn_28 : decode cX8_nextOn 28 = .ok (.getfield 26, 3) := dk_180 0 26 (dk_at dksX8_nextOn_1 4 rfl rfl)
theorem dX8_nextOn_31 : decode cX8_nextOn 31 = .ok (.iload_n 1, 1) := dk_27 (dk_at dksX8_nextOn_1 7 rfl rfl)
theorem dX8_nextOn_32 : decode cX8_nextOn 32 = .ok (.aaload, 1) := dk_50 (dk_at dksX8_nextOn_1 8 rfl rfl)
theorem dX8_nextOn_33 : decode cX8_nextOn 33 = .ok (.iload_n 2, 1) := dk_28 (dk_at dksX8_nextOn_1 9 rfl rfl)
theorem dX8_nextOn_34 : decode cX8_nextOn 34 = .ok (.iaload, 1) := dk_46 (dk_at dksX8_nextOn_1 10 rfl rfl)
theorem dX8_nextOn_35 : decode cX8_nextOn 35 = .ok (.ireturn, 1) := dk_172 (dk_at dksX8_nextOn_1 11 rfl rfl)
theorem dX8_nextOn_36 : decode cX8_nextOn 36 = .ok (.iinc 2 1, 3) := dk_132 2 1 (dk_at dksX8_nextOn_1 12 rfl rfl)
theorem dX8_nextOn_39 : decode cX8_nextOn 39 = .ok (.goto (-37), 3) := dk_167 255 219 (dk_at dksX8_nextOn_1 15 rfl rfl)
theorem dX8_nextOn_42 : decode cX8_nextOn 42 = .ok (.iconst (-1), 1) := dk_2 (dk_at dksX8_nextOn_1 18 rfl rfl)
theorem dX8_nextOn_43 : decode cX8_nextOn 43 = .ok (.ireturn, 1) := dk_172 (dk_at dksX8_nextOn_1 19 rfl rfl)
