set_option maxRecDepth 100000
abbrev cX11_openLevel : ByteArray := prog_17_method_64_code
def yX11_openLevel : MethodName := ⟨RX11, "openLevel", "(IZ)V"⟩
def dkwX11_openLevel_1 : List UInt8 := [180, 1, 251, 27, 28, 84, 177]
abbrev dktX11_openLevel_1 : List UInt8 := dkwX11_openLevel_1 ++ []
def dkwX11_openLevel_0 : List UInt8 := [42, 180, 1, 241, 27, 3, 84, 42, 180, 1, 245, 27, 4, 84, 42, 180, 1, 248, 27, 3, 84, 42]
abbrev dktX11_openLevel_0 : List UInt8 := dkwX11_openLevel_0 ++ dktX11_openLevel_1
theorem dksX11_openLevel_0 : cX11_openLevel.data.toList.drop 0 = dktX11_openLevel_0 := by decide +kernel
theorem dksX11_openLevel_1 : cX11_openLevel.data.toList.drop 22 = dktX11_openLevel_1 := dk_seg dksX11_openLevel_0 22 rfl rfl
theorem dX11_openLevel_0 : decode cX11_openLevel 0 = .ok (.aload_n 0, 1) := dk_42 (dk_at dksX11_openLevel_0 0 rfl rfl)
theorem dX11_openLevel_1 : decode cX11_openLevel 1 = .ok (.getfield 497, 3) := dk_180 1 241 (dk_at dksX11_openLevel_0 1 rfl rfl)
theorem dX11_openLevel_4 : decode cX11_openLevel 4 = .ok (.iload_n 1, 1) := dk_27 (dk_at dksX11_openLevel_0 4 rfl rfl)
theorem dX11_openLevel_5 : decode cX11_openLevel 5 = .ok (.iconst 0, 1) := dk_3 (dk_at dksX11_openLevel_0 5 rfl rfl)
theorem dX11_openLevel_6 : decode cX11_openLevel 6 = .ok (.bastore, 1) := dk_84 (dk_at dksX11_openLevel_0 6 rfl rfl)
theorem dX11_openLevel_7 : decode cX11_openLevel 7 = .ok (.aload_n 0, 1) := dk_42 (dk_at dksX11_openLevel_0 7 rfl rfl)
theorem dX11_openLevel_8 : decode cX11_openLevel 8 = .ok (.getfield 501, 3) := dk_180 1 245 (dk_at dksX11_openLevel_0 8 rfl rfl)
theorem dX11_openLevel_11 : decode cX11_openLevel 11 = .ok (.iload_n 1, 1) := dk_27 (dk_at dksX11_openLevel_0 11 rfl rfl)
theorem dX11_openLevel_12 : decode cX11_openLevel 12 = .ok (.iconst 1, 1) := dk_4 (dk_at dksX11_openLevel_0 12 rfl rfl)
theorem dX11_openLevel_13 : decode cX11_openLevel 13 = .ok (.bastore, 1) := dk_84 (dk_at dksX11_openLevel_0 13 rfl rfl)
theorem dX11_openLevel_14 : decode cX11_openLevel 14 = .ok (.aload_n 0, 1) := dk_42 (dk_at dksX11_openLevel_0 14 rfl rfl)
theorem dX11_openLevel_15 : decode cX11_openLevel 15 = .ok (.getfield 504, 3) := dk_180 1 248 (dk_at dksX11_openLevel_0 15 rfl rfl)
theorem dX11_openLevel_18 : decode cX11_openLevel 18 = .ok (.iload_n 1, 1) := dk_27 (dk_at dksX11_openLevel_0 18 rfl rfl)
theorem dX11_openLevel_19 : decode cX11_openLevel 19 = .ok (.iconst 0, 1) := dk_3 (dk_at dksX11_openLevel_0 19 rfl rfl)
theorem dX11_openLevel_20 : decode cX11_openLevel 20 = .ok (.bastore, 1) := dk_84 (dk_at dksX11_openLevel_0 20 rfl rfl)
theorem dX11_openLevel_21 : decode cX11_openLevel 21 = .ok (.aload_n 0, 1) := dk_42 (dk_at dksX11_openLevel_0 21 rfl rfl)
theorem dX11_openLevel_22 : decode cX11_openLevel 22 = .ok (.getfield 507, 3) := dk_180 1 251 (dk_at dksX11_openLevel_1 0 rfl rfl)
theorem dX11_openLevel_25 : decode cX11_openLevel 25 = .ok (.iload_n 1, 1) := dk_27 (dk_at dksX11_openLevel_1 3 rfl rfl)
theorem dX11_openLevel_26 : decode cX11_openLevel 26 = .ok (.iload_n 2, 1) := dk_28 (dk_at dksX11_openLevel_1 4 rfl rfl)
theorem dX11_openLevel_27 : decode cX11_openLevel 27 = .ok (.bastore, 1) := dk_84 (dk_at dksX11_openLevel_1 5 rfl rfl)
theorem dX11_openLevel_28 : decode cX11_openLevel 28 = .ok (.return_, 1) := dk_177 (dk_at dksX11_openLevel_1 6 rfl rfl)
abbrev cX11_holds : ByteArray := prog_17_method_63_code
def yX11_holds : MethodName := ⟨RX11, "holds", "(IIZ)Z"⟩
def dkwX11_holds_7 : List UInt8 := [132, 6, 1, 167, 255, 231, 4, 172]
abbrev dktX11_holds_7 : List UInt8 := dkwX11_holds_7 ++ []
def dkwX11_holds_6 : List UInt8 := [21, 6, 21, 5, 162, 0, 24, 42, 28, 21, 4, 21, 6, 100, 182, 0, 151, 156, 0, 5, 3, 172]
abbrev dktX11_holds_6 : List UInt8 := dkwX11_holds_6 ++ dktX11_holds_7
def dkwX11_holds_5 : List UInt8 := [21, 4, 182, 0, 151, 21, 4, 182, 1, 238, 172, 42, 28, 21, 5, 21, 4, 182, 0, 154, 172, 3, 54, 6]
abbrev dktX11_holds_5 : List UInt8 := dkwX11_holds_5 ++ dktX11_holds_6
def dkwX11_holds_4 : List UInt8 := [42, 28, 21, 4, 182, 0, 148, 21, 5, 161, 0, 7, 4, 167, 0, 4, 3, 172, 42, 21, 5, 42, 28]
abbrev dktX11_holds_4 : List UInt8 := dkwX11_holds_4 ++ dktX11_holds_5
def dkwX11_holds_3 : List UInt8 := [170, 0, 0, 0, 0, 0, 75, 0, 0, 0, 0, 0, 0, 0, 3, 0, 0, 0, 31, 0, 0, 0, 75, 0, 0, 0, 49, 0, 0, 0, 65]
abbrev dktX11_holds_3 : List UInt8 := dkwX11_holds_3 ++ dktX11_holds_4
def dkwX11_holds_2 : List UInt8 := [27, 96, 46, 54, 5, 42, 180, 1, 57, 16, 41, 27, 96, 46]
abbrev dktX11_holds_2 : List UInt8 := dkwX11_holds_2 ++ dktX11_holds_3
def dkwX11_holds_1 : List UInt8 := [167, 0, 16, 42, 29, 153, 0, 7, 4, 167, 0, 4, 3, 182, 1, 210, 54, 4, 42, 180, 1, 60, 16, 41]
abbrev dktX11_holds_1 : List UInt8 := dkwX11_holds_1 ++ dktX11_holds_2
def dkwX11_holds_0 : List UInt8 := [42, 180, 1, 63, 16, 41, 27, 96, 46, 18, 42, 159, 0, 15, 42, 180, 1, 63, 16, 41, 27, 96, 46]
abbrev dktX11_holds_0 : List UInt8 := dkwX11_holds_0 ++ dktX11_holds_1
theorem dksX11_holds_0 : cX11_holds.data.toList.drop 0 = dktX11_holds_0 := by decide +kernel
theorem dksX11_holds_1 : cX11_holds.data.toList.drop 23 = dktX11_holds_1 := dk_seg dksX11_holds_0 23 rfl rfl
theorem dksX11_holds_2 : cX11_holds.data.toList.drop 47 = dktX11_holds_2 := dk_seg dksX11_holds_1 24 rfl rfl
theorem dksX11_holds_3 : cX11_holds.data.toList.drop 61 = dktX11_holds_3 := dk_seg dksX11_holds_2 14 rfl rfl
theorem dksX11_holds_4 : cX11_holds.data.toList.drop 92 = dktX11_holds_4 := dk_seg dksX11_holds_3 31 rfl rfl
theorem dksX11_holds_5 : cX11_holds.data.toList.drop 115 = dktX11_holds_5 := dk_seg dksX11_holds_4 23 rfl rfl
theorem dksX11_holds_6 : cX11_holds.data.toList.drop 139 = dktX11_holds_6 := dk_seg dksX11_holds_5 24 rfl rfl
theorem dksX11_holds_7 : cX11_holds.data.toList.drop 161 = dktX11_holds_7 := dk_seg dksX11_holds_6 22 rfl rfl
theorem dX11_holds_0 : decode cX11_holds 0 = .ok (.aload_n 0, 1) := dk_42 (dk_at dksX11_holds_0 0 rfl rfl)
theorem dX11_holds_1 : decode cX11_holds 1 = .ok (.getfield 319, 3) := dk_180 1 63 (dk_at dksX11_holds_0 1 rfl rfl)
theorem dX11_holds_4 : decode cX11_holds 4 = .ok (.bipush 41, 2) := dk_16 41 (dk_at dksX11_holds_0 4 rfl rfl)
theorem dX11_holds_6 : decode cX11_holds 6 = .ok (.iload_n 1, 1) := dk_27 (dk_at dksX11_holds_0 6 rfl rfl)
theorem dX11_holds_7 : decode cX11_holds 7 = .ok (.iadd, 1) := dk_96 (dk_at dksX11_holds_0 7 rfl rfl)
theorem dX11_holds_8 : decode cX11_holds 8 = .ok (.iaload, 1) := dk_46 (dk_at dksX11_holds_0 8 rfl rfl)
theorem dX11_holds_9 : decode cX11_holds 9 = .ok (.ldc 42, 2) := dk_18 42 (dk_at dksX11_holds_0 9 rfl rfl)
theorem dX11_holds_11 : decode cX11_holds 11 = .ok (.if_icmp .eq 15, 3) := dk_159 0 15 (dk_at dksX11_holds_0 11 rfl rfl)
theorem dX11_holds_14 : decode cX11_holds 14 = .ok (.aload_n 0, 1) := dk_42 (dk_at dksX11_holds_0 14 rfl rfl)
theorem dX11_holds_15 : decode cX11_holds 15 = .ok (.getfield 319, 3) := dk_180 1 63 (dk_at dksX11_holds_0 15 rfl rfl)
theorem dX11_holds_18 : decode cX11_holds 18 = .ok (.bipush 41, 2) := dk_16 41 (dk_at dksX11_holds_0 18 rfl rfl)
theorem dX11_holds_20 : decode cX11_holds 20 = .ok (.iload_n 1, 1) := dk_27 (dk_at dksX11_holds_0 20 rfl rfl)
theorem dX11_holds_21 : decode cX11_holds 21 = .ok (.iadd, 1) := dk_96 (dk_at dksX11_holds_0 21 rfl rfl)
theorem dX11_holds_22 : decode cX11_holds 22 = .ok (.iaload, 1) := dk_46 (dk_at dksX11_holds_0 22 rfl rfl)
theorem dX11_holds_23 : decode cX11_holds 23 = .ok (.goto 16, 3) := dk_167 0 16 (dk_at dksX11_holds_1 0 rfl rfl)
theorem dX11_holds_26 : decode cX11_holds 26 = .ok (.aload_n 0, 1) := dk_42 (dk_at dksX11_holds_1 3 rfl rfl)
theorem dX11_holds_27 : decode cX11_holds 27 = .ok (.iload_n 3, 1) := dk_29 (dk_at dksX11_holds_1 4 rfl rfl)
theorem dX11_holds_28 : decode cX11_holds 28 = .ok (.ifCond .eq 7, 3) := dk_153 0 7 (dk_at dksX11_holds_1 5 rfl rfl)
theorem dX11_holds_31 : decode cX11_holds 31 = .ok (.iconst 1, 1) := dk_4 (dk_at dksX11_holds_1 8 rfl rfl)
theorem dX11_holds_32 : decode cX11_holds 32 = .ok (.goto 4, 3) := dk_167 0 4 (dk_at dksX11_holds_1 9 rfl rfl)
theorem dX11_holds_35 : decode cX11_holds 35 = .ok (.iconst 0, 1) := dk_3 (dk_at dksX11_holds_1 12 rfl rfl)
theorem dX11_holds_36 : decode cX11_holds 36 = .ok (.invokevirtual 466, 3) := dk_182 1 210 (dk_at dksX11_holds_1 13 rfl rfl)
theorem dX11_holds_39 : decode cX11_holds 39 = .ok (.istore 4, 2) := dk_54 4 (dk_at dksX11_holds_1 16 rfl rfl)
theorem dX11_holds_41 : decode cX11_holds 41 = .ok (.aload_n 0, 1) := dk_42 (dk_at dksX11_holds_1 18 rfl rfl)
theorem dX11_holds_42 : decode cX11_holds 42 = .ok (.getfield 316, 3) := dk_180 1 60 (dk_at dksX11_holds_1 19 rfl rfl)
theorem dX11_holds_45 : decode cX11_holds 45 = .ok (.bipush 41, 2) := dk_16 41 (dk_at dksX11_holds_1 22 rfl rfl)
theorem dX11_holds_47 : decode cX11_holds 47 = .ok (.iload_n 1, 1) := dk_27 (dk_at dksX11_holds_2 0 rfl rfl)
theorem dX11_holds_48 : decode cX11_holds 48 = .ok (.iadd, 1) := dk_96 (dk_at dksX11_holds_2 1 rfl rfl)
theorem dX11_holds_49 : decode cX11_holds 49 = .ok (.iaload, 1) := dk_46 (dk_at dksX11_holds_2 2 rfl rfl)
theorem dX11_holds_50 : decode cX11_holds 50 = .ok (.istore 5, 2) := dk_54 5 (dk_at dksX11_holds_2 3 rfl rfl)
theorem dX11_holds_52 : decode cX11_holds 52 = .ok (.aload_n 0, 1) := dk_42 (dk_at dksX11_holds_2 5 rfl rfl)
theorem dX11_holds_53 : decode cX11_holds 53 = .ok (.getfield 313, 3) := dk_180 1 57 (dk_at dksX11_holds_2 6 rfl rfl)
theorem dX11_holds_56 : decode cX11_holds 56 = .ok (.bipush 41, 2) := dk_16 41 (dk_at dksX11_holds_2 9 rfl rfl)
theorem dX11_holds_58 : decode cX11_holds 58 = .ok (.iload_n 1, 1) := dk_27 (dk_at dksX11_holds_2 11 rfl rfl)
theorem dX11_holds_59 : decode cX11_holds 59 = .ok (.iadd, 1) := dk_96 (dk_at dksX11_holds_2 12 rfl rfl)
theorem dX11_holds_60 : decode cX11_holds 60 = .ok (.iaload, 1) := dk_46 (dk_at dksX11_holds_2 13 rfl rfl)
theorem dX11_holds_61 : decode cX11_holds 61 = .ok (.tableswitch 75 0 3 #[31, 75, 49, 65], 31) := by decide +kernel
theorem dX11_holds_92 : decode cX11_holds 92 = .ok (.aload_n 0, 1) := dk_42 (dk_at dksX11_holds_4 0 rfl rfl)
theorem dX11_holds_93 : decode cX11_holds 93 = .ok (.iload_n 2, 1) := dk_28 (dk_at dksX11_holds_4 1 rfl rfl)
theorem dX11_holds_94 : decode cX11_holds 94 = .ok (.iload 4, 2) := dk_21 4 (dk_at dksX11_holds_4 2 rfl rfl)
theorem dX11_holds_96 : decode cX11_holds 96 = .ok (.invokevirtual 148, 3) := dk_182 0 148 (dk_at dksX11_holds_4 4 rfl rfl)
theorem dX11_holds_99 : decode cX11_holds 99 = .ok (.iload 5, 2) := dk_21 5 (dk_at dksX11_holds_4 7 rfl rfl)
theorem dX11_holds_101 : decode cX11_holds 101 = .ok (.if_icmp .lt 7, 3) := dk_161 0 7 (dk_at dksX11_holds_4 9 rfl rfl)
theorem dX11_holds_104 : decode cX11_holds 104 = .ok (.iconst 1, 1) := dk_4 (dk_at dksX11_holds_4 12 rfl rfl)
theorem dX11_holds_105 : decode cX11_holds 105 = .ok (.goto 4, 3) := dk_167 0 4 (dk_at dksX11_holds_4 13 rfl rfl)
theorem dX11_holds_108 : decode cX11_holds 108 = .ok (.iconst 0, 1) := dk_3 (dk_at dksX11_holds_4 16 rfl rfl)
theorem dX11_holds_109 : decode cX11_holds 109 = .ok (.ireturn, 1) := dk_172 (dk_at dksX11_holds_4 17 rfl rfl)
theorem dX11_holds_110 : decode cX11_holds 110 = .ok (.aload_n 0, 1) := dk_42 (dk_at dksX11_holds_4 18 rfl rfl)
theorem dX11_holds_111 : decode cX11_holds 111 = .ok (.iload 5, 2) := dk_21 5 (dk_at dksX11_holds_4 19 rfl rfl)
theorem dX11_holds_113 : decode cX11_holds 113 = .ok (.aload_n 0, 1) := dk_42 (dk_at dksX11_holds_4 21 rfl rfl)
theorem dX11_holds_114 : decode cX11_holds 114 = .ok (.iload_n 2, 1) := dk_28 (dk_at dksX11_holds_4 22 rfl rfl)
theorem dX11_holds_115 : decode cX11_holds 115 = .ok (.iload 4, 2) := dk_21 4 (dk_at dksX11_holds_5 0 rfl rfl)
theorem dX11_holds_117 : decode cX11_holds 117 = .ok (.invokevirtual 151, 3) := dk_182 0 151 (dk_at dksX11_holds_5 2 rfl rfl)
theorem dX11_holds_120 : decode cX11_holds 120 = .ok (.iload 4, 2) := dk_21 4 (dk_at dksX11_holds_5 5 rfl rfl)
theorem dX11_holds_122 : decode cX11_holds 122 = .ok (.invokevirtual 494, 3) := dk_182 1 238 (dk_at dksX11_holds_5 7 rfl rfl)
theorem dX11_holds_125 : decode cX11_holds 125 = .ok (.ireturn, 1) := dk_172 (dk_at dksX11_holds_5 10 rfl rfl)
theorem dX11_holds_126 : decode cX11_holds 126 = .ok (.aload_n 0, 1) := dk_42 (dk_at dksX11_holds_5 11 rfl rfl)
theorem dX11_holds_127 : decode cX11_holds 127 = .ok (.iload_n 2, 1) := dk_28 (dk_at dksX11_holds_5 12 rfl rfl)
theorem dX11_holds_128 : decode cX11_holds 128 = .ok (.iload 5, 2) := dk_21 5 (dk_at dksX11_holds_5 13 rfl rfl)
theorem dX11_holds_130 : decode cX11_holds 130 = .ok (.iload 4, 2) := dk_21 4 (dk_at dksX11_holds_5 15 rfl rfl)
theorem dX11_holds_132 : decode cX11_holds 132 = .ok (.invokevirtual 154, 3) := dk_182 0 154 (dk_at dksX11_holds_5 17 rfl rfl)
theorem dX11_holds_135 : decode cX11_holds 135 = .ok (.ireturn, 1) := dk_172 (dk_at dksX11_holds_5 20 rfl rfl)
theorem dX11_holds_136 : decode cX11_holds 136 = .ok (.iconst 0, 1) := dk_3 (dk_at dksX11_holds_5 21 rfl rfl)
theorem dX11_holds_137 : decode cX11_holds 137 = .ok (.istore 6, 2) := dk_54 6 (dk_at dksX11_holds_5 22 rfl rfl)
theorem dX11_holds_139 : decode cX11_holds 139 = .ok (.iload 6, 2) := dk_21 6 (dk_at dksX11_holds_6 0 rfl rfl)
theorem dX11_holds_141 : decode cX11_holds 141 = .ok (.iload 5, 2) := dk_21 5 (dk_at dksX11_holds_6 2 rfl rfl)
theorem dX11_holds_143 : decode cX11_holds 143 = .ok (.if_icmp .ge 24, 3) := dk_162 0 24 (dk_at dksX11_holds_6 4 rfl rfl)
theorem dX11_holds_146 : decode cX11_holds 146 = .ok (.aload_n 0, 1) := dk_42 (dk_at dksX11_holds_6 7 rfl rfl)
theorem dX11_holds_147 : decode cX11_holds 147 = .ok (.iload_n 2, 1) := dk_28 (dk_at dksX11_holds_6 8 rfl rfl)
theorem dX11_holds_148 : decode cX11_holds 148 = .ok (.iload 4, 2) := dk_21 4 (dk_at dksX11_holds_6 9 rfl rfl)
theorem dX11_holds_150 : decode cX11_holds 150 = .ok (.iload 6, 2) := dk_21 6 (dk_at dksX11_holds_6 11 rfl rfl)
theorem dX11_holds_152 : decode cX11_holds 152 = .ok (.isub, 1) := dk_100 (dk_at dksX11_holds_6 13 rfl rfl)
theorem dX11_holds_153 : decode cX11_holds 153 = .ok (.invokevirtual 151, 3) := dk_182 0 151 (dk_at dksX11_holds_6 14 rfl rfl)
theorem dX11_holds_156 : decode cX11_holds 156 = .ok (.ifCond .ge 5, 3) := dk_156 0 5 (dk_at dksX11_holds_6 17 rfl rfl)
theorem dX11_holds_159 : decode cX11_holds 159 = .ok (.iconst 0, 1) := dk_3 (dk_at dksX11_holds_6 20 rfl rfl)
theorem dX11_holds_160 : decode cX11_holds 160 = .ok (.ireturn, 1) := dk_172 (dk_at dksX11_holds_6 21 rfl rfl)
theorem dX11_holds_161 : decode cX11_holds 161 = .ok (.iinc 6 1, 3) := dk_132 6 1 (dk_at dksX11_holds_7 0 rfl rfl)
theorem dX11_holds_164 : decode cX11_holds 164 = .ok (.goto (-25), 3) := dk_167 255 231 (dk_at dksX11_holds_7 3 rfl rfl)
theorem dX11_holds_167 : decode cX11_holds 167 = .ok (.iconst 1, 1) := dk_4 (dk_at dksX11_holds_7 6 rfl rfl)
theorem dX11_holds_168 : decode cX11_holds 168 = .ok (.ireturn, 1) := dk_172 (dk_at dksX11_holds_7 7 rfl rfl)
abbrev cX11_isIn : ByteArray := prog_17_method_16_code
def yX11_isIn : MethodName := ⟨RX11, "isIn", "(III)Z"⟩
def dkwX11_isIn_1 : List UInt8 := [3, 172]
abbrev dktX11_isIn_1 : List UInt8 := dkwX11_isIn_1 ++ []
def dkwX11_isIn_0 : List UInt8 := [28, 155, 0, 23, 42, 42, 180, 0, 64, 27, 46, 28, 29, 182, 0, 89, 27, 160, 0, 7, 4, 167, 0, 4]
abbrev dktX11_isIn_0 : List UInt8 := dkwX11_isIn_0 ++ dktX11_isIn_1
theorem dksX11_isIn_0 : cX11_isIn.data.toList.drop 0 = dktX11_isIn_0 := by decide +kernel
theorem dksX11_isIn_1 : cX11_isIn.data.toList.drop 24 = dktX11_isIn_1 := dk_seg dksX11_isIn_0 24 rfl rfl
theorem dX11_isIn_0 : decode cX11_isIn 0 = .ok (.iload_n 2, 1) := dk_28 (dk_at dksX11_isIn_0 0 rfl rfl)
theorem dX11_isIn_1 : decode cX11_isIn 1 = .ok (.ifCond .lt 23, 3) := dk_155 0 23 (dk_at dksX11_isIn_0 1 rfl rfl)
theorem dX11_isIn_4 : decode cX11_isIn 4 = .ok (.aload_n 0, 1) := dk_42 (dk_at dksX11_isIn_0 4 rfl rfl)
theorem dX11_isIn_5 : decode cX11_isIn 5 = .ok (.aload_n 0, 1) := dk_42 (dk_at dksX11_isIn_0 5 rfl rfl)
theorem dX11_isIn_6 : decode cX11_isIn 6 = .ok (.getfield 64, 3) := dk_180 0 64 (dk_at dksX11_isIn_0 6 rfl rfl)
theorem dX11_isIn_9 : decode cX11_isIn 9 = .ok (.iload_n 1, 1) := dk_27 (dk_at dksX11_isIn_0 9 rfl rfl)
theorem dX11_isIn_10 : decode cX11_isIn 10 = .ok (.iaload, 1) := dk_46 (dk_at dksX11_isIn_0 10 rfl rfl)
theorem dX11_isIn_11 : decode cX11_isIn 11 = .ok (.iload_n 2, 1) := dk_28 (dk_at dksX11_isIn_0 11 rfl rfl)
theorem dX11_isIn_12 : decode cX11_isIn 12 = .ok (.iload_n 3, 1) := dk_29 (dk_at dksX11_isIn_0 12 rfl rfl)
theorem dX11_isIn_13 : decode cX11_isIn 13 = .ok (.invokevirtual 89, 3) := dk_182 0 89 (dk_at dksX11_isIn_0 13 rfl rfl)
theorem dX11_isIn_16 : decode cX11_isIn 16 = .ok (.iload_n 1, 1) := dk_27 (dk_at dksX11_isIn_0 16 rfl rfl)
theorem dX11_isIn_17 : decode cX11_isIn 17 = .ok (.if_icmp .ne 7, 3) := dk_160 0 7 (dk_at dksX11_isIn_0 17 rfl rfl)
theorem dX11_isIn_20 : decode cX11_isIn 20 = .ok (.iconst 1, 1) := dk_4 (dk_at dksX11_isIn_0 20 rfl rfl)
theorem dX11_isIn_21 : decode cX11_isIn 21 = .ok (.goto 4, 3) := dk_167 0 4 (dk_at dksX11_isIn_0 21 rfl rfl)
theorem dX11_isIn_24 : decode cX11_isIn 24 = .ok (.iconst 0, 1) := dk_3 (dk_at dksX11_isIn_1 0 rfl rfl)
theorem dX11_isIn_25 : decode cX11_isIn 25 = .ok (.ireturn, 1) := dk_172 (dk_at dksX11_isIn_1 1 rfl rfl)
abbrev cX11_takesIn : ByteArray := prog_17_method_65_code
def yX11_takesIn : MethodName := ⟨RX11, "takesIn", "(IZ)V"⟩
def dkwX11_takesIn_1 : List UInt8 := [42, 180, 1, 248, 27, 3, 84, 177]
abbrev dktX11_takesIn_1 : List UInt8 := dkwX11_takesIn_1 ++ []
def dkwX11_takesIn_0 : List UInt8 := [42, 180, 1, 245, 27, 92, 51, 28, 42, 180, 1, 248, 27, 51, 159, 0, 7, 4, 167, 0, 4, 3, 126, 84]
abbrev dktX11_takesIn_0 : List UInt8 := dkwX11_takesIn_0 ++ dktX11_takesIn_1
theorem dksX11_takesIn_0 : cX11_takesIn.data.toList.drop 0 = dktX11_takesIn_0 := by decide +kernel
theorem dksX11_takesIn_1 : cX11_takesIn.data.toList.drop 24 = dktX11_takesIn_1 := dk_seg dksX11_takesIn_0 24 rfl rfl
theorem dX11_takesIn_0 : decode cX11_takesIn 0 = .ok (.aload_n 0, 1) := dk_42 (dk_at dksX11_takesIn_0 0 rfl rfl)
theorem dX11_takesIn_1 : decode cX11_takesIn 1 = .ok (.getfield 501, 3) := dk_180 1 245 (dk_at dksX11_takesIn_0 1 rfl rfl)
theorem dX11_takesIn_4 : decode cX11_takesIn 4 = .ok (.iload_n 1, 1) := dk_27 (dk_at dksX11_takesIn_0 4 rfl rfl)
theorem dX11_takesIn_5 : decode cX11_takesIn 5 = .ok (.dup2, 1) := dk_92 (dk_at dksX11_takesIn_0 5 rfl rfl)
theorem dX11_takesIn_6 : decode cX11_takesIn 6 = .ok (.baload, 1) := dk_51 (dk_at dksX11_takesIn_0 6 rfl rfl)
theorem dX11_takesIn_7 : decode cX11_takesIn 7 = .ok (.iload_n 2, 1) := dk_28 (dk_at dksX11_takesIn_0 7 rfl rfl)
theorem dX11_takesIn_8 : decode cX11_takesIn 8 = .ok (.aload_n 0, 1) := dk_42 (dk_at dksX11_takesIn_0 8 rfl rfl)
theorem dX11_takesIn_9 : decode cX11_takesIn 9 = .ok (.getfield 504, 3) := dk_180 1 248 (dk_at dksX11_takesIn_0 9 rfl rfl)
theorem dX11_takesIn_12 : decode cX11_takesIn 12 = .ok (.iload_n 1, 1) := dk_27 (dk_at dksX11_takesIn_0 12 rfl rfl)
theorem dX11_takesIn_13 : decode cX11_takesIn 13 = .ok (.baload, 1) := dk_51 (dk_at dksX11_takesIn_0 13 rfl rfl)
theorem dX11_takesIn_14 : decode cX11_takesIn 14 = .ok (.if_icmp .eq 7, 3) := dk_159 0 7 (dk_at dksX11_takesIn_0 14 rfl rfl)
theorem dX11_takesIn_17 : decode cX11_takesIn 17 = .ok (.iconst 1, 1) := dk_4 (dk_at dksX11_takesIn_0 17 rfl rfl)
theorem dX11_takesIn_18 : decode cX11_takesIn 18 = .ok (.goto 4, 3) := dk_167 0 4 (dk_at dksX11_takesIn_0 18 rfl rfl)
theorem dX11_takesIn_21 : decode cX11_takesIn 21 = .ok (.iconst 0, 1) := dk_3 (dk_at dksX11_takesIn_0 21 rfl rfl)
theorem dX11_takesIn_22 : decode cX11_takesIn 22 = .ok (.iand, 1) := dk_126 (dk_at dksX11_takesIn_0 22 rfl rfl)
theorem dX11_takesIn_23 : decode cX11_takesIn 23 = .ok (.bastore, 1) := dk_84 (dk_at dksX11_takesIn_0 23 rfl rfl)
theorem dX11_takesIn_24 : decode cX11_takesIn 24 = .ok (.aload_n 0, 1) := dk_42 (dk_at dksX11_takesIn_1 0 rfl rfl)
theorem dX11_takesIn_25 : decode cX11_takesIn 25 = .ok (.getfield 504, 3) := dk_180 1 248 (dk_at dksX11_takesIn_1 1 rfl rfl)
theorem dX11_takesIn_28 : decode cX11_takesIn 28 = .ok (.iload_n 1, 1) := dk_27 (dk_at dksX11_takesIn_1 4 rfl rfl)
theorem dX11_takesIn_29 : decode cX11_takesIn 29 = .ok (.iconst 0, 1) := dk_3 (dk_at dksX11_takesIn_1 5 rfl rfl)
theorem dX11_takesIn_30 : decode cX11_takesIn 30 = .ok (.bastore, 1) := dk_84 (dk_at dksX11_takesIn_1 6 rfl rfl)
theorem dX11_takesIn_31 : decode cX11_takesIn 31 = .ok (.return_, 1) := dk_177 (dk_at dksX11_takesIn_1 7 rfl rfl)
abbrev cX11_place : ByteArray := prog_17_method_68_code
def yX11_place : MethodName := ⟨RX11, "place", "()I"⟩
theorem dX11_place_0 : decode cX11_place 0 = .ok (.aload_n 0, 1) := by decide +kernel
theorem dX11_place_1 : decode cX11_place 1 = .ok (.getfield 472, 3) := by decide +kernel
theorem dX11_place_4 : decode cX11_place 4 = .ok (.ireturn, 1) := by decide +kernel
abbrev cX11_stand : ByteArray := prog_17_method_72_code
def yX11_stand : MethodName := ⟨RX11, "stand", "(III)I"⟩
def dkwX11_stand_11 : List UInt8 := [16, 8, 27, 28, 29, 3, 182, 0, 22, 21, 6, 172]
abbrev dktX11_stand_11 : List UInt8 := dkwX11_stand_11 ++ []
def dkwX11_stand_10 : List UInt8 := [162, 0, 23, 42, 180, 2, 84, 16, 60, 21, 6, 104, 21, 7, 96, 3, 84, 132, 7, 1, 167, 255, 232, 42]
abbrev dktX11_stand_10 : List UInt8 := dkwX11_stand_10 ++ dktX11_stand_11
def dkwX11_stand_9 : List UInt8 := [180, 2, 78, 21, 6, 3, 79, 42, 180, 2, 81, 21, 6, 2, 79, 3, 54, 7, 21, 7, 16, 60]
abbrev dktX11_stand_9 : List UInt8 := dkwX11_stand_9 ++ dktX11_stand_10
def dkwX11_stand_8 : List UInt8 := [180, 2, 66, 21, 6, 28, 79, 42, 180, 2, 72, 21, 6, 29, 79, 42, 180, 2, 75, 21, 6, 3, 79, 42]
abbrev dktX11_stand_8 : List UInt8 := dkwX11_stand_8 ++ dktX11_stand_9
def dkwX11_stand_7 : List UInt8 := [180, 2, 16, 54, 6, 42, 89, 180, 2, 16, 4, 96, 181, 2, 16, 42, 180, 2, 63, 21, 6, 27, 79, 42]
abbrev dktX11_stand_7 : List UInt8 := dkwX11_stand_7 ++ dktX11_stand_8
def dkwX11_stand_6 : List UInt8 := [153, 0, 8, 21, 5, 153, 0, 6, 16, 252, 172, 21, 4, 16, 9, 160, 0, 6, 16, 251, 172, 42]
abbrev dktX11_stand_6 : List UInt8 := dkwX11_stand_6 ++ dktX11_stand_7
def dkwX11_stand_5 : List UInt8 := [132, 6, 1, 167, 255, 191, 42, 28, 3, 182, 2, 12, 153, 0, 20, 42, 28, 42, 180, 0, 17, 182, 2, 69]
abbrev dktX11_stand_5 : List UInt8 := dkwX11_stand_5 ++ dktX11_stand_6
def dkwX11_stand_4 : List UInt8 := [27, 160, 0, 18, 42, 180, 2, 66, 21, 6, 46, 28, 160, 0, 7, 4, 167, 0, 4, 3, 128, 54, 5]
abbrev dktX11_stand_4 : List UInt8 := dkwX11_stand_4 ++ dktX11_stand_5
def dkwX11_stand_3 : List UInt8 := [21, 6, 46, 27, 160, 0, 7, 4, 167, 0, 4, 3, 96, 54, 4, 21, 5, 42, 180, 2, 63, 21, 6, 46]
abbrev dktX11_stand_3 : List UInt8 := dkwX11_stand_3 ++ dktX11_stand_4
def dkwX11_stand_2 : List UInt8 := [54, 4, 3, 54, 5, 3, 54, 6, 21, 6, 42, 180, 2, 16, 162, 0, 62, 21, 4, 42, 180, 2, 63]
abbrev dktX11_stand_2 : List UInt8 := dkwX11_stand_2 ++ dktX11_stand_3
def dkwX11_stand_1 : List UInt8 := [20, 2, 58, 184, 0, 13, 154, 0, 6, 16, 254, 172, 42, 182, 2, 60, 153, 0, 6, 16, 253, 172, 3]
abbrev dktX11_stand_1 : List UInt8 := dkwX11_stand_1 ++ dktX11_stand_2
def dkwX11_stand_0 : List UInt8 := [42, 27, 182, 1, 224, 153, 0, 11, 42, 28, 182, 0, 110, 154, 0, 5, 2, 172, 29, 133, 20, 0, 113]
abbrev dktX11_stand_0 : List UInt8 := dkwX11_stand_0 ++ dktX11_stand_1
theorem dksX11_stand_0 : cX11_stand.data.toList.drop 0 = dktX11_stand_0 := by decide +kernel
theorem dksX11_stand_1 : cX11_stand.data.toList.drop 23 = dktX11_stand_1 := dk_seg dksX11_stand_0 23 rfl rfl
theorem dksX11_stand_2 : cX11_stand.data.toList.drop 46 = dktX11_stand_2 := dk_seg dksX11_stand_1 23 rfl rfl
theorem dksX11_stand_3 : cX11_stand.data.toList.drop 69 = dktX11_stand_3 := dk_seg dksX11_stand_2 23 rfl rfl
theorem dksX11_stand_4 : cX11_stand.data.toList.drop 93 = dktX11_stand_4 := dk_seg dksX11_stand_3 24 rfl rfl
theorem dksX11_stand_5 : cX11_stand.data.toList.drop 116 = dktX11_stand_5 := dk_seg dksX11_stand_4 23 rfl rfl
theorem dksX11_stand_6 : cX11_stand.data.toList.drop 140 = dktX11_stand_6 := dk_seg dksX11_stand_5 24 rfl rfl
theorem dksX11_stand_7 : cX11_stand.data.toList.drop 162 = dktX11_stand_7 := dk_seg dksX11_stand_6 22 rfl rfl
theorem dksX11_stand_8 : cX11_stand.data.toList.drop 186 = dktX11_stand_8 := dk_seg dksX11_stand_7 24 rfl rfl
theorem dksX11_stand_9 : cX11_stand.data.toList.drop 210 = dktX11_stand_9 := dk_seg dksX11_stand_8 24 rfl rfl
theorem dksX11_stand_10 : cX11_stand.data.toList.drop 232 = dktX11_stand_10 := dk_seg dksX11_stand_9 22 rfl rfl
theorem dksX11_stand_11 : cX11_stand.data.toList.drop 256 = dktX11_stand_11 := dk_seg dksX11_stand_10 24 rfl rfl
theorem dX11_stand_0 : decode cX11_stand 0 = .ok (.aload_n 0, 1) := dk_42 (dk_at dksX11_stand_0 0 rfl rfl)
theorem dX11_stand_1 : decode cX11_stand 1 = .ok (.iload_n 1, 1) := dk_27 (dk_at dksX11_stand_0 1 rfl rfl)
theorem dX11_stand_2 : decode cX11_stand 2 = .ok (.invokevirtual 480, 3) := dk_182 1 224 (dk_at dksX11_stand_0 2 rfl rfl)
theorem dX11_stand_5 : decode cX11_stand 5 = .ok (.ifCond .eq 11, 3) := dk_153 0 11 (dk_at dksX11_stand_0 5 rfl rfl)
theorem dX11_stand_8 : decode cX11_stand 8 = .ok (.aload_n 0, 1) := dk_42 (dk_at dksX11_stand_0 8 rfl rfl)
theorem dX11_stand_9 : decode cX11_stand 9 = .ok (.iload_n 2, 1) := dk_28 (dk_at dksX11_stand_0 9 rfl rfl)
theorem dX11_stand_10 : decode cX11_stand 10 = .ok (.invokevirtual 110, 3) := dk_182 0 110 (dk_at dksX11_stand_0 10 rfl rfl)
theorem dX11_stand_13 : decode cX11_stand 13 = .ok (.ifCond .ne 5, 3) := dk_154 0 5 (dk_at dksX11_stand_0 13 rfl rfl)
theorem dX11_stand_16 : decode cX11_stand 16 = .ok (.iconst (-1), 1) := dk_2 (dk_at dksX11_stand_0 16 rfl rfl)
theorem dX11_stand_17 : decode cX11_stand 17 = .ok (.ireturn, 1) := dk_172 (dk_at dksX11_stand_0 17 rfl rfl)
theorem dX11_stand_18 : decode cX11_stand 18 = .ok (.iload_n 3, 1) := dk_29 (dk_at dksX11_stand_0 18 rfl rfl)
theorem dX11_stand_19 : decode cX11_stand 19 = .ok (.i2l, 1) := dk_133 (dk_at dksX11_stand_0 19 rfl rfl)
theorem dX11_stand_20 : decode cX11_stand 20 = .ok (.ldc2_w 113, 3) := dk_20 0 113 (dk_at dksX11_stand_0 20 rfl rfl)
theorem dX11_stand_23 : decode cX11_stand 23 = .ok (.ldc2_w 570, 3) := dk_20 2 58 (dk_at dksX11_stand_1 0 rfl rfl)
theorem dX11_stand_26 : decode cX11_stand 26 = .ok (.invokestatic 13, 3) := dk_184 0 13 (dk_at dksX11_stand_1 3 rfl rfl)
theorem dX11_stand_29 : decode cX11_stand 29 = .ok (.ifCond .ne 6, 3) := dk_154 0 6 (dk_at dksX11_stand_1 6 rfl rfl)
theorem dX11_stand_32 : decode cX11_stand 32 = .ok (.bipush (-2), 2) := dk_16 254 (dk_at dksX11_stand_1 9 rfl rfl)
theorem dX11_stand_34 : decode cX11_stand 34 = .ok (.ireturn, 1) := dk_172 (dk_at dksX11_stand_1 11 rfl rfl)
theorem dX11_stand_35 : decode cX11_stand 35 = .ok (.aload_n 0, 1) := dk_42 (dk_at dksX11_stand_1 12 rfl rfl)
theorem dX11_stand_36 : decode cX11_stand 36 = .ok (.invokevirtual 572, 3) := dk_182 2 60 (dk_at dksX11_stand_1 13 rfl rfl)
theorem dX11_stand_39 : decode cX11_stand 39 = .ok (.ifCond .eq 6, 3) := dk_153 0 6 (dk_at dksX11_stand_1 16 rfl rfl)
theorem dX11_stand_42 : decode cX11_stand 42 = .ok (.bipush (-3), 2) := dk_16 253 (dk_at dksX11_stand_1 19 rfl rfl)
theorem dX11_stand_44 : decode cX11_stand 44 = .ok (.ireturn, 1) := dk_172 (dk_at dksX11_stand_1 21 rfl rfl)
theorem dX11_stand_45 : decode cX11_stand 45 = .ok (.iconst 0, 1) := dk_3 (dk_at dksX11_stand_1 22 rfl rfl)
theorem dX11_stand_46 : decode cX11_stand 46 = .ok (.istore 4, 2) := dk_54 4 (dk_at dksX11_stand_2 0 rfl rfl)
theorem dX11_stand_48 : decode cX11_stand 48 = .ok (.iconst 0, 1) := dk_3 (dk_at dksX11_stand_2 2 rfl rfl)
theorem dX11_stand_49 : decode cX11_stand 49 = .ok (.istore 5, 2) := dk_54 5 (dk_at dksX11_stand_2 3 rfl rfl)
theorem dX11_stand_51 : decode cX11_stand 51 = .ok (.iconst 0, 1) := dk_3 (dk_at dksX11_stand_2 5 rfl rfl)
theorem dX11_stand_52 : decode cX11_stand 52 = .ok (.istore 6, 2) := dk_54 6 (dk_at dksX11_stand_2 6 rfl rfl)
theorem dX11_stand_54 : decode cX11_stand 54 = .ok (.iload 6, 2) := dk_21 6 (dk_at dksX11_stand_2 8 rfl rfl)
theorem dX11_stand_56 : decode cX11_stand 56 = .ok (.aload_n 0, 1) := dk_42 (dk_at dksX11_stand_2 10 rfl rfl)
theorem dX11_stand_57 : decode cX11_stand 57 = .ok (.getfield 528, 3) := dk_180 2 16 (dk_at dksX11_stand_2 11 rfl rfl)
theorem dX11_stand_60 : decode cX11_stand 60 = .ok (.if_icmp .ge 62, 3) := dk_162 0 62 (dk_at dksX11_stand_2 14 rfl rfl)
theorem dX11_stand_63 : decode cX11_stand 63 = .ok (.iload 4, 2) := dk_21 4 (dk_at dksX11_stand_2 17 rfl rfl)
theorem dX11_stand_65 : decode cX11_stand 65 = .ok (.aload_n 0, 1) := dk_42 (dk_at dksX11_stand_2 19 rfl rfl)
theorem dX11_stand_66 : decode cX11_stand 66 = .ok (.getfield 575, 3) := dk_180 2 63 (dk_at dksX11_stand_2 20 rfl rfl)
theorem dX11_stand_69 : decode cX11_stand 69 = .ok (.iload 6, 2) := dk_21 6 (dk_at dksX11_stand_3 0 rfl rfl)
theorem dX11_stand_71 : decode cX11_stand 71 = .ok (.iaload, 1) := dk_46 (dk_at dksX11_stand_3 2 rfl rfl)
theorem dX11_stand_72 : decode cX11_stand 72 = .ok (.iload_n 1, 1) := dk_27 (dk_at dksX11_stand_3 3 rfl rfl)
theorem dX11_stand_73 : decode cX11_stand 73 = .ok (.if_icmp .ne 7, 3) := dk_160 0 7 (dk_at dksX11_stand_3 4 rfl rfl)
theorem dX11_stand_76 : decode cX11_stand 76 = .ok (.iconst 1, 1) := dk_4 (dk_at dksX11_stand_3 7 rfl rfl)
theorem dX11_stand_77 : decode cX11_stand 77 = .ok (.goto 4, 3) := dk_167 0 4 (dk_at dksX11_stand_3 8 rfl rfl)
theorem dX11_stand_80 : decode cX11_stand 80 = .ok (.iconst 0, 1) := dk_3 (dk_at dksX11_stand_3 11 rfl rfl)
theorem dX11_stand_81 : decode cX11_stand 81 = .ok (.iadd, 1) := dk_96 (dk_at dksX11_stand_3 12 rfl rfl)
theorem dX11_stand_82 : decode cX11_stand 82 = .ok (.istore 4, 2) := dk_54 4 (dk_at dksX11_stand_3 13 rfl rfl)
theorem dX11_stand_84 : decode cX11_stand 84 = .ok (.iload 5, 2) := dk_21 5 (dk_at dksX11_stand_3 15 rfl rfl)
theorem dX11_stand_86 : decode cX11_stand 86 = .ok (.aload_n 0, 1) := dk_42 (dk_at dksX11_stand_3 17 rfl rfl)
theorem dX11_stand_87 : decode cX11_stand 87 = .ok (.getfield 575, 3) := dk_180 2 63 (dk_at dksX11_stand_3 18 rfl rfl)
theorem dX11_stand_90 : decode cX11_stand 90 = .ok (.iload 6, 2) := dk_21 6 (dk_at dksX11_stand_3 21 rfl rfl)
theorem dX11_stand_92 : decode cX11_stand 92 = .ok (.iaload, 1) := dk_46 (dk_at dksX11_stand_3 23 rfl rfl)
theorem dX11_stand_93 : decode cX11_stand 93 = .ok (.iload_n 1, 1) := dk_27 (dk_at dksX11_stand_4 0 rfl rfl)
theorem dX11_stand_94 : decode cX11_stand 94 = .ok (.if_icmp .ne 18, 3) := dk_160 0 18 (dk_at dksX11_stand_4 1 rfl rfl)
theorem dX11_stand_97 : decode cX11_stand 97 = .ok (.aload_n 0, 1) := dk_42 (dk_at dksX11_stand_4 4 rfl rfl)
theorem dX11_stand_98 : decode cX11_stand 98 = .ok (.getfield 578, 3) := dk_180 2 66 (dk_at dksX11_stand_4 5 rfl rfl)
theorem dX11_stand_101 : decode cX11_stand 101 = .ok (.iload 6, 2) := dk_21 6 (dk_at dksX11_stand_4 8 rfl rfl)
theorem dX11_stand_103 : decode cX11_stand 103 = .ok (.iaload, 1) := dk_46 (dk_at dksX11_stand_4 10 rfl rfl)
theorem dX11_stand_104 : decode cX11_stand 104 = .ok (.iload_n 2, 1) := dk_28 (dk_at dksX11_stand_4 11 rfl rfl)
theorem dX11_stand_105 : decode cX11_stand 105 = .ok (.if_icmp .ne 7, 3) := dk_160 0 7 (dk_at dksX11_stand_4 12 rfl rfl)
theorem dX11_stand_108 : decode cX11_stand 108 = .ok (.iconst 1, 1) := dk_4 (dk_at dksX11_stand_4 15 rfl rfl)
theorem dX11_stand_109 : decode cX11_stand 109 = .ok (.goto 4, 3) := dk_167 0 4 (dk_at dksX11_stand_4 16 rfl rfl)
theorem dX11_stand_112 : decode cX11_stand 112 = .ok (.iconst 0, 1) := dk_3 (dk_at dksX11_stand_4 19 rfl rfl)
theorem dX11_stand_113 : decode cX11_stand 113 = .ok (.ior, 1) := dk_128 (dk_at dksX11_stand_4 20 rfl rfl)
theorem dX11_stand_114 : decode cX11_stand 114 = .ok (.istore 5, 2) := dk_54 5 (dk_at dksX11_stand_4 21 rfl rfl)
theorem dX11_stand_116 : decode cX11_stand 116 = .ok (.iinc 6 1, 3) := dk_132 6 1 (dk_at dksX11_stand_5 0 rfl rfl)
theorem dX11_stand_119 : decode cX11_stand 119 = .ok (.goto (-65), 3) := dk_167 255 191 (dk_at dksX11_stand_5 3 rfl rfl)
theorem dX11_stand_122 : decode cX11_stand 122 = .ok (.aload_n 0, 1) := dk_42 (dk_at dksX11_stand_5 6 rfl rfl)
theorem dX11_stand_123 : decode cX11_stand 123 = .ok (.iload_n 2, 1) := dk_28 (dk_at dksX11_stand_5 7 rfl rfl)
theorem dX11_stand_124 : decode cX11_stand 124 = .ok (.iconst 0, 1) := dk_3 (dk_at dksX11_stand_5 8 rfl rfl)
theorem dX11_stand_125 : decode cX11_stand 125 = .ok (.invokevirtual 524, 3) := dk_182 2 12 (dk_at dksX11_stand_5 9 rfl rfl)
theorem dX11_stand_128 : decode cX11_stand 128 = .ok (.ifCond .eq 20, 3) := dk_153 0 20 (dk_at dksX11_stand_5 12 rfl rfl)
theorem dX11_stand_131 : decode cX11_stand 131 = .ok (.aload_n 0, 1) := dk_42 (dk_at dksX11_stand_5 15 rfl rfl)
theorem dX11_stand_132 : decode cX11_stand 132 = .ok (.iload_n 2, 1) := dk_28 (dk_at dksX11_stand_5 16 rfl rfl)
theorem dX11_stand_133 : decode cX11_stand 133 = .ok (.aload_n 0, 1) := dk_42 (dk_at dksX11_stand_5 17 rfl rfl)
theorem dX11_stand_134 : decode cX11_stand 134 = .ok (.getfield 17, 3) := dk_180 0 17 (dk_at dksX11_stand_5 18 rfl rfl)
theorem dX11_stand_137 : decode cX11_stand 137 = .ok (.invokevirtual 581, 3) := dk_182 2 69 (dk_at dksX11_stand_5 21 rfl rfl)
theorem dX11_stand_140 : decode cX11_stand 140 = .ok (.ifCond .eq 8, 3) := dk_153 0 8 (dk_at dksX11_stand_6 0 rfl rfl)
theorem dX11_stand_143 : decode cX11_stand 143 = .ok (.iload 5, 2) := dk_21 5 (dk_at dksX11_stand_6 3 rfl rfl)
theorem dX11_stand_145 : decode cX11_stand 145 = .ok (.ifCond .eq 6, 3) := dk_153 0 6 (dk_at dksX11_stand_6 5 rfl rfl)
theorem dX11_stand_148 : decode cX11_stand 148 = .ok (.bipush (-4), 2) := dk_16 252 (dk_at dksX11_stand_6 8 rfl rfl)
theorem dX11_stand_150 : decode cX11_stand 150 = .ok (.ireturn, 1) := dk_172 (dk_at dksX11_stand_6 10 rfl rfl)
theorem dX11_stand_151 : decode cX11_stand 151 = .ok (.iload 4, 2) := dk_21 4 (dk_at dksX11_stand_6 11 rfl rfl)
theorem dX11_stand_153 : decode cX11_stand 153 = .ok (.bipush 9, 2) := dk_16 9 (dk_at dksX11_stand_6 13 rfl rfl)
theorem dX11_stand_155 : decode cX11_stand 155 = .ok (.if_icmp .ne 6, 3) := dk_160 0 6 (dk_at dksX11_stand_6 15 rfl rfl)
theorem dX11_stand_158 : decode cX11_stand 158 = .ok (.bipush (-5), 2) := dk_16 251 (dk_at dksX11_stand_6 18 rfl rfl)
theorem dX11_stand_160 : decode cX11_stand 160 = .ok (.ireturn, 1) := dk_172 (dk_at dksX11_stand_6 20 rfl rfl)
theorem dX11_stand_161 : decode cX11_stand 161 = .ok (.aload_n 0, 1) := dk_42 (dk_at dksX11_stand_6 21 rfl rfl)
theorem dX11_stand_162 : decode cX11_stand 162 = .ok (.getfield 528, 3) := dk_180 2 16 (dk_at dksX11_stand_7 0 rfl rfl)
theorem dX11_stand_165 : decode cX11_stand 165 = .ok (.istore 6, 2) := dk_54 6 (dk_at dksX11_stand_7 3 rfl rfl)
theorem dX11_stand_167 : decode cX11_stand 167 = .ok (.aload_n 0, 1) := dk_42 (dk_at dksX11_stand_7 5 rfl rfl)
theorem dX11_stand_168 : decode cX11_stand 168 = .ok (.dup, 1) := dk_89 (dk_at dksX11_stand_7 6 rfl rfl)
theorem dX11_stand_169 : decode cX11_stand 169 = .ok (.getfield 528, 3) := dk_180 2 16 (dk_at dksX11_stand_7 7 rfl rfl)
theorem dX11_stand_172 : decode cX11_stand 172 = .ok (.iconst 1, 1) := dk_4 (dk_at dksX11_stand_7 10 rfl rfl)
theorem dX11_stand_173 : decode cX11_stand 173 = .ok (.iadd, 1) := dk_96 (dk_at dksX11_stand_7 11 rfl rfl)
theorem dX11_stand_174 : decode cX11_stand 174 = .ok (.putfield 528, 3) := dk_181 2 16 (dk_at dksX11_stand_7 12 rfl rfl)
theorem dX11_stand_177 : decode cX11_stand 177 = .ok (.aload_n 0, 1) := dk_42 (dk_at dksX11_stand_7 15 rfl rfl)
theorem dX11_stand_178 : decode cX11_stand 178 = .ok (.getfield 575, 3) := dk_180 2 63 (dk_at dksX11_stand_7 16 rfl rfl)
theorem dX11_stand_181 : decode cX11_stand 181 = .ok (.iload 6, 2) := dk_21 6 (dk_at dksX11_stand_7 19 rfl rfl)
theorem dX11_stand_183 : decode cX11_stand 183 = .ok (.iload_n 1, 1) := dk_27 (dk_at dksX11_stand_7 21 rfl rfl)
theorem dX11_stand_184 : decode cX11_stand 184 = .ok (.iastore, 1) := dk_79 (dk_at dksX11_stand_7 22 rfl rfl)
theorem dX11_stand_185 : decode cX11_stand 185 = .ok (.aload_n 0, 1) := dk_42 (dk_at dksX11_stand_7 23 rfl rfl)
theorem dX11_stand_186 : decode cX11_stand 186 = .ok (.getfield 578, 3) := dk_180 2 66 (dk_at dksX11_stand_8 0 rfl rfl)
theorem dX11_stand_189 : decode cX11_stand 189 = .ok (.iload 6, 2) := dk_21 6 (dk_at dksX11_stand_8 3 rfl rfl)
theorem dX11_stand_191 : decode cX11_stand 191 = .ok (.iload_n 2, 1) := dk_28 (dk_at dksX11_stand_8 5 rfl rfl)
theorem dX11_stand_192 : decode cX11_stand 192 = .ok (.iastore, 1) := dk_79 (dk_at dksX11_stand_8 6 rfl rfl)
theorem dX11_stand_193 : decode cX11_stand 193 = .ok (.aload_n 0, 1) := dk_42 (dk_at dksX11_stand_8 7 rfl rfl)
theorem dX11_stand_194 : decode cX11_stand 194 = .ok (.getfield 584, 3) := dk_180 2 72 (dk_at dksX11_stand_8 8 rfl rfl)
theorem dX11_stand_197 : decode cX11_stand 197 = .ok (.iload 6, 2) := dk_21 6 (dk_at dksX11_stand_8 11 rfl rfl)
theorem dX11_stand_199 : decode cX11_stand 199 = .ok (.iload_n 3, 1) := dk_29 (dk_at dksX11_stand_8 13 rfl rfl)
theorem dX11_stand_200 : decode cX11_stand 200 = .ok (.iastore, 1) := dk_79 (dk_at dksX11_stand_8 14 rfl rfl)
theorem dX11_stand_201 : decode cX11_stand 201 = .ok (.aload_n 0, 1) := dk_42 (dk_at dksX11_stand_8 15 rfl rfl)
theorem dX11_stand_202 : decode cX11_stand 202 = .ok (.getfield 587, 3) := dk_180 2 75 (dk_at dksX11_stand_8 16 rfl rfl)
theorem dX11_stand_205 : decode cX11_stand 205 = .ok (.iload 6, 2) := dk_21 6 (dk_at dksX11_stand_8 19 rfl rfl)
theorem dX11_stand_207 : decode cX11_stand 207 = .ok (.iconst 0, 1) := dk_3 (dk_at dksX11_stand_8 21 rfl rfl)
theorem dX11_stand_208 : decode cX11_stand 208 = .ok (.iastore, 1) := dk_79 (dk_at dksX11_stand_8 22 rfl rfl)
theorem dX11_stand_209 : decode cX11_stand 209 = .ok (.aload_n 0, 1) := dk_42 (dk_at dksX11_stand_8 23 rfl rfl)
theorem dX11_stand_210 : decode cX11_stand 210 = .ok (.getfield 590, 3) := dk_180 2 78 (dk_at dksX11_stand_9 0 rfl rfl)
theorem dX11_stand_213 : decode cX11_stand 213 = .ok (.iload 6, 2) := dk_21 6 (dk_at dksX11_stand_9 3 rfl rfl)
theorem dX11_stand_215 : decode cX11_stand 215 = .ok (.iconst 0, 1) := dk_3 (dk_at dksX11_stand_9 5 rfl rfl)
theorem dX11_stand_216 : decode cX11_stand 216 = .ok (.iastore, 1) := dk_79 (dk_at dksX11_stand_9 6 rfl rfl)
theorem dX11_stand_217 : decode cX11_stand 217 = .ok (.aload_n 0, 1) := dk_42 (dk_at dksX11_stand_9 7 rfl rfl)
theorem dX11_stand_218 : decode cX11_stand 218 = .ok (.getfield 593, 3) := dk_180 2 81 (dk_at dksX11_stand_9 8 rfl rfl)
theorem dX11_stand_221 : decode cX11_stand 221 = .ok (.iload 6, 2) := dk_21 6 (dk_at dksX11_stand_9 11 rfl rfl)
theorem dX11_stand_223 : decode cX11_stand 223 = .ok (.iconst (-1), 1) := dk_2 (dk_at dksX11_stand_9 13 rfl rfl)
theorem dX11_stand_224 : decode cX11_stand 224 = .ok (.iastore, 1) := dk_79 (dk_at dksX11_stand_9 14 rfl rfl)
theorem dX11_stand_225 : decode cX11_stand 225 = .ok (.iconst 0, 1) := dk_3 (dk_at dksX11_stand_9 15 rfl rfl)
theorem dX11_stand_226 : decode cX11_stand 226 = .ok (.istore 7, 2) := dk_54 7 (dk_at dksX11_stand_9 16 rfl rfl)
theorem dX11_stand_228 : decode cX11_stand 228 = .ok (.iload 7, 2) := dk_21 7 (dk_at dksX11_stand_9 18 rfl rfl)
theorem dX11_stand_230 : decode cX11_stand 230 = .ok (.bipush 60, 2) := dk_16 60 (dk_at dksX11_stand_9 20 rfl rfl)
theorem dX11_stand_232 : decode cX11_stand 232 = .ok (.if_icmp .ge 23, 3) := dk_162 0 23 (dk_at dksX11_stand_10 0 rfl rfl)
theorem dX11_stand_235 : decode cX11_stand 235 = .ok (.aload_n 0, 1) := dk_42 (dk_at dksX11_stand_10 3 rfl rfl)
theorem dX11_stand_236 : decode cX11_stand 236 = .ok (.getfield 596, 3) := dk_180 2 84 (dk_at dksX11_stand_10 4 rfl rfl)
theorem dX11_stand_239 : decode cX11_stand 239 = .ok (.bipush 60, 2) := dk_16 60 (dk_at dksX11_stand_10 7 rfl rfl)
theorem dX11_stand_241 : decode cX11_stand 241 = .ok (.iload 6, 2) := dk_21 6 (dk_at dksX11_stand_10 9 rfl rfl)
theorem dX11_stand_243 : decode cX11_stand 243 = .ok (.imul, 1) := dk_104 (dk_at dksX11_stand_10 11 rfl rfl)
theorem dX11_stand_244 : decode cX11_stand 244 = .ok (.iload 7, 2) := dk_21 7 (dk_at dksX11_stand_10 12 rfl rfl)
theorem dX11_stand_246 : decode cX11_stand 246 = .ok (.iadd, 1) := dk_96 (dk_at dksX11_stand_10 14 rfl rfl)
theorem dX11_stand_247 : decode cX11_stand 247 = .ok (.iconst 0, 1) := dk_3 (dk_at dksX11_stand_10 15 rfl rfl)
theorem dX11_stand_248 : decode cX11_stand 248 = .ok (.bastore, 1) := dk_84 (dk_at dksX11_stand_10 16 rfl rfl)
theorem dX11_stand_249 : decode cX11_stand 249 = .ok (.iinc 7 1, 3) := dk_132 7 1 (dk_at dksX11_stand_10 17 rfl rfl)
theorem dX11_stand_252 : decode cX11_stand 252 = .ok (.goto (-24), 3) := dk_167 255 232 (dk_at dksX11_stand_10 20 rfl rfl)
theorem dX11_stand_255 : decode cX11_stand 255 = .ok (.aload_n 0, 1) := dk_42 (dk_at dksX11_stand_10 23 rfl rfl)
theorem dX11_stand_256 : decode cX11_stand 256 = .ok (.bipush 8, 2) := dk_16 8 (dk_at dksX11_stand_11 0 rfl rfl)
theorem dX11_stand_258 : decode cX11_stand 258 = .ok (.iload_n 1, 1) := dk_27 (dk_at dksX11_stand_11 2 rfl rfl)
theorem dX11_stand_259 : decode cX11_stand 259 = .ok (.iload_n 2, 1) := dk_28 (dk_at dksX11_stand_11 3 rfl rfl)
theorem dX11_stand_260 : decode cX11_stand 260 = .ok (.iload_n 3, 1) := dk_29 (dk_at dksX11_stand_11 4 rfl rfl)
theorem dX11_stand_261 : decode cX11_stand 261 = .ok (.iconst 0, 1) := dk_3 (dk_at dksX11_stand_11 5 rfl rfl)
theorem dX11_stand_262 : decode cX11_stand 262 = .ok (.invokevirtual 22, 3) := dk_182 0 22 (dk_at dksX11_stand_11 6 rfl rfl)
theorem dX11_stand_265 : decode cX11_stand 265 = .ok (.iload 6, 2) := dk_21 6 (dk_at dksX11_stand_11 9 rfl rfl)
theorem dX11_stand_267 : decode cX11_stand 267 = .ok (.ireturn, 1) := dk_172 (dk_at dksX11_stand_11 11 rfl rfl)
abbrev cX11_isBehindStanding : ByteArray := prog_17_method_71_code
def yX11_isBehindStanding : MethodName := ⟨RX11, "isBehindStanding", "()Z"⟩
def dkwX11_isBehindStanding_1 : List UInt8 := [172]
abbrev dktX11_isBehindStanding_1 : List UInt8 := dkwX11_isBehindStanding_1 ++ []
def dkwX11_isBehindStanding_0 : List UInt8 := [42, 180, 0, 17, 42, 3, 182, 1, 210, 163, 0, 10, 42, 180, 2, 19, 153, 0, 7, 4, 167, 0, 4, 3]
abbrev dktX11_isBehindStanding_0 : List UInt8 := dkwX11_isBehindStanding_0 ++ dktX11_isBehindStanding_1
theorem dksX11_isBehindStanding_0 : cX11_isBehindStanding.data.toList.drop 0 = dktX11_isBehindStanding_0 := by decide +kernel
theorem dksX11_isBehindStanding_1 : cX11_isBehindStanding.data.toList.drop 24 = dktX11_isBehindStanding_1 := dk_seg dksX11_isBehindStanding_0 24 rfl rfl
theorem dX11_isBehindStanding_0 : decode cX11_isBehindStanding 0 = .ok (.aload_n 0, 1) := dk_42 (dk_at dksX11_isBehindStanding_0 0 rfl rfl)
theorem dX11_isBehindStanding_1 : decode cX11_isBehindStanding 1 = .ok (.getfield 17, 3) := dk_180 0 17 (dk_at dksX11_isBehindStanding_0 1 rfl rfl)
theorem dX11_isBehindStanding_4 : decode cX11_isBehindStanding 4 = .ok (.aload_n 0, 1) := dk_42 (dk_at dksX11_isBehindStanding_0 4 rfl rfl)
theorem dX11_isBehindStanding_5 : decode cX11_isBehindStanding 5 = .ok (.iconst 0, 1) := dk_3 (dk_at dksX11_isBehindStanding_0 5 rfl rfl)
theorem dX11_isBehindStanding_6 : decode cX11_isBehindStanding 6 = .ok (.invokevirtual 466, 3) := dk_182 1 210 (dk_at dksX11_isBehindStanding_0 6 rfl rfl)
theorem dX11_isBehindStanding_9 : decode cX11_isBehindStanding 9 = .ok (.if_icmp .gt 10, 3) := dk_163 0 10 (dk_at dksX11_isBehindStanding_0 9 rfl rfl)
theorem dX11_isBehindStanding_12 : decode cX11_isBehindStanding 12 = .ok (.aload_n 0, 1) := dk_42 (dk_at dksX11_isBehindStanding_0 12 rfl rfl)
theorem dX11_isBehindStanding_13 : decode cX11_isBehindStanding 13 = .ok (.getfield 531, 3) := dk_180 2 19 (dk_at dksX11_isBehindStanding_0 13 rfl rfl)
theorem dX11_isBehindStanding_16 : decode cX11_isBehindStanding 16 = .ok (.ifCond .eq 7, 3) := dk_153 0 7 (dk_at dksX11_isBehindStanding_0 16 rfl rfl)
theorem dX11_isBehindStanding_19 : decode cX11_isBehindStanding 19 = .ok (.iconst 1, 1) := dk_4 (dk_at dksX11_isBehindStanding_0 19 rfl rfl)
theorem dX11_isBehindStanding_20 : decode cX11_isBehindStanding 20 = .ok (.goto 4, 3) := dk_167 0 4 (dk_at dksX11_isBehindStanding_0 20 rfl rfl)
theorem dX11_isBehindStanding_23 : decode cX11_isBehindStanding 23 = .ok (.iconst 0, 1) := dk_3 (dk_at dksX11_isBehindStanding_0 23 rfl rfl)
theorem dX11_isBehindStanding_24 : decode cX11_isBehindStanding 24 = .ok (.ireturn, 1) := dk_172 (dk_at dksX11_isBehindStanding_1 0 rfl rfl)
abbrev cX11_isAlive : ByteArray := prog_17_method_22_code
def yX11_isAlive : MethodName := ⟨RX11, "isAlive", "(II)Z"⟩
def dkwX11_isAlive_1 : List UInt8 := [180, 0, 107, 27, 46, 28, 164, 0, 7, 4, 167, 0, 4, 3, 172]
abbrev dktX11_isAlive_1 : List UInt8 := dkwX11_isAlive_1 ++ []
def dkwX11_isAlive_0 : List UInt8 := [42, 180, 0, 95, 27, 46, 28, 163, 0, 28, 42, 180, 0, 107, 27, 46, 18, 42, 159, 0, 13, 42]
abbrev dktX11_isAlive_0 : List UInt8 := dkwX11_isAlive_0 ++ dktX11_isAlive_1
theorem dksX11_isAlive_0 : cX11_isAlive.data.toList.drop 0 = dktX11_isAlive_0 := by decide +kernel
theorem dksX11_isAlive_1 : cX11_isAlive.data.toList.drop 22 = dktX11_isAlive_1 := dk_seg dksX11_isAlive_0 22 rfl rfl
theorem dX11_isAlive_0 : decode cX11_isAlive 0 = .ok (.aload_n 0, 1) := dk_42 (dk_at dksX11_isAlive_0 0 rfl rfl)
theorem dX11_isAlive_1 : decode cX11_isAlive 1 = .ok (.getfield 95, 3) := dk_180 0 95 (dk_at dksX11_isAlive_0 1 rfl rfl)
theorem dX11_isAlive_4 : decode cX11_isAlive 4 = .ok (.iload_n 1, 1) := dk_27 (dk_at dksX11_isAlive_0 4 rfl rfl)
theorem dX11_isAlive_5 : decode cX11_isAlive 5 = .ok (.iaload, 1) := dk_46 (dk_at dksX11_isAlive_0 5 rfl rfl)
theorem dX11_isAlive_6 : decode cX11_isAlive 6 = .ok (.iload_n 2, 1) := dk_28 (dk_at dksX11_isAlive_0 6 rfl rfl)
theorem dX11_isAlive_7 : decode cX11_isAlive 7 = .ok (.if_icmp .gt 28, 3) := dk_163 0 28 (dk_at dksX11_isAlive_0 7 rfl rfl)
theorem dX11_isAlive_10 : decode cX11_isAlive 10 = .ok (.aload_n 0, 1) := dk_42 (dk_at dksX11_isAlive_0 10 rfl rfl)
theorem dX11_isAlive_11 : decode cX11_isAlive 11 = .ok (.getfield 107, 3) := dk_180 0 107 (dk_at dksX11_isAlive_0 11 rfl rfl)
theorem dX11_isAlive_14 : decode cX11_isAlive 14 = .ok (.iload_n 1, 1) := dk_27 (dk_at dksX11_isAlive_0 14 rfl rfl)
theorem dX11_isAlive_15 : decode cX11_isAlive 15 = .ok (.iaload, 1) := dk_46 (dk_at dksX11_isAlive_0 15 rfl rfl)
theorem dX11_isAlive_16 : decode cX11_isAlive 16 = .ok (.ldc 42, 2) := dk_18 42 (dk_at dksX11_isAlive_0 16 rfl rfl)
theorem dX11_isAlive_18 : decode cX11_isAlive 18 = .ok (.if_icmp .eq 13, 3) := dk_159 0 13 (dk_at dksX11_isAlive_0 18 rfl rfl)
theorem dX11_isAlive_21 : decode cX11_isAlive 21 = .ok (.aload_n 0, 1) := dk_42 (dk_at dksX11_isAlive_0 21 rfl rfl)
theorem dX11_isAlive_22 : decode cX11_isAlive 22 = .ok (.getfield 107, 3) := dk_180 0 107 (dk_at dksX11_isAlive_1 0 rfl rfl)
theorem dX11_isAlive_25 : decode cX11_isAlive 25 = .ok (.iload_n 1, 1) := dk_27 (dk_at dksX11_isAlive_1 3 rfl rfl)
theorem dX11_isAlive_26 : decode cX11_isAlive 26 = .ok (.iaload, 1) := dk_46 (dk_at dksX11_isAlive_1 4 rfl rfl)
theorem dX11_isAlive_27 : decode cX11_isAlive 27 = .ok (.iload_n 2, 1) := dk_28 (dk_at dksX11_isAlive_1 5 rfl rfl)
theorem dX11_isAlive_28 : decode cX11_isAlive 28 = .ok (.if_icmp .le 7, 3) := dk_164 0 7 (dk_at dksX11_isAlive_1 6 rfl rfl)
theorem dX11_isAlive_31 : decode cX11_isAlive 31 = .ok (.iconst 1, 1) := dk_4 (dk_at dksX11_isAlive_1 9 rfl rfl)
theorem dX11_isAlive_32 : decode cX11_isAlive 32 = .ok (.goto 4, 3) := dk_167 0 4 (dk_at dksX11_isAlive_1 10 rfl rfl)
theorem dX11_isAlive_35 : decode cX11_isAlive 35 = .ok (.iconst 0, 1) := dk_3 (dk_at dksX11_isAlive_1 13 rfl rfl)
theorem dX11_isAlive_36 : decode cX11_isAlive 36 = .ok (.ireturn, 1) := dk_172 (dk_at dksX11_isAlive_1 14 rfl rfl)
abbrev cX11_sign : ByteArray := prog_17_method_73_code
def yX11_sign : MethodName := ⟨RX11, "sign", "(II)I"⟩
def dkwX11_sign_9 : List UInt8 := [79, 42, 16, 9, 27, 28, 3, 3, 182, 0, 22, 42, 180, 2, 75, 27, 46, 172]
abbrev dktX11_sign_9 : List UInt8 := dkwX11_sign_9 ++ []
def dkwX11_sign_8 : List UInt8 := [16, 252, 172, 42, 180, 2, 84, 16, 60, 27, 104, 28, 96, 4, 84, 42, 180, 2, 75, 27, 92, 46, 4, 96]
abbrev dktX11_sign_8 : List UInt8 := dkwX11_sign_8 ++ dktX11_sign_9
def dkwX11_sign_7 : List UInt8 := [180, 2, 84, 16, 60, 27, 104, 28, 96, 51, 154, 0, 13, 29, 42, 16, 6, 182, 1, 210, 161, 0, 6]
abbrev dktX11_sign_7 : List UInt8 := dkwX11_sign_7 ++ dktX11_sign_8
def dkwX11_sign_6 : List UInt8 := [42, 180, 0, 17, 182, 1, 238, 153, 0, 7, 4, 167, 0, 4, 3, 54, 4, 21, 4, 153, 0, 27, 42]
abbrev dktX11_sign_6 : List UInt8 := dkwX11_sign_6 ++ dktX11_sign_7
def dkwX11_sign_5 : List UInt8 := [153, 0, 38, 42, 42, 42, 180, 2, 63, 27, 46, 3, 182, 1, 229, 42, 28, 42, 180, 0, 17, 182, 0, 151]
abbrev dktX11_sign_5 : List UInt8 := dkwX11_sign_5 ++ dktX11_sign_6
def dkwX11_sign_4 : List UInt8 := [153, 0, 19, 42, 28, 42, 180, 0, 17, 182, 2, 69, 153, 0, 7, 4, 167, 0, 4, 3, 54, 4, 21, 4]
abbrev dktX11_sign_4 : List UInt8 := dkwX11_sign_4 ++ dktX11_sign_5
def dkwX11_sign_3 : List UInt8 := [96, 62, 132, 4, 1, 167, 255, 221, 42, 180, 2, 78, 27, 46, 6, 159, 0, 28, 42, 28, 4, 182, 2, 12]
abbrev dktX11_sign_3 : List UInt8 := dkwX11_sign_3 ++ dktX11_sign_4
def dkwX11_sign_2 : List UInt8 := [162, 0, 32, 29, 42, 180, 2, 84, 16, 60, 21, 4, 104, 28, 96, 51, 153, 0, 7, 4, 167, 0, 4, 3]
abbrev dktX11_sign_2 : List UInt8 := dkwX11_sign_2 ++ dktX11_sign_3
def dkwX11_sign_1 : List UInt8 := [2, 172, 42, 182, 2, 60, 153, 0, 6, 16, 253, 172, 3, 62, 3, 54, 4, 21, 4, 42, 180, 2, 16]
abbrev dktX11_sign_1 : List UInt8 := dkwX11_sign_1 ++ dktX11_sign_2
def dkwX11_sign_0 : List UInt8 := [27, 133, 9, 42, 180, 2, 16, 4, 100, 133, 184, 0, 13, 153, 0, 11, 42, 28, 182, 0, 110, 154, 0, 5]
abbrev dktX11_sign_0 : List UInt8 := dkwX11_sign_0 ++ dktX11_sign_1
theorem dksX11_sign_0 : cX11_sign.data.toList.drop 0 = dktX11_sign_0 := by decide +kernel
theorem dksX11_sign_1 : cX11_sign.data.toList.drop 24 = dktX11_sign_1 := dk_seg dksX11_sign_0 24 rfl rfl
theorem dksX11_sign_2 : cX11_sign.data.toList.drop 47 = dktX11_sign_2 := dk_seg dksX11_sign_1 23 rfl rfl
theorem dksX11_sign_3 : cX11_sign.data.toList.drop 71 = dktX11_sign_3 := dk_seg dksX11_sign_2 24 rfl rfl
theorem dksX11_sign_4 : cX11_sign.data.toList.drop 95 = dktX11_sign_4 := dk_seg dksX11_sign_3 24 rfl rfl
theorem dksX11_sign_5 : cX11_sign.data.toList.drop 119 = dktX11_sign_5 := dk_seg dksX11_sign_4 24 rfl rfl
theorem dksX11_sign_6 : cX11_sign.data.toList.drop 143 = dktX11_sign_6 := dk_seg dksX11_sign_5 24 rfl rfl
theorem dksX11_sign_7 : cX11_sign.data.toList.drop 166 = dktX11_sign_7 := dk_seg dksX11_sign_6 23 rfl rfl
theorem dksX11_sign_8 : cX11_sign.data.toList.drop 189 = dktX11_sign_8 := dk_seg dksX11_sign_7 23 rfl rfl
theorem dksX11_sign_9 : cX11_sign.data.toList.drop 213 = dktX11_sign_9 := dk_seg dksX11_sign_8 24 rfl rfl
theorem dX11_sign_0 : decode cX11_sign 0 = .ok (.iload_n 1, 1) := dk_27 (dk_at dksX11_sign_0 0 rfl rfl)
theorem dX11_sign_1 : decode cX11_sign 1 = .ok (.i2l, 1) := dk_133 (dk_at dksX11_sign_0 1 rfl rfl)
theorem dX11_sign_2 : decode cX11_sign 2 = .ok (.lconst 0, 1) := dk_9 (dk_at dksX11_sign_0 2 rfl rfl)
theorem dX11_sign_3 : decode cX11_sign 3 = .ok (.aload_n 0, 1) := dk_42 (dk_at dksX11_sign_0 3 rfl rfl)
theorem dX11_sign_4 : decode cX11_sign 4 = .ok (.getfield 528, 3) := dk_180 2 16 (dk_at dksX11_sign_0 4 rfl rfl)
theorem dX11_sign_7 : decode cX11_sign 7 = .ok (.iconst 1, 1) := dk_4 (dk_at dksX11_sign_0 7 rfl rfl)
theorem dX11_sign_8 : decode cX11_sign 8 = .ok (.isub, 1) := dk_100 (dk_at dksX11_sign_0 8 rfl rfl)
theorem dX11_sign_9 : decode cX11_sign 9 = .ok (.i2l, 1) := dk_133 (dk_at dksX11_sign_0 9 rfl rfl)
theorem dX11_sign_10 : decode cX11_sign 10 = .ok (.invokestatic 13, 3) := dk_184 0 13 (dk_at dksX11_sign_0 10 rfl rfl)
theorem dX11_sign_13 : decode cX11_sign 13 = .ok (.ifCond .eq 11, 3) := dk_153 0 11 (dk_at dksX11_sign_0 13 rfl rfl)
theorem dX11_sign_16 : decode cX11_sign 16 = .ok (.aload_n 0, 1) := dk_42 (dk_at dksX11_sign_0 16 rfl rfl)
theorem dX11_sign_17 : decode cX11_sign 17 = .ok (.iload_n 2, 1) := dk_28 (dk_at dksX11_sign_0 17 rfl rfl)
theorem dX11_sign_18 : decode cX11_sign 18 = .ok (.invokevirtual 110, 3) := dk_182 0 110 (dk_at dksX11_sign_0 18 rfl rfl)
theorem dX11_sign_21 : decode cX11_sign 21 = .ok (.ifCond .ne 5, 3) := dk_154 0 5 (dk_at dksX11_sign_0 21 rfl rfl)
theorem dX11_sign_24 : decode cX11_sign 24 = .ok (.iconst (-1), 1) := dk_2 (dk_at dksX11_sign_1 0 rfl rfl)
theorem dX11_sign_25 : decode cX11_sign 25 = .ok (.ireturn, 1) := dk_172 (dk_at dksX11_sign_1 1 rfl rfl)
theorem dX11_sign_26 : decode cX11_sign 26 = .ok (.aload_n 0, 1) := dk_42 (dk_at dksX11_sign_1 2 rfl rfl)
theorem dX11_sign_27 : decode cX11_sign 27 = .ok (.invokevirtual 572, 3) := dk_182 2 60 (dk_at dksX11_sign_1 3 rfl rfl)
theorem dX11_sign_30 : decode cX11_sign 30 = .ok (.ifCond .eq 6, 3) := dk_153 0 6 (dk_at dksX11_sign_1 6 rfl rfl)
theorem dX11_sign_33 : decode cX11_sign 33 = .ok (.bipush (-3), 2) := dk_16 253 (dk_at dksX11_sign_1 9 rfl rfl)
theorem dX11_sign_35 : decode cX11_sign 35 = .ok (.ireturn, 1) := dk_172 (dk_at dksX11_sign_1 11 rfl rfl)
theorem dX11_sign_36 : decode cX11_sign 36 = .ok (.iconst 0, 1) := dk_3 (dk_at dksX11_sign_1 12 rfl rfl)
theorem dX11_sign_37 : decode cX11_sign 37 = .ok (.istore_n 3, 1) := dk_62 (dk_at dksX11_sign_1 13 rfl rfl)
theorem dX11_sign_38 : decode cX11_sign 38 = .ok (.iconst 0, 1) := dk_3 (dk_at dksX11_sign_1 14 rfl rfl)
theorem dX11_sign_39 : decode cX11_sign 39 = .ok (.istore 4, 2) := dk_54 4 (dk_at dksX11_sign_1 15 rfl rfl)
theorem dX11_sign_41 : decode cX11_sign 41 = .ok (.iload 4, 2) := dk_21 4 (dk_at dksX11_sign_1 17 rfl rfl)
theorem dX11_sign_43 : decode cX11_sign 43 = .ok (.aload_n 0, 1) := dk_42 (dk_at dksX11_sign_1 19 rfl rfl)
theorem dX11_sign_44 : decode cX11_sign 44 = .ok (.getfield 528, 3) := dk_180 2 16 (dk_at dksX11_sign_1 20 rfl rfl)
theorem dX11_sign_47 : decode cX11_sign 47 = .ok (.if_icmp .ge 32, 3) := dk_162 0 32 (dk_at dksX11_sign_2 0 rfl rfl)
theorem dX11_sign_50 : decode cX11_sign 50 = .ok (.iload_n 3, 1) := dk_29 (dk_at dksX11_sign_2 3 rfl rfl)
theorem dX11_sign_51 : decode cX11_sign 51 = .ok (.aload_n 0, 1) := dk_42 (dk_at dksX11_sign_2 4 rfl rfl)
theorem dX11_sign_52 : decode cX11_sign 52 = .ok (.getfield 596, 3) := dk_180 2 84 (dk_at dksX11_sign_2 5 rfl rfl)
theorem dX11_sign_55 : decode cX11_sign 55 = .ok (.bipush 60, 2) := dk_16 60 (dk_at dksX11_sign_2 8 rfl rfl)
theorem dX11_sign_57 : decode cX11_sign 57 = .ok (.iload 4, 2) := dk_21 4 (dk_at dksX11_sign_2 10 rfl rfl)
theorem dX11_sign_59 : decode cX11_sign 59 = .ok (.imul, 1) := dk_104 (dk_at dksX11_sign_2 12 rfl rfl)
theorem dX11_sign_60 : decode cX11_sign 60 = .ok (.iload_n 2, 1) := dk_28 (dk_at dksX11_sign_2 13 rfl rfl)
theorem dX11_sign_61 : decode cX11_sign 61 = .ok (.iadd, 1) := dk_96 (dk_at dksX11_sign_2 14 rfl rfl)
theorem dX11_sign_62 : decode cX11_sign 62 = .ok (.baload, 1) := dk_51 (dk_at dksX11_sign_2 15 rfl rfl)
theorem dX11_sign_63 : decode cX11_sign 63 = .ok (.ifCond .eq 7, 3) := dk_153 0 7 (dk_at dksX11_sign_2 16 rfl rfl)
theorem dX11_sign_66 : decode cX11_sign 66 = .ok (.iconst 1, 1) := dk_4 (dk_at dksX11_sign_2 19 rfl rfl)
theorem dX11_sign_67 : decode cX11_sign 67 = .ok (.goto 4, 3) := dk_167 0 4 (dk_at dksX11_sign_2 20 rfl rfl)
theorem dX11_sign_70 : decode cX11_sign 70 = .ok (.iconst 0, 1) := dk_3 (dk_at dksX11_sign_2 23 rfl rfl)
theorem dX11_sign_71 : decode cX11_sign 71 = .ok (.iadd, 1) := dk_96 (dk_at dksX11_sign_3 0 rfl rfl)
theorem dX11_sign_72 : decode cX11_sign 72 = .ok (.istore_n 3, 1) := dk_62 (dk_at dksX11_sign_3 1 rfl rfl)
theorem dX11_sign_73 : decode cX11_sign 73 = .ok (.iinc 4 1, 3) := dk_132 4 1 (dk_at dksX11_sign_3 2 rfl rfl)
theorem dX11_sign_76 : decode cX11_sign 76 = .ok (.goto (-35), 3) := dk_167 255 221 (dk_at dksX11_sign_3 5 rfl rfl)
theorem dX11_sign_79 : decode cX11_sign 79 = .ok (.aload_n 0, 1) := dk_42 (dk_at dksX11_sign_3 8 rfl rfl)
theorem dX11_sign_80 : decode cX11_sign 80 = .ok (.getfield 590, 3) := dk_180 2 78 (dk_at dksX11_sign_3 9 rfl rfl)
theorem dX11_sign_83 : decode cX11_sign 83 = .ok (.iload_n 1, 1) := dk_27 (dk_at dksX11_sign_3 12 rfl rfl)
theorem dX11_sign_84 : decode cX11_sign 84 = .ok (.iaload, 1) := dk_46 (dk_at dksX11_sign_3 13 rfl rfl)
theorem dX11_sign_85 : decode cX11_sign 85 = .ok (.iconst 3, 1) := dk_6 (dk_at dksX11_sign_3 14 rfl rfl)
theorem dX11_sign_86 : decode cX11_sign 86 = .ok (.if_icmp .eq 28, 3) := dk_159 0 28 (dk_at dksX11_sign_3 15 rfl rfl)
theorem dX11_sign_89 : decode cX11_sign 89 = .ok (.aload_n 0, 1) := dk_42 (dk_at dksX11_sign_3 18 rfl rfl)
theorem dX11_sign_90 : decode cX11_sign 90 = .ok (.iload_n 2, 1) := dk_28 (dk_at dksX11_sign_3 19 rfl rfl)
theorem dX11_sign_91 : decode cX11_sign 91 = .ok (.iconst 1, 1) := dk_4 (dk_at dksX11_sign_3 20 rfl rfl)
theorem dX11_sign_92 : decode cX11_sign 92 = .ok (.invokevirtual 524, 3) := dk_182 2 12 (dk_at dksX11_sign_3 21 rfl rfl)
theorem dX11_sign_95 : decode cX11_sign 95 = .ok (.ifCond .eq 19, 3) := dk_153 0 19 (dk_at dksX11_sign_4 0 rfl rfl)
theorem dX11_sign_98 : decode cX11_sign 98 = .ok (.aload_n 0, 1) := dk_42 (dk_at dksX11_sign_4 3 rfl rfl)
theorem dX11_sign_99 : decode cX11_sign 99 = .ok (.iload_n 2, 1) := dk_28 (dk_at dksX11_sign_4 4 rfl rfl)
theorem dX11_sign_100 : decode cX11_sign 100 = .ok (.aload_n 0, 1) := dk_42 (dk_at dksX11_sign_4 5 rfl rfl)
theorem dX11_sign_101 : decode cX11_sign 101 = .ok (.getfield 17, 3) := dk_180 0 17 (dk_at dksX11_sign_4 6 rfl rfl)
theorem dX11_sign_104 : decode cX11_sign 104 = .ok (.invokevirtual 581, 3) := dk_182 2 69 (dk_at dksX11_sign_4 9 rfl rfl)
theorem dX11_sign_107 : decode cX11_sign 107 = .ok (.ifCond .eq 7, 3) := dk_153 0 7 (dk_at dksX11_sign_4 12 rfl rfl)
theorem dX11_sign_110 : decode cX11_sign 110 = .ok (.iconst 1, 1) := dk_4 (dk_at dksX11_sign_4 15 rfl rfl)
theorem dX11_sign_111 : decode cX11_sign 111 = .ok (.goto 4, 3) := dk_167 0 4 (dk_at dksX11_sign_4 16 rfl rfl)
theorem dX11_sign_114 : decode cX11_sign 114 = .ok (.iconst 0, 1) := dk_3 (dk_at dksX11_sign_4 19 rfl rfl)
theorem dX11_sign_115 : decode cX11_sign 115 = .ok (.istore 4, 2) := dk_54 4 (dk_at dksX11_sign_4 20 rfl rfl)
theorem dX11_sign_117 : decode cX11_sign 117 = .ok (.iload 4, 2) := dk_21 4 (dk_at dksX11_sign_4 22 rfl rfl)
theorem dX11_sign_119 : decode cX11_sign 119 = .ok (.ifCond .eq 38, 3) := dk_153 0 38 (dk_at dksX11_sign_5 0 rfl rfl)
theorem dX11_sign_122 : decode cX11_sign 122 = .ok (.aload_n 0, 1) := dk_42 (dk_at dksX11_sign_5 3 rfl rfl)
theorem dX11_sign_123 : decode cX11_sign 123 = .ok (.aload_n 0, 1) := dk_42 (dk_at dksX11_sign_5 4 rfl rfl)
theorem dX11_sign_124 : decode cX11_sign 124 = .ok (.aload_n 0, 1) := dk_42 (dk_at dksX11_sign_5 5 rfl rfl)
theorem dX11_sign_125 : decode cX11_sign 125 = .ok (.getfield 575, 3) := dk_180 2 63 (dk_at dksX11_sign_5 6 rfl rfl)
theorem dX11_sign_128 : decode cX11_sign 128 = .ok (.iload_n 1, 1) := dk_27 (dk_at dksX11_sign_5 9 rfl rfl)
theorem dX11_sign_129 : decode cX11_sign 129 = .ok (.iaload, 1) := dk_46 (dk_at dksX11_sign_5 10 rfl rfl)
theorem dX11_sign_130 : decode cX11_sign 130 = .ok (.iconst 0, 1) := dk_3 (dk_at dksX11_sign_5 11 rfl rfl)
theorem dX11_sign_131 : decode cX11_sign 131 = .ok (.invokevirtual 485, 3) := dk_182 1 229 (dk_at dksX11_sign_5 12 rfl rfl)
theorem dX11_sign_134 : decode cX11_sign 134 = .ok (.aload_n 0, 1) := dk_42 (dk_at dksX11_sign_5 15 rfl rfl)
theorem dX11_sign_135 : decode cX11_sign 135 = .ok (.iload_n 2, 1) := dk_28 (dk_at dksX11_sign_5 16 rfl rfl)
theorem dX11_sign_136 : decode cX11_sign 136 = .ok (.aload_n 0, 1) := dk_42 (dk_at dksX11_sign_5 17 rfl rfl)
theorem dX11_sign_137 : decode cX11_sign 137 = .ok (.getfield 17, 3) := dk_180 0 17 (dk_at dksX11_sign_5 18 rfl rfl)
theorem dX11_sign_140 : decode cX11_sign 140 = .ok (.invokevirtual 151, 3) := dk_182 0 151 (dk_at dksX11_sign_5 21 rfl rfl)
theorem dX11_sign_143 : decode cX11_sign 143 = .ok (.aload_n 0, 1) := dk_42 (dk_at dksX11_sign_6 0 rfl rfl)
theorem dX11_sign_144 : decode cX11_sign 144 = .ok (.getfield 17, 3) := dk_180 0 17 (dk_at dksX11_sign_6 1 rfl rfl)
theorem dX11_sign_147 : decode cX11_sign 147 = .ok (.invokevirtual 494, 3) := dk_182 1 238 (dk_at dksX11_sign_6 4 rfl rfl)
theorem dX11_sign_150 : decode cX11_sign 150 = .ok (.ifCond .eq 7, 3) := dk_153 0 7 (dk_at dksX11_sign_6 7 rfl rfl)
theorem dX11_sign_153 : decode cX11_sign 153 = .ok (.iconst 1, 1) := dk_4 (dk_at dksX11_sign_6 10 rfl rfl)
theorem dX11_sign_154 : decode cX11_sign 154 = .ok (.goto 4, 3) := dk_167 0 4 (dk_at dksX11_sign_6 11 rfl rfl)
theorem dX11_sign_157 : decode cX11_sign 157 = .ok (.iconst 0, 1) := dk_3 (dk_at dksX11_sign_6 14 rfl rfl)
theorem dX11_sign_158 : decode cX11_sign 158 = .ok (.istore 4, 2) := dk_54 4 (dk_at dksX11_sign_6 15 rfl rfl)
theorem dX11_sign_160 : decode cX11_sign 160 = .ok (.iload 4, 2) := dk_21 4 (dk_at dksX11_sign_6 17 rfl rfl)
theorem dX11_sign_162 : decode cX11_sign 162 = .ok (.ifCond .eq 27, 3) := dk_153 0 27 (dk_at dksX11_sign_6 19 rfl rfl)
theorem dX11_sign_165 : decode cX11_sign 165 = .ok (.aload_n 0, 1) := dk_42 (dk_at dksX11_sign_6 22 rfl rfl)
theorem dX11_sign_166 : decode cX11_sign 166 = .ok (.getfield 596, 3) := dk_180 2 84 (dk_at dksX11_sign_7 0 rfl rfl)
theorem dX11_sign_169 : decode cX11_sign 169 = .ok (.bipush 60, 2) := dk_16 60 (dk_at dksX11_sign_7 3 rfl rfl)
theorem dX11_sign_171 : decode cX11_sign 171 = .ok (.iload_n 1, 1) := dk_27 (dk_at dksX11_sign_7 5 rfl rfl)
theorem dX11_sign_172 : decode cX11_sign 172 = .ok (.imul, 1) := dk_104 (dk_at dksX11_sign_7 6 rfl rfl)
theorem dX11_sign_173 : decode cX11_sign 173 = .ok (.iload_n 2, 1) := dk_28 (dk_at dksX11_sign_7 7 rfl rfl)
theorem dX11_sign_174 : decode cX11_sign 174 = .ok (.iadd, 1) := dk_96 (dk_at dksX11_sign_7 8 rfl rfl)
theorem dX11_sign_175 : decode cX11_sign 175 = .ok (.baload, 1) := dk_51 (dk_at dksX11_sign_7 9 rfl rfl)
theorem dX11_sign_176 : decode cX11_sign 176 = .ok (.ifCond .ne 13, 3) := dk_154 0 13 (dk_at dksX11_sign_7 10 rfl rfl)
theorem dX11_sign_179 : decode cX11_sign 179 = .ok (.iload_n 3, 1) := dk_29 (dk_at dksX11_sign_7 13 rfl rfl)
theorem dX11_sign_180 : decode cX11_sign 180 = .ok (.aload_n 0, 1) := dk_42 (dk_at dksX11_sign_7 14 rfl rfl)
theorem dX11_sign_181 : decode cX11_sign 181 = .ok (.bipush 6, 2) := dk_16 6 (dk_at dksX11_sign_7 15 rfl rfl)
theorem dX11_sign_183 : decode cX11_sign 183 = .ok (.invokevirtual 466, 3) := dk_182 1 210 (dk_at dksX11_sign_7 17 rfl rfl)
theorem dX11_sign_186 : decode cX11_sign 186 = .ok (.if_icmp .lt 6, 3) := dk_161 0 6 (dk_at dksX11_sign_7 20 rfl rfl)
theorem dX11_sign_189 : decode cX11_sign 189 = .ok (.bipush (-4), 2) := dk_16 252 (dk_at dksX11_sign_8 0 rfl rfl)
theorem dX11_sign_191 : decode cX11_sign 191 = .ok (.ireturn, 1) := dk_172 (dk_at dksX11_sign_8 2 rfl rfl)
theorem dX11_sign_192 : decode cX11_sign 192 = .ok (.aload_n 0, 1) := dk_42 (dk_at dksX11_sign_8 3 rfl rfl)
theorem dX11_sign_193 : decode cX11_sign 193 = .ok (.getfield 596, 3) := dk_180 2 84 (dk_at dksX11_sign_8 4 rfl rfl)
theorem dX11_sign_196 : decode cX11_sign 196 = .ok (.bipush 60, 2) := dk_16 60 (dk_at dksX11_sign_8 7 rfl rfl)
theorem dX11_sign_198 : decode cX11_sign 198 = .ok (.iload_n 1, 1) := dk_27 (dk_at dksX11_sign_8 9 rfl rfl)
theorem dX11_sign_199 : decode cX11_sign 199 = .ok (.imul, 1) := dk_104 (dk_at dksX11_sign_8 10 rfl rfl)
theorem dX11_sign_200 : decode cX11_sign 200 = .ok (.iload_n 2, 1) := dk_28 (dk_at dksX11_sign_8 11 rfl rfl)
theorem dX11_sign_201 : decode cX11_sign 201 = .ok (.iadd, 1) := dk_96 (dk_at dksX11_sign_8 12 rfl rfl)
theorem dX11_sign_202 : decode cX11_sign 202 = .ok (.iconst 1, 1) := dk_4 (dk_at dksX11_sign_8 13 rfl rfl)
theorem dX11_sign_203 : decode cX11_sign 203 = .ok (.bastore, 1) := dk_84 (dk_at dksX11_sign_8 14 rfl rfl)
theorem dX11_sign_204 : decode cX11_sign 204 = .ok (.aload_n 0, 1) := dk_42 (dk_at dksX11_sign_8 15 rfl rfl)
theorem dX11_sign_205 : decode cX11_sign 205 = .ok (.getfield 587, 3) := dk_180 2 75 (dk_at dksX11_sign_8 16 rfl rfl)
theorem dX11_sign_208 : decode cX11_sign 208 = .ok (.iload_n 1, 1) := dk_27 (dk_at dksX11_sign_8 19 rfl rfl)
theorem dX11_sign_209 : decode cX11_sign 209 = .ok (.dup2, 1) := dk_92 (dk_at dksX11_sign_8 20 rfl rfl)
theorem dX11_sign_210 : decode cX11_sign 210 = .ok (.iaload, 1) := dk_46 (dk_at dksX11_sign_8 21 rfl rfl)
theorem dX11_sign_211 : decode cX11_sign 211 = .ok (.iconst 1, 1) := dk_4 (dk_at dksX11_sign_8 22 rfl rfl)
theorem dX11_sign_212 : decode cX11_sign 212 = .ok (.iadd, 1) := dk_96 (dk_at dksX11_sign_8 23 rfl rfl)
theorem dX11_sign_213 : decode cX11_sign 213 = .ok (.iastore, 1) := dk_79 (dk_at dksX11_sign_9 0 rfl rfl)
theorem dX11_sign_214 : decode cX11_sign 214 = .ok (.aload_n 0, 1) := dk_42 (dk_at dksX11_sign_9 1 rfl rfl)
theorem dX11_sign_215 : decode cX11_sign 215 = .ok (.bipush 9, 2) := dk_16 9 (dk_at dksX11_sign_9 2 rfl rfl)
theorem dX11_sign_217 : decode cX11_sign 217 = .ok (.iload_n 1, 1) := dk_27 (dk_at dksX11_sign_9 4 rfl rfl)
theorem dX11_sign_218 : decode cX11_sign 218 = .ok (.iload_n 2, 1) := dk_28 (dk_at dksX11_sign_9 5 rfl rfl)
theorem dX11_sign_219 : decode cX11_sign 219 = .ok (.iconst 0, 1) := dk_3 (dk_at dksX11_sign_9 6 rfl rfl)
theorem dX11_sign_220 : decode cX11_sign 220 = .ok (.iconst 0, 1) := dk_3 (dk_at dksX11_sign_9 7 rfl rfl)
theorem dX11_sign_221 : decode cX11_sign 221 = .ok (.invokevirtual 22, 3) := dk_182 0 22 (dk_at dksX11_sign_9 8 rfl rfl)
theorem dX11_sign_224 : decode cX11_sign 224 = .ok (.aload_n 0, 1) := dk_42 (dk_at dksX11_sign_9 11 rfl rfl)
theorem dX11_sign_225 : decode cX11_sign 225 = .ok (.getfield 587, 3) := dk_180 2 75 (dk_at dksX11_sign_9 12 rfl rfl)
theorem dX11_sign_228 : decode cX11_sign 228 = .ok (.iload_n 1, 1) := dk_27 (dk_at dksX11_sign_9 15 rfl rfl)
theorem dX11_sign_229 : decode cX11_sign 229 = .ok (.iaload, 1) := dk_46 (dk_at dksX11_sign_9 16 rfl rfl)
theorem dX11_sign_230 : decode cX11_sign 230 = .ok (.ireturn, 1) := dk_172 (dk_at dksX11_sign_9 17 rfl rfl)
abbrev cX11_withdraw : ByteArray := prog_17_method_74_code
def yX11_withdraw : MethodName := ⟨RX11, "withdraw", "(I)I"⟩
def dkwX11_withdraw_2 : List UInt8 := [6, 79, 42, 16, 10, 27, 3, 3, 3, 182, 0, 22, 4, 172]
abbrev dktX11_withdraw_2 : List UInt8 := dkwX11_withdraw_2 ++ []
def dkwX11_withdraw_1 : List UInt8 := [153, 0, 6, 16, 253, 172, 42, 180, 2, 78, 27, 46, 6, 160, 0, 6, 16, 252, 172, 42, 180, 2, 78, 27]
abbrev dktX11_withdraw_1 : List UInt8 := dkwX11_withdraw_1 ++ dktX11_withdraw_2
def dkwX11_withdraw_0 : List UInt8 := [27, 133, 9, 42, 180, 2, 16, 4, 100, 133, 184, 0, 13, 154, 0, 5, 2, 172, 42, 180, 2, 19]
abbrev dktX11_withdraw_0 : List UInt8 := dkwX11_withdraw_0 ++ dktX11_withdraw_1
theorem dksX11_withdraw_0 : cX11_withdraw.data.toList.drop 0 = dktX11_withdraw_0 := by decide +kernel
theorem dksX11_withdraw_1 : cX11_withdraw.data.toList.drop 22 = dktX11_withdraw_1 := dk_seg dksX11_withdraw_0 22 rfl rfl
theorem dksX11_withdraw_2 : cX11_withdraw.data.toList.drop 46 = dktX11_withdraw_2 := dk_seg dksX11_withdraw_1 24 rfl rfl
theorem dX11_withdraw_0 : decode cX11_withdraw 0 = .ok (.iload_n 1, 1) := dk_27 (dk_at dksX11_withdraw_0 0 rfl rfl)
theorem dX11_withdraw_1 : decode cX11_withdraw 1 = .ok (.i2l, 1) := dk_133 (dk_at dksX11_withdraw_0 1 rfl rfl)
theorem dX11_withdraw_2 : decode cX11_withdraw 2 = .ok (.lconst 0, 1) := dk_9 (dk_at dksX11_withdraw_0 2 rfl rfl)
theorem dX11_withdraw_3 : decode cX11_withdraw 3 = .ok (.aload_n 0, 1) := dk_42 (dk_at dksX11_withdraw_0 3 rfl rfl)
theorem dX11_withdraw_4 : decode cX11_withdraw 4 = .ok (.getfield 528, 3) := dk_180 2 16 (dk_at dksX11_withdraw_0 4 rfl rfl)
theorem dX11_withdraw_7 : decode cX11_withdraw 7 = .ok (.iconst 1, 1) := dk_4 (dk_at dksX11_withdraw_0 7 rfl rfl)
theorem dX11_withdraw_8 : decode cX11_withdraw 8 = .ok (.isub, 1) := dk_100 (dk_at dksX11_withdraw_0 8 rfl rfl)
theorem dX11_withdraw_9 : decode cX11_withdraw 9 = .ok (.i2l, 1) := dk_133 (dk_at dksX11_withdraw_0 9 rfl rfl)
theorem dX11_withdraw_10 : decode cX11_withdraw 10 = .ok (.invokestatic 13, 3) := dk_184 0 13 (dk_at dksX11_withdraw_0 10 rfl rfl)
theorem dX11_withdraw_13 : decode cX11_withdraw 13 = .ok (.ifCond .ne 5, 3) := dk_154 0 5 (dk_at dksX11_withdraw_0 13 rfl rfl)
theorem dX11_withdraw_16 : decode cX11_withdraw 16 = .ok (.iconst (-1), 1) := dk_2 (dk_at dksX11_withdraw_0 16 rfl rfl)
theorem dX11_withdraw_17 : decode cX11_withdraw 17 = .ok (.ireturn, 1) := dk_172 (dk_at dksX11_withdraw_0 17 rfl rfl)
theorem dX11_withdraw_18 : decode cX11_withdraw 18 = .ok (.aload_n 0, 1) := dk_42 (dk_at dksX11_withdraw_0 18 rfl rfl)
theorem dX11_withdraw_19 : decode cX11_withdraw 19 = .ok (.getfield 531, 3) := dk_180 2 19 (dk_at dksX11_withdraw_0 19 rfl rfl)
theorem dX11_withdraw_22 : decode cX11_withdraw 22 = .ok (.ifCond .eq 6, 3) := dk_153 0 6 (dk_at dksX11_withdraw_1 0 rfl rfl)
theorem dX11_withdraw_25 : decode cX11_withdraw 25 = .ok (.bipush (-3), 2) := dk_16 253 (dk_at dksX11_withdraw_1 3 rfl rfl)
theorem dX11_withdraw_27 : decode cX11_withdraw 27 = .ok (.ireturn, 1) := dk_172 (dk_at dksX11_withdraw_1 5 rfl rfl)
theorem dX11_withdraw_28 : decode cX11_withdraw 28 = .ok (.aload_n 0, 1) := dk_42 (dk_at dksX11_withdraw_1 6 rfl rfl)
theorem dX11_withdraw_29 : decode cX11_withdraw 29 = .ok (.getfield 590, 3) := dk_180 2 78 (dk_at dksX11_withdraw_1 7 rfl rfl)
theorem dX11_withdraw_32 : decode cX11_withdraw 32 = .ok (.iload_n 1, 1) := dk_27 (dk_at dksX11_withdraw_1 10 rfl rfl)
theorem dX11_withdraw_33 : decode cX11_withdraw 33 = .ok (.iaload, 1) := dk_46 (dk_at dksX11_withdraw_1 11 rfl rfl)
theorem dX11_withdraw_34 : decode cX11_withdraw 34 = .ok (.iconst 3, 1) := dk_6 (dk_at dksX11_withdraw_1 12 rfl rfl)
theorem dX11_withdraw_35 : decode cX11_withdraw 35 = .ok (.if_icmp .ne 6, 3) := dk_160 0 6 (dk_at dksX11_withdraw_1 13 rfl rfl)
theorem dX11_withdraw_38 : decode cX11_withdraw 38 = .ok (.bipush (-4), 2) := dk_16 252 (dk_at dksX11_withdraw_1 16 rfl rfl)
theorem dX11_withdraw_40 : decode cX11_withdraw 40 = .ok (.ireturn, 1) := dk_172 (dk_at dksX11_withdraw_1 18 rfl rfl)
theorem dX11_withdraw_41 : decode cX11_withdraw 41 = .ok (.aload_n 0, 1) := dk_42 (dk_at dksX11_withdraw_1 19 rfl rfl)
theorem dX11_withdraw_42 : decode cX11_withdraw 42 = .ok (.getfield 590, 3) := dk_180 2 78 (dk_at dksX11_withdraw_1 20 rfl rfl)
theorem dX11_withdraw_45 : decode cX11_withdraw 45 = .ok (.iload_n 1, 1) := dk_27 (dk_at dksX11_withdraw_1 23 rfl rfl)
theorem dX11_withdraw_46 : decode cX11_withdraw 46 = .ok (.iconst 3, 1) := dk_6 (dk_at dksX11_withdraw_2 0 rfl rfl)
theorem dX11_withdraw_47 : decode cX11_withdraw 47 = .ok (.iastore, 1) := dk_79 (dk_at dksX11_withdraw_2 1 rfl rfl)
theorem dX11_withdraw_48 : decode cX11_withdraw 48 = .ok (.aload_n 0, 1) := dk_42 (dk_at dksX11_withdraw_2 2 rfl rfl)
theorem dX11_withdraw_49 : decode cX11_withdraw 49 = .ok (.bipush 10, 2) := dk_16 10 (dk_at dksX11_withdraw_2 3 rfl rfl)
theorem dX11_withdraw_51 : decode cX11_withdraw 51 = .ok (.iload_n 1, 1) := dk_27 (dk_at dksX11_withdraw_2 5 rfl rfl)
theorem dX11_withdraw_52 : decode cX11_withdraw 52 = .ok (.iconst 0, 1) := dk_3 (dk_at dksX11_withdraw_2 6 rfl rfl)
theorem dX11_withdraw_53 : decode cX11_withdraw 53 = .ok (.iconst 0, 1) := dk_3 (dk_at dksX11_withdraw_2 7 rfl rfl)
theorem dX11_withdraw_54 : decode cX11_withdraw 54 = .ok (.iconst 0, 1) := dk_3 (dk_at dksX11_withdraw_2 8 rfl rfl)
theorem dX11_withdraw_55 : decode cX11_withdraw 55 = .ok (.invokevirtual 22, 3) := dk_182 0 22 (dk_at dksX11_withdraw_2 9 rfl rfl)
theorem dX11_withdraw_58 : decode cX11_withdraw 58 = .ok (.iconst 1, 1) := dk_4 (dk_at dksX11_withdraw_2 12 rfl rfl)
theorem dX11_withdraw_59 : decode cX11_withdraw 59 = .ok (.ireturn, 1) := dk_172 (dk_at dksX11_withdraw_2 13 rfl rfl)
abbrev cX11_nomination : ByteArray := prog_17_method_75_code
def yX11_nomination : MethodName := ⟨RX11, "nomination", "(II)I"⟩
def dkwX11_nomination_3 : List UInt8 := [180, 2, 75, 27, 46, 172, 42, 180, 2, 78, 27, 46, 172, 42, 180, 2, 81, 27, 46, 172, 16, 254, 172]
abbrev dktX11_nomination_3 : List UInt8 := dkwX11_nomination_3 ++ []
def dkwX11_nomination_2 : List UInt8 := [42, 180, 2, 63, 27, 46, 172, 42, 180, 2, 66, 27, 46, 172, 42, 180, 2, 72, 27, 46, 172, 42]
abbrev dktX11_nomination_2 : List UInt8 := dkwX11_nomination_2 ++ dktX11_nomination_3
def dkwX11_nomination_1 : List UInt8 := [170, 0, 0, 0, 79, 0, 0, 0, 0, 0, 0, 0, 5, 0, 0, 0, 37, 0, 0, 0, 44, 0, 0, 0, 51, 0, 0, 0, 58, 0, 0, 0, 65, 0, 0, 0, 72]
abbrev dktX11_nomination_1 : List UInt8 := dkwX11_nomination_1 ++ dktX11_nomination_2
def dkwX11_nomination_0 : List UInt8 := [27, 133, 9, 42, 180, 2, 16, 4, 100, 133, 184, 0, 13, 154, 0, 5, 2, 172, 28]
abbrev dktX11_nomination_0 : List UInt8 := dkwX11_nomination_0 ++ dktX11_nomination_1
theorem dksX11_nomination_0 : cX11_nomination.data.toList.drop 0 = dktX11_nomination_0 := by decide +kernel
theorem dksX11_nomination_1 : cX11_nomination.data.toList.drop 19 = dktX11_nomination_1 := dk_seg dksX11_nomination_0 19 rfl rfl
theorem dksX11_nomination_2 : cX11_nomination.data.toList.drop 56 = dktX11_nomination_2 := dk_seg dksX11_nomination_1 37 rfl rfl
theorem dksX11_nomination_3 : cX11_nomination.data.toList.drop 78 = dktX11_nomination_3 := dk_seg dksX11_nomination_2 22 rfl rfl
theorem dX11_nomination_0 : decode cX11_nomination 0 = .ok (.iload_n 1, 1) := dk_27 (dk_at dksX11_nomination_0 0 rfl rfl)
theorem dX11_nomination_1 : decode cX11_nomination 1 = .ok (.i2l, 1) := dk_133 (dk_at dksX11_nomination_0 1 rfl rfl)
theorem dX11_nomination_2 : decode cX11_nomination 2 = .ok (.lconst 0, 1) := dk_9 (dk_at dksX11_nomination_0 2 rfl rfl)
theorem dX11_nomination_3 : decode cX11_nomination 3 = .ok (.aload_n 0, 1) := dk_42 (dk_at dksX11_nomination_0 3 rfl rfl)
theorem dX11_nomination_4 : decode cX11_nomination 4 = .ok (.getfield 528, 3) := dk_180 2 16 (dk_at dksX11_nomination_0 4 rfl rfl)
theorem dX11_nomination_7 : decode cX11_nomination 7 = .ok (.iconst 1, 1) := dk_4 (dk_at dksX11_nomination_0 7 rfl rfl)
theorem dX11_nomination_8 : decode cX11_nomination 8 = .ok (.isub, 1) := dk_100 (dk_at dksX11_nomination_0 8 rfl rfl)
theorem dX11_nomination_9 : decode cX11_nomination 9 = .ok (.i2l, 1) := dk_133 (dk_at dksX11_nomination_0 9 rfl rfl)
theorem dX11_nomination_10 : decode cX11_nomination 10 = .ok (.invokestatic 13, 3) := dk_184 0 13 (dk_at dksX11_nomination_0 10 rfl rfl)
theorem dX11_nomination_13 : decode cX11_nomination 13 = .ok (.ifCond .ne 5, 3) := dk_154 0 5 (dk_at dksX11_nomination_0 13 rfl rfl)
theorem dX11_nomination_16 : decode cX11_nomination 16 = .ok (.iconst (-1), 1) := dk_2 (dk_at dksX11_nomination_0 16 rfl rfl)
theorem dX11_nomination_17 : decode cX11_nomination 17 = .ok (.ireturn, 1) := dk_172 (dk_at dksX11_nomination_0 17 rfl rfl)
theorem dX11_nomination_18 : decode cX11_nomination 18 = .ok (.iload_n 2, 1) := dk_28 (dk_at dksX11_nomination_0 18 rfl rfl)
theorem dX11_nomination_19 : decode cX11_nomination 19 = .ok (.tableswitch 79 0 5 #[37, 44, 51, 58, 65, 72], 37) := by decide +kernel
theorem dX11_nomination_56 : decode cX11_nomination 56 = .ok (.aload_n 0, 1) := dk_42 (dk_at dksX11_nomination_2 0 rfl rfl)
theorem dX11_nomination_57 : decode cX11_nomination 57 = .ok (.getfield 575, 3) := dk_180 2 63 (dk_at dksX11_nomination_2 1 rfl rfl)
theorem dX11_nomination_60 : decode cX11_nomination 60 = .ok (.iload_n 1, 1) := dk_27 (dk_at dksX11_nomination_2 4 rfl rfl)
theorem dX11_nomination_61 : decode cX11_nomination 61 = .ok (.iaload, 1) := dk_46 (dk_at dksX11_nomination_2 5 rfl rfl)
theorem dX11_nomination_62 : decode cX11_nomination 62 = .ok (.ireturn, 1) := dk_172 (dk_at dksX11_nomination_2 6 rfl rfl)
theorem dX11_nomination_63 : decode cX11_nomination 63 = .ok (.aload_n 0, 1) := dk_42 (dk_at dksX11_nomination_2 7 rfl rfl)
theorem dX11_nomination_64 : decode cX11_nomination 64 = .ok (.getfield 578, 3) := dk_180 2 66 (dk_at dksX11_nomination_2 8 rfl rfl)
theorem dX11_nomination_67 : decode cX11_nomination 67 = .ok (.iload_n 1, 1) := dk_27 (dk_at dksX11_nomination_2 11 rfl rfl)
theorem dX11_nomination_68 : decode cX11_nomination 68 = .ok (.iaload, 1) := dk_46 (dk_at dksX11_nomination_2 12 rfl rfl)
theorem dX11_nomination_69 : decode cX11_nomination 69 = .ok (.ireturn, 1) := dk_172 (dk_at dksX11_nomination_2 13 rfl rfl)
theorem dX11_nomination_70 : decode cX11_nomination 70 = .ok (.aload_n 0, 1) := dk_42 (dk_at dksX11_nomination_2 14 rfl rfl)
theorem dX11_nomination_71 : decode cX11_nomination 71 = .ok (.getfield 584, 3) := dk_180 2 72 (dk_at dksX11_nomination_2 15 rfl rfl)
theorem dX11_nomination_74 : decode cX11_nomination 74 = .ok (.iload_n 1, 1) := dk_27 (dk_at dksX11_nomination_2 18 rfl rfl)
theorem dX11_nomination_75 : decode cX11_nomination 75 = .ok (.iaload, 1) := dk_46 (dk_at dksX11_nomination_2 19 rfl rfl)
theorem dX11_nomination_76 : decode cX11_nomination 76 = .ok (.ireturn, 1) := dk_172 (dk_at dksX11_nomination_2 20 rfl rfl)
theorem dX11_nomination_77 : decode cX11_nomination 77 = .ok (.aload_n 0, 1) := dk_42 (dk_at dksX11_nomination_2 21 rfl rfl)
theorem dX11_nomination_78 : decode cX11_nomination 78 = .ok (.getfield 587, 3) := dk_180 2 75 (dk_at dksX11_nomination_3 0 rfl rfl)
theorem dX11_nomination_81 : decode cX11_nomination 81 = .ok (.iload_n 1, 1) := dk_27 (dk_at dksX11_nomination_3 3 rfl rfl)
theorem dX11_nomination_82 : decode cX11_nomination 82 = .ok (.iaload, 1) := dk_46 (dk_at dksX11_nomination_3 4 rfl rfl)
theorem dX11_nomination_83 : decode cX11_nomination 83 = .ok (.ireturn, 1) := dk_172 (dk_at dksX11_nomination_3 5 rfl rfl)
theorem dX11_nomination_84 : decode cX11_nomination 84 = .ok (.aload_n 0, 1) := dk_42 (dk_at dksX11_nomination_3 6 rfl rfl)
theorem dX11_nomination_85 : decode cX11_nomination 85 = .ok (.getfield 590, 3) := dk_180 2 78 (dk_at dksX11_nomination_3 7 rfl rfl)
theorem dX11_nomination_88 : decode cX11_nomination 88 = .ok (.iload_n 1, 1) := dk_27 (dk_at dksX11_nomination_3 10 rfl rfl)
theorem dX11_nomination_89 : decode cX11_nomination 89 = .ok (.iaload, 1) := dk_46 (dk_at dksX11_nomination_3 11 rfl rfl)
theorem dX11_nomination_90 : decode cX11_nomination 90 = .ok (.ireturn, 1) := dk_172 (dk_at dksX11_nomination_3 12 rfl rfl)
theorem dX11_nomination_91 : decode cX11_nomination 91 = .ok (.aload_n 0, 1) := dk_42 (dk_at dksX11_nomination_3 13 rfl rfl)
theorem dX11_nomination_92 : decode cX11_nomination 92 = .ok (.getfield 593, 3) := dk_180 2 81 (dk_at dksX11_nomination_3 14 rfl rfl)
theorem dX11_nomination_95 : decode cX11_nomination 95 = .ok (.iload_n 1, 1) := dk_27 (dk_at dksX11_nomination_3 17 rfl rfl)
theorem dX11_nomination_96 : decode cX11_nomination 96 = .ok (.iaload, 1) := dk_46 (dk_at dksX11_nomination_3 18 rfl rfl)
theorem dX11_nomination_97 : decode cX11_nomination 97 = .ok (.ireturn, 1) := dk_172 (dk_at dksX11_nomination_3 19 rfl rfl)
theorem dX11_nomination_98 : decode cX11_nomination 98 = .ok (.bipush (-2), 2) := dk_16 254 (dk_at dksX11_nomination_3 20 rfl rfl)
theorem dX11_nomination_100 : decode cX11_nomination 100 = .ok (.ireturn, 1) := dk_172 (dk_at dksX11_nomination_3 22 rfl rfl)
abbrev cX11_freeze : ByteArray := prog_17_method_80_code
def yX11_freeze : MethodName := ⟨RX11, "freeze", "()I"⟩
def dkwX11_freeze_11 : List UInt8 := [182, 2, 108, 132, 1, 1, 167, 255, 203, 42, 16, 11, 3, 3, 3, 3, 182, 0, 22, 42, 180, 2, 22, 172]
abbrev dktX11_freeze_11 : List UInt8 := dkwX11_freeze_11 ++ []
def dkwX11_freeze_10 : List UInt8 := [182, 2, 12, 153, 0, 11, 42, 27, 182, 2, 105, 167, 0, 4, 3, 61, 28, 153, 0, 9, 42, 27, 28]
abbrev dktX11_freeze_10 : List UInt8 := dkwX11_freeze_10 ++ dktX11_freeze_11
def dkwX11_freeze_9 : List UInt8 := [180, 0, 92, 162, 0, 51, 42, 27, 42, 4, 182, 1, 210, 182, 2, 69, 153, 0, 20, 42, 27, 4]
abbrev dktX11_freeze_9 : List UInt8 := dkwX11_freeze_9 ++ dktX11_freeze_10
def dkwX11_freeze_8 : List UInt8 := [79, 42, 180, 2, 102, 16, 9, 28, 104, 29, 96, 29, 79, 132, 1, 1, 167, 255, 94, 3, 60, 27, 42]
abbrev dktX11_freeze_8 : List UInt8 := dkwX11_freeze_8 ++ dktX11_freeze_9
def dkwX11_freeze_7 : List UInt8 := [79, 42, 180, 2, 55, 16, 9, 28, 104, 29, 96, 3, 84, 42, 180, 2, 99, 16, 9, 28, 104, 29, 96, 29]
abbrev dktX11_freeze_7 : List UInt8 := dkwX11_freeze_7 ++ dktX11_freeze_8
def dkwX11_freeze_6 : List UInt8 := [28, 92, 46, 4, 96, 79, 42, 180, 2, 81, 27, 29, 79, 42, 180, 2, 96, 16, 9, 28, 104, 29, 96, 27]
abbrev dktX11_freeze_6 : List UInt8 := dkwX11_freeze_6 ++ dktX11_freeze_7
def dkwX11_freeze_5 : List UInt8 := [159, 0, 6, 167, 0, 82, 42, 180, 2, 63, 27, 46, 61, 42, 180, 1, 232, 28, 46, 62, 42, 180, 1, 232]
abbrev dktX11_freeze_5 : List UInt8 := dkwX11_freeze_5 ++ dktX11_freeze_6
def dkwX11_freeze_4 : List UInt8 := [46, 42, 8, 182, 1, 210, 162, 0, 7, 5, 167, 0, 4, 4, 79, 42, 180, 2, 78, 27, 46, 4]
abbrev dktX11_freeze_4 : List UInt8 := dkwX11_freeze_4 ++ dktX11_freeze_5
def dkwX11_freeze_3 : List UInt8 := [180, 2, 66, 27, 46, 42, 180, 0, 17, 182, 2, 69, 154, 0, 7, 7, 167, 0, 22, 42, 180, 2, 75, 27]
abbrev dktX11_freeze_3 : List UInt8 := dkwX11_freeze_3 ++ dktX11_freeze_4
def dkwX11_freeze_2 : List UInt8 := [162, 0, 160, 42, 180, 2, 78, 27, 46, 6, 160, 0, 6, 167, 0, 141, 42, 180, 2, 78, 27, 42, 42]
abbrev dktX11_freeze_2 : List UInt8 := dkwX11_freeze_2 ++ dktX11_freeze_3
def dkwX11_freeze_1 : List UInt8 := [42, 180, 2, 19, 153, 0, 6, 16, 252, 172, 42, 4, 181, 2, 19, 3, 60, 27, 42, 180, 2, 16]
abbrev dktX11_freeze_1 : List UInt8 := dkwX11_freeze_1 ++ dktX11_freeze_2
def dkwX11_freeze_0 : List UInt8 := [42, 180, 0, 141, 154, 0, 5, 2, 172, 42, 180, 0, 17, 42, 4, 182, 1, 210, 162, 0, 6, 16, 253, 172]
abbrev dktX11_freeze_0 : List UInt8 := dkwX11_freeze_0 ++ dktX11_freeze_1
theorem dksX11_freeze_0 : cX11_freeze.data.toList.drop 0 = dktX11_freeze_0 := by decide +kernel
theorem dksX11_freeze_1 : cX11_freeze.data.toList.drop 24 = dktX11_freeze_1 := dk_seg dksX11_freeze_0 24 rfl rfl
theorem dksX11_freeze_2 : cX11_freeze.data.toList.drop 46 = dktX11_freeze_2 := dk_seg dksX11_freeze_1 22 rfl rfl
theorem dksX11_freeze_3 : cX11_freeze.data.toList.drop 69 = dktX11_freeze_3 := dk_seg dksX11_freeze_2 23 rfl rfl
theorem dksX11_freeze_4 : cX11_freeze.data.toList.drop 93 = dktX11_freeze_4 := dk_seg dksX11_freeze_3 24 rfl rfl
theorem dksX11_freeze_5 : cX11_freeze.data.toList.drop 115 = dktX11_freeze_5 := dk_seg dksX11_freeze_4 22 rfl rfl
theorem dksX11_freeze_6 : cX11_freeze.data.toList.drop 139 = dktX11_freeze_6 := dk_seg dksX11_freeze_5 24 rfl rfl
theorem dksX11_freeze_7 : cX11_freeze.data.toList.drop 163 = dktX11_freeze_7 := dk_seg dksX11_freeze_6 24 rfl rfl
theorem dksX11_freeze_8 : cX11_freeze.data.toList.drop 187 = dktX11_freeze_8 := dk_seg dksX11_freeze_7 24 rfl rfl
theorem dksX11_freeze_9 : cX11_freeze.data.toList.drop 210 = dktX11_freeze_9 := dk_seg dksX11_freeze_8 23 rfl rfl
theorem dksX11_freeze_10 : cX11_freeze.data.toList.drop 232 = dktX11_freeze_10 := dk_seg dksX11_freeze_9 22 rfl rfl
theorem dksX11_freeze_11 : cX11_freeze.data.toList.drop 255 = dktX11_freeze_11 := dk_seg dksX11_freeze_10 23 rfl rfl
theorem dX11_freeze_0 : decode cX11_freeze 0 = .ok (.aload_n 0, 1) := dk_42 (dk_at dksX11_freeze_0 0 rfl rfl)
theorem dX11_freeze_1 : decode cX11_freeze 1 = .ok (.getfield 141, 3) := dk_180 0 141 (dk_at dksX11_freeze_0 1 rfl rfl)
theorem dX11_freeze_4 : decode cX11_freeze 4 = .ok (.ifCond .ne 5, 3) := dk_154 0 5 (dk_at dksX11_freeze_0 4 rfl rfl)
theorem dX11_freeze_7 : decode cX11_freeze 7 = .ok (.iconst (-1), 1) := dk_2 (dk_at dksX11_freeze_0 7 rfl rfl)
theorem dX11_freeze_8 : decode cX11_freeze 8 = .ok (.ireturn, 1) := dk_172 (dk_at dksX11_freeze_0 8 rfl rfl)
theorem dX11_freeze_9 : decode cX11_freeze 9 = .ok (.aload_n 0, 1) := dk_42 (dk_at dksX11_freeze_0 9 rfl rfl)
theorem dX11_freeze_10 : decode cX11_freeze 10 = .ok (.getfield 17, 3) := dk_180 0 17 (dk_at dksX11_freeze_0 10 rfl rfl)
theorem dX11_freeze_13 : decode cX11_freeze 13 = .ok (.aload_n 0, 1) := dk_42 (dk_at dksX11_freeze_0 13 rfl rfl)
theorem dX11_freeze_14 : decode cX11_freeze 14 = .ok (.iconst 1, 1) := dk_4 (dk_at dksX11_freeze_0 14 rfl rfl)
theorem dX11_freeze_15 : decode cX11_freeze 15 = .ok (.invokevirtual 466, 3) := dk_182 1 210 (dk_at dksX11_freeze_0 15 rfl rfl)
theorem dX11_freeze_18 : decode cX11_freeze 18 = .ok (.if_icmp .ge 6, 3) := dk_162 0 6 (dk_at dksX11_freeze_0 18 rfl rfl)
theorem dX11_freeze_21 : decode cX11_freeze 21 = .ok (.bipush (-3), 2) := dk_16 253 (dk_at dksX11_freeze_0 21 rfl rfl)
theorem dX11_freeze_23 : decode cX11_freeze 23 = .ok (.ireturn, 1) := dk_172 (dk_at dksX11_freeze_0 23 rfl rfl)
theorem dX11_freeze_24 : decode cX11_freeze 24 = .ok (.aload_n 0, 1) := dk_42 (dk_at dksX11_freeze_1 0 rfl rfl)
theorem dX11_freeze_25 : decode cX11_freeze 25 = .ok (.getfield 531, 3) := dk_180 2 19 (dk_at dksX11_freeze_1 1 rfl rfl)
theorem dX11_freeze_28 : decode cX11_freeze 28 = .ok (.ifCond .eq 6, 3) := dk_153 0 6 (dk_at dksX11_freeze_1 4 rfl rfl)
theorem dX11_freeze_31 : decode cX11_freeze 31 = .ok (.bipush (-4), 2) := dk_16 252 (dk_at dksX11_freeze_1 7 rfl rfl)
theorem dX11_freeze_33 : decode cX11_freeze 33 = .ok (.ireturn, 1) := dk_172 (dk_at dksX11_freeze_1 9 rfl rfl)
theorem dX11_freeze_34 : decode cX11_freeze 34 = .ok (.aload_n 0, 1) := dk_42 (dk_at dksX11_freeze_1 10 rfl rfl)
theorem dX11_freeze_35 : decode cX11_freeze 35 = .ok (.iconst 1, 1) := dk_4 (dk_at dksX11_freeze_1 11 rfl rfl)
theorem dX11_freeze_36 : decode cX11_freeze 36 = .ok (.putfield 531, 3) := dk_181 2 19 (dk_at dksX11_freeze_1 12 rfl rfl)
theorem dX11_freeze_39 : decode cX11_freeze 39 = .ok (.iconst 0, 1) := dk_3 (dk_at dksX11_freeze_1 15 rfl rfl)
theorem dX11_freeze_40 : decode cX11_freeze 40 = .ok (.istore_n 1, 1) := dk_60 (dk_at dksX11_freeze_1 16 rfl rfl)
theorem dX11_freeze_41 : decode cX11_freeze 41 = .ok (.iload_n 1, 1) := dk_27 (dk_at dksX11_freeze_1 17 rfl rfl)
theorem dX11_freeze_42 : decode cX11_freeze 42 = .ok (.aload_n 0, 1) := dk_42 (dk_at dksX11_freeze_1 18 rfl rfl)
theorem dX11_freeze_43 : decode cX11_freeze 43 = .ok (.getfield 528, 3) := dk_180 2 16 (dk_at dksX11_freeze_1 19 rfl rfl)
theorem dX11_freeze_46 : decode cX11_freeze 46 = .ok (.if_icmp .ge 160, 3) := dk_162 0 160 (dk_at dksX11_freeze_2 0 rfl rfl)
theorem dX11_freeze_49 : decode cX11_freeze 49 = .ok (.aload_n 0, 1) := dk_42 (dk_at dksX11_freeze_2 3 rfl rfl)
theorem dX11_freeze_50 : decode cX11_freeze 50 = .ok (.getfield 590, 3) := dk_180 2 78 (dk_at dksX11_freeze_2 4 rfl rfl)
theorem dX11_freeze_53 : decode cX11_freeze 53 = .ok (.iload_n 1, 1) := dk_27 (dk_at dksX11_freeze_2 7 rfl rfl)
theorem dX11_freeze_54 : decode cX11_freeze 54 = .ok (.iaload, 1) := dk_46 (dk_at dksX11_freeze_2 8 rfl rfl)
theorem dX11_freeze_55 : decode cX11_freeze 55 = .ok (.iconst 3, 1) := dk_6 (dk_at dksX11_freeze_2 9 rfl rfl)
theorem dX11_freeze_56 : decode cX11_freeze 56 = .ok (.if_icmp .ne 6, 3) := dk_160 0 6 (dk_at dksX11_freeze_2 10 rfl rfl)
theorem dX11_freeze_59 : decode cX11_freeze 59 = .ok (.goto 141, 3) := dk_167 0 141 (dk_at dksX11_freeze_2 13 rfl rfl)
theorem dX11_freeze_62 : decode cX11_freeze 62 = .ok (.aload_n 0, 1) := dk_42 (dk_at dksX11_freeze_2 16 rfl rfl)
theorem dX11_freeze_63 : decode cX11_freeze 63 = .ok (.getfield 590, 3) := dk_180 2 78 (dk_at dksX11_freeze_2 17 rfl rfl)
theorem dX11_freeze_66 : decode cX11_freeze 66 = .ok (.iload_n 1, 1) := dk_27 (dk_at dksX11_freeze_2 20 rfl rfl)
theorem dX11_freeze_67 : decode cX11_freeze 67 = .ok (.aload_n 0, 1) := dk_42 (dk_at dksX11_freeze_2 21 rfl rfl)
theorem dX11_freeze_68 : decode cX11_freeze 68 = .ok (.aload_n 0, 1) := dk_42 (dk_at dksX11_freeze_2 22 rfl rfl)
theorem dX11_freeze_69 : decode cX11_freeze 69 = .ok (.getfield 578, 3) := dk_180 2 66 (dk_at dksX11_freeze_3 0 rfl rfl)
theorem dX11_freeze_72 : decode cX11_freeze 72 = .ok (.iload_n 1, 1) := dk_27 (dk_at dksX11_freeze_3 3 rfl rfl)
theorem dX11_freeze_73 : decode cX11_freeze 73 = .ok (.iaload, 1) := dk_46 (dk_at dksX11_freeze_3 4 rfl rfl)
theorem dX11_freeze_74 : decode cX11_freeze 74 = .ok (.aload_n 0, 1) := dk_42 (dk_at dksX11_freeze_3 5 rfl rfl)
theorem dX11_freeze_75 : decode cX11_freeze 75 = .ok (.getfield 17, 3) := dk_180 0 17 (dk_at dksX11_freeze_3 6 rfl rfl)
theorem dX11_freeze_78 : decode cX11_freeze 78 = .ok (.invokevirtual 581, 3) := dk_182 2 69 (dk_at dksX11_freeze_3 9 rfl rfl)
theorem dX11_freeze_81 : decode cX11_freeze 81 = .ok (.ifCond .ne 7, 3) := dk_154 0 7 (dk_at dksX11_freeze_3 12 rfl rfl)
theorem dX11_freeze_84 : decode cX11_freeze 84 = .ok (.iconst 4, 1) := dk_7 (dk_at dksX11_freeze_3 15 rfl rfl)
theorem dX11_freeze_85 : decode cX11_freeze 85 = .ok (.goto 22, 3) := dk_167 0 22 (dk_at dksX11_freeze_3 16 rfl rfl)
theorem dX11_freeze_88 : decode cX11_freeze 88 = .ok (.aload_n 0, 1) := dk_42 (dk_at dksX11_freeze_3 19 rfl rfl)
theorem dX11_freeze_89 : decode cX11_freeze 89 = .ok (.getfield 587, 3) := dk_180 2 75 (dk_at dksX11_freeze_3 20 rfl rfl)
theorem dX11_freeze_92 : decode cX11_freeze 92 = .ok (.iload_n 1, 1) := dk_27 (dk_at dksX11_freeze_3 23 rfl rfl)
theorem dX11_freeze_93 : decode cX11_freeze 93 = .ok (.iaload, 1) := dk_46 (dk_at dksX11_freeze_4 0 rfl rfl)
theorem dX11_freeze_94 : decode cX11_freeze 94 = .ok (.aload_n 0, 1) := dk_42 (dk_at dksX11_freeze_4 1 rfl rfl)
theorem dX11_freeze_95 : decode cX11_freeze 95 = .ok (.iconst 5, 1) := dk_8 (dk_at dksX11_freeze_4 2 rfl rfl)
theorem dX11_freeze_96 : decode cX11_freeze 96 = .ok (.invokevirtual 466, 3) := dk_182 1 210 (dk_at dksX11_freeze_4 3 rfl rfl)
theorem dX11_freeze_99 : decode cX11_freeze 99 = .ok (.if_icmp .ge 7, 3) := dk_162 0 7 (dk_at dksX11_freeze_4 6 rfl rfl)
theorem dX11_freeze_102 : decode cX11_freeze 102 = .ok (.iconst 2, 1) := dk_5 (dk_at dksX11_freeze_4 9 rfl rfl)
theorem dX11_freeze_103 : decode cX11_freeze 103 = .ok (.goto 4, 3) := dk_167 0 4 (dk_at dksX11_freeze_4 10 rfl rfl)
theorem dX11_freeze_106 : decode cX11_freeze 106 = .ok (.iconst 1, 1) := dk_4 (dk_at dksX11_freeze_4 13 rfl rfl)
theorem dX11_freeze_107 : decode cX11_freeze 107 = .ok (.iastore, 1) := dk_79 (dk_at dksX11_freeze_4 14 rfl rfl)
theorem dX11_freeze_108 : decode cX11_freeze 108 = .ok (.aload_n 0, 1) := dk_42 (dk_at dksX11_freeze_4 15 rfl rfl)
theorem dX11_freeze_109 : decode cX11_freeze 109 = .ok (.getfield 590, 3) := dk_180 2 78 (dk_at dksX11_freeze_4 16 rfl rfl)
theorem dX11_freeze_112 : decode cX11_freeze 112 = .ok (.iload_n 1, 1) := dk_27 (dk_at dksX11_freeze_4 19 rfl rfl)
theorem dX11_freeze_113 : decode cX11_freeze 113 = .ok (.iaload, 1) := dk_46 (dk_at dksX11_freeze_4 20 rfl rfl)
theorem dX11_freeze_114 : decode cX11_freeze 114 = .ok (.iconst 1, 1) := dk_4 (dk_at dksX11_freeze_4 21 rfl rfl)
theorem dX11_freeze_115 : decode cX11_freeze 115 = .ok (.if_icmp .eq 6, 3) := dk_159 0 6 (dk_at dksX11_freeze_5 0 rfl rfl)
theorem dX11_freeze_118 : decode cX11_freeze 118 = .ok (.goto 82, 3) := dk_167 0 82 (dk_at dksX11_freeze_5 3 rfl rfl)
theorem dX11_freeze_121 : decode cX11_freeze 121 = .ok (.aload_n 0, 1) := dk_42 (dk_at dksX11_freeze_5 6 rfl rfl)
theorem dX11_freeze_122 : decode cX11_freeze 122 = .ok (.getfield 575, 3) := dk_180 2 63 (dk_at dksX11_freeze_5 7 rfl rfl)
theorem dX11_freeze_125 : decode cX11_freeze 125 = .ok (.iload_n 1, 1) := dk_27 (dk_at dksX11_freeze_5 10 rfl rfl)
theorem dX11_freeze_126 : decode cX11_freeze 126 = .ok (.iaload, 1) := dk_46 (dk_at dksX11_freeze_5 11 rfl rfl)
theorem dX11_freeze_127 : decode cX11_freeze 127 = .ok (.istore_n 2, 1) := dk_61 (dk_at dksX11_freeze_5 12 rfl rfl)
theorem dX11_freeze_128 : decode cX11_freeze 128 = .ok (.aload_n 0, 1) := dk_42 (dk_at dksX11_freeze_5 13 rfl rfl)
theorem dX11_freeze_129 : decode cX11_freeze 129 = .ok (.getfield 488, 3) := dk_180 1 232 (dk_at dksX11_freeze_5 14 rfl rfl)
theorem dX11_freeze_132 : decode cX11_freeze 132 = .ok (.iload_n 2, 1) := dk_28 (dk_at dksX11_freeze_5 17 rfl rfl)
theorem dX11_freeze_133 : decode cX11_freeze 133 = .ok (.iaload, 1) := dk_46 (dk_at dksX11_freeze_5 18 rfl rfl)
theorem dX11_freeze_134 : decode cX11_freeze 134 = .ok (.istore_n 3, 1) := dk_62 (dk_at dksX11_freeze_5 19 rfl rfl)
theorem dX11_freeze_135 : decode cX11_freeze 135 = .ok (.aload_n 0, 1) := dk_42 (dk_at dksX11_freeze_5 20 rfl rfl)
theorem dX11_freeze_136 : decode cX11_freeze 136 = .ok (.getfield 488, 3) := dk_180 1 232 (dk_at dksX11_freeze_5 21 rfl rfl)
theorem dX11_freeze_139 : decode cX11_freeze 139 = .ok (.iload_n 2, 1) := dk_28 (dk_at dksX11_freeze_6 0 rfl rfl)
theorem dX11_freeze_140 : decode cX11_freeze 140 = .ok (.dup2, 1) := dk_92 (dk_at dksX11_freeze_6 1 rfl rfl)
theorem dX11_freeze_141 : decode cX11_freeze 141 = .ok (.iaload, 1) := dk_46 (dk_at dksX11_freeze_6 2 rfl rfl)
theorem dX11_freeze_142 : decode cX11_freeze 142 = .ok (.iconst 1, 1) := dk_4 (dk_at dksX11_freeze_6 3 rfl rfl)
theorem dX11_freeze_143 : decode cX11_freeze 143 = .ok (.iadd, 1) := dk_96 (dk_at dksX11_freeze_6 4 rfl rfl)
theorem dX11_freeze_144 : decode cX11_freeze 144 = .ok (.iastore, 1) := dk_79 (dk_at dksX11_freeze_6 5 rfl rfl)
theorem dX11_freeze_145 : decode cX11_freeze 145 = .ok (.aload_n 0, 1) := dk_42 (dk_at dksX11_freeze_6 6 rfl rfl)
theorem dX11_freeze_146 : decode cX11_freeze 146 = .ok (.getfield 593, 3) := dk_180 2 81 (dk_at dksX11_freeze_6 7 rfl rfl)
theorem dX11_freeze_149 : decode cX11_freeze 149 = .ok (.iload_n 1, 1) := dk_27 (dk_at dksX11_freeze_6 10 rfl rfl)
theorem dX11_freeze_150 : decode cX11_freeze 150 = .ok (.iload_n 3, 1) := dk_29 (dk_at dksX11_freeze_6 11 rfl rfl)
theorem dX11_freeze_151 : decode cX11_freeze 151 = .ok (.iastore, 1) := dk_79 (dk_at dksX11_freeze_6 12 rfl rfl)
theorem dX11_freeze_152 : decode cX11_freeze 152 = .ok (.aload_n 0, 1) := dk_42 (dk_at dksX11_freeze_6 13 rfl rfl)
theorem dX11_freeze_153 : decode cX11_freeze 153 = .ok (.getfield 608, 3) := dk_180 2 96 (dk_at dksX11_freeze_6 14 rfl rfl)
theorem dX11_freeze_156 : decode cX11_freeze 156 = .ok (.bipush 9, 2) := dk_16 9 (dk_at dksX11_freeze_6 17 rfl rfl)
theorem dX11_freeze_158 : decode cX11_freeze 158 = .ok (.iload_n 2, 1) := dk_28 (dk_at dksX11_freeze_6 19 rfl rfl)
theorem dX11_freeze_159 : decode cX11_freeze 159 = .ok (.imul, 1) := dk_104 (dk_at dksX11_freeze_6 20 rfl rfl)
theorem dX11_freeze_160 : decode cX11_freeze 160 = .ok (.iload_n 3, 1) := dk_29 (dk_at dksX11_freeze_6 21 rfl rfl)
theorem dX11_freeze_161 : decode cX11_freeze 161 = .ok (.iadd, 1) := dk_96 (dk_at dksX11_freeze_6 22 rfl rfl)
theorem dX11_freeze_162 : decode cX11_freeze 162 = .ok (.iload_n 1, 1) := dk_27 (dk_at dksX11_freeze_6 23 rfl rfl)
theorem dX11_freeze_163 : decode cX11_freeze 163 = .ok (.iastore, 1) := dk_79 (dk_at dksX11_freeze_7 0 rfl rfl)
theorem dX11_freeze_164 : decode cX11_freeze 164 = .ok (.aload_n 0, 1) := dk_42 (dk_at dksX11_freeze_7 1 rfl rfl)
theorem dX11_freeze_165 : decode cX11_freeze 165 = .ok (.getfield 567, 3) := dk_180 2 55 (dk_at dksX11_freeze_7 2 rfl rfl)
theorem dX11_freeze_168 : decode cX11_freeze 168 = .ok (.bipush 9, 2) := dk_16 9 (dk_at dksX11_freeze_7 5 rfl rfl)
theorem dX11_freeze_170 : decode cX11_freeze 170 = .ok (.iload_n 2, 1) := dk_28 (dk_at dksX11_freeze_7 7 rfl rfl)
theorem dX11_freeze_171 : decode cX11_freeze 171 = .ok (.imul, 1) := dk_104 (dk_at dksX11_freeze_7 8 rfl rfl)
theorem dX11_freeze_172 : decode cX11_freeze 172 = .ok (.iload_n 3, 1) := dk_29 (dk_at dksX11_freeze_7 9 rfl rfl)
theorem dX11_freeze_173 : decode cX11_freeze 173 = .ok (.iadd, 1) := dk_96 (dk_at dksX11_freeze_7 10 rfl rfl)
theorem dX11_freeze_174 : decode cX11_freeze 174 = .ok (.iconst 0, 1) := dk_3 (dk_at dksX11_freeze_7 11 rfl rfl)
theorem dX11_freeze_175 : decode cX11_freeze 175 = .ok (.bastore, 1) := dk_84 (dk_at dksX11_freeze_7 12 rfl rfl)
theorem dX11_freeze_176 : decode cX11_freeze 176 = .ok (.aload_n 0, 1) := dk_42 (dk_at dksX11_freeze_7 13 rfl rfl)
theorem dX11_freeze_177 : decode cX11_freeze 177 = .ok (.getfield 611, 3) := dk_180 2 99 (dk_at dksX11_freeze_7 14 rfl rfl)
theorem dX11_freeze_180 : decode cX11_freeze 180 = .ok (.bipush 9, 2) := dk_16 9 (dk_at dksX11_freeze_7 17 rfl rfl)
theorem dX11_freeze_182 : decode cX11_freeze 182 = .ok (.iload_n 2, 1) := dk_28 (dk_at dksX11_freeze_7 19 rfl rfl)
theorem dX11_freeze_183 : decode cX11_freeze 183 = .ok (.imul, 1) := dk_104 (dk_at dksX11_freeze_7 20 rfl rfl)
theorem dX11_freeze_184 : decode cX11_freeze 184 = .ok (.iload_n 3, 1) := dk_29 (dk_at dksX11_freeze_7 21 rfl rfl)
theorem dX11_freeze_185 : decode cX11_freeze 185 = .ok (.iadd, 1) := dk_96 (dk_at dksX11_freeze_7 22 rfl rfl)
theorem dX11_freeze_186 : decode cX11_freeze 186 = .ok (.iload_n 3, 1) := dk_29 (dk_at dksX11_freeze_7 23 rfl rfl)
theorem dX11_freeze_187 : decode cX11_freeze 187 = .ok (.iastore, 1) := dk_79 (dk_at dksX11_freeze_8 0 rfl rfl)
theorem dX11_freeze_188 : decode cX11_freeze 188 = .ok (.aload_n 0, 1) := dk_42 (dk_at dksX11_freeze_8 1 rfl rfl)
theorem dX11_freeze_189 : decode cX11_freeze 189 = .ok (.getfield 614, 3) := dk_180 2 102 (dk_at dksX11_freeze_8 2 rfl rfl)
theorem dX11_freeze_192 : decode cX11_freeze 192 = .ok (.bipush 9, 2) := dk_16 9 (dk_at dksX11_freeze_8 5 rfl rfl)
theorem dX11_freeze_194 : decode cX11_freeze 194 = .ok (.iload_n 2, 1) := dk_28 (dk_at dksX11_freeze_8 7 rfl rfl)
theorem dX11_freeze_195 : decode cX11_freeze 195 = .ok (.imul, 1) := dk_104 (dk_at dksX11_freeze_8 8 rfl rfl)
theorem dX11_freeze_196 : decode cX11_freeze 196 = .ok (.iload_n 3, 1) := dk_29 (dk_at dksX11_freeze_8 9 rfl rfl)
theorem dX11_freeze_197 : decode cX11_freeze 197 = .ok (.iadd, 1) := dk_96 (dk_at dksX11_freeze_8 10 rfl rfl)
theorem dX11_freeze_198 : decode cX11_freeze 198 = .ok (.iload_n 3, 1) := dk_29 (dk_at dksX11_freeze_8 11 rfl rfl)
theorem dX11_freeze_199 : decode cX11_freeze 199 = .ok (.iastore, 1) := dk_79 (dk_at dksX11_freeze_8 12 rfl rfl)
theorem dX11_freeze_200 : decode cX11_freeze 200 = .ok (.iinc 1 1, 3) := dk_132 1 1 (dk_at dksX11_freeze_8 13 rfl rfl)
theorem dX11_freeze_203 : decode cX11_freeze 203 = .ok (.goto (-162), 3) := dk_167 255 94 (dk_at dksX11_freeze_8 16 rfl rfl)
theorem dX11_freeze_206 : decode cX11_freeze 206 = .ok (.iconst 0, 1) := dk_3 (dk_at dksX11_freeze_8 19 rfl rfl)
theorem dX11_freeze_207 : decode cX11_freeze 207 = .ok (.istore_n 1, 1) := dk_60 (dk_at dksX11_freeze_8 20 rfl rfl)
theorem dX11_freeze_208 : decode cX11_freeze 208 = .ok (.iload_n 1, 1) := dk_27 (dk_at dksX11_freeze_8 21 rfl rfl)
theorem dX11_freeze_209 : decode cX11_freeze 209 = .ok (.aload_n 0, 1) := dk_42 (dk_at dksX11_freeze_8 22 rfl rfl)
theorem dX11_freeze_210 : decode cX11_freeze 210 = .ok (.getfield 92, 3) := dk_180 0 92 (dk_at dksX11_freeze_9 0 rfl rfl)
theorem dX11_freeze_213 : decode cX11_freeze 213 = .ok (.if_icmp .ge 51, 3) := dk_162 0 51 (dk_at dksX11_freeze_9 3 rfl rfl)
theorem dX11_freeze_216 : decode cX11_freeze 216 = .ok (.aload_n 0, 1) := dk_42 (dk_at dksX11_freeze_9 6 rfl rfl)
theorem dX11_freeze_217 : decode cX11_freeze 217 = .ok (.iload_n 1, 1) := dk_27 (dk_at dksX11_freeze_9 7 rfl rfl)
theorem dX11_freeze_218 : decode cX11_freeze 218 = .ok (.aload_n 0, 1) := dk_42 (dk_at dksX11_freeze_9 8 rfl rfl)
theorem dX11_freeze_219 : decode cX11_freeze 219 = .ok (.iconst 1, 1) := dk_4 (dk_at dksX11_freeze_9 9 rfl rfl)
theorem dX11_freeze_220 : decode cX11_freeze 220 = .ok (.invokevirtual 466, 3) := dk_182 1 210 (dk_at dksX11_freeze_9 10 rfl rfl)
theorem dX11_freeze_223 : decode cX11_freeze 223 = .ok (.invokevirtual 581, 3) := dk_182 2 69 (dk_at dksX11_freeze_9 13 rfl rfl)
theorem dX11_freeze_226 : decode cX11_freeze 226 = .ok (.ifCond .eq 20, 3) := dk_153 0 20 (dk_at dksX11_freeze_9 16 rfl rfl)
theorem dX11_freeze_229 : decode cX11_freeze 229 = .ok (.aload_n 0, 1) := dk_42 (dk_at dksX11_freeze_9 19 rfl rfl)
theorem dX11_freeze_230 : decode cX11_freeze 230 = .ok (.iload_n 1, 1) := dk_27 (dk_at dksX11_freeze_9 20 rfl rfl)
theorem dX11_freeze_231 : decode cX11_freeze 231 = .ok (.iconst 1, 1) := dk_4 (dk_at dksX11_freeze_9 21 rfl rfl)
theorem dX11_freeze_232 : decode cX11_freeze 232 = .ok (.invokevirtual 524, 3) := dk_182 2 12 (dk_at dksX11_freeze_10 0 rfl rfl)
theorem dX11_freeze_235 : decode cX11_freeze 235 = .ok (.ifCond .eq 11, 3) := dk_153 0 11 (dk_at dksX11_freeze_10 3 rfl rfl)
theorem dX11_freeze_238 : decode cX11_freeze 238 = .ok (.aload_n 0, 1) := dk_42 (dk_at dksX11_freeze_10 6 rfl rfl)
theorem dX11_freeze_239 : decode cX11_freeze 239 = .ok (.iload_n 1, 1) := dk_27 (dk_at dksX11_freeze_10 7 rfl rfl)
theorem dX11_freeze_240 : decode cX11_freeze 240 = .ok (.invokevirtual 617, 3) := dk_182 2 105 (dk_at dksX11_freeze_10 8 rfl rfl)
theorem dX11_freeze_243 : decode cX11_freeze 243 = .ok (.goto 4, 3) := dk_167 0 4 (dk_at dksX11_freeze_10 11 rfl rfl)
theorem dX11_freeze_246 : decode cX11_freeze 246 = .ok (.iconst 0, 1) := dk_3 (dk_at dksX11_freeze_10 14 rfl rfl)
theorem dX11_freeze_247 : decode cX11_freeze 247 = .ok (.istore_n 2, 1) := dk_61 (dk_at dksX11_freeze_10 15 rfl rfl)
theorem dX11_freeze_248 : decode cX11_freeze 248 = .ok (.iload_n 2, 1) := dk_28 (dk_at dksX11_freeze_10 16 rfl rfl)
theorem dX11_freeze_249 : decode cX11_freeze 249 = .ok (.ifCond .eq 9, 3) := dk_153 0 9 (dk_at dksX11_freeze_10 17 rfl rfl)
theorem dX11_freeze_252 : decode cX11_freeze 252 = .ok (.aload_n 0, 1) := dk_42 (dk_at dksX11_freeze_10 20 rfl rfl)
theorem dX11_freeze_253 : decode cX11_freeze 253 = .ok (.iload_n 1, 1) := dk_27 (dk_at dksX11_freeze_10 21 rfl rfl)
theorem dX11_freeze_254 : decode cX11_freeze 254 = .ok (.iload_n 2, 1) := dk_28 (dk_at dksX11_freeze_10 22 rfl rfl)
theorem dX11_freeze_255 : decode cX11_freeze 255 = .ok (.invokevirtual 620, 3) := dk_182 2 108 (dk_at dksX11_freeze_11 0 rfl rfl)
theorem dX11_freeze_258 : decode cX11_freeze 258 = .ok (.iinc 1 1, 3) := dk_132 1 1 (dk_at dksX11_freeze_11 3 rfl rfl)
theorem dX11_freeze_261 : decode cX11_freeze 261 = .ok (.goto (-53), 3) := dk_167 255 203 (dk_at dksX11_freeze_11 6 rfl rfl)
theorem dX11_freeze_264 : decode cX11_freeze 264 = .ok (.aload_n 0, 1) := dk_42 (dk_at dksX11_freeze_11 9 rfl rfl)
theorem dX11_freeze_265 : decode cX11_freeze 265 = .ok (.bipush 11, 2) := dk_16 11 (dk_at dksX11_freeze_11 10 rfl rfl)
theorem dX11_freeze_267 : decode cX11_freeze 267 = .ok (.iconst 0, 1) := dk_3 (dk_at dksX11_freeze_11 12 rfl rfl)
theorem dX11_freeze_268 : decode cX11_freeze 268 = .ok (.iconst 0, 1) := dk_3 (dk_at dksX11_freeze_11 13 rfl rfl)
theorem dX11_freeze_269 : decode cX11_freeze 269 = .ok (.iconst 0, 1) := dk_3 (dk_at dksX11_freeze_11 14 rfl rfl)
theorem dX11_freeze_270 : decode cX11_freeze 270 = .ok (.iconst 0, 1) := dk_3 (dk_at dksX11_freeze_11 15 rfl rfl)
theorem dX11_freeze_271 : decode cX11_freeze 271 = .ok (.invokevirtual 22, 3) := dk_182 0 22 (dk_at dksX11_freeze_11 16 rfl rfl)
theorem dX11_freeze_274 : decode cX11_freeze 274 = .ok (.aload_n 0, 1) := dk_42 (dk_at dksX11_freeze_11 19 rfl rfl)
theorem dX11_freeze_275 : decode cX11_freeze 275 = .ok (.getfield 534, 3) := dk_180 2 22 (dk_at dksX11_freeze_11 20 rfl rfl)
theorem dX11_freeze_278 : decode cX11_freeze 278 = .ok (.ireturn, 1) := dk_172 (dk_at dksX11_freeze_11 23 rfl rfl)
abbrev cX11_sheetOf : ByteArray := prog_17_method_76_code
def yX11_sheetOf : MethodName := ⟨RX11, "sheetOf", "(I)I"⟩
def dkwX11_sheetOf_2 : List UInt8 := [4, 21, 4, 120, 167, 0, 4, 3, 128, 61, 132, 4, 1, 167, 255, 213, 28, 172]
abbrev dktX11_sheetOf_2 : List UInt8 := dkwX11_sheetOf_2 ++ []
def dkwX11_sheetOf_1 : List UInt8 := [162, 0, 40, 28, 42, 42, 21, 4, 3, 182, 1, 229, 29, 42, 4, 182, 1, 210, 182, 1, 238, 153, 0, 10]
abbrev dktX11_sheetOf_1 : List UInt8 := dkwX11_sheetOf_1 ++ dktX11_sheetOf_2
def dkwX11_sheetOf_0 : List UInt8 := [3, 61, 42, 27, 42, 4, 182, 1, 210, 182, 0, 151, 62, 3, 54, 4, 21, 4, 42, 180, 1, 213]
abbrev dktX11_sheetOf_0 : List UInt8 := dkwX11_sheetOf_0 ++ dktX11_sheetOf_1
theorem dksX11_sheetOf_0 : cX11_sheetOf.data.toList.drop 0 = dktX11_sheetOf_0 := by decide +kernel
theorem dksX11_sheetOf_1 : cX11_sheetOf.data.toList.drop 22 = dktX11_sheetOf_1 := dk_seg dksX11_sheetOf_0 22 rfl rfl
theorem dksX11_sheetOf_2 : cX11_sheetOf.data.toList.drop 46 = dktX11_sheetOf_2 := dk_seg dksX11_sheetOf_1 24 rfl rfl
theorem dX11_sheetOf_0 : decode cX11_sheetOf 0 = .ok (.iconst 0, 1) := dk_3 (dk_at dksX11_sheetOf_0 0 rfl rfl)
theorem dX11_sheetOf_1 : decode cX11_sheetOf 1 = .ok (.istore_n 2, 1) := dk_61 (dk_at dksX11_sheetOf_0 1 rfl rfl)
theorem dX11_sheetOf_2 : decode cX11_sheetOf 2 = .ok (.aload_n 0, 1) := dk_42 (dk_at dksX11_sheetOf_0 2 rfl rfl)
theorem dX11_sheetOf_3 : decode cX11_sheetOf 3 = .ok (.iload_n 1, 1) := dk_27 (dk_at dksX11_sheetOf_0 3 rfl rfl)
theorem dX11_sheetOf_4 : decode cX11_sheetOf 4 = .ok (.aload_n 0, 1) := dk_42 (dk_at dksX11_sheetOf_0 4 rfl rfl)
theorem dX11_sheetOf_5 : decode cX11_sheetOf 5 = .ok (.iconst 1, 1) := dk_4 (dk_at dksX11_sheetOf_0 5 rfl rfl)
theorem dX11_sheetOf_6 : decode cX11_sheetOf 6 = .ok (.invokevirtual 466, 3) := dk_182 1 210 (dk_at dksX11_sheetOf_0 6 rfl rfl)
theorem dX11_sheetOf_9 : decode cX11_sheetOf 9 = .ok (.invokevirtual 151, 3) := dk_182 0 151 (dk_at dksX11_sheetOf_0 9 rfl rfl)
theorem dX11_sheetOf_12 : decode cX11_sheetOf 12 = .ok (.istore_n 3, 1) := dk_62 (dk_at dksX11_sheetOf_0 12 rfl rfl)
theorem dX11_sheetOf_13 : decode cX11_sheetOf 13 = .ok (.iconst 0, 1) := dk_3 (dk_at dksX11_sheetOf_0 13 rfl rfl)
theorem dX11_sheetOf_14 : decode cX11_sheetOf 14 = .ok (.istore 4, 2) := dk_54 4 (dk_at dksX11_sheetOf_0 14 rfl rfl)
theorem dX11_sheetOf_16 : decode cX11_sheetOf 16 = .ok (.iload 4, 2) := dk_21 4 (dk_at dksX11_sheetOf_0 16 rfl rfl)
theorem dX11_sheetOf_18 : decode cX11_sheetOf 18 = .ok (.aload_n 0, 1) := dk_42 (dk_at dksX11_sheetOf_0 18 rfl rfl)
theorem dX11_sheetOf_19 : decode cX11_sheetOf 19 = .ok (.getfield 469, 3) := dk_180 1 213 (dk_at dksX11_sheetOf_0 19 rfl rfl)
theorem dX11_sheetOf_22 : decode cX11_sheetOf 22 = .ok (.if_icmp .ge 40, 3) := dk_162 0 40 (dk_at dksX11_sheetOf_1 0 rfl rfl)
theorem dX11_sheetOf_25 : decode cX11_sheetOf 25 = .ok (.iload_n 2, 1) := dk_28 (dk_at dksX11_sheetOf_1 3 rfl rfl)
theorem dX11_sheetOf_26 : decode cX11_sheetOf 26 = .ok (.aload_n 0, 1) := dk_42 (dk_at dksX11_sheetOf_1 4 rfl rfl)
theorem dX11_sheetOf_27 : decode cX11_sheetOf 27 = .ok (.aload_n 0, 1) := dk_42 (dk_at dksX11_sheetOf_1 5 rfl rfl)
theorem dX11_sheetOf_28 : decode cX11_sheetOf 28 = .ok (.iload 4, 2) := dk_21 4 (dk_at dksX11_sheetOf_1 6 rfl rfl)
theorem dX11_sheetOf_30 : decode cX11_sheetOf 30 = .ok (.iconst 0, 1) := dk_3 (dk_at dksX11_sheetOf_1 8 rfl rfl)
theorem dX11_sheetOf_31 : decode cX11_sheetOf 31 = .ok (.invokevirtual 485, 3) := dk_182 1 229 (dk_at dksX11_sheetOf_1 9 rfl rfl)
theorem dX11_sheetOf_34 : decode cX11_sheetOf 34 = .ok (.iload_n 3, 1) := dk_29 (dk_at dksX11_sheetOf_1 12 rfl rfl)
theorem dX11_sheetOf_35 : decode cX11_sheetOf 35 = .ok (.aload_n 0, 1) := dk_42 (dk_at dksX11_sheetOf_1 13 rfl rfl)
theorem dX11_sheetOf_36 : decode cX11_sheetOf 36 = .ok (.iconst 1, 1) := dk_4 (dk_at dksX11_sheetOf_1 14 rfl rfl)
theorem dX11_sheetOf_37 : decode cX11_sheetOf 37 = .ok (.invokevirtual 466, 3) := dk_182 1 210 (dk_at dksX11_sheetOf_1 15 rfl rfl)
theorem dX11_sheetOf_40 : decode cX11_sheetOf 40 = .ok (.invokevirtual 494, 3) := dk_182 1 238 (dk_at dksX11_sheetOf_1 18 rfl rfl)
theorem dX11_sheetOf_43 : decode cX11_sheetOf 43 = .ok (.ifCond .eq 10, 3) := dk_153 0 10 (dk_at dksX11_sheetOf_1 21 rfl rfl)
theorem dX11_sheetOf_46 : decode cX11_sheetOf 46 = .ok (.iconst 1, 1) := dk_4 (dk_at dksX11_sheetOf_2 0 rfl rfl)
theorem dX11_sheetOf_47 : decode cX11_sheetOf 47 = .ok (.iload 4, 2) := dk_21 4 (dk_at dksX11_sheetOf_2 1 rfl rfl)
theorem dX11_sheetOf_49 : decode cX11_sheetOf 49 = .ok (.ishl, 1) := dk_120 (dk_at dksX11_sheetOf_2 3 rfl rfl)
theorem dX11_sheetOf_50 : decode cX11_sheetOf 50 = .ok (.goto 4, 3) := dk_167 0 4 (dk_at dksX11_sheetOf_2 4 rfl rfl)
theorem dX11_sheetOf_53 : decode cX11_sheetOf 53 = .ok (.iconst 0, 1) := dk_3 (dk_at dksX11_sheetOf_2 7 rfl rfl)
theorem dX11_sheetOf_54 : decode cX11_sheetOf 54 = .ok (.ior, 1) := dk_128 (dk_at dksX11_sheetOf_2 8 rfl rfl)
theorem dX11_sheetOf_55 : decode cX11_sheetOf 55 = .ok (.istore_n 2, 1) := dk_61 (dk_at dksX11_sheetOf_2 9 rfl rfl)
theorem dX11_sheetOf_56 : decode cX11_sheetOf 56 = .ok (.iinc 4 1, 3) := dk_132 4 1 (dk_at dksX11_sheetOf_2 10 rfl rfl)
theorem dX11_sheetOf_59 : decode cX11_sheetOf 59 = .ok (.goto (-43), 3) := dk_167 255 213 (dk_at dksX11_sheetOf_2 13 rfl rfl)
theorem dX11_sheetOf_62 : decode cX11_sheetOf 62 = .ok (.iload_n 2, 1) := dk_28 (dk_at dksX11_sheetOf_2 16 rfl rfl)
theorem dX11_sheetOf_63 : decode cX11_sheetOf 63 = .ok (.ireturn, 1) := dk_172 (dk_at dksX11_sheetOf_2 17 rfl rfl)
abbrev cX11_addRow : ByteArray := prog_17_method_77_code
def yX11_addRow : MethodName := ⟨RX11, "addRow", "(II)V"⟩
def dkwX11_addRow_1 : List UInt8 := [42, 180, 2, 22, 4, 84, 42, 89, 180, 2, 22, 4, 96, 181, 2, 22, 177]
abbrev dktX11_addRow_1 : List UInt8 := dkwX11_addRow_1 ++ []
def dkwX11_addRow_0 : List UInt8 := [42, 180, 2, 87, 42, 180, 2, 22, 27, 79, 42, 180, 2, 90, 42, 180, 2, 22, 28, 79, 42, 180, 2, 93]
abbrev dktX11_addRow_0 : List UInt8 := dkwX11_addRow_0 ++ dktX11_addRow_1
theorem dksX11_addRow_0 : cX11_addRow.data.toList.drop 0 = dktX11_addRow_0 := by decide +kernel
theorem dksX11_addRow_1 : cX11_addRow.data.toList.drop 24 = dktX11_addRow_1 := dk_seg dksX11_addRow_0 24 rfl rfl
theorem dX11_addRow_0 : decode cX11_addRow 0 = .ok (.aload_n 0, 1) := dk_42 (dk_at dksX11_addRow_0 0 rfl rfl)
theorem dX11_addRow_1 : decode cX11_addRow 1 = .ok (.getfield 599, 3) := dk_180 2 87 (dk_at dksX11_addRow_0 1 rfl rfl)
theorem dX11_addRow_4 : decode cX11_addRow 4 = .ok (.aload_n 0, 1) := dk_42 (dk_at dksX11_addRow_0 4 rfl rfl)
theorem dX11_addRow_5 : decode cX11_addRow 5 = .ok (.getfield 534, 3) := dk_180 2 22 (dk_at dksX11_addRow_0 5 rfl rfl)
theorem dX11_addRow_8 : decode cX11_addRow 8 = .ok (.iload_n 1, 1) := dk_27 (dk_at dksX11_addRow_0 8 rfl rfl)
theorem dX11_addRow_9 : decode cX11_addRow 9 = .ok (.iastore, 1) := dk_79 (dk_at dksX11_addRow_0 9 rfl rfl)
theorem dX11_addRow_10 : decode cX11_addRow 10 = .ok (.aload_n 0, 1) := dk_42 (dk_at dksX11_addRow_0 10 rfl rfl)
theorem dX11_addRow_11 : decode cX11_addRow 11 = .ok (.getfield 602, 3) := dk_180 2 90 (dk_at dksX11_addRow_0 11 rfl rfl)
theorem dX11_addRow_14 : decode cX11_addRow 14 = .ok (.aload_n 0, 1) := dk_42 (dk_at dksX11_addRow_0 14 rfl rfl)
theorem dX11_addRow_15 : decode cX11_addRow 15 = .ok (.getfield 534, 3) := dk_180 2 22 (dk_at dksX11_addRow_0 15 rfl rfl)
theorem dX11_addRow_18 : decode cX11_addRow 18 = .ok (.iload_n 2, 1) := dk_28 (dk_at dksX11_addRow_0 18 rfl rfl)
theorem dX11_addRow_19 : decode cX11_addRow 19 = .ok (.iastore, 1) := dk_79 (dk_at dksX11_addRow_0 19 rfl rfl)
theorem dX11_addRow_20 : decode cX11_addRow 20 = .ok (.aload_n 0, 1) := dk_42 (dk_at dksX11_addRow_0 20 rfl rfl)
theorem dX11_addRow_21 : decode cX11_addRow 21 = .ok (.getfield 605, 3) := dk_180 2 93 (dk_at dksX11_addRow_0 21 rfl rfl)
theorem dX11_addRow_24 : decode cX11_addRow 24 = .ok (.aload_n 0, 1) := dk_42 (dk_at dksX11_addRow_1 0 rfl rfl)
theorem dX11_addRow_25 : decode cX11_addRow 25 = .ok (.getfield 534, 3) := dk_180 2 22 (dk_at dksX11_addRow_1 1 rfl rfl)
theorem dX11_addRow_28 : decode cX11_addRow 28 = .ok (.iconst 1, 1) := dk_4 (dk_at dksX11_addRow_1 4 rfl rfl)
theorem dX11_addRow_29 : decode cX11_addRow 29 = .ok (.bastore, 1) := dk_84 (dk_at dksX11_addRow_1 5 rfl rfl)
theorem dX11_addRow_30 : decode cX11_addRow 30 = .ok (.aload_n 0, 1) := dk_42 (dk_at dksX11_addRow_1 6 rfl rfl)
theorem dX11_addRow_31 : decode cX11_addRow 31 = .ok (.dup, 1) := dk_89 (dk_at dksX11_addRow_1 7 rfl rfl)
theorem dX11_addRow_32 : decode cX11_addRow 32 = .ok (.getfield 534, 3) := dk_180 2 22 (dk_at dksX11_addRow_1 8 rfl rfl)
theorem dX11_addRow_35 : decode cX11_addRow 35 = .ok (.iconst 1, 1) := dk_4 (dk_at dksX11_addRow_1 11 rfl rfl)
theorem dX11_addRow_36 : decode cX11_addRow 36 = .ok (.iadd, 1) := dk_96 (dk_at dksX11_addRow_1 12 rfl rfl)
theorem dX11_addRow_37 : decode cX11_addRow 37 = .ok (.putfield 534, 3) := dk_181 2 22 (dk_at dksX11_addRow_1 13 rfl rfl)
theorem dX11_addRow_40 : decode cX11_addRow 40 = .ok (.return_, 1) := dk_177 (dk_at dksX11_addRow_1 16 rfl rfl)
abbrev cX11_roll : ByteArray := prog_17_method_81_code
def yX11_roll : MethodName := ⟨RX11, "roll", "(II)I"⟩
def dkwX11_roll_2 : List UInt8 := [160, 0, 20, 42, 180, 2, 93, 27, 51, 153, 0, 7, 4, 167, 0, 9, 3, 167, 0, 5, 16, 254, 172]
abbrev dktX11_roll_2 : List UInt8 := dkwX11_roll_2 ++ []
def dkwX11_roll_1 : List UInt8 := [180, 2, 87, 27, 46, 167, 0, 41, 28, 4, 160, 0, 12, 42, 180, 2, 90, 27, 46, 167, 0, 27, 28, 5]
abbrev dktX11_roll_1 : List UInt8 := dkwX11_roll_1 ++ dktX11_roll_2
def dkwX11_roll_0 : List UInt8 := [27, 133, 9, 42, 180, 2, 22, 4, 100, 133, 184, 0, 13, 154, 0, 5, 2, 172, 28, 154, 0, 12, 42]
abbrev dktX11_roll_0 : List UInt8 := dkwX11_roll_0 ++ dktX11_roll_1
theorem dksX11_roll_0 : cX11_roll.data.toList.drop 0 = dktX11_roll_0 := by decide +kernel
theorem dksX11_roll_1 : cX11_roll.data.toList.drop 23 = dktX11_roll_1 := dk_seg dksX11_roll_0 23 rfl rfl
theorem dksX11_roll_2 : cX11_roll.data.toList.drop 47 = dktX11_roll_2 := dk_seg dksX11_roll_1 24 rfl rfl
theorem dX11_roll_0 : decode cX11_roll 0 = .ok (.iload_n 1, 1) := dk_27 (dk_at dksX11_roll_0 0 rfl rfl)
theorem dX11_roll_1 : decode cX11_roll 1 = .ok (.i2l, 1) := dk_133 (dk_at dksX11_roll_0 1 rfl rfl)
theorem dX11_roll_2 : decode cX11_roll 2 = .ok (.lconst 0, 1) := dk_9 (dk_at dksX11_roll_0 2 rfl rfl)
theorem dX11_roll_3 : decode cX11_roll 3 = .ok (.aload_n 0, 1) := dk_42 (dk_at dksX11_roll_0 3 rfl rfl)
theorem dX11_roll_4 : decode cX11_roll 4 = .ok (.getfield 534, 3) := dk_180 2 22 (dk_at dksX11_roll_0 4 rfl rfl)
theorem dX11_roll_7 : decode cX11_roll 7 = .ok (.iconst 1, 1) := dk_4 (dk_at dksX11_roll_0 7 rfl rfl)
theorem dX11_roll_8 : decode cX11_roll 8 = .ok (.isub, 1) := dk_100 (dk_at dksX11_roll_0 8 rfl rfl)
theorem dX11_roll_9 : decode cX11_roll 9 = .ok (.i2l, 1) := dk_133 (dk_at dksX11_roll_0 9 rfl rfl)
theorem dX11_roll_10 : decode cX11_roll 10 = .ok (.invokestatic 13, 3) := dk_184 0 13 (dk_at dksX11_roll_0 10 rfl rfl)
theorem dX11_roll_13 : decode cX11_roll 13 = .ok (.ifCond .ne 5, 3) := dk_154 0 5 (dk_at dksX11_roll_0 13 rfl rfl)
theorem dX11_roll_16 : decode cX11_roll 16 = .ok (.iconst (-1), 1) := dk_2 (dk_at dksX11_roll_0 16 rfl rfl)
theorem dX11_roll_17 : decode cX11_roll 17 = .ok (.ireturn, 1) := dk_172 (dk_at dksX11_roll_0 17 rfl rfl)
theorem dX11_roll_18 : decode cX11_roll 18 = .ok (.iload_n 2, 1) := dk_28 (dk_at dksX11_roll_0 18 rfl rfl)
theorem dX11_roll_19 : decode cX11_roll 19 = .ok (.ifCond .ne 12, 3) := dk_154 0 12 (dk_at dksX11_roll_0 19 rfl rfl)
theorem dX11_roll_22 : decode cX11_roll 22 = .ok (.aload_n 0, 1) := dk_42 (dk_at dksX11_roll_0 22 rfl rfl)
theorem dX11_roll_23 : decode cX11_roll 23 = .ok (.getfield 599, 3) := dk_180 2 87 (dk_at dksX11_roll_1 0 rfl rfl)
theorem dX11_roll_26 : decode cX11_roll 26 = .ok (.iload_n 1, 1) := dk_27 (dk_at dksX11_roll_1 3 rfl rfl)
theorem dX11_roll_27 : decode cX11_roll 27 = .ok (.iaload, 1) := dk_46 (dk_at dksX11_roll_1 4 rfl rfl)
theorem dX11_roll_28 : decode cX11_roll 28 = .ok (.goto 41, 3) := dk_167 0 41 (dk_at dksX11_roll_1 5 rfl rfl)
theorem dX11_roll_31 : decode cX11_roll 31 = .ok (.iload_n 2, 1) := dk_28 (dk_at dksX11_roll_1 8 rfl rfl)
theorem dX11_roll_32 : decode cX11_roll 32 = .ok (.iconst 1, 1) := dk_4 (dk_at dksX11_roll_1 9 rfl rfl)
theorem dX11_roll_33 : decode cX11_roll 33 = .ok (.if_icmp .ne 12, 3) := dk_160 0 12 (dk_at dksX11_roll_1 10 rfl rfl)
theorem dX11_roll_36 : decode cX11_roll 36 = .ok (.aload_n 0, 1) := dk_42 (dk_at dksX11_roll_1 13 rfl rfl)
theorem dX11_roll_37 : decode cX11_roll 37 = .ok (.getfield 602, 3) := dk_180 2 90 (dk_at dksX11_roll_1 14 rfl rfl)
theorem dX11_roll_40 : decode cX11_roll 40 = .ok (.iload_n 1, 1) := dk_27 (dk_at dksX11_roll_1 17 rfl rfl)
theorem dX11_roll_41 : decode cX11_roll 41 = .ok (.iaload, 1) := dk_46 (dk_at dksX11_roll_1 18 rfl rfl)
theorem dX11_roll_42 : decode cX11_roll 42 = .ok (.goto 27, 3) := dk_167 0 27 (dk_at dksX11_roll_1 19 rfl rfl)
theorem dX11_roll_45 : decode cX11_roll 45 = .ok (.iload_n 2, 1) := dk_28 (dk_at dksX11_roll_1 22 rfl rfl)
theorem dX11_roll_46 : decode cX11_roll 46 = .ok (.iconst 2, 1) := dk_5 (dk_at dksX11_roll_1 23 rfl rfl)
theorem dX11_roll_47 : decode cX11_roll 47 = .ok (.if_icmp .ne 20, 3) := dk_160 0 20 (dk_at dksX11_roll_2 0 rfl rfl)
theorem dX11_roll_50 : decode cX11_roll 50 = .ok (.aload_n 0, 1) := dk_42 (dk_at dksX11_roll_2 3 rfl rfl)
theorem dX11_roll_51 : decode cX11_roll 51 = .ok (.getfield 605, 3) := dk_180 2 93 (dk_at dksX11_roll_2 4 rfl rfl)
theorem dX11_roll_54 : decode cX11_roll 54 = .ok (.iload_n 1, 1) := dk_27 (dk_at dksX11_roll_2 7 rfl rfl)
theorem dX11_roll_55 : decode cX11_roll 55 = .ok (.baload, 1) := dk_51 (dk_at dksX11_roll_2 8 rfl rfl)
theorem dX11_roll_56 : decode cX11_roll 56 = .ok (.ifCond .eq 7, 3) := dk_153 0 7 (dk_at dksX11_roll_2 9 rfl rfl)
theorem dX11_roll_59 : decode cX11_roll 59 = .ok (.iconst 1, 1) := dk_4 (dk_at dksX11_roll_2 12 rfl rfl)
theorem dX11_roll_60 : decode cX11_roll 60 = .ok (.goto 9, 3) := dk_167 0 9 (dk_at dksX11_roll_2 13 rfl rfl)
theorem dX11_roll_63 : decode cX11_roll 63 = .ok (.iconst 0, 1) := dk_3 (dk_at dksX11_roll_2 16 rfl rfl)
theorem dX11_roll_64 : decode cX11_roll 64 = .ok (.goto 5, 3) := dk_167 0 5 (dk_at dksX11_roll_2 17 rfl rfl)
theorem dX11_roll_67 : decode cX11_roll 67 = .ok (.bipush (-2), 2) := dk_16 254 (dk_at dksX11_roll_2 20 rfl rfl)
theorem dX11_roll_69 : decode cX11_roll 69 = .ok (.ireturn, 1) := dk_172 (dk_at dksX11_roll_2 22 rfl rfl)
abbrev cX11_appeal : ByteArray := prog_17_method_82_code
def yX11_appeal : MethodName := ⟨RX11, "appeal", "(II)I"⟩
def dkwX11_appeal_4 : List UInt8 := [3, 3, 182, 0, 22, 42, 89, 180, 2, 25, 90, 4, 96, 181, 2, 25, 172]
abbrev dktX11_appeal_4 : List UInt8 := dkwX11_appeal_4 ++ []
def dkwX11_appeal_3 : List UInt8 := [180, 2, 114, 42, 180, 2, 25, 28, 79, 42, 180, 2, 117, 42, 180, 2, 25, 3, 84, 42, 16, 12, 27, 28]
abbrev dktX11_appeal_3 : List UInt8 := dkwX11_appeal_3 ++ dktX11_appeal_4
def dkwX11_appeal_2 : List UInt8 := [180, 2, 25, 16, 60, 160, 0, 6, 16, 251, 172, 42, 180, 2, 111, 42, 180, 2, 25, 27, 79, 42]
abbrev dktX11_appeal_2 : List UInt8 := dkwX11_appeal_2 ++ dktX11_appeal_3
def dkwX11_appeal_1 : List UInt8 := [180, 2, 19, 153, 0, 15, 42, 180, 0, 17, 42, 6, 182, 1, 210, 164, 0, 6, 16, 253, 172, 42]
abbrev dktX11_appeal_1 : List UInt8 := dkwX11_appeal_1 ++ dktX11_appeal_2
def dkwX11_appeal_0 : List UInt8 := [42, 27, 182, 0, 110, 154, 0, 5, 2, 172, 28, 133, 9, 10, 184, 0, 13, 154, 0, 6, 16, 254, 172, 42]
abbrev dktX11_appeal_0 : List UInt8 := dkwX11_appeal_0 ++ dktX11_appeal_1
theorem dksX11_appeal_0 : cX11_appeal.data.toList.drop 0 = dktX11_appeal_0 := by decide +kernel
theorem dksX11_appeal_1 : cX11_appeal.data.toList.drop 24 = dktX11_appeal_1 := dk_seg dksX11_appeal_0 24 rfl rfl
theorem dksX11_appeal_2 : cX11_appeal.data.toList.drop 46 = dktX11_appeal_2 := dk_seg dksX11_appeal_1 22 rfl rfl
theorem dksX11_appeal_3 : cX11_appeal.data.toList.drop 68 = dktX11_appeal_3 := dk_seg dksX11_appeal_2 22 rfl rfl
theorem dksX11_appeal_4 : cX11_appeal.data.toList.drop 92 = dktX11_appeal_4 := dk_seg dksX11_appeal_3 24 rfl rfl
theorem dX11_appeal_0 : decode cX11_appeal 0 = .ok (.aload_n 0, 1) := dk_42 (dk_at dksX11_appeal_0 0 rfl rfl)
theorem dX11_appeal_1 : decode cX11_appeal 1 = .ok (.iload_n 1, 1) := dk_27 (dk_at dksX11_appeal_0 1 rfl rfl)
theorem dX11_appeal_2 : decode cX11_appeal 2 = .ok (.invokevirtual 110, 3) := dk_182 0 110 (dk_at dksX11_appeal_0 2 rfl rfl)
theorem dX11_appeal_5 : decode cX11_appeal 5 = .ok (.ifCond .ne 5, 3) := dk_154 0 5 (dk_at dksX11_appeal_0 5 rfl rfl)
theorem dX11_appeal_8 : decode cX11_appeal 8 = .ok (.iconst (-1), 1) := dk_2 (dk_at dksX11_appeal_0 8 rfl rfl)
theorem dX11_appeal_9 : decode cX11_appeal 9 = .ok (.ireturn, 1) := dk_172 (dk_at dksX11_appeal_0 9 rfl rfl)
theorem dX11_appeal_10 : decode cX11_appeal 10 = .ok (.iload_n 2, 1) := dk_28 (dk_at dksX11_appeal_0 10 rfl rfl)
theorem dX11_appeal_11 : decode cX11_appeal 11 = .ok (.i2l, 1) := dk_133 (dk_at dksX11_appeal_0 11 rfl rfl)
theorem dX11_appeal_12 : decode cX11_appeal 12 = .ok (.lconst 0, 1) := dk_9 (dk_at dksX11_appeal_0 12 rfl rfl)
theorem dX11_appeal_13 : decode cX11_appeal 13 = .ok (.lconst 1, 1) := dk_10 (dk_at dksX11_appeal_0 13 rfl rfl)
theorem dX11_appeal_14 : decode cX11_appeal 14 = .ok (.invokestatic 13, 3) := dk_184 0 13 (dk_at dksX11_appeal_0 14 rfl rfl)
theorem dX11_appeal_17 : decode cX11_appeal 17 = .ok (.ifCond .ne 6, 3) := dk_154 0 6 (dk_at dksX11_appeal_0 17 rfl rfl)
theorem dX11_appeal_20 : decode cX11_appeal 20 = .ok (.bipush (-2), 2) := dk_16 254 (dk_at dksX11_appeal_0 20 rfl rfl)
theorem dX11_appeal_22 : decode cX11_appeal 22 = .ok (.ireturn, 1) := dk_172 (dk_at dksX11_appeal_0 22 rfl rfl)
theorem dX11_appeal_23 : decode cX11_appeal 23 = .ok (.aload_n 0, 1) := dk_42 (dk_at dksX11_appeal_0 23 rfl rfl)
theorem dX11_appeal_24 : decode cX11_appeal 24 = .ok (.getfield 531, 3) := dk_180 2 19 (dk_at dksX11_appeal_1 0 rfl rfl)
theorem dX11_appeal_27 : decode cX11_appeal 27 = .ok (.ifCond .eq 15, 3) := dk_153 0 15 (dk_at dksX11_appeal_1 3 rfl rfl)
theorem dX11_appeal_30 : decode cX11_appeal 30 = .ok (.aload_n 0, 1) := dk_42 (dk_at dksX11_appeal_1 6 rfl rfl)
theorem dX11_appeal_31 : decode cX11_appeal 31 = .ok (.getfield 17, 3) := dk_180 0 17 (dk_at dksX11_appeal_1 7 rfl rfl)
theorem dX11_appeal_34 : decode cX11_appeal 34 = .ok (.aload_n 0, 1) := dk_42 (dk_at dksX11_appeal_1 10 rfl rfl)
theorem dX11_appeal_35 : decode cX11_appeal 35 = .ok (.iconst 3, 1) := dk_6 (dk_at dksX11_appeal_1 11 rfl rfl)
theorem dX11_appeal_36 : decode cX11_appeal 36 = .ok (.invokevirtual 466, 3) := dk_182 1 210 (dk_at dksX11_appeal_1 12 rfl rfl)
theorem dX11_appeal_39 : decode cX11_appeal 39 = .ok (.if_icmp .le 6, 3) := dk_164 0 6 (dk_at dksX11_appeal_1 15 rfl rfl)
theorem dX11_appeal_42 : decode cX11_appeal 42 = .ok (.bipush (-3), 2) := dk_16 253 (dk_at dksX11_appeal_1 18 rfl rfl)
theorem dX11_appeal_44 : decode cX11_appeal 44 = .ok (.ireturn, 1) := dk_172 (dk_at dksX11_appeal_1 20 rfl rfl)
theorem dX11_appeal_45 : decode cX11_appeal 45 = .ok (.aload_n 0, 1) := dk_42 (dk_at dksX11_appeal_1 21 rfl rfl)
theorem dX11_appeal_46 : decode cX11_appeal 46 = .ok (.getfield 537, 3) := dk_180 2 25 (dk_at dksX11_appeal_2 0 rfl rfl)
theorem dX11_appeal_49 : decode cX11_appeal 49 = .ok (.bipush 60, 2) := dk_16 60 (dk_at dksX11_appeal_2 3 rfl rfl)
theorem dX11_appeal_51 : decode cX11_appeal 51 = .ok (.if_icmp .ne 6, 3) := dk_160 0 6 (dk_at dksX11_appeal_2 5 rfl rfl)
theorem dX11_appeal_54 : decode cX11_appeal 54 = .ok (.bipush (-5), 2) := dk_16 251 (dk_at dksX11_appeal_2 8 rfl rfl)
theorem dX11_appeal_56 : decode cX11_appeal 56 = .ok (.ireturn, 1) := dk_172 (dk_at dksX11_appeal_2 10 rfl rfl)
theorem dX11_appeal_57 : decode cX11_appeal 57 = .ok (.aload_n 0, 1) := dk_42 (dk_at dksX11_appeal_2 11 rfl rfl)
theorem dX11_appeal_58 : decode cX11_appeal 58 = .ok (.getfield 623, 3) := dk_180 2 111 (dk_at dksX11_appeal_2 12 rfl rfl)
theorem dX11_appeal_61 : decode cX11_appeal 61 = .ok (.aload_n 0, 1) := dk_42 (dk_at dksX11_appeal_2 15 rfl rfl)
theorem dX11_appeal_62 : decode cX11_appeal 62 = .ok (.getfield 537, 3) := dk_180 2 25 (dk_at dksX11_appeal_2 16 rfl rfl)
theorem dX11_appeal_65 : decode cX11_appeal 65 = .ok (.iload_n 1, 1) := dk_27 (dk_at dksX11_appeal_2 19 rfl rfl)
theorem dX11_appeal_66 : decode cX11_appeal 66 = .ok (.iastore, 1) := dk_79 (dk_at dksX11_appeal_2 20 rfl rfl)
theorem dX11_appeal_67 : decode cX11_appeal 67 = .ok (.aload_n 0, 1) := dk_42 (dk_at dksX11_appeal_2 21 rfl rfl)
theorem dX11_appeal_68 : decode cX11_appeal 68 = .ok (.getfield 626, 3) := dk_180 2 114 (dk_at dksX11_appeal_3 0 rfl rfl)
theorem dX11_appeal_71 : decode cX11_appeal 71 = .ok (.aload_n 0, 1) := dk_42 (dk_at dksX11_appeal_3 3 rfl rfl)
theorem dX11_appeal_72 : decode cX11_appeal 72 = .ok (.getfield 537, 3) := dk_180 2 25 (dk_at dksX11_appeal_3 4 rfl rfl)
theorem dX11_appeal_75 : decode cX11_appeal 75 = .ok (.iload_n 2, 1) := dk_28 (dk_at dksX11_appeal_3 7 rfl rfl)
theorem dX11_appeal_76 : decode cX11_appeal 76 = .ok (.iastore, 1) := dk_79 (dk_at dksX11_appeal_3 8 rfl rfl)
theorem dX11_appeal_77 : decode cX11_appeal 77 = .ok (.aload_n 0, 1) := dk_42 (dk_at dksX11_appeal_3 9 rfl rfl)
theorem dX11_appeal_78 : decode cX11_appeal 78 = .ok (.getfield 629, 3) := dk_180 2 117 (dk_at dksX11_appeal_3 10 rfl rfl)
theorem dX11_appeal_81 : decode cX11_appeal 81 = .ok (.aload_n 0, 1) := dk_42 (dk_at dksX11_appeal_3 13 rfl rfl)
theorem dX11_appeal_82 : decode cX11_appeal 82 = .ok (.getfield 537, 3) := dk_180 2 25 (dk_at dksX11_appeal_3 14 rfl rfl)
theorem dX11_appeal_85 : decode cX11_appeal 85 = .ok (.iconst 0, 1) := dk_3 (dk_at dksX11_appeal_3 17 rfl rfl)
theorem dX11_appeal_86 : decode cX11_appeal 86 = .ok (.bastore, 1) := dk_84 (dk_at dksX11_appeal_3 18 rfl rfl)
theorem dX11_appeal_87 : decode cX11_appeal 87 = .ok (.aload_n 0, 1) := dk_42 (dk_at dksX11_appeal_3 19 rfl rfl)
theorem dX11_appeal_88 : decode cX11_appeal 88 = .ok (.bipush 12, 2) := dk_16 12 (dk_at dksX11_appeal_3 20 rfl rfl)
theorem dX11_appeal_90 : decode cX11_appeal 90 = .ok (.iload_n 1, 1) := dk_27 (dk_at dksX11_appeal_3 22 rfl rfl)
theorem dX11_appeal_91 : decode cX11_appeal 91 = .ok (.iload_n 2, 1) := dk_28 (dk_at dksX11_appeal_3 23 rfl rfl)
theorem dX11_appeal_92 : decode cX11_appeal 92 = .ok (.iconst 0, 1) := dk_3 (dk_at dksX11_appeal_4 0 rfl rfl)
theorem dX11_appeal_93 : decode cX11_appeal 93 = .ok (.iconst 0, 1) := dk_3 (dk_at dksX11_appeal_4 1 rfl rfl)
theorem dX11_appeal_94 : decode cX11_appeal 94 = .ok (.invokevirtual 22, 3) := dk_182 0 22 (dk_at dksX11_appeal_4 2 rfl rfl)
theorem dX11_appeal_97 : decode cX11_appeal 97 = .ok (.aload_n 0, 1) := dk_42 (dk_at dksX11_appeal_4 5 rfl rfl)
theorem dX11_appeal_98 : decode cX11_appeal 98 = .ok (.dup, 1) := dk_89 (dk_at dksX11_appeal_4 6 rfl rfl)
theorem dX11_appeal_99 : decode cX11_appeal 99 = .ok (.getfield 537, 3) := dk_180 2 25 (dk_at dksX11_appeal_4 7 rfl rfl)
theorem dX11_appeal_102 : decode cX11_appeal 102 = .ok (.dup_x1, 1) := dk_90 (dk_at dksX11_appeal_4 10 rfl rfl)
theorem dX11_appeal_103 : decode cX11_appeal 103 = .ok (.iconst 1, 1) := dk_4 (dk_at dksX11_appeal_4 11 rfl rfl)
theorem dX11_appeal_104 : decode cX11_appeal 104 = .ok (.iadd, 1) := dk_96 (dk_at dksX11_appeal_4 12 rfl rfl)
theorem dX11_appeal_105 : decode cX11_appeal 105 = .ok (.putfield 537, 3) := dk_181 2 25 (dk_at dksX11_appeal_4 13 rfl rfl)
theorem dX11_appeal_108 : decode cX11_appeal 108 = .ok (.ireturn, 1) := dk_172 (dk_at dksX11_appeal_4 16 rfl rfl)
abbrev cX11_decide : ByteArray := prog_17_method_83_code
def yX11_decide : MethodName := ⟨RX11, "decide", "(II)I"⟩
def dkwX11_decide_8 : List UInt8 := [3, 3, 182, 0, 22, 42, 182, 2, 123, 172]
abbrev dktX11_decide_8 : List UInt8 := dkwX11_decide_8 ++ []
def dkwX11_decide_7 : List UInt8 := [180, 2, 93, 29, 42, 180, 2, 114, 27, 46, 154, 0, 7, 4, 167, 0, 4, 3, 84, 42, 16, 13, 27, 28]
abbrev dktX11_decide_7 : List UInt8 := dkwX11_decide_7 ++ dktX11_decide_8
def dkwX11_decide_6 : List UInt8 := [42, 180, 2, 111, 27, 46, 21, 5, 182, 2, 108, 167, 0, 32, 28, 4, 160, 0, 27, 29, 155, 0, 23, 42]
abbrev dktX11_decide_6 : List UInt8 := dkwX11_decide_6 ++ dktX11_decide_7
def dkwX11_decide_5 : List UInt8 := [153, 0, 11, 21, 5, 154, 0, 6, 16, 252, 172, 42, 180, 2, 117, 27, 4, 84, 21, 4, 153, 0, 18, 42]
abbrev dktX11_decide_5 : List UInt8 := dkwX11_decide_5 ++ dktX11_decide_6
def dkwX11_decide_4 : List UInt8 := [27, 46, 182, 2, 105, 167, 0, 4, 3, 54, 5, 42, 180, 2, 117, 27, 51, 154, 0, 13, 21, 4]
abbrev dktX11_decide_4 : List UInt8 := dkwX11_decide_4 ++ dktX11_decide_5
def dkwX11_decide_3 : List UInt8 := [154, 0, 11, 29, 156, 0, 7, 4, 167, 0, 4, 3, 54, 4, 21, 4, 153, 0, 16, 42, 42, 180, 2, 111]
abbrev dktX11_decide_3 : List UInt8 := dkwX11_decide_3 ++ dktX11_decide_4
def dkwX11_decide_2 : List UInt8 := [42, 42, 180, 2, 111, 27, 46, 182, 2, 120, 62, 28, 4, 160, 0, 20, 42, 180, 2, 114, 27, 46]
abbrev dktX11_decide_2 : List UInt8 := dkwX11_decide_2 ++ dktX11_decide_3
def dkwX11_decide_1 : List UInt8 := [184, 0, 13, 154, 0, 6, 16, 254, 172, 42, 180, 0, 17, 42, 6, 182, 1, 210, 164, 0, 6, 16, 253, 172]
abbrev dktX11_decide_1 : List UInt8 := dkwX11_decide_1 ++ dktX11_decide_2
def dkwX11_decide_0 : List UInt8 := [27, 133, 9, 42, 180, 2, 25, 4, 100, 133, 184, 0, 13, 154, 0, 5, 2, 172, 28, 133, 9, 10]
abbrev dktX11_decide_0 : List UInt8 := dkwX11_decide_0 ++ dktX11_decide_1
theorem dksX11_decide_0 : cX11_decide.data.toList.drop 0 = dktX11_decide_0 := by decide +kernel
theorem dksX11_decide_1 : cX11_decide.data.toList.drop 22 = dktX11_decide_1 := dk_seg dksX11_decide_0 22 rfl rfl
theorem dksX11_decide_2 : cX11_decide.data.toList.drop 46 = dktX11_decide_2 := dk_seg dksX11_decide_1 24 rfl rfl
theorem dksX11_decide_3 : cX11_decide.data.toList.drop 68 = dktX11_decide_3 := dk_seg dksX11_decide_2 22 rfl rfl
theorem dksX11_decide_4 : cX11_decide.data.toList.drop 92 = dktX11_decide_4 := dk_seg dksX11_decide_3 24 rfl rfl
theorem dksX11_decide_5 : cX11_decide.data.toList.drop 114 = dktX11_decide_5 := dk_seg dksX11_decide_4 22 rfl rfl
theorem dksX11_decide_6 : cX11_decide.data.toList.drop 138 = dktX11_decide_6 := dk_seg dksX11_decide_5 24 rfl rfl
theorem dksX11_decide_7 : cX11_decide.data.toList.drop 162 = dktX11_decide_7 := dk_seg dksX11_decide_6 24 rfl rfl
theorem dksX11_decide_8 : cX11_decide.data.toList.drop 186 = dktX11_decide_8 := dk_seg dksX11_decide_7 24 rfl rfl
theorem dX11_decide_0 : decode cX11_decide 0 = .ok (.iload_n 1, 1) := dk_27 (dk_at dksX11_decide_0 0 rfl rfl)
theorem dX11_decide_1 : decode cX11_decide 1 = .ok (.i2l, 1) := dk_133 (dk_at dksX11_decide_0 1 rfl rfl)
theorem dX11_decide_2 : decode cX11_decide 2 = .ok (.lconst 0, 1) := dk_9 (dk_at dksX11_decide_0 2 rfl rfl)
theorem dX11_decide_3 : decode cX11_decide 3 = .ok (.aload_n 0, 1) := dk_42 (dk_at dksX11_decide_0 3 rfl rfl)
theorem dX11_decide_4 : decode cX11_decide 4 = .ok (.getfield 537, 3) := dk_180 2 25 (dk_at dksX11_decide_0 4 rfl rfl)
theorem dX11_decide_7 : decode cX11_decide 7 = .ok (.iconst 1, 1) := dk_4 (dk_at dksX11_decide_0 7 rfl rfl)
theorem dX11_decide_8 : decode cX11_decide 8 = .ok (.isub, 1) := dk_100 (dk_at dksX11_decide_0 8 rfl rfl)
theorem dX11_decide_9 : decode cX11_decide 9 = .ok (.i2l, 1) := dk_133 (dk_at dksX11_decide_0 9 rfl rfl)
theorem dX11_decide_10 : decode cX11_decide 10 = .ok (.invokestatic 13, 3) := dk_184 0 13 (dk_at dksX11_decide_0 10 rfl rfl)
theorem dX11_decide_13 : decode cX11_decide 13 = .ok (.ifCond .ne 5, 3) := dk_154 0 5 (dk_at dksX11_decide_0 13 rfl rfl)
theorem dX11_decide_16 : decode cX11_decide 16 = .ok (.iconst (-1), 1) := dk_2 (dk_at dksX11_decide_0 16 rfl rfl)
theorem dX11_decide_17 : decode cX11_decide 17 = .ok (.ireturn, 1) := dk_172 (dk_at dksX11_decide_0 17 rfl rfl)
theorem dX11_decide_18 : decode cX11_decide 18 = .ok (.iload_n 2, 1) := dk_28 (dk_at dksX11_decide_0 18 rfl rfl)
theorem dX11_decide_19 : decode cX11_decide 19 = .ok (.i2l, 1) := dk_133 (dk_at dksX11_decide_0 19 rfl rfl)
theorem dX11_decide_20 : decode cX11_decide 20 = .ok (.lconst 0, 1) := dk_9 (dk_at dksX11_decide_0 20 rfl rfl)
theorem dX11_decide_21 : decode cX11_decide 21 = .ok (.lconst 1, 1) := dk_10 (dk_at dksX11_decide_0 21 rfl rfl)
theorem dX11_decide_22 : decode cX11_decide 22 = .ok (.invokestatic 13, 3) := dk_184 0 13 (dk_at dksX11_decide_1 0 rfl rfl)
theorem dX11_decide_25 : decode cX11_decide 25 = .ok (.ifCond .ne 6, 3) := dk_154 0 6 (dk_at dksX11_decide_1 3 rfl rfl)
theorem dX11_decide_28 : decode cX11_decide 28 = .ok (.bipush (-2), 2) := dk_16 254 (dk_at dksX11_decide_1 6 rfl rfl)
theorem dX11_decide_30 : decode cX11_decide 30 = .ok (.ireturn, 1) := dk_172 (dk_at dksX11_decide_1 8 rfl rfl)
theorem dX11_decide_31 : decode cX11_decide 31 = .ok (.aload_n 0, 1) := dk_42 (dk_at dksX11_decide_1 9 rfl rfl)
theorem dX11_decide_32 : decode cX11_decide 32 = .ok (.getfield 17, 3) := dk_180 0 17 (dk_at dksX11_decide_1 10 rfl rfl)
theorem dX11_decide_35 : decode cX11_decide 35 = .ok (.aload_n 0, 1) := dk_42 (dk_at dksX11_decide_1 13 rfl rfl)
theorem dX11_decide_36 : decode cX11_decide 36 = .ok (.iconst 3, 1) := dk_6 (dk_at dksX11_decide_1 14 rfl rfl)
theorem dX11_decide_37 : decode cX11_decide 37 = .ok (.invokevirtual 466, 3) := dk_182 1 210 (dk_at dksX11_decide_1 15 rfl rfl)
theorem dX11_decide_40 : decode cX11_decide 40 = .ok (.if_icmp .le 6, 3) := dk_164 0 6 (dk_at dksX11_decide_1 18 rfl rfl)
theorem dX11_decide_43 : decode cX11_decide 43 = .ok (.bipush (-3), 2) := dk_16 253 (dk_at dksX11_decide_1 21 rfl rfl)
theorem dX11_decide_45 : decode cX11_decide 45 = .ok (.ireturn, 1) := dk_172 (dk_at dksX11_decide_1 23 rfl rfl)
theorem dX11_decide_46 : decode cX11_decide 46 = .ok (.aload_n 0, 1) := dk_42 (dk_at dksX11_decide_2 0 rfl rfl)
theorem dX11_decide_47 : decode cX11_decide 47 = .ok (.aload_n 0, 1) := dk_42 (dk_at dksX11_decide_2 1 rfl rfl)
theorem dX11_decide_48 : decode cX11_decide 48 = .ok (.getfield 623, 3) := dk_180 2 111 (dk_at dksX11_decide_2 2 rfl rfl)
theorem dX11_decide_51 : decode cX11_decide 51 = .ok (.iload_n 1, 1) := dk_27 (dk_at dksX11_decide_2 5 rfl rfl)
theorem dX11_decide_52 : decode cX11_decide 52 = .ok (.iaload, 1) := dk_46 (dk_at dksX11_decide_2 6 rfl rfl)
theorem dX11_decide_53 : decode cX11_decide 53 = .ok (.invokevirtual 632, 3) := dk_182 2 120 (dk_at dksX11_decide_2 7 rfl rfl)
theorem dX11_decide_56 : decode cX11_decide 56 = .ok (.istore_n 3, 1) := dk_62 (dk_at dksX11_decide_2 10 rfl rfl)
theorem dX11_decide_57 : decode cX11_decide 57 = .ok (.iload_n 2, 1) := dk_28 (dk_at dksX11_decide_2 11 rfl rfl)
theorem dX11_decide_58 : decode cX11_decide 58 = .ok (.iconst 1, 1) := dk_4 (dk_at dksX11_decide_2 12 rfl rfl)
theorem dX11_decide_59 : decode cX11_decide 59 = .ok (.if_icmp .ne 20, 3) := dk_160 0 20 (dk_at dksX11_decide_2 13 rfl rfl)
theorem dX11_decide_62 : decode cX11_decide 62 = .ok (.aload_n 0, 1) := dk_42 (dk_at dksX11_decide_2 16 rfl rfl)
theorem dX11_decide_63 : decode cX11_decide 63 = .ok (.getfield 626, 3) := dk_180 2 114 (dk_at dksX11_decide_2 17 rfl rfl)
theorem dX11_decide_66 : decode cX11_decide 66 = .ok (.iload_n 1, 1) := dk_27 (dk_at dksX11_decide_2 20 rfl rfl)
theorem dX11_decide_67 : decode cX11_decide 67 = .ok (.iaload, 1) := dk_46 (dk_at dksX11_decide_2 21 rfl rfl)
theorem dX11_decide_68 : decode cX11_decide 68 = .ok (.ifCond .ne 11, 3) := dk_154 0 11 (dk_at dksX11_decide_3 0 rfl rfl)
theorem dX11_decide_71 : decode cX11_decide 71 = .ok (.iload_n 3, 1) := dk_29 (dk_at dksX11_decide_3 3 rfl rfl)
theorem dX11_decide_72 : decode cX11_decide 72 = .ok (.ifCond .ge 7, 3) := dk_156 0 7 (dk_at dksX11_decide_3 4 rfl rfl)
theorem dX11_decide_75 : decode cX11_decide 75 = .ok (.iconst 1, 1) := dk_4 (dk_at dksX11_decide_3 7 rfl rfl)
theorem dX11_decide_76 : decode cX11_decide 76 = .ok (.goto 4, 3) := dk_167 0 4 (dk_at dksX11_decide_3 8 rfl rfl)
theorem dX11_decide_79 : decode cX11_decide 79 = .ok (.iconst 0, 1) := dk_3 (dk_at dksX11_decide_3 11 rfl rfl)
theorem dX11_decide_80 : decode cX11_decide 80 = .ok (.istore 4, 2) := dk_54 4 (dk_at dksX11_decide_3 12 rfl rfl)
theorem dX11_decide_82 : decode cX11_decide 82 = .ok (.iload 4, 2) := dk_21 4 (dk_at dksX11_decide_3 14 rfl rfl)
theorem dX11_decide_84 : decode cX11_decide 84 = .ok (.ifCond .eq 16, 3) := dk_153 0 16 (dk_at dksX11_decide_3 16 rfl rfl)
theorem dX11_decide_87 : decode cX11_decide 87 = .ok (.aload_n 0, 1) := dk_42 (dk_at dksX11_decide_3 19 rfl rfl)
theorem dX11_decide_88 : decode cX11_decide 88 = .ok (.aload_n 0, 1) := dk_42 (dk_at dksX11_decide_3 20 rfl rfl)
theorem dX11_decide_89 : decode cX11_decide 89 = .ok (.getfield 623, 3) := dk_180 2 111 (dk_at dksX11_decide_3 21 rfl rfl)
theorem dX11_decide_92 : decode cX11_decide 92 = .ok (.iload_n 1, 1) := dk_27 (dk_at dksX11_decide_4 0 rfl rfl)
theorem dX11_decide_93 : decode cX11_decide 93 = .ok (.iaload, 1) := dk_46 (dk_at dksX11_decide_4 1 rfl rfl)
theorem dX11_decide_94 : decode cX11_decide 94 = .ok (.invokevirtual 617, 3) := dk_182 2 105 (dk_at dksX11_decide_4 2 rfl rfl)
theorem dX11_decide_97 : decode cX11_decide 97 = .ok (.goto 4, 3) := dk_167 0 4 (dk_at dksX11_decide_4 5 rfl rfl)
theorem dX11_decide_100 : decode cX11_decide 100 = .ok (.iconst 0, 1) := dk_3 (dk_at dksX11_decide_4 8 rfl rfl)
theorem dX11_decide_101 : decode cX11_decide 101 = .ok (.istore 5, 2) := dk_54 5 (dk_at dksX11_decide_4 9 rfl rfl)
theorem dX11_decide_103 : decode cX11_decide 103 = .ok (.aload_n 0, 1) := dk_42 (dk_at dksX11_decide_4 11 rfl rfl)
theorem dX11_decide_104 : decode cX11_decide 104 = .ok (.getfield 629, 3) := dk_180 2 117 (dk_at dksX11_decide_4 12 rfl rfl)
theorem dX11_decide_107 : decode cX11_decide 107 = .ok (.iload_n 1, 1) := dk_27 (dk_at dksX11_decide_4 15 rfl rfl)
theorem dX11_decide_108 : decode cX11_decide 108 = .ok (.baload, 1) := dk_51 (dk_at dksX11_decide_4 16 rfl rfl)
theorem dX11_decide_109 : decode cX11_decide 109 = .ok (.ifCond .ne 13, 3) := dk_154 0 13 (dk_at dksX11_decide_4 17 rfl rfl)
theorem dX11_decide_112 : decode cX11_decide 112 = .ok (.iload 4, 2) := dk_21 4 (dk_at dksX11_decide_4 20 rfl rfl)
theorem dX11_decide_114 : decode cX11_decide 114 = .ok (.ifCond .eq 11, 3) := dk_153 0 11 (dk_at dksX11_decide_5 0 rfl rfl)
theorem dX11_decide_117 : decode cX11_decide 117 = .ok (.iload 5, 2) := dk_21 5 (dk_at dksX11_decide_5 3 rfl rfl)
theorem dX11_decide_119 : decode cX11_decide 119 = .ok (.ifCond .ne 6, 3) := dk_154 0 6 (dk_at dksX11_decide_5 5 rfl rfl)
theorem dX11_decide_122 : decode cX11_decide 122 = .ok (.bipush (-4), 2) := dk_16 252 (dk_at dksX11_decide_5 8 rfl rfl)
theorem dX11_decide_124 : decode cX11_decide 124 = .ok (.ireturn, 1) := dk_172 (dk_at dksX11_decide_5 10 rfl rfl)
theorem dX11_decide_125 : decode cX11_decide 125 = .ok (.aload_n 0, 1) := dk_42 (dk_at dksX11_decide_5 11 rfl rfl)
theorem dX11_decide_126 : decode cX11_decide 126 = .ok (.getfield 629, 3) := dk_180 2 117 (dk_at dksX11_decide_5 12 rfl rfl)
theorem dX11_decide_129 : decode cX11_decide 129 = .ok (.iload_n 1, 1) := dk_27 (dk_at dksX11_decide_5 15 rfl rfl)
theorem dX11_decide_130 : decode cX11_decide 130 = .ok (.iconst 1, 1) := dk_4 (dk_at dksX11_decide_5 16 rfl rfl)
theorem dX11_decide_131 : decode cX11_decide 131 = .ok (.bastore, 1) := dk_84 (dk_at dksX11_decide_5 17 rfl rfl)
theorem dX11_decide_132 : decode cX11_decide 132 = .ok (.iload 4, 2) := dk_21 4 (dk_at dksX11_decide_5 18 rfl rfl)
theorem dX11_decide_134 : decode cX11_decide 134 = .ok (.ifCond .eq 18, 3) := dk_153 0 18 (dk_at dksX11_decide_5 20 rfl rfl)
theorem dX11_decide_137 : decode cX11_decide 137 = .ok (.aload_n 0, 1) := dk_42 (dk_at dksX11_decide_5 23 rfl rfl)
theorem dX11_decide_138 : decode cX11_decide 138 = .ok (.aload_n 0, 1) := dk_42 (dk_at dksX11_decide_6 0 rfl rfl)
theorem dX11_decide_139 : decode cX11_decide 139 = .ok (.getfield 623, 3) := dk_180 2 111 (dk_at dksX11_decide_6 1 rfl rfl)
theorem dX11_decide_142 : decode cX11_decide 142 = .ok (.iload_n 1, 1) := dk_27 (dk_at dksX11_decide_6 4 rfl rfl)
theorem dX11_decide_143 : decode cX11_decide 143 = .ok (.iaload, 1) := dk_46 (dk_at dksX11_decide_6 5 rfl rfl)
theorem dX11_decide_144 : decode cX11_decide 144 = .ok (.iload 5, 2) := dk_21 5 (dk_at dksX11_decide_6 6 rfl rfl)
theorem dX11_decide_146 : decode cX11_decide 146 = .ok (.invokevirtual 620, 3) := dk_182 2 108 (dk_at dksX11_decide_6 8 rfl rfl)
theorem dX11_decide_149 : decode cX11_decide 149 = .ok (.goto 32, 3) := dk_167 0 32 (dk_at dksX11_decide_6 11 rfl rfl)
theorem dX11_decide_152 : decode cX11_decide 152 = .ok (.iload_n 2, 1) := dk_28 (dk_at dksX11_decide_6 14 rfl rfl)
theorem dX11_decide_153 : decode cX11_decide 153 = .ok (.iconst 1, 1) := dk_4 (dk_at dksX11_decide_6 15 rfl rfl)
theorem dX11_decide_154 : decode cX11_decide 154 = .ok (.if_icmp .ne 27, 3) := dk_160 0 27 (dk_at dksX11_decide_6 16 rfl rfl)
theorem dX11_decide_157 : decode cX11_decide 157 = .ok (.iload_n 3, 1) := dk_29 (dk_at dksX11_decide_6 19 rfl rfl)
theorem dX11_decide_158 : decode cX11_decide 158 = .ok (.ifCond .lt 23, 3) := dk_155 0 23 (dk_at dksX11_decide_6 20 rfl rfl)
theorem dX11_decide_161 : decode cX11_decide 161 = .ok (.aload_n 0, 1) := dk_42 (dk_at dksX11_decide_6 23 rfl rfl)
theorem dX11_decide_162 : decode cX11_decide 162 = .ok (.getfield 605, 3) := dk_180 2 93 (dk_at dksX11_decide_7 0 rfl rfl)
theorem dX11_decide_165 : decode cX11_decide 165 = .ok (.iload_n 3, 1) := dk_29 (dk_at dksX11_decide_7 3 rfl rfl)
theorem dX11_decide_166 : decode cX11_decide 166 = .ok (.aload_n 0, 1) := dk_42 (dk_at dksX11_decide_7 4 rfl rfl)
theorem dX11_decide_167 : decode cX11_decide 167 = .ok (.getfield 626, 3) := dk_180 2 114 (dk_at dksX11_decide_7 5 rfl rfl)
theorem dX11_decide_170 : decode cX11_decide 170 = .ok (.iload_n 1, 1) := dk_27 (dk_at dksX11_decide_7 8 rfl rfl)
theorem dX11_decide_171 : decode cX11_decide 171 = .ok (.iaload, 1) := dk_46 (dk_at dksX11_decide_7 9 rfl rfl)
theorem dX11_decide_172 : decode cX11_decide 172 = .ok (.ifCond .ne 7, 3) := dk_154 0 7 (dk_at dksX11_decide_7 10 rfl rfl)
theorem dX11_decide_175 : decode cX11_decide 175 = .ok (.iconst 1, 1) := dk_4 (dk_at dksX11_decide_7 13 rfl rfl)
theorem dX11_decide_176 : decode cX11_decide 176 = .ok (.goto 4, 3) := dk_167 0 4 (dk_at dksX11_decide_7 14 rfl rfl)
theorem dX11_decide_179 : decode cX11_decide 179 = .ok (.iconst 0, 1) := dk_3 (dk_at dksX11_decide_7 17 rfl rfl)
theorem dX11_decide_180 : decode cX11_decide 180 = .ok (.bastore, 1) := dk_84 (dk_at dksX11_decide_7 18 rfl rfl)
theorem dX11_decide_181 : decode cX11_decide 181 = .ok (.aload_n 0, 1) := dk_42 (dk_at dksX11_decide_7 19 rfl rfl)
theorem dX11_decide_182 : decode cX11_decide 182 = .ok (.bipush 13, 2) := dk_16 13 (dk_at dksX11_decide_7 20 rfl rfl)
theorem dX11_decide_184 : decode cX11_decide 184 = .ok (.iload_n 1, 1) := dk_27 (dk_at dksX11_decide_7 22 rfl rfl)
theorem dX11_decide_185 : decode cX11_decide 185 = .ok (.iload_n 2, 1) := dk_28 (dk_at dksX11_decide_7 23 rfl rfl)
theorem dX11_decide_186 : decode cX11_decide 186 = .ok (.iconst 0, 1) := dk_3 (dk_at dksX11_decide_8 0 rfl rfl)
theorem dX11_decide_187 : decode cX11_decide 187 = .ok (.iconst 0, 1) := dk_3 (dk_at dksX11_decide_8 1 rfl rfl)
theorem dX11_decide_188 : decode cX11_decide 188 = .ok (.invokevirtual 22, 3) := dk_182 0 22 (dk_at dksX11_decide_8 2 rfl rfl)
theorem dX11_decide_191 : decode cX11_decide 191 = .ok (.aload_n 0, 1) := dk_42 (dk_at dksX11_decide_8 5 rfl rfl)
theorem dX11_decide_192 : decode cX11_decide 192 = .ok (.invokevirtual 635, 3) := dk_182 2 123 (dk_at dksX11_decide_8 6 rfl rfl)
theorem dX11_decide_195 : decode cX11_decide 195 = .ok (.ireturn, 1) := dk_172 (dk_at dksX11_decide_8 9 rfl rfl)
abbrev cX11_rowOf : ByteArray := prog_17_method_78_code
def yX11_rowOf : MethodName := ⟨RX11, "rowOf", "(I)I"⟩
def dkwX11_rowOf_1 : List UInt8 := [132, 2, 1, 167, 255, 233, 2, 172]
abbrev dktX11_rowOf_1 : List UInt8 := dkwX11_rowOf_1 ++ []
def dkwX11_rowOf_0 : List UInt8 := [3, 61, 28, 42, 180, 2, 22, 162, 0, 21, 42, 180, 2, 87, 28, 46, 27, 160, 0, 5, 28, 172]
abbrev dktX11_rowOf_0 : List UInt8 := dkwX11_rowOf_0 ++ dktX11_rowOf_1
theorem dksX11_rowOf_0 : cX11_rowOf.data.toList.drop 0 = dktX11_rowOf_0 := by decide +kernel
theorem dksX11_rowOf_1 : cX11_rowOf.data.toList.drop 22 = dktX11_rowOf_1 := dk_seg dksX11_rowOf_0 22 rfl rfl
theorem dX11_rowOf_0 : decode cX11_rowOf 0 = .ok (.iconst 0, 1) := dk_3 (dk_at dksX11_rowOf_0 0 rfl rfl)
theorem dX11_rowOf_1 : decode cX11_rowOf 1 = .ok (.istore_n 2, 1) := dk_61 (dk_at dksX11_rowOf_0 1 rfl rfl)
theorem dX11_rowOf_2 : decode cX11_rowOf 2 = .ok (.iload_n 2, 1) := dk_28 (dk_at dksX11_rowOf_0 2 rfl rfl)
theorem dX11_rowOf_3 : decode cX11_rowOf 3 = .ok (.aload_n 0, 1) := dk_42 (dk_at dksX11_rowOf_0 3 rfl rfl)
theorem dX11_rowOf_4 : decode cX11_rowOf 4 = .ok (.getfield 534, 3) := dk_180 2 22 (dk_at dksX11_rowOf_0 4 rfl rfl)
theorem dX11_rowOf_7 : decode cX11_rowOf 7 = .ok (.if_icmp .ge 21, 3) := dk_162 0 21 (dk_at dksX11_rowOf_0 7 rfl rfl)
theorem dX11_rowOf_10 : decode cX11_rowOf 10 = .ok (.aload_n 0, 1) := dk_42 (dk_at dksX11_rowOf_0 10 rfl rfl)
theorem dX11_rowOf_11 : decode cX11_rowOf 11 = .ok (.getfield 599, 3) := dk_180 2 87 (dk_at dksX11_rowOf_0 11 rfl rfl)
theorem dX11_rowOf_14 : decode cX11_rowOf 14 = .ok (.iload_n 2, 1) := dk_28 (dk_at dksX11_rowOf_0 14 rfl rfl)
theorem dX11_rowOf_15 : decode cX11_rowOf 15 = .ok (.iaload, 1) := dk_46 (dk_at dksX11_rowOf_0 15 rfl rfl)
theorem dX11_rowOf_16 : decode cX11_rowOf 16 = .ok (.iload_n 1, 1) := dk_27 (dk_at dksX11_rowOf_0 16 rfl rfl)
theorem dX11_rowOf_17 : decode cX11_rowOf 17 = .ok (.if_icmp .ne 5, 3) := dk_160 0 5 (dk_at dksX11_rowOf_0 17 rfl rfl)
theorem dX11_rowOf_20 : decode cX11_rowOf 20 = .ok (.iload_n 2, 1) := dk_28 (dk_at dksX11_rowOf_0 20 rfl rfl)
theorem dX11_rowOf_21 : decode cX11_rowOf 21 = .ok (.ireturn, 1) := dk_172 (dk_at dksX11_rowOf_0 21 rfl rfl)
theorem dX11_rowOf_22 : decode cX11_rowOf 22 = .ok (.iinc 2 1, 3) := dk_132 2 1 (dk_at dksX11_rowOf_1 0 rfl rfl)
theorem dX11_rowOf_25 : decode cX11_rowOf 25 = .ok (.goto (-23), 3) := dk_167 255 233 (dk_at dksX11_rowOf_1 3 rfl rfl)
theorem dX11_rowOf_28 : decode cX11_rowOf 28 = .ok (.iconst (-1), 1) := dk_2 (dk_at dksX11_rowOf_1 6 rfl rfl)
theorem dX11_rowOf_29 : decode cX11_rowOf 29 = .ok (.ireturn, 1) := dk_172 (dk_at dksX11_rowOf_1 7 rfl rfl)
abbrev cX11_rowsOn : ByteArray := prog_17_method_79_code
def yX11_rowsOn : MethodName := ⟨RX11, "rowsOn", "()I"⟩
def dkwX11_rowsOn_1 : List UInt8 := [167, 0, 4, 3, 96, 60, 132, 2, 1, 167, 255, 228, 27, 172]
abbrev dktX11_rowsOn_1 : List UInt8 := dkwX11_rowsOn_1 ++ []
def dkwX11_rowsOn_0 : List UInt8 := [3, 60, 3, 61, 28, 42, 180, 2, 22, 162, 0, 26, 27, 42, 180, 2, 93, 28, 51, 153, 0, 7, 4]
abbrev dktX11_rowsOn_0 : List UInt8 := dkwX11_rowsOn_0 ++ dktX11_rowsOn_1
theorem dksX11_rowsOn_0 : cX11_rowsOn.data.toList.drop 0 = dktX11_rowsOn_0 := by decide +kernel
theorem dksX11_rowsOn_1 : cX11_rowsOn.data.toList.drop 23 = dktX11_rowsOn_1 := dk_seg dksX11_rowsOn_0 23 rfl rfl
theorem dX11_rowsOn_0 : decode cX11_rowsOn 0 = .ok (.iconst 0, 1) := dk_3 (dk_at dksX11_rowsOn_0 0 rfl rfl)
theorem dX11_rowsOn_1 : decode cX11_rowsOn 1 = .ok (.istore_n 1, 1) := dk_60 (dk_at dksX11_rowsOn_0 1 rfl rfl)
theorem dX11_rowsOn_2 : decode cX11_rowsOn 2 = .ok (.iconst 0, 1) := dk_3 (dk_at dksX11_rowsOn_0 2 rfl rfl)
theorem dX11_rowsOn_3 : decode cX11_rowsOn 3 = .ok (.istore_n 2, 1) := dk_61 (dk_at dksX11_rowsOn_0 3 rfl rfl)
theorem dX11_rowsOn_4 : decode cX11_rowsOn 4 = .ok (.iload_n 2, 1) := dk_28 (dk_at dksX11_rowsOn_0 4 rfl rfl)
theorem dX11_rowsOn_5 : decode cX11_rowsOn 5 = .ok (.aload_n 0, 1) := dk_42 (dk_at dksX11_rowsOn_0 5 rfl rfl)
theorem dX11_rowsOn_6 : decode cX11_rowsOn 6 = .ok (.getfield 534, 3) := dk_180 2 22 (dk_at dksX11_rowsOn_0 6 rfl rfl)
theorem dX11_rowsOn_9 : decode cX11_rowsOn 9 = .ok (.if_icmp .ge 26, 3) := dk_162 0 26 (dk_at dksX11_rowsOn_0 9 rfl rfl)
theorem dX11_rowsOn_12 : decode cX11_rowsOn 12 = .ok (.iload_n 1, 1) := dk_27 (dk_at dksX11_rowsOn_0 12 rfl rfl)
theorem dX11_rowsOn_13 : decode cX11_rowsOn 13 = .ok (.aload_n 0, 1) := dk_42 (dk_at dksX11_rowsOn_0 13 rfl rfl)
theorem dX11_rowsOn_14 : decode cX11_rowsOn 14 = .ok (.getfield 605, 3) := dk_180 2 93 (dk_at dksX11_rowsOn_0 14 rfl rfl)
theorem dX11_rowsOn_17 : decode cX11_rowsOn 17 = .ok (.iload_n 2, 1) := dk_28 (dk_at dksX11_rowsOn_0 17 rfl rfl)
theorem dX11_rowsOn_18 : decode cX11_rowsOn 18 = .ok (.baload, 1) := dk_51 (dk_at dksX11_rowsOn_0 18 rfl rfl)
theorem dX11_rowsOn_19 : decode cX11_rowsOn 19 = .ok (.ifCond .eq 7, 3) := dk_153 0 7 (dk_at dksX11_rowsOn_0 19 rfl rfl)
theorem dX11_rowsOn_22 : decode cX11_rowsOn 22 = .ok (.iconst 1, 1) := dk_4 (dk_at dksX11_rowsOn_0 22 rfl rfl)
theorem dX11_rowsOn_23 : decode cX11_rowsOn 23 = .ok (.goto 4, 3) := dk_167 0 4 (dk_at dksX11_rowsOn_1 0 rfl rfl)
theorem dX11_rowsOn_26 : decode cX11_rowsOn 26 = .ok (.iconst 0, 1) := dk_3 (dk_at dksX11_rowsOn_1 3 rfl rfl)
theorem dX11_rowsOn_27 : decode cX11_rowsOn 27 = .ok (.iadd, 1) := dk_96 (dk_at dksX11_rowsOn_1 4 rfl rfl)
theorem dX11_rowsOn_28 : decode cX11_rowsOn 28 = .ok (.istore_n 1, 1) := dk_60 (dk_at dksX11_rowsOn_1 5 rfl rfl)
theorem dX11_rowsOn_29 : decode cX11_rowsOn 29 = .ok (.iinc 2 1, 3) := dk_132 2 1 (dk_at dksX11_rowsOn_1 6 rfl rfl)
theorem dX11_rowsOn_32 : decode cX11_rowsOn 32 = .ok (.goto (-28), 3) := dk_167 255 228 (dk_at dksX11_rowsOn_1 9 rfl rfl)
theorem dX11_rowsOn_35 : decode cX11_rowsOn 35 = .ok (.iload_n 1, 1) := dk_27 (dk_at dksX11_rowsOn_1 12 rfl rfl)
theorem dX11_rowsOn_36 : decode cX11_rowsOn 36 = .ok (.ireturn, 1) := dk_172 (dk_at dksX11_rowsOn_1 13 rfl rfl)
abbrev cX11_sheets : ByteArray := prog_17_method_84_code
def yX11_sheets : MethodName := ⟨RX11, "sheets", "(II)I"⟩
def dkwX11_sheets_4 : List UInt8 := [172, 29, 21, 5, 158, 0, 7, 4, 167, 0, 4, 3, 96, 62, 132, 4, 1, 167, 255, 148, 2, 172]
abbrev dktX11_sheets_4 : List UInt8 := dkwX11_sheets_4 ++ []
def dkwX11_sheets_3 : List UInt8 := [160, 0, 25, 28, 154, 0, 8, 21, 4, 167, 0, 15, 28, 4, 160, 0, 8, 21, 5, 167, 0, 5, 16, 254]
abbrev dktX11_sheets_3 : List UInt8 := dkwX11_sheets_3 ++ dktX11_sheets_4
def dkwX11_sheets_2 : List UInt8 := [160, 0, 7, 4, 167, 0, 4, 3, 96, 54, 5, 132, 6, 1, 167, 255, 212, 21, 5, 158, 0, 30, 29, 27]
abbrev dktX11_sheets_2 : List UInt8 := dkwX11_sheets_2 ++ dktX11_sheets_3
def dkwX11_sheets_1 : List UInt8 := [162, 0, 41, 21, 5, 42, 180, 2, 93, 21, 6, 51, 153, 0, 19, 42, 180, 2, 90, 21, 6, 46, 21, 4]
abbrev dktX11_sheets_1 : List UInt8 := dkwX11_sheets_1 ++ dktX11_sheets_2
def dkwX11_sheets_0 : List UInt8 := [3, 62, 4, 54, 4, 21, 4, 16, 64, 162, 0, 107, 3, 54, 5, 3, 54, 6, 21, 6, 42, 180, 2, 22]
abbrev dktX11_sheets_0 : List UInt8 := dkwX11_sheets_0 ++ dktX11_sheets_1
theorem dksX11_sheets_0 : cX11_sheets.data.toList.drop 0 = dktX11_sheets_0 := by decide +kernel
theorem dksX11_sheets_1 : cX11_sheets.data.toList.drop 24 = dktX11_sheets_1 := dk_seg dksX11_sheets_0 24 rfl rfl
theorem dksX11_sheets_2 : cX11_sheets.data.toList.drop 48 = dktX11_sheets_2 := dk_seg dksX11_sheets_1 24 rfl rfl
theorem dksX11_sheets_3 : cX11_sheets.data.toList.drop 72 = dktX11_sheets_3 := dk_seg dksX11_sheets_2 24 rfl rfl
theorem dksX11_sheets_4 : cX11_sheets.data.toList.drop 96 = dktX11_sheets_4 := dk_seg dksX11_sheets_3 24 rfl rfl
theorem dX11_sheets_0 : decode cX11_sheets 0 = .ok (.iconst 0, 1) := dk_3 (dk_at dksX11_sheets_0 0 rfl rfl)
theorem dX11_sheets_1 : decode cX11_sheets 1 = .ok (.istore_n 3, 1) := dk_62 (dk_at dksX11_sheets_0 1 rfl rfl)
theorem dX11_sheets_2 : decode cX11_sheets 2 = .ok (.iconst 1, 1) := dk_4 (dk_at dksX11_sheets_0 2 rfl rfl)
theorem dX11_sheets_3 : decode cX11_sheets 3 = .ok (.istore 4, 2) := dk_54 4 (dk_at dksX11_sheets_0 3 rfl rfl)
theorem dX11_sheets_5 : decode cX11_sheets 5 = .ok (.iload 4, 2) := dk_21 4 (dk_at dksX11_sheets_0 5 rfl rfl)
theorem dX11_sheets_7 : decode cX11_sheets 7 = .ok (.bipush 64, 2) := dk_16 64 (dk_at dksX11_sheets_0 7 rfl rfl)
theorem dX11_sheets_9 : decode cX11_sheets 9 = .ok (.if_icmp .ge 107, 3) := dk_162 0 107 (dk_at dksX11_sheets_0 9 rfl rfl)
theorem dX11_sheets_12 : decode cX11_sheets 12 = .ok (.iconst 0, 1) := dk_3 (dk_at dksX11_sheets_0 12 rfl rfl)
theorem dX11_sheets_13 : decode cX11_sheets 13 = .ok (.istore 5, 2) := dk_54 5 (dk_at dksX11_sheets_0 13 rfl rfl)
theorem dX11_sheets_15 : decode cX11_sheets 15 = .ok (.iconst 0, 1) := dk_3 (dk_at dksX11_sheets_0 15 rfl rfl)
theorem dX11_sheets_16 : decode cX11_sheets 16 = .ok (.istore 6, 2) := dk_54 6 (dk_at dksX11_sheets_0 16 rfl rfl)
theorem dX11_sheets_18 : decode cX11_sheets 18 = .ok (.iload 6, 2) := dk_21 6 (dk_at dksX11_sheets_0 18 rfl rfl)
theorem dX11_sheets_20 : decode cX11_sheets 20 = .ok (.aload_n 0, 1) := dk_42 (dk_at dksX11_sheets_0 20 rfl rfl)
theorem dX11_sheets_21 : decode cX11_sheets 21 = .ok (.getfield 534, 3) := dk_180 2 22 (dk_at dksX11_sheets_0 21 rfl rfl)
theorem dX11_sheets_24 : decode cX11_sheets 24 = .ok (.if_icmp .ge 41, 3) := dk_162 0 41 (dk_at dksX11_sheets_1 0 rfl rfl)
theorem dX11_sheets_27 : decode cX11_sheets 27 = .ok (.iload 5, 2) := dk_21 5 (dk_at dksX11_sheets_1 3 rfl rfl)
theorem dX11_sheets_29 : decode cX11_sheets 29 = .ok (.aload_n 0, 1) := dk_42 (dk_at dksX11_sheets_1 5 rfl rfl)
theorem dX11_sheets_30 : decode cX11_sheets 30 = .ok (.getfield 605, 3) := dk_180 2 93 (dk_at dksX11_sheets_1 6 rfl rfl)
theorem dX11_sheets_33 : decode cX11_sheets 33 = .ok (.iload 6, 2) := dk_21 6 (dk_at dksX11_sheets_1 9 rfl rfl)
theorem dX11_sheets_35 : decode cX11_sheets 35 = .ok (.baload, 1) := dk_51 (dk_at dksX11_sheets_1 11 rfl rfl)
theorem dX11_sheets_36 : decode cX11_sheets 36 = .ok (.ifCond .eq 19, 3) := dk_153 0 19 (dk_at dksX11_sheets_1 12 rfl rfl)
theorem dX11_sheets_39 : decode cX11_sheets 39 = .ok (.aload_n 0, 1) := dk_42 (dk_at dksX11_sheets_1 15 rfl rfl)
theorem dX11_sheets_40 : decode cX11_sheets 40 = .ok (.getfield 602, 3) := dk_180 2 90 (dk_at dksX11_sheets_1 16 rfl rfl)
theorem dX11_sheets_43 : decode cX11_sheets 43 = .ok (.iload 6, 2) := dk_21 6 (dk_at dksX11_sheets_1 19 rfl rfl)
theorem dX11_sheets_45 : decode cX11_sheets 45 = .ok (.iaload, 1) := dk_46 (dk_at dksX11_sheets_1 21 rfl rfl)
theorem dX11_sheets_46 : decode cX11_sheets 46 = .ok (.iload 4, 2) := dk_21 4 (dk_at dksX11_sheets_1 22 rfl rfl)
theorem dX11_sheets_48 : decode cX11_sheets 48 = .ok (.if_icmp .ne 7, 3) := dk_160 0 7 (dk_at dksX11_sheets_2 0 rfl rfl)
theorem dX11_sheets_51 : decode cX11_sheets 51 = .ok (.iconst 1, 1) := dk_4 (dk_at dksX11_sheets_2 3 rfl rfl)
theorem dX11_sheets_52 : decode cX11_sheets 52 = .ok (.goto 4, 3) := dk_167 0 4 (dk_at dksX11_sheets_2 4 rfl rfl)
theorem dX11_sheets_55 : decode cX11_sheets 55 = .ok (.iconst 0, 1) := dk_3 (dk_at dksX11_sheets_2 7 rfl rfl)
theorem dX11_sheets_56 : decode cX11_sheets 56 = .ok (.iadd, 1) := dk_96 (dk_at dksX11_sheets_2 8 rfl rfl)
theorem dX11_sheets_57 : decode cX11_sheets 57 = .ok (.istore 5, 2) := dk_54 5 (dk_at dksX11_sheets_2 9 rfl rfl)
theorem dX11_sheets_59 : decode cX11_sheets 59 = .ok (.iinc 6 1, 3) := dk_132 6 1 (dk_at dksX11_sheets_2 11 rfl rfl)
theorem dX11_sheets_62 : decode cX11_sheets 62 = .ok (.goto (-44), 3) := dk_167 255 212 (dk_at dksX11_sheets_2 14 rfl rfl)
theorem dX11_sheets_65 : decode cX11_sheets 65 = .ok (.iload 5, 2) := dk_21 5 (dk_at dksX11_sheets_2 17 rfl rfl)
theorem dX11_sheets_67 : decode cX11_sheets 67 = .ok (.ifCond .le 30, 3) := dk_158 0 30 (dk_at dksX11_sheets_2 19 rfl rfl)
theorem dX11_sheets_70 : decode cX11_sheets 70 = .ok (.iload_n 3, 1) := dk_29 (dk_at dksX11_sheets_2 22 rfl rfl)
theorem dX11_sheets_71 : decode cX11_sheets 71 = .ok (.iload_n 1, 1) := dk_27 (dk_at dksX11_sheets_2 23 rfl rfl)
theorem dX11_sheets_72 : decode cX11_sheets 72 = .ok (.if_icmp .ne 25, 3) := dk_160 0 25 (dk_at dksX11_sheets_3 0 rfl rfl)
theorem dX11_sheets_75 : decode cX11_sheets 75 = .ok (.iload_n 2, 1) := dk_28 (dk_at dksX11_sheets_3 3 rfl rfl)
theorem dX11_sheets_76 : decode cX11_sheets 76 = .ok (.ifCond .ne 8, 3) := dk_154 0 8 (dk_at dksX11_sheets_3 4 rfl rfl)
theorem dX11_sheets_79 : decode cX11_sheets 79 = .ok (.iload 4, 2) := dk_21 4 (dk_at dksX11_sheets_3 7 rfl rfl)
theorem dX11_sheets_81 : decode cX11_sheets 81 = .ok (.goto 15, 3) := dk_167 0 15 (dk_at dksX11_sheets_3 9 rfl rfl)
theorem dX11_sheets_84 : decode cX11_sheets 84 = .ok (.iload_n 2, 1) := dk_28 (dk_at dksX11_sheets_3 12 rfl rfl)
theorem dX11_sheets_85 : decode cX11_sheets 85 = .ok (.iconst 1, 1) := dk_4 (dk_at dksX11_sheets_3 13 rfl rfl)
theorem dX11_sheets_86 : decode cX11_sheets 86 = .ok (.if_icmp .ne 8, 3) := dk_160 0 8 (dk_at dksX11_sheets_3 14 rfl rfl)
theorem dX11_sheets_89 : decode cX11_sheets 89 = .ok (.iload 5, 2) := dk_21 5 (dk_at dksX11_sheets_3 17 rfl rfl)
theorem dX11_sheets_91 : decode cX11_sheets 91 = .ok (.goto 5, 3) := dk_167 0 5 (dk_at dksX11_sheets_3 19 rfl rfl)
theorem dX11_sheets_94 : decode cX11_sheets 94 = .ok (.bipush (-2), 2) := dk_16 254 (dk_at dksX11_sheets_3 22 rfl rfl)
theorem dX11_sheets_96 : decode cX11_sheets 96 = .ok (.ireturn, 1) := dk_172 (dk_at dksX11_sheets_4 0 rfl rfl)
theorem dX11_sheets_97 : decode cX11_sheets 97 = .ok (.iload_n 3, 1) := dk_29 (dk_at dksX11_sheets_4 1 rfl rfl)
theorem dX11_sheets_98 : decode cX11_sheets 98 = .ok (.iload 5, 2) := dk_21 5 (dk_at dksX11_sheets_4 2 rfl rfl)
theorem dX11_sheets_100 : decode cX11_sheets 100 = .ok (.ifCond .le 7, 3) := dk_158 0 7 (dk_at dksX11_sheets_4 4 rfl rfl)
theorem dX11_sheets_103 : decode cX11_sheets 103 = .ok (.iconst 1, 1) := dk_4 (dk_at dksX11_sheets_4 7 rfl rfl)
theorem dX11_sheets_104 : decode cX11_sheets 104 = .ok (.goto 4, 3) := dk_167 0 4 (dk_at dksX11_sheets_4 8 rfl rfl)
theorem dX11_sheets_107 : decode cX11_sheets 107 = .ok (.iconst 0, 1) := dk_3 (dk_at dksX11_sheets_4 11 rfl rfl)
theorem dX11_sheets_108 : decode cX11_sheets 108 = .ok (.iadd, 1) := dk_96 (dk_at dksX11_sheets_4 12 rfl rfl)
theorem dX11_sheets_109 : decode cX11_sheets 109 = .ok (.istore_n 3, 1) := dk_62 (dk_at dksX11_sheets_4 13 rfl rfl)
theorem dX11_sheets_110 : decode cX11_sheets 110 = .ok (.iinc 4 1, 3) := dk_132 4 1 (dk_at dksX11_sheets_4 14 rfl rfl)
theorem dX11_sheets_113 : decode cX11_sheets 113 = .ok (.goto (-108), 3) := dk_167 255 148 (dk_at dksX11_sheets_4 17 rfl rfl)
theorem dX11_sheets_116 : decode cX11_sheets 116 = .ok (.iconst (-1), 1) := dk_2 (dk_at dksX11_sheets_4 20 rfl rfl)
theorem dX11_sheets_117 : decode cX11_sheets 117 = .ok (.ireturn, 1) := dk_172 (dk_at dksX11_sheets_4 21 rfl rfl)
abbrev cX11_candidate : ByteArray := prog_17_method_86_code
def yX11_candidate : MethodName := ⟨RX11, "candidate", "(III)I"⟩
def dkwX11_candidate_4 : List UInt8 := [3, 172, 42, 180, 2, 96, 21, 4, 46, 172, 16, 254, 172]
abbrev dktX11_candidate_4 : List UInt8 := dkwX11_candidate_4 ++ []
def dkwX11_candidate_3 : List UInt8 := [46, 172, 42, 180, 2, 102, 21, 4, 46, 172, 42, 180, 2, 55, 21, 4, 51, 153, 0, 7, 4, 167, 0, 4]
abbrev dktX11_candidate_3 : List UInt8 := dkwX11_candidate_3 ++ dktX11_candidate_4
def dkwX11_candidate_2 : List UInt8 := [42, 180, 2, 66, 42, 180, 2, 96, 21, 4, 46, 46, 172, 42, 180, 2, 72, 42, 180, 2, 96, 21, 4, 46]
abbrev dktX11_candidate_2 : List UInt8 := dkwX11_candidate_2 ++ dktX11_candidate_3
def dkwX11_candidate_1 : List UInt8 := [170, 0, 0, 0, 0, 0, 0, 94, 0, 0, 0, 0, 0, 0, 0, 4, 0, 0, 0, 36, 0, 0, 0, 49, 0, 0, 0, 62, 0, 0, 0, 70, 0, 0, 0, 86]
abbrev dktX11_candidate_1 : List UInt8 := dkwX11_candidate_1 ++ dktX11_candidate_2
def dkwX11_candidate_0 : List UInt8 := [42, 27, 28, 182, 2, 126, 154, 0, 5, 2, 172, 16, 9, 27, 104, 28, 96, 54, 4, 29]
abbrev dktX11_candidate_0 : List UInt8 := dkwX11_candidate_0 ++ dktX11_candidate_1
theorem dksX11_candidate_0 : cX11_candidate.data.toList.drop 0 = dktX11_candidate_0 := by decide +kernel
theorem dksX11_candidate_1 : cX11_candidate.data.toList.drop 20 = dktX11_candidate_1 := dk_seg dksX11_candidate_0 20 rfl rfl
theorem dksX11_candidate_2 : cX11_candidate.data.toList.drop 56 = dktX11_candidate_2 := dk_seg dksX11_candidate_1 36 rfl rfl
theorem dksX11_candidate_3 : cX11_candidate.data.toList.drop 80 = dktX11_candidate_3 := dk_seg dksX11_candidate_2 24 rfl rfl
theorem dksX11_candidate_4 : cX11_candidate.data.toList.drop 104 = dktX11_candidate_4 := dk_seg dksX11_candidate_3 24 rfl rfl
theorem dX11_candidate_0 : decode cX11_candidate 0 = .ok (.aload_n 0, 1) := dk_42 (dk_at dksX11_candidate_0 0 rfl rfl)
theorem dX11_candidate_1 : decode cX11_candidate 1 = .ok (.iload_n 1, 1) := dk_27 (dk_at dksX11_candidate_0 1 rfl rfl)
theorem dX11_candidate_2 : decode cX11_candidate 2 = .ok (.iload_n 2, 1) := dk_28 (dk_at dksX11_candidate_0 2 rfl rfl)
theorem dX11_candidate_3 : decode cX11_candidate 3 = .ok (.invokevirtual 638, 3) := dk_182 2 126 (dk_at dksX11_candidate_0 3 rfl rfl)
theorem dX11_candidate_6 : decode cX11_candidate 6 = .ok (.ifCond .ne 5, 3) := dk_154 0 5 (dk_at dksX11_candidate_0 6 rfl rfl)
theorem dX11_candidate_9 : decode cX11_candidate 9 = .ok (.iconst (-1), 1) := dk_2 (dk_at dksX11_candidate_0 9 rfl rfl)
theorem dX11_candidate_10 : decode cX11_candidate 10 = .ok (.ireturn, 1) := dk_172 (dk_at dksX11_candidate_0 10 rfl rfl)
theorem dX11_candidate_11 : decode cX11_candidate 11 = .ok (.bipush 9, 2) := dk_16 9 (dk_at dksX11_candidate_0 11 rfl rfl)
theorem dX11_candidate_13 : decode cX11_candidate 13 = .ok (.iload_n 1, 1) := dk_27 (dk_at dksX11_candidate_0 13 rfl rfl)
theorem dX11_candidate_14 : decode cX11_candidate 14 = .ok (.imul, 1) := dk_104 (dk_at dksX11_candidate_0 14 rfl rfl)
theorem dX11_candidate_15 : decode cX11_candidate 15 = .ok (.iload_n 2, 1) := dk_28 (dk_at dksX11_candidate_0 15 rfl rfl)
theorem dX11_candidate_16 : decode cX11_candidate 16 = .ok (.iadd, 1) := dk_96 (dk_at dksX11_candidate_0 16 rfl rfl)
theorem dX11_candidate_17 : decode cX11_candidate 17 = .ok (.istore 4, 2) := dk_54 4 (dk_at dksX11_candidate_0 17 rfl rfl)
theorem dX11_candidate_19 : decode cX11_candidate 19 = .ok (.iload_n 3, 1) := dk_29 (dk_at dksX11_candidate_0 19 rfl rfl)
theorem dX11_candidate_20 : decode cX11_candidate 20 = .ok (.tableswitch 94 0 4 #[36, 49, 62, 70, 86], 36) := by decide +kernel
theorem dX11_candidate_56 : decode cX11_candidate 56 = .ok (.aload_n 0, 1) := dk_42 (dk_at dksX11_candidate_2 0 rfl rfl)
theorem dX11_candidate_57 : decode cX11_candidate 57 = .ok (.getfield 578, 3) := dk_180 2 66 (dk_at dksX11_candidate_2 1 rfl rfl)
theorem dX11_candidate_60 : decode cX11_candidate 60 = .ok (.aload_n 0, 1) := dk_42 (dk_at dksX11_candidate_2 4 rfl rfl)
theorem dX11_candidate_61 : decode cX11_candidate 61 = .ok (.getfield 608, 3) := dk_180 2 96 (dk_at dksX11_candidate_2 5 rfl rfl)
theorem dX11_candidate_64 : decode cX11_candidate 64 = .ok (.iload 4, 2) := dk_21 4 (dk_at dksX11_candidate_2 8 rfl rfl)
theorem dX11_candidate_66 : decode cX11_candidate 66 = .ok (.iaload, 1) := dk_46 (dk_at dksX11_candidate_2 10 rfl rfl)
theorem dX11_candidate_67 : decode cX11_candidate 67 = .ok (.iaload, 1) := dk_46 (dk_at dksX11_candidate_2 11 rfl rfl)
theorem dX11_candidate_68 : decode cX11_candidate 68 = .ok (.ireturn, 1) := dk_172 (dk_at dksX11_candidate_2 12 rfl rfl)
theorem dX11_candidate_69 : decode cX11_candidate 69 = .ok (.aload_n 0, 1) := dk_42 (dk_at dksX11_candidate_2 13 rfl rfl)
theorem dX11_candidate_70 : decode cX11_candidate 70 = .ok (.getfield 584, 3) := dk_180 2 72 (dk_at dksX11_candidate_2 14 rfl rfl)
theorem dX11_candidate_73 : decode cX11_candidate 73 = .ok (.aload_n 0, 1) := dk_42 (dk_at dksX11_candidate_2 17 rfl rfl)
theorem dX11_candidate_74 : decode cX11_candidate 74 = .ok (.getfield 608, 3) := dk_180 2 96 (dk_at dksX11_candidate_2 18 rfl rfl)
theorem dX11_candidate_77 : decode cX11_candidate 77 = .ok (.iload 4, 2) := dk_21 4 (dk_at dksX11_candidate_2 21 rfl rfl)
theorem dX11_candidate_79 : decode cX11_candidate 79 = .ok (.iaload, 1) := dk_46 (dk_at dksX11_candidate_2 23 rfl rfl)
theorem dX11_candidate_80 : decode cX11_candidate 80 = .ok (.iaload, 1) := dk_46 (dk_at dksX11_candidate_3 0 rfl rfl)
theorem dX11_candidate_81 : decode cX11_candidate 81 = .ok (.ireturn, 1) := dk_172 (dk_at dksX11_candidate_3 1 rfl rfl)
theorem dX11_candidate_82 : decode cX11_candidate 82 = .ok (.aload_n 0, 1) := dk_42 (dk_at dksX11_candidate_3 2 rfl rfl)
theorem dX11_candidate_83 : decode cX11_candidate 83 = .ok (.getfield 614, 3) := dk_180 2 102 (dk_at dksX11_candidate_3 3 rfl rfl)
theorem dX11_candidate_86 : decode cX11_candidate 86 = .ok (.iload 4, 2) := dk_21 4 (dk_at dksX11_candidate_3 6 rfl rfl)
theorem dX11_candidate_88 : decode cX11_candidate 88 = .ok (.iaload, 1) := dk_46 (dk_at dksX11_candidate_3 8 rfl rfl)
theorem dX11_candidate_89 : decode cX11_candidate 89 = .ok (.ireturn, 1) := dk_172 (dk_at dksX11_candidate_3 9 rfl rfl)
theorem dX11_candidate_90 : decode cX11_candidate 90 = .ok (.aload_n 0, 1) := dk_42 (dk_at dksX11_candidate_3 10 rfl rfl)
theorem dX11_candidate_91 : decode cX11_candidate 91 = .ok (.getfield 567, 3) := dk_180 2 55 (dk_at dksX11_candidate_3 11 rfl rfl)
theorem dX11_candidate_94 : decode cX11_candidate 94 = .ok (.iload 4, 2) := dk_21 4 (dk_at dksX11_candidate_3 14 rfl rfl)
theorem dX11_candidate_96 : decode cX11_candidate 96 = .ok (.baload, 1) := dk_51 (dk_at dksX11_candidate_3 16 rfl rfl)
theorem dX11_candidate_97 : decode cX11_candidate 97 = .ok (.ifCond .eq 7, 3) := dk_153 0 7 (dk_at dksX11_candidate_3 17 rfl rfl)
theorem dX11_candidate_100 : decode cX11_candidate 100 = .ok (.iconst 1, 1) := dk_4 (dk_at dksX11_candidate_3 20 rfl rfl)
theorem dX11_candidate_101 : decode cX11_candidate 101 = .ok (.goto 4, 3) := dk_167 0 4 (dk_at dksX11_candidate_3 21 rfl rfl)
theorem dX11_candidate_104 : decode cX11_candidate 104 = .ok (.iconst 0, 1) := dk_3 (dk_at dksX11_candidate_4 0 rfl rfl)
theorem dX11_candidate_105 : decode cX11_candidate 105 = .ok (.ireturn, 1) := dk_172 (dk_at dksX11_candidate_4 1 rfl rfl)
theorem dX11_candidate_106 : decode cX11_candidate 106 = .ok (.aload_n 0, 1) := dk_42 (dk_at dksX11_candidate_4 2 rfl rfl)
theorem dX11_candidate_107 : decode cX11_candidate 107 = .ok (.getfield 608, 3) := dk_180 2 96 (dk_at dksX11_candidate_4 3 rfl rfl)
theorem dX11_candidate_110 : decode cX11_candidate 110 = .ok (.iload 4, 2) := dk_21 4 (dk_at dksX11_candidate_4 6 rfl rfl)
theorem dX11_candidate_112 : decode cX11_candidate 112 = .ok (.iaload, 1) := dk_46 (dk_at dksX11_candidate_4 8 rfl rfl)
theorem dX11_candidate_113 : decode cX11_candidate 113 = .ok (.ireturn, 1) := dk_172 (dk_at dksX11_candidate_4 9 rfl rfl)
theorem dX11_candidate_114 : decode cX11_candidate 114 = .ok (.bipush (-2), 2) := dk_16 254 (dk_at dksX11_candidate_4 10 rfl rfl)
theorem dX11_candidate_116 : decode cX11_candidate 116 = .ok (.ireturn, 1) := dk_172 (dk_at dksX11_candidate_4 12 rfl rfl)
abbrev cX11_isCandidate : ByteArray := prog_17_method_85_code
def yX11_isCandidate : MethodName := ⟨RX11, "isCandidate", "(II)Z"⟩
def dkwX11_isCandidate_1 : List UInt8 := [153, 0, 7, 4, 167, 0, 4, 3, 172]
abbrev dktX11_isCandidate_1 : List UInt8 := dkwX11_isCandidate_1 ++ []
def dkwX11_isCandidate_0 : List UInt8 := [42, 27, 182, 1, 224, 153, 0, 25, 28, 133, 9, 42, 180, 1, 232, 27, 46, 4, 100, 133, 184, 0, 13]
abbrev dktX11_isCandidate_0 : List UInt8 := dkwX11_isCandidate_0 ++ dktX11_isCandidate_1
theorem dksX11_isCandidate_0 : cX11_isCandidate.data.toList.drop 0 = dktX11_isCandidate_0 := by decide +kernel
theorem dksX11_isCandidate_1 : cX11_isCandidate.data.toList.drop 23 = dktX11_isCandidate_1 := dk_seg dksX11_isCandidate_0 23 rfl rfl
theorem dX11_isCandidate_0 : decode cX11_isCandidate 0 = .ok (.aload_n 0, 1) := dk_42 (dk_at dksX11_isCandidate_0 0 rfl rfl)
theorem dX11_isCandidate_1 : decode cX11_isCandidate 1 = .ok (.iload_n 1, 1) := dk_27 (dk_at dksX11_isCandidate_0 1 rfl rfl)
theorem dX11_isCandidate_2 : decode cX11_isCandidate 2 = .ok (.invokevirtual 480, 3) := dk_182 1 224 (dk_at dksX11_isCandidate_0 2 rfl rfl)
theorem dX11_isCandidate_5 : decode cX11_isCandidate 5 = .ok (.ifCond .eq 25, 3) := dk_153 0 25 (dk_at dksX11_isCandidate_0 5 rfl rfl)
theorem dX11_isCandidate_8 : decode cX11_isCandidate 8 = .ok (.iload_n 2, 1) := dk_28 (dk_at dksX11_isCandidate_0 8 rfl rfl)
theorem dX11_isCandidate_9 : decode cX11_isCandidate 9 = .ok (.i2l, 1) := dk_133 (dk_at dksX11_isCandidate_0 9 rfl rfl)
theorem dX11_isCandidate_10 : decode cX11_isCandidate 10 = .ok (.lconst 0, 1) := dk_9 (dk_at dksX11_isCandidate_0 10 rfl rfl)
theorem dX11_isCandidate_11 : decode cX11_isCandidate 11 = .ok (.aload_n 0, 1) := dk_42 (dk_at dksX11_isCandidate_0 11 rfl rfl)
theorem dX11_isCandidate_12 : decode cX11_isCandidate 12 = .ok (.getfield 488, 3) := dk_180 1 232 (dk_at dksX11_isCandidate_0 12 rfl rfl)
theorem dX11_isCandidate_15 : decode cX11_isCandidate 15 = .ok (.iload_n 1, 1) := dk_27 (dk_at dksX11_isCandidate_0 15 rfl rfl)
theorem dX11_isCandidate_16 : decode cX11_isCandidate 16 = .ok (.iaload, 1) := dk_46 (dk_at dksX11_isCandidate_0 16 rfl rfl)
theorem dX11_isCandidate_17 : decode cX11_isCandidate 17 = .ok (.iconst 1, 1) := dk_4 (dk_at dksX11_isCandidate_0 17 rfl rfl)
theorem dX11_isCandidate_18 : decode cX11_isCandidate 18 = .ok (.isub, 1) := dk_100 (dk_at dksX11_isCandidate_0 18 rfl rfl)
theorem dX11_isCandidate_19 : decode cX11_isCandidate 19 = .ok (.i2l, 1) := dk_133 (dk_at dksX11_isCandidate_0 19 rfl rfl)
theorem dX11_isCandidate_20 : decode cX11_isCandidate 20 = .ok (.invokestatic 13, 3) := dk_184 0 13 (dk_at dksX11_isCandidate_0 20 rfl rfl)
theorem dX11_isCandidate_23 : decode cX11_isCandidate 23 = .ok (.ifCond .eq 7, 3) := dk_153 0 7 (dk_at dksX11_isCandidate_1 0 rfl rfl)
theorem dX11_isCandidate_26 : decode cX11_isCandidate 26 = .ok (.iconst 1, 1) := dk_4 (dk_at dksX11_isCandidate_1 3 rfl rfl)
theorem dX11_isCandidate_27 : decode cX11_isCandidate 27 = .ok (.goto 4, 3) := dk_167 0 4 (dk_at dksX11_isCandidate_1 4 rfl rfl)
theorem dX11_isCandidate_30 : decode cX11_isCandidate 30 = .ok (.iconst 0, 1) := dk_3 (dk_at dksX11_isCandidate_1 7 rfl rfl)
theorem dX11_isCandidate_31 : decode cX11_isCandidate 31 = .ok (.ireturn, 1) := dk_172 (dk_at dksX11_isCandidate_1 8 rfl rfl)
abbrev cX11_lots : ByteArray := prog_17_method_88_code
def yX11_lots : MethodName := ⟨RX11, "lots", "(IJ)I"⟩
def dkwX11_lots_8 : List UInt8 := [182, 0, 22, 42, 180, 1, 232, 27, 46, 172]
abbrev dktX11_lots_8 : List UInt8 := dkwX11_lots_8 ++ []
def dkwX11_lots_7 : List UInt8 := [96, 21, 7, 79, 132, 7, 1, 167, 255, 222, 42, 16, 14, 27, 32, 16, 32, 123, 136, 32, 136, 3]
abbrev dktX11_lots_7 : List UInt8 := dkwX11_lots_7 ++ dktX11_lots_8
def dkwX11_lots_6 : List UInt8 := [180, 1, 232, 27, 46, 162, 0, 29, 42, 180, 2, 102, 21, 4, 42, 180, 2, 99, 21, 4, 21, 7, 96, 46]
abbrev dktX11_lots_6 : List UInt8 := dkwX11_lots_6 ++ dktX11_lots_7
def dkwX11_lots_5 : List UInt8 := [180, 2, 99, 21, 4, 21, 8, 96, 21, 9, 79, 132, 7, 255, 167, 255, 182, 3, 54, 7, 21, 7, 42]
abbrev dktX11_lots_5 : List UInt8 := dkwX11_lots_5 ++ dktX11_lots_6
def dkwX11_lots_4 : List UInt8 := [54, 9, 42, 180, 2, 99, 21, 4, 21, 7, 96, 42, 180, 2, 99, 21, 4, 21, 8, 96, 46, 79, 42]
abbrev dktX11_lots_4 : List UInt8 := dkwX11_lots_4 ++ dktX11_lots_5
def dkwX11_lots_3 : List UInt8 := [22, 5, 16, 33, 125, 21, 7, 4, 96, 133, 113, 136, 54, 8, 42, 180, 2, 99, 21, 4, 21, 7, 96, 46]
abbrev dktX11_lots_3 : List UInt8 := dkwX11_lots_3 ++ dktX11_lots_4
def dkwX11_lots_2 : List UInt8 := [42, 180, 1, 232, 27, 46, 4, 100, 54, 7, 21, 7, 4, 161, 0, 74, 22, 5, 184, 2, 133, 55, 5]
abbrev dktX11_lots_2 : List UInt8 := dkwX11_lots_2 ++ dktX11_lots_3
def dkwX11_lots_1 : List UInt8 := [27, 51, 153, 0, 6, 16, 252, 172, 42, 180, 2, 34, 27, 4, 84, 16, 9, 27, 104, 54, 4, 32, 55, 5]
abbrev dktX11_lots_1 : List UInt8 := dkwX11_lots_1 ++ dktX11_lots_2
def dkwX11_lots_0 : List UInt8 := [42, 27, 182, 1, 224, 154, 0, 5, 2, 172, 42, 180, 2, 19, 154, 0, 6, 16, 253, 172, 42, 180, 2, 34]
abbrev dktX11_lots_0 : List UInt8 := dkwX11_lots_0 ++ dktX11_lots_1
theorem dksX11_lots_0 : cX11_lots.data.toList.drop 0 = dktX11_lots_0 := by decide +kernel
theorem dksX11_lots_1 : cX11_lots.data.toList.drop 24 = dktX11_lots_1 := dk_seg dksX11_lots_0 24 rfl rfl
theorem dksX11_lots_2 : cX11_lots.data.toList.drop 48 = dktX11_lots_2 := dk_seg dksX11_lots_1 24 rfl rfl
theorem dksX11_lots_3 : cX11_lots.data.toList.drop 71 = dktX11_lots_3 := dk_seg dksX11_lots_2 23 rfl rfl
theorem dksX11_lots_4 : cX11_lots.data.toList.drop 95 = dktX11_lots_4 := dk_seg dksX11_lots_3 24 rfl rfl
theorem dksX11_lots_5 : cX11_lots.data.toList.drop 118 = dktX11_lots_5 := dk_seg dksX11_lots_4 23 rfl rfl
theorem dksX11_lots_6 : cX11_lots.data.toList.drop 141 = dktX11_lots_6 := dk_seg dksX11_lots_5 23 rfl rfl
theorem dksX11_lots_7 : cX11_lots.data.toList.drop 165 = dktX11_lots_7 := dk_seg dksX11_lots_6 24 rfl rfl
theorem dksX11_lots_8 : cX11_lots.data.toList.drop 187 = dktX11_lots_8 := dk_seg dksX11_lots_7 22 rfl rfl
theorem dX11_lots_0 : decode cX11_lots 0 = .ok (.aload_n 0, 1) := dk_42 (dk_at dksX11_lots_0 0 rfl rfl)
theorem dX11_lots_1 : decode cX11_lots 1 = .ok (.iload_n 1, 1) := dk_27 (dk_at dksX11_lots_0 1 rfl rfl)
theorem dX11_lots_2 : decode cX11_lots 2 = .ok (.invokevirtual 480, 3) := dk_182 1 224 (dk_at dksX11_lots_0 2 rfl rfl)
theorem dX11_lots_5 : decode cX11_lots 5 = .ok (.ifCond .ne 5, 3) := dk_154 0 5 (dk_at dksX11_lots_0 5 rfl rfl)
theorem dX11_lots_8 : decode cX11_lots 8 = .ok (.iconst (-1), 1) := dk_2 (dk_at dksX11_lots_0 8 rfl rfl)
theorem dX11_lots_9 : decode cX11_lots 9 = .ok (.ireturn, 1) := dk_172 (dk_at dksX11_lots_0 9 rfl rfl)
theorem dX11_lots_10 : decode cX11_lots 10 = .ok (.aload_n 0, 1) := dk_42 (dk_at dksX11_lots_0 10 rfl rfl)
theorem dX11_lots_11 : decode cX11_lots 11 = .ok (.getfield 531, 3) := dk_180 2 19 (dk_at dksX11_lots_0 11 rfl rfl)
theorem dX11_lots_14 : decode cX11_lots 14 = .ok (.ifCond .ne 6, 3) := dk_154 0 6 (dk_at dksX11_lots_0 14 rfl rfl)
theorem dX11_lots_17 : decode cX11_lots 17 = .ok (.bipush (-3), 2) := dk_16 253 (dk_at dksX11_lots_0 17 rfl rfl)
theorem dX11_lots_19 : decode cX11_lots 19 = .ok (.ireturn, 1) := dk_172 (dk_at dksX11_lots_0 19 rfl rfl)
theorem dX11_lots_20 : decode cX11_lots 20 = .ok (.aload_n 0, 1) := dk_42 (dk_at dksX11_lots_0 20 rfl rfl)
theorem dX11_lots_21 : decode cX11_lots 21 = .ok (.getfield 546, 3) := dk_180 2 34 (dk_at dksX11_lots_0 21 rfl rfl)
theorem dX11_lots_24 : decode cX11_lots 24 = .ok (.iload_n 1, 1) := dk_27 (dk_at dksX11_lots_1 0 rfl rfl)
theorem dX11_lots_25 : decode cX11_lots 25 = .ok (.baload, 1) := dk_51 (dk_at dksX11_lots_1 1 rfl rfl)
theorem dX11_lots_26 : decode cX11_lots 26 = .ok (.ifCond .eq 6, 3) := dk_153 0 6 (dk_at dksX11_lots_1 2 rfl rfl)
theorem dX11_lots_29 : decode cX11_lots 29 = .ok (.bipush (-4), 2) := dk_16 252 (dk_at dksX11_lots_1 5 rfl rfl)
theorem dX11_lots_31 : decode cX11_lots 31 = .ok (.ireturn, 1) := dk_172 (dk_at dksX11_lots_1 7 rfl rfl)
theorem dX11_lots_32 : decode cX11_lots 32 = .ok (.aload_n 0, 1) := dk_42 (dk_at dksX11_lots_1 8 rfl rfl)
theorem dX11_lots_33 : decode cX11_lots 33 = .ok (.getfield 546, 3) := dk_180 2 34 (dk_at dksX11_lots_1 9 rfl rfl)
theorem dX11_lots_36 : decode cX11_lots 36 = .ok (.iload_n 1, 1) := dk_27 (dk_at dksX11_lots_1 12 rfl rfl)
theorem dX11_lots_37 : decode cX11_lots 37 = .ok (.iconst 1, 1) := dk_4 (dk_at dksX11_lots_1 13 rfl rfl)
theorem dX11_lots_38 : decode cX11_lots 38 = .ok (.bastore, 1) := dk_84 (dk_at dksX11_lots_1 14 rfl rfl)
theorem dX11_lots_39 : decode cX11_lots 39 = .ok (.bipush 9, 2) := dk_16 9 (dk_at dksX11_lots_1 15 rfl rfl)
theorem dX11_lots_41 : decode cX11_lots 41 = .ok (.iload_n 1, 1) := dk_27 (dk_at dksX11_lots_1 17 rfl rfl)
theorem dX11_lots_42 : decode cX11_lots 42 = .ok (.imul, 1) := dk_104 (dk_at dksX11_lots_1 18 rfl rfl)
theorem dX11_lots_43 : decode cX11_lots 43 = .ok (.istore 4, 2) := dk_54 4 (dk_at dksX11_lots_1 19 rfl rfl)
theorem dX11_lots_45 : decode cX11_lots 45 = .ok (.lload_n 2, 1) := dk_32 (dk_at dksX11_lots_1 21 rfl rfl)
theorem dX11_lots_46 : decode cX11_lots 46 = .ok (.lstore 5, 2) := dk_55 5 (dk_at dksX11_lots_1 22 rfl rfl)
theorem dX11_lots_48 : decode cX11_lots 48 = .ok (.aload_n 0, 1) := dk_42 (dk_at dksX11_lots_2 0 rfl rfl)
theorem dX11_lots_49 : decode cX11_lots 49 = .ok (.getfield 488, 3) := dk_180 1 232 (dk_at dksX11_lots_2 1 rfl rfl)
theorem dX11_lots_52 : decode cX11_lots 52 = .ok (.iload_n 1, 1) := dk_27 (dk_at dksX11_lots_2 4 rfl rfl)
theorem dX11_lots_53 : decode cX11_lots 53 = .ok (.iaload, 1) := dk_46 (dk_at dksX11_lots_2 5 rfl rfl)
theorem dX11_lots_54 : decode cX11_lots 54 = .ok (.iconst 1, 1) := dk_4 (dk_at dksX11_lots_2 6 rfl rfl)
theorem dX11_lots_55 : decode cX11_lots 55 = .ok (.isub, 1) := dk_100 (dk_at dksX11_lots_2 7 rfl rfl)
theorem dX11_lots_56 : decode cX11_lots 56 = .ok (.istore 7, 2) := dk_54 7 (dk_at dksX11_lots_2 8 rfl rfl)
theorem dX11_lots_58 : decode cX11_lots 58 = .ok (.iload 7, 2) := dk_21 7 (dk_at dksX11_lots_2 10 rfl rfl)
theorem dX11_lots_60 : decode cX11_lots 60 = .ok (.iconst 1, 1) := dk_4 (dk_at dksX11_lots_2 12 rfl rfl)
theorem dX11_lots_61 : decode cX11_lots 61 = .ok (.if_icmp .lt 74, 3) := dk_161 0 74 (dk_at dksX11_lots_2 13 rfl rfl)
theorem dX11_lots_64 : decode cX11_lots 64 = .ok (.lload 5, 2) := dk_22 5 (dk_at dksX11_lots_2 16 rfl rfl)
theorem dX11_lots_66 : decode cX11_lots 66 = .ok (.invokestatic 645, 3) := dk_184 2 133 (dk_at dksX11_lots_2 18 rfl rfl)
theorem dX11_lots_69 : decode cX11_lots 69 = .ok (.lstore 5, 2) := dk_55 5 (dk_at dksX11_lots_2 21 rfl rfl)
theorem dX11_lots_71 : decode cX11_lots 71 = .ok (.lload 5, 2) := dk_22 5 (dk_at dksX11_lots_3 0 rfl rfl)
theorem dX11_lots_73 : decode cX11_lots 73 = .ok (.bipush 33, 2) := dk_16 33 (dk_at dksX11_lots_3 2 rfl rfl)
theorem dX11_lots_75 : decode cX11_lots 75 = .ok (.lushr, 1) := dk_125 (dk_at dksX11_lots_3 4 rfl rfl)
theorem dX11_lots_76 : decode cX11_lots 76 = .ok (.iload 7, 2) := dk_21 7 (dk_at dksX11_lots_3 5 rfl rfl)
theorem dX11_lots_78 : decode cX11_lots 78 = .ok (.iconst 1, 1) := dk_4 (dk_at dksX11_lots_3 7 rfl rfl)
theorem dX11_lots_79 : decode cX11_lots 79 = .ok (.iadd, 1) := dk_96 (dk_at dksX11_lots_3 8 rfl rfl)
theorem dX11_lots_80 : decode cX11_lots 80 = .ok (.i2l, 1) := dk_133 (dk_at dksX11_lots_3 9 rfl rfl)
theorem dX11_lots_81 : decode cX11_lots 81 = .ok (.lrem, 1) := dk_113 (dk_at dksX11_lots_3 10 rfl rfl)
theorem dX11_lots_82 : decode cX11_lots 82 = .ok (.l2i, 1) := dk_136 (dk_at dksX11_lots_3 11 rfl rfl)
theorem dX11_lots_83 : decode cX11_lots 83 = .ok (.istore 8, 2) := dk_54 8 (dk_at dksX11_lots_3 12 rfl rfl)
theorem dX11_lots_85 : decode cX11_lots 85 = .ok (.aload_n 0, 1) := dk_42 (dk_at dksX11_lots_3 14 rfl rfl)
theorem dX11_lots_86 : decode cX11_lots 86 = .ok (.getfield 611, 3) := dk_180 2 99 (dk_at dksX11_lots_3 15 rfl rfl)
theorem dX11_lots_89 : decode cX11_lots 89 = .ok (.iload 4, 2) := dk_21 4 (dk_at dksX11_lots_3 18 rfl rfl)
theorem dX11_lots_91 : decode cX11_lots 91 = .ok (.iload 7, 2) := dk_21 7 (dk_at dksX11_lots_3 20 rfl rfl)
theorem dX11_lots_93 : decode cX11_lots 93 = .ok (.iadd, 1) := dk_96 (dk_at dksX11_lots_3 22 rfl rfl)
theorem dX11_lots_94 : decode cX11_lots 94 = .ok (.iaload, 1) := dk_46 (dk_at dksX11_lots_3 23 rfl rfl)
theorem dX11_lots_95 : decode cX11_lots 95 = .ok (.istore 9, 2) := dk_54 9 (dk_at dksX11_lots_4 0 rfl rfl)
theorem dX11_lots_97 : decode cX11_lots 97 = .ok (.aload_n 0, 1) := dk_42 (dk_at dksX11_lots_4 2 rfl rfl)
theorem dX11_lots_98 : decode cX11_lots 98 = .ok (.getfield 611, 3) := dk_180 2 99 (dk_at dksX11_lots_4 3 rfl rfl)
theorem dX11_lots_101 : decode cX11_lots 101 = .ok (.iload 4, 2) := dk_21 4 (dk_at dksX11_lots_4 6 rfl rfl)
theorem dX11_lots_103 : decode cX11_lots 103 = .ok (.iload 7, 2) := dk_21 7 (dk_at dksX11_lots_4 8 rfl rfl)
theorem dX11_lots_105 : decode cX11_lots 105 = .ok (.iadd, 1) := dk_96 (dk_at dksX11_lots_4 10 rfl rfl)
theorem dX11_lots_106 : decode cX11_lots 106 = .ok (.aload_n 0, 1) := dk_42 (dk_at dksX11_lots_4 11 rfl rfl)
theorem dX11_lots_107 : decode cX11_lots 107 = .ok (.getfield 611, 3) := dk_180 2 99 (dk_at dksX11_lots_4 12 rfl rfl)
theorem dX11_lots_110 : decode cX11_lots 110 = .ok (.iload 4, 2) := dk_21 4 (dk_at dksX11_lots_4 15 rfl rfl)
theorem dX11_lots_112 : decode cX11_lots 112 = .ok (.iload 8, 2) := dk_21 8 (dk_at dksX11_lots_4 17 rfl rfl)
theorem dX11_lots_114 : decode cX11_lots 114 = .ok (.iadd, 1) := dk_96 (dk_at dksX11_lots_4 19 rfl rfl)
theorem dX11_lots_115 : decode cX11_lots 115 = .ok (.iaload, 1) := dk_46 (dk_at dksX11_lots_4 20 rfl rfl)
theorem dX11_lots_116 : decode cX11_lots 116 = .ok (.iastore, 1) := dk_79 (dk_at dksX11_lots_4 21 rfl rfl)
theorem dX11_lots_117 : decode cX11_lots 117 = .ok (.aload_n 0, 1) := dk_42 (dk_at dksX11_lots_4 22 rfl rfl)
theorem dX11_lots_118 : decode cX11_lots 118 = .ok (.getfield 611, 3) := dk_180 2 99 (dk_at dksX11_lots_5 0 rfl rfl)
theorem dX11_lots_121 : decode cX11_lots 121 = .ok (.iload 4, 2) := dk_21 4 (dk_at dksX11_lots_5 3 rfl rfl)
theorem dX11_lots_123 : decode cX11_lots 123 = .ok (.iload 8, 2) := dk_21 8 (dk_at dksX11_lots_5 5 rfl rfl)
theorem dX11_lots_125 : decode cX11_lots 125 = .ok (.iadd, 1) := dk_96 (dk_at dksX11_lots_5 7 rfl rfl)
theorem dX11_lots_126 : decode cX11_lots 126 = .ok (.iload 9, 2) := dk_21 9 (dk_at dksX11_lots_5 8 rfl rfl)
theorem dX11_lots_128 : decode cX11_lots 128 = .ok (.iastore, 1) := dk_79 (dk_at dksX11_lots_5 10 rfl rfl)
theorem dX11_lots_129 : decode cX11_lots 129 = .ok (.iinc 7 (-1), 3) := dk_132 7 255 (dk_at dksX11_lots_5 11 rfl rfl)
theorem dX11_lots_132 : decode cX11_lots 132 = .ok (.goto (-74), 3) := dk_167 255 182 (dk_at dksX11_lots_5 14 rfl rfl)
theorem dX11_lots_135 : decode cX11_lots 135 = .ok (.iconst 0, 1) := dk_3 (dk_at dksX11_lots_5 17 rfl rfl)
theorem dX11_lots_136 : decode cX11_lots 136 = .ok (.istore 7, 2) := dk_54 7 (dk_at dksX11_lots_5 18 rfl rfl)
theorem dX11_lots_138 : decode cX11_lots 138 = .ok (.iload 7, 2) := dk_21 7 (dk_at dksX11_lots_5 20 rfl rfl)
theorem dX11_lots_140 : decode cX11_lots 140 = .ok (.aload_n 0, 1) := dk_42 (dk_at dksX11_lots_5 22 rfl rfl)
theorem dX11_lots_141 : decode cX11_lots 141 = .ok (.getfield 488, 3) := dk_180 1 232 (dk_at dksX11_lots_6 0 rfl rfl)
theorem dX11_lots_144 : decode cX11_lots 144 = .ok (.iload_n 1, 1) := dk_27 (dk_at dksX11_lots_6 3 rfl rfl)
theorem dX11_lots_145 : decode cX11_lots 145 = .ok (.iaload, 1) := dk_46 (dk_at dksX11_lots_6 4 rfl rfl)
theorem dX11_lots_146 : decode cX11_lots 146 = .ok (.if_icmp .ge 29, 3) := dk_162 0 29 (dk_at dksX11_lots_6 5 rfl rfl)
theorem dX11_lots_149 : decode cX11_lots 149 = .ok (.aload_n 0, 1) := dk_42 (dk_at dksX11_lots_6 8 rfl rfl)
theorem dX11_lots_150 : decode cX11_lots 150 = .ok (.getfield 614, 3) := dk_180 2 102 (dk_at dksX11_lots_6 9 rfl rfl)
theorem dX11_lots_153 : decode cX11_lots 153 = .ok (.iload 4, 2) := dk_21 4 (dk_at dksX11_lots_6 12 rfl rfl)
theorem dX11_lots_155 : decode cX11_lots 155 = .ok (.aload_n 0, 1) := dk_42 (dk_at dksX11_lots_6 14 rfl rfl)
theorem dX11_lots_156 : decode cX11_lots 156 = .ok (.getfield 611, 3) := dk_180 2 99 (dk_at dksX11_lots_6 15 rfl rfl)
theorem dX11_lots_159 : decode cX11_lots 159 = .ok (.iload 4, 2) := dk_21 4 (dk_at dksX11_lots_6 18 rfl rfl)
theorem dX11_lots_161 : decode cX11_lots 161 = .ok (.iload 7, 2) := dk_21 7 (dk_at dksX11_lots_6 20 rfl rfl)
theorem dX11_lots_163 : decode cX11_lots 163 = .ok (.iadd, 1) := dk_96 (dk_at dksX11_lots_6 22 rfl rfl)
theorem dX11_lots_164 : decode cX11_lots 164 = .ok (.iaload, 1) := dk_46 (dk_at dksX11_lots_6 23 rfl rfl)
theorem dX11_lots_165 : decode cX11_lots 165 = .ok (.iadd, 1) := dk_96 (dk_at dksX11_lots_7 0 rfl rfl)
theorem dX11_lots_166 : decode cX11_lots 166 = .ok (.iload 7, 2) := dk_21 7 (dk_at dksX11_lots_7 1 rfl rfl)
theorem dX11_lots_168 : decode cX11_lots 168 = .ok (.iastore, 1) := dk_79 (dk_at dksX11_lots_7 3 rfl rfl)
theorem dX11_lots_169 : decode cX11_lots 169 = .ok (.iinc 7 1, 3) := dk_132 7 1 (dk_at dksX11_lots_7 4 rfl rfl)
theorem dX11_lots_172 : decode cX11_lots 172 = .ok (.goto (-34), 3) := dk_167 255 222 (dk_at dksX11_lots_7 7 rfl rfl)
theorem dX11_lots_175 : decode cX11_lots 175 = .ok (.aload_n 0, 1) := dk_42 (dk_at dksX11_lots_7 10 rfl rfl)
theorem dX11_lots_176 : decode cX11_lots 176 = .ok (.bipush 14, 2) := dk_16 14 (dk_at dksX11_lots_7 11 rfl rfl)
theorem dX11_lots_178 : decode cX11_lots 178 = .ok (.iload_n 1, 1) := dk_27 (dk_at dksX11_lots_7 13 rfl rfl)
theorem dX11_lots_179 : decode cX11_lots 179 = .ok (.lload_n 2, 1) := dk_32 (dk_at dksX11_lots_7 14 rfl rfl)
theorem dX11_lots_180 : decode cX11_lots 180 = .ok (.bipush 32, 2) := dk_16 32 (dk_at dksX11_lots_7 15 rfl rfl)
theorem dX11_lots_182 : decode cX11_lots 182 = .ok (.lshr, 1) := dk_123 (dk_at dksX11_lots_7 17 rfl rfl)
theorem dX11_lots_183 : decode cX11_lots 183 = .ok (.l2i, 1) := dk_136 (dk_at dksX11_lots_7 18 rfl rfl)
theorem dX11_lots_184 : decode cX11_lots 184 = .ok (.lload_n 2, 1) := dk_32 (dk_at dksX11_lots_7 19 rfl rfl)
theorem dX11_lots_185 : decode cX11_lots 185 = .ok (.l2i, 1) := dk_136 (dk_at dksX11_lots_7 20 rfl rfl)
theorem dX11_lots_186 : decode cX11_lots 186 = .ok (.iconst 0, 1) := dk_3 (dk_at dksX11_lots_7 21 rfl rfl)
theorem dX11_lots_187 : decode cX11_lots 187 = .ok (.invokevirtual 22, 3) := dk_182 0 22 (dk_at dksX11_lots_8 0 rfl rfl)
theorem dX11_lots_190 : decode cX11_lots 190 = .ok (.aload_n 0, 1) := dk_42 (dk_at dksX11_lots_8 3 rfl rfl)
theorem dX11_lots_191 : decode cX11_lots 191 = .ok (.getfield 488, 3) := dk_180 1 232 (dk_at dksX11_lots_8 4 rfl rfl)
theorem dX11_lots_194 : decode cX11_lots 194 = .ok (.iload_n 1, 1) := dk_27 (dk_at dksX11_lots_8 7 rfl rfl)
theorem dX11_lots_195 : decode cX11_lots 195 = .ok (.iaload, 1) := dk_46 (dk_at dksX11_lots_8 8 rfl rfl)
theorem dX11_lots_196 : decode cX11_lots 196 = .ok (.ireturn, 1) := dk_172 (dk_at dksX11_lots_8 9 rfl rfl)
abbrev cX11_nextOf : ByteArray := prog_17_method_87_code
def yX11_nextOf : MethodName := ⟨RX11, "nextOf", "(J)J"⟩
def dkwX11_nextOf_0 : List UInt8 := [30, 20, 2, 129, 105, 20, 2, 131, 97, 173]
abbrev dktX11_nextOf_0 : List UInt8 := dkwX11_nextOf_0 ++ []
theorem dksX11_nextOf_0 : cX11_nextOf.data.toList.drop 0 = dktX11_nextOf_0 := by decide +kernel
theorem dX11_nextOf_0 : decode cX11_nextOf 0 = .ok (.lload_n 0, 1) := dk_30 (dk_at dksX11_nextOf_0 0 rfl rfl)
theorem dX11_nextOf_1 : decode cX11_nextOf 1 = .ok (.ldc2_w 641, 3) := dk_20 2 129 (dk_at dksX11_nextOf_0 1 rfl rfl)
theorem dX11_nextOf_4 : decode cX11_nextOf 4 = .ok (.lmul, 1) := dk_105 (dk_at dksX11_nextOf_0 4 rfl rfl)
theorem dX11_nextOf_5 : decode cX11_nextOf 5 = .ok (.ldc2_w 643, 3) := dk_20 2 131 (dk_at dksX11_nextOf_0 5 rfl rfl)
theorem dX11_nextOf_8 : decode cX11_nextOf 8 = .ok (.ladd, 1) := dk_97 (dk_at dksX11_nextOf_0 8 rfl rfl)
theorem dX11_nextOf_9 : decode cX11_nextOf 9 = .ok (.lreturn, 1) := dk_173 (dk_at dksX11_nextOf_0 9 rfl rfl)
abbrev cX11_station : ByteArray := prog_17_method_90_code
def yX11_station : MethodName := ⟨RX11, "station", "()I"⟩
def dkwX11_station_3 : List UInt8 := [90, 4, 96, 181, 2, 28, 172]
abbrev dktX11_station_3 : List UInt8 := dkwX11_station_3 ++ []
def dkwX11_station_2 : List UInt8 := [180, 2, 140, 42, 180, 2, 28, 3, 84, 42, 16, 15, 3, 3, 3, 3, 182, 0, 22, 42, 89, 180, 2, 28]
abbrev dktX11_station_2 : List UInt8 := dkwX11_station_2 ++ dktX11_station_3
def dkwX11_station_1 : List UInt8 := [42, 180, 2, 28, 16, 6, 160, 0, 6, 16, 251, 172, 42, 180, 2, 137, 42, 180, 2, 28, 3, 79, 42]
abbrev dktX11_station_1 : List UInt8 := dkwX11_station_1 ++ dktX11_station_2
def dkwX11_station_0 : List UInt8 := [42, 180, 0, 141, 154, 0, 5, 2, 172, 42, 180, 0, 17, 42, 6, 182, 1, 210, 164, 0, 6, 16, 253, 172]
abbrev dktX11_station_0 : List UInt8 := dkwX11_station_0 ++ dktX11_station_1
theorem dksX11_station_0 : cX11_station.data.toList.drop 0 = dktX11_station_0 := by decide +kernel
theorem dksX11_station_1 : cX11_station.data.toList.drop 24 = dktX11_station_1 := dk_seg dksX11_station_0 24 rfl rfl
theorem dksX11_station_2 : cX11_station.data.toList.drop 47 = dktX11_station_2 := dk_seg dksX11_station_1 23 rfl rfl
theorem dksX11_station_3 : cX11_station.data.toList.drop 71 = dktX11_station_3 := dk_seg dksX11_station_2 24 rfl rfl
theorem dX11_station_0 : decode cX11_station 0 = .ok (.aload_n 0, 1) := dk_42 (dk_at dksX11_station_0 0 rfl rfl)
theorem dX11_station_1 : decode cX11_station 1 = .ok (.getfield 141, 3) := dk_180 0 141 (dk_at dksX11_station_0 1 rfl rfl)
theorem dX11_station_4 : decode cX11_station 4 = .ok (.ifCond .ne 5, 3) := dk_154 0 5 (dk_at dksX11_station_0 4 rfl rfl)
theorem dX11_station_7 : decode cX11_station 7 = .ok (.iconst (-1), 1) := dk_2 (dk_at dksX11_station_0 7 rfl rfl)
theorem dX11_station_8 : decode cX11_station 8 = .ok (.ireturn, 1) := dk_172 (dk_at dksX11_station_0 8 rfl rfl)
theorem dX11_station_9 : decode cX11_station 9 = .ok (.aload_n 0, 1) := dk_42 (dk_at dksX11_station_0 9 rfl rfl)
theorem dX11_station_10 : decode cX11_station 10 = .ok (.getfield 17, 3) := dk_180 0 17 (dk_at dksX11_station_0 10 rfl rfl)
theorem dX11_station_13 : decode cX11_station 13 = .ok (.aload_n 0, 1) := dk_42 (dk_at dksX11_station_0 13 rfl rfl)
theorem dX11_station_14 : decode cX11_station 14 = .ok (.iconst 3, 1) := dk_6 (dk_at dksX11_station_0 14 rfl rfl)
theorem dX11_station_15 : decode cX11_station 15 = .ok (.invokevirtual 466, 3) := dk_182 1 210 (dk_at dksX11_station_0 15 rfl rfl)
theorem dX11_station_18 : decode cX11_station 18 = .ok (.if_icmp .le 6, 3) := dk_164 0 6 (dk_at dksX11_station_0 18 rfl rfl)
theorem dX11_station_21 : decode cX11_station 21 = .ok (.bipush (-3), 2) := dk_16 253 (dk_at dksX11_station_0 21 rfl rfl)
theorem dX11_station_23 : decode cX11_station 23 = .ok (.ireturn, 1) := dk_172 (dk_at dksX11_station_0 23 rfl rfl)
theorem dX11_station_24 : decode cX11_station 24 = .ok (.aload_n 0, 1) := dk_42 (dk_at dksX11_station_1 0 rfl rfl)
theorem dX11_station_25 : decode cX11_station 25 = .ok (.getfield 540, 3) := dk_180 2 28 (dk_at dksX11_station_1 1 rfl rfl)
theorem dX11_station_28 : decode cX11_station 28 = .ok (.bipush 6, 2) := dk_16 6 (dk_at dksX11_station_1 4 rfl rfl)
theorem dX11_station_30 : decode cX11_station 30 = .ok (.if_icmp .ne 6, 3) := dk_160 0 6 (dk_at dksX11_station_1 6 rfl rfl)
theorem dX11_station_33 : decode cX11_station 33 = .ok (.bipush (-5), 2) := dk_16 251 (dk_at dksX11_station_1 9 rfl rfl)
theorem dX11_station_35 : decode cX11_station 35 = .ok (.ireturn, 1) := dk_172 (dk_at dksX11_station_1 11 rfl rfl)
theorem dX11_station_36 : decode cX11_station 36 = .ok (.aload_n 0, 1) := dk_42 (dk_at dksX11_station_1 12 rfl rfl)
theorem dX11_station_37 : decode cX11_station 37 = .ok (.getfield 649, 3) := dk_180 2 137 (dk_at dksX11_station_1 13 rfl rfl)
theorem dX11_station_40 : decode cX11_station 40 = .ok (.aload_n 0, 1) := dk_42 (dk_at dksX11_station_1 16 rfl rfl)
theorem dX11_station_41 : decode cX11_station 41 = .ok (.getfield 540, 3) := dk_180 2 28 (dk_at dksX11_station_1 17 rfl rfl)
theorem dX11_station_44 : decode cX11_station 44 = .ok (.iconst 0, 1) := dk_3 (dk_at dksX11_station_1 20 rfl rfl)
theorem dX11_station_45 : decode cX11_station 45 = .ok (.iastore, 1) := dk_79 (dk_at dksX11_station_1 21 rfl rfl)
theorem dX11_station_46 : decode cX11_station 46 = .ok (.aload_n 0, 1) := dk_42 (dk_at dksX11_station_1 22 rfl rfl)
theorem dX11_station_47 : decode cX11_station 47 = .ok (.getfield 652, 3) := dk_180 2 140 (dk_at dksX11_station_2 0 rfl rfl)
theorem dX11_station_50 : decode cX11_station 50 = .ok (.aload_n 0, 1) := dk_42 (dk_at dksX11_station_2 3 rfl rfl)
theorem dX11_station_51 : decode cX11_station 51 = .ok (.getfield 540, 3) := dk_180 2 28 (dk_at dksX11_station_2 4 rfl rfl)
theorem dX11_station_54 : decode cX11_station 54 = .ok (.iconst 0, 1) := dk_3 (dk_at dksX11_station_2 7 rfl rfl)
theorem dX11_station_55 : decode cX11_station 55 = .ok (.bastore, 1) := dk_84 (dk_at dksX11_station_2 8 rfl rfl)
theorem dX11_station_56 : decode cX11_station 56 = .ok (.aload_n 0, 1) := dk_42 (dk_at dksX11_station_2 9 rfl rfl)
theorem dX11_station_57 : decode cX11_station 57 = .ok (.bipush 15, 2) := dk_16 15 (dk_at dksX11_station_2 10 rfl rfl)
theorem dX11_station_59 : decode cX11_station 59 = .ok (.iconst 0, 1) := dk_3 (dk_at dksX11_station_2 12 rfl rfl)
theorem dX11_station_60 : decode cX11_station 60 = .ok (.iconst 0, 1) := dk_3 (dk_at dksX11_station_2 13 rfl rfl)
theorem dX11_station_61 : decode cX11_station 61 = .ok (.iconst 0, 1) := dk_3 (dk_at dksX11_station_2 14 rfl rfl)
theorem dX11_station_62 : decode cX11_station 62 = .ok (.iconst 0, 1) := dk_3 (dk_at dksX11_station_2 15 rfl rfl)
theorem dX11_station_63 : decode cX11_station 63 = .ok (.invokevirtual 22, 3) := dk_182 0 22 (dk_at dksX11_station_2 16 rfl rfl)
theorem dX11_station_66 : decode cX11_station 66 = .ok (.aload_n 0, 1) := dk_42 (dk_at dksX11_station_2 19 rfl rfl)
theorem dX11_station_67 : decode cX11_station 67 = .ok (.dup, 1) := dk_89 (dk_at dksX11_station_2 20 rfl rfl)
theorem dX11_station_68 : decode cX11_station 68 = .ok (.getfield 540, 3) := dk_180 2 28 (dk_at dksX11_station_2 21 rfl rfl)
theorem dX11_station_71 : decode cX11_station 71 = .ok (.dup_x1, 1) := dk_90 (dk_at dksX11_station_3 0 rfl rfl)
theorem dX11_station_72 : decode cX11_station 72 = .ok (.iconst 1, 1) := dk_4 (dk_at dksX11_station_3 1 rfl rfl)
theorem dX11_station_73 : decode cX11_station 73 = .ok (.iadd, 1) := dk_96 (dk_at dksX11_station_3 2 rfl rfl)
theorem dX11_station_74 : decode cX11_station 74 = .ok (.putfield 540, 3) := dk_181 2 28 (dk_at dksX11_station_3 3 rfl rfl)
theorem dX11_station_77 : decode cX11_station 77 = .ok (.ireturn, 1) := dk_172 (dk_at dksX11_station_3 6 rfl rfl)
abbrev cX11_clock : ByteArray := prog_17_method_91_code
def yX11_clock : MethodName := ⟨RX11, "clock", "(II)I"⟩
def dkwX11_clock_2 : List UInt8 := [182, 0, 22, 29, 172]
abbrev dktX11_clock_2 : List UInt8 := dkwX11_clock_2 ++ []
def dkwX11_clock_1 : List UInt8 := [172, 42, 180, 2, 137, 27, 46, 62, 42, 180, 2, 137, 27, 28, 79, 42, 16, 16, 27, 28, 3, 3]
abbrev dktX11_clock_1 : List UInt8 := dkwX11_clock_1 ++ dktX11_clock_2
def dkwX11_clock_0 : List UInt8 := [42, 27, 182, 2, 143, 154, 0, 5, 2, 172, 28, 133, 9, 20, 0, 124, 184, 0, 13, 154, 0, 6, 16, 254]
abbrev dktX11_clock_0 : List UInt8 := dkwX11_clock_0 ++ dktX11_clock_1
theorem dksX11_clock_0 : cX11_clock.data.toList.drop 0 = dktX11_clock_0 := by decide +kernel
theorem dksX11_clock_1 : cX11_clock.data.toList.drop 24 = dktX11_clock_1 := dk_seg dksX11_clock_0 24 rfl rfl
theorem dksX11_clock_2 : cX11_clock.data.toList.drop 46 = dktX11_clock_2 := dk_seg dksX11_clock_1 22 rfl rfl
theorem dX11_clock_0 : decode cX11_clock 0 = .ok (.aload_n 0, 1) := dk_42 (dk_at dksX11_clock_0 0 rfl rfl)
theorem dX11_clock_1 : decode cX11_clock 1 = .ok (.iload_n 1, 1) := dk_27 (dk_at dksX11_clock_0 1 rfl rfl)
theorem dX11_clock_2 : decode cX11_clock 2 = .ok (.invokevirtual 655, 3) := dk_182 2 143 (dk_at dksX11_clock_0 2 rfl rfl)
theorem dX11_clock_5 : decode cX11_clock 5 = .ok (.ifCond .ne 5, 3) := dk_154 0 5 (dk_at dksX11_clock_0 5 rfl rfl)
theorem dX11_clock_8 : decode cX11_clock 8 = .ok (.iconst (-1), 1) := dk_2 (dk_at dksX11_clock_0 8 rfl rfl)
theorem dX11_clock_9 : decode cX11_clock 9 = .ok (.ireturn, 1) := dk_172 (dk_at dksX11_clock_0 9 rfl rfl)
theorem dX11_clock_10 : decode cX11_clock 10 = .ok (.iload_n 2, 1) := dk_28 (dk_at dksX11_clock_0 10 rfl rfl)
theorem dX11_clock_11 : decode cX11_clock 11 = .ok (.i2l, 1) := dk_133 (dk_at dksX11_clock_0 11 rfl rfl)
theorem dX11_clock_12 : decode cX11_clock 12 = .ok (.lconst 0, 1) := dk_9 (dk_at dksX11_clock_0 12 rfl rfl)
theorem dX11_clock_13 : decode cX11_clock 13 = .ok (.ldc2_w 124, 3) := dk_20 0 124 (dk_at dksX11_clock_0 13 rfl rfl)
theorem dX11_clock_16 : decode cX11_clock 16 = .ok (.invokestatic 13, 3) := dk_184 0 13 (dk_at dksX11_clock_0 16 rfl rfl)
theorem dX11_clock_19 : decode cX11_clock 19 = .ok (.ifCond .ne 6, 3) := dk_154 0 6 (dk_at dksX11_clock_0 19 rfl rfl)
theorem dX11_clock_22 : decode cX11_clock 22 = .ok (.bipush (-2), 2) := dk_16 254 (dk_at dksX11_clock_0 22 rfl rfl)
theorem dX11_clock_24 : decode cX11_clock 24 = .ok (.ireturn, 1) := dk_172 (dk_at dksX11_clock_1 0 rfl rfl)
theorem dX11_clock_25 : decode cX11_clock 25 = .ok (.aload_n 0, 1) := dk_42 (dk_at dksX11_clock_1 1 rfl rfl)
theorem dX11_clock_26 : decode cX11_clock 26 = .ok (.getfield 649, 3) := dk_180 2 137 (dk_at dksX11_clock_1 2 rfl rfl)
theorem dX11_clock_29 : decode cX11_clock 29 = .ok (.iload_n 1, 1) := dk_27 (dk_at dksX11_clock_1 5 rfl rfl)
theorem dX11_clock_30 : decode cX11_clock 30 = .ok (.iaload, 1) := dk_46 (dk_at dksX11_clock_1 6 rfl rfl)
theorem dX11_clock_31 : decode cX11_clock 31 = .ok (.istore_n 3, 1) := dk_62 (dk_at dksX11_clock_1 7 rfl rfl)
theorem dX11_clock_32 : decode cX11_clock 32 = .ok (.aload_n 0, 1) := dk_42 (dk_at dksX11_clock_1 8 rfl rfl)
theorem dX11_clock_33 : decode cX11_clock 33 = .ok (.getfield 649, 3) := dk_180 2 137 (dk_at dksX11_clock_1 9 rfl rfl)
theorem dX11_clock_36 : decode cX11_clock 36 = .ok (.iload_n 1, 1) := dk_27 (dk_at dksX11_clock_1 12 rfl rfl)
theorem dX11_clock_37 : decode cX11_clock 37 = .ok (.iload_n 2, 1) := dk_28 (dk_at dksX11_clock_1 13 rfl rfl)
theorem dX11_clock_38 : decode cX11_clock 38 = .ok (.iastore, 1) := dk_79 (dk_at dksX11_clock_1 14 rfl rfl)
theorem dX11_clock_39 : decode cX11_clock 39 = .ok (.aload_n 0, 1) := dk_42 (dk_at dksX11_clock_1 15 rfl rfl)
theorem dX11_clock_40 : decode cX11_clock 40 = .ok (.bipush 16, 2) := dk_16 16 (dk_at dksX11_clock_1 16 rfl rfl)
theorem dX11_clock_42 : decode cX11_clock 42 = .ok (.iload_n 1, 1) := dk_27 (dk_at dksX11_clock_1 18 rfl rfl)
theorem dX11_clock_43 : decode cX11_clock 43 = .ok (.iload_n 2, 1) := dk_28 (dk_at dksX11_clock_1 19 rfl rfl)
theorem dX11_clock_44 : decode cX11_clock 44 = .ok (.iconst 0, 1) := dk_3 (dk_at dksX11_clock_1 20 rfl rfl)
theorem dX11_clock_45 : decode cX11_clock 45 = .ok (.iconst 0, 1) := dk_3 (dk_at dksX11_clock_1 21 rfl rfl)
theorem dX11_clock_46 : decode cX11_clock 46 = .ok (.invokevirtual 22, 3) := dk_182 0 22 (dk_at dksX11_clock_2 0 rfl rfl)
theorem dX11_clock_49 : decode cX11_clock 49 = .ok (.iload_n 3, 1) := dk_29 (dk_at dksX11_clock_2 3 rfl rfl)
theorem dX11_clock_50 : decode cX11_clock 50 = .ok (.ireturn, 1) := dk_172 (dk_at dksX11_clock_2 4 rfl rfl)
abbrev cX11_isStation : ByteArray := prog_17_method_89_code
def yX11_isStation : MethodName := ⟨RX11, "isStation", "(I)Z"⟩
def dkwX11_isStation_0 : List UInt8 := [27, 133, 9, 42, 180, 2, 28, 4, 100, 133, 184, 0, 13, 172]
abbrev dktX11_isStation_0 : List UInt8 := dkwX11_isStation_0 ++ []
theorem dksX11_isStation_0 : cX11_isStation.data.toList.drop 0 = dktX11_isStation_0 := by decide +kernel
theorem dX11_isStation_0 : decode cX11_isStation 0 = .ok (.iload_n 1, 1) := dk_27 (dk_at dksX11_isStation_0 0 rfl rfl)
theorem dX11_isStation_1 : decode cX11_isStation 1 = .ok (.i2l, 1) := dk_133 (dk_at dksX11_isStation_0 1 rfl rfl)
theorem dX11_isStation_2 : decode cX11_isStation 2 = .ok (.lconst 0, 1) := dk_9 (dk_at dksX11_isStation_0 2 rfl rfl)
theorem dX11_isStation_3 : decode cX11_isStation 3 = .ok (.aload_n 0, 1) := dk_42 (dk_at dksX11_isStation_0 3 rfl rfl)
theorem dX11_isStation_4 : decode cX11_isStation 4 = .ok (.getfield 540, 3) := dk_180 2 28 (dk_at dksX11_isStation_0 4 rfl rfl)
theorem dX11_isStation_7 : decode cX11_isStation 7 = .ok (.iconst 1, 1) := dk_4 (dk_at dksX11_isStation_0 7 rfl rfl)
theorem dX11_isStation_8 : decode cX11_isStation 8 = .ok (.isub, 1) := dk_100 (dk_at dksX11_isStation_0 8 rfl rfl)
theorem dX11_isStation_9 : decode cX11_isStation 9 = .ok (.i2l, 1) := dk_133 (dk_at dksX11_isStation_0 9 rfl rfl)
theorem dX11_isStation_10 : decode cX11_isStation 10 = .ok (.invokestatic 13, 3) := dk_184 0 13 (dk_at dksX11_isStation_0 10 rfl rfl)
theorem dX11_isStation_13 : decode cX11_isStation 13 = .ok (.ireturn, 1) := dk_172 (dk_at dksX11_isStation_0 13 rfl rfl)
abbrev cX11_cutLine : ByteArray := prog_17_method_94_code
def yX11_cutLine : MethodName := ⟨RX11, "cutLine", "(I)I"⟩
def dkwX11_cutLine_3 : List UInt8 := [180, 2, 140, 27, 4, 84, 42, 16, 17, 27, 3, 3, 3, 182, 0, 22, 4, 172]
abbrev dktX11_cutLine_3 : List UInt8 := dkwX11_cutLine_3 ++ []
def dkwX11_cutLine_2 : List UInt8 := [180, 2, 152, 17, 0, 200, 27, 104, 28, 96, 42, 27, 28, 182, 2, 158, 79, 132, 2, 1, 167, 255, 227, 42]
abbrev dktX11_cutLine_2 : List UInt8 := dkwX11_cutLine_2 ++ dktX11_cutLine_3
def dkwX11_cutLine_1 : List UInt8 := [180, 2, 140, 27, 51, 153, 0, 6, 16, 252, 172, 3, 61, 28, 42, 180, 2, 31, 162, 0, 27, 42]
abbrev dktX11_cutLine_1 : List UInt8 := dkwX11_cutLine_1 ++ dktX11_cutLine_2
def dkwX11_cutLine_0 : List UInt8 := [42, 27, 182, 2, 143, 154, 0, 5, 2, 172, 42, 180, 2, 40, 27, 51, 153, 0, 6, 16, 253, 172, 42]
abbrev dktX11_cutLine_0 : List UInt8 := dkwX11_cutLine_0 ++ dktX11_cutLine_1
theorem dksX11_cutLine_0 : cX11_cutLine.data.toList.drop 0 = dktX11_cutLine_0 := by decide +kernel
theorem dksX11_cutLine_1 : cX11_cutLine.data.toList.drop 23 = dktX11_cutLine_1 := dk_seg dksX11_cutLine_0 23 rfl rfl
theorem dksX11_cutLine_2 : cX11_cutLine.data.toList.drop 45 = dktX11_cutLine_2 := dk_seg dksX11_cutLine_1 22 rfl rfl
theorem dksX11_cutLine_3 : cX11_cutLine.data.toList.drop 69 = dktX11_cutLine_3 := dk_seg dksX11_cutLine_2 24 rfl rfl
theorem dX11_cutLine_0 : decode cX11_cutLine 0 = .ok (.aload_n 0, 1) := dk_42 (dk_at dksX11_cutLine_0 0 rfl rfl)
theorem dX11_cutLine_1 : decode cX11_cutLine 1 = .ok (.iload_n 1, 1) := dk_27 (dk_at dksX11_cutLine_0 1 rfl rfl)
theorem dX11_cutLine_2 : decode cX11_cutLine 2 = .ok (.invokevirtual 655, 3) := dk_182 2 143 (dk_at dksX11_cutLine_0 2 rfl rfl)
theorem dX11_cutLine_5 : decode cX11_cutLine 5 = .ok (.ifCond .ne 5, 3) := dk_154 0 5 (dk_at dksX11_cutLine_0 5 rfl rfl)
theorem dX11_cutLine_8 : decode cX11_cutLine 8 = .ok (.iconst (-1), 1) := dk_2 (dk_at dksX11_cutLine_0 8 rfl rfl)
theorem dX11_cutLine_9 : decode cX11_cutLine 9 = .ok (.ireturn, 1) := dk_172 (dk_at dksX11_cutLine_0 9 rfl rfl)
theorem dX11_cutLine_10 : decode cX11_cutLine 10 = .ok (.aload_n 0, 1) := dk_42 (dk_at dksX11_cutLine_0 10 rfl rfl)
theorem dX11_cutLine_11 : decode cX11_cutLine 11 = .ok (.getfield 552, 3) := dk_180 2 40 (dk_at dksX11_cutLine_0 11 rfl rfl)
theorem dX11_cutLine_14 : decode cX11_cutLine 14 = .ok (.iload_n 1, 1) := dk_27 (dk_at dksX11_cutLine_0 14 rfl rfl)
theorem dX11_cutLine_15 : decode cX11_cutLine 15 = .ok (.baload, 1) := dk_51 (dk_at dksX11_cutLine_0 15 rfl rfl)
theorem dX11_cutLine_16 : decode cX11_cutLine 16 = .ok (.ifCond .eq 6, 3) := dk_153 0 6 (dk_at dksX11_cutLine_0 16 rfl rfl)
theorem dX11_cutLine_19 : decode cX11_cutLine 19 = .ok (.bipush (-3), 2) := dk_16 253 (dk_at dksX11_cutLine_0 19 rfl rfl)
theorem dX11_cutLine_21 : decode cX11_cutLine 21 = .ok (.ireturn, 1) := dk_172 (dk_at dksX11_cutLine_0 21 rfl rfl)
theorem dX11_cutLine_22 : decode cX11_cutLine 22 = .ok (.aload_n 0, 1) := dk_42 (dk_at dksX11_cutLine_0 22 rfl rfl)
theorem dX11_cutLine_23 : decode cX11_cutLine 23 = .ok (.getfield 652, 3) := dk_180 2 140 (dk_at dksX11_cutLine_1 0 rfl rfl)
theorem dX11_cutLine_26 : decode cX11_cutLine 26 = .ok (.iload_n 1, 1) := dk_27 (dk_at dksX11_cutLine_1 3 rfl rfl)
theorem dX11_cutLine_27 : decode cX11_cutLine 27 = .ok (.baload, 1) := dk_51 (dk_at dksX11_cutLine_1 4 rfl rfl)
theorem dX11_cutLine_28 : decode cX11_cutLine 28 = .ok (.ifCond .eq 6, 3) := dk_153 0 6 (dk_at dksX11_cutLine_1 5 rfl rfl)
theorem dX11_cutLine_31 : decode cX11_cutLine 31 = .ok (.bipush (-4), 2) := dk_16 252 (dk_at dksX11_cutLine_1 8 rfl rfl)
theorem dX11_cutLine_33 : decode cX11_cutLine 33 = .ok (.ireturn, 1) := dk_172 (dk_at dksX11_cutLine_1 10 rfl rfl)
theorem dX11_cutLine_34 : decode cX11_cutLine 34 = .ok (.iconst 0, 1) := dk_3 (dk_at dksX11_cutLine_1 11 rfl rfl)
theorem dX11_cutLine_35 : decode cX11_cutLine 35 = .ok (.istore_n 2, 1) := dk_61 (dk_at dksX11_cutLine_1 12 rfl rfl)
theorem dX11_cutLine_36 : decode cX11_cutLine 36 = .ok (.iload_n 2, 1) := dk_28 (dk_at dksX11_cutLine_1 13 rfl rfl)
theorem dX11_cutLine_37 : decode cX11_cutLine 37 = .ok (.aload_n 0, 1) := dk_42 (dk_at dksX11_cutLine_1 14 rfl rfl)
theorem dX11_cutLine_38 : decode cX11_cutLine 38 = .ok (.getfield 543, 3) := dk_180 2 31 (dk_at dksX11_cutLine_1 15 rfl rfl)
theorem dX11_cutLine_41 : decode cX11_cutLine 41 = .ok (.if_icmp .ge 27, 3) := dk_162 0 27 (dk_at dksX11_cutLine_1 18 rfl rfl)
theorem dX11_cutLine_44 : decode cX11_cutLine 44 = .ok (.aload_n 0, 1) := dk_42 (dk_at dksX11_cutLine_1 21 rfl rfl)
theorem dX11_cutLine_45 : decode cX11_cutLine 45 = .ok (.getfield 664, 3) := dk_180 2 152 (dk_at dksX11_cutLine_2 0 rfl rfl)
theorem dX11_cutLine_48 : decode cX11_cutLine 48 = .ok (.sipush 200, 3) := dk_17 0 200 (dk_at dksX11_cutLine_2 3 rfl rfl)
theorem dX11_cutLine_51 : decode cX11_cutLine 51 = .ok (.iload_n 1, 1) := dk_27 (dk_at dksX11_cutLine_2 6 rfl rfl)
theorem dX11_cutLine_52 : decode cX11_cutLine 52 = .ok (.imul, 1) := dk_104 (dk_at dksX11_cutLine_2 7 rfl rfl)
theorem dX11_cutLine_53 : decode cX11_cutLine 53 = .ok (.iload_n 2, 1) := dk_28 (dk_at dksX11_cutLine_2 8 rfl rfl)
theorem dX11_cutLine_54 : decode cX11_cutLine 54 = .ok (.iadd, 1) := dk_96 (dk_at dksX11_cutLine_2 9 rfl rfl)
theorem dX11_cutLine_55 : decode cX11_cutLine 55 = .ok (.aload_n 0, 1) := dk_42 (dk_at dksX11_cutLine_2 10 rfl rfl)
theorem dX11_cutLine_56 : decode cX11_cutLine 56 = .ok (.iload_n 1, 1) := dk_27 (dk_at dksX11_cutLine_2 11 rfl rfl)
theorem dX11_cutLine_57 : decode cX11_cutLine 57 = .ok (.iload_n 2, 1) := dk_28 (dk_at dksX11_cutLine_2 12 rfl rfl)
theorem dX11_cutLine_58 : decode cX11_cutLine 58 = .ok (.invokevirtual 670, 3) := dk_182 2 158 (dk_at dksX11_cutLine_2 13 rfl rfl)
theorem dX11_cutLine_61 : decode cX11_cutLine 61 = .ok (.iastore, 1) := dk_79 (dk_at dksX11_cutLine_2 16 rfl rfl)
theorem dX11_cutLine_62 : decode cX11_cutLine 62 = .ok (.iinc 2 1, 3) := dk_132 2 1 (dk_at dksX11_cutLine_2 17 rfl rfl)
theorem dX11_cutLine_65 : decode cX11_cutLine 65 = .ok (.goto (-29), 3) := dk_167 255 227 (dk_at dksX11_cutLine_2 20 rfl rfl)
theorem dX11_cutLine_68 : decode cX11_cutLine 68 = .ok (.aload_n 0, 1) := dk_42 (dk_at dksX11_cutLine_2 23 rfl rfl)
theorem dX11_cutLine_69 : decode cX11_cutLine 69 = .ok (.getfield 652, 3) := dk_180 2 140 (dk_at dksX11_cutLine_3 0 rfl rfl)
theorem dX11_cutLine_72 : decode cX11_cutLine 72 = .ok (.iload_n 1, 1) := dk_27 (dk_at dksX11_cutLine_3 3 rfl rfl)
theorem dX11_cutLine_73 : decode cX11_cutLine 73 = .ok (.iconst 1, 1) := dk_4 (dk_at dksX11_cutLine_3 4 rfl rfl)
theorem dX11_cutLine_74 : decode cX11_cutLine 74 = .ok (.bastore, 1) := dk_84 (dk_at dksX11_cutLine_3 5 rfl rfl)
theorem dX11_cutLine_75 : decode cX11_cutLine 75 = .ok (.aload_n 0, 1) := dk_42 (dk_at dksX11_cutLine_3 6 rfl rfl)
theorem dX11_cutLine_76 : decode cX11_cutLine 76 = .ok (.bipush 17, 2) := dk_16 17 (dk_at dksX11_cutLine_3 7 rfl rfl)
theorem dX11_cutLine_78 : decode cX11_cutLine 78 = .ok (.iload_n 1, 1) := dk_27 (dk_at dksX11_cutLine_3 9 rfl rfl)
theorem dX11_cutLine_79 : decode cX11_cutLine 79 = .ok (.iconst 0, 1) := dk_3 (dk_at dksX11_cutLine_3 10 rfl rfl)
theorem dX11_cutLine_80 : decode cX11_cutLine 80 = .ok (.iconst 0, 1) := dk_3 (dk_at dksX11_cutLine_3 11 rfl rfl)
theorem dX11_cutLine_81 : decode cX11_cutLine 81 = .ok (.iconst 0, 1) := dk_3 (dk_at dksX11_cutLine_3 12 rfl rfl)
theorem dX11_cutLine_82 : decode cX11_cutLine 82 = .ok (.invokevirtual 22, 3) := dk_182 0 22 (dk_at dksX11_cutLine_3 13 rfl rfl)
theorem dX11_cutLine_85 : decode cX11_cutLine 85 = .ok (.iconst 1, 1) := dk_4 (dk_at dksX11_cutLine_3 16 rfl rfl)
theorem dX11_cutLine_86 : decode cX11_cutLine 86 = .ok (.ireturn, 1) := dk_172 (dk_at dksX11_cutLine_3 17 rfl rfl)
abbrev cX11_known : ByteArray := prog_17_method_93_code
def yX11_known : MethodName := ⟨RX11, "known", "(II)I"⟩
def dkwX11_known_2 : List UInt8 := [153, 0, 12, 42, 180, 2, 146, 28, 46, 167, 0, 4, 2, 172]
abbrev dktX11_known_2 : List UInt8 := dkwX11_known_2 ++ []
def dkwX11_known_1 : List UInt8 := [153, 0, 16, 42, 180, 2, 152, 17, 0, 200, 27, 104, 28, 96, 46, 172, 42, 180, 2, 155, 28, 51]
abbrev dktX11_known_1 : List UInt8 := dkwX11_known_1 ++ dktX11_known_2
def dkwX11_known_0 : List UInt8 := [42, 180, 2, 149, 28, 46, 27, 160, 0, 10, 42, 180, 2, 146, 28, 46, 172, 42, 180, 2, 140, 27, 51]
abbrev dktX11_known_0 : List UInt8 := dkwX11_known_0 ++ dktX11_known_1
theorem dksX11_known_0 : cX11_known.data.toList.drop 0 = dktX11_known_0 := by decide +kernel
theorem dksX11_known_1 : cX11_known.data.toList.drop 23 = dktX11_known_1 := dk_seg dksX11_known_0 23 rfl rfl
theorem dksX11_known_2 : cX11_known.data.toList.drop 45 = dktX11_known_2 := dk_seg dksX11_known_1 22 rfl rfl
theorem dX11_known_0 : decode cX11_known 0 = .ok (.aload_n 0, 1) := dk_42 (dk_at dksX11_known_0 0 rfl rfl)
theorem dX11_known_1 : decode cX11_known 1 = .ok (.getfield 661, 3) := dk_180 2 149 (dk_at dksX11_known_0 1 rfl rfl)
theorem dX11_known_4 : decode cX11_known 4 = .ok (.iload_n 2, 1) := dk_28 (dk_at dksX11_known_0 4 rfl rfl)
theorem dX11_known_5 : decode cX11_known 5 = .ok (.iaload, 1) := dk_46 (dk_at dksX11_known_0 5 rfl rfl)
theorem dX11_known_6 : decode cX11_known 6 = .ok (.iload_n 1, 1) := dk_27 (dk_at dksX11_known_0 6 rfl rfl)
theorem dX11_known_7 : decode cX11_known 7 = .ok (.if_icmp .ne 10, 3) := dk_160 0 10 (dk_at dksX11_known_0 7 rfl rfl)
theorem dX11_known_10 : decode cX11_known 10 = .ok (.aload_n 0, 1) := dk_42 (dk_at dksX11_known_0 10 rfl rfl)
theorem dX11_known_11 : decode cX11_known 11 = .ok (.getfield 658, 3) := dk_180 2 146 (dk_at dksX11_known_0 11 rfl rfl)
theorem dX11_known_14 : decode cX11_known 14 = .ok (.iload_n 2, 1) := dk_28 (dk_at dksX11_known_0 14 rfl rfl)
theorem dX11_known_15 : decode cX11_known 15 = .ok (.iaload, 1) := dk_46 (dk_at dksX11_known_0 15 rfl rfl)
theorem dX11_known_16 : decode cX11_known 16 = .ok (.ireturn, 1) := dk_172 (dk_at dksX11_known_0 16 rfl rfl)
theorem dX11_known_17 : decode cX11_known 17 = .ok (.aload_n 0, 1) := dk_42 (dk_at dksX11_known_0 17 rfl rfl)
theorem dX11_known_18 : decode cX11_known 18 = .ok (.getfield 652, 3) := dk_180 2 140 (dk_at dksX11_known_0 18 rfl rfl)
theorem dX11_known_21 : decode cX11_known 21 = .ok (.iload_n 1, 1) := dk_27 (dk_at dksX11_known_0 21 rfl rfl)
theorem dX11_known_22 : decode cX11_known 22 = .ok (.baload, 1) := dk_51 (dk_at dksX11_known_0 22 rfl rfl)
theorem dX11_known_23 : decode cX11_known 23 = .ok (.ifCond .eq 16, 3) := dk_153 0 16 (dk_at dksX11_known_1 0 rfl rfl)
theorem dX11_known_26 : decode cX11_known 26 = .ok (.aload_n 0, 1) := dk_42 (dk_at dksX11_known_1 3 rfl rfl)
theorem dX11_known_27 : decode cX11_known 27 = .ok (.getfield 664, 3) := dk_180 2 152 (dk_at dksX11_known_1 4 rfl rfl)
theorem dX11_known_30 : decode cX11_known 30 = .ok (.sipush 200, 3) := dk_17 0 200 (dk_at dksX11_known_1 7 rfl rfl)
theorem dX11_known_33 : decode cX11_known 33 = .ok (.iload_n 1, 1) := dk_27 (dk_at dksX11_known_1 10 rfl rfl)
theorem dX11_known_34 : decode cX11_known 34 = .ok (.imul, 1) := dk_104 (dk_at dksX11_known_1 11 rfl rfl)
theorem dX11_known_35 : decode cX11_known 35 = .ok (.iload_n 2, 1) := dk_28 (dk_at dksX11_known_1 12 rfl rfl)
theorem dX11_known_36 : decode cX11_known 36 = .ok (.iadd, 1) := dk_96 (dk_at dksX11_known_1 13 rfl rfl)
theorem dX11_known_37 : decode cX11_known 37 = .ok (.iaload, 1) := dk_46 (dk_at dksX11_known_1 14 rfl rfl)
theorem dX11_known_38 : decode cX11_known 38 = .ok (.ireturn, 1) := dk_172 (dk_at dksX11_known_1 15 rfl rfl)
theorem dX11_known_39 : decode cX11_known 39 = .ok (.aload_n 0, 1) := dk_42 (dk_at dksX11_known_1 16 rfl rfl)
theorem dX11_known_40 : decode cX11_known 40 = .ok (.getfield 667, 3) := dk_180 2 155 (dk_at dksX11_known_1 17 rfl rfl)
theorem dX11_known_43 : decode cX11_known 43 = .ok (.iload_n 2, 1) := dk_28 (dk_at dksX11_known_1 20 rfl rfl)
theorem dX11_known_44 : decode cX11_known 44 = .ok (.baload, 1) := dk_51 (dk_at dksX11_known_1 21 rfl rfl)
theorem dX11_known_45 : decode cX11_known 45 = .ok (.ifCond .eq 12, 3) := dk_153 0 12 (dk_at dksX11_known_2 0 rfl rfl)
theorem dX11_known_48 : decode cX11_known 48 = .ok (.aload_n 0, 1) := dk_42 (dk_at dksX11_known_2 3 rfl rfl)
theorem dX11_known_49 : decode cX11_known 49 = .ok (.getfield 658, 3) := dk_180 2 146 (dk_at dksX11_known_2 4 rfl rfl)
theorem dX11_known_52 : decode cX11_known 52 = .ok (.iload_n 2, 1) := dk_28 (dk_at dksX11_known_2 7 rfl rfl)
theorem dX11_known_53 : decode cX11_known 53 = .ok (.iaload, 1) := dk_46 (dk_at dksX11_known_2 8 rfl rfl)
theorem dX11_known_54 : decode cX11_known 54 = .ok (.goto 4, 3) := dk_167 0 4 (dk_at dksX11_known_2 9 rfl rfl)
theorem dX11_known_57 : decode cX11_known 57 = .ok (.iconst (-1), 1) := dk_2 (dk_at dksX11_known_2 12 rfl rfl)
theorem dX11_known_58 : decode cX11_known 58 = .ok (.ireturn, 1) := dk_172 (dk_at dksX11_known_2 13 rfl rfl)
abbrev cX11_mend : ByteArray := prog_17_method_97_code
def yX11_mend : MethodName := ⟨RX11, "mend", "(I)I"⟩
def dkwX11_mend_8 : List UInt8 := [167, 255, 144, 42, 16, 18, 27, 3, 3, 3, 182, 0, 22, 42, 27, 182, 2, 164, 28, 100, 172]
abbrev dktX11_mend_8 : List UInt8 := dkwX11_mend_8 ++ []
def dkwX11_mend_7 : List UInt8 := [182, 2, 173, 42, 180, 2, 146, 21, 4, 46, 5, 160, 0, 10, 42, 21, 4, 27, 182, 2, 176, 132, 3, 1]
abbrev dktX11_mend_7 : List UInt8 := dkwX11_mend_7 ++ dktX11_mend_8
def dkwX11_mend_6 : List UInt8 := [167, 0, 51, 42, 180, 2, 167, 21, 4, 4, 84, 42, 180, 2, 155, 21, 4, 51, 154, 0, 9, 42, 21, 4]
abbrev dktX11_mend_6 : List UInt8 := dkwX11_mend_6 ++ dktX11_mend_7
def dkwX11_mend_5 : List UInt8 := [21, 5, 182, 2, 170, 153, 0, 7, 21, 5, 54, 4, 132, 5, 1, 167, 255, 214, 21, 4, 156, 0, 6]
abbrev dktX11_mend_5 : List UInt8 := dkwX11_mend_5 ++ dktX11_mend_6
def dkwX11_mend_4 : List UInt8 := [180, 2, 31, 162, 0, 39, 42, 180, 2, 167, 21, 5, 51, 154, 0, 23, 21, 4, 155, 0, 14, 42, 21, 4]
abbrev dktX11_mend_4 : List UInt8 := dkwX11_mend_4 ++ dktX11_mend_5
def dkwX11_mend_3 : List UInt8 := [167, 255, 224, 3, 62, 29, 42, 180, 2, 31, 162, 0, 110, 2, 54, 4, 3, 54, 5, 21, 5, 42]
abbrev dktX11_mend_3 : List UInt8 := dkwX11_mend_3 ++ dktX11_mend_4
def dkwX11_mend_2 : List UInt8 := [180, 2, 167, 29, 42, 180, 2, 149, 29, 46, 27, 159, 0, 7, 4, 167, 0, 4, 3, 84, 132, 3, 1]
abbrev dktX11_mend_2 : List UInt8 := dkwX11_mend_2 ++ dktX11_mend_3
def dkwX11_mend_1 : List UInt8 := [180, 2, 140, 27, 3, 84, 42, 27, 182, 2, 164, 61, 3, 62, 29, 42, 180, 2, 31, 162, 0, 30, 42]
abbrev dktX11_mend_1 : List UInt8 := dkwX11_mend_1 ++ dktX11_mend_2
def dkwX11_mend_0 : List UInt8 := [42, 27, 182, 2, 143, 154, 0, 5, 2, 172, 42, 180, 2, 140, 27, 51, 154, 0, 6, 16, 252, 172, 42]
abbrev dktX11_mend_0 : List UInt8 := dkwX11_mend_0 ++ dktX11_mend_1
theorem dksX11_mend_0 : cX11_mend.data.toList.drop 0 = dktX11_mend_0 := by decide +kernel
theorem dksX11_mend_1 : cX11_mend.data.toList.drop 23 = dktX11_mend_1 := dk_seg dksX11_mend_0 23 rfl rfl
theorem dksX11_mend_2 : cX11_mend.data.toList.drop 46 = dktX11_mend_2 := dk_seg dksX11_mend_1 23 rfl rfl
theorem dksX11_mend_3 : cX11_mend.data.toList.drop 69 = dktX11_mend_3 := dk_seg dksX11_mend_2 23 rfl rfl
theorem dksX11_mend_4 : cX11_mend.data.toList.drop 91 = dktX11_mend_4 := dk_seg dksX11_mend_3 22 rfl rfl
theorem dksX11_mend_5 : cX11_mend.data.toList.drop 115 = dktX11_mend_5 := dk_seg dksX11_mend_4 24 rfl rfl
theorem dksX11_mend_6 : cX11_mend.data.toList.drop 138 = dktX11_mend_6 := dk_seg dksX11_mend_5 23 rfl rfl
theorem dksX11_mend_7 : cX11_mend.data.toList.drop 162 = dktX11_mend_7 := dk_seg dksX11_mend_6 24 rfl rfl
theorem dksX11_mend_8 : cX11_mend.data.toList.drop 186 = dktX11_mend_8 := dk_seg dksX11_mend_7 24 rfl rfl
theorem dX11_mend_0 : decode cX11_mend 0 = .ok (.aload_n 0, 1) := dk_42 (dk_at dksX11_mend_0 0 rfl rfl)
theorem dX11_mend_1 : decode cX11_mend 1 = .ok (.iload_n 1, 1) := dk_27 (dk_at dksX11_mend_0 1 rfl rfl)
theorem dX11_mend_2 : decode cX11_mend 2 = .ok (.invokevirtual 655, 3) := dk_182 2 143 (dk_at dksX11_mend_0 2 rfl rfl)
theorem dX11_mend_5 : decode cX11_mend 5 = .ok (.ifCond .ne 5, 3) := dk_154 0 5 (dk_at dksX11_mend_0 5 rfl rfl)
theorem dX11_mend_8 : decode cX11_mend 8 = .ok (.iconst (-1), 1) := dk_2 (dk_at dksX11_mend_0 8 rfl rfl)
theorem dX11_mend_9 : decode cX11_mend 9 = .ok (.ireturn, 1) := dk_172 (dk_at dksX11_mend_0 9 rfl rfl)
theorem dX11_mend_10 : decode cX11_mend 10 = .ok (.aload_n 0, 1) := dk_42 (dk_at dksX11_mend_0 10 rfl rfl)
theorem dX11_mend_11 : decode cX11_mend 11 = .ok (.getfield 652, 3) := dk_180 2 140 (dk_at dksX11_mend_0 11 rfl rfl)
theorem dX11_mend_14 : decode cX11_mend 14 = .ok (.iload_n 1, 1) := dk_27 (dk_at dksX11_mend_0 14 rfl rfl)
theorem dX11_mend_15 : decode cX11_mend 15 = .ok (.baload, 1) := dk_51 (dk_at dksX11_mend_0 15 rfl rfl)
theorem dX11_mend_16 : decode cX11_mend 16 = .ok (.ifCond .ne 6, 3) := dk_154 0 6 (dk_at dksX11_mend_0 16 rfl rfl)
theorem dX11_mend_19 : decode cX11_mend 19 = .ok (.bipush (-4), 2) := dk_16 252 (dk_at dksX11_mend_0 19 rfl rfl)
theorem dX11_mend_21 : decode cX11_mend 21 = .ok (.ireturn, 1) := dk_172 (dk_at dksX11_mend_0 21 rfl rfl)
theorem dX11_mend_22 : decode cX11_mend 22 = .ok (.aload_n 0, 1) := dk_42 (dk_at dksX11_mend_0 22 rfl rfl)
theorem dX11_mend_23 : decode cX11_mend 23 = .ok (.getfield 652, 3) := dk_180 2 140 (dk_at dksX11_mend_1 0 rfl rfl)
theorem dX11_mend_26 : decode cX11_mend 26 = .ok (.iload_n 1, 1) := dk_27 (dk_at dksX11_mend_1 3 rfl rfl)
theorem dX11_mend_27 : decode cX11_mend 27 = .ok (.iconst 0, 1) := dk_3 (dk_at dksX11_mend_1 4 rfl rfl)
theorem dX11_mend_28 : decode cX11_mend 28 = .ok (.bastore, 1) := dk_84 (dk_at dksX11_mend_1 5 rfl rfl)
theorem dX11_mend_29 : decode cX11_mend 29 = .ok (.aload_n 0, 1) := dk_42 (dk_at dksX11_mend_1 6 rfl rfl)
theorem dX11_mend_30 : decode cX11_mend 30 = .ok (.iload_n 1, 1) := dk_27 (dk_at dksX11_mend_1 7 rfl rfl)
theorem dX11_mend_31 : decode cX11_mend 31 = .ok (.invokevirtual 676, 3) := dk_182 2 164 (dk_at dksX11_mend_1 8 rfl rfl)
theorem dX11_mend_34 : decode cX11_mend 34 = .ok (.istore_n 2, 1) := dk_61 (dk_at dksX11_mend_1 11 rfl rfl)
theorem dX11_mend_35 : decode cX11_mend 35 = .ok (.iconst 0, 1) := dk_3 (dk_at dksX11_mend_1 12 rfl rfl)
theorem dX11_mend_36 : decode cX11_mend 36 = .ok (.istore_n 3, 1) := dk_62 (dk_at dksX11_mend_1 13 rfl rfl)
theorem dX11_mend_37 : decode cX11_mend 37 = .ok (.iload_n 3, 1) := dk_29 (dk_at dksX11_mend_1 14 rfl rfl)
theorem dX11_mend_38 : decode cX11_mend 38 = .ok (.aload_n 0, 1) := dk_42 (dk_at dksX11_mend_1 15 rfl rfl)
theorem dX11_mend_39 : decode cX11_mend 39 = .ok (.getfield 543, 3) := dk_180 2 31 (dk_at dksX11_mend_1 16 rfl rfl)
theorem dX11_mend_42 : decode cX11_mend 42 = .ok (.if_icmp .ge 30, 3) := dk_162 0 30 (dk_at dksX11_mend_1 19 rfl rfl)
theorem dX11_mend_45 : decode cX11_mend 45 = .ok (.aload_n 0, 1) := dk_42 (dk_at dksX11_mend_1 22 rfl rfl)
theorem dX11_mend_46 : decode cX11_mend 46 = .ok (.getfield 679, 3) := dk_180 2 167 (dk_at dksX11_mend_2 0 rfl rfl)
theorem dX11_mend_49 : decode cX11_mend 49 = .ok (.iload_n 3, 1) := dk_29 (dk_at dksX11_mend_2 3 rfl rfl)
theorem dX11_mend_50 : decode cX11_mend 50 = .ok (.aload_n 0, 1) := dk_42 (dk_at dksX11_mend_2 4 rfl rfl)
theorem dX11_mend_51 : decode cX11_mend 51 = .ok (.getfield 661, 3) := dk_180 2 149 (dk_at dksX11_mend_2 5 rfl rfl)
theorem dX11_mend_54 : decode cX11_mend 54 = .ok (.iload_n 3, 1) := dk_29 (dk_at dksX11_mend_2 8 rfl rfl)
theorem dX11_mend_55 : decode cX11_mend 55 = .ok (.iaload, 1) := dk_46 (dk_at dksX11_mend_2 9 rfl rfl)
theorem dX11_mend_56 : decode cX11_mend 56 = .ok (.iload_n 1, 1) := dk_27 (dk_at dksX11_mend_2 10 rfl rfl)
theorem dX11_mend_57 : decode cX11_mend 57 = .ok (.if_icmp .eq 7, 3) := dk_159 0 7 (dk_at dksX11_mend_2 11 rfl rfl)
theorem dX11_mend_60 : decode cX11_mend 60 = .ok (.iconst 1, 1) := dk_4 (dk_at dksX11_mend_2 14 rfl rfl)
theorem dX11_mend_61 : decode cX11_mend 61 = .ok (.goto 4, 3) := dk_167 0 4 (dk_at dksX11_mend_2 15 rfl rfl)
theorem dX11_mend_64 : decode cX11_mend 64 = .ok (.iconst 0, 1) := dk_3 (dk_at dksX11_mend_2 18 rfl rfl)
theorem dX11_mend_65 : decode cX11_mend 65 = .ok (.bastore, 1) := dk_84 (dk_at dksX11_mend_2 19 rfl rfl)
theorem dX11_mend_66 : decode cX11_mend 66 = .ok (.iinc 3 1, 3) := dk_132 3 1 (dk_at dksX11_mend_2 20 rfl rfl)
theorem dX11_mend_69 : decode cX11_mend 69 = .ok (.goto (-32), 3) := dk_167 255 224 (dk_at dksX11_mend_3 0 rfl rfl)
theorem dX11_mend_72 : decode cX11_mend 72 = .ok (.iconst 0, 1) := dk_3 (dk_at dksX11_mend_3 3 rfl rfl)
theorem dX11_mend_73 : decode cX11_mend 73 = .ok (.istore_n 3, 1) := dk_62 (dk_at dksX11_mend_3 4 rfl rfl)
theorem dX11_mend_74 : decode cX11_mend 74 = .ok (.iload_n 3, 1) := dk_29 (dk_at dksX11_mend_3 5 rfl rfl)
theorem dX11_mend_75 : decode cX11_mend 75 = .ok (.aload_n 0, 1) := dk_42 (dk_at dksX11_mend_3 6 rfl rfl)
theorem dX11_mend_76 : decode cX11_mend 76 = .ok (.getfield 543, 3) := dk_180 2 31 (dk_at dksX11_mend_3 7 rfl rfl)
theorem dX11_mend_79 : decode cX11_mend 79 = .ok (.if_icmp .ge 110, 3) := dk_162 0 110 (dk_at dksX11_mend_3 10 rfl rfl)
theorem dX11_mend_82 : decode cX11_mend 82 = .ok (.iconst (-1), 1) := dk_2 (dk_at dksX11_mend_3 13 rfl rfl)
theorem dX11_mend_83 : decode cX11_mend 83 = .ok (.istore 4, 2) := dk_54 4 (dk_at dksX11_mend_3 14 rfl rfl)
theorem dX11_mend_85 : decode cX11_mend 85 = .ok (.iconst 0, 1) := dk_3 (dk_at dksX11_mend_3 16 rfl rfl)
theorem dX11_mend_86 : decode cX11_mend 86 = .ok (.istore 5, 2) := dk_54 5 (dk_at dksX11_mend_3 17 rfl rfl)
theorem dX11_mend_88 : decode cX11_mend 88 = .ok (.iload 5, 2) := dk_21 5 (dk_at dksX11_mend_3 19 rfl rfl)
theorem dX11_mend_90 : decode cX11_mend 90 = .ok (.aload_n 0, 1) := dk_42 (dk_at dksX11_mend_3 21 rfl rfl)
theorem dX11_mend_91 : decode cX11_mend 91 = .ok (.getfield 543, 3) := dk_180 2 31 (dk_at dksX11_mend_4 0 rfl rfl)
theorem dX11_mend_94 : decode cX11_mend 94 = .ok (.if_icmp .ge 39, 3) := dk_162 0 39 (dk_at dksX11_mend_4 3 rfl rfl)
theorem dX11_mend_97 : decode cX11_mend 97 = .ok (.aload_n 0, 1) := dk_42 (dk_at dksX11_mend_4 6 rfl rfl)
theorem dX11_mend_98 : decode cX11_mend 98 = .ok (.getfield 679, 3) := dk_180 2 167 (dk_at dksX11_mend_4 7 rfl rfl)
theorem dX11_mend_101 : decode cX11_mend 101 = .ok (.iload 5, 2) := dk_21 5 (dk_at dksX11_mend_4 10 rfl rfl)
theorem dX11_mend_103 : decode cX11_mend 103 = .ok (.baload, 1) := dk_51 (dk_at dksX11_mend_4 12 rfl rfl)
theorem dX11_mend_104 : decode cX11_mend 104 = .ok (.ifCond .ne 23, 3) := dk_154 0 23 (dk_at dksX11_mend_4 13 rfl rfl)
theorem dX11_mend_107 : decode cX11_mend 107 = .ok (.iload 4, 2) := dk_21 4 (dk_at dksX11_mend_4 16 rfl rfl)
theorem dX11_mend_109 : decode cX11_mend 109 = .ok (.ifCond .lt 14, 3) := dk_155 0 14 (dk_at dksX11_mend_4 18 rfl rfl)
theorem dX11_mend_112 : decode cX11_mend 112 = .ok (.aload_n 0, 1) := dk_42 (dk_at dksX11_mend_4 21 rfl rfl)
theorem dX11_mend_113 : decode cX11_mend 113 = .ok (.iload 4, 2) := dk_21 4 (dk_at dksX11_mend_4 22 rfl rfl)
theorem dX11_mend_115 : decode cX11_mend 115 = .ok (.iload 5, 2) := dk_21 5 (dk_at dksX11_mend_5 0 rfl rfl)
theorem dX11_mend_117 : decode cX11_mend 117 = .ok (.invokevirtual 682, 3) := dk_182 2 170 (dk_at dksX11_mend_5 2 rfl rfl)
theorem dX11_mend_120 : decode cX11_mend 120 = .ok (.ifCond .eq 7, 3) := dk_153 0 7 (dk_at dksX11_mend_5 5 rfl rfl)
theorem dX11_mend_123 : decode cX11_mend 123 = .ok (.iload 5, 2) := dk_21 5 (dk_at dksX11_mend_5 8 rfl rfl)
theorem dX11_mend_125 : decode cX11_mend 125 = .ok (.istore 4, 2) := dk_54 4 (dk_at dksX11_mend_5 10 rfl rfl)
theorem dX11_mend_127 : decode cX11_mend 127 = .ok (.iinc 5 1, 3) := dk_132 5 1 (dk_at dksX11_mend_5 12 rfl rfl)
theorem dX11_mend_130 : decode cX11_mend 130 = .ok (.goto (-42), 3) := dk_167 255 214 (dk_at dksX11_mend_5 15 rfl rfl)
theorem dX11_mend_133 : decode cX11_mend 133 = .ok (.iload 4, 2) := dk_21 4 (dk_at dksX11_mend_5 18 rfl rfl)
theorem dX11_mend_135 : decode cX11_mend 135 = .ok (.ifCond .ge 6, 3) := dk_156 0 6 (dk_at dksX11_mend_5 20 rfl rfl)
theorem dX11_mend_138 : decode cX11_mend 138 = .ok (.goto 51, 3) := dk_167 0 51 (dk_at dksX11_mend_6 0 rfl rfl)
theorem dX11_mend_141 : decode cX11_mend 141 = .ok (.aload_n 0, 1) := dk_42 (dk_at dksX11_mend_6 3 rfl rfl)
theorem dX11_mend_142 : decode cX11_mend 142 = .ok (.getfield 679, 3) := dk_180 2 167 (dk_at dksX11_mend_6 4 rfl rfl)
theorem dX11_mend_145 : decode cX11_mend 145 = .ok (.iload 4, 2) := dk_21 4 (dk_at dksX11_mend_6 7 rfl rfl)
theorem dX11_mend_147 : decode cX11_mend 147 = .ok (.iconst 1, 1) := dk_4 (dk_at dksX11_mend_6 9 rfl rfl)
theorem dX11_mend_148 : decode cX11_mend 148 = .ok (.bastore, 1) := dk_84 (dk_at dksX11_mend_6 10 rfl rfl)
theorem dX11_mend_149 : decode cX11_mend 149 = .ok (.aload_n 0, 1) := dk_42 (dk_at dksX11_mend_6 11 rfl rfl)
theorem dX11_mend_150 : decode cX11_mend 150 = .ok (.getfield 667, 3) := dk_180 2 155 (dk_at dksX11_mend_6 12 rfl rfl)
theorem dX11_mend_153 : decode cX11_mend 153 = .ok (.iload 4, 2) := dk_21 4 (dk_at dksX11_mend_6 15 rfl rfl)
theorem dX11_mend_155 : decode cX11_mend 155 = .ok (.baload, 1) := dk_51 (dk_at dksX11_mend_6 17 rfl rfl)
theorem dX11_mend_156 : decode cX11_mend 156 = .ok (.ifCond .ne 9, 3) := dk_154 0 9 (dk_at dksX11_mend_6 18 rfl rfl)
theorem dX11_mend_159 : decode cX11_mend 159 = .ok (.aload_n 0, 1) := dk_42 (dk_at dksX11_mend_6 21 rfl rfl)
theorem dX11_mend_160 : decode cX11_mend 160 = .ok (.iload 4, 2) := dk_21 4 (dk_at dksX11_mend_6 22 rfl rfl)
theorem dX11_mend_162 : decode cX11_mend 162 = .ok (.invokevirtual 685, 3) := dk_182 2 173 (dk_at dksX11_mend_7 0 rfl rfl)
theorem dX11_mend_165 : decode cX11_mend 165 = .ok (.aload_n 0, 1) := dk_42 (dk_at dksX11_mend_7 3 rfl rfl)
theorem dX11_mend_166 : decode cX11_mend 166 = .ok (.getfield 658, 3) := dk_180 2 146 (dk_at dksX11_mend_7 4 rfl rfl)
theorem dX11_mend_169 : decode cX11_mend 169 = .ok (.iload 4, 2) := dk_21 4 (dk_at dksX11_mend_7 7 rfl rfl)
theorem dX11_mend_171 : decode cX11_mend 171 = .ok (.iaload, 1) := dk_46 (dk_at dksX11_mend_7 9 rfl rfl)
theorem dX11_mend_172 : decode cX11_mend 172 = .ok (.iconst 2, 1) := dk_5 (dk_at dksX11_mend_7 10 rfl rfl)
theorem dX11_mend_173 : decode cX11_mend 173 = .ok (.if_icmp .ne 10, 3) := dk_160 0 10 (dk_at dksX11_mend_7 11 rfl rfl)
theorem dX11_mend_176 : decode cX11_mend 176 = .ok (.aload_n 0, 1) := dk_42 (dk_at dksX11_mend_7 14 rfl rfl)
theorem dX11_mend_177 : decode cX11_mend 177 = .ok (.iload 4, 2) := dk_21 4 (dk_at dksX11_mend_7 15 rfl rfl)
theorem dX11_mend_179 : decode cX11_mend 179 = .ok (.iload_n 1, 1) := dk_27 (dk_at dksX11_mend_7 17 rfl rfl)
theorem dX11_mend_180 : decode cX11_mend 180 = .ok (.invokevirtual 688, 3) := dk_182 2 176 (dk_at dksX11_mend_7 18 rfl rfl)
theorem dX11_mend_183 : decode cX11_mend 183 = .ok (.iinc 3 1, 3) := dk_132 3 1 (dk_at dksX11_mend_7 21 rfl rfl)
theorem dX11_mend_186 : decode cX11_mend 186 = .ok (.goto (-112), 3) := dk_167 255 144 (dk_at dksX11_mend_8 0 rfl rfl)
theorem dX11_mend_189 : decode cX11_mend 189 = .ok (.aload_n 0, 1) := dk_42 (dk_at dksX11_mend_8 3 rfl rfl)
theorem dX11_mend_190 : decode cX11_mend 190 = .ok (.bipush 18, 2) := dk_16 18 (dk_at dksX11_mend_8 4 rfl rfl)
theorem dX11_mend_192 : decode cX11_mend 192 = .ok (.iload_n 1, 1) := dk_27 (dk_at dksX11_mend_8 6 rfl rfl)
theorem dX11_mend_193 : decode cX11_mend 193 = .ok (.iconst 0, 1) := dk_3 (dk_at dksX11_mend_8 7 rfl rfl)
theorem dX11_mend_194 : decode cX11_mend 194 = .ok (.iconst 0, 1) := dk_3 (dk_at dksX11_mend_8 8 rfl rfl)
theorem dX11_mend_195 : decode cX11_mend 195 = .ok (.iconst 0, 1) := dk_3 (dk_at dksX11_mend_8 9 rfl rfl)
theorem dX11_mend_196 : decode cX11_mend 196 = .ok (.invokevirtual 22, 3) := dk_182 0 22 (dk_at dksX11_mend_8 10 rfl rfl)
theorem dX11_mend_199 : decode cX11_mend 199 = .ok (.aload_n 0, 1) := dk_42 (dk_at dksX11_mend_8 13 rfl rfl)
theorem dX11_mend_200 : decode cX11_mend 200 = .ok (.iload_n 1, 1) := dk_27 (dk_at dksX11_mend_8 14 rfl rfl)
theorem dX11_mend_201 : decode cX11_mend 201 = .ok (.invokevirtual 676, 3) := dk_182 2 164 (dk_at dksX11_mend_8 15 rfl rfl)
theorem dX11_mend_204 : decode cX11_mend 204 = .ok (.iload_n 2, 1) := dk_28 (dk_at dksX11_mend_8 18 rfl rfl)
theorem dX11_mend_205 : decode cX11_mend 205 = .ok (.isub, 1) := dk_100 (dk_at dksX11_mend_8 19 rfl rfl)
theorem dX11_mend_206 : decode cX11_mend 206 = .ok (.ireturn, 1) := dk_172 (dk_at dksX11_mend_8 20 rfl rfl)
abbrev cX11_voidsOf : ByteArray := prog_17_method_96_code
def yX11_voidsOf : MethodName := ⟨RX11, "voidsOf", "(I)I"⟩
def dkwX11_voidsOf_1 : List UInt8 := [180, 2, 146, 29, 46, 7, 160, 0, 7, 4, 167, 0, 4, 3, 96, 61, 132, 3, 1, 167, 255, 217, 28, 172]
abbrev dktX11_voidsOf_1 : List UInt8 := dkwX11_voidsOf_1 ++ []
def dkwX11_voidsOf_0 : List UInt8 := [3, 61, 3, 62, 29, 42, 180, 2, 31, 162, 0, 37, 28, 42, 180, 2, 149, 29, 46, 27, 160, 0, 17, 42]
abbrev dktX11_voidsOf_0 : List UInt8 := dkwX11_voidsOf_0 ++ dktX11_voidsOf_1
theorem dksX11_voidsOf_0 : cX11_voidsOf.data.toList.drop 0 = dktX11_voidsOf_0 := by decide +kernel
theorem dksX11_voidsOf_1 : cX11_voidsOf.data.toList.drop 24 = dktX11_voidsOf_1 := dk_seg dksX11_voidsOf_0 24 rfl rfl
theorem dX11_voidsOf_0 : decode cX11_voidsOf 0 = .ok (.iconst 0, 1) := dk_3 (dk_at dksX11_voidsOf_0 0 rfl rfl)
theorem dX11_voidsOf_1 : decode cX11_voidsOf 1 = .ok (.istore_n 2, 1) := dk_61 (dk_at dksX11_voidsOf_0 1 rfl rfl)
theorem dX11_voidsOf_2 : decode cX11_voidsOf 2 = .ok (.iconst 0, 1) := dk_3 (dk_at dksX11_voidsOf_0 2 rfl rfl)
theorem dX11_voidsOf_3 : decode cX11_voidsOf 3 = .ok (.istore_n 3, 1) := dk_62 (dk_at dksX11_voidsOf_0 3 rfl rfl)
theorem dX11_voidsOf_4 : decode cX11_voidsOf 4 = .ok (.iload_n 3, 1) := dk_29 (dk_at dksX11_voidsOf_0 4 rfl rfl)
theorem dX11_voidsOf_5 : decode cX11_voidsOf 5 = .ok (.aload_n 0, 1) := dk_42 (dk_at dksX11_voidsOf_0 5 rfl rfl)
theorem dX11_voidsOf_6 : decode cX11_voidsOf 6 = .ok (.getfield 543, 3) := dk_180 2 31 (dk_at dksX11_voidsOf_0 6 rfl rfl)
theorem dX11_voidsOf_9 : decode cX11_voidsOf 9 = .ok (.if_icmp .ge 37, 3) := dk_162 0 37 (dk_at dksX11_voidsOf_0 9 rfl rfl)
theorem dX11_voidsOf_12 : decode cX11_voidsOf 12 = .ok (.iload_n 2, 1) := dk_28 (dk_at dksX11_voidsOf_0 12 rfl rfl)
theorem dX11_voidsOf_13 : decode cX11_voidsOf 13 = .ok (.aload_n 0, 1) := dk_42 (dk_at dksX11_voidsOf_0 13 rfl rfl)
theorem dX11_voidsOf_14 : decode cX11_voidsOf 14 = .ok (.getfield 661, 3) := dk_180 2 149 (dk_at dksX11_voidsOf_0 14 rfl rfl)
theorem dX11_voidsOf_17 : decode cX11_voidsOf 17 = .ok (.iload_n 3, 1) := dk_29 (dk_at dksX11_voidsOf_0 17 rfl rfl)
theorem dX11_voidsOf_18 : decode cX11_voidsOf 18 = .ok (.iaload, 1) := dk_46 (dk_at dksX11_voidsOf_0 18 rfl rfl)
theorem dX11_voidsOf_19 : decode cX11_voidsOf 19 = .ok (.iload_n 1, 1) := dk_27 (dk_at dksX11_voidsOf_0 19 rfl rfl)
theorem dX11_voidsOf_20 : decode cX11_voidsOf 20 = .ok (.if_icmp .ne 17, 3) := dk_160 0 17 (dk_at dksX11_voidsOf_0 20 rfl rfl)
theorem dX11_voidsOf_23 : decode cX11_voidsOf 23 = .ok (.aload_n 0, 1) := dk_42 (dk_at dksX11_voidsOf_0 23 rfl rfl)
theorem dX11_voidsOf_24 : decode cX11_voidsOf 24 = .ok (.getfield 658, 3) := dk_180 2 146 (dk_at dksX11_voidsOf_1 0 rfl rfl)
theorem dX11_voidsOf_27 : decode cX11_voidsOf 27 = .ok (.iload_n 3, 1) := dk_29 (dk_at dksX11_voidsOf_1 3 rfl rfl)
theorem dX11_voidsOf_28 : decode cX11_voidsOf 28 = .ok (.iaload, 1) := dk_46 (dk_at dksX11_voidsOf_1 4 rfl rfl)
theorem dX11_voidsOf_29 : decode cX11_voidsOf 29 = .ok (.iconst 4, 1) := dk_7 (dk_at dksX11_voidsOf_1 5 rfl rfl)
theorem dX11_voidsOf_30 : decode cX11_voidsOf 30 = .ok (.if_icmp .ne 7, 3) := dk_160 0 7 (dk_at dksX11_voidsOf_1 6 rfl rfl)
theorem dX11_voidsOf_33 : decode cX11_voidsOf 33 = .ok (.iconst 1, 1) := dk_4 (dk_at dksX11_voidsOf_1 9 rfl rfl)
theorem dX11_voidsOf_34 : decode cX11_voidsOf 34 = .ok (.goto 4, 3) := dk_167 0 4 (dk_at dksX11_voidsOf_1 10 rfl rfl)
theorem dX11_voidsOf_37 : decode cX11_voidsOf 37 = .ok (.iconst 0, 1) := dk_3 (dk_at dksX11_voidsOf_1 13 rfl rfl)
theorem dX11_voidsOf_38 : decode cX11_voidsOf 38 = .ok (.iadd, 1) := dk_96 (dk_at dksX11_voidsOf_1 14 rfl rfl)
theorem dX11_voidsOf_39 : decode cX11_voidsOf 39 = .ok (.istore_n 2, 1) := dk_61 (dk_at dksX11_voidsOf_1 15 rfl rfl)
theorem dX11_voidsOf_40 : decode cX11_voidsOf 40 = .ok (.iinc 3 1, 3) := dk_132 3 1 (dk_at dksX11_voidsOf_1 16 rfl rfl)
theorem dX11_voidsOf_43 : decode cX11_voidsOf 43 = .ok (.goto (-39), 3) := dk_167 255 217 (dk_at dksX11_voidsOf_1 19 rfl rfl)
theorem dX11_voidsOf_46 : decode cX11_voidsOf 46 = .ok (.iload_n 2, 1) := dk_28 (dk_at dksX11_voidsOf_1 22 rfl rfl)
theorem dX11_voidsOf_47 : decode cX11_voidsOf 47 = .ok (.ireturn, 1) := dk_172 (dk_at dksX11_voidsOf_1 23 rfl rfl)
abbrev cX11_isBehind : ByteArray := prog_17_method_95_code
def yX11_isBehind : MethodName := ⟨RX11, "isBehind", "(II)Z"⟩
def dkwX11_isBehind_3 : List UInt8 := [3, 172, 27, 28, 164, 0, 7, 4, 167, 0, 4, 3, 172]
abbrev dktX11_isBehind_3 : List UInt8 := dkwX11_isBehind_3 ++ []
def dkwX11_isBehind_2 : List UInt8 := [28, 46, 159, 0, 24, 42, 180, 2, 149, 27, 46, 42, 180, 2, 149, 28, 46, 164, 0, 7, 4, 167, 0, 4]
abbrev dktX11_isBehind_2 : List UInt8 := dkwX11_isBehind_2 ++ dktX11_isBehind_3
def dkwX11_isBehind_1 : List UInt8 := [180, 2, 161, 28, 46, 164, 0, 7, 4, 167, 0, 4, 3, 172, 42, 180, 2, 149, 27, 46, 42, 180, 2, 149]
abbrev dktX11_isBehind_1 : List UInt8 := dkwX11_isBehind_1 ++ dktX11_isBehind_2
def dkwX11_isBehind_0 : List UInt8 := [42, 180, 2, 161, 27, 46, 42, 180, 2, 161, 28, 46, 159, 0, 24, 42, 180, 2, 161, 27, 46, 42]
abbrev dktX11_isBehind_0 : List UInt8 := dkwX11_isBehind_0 ++ dktX11_isBehind_1
theorem dksX11_isBehind_0 : cX11_isBehind.data.toList.drop 0 = dktX11_isBehind_0 := by decide +kernel
theorem dksX11_isBehind_1 : cX11_isBehind.data.toList.drop 22 = dktX11_isBehind_1 := dk_seg dksX11_isBehind_0 22 rfl rfl
theorem dksX11_isBehind_2 : cX11_isBehind.data.toList.drop 46 = dktX11_isBehind_2 := dk_seg dksX11_isBehind_1 24 rfl rfl
theorem dksX11_isBehind_3 : cX11_isBehind.data.toList.drop 70 = dktX11_isBehind_3 := dk_seg dksX11_isBehind_2 24 rfl rfl
theorem dX11_isBehind_0 : decode cX11_isBehind 0 = .ok (.aload_n 0, 1) := dk_42 (dk_at dksX11_isBehind_0 0 rfl rfl)
theorem dX11_isBehind_1 : decode cX11_isBehind 1 = .ok (.getfield 673, 3) := dk_180 2 161 (dk_at dksX11_isBehind_0 1 rfl rfl)
theorem dX11_isBehind_4 : decode cX11_isBehind 4 = .ok (.iload_n 1, 1) := dk_27 (dk_at dksX11_isBehind_0 4 rfl rfl)
theorem dX11_isBehind_5 : decode cX11_isBehind 5 = .ok (.iaload, 1) := dk_46 (dk_at dksX11_isBehind_0 5 rfl rfl)
theorem dX11_isBehind_6 : decode cX11_isBehind 6 = .ok (.aload_n 0, 1) := dk_42 (dk_at dksX11_isBehind_0 6 rfl rfl)
theorem dX11_isBehind_7 : decode cX11_isBehind 7 = .ok (.getfield 673, 3) := dk_180 2 161 (dk_at dksX11_isBehind_0 7 rfl rfl)
theorem dX11_isBehind_10 : decode cX11_isBehind 10 = .ok (.iload_n 2, 1) := dk_28 (dk_at dksX11_isBehind_0 10 rfl rfl)
theorem dX11_isBehind_11 : decode cX11_isBehind 11 = .ok (.iaload, 1) := dk_46 (dk_at dksX11_isBehind_0 11 rfl rfl)
theorem dX11_isBehind_12 : decode cX11_isBehind 12 = .ok (.if_icmp .eq 24, 3) := dk_159 0 24 (dk_at dksX11_isBehind_0 12 rfl rfl)
theorem dX11_isBehind_15 : decode cX11_isBehind 15 = .ok (.aload_n 0, 1) := dk_42 (dk_at dksX11_isBehind_0 15 rfl rfl)
theorem dX11_isBehind_16 : decode cX11_isBehind 16 = .ok (.getfield 673, 3) := dk_180 2 161 (dk_at dksX11_isBehind_0 16 rfl rfl)
theorem dX11_isBehind_19 : decode cX11_isBehind 19 = .ok (.iload_n 1, 1) := dk_27 (dk_at dksX11_isBehind_0 19 rfl rfl)
theorem dX11_isBehind_20 : decode cX11_isBehind 20 = .ok (.iaload, 1) := dk_46 (dk_at dksX11_isBehind_0 20 rfl rfl)
theorem dX11_isBehind_21 : decode cX11_isBehind 21 = .ok (.aload_n 0, 1) := dk_42 (dk_at dksX11_isBehind_0 21 rfl rfl)
theorem dX11_isBehind_22 : decode cX11_isBehind 22 = .ok (.getfield 673, 3) := dk_180 2 161 (dk_at dksX11_isBehind_1 0 rfl rfl)
theorem dX11_isBehind_25 : decode cX11_isBehind 25 = .ok (.iload_n 2, 1) := dk_28 (dk_at dksX11_isBehind_1 3 rfl rfl)
theorem dX11_isBehind_26 : decode cX11_isBehind 26 = .ok (.iaload, 1) := dk_46 (dk_at dksX11_isBehind_1 4 rfl rfl)
theorem dX11_isBehind_27 : decode cX11_isBehind 27 = .ok (.if_icmp .le 7, 3) := dk_164 0 7 (dk_at dksX11_isBehind_1 5 rfl rfl)
theorem dX11_isBehind_30 : decode cX11_isBehind 30 = .ok (.iconst 1, 1) := dk_4 (dk_at dksX11_isBehind_1 8 rfl rfl)
theorem dX11_isBehind_31 : decode cX11_isBehind 31 = .ok (.goto 4, 3) := dk_167 0 4 (dk_at dksX11_isBehind_1 9 rfl rfl)
theorem dX11_isBehind_34 : decode cX11_isBehind 34 = .ok (.iconst 0, 1) := dk_3 (dk_at dksX11_isBehind_1 12 rfl rfl)
theorem dX11_isBehind_35 : decode cX11_isBehind 35 = .ok (.ireturn, 1) := dk_172 (dk_at dksX11_isBehind_1 13 rfl rfl)
theorem dX11_isBehind_36 : decode cX11_isBehind 36 = .ok (.aload_n 0, 1) := dk_42 (dk_at dksX11_isBehind_1 14 rfl rfl)
theorem dX11_isBehind_37 : decode cX11_isBehind 37 = .ok (.getfield 661, 3) := dk_180 2 149 (dk_at dksX11_isBehind_1 15 rfl rfl)
theorem dX11_isBehind_40 : decode cX11_isBehind 40 = .ok (.iload_n 1, 1) := dk_27 (dk_at dksX11_isBehind_1 18 rfl rfl)
theorem dX11_isBehind_41 : decode cX11_isBehind 41 = .ok (.iaload, 1) := dk_46 (dk_at dksX11_isBehind_1 19 rfl rfl)
theorem dX11_isBehind_42 : decode cX11_isBehind 42 = .ok (.aload_n 0, 1) := dk_42 (dk_at dksX11_isBehind_1 20 rfl rfl)
theorem dX11_isBehind_43 : decode cX11_isBehind 43 = .ok (.getfield 661, 3) := dk_180 2 149 (dk_at dksX11_isBehind_1 21 rfl rfl)
theorem dX11_isBehind_46 : decode cX11_isBehind 46 = .ok (.iload_n 2, 1) := dk_28 (dk_at dksX11_isBehind_2 0 rfl rfl)
theorem dX11_isBehind_47 : decode cX11_isBehind 47 = .ok (.iaload, 1) := dk_46 (dk_at dksX11_isBehind_2 1 rfl rfl)
theorem dX11_isBehind_48 : decode cX11_isBehind 48 = .ok (.if_icmp .eq 24, 3) := dk_159 0 24 (dk_at dksX11_isBehind_2 2 rfl rfl)
theorem dX11_isBehind_51 : decode cX11_isBehind 51 = .ok (.aload_n 0, 1) := dk_42 (dk_at dksX11_isBehind_2 5 rfl rfl)
theorem dX11_isBehind_52 : decode cX11_isBehind 52 = .ok (.getfield 661, 3) := dk_180 2 149 (dk_at dksX11_isBehind_2 6 rfl rfl)
theorem dX11_isBehind_55 : decode cX11_isBehind 55 = .ok (.iload_n 1, 1) := dk_27 (dk_at dksX11_isBehind_2 9 rfl rfl)
theorem dX11_isBehind_56 : decode cX11_isBehind 56 = .ok (.iaload, 1) := dk_46 (dk_at dksX11_isBehind_2 10 rfl rfl)
theorem dX11_isBehind_57 : decode cX11_isBehind 57 = .ok (.aload_n 0, 1) := dk_42 (dk_at dksX11_isBehind_2 11 rfl rfl)
theorem dX11_isBehind_58 : decode cX11_isBehind 58 = .ok (.getfield 661, 3) := dk_180 2 149 (dk_at dksX11_isBehind_2 12 rfl rfl)
theorem dX11_isBehind_61 : decode cX11_isBehind 61 = .ok (.iload_n 2, 1) := dk_28 (dk_at dksX11_isBehind_2 15 rfl rfl)
theorem dX11_isBehind_62 : decode cX11_isBehind 62 = .ok (.iaload, 1) := dk_46 (dk_at dksX11_isBehind_2 16 rfl rfl)
theorem dX11_isBehind_63 : decode cX11_isBehind 63 = .ok (.if_icmp .le 7, 3) := dk_164 0 7 (dk_at dksX11_isBehind_2 17 rfl rfl)
theorem dX11_isBehind_66 : decode cX11_isBehind 66 = .ok (.iconst 1, 1) := dk_4 (dk_at dksX11_isBehind_2 20 rfl rfl)
theorem dX11_isBehind_67 : decode cX11_isBehind 67 = .ok (.goto 4, 3) := dk_167 0 4 (dk_at dksX11_isBehind_2 21 rfl rfl)
theorem dX11_isBehind_70 : decode cX11_isBehind 70 = .ok (.iconst 0, 1) := dk_3 (dk_at dksX11_isBehind_3 0 rfl rfl)
theorem dX11_isBehind_71 : decode cX11_isBehind 71 = .ok (.ireturn, 1) := dk_172 (dk_at dksX11_isBehind_3 1 rfl rfl)
theorem dX11_isBehind_72 : decode cX11_isBehind 72 = .ok (.iload_n 1, 1) := dk_27 (dk_at dksX11_isBehind_3 2 rfl rfl)
theorem dX11_isBehind_73 : decode cX11_isBehind 73 = .ok (.iload_n 2, 1) := dk_28 (dk_at dksX11_isBehind_3 3 rfl rfl)
theorem dX11_isBehind_74 : decode cX11_isBehind 74 = .ok (.if_icmp .le 7, 3) := dk_164 0 7 (dk_at dksX11_isBehind_3 4 rfl rfl)
theorem dX11_isBehind_77 : decode cX11_isBehind 77 = .ok (.iconst 1, 1) := dk_4 (dk_at dksX11_isBehind_3 7 rfl rfl)
theorem dX11_isBehind_78 : decode cX11_isBehind 78 = .ok (.goto 4, 3) := dk_167 0 4 (dk_at dksX11_isBehind_3 8 rfl rfl)
theorem dX11_isBehind_81 : decode cX11_isBehind 81 = .ok (.iconst 0, 1) := dk_3 (dk_at dksX11_isBehind_3 11 rfl rfl)
theorem dX11_isBehind_82 : decode cX11_isBehind 82 = .ok (.ireturn, 1) := dk_172 (dk_at dksX11_isBehind_3 12 rfl rfl)
abbrev cX11_joins : ByteArray := prog_17_method_98_code
def yX11_joins : MethodName := ⟨RX11, "joins", "(I)V"⟩
def dkwX11_joins_5 : List UInt8 := [42, 180, 2, 146, 28, 7, 79, 167, 0, 10, 42, 180, 2, 146, 27, 7, 79, 177]
abbrev dktX11_joins_5 : List UInt8 := dkwX11_joins_5 ++ []
def dkwX11_joins_4 : List UInt8 := [79, 167, 0, 40, 42, 180, 2, 149, 28, 46, 16, 6, 159, 0, 12, 42, 28, 27, 182, 2, 170, 153, 0, 13]
abbrev dktX11_joins_4 : List UInt8 := dkwX11_joins_4 ++ dktX11_joins_5
def dkwX11_joins_3 : List UInt8 := [153, 0, 7, 28, 156, 0, 4, 177, 42, 180, 2, 146, 28, 46, 6, 160, 0, 13, 42, 180, 2, 146, 27, 7]
abbrev dktX11_joins_3 : List UInt8 := dkwX11_joins_3 ++ dktX11_joins_4
def dkwX11_joins_2 : List UInt8 := [153, 0, 5, 29, 61, 132, 3, 1, 167, 255, 206, 42, 180, 2, 155, 27, 4, 84, 42, 27, 182, 2, 182]
abbrev dktX11_joins_2 : List UInt8 := dkwX11_joins_2 ++ dktX11_joins_3
def dkwX11_joins_1 : List UInt8 := [153, 0, 28, 42, 180, 2, 179, 29, 46, 42, 180, 2, 179, 27, 46, 160, 0, 13, 42, 29, 182, 2, 182]
abbrev dktX11_joins_1 : List UInt8 := dkwX11_joins_1 ++ dktX11_joins_2
def dkwX11_joins_0 : List UInt8 := [2, 61, 3, 62, 29, 42, 180, 2, 31, 162, 0, 48, 29, 27, 159, 0, 37, 42, 180, 2, 155, 29, 51]
abbrev dktX11_joins_0 : List UInt8 := dkwX11_joins_0 ++ dktX11_joins_1
theorem dksX11_joins_0 : cX11_joins.data.toList.drop 0 = dktX11_joins_0 := by decide +kernel
theorem dksX11_joins_1 : cX11_joins.data.toList.drop 23 = dktX11_joins_1 := dk_seg dksX11_joins_0 23 rfl rfl
theorem dksX11_joins_2 : cX11_joins.data.toList.drop 46 = dktX11_joins_2 := dk_seg dksX11_joins_1 23 rfl rfl
theorem dksX11_joins_3 : cX11_joins.data.toList.drop 69 = dktX11_joins_3 := dk_seg dksX11_joins_2 23 rfl rfl
theorem dksX11_joins_4 : cX11_joins.data.toList.drop 93 = dktX11_joins_4 := dk_seg dksX11_joins_3 24 rfl rfl
theorem dksX11_joins_5 : cX11_joins.data.toList.drop 117 = dktX11_joins_5 := dk_seg dksX11_joins_4 24 rfl rfl
theorem dX11_joins_0 : decode cX11_joins 0 = .ok (.iconst (-1), 1) := dk_2 (dk_at dksX11_joins_0 0 rfl rfl)
theorem dX11_joins_1 : decode cX11_joins 1 = .ok (.istore_n 2, 1) := dk_61 (dk_at dksX11_joins_0 1 rfl rfl)
theorem dX11_joins_2 : decode cX11_joins 2 = .ok (.iconst 0, 1) := dk_3 (dk_at dksX11_joins_0 2 rfl rfl)
theorem dX11_joins_3 : decode cX11_joins 3 = .ok (.istore_n 3, 1) := dk_62 (dk_at dksX11_joins_0 3 rfl rfl)
theorem dX11_joins_4 : decode cX11_joins 4 = .ok (.iload_n 3, 1) := dk_29 (dk_at dksX11_joins_0 4 rfl rfl)
theorem dX11_joins_5 : decode cX11_joins 5 = .ok (.aload_n 0, 1) := dk_42 (dk_at dksX11_joins_0 5 rfl rfl)
theorem dX11_joins_6 : decode cX11_joins 6 = .ok (.getfield 543, 3) := dk_180 2 31 (dk_at dksX11_joins_0 6 rfl rfl)
theorem dX11_joins_9 : decode cX11_joins 9 = .ok (.if_icmp .ge 48, 3) := dk_162 0 48 (dk_at dksX11_joins_0 9 rfl rfl)
theorem dX11_joins_12 : decode cX11_joins 12 = .ok (.iload_n 3, 1) := dk_29 (dk_at dksX11_joins_0 12 rfl rfl)
theorem dX11_joins_13 : decode cX11_joins 13 = .ok (.iload_n 1, 1) := dk_27 (dk_at dksX11_joins_0 13 rfl rfl)
theorem dX11_joins_14 : decode cX11_joins 14 = .ok (.if_icmp .eq 37, 3) := dk_159 0 37 (dk_at dksX11_joins_0 14 rfl rfl)
theorem dX11_joins_17 : decode cX11_joins 17 = .ok (.aload_n 0, 1) := dk_42 (dk_at dksX11_joins_0 17 rfl rfl)
theorem dX11_joins_18 : decode cX11_joins 18 = .ok (.getfield 667, 3) := dk_180 2 155 (dk_at dksX11_joins_0 18 rfl rfl)
theorem dX11_joins_21 : decode cX11_joins 21 = .ok (.iload_n 3, 1) := dk_29 (dk_at dksX11_joins_0 21 rfl rfl)
theorem dX11_joins_22 : decode cX11_joins 22 = .ok (.baload, 1) := dk_51 (dk_at dksX11_joins_0 22 rfl rfl)
theorem dX11_joins_23 : decode cX11_joins 23 = .ok (.ifCond .eq 28, 3) := dk_153 0 28 (dk_at dksX11_joins_1 0 rfl rfl)
theorem dX11_joins_26 : decode cX11_joins 26 = .ok (.aload_n 0, 1) := dk_42 (dk_at dksX11_joins_1 3 rfl rfl)
theorem dX11_joins_27 : decode cX11_joins 27 = .ok (.getfield 691, 3) := dk_180 2 179 (dk_at dksX11_joins_1 4 rfl rfl)
theorem dX11_joins_30 : decode cX11_joins 30 = .ok (.iload_n 3, 1) := dk_29 (dk_at dksX11_joins_1 7 rfl rfl)
theorem dX11_joins_31 : decode cX11_joins 31 = .ok (.iaload, 1) := dk_46 (dk_at dksX11_joins_1 8 rfl rfl)
theorem dX11_joins_32 : decode cX11_joins 32 = .ok (.aload_n 0, 1) := dk_42 (dk_at dksX11_joins_1 9 rfl rfl)
theorem dX11_joins_33 : decode cX11_joins 33 = .ok (.getfield 691, 3) := dk_180 2 179 (dk_at dksX11_joins_1 10 rfl rfl)
theorem dX11_joins_36 : decode cX11_joins 36 = .ok (.iload_n 1, 1) := dk_27 (dk_at dksX11_joins_1 13 rfl rfl)
theorem dX11_joins_37 : decode cX11_joins 37 = .ok (.iaload, 1) := dk_46 (dk_at dksX11_joins_1 14 rfl rfl)
theorem dX11_joins_38 : decode cX11_joins 38 = .ok (.if_icmp .ne 13, 3) := dk_160 0 13 (dk_at dksX11_joins_1 15 rfl rfl)
theorem dX11_joins_41 : decode cX11_joins 41 = .ok (.aload_n 0, 1) := dk_42 (dk_at dksX11_joins_1 18 rfl rfl)
theorem dX11_joins_42 : decode cX11_joins 42 = .ok (.iload_n 3, 1) := dk_29 (dk_at dksX11_joins_1 19 rfl rfl)
theorem dX11_joins_43 : decode cX11_joins 43 = .ok (.invokevirtual 694, 3) := dk_182 2 182 (dk_at dksX11_joins_1 20 rfl rfl)
theorem dX11_joins_46 : decode cX11_joins 46 = .ok (.ifCond .eq 5, 3) := dk_153 0 5 (dk_at dksX11_joins_2 0 rfl rfl)
theorem dX11_joins_49 : decode cX11_joins 49 = .ok (.iload_n 3, 1) := dk_29 (dk_at dksX11_joins_2 3 rfl rfl)
theorem dX11_joins_50 : decode cX11_joins 50 = .ok (.istore_n 2, 1) := dk_61 (dk_at dksX11_joins_2 4 rfl rfl)
theorem dX11_joins_51 : decode cX11_joins 51 = .ok (.iinc 3 1, 3) := dk_132 3 1 (dk_at dksX11_joins_2 5 rfl rfl)
theorem dX11_joins_54 : decode cX11_joins 54 = .ok (.goto (-50), 3) := dk_167 255 206 (dk_at dksX11_joins_2 8 rfl rfl)
theorem dX11_joins_57 : decode cX11_joins 57 = .ok (.aload_n 0, 1) := dk_42 (dk_at dksX11_joins_2 11 rfl rfl)
theorem dX11_joins_58 : decode cX11_joins 58 = .ok (.getfield 667, 3) := dk_180 2 155 (dk_at dksX11_joins_2 12 rfl rfl)
theorem dX11_joins_61 : decode cX11_joins 61 = .ok (.iload_n 1, 1) := dk_27 (dk_at dksX11_joins_2 15 rfl rfl)
theorem dX11_joins_62 : decode cX11_joins 62 = .ok (.iconst 1, 1) := dk_4 (dk_at dksX11_joins_2 16 rfl rfl)
theorem dX11_joins_63 : decode cX11_joins 63 = .ok (.bastore, 1) := dk_84 (dk_at dksX11_joins_2 17 rfl rfl)
theorem dX11_joins_64 : decode cX11_joins 64 = .ok (.aload_n 0, 1) := dk_42 (dk_at dksX11_joins_2 18 rfl rfl)
theorem dX11_joins_65 : decode cX11_joins 65 = .ok (.iload_n 1, 1) := dk_27 (dk_at dksX11_joins_2 19 rfl rfl)
theorem dX11_joins_66 : decode cX11_joins 66 = .ok (.invokevirtual 694, 3) := dk_182 2 182 (dk_at dksX11_joins_2 20 rfl rfl)
theorem dX11_joins_69 : decode cX11_joins 69 = .ok (.ifCond .eq 7, 3) := dk_153 0 7 (dk_at dksX11_joins_3 0 rfl rfl)
theorem dX11_joins_72 : decode cX11_joins 72 = .ok (.iload_n 2, 1) := dk_28 (dk_at dksX11_joins_3 3 rfl rfl)
theorem dX11_joins_73 : decode cX11_joins 73 = .ok (.ifCond .ge 4, 3) := dk_156 0 4 (dk_at dksX11_joins_3 4 rfl rfl)
theorem dX11_joins_76 : decode cX11_joins 76 = .ok (.return_, 1) := dk_177 (dk_at dksX11_joins_3 7 rfl rfl)
theorem dX11_joins_77 : decode cX11_joins 77 = .ok (.aload_n 0, 1) := dk_42 (dk_at dksX11_joins_3 8 rfl rfl)
theorem dX11_joins_78 : decode cX11_joins 78 = .ok (.getfield 658, 3) := dk_180 2 146 (dk_at dksX11_joins_3 9 rfl rfl)
theorem dX11_joins_81 : decode cX11_joins 81 = .ok (.iload_n 2, 1) := dk_28 (dk_at dksX11_joins_3 12 rfl rfl)
theorem dX11_joins_82 : decode cX11_joins 82 = .ok (.iaload, 1) := dk_46 (dk_at dksX11_joins_3 13 rfl rfl)
theorem dX11_joins_83 : decode cX11_joins 83 = .ok (.iconst 3, 1) := dk_6 (dk_at dksX11_joins_3 14 rfl rfl)
theorem dX11_joins_84 : decode cX11_joins 84 = .ok (.if_icmp .ne 13, 3) := dk_160 0 13 (dk_at dksX11_joins_3 15 rfl rfl)
theorem dX11_joins_87 : decode cX11_joins 87 = .ok (.aload_n 0, 1) := dk_42 (dk_at dksX11_joins_3 18 rfl rfl)
theorem dX11_joins_88 : decode cX11_joins 88 = .ok (.getfield 658, 3) := dk_180 2 146 (dk_at dksX11_joins_3 19 rfl rfl)
theorem dX11_joins_91 : decode cX11_joins 91 = .ok (.iload_n 1, 1) := dk_27 (dk_at dksX11_joins_3 22 rfl rfl)
theorem dX11_joins_92 : decode cX11_joins 92 = .ok (.iconst 4, 1) := dk_7 (dk_at dksX11_joins_3 23 rfl rfl)
theorem dX11_joins_93 : decode cX11_joins 93 = .ok (.iastore, 1) := dk_79 (dk_at dksX11_joins_4 0 rfl rfl)
theorem dX11_joins_94 : decode cX11_joins 94 = .ok (.goto 40, 3) := dk_167 0 40 (dk_at dksX11_joins_4 1 rfl rfl)
theorem dX11_joins_97 : decode cX11_joins 97 = .ok (.aload_n 0, 1) := dk_42 (dk_at dksX11_joins_4 4 rfl rfl)
theorem dX11_joins_98 : decode cX11_joins 98 = .ok (.getfield 661, 3) := dk_180 2 149 (dk_at dksX11_joins_4 5 rfl rfl)
theorem dX11_joins_101 : decode cX11_joins 101 = .ok (.iload_n 2, 1) := dk_28 (dk_at dksX11_joins_4 8 rfl rfl)
theorem dX11_joins_102 : decode cX11_joins 102 = .ok (.iaload, 1) := dk_46 (dk_at dksX11_joins_4 9 rfl rfl)
theorem dX11_joins_103 : decode cX11_joins 103 = .ok (.bipush 6, 2) := dk_16 6 (dk_at dksX11_joins_4 10 rfl rfl)
theorem dX11_joins_105 : decode cX11_joins 105 = .ok (.if_icmp .eq 12, 3) := dk_159 0 12 (dk_at dksX11_joins_4 12 rfl rfl)
theorem dX11_joins_108 : decode cX11_joins 108 = .ok (.aload_n 0, 1) := dk_42 (dk_at dksX11_joins_4 15 rfl rfl)
theorem dX11_joins_109 : decode cX11_joins 109 = .ok (.iload_n 2, 1) := dk_28 (dk_at dksX11_joins_4 16 rfl rfl)
theorem dX11_joins_110 : decode cX11_joins 110 = .ok (.iload_n 1, 1) := dk_27 (dk_at dksX11_joins_4 17 rfl rfl)
theorem dX11_joins_111 : decode cX11_joins 111 = .ok (.invokevirtual 682, 3) := dk_182 2 170 (dk_at dksX11_joins_4 18 rfl rfl)
theorem dX11_joins_114 : decode cX11_joins 114 = .ok (.ifCond .eq 13, 3) := dk_153 0 13 (dk_at dksX11_joins_4 21 rfl rfl)
theorem dX11_joins_117 : decode cX11_joins 117 = .ok (.aload_n 0, 1) := dk_42 (dk_at dksX11_joins_5 0 rfl rfl)
theorem dX11_joins_118 : decode cX11_joins 118 = .ok (.getfield 658, 3) := dk_180 2 146 (dk_at dksX11_joins_5 1 rfl rfl)
theorem dX11_joins_121 : decode cX11_joins 121 = .ok (.iload_n 2, 1) := dk_28 (dk_at dksX11_joins_5 4 rfl rfl)
theorem dX11_joins_122 : decode cX11_joins 122 = .ok (.iconst 4, 1) := dk_7 (dk_at dksX11_joins_5 5 rfl rfl)
theorem dX11_joins_123 : decode cX11_joins 123 = .ok (.iastore, 1) := dk_79 (dk_at dksX11_joins_5 6 rfl rfl)
theorem dX11_joins_124 : decode cX11_joins 124 = .ok (.goto 10, 3) := dk_167 0 10 (dk_at dksX11_joins_5 7 rfl rfl)
theorem dX11_joins_127 : decode cX11_joins 127 = .ok (.aload_n 0, 1) := dk_42 (dk_at dksX11_joins_5 10 rfl rfl)
theorem dX11_joins_128 : decode cX11_joins 128 = .ok (.getfield 658, 3) := dk_180 2 146 (dk_at dksX11_joins_5 11 rfl rfl)
theorem dX11_joins_131 : decode cX11_joins 131 = .ok (.iload_n 1, 1) := dk_27 (dk_at dksX11_joins_5 14 rfl rfl)
theorem dX11_joins_132 : decode cX11_joins 132 = .ok (.iconst 4, 1) := dk_7 (dk_at dksX11_joins_5 15 rfl rfl)
theorem dX11_joins_133 : decode cX11_joins 133 = .ok (.iastore, 1) := dk_79 (dk_at dksX11_joins_5 16 rfl rfl)
theorem dX11_joins_134 : decode cX11_joins 134 = .ok (.return_, 1) := dk_177 (dk_at dksX11_joins_5 17 rfl rfl)
abbrev cX11_lives : ByteArray := prog_17_method_92_code
def yX11_lives : MethodName := ⟨RX11, "lives", "(I)Z"⟩
def dkwX11_lives_1 : List UInt8 := [46, 6, 160, 0, 7, 4, 167, 0, 4, 3, 172]
abbrev dktX11_lives_1 : List UInt8 := dkwX11_lives_1 ++ []
def dkwX11_lives_0 : List UInt8 := [42, 180, 2, 146, 27, 46, 153, 0, 23, 42, 180, 2, 146, 27, 46, 5, 159, 0, 13, 42, 180, 2, 146, 27]
abbrev dktX11_lives_0 : List UInt8 := dkwX11_lives_0 ++ dktX11_lives_1
theorem dksX11_lives_0 : cX11_lives.data.toList.drop 0 = dktX11_lives_0 := by decide +kernel
theorem dksX11_lives_1 : cX11_lives.data.toList.drop 24 = dktX11_lives_1 := dk_seg dksX11_lives_0 24 rfl rfl
theorem dX11_lives_0 : decode cX11_lives 0 = .ok (.aload_n 0, 1) := dk_42 (dk_at dksX11_lives_0 0 rfl rfl)
theorem dX11_lives_1 : decode cX11_lives 1 = .ok (.getfield 658, 3) := dk_180 2 146 (dk_at dksX11_lives_0 1 rfl rfl)
theorem dX11_lives_4 : decode cX11_lives 4 = .ok (.iload_n 1, 1) := dk_27 (dk_at dksX11_lives_0 4 rfl rfl)
theorem dX11_lives_5 : decode cX11_lives 5 = .ok (.iaload, 1) := dk_46 (dk_at dksX11_lives_0 5 rfl rfl)
theorem dX11_lives_6 : decode cX11_lives 6 = .ok (.ifCond .eq 23, 3) := dk_153 0 23 (dk_at dksX11_lives_0 6 rfl rfl)
theorem dX11_lives_9 : decode cX11_lives 9 = .ok (.aload_n 0, 1) := dk_42 (dk_at dksX11_lives_0 9 rfl rfl)
theorem dX11_lives_10 : decode cX11_lives 10 = .ok (.getfield 658, 3) := dk_180 2 146 (dk_at dksX11_lives_0 10 rfl rfl)
theorem dX11_lives_13 : decode cX11_lives 13 = .ok (.iload_n 1, 1) := dk_27 (dk_at dksX11_lives_0 13 rfl rfl)
theorem dX11_lives_14 : decode cX11_lives 14 = .ok (.iaload, 1) := dk_46 (dk_at dksX11_lives_0 14 rfl rfl)
theorem dX11_lives_15 : decode cX11_lives 15 = .ok (.iconst 2, 1) := dk_5 (dk_at dksX11_lives_0 15 rfl rfl)
theorem dX11_lives_16 : decode cX11_lives 16 = .ok (.if_icmp .eq 13, 3) := dk_159 0 13 (dk_at dksX11_lives_0 16 rfl rfl)
theorem dX11_lives_19 : decode cX11_lives 19 = .ok (.aload_n 0, 1) := dk_42 (dk_at dksX11_lives_0 19 rfl rfl)
theorem dX11_lives_20 : decode cX11_lives 20 = .ok (.getfield 658, 3) := dk_180 2 146 (dk_at dksX11_lives_0 20 rfl rfl)
theorem dX11_lives_23 : decode cX11_lives 23 = .ok (.iload_n 1, 1) := dk_27 (dk_at dksX11_lives_0 23 rfl rfl)
theorem dX11_lives_24 : decode cX11_lives 24 = .ok (.iaload, 1) := dk_46 (dk_at dksX11_lives_1 0 rfl rfl)
theorem dX11_lives_25 : decode cX11_lives 25 = .ok (.iconst 3, 1) := dk_6 (dk_at dksX11_lives_1 1 rfl rfl)
theorem dX11_lives_26 : decode cX11_lives 26 = .ok (.if_icmp .ne 7, 3) := dk_160 0 7 (dk_at dksX11_lives_1 2 rfl rfl)
theorem dX11_lives_29 : decode cX11_lives 29 = .ok (.iconst 1, 1) := dk_4 (dk_at dksX11_lives_1 5 rfl rfl)
theorem dX11_lives_30 : decode cX11_lives 30 = .ok (.goto 4, 3) := dk_167 0 4 (dk_at dksX11_lives_1 6 rfl rfl)
theorem dX11_lives_33 : decode cX11_lives 33 = .ok (.iconst 0, 1) := dk_3 (dk_at dksX11_lives_1 9 rfl rfl)
theorem dX11_lives_34 : decode cX11_lives 34 = .ok (.ireturn, 1) := dk_172 (dk_at dksX11_lives_1 10 rfl rfl)
abbrev cX11_intoBox : ByteArray := prog_17_method_120_code
def yX11_intoBox : MethodName := ⟨RX11, "intoBox", "(II)V"⟩
def dkwX11_intoBox_3 : List UInt8 := [42, 180, 2, 228, 17, 0, 200, 28, 104, 29, 96, 27, 79, 42, 180, 2, 37, 28, 92, 46, 4, 96, 79, 177]
abbrev dktX11_intoBox_3 : List UInt8 := dkwX11_intoBox_3 ++ []
def dkwX11_intoBox_2 : List UInt8 := [104, 29, 96, 42, 180, 2, 228, 17, 0, 200, 28, 104, 29, 96, 4, 100, 46, 79, 132, 3, 255, 167, 255, 201]
abbrev dktX11_intoBox_2 : List UInt8 := dkwX11_intoBox_2 ++ dktX11_intoBox_3
def dkwX11_intoBox_1 : List UInt8 := [17, 0, 200, 28, 104, 29, 96, 4, 100, 46, 182, 2, 231, 153, 0, 35, 42, 180, 2, 228, 17, 0, 200, 28]
abbrev dktX11_intoBox_1 : List UInt8 := dkwX11_intoBox_1 ++ dktX11_intoBox_2
def dkwX11_intoBox_0 : List UInt8 := [42, 180, 2, 146, 27, 6, 79, 42, 180, 2, 37, 28, 46, 62, 29, 158, 0, 57, 42, 27, 42, 180, 2, 228]
abbrev dktX11_intoBox_0 : List UInt8 := dkwX11_intoBox_0 ++ dktX11_intoBox_1
theorem dksX11_intoBox_0 : cX11_intoBox.data.toList.drop 0 = dktX11_intoBox_0 := by decide +kernel
theorem dksX11_intoBox_1 : cX11_intoBox.data.toList.drop 24 = dktX11_intoBox_1 := dk_seg dksX11_intoBox_0 24 rfl rfl
theorem dksX11_intoBox_2 : cX11_intoBox.data.toList.drop 48 = dktX11_intoBox_2 := dk_seg dksX11_intoBox_1 24 rfl rfl
theorem dksX11_intoBox_3 : cX11_intoBox.data.toList.drop 72 = dktX11_intoBox_3 := dk_seg dksX11_intoBox_2 24 rfl rfl
theorem dX11_intoBox_0 : decode cX11_intoBox 0 = .ok (.aload_n 0, 1) := dk_42 (dk_at dksX11_intoBox_0 0 rfl rfl)
theorem dX11_intoBox_1 : decode cX11_intoBox 1 = .ok (.getfield 658, 3) := dk_180 2 146 (dk_at dksX11_intoBox_0 1 rfl rfl)
theorem dX11_intoBox_4 : decode cX11_intoBox 4 = .ok (.iload_n 1, 1) := dk_27 (dk_at dksX11_intoBox_0 4 rfl rfl)
theorem dX11_intoBox_5 : decode cX11_intoBox 5 = .ok (.iconst 3, 1) := dk_6 (dk_at dksX11_intoBox_0 5 rfl rfl)
theorem dX11_intoBox_6 : decode cX11_intoBox 6 = .ok (.iastore, 1) := dk_79 (dk_at dksX11_intoBox_0 6 rfl rfl)
theorem dX11_intoBox_7 : decode cX11_intoBox 7 = .ok (.aload_n 0, 1) := dk_42 (dk_at dksX11_intoBox_0 7 rfl rfl)
theorem dX11_intoBox_8 : decode cX11_intoBox 8 = .ok (.getfield 549, 3) := dk_180 2 37 (dk_at dksX11_intoBox_0 8 rfl rfl)
theorem dX11_intoBox_11 : decode cX11_intoBox 11 = .ok (.iload_n 2, 1) := dk_28 (dk_at dksX11_intoBox_0 11 rfl rfl)
theorem dX11_intoBox_12 : decode cX11_intoBox 12 = .ok (.iaload, 1) := dk_46 (dk_at dksX11_intoBox_0 12 rfl rfl)
theorem dX11_intoBox_13 : decode cX11_intoBox 13 = .ok (.istore_n 3, 1) := dk_62 (dk_at dksX11_intoBox_0 13 rfl rfl)
theorem dX11_intoBox_14 : decode cX11_intoBox 14 = .ok (.iload_n 3, 1) := dk_29 (dk_at dksX11_intoBox_0 14 rfl rfl)
theorem dX11_intoBox_15 : decode cX11_intoBox 15 = .ok (.ifCond .le 57, 3) := dk_158 0 57 (dk_at dksX11_intoBox_0 15 rfl rfl)
theorem dX11_intoBox_18 : decode cX11_intoBox 18 = .ok (.aload_n 0, 1) := dk_42 (dk_at dksX11_intoBox_0 18 rfl rfl)
theorem dX11_intoBox_19 : decode cX11_intoBox 19 = .ok (.iload_n 1, 1) := dk_27 (dk_at dksX11_intoBox_0 19 rfl rfl)
theorem dX11_intoBox_20 : decode cX11_intoBox 20 = .ok (.aload_n 0, 1) := dk_42 (dk_at dksX11_intoBox_0 20 rfl rfl)
theorem dX11_intoBox_21 : decode cX11_intoBox 21 = .ok (.getfield 740, 3) := dk_180 2 228 (dk_at dksX11_intoBox_0 21 rfl rfl)
theorem dX11_intoBox_24 : decode cX11_intoBox 24 = .ok (.sipush 200, 3) := dk_17 0 200 (dk_at dksX11_intoBox_1 0 rfl rfl)
theorem dX11_intoBox_27 : decode cX11_intoBox 27 = .ok (.iload_n 2, 1) := dk_28 (dk_at dksX11_intoBox_1 3 rfl rfl)
theorem dX11_intoBox_28 : decode cX11_intoBox 28 = .ok (.imul, 1) := dk_104 (dk_at dksX11_intoBox_1 4 rfl rfl)
theorem dX11_intoBox_29 : decode cX11_intoBox 29 = .ok (.iload_n 3, 1) := dk_29 (dk_at dksX11_intoBox_1 5 rfl rfl)
theorem dX11_intoBox_30 : decode cX11_intoBox 30 = .ok (.iadd, 1) := dk_96 (dk_at dksX11_intoBox_1 6 rfl rfl)
theorem dX11_intoBox_31 : decode cX11_intoBox 31 = .ok (.iconst 1, 1) := dk_4 (dk_at dksX11_intoBox_1 7 rfl rfl)
theorem dX11_intoBox_32 : decode cX11_intoBox 32 = .ok (.isub, 1) := dk_100 (dk_at dksX11_intoBox_1 8 rfl rfl)
theorem dX11_intoBox_33 : decode cX11_intoBox 33 = .ok (.iaload, 1) := dk_46 (dk_at dksX11_intoBox_1 9 rfl rfl)
theorem dX11_intoBox_34 : decode cX11_intoBox 34 = .ok (.invokevirtual 743, 3) := dk_182 2 231 (dk_at dksX11_intoBox_1 10 rfl rfl)
theorem dX11_intoBox_37 : decode cX11_intoBox 37 = .ok (.ifCond .eq 35, 3) := dk_153 0 35 (dk_at dksX11_intoBox_1 13 rfl rfl)
theorem dX11_intoBox_40 : decode cX11_intoBox 40 = .ok (.aload_n 0, 1) := dk_42 (dk_at dksX11_intoBox_1 16 rfl rfl)
theorem dX11_intoBox_41 : decode cX11_intoBox 41 = .ok (.getfield 740, 3) := dk_180 2 228 (dk_at dksX11_intoBox_1 17 rfl rfl)
theorem dX11_intoBox_44 : decode cX11_intoBox 44 = .ok (.sipush 200, 3) := dk_17 0 200 (dk_at dksX11_intoBox_1 20 rfl rfl)
theorem dX11_intoBox_47 : decode cX11_intoBox 47 = .ok (.iload_n 2, 1) := dk_28 (dk_at dksX11_intoBox_1 23 rfl rfl)
theorem dX11_intoBox_48 : decode cX11_intoBox 48 = .ok (.imul, 1) := dk_104 (dk_at dksX11_intoBox_2 0 rfl rfl)
theorem dX11_intoBox_49 : decode cX11_intoBox 49 = .ok (.iload_n 3, 1) := dk_29 (dk_at dksX11_intoBox_2 1 rfl rfl)
theorem dX11_intoBox_50 : decode cX11_intoBox 50 = .ok (.iadd, 1) := dk_96 (dk_at dksX11_intoBox_2 2 rfl rfl)
theorem dX11_intoBox_51 : decode cX11_intoBox 51 = .ok (.aload_n 0, 1) := dk_42 (dk_at dksX11_intoBox_2 3 rfl rfl)
theorem dX11_intoBox_52 : decode cX11_intoBox 52 = .ok (.getfield 740, 3) := dk_180 2 228 (dk_at dksX11_intoBox_2 4 rfl rfl)
theorem dX11_intoBox_55 : decode cX11_intoBox 55 = .ok (.sipush 200, 3) := dk_17 0 200 (dk_at dksX11_intoBox_2 7 rfl rfl)
theorem dX11_intoBox_58 : decode cX11_intoBox 58 = .ok (.iload_n 2, 1) := dk_28 (dk_at dksX11_intoBox_2 10 rfl rfl)
theorem dX11_intoBox_59 : decode cX11_intoBox 59 = .ok (.imul, 1) := dk_104 (dk_at dksX11_intoBox_2 11 rfl rfl)
theorem dX11_intoBox_60 : decode cX11_intoBox 60 = .ok (.iload_n 3, 1) := dk_29 (dk_at dksX11_intoBox_2 12 rfl rfl)
theorem dX11_intoBox_61 : decode cX11_intoBox 61 = .ok (.iadd, 1) := dk_96 (dk_at dksX11_intoBox_2 13 rfl rfl)
theorem dX11_intoBox_62 : decode cX11_intoBox 62 = .ok (.iconst 1, 1) := dk_4 (dk_at dksX11_intoBox_2 14 rfl rfl)
theorem dX11_intoBox_63 : decode cX11_intoBox 63 = .ok (.isub, 1) := dk_100 (dk_at dksX11_intoBox_2 15 rfl rfl)
theorem dX11_intoBox_64 : decode cX11_intoBox 64 = .ok (.iaload, 1) := dk_46 (dk_at dksX11_intoBox_2 16 rfl rfl)
theorem dX11_intoBox_65 : decode cX11_intoBox 65 = .ok (.iastore, 1) := dk_79 (dk_at dksX11_intoBox_2 17 rfl rfl)
theorem dX11_intoBox_66 : decode cX11_intoBox 66 = .ok (.iinc 3 (-1), 3) := dk_132 3 255 (dk_at dksX11_intoBox_2 18 rfl rfl)
theorem dX11_intoBox_69 : decode cX11_intoBox 69 = .ok (.goto (-55), 3) := dk_167 255 201 (dk_at dksX11_intoBox_2 21 rfl rfl)
theorem dX11_intoBox_72 : decode cX11_intoBox 72 = .ok (.aload_n 0, 1) := dk_42 (dk_at dksX11_intoBox_3 0 rfl rfl)
theorem dX11_intoBox_73 : decode cX11_intoBox 73 = .ok (.getfield 740, 3) := dk_180 2 228 (dk_at dksX11_intoBox_3 1 rfl rfl)
theorem dX11_intoBox_76 : decode cX11_intoBox 76 = .ok (.sipush 200, 3) := dk_17 0 200 (dk_at dksX11_intoBox_3 4 rfl rfl)
theorem dX11_intoBox_79 : decode cX11_intoBox 79 = .ok (.iload_n 2, 1) := dk_28 (dk_at dksX11_intoBox_3 7 rfl rfl)
theorem dX11_intoBox_80 : decode cX11_intoBox 80 = .ok (.imul, 1) := dk_104 (dk_at dksX11_intoBox_3 8 rfl rfl)
theorem dX11_intoBox_81 : decode cX11_intoBox 81 = .ok (.iload_n 3, 1) := dk_29 (dk_at dksX11_intoBox_3 9 rfl rfl)
theorem dX11_intoBox_82 : decode cX11_intoBox 82 = .ok (.iadd, 1) := dk_96 (dk_at dksX11_intoBox_3 10 rfl rfl)
theorem dX11_intoBox_83 : decode cX11_intoBox 83 = .ok (.iload_n 1, 1) := dk_27 (dk_at dksX11_intoBox_3 11 rfl rfl)
theorem dX11_intoBox_84 : decode cX11_intoBox 84 = .ok (.iastore, 1) := dk_79 (dk_at dksX11_intoBox_3 12 rfl rfl)
theorem dX11_intoBox_85 : decode cX11_intoBox 85 = .ok (.aload_n 0, 1) := dk_42 (dk_at dksX11_intoBox_3 13 rfl rfl)
theorem dX11_intoBox_86 : decode cX11_intoBox 86 = .ok (.getfield 549, 3) := dk_180 2 37 (dk_at dksX11_intoBox_3 14 rfl rfl)
theorem dX11_intoBox_89 : decode cX11_intoBox 89 = .ok (.iload_n 2, 1) := dk_28 (dk_at dksX11_intoBox_3 17 rfl rfl)
theorem dX11_intoBox_90 : decode cX11_intoBox 90 = .ok (.dup2, 1) := dk_92 (dk_at dksX11_intoBox_3 18 rfl rfl)
theorem dX11_intoBox_91 : decode cX11_intoBox 91 = .ok (.iaload, 1) := dk_46 (dk_at dksX11_intoBox_3 19 rfl rfl)
theorem dX11_intoBox_92 : decode cX11_intoBox 92 = .ok (.iconst 1, 1) := dk_4 (dk_at dksX11_intoBox_3 20 rfl rfl)
theorem dX11_intoBox_93 : decode cX11_intoBox 93 = .ok (.iadd, 1) := dk_96 (dk_at dksX11_intoBox_3 21 rfl rfl)
theorem dX11_intoBox_94 : decode cX11_intoBox 94 = .ok (.iastore, 1) := dk_79 (dk_at dksX11_intoBox_3 22 rfl rfl)
theorem dX11_intoBox_95 : decode cX11_intoBox 95 = .ok (.return_, 1) := dk_177 (dk_at dksX11_intoBox_3 23 rfl rfl)
abbrev cX11_isAhead : ByteArray := prog_17_method_119_code
def yX11_isAhead : MethodName := ⟨RX11, "isAhead", "(II)Z"⟩
def dkwX11_isAhead_4 : List UInt8 := [21, 6, 162, 0, 7, 4, 167, 0, 4, 3, 172, 132, 4, 1, 167, 255, 199, 3, 172]
abbrev dktX11_isAhead_4 : List UInt8 := dkwX11_isAhead_4 ++ []
def dkwX11_isAhead_3 : List UInt8 := [42, 180, 2, 210, 16, 54, 28, 104, 21, 4, 96, 51, 54, 6, 21, 5, 21, 6, 159, 0, 16, 21, 5]
abbrev dktX11_isAhead_3 : List UInt8 := dkwX11_isAhead_3 ++ dktX11_isAhead_4
def dkwX11_isAhead_2 : List UInt8 := [62, 3, 54, 4, 21, 4, 29, 162, 0, 57, 42, 180, 2, 210, 16, 54, 27, 104, 21, 4, 96, 51, 54, 5]
abbrev dktX11_isAhead_2 : List UInt8 := dkwX11_isAhead_2 ++ dktX11_isAhead_3
def dkwX11_isAhead_1 : List UInt8 := [180, 2, 185, 28, 46, 162, 0, 7, 4, 167, 0, 4, 3, 172, 42, 42, 180, 2, 185, 27, 46, 182, 2, 207]
abbrev dktX11_isAhead_1 : List UInt8 := dkwX11_isAhead_1 ++ dktX11_isAhead_2
def dkwX11_isAhead_0 : List UInt8 := [42, 180, 2, 185, 27, 46, 42, 180, 2, 185, 28, 46, 159, 0, 24, 42, 180, 2, 185, 27, 46, 42]
abbrev dktX11_isAhead_0 : List UInt8 := dkwX11_isAhead_0 ++ dktX11_isAhead_1
theorem dksX11_isAhead_0 : cX11_isAhead.data.toList.drop 0 = dktX11_isAhead_0 := by decide +kernel
theorem dksX11_isAhead_1 : cX11_isAhead.data.toList.drop 22 = dktX11_isAhead_1 := dk_seg dksX11_isAhead_0 22 rfl rfl
theorem dksX11_isAhead_2 : cX11_isAhead.data.toList.drop 46 = dktX11_isAhead_2 := dk_seg dksX11_isAhead_1 24 rfl rfl
theorem dksX11_isAhead_3 : cX11_isAhead.data.toList.drop 70 = dktX11_isAhead_3 := dk_seg dksX11_isAhead_2 24 rfl rfl
theorem dksX11_isAhead_4 : cX11_isAhead.data.toList.drop 93 = dktX11_isAhead_4 := dk_seg dksX11_isAhead_3 23 rfl rfl
theorem dX11_isAhead_0 : decode cX11_isAhead 0 = .ok (.aload_n 0, 1) := dk_42 (dk_at dksX11_isAhead_0 0 rfl rfl)
theorem dX11_isAhead_1 : decode cX11_isAhead 1 = .ok (.getfield 697, 3) := dk_180 2 185 (dk_at dksX11_isAhead_0 1 rfl rfl)
theorem dX11_isAhead_4 : decode cX11_isAhead 4 = .ok (.iload_n 1, 1) := dk_27 (dk_at dksX11_isAhead_0 4 rfl rfl)
theorem dX11_isAhead_5 : decode cX11_isAhead 5 = .ok (.iaload, 1) := dk_46 (dk_at dksX11_isAhead_0 5 rfl rfl)
theorem dX11_isAhead_6 : decode cX11_isAhead 6 = .ok (.aload_n 0, 1) := dk_42 (dk_at dksX11_isAhead_0 6 rfl rfl)
theorem dX11_isAhead_7 : decode cX11_isAhead 7 = .ok (.getfield 697, 3) := dk_180 2 185 (dk_at dksX11_isAhead_0 7 rfl rfl)
theorem dX11_isAhead_10 : decode cX11_isAhead 10 = .ok (.iload_n 2, 1) := dk_28 (dk_at dksX11_isAhead_0 10 rfl rfl)
theorem dX11_isAhead_11 : decode cX11_isAhead 11 = .ok (.iaload, 1) := dk_46 (dk_at dksX11_isAhead_0 11 rfl rfl)
theorem dX11_isAhead_12 : decode cX11_isAhead 12 = .ok (.if_icmp .eq 24, 3) := dk_159 0 24 (dk_at dksX11_isAhead_0 12 rfl rfl)
theorem dX11_isAhead_15 : decode cX11_isAhead 15 = .ok (.aload_n 0, 1) := dk_42 (dk_at dksX11_isAhead_0 15 rfl rfl)
theorem dX11_isAhead_16 : decode cX11_isAhead 16 = .ok (.getfield 697, 3) := dk_180 2 185 (dk_at dksX11_isAhead_0 16 rfl rfl)
theorem dX11_isAhead_19 : decode cX11_isAhead 19 = .ok (.iload_n 1, 1) := dk_27 (dk_at dksX11_isAhead_0 19 rfl rfl)
theorem dX11_isAhead_20 : decode cX11_isAhead 20 = .ok (.iaload, 1) := dk_46 (dk_at dksX11_isAhead_0 20 rfl rfl)
theorem dX11_isAhead_21 : decode cX11_isAhead 21 = .ok (.aload_n 0, 1) := dk_42 (dk_at dksX11_isAhead_0 21 rfl rfl)
theorem dX11_isAhead_22 : decode cX11_isAhead 22 = .ok (.getfield 697, 3) := dk_180 2 185 (dk_at dksX11_isAhead_1 0 rfl rfl)
theorem dX11_isAhead_25 : decode cX11_isAhead 25 = .ok (.iload_n 2, 1) := dk_28 (dk_at dksX11_isAhead_1 3 rfl rfl)
theorem dX11_isAhead_26 : decode cX11_isAhead 26 = .ok (.iaload, 1) := dk_46 (dk_at dksX11_isAhead_1 4 rfl rfl)
theorem dX11_isAhead_27 : decode cX11_isAhead 27 = .ok (.if_icmp .ge 7, 3) := dk_162 0 7 (dk_at dksX11_isAhead_1 5 rfl rfl)
theorem dX11_isAhead_30 : decode cX11_isAhead 30 = .ok (.iconst 1, 1) := dk_4 (dk_at dksX11_isAhead_1 8 rfl rfl)
theorem dX11_isAhead_31 : decode cX11_isAhead 31 = .ok (.goto 4, 3) := dk_167 0 4 (dk_at dksX11_isAhead_1 9 rfl rfl)
theorem dX11_isAhead_34 : decode cX11_isAhead 34 = .ok (.iconst 0, 1) := dk_3 (dk_at dksX11_isAhead_1 12 rfl rfl)
theorem dX11_isAhead_35 : decode cX11_isAhead 35 = .ok (.ireturn, 1) := dk_172 (dk_at dksX11_isAhead_1 13 rfl rfl)
theorem dX11_isAhead_36 : decode cX11_isAhead 36 = .ok (.aload_n 0, 1) := dk_42 (dk_at dksX11_isAhead_1 14 rfl rfl)
theorem dX11_isAhead_37 : decode cX11_isAhead 37 = .ok (.aload_n 0, 1) := dk_42 (dk_at dksX11_isAhead_1 15 rfl rfl)
theorem dX11_isAhead_38 : decode cX11_isAhead 38 = .ok (.getfield 697, 3) := dk_180 2 185 (dk_at dksX11_isAhead_1 16 rfl rfl)
theorem dX11_isAhead_41 : decode cX11_isAhead 41 = .ok (.iload_n 1, 1) := dk_27 (dk_at dksX11_isAhead_1 19 rfl rfl)
theorem dX11_isAhead_42 : decode cX11_isAhead 42 = .ok (.iaload, 1) := dk_46 (dk_at dksX11_isAhead_1 20 rfl rfl)
theorem dX11_isAhead_43 : decode cX11_isAhead 43 = .ok (.invokevirtual 719, 3) := dk_182 2 207 (dk_at dksX11_isAhead_1 21 rfl rfl)
theorem dX11_isAhead_46 : decode cX11_isAhead 46 = .ok (.istore_n 3, 1) := dk_62 (dk_at dksX11_isAhead_2 0 rfl rfl)
theorem dX11_isAhead_47 : decode cX11_isAhead 47 = .ok (.iconst 0, 1) := dk_3 (dk_at dksX11_isAhead_2 1 rfl rfl)
theorem dX11_isAhead_48 : decode cX11_isAhead 48 = .ok (.istore 4, 2) := dk_54 4 (dk_at dksX11_isAhead_2 2 rfl rfl)
theorem dX11_isAhead_50 : decode cX11_isAhead 50 = .ok (.iload 4, 2) := dk_21 4 (dk_at dksX11_isAhead_2 4 rfl rfl)
theorem dX11_isAhead_52 : decode cX11_isAhead 52 = .ok (.iload_n 3, 1) := dk_29 (dk_at dksX11_isAhead_2 6 rfl rfl)
theorem dX11_isAhead_53 : decode cX11_isAhead 53 = .ok (.if_icmp .ge 57, 3) := dk_162 0 57 (dk_at dksX11_isAhead_2 7 rfl rfl)
theorem dX11_isAhead_56 : decode cX11_isAhead 56 = .ok (.aload_n 0, 1) := dk_42 (dk_at dksX11_isAhead_2 10 rfl rfl)
theorem dX11_isAhead_57 : decode cX11_isAhead 57 = .ok (.getfield 722, 3) := dk_180 2 210 (dk_at dksX11_isAhead_2 11 rfl rfl)
theorem dX11_isAhead_60 : decode cX11_isAhead 60 = .ok (.bipush 54, 2) := dk_16 54 (dk_at dksX11_isAhead_2 14 rfl rfl)
theorem dX11_isAhead_62 : decode cX11_isAhead 62 = .ok (.iload_n 1, 1) := dk_27 (dk_at dksX11_isAhead_2 16 rfl rfl)
theorem dX11_isAhead_63 : decode cX11_isAhead 63 = .ok (.imul, 1) := dk_104 (dk_at dksX11_isAhead_2 17 rfl rfl)
theorem dX11_isAhead_64 : decode cX11_isAhead 64 = .ok (.iload 4, 2) := dk_21 4 (dk_at dksX11_isAhead_2 18 rfl rfl)
theorem dX11_isAhead_66 : decode cX11_isAhead 66 = .ok (.iadd, 1) := dk_96 (dk_at dksX11_isAhead_2 20 rfl rfl)
theorem dX11_isAhead_67 : decode cX11_isAhead 67 = .ok (.baload, 1) := dk_51 (dk_at dksX11_isAhead_2 21 rfl rfl)
theorem dX11_isAhead_68 : decode cX11_isAhead 68 = .ok (.istore 5, 2) := dk_54 5 (dk_at dksX11_isAhead_2 22 rfl rfl)
theorem dX11_isAhead_70 : decode cX11_isAhead 70 = .ok (.aload_n 0, 1) := dk_42 (dk_at dksX11_isAhead_3 0 rfl rfl)
theorem dX11_isAhead_71 : decode cX11_isAhead 71 = .ok (.getfield 722, 3) := dk_180 2 210 (dk_at dksX11_isAhead_3 1 rfl rfl)
theorem dX11_isAhead_74 : decode cX11_isAhead 74 = .ok (.bipush 54, 2) := dk_16 54 (dk_at dksX11_isAhead_3 4 rfl rfl)
theorem dX11_isAhead_76 : decode cX11_isAhead 76 = .ok (.iload_n 2, 1) := dk_28 (dk_at dksX11_isAhead_3 6 rfl rfl)
theorem dX11_isAhead_77 : decode cX11_isAhead 77 = .ok (.imul, 1) := dk_104 (dk_at dksX11_isAhead_3 7 rfl rfl)
theorem dX11_isAhead_78 : decode cX11_isAhead 78 = .ok (.iload 4, 2) := dk_21 4 (dk_at dksX11_isAhead_3 8 rfl rfl)
theorem dX11_isAhead_80 : decode cX11_isAhead 80 = .ok (.iadd, 1) := dk_96 (dk_at dksX11_isAhead_3 10 rfl rfl)
theorem dX11_isAhead_81 : decode cX11_isAhead 81 = .ok (.baload, 1) := dk_51 (dk_at dksX11_isAhead_3 11 rfl rfl)
theorem dX11_isAhead_82 : decode cX11_isAhead 82 = .ok (.istore 6, 2) := dk_54 6 (dk_at dksX11_isAhead_3 12 rfl rfl)
theorem dX11_isAhead_84 : decode cX11_isAhead 84 = .ok (.iload 5, 2) := dk_21 5 (dk_at dksX11_isAhead_3 14 rfl rfl)
theorem dX11_isAhead_86 : decode cX11_isAhead 86 = .ok (.iload 6, 2) := dk_21 6 (dk_at dksX11_isAhead_3 16 rfl rfl)
theorem dX11_isAhead_88 : decode cX11_isAhead 88 = .ok (.if_icmp .eq 16, 3) := dk_159 0 16 (dk_at dksX11_isAhead_3 18 rfl rfl)
theorem dX11_isAhead_91 : decode cX11_isAhead 91 = .ok (.iload 5, 2) := dk_21 5 (dk_at dksX11_isAhead_3 21 rfl rfl)
theorem dX11_isAhead_93 : decode cX11_isAhead 93 = .ok (.iload 6, 2) := dk_21 6 (dk_at dksX11_isAhead_4 0 rfl rfl)
theorem dX11_isAhead_95 : decode cX11_isAhead 95 = .ok (.if_icmp .ge 7, 3) := dk_162 0 7 (dk_at dksX11_isAhead_4 2 rfl rfl)
theorem dX11_isAhead_98 : decode cX11_isAhead 98 = .ok (.iconst 1, 1) := dk_4 (dk_at dksX11_isAhead_4 5 rfl rfl)
theorem dX11_isAhead_99 : decode cX11_isAhead 99 = .ok (.goto 4, 3) := dk_167 0 4 (dk_at dksX11_isAhead_4 6 rfl rfl)
theorem dX11_isAhead_102 : decode cX11_isAhead 102 = .ok (.iconst 0, 1) := dk_3 (dk_at dksX11_isAhead_4 9 rfl rfl)
theorem dX11_isAhead_103 : decode cX11_isAhead 103 = .ok (.ireturn, 1) := dk_172 (dk_at dksX11_isAhead_4 10 rfl rfl)
theorem dX11_isAhead_104 : decode cX11_isAhead 104 = .ok (.iinc 4 1, 3) := dk_132 4 1 (dk_at dksX11_isAhead_4 11 rfl rfl)
theorem dX11_isAhead_107 : decode cX11_isAhead 107 = .ok (.goto (-57), 3) := dk_167 255 199 (dk_at dksX11_isAhead_4 14 rfl rfl)
theorem dX11_isAhead_110 : decode cX11_isAhead 110 = .ok (.iconst 0, 1) := dk_3 (dk_at dksX11_isAhead_4 17 rfl rfl)
theorem dX11_isAhead_111 : decode cX11_isAhead 111 = .ok (.ireturn, 1) := dk_172 (dk_at dksX11_isAhead_4 18 rfl rfl)
abbrev cX11_marksOf : ByteArray := prog_17_method_107_code
def yX11_marksOf : MethodName := ⟨RX11, "marksOf", "(I)I"⟩
def dkwX11_marksOf_1 : List UInt8 := [180, 1, 232, 29, 46, 167, 0, 4, 3, 96, 61, 132, 3, 1, 167, 255, 223, 28, 172]
abbrev dktX11_marksOf_1 : List UInt8 := dkwX11_marksOf_1 ++ []
def dkwX11_marksOf_0 : List UInt8 := [3, 61, 3, 62, 29, 42, 180, 1, 213, 162, 0, 31, 28, 27, 29, 122, 4, 126, 4, 160, 0, 12, 42]
abbrev dktX11_marksOf_0 : List UInt8 := dkwX11_marksOf_0 ++ dktX11_marksOf_1
theorem dksX11_marksOf_0 : cX11_marksOf.data.toList.drop 0 = dktX11_marksOf_0 := by decide +kernel
theorem dksX11_marksOf_1 : cX11_marksOf.data.toList.drop 23 = dktX11_marksOf_1 := dk_seg dksX11_marksOf_0 23 rfl rfl
theorem dX11_marksOf_0 : decode cX11_marksOf 0 = .ok (.iconst 0, 1) := dk_3 (dk_at dksX11_marksOf_0 0 rfl rfl)
theorem dX11_marksOf_1 : decode cX11_marksOf 1 = .ok (.istore_n 2, 1) := dk_61 (dk_at dksX11_marksOf_0 1 rfl rfl)
theorem dX11_marksOf_2 : decode cX11_marksOf 2 = .ok (.iconst 0, 1) := dk_3 (dk_at dksX11_marksOf_0 2 rfl rfl)
theorem dX11_marksOf_3 : decode cX11_marksOf 3 = .ok (.istore_n 3, 1) := dk_62 (dk_at dksX11_marksOf_0 3 rfl rfl)
theorem dX11_marksOf_4 : decode cX11_marksOf 4 = .ok (.iload_n 3, 1) := dk_29 (dk_at dksX11_marksOf_0 4 rfl rfl)
theorem dX11_marksOf_5 : decode cX11_marksOf 5 = .ok (.aload_n 0, 1) := dk_42 (dk_at dksX11_marksOf_0 5 rfl rfl)
theorem dX11_marksOf_6 : decode cX11_marksOf 6 = .ok (.getfield 469, 3) := dk_180 1 213 (dk_at dksX11_marksOf_0 6 rfl rfl)
theorem dX11_marksOf_9 : decode cX11_marksOf 9 = .ok (.if_icmp .ge 31, 3) := dk_162 0 31 (dk_at dksX11_marksOf_0 9 rfl rfl)
theorem dX11_marksOf_12 : decode cX11_marksOf 12 = .ok (.iload_n 2, 1) := dk_28 (dk_at dksX11_marksOf_0 12 rfl rfl)
theorem dX11_marksOf_13 : decode cX11_marksOf 13 = .ok (.iload_n 1, 1) := dk_27 (dk_at dksX11_marksOf_0 13 rfl rfl)
theorem dX11_marksOf_14 : decode cX11_marksOf 14 = .ok (.iload_n 3, 1) := dk_29 (dk_at dksX11_marksOf_0 14 rfl rfl)
theorem dX11_marksOf_15 : decode cX11_marksOf 15 = .ok (.ishr, 1) := dk_122 (dk_at dksX11_marksOf_0 15 rfl rfl)
theorem dX11_marksOf_16 : decode cX11_marksOf 16 = .ok (.iconst 1, 1) := dk_4 (dk_at dksX11_marksOf_0 16 rfl rfl)
theorem dX11_marksOf_17 : decode cX11_marksOf 17 = .ok (.iand, 1) := dk_126 (dk_at dksX11_marksOf_0 17 rfl rfl)
theorem dX11_marksOf_18 : decode cX11_marksOf 18 = .ok (.iconst 1, 1) := dk_4 (dk_at dksX11_marksOf_0 18 rfl rfl)
theorem dX11_marksOf_19 : decode cX11_marksOf 19 = .ok (.if_icmp .ne 12, 3) := dk_160 0 12 (dk_at dksX11_marksOf_0 19 rfl rfl)
theorem dX11_marksOf_22 : decode cX11_marksOf 22 = .ok (.aload_n 0, 1) := dk_42 (dk_at dksX11_marksOf_0 22 rfl rfl)
theorem dX11_marksOf_23 : decode cX11_marksOf 23 = .ok (.getfield 488, 3) := dk_180 1 232 (dk_at dksX11_marksOf_1 0 rfl rfl)
theorem dX11_marksOf_26 : decode cX11_marksOf 26 = .ok (.iload_n 3, 1) := dk_29 (dk_at dksX11_marksOf_1 3 rfl rfl)
theorem dX11_marksOf_27 : decode cX11_marksOf 27 = .ok (.iaload, 1) := dk_46 (dk_at dksX11_marksOf_1 4 rfl rfl)
theorem dX11_marksOf_28 : decode cX11_marksOf 28 = .ok (.goto 4, 3) := dk_167 0 4 (dk_at dksX11_marksOf_1 5 rfl rfl)
theorem dX11_marksOf_31 : decode cX11_marksOf 31 = .ok (.iconst 0, 1) := dk_3 (dk_at dksX11_marksOf_1 8 rfl rfl)
theorem dX11_marksOf_32 : decode cX11_marksOf 32 = .ok (.iadd, 1) := dk_96 (dk_at dksX11_marksOf_1 9 rfl rfl)
theorem dX11_marksOf_33 : decode cX11_marksOf 33 = .ok (.istore_n 2, 1) := dk_61 (dk_at dksX11_marksOf_1 10 rfl rfl)
theorem dX11_marksOf_34 : decode cX11_marksOf 34 = .ok (.iinc 3 1, 3) := dk_132 3 1 (dk_at dksX11_marksOf_1 11 rfl rfl)
theorem dX11_marksOf_37 : decode cX11_marksOf 37 = .ok (.goto (-33), 3) := dk_167 255 223 (dk_at dksX11_marksOf_1 14 rfl rfl)
theorem dX11_marksOf_40 : decode cX11_marksOf 40 = .ok (.iload_n 2, 1) := dk_28 (dk_at dksX11_marksOf_1 17 rfl rfl)
theorem dX11_marksOf_41 : decode cX11_marksOf 41 = .ok (.ireturn, 1) := dk_172 (dk_at dksX11_marksOf_1 18 rfl rfl)
abbrev cX11_checkIn : ByteArray := prog_17_method_102_code
def yX11_checkIn : MethodName := ⟨RX11, "checkIn", "(II)I"⟩
def dkwX11_checkIn_8 : List UInt8 := [182, 2, 194, 54, 4, 42, 16, 19, 27, 28, 3, 3, 182, 0, 22, 21, 4, 172]
abbrev dktX11_checkIn_8 : List UInt8 := dkwX11_checkIn_8 ++ []
def dkwX11_checkIn_7 : List UInt8 := [180, 2, 146, 29, 7, 79, 42, 28, 27, 42, 180, 2, 140, 27, 51, 154, 0, 7, 4, 167, 0, 4, 3]
abbrev dktX11_checkIn_7 : List UInt8 := dkwX11_checkIn_7 ++ dktX11_checkIn_8
def dkwX11_checkIn_6 : List UInt8 := [132, 4, 1, 167, 255, 167, 42, 180, 2, 31, 17, 0, 200, 160, 0, 6, 16, 251, 172, 29, 155, 0, 10, 42]
abbrev dktX11_checkIn_6 : List UInt8 := dkwX11_checkIn_6 ++ dktX11_checkIn_7
def dkwX11_checkIn_5 : List UInt8 := [180, 2, 149, 21, 4, 46, 16, 6, 160, 0, 9, 21, 5, 6, 160, 0, 6, 16, 252, 172, 21, 4, 62]
abbrev dktX11_checkIn_5 : List UInt8 := dkwX11_checkIn_5 ++ dktX11_checkIn_6
def dkwX11_checkIn_4 : List UInt8 := [5, 159, 0, 12, 21, 5, 6, 159, 0, 6, 167, 0, 36, 42, 180, 2, 140, 27, 51, 154, 0, 21, 42]
abbrev dktX11_checkIn_4 : List UInt8 := dkwX11_checkIn_4 ++ dktX11_checkIn_5
def dkwX11_checkIn_3 : List UInt8 := [28, 160, 0, 13, 42, 27, 21, 4, 182, 2, 158, 167, 0, 4, 2, 54, 5, 21, 5, 153, 0, 18, 21, 5]
abbrev dktX11_checkIn_3 : List UInt8 := dkwX11_checkIn_3 ++ dktX11_checkIn_4
def dkwX11_checkIn_2 : List UInt8 := [16, 252, 172, 2, 62, 3, 54, 4, 21, 4, 42, 180, 2, 31, 162, 0, 86, 42, 180, 2, 179, 21, 4, 46]
abbrev dktX11_checkIn_2 : List UInt8 := dkwX11_checkIn_2 ++ dktX11_checkIn_3
def dkwX11_checkIn_1 : List UInt8 := [153, 0, 12, 42, 180, 2, 40, 27, 51, 153, 0, 6, 16, 253, 172, 42, 28, 182, 2, 191, 154, 0, 6]
abbrev dktX11_checkIn_1 : List UInt8 := dkwX11_checkIn_1 ++ dktX11_checkIn_2
def dkwX11_checkIn_0 : List UInt8 := [42, 27, 182, 2, 143, 153, 0, 11, 42, 28, 182, 0, 110, 154, 0, 5, 2, 172, 42, 182, 2, 188]
abbrev dktX11_checkIn_0 : List UInt8 := dkwX11_checkIn_0 ++ dktX11_checkIn_1
theorem dksX11_checkIn_0 : cX11_checkIn.data.toList.drop 0 = dktX11_checkIn_0 := by decide +kernel
theorem dksX11_checkIn_1 : cX11_checkIn.data.toList.drop 22 = dktX11_checkIn_1 := dk_seg dksX11_checkIn_0 22 rfl rfl
theorem dksX11_checkIn_2 : cX11_checkIn.data.toList.drop 45 = dktX11_checkIn_2 := dk_seg dksX11_checkIn_1 23 rfl rfl
theorem dksX11_checkIn_3 : cX11_checkIn.data.toList.drop 69 = dktX11_checkIn_3 := dk_seg dksX11_checkIn_2 24 rfl rfl
theorem dksX11_checkIn_4 : cX11_checkIn.data.toList.drop 93 = dktX11_checkIn_4 := dk_seg dksX11_checkIn_3 24 rfl rfl
theorem dksX11_checkIn_5 : cX11_checkIn.data.toList.drop 116 = dktX11_checkIn_5 := dk_seg dksX11_checkIn_4 23 rfl rfl
theorem dksX11_checkIn_6 : cX11_checkIn.data.toList.drop 139 = dktX11_checkIn_6 := dk_seg dksX11_checkIn_5 23 rfl rfl
theorem dksX11_checkIn_7 : cX11_checkIn.data.toList.drop 163 = dktX11_checkIn_7 := dk_seg dksX11_checkIn_6 24 rfl rfl
theorem dksX11_checkIn_8 : cX11_checkIn.data.toList.drop 186 = dktX11_checkIn_8 := dk_seg dksX11_checkIn_7 23 rfl rfl
theorem dX11_checkIn_0 : decode cX11_checkIn 0 = .ok (.aload_n 0, 1) := dk_42 (dk_at dksX11_checkIn_0 0 rfl rfl)
theorem dX11_checkIn_1 : decode cX11_checkIn 1 = .ok (.iload_n 1, 1) := dk_27 (dk_at dksX11_checkIn_0 1 rfl rfl)
theorem dX11_checkIn_2 : decode cX11_checkIn 2 = .ok (.invokevirtual 655, 3) := dk_182 2 143 (dk_at dksX11_checkIn_0 2 rfl rfl)
theorem dX11_checkIn_5 : decode cX11_checkIn 5 = .ok (.ifCond .eq 11, 3) := dk_153 0 11 (dk_at dksX11_checkIn_0 5 rfl rfl)
theorem dX11_checkIn_8 : decode cX11_checkIn 8 = .ok (.aload_n 0, 1) := dk_42 (dk_at dksX11_checkIn_0 8 rfl rfl)
theorem dX11_checkIn_9 : decode cX11_checkIn 9 = .ok (.iload_n 2, 1) := dk_28 (dk_at dksX11_checkIn_0 9 rfl rfl)
theorem dX11_checkIn_10 : decode cX11_checkIn 10 = .ok (.invokevirtual 110, 3) := dk_182 0 110 (dk_at dksX11_checkIn_0 10 rfl rfl)
theorem dX11_checkIn_13 : decode cX11_checkIn 13 = .ok (.ifCond .ne 5, 3) := dk_154 0 5 (dk_at dksX11_checkIn_0 13 rfl rfl)
theorem dX11_checkIn_16 : decode cX11_checkIn 16 = .ok (.iconst (-1), 1) := dk_2 (dk_at dksX11_checkIn_0 16 rfl rfl)
theorem dX11_checkIn_17 : decode cX11_checkIn 17 = .ok (.ireturn, 1) := dk_172 (dk_at dksX11_checkIn_0 17 rfl rfl)
theorem dX11_checkIn_18 : decode cX11_checkIn 18 = .ok (.aload_n 0, 1) := dk_42 (dk_at dksX11_checkIn_0 18 rfl rfl)
theorem dX11_checkIn_19 : decode cX11_checkIn 19 = .ok (.invokevirtual 700, 3) := dk_182 2 188 (dk_at dksX11_checkIn_0 19 rfl rfl)
theorem dX11_checkIn_22 : decode cX11_checkIn 22 = .ok (.ifCond .eq 12, 3) := dk_153 0 12 (dk_at dksX11_checkIn_1 0 rfl rfl)
theorem dX11_checkIn_25 : decode cX11_checkIn 25 = .ok (.aload_n 0, 1) := dk_42 (dk_at dksX11_checkIn_1 3 rfl rfl)
theorem dX11_checkIn_26 : decode cX11_checkIn 26 = .ok (.getfield 552, 3) := dk_180 2 40 (dk_at dksX11_checkIn_1 4 rfl rfl)
theorem dX11_checkIn_29 : decode cX11_checkIn 29 = .ok (.iload_n 1, 1) := dk_27 (dk_at dksX11_checkIn_1 7 rfl rfl)
theorem dX11_checkIn_30 : decode cX11_checkIn 30 = .ok (.baload, 1) := dk_51 (dk_at dksX11_checkIn_1 8 rfl rfl)
theorem dX11_checkIn_31 : decode cX11_checkIn 31 = .ok (.ifCond .eq 6, 3) := dk_153 0 6 (dk_at dksX11_checkIn_1 9 rfl rfl)
theorem dX11_checkIn_34 : decode cX11_checkIn 34 = .ok (.bipush (-3), 2) := dk_16 253 (dk_at dksX11_checkIn_1 12 rfl rfl)
theorem dX11_checkIn_36 : decode cX11_checkIn 36 = .ok (.ireturn, 1) := dk_172 (dk_at dksX11_checkIn_1 14 rfl rfl)
theorem dX11_checkIn_37 : decode cX11_checkIn 37 = .ok (.aload_n 0, 1) := dk_42 (dk_at dksX11_checkIn_1 15 rfl rfl)
theorem dX11_checkIn_38 : decode cX11_checkIn 38 = .ok (.iload_n 2, 1) := dk_28 (dk_at dksX11_checkIn_1 16 rfl rfl)
theorem dX11_checkIn_39 : decode cX11_checkIn 39 = .ok (.invokevirtual 703, 3) := dk_182 2 191 (dk_at dksX11_checkIn_1 17 rfl rfl)
theorem dX11_checkIn_42 : decode cX11_checkIn 42 = .ok (.ifCond .ne 6, 3) := dk_154 0 6 (dk_at dksX11_checkIn_1 20 rfl rfl)
theorem dX11_checkIn_45 : decode cX11_checkIn 45 = .ok (.bipush (-4), 2) := dk_16 252 (dk_at dksX11_checkIn_2 0 rfl rfl)
theorem dX11_checkIn_47 : decode cX11_checkIn 47 = .ok (.ireturn, 1) := dk_172 (dk_at dksX11_checkIn_2 2 rfl rfl)
theorem dX11_checkIn_48 : decode cX11_checkIn 48 = .ok (.iconst (-1), 1) := dk_2 (dk_at dksX11_checkIn_2 3 rfl rfl)
theorem dX11_checkIn_49 : decode cX11_checkIn 49 = .ok (.istore_n 3, 1) := dk_62 (dk_at dksX11_checkIn_2 4 rfl rfl)
theorem dX11_checkIn_50 : decode cX11_checkIn 50 = .ok (.iconst 0, 1) := dk_3 (dk_at dksX11_checkIn_2 5 rfl rfl)
theorem dX11_checkIn_51 : decode cX11_checkIn 51 = .ok (.istore 4, 2) := dk_54 4 (dk_at dksX11_checkIn_2 6 rfl rfl)
theorem dX11_checkIn_53 : decode cX11_checkIn 53 = .ok (.iload 4, 2) := dk_21 4 (dk_at dksX11_checkIn_2 8 rfl rfl)
theorem dX11_checkIn_55 : decode cX11_checkIn 55 = .ok (.aload_n 0, 1) := dk_42 (dk_at dksX11_checkIn_2 10 rfl rfl)
theorem dX11_checkIn_56 : decode cX11_checkIn 56 = .ok (.getfield 543, 3) := dk_180 2 31 (dk_at dksX11_checkIn_2 11 rfl rfl)
theorem dX11_checkIn_59 : decode cX11_checkIn 59 = .ok (.if_icmp .ge 86, 3) := dk_162 0 86 (dk_at dksX11_checkIn_2 14 rfl rfl)
theorem dX11_checkIn_62 : decode cX11_checkIn 62 = .ok (.aload_n 0, 1) := dk_42 (dk_at dksX11_checkIn_2 17 rfl rfl)
theorem dX11_checkIn_63 : decode cX11_checkIn 63 = .ok (.getfield 691, 3) := dk_180 2 179 (dk_at dksX11_checkIn_2 18 rfl rfl)
theorem dX11_checkIn_66 : decode cX11_checkIn 66 = .ok (.iload 4, 2) := dk_21 4 (dk_at dksX11_checkIn_2 21 rfl rfl)
theorem dX11_checkIn_68 : decode cX11_checkIn 68 = .ok (.iaload, 1) := dk_46 (dk_at dksX11_checkIn_2 23 rfl rfl)
theorem dX11_checkIn_69 : decode cX11_checkIn 69 = .ok (.iload_n 2, 1) := dk_28 (dk_at dksX11_checkIn_3 0 rfl rfl)
theorem dX11_checkIn_70 : decode cX11_checkIn 70 = .ok (.if_icmp .ne 13, 3) := dk_160 0 13 (dk_at dksX11_checkIn_3 1 rfl rfl)
theorem dX11_checkIn_73 : decode cX11_checkIn 73 = .ok (.aload_n 0, 1) := dk_42 (dk_at dksX11_checkIn_3 4 rfl rfl)
theorem dX11_checkIn_74 : decode cX11_checkIn 74 = .ok (.iload_n 1, 1) := dk_27 (dk_at dksX11_checkIn_3 5 rfl rfl)
theorem dX11_checkIn_75 : decode cX11_checkIn 75 = .ok (.iload 4, 2) := dk_21 4 (dk_at dksX11_checkIn_3 6 rfl rfl)
theorem dX11_checkIn_77 : decode cX11_checkIn 77 = .ok (.invokevirtual 670, 3) := dk_182 2 158 (dk_at dksX11_checkIn_3 8 rfl rfl)
theorem dX11_checkIn_80 : decode cX11_checkIn 80 = .ok (.goto 4, 3) := dk_167 0 4 (dk_at dksX11_checkIn_3 11 rfl rfl)
theorem dX11_checkIn_83 : decode cX11_checkIn 83 = .ok (.iconst (-1), 1) := dk_2 (dk_at dksX11_checkIn_3 14 rfl rfl)
theorem dX11_checkIn_84 : decode cX11_checkIn 84 = .ok (.istore 5, 2) := dk_54 5 (dk_at dksX11_checkIn_3 15 rfl rfl)
theorem dX11_checkIn_86 : decode cX11_checkIn 86 = .ok (.iload 5, 2) := dk_21 5 (dk_at dksX11_checkIn_3 17 rfl rfl)
theorem dX11_checkIn_88 : decode cX11_checkIn 88 = .ok (.ifCond .eq 18, 3) := dk_153 0 18 (dk_at dksX11_checkIn_3 19 rfl rfl)
theorem dX11_checkIn_91 : decode cX11_checkIn 91 = .ok (.iload 5, 2) := dk_21 5 (dk_at dksX11_checkIn_3 22 rfl rfl)
theorem dX11_checkIn_93 : decode cX11_checkIn 93 = .ok (.iconst 2, 1) := dk_5 (dk_at dksX11_checkIn_4 0 rfl rfl)
theorem dX11_checkIn_94 : decode cX11_checkIn 94 = .ok (.if_icmp .eq 12, 3) := dk_159 0 12 (dk_at dksX11_checkIn_4 1 rfl rfl)
theorem dX11_checkIn_97 : decode cX11_checkIn 97 = .ok (.iload 5, 2) := dk_21 5 (dk_at dksX11_checkIn_4 4 rfl rfl)
theorem dX11_checkIn_99 : decode cX11_checkIn 99 = .ok (.iconst 3, 1) := dk_6 (dk_at dksX11_checkIn_4 6 rfl rfl)
theorem dX11_checkIn_100 : decode cX11_checkIn 100 = .ok (.if_icmp .eq 6, 3) := dk_159 0 6 (dk_at dksX11_checkIn_4 7 rfl rfl)
theorem dX11_checkIn_103 : decode cX11_checkIn 103 = .ok (.goto 36, 3) := dk_167 0 36 (dk_at dksX11_checkIn_4 10 rfl rfl)
theorem dX11_checkIn_106 : decode cX11_checkIn 106 = .ok (.aload_n 0, 1) := dk_42 (dk_at dksX11_checkIn_4 13 rfl rfl)
theorem dX11_checkIn_107 : decode cX11_checkIn 107 = .ok (.getfield 652, 3) := dk_180 2 140 (dk_at dksX11_checkIn_4 14 rfl rfl)
theorem dX11_checkIn_110 : decode cX11_checkIn 110 = .ok (.iload_n 1, 1) := dk_27 (dk_at dksX11_checkIn_4 17 rfl rfl)
theorem dX11_checkIn_111 : decode cX11_checkIn 111 = .ok (.baload, 1) := dk_51 (dk_at dksX11_checkIn_4 18 rfl rfl)
theorem dX11_checkIn_112 : decode cX11_checkIn 112 = .ok (.ifCond .ne 21, 3) := dk_154 0 21 (dk_at dksX11_checkIn_4 19 rfl rfl)
theorem dX11_checkIn_115 : decode cX11_checkIn 115 = .ok (.aload_n 0, 1) := dk_42 (dk_at dksX11_checkIn_4 22 rfl rfl)
theorem dX11_checkIn_116 : decode cX11_checkIn 116 = .ok (.getfield 661, 3) := dk_180 2 149 (dk_at dksX11_checkIn_5 0 rfl rfl)
theorem dX11_checkIn_119 : decode cX11_checkIn 119 = .ok (.iload 4, 2) := dk_21 4 (dk_at dksX11_checkIn_5 3 rfl rfl)
theorem dX11_checkIn_121 : decode cX11_checkIn 121 = .ok (.iaload, 1) := dk_46 (dk_at dksX11_checkIn_5 5 rfl rfl)
theorem dX11_checkIn_122 : decode cX11_checkIn 122 = .ok (.bipush 6, 2) := dk_16 6 (dk_at dksX11_checkIn_5 6 rfl rfl)
theorem dX11_checkIn_124 : decode cX11_checkIn 124 = .ok (.if_icmp .ne 9, 3) := dk_160 0 9 (dk_at dksX11_checkIn_5 8 rfl rfl)
theorem dX11_checkIn_127 : decode cX11_checkIn 127 = .ok (.iload 5, 2) := dk_21 5 (dk_at dksX11_checkIn_5 11 rfl rfl)
theorem dX11_checkIn_129 : decode cX11_checkIn 129 = .ok (.iconst 3, 1) := dk_6 (dk_at dksX11_checkIn_5 13 rfl rfl)
theorem dX11_checkIn_130 : decode cX11_checkIn 130 = .ok (.if_icmp .ne 6, 3) := dk_160 0 6 (dk_at dksX11_checkIn_5 14 rfl rfl)
theorem dX11_checkIn_133 : decode cX11_checkIn 133 = .ok (.bipush (-4), 2) := dk_16 252 (dk_at dksX11_checkIn_5 17 rfl rfl)
theorem dX11_checkIn_135 : decode cX11_checkIn 135 = .ok (.ireturn, 1) := dk_172 (dk_at dksX11_checkIn_5 19 rfl rfl)
theorem dX11_checkIn_136 : decode cX11_checkIn 136 = .ok (.iload 4, 2) := dk_21 4 (dk_at dksX11_checkIn_5 20 rfl rfl)
theorem dX11_checkIn_138 : decode cX11_checkIn 138 = .ok (.istore_n 3, 1) := dk_62 (dk_at dksX11_checkIn_5 22 rfl rfl)
theorem dX11_checkIn_139 : decode cX11_checkIn 139 = .ok (.iinc 4 1, 3) := dk_132 4 1 (dk_at dksX11_checkIn_6 0 rfl rfl)
theorem dX11_checkIn_142 : decode cX11_checkIn 142 = .ok (.goto (-89), 3) := dk_167 255 167 (dk_at dksX11_checkIn_6 3 rfl rfl)
theorem dX11_checkIn_145 : decode cX11_checkIn 145 = .ok (.aload_n 0, 1) := dk_42 (dk_at dksX11_checkIn_6 6 rfl rfl)
theorem dX11_checkIn_146 : decode cX11_checkIn 146 = .ok (.getfield 543, 3) := dk_180 2 31 (dk_at dksX11_checkIn_6 7 rfl rfl)
theorem dX11_checkIn_149 : decode cX11_checkIn 149 = .ok (.sipush 200, 3) := dk_17 0 200 (dk_at dksX11_checkIn_6 10 rfl rfl)
theorem dX11_checkIn_152 : decode cX11_checkIn 152 = .ok (.if_icmp .ne 6, 3) := dk_160 0 6 (dk_at dksX11_checkIn_6 13 rfl rfl)
theorem dX11_checkIn_155 : decode cX11_checkIn 155 = .ok (.bipush (-5), 2) := dk_16 251 (dk_at dksX11_checkIn_6 16 rfl rfl)
theorem dX11_checkIn_157 : decode cX11_checkIn 157 = .ok (.ireturn, 1) := dk_172 (dk_at dksX11_checkIn_6 18 rfl rfl)
theorem dX11_checkIn_158 : decode cX11_checkIn 158 = .ok (.iload_n 3, 1) := dk_29 (dk_at dksX11_checkIn_6 19 rfl rfl)
theorem dX11_checkIn_159 : decode cX11_checkIn 159 = .ok (.ifCond .lt 10, 3) := dk_155 0 10 (dk_at dksX11_checkIn_6 20 rfl rfl)
theorem dX11_checkIn_162 : decode cX11_checkIn 162 = .ok (.aload_n 0, 1) := dk_42 (dk_at dksX11_checkIn_6 23 rfl rfl)
theorem dX11_checkIn_163 : decode cX11_checkIn 163 = .ok (.getfield 658, 3) := dk_180 2 146 (dk_at dksX11_checkIn_7 0 rfl rfl)
theorem dX11_checkIn_166 : decode cX11_checkIn 166 = .ok (.iload_n 3, 1) := dk_29 (dk_at dksX11_checkIn_7 3 rfl rfl)
theorem dX11_checkIn_167 : decode cX11_checkIn 167 = .ok (.iconst 4, 1) := dk_7 (dk_at dksX11_checkIn_7 4 rfl rfl)
theorem dX11_checkIn_168 : decode cX11_checkIn 168 = .ok (.iastore, 1) := dk_79 (dk_at dksX11_checkIn_7 5 rfl rfl)
theorem dX11_checkIn_169 : decode cX11_checkIn 169 = .ok (.aload_n 0, 1) := dk_42 (dk_at dksX11_checkIn_7 6 rfl rfl)
theorem dX11_checkIn_170 : decode cX11_checkIn 170 = .ok (.iload_n 2, 1) := dk_28 (dk_at dksX11_checkIn_7 7 rfl rfl)
theorem dX11_checkIn_171 : decode cX11_checkIn 171 = .ok (.iload_n 1, 1) := dk_27 (dk_at dksX11_checkIn_7 8 rfl rfl)
theorem dX11_checkIn_172 : decode cX11_checkIn 172 = .ok (.aload_n 0, 1) := dk_42 (dk_at dksX11_checkIn_7 9 rfl rfl)
theorem dX11_checkIn_173 : decode cX11_checkIn 173 = .ok (.getfield 652, 3) := dk_180 2 140 (dk_at dksX11_checkIn_7 10 rfl rfl)
theorem dX11_checkIn_176 : decode cX11_checkIn 176 = .ok (.iload_n 1, 1) := dk_27 (dk_at dksX11_checkIn_7 13 rfl rfl)
theorem dX11_checkIn_177 : decode cX11_checkIn 177 = .ok (.baload, 1) := dk_51 (dk_at dksX11_checkIn_7 14 rfl rfl)
theorem dX11_checkIn_178 : decode cX11_checkIn 178 = .ok (.ifCond .ne 7, 3) := dk_154 0 7 (dk_at dksX11_checkIn_7 15 rfl rfl)
theorem dX11_checkIn_181 : decode cX11_checkIn 181 = .ok (.iconst 1, 1) := dk_4 (dk_at dksX11_checkIn_7 18 rfl rfl)
theorem dX11_checkIn_182 : decode cX11_checkIn 182 = .ok (.goto 4, 3) := dk_167 0 4 (dk_at dksX11_checkIn_7 19 rfl rfl)
theorem dX11_checkIn_185 : decode cX11_checkIn 185 = .ok (.iconst 0, 1) := dk_3 (dk_at dksX11_checkIn_7 22 rfl rfl)
theorem dX11_checkIn_186 : decode cX11_checkIn 186 = .ok (.invokevirtual 706, 3) := dk_182 2 194 (dk_at dksX11_checkIn_8 0 rfl rfl)
theorem dX11_checkIn_189 : decode cX11_checkIn 189 = .ok (.istore 4, 2) := dk_54 4 (dk_at dksX11_checkIn_8 3 rfl rfl)
theorem dX11_checkIn_191 : decode cX11_checkIn 191 = .ok (.aload_n 0, 1) := dk_42 (dk_at dksX11_checkIn_8 5 rfl rfl)
theorem dX11_checkIn_192 : decode cX11_checkIn 192 = .ok (.bipush 19, 2) := dk_16 19 (dk_at dksX11_checkIn_8 6 rfl rfl)
theorem dX11_checkIn_194 : decode cX11_checkIn 194 = .ok (.iload_n 1, 1) := dk_27 (dk_at dksX11_checkIn_8 8 rfl rfl)
theorem dX11_checkIn_195 : decode cX11_checkIn 195 = .ok (.iload_n 2, 1) := dk_28 (dk_at dksX11_checkIn_8 9 rfl rfl)
theorem dX11_checkIn_196 : decode cX11_checkIn 196 = .ok (.iconst 0, 1) := dk_3 (dk_at dksX11_checkIn_8 10 rfl rfl)
theorem dX11_checkIn_197 : decode cX11_checkIn 197 = .ok (.iconst 0, 1) := dk_3 (dk_at dksX11_checkIn_8 11 rfl rfl)
theorem dX11_checkIn_198 : decode cX11_checkIn 198 = .ok (.invokevirtual 22, 3) := dk_182 0 22 (dk_at dksX11_checkIn_8 12 rfl rfl)
theorem dX11_checkIn_201 : decode cX11_checkIn 201 = .ok (.iload 4, 2) := dk_21 4 (dk_at dksX11_checkIn_8 15 rfl rfl)
theorem dX11_checkIn_203 : decode cX11_checkIn 203 = .ok (.ireturn, 1) := dk_172 (dk_at dksX11_checkIn_8 17 rfl rfl)
abbrev cX11_isVoting : ByteArray := prog_17_method_99_code
def yX11_isVoting : MethodName := ⟨RX11, "isVoting", "()Z"⟩
def dkwX11_isVoting_1 : List UInt8 := [133, 42, 6, 182, 1, 210, 133, 184, 0, 13, 153, 0, 7, 4, 167, 0, 4, 3, 172]
abbrev dktX11_isVoting_1 : List UInt8 := dkwX11_isVoting_1 ++ []
def dkwX11_isVoting_0 : List UInt8 := [42, 180, 0, 141, 153, 0, 37, 42, 180, 2, 19, 153, 0, 30, 42, 180, 0, 17, 133, 42, 5, 182, 1, 210]
abbrev dktX11_isVoting_0 : List UInt8 := dkwX11_isVoting_0 ++ dktX11_isVoting_1
theorem dksX11_isVoting_0 : cX11_isVoting.data.toList.drop 0 = dktX11_isVoting_0 := by decide +kernel
theorem dksX11_isVoting_1 : cX11_isVoting.data.toList.drop 24 = dktX11_isVoting_1 := dk_seg dksX11_isVoting_0 24 rfl rfl
theorem dX11_isVoting_0 : decode cX11_isVoting 0 = .ok (.aload_n 0, 1) := dk_42 (dk_at dksX11_isVoting_0 0 rfl rfl)
theorem dX11_isVoting_1 : decode cX11_isVoting 1 = .ok (.getfield 141, 3) := dk_180 0 141 (dk_at dksX11_isVoting_0 1 rfl rfl)
theorem dX11_isVoting_4 : decode cX11_isVoting 4 = .ok (.ifCond .eq 37, 3) := dk_153 0 37 (dk_at dksX11_isVoting_0 4 rfl rfl)
theorem dX11_isVoting_7 : decode cX11_isVoting 7 = .ok (.aload_n 0, 1) := dk_42 (dk_at dksX11_isVoting_0 7 rfl rfl)
theorem dX11_isVoting_8 : decode cX11_isVoting 8 = .ok (.getfield 531, 3) := dk_180 2 19 (dk_at dksX11_isVoting_0 8 rfl rfl)
theorem dX11_isVoting_11 : decode cX11_isVoting 11 = .ok (.ifCond .eq 30, 3) := dk_153 0 30 (dk_at dksX11_isVoting_0 11 rfl rfl)
theorem dX11_isVoting_14 : decode cX11_isVoting 14 = .ok (.aload_n 0, 1) := dk_42 (dk_at dksX11_isVoting_0 14 rfl rfl)
theorem dX11_isVoting_15 : decode cX11_isVoting 15 = .ok (.getfield 17, 3) := dk_180 0 17 (dk_at dksX11_isVoting_0 15 rfl rfl)
theorem dX11_isVoting_18 : decode cX11_isVoting 18 = .ok (.i2l, 1) := dk_133 (dk_at dksX11_isVoting_0 18 rfl rfl)
theorem dX11_isVoting_19 : decode cX11_isVoting 19 = .ok (.aload_n 0, 1) := dk_42 (dk_at dksX11_isVoting_0 19 rfl rfl)
theorem dX11_isVoting_20 : decode cX11_isVoting 20 = .ok (.iconst 2, 1) := dk_5 (dk_at dksX11_isVoting_0 20 rfl rfl)
theorem dX11_isVoting_21 : decode cX11_isVoting 21 = .ok (.invokevirtual 466, 3) := dk_182 1 210 (dk_at dksX11_isVoting_0 21 rfl rfl)
theorem dX11_isVoting_24 : decode cX11_isVoting 24 = .ok (.i2l, 1) := dk_133 (dk_at dksX11_isVoting_1 0 rfl rfl)
theorem dX11_isVoting_25 : decode cX11_isVoting 25 = .ok (.aload_n 0, 1) := dk_42 (dk_at dksX11_isVoting_1 1 rfl rfl)
theorem dX11_isVoting_26 : decode cX11_isVoting 26 = .ok (.iconst 3, 1) := dk_6 (dk_at dksX11_isVoting_1 2 rfl rfl)
theorem dX11_isVoting_27 : decode cX11_isVoting 27 = .ok (.invokevirtual 466, 3) := dk_182 1 210 (dk_at dksX11_isVoting_1 3 rfl rfl)
theorem dX11_isVoting_30 : decode cX11_isVoting 30 = .ok (.i2l, 1) := dk_133 (dk_at dksX11_isVoting_1 6 rfl rfl)
theorem dX11_isVoting_31 : decode cX11_isVoting 31 = .ok (.invokestatic 13, 3) := dk_184 0 13 (dk_at dksX11_isVoting_1 7 rfl rfl)
theorem dX11_isVoting_34 : decode cX11_isVoting 34 = .ok (.ifCond .eq 7, 3) := dk_153 0 7 (dk_at dksX11_isVoting_1 10 rfl rfl)
theorem dX11_isVoting_37 : decode cX11_isVoting 37 = .ok (.iconst 1, 1) := dk_4 (dk_at dksX11_isVoting_1 13 rfl rfl)
theorem dX11_isVoting_38 : decode cX11_isVoting 38 = .ok (.goto 4, 3) := dk_167 0 4 (dk_at dksX11_isVoting_1 14 rfl rfl)
theorem dX11_isVoting_41 : decode cX11_isVoting 41 = .ok (.iconst 0, 1) := dk_3 (dk_at dksX11_isVoting_1 17 rfl rfl)
theorem dX11_isVoting_42 : decode cX11_isVoting 42 = .ok (.ireturn, 1) := dk_172 (dk_at dksX11_isVoting_1 18 rfl rfl)
abbrev cX11_isOnRoll : ByteArray := prog_17_method_101_code
def yX11_isOnRoll : MethodName := ⟨RX11, "isOnRoll", "(I)Z"⟩
def dkwX11_isOnRoll_1 : List UInt8 := [172]
abbrev dktX11_isOnRoll_1 : List UInt8 := dkwX11_isOnRoll_1 ++ []
def dkwX11_isOnRoll_0 : List UInt8 := [42, 27, 182, 2, 120, 61, 28, 155, 0, 16, 42, 180, 2, 93, 28, 51, 153, 0, 7, 4, 167, 0, 4, 3]
abbrev dktX11_isOnRoll_0 : List UInt8 := dkwX11_isOnRoll_0 ++ dktX11_isOnRoll_1
theorem dksX11_isOnRoll_0 : cX11_isOnRoll.data.toList.drop 0 = dktX11_isOnRoll_0 := by decide +kernel
theorem dksX11_isOnRoll_1 : cX11_isOnRoll.data.toList.drop 24 = dktX11_isOnRoll_1 := dk_seg dksX11_isOnRoll_0 24 rfl rfl
theorem dX11_isOnRoll_0 : decode cX11_isOnRoll 0 = .ok (.aload_n 0, 1) := dk_42 (dk_at dksX11_isOnRoll_0 0 rfl rfl)
theorem dX11_isOnRoll_1 : decode cX11_isOnRoll 1 = .ok (.iload_n 1, 1) := dk_27 (dk_at dksX11_isOnRoll_0 1 rfl rfl)
theorem dX11_isOnRoll_2 : decode cX11_isOnRoll 2 = .ok (.invokevirtual 632, 3) := dk_182 2 120 (dk_at dksX11_isOnRoll_0 2 rfl rfl)
theorem dX11_isOnRoll_5 : decode cX11_isOnRoll 5 = .ok (.istore_n 2, 1) := dk_61 (dk_at dksX11_isOnRoll_0 5 rfl rfl)
theorem dX11_isOnRoll_6 : decode cX11_isOnRoll 6 = .ok (.iload_n 2, 1) := dk_28 (dk_at dksX11_isOnRoll_0 6 rfl rfl)
theorem dX11_isOnRoll_7 : decode cX11_isOnRoll 7 = .ok (.ifCond .lt 16, 3) := dk_155 0 16 (dk_at dksX11_isOnRoll_0 7 rfl rfl)
theorem dX11_isOnRoll_10 : decode cX11_isOnRoll 10 = .ok (.aload_n 0, 1) := dk_42 (dk_at dksX11_isOnRoll_0 10 rfl rfl)
theorem dX11_isOnRoll_11 : decode cX11_isOnRoll 11 = .ok (.getfield 605, 3) := dk_180 2 93 (dk_at dksX11_isOnRoll_0 11 rfl rfl)
theorem dX11_isOnRoll_14 : decode cX11_isOnRoll 14 = .ok (.iload_n 2, 1) := dk_28 (dk_at dksX11_isOnRoll_0 14 rfl rfl)
theorem dX11_isOnRoll_15 : decode cX11_isOnRoll 15 = .ok (.baload, 1) := dk_51 (dk_at dksX11_isOnRoll_0 15 rfl rfl)
theorem dX11_isOnRoll_16 : decode cX11_isOnRoll 16 = .ok (.ifCond .eq 7, 3) := dk_153 0 7 (dk_at dksX11_isOnRoll_0 16 rfl rfl)
theorem dX11_isOnRoll_19 : decode cX11_isOnRoll 19 = .ok (.iconst 1, 1) := dk_4 (dk_at dksX11_isOnRoll_0 19 rfl rfl)
theorem dX11_isOnRoll_20 : decode cX11_isOnRoll 20 = .ok (.goto 4, 3) := dk_167 0 4 (dk_at dksX11_isOnRoll_0 20 rfl rfl)
theorem dX11_isOnRoll_23 : decode cX11_isOnRoll 23 = .ok (.iconst 0, 1) := dk_3 (dk_at dksX11_isOnRoll_0 23 rfl rfl)
theorem dX11_isOnRoll_24 : decode cX11_isOnRoll 24 = .ok (.ireturn, 1) := dk_172 (dk_at dksX11_isOnRoll_1 0 rfl rfl)
abbrev cX11_give : ByteArray := prog_17_method_100_code
def yX11_give : MethodName := ⟨RX11, "give", "(IIZ)I"⟩
def dkwX11_give_5 : List UInt8 := [167, 255, 231, 21, 4, 172]
abbrev dktX11_give_5 : List UInt8 := dkwX11_give_5 ++ []
def dkwX11_give_4 : List UInt8 := [16, 6, 162, 0, 24, 42, 180, 2, 152, 17, 0, 200, 21, 5, 104, 21, 4, 96, 2, 79, 132, 5, 1]
abbrev dktX11_give_4 : List UInt8 := dkwX11_give_4 ++ dktX11_give_5
def dkwX11_give_3 : List UInt8 := [29, 84, 42, 180, 2, 185, 21, 4, 42, 180, 2, 90, 42, 27, 182, 2, 120, 46, 79, 3, 54, 5, 21, 5]
abbrev dktX11_give_3 : List UInt8 := dkwX11_give_3 ++ dktX11_give_4
def dkwX11_give_2 : List UInt8 := [28, 16, 6, 160, 0, 7, 3, 167, 0, 9, 42, 180, 2, 137, 28, 46, 96, 79, 42, 180, 2, 155, 21, 4]
abbrev dktX11_give_2 : List UInt8 := dkwX11_give_2 ++ dktX11_give_3
def dkwX11_give_1 : List UInt8 := [42, 180, 2, 149, 21, 4, 28, 79, 42, 180, 2, 146, 21, 4, 3, 79, 42, 180, 2, 161, 21, 4, 21, 4]
abbrev dktX11_give_1 : List UInt8 := dkwX11_give_1 ++ dktX11_give_2
def dkwX11_give_0 : List UInt8 := [42, 180, 2, 31, 54, 4, 42, 89, 180, 2, 31, 4, 96, 181, 2, 31, 42, 180, 2, 179, 21, 4, 27, 79]
abbrev dktX11_give_0 : List UInt8 := dkwX11_give_0 ++ dktX11_give_1
theorem dksX11_give_0 : cX11_give.data.toList.drop 0 = dktX11_give_0 := by decide +kernel
theorem dksX11_give_1 : cX11_give.data.toList.drop 24 = dktX11_give_1 := dk_seg dksX11_give_0 24 rfl rfl
theorem dksX11_give_2 : cX11_give.data.toList.drop 48 = dktX11_give_2 := dk_seg dksX11_give_1 24 rfl rfl
theorem dksX11_give_3 : cX11_give.data.toList.drop 72 = dktX11_give_3 := dk_seg dksX11_give_2 24 rfl rfl
theorem dksX11_give_4 : cX11_give.data.toList.drop 96 = dktX11_give_4 := dk_seg dksX11_give_3 24 rfl rfl
theorem dksX11_give_5 : cX11_give.data.toList.drop 119 = dktX11_give_5 := dk_seg dksX11_give_4 23 rfl rfl
theorem dX11_give_0 : decode cX11_give 0 = .ok (.aload_n 0, 1) := dk_42 (dk_at dksX11_give_0 0 rfl rfl)
theorem dX11_give_1 : decode cX11_give 1 = .ok (.getfield 543, 3) := dk_180 2 31 (dk_at dksX11_give_0 1 rfl rfl)
theorem dX11_give_4 : decode cX11_give 4 = .ok (.istore 4, 2) := dk_54 4 (dk_at dksX11_give_0 4 rfl rfl)
theorem dX11_give_6 : decode cX11_give 6 = .ok (.aload_n 0, 1) := dk_42 (dk_at dksX11_give_0 6 rfl rfl)
theorem dX11_give_7 : decode cX11_give 7 = .ok (.dup, 1) := dk_89 (dk_at dksX11_give_0 7 rfl rfl)
theorem dX11_give_8 : decode cX11_give 8 = .ok (.getfield 543, 3) := dk_180 2 31 (dk_at dksX11_give_0 8 rfl rfl)
theorem dX11_give_11 : decode cX11_give 11 = .ok (.iconst 1, 1) := dk_4 (dk_at dksX11_give_0 11 rfl rfl)
theorem dX11_give_12 : decode cX11_give 12 = .ok (.iadd, 1) := dk_96 (dk_at dksX11_give_0 12 rfl rfl)
theorem dX11_give_13 : decode cX11_give 13 = .ok (.putfield 543, 3) := dk_181 2 31 (dk_at dksX11_give_0 13 rfl rfl)
theorem dX11_give_16 : decode cX11_give 16 = .ok (.aload_n 0, 1) := dk_42 (dk_at dksX11_give_0 16 rfl rfl)
theorem dX11_give_17 : decode cX11_give 17 = .ok (.getfield 691, 3) := dk_180 2 179 (dk_at dksX11_give_0 17 rfl rfl)
theorem dX11_give_20 : decode cX11_give 20 = .ok (.iload 4, 2) := dk_21 4 (dk_at dksX11_give_0 20 rfl rfl)
theorem dX11_give_22 : decode cX11_give 22 = .ok (.iload_n 1, 1) := dk_27 (dk_at dksX11_give_0 22 rfl rfl)
theorem dX11_give_23 : decode cX11_give 23 = .ok (.iastore, 1) := dk_79 (dk_at dksX11_give_0 23 rfl rfl)
theorem dX11_give_24 : decode cX11_give 24 = .ok (.aload_n 0, 1) := dk_42 (dk_at dksX11_give_1 0 rfl rfl)
theorem dX11_give_25 : decode cX11_give 25 = .ok (.getfield 661, 3) := dk_180 2 149 (dk_at dksX11_give_1 1 rfl rfl)
theorem dX11_give_28 : decode cX11_give 28 = .ok (.iload 4, 2) := dk_21 4 (dk_at dksX11_give_1 4 rfl rfl)
theorem dX11_give_30 : decode cX11_give 30 = .ok (.iload_n 2, 1) := dk_28 (dk_at dksX11_give_1 6 rfl rfl)
theorem dX11_give_31 : decode cX11_give 31 = .ok (.iastore, 1) := dk_79 (dk_at dksX11_give_1 7 rfl rfl)
theorem dX11_give_32 : decode cX11_give 32 = .ok (.aload_n 0, 1) := dk_42 (dk_at dksX11_give_1 8 rfl rfl)
theorem dX11_give_33 : decode cX11_give 33 = .ok (.getfield 658, 3) := dk_180 2 146 (dk_at dksX11_give_1 9 rfl rfl)
theorem dX11_give_36 : decode cX11_give 36 = .ok (.iload 4, 2) := dk_21 4 (dk_at dksX11_give_1 12 rfl rfl)
theorem dX11_give_38 : decode cX11_give 38 = .ok (.iconst 0, 1) := dk_3 (dk_at dksX11_give_1 14 rfl rfl)
theorem dX11_give_39 : decode cX11_give 39 = .ok (.iastore, 1) := dk_79 (dk_at dksX11_give_1 15 rfl rfl)
theorem dX11_give_40 : decode cX11_give 40 = .ok (.aload_n 0, 1) := dk_42 (dk_at dksX11_give_1 16 rfl rfl)
theorem dX11_give_41 : decode cX11_give 41 = .ok (.getfield 673, 3) := dk_180 2 161 (dk_at dksX11_give_1 17 rfl rfl)
theorem dX11_give_44 : decode cX11_give 44 = .ok (.iload 4, 2) := dk_21 4 (dk_at dksX11_give_1 20 rfl rfl)
theorem dX11_give_46 : decode cX11_give 46 = .ok (.iload 4, 2) := dk_21 4 (dk_at dksX11_give_1 22 rfl rfl)
theorem dX11_give_48 : decode cX11_give 48 = .ok (.iload_n 2, 1) := dk_28 (dk_at dksX11_give_2 0 rfl rfl)
theorem dX11_give_49 : decode cX11_give 49 = .ok (.bipush 6, 2) := dk_16 6 (dk_at dksX11_give_2 1 rfl rfl)
theorem dX11_give_51 : decode cX11_give 51 = .ok (.if_icmp .ne 7, 3) := dk_160 0 7 (dk_at dksX11_give_2 3 rfl rfl)
theorem dX11_give_54 : decode cX11_give 54 = .ok (.iconst 0, 1) := dk_3 (dk_at dksX11_give_2 6 rfl rfl)
theorem dX11_give_55 : decode cX11_give 55 = .ok (.goto 9, 3) := dk_167 0 9 (dk_at dksX11_give_2 7 rfl rfl)
theorem dX11_give_58 : decode cX11_give 58 = .ok (.aload_n 0, 1) := dk_42 (dk_at dksX11_give_2 10 rfl rfl)
theorem dX11_give_59 : decode cX11_give 59 = .ok (.getfield 649, 3) := dk_180 2 137 (dk_at dksX11_give_2 11 rfl rfl)
theorem dX11_give_62 : decode cX11_give 62 = .ok (.iload_n 2, 1) := dk_28 (dk_at dksX11_give_2 14 rfl rfl)
theorem dX11_give_63 : decode cX11_give 63 = .ok (.iaload, 1) := dk_46 (dk_at dksX11_give_2 15 rfl rfl)
theorem dX11_give_64 : decode cX11_give 64 = .ok (.iadd, 1) := dk_96 (dk_at dksX11_give_2 16 rfl rfl)
theorem dX11_give_65 : decode cX11_give 65 = .ok (.iastore, 1) := dk_79 (dk_at dksX11_give_2 17 rfl rfl)
theorem dX11_give_66 : decode cX11_give 66 = .ok (.aload_n 0, 1) := dk_42 (dk_at dksX11_give_2 18 rfl rfl)
theorem dX11_give_67 : decode cX11_give 67 = .ok (.getfield 667, 3) := dk_180 2 155 (dk_at dksX11_give_2 19 rfl rfl)
theorem dX11_give_70 : decode cX11_give 70 = .ok (.iload 4, 2) := dk_21 4 (dk_at dksX11_give_2 22 rfl rfl)
theorem dX11_give_72 : decode cX11_give 72 = .ok (.iload_n 3, 1) := dk_29 (dk_at dksX11_give_3 0 rfl rfl)
theorem dX11_give_73 : decode cX11_give 73 = .ok (.bastore, 1) := dk_84 (dk_at dksX11_give_3 1 rfl rfl)
theorem dX11_give_74 : decode cX11_give 74 = .ok (.aload_n 0, 1) := dk_42 (dk_at dksX11_give_3 2 rfl rfl)
theorem dX11_give_75 : decode cX11_give 75 = .ok (.getfield 697, 3) := dk_180 2 185 (dk_at dksX11_give_3 3 rfl rfl)
theorem dX11_give_78 : decode cX11_give 78 = .ok (.iload 4, 2) := dk_21 4 (dk_at dksX11_give_3 6 rfl rfl)
theorem dX11_give_80 : decode cX11_give 80 = .ok (.aload_n 0, 1) := dk_42 (dk_at dksX11_give_3 8 rfl rfl)
theorem dX11_give_81 : decode cX11_give 81 = .ok (.getfield 602, 3) := dk_180 2 90 (dk_at dksX11_give_3 9 rfl rfl)
theorem dX11_give_84 : decode cX11_give 84 = .ok (.aload_n 0, 1) := dk_42 (dk_at dksX11_give_3 12 rfl rfl)
theorem dX11_give_85 : decode cX11_give 85 = .ok (.iload_n 1, 1) := dk_27 (dk_at dksX11_give_3 13 rfl rfl)
theorem dX11_give_86 : decode cX11_give 86 = .ok (.invokevirtual 632, 3) := dk_182 2 120 (dk_at dksX11_give_3 14 rfl rfl)
theorem dX11_give_89 : decode cX11_give 89 = .ok (.iaload, 1) := dk_46 (dk_at dksX11_give_3 17 rfl rfl)
theorem dX11_give_90 : decode cX11_give 90 = .ok (.iastore, 1) := dk_79 (dk_at dksX11_give_3 18 rfl rfl)
theorem dX11_give_91 : decode cX11_give 91 = .ok (.iconst 0, 1) := dk_3 (dk_at dksX11_give_3 19 rfl rfl)
theorem dX11_give_92 : decode cX11_give 92 = .ok (.istore 5, 2) := dk_54 5 (dk_at dksX11_give_3 20 rfl rfl)
theorem dX11_give_94 : decode cX11_give 94 = .ok (.iload 5, 2) := dk_21 5 (dk_at dksX11_give_3 22 rfl rfl)
theorem dX11_give_96 : decode cX11_give 96 = .ok (.bipush 6, 2) := dk_16 6 (dk_at dksX11_give_4 0 rfl rfl)
theorem dX11_give_98 : decode cX11_give 98 = .ok (.if_icmp .ge 24, 3) := dk_162 0 24 (dk_at dksX11_give_4 2 rfl rfl)
theorem dX11_give_101 : decode cX11_give 101 = .ok (.aload_n 0, 1) := dk_42 (dk_at dksX11_give_4 5 rfl rfl)
theorem dX11_give_102 : decode cX11_give 102 = .ok (.getfield 664, 3) := dk_180 2 152 (dk_at dksX11_give_4 6 rfl rfl)
theorem dX11_give_105 : decode cX11_give 105 = .ok (.sipush 200, 3) := dk_17 0 200 (dk_at dksX11_give_4 9 rfl rfl)
theorem dX11_give_108 : decode cX11_give 108 = .ok (.iload 5, 2) := dk_21 5 (dk_at dksX11_give_4 12 rfl rfl)
theorem dX11_give_110 : decode cX11_give 110 = .ok (.imul, 1) := dk_104 (dk_at dksX11_give_4 14 rfl rfl)
theorem dX11_give_111 : decode cX11_give 111 = .ok (.iload 4, 2) := dk_21 4 (dk_at dksX11_give_4 15 rfl rfl)
theorem dX11_give_113 : decode cX11_give 113 = .ok (.iadd, 1) := dk_96 (dk_at dksX11_give_4 17 rfl rfl)
theorem dX11_give_114 : decode cX11_give 114 = .ok (.iconst (-1), 1) := dk_2 (dk_at dksX11_give_4 18 rfl rfl)
theorem dX11_give_115 : decode cX11_give 115 = .ok (.iastore, 1) := dk_79 (dk_at dksX11_give_4 19 rfl rfl)
theorem dX11_give_116 : decode cX11_give 116 = .ok (.iinc 5 1, 3) := dk_132 5 1 (dk_at dksX11_give_4 20 rfl rfl)
theorem dX11_give_119 : decode cX11_give 119 = .ok (.goto (-25), 3) := dk_167 255 231 (dk_at dksX11_give_5 0 rfl rfl)
theorem dX11_give_122 : decode cX11_give 122 = .ok (.iload 4, 2) := dk_21 4 (dk_at dksX11_give_5 3 rfl rfl)
theorem dX11_give_124 : decode cX11_give 124 = .ok (.ireturn, 1) := dk_172 (dk_at dksX11_give_5 5 rfl rfl)
abbrev cX11_spoil : ByteArray := prog_17_method_106_code
def yX11_spoil : MethodName := ⟨RX11, "spoil", "(I)I"⟩
def dkwX11_spoil_2 : List UInt8 := [180, 2, 146, 27, 4, 79, 42, 16, 20, 27, 3, 3, 3, 182, 0, 22, 42, 27, 182, 2, 204, 172]
abbrev dktX11_spoil_2 : List UInt8 := dkwX11_spoil_2 ++ []
def dkwX11_spoil_1 : List UInt8 := [182, 2, 201, 153, 0, 17, 42, 27, 182, 2, 204, 42, 16, 7, 182, 1, 210, 161, 0, 6, 16, 252, 172, 42]
abbrev dktX11_spoil_1 : List UInt8 := dkwX11_spoil_1 ++ dktX11_spoil_2
def dkwX11_spoil_0 : List UInt8 := [42, 27, 182, 2, 198, 154, 0, 5, 2, 172, 42, 182, 2, 188, 154, 0, 6, 16, 253, 172, 42, 27]
abbrev dktX11_spoil_0 : List UInt8 := dkwX11_spoil_0 ++ dktX11_spoil_1
theorem dksX11_spoil_0 : cX11_spoil.data.toList.drop 0 = dktX11_spoil_0 := by decide +kernel
theorem dksX11_spoil_1 : cX11_spoil.data.toList.drop 22 = dktX11_spoil_1 := dk_seg dksX11_spoil_0 22 rfl rfl
theorem dksX11_spoil_2 : cX11_spoil.data.toList.drop 46 = dktX11_spoil_2 := dk_seg dksX11_spoil_1 24 rfl rfl
theorem dX11_spoil_0 : decode cX11_spoil 0 = .ok (.aload_n 0, 1) := dk_42 (dk_at dksX11_spoil_0 0 rfl rfl)
theorem dX11_spoil_1 : decode cX11_spoil 1 = .ok (.iload_n 1, 1) := dk_27 (dk_at dksX11_spoil_0 1 rfl rfl)
theorem dX11_spoil_2 : decode cX11_spoil 2 = .ok (.invokevirtual 710, 3) := dk_182 2 198 (dk_at dksX11_spoil_0 2 rfl rfl)
theorem dX11_spoil_5 : decode cX11_spoil 5 = .ok (.ifCond .ne 5, 3) := dk_154 0 5 (dk_at dksX11_spoil_0 5 rfl rfl)
theorem dX11_spoil_8 : decode cX11_spoil 8 = .ok (.iconst (-1), 1) := dk_2 (dk_at dksX11_spoil_0 8 rfl rfl)
theorem dX11_spoil_9 : decode cX11_spoil 9 = .ok (.ireturn, 1) := dk_172 (dk_at dksX11_spoil_0 9 rfl rfl)
theorem dX11_spoil_10 : decode cX11_spoil 10 = .ok (.aload_n 0, 1) := dk_42 (dk_at dksX11_spoil_0 10 rfl rfl)
theorem dX11_spoil_11 : decode cX11_spoil 11 = .ok (.invokevirtual 700, 3) := dk_182 2 188 (dk_at dksX11_spoil_0 11 rfl rfl)
theorem dX11_spoil_14 : decode cX11_spoil 14 = .ok (.ifCond .ne 6, 3) := dk_154 0 6 (dk_at dksX11_spoil_0 14 rfl rfl)
theorem dX11_spoil_17 : decode cX11_spoil 17 = .ok (.bipush (-3), 2) := dk_16 253 (dk_at dksX11_spoil_0 17 rfl rfl)
theorem dX11_spoil_19 : decode cX11_spoil 19 = .ok (.ireturn, 1) := dk_172 (dk_at dksX11_spoil_0 19 rfl rfl)
theorem dX11_spoil_20 : decode cX11_spoil 20 = .ok (.aload_n 0, 1) := dk_42 (dk_at dksX11_spoil_0 20 rfl rfl)
theorem dX11_spoil_21 : decode cX11_spoil 21 = .ok (.iload_n 1, 1) := dk_27 (dk_at dksX11_spoil_0 21 rfl rfl)
theorem dX11_spoil_22 : decode cX11_spoil 22 = .ok (.invokevirtual 713, 3) := dk_182 2 201 (dk_at dksX11_spoil_1 0 rfl rfl)
theorem dX11_spoil_25 : decode cX11_spoil 25 = .ok (.ifCond .eq 17, 3) := dk_153 0 17 (dk_at dksX11_spoil_1 3 rfl rfl)
theorem dX11_spoil_28 : decode cX11_spoil 28 = .ok (.aload_n 0, 1) := dk_42 (dk_at dksX11_spoil_1 6 rfl rfl)
theorem dX11_spoil_29 : decode cX11_spoil 29 = .ok (.iload_n 1, 1) := dk_27 (dk_at dksX11_spoil_1 7 rfl rfl)
theorem dX11_spoil_30 : decode cX11_spoil 30 = .ok (.invokevirtual 716, 3) := dk_182 2 204 (dk_at dksX11_spoil_1 8 rfl rfl)
theorem dX11_spoil_33 : decode cX11_spoil 33 = .ok (.aload_n 0, 1) := dk_42 (dk_at dksX11_spoil_1 11 rfl rfl)
theorem dX11_spoil_34 : decode cX11_spoil 34 = .ok (.bipush 7, 2) := dk_16 7 (dk_at dksX11_spoil_1 12 rfl rfl)
theorem dX11_spoil_36 : decode cX11_spoil 36 = .ok (.invokevirtual 466, 3) := dk_182 1 210 (dk_at dksX11_spoil_1 14 rfl rfl)
theorem dX11_spoil_39 : decode cX11_spoil 39 = .ok (.if_icmp .lt 6, 3) := dk_161 0 6 (dk_at dksX11_spoil_1 17 rfl rfl)
theorem dX11_spoil_42 : decode cX11_spoil 42 = .ok (.bipush (-4), 2) := dk_16 252 (dk_at dksX11_spoil_1 20 rfl rfl)
theorem dX11_spoil_44 : decode cX11_spoil 44 = .ok (.ireturn, 1) := dk_172 (dk_at dksX11_spoil_1 22 rfl rfl)
theorem dX11_spoil_45 : decode cX11_spoil 45 = .ok (.aload_n 0, 1) := dk_42 (dk_at dksX11_spoil_1 23 rfl rfl)
theorem dX11_spoil_46 : decode cX11_spoil 46 = .ok (.getfield 658, 3) := dk_180 2 146 (dk_at dksX11_spoil_2 0 rfl rfl)
theorem dX11_spoil_49 : decode cX11_spoil 49 = .ok (.iload_n 1, 1) := dk_27 (dk_at dksX11_spoil_2 3 rfl rfl)
theorem dX11_spoil_50 : decode cX11_spoil 50 = .ok (.iconst 1, 1) := dk_4 (dk_at dksX11_spoil_2 4 rfl rfl)
theorem dX11_spoil_51 : decode cX11_spoil 51 = .ok (.iastore, 1) := dk_79 (dk_at dksX11_spoil_2 5 rfl rfl)
theorem dX11_spoil_52 : decode cX11_spoil 52 = .ok (.aload_n 0, 1) := dk_42 (dk_at dksX11_spoil_2 6 rfl rfl)
theorem dX11_spoil_53 : decode cX11_spoil 53 = .ok (.bipush 20, 2) := dk_16 20 (dk_at dksX11_spoil_2 7 rfl rfl)
theorem dX11_spoil_55 : decode cX11_spoil 55 = .ok (.iload_n 1, 1) := dk_27 (dk_at dksX11_spoil_2 9 rfl rfl)
theorem dX11_spoil_56 : decode cX11_spoil 56 = .ok (.iconst 0, 1) := dk_3 (dk_at dksX11_spoil_2 10 rfl rfl)
theorem dX11_spoil_57 : decode cX11_spoil 57 = .ok (.iconst 0, 1) := dk_3 (dk_at dksX11_spoil_2 11 rfl rfl)
theorem dX11_spoil_58 : decode cX11_spoil 58 = .ok (.iconst 0, 1) := dk_3 (dk_at dksX11_spoil_2 12 rfl rfl)
theorem dX11_spoil_59 : decode cX11_spoil 59 = .ok (.invokevirtual 22, 3) := dk_182 0 22 (dk_at dksX11_spoil_2 13 rfl rfl)
theorem dX11_spoil_62 : decode cX11_spoil 62 = .ok (.aload_n 0, 1) := dk_42 (dk_at dksX11_spoil_2 16 rfl rfl)
theorem dX11_spoil_63 : decode cX11_spoil 63 = .ok (.iload_n 1, 1) := dk_27 (dk_at dksX11_spoil_2 17 rfl rfl)
theorem dX11_spoil_64 : decode cX11_spoil 64 = .ok (.invokevirtual 716, 3) := dk_182 2 204 (dk_at dksX11_spoil_2 18 rfl rfl)
theorem dX11_spoil_67 : decode cX11_spoil 67 = .ok (.ireturn, 1) := dk_172 (dk_at dksX11_spoil_2 21 rfl rfl)
abbrev cX11_isIssue : ByteArray := prog_17_method_103_code
def yX11_isIssue : MethodName := ⟨RX11, "isIssue", "(I)Z"⟩
def dkwX11_isIssue_0 : List UInt8 := [27, 133, 9, 42, 180, 2, 31, 4, 100, 133, 184, 0, 13, 172]
abbrev dktX11_isIssue_0 : List UInt8 := dkwX11_isIssue_0 ++ []
theorem dksX11_isIssue_0 : cX11_isIssue.data.toList.drop 0 = dktX11_isIssue_0 := by decide +kernel
theorem dX11_isIssue_0 : decode cX11_isIssue 0 = .ok (.iload_n 1, 1) := dk_27 (dk_at dksX11_isIssue_0 0 rfl rfl)
theorem dX11_isIssue_1 : decode cX11_isIssue 1 = .ok (.i2l, 1) := dk_133 (dk_at dksX11_isIssue_0 1 rfl rfl)
theorem dX11_isIssue_2 : decode cX11_isIssue 2 = .ok (.lconst 0, 1) := dk_9 (dk_at dksX11_isIssue_0 2 rfl rfl)
theorem dX11_isIssue_3 : decode cX11_isIssue 3 = .ok (.aload_n 0, 1) := dk_42 (dk_at dksX11_isIssue_0 3 rfl rfl)
theorem dX11_isIssue_4 : decode cX11_isIssue 4 = .ok (.getfield 543, 3) := dk_180 2 31 (dk_at dksX11_isIssue_0 4 rfl rfl)
theorem dX11_isIssue_7 : decode cX11_isIssue 7 = .ok (.iconst 1, 1) := dk_4 (dk_at dksX11_isIssue_0 7 rfl rfl)
theorem dX11_isIssue_8 : decode cX11_isIssue 8 = .ok (.isub, 1) := dk_100 (dk_at dksX11_isIssue_0 8 rfl rfl)
theorem dX11_isIssue_9 : decode cX11_isIssue 9 = .ok (.i2l, 1) := dk_133 (dk_at dksX11_isIssue_0 9 rfl rfl)
theorem dX11_isIssue_10 : decode cX11_isIssue 10 = .ok (.invokestatic 13, 3) := dk_184 0 13 (dk_at dksX11_isIssue_0 10 rfl rfl)
theorem dX11_isIssue_13 : decode cX11_isIssue 13 = .ok (.ireturn, 1) := dk_172 (dk_at dksX11_isIssue_0 13 rfl rfl)
abbrev cX11_isAtStation : ByteArray := prog_17_method_104_code
def yX11_isAtStation : MethodName := ⟨RX11, "isAtStation", "(I)Z"⟩
def dkwX11_isAtStation_1 : List UInt8 := [3, 172]
abbrev dktX11_isAtStation_1 : List UInt8 := dkwX11_isAtStation_1 ++ []
def dkwX11_isAtStation_0 : List UInt8 := [42, 180, 2, 149, 27, 46, 16, 6, 159, 0, 16, 42, 180, 2, 146, 27, 46, 154, 0, 7, 4, 167, 0, 4]
abbrev dktX11_isAtStation_0 : List UInt8 := dkwX11_isAtStation_0 ++ dktX11_isAtStation_1
theorem dksX11_isAtStation_0 : cX11_isAtStation.data.toList.drop 0 = dktX11_isAtStation_0 := by decide +kernel
theorem dksX11_isAtStation_1 : cX11_isAtStation.data.toList.drop 24 = dktX11_isAtStation_1 := dk_seg dksX11_isAtStation_0 24 rfl rfl
theorem dX11_isAtStation_0 : decode cX11_isAtStation 0 = .ok (.aload_n 0, 1) := dk_42 (dk_at dksX11_isAtStation_0 0 rfl rfl)
theorem dX11_isAtStation_1 : decode cX11_isAtStation 1 = .ok (.getfield 661, 3) := dk_180 2 149 (dk_at dksX11_isAtStation_0 1 rfl rfl)
theorem dX11_isAtStation_4 : decode cX11_isAtStation 4 = .ok (.iload_n 1, 1) := dk_27 (dk_at dksX11_isAtStation_0 4 rfl rfl)
theorem dX11_isAtStation_5 : decode cX11_isAtStation 5 = .ok (.iaload, 1) := dk_46 (dk_at dksX11_isAtStation_0 5 rfl rfl)
theorem dX11_isAtStation_6 : decode cX11_isAtStation 6 = .ok (.bipush 6, 2) := dk_16 6 (dk_at dksX11_isAtStation_0 6 rfl rfl)
theorem dX11_isAtStation_8 : decode cX11_isAtStation 8 = .ok (.if_icmp .eq 16, 3) := dk_159 0 16 (dk_at dksX11_isAtStation_0 8 rfl rfl)
theorem dX11_isAtStation_11 : decode cX11_isAtStation 11 = .ok (.aload_n 0, 1) := dk_42 (dk_at dksX11_isAtStation_0 11 rfl rfl)
theorem dX11_isAtStation_12 : decode cX11_isAtStation 12 = .ok (.getfield 658, 3) := dk_180 2 146 (dk_at dksX11_isAtStation_0 12 rfl rfl)
theorem dX11_isAtStation_15 : decode cX11_isAtStation 15 = .ok (.iload_n 1, 1) := dk_27 (dk_at dksX11_isAtStation_0 15 rfl rfl)
theorem dX11_isAtStation_16 : decode cX11_isAtStation 16 = .ok (.iaload, 1) := dk_46 (dk_at dksX11_isAtStation_0 16 rfl rfl)
theorem dX11_isAtStation_17 : decode cX11_isAtStation 17 = .ok (.ifCond .ne 7, 3) := dk_154 0 7 (dk_at dksX11_isAtStation_0 17 rfl rfl)
theorem dX11_isAtStation_20 : decode cX11_isAtStation 20 = .ok (.iconst 1, 1) := dk_4 (dk_at dksX11_isAtStation_0 20 rfl rfl)
theorem dX11_isAtStation_21 : decode cX11_isAtStation 21 = .ok (.goto 4, 3) := dk_167 0 4 (dk_at dksX11_isAtStation_0 21 rfl rfl)
theorem dX11_isAtStation_24 : decode cX11_isAtStation 24 = .ok (.iconst 0, 1) := dk_3 (dk_at dksX11_isAtStation_1 0 rfl rfl)
theorem dX11_isAtStation_25 : decode cX11_isAtStation 25 = .ok (.ireturn, 1) := dk_172 (dk_at dksX11_isAtStation_1 1 rfl rfl)
abbrev cX11_spoiledOf : ByteArray := prog_17_method_105_code
def yX11_spoiledOf : MethodName := ⟨RX11, "spoiledOf", "(I)I"⟩
def dkwX11_spoiledOf_2 : List UInt8 := [96, 61, 132, 3, 1, 167, 255, 207, 28, 172]
abbrev dktX11_spoiledOf_2 : List UInt8 := dkwX11_spoiledOf_2 ++ []
def dkwX11_spoiledOf_1 : List UInt8 := [46, 160, 0, 22, 42, 42, 180, 2, 149, 27, 46, 29, 182, 2, 158, 4, 160, 0, 7, 4, 167, 0, 4, 3]
abbrev dktX11_spoiledOf_1 : List UInt8 := dkwX11_spoiledOf_1 ++ dktX11_spoiledOf_2
def dkwX11_spoiledOf_0 : List UInt8 := [3, 61, 3, 62, 29, 42, 180, 2, 31, 162, 0, 47, 28, 42, 180, 2, 179, 29, 46, 42, 180, 2, 179, 27]
abbrev dktX11_spoiledOf_0 : List UInt8 := dkwX11_spoiledOf_0 ++ dktX11_spoiledOf_1
theorem dksX11_spoiledOf_0 : cX11_spoiledOf.data.toList.drop 0 = dktX11_spoiledOf_0 := by decide +kernel
theorem dksX11_spoiledOf_1 : cX11_spoiledOf.data.toList.drop 24 = dktX11_spoiledOf_1 := dk_seg dksX11_spoiledOf_0 24 rfl rfl
theorem dksX11_spoiledOf_2 : cX11_spoiledOf.data.toList.drop 48 = dktX11_spoiledOf_2 := dk_seg dksX11_spoiledOf_1 24 rfl rfl
theorem dX11_spoiledOf_0 : decode cX11_spoiledOf 0 = .ok (.iconst 0, 1) := dk_3 (dk_at dksX11_spoiledOf_0 0 rfl rfl)
theorem dX11_spoiledOf_1 : decode cX11_spoiledOf 1 = .ok (.istore_n 2, 1) := dk_61 (dk_at dksX11_spoiledOf_0 1 rfl rfl)
theorem dX11_spoiledOf_2 : decode cX11_spoiledOf 2 = .ok (.iconst 0, 1) := dk_3 (dk_at dksX11_spoiledOf_0 2 rfl rfl)
theorem dX11_spoiledOf_3 : decode cX11_spoiledOf 3 = .ok (.istore_n 3, 1) := dk_62 (dk_at dksX11_spoiledOf_0 3 rfl rfl)
theorem dX11_spoiledOf_4 : decode cX11_spoiledOf 4 = .ok (.iload_n 3, 1) := dk_29 (dk_at dksX11_spoiledOf_0 4 rfl rfl)
theorem dX11_spoiledOf_5 : decode cX11_spoiledOf 5 = .ok (.aload_n 0, 1) := dk_42 (dk_at dksX11_spoiledOf_0 5 rfl rfl)
theorem dX11_spoiledOf_6 : decode cX11_spoiledOf 6 = .ok (.getfield 543, 3) := dk_180 2 31 (dk_at dksX11_spoiledOf_0 6 rfl rfl)
theorem dX11_spoiledOf_9 : decode cX11_spoiledOf 9 = .ok (.if_icmp .ge 47, 3) := dk_162 0 47 (dk_at dksX11_spoiledOf_0 9 rfl rfl)
theorem dX11_spoiledOf_12 : decode cX11_spoiledOf 12 = .ok (.iload_n 2, 1) := dk_28 (dk_at dksX11_spoiledOf_0 12 rfl rfl)
theorem dX11_spoiledOf_13 : decode cX11_spoiledOf 13 = .ok (.aload_n 0, 1) := dk_42 (dk_at dksX11_spoiledOf_0 13 rfl rfl)
theorem dX11_spoiledOf_14 : decode cX11_spoiledOf 14 = .ok (.getfield 691, 3) := dk_180 2 179 (dk_at dksX11_spoiledOf_0 14 rfl rfl)
theorem dX11_spoiledOf_17 : decode cX11_spoiledOf 17 = .ok (.iload_n 3, 1) := dk_29 (dk_at dksX11_spoiledOf_0 17 rfl rfl)
theorem dX11_spoiledOf_18 : decode cX11_spoiledOf 18 = .ok (.iaload, 1) := dk_46 (dk_at dksX11_spoiledOf_0 18 rfl rfl)
theorem dX11_spoiledOf_19 : decode cX11_spoiledOf 19 = .ok (.aload_n 0, 1) := dk_42 (dk_at dksX11_spoiledOf_0 19 rfl rfl)
theorem dX11_spoiledOf_20 : decode cX11_spoiledOf 20 = .ok (.getfield 691, 3) := dk_180 2 179 (dk_at dksX11_spoiledOf_0 20 rfl rfl)
theorem dX11_spoiledOf_23 : decode cX11_spoiledOf 23 = .ok (.iload_n 1, 1) := dk_27 (dk_at dksX11_spoiledOf_0 23 rfl rfl)
theorem dX11_spoiledOf_24 : decode cX11_spoiledOf 24 = .ok (.iaload, 1) := dk_46 (dk_at dksX11_spoiledOf_1 0 rfl rfl)
theorem dX11_spoiledOf_25 : decode cX11_spoiledOf 25 = .ok (.if_icmp .ne 22, 3) := dk_160 0 22 (dk_at dksX11_spoiledOf_1 1 rfl rfl)
theorem dX11_spoiledOf_28 : decode cX11_spoiledOf 28 = .ok (.aload_n 0, 1) := dk_42 (dk_at dksX11_spoiledOf_1 4 rfl rfl)
theorem dX11_spoiledOf_29 : decode cX11_spoiledOf 29 = .ok (.aload_n 0, 1) := dk_42 (dk_at dksX11_spoiledOf_1 5 rfl rfl)
theorem dX11_spoiledOf_30 : decode cX11_spoiledOf 30 = .ok (.getfield 661, 3) := dk_180 2 149 (dk_at dksX11_spoiledOf_1 6 rfl rfl)
theorem dX11_spoiledOf_33 : decode cX11_spoiledOf 33 = .ok (.iload_n 1, 1) := dk_27 (dk_at dksX11_spoiledOf_1 9 rfl rfl)
theorem dX11_spoiledOf_34 : decode cX11_spoiledOf 34 = .ok (.iaload, 1) := dk_46 (dk_at dksX11_spoiledOf_1 10 rfl rfl)
theorem dX11_spoiledOf_35 : decode cX11_spoiledOf 35 = .ok (.iload_n 3, 1) := dk_29 (dk_at dksX11_spoiledOf_1 11 rfl rfl)
theorem dX11_spoiledOf_36 : decode cX11_spoiledOf 36 = .ok (.invokevirtual 670, 3) := dk_182 2 158 (dk_at dksX11_spoiledOf_1 12 rfl rfl)
theorem dX11_spoiledOf_39 : decode cX11_spoiledOf 39 = .ok (.iconst 1, 1) := dk_4 (dk_at dksX11_spoiledOf_1 15 rfl rfl)
theorem dX11_spoiledOf_40 : decode cX11_spoiledOf 40 = .ok (.if_icmp .ne 7, 3) := dk_160 0 7 (dk_at dksX11_spoiledOf_1 16 rfl rfl)
theorem dX11_spoiledOf_43 : decode cX11_spoiledOf 43 = .ok (.iconst 1, 1) := dk_4 (dk_at dksX11_spoiledOf_1 19 rfl rfl)
theorem dX11_spoiledOf_44 : decode cX11_spoiledOf 44 = .ok (.goto 4, 3) := dk_167 0 4 (dk_at dksX11_spoiledOf_1 20 rfl rfl)
theorem dX11_spoiledOf_47 : decode cX11_spoiledOf 47 = .ok (.iconst 0, 1) := dk_3 (dk_at dksX11_spoiledOf_1 23 rfl rfl)
theorem dX11_spoiledOf_48 : decode cX11_spoiledOf 48 = .ok (.iadd, 1) := dk_96 (dk_at dksX11_spoiledOf_2 0 rfl rfl)
theorem dX11_spoiledOf_49 : decode cX11_spoiledOf 49 = .ok (.istore_n 2, 1) := dk_61 (dk_at dksX11_spoiledOf_2 1 rfl rfl)
theorem dX11_spoiledOf_50 : decode cX11_spoiledOf 50 = .ok (.iinc 3 1, 3) := dk_132 3 1 (dk_at dksX11_spoiledOf_2 2 rfl rfl)
theorem dX11_spoiledOf_53 : decode cX11_spoiledOf 53 = .ok (.goto (-49), 3) := dk_167 255 207 (dk_at dksX11_spoiledOf_2 5 rfl rfl)
theorem dX11_spoiledOf_56 : decode cX11_spoiledOf 56 = .ok (.iload_n 2, 1) := dk_28 (dk_at dksX11_spoiledOf_2 8 rfl rfl)
theorem dX11_spoiledOf_57 : decode cX11_spoiledOf 57 = .ok (.ireturn, 1) := dk_172 (dk_at dksX11_spoiledOf_2 9 rfl rfl)
abbrev cX11_put : ByteArray := prog_17_method_110_code
def yX11_put : MethodName := ⟨RX11, "put", "(I)I"⟩
def dkwX11_put_4 : List UInt8 := [3, 3, 3, 182, 0, 22, 42, 180, 2, 146, 27, 46, 172]
abbrev dktX11_put_4 : List UInt8 := dkwX11_put_4 ++ []
def dkwX11_put_3 : List UInt8 := [51, 153, 0, 13, 42, 180, 2, 146, 27, 5, 79, 167, 0, 9, 42, 27, 29, 182, 2, 176, 42, 16, 21, 29]
abbrev dktX11_put_3 : List UInt8 := dkwX11_put_3 ++ dktX11_put_4
def dkwX11_put_2 : List UInt8 := [154, 0, 6, 16, 254, 172, 42, 27, 28, 182, 2, 219, 42, 180, 2, 149, 27, 46, 62, 42, 180, 2, 140, 29]
abbrev dktX11_put_2 : List UInt8 := dkwX11_put_2 ++ dktX11_put_3
def dkwX11_put_1 : List UInt8 := [154, 0, 6, 16, 253, 172, 42, 27, 182, 2, 201, 154, 0, 6, 16, 252, 172, 42, 27, 28, 182, 2, 216]
abbrev dktX11_put_1 : List UInt8 := dkwX11_put_1 ++ dktX11_put_2
def dkwX11_put_0 : List UInt8 := [42, 180, 0, 5, 61, 42, 3, 181, 0, 5, 42, 27, 182, 2, 198, 154, 0, 5, 2, 172, 42, 182, 2, 188]
abbrev dktX11_put_0 : List UInt8 := dkwX11_put_0 ++ dktX11_put_1
theorem dksX11_put_0 : cX11_put.data.toList.drop 0 = dktX11_put_0 := by decide +kernel
theorem dksX11_put_1 : cX11_put.data.toList.drop 24 = dktX11_put_1 := dk_seg dksX11_put_0 24 rfl rfl
theorem dksX11_put_2 : cX11_put.data.toList.drop 47 = dktX11_put_2 := dk_seg dksX11_put_1 23 rfl rfl
theorem dksX11_put_3 : cX11_put.data.toList.drop 71 = dktX11_put_3 := dk_seg dksX11_put_2 24 rfl rfl
theorem dksX11_put_4 : cX11_put.data.toList.drop 95 = dktX11_put_4 := dk_seg dksX11_put_3 24 rfl rfl
theorem dX11_put_0 : decode cX11_put 0 = .ok (.aload_n 0, 1) := dk_42 (dk_at dksX11_put_0 0 rfl rfl)
theorem dX11_put_1 : decode cX11_put 1 = .ok (.getfield 5, 3) := dk_180 0 5 (dk_at dksX11_put_0 1 rfl rfl)
theorem dX11_put_4 : decode cX11_put 4 = .ok (.istore_n 2, 1) := dk_61 (dk_at dksX11_put_0 4 rfl rfl)
theorem dX11_put_5 : decode cX11_put 5 = .ok (.aload_n 0, 1) := dk_42 (dk_at dksX11_put_0 5 rfl rfl)
theorem dX11_put_6 : decode cX11_put 6 = .ok (.iconst 0, 1) := dk_3 (dk_at dksX11_put_0 6 rfl rfl)
theorem dX11_put_7 : decode cX11_put 7 = .ok (.putfield 5, 3) := dk_181 0 5 (dk_at dksX11_put_0 7 rfl rfl)
theorem dX11_put_10 : decode cX11_put 10 = .ok (.aload_n 0, 1) := dk_42 (dk_at dksX11_put_0 10 rfl rfl)
theorem dX11_put_11 : decode cX11_put 11 = .ok (.iload_n 1, 1) := dk_27 (dk_at dksX11_put_0 11 rfl rfl)
theorem dX11_put_12 : decode cX11_put 12 = .ok (.invokevirtual 710, 3) := dk_182 2 198 (dk_at dksX11_put_0 12 rfl rfl)
theorem dX11_put_15 : decode cX11_put 15 = .ok (.ifCond .ne 5, 3) := dk_154 0 5 (dk_at dksX11_put_0 15 rfl rfl)
theorem dX11_put_18 : decode cX11_put 18 = .ok (.iconst (-1), 1) := dk_2 (dk_at dksX11_put_0 18 rfl rfl)
theorem dX11_put_19 : decode cX11_put 19 = .ok (.ireturn, 1) := dk_172 (dk_at dksX11_put_0 19 rfl rfl)
theorem dX11_put_20 : decode cX11_put 20 = .ok (.aload_n 0, 1) := dk_42 (dk_at dksX11_put_0 20 rfl rfl)
theorem dX11_put_21 : decode cX11_put 21 = .ok (.invokevirtual 700, 3) := dk_182 2 188 (dk_at dksX11_put_0 21 rfl rfl)
theorem dX11_put_24 : decode cX11_put 24 = .ok (.ifCond .ne 6, 3) := dk_154 0 6 (dk_at dksX11_put_1 0 rfl rfl)
theorem dX11_put_27 : decode cX11_put 27 = .ok (.bipush (-3), 2) := dk_16 253 (dk_at dksX11_put_1 3 rfl rfl)
theorem dX11_put_29 : decode cX11_put 29 = .ok (.ireturn, 1) := dk_172 (dk_at dksX11_put_1 5 rfl rfl)
theorem dX11_put_30 : decode cX11_put 30 = .ok (.aload_n 0, 1) := dk_42 (dk_at dksX11_put_1 6 rfl rfl)
theorem dX11_put_31 : decode cX11_put 31 = .ok (.iload_n 1, 1) := dk_27 (dk_at dksX11_put_1 7 rfl rfl)
theorem dX11_put_32 : decode cX11_put 32 = .ok (.invokevirtual 713, 3) := dk_182 2 201 (dk_at dksX11_put_1 8 rfl rfl)
theorem dX11_put_35 : decode cX11_put 35 = .ok (.ifCond .ne 6, 3) := dk_154 0 6 (dk_at dksX11_put_1 11 rfl rfl)
theorem dX11_put_38 : decode cX11_put 38 = .ok (.bipush (-4), 2) := dk_16 252 (dk_at dksX11_put_1 14 rfl rfl)
theorem dX11_put_40 : decode cX11_put 40 = .ok (.ireturn, 1) := dk_172 (dk_at dksX11_put_1 16 rfl rfl)
theorem dX11_put_41 : decode cX11_put 41 = .ok (.aload_n 0, 1) := dk_42 (dk_at dksX11_put_1 17 rfl rfl)
theorem dX11_put_42 : decode cX11_put 42 = .ok (.iload_n 1, 1) := dk_27 (dk_at dksX11_put_1 18 rfl rfl)
theorem dX11_put_43 : decode cX11_put 43 = .ok (.iload_n 2, 1) := dk_28 (dk_at dksX11_put_1 19 rfl rfl)
theorem dX11_put_44 : decode cX11_put 44 = .ok (.invokevirtual 728, 3) := dk_182 2 216 (dk_at dksX11_put_1 20 rfl rfl)
theorem dX11_put_47 : decode cX11_put 47 = .ok (.ifCond .ne 6, 3) := dk_154 0 6 (dk_at dksX11_put_2 0 rfl rfl)
theorem dX11_put_50 : decode cX11_put 50 = .ok (.bipush (-2), 2) := dk_16 254 (dk_at dksX11_put_2 3 rfl rfl)
theorem dX11_put_52 : decode cX11_put 52 = .ok (.ireturn, 1) := dk_172 (dk_at dksX11_put_2 5 rfl rfl)
theorem dX11_put_53 : decode cX11_put 53 = .ok (.aload_n 0, 1) := dk_42 (dk_at dksX11_put_2 6 rfl rfl)
theorem dX11_put_54 : decode cX11_put 54 = .ok (.iload_n 1, 1) := dk_27 (dk_at dksX11_put_2 7 rfl rfl)
theorem dX11_put_55 : decode cX11_put 55 = .ok (.iload_n 2, 1) := dk_28 (dk_at dksX11_put_2 8 rfl rfl)
theorem dX11_put_56 : decode cX11_put 56 = .ok (.invokevirtual 731, 3) := dk_182 2 219 (dk_at dksX11_put_2 9 rfl rfl)
theorem dX11_put_59 : decode cX11_put 59 = .ok (.aload_n 0, 1) := dk_42 (dk_at dksX11_put_2 12 rfl rfl)
theorem dX11_put_60 : decode cX11_put 60 = .ok (.getfield 661, 3) := dk_180 2 149 (dk_at dksX11_put_2 13 rfl rfl)
theorem dX11_put_63 : decode cX11_put 63 = .ok (.iload_n 1, 1) := dk_27 (dk_at dksX11_put_2 16 rfl rfl)
theorem dX11_put_64 : decode cX11_put 64 = .ok (.iaload, 1) := dk_46 (dk_at dksX11_put_2 17 rfl rfl)
theorem dX11_put_65 : decode cX11_put 65 = .ok (.istore_n 3, 1) := dk_62 (dk_at dksX11_put_2 18 rfl rfl)
theorem dX11_put_66 : decode cX11_put 66 = .ok (.aload_n 0, 1) := dk_42 (dk_at dksX11_put_2 19 rfl rfl)
theorem dX11_put_67 : decode cX11_put 67 = .ok (.getfield 652, 3) := dk_180 2 140 (dk_at dksX11_put_2 20 rfl rfl)
theorem dX11_put_70 : decode cX11_put 70 = .ok (.iload_n 3, 1) := dk_29 (dk_at dksX11_put_2 23 rfl rfl)
theorem dX11_put_71 : decode cX11_put 71 = .ok (.baload, 1) := dk_51 (dk_at dksX11_put_3 0 rfl rfl)
theorem dX11_put_72 : decode cX11_put 72 = .ok (.ifCond .eq 13, 3) := dk_153 0 13 (dk_at dksX11_put_3 1 rfl rfl)
theorem dX11_put_75 : decode cX11_put 75 = .ok (.aload_n 0, 1) := dk_42 (dk_at dksX11_put_3 4 rfl rfl)
theorem dX11_put_76 : decode cX11_put 76 = .ok (.getfield 658, 3) := dk_180 2 146 (dk_at dksX11_put_3 5 rfl rfl)
theorem dX11_put_79 : decode cX11_put 79 = .ok (.iload_n 1, 1) := dk_27 (dk_at dksX11_put_3 8 rfl rfl)
theorem dX11_put_80 : decode cX11_put 80 = .ok (.iconst 2, 1) := dk_5 (dk_at dksX11_put_3 9 rfl rfl)
theorem dX11_put_81 : decode cX11_put 81 = .ok (.iastore, 1) := dk_79 (dk_at dksX11_put_3 10 rfl rfl)
theorem dX11_put_82 : decode cX11_put 82 = .ok (.goto 9, 3) := dk_167 0 9 (dk_at dksX11_put_3 11 rfl rfl)
theorem dX11_put_85 : decode cX11_put 85 = .ok (.aload_n 0, 1) := dk_42 (dk_at dksX11_put_3 14 rfl rfl)
theorem dX11_put_86 : decode cX11_put 86 = .ok (.iload_n 1, 1) := dk_27 (dk_at dksX11_put_3 15 rfl rfl)
theorem dX11_put_87 : decode cX11_put 87 = .ok (.iload_n 3, 1) := dk_29 (dk_at dksX11_put_3 16 rfl rfl)
theorem dX11_put_88 : decode cX11_put 88 = .ok (.invokevirtual 688, 3) := dk_182 2 176 (dk_at dksX11_put_3 17 rfl rfl)
theorem dX11_put_91 : decode cX11_put 91 = .ok (.aload_n 0, 1) := dk_42 (dk_at dksX11_put_3 20 rfl rfl)
theorem dX11_put_92 : decode cX11_put 92 = .ok (.bipush 21, 2) := dk_16 21 (dk_at dksX11_put_3 21 rfl rfl)
theorem dX11_put_94 : decode cX11_put 94 = .ok (.iload_n 3, 1) := dk_29 (dk_at dksX11_put_3 23 rfl rfl)
theorem dX11_put_95 : decode cX11_put 95 = .ok (.iconst 0, 1) := dk_3 (dk_at dksX11_put_4 0 rfl rfl)
theorem dX11_put_96 : decode cX11_put 96 = .ok (.iconst 0, 1) := dk_3 (dk_at dksX11_put_4 1 rfl rfl)
theorem dX11_put_97 : decode cX11_put 97 = .ok (.iconst 0, 1) := dk_3 (dk_at dksX11_put_4 2 rfl rfl)
theorem dX11_put_98 : decode cX11_put 98 = .ok (.invokevirtual 22, 3) := dk_182 0 22 (dk_at dksX11_put_4 3 rfl rfl)
theorem dX11_put_101 : decode cX11_put 101 = .ok (.aload_n 0, 1) := dk_42 (dk_at dksX11_put_4 6 rfl rfl)
theorem dX11_put_102 : decode cX11_put 102 = .ok (.getfield 658, 3) := dk_180 2 146 (dk_at dksX11_put_4 7 rfl rfl)
theorem dX11_put_105 : decode cX11_put 105 = .ok (.iload_n 1, 1) := dk_27 (dk_at dksX11_put_4 10 rfl rfl)
theorem dX11_put_106 : decode cX11_put 106 = .ok (.iaload, 1) := dk_46 (dk_at dksX11_put_4 11 rfl rfl)
theorem dX11_put_107 : decode cX11_put 107 = .ok (.ireturn, 1) := dk_172 (dk_at dksX11_put_4 12 rfl rfl)
abbrev cX11_areMarks : ByteArray := prog_17_method_108_code
def yX11_areMarks : MethodName := ⟨RX11, "areMarks", "(II)Z"⟩
def dkwX11_areMarks_2 : List UInt8 := [184, 0, 13, 62, 132, 4, 1, 167, 255, 227, 29, 172]
abbrev dktX11_areMarks_2 : List UInt8 := dkwX11_areMarks_2 ++ []
def dkwX11_areMarks_1 : List UInt8 := [21, 4, 28, 162, 0, 29, 29, 153, 0, 25, 42, 180, 0, 9, 21, 4, 51, 133, 9, 20, 0, 124]
abbrev dktX11_areMarks_1 : List UInt8 := dkwX11_areMarks_1 ++ dktX11_areMarks_2
def dkwX11_areMarks_0 : List UInt8 := [28, 42, 42, 180, 2, 185, 27, 46, 182, 2, 207, 160, 0, 7, 4, 167, 0, 4, 3, 62, 3, 54, 4]
abbrev dktX11_areMarks_0 : List UInt8 := dkwX11_areMarks_0 ++ dktX11_areMarks_1
theorem dksX11_areMarks_0 : cX11_areMarks.data.toList.drop 0 = dktX11_areMarks_0 := by decide +kernel
theorem dksX11_areMarks_1 : cX11_areMarks.data.toList.drop 23 = dktX11_areMarks_1 := dk_seg dksX11_areMarks_0 23 rfl rfl
theorem dksX11_areMarks_2 : cX11_areMarks.data.toList.drop 45 = dktX11_areMarks_2 := dk_seg dksX11_areMarks_1 22 rfl rfl
theorem dX11_areMarks_0 : decode cX11_areMarks 0 = .ok (.iload_n 2, 1) := dk_28 (dk_at dksX11_areMarks_0 0 rfl rfl)
theorem dX11_areMarks_1 : decode cX11_areMarks 1 = .ok (.aload_n 0, 1) := dk_42 (dk_at dksX11_areMarks_0 1 rfl rfl)
theorem dX11_areMarks_2 : decode cX11_areMarks 2 = .ok (.aload_n 0, 1) := dk_42 (dk_at dksX11_areMarks_0 2 rfl rfl)
theorem dX11_areMarks_3 : decode cX11_areMarks 3 = .ok (.getfield 697, 3) := dk_180 2 185 (dk_at dksX11_areMarks_0 3 rfl rfl)
theorem dX11_areMarks_6 : decode cX11_areMarks 6 = .ok (.iload_n 1, 1) := dk_27 (dk_at dksX11_areMarks_0 6 rfl rfl)
theorem dX11_areMarks_7 : decode cX11_areMarks 7 = .ok (.iaload, 1) := dk_46 (dk_at dksX11_areMarks_0 7 rfl rfl)
theorem dX11_areMarks_8 : decode cX11_areMarks 8 = .ok (.invokevirtual 719, 3) := dk_182 2 207 (dk_at dksX11_areMarks_0 8 rfl rfl)
theorem dX11_areMarks_11 : decode cX11_areMarks 11 = .ok (.if_icmp .ne 7, 3) := dk_160 0 7 (dk_at dksX11_areMarks_0 11 rfl rfl)
theorem dX11_areMarks_14 : decode cX11_areMarks 14 = .ok (.iconst 1, 1) := dk_4 (dk_at dksX11_areMarks_0 14 rfl rfl)
theorem dX11_areMarks_15 : decode cX11_areMarks 15 = .ok (.goto 4, 3) := dk_167 0 4 (dk_at dksX11_areMarks_0 15 rfl rfl)
theorem dX11_areMarks_18 : decode cX11_areMarks 18 = .ok (.iconst 0, 1) := dk_3 (dk_at dksX11_areMarks_0 18 rfl rfl)
theorem dX11_areMarks_19 : decode cX11_areMarks 19 = .ok (.istore_n 3, 1) := dk_62 (dk_at dksX11_areMarks_0 19 rfl rfl)
theorem dX11_areMarks_20 : decode cX11_areMarks 20 = .ok (.iconst 0, 1) := dk_3 (dk_at dksX11_areMarks_0 20 rfl rfl)
theorem dX11_areMarks_21 : decode cX11_areMarks 21 = .ok (.istore 4, 2) := dk_54 4 (dk_at dksX11_areMarks_0 21 rfl rfl)
theorem dX11_areMarks_23 : decode cX11_areMarks 23 = .ok (.iload 4, 2) := dk_21 4 (dk_at dksX11_areMarks_1 0 rfl rfl)
theorem dX11_areMarks_25 : decode cX11_areMarks 25 = .ok (.iload_n 2, 1) := dk_28 (dk_at dksX11_areMarks_1 2 rfl rfl)
theorem dX11_areMarks_26 : decode cX11_areMarks 26 = .ok (.if_icmp .ge 29, 3) := dk_162 0 29 (dk_at dksX11_areMarks_1 3 rfl rfl)
theorem dX11_areMarks_29 : decode cX11_areMarks 29 = .ok (.iload_n 3, 1) := dk_29 (dk_at dksX11_areMarks_1 6 rfl rfl)
theorem dX11_areMarks_30 : decode cX11_areMarks 30 = .ok (.ifCond .eq 25, 3) := dk_153 0 25 (dk_at dksX11_areMarks_1 7 rfl rfl)
theorem dX11_areMarks_33 : decode cX11_areMarks 33 = .ok (.aload_n 0, 1) := dk_42 (dk_at dksX11_areMarks_1 10 rfl rfl)
theorem dX11_areMarks_34 : decode cX11_areMarks 34 = .ok (.getfield 9, 3) := dk_180 0 9 (dk_at dksX11_areMarks_1 11 rfl rfl)
theorem dX11_areMarks_37 : decode cX11_areMarks 37 = .ok (.iload 4, 2) := dk_21 4 (dk_at dksX11_areMarks_1 14 rfl rfl)
theorem dX11_areMarks_39 : decode cX11_areMarks 39 = .ok (.baload, 1) := dk_51 (dk_at dksX11_areMarks_1 16 rfl rfl)
theorem dX11_areMarks_40 : decode cX11_areMarks 40 = .ok (.i2l, 1) := dk_133 (dk_at dksX11_areMarks_1 17 rfl rfl)
theorem dX11_areMarks_41 : decode cX11_areMarks 41 = .ok (.lconst 0, 1) := dk_9 (dk_at dksX11_areMarks_1 18 rfl rfl)
theorem dX11_areMarks_42 : decode cX11_areMarks 42 = .ok (.ldc2_w 124, 3) := dk_20 0 124 (dk_at dksX11_areMarks_1 19 rfl rfl)
theorem dX11_areMarks_45 : decode cX11_areMarks 45 = .ok (.invokestatic 13, 3) := dk_184 0 13 (dk_at dksX11_areMarks_2 0 rfl rfl)
theorem dX11_areMarks_48 : decode cX11_areMarks 48 = .ok (.istore_n 3, 1) := dk_62 (dk_at dksX11_areMarks_2 3 rfl rfl)
theorem dX11_areMarks_49 : decode cX11_areMarks 49 = .ok (.iinc 4 1, 3) := dk_132 4 1 (dk_at dksX11_areMarks_2 4 rfl rfl)
theorem dX11_areMarks_52 : decode cX11_areMarks 52 = .ok (.goto (-29), 3) := dk_167 255 227 (dk_at dksX11_areMarks_2 7 rfl rfl)
theorem dX11_areMarks_55 : decode cX11_areMarks 55 = .ok (.iload_n 3, 1) := dk_29 (dk_at dksX11_areMarks_2 10 rfl rfl)
theorem dX11_areMarks_56 : decode cX11_areMarks 56 = .ok (.ireturn, 1) := dk_172 (dk_at dksX11_areMarks_2 11 rfl rfl)
abbrev cX11_keepMarks : ByteArray := prog_17_method_109_code
def yX11_keepMarks : MethodName := ⟨RX11, "keepMarks", "(II)V"⟩
def dkwX11_keepMarks_1 : List UInt8 := [180, 2, 213, 16, 54, 27, 104, 28, 184, 1, 204, 177]
abbrev dktX11_keepMarks_1 : List UInt8 := dkwX11_keepMarks_1 ++ []
def dkwX11_keepMarks_0 : List UInt8 := [42, 180, 0, 9, 3, 42, 180, 2, 210, 16, 54, 27, 104, 28, 184, 1, 204, 42, 180, 0, 9, 3, 42]
abbrev dktX11_keepMarks_0 : List UInt8 := dkwX11_keepMarks_0 ++ dktX11_keepMarks_1
theorem dksX11_keepMarks_0 : cX11_keepMarks.data.toList.drop 0 = dktX11_keepMarks_0 := by decide +kernel
theorem dksX11_keepMarks_1 : cX11_keepMarks.data.toList.drop 23 = dktX11_keepMarks_1 := dk_seg dksX11_keepMarks_0 23 rfl rfl
theorem dX11_keepMarks_0 : decode cX11_keepMarks 0 = .ok (.aload_n 0, 1) := dk_42 (dk_at dksX11_keepMarks_0 0 rfl rfl)
theorem dX11_keepMarks_1 : decode cX11_keepMarks 1 = .ok (.getfield 9, 3) := dk_180 0 9 (dk_at dksX11_keepMarks_0 1 rfl rfl)
theorem dX11_keepMarks_4 : decode cX11_keepMarks 4 = .ok (.iconst 0, 1) := dk_3 (dk_at dksX11_keepMarks_0 4 rfl rfl)
theorem dX11_keepMarks_5 : decode cX11_keepMarks 5 = .ok (.aload_n 0, 1) := dk_42 (dk_at dksX11_keepMarks_0 5 rfl rfl)
theorem dX11_keepMarks_6 : decode cX11_keepMarks 6 = .ok (.getfield 722, 3) := dk_180 2 210 (dk_at dksX11_keepMarks_0 6 rfl rfl)
theorem dX11_keepMarks_9 : decode cX11_keepMarks 9 = .ok (.bipush 54, 2) := dk_16 54 (dk_at dksX11_keepMarks_0 9 rfl rfl)
theorem dX11_keepMarks_11 : decode cX11_keepMarks 11 = .ok (.iload_n 1, 1) := dk_27 (dk_at dksX11_keepMarks_0 11 rfl rfl)
theorem dX11_keepMarks_12 : decode cX11_keepMarks 12 = .ok (.imul, 1) := dk_104 (dk_at dksX11_keepMarks_0 12 rfl rfl)
theorem dX11_keepMarks_13 : decode cX11_keepMarks 13 = .ok (.iload_n 2, 1) := dk_28 (dk_at dksX11_keepMarks_0 13 rfl rfl)
theorem dX11_keepMarks_14 : decode cX11_keepMarks 14 = .ok (.invokestatic 460, 3) := dk_184 1 204 (dk_at dksX11_keepMarks_0 14 rfl rfl)
theorem dX11_keepMarks_17 : decode cX11_keepMarks 17 = .ok (.aload_n 0, 1) := dk_42 (dk_at dksX11_keepMarks_0 17 rfl rfl)
theorem dX11_keepMarks_18 : decode cX11_keepMarks 18 = .ok (.getfield 9, 3) := dk_180 0 9 (dk_at dksX11_keepMarks_0 18 rfl rfl)
theorem dX11_keepMarks_21 : decode cX11_keepMarks 21 = .ok (.iconst 0, 1) := dk_3 (dk_at dksX11_keepMarks_0 21 rfl rfl)
theorem dX11_keepMarks_22 : decode cX11_keepMarks 22 = .ok (.aload_n 0, 1) := dk_42 (dk_at dksX11_keepMarks_0 22 rfl rfl)
theorem dX11_keepMarks_23 : decode cX11_keepMarks 23 = .ok (.getfield 725, 3) := dk_180 2 213 (dk_at dksX11_keepMarks_1 0 rfl rfl)
theorem dX11_keepMarks_26 : decode cX11_keepMarks 26 = .ok (.bipush 54, 2) := dk_16 54 (dk_at dksX11_keepMarks_1 3 rfl rfl)
theorem dX11_keepMarks_28 : decode cX11_keepMarks 28 = .ok (.iload_n 1, 1) := dk_27 (dk_at dksX11_keepMarks_1 5 rfl rfl)
theorem dX11_keepMarks_29 : decode cX11_keepMarks 29 = .ok (.imul, 1) := dk_104 (dk_at dksX11_keepMarks_1 6 rfl rfl)
theorem dX11_keepMarks_30 : decode cX11_keepMarks 30 = .ok (.iload_n 2, 1) := dk_28 (dk_at dksX11_keepMarks_1 7 rfl rfl)
theorem dX11_keepMarks_31 : decode cX11_keepMarks 31 = .ok (.invokestatic 460, 3) := dk_184 1 204 (dk_at dksX11_keepMarks_1 8 rfl rfl)
theorem dX11_keepMarks_34 : decode cX11_keepMarks 34 = .ok (.return_, 1) := dk_177 (dk_at dksX11_keepMarks_1 11 rfl rfl)
abbrev cX11_ask : ByteArray := prog_17_method_112_code
def yX11_ask : MethodName := ⟨RX11, "ask", "(I)I"⟩
def dkwX11_ask_5 : List UInt8 := [3, 182, 0, 22, 29, 172]
abbrev dktX11_ask_5 : List UInt8 := dkwX11_ask_5 ++ []
def dkwX11_ask_4 : List UInt8 := [17, 0, 200, 160, 0, 6, 16, 251, 172, 42, 27, 16, 6, 4, 182, 2, 194, 62, 42, 16, 22, 27, 3, 3]
abbrev dktX11_ask_4 : List UInt8 := dkwX11_ask_4 ++ dktX11_ask_5
def dkwX11_ask_3 : List UInt8 := [167, 255, 210, 42, 27, 182, 2, 191, 153, 0, 7, 28, 153, 0, 6, 16, 252, 172, 42, 180, 2, 31]
abbrev dktX11_ask_3 : List UInt8 := dkwX11_ask_3 ++ dktX11_ask_4
def dkwX11_ask_2 : List UInt8 := [51, 153, 0, 15, 42, 29, 182, 2, 182, 153, 0, 7, 4, 167, 0, 4, 3, 128, 61, 132, 3, 1]
abbrev dktX11_ask_2 : List UInt8 := dkwX11_ask_2 ++ dktX11_ask_3
def dkwX11_ask_1 : List UInt8 := [29, 42, 180, 2, 31, 162, 0, 44, 28, 42, 180, 2, 179, 29, 46, 27, 160, 0, 24, 42, 180, 2, 155, 29]
abbrev dktX11_ask_1 : List UInt8 := dkwX11_ask_1 ++ dktX11_ask_2
def dkwX11_ask_0 : List UInt8 := [42, 27, 182, 0, 110, 154, 0, 5, 2, 172, 42, 182, 2, 222, 153, 0, 6, 16, 253, 172, 3, 61, 3, 62]
abbrev dktX11_ask_0 : List UInt8 := dkwX11_ask_0 ++ dktX11_ask_1
theorem dksX11_ask_0 : cX11_ask.data.toList.drop 0 = dktX11_ask_0 := by decide +kernel
theorem dksX11_ask_1 : cX11_ask.data.toList.drop 24 = dktX11_ask_1 := dk_seg dksX11_ask_0 24 rfl rfl
theorem dksX11_ask_2 : cX11_ask.data.toList.drop 48 = dktX11_ask_2 := dk_seg dksX11_ask_1 24 rfl rfl
theorem dksX11_ask_3 : cX11_ask.data.toList.drop 70 = dktX11_ask_3 := dk_seg dksX11_ask_2 22 rfl rfl
theorem dksX11_ask_4 : cX11_ask.data.toList.drop 92 = dktX11_ask_4 := dk_seg dksX11_ask_3 22 rfl rfl
theorem dksX11_ask_5 : cX11_ask.data.toList.drop 116 = dktX11_ask_5 := dk_seg dksX11_ask_4 24 rfl rfl
theorem dX11_ask_0 : decode cX11_ask 0 = .ok (.aload_n 0, 1) := dk_42 (dk_at dksX11_ask_0 0 rfl rfl)
theorem dX11_ask_1 : decode cX11_ask 1 = .ok (.iload_n 1, 1) := dk_27 (dk_at dksX11_ask_0 1 rfl rfl)
theorem dX11_ask_2 : decode cX11_ask 2 = .ok (.invokevirtual 110, 3) := dk_182 0 110 (dk_at dksX11_ask_0 2 rfl rfl)
theorem dX11_ask_5 : decode cX11_ask 5 = .ok (.ifCond .ne 5, 3) := dk_154 0 5 (dk_at dksX11_ask_0 5 rfl rfl)
theorem dX11_ask_8 : decode cX11_ask 8 = .ok (.iconst (-1), 1) := dk_2 (dk_at dksX11_ask_0 8 rfl rfl)
theorem dX11_ask_9 : decode cX11_ask 9 = .ok (.ireturn, 1) := dk_172 (dk_at dksX11_ask_0 9 rfl rfl)
theorem dX11_ask_10 : decode cX11_ask 10 = .ok (.aload_n 0, 1) := dk_42 (dk_at dksX11_ask_0 10 rfl rfl)
theorem dX11_ask_11 : decode cX11_ask 11 = .ok (.invokevirtual 734, 3) := dk_182 2 222 (dk_at dksX11_ask_0 11 rfl rfl)
theorem dX11_ask_14 : decode cX11_ask 14 = .ok (.ifCond .eq 6, 3) := dk_153 0 6 (dk_at dksX11_ask_0 14 rfl rfl)
theorem dX11_ask_17 : decode cX11_ask 17 = .ok (.bipush (-3), 2) := dk_16 253 (dk_at dksX11_ask_0 17 rfl rfl)
theorem dX11_ask_19 : decode cX11_ask 19 = .ok (.ireturn, 1) := dk_172 (dk_at dksX11_ask_0 19 rfl rfl)
theorem dX11_ask_20 : decode cX11_ask 20 = .ok (.iconst 0, 1) := dk_3 (dk_at dksX11_ask_0 20 rfl rfl)
theorem dX11_ask_21 : decode cX11_ask 21 = .ok (.istore_n 2, 1) := dk_61 (dk_at dksX11_ask_0 21 rfl rfl)
theorem dX11_ask_22 : decode cX11_ask 22 = .ok (.iconst 0, 1) := dk_3 (dk_at dksX11_ask_0 22 rfl rfl)
theorem dX11_ask_23 : decode cX11_ask 23 = .ok (.istore_n 3, 1) := dk_62 (dk_at dksX11_ask_0 23 rfl rfl)
theorem dX11_ask_24 : decode cX11_ask 24 = .ok (.iload_n 3, 1) := dk_29 (dk_at dksX11_ask_1 0 rfl rfl)
theorem dX11_ask_25 : decode cX11_ask 25 = .ok (.aload_n 0, 1) := dk_42 (dk_at dksX11_ask_1 1 rfl rfl)
theorem dX11_ask_26 : decode cX11_ask 26 = .ok (.getfield 543, 3) := dk_180 2 31 (dk_at dksX11_ask_1 2 rfl rfl)
theorem dX11_ask_29 : decode cX11_ask 29 = .ok (.if_icmp .ge 44, 3) := dk_162 0 44 (dk_at dksX11_ask_1 5 rfl rfl)
theorem dX11_ask_32 : decode cX11_ask 32 = .ok (.iload_n 2, 1) := dk_28 (dk_at dksX11_ask_1 8 rfl rfl)
theorem dX11_ask_33 : decode cX11_ask 33 = .ok (.aload_n 0, 1) := dk_42 (dk_at dksX11_ask_1 9 rfl rfl)
theorem dX11_ask_34 : decode cX11_ask 34 = .ok (.getfield 691, 3) := dk_180 2 179 (dk_at dksX11_ask_1 10 rfl rfl)
theorem dX11_ask_37 : decode cX11_ask 37 = .ok (.iload_n 3, 1) := dk_29 (dk_at dksX11_ask_1 13 rfl rfl)
theorem dX11_ask_38 : decode cX11_ask 38 = .ok (.iaload, 1) := dk_46 (dk_at dksX11_ask_1 14 rfl rfl)
theorem dX11_ask_39 : decode cX11_ask 39 = .ok (.iload_n 1, 1) := dk_27 (dk_at dksX11_ask_1 15 rfl rfl)
theorem dX11_ask_40 : decode cX11_ask 40 = .ok (.if_icmp .ne 24, 3) := dk_160 0 24 (dk_at dksX11_ask_1 16 rfl rfl)
theorem dX11_ask_43 : decode cX11_ask 43 = .ok (.aload_n 0, 1) := dk_42 (dk_at dksX11_ask_1 19 rfl rfl)
theorem dX11_ask_44 : decode cX11_ask 44 = .ok (.getfield 667, 3) := dk_180 2 155 (dk_at dksX11_ask_1 20 rfl rfl)
theorem dX11_ask_47 : decode cX11_ask 47 = .ok (.iload_n 3, 1) := dk_29 (dk_at dksX11_ask_1 23 rfl rfl)
theorem dX11_ask_48 : decode cX11_ask 48 = .ok (.baload, 1) := dk_51 (dk_at dksX11_ask_2 0 rfl rfl)
theorem dX11_ask_49 : decode cX11_ask 49 = .ok (.ifCond .eq 15, 3) := dk_153 0 15 (dk_at dksX11_ask_2 1 rfl rfl)
theorem dX11_ask_52 : decode cX11_ask 52 = .ok (.aload_n 0, 1) := dk_42 (dk_at dksX11_ask_2 4 rfl rfl)
theorem dX11_ask_53 : decode cX11_ask 53 = .ok (.iload_n 3, 1) := dk_29 (dk_at dksX11_ask_2 5 rfl rfl)
theorem dX11_ask_54 : decode cX11_ask 54 = .ok (.invokevirtual 694, 3) := dk_182 2 182 (dk_at dksX11_ask_2 6 rfl rfl)
theorem dX11_ask_57 : decode cX11_ask 57 = .ok (.ifCond .eq 7, 3) := dk_153 0 7 (dk_at dksX11_ask_2 9 rfl rfl)
theorem dX11_ask_60 : decode cX11_ask 60 = .ok (.iconst 1, 1) := dk_4 (dk_at dksX11_ask_2 12 rfl rfl)
theorem dX11_ask_61 : decode cX11_ask 61 = .ok (.goto 4, 3) := dk_167 0 4 (dk_at dksX11_ask_2 13 rfl rfl)
theorem dX11_ask_64 : decode cX11_ask 64 = .ok (.iconst 0, 1) := dk_3 (dk_at dksX11_ask_2 16 rfl rfl)
theorem dX11_ask_65 : decode cX11_ask 65 = .ok (.ior, 1) := dk_128 (dk_at dksX11_ask_2 17 rfl rfl)
theorem dX11_ask_66 : decode cX11_ask 66 = .ok (.istore_n 2, 1) := dk_61 (dk_at dksX11_ask_2 18 rfl rfl)
theorem dX11_ask_67 : decode cX11_ask 67 = .ok (.iinc 3 1, 3) := dk_132 3 1 (dk_at dksX11_ask_2 19 rfl rfl)
theorem dX11_ask_70 : decode cX11_ask 70 = .ok (.goto (-46), 3) := dk_167 255 210 (dk_at dksX11_ask_3 0 rfl rfl)
theorem dX11_ask_73 : decode cX11_ask 73 = .ok (.aload_n 0, 1) := dk_42 (dk_at dksX11_ask_3 3 rfl rfl)
theorem dX11_ask_74 : decode cX11_ask 74 = .ok (.iload_n 1, 1) := dk_27 (dk_at dksX11_ask_3 4 rfl rfl)
theorem dX11_ask_75 : decode cX11_ask 75 = .ok (.invokevirtual 703, 3) := dk_182 2 191 (dk_at dksX11_ask_3 5 rfl rfl)
theorem dX11_ask_78 : decode cX11_ask 78 = .ok (.ifCond .eq 7, 3) := dk_153 0 7 (dk_at dksX11_ask_3 8 rfl rfl)
theorem dX11_ask_81 : decode cX11_ask 81 = .ok (.iload_n 2, 1) := dk_28 (dk_at dksX11_ask_3 11 rfl rfl)
theorem dX11_ask_82 : decode cX11_ask 82 = .ok (.ifCond .eq 6, 3) := dk_153 0 6 (dk_at dksX11_ask_3 12 rfl rfl)
theorem dX11_ask_85 : decode cX11_ask 85 = .ok (.bipush (-4), 2) := dk_16 252 (dk_at dksX11_ask_3 15 rfl rfl)
theorem dX11_ask_87 : decode cX11_ask 87 = .ok (.ireturn, 1) := dk_172 (dk_at dksX11_ask_3 17 rfl rfl)
theorem dX11_ask_88 : decode cX11_ask 88 = .ok (.aload_n 0, 1) := dk_42 (dk_at dksX11_ask_3 18 rfl rfl)
theorem dX11_ask_89 : decode cX11_ask 89 = .ok (.getfield 543, 3) := dk_180 2 31 (dk_at dksX11_ask_3 19 rfl rfl)
theorem dX11_ask_92 : decode cX11_ask 92 = .ok (.sipush 200, 3) := dk_17 0 200 (dk_at dksX11_ask_4 0 rfl rfl)
theorem dX11_ask_95 : decode cX11_ask 95 = .ok (.if_icmp .ne 6, 3) := dk_160 0 6 (dk_at dksX11_ask_4 3 rfl rfl)
theorem dX11_ask_98 : decode cX11_ask 98 = .ok (.bipush (-5), 2) := dk_16 251 (dk_at dksX11_ask_4 6 rfl rfl)
theorem dX11_ask_100 : decode cX11_ask 100 = .ok (.ireturn, 1) := dk_172 (dk_at dksX11_ask_4 8 rfl rfl)
theorem dX11_ask_101 : decode cX11_ask 101 = .ok (.aload_n 0, 1) := dk_42 (dk_at dksX11_ask_4 9 rfl rfl)
theorem dX11_ask_102 : decode cX11_ask 102 = .ok (.iload_n 1, 1) := dk_27 (dk_at dksX11_ask_4 10 rfl rfl)
theorem dX11_ask_103 : decode cX11_ask 103 = .ok (.bipush 6, 2) := dk_16 6 (dk_at dksX11_ask_4 11 rfl rfl)
theorem dX11_ask_105 : decode cX11_ask 105 = .ok (.iconst 1, 1) := dk_4 (dk_at dksX11_ask_4 13 rfl rfl)
theorem dX11_ask_106 : decode cX11_ask 106 = .ok (.invokevirtual 706, 3) := dk_182 2 194 (dk_at dksX11_ask_4 14 rfl rfl)
theorem dX11_ask_109 : decode cX11_ask 109 = .ok (.istore_n 3, 1) := dk_62 (dk_at dksX11_ask_4 17 rfl rfl)
theorem dX11_ask_110 : decode cX11_ask 110 = .ok (.aload_n 0, 1) := dk_42 (dk_at dksX11_ask_4 18 rfl rfl)
theorem dX11_ask_111 : decode cX11_ask 111 = .ok (.bipush 22, 2) := dk_16 22 (dk_at dksX11_ask_4 19 rfl rfl)
theorem dX11_ask_113 : decode cX11_ask 113 = .ok (.iload_n 1, 1) := dk_27 (dk_at dksX11_ask_4 21 rfl rfl)
theorem dX11_ask_114 : decode cX11_ask 114 = .ok (.iconst 0, 1) := dk_3 (dk_at dksX11_ask_4 22 rfl rfl)
theorem dX11_ask_115 : decode cX11_ask 115 = .ok (.iconst 0, 1) := dk_3 (dk_at dksX11_ask_4 23 rfl rfl)
theorem dX11_ask_116 : decode cX11_ask 116 = .ok (.iconst 0, 1) := dk_3 (dk_at dksX11_ask_5 0 rfl rfl)
theorem dX11_ask_117 : decode cX11_ask 117 = .ok (.invokevirtual 22, 3) := dk_182 0 22 (dk_at dksX11_ask_5 1 rfl rfl)
theorem dX11_ask_120 : decode cX11_ask 120 = .ok (.iload_n 3, 1) := dk_29 (dk_at dksX11_ask_5 4 rfl rfl)
theorem dX11_ask_121 : decode cX11_ask 121 = .ok (.ireturn, 1) := dk_172 (dk_at dksX11_ask_5 5 rfl rfl)
abbrev cX11_isMailShut : ByteArray := prog_17_method_111_code
def yX11_isMailShut : MethodName := ⟨RX11, "isMailShut", "()Z"⟩
def dkwX11_isMailShut_2 : List UInt8 := [167, 0, 4, 3, 172]
abbrev dktX11_isMailShut_2 : List UInt8 := dkwX11_isMailShut_2 ++ []
def dkwX11_isMailShut_1 : List UInt8 := [180, 0, 17, 42, 6, 182, 1, 210, 163, 0, 13, 42, 180, 2, 40, 16, 6, 51, 153, 0, 7, 4]
abbrev dktX11_isMailShut_1 : List UInt8 := dkwX11_isMailShut_1 ++ dktX11_isMailShut_2
def dkwX11_isMailShut_0 : List UInt8 := [42, 180, 0, 141, 153, 0, 41, 42, 16, 8, 182, 1, 210, 153, 0, 32, 42, 180, 2, 19, 153, 0, 25, 42]
abbrev dktX11_isMailShut_0 : List UInt8 := dkwX11_isMailShut_0 ++ dktX11_isMailShut_1
theorem dksX11_isMailShut_0 : cX11_isMailShut.data.toList.drop 0 = dktX11_isMailShut_0 := by decide +kernel
theorem dksX11_isMailShut_1 : cX11_isMailShut.data.toList.drop 24 = dktX11_isMailShut_1 := dk_seg dksX11_isMailShut_0 24 rfl rfl
theorem dksX11_isMailShut_2 : cX11_isMailShut.data.toList.drop 46 = dktX11_isMailShut_2 := dk_seg dksX11_isMailShut_1 22 rfl rfl
theorem dX11_isMailShut_0 : decode cX11_isMailShut 0 = .ok (.aload_n 0, 1) := dk_42 (dk_at dksX11_isMailShut_0 0 rfl rfl)
theorem dX11_isMailShut_1 : decode cX11_isMailShut 1 = .ok (.getfield 141, 3) := dk_180 0 141 (dk_at dksX11_isMailShut_0 1 rfl rfl)
theorem dX11_isMailShut_4 : decode cX11_isMailShut 4 = .ok (.ifCond .eq 41, 3) := dk_153 0 41 (dk_at dksX11_isMailShut_0 4 rfl rfl)
theorem dX11_isMailShut_7 : decode cX11_isMailShut 7 = .ok (.aload_n 0, 1) := dk_42 (dk_at dksX11_isMailShut_0 7 rfl rfl)
theorem dX11_isMailShut_8 : decode cX11_isMailShut 8 = .ok (.bipush 8, 2) := dk_16 8 (dk_at dksX11_isMailShut_0 8 rfl rfl)
theorem dX11_isMailShut_10 : decode cX11_isMailShut 10 = .ok (.invokevirtual 466, 3) := dk_182 1 210 (dk_at dksX11_isMailShut_0 10 rfl rfl)
theorem dX11_isMailShut_13 : decode cX11_isMailShut 13 = .ok (.ifCond .eq 32, 3) := dk_153 0 32 (dk_at dksX11_isMailShut_0 13 rfl rfl)
theorem dX11_isMailShut_16 : decode cX11_isMailShut 16 = .ok (.aload_n 0, 1) := dk_42 (dk_at dksX11_isMailShut_0 16 rfl rfl)
theorem dX11_isMailShut_17 : decode cX11_isMailShut 17 = .ok (.getfield 531, 3) := dk_180 2 19 (dk_at dksX11_isMailShut_0 17 rfl rfl)
theorem dX11_isMailShut_20 : decode cX11_isMailShut 20 = .ok (.ifCond .eq 25, 3) := dk_153 0 25 (dk_at dksX11_isMailShut_0 20 rfl rfl)
theorem dX11_isMailShut_23 : decode cX11_isMailShut 23 = .ok (.aload_n 0, 1) := dk_42 (dk_at dksX11_isMailShut_0 23 rfl rfl)
theorem dX11_isMailShut_24 : decode cX11_isMailShut 24 = .ok (.getfield 17, 3) := dk_180 0 17 (dk_at dksX11_isMailShut_1 0 rfl rfl)
theorem dX11_isMailShut_27 : decode cX11_isMailShut 27 = .ok (.aload_n 0, 1) := dk_42 (dk_at dksX11_isMailShut_1 3 rfl rfl)
theorem dX11_isMailShut_28 : decode cX11_isMailShut 28 = .ok (.iconst 3, 1) := dk_6 (dk_at dksX11_isMailShut_1 4 rfl rfl)
theorem dX11_isMailShut_29 : decode cX11_isMailShut 29 = .ok (.invokevirtual 466, 3) := dk_182 1 210 (dk_at dksX11_isMailShut_1 5 rfl rfl)
theorem dX11_isMailShut_32 : decode cX11_isMailShut 32 = .ok (.if_icmp .gt 13, 3) := dk_163 0 13 (dk_at dksX11_isMailShut_1 8 rfl rfl)
theorem dX11_isMailShut_35 : decode cX11_isMailShut 35 = .ok (.aload_n 0, 1) := dk_42 (dk_at dksX11_isMailShut_1 11 rfl rfl)
theorem dX11_isMailShut_36 : decode cX11_isMailShut 36 = .ok (.getfield 552, 3) := dk_180 2 40 (dk_at dksX11_isMailShut_1 12 rfl rfl)
theorem dX11_isMailShut_39 : decode cX11_isMailShut 39 = .ok (.bipush 6, 2) := dk_16 6 (dk_at dksX11_isMailShut_1 15 rfl rfl)
theorem dX11_isMailShut_41 : decode cX11_isMailShut 41 = .ok (.baload, 1) := dk_51 (dk_at dksX11_isMailShut_1 17 rfl rfl)
theorem dX11_isMailShut_42 : decode cX11_isMailShut 42 = .ok (.ifCond .eq 7, 3) := dk_153 0 7 (dk_at dksX11_isMailShut_1 18 rfl rfl)
theorem dX11_isMailShut_45 : decode cX11_isMailShut 45 = .ok (.iconst 1, 1) := dk_4 (dk_at dksX11_isMailShut_1 21 rfl rfl)
theorem dX11_isMailShut_46 : decode cX11_isMailShut 46 = .ok (.goto 4, 3) := dk_167 0 4 (dk_at dksX11_isMailShut_2 0 rfl rfl)
theorem dX11_isMailShut_49 : decode cX11_isMailShut 49 = .ok (.iconst 0, 1) := dk_3 (dk_at dksX11_isMailShut_2 3 rfl rfl)
theorem dX11_isMailShut_50 : decode cX11_isMailShut 50 = .ok (.ireturn, 1) := dk_172 (dk_at dksX11_isMailShut_2 4 rfl rfl)
abbrev cX11_arrive : ByteArray := prog_17_method_113_code
def yX11_arrive : MethodName := ⟨RX11, "arrive", "(II)I"⟩
def dkwX11_arrive_4 : List UInt8 := [167, 0, 4, 7, 79, 42, 16, 23, 28, 3, 3, 3, 182, 0, 22, 42, 180, 2, 146, 27, 46, 172]
abbrev dktX11_arrive_4 : List UInt8 := dkwX11_arrive_4 ++ []
def dkwX11_arrive_3 : List UInt8 := [154, 0, 6, 16, 254, 172, 42, 27, 29, 182, 2, 219, 42, 180, 2, 146, 27, 28, 4, 160, 0, 7, 5]
abbrev dktX11_arrive_3 : List UInt8 := dkwX11_arrive_3 ++ dktX11_arrive_4
def dkwX11_arrive_2 : List UInt8 := [153, 0, 6, 16, 252, 172, 28, 133, 9, 10, 184, 0, 13, 153, 0, 12, 42, 27, 29, 182, 2, 216]
abbrev dktX11_arrive_2 : List UInt8 := dkwX11_arrive_2 ++ dktX11_arrive_3
def dkwX11_arrive_1 : List UInt8 := [153, 0, 6, 16, 253, 172, 42, 180, 2, 149, 27, 46, 16, 6, 160, 0, 12, 42, 180, 2, 146, 27, 46]
abbrev dktX11_arrive_1 : List UInt8 := dkwX11_arrive_1 ++ dktX11_arrive_2
def dkwX11_arrive_0 : List UInt8 := [42, 180, 0, 5, 62, 42, 3, 181, 0, 5, 42, 27, 182, 2, 198, 154, 0, 5, 2, 172, 42, 182, 2, 222]
abbrev dktX11_arrive_0 : List UInt8 := dkwX11_arrive_0 ++ dktX11_arrive_1
theorem dksX11_arrive_0 : cX11_arrive.data.toList.drop 0 = dktX11_arrive_0 := by decide +kernel
theorem dksX11_arrive_1 : cX11_arrive.data.toList.drop 24 = dktX11_arrive_1 := dk_seg dksX11_arrive_0 24 rfl rfl
theorem dksX11_arrive_2 : cX11_arrive.data.toList.drop 47 = dktX11_arrive_2 := dk_seg dksX11_arrive_1 23 rfl rfl
theorem dksX11_arrive_3 : cX11_arrive.data.toList.drop 69 = dktX11_arrive_3 := dk_seg dksX11_arrive_2 22 rfl rfl
theorem dksX11_arrive_4 : cX11_arrive.data.toList.drop 92 = dktX11_arrive_4 := dk_seg dksX11_arrive_3 23 rfl rfl
theorem dX11_arrive_0 : decode cX11_arrive 0 = .ok (.aload_n 0, 1) := dk_42 (dk_at dksX11_arrive_0 0 rfl rfl)
theorem dX11_arrive_1 : decode cX11_arrive 1 = .ok (.getfield 5, 3) := dk_180 0 5 (dk_at dksX11_arrive_0 1 rfl rfl)
theorem dX11_arrive_4 : decode cX11_arrive 4 = .ok (.istore_n 3, 1) := dk_62 (dk_at dksX11_arrive_0 4 rfl rfl)
theorem dX11_arrive_5 : decode cX11_arrive 5 = .ok (.aload_n 0, 1) := dk_42 (dk_at dksX11_arrive_0 5 rfl rfl)
theorem dX11_arrive_6 : decode cX11_arrive 6 = .ok (.iconst 0, 1) := dk_3 (dk_at dksX11_arrive_0 6 rfl rfl)
theorem dX11_arrive_7 : decode cX11_arrive 7 = .ok (.putfield 5, 3) := dk_181 0 5 (dk_at dksX11_arrive_0 7 rfl rfl)
theorem dX11_arrive_10 : decode cX11_arrive 10 = .ok (.aload_n 0, 1) := dk_42 (dk_at dksX11_arrive_0 10 rfl rfl)
theorem dX11_arrive_11 : decode cX11_arrive 11 = .ok (.iload_n 1, 1) := dk_27 (dk_at dksX11_arrive_0 11 rfl rfl)
theorem dX11_arrive_12 : decode cX11_arrive 12 = .ok (.invokevirtual 710, 3) := dk_182 2 198 (dk_at dksX11_arrive_0 12 rfl rfl)
theorem dX11_arrive_15 : decode cX11_arrive 15 = .ok (.ifCond .ne 5, 3) := dk_154 0 5 (dk_at dksX11_arrive_0 15 rfl rfl)
theorem dX11_arrive_18 : decode cX11_arrive 18 = .ok (.iconst (-1), 1) := dk_2 (dk_at dksX11_arrive_0 18 rfl rfl)
theorem dX11_arrive_19 : decode cX11_arrive 19 = .ok (.ireturn, 1) := dk_172 (dk_at dksX11_arrive_0 19 rfl rfl)
theorem dX11_arrive_20 : decode cX11_arrive 20 = .ok (.aload_n 0, 1) := dk_42 (dk_at dksX11_arrive_0 20 rfl rfl)
theorem dX11_arrive_21 : decode cX11_arrive 21 = .ok (.invokevirtual 734, 3) := dk_182 2 222 (dk_at dksX11_arrive_0 21 rfl rfl)
theorem dX11_arrive_24 : decode cX11_arrive 24 = .ok (.ifCond .eq 6, 3) := dk_153 0 6 (dk_at dksX11_arrive_1 0 rfl rfl)
theorem dX11_arrive_27 : decode cX11_arrive 27 = .ok (.bipush (-3), 2) := dk_16 253 (dk_at dksX11_arrive_1 3 rfl rfl)
theorem dX11_arrive_29 : decode cX11_arrive 29 = .ok (.ireturn, 1) := dk_172 (dk_at dksX11_arrive_1 5 rfl rfl)
theorem dX11_arrive_30 : decode cX11_arrive 30 = .ok (.aload_n 0, 1) := dk_42 (dk_at dksX11_arrive_1 6 rfl rfl)
theorem dX11_arrive_31 : decode cX11_arrive 31 = .ok (.getfield 661, 3) := dk_180 2 149 (dk_at dksX11_arrive_1 7 rfl rfl)
theorem dX11_arrive_34 : decode cX11_arrive 34 = .ok (.iload_n 1, 1) := dk_27 (dk_at dksX11_arrive_1 10 rfl rfl)
theorem dX11_arrive_35 : decode cX11_arrive 35 = .ok (.iaload, 1) := dk_46 (dk_at dksX11_arrive_1 11 rfl rfl)
theorem dX11_arrive_36 : decode cX11_arrive 36 = .ok (.bipush 6, 2) := dk_16 6 (dk_at dksX11_arrive_1 12 rfl rfl)
theorem dX11_arrive_38 : decode cX11_arrive 38 = .ok (.if_icmp .ne 12, 3) := dk_160 0 12 (dk_at dksX11_arrive_1 14 rfl rfl)
theorem dX11_arrive_41 : decode cX11_arrive 41 = .ok (.aload_n 0, 1) := dk_42 (dk_at dksX11_arrive_1 17 rfl rfl)
theorem dX11_arrive_42 : decode cX11_arrive 42 = .ok (.getfield 658, 3) := dk_180 2 146 (dk_at dksX11_arrive_1 18 rfl rfl)
theorem dX11_arrive_45 : decode cX11_arrive 45 = .ok (.iload_n 1, 1) := dk_27 (dk_at dksX11_arrive_1 21 rfl rfl)
theorem dX11_arrive_46 : decode cX11_arrive 46 = .ok (.iaload, 1) := dk_46 (dk_at dksX11_arrive_1 22 rfl rfl)
theorem dX11_arrive_47 : decode cX11_arrive 47 = .ok (.ifCond .eq 6, 3) := dk_153 0 6 (dk_at dksX11_arrive_2 0 rfl rfl)
theorem dX11_arrive_50 : decode cX11_arrive 50 = .ok (.bipush (-4), 2) := dk_16 252 (dk_at dksX11_arrive_2 3 rfl rfl)
theorem dX11_arrive_52 : decode cX11_arrive 52 = .ok (.ireturn, 1) := dk_172 (dk_at dksX11_arrive_2 5 rfl rfl)
theorem dX11_arrive_53 : decode cX11_arrive 53 = .ok (.iload_n 2, 1) := dk_28 (dk_at dksX11_arrive_2 6 rfl rfl)
theorem dX11_arrive_54 : decode cX11_arrive 54 = .ok (.i2l, 1) := dk_133 (dk_at dksX11_arrive_2 7 rfl rfl)
theorem dX11_arrive_55 : decode cX11_arrive 55 = .ok (.lconst 0, 1) := dk_9 (dk_at dksX11_arrive_2 8 rfl rfl)
theorem dX11_arrive_56 : decode cX11_arrive 56 = .ok (.lconst 1, 1) := dk_10 (dk_at dksX11_arrive_2 9 rfl rfl)
theorem dX11_arrive_57 : decode cX11_arrive 57 = .ok (.invokestatic 13, 3) := dk_184 0 13 (dk_at dksX11_arrive_2 10 rfl rfl)
theorem dX11_arrive_60 : decode cX11_arrive 60 = .ok (.ifCond .eq 12, 3) := dk_153 0 12 (dk_at dksX11_arrive_2 13 rfl rfl)
theorem dX11_arrive_63 : decode cX11_arrive 63 = .ok (.aload_n 0, 1) := dk_42 (dk_at dksX11_arrive_2 16 rfl rfl)
theorem dX11_arrive_64 : decode cX11_arrive 64 = .ok (.iload_n 1, 1) := dk_27 (dk_at dksX11_arrive_2 17 rfl rfl)
theorem dX11_arrive_65 : decode cX11_arrive 65 = .ok (.iload_n 3, 1) := dk_29 (dk_at dksX11_arrive_2 18 rfl rfl)
theorem dX11_arrive_66 : decode cX11_arrive 66 = .ok (.invokevirtual 728, 3) := dk_182 2 216 (dk_at dksX11_arrive_2 19 rfl rfl)
theorem dX11_arrive_69 : decode cX11_arrive 69 = .ok (.ifCond .ne 6, 3) := dk_154 0 6 (dk_at dksX11_arrive_3 0 rfl rfl)
theorem dX11_arrive_72 : decode cX11_arrive 72 = .ok (.bipush (-2), 2) := dk_16 254 (dk_at dksX11_arrive_3 3 rfl rfl)
theorem dX11_arrive_74 : decode cX11_arrive 74 = .ok (.ireturn, 1) := dk_172 (dk_at dksX11_arrive_3 5 rfl rfl)
theorem dX11_arrive_75 : decode cX11_arrive 75 = .ok (.aload_n 0, 1) := dk_42 (dk_at dksX11_arrive_3 6 rfl rfl)
theorem dX11_arrive_76 : decode cX11_arrive 76 = .ok (.iload_n 1, 1) := dk_27 (dk_at dksX11_arrive_3 7 rfl rfl)
theorem dX11_arrive_77 : decode cX11_arrive 77 = .ok (.iload_n 3, 1) := dk_29 (dk_at dksX11_arrive_3 8 rfl rfl)
theorem dX11_arrive_78 : decode cX11_arrive 78 = .ok (.invokevirtual 731, 3) := dk_182 2 219 (dk_at dksX11_arrive_3 9 rfl rfl)
theorem dX11_arrive_81 : decode cX11_arrive 81 = .ok (.aload_n 0, 1) := dk_42 (dk_at dksX11_arrive_3 12 rfl rfl)
theorem dX11_arrive_82 : decode cX11_arrive 82 = .ok (.getfield 658, 3) := dk_180 2 146 (dk_at dksX11_arrive_3 13 rfl rfl)
theorem dX11_arrive_85 : decode cX11_arrive 85 = .ok (.iload_n 1, 1) := dk_27 (dk_at dksX11_arrive_3 16 rfl rfl)
theorem dX11_arrive_86 : decode cX11_arrive 86 = .ok (.iload_n 2, 1) := dk_28 (dk_at dksX11_arrive_3 17 rfl rfl)
theorem dX11_arrive_87 : decode cX11_arrive 87 = .ok (.iconst 1, 1) := dk_4 (dk_at dksX11_arrive_3 18 rfl rfl)
theorem dX11_arrive_88 : decode cX11_arrive 88 = .ok (.if_icmp .ne 7, 3) := dk_160 0 7 (dk_at dksX11_arrive_3 19 rfl rfl)
theorem dX11_arrive_91 : decode cX11_arrive 91 = .ok (.iconst 2, 1) := dk_5 (dk_at dksX11_arrive_3 22 rfl rfl)
theorem dX11_arrive_92 : decode cX11_arrive 92 = .ok (.goto 4, 3) := dk_167 0 4 (dk_at dksX11_arrive_4 0 rfl rfl)
theorem dX11_arrive_95 : decode cX11_arrive 95 = .ok (.iconst 4, 1) := dk_7 (dk_at dksX11_arrive_4 3 rfl rfl)
theorem dX11_arrive_96 : decode cX11_arrive 96 = .ok (.iastore, 1) := dk_79 (dk_at dksX11_arrive_4 4 rfl rfl)
theorem dX11_arrive_97 : decode cX11_arrive 97 = .ok (.aload_n 0, 1) := dk_42 (dk_at dksX11_arrive_4 5 rfl rfl)
theorem dX11_arrive_98 : decode cX11_arrive 98 = .ok (.bipush 23, 2) := dk_16 23 (dk_at dksX11_arrive_4 6 rfl rfl)
theorem dX11_arrive_100 : decode cX11_arrive 100 = .ok (.iload_n 2, 1) := dk_28 (dk_at dksX11_arrive_4 8 rfl rfl)
theorem dX11_arrive_101 : decode cX11_arrive 101 = .ok (.iconst 0, 1) := dk_3 (dk_at dksX11_arrive_4 9 rfl rfl)
theorem dX11_arrive_102 : decode cX11_arrive 102 = .ok (.iconst 0, 1) := dk_3 (dk_at dksX11_arrive_4 10 rfl rfl)
theorem dX11_arrive_103 : decode cX11_arrive 103 = .ok (.iconst 0, 1) := dk_3 (dk_at dksX11_arrive_4 11 rfl rfl)
theorem dX11_arrive_104 : decode cX11_arrive 104 = .ok (.invokevirtual 22, 3) := dk_182 0 22 (dk_at dksX11_arrive_4 12 rfl rfl)
theorem dX11_arrive_107 : decode cX11_arrive 107 = .ok (.aload_n 0, 1) := dk_42 (dk_at dksX11_arrive_4 15 rfl rfl)
theorem dX11_arrive_108 : decode cX11_arrive 108 = .ok (.getfield 658, 3) := dk_180 2 146 (dk_at dksX11_arrive_4 16 rfl rfl)
theorem dX11_arrive_111 : decode cX11_arrive 111 = .ok (.iload_n 1, 1) := dk_27 (dk_at dksX11_arrive_4 19 rfl rfl)
theorem dX11_arrive_112 : decode cX11_arrive 112 = .ok (.iaload, 1) := dk_46 (dk_at dksX11_arrive_4 20 rfl rfl)
theorem dX11_arrive_113 : decode cX11_arrive 113 = .ok (.ireturn, 1) := dk_172 (dk_at dksX11_arrive_4 21 rfl rfl)
abbrev cX11_open : ByteArray := prog_17_method_114_code
def yX11_open : MethodName := ⟨RX11, "open", "()I"⟩
def dkwX11_open_6 : List UInt8 := [182, 0, 22, 27, 172]
abbrev dktX11_open_6 : List UInt8 := dkwX11_open_6 ++ []
def dkwX11_open_5 : List UInt8 := [160, 0, 10, 42, 28, 16, 6, 182, 2, 176, 132, 2, 1, 167, 255, 217, 42, 16, 24, 3, 3, 3, 3]
abbrev dktX11_open_5 : List UInt8 := dkwX11_open_5 ++ dktX11_open_6
def dkwX11_open_4 : List UInt8 := [180, 2, 31, 162, 0, 37, 42, 180, 2, 149, 28, 46, 16, 6, 160, 0, 20, 42, 180, 2, 146, 28, 46, 5]
abbrev dktX11_open_4 : List UInt8 := dkwX11_open_4 ++ dktX11_open_5
def dkwX11_open_3 : List UInt8 := [167, 0, 4, 3, 96, 60, 132, 2, 1, 167, 255, 216, 27, 5, 162, 0, 6, 16, 252, 172, 3, 61, 28, 42]
abbrev dktX11_open_3 : List UInt8 := dkwX11_open_3 ++ dktX11_open_4
def dkwX11_open_2 : List UInt8 := [27, 42, 180, 2, 149, 28, 46, 16, 6, 160, 0, 17, 42, 180, 2, 146, 28, 46, 5, 160, 0, 7, 4]
abbrev dktX11_open_2 : List UInt8 := dkwX11_open_2 ++ dktX11_open_3
def dkwX11_open_1 : List UInt8 := [180, 2, 40, 16, 6, 51, 153, 0, 6, 16, 253, 172, 3, 60, 3, 61, 28, 42, 180, 2, 31, 162, 0, 38]
abbrev dktX11_open_1 : List UInt8 := dkwX11_open_1 ++ dktX11_open_2
def dkwX11_open_0 : List UInt8 := [42, 180, 0, 141, 154, 0, 5, 2, 172, 42, 180, 0, 17, 42, 6, 182, 1, 210, 161, 0, 13, 42]
abbrev dktX11_open_0 : List UInt8 := dkwX11_open_0 ++ dktX11_open_1
theorem dksX11_open_0 : cX11_open.data.toList.drop 0 = dktX11_open_0 := by decide +kernel
theorem dksX11_open_1 : cX11_open.data.toList.drop 22 = dktX11_open_1 := dk_seg dksX11_open_0 22 rfl rfl
theorem dksX11_open_2 : cX11_open.data.toList.drop 46 = dktX11_open_2 := dk_seg dksX11_open_1 24 rfl rfl
theorem dksX11_open_3 : cX11_open.data.toList.drop 69 = dktX11_open_3 := dk_seg dksX11_open_2 23 rfl rfl
theorem dksX11_open_4 : cX11_open.data.toList.drop 93 = dktX11_open_4 := dk_seg dksX11_open_3 24 rfl rfl
theorem dksX11_open_5 : cX11_open.data.toList.drop 117 = dktX11_open_5 := dk_seg dksX11_open_4 24 rfl rfl
theorem dksX11_open_6 : cX11_open.data.toList.drop 140 = dktX11_open_6 := dk_seg dksX11_open_5 23 rfl rfl
theorem dX11_open_0 : decode cX11_open 0 = .ok (.aload_n 0, 1) := dk_42 (dk_at dksX11_open_0 0 rfl rfl)
theorem dX11_open_1 : decode cX11_open 1 = .ok (.getfield 141, 3) := dk_180 0 141 (dk_at dksX11_open_0 1 rfl rfl)
theorem dX11_open_4 : decode cX11_open 4 = .ok (.ifCond .ne 5, 3) := dk_154 0 5 (dk_at dksX11_open_0 4 rfl rfl)
theorem dX11_open_7 : decode cX11_open 7 = .ok (.iconst (-1), 1) := dk_2 (dk_at dksX11_open_0 7 rfl rfl)
theorem dX11_open_8 : decode cX11_open 8 = .ok (.ireturn, 1) := dk_172 (dk_at dksX11_open_0 8 rfl rfl)
theorem dX11_open_9 : decode cX11_open 9 = .ok (.aload_n 0, 1) := dk_42 (dk_at dksX11_open_0 9 rfl rfl)
theorem dX11_open_10 : decode cX11_open 10 = .ok (.getfield 17, 3) := dk_180 0 17 (dk_at dksX11_open_0 10 rfl rfl)
theorem dX11_open_13 : decode cX11_open 13 = .ok (.aload_n 0, 1) := dk_42 (dk_at dksX11_open_0 13 rfl rfl)
theorem dX11_open_14 : decode cX11_open 14 = .ok (.iconst 3, 1) := dk_6 (dk_at dksX11_open_0 14 rfl rfl)
theorem dX11_open_15 : decode cX11_open 15 = .ok (.invokevirtual 466, 3) := dk_182 1 210 (dk_at dksX11_open_0 15 rfl rfl)
theorem dX11_open_18 : decode cX11_open 18 = .ok (.if_icmp .lt 13, 3) := dk_161 0 13 (dk_at dksX11_open_0 18 rfl rfl)
theorem dX11_open_21 : decode cX11_open 21 = .ok (.aload_n 0, 1) := dk_42 (dk_at dksX11_open_0 21 rfl rfl)
theorem dX11_open_22 : decode cX11_open 22 = .ok (.getfield 552, 3) := dk_180 2 40 (dk_at dksX11_open_1 0 rfl rfl)
theorem dX11_open_25 : decode cX11_open 25 = .ok (.bipush 6, 2) := dk_16 6 (dk_at dksX11_open_1 3 rfl rfl)
theorem dX11_open_27 : decode cX11_open 27 = .ok (.baload, 1) := dk_51 (dk_at dksX11_open_1 5 rfl rfl)
theorem dX11_open_28 : decode cX11_open 28 = .ok (.ifCond .eq 6, 3) := dk_153 0 6 (dk_at dksX11_open_1 6 rfl rfl)
theorem dX11_open_31 : decode cX11_open 31 = .ok (.bipush (-3), 2) := dk_16 253 (dk_at dksX11_open_1 9 rfl rfl)
theorem dX11_open_33 : decode cX11_open 33 = .ok (.ireturn, 1) := dk_172 (dk_at dksX11_open_1 11 rfl rfl)
theorem dX11_open_34 : decode cX11_open 34 = .ok (.iconst 0, 1) := dk_3 (dk_at dksX11_open_1 12 rfl rfl)
theorem dX11_open_35 : decode cX11_open 35 = .ok (.istore_n 1, 1) := dk_60 (dk_at dksX11_open_1 13 rfl rfl)
theorem dX11_open_36 : decode cX11_open 36 = .ok (.iconst 0, 1) := dk_3 (dk_at dksX11_open_1 14 rfl rfl)
theorem dX11_open_37 : decode cX11_open 37 = .ok (.istore_n 2, 1) := dk_61 (dk_at dksX11_open_1 15 rfl rfl)
theorem dX11_open_38 : decode cX11_open 38 = .ok (.iload_n 2, 1) := dk_28 (dk_at dksX11_open_1 16 rfl rfl)
theorem dX11_open_39 : decode cX11_open 39 = .ok (.aload_n 0, 1) := dk_42 (dk_at dksX11_open_1 17 rfl rfl)
theorem dX11_open_40 : decode cX11_open 40 = .ok (.getfield 543, 3) := dk_180 2 31 (dk_at dksX11_open_1 18 rfl rfl)
theorem dX11_open_43 : decode cX11_open 43 = .ok (.if_icmp .ge 38, 3) := dk_162 0 38 (dk_at dksX11_open_1 21 rfl rfl)
theorem dX11_open_46 : decode cX11_open 46 = .ok (.iload_n 1, 1) := dk_27 (dk_at dksX11_open_2 0 rfl rfl)
theorem dX11_open_47 : decode cX11_open 47 = .ok (.aload_n 0, 1) := dk_42 (dk_at dksX11_open_2 1 rfl rfl)
theorem dX11_open_48 : decode cX11_open 48 = .ok (.getfield 661, 3) := dk_180 2 149 (dk_at dksX11_open_2 2 rfl rfl)
theorem dX11_open_51 : decode cX11_open 51 = .ok (.iload_n 2, 1) := dk_28 (dk_at dksX11_open_2 5 rfl rfl)
theorem dX11_open_52 : decode cX11_open 52 = .ok (.iaload, 1) := dk_46 (dk_at dksX11_open_2 6 rfl rfl)
theorem dX11_open_53 : decode cX11_open 53 = .ok (.bipush 6, 2) := dk_16 6 (dk_at dksX11_open_2 7 rfl rfl)
theorem dX11_open_55 : decode cX11_open 55 = .ok (.if_icmp .ne 17, 3) := dk_160 0 17 (dk_at dksX11_open_2 9 rfl rfl)
theorem dX11_open_58 : decode cX11_open 58 = .ok (.aload_n 0, 1) := dk_42 (dk_at dksX11_open_2 12 rfl rfl)
theorem dX11_open_59 : decode cX11_open 59 = .ok (.getfield 658, 3) := dk_180 2 146 (dk_at dksX11_open_2 13 rfl rfl)
theorem dX11_open_62 : decode cX11_open 62 = .ok (.iload_n 2, 1) := dk_28 (dk_at dksX11_open_2 16 rfl rfl)
theorem dX11_open_63 : decode cX11_open 63 = .ok (.iaload, 1) := dk_46 (dk_at dksX11_open_2 17 rfl rfl)
theorem dX11_open_64 : decode cX11_open 64 = .ok (.iconst 2, 1) := dk_5 (dk_at dksX11_open_2 18 rfl rfl)
theorem dX11_open_65 : decode cX11_open 65 = .ok (.if_icmp .ne 7, 3) := dk_160 0 7 (dk_at dksX11_open_2 19 rfl rfl)
theorem dX11_open_68 : decode cX11_open 68 = .ok (.iconst 1, 1) := dk_4 (dk_at dksX11_open_2 22 rfl rfl)
theorem dX11_open_69 : decode cX11_open 69 = .ok (.goto 4, 3) := dk_167 0 4 (dk_at dksX11_open_3 0 rfl rfl)
theorem dX11_open_72 : decode cX11_open 72 = .ok (.iconst 0, 1) := dk_3 (dk_at dksX11_open_3 3 rfl rfl)
theorem dX11_open_73 : decode cX11_open 73 = .ok (.iadd, 1) := dk_96 (dk_at dksX11_open_3 4 rfl rfl)
theorem dX11_open_74 : decode cX11_open 74 = .ok (.istore_n 1, 1) := dk_60 (dk_at dksX11_open_3 5 rfl rfl)
theorem dX11_open_75 : decode cX11_open 75 = .ok (.iinc 2 1, 3) := dk_132 2 1 (dk_at dksX11_open_3 6 rfl rfl)
theorem dX11_open_78 : decode cX11_open 78 = .ok (.goto (-40), 3) := dk_167 255 216 (dk_at dksX11_open_3 9 rfl rfl)
theorem dX11_open_81 : decode cX11_open 81 = .ok (.iload_n 1, 1) := dk_27 (dk_at dksX11_open_3 12 rfl rfl)
theorem dX11_open_82 : decode cX11_open 82 = .ok (.iconst 2, 1) := dk_5 (dk_at dksX11_open_3 13 rfl rfl)
theorem dX11_open_83 : decode cX11_open 83 = .ok (.if_icmp .ge 6, 3) := dk_162 0 6 (dk_at dksX11_open_3 14 rfl rfl)
theorem dX11_open_86 : decode cX11_open 86 = .ok (.bipush (-4), 2) := dk_16 252 (dk_at dksX11_open_3 17 rfl rfl)
theorem dX11_open_88 : decode cX11_open 88 = .ok (.ireturn, 1) := dk_172 (dk_at dksX11_open_3 19 rfl rfl)
theorem dX11_open_89 : decode cX11_open 89 = .ok (.iconst 0, 1) := dk_3 (dk_at dksX11_open_3 20 rfl rfl)
theorem dX11_open_90 : decode cX11_open 90 = .ok (.istore_n 2, 1) := dk_61 (dk_at dksX11_open_3 21 rfl rfl)
theorem dX11_open_91 : decode cX11_open 91 = .ok (.iload_n 2, 1) := dk_28 (dk_at dksX11_open_3 22 rfl rfl)
theorem dX11_open_92 : decode cX11_open 92 = .ok (.aload_n 0, 1) := dk_42 (dk_at dksX11_open_3 23 rfl rfl)
theorem dX11_open_93 : decode cX11_open 93 = .ok (.getfield 543, 3) := dk_180 2 31 (dk_at dksX11_open_4 0 rfl rfl)
theorem dX11_open_96 : decode cX11_open 96 = .ok (.if_icmp .ge 37, 3) := dk_162 0 37 (dk_at dksX11_open_4 3 rfl rfl)
theorem dX11_open_99 : decode cX11_open 99 = .ok (.aload_n 0, 1) := dk_42 (dk_at dksX11_open_4 6 rfl rfl)
theorem dX11_open_100 : decode cX11_open 100 = .ok (.getfield 661, 3) := dk_180 2 149 (dk_at dksX11_open_4 7 rfl rfl)
theorem dX11_open_103 : decode cX11_open 103 = .ok (.iload_n 2, 1) := dk_28 (dk_at dksX11_open_4 10 rfl rfl)
theorem dX11_open_104 : decode cX11_open 104 = .ok (.iaload, 1) := dk_46 (dk_at dksX11_open_4 11 rfl rfl)
theorem dX11_open_105 : decode cX11_open 105 = .ok (.bipush 6, 2) := dk_16 6 (dk_at dksX11_open_4 12 rfl rfl)
theorem dX11_open_107 : decode cX11_open 107 = .ok (.if_icmp .ne 20, 3) := dk_160 0 20 (dk_at dksX11_open_4 14 rfl rfl)
theorem dX11_open_110 : decode cX11_open 110 = .ok (.aload_n 0, 1) := dk_42 (dk_at dksX11_open_4 17 rfl rfl)
theorem dX11_open_111 : decode cX11_open 111 = .ok (.getfield 658, 3) := dk_180 2 146 (dk_at dksX11_open_4 18 rfl rfl)
theorem dX11_open_114 : decode cX11_open 114 = .ok (.iload_n 2, 1) := dk_28 (dk_at dksX11_open_4 21 rfl rfl)
theorem dX11_open_115 : decode cX11_open 115 = .ok (.iaload, 1) := dk_46 (dk_at dksX11_open_4 22 rfl rfl)
theorem dX11_open_116 : decode cX11_open 116 = .ok (.iconst 2, 1) := dk_5 (dk_at dksX11_open_4 23 rfl rfl)
theorem dX11_open_117 : decode cX11_open 117 = .ok (.if_icmp .ne 10, 3) := dk_160 0 10 (dk_at dksX11_open_5 0 rfl rfl)
theorem dX11_open_120 : decode cX11_open 120 = .ok (.aload_n 0, 1) := dk_42 (dk_at dksX11_open_5 3 rfl rfl)
theorem dX11_open_121 : decode cX11_open 121 = .ok (.iload_n 2, 1) := dk_28 (dk_at dksX11_open_5 4 rfl rfl)
theorem dX11_open_122 : decode cX11_open 122 = .ok (.bipush 6, 2) := dk_16 6 (dk_at dksX11_open_5 5 rfl rfl)
theorem dX11_open_124 : decode cX11_open 124 = .ok (.invokevirtual 688, 3) := dk_182 2 176 (dk_at dksX11_open_5 7 rfl rfl)
theorem dX11_open_127 : decode cX11_open 127 = .ok (.iinc 2 1, 3) := dk_132 2 1 (dk_at dksX11_open_5 10 rfl rfl)
theorem dX11_open_130 : decode cX11_open 130 = .ok (.goto (-39), 3) := dk_167 255 217 (dk_at dksX11_open_5 13 rfl rfl)
theorem dX11_open_133 : decode cX11_open 133 = .ok (.aload_n 0, 1) := dk_42 (dk_at dksX11_open_5 16 rfl rfl)
theorem dX11_open_134 : decode cX11_open 134 = .ok (.bipush 24, 2) := dk_16 24 (dk_at dksX11_open_5 17 rfl rfl)
theorem dX11_open_136 : decode cX11_open 136 = .ok (.iconst 0, 1) := dk_3 (dk_at dksX11_open_5 19 rfl rfl)
theorem dX11_open_137 : decode cX11_open 137 = .ok (.iconst 0, 1) := dk_3 (dk_at dksX11_open_5 20 rfl rfl)
theorem dX11_open_138 : decode cX11_open 138 = .ok (.iconst 0, 1) := dk_3 (dk_at dksX11_open_5 21 rfl rfl)
theorem dX11_open_139 : decode cX11_open 139 = .ok (.iconst 0, 1) := dk_3 (dk_at dksX11_open_5 22 rfl rfl)
theorem dX11_open_140 : decode cX11_open 140 = .ok (.invokevirtual 22, 3) := dk_182 0 22 (dk_at dksX11_open_6 0 rfl rfl)
theorem dX11_open_143 : decode cX11_open 143 = .ok (.iload_n 1, 1) := dk_27 (dk_at dksX11_open_6 3 rfl rfl)
theorem dX11_open_144 : decode cX11_open 144 = .ok (.ireturn, 1) := dk_172 (dk_at dksX11_open_6 4 rfl rfl)
abbrev cX11_close : ByteArray := prog_17_method_116_code
def yX11_close : MethodName := ⟨RX11, "close", "(I)I"⟩
def dkwX11_close_5 : List UInt8 := [167, 255, 207, 42, 16, 25, 27, 3, 3, 3, 182, 0, 22, 28, 172]
abbrev dktX11_close_5 : List UInt8 := dkwX11_close_5 ++ []
def dkwX11_close_4 : List UInt8 := [180, 2, 146, 29, 46, 6, 159, 0, 13, 42, 180, 2, 146, 29, 7, 79, 132, 2, 1, 132, 3, 1]
abbrev dktX11_close_4 : List UInt8 := dkwX11_close_4 ++ dktX11_close_5
def dkwX11_close_3 : List UInt8 := [162, 0, 47, 42, 180, 2, 149, 29, 46, 27, 160, 0, 31, 42, 29, 182, 2, 182, 153, 0, 23, 42]
abbrev dktX11_close_3 : List UInt8 := dkwX11_close_3 ++ dktX11_close_4
def dkwX11_close_2 : List UInt8 := [153, 0, 6, 16, 252, 172, 42, 180, 2, 40, 27, 4, 84, 3, 61, 3, 62, 29, 42, 180, 2, 31]
abbrev dktX11_close_2 : List UInt8 := dkwX11_close_2 ++ dktX11_close_3
def dkwX11_close_1 : List UInt8 := [16, 6, 162, 0, 15, 42, 180, 2, 140, 27, 51, 153, 0, 6, 16, 253, 172, 42, 180, 2, 40, 27, 51]
abbrev dktX11_close_1 : List UInt8 := dkwX11_close_1 ++ dktX11_close_2
def dkwX11_close_0 : List UInt8 := [42, 27, 182, 2, 225, 154, 0, 5, 2, 172, 42, 180, 0, 17, 42, 6, 182, 1, 210, 161, 0, 18, 27]
abbrev dktX11_close_0 : List UInt8 := dkwX11_close_0 ++ dktX11_close_1
theorem dksX11_close_0 : cX11_close.data.toList.drop 0 = dktX11_close_0 := by decide +kernel
theorem dksX11_close_1 : cX11_close.data.toList.drop 23 = dktX11_close_1 := dk_seg dksX11_close_0 23 rfl rfl
theorem dksX11_close_2 : cX11_close.data.toList.drop 46 = dktX11_close_2 := dk_seg dksX11_close_1 23 rfl rfl
theorem dksX11_close_3 : cX11_close.data.toList.drop 68 = dktX11_close_3 := dk_seg dksX11_close_2 22 rfl rfl
theorem dksX11_close_4 : cX11_close.data.toList.drop 90 = dktX11_close_4 := dk_seg dksX11_close_3 22 rfl rfl
theorem dksX11_close_5 : cX11_close.data.toList.drop 112 = dktX11_close_5 := dk_seg dksX11_close_4 22 rfl rfl
theorem dX11_close_0 : decode cX11_close 0 = .ok (.aload_n 0, 1) := dk_42 (dk_at dksX11_close_0 0 rfl rfl)
theorem dX11_close_1 : decode cX11_close 1 = .ok (.iload_n 1, 1) := dk_27 (dk_at dksX11_close_0 1 rfl rfl)
theorem dX11_close_2 : decode cX11_close 2 = .ok (.invokevirtual 737, 3) := dk_182 2 225 (dk_at dksX11_close_0 2 rfl rfl)
theorem dX11_close_5 : decode cX11_close 5 = .ok (.ifCond .ne 5, 3) := dk_154 0 5 (dk_at dksX11_close_0 5 rfl rfl)
theorem dX11_close_8 : decode cX11_close 8 = .ok (.iconst (-1), 1) := dk_2 (dk_at dksX11_close_0 8 rfl rfl)
theorem dX11_close_9 : decode cX11_close 9 = .ok (.ireturn, 1) := dk_172 (dk_at dksX11_close_0 9 rfl rfl)
theorem dX11_close_10 : decode cX11_close 10 = .ok (.aload_n 0, 1) := dk_42 (dk_at dksX11_close_0 10 rfl rfl)
theorem dX11_close_11 : decode cX11_close 11 = .ok (.getfield 17, 3) := dk_180 0 17 (dk_at dksX11_close_0 11 rfl rfl)
theorem dX11_close_14 : decode cX11_close 14 = .ok (.aload_n 0, 1) := dk_42 (dk_at dksX11_close_0 14 rfl rfl)
theorem dX11_close_15 : decode cX11_close 15 = .ok (.iconst 3, 1) := dk_6 (dk_at dksX11_close_0 15 rfl rfl)
theorem dX11_close_16 : decode cX11_close 16 = .ok (.invokevirtual 466, 3) := dk_182 1 210 (dk_at dksX11_close_0 16 rfl rfl)
theorem dX11_close_19 : decode cX11_close 19 = .ok (.if_icmp .lt 18, 3) := dk_161 0 18 (dk_at dksX11_close_0 19 rfl rfl)
theorem dX11_close_22 : decode cX11_close 22 = .ok (.iload_n 1, 1) := dk_27 (dk_at dksX11_close_0 22 rfl rfl)
theorem dX11_close_23 : decode cX11_close 23 = .ok (.bipush 6, 2) := dk_16 6 (dk_at dksX11_close_1 0 rfl rfl)
theorem dX11_close_25 : decode cX11_close 25 = .ok (.if_icmp .ge 15, 3) := dk_162 0 15 (dk_at dksX11_close_1 2 rfl rfl)
theorem dX11_close_28 : decode cX11_close 28 = .ok (.aload_n 0, 1) := dk_42 (dk_at dksX11_close_1 5 rfl rfl)
theorem dX11_close_29 : decode cX11_close 29 = .ok (.getfield 652, 3) := dk_180 2 140 (dk_at dksX11_close_1 6 rfl rfl)
theorem dX11_close_32 : decode cX11_close 32 = .ok (.iload_n 1, 1) := dk_27 (dk_at dksX11_close_1 9 rfl rfl)
theorem dX11_close_33 : decode cX11_close 33 = .ok (.baload, 1) := dk_51 (dk_at dksX11_close_1 10 rfl rfl)
theorem dX11_close_34 : decode cX11_close 34 = .ok (.ifCond .eq 6, 3) := dk_153 0 6 (dk_at dksX11_close_1 11 rfl rfl)
theorem dX11_close_37 : decode cX11_close 37 = .ok (.bipush (-3), 2) := dk_16 253 (dk_at dksX11_close_1 14 rfl rfl)
theorem dX11_close_39 : decode cX11_close 39 = .ok (.ireturn, 1) := dk_172 (dk_at dksX11_close_1 16 rfl rfl)
theorem dX11_close_40 : decode cX11_close 40 = .ok (.aload_n 0, 1) := dk_42 (dk_at dksX11_close_1 17 rfl rfl)
theorem dX11_close_41 : decode cX11_close 41 = .ok (.getfield 552, 3) := dk_180 2 40 (dk_at dksX11_close_1 18 rfl rfl)
theorem dX11_close_44 : decode cX11_close 44 = .ok (.iload_n 1, 1) := dk_27 (dk_at dksX11_close_1 21 rfl rfl)
theorem dX11_close_45 : decode cX11_close 45 = .ok (.baload, 1) := dk_51 (dk_at dksX11_close_1 22 rfl rfl)
theorem dX11_close_46 : decode cX11_close 46 = .ok (.ifCond .eq 6, 3) := dk_153 0 6 (dk_at dksX11_close_2 0 rfl rfl)
theorem dX11_close_49 : decode cX11_close 49 = .ok (.bipush (-4), 2) := dk_16 252 (dk_at dksX11_close_2 3 rfl rfl)
theorem dX11_close_51 : decode cX11_close 51 = .ok (.ireturn, 1) := dk_172 (dk_at dksX11_close_2 5 rfl rfl)
theorem dX11_close_52 : decode cX11_close 52 = .ok (.aload_n 0, 1) := dk_42 (dk_at dksX11_close_2 6 rfl rfl)
theorem dX11_close_53 : decode cX11_close 53 = .ok (.getfield 552, 3) := dk_180 2 40 (dk_at dksX11_close_2 7 rfl rfl)
theorem dX11_close_56 : decode cX11_close 56 = .ok (.iload_n 1, 1) := dk_27 (dk_at dksX11_close_2 10 rfl rfl)
theorem dX11_close_57 : decode cX11_close 57 = .ok (.iconst 1, 1) := dk_4 (dk_at dksX11_close_2 11 rfl rfl)
theorem dX11_close_58 : decode cX11_close 58 = .ok (.bastore, 1) := dk_84 (dk_at dksX11_close_2 12 rfl rfl)
theorem dX11_close_59 : decode cX11_close 59 = .ok (.iconst 0, 1) := dk_3 (dk_at dksX11_close_2 13 rfl rfl)
theorem dX11_close_60 : decode cX11_close 60 = .ok (.istore_n 2, 1) := dk_61 (dk_at dksX11_close_2 14 rfl rfl)
theorem dX11_close_61 : decode cX11_close 61 = .ok (.iconst 0, 1) := dk_3 (dk_at dksX11_close_2 15 rfl rfl)
theorem dX11_close_62 : decode cX11_close 62 = .ok (.istore_n 3, 1) := dk_62 (dk_at dksX11_close_2 16 rfl rfl)
theorem dX11_close_63 : decode cX11_close 63 = .ok (.iload_n 3, 1) := dk_29 (dk_at dksX11_close_2 17 rfl rfl)
theorem dX11_close_64 : decode cX11_close 64 = .ok (.aload_n 0, 1) := dk_42 (dk_at dksX11_close_2 18 rfl rfl)
theorem dX11_close_65 : decode cX11_close 65 = .ok (.getfield 543, 3) := dk_180 2 31 (dk_at dksX11_close_2 19 rfl rfl)
theorem dX11_close_68 : decode cX11_close 68 = .ok (.if_icmp .ge 47, 3) := dk_162 0 47 (dk_at dksX11_close_3 0 rfl rfl)
theorem dX11_close_71 : decode cX11_close 71 = .ok (.aload_n 0, 1) := dk_42 (dk_at dksX11_close_3 3 rfl rfl)
theorem dX11_close_72 : decode cX11_close 72 = .ok (.getfield 661, 3) := dk_180 2 149 (dk_at dksX11_close_3 4 rfl rfl)
theorem dX11_close_75 : decode cX11_close 75 = .ok (.iload_n 3, 1) := dk_29 (dk_at dksX11_close_3 7 rfl rfl)
theorem dX11_close_76 : decode cX11_close 76 = .ok (.iaload, 1) := dk_46 (dk_at dksX11_close_3 8 rfl rfl)
theorem dX11_close_77 : decode cX11_close 77 = .ok (.iload_n 1, 1) := dk_27 (dk_at dksX11_close_3 9 rfl rfl)
theorem dX11_close_78 : decode cX11_close 78 = .ok (.if_icmp .ne 31, 3) := dk_160 0 31 (dk_at dksX11_close_3 10 rfl rfl)
theorem dX11_close_81 : decode cX11_close 81 = .ok (.aload_n 0, 1) := dk_42 (dk_at dksX11_close_3 13 rfl rfl)
theorem dX11_close_82 : decode cX11_close 82 = .ok (.iload_n 3, 1) := dk_29 (dk_at dksX11_close_3 14 rfl rfl)
theorem dX11_close_83 : decode cX11_close 83 = .ok (.invokevirtual 694, 3) := dk_182 2 182 (dk_at dksX11_close_3 15 rfl rfl)
theorem dX11_close_86 : decode cX11_close 86 = .ok (.ifCond .eq 23, 3) := dk_153 0 23 (dk_at dksX11_close_3 18 rfl rfl)
theorem dX11_close_89 : decode cX11_close 89 = .ok (.aload_n 0, 1) := dk_42 (dk_at dksX11_close_3 21 rfl rfl)
theorem dX11_close_90 : decode cX11_close 90 = .ok (.getfield 658, 3) := dk_180 2 146 (dk_at dksX11_close_4 0 rfl rfl)
theorem dX11_close_93 : decode cX11_close 93 = .ok (.iload_n 3, 1) := dk_29 (dk_at dksX11_close_4 3 rfl rfl)
theorem dX11_close_94 : decode cX11_close 94 = .ok (.iaload, 1) := dk_46 (dk_at dksX11_close_4 4 rfl rfl)
theorem dX11_close_95 : decode cX11_close 95 = .ok (.iconst 3, 1) := dk_6 (dk_at dksX11_close_4 5 rfl rfl)
theorem dX11_close_96 : decode cX11_close 96 = .ok (.if_icmp .eq 13, 3) := dk_159 0 13 (dk_at dksX11_close_4 6 rfl rfl)
theorem dX11_close_99 : decode cX11_close 99 = .ok (.aload_n 0, 1) := dk_42 (dk_at dksX11_close_4 9 rfl rfl)
theorem dX11_close_100 : decode cX11_close 100 = .ok (.getfield 658, 3) := dk_180 2 146 (dk_at dksX11_close_4 10 rfl rfl)
theorem dX11_close_103 : decode cX11_close 103 = .ok (.iload_n 3, 1) := dk_29 (dk_at dksX11_close_4 13 rfl rfl)
theorem dX11_close_104 : decode cX11_close 104 = .ok (.iconst 4, 1) := dk_7 (dk_at dksX11_close_4 14 rfl rfl)
theorem dX11_close_105 : decode cX11_close 105 = .ok (.iastore, 1) := dk_79 (dk_at dksX11_close_4 15 rfl rfl)
theorem dX11_close_106 : decode cX11_close 106 = .ok (.iinc 2 1, 3) := dk_132 2 1 (dk_at dksX11_close_4 16 rfl rfl)
theorem dX11_close_109 : decode cX11_close 109 = .ok (.iinc 3 1, 3) := dk_132 3 1 (dk_at dksX11_close_4 19 rfl rfl)
theorem dX11_close_112 : decode cX11_close 112 = .ok (.goto (-49), 3) := dk_167 255 207 (dk_at dksX11_close_5 0 rfl rfl)
theorem dX11_close_115 : decode cX11_close 115 = .ok (.aload_n 0, 1) := dk_42 (dk_at dksX11_close_5 3 rfl rfl)
theorem dX11_close_116 : decode cX11_close 116 = .ok (.bipush 25, 2) := dk_16 25 (dk_at dksX11_close_5 4 rfl rfl)
theorem dX11_close_118 : decode cX11_close 118 = .ok (.iload_n 1, 1) := dk_27 (dk_at dksX11_close_5 6 rfl rfl)
theorem dX11_close_119 : decode cX11_close 119 = .ok (.iconst 0, 1) := dk_3 (dk_at dksX11_close_5 7 rfl rfl)
theorem dX11_close_120 : decode cX11_close 120 = .ok (.iconst 0, 1) := dk_3 (dk_at dksX11_close_5 8 rfl rfl)
theorem dX11_close_121 : decode cX11_close 121 = .ok (.iconst 0, 1) := dk_3 (dk_at dksX11_close_5 9 rfl rfl)
theorem dX11_close_122 : decode cX11_close 122 = .ok (.invokevirtual 22, 3) := dk_182 0 22 (dk_at dksX11_close_5 10 rfl rfl)
theorem dX11_close_125 : decode cX11_close 125 = .ok (.iload_n 2, 1) := dk_28 (dk_at dksX11_close_5 13 rfl rfl)
theorem dX11_close_126 : decode cX11_close 126 = .ok (.ireturn, 1) := dk_172 (dk_at dksX11_close_5 14 rfl rfl)
abbrev cX11_isBox : ByteArray := prog_17_method_115_code
def yX11_isBox : MethodName := ⟨RX11, "isBox", "(I)Z"⟩
def dkwX11_isBox_1 : List UInt8 := [182, 1, 210, 4, 160, 0, 7, 4, 167, 0, 4, 3, 172]
abbrev dktX11_isBox_1 : List UInt8 := dkwX11_isBox_1 ++ []
def dkwX11_isBox_0 : List UInt8 := [42, 27, 182, 2, 143, 154, 0, 26, 42, 180, 0, 141, 153, 0, 23, 27, 16, 6, 160, 0, 17, 42, 16, 8]
abbrev dktX11_isBox_0 : List UInt8 := dkwX11_isBox_0 ++ dktX11_isBox_1
theorem dksX11_isBox_0 : cX11_isBox.data.toList.drop 0 = dktX11_isBox_0 := by decide +kernel
theorem dksX11_isBox_1 : cX11_isBox.data.toList.drop 24 = dktX11_isBox_1 := dk_seg dksX11_isBox_0 24 rfl rfl
theorem dX11_isBox_0 : decode cX11_isBox 0 = .ok (.aload_n 0, 1) := dk_42 (dk_at dksX11_isBox_0 0 rfl rfl)
theorem dX11_isBox_1 : decode cX11_isBox 1 = .ok (.iload_n 1, 1) := dk_27 (dk_at dksX11_isBox_0 1 rfl rfl)
theorem dX11_isBox_2 : decode cX11_isBox 2 = .ok (.invokevirtual 655, 3) := dk_182 2 143 (dk_at dksX11_isBox_0 2 rfl rfl)
theorem dX11_isBox_5 : decode cX11_isBox 5 = .ok (.ifCond .ne 26, 3) := dk_154 0 26 (dk_at dksX11_isBox_0 5 rfl rfl)
theorem dX11_isBox_8 : decode cX11_isBox 8 = .ok (.aload_n 0, 1) := dk_42 (dk_at dksX11_isBox_0 8 rfl rfl)
theorem dX11_isBox_9 : decode cX11_isBox 9 = .ok (.getfield 141, 3) := dk_180 0 141 (dk_at dksX11_isBox_0 9 rfl rfl)
theorem dX11_isBox_12 : decode cX11_isBox 12 = .ok (.ifCond .eq 23, 3) := dk_153 0 23 (dk_at dksX11_isBox_0 12 rfl rfl)
theorem dX11_isBox_15 : decode cX11_isBox 15 = .ok (.iload_n 1, 1) := dk_27 (dk_at dksX11_isBox_0 15 rfl rfl)
theorem dX11_isBox_16 : decode cX11_isBox 16 = .ok (.bipush 6, 2) := dk_16 6 (dk_at dksX11_isBox_0 16 rfl rfl)
theorem dX11_isBox_18 : decode cX11_isBox 18 = .ok (.if_icmp .ne 17, 3) := dk_160 0 17 (dk_at dksX11_isBox_0 18 rfl rfl)
theorem dX11_isBox_21 : decode cX11_isBox 21 = .ok (.aload_n 0, 1) := dk_42 (dk_at dksX11_isBox_0 21 rfl rfl)
theorem dX11_isBox_22 : decode cX11_isBox 22 = .ok (.bipush 8, 2) := dk_16 8 (dk_at dksX11_isBox_0 22 rfl rfl)
theorem dX11_isBox_24 : decode cX11_isBox 24 = .ok (.invokevirtual 466, 3) := dk_182 1 210 (dk_at dksX11_isBox_1 0 rfl rfl)
theorem dX11_isBox_27 : decode cX11_isBox 27 = .ok (.iconst 1, 1) := dk_4 (dk_at dksX11_isBox_1 3 rfl rfl)
theorem dX11_isBox_28 : decode cX11_isBox 28 = .ok (.if_icmp .ne 7, 3) := dk_160 0 7 (dk_at dksX11_isBox_1 4 rfl rfl)
theorem dX11_isBox_31 : decode cX11_isBox 31 = .ok (.iconst 1, 1) := dk_4 (dk_at dksX11_isBox_1 7 rfl rfl)
theorem dX11_isBox_32 : decode cX11_isBox 32 = .ok (.goto 4, 3) := dk_167 0 4 (dk_at dksX11_isBox_1 8 rfl rfl)
theorem dX11_isBox_35 : decode cX11_isBox 35 = .ok (.iconst 0, 1) := dk_3 (dk_at dksX11_isBox_1 11 rfl rfl)
theorem dX11_isBox_36 : decode cX11_isBox 36 = .ok (.ireturn, 1) := dk_172 (dk_at dksX11_isBox_1 12 rfl rfl)
abbrev cX11_issue : ByteArray := prog_17_method_117_code
def yX11_issue : MethodName := ⟨RX11, "issue", "(II)I"⟩
def dkwX11_issue_4 : List UInt8 := [180, 2, 185, 27, 46, 172, 16, 254, 172]
abbrev dktX11_issue_4 : List UInt8 := dkwX11_issue_4 ++ []
def dkwX11_issue_3 : List UInt8 := [180, 2, 161, 27, 46, 172, 42, 180, 2, 155, 27, 51, 153, 0, 7, 4, 167, 0, 4, 3, 172, 42]
abbrev dktX11_issue_3 : List UInt8 := dkwX11_issue_3 ++ dktX11_issue_4
def dkwX11_issue_2 : List UInt8 := [42, 180, 2, 179, 27, 46, 172, 42, 180, 2, 149, 27, 46, 172, 42, 180, 2, 146, 27, 46, 172, 42]
abbrev dktX11_issue_2 : List UInt8 := dkwX11_issue_2 ++ dktX11_issue_3
def dkwX11_issue_1 : List UInt8 := [170, 0, 0, 0, 87, 0, 0, 0, 0, 0, 0, 0, 5, 0, 0, 0, 37, 0, 0, 0, 44, 0, 0, 0, 51, 0, 0, 0, 58, 0, 0, 0, 65, 0, 0, 0, 80]
abbrev dktX11_issue_1 : List UInt8 := dkwX11_issue_1 ++ dktX11_issue_2
def dkwX11_issue_0 : List UInt8 := [42, 27, 182, 2, 198, 154, 0, 5, 2, 172, 28]
abbrev dktX11_issue_0 : List UInt8 := dkwX11_issue_0 ++ dktX11_issue_1
theorem dksX11_issue_0 : cX11_issue.data.toList.drop 0 = dktX11_issue_0 := by decide +kernel
theorem dksX11_issue_1 : cX11_issue.data.toList.drop 11 = dktX11_issue_1 := dk_seg dksX11_issue_0 11 rfl rfl
theorem dksX11_issue_2 : cX11_issue.data.toList.drop 48 = dktX11_issue_2 := dk_seg dksX11_issue_1 37 rfl rfl
theorem dksX11_issue_3 : cX11_issue.data.toList.drop 70 = dktX11_issue_3 := dk_seg dksX11_issue_2 22 rfl rfl
theorem dksX11_issue_4 : cX11_issue.data.toList.drop 92 = dktX11_issue_4 := dk_seg dksX11_issue_3 22 rfl rfl
theorem dX11_issue_0 : decode cX11_issue 0 = .ok (.aload_n 0, 1) := dk_42 (dk_at dksX11_issue_0 0 rfl rfl)
theorem dX11_issue_1 : decode cX11_issue 1 = .ok (.iload_n 1, 1) := dk_27 (dk_at dksX11_issue_0 1 rfl rfl)
theorem dX11_issue_2 : decode cX11_issue 2 = .ok (.invokevirtual 710, 3) := dk_182 2 198 (dk_at dksX11_issue_0 2 rfl rfl)
theorem dX11_issue_5 : decode cX11_issue 5 = .ok (.ifCond .ne 5, 3) := dk_154 0 5 (dk_at dksX11_issue_0 5 rfl rfl)
theorem dX11_issue_8 : decode cX11_issue 8 = .ok (.iconst (-1), 1) := dk_2 (dk_at dksX11_issue_0 8 rfl rfl)
theorem dX11_issue_9 : decode cX11_issue 9 = .ok (.ireturn, 1) := dk_172 (dk_at dksX11_issue_0 9 rfl rfl)
theorem dX11_issue_10 : decode cX11_issue 10 = .ok (.iload_n 2, 1) := dk_28 (dk_at dksX11_issue_0 10 rfl rfl)
theorem dX11_issue_11 : decode cX11_issue 11 = .ok (.tableswitch 87 0 5 #[37, 44, 51, 58, 65, 80], 37) := by decide +kernel
theorem dX11_issue_48 : decode cX11_issue 48 = .ok (.aload_n 0, 1) := dk_42 (dk_at dksX11_issue_2 0 rfl rfl)
theorem dX11_issue_49 : decode cX11_issue 49 = .ok (.getfield 691, 3) := dk_180 2 179 (dk_at dksX11_issue_2 1 rfl rfl)
theorem dX11_issue_52 : decode cX11_issue 52 = .ok (.iload_n 1, 1) := dk_27 (dk_at dksX11_issue_2 4 rfl rfl)
theorem dX11_issue_53 : decode cX11_issue 53 = .ok (.iaload, 1) := dk_46 (dk_at dksX11_issue_2 5 rfl rfl)
theorem dX11_issue_54 : decode cX11_issue 54 = .ok (.ireturn, 1) := dk_172 (dk_at dksX11_issue_2 6 rfl rfl)
theorem dX11_issue_55 : decode cX11_issue 55 = .ok (.aload_n 0, 1) := dk_42 (dk_at dksX11_issue_2 7 rfl rfl)
theorem dX11_issue_56 : decode cX11_issue 56 = .ok (.getfield 661, 3) := dk_180 2 149 (dk_at dksX11_issue_2 8 rfl rfl)
theorem dX11_issue_59 : decode cX11_issue 59 = .ok (.iload_n 1, 1) := dk_27 (dk_at dksX11_issue_2 11 rfl rfl)
theorem dX11_issue_60 : decode cX11_issue 60 = .ok (.iaload, 1) := dk_46 (dk_at dksX11_issue_2 12 rfl rfl)
theorem dX11_issue_61 : decode cX11_issue 61 = .ok (.ireturn, 1) := dk_172 (dk_at dksX11_issue_2 13 rfl rfl)
theorem dX11_issue_62 : decode cX11_issue 62 = .ok (.aload_n 0, 1) := dk_42 (dk_at dksX11_issue_2 14 rfl rfl)
theorem dX11_issue_63 : decode cX11_issue 63 = .ok (.getfield 658, 3) := dk_180 2 146 (dk_at dksX11_issue_2 15 rfl rfl)
theorem dX11_issue_66 : decode cX11_issue 66 = .ok (.iload_n 1, 1) := dk_27 (dk_at dksX11_issue_2 18 rfl rfl)
theorem dX11_issue_67 : decode cX11_issue 67 = .ok (.iaload, 1) := dk_46 (dk_at dksX11_issue_2 19 rfl rfl)
theorem dX11_issue_68 : decode cX11_issue 68 = .ok (.ireturn, 1) := dk_172 (dk_at dksX11_issue_2 20 rfl rfl)
theorem dX11_issue_69 : decode cX11_issue 69 = .ok (.aload_n 0, 1) := dk_42 (dk_at dksX11_issue_2 21 rfl rfl)
theorem dX11_issue_70 : decode cX11_issue 70 = .ok (.getfield 673, 3) := dk_180 2 161 (dk_at dksX11_issue_3 0 rfl rfl)
theorem dX11_issue_73 : decode cX11_issue 73 = .ok (.iload_n 1, 1) := dk_27 (dk_at dksX11_issue_3 3 rfl rfl)
theorem dX11_issue_74 : decode cX11_issue 74 = .ok (.iaload, 1) := dk_46 (dk_at dksX11_issue_3 4 rfl rfl)
theorem dX11_issue_75 : decode cX11_issue 75 = .ok (.ireturn, 1) := dk_172 (dk_at dksX11_issue_3 5 rfl rfl)
theorem dX11_issue_76 : decode cX11_issue 76 = .ok (.aload_n 0, 1) := dk_42 (dk_at dksX11_issue_3 6 rfl rfl)
theorem dX11_issue_77 : decode cX11_issue 77 = .ok (.getfield 667, 3) := dk_180 2 155 (dk_at dksX11_issue_3 7 rfl rfl)
theorem dX11_issue_80 : decode cX11_issue 80 = .ok (.iload_n 1, 1) := dk_27 (dk_at dksX11_issue_3 10 rfl rfl)
theorem dX11_issue_81 : decode cX11_issue 81 = .ok (.baload, 1) := dk_51 (dk_at dksX11_issue_3 11 rfl rfl)
theorem dX11_issue_82 : decode cX11_issue 82 = .ok (.ifCond .eq 7, 3) := dk_153 0 7 (dk_at dksX11_issue_3 12 rfl rfl)
theorem dX11_issue_85 : decode cX11_issue 85 = .ok (.iconst 1, 1) := dk_4 (dk_at dksX11_issue_3 15 rfl rfl)
theorem dX11_issue_86 : decode cX11_issue 86 = .ok (.goto 4, 3) := dk_167 0 4 (dk_at dksX11_issue_3 16 rfl rfl)
theorem dX11_issue_89 : decode cX11_issue 89 = .ok (.iconst 0, 1) := dk_3 (dk_at dksX11_issue_3 19 rfl rfl)
theorem dX11_issue_90 : decode cX11_issue 90 = .ok (.ireturn, 1) := dk_172 (dk_at dksX11_issue_3 20 rfl rfl)
theorem dX11_issue_91 : decode cX11_issue 91 = .ok (.aload_n 0, 1) := dk_42 (dk_at dksX11_issue_3 21 rfl rfl)
theorem dX11_issue_92 : decode cX11_issue 92 = .ok (.getfield 697, 3) := dk_180 2 185 (dk_at dksX11_issue_4 0 rfl rfl)
theorem dX11_issue_95 : decode cX11_issue 95 = .ok (.iload_n 1, 1) := dk_27 (dk_at dksX11_issue_4 3 rfl rfl)
theorem dX11_issue_96 : decode cX11_issue 96 = .ok (.iaload, 1) := dk_46 (dk_at dksX11_issue_4 4 rfl rfl)
theorem dX11_issue_97 : decode cX11_issue 97 = .ok (.ireturn, 1) := dk_172 (dk_at dksX11_issue_4 5 rfl rfl)
theorem dX11_issue_98 : decode cX11_issue 98 = .ok (.bipush (-2), 2) := dk_16 254 (dk_at dksX11_issue_4 6 rfl rfl)
theorem dX11_issue_100 : decode cX11_issue 100 = .ok (.ireturn, 1) := dk_172 (dk_at dksX11_issue_4 8 rfl rfl)
abbrev cX11_knows : ByteArray := prog_17_method_118_code
def yX11_knows : MethodName := ⟨RX11, "knows", "(II)I"⟩
def dkwX11_knows_1 : List UInt8 := [167, 0, 4, 2, 172]
abbrev dktX11_knows_1 : List UInt8 := dkwX11_knows_1 ++ []
def dkwX11_knows_0 : List UInt8 := [42, 27, 182, 2, 143, 153, 0, 20, 42, 28, 182, 2, 198, 153, 0, 12, 42, 27, 28, 182, 2, 158]
abbrev dktX11_knows_0 : List UInt8 := dkwX11_knows_0 ++ dktX11_knows_1
theorem dksX11_knows_0 : cX11_knows.data.toList.drop 0 = dktX11_knows_0 := by decide +kernel
theorem dksX11_knows_1 : cX11_knows.data.toList.drop 22 = dktX11_knows_1 := dk_seg dksX11_knows_0 22 rfl rfl
theorem dX11_knows_0 : decode cX11_knows 0 = .ok (.aload_n 0, 1) := dk_42 (dk_at dksX11_knows_0 0 rfl rfl)
theorem dX11_knows_1 : decode cX11_knows 1 = .ok (.iload_n 1, 1) := dk_27 (dk_at dksX11_knows_0 1 rfl rfl)
theorem dX11_knows_2 : decode cX11_knows 2 = .ok (.invokevirtual 655, 3) := dk_182 2 143 (dk_at dksX11_knows_0 2 rfl rfl)
theorem dX11_knows_5 : decode cX11_knows 5 = .ok (.ifCond .eq 20, 3) := dk_153 0 20 (dk_at dksX11_knows_0 5 rfl rfl)
theorem dX11_knows_8 : decode cX11_knows 8 = .ok (.aload_n 0, 1) := dk_42 (dk_at dksX11_knows_0 8 rfl rfl)
theorem dX11_knows_9 : decode cX11_knows 9 = .ok (.iload_n 2, 1) := dk_28 (dk_at dksX11_knows_0 9 rfl rfl)
theorem dX11_knows_10 : decode cX11_knows 10 = .ok (.invokevirtual 710, 3) := dk_182 2 198 (dk_at dksX11_knows_0 10 rfl rfl)
theorem dX11_knows_13 : decode cX11_knows 13 = .ok (.ifCond .eq 12, 3) := dk_153 0 12 (dk_at dksX11_knows_0 13 rfl rfl)
theorem dX11_knows_16 : decode cX11_knows 16 = .ok (.aload_n 0, 1) := dk_42 (dk_at dksX11_knows_0 16 rfl rfl)
theorem dX11_knows_17 : decode cX11_knows 17 = .ok (.iload_n 1, 1) := dk_27 (dk_at dksX11_knows_0 17 rfl rfl)
theorem dX11_knows_18 : decode cX11_knows 18 = .ok (.iload_n 2, 1) := dk_28 (dk_at dksX11_knows_0 18 rfl rfl)
theorem dX11_knows_19 : decode cX11_knows 19 = .ok (.invokevirtual 670, 3) := dk_182 2 158 (dk_at dksX11_knows_0 19 rfl rfl)
theorem dX11_knows_22 : decode cX11_knows 22 = .ok (.goto 4, 3) := dk_167 0 4 (dk_at dksX11_knows_1 0 rfl rfl)
theorem dX11_knows_25 : decode cX11_knows 25 = .ok (.iconst (-1), 1) := dk_2 (dk_at dksX11_knows_1 3 rfl rfl)
theorem dX11_knows_26 : decode cX11_knows 26 = .ok (.ireturn, 1) := dk_172 (dk_at dksX11_knows_1 4 rfl rfl)
abbrev cX11_box : ByteArray := prog_17_method_121_code
def yX11_box : MethodName := ⟨RX11, "box", "(II)I"⟩
def dkwX11_box_4 : List UInt8 := [27, 51, 153, 0, 7, 4, 167, 0, 4, 3, 172, 16, 254, 172]
abbrev dktX11_box_4 : List UInt8 := dkwX11_box_4 ++ []
def dkwX11_box_3 : List UInt8 := [180, 2, 43, 27, 51, 153, 0, 7, 4, 167, 0, 4, 3, 172, 27, 16, 6, 162, 0, 16, 42, 180, 2, 140]
abbrev dktX11_box_3 : List UInt8 := dkwX11_box_3 ++ dktX11_box_4
def dkwX11_box_2 : List UInt8 := [42, 180, 2, 37, 27, 46, 172, 42, 180, 2, 40, 27, 51, 153, 0, 7, 4, 167, 0, 4, 3, 172, 42]
abbrev dktX11_box_2 : List UInt8 := dkwX11_box_2 ++ dktX11_box_3
def dkwX11_box_1 : List UInt8 := [170, 0, 0, 0, 87, 0, 0, 0, 0, 0, 0, 0, 3, 0, 0, 0, 29, 0, 0, 0, 36, 0, 0, 0, 51, 0, 0, 0, 66]
abbrev dktX11_box_1 : List UInt8 := dkwX11_box_1 ++ dktX11_box_2
def dkwX11_box_0 : List UInt8 := [42, 27, 182, 2, 225, 154, 0, 5, 2, 172, 28]
abbrev dktX11_box_0 : List UInt8 := dkwX11_box_0 ++ dktX11_box_1
theorem dksX11_box_0 : cX11_box.data.toList.drop 0 = dktX11_box_0 := by decide +kernel
theorem dksX11_box_1 : cX11_box.data.toList.drop 11 = dktX11_box_1 := dk_seg dksX11_box_0 11 rfl rfl
theorem dksX11_box_2 : cX11_box.data.toList.drop 40 = dktX11_box_2 := dk_seg dksX11_box_1 29 rfl rfl
theorem dksX11_box_3 : cX11_box.data.toList.drop 63 = dktX11_box_3 := dk_seg dksX11_box_2 23 rfl rfl
theorem dksX11_box_4 : cX11_box.data.toList.drop 87 = dktX11_box_4 := dk_seg dksX11_box_3 24 rfl rfl
theorem dX11_box_0 : decode cX11_box 0 = .ok (.aload_n 0, 1) := dk_42 (dk_at dksX11_box_0 0 rfl rfl)
theorem dX11_box_1 : decode cX11_box 1 = .ok (.iload_n 1, 1) := dk_27 (dk_at dksX11_box_0 1 rfl rfl)
theorem dX11_box_2 : decode cX11_box 2 = .ok (.invokevirtual 737, 3) := dk_182 2 225 (dk_at dksX11_box_0 2 rfl rfl)
theorem dX11_box_5 : decode cX11_box 5 = .ok (.ifCond .ne 5, 3) := dk_154 0 5 (dk_at dksX11_box_0 5 rfl rfl)
theorem dX11_box_8 : decode cX11_box 8 = .ok (.iconst (-1), 1) := dk_2 (dk_at dksX11_box_0 8 rfl rfl)
theorem dX11_box_9 : decode cX11_box 9 = .ok (.ireturn, 1) := dk_172 (dk_at dksX11_box_0 9 rfl rfl)
theorem dX11_box_10 : decode cX11_box 10 = .ok (.iload_n 2, 1) := dk_28 (dk_at dksX11_box_0 10 rfl rfl)
theorem dX11_box_11 : decode cX11_box 11 = .ok (.tableswitch 87 0 3 #[29, 36, 51, 66], 29) := by decide +kernel
theorem dX11_box_40 : decode cX11_box 40 = .ok (.aload_n 0, 1) := dk_42 (dk_at dksX11_box_2 0 rfl rfl)
theorem dX11_box_41 : decode cX11_box 41 = .ok (.getfield 549, 3) := dk_180 2 37 (dk_at dksX11_box_2 1 rfl rfl)
theorem dX11_box_44 : decode cX11_box 44 = .ok (.iload_n 1, 1) := dk_27 (dk_at dksX11_box_2 4 rfl rfl)
theorem dX11_box_45 : decode cX11_box 45 = .ok (.iaload, 1) := dk_46 (dk_at dksX11_box_2 5 rfl rfl)
theorem dX11_box_46 : decode cX11_box 46 = .ok (.ireturn, 1) := dk_172 (dk_at dksX11_box_2 6 rfl rfl)
theorem dX11_box_47 : decode cX11_box 47 = .ok (.aload_n 0, 1) := dk_42 (dk_at dksX11_box_2 7 rfl rfl)
theorem dX11_box_48 : decode cX11_box 48 = .ok (.getfield 552, 3) := dk_180 2 40 (dk_at dksX11_box_2 8 rfl rfl)
theorem dX11_box_51 : decode cX11_box 51 = .ok (.iload_n 1, 1) := dk_27 (dk_at dksX11_box_2 11 rfl rfl)
theorem dX11_box_52 : decode cX11_box 52 = .ok (.baload, 1) := dk_51 (dk_at dksX11_box_2 12 rfl rfl)
theorem dX11_box_53 : decode cX11_box 53 = .ok (.ifCond .eq 7, 3) := dk_153 0 7 (dk_at dksX11_box_2 13 rfl rfl)
theorem dX11_box_56 : decode cX11_box 56 = .ok (.iconst 1, 1) := dk_4 (dk_at dksX11_box_2 16 rfl rfl)
theorem dX11_box_57 : decode cX11_box 57 = .ok (.goto 4, 3) := dk_167 0 4 (dk_at dksX11_box_2 17 rfl rfl)
theorem dX11_box_60 : decode cX11_box 60 = .ok (.iconst 0, 1) := dk_3 (dk_at dksX11_box_2 20 rfl rfl)
theorem dX11_box_61 : decode cX11_box 61 = .ok (.ireturn, 1) := dk_172 (dk_at dksX11_box_2 21 rfl rfl)
theorem dX11_box_62 : decode cX11_box 62 = .ok (.aload_n 0, 1) := dk_42 (dk_at dksX11_box_2 22 rfl rfl)
theorem dX11_box_63 : decode cX11_box 63 = .ok (.getfield 555, 3) := dk_180 2 43 (dk_at dksX11_box_3 0 rfl rfl)
theorem dX11_box_66 : decode cX11_box 66 = .ok (.iload_n 1, 1) := dk_27 (dk_at dksX11_box_3 3 rfl rfl)
theorem dX11_box_67 : decode cX11_box 67 = .ok (.baload, 1) := dk_51 (dk_at dksX11_box_3 4 rfl rfl)
theorem dX11_box_68 : decode cX11_box 68 = .ok (.ifCond .eq 7, 3) := dk_153 0 7 (dk_at dksX11_box_3 5 rfl rfl)
theorem dX11_box_71 : decode cX11_box 71 = .ok (.iconst 1, 1) := dk_4 (dk_at dksX11_box_3 8 rfl rfl)
theorem dX11_box_72 : decode cX11_box 72 = .ok (.goto 4, 3) := dk_167 0 4 (dk_at dksX11_box_3 9 rfl rfl)
theorem dX11_box_75 : decode cX11_box 75 = .ok (.iconst 0, 1) := dk_3 (dk_at dksX11_box_3 12 rfl rfl)
theorem dX11_box_76 : decode cX11_box 76 = .ok (.ireturn, 1) := dk_172 (dk_at dksX11_box_3 13 rfl rfl)
theorem dX11_box_77 : decode cX11_box 77 = .ok (.iload_n 1, 1) := dk_27 (dk_at dksX11_box_3 14 rfl rfl)
theorem dX11_box_78 : decode cX11_box 78 = .ok (.bipush 6, 2) := dk_16 6 (dk_at dksX11_box_3 15 rfl rfl)
theorem dX11_box_80 : decode cX11_box 80 = .ok (.if_icmp .ge 16, 3) := dk_162 0 16 (dk_at dksX11_box_3 17 rfl rfl)
theorem dX11_box_83 : decode cX11_box 83 = .ok (.aload_n 0, 1) := dk_42 (dk_at dksX11_box_3 20 rfl rfl)
theorem dX11_box_84 : decode cX11_box 84 = .ok (.getfield 652, 3) := dk_180 2 140 (dk_at dksX11_box_3 21 rfl rfl)
theorem dX11_box_87 : decode cX11_box 87 = .ok (.iload_n 1, 1) := dk_27 (dk_at dksX11_box_4 0 rfl rfl)
theorem dX11_box_88 : decode cX11_box 88 = .ok (.baload, 1) := dk_51 (dk_at dksX11_box_4 1 rfl rfl)
theorem dX11_box_89 : decode cX11_box 89 = .ok (.ifCond .eq 7, 3) := dk_153 0 7 (dk_at dksX11_box_4 2 rfl rfl)
theorem dX11_box_92 : decode cX11_box 92 = .ok (.iconst 1, 1) := dk_4 (dk_at dksX11_box_4 5 rfl rfl)
theorem dX11_box_93 : decode cX11_box 93 = .ok (.goto 4, 3) := dk_167 0 4 (dk_at dksX11_box_4 6 rfl rfl)
theorem dX11_box_96 : decode cX11_box 96 = .ok (.iconst 0, 1) := dk_3 (dk_at dksX11_box_4 9 rfl rfl)
theorem dX11_box_97 : decode cX11_box 97 = .ok (.ireturn, 1) := dk_172 (dk_at dksX11_box_4 10 rfl rfl)
theorem dX11_box_98 : decode cX11_box 98 = .ok (.bipush (-2), 2) := dk_16 254 (dk_at dksX11_box_4 11 rfl rfl)
theorem dX11_box_100 : decode cX11_box 100 = .ok (.ireturn, 1) := dk_172 (dk_at dksX11_box_4 13 rfl rfl)
abbrev cX11_paper : ByteArray := prog_17_method_123_code
def yX11_paper : MethodName := ⟨RX11, "paper", "(III)I"⟩
def dkwX11_paper_4 : List UInt8 := [51, 172]
abbrev dktX11_paper_4 : List UInt8 := dkwX11_paper_4 ++ []
def dkwX11_paper_3 : List UInt8 := [156, 0, 13, 42, 180, 2, 185, 21, 4, 46, 167, 0, 15, 42, 180, 2, 210, 16, 54, 21, 4, 104, 29, 96]
abbrev dktX11_paper_3 : List UInt8 := dkwX11_paper_3 ++ dktX11_paper_4
def dkwX11_paper_2 : List UInt8 := [27, 51, 154, 0, 6, 16, 253, 172, 42, 180, 2, 228, 17, 0, 200, 27, 104, 28, 96, 46, 54, 4, 29]
abbrev dktX11_paper_2 : List UInt8 := dkwX11_paper_2 ++ dktX11_paper_3
def dkwX11_paper_1 : List UInt8 := [153, 0, 18, 29, 2, 159, 0, 15, 42, 27, 28, 29, 182, 2, 234, 154, 0, 5, 2, 172, 42, 180, 2, 40]
abbrev dktX11_paper_1 : List UInt8 := dkwX11_paper_1 ++ dktX11_paper_2
def dkwX11_paper_0 : List UInt8 := [42, 27, 182, 2, 225, 153, 0, 36, 28, 133, 9, 42, 180, 2, 37, 27, 46, 4, 100, 133, 184, 0, 13]
abbrev dktX11_paper_0 : List UInt8 := dkwX11_paper_0 ++ dktX11_paper_1
theorem dksX11_paper_0 : cX11_paper.data.toList.drop 0 = dktX11_paper_0 := by decide +kernel
theorem dksX11_paper_1 : cX11_paper.data.toList.drop 23 = dktX11_paper_1 := dk_seg dksX11_paper_0 23 rfl rfl
theorem dksX11_paper_2 : cX11_paper.data.toList.drop 47 = dktX11_paper_2 := dk_seg dksX11_paper_1 24 rfl rfl
theorem dksX11_paper_3 : cX11_paper.data.toList.drop 70 = dktX11_paper_3 := dk_seg dksX11_paper_2 23 rfl rfl
theorem dksX11_paper_4 : cX11_paper.data.toList.drop 94 = dktX11_paper_4 := dk_seg dksX11_paper_3 24 rfl rfl
theorem dX11_paper_0 : decode cX11_paper 0 = .ok (.aload_n 0, 1) := dk_42 (dk_at dksX11_paper_0 0 rfl rfl)
theorem dX11_paper_1 : decode cX11_paper 1 = .ok (.iload_n 1, 1) := dk_27 (dk_at dksX11_paper_0 1 rfl rfl)
theorem dX11_paper_2 : decode cX11_paper 2 = .ok (.invokevirtual 737, 3) := dk_182 2 225 (dk_at dksX11_paper_0 2 rfl rfl)
theorem dX11_paper_5 : decode cX11_paper 5 = .ok (.ifCond .eq 36, 3) := dk_153 0 36 (dk_at dksX11_paper_0 5 rfl rfl)
theorem dX11_paper_8 : decode cX11_paper 8 = .ok (.iload_n 2, 1) := dk_28 (dk_at dksX11_paper_0 8 rfl rfl)
theorem dX11_paper_9 : decode cX11_paper 9 = .ok (.i2l, 1) := dk_133 (dk_at dksX11_paper_0 9 rfl rfl)
theorem dX11_paper_10 : decode cX11_paper 10 = .ok (.lconst 0, 1) := dk_9 (dk_at dksX11_paper_0 10 rfl rfl)
theorem dX11_paper_11 : decode cX11_paper 11 = .ok (.aload_n 0, 1) := dk_42 (dk_at dksX11_paper_0 11 rfl rfl)
theorem dX11_paper_12 : decode cX11_paper 12 = .ok (.getfield 549, 3) := dk_180 2 37 (dk_at dksX11_paper_0 12 rfl rfl)
theorem dX11_paper_15 : decode cX11_paper 15 = .ok (.iload_n 1, 1) := dk_27 (dk_at dksX11_paper_0 15 rfl rfl)
theorem dX11_paper_16 : decode cX11_paper 16 = .ok (.iaload, 1) := dk_46 (dk_at dksX11_paper_0 16 rfl rfl)
theorem dX11_paper_17 : decode cX11_paper 17 = .ok (.iconst 1, 1) := dk_4 (dk_at dksX11_paper_0 17 rfl rfl)
theorem dX11_paper_18 : decode cX11_paper 18 = .ok (.isub, 1) := dk_100 (dk_at dksX11_paper_0 18 rfl rfl)
theorem dX11_paper_19 : decode cX11_paper 19 = .ok (.i2l, 1) := dk_133 (dk_at dksX11_paper_0 19 rfl rfl)
theorem dX11_paper_20 : decode cX11_paper 20 = .ok (.invokestatic 13, 3) := dk_184 0 13 (dk_at dksX11_paper_0 20 rfl rfl)
theorem dX11_paper_23 : decode cX11_paper 23 = .ok (.ifCond .eq 18, 3) := dk_153 0 18 (dk_at dksX11_paper_1 0 rfl rfl)
theorem dX11_paper_26 : decode cX11_paper 26 = .ok (.iload_n 3, 1) := dk_29 (dk_at dksX11_paper_1 3 rfl rfl)
theorem dX11_paper_27 : decode cX11_paper 27 = .ok (.iconst (-1), 1) := dk_2 (dk_at dksX11_paper_1 4 rfl rfl)
theorem dX11_paper_28 : decode cX11_paper 28 = .ok (.if_icmp .eq 15, 3) := dk_159 0 15 (dk_at dksX11_paper_1 5 rfl rfl)
theorem dX11_paper_31 : decode cX11_paper 31 = .ok (.aload_n 0, 1) := dk_42 (dk_at dksX11_paper_1 8 rfl rfl)
theorem dX11_paper_32 : decode cX11_paper 32 = .ok (.iload_n 1, 1) := dk_27 (dk_at dksX11_paper_1 9 rfl rfl)
theorem dX11_paper_33 : decode cX11_paper 33 = .ok (.iload_n 2, 1) := dk_28 (dk_at dksX11_paper_1 10 rfl rfl)
theorem dX11_paper_34 : decode cX11_paper 34 = .ok (.iload_n 3, 1) := dk_29 (dk_at dksX11_paper_1 11 rfl rfl)
theorem dX11_paper_35 : decode cX11_paper 35 = .ok (.invokevirtual 746, 3) := dk_182 2 234 (dk_at dksX11_paper_1 12 rfl rfl)
theorem dX11_paper_38 : decode cX11_paper 38 = .ok (.ifCond .ne 5, 3) := dk_154 0 5 (dk_at dksX11_paper_1 15 rfl rfl)
theorem dX11_paper_41 : decode cX11_paper 41 = .ok (.iconst (-1), 1) := dk_2 (dk_at dksX11_paper_1 18 rfl rfl)
theorem dX11_paper_42 : decode cX11_paper 42 = .ok (.ireturn, 1) := dk_172 (dk_at dksX11_paper_1 19 rfl rfl)
theorem dX11_paper_43 : decode cX11_paper 43 = .ok (.aload_n 0, 1) := dk_42 (dk_at dksX11_paper_1 20 rfl rfl)
theorem dX11_paper_44 : decode cX11_paper 44 = .ok (.getfield 552, 3) := dk_180 2 40 (dk_at dksX11_paper_1 21 rfl rfl)
theorem dX11_paper_47 : decode cX11_paper 47 = .ok (.iload_n 1, 1) := dk_27 (dk_at dksX11_paper_2 0 rfl rfl)
theorem dX11_paper_48 : decode cX11_paper 48 = .ok (.baload, 1) := dk_51 (dk_at dksX11_paper_2 1 rfl rfl)
theorem dX11_paper_49 : decode cX11_paper 49 = .ok (.ifCond .ne 6, 3) := dk_154 0 6 (dk_at dksX11_paper_2 2 rfl rfl)
theorem dX11_paper_52 : decode cX11_paper 52 = .ok (.bipush (-3), 2) := dk_16 253 (dk_at dksX11_paper_2 5 rfl rfl)
theorem dX11_paper_54 : decode cX11_paper 54 = .ok (.ireturn, 1) := dk_172 (dk_at dksX11_paper_2 7 rfl rfl)
theorem dX11_paper_55 : decode cX11_paper 55 = .ok (.aload_n 0, 1) := dk_42 (dk_at dksX11_paper_2 8 rfl rfl)
theorem dX11_paper_56 : decode cX11_paper 56 = .ok (.getfield 740, 3) := dk_180 2 228 (dk_at dksX11_paper_2 9 rfl rfl)
theorem dX11_paper_59 : decode cX11_paper 59 = .ok (.sipush 200, 3) := dk_17 0 200 (dk_at dksX11_paper_2 12 rfl rfl)
theorem dX11_paper_62 : decode cX11_paper 62 = .ok (.iload_n 1, 1) := dk_27 (dk_at dksX11_paper_2 15 rfl rfl)
theorem dX11_paper_63 : decode cX11_paper 63 = .ok (.imul, 1) := dk_104 (dk_at dksX11_paper_2 16 rfl rfl)
theorem dX11_paper_64 : decode cX11_paper 64 = .ok (.iload_n 2, 1) := dk_28 (dk_at dksX11_paper_2 17 rfl rfl)
theorem dX11_paper_65 : decode cX11_paper 65 = .ok (.iadd, 1) := dk_96 (dk_at dksX11_paper_2 18 rfl rfl)
theorem dX11_paper_66 : decode cX11_paper 66 = .ok (.iaload, 1) := dk_46 (dk_at dksX11_paper_2 19 rfl rfl)
theorem dX11_paper_67 : decode cX11_paper 67 = .ok (.istore 4, 2) := dk_54 4 (dk_at dksX11_paper_2 20 rfl rfl)
theorem dX11_paper_69 : decode cX11_paper 69 = .ok (.iload_n 3, 1) := dk_29 (dk_at dksX11_paper_2 22 rfl rfl)
theorem dX11_paper_70 : decode cX11_paper 70 = .ok (.ifCond .ge 13, 3) := dk_156 0 13 (dk_at dksX11_paper_3 0 rfl rfl)
theorem dX11_paper_73 : decode cX11_paper 73 = .ok (.aload_n 0, 1) := dk_42 (dk_at dksX11_paper_3 3 rfl rfl)
theorem dX11_paper_74 : decode cX11_paper 74 = .ok (.getfield 697, 3) := dk_180 2 185 (dk_at dksX11_paper_3 4 rfl rfl)
theorem dX11_paper_77 : decode cX11_paper 77 = .ok (.iload 4, 2) := dk_21 4 (dk_at dksX11_paper_3 7 rfl rfl)
theorem dX11_paper_79 : decode cX11_paper 79 = .ok (.iaload, 1) := dk_46 (dk_at dksX11_paper_3 9 rfl rfl)
theorem dX11_paper_80 : decode cX11_paper 80 = .ok (.goto 15, 3) := dk_167 0 15 (dk_at dksX11_paper_3 10 rfl rfl)
theorem dX11_paper_83 : decode cX11_paper 83 = .ok (.aload_n 0, 1) := dk_42 (dk_at dksX11_paper_3 13 rfl rfl)
theorem dX11_paper_84 : decode cX11_paper 84 = .ok (.getfield 722, 3) := dk_180 2 210 (dk_at dksX11_paper_3 14 rfl rfl)
theorem dX11_paper_87 : decode cX11_paper 87 = .ok (.bipush 54, 2) := dk_16 54 (dk_at dksX11_paper_3 17 rfl rfl)
theorem dX11_paper_89 : decode cX11_paper 89 = .ok (.iload 4, 2) := dk_21 4 (dk_at dksX11_paper_3 19 rfl rfl)
theorem dX11_paper_91 : decode cX11_paper 91 = .ok (.imul, 1) := dk_104 (dk_at dksX11_paper_3 21 rfl rfl)
theorem dX11_paper_92 : decode cX11_paper 92 = .ok (.iload_n 3, 1) := dk_29 (dk_at dksX11_paper_3 22 rfl rfl)
theorem dX11_paper_93 : decode cX11_paper 93 = .ok (.iadd, 1) := dk_96 (dk_at dksX11_paper_3 23 rfl rfl)
theorem dX11_paper_94 : decode cX11_paper 94 = .ok (.baload, 1) := dk_51 (dk_at dksX11_paper_4 0 rfl rfl)
theorem dX11_paper_95 : decode cX11_paper 95 = .ok (.ireturn, 1) := dk_172 (dk_at dksX11_paper_4 1 rfl rfl)
abbrev cX11_isPaper : ByteArray := prog_17_method_122_code
def yX11_isPaper : MethodName := ⟨RX11, "isPaper", "(III)Z"⟩
def dkwX11_isPaper_2 : List UInt8 := [182, 2, 207, 4, 100, 133, 184, 0, 13, 153, 0, 7, 4, 167, 0, 4, 3, 172]
abbrev dktX11_isPaper_2 : List UInt8 := dkwX11_isPaper_2 ++ []
def dkwX11_isPaper_1 : List UInt8 := [153, 0, 40, 29, 133, 9, 42, 42, 180, 2, 185, 42, 180, 2, 228, 17, 0, 200, 27, 104, 28, 96, 46, 46]
abbrev dktX11_isPaper_1 : List UInt8 := dkwX11_isPaper_1 ++ dktX11_isPaper_2
def dkwX11_isPaper_0 : List UInt8 := [42, 27, 182, 2, 225, 153, 0, 58, 28, 133, 9, 42, 180, 2, 37, 27, 46, 4, 100, 133, 184, 0, 13]
abbrev dktX11_isPaper_0 : List UInt8 := dkwX11_isPaper_0 ++ dktX11_isPaper_1
theorem dksX11_isPaper_0 : cX11_isPaper.data.toList.drop 0 = dktX11_isPaper_0 := by decide +kernel
theorem dksX11_isPaper_1 : cX11_isPaper.data.toList.drop 23 = dktX11_isPaper_1 := dk_seg dksX11_isPaper_0 23 rfl rfl
theorem dksX11_isPaper_2 : cX11_isPaper.data.toList.drop 47 = dktX11_isPaper_2 := dk_seg dksX11_isPaper_1 24 rfl rfl
theorem dX11_isPaper_0 : decode cX11_isPaper 0 = .ok (.aload_n 0, 1) := dk_42 (dk_at dksX11_isPaper_0 0 rfl rfl)
theorem dX11_isPaper_1 : decode cX11_isPaper 1 = .ok (.iload_n 1, 1) := dk_27 (dk_at dksX11_isPaper_0 1 rfl rfl)
theorem dX11_isPaper_2 : decode cX11_isPaper 2 = .ok (.invokevirtual 737, 3) := dk_182 2 225 (dk_at dksX11_isPaper_0 2 rfl rfl)
theorem dX11_isPaper_5 : decode cX11_isPaper 5 = .ok (.ifCond .eq 58, 3) := dk_153 0 58 (dk_at dksX11_isPaper_0 5 rfl rfl)
theorem dX11_isPaper_8 : decode cX11_isPaper 8 = .ok (.iload_n 2, 1) := dk_28 (dk_at dksX11_isPaper_0 8 rfl rfl)
theorem dX11_isPaper_9 : decode cX11_isPaper 9 = .ok (.i2l, 1) := dk_133 (dk_at dksX11_isPaper_0 9 rfl rfl)
theorem dX11_isPaper_10 : decode cX11_isPaper 10 = .ok (.lconst 0, 1) := dk_9 (dk_at dksX11_isPaper_0 10 rfl rfl)
theorem dX11_isPaper_11 : decode cX11_isPaper 11 = .ok (.aload_n 0, 1) := dk_42 (dk_at dksX11_isPaper_0 11 rfl rfl)
theorem dX11_isPaper_12 : decode cX11_isPaper 12 = .ok (.getfield 549, 3) := dk_180 2 37 (dk_at dksX11_isPaper_0 12 rfl rfl)
theorem dX11_isPaper_15 : decode cX11_isPaper 15 = .ok (.iload_n 1, 1) := dk_27 (dk_at dksX11_isPaper_0 15 rfl rfl)
theorem dX11_isPaper_16 : decode cX11_isPaper 16 = .ok (.iaload, 1) := dk_46 (dk_at dksX11_isPaper_0 16 rfl rfl)
theorem dX11_isPaper_17 : decode cX11_isPaper 17 = .ok (.iconst 1, 1) := dk_4 (dk_at dksX11_isPaper_0 17 rfl rfl)
theorem dX11_isPaper_18 : decode cX11_isPaper 18 = .ok (.isub, 1) := dk_100 (dk_at dksX11_isPaper_0 18 rfl rfl)
theorem dX11_isPaper_19 : decode cX11_isPaper 19 = .ok (.i2l, 1) := dk_133 (dk_at dksX11_isPaper_0 19 rfl rfl)
theorem dX11_isPaper_20 : decode cX11_isPaper 20 = .ok (.invokestatic 13, 3) := dk_184 0 13 (dk_at dksX11_isPaper_0 20 rfl rfl)
theorem dX11_isPaper_23 : decode cX11_isPaper 23 = .ok (.ifCond .eq 40, 3) := dk_153 0 40 (dk_at dksX11_isPaper_1 0 rfl rfl)
theorem dX11_isPaper_26 : decode cX11_isPaper 26 = .ok (.iload_n 3, 1) := dk_29 (dk_at dksX11_isPaper_1 3 rfl rfl)
theorem dX11_isPaper_27 : decode cX11_isPaper 27 = .ok (.i2l, 1) := dk_133 (dk_at dksX11_isPaper_1 4 rfl rfl)
theorem dX11_isPaper_28 : decode cX11_isPaper 28 = .ok (.lconst 0, 1) := dk_9 (dk_at dksX11_isPaper_1 5 rfl rfl)
theorem dX11_isPaper_29 : decode cX11_isPaper 29 = .ok (.aload_n 0, 1) := dk_42 (dk_at dksX11_isPaper_1 6 rfl rfl)
theorem dX11_isPaper_30 : decode cX11_isPaper 30 = .ok (.aload_n 0, 1) := dk_42 (dk_at dksX11_isPaper_1 7 rfl rfl)
theorem dX11_isPaper_31 : decode cX11_isPaper 31 = .ok (.getfield 697, 3) := dk_180 2 185 (dk_at dksX11_isPaper_1 8 rfl rfl)
theorem dX11_isPaper_34 : decode cX11_isPaper 34 = .ok (.aload_n 0, 1) := dk_42 (dk_at dksX11_isPaper_1 11 rfl rfl)
theorem dX11_isPaper_35 : decode cX11_isPaper 35 = .ok (.getfield 740, 3) := dk_180 2 228 (dk_at dksX11_isPaper_1 12 rfl rfl)
theorem dX11_isPaper_38 : decode cX11_isPaper 38 = .ok (.sipush 200, 3) := dk_17 0 200 (dk_at dksX11_isPaper_1 15 rfl rfl)
theorem dX11_isPaper_41 : decode cX11_isPaper 41 = .ok (.iload_n 1, 1) := dk_27 (dk_at dksX11_isPaper_1 18 rfl rfl)
theorem dX11_isPaper_42 : decode cX11_isPaper 42 = .ok (.imul, 1) := dk_104 (dk_at dksX11_isPaper_1 19 rfl rfl)
theorem dX11_isPaper_43 : decode cX11_isPaper 43 = .ok (.iload_n 2, 1) := dk_28 (dk_at dksX11_isPaper_1 20 rfl rfl)
theorem dX11_isPaper_44 : decode cX11_isPaper 44 = .ok (.iadd, 1) := dk_96 (dk_at dksX11_isPaper_1 21 rfl rfl)
theorem dX11_isPaper_45 : decode cX11_isPaper 45 = .ok (.iaload, 1) := dk_46 (dk_at dksX11_isPaper_1 22 rfl rfl)
theorem dX11_isPaper_46 : decode cX11_isPaper 46 = .ok (.iaload, 1) := dk_46 (dk_at dksX11_isPaper_1 23 rfl rfl)
theorem dX11_isPaper_47 : decode cX11_isPaper 47 = .ok (.invokevirtual 719, 3) := dk_182 2 207 (dk_at dksX11_isPaper_2 0 rfl rfl)
theorem dX11_isPaper_50 : decode cX11_isPaper 50 = .ok (.iconst 1, 1) := dk_4 (dk_at dksX11_isPaper_2 3 rfl rfl)
theorem dX11_isPaper_51 : decode cX11_isPaper 51 = .ok (.isub, 1) := dk_100 (dk_at dksX11_isPaper_2 4 rfl rfl)
theorem dX11_isPaper_52 : decode cX11_isPaper 52 = .ok (.i2l, 1) := dk_133 (dk_at dksX11_isPaper_2 5 rfl rfl)
theorem dX11_isPaper_53 : decode cX11_isPaper 53 = .ok (.invokestatic 13, 3) := dk_184 0 13 (dk_at dksX11_isPaper_2 6 rfl rfl)
theorem dX11_isPaper_56 : decode cX11_isPaper 56 = .ok (.ifCond .eq 7, 3) := dk_153 0 7 (dk_at dksX11_isPaper_2 9 rfl rfl)
theorem dX11_isPaper_59 : decode cX11_isPaper 59 = .ok (.iconst 1, 1) := dk_4 (dk_at dksX11_isPaper_2 12 rfl rfl)
theorem dX11_isPaper_60 : decode cX11_isPaper 60 = .ok (.goto 4, 3) := dk_167 0 4 (dk_at dksX11_isPaper_2 13 rfl rfl)
theorem dX11_isPaper_63 : decode cX11_isPaper 63 = .ok (.iconst 0, 1) := dk_3 (dk_at dksX11_isPaper_2 16 rfl rfl)
theorem dX11_isPaper_64 : decode cX11_isPaper 64 = .ok (.ireturn, 1) := dk_172 (dk_at dksX11_isPaper_2 17 rfl rfl)
abbrev cX11_record : ByteArray := prog_17_method_124_code
def yX11_record : MethodName := ⟨RX11, "record", "(III)I"⟩
def dkwX11_record_2 : List UInt8 := [16, 253, 172]
abbrev dktX11_record_2 : List UInt8 := dkwX11_record_2 ++ []
def dkwX11_record_1 : List UInt8 := [180, 2, 213, 16, 54, 42, 180, 2, 228, 17, 0, 200, 27, 104, 28, 96, 46, 104, 29, 96, 51, 167, 0, 5]
abbrev dktX11_record_1 : List UInt8 := dkwX11_record_1 ++ dktX11_record_2
def dkwX11_record_0 : List UInt8 := [42, 27, 28, 29, 182, 2, 234, 154, 0, 5, 2, 172, 42, 180, 2, 40, 27, 51, 153, 0, 28, 42]
abbrev dktX11_record_0 : List UInt8 := dkwX11_record_0 ++ dktX11_record_1
theorem dksX11_record_0 : cX11_record.data.toList.drop 0 = dktX11_record_0 := by decide +kernel
theorem dksX11_record_1 : cX11_record.data.toList.drop 22 = dktX11_record_1 := dk_seg dksX11_record_0 22 rfl rfl
theorem dksX11_record_2 : cX11_record.data.toList.drop 46 = dktX11_record_2 := dk_seg dksX11_record_1 24 rfl rfl
theorem dX11_record_0 : decode cX11_record 0 = .ok (.aload_n 0, 1) := dk_42 (dk_at dksX11_record_0 0 rfl rfl)
theorem dX11_record_1 : decode cX11_record 1 = .ok (.iload_n 1, 1) := dk_27 (dk_at dksX11_record_0 1 rfl rfl)
theorem dX11_record_2 : decode cX11_record 2 = .ok (.iload_n 2, 1) := dk_28 (dk_at dksX11_record_0 2 rfl rfl)
theorem dX11_record_3 : decode cX11_record 3 = .ok (.iload_n 3, 1) := dk_29 (dk_at dksX11_record_0 3 rfl rfl)
theorem dX11_record_4 : decode cX11_record 4 = .ok (.invokevirtual 746, 3) := dk_182 2 234 (dk_at dksX11_record_0 4 rfl rfl)
theorem dX11_record_7 : decode cX11_record 7 = .ok (.ifCond .ne 5, 3) := dk_154 0 5 (dk_at dksX11_record_0 7 rfl rfl)
theorem dX11_record_10 : decode cX11_record 10 = .ok (.iconst (-1), 1) := dk_2 (dk_at dksX11_record_0 10 rfl rfl)
theorem dX11_record_11 : decode cX11_record 11 = .ok (.ireturn, 1) := dk_172 (dk_at dksX11_record_0 11 rfl rfl)
theorem dX11_record_12 : decode cX11_record 12 = .ok (.aload_n 0, 1) := dk_42 (dk_at dksX11_record_0 12 rfl rfl)
theorem dX11_record_13 : decode cX11_record 13 = .ok (.getfield 552, 3) := dk_180 2 40 (dk_at dksX11_record_0 13 rfl rfl)
theorem dX11_record_16 : decode cX11_record 16 = .ok (.iload_n 1, 1) := dk_27 (dk_at dksX11_record_0 16 rfl rfl)
theorem dX11_record_17 : decode cX11_record 17 = .ok (.baload, 1) := dk_51 (dk_at dksX11_record_0 17 rfl rfl)
theorem dX11_record_18 : decode cX11_record 18 = .ok (.ifCond .eq 28, 3) := dk_153 0 28 (dk_at dksX11_record_0 18 rfl rfl)
theorem dX11_record_21 : decode cX11_record 21 = .ok (.aload_n 0, 1) := dk_42 (dk_at dksX11_record_0 21 rfl rfl)
theorem dX11_record_22 : decode cX11_record 22 = .ok (.getfield 725, 3) := dk_180 2 213 (dk_at dksX11_record_1 0 rfl rfl)
theorem dX11_record_25 : decode cX11_record 25 = .ok (.bipush 54, 2) := dk_16 54 (dk_at dksX11_record_1 3 rfl rfl)
theorem dX11_record_27 : decode cX11_record 27 = .ok (.aload_n 0, 1) := dk_42 (dk_at dksX11_record_1 5 rfl rfl)
theorem dX11_record_28 : decode cX11_record 28 = .ok (.getfield 740, 3) := dk_180 2 228 (dk_at dksX11_record_1 6 rfl rfl)
theorem dX11_record_31 : decode cX11_record 31 = .ok (.sipush 200, 3) := dk_17 0 200 (dk_at dksX11_record_1 9 rfl rfl)
theorem dX11_record_34 : decode cX11_record 34 = .ok (.iload_n 1, 1) := dk_27 (dk_at dksX11_record_1 12 rfl rfl)
theorem dX11_record_35 : decode cX11_record 35 = .ok (.imul, 1) := dk_104 (dk_at dksX11_record_1 13 rfl rfl)
theorem dX11_record_36 : decode cX11_record 36 = .ok (.iload_n 2, 1) := dk_28 (dk_at dksX11_record_1 14 rfl rfl)
theorem dX11_record_37 : decode cX11_record 37 = .ok (.iadd, 1) := dk_96 (dk_at dksX11_record_1 15 rfl rfl)
theorem dX11_record_38 : decode cX11_record 38 = .ok (.iaload, 1) := dk_46 (dk_at dksX11_record_1 16 rfl rfl)
theorem dX11_record_39 : decode cX11_record 39 = .ok (.imul, 1) := dk_104 (dk_at dksX11_record_1 17 rfl rfl)
theorem dX11_record_40 : decode cX11_record 40 = .ok (.iload_n 3, 1) := dk_29 (dk_at dksX11_record_1 18 rfl rfl)
theorem dX11_record_41 : decode cX11_record 41 = .ok (.iadd, 1) := dk_96 (dk_at dksX11_record_1 19 rfl rfl)
theorem dX11_record_42 : decode cX11_record 42 = .ok (.baload, 1) := dk_51 (dk_at dksX11_record_1 20 rfl rfl)
theorem dX11_record_43 : decode cX11_record 43 = .ok (.goto 5, 3) := dk_167 0 5 (dk_at dksX11_record_1 21 rfl rfl)
theorem dX11_record_46 : decode cX11_record 46 = .ok (.bipush (-3), 2) := dk_16 253 (dk_at dksX11_record_2 0 rfl rfl)
theorem dX11_record_48 : decode cX11_record 48 = .ok (.ireturn, 1) := dk_172 (dk_at dksX11_record_2 2 rfl rfl)
abbrev cX11_misread : ByteArray := prog_17_method_125_code
def yX11_misread : MethodName := ⟨RX11, "misread", "(IIII)I"⟩
def dkwX11_misread_3 : List UInt8 := [180, 2, 213, 21, 5, 21, 4, 145, 84, 21, 6, 172]
abbrev dktX11_misread_3 : List UInt8 := dkwX11_misread_3 ++ []
def dkwX11_misread_2 : List UInt8 := [17, 0, 200, 27, 104, 28, 96, 46, 104, 29, 96, 54, 5, 42, 180, 2, 213, 21, 5, 51, 54, 6, 42]
abbrev dktX11_misread_2 : List UInt8 := dkwX11_misread_2 ++ dktX11_misread_3
def dkwX11_misread_1 : List UInt8 := [21, 4, 133, 9, 20, 0, 124, 184, 0, 13, 154, 0, 6, 16, 254, 172, 16, 54, 42, 180, 2, 228]
abbrev dktX11_misread_1 : List UInt8 := dkwX11_misread_1 ++ dktX11_misread_2
def dkwX11_misread_0 : List UInt8 := [42, 27, 28, 29, 182, 2, 234, 154, 0, 5, 2, 172, 42, 180, 2, 40, 27, 51, 154, 0, 6, 16, 253, 172]
abbrev dktX11_misread_0 : List UInt8 := dkwX11_misread_0 ++ dktX11_misread_1
theorem dksX11_misread_0 : cX11_misread.data.toList.drop 0 = dktX11_misread_0 := by decide +kernel
theorem dksX11_misread_1 : cX11_misread.data.toList.drop 24 = dktX11_misread_1 := dk_seg dksX11_misread_0 24 rfl rfl
theorem dksX11_misread_2 : cX11_misread.data.toList.drop 46 = dktX11_misread_2 := dk_seg dksX11_misread_1 22 rfl rfl
theorem dksX11_misread_3 : cX11_misread.data.toList.drop 69 = dktX11_misread_3 := dk_seg dksX11_misread_2 23 rfl rfl
theorem dX11_misread_0 : decode cX11_misread 0 = .ok (.aload_n 0, 1) := dk_42 (dk_at dksX11_misread_0 0 rfl rfl)
theorem dX11_misread_1 : decode cX11_misread 1 = .ok (.iload_n 1, 1) := dk_27 (dk_at dksX11_misread_0 1 rfl rfl)
theorem dX11_misread_2 : decode cX11_misread 2 = .ok (.iload_n 2, 1) := dk_28 (dk_at dksX11_misread_0 2 rfl rfl)
theorem dX11_misread_3 : decode cX11_misread 3 = .ok (.iload_n 3, 1) := dk_29 (dk_at dksX11_misread_0 3 rfl rfl)
theorem dX11_misread_4 : decode cX11_misread 4 = .ok (.invokevirtual 746, 3) := dk_182 2 234 (dk_at dksX11_misread_0 4 rfl rfl)
theorem dX11_misread_7 : decode cX11_misread 7 = .ok (.ifCond .ne 5, 3) := dk_154 0 5 (dk_at dksX11_misread_0 7 rfl rfl)
theorem dX11_misread_10 : decode cX11_misread 10 = .ok (.iconst (-1), 1) := dk_2 (dk_at dksX11_misread_0 10 rfl rfl)
theorem dX11_misread_11 : decode cX11_misread 11 = .ok (.ireturn, 1) := dk_172 (dk_at dksX11_misread_0 11 rfl rfl)
theorem dX11_misread_12 : decode cX11_misread 12 = .ok (.aload_n 0, 1) := dk_42 (dk_at dksX11_misread_0 12 rfl rfl)
theorem dX11_misread_13 : decode cX11_misread 13 = .ok (.getfield 552, 3) := dk_180 2 40 (dk_at dksX11_misread_0 13 rfl rfl)
theorem dX11_misread_16 : decode cX11_misread 16 = .ok (.iload_n 1, 1) := dk_27 (dk_at dksX11_misread_0 16 rfl rfl)
theorem dX11_misread_17 : decode cX11_misread 17 = .ok (.baload, 1) := dk_51 (dk_at dksX11_misread_0 17 rfl rfl)
theorem dX11_misread_18 : decode cX11_misread 18 = .ok (.ifCond .ne 6, 3) := dk_154 0 6 (dk_at dksX11_misread_0 18 rfl rfl)
theorem dX11_misread_21 : decode cX11_misread 21 = .ok (.bipush (-3), 2) := dk_16 253 (dk_at dksX11_misread_0 21 rfl rfl)
theorem dX11_misread_23 : decode cX11_misread 23 = .ok (.ireturn, 1) := dk_172 (dk_at dksX11_misread_0 23 rfl rfl)
theorem dX11_misread_24 : decode cX11_misread 24 = .ok (.iload 4, 2) := dk_21 4 (dk_at dksX11_misread_1 0 rfl rfl)
theorem dX11_misread_26 : decode cX11_misread 26 = .ok (.i2l, 1) := dk_133 (dk_at dksX11_misread_1 2 rfl rfl)
theorem dX11_misread_27 : decode cX11_misread 27 = .ok (.lconst 0, 1) := dk_9 (dk_at dksX11_misread_1 3 rfl rfl)
theorem dX11_misread_28 : decode cX11_misread 28 = .ok (.ldc2_w 124, 3) := dk_20 0 124 (dk_at dksX11_misread_1 4 rfl rfl)
theorem dX11_misread_31 : decode cX11_misread 31 = .ok (.invokestatic 13, 3) := dk_184 0 13 (dk_at dksX11_misread_1 7 rfl rfl)
theorem dX11_misread_34 : decode cX11_misread 34 = .ok (.ifCond .ne 6, 3) := dk_154 0 6 (dk_at dksX11_misread_1 10 rfl rfl)
theorem dX11_misread_37 : decode cX11_misread 37 = .ok (.bipush (-2), 2) := dk_16 254 (dk_at dksX11_misread_1 13 rfl rfl)
theorem dX11_misread_39 : decode cX11_misread 39 = .ok (.ireturn, 1) := dk_172 (dk_at dksX11_misread_1 15 rfl rfl)
theorem dX11_misread_40 : decode cX11_misread 40 = .ok (.bipush 54, 2) := dk_16 54 (dk_at dksX11_misread_1 16 rfl rfl)
theorem dX11_misread_42 : decode cX11_misread 42 = .ok (.aload_n 0, 1) := dk_42 (dk_at dksX11_misread_1 18 rfl rfl)
theorem dX11_misread_43 : decode cX11_misread 43 = .ok (.getfield 740, 3) := dk_180 2 228 (dk_at dksX11_misread_1 19 rfl rfl)
theorem dX11_misread_46 : decode cX11_misread 46 = .ok (.sipush 200, 3) := dk_17 0 200 (dk_at dksX11_misread_2 0 rfl rfl)
theorem dX11_misread_49 : decode cX11_misread 49 = .ok (.iload_n 1, 1) := dk_27 (dk_at dksX11_misread_2 3 rfl rfl)
theorem dX11_misread_50 : decode cX11_misread 50 = .ok (.imul, 1) := dk_104 (dk_at dksX11_misread_2 4 rfl rfl)
theorem dX11_misread_51 : decode cX11_misread 51 = .ok (.iload_n 2, 1) := dk_28 (dk_at dksX11_misread_2 5 rfl rfl)
theorem dX11_misread_52 : decode cX11_misread 52 = .ok (.iadd, 1) := dk_96 (dk_at dksX11_misread_2 6 rfl rfl)
theorem dX11_misread_53 : decode cX11_misread 53 = .ok (.iaload, 1) := dk_46 (dk_at dksX11_misread_2 7 rfl rfl)
theorem dX11_misread_54 : decode cX11_misread 54 = .ok (.imul, 1) := dk_104 (dk_at dksX11_misread_2 8 rfl rfl)
theorem dX11_misread_55 : decode cX11_misread 55 = .ok (.iload_n 3, 1) := dk_29 (dk_at dksX11_misread_2 9 rfl rfl)
theorem dX11_misread_56 : decode cX11_misread 56 = .ok (.iadd, 1) := dk_96 (dk_at dksX11_misread_2 10 rfl rfl)
theorem dX11_misread_57 : decode cX11_misread 57 = .ok (.istore 5, 2) := dk_54 5 (dk_at dksX11_misread_2 11 rfl rfl)
theorem dX11_misread_59 : decode cX11_misread 59 = .ok (.aload_n 0, 1) := dk_42 (dk_at dksX11_misread_2 13 rfl rfl)
theorem dX11_misread_60 : decode cX11_misread 60 = .ok (.getfield 725, 3) := dk_180 2 213 (dk_at dksX11_misread_2 14 rfl rfl)
theorem dX11_misread_63 : decode cX11_misread 63 = .ok (.iload 5, 2) := dk_21 5 (dk_at dksX11_misread_2 17 rfl rfl)
theorem dX11_misread_65 : decode cX11_misread 65 = .ok (.baload, 1) := dk_51 (dk_at dksX11_misread_2 19 rfl rfl)
theorem dX11_misread_66 : decode cX11_misread 66 = .ok (.istore 6, 2) := dk_54 6 (dk_at dksX11_misread_2 20 rfl rfl)
theorem dX11_misread_68 : decode cX11_misread 68 = .ok (.aload_n 0, 1) := dk_42 (dk_at dksX11_misread_2 22 rfl rfl)
theorem dX11_misread_69 : decode cX11_misread 69 = .ok (.getfield 725, 3) := dk_180 2 213 (dk_at dksX11_misread_3 0 rfl rfl)
theorem dX11_misread_72 : decode cX11_misread 72 = .ok (.iload 5, 2) := dk_21 5 (dk_at dksX11_misread_3 3 rfl rfl)
theorem dX11_misread_74 : decode cX11_misread 74 = .ok (.iload 4, 2) := dk_21 4 (dk_at dksX11_misread_3 5 rfl rfl)
theorem dX11_misread_76 : decode cX11_misread 76 = .ok (.i2b, 1) := dk_145 (dk_at dksX11_misread_3 7 rfl rfl)
theorem dX11_misread_77 : decode cX11_misread 77 = .ok (.bastore, 1) := dk_84 (dk_at dksX11_misread_3 8 rfl rfl)
theorem dX11_misread_78 : decode cX11_misread 78 = .ok (.iload 6, 2) := dk_21 6 (dk_at dksX11_misread_3 9 rfl rfl)
theorem dX11_misread_80 : decode cX11_misread 80 = .ok (.ireturn, 1) := dk_172 (dk_at dksX11_misread_3 11 rfl rfl)
abbrev cX11_strike : ByteArray := prog_17_method_126_code
def yX11_strike : MethodName := ⟨RX11, "strike", "(III)I"⟩
def dkwX11_strike_2 : List UInt8 := [27, 28, 29, 3, 182, 0, 22, 42, 27, 182, 1, 235, 172]
abbrev dktX11_strike_2 : List UInt8 := dkwX11_strike_2 ++ []
def dkwX11_strike_1 : List UInt8 := [42, 180, 2, 55, 16, 9, 27, 104, 28, 96, 29, 4, 160, 0, 7, 4, 167, 0, 4, 3, 84, 42, 16, 26]
abbrev dktX11_strike_1 : List UInt8 := dkwX11_strike_1 ++ dktX11_strike_2
def dkwX11_strike_0 : List UInt8 := [42, 27, 28, 182, 2, 126, 154, 0, 5, 2, 172, 29, 133, 9, 10, 184, 0, 13, 154, 0, 6, 16, 254, 172]
abbrev dktX11_strike_0 : List UInt8 := dkwX11_strike_0 ++ dktX11_strike_1
theorem dksX11_strike_0 : cX11_strike.data.toList.drop 0 = dktX11_strike_0 := by decide +kernel
theorem dksX11_strike_1 : cX11_strike.data.toList.drop 24 = dktX11_strike_1 := dk_seg dksX11_strike_0 24 rfl rfl
theorem dksX11_strike_2 : cX11_strike.data.toList.drop 48 = dktX11_strike_2 := dk_seg dksX11_strike_1 24 rfl rfl
theorem dX11_strike_0 : decode cX11_strike 0 = .ok (.aload_n 0, 1) := dk_42 (dk_at dksX11_strike_0 0 rfl rfl)
theorem dX11_strike_1 : decode cX11_strike 1 = .ok (.iload_n 1, 1) := dk_27 (dk_at dksX11_strike_0 1 rfl rfl)
theorem dX11_strike_2 : decode cX11_strike 2 = .ok (.iload_n 2, 1) := dk_28 (dk_at dksX11_strike_0 2 rfl rfl)
theorem dX11_strike_3 : decode cX11_strike 3 = .ok (.invokevirtual 638, 3) := dk_182 2 126 (dk_at dksX11_strike_0 3 rfl rfl)
theorem dX11_strike_6 : decode cX11_strike 6 = .ok (.ifCond .ne 5, 3) := dk_154 0 5 (dk_at dksX11_strike_0 6 rfl rfl)
theorem dX11_strike_9 : decode cX11_strike 9 = .ok (.iconst (-1), 1) := dk_2 (dk_at dksX11_strike_0 9 rfl rfl)
theorem dX11_strike_10 : decode cX11_strike 10 = .ok (.ireturn, 1) := dk_172 (dk_at dksX11_strike_0 10 rfl rfl)
theorem dX11_strike_11 : decode cX11_strike 11 = .ok (.iload_n 3, 1) := dk_29 (dk_at dksX11_strike_0 11 rfl rfl)
theorem dX11_strike_12 : decode cX11_strike 12 = .ok (.i2l, 1) := dk_133 (dk_at dksX11_strike_0 12 rfl rfl)
theorem dX11_strike_13 : decode cX11_strike 13 = .ok (.lconst 0, 1) := dk_9 (dk_at dksX11_strike_0 13 rfl rfl)
theorem dX11_strike_14 : decode cX11_strike 14 = .ok (.lconst 1, 1) := dk_10 (dk_at dksX11_strike_0 14 rfl rfl)
theorem dX11_strike_15 : decode cX11_strike 15 = .ok (.invokestatic 13, 3) := dk_184 0 13 (dk_at dksX11_strike_0 15 rfl rfl)
theorem dX11_strike_18 : decode cX11_strike 18 = .ok (.ifCond .ne 6, 3) := dk_154 0 6 (dk_at dksX11_strike_0 18 rfl rfl)
theorem dX11_strike_21 : decode cX11_strike 21 = .ok (.bipush (-2), 2) := dk_16 254 (dk_at dksX11_strike_0 21 rfl rfl)
theorem dX11_strike_23 : decode cX11_strike 23 = .ok (.ireturn, 1) := dk_172 (dk_at dksX11_strike_0 23 rfl rfl)
theorem dX11_strike_24 : decode cX11_strike 24 = .ok (.aload_n 0, 1) := dk_42 (dk_at dksX11_strike_1 0 rfl rfl)
theorem dX11_strike_25 : decode cX11_strike 25 = .ok (.getfield 567, 3) := dk_180 2 55 (dk_at dksX11_strike_1 1 rfl rfl)
theorem dX11_strike_28 : decode cX11_strike 28 = .ok (.bipush 9, 2) := dk_16 9 (dk_at dksX11_strike_1 4 rfl rfl)
theorem dX11_strike_30 : decode cX11_strike 30 = .ok (.iload_n 1, 1) := dk_27 (dk_at dksX11_strike_1 6 rfl rfl)
theorem dX11_strike_31 : decode cX11_strike 31 = .ok (.imul, 1) := dk_104 (dk_at dksX11_strike_1 7 rfl rfl)
theorem dX11_strike_32 : decode cX11_strike 32 = .ok (.iload_n 2, 1) := dk_28 (dk_at dksX11_strike_1 8 rfl rfl)
theorem dX11_strike_33 : decode cX11_strike 33 = .ok (.iadd, 1) := dk_96 (dk_at dksX11_strike_1 9 rfl rfl)
theorem dX11_strike_34 : decode cX11_strike 34 = .ok (.iload_n 3, 1) := dk_29 (dk_at dksX11_strike_1 10 rfl rfl)
theorem dX11_strike_35 : decode cX11_strike 35 = .ok (.iconst 1, 1) := dk_4 (dk_at dksX11_strike_1 11 rfl rfl)
theorem dX11_strike_36 : decode cX11_strike 36 = .ok (.if_icmp .ne 7, 3) := dk_160 0 7 (dk_at dksX11_strike_1 12 rfl rfl)
theorem dX11_strike_39 : decode cX11_strike 39 = .ok (.iconst 1, 1) := dk_4 (dk_at dksX11_strike_1 15 rfl rfl)
theorem dX11_strike_40 : decode cX11_strike 40 = .ok (.goto 4, 3) := dk_167 0 4 (dk_at dksX11_strike_1 16 rfl rfl)
theorem dX11_strike_43 : decode cX11_strike 43 = .ok (.iconst 0, 1) := dk_3 (dk_at dksX11_strike_1 19 rfl rfl)
theorem dX11_strike_44 : decode cX11_strike 44 = .ok (.bastore, 1) := dk_84 (dk_at dksX11_strike_1 20 rfl rfl)
theorem dX11_strike_45 : decode cX11_strike 45 = .ok (.aload_n 0, 1) := dk_42 (dk_at dksX11_strike_1 21 rfl rfl)
theorem dX11_strike_46 : decode cX11_strike 46 = .ok (.bipush 26, 2) := dk_16 26 (dk_at dksX11_strike_1 22 rfl rfl)
theorem dX11_strike_48 : decode cX11_strike 48 = .ok (.iload_n 1, 1) := dk_27 (dk_at dksX11_strike_2 0 rfl rfl)
theorem dX11_strike_49 : decode cX11_strike 49 = .ok (.iload_n 2, 1) := dk_28 (dk_at dksX11_strike_2 1 rfl rfl)
theorem dX11_strike_50 : decode cX11_strike 50 = .ok (.iload_n 3, 1) := dk_29 (dk_at dksX11_strike_2 2 rfl rfl)
theorem dX11_strike_51 : decode cX11_strike 51 = .ok (.iconst 0, 1) := dk_3 (dk_at dksX11_strike_2 3 rfl rfl)
theorem dX11_strike_52 : decode cX11_strike 52 = .ok (.invokevirtual 22, 3) := dk_182 0 22 (dk_at dksX11_strike_2 4 rfl rfl)
theorem dX11_strike_55 : decode cX11_strike 55 = .ok (.aload_n 0, 1) := dk_42 (dk_at dksX11_strike_2 7 rfl rfl)
theorem dX11_strike_56 : decode cX11_strike 56 = .ok (.iload_n 1, 1) := dk_27 (dk_at dksX11_strike_2 8 rfl rfl)
theorem dX11_strike_57 : decode cX11_strike 57 = .ok (.invokevirtual 491, 3) := dk_182 1 235 (dk_at dksX11_strike_2 9 rfl rfl)
theorem dX11_strike_60 : decode cX11_strike 60 = .ok (.ireturn, 1) := dk_172 (dk_at dksX11_strike_2 12 rfl rfl)
abbrev cX11_voidBox : ByteArray := prog_17_method_127_code
def yX11_voidBox : MethodName := ⟨RX11, "voidBox", "(II)I"⟩
def dkwX11_voidBox_3 : List UInt8 := [153, 0, 7, 4, 167, 0, 4, 3, 96, 62, 132, 4, 1, 167, 255, 228, 29, 172]
abbrev dktX11_voidBox_3 : List UInt8 := dkwX11_voidBox_3 ++ []
def dkwX11_voidBox_2 : List UInt8 := [182, 0, 22, 3, 62, 3, 54, 4, 21, 4, 16, 7, 162, 0, 27, 29, 42, 180, 2, 43, 21, 4, 51]
abbrev dktX11_voidBox_2 : List UInt8 := dkwX11_voidBox_2 ++ dktX11_voidBox_3
def dkwX11_voidBox_1 : List UInt8 := [180, 2, 43, 27, 28, 4, 160, 0, 7, 4, 167, 0, 4, 3, 84, 42, 16, 27, 27, 28, 3, 3]
abbrev dktX11_voidBox_1 : List UInt8 := dkwX11_voidBox_1 ++ dktX11_voidBox_2
def dkwX11_voidBox_0 : List UInt8 := [42, 27, 182, 2, 225, 154, 0, 5, 2, 172, 28, 133, 9, 10, 184, 0, 13, 154, 0, 6, 16, 254, 172, 42]
abbrev dktX11_voidBox_0 : List UInt8 := dkwX11_voidBox_0 ++ dktX11_voidBox_1
theorem dksX11_voidBox_0 : cX11_voidBox.data.toList.drop 0 = dktX11_voidBox_0 := by decide +kernel
theorem dksX11_voidBox_1 : cX11_voidBox.data.toList.drop 24 = dktX11_voidBox_1 := dk_seg dksX11_voidBox_0 24 rfl rfl
theorem dksX11_voidBox_2 : cX11_voidBox.data.toList.drop 46 = dktX11_voidBox_2 := dk_seg dksX11_voidBox_1 22 rfl rfl
theorem dksX11_voidBox_3 : cX11_voidBox.data.toList.drop 69 = dktX11_voidBox_3 := dk_seg dksX11_voidBox_2 23 rfl rfl
theorem dX11_voidBox_0 : decode cX11_voidBox 0 = .ok (.aload_n 0, 1) := dk_42 (dk_at dksX11_voidBox_0 0 rfl rfl)
theorem dX11_voidBox_1 : decode cX11_voidBox 1 = .ok (.iload_n 1, 1) := dk_27 (dk_at dksX11_voidBox_0 1 rfl rfl)
theorem dX11_voidBox_2 : decode cX11_voidBox 2 = .ok (.invokevirtual 737, 3) := dk_182 2 225 (dk_at dksX11_voidBox_0 2 rfl rfl)
theorem dX11_voidBox_5 : decode cX11_voidBox 5 = .ok (.ifCond .ne 5, 3) := dk_154 0 5 (dk_at dksX11_voidBox_0 5 rfl rfl)
theorem dX11_voidBox_8 : decode cX11_voidBox 8 = .ok (.iconst (-1), 1) := dk_2 (dk_at dksX11_voidBox_0 8 rfl rfl)
theorem dX11_voidBox_9 : decode cX11_voidBox 9 = .ok (.ireturn, 1) := dk_172 (dk_at dksX11_voidBox_0 9 rfl rfl)
theorem dX11_voidBox_10 : decode cX11_voidBox 10 = .ok (.iload_n 2, 1) := dk_28 (dk_at dksX11_voidBox_0 10 rfl rfl)
theorem dX11_voidBox_11 : decode cX11_voidBox 11 = .ok (.i2l, 1) := dk_133 (dk_at dksX11_voidBox_0 11 rfl rfl)
theorem dX11_voidBox_12 : decode cX11_voidBox 12 = .ok (.lconst 0, 1) := dk_9 (dk_at dksX11_voidBox_0 12 rfl rfl)
theorem dX11_voidBox_13 : decode cX11_voidBox 13 = .ok (.lconst 1, 1) := dk_10 (dk_at dksX11_voidBox_0 13 rfl rfl)
theorem dX11_voidBox_14 : decode cX11_voidBox 14 = .ok (.invokestatic 13, 3) := dk_184 0 13 (dk_at dksX11_voidBox_0 14 rfl rfl)
theorem dX11_voidBox_17 : decode cX11_voidBox 17 = .ok (.ifCond .ne 6, 3) := dk_154 0 6 (dk_at dksX11_voidBox_0 17 rfl rfl)
theorem dX11_voidBox_20 : decode cX11_voidBox 20 = .ok (.bipush (-2), 2) := dk_16 254 (dk_at dksX11_voidBox_0 20 rfl rfl)
theorem dX11_voidBox_22 : decode cX11_voidBox 22 = .ok (.ireturn, 1) := dk_172 (dk_at dksX11_voidBox_0 22 rfl rfl)
theorem dX11_voidBox_23 : decode cX11_voidBox 23 = .ok (.aload_n 0, 1) := dk_42 (dk_at dksX11_voidBox_0 23 rfl rfl)
theorem dX11_voidBox_24 : decode cX11_voidBox 24 = .ok (.getfield 555, 3) := dk_180 2 43 (dk_at dksX11_voidBox_1 0 rfl rfl)
theorem dX11_voidBox_27 : decode cX11_voidBox 27 = .ok (.iload_n 1, 1) := dk_27 (dk_at dksX11_voidBox_1 3 rfl rfl)
theorem dX11_voidBox_28 : decode cX11_voidBox 28 = .ok (.iload_n 2, 1) := dk_28 (dk_at dksX11_voidBox_1 4 rfl rfl)
theorem dX11_voidBox_29 : decode cX11_voidBox 29 = .ok (.iconst 1, 1) := dk_4 (dk_at dksX11_voidBox_1 5 rfl rfl)
theorem dX11_voidBox_30 : decode cX11_voidBox 30 = .ok (.if_icmp .ne 7, 3) := dk_160 0 7 (dk_at dksX11_voidBox_1 6 rfl rfl)
theorem dX11_voidBox_33 : decode cX11_voidBox 33 = .ok (.iconst 1, 1) := dk_4 (dk_at dksX11_voidBox_1 9 rfl rfl)
theorem dX11_voidBox_34 : decode cX11_voidBox 34 = .ok (.goto 4, 3) := dk_167 0 4 (dk_at dksX11_voidBox_1 10 rfl rfl)
theorem dX11_voidBox_37 : decode cX11_voidBox 37 = .ok (.iconst 0, 1) := dk_3 (dk_at dksX11_voidBox_1 13 rfl rfl)
theorem dX11_voidBox_38 : decode cX11_voidBox 38 = .ok (.bastore, 1) := dk_84 (dk_at dksX11_voidBox_1 14 rfl rfl)
theorem dX11_voidBox_39 : decode cX11_voidBox 39 = .ok (.aload_n 0, 1) := dk_42 (dk_at dksX11_voidBox_1 15 rfl rfl)
theorem dX11_voidBox_40 : decode cX11_voidBox 40 = .ok (.bipush 27, 2) := dk_16 27 (dk_at dksX11_voidBox_1 16 rfl rfl)
theorem dX11_voidBox_42 : decode cX11_voidBox 42 = .ok (.iload_n 1, 1) := dk_27 (dk_at dksX11_voidBox_1 18 rfl rfl)
theorem dX11_voidBox_43 : decode cX11_voidBox 43 = .ok (.iload_n 2, 1) := dk_28 (dk_at dksX11_voidBox_1 19 rfl rfl)
theorem dX11_voidBox_44 : decode cX11_voidBox 44 = .ok (.iconst 0, 1) := dk_3 (dk_at dksX11_voidBox_1 20 rfl rfl)
theorem dX11_voidBox_45 : decode cX11_voidBox 45 = .ok (.iconst 0, 1) := dk_3 (dk_at dksX11_voidBox_1 21 rfl rfl)
theorem dX11_voidBox_46 : decode cX11_voidBox 46 = .ok (.invokevirtual 22, 3) := dk_182 0 22 (dk_at dksX11_voidBox_2 0 rfl rfl)
theorem dX11_voidBox_49 : decode cX11_voidBox 49 = .ok (.iconst 0, 1) := dk_3 (dk_at dksX11_voidBox_2 3 rfl rfl)
theorem dX11_voidBox_50 : decode cX11_voidBox 50 = .ok (.istore_n 3, 1) := dk_62 (dk_at dksX11_voidBox_2 4 rfl rfl)
theorem dX11_voidBox_51 : decode cX11_voidBox 51 = .ok (.iconst 0, 1) := dk_3 (dk_at dksX11_voidBox_2 5 rfl rfl)
theorem dX11_voidBox_52 : decode cX11_voidBox 52 = .ok (.istore 4, 2) := dk_54 4 (dk_at dksX11_voidBox_2 6 rfl rfl)
theorem dX11_voidBox_54 : decode cX11_voidBox 54 = .ok (.iload 4, 2) := dk_21 4 (dk_at dksX11_voidBox_2 8 rfl rfl)
theorem dX11_voidBox_56 : decode cX11_voidBox 56 = .ok (.bipush 7, 2) := dk_16 7 (dk_at dksX11_voidBox_2 10 rfl rfl)
theorem dX11_voidBox_58 : decode cX11_voidBox 58 = .ok (.if_icmp .ge 27, 3) := dk_162 0 27 (dk_at dksX11_voidBox_2 12 rfl rfl)
theorem dX11_voidBox_61 : decode cX11_voidBox 61 = .ok (.iload_n 3, 1) := dk_29 (dk_at dksX11_voidBox_2 15 rfl rfl)
theorem dX11_voidBox_62 : decode cX11_voidBox 62 = .ok (.aload_n 0, 1) := dk_42 (dk_at dksX11_voidBox_2 16 rfl rfl)
theorem dX11_voidBox_63 : decode cX11_voidBox 63 = .ok (.getfield 555, 3) := dk_180 2 43 (dk_at dksX11_voidBox_2 17 rfl rfl)
theorem dX11_voidBox_66 : decode cX11_voidBox 66 = .ok (.iload 4, 2) := dk_21 4 (dk_at dksX11_voidBox_2 20 rfl rfl)
theorem dX11_voidBox_68 : decode cX11_voidBox 68 = .ok (.baload, 1) := dk_51 (dk_at dksX11_voidBox_2 22 rfl rfl)
theorem dX11_voidBox_69 : decode cX11_voidBox 69 = .ok (.ifCond .eq 7, 3) := dk_153 0 7 (dk_at dksX11_voidBox_3 0 rfl rfl)
theorem dX11_voidBox_72 : decode cX11_voidBox 72 = .ok (.iconst 1, 1) := dk_4 (dk_at dksX11_voidBox_3 3 rfl rfl)
theorem dX11_voidBox_73 : decode cX11_voidBox 73 = .ok (.goto 4, 3) := dk_167 0 4 (dk_at dksX11_voidBox_3 4 rfl rfl)
theorem dX11_voidBox_76 : decode cX11_voidBox 76 = .ok (.iconst 0, 1) := dk_3 (dk_at dksX11_voidBox_3 7 rfl rfl)
theorem dX11_voidBox_77 : decode cX11_voidBox 77 = .ok (.iadd, 1) := dk_96 (dk_at dksX11_voidBox_3 8 rfl rfl)
theorem dX11_voidBox_78 : decode cX11_voidBox 78 = .ok (.istore_n 3, 1) := dk_62 (dk_at dksX11_voidBox_3 9 rfl rfl)
theorem dX11_voidBox_79 : decode cX11_voidBox 79 = .ok (.iinc 4 1, 3) := dk_132 4 1 (dk_at dksX11_voidBox_3 10 rfl rfl)
theorem dX11_voidBox_82 : decode cX11_voidBox 82 = .ok (.goto (-28), 3) := dk_167 255 228 (dk_at dksX11_voidBox_3 13 rfl rfl)
theorem dX11_voidBox_85 : decode cX11_voidBox 85 = .ok (.iload_n 3, 1) := dk_29 (dk_at dksX11_voidBox_3 16 rfl rfl)
theorem dX11_voidBox_86 : decode cX11_voidBox 86 = .ok (.ireturn, 1) := dk_172 (dk_at dksX11_voidBox_3 17 rfl rfl)
abbrev cX11_count : ByteArray := prog_17_method_144_code
def yX11_count : MethodName := ⟨RX11, "count", "(II)I"⟩
def dkwX11_count_7 : List UInt8 := [181, 3, 85, 42, 42, 180, 3, 2, 181, 3, 88, 42, 42, 180, 3, 5, 181, 3, 91, 42, 180, 3, 61, 172]
abbrev dktX11_count_7 : List UInt8 := dkwX11_count_7 ++ []
def dkwX11_count_6 : List UInt8 := [132, 4, 1, 167, 255, 228, 42, 4, 181, 2, 46, 42, 42, 180, 2, 243, 181, 3, 82, 42, 42, 180, 2, 255]
abbrev dktX11_count_6 : List UInt8 := dkwX11_count_6 ++ dktX11_count_7
def dkwX11_count_5 : List UInt8 := [180, 2, 243, 162, 0, 25, 42, 180, 2, 252, 21, 4, 51, 153, 0, 9, 42, 21, 4, 182, 3, 64]
abbrev dktX11_count_5 : List UInt8 := dkwX11_count_5 ++ dktX11_count_6
def dkwX11_count_4 : List UInt8 := [180, 2, 249, 42, 180, 2, 246, 164, 0, 11, 42, 29, 182, 3, 79, 167, 0, 37, 3, 54, 4, 21, 4, 42]
abbrev dktX11_count_4 : List UInt8 := dkwX11_count_4 ++ dktX11_count_5
def dkwX11_count_3 : List UInt8 := [3, 182, 3, 73, 167, 0, 71, 42, 27, 28, 4, 160, 0, 7, 4, 167, 0, 4, 3, 182, 3, 76, 42]
abbrev dktX11_count_3 : List UInt8 := dkwX11_count_3 ++ dktX11_count_4
def dkwX11_count_2 : List UInt8 := [42, 27, 5, 182, 1, 229, 62, 29, 16, 14, 160, 0, 21, 42, 27, 28, 4, 160, 0, 7, 4, 167, 0, 4]
abbrev dktX11_count_2 : List UInt8 := dkwX11_count_2 ++ dktX11_count_3
def dkwX11_count_1 : List UInt8 := [182, 3, 67, 154, 0, 6, 16, 253, 172, 42, 3, 181, 3, 61, 42, 3, 181, 3, 49, 42, 3, 181, 3, 70]
abbrev dktX11_count_1 : List UInt8 := dkwX11_count_1 ++ dktX11_count_2
def dkwX11_count_0 : List UInt8 := [42, 27, 182, 1, 224, 154, 0, 5, 2, 172, 28, 133, 9, 10, 184, 0, 13, 154, 0, 6, 16, 254, 172, 42]
abbrev dktX11_count_0 : List UInt8 := dkwX11_count_0 ++ dktX11_count_1
theorem dksX11_count_0 : cX11_count.data.toList.drop 0 = dktX11_count_0 := by decide +kernel
theorem dksX11_count_1 : cX11_count.data.toList.drop 24 = dktX11_count_1 := dk_seg dksX11_count_0 24 rfl rfl
theorem dksX11_count_2 : cX11_count.data.toList.drop 48 = dktX11_count_2 := dk_seg dksX11_count_1 24 rfl rfl
theorem dksX11_count_3 : cX11_count.data.toList.drop 72 = dktX11_count_3 := dk_seg dksX11_count_2 24 rfl rfl
theorem dksX11_count_4 : cX11_count.data.toList.drop 95 = dktX11_count_4 := dk_seg dksX11_count_3 23 rfl rfl
theorem dksX11_count_5 : cX11_count.data.toList.drop 119 = dktX11_count_5 := dk_seg dksX11_count_4 24 rfl rfl
theorem dksX11_count_6 : cX11_count.data.toList.drop 141 = dktX11_count_6 := dk_seg dksX11_count_5 22 rfl rfl
theorem dksX11_count_7 : cX11_count.data.toList.drop 165 = dktX11_count_7 := dk_seg dksX11_count_6 24 rfl rfl
theorem dX11_count_0 : decode cX11_count 0 = .ok (.aload_n 0, 1) := dk_42 (dk_at dksX11_count_0 0 rfl rfl)
theorem dX11_count_1 : decode cX11_count 1 = .ok (.iload_n 1, 1) := dk_27 (dk_at dksX11_count_0 1 rfl rfl)
theorem dX11_count_2 : decode cX11_count 2 = .ok (.invokevirtual 480, 3) := dk_182 1 224 (dk_at dksX11_count_0 2 rfl rfl)
theorem dX11_count_5 : decode cX11_count 5 = .ok (.ifCond .ne 5, 3) := dk_154 0 5 (dk_at dksX11_count_0 5 rfl rfl)
theorem dX11_count_8 : decode cX11_count 8 = .ok (.iconst (-1), 1) := dk_2 (dk_at dksX11_count_0 8 rfl rfl)
theorem dX11_count_9 : decode cX11_count 9 = .ok (.ireturn, 1) := dk_172 (dk_at dksX11_count_0 9 rfl rfl)
theorem dX11_count_10 : decode cX11_count 10 = .ok (.iload_n 2, 1) := dk_28 (dk_at dksX11_count_0 10 rfl rfl)
theorem dX11_count_11 : decode cX11_count 11 = .ok (.i2l, 1) := dk_133 (dk_at dksX11_count_0 11 rfl rfl)
theorem dX11_count_12 : decode cX11_count 12 = .ok (.lconst 0, 1) := dk_9 (dk_at dksX11_count_0 12 rfl rfl)
theorem dX11_count_13 : decode cX11_count 13 = .ok (.lconst 1, 1) := dk_10 (dk_at dksX11_count_0 13 rfl rfl)
theorem dX11_count_14 : decode cX11_count 14 = .ok (.invokestatic 13, 3) := dk_184 0 13 (dk_at dksX11_count_0 14 rfl rfl)
theorem dX11_count_17 : decode cX11_count 17 = .ok (.ifCond .ne 6, 3) := dk_154 0 6 (dk_at dksX11_count_0 17 rfl rfl)
theorem dX11_count_20 : decode cX11_count 20 = .ok (.bipush (-2), 2) := dk_16 254 (dk_at dksX11_count_0 20 rfl rfl)
theorem dX11_count_22 : decode cX11_count 22 = .ok (.ireturn, 1) := dk_172 (dk_at dksX11_count_0 22 rfl rfl)
theorem dX11_count_23 : decode cX11_count 23 = .ok (.aload_n 0, 1) := dk_42 (dk_at dksX11_count_0 23 rfl rfl)
theorem dX11_count_24 : decode cX11_count 24 = .ok (.invokevirtual 835, 3) := dk_182 3 67 (dk_at dksX11_count_1 0 rfl rfl)
theorem dX11_count_27 : decode cX11_count 27 = .ok (.ifCond .ne 6, 3) := dk_154 0 6 (dk_at dksX11_count_1 3 rfl rfl)
theorem dX11_count_30 : decode cX11_count 30 = .ok (.bipush (-3), 2) := dk_16 253 (dk_at dksX11_count_1 6 rfl rfl)
theorem dX11_count_32 : decode cX11_count 32 = .ok (.ireturn, 1) := dk_172 (dk_at dksX11_count_1 8 rfl rfl)
theorem dX11_count_33 : decode cX11_count 33 = .ok (.aload_n 0, 1) := dk_42 (dk_at dksX11_count_1 9 rfl rfl)
theorem dX11_count_34 : decode cX11_count 34 = .ok (.iconst 0, 1) := dk_3 (dk_at dksX11_count_1 10 rfl rfl)
theorem dX11_count_35 : decode cX11_count 35 = .ok (.putfield 829, 3) := dk_181 3 61 (dk_at dksX11_count_1 11 rfl rfl)
theorem dX11_count_38 : decode cX11_count 38 = .ok (.aload_n 0, 1) := dk_42 (dk_at dksX11_count_1 14 rfl rfl)
theorem dX11_count_39 : decode cX11_count 39 = .ok (.iconst 0, 1) := dk_3 (dk_at dksX11_count_1 15 rfl rfl)
theorem dX11_count_40 : decode cX11_count 40 = .ok (.putfield 817, 3) := dk_181 3 49 (dk_at dksX11_count_1 16 rfl rfl)
theorem dX11_count_43 : decode cX11_count 43 = .ok (.aload_n 0, 1) := dk_42 (dk_at dksX11_count_1 19 rfl rfl)
theorem dX11_count_44 : decode cX11_count 44 = .ok (.iconst 0, 1) := dk_3 (dk_at dksX11_count_1 20 rfl rfl)
theorem dX11_count_45 : decode cX11_count 45 = .ok (.putfield 838, 3) := dk_181 3 70 (dk_at dksX11_count_1 21 rfl rfl)
theorem dX11_count_48 : decode cX11_count 48 = .ok (.aload_n 0, 1) := dk_42 (dk_at dksX11_count_2 0 rfl rfl)
theorem dX11_count_49 : decode cX11_count 49 = .ok (.iload_n 1, 1) := dk_27 (dk_at dksX11_count_2 1 rfl rfl)
theorem dX11_count_50 : decode cX11_count 50 = .ok (.iconst 2, 1) := dk_5 (dk_at dksX11_count_2 2 rfl rfl)
theorem dX11_count_51 : decode cX11_count 51 = .ok (.invokevirtual 485, 3) := dk_182 1 229 (dk_at dksX11_count_2 3 rfl rfl)
theorem dX11_count_54 : decode cX11_count 54 = .ok (.istore_n 3, 1) := dk_62 (dk_at dksX11_count_2 6 rfl rfl)
theorem dX11_count_55 : decode cX11_count 55 = .ok (.iload_n 3, 1) := dk_29 (dk_at dksX11_count_2 7 rfl rfl)
theorem dX11_count_56 : decode cX11_count 56 = .ok (.bipush 14, 2) := dk_16 14 (dk_at dksX11_count_2 8 rfl rfl)
theorem dX11_count_58 : decode cX11_count 58 = .ok (.if_icmp .ne 21, 3) := dk_160 0 21 (dk_at dksX11_count_2 10 rfl rfl)
theorem dX11_count_61 : decode cX11_count 61 = .ok (.aload_n 0, 1) := dk_42 (dk_at dksX11_count_2 13 rfl rfl)
theorem dX11_count_62 : decode cX11_count 62 = .ok (.iload_n 1, 1) := dk_27 (dk_at dksX11_count_2 14 rfl rfl)
theorem dX11_count_63 : decode cX11_count 63 = .ok (.iload_n 2, 1) := dk_28 (dk_at dksX11_count_2 15 rfl rfl)
theorem dX11_count_64 : decode cX11_count 64 = .ok (.iconst 1, 1) := dk_4 (dk_at dksX11_count_2 16 rfl rfl)
theorem dX11_count_65 : decode cX11_count 65 = .ok (.if_icmp .ne 7, 3) := dk_160 0 7 (dk_at dksX11_count_2 17 rfl rfl)
theorem dX11_count_68 : decode cX11_count 68 = .ok (.iconst 1, 1) := dk_4 (dk_at dksX11_count_2 20 rfl rfl)
theorem dX11_count_69 : decode cX11_count 69 = .ok (.goto 4, 3) := dk_167 0 4 (dk_at dksX11_count_2 21 rfl rfl)
theorem dX11_count_72 : decode cX11_count 72 = .ok (.iconst 0, 1) := dk_3 (dk_at dksX11_count_3 0 rfl rfl)
theorem dX11_count_73 : decode cX11_count 73 = .ok (.invokevirtual 841, 3) := dk_182 3 73 (dk_at dksX11_count_3 1 rfl rfl)
theorem dX11_count_76 : decode cX11_count 76 = .ok (.goto 71, 3) := dk_167 0 71 (dk_at dksX11_count_3 4 rfl rfl)
theorem dX11_count_79 : decode cX11_count 79 = .ok (.aload_n 0, 1) := dk_42 (dk_at dksX11_count_3 7 rfl rfl)
theorem dX11_count_80 : decode cX11_count 80 = .ok (.iload_n 1, 1) := dk_27 (dk_at dksX11_count_3 8 rfl rfl)
theorem dX11_count_81 : decode cX11_count 81 = .ok (.iload_n 2, 1) := dk_28 (dk_at dksX11_count_3 9 rfl rfl)
theorem dX11_count_82 : decode cX11_count 82 = .ok (.iconst 1, 1) := dk_4 (dk_at dksX11_count_3 10 rfl rfl)
theorem dX11_count_83 : decode cX11_count 83 = .ok (.if_icmp .ne 7, 3) := dk_160 0 7 (dk_at dksX11_count_3 11 rfl rfl)
theorem dX11_count_86 : decode cX11_count 86 = .ok (.iconst 1, 1) := dk_4 (dk_at dksX11_count_3 14 rfl rfl)
theorem dX11_count_87 : decode cX11_count 87 = .ok (.goto 4, 3) := dk_167 0 4 (dk_at dksX11_count_3 15 rfl rfl)
theorem dX11_count_90 : decode cX11_count 90 = .ok (.iconst 0, 1) := dk_3 (dk_at dksX11_count_3 18 rfl rfl)
theorem dX11_count_91 : decode cX11_count 91 = .ok (.invokevirtual 844, 3) := dk_182 3 76 (dk_at dksX11_count_3 19 rfl rfl)
theorem dX11_count_94 : decode cX11_count 94 = .ok (.aload_n 0, 1) := dk_42 (dk_at dksX11_count_3 22 rfl rfl)
theorem dX11_count_95 : decode cX11_count 95 = .ok (.getfield 761, 3) := dk_180 2 249 (dk_at dksX11_count_4 0 rfl rfl)
theorem dX11_count_98 : decode cX11_count 98 = .ok (.aload_n 0, 1) := dk_42 (dk_at dksX11_count_4 3 rfl rfl)
theorem dX11_count_99 : decode cX11_count 99 = .ok (.getfield 758, 3) := dk_180 2 246 (dk_at dksX11_count_4 4 rfl rfl)
theorem dX11_count_102 : decode cX11_count 102 = .ok (.if_icmp .le 11, 3) := dk_164 0 11 (dk_at dksX11_count_4 7 rfl rfl)
theorem dX11_count_105 : decode cX11_count 105 = .ok (.aload_n 0, 1) := dk_42 (dk_at dksX11_count_4 10 rfl rfl)
theorem dX11_count_106 : decode cX11_count 106 = .ok (.iload_n 3, 1) := dk_29 (dk_at dksX11_count_4 11 rfl rfl)
theorem dX11_count_107 : decode cX11_count 107 = .ok (.invokevirtual 847, 3) := dk_182 3 79 (dk_at dksX11_count_4 12 rfl rfl)
theorem dX11_count_110 : decode cX11_count 110 = .ok (.goto 37, 3) := dk_167 0 37 (dk_at dksX11_count_4 15 rfl rfl)
theorem dX11_count_113 : decode cX11_count 113 = .ok (.iconst 0, 1) := dk_3 (dk_at dksX11_count_4 18 rfl rfl)
theorem dX11_count_114 : decode cX11_count 114 = .ok (.istore 4, 2) := dk_54 4 (dk_at dksX11_count_4 19 rfl rfl)
theorem dX11_count_116 : decode cX11_count 116 = .ok (.iload 4, 2) := dk_21 4 (dk_at dksX11_count_4 21 rfl rfl)
theorem dX11_count_118 : decode cX11_count 118 = .ok (.aload_n 0, 1) := dk_42 (dk_at dksX11_count_4 23 rfl rfl)
theorem dX11_count_119 : decode cX11_count 119 = .ok (.getfield 755, 3) := dk_180 2 243 (dk_at dksX11_count_5 0 rfl rfl)
theorem dX11_count_122 : decode cX11_count 122 = .ok (.if_icmp .ge 25, 3) := dk_162 0 25 (dk_at dksX11_count_5 3 rfl rfl)
theorem dX11_count_125 : decode cX11_count 125 = .ok (.aload_n 0, 1) := dk_42 (dk_at dksX11_count_5 6 rfl rfl)
theorem dX11_count_126 : decode cX11_count 126 = .ok (.getfield 764, 3) := dk_180 2 252 (dk_at dksX11_count_5 7 rfl rfl)
theorem dX11_count_129 : decode cX11_count 129 = .ok (.iload 4, 2) := dk_21 4 (dk_at dksX11_count_5 10 rfl rfl)
theorem dX11_count_131 : decode cX11_count 131 = .ok (.baload, 1) := dk_51 (dk_at dksX11_count_5 12 rfl rfl)
theorem dX11_count_132 : decode cX11_count 132 = .ok (.ifCond .eq 9, 3) := dk_153 0 9 (dk_at dksX11_count_5 13 rfl rfl)
theorem dX11_count_135 : decode cX11_count 135 = .ok (.aload_n 0, 1) := dk_42 (dk_at dksX11_count_5 16 rfl rfl)
theorem dX11_count_136 : decode cX11_count 136 = .ok (.iload 4, 2) := dk_21 4 (dk_at dksX11_count_5 17 rfl rfl)
theorem dX11_count_138 : decode cX11_count 138 = .ok (.invokevirtual 832, 3) := dk_182 3 64 (dk_at dksX11_count_5 19 rfl rfl)
theorem dX11_count_141 : decode cX11_count 141 = .ok (.iinc 4 1, 3) := dk_132 4 1 (dk_at dksX11_count_6 0 rfl rfl)
theorem dX11_count_144 : decode cX11_count 144 = .ok (.goto (-28), 3) := dk_167 255 228 (dk_at dksX11_count_6 3 rfl rfl)
theorem dX11_count_147 : decode cX11_count 147 = .ok (.aload_n 0, 1) := dk_42 (dk_at dksX11_count_6 6 rfl rfl)
theorem dX11_count_148 : decode cX11_count 148 = .ok (.iconst 1, 1) := dk_4 (dk_at dksX11_count_6 7 rfl rfl)
theorem dX11_count_149 : decode cX11_count 149 = .ok (.putfield 558, 3) := dk_181 2 46 (dk_at dksX11_count_6 8 rfl rfl)
theorem dX11_count_152 : decode cX11_count 152 = .ok (.aload_n 0, 1) := dk_42 (dk_at dksX11_count_6 11 rfl rfl)
theorem dX11_count_153 : decode cX11_count 153 = .ok (.aload_n 0, 1) := dk_42 (dk_at dksX11_count_6 12 rfl rfl)
theorem dX11_count_154 : decode cX11_count 154 = .ok (.getfield 755, 3) := dk_180 2 243 (dk_at dksX11_count_6 13 rfl rfl)
theorem dX11_count_157 : decode cX11_count 157 = .ok (.putfield 850, 3) := dk_181 3 82 (dk_at dksX11_count_6 16 rfl rfl)
theorem dX11_count_160 : decode cX11_count 160 = .ok (.aload_n 0, 1) := dk_42 (dk_at dksX11_count_6 19 rfl rfl)
theorem dX11_count_161 : decode cX11_count 161 = .ok (.aload_n 0, 1) := dk_42 (dk_at dksX11_count_6 20 rfl rfl)
theorem dX11_count_162 : decode cX11_count 162 = .ok (.getfield 767, 3) := dk_180 2 255 (dk_at dksX11_count_6 21 rfl rfl)
theorem dX11_count_165 : decode cX11_count 165 = .ok (.putfield 853, 3) := dk_181 3 85 (dk_at dksX11_count_7 0 rfl rfl)
theorem dX11_count_168 : decode cX11_count 168 = .ok (.aload_n 0, 1) := dk_42 (dk_at dksX11_count_7 3 rfl rfl)
theorem dX11_count_169 : decode cX11_count 169 = .ok (.aload_n 0, 1) := dk_42 (dk_at dksX11_count_7 4 rfl rfl)
theorem dX11_count_170 : decode cX11_count 170 = .ok (.getfield 770, 3) := dk_180 3 2 (dk_at dksX11_count_7 5 rfl rfl)
theorem dX11_count_173 : decode cX11_count 173 = .ok (.putfield 856, 3) := dk_181 3 88 (dk_at dksX11_count_7 8 rfl rfl)
theorem dX11_count_176 : decode cX11_count 176 = .ok (.aload_n 0, 1) := dk_42 (dk_at dksX11_count_7 11 rfl rfl)
theorem dX11_count_177 : decode cX11_count 177 = .ok (.aload_n 0, 1) := dk_42 (dk_at dksX11_count_7 12 rfl rfl)
theorem dX11_count_178 : decode cX11_count 178 = .ok (.getfield 773, 3) := dk_180 3 5 (dk_at dksX11_count_7 13 rfl rfl)
theorem dX11_count_181 : decode cX11_count 181 = .ok (.putfield 859, 3) := dk_181 3 91 (dk_at dksX11_count_7 16 rfl rfl)
theorem dX11_count_184 : decode cX11_count 184 = .ok (.aload_n 0, 1) := dk_42 (dk_at dksX11_count_7 19 rfl rfl)
theorem dX11_count_185 : decode cX11_count 185 = .ok (.getfield 829, 3) := dk_180 3 61 (dk_at dksX11_count_7 20 rfl rfl)
theorem dX11_count_188 : decode cX11_count 188 = .ok (.ireturn, 1) := dk_172 (dk_at dksX11_count_7 23 rfl rfl)
abbrev cX11_areClosed : ByteArray := prog_17_method_143_code
def yX11_areClosed : MethodName := ⟨RX11, "areClosed", "()Z"⟩
def dkwX11_areClosed_2 : List UInt8 := [28, 51, 126, 60, 132, 2, 1, 167, 255, 236, 27, 172]
abbrev dktX11_areClosed_2 : List UInt8 := dkwX11_areClosed_2 ++ []
def dkwX11_areClosed_1 : List UInt8 := [153, 0, 7, 4, 167, 0, 4, 3, 60, 3, 61, 28, 42, 180, 2, 28, 162, 0, 18, 27, 42, 180, 2, 40]
abbrev dktX11_areClosed_1 : List UInt8 := dkwX11_areClosed_1 ++ dktX11_areClosed_2
def dkwX11_areClosed_0 : List UInt8 := [42, 180, 2, 19, 153, 0, 26, 42, 16, 8, 182, 1, 210, 153, 0, 13, 42, 180, 2, 40, 16, 6, 51]
abbrev dktX11_areClosed_0 : List UInt8 := dkwX11_areClosed_0 ++ dktX11_areClosed_1
theorem dksX11_areClosed_0 : cX11_areClosed.data.toList.drop 0 = dktX11_areClosed_0 := by decide +kernel
theorem dksX11_areClosed_1 : cX11_areClosed.data.toList.drop 23 = dktX11_areClosed_1 := dk_seg dksX11_areClosed_0 23 rfl rfl
theorem dksX11_areClosed_2 : cX11_areClosed.data.toList.drop 47 = dktX11_areClosed_2 := dk_seg dksX11_areClosed_1 24 rfl rfl
theorem dX11_areClosed_0 : decode cX11_areClosed 0 = .ok (.aload_n 0, 1) := dk_42 (dk_at dksX11_areClosed_0 0 rfl rfl)
theorem dX11_areClosed_1 : decode cX11_areClosed 1 = .ok (.getfield 531, 3) := dk_180 2 19 (dk_at dksX11_areClosed_0 1 rfl rfl)
theorem dX11_areClosed_4 : decode cX11_areClosed 4 = .ok (.ifCond .eq 26, 3) := dk_153 0 26 (dk_at dksX11_areClosed_0 4 rfl rfl)
theorem dX11_areClosed_7 : decode cX11_areClosed 7 = .ok (.aload_n 0, 1) := dk_42 (dk_at dksX11_areClosed_0 7 rfl rfl)
theorem dX11_areClosed_8 : decode cX11_areClosed 8 = .ok (.bipush 8, 2) := dk_16 8 (dk_at dksX11_areClosed_0 8 rfl rfl)
theorem dX11_areClosed_10 : decode cX11_areClosed 10 = .ok (.invokevirtual 466, 3) := dk_182 1 210 (dk_at dksX11_areClosed_0 10 rfl rfl)
theorem dX11_areClosed_13 : decode cX11_areClosed 13 = .ok (.ifCond .eq 13, 3) := dk_153 0 13 (dk_at dksX11_areClosed_0 13 rfl rfl)
theorem dX11_areClosed_16 : decode cX11_areClosed 16 = .ok (.aload_n 0, 1) := dk_42 (dk_at dksX11_areClosed_0 16 rfl rfl)
theorem dX11_areClosed_17 : decode cX11_areClosed 17 = .ok (.getfield 552, 3) := dk_180 2 40 (dk_at dksX11_areClosed_0 17 rfl rfl)
theorem dX11_areClosed_20 : decode cX11_areClosed 20 = .ok (.bipush 6, 2) := dk_16 6 (dk_at dksX11_areClosed_0 20 rfl rfl)
theorem dX11_areClosed_22 : decode cX11_areClosed 22 = .ok (.baload, 1) := dk_51 (dk_at dksX11_areClosed_0 22 rfl rfl)
theorem dX11_areClosed_23 : decode cX11_areClosed 23 = .ok (.ifCond .eq 7, 3) := dk_153 0 7 (dk_at dksX11_areClosed_1 0 rfl rfl)
theorem dX11_areClosed_26 : decode cX11_areClosed 26 = .ok (.iconst 1, 1) := dk_4 (dk_at dksX11_areClosed_1 3 rfl rfl)
theorem dX11_areClosed_27 : decode cX11_areClosed 27 = .ok (.goto 4, 3) := dk_167 0 4 (dk_at dksX11_areClosed_1 4 rfl rfl)
theorem dX11_areClosed_30 : decode cX11_areClosed 30 = .ok (.iconst 0, 1) := dk_3 (dk_at dksX11_areClosed_1 7 rfl rfl)
theorem dX11_areClosed_31 : decode cX11_areClosed 31 = .ok (.istore_n 1, 1) := dk_60 (dk_at dksX11_areClosed_1 8 rfl rfl)
theorem dX11_areClosed_32 : decode cX11_areClosed 32 = .ok (.iconst 0, 1) := dk_3 (dk_at dksX11_areClosed_1 9 rfl rfl)
theorem dX11_areClosed_33 : decode cX11_areClosed 33 = .ok (.istore_n 2, 1) := dk_61 (dk_at dksX11_areClosed_1 10 rfl rfl)
theorem dX11_areClosed_34 : decode cX11_areClosed 34 = .ok (.iload_n 2, 1) := dk_28 (dk_at dksX11_areClosed_1 11 rfl rfl)
theorem dX11_areClosed_35 : decode cX11_areClosed 35 = .ok (.aload_n 0, 1) := dk_42 (dk_at dksX11_areClosed_1 12 rfl rfl)
theorem dX11_areClosed_36 : decode cX11_areClosed 36 = .ok (.getfield 540, 3) := dk_180 2 28 (dk_at dksX11_areClosed_1 13 rfl rfl)
theorem dX11_areClosed_39 : decode cX11_areClosed 39 = .ok (.if_icmp .ge 18, 3) := dk_162 0 18 (dk_at dksX11_areClosed_1 16 rfl rfl)
theorem dX11_areClosed_42 : decode cX11_areClosed 42 = .ok (.iload_n 1, 1) := dk_27 (dk_at dksX11_areClosed_1 19 rfl rfl)
theorem dX11_areClosed_43 : decode cX11_areClosed 43 = .ok (.aload_n 0, 1) := dk_42 (dk_at dksX11_areClosed_1 20 rfl rfl)
theorem dX11_areClosed_44 : decode cX11_areClosed 44 = .ok (.getfield 552, 3) := dk_180 2 40 (dk_at dksX11_areClosed_1 21 rfl rfl)
theorem dX11_areClosed_47 : decode cX11_areClosed 47 = .ok (.iload_n 2, 1) := dk_28 (dk_at dksX11_areClosed_2 0 rfl rfl)
theorem dX11_areClosed_48 : decode cX11_areClosed 48 = .ok (.baload, 1) := dk_51 (dk_at dksX11_areClosed_2 1 rfl rfl)
theorem dX11_areClosed_49 : decode cX11_areClosed 49 = .ok (.iand, 1) := dk_126 (dk_at dksX11_areClosed_2 2 rfl rfl)
theorem dX11_areClosed_50 : decode cX11_areClosed 50 = .ok (.istore_n 1, 1) := dk_60 (dk_at dksX11_areClosed_2 3 rfl rfl)
theorem dX11_areClosed_51 : decode cX11_areClosed 51 = .ok (.iinc 2 1, 3) := dk_132 2 1 (dk_at dksX11_areClosed_2 4 rfl rfl)
theorem dX11_areClosed_54 : decode cX11_areClosed 54 = .ok (.goto (-20), 3) := dk_167 255 236 (dk_at dksX11_areClosed_2 7 rfl rfl)
theorem dX11_areClosed_57 : decode cX11_areClosed 57 = .ok (.iload_n 1, 1) := dk_27 (dk_at dksX11_areClosed_2 10 rfl rfl)
theorem dX11_areClosed_58 : decode cX11_areClosed 58 = .ok (.ireturn, 1) := dk_172 (dk_at dksX11_areClosed_2 11 rfl rfl)
abbrev cX11_countLists : ByteArray := prog_17_method_185_code
def yX11_countLists : MethodName := ⟨RX11, "countLists", "(IZ)V"⟩
def dkwX11_countLists_11 : List UInt8 := [167, 255, 210, 42, 182, 3, 100, 177]
abbrev dktX11_countLists_11 : List UInt8 := dkwX11_countLists_11 ++ []
def dkwX11_countLists_10 : List UInt8 := [153, 0, 19, 42, 180, 4, 42, 42, 180, 4, 45, 21, 4, 46, 46, 133, 167, 0, 4, 9, 80, 132, 4, 1]
abbrev dktX11_countLists_10 : List UInt8 := dkwX11_countLists_10 ++ dktX11_countLists_11
def dkwX11_countLists_9 : List UInt8 := [54, 4, 21, 4, 42, 180, 2, 243, 162, 0, 43, 42, 180, 3, 33, 21, 4, 42, 180, 2, 252, 21, 4, 51]
abbrev dktX11_countLists_9 : List UInt8 := dkwX11_countLists_9 ++ dktX11_countLists_10
def dkwX11_countLists_8 : List UInt8 := [180, 4, 45, 21, 4, 46, 46, 133, 167, 0, 4, 9, 80, 132, 4, 1, 167, 255, 210, 42, 182, 3, 100, 3]
abbrev dktX11_countLists_8 : List UInt8 := dkwX11_countLists_8 ++ dktX11_countLists_9
def dkwX11_countLists_7 : List UInt8 := [162, 0, 43, 42, 180, 3, 33, 21, 4, 42, 180, 2, 252, 21, 4, 51, 153, 0, 19, 42, 180, 4, 39, 42]
abbrev dktX11_countLists_7 : List UInt8 := dkwX11_countLists_7 ++ dktX11_countLists_8
def dkwX11_countLists_6 : List UInt8 := [29, 182, 4, 91, 42, 5, 182, 3, 97, 42, 182, 3, 100, 3, 54, 4, 21, 4, 42, 180, 2, 243]
abbrev dktX11_countLists_6 : List UInt8 := dkwX11_countLists_6 ++ dktX11_countLists_7
def dkwX11_countLists_5 : List UInt8 := [158, 0, 28, 29, 153, 0, 10, 42, 182, 4, 85, 167, 0, 12, 42, 42, 180, 2, 246, 4, 182, 4, 88, 42]
abbrev dktX11_countLists_5 : List UInt8 := dkwX11_countLists_5 ++ dktX11_countLists_6
def dkwX11_countLists_4 : List UInt8 := [153, 0, 15, 42, 180, 2, 246, 42, 180, 4, 18, 96, 167, 0, 4, 3, 181, 3, 70, 42, 182, 4, 64]
abbrev dktX11_countLists_4 : List UInt8 := dkwX11_countLists_4 ++ dktX11_countLists_5
def dkwX11_countLists_3 : List UInt8 := [180, 4, 21, 42, 180, 4, 33, 21, 4, 46, 46, 167, 0, 4, 3, 79, 132, 4, 1, 167, 255, 207, 42, 29]
abbrev dktX11_countLists_3 : List UInt8 := dkwX11_countLists_3 ++ dktX11_countLists_4
def dkwX11_countLists_2 : List UInt8 := [162, 0, 46, 42, 180, 4, 82, 21, 4, 29, 153, 0, 28, 42, 180, 4, 33, 21, 4, 46, 155, 0, 18, 42]
abbrev dktX11_countLists_2 : List UInt8 := dkwX11_countLists_2 ++ dktX11_countLists_3
def dkwX11_countLists_1 : List UInt8 := [182, 4, 76, 42, 27, 28, 182, 3, 76, 42, 182, 4, 79, 3, 54, 4, 21, 4, 42, 180, 4, 30]
abbrev dktX11_countLists_1 : List UInt8 := dkwX11_countLists_1 ++ dktX11_countLists_2
def dkwX11_countLists_0 : List UInt8 := [42, 27, 16, 7, 182, 1, 229, 4, 160, 0, 7, 4, 167, 0, 4, 3, 62, 29, 153, 0, 8, 42, 28]
abbrev dktX11_countLists_0 : List UInt8 := dkwX11_countLists_0 ++ dktX11_countLists_1
theorem dksX11_countLists_0 : cX11_countLists.data.toList.drop 0 = dktX11_countLists_0 := by decide +kernel
theorem dksX11_countLists_1 : cX11_countLists.data.toList.drop 23 = dktX11_countLists_1 := dk_seg dksX11_countLists_0 23 rfl rfl
theorem dksX11_countLists_2 : cX11_countLists.data.toList.drop 45 = dktX11_countLists_2 := dk_seg dksX11_countLists_1 22 rfl rfl
theorem dksX11_countLists_3 : cX11_countLists.data.toList.drop 69 = dktX11_countLists_3 := dk_seg dksX11_countLists_2 24 rfl rfl
theorem dksX11_countLists_4 : cX11_countLists.data.toList.drop 93 = dktX11_countLists_4 := dk_seg dksX11_countLists_3 24 rfl rfl
theorem dksX11_countLists_5 : cX11_countLists.data.toList.drop 116 = dktX11_countLists_5 := dk_seg dksX11_countLists_4 23 rfl rfl
theorem dksX11_countLists_6 : cX11_countLists.data.toList.drop 140 = dktX11_countLists_6 := dk_seg dksX11_countLists_5 24 rfl rfl
theorem dksX11_countLists_7 : cX11_countLists.data.toList.drop 162 = dktX11_countLists_7 := dk_seg dksX11_countLists_6 22 rfl rfl
theorem dksX11_countLists_8 : cX11_countLists.data.toList.drop 186 = dktX11_countLists_8 := dk_seg dksX11_countLists_7 24 rfl rfl
theorem dksX11_countLists_9 : cX11_countLists.data.toList.drop 210 = dktX11_countLists_9 := dk_seg dksX11_countLists_8 24 rfl rfl
theorem dksX11_countLists_10 : cX11_countLists.data.toList.drop 234 = dktX11_countLists_10 := dk_seg dksX11_countLists_9 24 rfl rfl
theorem dksX11_countLists_11 : cX11_countLists.data.toList.drop 258 = dktX11_countLists_11 := dk_seg dksX11_countLists_10 24 rfl rfl
theorem dX11_countLists_0 : decode cX11_countLists 0 = .ok (.aload_n 0, 1) := dk_42 (dk_at dksX11_countLists_0 0 rfl rfl)
theorem dX11_countLists_1 : decode cX11_countLists 1 = .ok (.iload_n 1, 1) := dk_27 (dk_at dksX11_countLists_0 1 rfl rfl)
theorem dX11_countLists_2 : decode cX11_countLists 2 = .ok (.bipush 7, 2) := dk_16 7 (dk_at dksX11_countLists_0 2 rfl rfl)
theorem dX11_countLists_4 : decode cX11_countLists 4 = .ok (.invokevirtual 485, 3) := dk_182 1 229 (dk_at dksX11_countLists_0 4 rfl rfl)
theorem dX11_countLists_7 : decode cX11_countLists 7 = .ok (.iconst 1, 1) := dk_4 (dk_at dksX11_countLists_0 7 rfl rfl)
theorem dX11_countLists_8 : decode cX11_countLists 8 = .ok (.if_icmp .ne 7, 3) := dk_160 0 7 (dk_at dksX11_countLists_0 8 rfl rfl)
theorem dX11_countLists_11 : decode cX11_countLists 11 = .ok (.iconst 1, 1) := dk_4 (dk_at dksX11_countLists_0 11 rfl rfl)
theorem dX11_countLists_12 : decode cX11_countLists 12 = .ok (.goto 4, 3) := dk_167 0 4 (dk_at dksX11_countLists_0 12 rfl rfl)
theorem dX11_countLists_15 : decode cX11_countLists 15 = .ok (.iconst 0, 1) := dk_3 (dk_at dksX11_countLists_0 15 rfl rfl)
theorem dX11_countLists_16 : decode cX11_countLists 16 = .ok (.istore_n 3, 1) := dk_62 (dk_at dksX11_countLists_0 16 rfl rfl)
theorem dX11_countLists_17 : decode cX11_countLists 17 = .ok (.iload_n 3, 1) := dk_29 (dk_at dksX11_countLists_0 17 rfl rfl)
theorem dX11_countLists_18 : decode cX11_countLists 18 = .ok (.ifCond .eq 8, 3) := dk_153 0 8 (dk_at dksX11_countLists_0 18 rfl rfl)
theorem dX11_countLists_21 : decode cX11_countLists 21 = .ok (.aload_n 0, 1) := dk_42 (dk_at dksX11_countLists_0 21 rfl rfl)
theorem dX11_countLists_22 : decode cX11_countLists 22 = .ok (.iload_n 2, 1) := dk_28 (dk_at dksX11_countLists_0 22 rfl rfl)
theorem dX11_countLists_23 : decode cX11_countLists 23 = .ok (.invokevirtual 1100, 3) := dk_182 4 76 (dk_at dksX11_countLists_1 0 rfl rfl)
theorem dX11_countLists_26 : decode cX11_countLists 26 = .ok (.aload_n 0, 1) := dk_42 (dk_at dksX11_countLists_1 3 rfl rfl)
theorem dX11_countLists_27 : decode cX11_countLists 27 = .ok (.iload_n 1, 1) := dk_27 (dk_at dksX11_countLists_1 4 rfl rfl)
theorem dX11_countLists_28 : decode cX11_countLists 28 = .ok (.iload_n 2, 1) := dk_28 (dk_at dksX11_countLists_1 5 rfl rfl)
theorem dX11_countLists_29 : decode cX11_countLists 29 = .ok (.invokevirtual 844, 3) := dk_182 3 76 (dk_at dksX11_countLists_1 6 rfl rfl)
theorem dX11_countLists_32 : decode cX11_countLists 32 = .ok (.aload_n 0, 1) := dk_42 (dk_at dksX11_countLists_1 9 rfl rfl)
theorem dX11_countLists_33 : decode cX11_countLists 33 = .ok (.invokevirtual 1103, 3) := dk_182 4 79 (dk_at dksX11_countLists_1 10 rfl rfl)
theorem dX11_countLists_36 : decode cX11_countLists 36 = .ok (.iconst 0, 1) := dk_3 (dk_at dksX11_countLists_1 13 rfl rfl)
theorem dX11_countLists_37 : decode cX11_countLists 37 = .ok (.istore 4, 2) := dk_54 4 (dk_at dksX11_countLists_1 14 rfl rfl)
theorem dX11_countLists_39 : decode cX11_countLists 39 = .ok (.iload 4, 2) := dk_21 4 (dk_at dksX11_countLists_1 16 rfl rfl)
theorem dX11_countLists_41 : decode cX11_countLists 41 = .ok (.aload_n 0, 1) := dk_42 (dk_at dksX11_countLists_1 18 rfl rfl)
theorem dX11_countLists_42 : decode cX11_countLists 42 = .ok (.getfield 1054, 3) := dk_180 4 30 (dk_at dksX11_countLists_1 19 rfl rfl)
theorem dX11_countLists_45 : decode cX11_countLists 45 = .ok (.if_icmp .ge 46, 3) := dk_162 0 46 (dk_at dksX11_countLists_2 0 rfl rfl)
theorem dX11_countLists_48 : decode cX11_countLists 48 = .ok (.aload_n 0, 1) := dk_42 (dk_at dksX11_countLists_2 3 rfl rfl)
theorem dX11_countLists_49 : decode cX11_countLists 49 = .ok (.getfield 1106, 3) := dk_180 4 82 (dk_at dksX11_countLists_2 4 rfl rfl)
theorem dX11_countLists_52 : decode cX11_countLists 52 = .ok (.iload 4, 2) := dk_21 4 (dk_at dksX11_countLists_2 7 rfl rfl)
theorem dX11_countLists_54 : decode cX11_countLists 54 = .ok (.iload_n 3, 1) := dk_29 (dk_at dksX11_countLists_2 9 rfl rfl)
theorem dX11_countLists_55 : decode cX11_countLists 55 = .ok (.ifCond .eq 28, 3) := dk_153 0 28 (dk_at dksX11_countLists_2 10 rfl rfl)
theorem dX11_countLists_58 : decode cX11_countLists 58 = .ok (.aload_n 0, 1) := dk_42 (dk_at dksX11_countLists_2 13 rfl rfl)
theorem dX11_countLists_59 : decode cX11_countLists 59 = .ok (.getfield 1057, 3) := dk_180 4 33 (dk_at dksX11_countLists_2 14 rfl rfl)
theorem dX11_countLists_62 : decode cX11_countLists 62 = .ok (.iload 4, 2) := dk_21 4 (dk_at dksX11_countLists_2 17 rfl rfl)
theorem dX11_countLists_64 : decode cX11_countLists 64 = .ok (.iaload, 1) := dk_46 (dk_at dksX11_countLists_2 19 rfl rfl)
theorem dX11_countLists_65 : decode cX11_countLists 65 = .ok (.ifCond .lt 18, 3) := dk_155 0 18 (dk_at dksX11_countLists_2 20 rfl rfl)
theorem dX11_countLists_68 : decode cX11_countLists 68 = .ok (.aload_n 0, 1) := dk_42 (dk_at dksX11_countLists_2 23 rfl rfl)
theorem dX11_countLists_69 : decode cX11_countLists 69 = .ok (.getfield 1045, 3) := dk_180 4 21 (dk_at dksX11_countLists_3 0 rfl rfl)
theorem dX11_countLists_72 : decode cX11_countLists 72 = .ok (.aload_n 0, 1) := dk_42 (dk_at dksX11_countLists_3 3 rfl rfl)
theorem dX11_countLists_73 : decode cX11_countLists 73 = .ok (.getfield 1057, 3) := dk_180 4 33 (dk_at dksX11_countLists_3 4 rfl rfl)
theorem dX11_countLists_76 : decode cX11_countLists 76 = .ok (.iload 4, 2) := dk_21 4 (dk_at dksX11_countLists_3 7 rfl rfl)
theorem dX11_countLists_78 : decode cX11_countLists 78 = .ok (.iaload, 1) := dk_46 (dk_at dksX11_countLists_3 9 rfl rfl)
theorem dX11_countLists_79 : decode cX11_countLists 79 = .ok (.iaload, 1) := dk_46 (dk_at dksX11_countLists_3 10 rfl rfl)
theorem dX11_countLists_80 : decode cX11_countLists 80 = .ok (.goto 4, 3) := dk_167 0 4 (dk_at dksX11_countLists_3 11 rfl rfl)
theorem dX11_countLists_83 : decode cX11_countLists 83 = .ok (.iconst 0, 1) := dk_3 (dk_at dksX11_countLists_3 14 rfl rfl)
theorem dX11_countLists_84 : decode cX11_countLists 84 = .ok (.iastore, 1) := dk_79 (dk_at dksX11_countLists_3 15 rfl rfl)
theorem dX11_countLists_85 : decode cX11_countLists 85 = .ok (.iinc 4 1, 3) := dk_132 4 1 (dk_at dksX11_countLists_3 16 rfl rfl)
theorem dX11_countLists_88 : decode cX11_countLists 88 = .ok (.goto (-49), 3) := dk_167 255 207 (dk_at dksX11_countLists_3 19 rfl rfl)
theorem dX11_countLists_91 : decode cX11_countLists 91 = .ok (.aload_n 0, 1) := dk_42 (dk_at dksX11_countLists_3 22 rfl rfl)
theorem dX11_countLists_92 : decode cX11_countLists 92 = .ok (.iload_n 3, 1) := dk_29 (dk_at dksX11_countLists_3 23 rfl rfl)
theorem dX11_countLists_93 : decode cX11_countLists 93 = .ok (.ifCond .eq 15, 3) := dk_153 0 15 (dk_at dksX11_countLists_4 0 rfl rfl)
theorem dX11_countLists_96 : decode cX11_countLists 96 = .ok (.aload_n 0, 1) := dk_42 (dk_at dksX11_countLists_4 3 rfl rfl)
theorem dX11_countLists_97 : decode cX11_countLists 97 = .ok (.getfield 758, 3) := dk_180 2 246 (dk_at dksX11_countLists_4 4 rfl rfl)
theorem dX11_countLists_100 : decode cX11_countLists 100 = .ok (.aload_n 0, 1) := dk_42 (dk_at dksX11_countLists_4 7 rfl rfl)
theorem dX11_countLists_101 : decode cX11_countLists 101 = .ok (.getfield 1042, 3) := dk_180 4 18 (dk_at dksX11_countLists_4 8 rfl rfl)
theorem dX11_countLists_104 : decode cX11_countLists 104 = .ok (.iadd, 1) := dk_96 (dk_at dksX11_countLists_4 11 rfl rfl)
theorem dX11_countLists_105 : decode cX11_countLists 105 = .ok (.goto 4, 3) := dk_167 0 4 (dk_at dksX11_countLists_4 12 rfl rfl)
theorem dX11_countLists_108 : decode cX11_countLists 108 = .ok (.iconst 0, 1) := dk_3 (dk_at dksX11_countLists_4 15 rfl rfl)
theorem dX11_countLists_109 : decode cX11_countLists 109 = .ok (.putfield 838, 3) := dk_181 3 70 (dk_at dksX11_countLists_4 16 rfl rfl)
theorem dX11_countLists_112 : decode cX11_countLists 112 = .ok (.aload_n 0, 1) := dk_42 (dk_at dksX11_countLists_4 19 rfl rfl)
theorem dX11_countLists_113 : decode cX11_countLists 113 = .ok (.invokevirtual 1088, 3) := dk_182 4 64 (dk_at dksX11_countLists_4 20 rfl rfl)
theorem dX11_countLists_116 : decode cX11_countLists 116 = .ok (.ifCond .le 28, 3) := dk_158 0 28 (dk_at dksX11_countLists_5 0 rfl rfl)
theorem dX11_countLists_119 : decode cX11_countLists 119 = .ok (.iload_n 3, 1) := dk_29 (dk_at dksX11_countLists_5 3 rfl rfl)
theorem dX11_countLists_120 : decode cX11_countLists 120 = .ok (.ifCond .eq 10, 3) := dk_153 0 10 (dk_at dksX11_countLists_5 4 rfl rfl)
theorem dX11_countLists_123 : decode cX11_countLists 123 = .ok (.aload_n 0, 1) := dk_42 (dk_at dksX11_countLists_5 7 rfl rfl)
theorem dX11_countLists_124 : decode cX11_countLists 124 = .ok (.invokevirtual 1109, 3) := dk_182 4 85 (dk_at dksX11_countLists_5 8 rfl rfl)
theorem dX11_countLists_127 : decode cX11_countLists 127 = .ok (.goto 12, 3) := dk_167 0 12 (dk_at dksX11_countLists_5 11 rfl rfl)
theorem dX11_countLists_130 : decode cX11_countLists 130 = .ok (.aload_n 0, 1) := dk_42 (dk_at dksX11_countLists_5 14 rfl rfl)
theorem dX11_countLists_131 : decode cX11_countLists 131 = .ok (.aload_n 0, 1) := dk_42 (dk_at dksX11_countLists_5 15 rfl rfl)
theorem dX11_countLists_132 : decode cX11_countLists 132 = .ok (.getfield 758, 3) := dk_180 2 246 (dk_at dksX11_countLists_5 16 rfl rfl)
theorem dX11_countLists_135 : decode cX11_countLists 135 = .ok (.iconst 1, 1) := dk_4 (dk_at dksX11_countLists_5 19 rfl rfl)
theorem dX11_countLists_136 : decode cX11_countLists 136 = .ok (.invokevirtual 1112, 3) := dk_182 4 88 (dk_at dksX11_countLists_5 20 rfl rfl)
theorem dX11_countLists_139 : decode cX11_countLists 139 = .ok (.aload_n 0, 1) := dk_42 (dk_at dksX11_countLists_5 23 rfl rfl)
theorem dX11_countLists_140 : decode cX11_countLists 140 = .ok (.iload_n 3, 1) := dk_29 (dk_at dksX11_countLists_6 0 rfl rfl)
theorem dX11_countLists_141 : decode cX11_countLists 141 = .ok (.invokevirtual 1115, 3) := dk_182 4 91 (dk_at dksX11_countLists_6 1 rfl rfl)
theorem dX11_countLists_144 : decode cX11_countLists 144 = .ok (.aload_n 0, 1) := dk_42 (dk_at dksX11_countLists_6 4 rfl rfl)
theorem dX11_countLists_145 : decode cX11_countLists 145 = .ok (.iconst 2, 1) := dk_5 (dk_at dksX11_countLists_6 5 rfl rfl)
theorem dX11_countLists_146 : decode cX11_countLists 146 = .ok (.invokevirtual 865, 3) := dk_182 3 97 (dk_at dksX11_countLists_6 6 rfl rfl)
theorem dX11_countLists_149 : decode cX11_countLists 149 = .ok (.aload_n 0, 1) := dk_42 (dk_at dksX11_countLists_6 9 rfl rfl)
theorem dX11_countLists_150 : decode cX11_countLists 150 = .ok (.invokevirtual 868, 3) := dk_182 3 100 (dk_at dksX11_countLists_6 10 rfl rfl)
theorem dX11_countLists_153 : decode cX11_countLists 153 = .ok (.iconst 0, 1) := dk_3 (dk_at dksX11_countLists_6 13 rfl rfl)
theorem dX11_countLists_154 : decode cX11_countLists 154 = .ok (.istore 4, 2) := dk_54 4 (dk_at dksX11_countLists_6 14 rfl rfl)
theorem dX11_countLists_156 : decode cX11_countLists 156 = .ok (.iload 4, 2) := dk_21 4 (dk_at dksX11_countLists_6 16 rfl rfl)
theorem dX11_countLists_158 : decode cX11_countLists 158 = .ok (.aload_n 0, 1) := dk_42 (dk_at dksX11_countLists_6 18 rfl rfl)
theorem dX11_countLists_159 : decode cX11_countLists 159 = .ok (.getfield 755, 3) := dk_180 2 243 (dk_at dksX11_countLists_6 19 rfl rfl)
theorem dX11_countLists_162 : decode cX11_countLists 162 = .ok (.if_icmp .ge 43, 3) := dk_162 0 43 (dk_at dksX11_countLists_7 0 rfl rfl)
theorem dX11_countLists_165 : decode cX11_countLists 165 = .ok (.aload_n 0, 1) := dk_42 (dk_at dksX11_countLists_7 3 rfl rfl)
theorem dX11_countLists_166 : decode cX11_countLists 166 = .ok (.getfield 801, 3) := dk_180 3 33 (dk_at dksX11_countLists_7 4 rfl rfl)
theorem dX11_countLists_169 : decode cX11_countLists 169 = .ok (.iload 4, 2) := dk_21 4 (dk_at dksX11_countLists_7 7 rfl rfl)
theorem dX11_countLists_171 : decode cX11_countLists 171 = .ok (.aload_n 0, 1) := dk_42 (dk_at dksX11_countLists_7 9 rfl rfl)
theorem dX11_countLists_172 : decode cX11_countLists 172 = .ok (.getfield 764, 3) := dk_180 2 252 (dk_at dksX11_countLists_7 10 rfl rfl)
theorem dX11_countLists_175 : decode cX11_countLists 175 = .ok (.iload 4, 2) := dk_21 4 (dk_at dksX11_countLists_7 13 rfl rfl)
theorem dX11_countLists_177 : decode cX11_countLists 177 = .ok (.baload, 1) := dk_51 (dk_at dksX11_countLists_7 15 rfl rfl)
theorem dX11_countLists_178 : decode cX11_countLists 178 = .ok (.ifCond .eq 19, 3) := dk_153 0 19 (dk_at dksX11_countLists_7 16 rfl rfl)
theorem dX11_countLists_181 : decode cX11_countLists 181 = .ok (.aload_n 0, 1) := dk_42 (dk_at dksX11_countLists_7 19 rfl rfl)
theorem dX11_countLists_182 : decode cX11_countLists 182 = .ok (.getfield 1063, 3) := dk_180 4 39 (dk_at dksX11_countLists_7 20 rfl rfl)
theorem dX11_countLists_185 : decode cX11_countLists 185 = .ok (.aload_n 0, 1) := dk_42 (dk_at dksX11_countLists_7 23 rfl rfl)
theorem dX11_countLists_186 : decode cX11_countLists 186 = .ok (.getfield 1069, 3) := dk_180 4 45 (dk_at dksX11_countLists_8 0 rfl rfl)
theorem dX11_countLists_189 : decode cX11_countLists 189 = .ok (.iload 4, 2) := dk_21 4 (dk_at dksX11_countLists_8 3 rfl rfl)
theorem dX11_countLists_191 : decode cX11_countLists 191 = .ok (.iaload, 1) := dk_46 (dk_at dksX11_countLists_8 5 rfl rfl)
theorem dX11_countLists_192 : decode cX11_countLists 192 = .ok (.iaload, 1) := dk_46 (dk_at dksX11_countLists_8 6 rfl rfl)
theorem dX11_countLists_193 : decode cX11_countLists 193 = .ok (.i2l, 1) := dk_133 (dk_at dksX11_countLists_8 7 rfl rfl)
theorem dX11_countLists_194 : decode cX11_countLists 194 = .ok (.goto 4, 3) := dk_167 0 4 (dk_at dksX11_countLists_8 8 rfl rfl)
theorem dX11_countLists_197 : decode cX11_countLists 197 = .ok (.lconst 0, 1) := dk_9 (dk_at dksX11_countLists_8 11 rfl rfl)
theorem dX11_countLists_198 : decode cX11_countLists 198 = .ok (.lastore, 1) := dk_80 (dk_at dksX11_countLists_8 12 rfl rfl)
theorem dX11_countLists_199 : decode cX11_countLists 199 = .ok (.iinc 4 1, 3) := dk_132 4 1 (dk_at dksX11_countLists_8 13 rfl rfl)
theorem dX11_countLists_202 : decode cX11_countLists 202 = .ok (.goto (-46), 3) := dk_167 255 210 (dk_at dksX11_countLists_8 16 rfl rfl)
theorem dX11_countLists_205 : decode cX11_countLists 205 = .ok (.aload_n 0, 1) := dk_42 (dk_at dksX11_countLists_8 19 rfl rfl)
theorem dX11_countLists_206 : decode cX11_countLists 206 = .ok (.invokevirtual 868, 3) := dk_182 3 100 (dk_at dksX11_countLists_8 20 rfl rfl)
theorem dX11_countLists_209 : decode cX11_countLists 209 = .ok (.iconst 0, 1) := dk_3 (dk_at dksX11_countLists_8 23 rfl rfl)
theorem dX11_countLists_210 : decode cX11_countLists 210 = .ok (.istore 4, 2) := dk_54 4 (dk_at dksX11_countLists_9 0 rfl rfl)
theorem dX11_countLists_212 : decode cX11_countLists 212 = .ok (.iload 4, 2) := dk_21 4 (dk_at dksX11_countLists_9 2 rfl rfl)
theorem dX11_countLists_214 : decode cX11_countLists 214 = .ok (.aload_n 0, 1) := dk_42 (dk_at dksX11_countLists_9 4 rfl rfl)
theorem dX11_countLists_215 : decode cX11_countLists 215 = .ok (.getfield 755, 3) := dk_180 2 243 (dk_at dksX11_countLists_9 5 rfl rfl)
theorem dX11_countLists_218 : decode cX11_countLists 218 = .ok (.if_icmp .ge 43, 3) := dk_162 0 43 (dk_at dksX11_countLists_9 8 rfl rfl)
theorem dX11_countLists_221 : decode cX11_countLists 221 = .ok (.aload_n 0, 1) := dk_42 (dk_at dksX11_countLists_9 11 rfl rfl)
theorem dX11_countLists_222 : decode cX11_countLists 222 = .ok (.getfield 801, 3) := dk_180 3 33 (dk_at dksX11_countLists_9 12 rfl rfl)
theorem dX11_countLists_225 : decode cX11_countLists 225 = .ok (.iload 4, 2) := dk_21 4 (dk_at dksX11_countLists_9 15 rfl rfl)
theorem dX11_countLists_227 : decode cX11_countLists 227 = .ok (.aload_n 0, 1) := dk_42 (dk_at dksX11_countLists_9 17 rfl rfl)
theorem dX11_countLists_228 : decode cX11_countLists 228 = .ok (.getfield 764, 3) := dk_180 2 252 (dk_at dksX11_countLists_9 18 rfl rfl)
theorem dX11_countLists_231 : decode cX11_countLists 231 = .ok (.iload 4, 2) := dk_21 4 (dk_at dksX11_countLists_9 21 rfl rfl)
theorem dX11_countLists_233 : decode cX11_countLists 233 = .ok (.baload, 1) := dk_51 (dk_at dksX11_countLists_9 23 rfl rfl)
theorem dX11_countLists_234 : decode cX11_countLists 234 = .ok (.ifCond .eq 19, 3) := dk_153 0 19 (dk_at dksX11_countLists_10 0 rfl rfl)
theorem dX11_countLists_237 : decode cX11_countLists 237 = .ok (.aload_n 0, 1) := dk_42 (dk_at dksX11_countLists_10 3 rfl rfl)
theorem dX11_countLists_238 : decode cX11_countLists 238 = .ok (.getfield 1066, 3) := dk_180 4 42 (dk_at dksX11_countLists_10 4 rfl rfl)
theorem dX11_countLists_241 : decode cX11_countLists 241 = .ok (.aload_n 0, 1) := dk_42 (dk_at dksX11_countLists_10 7 rfl rfl)
theorem dX11_countLists_242 : decode cX11_countLists 242 = .ok (.getfield 1069, 3) := dk_180 4 45 (dk_at dksX11_countLists_10 8 rfl rfl)
theorem dX11_countLists_245 : decode cX11_countLists 245 = .ok (.iload 4, 2) := dk_21 4 (dk_at dksX11_countLists_10 11 rfl rfl)
theorem dX11_countLists_247 : decode cX11_countLists 247 = .ok (.iaload, 1) := dk_46 (dk_at dksX11_countLists_10 13 rfl rfl)
theorem dX11_countLists_248 : decode cX11_countLists 248 = .ok (.iaload, 1) := dk_46 (dk_at dksX11_countLists_10 14 rfl rfl)
theorem dX11_countLists_249 : decode cX11_countLists 249 = .ok (.i2l, 1) := dk_133 (dk_at dksX11_countLists_10 15 rfl rfl)
theorem dX11_countLists_250 : decode cX11_countLists 250 = .ok (.goto 4, 3) := dk_167 0 4 (dk_at dksX11_countLists_10 16 rfl rfl)
theorem dX11_countLists_253 : decode cX11_countLists 253 = .ok (.lconst 0, 1) := dk_9 (dk_at dksX11_countLists_10 19 rfl rfl)
theorem dX11_countLists_254 : decode cX11_countLists 254 = .ok (.lastore, 1) := dk_80 (dk_at dksX11_countLists_10 20 rfl rfl)
theorem dX11_countLists_255 : decode cX11_countLists 255 = .ok (.iinc 4 1, 3) := dk_132 4 1 (dk_at dksX11_countLists_10 21 rfl rfl)
theorem dX11_countLists_258 : decode cX11_countLists 258 = .ok (.goto (-46), 3) := dk_167 255 210 (dk_at dksX11_countLists_11 0 rfl rfl)
theorem dX11_countLists_261 : decode cX11_countLists 261 = .ok (.aload_n 0, 1) := dk_42 (dk_at dksX11_countLists_11 3 rfl rfl)
theorem dX11_countLists_262 : decode cX11_countLists 262 = .ok (.invokevirtual 868, 3) := dk_182 3 100 (dk_at dksX11_countLists_11 4 rfl rfl)
theorem dX11_countLists_265 : decode cX11_countLists 265 = .ok (.return_, 1) := dk_177 (dk_at dksX11_countLists_11 7 rfl rfl)
abbrev cX11_countFirsts : ByteArray := prog_17_method_177_code
def yX11_countFirsts : MethodName := ⟨RX11, "countFirsts", "(Z)V"⟩
def dkwX11_countFirsts_7 : List UInt8 := [132, 2, 1, 167, 255, 137, 177]
abbrev dktX11_countFirsts_7 : List UInt8 := dkwX11_countFirsts_7 ++ []
def dkwX11_countFirsts_6 : List UInt8 := [180, 4, 21, 42, 42, 180, 3, 37, 29, 46, 182, 2, 240, 92, 46, 4, 96, 79, 132, 3, 1, 167, 255, 180]
abbrev dktX11_countFirsts_6 : List UInt8 := dkwX11_countFirsts_6 ++ dktX11_countFirsts_7
def dkwX11_countFirsts_5 : List UInt8 := [180, 3, 37, 29, 46, 182, 4, 27, 4, 84, 42, 42, 180, 3, 37, 29, 46, 182, 2, 240, 155, 0, 22, 42]
abbrev dktX11_countFirsts_5 : List UInt8 := dkwX11_countFirsts_5 ++ dktX11_countFirsts_6
def dkwX11_countFirsts_4 : List UInt8 := [184, 0, 179, 162, 0, 67, 42, 89, 180, 4, 18, 4, 96, 181, 4, 18, 42, 180, 4, 24, 42, 42]
abbrev dktX11_countFirsts_4 : List UInt8 := dkwX11_countFirsts_4 ++ dktX11_countFirsts_5
def dkwX11_countFirsts_3 : List UInt8 := [27, 182, 3, 76, 42, 3, 182, 3, 97, 42, 182, 3, 103, 3, 62, 29, 42, 180, 2, 246, 42, 180, 2, 249]
abbrev dktX11_countFirsts_3 : List UInt8 := dkwX11_countFirsts_3 ++ dktX11_countFirsts_4
def dkwX11_countFirsts_2 : List UInt8 := [3, 61, 28, 42, 180, 1, 213, 162, 0, 117, 42, 28, 5, 182, 1, 229, 153, 0, 6, 167, 0, 99, 42, 28]
abbrev dktX11_countFirsts_2 : List UInt8 := dkwX11_countFirsts_2 ++ dktX11_countFirsts_3
def dkwX11_countFirsts_1 : List UInt8 := [167, 255, 240, 3, 61, 28, 16, 60, 162, 0, 16, 42, 180, 4, 24, 28, 3, 84, 132, 2, 1, 167, 255, 240]
abbrev dktX11_countFirsts_1 : List UInt8 := dkwX11_countFirsts_1 ++ dktX11_countFirsts_2
def dkwX11_countFirsts_0 : List UInt8 := [42, 3, 181, 4, 18, 3, 61, 28, 16, 8, 162, 0, 16, 42, 180, 4, 21, 28, 3, 79, 132, 2, 1]
abbrev dktX11_countFirsts_0 : List UInt8 := dkwX11_countFirsts_0 ++ dktX11_countFirsts_1
theorem dksX11_countFirsts_0 : cX11_countFirsts.data.toList.drop 0 = dktX11_countFirsts_0 := by decide +kernel
theorem dksX11_countFirsts_1 : cX11_countFirsts.data.toList.drop 23 = dktX11_countFirsts_1 := dk_seg dksX11_countFirsts_0 23 rfl rfl
theorem dksX11_countFirsts_2 : cX11_countFirsts.data.toList.drop 47 = dktX11_countFirsts_2 := dk_seg dksX11_countFirsts_1 24 rfl rfl
theorem dksX11_countFirsts_3 : cX11_countFirsts.data.toList.drop 71 = dktX11_countFirsts_3 := dk_seg dksX11_countFirsts_2 24 rfl rfl
theorem dksX11_countFirsts_4 : cX11_countFirsts.data.toList.drop 95 = dktX11_countFirsts_4 := dk_seg dksX11_countFirsts_3 24 rfl rfl
theorem dksX11_countFirsts_5 : cX11_countFirsts.data.toList.drop 117 = dktX11_countFirsts_5 := dk_seg dksX11_countFirsts_4 22 rfl rfl
theorem dksX11_countFirsts_6 : cX11_countFirsts.data.toList.drop 141 = dktX11_countFirsts_6 := dk_seg dksX11_countFirsts_5 24 rfl rfl
theorem dksX11_countFirsts_7 : cX11_countFirsts.data.toList.drop 165 = dktX11_countFirsts_7 := dk_seg dksX11_countFirsts_6 24 rfl rfl
theorem dX11_countFirsts_0 : decode cX11_countFirsts 0 = .ok (.aload_n 0, 1) := dk_42 (dk_at dksX11_countFirsts_0 0 rfl rfl)
theorem dX11_countFirsts_1 : decode cX11_countFirsts 1 = .ok (.iconst 0, 1) := dk_3 (dk_at dksX11_countFirsts_0 1 rfl rfl)
theorem dX11_countFirsts_2 : decode cX11_countFirsts 2 = .ok (.putfield 1042, 3) := dk_181 4 18 (dk_at dksX11_countFirsts_0 2 rfl rfl)
theorem dX11_countFirsts_5 : decode cX11_countFirsts 5 = .ok (.iconst 0, 1) := dk_3 (dk_at dksX11_countFirsts_0 5 rfl rfl)
theorem dX11_countFirsts_6 : decode cX11_countFirsts 6 = .ok (.istore_n 2, 1) := dk_61 (dk_at dksX11_countFirsts_0 6 rfl rfl)
theorem dX11_countFirsts_7 : decode cX11_countFirsts 7 = .ok (.iload_n 2, 1) := dk_28 (dk_at dksX11_countFirsts_0 7 rfl rfl)
theorem dX11_countFirsts_8 : decode cX11_countFirsts 8 = .ok (.bipush 8, 2) := dk_16 8 (dk_at dksX11_countFirsts_0 8 rfl rfl)
theorem dX11_countFirsts_10 : decode cX11_countFirsts 10 = .ok (.if_icmp .ge 16, 3) := dk_162 0 16 (dk_at dksX11_countFirsts_0 10 rfl rfl)
theorem dX11_countFirsts_13 : decode cX11_countFirsts 13 = .ok (.aload_n 0, 1) := dk_42 (dk_at dksX11_countFirsts_0 13 rfl rfl)
theorem dX11_countFirsts_14 : decode cX11_countFirsts 14 = .ok (.getfield 1045, 3) := dk_180 4 21 (dk_at dksX11_countFirsts_0 14 rfl rfl)
theorem dX11_countFirsts_17 : decode cX11_countFirsts 17 = .ok (.iload_n 2, 1) := dk_28 (dk_at dksX11_countFirsts_0 17 rfl rfl)
theorem dX11_countFirsts_18 : decode cX11_countFirsts 18 = .ok (.iconst 0, 1) := dk_3 (dk_at dksX11_countFirsts_0 18 rfl rfl)
theorem dX11_countFirsts_19 : decode cX11_countFirsts 19 = .ok (.iastore, 1) := dk_79 (dk_at dksX11_countFirsts_0 19 rfl rfl)
theorem dX11_countFirsts_20 : decode cX11_countFirsts 20 = .ok (.iinc 2 1, 3) := dk_132 2 1 (dk_at dksX11_countFirsts_0 20 rfl rfl)
theorem dX11_countFirsts_23 : decode cX11_countFirsts 23 = .ok (.goto (-16), 3) := dk_167 255 240 (dk_at dksX11_countFirsts_1 0 rfl rfl)
theorem dX11_countFirsts_26 : decode cX11_countFirsts 26 = .ok (.iconst 0, 1) := dk_3 (dk_at dksX11_countFirsts_1 3 rfl rfl)
theorem dX11_countFirsts_27 : decode cX11_countFirsts 27 = .ok (.istore_n 2, 1) := dk_61 (dk_at dksX11_countFirsts_1 4 rfl rfl)
theorem dX11_countFirsts_28 : decode cX11_countFirsts 28 = .ok (.iload_n 2, 1) := dk_28 (dk_at dksX11_countFirsts_1 5 rfl rfl)
theorem dX11_countFirsts_29 : decode cX11_countFirsts 29 = .ok (.bipush 60, 2) := dk_16 60 (dk_at dksX11_countFirsts_1 6 rfl rfl)
theorem dX11_countFirsts_31 : decode cX11_countFirsts 31 = .ok (.if_icmp .ge 16, 3) := dk_162 0 16 (dk_at dksX11_countFirsts_1 8 rfl rfl)
theorem dX11_countFirsts_34 : decode cX11_countFirsts 34 = .ok (.aload_n 0, 1) := dk_42 (dk_at dksX11_countFirsts_1 11 rfl rfl)
theorem dX11_countFirsts_35 : decode cX11_countFirsts 35 = .ok (.getfield 1048, 3) := dk_180 4 24 (dk_at dksX11_countFirsts_1 12 rfl rfl)
theorem dX11_countFirsts_38 : decode cX11_countFirsts 38 = .ok (.iload_n 2, 1) := dk_28 (dk_at dksX11_countFirsts_1 15 rfl rfl)
theorem dX11_countFirsts_39 : decode cX11_countFirsts 39 = .ok (.iconst 0, 1) := dk_3 (dk_at dksX11_countFirsts_1 16 rfl rfl)
theorem dX11_countFirsts_40 : decode cX11_countFirsts 40 = .ok (.bastore, 1) := dk_84 (dk_at dksX11_countFirsts_1 17 rfl rfl)
theorem dX11_countFirsts_41 : decode cX11_countFirsts 41 = .ok (.iinc 2 1, 3) := dk_132 2 1 (dk_at dksX11_countFirsts_1 18 rfl rfl)
theorem dX11_countFirsts_44 : decode cX11_countFirsts 44 = .ok (.goto (-16), 3) := dk_167 255 240 (dk_at dksX11_countFirsts_1 21 rfl rfl)
theorem dX11_countFirsts_47 : decode cX11_countFirsts 47 = .ok (.iconst 0, 1) := dk_3 (dk_at dksX11_countFirsts_2 0 rfl rfl)
theorem dX11_countFirsts_48 : decode cX11_countFirsts 48 = .ok (.istore_n 2, 1) := dk_61 (dk_at dksX11_countFirsts_2 1 rfl rfl)
theorem dX11_countFirsts_49 : decode cX11_countFirsts 49 = .ok (.iload_n 2, 1) := dk_28 (dk_at dksX11_countFirsts_2 2 rfl rfl)
theorem dX11_countFirsts_50 : decode cX11_countFirsts 50 = .ok (.aload_n 0, 1) := dk_42 (dk_at dksX11_countFirsts_2 3 rfl rfl)
theorem dX11_countFirsts_51 : decode cX11_countFirsts 51 = .ok (.getfield 469, 3) := dk_180 1 213 (dk_at dksX11_countFirsts_2 4 rfl rfl)
theorem dX11_countFirsts_54 : decode cX11_countFirsts 54 = .ok (.if_icmp .ge 117, 3) := dk_162 0 117 (dk_at dksX11_countFirsts_2 7 rfl rfl)
theorem dX11_countFirsts_57 : decode cX11_countFirsts 57 = .ok (.aload_n 0, 1) := dk_42 (dk_at dksX11_countFirsts_2 10 rfl rfl)
theorem dX11_countFirsts_58 : decode cX11_countFirsts 58 = .ok (.iload_n 2, 1) := dk_28 (dk_at dksX11_countFirsts_2 11 rfl rfl)
theorem dX11_countFirsts_59 : decode cX11_countFirsts 59 = .ok (.iconst 2, 1) := dk_5 (dk_at dksX11_countFirsts_2 12 rfl rfl)
theorem dX11_countFirsts_60 : decode cX11_countFirsts 60 = .ok (.invokevirtual 485, 3) := dk_182 1 229 (dk_at dksX11_countFirsts_2 13 rfl rfl)
theorem dX11_countFirsts_63 : decode cX11_countFirsts 63 = .ok (.ifCond .eq 6, 3) := dk_153 0 6 (dk_at dksX11_countFirsts_2 16 rfl rfl)
theorem dX11_countFirsts_66 : decode cX11_countFirsts 66 = .ok (.goto 99, 3) := dk_167 0 99 (dk_at dksX11_countFirsts_2 19 rfl rfl)
theorem dX11_countFirsts_69 : decode cX11_countFirsts 69 = .ok (.aload_n 0, 1) := dk_42 (dk_at dksX11_countFirsts_2 22 rfl rfl)
theorem dX11_countFirsts_70 : decode cX11_countFirsts 70 = .ok (.iload_n 2, 1) := dk_28 (dk_at dksX11_countFirsts_2 23 rfl rfl)
theorem dX11_countFirsts_71 : decode cX11_countFirsts 71 = .ok (.iload_n 1, 1) := dk_27 (dk_at dksX11_countFirsts_3 0 rfl rfl)
theorem dX11_countFirsts_72 : decode cX11_countFirsts 72 = .ok (.invokevirtual 844, 3) := dk_182 3 76 (dk_at dksX11_countFirsts_3 1 rfl rfl)
theorem dX11_countFirsts_75 : decode cX11_countFirsts 75 = .ok (.aload_n 0, 1) := dk_42 (dk_at dksX11_countFirsts_3 4 rfl rfl)
theorem dX11_countFirsts_76 : decode cX11_countFirsts 76 = .ok (.iconst 0, 1) := dk_3 (dk_at dksX11_countFirsts_3 5 rfl rfl)
theorem dX11_countFirsts_77 : decode cX11_countFirsts 77 = .ok (.invokevirtual 865, 3) := dk_182 3 97 (dk_at dksX11_countFirsts_3 6 rfl rfl)
theorem dX11_countFirsts_80 : decode cX11_countFirsts 80 = .ok (.aload_n 0, 1) := dk_42 (dk_at dksX11_countFirsts_3 9 rfl rfl)
theorem dX11_countFirsts_81 : decode cX11_countFirsts 81 = .ok (.invokevirtual 871, 3) := dk_182 3 103 (dk_at dksX11_countFirsts_3 10 rfl rfl)
theorem dX11_countFirsts_84 : decode cX11_countFirsts 84 = .ok (.iconst 0, 1) := dk_3 (dk_at dksX11_countFirsts_3 13 rfl rfl)
theorem dX11_countFirsts_85 : decode cX11_countFirsts 85 = .ok (.istore_n 3, 1) := dk_62 (dk_at dksX11_countFirsts_3 14 rfl rfl)
theorem dX11_countFirsts_86 : decode cX11_countFirsts 86 = .ok (.iload_n 3, 1) := dk_29 (dk_at dksX11_countFirsts_3 15 rfl rfl)
theorem dX11_countFirsts_87 : decode cX11_countFirsts 87 = .ok (.aload_n 0, 1) := dk_42 (dk_at dksX11_countFirsts_3 16 rfl rfl)
theorem dX11_countFirsts_88 : decode cX11_countFirsts 88 = .ok (.getfield 758, 3) := dk_180 2 246 (dk_at dksX11_countFirsts_3 17 rfl rfl)
theorem dX11_countFirsts_91 : decode cX11_countFirsts 91 = .ok (.aload_n 0, 1) := dk_42 (dk_at dksX11_countFirsts_3 20 rfl rfl)
theorem dX11_countFirsts_92 : decode cX11_countFirsts 92 = .ok (.getfield 761, 3) := dk_180 2 249 (dk_at dksX11_countFirsts_3 21 rfl rfl)
theorem dX11_countFirsts_95 : decode cX11_countFirsts 95 = .ok (.invokestatic 179, 3) := dk_184 0 179 (dk_at dksX11_countFirsts_4 0 rfl rfl)
theorem dX11_countFirsts_98 : decode cX11_countFirsts 98 = .ok (.if_icmp .ge 67, 3) := dk_162 0 67 (dk_at dksX11_countFirsts_4 3 rfl rfl)
theorem dX11_countFirsts_101 : decode cX11_countFirsts 101 = .ok (.aload_n 0, 1) := dk_42 (dk_at dksX11_countFirsts_4 6 rfl rfl)
theorem dX11_countFirsts_102 : decode cX11_countFirsts 102 = .ok (.dup, 1) := dk_89 (dk_at dksX11_countFirsts_4 7 rfl rfl)
theorem dX11_countFirsts_103 : decode cX11_countFirsts 103 = .ok (.getfield 1042, 3) := dk_180 4 18 (dk_at dksX11_countFirsts_4 8 rfl rfl)
theorem dX11_countFirsts_106 : decode cX11_countFirsts 106 = .ok (.iconst 1, 1) := dk_4 (dk_at dksX11_countFirsts_4 11 rfl rfl)
theorem dX11_countFirsts_107 : decode cX11_countFirsts 107 = .ok (.iadd, 1) := dk_96 (dk_at dksX11_countFirsts_4 12 rfl rfl)
theorem dX11_countFirsts_108 : decode cX11_countFirsts 108 = .ok (.putfield 1042, 3) := dk_181 4 18 (dk_at dksX11_countFirsts_4 13 rfl rfl)
theorem dX11_countFirsts_111 : decode cX11_countFirsts 111 = .ok (.aload_n 0, 1) := dk_42 (dk_at dksX11_countFirsts_4 16 rfl rfl)
theorem dX11_countFirsts_112 : decode cX11_countFirsts 112 = .ok (.getfield 1048, 3) := dk_180 4 24 (dk_at dksX11_countFirsts_4 17 rfl rfl)
theorem dX11_countFirsts_115 : decode cX11_countFirsts 115 = .ok (.aload_n 0, 1) := dk_42 (dk_at dksX11_countFirsts_4 20 rfl rfl)
theorem dX11_countFirsts_116 : decode cX11_countFirsts 116 = .ok (.aload_n 0, 1) := dk_42 (dk_at dksX11_countFirsts_4 21 rfl rfl)
theorem dX11_countFirsts_117 : decode cX11_countFirsts 117 = .ok (.getfield 805, 3) := dk_180 3 37 (dk_at dksX11_countFirsts_5 0 rfl rfl)
theorem dX11_countFirsts_120 : decode cX11_countFirsts 120 = .ok (.iload_n 3, 1) := dk_29 (dk_at dksX11_countFirsts_5 3 rfl rfl)
theorem dX11_countFirsts_121 : decode cX11_countFirsts 121 = .ok (.iaload, 1) := dk_46 (dk_at dksX11_countFirsts_5 4 rfl rfl)
theorem dX11_countFirsts_122 : decode cX11_countFirsts 122 = .ok (.invokevirtual 1051, 3) := dk_182 4 27 (dk_at dksX11_countFirsts_5 5 rfl rfl)
theorem dX11_countFirsts_125 : decode cX11_countFirsts 125 = .ok (.iconst 1, 1) := dk_4 (dk_at dksX11_countFirsts_5 8 rfl rfl)
theorem dX11_countFirsts_126 : decode cX11_countFirsts 126 = .ok (.bastore, 1) := dk_84 (dk_at dksX11_countFirsts_5 9 rfl rfl)
theorem dX11_countFirsts_127 : decode cX11_countFirsts 127 = .ok (.aload_n 0, 1) := dk_42 (dk_at dksX11_countFirsts_5 10 rfl rfl)
theorem dX11_countFirsts_128 : decode cX11_countFirsts 128 = .ok (.aload_n 0, 1) := dk_42 (dk_at dksX11_countFirsts_5 11 rfl rfl)
theorem dX11_countFirsts_129 : decode cX11_countFirsts 129 = .ok (.getfield 805, 3) := dk_180 3 37 (dk_at dksX11_countFirsts_5 12 rfl rfl)
theorem dX11_countFirsts_132 : decode cX11_countFirsts 132 = .ok (.iload_n 3, 1) := dk_29 (dk_at dksX11_countFirsts_5 15 rfl rfl)
theorem dX11_countFirsts_133 : decode cX11_countFirsts 133 = .ok (.iaload, 1) := dk_46 (dk_at dksX11_countFirsts_5 16 rfl rfl)
theorem dX11_countFirsts_134 : decode cX11_countFirsts 134 = .ok (.invokevirtual 752, 3) := dk_182 2 240 (dk_at dksX11_countFirsts_5 17 rfl rfl)
theorem dX11_countFirsts_137 : decode cX11_countFirsts 137 = .ok (.ifCond .lt 22, 3) := dk_155 0 22 (dk_at dksX11_countFirsts_5 20 rfl rfl)
theorem dX11_countFirsts_140 : decode cX11_countFirsts 140 = .ok (.aload_n 0, 1) := dk_42 (dk_at dksX11_countFirsts_5 23 rfl rfl)
theorem dX11_countFirsts_141 : decode cX11_countFirsts 141 = .ok (.getfield 1045, 3) := dk_180 4 21 (dk_at dksX11_countFirsts_6 0 rfl rfl)
theorem dX11_countFirsts_144 : decode cX11_countFirsts 144 = .ok (.aload_n 0, 1) := dk_42 (dk_at dksX11_countFirsts_6 3 rfl rfl)
theorem dX11_countFirsts_145 : decode cX11_countFirsts 145 = .ok (.aload_n 0, 1) := dk_42 (dk_at dksX11_countFirsts_6 4 rfl rfl)
theorem dX11_countFirsts_146 : decode cX11_countFirsts 146 = .ok (.getfield 805, 3) := dk_180 3 37 (dk_at dksX11_countFirsts_6 5 rfl rfl)
theorem dX11_countFirsts_149 : decode cX11_countFirsts 149 = .ok (.iload_n 3, 1) := dk_29 (dk_at dksX11_countFirsts_6 8 rfl rfl)
theorem dX11_countFirsts_150 : decode cX11_countFirsts 150 = .ok (.iaload, 1) := dk_46 (dk_at dksX11_countFirsts_6 9 rfl rfl)
theorem dX11_countFirsts_151 : decode cX11_countFirsts 151 = .ok (.invokevirtual 752, 3) := dk_182 2 240 (dk_at dksX11_countFirsts_6 10 rfl rfl)
theorem dX11_countFirsts_154 : decode cX11_countFirsts 154 = .ok (.dup2, 1) := dk_92 (dk_at dksX11_countFirsts_6 13 rfl rfl)
theorem dX11_countFirsts_155 : decode cX11_countFirsts 155 = .ok (.iaload, 1) := dk_46 (dk_at dksX11_countFirsts_6 14 rfl rfl)
theorem dX11_countFirsts_156 : decode cX11_countFirsts 156 = .ok (.iconst 1, 1) := dk_4 (dk_at dksX11_countFirsts_6 15 rfl rfl)
theorem dX11_countFirsts_157 : decode cX11_countFirsts 157 = .ok (.iadd, 1) := dk_96 (dk_at dksX11_countFirsts_6 16 rfl rfl)
theorem dX11_countFirsts_158 : decode cX11_countFirsts 158 = .ok (.iastore, 1) := dk_79 (dk_at dksX11_countFirsts_6 17 rfl rfl)
theorem dX11_countFirsts_159 : decode cX11_countFirsts 159 = .ok (.iinc 3 1, 3) := dk_132 3 1 (dk_at dksX11_countFirsts_6 18 rfl rfl)
theorem dX11_countFirsts_162 : decode cX11_countFirsts 162 = .ok (.goto (-76), 3) := dk_167 255 180 (dk_at dksX11_countFirsts_6 21 rfl rfl)
theorem dX11_countFirsts_165 : decode cX11_countFirsts 165 = .ok (.iinc 2 1, 3) := dk_132 2 1 (dk_at dksX11_countFirsts_7 0 rfl rfl)
theorem dX11_countFirsts_168 : decode cX11_countFirsts 168 = .ok (.goto (-119), 3) := dk_167 255 137 (dk_at dksX11_countFirsts_7 3 rfl rfl)
theorem dX11_countFirsts_171 : decode cX11_countFirsts 171 = .ok (.return_, 1) := dk_177 (dk_at dksX11_countFirsts_7 6 rfl rfl)
abbrev cX11_gather : ByteArray := prog_17_method_131_code
def yX11_gather : MethodName := ⟨RX11, "gather", "(IZ)V"⟩
def dkwX11_gather_9 : List UInt8 := [132, 3, 1, 167, 255, 144, 177]
abbrev dktX11_gather_9 : List UInt8 := dkwX11_gather_9 ++ []
def dkwX11_gather_8 : List UInt8 := [21, 5, 46, 4, 27, 120, 4, 100, 126, 182, 2, 207, 96, 182, 3, 8, 132, 4, 1, 167, 255, 159]
abbrev dktX11_gather_8 : List UInt8 := dkwX11_gather_8 ++ dktX11_gather_9
def dkwX11_gather_7 : List UInt8 := [153, 0, 10, 42, 180, 2, 210, 167, 0, 7, 42, 180, 2, 213, 16, 54, 21, 5, 104, 42, 42, 180, 2, 185]
abbrev dktX11_gather_7 : List UInt8 := dkwX11_gather_7 ++ dktX11_gather_8
def dkwX11_gather_6 : List UInt8 := [46, 54, 5, 42, 180, 2, 185, 21, 5, 46, 27, 122, 4, 126, 154, 0, 6, 167, 0, 45, 42, 28]
abbrev dktX11_gather_6 : List UInt8 := dkwX11_gather_6 ++ dktX11_gather_7
def dkwX11_gather_5 : List UInt8 := [162, 0, 92, 42, 180, 2, 43, 29, 51, 154, 0, 83, 42, 180, 2, 228, 17, 0, 200, 29, 104, 21, 4, 96]
abbrev dktX11_gather_5 : List UInt8 := dkwX11_gather_5 ++ dktX11_gather_6
def dkwX11_gather_4 : List UInt8 := [181, 3, 5, 3, 62, 29, 16, 7, 162, 0, 112, 3, 54, 4, 21, 4, 42, 180, 2, 37, 29, 46]
abbrev dktX11_gather_4 : List UInt8 := dkwX11_gather_4 ++ dktX11_gather_5
def dkwX11_gather_3 : List UInt8 := [167, 0, 4, 3, 84, 132, 3, 1, 167, 255, 220, 42, 3, 181, 2, 255, 42, 3, 181, 3, 2, 42, 3]
abbrev dktX11_gather_3 : List UInt8 := dkwX11_gather_3 ++ dktX11_gather_4
def dkwX11_gather_2 : List UInt8 := [162, 0, 34, 42, 180, 2, 252, 29, 42, 180, 2, 55, 16, 9, 27, 104, 29, 96, 51, 154, 0, 7, 4]
abbrev dktX11_gather_2 : List UInt8 := dkwX11_gather_2 ++ dktX11_gather_3
def dkwX11_gather_1 : List UInt8 := [181, 2, 246, 42, 42, 180, 2, 243, 42, 27, 182, 1, 235, 100, 181, 2, 249, 3, 62, 29, 42, 180, 2, 243]
abbrev dktX11_gather_1 : List UInt8 := dkwX11_gather_1 ++ dktX11_gather_2
def dkwX11_gather_0 : List UInt8 := [42, 27, 181, 2, 237, 42, 42, 180, 1, 232, 27, 46, 181, 2, 243, 42, 42, 27, 4, 182, 1, 229]
abbrev dktX11_gather_0 : List UInt8 := dkwX11_gather_0 ++ dktX11_gather_1
theorem dksX11_gather_0 : cX11_gather.data.toList.drop 0 = dktX11_gather_0 := by decide +kernel
theorem dksX11_gather_1 : cX11_gather.data.toList.drop 22 = dktX11_gather_1 := dk_seg dksX11_gather_0 22 rfl rfl
theorem dksX11_gather_2 : cX11_gather.data.toList.drop 46 = dktX11_gather_2 := dk_seg dksX11_gather_1 24 rfl rfl
theorem dksX11_gather_3 : cX11_gather.data.toList.drop 69 = dktX11_gather_3 := dk_seg dksX11_gather_2 23 rfl rfl
theorem dksX11_gather_4 : cX11_gather.data.toList.drop 92 = dktX11_gather_4 := dk_seg dksX11_gather_3 23 rfl rfl
theorem dksX11_gather_5 : cX11_gather.data.toList.drop 114 = dktX11_gather_5 := dk_seg dksX11_gather_4 22 rfl rfl
theorem dksX11_gather_6 : cX11_gather.data.toList.drop 138 = dktX11_gather_6 := dk_seg dksX11_gather_5 24 rfl rfl
theorem dksX11_gather_7 : cX11_gather.data.toList.drop 160 = dktX11_gather_7 := dk_seg dksX11_gather_6 22 rfl rfl
theorem dksX11_gather_8 : cX11_gather.data.toList.drop 184 = dktX11_gather_8 := dk_seg dksX11_gather_7 24 rfl rfl
theorem dksX11_gather_9 : cX11_gather.data.toList.drop 206 = dktX11_gather_9 := dk_seg dksX11_gather_8 22 rfl rfl
theorem dX11_gather_0 : decode cX11_gather 0 = .ok (.aload_n 0, 1) := dk_42 (dk_at dksX11_gather_0 0 rfl rfl)
theorem dX11_gather_1 : decode cX11_gather 1 = .ok (.iload_n 1, 1) := dk_27 (dk_at dksX11_gather_0 1 rfl rfl)
theorem dX11_gather_2 : decode cX11_gather 2 = .ok (.putfield 749, 3) := dk_181 2 237 (dk_at dksX11_gather_0 2 rfl rfl)
theorem dX11_gather_5 : decode cX11_gather 5 = .ok (.aload_n 0, 1) := dk_42 (dk_at dksX11_gather_0 5 rfl rfl)
theorem dX11_gather_6 : decode cX11_gather 6 = .ok (.aload_n 0, 1) := dk_42 (dk_at dksX11_gather_0 6 rfl rfl)
theorem dX11_gather_7 : decode cX11_gather 7 = .ok (.getfield 488, 3) := dk_180 1 232 (dk_at dksX11_gather_0 7 rfl rfl)
theorem dX11_gather_10 : decode cX11_gather 10 = .ok (.iload_n 1, 1) := dk_27 (dk_at dksX11_gather_0 10 rfl rfl)
theorem dX11_gather_11 : decode cX11_gather 11 = .ok (.iaload, 1) := dk_46 (dk_at dksX11_gather_0 11 rfl rfl)
theorem dX11_gather_12 : decode cX11_gather 12 = .ok (.putfield 755, 3) := dk_181 2 243 (dk_at dksX11_gather_0 12 rfl rfl)
theorem dX11_gather_15 : decode cX11_gather 15 = .ok (.aload_n 0, 1) := dk_42 (dk_at dksX11_gather_0 15 rfl rfl)
theorem dX11_gather_16 : decode cX11_gather 16 = .ok (.aload_n 0, 1) := dk_42 (dk_at dksX11_gather_0 16 rfl rfl)
theorem dX11_gather_17 : decode cX11_gather 17 = .ok (.iload_n 1, 1) := dk_27 (dk_at dksX11_gather_0 17 rfl rfl)
theorem dX11_gather_18 : decode cX11_gather 18 = .ok (.iconst 1, 1) := dk_4 (dk_at dksX11_gather_0 18 rfl rfl)
theorem dX11_gather_19 : decode cX11_gather 19 = .ok (.invokevirtual 485, 3) := dk_182 1 229 (dk_at dksX11_gather_0 19 rfl rfl)
theorem dX11_gather_22 : decode cX11_gather 22 = .ok (.putfield 758, 3) := dk_181 2 246 (dk_at dksX11_gather_1 0 rfl rfl)
theorem dX11_gather_25 : decode cX11_gather 25 = .ok (.aload_n 0, 1) := dk_42 (dk_at dksX11_gather_1 3 rfl rfl)
theorem dX11_gather_26 : decode cX11_gather 26 = .ok (.aload_n 0, 1) := dk_42 (dk_at dksX11_gather_1 4 rfl rfl)
theorem dX11_gather_27 : decode cX11_gather 27 = .ok (.getfield 755, 3) := dk_180 2 243 (dk_at dksX11_gather_1 5 rfl rfl)
theorem dX11_gather_30 : decode cX11_gather 30 = .ok (.aload_n 0, 1) := dk_42 (dk_at dksX11_gather_1 8 rfl rfl)
theorem dX11_gather_31 : decode cX11_gather 31 = .ok (.iload_n 1, 1) := dk_27 (dk_at dksX11_gather_1 9 rfl rfl)
theorem dX11_gather_32 : decode cX11_gather 32 = .ok (.invokevirtual 491, 3) := dk_182 1 235 (dk_at dksX11_gather_1 10 rfl rfl)
theorem dX11_gather_35 : decode cX11_gather 35 = .ok (.isub, 1) := dk_100 (dk_at dksX11_gather_1 13 rfl rfl)
theorem dX11_gather_36 : decode cX11_gather 36 = .ok (.putfield 761, 3) := dk_181 2 249 (dk_at dksX11_gather_1 14 rfl rfl)
theorem dX11_gather_39 : decode cX11_gather 39 = .ok (.iconst 0, 1) := dk_3 (dk_at dksX11_gather_1 17 rfl rfl)
theorem dX11_gather_40 : decode cX11_gather 40 = .ok (.istore_n 3, 1) := dk_62 (dk_at dksX11_gather_1 18 rfl rfl)
theorem dX11_gather_41 : decode cX11_gather 41 = .ok (.iload_n 3, 1) := dk_29 (dk_at dksX11_gather_1 19 rfl rfl)
theorem dX11_gather_42 : decode cX11_gather 42 = .ok (.aload_n 0, 1) := dk_42 (dk_at dksX11_gather_1 20 rfl rfl)
theorem dX11_gather_43 : decode cX11_gather 43 = .ok (.getfield 755, 3) := dk_180 2 243 (dk_at dksX11_gather_1 21 rfl rfl)
theorem dX11_gather_46 : decode cX11_gather 46 = .ok (.if_icmp .ge 34, 3) := dk_162 0 34 (dk_at dksX11_gather_2 0 rfl rfl)
theorem dX11_gather_49 : decode cX11_gather 49 = .ok (.aload_n 0, 1) := dk_42 (dk_at dksX11_gather_2 3 rfl rfl)
theorem dX11_gather_50 : decode cX11_gather 50 = .ok (.getfield 764, 3) := dk_180 2 252 (dk_at dksX11_gather_2 4 rfl rfl)
theorem dX11_gather_53 : decode cX11_gather 53 = .ok (.iload_n 3, 1) := dk_29 (dk_at dksX11_gather_2 7 rfl rfl)
theorem dX11_gather_54 : decode cX11_gather 54 = .ok (.aload_n 0, 1) := dk_42 (dk_at dksX11_gather_2 8 rfl rfl)
theorem dX11_gather_55 : decode cX11_gather 55 = .ok (.getfield 567, 3) := dk_180 2 55 (dk_at dksX11_gather_2 9 rfl rfl)
theorem dX11_gather_58 : decode cX11_gather 58 = .ok (.bipush 9, 2) := dk_16 9 (dk_at dksX11_gather_2 12 rfl rfl)
theorem dX11_gather_60 : decode cX11_gather 60 = .ok (.iload_n 1, 1) := dk_27 (dk_at dksX11_gather_2 14 rfl rfl)
theorem dX11_gather_61 : decode cX11_gather 61 = .ok (.imul, 1) := dk_104 (dk_at dksX11_gather_2 15 rfl rfl)
theorem dX11_gather_62 : decode cX11_gather 62 = .ok (.iload_n 3, 1) := dk_29 (dk_at dksX11_gather_2 16 rfl rfl)
theorem dX11_gather_63 : decode cX11_gather 63 = .ok (.iadd, 1) := dk_96 (dk_at dksX11_gather_2 17 rfl rfl)
theorem dX11_gather_64 : decode cX11_gather 64 = .ok (.baload, 1) := dk_51 (dk_at dksX11_gather_2 18 rfl rfl)
theorem dX11_gather_65 : decode cX11_gather 65 = .ok (.ifCond .ne 7, 3) := dk_154 0 7 (dk_at dksX11_gather_2 19 rfl rfl)
theorem dX11_gather_68 : decode cX11_gather 68 = .ok (.iconst 1, 1) := dk_4 (dk_at dksX11_gather_2 22 rfl rfl)
theorem dX11_gather_69 : decode cX11_gather 69 = .ok (.goto 4, 3) := dk_167 0 4 (dk_at dksX11_gather_3 0 rfl rfl)
theorem dX11_gather_72 : decode cX11_gather 72 = .ok (.iconst 0, 1) := dk_3 (dk_at dksX11_gather_3 3 rfl rfl)
theorem dX11_gather_73 : decode cX11_gather 73 = .ok (.bastore, 1) := dk_84 (dk_at dksX11_gather_3 4 rfl rfl)
theorem dX11_gather_74 : decode cX11_gather 74 = .ok (.iinc 3 1, 3) := dk_132 3 1 (dk_at dksX11_gather_3 5 rfl rfl)
theorem dX11_gather_77 : decode cX11_gather 77 = .ok (.goto (-36), 3) := dk_167 255 220 (dk_at dksX11_gather_3 8 rfl rfl)
theorem dX11_gather_80 : decode cX11_gather 80 = .ok (.aload_n 0, 1) := dk_42 (dk_at dksX11_gather_3 11 rfl rfl)
theorem dX11_gather_81 : decode cX11_gather 81 = .ok (.iconst 0, 1) := dk_3 (dk_at dksX11_gather_3 12 rfl rfl)
theorem dX11_gather_82 : decode cX11_gather 82 = .ok (.putfield 767, 3) := dk_181 2 255 (dk_at dksX11_gather_3 13 rfl rfl)
theorem dX11_gather_85 : decode cX11_gather 85 = .ok (.aload_n 0, 1) := dk_42 (dk_at dksX11_gather_3 16 rfl rfl)
theorem dX11_gather_86 : decode cX11_gather 86 = .ok (.iconst 0, 1) := dk_3 (dk_at dksX11_gather_3 17 rfl rfl)
theorem dX11_gather_87 : decode cX11_gather 87 = .ok (.putfield 770, 3) := dk_181 3 2 (dk_at dksX11_gather_3 18 rfl rfl)
theorem dX11_gather_90 : decode cX11_gather 90 = .ok (.aload_n 0, 1) := dk_42 (dk_at dksX11_gather_3 21 rfl rfl)
theorem dX11_gather_91 : decode cX11_gather 91 = .ok (.iconst 0, 1) := dk_3 (dk_at dksX11_gather_3 22 rfl rfl)
theorem dX11_gather_92 : decode cX11_gather 92 = .ok (.putfield 773, 3) := dk_181 3 5 (dk_at dksX11_gather_4 0 rfl rfl)
theorem dX11_gather_95 : decode cX11_gather 95 = .ok (.iconst 0, 1) := dk_3 (dk_at dksX11_gather_4 3 rfl rfl)
theorem dX11_gather_96 : decode cX11_gather 96 = .ok (.istore_n 3, 1) := dk_62 (dk_at dksX11_gather_4 4 rfl rfl)
theorem dX11_gather_97 : decode cX11_gather 97 = .ok (.iload_n 3, 1) := dk_29 (dk_at dksX11_gather_4 5 rfl rfl)
theorem dX11_gather_98 : decode cX11_gather 98 = .ok (.bipush 7, 2) := dk_16 7 (dk_at dksX11_gather_4 6 rfl rfl)
theorem dX11_gather_100 : decode cX11_gather 100 = .ok (.if_icmp .ge 112, 3) := dk_162 0 112 (dk_at dksX11_gather_4 8 rfl rfl)
theorem dX11_gather_103 : decode cX11_gather 103 = .ok (.iconst 0, 1) := dk_3 (dk_at dksX11_gather_4 11 rfl rfl)
theorem dX11_gather_104 : decode cX11_gather 104 = .ok (.istore 4, 2) := dk_54 4 (dk_at dksX11_gather_4 12 rfl rfl)
theorem dX11_gather_106 : decode cX11_gather 106 = .ok (.iload 4, 2) := dk_21 4 (dk_at dksX11_gather_4 14 rfl rfl)
theorem dX11_gather_108 : decode cX11_gather 108 = .ok (.aload_n 0, 1) := dk_42 (dk_at dksX11_gather_4 16 rfl rfl)
theorem dX11_gather_109 : decode cX11_gather 109 = .ok (.getfield 549, 3) := dk_180 2 37 (dk_at dksX11_gather_4 17 rfl rfl)
theorem dX11_gather_112 : decode cX11_gather 112 = .ok (.iload_n 3, 1) := dk_29 (dk_at dksX11_gather_4 20 rfl rfl)
theorem dX11_gather_113 : decode cX11_gather 113 = .ok (.iaload, 1) := dk_46 (dk_at dksX11_gather_4 21 rfl rfl)
theorem dX11_gather_114 : decode cX11_gather 114 = .ok (.if_icmp .ge 92, 3) := dk_162 0 92 (dk_at dksX11_gather_5 0 rfl rfl)
theorem dX11_gather_117 : decode cX11_gather 117 = .ok (.aload_n 0, 1) := dk_42 (dk_at dksX11_gather_5 3 rfl rfl)
theorem dX11_gather_118 : decode cX11_gather 118 = .ok (.getfield 555, 3) := dk_180 2 43 (dk_at dksX11_gather_5 4 rfl rfl)
theorem dX11_gather_121 : decode cX11_gather 121 = .ok (.iload_n 3, 1) := dk_29 (dk_at dksX11_gather_5 7 rfl rfl)
theorem dX11_gather_122 : decode cX11_gather 122 = .ok (.baload, 1) := dk_51 (dk_at dksX11_gather_5 8 rfl rfl)
theorem dX11_gather_123 : decode cX11_gather 123 = .ok (.ifCond .ne 83, 3) := dk_154 0 83 (dk_at dksX11_gather_5 9 rfl rfl)
theorem dX11_gather_126 : decode cX11_gather 126 = .ok (.aload_n 0, 1) := dk_42 (dk_at dksX11_gather_5 12 rfl rfl)
theorem dX11_gather_127 : decode cX11_gather 127 = .ok (.getfield 740, 3) := dk_180 2 228 (dk_at dksX11_gather_5 13 rfl rfl)
theorem dX11_gather_130 : decode cX11_gather 130 = .ok (.sipush 200, 3) := dk_17 0 200 (dk_at dksX11_gather_5 16 rfl rfl)
theorem dX11_gather_133 : decode cX11_gather 133 = .ok (.iload_n 3, 1) := dk_29 (dk_at dksX11_gather_5 19 rfl rfl)
theorem dX11_gather_134 : decode cX11_gather 134 = .ok (.imul, 1) := dk_104 (dk_at dksX11_gather_5 20 rfl rfl)
theorem dX11_gather_135 : decode cX11_gather 135 = .ok (.iload 4, 2) := dk_21 4 (dk_at dksX11_gather_5 21 rfl rfl)
theorem dX11_gather_137 : decode cX11_gather 137 = .ok (.iadd, 1) := dk_96 (dk_at dksX11_gather_5 23 rfl rfl)
theorem dX11_gather_138 : decode cX11_gather 138 = .ok (.iaload, 1) := dk_46 (dk_at dksX11_gather_6 0 rfl rfl)
theorem dX11_gather_139 : decode cX11_gather 139 = .ok (.istore 5, 2) := dk_54 5 (dk_at dksX11_gather_6 1 rfl rfl)
theorem dX11_gather_141 : decode cX11_gather 141 = .ok (.aload_n 0, 1) := dk_42 (dk_at dksX11_gather_6 3 rfl rfl)
theorem dX11_gather_142 : decode cX11_gather 142 = .ok (.getfield 697, 3) := dk_180 2 185 (dk_at dksX11_gather_6 4 rfl rfl)
theorem dX11_gather_145 : decode cX11_gather 145 = .ok (.iload 5, 2) := dk_21 5 (dk_at dksX11_gather_6 7 rfl rfl)
theorem dX11_gather_147 : decode cX11_gather 147 = .ok (.iaload, 1) := dk_46 (dk_at dksX11_gather_6 9 rfl rfl)
theorem dX11_gather_148 : decode cX11_gather 148 = .ok (.iload_n 1, 1) := dk_27 (dk_at dksX11_gather_6 10 rfl rfl)
theorem dX11_gather_149 : decode cX11_gather 149 = .ok (.ishr, 1) := dk_122 (dk_at dksX11_gather_6 11 rfl rfl)
theorem dX11_gather_150 : decode cX11_gather 150 = .ok (.iconst 1, 1) := dk_4 (dk_at dksX11_gather_6 12 rfl rfl)
theorem dX11_gather_151 : decode cX11_gather 151 = .ok (.iand, 1) := dk_126 (dk_at dksX11_gather_6 13 rfl rfl)
theorem dX11_gather_152 : decode cX11_gather 152 = .ok (.ifCond .ne 6, 3) := dk_154 0 6 (dk_at dksX11_gather_6 14 rfl rfl)
theorem dX11_gather_155 : decode cX11_gather 155 = .ok (.goto 45, 3) := dk_167 0 45 (dk_at dksX11_gather_6 17 rfl rfl)
theorem dX11_gather_158 : decode cX11_gather 158 = .ok (.aload_n 0, 1) := dk_42 (dk_at dksX11_gather_6 20 rfl rfl)
theorem dX11_gather_159 : decode cX11_gather 159 = .ok (.iload_n 2, 1) := dk_28 (dk_at dksX11_gather_6 21 rfl rfl)
theorem dX11_gather_160 : decode cX11_gather 160 = .ok (.ifCond .eq 10, 3) := dk_153 0 10 (dk_at dksX11_gather_7 0 rfl rfl)
theorem dX11_gather_163 : decode cX11_gather 163 = .ok (.aload_n 0, 1) := dk_42 (dk_at dksX11_gather_7 3 rfl rfl)
theorem dX11_gather_164 : decode cX11_gather 164 = .ok (.getfield 722, 3) := dk_180 2 210 (dk_at dksX11_gather_7 4 rfl rfl)
theorem dX11_gather_167 : decode cX11_gather 167 = .ok (.goto 7, 3) := dk_167 0 7 (dk_at dksX11_gather_7 7 rfl rfl)
theorem dX11_gather_170 : decode cX11_gather 170 = .ok (.aload_n 0, 1) := dk_42 (dk_at dksX11_gather_7 10 rfl rfl)
theorem dX11_gather_171 : decode cX11_gather 171 = .ok (.getfield 725, 3) := dk_180 2 213 (dk_at dksX11_gather_7 11 rfl rfl)
theorem dX11_gather_174 : decode cX11_gather 174 = .ok (.bipush 54, 2) := dk_16 54 (dk_at dksX11_gather_7 14 rfl rfl)
theorem dX11_gather_176 : decode cX11_gather 176 = .ok (.iload 5, 2) := dk_21 5 (dk_at dksX11_gather_7 16 rfl rfl)
theorem dX11_gather_178 : decode cX11_gather 178 = .ok (.imul, 1) := dk_104 (dk_at dksX11_gather_7 18 rfl rfl)
theorem dX11_gather_179 : decode cX11_gather 179 = .ok (.aload_n 0, 1) := dk_42 (dk_at dksX11_gather_7 19 rfl rfl)
theorem dX11_gather_180 : decode cX11_gather 180 = .ok (.aload_n 0, 1) := dk_42 (dk_at dksX11_gather_7 20 rfl rfl)
theorem dX11_gather_181 : decode cX11_gather 181 = .ok (.getfield 697, 3) := dk_180 2 185 (dk_at dksX11_gather_7 21 rfl rfl)
theorem dX11_gather_184 : decode cX11_gather 184 = .ok (.iload 5, 2) := dk_21 5 (dk_at dksX11_gather_8 0 rfl rfl)
theorem dX11_gather_186 : decode cX11_gather 186 = .ok (.iaload, 1) := dk_46 (dk_at dksX11_gather_8 2 rfl rfl)
theorem dX11_gather_187 : decode cX11_gather 187 = .ok (.iconst 1, 1) := dk_4 (dk_at dksX11_gather_8 3 rfl rfl)
theorem dX11_gather_188 : decode cX11_gather 188 = .ok (.iload_n 1, 1) := dk_27 (dk_at dksX11_gather_8 4 rfl rfl)
theorem dX11_gather_189 : decode cX11_gather 189 = .ok (.ishl, 1) := dk_120 (dk_at dksX11_gather_8 5 rfl rfl)
theorem dX11_gather_190 : decode cX11_gather 190 = .ok (.iconst 1, 1) := dk_4 (dk_at dksX11_gather_8 6 rfl rfl)
theorem dX11_gather_191 : decode cX11_gather 191 = .ok (.isub, 1) := dk_100 (dk_at dksX11_gather_8 7 rfl rfl)
theorem dX11_gather_192 : decode cX11_gather 192 = .ok (.iand, 1) := dk_126 (dk_at dksX11_gather_8 8 rfl rfl)
theorem dX11_gather_193 : decode cX11_gather 193 = .ok (.invokevirtual 719, 3) := dk_182 2 207 (dk_at dksX11_gather_8 9 rfl rfl)
theorem dX11_gather_196 : decode cX11_gather 196 = .ok (.iadd, 1) := dk_96 (dk_at dksX11_gather_8 12 rfl rfl)
theorem dX11_gather_197 : decode cX11_gather 197 = .ok (.invokevirtual 776, 3) := dk_182 3 8 (dk_at dksX11_gather_8 13 rfl rfl)
theorem dX11_gather_200 : decode cX11_gather 200 = .ok (.iinc 4 1, 3) := dk_132 4 1 (dk_at dksX11_gather_8 16 rfl rfl)
theorem dX11_gather_203 : decode cX11_gather 203 = .ok (.goto (-97), 3) := dk_167 255 159 (dk_at dksX11_gather_8 19 rfl rfl)
theorem dX11_gather_206 : decode cX11_gather 206 = .ok (.iinc 3 1, 3) := dk_132 3 1 (dk_at dksX11_gather_9 0 rfl rfl)
theorem dX11_gather_209 : decode cX11_gather 209 = .ok (.goto (-112), 3) := dk_167 255 144 (dk_at dksX11_gather_9 3 rfl rfl)
theorem dX11_gather_212 : decode cX11_gather 212 = .ok (.return_, 1) := dk_177 (dk_at dksX11_gather_9 6 rfl rfl)
