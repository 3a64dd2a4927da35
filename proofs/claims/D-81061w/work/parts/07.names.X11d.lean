set_option maxRecDepth 100000
abbrev cX11_isUnder : ByteArray := prog_17_method_171_code
def yX11_isUnder : MethodName := ⟨RX11, "isUnder", "(II)Z"⟩
def dkwX11_isUnder_4 : List UInt8 := [153, 0, 5, 4, 172, 132, 3, 1, 167, 255, 154, 3, 172]
abbrev dktX11_isUnder_4 : List UInt8 := dkwX11_isUnder_4 ++ []
def dkwX11_isUnder_3 : List UInt8 := [29, 96, 46, 164, 0, 7, 4, 167, 0, 13, 3, 167, 0, 9, 42, 29, 27, 182, 4, 4, 54, 4, 21, 4]
abbrev dktX11_isUnder_3 : List UInt8 := dkwX11_isUnder_3 ++ dktX11_isUnder_4
def dkwX11_isUnder_2 : List UInt8 := [16, 9, 160, 0, 36, 42, 180, 4, 1, 16, 9, 29, 104, 27, 96, 46, 42, 180, 4, 1, 16, 9, 27, 104]
abbrev dktX11_isUnder_2 : List UInt8 := dkwX11_isUnder_2 ++ dktX11_isUnder_3
def dkwX11_isUnder_1 : List UInt8 := [167, 0, 77, 28, 16, 8, 160, 0, 17, 42, 180, 3, 254, 16, 9, 29, 104, 27, 96, 51, 167, 0, 48, 28]
abbrev dktX11_isUnder_1 : List UInt8 := dkwX11_isUnder_1 ++ dktX11_isUnder_2
def dkwX11_isUnder_0 : List UInt8 := [3, 62, 29, 42, 180, 2, 243, 162, 0, 100, 42, 180, 3, 141, 29, 46, 154, 0, 85, 29, 27, 160, 0, 6]
abbrev dktX11_isUnder_0 : List UInt8 := dkwX11_isUnder_0 ++ dktX11_isUnder_1
theorem dksX11_isUnder_0 : cX11_isUnder.data.toList.drop 0 = dktX11_isUnder_0 := by decide +kernel
theorem dksX11_isUnder_1 : cX11_isUnder.data.toList.drop 24 = dktX11_isUnder_1 := dk_seg dksX11_isUnder_0 24 rfl rfl
theorem dksX11_isUnder_2 : cX11_isUnder.data.toList.drop 48 = dktX11_isUnder_2 := dk_seg dksX11_isUnder_1 24 rfl rfl
theorem dksX11_isUnder_3 : cX11_isUnder.data.toList.drop 72 = dktX11_isUnder_3 := dk_seg dksX11_isUnder_2 24 rfl rfl
theorem dksX11_isUnder_4 : cX11_isUnder.data.toList.drop 96 = dktX11_isUnder_4 := dk_seg dksX11_isUnder_3 24 rfl rfl
theorem dX11_isUnder_0 : decode cX11_isUnder 0 = .ok (.iconst 0, 1) := dk_3 (dk_at dksX11_isUnder_0 0 rfl rfl)
theorem dX11_isUnder_1 : decode cX11_isUnder 1 = .ok (.istore_n 3, 1) := dk_62 (dk_at dksX11_isUnder_0 1 rfl rfl)
theorem dX11_isUnder_2 : decode cX11_isUnder 2 = .ok (.iload_n 3, 1) := dk_29 (dk_at dksX11_isUnder_0 2 rfl rfl)
theorem dX11_isUnder_3 : decode cX11_isUnder 3 = .ok (.aload_n 0, 1) := dk_42 (dk_at dksX11_isUnder_0 3 rfl rfl)
theorem dX11_isUnder_4 : decode cX11_isUnder 4 = .ok (.getfield 755, 3) := dk_180 2 243 (dk_at dksX11_isUnder_0 4 rfl rfl)
theorem dX11_isUnder_7 : decode cX11_isUnder 7 = .ok (.if_icmp .ge 100, 3) := dk_162 0 100 (dk_at dksX11_isUnder_0 7 rfl rfl)
theorem dX11_isUnder_10 : decode cX11_isUnder 10 = .ok (.aload_n 0, 1) := dk_42 (dk_at dksX11_isUnder_0 10 rfl rfl)
theorem dX11_isUnder_11 : decode cX11_isUnder 11 = .ok (.getfield 909, 3) := dk_180 3 141 (dk_at dksX11_isUnder_0 11 rfl rfl)
theorem dX11_isUnder_14 : decode cX11_isUnder 14 = .ok (.iload_n 3, 1) := dk_29 (dk_at dksX11_isUnder_0 14 rfl rfl)
theorem dX11_isUnder_15 : decode cX11_isUnder 15 = .ok (.iaload, 1) := dk_46 (dk_at dksX11_isUnder_0 15 rfl rfl)
theorem dX11_isUnder_16 : decode cX11_isUnder 16 = .ok (.ifCond .ne 85, 3) := dk_154 0 85 (dk_at dksX11_isUnder_0 16 rfl rfl)
theorem dX11_isUnder_19 : decode cX11_isUnder 19 = .ok (.iload_n 3, 1) := dk_29 (dk_at dksX11_isUnder_0 19 rfl rfl)
theorem dX11_isUnder_20 : decode cX11_isUnder 20 = .ok (.iload_n 1, 1) := dk_27 (dk_at dksX11_isUnder_0 20 rfl rfl)
theorem dX11_isUnder_21 : decode cX11_isUnder 21 = .ok (.if_icmp .ne 6, 3) := dk_160 0 6 (dk_at dksX11_isUnder_0 21 rfl rfl)
theorem dX11_isUnder_24 : decode cX11_isUnder 24 = .ok (.goto 77, 3) := dk_167 0 77 (dk_at dksX11_isUnder_1 0 rfl rfl)
theorem dX11_isUnder_27 : decode cX11_isUnder 27 = .ok (.iload_n 2, 1) := dk_28 (dk_at dksX11_isUnder_1 3 rfl rfl)
theorem dX11_isUnder_28 : decode cX11_isUnder 28 = .ok (.bipush 8, 2) := dk_16 8 (dk_at dksX11_isUnder_1 4 rfl rfl)
theorem dX11_isUnder_30 : decode cX11_isUnder 30 = .ok (.if_icmp .ne 17, 3) := dk_160 0 17 (dk_at dksX11_isUnder_1 6 rfl rfl)
theorem dX11_isUnder_33 : decode cX11_isUnder 33 = .ok (.aload_n 0, 1) := dk_42 (dk_at dksX11_isUnder_1 9 rfl rfl)
theorem dX11_isUnder_34 : decode cX11_isUnder 34 = .ok (.getfield 1022, 3) := dk_180 3 254 (dk_at dksX11_isUnder_1 10 rfl rfl)
theorem dX11_isUnder_37 : decode cX11_isUnder 37 = .ok (.bipush 9, 2) := dk_16 9 (dk_at dksX11_isUnder_1 13 rfl rfl)
theorem dX11_isUnder_39 : decode cX11_isUnder 39 = .ok (.iload_n 3, 1) := dk_29 (dk_at dksX11_isUnder_1 15 rfl rfl)
theorem dX11_isUnder_40 : decode cX11_isUnder 40 = .ok (.imul, 1) := dk_104 (dk_at dksX11_isUnder_1 16 rfl rfl)
theorem dX11_isUnder_41 : decode cX11_isUnder 41 = .ok (.iload_n 1, 1) := dk_27 (dk_at dksX11_isUnder_1 17 rfl rfl)
theorem dX11_isUnder_42 : decode cX11_isUnder 42 = .ok (.iadd, 1) := dk_96 (dk_at dksX11_isUnder_1 18 rfl rfl)
theorem dX11_isUnder_43 : decode cX11_isUnder 43 = .ok (.baload, 1) := dk_51 (dk_at dksX11_isUnder_1 19 rfl rfl)
theorem dX11_isUnder_44 : decode cX11_isUnder 44 = .ok (.goto 48, 3) := dk_167 0 48 (dk_at dksX11_isUnder_1 20 rfl rfl)
theorem dX11_isUnder_47 : decode cX11_isUnder 47 = .ok (.iload_n 2, 1) := dk_28 (dk_at dksX11_isUnder_1 23 rfl rfl)
theorem dX11_isUnder_48 : decode cX11_isUnder 48 = .ok (.bipush 9, 2) := dk_16 9 (dk_at dksX11_isUnder_2 0 rfl rfl)
theorem dX11_isUnder_50 : decode cX11_isUnder 50 = .ok (.if_icmp .ne 36, 3) := dk_160 0 36 (dk_at dksX11_isUnder_2 2 rfl rfl)
theorem dX11_isUnder_53 : decode cX11_isUnder 53 = .ok (.aload_n 0, 1) := dk_42 (dk_at dksX11_isUnder_2 5 rfl rfl)
theorem dX11_isUnder_54 : decode cX11_isUnder 54 = .ok (.getfield 1025, 3) := dk_180 4 1 (dk_at dksX11_isUnder_2 6 rfl rfl)
theorem dX11_isUnder_57 : decode cX11_isUnder 57 = .ok (.bipush 9, 2) := dk_16 9 (dk_at dksX11_isUnder_2 9 rfl rfl)
theorem dX11_isUnder_59 : decode cX11_isUnder 59 = .ok (.iload_n 3, 1) := dk_29 (dk_at dksX11_isUnder_2 11 rfl rfl)
theorem dX11_isUnder_60 : decode cX11_isUnder 60 = .ok (.imul, 1) := dk_104 (dk_at dksX11_isUnder_2 12 rfl rfl)
theorem dX11_isUnder_61 : decode cX11_isUnder 61 = .ok (.iload_n 1, 1) := dk_27 (dk_at dksX11_isUnder_2 13 rfl rfl)
theorem dX11_isUnder_62 : decode cX11_isUnder 62 = .ok (.iadd, 1) := dk_96 (dk_at dksX11_isUnder_2 14 rfl rfl)
theorem dX11_isUnder_63 : decode cX11_isUnder 63 = .ok (.iaload, 1) := dk_46 (dk_at dksX11_isUnder_2 15 rfl rfl)
theorem dX11_isUnder_64 : decode cX11_isUnder 64 = .ok (.aload_n 0, 1) := dk_42 (dk_at dksX11_isUnder_2 16 rfl rfl)
theorem dX11_isUnder_65 : decode cX11_isUnder 65 = .ok (.getfield 1025, 3) := dk_180 4 1 (dk_at dksX11_isUnder_2 17 rfl rfl)
theorem dX11_isUnder_68 : decode cX11_isUnder 68 = .ok (.bipush 9, 2) := dk_16 9 (dk_at dksX11_isUnder_2 20 rfl rfl)
theorem dX11_isUnder_70 : decode cX11_isUnder 70 = .ok (.iload_n 1, 1) := dk_27 (dk_at dksX11_isUnder_2 22 rfl rfl)
theorem dX11_isUnder_71 : decode cX11_isUnder 71 = .ok (.imul, 1) := dk_104 (dk_at dksX11_isUnder_2 23 rfl rfl)
theorem dX11_isUnder_72 : decode cX11_isUnder 72 = .ok (.iload_n 3, 1) := dk_29 (dk_at dksX11_isUnder_3 0 rfl rfl)
theorem dX11_isUnder_73 : decode cX11_isUnder 73 = .ok (.iadd, 1) := dk_96 (dk_at dksX11_isUnder_3 1 rfl rfl)
theorem dX11_isUnder_74 : decode cX11_isUnder 74 = .ok (.iaload, 1) := dk_46 (dk_at dksX11_isUnder_3 2 rfl rfl)
theorem dX11_isUnder_75 : decode cX11_isUnder 75 = .ok (.if_icmp .le 7, 3) := dk_164 0 7 (dk_at dksX11_isUnder_3 3 rfl rfl)
theorem dX11_isUnder_78 : decode cX11_isUnder 78 = .ok (.iconst 1, 1) := dk_4 (dk_at dksX11_isUnder_3 6 rfl rfl)
theorem dX11_isUnder_79 : decode cX11_isUnder 79 = .ok (.goto 13, 3) := dk_167 0 13 (dk_at dksX11_isUnder_3 7 rfl rfl)
theorem dX11_isUnder_82 : decode cX11_isUnder 82 = .ok (.iconst 0, 1) := dk_3 (dk_at dksX11_isUnder_3 10 rfl rfl)
theorem dX11_isUnder_83 : decode cX11_isUnder 83 = .ok (.goto 9, 3) := dk_167 0 9 (dk_at dksX11_isUnder_3 11 rfl rfl)
theorem dX11_isUnder_86 : decode cX11_isUnder 86 = .ok (.aload_n 0, 1) := dk_42 (dk_at dksX11_isUnder_3 14 rfl rfl)
theorem dX11_isUnder_87 : decode cX11_isUnder 87 = .ok (.iload_n 3, 1) := dk_29 (dk_at dksX11_isUnder_3 15 rfl rfl)
theorem dX11_isUnder_88 : decode cX11_isUnder 88 = .ok (.iload_n 1, 1) := dk_27 (dk_at dksX11_isUnder_3 16 rfl rfl)
theorem dX11_isUnder_89 : decode cX11_isUnder 89 = .ok (.invokevirtual 1028, 3) := dk_182 4 4 (dk_at dksX11_isUnder_3 17 rfl rfl)
theorem dX11_isUnder_92 : decode cX11_isUnder 92 = .ok (.istore 4, 2) := dk_54 4 (dk_at dksX11_isUnder_3 20 rfl rfl)
theorem dX11_isUnder_94 : decode cX11_isUnder 94 = .ok (.iload 4, 2) := dk_21 4 (dk_at dksX11_isUnder_3 22 rfl rfl)
theorem dX11_isUnder_96 : decode cX11_isUnder 96 = .ok (.ifCond .eq 5, 3) := dk_153 0 5 (dk_at dksX11_isUnder_4 0 rfl rfl)
theorem dX11_isUnder_99 : decode cX11_isUnder 99 = .ok (.iconst 1, 1) := dk_4 (dk_at dksX11_isUnder_4 3 rfl rfl)
theorem dX11_isUnder_100 : decode cX11_isUnder 100 = .ok (.ireturn, 1) := dk_172 (dk_at dksX11_isUnder_4 4 rfl rfl)
theorem dX11_isUnder_101 : decode cX11_isUnder 101 = .ok (.iinc 3 1, 3) := dk_132 3 1 (dk_at dksX11_isUnder_4 5 rfl rfl)
theorem dX11_isUnder_104 : decode cX11_isUnder 104 = .ok (.goto (-102), 3) := dk_167 255 154 (dk_at dksX11_isUnder_4 8 rfl rfl)
theorem dX11_isUnder_107 : decode cX11_isUnder 107 = .ok (.iconst 0, 1) := dk_3 (dk_at dksX11_isUnder_4 11 rfl rfl)
theorem dX11_isUnder_108 : decode cX11_isUnder 108 = .ok (.ireturn, 1) := dk_172 (dk_at dksX11_isUnder_4 12 rfl rfl)
abbrev cX11_covers : ByteArray := prog_17_method_172_code
def yX11_covers : MethodName := ⟨RX11, "covers", "(II)Z"⟩
def dkwX11_covers_2 : List UInt8 := [182, 3, 251, 153, 0, 7, 4, 167, 0, 4, 3, 62, 132, 4, 1, 167, 255, 204, 29, 172]
abbrev dktX11_covers_2 : List UInt8 := dkwX11_covers_2 ++ []
def dkwX11_covers_1 : List UInt8 := [180, 3, 141, 21, 4, 46, 154, 0, 23, 42, 28, 21, 4, 182, 3, 251, 153, 0, 13, 42, 27, 21, 4]
abbrev dktX11_covers_1 : List UInt8 := dkwX11_covers_1 ++ dktX11_covers_2
def dkwX11_covers_0 : List UInt8 := [42, 27, 28, 182, 3, 251, 62, 3, 54, 4, 21, 4, 42, 180, 2, 243, 162, 0, 49, 29, 153, 0, 45, 42]
abbrev dktX11_covers_0 : List UInt8 := dkwX11_covers_0 ++ dktX11_covers_1
theorem dksX11_covers_0 : cX11_covers.data.toList.drop 0 = dktX11_covers_0 := by decide +kernel
theorem dksX11_covers_1 : cX11_covers.data.toList.drop 24 = dktX11_covers_1 := dk_seg dksX11_covers_0 24 rfl rfl
theorem dksX11_covers_2 : cX11_covers.data.toList.drop 47 = dktX11_covers_2 := dk_seg dksX11_covers_1 23 rfl rfl
theorem dX11_covers_0 : decode cX11_covers 0 = .ok (.aload_n 0, 1) := dk_42 (dk_at dksX11_covers_0 0 rfl rfl)
theorem dX11_covers_1 : decode cX11_covers 1 = .ok (.iload_n 1, 1) := dk_27 (dk_at dksX11_covers_0 1 rfl rfl)
theorem dX11_covers_2 : decode cX11_covers 2 = .ok (.iload_n 2, 1) := dk_28 (dk_at dksX11_covers_0 2 rfl rfl)
theorem dX11_covers_3 : decode cX11_covers 3 = .ok (.invokevirtual 1019, 3) := dk_182 3 251 (dk_at dksX11_covers_0 3 rfl rfl)
theorem dX11_covers_6 : decode cX11_covers 6 = .ok (.istore_n 3, 1) := dk_62 (dk_at dksX11_covers_0 6 rfl rfl)
theorem dX11_covers_7 : decode cX11_covers 7 = .ok (.iconst 0, 1) := dk_3 (dk_at dksX11_covers_0 7 rfl rfl)
theorem dX11_covers_8 : decode cX11_covers 8 = .ok (.istore 4, 2) := dk_54 4 (dk_at dksX11_covers_0 8 rfl rfl)
theorem dX11_covers_10 : decode cX11_covers 10 = .ok (.iload 4, 2) := dk_21 4 (dk_at dksX11_covers_0 10 rfl rfl)
theorem dX11_covers_12 : decode cX11_covers 12 = .ok (.aload_n 0, 1) := dk_42 (dk_at dksX11_covers_0 12 rfl rfl)
theorem dX11_covers_13 : decode cX11_covers 13 = .ok (.getfield 755, 3) := dk_180 2 243 (dk_at dksX11_covers_0 13 rfl rfl)
theorem dX11_covers_16 : decode cX11_covers 16 = .ok (.if_icmp .ge 49, 3) := dk_162 0 49 (dk_at dksX11_covers_0 16 rfl rfl)
theorem dX11_covers_19 : decode cX11_covers 19 = .ok (.iload_n 3, 1) := dk_29 (dk_at dksX11_covers_0 19 rfl rfl)
theorem dX11_covers_20 : decode cX11_covers 20 = .ok (.ifCond .eq 45, 3) := dk_153 0 45 (dk_at dksX11_covers_0 20 rfl rfl)
theorem dX11_covers_23 : decode cX11_covers 23 = .ok (.aload_n 0, 1) := dk_42 (dk_at dksX11_covers_0 23 rfl rfl)
theorem dX11_covers_24 : decode cX11_covers 24 = .ok (.getfield 909, 3) := dk_180 3 141 (dk_at dksX11_covers_1 0 rfl rfl)
theorem dX11_covers_27 : decode cX11_covers 27 = .ok (.iload 4, 2) := dk_21 4 (dk_at dksX11_covers_1 3 rfl rfl)
theorem dX11_covers_29 : decode cX11_covers 29 = .ok (.iaload, 1) := dk_46 (dk_at dksX11_covers_1 5 rfl rfl)
theorem dX11_covers_30 : decode cX11_covers 30 = .ok (.ifCond .ne 23, 3) := dk_154 0 23 (dk_at dksX11_covers_1 6 rfl rfl)
theorem dX11_covers_33 : decode cX11_covers 33 = .ok (.aload_n 0, 1) := dk_42 (dk_at dksX11_covers_1 9 rfl rfl)
theorem dX11_covers_34 : decode cX11_covers 34 = .ok (.iload_n 2, 1) := dk_28 (dk_at dksX11_covers_1 10 rfl rfl)
theorem dX11_covers_35 : decode cX11_covers 35 = .ok (.iload 4, 2) := dk_21 4 (dk_at dksX11_covers_1 11 rfl rfl)
theorem dX11_covers_37 : decode cX11_covers 37 = .ok (.invokevirtual 1019, 3) := dk_182 3 251 (dk_at dksX11_covers_1 13 rfl rfl)
theorem dX11_covers_40 : decode cX11_covers 40 = .ok (.ifCond .eq 13, 3) := dk_153 0 13 (dk_at dksX11_covers_1 16 rfl rfl)
theorem dX11_covers_43 : decode cX11_covers 43 = .ok (.aload_n 0, 1) := dk_42 (dk_at dksX11_covers_1 19 rfl rfl)
theorem dX11_covers_44 : decode cX11_covers 44 = .ok (.iload_n 1, 1) := dk_27 (dk_at dksX11_covers_1 20 rfl rfl)
theorem dX11_covers_45 : decode cX11_covers 45 = .ok (.iload 4, 2) := dk_21 4 (dk_at dksX11_covers_1 21 rfl rfl)
theorem dX11_covers_47 : decode cX11_covers 47 = .ok (.invokevirtual 1019, 3) := dk_182 3 251 (dk_at dksX11_covers_2 0 rfl rfl)
theorem dX11_covers_50 : decode cX11_covers 50 = .ok (.ifCond .eq 7, 3) := dk_153 0 7 (dk_at dksX11_covers_2 3 rfl rfl)
theorem dX11_covers_53 : decode cX11_covers 53 = .ok (.iconst 1, 1) := dk_4 (dk_at dksX11_covers_2 6 rfl rfl)
theorem dX11_covers_54 : decode cX11_covers 54 = .ok (.goto 4, 3) := dk_167 0 4 (dk_at dksX11_covers_2 7 rfl rfl)
theorem dX11_covers_57 : decode cX11_covers 57 = .ok (.iconst 0, 1) := dk_3 (dk_at dksX11_covers_2 10 rfl rfl)
theorem dX11_covers_58 : decode cX11_covers 58 = .ok (.istore_n 3, 1) := dk_62 (dk_at dksX11_covers_2 11 rfl rfl)
theorem dX11_covers_59 : decode cX11_covers 59 = .ok (.iinc 4 1, 3) := dk_132 4 1 (dk_at dksX11_covers_2 12 rfl rfl)
theorem dX11_covers_62 : decode cX11_covers 62 = .ok (.goto (-52), 3) := dk_167 255 204 (dk_at dksX11_covers_2 15 rfl rfl)
theorem dX11_covers_65 : decode cX11_covers 65 = .ok (.iload_n 3, 1) := dk_29 (dk_at dksX11_covers_2 18 rfl rfl)
theorem dX11_covers_66 : decode cX11_covers 66 = .ok (.ireturn, 1) := dk_172 (dk_at dksX11_covers_2 19 rfl rfl)
abbrev cX11_scoreOf : ByteArray := prog_17_method_170_code
def yX11_scoreOf : MethodName := ⟨RX11, "scoreOf", "(I)I"⟩
def dkwX11_scoreOf_2 : List UInt8 := [153, 0, 7, 2, 167, 0, 4, 3, 96, 61, 132, 3, 1, 167, 255, 202, 28, 172]
abbrev dktX11_scoreOf_2 : List UInt8 := dkwX11_scoreOf_2 ++ []
def dkwX11_scoreOf_1 : List UInt8 := [167, 0, 30, 42, 27, 29, 182, 3, 251, 153, 0, 7, 4, 167, 0, 17, 42, 29, 27, 182, 3, 251]
abbrev dktX11_scoreOf_1 : List UInt8 := dkwX11_scoreOf_1 ++ dktX11_scoreOf_2
def dkwX11_scoreOf_0 : List UInt8 := [3, 61, 3, 62, 29, 42, 180, 2, 243, 162, 0, 52, 28, 42, 180, 3, 141, 29, 46, 153, 0, 7, 3]
abbrev dktX11_scoreOf_0 : List UInt8 := dkwX11_scoreOf_0 ++ dktX11_scoreOf_1
theorem dksX11_scoreOf_0 : cX11_scoreOf.data.toList.drop 0 = dktX11_scoreOf_0 := by decide +kernel
theorem dksX11_scoreOf_1 : cX11_scoreOf.data.toList.drop 23 = dktX11_scoreOf_1 := dk_seg dksX11_scoreOf_0 23 rfl rfl
theorem dksX11_scoreOf_2 : cX11_scoreOf.data.toList.drop 45 = dktX11_scoreOf_2 := dk_seg dksX11_scoreOf_1 22 rfl rfl
theorem dX11_scoreOf_0 : decode cX11_scoreOf 0 = .ok (.iconst 0, 1) := dk_3 (dk_at dksX11_scoreOf_0 0 rfl rfl)
theorem dX11_scoreOf_1 : decode cX11_scoreOf 1 = .ok (.istore_n 2, 1) := dk_61 (dk_at dksX11_scoreOf_0 1 rfl rfl)
theorem dX11_scoreOf_2 : decode cX11_scoreOf 2 = .ok (.iconst 0, 1) := dk_3 (dk_at dksX11_scoreOf_0 2 rfl rfl)
theorem dX11_scoreOf_3 : decode cX11_scoreOf 3 = .ok (.istore_n 3, 1) := dk_62 (dk_at dksX11_scoreOf_0 3 rfl rfl)
theorem dX11_scoreOf_4 : decode cX11_scoreOf 4 = .ok (.iload_n 3, 1) := dk_29 (dk_at dksX11_scoreOf_0 4 rfl rfl)
theorem dX11_scoreOf_5 : decode cX11_scoreOf 5 = .ok (.aload_n 0, 1) := dk_42 (dk_at dksX11_scoreOf_0 5 rfl rfl)
theorem dX11_scoreOf_6 : decode cX11_scoreOf 6 = .ok (.getfield 755, 3) := dk_180 2 243 (dk_at dksX11_scoreOf_0 6 rfl rfl)
theorem dX11_scoreOf_9 : decode cX11_scoreOf 9 = .ok (.if_icmp .ge 52, 3) := dk_162 0 52 (dk_at dksX11_scoreOf_0 9 rfl rfl)
theorem dX11_scoreOf_12 : decode cX11_scoreOf 12 = .ok (.iload_n 2, 1) := dk_28 (dk_at dksX11_scoreOf_0 12 rfl rfl)
theorem dX11_scoreOf_13 : decode cX11_scoreOf 13 = .ok (.aload_n 0, 1) := dk_42 (dk_at dksX11_scoreOf_0 13 rfl rfl)
theorem dX11_scoreOf_14 : decode cX11_scoreOf 14 = .ok (.getfield 909, 3) := dk_180 3 141 (dk_at dksX11_scoreOf_0 14 rfl rfl)
theorem dX11_scoreOf_17 : decode cX11_scoreOf 17 = .ok (.iload_n 3, 1) := dk_29 (dk_at dksX11_scoreOf_0 17 rfl rfl)
theorem dX11_scoreOf_18 : decode cX11_scoreOf 18 = .ok (.iaload, 1) := dk_46 (dk_at dksX11_scoreOf_0 18 rfl rfl)
theorem dX11_scoreOf_19 : decode cX11_scoreOf 19 = .ok (.ifCond .eq 7, 3) := dk_153 0 7 (dk_at dksX11_scoreOf_0 19 rfl rfl)
theorem dX11_scoreOf_22 : decode cX11_scoreOf 22 = .ok (.iconst 0, 1) := dk_3 (dk_at dksX11_scoreOf_0 22 rfl rfl)
theorem dX11_scoreOf_23 : decode cX11_scoreOf 23 = .ok (.goto 30, 3) := dk_167 0 30 (dk_at dksX11_scoreOf_1 0 rfl rfl)
theorem dX11_scoreOf_26 : decode cX11_scoreOf 26 = .ok (.aload_n 0, 1) := dk_42 (dk_at dksX11_scoreOf_1 3 rfl rfl)
theorem dX11_scoreOf_27 : decode cX11_scoreOf 27 = .ok (.iload_n 1, 1) := dk_27 (dk_at dksX11_scoreOf_1 4 rfl rfl)
theorem dX11_scoreOf_28 : decode cX11_scoreOf 28 = .ok (.iload_n 3, 1) := dk_29 (dk_at dksX11_scoreOf_1 5 rfl rfl)
theorem dX11_scoreOf_29 : decode cX11_scoreOf 29 = .ok (.invokevirtual 1019, 3) := dk_182 3 251 (dk_at dksX11_scoreOf_1 6 rfl rfl)
theorem dX11_scoreOf_32 : decode cX11_scoreOf 32 = .ok (.ifCond .eq 7, 3) := dk_153 0 7 (dk_at dksX11_scoreOf_1 9 rfl rfl)
theorem dX11_scoreOf_35 : decode cX11_scoreOf 35 = .ok (.iconst 1, 1) := dk_4 (dk_at dksX11_scoreOf_1 12 rfl rfl)
theorem dX11_scoreOf_36 : decode cX11_scoreOf 36 = .ok (.goto 17, 3) := dk_167 0 17 (dk_at dksX11_scoreOf_1 13 rfl rfl)
theorem dX11_scoreOf_39 : decode cX11_scoreOf 39 = .ok (.aload_n 0, 1) := dk_42 (dk_at dksX11_scoreOf_1 16 rfl rfl)
theorem dX11_scoreOf_40 : decode cX11_scoreOf 40 = .ok (.iload_n 3, 1) := dk_29 (dk_at dksX11_scoreOf_1 17 rfl rfl)
theorem dX11_scoreOf_41 : decode cX11_scoreOf 41 = .ok (.iload_n 1, 1) := dk_27 (dk_at dksX11_scoreOf_1 18 rfl rfl)
theorem dX11_scoreOf_42 : decode cX11_scoreOf 42 = .ok (.invokevirtual 1019, 3) := dk_182 3 251 (dk_at dksX11_scoreOf_1 19 rfl rfl)
theorem dX11_scoreOf_45 : decode cX11_scoreOf 45 = .ok (.ifCond .eq 7, 3) := dk_153 0 7 (dk_at dksX11_scoreOf_2 0 rfl rfl)
theorem dX11_scoreOf_48 : decode cX11_scoreOf 48 = .ok (.iconst (-1), 1) := dk_2 (dk_at dksX11_scoreOf_2 3 rfl rfl)
theorem dX11_scoreOf_49 : decode cX11_scoreOf 49 = .ok (.goto 4, 3) := dk_167 0 4 (dk_at dksX11_scoreOf_2 4 rfl rfl)
theorem dX11_scoreOf_52 : decode cX11_scoreOf 52 = .ok (.iconst 0, 1) := dk_3 (dk_at dksX11_scoreOf_2 7 rfl rfl)
theorem dX11_scoreOf_53 : decode cX11_scoreOf 53 = .ok (.iadd, 1) := dk_96 (dk_at dksX11_scoreOf_2 8 rfl rfl)
theorem dX11_scoreOf_54 : decode cX11_scoreOf 54 = .ok (.istore_n 2, 1) := dk_61 (dk_at dksX11_scoreOf_2 9 rfl rfl)
theorem dX11_scoreOf_55 : decode cX11_scoreOf 55 = .ok (.iinc 3 1, 3) := dk_132 3 1 (dk_at dksX11_scoreOf_2 10 rfl rfl)
theorem dX11_scoreOf_58 : decode cX11_scoreOf 58 = .ok (.goto (-54), 3) := dk_167 255 202 (dk_at dksX11_scoreOf_2 13 rfl rfl)
theorem dX11_scoreOf_61 : decode cX11_scoreOf 61 = .ok (.iload_n 2, 1) := dk_28 (dk_at dksX11_scoreOf_2 16 rfl rfl)
theorem dX11_scoreOf_62 : decode cX11_scoreOf 62 = .ok (.ireturn, 1) := dk_172 (dk_at dksX11_scoreOf_2 17 rfl rfl)
abbrev cX11_elected : ByteArray := prog_17_method_188_code
def yX11_elected : MethodName := ⟨RX11, "elected", "(I)I"⟩
def dkwX11_elected_1 : List UInt8 := [180, 3, 58, 27, 46, 167, 0, 4, 2, 172]
abbrev dktX11_elected_1 : List UInt8 := dkwX11_elected_1 ++ []
def dkwX11_elected_0 : List UInt8 := [42, 180, 2, 46, 153, 0, 28, 27, 133, 9, 42, 180, 3, 61, 4, 100, 133, 184, 0, 13, 153, 0, 12, 42]
abbrev dktX11_elected_0 : List UInt8 := dkwX11_elected_0 ++ dktX11_elected_1
theorem dksX11_elected_0 : cX11_elected.data.toList.drop 0 = dktX11_elected_0 := by decide +kernel
theorem dksX11_elected_1 : cX11_elected.data.toList.drop 24 = dktX11_elected_1 := dk_seg dksX11_elected_0 24 rfl rfl
theorem dX11_elected_0 : decode cX11_elected 0 = .ok (.aload_n 0, 1) := dk_42 (dk_at dksX11_elected_0 0 rfl rfl)
theorem dX11_elected_1 : decode cX11_elected 1 = .ok (.getfield 558, 3) := dk_180 2 46 (dk_at dksX11_elected_0 1 rfl rfl)
theorem dX11_elected_4 : decode cX11_elected 4 = .ok (.ifCond .eq 28, 3) := dk_153 0 28 (dk_at dksX11_elected_0 4 rfl rfl)
theorem dX11_elected_7 : decode cX11_elected 7 = .ok (.iload_n 1, 1) := dk_27 (dk_at dksX11_elected_0 7 rfl rfl)
theorem dX11_elected_8 : decode cX11_elected 8 = .ok (.i2l, 1) := dk_133 (dk_at dksX11_elected_0 8 rfl rfl)
theorem dX11_elected_9 : decode cX11_elected 9 = .ok (.lconst 0, 1) := dk_9 (dk_at dksX11_elected_0 9 rfl rfl)
theorem dX11_elected_10 : decode cX11_elected 10 = .ok (.aload_n 0, 1) := dk_42 (dk_at dksX11_elected_0 10 rfl rfl)
theorem dX11_elected_11 : decode cX11_elected 11 = .ok (.getfield 829, 3) := dk_180 3 61 (dk_at dksX11_elected_0 11 rfl rfl)
theorem dX11_elected_14 : decode cX11_elected 14 = .ok (.iconst 1, 1) := dk_4 (dk_at dksX11_elected_0 14 rfl rfl)
theorem dX11_elected_15 : decode cX11_elected 15 = .ok (.isub, 1) := dk_100 (dk_at dksX11_elected_0 15 rfl rfl)
theorem dX11_elected_16 : decode cX11_elected 16 = .ok (.i2l, 1) := dk_133 (dk_at dksX11_elected_0 16 rfl rfl)
theorem dX11_elected_17 : decode cX11_elected 17 = .ok (.invokestatic 13, 3) := dk_184 0 13 (dk_at dksX11_elected_0 17 rfl rfl)
theorem dX11_elected_20 : decode cX11_elected 20 = .ok (.ifCond .eq 12, 3) := dk_153 0 12 (dk_at dksX11_elected_0 20 rfl rfl)
theorem dX11_elected_23 : decode cX11_elected 23 = .ok (.aload_n 0, 1) := dk_42 (dk_at dksX11_elected_0 23 rfl rfl)
theorem dX11_elected_24 : decode cX11_elected 24 = .ok (.getfield 826, 3) := dk_180 3 58 (dk_at dksX11_elected_1 0 rfl rfl)
theorem dX11_elected_27 : decode cX11_elected 27 = .ok (.iload_n 1, 1) := dk_27 (dk_at dksX11_elected_1 3 rfl rfl)
theorem dX11_elected_28 : decode cX11_elected 28 = .ok (.iaload, 1) := dk_46 (dk_at dksX11_elected_1 4 rfl rfl)
theorem dX11_elected_29 : decode cX11_elected 29 = .ok (.goto 4, 3) := dk_167 0 4 (dk_at dksX11_elected_1 5 rfl rfl)
theorem dX11_elected_32 : decode cX11_elected 32 = .ok (.iconst (-1), 1) := dk_2 (dk_at dksX11_elected_1 8 rfl rfl)
theorem dX11_elected_33 : decode cX11_elected 33 = .ok (.ireturn, 1) := dk_172 (dk_at dksX11_elected_1 9 rfl rfl)
abbrev cX11_round : ByteArray := prog_17_method_189_code
def yX11_round : MethodName := ⟨RX11, "round", "(II)J"⟩
def dkwX11_round_2 : List UInt8 := [96, 47, 167, 0, 6, 20, 0, 113, 173]
abbrev dktX11_round_2 : List UInt8 := dkwX11_round_2 ++ []
def dkwX11_round_1 : List UInt8 := [133, 9, 42, 180, 3, 82, 4, 100, 133, 184, 0, 13, 153, 0, 17, 42, 180, 3, 46, 16, 9, 27, 104, 28]
abbrev dktX11_round_1 : List UInt8 := dkwX11_round_1 ++ dktX11_round_2
def dkwX11_round_0 : List UInt8 := [42, 180, 2, 46, 153, 0, 49, 27, 133, 9, 42, 180, 3, 49, 4, 100, 133, 184, 0, 13, 153, 0, 33, 28]
abbrev dktX11_round_0 : List UInt8 := dkwX11_round_0 ++ dktX11_round_1
theorem dksX11_round_0 : cX11_round.data.toList.drop 0 = dktX11_round_0 := by decide +kernel
theorem dksX11_round_1 : cX11_round.data.toList.drop 24 = dktX11_round_1 := dk_seg dksX11_round_0 24 rfl rfl
theorem dksX11_round_2 : cX11_round.data.toList.drop 48 = dktX11_round_2 := dk_seg dksX11_round_1 24 rfl rfl
theorem dX11_round_0 : decode cX11_round 0 = .ok (.aload_n 0, 1) := dk_42 (dk_at dksX11_round_0 0 rfl rfl)
theorem dX11_round_1 : decode cX11_round 1 = .ok (.getfield 558, 3) := dk_180 2 46 (dk_at dksX11_round_0 1 rfl rfl)
theorem dX11_round_4 : decode cX11_round 4 = .ok (.ifCond .eq 49, 3) := dk_153 0 49 (dk_at dksX11_round_0 4 rfl rfl)
theorem dX11_round_7 : decode cX11_round 7 = .ok (.iload_n 1, 1) := dk_27 (dk_at dksX11_round_0 7 rfl rfl)
theorem dX11_round_8 : decode cX11_round 8 = .ok (.i2l, 1) := dk_133 (dk_at dksX11_round_0 8 rfl rfl)
theorem dX11_round_9 : decode cX11_round 9 = .ok (.lconst 0, 1) := dk_9 (dk_at dksX11_round_0 9 rfl rfl)
theorem dX11_round_10 : decode cX11_round 10 = .ok (.aload_n 0, 1) := dk_42 (dk_at dksX11_round_0 10 rfl rfl)
theorem dX11_round_11 : decode cX11_round 11 = .ok (.getfield 817, 3) := dk_180 3 49 (dk_at dksX11_round_0 11 rfl rfl)
theorem dX11_round_14 : decode cX11_round 14 = .ok (.iconst 1, 1) := dk_4 (dk_at dksX11_round_0 14 rfl rfl)
theorem dX11_round_15 : decode cX11_round 15 = .ok (.isub, 1) := dk_100 (dk_at dksX11_round_0 15 rfl rfl)
theorem dX11_round_16 : decode cX11_round 16 = .ok (.i2l, 1) := dk_133 (dk_at dksX11_round_0 16 rfl rfl)
theorem dX11_round_17 : decode cX11_round 17 = .ok (.invokestatic 13, 3) := dk_184 0 13 (dk_at dksX11_round_0 17 rfl rfl)
theorem dX11_round_20 : decode cX11_round 20 = .ok (.ifCond .eq 33, 3) := dk_153 0 33 (dk_at dksX11_round_0 20 rfl rfl)
theorem dX11_round_23 : decode cX11_round 23 = .ok (.iload_n 2, 1) := dk_28 (dk_at dksX11_round_0 23 rfl rfl)
theorem dX11_round_24 : decode cX11_round 24 = .ok (.i2l, 1) := dk_133 (dk_at dksX11_round_1 0 rfl rfl)
theorem dX11_round_25 : decode cX11_round 25 = .ok (.lconst 0, 1) := dk_9 (dk_at dksX11_round_1 1 rfl rfl)
theorem dX11_round_26 : decode cX11_round 26 = .ok (.aload_n 0, 1) := dk_42 (dk_at dksX11_round_1 2 rfl rfl)
theorem dX11_round_27 : decode cX11_round 27 = .ok (.getfield 850, 3) := dk_180 3 82 (dk_at dksX11_round_1 3 rfl rfl)
theorem dX11_round_30 : decode cX11_round 30 = .ok (.iconst 1, 1) := dk_4 (dk_at dksX11_round_1 6 rfl rfl)
theorem dX11_round_31 : decode cX11_round 31 = .ok (.isub, 1) := dk_100 (dk_at dksX11_round_1 7 rfl rfl)
theorem dX11_round_32 : decode cX11_round 32 = .ok (.i2l, 1) := dk_133 (dk_at dksX11_round_1 8 rfl rfl)
theorem dX11_round_33 : decode cX11_round 33 = .ok (.invokestatic 13, 3) := dk_184 0 13 (dk_at dksX11_round_1 9 rfl rfl)
theorem dX11_round_36 : decode cX11_round 36 = .ok (.ifCond .eq 17, 3) := dk_153 0 17 (dk_at dksX11_round_1 12 rfl rfl)
theorem dX11_round_39 : decode cX11_round 39 = .ok (.aload_n 0, 1) := dk_42 (dk_at dksX11_round_1 15 rfl rfl)
theorem dX11_round_40 : decode cX11_round 40 = .ok (.getfield 814, 3) := dk_180 3 46 (dk_at dksX11_round_1 16 rfl rfl)
theorem dX11_round_43 : decode cX11_round 43 = .ok (.bipush 9, 2) := dk_16 9 (dk_at dksX11_round_1 19 rfl rfl)
theorem dX11_round_45 : decode cX11_round 45 = .ok (.iload_n 1, 1) := dk_27 (dk_at dksX11_round_1 21 rfl rfl)
theorem dX11_round_46 : decode cX11_round 46 = .ok (.imul, 1) := dk_104 (dk_at dksX11_round_1 22 rfl rfl)
theorem dX11_round_47 : decode cX11_round 47 = .ok (.iload_n 2, 1) := dk_28 (dk_at dksX11_round_1 23 rfl rfl)
theorem dX11_round_48 : decode cX11_round 48 = .ok (.iadd, 1) := dk_96 (dk_at dksX11_round_2 0 rfl rfl)
theorem dX11_round_49 : decode cX11_round 49 = .ok (.laload, 1) := dk_47 (dk_at dksX11_round_2 1 rfl rfl)
theorem dX11_round_50 : decode cX11_round 50 = .ok (.goto 6, 3) := dk_167 0 6 (dk_at dksX11_round_2 2 rfl rfl)
theorem dX11_round_53 : decode cX11_round 53 = .ok (.ldc2_w 113, 3) := dk_20 0 113 (dk_at dksX11_round_2 5 rfl rfl)
theorem dX11_round_56 : decode cX11_round 56 = .ok (.lreturn, 1) := dk_173 (dk_at dksX11_round_2 8 rfl rfl)
abbrev cX11_act : ByteArray := prog_17_method_190_code
def yX11_act : MethodName := ⟨RX11, "act", "(II)I"⟩
def dkwX11_act_2 : List UInt8 := [46, 167, 0, 5, 16, 254, 172]
abbrev dktX11_act_2 : List UInt8 := dkwX11_act_2 ++ []
def dkwX11_act_1 : List UInt8 := [172, 28, 154, 0, 12, 42, 180, 3, 52, 27, 46, 167, 0, 19, 28, 4, 160, 0, 12, 42, 180, 3, 55, 27]
abbrev dktX11_act_1 : List UInt8 := dkwX11_act_1 ++ dktX11_act_2
def dkwX11_act_0 : List UInt8 := [42, 180, 2, 46, 153, 0, 19, 27, 133, 9, 42, 180, 3, 49, 4, 100, 133, 184, 0, 13, 154, 0, 5, 2]
abbrev dktX11_act_0 : List UInt8 := dkwX11_act_0 ++ dktX11_act_1
theorem dksX11_act_0 : cX11_act.data.toList.drop 0 = dktX11_act_0 := by decide +kernel
theorem dksX11_act_1 : cX11_act.data.toList.drop 24 = dktX11_act_1 := dk_seg dksX11_act_0 24 rfl rfl
theorem dksX11_act_2 : cX11_act.data.toList.drop 48 = dktX11_act_2 := dk_seg dksX11_act_1 24 rfl rfl
theorem dX11_act_0 : decode cX11_act 0 = .ok (.aload_n 0, 1) := dk_42 (dk_at dksX11_act_0 0 rfl rfl)
theorem dX11_act_1 : decode cX11_act 1 = .ok (.getfield 558, 3) := dk_180 2 46 (dk_at dksX11_act_0 1 rfl rfl)
theorem dX11_act_4 : decode cX11_act 4 = .ok (.ifCond .eq 19, 3) := dk_153 0 19 (dk_at dksX11_act_0 4 rfl rfl)
theorem dX11_act_7 : decode cX11_act 7 = .ok (.iload_n 1, 1) := dk_27 (dk_at dksX11_act_0 7 rfl rfl)
theorem dX11_act_8 : decode cX11_act 8 = .ok (.i2l, 1) := dk_133 (dk_at dksX11_act_0 8 rfl rfl)
theorem dX11_act_9 : decode cX11_act 9 = .ok (.lconst 0, 1) := dk_9 (dk_at dksX11_act_0 9 rfl rfl)
theorem dX11_act_10 : decode cX11_act 10 = .ok (.aload_n 0, 1) := dk_42 (dk_at dksX11_act_0 10 rfl rfl)
theorem dX11_act_11 : decode cX11_act 11 = .ok (.getfield 817, 3) := dk_180 3 49 (dk_at dksX11_act_0 11 rfl rfl)
theorem dX11_act_14 : decode cX11_act 14 = .ok (.iconst 1, 1) := dk_4 (dk_at dksX11_act_0 14 rfl rfl)
theorem dX11_act_15 : decode cX11_act 15 = .ok (.isub, 1) := dk_100 (dk_at dksX11_act_0 15 rfl rfl)
theorem dX11_act_16 : decode cX11_act 16 = .ok (.i2l, 1) := dk_133 (dk_at dksX11_act_0 16 rfl rfl)
theorem dX11_act_17 : decode cX11_act 17 = .ok (.invokestatic 13, 3) := dk_184 0 13 (dk_at dksX11_act_0 17 rfl rfl)
theorem dX11_act_20 : decode cX11_act 20 = .ok (.ifCond .ne 5, 3) := dk_154 0 5 (dk_at dksX11_act_0 20 rfl rfl)
theorem dX11_act_23 : decode cX11_act 23 = .ok (.iconst (-1), 1) := dk_2 (dk_at dksX11_act_0 23 rfl rfl)
theorem dX11_act_24 : decode cX11_act 24 = .ok (.ireturn, 1) := dk_172 (dk_at dksX11_act_1 0 rfl rfl)
theorem dX11_act_25 : decode cX11_act 25 = .ok (.iload_n 2, 1) := dk_28 (dk_at dksX11_act_1 1 rfl rfl)
theorem dX11_act_26 : decode cX11_act 26 = .ok (.ifCond .ne 12, 3) := dk_154 0 12 (dk_at dksX11_act_1 2 rfl rfl)
theorem dX11_act_29 : decode cX11_act 29 = .ok (.aload_n 0, 1) := dk_42 (dk_at dksX11_act_1 5 rfl rfl)
theorem dX11_act_30 : decode cX11_act 30 = .ok (.getfield 820, 3) := dk_180 3 52 (dk_at dksX11_act_1 6 rfl rfl)
theorem dX11_act_33 : decode cX11_act 33 = .ok (.iload_n 1, 1) := dk_27 (dk_at dksX11_act_1 9 rfl rfl)
theorem dX11_act_34 : decode cX11_act 34 = .ok (.iaload, 1) := dk_46 (dk_at dksX11_act_1 10 rfl rfl)
theorem dX11_act_35 : decode cX11_act 35 = .ok (.goto 19, 3) := dk_167 0 19 (dk_at dksX11_act_1 11 rfl rfl)
theorem dX11_act_38 : decode cX11_act 38 = .ok (.iload_n 2, 1) := dk_28 (dk_at dksX11_act_1 14 rfl rfl)
theorem dX11_act_39 : decode cX11_act 39 = .ok (.iconst 1, 1) := dk_4 (dk_at dksX11_act_1 15 rfl rfl)
theorem dX11_act_40 : decode cX11_act 40 = .ok (.if_icmp .ne 12, 3) := dk_160 0 12 (dk_at dksX11_act_1 16 rfl rfl)
theorem dX11_act_43 : decode cX11_act 43 = .ok (.aload_n 0, 1) := dk_42 (dk_at dksX11_act_1 19 rfl rfl)
theorem dX11_act_44 : decode cX11_act 44 = .ok (.getfield 823, 3) := dk_180 3 55 (dk_at dksX11_act_1 20 rfl rfl)
theorem dX11_act_47 : decode cX11_act 47 = .ok (.iload_n 1, 1) := dk_27 (dk_at dksX11_act_1 23 rfl rfl)
theorem dX11_act_48 : decode cX11_act 48 = .ok (.iaload, 1) := dk_46 (dk_at dksX11_act_2 0 rfl rfl)
theorem dX11_act_49 : decode cX11_act 49 = .ok (.goto 5, 3) := dk_167 0 5 (dk_at dksX11_act_2 1 rfl rfl)
theorem dX11_act_52 : decode cX11_act 52 = .ok (.bipush (-2), 2) := dk_16 254 (dk_at dksX11_act_2 4 rfl rfl)
theorem dX11_act_54 : decode cX11_act 54 = .ok (.ireturn, 1) := dk_172 (dk_at dksX11_act_2 6 rfl rfl)
abbrev cX11_init : ByteArray := prog_17_method_191_code
def yX11_init : MethodName := ⟨RX11, "<init>", "()V"⟩
def dkwX11_init_67 : List UInt8 := [132, 2, 1, 167, 255, 199, 132, 1, 1, 167, 255, 175, 177]
abbrev dktX11_init_67 : List UInt8 := dkwX11_init_67 ++ []
def dkwX11_init_66 : List UInt8 := [28, 27, 162, 0, 19, 42, 180, 4, 99, 16, 61, 27, 4, 100, 104, 28, 96, 47, 167, 0, 4, 9, 97, 80]
abbrev dktX11_init_66 : List UInt8 := dkwX11_init_66 ++ dktX11_init_67
def dkwX11_init_65 : List UInt8 := [180, 4, 99, 16, 61, 27, 104, 28, 96, 42, 180, 4, 99, 16, 61, 27, 4, 100, 104, 28, 96, 4, 100, 47]
abbrev dktX11_init_65 : List UInt8 := dkwX11_init_65 ++ dktX11_init_66
def dkwX11_init_64 : List UInt8 := [16, 61, 162, 0, 81, 42, 180, 4, 99, 16, 61, 27, 104, 10, 80, 4, 61, 28, 27, 163, 0, 58, 42]
abbrev dktX11_init_64 : List UInt8 := dkwX11_init_64 ++ dktX11_init_65
def dkwX11_init_63 : List UInt8 := [19, 4, 204, 79, 89, 16, 6, 19, 4, 205, 79, 89, 16, 7, 19, 4, 206, 79, 181, 4, 207, 3, 60, 27]
abbrev dktX11_init_63 : List UInt8 := dkwX11_init_63 ++ dktX11_init_64
def dkwX11_init_62 : List UInt8 := [19, 4, 200, 79, 89, 5, 19, 4, 201, 79, 89, 6, 19, 4, 202, 79, 89, 7, 19, 4, 203, 79, 89, 8]
abbrev dktX11_init_62 : List UInt8 := dkwX11_init_62 ++ dktX11_init_63
def dkwX11_init_61 : List UInt8 := [79, 89, 16, 63, 19, 4, 195, 79, 181, 4, 196, 42, 16, 8, 188, 10, 89, 3, 19, 4, 199, 79, 89, 4]
abbrev dktX11_init_61 : List UInt8 := dkwX11_init_61 ++ dktX11_init_62
def dkwX11_init_60 : List UInt8 := [19, 4, 191, 79, 89, 16, 60, 19, 4, 192, 79, 89, 16, 61, 19, 4, 193, 79, 89, 16, 62, 19, 4, 194]
abbrev dktX11_init_60 : List UInt8 := dkwX11_init_60 ++ dktX11_init_61
def dkwX11_init_59 : List UInt8 := [16, 56, 19, 4, 188, 79, 89, 16, 57, 19, 4, 189, 79, 89, 16, 58, 19, 4, 190, 79, 89, 16, 59]
abbrev dktX11_init_59 : List UInt8 := dkwX11_init_59 ++ dktX11_init_60
def dkwX11_init_58 : List UInt8 := [79, 89, 16, 53, 19, 4, 185, 79, 89, 16, 54, 19, 4, 186, 79, 89, 16, 55, 19, 4, 187, 79, 89]
abbrev dktX11_init_58 : List UInt8 := dkwX11_init_58 ++ dktX11_init_59
def dkwX11_init_57 : List UInt8 := [19, 4, 181, 79, 89, 16, 50, 19, 4, 182, 79, 89, 16, 51, 19, 4, 183, 79, 89, 16, 52, 19, 4, 184]
abbrev dktX11_init_57 : List UInt8 := dkwX11_init_57 ++ dktX11_init_58
def dkwX11_init_56 : List UInt8 := [16, 46, 19, 4, 178, 79, 89, 16, 47, 19, 4, 179, 79, 89, 16, 48, 19, 4, 180, 79, 89, 16, 49]
abbrev dktX11_init_56 : List UInt8 := dkwX11_init_56 ++ dktX11_init_57
def dkwX11_init_55 : List UInt8 := [79, 89, 16, 43, 19, 4, 175, 79, 89, 16, 44, 19, 4, 176, 79, 89, 16, 45, 19, 4, 177, 79, 89]
abbrev dktX11_init_55 : List UInt8 := dkwX11_init_55 ++ dktX11_init_56
def dkwX11_init_54 : List UInt8 := [19, 4, 171, 79, 89, 16, 40, 19, 4, 172, 79, 89, 16, 41, 19, 4, 173, 79, 89, 16, 42, 19, 4, 174]
abbrev dktX11_init_54 : List UInt8 := dkwX11_init_54 ++ dktX11_init_55
def dkwX11_init_53 : List UInt8 := [16, 36, 19, 4, 168, 79, 89, 16, 37, 19, 4, 169, 79, 89, 16, 38, 19, 4, 170, 79, 89, 16, 39]
abbrev dktX11_init_53 : List UInt8 := dkwX11_init_53 ++ dktX11_init_54
def dkwX11_init_52 : List UInt8 := [79, 89, 16, 33, 19, 4, 165, 79, 89, 16, 34, 19, 4, 166, 79, 89, 16, 35, 19, 4, 167, 79, 89]
abbrev dktX11_init_52 : List UInt8 := dkwX11_init_52 ++ dktX11_init_53
def dkwX11_init_51 : List UInt8 := [19, 4, 161, 79, 89, 16, 30, 19, 4, 162, 79, 89, 16, 31, 19, 4, 163, 79, 89, 16, 32, 19, 4, 164]
abbrev dktX11_init_51 : List UInt8 := dkwX11_init_51 ++ dktX11_init_52
def dkwX11_init_50 : List UInt8 := [16, 26, 19, 4, 158, 79, 89, 16, 27, 19, 4, 159, 79, 89, 16, 28, 19, 4, 160, 79, 89, 16, 29]
abbrev dktX11_init_50 : List UInt8 := dkwX11_init_50 ++ dktX11_init_51
def dkwX11_init_49 : List UInt8 := [79, 89, 16, 23, 19, 4, 155, 79, 89, 16, 24, 19, 4, 156, 79, 89, 16, 25, 19, 4, 157, 79, 89]
abbrev dktX11_init_49 : List UInt8 := dkwX11_init_49 ++ dktX11_init_50
def dkwX11_init_48 : List UInt8 := [19, 4, 151, 79, 89, 16, 20, 19, 4, 152, 79, 89, 16, 21, 19, 4, 153, 79, 89, 16, 22, 19, 4, 154]
abbrev dktX11_init_48 : List UInt8 := dkwX11_init_48 ++ dktX11_init_49
def dkwX11_init_47 : List UInt8 := [16, 16, 19, 4, 148, 79, 89, 16, 17, 19, 4, 149, 79, 89, 16, 18, 19, 4, 150, 79, 89, 16, 19]
abbrev dktX11_init_47 : List UInt8 := dkwX11_init_47 ++ dktX11_init_48
def dkwX11_init_46 : List UInt8 := [79, 89, 16, 13, 19, 4, 145, 79, 89, 16, 14, 19, 4, 146, 79, 89, 16, 15, 19, 4, 147, 79, 89]
abbrev dktX11_init_46 : List UInt8 := dkwX11_init_46 ++ dktX11_init_47
def dkwX11_init_45 : List UInt8 := [19, 4, 141, 79, 89, 16, 10, 19, 4, 142, 79, 89, 16, 11, 19, 4, 143, 79, 89, 16, 12, 19, 4, 144]
abbrev dktX11_init_45 : List UInt8 := dkwX11_init_45 ++ dktX11_init_46
def dkwX11_init_44 : List UInt8 := [16, 6, 19, 4, 138, 79, 89, 16, 7, 19, 4, 139, 79, 89, 16, 8, 19, 4, 140, 79, 89, 16, 9]
abbrev dktX11_init_44 : List UInt8 := dkwX11_init_44 ++ dktX11_init_45
def dkwX11_init_43 : List UInt8 := [19, 4, 134, 79, 89, 6, 19, 4, 135, 79, 89, 7, 19, 4, 136, 79, 89, 8, 19, 4, 137, 79, 89]
abbrev dktX11_init_43 : List UInt8 := dkwX11_init_43 ++ dktX11_init_44
def dkwX11_init_42 : List UInt8 := [188, 10, 181, 4, 129, 42, 16, 64, 188, 10, 89, 3, 19, 4, 132, 79, 89, 4, 19, 4, 133, 79, 89, 5]
abbrev dktX11_init_42 : List UInt8 := dkwX11_init_42 ++ dktX11_init_43
def dkwX11_init_41 : List UInt8 := [188, 8, 181, 4, 120, 42, 16, 64, 188, 10, 181, 4, 123, 42, 16, 8, 188, 10, 181, 4, 126, 42, 16, 8]
abbrev dktX11_init_41 : List UInt8 := dkwX11_init_41 ++ dktX11_init_42
def dkwX11_init_40 : List UInt8 := [181, 4, 111, 42, 17, 0, 200, 188, 10, 181, 4, 114, 42, 16, 32, 188, 8, 181, 4, 117, 42, 16, 64]
abbrev dktX11_init_40 : List UInt8 := dkwX11_init_40 ++ dktX11_init_41
def dkwX11_init_39 : List UInt8 := [17, 0, 200, 188, 10, 181, 4, 105, 42, 17, 0, 200, 188, 4, 181, 4, 108, 42, 17, 0, 200, 188, 10]
abbrev dktX11_init_39 : List UInt8 := dkwX11_init_39 ++ dktX11_init_40
def dkwX11_init_38 : List UInt8 := [181, 4, 24, 42, 17, 14, 137, 188, 11, 181, 4, 99, 42, 17, 0, 200, 188, 10, 181, 4, 102, 42]
abbrev dktX11_init_38 : List UInt8 := dkwX11_init_38 ++ dktX11_init_39
def dkwX11_init_37 : List UInt8 := [181, 4, 42, 42, 16, 9, 188, 10, 181, 4, 73, 42, 16, 8, 188, 10, 181, 4, 21, 42, 16, 60, 188, 4]
abbrev dktX11_init_37 : List UInt8 := dkwX11_init_37 ++ dktX11_init_38
def dkwX11_init_36 : List UInt8 := [181, 4, 51, 42, 16, 9, 188, 10, 181, 4, 67, 42, 16, 9, 188, 10, 181, 4, 82, 42, 16, 9, 188, 10]
abbrev dktX11_init_36 : List UInt8 := dkwX11_init_36 ++ dktX11_init_37
def dkwX11_init_35 : List UInt8 := [181, 4, 39, 42, 16, 9, 188, 10, 181, 4, 36, 42, 16, 9, 188, 4, 181, 4, 48, 42, 16, 9, 188, 10]
abbrev dktX11_init_35 : List UInt8 := dkwX11_init_35 ++ dktX11_init_36
def dkwX11_init_34 : List UInt8 := [181, 4, 10, 42, 16, 9, 188, 10, 181, 4, 45, 42, 16, 9, 188, 10, 181, 4, 33, 42, 16, 9, 188, 10]
abbrev dktX11_init_34 : List UInt8 := dkwX11_init_34 ++ dktX11_init_35
def dkwX11_init_33 : List UInt8 := [181, 4, 1, 42, 16, 81, 188, 4, 181, 3, 254, 42, 16, 81, 188, 4, 181, 4, 7, 42, 16, 81, 188, 10]
abbrev dktX11_init_33 : List UInt8 := dkwX11_init_33 ++ dktX11_init_34
def dkwX11_init_32 : List UInt8 := [181, 3, 171, 42, 16, 9, 188, 11, 181, 3, 211, 42, 16, 81, 188, 10, 181, 3, 230, 42, 16, 81, 188, 10]
abbrev dktX11_init_32 : List UInt8 := dkwX11_init_32 ++ dktX11_init_33
def dkwX11_init_31 : List UInt8 := [17, 0, 200, 188, 11, 181, 3, 185, 42, 16, 9, 188, 4, 181, 3, 182, 42, 17, 0, 200, 188, 10]
abbrev dktX11_init_31 : List UInt8 := dkwX11_init_31 ++ dktX11_init_32
def dkwX11_init_30 : List UInt8 := [188, 10, 181, 3, 131, 42, 16, 9, 188, 10, 181, 3, 141, 42, 17, 0, 200, 188, 10, 181, 3, 188, 42]
abbrev dktX11_init_30 : List UInt8 := dkwX11_init_30 ++ dktX11_init_31
def dkwX11_init_29 : List UInt8 := [188, 10, 181, 3, 58, 42, 16, 90, 188, 10, 181, 3, 128, 42, 16, 10, 188, 10, 181, 3, 125, 42, 16, 10]
abbrev dktX11_init_29 : List UInt8 := dkwX11_init_29 ++ dktX11_init_30
def dkwX11_init_28 : List UInt8 := [188, 11, 181, 3, 46, 42, 16, 40, 188, 10, 181, 3, 52, 42, 16, 40, 188, 10, 181, 3, 55, 42, 16, 9]
abbrev dktX11_init_28 : List UInt8 := dkwX11_init_28 ++ dktX11_init_29
def dkwX11_init_27 : List UInt8 := [181, 3, 21, 42, 16, 9, 188, 11, 181, 3, 33, 42, 16, 9, 188, 10, 181, 3, 37, 42, 17, 1, 104]
abbrev dktX11_init_27 : List UInt8 := dkwX11_init_27 ++ dktX11_init_28
def dkwX11_init_26 : List UInt8 := [17, 7, 8, 188, 10, 181, 3, 12, 42, 17, 7, 8, 188, 10, 181, 3, 24, 42, 17, 0, 200, 188, 10]
abbrev dktX11_init_26 : List UInt8 := dkwX11_init_26 ++ dktX11_init_27
def dkwX11_init_25 : List UInt8 := [188, 4, 181, 2, 40, 42, 16, 7, 188, 4, 181, 2, 43, 42, 16, 9, 188, 4, 181, 2, 252, 42]
abbrev dktX11_init_25 : List UInt8 := dkwX11_init_25 ++ dktX11_init_26
def dkwX11_init_24 : List UInt8 := [181, 2, 167, 42, 16, 7, 188, 10, 181, 2, 37, 42, 17, 5, 120, 188, 10, 181, 2, 228, 42, 16, 7]
abbrev dktX11_init_24 : List UInt8 := dkwX11_init_24 ++ dktX11_init_25
def dkwX11_init_23 : List UInt8 := [17, 42, 48, 188, 8, 181, 2, 210, 42, 17, 42, 48, 188, 8, 181, 2, 213, 42, 17, 0, 200, 188, 4]
abbrev dktX11_init_23 : List UInt8 := dkwX11_init_23 ++ dktX11_init_24
def dkwX11_init_22 : List UInt8 := [181, 2, 155, 42, 17, 0, 200, 188, 10, 181, 2, 185, 42, 17, 4, 176, 188, 10, 181, 2, 152, 42]
abbrev dktX11_init_22 : List UInt8 := dkwX11_init_22 ++ dktX11_init_23
def dkwX11_init_21 : List UInt8 := [17, 0, 200, 188, 10, 181, 2, 146, 42, 17, 0, 200, 188, 10, 181, 2, 161, 42, 17, 0, 200, 188, 4]
abbrev dktX11_init_21 : List UInt8 := dkwX11_init_21 ++ dktX11_init_22
def dkwX11_init_20 : List UInt8 := [188, 4, 181, 2, 140, 42, 17, 0, 200, 188, 10, 181, 2, 179, 42, 17, 0, 200, 188, 10, 181, 2, 149, 42]
abbrev dktX11_init_20 : List UInt8 := dkwX11_init_20 ++ dktX11_init_21
def dkwX11_init_19 : List UInt8 := [188, 10, 181, 2, 114, 42, 16, 60, 188, 4, 181, 2, 117, 42, 16, 6, 188, 10, 181, 2, 137, 42, 16, 6]
abbrev dktX11_init_19 : List UInt8 := dkwX11_init_19 ++ dktX11_init_20
def dkwX11_init_18 : List UInt8 := [188, 10, 181, 2, 90, 42, 16, 60, 188, 4, 181, 2, 93, 42, 16, 60, 188, 10, 181, 2, 111, 42, 16, 60]
abbrev dktX11_init_18 : List UInt8 := dkwX11_init_18 ++ dktX11_init_19
def dkwX11_init_17 : List UInt8 := [188, 10, 181, 2, 102, 42, 16, 6, 188, 4, 181, 2, 34, 42, 16, 60, 188, 10, 181, 2, 87, 42, 16, 60]
abbrev dktX11_init_17 : List UInt8 := dkwX11_init_17 ++ dktX11_init_18
def dkwX11_init_16 : List UInt8 := [188, 10, 181, 2, 96, 42, 16, 54, 188, 4, 181, 2, 55, 42, 16, 54, 188, 10, 181, 2, 99, 42, 16, 54]
abbrev dktX11_init_16 : List UInt8 := dkwX11_init_16 ++ dktX11_init_17
def dkwX11_init_15 : List UInt8 := [181, 2, 81, 42, 17, 12, 168, 188, 4, 181, 2, 84, 42, 16, 6, 188, 10, 181, 1, 232, 42, 16, 54]
abbrev dktX11_init_15 : List UInt8 := dkwX11_init_15 ++ dktX11_init_16
def dkwX11_init_14 : List UInt8 := [181, 2, 72, 42, 16, 54, 188, 10, 181, 2, 75, 42, 16, 54, 188, 10, 181, 2, 78, 42, 16, 54, 188, 10]
abbrev dktX11_init_14 : List UInt8 := dkwX11_init_14 ++ dktX11_init_15
def dkwX11_init_13 : List UInt8 := [181, 1, 251, 42, 16, 54, 188, 10, 181, 2, 63, 42, 16, 54, 188, 10, 181, 2, 66, 42, 16, 54, 188, 10]
abbrev dktX11_init_13 : List UInt8 := dkwX11_init_13 ++ dktX11_init_14
def dkwX11_init_12 : List UInt8 := [181, 1, 241, 42, 16, 32, 188, 4, 181, 1, 245, 42, 16, 32, 188, 4, 181, 1, 248, 42, 16, 32, 188, 4]
abbrev dktX11_init_12 : List UInt8 := dkwX11_init_12 ++ dktX11_init_13
def dkwX11_init_11 : List UInt8 := [188, 10, 181, 1, 25, 42, 16, 96, 188, 10, 181, 1, 28, 42, 2, 181, 1, 216, 42, 16, 32, 188, 4]
abbrev dktX11_init_11 : List UInt8 := dkwX11_init_11 ++ dktX11_init_12
def dkwX11_init_10 : List UInt8 := [188, 10, 181, 1, 60, 42, 16, 82, 188, 10, 181, 1, 63, 42, 16, 82, 188, 10, 181, 1, 66, 42, 16, 20]
abbrev dktX11_init_10 : List UInt8 := dkwX11_init_10 ++ dktX11_init_11
def dkwX11_init_9 : List UInt8 := [188, 10, 181, 1, 34, 42, 5, 188, 10, 181, 1, 54, 42, 16, 82, 188, 10, 181, 1, 57, 42, 16, 82]
abbrev dktX11_init_9 : List UInt8 := dkwX11_init_9 ++ dktX11_init_10
def dkwX11_init_8 : List UInt8 := [181, 0, 185, 42, 17, 15, 162, 188, 10, 181, 0, 182, 42, 17, 62, 136, 188, 10, 181, 1, 31, 42, 7]
abbrev dktX11_init_8 : List UInt8 := dkwX11_init_8 ++ dktX11_init_9
def dkwX11_init_7 : List UInt8 := [17, 15, 162, 188, 10, 181, 0, 167, 42, 17, 15, 162, 188, 10, 181, 0, 161, 42, 17, 15, 162, 188, 10]
abbrev dktX11_init_7 : List UInt8 := dkwX11_init_7 ++ dktX11_init_8
def dkwX11_init_6 : List UInt8 := [181, 0, 132, 42, 17, 2, 208, 188, 10, 181, 0, 135, 42, 17, 2, 208, 188, 10, 181, 0, 138, 42]
abbrev dktX11_init_6 : List UInt8 := dkwX11_init_6 ++ dktX11_init_7
def dkwX11_init_5 : List UInt8 := [16, 60, 188, 10, 181, 0, 126, 42, 17, 2, 208, 188, 10, 181, 0, 129, 42, 17, 2, 208, 188, 10]
abbrev dktX11_init_5 : List UInt8 := dkwX11_init_5 ++ dktX11_init_6
def dkwX11_init_4 : List UInt8 := [188, 10, 181, 0, 115, 42, 17, 2, 88, 188, 10, 181, 0, 118, 42, 17, 2, 88, 188, 10, 181, 0, 121, 42]
abbrev dktX11_init_4 : List UInt8 := dkwX11_init_4 ++ dktX11_init_5
def dkwX11_init_3 : List UInt8 := [188, 10, 181, 0, 101, 42, 16, 60, 188, 10, 181, 0, 104, 42, 16, 60, 188, 10, 181, 0, 107, 42, 16, 60]
abbrev dktX11_init_3 : List UInt8 := dkwX11_init_3 ++ dktX11_init_4
def dkwX11_init_2 : List UInt8 := [188, 10, 181, 0, 86, 42, 16, 60, 188, 10, 181, 0, 95, 42, 16, 60, 188, 10, 181, 0, 98, 42, 16, 60]
abbrev dktX11_init_2 : List UInt8 := dkwX11_init_2 ++ dktX11_init_3
def dkwX11_init_1 : List UInt8 := [188, 10, 181, 0, 77, 42, 16, 60, 188, 10, 181, 0, 80, 42, 16, 60, 188, 10, 181, 0, 83, 42, 16, 60]
abbrev dktX11_init_1 : List UInt8 := dkwX11_init_1 ++ dktX11_init_2
def dkwX11_init_0 : List UInt8 := [42, 183, 4, 94, 42, 17, 15, 160, 188, 8, 181, 0, 9, 42, 16, 24, 188, 10, 181, 0, 64, 42, 16, 60]
abbrev dktX11_init_0 : List UInt8 := dkwX11_init_0 ++ dktX11_init_1
theorem dksX11_init_0 : cX11_init.data.toList.drop 0 = dktX11_init_0 := by decide +kernel
theorem dksX11_init_1 : cX11_init.data.toList.drop 24 = dktX11_init_1 := dk_seg dksX11_init_0 24 rfl rfl
theorem dksX11_init_2 : cX11_init.data.toList.drop 48 = dktX11_init_2 := dk_seg dksX11_init_1 24 rfl rfl
theorem dksX11_init_3 : cX11_init.data.toList.drop 72 = dktX11_init_3 := dk_seg dksX11_init_2 24 rfl rfl
theorem dksX11_init_4 : cX11_init.data.toList.drop 96 = dktX11_init_4 := dk_seg dksX11_init_3 24 rfl rfl
theorem dksX11_init_5 : cX11_init.data.toList.drop 120 = dktX11_init_5 := dk_seg dksX11_init_4 24 rfl rfl
theorem dksX11_init_6 : cX11_init.data.toList.drop 142 = dktX11_init_6 := dk_seg dksX11_init_5 22 rfl rfl
theorem dksX11_init_7 : cX11_init.data.toList.drop 164 = dktX11_init_7 := dk_seg dksX11_init_6 22 rfl rfl
theorem dksX11_init_8 : cX11_init.data.toList.drop 187 = dktX11_init_8 := dk_seg dksX11_init_7 23 rfl rfl
theorem dksX11_init_9 : cX11_init.data.toList.drop 210 = dktX11_init_9 := dk_seg dksX11_init_8 23 rfl rfl
theorem dksX11_init_10 : cX11_init.data.toList.drop 233 = dktX11_init_10 := dk_seg dksX11_init_9 23 rfl rfl
theorem dksX11_init_11 : cX11_init.data.toList.drop 257 = dktX11_init_11 := dk_seg dksX11_init_10 24 rfl rfl
theorem dksX11_init_12 : cX11_init.data.toList.drop 280 = dktX11_init_12 := dk_seg dksX11_init_11 23 rfl rfl
theorem dksX11_init_13 : cX11_init.data.toList.drop 304 = dktX11_init_13 := dk_seg dksX11_init_12 24 rfl rfl
theorem dksX11_init_14 : cX11_init.data.toList.drop 328 = dktX11_init_14 := dk_seg dksX11_init_13 24 rfl rfl
theorem dksX11_init_15 : cX11_init.data.toList.drop 352 = dktX11_init_15 := dk_seg dksX11_init_14 24 rfl rfl
theorem dksX11_init_16 : cX11_init.data.toList.drop 375 = dktX11_init_16 := dk_seg dksX11_init_15 23 rfl rfl
theorem dksX11_init_17 : cX11_init.data.toList.drop 399 = dktX11_init_17 := dk_seg dksX11_init_16 24 rfl rfl
theorem dksX11_init_18 : cX11_init.data.toList.drop 423 = dktX11_init_18 := dk_seg dksX11_init_17 24 rfl rfl
theorem dksX11_init_19 : cX11_init.data.toList.drop 447 = dktX11_init_19 := dk_seg dksX11_init_18 24 rfl rfl
theorem dksX11_init_20 : cX11_init.data.toList.drop 471 = dktX11_init_20 := dk_seg dksX11_init_19 24 rfl rfl
theorem dksX11_init_21 : cX11_init.data.toList.drop 495 = dktX11_init_21 := dk_seg dksX11_init_20 24 rfl rfl
theorem dksX11_init_22 : cX11_init.data.toList.drop 518 = dktX11_init_22 := dk_seg dksX11_init_21 23 rfl rfl
theorem dksX11_init_23 : cX11_init.data.toList.drop 540 = dktX11_init_23 := dk_seg dksX11_init_22 22 rfl rfl
theorem dksX11_init_24 : cX11_init.data.toList.drop 563 = dktX11_init_24 := dk_seg dksX11_init_23 23 rfl rfl
theorem dksX11_init_25 : cX11_init.data.toList.drop 586 = dktX11_init_25 := dk_seg dksX11_init_24 23 rfl rfl
theorem dksX11_init_26 : cX11_init.data.toList.drop 608 = dktX11_init_26 := dk_seg dksX11_init_25 22 rfl rfl
theorem dksX11_init_27 : cX11_init.data.toList.drop 631 = dktX11_init_27 := dk_seg dksX11_init_26 23 rfl rfl
theorem dksX11_init_28 : cX11_init.data.toList.drop 654 = dktX11_init_28 := dk_seg dksX11_init_27 23 rfl rfl
theorem dksX11_init_29 : cX11_init.data.toList.drop 678 = dktX11_init_29 := dk_seg dksX11_init_28 24 rfl rfl
theorem dksX11_init_30 : cX11_init.data.toList.drop 702 = dktX11_init_30 := dk_seg dksX11_init_29 24 rfl rfl
theorem dksX11_init_31 : cX11_init.data.toList.drop 725 = dktX11_init_31 := dk_seg dksX11_init_30 23 rfl rfl
theorem dksX11_init_32 : cX11_init.data.toList.drop 747 = dktX11_init_32 := dk_seg dksX11_init_31 22 rfl rfl
theorem dksX11_init_33 : cX11_init.data.toList.drop 771 = dktX11_init_33 := dk_seg dksX11_init_32 24 rfl rfl
theorem dksX11_init_34 : cX11_init.data.toList.drop 795 = dktX11_init_34 := dk_seg dksX11_init_33 24 rfl rfl
theorem dksX11_init_35 : cX11_init.data.toList.drop 819 = dktX11_init_35 := dk_seg dksX11_init_34 24 rfl rfl
theorem dksX11_init_36 : cX11_init.data.toList.drop 843 = dktX11_init_36 := dk_seg dksX11_init_35 24 rfl rfl
theorem dksX11_init_37 : cX11_init.data.toList.drop 867 = dktX11_init_37 := dk_seg dksX11_init_36 24 rfl rfl
theorem dksX11_init_38 : cX11_init.data.toList.drop 891 = dktX11_init_38 := dk_seg dksX11_init_37 24 rfl rfl
theorem dksX11_init_39 : cX11_init.data.toList.drop 913 = dktX11_init_39 := dk_seg dksX11_init_38 22 rfl rfl
theorem dksX11_init_40 : cX11_init.data.toList.drop 936 = dktX11_init_40 := dk_seg dksX11_init_39 23 rfl rfl
theorem dksX11_init_41 : cX11_init.data.toList.drop 959 = dktX11_init_41 := dk_seg dksX11_init_40 23 rfl rfl
theorem dksX11_init_42 : cX11_init.data.toList.drop 983 = dktX11_init_42 := dk_seg dksX11_init_41 24 rfl rfl
theorem dksX11_init_43 : cX11_init.data.toList.drop 1007 = dktX11_init_43 := dk_seg dksX11_init_42 24 rfl rfl
theorem dksX11_init_44 : cX11_init.data.toList.drop 1030 = dktX11_init_44 := dk_seg dksX11_init_43 23 rfl rfl
theorem dksX11_init_45 : cX11_init.data.toList.drop 1053 = dktX11_init_45 := dk_seg dksX11_init_44 23 rfl rfl
theorem dksX11_init_46 : cX11_init.data.toList.drop 1077 = dktX11_init_46 := dk_seg dksX11_init_45 24 rfl rfl
theorem dksX11_init_47 : cX11_init.data.toList.drop 1100 = dktX11_init_47 := dk_seg dksX11_init_46 23 rfl rfl
theorem dksX11_init_48 : cX11_init.data.toList.drop 1123 = dktX11_init_48 := dk_seg dksX11_init_47 23 rfl rfl
theorem dksX11_init_49 : cX11_init.data.toList.drop 1147 = dktX11_init_49 := dk_seg dksX11_init_48 24 rfl rfl
theorem dksX11_init_50 : cX11_init.data.toList.drop 1170 = dktX11_init_50 := dk_seg dksX11_init_49 23 rfl rfl
theorem dksX11_init_51 : cX11_init.data.toList.drop 1193 = dktX11_init_51 := dk_seg dksX11_init_50 23 rfl rfl
theorem dksX11_init_52 : cX11_init.data.toList.drop 1217 = dktX11_init_52 := dk_seg dksX11_init_51 24 rfl rfl
theorem dksX11_init_53 : cX11_init.data.toList.drop 1240 = dktX11_init_53 := dk_seg dksX11_init_52 23 rfl rfl
theorem dksX11_init_54 : cX11_init.data.toList.drop 1263 = dktX11_init_54 := dk_seg dksX11_init_53 23 rfl rfl
theorem dksX11_init_55 : cX11_init.data.toList.drop 1287 = dktX11_init_55 := dk_seg dksX11_init_54 24 rfl rfl
theorem dksX11_init_56 : cX11_init.data.toList.drop 1310 = dktX11_init_56 := dk_seg dksX11_init_55 23 rfl rfl
theorem dksX11_init_57 : cX11_init.data.toList.drop 1333 = dktX11_init_57 := dk_seg dksX11_init_56 23 rfl rfl
theorem dksX11_init_58 : cX11_init.data.toList.drop 1357 = dktX11_init_58 := dk_seg dksX11_init_57 24 rfl rfl
theorem dksX11_init_59 : cX11_init.data.toList.drop 1380 = dktX11_init_59 := dk_seg dksX11_init_58 23 rfl rfl
theorem dksX11_init_60 : cX11_init.data.toList.drop 1403 = dktX11_init_60 := dk_seg dksX11_init_59 23 rfl rfl
theorem dksX11_init_61 : cX11_init.data.toList.drop 1427 = dktX11_init_61 := dk_seg dksX11_init_60 24 rfl rfl
theorem dksX11_init_62 : cX11_init.data.toList.drop 1451 = dktX11_init_62 := dk_seg dksX11_init_61 24 rfl rfl
theorem dksX11_init_63 : cX11_init.data.toList.drop 1475 = dktX11_init_63 := dk_seg dksX11_init_62 24 rfl rfl
theorem dksX11_init_64 : cX11_init.data.toList.drop 1499 = dktX11_init_64 := dk_seg dksX11_init_63 24 rfl rfl
theorem dksX11_init_65 : cX11_init.data.toList.drop 1522 = dktX11_init_65 := dk_seg dksX11_init_64 23 rfl rfl
theorem dksX11_init_66 : cX11_init.data.toList.drop 1546 = dktX11_init_66 := dk_seg dksX11_init_65 24 rfl rfl
theorem dksX11_init_67 : cX11_init.data.toList.drop 1570 = dktX11_init_67 := dk_seg dksX11_init_66 24 rfl rfl
theorem dX11_init_0 : decode cX11_init 0 = .ok (.aload_n 0, 1) := dk_42 (dk_at dksX11_init_0 0 rfl rfl)
theorem dX11_init_1 : decode cX11_init 1 = .ok (.invokespecial 1118, 3) := dk_183 4 94 (dk_at dksX11_init_0 1 rfl rfl)
theorem dX11_init_4 : decode cX11_init 4 = .ok (.aload_n 0, 1) := dk_42 (dk_at dksX11_init_0 4 rfl rfl)
theorem dX11_init_5 : decode cX11_init 5 = .ok (.sipush 4000, 3) := dk_17 15 160 (dk_at dksX11_init_0 5 rfl rfl)
theorem dX11_init_8 : decode cX11_init 8 = .ok (.newarray .byte, 2) := dk_188_8 (dk_at dksX11_init_0 8 rfl rfl)
theorem dX11_init_10 : decode cX11_init 10 = .ok (.putfield 9, 3) := dk_181 0 9 (dk_at dksX11_init_0 10 rfl rfl)
theorem dX11_init_13 : decode cX11_init 13 = .ok (.aload_n 0, 1) := dk_42 (dk_at dksX11_init_0 13 rfl rfl)
theorem dX11_init_14 : decode cX11_init 14 = .ok (.bipush 24, 2) := dk_16 24 (dk_at dksX11_init_0 14 rfl rfl)
theorem dX11_init_16 : decode cX11_init 16 = .ok (.newarray .int, 2) := dk_188_10 (dk_at dksX11_init_0 16 rfl rfl)
theorem dX11_init_18 : decode cX11_init 18 = .ok (.putfield 64, 3) := dk_181 0 64 (dk_at dksX11_init_0 18 rfl rfl)
theorem dX11_init_21 : decode cX11_init 21 = .ok (.aload_n 0, 1) := dk_42 (dk_at dksX11_init_0 21 rfl rfl)
theorem dX11_init_22 : decode cX11_init 22 = .ok (.bipush 60, 2) := dk_16 60 (dk_at dksX11_init_0 22 rfl rfl)
theorem dX11_init_24 : decode cX11_init 24 = .ok (.newarray .int, 2) := dk_188_10 (dk_at dksX11_init_1 0 rfl rfl)
theorem dX11_init_26 : decode cX11_init 26 = .ok (.putfield 77, 3) := dk_181 0 77 (dk_at dksX11_init_1 2 rfl rfl)
theorem dX11_init_29 : decode cX11_init 29 = .ok (.aload_n 0, 1) := dk_42 (dk_at dksX11_init_1 5 rfl rfl)
theorem dX11_init_30 : decode cX11_init 30 = .ok (.bipush 60, 2) := dk_16 60 (dk_at dksX11_init_1 6 rfl rfl)
theorem dX11_init_32 : decode cX11_init 32 = .ok (.newarray .int, 2) := dk_188_10 (dk_at dksX11_init_1 8 rfl rfl)
theorem dX11_init_34 : decode cX11_init 34 = .ok (.putfield 80, 3) := dk_181 0 80 (dk_at dksX11_init_1 10 rfl rfl)
theorem dX11_init_37 : decode cX11_init 37 = .ok (.aload_n 0, 1) := dk_42 (dk_at dksX11_init_1 13 rfl rfl)
theorem dX11_init_38 : decode cX11_init 38 = .ok (.bipush 60, 2) := dk_16 60 (dk_at dksX11_init_1 14 rfl rfl)
theorem dX11_init_40 : decode cX11_init 40 = .ok (.newarray .int, 2) := dk_188_10 (dk_at dksX11_init_1 16 rfl rfl)
theorem dX11_init_42 : decode cX11_init 42 = .ok (.putfield 83, 3) := dk_181 0 83 (dk_at dksX11_init_1 18 rfl rfl)
theorem dX11_init_45 : decode cX11_init 45 = .ok (.aload_n 0, 1) := dk_42 (dk_at dksX11_init_1 21 rfl rfl)
theorem dX11_init_46 : decode cX11_init 46 = .ok (.bipush 60, 2) := dk_16 60 (dk_at dksX11_init_1 22 rfl rfl)
theorem dX11_init_48 : decode cX11_init 48 = .ok (.newarray .int, 2) := dk_188_10 (dk_at dksX11_init_2 0 rfl rfl)
theorem dX11_init_50 : decode cX11_init 50 = .ok (.putfield 86, 3) := dk_181 0 86 (dk_at dksX11_init_2 2 rfl rfl)
theorem dX11_init_53 : decode cX11_init 53 = .ok (.aload_n 0, 1) := dk_42 (dk_at dksX11_init_2 5 rfl rfl)
theorem dX11_init_54 : decode cX11_init 54 = .ok (.bipush 60, 2) := dk_16 60 (dk_at dksX11_init_2 6 rfl rfl)
theorem dX11_init_56 : decode cX11_init 56 = .ok (.newarray .int, 2) := dk_188_10 (dk_at dksX11_init_2 8 rfl rfl)
theorem dX11_init_58 : decode cX11_init 58 = .ok (.putfield 95, 3) := dk_181 0 95 (dk_at dksX11_init_2 10 rfl rfl)
theorem dX11_init_61 : decode cX11_init 61 = .ok (.aload_n 0, 1) := dk_42 (dk_at dksX11_init_2 13 rfl rfl)
theorem dX11_init_62 : decode cX11_init 62 = .ok (.bipush 60, 2) := dk_16 60 (dk_at dksX11_init_2 14 rfl rfl)
theorem dX11_init_64 : decode cX11_init 64 = .ok (.newarray .int, 2) := dk_188_10 (dk_at dksX11_init_2 16 rfl rfl)
theorem dX11_init_66 : decode cX11_init 66 = .ok (.putfield 98, 3) := dk_181 0 98 (dk_at dksX11_init_2 18 rfl rfl)
theorem dX11_init_69 : decode cX11_init 69 = .ok (.aload_n 0, 1) := dk_42 (dk_at dksX11_init_2 21 rfl rfl)
theorem dX11_init_70 : decode cX11_init 70 = .ok (.bipush 60, 2) := dk_16 60 (dk_at dksX11_init_2 22 rfl rfl)
theorem dX11_init_72 : decode cX11_init 72 = .ok (.newarray .int, 2) := dk_188_10 (dk_at dksX11_init_3 0 rfl rfl)
theorem dX11_init_74 : decode cX11_init 74 = .ok (.putfield 101, 3) := dk_181 0 101 (dk_at dksX11_init_3 2 rfl rfl)
theorem dX11_init_77 : decode cX11_init 77 = .ok (.aload_n 0, 1) := dk_42 (dk_at dksX11_init_3 5 rfl rfl)
theorem dX11_init_78 : decode cX11_init 78 = .ok (.bipush 60, 2) := dk_16 60 (dk_at dksX11_init_3 6 rfl rfl)
theorem dX11_init_80 : decode cX11_init 80 = .ok (.newarray .int, 2) := dk_188_10 (dk_at dksX11_init_3 8 rfl rfl)
theorem dX11_init_82 : decode cX11_init 82 = .ok (.putfield 104, 3) := dk_181 0 104 (dk_at dksX11_init_3 10 rfl rfl)
theorem dX11_init_85 : decode cX11_init 85 = .ok (.aload_n 0, 1) := dk_42 (dk_at dksX11_init_3 13 rfl rfl)
theorem dX11_init_86 : decode cX11_init 86 = .ok (.bipush 60, 2) := dk_16 60 (dk_at dksX11_init_3 14 rfl rfl)
theorem dX11_init_88 : decode cX11_init 88 = .ok (.newarray .int, 2) := dk_188_10 (dk_at dksX11_init_3 16 rfl rfl)
theorem dX11_init_90 : decode cX11_init 90 = .ok (.putfield 107, 3) := dk_181 0 107 (dk_at dksX11_init_3 18 rfl rfl)
theorem dX11_init_93 : decode cX11_init 93 = .ok (.aload_n 0, 1) := dk_42 (dk_at dksX11_init_3 21 rfl rfl)
theorem dX11_init_94 : decode cX11_init 94 = .ok (.bipush 60, 2) := dk_16 60 (dk_at dksX11_init_3 22 rfl rfl)
theorem dX11_init_96 : decode cX11_init 96 = .ok (.newarray .int, 2) := dk_188_10 (dk_at dksX11_init_4 0 rfl rfl)
theorem dX11_init_98 : decode cX11_init 98 = .ok (.putfield 115, 3) := dk_181 0 115 (dk_at dksX11_init_4 2 rfl rfl)
theorem dX11_init_101 : decode cX11_init 101 = .ok (.aload_n 0, 1) := dk_42 (dk_at dksX11_init_4 5 rfl rfl)
theorem dX11_init_102 : decode cX11_init 102 = .ok (.sipush 600, 3) := dk_17 2 88 (dk_at dksX11_init_4 6 rfl rfl)
theorem dX11_init_105 : decode cX11_init 105 = .ok (.newarray .int, 2) := dk_188_10 (dk_at dksX11_init_4 9 rfl rfl)
theorem dX11_init_107 : decode cX11_init 107 = .ok (.putfield 118, 3) := dk_181 0 118 (dk_at dksX11_init_4 11 rfl rfl)
theorem dX11_init_110 : decode cX11_init 110 = .ok (.aload_n 0, 1) := dk_42 (dk_at dksX11_init_4 14 rfl rfl)
theorem dX11_init_111 : decode cX11_init 111 = .ok (.sipush 600, 3) := dk_17 2 88 (dk_at dksX11_init_4 15 rfl rfl)
theorem dX11_init_114 : decode cX11_init 114 = .ok (.newarray .int, 2) := dk_188_10 (dk_at dksX11_init_4 18 rfl rfl)
theorem dX11_init_116 : decode cX11_init 116 = .ok (.putfield 121, 3) := dk_181 0 121 (dk_at dksX11_init_4 20 rfl rfl)
theorem dX11_init_119 : decode cX11_init 119 = .ok (.aload_n 0, 1) := dk_42 (dk_at dksX11_init_4 23 rfl rfl)
theorem dX11_init_120 : decode cX11_init 120 = .ok (.bipush 60, 2) := dk_16 60 (dk_at dksX11_init_5 0 rfl rfl)
theorem dX11_init_122 : decode cX11_init 122 = .ok (.newarray .int, 2) := dk_188_10 (dk_at dksX11_init_5 2 rfl rfl)
theorem dX11_init_124 : decode cX11_init 124 = .ok (.putfield 126, 3) := dk_181 0 126 (dk_at dksX11_init_5 4 rfl rfl)
theorem dX11_init_127 : decode cX11_init 127 = .ok (.aload_n 0, 1) := dk_42 (dk_at dksX11_init_5 7 rfl rfl)
theorem dX11_init_128 : decode cX11_init 128 = .ok (.sipush 720, 3) := dk_17 2 208 (dk_at dksX11_init_5 8 rfl rfl)
theorem dX11_init_131 : decode cX11_init 131 = .ok (.newarray .int, 2) := dk_188_10 (dk_at dksX11_init_5 11 rfl rfl)
theorem dX11_init_133 : decode cX11_init 133 = .ok (.putfield 129, 3) := dk_181 0 129 (dk_at dksX11_init_5 13 rfl rfl)
theorem dX11_init_136 : decode cX11_init 136 = .ok (.aload_n 0, 1) := dk_42 (dk_at dksX11_init_5 16 rfl rfl)
theorem dX11_init_137 : decode cX11_init 137 = .ok (.sipush 720, 3) := dk_17 2 208 (dk_at dksX11_init_5 17 rfl rfl)
theorem dX11_init_140 : decode cX11_init 140 = .ok (.newarray .int, 2) := dk_188_10 (dk_at dksX11_init_5 20 rfl rfl)
theorem dX11_init_142 : decode cX11_init 142 = .ok (.putfield 132, 3) := dk_181 0 132 (dk_at dksX11_init_6 0 rfl rfl)
theorem dX11_init_145 : decode cX11_init 145 = .ok (.aload_n 0, 1) := dk_42 (dk_at dksX11_init_6 3 rfl rfl)
theorem dX11_init_146 : decode cX11_init 146 = .ok (.sipush 720, 3) := dk_17 2 208 (dk_at dksX11_init_6 4 rfl rfl)
theorem dX11_init_149 : decode cX11_init 149 = .ok (.newarray .int, 2) := dk_188_10 (dk_at dksX11_init_6 7 rfl rfl)
theorem dX11_init_151 : decode cX11_init 151 = .ok (.putfield 135, 3) := dk_181 0 135 (dk_at dksX11_init_6 9 rfl rfl)
theorem dX11_init_154 : decode cX11_init 154 = .ok (.aload_n 0, 1) := dk_42 (dk_at dksX11_init_6 12 rfl rfl)
theorem dX11_init_155 : decode cX11_init 155 = .ok (.sipush 720, 3) := dk_17 2 208 (dk_at dksX11_init_6 13 rfl rfl)
theorem dX11_init_158 : decode cX11_init 158 = .ok (.newarray .int, 2) := dk_188_10 (dk_at dksX11_init_6 16 rfl rfl)
theorem dX11_init_160 : decode cX11_init 160 = .ok (.putfield 138, 3) := dk_181 0 138 (dk_at dksX11_init_6 18 rfl rfl)
theorem dX11_init_163 : decode cX11_init 163 = .ok (.aload_n 0, 1) := dk_42 (dk_at dksX11_init_6 21 rfl rfl)
theorem dX11_init_164 : decode cX11_init 164 = .ok (.sipush 4002, 3) := dk_17 15 162 (dk_at dksX11_init_7 0 rfl rfl)
theorem dX11_init_167 : decode cX11_init 167 = .ok (.newarray .int, 2) := dk_188_10 (dk_at dksX11_init_7 3 rfl rfl)
theorem dX11_init_169 : decode cX11_init 169 = .ok (.putfield 167, 3) := dk_181 0 167 (dk_at dksX11_init_7 5 rfl rfl)
theorem dX11_init_172 : decode cX11_init 172 = .ok (.aload_n 0, 1) := dk_42 (dk_at dksX11_init_7 8 rfl rfl)
theorem dX11_init_173 : decode cX11_init 173 = .ok (.sipush 4002, 3) := dk_17 15 162 (dk_at dksX11_init_7 9 rfl rfl)
theorem dX11_init_176 : decode cX11_init 176 = .ok (.newarray .int, 2) := dk_188_10 (dk_at dksX11_init_7 12 rfl rfl)
theorem dX11_init_178 : decode cX11_init 178 = .ok (.putfield 161, 3) := dk_181 0 161 (dk_at dksX11_init_7 14 rfl rfl)
theorem dX11_init_181 : decode cX11_init 181 = .ok (.aload_n 0, 1) := dk_42 (dk_at dksX11_init_7 17 rfl rfl)
theorem dX11_init_182 : decode cX11_init 182 = .ok (.sipush 4002, 3) := dk_17 15 162 (dk_at dksX11_init_7 18 rfl rfl)
theorem dX11_init_185 : decode cX11_init 185 = .ok (.newarray .int, 2) := dk_188_10 (dk_at dksX11_init_7 21 rfl rfl)
theorem dX11_init_187 : decode cX11_init 187 = .ok (.putfield 185, 3) := dk_181 0 185 (dk_at dksX11_init_8 0 rfl rfl)
theorem dX11_init_190 : decode cX11_init 190 = .ok (.aload_n 0, 1) := dk_42 (dk_at dksX11_init_8 3 rfl rfl)
theorem dX11_init_191 : decode cX11_init 191 = .ok (.sipush 4002, 3) := dk_17 15 162 (dk_at dksX11_init_8 4 rfl rfl)
theorem dX11_init_194 : decode cX11_init 194 = .ok (.newarray .int, 2) := dk_188_10 (dk_at dksX11_init_8 7 rfl rfl)
theorem dX11_init_196 : decode cX11_init 196 = .ok (.putfield 182, 3) := dk_181 0 182 (dk_at dksX11_init_8 9 rfl rfl)
theorem dX11_init_199 : decode cX11_init 199 = .ok (.aload_n 0, 1) := dk_42 (dk_at dksX11_init_8 12 rfl rfl)
theorem dX11_init_200 : decode cX11_init 200 = .ok (.sipush 16008, 3) := dk_17 62 136 (dk_at dksX11_init_8 13 rfl rfl)
theorem dX11_init_203 : decode cX11_init 203 = .ok (.newarray .int, 2) := dk_188_10 (dk_at dksX11_init_8 16 rfl rfl)
theorem dX11_init_205 : decode cX11_init 205 = .ok (.putfield 287, 3) := dk_181 1 31 (dk_at dksX11_init_8 18 rfl rfl)
theorem dX11_init_208 : decode cX11_init 208 = .ok (.aload_n 0, 1) := dk_42 (dk_at dksX11_init_8 21 rfl rfl)
theorem dX11_init_209 : decode cX11_init 209 = .ok (.iconst 4, 1) := dk_7 (dk_at dksX11_init_8 22 rfl rfl)
theorem dX11_init_210 : decode cX11_init 210 = .ok (.newarray .int, 2) := dk_188_10 (dk_at dksX11_init_9 0 rfl rfl)
theorem dX11_init_212 : decode cX11_init 212 = .ok (.putfield 290, 3) := dk_181 1 34 (dk_at dksX11_init_9 2 rfl rfl)
theorem dX11_init_215 : decode cX11_init 215 = .ok (.aload_n 0, 1) := dk_42 (dk_at dksX11_init_9 5 rfl rfl)
theorem dX11_init_216 : decode cX11_init 216 = .ok (.iconst 2, 1) := dk_5 (dk_at dksX11_init_9 6 rfl rfl)
theorem dX11_init_217 : decode cX11_init 217 = .ok (.newarray .int, 2) := dk_188_10 (dk_at dksX11_init_9 7 rfl rfl)
theorem dX11_init_219 : decode cX11_init 219 = .ok (.putfield 310, 3) := dk_181 1 54 (dk_at dksX11_init_9 9 rfl rfl)
theorem dX11_init_222 : decode cX11_init 222 = .ok (.aload_n 0, 1) := dk_42 (dk_at dksX11_init_9 12 rfl rfl)
theorem dX11_init_223 : decode cX11_init 223 = .ok (.bipush 82, 2) := dk_16 82 (dk_at dksX11_init_9 13 rfl rfl)
theorem dX11_init_225 : decode cX11_init 225 = .ok (.newarray .int, 2) := dk_188_10 (dk_at dksX11_init_9 15 rfl rfl)
theorem dX11_init_227 : decode cX11_init 227 = .ok (.putfield 313, 3) := dk_181 1 57 (dk_at dksX11_init_9 17 rfl rfl)
theorem dX11_init_230 : decode cX11_init 230 = .ok (.aload_n 0, 1) := dk_42 (dk_at dksX11_init_9 20 rfl rfl)
theorem dX11_init_231 : decode cX11_init 231 = .ok (.bipush 82, 2) := dk_16 82 (dk_at dksX11_init_9 21 rfl rfl)
theorem dX11_init_233 : decode cX11_init 233 = .ok (.newarray .int, 2) := dk_188_10 (dk_at dksX11_init_10 0 rfl rfl)
theorem dX11_init_235 : decode cX11_init 235 = .ok (.putfield 316, 3) := dk_181 1 60 (dk_at dksX11_init_10 2 rfl rfl)
theorem dX11_init_238 : decode cX11_init 238 = .ok (.aload_n 0, 1) := dk_42 (dk_at dksX11_init_10 5 rfl rfl)
theorem dX11_init_239 : decode cX11_init 239 = .ok (.bipush 82, 2) := dk_16 82 (dk_at dksX11_init_10 6 rfl rfl)
theorem dX11_init_241 : decode cX11_init 241 = .ok (.newarray .int, 2) := dk_188_10 (dk_at dksX11_init_10 8 rfl rfl)
theorem dX11_init_243 : decode cX11_init 243 = .ok (.putfield 319, 3) := dk_181 1 63 (dk_at dksX11_init_10 10 rfl rfl)
theorem dX11_init_246 : decode cX11_init 246 = .ok (.aload_n 0, 1) := dk_42 (dk_at dksX11_init_10 13 rfl rfl)
theorem dX11_init_247 : decode cX11_init 247 = .ok (.bipush 82, 2) := dk_16 82 (dk_at dksX11_init_10 14 rfl rfl)
theorem dX11_init_249 : decode cX11_init 249 = .ok (.newarray .int, 2) := dk_188_10 (dk_at dksX11_init_10 16 rfl rfl)
theorem dX11_init_251 : decode cX11_init 251 = .ok (.putfield 322, 3) := dk_181 1 66 (dk_at dksX11_init_10 18 rfl rfl)
theorem dX11_init_254 : decode cX11_init 254 = .ok (.aload_n 0, 1) := dk_42 (dk_at dksX11_init_10 21 rfl rfl)
theorem dX11_init_255 : decode cX11_init 255 = .ok (.bipush 20, 2) := dk_16 20 (dk_at dksX11_init_10 22 rfl rfl)
theorem dX11_init_257 : decode cX11_init 257 = .ok (.newarray .int, 2) := dk_188_10 (dk_at dksX11_init_11 0 rfl rfl)
theorem dX11_init_259 : decode cX11_init 259 = .ok (.putfield 281, 3) := dk_181 1 25 (dk_at dksX11_init_11 2 rfl rfl)
theorem dX11_init_262 : decode cX11_init 262 = .ok (.aload_n 0, 1) := dk_42 (dk_at dksX11_init_11 5 rfl rfl)
theorem dX11_init_263 : decode cX11_init 263 = .ok (.bipush 96, 2) := dk_16 96 (dk_at dksX11_init_11 6 rfl rfl)
theorem dX11_init_265 : decode cX11_init 265 = .ok (.newarray .int, 2) := dk_188_10 (dk_at dksX11_init_11 8 rfl rfl)
theorem dX11_init_267 : decode cX11_init 267 = .ok (.putfield 284, 3) := dk_181 1 28 (dk_at dksX11_init_11 10 rfl rfl)
theorem dX11_init_270 : decode cX11_init 270 = .ok (.aload_n 0, 1) := dk_42 (dk_at dksX11_init_11 13 rfl rfl)
theorem dX11_init_271 : decode cX11_init 271 = .ok (.iconst (-1), 1) := dk_2 (dk_at dksX11_init_11 14 rfl rfl)
theorem dX11_init_272 : decode cX11_init 272 = .ok (.putfield 472, 3) := dk_181 1 216 (dk_at dksX11_init_11 15 rfl rfl)
theorem dX11_init_275 : decode cX11_init 275 = .ok (.aload_n 0, 1) := dk_42 (dk_at dksX11_init_11 18 rfl rfl)
theorem dX11_init_276 : decode cX11_init 276 = .ok (.bipush 32, 2) := dk_16 32 (dk_at dksX11_init_11 19 rfl rfl)
theorem dX11_init_278 : decode cX11_init 278 = .ok (.newarray .boolean, 2) := dk_188_4 (dk_at dksX11_init_11 21 rfl rfl)
theorem dX11_init_280 : decode cX11_init 280 = .ok (.putfield 497, 3) := dk_181 1 241 (dk_at dksX11_init_12 0 rfl rfl)
theorem dX11_init_283 : decode cX11_init 283 = .ok (.aload_n 0, 1) := dk_42 (dk_at dksX11_init_12 3 rfl rfl)
theorem dX11_init_284 : decode cX11_init 284 = .ok (.bipush 32, 2) := dk_16 32 (dk_at dksX11_init_12 4 rfl rfl)
theorem dX11_init_286 : decode cX11_init 286 = .ok (.newarray .boolean, 2) := dk_188_4 (dk_at dksX11_init_12 6 rfl rfl)
theorem dX11_init_288 : decode cX11_init 288 = .ok (.putfield 501, 3) := dk_181 1 245 (dk_at dksX11_init_12 8 rfl rfl)
theorem dX11_init_291 : decode cX11_init 291 = .ok (.aload_n 0, 1) := dk_42 (dk_at dksX11_init_12 11 rfl rfl)
theorem dX11_init_292 : decode cX11_init 292 = .ok (.bipush 32, 2) := dk_16 32 (dk_at dksX11_init_12 12 rfl rfl)
theorem dX11_init_294 : decode cX11_init 294 = .ok (.newarray .boolean, 2) := dk_188_4 (dk_at dksX11_init_12 14 rfl rfl)
theorem dX11_init_296 : decode cX11_init 296 = .ok (.putfield 504, 3) := dk_181 1 248 (dk_at dksX11_init_12 16 rfl rfl)
theorem dX11_init_299 : decode cX11_init 299 = .ok (.aload_n 0, 1) := dk_42 (dk_at dksX11_init_12 19 rfl rfl)
theorem dX11_init_300 : decode cX11_init 300 = .ok (.bipush 32, 2) := dk_16 32 (dk_at dksX11_init_12 20 rfl rfl)
theorem dX11_init_302 : decode cX11_init 302 = .ok (.newarray .boolean, 2) := dk_188_4 (dk_at dksX11_init_12 22 rfl rfl)
theorem dX11_init_304 : decode cX11_init 304 = .ok (.putfield 507, 3) := dk_181 1 251 (dk_at dksX11_init_13 0 rfl rfl)
theorem dX11_init_307 : decode cX11_init 307 = .ok (.aload_n 0, 1) := dk_42 (dk_at dksX11_init_13 3 rfl rfl)
theorem dX11_init_308 : decode cX11_init 308 = .ok (.bipush 54, 2) := dk_16 54 (dk_at dksX11_init_13 4 rfl rfl)
theorem dX11_init_310 : decode cX11_init 310 = .ok (.newarray .int, 2) := dk_188_10 (dk_at dksX11_init_13 6 rfl rfl)
theorem dX11_init_312 : decode cX11_init 312 = .ok (.putfield 575, 3) := dk_181 2 63 (dk_at dksX11_init_13 8 rfl rfl)
theorem dX11_init_315 : decode cX11_init 315 = .ok (.aload_n 0, 1) := dk_42 (dk_at dksX11_init_13 11 rfl rfl)
theorem dX11_init_316 : decode cX11_init 316 = .ok (.bipush 54, 2) := dk_16 54 (dk_at dksX11_init_13 12 rfl rfl)
theorem dX11_init_318 : decode cX11_init 318 = .ok (.newarray .int, 2) := dk_188_10 (dk_at dksX11_init_13 14 rfl rfl)
theorem dX11_init_320 : decode cX11_init 320 = .ok (.putfield 578, 3) := dk_181 2 66 (dk_at dksX11_init_13 16 rfl rfl)
theorem dX11_init_323 : decode cX11_init 323 = .ok (.aload_n 0, 1) := dk_42 (dk_at dksX11_init_13 19 rfl rfl)
theorem dX11_init_324 : decode cX11_init 324 = .ok (.bipush 54, 2) := dk_16 54 (dk_at dksX11_init_13 20 rfl rfl)
theorem dX11_init_326 : decode cX11_init 326 = .ok (.newarray .int, 2) := dk_188_10 (dk_at dksX11_init_13 22 rfl rfl)
theorem dX11_init_328 : decode cX11_init 328 = .ok (.putfield 584, 3) := dk_181 2 72 (dk_at dksX11_init_14 0 rfl rfl)
theorem dX11_init_331 : decode cX11_init 331 = .ok (.aload_n 0, 1) := dk_42 (dk_at dksX11_init_14 3 rfl rfl)
theorem dX11_init_332 : decode cX11_init 332 = .ok (.bipush 54, 2) := dk_16 54 (dk_at dksX11_init_14 4 rfl rfl)
theorem dX11_init_334 : decode cX11_init 334 = .ok (.newarray .int, 2) := dk_188_10 (dk_at dksX11_init_14 6 rfl rfl)
theorem dX11_init_336 : decode cX11_init 336 = .ok (.putfield 587, 3) := dk_181 2 75 (dk_at dksX11_init_14 8 rfl rfl)
theorem dX11_init_339 : decode cX11_init 339 = .ok (.aload_n 0, 1) := dk_42 (dk_at dksX11_init_14 11 rfl rfl)
theorem dX11_init_340 : decode cX11_init 340 = .ok (.bipush 54, 2) := dk_16 54 (dk_at dksX11_init_14 12 rfl rfl)
theorem dX11_init_342 : decode cX11_init 342 = .ok (.newarray .int, 2) := dk_188_10 (dk_at dksX11_init_14 14 rfl rfl)
theorem dX11_init_344 : decode cX11_init 344 = .ok (.putfield 590, 3) := dk_181 2 78 (dk_at dksX11_init_14 16 rfl rfl)
theorem dX11_init_347 : decode cX11_init 347 = .ok (.aload_n 0, 1) := dk_42 (dk_at dksX11_init_14 19 rfl rfl)
theorem dX11_init_348 : decode cX11_init 348 = .ok (.bipush 54, 2) := dk_16 54 (dk_at dksX11_init_14 20 rfl rfl)
theorem dX11_init_350 : decode cX11_init 350 = .ok (.newarray .int, 2) := dk_188_10 (dk_at dksX11_init_14 22 rfl rfl)
theorem dX11_init_352 : decode cX11_init 352 = .ok (.putfield 593, 3) := dk_181 2 81 (dk_at dksX11_init_15 0 rfl rfl)
theorem dX11_init_355 : decode cX11_init 355 = .ok (.aload_n 0, 1) := dk_42 (dk_at dksX11_init_15 3 rfl rfl)
theorem dX11_init_356 : decode cX11_init 356 = .ok (.sipush 3240, 3) := dk_17 12 168 (dk_at dksX11_init_15 4 rfl rfl)
theorem dX11_init_359 : decode cX11_init 359 = .ok (.newarray .boolean, 2) := dk_188_4 (dk_at dksX11_init_15 7 rfl rfl)
theorem dX11_init_361 : decode cX11_init 361 = .ok (.putfield 596, 3) := dk_181 2 84 (dk_at dksX11_init_15 9 rfl rfl)
theorem dX11_init_364 : decode cX11_init 364 = .ok (.aload_n 0, 1) := dk_42 (dk_at dksX11_init_15 12 rfl rfl)
theorem dX11_init_365 : decode cX11_init 365 = .ok (.bipush 6, 2) := dk_16 6 (dk_at dksX11_init_15 13 rfl rfl)
theorem dX11_init_367 : decode cX11_init 367 = .ok (.newarray .int, 2) := dk_188_10 (dk_at dksX11_init_15 15 rfl rfl)
theorem dX11_init_369 : decode cX11_init 369 = .ok (.putfield 488, 3) := dk_181 1 232 (dk_at dksX11_init_15 17 rfl rfl)
theorem dX11_init_372 : decode cX11_init 372 = .ok (.aload_n 0, 1) := dk_42 (dk_at dksX11_init_15 20 rfl rfl)
theorem dX11_init_373 : decode cX11_init 373 = .ok (.bipush 54, 2) := dk_16 54 (dk_at dksX11_init_15 21 rfl rfl)
theorem dX11_init_375 : decode cX11_init 375 = .ok (.newarray .int, 2) := dk_188_10 (dk_at dksX11_init_16 0 rfl rfl)
theorem dX11_init_377 : decode cX11_init 377 = .ok (.putfield 608, 3) := dk_181 2 96 (dk_at dksX11_init_16 2 rfl rfl)
theorem dX11_init_380 : decode cX11_init 380 = .ok (.aload_n 0, 1) := dk_42 (dk_at dksX11_init_16 5 rfl rfl)
theorem dX11_init_381 : decode cX11_init 381 = .ok (.bipush 54, 2) := dk_16 54 (dk_at dksX11_init_16 6 rfl rfl)
theorem dX11_init_383 : decode cX11_init 383 = .ok (.newarray .boolean, 2) := dk_188_4 (dk_at dksX11_init_16 8 rfl rfl)
theorem dX11_init_385 : decode cX11_init 385 = .ok (.putfield 567, 3) := dk_181 2 55 (dk_at dksX11_init_16 10 rfl rfl)
theorem dX11_init_388 : decode cX11_init 388 = .ok (.aload_n 0, 1) := dk_42 (dk_at dksX11_init_16 13 rfl rfl)
theorem dX11_init_389 : decode cX11_init 389 = .ok (.bipush 54, 2) := dk_16 54 (dk_at dksX11_init_16 14 rfl rfl)
theorem dX11_init_391 : decode cX11_init 391 = .ok (.newarray .int, 2) := dk_188_10 (dk_at dksX11_init_16 16 rfl rfl)
theorem dX11_init_393 : decode cX11_init 393 = .ok (.putfield 611, 3) := dk_181 2 99 (dk_at dksX11_init_16 18 rfl rfl)
theorem dX11_init_396 : decode cX11_init 396 = .ok (.aload_n 0, 1) := dk_42 (dk_at dksX11_init_16 21 rfl rfl)
theorem dX11_init_397 : decode cX11_init 397 = .ok (.bipush 54, 2) := dk_16 54 (dk_at dksX11_init_16 22 rfl rfl)
theorem dX11_init_399 : decode cX11_init 399 = .ok (.newarray .int, 2) := dk_188_10 (dk_at dksX11_init_17 0 rfl rfl)
theorem dX11_init_401 : decode cX11_init 401 = .ok (.putfield 614, 3) := dk_181 2 102 (dk_at dksX11_init_17 2 rfl rfl)
theorem dX11_init_404 : decode cX11_init 404 = .ok (.aload_n 0, 1) := dk_42 (dk_at dksX11_init_17 5 rfl rfl)
theorem dX11_init_405 : decode cX11_init 405 = .ok (.bipush 6, 2) := dk_16 6 (dk_at dksX11_init_17 6 rfl rfl)
theorem dX11_init_407 : decode cX11_init 407 = .ok (.newarray .boolean, 2) := dk_188_4 (dk_at dksX11_init_17 8 rfl rfl)
theorem dX11_init_409 : decode cX11_init 409 = .ok (.putfield 546, 3) := dk_181 2 34 (dk_at dksX11_init_17 10 rfl rfl)
theorem dX11_init_412 : decode cX11_init 412 = .ok (.aload_n 0, 1) := dk_42 (dk_at dksX11_init_17 13 rfl rfl)
theorem dX11_init_413 : decode cX11_init 413 = .ok (.bipush 60, 2) := dk_16 60 (dk_at dksX11_init_17 14 rfl rfl)
theorem dX11_init_415 : decode cX11_init 415 = .ok (.newarray .int, 2) := dk_188_10 (dk_at dksX11_init_17 16 rfl rfl)
theorem dX11_init_417 : decode cX11_init 417 = .ok (.putfield 599, 3) := dk_181 2 87 (dk_at dksX11_init_17 18 rfl rfl)
theorem dX11_init_420 : decode cX11_init 420 = .ok (.aload_n 0, 1) := dk_42 (dk_at dksX11_init_17 21 rfl rfl)
theorem dX11_init_421 : decode cX11_init 421 = .ok (.bipush 60, 2) := dk_16 60 (dk_at dksX11_init_17 22 rfl rfl)
theorem dX11_init_423 : decode cX11_init 423 = .ok (.newarray .int, 2) := dk_188_10 (dk_at dksX11_init_18 0 rfl rfl)
theorem dX11_init_425 : decode cX11_init 425 = .ok (.putfield 602, 3) := dk_181 2 90 (dk_at dksX11_init_18 2 rfl rfl)
theorem dX11_init_428 : decode cX11_init 428 = .ok (.aload_n 0, 1) := dk_42 (dk_at dksX11_init_18 5 rfl rfl)
theorem dX11_init_429 : decode cX11_init 429 = .ok (.bipush 60, 2) := dk_16 60 (dk_at dksX11_init_18 6 rfl rfl)
theorem dX11_init_431 : decode cX11_init 431 = .ok (.newarray .boolean, 2) := dk_188_4 (dk_at dksX11_init_18 8 rfl rfl)
theorem dX11_init_433 : decode cX11_init 433 = .ok (.putfield 605, 3) := dk_181 2 93 (dk_at dksX11_init_18 10 rfl rfl)
theorem dX11_init_436 : decode cX11_init 436 = .ok (.aload_n 0, 1) := dk_42 (dk_at dksX11_init_18 13 rfl rfl)
theorem dX11_init_437 : decode cX11_init 437 = .ok (.bipush 60, 2) := dk_16 60 (dk_at dksX11_init_18 14 rfl rfl)
theorem dX11_init_439 : decode cX11_init 439 = .ok (.newarray .int, 2) := dk_188_10 (dk_at dksX11_init_18 16 rfl rfl)
theorem dX11_init_441 : decode cX11_init 441 = .ok (.putfield 623, 3) := dk_181 2 111 (dk_at dksX11_init_18 18 rfl rfl)
theorem dX11_init_444 : decode cX11_init 444 = .ok (.aload_n 0, 1) := dk_42 (dk_at dksX11_init_18 21 rfl rfl)
theorem dX11_init_445 : decode cX11_init 445 = .ok (.bipush 60, 2) := dk_16 60 (dk_at dksX11_init_18 22 rfl rfl)
theorem dX11_init_447 : decode cX11_init 447 = .ok (.newarray .int, 2) := dk_188_10 (dk_at dksX11_init_19 0 rfl rfl)
theorem dX11_init_449 : decode cX11_init 449 = .ok (.putfield 626, 3) := dk_181 2 114 (dk_at dksX11_init_19 2 rfl rfl)
theorem dX11_init_452 : decode cX11_init 452 = .ok (.aload_n 0, 1) := dk_42 (dk_at dksX11_init_19 5 rfl rfl)
theorem dX11_init_453 : decode cX11_init 453 = .ok (.bipush 60, 2) := dk_16 60 (dk_at dksX11_init_19 6 rfl rfl)
theorem dX11_init_455 : decode cX11_init 455 = .ok (.newarray .boolean, 2) := dk_188_4 (dk_at dksX11_init_19 8 rfl rfl)
theorem dX11_init_457 : decode cX11_init 457 = .ok (.putfield 629, 3) := dk_181 2 117 (dk_at dksX11_init_19 10 rfl rfl)
theorem dX11_init_460 : decode cX11_init 460 = .ok (.aload_n 0, 1) := dk_42 (dk_at dksX11_init_19 13 rfl rfl)
theorem dX11_init_461 : decode cX11_init 461 = .ok (.bipush 6, 2) := dk_16 6 (dk_at dksX11_init_19 14 rfl rfl)
theorem dX11_init_463 : decode cX11_init 463 = .ok (.newarray .int, 2) := dk_188_10 (dk_at dksX11_init_19 16 rfl rfl)
theorem dX11_init_465 : decode cX11_init 465 = .ok (.putfield 649, 3) := dk_181 2 137 (dk_at dksX11_init_19 18 rfl rfl)
theorem dX11_init_468 : decode cX11_init 468 = .ok (.aload_n 0, 1) := dk_42 (dk_at dksX11_init_19 21 rfl rfl)
theorem dX11_init_469 : decode cX11_init 469 = .ok (.bipush 6, 2) := dk_16 6 (dk_at dksX11_init_19 22 rfl rfl)
theorem dX11_init_471 : decode cX11_init 471 = .ok (.newarray .boolean, 2) := dk_188_4 (dk_at dksX11_init_20 0 rfl rfl)
theorem dX11_init_473 : decode cX11_init 473 = .ok (.putfield 652, 3) := dk_181 2 140 (dk_at dksX11_init_20 2 rfl rfl)
theorem dX11_init_476 : decode cX11_init 476 = .ok (.aload_n 0, 1) := dk_42 (dk_at dksX11_init_20 5 rfl rfl)
theorem dX11_init_477 : decode cX11_init 477 = .ok (.sipush 200, 3) := dk_17 0 200 (dk_at dksX11_init_20 6 rfl rfl)
theorem dX11_init_480 : decode cX11_init 480 = .ok (.newarray .int, 2) := dk_188_10 (dk_at dksX11_init_20 9 rfl rfl)
theorem dX11_init_482 : decode cX11_init 482 = .ok (.putfield 691, 3) := dk_181 2 179 (dk_at dksX11_init_20 11 rfl rfl)
theorem dX11_init_485 : decode cX11_init 485 = .ok (.aload_n 0, 1) := dk_42 (dk_at dksX11_init_20 14 rfl rfl)
theorem dX11_init_486 : decode cX11_init 486 = .ok (.sipush 200, 3) := dk_17 0 200 (dk_at dksX11_init_20 15 rfl rfl)
theorem dX11_init_489 : decode cX11_init 489 = .ok (.newarray .int, 2) := dk_188_10 (dk_at dksX11_init_20 18 rfl rfl)
theorem dX11_init_491 : decode cX11_init 491 = .ok (.putfield 661, 3) := dk_181 2 149 (dk_at dksX11_init_20 20 rfl rfl)
theorem dX11_init_494 : decode cX11_init 494 = .ok (.aload_n 0, 1) := dk_42 (dk_at dksX11_init_20 23 rfl rfl)
theorem dX11_init_495 : decode cX11_init 495 = .ok (.sipush 200, 3) := dk_17 0 200 (dk_at dksX11_init_21 0 rfl rfl)
theorem dX11_init_498 : decode cX11_init 498 = .ok (.newarray .int, 2) := dk_188_10 (dk_at dksX11_init_21 3 rfl rfl)
theorem dX11_init_500 : decode cX11_init 500 = .ok (.putfield 658, 3) := dk_181 2 146 (dk_at dksX11_init_21 5 rfl rfl)
theorem dX11_init_503 : decode cX11_init 503 = .ok (.aload_n 0, 1) := dk_42 (dk_at dksX11_init_21 8 rfl rfl)
theorem dX11_init_504 : decode cX11_init 504 = .ok (.sipush 200, 3) := dk_17 0 200 (dk_at dksX11_init_21 9 rfl rfl)
theorem dX11_init_507 : decode cX11_init 507 = .ok (.newarray .int, 2) := dk_188_10 (dk_at dksX11_init_21 12 rfl rfl)
theorem dX11_init_509 : decode cX11_init 509 = .ok (.putfield 673, 3) := dk_181 2 161 (dk_at dksX11_init_21 14 rfl rfl)
theorem dX11_init_512 : decode cX11_init 512 = .ok (.aload_n 0, 1) := dk_42 (dk_at dksX11_init_21 17 rfl rfl)
theorem dX11_init_513 : decode cX11_init 513 = .ok (.sipush 200, 3) := dk_17 0 200 (dk_at dksX11_init_21 18 rfl rfl)
theorem dX11_init_516 : decode cX11_init 516 = .ok (.newarray .boolean, 2) := dk_188_4 (dk_at dksX11_init_21 21 rfl rfl)
theorem dX11_init_518 : decode cX11_init 518 = .ok (.putfield 667, 3) := dk_181 2 155 (dk_at dksX11_init_22 0 rfl rfl)
theorem dX11_init_521 : decode cX11_init 521 = .ok (.aload_n 0, 1) := dk_42 (dk_at dksX11_init_22 3 rfl rfl)
theorem dX11_init_522 : decode cX11_init 522 = .ok (.sipush 200, 3) := dk_17 0 200 (dk_at dksX11_init_22 4 rfl rfl)
theorem dX11_init_525 : decode cX11_init 525 = .ok (.newarray .int, 2) := dk_188_10 (dk_at dksX11_init_22 7 rfl rfl)
theorem dX11_init_527 : decode cX11_init 527 = .ok (.putfield 697, 3) := dk_181 2 185 (dk_at dksX11_init_22 9 rfl rfl)
theorem dX11_init_530 : decode cX11_init 530 = .ok (.aload_n 0, 1) := dk_42 (dk_at dksX11_init_22 12 rfl rfl)
theorem dX11_init_531 : decode cX11_init 531 = .ok (.sipush 1200, 3) := dk_17 4 176 (dk_at dksX11_init_22 13 rfl rfl)
theorem dX11_init_534 : decode cX11_init 534 = .ok (.newarray .int, 2) := dk_188_10 (dk_at dksX11_init_22 16 rfl rfl)
theorem dX11_init_536 : decode cX11_init 536 = .ok (.putfield 664, 3) := dk_181 2 152 (dk_at dksX11_init_22 18 rfl rfl)
theorem dX11_init_539 : decode cX11_init 539 = .ok (.aload_n 0, 1) := dk_42 (dk_at dksX11_init_22 21 rfl rfl)
theorem dX11_init_540 : decode cX11_init 540 = .ok (.sipush 10800, 3) := dk_17 42 48 (dk_at dksX11_init_23 0 rfl rfl)
theorem dX11_init_543 : decode cX11_init 543 = .ok (.newarray .byte, 2) := dk_188_8 (dk_at dksX11_init_23 3 rfl rfl)
theorem dX11_init_545 : decode cX11_init 545 = .ok (.putfield 722, 3) := dk_181 2 210 (dk_at dksX11_init_23 5 rfl rfl)
theorem dX11_init_548 : decode cX11_init 548 = .ok (.aload_n 0, 1) := dk_42 (dk_at dksX11_init_23 8 rfl rfl)
theorem dX11_init_549 : decode cX11_init 549 = .ok (.sipush 10800, 3) := dk_17 42 48 (dk_at dksX11_init_23 9 rfl rfl)
theorem dX11_init_552 : decode cX11_init 552 = .ok (.newarray .byte, 2) := dk_188_8 (dk_at dksX11_init_23 12 rfl rfl)
theorem dX11_init_554 : decode cX11_init 554 = .ok (.putfield 725, 3) := dk_181 2 213 (dk_at dksX11_init_23 14 rfl rfl)
theorem dX11_init_557 : decode cX11_init 557 = .ok (.aload_n 0, 1) := dk_42 (dk_at dksX11_init_23 17 rfl rfl)
theorem dX11_init_558 : decode cX11_init 558 = .ok (.sipush 200, 3) := dk_17 0 200 (dk_at dksX11_init_23 18 rfl rfl)
theorem dX11_init_561 : decode cX11_init 561 = .ok (.newarray .boolean, 2) := dk_188_4 (dk_at dksX11_init_23 21 rfl rfl)
theorem dX11_init_563 : decode cX11_init 563 = .ok (.putfield 679, 3) := dk_181 2 167 (dk_at dksX11_init_24 0 rfl rfl)
theorem dX11_init_566 : decode cX11_init 566 = .ok (.aload_n 0, 1) := dk_42 (dk_at dksX11_init_24 3 rfl rfl)
theorem dX11_init_567 : decode cX11_init 567 = .ok (.bipush 7, 2) := dk_16 7 (dk_at dksX11_init_24 4 rfl rfl)
theorem dX11_init_569 : decode cX11_init 569 = .ok (.newarray .int, 2) := dk_188_10 (dk_at dksX11_init_24 6 rfl rfl)
theorem dX11_init_571 : decode cX11_init 571 = .ok (.putfield 549, 3) := dk_181 2 37 (dk_at dksX11_init_24 8 rfl rfl)
theorem dX11_init_574 : decode cX11_init 574 = .ok (.aload_n 0, 1) := dk_42 (dk_at dksX11_init_24 11 rfl rfl)
theorem dX11_init_575 : decode cX11_init 575 = .ok (.sipush 1400, 3) := dk_17 5 120 (dk_at dksX11_init_24 12 rfl rfl)
theorem dX11_init_578 : decode cX11_init 578 = .ok (.newarray .int, 2) := dk_188_10 (dk_at dksX11_init_24 15 rfl rfl)
theorem dX11_init_580 : decode cX11_init 580 = .ok (.putfield 740, 3) := dk_181 2 228 (dk_at dksX11_init_24 17 rfl rfl)
theorem dX11_init_583 : decode cX11_init 583 = .ok (.aload_n 0, 1) := dk_42 (dk_at dksX11_init_24 20 rfl rfl)
theorem dX11_init_584 : decode cX11_init 584 = .ok (.bipush 7, 2) := dk_16 7 (dk_at dksX11_init_24 21 rfl rfl)
theorem dX11_init_586 : decode cX11_init 586 = .ok (.newarray .boolean, 2) := dk_188_4 (dk_at dksX11_init_25 0 rfl rfl)
theorem dX11_init_588 : decode cX11_init 588 = .ok (.putfield 552, 3) := dk_181 2 40 (dk_at dksX11_init_25 2 rfl rfl)
theorem dX11_init_591 : decode cX11_init 591 = .ok (.aload_n 0, 1) := dk_42 (dk_at dksX11_init_25 5 rfl rfl)
theorem dX11_init_592 : decode cX11_init 592 = .ok (.bipush 7, 2) := dk_16 7 (dk_at dksX11_init_25 6 rfl rfl)
theorem dX11_init_594 : decode cX11_init 594 = .ok (.newarray .boolean, 2) := dk_188_4 (dk_at dksX11_init_25 8 rfl rfl)
theorem dX11_init_596 : decode cX11_init 596 = .ok (.putfield 555, 3) := dk_181 2 43 (dk_at dksX11_init_25 10 rfl rfl)
theorem dX11_init_599 : decode cX11_init 599 = .ok (.aload_n 0, 1) := dk_42 (dk_at dksX11_init_25 13 rfl rfl)
theorem dX11_init_600 : decode cX11_init 600 = .ok (.bipush 9, 2) := dk_16 9 (dk_at dksX11_init_25 14 rfl rfl)
theorem dX11_init_602 : decode cX11_init 602 = .ok (.newarray .boolean, 2) := dk_188_4 (dk_at dksX11_init_25 16 rfl rfl)
theorem dX11_init_604 : decode cX11_init 604 = .ok (.putfield 764, 3) := dk_181 2 252 (dk_at dksX11_init_25 18 rfl rfl)
theorem dX11_init_607 : decode cX11_init 607 = .ok (.aload_n 0, 1) := dk_42 (dk_at dksX11_init_25 21 rfl rfl)
theorem dX11_init_608 : decode cX11_init 608 = .ok (.sipush 1800, 3) := dk_17 7 8 (dk_at dksX11_init_26 0 rfl rfl)
theorem dX11_init_611 : decode cX11_init 611 = .ok (.newarray .int, 2) := dk_188_10 (dk_at dksX11_init_26 3 rfl rfl)
theorem dX11_init_613 : decode cX11_init 613 = .ok (.putfield 780, 3) := dk_181 3 12 (dk_at dksX11_init_26 5 rfl rfl)
theorem dX11_init_616 : decode cX11_init 616 = .ok (.aload_n 0, 1) := dk_42 (dk_at dksX11_init_26 8 rfl rfl)
theorem dX11_init_617 : decode cX11_init 617 = .ok (.sipush 1800, 3) := dk_17 7 8 (dk_at dksX11_init_26 9 rfl rfl)
theorem dX11_init_620 : decode cX11_init 620 = .ok (.newarray .int, 2) := dk_188_10 (dk_at dksX11_init_26 12 rfl rfl)
theorem dX11_init_622 : decode cX11_init 622 = .ok (.putfield 792, 3) := dk_181 3 24 (dk_at dksX11_init_26 14 rfl rfl)
theorem dX11_init_625 : decode cX11_init 625 = .ok (.aload_n 0, 1) := dk_42 (dk_at dksX11_init_26 17 rfl rfl)
theorem dX11_init_626 : decode cX11_init 626 = .ok (.sipush 200, 3) := dk_17 0 200 (dk_at dksX11_init_26 18 rfl rfl)
theorem dX11_init_629 : decode cX11_init 629 = .ok (.newarray .int, 2) := dk_188_10 (dk_at dksX11_init_26 21 rfl rfl)
theorem dX11_init_631 : decode cX11_init 631 = .ok (.putfield 789, 3) := dk_181 3 21 (dk_at dksX11_init_27 0 rfl rfl)
theorem dX11_init_634 : decode cX11_init 634 = .ok (.aload_n 0, 1) := dk_42 (dk_at dksX11_init_27 3 rfl rfl)
theorem dX11_init_635 : decode cX11_init 635 = .ok (.bipush 9, 2) := dk_16 9 (dk_at dksX11_init_27 4 rfl rfl)
theorem dX11_init_637 : decode cX11_init 637 = .ok (.newarray .long, 2) := dk_188_11 (dk_at dksX11_init_27 6 rfl rfl)
theorem dX11_init_639 : decode cX11_init 639 = .ok (.putfield 801, 3) := dk_181 3 33 (dk_at dksX11_init_27 8 rfl rfl)
theorem dX11_init_642 : decode cX11_init 642 = .ok (.aload_n 0, 1) := dk_42 (dk_at dksX11_init_27 11 rfl rfl)
theorem dX11_init_643 : decode cX11_init 643 = .ok (.bipush 9, 2) := dk_16 9 (dk_at dksX11_init_27 12 rfl rfl)
theorem dX11_init_645 : decode cX11_init 645 = .ok (.newarray .int, 2) := dk_188_10 (dk_at dksX11_init_27 14 rfl rfl)
theorem dX11_init_647 : decode cX11_init 647 = .ok (.putfield 805, 3) := dk_181 3 37 (dk_at dksX11_init_27 16 rfl rfl)
theorem dX11_init_650 : decode cX11_init 650 = .ok (.aload_n 0, 1) := dk_42 (dk_at dksX11_init_27 19 rfl rfl)
theorem dX11_init_651 : decode cX11_init 651 = .ok (.sipush 360, 3) := dk_17 1 104 (dk_at dksX11_init_27 20 rfl rfl)
theorem dX11_init_654 : decode cX11_init 654 = .ok (.newarray .long, 2) := dk_188_11 (dk_at dksX11_init_28 0 rfl rfl)
theorem dX11_init_656 : decode cX11_init 656 = .ok (.putfield 814, 3) := dk_181 3 46 (dk_at dksX11_init_28 2 rfl rfl)
theorem dX11_init_659 : decode cX11_init 659 = .ok (.aload_n 0, 1) := dk_42 (dk_at dksX11_init_28 5 rfl rfl)
theorem dX11_init_660 : decode cX11_init 660 = .ok (.bipush 40, 2) := dk_16 40 (dk_at dksX11_init_28 6 rfl rfl)
theorem dX11_init_662 : decode cX11_init 662 = .ok (.newarray .int, 2) := dk_188_10 (dk_at dksX11_init_28 8 rfl rfl)
theorem dX11_init_664 : decode cX11_init 664 = .ok (.putfield 820, 3) := dk_181 3 52 (dk_at dksX11_init_28 10 rfl rfl)
theorem dX11_init_667 : decode cX11_init 667 = .ok (.aload_n 0, 1) := dk_42 (dk_at dksX11_init_28 13 rfl rfl)
theorem dX11_init_668 : decode cX11_init 668 = .ok (.bipush 40, 2) := dk_16 40 (dk_at dksX11_init_28 14 rfl rfl)
theorem dX11_init_670 : decode cX11_init 670 = .ok (.newarray .int, 2) := dk_188_10 (dk_at dksX11_init_28 16 rfl rfl)
theorem dX11_init_672 : decode cX11_init 672 = .ok (.putfield 823, 3) := dk_181 3 55 (dk_at dksX11_init_28 18 rfl rfl)
theorem dX11_init_675 : decode cX11_init 675 = .ok (.aload_n 0, 1) := dk_42 (dk_at dksX11_init_28 21 rfl rfl)
theorem dX11_init_676 : decode cX11_init 676 = .ok (.bipush 9, 2) := dk_16 9 (dk_at dksX11_init_28 22 rfl rfl)
theorem dX11_init_678 : decode cX11_init 678 = .ok (.newarray .int, 2) := dk_188_10 (dk_at dksX11_init_29 0 rfl rfl)
theorem dX11_init_680 : decode cX11_init 680 = .ok (.putfield 826, 3) := dk_181 3 58 (dk_at dksX11_init_29 2 rfl rfl)
theorem dX11_init_683 : decode cX11_init 683 = .ok (.aload_n 0, 1) := dk_42 (dk_at dksX11_init_29 5 rfl rfl)
theorem dX11_init_684 : decode cX11_init 684 = .ok (.bipush 90, 2) := dk_16 90 (dk_at dksX11_init_29 6 rfl rfl)
theorem dX11_init_686 : decode cX11_init 686 = .ok (.newarray .int, 2) := dk_188_10 (dk_at dksX11_init_29 8 rfl rfl)
theorem dX11_init_688 : decode cX11_init 688 = .ok (.putfield 896, 3) := dk_181 3 128 (dk_at dksX11_init_29 10 rfl rfl)
theorem dX11_init_691 : decode cX11_init 691 = .ok (.aload_n 0, 1) := dk_42 (dk_at dksX11_init_29 13 rfl rfl)
theorem dX11_init_692 : decode cX11_init 692 = .ok (.bipush 10, 2) := dk_16 10 (dk_at dksX11_init_29 14 rfl rfl)
theorem dX11_init_694 : decode cX11_init 694 = .ok (.newarray .int, 2) := dk_188_10 (dk_at dksX11_init_29 16 rfl rfl)
theorem dX11_init_696 : decode cX11_init 696 = .ok (.putfield 893, 3) := dk_181 3 125 (dk_at dksX11_init_29 18 rfl rfl)
theorem dX11_init_699 : decode cX11_init 699 = .ok (.aload_n 0, 1) := dk_42 (dk_at dksX11_init_29 21 rfl rfl)
theorem dX11_init_700 : decode cX11_init 700 = .ok (.bipush 10, 2) := dk_16 10 (dk_at dksX11_init_29 22 rfl rfl)
theorem dX11_init_702 : decode cX11_init 702 = .ok (.newarray .int, 2) := dk_188_10 (dk_at dksX11_init_30 0 rfl rfl)
theorem dX11_init_704 : decode cX11_init 704 = .ok (.putfield 899, 3) := dk_181 3 131 (dk_at dksX11_init_30 2 rfl rfl)
theorem dX11_init_707 : decode cX11_init 707 = .ok (.aload_n 0, 1) := dk_42 (dk_at dksX11_init_30 5 rfl rfl)
theorem dX11_init_708 : decode cX11_init 708 = .ok (.bipush 9, 2) := dk_16 9 (dk_at dksX11_init_30 6 rfl rfl)
theorem dX11_init_710 : decode cX11_init 710 = .ok (.newarray .int, 2) := dk_188_10 (dk_at dksX11_init_30 8 rfl rfl)
theorem dX11_init_712 : decode cX11_init 712 = .ok (.putfield 909, 3) := dk_181 3 141 (dk_at dksX11_init_30 10 rfl rfl)
theorem dX11_init_715 : decode cX11_init 715 = .ok (.aload_n 0, 1) := dk_42 (dk_at dksX11_init_30 13 rfl rfl)
theorem dX11_init_716 : decode cX11_init 716 = .ok (.sipush 200, 3) := dk_17 0 200 (dk_at dksX11_init_30 14 rfl rfl)
theorem dX11_init_719 : decode cX11_init 719 = .ok (.newarray .int, 2) := dk_188_10 (dk_at dksX11_init_30 17 rfl rfl)
theorem dX11_init_721 : decode cX11_init 721 = .ok (.putfield 956, 3) := dk_181 3 188 (dk_at dksX11_init_30 19 rfl rfl)
theorem dX11_init_724 : decode cX11_init 724 = .ok (.aload_n 0, 1) := dk_42 (dk_at dksX11_init_30 22 rfl rfl)
theorem dX11_init_725 : decode cX11_init 725 = .ok (.sipush 200, 3) := dk_17 0 200 (dk_at dksX11_init_31 0 rfl rfl)
theorem dX11_init_728 : decode cX11_init 728 = .ok (.newarray .long, 2) := dk_188_11 (dk_at dksX11_init_31 3 rfl rfl)
theorem dX11_init_730 : decode cX11_init 730 = .ok (.putfield 953, 3) := dk_181 3 185 (dk_at dksX11_init_31 5 rfl rfl)
theorem dX11_init_733 : decode cX11_init 733 = .ok (.aload_n 0, 1) := dk_42 (dk_at dksX11_init_31 8 rfl rfl)
theorem dX11_init_734 : decode cX11_init 734 = .ok (.bipush 9, 2) := dk_16 9 (dk_at dksX11_init_31 9 rfl rfl)
theorem dX11_init_736 : decode cX11_init 736 = .ok (.newarray .boolean, 2) := dk_188_4 (dk_at dksX11_init_31 11 rfl rfl)
theorem dX11_init_738 : decode cX11_init 738 = .ok (.putfield 950, 3) := dk_181 3 182 (dk_at dksX11_init_31 13 rfl rfl)
theorem dX11_init_741 : decode cX11_init 741 = .ok (.aload_n 0, 1) := dk_42 (dk_at dksX11_init_31 16 rfl rfl)
theorem dX11_init_742 : decode cX11_init 742 = .ok (.sipush 200, 3) := dk_17 0 200 (dk_at dksX11_init_31 17 rfl rfl)
theorem dX11_init_745 : decode cX11_init 745 = .ok (.newarray .int, 2) := dk_188_10 (dk_at dksX11_init_31 20 rfl rfl)
theorem dX11_init_747 : decode cX11_init 747 = .ok (.putfield 939, 3) := dk_181 3 171 (dk_at dksX11_init_32 0 rfl rfl)
theorem dX11_init_750 : decode cX11_init 750 = .ok (.aload_n 0, 1) := dk_42 (dk_at dksX11_init_32 3 rfl rfl)
theorem dX11_init_751 : decode cX11_init 751 = .ok (.bipush 9, 2) := dk_16 9 (dk_at dksX11_init_32 4 rfl rfl)
theorem dX11_init_753 : decode cX11_init 753 = .ok (.newarray .long, 2) := dk_188_11 (dk_at dksX11_init_32 6 rfl rfl)
theorem dX11_init_755 : decode cX11_init 755 = .ok (.putfield 979, 3) := dk_181 3 211 (dk_at dksX11_init_32 8 rfl rfl)
theorem dX11_init_758 : decode cX11_init 758 = .ok (.aload_n 0, 1) := dk_42 (dk_at dksX11_init_32 11 rfl rfl)
theorem dX11_init_759 : decode cX11_init 759 = .ok (.bipush 81, 2) := dk_16 81 (dk_at dksX11_init_32 12 rfl rfl)
theorem dX11_init_761 : decode cX11_init 761 = .ok (.newarray .int, 2) := dk_188_10 (dk_at dksX11_init_32 14 rfl rfl)
theorem dX11_init_763 : decode cX11_init 763 = .ok (.putfield 998, 3) := dk_181 3 230 (dk_at dksX11_init_32 16 rfl rfl)
theorem dX11_init_766 : decode cX11_init 766 = .ok (.aload_n 0, 1) := dk_42 (dk_at dksX11_init_32 19 rfl rfl)
theorem dX11_init_767 : decode cX11_init 767 = .ok (.bipush 81, 2) := dk_16 81 (dk_at dksX11_init_32 20 rfl rfl)
theorem dX11_init_769 : decode cX11_init 769 = .ok (.newarray .int, 2) := dk_188_10 (dk_at dksX11_init_32 22 rfl rfl)
theorem dX11_init_771 : decode cX11_init 771 = .ok (.putfield 1025, 3) := dk_181 4 1 (dk_at dksX11_init_33 0 rfl rfl)
theorem dX11_init_774 : decode cX11_init 774 = .ok (.aload_n 0, 1) := dk_42 (dk_at dksX11_init_33 3 rfl rfl)
theorem dX11_init_775 : decode cX11_init 775 = .ok (.bipush 81, 2) := dk_16 81 (dk_at dksX11_init_33 4 rfl rfl)
theorem dX11_init_777 : decode cX11_init 777 = .ok (.newarray .boolean, 2) := dk_188_4 (dk_at dksX11_init_33 6 rfl rfl)
theorem dX11_init_779 : decode cX11_init 779 = .ok (.putfield 1022, 3) := dk_181 3 254 (dk_at dksX11_init_33 8 rfl rfl)
theorem dX11_init_782 : decode cX11_init 782 = .ok (.aload_n 0, 1) := dk_42 (dk_at dksX11_init_33 11 rfl rfl)
theorem dX11_init_783 : decode cX11_init 783 = .ok (.bipush 81, 2) := dk_16 81 (dk_at dksX11_init_33 12 rfl rfl)
theorem dX11_init_785 : decode cX11_init 785 = .ok (.newarray .boolean, 2) := dk_188_4 (dk_at dksX11_init_33 14 rfl rfl)
theorem dX11_init_787 : decode cX11_init 787 = .ok (.putfield 1031, 3) := dk_181 4 7 (dk_at dksX11_init_33 16 rfl rfl)
theorem dX11_init_790 : decode cX11_init 790 = .ok (.aload_n 0, 1) := dk_42 (dk_at dksX11_init_33 19 rfl rfl)
theorem dX11_init_791 : decode cX11_init 791 = .ok (.bipush 81, 2) := dk_16 81 (dk_at dksX11_init_33 20 rfl rfl)
theorem dX11_init_793 : decode cX11_init 793 = .ok (.newarray .int, 2) := dk_188_10 (dk_at dksX11_init_33 22 rfl rfl)
theorem dX11_init_795 : decode cX11_init 795 = .ok (.putfield 1034, 3) := dk_181 4 10 (dk_at dksX11_init_34 0 rfl rfl)
theorem dX11_init_798 : decode cX11_init 798 = .ok (.aload_n 0, 1) := dk_42 (dk_at dksX11_init_34 3 rfl rfl)
theorem dX11_init_799 : decode cX11_init 799 = .ok (.bipush 9, 2) := dk_16 9 (dk_at dksX11_init_34 4 rfl rfl)
theorem dX11_init_801 : decode cX11_init 801 = .ok (.newarray .int, 2) := dk_188_10 (dk_at dksX11_init_34 6 rfl rfl)
theorem dX11_init_803 : decode cX11_init 803 = .ok (.putfield 1069, 3) := dk_181 4 45 (dk_at dksX11_init_34 8 rfl rfl)
theorem dX11_init_806 : decode cX11_init 806 = .ok (.aload_n 0, 1) := dk_42 (dk_at dksX11_init_34 11 rfl rfl)
theorem dX11_init_807 : decode cX11_init 807 = .ok (.bipush 9, 2) := dk_16 9 (dk_at dksX11_init_34 12 rfl rfl)
theorem dX11_init_809 : decode cX11_init 809 = .ok (.newarray .int, 2) := dk_188_10 (dk_at dksX11_init_34 14 rfl rfl)
theorem dX11_init_811 : decode cX11_init 811 = .ok (.putfield 1057, 3) := dk_181 4 33 (dk_at dksX11_init_34 16 rfl rfl)
theorem dX11_init_814 : decode cX11_init 814 = .ok (.aload_n 0, 1) := dk_42 (dk_at dksX11_init_34 19 rfl rfl)
theorem dX11_init_815 : decode cX11_init 815 = .ok (.bipush 9, 2) := dk_16 9 (dk_at dksX11_init_34 20 rfl rfl)
theorem dX11_init_817 : decode cX11_init 817 = .ok (.newarray .int, 2) := dk_188_10 (dk_at dksX11_init_34 22 rfl rfl)
theorem dX11_init_819 : decode cX11_init 819 = .ok (.putfield 1063, 3) := dk_181 4 39 (dk_at dksX11_init_35 0 rfl rfl)
theorem dX11_init_822 : decode cX11_init 822 = .ok (.aload_n 0, 1) := dk_42 (dk_at dksX11_init_35 3 rfl rfl)
theorem dX11_init_823 : decode cX11_init 823 = .ok (.bipush 9, 2) := dk_16 9 (dk_at dksX11_init_35 4 rfl rfl)
theorem dX11_init_825 : decode cX11_init 825 = .ok (.newarray .int, 2) := dk_188_10 (dk_at dksX11_init_35 6 rfl rfl)
theorem dX11_init_827 : decode cX11_init 827 = .ok (.putfield 1060, 3) := dk_181 4 36 (dk_at dksX11_init_35 8 rfl rfl)
theorem dX11_init_830 : decode cX11_init 830 = .ok (.aload_n 0, 1) := dk_42 (dk_at dksX11_init_35 11 rfl rfl)
theorem dX11_init_831 : decode cX11_init 831 = .ok (.bipush 9, 2) := dk_16 9 (dk_at dksX11_init_35 12 rfl rfl)
theorem dX11_init_833 : decode cX11_init 833 = .ok (.newarray .boolean, 2) := dk_188_4 (dk_at dksX11_init_35 14 rfl rfl)
theorem dX11_init_835 : decode cX11_init 835 = .ok (.putfield 1072, 3) := dk_181 4 48 (dk_at dksX11_init_35 16 rfl rfl)
theorem dX11_init_838 : decode cX11_init 838 = .ok (.aload_n 0, 1) := dk_42 (dk_at dksX11_init_35 19 rfl rfl)
theorem dX11_init_839 : decode cX11_init 839 = .ok (.bipush 9, 2) := dk_16 9 (dk_at dksX11_init_35 20 rfl rfl)
theorem dX11_init_841 : decode cX11_init 841 = .ok (.newarray .int, 2) := dk_188_10 (dk_at dksX11_init_35 22 rfl rfl)
theorem dX11_init_843 : decode cX11_init 843 = .ok (.putfield 1075, 3) := dk_181 4 51 (dk_at dksX11_init_36 0 rfl rfl)
theorem dX11_init_846 : decode cX11_init 846 = .ok (.aload_n 0, 1) := dk_42 (dk_at dksX11_init_36 3 rfl rfl)
theorem dX11_init_847 : decode cX11_init 847 = .ok (.bipush 9, 2) := dk_16 9 (dk_at dksX11_init_36 4 rfl rfl)
theorem dX11_init_849 : decode cX11_init 849 = .ok (.newarray .int, 2) := dk_188_10 (dk_at dksX11_init_36 6 rfl rfl)
theorem dX11_init_851 : decode cX11_init 851 = .ok (.putfield 1091, 3) := dk_181 4 67 (dk_at dksX11_init_36 8 rfl rfl)
theorem dX11_init_854 : decode cX11_init 854 = .ok (.aload_n 0, 1) := dk_42 (dk_at dksX11_init_36 11 rfl rfl)
theorem dX11_init_855 : decode cX11_init 855 = .ok (.bipush 9, 2) := dk_16 9 (dk_at dksX11_init_36 12 rfl rfl)
theorem dX11_init_857 : decode cX11_init 857 = .ok (.newarray .int, 2) := dk_188_10 (dk_at dksX11_init_36 14 rfl rfl)
theorem dX11_init_859 : decode cX11_init 859 = .ok (.putfield 1106, 3) := dk_181 4 82 (dk_at dksX11_init_36 16 rfl rfl)
theorem dX11_init_862 : decode cX11_init 862 = .ok (.aload_n 0, 1) := dk_42 (dk_at dksX11_init_36 19 rfl rfl)
theorem dX11_init_863 : decode cX11_init 863 = .ok (.bipush 9, 2) := dk_16 9 (dk_at dksX11_init_36 20 rfl rfl)
theorem dX11_init_865 : decode cX11_init 865 = .ok (.newarray .int, 2) := dk_188_10 (dk_at dksX11_init_36 22 rfl rfl)
theorem dX11_init_867 : decode cX11_init 867 = .ok (.putfield 1066, 3) := dk_181 4 42 (dk_at dksX11_init_37 0 rfl rfl)
theorem dX11_init_870 : decode cX11_init 870 = .ok (.aload_n 0, 1) := dk_42 (dk_at dksX11_init_37 3 rfl rfl)
theorem dX11_init_871 : decode cX11_init 871 = .ok (.bipush 9, 2) := dk_16 9 (dk_at dksX11_init_37 4 rfl rfl)
theorem dX11_init_873 : decode cX11_init 873 = .ok (.newarray .int, 2) := dk_188_10 (dk_at dksX11_init_37 6 rfl rfl)
theorem dX11_init_875 : decode cX11_init 875 = .ok (.putfield 1097, 3) := dk_181 4 73 (dk_at dksX11_init_37 8 rfl rfl)
theorem dX11_init_878 : decode cX11_init 878 = .ok (.aload_n 0, 1) := dk_42 (dk_at dksX11_init_37 11 rfl rfl)
theorem dX11_init_879 : decode cX11_init 879 = .ok (.bipush 8, 2) := dk_16 8 (dk_at dksX11_init_37 12 rfl rfl)
theorem dX11_init_881 : decode cX11_init 881 = .ok (.newarray .int, 2) := dk_188_10 (dk_at dksX11_init_37 14 rfl rfl)
theorem dX11_init_883 : decode cX11_init 883 = .ok (.putfield 1045, 3) := dk_181 4 21 (dk_at dksX11_init_37 16 rfl rfl)
theorem dX11_init_886 : decode cX11_init 886 = .ok (.aload_n 0, 1) := dk_42 (dk_at dksX11_init_37 19 rfl rfl)
theorem dX11_init_887 : decode cX11_init 887 = .ok (.bipush 60, 2) := dk_16 60 (dk_at dksX11_init_37 20 rfl rfl)
theorem dX11_init_889 : decode cX11_init 889 = .ok (.newarray .boolean, 2) := dk_188_4 (dk_at dksX11_init_37 22 rfl rfl)
theorem dX11_init_891 : decode cX11_init 891 = .ok (.putfield 1048, 3) := dk_181 4 24 (dk_at dksX11_init_38 0 rfl rfl)
theorem dX11_init_894 : decode cX11_init 894 = .ok (.aload_n 0, 1) := dk_42 (dk_at dksX11_init_38 3 rfl rfl)
theorem dX11_init_895 : decode cX11_init 895 = .ok (.sipush 3721, 3) := dk_17 14 137 (dk_at dksX11_init_38 4 rfl rfl)
theorem dX11_init_898 : decode cX11_init 898 = .ok (.newarray .long, 2) := dk_188_11 (dk_at dksX11_init_38 7 rfl rfl)
theorem dX11_init_900 : decode cX11_init 900 = .ok (.putfield 1123, 3) := dk_181 4 99 (dk_at dksX11_init_38 9 rfl rfl)
theorem dX11_init_903 : decode cX11_init 903 = .ok (.aload_n 0, 1) := dk_42 (dk_at dksX11_init_38 12 rfl rfl)
theorem dX11_init_904 : decode cX11_init 904 = .ok (.sipush 200, 3) := dk_17 0 200 (dk_at dksX11_init_38 13 rfl rfl)
theorem dX11_init_907 : decode cX11_init 907 = .ok (.newarray .int, 2) := dk_188_10 (dk_at dksX11_init_38 16 rfl rfl)
theorem dX11_init_909 : decode cX11_init 909 = .ok (.putfield 1126, 3) := dk_181 4 102 (dk_at dksX11_init_38 18 rfl rfl)
theorem dX11_init_912 : decode cX11_init 912 = .ok (.aload_n 0, 1) := dk_42 (dk_at dksX11_init_38 21 rfl rfl)
theorem dX11_init_913 : decode cX11_init 913 = .ok (.sipush 200, 3) := dk_17 0 200 (dk_at dksX11_init_39 0 rfl rfl)
theorem dX11_init_916 : decode cX11_init 916 = .ok (.newarray .int, 2) := dk_188_10 (dk_at dksX11_init_39 3 rfl rfl)
theorem dX11_init_918 : decode cX11_init 918 = .ok (.putfield 1129, 3) := dk_181 4 105 (dk_at dksX11_init_39 5 rfl rfl)
theorem dX11_init_921 : decode cX11_init 921 = .ok (.aload_n 0, 1) := dk_42 (dk_at dksX11_init_39 8 rfl rfl)
theorem dX11_init_922 : decode cX11_init 922 = .ok (.sipush 200, 3) := dk_17 0 200 (dk_at dksX11_init_39 9 rfl rfl)
theorem dX11_init_925 : decode cX11_init 925 = .ok (.newarray .boolean, 2) := dk_188_4 (dk_at dksX11_init_39 12 rfl rfl)
theorem dX11_init_927 : decode cX11_init 927 = .ok (.putfield 1132, 3) := dk_181 4 108 (dk_at dksX11_init_39 14 rfl rfl)
theorem dX11_init_930 : decode cX11_init 930 = .ok (.aload_n 0, 1) := dk_42 (dk_at dksX11_init_39 17 rfl rfl)
theorem dX11_init_931 : decode cX11_init 931 = .ok (.sipush 200, 3) := dk_17 0 200 (dk_at dksX11_init_39 18 rfl rfl)
theorem dX11_init_934 : decode cX11_init 934 = .ok (.newarray .int, 2) := dk_188_10 (dk_at dksX11_init_39 21 rfl rfl)
theorem dX11_init_936 : decode cX11_init 936 = .ok (.putfield 1135, 3) := dk_181 4 111 (dk_at dksX11_init_40 0 rfl rfl)
theorem dX11_init_939 : decode cX11_init 939 = .ok (.aload_n 0, 1) := dk_42 (dk_at dksX11_init_40 3 rfl rfl)
theorem dX11_init_940 : decode cX11_init 940 = .ok (.sipush 200, 3) := dk_17 0 200 (dk_at dksX11_init_40 4 rfl rfl)
theorem dX11_init_943 : decode cX11_init 943 = .ok (.newarray .int, 2) := dk_188_10 (dk_at dksX11_init_40 7 rfl rfl)
theorem dX11_init_945 : decode cX11_init 945 = .ok (.putfield 1138, 3) := dk_181 4 114 (dk_at dksX11_init_40 9 rfl rfl)
theorem dX11_init_948 : decode cX11_init 948 = .ok (.aload_n 0, 1) := dk_42 (dk_at dksX11_init_40 12 rfl rfl)
theorem dX11_init_949 : decode cX11_init 949 = .ok (.bipush 32, 2) := dk_16 32 (dk_at dksX11_init_40 13 rfl rfl)
theorem dX11_init_951 : decode cX11_init 951 = .ok (.newarray .byte, 2) := dk_188_8 (dk_at dksX11_init_40 15 rfl rfl)
theorem dX11_init_953 : decode cX11_init 953 = .ok (.putfield 1141, 3) := dk_181 4 117 (dk_at dksX11_init_40 17 rfl rfl)
theorem dX11_init_956 : decode cX11_init 956 = .ok (.aload_n 0, 1) := dk_42 (dk_at dksX11_init_40 20 rfl rfl)
theorem dX11_init_957 : decode cX11_init 957 = .ok (.bipush 64, 2) := dk_16 64 (dk_at dksX11_init_40 21 rfl rfl)
theorem dX11_init_959 : decode cX11_init 959 = .ok (.newarray .byte, 2) := dk_188_8 (dk_at dksX11_init_41 0 rfl rfl)
theorem dX11_init_961 : decode cX11_init 961 = .ok (.putfield 1144, 3) := dk_181 4 120 (dk_at dksX11_init_41 2 rfl rfl)
theorem dX11_init_964 : decode cX11_init 964 = .ok (.aload_n 0, 1) := dk_42 (dk_at dksX11_init_41 5 rfl rfl)
theorem dX11_init_965 : decode cX11_init 965 = .ok (.bipush 64, 2) := dk_16 64 (dk_at dksX11_init_41 6 rfl rfl)
theorem dX11_init_967 : decode cX11_init 967 = .ok (.newarray .int, 2) := dk_188_10 (dk_at dksX11_init_41 8 rfl rfl)
theorem dX11_init_969 : decode cX11_init 969 = .ok (.putfield 1147, 3) := dk_181 4 123 (dk_at dksX11_init_41 10 rfl rfl)
theorem dX11_init_972 : decode cX11_init 972 = .ok (.aload_n 0, 1) := dk_42 (dk_at dksX11_init_41 13 rfl rfl)
theorem dX11_init_973 : decode cX11_init 973 = .ok (.bipush 8, 2) := dk_16 8 (dk_at dksX11_init_41 14 rfl rfl)
theorem dX11_init_975 : decode cX11_init 975 = .ok (.newarray .int, 2) := dk_188_10 (dk_at dksX11_init_41 16 rfl rfl)
theorem dX11_init_977 : decode cX11_init 977 = .ok (.putfield 1150, 3) := dk_181 4 126 (dk_at dksX11_init_41 18 rfl rfl)
theorem dX11_init_980 : decode cX11_init 980 = .ok (.aload_n 0, 1) := dk_42 (dk_at dksX11_init_41 21 rfl rfl)
theorem dX11_init_981 : decode cX11_init 981 = .ok (.bipush 8, 2) := dk_16 8 (dk_at dksX11_init_41 22 rfl rfl)
theorem dX11_init_983 : decode cX11_init 983 = .ok (.newarray .int, 2) := dk_188_10 (dk_at dksX11_init_42 0 rfl rfl)
theorem dX11_init_985 : decode cX11_init 985 = .ok (.putfield 1153, 3) := dk_181 4 129 (dk_at dksX11_init_42 2 rfl rfl)
theorem dX11_init_988 : decode cX11_init 988 = .ok (.aload_n 0, 1) := dk_42 (dk_at dksX11_init_42 5 rfl rfl)
theorem dX11_init_989 : decode cX11_init 989 = .ok (.bipush 64, 2) := dk_16 64 (dk_at dksX11_init_42 6 rfl rfl)
theorem dX11_init_991 : decode cX11_init 991 = .ok (.newarray .int, 2) := dk_188_10 (dk_at dksX11_init_42 8 rfl rfl)
theorem dX11_init_993 : decode cX11_init 993 = .ok (.dup, 1) := dk_89 (dk_at dksX11_init_42 10 rfl rfl)
theorem dX11_init_994 : decode cX11_init 994 = .ok (.iconst 0, 1) := dk_3 (dk_at dksX11_init_42 11 rfl rfl)
theorem dX11_init_995 : decode cX11_init 995 = .ok (.ldc_w 1156, 3) := dk_19 4 132 (dk_at dksX11_init_42 12 rfl rfl)
theorem dX11_init_998 : decode cX11_init 998 = .ok (.iastore, 1) := dk_79 (dk_at dksX11_init_42 15 rfl rfl)
theorem dX11_init_999 : decode cX11_init 999 = .ok (.dup, 1) := dk_89 (dk_at dksX11_init_42 16 rfl rfl)
theorem dX11_init_1000 : decode cX11_init 1000 = .ok (.iconst 1, 1) := dk_4 (dk_at dksX11_init_42 17 rfl rfl)
theorem dX11_init_1001 : decode cX11_init 1001 = .ok (.ldc_w 1157, 3) := dk_19 4 133 (dk_at dksX11_init_42 18 rfl rfl)
theorem dX11_init_1004 : decode cX11_init 1004 = .ok (.iastore, 1) := dk_79 (dk_at dksX11_init_42 21 rfl rfl)
theorem dX11_init_1005 : decode cX11_init 1005 = .ok (.dup, 1) := dk_89 (dk_at dksX11_init_42 22 rfl rfl)
theorem dX11_init_1006 : decode cX11_init 1006 = .ok (.iconst 2, 1) := dk_5 (dk_at dksX11_init_42 23 rfl rfl)
theorem dX11_init_1007 : decode cX11_init 1007 = .ok (.ldc_w 1158, 3) := dk_19 4 134 (dk_at dksX11_init_43 0 rfl rfl)
theorem dX11_init_1010 : decode cX11_init 1010 = .ok (.iastore, 1) := dk_79 (dk_at dksX11_init_43 3 rfl rfl)
theorem dX11_init_1011 : decode cX11_init 1011 = .ok (.dup, 1) := dk_89 (dk_at dksX11_init_43 4 rfl rfl)
theorem dX11_init_1012 : decode cX11_init 1012 = .ok (.iconst 3, 1) := dk_6 (dk_at dksX11_init_43 5 rfl rfl)
theorem dX11_init_1013 : decode cX11_init 1013 = .ok (.ldc_w 1159, 3) := dk_19 4 135 (dk_at dksX11_init_43 6 rfl rfl)
theorem dX11_init_1016 : decode cX11_init 1016 = .ok (.iastore, 1) := dk_79 (dk_at dksX11_init_43 9 rfl rfl)
theorem dX11_init_1017 : decode cX11_init 1017 = .ok (.dup, 1) := dk_89 (dk_at dksX11_init_43 10 rfl rfl)
theorem dX11_init_1018 : decode cX11_init 1018 = .ok (.iconst 4, 1) := dk_7 (dk_at dksX11_init_43 11 rfl rfl)
theorem dX11_init_1019 : decode cX11_init 1019 = .ok (.ldc_w 1160, 3) := dk_19 4 136 (dk_at dksX11_init_43 12 rfl rfl)
theorem dX11_init_1022 : decode cX11_init 1022 = .ok (.iastore, 1) := dk_79 (dk_at dksX11_init_43 15 rfl rfl)
theorem dX11_init_1023 : decode cX11_init 1023 = .ok (.dup, 1) := dk_89 (dk_at dksX11_init_43 16 rfl rfl)
theorem dX11_init_1024 : decode cX11_init 1024 = .ok (.iconst 5, 1) := dk_8 (dk_at dksX11_init_43 17 rfl rfl)
theorem dX11_init_1025 : decode cX11_init 1025 = .ok (.ldc_w 1161, 3) := dk_19 4 137 (dk_at dksX11_init_43 18 rfl rfl)
theorem dX11_init_1028 : decode cX11_init 1028 = .ok (.iastore, 1) := dk_79 (dk_at dksX11_init_43 21 rfl rfl)
theorem dX11_init_1029 : decode cX11_init 1029 = .ok (.dup, 1) := dk_89 (dk_at dksX11_init_43 22 rfl rfl)
theorem dX11_init_1030 : decode cX11_init 1030 = .ok (.bipush 6, 2) := dk_16 6 (dk_at dksX11_init_44 0 rfl rfl)
theorem dX11_init_1032 : decode cX11_init 1032 = .ok (.ldc_w 1162, 3) := dk_19 4 138 (dk_at dksX11_init_44 2 rfl rfl)
theorem dX11_init_1035 : decode cX11_init 1035 = .ok (.iastore, 1) := dk_79 (dk_at dksX11_init_44 5 rfl rfl)
theorem dX11_init_1036 : decode cX11_init 1036 = .ok (.dup, 1) := dk_89 (dk_at dksX11_init_44 6 rfl rfl)
theorem dX11_init_1037 : decode cX11_init 1037 = .ok (.bipush 7, 2) := dk_16 7 (dk_at dksX11_init_44 7 rfl rfl)
theorem dX11_init_1039 : decode cX11_init 1039 = .ok (.ldc_w 1163, 3) := dk_19 4 139 (dk_at dksX11_init_44 9 rfl rfl)
theorem dX11_init_1042 : decode cX11_init 1042 = .ok (.iastore, 1) := dk_79 (dk_at dksX11_init_44 12 rfl rfl)
theorem dX11_init_1043 : decode cX11_init 1043 = .ok (.dup, 1) := dk_89 (dk_at dksX11_init_44 13 rfl rfl)
theorem dX11_init_1044 : decode cX11_init 1044 = .ok (.bipush 8, 2) := dk_16 8 (dk_at dksX11_init_44 14 rfl rfl)
theorem dX11_init_1046 : decode cX11_init 1046 = .ok (.ldc_w 1164, 3) := dk_19 4 140 (dk_at dksX11_init_44 16 rfl rfl)
theorem dX11_init_1049 : decode cX11_init 1049 = .ok (.iastore, 1) := dk_79 (dk_at dksX11_init_44 19 rfl rfl)
theorem dX11_init_1050 : decode cX11_init 1050 = .ok (.dup, 1) := dk_89 (dk_at dksX11_init_44 20 rfl rfl)
theorem dX11_init_1051 : decode cX11_init 1051 = .ok (.bipush 9, 2) := dk_16 9 (dk_at dksX11_init_44 21 rfl rfl)
theorem dX11_init_1053 : decode cX11_init 1053 = .ok (.ldc_w 1165, 3) := dk_19 4 141 (dk_at dksX11_init_45 0 rfl rfl)
theorem dX11_init_1056 : decode cX11_init 1056 = .ok (.iastore, 1) := dk_79 (dk_at dksX11_init_45 3 rfl rfl)
theorem dX11_init_1057 : decode cX11_init 1057 = .ok (.dup, 1) := dk_89 (dk_at dksX11_init_45 4 rfl rfl)
theorem dX11_init_1058 : decode cX11_init 1058 = .ok (.bipush 10, 2) := dk_16 10 (dk_at dksX11_init_45 5 rfl rfl)
theorem dX11_init_1060 : decode cX11_init 1060 = .ok (.ldc_w 1166, 3) := dk_19 4 142 (dk_at dksX11_init_45 7 rfl rfl)
theorem dX11_init_1063 : decode cX11_init 1063 = .ok (.iastore, 1) := dk_79 (dk_at dksX11_init_45 10 rfl rfl)
theorem dX11_init_1064 : decode cX11_init 1064 = .ok (.dup, 1) := dk_89 (dk_at dksX11_init_45 11 rfl rfl)
theorem dX11_init_1065 : decode cX11_init 1065 = .ok (.bipush 11, 2) := dk_16 11 (dk_at dksX11_init_45 12 rfl rfl)
theorem dX11_init_1067 : decode cX11_init 1067 = .ok (.ldc_w 1167, 3) := dk_19 4 143 (dk_at dksX11_init_45 14 rfl rfl)
theorem dX11_init_1070 : decode cX11_init 1070 = .ok (.iastore, 1) := dk_79 (dk_at dksX11_init_45 17 rfl rfl)
theorem dX11_init_1071 : decode cX11_init 1071 = .ok (.dup, 1) := dk_89 (dk_at dksX11_init_45 18 rfl rfl)
theorem dX11_init_1072 : decode cX11_init 1072 = .ok (.bipush 12, 2) := dk_16 12 (dk_at dksX11_init_45 19 rfl rfl)
theorem dX11_init_1074 : decode cX11_init 1074 = .ok (.ldc_w 1168, 3) := dk_19 4 144 (dk_at dksX11_init_45 21 rfl rfl)
theorem dX11_init_1077 : decode cX11_init 1077 = .ok (.iastore, 1) := dk_79 (dk_at dksX11_init_46 0 rfl rfl)
theorem dX11_init_1078 : decode cX11_init 1078 = .ok (.dup, 1) := dk_89 (dk_at dksX11_init_46 1 rfl rfl)
theorem dX11_init_1079 : decode cX11_init 1079 = .ok (.bipush 13, 2) := dk_16 13 (dk_at dksX11_init_46 2 rfl rfl)
theorem dX11_init_1081 : decode cX11_init 1081 = .ok (.ldc_w 1169, 3) := dk_19 4 145 (dk_at dksX11_init_46 4 rfl rfl)
theorem dX11_init_1084 : decode cX11_init 1084 = .ok (.iastore, 1) := dk_79 (dk_at dksX11_init_46 7 rfl rfl)
theorem dX11_init_1085 : decode cX11_init 1085 = .ok (.dup, 1) := dk_89 (dk_at dksX11_init_46 8 rfl rfl)
theorem dX11_init_1086 : decode cX11_init 1086 = .ok (.bipush 14, 2) := dk_16 14 (dk_at dksX11_init_46 9 rfl rfl)
theorem dX11_init_1088 : decode cX11_init 1088 = .ok (.ldc_w 1170, 3) := dk_19 4 146 (dk_at dksX11_init_46 11 rfl rfl)
theorem dX11_init_1091 : decode cX11_init 1091 = .ok (.iastore, 1) := dk_79 (dk_at dksX11_init_46 14 rfl rfl)
theorem dX11_init_1092 : decode cX11_init 1092 = .ok (.dup, 1) := dk_89 (dk_at dksX11_init_46 15 rfl rfl)
theorem dX11_init_1093 : decode cX11_init 1093 = .ok (.bipush 15, 2) := dk_16 15 (dk_at dksX11_init_46 16 rfl rfl)
theorem dX11_init_1095 : decode cX11_init 1095 = .ok (.ldc_w 1171, 3) := dk_19 4 147 (dk_at dksX11_init_46 18 rfl rfl)
theorem dX11_init_1098 : decode cX11_init 1098 = .ok (.iastore, 1) := dk_79 (dk_at dksX11_init_46 21 rfl rfl)
theorem dX11_init_1099 : decode cX11_init 1099 = .ok (.dup, 1) := dk_89 (dk_at dksX11_init_46 22 rfl rfl)
theorem dX11_init_1100 : decode cX11_init 1100 = .ok (.bipush 16, 2) := dk_16 16 (dk_at dksX11_init_47 0 rfl rfl)
theorem dX11_init_1102 : decode cX11_init 1102 = .ok (.ldc_w 1172, 3) := dk_19 4 148 (dk_at dksX11_init_47 2 rfl rfl)
theorem dX11_init_1105 : decode cX11_init 1105 = .ok (.iastore, 1) := dk_79 (dk_at dksX11_init_47 5 rfl rfl)
theorem dX11_init_1106 : decode cX11_init 1106 = .ok (.dup, 1) := dk_89 (dk_at dksX11_init_47 6 rfl rfl)
theorem dX11_init_1107 : decode cX11_init 1107 = .ok (.bipush 17, 2) := dk_16 17 (dk_at dksX11_init_47 7 rfl rfl)
theorem dX11_init_1109 : decode cX11_init 1109 = .ok (.ldc_w 1173, 3) := dk_19 4 149 (dk_at dksX11_init_47 9 rfl rfl)
theorem dX11_init_1112 : decode cX11_init 1112 = .ok (.iastore, 1) := dk_79 (dk_at dksX11_init_47 12 rfl rfl)
theorem dX11_init_1113 : decode cX11_init 1113 = .ok (.dup, 1) := dk_89 (dk_at dksX11_init_47 13 rfl rfl)
theorem dX11_init_1114 : decode cX11_init 1114 = .ok (.bipush 18, 2) := dk_16 18 (dk_at dksX11_init_47 14 rfl rfl)
theorem dX11_init_1116 : decode cX11_init 1116 = .ok (.ldc_w 1174, 3) := dk_19 4 150 (dk_at dksX11_init_47 16 rfl rfl)
theorem dX11_init_1119 : decode cX11_init 1119 = .ok (.iastore, 1) := dk_79 (dk_at dksX11_init_47 19 rfl rfl)
theorem dX11_init_1120 : decode cX11_init 1120 = .ok (.dup, 1) := dk_89 (dk_at dksX11_init_47 20 rfl rfl)
theorem dX11_init_1121 : decode cX11_init 1121 = .ok (.bipush 19, 2) := dk_16 19 (dk_at dksX11_init_47 21 rfl rfl)
theorem dX11_init_1123 : decode cX11_init 1123 = .ok (.ldc_w 1175, 3) := dk_19 4 151 (dk_at dksX11_init_48 0 rfl rfl)
theorem dX11_init_1126 : decode cX11_init 1126 = .ok (.iastore, 1) := dk_79 (dk_at dksX11_init_48 3 rfl rfl)
theorem dX11_init_1127 : decode cX11_init 1127 = .ok (.dup, 1) := dk_89 (dk_at dksX11_init_48 4 rfl rfl)
theorem dX11_init_1128 : decode cX11_init 1128 = .ok (.bipush 20, 2) := dk_16 20 (dk_at dksX11_init_48 5 rfl rfl)
theorem dX11_init_1130 : decode cX11_init 1130 = .ok (.ldc_w 1176, 3) := dk_19 4 152 (dk_at dksX11_init_48 7 rfl rfl)
theorem dX11_init_1133 : decode cX11_init 1133 = .ok (.iastore, 1) := dk_79 (dk_at dksX11_init_48 10 rfl rfl)
theorem dX11_init_1134 : decode cX11_init 1134 = .ok (.dup, 1) := dk_89 (dk_at dksX11_init_48 11 rfl rfl)
theorem dX11_init_1135 : decode cX11_init 1135 = .ok (.bipush 21, 2) := dk_16 21 (dk_at dksX11_init_48 12 rfl rfl)
theorem dX11_init_1137 : decode cX11_init 1137 = .ok (.ldc_w 1177, 3) := dk_19 4 153 (dk_at dksX11_init_48 14 rfl rfl)
theorem dX11_init_1140 : decode cX11_init 1140 = .ok (.iastore, 1) := dk_79 (dk_at dksX11_init_48 17 rfl rfl)
theorem dX11_init_1141 : decode cX11_init 1141 = .ok (.dup, 1) := dk_89 (dk_at dksX11_init_48 18 rfl rfl)
theorem dX11_init_1142 : decode cX11_init 1142 = .ok (.bipush 22, 2) := dk_16 22 (dk_at dksX11_init_48 19 rfl rfl)
theorem dX11_init_1144 : decode cX11_init 1144 = .ok (.ldc_w 1178, 3) := dk_19 4 154 (dk_at dksX11_init_48 21 rfl rfl)
theorem dX11_init_1147 : decode cX11_init 1147 = .ok (.iastore, 1) := dk_79 (dk_at dksX11_init_49 0 rfl rfl)
theorem dX11_init_1148 : decode cX11_init 1148 = .ok (.dup, 1) := dk_89 (dk_at dksX11_init_49 1 rfl rfl)
theorem dX11_init_1149 : decode cX11_init 1149 = .ok (.bipush 23, 2) := dk_16 23 (dk_at dksX11_init_49 2 rfl rfl)
theorem dX11_init_1151 : decode cX11_init 1151 = .ok (.ldc_w 1179, 3) := dk_19 4 155 (dk_at dksX11_init_49 4 rfl rfl)
theorem dX11_init_1154 : decode cX11_init 1154 = .ok (.iastore, 1) := dk_79 (dk_at dksX11_init_49 7 rfl rfl)
theorem dX11_init_1155 : decode cX11_init 1155 = .ok (.dup, 1) := dk_89 (dk_at dksX11_init_49 8 rfl rfl)
theorem dX11_init_1156 : decode cX11_init 1156 = .ok (.bipush 24, 2) := dk_16 24 (dk_at dksX11_init_49 9 rfl rfl)
theorem dX11_init_1158 : decode cX11_init 1158 = .ok (.ldc_w 1180, 3) := dk_19 4 156 (dk_at dksX11_init_49 11 rfl rfl)
theorem dX11_init_1161 : decode cX11_init 1161 = .ok (.iastore, 1) := dk_79 (dk_at dksX11_init_49 14 rfl rfl)
theorem dX11_init_1162 : decode cX11_init 1162 = .ok (.dup, 1) := dk_89 (dk_at dksX11_init_49 15 rfl rfl)
theorem dX11_init_1163 : decode cX11_init 1163 = .ok (.bipush 25, 2) := dk_16 25 (dk_at dksX11_init_49 16 rfl rfl)
theorem dX11_init_1165 : decode cX11_init 1165 = .ok (.ldc_w 1181, 3) := dk_19 4 157 (dk_at dksX11_init_49 18 rfl rfl)
theorem dX11_init_1168 : decode cX11_init 1168 = .ok (.iastore, 1) := dk_79 (dk_at dksX11_init_49 21 rfl rfl)
theorem dX11_init_1169 : decode cX11_init 1169 = .ok (.dup, 1) := dk_89 (dk_at dksX11_init_49 22 rfl rfl)
theorem dX11_init_1170 : decode cX11_init 1170 = .ok (.bipush 26, 2) := dk_16 26 (dk_at dksX11_init_50 0 rfl rfl)
theorem dX11_init_1172 : decode cX11_init 1172 = .ok (.ldc_w 1182, 3) := dk_19 4 158 (dk_at dksX11_init_50 2 rfl rfl)
theorem dX11_init_1175 : decode cX11_init 1175 = .ok (.iastore, 1) := dk_79 (dk_at dksX11_init_50 5 rfl rfl)
theorem dX11_init_1176 : decode cX11_init 1176 = .ok (.dup, 1) := dk_89 (dk_at dksX11_init_50 6 rfl rfl)
theorem dX11_init_1177 : decode cX11_init 1177 = .ok (.bipush 27, 2) := dk_16 27 (dk_at dksX11_init_50 7 rfl rfl)
theorem dX11_init_1179 : decode cX11_init 1179 = .ok (.ldc_w 1183, 3) := dk_19 4 159 (dk_at dksX11_init_50 9 rfl rfl)
theorem dX11_init_1182 : decode cX11_init 1182 = .ok (.iastore, 1) := dk_79 (dk_at dksX11_init_50 12 rfl rfl)
theorem dX11_init_1183 : decode cX11_init 1183 = .ok (.dup, 1) := dk_89 (dk_at dksX11_init_50 13 rfl rfl)
theorem dX11_init_1184 : decode cX11_init 1184 = .ok (.bipush 28, 2) := dk_16 28 (dk_at dksX11_init_50 14 rfl rfl)
theorem dX11_init_1186 : decode cX11_init 1186 = .ok (.ldc_w 1184, 3) := dk_19 4 160 (dk_at dksX11_init_50 16 rfl rfl)
theorem dX11_init_1189 : decode cX11_init 1189 = .ok (.iastore, 1) := dk_79 (dk_at dksX11_init_50 19 rfl rfl)
theorem dX11_init_1190 : decode cX11_init 1190 = .ok (.dup, 1) := dk_89 (dk_at dksX11_init_50 20 rfl rfl)
theorem dX11_init_1191 : decode cX11_init 1191 = .ok (.bipush 29, 2) := dk_16 29 (dk_at dksX11_init_50 21 rfl rfl)
theorem dX11_init_1193 : decode cX11_init 1193 = .ok (.ldc_w 1185, 3) := dk_19 4 161 (dk_at dksX11_init_51 0 rfl rfl)
theorem dX11_init_1196 : decode cX11_init 1196 = .ok (.iastore, 1) := dk_79 (dk_at dksX11_init_51 3 rfl rfl)
theorem dX11_init_1197 : decode cX11_init 1197 = .ok (.dup, 1) := dk_89 (dk_at dksX11_init_51 4 rfl rfl)
theorem dX11_init_1198 : decode cX11_init 1198 = .ok (.bipush 30, 2) := dk_16 30 (dk_at dksX11_init_51 5 rfl rfl)
theorem dX11_init_1200 : decode cX11_init 1200 = .ok (.ldc_w 1186, 3) := dk_19 4 162 (dk_at dksX11_init_51 7 rfl rfl)
theorem dX11_init_1203 : decode cX11_init 1203 = .ok (.iastore, 1) := dk_79 (dk_at dksX11_init_51 10 rfl rfl)
theorem dX11_init_1204 : decode cX11_init 1204 = .ok (.dup, 1) := dk_89 (dk_at dksX11_init_51 11 rfl rfl)
theorem dX11_init_1205 : decode cX11_init 1205 = .ok (.bipush 31, 2) := dk_16 31 (dk_at dksX11_init_51 12 rfl rfl)
theorem dX11_init_1207 : decode cX11_init 1207 = .ok (.ldc_w 1187, 3) := dk_19 4 163 (dk_at dksX11_init_51 14 rfl rfl)
theorem dX11_init_1210 : decode cX11_init 1210 = .ok (.iastore, 1) := dk_79 (dk_at dksX11_init_51 17 rfl rfl)
theorem dX11_init_1211 : decode cX11_init 1211 = .ok (.dup, 1) := dk_89 (dk_at dksX11_init_51 18 rfl rfl)
theorem dX11_init_1212 : decode cX11_init 1212 = .ok (.bipush 32, 2) := dk_16 32 (dk_at dksX11_init_51 19 rfl rfl)
theorem dX11_init_1214 : decode cX11_init 1214 = .ok (.ldc_w 1188, 3) := dk_19 4 164 (dk_at dksX11_init_51 21 rfl rfl)
theorem dX11_init_1217 : decode cX11_init 1217 = .ok (.iastore, 1) := dk_79 (dk_at dksX11_init_52 0 rfl rfl)
theorem dX11_init_1218 : decode cX11_init 1218 = .ok (.dup, 1) := dk_89 (dk_at dksX11_init_52 1 rfl rfl)
theorem dX11_init_1219 : decode cX11_init 1219 = .ok (.bipush 33, 2) := dk_16 33 (dk_at dksX11_init_52 2 rfl rfl)
theorem dX11_init_1221 : decode cX11_init 1221 = .ok (.ldc_w 1189, 3) := dk_19 4 165 (dk_at dksX11_init_52 4 rfl rfl)
theorem dX11_init_1224 : decode cX11_init 1224 = .ok (.iastore, 1) := dk_79 (dk_at dksX11_init_52 7 rfl rfl)
theorem dX11_init_1225 : decode cX11_init 1225 = .ok (.dup, 1) := dk_89 (dk_at dksX11_init_52 8 rfl rfl)
theorem dX11_init_1226 : decode cX11_init 1226 = .ok (.bipush 34, 2) := dk_16 34 (dk_at dksX11_init_52 9 rfl rfl)
theorem dX11_init_1228 : decode cX11_init 1228 = .ok (.ldc_w 1190, 3) := dk_19 4 166 (dk_at dksX11_init_52 11 rfl rfl)
theorem dX11_init_1231 : decode cX11_init 1231 = .ok (.iastore, 1) := dk_79 (dk_at dksX11_init_52 14 rfl rfl)
theorem dX11_init_1232 : decode cX11_init 1232 = .ok (.dup, 1) := dk_89 (dk_at dksX11_init_52 15 rfl rfl)
theorem dX11_init_1233 : decode cX11_init 1233 = .ok (.bipush 35, 2) := dk_16 35 (dk_at dksX11_init_52 16 rfl rfl)
theorem dX11_init_1235 : decode cX11_init 1235 = .ok (.ldc_w 1191, 3) := dk_19 4 167 (dk_at dksX11_init_52 18 rfl rfl)
theorem dX11_init_1238 : decode cX11_init 1238 = .ok (.iastore, 1) := dk_79 (dk_at dksX11_init_52 21 rfl rfl)
theorem dX11_init_1239 : decode cX11_init 1239 = .ok (.dup, 1) := dk_89 (dk_at dksX11_init_52 22 rfl rfl)
theorem dX11_init_1240 : decode cX11_init 1240 = .ok (.bipush 36, 2) := dk_16 36 (dk_at dksX11_init_53 0 rfl rfl)
theorem dX11_init_1242 : decode cX11_init 1242 = .ok (.ldc_w 1192, 3) := dk_19 4 168 (dk_at dksX11_init_53 2 rfl rfl)
theorem dX11_init_1245 : decode cX11_init 1245 = .ok (.iastore, 1) := dk_79 (dk_at dksX11_init_53 5 rfl rfl)
theorem dX11_init_1246 : decode cX11_init 1246 = .ok (.dup, 1) := dk_89 (dk_at dksX11_init_53 6 rfl rfl)
theorem dX11_init_1247 : decode cX11_init 1247 = .ok (.bipush 37, 2) := dk_16 37 (dk_at dksX11_init_53 7 rfl rfl)
theorem dX11_init_1249 : decode cX11_init 1249 = .ok (.ldc_w 1193, 3) := dk_19 4 169 (dk_at dksX11_init_53 9 rfl rfl)
theorem dX11_init_1252 : decode cX11_init 1252 = .ok (.iastore, 1) := dk_79 (dk_at dksX11_init_53 12 rfl rfl)
theorem dX11_init_1253 : decode cX11_init 1253 = .ok (.dup, 1) := dk_89 (dk_at dksX11_init_53 13 rfl rfl)
theorem dX11_init_1254 : decode cX11_init 1254 = .ok (.bipush 38, 2) := dk_16 38 (dk_at dksX11_init_53 14 rfl rfl)
theorem dX11_init_1256 : decode cX11_init 1256 = .ok (.ldc_w 1194, 3) := dk_19 4 170 (dk_at dksX11_init_53 16 rfl rfl)
theorem dX11_init_1259 : decode cX11_init 1259 = .ok (.iastore, 1) := dk_79 (dk_at dksX11_init_53 19 rfl rfl)
theorem dX11_init_1260 : decode cX11_init 1260 = .ok (.dup, 1) := dk_89 (dk_at dksX11_init_53 20 rfl rfl)
theorem dX11_init_1261 : decode cX11_init 1261 = .ok (.bipush 39, 2) := dk_16 39 (dk_at dksX11_init_53 21 rfl rfl)
theorem dX11_init_1263 : decode cX11_init 1263 = .ok (.ldc_w 1195, 3) := dk_19 4 171 (dk_at dksX11_init_54 0 rfl rfl)
theorem dX11_init_1266 : decode cX11_init 1266 = .ok (.iastore, 1) := dk_79 (dk_at dksX11_init_54 3 rfl rfl)
theorem dX11_init_1267 : decode cX11_init 1267 = .ok (.dup, 1) := dk_89 (dk_at dksX11_init_54 4 rfl rfl)
theorem dX11_init_1268 : decode cX11_init 1268 = .ok (.bipush 40, 2) := dk_16 40 (dk_at dksX11_init_54 5 rfl rfl)
theorem dX11_init_1270 : decode cX11_init 1270 = .ok (.ldc_w 1196, 3) := dk_19 4 172 (dk_at dksX11_init_54 7 rfl rfl)
theorem dX11_init_1273 : decode cX11_init 1273 = .ok (.iastore, 1) := dk_79 (dk_at dksX11_init_54 10 rfl rfl)
theorem dX11_init_1274 : decode cX11_init 1274 = .ok (.dup, 1) := dk_89 (dk_at dksX11_init_54 11 rfl rfl)
theorem dX11_init_1275 : decode cX11_init 1275 = .ok (.bipush 41, 2) := dk_16 41 (dk_at dksX11_init_54 12 rfl rfl)
theorem dX11_init_1277 : decode cX11_init 1277 = .ok (.ldc_w 1197, 3) := dk_19 4 173 (dk_at dksX11_init_54 14 rfl rfl)
theorem dX11_init_1280 : decode cX11_init 1280 = .ok (.iastore, 1) := dk_79 (dk_at dksX11_init_54 17 rfl rfl)
theorem dX11_init_1281 : decode cX11_init 1281 = .ok (.dup, 1) := dk_89 (dk_at dksX11_init_54 18 rfl rfl)
theorem dX11_init_1282 : decode cX11_init 1282 = .ok (.bipush 42, 2) := dk_16 42 (dk_at dksX11_init_54 19 rfl rfl)
theorem dX11_init_1284 : decode cX11_init 1284 = .ok (.ldc_w 1198, 3) := dk_19 4 174 (dk_at dksX11_init_54 21 rfl rfl)
theorem dX11_init_1287 : decode cX11_init 1287 = .ok (.iastore, 1) := dk_79 (dk_at dksX11_init_55 0 rfl rfl)
theorem dX11_init_1288 : decode cX11_init 1288 = .ok (.dup, 1) := dk_89 (dk_at dksX11_init_55 1 rfl rfl)
theorem dX11_init_1289 : decode cX11_init 1289 = .ok (.bipush 43, 2) := dk_16 43 (dk_at dksX11_init_55 2 rfl rfl)
theorem dX11_init_1291 : decode cX11_init 1291 = .ok (.ldc_w 1199, 3) := dk_19 4 175 (dk_at dksX11_init_55 4 rfl rfl)
theorem dX11_init_1294 : decode cX11_init 1294 = .ok (.iastore, 1) := dk_79 (dk_at dksX11_init_55 7 rfl rfl)
theorem dX11_init_1295 : decode cX11_init 1295 = .ok (.dup, 1) := dk_89 (dk_at dksX11_init_55 8 rfl rfl)
theorem dX11_init_1296 : decode cX11_init 1296 = .ok (.bipush 44, 2) := dk_16 44 (dk_at dksX11_init_55 9 rfl rfl)
theorem dX11_init_1298 : decode cX11_init 1298 = .ok (.ldc_w 1200, 3) := dk_19 4 176 (dk_at dksX11_init_55 11 rfl rfl)
theorem dX11_init_1301 : decode cX11_init 1301 = .ok (.iastore, 1) := dk_79 (dk_at dksX11_init_55 14 rfl rfl)
theorem dX11_init_1302 : decode cX11_init 1302 = .ok (.dup, 1) := dk_89 (dk_at dksX11_init_55 15 rfl rfl)
theorem dX11_init_1303 : decode cX11_init 1303 = .ok (.bipush 45, 2) := dk_16 45 (dk_at dksX11_init_55 16 rfl rfl)
theorem dX11_init_1305 : decode cX11_init 1305 = .ok (.ldc_w 1201, 3) := dk_19 4 177 (dk_at dksX11_init_55 18 rfl rfl)
theorem dX11_init_1308 : decode cX11_init 1308 = .ok (.iastore, 1) := dk_79 (dk_at dksX11_init_55 21 rfl rfl)
theorem dX11_init_1309 : decode cX11_init 1309 = .ok (.dup, 1) := dk_89 (dk_at dksX11_init_55 22 rfl rfl)
theorem dX11_init_1310 : decode cX11_init 1310 = .ok (.bipush 46, 2) := dk_16 46 (dk_at dksX11_init_56 0 rfl rfl)
theorem dX11_init_1312 : decode cX11_init 1312 = .ok (.ldc_w 1202, 3) := dk_19 4 178 (dk_at dksX11_init_56 2 rfl rfl)
theorem dX11_init_1315 : decode cX11_init 1315 = .ok (.iastore, 1) := dk_79 (dk_at dksX11_init_56 5 rfl rfl)
theorem dX11_init_1316 : decode cX11_init 1316 = .ok (.dup, 1) := dk_89 (dk_at dksX11_init_56 6 rfl rfl)
theorem dX11_init_1317 : decode cX11_init 1317 = .ok (.bipush 47, 2) := dk_16 47 (dk_at dksX11_init_56 7 rfl rfl)
theorem dX11_init_1319 : decode cX11_init 1319 = .ok (.ldc_w 1203, 3) := dk_19 4 179 (dk_at dksX11_init_56 9 rfl rfl)
theorem dX11_init_1322 : decode cX11_init 1322 = .ok (.iastore, 1) := dk_79 (dk_at dksX11_init_56 12 rfl rfl)
theorem dX11_init_1323 : decode cX11_init 1323 = .ok (.dup, 1) := dk_89 (dk_at dksX11_init_56 13 rfl rfl)
theorem dX11_init_1324 : decode cX11_init 1324 = .ok (.bipush 48, 2) := dk_16 48 (dk_at dksX11_init_56 14 rfl rfl)
theorem dX11_init_1326 : decode cX11_init 1326 = .ok (.ldc_w 1204, 3) := dk_19 4 180 (dk_at dksX11_init_56 16 rfl rfl)
theorem dX11_init_1329 : decode cX11_init 1329 = .ok (.iastore, 1) := dk_79 (dk_at dksX11_init_56 19 rfl rfl)
theorem dX11_init_1330 : decode cX11_init 1330 = .ok (.dup, 1) := dk_89 (dk_at dksX11_init_56 20 rfl rfl)
theorem dX11_init_1331 : decode cX11_init 1331 = .ok (.bipush 49, 2) := dk_16 49 (dk_at dksX11_init_56 21 rfl rfl)
theorem dX11_init_1333 : decode cX11_init 1333 = .ok (.ldc_w 1205, 3) := dk_19 4 181 (dk_at dksX11_init_57 0 rfl rfl)
theorem dX11_init_1336 : decode cX11_init 1336 = .ok (.iastore, 1) := dk_79 (dk_at dksX11_init_57 3 rfl rfl)
theorem dX11_init_1337 : decode cX11_init 1337 = .ok (.dup, 1) := dk_89 (dk_at dksX11_init_57 4 rfl rfl)
theorem dX11_init_1338 : decode cX11_init 1338 = .ok (.bipush 50, 2) := dk_16 50 (dk_at dksX11_init_57 5 rfl rfl)
theorem dX11_init_1340 : decode cX11_init 1340 = .ok (.ldc_w 1206, 3) := dk_19 4 182 (dk_at dksX11_init_57 7 rfl rfl)
theorem dX11_init_1343 : decode cX11_init 1343 = .ok (.iastore, 1) := dk_79 (dk_at dksX11_init_57 10 rfl rfl)
theorem dX11_init_1344 : decode cX11_init 1344 = .ok (.dup, 1) := dk_89 (dk_at dksX11_init_57 11 rfl rfl)
theorem dX11_init_1345 : decode cX11_init 1345 = .ok (.bipush 51, 2) := dk_16 51 (dk_at dksX11_init_57 12 rfl rfl)
theorem dX11_init_1347 : decode cX11_init 1347 = .ok (.ldc_w 1207, 3) := dk_19 4 183 (dk_at dksX11_init_57 14 rfl rfl)
theorem dX11_init_1350 : decode cX11_init 1350 = .ok (.iastore, 1) := dk_79 (dk_at dksX11_init_57 17 rfl rfl)
theorem dX11_init_1351 : decode cX11_init 1351 = .ok (.dup, 1) := dk_89 (dk_at dksX11_init_57 18 rfl rfl)
theorem dX11_init_1352 : decode cX11_init 1352 = .ok (.bipush 52, 2) := dk_16 52 (dk_at dksX11_init_57 19 rfl rfl)
theorem dX11_init_1354 : decode cX11_init 1354 = .ok (.ldc_w 1208, 3) := dk_19 4 184 (dk_at dksX11_init_57 21 rfl rfl)
theorem dX11_init_1357 : decode cX11_init 1357 = .ok (.iastore, 1) := dk_79 (dk_at dksX11_init_58 0 rfl rfl)
theorem dX11_init_1358 : decode cX11_init 1358 = .ok (.dup, 1) := dk_89 (dk_at dksX11_init_58 1 rfl rfl)
theorem dX11_init_1359 : decode cX11_init 1359 = .ok (.bipush 53, 2) := dk_16 53 (dk_at dksX11_init_58 2 rfl rfl)
theorem dX11_init_1361 : decode cX11_init 1361 = .ok (.ldc_w 1209, 3) := dk_19 4 185 (dk_at dksX11_init_58 4 rfl rfl)
theorem dX11_init_1364 : decode cX11_init 1364 = .ok (.iastore, 1) := dk_79 (dk_at dksX11_init_58 7 rfl rfl)
theorem dX11_init_1365 : decode cX11_init 1365 = .ok (.dup, 1) := dk_89 (dk_at dksX11_init_58 8 rfl rfl)
theorem dX11_init_1366 : decode cX11_init 1366 = .ok (.bipush 54, 2) := dk_16 54 (dk_at dksX11_init_58 9 rfl rfl)
theorem dX11_init_1368 : decode cX11_init 1368 = .ok (.ldc_w 1210, 3) := dk_19 4 186 (dk_at dksX11_init_58 11 rfl rfl)
theorem dX11_init_1371 : decode cX11_init 1371 = .ok (.iastore, 1) := dk_79 (dk_at dksX11_init_58 14 rfl rfl)
theorem dX11_init_1372 : decode cX11_init 1372 = .ok (.dup, 1) := dk_89 (dk_at dksX11_init_58 15 rfl rfl)
theorem dX11_init_1373 : decode cX11_init 1373 = .ok (.bipush 55, 2) := dk_16 55 (dk_at dksX11_init_58 16 rfl rfl)
theorem dX11_init_1375 : decode cX11_init 1375 = .ok (.ldc_w 1211, 3) := dk_19 4 187 (dk_at dksX11_init_58 18 rfl rfl)
theorem dX11_init_1378 : decode cX11_init 1378 = .ok (.iastore, 1) := dk_79 (dk_at dksX11_init_58 21 rfl rfl)
theorem dX11_init_1379 : decode cX11_init 1379 = .ok (.dup, 1) := dk_89 (dk_at dksX11_init_58 22 rfl rfl)
theorem dX11_init_1380 : decode cX11_init 1380 = .ok (.bipush 56, 2) := dk_16 56 (dk_at dksX11_init_59 0 rfl rfl)
theorem dX11_init_1382 : decode cX11_init 1382 = .ok (.ldc_w 1212, 3) := dk_19 4 188 (dk_at dksX11_init_59 2 rfl rfl)
theorem dX11_init_1385 : decode cX11_init 1385 = .ok (.iastore, 1) := dk_79 (dk_at dksX11_init_59 5 rfl rfl)
theorem dX11_init_1386 : decode cX11_init 1386 = .ok (.dup, 1) := dk_89 (dk_at dksX11_init_59 6 rfl rfl)
theorem dX11_init_1387 : decode cX11_init 1387 = .ok (.bipush 57, 2) := dk_16 57 (dk_at dksX11_init_59 7 rfl rfl)
theorem dX11_init_1389 : decode cX11_init 1389 = .ok (.ldc_w 1213, 3) := dk_19 4 189 (dk_at dksX11_init_59 9 rfl rfl)
theorem dX11_init_1392 : decode cX11_init 1392 = .ok (.iastore, 1) := dk_79 (dk_at dksX11_init_59 12 rfl rfl)
theorem dX11_init_1393 : decode cX11_init 1393 = .ok (.dup, 1) := dk_89 (dk_at dksX11_init_59 13 rfl rfl)
theorem dX11_init_1394 : decode cX11_init 1394 = .ok (.bipush 58, 2) := dk_16 58 (dk_at dksX11_init_59 14 rfl rfl)
theorem dX11_init_1396 : decode cX11_init 1396 = .ok (.ldc_w 1214, 3) := dk_19 4 190 (dk_at dksX11_init_59 16 rfl rfl)
theorem dX11_init_1399 : decode cX11_init 1399 = .ok (.iastore, 1) := dk_79 (dk_at dksX11_init_59 19 rfl rfl)
theorem dX11_init_1400 : decode cX11_init 1400 = .ok (.dup, 1) := dk_89 (dk_at dksX11_init_59 20 rfl rfl)
theorem dX11_init_1401 : decode cX11_init 1401 = .ok (.bipush 59, 2) := dk_16 59 (dk_at dksX11_init_59 21 rfl rfl)
theorem dX11_init_1403 : decode cX11_init 1403 = .ok (.ldc_w 1215, 3) := dk_19 4 191 (dk_at dksX11_init_60 0 rfl rfl)
theorem dX11_init_1406 : decode cX11_init 1406 = .ok (.iastore, 1) := dk_79 (dk_at dksX11_init_60 3 rfl rfl)
theorem dX11_init_1407 : decode cX11_init 1407 = .ok (.dup, 1) := dk_89 (dk_at dksX11_init_60 4 rfl rfl)
theorem dX11_init_1408 : decode cX11_init 1408 = .ok (.bipush 60, 2) := dk_16 60 (dk_at dksX11_init_60 5 rfl rfl)
theorem dX11_init_1410 : decode cX11_init 1410 = .ok (.ldc_w 1216, 3) := dk_19 4 192 (dk_at dksX11_init_60 7 rfl rfl)
theorem dX11_init_1413 : decode cX11_init 1413 = .ok (.iastore, 1) := dk_79 (dk_at dksX11_init_60 10 rfl rfl)
theorem dX11_init_1414 : decode cX11_init 1414 = .ok (.dup, 1) := dk_89 (dk_at dksX11_init_60 11 rfl rfl)
theorem dX11_init_1415 : decode cX11_init 1415 = .ok (.bipush 61, 2) := dk_16 61 (dk_at dksX11_init_60 12 rfl rfl)
theorem dX11_init_1417 : decode cX11_init 1417 = .ok (.ldc_w 1217, 3) := dk_19 4 193 (dk_at dksX11_init_60 14 rfl rfl)
theorem dX11_init_1420 : decode cX11_init 1420 = .ok (.iastore, 1) := dk_79 (dk_at dksX11_init_60 17 rfl rfl)
theorem dX11_init_1421 : decode cX11_init 1421 = .ok (.dup, 1) := dk_89 (dk_at dksX11_init_60 18 rfl rfl)
theorem dX11_init_1422 : decode cX11_init 1422 = .ok (.bipush 62, 2) := dk_16 62 (dk_at dksX11_init_60 19 rfl rfl)
theorem dX11_init_1424 : decode cX11_init 1424 = .ok (.ldc_w 1218, 3) := dk_19 4 194 (dk_at dksX11_init_60 21 rfl rfl)
theorem dX11_init_1427 : decode cX11_init 1427 = .ok (.iastore, 1) := dk_79 (dk_at dksX11_init_61 0 rfl rfl)
theorem dX11_init_1428 : decode cX11_init 1428 = .ok (.dup, 1) := dk_89 (dk_at dksX11_init_61 1 rfl rfl)
theorem dX11_init_1429 : decode cX11_init 1429 = .ok (.bipush 63, 2) := dk_16 63 (dk_at dksX11_init_61 2 rfl rfl)
theorem dX11_init_1431 : decode cX11_init 1431 = .ok (.ldc_w 1219, 3) := dk_19 4 195 (dk_at dksX11_init_61 4 rfl rfl)
theorem dX11_init_1434 : decode cX11_init 1434 = .ok (.iastore, 1) := dk_79 (dk_at dksX11_init_61 7 rfl rfl)
theorem dX11_init_1435 : decode cX11_init 1435 = .ok (.putfield 1220, 3) := dk_181 4 196 (dk_at dksX11_init_61 8 rfl rfl)
theorem dX11_init_1438 : decode cX11_init 1438 = .ok (.aload_n 0, 1) := dk_42 (dk_at dksX11_init_61 11 rfl rfl)
theorem dX11_init_1439 : decode cX11_init 1439 = .ok (.bipush 8, 2) := dk_16 8 (dk_at dksX11_init_61 12 rfl rfl)
theorem dX11_init_1441 : decode cX11_init 1441 = .ok (.newarray .int, 2) := dk_188_10 (dk_at dksX11_init_61 14 rfl rfl)
theorem dX11_init_1443 : decode cX11_init 1443 = .ok (.dup, 1) := dk_89 (dk_at dksX11_init_61 16 rfl rfl)
theorem dX11_init_1444 : decode cX11_init 1444 = .ok (.iconst 0, 1) := dk_3 (dk_at dksX11_init_61 17 rfl rfl)
theorem dX11_init_1445 : decode cX11_init 1445 = .ok (.ldc_w 1223, 3) := dk_19 4 199 (dk_at dksX11_init_61 18 rfl rfl)
theorem dX11_init_1448 : decode cX11_init 1448 = .ok (.iastore, 1) := dk_79 (dk_at dksX11_init_61 21 rfl rfl)
theorem dX11_init_1449 : decode cX11_init 1449 = .ok (.dup, 1) := dk_89 (dk_at dksX11_init_61 22 rfl rfl)
theorem dX11_init_1450 : decode cX11_init 1450 = .ok (.iconst 1, 1) := dk_4 (dk_at dksX11_init_61 23 rfl rfl)
theorem dX11_init_1451 : decode cX11_init 1451 = .ok (.ldc_w 1224, 3) := dk_19 4 200 (dk_at dksX11_init_62 0 rfl rfl)
theorem dX11_init_1454 : decode cX11_init 1454 = .ok (.iastore, 1) := dk_79 (dk_at dksX11_init_62 3 rfl rfl)
theorem dX11_init_1455 : decode cX11_init 1455 = .ok (.dup, 1) := dk_89 (dk_at dksX11_init_62 4 rfl rfl)
theorem dX11_init_1456 : decode cX11_init 1456 = .ok (.iconst 2, 1) := dk_5 (dk_at dksX11_init_62 5 rfl rfl)
theorem dX11_init_1457 : decode cX11_init 1457 = .ok (.ldc_w 1225, 3) := dk_19 4 201 (dk_at dksX11_init_62 6 rfl rfl)
theorem dX11_init_1460 : decode cX11_init 1460 = .ok (.iastore, 1) := dk_79 (dk_at dksX11_init_62 9 rfl rfl)
theorem dX11_init_1461 : decode cX11_init 1461 = .ok (.dup, 1) := dk_89 (dk_at dksX11_init_62 10 rfl rfl)
theorem dX11_init_1462 : decode cX11_init 1462 = .ok (.iconst 3, 1) := dk_6 (dk_at dksX11_init_62 11 rfl rfl)
theorem dX11_init_1463 : decode cX11_init 1463 = .ok (.ldc_w 1226, 3) := dk_19 4 202 (dk_at dksX11_init_62 12 rfl rfl)
theorem dX11_init_1466 : decode cX11_init 1466 = .ok (.iastore, 1) := dk_79 (dk_at dksX11_init_62 15 rfl rfl)
theorem dX11_init_1467 : decode cX11_init 1467 = .ok (.dup, 1) := dk_89 (dk_at dksX11_init_62 16 rfl rfl)
theorem dX11_init_1468 : decode cX11_init 1468 = .ok (.iconst 4, 1) := dk_7 (dk_at dksX11_init_62 17 rfl rfl)
theorem dX11_init_1469 : decode cX11_init 1469 = .ok (.ldc_w 1227, 3) := dk_19 4 203 (dk_at dksX11_init_62 18 rfl rfl)
theorem dX11_init_1472 : decode cX11_init 1472 = .ok (.iastore, 1) := dk_79 (dk_at dksX11_init_62 21 rfl rfl)
theorem dX11_init_1473 : decode cX11_init 1473 = .ok (.dup, 1) := dk_89 (dk_at dksX11_init_62 22 rfl rfl)
theorem dX11_init_1474 : decode cX11_init 1474 = .ok (.iconst 5, 1) := dk_8 (dk_at dksX11_init_62 23 rfl rfl)
theorem dX11_init_1475 : decode cX11_init 1475 = .ok (.ldc_w 1228, 3) := dk_19 4 204 (dk_at dksX11_init_63 0 rfl rfl)
theorem dX11_init_1478 : decode cX11_init 1478 = .ok (.iastore, 1) := dk_79 (dk_at dksX11_init_63 3 rfl rfl)
theorem dX11_init_1479 : decode cX11_init 1479 = .ok (.dup, 1) := dk_89 (dk_at dksX11_init_63 4 rfl rfl)
theorem dX11_init_1480 : decode cX11_init 1480 = .ok (.bipush 6, 2) := dk_16 6 (dk_at dksX11_init_63 5 rfl rfl)
theorem dX11_init_1482 : decode cX11_init 1482 = .ok (.ldc_w 1229, 3) := dk_19 4 205 (dk_at dksX11_init_63 7 rfl rfl)
theorem dX11_init_1485 : decode cX11_init 1485 = .ok (.iastore, 1) := dk_79 (dk_at dksX11_init_63 10 rfl rfl)
theorem dX11_init_1486 : decode cX11_init 1486 = .ok (.dup, 1) := dk_89 (dk_at dksX11_init_63 11 rfl rfl)
theorem dX11_init_1487 : decode cX11_init 1487 = .ok (.bipush 7, 2) := dk_16 7 (dk_at dksX11_init_63 12 rfl rfl)
theorem dX11_init_1489 : decode cX11_init 1489 = .ok (.ldc_w 1230, 3) := dk_19 4 206 (dk_at dksX11_init_63 14 rfl rfl)
theorem dX11_init_1492 : decode cX11_init 1492 = .ok (.iastore, 1) := dk_79 (dk_at dksX11_init_63 17 rfl rfl)
theorem dX11_init_1493 : decode cX11_init 1493 = .ok (.putfield 1231, 3) := dk_181 4 207 (dk_at dksX11_init_63 18 rfl rfl)
theorem dX11_init_1496 : decode cX11_init 1496 = .ok (.iconst 0, 1) := dk_3 (dk_at dksX11_init_63 21 rfl rfl)
theorem dX11_init_1497 : decode cX11_init 1497 = .ok (.istore_n 1, 1) := dk_60 (dk_at dksX11_init_63 22 rfl rfl)
theorem dX11_init_1498 : decode cX11_init 1498 = .ok (.iload_n 1, 1) := dk_27 (dk_at dksX11_init_63 23 rfl rfl)
theorem dX11_init_1499 : decode cX11_init 1499 = .ok (.bipush 61, 2) := dk_16 61 (dk_at dksX11_init_64 0 rfl rfl)
theorem dX11_init_1501 : decode cX11_init 1501 = .ok (.if_icmp .ge 81, 3) := dk_162 0 81 (dk_at dksX11_init_64 2 rfl rfl)
theorem dX11_init_1504 : decode cX11_init 1504 = .ok (.aload_n 0, 1) := dk_42 (dk_at dksX11_init_64 5 rfl rfl)
theorem dX11_init_1505 : decode cX11_init 1505 = .ok (.getfield 1123, 3) := dk_180 4 99 (dk_at dksX11_init_64 6 rfl rfl)
theorem dX11_init_1508 : decode cX11_init 1508 = .ok (.bipush 61, 2) := dk_16 61 (dk_at dksX11_init_64 9 rfl rfl)
theorem dX11_init_1510 : decode cX11_init 1510 = .ok (.iload_n 1, 1) := dk_27 (dk_at dksX11_init_64 11 rfl rfl)
theorem dX11_init_1511 : decode cX11_init 1511 = .ok (.imul, 1) := dk_104 (dk_at dksX11_init_64 12 rfl rfl)
theorem dX11_init_1512 : decode cX11_init 1512 = .ok (.lconst 1, 1) := dk_10 (dk_at dksX11_init_64 13 rfl rfl)
theorem dX11_init_1513 : decode cX11_init 1513 = .ok (.lastore, 1) := dk_80 (dk_at dksX11_init_64 14 rfl rfl)
theorem dX11_init_1514 : decode cX11_init 1514 = .ok (.iconst 1, 1) := dk_4 (dk_at dksX11_init_64 15 rfl rfl)
theorem dX11_init_1515 : decode cX11_init 1515 = .ok (.istore_n 2, 1) := dk_61 (dk_at dksX11_init_64 16 rfl rfl)
theorem dX11_init_1516 : decode cX11_init 1516 = .ok (.iload_n 2, 1) := dk_28 (dk_at dksX11_init_64 17 rfl rfl)
theorem dX11_init_1517 : decode cX11_init 1517 = .ok (.iload_n 1, 1) := dk_27 (dk_at dksX11_init_64 18 rfl rfl)
theorem dX11_init_1518 : decode cX11_init 1518 = .ok (.if_icmp .gt 58, 3) := dk_163 0 58 (dk_at dksX11_init_64 19 rfl rfl)
theorem dX11_init_1521 : decode cX11_init 1521 = .ok (.aload_n 0, 1) := dk_42 (dk_at dksX11_init_64 22 rfl rfl)
theorem dX11_init_1522 : decode cX11_init 1522 = .ok (.getfield 1123, 3) := dk_180 4 99 (dk_at dksX11_init_65 0 rfl rfl)
theorem dX11_init_1525 : decode cX11_init 1525 = .ok (.bipush 61, 2) := dk_16 61 (dk_at dksX11_init_65 3 rfl rfl)
theorem dX11_init_1527 : decode cX11_init 1527 = .ok (.iload_n 1, 1) := dk_27 (dk_at dksX11_init_65 5 rfl rfl)
theorem dX11_init_1528 : decode cX11_init 1528 = .ok (.imul, 1) := dk_104 (dk_at dksX11_init_65 6 rfl rfl)
theorem dX11_init_1529 : decode cX11_init 1529 = .ok (.iload_n 2, 1) := dk_28 (dk_at dksX11_init_65 7 rfl rfl)
theorem dX11_init_1530 : decode cX11_init 1530 = .ok (.iadd, 1) := dk_96 (dk_at dksX11_init_65 8 rfl rfl)
theorem dX11_init_1531 : decode cX11_init 1531 = .ok (.aload_n 0, 1) := dk_42 (dk_at dksX11_init_65 9 rfl rfl)
theorem dX11_init_1532 : decode cX11_init 1532 = .ok (.getfield 1123, 3) := dk_180 4 99 (dk_at dksX11_init_65 10 rfl rfl)
theorem dX11_init_1535 : decode cX11_init 1535 = .ok (.bipush 61, 2) := dk_16 61 (dk_at dksX11_init_65 13 rfl rfl)
theorem dX11_init_1537 : decode cX11_init 1537 = .ok (.iload_n 1, 1) := dk_27 (dk_at dksX11_init_65 15 rfl rfl)
theorem dX11_init_1538 : decode cX11_init 1538 = .ok (.iconst 1, 1) := dk_4 (dk_at dksX11_init_65 16 rfl rfl)
theorem dX11_init_1539 : decode cX11_init 1539 = .ok (.isub, 1) := dk_100 (dk_at dksX11_init_65 17 rfl rfl)
theorem dX11_init_1540 : decode cX11_init 1540 = .ok (.imul, 1) := dk_104 (dk_at dksX11_init_65 18 rfl rfl)
theorem dX11_init_1541 : decode cX11_init 1541 = .ok (.iload_n 2, 1) := dk_28 (dk_at dksX11_init_65 19 rfl rfl)
theorem dX11_init_1542 : decode cX11_init 1542 = .ok (.iadd, 1) := dk_96 (dk_at dksX11_init_65 20 rfl rfl)
theorem dX11_init_1543 : decode cX11_init 1543 = .ok (.iconst 1, 1) := dk_4 (dk_at dksX11_init_65 21 rfl rfl)
theorem dX11_init_1544 : decode cX11_init 1544 = .ok (.isub, 1) := dk_100 (dk_at dksX11_init_65 22 rfl rfl)
theorem dX11_init_1545 : decode cX11_init 1545 = .ok (.laload, 1) := dk_47 (dk_at dksX11_init_65 23 rfl rfl)
theorem dX11_init_1546 : decode cX11_init 1546 = .ok (.iload_n 2, 1) := dk_28 (dk_at dksX11_init_66 0 rfl rfl)
theorem dX11_init_1547 : decode cX11_init 1547 = .ok (.iload_n 1, 1) := dk_27 (dk_at dksX11_init_66 1 rfl rfl)
theorem dX11_init_1548 : decode cX11_init 1548 = .ok (.if_icmp .ge 19, 3) := dk_162 0 19 (dk_at dksX11_init_66 2 rfl rfl)
theorem dX11_init_1551 : decode cX11_init 1551 = .ok (.aload_n 0, 1) := dk_42 (dk_at dksX11_init_66 5 rfl rfl)
theorem dX11_init_1552 : decode cX11_init 1552 = .ok (.getfield 1123, 3) := dk_180 4 99 (dk_at dksX11_init_66 6 rfl rfl)
theorem dX11_init_1555 : decode cX11_init 1555 = .ok (.bipush 61, 2) := dk_16 61 (dk_at dksX11_init_66 9 rfl rfl)
theorem dX11_init_1557 : decode cX11_init 1557 = .ok (.iload_n 1, 1) := dk_27 (dk_at dksX11_init_66 11 rfl rfl)
theorem dX11_init_1558 : decode cX11_init 1558 = .ok (.iconst 1, 1) := dk_4 (dk_at dksX11_init_66 12 rfl rfl)
theorem dX11_init_1559 : decode cX11_init 1559 = .ok (.isub, 1) := dk_100 (dk_at dksX11_init_66 13 rfl rfl)
theorem dX11_init_1560 : decode cX11_init 1560 = .ok (.imul, 1) := dk_104 (dk_at dksX11_init_66 14 rfl rfl)
theorem dX11_init_1561 : decode cX11_init 1561 = .ok (.iload_n 2, 1) := dk_28 (dk_at dksX11_init_66 15 rfl rfl)
theorem dX11_init_1562 : decode cX11_init 1562 = .ok (.iadd, 1) := dk_96 (dk_at dksX11_init_66 16 rfl rfl)
theorem dX11_init_1563 : decode cX11_init 1563 = .ok (.laload, 1) := dk_47 (dk_at dksX11_init_66 17 rfl rfl)
theorem dX11_init_1564 : decode cX11_init 1564 = .ok (.goto 4, 3) := dk_167 0 4 (dk_at dksX11_init_66 18 rfl rfl)
theorem dX11_init_1567 : decode cX11_init 1567 = .ok (.lconst 0, 1) := dk_9 (dk_at dksX11_init_66 21 rfl rfl)
theorem dX11_init_1568 : decode cX11_init 1568 = .ok (.ladd, 1) := dk_97 (dk_at dksX11_init_66 22 rfl rfl)
theorem dX11_init_1569 : decode cX11_init 1569 = .ok (.lastore, 1) := dk_80 (dk_at dksX11_init_66 23 rfl rfl)
theorem dX11_init_1570 : decode cX11_init 1570 = .ok (.iinc 2 1, 3) := dk_132 2 1 (dk_at dksX11_init_67 0 rfl rfl)
theorem dX11_init_1573 : decode cX11_init 1573 = .ok (.goto (-57), 3) := dk_167 255 199 (dk_at dksX11_init_67 3 rfl rfl)
theorem dX11_init_1576 : decode cX11_init 1576 = .ok (.iinc 1 1, 3) := dk_132 1 1 (dk_at dksX11_init_67 6 rfl rfl)
theorem dX11_init_1579 : decode cX11_init 1579 = .ok (.goto (-81), 3) := dk_167 255 175 (dk_at dksX11_init_67 9 rfl rfl)
theorem dX11_init_1582 : decode cX11_init 1582 = .ok (.return_, 1) := dk_177 (dk_at dksX11_init_67 12 rfl rfl)
abbrev cX11_sample : ByteArray := prog_17_method_193_code
def yX11_sample : MethodName := ⟨RX11, "sample", "(IIJ)I"⟩
def dkwX11_sample_12 : List UInt8 := [21, 7, 172]
abbrev dktX11_sample_12 : List UInt8 := dkwX11_sample_12 ++ []
def dkwX11_sample_11 : List UInt8 := [54, 7, 42, 28, 21, 7, 182, 4, 223, 42, 16, 28, 27, 28, 33, 16, 32, 123, 136, 33, 136, 182, 0, 22]
abbrev dktX11_sample_11 : List UInt8 := dkwX11_sample_11 ++ dktX11_sample_12
def dkwX11_sample_10 : List UInt8 := [181, 4, 213, 42, 42, 180, 4, 213, 4, 96, 5, 108, 181, 4, 216, 42, 27, 28, 21, 6, 33, 182, 4, 219]
abbrev dktX11_sample_10 : List UInt8 := dkwX11_sample_10 ++ dktX11_sample_11
def dkwX11_sample_9 : List UInt8 := [180, 2, 246, 4, 100, 46, 47, 42, 180, 3, 33, 42, 180, 3, 37, 42, 180, 2, 246, 46, 47, 101, 136]
abbrev dktX11_sample_9 : List UInt8 := dkwX11_sample_9 ++ dktX11_sample_10
def dkwX11_sample_8 : List UInt8 := [182, 3, 76, 42, 21, 5, 182, 3, 97, 42, 182, 3, 103, 42, 42, 180, 3, 33, 42, 180, 3, 37, 42]
abbrev dktX11_sample_8 : List UInt8 := dkwX11_sample_8 ++ dktX11_sample_9
def dkwX11_sample_7 : List UInt8 := [184, 0, 13, 154, 0, 6, 16, 254, 172, 42, 4, 181, 2, 49, 42, 21, 6, 181, 4, 210, 42, 27, 3]
abbrev dktX11_sample_7 : List UInt8 := dkwX11_sample_7 ++ dktX11_sample_8
def dkwX11_sample_6 : List UInt8 := [21, 8, 79, 132, 6, 1, 132, 8, 1, 167, 255, 181, 132, 7, 1, 167, 255, 165, 28, 133, 10, 21, 6, 133]
abbrev dktX11_sample_6 : List UInt8 := dkwX11_sample_6 ++ dktX11_sample_7
def dkwX11_sample_5 : List UInt8 := [4, 126, 154, 0, 6, 167, 0, 24, 42, 180, 4, 111, 21, 6, 21, 7, 79, 42, 180, 4, 114, 21, 6]
abbrev dktX11_sample_5 : List UInt8 := dkwX11_sample_5 ++ dktX11_sample_6
def dkwX11_sample_4 : List UInt8 := [154, 0, 59, 42, 180, 2, 185, 42, 180, 2, 228, 17, 0, 200, 21, 7, 104, 21, 8, 96, 46, 46, 27, 122]
abbrev dktX11_sample_4 : List UInt8 := dkwX11_sample_4 ++ dktX11_sample_5
def dkwX11_sample_3 : List UInt8 := [3, 54, 8, 21, 8, 42, 180, 2, 37, 21, 7, 46, 162, 0, 69, 42, 180, 2, 43, 21, 7, 51]
abbrev dktX11_sample_3 : List UInt8 := dkwX11_sample_3 ++ dktX11_sample_4
def dkwX11_sample_2 : List UInt8 := [27, 4, 182, 1, 229, 163, 0, 6, 16, 252, 172, 3, 54, 6, 3, 54, 7, 21, 7, 16, 7, 162, 0, 90]
abbrev dktX11_sample_2 : List UInt8 := dkwX11_sample_2 ++ dktX11_sample_3
def dkwX11_sample_1 : List UInt8 := [182, 1, 229, 54, 5, 21, 5, 5, 163, 0, 24, 42, 180, 1, 232, 27, 46, 42, 27, 182, 1, 235, 100, 42]
abbrev dktX11_sample_1 : List UInt8 := dkwX11_sample_1 ++ dktX11_sample_2
def dkwX11_sample_0 : List UInt8 := [42, 27, 182, 1, 224, 154, 0, 5, 2, 172, 42, 182, 3, 67, 154, 0, 6, 16, 253, 172, 42, 27, 5]
abbrev dktX11_sample_0 : List UInt8 := dkwX11_sample_0 ++ dktX11_sample_1
theorem dksX11_sample_0 : cX11_sample.data.toList.drop 0 = dktX11_sample_0 := by decide +kernel
theorem dksX11_sample_1 : cX11_sample.data.toList.drop 23 = dktX11_sample_1 := dk_seg dksX11_sample_0 23 rfl rfl
theorem dksX11_sample_2 : cX11_sample.data.toList.drop 47 = dktX11_sample_2 := dk_seg dksX11_sample_1 24 rfl rfl
theorem dksX11_sample_3 : cX11_sample.data.toList.drop 71 = dktX11_sample_3 := dk_seg dksX11_sample_2 24 rfl rfl
theorem dksX11_sample_4 : cX11_sample.data.toList.drop 93 = dktX11_sample_4 := dk_seg dksX11_sample_3 22 rfl rfl
theorem dksX11_sample_5 : cX11_sample.data.toList.drop 117 = dktX11_sample_5 := dk_seg dksX11_sample_4 24 rfl rfl
theorem dksX11_sample_6 : cX11_sample.data.toList.drop 140 = dktX11_sample_6 := dk_seg dksX11_sample_5 23 rfl rfl
theorem dksX11_sample_7 : cX11_sample.data.toList.drop 164 = dktX11_sample_7 := dk_seg dksX11_sample_6 24 rfl rfl
theorem dksX11_sample_8 : cX11_sample.data.toList.drop 187 = dktX11_sample_8 := dk_seg dksX11_sample_7 23 rfl rfl
theorem dksX11_sample_9 : cX11_sample.data.toList.drop 210 = dktX11_sample_9 := dk_seg dksX11_sample_8 23 rfl rfl
theorem dksX11_sample_10 : cX11_sample.data.toList.drop 233 = dktX11_sample_10 := dk_seg dksX11_sample_9 23 rfl rfl
theorem dksX11_sample_11 : cX11_sample.data.toList.drop 257 = dktX11_sample_11 := dk_seg dksX11_sample_10 24 rfl rfl
theorem dksX11_sample_12 : cX11_sample.data.toList.drop 281 = dktX11_sample_12 := dk_seg dksX11_sample_11 24 rfl rfl
theorem dX11_sample_0 : decode cX11_sample 0 = .ok (.aload_n 0, 1) := dk_42 (dk_at dksX11_sample_0 0 rfl rfl)
theorem dX11_sample_1 : decode cX11_sample 1 = .ok (.iload_n 1, 1) := dk_27 (dk_at dksX11_sample_0 1 rfl rfl)
theorem dX11_sample_2 : decode cX11_sample 2 = .ok (.invokevirtual 480, 3) := dk_182 1 224 (dk_at dksX11_sample_0 2 rfl rfl)
theorem dX11_sample_5 : decode cX11_sample 5 = .ok (.ifCond .ne 5, 3) := dk_154 0 5 (dk_at dksX11_sample_0 5 rfl rfl)
theorem dX11_sample_8 : decode cX11_sample 8 = .ok (.iconst (-1), 1) := dk_2 (dk_at dksX11_sample_0 8 rfl rfl)
theorem dX11_sample_9 : decode cX11_sample 9 = .ok (.ireturn, 1) := dk_172 (dk_at dksX11_sample_0 9 rfl rfl)
theorem dX11_sample_10 : decode cX11_sample 10 = .ok (.aload_n 0, 1) := dk_42 (dk_at dksX11_sample_0 10 rfl rfl)
theorem dX11_sample_11 : decode cX11_sample 11 = .ok (.invokevirtual 835, 3) := dk_182 3 67 (dk_at dksX11_sample_0 11 rfl rfl)
theorem dX11_sample_14 : decode cX11_sample 14 = .ok (.ifCond .ne 6, 3) := dk_154 0 6 (dk_at dksX11_sample_0 14 rfl rfl)
theorem dX11_sample_17 : decode cX11_sample 17 = .ok (.bipush (-3), 2) := dk_16 253 (dk_at dksX11_sample_0 17 rfl rfl)
theorem dX11_sample_19 : decode cX11_sample 19 = .ok (.ireturn, 1) := dk_172 (dk_at dksX11_sample_0 19 rfl rfl)
theorem dX11_sample_20 : decode cX11_sample 20 = .ok (.aload_n 0, 1) := dk_42 (dk_at dksX11_sample_0 20 rfl rfl)
theorem dX11_sample_21 : decode cX11_sample 21 = .ok (.iload_n 1, 1) := dk_27 (dk_at dksX11_sample_0 21 rfl rfl)
theorem dX11_sample_22 : decode cX11_sample 22 = .ok (.iconst 2, 1) := dk_5 (dk_at dksX11_sample_0 22 rfl rfl)
theorem dX11_sample_23 : decode cX11_sample 23 = .ok (.invokevirtual 485, 3) := dk_182 1 229 (dk_at dksX11_sample_1 0 rfl rfl)
theorem dX11_sample_26 : decode cX11_sample 26 = .ok (.istore 5, 2) := dk_54 5 (dk_at dksX11_sample_1 3 rfl rfl)
theorem dX11_sample_28 : decode cX11_sample 28 = .ok (.iload 5, 2) := dk_21 5 (dk_at dksX11_sample_1 5 rfl rfl)
theorem dX11_sample_30 : decode cX11_sample 30 = .ok (.iconst 2, 1) := dk_5 (dk_at dksX11_sample_1 7 rfl rfl)
theorem dX11_sample_31 : decode cX11_sample 31 = .ok (.if_icmp .gt 24, 3) := dk_163 0 24 (dk_at dksX11_sample_1 8 rfl rfl)
theorem dX11_sample_34 : decode cX11_sample 34 = .ok (.aload_n 0, 1) := dk_42 (dk_at dksX11_sample_1 11 rfl rfl)
theorem dX11_sample_35 : decode cX11_sample 35 = .ok (.getfield 488, 3) := dk_180 1 232 (dk_at dksX11_sample_1 12 rfl rfl)
theorem dX11_sample_38 : decode cX11_sample 38 = .ok (.iload_n 1, 1) := dk_27 (dk_at dksX11_sample_1 15 rfl rfl)
theorem dX11_sample_39 : decode cX11_sample 39 = .ok (.iaload, 1) := dk_46 (dk_at dksX11_sample_1 16 rfl rfl)
theorem dX11_sample_40 : decode cX11_sample 40 = .ok (.aload_n 0, 1) := dk_42 (dk_at dksX11_sample_1 17 rfl rfl)
theorem dX11_sample_41 : decode cX11_sample 41 = .ok (.iload_n 1, 1) := dk_27 (dk_at dksX11_sample_1 18 rfl rfl)
theorem dX11_sample_42 : decode cX11_sample 42 = .ok (.invokevirtual 491, 3) := dk_182 1 235 (dk_at dksX11_sample_1 19 rfl rfl)
theorem dX11_sample_45 : decode cX11_sample 45 = .ok (.isub, 1) := dk_100 (dk_at dksX11_sample_1 22 rfl rfl)
theorem dX11_sample_46 : decode cX11_sample 46 = .ok (.aload_n 0, 1) := dk_42 (dk_at dksX11_sample_1 23 rfl rfl)
theorem dX11_sample_47 : decode cX11_sample 47 = .ok (.iload_n 1, 1) := dk_27 (dk_at dksX11_sample_2 0 rfl rfl)
theorem dX11_sample_48 : decode cX11_sample 48 = .ok (.iconst 1, 1) := dk_4 (dk_at dksX11_sample_2 1 rfl rfl)
theorem dX11_sample_49 : decode cX11_sample 49 = .ok (.invokevirtual 485, 3) := dk_182 1 229 (dk_at dksX11_sample_2 2 rfl rfl)
theorem dX11_sample_52 : decode cX11_sample 52 = .ok (.if_icmp .gt 6, 3) := dk_163 0 6 (dk_at dksX11_sample_2 5 rfl rfl)
theorem dX11_sample_55 : decode cX11_sample 55 = .ok (.bipush (-4), 2) := dk_16 252 (dk_at dksX11_sample_2 8 rfl rfl)
theorem dX11_sample_57 : decode cX11_sample 57 = .ok (.ireturn, 1) := dk_172 (dk_at dksX11_sample_2 10 rfl rfl)
theorem dX11_sample_58 : decode cX11_sample 58 = .ok (.iconst 0, 1) := dk_3 (dk_at dksX11_sample_2 11 rfl rfl)
theorem dX11_sample_59 : decode cX11_sample 59 = .ok (.istore 6, 2) := dk_54 6 (dk_at dksX11_sample_2 12 rfl rfl)
theorem dX11_sample_61 : decode cX11_sample 61 = .ok (.iconst 0, 1) := dk_3 (dk_at dksX11_sample_2 14 rfl rfl)
theorem dX11_sample_62 : decode cX11_sample 62 = .ok (.istore 7, 2) := dk_54 7 (dk_at dksX11_sample_2 15 rfl rfl)
theorem dX11_sample_64 : decode cX11_sample 64 = .ok (.iload 7, 2) := dk_21 7 (dk_at dksX11_sample_2 17 rfl rfl)
theorem dX11_sample_66 : decode cX11_sample 66 = .ok (.bipush 7, 2) := dk_16 7 (dk_at dksX11_sample_2 19 rfl rfl)
theorem dX11_sample_68 : decode cX11_sample 68 = .ok (.if_icmp .ge 90, 3) := dk_162 0 90 (dk_at dksX11_sample_2 21 rfl rfl)
theorem dX11_sample_71 : decode cX11_sample 71 = .ok (.iconst 0, 1) := dk_3 (dk_at dksX11_sample_3 0 rfl rfl)
theorem dX11_sample_72 : decode cX11_sample 72 = .ok (.istore 8, 2) := dk_54 8 (dk_at dksX11_sample_3 1 rfl rfl)
theorem dX11_sample_74 : decode cX11_sample 74 = .ok (.iload 8, 2) := dk_21 8 (dk_at dksX11_sample_3 3 rfl rfl)
theorem dX11_sample_76 : decode cX11_sample 76 = .ok (.aload_n 0, 1) := dk_42 (dk_at dksX11_sample_3 5 rfl rfl)
theorem dX11_sample_77 : decode cX11_sample 77 = .ok (.getfield 549, 3) := dk_180 2 37 (dk_at dksX11_sample_3 6 rfl rfl)
theorem dX11_sample_80 : decode cX11_sample 80 = .ok (.iload 7, 2) := dk_21 7 (dk_at dksX11_sample_3 9 rfl rfl)
theorem dX11_sample_82 : decode cX11_sample 82 = .ok (.iaload, 1) := dk_46 (dk_at dksX11_sample_3 11 rfl rfl)
theorem dX11_sample_83 : decode cX11_sample 83 = .ok (.if_icmp .ge 69, 3) := dk_162 0 69 (dk_at dksX11_sample_3 12 rfl rfl)
theorem dX11_sample_86 : decode cX11_sample 86 = .ok (.aload_n 0, 1) := dk_42 (dk_at dksX11_sample_3 15 rfl rfl)
theorem dX11_sample_87 : decode cX11_sample 87 = .ok (.getfield 555, 3) := dk_180 2 43 (dk_at dksX11_sample_3 16 rfl rfl)
theorem dX11_sample_90 : decode cX11_sample 90 = .ok (.iload 7, 2) := dk_21 7 (dk_at dksX11_sample_3 19 rfl rfl)
theorem dX11_sample_92 : decode cX11_sample 92 = .ok (.baload, 1) := dk_51 (dk_at dksX11_sample_3 21 rfl rfl)
theorem dX11_sample_93 : decode cX11_sample 93 = .ok (.ifCond .ne 59, 3) := dk_154 0 59 (dk_at dksX11_sample_4 0 rfl rfl)
theorem dX11_sample_96 : decode cX11_sample 96 = .ok (.aload_n 0, 1) := dk_42 (dk_at dksX11_sample_4 3 rfl rfl)
theorem dX11_sample_97 : decode cX11_sample 97 = .ok (.getfield 697, 3) := dk_180 2 185 (dk_at dksX11_sample_4 4 rfl rfl)
theorem dX11_sample_100 : decode cX11_sample 100 = .ok (.aload_n 0, 1) := dk_42 (dk_at dksX11_sample_4 7 rfl rfl)
theorem dX11_sample_101 : decode cX11_sample 101 = .ok (.getfield 740, 3) := dk_180 2 228 (dk_at dksX11_sample_4 8 rfl rfl)
theorem dX11_sample_104 : decode cX11_sample 104 = .ok (.sipush 200, 3) := dk_17 0 200 (dk_at dksX11_sample_4 11 rfl rfl)
theorem dX11_sample_107 : decode cX11_sample 107 = .ok (.iload 7, 2) := dk_21 7 (dk_at dksX11_sample_4 14 rfl rfl)
theorem dX11_sample_109 : decode cX11_sample 109 = .ok (.imul, 1) := dk_104 (dk_at dksX11_sample_4 16 rfl rfl)
theorem dX11_sample_110 : decode cX11_sample 110 = .ok (.iload 8, 2) := dk_21 8 (dk_at dksX11_sample_4 17 rfl rfl)
theorem dX11_sample_112 : decode cX11_sample 112 = .ok (.iadd, 1) := dk_96 (dk_at dksX11_sample_4 19 rfl rfl)
theorem dX11_sample_113 : decode cX11_sample 113 = .ok (.iaload, 1) := dk_46 (dk_at dksX11_sample_4 20 rfl rfl)
theorem dX11_sample_114 : decode cX11_sample 114 = .ok (.iaload, 1) := dk_46 (dk_at dksX11_sample_4 21 rfl rfl)
theorem dX11_sample_115 : decode cX11_sample 115 = .ok (.iload_n 1, 1) := dk_27 (dk_at dksX11_sample_4 22 rfl rfl)
theorem dX11_sample_116 : decode cX11_sample 116 = .ok (.ishr, 1) := dk_122 (dk_at dksX11_sample_4 23 rfl rfl)
theorem dX11_sample_117 : decode cX11_sample 117 = .ok (.iconst 1, 1) := dk_4 (dk_at dksX11_sample_5 0 rfl rfl)
theorem dX11_sample_118 : decode cX11_sample 118 = .ok (.iand, 1) := dk_126 (dk_at dksX11_sample_5 1 rfl rfl)
theorem dX11_sample_119 : decode cX11_sample 119 = .ok (.ifCond .ne 6, 3) := dk_154 0 6 (dk_at dksX11_sample_5 2 rfl rfl)
theorem dX11_sample_122 : decode cX11_sample 122 = .ok (.goto 24, 3) := dk_167 0 24 (dk_at dksX11_sample_5 5 rfl rfl)
theorem dX11_sample_125 : decode cX11_sample 125 = .ok (.aload_n 0, 1) := dk_42 (dk_at dksX11_sample_5 8 rfl rfl)
theorem dX11_sample_126 : decode cX11_sample 126 = .ok (.getfield 1135, 3) := dk_180 4 111 (dk_at dksX11_sample_5 9 rfl rfl)
theorem dX11_sample_129 : decode cX11_sample 129 = .ok (.iload 6, 2) := dk_21 6 (dk_at dksX11_sample_5 12 rfl rfl)
theorem dX11_sample_131 : decode cX11_sample 131 = .ok (.iload 7, 2) := dk_21 7 (dk_at dksX11_sample_5 14 rfl rfl)
theorem dX11_sample_133 : decode cX11_sample 133 = .ok (.iastore, 1) := dk_79 (dk_at dksX11_sample_5 16 rfl rfl)
theorem dX11_sample_134 : decode cX11_sample 134 = .ok (.aload_n 0, 1) := dk_42 (dk_at dksX11_sample_5 17 rfl rfl)
theorem dX11_sample_135 : decode cX11_sample 135 = .ok (.getfield 1138, 3) := dk_180 4 114 (dk_at dksX11_sample_5 18 rfl rfl)
theorem dX11_sample_138 : decode cX11_sample 138 = .ok (.iload 6, 2) := dk_21 6 (dk_at dksX11_sample_5 21 rfl rfl)
theorem dX11_sample_140 : decode cX11_sample 140 = .ok (.iload 8, 2) := dk_21 8 (dk_at dksX11_sample_6 0 rfl rfl)
theorem dX11_sample_142 : decode cX11_sample 142 = .ok (.iastore, 1) := dk_79 (dk_at dksX11_sample_6 2 rfl rfl)
theorem dX11_sample_143 : decode cX11_sample 143 = .ok (.iinc 6 1, 3) := dk_132 6 1 (dk_at dksX11_sample_6 3 rfl rfl)
theorem dX11_sample_146 : decode cX11_sample 146 = .ok (.iinc 8 1, 3) := dk_132 8 1 (dk_at dksX11_sample_6 6 rfl rfl)
theorem dX11_sample_149 : decode cX11_sample 149 = .ok (.goto (-75), 3) := dk_167 255 181 (dk_at dksX11_sample_6 9 rfl rfl)
theorem dX11_sample_152 : decode cX11_sample 152 = .ok (.iinc 7 1, 3) := dk_132 7 1 (dk_at dksX11_sample_6 12 rfl rfl)
theorem dX11_sample_155 : decode cX11_sample 155 = .ok (.goto (-91), 3) := dk_167 255 165 (dk_at dksX11_sample_6 15 rfl rfl)
theorem dX11_sample_158 : decode cX11_sample 158 = .ok (.iload_n 2, 1) := dk_28 (dk_at dksX11_sample_6 18 rfl rfl)
theorem dX11_sample_159 : decode cX11_sample 159 = .ok (.i2l, 1) := dk_133 (dk_at dksX11_sample_6 19 rfl rfl)
theorem dX11_sample_160 : decode cX11_sample 160 = .ok (.lconst 1, 1) := dk_10 (dk_at dksX11_sample_6 20 rfl rfl)
theorem dX11_sample_161 : decode cX11_sample 161 = .ok (.iload 6, 2) := dk_21 6 (dk_at dksX11_sample_6 21 rfl rfl)
theorem dX11_sample_163 : decode cX11_sample 163 = .ok (.i2l, 1) := dk_133 (dk_at dksX11_sample_6 23 rfl rfl)
theorem dX11_sample_164 : decode cX11_sample 164 = .ok (.invokestatic 13, 3) := dk_184 0 13 (dk_at dksX11_sample_7 0 rfl rfl)
theorem dX11_sample_167 : decode cX11_sample 167 = .ok (.ifCond .ne 6, 3) := dk_154 0 6 (dk_at dksX11_sample_7 3 rfl rfl)
theorem dX11_sample_170 : decode cX11_sample 170 = .ok (.bipush (-2), 2) := dk_16 254 (dk_at dksX11_sample_7 6 rfl rfl)
theorem dX11_sample_172 : decode cX11_sample 172 = .ok (.ireturn, 1) := dk_172 (dk_at dksX11_sample_7 8 rfl rfl)
theorem dX11_sample_173 : decode cX11_sample 173 = .ok (.aload_n 0, 1) := dk_42 (dk_at dksX11_sample_7 9 rfl rfl)
theorem dX11_sample_174 : decode cX11_sample 174 = .ok (.iconst 1, 1) := dk_4 (dk_at dksX11_sample_7 10 rfl rfl)
theorem dX11_sample_175 : decode cX11_sample 175 = .ok (.putfield 561, 3) := dk_181 2 49 (dk_at dksX11_sample_7 11 rfl rfl)
theorem dX11_sample_178 : decode cX11_sample 178 = .ok (.aload_n 0, 1) := dk_42 (dk_at dksX11_sample_7 14 rfl rfl)
theorem dX11_sample_179 : decode cX11_sample 179 = .ok (.iload 6, 2) := dk_21 6 (dk_at dksX11_sample_7 15 rfl rfl)
theorem dX11_sample_181 : decode cX11_sample 181 = .ok (.putfield 1234, 3) := dk_181 4 210 (dk_at dksX11_sample_7 17 rfl rfl)
theorem dX11_sample_184 : decode cX11_sample 184 = .ok (.aload_n 0, 1) := dk_42 (dk_at dksX11_sample_7 20 rfl rfl)
theorem dX11_sample_185 : decode cX11_sample 185 = .ok (.iload_n 1, 1) := dk_27 (dk_at dksX11_sample_7 21 rfl rfl)
theorem dX11_sample_186 : decode cX11_sample 186 = .ok (.iconst 0, 1) := dk_3 (dk_at dksX11_sample_7 22 rfl rfl)
theorem dX11_sample_187 : decode cX11_sample 187 = .ok (.invokevirtual 844, 3) := dk_182 3 76 (dk_at dksX11_sample_8 0 rfl rfl)
theorem dX11_sample_190 : decode cX11_sample 190 = .ok (.aload_n 0, 1) := dk_42 (dk_at dksX11_sample_8 3 rfl rfl)
theorem dX11_sample_191 : decode cX11_sample 191 = .ok (.iload 5, 2) := dk_21 5 (dk_at dksX11_sample_8 4 rfl rfl)
theorem dX11_sample_193 : decode cX11_sample 193 = .ok (.invokevirtual 865, 3) := dk_182 3 97 (dk_at dksX11_sample_8 6 rfl rfl)
theorem dX11_sample_196 : decode cX11_sample 196 = .ok (.aload_n 0, 1) := dk_42 (dk_at dksX11_sample_8 9 rfl rfl)
theorem dX11_sample_197 : decode cX11_sample 197 = .ok (.invokevirtual 871, 3) := dk_182 3 103 (dk_at dksX11_sample_8 10 rfl rfl)
theorem dX11_sample_200 : decode cX11_sample 200 = .ok (.aload_n 0, 1) := dk_42 (dk_at dksX11_sample_8 13 rfl rfl)
theorem dX11_sample_201 : decode cX11_sample 201 = .ok (.aload_n 0, 1) := dk_42 (dk_at dksX11_sample_8 14 rfl rfl)
theorem dX11_sample_202 : decode cX11_sample 202 = .ok (.getfield 801, 3) := dk_180 3 33 (dk_at dksX11_sample_8 15 rfl rfl)
theorem dX11_sample_205 : decode cX11_sample 205 = .ok (.aload_n 0, 1) := dk_42 (dk_at dksX11_sample_8 18 rfl rfl)
theorem dX11_sample_206 : decode cX11_sample 206 = .ok (.getfield 805, 3) := dk_180 3 37 (dk_at dksX11_sample_8 19 rfl rfl)
theorem dX11_sample_209 : decode cX11_sample 209 = .ok (.aload_n 0, 1) := dk_42 (dk_at dksX11_sample_8 22 rfl rfl)
theorem dX11_sample_210 : decode cX11_sample 210 = .ok (.getfield 758, 3) := dk_180 2 246 (dk_at dksX11_sample_9 0 rfl rfl)
theorem dX11_sample_213 : decode cX11_sample 213 = .ok (.iconst 1, 1) := dk_4 (dk_at dksX11_sample_9 3 rfl rfl)
theorem dX11_sample_214 : decode cX11_sample 214 = .ok (.isub, 1) := dk_100 (dk_at dksX11_sample_9 4 rfl rfl)
theorem dX11_sample_215 : decode cX11_sample 215 = .ok (.iaload, 1) := dk_46 (dk_at dksX11_sample_9 5 rfl rfl)
theorem dX11_sample_216 : decode cX11_sample 216 = .ok (.laload, 1) := dk_47 (dk_at dksX11_sample_9 6 rfl rfl)
theorem dX11_sample_217 : decode cX11_sample 217 = .ok (.aload_n 0, 1) := dk_42 (dk_at dksX11_sample_9 7 rfl rfl)
theorem dX11_sample_218 : decode cX11_sample 218 = .ok (.getfield 801, 3) := dk_180 3 33 (dk_at dksX11_sample_9 8 rfl rfl)
theorem dX11_sample_221 : decode cX11_sample 221 = .ok (.aload_n 0, 1) := dk_42 (dk_at dksX11_sample_9 11 rfl rfl)
theorem dX11_sample_222 : decode cX11_sample 222 = .ok (.getfield 805, 3) := dk_180 3 37 (dk_at dksX11_sample_9 12 rfl rfl)
theorem dX11_sample_225 : decode cX11_sample 225 = .ok (.aload_n 0, 1) := dk_42 (dk_at dksX11_sample_9 15 rfl rfl)
theorem dX11_sample_226 : decode cX11_sample 226 = .ok (.getfield 758, 3) := dk_180 2 246 (dk_at dksX11_sample_9 16 rfl rfl)
theorem dX11_sample_229 : decode cX11_sample 229 = .ok (.iaload, 1) := dk_46 (dk_at dksX11_sample_9 19 rfl rfl)
theorem dX11_sample_230 : decode cX11_sample 230 = .ok (.laload, 1) := dk_47 (dk_at dksX11_sample_9 20 rfl rfl)
theorem dX11_sample_231 : decode cX11_sample 231 = .ok (.lsub, 1) := dk_101 (dk_at dksX11_sample_9 21 rfl rfl)
theorem dX11_sample_232 : decode cX11_sample 232 = .ok (.l2i, 1) := dk_136 (dk_at dksX11_sample_9 22 rfl rfl)
theorem dX11_sample_233 : decode cX11_sample 233 = .ok (.putfield 1237, 3) := dk_181 4 213 (dk_at dksX11_sample_10 0 rfl rfl)
theorem dX11_sample_236 : decode cX11_sample 236 = .ok (.aload_n 0, 1) := dk_42 (dk_at dksX11_sample_10 3 rfl rfl)
theorem dX11_sample_237 : decode cX11_sample 237 = .ok (.aload_n 0, 1) := dk_42 (dk_at dksX11_sample_10 4 rfl rfl)
theorem dX11_sample_238 : decode cX11_sample 238 = .ok (.getfield 1237, 3) := dk_180 4 213 (dk_at dksX11_sample_10 5 rfl rfl)
theorem dX11_sample_241 : decode cX11_sample 241 = .ok (.iconst 1, 1) := dk_4 (dk_at dksX11_sample_10 8 rfl rfl)
theorem dX11_sample_242 : decode cX11_sample 242 = .ok (.iadd, 1) := dk_96 (dk_at dksX11_sample_10 9 rfl rfl)
theorem dX11_sample_243 : decode cX11_sample 243 = .ok (.iconst 2, 1) := dk_5 (dk_at dksX11_sample_10 10 rfl rfl)
theorem dX11_sample_244 : decode cX11_sample 244 = .ok (.idiv, 1) := dk_108 (dk_at dksX11_sample_10 11 rfl rfl)
theorem dX11_sample_245 : decode cX11_sample 245 = .ok (.putfield 1240, 3) := dk_181 4 216 (dk_at dksX11_sample_10 12 rfl rfl)
theorem dX11_sample_248 : decode cX11_sample 248 = .ok (.aload_n 0, 1) := dk_42 (dk_at dksX11_sample_10 15 rfl rfl)
theorem dX11_sample_249 : decode cX11_sample 249 = .ok (.iload_n 1, 1) := dk_27 (dk_at dksX11_sample_10 16 rfl rfl)
theorem dX11_sample_250 : decode cX11_sample 250 = .ok (.iload_n 2, 1) := dk_28 (dk_at dksX11_sample_10 17 rfl rfl)
theorem dX11_sample_251 : decode cX11_sample 251 = .ok (.iload 6, 2) := dk_21 6 (dk_at dksX11_sample_10 18 rfl rfl)
theorem dX11_sample_253 : decode cX11_sample 253 = .ok (.lload_n 3, 1) := dk_33 (dk_at dksX11_sample_10 20 rfl rfl)
theorem dX11_sample_254 : decode cX11_sample 254 = .ok (.invokevirtual 1243, 3) := dk_182 4 219 (dk_at dksX11_sample_10 21 rfl rfl)
theorem dX11_sample_257 : decode cX11_sample 257 = .ok (.istore 7, 2) := dk_54 7 (dk_at dksX11_sample_11 0 rfl rfl)
theorem dX11_sample_259 : decode cX11_sample 259 = .ok (.aload_n 0, 1) := dk_42 (dk_at dksX11_sample_11 2 rfl rfl)
theorem dX11_sample_260 : decode cX11_sample 260 = .ok (.iload_n 2, 1) := dk_28 (dk_at dksX11_sample_11 3 rfl rfl)
theorem dX11_sample_261 : decode cX11_sample 261 = .ok (.iload 7, 2) := dk_21 7 (dk_at dksX11_sample_11 4 rfl rfl)
theorem dX11_sample_263 : decode cX11_sample 263 = .ok (.invokevirtual 1247, 3) := dk_182 4 223 (dk_at dksX11_sample_11 6 rfl rfl)
theorem dX11_sample_266 : decode cX11_sample 266 = .ok (.aload_n 0, 1) := dk_42 (dk_at dksX11_sample_11 9 rfl rfl)
theorem dX11_sample_267 : decode cX11_sample 267 = .ok (.bipush 28, 2) := dk_16 28 (dk_at dksX11_sample_11 10 rfl rfl)
theorem dX11_sample_269 : decode cX11_sample 269 = .ok (.iload_n 1, 1) := dk_27 (dk_at dksX11_sample_11 12 rfl rfl)
theorem dX11_sample_270 : decode cX11_sample 270 = .ok (.iload_n 2, 1) := dk_28 (dk_at dksX11_sample_11 13 rfl rfl)
theorem dX11_sample_271 : decode cX11_sample 271 = .ok (.lload_n 3, 1) := dk_33 (dk_at dksX11_sample_11 14 rfl rfl)
theorem dX11_sample_272 : decode cX11_sample 272 = .ok (.bipush 32, 2) := dk_16 32 (dk_at dksX11_sample_11 15 rfl rfl)
theorem dX11_sample_274 : decode cX11_sample 274 = .ok (.lshr, 1) := dk_123 (dk_at dksX11_sample_11 17 rfl rfl)
theorem dX11_sample_275 : decode cX11_sample 275 = .ok (.l2i, 1) := dk_136 (dk_at dksX11_sample_11 18 rfl rfl)
theorem dX11_sample_276 : decode cX11_sample 276 = .ok (.lload_n 3, 1) := dk_33 (dk_at dksX11_sample_11 19 rfl rfl)
theorem dX11_sample_277 : decode cX11_sample 277 = .ok (.l2i, 1) := dk_136 (dk_at dksX11_sample_11 20 rfl rfl)
theorem dX11_sample_278 : decode cX11_sample 278 = .ok (.invokevirtual 22, 3) := dk_182 0 22 (dk_at dksX11_sample_11 21 rfl rfl)
theorem dX11_sample_281 : decode cX11_sample 281 = .ok (.iload 7, 2) := dk_21 7 (dk_at dksX11_sample_12 0 rfl rfl)
theorem dX11_sample_283 : decode cX11_sample 283 = .ok (.ireturn, 1) := dk_172 (dk_at dksX11_sample_12 2 rfl rfl)
abbrev cX11_draw : ByteArray := prog_17_method_194_code
def yX11_draw : MethodName := ⟨RX11, "draw", "(IIIJ)I"⟩
def dkwX11_draw_11 : List UInt8 := [42, 28, 181, 2, 52, 21, 8, 172]
abbrev dktX11_draw_11 : List UInt8 := dkwX11_draw_11 ++ []
def dkwX11_draw_10 : List UInt8 := [21, 14, 84, 21, 8, 21, 14, 153, 0, 7, 4, 167, 0, 4, 3, 96, 54, 8, 132, 9, 1, 167, 255, 12]
abbrev dktX11_draw_10 : List UInt8 := dkwX11_draw_10 ++ dktX11_draw_11
def dkwX11_draw_9 : List UInt8 := [159, 0, 7, 4, 167, 0, 4, 3, 128, 54, 14, 132, 15, 1, 167, 255, 209, 42, 180, 4, 108, 21, 9]
abbrev dktX11_draw_9 : List UInt8 := dkwX11_draw_9 ++ dktX11_draw_10
def dkwX11_draw_8 : List UInt8 := [21, 14, 42, 180, 2, 210, 21, 13, 21, 15, 96, 51, 42, 180, 2, 213, 21, 13, 21, 15, 96, 51]
abbrev dktX11_draw_8 : List UInt8 := dkwX11_draw_8 ++ dktX11_draw_9
def dkwX11_draw_7 : List UInt8 := [182, 2, 207, 96, 54, 13, 3, 54, 14, 3, 54, 15, 21, 15, 42, 180, 1, 232, 27, 46, 162, 0, 42]
abbrev dktX11_draw_7 : List UInt8 := dkwX11_draw_7 ++ dktX11_draw_8
def dkwX11_draw_6 : List UInt8 := [46, 96, 46, 54, 12, 16, 54, 21, 12, 104, 42, 42, 180, 2, 185, 21, 12, 46, 4, 27, 120, 4, 100, 126]
abbrev dktX11_draw_6 : List UInt8 := dkwX11_draw_6 ++ dktX11_draw_7
def dkwX11_draw_5 : List UInt8 := [167, 255, 212, 42, 180, 2, 228, 17, 0, 200, 42, 180, 4, 102, 21, 9, 46, 104, 42, 180, 4, 105, 21, 9]
abbrev dktX11_draw_5 : List UInt8 := dkwX11_draw_5 ++ dktX11_draw_6
def dkwX11_draw_4 : List UInt8 := [96, 46, 79, 42, 180, 4, 114, 21, 12, 42, 180, 4, 114, 21, 12, 4, 96, 46, 79, 132, 12, 1]
abbrev dktX11_draw_4 : List UInt8 := dkwX11_draw_4 ++ dktX11_draw_5
def dkwX11_draw_3 : List UInt8 := [54, 12, 21, 12, 4, 96, 21, 10, 162, 0, 41, 42, 180, 4, 111, 21, 12, 42, 180, 4, 111, 21, 12, 4]
abbrev dktX11_draw_3 : List UInt8 := dkwX11_draw_3 ++ dktX11_draw_4
def dkwX11_draw_2 : List UInt8 := [180, 4, 111, 21, 11, 46, 79, 42, 180, 4, 105, 21, 9, 42, 180, 4, 114, 21, 11, 46, 79, 21, 11]
abbrev dktX11_draw_2 : List UInt8 := dkwX11_draw_2 ++ dktX11_draw_3
def dkwX11_draw_1 : List UInt8 := [21, 9, 100, 54, 10, 22, 6, 16, 33, 125, 21, 10, 133, 113, 136, 54, 11, 42, 180, 4, 102, 21, 9, 42]
abbrev dktX11_draw_1 : List UInt8 := dkwX11_draw_1 ++ dktX11_draw_2
def dkwX11_draw_0 : List UInt8 := [22, 4, 55, 6, 3, 54, 8, 3, 54, 9, 21, 9, 28, 162, 0, 244, 22, 6, 184, 2, 133, 55, 6, 29]
abbrev dktX11_draw_0 : List UInt8 := dkwX11_draw_0 ++ dktX11_draw_1
theorem dksX11_draw_0 : cX11_draw.data.toList.drop 0 = dktX11_draw_0 := by decide +kernel
theorem dksX11_draw_1 : cX11_draw.data.toList.drop 24 = dktX11_draw_1 := dk_seg dksX11_draw_0 24 rfl rfl
theorem dksX11_draw_2 : cX11_draw.data.toList.drop 48 = dktX11_draw_2 := dk_seg dksX11_draw_1 24 rfl rfl
theorem dksX11_draw_3 : cX11_draw.data.toList.drop 71 = dktX11_draw_3 := dk_seg dksX11_draw_2 23 rfl rfl
theorem dksX11_draw_4 : cX11_draw.data.toList.drop 95 = dktX11_draw_4 := dk_seg dksX11_draw_3 24 rfl rfl
theorem dksX11_draw_5 : cX11_draw.data.toList.drop 117 = dktX11_draw_5 := dk_seg dksX11_draw_4 22 rfl rfl
theorem dksX11_draw_6 : cX11_draw.data.toList.drop 141 = dktX11_draw_6 := dk_seg dksX11_draw_5 24 rfl rfl
theorem dksX11_draw_7 : cX11_draw.data.toList.drop 165 = dktX11_draw_7 := dk_seg dksX11_draw_6 24 rfl rfl
theorem dksX11_draw_8 : cX11_draw.data.toList.drop 188 = dktX11_draw_8 := dk_seg dksX11_draw_7 23 rfl rfl
theorem dksX11_draw_9 : cX11_draw.data.toList.drop 210 = dktX11_draw_9 := dk_seg dksX11_draw_8 22 rfl rfl
theorem dksX11_draw_10 : cX11_draw.data.toList.drop 233 = dktX11_draw_10 := dk_seg dksX11_draw_9 23 rfl rfl
theorem dksX11_draw_11 : cX11_draw.data.toList.drop 257 = dktX11_draw_11 := dk_seg dksX11_draw_10 24 rfl rfl
theorem dX11_draw_0 : decode cX11_draw 0 = .ok (.lload 4, 2) := dk_22 4 (dk_at dksX11_draw_0 0 rfl rfl)
theorem dX11_draw_2 : decode cX11_draw 2 = .ok (.lstore 6, 2) := dk_55 6 (dk_at dksX11_draw_0 2 rfl rfl)
theorem dX11_draw_4 : decode cX11_draw 4 = .ok (.iconst 0, 1) := dk_3 (dk_at dksX11_draw_0 4 rfl rfl)
theorem dX11_draw_5 : decode cX11_draw 5 = .ok (.istore 8, 2) := dk_54 8 (dk_at dksX11_draw_0 5 rfl rfl)
theorem dX11_draw_7 : decode cX11_draw 7 = .ok (.iconst 0, 1) := dk_3 (dk_at dksX11_draw_0 7 rfl rfl)
theorem dX11_draw_8 : decode cX11_draw 8 = .ok (.istore 9, 2) := dk_54 9 (dk_at dksX11_draw_0 8 rfl rfl)
theorem dX11_draw_10 : decode cX11_draw 10 = .ok (.iload 9, 2) := dk_21 9 (dk_at dksX11_draw_0 10 rfl rfl)
theorem dX11_draw_12 : decode cX11_draw 12 = .ok (.iload_n 2, 1) := dk_28 (dk_at dksX11_draw_0 12 rfl rfl)
theorem dX11_draw_13 : decode cX11_draw 13 = .ok (.if_icmp .ge 244, 3) := dk_162 0 244 (dk_at dksX11_draw_0 13 rfl rfl)
theorem dX11_draw_16 : decode cX11_draw 16 = .ok (.lload 6, 2) := dk_22 6 (dk_at dksX11_draw_0 16 rfl rfl)
theorem dX11_draw_18 : decode cX11_draw 18 = .ok (.invokestatic 645, 3) := dk_184 2 133 (dk_at dksX11_draw_0 18 rfl rfl)
theorem dX11_draw_21 : decode cX11_draw 21 = .ok (.lstore 6, 2) := dk_55 6 (dk_at dksX11_draw_0 21 rfl rfl)
theorem dX11_draw_23 : decode cX11_draw 23 = .ok (.iload_n 3, 1) := dk_29 (dk_at dksX11_draw_0 23 rfl rfl)
theorem dX11_draw_24 : decode cX11_draw 24 = .ok (.iload 9, 2) := dk_21 9 (dk_at dksX11_draw_1 0 rfl rfl)
theorem dX11_draw_26 : decode cX11_draw 26 = .ok (.isub, 1) := dk_100 (dk_at dksX11_draw_1 2 rfl rfl)
theorem dX11_draw_27 : decode cX11_draw 27 = .ok (.istore 10, 2) := dk_54 10 (dk_at dksX11_draw_1 3 rfl rfl)
theorem dX11_draw_29 : decode cX11_draw 29 = .ok (.lload 6, 2) := dk_22 6 (dk_at dksX11_draw_1 5 rfl rfl)
theorem dX11_draw_31 : decode cX11_draw 31 = .ok (.bipush 33, 2) := dk_16 33 (dk_at dksX11_draw_1 7 rfl rfl)
theorem dX11_draw_33 : decode cX11_draw 33 = .ok (.lushr, 1) := dk_125 (dk_at dksX11_draw_1 9 rfl rfl)
theorem dX11_draw_34 : decode cX11_draw 34 = .ok (.iload 10, 2) := dk_21 10 (dk_at dksX11_draw_1 10 rfl rfl)
theorem dX11_draw_36 : decode cX11_draw 36 = .ok (.i2l, 1) := dk_133 (dk_at dksX11_draw_1 12 rfl rfl)
theorem dX11_draw_37 : decode cX11_draw 37 = .ok (.lrem, 1) := dk_113 (dk_at dksX11_draw_1 13 rfl rfl)
theorem dX11_draw_38 : decode cX11_draw 38 = .ok (.l2i, 1) := dk_136 (dk_at dksX11_draw_1 14 rfl rfl)
theorem dX11_draw_39 : decode cX11_draw 39 = .ok (.istore 11, 2) := dk_54 11 (dk_at dksX11_draw_1 15 rfl rfl)
theorem dX11_draw_41 : decode cX11_draw 41 = .ok (.aload_n 0, 1) := dk_42 (dk_at dksX11_draw_1 17 rfl rfl)
theorem dX11_draw_42 : decode cX11_draw 42 = .ok (.getfield 1126, 3) := dk_180 4 102 (dk_at dksX11_draw_1 18 rfl rfl)
theorem dX11_draw_45 : decode cX11_draw 45 = .ok (.iload 9, 2) := dk_21 9 (dk_at dksX11_draw_1 21 rfl rfl)
theorem dX11_draw_47 : decode cX11_draw 47 = .ok (.aload_n 0, 1) := dk_42 (dk_at dksX11_draw_1 23 rfl rfl)
theorem dX11_draw_48 : decode cX11_draw 48 = .ok (.getfield 1135, 3) := dk_180 4 111 (dk_at dksX11_draw_2 0 rfl rfl)
theorem dX11_draw_51 : decode cX11_draw 51 = .ok (.iload 11, 2) := dk_21 11 (dk_at dksX11_draw_2 3 rfl rfl)
theorem dX11_draw_53 : decode cX11_draw 53 = .ok (.iaload, 1) := dk_46 (dk_at dksX11_draw_2 5 rfl rfl)
theorem dX11_draw_54 : decode cX11_draw 54 = .ok (.iastore, 1) := dk_79 (dk_at dksX11_draw_2 6 rfl rfl)
theorem dX11_draw_55 : decode cX11_draw 55 = .ok (.aload_n 0, 1) := dk_42 (dk_at dksX11_draw_2 7 rfl rfl)
theorem dX11_draw_56 : decode cX11_draw 56 = .ok (.getfield 1129, 3) := dk_180 4 105 (dk_at dksX11_draw_2 8 rfl rfl)
theorem dX11_draw_59 : decode cX11_draw 59 = .ok (.iload 9, 2) := dk_21 9 (dk_at dksX11_draw_2 11 rfl rfl)
theorem dX11_draw_61 : decode cX11_draw 61 = .ok (.aload_n 0, 1) := dk_42 (dk_at dksX11_draw_2 13 rfl rfl)
theorem dX11_draw_62 : decode cX11_draw 62 = .ok (.getfield 1138, 3) := dk_180 4 114 (dk_at dksX11_draw_2 14 rfl rfl)
theorem dX11_draw_65 : decode cX11_draw 65 = .ok (.iload 11, 2) := dk_21 11 (dk_at dksX11_draw_2 17 rfl rfl)
theorem dX11_draw_67 : decode cX11_draw 67 = .ok (.iaload, 1) := dk_46 (dk_at dksX11_draw_2 19 rfl rfl)
theorem dX11_draw_68 : decode cX11_draw 68 = .ok (.iastore, 1) := dk_79 (dk_at dksX11_draw_2 20 rfl rfl)
theorem dX11_draw_69 : decode cX11_draw 69 = .ok (.iload 11, 2) := dk_21 11 (dk_at dksX11_draw_2 21 rfl rfl)
theorem dX11_draw_71 : decode cX11_draw 71 = .ok (.istore 12, 2) := dk_54 12 (dk_at dksX11_draw_3 0 rfl rfl)
theorem dX11_draw_73 : decode cX11_draw 73 = .ok (.iload 12, 2) := dk_21 12 (dk_at dksX11_draw_3 2 rfl rfl)
theorem dX11_draw_75 : decode cX11_draw 75 = .ok (.iconst 1, 1) := dk_4 (dk_at dksX11_draw_3 4 rfl rfl)
theorem dX11_draw_76 : decode cX11_draw 76 = .ok (.iadd, 1) := dk_96 (dk_at dksX11_draw_3 5 rfl rfl)
theorem dX11_draw_77 : decode cX11_draw 77 = .ok (.iload 10, 2) := dk_21 10 (dk_at dksX11_draw_3 6 rfl rfl)
theorem dX11_draw_79 : decode cX11_draw 79 = .ok (.if_icmp .ge 41, 3) := dk_162 0 41 (dk_at dksX11_draw_3 8 rfl rfl)
theorem dX11_draw_82 : decode cX11_draw 82 = .ok (.aload_n 0, 1) := dk_42 (dk_at dksX11_draw_3 11 rfl rfl)
theorem dX11_draw_83 : decode cX11_draw 83 = .ok (.getfield 1135, 3) := dk_180 4 111 (dk_at dksX11_draw_3 12 rfl rfl)
theorem dX11_draw_86 : decode cX11_draw 86 = .ok (.iload 12, 2) := dk_21 12 (dk_at dksX11_draw_3 15 rfl rfl)
theorem dX11_draw_88 : decode cX11_draw 88 = .ok (.aload_n 0, 1) := dk_42 (dk_at dksX11_draw_3 17 rfl rfl)
theorem dX11_draw_89 : decode cX11_draw 89 = .ok (.getfield 1135, 3) := dk_180 4 111 (dk_at dksX11_draw_3 18 rfl rfl)
theorem dX11_draw_92 : decode cX11_draw 92 = .ok (.iload 12, 2) := dk_21 12 (dk_at dksX11_draw_3 21 rfl rfl)
theorem dX11_draw_94 : decode cX11_draw 94 = .ok (.iconst 1, 1) := dk_4 (dk_at dksX11_draw_3 23 rfl rfl)
theorem dX11_draw_95 : decode cX11_draw 95 = .ok (.iadd, 1) := dk_96 (dk_at dksX11_draw_4 0 rfl rfl)
theorem dX11_draw_96 : decode cX11_draw 96 = .ok (.iaload, 1) := dk_46 (dk_at dksX11_draw_4 1 rfl rfl)
theorem dX11_draw_97 : decode cX11_draw 97 = .ok (.iastore, 1) := dk_79 (dk_at dksX11_draw_4 2 rfl rfl)
theorem dX11_draw_98 : decode cX11_draw 98 = .ok (.aload_n 0, 1) := dk_42 (dk_at dksX11_draw_4 3 rfl rfl)
theorem dX11_draw_99 : decode cX11_draw 99 = .ok (.getfield 1138, 3) := dk_180 4 114 (dk_at dksX11_draw_4 4 rfl rfl)
theorem dX11_draw_102 : decode cX11_draw 102 = .ok (.iload 12, 2) := dk_21 12 (dk_at dksX11_draw_4 7 rfl rfl)
theorem dX11_draw_104 : decode cX11_draw 104 = .ok (.aload_n 0, 1) := dk_42 (dk_at dksX11_draw_4 9 rfl rfl)
theorem dX11_draw_105 : decode cX11_draw 105 = .ok (.getfield 1138, 3) := dk_180 4 114 (dk_at dksX11_draw_4 10 rfl rfl)
theorem dX11_draw_108 : decode cX11_draw 108 = .ok (.iload 12, 2) := dk_21 12 (dk_at dksX11_draw_4 13 rfl rfl)
theorem dX11_draw_110 : decode cX11_draw 110 = .ok (.iconst 1, 1) := dk_4 (dk_at dksX11_draw_4 15 rfl rfl)
theorem dX11_draw_111 : decode cX11_draw 111 = .ok (.iadd, 1) := dk_96 (dk_at dksX11_draw_4 16 rfl rfl)
theorem dX11_draw_112 : decode cX11_draw 112 = .ok (.iaload, 1) := dk_46 (dk_at dksX11_draw_4 17 rfl rfl)
theorem dX11_draw_113 : decode cX11_draw 113 = .ok (.iastore, 1) := dk_79 (dk_at dksX11_draw_4 18 rfl rfl)
theorem dX11_draw_114 : decode cX11_draw 114 = .ok (.iinc 12 1, 3) := dk_132 12 1 (dk_at dksX11_draw_4 19 rfl rfl)
theorem dX11_draw_117 : decode cX11_draw 117 = .ok (.goto (-44), 3) := dk_167 255 212 (dk_at dksX11_draw_5 0 rfl rfl)
theorem dX11_draw_120 : decode cX11_draw 120 = .ok (.aload_n 0, 1) := dk_42 (dk_at dksX11_draw_5 3 rfl rfl)
theorem dX11_draw_121 : decode cX11_draw 121 = .ok (.getfield 740, 3) := dk_180 2 228 (dk_at dksX11_draw_5 4 rfl rfl)
theorem dX11_draw_124 : decode cX11_draw 124 = .ok (.sipush 200, 3) := dk_17 0 200 (dk_at dksX11_draw_5 7 rfl rfl)
theorem dX11_draw_127 : decode cX11_draw 127 = .ok (.aload_n 0, 1) := dk_42 (dk_at dksX11_draw_5 10 rfl rfl)
theorem dX11_draw_128 : decode cX11_draw 128 = .ok (.getfield 1126, 3) := dk_180 4 102 (dk_at dksX11_draw_5 11 rfl rfl)
theorem dX11_draw_131 : decode cX11_draw 131 = .ok (.iload 9, 2) := dk_21 9 (dk_at dksX11_draw_5 14 rfl rfl)
theorem dX11_draw_133 : decode cX11_draw 133 = .ok (.iaload, 1) := dk_46 (dk_at dksX11_draw_5 16 rfl rfl)
theorem dX11_draw_134 : decode cX11_draw 134 = .ok (.imul, 1) := dk_104 (dk_at dksX11_draw_5 17 rfl rfl)
theorem dX11_draw_135 : decode cX11_draw 135 = .ok (.aload_n 0, 1) := dk_42 (dk_at dksX11_draw_5 18 rfl rfl)
theorem dX11_draw_136 : decode cX11_draw 136 = .ok (.getfield 1129, 3) := dk_180 4 105 (dk_at dksX11_draw_5 19 rfl rfl)
theorem dX11_draw_139 : decode cX11_draw 139 = .ok (.iload 9, 2) := dk_21 9 (dk_at dksX11_draw_5 22 rfl rfl)
theorem dX11_draw_141 : decode cX11_draw 141 = .ok (.iaload, 1) := dk_46 (dk_at dksX11_draw_6 0 rfl rfl)
theorem dX11_draw_142 : decode cX11_draw 142 = .ok (.iadd, 1) := dk_96 (dk_at dksX11_draw_6 1 rfl rfl)
theorem dX11_draw_143 : decode cX11_draw 143 = .ok (.iaload, 1) := dk_46 (dk_at dksX11_draw_6 2 rfl rfl)
theorem dX11_draw_144 : decode cX11_draw 144 = .ok (.istore 12, 2) := dk_54 12 (dk_at dksX11_draw_6 3 rfl rfl)
theorem dX11_draw_146 : decode cX11_draw 146 = .ok (.bipush 54, 2) := dk_16 54 (dk_at dksX11_draw_6 5 rfl rfl)
theorem dX11_draw_148 : decode cX11_draw 148 = .ok (.iload 12, 2) := dk_21 12 (dk_at dksX11_draw_6 7 rfl rfl)
theorem dX11_draw_150 : decode cX11_draw 150 = .ok (.imul, 1) := dk_104 (dk_at dksX11_draw_6 9 rfl rfl)
theorem dX11_draw_151 : decode cX11_draw 151 = .ok (.aload_n 0, 1) := dk_42 (dk_at dksX11_draw_6 10 rfl rfl)
theorem dX11_draw_152 : decode cX11_draw 152 = .ok (.aload_n 0, 1) := dk_42 (dk_at dksX11_draw_6 11 rfl rfl)
theorem dX11_draw_153 : decode cX11_draw 153 = .ok (.getfield 697, 3) := dk_180 2 185 (dk_at dksX11_draw_6 12 rfl rfl)
theorem dX11_draw_156 : decode cX11_draw 156 = .ok (.iload 12, 2) := dk_21 12 (dk_at dksX11_draw_6 15 rfl rfl)
theorem dX11_draw_158 : decode cX11_draw 158 = .ok (.iaload, 1) := dk_46 (dk_at dksX11_draw_6 17 rfl rfl)
theorem dX11_draw_159 : decode cX11_draw 159 = .ok (.iconst 1, 1) := dk_4 (dk_at dksX11_draw_6 18 rfl rfl)
theorem dX11_draw_160 : decode cX11_draw 160 = .ok (.iload_n 1, 1) := dk_27 (dk_at dksX11_draw_6 19 rfl rfl)
theorem dX11_draw_161 : decode cX11_draw 161 = .ok (.ishl, 1) := dk_120 (dk_at dksX11_draw_6 20 rfl rfl)
theorem dX11_draw_162 : decode cX11_draw 162 = .ok (.iconst 1, 1) := dk_4 (dk_at dksX11_draw_6 21 rfl rfl)
theorem dX11_draw_163 : decode cX11_draw 163 = .ok (.isub, 1) := dk_100 (dk_at dksX11_draw_6 22 rfl rfl)
theorem dX11_draw_164 : decode cX11_draw 164 = .ok (.iand, 1) := dk_126 (dk_at dksX11_draw_6 23 rfl rfl)
theorem dX11_draw_165 : decode cX11_draw 165 = .ok (.invokevirtual 719, 3) := dk_182 2 207 (dk_at dksX11_draw_7 0 rfl rfl)
theorem dX11_draw_168 : decode cX11_draw 168 = .ok (.iadd, 1) := dk_96 (dk_at dksX11_draw_7 3 rfl rfl)
theorem dX11_draw_169 : decode cX11_draw 169 = .ok (.istore 13, 2) := dk_54 13 (dk_at dksX11_draw_7 4 rfl rfl)
theorem dX11_draw_171 : decode cX11_draw 171 = .ok (.iconst 0, 1) := dk_3 (dk_at dksX11_draw_7 6 rfl rfl)
theorem dX11_draw_172 : decode cX11_draw 172 = .ok (.istore 14, 2) := dk_54 14 (dk_at dksX11_draw_7 7 rfl rfl)
theorem dX11_draw_174 : decode cX11_draw 174 = .ok (.iconst 0, 1) := dk_3 (dk_at dksX11_draw_7 9 rfl rfl)
theorem dX11_draw_175 : decode cX11_draw 175 = .ok (.istore 15, 2) := dk_54 15 (dk_at dksX11_draw_7 10 rfl rfl)
theorem dX11_draw_177 : decode cX11_draw 177 = .ok (.iload 15, 2) := dk_21 15 (dk_at dksX11_draw_7 12 rfl rfl)
theorem dX11_draw_179 : decode cX11_draw 179 = .ok (.aload_n 0, 1) := dk_42 (dk_at dksX11_draw_7 14 rfl rfl)
theorem dX11_draw_180 : decode cX11_draw 180 = .ok (.getfield 488, 3) := dk_180 1 232 (dk_at dksX11_draw_7 15 rfl rfl)
theorem dX11_draw_183 : decode cX11_draw 183 = .ok (.iload_n 1, 1) := dk_27 (dk_at dksX11_draw_7 18 rfl rfl)
theorem dX11_draw_184 : decode cX11_draw 184 = .ok (.iaload, 1) := dk_46 (dk_at dksX11_draw_7 19 rfl rfl)
theorem dX11_draw_185 : decode cX11_draw 185 = .ok (.if_icmp .ge 42, 3) := dk_162 0 42 (dk_at dksX11_draw_7 20 rfl rfl)
theorem dX11_draw_188 : decode cX11_draw 188 = .ok (.iload 14, 2) := dk_21 14 (dk_at dksX11_draw_8 0 rfl rfl)
theorem dX11_draw_190 : decode cX11_draw 190 = .ok (.aload_n 0, 1) := dk_42 (dk_at dksX11_draw_8 2 rfl rfl)
theorem dX11_draw_191 : decode cX11_draw 191 = .ok (.getfield 722, 3) := dk_180 2 210 (dk_at dksX11_draw_8 3 rfl rfl)
theorem dX11_draw_194 : decode cX11_draw 194 = .ok (.iload 13, 2) := dk_21 13 (dk_at dksX11_draw_8 6 rfl rfl)
theorem dX11_draw_196 : decode cX11_draw 196 = .ok (.iload 15, 2) := dk_21 15 (dk_at dksX11_draw_8 8 rfl rfl)
theorem dX11_draw_198 : decode cX11_draw 198 = .ok (.iadd, 1) := dk_96 (dk_at dksX11_draw_8 10 rfl rfl)
theorem dX11_draw_199 : decode cX11_draw 199 = .ok (.baload, 1) := dk_51 (dk_at dksX11_draw_8 11 rfl rfl)
theorem dX11_draw_200 : decode cX11_draw 200 = .ok (.aload_n 0, 1) := dk_42 (dk_at dksX11_draw_8 12 rfl rfl)
theorem dX11_draw_201 : decode cX11_draw 201 = .ok (.getfield 725, 3) := dk_180 2 213 (dk_at dksX11_draw_8 13 rfl rfl)
theorem dX11_draw_204 : decode cX11_draw 204 = .ok (.iload 13, 2) := dk_21 13 (dk_at dksX11_draw_8 16 rfl rfl)
theorem dX11_draw_206 : decode cX11_draw 206 = .ok (.iload 15, 2) := dk_21 15 (dk_at dksX11_draw_8 18 rfl rfl)
theorem dX11_draw_208 : decode cX11_draw 208 = .ok (.iadd, 1) := dk_96 (dk_at dksX11_draw_8 20 rfl rfl)
theorem dX11_draw_209 : decode cX11_draw 209 = .ok (.baload, 1) := dk_51 (dk_at dksX11_draw_8 21 rfl rfl)
theorem dX11_draw_210 : decode cX11_draw 210 = .ok (.if_icmp .eq 7, 3) := dk_159 0 7 (dk_at dksX11_draw_9 0 rfl rfl)
theorem dX11_draw_213 : decode cX11_draw 213 = .ok (.iconst 1, 1) := dk_4 (dk_at dksX11_draw_9 3 rfl rfl)
theorem dX11_draw_214 : decode cX11_draw 214 = .ok (.goto 4, 3) := dk_167 0 4 (dk_at dksX11_draw_9 4 rfl rfl)
theorem dX11_draw_217 : decode cX11_draw 217 = .ok (.iconst 0, 1) := dk_3 (dk_at dksX11_draw_9 7 rfl rfl)
theorem dX11_draw_218 : decode cX11_draw 218 = .ok (.ior, 1) := dk_128 (dk_at dksX11_draw_9 8 rfl rfl)
theorem dX11_draw_219 : decode cX11_draw 219 = .ok (.istore 14, 2) := dk_54 14 (dk_at dksX11_draw_9 9 rfl rfl)
theorem dX11_draw_221 : decode cX11_draw 221 = .ok (.iinc 15 1, 3) := dk_132 15 1 (dk_at dksX11_draw_9 11 rfl rfl)
theorem dX11_draw_224 : decode cX11_draw 224 = .ok (.goto (-47), 3) := dk_167 255 209 (dk_at dksX11_draw_9 14 rfl rfl)
theorem dX11_draw_227 : decode cX11_draw 227 = .ok (.aload_n 0, 1) := dk_42 (dk_at dksX11_draw_9 17 rfl rfl)
theorem dX11_draw_228 : decode cX11_draw 228 = .ok (.getfield 1132, 3) := dk_180 4 108 (dk_at dksX11_draw_9 18 rfl rfl)
theorem dX11_draw_231 : decode cX11_draw 231 = .ok (.iload 9, 2) := dk_21 9 (dk_at dksX11_draw_9 21 rfl rfl)
theorem dX11_draw_233 : decode cX11_draw 233 = .ok (.iload 14, 2) := dk_21 14 (dk_at dksX11_draw_10 0 rfl rfl)
theorem dX11_draw_235 : decode cX11_draw 235 = .ok (.bastore, 1) := dk_84 (dk_at dksX11_draw_10 2 rfl rfl)
theorem dX11_draw_236 : decode cX11_draw 236 = .ok (.iload 8, 2) := dk_21 8 (dk_at dksX11_draw_10 3 rfl rfl)
theorem dX11_draw_238 : decode cX11_draw 238 = .ok (.iload 14, 2) := dk_21 14 (dk_at dksX11_draw_10 5 rfl rfl)
theorem dX11_draw_240 : decode cX11_draw 240 = .ok (.ifCond .eq 7, 3) := dk_153 0 7 (dk_at dksX11_draw_10 7 rfl rfl)
theorem dX11_draw_243 : decode cX11_draw 243 = .ok (.iconst 1, 1) := dk_4 (dk_at dksX11_draw_10 10 rfl rfl)
theorem dX11_draw_244 : decode cX11_draw 244 = .ok (.goto 4, 3) := dk_167 0 4 (dk_at dksX11_draw_10 11 rfl rfl)
theorem dX11_draw_247 : decode cX11_draw 247 = .ok (.iconst 0, 1) := dk_3 (dk_at dksX11_draw_10 14 rfl rfl)
theorem dX11_draw_248 : decode cX11_draw 248 = .ok (.iadd, 1) := dk_96 (dk_at dksX11_draw_10 15 rfl rfl)
theorem dX11_draw_249 : decode cX11_draw 249 = .ok (.istore 8, 2) := dk_54 8 (dk_at dksX11_draw_10 16 rfl rfl)
theorem dX11_draw_251 : decode cX11_draw 251 = .ok (.iinc 9 1, 3) := dk_132 9 1 (dk_at dksX11_draw_10 18 rfl rfl)
theorem dX11_draw_254 : decode cX11_draw 254 = .ok (.goto (-244), 3) := dk_167 255 12 (dk_at dksX11_draw_10 21 rfl rfl)
theorem dX11_draw_257 : decode cX11_draw 257 = .ok (.aload_n 0, 1) := dk_42 (dk_at dksX11_draw_11 0 rfl rfl)
theorem dX11_draw_258 : decode cX11_draw 258 = .ok (.iload_n 2, 1) := dk_28 (dk_at dksX11_draw_11 1 rfl rfl)
theorem dX11_draw_259 : decode cX11_draw 259 = .ok (.putfield 564, 3) := dk_181 2 52 (dk_at dksX11_draw_11 2 rfl rfl)
theorem dX11_draw_262 : decode cX11_draw 262 = .ok (.iload 8, 2) := dk_21 8 (dk_at dksX11_draw_11 5 rfl rfl)
theorem dX11_draw_264 : decode cX11_draw 264 = .ok (.ireturn, 1) := dk_172 (dk_at dksX11_draw_11 7 rfl rfl)
abbrev cX11_reckon : ByteArray := prog_17_method_195_code
def yX11_reckon : MethodName := ⟨RX11, "reckon", "(II)V"⟩
def dkwX11_reckon_4 : List UInt8 := [167, 255, 234, 42, 33, 22, 7, 109, 181, 4, 230, 42, 22, 5, 22, 7, 109, 181, 4, 234, 177]
abbrev dktX11_reckon_4 : List UInt8 := dkwX11_reckon_4 ++ []
def dkwX11_reckon_3 : List UInt8 := [22, 9, 9, 148, 153, 0, 21, 22, 7, 22, 9, 113, 55, 11, 22, 9, 55, 7, 22, 11, 55, 9]
abbrev dktX11_reckon_3 : List UInt8 := dkwX11_reckon_3 ++ dktX11_reckon_4
def dkwX11_reckon_2 : List UInt8 := [132, 5, 1, 167, 255, 212, 42, 42, 180, 4, 210, 27, 182, 4, 226, 55, 5, 33, 55, 7, 22, 5, 55, 9]
abbrev dktX11_reckon_2 : List UInt8 := dkwX11_reckon_2 ++ dktX11_reckon_3
def dkwX11_reckon_1 : List UInt8 := [182, 4, 226, 42, 42, 180, 4, 210, 42, 180, 4, 216, 100, 27, 21, 5, 100, 182, 4, 226, 105, 97, 66]
abbrev dktX11_reckon_1 : List UInt8 := dkwX11_reckon_1 ++ dktX11_reckon_2
def dkwX11_reckon_0 : List UInt8 := [9, 66, 3, 54, 5, 21, 5, 27, 28, 184, 0, 179, 163, 0, 40, 33, 42, 42, 180, 4, 216, 21, 5]
abbrev dktX11_reckon_0 : List UInt8 := dkwX11_reckon_0 ++ dktX11_reckon_1
theorem dksX11_reckon_0 : cX11_reckon.data.toList.drop 0 = dktX11_reckon_0 := by decide +kernel
theorem dksX11_reckon_1 : cX11_reckon.data.toList.drop 23 = dktX11_reckon_1 := dk_seg dksX11_reckon_0 23 rfl rfl
theorem dksX11_reckon_2 : cX11_reckon.data.toList.drop 46 = dktX11_reckon_2 := dk_seg dksX11_reckon_1 23 rfl rfl
theorem dksX11_reckon_3 : cX11_reckon.data.toList.drop 70 = dktX11_reckon_3 := dk_seg dksX11_reckon_2 24 rfl rfl
theorem dksX11_reckon_4 : cX11_reckon.data.toList.drop 92 = dktX11_reckon_4 := dk_seg dksX11_reckon_3 22 rfl rfl
theorem dX11_reckon_0 : decode cX11_reckon 0 = .ok (.lconst 0, 1) := dk_9 (dk_at dksX11_reckon_0 0 rfl rfl)
theorem dX11_reckon_1 : decode cX11_reckon 1 = .ok (.lstore_n 3, 1) := dk_66 (dk_at dksX11_reckon_0 1 rfl rfl)
theorem dX11_reckon_2 : decode cX11_reckon 2 = .ok (.iconst 0, 1) := dk_3 (dk_at dksX11_reckon_0 2 rfl rfl)
theorem dX11_reckon_3 : decode cX11_reckon 3 = .ok (.istore 5, 2) := dk_54 5 (dk_at dksX11_reckon_0 3 rfl rfl)
theorem dX11_reckon_5 : decode cX11_reckon 5 = .ok (.iload 5, 2) := dk_21 5 (dk_at dksX11_reckon_0 5 rfl rfl)
theorem dX11_reckon_7 : decode cX11_reckon 7 = .ok (.iload_n 1, 1) := dk_27 (dk_at dksX11_reckon_0 7 rfl rfl)
theorem dX11_reckon_8 : decode cX11_reckon 8 = .ok (.iload_n 2, 1) := dk_28 (dk_at dksX11_reckon_0 8 rfl rfl)
theorem dX11_reckon_9 : decode cX11_reckon 9 = .ok (.invokestatic 179, 3) := dk_184 0 179 (dk_at dksX11_reckon_0 9 rfl rfl)
theorem dX11_reckon_12 : decode cX11_reckon 12 = .ok (.if_icmp .gt 40, 3) := dk_163 0 40 (dk_at dksX11_reckon_0 12 rfl rfl)
theorem dX11_reckon_15 : decode cX11_reckon 15 = .ok (.lload_n 3, 1) := dk_33 (dk_at dksX11_reckon_0 15 rfl rfl)
theorem dX11_reckon_16 : decode cX11_reckon 16 = .ok (.aload_n 0, 1) := dk_42 (dk_at dksX11_reckon_0 16 rfl rfl)
theorem dX11_reckon_17 : decode cX11_reckon 17 = .ok (.aload_n 0, 1) := dk_42 (dk_at dksX11_reckon_0 17 rfl rfl)
theorem dX11_reckon_18 : decode cX11_reckon 18 = .ok (.getfield 1240, 3) := dk_180 4 216 (dk_at dksX11_reckon_0 18 rfl rfl)
theorem dX11_reckon_21 : decode cX11_reckon 21 = .ok (.iload 5, 2) := dk_21 5 (dk_at dksX11_reckon_0 21 rfl rfl)
theorem dX11_reckon_23 : decode cX11_reckon 23 = .ok (.invokevirtual 1250, 3) := dk_182 4 226 (dk_at dksX11_reckon_1 0 rfl rfl)
theorem dX11_reckon_26 : decode cX11_reckon 26 = .ok (.aload_n 0, 1) := dk_42 (dk_at dksX11_reckon_1 3 rfl rfl)
theorem dX11_reckon_27 : decode cX11_reckon 27 = .ok (.aload_n 0, 1) := dk_42 (dk_at dksX11_reckon_1 4 rfl rfl)
theorem dX11_reckon_28 : decode cX11_reckon 28 = .ok (.getfield 1234, 3) := dk_180 4 210 (dk_at dksX11_reckon_1 5 rfl rfl)
theorem dX11_reckon_31 : decode cX11_reckon 31 = .ok (.aload_n 0, 1) := dk_42 (dk_at dksX11_reckon_1 8 rfl rfl)
theorem dX11_reckon_32 : decode cX11_reckon 32 = .ok (.getfield 1240, 3) := dk_180 4 216 (dk_at dksX11_reckon_1 9 rfl rfl)
theorem dX11_reckon_35 : decode cX11_reckon 35 = .ok (.isub, 1) := dk_100 (dk_at dksX11_reckon_1 12 rfl rfl)
theorem dX11_reckon_36 : decode cX11_reckon 36 = .ok (.iload_n 1, 1) := dk_27 (dk_at dksX11_reckon_1 13 rfl rfl)
theorem dX11_reckon_37 : decode cX11_reckon 37 = .ok (.iload 5, 2) := dk_21 5 (dk_at dksX11_reckon_1 14 rfl rfl)
theorem dX11_reckon_39 : decode cX11_reckon 39 = .ok (.isub, 1) := dk_100 (dk_at dksX11_reckon_1 16 rfl rfl)
theorem dX11_reckon_40 : decode cX11_reckon 40 = .ok (.invokevirtual 1250, 3) := dk_182 4 226 (dk_at dksX11_reckon_1 17 rfl rfl)
theorem dX11_reckon_43 : decode cX11_reckon 43 = .ok (.lmul, 1) := dk_105 (dk_at dksX11_reckon_1 20 rfl rfl)
theorem dX11_reckon_44 : decode cX11_reckon 44 = .ok (.ladd, 1) := dk_97 (dk_at dksX11_reckon_1 21 rfl rfl)
theorem dX11_reckon_45 : decode cX11_reckon 45 = .ok (.lstore_n 3, 1) := dk_66 (dk_at dksX11_reckon_1 22 rfl rfl)
theorem dX11_reckon_46 : decode cX11_reckon 46 = .ok (.iinc 5 1, 3) := dk_132 5 1 (dk_at dksX11_reckon_2 0 rfl rfl)
theorem dX11_reckon_49 : decode cX11_reckon 49 = .ok (.goto (-44), 3) := dk_167 255 212 (dk_at dksX11_reckon_2 3 rfl rfl)
theorem dX11_reckon_52 : decode cX11_reckon 52 = .ok (.aload_n 0, 1) := dk_42 (dk_at dksX11_reckon_2 6 rfl rfl)
theorem dX11_reckon_53 : decode cX11_reckon 53 = .ok (.aload_n 0, 1) := dk_42 (dk_at dksX11_reckon_2 7 rfl rfl)
theorem dX11_reckon_54 : decode cX11_reckon 54 = .ok (.getfield 1234, 3) := dk_180 4 210 (dk_at dksX11_reckon_2 8 rfl rfl)
theorem dX11_reckon_57 : decode cX11_reckon 57 = .ok (.iload_n 1, 1) := dk_27 (dk_at dksX11_reckon_2 11 rfl rfl)
theorem dX11_reckon_58 : decode cX11_reckon 58 = .ok (.invokevirtual 1250, 3) := dk_182 4 226 (dk_at dksX11_reckon_2 12 rfl rfl)
theorem dX11_reckon_61 : decode cX11_reckon 61 = .ok (.lstore 5, 2) := dk_55 5 (dk_at dksX11_reckon_2 15 rfl rfl)
theorem dX11_reckon_63 : decode cX11_reckon 63 = .ok (.lload_n 3, 1) := dk_33 (dk_at dksX11_reckon_2 17 rfl rfl)
theorem dX11_reckon_64 : decode cX11_reckon 64 = .ok (.lstore 7, 2) := dk_55 7 (dk_at dksX11_reckon_2 18 rfl rfl)
theorem dX11_reckon_66 : decode cX11_reckon 66 = .ok (.lload 5, 2) := dk_22 5 (dk_at dksX11_reckon_2 20 rfl rfl)
theorem dX11_reckon_68 : decode cX11_reckon 68 = .ok (.lstore 9, 2) := dk_55 9 (dk_at dksX11_reckon_2 22 rfl rfl)
theorem dX11_reckon_70 : decode cX11_reckon 70 = .ok (.lload 9, 2) := dk_22 9 (dk_at dksX11_reckon_3 0 rfl rfl)
theorem dX11_reckon_72 : decode cX11_reckon 72 = .ok (.lconst 0, 1) := dk_9 (dk_at dksX11_reckon_3 2 rfl rfl)
theorem dX11_reckon_73 : decode cX11_reckon 73 = .ok (.lcmp, 1) := dk_148 (dk_at dksX11_reckon_3 3 rfl rfl)
theorem dX11_reckon_74 : decode cX11_reckon 74 = .ok (.ifCond .eq 21, 3) := dk_153 0 21 (dk_at dksX11_reckon_3 4 rfl rfl)
theorem dX11_reckon_77 : decode cX11_reckon 77 = .ok (.lload 7, 2) := dk_22 7 (dk_at dksX11_reckon_3 7 rfl rfl)
theorem dX11_reckon_79 : decode cX11_reckon 79 = .ok (.lload 9, 2) := dk_22 9 (dk_at dksX11_reckon_3 9 rfl rfl)
theorem dX11_reckon_81 : decode cX11_reckon 81 = .ok (.lrem, 1) := dk_113 (dk_at dksX11_reckon_3 11 rfl rfl)
theorem dX11_reckon_82 : decode cX11_reckon 82 = .ok (.lstore 11, 2) := dk_55 11 (dk_at dksX11_reckon_3 12 rfl rfl)
theorem dX11_reckon_84 : decode cX11_reckon 84 = .ok (.lload 9, 2) := dk_22 9 (dk_at dksX11_reckon_3 14 rfl rfl)
theorem dX11_reckon_86 : decode cX11_reckon 86 = .ok (.lstore 7, 2) := dk_55 7 (dk_at dksX11_reckon_3 16 rfl rfl)
theorem dX11_reckon_88 : decode cX11_reckon 88 = .ok (.lload 11, 2) := dk_22 11 (dk_at dksX11_reckon_3 18 rfl rfl)
theorem dX11_reckon_90 : decode cX11_reckon 90 = .ok (.lstore 9, 2) := dk_55 9 (dk_at dksX11_reckon_3 20 rfl rfl)
theorem dX11_reckon_92 : decode cX11_reckon 92 = .ok (.goto (-22), 3) := dk_167 255 234 (dk_at dksX11_reckon_4 0 rfl rfl)
theorem dX11_reckon_95 : decode cX11_reckon 95 = .ok (.aload_n 0, 1) := dk_42 (dk_at dksX11_reckon_4 3 rfl rfl)
theorem dX11_reckon_96 : decode cX11_reckon 96 = .ok (.lload_n 3, 1) := dk_33 (dk_at dksX11_reckon_4 4 rfl rfl)
theorem dX11_reckon_97 : decode cX11_reckon 97 = .ok (.lload 7, 2) := dk_22 7 (dk_at dksX11_reckon_4 5 rfl rfl)
theorem dX11_reckon_99 : decode cX11_reckon 99 = .ok (.ldiv, 1) := dk_109 (dk_at dksX11_reckon_4 7 rfl rfl)
theorem dX11_reckon_100 : decode cX11_reckon 100 = .ok (.putfield 1254, 3) := dk_181 4 230 (dk_at dksX11_reckon_4 8 rfl rfl)
theorem dX11_reckon_103 : decode cX11_reckon 103 = .ok (.aload_n 0, 1) := dk_42 (dk_at dksX11_reckon_4 11 rfl rfl)
theorem dX11_reckon_104 : decode cX11_reckon 104 = .ok (.lload 5, 2) := dk_22 5 (dk_at dksX11_reckon_4 12 rfl rfl)
theorem dX11_reckon_106 : decode cX11_reckon 106 = .ok (.lload 7, 2) := dk_22 7 (dk_at dksX11_reckon_4 14 rfl rfl)
theorem dX11_reckon_108 : decode cX11_reckon 108 = .ok (.ldiv, 1) := dk_109 (dk_at dksX11_reckon_4 16 rfl rfl)
theorem dX11_reckon_109 : decode cX11_reckon 109 = .ok (.putfield 1258, 3) := dk_181 4 234 (dk_at dksX11_reckon_4 17 rfl rfl)
theorem dX11_reckon_112 : decode cX11_reckon 112 = .ok (.return_, 1) := dk_177 (dk_at dksX11_reckon_4 20 rfl rfl)
abbrev cX11_chosen : ByteArray := prog_17_method_192_code
def yX11_chosen : MethodName := ⟨RX11, "chosen", "(II)J"⟩
def dkwX11_chosen_1 : List UInt8 := [173]
abbrev dktX11_chosen_1 : List UInt8 := dkwX11_chosen_1 ++ []
def dkwX11_chosen_0 : List UInt8 := [28, 155, 0, 8, 28, 27, 164, 0, 7, 9, 167, 0, 14, 42, 180, 4, 99, 16, 61, 27, 104, 28, 96, 47]
abbrev dktX11_chosen_0 : List UInt8 := dkwX11_chosen_0 ++ dktX11_chosen_1
theorem dksX11_chosen_0 : cX11_chosen.data.toList.drop 0 = dktX11_chosen_0 := by decide +kernel
theorem dksX11_chosen_1 : cX11_chosen.data.toList.drop 24 = dktX11_chosen_1 := dk_seg dksX11_chosen_0 24 rfl rfl
theorem dX11_chosen_0 : decode cX11_chosen 0 = .ok (.iload_n 2, 1) := dk_28 (dk_at dksX11_chosen_0 0 rfl rfl)
theorem dX11_chosen_1 : decode cX11_chosen 1 = .ok (.ifCond .lt 8, 3) := dk_155 0 8 (dk_at dksX11_chosen_0 1 rfl rfl)
theorem dX11_chosen_4 : decode cX11_chosen 4 = .ok (.iload_n 2, 1) := dk_28 (dk_at dksX11_chosen_0 4 rfl rfl)
theorem dX11_chosen_5 : decode cX11_chosen 5 = .ok (.iload_n 1, 1) := dk_27 (dk_at dksX11_chosen_0 5 rfl rfl)
theorem dX11_chosen_6 : decode cX11_chosen 6 = .ok (.if_icmp .le 7, 3) := dk_164 0 7 (dk_at dksX11_chosen_0 6 rfl rfl)
theorem dX11_chosen_9 : decode cX11_chosen 9 = .ok (.lconst 0, 1) := dk_9 (dk_at dksX11_chosen_0 9 rfl rfl)
theorem dX11_chosen_10 : decode cX11_chosen 10 = .ok (.goto 14, 3) := dk_167 0 14 (dk_at dksX11_chosen_0 10 rfl rfl)
theorem dX11_chosen_13 : decode cX11_chosen 13 = .ok (.aload_n 0, 1) := dk_42 (dk_at dksX11_chosen_0 13 rfl rfl)
theorem dX11_chosen_14 : decode cX11_chosen 14 = .ok (.getfield 1123, 3) := dk_180 4 99 (dk_at dksX11_chosen_0 14 rfl rfl)
theorem dX11_chosen_17 : decode cX11_chosen 17 = .ok (.bipush 61, 2) := dk_16 61 (dk_at dksX11_chosen_0 17 rfl rfl)
theorem dX11_chosen_19 : decode cX11_chosen 19 = .ok (.iload_n 1, 1) := dk_27 (dk_at dksX11_chosen_0 19 rfl rfl)
theorem dX11_chosen_20 : decode cX11_chosen 20 = .ok (.imul, 1) := dk_104 (dk_at dksX11_chosen_0 20 rfl rfl)
theorem dX11_chosen_21 : decode cX11_chosen 21 = .ok (.iload_n 2, 1) := dk_28 (dk_at dksX11_chosen_0 21 rfl rfl)
theorem dX11_chosen_22 : decode cX11_chosen 22 = .ok (.iadd, 1) := dk_96 (dk_at dksX11_chosen_0 22 rfl rfl)
theorem dX11_chosen_23 : decode cX11_chosen 23 = .ok (.laload, 1) := dk_47 (dk_at dksX11_chosen_0 23 rfl rfl)
theorem dX11_chosen_24 : decode cX11_chosen 24 = .ok (.lreturn, 1) := dk_173 (dk_at dksX11_chosen_1 0 rfl rfl)
abbrev cX11_drawn : ByteArray := prog_17_method_196_code
def yX11_drawn : MethodName := ⟨RX11, "drawn", "(II)I"⟩
def dkwX11_drawn_2 : List UInt8 := [160, 0, 20, 42, 180, 4, 108, 27, 51, 153, 0, 7, 4, 167, 0, 9, 3, 167, 0, 5, 16, 254, 172]
abbrev dktX11_drawn_2 : List UInt8 := dkwX11_drawn_2 ++ []
def dkwX11_drawn_1 : List UInt8 := [180, 4, 102, 27, 46, 167, 0, 41, 28, 4, 160, 0, 12, 42, 180, 4, 105, 27, 46, 167, 0, 27, 28, 5]
abbrev dktX11_drawn_1 : List UInt8 := dkwX11_drawn_1 ++ dktX11_drawn_2
def dkwX11_drawn_0 : List UInt8 := [27, 133, 9, 42, 180, 2, 52, 4, 100, 133, 184, 0, 13, 154, 0, 5, 2, 172, 28, 154, 0, 12, 42]
abbrev dktX11_drawn_0 : List UInt8 := dkwX11_drawn_0 ++ dktX11_drawn_1
theorem dksX11_drawn_0 : cX11_drawn.data.toList.drop 0 = dktX11_drawn_0 := by decide +kernel
theorem dksX11_drawn_1 : cX11_drawn.data.toList.drop 23 = dktX11_drawn_1 := dk_seg dksX11_drawn_0 23 rfl rfl
theorem dksX11_drawn_2 : cX11_drawn.data.toList.drop 47 = dktX11_drawn_2 := dk_seg dksX11_drawn_1 24 rfl rfl
theorem dX11_drawn_0 : decode cX11_drawn 0 = .ok (.iload_n 1, 1) := dk_27 (dk_at dksX11_drawn_0 0 rfl rfl)
theorem dX11_drawn_1 : decode cX11_drawn 1 = .ok (.i2l, 1) := dk_133 (dk_at dksX11_drawn_0 1 rfl rfl)
theorem dX11_drawn_2 : decode cX11_drawn 2 = .ok (.lconst 0, 1) := dk_9 (dk_at dksX11_drawn_0 2 rfl rfl)
theorem dX11_drawn_3 : decode cX11_drawn 3 = .ok (.aload_n 0, 1) := dk_42 (dk_at dksX11_drawn_0 3 rfl rfl)
theorem dX11_drawn_4 : decode cX11_drawn 4 = .ok (.getfield 564, 3) := dk_180 2 52 (dk_at dksX11_drawn_0 4 rfl rfl)
theorem dX11_drawn_7 : decode cX11_drawn 7 = .ok (.iconst 1, 1) := dk_4 (dk_at dksX11_drawn_0 7 rfl rfl)
theorem dX11_drawn_8 : decode cX11_drawn 8 = .ok (.isub, 1) := dk_100 (dk_at dksX11_drawn_0 8 rfl rfl)
theorem dX11_drawn_9 : decode cX11_drawn 9 = .ok (.i2l, 1) := dk_133 (dk_at dksX11_drawn_0 9 rfl rfl)
theorem dX11_drawn_10 : decode cX11_drawn 10 = .ok (.invokestatic 13, 3) := dk_184 0 13 (dk_at dksX11_drawn_0 10 rfl rfl)
theorem dX11_drawn_13 : decode cX11_drawn 13 = .ok (.ifCond .ne 5, 3) := dk_154 0 5 (dk_at dksX11_drawn_0 13 rfl rfl)
theorem dX11_drawn_16 : decode cX11_drawn 16 = .ok (.iconst (-1), 1) := dk_2 (dk_at dksX11_drawn_0 16 rfl rfl)
theorem dX11_drawn_17 : decode cX11_drawn 17 = .ok (.ireturn, 1) := dk_172 (dk_at dksX11_drawn_0 17 rfl rfl)
theorem dX11_drawn_18 : decode cX11_drawn 18 = .ok (.iload_n 2, 1) := dk_28 (dk_at dksX11_drawn_0 18 rfl rfl)
theorem dX11_drawn_19 : decode cX11_drawn 19 = .ok (.ifCond .ne 12, 3) := dk_154 0 12 (dk_at dksX11_drawn_0 19 rfl rfl)
theorem dX11_drawn_22 : decode cX11_drawn 22 = .ok (.aload_n 0, 1) := dk_42 (dk_at dksX11_drawn_0 22 rfl rfl)
theorem dX11_drawn_23 : decode cX11_drawn 23 = .ok (.getfield 1126, 3) := dk_180 4 102 (dk_at dksX11_drawn_1 0 rfl rfl)
theorem dX11_drawn_26 : decode cX11_drawn 26 = .ok (.iload_n 1, 1) := dk_27 (dk_at dksX11_drawn_1 3 rfl rfl)
theorem dX11_drawn_27 : decode cX11_drawn 27 = .ok (.iaload, 1) := dk_46 (dk_at dksX11_drawn_1 4 rfl rfl)
theorem dX11_drawn_28 : decode cX11_drawn 28 = .ok (.goto 41, 3) := dk_167 0 41 (dk_at dksX11_drawn_1 5 rfl rfl)
theorem dX11_drawn_31 : decode cX11_drawn 31 = .ok (.iload_n 2, 1) := dk_28 (dk_at dksX11_drawn_1 8 rfl rfl)
theorem dX11_drawn_32 : decode cX11_drawn 32 = .ok (.iconst 1, 1) := dk_4 (dk_at dksX11_drawn_1 9 rfl rfl)
theorem dX11_drawn_33 : decode cX11_drawn 33 = .ok (.if_icmp .ne 12, 3) := dk_160 0 12 (dk_at dksX11_drawn_1 10 rfl rfl)
theorem dX11_drawn_36 : decode cX11_drawn 36 = .ok (.aload_n 0, 1) := dk_42 (dk_at dksX11_drawn_1 13 rfl rfl)
theorem dX11_drawn_37 : decode cX11_drawn 37 = .ok (.getfield 1129, 3) := dk_180 4 105 (dk_at dksX11_drawn_1 14 rfl rfl)
theorem dX11_drawn_40 : decode cX11_drawn 40 = .ok (.iload_n 1, 1) := dk_27 (dk_at dksX11_drawn_1 17 rfl rfl)
theorem dX11_drawn_41 : decode cX11_drawn 41 = .ok (.iaload, 1) := dk_46 (dk_at dksX11_drawn_1 18 rfl rfl)
theorem dX11_drawn_42 : decode cX11_drawn 42 = .ok (.goto 27, 3) := dk_167 0 27 (dk_at dksX11_drawn_1 19 rfl rfl)
theorem dX11_drawn_45 : decode cX11_drawn 45 = .ok (.iload_n 2, 1) := dk_28 (dk_at dksX11_drawn_1 22 rfl rfl)
theorem dX11_drawn_46 : decode cX11_drawn 46 = .ok (.iconst 2, 1) := dk_5 (dk_at dksX11_drawn_1 23 rfl rfl)
theorem dX11_drawn_47 : decode cX11_drawn 47 = .ok (.if_icmp .ne 20, 3) := dk_160 0 20 (dk_at dksX11_drawn_2 0 rfl rfl)
theorem dX11_drawn_50 : decode cX11_drawn 50 = .ok (.aload_n 0, 1) := dk_42 (dk_at dksX11_drawn_2 3 rfl rfl)
theorem dX11_drawn_51 : decode cX11_drawn 51 = .ok (.getfield 1132, 3) := dk_180 4 108 (dk_at dksX11_drawn_2 4 rfl rfl)
theorem dX11_drawn_54 : decode cX11_drawn 54 = .ok (.iload_n 1, 1) := dk_27 (dk_at dksX11_drawn_2 7 rfl rfl)
theorem dX11_drawn_55 : decode cX11_drawn 55 = .ok (.baload, 1) := dk_51 (dk_at dksX11_drawn_2 8 rfl rfl)
theorem dX11_drawn_56 : decode cX11_drawn 56 = .ok (.ifCond .eq 7, 3) := dk_153 0 7 (dk_at dksX11_drawn_2 9 rfl rfl)
theorem dX11_drawn_59 : decode cX11_drawn 59 = .ok (.iconst 1, 1) := dk_4 (dk_at dksX11_drawn_2 12 rfl rfl)
theorem dX11_drawn_60 : decode cX11_drawn 60 = .ok (.goto 9, 3) := dk_167 0 9 (dk_at dksX11_drawn_2 13 rfl rfl)
theorem dX11_drawn_63 : decode cX11_drawn 63 = .ok (.iconst 0, 1) := dk_3 (dk_at dksX11_drawn_2 16 rfl rfl)
theorem dX11_drawn_64 : decode cX11_drawn 64 = .ok (.goto 5, 3) := dk_167 0 5 (dk_at dksX11_drawn_2 17 rfl rfl)
theorem dX11_drawn_67 : decode cX11_drawn 67 = .ok (.bipush (-2), 2) := dk_16 254 (dk_at dksX11_drawn_2 20 rfl rfl)
theorem dX11_drawn_69 : decode cX11_drawn 69 = .ok (.ireturn, 1) := dk_172 (dk_at dksX11_drawn_2 22 rfl rfl)
abbrev cX11_risk : ByteArray := prog_17_method_197_code
def yX11_risk : MethodName := ⟨RX11, "risk", "(I)J"⟩
def dkwX11_risk_1 : List UInt8 := [27, 4, 160, 0, 10, 42, 180, 4, 234, 167, 0, 6, 20, 4, 237, 173]
abbrev dktX11_risk_1 : List UInt8 := dkwX11_risk_1 ++ []
def dkwX11_risk_0 : List UInt8 := [42, 180, 2, 49, 154, 0, 9, 20, 0, 113, 167, 0, 29, 27, 154, 0, 10, 42, 180, 4, 230, 167, 0, 18]
abbrev dktX11_risk_0 : List UInt8 := dkwX11_risk_0 ++ dktX11_risk_1
theorem dksX11_risk_0 : cX11_risk.data.toList.drop 0 = dktX11_risk_0 := by decide +kernel
theorem dksX11_risk_1 : cX11_risk.data.toList.drop 24 = dktX11_risk_1 := dk_seg dksX11_risk_0 24 rfl rfl
theorem dX11_risk_0 : decode cX11_risk 0 = .ok (.aload_n 0, 1) := dk_42 (dk_at dksX11_risk_0 0 rfl rfl)
theorem dX11_risk_1 : decode cX11_risk 1 = .ok (.getfield 561, 3) := dk_180 2 49 (dk_at dksX11_risk_0 1 rfl rfl)
theorem dX11_risk_4 : decode cX11_risk 4 = .ok (.ifCond .ne 9, 3) := dk_154 0 9 (dk_at dksX11_risk_0 4 rfl rfl)
theorem dX11_risk_7 : decode cX11_risk 7 = .ok (.ldc2_w 113, 3) := dk_20 0 113 (dk_at dksX11_risk_0 7 rfl rfl)
theorem dX11_risk_10 : decode cX11_risk 10 = .ok (.goto 29, 3) := dk_167 0 29 (dk_at dksX11_risk_0 10 rfl rfl)
theorem dX11_risk_13 : decode cX11_risk 13 = .ok (.iload_n 1, 1) := dk_27 (dk_at dksX11_risk_0 13 rfl rfl)
theorem dX11_risk_14 : decode cX11_risk 14 = .ok (.ifCond .ne 10, 3) := dk_154 0 10 (dk_at dksX11_risk_0 14 rfl rfl)
theorem dX11_risk_17 : decode cX11_risk 17 = .ok (.aload_n 0, 1) := dk_42 (dk_at dksX11_risk_0 17 rfl rfl)
theorem dX11_risk_18 : decode cX11_risk 18 = .ok (.getfield 1254, 3) := dk_180 4 230 (dk_at dksX11_risk_0 18 rfl rfl)
theorem dX11_risk_21 : decode cX11_risk 21 = .ok (.goto 18, 3) := dk_167 0 18 (dk_at dksX11_risk_0 21 rfl rfl)
theorem dX11_risk_24 : decode cX11_risk 24 = .ok (.iload_n 1, 1) := dk_27 (dk_at dksX11_risk_1 0 rfl rfl)
theorem dX11_risk_25 : decode cX11_risk 25 = .ok (.iconst 1, 1) := dk_4 (dk_at dksX11_risk_1 1 rfl rfl)
theorem dX11_risk_26 : decode cX11_risk 26 = .ok (.if_icmp .ne 10, 3) := dk_160 0 10 (dk_at dksX11_risk_1 2 rfl rfl)
theorem dX11_risk_29 : decode cX11_risk 29 = .ok (.aload_n 0, 1) := dk_42 (dk_at dksX11_risk_1 5 rfl rfl)
theorem dX11_risk_30 : decode cX11_risk 30 = .ok (.getfield 1258, 3) := dk_180 4 234 (dk_at dksX11_risk_1 6 rfl rfl)
theorem dX11_risk_33 : decode cX11_risk 33 = .ok (.goto 6, 3) := dk_167 0 6 (dk_at dksX11_risk_1 9 rfl rfl)
theorem dX11_risk_36 : decode cX11_risk 36 = .ok (.ldc2_w 1261, 3) := dk_20 4 237 (dk_at dksX11_risk_1 12 rfl rfl)
theorem dX11_risk_39 : decode cX11_risk 39 = .ok (.lreturn, 1) := dk_173 (dk_at dksX11_risk_1 15 rfl rfl)
abbrev cX11_stops : ByteArray := prog_17_method_198_code
def yX11_stops : MethodName := ⟨RX11, "stops", "(II)I"⟩
def dkwX11_stops_2 : List UInt8 := [105, 148, 157, 0, 7, 4, 167, 0, 4, 3, 172]
abbrev dktX11_stops_2 : List UInt8 := dkwX11_stops_2 ++ []
def dkwX11_stops_1 : List UInt8 := [28, 133, 184, 0, 13, 154, 0, 6, 16, 254, 172, 42, 180, 4, 230, 28, 133, 105, 42, 180, 4, 234, 27, 133]
abbrev dktX11_stops_1 : List UInt8 := dkwX11_stops_1 ++ dktX11_stops_2
def dkwX11_stops_0 : List UInt8 := [42, 180, 2, 49, 154, 0, 5, 2, 172, 28, 133, 10, 20, 4, 239, 184, 0, 13, 153, 0, 14, 27, 133, 9]
abbrev dktX11_stops_0 : List UInt8 := dkwX11_stops_0 ++ dktX11_stops_1
theorem dksX11_stops_0 : cX11_stops.data.toList.drop 0 = dktX11_stops_0 := by decide +kernel
theorem dksX11_stops_1 : cX11_stops.data.toList.drop 24 = dktX11_stops_1 := dk_seg dksX11_stops_0 24 rfl rfl
theorem dksX11_stops_2 : cX11_stops.data.toList.drop 48 = dktX11_stops_2 := dk_seg dksX11_stops_1 24 rfl rfl
theorem dX11_stops_0 : decode cX11_stops 0 = .ok (.aload_n 0, 1) := dk_42 (dk_at dksX11_stops_0 0 rfl rfl)
theorem dX11_stops_1 : decode cX11_stops 1 = .ok (.getfield 561, 3) := dk_180 2 49 (dk_at dksX11_stops_0 1 rfl rfl)
theorem dX11_stops_4 : decode cX11_stops 4 = .ok (.ifCond .ne 5, 3) := dk_154 0 5 (dk_at dksX11_stops_0 4 rfl rfl)
theorem dX11_stops_7 : decode cX11_stops 7 = .ok (.iconst (-1), 1) := dk_2 (dk_at dksX11_stops_0 7 rfl rfl)
theorem dX11_stops_8 : decode cX11_stops 8 = .ok (.ireturn, 1) := dk_172 (dk_at dksX11_stops_0 8 rfl rfl)
theorem dX11_stops_9 : decode cX11_stops 9 = .ok (.iload_n 2, 1) := dk_28 (dk_at dksX11_stops_0 9 rfl rfl)
theorem dX11_stops_10 : decode cX11_stops 10 = .ok (.i2l, 1) := dk_133 (dk_at dksX11_stops_0 10 rfl rfl)
theorem dX11_stops_11 : decode cX11_stops 11 = .ok (.lconst 1, 1) := dk_10 (dk_at dksX11_stops_0 11 rfl rfl)
theorem dX11_stops_12 : decode cX11_stops 12 = .ok (.ldc2_w 1263, 3) := dk_20 4 239 (dk_at dksX11_stops_0 12 rfl rfl)
theorem dX11_stops_15 : decode cX11_stops 15 = .ok (.invokestatic 13, 3) := dk_184 0 13 (dk_at dksX11_stops_0 15 rfl rfl)
theorem dX11_stops_18 : decode cX11_stops 18 = .ok (.ifCond .eq 14, 3) := dk_153 0 14 (dk_at dksX11_stops_0 18 rfl rfl)
theorem dX11_stops_21 : decode cX11_stops 21 = .ok (.iload_n 1, 1) := dk_27 (dk_at dksX11_stops_0 21 rfl rfl)
theorem dX11_stops_22 : decode cX11_stops 22 = .ok (.i2l, 1) := dk_133 (dk_at dksX11_stops_0 22 rfl rfl)
theorem dX11_stops_23 : decode cX11_stops 23 = .ok (.lconst 0, 1) := dk_9 (dk_at dksX11_stops_0 23 rfl rfl)
theorem dX11_stops_24 : decode cX11_stops 24 = .ok (.iload_n 2, 1) := dk_28 (dk_at dksX11_stops_1 0 rfl rfl)
theorem dX11_stops_25 : decode cX11_stops 25 = .ok (.i2l, 1) := dk_133 (dk_at dksX11_stops_1 1 rfl rfl)
theorem dX11_stops_26 : decode cX11_stops 26 = .ok (.invokestatic 13, 3) := dk_184 0 13 (dk_at dksX11_stops_1 2 rfl rfl)
theorem dX11_stops_29 : decode cX11_stops 29 = .ok (.ifCond .ne 6, 3) := dk_154 0 6 (dk_at dksX11_stops_1 5 rfl rfl)
theorem dX11_stops_32 : decode cX11_stops 32 = .ok (.bipush (-2), 2) := dk_16 254 (dk_at dksX11_stops_1 8 rfl rfl)
theorem dX11_stops_34 : decode cX11_stops 34 = .ok (.ireturn, 1) := dk_172 (dk_at dksX11_stops_1 10 rfl rfl)
theorem dX11_stops_35 : decode cX11_stops 35 = .ok (.aload_n 0, 1) := dk_42 (dk_at dksX11_stops_1 11 rfl rfl)
theorem dX11_stops_36 : decode cX11_stops 36 = .ok (.getfield 1254, 3) := dk_180 4 230 (dk_at dksX11_stops_1 12 rfl rfl)
theorem dX11_stops_39 : decode cX11_stops 39 = .ok (.iload_n 2, 1) := dk_28 (dk_at dksX11_stops_1 15 rfl rfl)
theorem dX11_stops_40 : decode cX11_stops 40 = .ok (.i2l, 1) := dk_133 (dk_at dksX11_stops_1 16 rfl rfl)
theorem dX11_stops_41 : decode cX11_stops 41 = .ok (.lmul, 1) := dk_105 (dk_at dksX11_stops_1 17 rfl rfl)
theorem dX11_stops_42 : decode cX11_stops 42 = .ok (.aload_n 0, 1) := dk_42 (dk_at dksX11_stops_1 18 rfl rfl)
theorem dX11_stops_43 : decode cX11_stops 43 = .ok (.getfield 1258, 3) := dk_180 4 234 (dk_at dksX11_stops_1 19 rfl rfl)
theorem dX11_stops_46 : decode cX11_stops 46 = .ok (.iload_n 1, 1) := dk_27 (dk_at dksX11_stops_1 22 rfl rfl)
theorem dX11_stops_47 : decode cX11_stops 47 = .ok (.i2l, 1) := dk_133 (dk_at dksX11_stops_1 23 rfl rfl)
theorem dX11_stops_48 : decode cX11_stops 48 = .ok (.lmul, 1) := dk_105 (dk_at dksX11_stops_2 0 rfl rfl)
theorem dX11_stops_49 : decode cX11_stops 49 = .ok (.lcmp, 1) := dk_148 (dk_at dksX11_stops_2 1 rfl rfl)
theorem dX11_stops_50 : decode cX11_stops 50 = .ok (.ifCond .gt 7, 3) := dk_157 0 7 (dk_at dksX11_stops_2 2 rfl rfl)
theorem dX11_stops_53 : decode cX11_stops 53 = .ok (.iconst 1, 1) := dk_4 (dk_at dksX11_stops_2 5 rfl rfl)
theorem dX11_stops_54 : decode cX11_stops 54 = .ok (.goto 4, 3) := dk_167 0 4 (dk_at dksX11_stops_2 6 rfl rfl)
theorem dX11_stops_57 : decode cX11_stops 57 = .ok (.iconst 0, 1) := dk_3 (dk_at dksX11_stops_2 9 rfl rfl)
theorem dX11_stops_58 : decode cX11_stops 58 = .ok (.ireturn, 1) := dk_172 (dk_at dksX11_stops_2 10 rfl rfl)
abbrev cX11_head : ByteArray := prog_17_method_203_code
def yX11_head : MethodName := ⟨RX11, "head", "(I)I"⟩
def dkwX11_head_1 : List UInt8 := [167, 0, 4, 2, 172]
abbrev dktX11_head_1 : List UInt8 := dkwX11_head_1 ++ []
def dkwX11_head_0 : List UInt8 := [27, 133, 9, 20, 4, 254, 184, 0, 13, 153, 0, 16, 42, 180, 4, 117, 27, 51, 17, 0, 255, 126]
abbrev dktX11_head_0 : List UInt8 := dkwX11_head_0 ++ dktX11_head_1
theorem dksX11_head_0 : cX11_head.data.toList.drop 0 = dktX11_head_0 := by decide +kernel
theorem dksX11_head_1 : cX11_head.data.toList.drop 22 = dktX11_head_1 := dk_seg dksX11_head_0 22 rfl rfl
theorem dX11_head_0 : decode cX11_head 0 = .ok (.iload_n 1, 1) := dk_27 (dk_at dksX11_head_0 0 rfl rfl)
theorem dX11_head_1 : decode cX11_head 1 = .ok (.i2l, 1) := dk_133 (dk_at dksX11_head_0 1 rfl rfl)
theorem dX11_head_2 : decode cX11_head 2 = .ok (.lconst 0, 1) := dk_9 (dk_at dksX11_head_0 2 rfl rfl)
theorem dX11_head_3 : decode cX11_head 3 = .ok (.ldc2_w 1278, 3) := dk_20 4 254 (dk_at dksX11_head_0 3 rfl rfl)
theorem dX11_head_6 : decode cX11_head 6 = .ok (.invokestatic 13, 3) := dk_184 0 13 (dk_at dksX11_head_0 6 rfl rfl)
theorem dX11_head_9 : decode cX11_head 9 = .ok (.ifCond .eq 16, 3) := dk_153 0 16 (dk_at dksX11_head_0 9 rfl rfl)
theorem dX11_head_12 : decode cX11_head 12 = .ok (.aload_n 0, 1) := dk_42 (dk_at dksX11_head_0 12 rfl rfl)
theorem dX11_head_13 : decode cX11_head 13 = .ok (.getfield 1141, 3) := dk_180 4 117 (dk_at dksX11_head_0 13 rfl rfl)
theorem dX11_head_16 : decode cX11_head 16 = .ok (.iload_n 1, 1) := dk_27 (dk_at dksX11_head_0 16 rfl rfl)
theorem dX11_head_17 : decode cX11_head 17 = .ok (.baload, 1) := dk_51 (dk_at dksX11_head_0 17 rfl rfl)
theorem dX11_head_18 : decode cX11_head 18 = .ok (.sipush 255, 3) := dk_17 0 255 (dk_at dksX11_head_0 18 rfl rfl)
theorem dX11_head_21 : decode cX11_head 21 = .ok (.iand, 1) := dk_126 (dk_at dksX11_head_0 21 rfl rfl)
theorem dX11_head_22 : decode cX11_head 22 = .ok (.goto 4, 3) := dk_167 0 4 (dk_at dksX11_head_1 0 rfl rfl)
theorem dX11_head_25 : decode cX11_head 25 = .ok (.iconst (-1), 1) := dk_2 (dk_at dksX11_head_1 3 rfl rfl)
theorem dX11_head_26 : decode cX11_head 26 = .ok (.ireturn, 1) := dk_172 (dk_at dksX11_head_1 4 rfl rfl)
abbrev cX11_told : ByteArray := prog_17_method_204_code
def yX11_told : MethodName := ⟨RX11, "told", "(I)I"⟩
def dkwX11_told_11 : List UInt8 := [167, 0, 4, 3, 172, 16, 254, 172]
abbrev dktX11_told_11 : List UInt8 := dkwX11_told_11 ++ []
def dkwX11_told_10 : List UInt8 := [153, 0, 10, 42, 180, 4, 213, 167, 0, 4, 3, 172, 42, 180, 2, 49, 153, 0, 10, 42, 180, 4, 216]
abbrev dktX11_told_10 : List UInt8 := dkwX11_told_10 ++ dktX11_told_11
def dkwX11_told_9 : List UInt8 := [180, 4, 248, 172, 42, 180, 2, 49, 153, 0, 10, 42, 180, 4, 210, 167, 0, 4, 3, 172, 42, 180, 2, 49]
abbrev dktX11_told_9 : List UInt8 := dkwX11_told_9 ++ dktX11_told_10
def dkwX11_told_8 : List UInt8 := [42, 180, 2, 46, 153, 0, 10, 42, 180, 3, 70, 167, 0, 4, 3, 172, 42, 180, 2, 52, 172, 42]
abbrev dktX11_told_8 : List UInt8 := dkwX11_told_8 ++ dktX11_told_9
def dkwX11_told_7 : List UInt8 := [180, 3, 91, 167, 0, 4, 3, 172, 42, 180, 2, 46, 153, 0, 10, 42, 180, 3, 49, 167, 0, 4, 3, 172]
abbrev dktX11_told_7 : List UInt8 := dkwX11_told_7 ++ dktX11_told_8
def dkwX11_told_6 : List UInt8 := [180, 2, 46, 153, 0, 10, 42, 180, 3, 88, 167, 0, 4, 3, 172, 42, 180, 2, 46, 153, 0, 10, 42]
abbrev dktX11_told_6 : List UInt8 := dkwX11_told_6 ++ dktX11_told_7
def dkwX11_told_5 : List UInt8 := [167, 0, 4, 3, 172, 42, 180, 2, 46, 153, 0, 10, 42, 180, 3, 85, 167, 0, 4, 3, 172, 42]
abbrev dktX11_told_5 : List UInt8 := dkwX11_told_5 ++ dktX11_told_6
def dkwX11_told_4 : List UInt8 := [180, 2, 28, 172, 42, 180, 2, 31, 172, 42, 180, 0, 5, 172, 42, 180, 2, 19, 153, 0, 7, 4]
abbrev dktX11_told_4 : List UInt8 := dkwX11_told_4 ++ dktX11_told_5
def dkwX11_told_3 : List UInt8 := [172, 42, 180, 2, 16, 172, 42, 180, 2, 22, 172, 42, 182, 2, 123, 172, 42, 180, 2, 25, 172, 42]
abbrev dktX11_told_3 : List UInt8 := dkwX11_told_3 ++ dktX11_told_4
def dkwX11_told_2 : List UInt8 := [42, 180, 0, 17, 172, 42, 180, 0, 61, 172, 42, 180, 0, 74, 172, 42, 180, 0, 92, 172, 42, 180, 1, 213]
abbrev dktX11_told_2 : List UInt8 := dkwX11_told_2 ++ dktX11_told_3
def dkwX11_told_1 : List UInt8 := [170, 0, 0, 0, 0, 1, 62, 0, 0, 0, 0, 0, 0, 0, 22, 0, 0, 0, 107, 0, 0, 0, 112, 0, 0, 0, 117, 0, 0, 0, 122, 0, 0, 0, 127, 0, 0, 0, 132, 0, 0, 0, 137, 0, 0, 0, 142, 0, 0, 0, 147, 0, 0, 0, 152, 0, 0, 0, 157, 0, 0, 0, 162, 0, 0, 0, 167, 0, 0, 0, 180, 0, 0, 0, 196, 0, 0, 0, 212, 0, 0, 0, 228, 0, 0, 0, 244, 0, 0, 1, 4, 0, 0, 1, 9, 0, 0, 1, 14, 0, 0, 1, 30, 0, 0, 1, 46]
abbrev dktX11_told_1 : List UInt8 := dkwX11_told_1 ++ dktX11_told_2
def dkwX11_told_0 : List UInt8 := [27]
abbrev dktX11_told_0 : List UInt8 := dkwX11_told_0 ++ dktX11_told_1
theorem dksX11_told_0 : cX11_told.data.toList.drop 0 = dktX11_told_0 := by decide +kernel
theorem dksX11_told_1 : cX11_told.data.toList.drop 1 = dktX11_told_1 := dk_seg dksX11_told_0 1 rfl rfl
theorem dksX11_told_2 : cX11_told.data.toList.drop 108 = dktX11_told_2 := dk_seg dksX11_told_1 107 rfl rfl
theorem dksX11_told_3 : cX11_told.data.toList.drop 132 = dktX11_told_3 := dk_seg dksX11_told_2 24 rfl rfl
theorem dksX11_told_4 : cX11_told.data.toList.drop 154 = dktX11_told_4 := dk_seg dksX11_told_3 22 rfl rfl
theorem dksX11_told_5 : cX11_told.data.toList.drop 176 = dktX11_told_5 := dk_seg dksX11_told_4 22 rfl rfl
theorem dksX11_told_6 : cX11_told.data.toList.drop 198 = dktX11_told_6 := dk_seg dksX11_told_5 22 rfl rfl
theorem dksX11_told_7 : cX11_told.data.toList.drop 221 = dktX11_told_7 := dk_seg dksX11_told_6 23 rfl rfl
theorem dksX11_told_8 : cX11_told.data.toList.drop 245 = dktX11_told_8 := dk_seg dksX11_told_7 24 rfl rfl
theorem dksX11_told_9 : cX11_told.data.toList.drop 267 = dktX11_told_9 := dk_seg dksX11_told_8 22 rfl rfl
theorem dksX11_told_10 : cX11_told.data.toList.drop 291 = dktX11_told_10 := dk_seg dksX11_told_9 24 rfl rfl
theorem dksX11_told_11 : cX11_told.data.toList.drop 314 = dktX11_told_11 := dk_seg dksX11_told_10 23 rfl rfl
theorem dX11_told_0 : decode cX11_told 0 = .ok (.iload_n 1, 1) := dk_27 (dk_at dksX11_told_0 0 rfl rfl)
theorem dX11_told_1 : decode cX11_told 1 = .ok (.tableswitch 318 0 22 #[107, 112, 117, 122, 127, 132, 137, 142, 147, 152, 157, 162, 167, 180, 196, 212, 228, 244, 260, 265, 270, 286, 302], 107) := by decide +kernel
theorem dX11_told_108 : decode cX11_told 108 = .ok (.aload_n 0, 1) := dk_42 (dk_at dksX11_told_2 0 rfl rfl)
theorem dX11_told_109 : decode cX11_told 109 = .ok (.getfield 17, 3) := dk_180 0 17 (dk_at dksX11_told_2 1 rfl rfl)
theorem dX11_told_112 : decode cX11_told 112 = .ok (.ireturn, 1) := dk_172 (dk_at dksX11_told_2 4 rfl rfl)
theorem dX11_told_113 : decode cX11_told 113 = .ok (.aload_n 0, 1) := dk_42 (dk_at dksX11_told_2 5 rfl rfl)
theorem dX11_told_114 : decode cX11_told 114 = .ok (.getfield 61, 3) := dk_180 0 61 (dk_at dksX11_told_2 6 rfl rfl)
theorem dX11_told_117 : decode cX11_told 117 = .ok (.ireturn, 1) := dk_172 (dk_at dksX11_told_2 9 rfl rfl)
theorem dX11_told_118 : decode cX11_told 118 = .ok (.aload_n 0, 1) := dk_42 (dk_at dksX11_told_2 10 rfl rfl)
theorem dX11_told_119 : decode cX11_told 119 = .ok (.getfield 74, 3) := dk_180 0 74 (dk_at dksX11_told_2 11 rfl rfl)
theorem dX11_told_122 : decode cX11_told 122 = .ok (.ireturn, 1) := dk_172 (dk_at dksX11_told_2 14 rfl rfl)
theorem dX11_told_123 : decode cX11_told 123 = .ok (.aload_n 0, 1) := dk_42 (dk_at dksX11_told_2 15 rfl rfl)
theorem dX11_told_124 : decode cX11_told 124 = .ok (.getfield 92, 3) := dk_180 0 92 (dk_at dksX11_told_2 16 rfl rfl)
theorem dX11_told_127 : decode cX11_told 127 = .ok (.ireturn, 1) := dk_172 (dk_at dksX11_told_2 19 rfl rfl)
theorem dX11_told_128 : decode cX11_told 128 = .ok (.aload_n 0, 1) := dk_42 (dk_at dksX11_told_2 20 rfl rfl)
theorem dX11_told_129 : decode cX11_told 129 = .ok (.getfield 469, 3) := dk_180 1 213 (dk_at dksX11_told_2 21 rfl rfl)
theorem dX11_told_132 : decode cX11_told 132 = .ok (.ireturn, 1) := dk_172 (dk_at dksX11_told_3 0 rfl rfl)
theorem dX11_told_133 : decode cX11_told 133 = .ok (.aload_n 0, 1) := dk_42 (dk_at dksX11_told_3 1 rfl rfl)
theorem dX11_told_134 : decode cX11_told 134 = .ok (.getfield 528, 3) := dk_180 2 16 (dk_at dksX11_told_3 2 rfl rfl)
theorem dX11_told_137 : decode cX11_told 137 = .ok (.ireturn, 1) := dk_172 (dk_at dksX11_told_3 5 rfl rfl)
theorem dX11_told_138 : decode cX11_told 138 = .ok (.aload_n 0, 1) := dk_42 (dk_at dksX11_told_3 6 rfl rfl)
theorem dX11_told_139 : decode cX11_told 139 = .ok (.getfield 534, 3) := dk_180 2 22 (dk_at dksX11_told_3 7 rfl rfl)
theorem dX11_told_142 : decode cX11_told 142 = .ok (.ireturn, 1) := dk_172 (dk_at dksX11_told_3 10 rfl rfl)
theorem dX11_told_143 : decode cX11_told 143 = .ok (.aload_n 0, 1) := dk_42 (dk_at dksX11_told_3 11 rfl rfl)
theorem dX11_told_144 : decode cX11_told 144 = .ok (.invokevirtual 635, 3) := dk_182 2 123 (dk_at dksX11_told_3 12 rfl rfl)
theorem dX11_told_147 : decode cX11_told 147 = .ok (.ireturn, 1) := dk_172 (dk_at dksX11_told_3 15 rfl rfl)
theorem dX11_told_148 : decode cX11_told 148 = .ok (.aload_n 0, 1) := dk_42 (dk_at dksX11_told_3 16 rfl rfl)
theorem dX11_told_149 : decode cX11_told 149 = .ok (.getfield 537, 3) := dk_180 2 25 (dk_at dksX11_told_3 17 rfl rfl)
theorem dX11_told_152 : decode cX11_told 152 = .ok (.ireturn, 1) := dk_172 (dk_at dksX11_told_3 20 rfl rfl)
theorem dX11_told_153 : decode cX11_told 153 = .ok (.aload_n 0, 1) := dk_42 (dk_at dksX11_told_3 21 rfl rfl)
theorem dX11_told_154 : decode cX11_told 154 = .ok (.getfield 540, 3) := dk_180 2 28 (dk_at dksX11_told_4 0 rfl rfl)
theorem dX11_told_157 : decode cX11_told 157 = .ok (.ireturn, 1) := dk_172 (dk_at dksX11_told_4 3 rfl rfl)
theorem dX11_told_158 : decode cX11_told 158 = .ok (.aload_n 0, 1) := dk_42 (dk_at dksX11_told_4 4 rfl rfl)
theorem dX11_told_159 : decode cX11_told 159 = .ok (.getfield 543, 3) := dk_180 2 31 (dk_at dksX11_told_4 5 rfl rfl)
theorem dX11_told_162 : decode cX11_told 162 = .ok (.ireturn, 1) := dk_172 (dk_at dksX11_told_4 8 rfl rfl)
theorem dX11_told_163 : decode cX11_told 163 = .ok (.aload_n 0, 1) := dk_42 (dk_at dksX11_told_4 9 rfl rfl)
theorem dX11_told_164 : decode cX11_told 164 = .ok (.getfield 5, 3) := dk_180 0 5 (dk_at dksX11_told_4 10 rfl rfl)
theorem dX11_told_167 : decode cX11_told 167 = .ok (.ireturn, 1) := dk_172 (dk_at dksX11_told_4 13 rfl rfl)
theorem dX11_told_168 : decode cX11_told 168 = .ok (.aload_n 0, 1) := dk_42 (dk_at dksX11_told_4 14 rfl rfl)
theorem dX11_told_169 : decode cX11_told 169 = .ok (.getfield 531, 3) := dk_180 2 19 (dk_at dksX11_told_4 15 rfl rfl)
theorem dX11_told_172 : decode cX11_told 172 = .ok (.ifCond .eq 7, 3) := dk_153 0 7 (dk_at dksX11_told_4 18 rfl rfl)
theorem dX11_told_175 : decode cX11_told 175 = .ok (.iconst 1, 1) := dk_4 (dk_at dksX11_told_4 21 rfl rfl)
theorem dX11_told_176 : decode cX11_told 176 = .ok (.goto 4, 3) := dk_167 0 4 (dk_at dksX11_told_5 0 rfl rfl)
theorem dX11_told_179 : decode cX11_told 179 = .ok (.iconst 0, 1) := dk_3 (dk_at dksX11_told_5 3 rfl rfl)
theorem dX11_told_180 : decode cX11_told 180 = .ok (.ireturn, 1) := dk_172 (dk_at dksX11_told_5 4 rfl rfl)
theorem dX11_told_181 : decode cX11_told 181 = .ok (.aload_n 0, 1) := dk_42 (dk_at dksX11_told_5 5 rfl rfl)
theorem dX11_told_182 : decode cX11_told 182 = .ok (.getfield 558, 3) := dk_180 2 46 (dk_at dksX11_told_5 6 rfl rfl)
theorem dX11_told_185 : decode cX11_told 185 = .ok (.ifCond .eq 10, 3) := dk_153 0 10 (dk_at dksX11_told_5 9 rfl rfl)
theorem dX11_told_188 : decode cX11_told 188 = .ok (.aload_n 0, 1) := dk_42 (dk_at dksX11_told_5 12 rfl rfl)
theorem dX11_told_189 : decode cX11_told 189 = .ok (.getfield 853, 3) := dk_180 3 85 (dk_at dksX11_told_5 13 rfl rfl)
theorem dX11_told_192 : decode cX11_told 192 = .ok (.goto 4, 3) := dk_167 0 4 (dk_at dksX11_told_5 16 rfl rfl)
theorem dX11_told_195 : decode cX11_told 195 = .ok (.iconst 0, 1) := dk_3 (dk_at dksX11_told_5 19 rfl rfl)
theorem dX11_told_196 : decode cX11_told 196 = .ok (.ireturn, 1) := dk_172 (dk_at dksX11_told_5 20 rfl rfl)
theorem dX11_told_197 : decode cX11_told 197 = .ok (.aload_n 0, 1) := dk_42 (dk_at dksX11_told_5 21 rfl rfl)
theorem dX11_told_198 : decode cX11_told 198 = .ok (.getfield 558, 3) := dk_180 2 46 (dk_at dksX11_told_6 0 rfl rfl)
theorem dX11_told_201 : decode cX11_told 201 = .ok (.ifCond .eq 10, 3) := dk_153 0 10 (dk_at dksX11_told_6 3 rfl rfl)
theorem dX11_told_204 : decode cX11_told 204 = .ok (.aload_n 0, 1) := dk_42 (dk_at dksX11_told_6 6 rfl rfl)
theorem dX11_told_205 : decode cX11_told 205 = .ok (.getfield 856, 3) := dk_180 3 88 (dk_at dksX11_told_6 7 rfl rfl)
theorem dX11_told_208 : decode cX11_told 208 = .ok (.goto 4, 3) := dk_167 0 4 (dk_at dksX11_told_6 10 rfl rfl)
theorem dX11_told_211 : decode cX11_told 211 = .ok (.iconst 0, 1) := dk_3 (dk_at dksX11_told_6 13 rfl rfl)
theorem dX11_told_212 : decode cX11_told 212 = .ok (.ireturn, 1) := dk_172 (dk_at dksX11_told_6 14 rfl rfl)
theorem dX11_told_213 : decode cX11_told 213 = .ok (.aload_n 0, 1) := dk_42 (dk_at dksX11_told_6 15 rfl rfl)
theorem dX11_told_214 : decode cX11_told 214 = .ok (.getfield 558, 3) := dk_180 2 46 (dk_at dksX11_told_6 16 rfl rfl)
theorem dX11_told_217 : decode cX11_told 217 = .ok (.ifCond .eq 10, 3) := dk_153 0 10 (dk_at dksX11_told_6 19 rfl rfl)
theorem dX11_told_220 : decode cX11_told 220 = .ok (.aload_n 0, 1) := dk_42 (dk_at dksX11_told_6 22 rfl rfl)
theorem dX11_told_221 : decode cX11_told 221 = .ok (.getfield 859, 3) := dk_180 3 91 (dk_at dksX11_told_7 0 rfl rfl)
theorem dX11_told_224 : decode cX11_told 224 = .ok (.goto 4, 3) := dk_167 0 4 (dk_at dksX11_told_7 3 rfl rfl)
theorem dX11_told_227 : decode cX11_told 227 = .ok (.iconst 0, 1) := dk_3 (dk_at dksX11_told_7 6 rfl rfl)
theorem dX11_told_228 : decode cX11_told 228 = .ok (.ireturn, 1) := dk_172 (dk_at dksX11_told_7 7 rfl rfl)
theorem dX11_told_229 : decode cX11_told 229 = .ok (.aload_n 0, 1) := dk_42 (dk_at dksX11_told_7 8 rfl rfl)
theorem dX11_told_230 : decode cX11_told 230 = .ok (.getfield 558, 3) := dk_180 2 46 (dk_at dksX11_told_7 9 rfl rfl)
theorem dX11_told_233 : decode cX11_told 233 = .ok (.ifCond .eq 10, 3) := dk_153 0 10 (dk_at dksX11_told_7 12 rfl rfl)
theorem dX11_told_236 : decode cX11_told 236 = .ok (.aload_n 0, 1) := dk_42 (dk_at dksX11_told_7 15 rfl rfl)
theorem dX11_told_237 : decode cX11_told 237 = .ok (.getfield 817, 3) := dk_180 3 49 (dk_at dksX11_told_7 16 rfl rfl)
theorem dX11_told_240 : decode cX11_told 240 = .ok (.goto 4, 3) := dk_167 0 4 (dk_at dksX11_told_7 19 rfl rfl)
theorem dX11_told_243 : decode cX11_told 243 = .ok (.iconst 0, 1) := dk_3 (dk_at dksX11_told_7 22 rfl rfl)
theorem dX11_told_244 : decode cX11_told 244 = .ok (.ireturn, 1) := dk_172 (dk_at dksX11_told_7 23 rfl rfl)
theorem dX11_told_245 : decode cX11_told 245 = .ok (.aload_n 0, 1) := dk_42 (dk_at dksX11_told_8 0 rfl rfl)
theorem dX11_told_246 : decode cX11_told 246 = .ok (.getfield 558, 3) := dk_180 2 46 (dk_at dksX11_told_8 1 rfl rfl)
theorem dX11_told_249 : decode cX11_told 249 = .ok (.ifCond .eq 10, 3) := dk_153 0 10 (dk_at dksX11_told_8 4 rfl rfl)
theorem dX11_told_252 : decode cX11_told 252 = .ok (.aload_n 0, 1) := dk_42 (dk_at dksX11_told_8 7 rfl rfl)
theorem dX11_told_253 : decode cX11_told 253 = .ok (.getfield 838, 3) := dk_180 3 70 (dk_at dksX11_told_8 8 rfl rfl)
theorem dX11_told_256 : decode cX11_told 256 = .ok (.goto 4, 3) := dk_167 0 4 (dk_at dksX11_told_8 11 rfl rfl)
theorem dX11_told_259 : decode cX11_told 259 = .ok (.iconst 0, 1) := dk_3 (dk_at dksX11_told_8 14 rfl rfl)
theorem dX11_told_260 : decode cX11_told 260 = .ok (.ireturn, 1) := dk_172 (dk_at dksX11_told_8 15 rfl rfl)
theorem dX11_told_261 : decode cX11_told 261 = .ok (.aload_n 0, 1) := dk_42 (dk_at dksX11_told_8 16 rfl rfl)
theorem dX11_told_262 : decode cX11_told 262 = .ok (.getfield 564, 3) := dk_180 2 52 (dk_at dksX11_told_8 17 rfl rfl)
theorem dX11_told_265 : decode cX11_told 265 = .ok (.ireturn, 1) := dk_172 (dk_at dksX11_told_8 20 rfl rfl)
theorem dX11_told_266 : decode cX11_told 266 = .ok (.aload_n 0, 1) := dk_42 (dk_at dksX11_told_8 21 rfl rfl)
theorem dX11_told_267 : decode cX11_told 267 = .ok (.getfield 1272, 3) := dk_180 4 248 (dk_at dksX11_told_9 0 rfl rfl)
theorem dX11_told_270 : decode cX11_told 270 = .ok (.ireturn, 1) := dk_172 (dk_at dksX11_told_9 3 rfl rfl)
theorem dX11_told_271 : decode cX11_told 271 = .ok (.aload_n 0, 1) := dk_42 (dk_at dksX11_told_9 4 rfl rfl)
theorem dX11_told_272 : decode cX11_told 272 = .ok (.getfield 561, 3) := dk_180 2 49 (dk_at dksX11_told_9 5 rfl rfl)
theorem dX11_told_275 : decode cX11_told 275 = .ok (.ifCond .eq 10, 3) := dk_153 0 10 (dk_at dksX11_told_9 8 rfl rfl)
theorem dX11_told_278 : decode cX11_told 278 = .ok (.aload_n 0, 1) := dk_42 (dk_at dksX11_told_9 11 rfl rfl)
theorem dX11_told_279 : decode cX11_told 279 = .ok (.getfield 1234, 3) := dk_180 4 210 (dk_at dksX11_told_9 12 rfl rfl)
theorem dX11_told_282 : decode cX11_told 282 = .ok (.goto 4, 3) := dk_167 0 4 (dk_at dksX11_told_9 15 rfl rfl)
theorem dX11_told_285 : decode cX11_told 285 = .ok (.iconst 0, 1) := dk_3 (dk_at dksX11_told_9 18 rfl rfl)
theorem dX11_told_286 : decode cX11_told 286 = .ok (.ireturn, 1) := dk_172 (dk_at dksX11_told_9 19 rfl rfl)
theorem dX11_told_287 : decode cX11_told 287 = .ok (.aload_n 0, 1) := dk_42 (dk_at dksX11_told_9 20 rfl rfl)
theorem dX11_told_288 : decode cX11_told 288 = .ok (.getfield 561, 3) := dk_180 2 49 (dk_at dksX11_told_9 21 rfl rfl)
theorem dX11_told_291 : decode cX11_told 291 = .ok (.ifCond .eq 10, 3) := dk_153 0 10 (dk_at dksX11_told_10 0 rfl rfl)
theorem dX11_told_294 : decode cX11_told 294 = .ok (.aload_n 0, 1) := dk_42 (dk_at dksX11_told_10 3 rfl rfl)
theorem dX11_told_295 : decode cX11_told 295 = .ok (.getfield 1237, 3) := dk_180 4 213 (dk_at dksX11_told_10 4 rfl rfl)
theorem dX11_told_298 : decode cX11_told 298 = .ok (.goto 4, 3) := dk_167 0 4 (dk_at dksX11_told_10 7 rfl rfl)
theorem dX11_told_301 : decode cX11_told 301 = .ok (.iconst 0, 1) := dk_3 (dk_at dksX11_told_10 10 rfl rfl)
theorem dX11_told_302 : decode cX11_told 302 = .ok (.ireturn, 1) := dk_172 (dk_at dksX11_told_10 11 rfl rfl)
theorem dX11_told_303 : decode cX11_told 303 = .ok (.aload_n 0, 1) := dk_42 (dk_at dksX11_told_10 12 rfl rfl)
theorem dX11_told_304 : decode cX11_told 304 = .ok (.getfield 561, 3) := dk_180 2 49 (dk_at dksX11_told_10 13 rfl rfl)
theorem dX11_told_307 : decode cX11_told 307 = .ok (.ifCond .eq 10, 3) := dk_153 0 10 (dk_at dksX11_told_10 16 rfl rfl)
theorem dX11_told_310 : decode cX11_told 310 = .ok (.aload_n 0, 1) := dk_42 (dk_at dksX11_told_10 19 rfl rfl)
theorem dX11_told_311 : decode cX11_told 311 = .ok (.getfield 1240, 3) := dk_180 4 216 (dk_at dksX11_told_10 20 rfl rfl)
theorem dX11_told_314 : decode cX11_told 314 = .ok (.goto 4, 3) := dk_167 0 4 (dk_at dksX11_told_11 0 rfl rfl)
theorem dX11_told_317 : decode cX11_told 317 = .ok (.iconst 0, 1) := dk_3 (dk_at dksX11_told_11 3 rfl rfl)
theorem dX11_told_318 : decode cX11_told 318 = .ok (.ireturn, 1) := dk_172 (dk_at dksX11_told_11 4 rfl rfl)
theorem dX11_told_319 : decode cX11_told 319 = .ok (.bipush (-2), 2) := dk_16 254 (dk_at dksX11_told_11 5 rfl rfl)
theorem dX11_told_321 : decode cX11_told 321 = .ok (.ireturn, 1) := dk_172 (dk_at dksX11_told_11 7 rfl rfl)
theorem q296 : (Jvm.Cond.initialized "ElectionHouseModel") ∈ lw_all := lw_g (lw_at lw_m1 15 rfl) rfl
theorem q2414 : (Jvm.Cond.instanceMethod ({ cls := "ElectionHouseModel", name := "feed", desc := "(IIIII)I" } : Jvm.MethodName)) ∈ lw_all := lw_g (lw_at lw_m9 213 rfl) rfl
theorem q2415 : (Jvm.Cond.selects "ElectionHouseModel" ({ cls := "ElectionHouseModel", name := "feed", desc := "(IIIII)I" } : Jvm.MethodName) ({ cls := "ElectionHouseModel", name := "feed", desc := "(IIIII)I" } : Jvm.MethodName)) ∈ lw_all := lw_g (lw_at lw_m9 214 rfl) rfl
theorem q2416 : (Jvm.Cond.code ({ cls := "ElectionHouseModel", name := "feed", desc := "(IIIII)I" } : Jvm.MethodName) prog_17_method_2_code (8 : Nat) (Option.some Jvm.ClassFile.FieldType.int)) ∈ lw_all := lw_g (lw_at lw_m9 215 rfl) rfl
theorem q2418 : (Jvm.Cond.instanceMethod ({ cls := "ElectionHouseModel", name := "cut", desc := "(I)I" } : Jvm.MethodName)) ∈ lw_all := lw_g (lw_at lw_m9 217 rfl) rfl
theorem q2419 : (Jvm.Cond.selects "ElectionHouseModel" ({ cls := "ElectionHouseModel", name := "cut", desc := "(I)I" } : Jvm.MethodName) ({ cls := "ElectionHouseModel", name := "cut", desc := "(I)I" } : Jvm.MethodName)) ∈ lw_all := lw_g (lw_at lw_m9 218 rfl) rfl
theorem q2420 : (Jvm.Cond.code ({ cls := "ElectionHouseModel", name := "cut", desc := "(I)I" } : Jvm.MethodName) prog_17_method_3_code (2 : Nat) (Option.some Jvm.ClassFile.FieldType.int)) ∈ lw_all := lw_g (lw_at lw_m9 219 rfl) rfl
theorem q2421 : (Jvm.Cond.methodLink "ElectionHouseModel" (13 : Nat) ({ cls := "ElectionHouseModel", name := "in", desc := "(JJJ)Z" } : Jvm.MethodName)) ∈ lw_all := lw_g (lw_at lw_m9 220 rfl) rfl
theorem q2422 : (Jvm.Cond.static ({ cls := "ElectionHouseModel", name := "in", desc := "(JJJ)Z" } : Jvm.MethodName)) ∈ lw_all := lw_g (lw_at lw_m9 221 rfl) rfl
theorem q2423 : (Jvm.Cond.code ({ cls := "ElectionHouseModel", name := "in", desc := "(JJJ)Z" } : Jvm.MethodName) prog_17_method_1_code (6 : Nat) (Option.some Jvm.ClassFile.FieldType.boolean)) ∈ lw_all := lw_g (lw_at lw_m9 222 rfl) rfl
theorem q2425 : (Jvm.Cond.instanceMethod ({ cls := "ElectionHouseModel", name := "day", desc := "(I)I" } : Jvm.MethodName)) ∈ lw_all := lw_g (lw_at lw_m9 224 rfl) rfl
theorem q2426 : (Jvm.Cond.selects "ElectionHouseModel" ({ cls := "ElectionHouseModel", name := "day", desc := "(I)I" } : Jvm.MethodName) ({ cls := "ElectionHouseModel", name := "day", desc := "(I)I" } : Jvm.MethodName)) ∈ lw_all := lw_g (lw_at lw_m9 225 rfl) rfl
theorem q2427 : (Jvm.Cond.code ({ cls := "ElectionHouseModel", name := "day", desc := "(I)I" } : Jvm.MethodName) prog_17_method_4_code (2 : Nat) (Option.some Jvm.ClassFile.FieldType.int)) ∈ lw_all := lw_g (lw_at lw_m9 226 rfl) rfl
theorem q2428 : (Jvm.Cond.constantLong "ElectionHouseModel" (20 : Nat) (36524 : Int64)) ∈ lw_all := lw_g (lw_at lw_m9 227 rfl) rfl
theorem q2429 : (Jvm.Cond.methodLink "ElectionHouseModel" (22 : Nat) ({ cls := "ElectionHouseModel", name := "write", desc := "(IIIII)V" } : Jvm.MethodName)) ∈ lw_all := lw_g (lw_at lw_m9 228 rfl) rfl
theorem q2430 : (Jvm.Cond.privateMethod ({ cls := "ElectionHouseModel", name := "write", desc := "(IIIII)V" } : Jvm.MethodName)) ∈ lw_tbl := lw_at lw_m9 229 rfl
theorem q2431 : (Jvm.Cond.instanceMethod ({ cls := "ElectionHouseModel", name := "write", desc := "(IIIII)V" } : Jvm.MethodName)) ∈ lw_all := lw_g (lw_at lw_m9 230 rfl) rfl
theorem q2432 : (Jvm.Cond.instantiable "ElectionHouseModel" (172 : Nat)) ∈ lw_all := lw_g (lw_at lw_m9 231 rfl) rfl
theorem q2433 : (Jvm.Cond.code ({ cls := "ElectionHouseModel", name := "write", desc := "(IIIII)V" } : Jvm.MethodName) prog_17_method_200_code (7 : Nat) (Option.none : Option Jvm.ClassFile.FieldType)) ∈ lw_all := lw_g (lw_at lw_m9 232 rfl) rfl
theorem q2434 : (Jvm.Cond.methodLink "ElectionHouseModel" (1265 : Nat) ({ cls := "ElectionHouseModel", name := "lay4", desc := "([BII)V" } : Jvm.MethodName)) ∈ lw_all := lw_g (lw_at lw_m9 233 rfl) rfl
theorem q2435 : (Jvm.Cond.privateMethod ({ cls := "ElectionHouseModel", name := "lay4", desc := "([BII)V" } : Jvm.MethodName)) ∈ lw_tbl := lw_at lw_m9 234 rfl
theorem q2436 : (Jvm.Cond.instanceMethod ({ cls := "ElectionHouseModel", name := "lay4", desc := "([BII)V" } : Jvm.MethodName)) ∈ lw_all := lw_g (lw_at lw_m9 235 rfl) rfl
theorem q2437 : (Jvm.Cond.code ({ cls := "ElectionHouseModel", name := "lay4", desc := "([BII)V" } : Jvm.MethodName) prog_17_method_199_code (5 : Nat) (Option.none : Option Jvm.ClassFile.FieldType)) ∈ lw_all := lw_g (lw_at lw_m9 236 rfl) rfl
theorem q2438 : (Jvm.Cond.methodLink "ElectionHouseModel" (1269 : Nat) ({ cls := "ElectionHouseModel", name := "digest", desc := "()V" } : Jvm.MethodName)) ∈ lw_all := lw_g (lw_at lw_m9 237 rfl) rfl
theorem q2439 : (Jvm.Cond.privateMethod ({ cls := "ElectionHouseModel", name := "digest", desc := "()V" } : Jvm.MethodName)) ∈ lw_tbl := lw_at lw_m9 238 rfl
theorem q2440 : (Jvm.Cond.instanceMethod ({ cls := "ElectionHouseModel", name := "digest", desc := "()V" } : Jvm.MethodName)) ∈ lw_all := lw_g (lw_at lw_m9 239 rfl) rfl
theorem q2441 : (Jvm.Cond.code ({ cls := "ElectionHouseModel", name := "digest", desc := "()V" } : Jvm.MethodName) prog_17_method_202_code (7 : Nat) (Option.none : Option Jvm.ClassFile.FieldType)) ∈ lw_all := lw_g (lw_at lw_m10 0 rfl) rfl
theorem q2442 : (Jvm.Cond.methodLink "ElectionHouseModel" (1275 : Nat) ({ cls := "ElectionHouseModel", name := "turn", desc := "(II)I" } : Jvm.MethodName)) ∈ lw_all := lw_g (lw_at lw_m10 1 rfl) rfl
theorem q2443 : (Jvm.Cond.static ({ cls := "ElectionHouseModel", name := "turn", desc := "(II)I" } : Jvm.MethodName)) ∈ lw_all := lw_g (lw_at lw_m10 2 rfl) rfl
theorem q2444 : (Jvm.Cond.code ({ cls := "ElectionHouseModel", name := "turn", desc := "(II)I" } : Jvm.MethodName) prog_17_method_201_code (2 : Nat) (Option.some Jvm.ClassFile.FieldType.int)) ∈ lw_all := lw_g (lw_at lw_m10 3 rfl) rfl
theorem q2446 : (Jvm.Cond.instanceMethod ({ cls := "ElectionHouseModel", name := "area", desc := "(I)I" } : Jvm.MethodName)) ∈ lw_all := lw_g (lw_at lw_m10 5 rfl) rfl
theorem q2447 : (Jvm.Cond.selects "ElectionHouseModel" ({ cls := "ElectionHouseModel", name := "area", desc := "(I)I" } : Jvm.MethodName) ({ cls := "ElectionHouseModel", name := "area", desc := "(I)I" } : Jvm.MethodName)) ∈ lw_all := lw_g (lw_at lw_m10 6 rfl) rfl
theorem q2448 : (Jvm.Cond.code ({ cls := "ElectionHouseModel", name := "area", desc := "(I)I" } : Jvm.MethodName) prog_17_method_12_code (2 : Nat) (Option.some Jvm.ClassFile.FieldType.int)) ∈ lw_all := lw_g (lw_at lw_m10 7 rfl) rfl
theorem q2449 : (Jvm.Cond.constantLong "ElectionHouseModel" (59 : Nat) (2 : Int64)) ∈ lw_all := lw_g (lw_at lw_m10 8 rfl) rfl
theorem q2451 : (Jvm.Cond.instanceMethod ({ cls := "ElectionHouseModel", name := "border", desc := "(IIII)I" } : Jvm.MethodName)) ∈ lw_all := lw_g (lw_at lw_m10 10 rfl) rfl
theorem q2452 : (Jvm.Cond.selects "ElectionHouseModel" ({ cls := "ElectionHouseModel", name := "border", desc := "(IIII)I" } : Jvm.MethodName) ({ cls := "ElectionHouseModel", name := "border", desc := "(IIII)I" } : Jvm.MethodName)) ∈ lw_all := lw_g (lw_at lw_m10 11 rfl) rfl
theorem q2453 : (Jvm.Cond.code ({ cls := "ElectionHouseModel", name := "border", desc := "(IIII)I" } : Jvm.MethodName) prog_17_method_13_code (5 : Nat) (Option.some Jvm.ClassFile.FieldType.int)) ∈ lw_all := lw_g (lw_at lw_m10 12 rfl) rfl
theorem q2454 : (Jvm.Cond.constantLong "ElectionHouseModel" (68 : Nat) (999 : Int64)) ∈ lw_all := lw_g (lw_at lw_m10 13 rfl) rfl
theorem q2455 : (Jvm.Cond.methodLink "ElectionHouseModel" (70 : Nat) ({ cls := "ElectionHouseModel", name := "isDay", desc := "(I)Z" } : Jvm.MethodName)) ∈ lw_all := lw_g (lw_at lw_m10 14 rfl) rfl
theorem q2456 : (Jvm.Cond.static ({ cls := "ElectionHouseModel", name := "isDay", desc := "(I)Z" } : Jvm.MethodName)) ∈ lw_all := lw_g (lw_at lw_m10 15 rfl) rfl
theorem q2457 : (Jvm.Cond.code ({ cls := "ElectionHouseModel", name := "isDay", desc := "(I)Z" } : Jvm.MethodName) prog_17_method_5_code (1 : Nat) (Option.some Jvm.ClassFile.FieldType.boolean)) ∈ lw_all := lw_g (lw_at lw_m10 16 rfl) rfl
theorem q2458 : (Jvm.Cond.constantLong "ElectionHouseModel" (26 : Nat) (-36524 : Int64)) ∈ lw_all := lw_g (lw_at lw_m10 17 rfl) rfl
theorem q2460 : (Jvm.Cond.instanceMethod ({ cls := "ElectionHouseModel", name := "areaOf", desc := "(III)I" } : Jvm.MethodName)) ∈ lw_all := lw_g (lw_at lw_m10 19 rfl) rfl
theorem q2461 : (Jvm.Cond.selects "ElectionHouseModel" ({ cls := "ElectionHouseModel", name := "areaOf", desc := "(III)I" } : Jvm.MethodName) ({ cls := "ElectionHouseModel", name := "areaOf", desc := "(III)I" } : Jvm.MethodName)) ∈ lw_all := lw_g (lw_at lw_m10 20 rfl) rfl
theorem q2462 : (Jvm.Cond.code ({ cls := "ElectionHouseModel", name := "areaOf", desc := "(III)I" } : Jvm.MethodName) prog_17_method_15_code (4 : Nat) (Option.some Jvm.ClassFile.FieldType.int)) ∈ lw_all := lw_g (lw_at lw_m10 21 rfl) rfl
theorem q2463 : (Jvm.Cond.methodLink "ElectionHouseModel" (89 : Nat) ({ cls := "ElectionHouseModel", name := "lies", desc := "(III)I" } : Jvm.MethodName)) ∈ lw_all := lw_g (lw_at lw_m10 22 rfl) rfl
theorem q2464 : (Jvm.Cond.privateMethod ({ cls := "ElectionHouseModel", name := "lies", desc := "(III)I" } : Jvm.MethodName)) ∈ lw_tbl := lw_at lw_m10 23 rfl
theorem q2465 : (Jvm.Cond.instanceMethod ({ cls := "ElectionHouseModel", name := "lies", desc := "(III)I" } : Jvm.MethodName)) ∈ lw_all := lw_g (lw_at lw_m10 24 rfl) rfl
theorem q2466 : (Jvm.Cond.code ({ cls := "ElectionHouseModel", name := "lies", desc := "(III)I" } : Jvm.MethodName) prog_17_method_14_code (7 : Nat) (Option.some Jvm.ClassFile.FieldType.int)) ∈ lw_all := lw_g (lw_at lw_m10 25 rfl) rfl
theorem q2468 : (Jvm.Cond.instanceMethod ({ cls := "ElectionHouseModel", name := "person", desc := "(III)I" } : Jvm.MethodName)) ∈ lw_all := lw_g (lw_at lw_m10 27 rfl) rfl
theorem q2469 : (Jvm.Cond.selects "ElectionHouseModel" ({ cls := "ElectionHouseModel", name := "person", desc := "(III)I" } : Jvm.MethodName) ({ cls := "ElectionHouseModel", name := "person", desc := "(III)I" } : Jvm.MethodName)) ∈ lw_all := lw_g (lw_at lw_m10 28 rfl) rfl
theorem q2470 : (Jvm.Cond.code ({ cls := "ElectionHouseModel", name := "person", desc := "(III)I" } : Jvm.MethodName) prog_17_method_17_code (5 : Nat) (Option.some Jvm.ClassFile.FieldType.int)) ∈ lw_all := lw_g (lw_at lw_m10 29 rfl) rfl
theorem q2471 : (Jvm.Cond.methodLink "ElectionHouseModel" (48 : Nat) ({ cls := "ElectionHouseModel", name := "dayOf", desc := "(III)I" } : Jvm.MethodName)) ∈ lw_all := lw_g (lw_at lw_m10 30 rfl) rfl
theorem q2472 : (Jvm.Cond.static ({ cls := "ElectionHouseModel", name := "dayOf", desc := "(III)I" } : Jvm.MethodName)) ∈ lw_all := lw_g (lw_at lw_m10 31 rfl) rfl
theorem q2473 : (Jvm.Cond.code ({ cls := "ElectionHouseModel", name := "dayOf", desc := "(III)I" } : Jvm.MethodName) prog_17_method_8_code (5 : Nat) (Option.some Jvm.ClassFile.FieldType.int)) ∈ lw_all := lw_g (lw_at lw_m10 32 rfl) rfl
theorem q2474 : (Jvm.Cond.constantLong "ElectionHouseModel" (32 : Nat) (1900 : Int64)) ∈ lw_all := lw_g (lw_at lw_m10 33 rfl) rfl
theorem q2475 : (Jvm.Cond.constantLong "ElectionHouseModel" (34 : Nat) (2099 : Int64)) ∈ lw_all := lw_g (lw_at lw_m10 34 rfl) rfl
theorem q2476 : (Jvm.Cond.constantLong "ElectionHouseModel" (36 : Nat) (12 : Int64)) ∈ lw_all := lw_g (lw_at lw_m10 35 rfl) rfl
theorem q2477 : (Jvm.Cond.methodLink "ElectionHouseModel" (38 : Nat) ({ cls := "ElectionHouseModel", name := "monthDays", desc := "(II)I" } : Jvm.MethodName)) ∈ lw_all := lw_g (lw_at lw_m10 36 rfl) rfl
theorem q2478 : (Jvm.Cond.static ({ cls := "ElectionHouseModel", name := "monthDays", desc := "(II)I" } : Jvm.MethodName)) ∈ lw_all := lw_g (lw_at lw_m10 37 rfl) rfl
theorem q2479 : (Jvm.Cond.code ({ cls := "ElectionHouseModel", name := "monthDays", desc := "(II)I" } : Jvm.MethodName) prog_17_method_7_code (2 : Nat) (Option.some Jvm.ClassFile.FieldType.int)) ∈ lw_all := lw_g (lw_at lw_m10 38 rfl) rfl
theorem q2480 : (Jvm.Cond.methodLink "ElectionHouseModel" (28 : Nat) ({ cls := "ElectionHouseModel", name := "yearDays", desc := "(I)I" } : Jvm.MethodName)) ∈ lw_all := lw_g (lw_at lw_m10 39 rfl) rfl
theorem q2481 : (Jvm.Cond.static ({ cls := "ElectionHouseModel", name := "yearDays", desc := "(I)I" } : Jvm.MethodName)) ∈ lw_all := lw_g (lw_at lw_m10 40 rfl) rfl
theorem q2482 : (Jvm.Cond.code ({ cls := "ElectionHouseModel", name := "yearDays", desc := "(I)I" } : Jvm.MethodName) prog_17_method_6_code (1 : Nat) (Option.some Jvm.ClassFile.FieldType.int)) ∈ lw_all := lw_g (lw_at lw_m10 41 rfl) rfl
theorem q2483 : (Jvm.Cond.constant "ElectionHouseModel" (42 : Nat) (-2147483648 : Int32)) ∈ lw_all := lw_g (lw_at lw_m10 42 rfl) rfl
theorem q2485 : (Jvm.Cond.instanceMethod ({ cls := "ElectionHouseModel", name := "move", desc := "(III)I" } : Jvm.MethodName)) ∈ lw_all := lw_g (lw_at lw_m10 44 rfl) rfl
theorem q2486 : (Jvm.Cond.selects "ElectionHouseModel" ({ cls := "ElectionHouseModel", name := "move", desc := "(III)I" } : Jvm.MethodName) ({ cls := "ElectionHouseModel", name := "move", desc := "(III)I" } : Jvm.MethodName)) ∈ lw_all := lw_g (lw_at lw_m10 45 rfl) rfl
theorem q2487 : (Jvm.Cond.code ({ cls := "ElectionHouseModel", name := "move", desc := "(III)I" } : Jvm.MethodName) prog_17_method_19_code (4 : Nat) (Option.some Jvm.ClassFile.FieldType.int)) ∈ lw_all := lw_g (lw_at lw_m10 46 rfl) rfl
theorem q2488 : (Jvm.Cond.methodLink "ElectionHouseModel" (110 : Nat) ({ cls := "ElectionHouseModel", name := "isPerson", desc := "(I)Z" } : Jvm.MethodName)) ∈ lw_all := lw_g (lw_at lw_m10 47 rfl) rfl
theorem q2489 : (Jvm.Cond.privateMethod ({ cls := "ElectionHouseModel", name := "isPerson", desc := "(I)Z" } : Jvm.MethodName)) ∈ lw_tbl := lw_at lw_m10 48 rfl
theorem q2490 : (Jvm.Cond.instanceMethod ({ cls := "ElectionHouseModel", name := "isPerson", desc := "(I)Z" } : Jvm.MethodName)) ∈ lw_all := lw_g (lw_at lw_m10 49 rfl) rfl
theorem q2491 : (Jvm.Cond.code ({ cls := "ElectionHouseModel", name := "isPerson", desc := "(I)Z" } : Jvm.MethodName) prog_17_method_18_code (2 : Nat) (Option.some Jvm.ClassFile.FieldType.boolean)) ∈ lw_all := lw_g (lw_at lw_m10 50 rfl) rfl
theorem q2492 : (Jvm.Cond.constantLong "ElectionHouseModel" (113 : Nat) (-1 : Int64)) ∈ lw_all := lw_g (lw_at lw_m10 51 rfl) rfl
theorem q2494 : (Jvm.Cond.instanceMethod ({ cls := "ElectionHouseModel", name := "fact", desc := "(IIIII)I" } : Jvm.MethodName)) ∈ lw_all := lw_g (lw_at lw_m10 53 rfl) rfl
theorem q2495 : (Jvm.Cond.selects "ElectionHouseModel" ({ cls := "ElectionHouseModel", name := "fact", desc := "(IIIII)I" } : Jvm.MethodName) ({ cls := "ElectionHouseModel", name := "fact", desc := "(IIIII)I" } : Jvm.MethodName)) ∈ lw_all := lw_g (lw_at lw_m10 54 rfl) rfl
theorem q2496 : (Jvm.Cond.code ({ cls := "ElectionHouseModel", name := "fact", desc := "(IIIII)I" } : Jvm.MethodName) prog_17_method_20_code (7 : Nat) (Option.some Jvm.ClassFile.FieldType.int)) ∈ lw_all := lw_g (lw_at lw_m10 55 rfl) rfl
theorem q2497 : (Jvm.Cond.constantLong "ElectionHouseModel" (124 : Nat) (9 : Int64)) ∈ lw_all := lw_g (lw_at lw_m10 56 rfl) rfl
theorem q2499 : (Jvm.Cond.instanceMethod ({ cls := "ElectionHouseModel", name := "die", desc := "(II)I" } : Jvm.MethodName)) ∈ lw_all := lw_g (lw_at lw_m10 58 rfl) rfl
theorem q2500 : (Jvm.Cond.selects "ElectionHouseModel" ({ cls := "ElectionHouseModel", name := "die", desc := "(II)I" } : Jvm.MethodName) ({ cls := "ElectionHouseModel", name := "die", desc := "(II)I" } : Jvm.MethodName)) ∈ lw_all := lw_g (lw_at lw_m10 59 rfl) rfl
theorem q2501 : (Jvm.Cond.code ({ cls := "ElectionHouseModel", name := "die", desc := "(II)I" } : Jvm.MethodName) prog_17_method_21_code (3 : Nat) (Option.some Jvm.ClassFile.FieldType.int)) ∈ lw_all := lw_g (lw_at lw_m10 60 rfl) rfl
theorem q2503 : (Jvm.Cond.instanceMethod ({ cls := "ElectionHouseModel", name := "age", desc := "(II)I" } : Jvm.MethodName)) ∈ lw_all := lw_g (lw_at lw_m10 62 rfl) rfl
theorem q2504 : (Jvm.Cond.selects "ElectionHouseModel" ({ cls := "ElectionHouseModel", name := "age", desc := "(II)I" } : Jvm.MethodName) ({ cls := "ElectionHouseModel", name := "age", desc := "(II)I" } : Jvm.MethodName)) ∈ lw_all := lw_g (lw_at lw_m10 63 rfl) rfl
theorem q2505 : (Jvm.Cond.code ({ cls := "ElectionHouseModel", name := "age", desc := "(II)I" } : Jvm.MethodName) prog_17_method_26_code (3 : Nat) (Option.some Jvm.ClassFile.FieldType.int)) ∈ lw_all := lw_g (lw_at lw_m10 64 rfl) rfl
theorem q2506 : (Jvm.Cond.methodLink "ElectionHouseModel" (148 : Nat) ({ cls := "ElectionHouseModel", name := "ageOn", desc := "(II)I" } : Jvm.MethodName)) ∈ lw_all := lw_g (lw_at lw_m10 65 rfl) rfl
theorem q2507 : (Jvm.Cond.privateMethod ({ cls := "ElectionHouseModel", name := "ageOn", desc := "(II)I" } : Jvm.MethodName)) ∈ lw_tbl := lw_at lw_m10 66 rfl
theorem q2508 : (Jvm.Cond.instanceMethod ({ cls := "ElectionHouseModel", name := "ageOn", desc := "(II)I" } : Jvm.MethodName)) ∈ lw_all := lw_g (lw_at lw_m10 67 rfl) rfl
theorem q2509 : (Jvm.Cond.code ({ cls := "ElectionHouseModel", name := "ageOn", desc := "(II)I" } : Jvm.MethodName) prog_17_method_23_code (7 : Nat) (Option.some Jvm.ClassFile.FieldType.int)) ∈ lw_all := lw_g (lw_at lw_m10 68 rfl) rfl
theorem q2511 : (Jvm.Cond.instanceMethod ({ cls := "ElectionHouseModel", name := "addressOf", desc := "(II)I" } : Jvm.MethodName)) ∈ lw_all := lw_g (lw_at lw_m10 70 rfl) rfl
theorem q2512 : (Jvm.Cond.selects "ElectionHouseModel" ({ cls := "ElectionHouseModel", name := "addressOf", desc := "(II)I" } : Jvm.MethodName) ({ cls := "ElectionHouseModel", name := "addressOf", desc := "(II)I" } : Jvm.MethodName)) ∈ lw_all := lw_g (lw_at lw_m10 71 rfl) rfl
theorem q2513 : (Jvm.Cond.code ({ cls := "ElectionHouseModel", name := "addressOf", desc := "(II)I" } : Jvm.MethodName) prog_17_method_27_code (3 : Nat) (Option.some Jvm.ClassFile.FieldType.int)) ∈ lw_all := lw_g (lw_at lw_m10 72 rfl) rfl
theorem q2514 : (Jvm.Cond.methodLink "ElectionHouseModel" (151 : Nat) ({ cls := "ElectionHouseModel", name := "addressOn", desc := "(II)I" } : Jvm.MethodName)) ∈ lw_all := lw_g (lw_at lw_m10 73 rfl) rfl
theorem q2515 : (Jvm.Cond.privateMethod ({ cls := "ElectionHouseModel", name := "addressOn", desc := "(II)I" } : Jvm.MethodName)) ∈ lw_tbl := lw_at lw_m10 74 rfl
theorem q2516 : (Jvm.Cond.instanceMethod ({ cls := "ElectionHouseModel", name := "addressOn", desc := "(II)I" } : Jvm.MethodName)) ∈ lw_all := lw_g (lw_at lw_m10 75 rfl) rfl
theorem q2517 : (Jvm.Cond.code ({ cls := "ElectionHouseModel", name := "addressOn", desc := "(II)I" } : Jvm.MethodName) prog_17_method_24_code (5 : Nat) (Option.some Jvm.ClassFile.FieldType.int)) ∈ lw_all := lw_g (lw_at lw_m10 76 rfl) rfl
theorem q2519 : (Jvm.Cond.instanceMethod ({ cls := "ElectionHouseModel", name := "is", desc := "(III)I" } : Jvm.MethodName)) ∈ lw_all := lw_g (lw_at lw_m10 78 rfl) rfl
theorem q2520 : (Jvm.Cond.selects "ElectionHouseModel" ({ cls := "ElectionHouseModel", name := "is", desc := "(III)I" } : Jvm.MethodName) ({ cls := "ElectionHouseModel", name := "is", desc := "(III)I" } : Jvm.MethodName)) ∈ lw_all := lw_g (lw_at lw_m10 79 rfl) rfl
theorem q2521 : (Jvm.Cond.code ({ cls := "ElectionHouseModel", name := "is", desc := "(III)I" } : Jvm.MethodName) prog_17_method_28_code (4 : Nat) (Option.some Jvm.ClassFile.FieldType.int)) ∈ lw_all := lw_g (lw_at lw_m10 80 rfl) rfl
theorem q2522 : (Jvm.Cond.methodLink "ElectionHouseModel" (154 : Nat) ({ cls := "ElectionHouseModel", name := "isSo", desc := "(III)Z" } : Jvm.MethodName)) ∈ lw_all := lw_g (lw_at lw_m10 81 rfl) rfl
theorem q2523 : (Jvm.Cond.privateMethod ({ cls := "ElectionHouseModel", name := "isSo", desc := "(III)Z" } : Jvm.MethodName)) ∈ lw_tbl := lw_at lw_m10 82 rfl
theorem q2524 : (Jvm.Cond.instanceMethod ({ cls := "ElectionHouseModel", name := "isSo", desc := "(III)Z" } : Jvm.MethodName)) ∈ lw_all := lw_g (lw_at lw_m10 83 rfl) rfl
theorem q2525 : (Jvm.Cond.code ({ cls := "ElectionHouseModel", name := "isSo", desc := "(III)Z" } : Jvm.MethodName) prog_17_method_25_code (6 : Nat) (Option.some Jvm.ClassFile.FieldType.boolean)) ∈ lw_all := lw_g (lw_at lw_m10 84 rfl) rfl
theorem q2527 : (Jvm.Cond.instanceMethod ({ cls := "ElectionHouseModel", name := "law", desc := "()I" } : Jvm.MethodName)) ∈ lw_all := lw_g (lw_at lw_m10 86 rfl) rfl
theorem q2528 : (Jvm.Cond.selects "ElectionHouseModel" ({ cls := "ElectionHouseModel", name := "law", desc := "()I" } : Jvm.MethodName) ({ cls := "ElectionHouseModel", name := "law", desc := "()I" } : Jvm.MethodName)) ∈ lw_all := lw_g (lw_at lw_m10 87 rfl) rfl
theorem q2529 : (Jvm.Cond.code ({ cls := "ElectionHouseModel", name := "law", desc := "()I" } : Jvm.MethodName) prog_17_method_59_code (2 : Nat) (Option.some Jvm.ClassFile.FieldType.int)) ∈ lw_all := lw_g (lw_at lw_m10 88 rfl) rfl
theorem q2530 : (Jvm.Cond.methodLink "ElectionHouseModel" (457 : Nat) ({ cls := "ElectionHouseModel", name := "readLaw", desc := "()I" } : Jvm.MethodName)) ∈ lw_all := lw_g (lw_at lw_m10 89 rfl) rfl
theorem q2531 : (Jvm.Cond.privateMethod ({ cls := "ElectionHouseModel", name := "readLaw", desc := "()I" } : Jvm.MethodName)) ∈ lw_tbl := lw_at lw_m10 90 rfl
theorem q2532 : (Jvm.Cond.instanceMethod ({ cls := "ElectionHouseModel", name := "readLaw", desc := "()I" } : Jvm.MethodName)) ∈ lw_all := lw_g (lw_at lw_m10 91 rfl) rfl
theorem q2533 : (Jvm.Cond.code ({ cls := "ElectionHouseModel", name := "readLaw", desc := "()I" } : Jvm.MethodName) prog_17_method_58_code (2 : Nat) (Option.some Jvm.ClassFile.FieldType.int)) ∈ lw_all := lw_g (lw_at lw_m10 92 rfl) rfl
theorem q2534 : (Jvm.Cond.constant "ElectionHouseModel" (449 : Nat) (2147483647 : Int32)) ∈ lw_all := lw_g (lw_at lw_m10 93 rfl) rfl
theorem q2535 : (Jvm.Cond.methodLink "ElectionHouseModel" (450 : Nat) ({ cls := "ElectionHouseModel", name := "cutSigns", desc := "()V" } : Jvm.MethodName)) ∈ lw_all := lw_g (lw_at lw_m10 94 rfl) rfl
theorem q2536 : (Jvm.Cond.privateMethod ({ cls := "ElectionHouseModel", name := "cutSigns", desc := "()V" } : Jvm.MethodName)) ∈ lw_tbl := lw_at lw_m10 95 rfl
theorem q2537 : (Jvm.Cond.instanceMethod ({ cls := "ElectionHouseModel", name := "cutSigns", desc := "()V" } : Jvm.MethodName)) ∈ lw_all := lw_g (lw_at lw_m10 96 rfl) rfl
theorem q2538 : (Jvm.Cond.code ({ cls := "ElectionHouseModel", name := "cutSigns", desc := "()V" } : Jvm.MethodName) prog_17_method_30_code (7 : Nat) (Option.none : Option Jvm.ClassFile.FieldType)) ∈ lw_all := lw_g (lw_at lw_m10 97 rfl) rfl
theorem q2539 : (Jvm.Cond.methodLink "ElectionHouseModel" (164 : Nat) ({ cls := "ElectionHouseModel", name := "textAt", desc := "(I)I" } : Jvm.MethodName)) ∈ lw_all := lw_g (lw_at lw_m10 98 rfl) rfl
theorem q2540 : (Jvm.Cond.privateMethod ({ cls := "ElectionHouseModel", name := "textAt", desc := "(I)I" } : Jvm.MethodName)) ∈ lw_tbl := lw_at lw_m10 99 rfl
theorem q2541 : (Jvm.Cond.instanceMethod ({ cls := "ElectionHouseModel", name := "textAt", desc := "(I)I" } : Jvm.MethodName)) ∈ lw_all := lw_g (lw_at lw_m10 100 rfl) rfl
theorem q2542 : (Jvm.Cond.code ({ cls := "ElectionHouseModel", name := "textAt", desc := "(I)I" } : Jvm.MethodName) prog_17_method_29_code (2 : Nat) (Option.some Jvm.ClassFile.FieldType.int)) ∈ lw_all := lw_g (lw_at lw_m10 101 rfl) rfl
theorem q2543 : (Jvm.Cond.constantLong "ElectionHouseModel" (170 : Nat) (65 : Int64)) ∈ lw_all := lw_g (lw_at lw_m10 102 rfl) rfl
theorem q2544 : (Jvm.Cond.constantLong "ElectionHouseModel" (172 : Nat) (90 : Int64)) ∈ lw_all := lw_g (lw_at lw_m10 103 rfl) rfl
theorem q2545 : (Jvm.Cond.constantLong "ElectionHouseModel" (174 : Nat) (48 : Int64)) ∈ lw_all := lw_g (lw_at lw_m10 104 rfl) rfl
theorem q2546 : (Jvm.Cond.constantLong "ElectionHouseModel" (176 : Nat) (57 : Int64)) ∈ lw_all := lw_g (lw_at lw_m10 105 rfl) rfl
theorem q2547 : (Jvm.Cond.constant "ElectionHouseModel" (178 : Nat) (99999 : Int32)) ∈ lw_all := lw_g (lw_at lw_m10 106 rfl) rfl
theorem q2548 : (Jvm.Cond.methodLink "ElectionHouseModel" (179 : Nat) ({ cls := "java/lang/Math", name := "min", desc := "(II)I" } : Jvm.MethodName)) ∈ lw_all := lw_g (lw_at lw_m10 107 rfl) rfl
theorem q2549 : (Jvm.Cond.methodLink "ElectionHouseModel" (207 : Nat) ({ cls := "ElectionHouseModel", name := "isSign", desc := "(I)Z" } : Jvm.MethodName)) ∈ lw_all := lw_g (lw_at lw_m10 108 rfl) rfl
theorem q2550 : (Jvm.Cond.privateMethod ({ cls := "ElectionHouseModel", name := "isSign", desc := "(I)Z" } : Jvm.MethodName)) ∈ lw_tbl := lw_at lw_m10 109 rfl
theorem q2551 : (Jvm.Cond.instanceMethod ({ cls := "ElectionHouseModel", name := "isSign", desc := "(I)Z" } : Jvm.MethodName)) ∈ lw_all := lw_g (lw_at lw_m10 110 rfl) rfl
theorem q2552 : (Jvm.Cond.code ({ cls := "ElectionHouseModel", name := "isSign", desc := "(I)Z" } : Jvm.MethodName) prog_17_method_31_code (2 : Nat) (Option.some Jvm.ClassFile.FieldType.boolean)) ∈ lw_all := lw_g (lw_at lw_m10 111 rfl) rfl
theorem q2553 : (Jvm.Cond.methodLink "ElectionHouseModel" (454 : Nat) ({ cls := "ElectionHouseModel", name := "takeClause", desc := "()Z" } : Jvm.MethodName)) ∈ lw_all := lw_g (lw_at lw_m10 112 rfl) rfl
theorem q2554 : (Jvm.Cond.privateMethod ({ cls := "ElectionHouseModel", name := "takeClause", desc := "()Z" } : Jvm.MethodName)) ∈ lw_tbl := lw_at lw_m10 113 rfl
theorem q2555 : (Jvm.Cond.instanceMethod ({ cls := "ElectionHouseModel", name := "takeClause", desc := "()Z" } : Jvm.MethodName)) ∈ lw_all := lw_g (lw_at lw_m10 114 rfl) rfl
theorem q2556 : (Jvm.Cond.code ({ cls := "ElectionHouseModel", name := "takeClause", desc := "()Z" } : Jvm.MethodName) prog_17_method_56_code (4 : Nat) (Option.some Jvm.ClassFile.FieldType.boolean)) ∈ lw_all := lw_g (lw_at lw_m10 115 rfl) rfl
theorem q2557 : (Jvm.Cond.methodLink "ElectionHouseModel" (429 : Nat) ({ cls := "ElectionHouseModel", name := "clauseName", desc := "(I)Ljava/lang/String;" } : Jvm.MethodName)) ∈ lw_all := lw_g (lw_at lw_m10 116 rfl) rfl
theorem q2558 : (Jvm.Cond.static ({ cls := "ElectionHouseModel", name := "clauseName", desc := "(I)Ljava/lang/String;" } : Jvm.MethodName)) ∈ lw_all := lw_g (lw_at lw_m10 117 rfl) rfl
theorem q2559 : (Jvm.Cond.code ({ cls := "ElectionHouseModel", name := "clauseName", desc := "(I)Ljava/lang/String;" } : Jvm.MethodName) prog_17_method_55_code (1 : Nat) (Option.some (Jvm.ClassFile.FieldType.object "java/lang/String"))) ∈ lw_all := lw_g (lw_at lw_m10 118 rfl) rfl
theorem q2560 : (Jvm.Cond.stringRef "ElectionHouseModel" (413 : Nat) "DAYS") ∈ lw_tbl := lw_at lw_m10 119 rfl
theorem q2561 : (Jvm.Cond.stringRef "ElectionHouseModel" (415 : Nat) "EVE") ∈ lw_tbl := lw_at lw_m10 120 rfl
theorem q2562 : (Jvm.Cond.stringRef "ElectionHouseModel" (417 : Nat) "VOTE") ∈ lw_tbl := lw_at lw_m10 121 rfl
theorem q2563 : (Jvm.Cond.stringRef "ElectionHouseModel" (419 : Nat) "STAND") ∈ lw_tbl := lw_at lw_m10 122 rfl
theorem q2564 : (Jvm.Cond.stringRef "ElectionHouseModel" (421 : Nat) "SIGNATURES") ∈ lw_tbl := lw_at lw_m10 123 rfl
theorem q2565 : (Jvm.Cond.stringRef "ElectionHouseModel" (423 : Nat) "SPOIL") ∈ lw_tbl := lw_at lw_m10 124 rfl
theorem q2566 : (Jvm.Cond.stringRef "ElectionHouseModel" (425 : Nat) "MAIL") ∈ lw_tbl := lw_at lw_m10 125 rfl
theorem q2567 : (Jvm.Cond.stringRef "ElectionHouseModel" (427 : Nat) "CONTEST") ∈ lw_tbl := lw_at lw_m10 126 rfl
theorem q2568 : (Jvm.Cond.methodLink "ElectionHouseModel" (249 : Nat) ({ cls := "ElectionHouseModel", name := "mayWord", desc := "(Ljava/lang/String;)Z" } : Jvm.MethodName)) ∈ lw_all := lw_g (lw_at lw_m10 127 rfl) rfl
theorem q2569 : (Jvm.Cond.privateMethod ({ cls := "ElectionHouseModel", name := "mayWord", desc := "(Ljava/lang/String;)Z" } : Jvm.MethodName)) ∈ lw_tbl := lw_at lw_m10 128 rfl
theorem q2570 : (Jvm.Cond.instanceMethod ({ cls := "ElectionHouseModel", name := "mayWord", desc := "(Ljava/lang/String;)Z" } : Jvm.MethodName)) ∈ lw_all := lw_g (lw_at lw_m10 129 rfl) rfl
theorem q2571 : (Jvm.Cond.code ({ cls := "ElectionHouseModel", name := "mayWord", desc := "(Ljava/lang/String;)Z" } : Jvm.MethodName) prog_17_method_37_code (3 : Nat) (Option.some Jvm.ClassFile.FieldType.boolean)) ∈ lw_all := lw_g (lw_at lw_m10 130 rfl) rfl
theorem q2572 : (Jvm.Cond.methodLink "ElectionHouseModel" (214 : Nat) ({ cls := "ElectionHouseModel", name := "isWord", desc := "(Ljava/lang/String;)Z" } : Jvm.MethodName)) ∈ lw_all := lw_g (lw_at lw_m10 131 rfl) rfl
theorem q2573 : (Jvm.Cond.privateMethod ({ cls := "ElectionHouseModel", name := "isWord", desc := "(Ljava/lang/String;)Z" } : Jvm.MethodName)) ∈ lw_tbl := lw_at lw_m10 132 rfl
theorem q2574 : (Jvm.Cond.instanceMethod ({ cls := "ElectionHouseModel", name := "isWord", desc := "(Ljava/lang/String;)Z" } : Jvm.MethodName)) ∈ lw_all := lw_g (lw_at lw_m10 133 rfl) rfl
theorem q2575 : (Jvm.Cond.code ({ cls := "ElectionHouseModel", name := "isWord", desc := "(Ljava/lang/String;)Z" } : Jvm.MethodName) prog_17_method_32_code (3 : Nat) (Option.some Jvm.ClassFile.FieldType.boolean)) ∈ lw_all := lw_g (lw_at lw_m10 134 rfl) rfl
theorem q2576 : (Jvm.Cond.methodLink "ElectionHouseModel" (191 : Nat) ({ cls := "java/lang/String", name := "length", desc := "()I" } : Jvm.MethodName)) ∈ lw_all := lw_g (lw_at lw_m10 135 rfl) rfl
theorem q2577 : (Jvm.Cond.methodLink "ElectionHouseModel" (197 : Nat) ({ cls := "java/lang/String", name := "charAt", desc := "(I)C" } : Jvm.MethodName)) ∈ lw_all := lw_g (lw_at lw_m10 136 rfl) rfl
theorem q2578 : (Jvm.Cond.methodLink "ElectionHouseModel" (210 : Nat) ({ cls := "ElectionHouseModel", name := "miss", desc := "()Z" } : Jvm.MethodName)) ∈ lw_all := lw_g (lw_at lw_m10 137 rfl) rfl
theorem q2579 : (Jvm.Cond.privateMethod ({ cls := "ElectionHouseModel", name := "miss", desc := "()Z" } : Jvm.MethodName)) ∈ lw_tbl := lw_at lw_m10 138 rfl
theorem q2580 : (Jvm.Cond.instanceMethod ({ cls := "ElectionHouseModel", name := "miss", desc := "()Z" } : Jvm.MethodName)) ∈ lw_all := lw_g (lw_at lw_m10 139 rfl) rfl
theorem q2581 : (Jvm.Cond.code ({ cls := "ElectionHouseModel", name := "miss", desc := "()Z" } : Jvm.MethodName) prog_17_method_33_code (1 : Nat) (Option.some Jvm.ClassFile.FieldType.boolean)) ∈ lw_all := lw_g (lw_at lw_m10 140 rfl) rfl
theorem q2582 : (Jvm.Cond.methodLink "ElectionHouseModel" (224 : Nat) ({ cls := "ElectionHouseModel", name := "blame", desc := "(I)V" } : Jvm.MethodName)) ∈ lw_all := lw_g (lw_at lw_m10 141 rfl) rfl
theorem q2583 : (Jvm.Cond.privateMethod ({ cls := "ElectionHouseModel", name := "blame", desc := "(I)V" } : Jvm.MethodName)) ∈ lw_tbl := lw_at lw_m10 142 rfl
theorem q2584 : (Jvm.Cond.instanceMethod ({ cls := "ElectionHouseModel", name := "blame", desc := "(I)V" } : Jvm.MethodName)) ∈ lw_all := lw_g (lw_at lw_m10 143 rfl) rfl
theorem q2585 : (Jvm.Cond.code ({ cls := "ElectionHouseModel", name := "blame", desc := "(I)V" } : Jvm.MethodName) prog_17_method_34_code (2 : Nat) (Option.none : Option Jvm.ClassFile.FieldType)) ∈ lw_all := lw_g (lw_at lw_m10 144 rfl) rfl
theorem q2586 : (Jvm.Cond.methodLink "ElectionHouseModel" (435 : Nat) ({ cls := "ElectionHouseModel", name := "takeDays", desc := "()Z" } : Jvm.MethodName)) ∈ lw_all := lw_g (lw_at lw_m10 145 rfl) rfl
theorem q2587 : (Jvm.Cond.privateMethod ({ cls := "ElectionHouseModel", name := "takeDays", desc := "()Z" } : Jvm.MethodName)) ∈ lw_tbl := lw_at lw_m10 146 rfl
theorem q2588 : (Jvm.Cond.instanceMethod ({ cls := "ElectionHouseModel", name := "takeDays", desc := "()Z" } : Jvm.MethodName)) ∈ lw_all := lw_g (lw_at lw_m10 147 rfl) rfl
theorem q2589 : (Jvm.Cond.code ({ cls := "ElectionHouseModel", name := "takeDays", desc := "()Z" } : Jvm.MethodName) prog_17_method_50_code (3 : Nat) (Option.some Jvm.ClassFile.FieldType.boolean)) ∈ lw_all := lw_g (lw_at lw_m10 148 rfl) rfl
theorem q2590 : (Jvm.Cond.methodLink "ElectionHouseModel" (275 : Nat) ({ cls := "ElectionHouseModel", name := "takeSign", desc := "(I)Z" } : Jvm.MethodName)) ∈ lw_all := lw_g (lw_at lw_m10 149 rfl) rfl
theorem q2591 : (Jvm.Cond.privateMethod ({ cls := "ElectionHouseModel", name := "takeSign", desc := "(I)Z" } : Jvm.MethodName)) ∈ lw_tbl := lw_at lw_m10 150 rfl
theorem q2592 : (Jvm.Cond.instanceMethod ({ cls := "ElectionHouseModel", name := "takeSign", desc := "(I)Z" } : Jvm.MethodName)) ∈ lw_all := lw_g (lw_at lw_m10 151 rfl) rfl
theorem q2593 : (Jvm.Cond.code ({ cls := "ElectionHouseModel", name := "takeSign", desc := "(I)Z" } : Jvm.MethodName) prog_17_method_35_code (2 : Nat) (Option.some Jvm.ClassFile.FieldType.boolean)) ∈ lw_all := lw_g (lw_at lw_m10 152 rfl) rfl
theorem q2594 : (Jvm.Cond.methodLink "ElectionHouseModel" (307 : Nat) ({ cls := "ElectionHouseModel", name := "takeTime", desc := "()Z" } : Jvm.MethodName)) ∈ lw_all := lw_g (lw_at lw_m10 153 rfl) rfl
theorem q2595 : (Jvm.Cond.privateMethod ({ cls := "ElectionHouseModel", name := "takeTime", desc := "()Z" } : Jvm.MethodName)) ∈ lw_tbl := lw_at lw_m10 154 rfl
theorem q2596 : (Jvm.Cond.instanceMethod ({ cls := "ElectionHouseModel", name := "takeTime", desc := "()Z" } : Jvm.MethodName)) ∈ lw_all := lw_g (lw_at lw_m10 155 rfl) rfl
theorem q2597 : (Jvm.Cond.code ({ cls := "ElectionHouseModel", name := "takeTime", desc := "()Z" } : Jvm.MethodName) prog_17_method_44_code (3 : Nat) (Option.some Jvm.ClassFile.FieldType.boolean)) ∈ lw_all := lw_g (lw_at lw_m10 156 rfl) rfl
theorem q2598 : (Jvm.Cond.methodLink "ElectionHouseModel" (278 : Nat) ({ cls := "ElectionHouseModel", name := "takeDate", desc := "()Z" } : Jvm.MethodName)) ∈ lw_all := lw_g (lw_at lw_m10 157 rfl) rfl
theorem q2599 : (Jvm.Cond.privateMethod ({ cls := "ElectionHouseModel", name := "takeDate", desc := "()Z" } : Jvm.MethodName)) ∈ lw_tbl := lw_at lw_m10 158 rfl
theorem q2600 : (Jvm.Cond.instanceMethod ({ cls := "ElectionHouseModel", name := "takeDate", desc := "()Z" } : Jvm.MethodName)) ∈ lw_all := lw_g (lw_at lw_m10 159 rfl) rfl
theorem q2601 : (Jvm.Cond.code ({ cls := "ElectionHouseModel", name := "takeDate", desc := "()Z" } : Jvm.MethodName) prog_17_method_42_code (5 : Nat) (Option.some Jvm.ClassFile.FieldType.boolean)) ∈ lw_all := lw_g (lw_at lw_m10 160 rfl) rfl
theorem q2602 : (Jvm.Cond.stringRef "ElectionHouseModel" (258 : Nat) "EASTER") ∈ lw_tbl := lw_at lw_m10 161 rfl
theorem q2603 : (Jvm.Cond.methodLink "ElectionHouseModel" (228 : Nat) ({ cls := "ElectionHouseModel", name := "takeNumber", desc := "()Z" } : Jvm.MethodName)) ∈ lw_all := lw_g (lw_at lw_m10 162 rfl) rfl
theorem q2604 : (Jvm.Cond.privateMethod ({ cls := "ElectionHouseModel", name := "takeNumber", desc := "()Z" } : Jvm.MethodName)) ∈ lw_tbl := lw_at lw_m10 163 rfl
theorem q2605 : (Jvm.Cond.instanceMethod ({ cls := "ElectionHouseModel", name := "takeNumber", desc := "()Z" } : Jvm.MethodName)) ∈ lw_all := lw_g (lw_at lw_m10 164 rfl) rfl
theorem q2606 : (Jvm.Cond.code ({ cls := "ElectionHouseModel", name := "takeNumber", desc := "()Z" } : Jvm.MethodName) prog_17_method_38_code (1 : Nat) (Option.some Jvm.ClassFile.FieldType.boolean)) ∈ lw_all := lw_g (lw_at lw_m10 165 rfl) rfl
theorem q2607 : (Jvm.Cond.constantLong "ElectionHouseModel" (52 : Nat) (2000 : Int64)) ∈ lw_all := lw_g (lw_at lw_m10 166 rfl) rfl
theorem q2608 : (Jvm.Cond.methodLink "ElectionHouseModel" (260 : Nat) ({ cls := "ElectionHouseModel", name := "easterOf", desc := "(I)I" } : Jvm.MethodName)) ∈ lw_all := lw_g (lw_at lw_m10 167 rfl) rfl
theorem q2609 : (Jvm.Cond.static ({ cls := "ElectionHouseModel", name := "easterOf", desc := "(I)I" } : Jvm.MethodName)) ∈ lw_all := lw_g (lw_at lw_m10 168 rfl) rfl
theorem q2610 : (Jvm.Cond.code ({ cls := "ElectionHouseModel", name := "easterOf", desc := "(I)I" } : Jvm.MethodName) prog_17_method_10_code (9 : Nat) (Option.some Jvm.ClassFile.FieldType.int)) ∈ lw_all := lw_g (lw_at lw_m10 169 rfl) rfl
theorem q2611 : (Jvm.Cond.stringRef "ElectionHouseModel" (263 : Nat) "LAST") ∈ lw_tbl := lw_at lw_m10 170 rfl
theorem q2612 : (Jvm.Cond.methodLink "ElectionHouseModel" (265 : Nat) ({ cls := "ElectionHouseModel", name := "takePlain", desc := "(I)Z" } : Jvm.MethodName)) ∈ lw_all := lw_g (lw_at lw_m10 171 rfl) rfl
theorem q2613 : (Jvm.Cond.privateMethod ({ cls := "ElectionHouseModel", name := "takePlain", desc := "(I)Z" } : Jvm.MethodName)) ∈ lw_tbl := lw_at lw_m10 172 rfl
theorem q2614 : (Jvm.Cond.instanceMethod ({ cls := "ElectionHouseModel", name := "takePlain", desc := "(I)Z" } : Jvm.MethodName)) ∈ lw_all := lw_g (lw_at lw_m10 173 rfl) rfl
theorem q2615 : (Jvm.Cond.code ({ cls := "ElectionHouseModel", name := "takePlain", desc := "(I)Z" } : Jvm.MethodName) prog_17_method_43_code (3 : Nat) (Option.some Jvm.ClassFile.FieldType.boolean)) ∈ lw_all := lw_g (lw_at lw_m10 174 rfl) rfl
theorem q2616 : (Jvm.Cond.methodLink "ElectionHouseModel" (268 : Nat) ({ cls := "ElectionHouseModel", name := "takeWeekday", desc := "()I" } : Jvm.MethodName)) ∈ lw_all := lw_g (lw_at lw_m10 175 rfl) rfl
theorem q2617 : (Jvm.Cond.privateMethod ({ cls := "ElectionHouseModel", name := "takeWeekday", desc := "()I" } : Jvm.MethodName)) ∈ lw_tbl := lw_at lw_m10 176 rfl
theorem q2618 : (Jvm.Cond.instanceMethod ({ cls := "ElectionHouseModel", name := "takeWeekday", desc := "()I" } : Jvm.MethodName)) ∈ lw_all := lw_g (lw_at lw_m10 177 rfl) rfl
theorem q2619 : (Jvm.Cond.code ({ cls := "ElectionHouseModel", name := "takeWeekday", desc := "()I" } : Jvm.MethodName) prog_17_method_41_code (2 : Nat) (Option.some Jvm.ClassFile.FieldType.int)) ∈ lw_all := lw_g (lw_at lw_m10 178 rfl) rfl
theorem q2620 : (Jvm.Cond.methodLink "ElectionHouseModel" (245 : Nat) ({ cls := "ElectionHouseModel", name := "weekdayName", desc := "(I)Ljava/lang/String;" } : Jvm.MethodName)) ∈ lw_all := lw_g (lw_at lw_m10 179 rfl) rfl
theorem q2621 : (Jvm.Cond.static ({ cls := "ElectionHouseModel", name := "weekdayName", desc := "(I)Ljava/lang/String;" } : Jvm.MethodName)) ∈ lw_all := lw_g (lw_at lw_m10 180 rfl) rfl
theorem q2622 : (Jvm.Cond.code ({ cls := "ElectionHouseModel", name := "weekdayName", desc := "(I)Ljava/lang/String;" } : Jvm.MethodName) prog_17_method_40_code (1 : Nat) (Option.some (Jvm.ClassFile.FieldType.object "java/lang/String"))) ∈ lw_all := lw_g (lw_at lw_m10 181 rfl) rfl
theorem q2623 : (Jvm.Cond.stringRef "ElectionHouseModel" (231 : Nat) "MON") ∈ lw_tbl := lw_at lw_m10 182 rfl
theorem q2624 : (Jvm.Cond.stringRef "ElectionHouseModel" (233 : Nat) "TUE") ∈ lw_tbl := lw_at lw_m10 183 rfl
theorem q2625 : (Jvm.Cond.stringRef "ElectionHouseModel" (235 : Nat) "WED") ∈ lw_tbl := lw_at lw_m10 184 rfl
theorem q2626 : (Jvm.Cond.stringRef "ElectionHouseModel" (237 : Nat) "THU") ∈ lw_tbl := lw_at lw_m10 185 rfl
theorem q2627 : (Jvm.Cond.stringRef "ElectionHouseModel" (239 : Nat) "FRI") ∈ lw_tbl := lw_at lw_m10 186 rfl
theorem q2628 : (Jvm.Cond.stringRef "ElectionHouseModel" (241 : Nat) "SAT") ∈ lw_tbl := lw_at lw_m10 187 rfl
theorem q2629 : (Jvm.Cond.stringRef "ElectionHouseModel" (243 : Nat) "SUN") ∈ lw_tbl := lw_at lw_m10 188 rfl
theorem q2630 : (Jvm.Cond.methodLink "ElectionHouseModel" (271 : Nat) ({ cls := "ElectionHouseModel", name := "nthOf", desc := "(IIII)I" } : Jvm.MethodName)) ∈ lw_all := lw_g (lw_at lw_m10 189 rfl) rfl
theorem q2631 : (Jvm.Cond.static ({ cls := "ElectionHouseModel", name := "nthOf", desc := "(IIII)I" } : Jvm.MethodName)) ∈ lw_all := lw_g (lw_at lw_m10 190 rfl) rfl
theorem q2632 : (Jvm.Cond.code ({ cls := "ElectionHouseModel", name := "nthOf", desc := "(IIII)I" } : Jvm.MethodName) prog_17_method_11_code (8 : Nat) (Option.some Jvm.ClassFile.FieldType.int)) ∈ lw_all := lw_g (lw_at lw_m10 191 rfl) rfl
theorem q2633 : (Jvm.Cond.constantLong "ElectionHouseModel" (54 : Nat) (6 : Int64)) ∈ lw_all := lw_g (lw_at lw_m10 192 rfl) rfl
theorem q2634 : (Jvm.Cond.methodLink "ElectionHouseModel" (56 : Nat) ({ cls := "ElectionHouseModel", name := "weekdayOf", desc := "(I)I" } : Jvm.MethodName)) ∈ lw_all := lw_g (lw_at lw_m10 193 rfl) rfl
theorem q2635 : (Jvm.Cond.static ({ cls := "ElectionHouseModel", name := "weekdayOf", desc := "(I)I" } : Jvm.MethodName)) ∈ lw_all := lw_g (lw_at lw_m10 194 rfl) rfl
theorem q2636 : (Jvm.Cond.code ({ cls := "ElectionHouseModel", name := "weekdayOf", desc := "(I)I" } : Jvm.MethodName) prog_17_method_9_code (1 : Nat) (Option.some Jvm.ClassFile.FieldType.int)) ∈ lw_all := lw_g (lw_at lw_m10 195 rfl) rfl
theorem q2637 : (Jvm.Cond.methodLink "ElectionHouseModel" (43 : Nat) ({ cls := "java/lang/Math", name := "floorMod", desc := "(II)I" } : Jvm.MethodName)) ∈ lw_all := lw_g (lw_at lw_m10 196 rfl) rfl
theorem q2638 : (Jvm.Cond.methodLink "ElectionHouseModel" (438 : Nat) ({ cls := "ElectionHouseModel", name := "takeCondition", desc := "(I)Z" } : Jvm.MethodName)) ∈ lw_all := lw_g (lw_at lw_m10 197 rfl) rfl
theorem q2639 : (Jvm.Cond.privateMethod ({ cls := "ElectionHouseModel", name := "takeCondition", desc := "(I)Z" } : Jvm.MethodName)) ∈ lw_tbl := lw_at lw_m10 198 rfl
theorem q2640 : (Jvm.Cond.instanceMethod ({ cls := "ElectionHouseModel", name := "takeCondition", desc := "(I)Z" } : Jvm.MethodName)) ∈ lw_all := lw_g (lw_at lw_m10 199 rfl) rfl
theorem q2641 : (Jvm.Cond.code ({ cls := "ElectionHouseModel", name := "takeCondition", desc := "(I)Z" } : Jvm.MethodName) prog_17_method_49_code (4 : Nat) (Option.some Jvm.ClassFile.FieldType.boolean)) ∈ lw_all := lw_g (lw_at lw_m10 200 rfl) rfl
theorem q2642 : (Jvm.Cond.stringRef "ElectionHouseModel" (329 : Nat) "NOT") ∈ lw_tbl := lw_at lw_m10 201 rfl
theorem q2643 : (Jvm.Cond.methodLink "ElectionHouseModel" (325 : Nat) ({ cls := "ElectionHouseModel", name := "addStep", desc := "(II)V" } : Jvm.MethodName)) ∈ lw_all := lw_g (lw_at lw_m10 202 rfl) rfl
theorem q2644 : (Jvm.Cond.privateMethod ({ cls := "ElectionHouseModel", name := "addStep", desc := "(II)V" } : Jvm.MethodName)) ∈ lw_tbl := lw_at lw_m10 203 rfl
theorem q2645 : (Jvm.Cond.instanceMethod ({ cls := "ElectionHouseModel", name := "addStep", desc := "(II)V" } : Jvm.MethodName)) ∈ lw_all := lw_g (lw_at lw_m10 204 rfl) rfl
theorem q2646 : (Jvm.Cond.code ({ cls := "ElectionHouseModel", name := "addStep", desc := "(II)V" } : Jvm.MethodName) prog_17_method_47_code (3 : Nat) (Option.none : Option Jvm.ClassFile.FieldType)) ∈ lw_all := lw_g (lw_at lw_m10 205 rfl) rfl
theorem q2647 : (Jvm.Cond.methodLink "ElectionHouseModel" (331 : Nat) ({ cls := "ElectionHouseModel", name := "takeTest", desc := "(I)Z" } : Jvm.MethodName)) ∈ lw_all := lw_g (lw_at lw_m10 206 rfl) rfl
theorem q2648 : (Jvm.Cond.privateMethod ({ cls := "ElectionHouseModel", name := "takeTest", desc := "(I)Z" } : Jvm.MethodName)) ∈ lw_tbl := lw_at lw_m10 207 rfl
theorem q2649 : (Jvm.Cond.instanceMethod ({ cls := "ElectionHouseModel", name := "takeTest", desc := "(I)Z" } : Jvm.MethodName)) ∈ lw_all := lw_g (lw_at lw_m10 208 rfl) rfl
theorem q2650 : (Jvm.Cond.code ({ cls := "ElectionHouseModel", name := "takeTest", desc := "(I)Z" } : Jvm.MethodName) prog_17_method_48_code (9 : Nat) (Option.some Jvm.ClassFile.FieldType.boolean)) ∈ lw_all := lw_g (lw_at lw_m10 209 rfl) rfl
theorem q2651 : (Jvm.Cond.stringRef "ElectionHouseModel" (293 : Nat) "AGE") ∈ lw_tbl := lw_at lw_m10 210 rfl
theorem q2652 : (Jvm.Cond.stringRef "ElectionHouseModel" (295 : Nat) "LIVED") ∈ lw_tbl := lw_at lw_m10 211 rfl
theorem q2653 : (Jvm.Cond.stringRef "ElectionHouseModel" (297 : Nat) "IN") ∈ lw_tbl := lw_at lw_m10 212 rfl
theorem q2654 : (Jvm.Cond.stringRef "ElectionHouseModel" (299 : Nat) "FACT") ∈ lw_tbl := lw_at lw_m10 213 rfl
theorem q2655 : (Jvm.Cond.methodLink "ElectionHouseModel" (301 : Nat) ({ cls := "ElectionHouseModel", name := "takeWithin", desc := "(II)Z" } : Jvm.MethodName)) ∈ lw_all := lw_g (lw_at lw_m10 214 rfl) rfl
theorem q2656 : (Jvm.Cond.privateMethod ({ cls := "ElectionHouseModel", name := "takeWithin", desc := "(II)Z" } : Jvm.MethodName)) ∈ lw_tbl := lw_at lw_m10 215 rfl
theorem q2657 : (Jvm.Cond.instanceMethod ({ cls := "ElectionHouseModel", name := "takeWithin", desc := "(II)Z" } : Jvm.MethodName)) ∈ lw_all := lw_g (lw_at lw_m10 216 rfl) rfl
theorem q2658 : (Jvm.Cond.code ({ cls := "ElectionHouseModel", name := "takeWithin", desc := "(II)Z" } : Jvm.MethodName) prog_17_method_39_code (3 : Nat) (Option.some Jvm.ClassFile.FieldType.boolean)) ∈ lw_all := lw_g (lw_at lw_m10 217 rfl) rfl
theorem q2659 : (Jvm.Cond.stringRef "ElectionHouseModel" (305 : Nat) "ON") ∈ lw_tbl := lw_at lw_m10 218 rfl
theorem q2660 : (Jvm.Cond.stringRef "ElectionHouseModel" (334 : Nat) "AND") ∈ lw_tbl := lw_at lw_m10 219 rfl
theorem q2661 : (Jvm.Cond.stringRef "ElectionHouseModel" (336 : Nat) "OR") ∈ lw_tbl := lw_at lw_m10 220 rfl
theorem q2662 : (Jvm.Cond.methodLink "ElectionHouseModel" (441 : Nat) ({ cls := "ElectionHouseModel", name := "takeSignatures", desc := "()Z" } : Jvm.MethodName)) ∈ lw_all := lw_g (lw_at lw_m10 221 rfl) rfl
theorem q2663 : (Jvm.Cond.privateMethod ({ cls := "ElectionHouseModel", name := "takeSignatures", desc := "()Z" } : Jvm.MethodName)) ∈ lw_tbl := lw_at lw_m10 222 rfl
theorem q2664 : (Jvm.Cond.instanceMethod ({ cls := "ElectionHouseModel", name := "takeSignatures", desc := "()Z" } : Jvm.MethodName)) ∈ lw_all := lw_g (lw_at lw_m10 223 rfl) rfl
theorem q2665 : (Jvm.Cond.code ({ cls := "ElectionHouseModel", name := "takeSignatures", desc := "()Z" } : Jvm.MethodName) prog_17_method_57_code (1 : Nat) (Option.some Jvm.ClassFile.FieldType.boolean)) ∈ lw_all := lw_g (lw_at lw_m10 224 rfl) rfl
theorem q2666 : (Jvm.Cond.stringRef "ElectionHouseModel" (447 : Nat) "EACH") ∈ lw_tbl := lw_at lw_m10 225 rfl
theorem q2667 : (Jvm.Cond.methodLink "ElectionHouseModel" (444 : Nat) ({ cls := "ElectionHouseModel", name := "takeContest", desc := "()Z" } : Jvm.MethodName)) ∈ lw_all := lw_g (lw_at lw_m10 226 rfl) rfl
theorem q2668 : (Jvm.Cond.privateMethod ({ cls := "ElectionHouseModel", name := "takeContest", desc := "()Z" } : Jvm.MethodName)) ∈ lw_tbl := lw_at lw_m10 227 rfl
theorem q2669 : (Jvm.Cond.instanceMethod ({ cls := "ElectionHouseModel", name := "takeContest", desc := "()Z" } : Jvm.MethodName)) ∈ lw_all := lw_g (lw_at lw_m10 228 rfl) rfl
theorem q2670 : (Jvm.Cond.code ({ cls := "ElectionHouseModel", name := "takeContest", desc := "()Z" } : Jvm.MethodName) prog_17_method_53_code (5 : Nat) (Option.some Jvm.ClassFile.FieldType.boolean)) ∈ lw_all := lw_g (lw_at lw_m10 229 rfl) rfl
theorem q2671 : (Jvm.Cond.methodLink "ElectionHouseModel" (386 : Nat) ({ cls := "ElectionHouseModel", name := "takeWord", desc := "(Ljava/lang/String;)Z" } : Jvm.MethodName)) ∈ lw_all := lw_g (lw_at lw_m10 230 rfl) rfl
theorem q2672 : (Jvm.Cond.privateMethod ({ cls := "ElectionHouseModel", name := "takeWord", desc := "(Ljava/lang/String;)Z" } : Jvm.MethodName)) ∈ lw_tbl := lw_at lw_m10 231 rfl
theorem q2673 : (Jvm.Cond.instanceMethod ({ cls := "ElectionHouseModel", name := "takeWord", desc := "(Ljava/lang/String;)Z" } : Jvm.MethodName)) ∈ lw_all := lw_g (lw_at lw_m10 232 rfl) rfl
theorem q2674 : (Jvm.Cond.code ({ cls := "ElectionHouseModel", name := "takeWord", desc := "(Ljava/lang/String;)Z" } : Jvm.MethodName) prog_17_method_36_code (2 : Nat) (Option.some Jvm.ClassFile.FieldType.boolean)) ∈ lw_all := lw_g (lw_at lw_m10 233 rfl) rfl
theorem q2675 : (Jvm.Cond.stringRef "ElectionHouseModel" (389 : Nat) "SEATS") ∈ lw_tbl := lw_at lw_m10 234 rfl
theorem q2676 : (Jvm.Cond.stringRef "ElectionHouseModel" (391 : Nat) "BY") ∈ lw_tbl := lw_at lw_m10 235 rfl
theorem q2677 : (Jvm.Cond.methodLink "ElectionHouseModel" (393 : Nat) ({ cls := "ElectionHouseModel", name := "ruleName", desc := "(I)Ljava/lang/String;" } : Jvm.MethodName)) ∈ lw_all := lw_g (lw_at lw_m10 236 rfl) rfl
theorem q2678 : (Jvm.Cond.static ({ cls := "ElectionHouseModel", name := "ruleName", desc := "(I)Ljava/lang/String;" } : Jvm.MethodName)) ∈ lw_all := lw_g (lw_at lw_m10 237 rfl) rfl
theorem q2679 : (Jvm.Cond.code ({ cls := "ElectionHouseModel", name := "ruleName", desc := "(I)Ljava/lang/String;" } : Jvm.MethodName) prog_17_method_51_code (1 : Nat) (Option.some (Jvm.ClassFile.FieldType.object "java/lang/String"))) ∈ lw_all := lw_g (lw_at lw_m10 238 rfl) rfl
theorem q2680 : (Jvm.Cond.stringRef "ElectionHouseModel" (338 : Nat) "FIRST") ∈ lw_tbl := lw_at lw_m10 239 rfl
theorem q2681 : (Jvm.Cond.stringRef "ElectionHouseModel" (340 : Nat) "BLOCK") ∈ lw_tbl := lw_at lw_m11 0 rfl
theorem q2682 : (Jvm.Cond.stringRef "ElectionHouseModel" (342 : Nat) "APPROVAL") ∈ lw_tbl := lw_at lw_m11 1 rfl
theorem q2683 : (Jvm.Cond.stringRef "ElectionHouseModel" (344 : Nat) "POINTS") ∈ lw_tbl := lw_at lw_m11 2 rfl
theorem q2684 : (Jvm.Cond.stringRef "ElectionHouseModel" (346 : Nat) "MEDIAN") ∈ lw_tbl := lw_at lw_m11 3 rfl
theorem q2685 : (Jvm.Cond.stringRef "ElectionHouseModel" (348 : Nat) "RANKS") ∈ lw_tbl := lw_at lw_m11 4 rfl
theorem q2686 : (Jvm.Cond.stringRef "ElectionHouseModel" (350 : Nat) "OUT") ∈ lw_tbl := lw_at lw_m11 5 rfl
theorem q2687 : (Jvm.Cond.stringRef "ElectionHouseModel" (352 : Nat) "LEAST") ∈ lw_tbl := lw_at lw_m11 6 rfl
theorem q2688 : (Jvm.Cond.stringRef "ElectionHouseModel" (354 : Nat) "PAIRS") ∈ lw_tbl := lw_at lw_m11 7 rfl
theorem q2689 : (Jvm.Cond.stringRef "ElectionHouseModel" (356 : Nat) "PATHS") ∈ lw_tbl := lw_at lw_m11 8 rfl
theorem q2690 : (Jvm.Cond.stringRef "ElectionHouseModel" (358 : Nat) "TOP") ∈ lw_tbl := lw_at lw_m11 9 rfl
theorem q2691 : (Jvm.Cond.stringRef "ElectionHouseModel" (360 : Nat) "MEEK") ∈ lw_tbl := lw_at lw_m11 10 rfl
theorem q2692 : (Jvm.Cond.stringRef "ElectionHouseModel" (362 : Nat) "TRANSFER") ∈ lw_tbl := lw_at lw_m11 11 rfl
theorem q2693 : (Jvm.Cond.stringRef "ElectionHouseModel" (364 : Nat) "WHOLE") ∈ lw_tbl := lw_at lw_m11 12 rfl
theorem q2694 : (Jvm.Cond.stringRef "ElectionHouseModel" (366 : Nat) "LISTS") ∈ lw_tbl := lw_at lw_m11 13 rfl
theorem q2695 : (Jvm.Cond.stringRef "ElectionHouseModel" (378 : Nat) "HARE") ∈ lw_tbl := lw_at lw_m11 14 rfl
theorem q2696 : (Jvm.Cond.stringRef "ElectionHouseModel" (380 : Nat) "DROOP") ∈ lw_tbl := lw_at lw_m11 15 rfl
theorem q2697 : (Jvm.Cond.methodLink "ElectionHouseModel" (396 : Nat) ({ cls := "ElectionHouseModel", name := "takeLists", desc := "(I)Z" } : Jvm.MethodName)) ∈ lw_all := lw_g (lw_at lw_m11 16 rfl) rfl
theorem q2698 : (Jvm.Cond.privateMethod ({ cls := "ElectionHouseModel", name := "takeLists", desc := "(I)Z" } : Jvm.MethodName)) ∈ lw_tbl := lw_at lw_m11 17 rfl
theorem q2699 : (Jvm.Cond.instanceMethod ({ cls := "ElectionHouseModel", name := "takeLists", desc := "(I)Z" } : Jvm.MethodName)) ∈ lw_all := lw_g (lw_at lw_m11 18 rfl) rfl
theorem q2700 : (Jvm.Cond.code ({ cls := "ElectionHouseModel", name := "takeLists", desc := "(I)Z" } : Jvm.MethodName) prog_17_method_54_code (5 : Nat) (Option.some Jvm.ClassFile.FieldType.boolean)) ∈ lw_all := lw_g (lw_at lw_m11 19 rfl) rfl
theorem q2701 : (Jvm.Cond.methodLink "ElectionHouseModel" (399 : Nat) ({ cls := "ElectionHouseModel", name := "wayName", desc := "(I)Ljava/lang/String;" } : Jvm.MethodName)) ∈ lw_all := lw_g (lw_at lw_m11 20 rfl) rfl
theorem q2702 : (Jvm.Cond.static ({ cls := "ElectionHouseModel", name := "wayName", desc := "(I)Ljava/lang/String;" } : Jvm.MethodName)) ∈ lw_all := lw_g (lw_at lw_m11 21 rfl) rfl
theorem q2703 : (Jvm.Cond.code ({ cls := "ElectionHouseModel", name := "wayName", desc := "(I)Ljava/lang/String;" } : Jvm.MethodName) prog_17_method_52_code (1 : Nat) (Option.some (Jvm.ClassFile.FieldType.object "java/lang/String"))) ∈ lw_all := lw_g (lw_at lw_m11 22 rfl) rfl
theorem q2704 : (Jvm.Cond.stringRef "ElectionHouseModel" (368 : Nat) "ONES") ∈ lw_tbl := lw_at lw_m11 23 rfl
theorem q2705 : (Jvm.Cond.stringRef "ElectionHouseModel" (370 : Nat) "ODDS") ∈ lw_tbl := lw_at lw_m11 24 rfl
theorem q2706 : (Jvm.Cond.stringRef "ElectionHouseModel" (372 : Nat) "STEEP") ∈ lw_tbl := lw_at lw_m11 25 rfl
theorem q2707 : (Jvm.Cond.stringRef "ElectionHouseModel" (374 : Nat) "HALVES") ∈ lw_tbl := lw_at lw_m11 26 rfl
theorem q2708 : (Jvm.Cond.stringRef "ElectionHouseModel" (376 : Nat) "MODIFIED") ∈ lw_tbl := lw_at lw_m11 27 rfl
theorem q2709 : (Jvm.Cond.stringRef "ElectionHouseModel" (382 : Nat) "BISCHOFF") ∈ lw_tbl := lw_at lw_m11 28 rfl
theorem q2710 : (Jvm.Cond.stringRef "ElectionHouseModel" (384 : Nat) "DOUBLE") ∈ lw_tbl := lw_at lw_m11 29 rfl
theorem q2711 : (Jvm.Cond.stringRef "ElectionHouseModel" (402 : Nat) "ABOVE") ∈ lw_tbl := lw_at lw_m11 30 rfl
theorem q2712 : (Jvm.Cond.constantLong "ElectionHouseModel" (404 : Nat) (1000 : Int64)) ∈ lw_all := lw_g (lw_at lw_m11 31 rfl) rfl
theorem q2713 : (Jvm.Cond.stringRef "ElectionHouseModel" (406 : Nat) "OPEN") ∈ lw_tbl := lw_at lw_m11 32 rfl
theorem q2714 : (Jvm.Cond.stringRef "ElectionHouseModel" (408 : Nat) "LEVEL") ∈ lw_tbl := lw_at lw_m11 33 rfl
theorem q2715 : (Jvm.Cond.methodLink "ElectionHouseModel" (460 : Nat) ({ cls := "java/lang/System", name := "arraycopy", desc := "(Ljava/lang/Object;ILjava/lang/Object;II)V" } : Jvm.MethodName)) ∈ lw_all := lw_g (lw_at lw_m11 34 rfl) rfl
theorem q2716 : (Jvm.Cond.methodLink "ElectionHouseModel" (466 : Nat) ({ cls := "ElectionHouseModel", name := "lawIs", desc := "(I)I" } : Jvm.MethodName)) ∈ lw_all := lw_g (lw_at lw_m11 35 rfl) rfl
theorem q2717 : (Jvm.Cond.privateMethod ({ cls := "ElectionHouseModel", name := "lawIs", desc := "(I)I" } : Jvm.MethodName)) ∈ lw_tbl := lw_at lw_m11 36 rfl
theorem q2718 : (Jvm.Cond.instanceMethod ({ cls := "ElectionHouseModel", name := "lawIs", desc := "(I)I" } : Jvm.MethodName)) ∈ lw_all := lw_g (lw_at lw_m11 37 rfl) rfl
theorem q2719 : (Jvm.Cond.code ({ cls := "ElectionHouseModel", name := "lawIs", desc := "(I)I" } : Jvm.MethodName) prog_17_method_45_code (2 : Nat) (Option.some Jvm.ClassFile.FieldType.int)) ∈ lw_all := lw_g (lw_at lw_m11 38 rfl) rfl
theorem q2720 : (Jvm.Cond.methodLink "ElectionHouseModel" (475 : Nat) ({ cls := "ElectionHouseModel", name := "beginElection", desc := "()V" } : Jvm.MethodName)) ∈ lw_all := lw_g (lw_at lw_m11 39 rfl) rfl
theorem q2721 : (Jvm.Cond.privateMethod ({ cls := "ElectionHouseModel", name := "beginElection", desc := "()V" } : Jvm.MethodName)) ∈ lw_tbl := lw_at lw_m11 40 rfl
theorem q2722 : (Jvm.Cond.instanceMethod ({ cls := "ElectionHouseModel", name := "beginElection", desc := "()V" } : Jvm.MethodName)) ∈ lw_all := lw_g (lw_at lw_m11 41 rfl) rfl
theorem q2723 : (Jvm.Cond.code ({ cls := "ElectionHouseModel", name := "beginElection", desc := "()V" } : Jvm.MethodName) prog_17_method_69_code (2 : Nat) (Option.none : Option Jvm.ClassFile.FieldType)) ∈ lw_all := lw_g (lw_at lw_m11 42 rfl) rfl
theorem q2725 : (Jvm.Cond.instanceMethod ({ cls := "ElectionHouseModel", name := "days", desc := "(I)I" } : Jvm.MethodName)) ∈ lw_all := lw_g (lw_at lw_m11 44 rfl) rfl
theorem q2726 : (Jvm.Cond.selects "ElectionHouseModel" ({ cls := "ElectionHouseModel", name := "days", desc := "(I)I" } : Jvm.MethodName) ({ cls := "ElectionHouseModel", name := "days", desc := "(I)I" } : Jvm.MethodName)) ∈ lw_all := lw_g (lw_at lw_m11 45 rfl) rfl
theorem q2727 : (Jvm.Cond.code ({ cls := "ElectionHouseModel", name := "days", desc := "(I)I" } : Jvm.MethodName) prog_17_method_60_code (2 : Nat) (Option.some Jvm.ClassFile.FieldType.int)) ∈ lw_all := lw_g (lw_at lw_m11 46 rfl) rfl
theorem q2728 : (Jvm.Cond.constantLong "ElectionHouseModel" (478 : Nat) (3 : Int64)) ∈ lw_all := lw_g (lw_at lw_m11 47 rfl) rfl
theorem q2730 : (Jvm.Cond.instanceMethod ({ cls := "ElectionHouseModel", name := "contest", desc := "(II)I" } : Jvm.MethodName)) ∈ lw_all := lw_g (lw_at lw_m11 49 rfl) rfl
theorem q2731 : (Jvm.Cond.selects "ElectionHouseModel" ({ cls := "ElectionHouseModel", name := "contest", desc := "(II)I" } : Jvm.MethodName) ({ cls := "ElectionHouseModel", name := "contest", desc := "(II)I" } : Jvm.MethodName)) ∈ lw_all := lw_g (lw_at lw_m11 50 rfl) rfl
theorem q2732 : (Jvm.Cond.code ({ cls := "ElectionHouseModel", name := "contest", desc := "(II)I" } : Jvm.MethodName) prog_17_method_62_code (3 : Nat) (Option.some Jvm.ClassFile.FieldType.int)) ∈ lw_all := lw_g (lw_at lw_m11 51 rfl) rfl
theorem q2733 : (Jvm.Cond.methodLink "ElectionHouseModel" (480 : Nat) ({ cls := "ElectionHouseModel", name := "isContest", desc := "(I)Z" } : Jvm.MethodName)) ∈ lw_all := lw_g (lw_at lw_m11 52 rfl) rfl
theorem q2734 : (Jvm.Cond.privateMethod ({ cls := "ElectionHouseModel", name := "isContest", desc := "(I)Z" } : Jvm.MethodName)) ∈ lw_tbl := lw_at lw_m11 53 rfl
theorem q2735 : (Jvm.Cond.instanceMethod ({ cls := "ElectionHouseModel", name := "isContest", desc := "(I)Z" } : Jvm.MethodName)) ∈ lw_all := lw_g (lw_at lw_m11 54 rfl) rfl
theorem q2736 : (Jvm.Cond.code ({ cls := "ElectionHouseModel", name := "isContest", desc := "(I)Z" } : Jvm.MethodName) prog_17_method_61_code (2 : Nat) (Option.some Jvm.ClassFile.FieldType.boolean)) ∈ lw_all := lw_g (lw_at lw_m11 55 rfl) rfl
theorem q2737 : (Jvm.Cond.constantLong "ElectionHouseModel" (483 : Nat) (5 : Int64)) ∈ lw_all := lw_g (lw_at lw_m11 56 rfl) rfl
theorem q2738 : (Jvm.Cond.methodLink "ElectionHouseModel" (485 : Nat) ({ cls := "ElectionHouseModel", name := "contestIs", desc := "(II)I" } : Jvm.MethodName)) ∈ lw_all := lw_g (lw_at lw_m11 57 rfl) rfl
theorem q2739 : (Jvm.Cond.privateMethod ({ cls := "ElectionHouseModel", name := "contestIs", desc := "(II)I" } : Jvm.MethodName)) ∈ lw_tbl := lw_at lw_m11 58 rfl
theorem q2740 : (Jvm.Cond.instanceMethod ({ cls := "ElectionHouseModel", name := "contestIs", desc := "(II)I" } : Jvm.MethodName)) ∈ lw_all := lw_g (lw_at lw_m11 59 rfl) rfl
theorem q2741 : (Jvm.Cond.code ({ cls := "ElectionHouseModel", name := "contestIs", desc := "(II)I" } : Jvm.MethodName) prog_17_method_46_code (3 : Nat) (Option.some Jvm.ClassFile.FieldType.int)) ∈ lw_all := lw_g (lw_at lw_m11 60 rfl) rfl
theorem q2742 : (Jvm.Cond.methodLink "ElectionHouseModel" (491 : Nat) ({ cls := "ElectionHouseModel", name := "struckOf", desc := "(I)I" } : Jvm.MethodName)) ∈ lw_all := lw_g (lw_at lw_m11 61 rfl) rfl
theorem q2743 : (Jvm.Cond.privateMethod ({ cls := "ElectionHouseModel", name := "struckOf", desc := "(I)I" } : Jvm.MethodName)) ∈ lw_tbl := lw_at lw_m11 62 rfl
theorem q2744 : (Jvm.Cond.instanceMethod ({ cls := "ElectionHouseModel", name := "struckOf", desc := "(I)I" } : Jvm.MethodName)) ∈ lw_all := lw_g (lw_at lw_m11 63 rfl) rfl
theorem q2745 : (Jvm.Cond.code ({ cls := "ElectionHouseModel", name := "struckOf", desc := "(I)I" } : Jvm.MethodName) prog_17_method_70_code (4 : Nat) (Option.some Jvm.ClassFile.FieldType.int)) ∈ lw_all := lw_g (lw_at lw_m11 64 rfl) rfl
theorem q2747 : (Jvm.Cond.instanceMethod ({ cls := "ElectionHouseModel", name := "may", desc := "(II)I" } : Jvm.MethodName)) ∈ lw_all := lw_g (lw_at lw_m11 66 rfl) rfl
theorem q2748 : (Jvm.Cond.selects "ElectionHouseModel" ({ cls := "ElectionHouseModel", name := "may", desc := "(II)I" } : Jvm.MethodName) ({ cls := "ElectionHouseModel", name := "may", desc := "(II)I" } : Jvm.MethodName)) ∈ lw_all := lw_g (lw_at lw_m11 67 rfl) rfl
theorem q2749 : (Jvm.Cond.code ({ cls := "ElectionHouseModel", name := "may", desc := "(II)I" } : Jvm.MethodName) prog_17_method_67_code (4 : Nat) (Option.some Jvm.ClassFile.FieldType.int)) ∈ lw_all := lw_g (lw_at lw_m11 68 rfl) rfl
theorem q2750 : (Jvm.Cond.methodLink "ElectionHouseModel" (524 : Nat) ({ cls := "ElectionHouseModel", name := "lets", desc := "(IZ)Z" } : Jvm.MethodName)) ∈ lw_all := lw_g (lw_at lw_m11 69 rfl) rfl
theorem q2751 : (Jvm.Cond.privateMethod ({ cls := "ElectionHouseModel", name := "lets", desc := "(IZ)Z" } : Jvm.MethodName)) ∈ lw_tbl := lw_at lw_m11 70 rfl
theorem q2752 : (Jvm.Cond.instanceMethod ({ cls := "ElectionHouseModel", name := "lets", desc := "(IZ)Z" } : Jvm.MethodName)) ∈ lw_all := lw_g (lw_at lw_m11 71 rfl) rfl
theorem q2753 : (Jvm.Cond.code ({ cls := "ElectionHouseModel", name := "lets", desc := "(IZ)Z" } : Jvm.MethodName) prog_17_method_66_code (8 : Nat) (Option.some Jvm.ClassFile.FieldType.boolean)) ∈ lw_all := lw_g (lw_at lw_m11 72 rfl) rfl
theorem q2754 : (Jvm.Cond.methodLink "ElectionHouseModel" (513 : Nat) ({ cls := "ElectionHouseModel", name := "openLevel", desc := "(IZ)V" } : Jvm.MethodName)) ∈ lw_all := lw_g (lw_at lw_m11 73 rfl) rfl
theorem q2755 : (Jvm.Cond.privateMethod ({ cls := "ElectionHouseModel", name := "openLevel", desc := "(IZ)V" } : Jvm.MethodName)) ∈ lw_tbl := lw_at lw_m11 74 rfl
theorem q2756 : (Jvm.Cond.instanceMethod ({ cls := "ElectionHouseModel", name := "openLevel", desc := "(IZ)V" } : Jvm.MethodName)) ∈ lw_all := lw_g (lw_at lw_m11 75 rfl) rfl
theorem q2757 : (Jvm.Cond.code ({ cls := "ElectionHouseModel", name := "openLevel", desc := "(IZ)V" } : Jvm.MethodName) prog_17_method_64_code (3 : Nat) (Option.none : Option Jvm.ClassFile.FieldType)) ∈ lw_all := lw_g (lw_at lw_m11 76 rfl) rfl
theorem q2758 : (Jvm.Cond.methodLink "ElectionHouseModel" (517 : Nat) ({ cls := "ElectionHouseModel", name := "holds", desc := "(IIZ)Z" } : Jvm.MethodName)) ∈ lw_all := lw_g (lw_at lw_m11 77 rfl) rfl
theorem q2759 : (Jvm.Cond.privateMethod ({ cls := "ElectionHouseModel", name := "holds", desc := "(IIZ)Z" } : Jvm.MethodName)) ∈ lw_tbl := lw_at lw_m11 78 rfl
theorem q2760 : (Jvm.Cond.instanceMethod ({ cls := "ElectionHouseModel", name := "holds", desc := "(IIZ)Z" } : Jvm.MethodName)) ∈ lw_all := lw_g (lw_at lw_m11 79 rfl) rfl
theorem q2761 : (Jvm.Cond.code ({ cls := "ElectionHouseModel", name := "holds", desc := "(IIZ)Z" } : Jvm.MethodName) prog_17_method_63_code (7 : Nat) (Option.some Jvm.ClassFile.FieldType.boolean)) ∈ lw_all := lw_g (lw_at lw_m11 80 rfl) rfl
theorem q2762 : (Jvm.Cond.methodLink "ElectionHouseModel" (494 : Nat) ({ cls := "ElectionHouseModel", name := "isIn", desc := "(III)Z" } : Jvm.MethodName)) ∈ lw_all := lw_g (lw_at lw_m11 81 rfl) rfl
theorem q2763 : (Jvm.Cond.privateMethod ({ cls := "ElectionHouseModel", name := "isIn", desc := "(III)Z" } : Jvm.MethodName)) ∈ lw_tbl := lw_at lw_m11 82 rfl
theorem q2764 : (Jvm.Cond.instanceMethod ({ cls := "ElectionHouseModel", name := "isIn", desc := "(III)Z" } : Jvm.MethodName)) ∈ lw_all := lw_g (lw_at lw_m11 83 rfl) rfl
theorem q2765 : (Jvm.Cond.code ({ cls := "ElectionHouseModel", name := "isIn", desc := "(III)Z" } : Jvm.MethodName) prog_17_method_16_code (4 : Nat) (Option.some Jvm.ClassFile.FieldType.boolean)) ∈ lw_all := lw_g (lw_at lw_m11 84 rfl) rfl
theorem q2766 : (Jvm.Cond.methodLink "ElectionHouseModel" (521 : Nat) ({ cls := "ElectionHouseModel", name := "takesIn", desc := "(IZ)V" } : Jvm.MethodName)) ∈ lw_all := lw_g (lw_at lw_m11 85 rfl) rfl
theorem q2767 : (Jvm.Cond.privateMethod ({ cls := "ElectionHouseModel", name := "takesIn", desc := "(IZ)V" } : Jvm.MethodName)) ∈ lw_tbl := lw_at lw_m11 86 rfl
theorem q2768 : (Jvm.Cond.instanceMethod ({ cls := "ElectionHouseModel", name := "takesIn", desc := "(IZ)V" } : Jvm.MethodName)) ∈ lw_all := lw_g (lw_at lw_m11 87 rfl) rfl
theorem q2769 : (Jvm.Cond.code ({ cls := "ElectionHouseModel", name := "takesIn", desc := "(IZ)V" } : Jvm.MethodName) prog_17_method_65_code (3 : Nat) (Option.none : Option Jvm.ClassFile.FieldType)) ∈ lw_all := lw_g (lw_at lw_m11 88 rfl) rfl
theorem q2771 : (Jvm.Cond.instanceMethod ({ cls := "ElectionHouseModel", name := "place", desc := "()I" } : Jvm.MethodName)) ∈ lw_all := lw_g (lw_at lw_m11 90 rfl) rfl
theorem q2772 : (Jvm.Cond.selects "ElectionHouseModel" ({ cls := "ElectionHouseModel", name := "place", desc := "()I" } : Jvm.MethodName) ({ cls := "ElectionHouseModel", name := "place", desc := "()I" } : Jvm.MethodName)) ∈ lw_all := lw_g (lw_at lw_m11 91 rfl) rfl
theorem q2773 : (Jvm.Cond.code ({ cls := "ElectionHouseModel", name := "place", desc := "()I" } : Jvm.MethodName) prog_17_method_68_code (1 : Nat) (Option.some Jvm.ClassFile.FieldType.int)) ∈ lw_all := lw_g (lw_at lw_m11 92 rfl) rfl
theorem q2775 : (Jvm.Cond.instanceMethod ({ cls := "ElectionHouseModel", name := "stand", desc := "(III)I" } : Jvm.MethodName)) ∈ lw_all := lw_g (lw_at lw_m11 94 rfl) rfl
theorem q2776 : (Jvm.Cond.selects "ElectionHouseModel" ({ cls := "ElectionHouseModel", name := "stand", desc := "(III)I" } : Jvm.MethodName) ({ cls := "ElectionHouseModel", name := "stand", desc := "(III)I" } : Jvm.MethodName)) ∈ lw_all := lw_g (lw_at lw_m11 95 rfl) rfl
theorem q2777 : (Jvm.Cond.code ({ cls := "ElectionHouseModel", name := "stand", desc := "(III)I" } : Jvm.MethodName) prog_17_method_72_code (8 : Nat) (Option.some Jvm.ClassFile.FieldType.int)) ∈ lw_all := lw_g (lw_at lw_m11 96 rfl) rfl
theorem q2778 : (Jvm.Cond.constantLong "ElectionHouseModel" (570 : Nat) (7 : Int64)) ∈ lw_all := lw_g (lw_at lw_m11 97 rfl) rfl
theorem q2779 : (Jvm.Cond.methodLink "ElectionHouseModel" (572 : Nat) ({ cls := "ElectionHouseModel", name := "isBehindStanding", desc := "()Z" } : Jvm.MethodName)) ∈ lw_all := lw_g (lw_at lw_m11 98 rfl) rfl
theorem q2780 : (Jvm.Cond.privateMethod ({ cls := "ElectionHouseModel", name := "isBehindStanding", desc := "()Z" } : Jvm.MethodName)) ∈ lw_tbl := lw_at lw_m11 99 rfl
theorem q2781 : (Jvm.Cond.instanceMethod ({ cls := "ElectionHouseModel", name := "isBehindStanding", desc := "()Z" } : Jvm.MethodName)) ∈ lw_all := lw_g (lw_at lw_m11 100 rfl) rfl
theorem q2782 : (Jvm.Cond.code ({ cls := "ElectionHouseModel", name := "isBehindStanding", desc := "()Z" } : Jvm.MethodName) prog_17_method_71_code (1 : Nat) (Option.some Jvm.ClassFile.FieldType.boolean)) ∈ lw_all := lw_g (lw_at lw_m11 101 rfl) rfl
theorem q2783 : (Jvm.Cond.methodLink "ElectionHouseModel" (581 : Nat) ({ cls := "ElectionHouseModel", name := "isAlive", desc := "(II)Z" } : Jvm.MethodName)) ∈ lw_all := lw_g (lw_at lw_m11 102 rfl) rfl
theorem q2784 : (Jvm.Cond.privateMethod ({ cls := "ElectionHouseModel", name := "isAlive", desc := "(II)Z" } : Jvm.MethodName)) ∈ lw_tbl := lw_at lw_m11 103 rfl
theorem q2785 : (Jvm.Cond.instanceMethod ({ cls := "ElectionHouseModel", name := "isAlive", desc := "(II)Z" } : Jvm.MethodName)) ∈ lw_all := lw_g (lw_at lw_m11 104 rfl) rfl
theorem q2786 : (Jvm.Cond.code ({ cls := "ElectionHouseModel", name := "isAlive", desc := "(II)Z" } : Jvm.MethodName) prog_17_method_22_code (3 : Nat) (Option.some Jvm.ClassFile.FieldType.boolean)) ∈ lw_all := lw_g (lw_at lw_m11 105 rfl) rfl
theorem q2788 : (Jvm.Cond.instanceMethod ({ cls := "ElectionHouseModel", name := "sign", desc := "(II)I" } : Jvm.MethodName)) ∈ lw_all := lw_g (lw_at lw_m11 107 rfl) rfl
theorem q2789 : (Jvm.Cond.selects "ElectionHouseModel" ({ cls := "ElectionHouseModel", name := "sign", desc := "(II)I" } : Jvm.MethodName) ({ cls := "ElectionHouseModel", name := "sign", desc := "(II)I" } : Jvm.MethodName)) ∈ lw_all := lw_g (lw_at lw_m11 108 rfl) rfl
theorem q2790 : (Jvm.Cond.code ({ cls := "ElectionHouseModel", name := "sign", desc := "(II)I" } : Jvm.MethodName) prog_17_method_73_code (5 : Nat) (Option.some Jvm.ClassFile.FieldType.int)) ∈ lw_all := lw_g (lw_at lw_m11 109 rfl) rfl
theorem q2792 : (Jvm.Cond.instanceMethod ({ cls := "ElectionHouseModel", name := "withdraw", desc := "(I)I" } : Jvm.MethodName)) ∈ lw_all := lw_g (lw_at lw_m11 111 rfl) rfl
theorem q2793 : (Jvm.Cond.selects "ElectionHouseModel" ({ cls := "ElectionHouseModel", name := "withdraw", desc := "(I)I" } : Jvm.MethodName) ({ cls := "ElectionHouseModel", name := "withdraw", desc := "(I)I" } : Jvm.MethodName)) ∈ lw_all := lw_g (lw_at lw_m11 112 rfl) rfl
theorem q2794 : (Jvm.Cond.code ({ cls := "ElectionHouseModel", name := "withdraw", desc := "(I)I" } : Jvm.MethodName) prog_17_method_74_code (2 : Nat) (Option.some Jvm.ClassFile.FieldType.int)) ∈ lw_all := lw_g (lw_at lw_m11 113 rfl) rfl
theorem q2796 : (Jvm.Cond.instanceMethod ({ cls := "ElectionHouseModel", name := "nomination", desc := "(II)I" } : Jvm.MethodName)) ∈ lw_all := lw_g (lw_at lw_m11 115 rfl) rfl
theorem q2797 : (Jvm.Cond.selects "ElectionHouseModel" ({ cls := "ElectionHouseModel", name := "nomination", desc := "(II)I" } : Jvm.MethodName) ({ cls := "ElectionHouseModel", name := "nomination", desc := "(II)I" } : Jvm.MethodName)) ∈ lw_all := lw_g (lw_at lw_m11 116 rfl) rfl
theorem q2798 : (Jvm.Cond.code ({ cls := "ElectionHouseModel", name := "nomination", desc := "(II)I" } : Jvm.MethodName) prog_17_method_75_code (3 : Nat) (Option.some Jvm.ClassFile.FieldType.int)) ∈ lw_all := lw_g (lw_at lw_m11 117 rfl) rfl
theorem q2800 : (Jvm.Cond.instanceMethod ({ cls := "ElectionHouseModel", name := "freeze", desc := "()I" } : Jvm.MethodName)) ∈ lw_all := lw_g (lw_at lw_m11 119 rfl) rfl
theorem q2801 : (Jvm.Cond.selects "ElectionHouseModel" ({ cls := "ElectionHouseModel", name := "freeze", desc := "()I" } : Jvm.MethodName) ({ cls := "ElectionHouseModel", name := "freeze", desc := "()I" } : Jvm.MethodName)) ∈ lw_all := lw_g (lw_at lw_m11 120 rfl) rfl
theorem q2802 : (Jvm.Cond.code ({ cls := "ElectionHouseModel", name := "freeze", desc := "()I" } : Jvm.MethodName) prog_17_method_80_code (4 : Nat) (Option.some Jvm.ClassFile.FieldType.int)) ∈ lw_all := lw_g (lw_at lw_m11 121 rfl) rfl
theorem q2803 : (Jvm.Cond.methodLink "ElectionHouseModel" (617 : Nat) ({ cls := "ElectionHouseModel", name := "sheetOf", desc := "(I)I" } : Jvm.MethodName)) ∈ lw_all := lw_g (lw_at lw_m11 122 rfl) rfl
theorem q2804 : (Jvm.Cond.privateMethod ({ cls := "ElectionHouseModel", name := "sheetOf", desc := "(I)I" } : Jvm.MethodName)) ∈ lw_tbl := lw_at lw_m11 123 rfl
theorem q2805 : (Jvm.Cond.instanceMethod ({ cls := "ElectionHouseModel", name := "sheetOf", desc := "(I)I" } : Jvm.MethodName)) ∈ lw_all := lw_g (lw_at lw_m11 124 rfl) rfl
theorem q2806 : (Jvm.Cond.code ({ cls := "ElectionHouseModel", name := "sheetOf", desc := "(I)I" } : Jvm.MethodName) prog_17_method_76_code (5 : Nat) (Option.some Jvm.ClassFile.FieldType.int)) ∈ lw_all := lw_g (lw_at lw_m11 125 rfl) rfl
theorem q2807 : (Jvm.Cond.methodLink "ElectionHouseModel" (620 : Nat) ({ cls := "ElectionHouseModel", name := "addRow", desc := "(II)V" } : Jvm.MethodName)) ∈ lw_all := lw_g (lw_at lw_m11 126 rfl) rfl
theorem q2808 : (Jvm.Cond.privateMethod ({ cls := "ElectionHouseModel", name := "addRow", desc := "(II)V" } : Jvm.MethodName)) ∈ lw_tbl := lw_at lw_m11 127 rfl
theorem q2809 : (Jvm.Cond.instanceMethod ({ cls := "ElectionHouseModel", name := "addRow", desc := "(II)V" } : Jvm.MethodName)) ∈ lw_all := lw_g (lw_at lw_m11 128 rfl) rfl
theorem q2810 : (Jvm.Cond.code ({ cls := "ElectionHouseModel", name := "addRow", desc := "(II)V" } : Jvm.MethodName) prog_17_method_77_code (3 : Nat) (Option.none : Option Jvm.ClassFile.FieldType)) ∈ lw_all := lw_g (lw_at lw_m11 129 rfl) rfl
theorem q2812 : (Jvm.Cond.instanceMethod ({ cls := "ElectionHouseModel", name := "roll", desc := "(II)I" } : Jvm.MethodName)) ∈ lw_all := lw_g (lw_at lw_m11 131 rfl) rfl
theorem q2813 : (Jvm.Cond.selects "ElectionHouseModel" ({ cls := "ElectionHouseModel", name := "roll", desc := "(II)I" } : Jvm.MethodName) ({ cls := "ElectionHouseModel", name := "roll", desc := "(II)I" } : Jvm.MethodName)) ∈ lw_all := lw_g (lw_at lw_m11 132 rfl) rfl
theorem q2814 : (Jvm.Cond.code ({ cls := "ElectionHouseModel", name := "roll", desc := "(II)I" } : Jvm.MethodName) prog_17_method_81_code (3 : Nat) (Option.some Jvm.ClassFile.FieldType.int)) ∈ lw_all := lw_g (lw_at lw_m11 133 rfl) rfl
theorem q2816 : (Jvm.Cond.instanceMethod ({ cls := "ElectionHouseModel", name := "appeal", desc := "(II)I" } : Jvm.MethodName)) ∈ lw_all := lw_g (lw_at lw_m11 135 rfl) rfl
theorem q2817 : (Jvm.Cond.selects "ElectionHouseModel" ({ cls := "ElectionHouseModel", name := "appeal", desc := "(II)I" } : Jvm.MethodName) ({ cls := "ElectionHouseModel", name := "appeal", desc := "(II)I" } : Jvm.MethodName)) ∈ lw_all := lw_g (lw_at lw_m11 136 rfl) rfl
theorem q2818 : (Jvm.Cond.code ({ cls := "ElectionHouseModel", name := "appeal", desc := "(II)I" } : Jvm.MethodName) prog_17_method_82_code (3 : Nat) (Option.some Jvm.ClassFile.FieldType.int)) ∈ lw_all := lw_g (lw_at lw_m11 137 rfl) rfl
theorem q2820 : (Jvm.Cond.instanceMethod ({ cls := "ElectionHouseModel", name := "decide", desc := "(II)I" } : Jvm.MethodName)) ∈ lw_all := lw_g (lw_at lw_m11 139 rfl) rfl
theorem q2821 : (Jvm.Cond.selects "ElectionHouseModel" ({ cls := "ElectionHouseModel", name := "decide", desc := "(II)I" } : Jvm.MethodName) ({ cls := "ElectionHouseModel", name := "decide", desc := "(II)I" } : Jvm.MethodName)) ∈ lw_all := lw_g (lw_at lw_m11 140 rfl) rfl
theorem q2822 : (Jvm.Cond.code ({ cls := "ElectionHouseModel", name := "decide", desc := "(II)I" } : Jvm.MethodName) prog_17_method_83_code (6 : Nat) (Option.some Jvm.ClassFile.FieldType.int)) ∈ lw_all := lw_g (lw_at lw_m11 141 rfl) rfl
theorem q2823 : (Jvm.Cond.methodLink "ElectionHouseModel" (632 : Nat) ({ cls := "ElectionHouseModel", name := "rowOf", desc := "(I)I" } : Jvm.MethodName)) ∈ lw_all := lw_g (lw_at lw_m11 142 rfl) rfl
theorem q2824 : (Jvm.Cond.privateMethod ({ cls := "ElectionHouseModel", name := "rowOf", desc := "(I)I" } : Jvm.MethodName)) ∈ lw_tbl := lw_at lw_m11 143 rfl
theorem q2825 : (Jvm.Cond.instanceMethod ({ cls := "ElectionHouseModel", name := "rowOf", desc := "(I)I" } : Jvm.MethodName)) ∈ lw_all := lw_g (lw_at lw_m11 144 rfl) rfl
theorem q2826 : (Jvm.Cond.code ({ cls := "ElectionHouseModel", name := "rowOf", desc := "(I)I" } : Jvm.MethodName) prog_17_method_78_code (3 : Nat) (Option.some Jvm.ClassFile.FieldType.int)) ∈ lw_all := lw_g (lw_at lw_m11 145 rfl) rfl
theorem q2827 : (Jvm.Cond.methodLink "ElectionHouseModel" (635 : Nat) ({ cls := "ElectionHouseModel", name := "rowsOn", desc := "()I" } : Jvm.MethodName)) ∈ lw_all := lw_g (lw_at lw_m11 146 rfl) rfl
theorem q2828 : (Jvm.Cond.privateMethod ({ cls := "ElectionHouseModel", name := "rowsOn", desc := "()I" } : Jvm.MethodName)) ∈ lw_tbl := lw_at lw_m11 147 rfl
theorem q2829 : (Jvm.Cond.instanceMethod ({ cls := "ElectionHouseModel", name := "rowsOn", desc := "()I" } : Jvm.MethodName)) ∈ lw_all := lw_g (lw_at lw_m11 148 rfl) rfl
theorem q2830 : (Jvm.Cond.code ({ cls := "ElectionHouseModel", name := "rowsOn", desc := "()I" } : Jvm.MethodName) prog_17_method_79_code (3 : Nat) (Option.some Jvm.ClassFile.FieldType.int)) ∈ lw_all := lw_g (lw_at lw_m11 149 rfl) rfl
theorem q2832 : (Jvm.Cond.instanceMethod ({ cls := "ElectionHouseModel", name := "sheets", desc := "(II)I" } : Jvm.MethodName)) ∈ lw_all := lw_g (lw_at lw_m11 151 rfl) rfl
theorem q2833 : (Jvm.Cond.selects "ElectionHouseModel" ({ cls := "ElectionHouseModel", name := "sheets", desc := "(II)I" } : Jvm.MethodName) ({ cls := "ElectionHouseModel", name := "sheets", desc := "(II)I" } : Jvm.MethodName)) ∈ lw_all := lw_g (lw_at lw_m11 152 rfl) rfl
theorem q2834 : (Jvm.Cond.code ({ cls := "ElectionHouseModel", name := "sheets", desc := "(II)I" } : Jvm.MethodName) prog_17_method_84_code (7 : Nat) (Option.some Jvm.ClassFile.FieldType.int)) ∈ lw_all := lw_g (lw_at lw_m11 153 rfl) rfl
theorem q2836 : (Jvm.Cond.instanceMethod ({ cls := "ElectionHouseModel", name := "candidate", desc := "(III)I" } : Jvm.MethodName)) ∈ lw_all := lw_g (lw_at lw_m11 155 rfl) rfl
theorem q2837 : (Jvm.Cond.selects "ElectionHouseModel" ({ cls := "ElectionHouseModel", name := "candidate", desc := "(III)I" } : Jvm.MethodName) ({ cls := "ElectionHouseModel", name := "candidate", desc := "(III)I" } : Jvm.MethodName)) ∈ lw_all := lw_g (lw_at lw_m11 156 rfl) rfl
theorem q2838 : (Jvm.Cond.code ({ cls := "ElectionHouseModel", name := "candidate", desc := "(III)I" } : Jvm.MethodName) prog_17_method_86_code (5 : Nat) (Option.some Jvm.ClassFile.FieldType.int)) ∈ lw_all := lw_g (lw_at lw_m11 157 rfl) rfl
theorem q2839 : (Jvm.Cond.methodLink "ElectionHouseModel" (638 : Nat) ({ cls := "ElectionHouseModel", name := "isCandidate", desc := "(II)Z" } : Jvm.MethodName)) ∈ lw_all := lw_g (lw_at lw_m11 158 rfl) rfl
theorem q2840 : (Jvm.Cond.privateMethod ({ cls := "ElectionHouseModel", name := "isCandidate", desc := "(II)Z" } : Jvm.MethodName)) ∈ lw_tbl := lw_at lw_m11 159 rfl
theorem q2841 : (Jvm.Cond.instanceMethod ({ cls := "ElectionHouseModel", name := "isCandidate", desc := "(II)Z" } : Jvm.MethodName)) ∈ lw_all := lw_g (lw_at lw_m11 160 rfl) rfl
theorem q2842 : (Jvm.Cond.code ({ cls := "ElectionHouseModel", name := "isCandidate", desc := "(II)Z" } : Jvm.MethodName) prog_17_method_85_code (3 : Nat) (Option.some Jvm.ClassFile.FieldType.boolean)) ∈ lw_all := lw_g (lw_at lw_m11 161 rfl) rfl
theorem q2844 : (Jvm.Cond.instanceMethod ({ cls := "ElectionHouseModel", name := "lots", desc := "(IJ)I" } : Jvm.MethodName)) ∈ lw_all := lw_g (lw_at lw_m11 163 rfl) rfl
theorem q2845 : (Jvm.Cond.selects "ElectionHouseModel" ({ cls := "ElectionHouseModel", name := "lots", desc := "(IJ)I" } : Jvm.MethodName) ({ cls := "ElectionHouseModel", name := "lots", desc := "(IJ)I" } : Jvm.MethodName)) ∈ lw_all := lw_g (lw_at lw_m11 164 rfl) rfl
theorem q2846 : (Jvm.Cond.code ({ cls := "ElectionHouseModel", name := "lots", desc := "(IJ)I" } : Jvm.MethodName) prog_17_method_88_code (10 : Nat) (Option.some Jvm.ClassFile.FieldType.int)) ∈ lw_all := lw_g (lw_at lw_m11 165 rfl) rfl
theorem q2847 : (Jvm.Cond.methodLink "ElectionHouseModel" (645 : Nat) ({ cls := "ElectionHouseModel", name := "nextOf", desc := "(J)J" } : Jvm.MethodName)) ∈ lw_all := lw_g (lw_at lw_m11 166 rfl) rfl
theorem q2848 : (Jvm.Cond.static ({ cls := "ElectionHouseModel", name := "nextOf", desc := "(J)J" } : Jvm.MethodName)) ∈ lw_all := lw_g (lw_at lw_m11 167 rfl) rfl
theorem q2849 : (Jvm.Cond.code ({ cls := "ElectionHouseModel", name := "nextOf", desc := "(J)J" } : Jvm.MethodName) prog_17_method_87_code (2 : Nat) (Option.some Jvm.ClassFile.FieldType.long)) ∈ lw_all := lw_g (lw_at lw_m11 168 rfl) rfl
theorem q2850 : (Jvm.Cond.constantLong "ElectionHouseModel" (641 : Nat) (6364136223846793005 : Int64)) ∈ lw_all := lw_g (lw_at lw_m11 169 rfl) rfl
theorem q2851 : (Jvm.Cond.constantLong "ElectionHouseModel" (643 : Nat) (1442695040888963407 : Int64)) ∈ lw_all := lw_g (lw_at lw_m11 170 rfl) rfl
theorem q2853 : (Jvm.Cond.instanceMethod ({ cls := "ElectionHouseModel", name := "station", desc := "()I" } : Jvm.MethodName)) ∈ lw_all := lw_g (lw_at lw_m11 172 rfl) rfl
theorem q2854 : (Jvm.Cond.selects "ElectionHouseModel" ({ cls := "ElectionHouseModel", name := "station", desc := "()I" } : Jvm.MethodName) ({ cls := "ElectionHouseModel", name := "station", desc := "()I" } : Jvm.MethodName)) ∈ lw_all := lw_g (lw_at lw_m11 173 rfl) rfl
theorem q2855 : (Jvm.Cond.code ({ cls := "ElectionHouseModel", name := "station", desc := "()I" } : Jvm.MethodName) prog_17_method_90_code (1 : Nat) (Option.some Jvm.ClassFile.FieldType.int)) ∈ lw_all := lw_g (lw_at lw_m11 174 rfl) rfl
theorem q2857 : (Jvm.Cond.instanceMethod ({ cls := "ElectionHouseModel", name := "clock", desc := "(II)I" } : Jvm.MethodName)) ∈ lw_all := lw_g (lw_at lw_m11 176 rfl) rfl
theorem q2858 : (Jvm.Cond.selects "ElectionHouseModel" ({ cls := "ElectionHouseModel", name := "clock", desc := "(II)I" } : Jvm.MethodName) ({ cls := "ElectionHouseModel", name := "clock", desc := "(II)I" } : Jvm.MethodName)) ∈ lw_all := lw_g (lw_at lw_m11 177 rfl) rfl
theorem q2859 : (Jvm.Cond.code ({ cls := "ElectionHouseModel", name := "clock", desc := "(II)I" } : Jvm.MethodName) prog_17_method_91_code (4 : Nat) (Option.some Jvm.ClassFile.FieldType.int)) ∈ lw_all := lw_g (lw_at lw_m11 178 rfl) rfl
theorem q2860 : (Jvm.Cond.methodLink "ElectionHouseModel" (655 : Nat) ({ cls := "ElectionHouseModel", name := "isStation", desc := "(I)Z" } : Jvm.MethodName)) ∈ lw_all := lw_g (lw_at lw_m11 179 rfl) rfl
theorem q2861 : (Jvm.Cond.privateMethod ({ cls := "ElectionHouseModel", name := "isStation", desc := "(I)Z" } : Jvm.MethodName)) ∈ lw_tbl := lw_at lw_m11 180 rfl
theorem q2862 : (Jvm.Cond.instanceMethod ({ cls := "ElectionHouseModel", name := "isStation", desc := "(I)Z" } : Jvm.MethodName)) ∈ lw_all := lw_g (lw_at lw_m11 181 rfl) rfl
theorem q2863 : (Jvm.Cond.code ({ cls := "ElectionHouseModel", name := "isStation", desc := "(I)Z" } : Jvm.MethodName) prog_17_method_89_code (2 : Nat) (Option.some Jvm.ClassFile.FieldType.boolean)) ∈ lw_all := lw_g (lw_at lw_m11 182 rfl) rfl
theorem q2865 : (Jvm.Cond.instanceMethod ({ cls := "ElectionHouseModel", name := "cutLine", desc := "(I)I" } : Jvm.MethodName)) ∈ lw_all := lw_g (lw_at lw_m11 184 rfl) rfl
theorem q2866 : (Jvm.Cond.selects "ElectionHouseModel" ({ cls := "ElectionHouseModel", name := "cutLine", desc := "(I)I" } : Jvm.MethodName) ({ cls := "ElectionHouseModel", name := "cutLine", desc := "(I)I" } : Jvm.MethodName)) ∈ lw_all := lw_g (lw_at lw_m11 185 rfl) rfl
theorem q2867 : (Jvm.Cond.code ({ cls := "ElectionHouseModel", name := "cutLine", desc := "(I)I" } : Jvm.MethodName) prog_17_method_94_code (3 : Nat) (Option.some Jvm.ClassFile.FieldType.int)) ∈ lw_all := lw_g (lw_at lw_m11 186 rfl) rfl
theorem q2868 : (Jvm.Cond.methodLink "ElectionHouseModel" (670 : Nat) ({ cls := "ElectionHouseModel", name := "known", desc := "(II)I" } : Jvm.MethodName)) ∈ lw_all := lw_g (lw_at lw_m11 187 rfl) rfl
theorem q2869 : (Jvm.Cond.privateMethod ({ cls := "ElectionHouseModel", name := "known", desc := "(II)I" } : Jvm.MethodName)) ∈ lw_tbl := lw_at lw_m11 188 rfl
theorem q2870 : (Jvm.Cond.instanceMethod ({ cls := "ElectionHouseModel", name := "known", desc := "(II)I" } : Jvm.MethodName)) ∈ lw_all := lw_g (lw_at lw_m11 189 rfl) rfl
theorem q2871 : (Jvm.Cond.code ({ cls := "ElectionHouseModel", name := "known", desc := "(II)I" } : Jvm.MethodName) prog_17_method_93_code (3 : Nat) (Option.some Jvm.ClassFile.FieldType.int)) ∈ lw_all := lw_g (lw_at lw_m11 190 rfl) rfl
theorem q2873 : (Jvm.Cond.instanceMethod ({ cls := "ElectionHouseModel", name := "mend", desc := "(I)I" } : Jvm.MethodName)) ∈ lw_all := lw_g (lw_at lw_m11 192 rfl) rfl
theorem q2874 : (Jvm.Cond.selects "ElectionHouseModel" ({ cls := "ElectionHouseModel", name := "mend", desc := "(I)I" } : Jvm.MethodName) ({ cls := "ElectionHouseModel", name := "mend", desc := "(I)I" } : Jvm.MethodName)) ∈ lw_all := lw_g (lw_at lw_m11 193 rfl) rfl
theorem q2875 : (Jvm.Cond.code ({ cls := "ElectionHouseModel", name := "mend", desc := "(I)I" } : Jvm.MethodName) prog_17_method_97_code (6 : Nat) (Option.some Jvm.ClassFile.FieldType.int)) ∈ lw_all := lw_g (lw_at lw_m11 194 rfl) rfl
theorem q2876 : (Jvm.Cond.methodLink "ElectionHouseModel" (676 : Nat) ({ cls := "ElectionHouseModel", name := "voidsOf", desc := "(I)I" } : Jvm.MethodName)) ∈ lw_all := lw_g (lw_at lw_m11 195 rfl) rfl
theorem q2877 : (Jvm.Cond.privateMethod ({ cls := "ElectionHouseModel", name := "voidsOf", desc := "(I)I" } : Jvm.MethodName)) ∈ lw_tbl := lw_at lw_m11 196 rfl
theorem q2878 : (Jvm.Cond.instanceMethod ({ cls := "ElectionHouseModel", name := "voidsOf", desc := "(I)I" } : Jvm.MethodName)) ∈ lw_all := lw_g (lw_at lw_m11 197 rfl) rfl
theorem q2879 : (Jvm.Cond.code ({ cls := "ElectionHouseModel", name := "voidsOf", desc := "(I)I" } : Jvm.MethodName) prog_17_method_96_code (4 : Nat) (Option.some Jvm.ClassFile.FieldType.int)) ∈ lw_all := lw_g (lw_at lw_m11 198 rfl) rfl
theorem q2880 : (Jvm.Cond.methodLink "ElectionHouseModel" (682 : Nat) ({ cls := "ElectionHouseModel", name := "isBehind", desc := "(II)Z" } : Jvm.MethodName)) ∈ lw_all := lw_g (lw_at lw_m11 199 rfl) rfl
theorem q2881 : (Jvm.Cond.privateMethod ({ cls := "ElectionHouseModel", name := "isBehind", desc := "(II)Z" } : Jvm.MethodName)) ∈ lw_tbl := lw_at lw_m11 200 rfl
theorem q2882 : (Jvm.Cond.instanceMethod ({ cls := "ElectionHouseModel", name := "isBehind", desc := "(II)Z" } : Jvm.MethodName)) ∈ lw_all := lw_g (lw_at lw_m11 201 rfl) rfl
theorem q2883 : (Jvm.Cond.code ({ cls := "ElectionHouseModel", name := "isBehind", desc := "(II)Z" } : Jvm.MethodName) prog_17_method_95_code (3 : Nat) (Option.some Jvm.ClassFile.FieldType.boolean)) ∈ lw_all := lw_g (lw_at lw_m11 202 rfl) rfl
theorem q2884 : (Jvm.Cond.methodLink "ElectionHouseModel" (685 : Nat) ({ cls := "ElectionHouseModel", name := "joins", desc := "(I)V" } : Jvm.MethodName)) ∈ lw_all := lw_g (lw_at lw_m11 203 rfl) rfl
theorem q2885 : (Jvm.Cond.privateMethod ({ cls := "ElectionHouseModel", name := "joins", desc := "(I)V" } : Jvm.MethodName)) ∈ lw_tbl := lw_at lw_m11 204 rfl
theorem q2886 : (Jvm.Cond.instanceMethod ({ cls := "ElectionHouseModel", name := "joins", desc := "(I)V" } : Jvm.MethodName)) ∈ lw_all := lw_g (lw_at lw_m11 205 rfl) rfl
theorem q2887 : (Jvm.Cond.code ({ cls := "ElectionHouseModel", name := "joins", desc := "(I)V" } : Jvm.MethodName) prog_17_method_98_code (4 : Nat) (Option.none : Option Jvm.ClassFile.FieldType)) ∈ lw_all := lw_g (lw_at lw_m11 206 rfl) rfl
theorem q2888 : (Jvm.Cond.methodLink "ElectionHouseModel" (694 : Nat) ({ cls := "ElectionHouseModel", name := "lives", desc := "(I)Z" } : Jvm.MethodName)) ∈ lw_all := lw_g (lw_at lw_m11 207 rfl) rfl
theorem q2889 : (Jvm.Cond.privateMethod ({ cls := "ElectionHouseModel", name := "lives", desc := "(I)Z" } : Jvm.MethodName)) ∈ lw_tbl := lw_at lw_m11 208 rfl
theorem q2890 : (Jvm.Cond.instanceMethod ({ cls := "ElectionHouseModel", name := "lives", desc := "(I)Z" } : Jvm.MethodName)) ∈ lw_all := lw_g (lw_at lw_m11 209 rfl) rfl
theorem q2891 : (Jvm.Cond.code ({ cls := "ElectionHouseModel", name := "lives", desc := "(I)Z" } : Jvm.MethodName) prog_17_method_92_code (2 : Nat) (Option.some Jvm.ClassFile.FieldType.boolean)) ∈ lw_all := lw_g (lw_at lw_m11 210 rfl) rfl
theorem q2892 : (Jvm.Cond.methodLink "ElectionHouseModel" (688 : Nat) ({ cls := "ElectionHouseModel", name := "intoBox", desc := "(II)V" } : Jvm.MethodName)) ∈ lw_all := lw_g (lw_at lw_m11 211 rfl) rfl
theorem q2893 : (Jvm.Cond.privateMethod ({ cls := "ElectionHouseModel", name := "intoBox", desc := "(II)V" } : Jvm.MethodName)) ∈ lw_tbl := lw_at lw_m11 212 rfl
theorem q2894 : (Jvm.Cond.instanceMethod ({ cls := "ElectionHouseModel", name := "intoBox", desc := "(II)V" } : Jvm.MethodName)) ∈ lw_all := lw_g (lw_at lw_m11 213 rfl) rfl
theorem q2895 : (Jvm.Cond.code ({ cls := "ElectionHouseModel", name := "intoBox", desc := "(II)V" } : Jvm.MethodName) prog_17_method_120_code (4 : Nat) (Option.none : Option Jvm.ClassFile.FieldType)) ∈ lw_all := lw_g (lw_at lw_m11 214 rfl) rfl
theorem q2896 : (Jvm.Cond.methodLink "ElectionHouseModel" (743 : Nat) ({ cls := "ElectionHouseModel", name := "isAhead", desc := "(II)Z" } : Jvm.MethodName)) ∈ lw_all := lw_g (lw_at lw_m11 215 rfl) rfl
theorem q2897 : (Jvm.Cond.privateMethod ({ cls := "ElectionHouseModel", name := "isAhead", desc := "(II)Z" } : Jvm.MethodName)) ∈ lw_tbl := lw_at lw_m11 216 rfl
theorem q2898 : (Jvm.Cond.instanceMethod ({ cls := "ElectionHouseModel", name := "isAhead", desc := "(II)Z" } : Jvm.MethodName)) ∈ lw_all := lw_g (lw_at lw_m11 217 rfl) rfl
theorem q2899 : (Jvm.Cond.code ({ cls := "ElectionHouseModel", name := "isAhead", desc := "(II)Z" } : Jvm.MethodName) prog_17_method_119_code (7 : Nat) (Option.some Jvm.ClassFile.FieldType.boolean)) ∈ lw_all := lw_g (lw_at lw_m11 218 rfl) rfl
theorem q2900 : (Jvm.Cond.methodLink "ElectionHouseModel" (719 : Nat) ({ cls := "ElectionHouseModel", name := "marksOf", desc := "(I)I" } : Jvm.MethodName)) ∈ lw_all := lw_g (lw_at lw_m11 219 rfl) rfl
theorem q2901 : (Jvm.Cond.privateMethod ({ cls := "ElectionHouseModel", name := "marksOf", desc := "(I)I" } : Jvm.MethodName)) ∈ lw_tbl := lw_at lw_m11 220 rfl
theorem q2902 : (Jvm.Cond.instanceMethod ({ cls := "ElectionHouseModel", name := "marksOf", desc := "(I)I" } : Jvm.MethodName)) ∈ lw_all := lw_g (lw_at lw_m11 221 rfl) rfl
theorem q2903 : (Jvm.Cond.code ({ cls := "ElectionHouseModel", name := "marksOf", desc := "(I)I" } : Jvm.MethodName) prog_17_method_107_code (4 : Nat) (Option.some Jvm.ClassFile.FieldType.int)) ∈ lw_all := lw_g (lw_at lw_m11 222 rfl) rfl
theorem q2905 : (Jvm.Cond.instanceMethod ({ cls := "ElectionHouseModel", name := "checkIn", desc := "(II)I" } : Jvm.MethodName)) ∈ lw_all := lw_g (lw_at lw_m11 224 rfl) rfl
theorem q2906 : (Jvm.Cond.selects "ElectionHouseModel" ({ cls := "ElectionHouseModel", name := "checkIn", desc := "(II)I" } : Jvm.MethodName) ({ cls := "ElectionHouseModel", name := "checkIn", desc := "(II)I" } : Jvm.MethodName)) ∈ lw_all := lw_g (lw_at lw_m11 225 rfl) rfl
theorem q2907 : (Jvm.Cond.code ({ cls := "ElectionHouseModel", name := "checkIn", desc := "(II)I" } : Jvm.MethodName) prog_17_method_102_code (6 : Nat) (Option.some Jvm.ClassFile.FieldType.int)) ∈ lw_all := lw_g (lw_at lw_m11 226 rfl) rfl
theorem q2908 : (Jvm.Cond.methodLink "ElectionHouseModel" (700 : Nat) ({ cls := "ElectionHouseModel", name := "isVoting", desc := "()Z" } : Jvm.MethodName)) ∈ lw_all := lw_g (lw_at lw_m11 227 rfl) rfl
theorem q2909 : (Jvm.Cond.privateMethod ({ cls := "ElectionHouseModel", name := "isVoting", desc := "()Z" } : Jvm.MethodName)) ∈ lw_tbl := lw_at lw_m11 228 rfl
theorem q2910 : (Jvm.Cond.instanceMethod ({ cls := "ElectionHouseModel", name := "isVoting", desc := "()Z" } : Jvm.MethodName)) ∈ lw_all := lw_g (lw_at lw_m11 229 rfl) rfl
theorem q2911 : (Jvm.Cond.code ({ cls := "ElectionHouseModel", name := "isVoting", desc := "()Z" } : Jvm.MethodName) prog_17_method_99_code (1 : Nat) (Option.some Jvm.ClassFile.FieldType.boolean)) ∈ lw_all := lw_g (lw_at lw_m11 230 rfl) rfl
theorem q2912 : (Jvm.Cond.methodLink "ElectionHouseModel" (703 : Nat) ({ cls := "ElectionHouseModel", name := "isOnRoll", desc := "(I)Z" } : Jvm.MethodName)) ∈ lw_all := lw_g (lw_at lw_m11 231 rfl) rfl
theorem q2913 : (Jvm.Cond.privateMethod ({ cls := "ElectionHouseModel", name := "isOnRoll", desc := "(I)Z" } : Jvm.MethodName)) ∈ lw_tbl := lw_at lw_m11 232 rfl
theorem q2914 : (Jvm.Cond.instanceMethod ({ cls := "ElectionHouseModel", name := "isOnRoll", desc := "(I)Z" } : Jvm.MethodName)) ∈ lw_all := lw_g (lw_at lw_m11 233 rfl) rfl
theorem q2915 : (Jvm.Cond.code ({ cls := "ElectionHouseModel", name := "isOnRoll", desc := "(I)Z" } : Jvm.MethodName) prog_17_method_101_code (3 : Nat) (Option.some Jvm.ClassFile.FieldType.boolean)) ∈ lw_all := lw_g (lw_at lw_m11 234 rfl) rfl
theorem q2916 : (Jvm.Cond.methodLink "ElectionHouseModel" (706 : Nat) ({ cls := "ElectionHouseModel", name := "give", desc := "(IIZ)I" } : Jvm.MethodName)) ∈ lw_all := lw_g (lw_at lw_m11 235 rfl) rfl
theorem q2917 : (Jvm.Cond.privateMethod ({ cls := "ElectionHouseModel", name := "give", desc := "(IIZ)I" } : Jvm.MethodName)) ∈ lw_tbl := lw_at lw_m11 236 rfl
theorem q2918 : (Jvm.Cond.instanceMethod ({ cls := "ElectionHouseModel", name := "give", desc := "(IIZ)I" } : Jvm.MethodName)) ∈ lw_all := lw_g (lw_at lw_m11 237 rfl) rfl
theorem q2919 : (Jvm.Cond.code ({ cls := "ElectionHouseModel", name := "give", desc := "(IIZ)I" } : Jvm.MethodName) prog_17_method_100_code (6 : Nat) (Option.some Jvm.ClassFile.FieldType.int)) ∈ lw_all := lw_g (lw_at lw_m11 238 rfl) rfl
theorem q2921 : (Jvm.Cond.instanceMethod ({ cls := "ElectionHouseModel", name := "spoil", desc := "(I)I" } : Jvm.MethodName)) ∈ lw_all := lw_g (lw_at lw_m12 0 rfl) rfl
theorem q2922 : (Jvm.Cond.selects "ElectionHouseModel" ({ cls := "ElectionHouseModel", name := "spoil", desc := "(I)I" } : Jvm.MethodName) ({ cls := "ElectionHouseModel", name := "spoil", desc := "(I)I" } : Jvm.MethodName)) ∈ lw_all := lw_g (lw_at lw_m12 1 rfl) rfl
theorem q2923 : (Jvm.Cond.code ({ cls := "ElectionHouseModel", name := "spoil", desc := "(I)I" } : Jvm.MethodName) prog_17_method_106_code (2 : Nat) (Option.some Jvm.ClassFile.FieldType.int)) ∈ lw_all := lw_g (lw_at lw_m12 2 rfl) rfl
theorem q2924 : (Jvm.Cond.methodLink "ElectionHouseModel" (710 : Nat) ({ cls := "ElectionHouseModel", name := "isIssue", desc := "(I)Z" } : Jvm.MethodName)) ∈ lw_all := lw_g (lw_at lw_m12 3 rfl) rfl
theorem q2925 : (Jvm.Cond.privateMethod ({ cls := "ElectionHouseModel", name := "isIssue", desc := "(I)Z" } : Jvm.MethodName)) ∈ lw_tbl := lw_at lw_m12 4 rfl
theorem q2926 : (Jvm.Cond.instanceMethod ({ cls := "ElectionHouseModel", name := "isIssue", desc := "(I)Z" } : Jvm.MethodName)) ∈ lw_all := lw_g (lw_at lw_m12 5 rfl) rfl
theorem q2927 : (Jvm.Cond.code ({ cls := "ElectionHouseModel", name := "isIssue", desc := "(I)Z" } : Jvm.MethodName) prog_17_method_103_code (2 : Nat) (Option.some Jvm.ClassFile.FieldType.boolean)) ∈ lw_all := lw_g (lw_at lw_m12 6 rfl) rfl
theorem q2928 : (Jvm.Cond.methodLink "ElectionHouseModel" (713 : Nat) ({ cls := "ElectionHouseModel", name := "isAtStation", desc := "(I)Z" } : Jvm.MethodName)) ∈ lw_all := lw_g (lw_at lw_m12 7 rfl) rfl
theorem q2929 : (Jvm.Cond.privateMethod ({ cls := "ElectionHouseModel", name := "isAtStation", desc := "(I)Z" } : Jvm.MethodName)) ∈ lw_tbl := lw_at lw_m12 8 rfl
theorem q2930 : (Jvm.Cond.instanceMethod ({ cls := "ElectionHouseModel", name := "isAtStation", desc := "(I)Z" } : Jvm.MethodName)) ∈ lw_all := lw_g (lw_at lw_m12 9 rfl) rfl
theorem q2931 : (Jvm.Cond.code ({ cls := "ElectionHouseModel", name := "isAtStation", desc := "(I)Z" } : Jvm.MethodName) prog_17_method_104_code (2 : Nat) (Option.some Jvm.ClassFile.FieldType.boolean)) ∈ lw_all := lw_g (lw_at lw_m12 10 rfl) rfl
theorem q2932 : (Jvm.Cond.methodLink "ElectionHouseModel" (716 : Nat) ({ cls := "ElectionHouseModel", name := "spoiledOf", desc := "(I)I" } : Jvm.MethodName)) ∈ lw_all := lw_g (lw_at lw_m12 11 rfl) rfl
theorem q2933 : (Jvm.Cond.privateMethod ({ cls := "ElectionHouseModel", name := "spoiledOf", desc := "(I)I" } : Jvm.MethodName)) ∈ lw_tbl := lw_at lw_m12 12 rfl
theorem q2934 : (Jvm.Cond.instanceMethod ({ cls := "ElectionHouseModel", name := "spoiledOf", desc := "(I)I" } : Jvm.MethodName)) ∈ lw_all := lw_g (lw_at lw_m12 13 rfl) rfl
theorem q2935 : (Jvm.Cond.code ({ cls := "ElectionHouseModel", name := "spoiledOf", desc := "(I)I" } : Jvm.MethodName) prog_17_method_105_code (4 : Nat) (Option.some Jvm.ClassFile.FieldType.int)) ∈ lw_all := lw_g (lw_at lw_m12 14 rfl) rfl
theorem q2937 : (Jvm.Cond.instanceMethod ({ cls := "ElectionHouseModel", name := "put", desc := "(I)I" } : Jvm.MethodName)) ∈ lw_all := lw_g (lw_at lw_m12 16 rfl) rfl
theorem q2938 : (Jvm.Cond.selects "ElectionHouseModel" ({ cls := "ElectionHouseModel", name := "put", desc := "(I)I" } : Jvm.MethodName) ({ cls := "ElectionHouseModel", name := "put", desc := "(I)I" } : Jvm.MethodName)) ∈ lw_all := lw_g (lw_at lw_m12 17 rfl) rfl
theorem q2939 : (Jvm.Cond.code ({ cls := "ElectionHouseModel", name := "put", desc := "(I)I" } : Jvm.MethodName) prog_17_method_110_code (4 : Nat) (Option.some Jvm.ClassFile.FieldType.int)) ∈ lw_all := lw_g (lw_at lw_m12 18 rfl) rfl
theorem q2940 : (Jvm.Cond.methodLink "ElectionHouseModel" (728 : Nat) ({ cls := "ElectionHouseModel", name := "areMarks", desc := "(II)Z" } : Jvm.MethodName)) ∈ lw_all := lw_g (lw_at lw_m12 19 rfl) rfl
theorem q2941 : (Jvm.Cond.privateMethod ({ cls := "ElectionHouseModel", name := "areMarks", desc := "(II)Z" } : Jvm.MethodName)) ∈ lw_tbl := lw_at lw_m12 20 rfl
theorem q2942 : (Jvm.Cond.instanceMethod ({ cls := "ElectionHouseModel", name := "areMarks", desc := "(II)Z" } : Jvm.MethodName)) ∈ lw_all := lw_g (lw_at lw_m12 21 rfl) rfl
theorem q2943 : (Jvm.Cond.code ({ cls := "ElectionHouseModel", name := "areMarks", desc := "(II)Z" } : Jvm.MethodName) prog_17_method_108_code (5 : Nat) (Option.some Jvm.ClassFile.FieldType.boolean)) ∈ lw_all := lw_g (lw_at lw_m12 22 rfl) rfl
theorem q2944 : (Jvm.Cond.methodLink "ElectionHouseModel" (731 : Nat) ({ cls := "ElectionHouseModel", name := "keepMarks", desc := "(II)V" } : Jvm.MethodName)) ∈ lw_all := lw_g (lw_at lw_m12 23 rfl) rfl
theorem q2945 : (Jvm.Cond.privateMethod ({ cls := "ElectionHouseModel", name := "keepMarks", desc := "(II)V" } : Jvm.MethodName)) ∈ lw_tbl := lw_at lw_m12 24 rfl
theorem q2946 : (Jvm.Cond.instanceMethod ({ cls := "ElectionHouseModel", name := "keepMarks", desc := "(II)V" } : Jvm.MethodName)) ∈ lw_all := lw_g (lw_at lw_m12 25 rfl) rfl
theorem q2947 : (Jvm.Cond.code ({ cls := "ElectionHouseModel", name := "keepMarks", desc := "(II)V" } : Jvm.MethodName) prog_17_method_109_code (3 : Nat) (Option.none : Option Jvm.ClassFile.FieldType)) ∈ lw_all := lw_g (lw_at lw_m12 26 rfl) rfl
theorem q2949 : (Jvm.Cond.instanceMethod ({ cls := "ElectionHouseModel", name := "ask", desc := "(I)I" } : Jvm.MethodName)) ∈ lw_all := lw_g (lw_at lw_m12 28 rfl) rfl
theorem q2950 : (Jvm.Cond.selects "ElectionHouseModel" ({ cls := "ElectionHouseModel", name := "ask", desc := "(I)I" } : Jvm.MethodName) ({ cls := "ElectionHouseModel", name := "ask", desc := "(I)I" } : Jvm.MethodName)) ∈ lw_all := lw_g (lw_at lw_m12 29 rfl) rfl
theorem q2951 : (Jvm.Cond.code ({ cls := "ElectionHouseModel", name := "ask", desc := "(I)I" } : Jvm.MethodName) prog_17_method_112_code (4 : Nat) (Option.some Jvm.ClassFile.FieldType.int)) ∈ lw_all := lw_g (lw_at lw_m12 30 rfl) rfl
theorem q2952 : (Jvm.Cond.methodLink "ElectionHouseModel" (734 : Nat) ({ cls := "ElectionHouseModel", name := "isMailShut", desc := "()Z" } : Jvm.MethodName)) ∈ lw_all := lw_g (lw_at lw_m12 31 rfl) rfl
theorem q2953 : (Jvm.Cond.privateMethod ({ cls := "ElectionHouseModel", name := "isMailShut", desc := "()Z" } : Jvm.MethodName)) ∈ lw_tbl := lw_at lw_m12 32 rfl
theorem q2954 : (Jvm.Cond.instanceMethod ({ cls := "ElectionHouseModel", name := "isMailShut", desc := "()Z" } : Jvm.MethodName)) ∈ lw_all := lw_g (lw_at lw_m12 33 rfl) rfl
theorem q2955 : (Jvm.Cond.code ({ cls := "ElectionHouseModel", name := "isMailShut", desc := "()Z" } : Jvm.MethodName) prog_17_method_111_code (1 : Nat) (Option.some Jvm.ClassFile.FieldType.boolean)) ∈ lw_all := lw_g (lw_at lw_m12 34 rfl) rfl
theorem q2957 : (Jvm.Cond.instanceMethod ({ cls := "ElectionHouseModel", name := "arrive", desc := "(II)I" } : Jvm.MethodName)) ∈ lw_all := lw_g (lw_at lw_m12 36 rfl) rfl
theorem q2958 : (Jvm.Cond.selects "ElectionHouseModel" ({ cls := "ElectionHouseModel", name := "arrive", desc := "(II)I" } : Jvm.MethodName) ({ cls := "ElectionHouseModel", name := "arrive", desc := "(II)I" } : Jvm.MethodName)) ∈ lw_all := lw_g (lw_at lw_m12 37 rfl) rfl
theorem q2959 : (Jvm.Cond.code ({ cls := "ElectionHouseModel", name := "arrive", desc := "(II)I" } : Jvm.MethodName) prog_17_method_113_code (4 : Nat) (Option.some Jvm.ClassFile.FieldType.int)) ∈ lw_all := lw_g (lw_at lw_m12 38 rfl) rfl
theorem q2961 : (Jvm.Cond.instanceMethod ({ cls := "ElectionHouseModel", name := "open", desc := "()I" } : Jvm.MethodName)) ∈ lw_all := lw_g (lw_at lw_m12 40 rfl) rfl
theorem q2962 : (Jvm.Cond.selects "ElectionHouseModel" ({ cls := "ElectionHouseModel", name := "open", desc := "()I" } : Jvm.MethodName) ({ cls := "ElectionHouseModel", name := "open", desc := "()I" } : Jvm.MethodName)) ∈ lw_all := lw_g (lw_at lw_m12 41 rfl) rfl
theorem q2963 : (Jvm.Cond.code ({ cls := "ElectionHouseModel", name := "open", desc := "()I" } : Jvm.MethodName) prog_17_method_114_code (3 : Nat) (Option.some Jvm.ClassFile.FieldType.int)) ∈ lw_all := lw_g (lw_at lw_m12 42 rfl) rfl
theorem q2965 : (Jvm.Cond.instanceMethod ({ cls := "ElectionHouseModel", name := "close", desc := "(I)I" } : Jvm.MethodName)) ∈ lw_all := lw_g (lw_at lw_m12 44 rfl) rfl
theorem q2966 : (Jvm.Cond.selects "ElectionHouseModel" ({ cls := "ElectionHouseModel", name := "close", desc := "(I)I" } : Jvm.MethodName) ({ cls := "ElectionHouseModel", name := "close", desc := "(I)I" } : Jvm.MethodName)) ∈ lw_all := lw_g (lw_at lw_m12 45 rfl) rfl
theorem q2967 : (Jvm.Cond.code ({ cls := "ElectionHouseModel", name := "close", desc := "(I)I" } : Jvm.MethodName) prog_17_method_116_code (4 : Nat) (Option.some Jvm.ClassFile.FieldType.int)) ∈ lw_all := lw_g (lw_at lw_m12 46 rfl) rfl
theorem q2968 : (Jvm.Cond.methodLink "ElectionHouseModel" (737 : Nat) ({ cls := "ElectionHouseModel", name := "isBox", desc := "(I)Z" } : Jvm.MethodName)) ∈ lw_all := lw_g (lw_at lw_m12 47 rfl) rfl
theorem q2969 : (Jvm.Cond.privateMethod ({ cls := "ElectionHouseModel", name := "isBox", desc := "(I)Z" } : Jvm.MethodName)) ∈ lw_tbl := lw_at lw_m12 48 rfl
theorem q2970 : (Jvm.Cond.instanceMethod ({ cls := "ElectionHouseModel", name := "isBox", desc := "(I)Z" } : Jvm.MethodName)) ∈ lw_all := lw_g (lw_at lw_m12 49 rfl) rfl
theorem q2971 : (Jvm.Cond.code ({ cls := "ElectionHouseModel", name := "isBox", desc := "(I)Z" } : Jvm.MethodName) prog_17_method_115_code (2 : Nat) (Option.some Jvm.ClassFile.FieldType.boolean)) ∈ lw_all := lw_g (lw_at lw_m12 50 rfl) rfl
theorem q2973 : (Jvm.Cond.instanceMethod ({ cls := "ElectionHouseModel", name := "issue", desc := "(II)I" } : Jvm.MethodName)) ∈ lw_all := lw_g (lw_at lw_m12 52 rfl) rfl
theorem q2974 : (Jvm.Cond.selects "ElectionHouseModel" ({ cls := "ElectionHouseModel", name := "issue", desc := "(II)I" } : Jvm.MethodName) ({ cls := "ElectionHouseModel", name := "issue", desc := "(II)I" } : Jvm.MethodName)) ∈ lw_all := lw_g (lw_at lw_m12 53 rfl) rfl
theorem q2975 : (Jvm.Cond.code ({ cls := "ElectionHouseModel", name := "issue", desc := "(II)I" } : Jvm.MethodName) prog_17_method_117_code (3 : Nat) (Option.some Jvm.ClassFile.FieldType.int)) ∈ lw_all := lw_g (lw_at lw_m12 54 rfl) rfl
theorem q2977 : (Jvm.Cond.instanceMethod ({ cls := "ElectionHouseModel", name := "knows", desc := "(II)I" } : Jvm.MethodName)) ∈ lw_all := lw_g (lw_at lw_m12 56 rfl) rfl
theorem q2978 : (Jvm.Cond.selects "ElectionHouseModel" ({ cls := "ElectionHouseModel", name := "knows", desc := "(II)I" } : Jvm.MethodName) ({ cls := "ElectionHouseModel", name := "knows", desc := "(II)I" } : Jvm.MethodName)) ∈ lw_all := lw_g (lw_at lw_m12 57 rfl) rfl
theorem q2979 : (Jvm.Cond.code ({ cls := "ElectionHouseModel", name := "knows", desc := "(II)I" } : Jvm.MethodName) prog_17_method_118_code (3 : Nat) (Option.some Jvm.ClassFile.FieldType.int)) ∈ lw_all := lw_g (lw_at lw_m12 58 rfl) rfl
theorem q2981 : (Jvm.Cond.instanceMethod ({ cls := "ElectionHouseModel", name := "box", desc := "(II)I" } : Jvm.MethodName)) ∈ lw_all := lw_g (lw_at lw_m12 60 rfl) rfl
theorem q2982 : (Jvm.Cond.selects "ElectionHouseModel" ({ cls := "ElectionHouseModel", name := "box", desc := "(II)I" } : Jvm.MethodName) ({ cls := "ElectionHouseModel", name := "box", desc := "(II)I" } : Jvm.MethodName)) ∈ lw_all := lw_g (lw_at lw_m12 61 rfl) rfl
theorem q2983 : (Jvm.Cond.code ({ cls := "ElectionHouseModel", name := "box", desc := "(II)I" } : Jvm.MethodName) prog_17_method_121_code (3 : Nat) (Option.some Jvm.ClassFile.FieldType.int)) ∈ lw_all := lw_g (lw_at lw_m12 62 rfl) rfl
theorem q2985 : (Jvm.Cond.instanceMethod ({ cls := "ElectionHouseModel", name := "paper", desc := "(III)I" } : Jvm.MethodName)) ∈ lw_all := lw_g (lw_at lw_m12 64 rfl) rfl
theorem q2986 : (Jvm.Cond.selects "ElectionHouseModel" ({ cls := "ElectionHouseModel", name := "paper", desc := "(III)I" } : Jvm.MethodName) ({ cls := "ElectionHouseModel", name := "paper", desc := "(III)I" } : Jvm.MethodName)) ∈ lw_all := lw_g (lw_at lw_m12 65 rfl) rfl
theorem q2987 : (Jvm.Cond.code ({ cls := "ElectionHouseModel", name := "paper", desc := "(III)I" } : Jvm.MethodName) prog_17_method_123_code (5 : Nat) (Option.some Jvm.ClassFile.FieldType.int)) ∈ lw_all := lw_g (lw_at lw_m12 66 rfl) rfl
theorem q2988 : (Jvm.Cond.methodLink "ElectionHouseModel" (746 : Nat) ({ cls := "ElectionHouseModel", name := "isPaper", desc := "(III)Z" } : Jvm.MethodName)) ∈ lw_all := lw_g (lw_at lw_m12 67 rfl) rfl
theorem q2989 : (Jvm.Cond.privateMethod ({ cls := "ElectionHouseModel", name := "isPaper", desc := "(III)Z" } : Jvm.MethodName)) ∈ lw_tbl := lw_at lw_m12 68 rfl
theorem q2990 : (Jvm.Cond.instanceMethod ({ cls := "ElectionHouseModel", name := "isPaper", desc := "(III)Z" } : Jvm.MethodName)) ∈ lw_all := lw_g (lw_at lw_m12 69 rfl) rfl
theorem q2991 : (Jvm.Cond.code ({ cls := "ElectionHouseModel", name := "isPaper", desc := "(III)Z" } : Jvm.MethodName) prog_17_method_122_code (4 : Nat) (Option.some Jvm.ClassFile.FieldType.boolean)) ∈ lw_all := lw_g (lw_at lw_m12 70 rfl) rfl
theorem q2993 : (Jvm.Cond.instanceMethod ({ cls := "ElectionHouseModel", name := "record", desc := "(III)I" } : Jvm.MethodName)) ∈ lw_all := lw_g (lw_at lw_m12 72 rfl) rfl
theorem q2994 : (Jvm.Cond.selects "ElectionHouseModel" ({ cls := "ElectionHouseModel", name := "record", desc := "(III)I" } : Jvm.MethodName) ({ cls := "ElectionHouseModel", name := "record", desc := "(III)I" } : Jvm.MethodName)) ∈ lw_all := lw_g (lw_at lw_m12 73 rfl) rfl
theorem q2995 : (Jvm.Cond.code ({ cls := "ElectionHouseModel", name := "record", desc := "(III)I" } : Jvm.MethodName) prog_17_method_124_code (4 : Nat) (Option.some Jvm.ClassFile.FieldType.int)) ∈ lw_all := lw_g (lw_at lw_m12 74 rfl) rfl
theorem q2997 : (Jvm.Cond.instanceMethod ({ cls := "ElectionHouseModel", name := "misread", desc := "(IIII)I" } : Jvm.MethodName)) ∈ lw_all := lw_g (lw_at lw_m12 76 rfl) rfl
theorem q2998 : (Jvm.Cond.selects "ElectionHouseModel" ({ cls := "ElectionHouseModel", name := "misread", desc := "(IIII)I" } : Jvm.MethodName) ({ cls := "ElectionHouseModel", name := "misread", desc := "(IIII)I" } : Jvm.MethodName)) ∈ lw_all := lw_g (lw_at lw_m12 77 rfl) rfl
theorem q2999 : (Jvm.Cond.code ({ cls := "ElectionHouseModel", name := "misread", desc := "(IIII)I" } : Jvm.MethodName) prog_17_method_125_code (7 : Nat) (Option.some Jvm.ClassFile.FieldType.int)) ∈ lw_all := lw_g (lw_at lw_m12 78 rfl) rfl
theorem q3001 : (Jvm.Cond.instanceMethod ({ cls := "ElectionHouseModel", name := "strike", desc := "(III)I" } : Jvm.MethodName)) ∈ lw_all := lw_g (lw_at lw_m12 80 rfl) rfl
theorem q3002 : (Jvm.Cond.selects "ElectionHouseModel" ({ cls := "ElectionHouseModel", name := "strike", desc := "(III)I" } : Jvm.MethodName) ({ cls := "ElectionHouseModel", name := "strike", desc := "(III)I" } : Jvm.MethodName)) ∈ lw_all := lw_g (lw_at lw_m12 81 rfl) rfl
theorem q3003 : (Jvm.Cond.code ({ cls := "ElectionHouseModel", name := "strike", desc := "(III)I" } : Jvm.MethodName) prog_17_method_126_code (4 : Nat) (Option.some Jvm.ClassFile.FieldType.int)) ∈ lw_all := lw_g (lw_at lw_m12 82 rfl) rfl
theorem q3005 : (Jvm.Cond.instanceMethod ({ cls := "ElectionHouseModel", name := "voidBox", desc := "(II)I" } : Jvm.MethodName)) ∈ lw_all := lw_g (lw_at lw_m12 84 rfl) rfl
theorem q3006 : (Jvm.Cond.selects "ElectionHouseModel" ({ cls := "ElectionHouseModel", name := "voidBox", desc := "(II)I" } : Jvm.MethodName) ({ cls := "ElectionHouseModel", name := "voidBox", desc := "(II)I" } : Jvm.MethodName)) ∈ lw_all := lw_g (lw_at lw_m12 85 rfl) rfl
theorem q3007 : (Jvm.Cond.code ({ cls := "ElectionHouseModel", name := "voidBox", desc := "(II)I" } : Jvm.MethodName) prog_17_method_127_code (5 : Nat) (Option.some Jvm.ClassFile.FieldType.int)) ∈ lw_all := lw_g (lw_at lw_m12 86 rfl) rfl
theorem q3009 : (Jvm.Cond.instanceMethod ({ cls := "ElectionHouseModel", name := "count", desc := "(II)I" } : Jvm.MethodName)) ∈ lw_all := lw_g (lw_at lw_m12 88 rfl) rfl
theorem q3010 : (Jvm.Cond.selects "ElectionHouseModel" ({ cls := "ElectionHouseModel", name := "count", desc := "(II)I" } : Jvm.MethodName) ({ cls := "ElectionHouseModel", name := "count", desc := "(II)I" } : Jvm.MethodName)) ∈ lw_all := lw_g (lw_at lw_m12 89 rfl) rfl
theorem q3011 : (Jvm.Cond.code ({ cls := "ElectionHouseModel", name := "count", desc := "(II)I" } : Jvm.MethodName) prog_17_method_144_code (5 : Nat) (Option.some Jvm.ClassFile.FieldType.int)) ∈ lw_all := lw_g (lw_at lw_m12 90 rfl) rfl
theorem q3012 : (Jvm.Cond.methodLink "ElectionHouseModel" (835 : Nat) ({ cls := "ElectionHouseModel", name := "areClosed", desc := "()Z" } : Jvm.MethodName)) ∈ lw_all := lw_g (lw_at lw_m12 91 rfl) rfl
theorem q3013 : (Jvm.Cond.privateMethod ({ cls := "ElectionHouseModel", name := "areClosed", desc := "()Z" } : Jvm.MethodName)) ∈ lw_tbl := lw_at lw_m12 92 rfl
theorem q3014 : (Jvm.Cond.instanceMethod ({ cls := "ElectionHouseModel", name := "areClosed", desc := "()Z" } : Jvm.MethodName)) ∈ lw_all := lw_g (lw_at lw_m12 93 rfl) rfl
theorem q3015 : (Jvm.Cond.code ({ cls := "ElectionHouseModel", name := "areClosed", desc := "()Z" } : Jvm.MethodName) prog_17_method_143_code (3 : Nat) (Option.some Jvm.ClassFile.FieldType.boolean)) ∈ lw_all := lw_g (lw_at lw_m12 94 rfl) rfl
theorem q3016 : (Jvm.Cond.methodLink "ElectionHouseModel" (841 : Nat) ({ cls := "ElectionHouseModel", name := "countLists", desc := "(IZ)V" } : Jvm.MethodName)) ∈ lw_all := lw_g (lw_at lw_m12 95 rfl) rfl
theorem q3017 : (Jvm.Cond.privateMethod ({ cls := "ElectionHouseModel", name := "countLists", desc := "(IZ)V" } : Jvm.MethodName)) ∈ lw_tbl := lw_at lw_m12 96 rfl
theorem q3018 : (Jvm.Cond.instanceMethod ({ cls := "ElectionHouseModel", name := "countLists", desc := "(IZ)V" } : Jvm.MethodName)) ∈ lw_all := lw_g (lw_at lw_m12 97 rfl) rfl
theorem q3019 : (Jvm.Cond.code ({ cls := "ElectionHouseModel", name := "countLists", desc := "(IZ)V" } : Jvm.MethodName) prog_17_method_185_code (5 : Nat) (Option.none : Option Jvm.ClassFile.FieldType)) ∈ lw_all := lw_g (lw_at lw_m12 98 rfl) rfl
theorem q3020 : (Jvm.Cond.methodLink "ElectionHouseModel" (1100 : Nat) ({ cls := "ElectionHouseModel", name := "countFirsts", desc := "(Z)V" } : Jvm.MethodName)) ∈ lw_all := lw_g (lw_at lw_m12 99 rfl) rfl
theorem q3021 : (Jvm.Cond.privateMethod ({ cls := "ElectionHouseModel", name := "countFirsts", desc := "(Z)V" } : Jvm.MethodName)) ∈ lw_tbl := lw_at lw_m12 100 rfl
theorem q3022 : (Jvm.Cond.instanceMethod ({ cls := "ElectionHouseModel", name := "countFirsts", desc := "(Z)V" } : Jvm.MethodName)) ∈ lw_all := lw_g (lw_at lw_m12 101 rfl) rfl
theorem q3023 : (Jvm.Cond.code ({ cls := "ElectionHouseModel", name := "countFirsts", desc := "(Z)V" } : Jvm.MethodName) prog_17_method_177_code (4 : Nat) (Option.none : Option Jvm.ClassFile.FieldType)) ∈ lw_all := lw_g (lw_at lw_m12 102 rfl) rfl
theorem q3024 : (Jvm.Cond.methodLink "ElectionHouseModel" (844 : Nat) ({ cls := "ElectionHouseModel", name := "gather", desc := "(IZ)V" } : Jvm.MethodName)) ∈ lw_all := lw_g (lw_at lw_m12 103 rfl) rfl
theorem q3025 : (Jvm.Cond.privateMethod ({ cls := "ElectionHouseModel", name := "gather", desc := "(IZ)V" } : Jvm.MethodName)) ∈ lw_tbl := lw_at lw_m12 104 rfl
theorem q3026 : (Jvm.Cond.instanceMethod ({ cls := "ElectionHouseModel", name := "gather", desc := "(IZ)V" } : Jvm.MethodName)) ∈ lw_all := lw_g (lw_at lw_m12 105 rfl) rfl
theorem q3027 : (Jvm.Cond.code ({ cls := "ElectionHouseModel", name := "gather", desc := "(IZ)V" } : Jvm.MethodName) prog_17_method_131_code (6 : Nat) (Option.none : Option Jvm.ClassFile.FieldType)) ∈ lw_all := lw_g (lw_at lw_m12 106 rfl) rfl
theorem q3028 : (Jvm.Cond.methodLink "ElectionHouseModel" (776 : Nat) ({ cls := "ElectionHouseModel", name := "lay", desc := "([BI)V" } : Jvm.MethodName)) ∈ lw_all := lw_g (lw_at lw_m12 107 rfl) rfl
theorem q3029 : (Jvm.Cond.privateMethod ({ cls := "ElectionHouseModel", name := "lay", desc := "([BI)V" } : Jvm.MethodName)) ∈ lw_tbl := lw_at lw_m12 108 rfl
theorem q3030 : (Jvm.Cond.instanceMethod ({ cls := "ElectionHouseModel", name := "lay", desc := "([BI)V" } : Jvm.MethodName)) ∈ lw_all := lw_g (lw_at lw_m12 109 rfl) rfl
theorem q3031 : (Jvm.Cond.code ({ cls := "ElectionHouseModel", name := "lay", desc := "([BI)V" } : Jvm.MethodName) prog_17_method_132_code (6 : Nat) (Option.none : Option Jvm.ClassFile.FieldType)) ∈ lw_all := lw_g (lw_at lw_m12 110 rfl) rfl
theorem q3032 : (Jvm.Cond.methodLink "ElectionHouseModel" (783 : Nat) ({ cls := "ElectionHouseModel", name := "rank", desc := "(I)V" } : Jvm.MethodName)) ∈ lw_all := lw_g (lw_at lw_m12 111 rfl) rfl
theorem q3033 : (Jvm.Cond.privateMethod ({ cls := "ElectionHouseModel", name := "rank", desc := "(I)V" } : Jvm.MethodName)) ∈ lw_tbl := lw_at lw_m12 112 rfl
theorem q3034 : (Jvm.Cond.instanceMethod ({ cls := "ElectionHouseModel", name := "rank", desc := "(I)V" } : Jvm.MethodName)) ∈ lw_all := lw_g (lw_at lw_m12 113 rfl) rfl
theorem q3035 : (Jvm.Cond.code ({ cls := "ElectionHouseModel", name := "rank", desc := "(I)V" } : Jvm.MethodName) prog_17_method_133_code (6 : Nat) (Option.none : Option Jvm.ClassFile.FieldType)) ∈ lw_all := lw_g (lw_at lw_m12 114 rfl) rfl
theorem q3036 : (Jvm.Cond.methodLink "ElectionHouseModel" (786 : Nat) ({ cls := "ElectionHouseModel", name := "isBad", desc := "(II)Z" } : Jvm.MethodName)) ∈ lw_all := lw_g (lw_at lw_m12 115 rfl) rfl
theorem q3037 : (Jvm.Cond.privateMethod ({ cls := "ElectionHouseModel", name := "isBad", desc := "(II)Z" } : Jvm.MethodName)) ∈ lw_tbl := lw_at lw_m12 116 rfl
theorem q3038 : (Jvm.Cond.instanceMethod ({ cls := "ElectionHouseModel", name := "isBad", desc := "(II)Z" } : Jvm.MethodName)) ∈ lw_all := lw_g (lw_at lw_m12 117 rfl) rfl
theorem q3039 : (Jvm.Cond.code ({ cls := "ElectionHouseModel", name := "isBad", desc := "(II)Z" } : Jvm.MethodName) prog_17_method_134_code (5 : Nat) (Option.some Jvm.ClassFile.FieldType.boolean)) ∈ lw_all := lw_g (lw_at lw_m12 118 rfl) rfl
theorem q3040 : (Jvm.Cond.methodLink "ElectionHouseModel" (795 : Nat) ({ cls := "ElectionHouseModel", name := "areOneList", desc := "(II)Z" } : Jvm.MethodName)) ∈ lw_all := lw_g (lw_at lw_m12 119 rfl) rfl
theorem q3041 : (Jvm.Cond.privateMethod ({ cls := "ElectionHouseModel", name := "areOneList", desc := "(II)Z" } : Jvm.MethodName)) ∈ lw_tbl := lw_at lw_m12 120 rfl
theorem q3042 : (Jvm.Cond.instanceMethod ({ cls := "ElectionHouseModel", name := "areOneList", desc := "(II)Z" } : Jvm.MethodName)) ∈ lw_all := lw_g (lw_at lw_m12 121 rfl) rfl
theorem q3043 : (Jvm.Cond.code ({ cls := "ElectionHouseModel", name := "areOneList", desc := "(II)Z" } : Jvm.MethodName) prog_17_method_130_code (3 : Nat) (Option.some Jvm.ClassFile.FieldType.boolean)) ∈ lw_all := lw_g (lw_at lw_m12 122 rfl) rfl
theorem q3044 : (Jvm.Cond.methodLink "ElectionHouseModel" (752 : Nat) ({ cls := "ElectionHouseModel", name := "partyOf", desc := "(I)I" } : Jvm.MethodName)) ∈ lw_all := lw_g (lw_at lw_m12 123 rfl) rfl
theorem q3045 : (Jvm.Cond.privateMethod ({ cls := "ElectionHouseModel", name := "partyOf", desc := "(I)I" } : Jvm.MethodName)) ∈ lw_tbl := lw_at lw_m12 124 rfl
theorem q3046 : (Jvm.Cond.instanceMethod ({ cls := "ElectionHouseModel", name := "partyOf", desc := "(I)I" } : Jvm.MethodName)) ∈ lw_all := lw_g (lw_at lw_m12 125 rfl) rfl
theorem q3047 : (Jvm.Cond.code ({ cls := "ElectionHouseModel", name := "partyOf", desc := "(I)I" } : Jvm.MethodName) prog_17_method_129_code (2 : Nat) (Option.some Jvm.ClassFile.FieldType.int)) ∈ lw_all := lw_g (lw_at lw_m12 126 rfl) rfl
theorem q3048 : (Jvm.Cond.methodLink "ElectionHouseModel" (865 : Nat) ({ cls := "ElectionHouseModel", name := "votesByMarks", desc := "(I)V" } : Jvm.MethodName)) ∈ lw_all := lw_g (lw_at lw_m12 127 rfl) rfl
theorem q3049 : (Jvm.Cond.privateMethod ({ cls := "ElectionHouseModel", name := "votesByMarks", desc := "(I)V" } : Jvm.MethodName)) ∈ lw_tbl := lw_at lw_m12 128 rfl
theorem q3050 : (Jvm.Cond.instanceMethod ({ cls := "ElectionHouseModel", name := "votesByMarks", desc := "(I)V" } : Jvm.MethodName)) ∈ lw_all := lw_g (lw_at lw_m12 129 rfl) rfl
theorem q3051 : (Jvm.Cond.code ({ cls := "ElectionHouseModel", name := "votesByMarks", desc := "(I)V" } : Jvm.MethodName) prog_17_method_137_code (4 : Nat) (Option.none : Option Jvm.ClassFile.FieldType)) ∈ lw_all := lw_g (lw_at lw_m12 130 rfl) rfl
theorem q3052 : (Jvm.Cond.methodLink "ElectionHouseModel" (811 : Nat) ({ cls := "ElectionHouseModel", name := "noVotes", desc := "()V" } : Jvm.MethodName)) ∈ lw_all := lw_g (lw_at lw_m12 131 rfl) rfl
theorem q3053 : (Jvm.Cond.privateMethod ({ cls := "ElectionHouseModel", name := "noVotes", desc := "()V" } : Jvm.MethodName)) ∈ lw_tbl := lw_at lw_m12 132 rfl
theorem q3054 : (Jvm.Cond.instanceMethod ({ cls := "ElectionHouseModel", name := "noVotes", desc := "()V" } : Jvm.MethodName)) ∈ lw_all := lw_g (lw_at lw_m12 133 rfl) rfl
theorem q3055 : (Jvm.Cond.code ({ cls := "ElectionHouseModel", name := "noVotes", desc := "()V" } : Jvm.MethodName) prog_17_method_136_code (2 : Nat) (Option.none : Option Jvm.ClassFile.FieldType)) ∈ lw_all := lw_g (lw_at lw_m12 134 rfl) rfl
theorem q3056 : (Jvm.Cond.methodLink "ElectionHouseModel" (871 : Nat) ({ cls := "ElectionHouseModel", name := "orderByVotes", desc := "()V" } : Jvm.MethodName)) ∈ lw_all := lw_g (lw_at lw_m12 135 rfl) rfl
theorem q3057 : (Jvm.Cond.privateMethod ({ cls := "ElectionHouseModel", name := "orderByVotes", desc := "()V" } : Jvm.MethodName)) ∈ lw_tbl := lw_at lw_m12 136 rfl
theorem q3058 : (Jvm.Cond.instanceMethod ({ cls := "ElectionHouseModel", name := "orderByVotes", desc := "()V" } : Jvm.MethodName)) ∈ lw_all := lw_g (lw_at lw_m12 137 rfl) rfl
theorem q3059 : (Jvm.Cond.code ({ cls := "ElectionHouseModel", name := "orderByVotes", desc := "()V" } : Jvm.MethodName) prog_17_method_135_code (3 : Nat) (Option.none : Option Jvm.ClassFile.FieldType)) ∈ lw_all := lw_g (lw_at lw_m12 138 rfl) rfl
theorem q3060 : (Jvm.Cond.methodLink "ElectionHouseModel" (808 : Nat) ({ cls := "ElectionHouseModel", name := "lot", desc := "(I)I" } : Jvm.MethodName)) ∈ lw_all := lw_g (lw_at lw_m12 139 rfl) rfl
theorem q3061 : (Jvm.Cond.privateMethod ({ cls := "ElectionHouseModel", name := "lot", desc := "(I)I" } : Jvm.MethodName)) ∈ lw_tbl := lw_at lw_m12 140 rfl
theorem q3062 : (Jvm.Cond.instanceMethod ({ cls := "ElectionHouseModel", name := "lot", desc := "(I)I" } : Jvm.MethodName)) ∈ lw_all := lw_g (lw_at lw_m12 141 rfl) rfl
theorem q3063 : (Jvm.Cond.code ({ cls := "ElectionHouseModel", name := "lot", desc := "(I)I" } : Jvm.MethodName) prog_17_method_128_code (2 : Nat) (Option.some Jvm.ClassFile.FieldType.int)) ∈ lw_all := lw_g (lw_at lw_m12 142 rfl) rfl
theorem q3064 : (Jvm.Cond.methodLink "ElectionHouseModel" (1051 : Nat) ({ cls := "ElectionHouseModel", name := "personOf", desc := "(I)I" } : Jvm.MethodName)) ∈ lw_all := lw_g (lw_at lw_m12 143 rfl) rfl
theorem q3065 : (Jvm.Cond.privateMethod ({ cls := "ElectionHouseModel", name := "personOf", desc := "(I)I" } : Jvm.MethodName)) ∈ lw_tbl := lw_at lw_m12 144 rfl
theorem q3066 : (Jvm.Cond.instanceMethod ({ cls := "ElectionHouseModel", name := "personOf", desc := "(I)I" } : Jvm.MethodName)) ∈ lw_all := lw_g (lw_at lw_m12 145 rfl) rfl
theorem q3067 : (Jvm.Cond.code ({ cls := "ElectionHouseModel", name := "personOf", desc := "(I)I" } : Jvm.MethodName) prog_17_method_176_code (2 : Nat) (Option.some Jvm.ClassFile.FieldType.int)) ∈ lw_all := lw_g (lw_at lw_m12 146 rfl) rfl
theorem q3068 : (Jvm.Cond.methodLink "ElectionHouseModel" (1103 : Nat) ({ cls := "ElectionHouseModel", name := "makeLists", desc := "()V" } : Jvm.MethodName)) ∈ lw_all := lw_g (lw_at lw_m12 147 rfl) rfl
theorem q3069 : (Jvm.Cond.privateMethod ({ cls := "ElectionHouseModel", name := "makeLists", desc := "()V" } : Jvm.MethodName)) ∈ lw_tbl := lw_at lw_m12 148 rfl
theorem q3070 : (Jvm.Cond.instanceMethod ({ cls := "ElectionHouseModel", name := "makeLists", desc := "()V" } : Jvm.MethodName)) ∈ lw_all := lw_g (lw_at lw_m12 149 rfl) rfl
theorem q3071 : (Jvm.Cond.code ({ cls := "ElectionHouseModel", name := "makeLists", desc := "()V" } : Jvm.MethodName) prog_17_method_178_code (5 : Nat) (Option.none : Option Jvm.ClassFile.FieldType)) ∈ lw_all := lw_g (lw_at lw_m12 150 rfl) rfl
theorem q3072 : (Jvm.Cond.methodLink "ElectionHouseModel" (1088 : Nat) ({ cls := "ElectionHouseModel", name := "votesOfAll", desc := "()I" } : Jvm.MethodName)) ∈ lw_all := lw_g (lw_at lw_m12 151 rfl) rfl
theorem q3073 : (Jvm.Cond.privateMethod ({ cls := "ElectionHouseModel", name := "votesOfAll", desc := "()I" } : Jvm.MethodName)) ∈ lw_tbl := lw_at lw_m12 152 rfl
theorem q3074 : (Jvm.Cond.instanceMethod ({ cls := "ElectionHouseModel", name := "votesOfAll", desc := "()I" } : Jvm.MethodName)) ∈ lw_all := lw_g (lw_at lw_m12 153 rfl) rfl
theorem q3075 : (Jvm.Cond.code ({ cls := "ElectionHouseModel", name := "votesOfAll", desc := "()I" } : Jvm.MethodName) prog_17_method_179_code (3 : Nat) (Option.some Jvm.ClassFile.FieldType.int)) ∈ lw_all := lw_g (lw_at lw_m12 154 rfl) rfl
theorem q3076 : (Jvm.Cond.methodLink "ElectionHouseModel" (1109 : Nat) ({ cls := "ElectionHouseModel", name := "level", desc := "()V" } : Jvm.MethodName)) ∈ lw_all := lw_g (lw_at lw_m12 155 rfl) rfl
theorem q3077 : (Jvm.Cond.privateMethod ({ cls := "ElectionHouseModel", name := "level", desc := "()V" } : Jvm.MethodName)) ∈ lw_tbl := lw_at lw_m12 156 rfl
theorem q3078 : (Jvm.Cond.instanceMethod ({ cls := "ElectionHouseModel", name := "level", desc := "()V" } : Jvm.MethodName)) ∈ lw_all := lw_g (lw_at lw_m12 157 rfl) rfl
theorem q3079 : (Jvm.Cond.code ({ cls := "ElectionHouseModel", name := "level", desc := "()V" } : Jvm.MethodName) prog_17_method_186_code (6 : Nat) (Option.none : Option Jvm.ClassFile.FieldType)) ∈ lw_all := lw_g (lw_at lw_m12 158 rfl) rfl
theorem q3080 : (Jvm.Cond.methodLink "ElectionHouseModel" (1112 : Nat) ({ cls := "ElectionHouseModel", name := "deal", desc := "(IZ)V" } : Jvm.MethodName)) ∈ lw_all := lw_g (lw_at lw_m12 159 rfl) rfl
theorem q3081 : (Jvm.Cond.privateMethod ({ cls := "ElectionHouseModel", name := "deal", desc := "(IZ)V" } : Jvm.MethodName)) ∈ lw_tbl := lw_at lw_m12 160 rfl
theorem q3082 : (Jvm.Cond.instanceMethod ({ cls := "ElectionHouseModel", name := "deal", desc := "(IZ)V" } : Jvm.MethodName)) ∈ lw_all := lw_g (lw_at lw_m12 161 rfl) rfl
theorem q3083 : (Jvm.Cond.code ({ cls := "ElectionHouseModel", name := "deal", desc := "(IZ)V" } : Jvm.MethodName) prog_17_method_182_code (7 : Nat) (Option.none : Option Jvm.ClassFile.FieldType)) ∈ lw_all := lw_g (lw_at lw_m12 162 rfl) rfl
theorem q3084 : (Jvm.Cond.methodLink "ElectionHouseModel" (1078 : Nat) ({ cls := "ElectionHouseModel", name := "dealByQuota", desc := "(IIZ)V" } : Jvm.MethodName)) ∈ lw_all := lw_g (lw_at lw_m12 163 rfl) rfl
theorem q3085 : (Jvm.Cond.privateMethod ({ cls := "ElectionHouseModel", name := "dealByQuota", desc := "(IIZ)V" } : Jvm.MethodName)) ∈ lw_tbl := lw_at lw_m12 164 rfl
theorem q3086 : (Jvm.Cond.instanceMethod ({ cls := "ElectionHouseModel", name := "dealByQuota", desc := "(IIZ)V" } : Jvm.MethodName)) ∈ lw_all := lw_g (lw_at lw_m12 165 rfl) rfl
theorem q3087 : (Jvm.Cond.code ({ cls := "ElectionHouseModel", name := "dealByQuota", desc := "(IIZ)V" } : Jvm.MethodName) prog_17_method_183_code (10 : Nat) (Option.none : Option Jvm.ClassFile.FieldType)) ∈ lw_all := lw_g (lw_at lw_m12 166 rfl) rfl
theorem q3088 : (Jvm.Cond.methodLink "ElectionHouseModel" (1094 : Nat) ({ cls := "ElectionHouseModel", name := "sortLists", desc := "(Z)V" } : Jvm.MethodName)) ∈ lw_all := lw_g (lw_at lw_m12 167 rfl) rfl
theorem q3089 : (Jvm.Cond.privateMethod ({ cls := "ElectionHouseModel", name := "sortLists", desc := "(Z)V" } : Jvm.MethodName)) ∈ lw_tbl := lw_at lw_m12 168 rfl
theorem q3090 : (Jvm.Cond.instanceMethod ({ cls := "ElectionHouseModel", name := "sortLists", desc := "(Z)V" } : Jvm.MethodName)) ∈ lw_all := lw_g (lw_at lw_m12 169 rfl) rfl
theorem q3091 : (Jvm.Cond.code ({ cls := "ElectionHouseModel", name := "sortLists", desc := "(Z)V" } : Jvm.MethodName) prog_17_method_184_code (5 : Nat) (Option.none : Option Jvm.ClassFile.FieldType)) ∈ lw_all := lw_g (lw_at lw_m12 170 rfl) rfl
theorem q3092 : (Jvm.Cond.methodLink "ElectionHouseModel" (1082 : Nat) ({ cls := "ElectionHouseModel", name := "hasPlace", desc := "(IZ)Z" } : Jvm.MethodName)) ∈ lw_all := lw_g (lw_at lw_m12 171 rfl) rfl
theorem q3093 : (Jvm.Cond.privateMethod ({ cls := "ElectionHouseModel", name := "hasPlace", desc := "(IZ)Z" } : Jvm.MethodName)) ∈ lw_tbl := lw_at lw_m12 172 rfl
theorem q3094 : (Jvm.Cond.instanceMethod ({ cls := "ElectionHouseModel", name := "hasPlace", desc := "(IZ)Z" } : Jvm.MethodName)) ∈ lw_all := lw_g (lw_at lw_m12 173 rfl) rfl
theorem q3095 : (Jvm.Cond.code ({ cls := "ElectionHouseModel", name := "hasPlace", desc := "(IZ)Z" } : Jvm.MethodName) prog_17_method_180_code (3 : Nat) (Option.some Jvm.ClassFile.FieldType.boolean)) ∈ lw_all := lw_g (lw_at lw_m12 174 rfl) rfl
theorem q3096 : (Jvm.Cond.methodLink "ElectionHouseModel" (1085 : Nat) ({ cls := "ElectionHouseModel", name := "divisor", desc := "(II)I" } : Jvm.MethodName)) ∈ lw_all := lw_g (lw_at lw_m12 175 rfl) rfl
theorem q3097 : (Jvm.Cond.static ({ cls := "ElectionHouseModel", name := "divisor", desc := "(II)I" } : Jvm.MethodName)) ∈ lw_all := lw_g (lw_at lw_m12 176 rfl) rfl
theorem q3098 : (Jvm.Cond.code ({ cls := "ElectionHouseModel", name := "divisor", desc := "(II)I" } : Jvm.MethodName) prog_17_method_181_code (2 : Nat) (Option.some Jvm.ClassFile.FieldType.int)) ∈ lw_all := lw_g (lw_at lw_m12 177 rfl) rfl
theorem q3099 : (Jvm.Cond.methodLink "ElectionHouseModel" (1040 : Nat) ({ cls := "java/lang/Math", name := "max", desc := "(II)I" } : Jvm.MethodName)) ∈ lw_all := lw_g (lw_at lw_m12 178 rfl) rfl
theorem q3100 : (Jvm.Cond.methodLink "ElectionHouseModel" (1115 : Nat) ({ cls := "ElectionHouseModel", name := "electLists", desc := "(Z)V" } : Jvm.MethodName)) ∈ lw_all := lw_g (lw_at lw_m12 179 rfl) rfl
theorem q3101 : (Jvm.Cond.privateMethod ({ cls := "ElectionHouseModel", name := "electLists", desc := "(Z)V" } : Jvm.MethodName)) ∈ lw_tbl := lw_at lw_m12 180 rfl
theorem q3102 : (Jvm.Cond.instanceMethod ({ cls := "ElectionHouseModel", name := "electLists", desc := "(Z)V" } : Jvm.MethodName)) ∈ lw_all := lw_g (lw_at lw_m12 181 rfl) rfl
theorem q3103 : (Jvm.Cond.code ({ cls := "ElectionHouseModel", name := "electLists", desc := "(Z)V" } : Jvm.MethodName) prog_17_method_187_code (6 : Nat) (Option.none : Option Jvm.ClassFile.FieldType)) ∈ lw_all := lw_g (lw_at lw_m12 182 rfl) rfl
theorem q3104 : (Jvm.Cond.methodLink "ElectionHouseModel" (832 : Nat) ({ cls := "ElectionHouseModel", name := "win", desc := "(I)V" } : Jvm.MethodName)) ∈ lw_all := lw_g (lw_at lw_m12 183 rfl) rfl
theorem q3105 : (Jvm.Cond.privateMethod ({ cls := "ElectionHouseModel", name := "win", desc := "(I)V" } : Jvm.MethodName)) ∈ lw_tbl := lw_at lw_m12 184 rfl
theorem q3106 : (Jvm.Cond.instanceMethod ({ cls := "ElectionHouseModel", name := "win", desc := "(I)V" } : Jvm.MethodName)) ∈ lw_all := lw_g (lw_at lw_m12 185 rfl) rfl
theorem q3107 : (Jvm.Cond.code ({ cls := "ElectionHouseModel", name := "win", desc := "(I)V" } : Jvm.MethodName) prog_17_method_141_code (2 : Nat) (Option.none : Option Jvm.ClassFile.FieldType)) ∈ lw_all := lw_g (lw_at lw_m12 186 rfl) rfl
theorem q3108 : (Jvm.Cond.methodLink "ElectionHouseModel" (868 : Nat) ({ cls := "ElectionHouseModel", name := "tell", desc := "()V" } : Jvm.MethodName)) ∈ lw_all := lw_g (lw_at lw_m12 187 rfl) rfl
theorem q3109 : (Jvm.Cond.privateMethod ({ cls := "ElectionHouseModel", name := "tell", desc := "()V" } : Jvm.MethodName)) ∈ lw_tbl := lw_at lw_m12 188 rfl
theorem q3110 : (Jvm.Cond.instanceMethod ({ cls := "ElectionHouseModel", name := "tell", desc := "()V" } : Jvm.MethodName)) ∈ lw_all := lw_g (lw_at lw_m12 189 rfl) rfl
theorem q3111 : (Jvm.Cond.code ({ cls := "ElectionHouseModel", name := "tell", desc := "()V" } : Jvm.MethodName) prog_17_method_139_code (2 : Nat) (Option.none : Option Jvm.ClassFile.FieldType)) ∈ lw_all := lw_g (lw_at lw_m12 190 rfl) rfl
theorem q3112 : (Jvm.Cond.methodLink "ElectionHouseModel" (847 : Nat) ({ cls := "ElectionHouseModel", name := "countBy", desc := "(I)V" } : Jvm.MethodName)) ∈ lw_all := lw_g (lw_at lw_m12 191 rfl) rfl
theorem q3113 : (Jvm.Cond.privateMethod ({ cls := "ElectionHouseModel", name := "countBy", desc := "(I)V" } : Jvm.MethodName)) ∈ lw_tbl := lw_at lw_m12 192 rfl
theorem q3114 : (Jvm.Cond.instanceMethod ({ cls := "ElectionHouseModel", name := "countBy", desc := "(I)V" } : Jvm.MethodName)) ∈ lw_all := lw_g (lw_at lw_m12 193 rfl) rfl
theorem q3115 : (Jvm.Cond.code ({ cls := "ElectionHouseModel", name := "countBy", desc := "(I)V" } : Jvm.MethodName) prog_17_method_145_code (2 : Nat) (Option.none : Option Jvm.ClassFile.FieldType)) ∈ lw_all := lw_g (lw_at lw_m12 194 rfl) rfl
theorem q3116 : (Jvm.Cond.methodLink "ElectionHouseModel" (862 : Nat) ({ cls := "ElectionHouseModel", name := "votesByRanks", desc := "()V" } : Jvm.MethodName)) ∈ lw_all := lw_g (lw_at lw_m12 195 rfl) rfl
theorem q3117 : (Jvm.Cond.privateMethod ({ cls := "ElectionHouseModel", name := "votesByRanks", desc := "()V" } : Jvm.MethodName)) ∈ lw_tbl := lw_at lw_m12 196 rfl
theorem q3118 : (Jvm.Cond.instanceMethod ({ cls := "ElectionHouseModel", name := "votesByRanks", desc := "()V" } : Jvm.MethodName)) ∈ lw_all := lw_g (lw_at lw_m12 197 rfl) rfl
theorem q3119 : (Jvm.Cond.code ({ cls := "ElectionHouseModel", name := "votesByRanks", desc := "()V" } : Jvm.MethodName) prog_17_method_138_code (3 : Nat) (Option.none : Option Jvm.ClassFile.FieldType)) ∈ lw_all := lw_g (lw_at lw_m12 198 rfl) rfl
theorem q3120 : (Jvm.Cond.methodLink "ElectionHouseModel" (874 : Nat) ({ cls := "ElectionHouseModel", name := "winFirst", desc := "()V" } : Jvm.MethodName)) ∈ lw_all := lw_g (lw_at lw_m12 199 rfl) rfl
theorem q3121 : (Jvm.Cond.privateMethod ({ cls := "ElectionHouseModel", name := "winFirst", desc := "()V" } : Jvm.MethodName)) ∈ lw_tbl := lw_at lw_m12 200 rfl
theorem q3122 : (Jvm.Cond.instanceMethod ({ cls := "ElectionHouseModel", name := "winFirst", desc := "()V" } : Jvm.MethodName)) ∈ lw_all := lw_g (lw_at lw_m12 201 rfl) rfl
theorem q3123 : (Jvm.Cond.code ({ cls := "ElectionHouseModel", name := "winFirst", desc := "()V" } : Jvm.MethodName) prog_17_method_142_code (2 : Nat) (Option.none : Option Jvm.ClassFile.FieldType)) ∈ lw_all := lw_g (lw_at lw_m12 202 rfl) rfl
theorem q3124 : (Jvm.Cond.methodLink "ElectionHouseModel" (877 : Nat) ({ cls := "ElectionHouseModel", name := "countMedian", desc := "()V" } : Jvm.MethodName)) ∈ lw_all := lw_g (lw_at lw_m12 203 rfl) rfl
theorem q3125 : (Jvm.Cond.privateMethod ({ cls := "ElectionHouseModel", name := "countMedian", desc := "()V" } : Jvm.MethodName)) ∈ lw_tbl := lw_at lw_m12 204 rfl
theorem q3126 : (Jvm.Cond.instanceMethod ({ cls := "ElectionHouseModel", name := "countMedian", desc := "()V" } : Jvm.MethodName)) ∈ lw_all := lw_g (lw_at lw_m12 205 rfl) rfl
theorem q3127 : (Jvm.Cond.code ({ cls := "ElectionHouseModel", name := "countMedian", desc := "()V" } : Jvm.MethodName) prog_17_method_148_code (3 : Nat) (Option.none : Option Jvm.ClassFile.FieldType)) ∈ lw_all := lw_g (lw_at lw_m12 206 rfl) rfl
theorem q3128 : (Jvm.Cond.methodLink "ElectionHouseModel" (906 : Nat) ({ cls := "ElectionHouseModel", name := "isMedianAhead", desc := "(II)Z" } : Jvm.MethodName)) ∈ lw_all := lw_g (lw_at lw_m12 207 rfl) rfl
theorem q3129 : (Jvm.Cond.privateMethod ({ cls := "ElectionHouseModel", name := "isMedianAhead", desc := "(II)Z" } : Jvm.MethodName)) ∈ lw_tbl := lw_at lw_m12 208 rfl
theorem q3130 : (Jvm.Cond.instanceMethod ({ cls := "ElectionHouseModel", name := "isMedianAhead", desc := "(II)Z" } : Jvm.MethodName)) ∈ lw_all := lw_g (lw_at lw_m12 209 rfl) rfl
theorem q3131 : (Jvm.Cond.code ({ cls := "ElectionHouseModel", name := "isMedianAhead", desc := "(II)Z" } : Jvm.MethodName) prog_17_method_147_code (6 : Nat) (Option.some Jvm.ClassFile.FieldType.boolean)) ∈ lw_all := lw_g (lw_at lw_m12 210 rfl) rfl
theorem q3132 : (Jvm.Cond.methodLink "ElectionHouseModel" (902 : Nat) ({ cls := "ElectionHouseModel", name := "medianOf", desc := "([II)I" } : Jvm.MethodName)) ∈ lw_all := lw_g (lw_at lw_m12 211 rfl) rfl
theorem q3133 : (Jvm.Cond.static ({ cls := "ElectionHouseModel", name := "medianOf", desc := "([II)I" } : Jvm.MethodName)) ∈ lw_all := lw_g (lw_at lw_m12 212 rfl) rfl
theorem q3134 : (Jvm.Cond.code ({ cls := "ElectionHouseModel", name := "medianOf", desc := "([II)I" } : Jvm.MethodName) prog_17_method_146_code (4 : Nat) (Option.some Jvm.ClassFile.FieldType.int)) ∈ lw_all := lw_g (lw_at lw_m12 213 rfl) rfl
theorem q3135 : (Jvm.Cond.methodLink "ElectionHouseModel" (880 : Nat) ({ cls := "ElectionHouseModel", name := "countOut", desc := "()V" } : Jvm.MethodName)) ∈ lw_all := lw_g (lw_at lw_m12 214 rfl) rfl
theorem q3136 : (Jvm.Cond.privateMethod ({ cls := "ElectionHouseModel", name := "countOut", desc := "()V" } : Jvm.MethodName)) ∈ lw_tbl := lw_at lw_m12 215 rfl
theorem q3137 : (Jvm.Cond.instanceMethod ({ cls := "ElectionHouseModel", name := "countOut", desc := "()V" } : Jvm.MethodName)) ∈ lw_all := lw_g (lw_at lw_m12 216 rfl) rfl
theorem q3138 : (Jvm.Cond.code ({ cls := "ElectionHouseModel", name := "countOut", desc := "()V" } : Jvm.MethodName) prog_17_method_156_code (4 : Nat) (Option.none : Option Jvm.ClassFile.FieldType)) ∈ lw_all := lw_g (lw_at lw_m12 217 rfl) rfl
theorem q3139 : (Jvm.Cond.methodLink "ElectionHouseModel" (929 : Nat) ({ cls := "ElectionHouseModel", name := "allIn", desc := "()V" } : Jvm.MethodName)) ∈ lw_all := lw_g (lw_at lw_m12 218 rfl) rfl
theorem q3140 : (Jvm.Cond.privateMethod ({ cls := "ElectionHouseModel", name := "allIn", desc := "()V" } : Jvm.MethodName)) ∈ lw_tbl := lw_at lw_m12 219 rfl
theorem q3141 : (Jvm.Cond.instanceMethod ({ cls := "ElectionHouseModel", name := "allIn", desc := "()V" } : Jvm.MethodName)) ∈ lw_all := lw_g (lw_at lw_m12 220 rfl) rfl
theorem q3142 : (Jvm.Cond.code ({ cls := "ElectionHouseModel", name := "allIn", desc := "()V" } : Jvm.MethodName) prog_17_method_149_code (2 : Nat) (Option.none : Option Jvm.ClassFile.FieldType)) ∈ lw_all := lw_g (lw_at lw_m12 221 rfl) rfl
theorem q3143 : (Jvm.Cond.methodLink "ElectionHouseModel" (932 : Nat) ({ cls := "ElectionHouseModel", name := "firstIn", desc := "(I)I" } : Jvm.MethodName)) ∈ lw_all := lw_g (lw_at lw_m12 222 rfl) rfl
theorem q3144 : (Jvm.Cond.privateMethod ({ cls := "ElectionHouseModel", name := "firstIn", desc := "(I)I" } : Jvm.MethodName)) ∈ lw_tbl := lw_at lw_m12 223 rfl
theorem q3145 : (Jvm.Cond.instanceMethod ({ cls := "ElectionHouseModel", name := "firstIn", desc := "(I)I" } : Jvm.MethodName)) ∈ lw_all := lw_g (lw_at lw_m12 224 rfl) rfl
theorem q3146 : (Jvm.Cond.code ({ cls := "ElectionHouseModel", name := "firstIn", desc := "(I)I" } : Jvm.MethodName) prog_17_method_155_code (3 : Nat) (Option.some Jvm.ClassFile.FieldType.int)) ∈ lw_all := lw_g (lw_at lw_m12 225 rfl) rfl
theorem q3147 : (Jvm.Cond.methodLink "ElectionHouseModel" (918 : Nat) ({ cls := "ElectionHouseModel", name := "howManyIn", desc := "()I" } : Jvm.MethodName)) ∈ lw_all := lw_g (lw_at lw_m12 226 rfl) rfl
theorem q3148 : (Jvm.Cond.privateMethod ({ cls := "ElectionHouseModel", name := "howManyIn", desc := "()I" } : Jvm.MethodName)) ∈ lw_tbl := lw_at lw_m12 227 rfl
theorem q3149 : (Jvm.Cond.instanceMethod ({ cls := "ElectionHouseModel", name := "howManyIn", desc := "()I" } : Jvm.MethodName)) ∈ lw_all := lw_g (lw_at lw_m12 228 rfl) rfl
theorem q3150 : (Jvm.Cond.code ({ cls := "ElectionHouseModel", name := "howManyIn", desc := "()I" } : Jvm.MethodName) prog_17_method_150_code (3 : Nat) (Option.some Jvm.ClassFile.FieldType.int)) ∈ lw_all := lw_g (lw_at lw_m12 229 rfl) rfl
theorem q3151 : (Jvm.Cond.methodLink "ElectionHouseModel" (935 : Nat) ({ cls := "ElectionHouseModel", name := "goesOut", desc := "(Z)I" } : Jvm.MethodName)) ∈ lw_all := lw_g (lw_at lw_m12 230 rfl) rfl
theorem q3152 : (Jvm.Cond.privateMethod ({ cls := "ElectionHouseModel", name := "goesOut", desc := "(Z)I" } : Jvm.MethodName)) ∈ lw_tbl := lw_at lw_m12 231 rfl
theorem q3153 : (Jvm.Cond.instanceMethod ({ cls := "ElectionHouseModel", name := "goesOut", desc := "(Z)I" } : Jvm.MethodName)) ∈ lw_all := lw_g (lw_at lw_m12 232 rfl) rfl
theorem q3154 : (Jvm.Cond.code ({ cls := "ElectionHouseModel", name := "goesOut", desc := "(Z)I" } : Jvm.MethodName) prog_17_method_152_code (4 : Nat) (Option.some Jvm.ClassFile.FieldType.int)) ∈ lw_all := lw_g (lw_at lw_m12 233 rfl) rfl
theorem q3155 : (Jvm.Cond.methodLink "ElectionHouseModel" (912 : Nat) ({ cls := "ElectionHouseModel", name := "isWorse", desc := "(IIZ)Z" } : Jvm.MethodName)) ∈ lw_all := lw_g (lw_at lw_m12 234 rfl) rfl
theorem q3156 : (Jvm.Cond.privateMethod ({ cls := "ElectionHouseModel", name := "isWorse", desc := "(IIZ)Z" } : Jvm.MethodName)) ∈ lw_tbl := lw_at lw_m12 235 rfl
theorem q3157 : (Jvm.Cond.instanceMethod ({ cls := "ElectionHouseModel", name := "isWorse", desc := "(IIZ)Z" } : Jvm.MethodName)) ∈ lw_all := lw_g (lw_at lw_m12 236 rfl) rfl
theorem q3158 : (Jvm.Cond.code ({ cls := "ElectionHouseModel", name := "isWorse", desc := "(IIZ)Z" } : Jvm.MethodName) prog_17_method_151_code (9 : Nat) (Option.some Jvm.ClassFile.FieldType.boolean)) ∈ lw_all := lw_g (lw_at lw_m12 237 rfl) rfl
theorem q3159 : (Jvm.Cond.methodLink "ElectionHouseModel" (915 : Nat) ({ cls := "ElectionHouseModel", name := "acted", desc := "(II)V" } : Jvm.MethodName)) ∈ lw_all := lw_g (lw_at lw_m12 238 rfl) rfl
theorem q3160 : (Jvm.Cond.privateMethod ({ cls := "ElectionHouseModel", name := "acted", desc := "(II)V" } : Jvm.MethodName)) ∈ lw_tbl := lw_at lw_m12 239 rfl
theorem q3161 : (Jvm.Cond.instanceMethod ({ cls := "ElectionHouseModel", name := "acted", desc := "(II)V" } : Jvm.MethodName)) ∈ lw_all := lw_g (lw_at lw_m13 0 rfl) rfl
theorem q3162 : (Jvm.Cond.code ({ cls := "ElectionHouseModel", name := "acted", desc := "(II)V" } : Jvm.MethodName) prog_17_method_140_code (3 : Nat) (Option.none : Option Jvm.ClassFile.FieldType)) ∈ lw_all := lw_g (lw_at lw_m13 1 rfl) rfl
theorem q3163 : (Jvm.Cond.constantLong "ElectionHouseModel" (923 : Nat) (-9223372036854775808 : Int64)) ∈ lw_all := lw_g (lw_at lw_m13 2 rfl) rfl
theorem q3164 : (Jvm.Cond.methodLink "ElectionHouseModel" (925 : Nat) ({ cls := "ElectionHouseModel", name := "electFrom", desc := "(J)I" } : Jvm.MethodName)) ∈ lw_all := lw_g (lw_at lw_m13 3 rfl) rfl
theorem q3165 : (Jvm.Cond.privateMethod ({ cls := "ElectionHouseModel", name := "electFrom", desc := "(J)I" } : Jvm.MethodName)) ∈ lw_tbl := lw_at lw_m13 4 rfl
theorem q3166 : (Jvm.Cond.instanceMethod ({ cls := "ElectionHouseModel", name := "electFrom", desc := "(J)I" } : Jvm.MethodName)) ∈ lw_all := lw_g (lw_at lw_m13 5 rfl) rfl
theorem q3167 : (Jvm.Cond.code ({ cls := "ElectionHouseModel", name := "electFrom", desc := "(J)I" } : Jvm.MethodName) prog_17_method_153_code (6 : Nat) (Option.some Jvm.ClassFile.FieldType.int)) ∈ lw_all := lw_g (lw_at lw_m13 6 rfl) rfl
theorem q3168 : (Jvm.Cond.methodLink "ElectionHouseModel" (883 : Nat) ({ cls := "ElectionHouseModel", name := "countMeek", desc := "()V" } : Jvm.MethodName)) ∈ lw_all := lw_g (lw_at lw_m13 7 rfl) rfl
theorem q3169 : (Jvm.Cond.privateMethod ({ cls := "ElectionHouseModel", name := "countMeek", desc := "()V" } : Jvm.MethodName)) ∈ lw_tbl := lw_at lw_m13 8 rfl
theorem q3170 : (Jvm.Cond.instanceMethod ({ cls := "ElectionHouseModel", name := "countMeek", desc := "()V" } : Jvm.MethodName)) ∈ lw_all := lw_g (lw_at lw_m13 9 rfl) rfl
theorem q3171 : (Jvm.Cond.code ({ cls := "ElectionHouseModel", name := "countMeek", desc := "()V" } : Jvm.MethodName) prog_17_method_165_code (10 : Nat) (Option.none : Option Jvm.ClassFile.FieldType)) ∈ lw_all := lw_g (lw_at lw_m13 10 rfl) rfl
theorem q3172 : (Jvm.Cond.constantLong "ElectionHouseModel" (977 : Nat) (100000000 : Int64)) ∈ lw_all := lw_g (lw_at lw_m13 11 rfl) rfl
theorem q3173 : (Jvm.Cond.constantLong "ElectionHouseModel" (985 : Nat) (9223372036854775807 : Int64)) ∈ lw_all := lw_g (lw_at lw_m13 12 rfl) rfl
theorem q3174 : (Jvm.Cond.methodLink "ElectionHouseModel" (987 : Nat) ({ cls := "ElectionHouseModel", name := "iterate", desc := "()J" } : Jvm.MethodName)) ∈ lw_all := lw_g (lw_at lw_m13 13 rfl) rfl
theorem q3175 : (Jvm.Cond.privateMethod ({ cls := "ElectionHouseModel", name := "iterate", desc := "()J" } : Jvm.MethodName)) ∈ lw_tbl := lw_at lw_m13 14 rfl
theorem q3176 : (Jvm.Cond.instanceMethod ({ cls := "ElectionHouseModel", name := "iterate", desc := "()J" } : Jvm.MethodName)) ∈ lw_all := lw_g (lw_at lw_m13 15 rfl) rfl
theorem q3177 : (Jvm.Cond.code ({ cls := "ElectionHouseModel", name := "iterate", desc := "()J" } : Jvm.MethodName) prog_17_method_164_code (10 : Nat) (Option.some Jvm.ClassFile.FieldType.long)) ∈ lw_all := lw_g (lw_at lw_m13 16 rfl) rfl
theorem q3178 : (Jvm.Cond.methodLink "ElectionHouseModel" (982 : Nat) ({ cls := "ElectionHouseModel", name := "up", desc := "(JJ)J" } : Jvm.MethodName)) ∈ lw_all := lw_g (lw_at lw_m13 17 rfl) rfl
theorem q3179 : (Jvm.Cond.static ({ cls := "ElectionHouseModel", name := "up", desc := "(JJ)J" } : Jvm.MethodName)) ∈ lw_all := lw_g (lw_at lw_m13 18 rfl) rfl
theorem q3180 : (Jvm.Cond.code ({ cls := "ElectionHouseModel", name := "up", desc := "(JJ)J" } : Jvm.MethodName) prog_17_method_163_code (4 : Nat) (Option.some Jvm.ClassFile.FieldType.long)) ∈ lw_all := lw_g (lw_at lw_m13 19 rfl) rfl
theorem q3181 : (Jvm.Cond.methodLink "ElectionHouseModel" (973 : Nat) ({ cls := "java/lang/Math", name := "floorDiv", desc := "(JJ)J" } : Jvm.MethodName)) ∈ lw_all := lw_g (lw_at lw_m13 20 rfl) rfl
theorem q3184 : (Jvm.Cond.methodLink "ElectionHouseModel" (959 : Nat) ({ cls := "ElectionHouseModel", name := "isThrough", desc := "()Z" } : Jvm.MethodName)) ∈ lw_all := lw_g (lw_at lw_m13 23 rfl) rfl
theorem q3185 : (Jvm.Cond.privateMethod ({ cls := "ElectionHouseModel", name := "isThrough", desc := "()Z" } : Jvm.MethodName)) ∈ lw_tbl := lw_at lw_m13 24 rfl
theorem q3186 : (Jvm.Cond.instanceMethod ({ cls := "ElectionHouseModel", name := "isThrough", desc := "()Z" } : Jvm.MethodName)) ∈ lw_all := lw_g (lw_at lw_m13 25 rfl) rfl
theorem q3187 : (Jvm.Cond.code ({ cls := "ElectionHouseModel", name := "isThrough", desc := "()Z" } : Jvm.MethodName) prog_17_method_154_code (1 : Nat) (Option.some Jvm.ClassFile.FieldType.boolean)) ∈ lw_all := lw_g (lw_at lw_m13 26 rfl) rfl
theorem q3188 : (Jvm.Cond.methodLink "ElectionHouseModel" (991 : Nat) ({ cls := "java/lang/Math", name := "max", desc := "(JJ)J" } : Jvm.MethodName)) ∈ lw_all := lw_g (lw_at lw_m13 27 rfl) rfl
theorem q3189 : (Jvm.Cond.constantLong "ElectionHouseModel" (994 : Nat) (100 : Int64)) ∈ lw_all := lw_g (lw_at lw_m13 28 rfl) rfl
theorem q3190 : (Jvm.Cond.methodLink "ElectionHouseModel" (996 : Nat) ({ cls := "java/lang/Math", name := "min", desc := "(JJ)J" } : Jvm.MethodName)) ∈ lw_all := lw_g (lw_at lw_m13 29 rfl) rfl
theorem q3191 : (Jvm.Cond.methodLink "ElectionHouseModel" (886 : Nat) ({ cls := "ElectionHouseModel", name := "countTransfer", desc := "(Z)V" } : Jvm.MethodName)) ∈ lw_all := lw_g (lw_at lw_m13 30 rfl) rfl
theorem q3192 : (Jvm.Cond.privateMethod ({ cls := "ElectionHouseModel", name := "countTransfer", desc := "(Z)V" } : Jvm.MethodName)) ∈ lw_tbl := lw_at lw_m13 31 rfl
theorem q3193 : (Jvm.Cond.instanceMethod ({ cls := "ElectionHouseModel", name := "countTransfer", desc := "(Z)V" } : Jvm.MethodName)) ∈ lw_all := lw_g (lw_at lw_m13 32 rfl) rfl
theorem q3194 : (Jvm.Cond.code ({ cls := "ElectionHouseModel", name := "countTransfer", desc := "(Z)V" } : Jvm.MethodName) prog_17_method_159_code (12 : Nat) (Option.none : Option Jvm.ClassFile.FieldType)) ∈ lw_all := lw_g (lw_at lw_m13 33 rfl) rfl
theorem q3195 : (Jvm.Cond.constantLong "ElectionHouseModel" (945 : Nat) (1000000 : Int64)) ∈ lw_all := lw_g (lw_at lw_m13 34 rfl) rfl
theorem q3196 : (Jvm.Cond.methodLink "ElectionHouseModel" (947 : Nat) ({ cls := "ElectionHouseModel", name := "sortBallots", desc := "()V" } : Jvm.MethodName)) ∈ lw_all := lw_g (lw_at lw_m13 35 rfl) rfl
theorem q3197 : (Jvm.Cond.privateMethod ({ cls := "ElectionHouseModel", name := "sortBallots", desc := "()V" } : Jvm.MethodName)) ∈ lw_tbl := lw_at lw_m13 36 rfl
theorem q3198 : (Jvm.Cond.instanceMethod ({ cls := "ElectionHouseModel", name := "sortBallots", desc := "()V" } : Jvm.MethodName)) ∈ lw_all := lw_g (lw_at lw_m13 37 rfl) rfl
theorem q3199 : (Jvm.Cond.code ({ cls := "ElectionHouseModel", name := "sortBallots", desc := "()V" } : Jvm.MethodName) prog_17_method_158_code (3 : Nat) (Option.none : Option Jvm.ClassFile.FieldType)) ∈ lw_all := lw_g (lw_at lw_m13 38 rfl) rfl
theorem q3200 : (Jvm.Cond.methodLink "ElectionHouseModel" (942 : Nat) ({ cls := "ElectionHouseModel", name := "isLesser", desc := "(II)Z" } : Jvm.MethodName)) ∈ lw_all := lw_g (lw_at lw_m13 39 rfl) rfl
theorem q3201 : (Jvm.Cond.privateMethod ({ cls := "ElectionHouseModel", name := "isLesser", desc := "(II)Z" } : Jvm.MethodName)) ∈ lw_tbl := lw_at lw_m13 40 rfl
theorem q3202 : (Jvm.Cond.instanceMethod ({ cls := "ElectionHouseModel", name := "isLesser", desc := "(II)Z" } : Jvm.MethodName)) ∈ lw_all := lw_g (lw_at lw_m13 41 rfl) rfl
theorem q3203 : (Jvm.Cond.code ({ cls := "ElectionHouseModel", name := "isLesser", desc := "(II)Z" } : Jvm.MethodName) prog_17_method_157_code (6 : Nat) (Option.some Jvm.ClassFile.FieldType.boolean)) ∈ lw_all := lw_g (lw_at lw_m13 42 rfl) rfl
theorem q3204 : (Jvm.Cond.methodLink "ElectionHouseModel" (962 : Nat) ({ cls := "ElectionHouseModel", name := "surplusOf", desc := "(J)I" } : Jvm.MethodName)) ∈ lw_all := lw_g (lw_at lw_m13 43 rfl) rfl
theorem q3205 : (Jvm.Cond.privateMethod ({ cls := "ElectionHouseModel", name := "surplusOf", desc := "(J)I" } : Jvm.MethodName)) ∈ lw_tbl := lw_at lw_m13 44 rfl
theorem q3206 : (Jvm.Cond.instanceMethod ({ cls := "ElectionHouseModel", name := "surplusOf", desc := "(J)I" } : Jvm.MethodName)) ∈ lw_all := lw_g (lw_at lw_m13 45 rfl) rfl
theorem q3207 : (Jvm.Cond.code ({ cls := "ElectionHouseModel", name := "surplusOf", desc := "(J)I" } : Jvm.MethodName) prog_17_method_160_code (6 : Nat) (Option.some Jvm.ClassFile.FieldType.int)) ∈ lw_all := lw_g (lw_at lw_m13 46 rfl) rfl
theorem q3208 : (Jvm.Cond.methodLink "ElectionHouseModel" (965 : Nat) ({ cls := "ElectionHouseModel", name := "givePart", desc := "(IJ)V" } : Jvm.MethodName)) ∈ lw_all := lw_g (lw_at lw_m13 47 rfl) rfl
theorem q3209 : (Jvm.Cond.privateMethod ({ cls := "ElectionHouseModel", name := "givePart", desc := "(IJ)V" } : Jvm.MethodName)) ∈ lw_tbl := lw_at lw_m13 48 rfl
theorem q3210 : (Jvm.Cond.instanceMethod ({ cls := "ElectionHouseModel", name := "givePart", desc := "(IJ)V" } : Jvm.MethodName)) ∈ lw_all := lw_g (lw_at lw_m13 49 rfl) rfl
theorem q3211 : (Jvm.Cond.code ({ cls := "ElectionHouseModel", name := "givePart", desc := "(IJ)V" } : Jvm.MethodName) prog_17_method_161_code (5 : Nat) (Option.none : Option Jvm.ClassFile.FieldType)) ∈ lw_all := lw_g (lw_at lw_m13 50 rfl) rfl
theorem q3212 : (Jvm.Cond.methodLink "ElectionHouseModel" (969 : Nat) ({ cls := "ElectionHouseModel", name := "giveSome", desc := "(IJJ)J" } : Jvm.MethodName)) ∈ lw_all := lw_g (lw_at lw_m13 51 rfl) rfl
theorem q3213 : (Jvm.Cond.privateMethod ({ cls := "ElectionHouseModel", name := "giveSome", desc := "(IJJ)J" } : Jvm.MethodName)) ∈ lw_tbl := lw_at lw_m13 52 rfl
theorem q3214 : (Jvm.Cond.instanceMethod ({ cls := "ElectionHouseModel", name := "giveSome", desc := "(IJJ)J" } : Jvm.MethodName)) ∈ lw_all := lw_g (lw_at lw_m13 53 rfl) rfl
theorem q3215 : (Jvm.Cond.code ({ cls := "ElectionHouseModel", name := "giveSome", desc := "(IJJ)J" } : Jvm.MethodName) prog_17_method_162_code (13 : Nat) (Option.some Jvm.ClassFile.FieldType.long)) ∈ lw_all := lw_g (lw_at lw_m13 54 rfl) rfl
theorem q3216 : (Jvm.Cond.methodLink "ElectionHouseModel" (890 : Nat) ({ cls := "ElectionHouseModel", name := "countPairs", desc := "(I)V" } : Jvm.MethodName)) ∈ lw_all := lw_g (lw_at lw_m13 55 rfl) rfl
theorem q3217 : (Jvm.Cond.privateMethod ({ cls := "ElectionHouseModel", name := "countPairs", desc := "(I)V" } : Jvm.MethodName)) ∈ lw_tbl := lw_at lw_m13 56 rfl
theorem q3218 : (Jvm.Cond.instanceMethod ({ cls := "ElectionHouseModel", name := "countPairs", desc := "(I)V" } : Jvm.MethodName)) ∈ lw_all := lw_g (lw_at lw_m13 57 rfl) rfl
theorem q3219 : (Jvm.Cond.code ({ cls := "ElectionHouseModel", name := "countPairs", desc := "(I)V" } : Jvm.MethodName) prog_17_method_168_code (8 : Nat) (Option.none : Option Jvm.ClassFile.FieldType)) ∈ lw_all := lw_g (lw_at lw_m13 58 rfl) rfl
theorem q3220 : (Jvm.Cond.methodLink "ElectionHouseModel" (1001 : Nat) ({ cls := "ElectionHouseModel", name := "margin", desc := "(II)I" } : Jvm.MethodName)) ∈ lw_all := lw_g (lw_at lw_m13 59 rfl) rfl
theorem q3221 : (Jvm.Cond.privateMethod ({ cls := "ElectionHouseModel", name := "margin", desc := "(II)I" } : Jvm.MethodName)) ∈ lw_tbl := lw_at lw_m13 60 rfl
theorem q3222 : (Jvm.Cond.instanceMethod ({ cls := "ElectionHouseModel", name := "margin", desc := "(II)I" } : Jvm.MethodName)) ∈ lw_all := lw_g (lw_at lw_m13 61 rfl) rfl
theorem q3223 : (Jvm.Cond.code ({ cls := "ElectionHouseModel", name := "margin", desc := "(II)I" } : Jvm.MethodName) prog_17_method_167_code (3 : Nat) (Option.some Jvm.ClassFile.FieldType.int)) ∈ lw_all := lw_g (lw_at lw_m13 62 rfl) rfl
theorem q3224 : (Jvm.Cond.methodLink "ElectionHouseModel" (1004 : Nat) ({ cls := "ElectionHouseModel", name := "keepPairs", desc := "()V" } : Jvm.MethodName)) ∈ lw_all := lw_g (lw_at lw_m13 63 rfl) rfl
theorem q3225 : (Jvm.Cond.privateMethod ({ cls := "ElectionHouseModel", name := "keepPairs", desc := "()V" } : Jvm.MethodName)) ∈ lw_tbl := lw_at lw_m13 64 rfl
theorem q3226 : (Jvm.Cond.instanceMethod ({ cls := "ElectionHouseModel", name := "keepPairs", desc := "()V" } : Jvm.MethodName)) ∈ lw_all := lw_g (lw_at lw_m13 65 rfl) rfl
theorem q3227 : (Jvm.Cond.code ({ cls := "ElectionHouseModel", name := "keepPairs", desc := "()V" } : Jvm.MethodName) prog_17_method_174_code (7 : Nat) (Option.none : Option Jvm.ClassFile.FieldType)) ∈ lw_all := lw_g (lw_at lw_m13 66 rfl) rfl
theorem q3228 : (Jvm.Cond.methodLink "ElectionHouseModel" (1019 : Nat) ({ cls := "ElectionHouseModel", name := "beats", desc := "(II)Z" } : Jvm.MethodName)) ∈ lw_all := lw_g (lw_at lw_m13 67 rfl) rfl
theorem q3229 : (Jvm.Cond.privateMethod ({ cls := "ElectionHouseModel", name := "beats", desc := "(II)Z" } : Jvm.MethodName)) ∈ lw_tbl := lw_at lw_m13 68 rfl
theorem q3230 : (Jvm.Cond.instanceMethod ({ cls := "ElectionHouseModel", name := "beats", desc := "(II)Z" } : Jvm.MethodName)) ∈ lw_all := lw_g (lw_at lw_m13 69 rfl) rfl
theorem q3231 : (Jvm.Cond.code ({ cls := "ElectionHouseModel", name := "beats", desc := "(II)Z" } : Jvm.MethodName) prog_17_method_166_code (3 : Nat) (Option.some Jvm.ClassFile.FieldType.boolean)) ∈ lw_all := lw_g (lw_at lw_m13 70 rfl) rfl
theorem q3232 : (Jvm.Cond.methodLink "ElectionHouseModel" (1037 : Nat) ({ cls := "ElectionHouseModel", name := "isDuelAhead", desc := "(II)Z" } : Jvm.MethodName)) ∈ lw_all := lw_g (lw_at lw_m13 71 rfl) rfl
theorem q3233 : (Jvm.Cond.privateMethod ({ cls := "ElectionHouseModel", name := "isDuelAhead", desc := "(II)Z" } : Jvm.MethodName)) ∈ lw_tbl := lw_at lw_m13 72 rfl
theorem q3234 : (Jvm.Cond.instanceMethod ({ cls := "ElectionHouseModel", name := "isDuelAhead", desc := "(II)Z" } : Jvm.MethodName)) ∈ lw_all := lw_g (lw_at lw_m13 73 rfl) rfl
theorem q3235 : (Jvm.Cond.code ({ cls := "ElectionHouseModel", name := "isDuelAhead", desc := "(II)Z" } : Jvm.MethodName) prog_17_method_173_code (7 : Nat) (Option.some Jvm.ClassFile.FieldType.boolean)) ∈ lw_all := lw_g (lw_at lw_m13 74 rfl) rfl
theorem q3236 : (Jvm.Cond.methodLink "ElectionHouseModel" (1007 : Nat) ({ cls := "ElectionHouseModel", name := "findWays", desc := "()V" } : Jvm.MethodName)) ∈ lw_all := lw_g (lw_at lw_m13 75 rfl) rfl
theorem q3237 : (Jvm.Cond.privateMethod ({ cls := "ElectionHouseModel", name := "findWays", desc := "()V" } : Jvm.MethodName)) ∈ lw_tbl := lw_at lw_m13 76 rfl
theorem q3238 : (Jvm.Cond.instanceMethod ({ cls := "ElectionHouseModel", name := "findWays", desc := "()V" } : Jvm.MethodName)) ∈ lw_all := lw_g (lw_at lw_m13 77 rfl) rfl
theorem q3239 : (Jvm.Cond.code ({ cls := "ElectionHouseModel", name := "findWays", desc := "()V" } : Jvm.MethodName) prog_17_method_175_code (5 : Nat) (Option.none : Option Jvm.ClassFile.FieldType)) ∈ lw_all := lw_g (lw_at lw_m13 78 rfl) rfl
theorem q3240 : (Jvm.Cond.methodLink "ElectionHouseModel" (1010 : Nat) ({ cls := "ElectionHouseModel", name := "nextBy", desc := "(I)I" } : Jvm.MethodName)) ∈ lw_all := lw_g (lw_at lw_m13 79 rfl) rfl
theorem q3241 : (Jvm.Cond.privateMethod ({ cls := "ElectionHouseModel", name := "nextBy", desc := "(I)I" } : Jvm.MethodName)) ∈ lw_tbl := lw_at lw_m13 80 rfl
theorem q3242 : (Jvm.Cond.instanceMethod ({ cls := "ElectionHouseModel", name := "nextBy", desc := "(I)I" } : Jvm.MethodName)) ∈ lw_all := lw_g (lw_at lw_m13 81 rfl) rfl
theorem q3243 : (Jvm.Cond.code ({ cls := "ElectionHouseModel", name := "nextBy", desc := "(I)I" } : Jvm.MethodName) prog_17_method_169_code (7 : Nat) (Option.some Jvm.ClassFile.FieldType.int)) ∈ lw_all := lw_g (lw_at lw_m13 82 rfl) rfl
theorem q3244 : (Jvm.Cond.methodLink "ElectionHouseModel" (1013 : Nat) ({ cls := "ElectionHouseModel", name := "isUnder", desc := "(II)Z" } : Jvm.MethodName)) ∈ lw_all := lw_g (lw_at lw_m13 83 rfl) rfl
theorem q3245 : (Jvm.Cond.privateMethod ({ cls := "ElectionHouseModel", name := "isUnder", desc := "(II)Z" } : Jvm.MethodName)) ∈ lw_tbl := lw_at lw_m13 84 rfl
theorem q3246 : (Jvm.Cond.instanceMethod ({ cls := "ElectionHouseModel", name := "isUnder", desc := "(II)Z" } : Jvm.MethodName)) ∈ lw_all := lw_g (lw_at lw_m13 85 rfl) rfl
theorem q3247 : (Jvm.Cond.code ({ cls := "ElectionHouseModel", name := "isUnder", desc := "(II)Z" } : Jvm.MethodName) prog_17_method_171_code (5 : Nat) (Option.some Jvm.ClassFile.FieldType.boolean)) ∈ lw_all := lw_g (lw_at lw_m13 86 rfl) rfl
theorem q3248 : (Jvm.Cond.methodLink "ElectionHouseModel" (1028 : Nat) ({ cls := "ElectionHouseModel", name := "covers", desc := "(II)Z" } : Jvm.MethodName)) ∈ lw_all := lw_g (lw_at lw_m13 87 rfl) rfl
theorem q3249 : (Jvm.Cond.privateMethod ({ cls := "ElectionHouseModel", name := "covers", desc := "(II)Z" } : Jvm.MethodName)) ∈ lw_tbl := lw_at lw_m13 88 rfl
theorem q3250 : (Jvm.Cond.instanceMethod ({ cls := "ElectionHouseModel", name := "covers", desc := "(II)Z" } : Jvm.MethodName)) ∈ lw_all := lw_g (lw_at lw_m13 89 rfl) rfl
theorem q3251 : (Jvm.Cond.code ({ cls := "ElectionHouseModel", name := "covers", desc := "(II)Z" } : Jvm.MethodName) prog_17_method_172_code (5 : Nat) (Option.some Jvm.ClassFile.FieldType.boolean)) ∈ lw_all := lw_g (lw_at lw_m13 90 rfl) rfl
theorem q3252 : (Jvm.Cond.methodLink "ElectionHouseModel" (1016 : Nat) ({ cls := "ElectionHouseModel", name := "scoreOf", desc := "(I)I" } : Jvm.MethodName)) ∈ lw_all := lw_g (lw_at lw_m13 91 rfl) rfl
theorem q3253 : (Jvm.Cond.privateMethod ({ cls := "ElectionHouseModel", name := "scoreOf", desc := "(I)I" } : Jvm.MethodName)) ∈ lw_tbl := lw_at lw_m13 92 rfl
theorem q3254 : (Jvm.Cond.instanceMethod ({ cls := "ElectionHouseModel", name := "scoreOf", desc := "(I)I" } : Jvm.MethodName)) ∈ lw_all := lw_g (lw_at lw_m13 93 rfl) rfl
theorem q3255 : (Jvm.Cond.code ({ cls := "ElectionHouseModel", name := "scoreOf", desc := "(I)I" } : Jvm.MethodName) prog_17_method_170_code (4 : Nat) (Option.some Jvm.ClassFile.FieldType.int)) ∈ lw_all := lw_g (lw_at lw_m13 94 rfl) rfl
theorem q3257 : (Jvm.Cond.instanceMethod ({ cls := "ElectionHouseModel", name := "elected", desc := "(I)I" } : Jvm.MethodName)) ∈ lw_all := lw_g (lw_at lw_m13 96 rfl) rfl
theorem q3258 : (Jvm.Cond.selects "ElectionHouseModel" ({ cls := "ElectionHouseModel", name := "elected", desc := "(I)I" } : Jvm.MethodName) ({ cls := "ElectionHouseModel", name := "elected", desc := "(I)I" } : Jvm.MethodName)) ∈ lw_all := lw_g (lw_at lw_m13 97 rfl) rfl
theorem q3259 : (Jvm.Cond.code ({ cls := "ElectionHouseModel", name := "elected", desc := "(I)I" } : Jvm.MethodName) prog_17_method_188_code (2 : Nat) (Option.some Jvm.ClassFile.FieldType.int)) ∈ lw_all := lw_g (lw_at lw_m13 98 rfl) rfl
theorem q3261 : (Jvm.Cond.instanceMethod ({ cls := "ElectionHouseModel", name := "round", desc := "(II)J" } : Jvm.MethodName)) ∈ lw_all := lw_g (lw_at lw_m13 100 rfl) rfl
theorem q3262 : (Jvm.Cond.selects "ElectionHouseModel" ({ cls := "ElectionHouseModel", name := "round", desc := "(II)J" } : Jvm.MethodName) ({ cls := "ElectionHouseModel", name := "round", desc := "(II)J" } : Jvm.MethodName)) ∈ lw_all := lw_g (lw_at lw_m13 101 rfl) rfl
theorem q3263 : (Jvm.Cond.code ({ cls := "ElectionHouseModel", name := "round", desc := "(II)J" } : Jvm.MethodName) prog_17_method_189_code (3 : Nat) (Option.some Jvm.ClassFile.FieldType.long)) ∈ lw_all := lw_g (lw_at lw_m13 102 rfl) rfl
theorem q3265 : (Jvm.Cond.instanceMethod ({ cls := "ElectionHouseModel", name := "act", desc := "(II)I" } : Jvm.MethodName)) ∈ lw_all := lw_g (lw_at lw_m13 104 rfl) rfl
theorem q3266 : (Jvm.Cond.selects "ElectionHouseModel" ({ cls := "ElectionHouseModel", name := "act", desc := "(II)I" } : Jvm.MethodName) ({ cls := "ElectionHouseModel", name := "act", desc := "(II)I" } : Jvm.MethodName)) ∈ lw_all := lw_g (lw_at lw_m13 105 rfl) rfl
theorem q3267 : (Jvm.Cond.code ({ cls := "ElectionHouseModel", name := "act", desc := "(II)I" } : Jvm.MethodName) prog_17_method_190_code (3 : Nat) (Option.some Jvm.ClassFile.FieldType.int)) ∈ lw_all := lw_g (lw_at lw_m13 106 rfl) rfl
theorem q3270 : (Jvm.Cond.instanceMethod ({ cls := "ElectionHouseModel", name := "<init>", desc := "()V" } : Jvm.MethodName)) ∈ lw_all := lw_g (lw_at lw_m13 109 rfl) rfl
theorem q3271 : (Jvm.Cond.code ({ cls := "ElectionHouseModel", name := "<init>", desc := "()V" } : Jvm.MethodName) prog_17_method_191_code (3 : Nat) (Option.none : Option Jvm.ClassFile.FieldType)) ∈ lw_all := lw_g (lw_at lw_m13 110 rfl) rfl
theorem q3272 : (Jvm.Cond.methodLink "ElectionHouseModel" (1118 : Nat) ({ cls := "java/lang/Object", name := "<init>", desc := "()V" } : Jvm.MethodName)) ∈ lw_all := lw_g (lw_at lw_m13 111 rfl) rfl
theorem q3273 : (Jvm.Cond.constant "ElectionHouseModel" (1156 : Nat) (1116352408 : Int32)) ∈ lw_all := lw_g (lw_at lw_m13 112 rfl) rfl
theorem q3274 : (Jvm.Cond.constant "ElectionHouseModel" (1157 : Nat) (1899447441 : Int32)) ∈ lw_all := lw_g (lw_at lw_m13 113 rfl) rfl
theorem q3275 : (Jvm.Cond.constant "ElectionHouseModel" (1158 : Nat) (-1245643825 : Int32)) ∈ lw_all := lw_g (lw_at lw_m13 114 rfl) rfl
theorem q3276 : (Jvm.Cond.constant "ElectionHouseModel" (1159 : Nat) (-373957723 : Int32)) ∈ lw_all := lw_g (lw_at lw_m13 115 rfl) rfl
theorem q3277 : (Jvm.Cond.constant "ElectionHouseModel" (1160 : Nat) (961987163 : Int32)) ∈ lw_all := lw_g (lw_at lw_m13 116 rfl) rfl
theorem q3278 : (Jvm.Cond.constant "ElectionHouseModel" (1161 : Nat) (1508970993 : Int32)) ∈ lw_all := lw_g (lw_at lw_m13 117 rfl) rfl
theorem q3279 : (Jvm.Cond.constant "ElectionHouseModel" (1162 : Nat) (-1841331548 : Int32)) ∈ lw_all := lw_g (lw_at lw_m13 118 rfl) rfl
theorem q3280 : (Jvm.Cond.constant "ElectionHouseModel" (1163 : Nat) (-1424204075 : Int32)) ∈ lw_all := lw_g (lw_at lw_m13 119 rfl) rfl
theorem q3281 : (Jvm.Cond.constant "ElectionHouseModel" (1164 : Nat) (-670586216 : Int32)) ∈ lw_all := lw_g (lw_at lw_m13 120 rfl) rfl
theorem q3282 : (Jvm.Cond.constant "ElectionHouseModel" (1165 : Nat) (310598401 : Int32)) ∈ lw_all := lw_g (lw_at lw_m13 121 rfl) rfl
theorem q3283 : (Jvm.Cond.constant "ElectionHouseModel" (1166 : Nat) (607225278 : Int32)) ∈ lw_all := lw_g (lw_at lw_m13 122 rfl) rfl
theorem q3284 : (Jvm.Cond.constant "ElectionHouseModel" (1167 : Nat) (1426881987 : Int32)) ∈ lw_all := lw_g (lw_at lw_m13 123 rfl) rfl
theorem q3285 : (Jvm.Cond.constant "ElectionHouseModel" (1168 : Nat) (1925078388 : Int32)) ∈ lw_all := lw_g (lw_at lw_m13 124 rfl) rfl
theorem q3286 : (Jvm.Cond.constant "ElectionHouseModel" (1169 : Nat) (-2132889090 : Int32)) ∈ lw_all := lw_g (lw_at lw_m13 125 rfl) rfl
theorem q3287 : (Jvm.Cond.constant "ElectionHouseModel" (1170 : Nat) (-1680079193 : Int32)) ∈ lw_all := lw_g (lw_at lw_m13 126 rfl) rfl
theorem q3288 : (Jvm.Cond.constant "ElectionHouseModel" (1171 : Nat) (-1046744716 : Int32)) ∈ lw_all := lw_g (lw_at lw_m13 127 rfl) rfl
theorem q3289 : (Jvm.Cond.constant "ElectionHouseModel" (1172 : Nat) (-459576895 : Int32)) ∈ lw_all := lw_g (lw_at lw_m13 128 rfl) rfl
theorem q3290 : (Jvm.Cond.constant "ElectionHouseModel" (1173 : Nat) (-272742522 : Int32)) ∈ lw_all := lw_g (lw_at lw_m13 129 rfl) rfl
theorem q3291 : (Jvm.Cond.constant "ElectionHouseModel" (1174 : Nat) (264347078 : Int32)) ∈ lw_all := lw_g (lw_at lw_m13 130 rfl) rfl
theorem q3292 : (Jvm.Cond.constant "ElectionHouseModel" (1175 : Nat) (604807628 : Int32)) ∈ lw_all := lw_g (lw_at lw_m13 131 rfl) rfl
theorem q3293 : (Jvm.Cond.constant "ElectionHouseModel" (1176 : Nat) (770255983 : Int32)) ∈ lw_all := lw_g (lw_at lw_m13 132 rfl) rfl
theorem q3294 : (Jvm.Cond.constant "ElectionHouseModel" (1177 : Nat) (1249150122 : Int32)) ∈ lw_all := lw_g (lw_at lw_m13 133 rfl) rfl
theorem q3295 : (Jvm.Cond.constant "ElectionHouseModel" (1178 : Nat) (1555081692 : Int32)) ∈ lw_all := lw_g (lw_at lw_m13 134 rfl) rfl
theorem q3296 : (Jvm.Cond.constant "ElectionHouseModel" (1179 : Nat) (1996064986 : Int32)) ∈ lw_all := lw_g (lw_at lw_m13 135 rfl) rfl
theorem q3297 : (Jvm.Cond.constant "ElectionHouseModel" (1180 : Nat) (-1740746414 : Int32)) ∈ lw_all := lw_g (lw_at lw_m13 136 rfl) rfl
theorem q3298 : (Jvm.Cond.constant "ElectionHouseModel" (1181 : Nat) (-1473132947 : Int32)) ∈ lw_all := lw_g (lw_at lw_m13 137 rfl) rfl
theorem q3299 : (Jvm.Cond.constant "ElectionHouseModel" (1182 : Nat) (-1341970488 : Int32)) ∈ lw_all := lw_g (lw_at lw_m13 138 rfl) rfl
theorem q3300 : (Jvm.Cond.constant "ElectionHouseModel" (1183 : Nat) (-1084653625 : Int32)) ∈ lw_all := lw_g (lw_at lw_m13 139 rfl) rfl
theorem q3301 : (Jvm.Cond.constant "ElectionHouseModel" (1184 : Nat) (-958395405 : Int32)) ∈ lw_all := lw_g (lw_at lw_m13 140 rfl) rfl
theorem q3302 : (Jvm.Cond.constant "ElectionHouseModel" (1185 : Nat) (-710438585 : Int32)) ∈ lw_all := lw_g (lw_at lw_m13 141 rfl) rfl
theorem q3303 : (Jvm.Cond.constant "ElectionHouseModel" (1186 : Nat) (113926993 : Int32)) ∈ lw_all := lw_g (lw_at lw_m13 142 rfl) rfl
theorem q3304 : (Jvm.Cond.constant "ElectionHouseModel" (1187 : Nat) (338241895 : Int32)) ∈ lw_all := lw_g (lw_at lw_m13 143 rfl) rfl
theorem q3305 : (Jvm.Cond.constant "ElectionHouseModel" (1188 : Nat) (666307205 : Int32)) ∈ lw_all := lw_g (lw_at lw_m13 144 rfl) rfl
theorem q3306 : (Jvm.Cond.constant "ElectionHouseModel" (1189 : Nat) (773529912 : Int32)) ∈ lw_all := lw_g (lw_at lw_m13 145 rfl) rfl
theorem q3307 : (Jvm.Cond.constant "ElectionHouseModel" (1190 : Nat) (1294757372 : Int32)) ∈ lw_all := lw_g (lw_at lw_m13 146 rfl) rfl
theorem q3308 : (Jvm.Cond.constant "ElectionHouseModel" (1191 : Nat) (1396182291 : Int32)) ∈ lw_all := lw_g (lw_at lw_m13 147 rfl) rfl
theorem q3309 : (Jvm.Cond.constant "ElectionHouseModel" (1192 : Nat) (1695183700 : Int32)) ∈ lw_all := lw_g (lw_at lw_m13 148 rfl) rfl
theorem q3310 : (Jvm.Cond.constant "ElectionHouseModel" (1193 : Nat) (1986661051 : Int32)) ∈ lw_all := lw_g (lw_at lw_m13 149 rfl) rfl
theorem q3311 : (Jvm.Cond.constant "ElectionHouseModel" (1194 : Nat) (-2117940946 : Int32)) ∈ lw_all := lw_g (lw_at lw_m13 150 rfl) rfl
theorem q3312 : (Jvm.Cond.constant "ElectionHouseModel" (1195 : Nat) (-1838011259 : Int32)) ∈ lw_all := lw_g (lw_at lw_m13 151 rfl) rfl
theorem q3313 : (Jvm.Cond.constant "ElectionHouseModel" (1196 : Nat) (-1564481375 : Int32)) ∈ lw_all := lw_g (lw_at lw_m13 152 rfl) rfl
theorem q3314 : (Jvm.Cond.constant "ElectionHouseModel" (1197 : Nat) (-1474664885 : Int32)) ∈ lw_all := lw_g (lw_at lw_m13 153 rfl) rfl
theorem q3315 : (Jvm.Cond.constant "ElectionHouseModel" (1198 : Nat) (-1035236496 : Int32)) ∈ lw_all := lw_g (lw_at lw_m13 154 rfl) rfl
theorem q3316 : (Jvm.Cond.constant "ElectionHouseModel" (1199 : Nat) (-949202525 : Int32)) ∈ lw_all := lw_g (lw_at lw_m13 155 rfl) rfl
theorem q3317 : (Jvm.Cond.constant "ElectionHouseModel" (1200 : Nat) (-778901479 : Int32)) ∈ lw_all := lw_g (lw_at lw_m13 156 rfl) rfl
theorem q3318 : (Jvm.Cond.constant "ElectionHouseModel" (1201 : Nat) (-694614492 : Int32)) ∈ lw_all := lw_g (lw_at lw_m13 157 rfl) rfl
theorem q3319 : (Jvm.Cond.constant "ElectionHouseModel" (1202 : Nat) (-200395387 : Int32)) ∈ lw_all := lw_g (lw_at lw_m13 158 rfl) rfl
theorem q3320 : (Jvm.Cond.constant "ElectionHouseModel" (1203 : Nat) (275423344 : Int32)) ∈ lw_all := lw_g (lw_at lw_m13 159 rfl) rfl
theorem q3321 : (Jvm.Cond.constant "ElectionHouseModel" (1204 : Nat) (430227734 : Int32)) ∈ lw_all := lw_g (lw_at lw_m13 160 rfl) rfl
theorem q3322 : (Jvm.Cond.constant "ElectionHouseModel" (1205 : Nat) (506948616 : Int32)) ∈ lw_all := lw_g (lw_at lw_m13 161 rfl) rfl
theorem q3323 : (Jvm.Cond.constant "ElectionHouseModel" (1206 : Nat) (659060556 : Int32)) ∈ lw_all := lw_g (lw_at lw_m13 162 rfl) rfl
theorem q3324 : (Jvm.Cond.constant "ElectionHouseModel" (1207 : Nat) (883997877 : Int32)) ∈ lw_all := lw_g (lw_at lw_m13 163 rfl) rfl
theorem q3325 : (Jvm.Cond.constant "ElectionHouseModel" (1208 : Nat) (958139571 : Int32)) ∈ lw_all := lw_g (lw_at lw_m13 164 rfl) rfl
theorem q3326 : (Jvm.Cond.constant "ElectionHouseModel" (1209 : Nat) (1322822218 : Int32)) ∈ lw_all := lw_g (lw_at lw_m13 165 rfl) rfl
theorem q3327 : (Jvm.Cond.constant "ElectionHouseModel" (1210 : Nat) (1537002063 : Int32)) ∈ lw_all := lw_g (lw_at lw_m13 166 rfl) rfl
theorem q3328 : (Jvm.Cond.constant "ElectionHouseModel" (1211 : Nat) (1747873779 : Int32)) ∈ lw_all := lw_g (lw_at lw_m13 167 rfl) rfl
theorem q3329 : (Jvm.Cond.constant "ElectionHouseModel" (1212 : Nat) (1955562222 : Int32)) ∈ lw_all := lw_g (lw_at lw_m13 168 rfl) rfl
theorem q3330 : (Jvm.Cond.constant "ElectionHouseModel" (1213 : Nat) (2024104815 : Int32)) ∈ lw_all := lw_g (lw_at lw_m13 169 rfl) rfl
theorem q3331 : (Jvm.Cond.constant "ElectionHouseModel" (1214 : Nat) (-2067236844 : Int32)) ∈ lw_all := lw_g (lw_at lw_m13 170 rfl) rfl
theorem q3332 : (Jvm.Cond.constant "ElectionHouseModel" (1215 : Nat) (-1933114872 : Int32)) ∈ lw_all := lw_g (lw_at lw_m13 171 rfl) rfl
theorem q3333 : (Jvm.Cond.constant "ElectionHouseModel" (1216 : Nat) (-1866530822 : Int32)) ∈ lw_all := lw_g (lw_at lw_m13 172 rfl) rfl
theorem q3334 : (Jvm.Cond.constant "ElectionHouseModel" (1217 : Nat) (-1538233109 : Int32)) ∈ lw_all := lw_g (lw_at lw_m13 173 rfl) rfl
theorem q3335 : (Jvm.Cond.constant "ElectionHouseModel" (1218 : Nat) (-1090935817 : Int32)) ∈ lw_all := lw_g (lw_at lw_m13 174 rfl) rfl
theorem q3336 : (Jvm.Cond.constant "ElectionHouseModel" (1219 : Nat) (-965641998 : Int32)) ∈ lw_all := lw_g (lw_at lw_m13 175 rfl) rfl
theorem q3337 : (Jvm.Cond.constant "ElectionHouseModel" (1223 : Nat) (1779033703 : Int32)) ∈ lw_all := lw_g (lw_at lw_m13 176 rfl) rfl
theorem q3338 : (Jvm.Cond.constant "ElectionHouseModel" (1224 : Nat) (-1150833019 : Int32)) ∈ lw_all := lw_g (lw_at lw_m13 177 rfl) rfl
theorem q3339 : (Jvm.Cond.constant "ElectionHouseModel" (1225 : Nat) (1013904242 : Int32)) ∈ lw_all := lw_g (lw_at lw_m13 178 rfl) rfl
theorem q3340 : (Jvm.Cond.constant "ElectionHouseModel" (1226 : Nat) (-1521486534 : Int32)) ∈ lw_all := lw_g (lw_at lw_m13 179 rfl) rfl
theorem q3341 : (Jvm.Cond.constant "ElectionHouseModel" (1227 : Nat) (1359893119 : Int32)) ∈ lw_all := lw_g (lw_at lw_m13 180 rfl) rfl
theorem q3342 : (Jvm.Cond.constant "ElectionHouseModel" (1228 : Nat) (-1694144372 : Int32)) ∈ lw_all := lw_g (lw_at lw_m13 181 rfl) rfl
theorem q3343 : (Jvm.Cond.constant "ElectionHouseModel" (1229 : Nat) (528734635 : Int32)) ∈ lw_all := lw_g (lw_at lw_m13 182 rfl) rfl
theorem q3344 : (Jvm.Cond.constant "ElectionHouseModel" (1230 : Nat) (1541459225 : Int32)) ∈ lw_all := lw_g (lw_at lw_m13 183 rfl) rfl
theorem q3345 : (Jvm.Cond.fieldLink "ElectionHouseModel" (9 : Nat) "ElectionHouseModel" "tape" "[B") ∈ lw_all := lw_g (lw_at lw_m13 184 rfl) rfl
theorem q3346 : (Jvm.Cond.fieldLink "ElectionHouseModel" (5 : Nat) "ElectionHouseModel" "taped" "I") ∈ lw_all := lw_g (lw_at lw_m13 185 rfl) rfl
theorem q3347 : (Jvm.Cond.fieldLink "ElectionHouseModel" (17 : Nat) "ElectionHouseModel" "now" "I") ∈ lw_all := lw_g (lw_at lw_m13 186 rfl) rfl
theorem q3348 : (Jvm.Cond.fieldLink "ElectionHouseModel" (61 : Nat) "ElectionHouseModel" "areas" "I") ∈ lw_all := lw_g (lw_at lw_m13 187 rfl) rfl
theorem q3349 : (Jvm.Cond.fieldLink "ElectionHouseModel" (64 : Nat) "ElectionHouseModel" "areaKind" "[I") ∈ lw_all := lw_g (lw_at lw_m13 188 rfl) rfl
theorem q3350 : (Jvm.Cond.fieldLink "ElectionHouseModel" (74 : Nat) "ElectionHouseModel" "borders" "I") ∈ lw_all := lw_g (lw_at lw_m13 189 rfl) rfl
theorem q3351 : (Jvm.Cond.fieldLink "ElectionHouseModel" (77 : Nat) "ElectionHouseModel" "borderArea" "[I") ∈ lw_all := lw_g (lw_at lw_m13 190 rfl) rfl
theorem q3352 : (Jvm.Cond.fieldLink "ElectionHouseModel" (80 : Nat) "ElectionHouseModel" "borderFrom" "[I") ∈ lw_all := lw_g (lw_at lw_m13 191 rfl) rfl
theorem q3353 : (Jvm.Cond.fieldLink "ElectionHouseModel" (83 : Nat) "ElectionHouseModel" "borderTo" "[I") ∈ lw_all := lw_g (lw_at lw_m13 192 rfl) rfl
theorem q3354 : (Jvm.Cond.fieldLink "ElectionHouseModel" (86 : Nat) "ElectionHouseModel" "borderDay" "[I") ∈ lw_all := lw_g (lw_at lw_m13 193 rfl) rfl
theorem q3355 : (Jvm.Cond.fieldLink "ElectionHouseModel" (92 : Nat) "ElectionHouseModel" "persons" "I") ∈ lw_all := lw_g (lw_at lw_m13 194 rfl) rfl
theorem q3356 : (Jvm.Cond.fieldLink "ElectionHouseModel" (95 : Nat) "ElectionHouseModel" "birth" "[I") ∈ lw_all := lw_g (lw_at lw_m13 195 rfl) rfl
theorem q3357 : (Jvm.Cond.fieldLink "ElectionHouseModel" (98 : Nat) "ElectionHouseModel" "birthYear" "[I") ∈ lw_all := lw_g (lw_at lw_m13 196 rfl) rfl
theorem q3358 : (Jvm.Cond.fieldLink "ElectionHouseModel" (101 : Nat) "ElectionHouseModel" "birthMonth" "[I") ∈ lw_all := lw_g (lw_at lw_m13 197 rfl) rfl
theorem q3359 : (Jvm.Cond.fieldLink "ElectionHouseModel" (104 : Nat) "ElectionHouseModel" "birthDate" "[I") ∈ lw_all := lw_g (lw_at lw_m13 198 rfl) rfl
theorem q3360 : (Jvm.Cond.fieldLink "ElectionHouseModel" (107 : Nat) "ElectionHouseModel" "death" "[I") ∈ lw_all := lw_g (lw_at lw_m13 199 rfl) rfl
theorem q3361 : (Jvm.Cond.fieldLink "ElectionHouseModel" (115 : Nat) "ElectionHouseModel" "moves" "[I") ∈ lw_all := lw_g (lw_at lw_m13 200 rfl) rfl
theorem q3362 : (Jvm.Cond.fieldLink "ElectionHouseModel" (118 : Nat) "ElectionHouseModel" "moveDay" "[I") ∈ lw_all := lw_g (lw_at lw_m13 201 rfl) rfl
theorem q3363 : (Jvm.Cond.fieldLink "ElectionHouseModel" (121 : Nat) "ElectionHouseModel" "moveTo" "[I") ∈ lw_all := lw_g (lw_at lw_m13 202 rfl) rfl
theorem q3364 : (Jvm.Cond.fieldLink "ElectionHouseModel" (126 : Nat) "ElectionHouseModel" "facts" "[I") ∈ lw_all := lw_g (lw_at lw_m13 203 rfl) rfl
theorem q3365 : (Jvm.Cond.fieldLink "ElectionHouseModel" (129 : Nat) "ElectionHouseModel" "factKind" "[I") ∈ lw_all := lw_g (lw_at lw_m13 204 rfl) rfl
theorem q3366 : (Jvm.Cond.fieldLink "ElectionHouseModel" (132 : Nat) "ElectionHouseModel" "factYes" "[I") ∈ lw_all := lw_g (lw_at lw_m13 205 rfl) rfl
theorem q3367 : (Jvm.Cond.fieldLink "ElectionHouseModel" (135 : Nat) "ElectionHouseModel" "factFrom" "[I") ∈ lw_all := lw_g (lw_at lw_m13 206 rfl) rfl
theorem q3368 : (Jvm.Cond.fieldLink "ElectionHouseModel" (138 : Nat) "ElectionHouseModel" "factTo" "[I") ∈ lw_all := lw_g (lw_at lw_m13 207 rfl) rfl
theorem q3369 : (Jvm.Cond.fieldLink "ElectionHouseModel" (167 : Nat) "ElectionHouseModel" "signSort" "[I") ∈ lw_all := lw_g (lw_at lw_m13 208 rfl) rfl
theorem q3370 : (Jvm.Cond.fieldLink "ElectionHouseModel" (161 : Nat) "ElectionHouseModel" "signFrom" "[I") ∈ lw_all := lw_g (lw_at lw_m13 209 rfl) rfl
theorem q3371 : (Jvm.Cond.fieldLink "ElectionHouseModel" (185 : Nat) "ElectionHouseModel" "signTo" "[I") ∈ lw_all := lw_g (lw_at lw_m13 210 rfl) rfl
theorem q3372 : (Jvm.Cond.fieldLink "ElectionHouseModel" (182 : Nat) "ElectionHouseModel" "signValue" "[I") ∈ lw_all := lw_g (lw_at lw_m13 211 rfl) rfl
theorem q3373 : (Jvm.Cond.fieldLink "ElectionHouseModel" (158 : Nat) "ElectionHouseModel" "textSize" "I") ∈ lw_all := lw_g (lw_at lw_m13 212 rfl) rfl
theorem q3374 : (Jvm.Cond.fieldLink "ElectionHouseModel" (188 : Nat) "ElectionHouseModel" "at" "I") ∈ lw_all := lw_g (lw_at lw_m13 213 rfl) rfl
theorem q3375 : (Jvm.Cond.fieldLink "ElectionHouseModel" (201 : Nat) "ElectionHouseModel" "wrongAt" "I") ∈ lw_all := lw_g (lw_at lw_m13 214 rfl) rfl
theorem q3376 : (Jvm.Cond.fieldLink "ElectionHouseModel" (204 : Nat) "ElectionHouseModel" "least" "I") ∈ lw_all := lw_g (lw_at lw_m13 215 rfl) rfl
theorem q3377 : (Jvm.Cond.fieldLink "ElectionHouseModel" (218 : Nat) "ElectionHouseModel" "number" "I") ∈ lw_all := lw_g (lw_at lw_m13 216 rfl) rfl
theorem q3378 : (Jvm.Cond.fieldLink "ElectionHouseModel" (221 : Nat) "ElectionHouseModel" "numberAt" "I") ∈ lw_all := lw_g (lw_at lw_m13 217 rfl) rfl
theorem q3379 : (Jvm.Cond.fieldLink "ElectionHouseModel" (255 : Nat) "ElectionHouseModel" "timeDay" "I") ∈ lw_all := lw_g (lw_at lw_m13 218 rfl) rfl
theorem q3380 : (Jvm.Cond.fieldLink "ElectionHouseModel" (252 : Nat) "ElectionHouseModel" "timeAt" "I") ∈ lw_all := lw_g (lw_at lw_m13 219 rfl) rfl
theorem q3381 : (Jvm.Cond.fieldLink "ElectionHouseModel" (287 : Nat) "ElectionHouseModel" "step" "[I") ∈ lw_all := lw_g (lw_at lw_m13 220 rfl) rfl
theorem q3382 : (Jvm.Cond.fieldLink "ElectionHouseModel" (290 : Nat) "ElectionHouseModel" "steps" "[I") ∈ lw_all := lw_g (lw_at lw_m13 221 rfl) rfl
theorem q3383 : (Jvm.Cond.fieldLink "ElectionHouseModel" (310 : Nat) "ElectionHouseModel" "tests" "[I") ∈ lw_all := lw_g (lw_at lw_m13 222 rfl) rfl
theorem q3384 : (Jvm.Cond.fieldLink "ElectionHouseModel" (313 : Nat) "ElectionHouseModel" "testSort" "[I") ∈ lw_all := lw_g (lw_at lw_m13 223 rfl) rfl
theorem q3385 : (Jvm.Cond.fieldLink "ElectionHouseModel" (316 : Nat) "ElectionHouseModel" "testNumber" "[I") ∈ lw_all := lw_g (lw_at lw_m13 224 rfl) rfl
theorem q3386 : (Jvm.Cond.fieldLink "ElectionHouseModel" (319 : Nat) "ElectionHouseModel" "testDay" "[I") ∈ lw_all := lw_g (lw_at lw_m13 225 rfl) rfl
theorem q3387 : (Jvm.Cond.fieldLink "ElectionHouseModel" (322 : Nat) "ElectionHouseModel" "testAt" "[I") ∈ lw_all := lw_g (lw_at lw_m13 226 rfl) rfl
theorem q3388 : (Jvm.Cond.fieldLink "ElectionHouseModel" (281 : Nat) "ElectionHouseModel" "lawNumber" "[I") ∈ lw_all := lw_g (lw_at lw_m13 227 rfl) rfl
theorem q3389 : (Jvm.Cond.fieldLink "ElectionHouseModel" (284 : Nat) "ElectionHouseModel" "contestNumber" "[I") ∈ lw_all := lw_g (lw_at lw_m13 228 rfl) rfl
theorem q3390 : (Jvm.Cond.fieldLink "ElectionHouseModel" (141 : Nat) "ElectionHouseModel" "hasLaw" "Z") ∈ lw_all := lw_g (lw_at lw_m13 229 rfl) rfl
theorem q3391 : (Jvm.Cond.fieldLink "ElectionHouseModel" (145 : Nat) "ElectionHouseModel" "eve" "Z") ∈ lw_all := lw_g (lw_at lw_m13 230 rfl) rfl
theorem q3392 : (Jvm.Cond.fieldLink "ElectionHouseModel" (469 : Nat) "ElectionHouseModel" "contests" "I") ∈ lw_all := lw_g (lw_at lw_m13 231 rfl) rfl
theorem q3393 : (Jvm.Cond.fieldLink "ElectionHouseModel" (472 : Nat) "ElectionHouseModel" "failedAt" "I") ∈ lw_all := lw_g (lw_at lw_m13 232 rfl) rfl
theorem q3394 : (Jvm.Cond.fieldLink "ElectionHouseModel" (410 : Nat) "ElectionHouseModel" "hasLevel" "Z") ∈ lw_all := lw_g (lw_at lw_m13 233 rfl) rfl
theorem q3395 : (Jvm.Cond.fieldLink "ElectionHouseModel" (432 : Nat) "ElectionHouseModel" "told" "I") ∈ lw_all := lw_g (lw_at lw_m13 234 rfl) rfl
theorem q3396 : (Jvm.Cond.fieldLink "ElectionHouseModel" (497 : Nat) "ElectionHouseModel" "anyOf" "[Z") ∈ lw_all := lw_g (lw_at lw_m13 235 rfl) rfl
theorem q3397 : (Jvm.Cond.fieldLink "ElectionHouseModel" (501 : Nat) "ElectionHouseModel" "allOf" "[Z") ∈ lw_all := lw_g (lw_at lw_m13 236 rfl) rfl
theorem q3398 : (Jvm.Cond.fieldLink "ElectionHouseModel" (504 : Nat) "ElectionHouseModel" "turned" "[Z") ∈ lw_all := lw_g (lw_at lw_m13 237 rfl) rfl
theorem q3399 : (Jvm.Cond.fieldLink "ElectionHouseModel" (507 : Nat) "ElectionHouseModel" "around" "[Z") ∈ lw_all := lw_g (lw_at lw_m13 238 rfl) rfl
theorem q3400 : (Jvm.Cond.fieldLink "ElectionHouseModel" (510 : Nat) "ElectionHouseModel" "firstFailed" "I") ∈ lw_all := lw_g (lw_at lw_m13 239 rfl) rfl
theorem q3401 : (Jvm.Cond.fieldLink "ElectionHouseModel" (528 : Nat) "ElectionHouseModel" "nominations" "I") ∈ lw_all := lw_g (lw_at lw_m14 0 rfl) rfl
theorem q3402 : (Jvm.Cond.fieldLink "ElectionHouseModel" (575 : Nat) "ElectionHouseModel" "nomContest" "[I") ∈ lw_all := lw_g (lw_at lw_m14 1 rfl) rfl
theorem q3403 : (Jvm.Cond.fieldLink "ElectionHouseModel" (578 : Nat) "ElectionHouseModel" "nomPerson" "[I") ∈ lw_all := lw_g (lw_at lw_m14 2 rfl) rfl
theorem q3404 : (Jvm.Cond.fieldLink "ElectionHouseModel" (584 : Nat) "ElectionHouseModel" "nomParty" "[I") ∈ lw_all := lw_g (lw_at lw_m14 3 rfl) rfl
theorem q3405 : (Jvm.Cond.fieldLink "ElectionHouseModel" (587 : Nat) "ElectionHouseModel" "nomSigned" "[I") ∈ lw_all := lw_g (lw_at lw_m14 4 rfl) rfl
theorem q3406 : (Jvm.Cond.fieldLink "ElectionHouseModel" (590 : Nat) "ElectionHouseModel" "nomState" "[I") ∈ lw_all := lw_g (lw_at lw_m14 5 rfl) rfl
theorem q3407 : (Jvm.Cond.fieldLink "ElectionHouseModel" (593 : Nat) "ElectionHouseModel" "nomCandidate" "[I") ∈ lw_all := lw_g (lw_at lw_m14 6 rfl) rfl
theorem q3408 : (Jvm.Cond.fieldLink "ElectionHouseModel" (596 : Nat) "ElectionHouseModel" "hasSigned" "[Z") ∈ lw_all := lw_g (lw_at lw_m14 7 rfl) rfl
theorem q3409 : (Jvm.Cond.fieldLink "ElectionHouseModel" (531 : Nat) "ElectionHouseModel" "frozen" "Z") ∈ lw_all := lw_g (lw_at lw_m14 8 rfl) rfl
theorem q3410 : (Jvm.Cond.fieldLink "ElectionHouseModel" (488 : Nat) "ElectionHouseModel" "candidates" "[I") ∈ lw_all := lw_g (lw_at lw_m14 9 rfl) rfl
theorem q3411 : (Jvm.Cond.fieldLink "ElectionHouseModel" (608 : Nat) "ElectionHouseModel" "candidateNom" "[I") ∈ lw_all := lw_g (lw_at lw_m14 10 rfl) rfl
theorem q3412 : (Jvm.Cond.fieldLink "ElectionHouseModel" (567 : Nat) "ElectionHouseModel" "isStruck" "[Z") ∈ lw_all := lw_g (lw_at lw_m14 11 rfl) rfl
theorem q3413 : (Jvm.Cond.fieldLink "ElectionHouseModel" (611 : Nat) "ElectionHouseModel" "lotAt" "[I") ∈ lw_all := lw_g (lw_at lw_m14 12 rfl) rfl
theorem q3414 : (Jvm.Cond.fieldLink "ElectionHouseModel" (614 : Nat) "ElectionHouseModel" "lotPlace" "[I") ∈ lw_all := lw_g (lw_at lw_m14 13 rfl) rfl
theorem q3415 : (Jvm.Cond.fieldLink "ElectionHouseModel" (546 : Nat) "ElectionHouseModel" "isDrawn" "[Z") ∈ lw_all := lw_g (lw_at lw_m14 14 rfl) rfl
theorem q3416 : (Jvm.Cond.fieldLink "ElectionHouseModel" (534 : Nat) "ElectionHouseModel" "rows" "I") ∈ lw_all := lw_g (lw_at lw_m14 15 rfl) rfl
theorem q3417 : (Jvm.Cond.fieldLink "ElectionHouseModel" (599 : Nat) "ElectionHouseModel" "rowPerson" "[I") ∈ lw_all := lw_g (lw_at lw_m14 16 rfl) rfl
theorem q3418 : (Jvm.Cond.fieldLink "ElectionHouseModel" (602 : Nat) "ElectionHouseModel" "rowSheet" "[I") ∈ lw_all := lw_g (lw_at lw_m14 17 rfl) rfl
theorem q3419 : (Jvm.Cond.fieldLink "ElectionHouseModel" (605 : Nat) "ElectionHouseModel" "rowOn" "[Z") ∈ lw_all := lw_g (lw_at lw_m14 18 rfl) rfl
theorem q3420 : (Jvm.Cond.fieldLink "ElectionHouseModel" (537 : Nat) "ElectionHouseModel" "appeals" "I") ∈ lw_all := lw_g (lw_at lw_m14 19 rfl) rfl
theorem q3421 : (Jvm.Cond.fieldLink "ElectionHouseModel" (623 : Nat) "ElectionHouseModel" "appealPerson" "[I") ∈ lw_all := lw_g (lw_at lw_m14 20 rfl) rfl
theorem q3422 : (Jvm.Cond.fieldLink "ElectionHouseModel" (626 : Nat) "ElectionHouseModel" "appealKind" "[I") ∈ lw_all := lw_g (lw_at lw_m14 21 rfl) rfl
theorem q3423 : (Jvm.Cond.fieldLink "ElectionHouseModel" (629 : Nat) "ElectionHouseModel" "isDecided" "[Z") ∈ lw_all := lw_g (lw_at lw_m14 22 rfl) rfl
theorem q3424 : (Jvm.Cond.fieldLink "ElectionHouseModel" (540 : Nat) "ElectionHouseModel" "stations" "I") ∈ lw_all := lw_g (lw_at lw_m14 23 rfl) rfl
theorem q3425 : (Jvm.Cond.fieldLink "ElectionHouseModel" (649 : Nat) "ElectionHouseModel" "clockIs" "[I") ∈ lw_all := lw_g (lw_at lw_m14 24 rfl) rfl
theorem q3426 : (Jvm.Cond.fieldLink "ElectionHouseModel" (652 : Nat) "ElectionHouseModel" "isCut" "[Z") ∈ lw_all := lw_g (lw_at lw_m14 25 rfl) rfl
theorem q3427 : (Jvm.Cond.fieldLink "ElectionHouseModel" (543 : Nat) "ElectionHouseModel" "issues" "I") ∈ lw_all := lw_g (lw_at lw_m14 26 rfl) rfl
theorem q3428 : (Jvm.Cond.fieldLink "ElectionHouseModel" (691 : Nat) "ElectionHouseModel" "issuePerson" "[I") ∈ lw_all := lw_g (lw_at lw_m14 27 rfl) rfl
theorem q3429 : (Jvm.Cond.fieldLink "ElectionHouseModel" (661 : Nat) "ElectionHouseModel" "issueStation" "[I") ∈ lw_all := lw_g (lw_at lw_m14 28 rfl) rfl
theorem q3430 : (Jvm.Cond.fieldLink "ElectionHouseModel" (658 : Nat) "ElectionHouseModel" "issueState" "[I") ∈ lw_all := lw_g (lw_at lw_m14 29 rfl) rfl
theorem q3431 : (Jvm.Cond.fieldLink "ElectionHouseModel" (673 : Nat) "ElectionHouseModel" "issueTime" "[I") ∈ lw_all := lw_g (lw_at lw_m14 30 rfl) rfl
theorem q3432 : (Jvm.Cond.fieldLink "ElectionHouseModel" (667 : Nat) "ElectionHouseModel" "isJoined" "[Z") ∈ lw_all := lw_g (lw_at lw_m14 31 rfl) rfl
theorem q3433 : (Jvm.Cond.fieldLink "ElectionHouseModel" (697 : Nat) "ElectionHouseModel" "issueSheet" "[I") ∈ lw_all := lw_g (lw_at lw_m14 32 rfl) rfl
theorem q3434 : (Jvm.Cond.fieldLink "ElectionHouseModel" (664 : Nat) "ElectionHouseModel" "knew" "[I") ∈ lw_all := lw_g (lw_at lw_m14 33 rfl) rfl
theorem q3435 : (Jvm.Cond.fieldLink "ElectionHouseModel" (722 : Nat) "ElectionHouseModel" "mark" "[B") ∈ lw_all := lw_g (lw_at lw_m14 34 rfl) rfl
theorem q3436 : (Jvm.Cond.fieldLink "ElectionHouseModel" (725 : Nat) "ElectionHouseModel" "read" "[B") ∈ lw_all := lw_g (lw_at lw_m14 35 rfl) rfl
theorem q3437 : (Jvm.Cond.fieldLink "ElectionHouseModel" (679 : Nat) "ElectionHouseModel" "wentBy" "[Z") ∈ lw_all := lw_g (lw_at lw_m14 36 rfl) rfl
theorem q3438 : (Jvm.Cond.fieldLink "ElectionHouseModel" (549 : Nat) "ElectionHouseModel" "papers" "[I") ∈ lw_all := lw_g (lw_at lw_m14 37 rfl) rfl
theorem q3439 : (Jvm.Cond.fieldLink "ElectionHouseModel" (740 : Nat) "ElectionHouseModel" "paperOf" "[I") ∈ lw_all := lw_g (lw_at lw_m14 38 rfl) rfl
theorem q3440 : (Jvm.Cond.fieldLink "ElectionHouseModel" (552 : Nat) "ElectionHouseModel" "isClosed" "[Z") ∈ lw_all := lw_g (lw_at lw_m14 39 rfl) rfl
theorem q3441 : (Jvm.Cond.fieldLink "ElectionHouseModel" (555 : Nat) "ElectionHouseModel" "isOut" "[Z") ∈ lw_all := lw_g (lw_at lw_m14 40 rfl) rfl
theorem q3442 : (Jvm.Cond.fieldLink "ElectionHouseModel" (749 : Nat) "ElectionHouseModel" "who" "I") ∈ lw_all := lw_g (lw_at lw_m14 41 rfl) rfl
theorem q3443 : (Jvm.Cond.fieldLink "ElectionHouseModel" (755 : Nat) "ElectionHouseModel" "all" "I") ∈ lw_all := lw_g (lw_at lw_m14 42 rfl) rfl
theorem q3444 : (Jvm.Cond.fieldLink "ElectionHouseModel" (761 : Nat) "ElectionHouseModel" "running" "I") ∈ lw_all := lw_g (lw_at lw_m14 43 rfl) rfl
theorem q3445 : (Jvm.Cond.fieldLink "ElectionHouseModel" (758 : Nat) "ElectionHouseModel" "seats" "I") ∈ lw_all := lw_g (lw_at lw_m14 44 rfl) rfl
theorem q3446 : (Jvm.Cond.fieldLink "ElectionHouseModel" (764 : Nat) "ElectionHouseModel" "runs" "[Z") ∈ lw_all := lw_g (lw_at lw_m14 45 rfl) rfl
theorem q3447 : (Jvm.Cond.fieldLink "ElectionHouseModel" (767 : Nat) "ElectionHouseModel" "valid" "I") ∈ lw_all := lw_g (lw_at lw_m14 46 rfl) rfl
theorem q3448 : (Jvm.Cond.fieldLink "ElectionHouseModel" (770 : Nat) "ElectionHouseModel" "blank" "I") ∈ lw_all := lw_g (lw_at lw_m14 47 rfl) rfl
theorem q3449 : (Jvm.Cond.fieldLink "ElectionHouseModel" (773 : Nat) "ElectionHouseModel" "bad" "I") ∈ lw_all := lw_g (lw_at lw_m14 48 rfl) rfl
theorem q3450 : (Jvm.Cond.fieldLink "ElectionHouseModel" (780 : Nat) "ElectionHouseModel" "ballot" "[I") ∈ lw_all := lw_g (lw_at lw_m14 49 rfl) rfl
theorem q3451 : (Jvm.Cond.fieldLink "ElectionHouseModel" (792 : Nat) "ElectionHouseModel" "ranking" "[I") ∈ lw_all := lw_g (lw_at lw_m14 50 rfl) rfl
theorem q3452 : (Jvm.Cond.fieldLink "ElectionHouseModel" (789 : Nat) "ElectionHouseModel" "ranked" "[I") ∈ lw_all := lw_g (lw_at lw_m14 51 rfl) rfl
theorem q3453 : (Jvm.Cond.fieldLink "ElectionHouseModel" (801 : Nat) "ElectionHouseModel" "vote" "[J") ∈ lw_all := lw_g (lw_at lw_m14 52 rfl) rfl
theorem q3454 : (Jvm.Cond.fieldLink "ElectionHouseModel" (805 : Nat) "ElectionHouseModel" "order" "[I") ∈ lw_all := lw_g (lw_at lw_m14 53 rfl) rfl
theorem q3455 : (Jvm.Cond.fieldLink "ElectionHouseModel" (798 : Nat) "ElectionHouseModel" "ordered" "I") ∈ lw_all := lw_g (lw_at lw_m14 54 rfl) rfl
theorem q3456 : (Jvm.Cond.fieldLink "ElectionHouseModel" (558 : Nat) "ElectionHouseModel" "hasCount" "Z") ∈ lw_all := lw_g (lw_at lw_m14 55 rfl) rfl
theorem q3457 : (Jvm.Cond.fieldLink "ElectionHouseModel" (850 : Nat) "ElectionHouseModel" "counted" "I") ∈ lw_all := lw_g (lw_at lw_m14 56 rfl) rfl
theorem q3458 : (Jvm.Cond.fieldLink "ElectionHouseModel" (853 : Nat) "ElectionHouseModel" "countValid" "I") ∈ lw_all := lw_g (lw_at lw_m14 57 rfl) rfl
theorem q3459 : (Jvm.Cond.fieldLink "ElectionHouseModel" (856 : Nat) "ElectionHouseModel" "countBlank" "I") ∈ lw_all := lw_g (lw_at lw_m14 58 rfl) rfl
theorem q3460 : (Jvm.Cond.fieldLink "ElectionHouseModel" (859 : Nat) "ElectionHouseModel" "countBad" "I") ∈ lw_all := lw_g (lw_at lw_m14 59 rfl) rfl
theorem q3461 : (Jvm.Cond.fieldLink "ElectionHouseModel" (817 : Nat) "ElectionHouseModel" "rounds" "I") ∈ lw_all := lw_g (lw_at lw_m14 60 rfl) rfl
theorem q3462 : (Jvm.Cond.fieldLink "ElectionHouseModel" (814 : Nat) "ElectionHouseModel" "roundVote" "[J") ∈ lw_all := lw_g (lw_at lw_m14 61 rfl) rfl
theorem q3463 : (Jvm.Cond.fieldLink "ElectionHouseModel" (820 : Nat) "ElectionHouseModel" "roundAct" "[I") ∈ lw_all := lw_g (lw_at lw_m14 62 rfl) rfl
theorem q3464 : (Jvm.Cond.fieldLink "ElectionHouseModel" (823 : Nat) "ElectionHouseModel" "roundWho" "[I") ∈ lw_all := lw_g (lw_at lw_m14 63 rfl) rfl
theorem q3465 : (Jvm.Cond.fieldLink "ElectionHouseModel" (829 : Nat) "ElectionHouseModel" "wins" "I") ∈ lw_all := lw_g (lw_at lw_m14 64 rfl) rfl
theorem q3466 : (Jvm.Cond.fieldLink "ElectionHouseModel" (826 : Nat) "ElectionHouseModel" "winner" "[I") ∈ lw_all := lw_g (lw_at lw_m14 65 rfl) rfl
theorem q3467 : (Jvm.Cond.fieldLink "ElectionHouseModel" (838 : Nat) "ElectionHouseModel" "house" "I") ∈ lw_all := lw_g (lw_at lw_m14 66 rfl) rfl
theorem q3468 : (Jvm.Cond.fieldLink "ElectionHouseModel" (896 : Nat) "ElectionHouseModel" "marksHad" "[I") ∈ lw_all := lw_g (lw_at lw_m14 67 rfl) rfl
theorem q3469 : (Jvm.Cond.fieldLink "ElectionHouseModel" (893 : Nat) "ElectionHouseModel" "oneHad" "[I") ∈ lw_all := lw_g (lw_at lw_m14 68 rfl) rfl
theorem q3470 : (Jvm.Cond.fieldLink "ElectionHouseModel" (899 : Nat) "ElectionHouseModel" "otherHad" "[I") ∈ lw_all := lw_g (lw_at lw_m14 69 rfl) rfl
theorem q3471 : (Jvm.Cond.fieldLink "ElectionHouseModel" (909 : Nat) "ElectionHouseModel" "standing" "[I") ∈ lw_all := lw_g (lw_at lw_m14 70 rfl) rfl
theorem q3472 : (Jvm.Cond.fieldLink "ElectionHouseModel" (956 : Nat) "ElectionHouseModel" "holder" "[I") ∈ lw_all := lw_g (lw_at lw_m14 71 rfl) rfl
theorem q3473 : (Jvm.Cond.fieldLink "ElectionHouseModel" (953 : Nat) "ElectionHouseModel" "worth" "[J") ∈ lw_all := lw_g (lw_at lw_m14 72 rfl) rfl
theorem q3474 : (Jvm.Cond.fieldLink "ElectionHouseModel" (950 : Nat) "ElectionHouseModel" "isGiven" "[Z") ∈ lw_all := lw_g (lw_at lw_m14 73 rfl) rfl
theorem q3475 : (Jvm.Cond.fieldLink "ElectionHouseModel" (939 : Nat) "ElectionHouseModel" "sorted" "[I") ∈ lw_all := lw_g (lw_at lw_m14 74 rfl) rfl
theorem q3476 : (Jvm.Cond.fieldLink "ElectionHouseModel" (979 : Nat) "ElectionHouseModel" "keep" "[J") ∈ lw_all := lw_g (lw_at lw_m14 75 rfl) rfl
theorem q3477 : (Jvm.Cond.fieldLink "ElectionHouseModel" (998 : Nat) "ElectionHouseModel" "pair" "[I") ∈ lw_all := lw_g (lw_at lw_m14 76 rfl) rfl
theorem q3478 : (Jvm.Cond.fieldLink "ElectionHouseModel" (1025 : Nat) "ElectionHouseModel" "way" "[I") ∈ lw_all := lw_g (lw_at lw_m14 77 rfl) rfl
theorem q3479 : (Jvm.Cond.fieldLink "ElectionHouseModel" (1022 : Nat) "ElectionHouseModel" "isKept" "[Z") ∈ lw_all := lw_g (lw_at lw_m14 78 rfl) rfl
theorem q3480 : (Jvm.Cond.fieldLink "ElectionHouseModel" (1031 : Nat) "ElectionHouseModel" "comes" "[Z") ∈ lw_all := lw_g (lw_at lw_m14 79 rfl) rfl
theorem q3481 : (Jvm.Cond.fieldLink "ElectionHouseModel" (1034 : Nat) "ElectionHouseModel" "duel" "[I") ∈ lw_all := lw_g (lw_at lw_m14 80 rfl) rfl
theorem q3482 : (Jvm.Cond.fieldLink "ElectionHouseModel" (1054 : Nat) "ElectionHouseModel" "lists" "I") ∈ lw_all := lw_g (lw_at lw_m14 81 rfl) rfl
theorem q3483 : (Jvm.Cond.fieldLink "ElectionHouseModel" (1069 : Nat) "ElectionHouseModel" "listOf" "[I") ∈ lw_all := lw_g (lw_at lw_m14 82 rfl) rfl
theorem q3484 : (Jvm.Cond.fieldLink "ElectionHouseModel" (1057 : Nat) "ElectionHouseModel" "listParty" "[I") ∈ lw_all := lw_g (lw_at lw_m14 83 rfl) rfl
theorem q3485 : (Jvm.Cond.fieldLink "ElectionHouseModel" (1063 : Nat) "ElectionHouseModel" "listVotes" "[I") ∈ lw_all := lw_g (lw_at lw_m14 84 rfl) rfl
theorem q3486 : (Jvm.Cond.fieldLink "ElectionHouseModel" (1060 : Nat) "ElectionHouseModel" "listSize" "[I") ∈ lw_all := lw_g (lw_at lw_m14 85 rfl) rfl
theorem q3487 : (Jvm.Cond.fieldLink "ElectionHouseModel" (1072 : Nat) "ElectionHouseModel" "takesPart" "[Z") ∈ lw_all := lw_g (lw_at lw_m14 86 rfl) rfl
theorem q3488 : (Jvm.Cond.fieldLink "ElectionHouseModel" (1075 : Nat) "ElectionHouseModel" "listSeats" "[I") ∈ lw_all := lw_g (lw_at lw_m14 87 rfl) rfl
theorem q3489 : (Jvm.Cond.fieldLink "ElectionHouseModel" (1091 : Nat) "ElectionHouseModel" "listRest" "[I") ∈ lw_all := lw_g (lw_at lw_m14 88 rfl) rfl
theorem q3490 : (Jvm.Cond.fieldLink "ElectionHouseModel" (1106 : Nat) "ElectionHouseModel" "listFirst" "[I") ∈ lw_all := lw_g (lw_at lw_m14 89 rfl) rfl
theorem q3491 : (Jvm.Cond.fieldLink "ElectionHouseModel" (1066 : Nat) "ElectionHouseModel" "listWins" "[I") ∈ lw_all := lw_g (lw_at lw_m14 90 rfl) rfl
theorem q3492 : (Jvm.Cond.fieldLink "ElectionHouseModel" (1097 : Nat) "ElectionHouseModel" "listOrder" "[I") ∈ lw_all := lw_g (lw_at lw_m14 91 rfl) rfl
theorem q3493 : (Jvm.Cond.fieldLink "ElectionHouseModel" (1042 : Nat) "ElectionHouseModel" "firstWins" "I") ∈ lw_all := lw_g (lw_at lw_m14 92 rfl) rfl
theorem q3494 : (Jvm.Cond.fieldLink "ElectionHouseModel" (1045 : Nat) "ElectionHouseModel" "firstOf" "[I") ∈ lw_all := lw_g (lw_at lw_m14 93 rfl) rfl
theorem q3495 : (Jvm.Cond.fieldLink "ElectionHouseModel" (1048 : Nat) "ElectionHouseModel" "isFirstWinner" "[Z") ∈ lw_all := lw_g (lw_at lw_m14 94 rfl) rfl
theorem q3496 : (Jvm.Cond.fieldLink "ElectionHouseModel" (1123 : Nat) "ElectionHouseModel" "choose" "[J") ∈ lw_all := lw_g (lw_at lw_m14 95 rfl) rfl
theorem q3497 : (Jvm.Cond.fieldLink "ElectionHouseModel" (561 : Nat) "ElectionHouseModel" "hasSample" "Z") ∈ lw_all := lw_g (lw_at lw_m14 96 rfl) rfl
theorem q3498 : (Jvm.Cond.fieldLink "ElectionHouseModel" (564 : Nat) "ElectionHouseModel" "drawn" "I") ∈ lw_all := lw_g (lw_at lw_m14 97 rfl) rfl
theorem q3499 : (Jvm.Cond.fieldLink "ElectionHouseModel" (1126 : Nat) "ElectionHouseModel" "drawnBox" "[I") ∈ lw_all := lw_g (lw_at lw_m14 98 rfl) rfl
theorem q3500 : (Jvm.Cond.fieldLink "ElectionHouseModel" (1129 : Nat) "ElectionHouseModel" "drawnPlace" "[I") ∈ lw_all := lw_g (lw_at lw_m14 99 rfl) rfl
theorem q3501 : (Jvm.Cond.fieldLink "ElectionHouseModel" (1132 : Nat) "ElectionHouseModel" "drawnOther" "[Z") ∈ lw_all := lw_g (lw_at lw_m14 100 rfl) rfl
theorem q3502 : (Jvm.Cond.fieldLink "ElectionHouseModel" (1234 : Nat) "ElectionHouseModel" "sampleOf" "I") ∈ lw_all := lw_g (lw_at lw_m14 101 rfl) rfl
theorem q3503 : (Jvm.Cond.fieldLink "ElectionHouseModel" (1237 : Nat) "ElectionHouseModel" "sampleBy" "I") ∈ lw_all := lw_g (lw_at lw_m14 102 rfl) rfl
theorem q3504 : (Jvm.Cond.fieldLink "ElectionHouseModel" (1240 : Nat) "ElectionHouseModel" "sampleHalf" "I") ∈ lw_all := lw_g (lw_at lw_m14 103 rfl) rfl
theorem q3505 : (Jvm.Cond.fieldLink "ElectionHouseModel" (1254 : Nat) "ElectionHouseModel" "riskAbove" "J") ∈ lw_all := lw_g (lw_at lw_m14 104 rfl) rfl
theorem q3506 : (Jvm.Cond.fieldLink "ElectionHouseModel" (1258 : Nat) "ElectionHouseModel" "riskBelow" "J") ∈ lw_all := lw_g (lw_at lw_m14 105 rfl) rfl
theorem q3507 : (Jvm.Cond.fieldLink "ElectionHouseModel" (1135 : Nat) "ElectionHouseModel" "heapBox" "[I") ∈ lw_all := lw_g (lw_at lw_m14 106 rfl) rfl
theorem q3508 : (Jvm.Cond.fieldLink "ElectionHouseModel" (1138 : Nat) "ElectionHouseModel" "heapPlace" "[I") ∈ lw_all := lw_g (lw_at lw_m14 107 rfl) rfl
theorem q3509 : (Jvm.Cond.fieldLink "ElectionHouseModel" (1141 : Nat) "ElectionHouseModel" "topOf" "[B") ∈ lw_all := lw_g (lw_at lw_m14 108 rfl) rfl
theorem q3510 : (Jvm.Cond.fieldLink "ElectionHouseModel" (1272 : Nat) "ElectionHouseModel" "written" "I") ∈ lw_all := lw_g (lw_at lw_m14 109 rfl) rfl
theorem q3511 : (Jvm.Cond.fieldLink "ElectionHouseModel" (1144 : Nat) "ElectionHouseModel" "piece" "[B") ∈ lw_all := lw_g (lw_at lw_m14 110 rfl) rfl
theorem q3512 : (Jvm.Cond.fieldLink "ElectionHouseModel" (1147 : Nat) "ElectionHouseModel" "spread" "[I") ∈ lw_all := lw_g (lw_at lw_m14 111 rfl) rfl
theorem q3513 : (Jvm.Cond.fieldLink "ElectionHouseModel" (1150 : Nat) "ElectionHouseModel" "sum" "[I") ∈ lw_all := lw_g (lw_at lw_m14 112 rfl) rfl
theorem q3514 : (Jvm.Cond.fieldLink "ElectionHouseModel" (1153 : Nat) "ElectionHouseModel" "state" "[I") ∈ lw_all := lw_g (lw_at lw_m14 113 rfl) rfl
theorem q3515 : (Jvm.Cond.fieldLink "ElectionHouseModel" (1220 : Nat) "ElectionHouseModel" "roundNumber" "[I") ∈ lw_all := lw_g (lw_at lw_m14 114 rfl) rfl
theorem q3516 : (Jvm.Cond.fieldLink "ElectionHouseModel" (1231 : Nat) "ElectionHouseModel" "firstState" "[I") ∈ lw_all := lw_g (lw_at lw_m14 115 rfl) rfl
theorem q3517 : (Jvm.Cond.laysFinal "ElectionHouseModel" "ElectionHouseModel" "tape" "[B") ∈ lw_all := lw_g (lw_at lw_m14 116 rfl) rfl
theorem q3518 : (Jvm.Cond.soleField "ElectionHouseModel" "tape") ∈ lw_all := lw_g (lw_at lw_m14 117 rfl) rfl
theorem q3519 : (Jvm.Cond.lays "ElectionHouseModel" "ElectionHouseModel" "taped" "I") ∈ lw_all := lw_g (lw_at lw_m14 118 rfl) rfl
theorem q3520 : (Jvm.Cond.soleField "ElectionHouseModel" "taped") ∈ lw_all := lw_g (lw_at lw_m14 119 rfl) rfl
theorem q3521 : (Jvm.Cond.lays "ElectionHouseModel" "ElectionHouseModel" "now" "I") ∈ lw_all := lw_g (lw_at lw_m14 120 rfl) rfl
theorem q3522 : (Jvm.Cond.soleField "ElectionHouseModel" "now") ∈ lw_all := lw_g (lw_at lw_m14 121 rfl) rfl
theorem q3523 : (Jvm.Cond.lays "ElectionHouseModel" "ElectionHouseModel" "areas" "I") ∈ lw_all := lw_g (lw_at lw_m14 122 rfl) rfl
theorem q3524 : (Jvm.Cond.soleField "ElectionHouseModel" "areas") ∈ lw_all := lw_g (lw_at lw_m14 123 rfl) rfl
theorem q3525 : (Jvm.Cond.laysFinal "ElectionHouseModel" "ElectionHouseModel" "areaKind" "[I") ∈ lw_all := lw_g (lw_at lw_m14 124 rfl) rfl
theorem q3526 : (Jvm.Cond.soleField "ElectionHouseModel" "areaKind") ∈ lw_all := lw_g (lw_at lw_m14 125 rfl) rfl
theorem q3527 : (Jvm.Cond.lays "ElectionHouseModel" "ElectionHouseModel" "borders" "I") ∈ lw_all := lw_g (lw_at lw_m14 126 rfl) rfl
theorem q3528 : (Jvm.Cond.soleField "ElectionHouseModel" "borders") ∈ lw_all := lw_g (lw_at lw_m14 127 rfl) rfl
theorem q3529 : (Jvm.Cond.laysFinal "ElectionHouseModel" "ElectionHouseModel" "borderArea" "[I") ∈ lw_all := lw_g (lw_at lw_m14 128 rfl) rfl
theorem q3530 : (Jvm.Cond.soleField "ElectionHouseModel" "borderArea") ∈ lw_all := lw_g (lw_at lw_m14 129 rfl) rfl
theorem q3531 : (Jvm.Cond.laysFinal "ElectionHouseModel" "ElectionHouseModel" "borderFrom" "[I") ∈ lw_all := lw_g (lw_at lw_m14 130 rfl) rfl
theorem q3532 : (Jvm.Cond.soleField "ElectionHouseModel" "borderFrom") ∈ lw_all := lw_g (lw_at lw_m14 131 rfl) rfl
theorem q3533 : (Jvm.Cond.laysFinal "ElectionHouseModel" "ElectionHouseModel" "borderTo" "[I") ∈ lw_all := lw_g (lw_at lw_m14 132 rfl) rfl
theorem q3534 : (Jvm.Cond.soleField "ElectionHouseModel" "borderTo") ∈ lw_all := lw_g (lw_at lw_m14 133 rfl) rfl
theorem q3535 : (Jvm.Cond.laysFinal "ElectionHouseModel" "ElectionHouseModel" "borderDay" "[I") ∈ lw_all := lw_g (lw_at lw_m14 134 rfl) rfl
theorem q3536 : (Jvm.Cond.soleField "ElectionHouseModel" "borderDay") ∈ lw_all := lw_g (lw_at lw_m14 135 rfl) rfl
theorem q3537 : (Jvm.Cond.lays "ElectionHouseModel" "ElectionHouseModel" "persons" "I") ∈ lw_all := lw_g (lw_at lw_m14 136 rfl) rfl
theorem q3538 : (Jvm.Cond.soleField "ElectionHouseModel" "persons") ∈ lw_all := lw_g (lw_at lw_m14 137 rfl) rfl
theorem q3539 : (Jvm.Cond.laysFinal "ElectionHouseModel" "ElectionHouseModel" "birth" "[I") ∈ lw_all := lw_g (lw_at lw_m14 138 rfl) rfl
theorem q3540 : (Jvm.Cond.soleField "ElectionHouseModel" "birth") ∈ lw_all := lw_g (lw_at lw_m14 139 rfl) rfl
theorem q3541 : (Jvm.Cond.laysFinal "ElectionHouseModel" "ElectionHouseModel" "birthYear" "[I") ∈ lw_all := lw_g (lw_at lw_m14 140 rfl) rfl
theorem q3542 : (Jvm.Cond.soleField "ElectionHouseModel" "birthYear") ∈ lw_all := lw_g (lw_at lw_m14 141 rfl) rfl
theorem q3543 : (Jvm.Cond.laysFinal "ElectionHouseModel" "ElectionHouseModel" "birthMonth" "[I") ∈ lw_all := lw_g (lw_at lw_m14 142 rfl) rfl
theorem q3544 : (Jvm.Cond.soleField "ElectionHouseModel" "birthMonth") ∈ lw_all := lw_g (lw_at lw_m14 143 rfl) rfl
theorem q3545 : (Jvm.Cond.laysFinal "ElectionHouseModel" "ElectionHouseModel" "birthDate" "[I") ∈ lw_all := lw_g (lw_at lw_m14 144 rfl) rfl
theorem q3546 : (Jvm.Cond.soleField "ElectionHouseModel" "birthDate") ∈ lw_all := lw_g (lw_at lw_m14 145 rfl) rfl
theorem q3547 : (Jvm.Cond.laysFinal "ElectionHouseModel" "ElectionHouseModel" "death" "[I") ∈ lw_all := lw_g (lw_at lw_m14 146 rfl) rfl
theorem q3548 : (Jvm.Cond.soleField "ElectionHouseModel" "death") ∈ lw_all := lw_g (lw_at lw_m14 147 rfl) rfl
theorem q3549 : (Jvm.Cond.laysFinal "ElectionHouseModel" "ElectionHouseModel" "moves" "[I") ∈ lw_all := lw_g (lw_at lw_m14 148 rfl) rfl
theorem q3550 : (Jvm.Cond.soleField "ElectionHouseModel" "moves") ∈ lw_all := lw_g (lw_at lw_m14 149 rfl) rfl
theorem q3551 : (Jvm.Cond.laysFinal "ElectionHouseModel" "ElectionHouseModel" "moveDay" "[I") ∈ lw_all := lw_g (lw_at lw_m14 150 rfl) rfl
theorem q3552 : (Jvm.Cond.soleField "ElectionHouseModel" "moveDay") ∈ lw_all := lw_g (lw_at lw_m14 151 rfl) rfl
theorem q3553 : (Jvm.Cond.laysFinal "ElectionHouseModel" "ElectionHouseModel" "moveTo" "[I") ∈ lw_all := lw_g (lw_at lw_m14 152 rfl) rfl
theorem q3554 : (Jvm.Cond.soleField "ElectionHouseModel" "moveTo") ∈ lw_all := lw_g (lw_at lw_m14 153 rfl) rfl
theorem q3555 : (Jvm.Cond.laysFinal "ElectionHouseModel" "ElectionHouseModel" "facts" "[I") ∈ lw_all := lw_g (lw_at lw_m14 154 rfl) rfl
theorem q3556 : (Jvm.Cond.soleField "ElectionHouseModel" "facts") ∈ lw_all := lw_g (lw_at lw_m14 155 rfl) rfl
theorem q3557 : (Jvm.Cond.laysFinal "ElectionHouseModel" "ElectionHouseModel" "factKind" "[I") ∈ lw_all := lw_g (lw_at lw_m14 156 rfl) rfl
theorem q3558 : (Jvm.Cond.soleField "ElectionHouseModel" "factKind") ∈ lw_all := lw_g (lw_at lw_m14 157 rfl) rfl
theorem q3559 : (Jvm.Cond.laysFinal "ElectionHouseModel" "ElectionHouseModel" "factYes" "[I") ∈ lw_all := lw_g (lw_at lw_m14 158 rfl) rfl
theorem q3560 : (Jvm.Cond.soleField "ElectionHouseModel" "factYes") ∈ lw_all := lw_g (lw_at lw_m14 159 rfl) rfl
theorem q3561 : (Jvm.Cond.laysFinal "ElectionHouseModel" "ElectionHouseModel" "factFrom" "[I") ∈ lw_all := lw_g (lw_at lw_m14 160 rfl) rfl
theorem q3562 : (Jvm.Cond.soleField "ElectionHouseModel" "factFrom") ∈ lw_all := lw_g (lw_at lw_m14 161 rfl) rfl
theorem q3563 : (Jvm.Cond.laysFinal "ElectionHouseModel" "ElectionHouseModel" "factTo" "[I") ∈ lw_all := lw_g (lw_at lw_m14 162 rfl) rfl
theorem q3564 : (Jvm.Cond.soleField "ElectionHouseModel" "factTo") ∈ lw_all := lw_g (lw_at lw_m14 163 rfl) rfl
theorem q3565 : (Jvm.Cond.laysFinal "ElectionHouseModel" "ElectionHouseModel" "signSort" "[I") ∈ lw_all := lw_g (lw_at lw_m14 164 rfl) rfl
theorem q3566 : (Jvm.Cond.soleField "ElectionHouseModel" "signSort") ∈ lw_all := lw_g (lw_at lw_m14 165 rfl) rfl
theorem q3567 : (Jvm.Cond.laysFinal "ElectionHouseModel" "ElectionHouseModel" "signFrom" "[I") ∈ lw_all := lw_g (lw_at lw_m14 166 rfl) rfl
theorem q3568 : (Jvm.Cond.soleField "ElectionHouseModel" "signFrom") ∈ lw_all := lw_g (lw_at lw_m14 167 rfl) rfl
theorem q3569 : (Jvm.Cond.laysFinal "ElectionHouseModel" "ElectionHouseModel" "signTo" "[I") ∈ lw_all := lw_g (lw_at lw_m14 168 rfl) rfl
theorem q3570 : (Jvm.Cond.soleField "ElectionHouseModel" "signTo") ∈ lw_all := lw_g (lw_at lw_m14 169 rfl) rfl
theorem q3571 : (Jvm.Cond.laysFinal "ElectionHouseModel" "ElectionHouseModel" "signValue" "[I") ∈ lw_all := lw_g (lw_at lw_m14 170 rfl) rfl
theorem q3572 : (Jvm.Cond.soleField "ElectionHouseModel" "signValue") ∈ lw_all := lw_g (lw_at lw_m14 171 rfl) rfl
theorem q3573 : (Jvm.Cond.lays "ElectionHouseModel" "ElectionHouseModel" "textSize" "I") ∈ lw_all := lw_g (lw_at lw_m14 172 rfl) rfl
theorem q3574 : (Jvm.Cond.soleField "ElectionHouseModel" "textSize") ∈ lw_all := lw_g (lw_at lw_m14 173 rfl) rfl
theorem q3575 : (Jvm.Cond.lays "ElectionHouseModel" "ElectionHouseModel" "at" "I") ∈ lw_all := lw_g (lw_at lw_m14 174 rfl) rfl
theorem q3576 : (Jvm.Cond.soleField "ElectionHouseModel" "at") ∈ lw_all := lw_g (lw_at lw_m14 175 rfl) rfl
theorem q3577 : (Jvm.Cond.lays "ElectionHouseModel" "ElectionHouseModel" "wrongAt" "I") ∈ lw_all := lw_g (lw_at lw_m14 176 rfl) rfl
theorem q3578 : (Jvm.Cond.soleField "ElectionHouseModel" "wrongAt") ∈ lw_all := lw_g (lw_at lw_m14 177 rfl) rfl
theorem q3579 : (Jvm.Cond.lays "ElectionHouseModel" "ElectionHouseModel" "least" "I") ∈ lw_all := lw_g (lw_at lw_m14 178 rfl) rfl
theorem q3580 : (Jvm.Cond.soleField "ElectionHouseModel" "least") ∈ lw_all := lw_g (lw_at lw_m14 179 rfl) rfl
theorem q3581 : (Jvm.Cond.lays "ElectionHouseModel" "ElectionHouseModel" "number" "I") ∈ lw_all := lw_g (lw_at lw_m14 180 rfl) rfl
theorem q3582 : (Jvm.Cond.soleField "ElectionHouseModel" "number") ∈ lw_all := lw_g (lw_at lw_m14 181 rfl) rfl
theorem q3583 : (Jvm.Cond.lays "ElectionHouseModel" "ElectionHouseModel" "numberAt" "I") ∈ lw_all := lw_g (lw_at lw_m14 182 rfl) rfl
theorem q3584 : (Jvm.Cond.soleField "ElectionHouseModel" "numberAt") ∈ lw_all := lw_g (lw_at lw_m14 183 rfl) rfl
theorem q3585 : (Jvm.Cond.lays "ElectionHouseModel" "ElectionHouseModel" "timeDay" "I") ∈ lw_all := lw_g (lw_at lw_m14 184 rfl) rfl
theorem q3586 : (Jvm.Cond.soleField "ElectionHouseModel" "timeDay") ∈ lw_all := lw_g (lw_at lw_m14 185 rfl) rfl
theorem q3587 : (Jvm.Cond.lays "ElectionHouseModel" "ElectionHouseModel" "timeAt" "I") ∈ lw_all := lw_g (lw_at lw_m14 186 rfl) rfl
theorem q3588 : (Jvm.Cond.soleField "ElectionHouseModel" "timeAt") ∈ lw_all := lw_g (lw_at lw_m14 187 rfl) rfl
theorem q3589 : (Jvm.Cond.laysFinal "ElectionHouseModel" "ElectionHouseModel" "step" "[I") ∈ lw_all := lw_g (lw_at lw_m14 188 rfl) rfl
theorem q3590 : (Jvm.Cond.soleField "ElectionHouseModel" "step") ∈ lw_all := lw_g (lw_at lw_m14 189 rfl) rfl
theorem q3591 : (Jvm.Cond.laysFinal "ElectionHouseModel" "ElectionHouseModel" "steps" "[I") ∈ lw_all := lw_g (lw_at lw_m14 190 rfl) rfl
theorem q3592 : (Jvm.Cond.soleField "ElectionHouseModel" "steps") ∈ lw_all := lw_g (lw_at lw_m14 191 rfl) rfl
theorem q3593 : (Jvm.Cond.laysFinal "ElectionHouseModel" "ElectionHouseModel" "tests" "[I") ∈ lw_all := lw_g (lw_at lw_m14 192 rfl) rfl
theorem q3594 : (Jvm.Cond.soleField "ElectionHouseModel" "tests") ∈ lw_all := lw_g (lw_at lw_m14 193 rfl) rfl
theorem q3595 : (Jvm.Cond.laysFinal "ElectionHouseModel" "ElectionHouseModel" "testSort" "[I") ∈ lw_all := lw_g (lw_at lw_m14 194 rfl) rfl
theorem q3596 : (Jvm.Cond.soleField "ElectionHouseModel" "testSort") ∈ lw_all := lw_g (lw_at lw_m14 195 rfl) rfl
theorem q3597 : (Jvm.Cond.laysFinal "ElectionHouseModel" "ElectionHouseModel" "testNumber" "[I") ∈ lw_all := lw_g (lw_at lw_m14 196 rfl) rfl
theorem q3598 : (Jvm.Cond.soleField "ElectionHouseModel" "testNumber") ∈ lw_all := lw_g (lw_at lw_m14 197 rfl) rfl
theorem q3599 : (Jvm.Cond.laysFinal "ElectionHouseModel" "ElectionHouseModel" "testDay" "[I") ∈ lw_all := lw_g (lw_at lw_m14 198 rfl) rfl
theorem q3600 : (Jvm.Cond.soleField "ElectionHouseModel" "testDay") ∈ lw_all := lw_g (lw_at lw_m14 199 rfl) rfl
theorem q3601 : (Jvm.Cond.laysFinal "ElectionHouseModel" "ElectionHouseModel" "testAt" "[I") ∈ lw_all := lw_g (lw_at lw_m14 200 rfl) rfl
theorem q3602 : (Jvm.Cond.soleField "ElectionHouseModel" "testAt") ∈ lw_all := lw_g (lw_at lw_m14 201 rfl) rfl
theorem q3603 : (Jvm.Cond.laysFinal "ElectionHouseModel" "ElectionHouseModel" "lawNumber" "[I") ∈ lw_all := lw_g (lw_at lw_m14 202 rfl) rfl
theorem q3604 : (Jvm.Cond.soleField "ElectionHouseModel" "lawNumber") ∈ lw_all := lw_g (lw_at lw_m14 203 rfl) rfl
theorem q3605 : (Jvm.Cond.laysFinal "ElectionHouseModel" "ElectionHouseModel" "contestNumber" "[I") ∈ lw_all := lw_g (lw_at lw_m14 204 rfl) rfl
theorem q3606 : (Jvm.Cond.soleField "ElectionHouseModel" "contestNumber") ∈ lw_all := lw_g (lw_at lw_m14 205 rfl) rfl
theorem q3607 : (Jvm.Cond.lays "ElectionHouseModel" "ElectionHouseModel" "hasLaw" "Z") ∈ lw_all := lw_g (lw_at lw_m14 206 rfl) rfl
theorem q3608 : (Jvm.Cond.soleField "ElectionHouseModel" "hasLaw") ∈ lw_all := lw_g (lw_at lw_m14 207 rfl) rfl
theorem q3609 : (Jvm.Cond.lays "ElectionHouseModel" "ElectionHouseModel" "eve" "Z") ∈ lw_all := lw_g (lw_at lw_m14 208 rfl) rfl
theorem q3610 : (Jvm.Cond.soleField "ElectionHouseModel" "eve") ∈ lw_all := lw_g (lw_at lw_m14 209 rfl) rfl
theorem q3611 : (Jvm.Cond.lays "ElectionHouseModel" "ElectionHouseModel" "contests" "I") ∈ lw_all := lw_g (lw_at lw_m14 210 rfl) rfl
theorem q3612 : (Jvm.Cond.soleField "ElectionHouseModel" "contests") ∈ lw_all := lw_g (lw_at lw_m14 211 rfl) rfl
theorem q3613 : (Jvm.Cond.lays "ElectionHouseModel" "ElectionHouseModel" "failedAt" "I") ∈ lw_all := lw_g (lw_at lw_m14 212 rfl) rfl
theorem q3614 : (Jvm.Cond.soleField "ElectionHouseModel" "failedAt") ∈ lw_all := lw_g (lw_at lw_m14 213 rfl) rfl
theorem q3615 : (Jvm.Cond.lays "ElectionHouseModel" "ElectionHouseModel" "hasLevel" "Z") ∈ lw_all := lw_g (lw_at lw_m14 214 rfl) rfl
theorem q3616 : (Jvm.Cond.soleField "ElectionHouseModel" "hasLevel") ∈ lw_all := lw_g (lw_at lw_m14 215 rfl) rfl
theorem q3617 : (Jvm.Cond.lays "ElectionHouseModel" "ElectionHouseModel" "told" "I") ∈ lw_all := lw_g (lw_at lw_m14 216 rfl) rfl
theorem q3618 : (Jvm.Cond.soleField "ElectionHouseModel" "told") ∈ lw_all := lw_g (lw_at lw_m14 217 rfl) rfl
theorem q3619 : (Jvm.Cond.laysFinal "ElectionHouseModel" "ElectionHouseModel" "anyOf" "[Z") ∈ lw_all := lw_g (lw_at lw_m14 218 rfl) rfl
theorem q3620 : (Jvm.Cond.soleField "ElectionHouseModel" "anyOf") ∈ lw_all := lw_g (lw_at lw_m14 219 rfl) rfl
theorem q3621 : (Jvm.Cond.laysFinal "ElectionHouseModel" "ElectionHouseModel" "allOf" "[Z") ∈ lw_all := lw_g (lw_at lw_m14 220 rfl) rfl
theorem q3622 : (Jvm.Cond.soleField "ElectionHouseModel" "allOf") ∈ lw_all := lw_g (lw_at lw_m14 221 rfl) rfl
theorem q3623 : (Jvm.Cond.laysFinal "ElectionHouseModel" "ElectionHouseModel" "turned" "[Z") ∈ lw_all := lw_g (lw_at lw_m14 222 rfl) rfl
theorem q3624 : (Jvm.Cond.soleField "ElectionHouseModel" "turned") ∈ lw_all := lw_g (lw_at lw_m14 223 rfl) rfl
theorem q3625 : (Jvm.Cond.laysFinal "ElectionHouseModel" "ElectionHouseModel" "around" "[Z") ∈ lw_all := lw_g (lw_at lw_m14 224 rfl) rfl
theorem q3626 : (Jvm.Cond.soleField "ElectionHouseModel" "around") ∈ lw_all := lw_g (lw_at lw_m14 225 rfl) rfl
theorem q3627 : (Jvm.Cond.lays "ElectionHouseModel" "ElectionHouseModel" "firstFailed" "I") ∈ lw_all := lw_g (lw_at lw_m14 226 rfl) rfl
theorem q3628 : (Jvm.Cond.soleField "ElectionHouseModel" "firstFailed") ∈ lw_all := lw_g (lw_at lw_m14 227 rfl) rfl
theorem q3629 : (Jvm.Cond.lays "ElectionHouseModel" "ElectionHouseModel" "nominations" "I") ∈ lw_all := lw_g (lw_at lw_m14 228 rfl) rfl
theorem q3630 : (Jvm.Cond.soleField "ElectionHouseModel" "nominations") ∈ lw_all := lw_g (lw_at lw_m14 229 rfl) rfl
theorem q3631 : (Jvm.Cond.laysFinal "ElectionHouseModel" "ElectionHouseModel" "nomContest" "[I") ∈ lw_all := lw_g (lw_at lw_m14 230 rfl) rfl
theorem q3632 : (Jvm.Cond.soleField "ElectionHouseModel" "nomContest") ∈ lw_all := lw_g (lw_at lw_m14 231 rfl) rfl
theorem q3633 : (Jvm.Cond.laysFinal "ElectionHouseModel" "ElectionHouseModel" "nomPerson" "[I") ∈ lw_all := lw_g (lw_at lw_m14 232 rfl) rfl
theorem q3634 : (Jvm.Cond.soleField "ElectionHouseModel" "nomPerson") ∈ lw_all := lw_g (lw_at lw_m14 233 rfl) rfl
theorem q3635 : (Jvm.Cond.laysFinal "ElectionHouseModel" "ElectionHouseModel" "nomParty" "[I") ∈ lw_all := lw_g (lw_at lw_m14 234 rfl) rfl
theorem q3636 : (Jvm.Cond.soleField "ElectionHouseModel" "nomParty") ∈ lw_all := lw_g (lw_at lw_m14 235 rfl) rfl
theorem q3637 : (Jvm.Cond.laysFinal "ElectionHouseModel" "ElectionHouseModel" "nomSigned" "[I") ∈ lw_all := lw_g (lw_at lw_m14 236 rfl) rfl
theorem q3638 : (Jvm.Cond.soleField "ElectionHouseModel" "nomSigned") ∈ lw_all := lw_g (lw_at lw_m14 237 rfl) rfl
theorem q3639 : (Jvm.Cond.laysFinal "ElectionHouseModel" "ElectionHouseModel" "nomState" "[I") ∈ lw_all := lw_g (lw_at lw_m14 238 rfl) rfl
theorem q3640 : (Jvm.Cond.soleField "ElectionHouseModel" "nomState") ∈ lw_all := lw_g (lw_at lw_m14 239 rfl) rfl
theorem q3641 : (Jvm.Cond.laysFinal "ElectionHouseModel" "ElectionHouseModel" "nomCandidate" "[I") ∈ lw_all := lw_g (lw_at lw_m15 0 rfl) rfl
theorem q3642 : (Jvm.Cond.soleField "ElectionHouseModel" "nomCandidate") ∈ lw_all := lw_g (lw_at lw_m15 1 rfl) rfl
theorem q3643 : (Jvm.Cond.laysFinal "ElectionHouseModel" "ElectionHouseModel" "hasSigned" "[Z") ∈ lw_all := lw_g (lw_at lw_m15 2 rfl) rfl
theorem q3644 : (Jvm.Cond.soleField "ElectionHouseModel" "hasSigned") ∈ lw_all := lw_g (lw_at lw_m15 3 rfl) rfl
theorem q3645 : (Jvm.Cond.lays "ElectionHouseModel" "ElectionHouseModel" "frozen" "Z") ∈ lw_all := lw_g (lw_at lw_m15 4 rfl) rfl
theorem q3646 : (Jvm.Cond.soleField "ElectionHouseModel" "frozen") ∈ lw_all := lw_g (lw_at lw_m15 5 rfl) rfl
theorem q3647 : (Jvm.Cond.laysFinal "ElectionHouseModel" "ElectionHouseModel" "candidates" "[I") ∈ lw_all := lw_g (lw_at lw_m15 6 rfl) rfl
theorem q3648 : (Jvm.Cond.soleField "ElectionHouseModel" "candidates") ∈ lw_all := lw_g (lw_at lw_m15 7 rfl) rfl
theorem q3649 : (Jvm.Cond.laysFinal "ElectionHouseModel" "ElectionHouseModel" "candidateNom" "[I") ∈ lw_all := lw_g (lw_at lw_m15 8 rfl) rfl
theorem q3650 : (Jvm.Cond.soleField "ElectionHouseModel" "candidateNom") ∈ lw_all := lw_g (lw_at lw_m15 9 rfl) rfl
theorem q3651 : (Jvm.Cond.laysFinal "ElectionHouseModel" "ElectionHouseModel" "isStruck" "[Z") ∈ lw_all := lw_g (lw_at lw_m15 10 rfl) rfl
theorem q3652 : (Jvm.Cond.soleField "ElectionHouseModel" "isStruck") ∈ lw_all := lw_g (lw_at lw_m15 11 rfl) rfl
theorem q3653 : (Jvm.Cond.laysFinal "ElectionHouseModel" "ElectionHouseModel" "lotAt" "[I") ∈ lw_all := lw_g (lw_at lw_m15 12 rfl) rfl
theorem q3654 : (Jvm.Cond.soleField "ElectionHouseModel" "lotAt") ∈ lw_all := lw_g (lw_at lw_m15 13 rfl) rfl
theorem q3655 : (Jvm.Cond.laysFinal "ElectionHouseModel" "ElectionHouseModel" "lotPlace" "[I") ∈ lw_all := lw_g (lw_at lw_m15 14 rfl) rfl
theorem q3656 : (Jvm.Cond.soleField "ElectionHouseModel" "lotPlace") ∈ lw_all := lw_g (lw_at lw_m15 15 rfl) rfl
theorem q3657 : (Jvm.Cond.laysFinal "ElectionHouseModel" "ElectionHouseModel" "isDrawn" "[Z") ∈ lw_all := lw_g (lw_at lw_m15 16 rfl) rfl
theorem q3658 : (Jvm.Cond.soleField "ElectionHouseModel" "isDrawn") ∈ lw_all := lw_g (lw_at lw_m15 17 rfl) rfl
theorem q3659 : (Jvm.Cond.lays "ElectionHouseModel" "ElectionHouseModel" "rows" "I") ∈ lw_all := lw_g (lw_at lw_m15 18 rfl) rfl
theorem q3660 : (Jvm.Cond.soleField "ElectionHouseModel" "rows") ∈ lw_all := lw_g (lw_at lw_m15 19 rfl) rfl
theorem q3661 : (Jvm.Cond.laysFinal "ElectionHouseModel" "ElectionHouseModel" "rowPerson" "[I") ∈ lw_all := lw_g (lw_at lw_m15 20 rfl) rfl
theorem q3662 : (Jvm.Cond.soleField "ElectionHouseModel" "rowPerson") ∈ lw_all := lw_g (lw_at lw_m15 21 rfl) rfl
theorem q3663 : (Jvm.Cond.laysFinal "ElectionHouseModel" "ElectionHouseModel" "rowSheet" "[I") ∈ lw_all := lw_g (lw_at lw_m15 22 rfl) rfl
theorem q3664 : (Jvm.Cond.soleField "ElectionHouseModel" "rowSheet") ∈ lw_all := lw_g (lw_at lw_m15 23 rfl) rfl
theorem q3665 : (Jvm.Cond.laysFinal "ElectionHouseModel" "ElectionHouseModel" "rowOn" "[Z") ∈ lw_all := lw_g (lw_at lw_m15 24 rfl) rfl
theorem q3666 : (Jvm.Cond.soleField "ElectionHouseModel" "rowOn") ∈ lw_all := lw_g (lw_at lw_m15 25 rfl) rfl
theorem q3667 : (Jvm.Cond.lays "ElectionHouseModel" "ElectionHouseModel" "appeals" "I") ∈ lw_all := lw_g (lw_at lw_m15 26 rfl) rfl
theorem q3668 : (Jvm.Cond.soleField "ElectionHouseModel" "appeals") ∈ lw_all := lw_g (lw_at lw_m15 27 rfl) rfl
theorem q3669 : (Jvm.Cond.laysFinal "ElectionHouseModel" "ElectionHouseModel" "appealPerson" "[I") ∈ lw_all := lw_g (lw_at lw_m15 28 rfl) rfl
theorem q3670 : (Jvm.Cond.soleField "ElectionHouseModel" "appealPerson") ∈ lw_all := lw_g (lw_at lw_m15 29 rfl) rfl
theorem q3671 : (Jvm.Cond.laysFinal "ElectionHouseModel" "ElectionHouseModel" "appealKind" "[I") ∈ lw_all := lw_g (lw_at lw_m15 30 rfl) rfl
theorem q3672 : (Jvm.Cond.soleField "ElectionHouseModel" "appealKind") ∈ lw_all := lw_g (lw_at lw_m15 31 rfl) rfl
theorem q3673 : (Jvm.Cond.laysFinal "ElectionHouseModel" "ElectionHouseModel" "isDecided" "[Z") ∈ lw_all := lw_g (lw_at lw_m15 32 rfl) rfl
theorem q3674 : (Jvm.Cond.soleField "ElectionHouseModel" "isDecided") ∈ lw_all := lw_g (lw_at lw_m15 33 rfl) rfl
theorem q3675 : (Jvm.Cond.lays "ElectionHouseModel" "ElectionHouseModel" "stations" "I") ∈ lw_all := lw_g (lw_at lw_m15 34 rfl) rfl
theorem q3676 : (Jvm.Cond.soleField "ElectionHouseModel" "stations") ∈ lw_all := lw_g (lw_at lw_m15 35 rfl) rfl
theorem q3677 : (Jvm.Cond.laysFinal "ElectionHouseModel" "ElectionHouseModel" "clockIs" "[I") ∈ lw_all := lw_g (lw_at lw_m15 36 rfl) rfl
theorem q3678 : (Jvm.Cond.soleField "ElectionHouseModel" "clockIs") ∈ lw_all := lw_g (lw_at lw_m15 37 rfl) rfl
theorem q3679 : (Jvm.Cond.laysFinal "ElectionHouseModel" "ElectionHouseModel" "isCut" "[Z") ∈ lw_all := lw_g (lw_at lw_m15 38 rfl) rfl
theorem q3680 : (Jvm.Cond.soleField "ElectionHouseModel" "isCut") ∈ lw_all := lw_g (lw_at lw_m15 39 rfl) rfl
theorem q3681 : (Jvm.Cond.lays "ElectionHouseModel" "ElectionHouseModel" "issues" "I") ∈ lw_all := lw_g (lw_at lw_m15 40 rfl) rfl
theorem q3682 : (Jvm.Cond.soleField "ElectionHouseModel" "issues") ∈ lw_all := lw_g (lw_at lw_m15 41 rfl) rfl
theorem q3683 : (Jvm.Cond.laysFinal "ElectionHouseModel" "ElectionHouseModel" "issuePerson" "[I") ∈ lw_all := lw_g (lw_at lw_m15 42 rfl) rfl
theorem q3684 : (Jvm.Cond.soleField "ElectionHouseModel" "issuePerson") ∈ lw_all := lw_g (lw_at lw_m15 43 rfl) rfl
theorem q3685 : (Jvm.Cond.laysFinal "ElectionHouseModel" "ElectionHouseModel" "issueStation" "[I") ∈ lw_all := lw_g (lw_at lw_m15 44 rfl) rfl
theorem q3686 : (Jvm.Cond.soleField "ElectionHouseModel" "issueStation") ∈ lw_all := lw_g (lw_at lw_m15 45 rfl) rfl
theorem q3687 : (Jvm.Cond.laysFinal "ElectionHouseModel" "ElectionHouseModel" "issueState" "[I") ∈ lw_all := lw_g (lw_at lw_m15 46 rfl) rfl
theorem q3688 : (Jvm.Cond.soleField "ElectionHouseModel" "issueState") ∈ lw_all := lw_g (lw_at lw_m15 47 rfl) rfl
theorem q3689 : (Jvm.Cond.laysFinal "ElectionHouseModel" "ElectionHouseModel" "issueTime" "[I") ∈ lw_all := lw_g (lw_at lw_m15 48 rfl) rfl
theorem q3690 : (Jvm.Cond.soleField "ElectionHouseModel" "issueTime") ∈ lw_all := lw_g (lw_at lw_m15 49 rfl) rfl
theorem q3691 : (Jvm.Cond.laysFinal "ElectionHouseModel" "ElectionHouseModel" "isJoined" "[Z") ∈ lw_all := lw_g (lw_at lw_m15 50 rfl) rfl
theorem q3692 : (Jvm.Cond.soleField "ElectionHouseModel" "isJoined") ∈ lw_all := lw_g (lw_at lw_m15 51 rfl) rfl
theorem q3693 : (Jvm.Cond.laysFinal "ElectionHouseModel" "ElectionHouseModel" "issueSheet" "[I") ∈ lw_all := lw_g (lw_at lw_m15 52 rfl) rfl
theorem q3694 : (Jvm.Cond.soleField "ElectionHouseModel" "issueSheet") ∈ lw_all := lw_g (lw_at lw_m15 53 rfl) rfl
theorem q3695 : (Jvm.Cond.laysFinal "ElectionHouseModel" "ElectionHouseModel" "knew" "[I") ∈ lw_all := lw_g (lw_at lw_m15 54 rfl) rfl
theorem q3696 : (Jvm.Cond.soleField "ElectionHouseModel" "knew") ∈ lw_all := lw_g (lw_at lw_m15 55 rfl) rfl
theorem q3697 : (Jvm.Cond.laysFinal "ElectionHouseModel" "ElectionHouseModel" "mark" "[B") ∈ lw_all := lw_g (lw_at lw_m15 56 rfl) rfl
theorem q3698 : (Jvm.Cond.soleField "ElectionHouseModel" "mark") ∈ lw_all := lw_g (lw_at lw_m15 57 rfl) rfl
theorem q3699 : (Jvm.Cond.laysFinal "ElectionHouseModel" "ElectionHouseModel" "read" "[B") ∈ lw_all := lw_g (lw_at lw_m15 58 rfl) rfl
theorem q3700 : (Jvm.Cond.soleField "ElectionHouseModel" "read") ∈ lw_all := lw_g (lw_at lw_m15 59 rfl) rfl
theorem q3701 : (Jvm.Cond.laysFinal "ElectionHouseModel" "ElectionHouseModel" "wentBy" "[Z") ∈ lw_all := lw_g (lw_at lw_m15 60 rfl) rfl
theorem q3702 : (Jvm.Cond.soleField "ElectionHouseModel" "wentBy") ∈ lw_all := lw_g (lw_at lw_m15 61 rfl) rfl
theorem q3703 : (Jvm.Cond.laysFinal "ElectionHouseModel" "ElectionHouseModel" "papers" "[I") ∈ lw_all := lw_g (lw_at lw_m15 62 rfl) rfl
theorem q3704 : (Jvm.Cond.soleField "ElectionHouseModel" "papers") ∈ lw_all := lw_g (lw_at lw_m15 63 rfl) rfl
theorem q3705 : (Jvm.Cond.laysFinal "ElectionHouseModel" "ElectionHouseModel" "paperOf" "[I") ∈ lw_all := lw_g (lw_at lw_m15 64 rfl) rfl
theorem q3706 : (Jvm.Cond.soleField "ElectionHouseModel" "paperOf") ∈ lw_all := lw_g (lw_at lw_m15 65 rfl) rfl
theorem q3707 : (Jvm.Cond.laysFinal "ElectionHouseModel" "ElectionHouseModel" "isClosed" "[Z") ∈ lw_all := lw_g (lw_at lw_m15 66 rfl) rfl
theorem q3708 : (Jvm.Cond.soleField "ElectionHouseModel" "isClosed") ∈ lw_all := lw_g (lw_at lw_m15 67 rfl) rfl
theorem q3709 : (Jvm.Cond.laysFinal "ElectionHouseModel" "ElectionHouseModel" "isOut" "[Z") ∈ lw_all := lw_g (lw_at lw_m15 68 rfl) rfl
theorem q3710 : (Jvm.Cond.soleField "ElectionHouseModel" "isOut") ∈ lw_all := lw_g (lw_at lw_m15 69 rfl) rfl
theorem q3711 : (Jvm.Cond.lays "ElectionHouseModel" "ElectionHouseModel" "who" "I") ∈ lw_all := lw_g (lw_at lw_m15 70 rfl) rfl
theorem q3712 : (Jvm.Cond.soleField "ElectionHouseModel" "who") ∈ lw_all := lw_g (lw_at lw_m15 71 rfl) rfl
theorem q3713 : (Jvm.Cond.lays "ElectionHouseModel" "ElectionHouseModel" "all" "I") ∈ lw_all := lw_g (lw_at lw_m15 72 rfl) rfl
theorem q3714 : (Jvm.Cond.soleField "ElectionHouseModel" "all") ∈ lw_all := lw_g (lw_at lw_m15 73 rfl) rfl
theorem q3715 : (Jvm.Cond.lays "ElectionHouseModel" "ElectionHouseModel" "running" "I") ∈ lw_all := lw_g (lw_at lw_m15 74 rfl) rfl
theorem q3716 : (Jvm.Cond.soleField "ElectionHouseModel" "running") ∈ lw_all := lw_g (lw_at lw_m15 75 rfl) rfl
theorem q3717 : (Jvm.Cond.lays "ElectionHouseModel" "ElectionHouseModel" "seats" "I") ∈ lw_all := lw_g (lw_at lw_m15 76 rfl) rfl
theorem q3718 : (Jvm.Cond.soleField "ElectionHouseModel" "seats") ∈ lw_all := lw_g (lw_at lw_m15 77 rfl) rfl
theorem q3719 : (Jvm.Cond.laysFinal "ElectionHouseModel" "ElectionHouseModel" "runs" "[Z") ∈ lw_all := lw_g (lw_at lw_m15 78 rfl) rfl
theorem q3720 : (Jvm.Cond.soleField "ElectionHouseModel" "runs") ∈ lw_all := lw_g (lw_at lw_m15 79 rfl) rfl
theorem q3721 : (Jvm.Cond.lays "ElectionHouseModel" "ElectionHouseModel" "valid" "I") ∈ lw_all := lw_g (lw_at lw_m15 80 rfl) rfl
theorem q3722 : (Jvm.Cond.soleField "ElectionHouseModel" "valid") ∈ lw_all := lw_g (lw_at lw_m15 81 rfl) rfl
theorem q3723 : (Jvm.Cond.lays "ElectionHouseModel" "ElectionHouseModel" "blank" "I") ∈ lw_all := lw_g (lw_at lw_m15 82 rfl) rfl
theorem q3724 : (Jvm.Cond.soleField "ElectionHouseModel" "blank") ∈ lw_all := lw_g (lw_at lw_m15 83 rfl) rfl
theorem q3725 : (Jvm.Cond.lays "ElectionHouseModel" "ElectionHouseModel" "bad" "I") ∈ lw_all := lw_g (lw_at lw_m15 84 rfl) rfl
theorem q3726 : (Jvm.Cond.soleField "ElectionHouseModel" "bad") ∈ lw_all := lw_g (lw_at lw_m15 85 rfl) rfl
theorem q3727 : (Jvm.Cond.laysFinal "ElectionHouseModel" "ElectionHouseModel" "ballot" "[I") ∈ lw_all := lw_g (lw_at lw_m15 86 rfl) rfl
theorem q3728 : (Jvm.Cond.soleField "ElectionHouseModel" "ballot") ∈ lw_all := lw_g (lw_at lw_m15 87 rfl) rfl
theorem q3729 : (Jvm.Cond.laysFinal "ElectionHouseModel" "ElectionHouseModel" "ranking" "[I") ∈ lw_all := lw_g (lw_at lw_m15 88 rfl) rfl
theorem q3730 : (Jvm.Cond.soleField "ElectionHouseModel" "ranking") ∈ lw_all := lw_g (lw_at lw_m15 89 rfl) rfl
theorem q3731 : (Jvm.Cond.laysFinal "ElectionHouseModel" "ElectionHouseModel" "ranked" "[I") ∈ lw_all := lw_g (lw_at lw_m15 90 rfl) rfl
theorem q3732 : (Jvm.Cond.soleField "ElectionHouseModel" "ranked") ∈ lw_all := lw_g (lw_at lw_m15 91 rfl) rfl
theorem q3733 : (Jvm.Cond.laysFinal "ElectionHouseModel" "ElectionHouseModel" "vote" "[J") ∈ lw_all := lw_g (lw_at lw_m15 92 rfl) rfl
theorem q3734 : (Jvm.Cond.soleField "ElectionHouseModel" "vote") ∈ lw_all := lw_g (lw_at lw_m15 93 rfl) rfl
theorem q3735 : (Jvm.Cond.laysFinal "ElectionHouseModel" "ElectionHouseModel" "order" "[I") ∈ lw_all := lw_g (lw_at lw_m15 94 rfl) rfl
theorem q3736 : (Jvm.Cond.soleField "ElectionHouseModel" "order") ∈ lw_all := lw_g (lw_at lw_m15 95 rfl) rfl
theorem q3737 : (Jvm.Cond.lays "ElectionHouseModel" "ElectionHouseModel" "ordered" "I") ∈ lw_all := lw_g (lw_at lw_m15 96 rfl) rfl
theorem q3738 : (Jvm.Cond.soleField "ElectionHouseModel" "ordered") ∈ lw_all := lw_g (lw_at lw_m15 97 rfl) rfl
theorem q3739 : (Jvm.Cond.lays "ElectionHouseModel" "ElectionHouseModel" "hasCount" "Z") ∈ lw_all := lw_g (lw_at lw_m15 98 rfl) rfl
theorem q3740 : (Jvm.Cond.soleField "ElectionHouseModel" "hasCount") ∈ lw_all := lw_g (lw_at lw_m15 99 rfl) rfl
theorem q3741 : (Jvm.Cond.lays "ElectionHouseModel" "ElectionHouseModel" "counted" "I") ∈ lw_all := lw_g (lw_at lw_m15 100 rfl) rfl
theorem q3742 : (Jvm.Cond.soleField "ElectionHouseModel" "counted") ∈ lw_all := lw_g (lw_at lw_m15 101 rfl) rfl
theorem q3743 : (Jvm.Cond.lays "ElectionHouseModel" "ElectionHouseModel" "countValid" "I") ∈ lw_all := lw_g (lw_at lw_m15 102 rfl) rfl
theorem q3744 : (Jvm.Cond.soleField "ElectionHouseModel" "countValid") ∈ lw_all := lw_g (lw_at lw_m15 103 rfl) rfl
theorem q3745 : (Jvm.Cond.lays "ElectionHouseModel" "ElectionHouseModel" "countBlank" "I") ∈ lw_all := lw_g (lw_at lw_m15 104 rfl) rfl
theorem q3746 : (Jvm.Cond.soleField "ElectionHouseModel" "countBlank") ∈ lw_all := lw_g (lw_at lw_m15 105 rfl) rfl
theorem q3747 : (Jvm.Cond.lays "ElectionHouseModel" "ElectionHouseModel" "countBad" "I") ∈ lw_all := lw_g (lw_at lw_m15 106 rfl) rfl
theorem q3748 : (Jvm.Cond.soleField "ElectionHouseModel" "countBad") ∈ lw_all := lw_g (lw_at lw_m15 107 rfl) rfl
theorem q3749 : (Jvm.Cond.lays "ElectionHouseModel" "ElectionHouseModel" "rounds" "I") ∈ lw_all := lw_g (lw_at lw_m15 108 rfl) rfl
theorem q3750 : (Jvm.Cond.soleField "ElectionHouseModel" "rounds") ∈ lw_all := lw_g (lw_at lw_m15 109 rfl) rfl
theorem q3751 : (Jvm.Cond.laysFinal "ElectionHouseModel" "ElectionHouseModel" "roundVote" "[J") ∈ lw_all := lw_g (lw_at lw_m15 110 rfl) rfl
theorem q3752 : (Jvm.Cond.soleField "ElectionHouseModel" "roundVote") ∈ lw_all := lw_g (lw_at lw_m15 111 rfl) rfl
theorem q3753 : (Jvm.Cond.laysFinal "ElectionHouseModel" "ElectionHouseModel" "roundAct" "[I") ∈ lw_all := lw_g (lw_at lw_m15 112 rfl) rfl
theorem q3754 : (Jvm.Cond.soleField "ElectionHouseModel" "roundAct") ∈ lw_all := lw_g (lw_at lw_m15 113 rfl) rfl
theorem q3755 : (Jvm.Cond.laysFinal "ElectionHouseModel" "ElectionHouseModel" "roundWho" "[I") ∈ lw_all := lw_g (lw_at lw_m15 114 rfl) rfl
theorem q3756 : (Jvm.Cond.soleField "ElectionHouseModel" "roundWho") ∈ lw_all := lw_g (lw_at lw_m15 115 rfl) rfl
theorem q3757 : (Jvm.Cond.lays "ElectionHouseModel" "ElectionHouseModel" "wins" "I") ∈ lw_all := lw_g (lw_at lw_m15 116 rfl) rfl
theorem q3758 : (Jvm.Cond.soleField "ElectionHouseModel" "wins") ∈ lw_all := lw_g (lw_at lw_m15 117 rfl) rfl
theorem q3759 : (Jvm.Cond.laysFinal "ElectionHouseModel" "ElectionHouseModel" "winner" "[I") ∈ lw_all := lw_g (lw_at lw_m15 118 rfl) rfl
theorem q3760 : (Jvm.Cond.soleField "ElectionHouseModel" "winner") ∈ lw_all := lw_g (lw_at lw_m15 119 rfl) rfl
theorem q3761 : (Jvm.Cond.lays "ElectionHouseModel" "ElectionHouseModel" "house" "I") ∈ lw_all := lw_g (lw_at lw_m15 120 rfl) rfl
theorem q3762 : (Jvm.Cond.soleField "ElectionHouseModel" "house") ∈ lw_all := lw_g (lw_at lw_m15 121 rfl) rfl
theorem q3763 : (Jvm.Cond.laysFinal "ElectionHouseModel" "ElectionHouseModel" "marksHad" "[I") ∈ lw_all := lw_g (lw_at lw_m15 122 rfl) rfl
theorem q3764 : (Jvm.Cond.soleField "ElectionHouseModel" "marksHad") ∈ lw_all := lw_g (lw_at lw_m15 123 rfl) rfl
theorem q3765 : (Jvm.Cond.laysFinal "ElectionHouseModel" "ElectionHouseModel" "oneHad" "[I") ∈ lw_all := lw_g (lw_at lw_m15 124 rfl) rfl
theorem q3766 : (Jvm.Cond.soleField "ElectionHouseModel" "oneHad") ∈ lw_all := lw_g (lw_at lw_m15 125 rfl) rfl
theorem q3767 : (Jvm.Cond.laysFinal "ElectionHouseModel" "ElectionHouseModel" "otherHad" "[I") ∈ lw_all := lw_g (lw_at lw_m15 126 rfl) rfl
theorem q3768 : (Jvm.Cond.soleField "ElectionHouseModel" "otherHad") ∈ lw_all := lw_g (lw_at lw_m15 127 rfl) rfl
theorem q3769 : (Jvm.Cond.laysFinal "ElectionHouseModel" "ElectionHouseModel" "standing" "[I") ∈ lw_all := lw_g (lw_at lw_m15 128 rfl) rfl
theorem q3770 : (Jvm.Cond.soleField "ElectionHouseModel" "standing") ∈ lw_all := lw_g (lw_at lw_m15 129 rfl) rfl
theorem q3771 : (Jvm.Cond.laysFinal "ElectionHouseModel" "ElectionHouseModel" "holder" "[I") ∈ lw_all := lw_g (lw_at lw_m15 130 rfl) rfl
theorem q3772 : (Jvm.Cond.soleField "ElectionHouseModel" "holder") ∈ lw_all := lw_g (lw_at lw_m15 131 rfl) rfl
theorem q3773 : (Jvm.Cond.laysFinal "ElectionHouseModel" "ElectionHouseModel" "worth" "[J") ∈ lw_all := lw_g (lw_at lw_m15 132 rfl) rfl
theorem q3774 : (Jvm.Cond.soleField "ElectionHouseModel" "worth") ∈ lw_all := lw_g (lw_at lw_m15 133 rfl) rfl
theorem q3775 : (Jvm.Cond.laysFinal "ElectionHouseModel" "ElectionHouseModel" "isGiven" "[Z") ∈ lw_all := lw_g (lw_at lw_m15 134 rfl) rfl
theorem q3776 : (Jvm.Cond.soleField "ElectionHouseModel" "isGiven") ∈ lw_all := lw_g (lw_at lw_m15 135 rfl) rfl
theorem q3777 : (Jvm.Cond.laysFinal "ElectionHouseModel" "ElectionHouseModel" "sorted" "[I") ∈ lw_all := lw_g (lw_at lw_m15 136 rfl) rfl
theorem q3778 : (Jvm.Cond.soleField "ElectionHouseModel" "sorted") ∈ lw_all := lw_g (lw_at lw_m15 137 rfl) rfl
theorem q3779 : (Jvm.Cond.laysFinal "ElectionHouseModel" "ElectionHouseModel" "keep" "[J") ∈ lw_all := lw_g (lw_at lw_m15 138 rfl) rfl
theorem q3780 : (Jvm.Cond.soleField "ElectionHouseModel" "keep") ∈ lw_all := lw_g (lw_at lw_m15 139 rfl) rfl
theorem q3781 : (Jvm.Cond.laysFinal "ElectionHouseModel" "ElectionHouseModel" "pair" "[I") ∈ lw_all := lw_g (lw_at lw_m15 140 rfl) rfl
theorem q3782 : (Jvm.Cond.soleField "ElectionHouseModel" "pair") ∈ lw_all := lw_g (lw_at lw_m15 141 rfl) rfl
theorem q3783 : (Jvm.Cond.laysFinal "ElectionHouseModel" "ElectionHouseModel" "way" "[I") ∈ lw_all := lw_g (lw_at lw_m15 142 rfl) rfl
theorem q3784 : (Jvm.Cond.soleField "ElectionHouseModel" "way") ∈ lw_all := lw_g (lw_at lw_m15 143 rfl) rfl
theorem q3785 : (Jvm.Cond.laysFinal "ElectionHouseModel" "ElectionHouseModel" "isKept" "[Z") ∈ lw_all := lw_g (lw_at lw_m15 144 rfl) rfl
theorem q3786 : (Jvm.Cond.soleField "ElectionHouseModel" "isKept") ∈ lw_all := lw_g (lw_at lw_m15 145 rfl) rfl
theorem q3787 : (Jvm.Cond.laysFinal "ElectionHouseModel" "ElectionHouseModel" "comes" "[Z") ∈ lw_all := lw_g (lw_at lw_m15 146 rfl) rfl
theorem q3788 : (Jvm.Cond.soleField "ElectionHouseModel" "comes") ∈ lw_all := lw_g (lw_at lw_m15 147 rfl) rfl
theorem q3789 : (Jvm.Cond.laysFinal "ElectionHouseModel" "ElectionHouseModel" "duel" "[I") ∈ lw_all := lw_g (lw_at lw_m15 148 rfl) rfl
theorem q3790 : (Jvm.Cond.soleField "ElectionHouseModel" "duel") ∈ lw_all := lw_g (lw_at lw_m15 149 rfl) rfl
theorem q3791 : (Jvm.Cond.lays "ElectionHouseModel" "ElectionHouseModel" "lists" "I") ∈ lw_all := lw_g (lw_at lw_m15 150 rfl) rfl
theorem q3792 : (Jvm.Cond.soleField "ElectionHouseModel" "lists") ∈ lw_all := lw_g (lw_at lw_m15 151 rfl) rfl
theorem q3793 : (Jvm.Cond.laysFinal "ElectionHouseModel" "ElectionHouseModel" "listOf" "[I") ∈ lw_all := lw_g (lw_at lw_m15 152 rfl) rfl
theorem q3794 : (Jvm.Cond.soleField "ElectionHouseModel" "listOf") ∈ lw_all := lw_g (lw_at lw_m15 153 rfl) rfl
theorem q3795 : (Jvm.Cond.laysFinal "ElectionHouseModel" "ElectionHouseModel" "listParty" "[I") ∈ lw_all := lw_g (lw_at lw_m15 154 rfl) rfl
theorem q3796 : (Jvm.Cond.soleField "ElectionHouseModel" "listParty") ∈ lw_all := lw_g (lw_at lw_m15 155 rfl) rfl
theorem q3797 : (Jvm.Cond.laysFinal "ElectionHouseModel" "ElectionHouseModel" "listVotes" "[I") ∈ lw_all := lw_g (lw_at lw_m15 156 rfl) rfl
theorem q3798 : (Jvm.Cond.soleField "ElectionHouseModel" "listVotes") ∈ lw_all := lw_g (lw_at lw_m15 157 rfl) rfl
theorem q3799 : (Jvm.Cond.laysFinal "ElectionHouseModel" "ElectionHouseModel" "listSize" "[I") ∈ lw_all := lw_g (lw_at lw_m15 158 rfl) rfl
theorem q3800 : (Jvm.Cond.soleField "ElectionHouseModel" "listSize") ∈ lw_all := lw_g (lw_at lw_m15 159 rfl) rfl
theorem q3801 : (Jvm.Cond.laysFinal "ElectionHouseModel" "ElectionHouseModel" "takesPart" "[Z") ∈ lw_all := lw_g (lw_at lw_m15 160 rfl) rfl
theorem q3802 : (Jvm.Cond.soleField "ElectionHouseModel" "takesPart") ∈ lw_all := lw_g (lw_at lw_m15 161 rfl) rfl
theorem q3803 : (Jvm.Cond.laysFinal "ElectionHouseModel" "ElectionHouseModel" "listSeats" "[I") ∈ lw_all := lw_g (lw_at lw_m15 162 rfl) rfl
theorem q3804 : (Jvm.Cond.soleField "ElectionHouseModel" "listSeats") ∈ lw_all := lw_g (lw_at lw_m15 163 rfl) rfl
theorem q3805 : (Jvm.Cond.laysFinal "ElectionHouseModel" "ElectionHouseModel" "listRest" "[I") ∈ lw_all := lw_g (lw_at lw_m15 164 rfl) rfl
theorem q3806 : (Jvm.Cond.soleField "ElectionHouseModel" "listRest") ∈ lw_all := lw_g (lw_at lw_m15 165 rfl) rfl
theorem q3807 : (Jvm.Cond.laysFinal "ElectionHouseModel" "ElectionHouseModel" "listFirst" "[I") ∈ lw_all := lw_g (lw_at lw_m15 166 rfl) rfl
theorem q3808 : (Jvm.Cond.soleField "ElectionHouseModel" "listFirst") ∈ lw_all := lw_g (lw_at lw_m15 167 rfl) rfl
theorem q3809 : (Jvm.Cond.laysFinal "ElectionHouseModel" "ElectionHouseModel" "listWins" "[I") ∈ lw_all := lw_g (lw_at lw_m15 168 rfl) rfl
theorem q3810 : (Jvm.Cond.soleField "ElectionHouseModel" "listWins") ∈ lw_all := lw_g (lw_at lw_m15 169 rfl) rfl
theorem q3811 : (Jvm.Cond.laysFinal "ElectionHouseModel" "ElectionHouseModel" "listOrder" "[I") ∈ lw_all := lw_g (lw_at lw_m15 170 rfl) rfl
theorem q3812 : (Jvm.Cond.soleField "ElectionHouseModel" "listOrder") ∈ lw_all := lw_g (lw_at lw_m15 171 rfl) rfl
theorem q3813 : (Jvm.Cond.lays "ElectionHouseModel" "ElectionHouseModel" "firstWins" "I") ∈ lw_all := lw_g (lw_at lw_m15 172 rfl) rfl
theorem q3814 : (Jvm.Cond.soleField "ElectionHouseModel" "firstWins") ∈ lw_all := lw_g (lw_at lw_m15 173 rfl) rfl
theorem q3815 : (Jvm.Cond.laysFinal "ElectionHouseModel" "ElectionHouseModel" "firstOf" "[I") ∈ lw_all := lw_g (lw_at lw_m15 174 rfl) rfl
theorem q3816 : (Jvm.Cond.soleField "ElectionHouseModel" "firstOf") ∈ lw_all := lw_g (lw_at lw_m15 175 rfl) rfl
theorem q3817 : (Jvm.Cond.laysFinal "ElectionHouseModel" "ElectionHouseModel" "isFirstWinner" "[Z") ∈ lw_all := lw_g (lw_at lw_m15 176 rfl) rfl
theorem q3818 : (Jvm.Cond.soleField "ElectionHouseModel" "isFirstWinner") ∈ lw_all := lw_g (lw_at lw_m15 177 rfl) rfl
theorem q3819 : (Jvm.Cond.laysFinal "ElectionHouseModel" "ElectionHouseModel" "choose" "[J") ∈ lw_all := lw_g (lw_at lw_m15 178 rfl) rfl
theorem q3820 : (Jvm.Cond.soleField "ElectionHouseModel" "choose") ∈ lw_all := lw_g (lw_at lw_m15 179 rfl) rfl
theorem q3821 : (Jvm.Cond.lays "ElectionHouseModel" "ElectionHouseModel" "hasSample" "Z") ∈ lw_all := lw_g (lw_at lw_m15 180 rfl) rfl
theorem q3822 : (Jvm.Cond.soleField "ElectionHouseModel" "hasSample") ∈ lw_all := lw_g (lw_at lw_m15 181 rfl) rfl
theorem q3823 : (Jvm.Cond.lays "ElectionHouseModel" "ElectionHouseModel" "drawn" "I") ∈ lw_all := lw_g (lw_at lw_m15 182 rfl) rfl
theorem q3824 : (Jvm.Cond.soleField "ElectionHouseModel" "drawn") ∈ lw_all := lw_g (lw_at lw_m15 183 rfl) rfl
theorem q3825 : (Jvm.Cond.laysFinal "ElectionHouseModel" "ElectionHouseModel" "drawnBox" "[I") ∈ lw_all := lw_g (lw_at lw_m15 184 rfl) rfl
theorem q3826 : (Jvm.Cond.soleField "ElectionHouseModel" "drawnBox") ∈ lw_all := lw_g (lw_at lw_m15 185 rfl) rfl
theorem q3827 : (Jvm.Cond.laysFinal "ElectionHouseModel" "ElectionHouseModel" "drawnPlace" "[I") ∈ lw_all := lw_g (lw_at lw_m15 186 rfl) rfl
theorem q3828 : (Jvm.Cond.soleField "ElectionHouseModel" "drawnPlace") ∈ lw_all := lw_g (lw_at lw_m15 187 rfl) rfl
theorem q3829 : (Jvm.Cond.laysFinal "ElectionHouseModel" "ElectionHouseModel" "drawnOther" "[Z") ∈ lw_all := lw_g (lw_at lw_m15 188 rfl) rfl
theorem q3830 : (Jvm.Cond.soleField "ElectionHouseModel" "drawnOther") ∈ lw_all := lw_g (lw_at lw_m15 189 rfl) rfl
theorem q3831 : (Jvm.Cond.lays "ElectionHouseModel" "ElectionHouseModel" "sampleOf" "I") ∈ lw_all := lw_g (lw_at lw_m15 190 rfl) rfl
theorem q3832 : (Jvm.Cond.soleField "ElectionHouseModel" "sampleOf") ∈ lw_all := lw_g (lw_at lw_m15 191 rfl) rfl
theorem q3833 : (Jvm.Cond.lays "ElectionHouseModel" "ElectionHouseModel" "sampleBy" "I") ∈ lw_all := lw_g (lw_at lw_m15 192 rfl) rfl
theorem q3834 : (Jvm.Cond.soleField "ElectionHouseModel" "sampleBy") ∈ lw_all := lw_g (lw_at lw_m15 193 rfl) rfl
theorem q3835 : (Jvm.Cond.lays "ElectionHouseModel" "ElectionHouseModel" "sampleHalf" "I") ∈ lw_all := lw_g (lw_at lw_m15 194 rfl) rfl
theorem q3836 : (Jvm.Cond.soleField "ElectionHouseModel" "sampleHalf") ∈ lw_all := lw_g (lw_at lw_m15 195 rfl) rfl
theorem q3837 : (Jvm.Cond.lays "ElectionHouseModel" "ElectionHouseModel" "riskAbove" "J") ∈ lw_all := lw_g (lw_at lw_m15 196 rfl) rfl
theorem q3838 : (Jvm.Cond.soleField "ElectionHouseModel" "riskAbove") ∈ lw_all := lw_g (lw_at lw_m15 197 rfl) rfl
theorem q3839 : (Jvm.Cond.lays "ElectionHouseModel" "ElectionHouseModel" "riskBelow" "J") ∈ lw_all := lw_g (lw_at lw_m15 198 rfl) rfl
theorem q3840 : (Jvm.Cond.soleField "ElectionHouseModel" "riskBelow") ∈ lw_all := lw_g (lw_at lw_m15 199 rfl) rfl
theorem q3841 : (Jvm.Cond.laysFinal "ElectionHouseModel" "ElectionHouseModel" "heapBox" "[I") ∈ lw_all := lw_g (lw_at lw_m15 200 rfl) rfl
theorem q3842 : (Jvm.Cond.soleField "ElectionHouseModel" "heapBox") ∈ lw_all := lw_g (lw_at lw_m15 201 rfl) rfl
theorem q3843 : (Jvm.Cond.laysFinal "ElectionHouseModel" "ElectionHouseModel" "heapPlace" "[I") ∈ lw_all := lw_g (lw_at lw_m15 202 rfl) rfl
theorem q3844 : (Jvm.Cond.soleField "ElectionHouseModel" "heapPlace") ∈ lw_all := lw_g (lw_at lw_m15 203 rfl) rfl
theorem q3845 : (Jvm.Cond.laysFinal "ElectionHouseModel" "ElectionHouseModel" "topOf" "[B") ∈ lw_all := lw_g (lw_at lw_m15 204 rfl) rfl
theorem q3846 : (Jvm.Cond.soleField "ElectionHouseModel" "topOf") ∈ lw_all := lw_g (lw_at lw_m15 205 rfl) rfl
theorem q3847 : (Jvm.Cond.lays "ElectionHouseModel" "ElectionHouseModel" "written" "I") ∈ lw_all := lw_g (lw_at lw_m15 206 rfl) rfl
theorem q3848 : (Jvm.Cond.soleField "ElectionHouseModel" "written") ∈ lw_all := lw_g (lw_at lw_m15 207 rfl) rfl
theorem q3849 : (Jvm.Cond.laysFinal "ElectionHouseModel" "ElectionHouseModel" "piece" "[B") ∈ lw_all := lw_g (lw_at lw_m15 208 rfl) rfl
theorem q3850 : (Jvm.Cond.soleField "ElectionHouseModel" "piece") ∈ lw_all := lw_g (lw_at lw_m15 209 rfl) rfl
theorem q3851 : (Jvm.Cond.laysFinal "ElectionHouseModel" "ElectionHouseModel" "spread" "[I") ∈ lw_all := lw_g (lw_at lw_m15 210 rfl) rfl
theorem q3852 : (Jvm.Cond.soleField "ElectionHouseModel" "spread") ∈ lw_all := lw_g (lw_at lw_m15 211 rfl) rfl
theorem q3853 : (Jvm.Cond.laysFinal "ElectionHouseModel" "ElectionHouseModel" "sum" "[I") ∈ lw_all := lw_g (lw_at lw_m15 212 rfl) rfl
theorem q3854 : (Jvm.Cond.soleField "ElectionHouseModel" "sum") ∈ lw_all := lw_g (lw_at lw_m15 213 rfl) rfl
theorem q3855 : (Jvm.Cond.laysFinal "ElectionHouseModel" "ElectionHouseModel" "state" "[I") ∈ lw_all := lw_g (lw_at lw_m15 214 rfl) rfl
theorem q3856 : (Jvm.Cond.soleField "ElectionHouseModel" "state") ∈ lw_all := lw_g (lw_at lw_m15 215 rfl) rfl
theorem q3857 : (Jvm.Cond.laysFinal "ElectionHouseModel" "ElectionHouseModel" "roundNumber" "[I") ∈ lw_all := lw_g (lw_at lw_m15 216 rfl) rfl
theorem q3858 : (Jvm.Cond.soleField "ElectionHouseModel" "roundNumber") ∈ lw_all := lw_g (lw_at lw_m15 217 rfl) rfl
theorem q3859 : (Jvm.Cond.laysFinal "ElectionHouseModel" "ElectionHouseModel" "firstState" "[I") ∈ lw_all := lw_g (lw_at lw_m15 218 rfl) rfl
theorem q3860 : (Jvm.Cond.soleField "ElectionHouseModel" "firstState") ∈ lw_all := lw_g (lw_at lw_m15 219 rfl) rfl
theorem q3861 : (Jvm.Cond.superclass "ElectionHouseModel" "java/lang/Object") ∈ lw_all := lw_g (lw_at lw_m15 220 rfl) rfl
theorem q3863 : (Jvm.Cond.instanceMethod ({ cls := "ElectionHouseModel", name := "sample", desc := "(IIJ)I" } : Jvm.MethodName)) ∈ lw_all := lw_g (lw_at lw_m15 222 rfl) rfl
theorem q3864 : (Jvm.Cond.selects "ElectionHouseModel" ({ cls := "ElectionHouseModel", name := "sample", desc := "(IIJ)I" } : Jvm.MethodName) ({ cls := "ElectionHouseModel", name := "sample", desc := "(IIJ)I" } : Jvm.MethodName)) ∈ lw_all := lw_g (lw_at lw_m15 223 rfl) rfl
theorem q3865 : (Jvm.Cond.code ({ cls := "ElectionHouseModel", name := "sample", desc := "(IIJ)I" } : Jvm.MethodName) prog_17_method_193_code (9 : Nat) (Option.some Jvm.ClassFile.FieldType.int)) ∈ lw_all := lw_g (lw_at lw_m15 224 rfl) rfl
theorem q3866 : (Jvm.Cond.methodLink "ElectionHouseModel" (1243 : Nat) ({ cls := "ElectionHouseModel", name := "draw", desc := "(IIIJ)I" } : Jvm.MethodName)) ∈ lw_all := lw_g (lw_at lw_m15 225 rfl) rfl
theorem q3867 : (Jvm.Cond.privateMethod ({ cls := "ElectionHouseModel", name := "draw", desc := "(IIIJ)I" } : Jvm.MethodName)) ∈ lw_tbl := lw_at lw_m15 226 rfl
theorem q3868 : (Jvm.Cond.instanceMethod ({ cls := "ElectionHouseModel", name := "draw", desc := "(IIIJ)I" } : Jvm.MethodName)) ∈ lw_all := lw_g (lw_at lw_m15 227 rfl) rfl
theorem q3869 : (Jvm.Cond.code ({ cls := "ElectionHouseModel", name := "draw", desc := "(IIIJ)I" } : Jvm.MethodName) prog_17_method_194_code (16 : Nat) (Option.some Jvm.ClassFile.FieldType.int)) ∈ lw_all := lw_g (lw_at lw_m15 228 rfl) rfl
theorem q3870 : (Jvm.Cond.methodLink "ElectionHouseModel" (1247 : Nat) ({ cls := "ElectionHouseModel", name := "reckon", desc := "(II)V" } : Jvm.MethodName)) ∈ lw_all := lw_g (lw_at lw_m15 229 rfl) rfl
theorem q3871 : (Jvm.Cond.privateMethod ({ cls := "ElectionHouseModel", name := "reckon", desc := "(II)V" } : Jvm.MethodName)) ∈ lw_tbl := lw_at lw_m15 230 rfl
theorem q3872 : (Jvm.Cond.instanceMethod ({ cls := "ElectionHouseModel", name := "reckon", desc := "(II)V" } : Jvm.MethodName)) ∈ lw_all := lw_g (lw_at lw_m15 231 rfl) rfl
theorem q3873 : (Jvm.Cond.code ({ cls := "ElectionHouseModel", name := "reckon", desc := "(II)V" } : Jvm.MethodName) prog_17_method_195_code (13 : Nat) (Option.none : Option Jvm.ClassFile.FieldType)) ∈ lw_all := lw_g (lw_at lw_m15 232 rfl) rfl
theorem q3874 : (Jvm.Cond.methodLink "ElectionHouseModel" (1250 : Nat) ({ cls := "ElectionHouseModel", name := "chosen", desc := "(II)J" } : Jvm.MethodName)) ∈ lw_all := lw_g (lw_at lw_m15 233 rfl) rfl
theorem q3875 : (Jvm.Cond.privateMethod ({ cls := "ElectionHouseModel", name := "chosen", desc := "(II)J" } : Jvm.MethodName)) ∈ lw_tbl := lw_at lw_m15 234 rfl
theorem q3876 : (Jvm.Cond.instanceMethod ({ cls := "ElectionHouseModel", name := "chosen", desc := "(II)J" } : Jvm.MethodName)) ∈ lw_all := lw_g (lw_at lw_m15 235 rfl) rfl
theorem q3877 : (Jvm.Cond.code ({ cls := "ElectionHouseModel", name := "chosen", desc := "(II)J" } : Jvm.MethodName) prog_17_method_192_code (3 : Nat) (Option.some Jvm.ClassFile.FieldType.long)) ∈ lw_all := lw_g (lw_at lw_m15 236 rfl) rfl
theorem q3879 : (Jvm.Cond.instanceMethod ({ cls := "ElectionHouseModel", name := "drawn", desc := "(II)I" } : Jvm.MethodName)) ∈ lw_all := lw_g (lw_at lw_m15 238 rfl) rfl
theorem q3880 : (Jvm.Cond.selects "ElectionHouseModel" ({ cls := "ElectionHouseModel", name := "drawn", desc := "(II)I" } : Jvm.MethodName) ({ cls := "ElectionHouseModel", name := "drawn", desc := "(II)I" } : Jvm.MethodName)) ∈ lw_all := lw_g (lw_at lw_m15 239 rfl) rfl
theorem q3881 : (Jvm.Cond.code ({ cls := "ElectionHouseModel", name := "drawn", desc := "(II)I" } : Jvm.MethodName) prog_17_method_196_code (3 : Nat) (Option.some Jvm.ClassFile.FieldType.int)) ∈ lw_all := lw_g (lw_at lw_m16 0 rfl) rfl
theorem q3883 : (Jvm.Cond.instanceMethod ({ cls := "ElectionHouseModel", name := "risk", desc := "(I)J" } : Jvm.MethodName)) ∈ lw_all := lw_g (lw_at lw_m16 2 rfl) rfl
theorem q3884 : (Jvm.Cond.selects "ElectionHouseModel" ({ cls := "ElectionHouseModel", name := "risk", desc := "(I)J" } : Jvm.MethodName) ({ cls := "ElectionHouseModel", name := "risk", desc := "(I)J" } : Jvm.MethodName)) ∈ lw_all := lw_g (lw_at lw_m16 3 rfl) rfl
theorem q3885 : (Jvm.Cond.code ({ cls := "ElectionHouseModel", name := "risk", desc := "(I)J" } : Jvm.MethodName) prog_17_method_197_code (2 : Nat) (Option.some Jvm.ClassFile.FieldType.long)) ∈ lw_all := lw_g (lw_at lw_m16 4 rfl) rfl
theorem q3886 : (Jvm.Cond.constantLong "ElectionHouseModel" (1261 : Nat) (-2 : Int64)) ∈ lw_all := lw_g (lw_at lw_m16 5 rfl) rfl
theorem q3888 : (Jvm.Cond.instanceMethod ({ cls := "ElectionHouseModel", name := "stops", desc := "(II)I" } : Jvm.MethodName)) ∈ lw_all := lw_g (lw_at lw_m16 7 rfl) rfl
theorem q3889 : (Jvm.Cond.selects "ElectionHouseModel" ({ cls := "ElectionHouseModel", name := "stops", desc := "(II)I" } : Jvm.MethodName) ({ cls := "ElectionHouseModel", name := "stops", desc := "(II)I" } : Jvm.MethodName)) ∈ lw_all := lw_g (lw_at lw_m16 8 rfl) rfl
theorem q3890 : (Jvm.Cond.code ({ cls := "ElectionHouseModel", name := "stops", desc := "(II)I" } : Jvm.MethodName) prog_17_method_198_code (3 : Nat) (Option.some Jvm.ClassFile.FieldType.int)) ∈ lw_all := lw_g (lw_at lw_m16 9 rfl) rfl
theorem q3891 : (Jvm.Cond.constantLong "ElectionHouseModel" (1263 : Nat) (50 : Int64)) ∈ lw_all := lw_g (lw_at lw_m16 10 rfl) rfl
theorem q3893 : (Jvm.Cond.instanceMethod ({ cls := "ElectionHouseModel", name := "head", desc := "(I)I" } : Jvm.MethodName)) ∈ lw_all := lw_g (lw_at lw_m16 12 rfl) rfl
theorem q3894 : (Jvm.Cond.selects "ElectionHouseModel" ({ cls := "ElectionHouseModel", name := "head", desc := "(I)I" } : Jvm.MethodName) ({ cls := "ElectionHouseModel", name := "head", desc := "(I)I" } : Jvm.MethodName)) ∈ lw_all := lw_g (lw_at lw_m16 13 rfl) rfl
theorem q3895 : (Jvm.Cond.code ({ cls := "ElectionHouseModel", name := "head", desc := "(I)I" } : Jvm.MethodName) prog_17_method_203_code (2 : Nat) (Option.some Jvm.ClassFile.FieldType.int)) ∈ lw_all := lw_g (lw_at lw_m16 14 rfl) rfl
theorem q3896 : (Jvm.Cond.constantLong "ElectionHouseModel" (1278 : Nat) (31 : Int64)) ∈ lw_all := lw_g (lw_at lw_m16 15 rfl) rfl
theorem q3898 : (Jvm.Cond.instanceMethod ({ cls := "ElectionHouseModel", name := "told", desc := "(I)I" } : Jvm.MethodName)) ∈ lw_all := lw_g (lw_at lw_m16 17 rfl) rfl
theorem q3899 : (Jvm.Cond.selects "ElectionHouseModel" ({ cls := "ElectionHouseModel", name := "told", desc := "(I)I" } : Jvm.MethodName) ({ cls := "ElectionHouseModel", name := "told", desc := "(I)I" } : Jvm.MethodName)) ∈ lw_all := lw_g (lw_at lw_m16 18 rfl) rfl
theorem q3900 : (Jvm.Cond.code ({ cls := "ElectionHouseModel", name := "told", desc := "(I)I" } : Jvm.MethodName) prog_17_method_204_code (2 : Nat) (Option.some Jvm.ClassFile.FieldType.int)) ∈ lw_all := lw_g (lw_at lw_m16 19 rfl) rfl
theorem in_X11k : ∀ k, k < 172 → u_lay RX11 TX11 k ∈ lw_all
  | 0, _ => q3517
  | 1, _ => q3519
  | 2, _ => q3521
  | 3, _ => q3523
  | 4, _ => q3525
  | 5, _ => q3527
  | 6, _ => q3529
  | 7, _ => q3531
  | 8, _ => q3533
  | 9, _ => q3535
  | 10, _ => q3537
  | 11, _ => q3539
  | 12, _ => q3541
  | 13, _ => q3543
  | 14, _ => q3545
  | 15, _ => q3547
  | 16, _ => q3549
  | 17, _ => q3551
  | 18, _ => q3553
  | 19, _ => q3555
  | 20, _ => q3557
  | 21, _ => q3559
  | 22, _ => q3561
  | 23, _ => q3563
  | 24, _ => q3565
  | 25, _ => q3567
  | 26, _ => q3569
  | 27, _ => q3571
  | 28, _ => q3573
  | 29, _ => q3575
  | 30, _ => q3577
  | 31, _ => q3579
  | 32, _ => q3581
  | 33, _ => q3583
  | 34, _ => q3585
  | 35, _ => q3587
  | 36, _ => q3589
  | 37, _ => q3591
  | 38, _ => q3593
  | 39, _ => q3595
  | 40, _ => q3597
  | 41, _ => q3599
  | 42, _ => q3601
  | 43, _ => q3603
  | 44, _ => q3605
  | 45, _ => q3607
  | 46, _ => q3609
  | 47, _ => q3611
  | 48, _ => q3613
  | 49, _ => q3615
  | 50, _ => q3617
  | 51, _ => q3619
  | 52, _ => q3621
  | 53, _ => q3623
  | 54, _ => q3625
  | 55, _ => q3627
  | 56, _ => q3629
  | 57, _ => q3631
  | 58, _ => q3633
  | 59, _ => q3635
  | 60, _ => q3637
  | 61, _ => q3639
  | 62, _ => q3641
  | 63, _ => q3643
  | 64, _ => q3645
  | 65, _ => q3647
  | 66, _ => q3649
  | 67, _ => q3651
  | 68, _ => q3653
  | 69, _ => q3655
  | 70, _ => q3657
  | 71, _ => q3659
  | 72, _ => q3661
  | 73, _ => q3663
  | 74, _ => q3665
  | 75, _ => q3667
  | 76, _ => q3669
  | 77, _ => q3671
  | 78, _ => q3673
  | 79, _ => q3675
  | 80, _ => q3677
  | 81, _ => q3679
  | 82, _ => q3681
  | 83, _ => q3683
  | 84, _ => q3685
  | 85, _ => q3687
  | 86, _ => q3689
  | 87, _ => q3691
  | 88, _ => q3693
  | 89, _ => q3695
  | 90, _ => q3697
  | 91, _ => q3699
  | 92, _ => q3701
  | 93, _ => q3703
  | 94, _ => q3705
  | 95, _ => q3707
  | 96, _ => q3709
  | 97, _ => q3711
  | 98, _ => q3713
  | 99, _ => q3715
  | 100, _ => q3717
  | 101, _ => q3719
  | 102, _ => q3721
  | 103, _ => q3723
  | 104, _ => q3725
  | 105, _ => q3727
  | 106, _ => q3729
  | 107, _ => q3731
  | 108, _ => q3733
  | 109, _ => q3735
  | 110, _ => q3737
  | 111, _ => q3739
  | 112, _ => q3741
  | 113, _ => q3743
  | 114, _ => q3745
  | 115, _ => q3747
  | 116, _ => q3749
  | 117, _ => q3751
  | 118, _ => q3753
  | 119, _ => q3755
  | 120, _ => q3757
  | 121, _ => q3759
  | 122, _ => q3761
  | 123, _ => q3763
  | 124, _ => q3765
  | 125, _ => q3767
  | 126, _ => q3769
  | 127, _ => q3771
  | 128, _ => q3773
  | 129, _ => q3775
  | 130, _ => q3777
  | 131, _ => q3779
  | 132, _ => q3781
  | 133, _ => q3783
  | 134, _ => q3785
  | 135, _ => q3787
  | 136, _ => q3789
  | 137, _ => q3791
  | 138, _ => q3793
  | 139, _ => q3795
  | 140, _ => q3797
  | 141, _ => q3799
  | 142, _ => q3801
  | 143, _ => q3803
  | 144, _ => q3805
  | 145, _ => q3807
  | 146, _ => q3809
  | 147, _ => q3811
  | 148, _ => q3813
  | 149, _ => q3815
  | 150, _ => q3817
  | 151, _ => q3819
  | 152, _ => q3821
  | 153, _ => q3823
  | 154, _ => q3825
  | 155, _ => q3827
  | 156, _ => q3829
  | 157, _ => q3831
  | 158, _ => q3833
  | 159, _ => q3835
  | 160, _ => q3837
  | 161, _ => q3839
  | 162, _ => q3841
  | 163, _ => q3843
  | 164, _ => q3845
  | 165, _ => q3847
  | 166, _ => q3849
  | 167, _ => q3851
  | 168, _ => q3853
  | 169, _ => q3855
  | 170, _ => q3857
  | 171, _ => q3859
  | k + 172, h => absurd h (by omega)
theorem in_X11 : ∀ w ∈ wsX110, w ∈ lw_all := fun w hw => by
  obtain ⟨k, hk, rfl⟩ := List.mem_map.mp hw
  exact in_X11k k (List.mem_range.mp hk)

