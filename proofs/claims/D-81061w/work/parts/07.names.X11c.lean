set_option maxRecDepth 100000
abbrev cX11_lay : ByteArray := prog_17_method_132_code
def yX11_lay : MethodName := ⟨RX11, "lay", "([BI)V"⟩
def dkwX11_lay_5 : List UInt8 := [180, 3, 5, 4, 96, 181, 3, 5, 167, 0, 13, 42, 89, 180, 2, 255, 4, 96, 181, 2, 255, 177]
abbrev dktX11_lay_5 : List UInt8 := dkwX11_lay_5 ++ []
def dkwX11_lay_4 : List UInt8 := [180, 3, 2, 4, 96, 181, 3, 2, 167, 0, 36, 42, 29, 21, 4, 182, 3, 18, 153, 0, 16, 42, 89]
abbrev dktX11_lay_4 : List UInt8 := dkwX11_lay_4 ++ dktX11_lay_5
def dkwX11_lay_3 : List UInt8 := [96, 54, 4, 132, 5, 1, 167, 255, 193, 42, 42, 180, 2, 255, 182, 3, 15, 21, 4, 154, 0, 16, 42, 89]
abbrev dktX11_lay_3 : List UInt8 := dkwX11_lay_3 ++ dktX11_lay_4
def dkwX11_lay_2 : List UInt8 := [167, 0, 4, 3, 79, 21, 4, 42, 180, 3, 12, 29, 21, 5, 96, 46, 158, 0, 7, 4, 167, 0, 4, 3]
abbrev dktX11_lay_2 : List UInt8 := dkwX11_lay_2 ++ dktX11_lay_3
def dkwX11_lay_1 : List UInt8 := [180, 3, 12, 29, 21, 5, 96, 42, 180, 2, 252, 21, 5, 51, 153, 0, 12, 43, 28, 21, 5, 96, 51]
abbrev dktX11_lay_1 : List UInt8 := dkwX11_lay_1 ++ dktX11_lay_2
def dkwX11_lay_0 : List UInt8 := [16, 9, 42, 180, 2, 255, 104, 62, 3, 54, 4, 3, 54, 5, 21, 5, 42, 180, 2, 243, 162, 0, 60, 42]
abbrev dktX11_lay_0 : List UInt8 := dkwX11_lay_0 ++ dktX11_lay_1
theorem dksX11_lay_0 : cX11_lay.data.toList.drop 0 = dktX11_lay_0 := by decide +kernel
theorem dksX11_lay_1 : cX11_lay.data.toList.drop 24 = dktX11_lay_1 := dk_seg dksX11_lay_0 24 rfl rfl
theorem dksX11_lay_2 : cX11_lay.data.toList.drop 47 = dktX11_lay_2 := dk_seg dksX11_lay_1 23 rfl rfl
theorem dksX11_lay_3 : cX11_lay.data.toList.drop 71 = dktX11_lay_3 := dk_seg dksX11_lay_2 24 rfl rfl
theorem dksX11_lay_4 : cX11_lay.data.toList.drop 95 = dktX11_lay_4 := dk_seg dksX11_lay_3 24 rfl rfl
theorem dksX11_lay_5 : cX11_lay.data.toList.drop 118 = dktX11_lay_5 := dk_seg dksX11_lay_4 23 rfl rfl
theorem dX11_lay_0 : decode cX11_lay 0 = .ok (.bipush 9, 2) := dk_16 9 (dk_at dksX11_lay_0 0 rfl rfl)
theorem dX11_lay_2 : decode cX11_lay 2 = .ok (.aload_n 0, 1) := dk_42 (dk_at dksX11_lay_0 2 rfl rfl)
theorem dX11_lay_3 : decode cX11_lay 3 = .ok (.getfield 767, 3) := dk_180 2 255 (dk_at dksX11_lay_0 3 rfl rfl)
theorem dX11_lay_6 : decode cX11_lay 6 = .ok (.imul, 1) := dk_104 (dk_at dksX11_lay_0 6 rfl rfl)
theorem dX11_lay_7 : decode cX11_lay 7 = .ok (.istore_n 3, 1) := dk_62 (dk_at dksX11_lay_0 7 rfl rfl)
theorem dX11_lay_8 : decode cX11_lay 8 = .ok (.iconst 0, 1) := dk_3 (dk_at dksX11_lay_0 8 rfl rfl)
theorem dX11_lay_9 : decode cX11_lay 9 = .ok (.istore 4, 2) := dk_54 4 (dk_at dksX11_lay_0 9 rfl rfl)
theorem dX11_lay_11 : decode cX11_lay 11 = .ok (.iconst 0, 1) := dk_3 (dk_at dksX11_lay_0 11 rfl rfl)
theorem dX11_lay_12 : decode cX11_lay 12 = .ok (.istore 5, 2) := dk_54 5 (dk_at dksX11_lay_0 12 rfl rfl)
theorem dX11_lay_14 : decode cX11_lay 14 = .ok (.iload 5, 2) := dk_21 5 (dk_at dksX11_lay_0 14 rfl rfl)
theorem dX11_lay_16 : decode cX11_lay 16 = .ok (.aload_n 0, 1) := dk_42 (dk_at dksX11_lay_0 16 rfl rfl)
theorem dX11_lay_17 : decode cX11_lay 17 = .ok (.getfield 755, 3) := dk_180 2 243 (dk_at dksX11_lay_0 17 rfl rfl)
theorem dX11_lay_20 : decode cX11_lay 20 = .ok (.if_icmp .ge 60, 3) := dk_162 0 60 (dk_at dksX11_lay_0 20 rfl rfl)
theorem dX11_lay_23 : decode cX11_lay 23 = .ok (.aload_n 0, 1) := dk_42 (dk_at dksX11_lay_0 23 rfl rfl)
theorem dX11_lay_24 : decode cX11_lay 24 = .ok (.getfield 780, 3) := dk_180 3 12 (dk_at dksX11_lay_1 0 rfl rfl)
theorem dX11_lay_27 : decode cX11_lay 27 = .ok (.iload_n 3, 1) := dk_29 (dk_at dksX11_lay_1 3 rfl rfl)
theorem dX11_lay_28 : decode cX11_lay 28 = .ok (.iload 5, 2) := dk_21 5 (dk_at dksX11_lay_1 4 rfl rfl)
theorem dX11_lay_30 : decode cX11_lay 30 = .ok (.iadd, 1) := dk_96 (dk_at dksX11_lay_1 6 rfl rfl)
theorem dX11_lay_31 : decode cX11_lay 31 = .ok (.aload_n 0, 1) := dk_42 (dk_at dksX11_lay_1 7 rfl rfl)
theorem dX11_lay_32 : decode cX11_lay 32 = .ok (.getfield 764, 3) := dk_180 2 252 (dk_at dksX11_lay_1 8 rfl rfl)
theorem dX11_lay_35 : decode cX11_lay 35 = .ok (.iload 5, 2) := dk_21 5 (dk_at dksX11_lay_1 11 rfl rfl)
theorem dX11_lay_37 : decode cX11_lay 37 = .ok (.baload, 1) := dk_51 (dk_at dksX11_lay_1 13 rfl rfl)
theorem dX11_lay_38 : decode cX11_lay 38 = .ok (.ifCond .eq 12, 3) := dk_153 0 12 (dk_at dksX11_lay_1 14 rfl rfl)
theorem dX11_lay_41 : decode cX11_lay 41 = .ok (.aload_n 1, 1) := dk_43 (dk_at dksX11_lay_1 17 rfl rfl)
theorem dX11_lay_42 : decode cX11_lay 42 = .ok (.iload_n 2, 1) := dk_28 (dk_at dksX11_lay_1 18 rfl rfl)
theorem dX11_lay_43 : decode cX11_lay 43 = .ok (.iload 5, 2) := dk_21 5 (dk_at dksX11_lay_1 19 rfl rfl)
theorem dX11_lay_45 : decode cX11_lay 45 = .ok (.iadd, 1) := dk_96 (dk_at dksX11_lay_1 21 rfl rfl)
theorem dX11_lay_46 : decode cX11_lay 46 = .ok (.baload, 1) := dk_51 (dk_at dksX11_lay_1 22 rfl rfl)
theorem dX11_lay_47 : decode cX11_lay 47 = .ok (.goto 4, 3) := dk_167 0 4 (dk_at dksX11_lay_2 0 rfl rfl)
theorem dX11_lay_50 : decode cX11_lay 50 = .ok (.iconst 0, 1) := dk_3 (dk_at dksX11_lay_2 3 rfl rfl)
theorem dX11_lay_51 : decode cX11_lay 51 = .ok (.iastore, 1) := dk_79 (dk_at dksX11_lay_2 4 rfl rfl)
theorem dX11_lay_52 : decode cX11_lay 52 = .ok (.iload 4, 2) := dk_21 4 (dk_at dksX11_lay_2 5 rfl rfl)
theorem dX11_lay_54 : decode cX11_lay 54 = .ok (.aload_n 0, 1) := dk_42 (dk_at dksX11_lay_2 7 rfl rfl)
theorem dX11_lay_55 : decode cX11_lay 55 = .ok (.getfield 780, 3) := dk_180 3 12 (dk_at dksX11_lay_2 8 rfl rfl)
theorem dX11_lay_58 : decode cX11_lay 58 = .ok (.iload_n 3, 1) := dk_29 (dk_at dksX11_lay_2 11 rfl rfl)
theorem dX11_lay_59 : decode cX11_lay 59 = .ok (.iload 5, 2) := dk_21 5 (dk_at dksX11_lay_2 12 rfl rfl)
theorem dX11_lay_61 : decode cX11_lay 61 = .ok (.iadd, 1) := dk_96 (dk_at dksX11_lay_2 14 rfl rfl)
theorem dX11_lay_62 : decode cX11_lay 62 = .ok (.iaload, 1) := dk_46 (dk_at dksX11_lay_2 15 rfl rfl)
theorem dX11_lay_63 : decode cX11_lay 63 = .ok (.ifCond .le 7, 3) := dk_158 0 7 (dk_at dksX11_lay_2 16 rfl rfl)
theorem dX11_lay_66 : decode cX11_lay 66 = .ok (.iconst 1, 1) := dk_4 (dk_at dksX11_lay_2 19 rfl rfl)
theorem dX11_lay_67 : decode cX11_lay 67 = .ok (.goto 4, 3) := dk_167 0 4 (dk_at dksX11_lay_2 20 rfl rfl)
theorem dX11_lay_70 : decode cX11_lay 70 = .ok (.iconst 0, 1) := dk_3 (dk_at dksX11_lay_2 23 rfl rfl)
theorem dX11_lay_71 : decode cX11_lay 71 = .ok (.iadd, 1) := dk_96 (dk_at dksX11_lay_3 0 rfl rfl)
theorem dX11_lay_72 : decode cX11_lay 72 = .ok (.istore 4, 2) := dk_54 4 (dk_at dksX11_lay_3 1 rfl rfl)
theorem dX11_lay_74 : decode cX11_lay 74 = .ok (.iinc 5 1, 3) := dk_132 5 1 (dk_at dksX11_lay_3 3 rfl rfl)
theorem dX11_lay_77 : decode cX11_lay 77 = .ok (.goto (-63), 3) := dk_167 255 193 (dk_at dksX11_lay_3 6 rfl rfl)
theorem dX11_lay_80 : decode cX11_lay 80 = .ok (.aload_n 0, 1) := dk_42 (dk_at dksX11_lay_3 9 rfl rfl)
theorem dX11_lay_81 : decode cX11_lay 81 = .ok (.aload_n 0, 1) := dk_42 (dk_at dksX11_lay_3 10 rfl rfl)
theorem dX11_lay_82 : decode cX11_lay 82 = .ok (.getfield 767, 3) := dk_180 2 255 (dk_at dksX11_lay_3 11 rfl rfl)
theorem dX11_lay_85 : decode cX11_lay 85 = .ok (.invokevirtual 783, 3) := dk_182 3 15 (dk_at dksX11_lay_3 14 rfl rfl)
theorem dX11_lay_88 : decode cX11_lay 88 = .ok (.iload 4, 2) := dk_21 4 (dk_at dksX11_lay_3 17 rfl rfl)
theorem dX11_lay_90 : decode cX11_lay 90 = .ok (.ifCond .ne 16, 3) := dk_154 0 16 (dk_at dksX11_lay_3 19 rfl rfl)
theorem dX11_lay_93 : decode cX11_lay 93 = .ok (.aload_n 0, 1) := dk_42 (dk_at dksX11_lay_3 22 rfl rfl)
theorem dX11_lay_94 : decode cX11_lay 94 = .ok (.dup, 1) := dk_89 (dk_at dksX11_lay_3 23 rfl rfl)
theorem dX11_lay_95 : decode cX11_lay 95 = .ok (.getfield 770, 3) := dk_180 3 2 (dk_at dksX11_lay_4 0 rfl rfl)
theorem dX11_lay_98 : decode cX11_lay 98 = .ok (.iconst 1, 1) := dk_4 (dk_at dksX11_lay_4 3 rfl rfl)
theorem dX11_lay_99 : decode cX11_lay 99 = .ok (.iadd, 1) := dk_96 (dk_at dksX11_lay_4 4 rfl rfl)
theorem dX11_lay_100 : decode cX11_lay 100 = .ok (.putfield 770, 3) := dk_181 3 2 (dk_at dksX11_lay_4 5 rfl rfl)
theorem dX11_lay_103 : decode cX11_lay 103 = .ok (.goto 36, 3) := dk_167 0 36 (dk_at dksX11_lay_4 8 rfl rfl)
theorem dX11_lay_106 : decode cX11_lay 106 = .ok (.aload_n 0, 1) := dk_42 (dk_at dksX11_lay_4 11 rfl rfl)
theorem dX11_lay_107 : decode cX11_lay 107 = .ok (.iload_n 3, 1) := dk_29 (dk_at dksX11_lay_4 12 rfl rfl)
theorem dX11_lay_108 : decode cX11_lay 108 = .ok (.iload 4, 2) := dk_21 4 (dk_at dksX11_lay_4 13 rfl rfl)
theorem dX11_lay_110 : decode cX11_lay 110 = .ok (.invokevirtual 786, 3) := dk_182 3 18 (dk_at dksX11_lay_4 15 rfl rfl)
theorem dX11_lay_113 : decode cX11_lay 113 = .ok (.ifCond .eq 16, 3) := dk_153 0 16 (dk_at dksX11_lay_4 18 rfl rfl)
theorem dX11_lay_116 : decode cX11_lay 116 = .ok (.aload_n 0, 1) := dk_42 (dk_at dksX11_lay_4 21 rfl rfl)
theorem dX11_lay_117 : decode cX11_lay 117 = .ok (.dup, 1) := dk_89 (dk_at dksX11_lay_4 22 rfl rfl)
theorem dX11_lay_118 : decode cX11_lay 118 = .ok (.getfield 773, 3) := dk_180 3 5 (dk_at dksX11_lay_5 0 rfl rfl)
theorem dX11_lay_121 : decode cX11_lay 121 = .ok (.iconst 1, 1) := dk_4 (dk_at dksX11_lay_5 3 rfl rfl)
theorem dX11_lay_122 : decode cX11_lay 122 = .ok (.iadd, 1) := dk_96 (dk_at dksX11_lay_5 4 rfl rfl)
theorem dX11_lay_123 : decode cX11_lay 123 = .ok (.putfield 773, 3) := dk_181 3 5 (dk_at dksX11_lay_5 5 rfl rfl)
theorem dX11_lay_126 : decode cX11_lay 126 = .ok (.goto 13, 3) := dk_167 0 13 (dk_at dksX11_lay_5 8 rfl rfl)
theorem dX11_lay_129 : decode cX11_lay 129 = .ok (.aload_n 0, 1) := dk_42 (dk_at dksX11_lay_5 11 rfl rfl)
theorem dX11_lay_130 : decode cX11_lay 130 = .ok (.dup, 1) := dk_89 (dk_at dksX11_lay_5 12 rfl rfl)
theorem dX11_lay_131 : decode cX11_lay 131 = .ok (.getfield 767, 3) := dk_180 2 255 (dk_at dksX11_lay_5 13 rfl rfl)
theorem dX11_lay_134 : decode cX11_lay 134 = .ok (.iconst 1, 1) := dk_4 (dk_at dksX11_lay_5 16 rfl rfl)
theorem dX11_lay_135 : decode cX11_lay 135 = .ok (.iadd, 1) := dk_96 (dk_at dksX11_lay_5 17 rfl rfl)
theorem dX11_lay_136 : decode cX11_lay 136 = .ok (.putfield 767, 3) := dk_181 2 255 (dk_at dksX11_lay_5 18 rfl rfl)
theorem dX11_lay_139 : decode cX11_lay 139 = .ok (.return_, 1) := dk_177 (dk_at dksX11_lay_5 21 rfl rfl)
abbrev cX11_rank : ByteArray := prog_17_method_133_code
def yX11_rank : MethodName := ⟨RX11, "rank", "(I)V"⟩
def dkwX11_rank_4 : List UInt8 := [180, 3, 21, 27, 92, 46, 4, 96, 79, 132, 2, 1, 167, 255, 162, 177]
abbrev dktX11_rank_4 : List UInt8 := dkwX11_rank_4 ++ []
def dkwX11_rank_3 : List UInt8 := [4, 160, 0, 30, 42, 180, 3, 24, 16, 9, 27, 104, 42, 180, 3, 21, 27, 46, 96, 29, 79, 42]
abbrev dktX11_rank_3 : List UInt8 := dkwX11_rank_3 ++ dktX11_rank_4
def dkwX11_rank_2 : List UInt8 := [160, 0, 9, 21, 5, 62, 132, 4, 1, 132, 5, 1, 167, 255, 222, 21, 4, 4, 164, 0, 4, 177, 21, 4]
abbrev dktX11_rank_2 : List UInt8 := dkwX11_rank_2 ++ dktX11_rank_3
def dkwX11_rank_1 : List UInt8 := [21, 5, 42, 180, 2, 243, 162, 0, 31, 42, 180, 3, 12, 16, 9, 27, 104, 21, 5, 96, 46, 28]
abbrev dktX11_rank_1 : List UInt8 := dkwX11_rank_1 ++ dktX11_rank_2
def dkwX11_rank_0 : List UInt8 := [42, 180, 3, 21, 27, 3, 79, 4, 61, 28, 16, 9, 163, 0, 94, 2, 62, 3, 54, 4, 3, 54, 5]
abbrev dktX11_rank_0 : List UInt8 := dkwX11_rank_0 ++ dktX11_rank_1
theorem dksX11_rank_0 : cX11_rank.data.toList.drop 0 = dktX11_rank_0 := by decide +kernel
theorem dksX11_rank_1 : cX11_rank.data.toList.drop 23 = dktX11_rank_1 := dk_seg dksX11_rank_0 23 rfl rfl
theorem dksX11_rank_2 : cX11_rank.data.toList.drop 45 = dktX11_rank_2 := dk_seg dksX11_rank_1 22 rfl rfl
theorem dksX11_rank_3 : cX11_rank.data.toList.drop 69 = dktX11_rank_3 := dk_seg dksX11_rank_2 24 rfl rfl
theorem dksX11_rank_4 : cX11_rank.data.toList.drop 91 = dktX11_rank_4 := dk_seg dksX11_rank_3 22 rfl rfl
theorem dX11_rank_0 : decode cX11_rank 0 = .ok (.aload_n 0, 1) := dk_42 (dk_at dksX11_rank_0 0 rfl rfl)
theorem dX11_rank_1 : decode cX11_rank 1 = .ok (.getfield 789, 3) := dk_180 3 21 (dk_at dksX11_rank_0 1 rfl rfl)
theorem dX11_rank_4 : decode cX11_rank 4 = .ok (.iload_n 1, 1) := dk_27 (dk_at dksX11_rank_0 4 rfl rfl)
theorem dX11_rank_5 : decode cX11_rank 5 = .ok (.iconst 0, 1) := dk_3 (dk_at dksX11_rank_0 5 rfl rfl)
theorem dX11_rank_6 : decode cX11_rank 6 = .ok (.iastore, 1) := dk_79 (dk_at dksX11_rank_0 6 rfl rfl)
theorem dX11_rank_7 : decode cX11_rank 7 = .ok (.iconst 1, 1) := dk_4 (dk_at dksX11_rank_0 7 rfl rfl)
theorem dX11_rank_8 : decode cX11_rank 8 = .ok (.istore_n 2, 1) := dk_61 (dk_at dksX11_rank_0 8 rfl rfl)
theorem dX11_rank_9 : decode cX11_rank 9 = .ok (.iload_n 2, 1) := dk_28 (dk_at dksX11_rank_0 9 rfl rfl)
theorem dX11_rank_10 : decode cX11_rank 10 = .ok (.bipush 9, 2) := dk_16 9 (dk_at dksX11_rank_0 10 rfl rfl)
theorem dX11_rank_12 : decode cX11_rank 12 = .ok (.if_icmp .gt 94, 3) := dk_163 0 94 (dk_at dksX11_rank_0 12 rfl rfl)
theorem dX11_rank_15 : decode cX11_rank 15 = .ok (.iconst (-1), 1) := dk_2 (dk_at dksX11_rank_0 15 rfl rfl)
theorem dX11_rank_16 : decode cX11_rank 16 = .ok (.istore_n 3, 1) := dk_62 (dk_at dksX11_rank_0 16 rfl rfl)
theorem dX11_rank_17 : decode cX11_rank 17 = .ok (.iconst 0, 1) := dk_3 (dk_at dksX11_rank_0 17 rfl rfl)
theorem dX11_rank_18 : decode cX11_rank 18 = .ok (.istore 4, 2) := dk_54 4 (dk_at dksX11_rank_0 18 rfl rfl)
theorem dX11_rank_20 : decode cX11_rank 20 = .ok (.iconst 0, 1) := dk_3 (dk_at dksX11_rank_0 20 rfl rfl)
theorem dX11_rank_21 : decode cX11_rank 21 = .ok (.istore 5, 2) := dk_54 5 (dk_at dksX11_rank_0 21 rfl rfl)
theorem dX11_rank_23 : decode cX11_rank 23 = .ok (.iload 5, 2) := dk_21 5 (dk_at dksX11_rank_1 0 rfl rfl)
theorem dX11_rank_25 : decode cX11_rank 25 = .ok (.aload_n 0, 1) := dk_42 (dk_at dksX11_rank_1 2 rfl rfl)
theorem dX11_rank_26 : decode cX11_rank 26 = .ok (.getfield 755, 3) := dk_180 2 243 (dk_at dksX11_rank_1 3 rfl rfl)
theorem dX11_rank_29 : decode cX11_rank 29 = .ok (.if_icmp .ge 31, 3) := dk_162 0 31 (dk_at dksX11_rank_1 6 rfl rfl)
theorem dX11_rank_32 : decode cX11_rank 32 = .ok (.aload_n 0, 1) := dk_42 (dk_at dksX11_rank_1 9 rfl rfl)
theorem dX11_rank_33 : decode cX11_rank 33 = .ok (.getfield 780, 3) := dk_180 3 12 (dk_at dksX11_rank_1 10 rfl rfl)
theorem dX11_rank_36 : decode cX11_rank 36 = .ok (.bipush 9, 2) := dk_16 9 (dk_at dksX11_rank_1 13 rfl rfl)
theorem dX11_rank_38 : decode cX11_rank 38 = .ok (.iload_n 1, 1) := dk_27 (dk_at dksX11_rank_1 15 rfl rfl)
theorem dX11_rank_39 : decode cX11_rank 39 = .ok (.imul, 1) := dk_104 (dk_at dksX11_rank_1 16 rfl rfl)
theorem dX11_rank_40 : decode cX11_rank 40 = .ok (.iload 5, 2) := dk_21 5 (dk_at dksX11_rank_1 17 rfl rfl)
theorem dX11_rank_42 : decode cX11_rank 42 = .ok (.iadd, 1) := dk_96 (dk_at dksX11_rank_1 19 rfl rfl)
theorem dX11_rank_43 : decode cX11_rank 43 = .ok (.iaload, 1) := dk_46 (dk_at dksX11_rank_1 20 rfl rfl)
theorem dX11_rank_44 : decode cX11_rank 44 = .ok (.iload_n 2, 1) := dk_28 (dk_at dksX11_rank_1 21 rfl rfl)
theorem dX11_rank_45 : decode cX11_rank 45 = .ok (.if_icmp .ne 9, 3) := dk_160 0 9 (dk_at dksX11_rank_2 0 rfl rfl)
theorem dX11_rank_48 : decode cX11_rank 48 = .ok (.iload 5, 2) := dk_21 5 (dk_at dksX11_rank_2 3 rfl rfl)
theorem dX11_rank_50 : decode cX11_rank 50 = .ok (.istore_n 3, 1) := dk_62 (dk_at dksX11_rank_2 5 rfl rfl)
theorem dX11_rank_51 : decode cX11_rank 51 = .ok (.iinc 4 1, 3) := dk_132 4 1 (dk_at dksX11_rank_2 6 rfl rfl)
theorem dX11_rank_54 : decode cX11_rank 54 = .ok (.iinc 5 1, 3) := dk_132 5 1 (dk_at dksX11_rank_2 9 rfl rfl)
theorem dX11_rank_57 : decode cX11_rank 57 = .ok (.goto (-34), 3) := dk_167 255 222 (dk_at dksX11_rank_2 12 rfl rfl)
theorem dX11_rank_60 : decode cX11_rank 60 = .ok (.iload 4, 2) := dk_21 4 (dk_at dksX11_rank_2 15 rfl rfl)
theorem dX11_rank_62 : decode cX11_rank 62 = .ok (.iconst 1, 1) := dk_4 (dk_at dksX11_rank_2 17 rfl rfl)
theorem dX11_rank_63 : decode cX11_rank 63 = .ok (.if_icmp .le 4, 3) := dk_164 0 4 (dk_at dksX11_rank_2 18 rfl rfl)
theorem dX11_rank_66 : decode cX11_rank 66 = .ok (.return_, 1) := dk_177 (dk_at dksX11_rank_2 21 rfl rfl)
theorem dX11_rank_67 : decode cX11_rank 67 = .ok (.iload 4, 2) := dk_21 4 (dk_at dksX11_rank_2 22 rfl rfl)
theorem dX11_rank_69 : decode cX11_rank 69 = .ok (.iconst 1, 1) := dk_4 (dk_at dksX11_rank_3 0 rfl rfl)
theorem dX11_rank_70 : decode cX11_rank 70 = .ok (.if_icmp .ne 30, 3) := dk_160 0 30 (dk_at dksX11_rank_3 1 rfl rfl)
theorem dX11_rank_73 : decode cX11_rank 73 = .ok (.aload_n 0, 1) := dk_42 (dk_at dksX11_rank_3 4 rfl rfl)
theorem dX11_rank_74 : decode cX11_rank 74 = .ok (.getfield 792, 3) := dk_180 3 24 (dk_at dksX11_rank_3 5 rfl rfl)
theorem dX11_rank_77 : decode cX11_rank 77 = .ok (.bipush 9, 2) := dk_16 9 (dk_at dksX11_rank_3 8 rfl rfl)
theorem dX11_rank_79 : decode cX11_rank 79 = .ok (.iload_n 1, 1) := dk_27 (dk_at dksX11_rank_3 10 rfl rfl)
theorem dX11_rank_80 : decode cX11_rank 80 = .ok (.imul, 1) := dk_104 (dk_at dksX11_rank_3 11 rfl rfl)
theorem dX11_rank_81 : decode cX11_rank 81 = .ok (.aload_n 0, 1) := dk_42 (dk_at dksX11_rank_3 12 rfl rfl)
theorem dX11_rank_82 : decode cX11_rank 82 = .ok (.getfield 789, 3) := dk_180 3 21 (dk_at dksX11_rank_3 13 rfl rfl)
theorem dX11_rank_85 : decode cX11_rank 85 = .ok (.iload_n 1, 1) := dk_27 (dk_at dksX11_rank_3 16 rfl rfl)
theorem dX11_rank_86 : decode cX11_rank 86 = .ok (.iaload, 1) := dk_46 (dk_at dksX11_rank_3 17 rfl rfl)
theorem dX11_rank_87 : decode cX11_rank 87 = .ok (.iadd, 1) := dk_96 (dk_at dksX11_rank_3 18 rfl rfl)
theorem dX11_rank_88 : decode cX11_rank 88 = .ok (.iload_n 3, 1) := dk_29 (dk_at dksX11_rank_3 19 rfl rfl)
theorem dX11_rank_89 : decode cX11_rank 89 = .ok (.iastore, 1) := dk_79 (dk_at dksX11_rank_3 20 rfl rfl)
theorem dX11_rank_90 : decode cX11_rank 90 = .ok (.aload_n 0, 1) := dk_42 (dk_at dksX11_rank_3 21 rfl rfl)
theorem dX11_rank_91 : decode cX11_rank 91 = .ok (.getfield 789, 3) := dk_180 3 21 (dk_at dksX11_rank_4 0 rfl rfl)
theorem dX11_rank_94 : decode cX11_rank 94 = .ok (.iload_n 1, 1) := dk_27 (dk_at dksX11_rank_4 3 rfl rfl)
theorem dX11_rank_95 : decode cX11_rank 95 = .ok (.dup2, 1) := dk_92 (dk_at dksX11_rank_4 4 rfl rfl)
theorem dX11_rank_96 : decode cX11_rank 96 = .ok (.iaload, 1) := dk_46 (dk_at dksX11_rank_4 5 rfl rfl)
theorem dX11_rank_97 : decode cX11_rank 97 = .ok (.iconst 1, 1) := dk_4 (dk_at dksX11_rank_4 6 rfl rfl)
theorem dX11_rank_98 : decode cX11_rank 98 = .ok (.iadd, 1) := dk_96 (dk_at dksX11_rank_4 7 rfl rfl)
theorem dX11_rank_99 : decode cX11_rank 99 = .ok (.iastore, 1) := dk_79 (dk_at dksX11_rank_4 8 rfl rfl)
theorem dX11_rank_100 : decode cX11_rank 100 = .ok (.iinc 2 1, 3) := dk_132 2 1 (dk_at dksX11_rank_4 9 rfl rfl)
theorem dX11_rank_103 : decode cX11_rank 103 = .ok (.goto (-94), 3) := dk_167 255 162 (dk_at dksX11_rank_4 12 rfl rfl)
theorem dX11_rank_106 : decode cX11_rank 106 = .ok (.return_, 1) := dk_177 (dk_at dksX11_rank_4 15 rfl rfl)
abbrev cX11_isBad : ByteArray := prog_17_method_134_code
def yX11_isBad : MethodName := ⟨RX11, "isBad", "(II)Z"⟩
def dkwX11_isBad_6 : List UInt8 := [167, 255, 210, 3, 172, 3, 172]
abbrev dktX11_isBad_6 : List UInt8 := dkwX11_isBad_6 ++ []
def dkwX11_isBad_5 : List UInt8 := [29, 155, 0, 15, 42, 29, 21, 4, 182, 3, 27, 154, 0, 5, 4, 172, 21, 4, 62, 132, 4, 1]
abbrev dktX11_isBad_5 : List UInt8 := dkwX11_isBad_5 ++ dktX11_isBad_6
def dkwX11_isBad_4 : List UInt8 := [21, 4, 42, 180, 2, 243, 162, 0, 43, 42, 180, 3, 12, 27, 21, 4, 96, 46, 154, 0, 6, 167, 0, 22]
abbrev dktX11_isBad_4 : List UInt8 := dkwX11_isBad_4 ++ dktX11_isBad_5
def dkwX11_isBad_3 : List UInt8 := [172, 42, 180, 3, 21, 42, 180, 2, 255, 46, 154, 0, 7, 4, 167, 0, 4, 3, 172, 2, 62, 3, 54, 4]
abbrev dktX11_isBad_3 : List UInt8 := dkwX11_isBad_3 ++ dktX11_isBad_4
def dkwX11_isBad_2 : List UInt8 := [28, 4, 164, 0, 7, 4, 167, 0, 4, 3, 172, 28, 42, 180, 2, 246, 164, 0, 7, 4, 167, 0, 4, 3]
abbrev dktX11_isBad_2 : List UInt8 := dkwX11_isBad_2 ++ dktX11_isBad_3
def dkwX11_isBad_1 : List UInt8 := [170, 0, 0, 0, 0, 0, 174, 0, 0, 0, 0, 0, 0, 0, 14, 0, 0, 0, 75, 0, 0, 0, 86, 0, 0, 0, 174, 0, 0, 0, 174, 0, 0, 0, 174, 0, 0, 0, 100, 0, 0, 0, 100, 0, 0, 0, 174, 0, 0, 0, 174, 0, 0, 0, 174, 0, 0, 0, 174, 0, 0, 0, 100, 0, 0, 0, 100, 0, 0, 0, 100, 0, 0, 0, 118]
abbrev dktX11_isBad_1 : List UInt8 := dkwX11_isBad_1 ++ dktX11_isBad_2
def dkwX11_isBad_0 : List UInt8 := [42, 42, 180, 2, 237, 5, 182, 1, 229]
abbrev dktX11_isBad_0 : List UInt8 := dkwX11_isBad_0 ++ dktX11_isBad_1
theorem dksX11_isBad_0 : cX11_isBad.data.toList.drop 0 = dktX11_isBad_0 := by decide +kernel
theorem dksX11_isBad_1 : cX11_isBad.data.toList.drop 9 = dktX11_isBad_1 := dk_seg dksX11_isBad_0 9 rfl rfl
theorem dksX11_isBad_2 : cX11_isBad.data.toList.drop 84 = dktX11_isBad_2 := dk_seg dksX11_isBad_1 75 rfl rfl
theorem dksX11_isBad_3 : cX11_isBad.data.toList.drop 108 = dktX11_isBad_3 := dk_seg dksX11_isBad_2 24 rfl rfl
theorem dksX11_isBad_4 : cX11_isBad.data.toList.drop 132 = dktX11_isBad_4 := dk_seg dksX11_isBad_3 24 rfl rfl
theorem dksX11_isBad_5 : cX11_isBad.data.toList.drop 156 = dktX11_isBad_5 := dk_seg dksX11_isBad_4 24 rfl rfl
theorem dksX11_isBad_6 : cX11_isBad.data.toList.drop 178 = dktX11_isBad_6 := dk_seg dksX11_isBad_5 22 rfl rfl
theorem dX11_isBad_0 : decode cX11_isBad 0 = .ok (.aload_n 0, 1) := dk_42 (dk_at dksX11_isBad_0 0 rfl rfl)
theorem dX11_isBad_1 : decode cX11_isBad 1 = .ok (.aload_n 0, 1) := dk_42 (dk_at dksX11_isBad_0 1 rfl rfl)
theorem dX11_isBad_2 : decode cX11_isBad 2 = .ok (.getfield 749, 3) := dk_180 2 237 (dk_at dksX11_isBad_0 2 rfl rfl)
theorem dX11_isBad_5 : decode cX11_isBad 5 = .ok (.iconst 2, 1) := dk_5 (dk_at dksX11_isBad_0 5 rfl rfl)
theorem dX11_isBad_6 : decode cX11_isBad 6 = .ok (.invokevirtual 485, 3) := dk_182 1 229 (dk_at dksX11_isBad_0 6 rfl rfl)
theorem dX11_isBad_9 : decode cX11_isBad 9 = .ok (.tableswitch 174 0 14 #[75, 86, 174, 174, 174, 100, 100, 174, 174, 174, 174, 100, 100, 100, 118], 75) := by decide +kernel
theorem dX11_isBad_84 : decode cX11_isBad 84 = .ok (.iload_n 2, 1) := dk_28 (dk_at dksX11_isBad_2 0 rfl rfl)
theorem dX11_isBad_85 : decode cX11_isBad 85 = .ok (.iconst 1, 1) := dk_4 (dk_at dksX11_isBad_2 1 rfl rfl)
theorem dX11_isBad_86 : decode cX11_isBad 86 = .ok (.if_icmp .le 7, 3) := dk_164 0 7 (dk_at dksX11_isBad_2 2 rfl rfl)
theorem dX11_isBad_89 : decode cX11_isBad 89 = .ok (.iconst 1, 1) := dk_4 (dk_at dksX11_isBad_2 5 rfl rfl)
theorem dX11_isBad_90 : decode cX11_isBad 90 = .ok (.goto 4, 3) := dk_167 0 4 (dk_at dksX11_isBad_2 6 rfl rfl)
theorem dX11_isBad_93 : decode cX11_isBad 93 = .ok (.iconst 0, 1) := dk_3 (dk_at dksX11_isBad_2 9 rfl rfl)
theorem dX11_isBad_94 : decode cX11_isBad 94 = .ok (.ireturn, 1) := dk_172 (dk_at dksX11_isBad_2 10 rfl rfl)
theorem dX11_isBad_95 : decode cX11_isBad 95 = .ok (.iload_n 2, 1) := dk_28 (dk_at dksX11_isBad_2 11 rfl rfl)
theorem dX11_isBad_96 : decode cX11_isBad 96 = .ok (.aload_n 0, 1) := dk_42 (dk_at dksX11_isBad_2 12 rfl rfl)
theorem dX11_isBad_97 : decode cX11_isBad 97 = .ok (.getfield 758, 3) := dk_180 2 246 (dk_at dksX11_isBad_2 13 rfl rfl)
theorem dX11_isBad_100 : decode cX11_isBad 100 = .ok (.if_icmp .le 7, 3) := dk_164 0 7 (dk_at dksX11_isBad_2 16 rfl rfl)
theorem dX11_isBad_103 : decode cX11_isBad 103 = .ok (.iconst 1, 1) := dk_4 (dk_at dksX11_isBad_2 19 rfl rfl)
theorem dX11_isBad_104 : decode cX11_isBad 104 = .ok (.goto 4, 3) := dk_167 0 4 (dk_at dksX11_isBad_2 20 rfl rfl)
theorem dX11_isBad_107 : decode cX11_isBad 107 = .ok (.iconst 0, 1) := dk_3 (dk_at dksX11_isBad_2 23 rfl rfl)
theorem dX11_isBad_108 : decode cX11_isBad 108 = .ok (.ireturn, 1) := dk_172 (dk_at dksX11_isBad_3 0 rfl rfl)
theorem dX11_isBad_109 : decode cX11_isBad 109 = .ok (.aload_n 0, 1) := dk_42 (dk_at dksX11_isBad_3 1 rfl rfl)
theorem dX11_isBad_110 : decode cX11_isBad 110 = .ok (.getfield 789, 3) := dk_180 3 21 (dk_at dksX11_isBad_3 2 rfl rfl)
theorem dX11_isBad_113 : decode cX11_isBad 113 = .ok (.aload_n 0, 1) := dk_42 (dk_at dksX11_isBad_3 5 rfl rfl)
theorem dX11_isBad_114 : decode cX11_isBad 114 = .ok (.getfield 767, 3) := dk_180 2 255 (dk_at dksX11_isBad_3 6 rfl rfl)
theorem dX11_isBad_117 : decode cX11_isBad 117 = .ok (.iaload, 1) := dk_46 (dk_at dksX11_isBad_3 9 rfl rfl)
theorem dX11_isBad_118 : decode cX11_isBad 118 = .ok (.ifCond .ne 7, 3) := dk_154 0 7 (dk_at dksX11_isBad_3 10 rfl rfl)
theorem dX11_isBad_121 : decode cX11_isBad 121 = .ok (.iconst 1, 1) := dk_4 (dk_at dksX11_isBad_3 13 rfl rfl)
theorem dX11_isBad_122 : decode cX11_isBad 122 = .ok (.goto 4, 3) := dk_167 0 4 (dk_at dksX11_isBad_3 14 rfl rfl)
theorem dX11_isBad_125 : decode cX11_isBad 125 = .ok (.iconst 0, 1) := dk_3 (dk_at dksX11_isBad_3 17 rfl rfl)
theorem dX11_isBad_126 : decode cX11_isBad 126 = .ok (.ireturn, 1) := dk_172 (dk_at dksX11_isBad_3 18 rfl rfl)
theorem dX11_isBad_127 : decode cX11_isBad 127 = .ok (.iconst (-1), 1) := dk_2 (dk_at dksX11_isBad_3 19 rfl rfl)
theorem dX11_isBad_128 : decode cX11_isBad 128 = .ok (.istore_n 3, 1) := dk_62 (dk_at dksX11_isBad_3 20 rfl rfl)
theorem dX11_isBad_129 : decode cX11_isBad 129 = .ok (.iconst 0, 1) := dk_3 (dk_at dksX11_isBad_3 21 rfl rfl)
theorem dX11_isBad_130 : decode cX11_isBad 130 = .ok (.istore 4, 2) := dk_54 4 (dk_at dksX11_isBad_3 22 rfl rfl)
theorem dX11_isBad_132 : decode cX11_isBad 132 = .ok (.iload 4, 2) := dk_21 4 (dk_at dksX11_isBad_4 0 rfl rfl)
theorem dX11_isBad_134 : decode cX11_isBad 134 = .ok (.aload_n 0, 1) := dk_42 (dk_at dksX11_isBad_4 2 rfl rfl)
theorem dX11_isBad_135 : decode cX11_isBad 135 = .ok (.getfield 755, 3) := dk_180 2 243 (dk_at dksX11_isBad_4 3 rfl rfl)
theorem dX11_isBad_138 : decode cX11_isBad 138 = .ok (.if_icmp .ge 43, 3) := dk_162 0 43 (dk_at dksX11_isBad_4 6 rfl rfl)
theorem dX11_isBad_141 : decode cX11_isBad 141 = .ok (.aload_n 0, 1) := dk_42 (dk_at dksX11_isBad_4 9 rfl rfl)
theorem dX11_isBad_142 : decode cX11_isBad 142 = .ok (.getfield 780, 3) := dk_180 3 12 (dk_at dksX11_isBad_4 10 rfl rfl)
theorem dX11_isBad_145 : decode cX11_isBad 145 = .ok (.iload_n 1, 1) := dk_27 (dk_at dksX11_isBad_4 13 rfl rfl)
theorem dX11_isBad_146 : decode cX11_isBad 146 = .ok (.iload 4, 2) := dk_21 4 (dk_at dksX11_isBad_4 14 rfl rfl)
theorem dX11_isBad_148 : decode cX11_isBad 148 = .ok (.iadd, 1) := dk_96 (dk_at dksX11_isBad_4 16 rfl rfl)
theorem dX11_isBad_149 : decode cX11_isBad 149 = .ok (.iaload, 1) := dk_46 (dk_at dksX11_isBad_4 17 rfl rfl)
theorem dX11_isBad_150 : decode cX11_isBad 150 = .ok (.ifCond .ne 6, 3) := dk_154 0 6 (dk_at dksX11_isBad_4 18 rfl rfl)
theorem dX11_isBad_153 : decode cX11_isBad 153 = .ok (.goto 22, 3) := dk_167 0 22 (dk_at dksX11_isBad_4 21 rfl rfl)
theorem dX11_isBad_156 : decode cX11_isBad 156 = .ok (.iload_n 3, 1) := dk_29 (dk_at dksX11_isBad_5 0 rfl rfl)
theorem dX11_isBad_157 : decode cX11_isBad 157 = .ok (.ifCond .lt 15, 3) := dk_155 0 15 (dk_at dksX11_isBad_5 1 rfl rfl)
theorem dX11_isBad_160 : decode cX11_isBad 160 = .ok (.aload_n 0, 1) := dk_42 (dk_at dksX11_isBad_5 4 rfl rfl)
theorem dX11_isBad_161 : decode cX11_isBad 161 = .ok (.iload_n 3, 1) := dk_29 (dk_at dksX11_isBad_5 5 rfl rfl)
theorem dX11_isBad_162 : decode cX11_isBad 162 = .ok (.iload 4, 2) := dk_21 4 (dk_at dksX11_isBad_5 6 rfl rfl)
theorem dX11_isBad_164 : decode cX11_isBad 164 = .ok (.invokevirtual 795, 3) := dk_182 3 27 (dk_at dksX11_isBad_5 8 rfl rfl)
theorem dX11_isBad_167 : decode cX11_isBad 167 = .ok (.ifCond .ne 5, 3) := dk_154 0 5 (dk_at dksX11_isBad_5 11 rfl rfl)
theorem dX11_isBad_170 : decode cX11_isBad 170 = .ok (.iconst 1, 1) := dk_4 (dk_at dksX11_isBad_5 14 rfl rfl)
theorem dX11_isBad_171 : decode cX11_isBad 171 = .ok (.ireturn, 1) := dk_172 (dk_at dksX11_isBad_5 15 rfl rfl)
theorem dX11_isBad_172 : decode cX11_isBad 172 = .ok (.iload 4, 2) := dk_21 4 (dk_at dksX11_isBad_5 16 rfl rfl)
theorem dX11_isBad_174 : decode cX11_isBad 174 = .ok (.istore_n 3, 1) := dk_62 (dk_at dksX11_isBad_5 18 rfl rfl)
theorem dX11_isBad_175 : decode cX11_isBad 175 = .ok (.iinc 4 1, 3) := dk_132 4 1 (dk_at dksX11_isBad_5 19 rfl rfl)
theorem dX11_isBad_178 : decode cX11_isBad 178 = .ok (.goto (-46), 3) := dk_167 255 210 (dk_at dksX11_isBad_6 0 rfl rfl)
theorem dX11_isBad_181 : decode cX11_isBad 181 = .ok (.iconst 0, 1) := dk_3 (dk_at dksX11_isBad_6 3 rfl rfl)
theorem dX11_isBad_182 : decode cX11_isBad 182 = .ok (.ireturn, 1) := dk_172 (dk_at dksX11_isBad_6 4 rfl rfl)
theorem dX11_isBad_183 : decode cX11_isBad 183 = .ok (.iconst 0, 1) := dk_3 (dk_at dksX11_isBad_6 5 rfl rfl)
theorem dX11_isBad_184 : decode cX11_isBad 184 = .ok (.ireturn, 1) := dk_172 (dk_at dksX11_isBad_6 6 rfl rfl)
abbrev cX11_areOneList : ByteArray := prog_17_method_130_code
def yX11_areOneList : MethodName := ⟨RX11, "areOneList", "(II)Z"⟩
def dkwX11_areOneList_1 : List UInt8 := [160, 0, 7, 4, 167, 0, 4, 3, 172]
abbrev dktX11_areOneList_1 : List UInt8 := dkwX11_areOneList_1 ++ []
def dkwX11_areOneList_0 : List UInt8 := [27, 28, 159, 0, 24, 42, 27, 182, 2, 240, 155, 0, 20, 42, 27, 182, 2, 240, 42, 28, 182, 2, 240]
abbrev dktX11_areOneList_0 : List UInt8 := dkwX11_areOneList_0 ++ dktX11_areOneList_1
theorem dksX11_areOneList_0 : cX11_areOneList.data.toList.drop 0 = dktX11_areOneList_0 := by decide +kernel
theorem dksX11_areOneList_1 : cX11_areOneList.data.toList.drop 23 = dktX11_areOneList_1 := dk_seg dksX11_areOneList_0 23 rfl rfl
theorem dX11_areOneList_0 : decode cX11_areOneList 0 = .ok (.iload_n 1, 1) := dk_27 (dk_at dksX11_areOneList_0 0 rfl rfl)
theorem dX11_areOneList_1 : decode cX11_areOneList 1 = .ok (.iload_n 2, 1) := dk_28 (dk_at dksX11_areOneList_0 1 rfl rfl)
theorem dX11_areOneList_2 : decode cX11_areOneList 2 = .ok (.if_icmp .eq 24, 3) := dk_159 0 24 (dk_at dksX11_areOneList_0 2 rfl rfl)
theorem dX11_areOneList_5 : decode cX11_areOneList 5 = .ok (.aload_n 0, 1) := dk_42 (dk_at dksX11_areOneList_0 5 rfl rfl)
theorem dX11_areOneList_6 : decode cX11_areOneList 6 = .ok (.iload_n 1, 1) := dk_27 (dk_at dksX11_areOneList_0 6 rfl rfl)
theorem dX11_areOneList_7 : decode cX11_areOneList 7 = .ok (.invokevirtual 752, 3) := dk_182 2 240 (dk_at dksX11_areOneList_0 7 rfl rfl)
theorem dX11_areOneList_10 : decode cX11_areOneList 10 = .ok (.ifCond .lt 20, 3) := dk_155 0 20 (dk_at dksX11_areOneList_0 10 rfl rfl)
theorem dX11_areOneList_13 : decode cX11_areOneList 13 = .ok (.aload_n 0, 1) := dk_42 (dk_at dksX11_areOneList_0 13 rfl rfl)
theorem dX11_areOneList_14 : decode cX11_areOneList 14 = .ok (.iload_n 1, 1) := dk_27 (dk_at dksX11_areOneList_0 14 rfl rfl)
theorem dX11_areOneList_15 : decode cX11_areOneList 15 = .ok (.invokevirtual 752, 3) := dk_182 2 240 (dk_at dksX11_areOneList_0 15 rfl rfl)
theorem dX11_areOneList_18 : decode cX11_areOneList 18 = .ok (.aload_n 0, 1) := dk_42 (dk_at dksX11_areOneList_0 18 rfl rfl)
theorem dX11_areOneList_19 : decode cX11_areOneList 19 = .ok (.iload_n 2, 1) := dk_28 (dk_at dksX11_areOneList_0 19 rfl rfl)
theorem dX11_areOneList_20 : decode cX11_areOneList 20 = .ok (.invokevirtual 752, 3) := dk_182 2 240 (dk_at dksX11_areOneList_0 20 rfl rfl)
theorem dX11_areOneList_23 : decode cX11_areOneList 23 = .ok (.if_icmp .ne 7, 3) := dk_160 0 7 (dk_at dksX11_areOneList_1 0 rfl rfl)
theorem dX11_areOneList_26 : decode cX11_areOneList 26 = .ok (.iconst 1, 1) := dk_4 (dk_at dksX11_areOneList_1 3 rfl rfl)
theorem dX11_areOneList_27 : decode cX11_areOneList 27 = .ok (.goto 4, 3) := dk_167 0 4 (dk_at dksX11_areOneList_1 4 rfl rfl)
theorem dX11_areOneList_30 : decode cX11_areOneList 30 = .ok (.iconst 0, 1) := dk_3 (dk_at dksX11_areOneList_1 7 rfl rfl)
theorem dX11_areOneList_31 : decode cX11_areOneList 31 = .ok (.ireturn, 1) := dk_172 (dk_at dksX11_areOneList_1 8 rfl rfl)
abbrev cX11_partyOf : ByteArray := prog_17_method_129_code
def yX11_partyOf : MethodName := ⟨RX11, "partyOf", "(I)I"⟩
def dkwX11_partyOf_0 : List UInt8 := [42, 180, 2, 72, 42, 180, 2, 96, 16, 9, 42, 180, 2, 237, 104, 27, 96, 46, 46, 172]
abbrev dktX11_partyOf_0 : List UInt8 := dkwX11_partyOf_0 ++ []
theorem dksX11_partyOf_0 : cX11_partyOf.data.toList.drop 0 = dktX11_partyOf_0 := by decide +kernel
theorem dX11_partyOf_0 : decode cX11_partyOf 0 = .ok (.aload_n 0, 1) := dk_42 (dk_at dksX11_partyOf_0 0 rfl rfl)
theorem dX11_partyOf_1 : decode cX11_partyOf 1 = .ok (.getfield 584, 3) := dk_180 2 72 (dk_at dksX11_partyOf_0 1 rfl rfl)
theorem dX11_partyOf_4 : decode cX11_partyOf 4 = .ok (.aload_n 0, 1) := dk_42 (dk_at dksX11_partyOf_0 4 rfl rfl)
theorem dX11_partyOf_5 : decode cX11_partyOf 5 = .ok (.getfield 608, 3) := dk_180 2 96 (dk_at dksX11_partyOf_0 5 rfl rfl)
theorem dX11_partyOf_8 : decode cX11_partyOf 8 = .ok (.bipush 9, 2) := dk_16 9 (dk_at dksX11_partyOf_0 8 rfl rfl)
theorem dX11_partyOf_10 : decode cX11_partyOf 10 = .ok (.aload_n 0, 1) := dk_42 (dk_at dksX11_partyOf_0 10 rfl rfl)
theorem dX11_partyOf_11 : decode cX11_partyOf 11 = .ok (.getfield 749, 3) := dk_180 2 237 (dk_at dksX11_partyOf_0 11 rfl rfl)
theorem dX11_partyOf_14 : decode cX11_partyOf 14 = .ok (.imul, 1) := dk_104 (dk_at dksX11_partyOf_0 14 rfl rfl)
theorem dX11_partyOf_15 : decode cX11_partyOf 15 = .ok (.iload_n 1, 1) := dk_27 (dk_at dksX11_partyOf_0 15 rfl rfl)
theorem dX11_partyOf_16 : decode cX11_partyOf 16 = .ok (.iadd, 1) := dk_96 (dk_at dksX11_partyOf_0 16 rfl rfl)
theorem dX11_partyOf_17 : decode cX11_partyOf 17 = .ok (.iaload, 1) := dk_46 (dk_at dksX11_partyOf_0 17 rfl rfl)
theorem dX11_partyOf_18 : decode cX11_partyOf 18 = .ok (.iaload, 1) := dk_46 (dk_at dksX11_partyOf_0 18 rfl rfl)
theorem dX11_partyOf_19 : decode cX11_partyOf 19 = .ok (.ireturn, 1) := dk_172 (dk_at dksX11_partyOf_0 19 rfl rfl)
abbrev cX11_votesByMarks : ByteArray := prog_17_method_137_code
def yX11_votesByMarks : MethodName := ⟨RX11, "votesByMarks", "(I)V"⟩
def dkwX11_votesByMarks_3 : List UInt8 := [132, 3, 1, 167, 255, 197, 132, 2, 1, 167, 255, 181, 177]
abbrev dktX11_votesByMarks_3 : List UInt8 := dkwX11_votesByMarks_3 ++ []
def dkwX11_votesByMarks_2 : List UInt8 := [167, 0, 22, 42, 180, 3, 12, 16, 9, 28, 104, 29, 96, 46, 158, 0, 7, 10, 167, 0, 4, 9, 97, 80]
abbrev dktX11_votesByMarks_2 : List UInt8 := dkwX11_votesByMarks_2 ++ dktX11_votesByMarks_3
def dkwX11_votesByMarks_1 : List UInt8 := [42, 180, 3, 33, 29, 92, 47, 27, 6, 160, 0, 18, 42, 180, 3, 12, 16, 9, 28, 104, 29, 96, 46, 133]
abbrev dktX11_votesByMarks_1 : List UInt8 := dkwX11_votesByMarks_1 ++ dktX11_votesByMarks_2
def dkwX11_votesByMarks_0 : List UInt8 := [42, 182, 3, 43, 3, 61, 28, 42, 180, 2, 255, 162, 0, 73, 3, 62, 29, 42, 180, 2, 243, 162, 0, 57]
abbrev dktX11_votesByMarks_0 : List UInt8 := dkwX11_votesByMarks_0 ++ dktX11_votesByMarks_1
theorem dksX11_votesByMarks_0 : cX11_votesByMarks.data.toList.drop 0 = dktX11_votesByMarks_0 := by decide +kernel
theorem dksX11_votesByMarks_1 : cX11_votesByMarks.data.toList.drop 24 = dktX11_votesByMarks_1 := dk_seg dksX11_votesByMarks_0 24 rfl rfl
theorem dksX11_votesByMarks_2 : cX11_votesByMarks.data.toList.drop 48 = dktX11_votesByMarks_2 := dk_seg dksX11_votesByMarks_1 24 rfl rfl
theorem dksX11_votesByMarks_3 : cX11_votesByMarks.data.toList.drop 72 = dktX11_votesByMarks_3 := dk_seg dksX11_votesByMarks_2 24 rfl rfl
theorem dX11_votesByMarks_0 : decode cX11_votesByMarks 0 = .ok (.aload_n 0, 1) := dk_42 (dk_at dksX11_votesByMarks_0 0 rfl rfl)
theorem dX11_votesByMarks_1 : decode cX11_votesByMarks 1 = .ok (.invokevirtual 811, 3) := dk_182 3 43 (dk_at dksX11_votesByMarks_0 1 rfl rfl)
theorem dX11_votesByMarks_4 : decode cX11_votesByMarks 4 = .ok (.iconst 0, 1) := dk_3 (dk_at dksX11_votesByMarks_0 4 rfl rfl)
theorem dX11_votesByMarks_5 : decode cX11_votesByMarks 5 = .ok (.istore_n 2, 1) := dk_61 (dk_at dksX11_votesByMarks_0 5 rfl rfl)
theorem dX11_votesByMarks_6 : decode cX11_votesByMarks 6 = .ok (.iload_n 2, 1) := dk_28 (dk_at dksX11_votesByMarks_0 6 rfl rfl)
theorem dX11_votesByMarks_7 : decode cX11_votesByMarks 7 = .ok (.aload_n 0, 1) := dk_42 (dk_at dksX11_votesByMarks_0 7 rfl rfl)
theorem dX11_votesByMarks_8 : decode cX11_votesByMarks 8 = .ok (.getfield 767, 3) := dk_180 2 255 (dk_at dksX11_votesByMarks_0 8 rfl rfl)
theorem dX11_votesByMarks_11 : decode cX11_votesByMarks 11 = .ok (.if_icmp .ge 73, 3) := dk_162 0 73 (dk_at dksX11_votesByMarks_0 11 rfl rfl)
theorem dX11_votesByMarks_14 : decode cX11_votesByMarks 14 = .ok (.iconst 0, 1) := dk_3 (dk_at dksX11_votesByMarks_0 14 rfl rfl)
theorem dX11_votesByMarks_15 : decode cX11_votesByMarks 15 = .ok (.istore_n 3, 1) := dk_62 (dk_at dksX11_votesByMarks_0 15 rfl rfl)
theorem dX11_votesByMarks_16 : decode cX11_votesByMarks 16 = .ok (.iload_n 3, 1) := dk_29 (dk_at dksX11_votesByMarks_0 16 rfl rfl)
theorem dX11_votesByMarks_17 : decode cX11_votesByMarks 17 = .ok (.aload_n 0, 1) := dk_42 (dk_at dksX11_votesByMarks_0 17 rfl rfl)
theorem dX11_votesByMarks_18 : decode cX11_votesByMarks 18 = .ok (.getfield 755, 3) := dk_180 2 243 (dk_at dksX11_votesByMarks_0 18 rfl rfl)
theorem dX11_votesByMarks_21 : decode cX11_votesByMarks 21 = .ok (.if_icmp .ge 57, 3) := dk_162 0 57 (dk_at dksX11_votesByMarks_0 21 rfl rfl)
theorem dX11_votesByMarks_24 : decode cX11_votesByMarks 24 = .ok (.aload_n 0, 1) := dk_42 (dk_at dksX11_votesByMarks_1 0 rfl rfl)
theorem dX11_votesByMarks_25 : decode cX11_votesByMarks 25 = .ok (.getfield 801, 3) := dk_180 3 33 (dk_at dksX11_votesByMarks_1 1 rfl rfl)
theorem dX11_votesByMarks_28 : decode cX11_votesByMarks 28 = .ok (.iload_n 3, 1) := dk_29 (dk_at dksX11_votesByMarks_1 4 rfl rfl)
theorem dX11_votesByMarks_29 : decode cX11_votesByMarks 29 = .ok (.dup2, 1) := dk_92 (dk_at dksX11_votesByMarks_1 5 rfl rfl)
theorem dX11_votesByMarks_30 : decode cX11_votesByMarks 30 = .ok (.laload, 1) := dk_47 (dk_at dksX11_votesByMarks_1 6 rfl rfl)
theorem dX11_votesByMarks_31 : decode cX11_votesByMarks 31 = .ok (.iload_n 1, 1) := dk_27 (dk_at dksX11_votesByMarks_1 7 rfl rfl)
theorem dX11_votesByMarks_32 : decode cX11_votesByMarks 32 = .ok (.iconst 3, 1) := dk_6 (dk_at dksX11_votesByMarks_1 8 rfl rfl)
theorem dX11_votesByMarks_33 : decode cX11_votesByMarks 33 = .ok (.if_icmp .ne 18, 3) := dk_160 0 18 (dk_at dksX11_votesByMarks_1 9 rfl rfl)
theorem dX11_votesByMarks_36 : decode cX11_votesByMarks 36 = .ok (.aload_n 0, 1) := dk_42 (dk_at dksX11_votesByMarks_1 12 rfl rfl)
theorem dX11_votesByMarks_37 : decode cX11_votesByMarks 37 = .ok (.getfield 780, 3) := dk_180 3 12 (dk_at dksX11_votesByMarks_1 13 rfl rfl)
theorem dX11_votesByMarks_40 : decode cX11_votesByMarks 40 = .ok (.bipush 9, 2) := dk_16 9 (dk_at dksX11_votesByMarks_1 16 rfl rfl)
theorem dX11_votesByMarks_42 : decode cX11_votesByMarks 42 = .ok (.iload_n 2, 1) := dk_28 (dk_at dksX11_votesByMarks_1 18 rfl rfl)
theorem dX11_votesByMarks_43 : decode cX11_votesByMarks 43 = .ok (.imul, 1) := dk_104 (dk_at dksX11_votesByMarks_1 19 rfl rfl)
theorem dX11_votesByMarks_44 : decode cX11_votesByMarks 44 = .ok (.iload_n 3, 1) := dk_29 (dk_at dksX11_votesByMarks_1 20 rfl rfl)
theorem dX11_votesByMarks_45 : decode cX11_votesByMarks 45 = .ok (.iadd, 1) := dk_96 (dk_at dksX11_votesByMarks_1 21 rfl rfl)
theorem dX11_votesByMarks_46 : decode cX11_votesByMarks 46 = .ok (.iaload, 1) := dk_46 (dk_at dksX11_votesByMarks_1 22 rfl rfl)
theorem dX11_votesByMarks_47 : decode cX11_votesByMarks 47 = .ok (.i2l, 1) := dk_133 (dk_at dksX11_votesByMarks_1 23 rfl rfl)
theorem dX11_votesByMarks_48 : decode cX11_votesByMarks 48 = .ok (.goto 22, 3) := dk_167 0 22 (dk_at dksX11_votesByMarks_2 0 rfl rfl)
theorem dX11_votesByMarks_51 : decode cX11_votesByMarks 51 = .ok (.aload_n 0, 1) := dk_42 (dk_at dksX11_votesByMarks_2 3 rfl rfl)
theorem dX11_votesByMarks_52 : decode cX11_votesByMarks 52 = .ok (.getfield 780, 3) := dk_180 3 12 (dk_at dksX11_votesByMarks_2 4 rfl rfl)
theorem dX11_votesByMarks_55 : decode cX11_votesByMarks 55 = .ok (.bipush 9, 2) := dk_16 9 (dk_at dksX11_votesByMarks_2 7 rfl rfl)
theorem dX11_votesByMarks_57 : decode cX11_votesByMarks 57 = .ok (.iload_n 2, 1) := dk_28 (dk_at dksX11_votesByMarks_2 9 rfl rfl)
theorem dX11_votesByMarks_58 : decode cX11_votesByMarks 58 = .ok (.imul, 1) := dk_104 (dk_at dksX11_votesByMarks_2 10 rfl rfl)
theorem dX11_votesByMarks_59 : decode cX11_votesByMarks 59 = .ok (.iload_n 3, 1) := dk_29 (dk_at dksX11_votesByMarks_2 11 rfl rfl)
theorem dX11_votesByMarks_60 : decode cX11_votesByMarks 60 = .ok (.iadd, 1) := dk_96 (dk_at dksX11_votesByMarks_2 12 rfl rfl)
theorem dX11_votesByMarks_61 : decode cX11_votesByMarks 61 = .ok (.iaload, 1) := dk_46 (dk_at dksX11_votesByMarks_2 13 rfl rfl)
theorem dX11_votesByMarks_62 : decode cX11_votesByMarks 62 = .ok (.ifCond .le 7, 3) := dk_158 0 7 (dk_at dksX11_votesByMarks_2 14 rfl rfl)
theorem dX11_votesByMarks_65 : decode cX11_votesByMarks 65 = .ok (.lconst 1, 1) := dk_10 (dk_at dksX11_votesByMarks_2 17 rfl rfl)
theorem dX11_votesByMarks_66 : decode cX11_votesByMarks 66 = .ok (.goto 4, 3) := dk_167 0 4 (dk_at dksX11_votesByMarks_2 18 rfl rfl)
theorem dX11_votesByMarks_69 : decode cX11_votesByMarks 69 = .ok (.lconst 0, 1) := dk_9 (dk_at dksX11_votesByMarks_2 21 rfl rfl)
theorem dX11_votesByMarks_70 : decode cX11_votesByMarks 70 = .ok (.ladd, 1) := dk_97 (dk_at dksX11_votesByMarks_2 22 rfl rfl)
theorem dX11_votesByMarks_71 : decode cX11_votesByMarks 71 = .ok (.lastore, 1) := dk_80 (dk_at dksX11_votesByMarks_2 23 rfl rfl)
theorem dX11_votesByMarks_72 : decode cX11_votesByMarks 72 = .ok (.iinc 3 1, 3) := dk_132 3 1 (dk_at dksX11_votesByMarks_3 0 rfl rfl)
theorem dX11_votesByMarks_75 : decode cX11_votesByMarks 75 = .ok (.goto (-59), 3) := dk_167 255 197 (dk_at dksX11_votesByMarks_3 3 rfl rfl)
theorem dX11_votesByMarks_78 : decode cX11_votesByMarks 78 = .ok (.iinc 2 1, 3) := dk_132 2 1 (dk_at dksX11_votesByMarks_3 6 rfl rfl)
theorem dX11_votesByMarks_81 : decode cX11_votesByMarks 81 = .ok (.goto (-75), 3) := dk_167 255 181 (dk_at dksX11_votesByMarks_3 9 rfl rfl)
theorem dX11_votesByMarks_84 : decode cX11_votesByMarks 84 = .ok (.return_, 1) := dk_177 (dk_at dksX11_votesByMarks_3 12 rfl rfl)
abbrev cX11_noVotes : ByteArray := prog_17_method_136_code
def yX11_noVotes : MethodName := ⟨RX11, "noVotes", "()V"⟩
def dkwX11_noVotes_0 : List UInt8 := [3, 60, 27, 16, 9, 162, 0, 16, 42, 180, 3, 33, 27, 9, 80, 132, 1, 1, 167, 255, 240, 177]
abbrev dktX11_noVotes_0 : List UInt8 := dkwX11_noVotes_0 ++ []
theorem dksX11_noVotes_0 : cX11_noVotes.data.toList.drop 0 = dktX11_noVotes_0 := by decide +kernel
theorem dX11_noVotes_0 : decode cX11_noVotes 0 = .ok (.iconst 0, 1) := dk_3 (dk_at dksX11_noVotes_0 0 rfl rfl)
theorem dX11_noVotes_1 : decode cX11_noVotes 1 = .ok (.istore_n 1, 1) := dk_60 (dk_at dksX11_noVotes_0 1 rfl rfl)
theorem dX11_noVotes_2 : decode cX11_noVotes 2 = .ok (.iload_n 1, 1) := dk_27 (dk_at dksX11_noVotes_0 2 rfl rfl)
theorem dX11_noVotes_3 : decode cX11_noVotes 3 = .ok (.bipush 9, 2) := dk_16 9 (dk_at dksX11_noVotes_0 3 rfl rfl)
theorem dX11_noVotes_5 : decode cX11_noVotes 5 = .ok (.if_icmp .ge 16, 3) := dk_162 0 16 (dk_at dksX11_noVotes_0 5 rfl rfl)
theorem dX11_noVotes_8 : decode cX11_noVotes 8 = .ok (.aload_n 0, 1) := dk_42 (dk_at dksX11_noVotes_0 8 rfl rfl)
theorem dX11_noVotes_9 : decode cX11_noVotes 9 = .ok (.getfield 801, 3) := dk_180 3 33 (dk_at dksX11_noVotes_0 9 rfl rfl)
theorem dX11_noVotes_12 : decode cX11_noVotes 12 = .ok (.iload_n 1, 1) := dk_27 (dk_at dksX11_noVotes_0 12 rfl rfl)
theorem dX11_noVotes_13 : decode cX11_noVotes 13 = .ok (.lconst 0, 1) := dk_9 (dk_at dksX11_noVotes_0 13 rfl rfl)
theorem dX11_noVotes_14 : decode cX11_noVotes 14 = .ok (.lastore, 1) := dk_80 (dk_at dksX11_noVotes_0 14 rfl rfl)
theorem dX11_noVotes_15 : decode cX11_noVotes 15 = .ok (.iinc 1 1, 3) := dk_132 1 1 (dk_at dksX11_noVotes_0 15 rfl rfl)
theorem dX11_noVotes_18 : decode cX11_noVotes 18 = .ok (.goto (-16), 3) := dk_167 255 240 (dk_at dksX11_noVotes_0 18 rfl rfl)
theorem dX11_noVotes_21 : decode cX11_noVotes 21 = .ok (.return_, 1) := dk_177 (dk_at dksX11_noVotes_0 21 rfl rfl)
abbrev cX11_orderByVotes : ByteArray := prog_17_method_135_code
def yX11_orderByVotes : MethodName := ⟨RX11, "orderByVotes", "()V"⟩
def dkwX11_orderByVotes_6 : List UInt8 := [132, 1, 1, 167, 255, 121, 177]
abbrev dktX11_orderByVotes_6 : List UInt8 := dkwX11_orderByVotes_6 ++ []
def dkwX11_orderByVotes_5 : List UInt8 := [132, 2, 255, 167, 255, 169, 42, 180, 3, 37, 28, 27, 79, 42, 89, 180, 3, 30, 4, 96, 181, 3, 30]
abbrev dktX11_orderByVotes_5 : List UInt8 := dkwX11_orderByVotes_5 ++ dktX11_orderByVotes_6
def dkwX11_orderByVotes_4 : List UInt8 := [100, 46, 182, 3, 40, 162, 0, 23, 42, 180, 3, 37, 28, 42, 180, 3, 37, 28, 4, 100, 46, 79]
abbrev dktX11_orderByVotes_4 : List UInt8 := dkwX11_orderByVotes_4 ++ dktX11_orderByVotes_5
def dkwX11_orderByVotes_3 : List UInt8 := [180, 3, 37, 28, 4, 100, 46, 47, 148, 154, 0, 43, 42, 27, 182, 3, 40, 42, 42, 180, 3, 37, 28, 4]
abbrev dktX11_orderByVotes_3 : List UInt8 := dkwX11_orderByVotes_3 ++ dktX11_orderByVotes_4
def dkwX11_orderByVotes_2 : List UInt8 := [180, 3, 37, 28, 4, 100, 46, 47, 148, 157, 0, 46, 42, 180, 3, 33, 27, 47, 42, 180, 3, 33, 42]
abbrev dktX11_orderByVotes_2 : List UInt8 := dkwX11_orderByVotes_2 ++ dktX11_orderByVotes_3
def dkwX11_orderByVotes_1 : List UInt8 := [167, 0, 115, 42, 180, 3, 30, 61, 28, 158, 0, 89, 42, 180, 3, 33, 27, 47, 42, 180, 3, 33, 42]
abbrev dktX11_orderByVotes_1 : List UInt8 := dkwX11_orderByVotes_1 ++ dktX11_orderByVotes_2
def dkwX11_orderByVotes_0 : List UInt8 := [42, 3, 181, 3, 30, 3, 60, 27, 42, 180, 2, 243, 162, 0, 133, 42, 180, 2, 252, 27, 51, 154, 0, 6]
abbrev dktX11_orderByVotes_0 : List UInt8 := dkwX11_orderByVotes_0 ++ dktX11_orderByVotes_1
theorem dksX11_orderByVotes_0 : cX11_orderByVotes.data.toList.drop 0 = dktX11_orderByVotes_0 := by decide +kernel
theorem dksX11_orderByVotes_1 : cX11_orderByVotes.data.toList.drop 24 = dktX11_orderByVotes_1 := dk_seg dksX11_orderByVotes_0 24 rfl rfl
theorem dksX11_orderByVotes_2 : cX11_orderByVotes.data.toList.drop 47 = dktX11_orderByVotes_2 := dk_seg dksX11_orderByVotes_1 23 rfl rfl
theorem dksX11_orderByVotes_3 : cX11_orderByVotes.data.toList.drop 70 = dktX11_orderByVotes_3 := dk_seg dksX11_orderByVotes_2 23 rfl rfl
theorem dksX11_orderByVotes_4 : cX11_orderByVotes.data.toList.drop 94 = dktX11_orderByVotes_4 := dk_seg dksX11_orderByVotes_3 24 rfl rfl
theorem dksX11_orderByVotes_5 : cX11_orderByVotes.data.toList.drop 116 = dktX11_orderByVotes_5 := dk_seg dksX11_orderByVotes_4 22 rfl rfl
theorem dksX11_orderByVotes_6 : cX11_orderByVotes.data.toList.drop 139 = dktX11_orderByVotes_6 := dk_seg dksX11_orderByVotes_5 23 rfl rfl
theorem dX11_orderByVotes_0 : decode cX11_orderByVotes 0 = .ok (.aload_n 0, 1) := dk_42 (dk_at dksX11_orderByVotes_0 0 rfl rfl)
theorem dX11_orderByVotes_1 : decode cX11_orderByVotes 1 = .ok (.iconst 0, 1) := dk_3 (dk_at dksX11_orderByVotes_0 1 rfl rfl)
theorem dX11_orderByVotes_2 : decode cX11_orderByVotes 2 = .ok (.putfield 798, 3) := dk_181 3 30 (dk_at dksX11_orderByVotes_0 2 rfl rfl)
theorem dX11_orderByVotes_5 : decode cX11_orderByVotes 5 = .ok (.iconst 0, 1) := dk_3 (dk_at dksX11_orderByVotes_0 5 rfl rfl)
theorem dX11_orderByVotes_6 : decode cX11_orderByVotes 6 = .ok (.istore_n 1, 1) := dk_60 (dk_at dksX11_orderByVotes_0 6 rfl rfl)
theorem dX11_orderByVotes_7 : decode cX11_orderByVotes 7 = .ok (.iload_n 1, 1) := dk_27 (dk_at dksX11_orderByVotes_0 7 rfl rfl)
theorem dX11_orderByVotes_8 : decode cX11_orderByVotes 8 = .ok (.aload_n 0, 1) := dk_42 (dk_at dksX11_orderByVotes_0 8 rfl rfl)
theorem dX11_orderByVotes_9 : decode cX11_orderByVotes 9 = .ok (.getfield 755, 3) := dk_180 2 243 (dk_at dksX11_orderByVotes_0 9 rfl rfl)
theorem dX11_orderByVotes_12 : decode cX11_orderByVotes 12 = .ok (.if_icmp .ge 133, 3) := dk_162 0 133 (dk_at dksX11_orderByVotes_0 12 rfl rfl)
theorem dX11_orderByVotes_15 : decode cX11_orderByVotes 15 = .ok (.aload_n 0, 1) := dk_42 (dk_at dksX11_orderByVotes_0 15 rfl rfl)
theorem dX11_orderByVotes_16 : decode cX11_orderByVotes 16 = .ok (.getfield 764, 3) := dk_180 2 252 (dk_at dksX11_orderByVotes_0 16 rfl rfl)
theorem dX11_orderByVotes_19 : decode cX11_orderByVotes 19 = .ok (.iload_n 1, 1) := dk_27 (dk_at dksX11_orderByVotes_0 19 rfl rfl)
theorem dX11_orderByVotes_20 : decode cX11_orderByVotes 20 = .ok (.baload, 1) := dk_51 (dk_at dksX11_orderByVotes_0 20 rfl rfl)
theorem dX11_orderByVotes_21 : decode cX11_orderByVotes 21 = .ok (.ifCond .ne 6, 3) := dk_154 0 6 (dk_at dksX11_orderByVotes_0 21 rfl rfl)
theorem dX11_orderByVotes_24 : decode cX11_orderByVotes 24 = .ok (.goto 115, 3) := dk_167 0 115 (dk_at dksX11_orderByVotes_1 0 rfl rfl)
theorem dX11_orderByVotes_27 : decode cX11_orderByVotes 27 = .ok (.aload_n 0, 1) := dk_42 (dk_at dksX11_orderByVotes_1 3 rfl rfl)
theorem dX11_orderByVotes_28 : decode cX11_orderByVotes 28 = .ok (.getfield 798, 3) := dk_180 3 30 (dk_at dksX11_orderByVotes_1 4 rfl rfl)
theorem dX11_orderByVotes_31 : decode cX11_orderByVotes 31 = .ok (.istore_n 2, 1) := dk_61 (dk_at dksX11_orderByVotes_1 7 rfl rfl)
theorem dX11_orderByVotes_32 : decode cX11_orderByVotes 32 = .ok (.iload_n 2, 1) := dk_28 (dk_at dksX11_orderByVotes_1 8 rfl rfl)
theorem dX11_orderByVotes_33 : decode cX11_orderByVotes 33 = .ok (.ifCond .le 89, 3) := dk_158 0 89 (dk_at dksX11_orderByVotes_1 9 rfl rfl)
theorem dX11_orderByVotes_36 : decode cX11_orderByVotes 36 = .ok (.aload_n 0, 1) := dk_42 (dk_at dksX11_orderByVotes_1 12 rfl rfl)
theorem dX11_orderByVotes_37 : decode cX11_orderByVotes 37 = .ok (.getfield 801, 3) := dk_180 3 33 (dk_at dksX11_orderByVotes_1 13 rfl rfl)
theorem dX11_orderByVotes_40 : decode cX11_orderByVotes 40 = .ok (.iload_n 1, 1) := dk_27 (dk_at dksX11_orderByVotes_1 16 rfl rfl)
theorem dX11_orderByVotes_41 : decode cX11_orderByVotes 41 = .ok (.laload, 1) := dk_47 (dk_at dksX11_orderByVotes_1 17 rfl rfl)
theorem dX11_orderByVotes_42 : decode cX11_orderByVotes 42 = .ok (.aload_n 0, 1) := dk_42 (dk_at dksX11_orderByVotes_1 18 rfl rfl)
theorem dX11_orderByVotes_43 : decode cX11_orderByVotes 43 = .ok (.getfield 801, 3) := dk_180 3 33 (dk_at dksX11_orderByVotes_1 19 rfl rfl)
theorem dX11_orderByVotes_46 : decode cX11_orderByVotes 46 = .ok (.aload_n 0, 1) := dk_42 (dk_at dksX11_orderByVotes_1 22 rfl rfl)
theorem dX11_orderByVotes_47 : decode cX11_orderByVotes 47 = .ok (.getfield 805, 3) := dk_180 3 37 (dk_at dksX11_orderByVotes_2 0 rfl rfl)
theorem dX11_orderByVotes_50 : decode cX11_orderByVotes 50 = .ok (.iload_n 2, 1) := dk_28 (dk_at dksX11_orderByVotes_2 3 rfl rfl)
theorem dX11_orderByVotes_51 : decode cX11_orderByVotes 51 = .ok (.iconst 1, 1) := dk_4 (dk_at dksX11_orderByVotes_2 4 rfl rfl)
theorem dX11_orderByVotes_52 : decode cX11_orderByVotes 52 = .ok (.isub, 1) := dk_100 (dk_at dksX11_orderByVotes_2 5 rfl rfl)
theorem dX11_orderByVotes_53 : decode cX11_orderByVotes 53 = .ok (.iaload, 1) := dk_46 (dk_at dksX11_orderByVotes_2 6 rfl rfl)
theorem dX11_orderByVotes_54 : decode cX11_orderByVotes 54 = .ok (.laload, 1) := dk_47 (dk_at dksX11_orderByVotes_2 7 rfl rfl)
theorem dX11_orderByVotes_55 : decode cX11_orderByVotes 55 = .ok (.lcmp, 1) := dk_148 (dk_at dksX11_orderByVotes_2 8 rfl rfl)
theorem dX11_orderByVotes_56 : decode cX11_orderByVotes 56 = .ok (.ifCond .gt 46, 3) := dk_157 0 46 (dk_at dksX11_orderByVotes_2 9 rfl rfl)
theorem dX11_orderByVotes_59 : decode cX11_orderByVotes 59 = .ok (.aload_n 0, 1) := dk_42 (dk_at dksX11_orderByVotes_2 12 rfl rfl)
theorem dX11_orderByVotes_60 : decode cX11_orderByVotes 60 = .ok (.getfield 801, 3) := dk_180 3 33 (dk_at dksX11_orderByVotes_2 13 rfl rfl)
theorem dX11_orderByVotes_63 : decode cX11_orderByVotes 63 = .ok (.iload_n 1, 1) := dk_27 (dk_at dksX11_orderByVotes_2 16 rfl rfl)
theorem dX11_orderByVotes_64 : decode cX11_orderByVotes 64 = .ok (.laload, 1) := dk_47 (dk_at dksX11_orderByVotes_2 17 rfl rfl)
theorem dX11_orderByVotes_65 : decode cX11_orderByVotes 65 = .ok (.aload_n 0, 1) := dk_42 (dk_at dksX11_orderByVotes_2 18 rfl rfl)
theorem dX11_orderByVotes_66 : decode cX11_orderByVotes 66 = .ok (.getfield 801, 3) := dk_180 3 33 (dk_at dksX11_orderByVotes_2 19 rfl rfl)
theorem dX11_orderByVotes_69 : decode cX11_orderByVotes 69 = .ok (.aload_n 0, 1) := dk_42 (dk_at dksX11_orderByVotes_2 22 rfl rfl)
theorem dX11_orderByVotes_70 : decode cX11_orderByVotes 70 = .ok (.getfield 805, 3) := dk_180 3 37 (dk_at dksX11_orderByVotes_3 0 rfl rfl)
theorem dX11_orderByVotes_73 : decode cX11_orderByVotes 73 = .ok (.iload_n 2, 1) := dk_28 (dk_at dksX11_orderByVotes_3 3 rfl rfl)
theorem dX11_orderByVotes_74 : decode cX11_orderByVotes 74 = .ok (.iconst 1, 1) := dk_4 (dk_at dksX11_orderByVotes_3 4 rfl rfl)
theorem dX11_orderByVotes_75 : decode cX11_orderByVotes 75 = .ok (.isub, 1) := dk_100 (dk_at dksX11_orderByVotes_3 5 rfl rfl)
theorem dX11_orderByVotes_76 : decode cX11_orderByVotes 76 = .ok (.iaload, 1) := dk_46 (dk_at dksX11_orderByVotes_3 6 rfl rfl)
theorem dX11_orderByVotes_77 : decode cX11_orderByVotes 77 = .ok (.laload, 1) := dk_47 (dk_at dksX11_orderByVotes_3 7 rfl rfl)
theorem dX11_orderByVotes_78 : decode cX11_orderByVotes 78 = .ok (.lcmp, 1) := dk_148 (dk_at dksX11_orderByVotes_3 8 rfl rfl)
theorem dX11_orderByVotes_79 : decode cX11_orderByVotes 79 = .ok (.ifCond .ne 43, 3) := dk_154 0 43 (dk_at dksX11_orderByVotes_3 9 rfl rfl)
theorem dX11_orderByVotes_82 : decode cX11_orderByVotes 82 = .ok (.aload_n 0, 1) := dk_42 (dk_at dksX11_orderByVotes_3 12 rfl rfl)
theorem dX11_orderByVotes_83 : decode cX11_orderByVotes 83 = .ok (.iload_n 1, 1) := dk_27 (dk_at dksX11_orderByVotes_3 13 rfl rfl)
theorem dX11_orderByVotes_84 : decode cX11_orderByVotes 84 = .ok (.invokevirtual 808, 3) := dk_182 3 40 (dk_at dksX11_orderByVotes_3 14 rfl rfl)
theorem dX11_orderByVotes_87 : decode cX11_orderByVotes 87 = .ok (.aload_n 0, 1) := dk_42 (dk_at dksX11_orderByVotes_3 17 rfl rfl)
theorem dX11_orderByVotes_88 : decode cX11_orderByVotes 88 = .ok (.aload_n 0, 1) := dk_42 (dk_at dksX11_orderByVotes_3 18 rfl rfl)
theorem dX11_orderByVotes_89 : decode cX11_orderByVotes 89 = .ok (.getfield 805, 3) := dk_180 3 37 (dk_at dksX11_orderByVotes_3 19 rfl rfl)
theorem dX11_orderByVotes_92 : decode cX11_orderByVotes 92 = .ok (.iload_n 2, 1) := dk_28 (dk_at dksX11_orderByVotes_3 22 rfl rfl)
theorem dX11_orderByVotes_93 : decode cX11_orderByVotes 93 = .ok (.iconst 1, 1) := dk_4 (dk_at dksX11_orderByVotes_3 23 rfl rfl)
theorem dX11_orderByVotes_94 : decode cX11_orderByVotes 94 = .ok (.isub, 1) := dk_100 (dk_at dksX11_orderByVotes_4 0 rfl rfl)
theorem dX11_orderByVotes_95 : decode cX11_orderByVotes 95 = .ok (.iaload, 1) := dk_46 (dk_at dksX11_orderByVotes_4 1 rfl rfl)
theorem dX11_orderByVotes_96 : decode cX11_orderByVotes 96 = .ok (.invokevirtual 808, 3) := dk_182 3 40 (dk_at dksX11_orderByVotes_4 2 rfl rfl)
theorem dX11_orderByVotes_99 : decode cX11_orderByVotes 99 = .ok (.if_icmp .ge 23, 3) := dk_162 0 23 (dk_at dksX11_orderByVotes_4 5 rfl rfl)
theorem dX11_orderByVotes_102 : decode cX11_orderByVotes 102 = .ok (.aload_n 0, 1) := dk_42 (dk_at dksX11_orderByVotes_4 8 rfl rfl)
theorem dX11_orderByVotes_103 : decode cX11_orderByVotes 103 = .ok (.getfield 805, 3) := dk_180 3 37 (dk_at dksX11_orderByVotes_4 9 rfl rfl)
theorem dX11_orderByVotes_106 : decode cX11_orderByVotes 106 = .ok (.iload_n 2, 1) := dk_28 (dk_at dksX11_orderByVotes_4 12 rfl rfl)
theorem dX11_orderByVotes_107 : decode cX11_orderByVotes 107 = .ok (.aload_n 0, 1) := dk_42 (dk_at dksX11_orderByVotes_4 13 rfl rfl)
theorem dX11_orderByVotes_108 : decode cX11_orderByVotes 108 = .ok (.getfield 805, 3) := dk_180 3 37 (dk_at dksX11_orderByVotes_4 14 rfl rfl)
theorem dX11_orderByVotes_111 : decode cX11_orderByVotes 111 = .ok (.iload_n 2, 1) := dk_28 (dk_at dksX11_orderByVotes_4 17 rfl rfl)
theorem dX11_orderByVotes_112 : decode cX11_orderByVotes 112 = .ok (.iconst 1, 1) := dk_4 (dk_at dksX11_orderByVotes_4 18 rfl rfl)
theorem dX11_orderByVotes_113 : decode cX11_orderByVotes 113 = .ok (.isub, 1) := dk_100 (dk_at dksX11_orderByVotes_4 19 rfl rfl)
theorem dX11_orderByVotes_114 : decode cX11_orderByVotes 114 = .ok (.iaload, 1) := dk_46 (dk_at dksX11_orderByVotes_4 20 rfl rfl)
theorem dX11_orderByVotes_115 : decode cX11_orderByVotes 115 = .ok (.iastore, 1) := dk_79 (dk_at dksX11_orderByVotes_4 21 rfl rfl)
theorem dX11_orderByVotes_116 : decode cX11_orderByVotes 116 = .ok (.iinc 2 (-1), 3) := dk_132 2 255 (dk_at dksX11_orderByVotes_5 0 rfl rfl)
theorem dX11_orderByVotes_119 : decode cX11_orderByVotes 119 = .ok (.goto (-87), 3) := dk_167 255 169 (dk_at dksX11_orderByVotes_5 3 rfl rfl)
theorem dX11_orderByVotes_122 : decode cX11_orderByVotes 122 = .ok (.aload_n 0, 1) := dk_42 (dk_at dksX11_orderByVotes_5 6 rfl rfl)
theorem dX11_orderByVotes_123 : decode cX11_orderByVotes 123 = .ok (.getfield 805, 3) := dk_180 3 37 (dk_at dksX11_orderByVotes_5 7 rfl rfl)
theorem dX11_orderByVotes_126 : decode cX11_orderByVotes 126 = .ok (.iload_n 2, 1) := dk_28 (dk_at dksX11_orderByVotes_5 10 rfl rfl)
theorem dX11_orderByVotes_127 : decode cX11_orderByVotes 127 = .ok (.iload_n 1, 1) := dk_27 (dk_at dksX11_orderByVotes_5 11 rfl rfl)
theorem dX11_orderByVotes_128 : decode cX11_orderByVotes 128 = .ok (.iastore, 1) := dk_79 (dk_at dksX11_orderByVotes_5 12 rfl rfl)
theorem dX11_orderByVotes_129 : decode cX11_orderByVotes 129 = .ok (.aload_n 0, 1) := dk_42 (dk_at dksX11_orderByVotes_5 13 rfl rfl)
theorem dX11_orderByVotes_130 : decode cX11_orderByVotes 130 = .ok (.dup, 1) := dk_89 (dk_at dksX11_orderByVotes_5 14 rfl rfl)
theorem dX11_orderByVotes_131 : decode cX11_orderByVotes 131 = .ok (.getfield 798, 3) := dk_180 3 30 (dk_at dksX11_orderByVotes_5 15 rfl rfl)
theorem dX11_orderByVotes_134 : decode cX11_orderByVotes 134 = .ok (.iconst 1, 1) := dk_4 (dk_at dksX11_orderByVotes_5 18 rfl rfl)
theorem dX11_orderByVotes_135 : decode cX11_orderByVotes 135 = .ok (.iadd, 1) := dk_96 (dk_at dksX11_orderByVotes_5 19 rfl rfl)
theorem dX11_orderByVotes_136 : decode cX11_orderByVotes 136 = .ok (.putfield 798, 3) := dk_181 3 30 (dk_at dksX11_orderByVotes_5 20 rfl rfl)
theorem dX11_orderByVotes_139 : decode cX11_orderByVotes 139 = .ok (.iinc 1 1, 3) := dk_132 1 1 (dk_at dksX11_orderByVotes_6 0 rfl rfl)
theorem dX11_orderByVotes_142 : decode cX11_orderByVotes 142 = .ok (.goto (-135), 3) := dk_167 255 121 (dk_at dksX11_orderByVotes_6 3 rfl rfl)
theorem dX11_orderByVotes_145 : decode cX11_orderByVotes 145 = .ok (.return_, 1) := dk_177 (dk_at dksX11_orderByVotes_6 6 rfl rfl)
abbrev cX11_lot : ByteArray := prog_17_method_128_code
def yX11_lot : MethodName := ⟨RX11, "lot", "(I)I"⟩
def dkwX11_lot_0 : List UInt8 := [42, 180, 2, 102, 16, 9, 42, 180, 2, 237, 104, 27, 96, 46, 172]
abbrev dktX11_lot_0 : List UInt8 := dkwX11_lot_0 ++ []
theorem dksX11_lot_0 : cX11_lot.data.toList.drop 0 = dktX11_lot_0 := by decide +kernel
theorem dX11_lot_0 : decode cX11_lot 0 = .ok (.aload_n 0, 1) := dk_42 (dk_at dksX11_lot_0 0 rfl rfl)
theorem dX11_lot_1 : decode cX11_lot 1 = .ok (.getfield 614, 3) := dk_180 2 102 (dk_at dksX11_lot_0 1 rfl rfl)
theorem dX11_lot_4 : decode cX11_lot 4 = .ok (.bipush 9, 2) := dk_16 9 (dk_at dksX11_lot_0 4 rfl rfl)
theorem dX11_lot_6 : decode cX11_lot 6 = .ok (.aload_n 0, 1) := dk_42 (dk_at dksX11_lot_0 6 rfl rfl)
theorem dX11_lot_7 : decode cX11_lot 7 = .ok (.getfield 749, 3) := dk_180 2 237 (dk_at dksX11_lot_0 7 rfl rfl)
theorem dX11_lot_10 : decode cX11_lot 10 = .ok (.imul, 1) := dk_104 (dk_at dksX11_lot_0 10 rfl rfl)
theorem dX11_lot_11 : decode cX11_lot 11 = .ok (.iload_n 1, 1) := dk_27 (dk_at dksX11_lot_0 11 rfl rfl)
theorem dX11_lot_12 : decode cX11_lot 12 = .ok (.iadd, 1) := dk_96 (dk_at dksX11_lot_0 12 rfl rfl)
theorem dX11_lot_13 : decode cX11_lot 13 = .ok (.iaload, 1) := dk_46 (dk_at dksX11_lot_0 13 rfl rfl)
theorem dX11_lot_14 : decode cX11_lot 14 = .ok (.ireturn, 1) := dk_172 (dk_at dksX11_lot_0 14 rfl rfl)
abbrev cX11_personOf : ByteArray := prog_17_method_176_code
def yX11_personOf : MethodName := ⟨RX11, "personOf", "(I)I"⟩
def dkwX11_personOf_0 : List UInt8 := [42, 180, 2, 66, 42, 180, 2, 96, 16, 9, 42, 180, 2, 237, 104, 27, 96, 46, 46, 172]
abbrev dktX11_personOf_0 : List UInt8 := dkwX11_personOf_0 ++ []
theorem dksX11_personOf_0 : cX11_personOf.data.toList.drop 0 = dktX11_personOf_0 := by decide +kernel
theorem dX11_personOf_0 : decode cX11_personOf 0 = .ok (.aload_n 0, 1) := dk_42 (dk_at dksX11_personOf_0 0 rfl rfl)
theorem dX11_personOf_1 : decode cX11_personOf 1 = .ok (.getfield 578, 3) := dk_180 2 66 (dk_at dksX11_personOf_0 1 rfl rfl)
theorem dX11_personOf_4 : decode cX11_personOf 4 = .ok (.aload_n 0, 1) := dk_42 (dk_at dksX11_personOf_0 4 rfl rfl)
theorem dX11_personOf_5 : decode cX11_personOf 5 = .ok (.getfield 608, 3) := dk_180 2 96 (dk_at dksX11_personOf_0 5 rfl rfl)
theorem dX11_personOf_8 : decode cX11_personOf 8 = .ok (.bipush 9, 2) := dk_16 9 (dk_at dksX11_personOf_0 8 rfl rfl)
theorem dX11_personOf_10 : decode cX11_personOf 10 = .ok (.aload_n 0, 1) := dk_42 (dk_at dksX11_personOf_0 10 rfl rfl)
theorem dX11_personOf_11 : decode cX11_personOf 11 = .ok (.getfield 749, 3) := dk_180 2 237 (dk_at dksX11_personOf_0 11 rfl rfl)
theorem dX11_personOf_14 : decode cX11_personOf 14 = .ok (.imul, 1) := dk_104 (dk_at dksX11_personOf_0 14 rfl rfl)
theorem dX11_personOf_15 : decode cX11_personOf 15 = .ok (.iload_n 1, 1) := dk_27 (dk_at dksX11_personOf_0 15 rfl rfl)
theorem dX11_personOf_16 : decode cX11_personOf 16 = .ok (.iadd, 1) := dk_96 (dk_at dksX11_personOf_0 16 rfl rfl)
theorem dX11_personOf_17 : decode cX11_personOf 17 = .ok (.iaload, 1) := dk_46 (dk_at dksX11_personOf_0 17 rfl rfl)
theorem dX11_personOf_18 : decode cX11_personOf 18 = .ok (.iaload, 1) := dk_46 (dk_at dksX11_personOf_0 18 rfl rfl)
theorem dX11_personOf_19 : decode cX11_personOf 19 = .ok (.ireturn, 1) := dk_172 (dk_at dksX11_personOf_0 19 rfl rfl)
abbrev cX11_makeLists : ByteArray := prog_17_method_178_code
def yX11_makeLists : MethodName := ⟨RX11, "makeLists", "()V"⟩
def dkwX11_makeLists_14 : List UInt8 := [180, 4, 48, 21, 4, 4, 84, 132, 4, 1, 167, 255, 232, 177]
abbrev dktX11_makeLists_14 : List UInt8 := dkwX11_makeLists_14 ++ []
def dkwX11_makeLists_13 : List UInt8 := [132, 4, 1, 167, 255, 200, 3, 54, 4, 21, 4, 42, 180, 4, 30, 162, 0, 21, 29, 154, 0, 17, 42]
abbrev dktX11_makeLists_13 : List UInt8 := dkwX11_makeLists_13 ++ dktX11_makeLists_14
def dkwX11_makeLists_12 : List UInt8 := [180, 2, 255, 104, 161, 0, 7, 4, 167, 0, 4, 3, 84, 29, 42, 180, 4, 48, 21, 4, 51, 128, 62]
abbrev dktX11_makeLists_12 : List UInt8 := dkwX11_makeLists_12 ++ dktX11_makeLists_13
def dkwX11_makeLists_11 : List UInt8 := [162, 0, 53, 42, 180, 4, 48, 21, 4, 28, 153, 0, 21, 42, 180, 4, 39, 21, 4, 46, 28, 104, 27, 42]
abbrev dktX11_makeLists_11 : List UInt8 := dkwX11_makeLists_11 ++ dktX11_makeLists_12
def dkwX11_makeLists_10 : List UInt8 := [60, 42, 42, 180, 2, 237, 8, 182, 1, 229, 61, 3, 62, 3, 54, 4, 21, 4, 42, 180, 4, 30]
abbrev dktX11_makeLists_10 : List UInt8 := dkwX11_makeLists_10 ++ dktX11_makeLists_11
def dkwX11_makeLists_9 : List UInt8 := [180, 4, 39, 28, 92, 46, 4, 96, 79, 132, 1, 1, 167, 255, 192, 42, 42, 180, 2, 237, 7, 182, 1, 229]
abbrev dktX11_makeLists_9 : List UInt8 := dkwX11_makeLists_9 ++ dktX11_makeLists_10
def dkwX11_makeLists_8 : List UInt8 := [96, 46, 158, 0, 12, 42, 180, 4, 45, 29, 46, 167, 0, 4, 28, 61, 132, 3, 1, 167, 255, 220, 42]
abbrev dktX11_makeLists_8 : List UInt8 := dkwX11_makeLists_8 ++ dktX11_makeLists_9
def dkwX11_makeLists_7 : List UInt8 := [162, 0, 62, 2, 61, 3, 62, 29, 42, 180, 2, 243, 162, 0, 34, 42, 180, 3, 12, 16, 9, 27, 104, 29]
abbrev dktX11_makeLists_7 : List UInt8 := dkwX11_makeLists_7 ++ dktX11_makeLists_8
def dkwX11_makeLists_6 : List UInt8 := [180, 4, 36, 29, 92, 46, 4, 96, 79, 132, 1, 1, 167, 255, 113, 3, 60, 27, 42, 180, 2, 255]
abbrev dktX11_makeLists_6 : List UInt8 := dkwX11_makeLists_6 ++ dktX11_makeLists_7
def dkwX11_makeLists_5 : List UInt8 := [3, 79, 42, 180, 4, 39, 29, 3, 79, 42, 180, 4, 42, 29, 3, 79, 42, 180, 4, 45, 28, 29, 79, 42]
abbrev dktX11_makeLists_5 : List UInt8 := dkwX11_makeLists_5 ++ dktX11_makeLists_6
def dkwX11_makeLists_4 : List UInt8 := [180, 4, 30, 4, 96, 181, 4, 30, 42, 180, 4, 33, 29, 42, 28, 182, 2, 240, 79, 42, 180, 4, 36, 29]
abbrev dktX11_makeLists_4 : List UInt8 := dkwX11_makeLists_4 ++ dktX11_makeLists_5
def dkwX11_makeLists_3 : List UInt8 := [182, 2, 240, 159, 0, 9, 132, 3, 1, 167, 255, 223, 29, 42, 180, 4, 30, 160, 0, 45, 42, 89]
abbrev dktX11_makeLists_3 : List UInt8 := dkwX11_makeLists_3 ++ dktX11_makeLists_4
def dkwX11_makeLists_2 : List UInt8 := [180, 4, 30, 162, 0, 31, 42, 28, 182, 2, 240, 155, 0, 17, 42, 180, 4, 33, 29, 46, 42, 28]
abbrev dktX11_makeLists_2 : List UInt8 := dkwX11_makeLists_2 ++ dktX11_makeLists_3
def dkwX11_makeLists_1 : List UInt8 := [180, 2, 237, 104, 27, 96, 46, 61, 42, 180, 2, 252, 28, 51, 154, 0, 6, 167, 0, 108, 3, 62, 29, 42]
abbrev dktX11_makeLists_1 : List UInt8 := dkwX11_makeLists_1 ++ dktX11_makeLists_2
def dkwX11_makeLists_0 : List UInt8 := [42, 3, 181, 4, 30, 3, 60, 27, 42, 180, 2, 243, 162, 0, 141, 42, 180, 2, 99, 16, 9, 42]
abbrev dktX11_makeLists_0 : List UInt8 := dkwX11_makeLists_0 ++ dktX11_makeLists_1
theorem dksX11_makeLists_0 : cX11_makeLists.data.toList.drop 0 = dktX11_makeLists_0 := by decide +kernel
theorem dksX11_makeLists_1 : cX11_makeLists.data.toList.drop 22 = dktX11_makeLists_1 := dk_seg dksX11_makeLists_0 22 rfl rfl
theorem dksX11_makeLists_2 : cX11_makeLists.data.toList.drop 46 = dktX11_makeLists_2 := dk_seg dksX11_makeLists_1 24 rfl rfl
theorem dksX11_makeLists_3 : cX11_makeLists.data.toList.drop 68 = dktX11_makeLists_3 := dk_seg dksX11_makeLists_2 22 rfl rfl
theorem dksX11_makeLists_4 : cX11_makeLists.data.toList.drop 90 = dktX11_makeLists_4 := dk_seg dksX11_makeLists_3 22 rfl rfl
theorem dksX11_makeLists_5 : cX11_makeLists.data.toList.drop 114 = dktX11_makeLists_5 := dk_seg dksX11_makeLists_4 24 rfl rfl
theorem dksX11_makeLists_6 : cX11_makeLists.data.toList.drop 138 = dktX11_makeLists_6 := dk_seg dksX11_makeLists_5 24 rfl rfl
theorem dksX11_makeLists_7 : cX11_makeLists.data.toList.drop 160 = dktX11_makeLists_7 := dk_seg dksX11_makeLists_6 22 rfl rfl
theorem dksX11_makeLists_8 : cX11_makeLists.data.toList.drop 184 = dktX11_makeLists_8 := dk_seg dksX11_makeLists_7 24 rfl rfl
theorem dksX11_makeLists_9 : cX11_makeLists.data.toList.drop 207 = dktX11_makeLists_9 := dk_seg dksX11_makeLists_8 23 rfl rfl
theorem dksX11_makeLists_10 : cX11_makeLists.data.toList.drop 231 = dktX11_makeLists_10 := dk_seg dksX11_makeLists_9 24 rfl rfl
theorem dksX11_makeLists_11 : cX11_makeLists.data.toList.drop 253 = dktX11_makeLists_11 := dk_seg dksX11_makeLists_10 22 rfl rfl
theorem dksX11_makeLists_12 : cX11_makeLists.data.toList.drop 277 = dktX11_makeLists_12 := dk_seg dksX11_makeLists_11 24 rfl rfl
theorem dksX11_makeLists_13 : cX11_makeLists.data.toList.drop 300 = dktX11_makeLists_13 := dk_seg dksX11_makeLists_12 23 rfl rfl
theorem dksX11_makeLists_14 : cX11_makeLists.data.toList.drop 323 = dktX11_makeLists_14 := dk_seg dksX11_makeLists_13 23 rfl rfl
theorem dX11_makeLists_0 : decode cX11_makeLists 0 = .ok (.aload_n 0, 1) := dk_42 (dk_at dksX11_makeLists_0 0 rfl rfl)
theorem dX11_makeLists_1 : decode cX11_makeLists 1 = .ok (.iconst 0, 1) := dk_3 (dk_at dksX11_makeLists_0 1 rfl rfl)
theorem dX11_makeLists_2 : decode cX11_makeLists 2 = .ok (.putfield 1054, 3) := dk_181 4 30 (dk_at dksX11_makeLists_0 2 rfl rfl)
theorem dX11_makeLists_5 : decode cX11_makeLists 5 = .ok (.iconst 0, 1) := dk_3 (dk_at dksX11_makeLists_0 5 rfl rfl)
theorem dX11_makeLists_6 : decode cX11_makeLists 6 = .ok (.istore_n 1, 1) := dk_60 (dk_at dksX11_makeLists_0 6 rfl rfl)
theorem dX11_makeLists_7 : decode cX11_makeLists 7 = .ok (.iload_n 1, 1) := dk_27 (dk_at dksX11_makeLists_0 7 rfl rfl)
theorem dX11_makeLists_8 : decode cX11_makeLists 8 = .ok (.aload_n 0, 1) := dk_42 (dk_at dksX11_makeLists_0 8 rfl rfl)
theorem dX11_makeLists_9 : decode cX11_makeLists 9 = .ok (.getfield 755, 3) := dk_180 2 243 (dk_at dksX11_makeLists_0 9 rfl rfl)
theorem dX11_makeLists_12 : decode cX11_makeLists 12 = .ok (.if_icmp .ge 141, 3) := dk_162 0 141 (dk_at dksX11_makeLists_0 12 rfl rfl)
theorem dX11_makeLists_15 : decode cX11_makeLists 15 = .ok (.aload_n 0, 1) := dk_42 (dk_at dksX11_makeLists_0 15 rfl rfl)
theorem dX11_makeLists_16 : decode cX11_makeLists 16 = .ok (.getfield 611, 3) := dk_180 2 99 (dk_at dksX11_makeLists_0 16 rfl rfl)
theorem dX11_makeLists_19 : decode cX11_makeLists 19 = .ok (.bipush 9, 2) := dk_16 9 (dk_at dksX11_makeLists_0 19 rfl rfl)
theorem dX11_makeLists_21 : decode cX11_makeLists 21 = .ok (.aload_n 0, 1) := dk_42 (dk_at dksX11_makeLists_0 21 rfl rfl)
theorem dX11_makeLists_22 : decode cX11_makeLists 22 = .ok (.getfield 749, 3) := dk_180 2 237 (dk_at dksX11_makeLists_1 0 rfl rfl)
theorem dX11_makeLists_25 : decode cX11_makeLists 25 = .ok (.imul, 1) := dk_104 (dk_at dksX11_makeLists_1 3 rfl rfl)
theorem dX11_makeLists_26 : decode cX11_makeLists 26 = .ok (.iload_n 1, 1) := dk_27 (dk_at dksX11_makeLists_1 4 rfl rfl)
theorem dX11_makeLists_27 : decode cX11_makeLists 27 = .ok (.iadd, 1) := dk_96 (dk_at dksX11_makeLists_1 5 rfl rfl)
theorem dX11_makeLists_28 : decode cX11_makeLists 28 = .ok (.iaload, 1) := dk_46 (dk_at dksX11_makeLists_1 6 rfl rfl)
theorem dX11_makeLists_29 : decode cX11_makeLists 29 = .ok (.istore_n 2, 1) := dk_61 (dk_at dksX11_makeLists_1 7 rfl rfl)
theorem dX11_makeLists_30 : decode cX11_makeLists 30 = .ok (.aload_n 0, 1) := dk_42 (dk_at dksX11_makeLists_1 8 rfl rfl)
theorem dX11_makeLists_31 : decode cX11_makeLists 31 = .ok (.getfield 764, 3) := dk_180 2 252 (dk_at dksX11_makeLists_1 9 rfl rfl)
theorem dX11_makeLists_34 : decode cX11_makeLists 34 = .ok (.iload_n 2, 1) := dk_28 (dk_at dksX11_makeLists_1 12 rfl rfl)
theorem dX11_makeLists_35 : decode cX11_makeLists 35 = .ok (.baload, 1) := dk_51 (dk_at dksX11_makeLists_1 13 rfl rfl)
theorem dX11_makeLists_36 : decode cX11_makeLists 36 = .ok (.ifCond .ne 6, 3) := dk_154 0 6 (dk_at dksX11_makeLists_1 14 rfl rfl)
theorem dX11_makeLists_39 : decode cX11_makeLists 39 = .ok (.goto 108, 3) := dk_167 0 108 (dk_at dksX11_makeLists_1 17 rfl rfl)
theorem dX11_makeLists_42 : decode cX11_makeLists 42 = .ok (.iconst 0, 1) := dk_3 (dk_at dksX11_makeLists_1 20 rfl rfl)
theorem dX11_makeLists_43 : decode cX11_makeLists 43 = .ok (.istore_n 3, 1) := dk_62 (dk_at dksX11_makeLists_1 21 rfl rfl)
theorem dX11_makeLists_44 : decode cX11_makeLists 44 = .ok (.iload_n 3, 1) := dk_29 (dk_at dksX11_makeLists_1 22 rfl rfl)
theorem dX11_makeLists_45 : decode cX11_makeLists 45 = .ok (.aload_n 0, 1) := dk_42 (dk_at dksX11_makeLists_1 23 rfl rfl)
theorem dX11_makeLists_46 : decode cX11_makeLists 46 = .ok (.getfield 1054, 3) := dk_180 4 30 (dk_at dksX11_makeLists_2 0 rfl rfl)
theorem dX11_makeLists_49 : decode cX11_makeLists 49 = .ok (.if_icmp .ge 31, 3) := dk_162 0 31 (dk_at dksX11_makeLists_2 3 rfl rfl)
theorem dX11_makeLists_52 : decode cX11_makeLists 52 = .ok (.aload_n 0, 1) := dk_42 (dk_at dksX11_makeLists_2 6 rfl rfl)
theorem dX11_makeLists_53 : decode cX11_makeLists 53 = .ok (.iload_n 2, 1) := dk_28 (dk_at dksX11_makeLists_2 7 rfl rfl)
theorem dX11_makeLists_54 : decode cX11_makeLists 54 = .ok (.invokevirtual 752, 3) := dk_182 2 240 (dk_at dksX11_makeLists_2 8 rfl rfl)
theorem dX11_makeLists_57 : decode cX11_makeLists 57 = .ok (.ifCond .lt 17, 3) := dk_155 0 17 (dk_at dksX11_makeLists_2 11 rfl rfl)
theorem dX11_makeLists_60 : decode cX11_makeLists 60 = .ok (.aload_n 0, 1) := dk_42 (dk_at dksX11_makeLists_2 14 rfl rfl)
theorem dX11_makeLists_61 : decode cX11_makeLists 61 = .ok (.getfield 1057, 3) := dk_180 4 33 (dk_at dksX11_makeLists_2 15 rfl rfl)
theorem dX11_makeLists_64 : decode cX11_makeLists 64 = .ok (.iload_n 3, 1) := dk_29 (dk_at dksX11_makeLists_2 18 rfl rfl)
theorem dX11_makeLists_65 : decode cX11_makeLists 65 = .ok (.iaload, 1) := dk_46 (dk_at dksX11_makeLists_2 19 rfl rfl)
theorem dX11_makeLists_66 : decode cX11_makeLists 66 = .ok (.aload_n 0, 1) := dk_42 (dk_at dksX11_makeLists_2 20 rfl rfl)
theorem dX11_makeLists_67 : decode cX11_makeLists 67 = .ok (.iload_n 2, 1) := dk_28 (dk_at dksX11_makeLists_2 21 rfl rfl)
theorem dX11_makeLists_68 : decode cX11_makeLists 68 = .ok (.invokevirtual 752, 3) := dk_182 2 240 (dk_at dksX11_makeLists_3 0 rfl rfl)
theorem dX11_makeLists_71 : decode cX11_makeLists 71 = .ok (.if_icmp .eq 9, 3) := dk_159 0 9 (dk_at dksX11_makeLists_3 3 rfl rfl)
theorem dX11_makeLists_74 : decode cX11_makeLists 74 = .ok (.iinc 3 1, 3) := dk_132 3 1 (dk_at dksX11_makeLists_3 6 rfl rfl)
theorem dX11_makeLists_77 : decode cX11_makeLists 77 = .ok (.goto (-33), 3) := dk_167 255 223 (dk_at dksX11_makeLists_3 9 rfl rfl)
theorem dX11_makeLists_80 : decode cX11_makeLists 80 = .ok (.iload_n 3, 1) := dk_29 (dk_at dksX11_makeLists_3 12 rfl rfl)
theorem dX11_makeLists_81 : decode cX11_makeLists 81 = .ok (.aload_n 0, 1) := dk_42 (dk_at dksX11_makeLists_3 13 rfl rfl)
theorem dX11_makeLists_82 : decode cX11_makeLists 82 = .ok (.getfield 1054, 3) := dk_180 4 30 (dk_at dksX11_makeLists_3 14 rfl rfl)
theorem dX11_makeLists_85 : decode cX11_makeLists 85 = .ok (.if_icmp .ne 45, 3) := dk_160 0 45 (dk_at dksX11_makeLists_3 17 rfl rfl)
theorem dX11_makeLists_88 : decode cX11_makeLists 88 = .ok (.aload_n 0, 1) := dk_42 (dk_at dksX11_makeLists_3 20 rfl rfl)
theorem dX11_makeLists_89 : decode cX11_makeLists 89 = .ok (.dup, 1) := dk_89 (dk_at dksX11_makeLists_3 21 rfl rfl)
theorem dX11_makeLists_90 : decode cX11_makeLists 90 = .ok (.getfield 1054, 3) := dk_180 4 30 (dk_at dksX11_makeLists_4 0 rfl rfl)
theorem dX11_makeLists_93 : decode cX11_makeLists 93 = .ok (.iconst 1, 1) := dk_4 (dk_at dksX11_makeLists_4 3 rfl rfl)
theorem dX11_makeLists_94 : decode cX11_makeLists 94 = .ok (.iadd, 1) := dk_96 (dk_at dksX11_makeLists_4 4 rfl rfl)
theorem dX11_makeLists_95 : decode cX11_makeLists 95 = .ok (.putfield 1054, 3) := dk_181 4 30 (dk_at dksX11_makeLists_4 5 rfl rfl)
theorem dX11_makeLists_98 : decode cX11_makeLists 98 = .ok (.aload_n 0, 1) := dk_42 (dk_at dksX11_makeLists_4 8 rfl rfl)
theorem dX11_makeLists_99 : decode cX11_makeLists 99 = .ok (.getfield 1057, 3) := dk_180 4 33 (dk_at dksX11_makeLists_4 9 rfl rfl)
theorem dX11_makeLists_102 : decode cX11_makeLists 102 = .ok (.iload_n 3, 1) := dk_29 (dk_at dksX11_makeLists_4 12 rfl rfl)
theorem dX11_makeLists_103 : decode cX11_makeLists 103 = .ok (.aload_n 0, 1) := dk_42 (dk_at dksX11_makeLists_4 13 rfl rfl)
theorem dX11_makeLists_104 : decode cX11_makeLists 104 = .ok (.iload_n 2, 1) := dk_28 (dk_at dksX11_makeLists_4 14 rfl rfl)
theorem dX11_makeLists_105 : decode cX11_makeLists 105 = .ok (.invokevirtual 752, 3) := dk_182 2 240 (dk_at dksX11_makeLists_4 15 rfl rfl)
theorem dX11_makeLists_108 : decode cX11_makeLists 108 = .ok (.iastore, 1) := dk_79 (dk_at dksX11_makeLists_4 18 rfl rfl)
theorem dX11_makeLists_109 : decode cX11_makeLists 109 = .ok (.aload_n 0, 1) := dk_42 (dk_at dksX11_makeLists_4 19 rfl rfl)
theorem dX11_makeLists_110 : decode cX11_makeLists 110 = .ok (.getfield 1060, 3) := dk_180 4 36 (dk_at dksX11_makeLists_4 20 rfl rfl)
theorem dX11_makeLists_113 : decode cX11_makeLists 113 = .ok (.iload_n 3, 1) := dk_29 (dk_at dksX11_makeLists_4 23 rfl rfl)
theorem dX11_makeLists_114 : decode cX11_makeLists 114 = .ok (.iconst 0, 1) := dk_3 (dk_at dksX11_makeLists_5 0 rfl rfl)
theorem dX11_makeLists_115 : decode cX11_makeLists 115 = .ok (.iastore, 1) := dk_79 (dk_at dksX11_makeLists_5 1 rfl rfl)
theorem dX11_makeLists_116 : decode cX11_makeLists 116 = .ok (.aload_n 0, 1) := dk_42 (dk_at dksX11_makeLists_5 2 rfl rfl)
theorem dX11_makeLists_117 : decode cX11_makeLists 117 = .ok (.getfield 1063, 3) := dk_180 4 39 (dk_at dksX11_makeLists_5 3 rfl rfl)
theorem dX11_makeLists_120 : decode cX11_makeLists 120 = .ok (.iload_n 3, 1) := dk_29 (dk_at dksX11_makeLists_5 6 rfl rfl)
theorem dX11_makeLists_121 : decode cX11_makeLists 121 = .ok (.iconst 0, 1) := dk_3 (dk_at dksX11_makeLists_5 7 rfl rfl)
theorem dX11_makeLists_122 : decode cX11_makeLists 122 = .ok (.iastore, 1) := dk_79 (dk_at dksX11_makeLists_5 8 rfl rfl)
theorem dX11_makeLists_123 : decode cX11_makeLists 123 = .ok (.aload_n 0, 1) := dk_42 (dk_at dksX11_makeLists_5 9 rfl rfl)
theorem dX11_makeLists_124 : decode cX11_makeLists 124 = .ok (.getfield 1066, 3) := dk_180 4 42 (dk_at dksX11_makeLists_5 10 rfl rfl)
theorem dX11_makeLists_127 : decode cX11_makeLists 127 = .ok (.iload_n 3, 1) := dk_29 (dk_at dksX11_makeLists_5 13 rfl rfl)
theorem dX11_makeLists_128 : decode cX11_makeLists 128 = .ok (.iconst 0, 1) := dk_3 (dk_at dksX11_makeLists_5 14 rfl rfl)
theorem dX11_makeLists_129 : decode cX11_makeLists 129 = .ok (.iastore, 1) := dk_79 (dk_at dksX11_makeLists_5 15 rfl rfl)
theorem dX11_makeLists_130 : decode cX11_makeLists 130 = .ok (.aload_n 0, 1) := dk_42 (dk_at dksX11_makeLists_5 16 rfl rfl)
theorem dX11_makeLists_131 : decode cX11_makeLists 131 = .ok (.getfield 1069, 3) := dk_180 4 45 (dk_at dksX11_makeLists_5 17 rfl rfl)
theorem dX11_makeLists_134 : decode cX11_makeLists 134 = .ok (.iload_n 2, 1) := dk_28 (dk_at dksX11_makeLists_5 20 rfl rfl)
theorem dX11_makeLists_135 : decode cX11_makeLists 135 = .ok (.iload_n 3, 1) := dk_29 (dk_at dksX11_makeLists_5 21 rfl rfl)
theorem dX11_makeLists_136 : decode cX11_makeLists 136 = .ok (.iastore, 1) := dk_79 (dk_at dksX11_makeLists_5 22 rfl rfl)
theorem dX11_makeLists_137 : decode cX11_makeLists 137 = .ok (.aload_n 0, 1) := dk_42 (dk_at dksX11_makeLists_5 23 rfl rfl)
theorem dX11_makeLists_138 : decode cX11_makeLists 138 = .ok (.getfield 1060, 3) := dk_180 4 36 (dk_at dksX11_makeLists_6 0 rfl rfl)
theorem dX11_makeLists_141 : decode cX11_makeLists 141 = .ok (.iload_n 3, 1) := dk_29 (dk_at dksX11_makeLists_6 3 rfl rfl)
theorem dX11_makeLists_142 : decode cX11_makeLists 142 = .ok (.dup2, 1) := dk_92 (dk_at dksX11_makeLists_6 4 rfl rfl)
theorem dX11_makeLists_143 : decode cX11_makeLists 143 = .ok (.iaload, 1) := dk_46 (dk_at dksX11_makeLists_6 5 rfl rfl)
theorem dX11_makeLists_144 : decode cX11_makeLists 144 = .ok (.iconst 1, 1) := dk_4 (dk_at dksX11_makeLists_6 6 rfl rfl)
theorem dX11_makeLists_145 : decode cX11_makeLists 145 = .ok (.iadd, 1) := dk_96 (dk_at dksX11_makeLists_6 7 rfl rfl)
theorem dX11_makeLists_146 : decode cX11_makeLists 146 = .ok (.iastore, 1) := dk_79 (dk_at dksX11_makeLists_6 8 rfl rfl)
theorem dX11_makeLists_147 : decode cX11_makeLists 147 = .ok (.iinc 1 1, 3) := dk_132 1 1 (dk_at dksX11_makeLists_6 9 rfl rfl)
theorem dX11_makeLists_150 : decode cX11_makeLists 150 = .ok (.goto (-143), 3) := dk_167 255 113 (dk_at dksX11_makeLists_6 12 rfl rfl)
theorem dX11_makeLists_153 : decode cX11_makeLists 153 = .ok (.iconst 0, 1) := dk_3 (dk_at dksX11_makeLists_6 15 rfl rfl)
theorem dX11_makeLists_154 : decode cX11_makeLists 154 = .ok (.istore_n 1, 1) := dk_60 (dk_at dksX11_makeLists_6 16 rfl rfl)
theorem dX11_makeLists_155 : decode cX11_makeLists 155 = .ok (.iload_n 1, 1) := dk_27 (dk_at dksX11_makeLists_6 17 rfl rfl)
theorem dX11_makeLists_156 : decode cX11_makeLists 156 = .ok (.aload_n 0, 1) := dk_42 (dk_at dksX11_makeLists_6 18 rfl rfl)
theorem dX11_makeLists_157 : decode cX11_makeLists 157 = .ok (.getfield 767, 3) := dk_180 2 255 (dk_at dksX11_makeLists_6 19 rfl rfl)
theorem dX11_makeLists_160 : decode cX11_makeLists 160 = .ok (.if_icmp .ge 62, 3) := dk_162 0 62 (dk_at dksX11_makeLists_7 0 rfl rfl)
theorem dX11_makeLists_163 : decode cX11_makeLists 163 = .ok (.iconst (-1), 1) := dk_2 (dk_at dksX11_makeLists_7 3 rfl rfl)
theorem dX11_makeLists_164 : decode cX11_makeLists 164 = .ok (.istore_n 2, 1) := dk_61 (dk_at dksX11_makeLists_7 4 rfl rfl)
theorem dX11_makeLists_165 : decode cX11_makeLists 165 = .ok (.iconst 0, 1) := dk_3 (dk_at dksX11_makeLists_7 5 rfl rfl)
theorem dX11_makeLists_166 : decode cX11_makeLists 166 = .ok (.istore_n 3, 1) := dk_62 (dk_at dksX11_makeLists_7 6 rfl rfl)
theorem dX11_makeLists_167 : decode cX11_makeLists 167 = .ok (.iload_n 3, 1) := dk_29 (dk_at dksX11_makeLists_7 7 rfl rfl)
theorem dX11_makeLists_168 : decode cX11_makeLists 168 = .ok (.aload_n 0, 1) := dk_42 (dk_at dksX11_makeLists_7 8 rfl rfl)
theorem dX11_makeLists_169 : decode cX11_makeLists 169 = .ok (.getfield 755, 3) := dk_180 2 243 (dk_at dksX11_makeLists_7 9 rfl rfl)
theorem dX11_makeLists_172 : decode cX11_makeLists 172 = .ok (.if_icmp .ge 34, 3) := dk_162 0 34 (dk_at dksX11_makeLists_7 12 rfl rfl)
theorem dX11_makeLists_175 : decode cX11_makeLists 175 = .ok (.aload_n 0, 1) := dk_42 (dk_at dksX11_makeLists_7 15 rfl rfl)
theorem dX11_makeLists_176 : decode cX11_makeLists 176 = .ok (.getfield 780, 3) := dk_180 3 12 (dk_at dksX11_makeLists_7 16 rfl rfl)
theorem dX11_makeLists_179 : decode cX11_makeLists 179 = .ok (.bipush 9, 2) := dk_16 9 (dk_at dksX11_makeLists_7 19 rfl rfl)
theorem dX11_makeLists_181 : decode cX11_makeLists 181 = .ok (.iload_n 1, 1) := dk_27 (dk_at dksX11_makeLists_7 21 rfl rfl)
theorem dX11_makeLists_182 : decode cX11_makeLists 182 = .ok (.imul, 1) := dk_104 (dk_at dksX11_makeLists_7 22 rfl rfl)
theorem dX11_makeLists_183 : decode cX11_makeLists 183 = .ok (.iload_n 3, 1) := dk_29 (dk_at dksX11_makeLists_7 23 rfl rfl)
theorem dX11_makeLists_184 : decode cX11_makeLists 184 = .ok (.iadd, 1) := dk_96 (dk_at dksX11_makeLists_8 0 rfl rfl)
theorem dX11_makeLists_185 : decode cX11_makeLists 185 = .ok (.iaload, 1) := dk_46 (dk_at dksX11_makeLists_8 1 rfl rfl)
theorem dX11_makeLists_186 : decode cX11_makeLists 186 = .ok (.ifCond .le 12, 3) := dk_158 0 12 (dk_at dksX11_makeLists_8 2 rfl rfl)
theorem dX11_makeLists_189 : decode cX11_makeLists 189 = .ok (.aload_n 0, 1) := dk_42 (dk_at dksX11_makeLists_8 5 rfl rfl)
theorem dX11_makeLists_190 : decode cX11_makeLists 190 = .ok (.getfield 1069, 3) := dk_180 4 45 (dk_at dksX11_makeLists_8 6 rfl rfl)
theorem dX11_makeLists_193 : decode cX11_makeLists 193 = .ok (.iload_n 3, 1) := dk_29 (dk_at dksX11_makeLists_8 9 rfl rfl)
theorem dX11_makeLists_194 : decode cX11_makeLists 194 = .ok (.iaload, 1) := dk_46 (dk_at dksX11_makeLists_8 10 rfl rfl)
theorem dX11_makeLists_195 : decode cX11_makeLists 195 = .ok (.goto 4, 3) := dk_167 0 4 (dk_at dksX11_makeLists_8 11 rfl rfl)
theorem dX11_makeLists_198 : decode cX11_makeLists 198 = .ok (.iload_n 2, 1) := dk_28 (dk_at dksX11_makeLists_8 14 rfl rfl)
theorem dX11_makeLists_199 : decode cX11_makeLists 199 = .ok (.istore_n 2, 1) := dk_61 (dk_at dksX11_makeLists_8 15 rfl rfl)
theorem dX11_makeLists_200 : decode cX11_makeLists 200 = .ok (.iinc 3 1, 3) := dk_132 3 1 (dk_at dksX11_makeLists_8 16 rfl rfl)
theorem dX11_makeLists_203 : decode cX11_makeLists 203 = .ok (.goto (-36), 3) := dk_167 255 220 (dk_at dksX11_makeLists_8 19 rfl rfl)
theorem dX11_makeLists_206 : decode cX11_makeLists 206 = .ok (.aload_n 0, 1) := dk_42 (dk_at dksX11_makeLists_8 22 rfl rfl)
theorem dX11_makeLists_207 : decode cX11_makeLists 207 = .ok (.getfield 1063, 3) := dk_180 4 39 (dk_at dksX11_makeLists_9 0 rfl rfl)
theorem dX11_makeLists_210 : decode cX11_makeLists 210 = .ok (.iload_n 2, 1) := dk_28 (dk_at dksX11_makeLists_9 3 rfl rfl)
theorem dX11_makeLists_211 : decode cX11_makeLists 211 = .ok (.dup2, 1) := dk_92 (dk_at dksX11_makeLists_9 4 rfl rfl)
theorem dX11_makeLists_212 : decode cX11_makeLists 212 = .ok (.iaload, 1) := dk_46 (dk_at dksX11_makeLists_9 5 rfl rfl)
theorem dX11_makeLists_213 : decode cX11_makeLists 213 = .ok (.iconst 1, 1) := dk_4 (dk_at dksX11_makeLists_9 6 rfl rfl)
theorem dX11_makeLists_214 : decode cX11_makeLists 214 = .ok (.iadd, 1) := dk_96 (dk_at dksX11_makeLists_9 7 rfl rfl)
theorem dX11_makeLists_215 : decode cX11_makeLists 215 = .ok (.iastore, 1) := dk_79 (dk_at dksX11_makeLists_9 8 rfl rfl)
theorem dX11_makeLists_216 : decode cX11_makeLists 216 = .ok (.iinc 1 1, 3) := dk_132 1 1 (dk_at dksX11_makeLists_9 9 rfl rfl)
theorem dX11_makeLists_219 : decode cX11_makeLists 219 = .ok (.goto (-64), 3) := dk_167 255 192 (dk_at dksX11_makeLists_9 12 rfl rfl)
theorem dX11_makeLists_222 : decode cX11_makeLists 222 = .ok (.aload_n 0, 1) := dk_42 (dk_at dksX11_makeLists_9 15 rfl rfl)
theorem dX11_makeLists_223 : decode cX11_makeLists 223 = .ok (.aload_n 0, 1) := dk_42 (dk_at dksX11_makeLists_9 16 rfl rfl)
theorem dX11_makeLists_224 : decode cX11_makeLists 224 = .ok (.getfield 749, 3) := dk_180 2 237 (dk_at dksX11_makeLists_9 17 rfl rfl)
theorem dX11_makeLists_227 : decode cX11_makeLists 227 = .ok (.iconst 4, 1) := dk_7 (dk_at dksX11_makeLists_9 20 rfl rfl)
theorem dX11_makeLists_228 : decode cX11_makeLists 228 = .ok (.invokevirtual 485, 3) := dk_182 1 229 (dk_at dksX11_makeLists_9 21 rfl rfl)
theorem dX11_makeLists_231 : decode cX11_makeLists 231 = .ok (.istore_n 1, 1) := dk_60 (dk_at dksX11_makeLists_10 0 rfl rfl)
theorem dX11_makeLists_232 : decode cX11_makeLists 232 = .ok (.aload_n 0, 1) := dk_42 (dk_at dksX11_makeLists_10 1 rfl rfl)
theorem dX11_makeLists_233 : decode cX11_makeLists 233 = .ok (.aload_n 0, 1) := dk_42 (dk_at dksX11_makeLists_10 2 rfl rfl)
theorem dX11_makeLists_234 : decode cX11_makeLists 234 = .ok (.getfield 749, 3) := dk_180 2 237 (dk_at dksX11_makeLists_10 3 rfl rfl)
theorem dX11_makeLists_237 : decode cX11_makeLists 237 = .ok (.iconst 5, 1) := dk_8 (dk_at dksX11_makeLists_10 6 rfl rfl)
theorem dX11_makeLists_238 : decode cX11_makeLists 238 = .ok (.invokevirtual 485, 3) := dk_182 1 229 (dk_at dksX11_makeLists_10 7 rfl rfl)
theorem dX11_makeLists_241 : decode cX11_makeLists 241 = .ok (.istore_n 2, 1) := dk_61 (dk_at dksX11_makeLists_10 10 rfl rfl)
theorem dX11_makeLists_242 : decode cX11_makeLists 242 = .ok (.iconst 0, 1) := dk_3 (dk_at dksX11_makeLists_10 11 rfl rfl)
theorem dX11_makeLists_243 : decode cX11_makeLists 243 = .ok (.istore_n 3, 1) := dk_62 (dk_at dksX11_makeLists_10 12 rfl rfl)
theorem dX11_makeLists_244 : decode cX11_makeLists 244 = .ok (.iconst 0, 1) := dk_3 (dk_at dksX11_makeLists_10 13 rfl rfl)
theorem dX11_makeLists_245 : decode cX11_makeLists 245 = .ok (.istore 4, 2) := dk_54 4 (dk_at dksX11_makeLists_10 14 rfl rfl)
theorem dX11_makeLists_247 : decode cX11_makeLists 247 = .ok (.iload 4, 2) := dk_21 4 (dk_at dksX11_makeLists_10 16 rfl rfl)
theorem dX11_makeLists_249 : decode cX11_makeLists 249 = .ok (.aload_n 0, 1) := dk_42 (dk_at dksX11_makeLists_10 18 rfl rfl)
theorem dX11_makeLists_250 : decode cX11_makeLists 250 = .ok (.getfield 1054, 3) := dk_180 4 30 (dk_at dksX11_makeLists_10 19 rfl rfl)
theorem dX11_makeLists_253 : decode cX11_makeLists 253 = .ok (.if_icmp .ge 53, 3) := dk_162 0 53 (dk_at dksX11_makeLists_11 0 rfl rfl)
theorem dX11_makeLists_256 : decode cX11_makeLists 256 = .ok (.aload_n 0, 1) := dk_42 (dk_at dksX11_makeLists_11 3 rfl rfl)
theorem dX11_makeLists_257 : decode cX11_makeLists 257 = .ok (.getfield 1072, 3) := dk_180 4 48 (dk_at dksX11_makeLists_11 4 rfl rfl)
theorem dX11_makeLists_260 : decode cX11_makeLists 260 = .ok (.iload 4, 2) := dk_21 4 (dk_at dksX11_makeLists_11 7 rfl rfl)
theorem dX11_makeLists_262 : decode cX11_makeLists 262 = .ok (.iload_n 2, 1) := dk_28 (dk_at dksX11_makeLists_11 9 rfl rfl)
theorem dX11_makeLists_263 : decode cX11_makeLists 263 = .ok (.ifCond .eq 21, 3) := dk_153 0 21 (dk_at dksX11_makeLists_11 10 rfl rfl)
theorem dX11_makeLists_266 : decode cX11_makeLists 266 = .ok (.aload_n 0, 1) := dk_42 (dk_at dksX11_makeLists_11 13 rfl rfl)
theorem dX11_makeLists_267 : decode cX11_makeLists 267 = .ok (.getfield 1063, 3) := dk_180 4 39 (dk_at dksX11_makeLists_11 14 rfl rfl)
theorem dX11_makeLists_270 : decode cX11_makeLists 270 = .ok (.iload 4, 2) := dk_21 4 (dk_at dksX11_makeLists_11 17 rfl rfl)
theorem dX11_makeLists_272 : decode cX11_makeLists 272 = .ok (.iaload, 1) := dk_46 (dk_at dksX11_makeLists_11 19 rfl rfl)
theorem dX11_makeLists_273 : decode cX11_makeLists 273 = .ok (.iload_n 2, 1) := dk_28 (dk_at dksX11_makeLists_11 20 rfl rfl)
theorem dX11_makeLists_274 : decode cX11_makeLists 274 = .ok (.imul, 1) := dk_104 (dk_at dksX11_makeLists_11 21 rfl rfl)
theorem dX11_makeLists_275 : decode cX11_makeLists 275 = .ok (.iload_n 1, 1) := dk_27 (dk_at dksX11_makeLists_11 22 rfl rfl)
theorem dX11_makeLists_276 : decode cX11_makeLists 276 = .ok (.aload_n 0, 1) := dk_42 (dk_at dksX11_makeLists_11 23 rfl rfl)
theorem dX11_makeLists_277 : decode cX11_makeLists 277 = .ok (.getfield 767, 3) := dk_180 2 255 (dk_at dksX11_makeLists_12 0 rfl rfl)
theorem dX11_makeLists_280 : decode cX11_makeLists 280 = .ok (.imul, 1) := dk_104 (dk_at dksX11_makeLists_12 3 rfl rfl)
theorem dX11_makeLists_281 : decode cX11_makeLists 281 = .ok (.if_icmp .lt 7, 3) := dk_161 0 7 (dk_at dksX11_makeLists_12 4 rfl rfl)
theorem dX11_makeLists_284 : decode cX11_makeLists 284 = .ok (.iconst 1, 1) := dk_4 (dk_at dksX11_makeLists_12 7 rfl rfl)
theorem dX11_makeLists_285 : decode cX11_makeLists 285 = .ok (.goto 4, 3) := dk_167 0 4 (dk_at dksX11_makeLists_12 8 rfl rfl)
theorem dX11_makeLists_288 : decode cX11_makeLists 288 = .ok (.iconst 0, 1) := dk_3 (dk_at dksX11_makeLists_12 11 rfl rfl)
theorem dX11_makeLists_289 : decode cX11_makeLists 289 = .ok (.bastore, 1) := dk_84 (dk_at dksX11_makeLists_12 12 rfl rfl)
theorem dX11_makeLists_290 : decode cX11_makeLists 290 = .ok (.iload_n 3, 1) := dk_29 (dk_at dksX11_makeLists_12 13 rfl rfl)
theorem dX11_makeLists_291 : decode cX11_makeLists 291 = .ok (.aload_n 0, 1) := dk_42 (dk_at dksX11_makeLists_12 14 rfl rfl)
theorem dX11_makeLists_292 : decode cX11_makeLists 292 = .ok (.getfield 1072, 3) := dk_180 4 48 (dk_at dksX11_makeLists_12 15 rfl rfl)
theorem dX11_makeLists_295 : decode cX11_makeLists 295 = .ok (.iload 4, 2) := dk_21 4 (dk_at dksX11_makeLists_12 18 rfl rfl)
theorem dX11_makeLists_297 : decode cX11_makeLists 297 = .ok (.baload, 1) := dk_51 (dk_at dksX11_makeLists_12 20 rfl rfl)
theorem dX11_makeLists_298 : decode cX11_makeLists 298 = .ok (.ior, 1) := dk_128 (dk_at dksX11_makeLists_12 21 rfl rfl)
theorem dX11_makeLists_299 : decode cX11_makeLists 299 = .ok (.istore_n 3, 1) := dk_62 (dk_at dksX11_makeLists_12 22 rfl rfl)
theorem dX11_makeLists_300 : decode cX11_makeLists 300 = .ok (.iinc 4 1, 3) := dk_132 4 1 (dk_at dksX11_makeLists_13 0 rfl rfl)
theorem dX11_makeLists_303 : decode cX11_makeLists 303 = .ok (.goto (-56), 3) := dk_167 255 200 (dk_at dksX11_makeLists_13 3 rfl rfl)
theorem dX11_makeLists_306 : decode cX11_makeLists 306 = .ok (.iconst 0, 1) := dk_3 (dk_at dksX11_makeLists_13 6 rfl rfl)
theorem dX11_makeLists_307 : decode cX11_makeLists 307 = .ok (.istore 4, 2) := dk_54 4 (dk_at dksX11_makeLists_13 7 rfl rfl)
theorem dX11_makeLists_309 : decode cX11_makeLists 309 = .ok (.iload 4, 2) := dk_21 4 (dk_at dksX11_makeLists_13 9 rfl rfl)
theorem dX11_makeLists_311 : decode cX11_makeLists 311 = .ok (.aload_n 0, 1) := dk_42 (dk_at dksX11_makeLists_13 11 rfl rfl)
theorem dX11_makeLists_312 : decode cX11_makeLists 312 = .ok (.getfield 1054, 3) := dk_180 4 30 (dk_at dksX11_makeLists_13 12 rfl rfl)
theorem dX11_makeLists_315 : decode cX11_makeLists 315 = .ok (.if_icmp .ge 21, 3) := dk_162 0 21 (dk_at dksX11_makeLists_13 15 rfl rfl)
theorem dX11_makeLists_318 : decode cX11_makeLists 318 = .ok (.iload_n 3, 1) := dk_29 (dk_at dksX11_makeLists_13 18 rfl rfl)
theorem dX11_makeLists_319 : decode cX11_makeLists 319 = .ok (.ifCond .ne 17, 3) := dk_154 0 17 (dk_at dksX11_makeLists_13 19 rfl rfl)
theorem dX11_makeLists_322 : decode cX11_makeLists 322 = .ok (.aload_n 0, 1) := dk_42 (dk_at dksX11_makeLists_13 22 rfl rfl)
theorem dX11_makeLists_323 : decode cX11_makeLists 323 = .ok (.getfield 1072, 3) := dk_180 4 48 (dk_at dksX11_makeLists_14 0 rfl rfl)
theorem dX11_makeLists_326 : decode cX11_makeLists 326 = .ok (.iload 4, 2) := dk_21 4 (dk_at dksX11_makeLists_14 3 rfl rfl)
theorem dX11_makeLists_328 : decode cX11_makeLists 328 = .ok (.iconst 1, 1) := dk_4 (dk_at dksX11_makeLists_14 5 rfl rfl)
theorem dX11_makeLists_329 : decode cX11_makeLists 329 = .ok (.bastore, 1) := dk_84 (dk_at dksX11_makeLists_14 6 rfl rfl)
theorem dX11_makeLists_330 : decode cX11_makeLists 330 = .ok (.iinc 4 1, 3) := dk_132 4 1 (dk_at dksX11_makeLists_14 7 rfl rfl)
theorem dX11_makeLists_333 : decode cX11_makeLists 333 = .ok (.goto (-24), 3) := dk_167 255 232 (dk_at dksX11_makeLists_14 10 rfl rfl)
theorem dX11_makeLists_336 : decode cX11_makeLists 336 = .ok (.return_, 1) := dk_177 (dk_at dksX11_makeLists_14 13 rfl rfl)
abbrev cX11_votesOfAll : ByteArray := prog_17_method_179_code
def yX11_votesOfAll : MethodName := ⟨RX11, "votesOfAll", "()I"⟩
def dkwX11_votesOfAll_1 : List UInt8 := [180, 4, 39, 28, 46, 167, 0, 4, 3, 96, 60, 132, 2, 1, 167, 255, 223, 27, 172]
abbrev dktX11_votesOfAll_1 : List UInt8 := dkwX11_votesOfAll_1 ++ []
def dkwX11_votesOfAll_0 : List UInt8 := [3, 60, 3, 61, 28, 42, 180, 4, 30, 162, 0, 31, 27, 42, 180, 4, 48, 28, 51, 153, 0, 12, 42]
abbrev dktX11_votesOfAll_0 : List UInt8 := dkwX11_votesOfAll_0 ++ dktX11_votesOfAll_1
theorem dksX11_votesOfAll_0 : cX11_votesOfAll.data.toList.drop 0 = dktX11_votesOfAll_0 := by decide +kernel
theorem dksX11_votesOfAll_1 : cX11_votesOfAll.data.toList.drop 23 = dktX11_votesOfAll_1 := dk_seg dksX11_votesOfAll_0 23 rfl rfl
theorem dX11_votesOfAll_0 : decode cX11_votesOfAll 0 = .ok (.iconst 0, 1) := dk_3 (dk_at dksX11_votesOfAll_0 0 rfl rfl)
theorem dX11_votesOfAll_1 : decode cX11_votesOfAll 1 = .ok (.istore_n 1, 1) := dk_60 (dk_at dksX11_votesOfAll_0 1 rfl rfl)
theorem dX11_votesOfAll_2 : decode cX11_votesOfAll 2 = .ok (.iconst 0, 1) := dk_3 (dk_at dksX11_votesOfAll_0 2 rfl rfl)
theorem dX11_votesOfAll_3 : decode cX11_votesOfAll 3 = .ok (.istore_n 2, 1) := dk_61 (dk_at dksX11_votesOfAll_0 3 rfl rfl)
theorem dX11_votesOfAll_4 : decode cX11_votesOfAll 4 = .ok (.iload_n 2, 1) := dk_28 (dk_at dksX11_votesOfAll_0 4 rfl rfl)
theorem dX11_votesOfAll_5 : decode cX11_votesOfAll 5 = .ok (.aload_n 0, 1) := dk_42 (dk_at dksX11_votesOfAll_0 5 rfl rfl)
theorem dX11_votesOfAll_6 : decode cX11_votesOfAll 6 = .ok (.getfield 1054, 3) := dk_180 4 30 (dk_at dksX11_votesOfAll_0 6 rfl rfl)
theorem dX11_votesOfAll_9 : decode cX11_votesOfAll 9 = .ok (.if_icmp .ge 31, 3) := dk_162 0 31 (dk_at dksX11_votesOfAll_0 9 rfl rfl)
theorem dX11_votesOfAll_12 : decode cX11_votesOfAll 12 = .ok (.iload_n 1, 1) := dk_27 (dk_at dksX11_votesOfAll_0 12 rfl rfl)
theorem dX11_votesOfAll_13 : decode cX11_votesOfAll 13 = .ok (.aload_n 0, 1) := dk_42 (dk_at dksX11_votesOfAll_0 13 rfl rfl)
theorem dX11_votesOfAll_14 : decode cX11_votesOfAll 14 = .ok (.getfield 1072, 3) := dk_180 4 48 (dk_at dksX11_votesOfAll_0 14 rfl rfl)
theorem dX11_votesOfAll_17 : decode cX11_votesOfAll 17 = .ok (.iload_n 2, 1) := dk_28 (dk_at dksX11_votesOfAll_0 17 rfl rfl)
theorem dX11_votesOfAll_18 : decode cX11_votesOfAll 18 = .ok (.baload, 1) := dk_51 (dk_at dksX11_votesOfAll_0 18 rfl rfl)
theorem dX11_votesOfAll_19 : decode cX11_votesOfAll 19 = .ok (.ifCond .eq 12, 3) := dk_153 0 12 (dk_at dksX11_votesOfAll_0 19 rfl rfl)
theorem dX11_votesOfAll_22 : decode cX11_votesOfAll 22 = .ok (.aload_n 0, 1) := dk_42 (dk_at dksX11_votesOfAll_0 22 rfl rfl)
theorem dX11_votesOfAll_23 : decode cX11_votesOfAll 23 = .ok (.getfield 1063, 3) := dk_180 4 39 (dk_at dksX11_votesOfAll_1 0 rfl rfl)
theorem dX11_votesOfAll_26 : decode cX11_votesOfAll 26 = .ok (.iload_n 2, 1) := dk_28 (dk_at dksX11_votesOfAll_1 3 rfl rfl)
theorem dX11_votesOfAll_27 : decode cX11_votesOfAll 27 = .ok (.iaload, 1) := dk_46 (dk_at dksX11_votesOfAll_1 4 rfl rfl)
theorem dX11_votesOfAll_28 : decode cX11_votesOfAll 28 = .ok (.goto 4, 3) := dk_167 0 4 (dk_at dksX11_votesOfAll_1 5 rfl rfl)
theorem dX11_votesOfAll_31 : decode cX11_votesOfAll 31 = .ok (.iconst 0, 1) := dk_3 (dk_at dksX11_votesOfAll_1 8 rfl rfl)
theorem dX11_votesOfAll_32 : decode cX11_votesOfAll 32 = .ok (.iadd, 1) := dk_96 (dk_at dksX11_votesOfAll_1 9 rfl rfl)
theorem dX11_votesOfAll_33 : decode cX11_votesOfAll 33 = .ok (.istore_n 1, 1) := dk_60 (dk_at dksX11_votesOfAll_1 10 rfl rfl)
theorem dX11_votesOfAll_34 : decode cX11_votesOfAll 34 = .ok (.iinc 2 1, 3) := dk_132 2 1 (dk_at dksX11_votesOfAll_1 11 rfl rfl)
theorem dX11_votesOfAll_37 : decode cX11_votesOfAll 37 = .ok (.goto (-33), 3) := dk_167 255 223 (dk_at dksX11_votesOfAll_1 14 rfl rfl)
theorem dX11_votesOfAll_40 : decode cX11_votesOfAll 40 = .ok (.iload_n 1, 1) := dk_27 (dk_at dksX11_votesOfAll_1 17 rfl rfl)
theorem dX11_votesOfAll_41 : decode cX11_votesOfAll 41 = .ok (.ireturn, 1) := dk_172 (dk_at dksX11_votesOfAll_1 18 rfl rfl)
abbrev cX11_level : ByteArray := prog_17_method_186_code
def yX11_level : MethodName := ⟨RX11, "level", "()V"⟩
def dkwX11_level_9 : List UInt8 := [79, 132, 4, 1, 167, 255, 218, 177]
abbrev dktX11_level_9 : List UInt8 := dkwX11_level_9 ++ []
def dkwX11_level_8 : List UInt8 := [180, 4, 51, 21, 4, 3, 42, 180, 4, 51, 21, 4, 46, 42, 180, 4, 82, 21, 4, 46, 100, 184, 4, 16]
abbrev dktX11_level_8 : List UInt8 := dkwX11_level_8 ++ dktX11_level_9
def dkwX11_level_7 : List UInt8 := [167, 0, 4, 3, 96, 181, 3, 70, 167, 255, 141, 3, 54, 4, 21, 4, 42, 180, 4, 30, 162, 0, 35, 42]
abbrev dktX11_level_7 : List UInt8 := dkwX11_level_7 ++ dktX11_level_8
def dkwX11_level_6 : List UInt8 := [180, 3, 70, 27, 162, 0, 7, 4, 167, 0, 4, 3, 62, 42, 89, 180, 3, 70, 29, 153, 0, 7, 4]
abbrev dktX11_level_6 : List UInt8 := dkwX11_level_6 ++ dktX11_level_7
def dkwX11_level_5 : List UInt8 := [164, 0, 7, 4, 167, 0, 4, 3, 128, 54, 4, 132, 5, 1, 167, 255, 207, 21, 4, 153, 0, 15, 42]
abbrev dktX11_level_5 : List UInt8 := dkwX11_level_5 ++ dktX11_level_6
def dkwX11_level_4 : List UInt8 := [180, 4, 48, 21, 5, 51, 153, 0, 24, 42, 180, 4, 82, 21, 5, 46, 42, 180, 4, 51, 21, 5, 46]
abbrev dktX11_level_4 : List UInt8 := dkwX11_level_4 ++ dktX11_level_5
def dkwX11_level_3 : List UInt8 := [3, 182, 4, 88, 3, 54, 4, 3, 54, 5, 21, 5, 42, 180, 4, 30, 162, 0, 46, 21, 4, 42]
abbrev dktX11_level_3 : List UInt8 := dkwX11_level_3 ++ dktX11_level_4
def dkwX11_level_2 : List UInt8 := [132, 3, 1, 167, 255, 223, 4, 62, 29, 153, 0, 117, 42, 42, 180, 3, 70, 42, 180, 4, 18, 100, 28, 96]
abbrev dktX11_level_2 : List UInt8 := dkwX11_level_2 ++ dktX11_level_3
def dkwX11_level_1 : List UInt8 := [28, 42, 180, 4, 48, 29, 51, 153, 0, 12, 42, 180, 4, 82, 29, 46, 167, 0, 4, 3, 96, 61]
abbrev dktX11_level_1 : List UInt8 := dkwX11_level_1 ++ dktX11_level_2
def dkwX11_level_0 : List UInt8 := [5, 42, 180, 2, 246, 42, 180, 4, 18, 96, 104, 60, 3, 61, 3, 62, 29, 42, 180, 4, 30, 162, 0, 31]
abbrev dktX11_level_0 : List UInt8 := dkwX11_level_0 ++ dktX11_level_1
theorem dksX11_level_0 : cX11_level.data.toList.drop 0 = dktX11_level_0 := by decide +kernel
theorem dksX11_level_1 : cX11_level.data.toList.drop 24 = dktX11_level_1 := dk_seg dksX11_level_0 24 rfl rfl
theorem dksX11_level_2 : cX11_level.data.toList.drop 46 = dktX11_level_2 := dk_seg dksX11_level_1 22 rfl rfl
theorem dksX11_level_3 : cX11_level.data.toList.drop 70 = dktX11_level_3 := dk_seg dksX11_level_2 24 rfl rfl
theorem dksX11_level_4 : cX11_level.data.toList.drop 92 = dktX11_level_4 := dk_seg dksX11_level_3 22 rfl rfl
theorem dksX11_level_5 : cX11_level.data.toList.drop 115 = dktX11_level_5 := dk_seg dksX11_level_4 23 rfl rfl
theorem dksX11_level_6 : cX11_level.data.toList.drop 138 = dktX11_level_6 := dk_seg dksX11_level_5 23 rfl rfl
theorem dksX11_level_7 : cX11_level.data.toList.drop 161 = dktX11_level_7 := dk_seg dksX11_level_6 23 rfl rfl
theorem dksX11_level_8 : cX11_level.data.toList.drop 185 = dktX11_level_8 := dk_seg dksX11_level_7 24 rfl rfl
theorem dksX11_level_9 : cX11_level.data.toList.drop 209 = dktX11_level_9 := dk_seg dksX11_level_8 24 rfl rfl
theorem dX11_level_0 : decode cX11_level 0 = .ok (.iconst 2, 1) := dk_5 (dk_at dksX11_level_0 0 rfl rfl)
theorem dX11_level_1 : decode cX11_level 1 = .ok (.aload_n 0, 1) := dk_42 (dk_at dksX11_level_0 1 rfl rfl)
theorem dX11_level_2 : decode cX11_level 2 = .ok (.getfield 758, 3) := dk_180 2 246 (dk_at dksX11_level_0 2 rfl rfl)
theorem dX11_level_5 : decode cX11_level 5 = .ok (.aload_n 0, 1) := dk_42 (dk_at dksX11_level_0 5 rfl rfl)
theorem dX11_level_6 : decode cX11_level 6 = .ok (.getfield 1042, 3) := dk_180 4 18 (dk_at dksX11_level_0 6 rfl rfl)
theorem dX11_level_9 : decode cX11_level 9 = .ok (.iadd, 1) := dk_96 (dk_at dksX11_level_0 9 rfl rfl)
theorem dX11_level_10 : decode cX11_level 10 = .ok (.imul, 1) := dk_104 (dk_at dksX11_level_0 10 rfl rfl)
theorem dX11_level_11 : decode cX11_level 11 = .ok (.istore_n 1, 1) := dk_60 (dk_at dksX11_level_0 11 rfl rfl)
theorem dX11_level_12 : decode cX11_level 12 = .ok (.iconst 0, 1) := dk_3 (dk_at dksX11_level_0 12 rfl rfl)
theorem dX11_level_13 : decode cX11_level 13 = .ok (.istore_n 2, 1) := dk_61 (dk_at dksX11_level_0 13 rfl rfl)
theorem dX11_level_14 : decode cX11_level 14 = .ok (.iconst 0, 1) := dk_3 (dk_at dksX11_level_0 14 rfl rfl)
theorem dX11_level_15 : decode cX11_level 15 = .ok (.istore_n 3, 1) := dk_62 (dk_at dksX11_level_0 15 rfl rfl)
theorem dX11_level_16 : decode cX11_level 16 = .ok (.iload_n 3, 1) := dk_29 (dk_at dksX11_level_0 16 rfl rfl)
theorem dX11_level_17 : decode cX11_level 17 = .ok (.aload_n 0, 1) := dk_42 (dk_at dksX11_level_0 17 rfl rfl)
theorem dX11_level_18 : decode cX11_level 18 = .ok (.getfield 1054, 3) := dk_180 4 30 (dk_at dksX11_level_0 18 rfl rfl)
theorem dX11_level_21 : decode cX11_level 21 = .ok (.if_icmp .ge 31, 3) := dk_162 0 31 (dk_at dksX11_level_0 21 rfl rfl)
theorem dX11_level_24 : decode cX11_level 24 = .ok (.iload_n 2, 1) := dk_28 (dk_at dksX11_level_1 0 rfl rfl)
theorem dX11_level_25 : decode cX11_level 25 = .ok (.aload_n 0, 1) := dk_42 (dk_at dksX11_level_1 1 rfl rfl)
theorem dX11_level_26 : decode cX11_level 26 = .ok (.getfield 1072, 3) := dk_180 4 48 (dk_at dksX11_level_1 2 rfl rfl)
theorem dX11_level_29 : decode cX11_level 29 = .ok (.iload_n 3, 1) := dk_29 (dk_at dksX11_level_1 5 rfl rfl)
theorem dX11_level_30 : decode cX11_level 30 = .ok (.baload, 1) := dk_51 (dk_at dksX11_level_1 6 rfl rfl)
theorem dX11_level_31 : decode cX11_level 31 = .ok (.ifCond .eq 12, 3) := dk_153 0 12 (dk_at dksX11_level_1 7 rfl rfl)
theorem dX11_level_34 : decode cX11_level 34 = .ok (.aload_n 0, 1) := dk_42 (dk_at dksX11_level_1 10 rfl rfl)
theorem dX11_level_35 : decode cX11_level 35 = .ok (.getfield 1106, 3) := dk_180 4 82 (dk_at dksX11_level_1 11 rfl rfl)
theorem dX11_level_38 : decode cX11_level 38 = .ok (.iload_n 3, 1) := dk_29 (dk_at dksX11_level_1 14 rfl rfl)
theorem dX11_level_39 : decode cX11_level 39 = .ok (.iaload, 1) := dk_46 (dk_at dksX11_level_1 15 rfl rfl)
theorem dX11_level_40 : decode cX11_level 40 = .ok (.goto 4, 3) := dk_167 0 4 (dk_at dksX11_level_1 16 rfl rfl)
theorem dX11_level_43 : decode cX11_level 43 = .ok (.iconst 0, 1) := dk_3 (dk_at dksX11_level_1 19 rfl rfl)
theorem dX11_level_44 : decode cX11_level 44 = .ok (.iadd, 1) := dk_96 (dk_at dksX11_level_1 20 rfl rfl)
theorem dX11_level_45 : decode cX11_level 45 = .ok (.istore_n 2, 1) := dk_61 (dk_at dksX11_level_1 21 rfl rfl)
theorem dX11_level_46 : decode cX11_level 46 = .ok (.iinc 3 1, 3) := dk_132 3 1 (dk_at dksX11_level_2 0 rfl rfl)
theorem dX11_level_49 : decode cX11_level 49 = .ok (.goto (-33), 3) := dk_167 255 223 (dk_at dksX11_level_2 3 rfl rfl)
theorem dX11_level_52 : decode cX11_level 52 = .ok (.iconst 1, 1) := dk_4 (dk_at dksX11_level_2 6 rfl rfl)
theorem dX11_level_53 : decode cX11_level 53 = .ok (.istore_n 3, 1) := dk_62 (dk_at dksX11_level_2 7 rfl rfl)
theorem dX11_level_54 : decode cX11_level 54 = .ok (.iload_n 3, 1) := dk_29 (dk_at dksX11_level_2 8 rfl rfl)
theorem dX11_level_55 : decode cX11_level 55 = .ok (.ifCond .eq 117, 3) := dk_153 0 117 (dk_at dksX11_level_2 9 rfl rfl)
theorem dX11_level_58 : decode cX11_level 58 = .ok (.aload_n 0, 1) := dk_42 (dk_at dksX11_level_2 12 rfl rfl)
theorem dX11_level_59 : decode cX11_level 59 = .ok (.aload_n 0, 1) := dk_42 (dk_at dksX11_level_2 13 rfl rfl)
theorem dX11_level_60 : decode cX11_level 60 = .ok (.getfield 838, 3) := dk_180 3 70 (dk_at dksX11_level_2 14 rfl rfl)
theorem dX11_level_63 : decode cX11_level 63 = .ok (.aload_n 0, 1) := dk_42 (dk_at dksX11_level_2 17 rfl rfl)
theorem dX11_level_64 : decode cX11_level 64 = .ok (.getfield 1042, 3) := dk_180 4 18 (dk_at dksX11_level_2 18 rfl rfl)
theorem dX11_level_67 : decode cX11_level 67 = .ok (.isub, 1) := dk_100 (dk_at dksX11_level_2 21 rfl rfl)
theorem dX11_level_68 : decode cX11_level 68 = .ok (.iload_n 2, 1) := dk_28 (dk_at dksX11_level_2 22 rfl rfl)
theorem dX11_level_69 : decode cX11_level 69 = .ok (.iadd, 1) := dk_96 (dk_at dksX11_level_2 23 rfl rfl)
theorem dX11_level_70 : decode cX11_level 70 = .ok (.iconst 0, 1) := dk_3 (dk_at dksX11_level_3 0 rfl rfl)
theorem dX11_level_71 : decode cX11_level 71 = .ok (.invokevirtual 1112, 3) := dk_182 4 88 (dk_at dksX11_level_3 1 rfl rfl)
theorem dX11_level_74 : decode cX11_level 74 = .ok (.iconst 0, 1) := dk_3 (dk_at dksX11_level_3 4 rfl rfl)
theorem dX11_level_75 : decode cX11_level 75 = .ok (.istore 4, 2) := dk_54 4 (dk_at dksX11_level_3 5 rfl rfl)
theorem dX11_level_77 : decode cX11_level 77 = .ok (.iconst 0, 1) := dk_3 (dk_at dksX11_level_3 7 rfl rfl)
theorem dX11_level_78 : decode cX11_level 78 = .ok (.istore 5, 2) := dk_54 5 (dk_at dksX11_level_3 8 rfl rfl)
theorem dX11_level_80 : decode cX11_level 80 = .ok (.iload 5, 2) := dk_21 5 (dk_at dksX11_level_3 10 rfl rfl)
theorem dX11_level_82 : decode cX11_level 82 = .ok (.aload_n 0, 1) := dk_42 (dk_at dksX11_level_3 12 rfl rfl)
theorem dX11_level_83 : decode cX11_level 83 = .ok (.getfield 1054, 3) := dk_180 4 30 (dk_at dksX11_level_3 13 rfl rfl)
theorem dX11_level_86 : decode cX11_level 86 = .ok (.if_icmp .ge 46, 3) := dk_162 0 46 (dk_at dksX11_level_3 16 rfl rfl)
theorem dX11_level_89 : decode cX11_level 89 = .ok (.iload 4, 2) := dk_21 4 (dk_at dksX11_level_3 19 rfl rfl)
theorem dX11_level_91 : decode cX11_level 91 = .ok (.aload_n 0, 1) := dk_42 (dk_at dksX11_level_3 21 rfl rfl)
theorem dX11_level_92 : decode cX11_level 92 = .ok (.getfield 1072, 3) := dk_180 4 48 (dk_at dksX11_level_4 0 rfl rfl)
theorem dX11_level_95 : decode cX11_level 95 = .ok (.iload 5, 2) := dk_21 5 (dk_at dksX11_level_4 3 rfl rfl)
theorem dX11_level_97 : decode cX11_level 97 = .ok (.baload, 1) := dk_51 (dk_at dksX11_level_4 5 rfl rfl)
theorem dX11_level_98 : decode cX11_level 98 = .ok (.ifCond .eq 24, 3) := dk_153 0 24 (dk_at dksX11_level_4 6 rfl rfl)
theorem dX11_level_101 : decode cX11_level 101 = .ok (.aload_n 0, 1) := dk_42 (dk_at dksX11_level_4 9 rfl rfl)
theorem dX11_level_102 : decode cX11_level 102 = .ok (.getfield 1106, 3) := dk_180 4 82 (dk_at dksX11_level_4 10 rfl rfl)
theorem dX11_level_105 : decode cX11_level 105 = .ok (.iload 5, 2) := dk_21 5 (dk_at dksX11_level_4 13 rfl rfl)
theorem dX11_level_107 : decode cX11_level 107 = .ok (.iaload, 1) := dk_46 (dk_at dksX11_level_4 15 rfl rfl)
theorem dX11_level_108 : decode cX11_level 108 = .ok (.aload_n 0, 1) := dk_42 (dk_at dksX11_level_4 16 rfl rfl)
theorem dX11_level_109 : decode cX11_level 109 = .ok (.getfield 1075, 3) := dk_180 4 51 (dk_at dksX11_level_4 17 rfl rfl)
theorem dX11_level_112 : decode cX11_level 112 = .ok (.iload 5, 2) := dk_21 5 (dk_at dksX11_level_4 20 rfl rfl)
theorem dX11_level_114 : decode cX11_level 114 = .ok (.iaload, 1) := dk_46 (dk_at dksX11_level_4 22 rfl rfl)
theorem dX11_level_115 : decode cX11_level 115 = .ok (.if_icmp .le 7, 3) := dk_164 0 7 (dk_at dksX11_level_5 0 rfl rfl)
theorem dX11_level_118 : decode cX11_level 118 = .ok (.iconst 1, 1) := dk_4 (dk_at dksX11_level_5 3 rfl rfl)
theorem dX11_level_119 : decode cX11_level 119 = .ok (.goto 4, 3) := dk_167 0 4 (dk_at dksX11_level_5 4 rfl rfl)
theorem dX11_level_122 : decode cX11_level 122 = .ok (.iconst 0, 1) := dk_3 (dk_at dksX11_level_5 7 rfl rfl)
theorem dX11_level_123 : decode cX11_level 123 = .ok (.ior, 1) := dk_128 (dk_at dksX11_level_5 8 rfl rfl)
theorem dX11_level_124 : decode cX11_level 124 = .ok (.istore 4, 2) := dk_54 4 (dk_at dksX11_level_5 9 rfl rfl)
theorem dX11_level_126 : decode cX11_level 126 = .ok (.iinc 5 1, 3) := dk_132 5 1 (dk_at dksX11_level_5 11 rfl rfl)
theorem dX11_level_129 : decode cX11_level 129 = .ok (.goto (-49), 3) := dk_167 255 207 (dk_at dksX11_level_5 14 rfl rfl)
theorem dX11_level_132 : decode cX11_level 132 = .ok (.iload 4, 2) := dk_21 4 (dk_at dksX11_level_5 17 rfl rfl)
theorem dX11_level_134 : decode cX11_level 134 = .ok (.ifCond .eq 15, 3) := dk_153 0 15 (dk_at dksX11_level_5 19 rfl rfl)
theorem dX11_level_137 : decode cX11_level 137 = .ok (.aload_n 0, 1) := dk_42 (dk_at dksX11_level_5 22 rfl rfl)
theorem dX11_level_138 : decode cX11_level 138 = .ok (.getfield 838, 3) := dk_180 3 70 (dk_at dksX11_level_6 0 rfl rfl)
theorem dX11_level_141 : decode cX11_level 141 = .ok (.iload_n 1, 1) := dk_27 (dk_at dksX11_level_6 3 rfl rfl)
theorem dX11_level_142 : decode cX11_level 142 = .ok (.if_icmp .ge 7, 3) := dk_162 0 7 (dk_at dksX11_level_6 4 rfl rfl)
theorem dX11_level_145 : decode cX11_level 145 = .ok (.iconst 1, 1) := dk_4 (dk_at dksX11_level_6 7 rfl rfl)
theorem dX11_level_146 : decode cX11_level 146 = .ok (.goto 4, 3) := dk_167 0 4 (dk_at dksX11_level_6 8 rfl rfl)
theorem dX11_level_149 : decode cX11_level 149 = .ok (.iconst 0, 1) := dk_3 (dk_at dksX11_level_6 11 rfl rfl)
theorem dX11_level_150 : decode cX11_level 150 = .ok (.istore_n 3, 1) := dk_62 (dk_at dksX11_level_6 12 rfl rfl)
theorem dX11_level_151 : decode cX11_level 151 = .ok (.aload_n 0, 1) := dk_42 (dk_at dksX11_level_6 13 rfl rfl)
theorem dX11_level_152 : decode cX11_level 152 = .ok (.dup, 1) := dk_89 (dk_at dksX11_level_6 14 rfl rfl)
theorem dX11_level_153 : decode cX11_level 153 = .ok (.getfield 838, 3) := dk_180 3 70 (dk_at dksX11_level_6 15 rfl rfl)
theorem dX11_level_156 : decode cX11_level 156 = .ok (.iload_n 3, 1) := dk_29 (dk_at dksX11_level_6 18 rfl rfl)
theorem dX11_level_157 : decode cX11_level 157 = .ok (.ifCond .eq 7, 3) := dk_153 0 7 (dk_at dksX11_level_6 19 rfl rfl)
theorem dX11_level_160 : decode cX11_level 160 = .ok (.iconst 1, 1) := dk_4 (dk_at dksX11_level_6 22 rfl rfl)
theorem dX11_level_161 : decode cX11_level 161 = .ok (.goto 4, 3) := dk_167 0 4 (dk_at dksX11_level_7 0 rfl rfl)
theorem dX11_level_164 : decode cX11_level 164 = .ok (.iconst 0, 1) := dk_3 (dk_at dksX11_level_7 3 rfl rfl)
theorem dX11_level_165 : decode cX11_level 165 = .ok (.iadd, 1) := dk_96 (dk_at dksX11_level_7 4 rfl rfl)
theorem dX11_level_166 : decode cX11_level 166 = .ok (.putfield 838, 3) := dk_181 3 70 (dk_at dksX11_level_7 5 rfl rfl)
theorem dX11_level_169 : decode cX11_level 169 = .ok (.goto (-115), 3) := dk_167 255 141 (dk_at dksX11_level_7 8 rfl rfl)
theorem dX11_level_172 : decode cX11_level 172 = .ok (.iconst 0, 1) := dk_3 (dk_at dksX11_level_7 11 rfl rfl)
theorem dX11_level_173 : decode cX11_level 173 = .ok (.istore 4, 2) := dk_54 4 (dk_at dksX11_level_7 12 rfl rfl)
theorem dX11_level_175 : decode cX11_level 175 = .ok (.iload 4, 2) := dk_21 4 (dk_at dksX11_level_7 14 rfl rfl)
theorem dX11_level_177 : decode cX11_level 177 = .ok (.aload_n 0, 1) := dk_42 (dk_at dksX11_level_7 16 rfl rfl)
theorem dX11_level_178 : decode cX11_level 178 = .ok (.getfield 1054, 3) := dk_180 4 30 (dk_at dksX11_level_7 17 rfl rfl)
theorem dX11_level_181 : decode cX11_level 181 = .ok (.if_icmp .ge 35, 3) := dk_162 0 35 (dk_at dksX11_level_7 20 rfl rfl)
theorem dX11_level_184 : decode cX11_level 184 = .ok (.aload_n 0, 1) := dk_42 (dk_at dksX11_level_7 23 rfl rfl)
theorem dX11_level_185 : decode cX11_level 185 = .ok (.getfield 1075, 3) := dk_180 4 51 (dk_at dksX11_level_8 0 rfl rfl)
theorem dX11_level_188 : decode cX11_level 188 = .ok (.iload 4, 2) := dk_21 4 (dk_at dksX11_level_8 3 rfl rfl)
theorem dX11_level_190 : decode cX11_level 190 = .ok (.iconst 0, 1) := dk_3 (dk_at dksX11_level_8 5 rfl rfl)
theorem dX11_level_191 : decode cX11_level 191 = .ok (.aload_n 0, 1) := dk_42 (dk_at dksX11_level_8 6 rfl rfl)
theorem dX11_level_192 : decode cX11_level 192 = .ok (.getfield 1075, 3) := dk_180 4 51 (dk_at dksX11_level_8 7 rfl rfl)
theorem dX11_level_195 : decode cX11_level 195 = .ok (.iload 4, 2) := dk_21 4 (dk_at dksX11_level_8 10 rfl rfl)
theorem dX11_level_197 : decode cX11_level 197 = .ok (.iaload, 1) := dk_46 (dk_at dksX11_level_8 12 rfl rfl)
theorem dX11_level_198 : decode cX11_level 198 = .ok (.aload_n 0, 1) := dk_42 (dk_at dksX11_level_8 13 rfl rfl)
theorem dX11_level_199 : decode cX11_level 199 = .ok (.getfield 1106, 3) := dk_180 4 82 (dk_at dksX11_level_8 14 rfl rfl)
theorem dX11_level_202 : decode cX11_level 202 = .ok (.iload 4, 2) := dk_21 4 (dk_at dksX11_level_8 17 rfl rfl)
theorem dX11_level_204 : decode cX11_level 204 = .ok (.iaload, 1) := dk_46 (dk_at dksX11_level_8 19 rfl rfl)
theorem dX11_level_205 : decode cX11_level 205 = .ok (.isub, 1) := dk_100 (dk_at dksX11_level_8 20 rfl rfl)
theorem dX11_level_206 : decode cX11_level 206 = .ok (.invokestatic 1040, 3) := dk_184 4 16 (dk_at dksX11_level_8 21 rfl rfl)
theorem dX11_level_209 : decode cX11_level 209 = .ok (.iastore, 1) := dk_79 (dk_at dksX11_level_9 0 rfl rfl)
theorem dX11_level_210 : decode cX11_level 210 = .ok (.iinc 4 1, 3) := dk_132 4 1 (dk_at dksX11_level_9 1 rfl rfl)
theorem dX11_level_213 : decode cX11_level 213 = .ok (.goto (-38), 3) := dk_167 255 218 (dk_at dksX11_level_9 4 rfl rfl)
theorem dX11_level_216 : decode cX11_level 216 = .ok (.return_, 1) := dk_177 (dk_at dksX11_level_9 7 rfl rfl)
abbrev cX11_deal : ByteArray := prog_17_method_182_code
def yX11_deal : MethodName := ⟨RX11, "deal", "(IZ)V"⟩
def dkwX11_deal_6 : List UInt8 := [42, 180, 4, 51, 21, 5, 92, 46, 4, 96, 79, 132, 4, 1, 167, 255, 146, 177]
abbrev dktX11_deal_6 : List UInt8 := dkwX11_deal_6 ++ []
def dkwX11_deal_5 : List UInt8 := [46, 184, 4, 61, 104, 164, 0, 7, 21, 6, 54, 5, 132, 6, 1, 167, 255, 181, 21, 5, 156, 0, 4, 177]
abbrev dktX11_deal_5 : List UInt8 := dkwX11_deal_5 ++ dktX11_deal_6
def dkwX11_deal_4 : List UInt8 := [180, 4, 51, 21, 5, 46, 184, 4, 61, 104, 42, 180, 4, 39, 21, 5, 46, 29, 42, 180, 4, 51, 21, 6]
abbrev dktX11_deal_4 : List UInt8 := dkwX11_deal_4 ++ dktX11_deal_5
def dkwX11_deal_3 : List UInt8 := [28, 182, 4, 58, 154, 0, 6, 167, 0, 53, 21, 5, 155, 0, 44, 42, 180, 4, 39, 21, 6, 46, 29, 42]
abbrev dktX11_deal_3 : List UInt8 := dkwX11_deal_3 ++ dktX11_deal_4
def dkwX11_deal_2 : List UInt8 := [21, 4, 27, 162, 0, 110, 2, 54, 5, 3, 54, 6, 21, 6, 42, 180, 4, 30, 162, 0, 72, 42, 21, 6]
abbrev dktX11_deal_2 : List UInt8 := dkwX11_deal_2 ++ dktX11_deal_3
def dkwX11_deal_1 : List UInt8 := [180, 2, 237, 6, 182, 1, 229, 62, 29, 8, 161, 0, 11, 42, 29, 27, 28, 182, 4, 54, 177, 3, 54, 4]
abbrev dktX11_deal_1 : List UInt8 := dkwX11_deal_1 ++ dktX11_deal_2
def dkwX11_deal_0 : List UInt8 := [3, 62, 29, 16, 9, 162, 0, 16, 42, 180, 4, 51, 29, 3, 79, 132, 3, 1, 167, 255, 240, 42, 42]
abbrev dktX11_deal_0 : List UInt8 := dkwX11_deal_0 ++ dktX11_deal_1
theorem dksX11_deal_0 : cX11_deal.data.toList.drop 0 = dktX11_deal_0 := by decide +kernel
theorem dksX11_deal_1 : cX11_deal.data.toList.drop 23 = dktX11_deal_1 := dk_seg dksX11_deal_0 23 rfl rfl
theorem dksX11_deal_2 : cX11_deal.data.toList.drop 47 = dktX11_deal_2 := dk_seg dksX11_deal_1 24 rfl rfl
theorem dksX11_deal_3 : cX11_deal.data.toList.drop 71 = dktX11_deal_3 := dk_seg dksX11_deal_2 24 rfl rfl
theorem dksX11_deal_4 : cX11_deal.data.toList.drop 95 = dktX11_deal_4 := dk_seg dksX11_deal_3 24 rfl rfl
theorem dksX11_deal_5 : cX11_deal.data.toList.drop 119 = dktX11_deal_5 := dk_seg dksX11_deal_4 24 rfl rfl
theorem dksX11_deal_6 : cX11_deal.data.toList.drop 143 = dktX11_deal_6 := dk_seg dksX11_deal_5 24 rfl rfl
theorem dX11_deal_0 : decode cX11_deal 0 = .ok (.iconst 0, 1) := dk_3 (dk_at dksX11_deal_0 0 rfl rfl)
theorem dX11_deal_1 : decode cX11_deal 1 = .ok (.istore_n 3, 1) := dk_62 (dk_at dksX11_deal_0 1 rfl rfl)
theorem dX11_deal_2 : decode cX11_deal 2 = .ok (.iload_n 3, 1) := dk_29 (dk_at dksX11_deal_0 2 rfl rfl)
theorem dX11_deal_3 : decode cX11_deal 3 = .ok (.bipush 9, 2) := dk_16 9 (dk_at dksX11_deal_0 3 rfl rfl)
theorem dX11_deal_5 : decode cX11_deal 5 = .ok (.if_icmp .ge 16, 3) := dk_162 0 16 (dk_at dksX11_deal_0 5 rfl rfl)
theorem dX11_deal_8 : decode cX11_deal 8 = .ok (.aload_n 0, 1) := dk_42 (dk_at dksX11_deal_0 8 rfl rfl)
theorem dX11_deal_9 : decode cX11_deal 9 = .ok (.getfield 1075, 3) := dk_180 4 51 (dk_at dksX11_deal_0 9 rfl rfl)
theorem dX11_deal_12 : decode cX11_deal 12 = .ok (.iload_n 3, 1) := dk_29 (dk_at dksX11_deal_0 12 rfl rfl)
theorem dX11_deal_13 : decode cX11_deal 13 = .ok (.iconst 0, 1) := dk_3 (dk_at dksX11_deal_0 13 rfl rfl)
theorem dX11_deal_14 : decode cX11_deal 14 = .ok (.iastore, 1) := dk_79 (dk_at dksX11_deal_0 14 rfl rfl)
theorem dX11_deal_15 : decode cX11_deal 15 = .ok (.iinc 3 1, 3) := dk_132 3 1 (dk_at dksX11_deal_0 15 rfl rfl)
theorem dX11_deal_18 : decode cX11_deal 18 = .ok (.goto (-16), 3) := dk_167 255 240 (dk_at dksX11_deal_0 18 rfl rfl)
theorem dX11_deal_21 : decode cX11_deal 21 = .ok (.aload_n 0, 1) := dk_42 (dk_at dksX11_deal_0 21 rfl rfl)
theorem dX11_deal_22 : decode cX11_deal 22 = .ok (.aload_n 0, 1) := dk_42 (dk_at dksX11_deal_0 22 rfl rfl)
theorem dX11_deal_23 : decode cX11_deal 23 = .ok (.getfield 749, 3) := dk_180 2 237 (dk_at dksX11_deal_1 0 rfl rfl)
theorem dX11_deal_26 : decode cX11_deal 26 = .ok (.iconst 3, 1) := dk_6 (dk_at dksX11_deal_1 3 rfl rfl)
theorem dX11_deal_27 : decode cX11_deal 27 = .ok (.invokevirtual 485, 3) := dk_182 1 229 (dk_at dksX11_deal_1 4 rfl rfl)
theorem dX11_deal_30 : decode cX11_deal 30 = .ok (.istore_n 3, 1) := dk_62 (dk_at dksX11_deal_1 7 rfl rfl)
theorem dX11_deal_31 : decode cX11_deal 31 = .ok (.iload_n 3, 1) := dk_29 (dk_at dksX11_deal_1 8 rfl rfl)
theorem dX11_deal_32 : decode cX11_deal 32 = .ok (.iconst 5, 1) := dk_8 (dk_at dksX11_deal_1 9 rfl rfl)
theorem dX11_deal_33 : decode cX11_deal 33 = .ok (.if_icmp .lt 11, 3) := dk_161 0 11 (dk_at dksX11_deal_1 10 rfl rfl)
theorem dX11_deal_36 : decode cX11_deal 36 = .ok (.aload_n 0, 1) := dk_42 (dk_at dksX11_deal_1 13 rfl rfl)
theorem dX11_deal_37 : decode cX11_deal 37 = .ok (.iload_n 3, 1) := dk_29 (dk_at dksX11_deal_1 14 rfl rfl)
theorem dX11_deal_38 : decode cX11_deal 38 = .ok (.iload_n 1, 1) := dk_27 (dk_at dksX11_deal_1 15 rfl rfl)
theorem dX11_deal_39 : decode cX11_deal 39 = .ok (.iload_n 2, 1) := dk_28 (dk_at dksX11_deal_1 16 rfl rfl)
theorem dX11_deal_40 : decode cX11_deal 40 = .ok (.invokevirtual 1078, 3) := dk_182 4 54 (dk_at dksX11_deal_1 17 rfl rfl)
theorem dX11_deal_43 : decode cX11_deal 43 = .ok (.return_, 1) := dk_177 (dk_at dksX11_deal_1 20 rfl rfl)
theorem dX11_deal_44 : decode cX11_deal 44 = .ok (.iconst 0, 1) := dk_3 (dk_at dksX11_deal_1 21 rfl rfl)
theorem dX11_deal_45 : decode cX11_deal 45 = .ok (.istore 4, 2) := dk_54 4 (dk_at dksX11_deal_1 22 rfl rfl)
theorem dX11_deal_47 : decode cX11_deal 47 = .ok (.iload 4, 2) := dk_21 4 (dk_at dksX11_deal_2 0 rfl rfl)
theorem dX11_deal_49 : decode cX11_deal 49 = .ok (.iload_n 1, 1) := dk_27 (dk_at dksX11_deal_2 2 rfl rfl)
theorem dX11_deal_50 : decode cX11_deal 50 = .ok (.if_icmp .ge 110, 3) := dk_162 0 110 (dk_at dksX11_deal_2 3 rfl rfl)
theorem dX11_deal_53 : decode cX11_deal 53 = .ok (.iconst (-1), 1) := dk_2 (dk_at dksX11_deal_2 6 rfl rfl)
theorem dX11_deal_54 : decode cX11_deal 54 = .ok (.istore 5, 2) := dk_54 5 (dk_at dksX11_deal_2 7 rfl rfl)
theorem dX11_deal_56 : decode cX11_deal 56 = .ok (.iconst 0, 1) := dk_3 (dk_at dksX11_deal_2 9 rfl rfl)
theorem dX11_deal_57 : decode cX11_deal 57 = .ok (.istore 6, 2) := dk_54 6 (dk_at dksX11_deal_2 10 rfl rfl)
theorem dX11_deal_59 : decode cX11_deal 59 = .ok (.iload 6, 2) := dk_21 6 (dk_at dksX11_deal_2 12 rfl rfl)
theorem dX11_deal_61 : decode cX11_deal 61 = .ok (.aload_n 0, 1) := dk_42 (dk_at dksX11_deal_2 14 rfl rfl)
theorem dX11_deal_62 : decode cX11_deal 62 = .ok (.getfield 1054, 3) := dk_180 4 30 (dk_at dksX11_deal_2 15 rfl rfl)
theorem dX11_deal_65 : decode cX11_deal 65 = .ok (.if_icmp .ge 72, 3) := dk_162 0 72 (dk_at dksX11_deal_2 18 rfl rfl)
theorem dX11_deal_68 : decode cX11_deal 68 = .ok (.aload_n 0, 1) := dk_42 (dk_at dksX11_deal_2 21 rfl rfl)
theorem dX11_deal_69 : decode cX11_deal 69 = .ok (.iload 6, 2) := dk_21 6 (dk_at dksX11_deal_2 22 rfl rfl)
theorem dX11_deal_71 : decode cX11_deal 71 = .ok (.iload_n 2, 1) := dk_28 (dk_at dksX11_deal_3 0 rfl rfl)
theorem dX11_deal_72 : decode cX11_deal 72 = .ok (.invokevirtual 1082, 3) := dk_182 4 58 (dk_at dksX11_deal_3 1 rfl rfl)
theorem dX11_deal_75 : decode cX11_deal 75 = .ok (.ifCond .ne 6, 3) := dk_154 0 6 (dk_at dksX11_deal_3 4 rfl rfl)
theorem dX11_deal_78 : decode cX11_deal 78 = .ok (.goto 53, 3) := dk_167 0 53 (dk_at dksX11_deal_3 7 rfl rfl)
theorem dX11_deal_81 : decode cX11_deal 81 = .ok (.iload 5, 2) := dk_21 5 (dk_at dksX11_deal_3 10 rfl rfl)
theorem dX11_deal_83 : decode cX11_deal 83 = .ok (.ifCond .lt 44, 3) := dk_155 0 44 (dk_at dksX11_deal_3 12 rfl rfl)
theorem dX11_deal_86 : decode cX11_deal 86 = .ok (.aload_n 0, 1) := dk_42 (dk_at dksX11_deal_3 15 rfl rfl)
theorem dX11_deal_87 : decode cX11_deal 87 = .ok (.getfield 1063, 3) := dk_180 4 39 (dk_at dksX11_deal_3 16 rfl rfl)
theorem dX11_deal_90 : decode cX11_deal 90 = .ok (.iload 6, 2) := dk_21 6 (dk_at dksX11_deal_3 19 rfl rfl)
theorem dX11_deal_92 : decode cX11_deal 92 = .ok (.iaload, 1) := dk_46 (dk_at dksX11_deal_3 21 rfl rfl)
theorem dX11_deal_93 : decode cX11_deal 93 = .ok (.iload_n 3, 1) := dk_29 (dk_at dksX11_deal_3 22 rfl rfl)
theorem dX11_deal_94 : decode cX11_deal 94 = .ok (.aload_n 0, 1) := dk_42 (dk_at dksX11_deal_3 23 rfl rfl)
theorem dX11_deal_95 : decode cX11_deal 95 = .ok (.getfield 1075, 3) := dk_180 4 51 (dk_at dksX11_deal_4 0 rfl rfl)
theorem dX11_deal_98 : decode cX11_deal 98 = .ok (.iload 5, 2) := dk_21 5 (dk_at dksX11_deal_4 3 rfl rfl)
theorem dX11_deal_100 : decode cX11_deal 100 = .ok (.iaload, 1) := dk_46 (dk_at dksX11_deal_4 5 rfl rfl)
theorem dX11_deal_101 : decode cX11_deal 101 = .ok (.invokestatic 1085, 3) := dk_184 4 61 (dk_at dksX11_deal_4 6 rfl rfl)
theorem dX11_deal_104 : decode cX11_deal 104 = .ok (.imul, 1) := dk_104 (dk_at dksX11_deal_4 9 rfl rfl)
theorem dX11_deal_105 : decode cX11_deal 105 = .ok (.aload_n 0, 1) := dk_42 (dk_at dksX11_deal_4 10 rfl rfl)
theorem dX11_deal_106 : decode cX11_deal 106 = .ok (.getfield 1063, 3) := dk_180 4 39 (dk_at dksX11_deal_4 11 rfl rfl)
theorem dX11_deal_109 : decode cX11_deal 109 = .ok (.iload 5, 2) := dk_21 5 (dk_at dksX11_deal_4 14 rfl rfl)
theorem dX11_deal_111 : decode cX11_deal 111 = .ok (.iaload, 1) := dk_46 (dk_at dksX11_deal_4 16 rfl rfl)
theorem dX11_deal_112 : decode cX11_deal 112 = .ok (.iload_n 3, 1) := dk_29 (dk_at dksX11_deal_4 17 rfl rfl)
theorem dX11_deal_113 : decode cX11_deal 113 = .ok (.aload_n 0, 1) := dk_42 (dk_at dksX11_deal_4 18 rfl rfl)
theorem dX11_deal_114 : decode cX11_deal 114 = .ok (.getfield 1075, 3) := dk_180 4 51 (dk_at dksX11_deal_4 19 rfl rfl)
theorem dX11_deal_117 : decode cX11_deal 117 = .ok (.iload 6, 2) := dk_21 6 (dk_at dksX11_deal_4 22 rfl rfl)
theorem dX11_deal_119 : decode cX11_deal 119 = .ok (.iaload, 1) := dk_46 (dk_at dksX11_deal_5 0 rfl rfl)
theorem dX11_deal_120 : decode cX11_deal 120 = .ok (.invokestatic 1085, 3) := dk_184 4 61 (dk_at dksX11_deal_5 1 rfl rfl)
theorem dX11_deal_123 : decode cX11_deal 123 = .ok (.imul, 1) := dk_104 (dk_at dksX11_deal_5 4 rfl rfl)
theorem dX11_deal_124 : decode cX11_deal 124 = .ok (.if_icmp .le 7, 3) := dk_164 0 7 (dk_at dksX11_deal_5 5 rfl rfl)
theorem dX11_deal_127 : decode cX11_deal 127 = .ok (.iload 6, 2) := dk_21 6 (dk_at dksX11_deal_5 8 rfl rfl)
theorem dX11_deal_129 : decode cX11_deal 129 = .ok (.istore 5, 2) := dk_54 5 (dk_at dksX11_deal_5 10 rfl rfl)
theorem dX11_deal_131 : decode cX11_deal 131 = .ok (.iinc 6 1, 3) := dk_132 6 1 (dk_at dksX11_deal_5 12 rfl rfl)
theorem dX11_deal_134 : decode cX11_deal 134 = .ok (.goto (-75), 3) := dk_167 255 181 (dk_at dksX11_deal_5 15 rfl rfl)
theorem dX11_deal_137 : decode cX11_deal 137 = .ok (.iload 5, 2) := dk_21 5 (dk_at dksX11_deal_5 18 rfl rfl)
theorem dX11_deal_139 : decode cX11_deal 139 = .ok (.ifCond .ge 4, 3) := dk_156 0 4 (dk_at dksX11_deal_5 20 rfl rfl)
theorem dX11_deal_142 : decode cX11_deal 142 = .ok (.return_, 1) := dk_177 (dk_at dksX11_deal_5 23 rfl rfl)
theorem dX11_deal_143 : decode cX11_deal 143 = .ok (.aload_n 0, 1) := dk_42 (dk_at dksX11_deal_6 0 rfl rfl)
theorem dX11_deal_144 : decode cX11_deal 144 = .ok (.getfield 1075, 3) := dk_180 4 51 (dk_at dksX11_deal_6 1 rfl rfl)
theorem dX11_deal_147 : decode cX11_deal 147 = .ok (.iload 5, 2) := dk_21 5 (dk_at dksX11_deal_6 4 rfl rfl)
theorem dX11_deal_149 : decode cX11_deal 149 = .ok (.dup2, 1) := dk_92 (dk_at dksX11_deal_6 6 rfl rfl)
theorem dX11_deal_150 : decode cX11_deal 150 = .ok (.iaload, 1) := dk_46 (dk_at dksX11_deal_6 7 rfl rfl)
theorem dX11_deal_151 : decode cX11_deal 151 = .ok (.iconst 1, 1) := dk_4 (dk_at dksX11_deal_6 8 rfl rfl)
theorem dX11_deal_152 : decode cX11_deal 152 = .ok (.iadd, 1) := dk_96 (dk_at dksX11_deal_6 9 rfl rfl)
theorem dX11_deal_153 : decode cX11_deal 153 = .ok (.iastore, 1) := dk_79 (dk_at dksX11_deal_6 10 rfl rfl)
theorem dX11_deal_154 : decode cX11_deal 154 = .ok (.iinc 4 1, 3) := dk_132 4 1 (dk_at dksX11_deal_6 11 rfl rfl)
theorem dX11_deal_157 : decode cX11_deal 157 = .ok (.goto (-110), 3) := dk_167 255 146 (dk_at dksX11_deal_6 14 rfl rfl)
theorem dX11_deal_160 : decode cX11_deal 160 = .ok (.return_, 1) := dk_177 (dk_at dksX11_deal_6 17 rfl rfl)
abbrev cX11_dealByQuota : ByteArray := prog_17_method_183_code
def yX11_dealByQuota : MethodName := ⟨RX11, "dealByQuota", "(IIZ)V"⟩
def dkwX11_dealByQuota_14 : List UInt8 := [132, 7, 1, 167, 255, 199, 167, 255, 174, 177]
abbrev dktX11_dealByQuota_14 : List UInt8 := dkwX11_dealByQuota_14 ++ []
def dkwX11_dealByQuota_13 : List UInt8 := [154, 0, 6, 167, 0, 20, 42, 180, 4, 51, 21, 8, 92, 46, 4, 96, 79, 132, 5, 1, 4, 54, 6]
abbrev dktX11_dealByQuota_13 : List UInt8 := dkwX11_dealByQuota_13 ++ dktX11_dealByQuota_14
def dkwX11_dealByQuota_12 : List UInt8 := [21, 5, 28, 162, 0, 48, 42, 180, 4, 73, 21, 7, 46, 54, 8, 42, 21, 8, 29, 182, 4, 58]
abbrev dktX11_dealByQuota_12 : List UInt8 := dkwX11_dealByQuota_12 ++ dktX11_dealByQuota_13
def dkwX11_dealByQuota_11 : List UInt8 := [153, 0, 77, 42, 4, 182, 4, 70, 3, 54, 6, 3, 54, 7, 21, 7, 42, 180, 3, 30, 162, 0, 54]
abbrev dktX11_dealByQuota_11 : List UInt8 := dkwX11_dealByQuota_11 ++ dktX11_dealByQuota_12
def dkwX11_dealByQuota_10 : List UInt8 := [132, 5, 255, 132, 6, 1, 167, 255, 202, 167, 255, 185, 4, 54, 6, 21, 5, 28, 162, 0, 82, 21, 6]
abbrev dktX11_dealByQuota_10 : List UInt8 := dkwX11_dealByQuota_10 ++ dktX11_dealByQuota_11
def dkwX11_dealByQuota_9 : List UInt8 := [180, 4, 51, 21, 7, 46, 154, 0, 6, 167, 0, 17, 42, 180, 4, 51, 21, 7, 92, 46, 4, 100, 79]
abbrev dktX11_dealByQuota_9 : List UInt8 := dkwX11_dealByQuota_9 ++ dktX11_dealByQuota_10
def dkwX11_dealByQuota_8 : List UInt8 := [180, 3, 30, 162, 0, 51, 21, 5, 28, 164, 0, 45, 42, 180, 4, 73, 21, 6, 46, 54, 7, 42]
abbrev dktX11_dealByQuota_8 : List UInt8 := dkwX11_dealByQuota_8 ++ dktX11_dealByQuota_9
def dkwX11_dealByQuota_7 : List UInt8 := [132, 6, 1, 167, 255, 101, 21, 5, 28, 164, 0, 71, 42, 3, 182, 4, 70, 3, 54, 6, 21, 6, 42]
abbrev dktX11_dealByQuota_7 : List UInt8 := dkwX11_dealByQuota_7 ++ dktX11_dealByQuota_8
def dkwX11_dealByQuota_6 : List UInt8 := [21, 6, 46, 184, 0, 179, 167, 0, 5, 21, 9, 79, 21, 5, 42, 180, 4, 51, 21, 6, 46, 96, 54, 5]
abbrev dktX11_dealByQuota_6 : List UInt8 := dkwX11_dealByQuota_6 ++ dktX11_dealByQuota_7
def dkwX11_dealByQuota_5 : List UInt8 := [21, 7, 104, 21, 8, 112, 79, 42, 180, 4, 51, 21, 6, 29, 153, 0, 18, 21, 9, 42, 180, 4, 36]
abbrev dktX11_dealByQuota_5 : List UInt8 := dkwX11_dealByQuota_5 ++ dktX11_dealByQuota_6
def dkwX11_dealByQuota_4 : List UInt8 := [21, 6, 46, 21, 7, 104, 21, 8, 108, 54, 9, 42, 180, 4, 67, 21, 6, 42, 180, 4, 39, 21, 6, 46]
abbrev dktX11_dealByQuota_4 : List UInt8 := dkwX11_dealByQuota_4 ++ dktX11_dealByQuota_5
def dkwX11_dealByQuota_3 : List UInt8 := [16, 6, 160, 0, 14, 21, 4, 28, 4, 96, 108, 4, 96, 167, 0, 5, 21, 4, 54, 8, 42, 180, 4, 39]
abbrev dktX11_dealByQuota_3 : List UInt8 := dkwX11_dealByQuota_3 ++ dktX11_dealByQuota_4
def dkwX11_dealByQuota_2 : List UInt8 := [8, 160, 0, 7, 3, 167, 0, 14, 27, 16, 7, 160, 0, 7, 4, 167, 0, 4, 5, 96, 54, 7, 27]
abbrev dktX11_dealByQuota_2 : List UInt8 := dkwX11_dealByQuota_2 ++ dktX11_dealByQuota_3
def dkwX11_dealByQuota_1 : List UInt8 := [180, 4, 48, 21, 6, 51, 154, 0, 6, 167, 0, 133, 27, 16, 6, 160, 0, 7, 4, 167, 0, 25, 28, 27]
abbrev dktX11_dealByQuota_1 : List UInt8 := dkwX11_dealByQuota_1 ++ dktX11_dealByQuota_2
def dkwX11_dealByQuota_0 : List UInt8 := [42, 182, 4, 64, 54, 4, 3, 54, 5, 3, 54, 6, 21, 6, 42, 180, 4, 30, 162, 0, 152, 42]
abbrev dktX11_dealByQuota_0 : List UInt8 := dkwX11_dealByQuota_0 ++ dktX11_dealByQuota_1
theorem dksX11_dealByQuota_0 : cX11_dealByQuota.data.toList.drop 0 = dktX11_dealByQuota_0 := by decide +kernel
theorem dksX11_dealByQuota_1 : cX11_dealByQuota.data.toList.drop 22 = dktX11_dealByQuota_1 := dk_seg dksX11_dealByQuota_0 22 rfl rfl
theorem dksX11_dealByQuota_2 : cX11_dealByQuota.data.toList.drop 46 = dktX11_dealByQuota_2 := dk_seg dksX11_dealByQuota_1 24 rfl rfl
theorem dksX11_dealByQuota_3 : cX11_dealByQuota.data.toList.drop 69 = dktX11_dealByQuota_3 := dk_seg dksX11_dealByQuota_2 23 rfl rfl
theorem dksX11_dealByQuota_4 : cX11_dealByQuota.data.toList.drop 93 = dktX11_dealByQuota_4 := dk_seg dksX11_dealByQuota_3 24 rfl rfl
theorem dksX11_dealByQuota_5 : cX11_dealByQuota.data.toList.drop 117 = dktX11_dealByQuota_5 := dk_seg dksX11_dealByQuota_4 24 rfl rfl
theorem dksX11_dealByQuota_6 : cX11_dealByQuota.data.toList.drop 140 = dktX11_dealByQuota_6 := dk_seg dksX11_dealByQuota_5 23 rfl rfl
theorem dksX11_dealByQuota_7 : cX11_dealByQuota.data.toList.drop 164 = dktX11_dealByQuota_7 := dk_seg dksX11_dealByQuota_6 24 rfl rfl
theorem dksX11_dealByQuota_8 : cX11_dealByQuota.data.toList.drop 187 = dktX11_dealByQuota_8 := dk_seg dksX11_dealByQuota_7 23 rfl rfl
theorem dksX11_dealByQuota_9 : cX11_dealByQuota.data.toList.drop 209 = dktX11_dealByQuota_9 := dk_seg dksX11_dealByQuota_8 22 rfl rfl
theorem dksX11_dealByQuota_10 : cX11_dealByQuota.data.toList.drop 232 = dktX11_dealByQuota_10 := dk_seg dksX11_dealByQuota_9 23 rfl rfl
theorem dksX11_dealByQuota_11 : cX11_dealByQuota.data.toList.drop 255 = dktX11_dealByQuota_11 := dk_seg dksX11_dealByQuota_10 23 rfl rfl
theorem dksX11_dealByQuota_12 : cX11_dealByQuota.data.toList.drop 278 = dktX11_dealByQuota_12 := dk_seg dksX11_dealByQuota_11 23 rfl rfl
theorem dksX11_dealByQuota_13 : cX11_dealByQuota.data.toList.drop 300 = dktX11_dealByQuota_13 := dk_seg dksX11_dealByQuota_12 22 rfl rfl
theorem dksX11_dealByQuota_14 : cX11_dealByQuota.data.toList.drop 323 = dktX11_dealByQuota_14 := dk_seg dksX11_dealByQuota_13 23 rfl rfl
theorem dX11_dealByQuota_0 : decode cX11_dealByQuota 0 = .ok (.aload_n 0, 1) := dk_42 (dk_at dksX11_dealByQuota_0 0 rfl rfl)
theorem dX11_dealByQuota_1 : decode cX11_dealByQuota 1 = .ok (.invokevirtual 1088, 3) := dk_182 4 64 (dk_at dksX11_dealByQuota_0 1 rfl rfl)
theorem dX11_dealByQuota_4 : decode cX11_dealByQuota 4 = .ok (.istore 4, 2) := dk_54 4 (dk_at dksX11_dealByQuota_0 4 rfl rfl)
theorem dX11_dealByQuota_6 : decode cX11_dealByQuota 6 = .ok (.iconst 0, 1) := dk_3 (dk_at dksX11_dealByQuota_0 6 rfl rfl)
theorem dX11_dealByQuota_7 : decode cX11_dealByQuota 7 = .ok (.istore 5, 2) := dk_54 5 (dk_at dksX11_dealByQuota_0 7 rfl rfl)
theorem dX11_dealByQuota_9 : decode cX11_dealByQuota 9 = .ok (.iconst 0, 1) := dk_3 (dk_at dksX11_dealByQuota_0 9 rfl rfl)
theorem dX11_dealByQuota_10 : decode cX11_dealByQuota 10 = .ok (.istore 6, 2) := dk_54 6 (dk_at dksX11_dealByQuota_0 10 rfl rfl)
theorem dX11_dealByQuota_12 : decode cX11_dealByQuota 12 = .ok (.iload 6, 2) := dk_21 6 (dk_at dksX11_dealByQuota_0 12 rfl rfl)
theorem dX11_dealByQuota_14 : decode cX11_dealByQuota 14 = .ok (.aload_n 0, 1) := dk_42 (dk_at dksX11_dealByQuota_0 14 rfl rfl)
theorem dX11_dealByQuota_15 : decode cX11_dealByQuota 15 = .ok (.getfield 1054, 3) := dk_180 4 30 (dk_at dksX11_dealByQuota_0 15 rfl rfl)
theorem dX11_dealByQuota_18 : decode cX11_dealByQuota 18 = .ok (.if_icmp .ge 152, 3) := dk_162 0 152 (dk_at dksX11_dealByQuota_0 18 rfl rfl)
theorem dX11_dealByQuota_21 : decode cX11_dealByQuota 21 = .ok (.aload_n 0, 1) := dk_42 (dk_at dksX11_dealByQuota_0 21 rfl rfl)
theorem dX11_dealByQuota_22 : decode cX11_dealByQuota 22 = .ok (.getfield 1072, 3) := dk_180 4 48 (dk_at dksX11_dealByQuota_1 0 rfl rfl)
theorem dX11_dealByQuota_25 : decode cX11_dealByQuota 25 = .ok (.iload 6, 2) := dk_21 6 (dk_at dksX11_dealByQuota_1 3 rfl rfl)
theorem dX11_dealByQuota_27 : decode cX11_dealByQuota 27 = .ok (.baload, 1) := dk_51 (dk_at dksX11_dealByQuota_1 5 rfl rfl)
theorem dX11_dealByQuota_28 : decode cX11_dealByQuota 28 = .ok (.ifCond .ne 6, 3) := dk_154 0 6 (dk_at dksX11_dealByQuota_1 6 rfl rfl)
theorem dX11_dealByQuota_31 : decode cX11_dealByQuota 31 = .ok (.goto 133, 3) := dk_167 0 133 (dk_at dksX11_dealByQuota_1 9 rfl rfl)
theorem dX11_dealByQuota_34 : decode cX11_dealByQuota 34 = .ok (.iload_n 1, 1) := dk_27 (dk_at dksX11_dealByQuota_1 12 rfl rfl)
theorem dX11_dealByQuota_35 : decode cX11_dealByQuota 35 = .ok (.bipush 6, 2) := dk_16 6 (dk_at dksX11_dealByQuota_1 13 rfl rfl)
theorem dX11_dealByQuota_37 : decode cX11_dealByQuota 37 = .ok (.if_icmp .ne 7, 3) := dk_160 0 7 (dk_at dksX11_dealByQuota_1 15 rfl rfl)
theorem dX11_dealByQuota_40 : decode cX11_dealByQuota 40 = .ok (.iconst 1, 1) := dk_4 (dk_at dksX11_dealByQuota_1 18 rfl rfl)
theorem dX11_dealByQuota_41 : decode cX11_dealByQuota 41 = .ok (.goto 25, 3) := dk_167 0 25 (dk_at dksX11_dealByQuota_1 19 rfl rfl)
theorem dX11_dealByQuota_44 : decode cX11_dealByQuota 44 = .ok (.iload_n 2, 1) := dk_28 (dk_at dksX11_dealByQuota_1 22 rfl rfl)
theorem dX11_dealByQuota_45 : decode cX11_dealByQuota 45 = .ok (.iload_n 1, 1) := dk_27 (dk_at dksX11_dealByQuota_1 23 rfl rfl)
theorem dX11_dealByQuota_46 : decode cX11_dealByQuota 46 = .ok (.iconst 5, 1) := dk_8 (dk_at dksX11_dealByQuota_2 0 rfl rfl)
theorem dX11_dealByQuota_47 : decode cX11_dealByQuota 47 = .ok (.if_icmp .ne 7, 3) := dk_160 0 7 (dk_at dksX11_dealByQuota_2 1 rfl rfl)
theorem dX11_dealByQuota_50 : decode cX11_dealByQuota 50 = .ok (.iconst 0, 1) := dk_3 (dk_at dksX11_dealByQuota_2 4 rfl rfl)
theorem dX11_dealByQuota_51 : decode cX11_dealByQuota 51 = .ok (.goto 14, 3) := dk_167 0 14 (dk_at dksX11_dealByQuota_2 5 rfl rfl)
theorem dX11_dealByQuota_54 : decode cX11_dealByQuota 54 = .ok (.iload_n 1, 1) := dk_27 (dk_at dksX11_dealByQuota_2 8 rfl rfl)
theorem dX11_dealByQuota_55 : decode cX11_dealByQuota 55 = .ok (.bipush 7, 2) := dk_16 7 (dk_at dksX11_dealByQuota_2 9 rfl rfl)
theorem dX11_dealByQuota_57 : decode cX11_dealByQuota 57 = .ok (.if_icmp .ne 7, 3) := dk_160 0 7 (dk_at dksX11_dealByQuota_2 11 rfl rfl)
theorem dX11_dealByQuota_60 : decode cX11_dealByQuota 60 = .ok (.iconst 1, 1) := dk_4 (dk_at dksX11_dealByQuota_2 14 rfl rfl)
theorem dX11_dealByQuota_61 : decode cX11_dealByQuota 61 = .ok (.goto 4, 3) := dk_167 0 4 (dk_at dksX11_dealByQuota_2 15 rfl rfl)
theorem dX11_dealByQuota_64 : decode cX11_dealByQuota 64 = .ok (.iconst 2, 1) := dk_5 (dk_at dksX11_dealByQuota_2 18 rfl rfl)
theorem dX11_dealByQuota_65 : decode cX11_dealByQuota 65 = .ok (.iadd, 1) := dk_96 (dk_at dksX11_dealByQuota_2 19 rfl rfl)
theorem dX11_dealByQuota_66 : decode cX11_dealByQuota 66 = .ok (.istore 7, 2) := dk_54 7 (dk_at dksX11_dealByQuota_2 20 rfl rfl)
theorem dX11_dealByQuota_68 : decode cX11_dealByQuota 68 = .ok (.iload_n 1, 1) := dk_27 (dk_at dksX11_dealByQuota_2 22 rfl rfl)
theorem dX11_dealByQuota_69 : decode cX11_dealByQuota 69 = .ok (.bipush 6, 2) := dk_16 6 (dk_at dksX11_dealByQuota_3 0 rfl rfl)
theorem dX11_dealByQuota_71 : decode cX11_dealByQuota 71 = .ok (.if_icmp .ne 14, 3) := dk_160 0 14 (dk_at dksX11_dealByQuota_3 2 rfl rfl)
theorem dX11_dealByQuota_74 : decode cX11_dealByQuota 74 = .ok (.iload 4, 2) := dk_21 4 (dk_at dksX11_dealByQuota_3 5 rfl rfl)
theorem dX11_dealByQuota_76 : decode cX11_dealByQuota 76 = .ok (.iload_n 2, 1) := dk_28 (dk_at dksX11_dealByQuota_3 7 rfl rfl)
theorem dX11_dealByQuota_77 : decode cX11_dealByQuota 77 = .ok (.iconst 1, 1) := dk_4 (dk_at dksX11_dealByQuota_3 8 rfl rfl)
theorem dX11_dealByQuota_78 : decode cX11_dealByQuota 78 = .ok (.iadd, 1) := dk_96 (dk_at dksX11_dealByQuota_3 9 rfl rfl)
theorem dX11_dealByQuota_79 : decode cX11_dealByQuota 79 = .ok (.idiv, 1) := dk_108 (dk_at dksX11_dealByQuota_3 10 rfl rfl)
theorem dX11_dealByQuota_80 : decode cX11_dealByQuota 80 = .ok (.iconst 1, 1) := dk_4 (dk_at dksX11_dealByQuota_3 11 rfl rfl)
theorem dX11_dealByQuota_81 : decode cX11_dealByQuota 81 = .ok (.iadd, 1) := dk_96 (dk_at dksX11_dealByQuota_3 12 rfl rfl)
theorem dX11_dealByQuota_82 : decode cX11_dealByQuota 82 = .ok (.goto 5, 3) := dk_167 0 5 (dk_at dksX11_dealByQuota_3 13 rfl rfl)
theorem dX11_dealByQuota_85 : decode cX11_dealByQuota 85 = .ok (.iload 4, 2) := dk_21 4 (dk_at dksX11_dealByQuota_3 16 rfl rfl)
theorem dX11_dealByQuota_87 : decode cX11_dealByQuota 87 = .ok (.istore 8, 2) := dk_54 8 (dk_at dksX11_dealByQuota_3 18 rfl rfl)
theorem dX11_dealByQuota_89 : decode cX11_dealByQuota 89 = .ok (.aload_n 0, 1) := dk_42 (dk_at dksX11_dealByQuota_3 20 rfl rfl)
theorem dX11_dealByQuota_90 : decode cX11_dealByQuota 90 = .ok (.getfield 1063, 3) := dk_180 4 39 (dk_at dksX11_dealByQuota_3 21 rfl rfl)
theorem dX11_dealByQuota_93 : decode cX11_dealByQuota 93 = .ok (.iload 6, 2) := dk_21 6 (dk_at dksX11_dealByQuota_4 0 rfl rfl)
theorem dX11_dealByQuota_95 : decode cX11_dealByQuota 95 = .ok (.iaload, 1) := dk_46 (dk_at dksX11_dealByQuota_4 2 rfl rfl)
theorem dX11_dealByQuota_96 : decode cX11_dealByQuota 96 = .ok (.iload 7, 2) := dk_21 7 (dk_at dksX11_dealByQuota_4 3 rfl rfl)
theorem dX11_dealByQuota_98 : decode cX11_dealByQuota 98 = .ok (.imul, 1) := dk_104 (dk_at dksX11_dealByQuota_4 5 rfl rfl)
theorem dX11_dealByQuota_99 : decode cX11_dealByQuota 99 = .ok (.iload 8, 2) := dk_21 8 (dk_at dksX11_dealByQuota_4 6 rfl rfl)
theorem dX11_dealByQuota_101 : decode cX11_dealByQuota 101 = .ok (.idiv, 1) := dk_108 (dk_at dksX11_dealByQuota_4 8 rfl rfl)
theorem dX11_dealByQuota_102 : decode cX11_dealByQuota 102 = .ok (.istore 9, 2) := dk_54 9 (dk_at dksX11_dealByQuota_4 9 rfl rfl)
theorem dX11_dealByQuota_104 : decode cX11_dealByQuota 104 = .ok (.aload_n 0, 1) := dk_42 (dk_at dksX11_dealByQuota_4 11 rfl rfl)
theorem dX11_dealByQuota_105 : decode cX11_dealByQuota 105 = .ok (.getfield 1091, 3) := dk_180 4 67 (dk_at dksX11_dealByQuota_4 12 rfl rfl)
theorem dX11_dealByQuota_108 : decode cX11_dealByQuota 108 = .ok (.iload 6, 2) := dk_21 6 (dk_at dksX11_dealByQuota_4 15 rfl rfl)
theorem dX11_dealByQuota_110 : decode cX11_dealByQuota 110 = .ok (.aload_n 0, 1) := dk_42 (dk_at dksX11_dealByQuota_4 17 rfl rfl)
theorem dX11_dealByQuota_111 : decode cX11_dealByQuota 111 = .ok (.getfield 1063, 3) := dk_180 4 39 (dk_at dksX11_dealByQuota_4 18 rfl rfl)
theorem dX11_dealByQuota_114 : decode cX11_dealByQuota 114 = .ok (.iload 6, 2) := dk_21 6 (dk_at dksX11_dealByQuota_4 21 rfl rfl)
theorem dX11_dealByQuota_116 : decode cX11_dealByQuota 116 = .ok (.iaload, 1) := dk_46 (dk_at dksX11_dealByQuota_4 23 rfl rfl)
theorem dX11_dealByQuota_117 : decode cX11_dealByQuota 117 = .ok (.iload 7, 2) := dk_21 7 (dk_at dksX11_dealByQuota_5 0 rfl rfl)
theorem dX11_dealByQuota_119 : decode cX11_dealByQuota 119 = .ok (.imul, 1) := dk_104 (dk_at dksX11_dealByQuota_5 2 rfl rfl)
theorem dX11_dealByQuota_120 : decode cX11_dealByQuota 120 = .ok (.iload 8, 2) := dk_21 8 (dk_at dksX11_dealByQuota_5 3 rfl rfl)
theorem dX11_dealByQuota_122 : decode cX11_dealByQuota 122 = .ok (.irem, 1) := dk_112 (dk_at dksX11_dealByQuota_5 5 rfl rfl)
theorem dX11_dealByQuota_123 : decode cX11_dealByQuota 123 = .ok (.iastore, 1) := dk_79 (dk_at dksX11_dealByQuota_5 6 rfl rfl)
theorem dX11_dealByQuota_124 : decode cX11_dealByQuota 124 = .ok (.aload_n 0, 1) := dk_42 (dk_at dksX11_dealByQuota_5 7 rfl rfl)
theorem dX11_dealByQuota_125 : decode cX11_dealByQuota 125 = .ok (.getfield 1075, 3) := dk_180 4 51 (dk_at dksX11_dealByQuota_5 8 rfl rfl)
theorem dX11_dealByQuota_128 : decode cX11_dealByQuota 128 = .ok (.iload 6, 2) := dk_21 6 (dk_at dksX11_dealByQuota_5 11 rfl rfl)
theorem dX11_dealByQuota_130 : decode cX11_dealByQuota 130 = .ok (.iload_n 3, 1) := dk_29 (dk_at dksX11_dealByQuota_5 13 rfl rfl)
theorem dX11_dealByQuota_131 : decode cX11_dealByQuota 131 = .ok (.ifCond .eq 18, 3) := dk_153 0 18 (dk_at dksX11_dealByQuota_5 14 rfl rfl)
theorem dX11_dealByQuota_134 : decode cX11_dealByQuota 134 = .ok (.iload 9, 2) := dk_21 9 (dk_at dksX11_dealByQuota_5 17 rfl rfl)
theorem dX11_dealByQuota_136 : decode cX11_dealByQuota 136 = .ok (.aload_n 0, 1) := dk_42 (dk_at dksX11_dealByQuota_5 19 rfl rfl)
theorem dX11_dealByQuota_137 : decode cX11_dealByQuota 137 = .ok (.getfield 1060, 3) := dk_180 4 36 (dk_at dksX11_dealByQuota_5 20 rfl rfl)
theorem dX11_dealByQuota_140 : decode cX11_dealByQuota 140 = .ok (.iload 6, 2) := dk_21 6 (dk_at dksX11_dealByQuota_6 0 rfl rfl)
theorem dX11_dealByQuota_142 : decode cX11_dealByQuota 142 = .ok (.iaload, 1) := dk_46 (dk_at dksX11_dealByQuota_6 2 rfl rfl)
theorem dX11_dealByQuota_143 : decode cX11_dealByQuota 143 = .ok (.invokestatic 179, 3) := dk_184 0 179 (dk_at dksX11_dealByQuota_6 3 rfl rfl)
theorem dX11_dealByQuota_146 : decode cX11_dealByQuota 146 = .ok (.goto 5, 3) := dk_167 0 5 (dk_at dksX11_dealByQuota_6 6 rfl rfl)
theorem dX11_dealByQuota_149 : decode cX11_dealByQuota 149 = .ok (.iload 9, 2) := dk_21 9 (dk_at dksX11_dealByQuota_6 9 rfl rfl)
theorem dX11_dealByQuota_151 : decode cX11_dealByQuota 151 = .ok (.iastore, 1) := dk_79 (dk_at dksX11_dealByQuota_6 11 rfl rfl)
theorem dX11_dealByQuota_152 : decode cX11_dealByQuota 152 = .ok (.iload 5, 2) := dk_21 5 (dk_at dksX11_dealByQuota_6 12 rfl rfl)
theorem dX11_dealByQuota_154 : decode cX11_dealByQuota 154 = .ok (.aload_n 0, 1) := dk_42 (dk_at dksX11_dealByQuota_6 14 rfl rfl)
theorem dX11_dealByQuota_155 : decode cX11_dealByQuota 155 = .ok (.getfield 1075, 3) := dk_180 4 51 (dk_at dksX11_dealByQuota_6 15 rfl rfl)
theorem dX11_dealByQuota_158 : decode cX11_dealByQuota 158 = .ok (.iload 6, 2) := dk_21 6 (dk_at dksX11_dealByQuota_6 18 rfl rfl)
theorem dX11_dealByQuota_160 : decode cX11_dealByQuota 160 = .ok (.iaload, 1) := dk_46 (dk_at dksX11_dealByQuota_6 20 rfl rfl)
theorem dX11_dealByQuota_161 : decode cX11_dealByQuota 161 = .ok (.iadd, 1) := dk_96 (dk_at dksX11_dealByQuota_6 21 rfl rfl)
theorem dX11_dealByQuota_162 : decode cX11_dealByQuota 162 = .ok (.istore 5, 2) := dk_54 5 (dk_at dksX11_dealByQuota_6 22 rfl rfl)
theorem dX11_dealByQuota_164 : decode cX11_dealByQuota 164 = .ok (.iinc 6 1, 3) := dk_132 6 1 (dk_at dksX11_dealByQuota_7 0 rfl rfl)
theorem dX11_dealByQuota_167 : decode cX11_dealByQuota 167 = .ok (.goto (-155), 3) := dk_167 255 101 (dk_at dksX11_dealByQuota_7 3 rfl rfl)
theorem dX11_dealByQuota_170 : decode cX11_dealByQuota 170 = .ok (.iload 5, 2) := dk_21 5 (dk_at dksX11_dealByQuota_7 6 rfl rfl)
theorem dX11_dealByQuota_172 : decode cX11_dealByQuota 172 = .ok (.iload_n 2, 1) := dk_28 (dk_at dksX11_dealByQuota_7 8 rfl rfl)
theorem dX11_dealByQuota_173 : decode cX11_dealByQuota 173 = .ok (.if_icmp .le 71, 3) := dk_164 0 71 (dk_at dksX11_dealByQuota_7 9 rfl rfl)
theorem dX11_dealByQuota_176 : decode cX11_dealByQuota 176 = .ok (.aload_n 0, 1) := dk_42 (dk_at dksX11_dealByQuota_7 12 rfl rfl)
theorem dX11_dealByQuota_177 : decode cX11_dealByQuota 177 = .ok (.iconst 0, 1) := dk_3 (dk_at dksX11_dealByQuota_7 13 rfl rfl)
theorem dX11_dealByQuota_178 : decode cX11_dealByQuota 178 = .ok (.invokevirtual 1094, 3) := dk_182 4 70 (dk_at dksX11_dealByQuota_7 14 rfl rfl)
theorem dX11_dealByQuota_181 : decode cX11_dealByQuota 181 = .ok (.iconst 0, 1) := dk_3 (dk_at dksX11_dealByQuota_7 17 rfl rfl)
theorem dX11_dealByQuota_182 : decode cX11_dealByQuota 182 = .ok (.istore 6, 2) := dk_54 6 (dk_at dksX11_dealByQuota_7 18 rfl rfl)
theorem dX11_dealByQuota_184 : decode cX11_dealByQuota 184 = .ok (.iload 6, 2) := dk_21 6 (dk_at dksX11_dealByQuota_7 20 rfl rfl)
theorem dX11_dealByQuota_186 : decode cX11_dealByQuota 186 = .ok (.aload_n 0, 1) := dk_42 (dk_at dksX11_dealByQuota_7 22 rfl rfl)
theorem dX11_dealByQuota_187 : decode cX11_dealByQuota 187 = .ok (.getfield 798, 3) := dk_180 3 30 (dk_at dksX11_dealByQuota_8 0 rfl rfl)
theorem dX11_dealByQuota_190 : decode cX11_dealByQuota 190 = .ok (.if_icmp .ge 51, 3) := dk_162 0 51 (dk_at dksX11_dealByQuota_8 3 rfl rfl)
theorem dX11_dealByQuota_193 : decode cX11_dealByQuota 193 = .ok (.iload 5, 2) := dk_21 5 (dk_at dksX11_dealByQuota_8 6 rfl rfl)
theorem dX11_dealByQuota_195 : decode cX11_dealByQuota 195 = .ok (.iload_n 2, 1) := dk_28 (dk_at dksX11_dealByQuota_8 8 rfl rfl)
theorem dX11_dealByQuota_196 : decode cX11_dealByQuota 196 = .ok (.if_icmp .le 45, 3) := dk_164 0 45 (dk_at dksX11_dealByQuota_8 9 rfl rfl)
theorem dX11_dealByQuota_199 : decode cX11_dealByQuota 199 = .ok (.aload_n 0, 1) := dk_42 (dk_at dksX11_dealByQuota_8 12 rfl rfl)
theorem dX11_dealByQuota_200 : decode cX11_dealByQuota 200 = .ok (.getfield 1097, 3) := dk_180 4 73 (dk_at dksX11_dealByQuota_8 13 rfl rfl)
theorem dX11_dealByQuota_203 : decode cX11_dealByQuota 203 = .ok (.iload 6, 2) := dk_21 6 (dk_at dksX11_dealByQuota_8 16 rfl rfl)
theorem dX11_dealByQuota_205 : decode cX11_dealByQuota 205 = .ok (.iaload, 1) := dk_46 (dk_at dksX11_dealByQuota_8 18 rfl rfl)
theorem dX11_dealByQuota_206 : decode cX11_dealByQuota 206 = .ok (.istore 7, 2) := dk_54 7 (dk_at dksX11_dealByQuota_8 19 rfl rfl)
theorem dX11_dealByQuota_208 : decode cX11_dealByQuota 208 = .ok (.aload_n 0, 1) := dk_42 (dk_at dksX11_dealByQuota_8 21 rfl rfl)
theorem dX11_dealByQuota_209 : decode cX11_dealByQuota 209 = .ok (.getfield 1075, 3) := dk_180 4 51 (dk_at dksX11_dealByQuota_9 0 rfl rfl)
theorem dX11_dealByQuota_212 : decode cX11_dealByQuota 212 = .ok (.iload 7, 2) := dk_21 7 (dk_at dksX11_dealByQuota_9 3 rfl rfl)
theorem dX11_dealByQuota_214 : decode cX11_dealByQuota 214 = .ok (.iaload, 1) := dk_46 (dk_at dksX11_dealByQuota_9 5 rfl rfl)
theorem dX11_dealByQuota_215 : decode cX11_dealByQuota 215 = .ok (.ifCond .ne 6, 3) := dk_154 0 6 (dk_at dksX11_dealByQuota_9 6 rfl rfl)
theorem dX11_dealByQuota_218 : decode cX11_dealByQuota 218 = .ok (.goto 17, 3) := dk_167 0 17 (dk_at dksX11_dealByQuota_9 9 rfl rfl)
theorem dX11_dealByQuota_221 : decode cX11_dealByQuota 221 = .ok (.aload_n 0, 1) := dk_42 (dk_at dksX11_dealByQuota_9 12 rfl rfl)
theorem dX11_dealByQuota_222 : decode cX11_dealByQuota 222 = .ok (.getfield 1075, 3) := dk_180 4 51 (dk_at dksX11_dealByQuota_9 13 rfl rfl)
theorem dX11_dealByQuota_225 : decode cX11_dealByQuota 225 = .ok (.iload 7, 2) := dk_21 7 (dk_at dksX11_dealByQuota_9 16 rfl rfl)
theorem dX11_dealByQuota_227 : decode cX11_dealByQuota 227 = .ok (.dup2, 1) := dk_92 (dk_at dksX11_dealByQuota_9 18 rfl rfl)
theorem dX11_dealByQuota_228 : decode cX11_dealByQuota 228 = .ok (.iaload, 1) := dk_46 (dk_at dksX11_dealByQuota_9 19 rfl rfl)
theorem dX11_dealByQuota_229 : decode cX11_dealByQuota 229 = .ok (.iconst 1, 1) := dk_4 (dk_at dksX11_dealByQuota_9 20 rfl rfl)
theorem dX11_dealByQuota_230 : decode cX11_dealByQuota 230 = .ok (.isub, 1) := dk_100 (dk_at dksX11_dealByQuota_9 21 rfl rfl)
theorem dX11_dealByQuota_231 : decode cX11_dealByQuota 231 = .ok (.iastore, 1) := dk_79 (dk_at dksX11_dealByQuota_9 22 rfl rfl)
theorem dX11_dealByQuota_232 : decode cX11_dealByQuota 232 = .ok (.iinc 5 (-1), 3) := dk_132 5 255 (dk_at dksX11_dealByQuota_10 0 rfl rfl)
theorem dX11_dealByQuota_235 : decode cX11_dealByQuota 235 = .ok (.iinc 6 1, 3) := dk_132 6 1 (dk_at dksX11_dealByQuota_10 3 rfl rfl)
theorem dX11_dealByQuota_238 : decode cX11_dealByQuota 238 = .ok (.goto (-54), 3) := dk_167 255 202 (dk_at dksX11_dealByQuota_10 6 rfl rfl)
theorem dX11_dealByQuota_241 : decode cX11_dealByQuota 241 = .ok (.goto (-71), 3) := dk_167 255 185 (dk_at dksX11_dealByQuota_10 9 rfl rfl)
theorem dX11_dealByQuota_244 : decode cX11_dealByQuota 244 = .ok (.iconst 1, 1) := dk_4 (dk_at dksX11_dealByQuota_10 12 rfl rfl)
theorem dX11_dealByQuota_245 : decode cX11_dealByQuota 245 = .ok (.istore 6, 2) := dk_54 6 (dk_at dksX11_dealByQuota_10 13 rfl rfl)
theorem dX11_dealByQuota_247 : decode cX11_dealByQuota 247 = .ok (.iload 5, 2) := dk_21 5 (dk_at dksX11_dealByQuota_10 15 rfl rfl)
theorem dX11_dealByQuota_249 : decode cX11_dealByQuota 249 = .ok (.iload_n 2, 1) := dk_28 (dk_at dksX11_dealByQuota_10 17 rfl rfl)
theorem dX11_dealByQuota_250 : decode cX11_dealByQuota 250 = .ok (.if_icmp .ge 82, 3) := dk_162 0 82 (dk_at dksX11_dealByQuota_10 18 rfl rfl)
theorem dX11_dealByQuota_253 : decode cX11_dealByQuota 253 = .ok (.iload 6, 2) := dk_21 6 (dk_at dksX11_dealByQuota_10 21 rfl rfl)
theorem dX11_dealByQuota_255 : decode cX11_dealByQuota 255 = .ok (.ifCond .eq 77, 3) := dk_153 0 77 (dk_at dksX11_dealByQuota_11 0 rfl rfl)
theorem dX11_dealByQuota_258 : decode cX11_dealByQuota 258 = .ok (.aload_n 0, 1) := dk_42 (dk_at dksX11_dealByQuota_11 3 rfl rfl)
theorem dX11_dealByQuota_259 : decode cX11_dealByQuota 259 = .ok (.iconst 1, 1) := dk_4 (dk_at dksX11_dealByQuota_11 4 rfl rfl)
theorem dX11_dealByQuota_260 : decode cX11_dealByQuota 260 = .ok (.invokevirtual 1094, 3) := dk_182 4 70 (dk_at dksX11_dealByQuota_11 5 rfl rfl)
theorem dX11_dealByQuota_263 : decode cX11_dealByQuota 263 = .ok (.iconst 0, 1) := dk_3 (dk_at dksX11_dealByQuota_11 8 rfl rfl)
theorem dX11_dealByQuota_264 : decode cX11_dealByQuota 264 = .ok (.istore 6, 2) := dk_54 6 (dk_at dksX11_dealByQuota_11 9 rfl rfl)
theorem dX11_dealByQuota_266 : decode cX11_dealByQuota 266 = .ok (.iconst 0, 1) := dk_3 (dk_at dksX11_dealByQuota_11 11 rfl rfl)
theorem dX11_dealByQuota_267 : decode cX11_dealByQuota 267 = .ok (.istore 7, 2) := dk_54 7 (dk_at dksX11_dealByQuota_11 12 rfl rfl)
theorem dX11_dealByQuota_269 : decode cX11_dealByQuota 269 = .ok (.iload 7, 2) := dk_21 7 (dk_at dksX11_dealByQuota_11 14 rfl rfl)
theorem dX11_dealByQuota_271 : decode cX11_dealByQuota 271 = .ok (.aload_n 0, 1) := dk_42 (dk_at dksX11_dealByQuota_11 16 rfl rfl)
theorem dX11_dealByQuota_272 : decode cX11_dealByQuota 272 = .ok (.getfield 798, 3) := dk_180 3 30 (dk_at dksX11_dealByQuota_11 17 rfl rfl)
theorem dX11_dealByQuota_275 : decode cX11_dealByQuota 275 = .ok (.if_icmp .ge 54, 3) := dk_162 0 54 (dk_at dksX11_dealByQuota_11 20 rfl rfl)
theorem dX11_dealByQuota_278 : decode cX11_dealByQuota 278 = .ok (.iload 5, 2) := dk_21 5 (dk_at dksX11_dealByQuota_12 0 rfl rfl)
theorem dX11_dealByQuota_280 : decode cX11_dealByQuota 280 = .ok (.iload_n 2, 1) := dk_28 (dk_at dksX11_dealByQuota_12 2 rfl rfl)
theorem dX11_dealByQuota_281 : decode cX11_dealByQuota 281 = .ok (.if_icmp .ge 48, 3) := dk_162 0 48 (dk_at dksX11_dealByQuota_12 3 rfl rfl)
theorem dX11_dealByQuota_284 : decode cX11_dealByQuota 284 = .ok (.aload_n 0, 1) := dk_42 (dk_at dksX11_dealByQuota_12 6 rfl rfl)
theorem dX11_dealByQuota_285 : decode cX11_dealByQuota 285 = .ok (.getfield 1097, 3) := dk_180 4 73 (dk_at dksX11_dealByQuota_12 7 rfl rfl)
theorem dX11_dealByQuota_288 : decode cX11_dealByQuota 288 = .ok (.iload 7, 2) := dk_21 7 (dk_at dksX11_dealByQuota_12 10 rfl rfl)
theorem dX11_dealByQuota_290 : decode cX11_dealByQuota 290 = .ok (.iaload, 1) := dk_46 (dk_at dksX11_dealByQuota_12 12 rfl rfl)
theorem dX11_dealByQuota_291 : decode cX11_dealByQuota 291 = .ok (.istore 8, 2) := dk_54 8 (dk_at dksX11_dealByQuota_12 13 rfl rfl)
theorem dX11_dealByQuota_293 : decode cX11_dealByQuota 293 = .ok (.aload_n 0, 1) := dk_42 (dk_at dksX11_dealByQuota_12 15 rfl rfl)
theorem dX11_dealByQuota_294 : decode cX11_dealByQuota 294 = .ok (.iload 8, 2) := dk_21 8 (dk_at dksX11_dealByQuota_12 16 rfl rfl)
theorem dX11_dealByQuota_296 : decode cX11_dealByQuota 296 = .ok (.iload_n 3, 1) := dk_29 (dk_at dksX11_dealByQuota_12 18 rfl rfl)
theorem dX11_dealByQuota_297 : decode cX11_dealByQuota 297 = .ok (.invokevirtual 1082, 3) := dk_182 4 58 (dk_at dksX11_dealByQuota_12 19 rfl rfl)
theorem dX11_dealByQuota_300 : decode cX11_dealByQuota 300 = .ok (.ifCond .ne 6, 3) := dk_154 0 6 (dk_at dksX11_dealByQuota_13 0 rfl rfl)
theorem dX11_dealByQuota_303 : decode cX11_dealByQuota 303 = .ok (.goto 20, 3) := dk_167 0 20 (dk_at dksX11_dealByQuota_13 3 rfl rfl)
theorem dX11_dealByQuota_306 : decode cX11_dealByQuota 306 = .ok (.aload_n 0, 1) := dk_42 (dk_at dksX11_dealByQuota_13 6 rfl rfl)
theorem dX11_dealByQuota_307 : decode cX11_dealByQuota 307 = .ok (.getfield 1075, 3) := dk_180 4 51 (dk_at dksX11_dealByQuota_13 7 rfl rfl)
theorem dX11_dealByQuota_310 : decode cX11_dealByQuota 310 = .ok (.iload 8, 2) := dk_21 8 (dk_at dksX11_dealByQuota_13 10 rfl rfl)
theorem dX11_dealByQuota_312 : decode cX11_dealByQuota 312 = .ok (.dup2, 1) := dk_92 (dk_at dksX11_dealByQuota_13 12 rfl rfl)
theorem dX11_dealByQuota_313 : decode cX11_dealByQuota 313 = .ok (.iaload, 1) := dk_46 (dk_at dksX11_dealByQuota_13 13 rfl rfl)
theorem dX11_dealByQuota_314 : decode cX11_dealByQuota 314 = .ok (.iconst 1, 1) := dk_4 (dk_at dksX11_dealByQuota_13 14 rfl rfl)
theorem dX11_dealByQuota_315 : decode cX11_dealByQuota 315 = .ok (.iadd, 1) := dk_96 (dk_at dksX11_dealByQuota_13 15 rfl rfl)
theorem dX11_dealByQuota_316 : decode cX11_dealByQuota 316 = .ok (.iastore, 1) := dk_79 (dk_at dksX11_dealByQuota_13 16 rfl rfl)
theorem dX11_dealByQuota_317 : decode cX11_dealByQuota 317 = .ok (.iinc 5 1, 3) := dk_132 5 1 (dk_at dksX11_dealByQuota_13 17 rfl rfl)
theorem dX11_dealByQuota_320 : decode cX11_dealByQuota 320 = .ok (.iconst 1, 1) := dk_4 (dk_at dksX11_dealByQuota_13 20 rfl rfl)
theorem dX11_dealByQuota_321 : decode cX11_dealByQuota 321 = .ok (.istore 6, 2) := dk_54 6 (dk_at dksX11_dealByQuota_13 21 rfl rfl)
theorem dX11_dealByQuota_323 : decode cX11_dealByQuota 323 = .ok (.iinc 7 1, 3) := dk_132 7 1 (dk_at dksX11_dealByQuota_14 0 rfl rfl)
theorem dX11_dealByQuota_326 : decode cX11_dealByQuota 326 = .ok (.goto (-57), 3) := dk_167 255 199 (dk_at dksX11_dealByQuota_14 3 rfl rfl)
theorem dX11_dealByQuota_329 : decode cX11_dealByQuota 329 = .ok (.goto (-82), 3) := dk_167 255 174 (dk_at dksX11_dealByQuota_14 6 rfl rfl)
theorem dX11_dealByQuota_332 : decode cX11_dealByQuota 332 = .ok (.return_, 1) := dk_177 (dk_at dksX11_dealByQuota_14 9 rfl rfl)
abbrev cX11_sortLists : ByteArray := prog_17_method_184_code
def yX11_sortLists : MethodName := ⟨RX11, "sortLists", "(Z)V"⟩
def dkwX11_sortLists_6 : List UInt8 := [89, 180, 3, 30, 4, 96, 181, 3, 30, 132, 2, 1, 167, 255, 112, 177]
abbrev dktX11_sortLists_6 : List UInt8 := dkwX11_sortLists_6 ++ []
def dkwX11_sortLists_5 : List UInt8 := [180, 4, 73, 21, 4, 4, 100, 46, 79, 132, 4, 255, 167, 255, 179, 42, 180, 4, 73, 21, 4, 29, 79, 42]
abbrev dktX11_sortLists_5 : List UInt8 := dkwX11_sortLists_5 ++ dktX11_sortLists_6
def dkwX11_sortLists_4 : List UInt8 := [180, 4, 67, 42, 180, 4, 73, 21, 4, 4, 100, 46, 46, 162, 0, 25, 42, 180, 4, 73, 21, 4, 42]
abbrev dktX11_sortLists_4 : List UInt8 := dkwX11_sortLists_4 ++ dktX11_sortLists_5
def dkwX11_sortLists_3 : List UInt8 := [180, 4, 73, 21, 4, 4, 100, 46, 46, 164, 0, 51, 167, 0, 26, 42, 180, 4, 67, 29, 46, 42]
abbrev dktX11_sortLists_3 : List UInt8 := dkwX11_sortLists_3 ++ dktX11_sortLists_4
def dkwX11_sortLists_2 : List UInt8 := [54, 4, 21, 4, 158, 0, 78, 27, 153, 0, 29, 42, 180, 4, 67, 29, 46, 42, 180, 4, 67, 42]
abbrev dktX11_sortLists_2 : List UInt8 := dkwX11_sortLists_2 ++ dktX11_sortLists_3
def dkwX11_sortLists_1 : List UInt8 := [180, 4, 30, 4, 100, 28, 100, 62, 42, 180, 4, 48, 29, 51, 154, 0, 6, 167, 0, 107, 42, 180, 3, 30]
abbrev dktX11_sortLists_1 : List UInt8 := dkwX11_sortLists_1 ++ dktX11_sortLists_2
def dkwX11_sortLists_0 : List UInt8 := [42, 3, 181, 3, 30, 3, 61, 28, 42, 180, 4, 30, 162, 0, 142, 27, 153, 0, 7, 28, 167, 0, 11, 42]
abbrev dktX11_sortLists_0 : List UInt8 := dkwX11_sortLists_0 ++ dktX11_sortLists_1
theorem dksX11_sortLists_0 : cX11_sortLists.data.toList.drop 0 = dktX11_sortLists_0 := by decide +kernel
theorem dksX11_sortLists_1 : cX11_sortLists.data.toList.drop 24 = dktX11_sortLists_1 := dk_seg dksX11_sortLists_0 24 rfl rfl
theorem dksX11_sortLists_2 : cX11_sortLists.data.toList.drop 48 = dktX11_sortLists_2 := dk_seg dksX11_sortLists_1 24 rfl rfl
theorem dksX11_sortLists_3 : cX11_sortLists.data.toList.drop 70 = dktX11_sortLists_3 := dk_seg dksX11_sortLists_2 22 rfl rfl
theorem dksX11_sortLists_4 : cX11_sortLists.data.toList.drop 92 = dktX11_sortLists_4 := dk_seg dksX11_sortLists_3 22 rfl rfl
theorem dksX11_sortLists_5 : cX11_sortLists.data.toList.drop 115 = dktX11_sortLists_5 := dk_seg dksX11_sortLists_4 23 rfl rfl
theorem dksX11_sortLists_6 : cX11_sortLists.data.toList.drop 139 = dktX11_sortLists_6 := dk_seg dksX11_sortLists_5 24 rfl rfl
theorem dX11_sortLists_0 : decode cX11_sortLists 0 = .ok (.aload_n 0, 1) := dk_42 (dk_at dksX11_sortLists_0 0 rfl rfl)
theorem dX11_sortLists_1 : decode cX11_sortLists 1 = .ok (.iconst 0, 1) := dk_3 (dk_at dksX11_sortLists_0 1 rfl rfl)
theorem dX11_sortLists_2 : decode cX11_sortLists 2 = .ok (.putfield 798, 3) := dk_181 3 30 (dk_at dksX11_sortLists_0 2 rfl rfl)
theorem dX11_sortLists_5 : decode cX11_sortLists 5 = .ok (.iconst 0, 1) := dk_3 (dk_at dksX11_sortLists_0 5 rfl rfl)
theorem dX11_sortLists_6 : decode cX11_sortLists 6 = .ok (.istore_n 2, 1) := dk_61 (dk_at dksX11_sortLists_0 6 rfl rfl)
theorem dX11_sortLists_7 : decode cX11_sortLists 7 = .ok (.iload_n 2, 1) := dk_28 (dk_at dksX11_sortLists_0 7 rfl rfl)
theorem dX11_sortLists_8 : decode cX11_sortLists 8 = .ok (.aload_n 0, 1) := dk_42 (dk_at dksX11_sortLists_0 8 rfl rfl)
theorem dX11_sortLists_9 : decode cX11_sortLists 9 = .ok (.getfield 1054, 3) := dk_180 4 30 (dk_at dksX11_sortLists_0 9 rfl rfl)
theorem dX11_sortLists_12 : decode cX11_sortLists 12 = .ok (.if_icmp .ge 142, 3) := dk_162 0 142 (dk_at dksX11_sortLists_0 12 rfl rfl)
theorem dX11_sortLists_15 : decode cX11_sortLists 15 = .ok (.iload_n 1, 1) := dk_27 (dk_at dksX11_sortLists_0 15 rfl rfl)
theorem dX11_sortLists_16 : decode cX11_sortLists 16 = .ok (.ifCond .eq 7, 3) := dk_153 0 7 (dk_at dksX11_sortLists_0 16 rfl rfl)
theorem dX11_sortLists_19 : decode cX11_sortLists 19 = .ok (.iload_n 2, 1) := dk_28 (dk_at dksX11_sortLists_0 19 rfl rfl)
theorem dX11_sortLists_20 : decode cX11_sortLists 20 = .ok (.goto 11, 3) := dk_167 0 11 (dk_at dksX11_sortLists_0 20 rfl rfl)
theorem dX11_sortLists_23 : decode cX11_sortLists 23 = .ok (.aload_n 0, 1) := dk_42 (dk_at dksX11_sortLists_0 23 rfl rfl)
theorem dX11_sortLists_24 : decode cX11_sortLists 24 = .ok (.getfield 1054, 3) := dk_180 4 30 (dk_at dksX11_sortLists_1 0 rfl rfl)
theorem dX11_sortLists_27 : decode cX11_sortLists 27 = .ok (.iconst 1, 1) := dk_4 (dk_at dksX11_sortLists_1 3 rfl rfl)
theorem dX11_sortLists_28 : decode cX11_sortLists 28 = .ok (.isub, 1) := dk_100 (dk_at dksX11_sortLists_1 4 rfl rfl)
theorem dX11_sortLists_29 : decode cX11_sortLists 29 = .ok (.iload_n 2, 1) := dk_28 (dk_at dksX11_sortLists_1 5 rfl rfl)
theorem dX11_sortLists_30 : decode cX11_sortLists 30 = .ok (.isub, 1) := dk_100 (dk_at dksX11_sortLists_1 6 rfl rfl)
theorem dX11_sortLists_31 : decode cX11_sortLists 31 = .ok (.istore_n 3, 1) := dk_62 (dk_at dksX11_sortLists_1 7 rfl rfl)
theorem dX11_sortLists_32 : decode cX11_sortLists 32 = .ok (.aload_n 0, 1) := dk_42 (dk_at dksX11_sortLists_1 8 rfl rfl)
theorem dX11_sortLists_33 : decode cX11_sortLists 33 = .ok (.getfield 1072, 3) := dk_180 4 48 (dk_at dksX11_sortLists_1 9 rfl rfl)
theorem dX11_sortLists_36 : decode cX11_sortLists 36 = .ok (.iload_n 3, 1) := dk_29 (dk_at dksX11_sortLists_1 12 rfl rfl)
theorem dX11_sortLists_37 : decode cX11_sortLists 37 = .ok (.baload, 1) := dk_51 (dk_at dksX11_sortLists_1 13 rfl rfl)
theorem dX11_sortLists_38 : decode cX11_sortLists 38 = .ok (.ifCond .ne 6, 3) := dk_154 0 6 (dk_at dksX11_sortLists_1 14 rfl rfl)
theorem dX11_sortLists_41 : decode cX11_sortLists 41 = .ok (.goto 107, 3) := dk_167 0 107 (dk_at dksX11_sortLists_1 17 rfl rfl)
theorem dX11_sortLists_44 : decode cX11_sortLists 44 = .ok (.aload_n 0, 1) := dk_42 (dk_at dksX11_sortLists_1 20 rfl rfl)
theorem dX11_sortLists_45 : decode cX11_sortLists 45 = .ok (.getfield 798, 3) := dk_180 3 30 (dk_at dksX11_sortLists_1 21 rfl rfl)
theorem dX11_sortLists_48 : decode cX11_sortLists 48 = .ok (.istore 4, 2) := dk_54 4 (dk_at dksX11_sortLists_2 0 rfl rfl)
theorem dX11_sortLists_50 : decode cX11_sortLists 50 = .ok (.iload 4, 2) := dk_21 4 (dk_at dksX11_sortLists_2 2 rfl rfl)
theorem dX11_sortLists_52 : decode cX11_sortLists 52 = .ok (.ifCond .le 78, 3) := dk_158 0 78 (dk_at dksX11_sortLists_2 4 rfl rfl)
theorem dX11_sortLists_55 : decode cX11_sortLists 55 = .ok (.iload_n 1, 1) := dk_27 (dk_at dksX11_sortLists_2 7 rfl rfl)
theorem dX11_sortLists_56 : decode cX11_sortLists 56 = .ok (.ifCond .eq 29, 3) := dk_153 0 29 (dk_at dksX11_sortLists_2 8 rfl rfl)
theorem dX11_sortLists_59 : decode cX11_sortLists 59 = .ok (.aload_n 0, 1) := dk_42 (dk_at dksX11_sortLists_2 11 rfl rfl)
theorem dX11_sortLists_60 : decode cX11_sortLists 60 = .ok (.getfield 1091, 3) := dk_180 4 67 (dk_at dksX11_sortLists_2 12 rfl rfl)
theorem dX11_sortLists_63 : decode cX11_sortLists 63 = .ok (.iload_n 3, 1) := dk_29 (dk_at dksX11_sortLists_2 15 rfl rfl)
theorem dX11_sortLists_64 : decode cX11_sortLists 64 = .ok (.iaload, 1) := dk_46 (dk_at dksX11_sortLists_2 16 rfl rfl)
theorem dX11_sortLists_65 : decode cX11_sortLists 65 = .ok (.aload_n 0, 1) := dk_42 (dk_at dksX11_sortLists_2 17 rfl rfl)
theorem dX11_sortLists_66 : decode cX11_sortLists 66 = .ok (.getfield 1091, 3) := dk_180 4 67 (dk_at dksX11_sortLists_2 18 rfl rfl)
theorem dX11_sortLists_69 : decode cX11_sortLists 69 = .ok (.aload_n 0, 1) := dk_42 (dk_at dksX11_sortLists_2 21 rfl rfl)
theorem dX11_sortLists_70 : decode cX11_sortLists 70 = .ok (.getfield 1097, 3) := dk_180 4 73 (dk_at dksX11_sortLists_3 0 rfl rfl)
theorem dX11_sortLists_73 : decode cX11_sortLists 73 = .ok (.iload 4, 2) := dk_21 4 (dk_at dksX11_sortLists_3 3 rfl rfl)
theorem dX11_sortLists_75 : decode cX11_sortLists 75 = .ok (.iconst 1, 1) := dk_4 (dk_at dksX11_sortLists_3 5 rfl rfl)
theorem dX11_sortLists_76 : decode cX11_sortLists 76 = .ok (.isub, 1) := dk_100 (dk_at dksX11_sortLists_3 6 rfl rfl)
theorem dX11_sortLists_77 : decode cX11_sortLists 77 = .ok (.iaload, 1) := dk_46 (dk_at dksX11_sortLists_3 7 rfl rfl)
theorem dX11_sortLists_78 : decode cX11_sortLists 78 = .ok (.iaload, 1) := dk_46 (dk_at dksX11_sortLists_3 8 rfl rfl)
theorem dX11_sortLists_79 : decode cX11_sortLists 79 = .ok (.if_icmp .le 51, 3) := dk_164 0 51 (dk_at dksX11_sortLists_3 9 rfl rfl)
theorem dX11_sortLists_82 : decode cX11_sortLists 82 = .ok (.goto 26, 3) := dk_167 0 26 (dk_at dksX11_sortLists_3 12 rfl rfl)
theorem dX11_sortLists_85 : decode cX11_sortLists 85 = .ok (.aload_n 0, 1) := dk_42 (dk_at dksX11_sortLists_3 15 rfl rfl)
theorem dX11_sortLists_86 : decode cX11_sortLists 86 = .ok (.getfield 1091, 3) := dk_180 4 67 (dk_at dksX11_sortLists_3 16 rfl rfl)
theorem dX11_sortLists_89 : decode cX11_sortLists 89 = .ok (.iload_n 3, 1) := dk_29 (dk_at dksX11_sortLists_3 19 rfl rfl)
theorem dX11_sortLists_90 : decode cX11_sortLists 90 = .ok (.iaload, 1) := dk_46 (dk_at dksX11_sortLists_3 20 rfl rfl)
theorem dX11_sortLists_91 : decode cX11_sortLists 91 = .ok (.aload_n 0, 1) := dk_42 (dk_at dksX11_sortLists_3 21 rfl rfl)
theorem dX11_sortLists_92 : decode cX11_sortLists 92 = .ok (.getfield 1091, 3) := dk_180 4 67 (dk_at dksX11_sortLists_4 0 rfl rfl)
theorem dX11_sortLists_95 : decode cX11_sortLists 95 = .ok (.aload_n 0, 1) := dk_42 (dk_at dksX11_sortLists_4 3 rfl rfl)
theorem dX11_sortLists_96 : decode cX11_sortLists 96 = .ok (.getfield 1097, 3) := dk_180 4 73 (dk_at dksX11_sortLists_4 4 rfl rfl)
theorem dX11_sortLists_99 : decode cX11_sortLists 99 = .ok (.iload 4, 2) := dk_21 4 (dk_at dksX11_sortLists_4 7 rfl rfl)
theorem dX11_sortLists_101 : decode cX11_sortLists 101 = .ok (.iconst 1, 1) := dk_4 (dk_at dksX11_sortLists_4 9 rfl rfl)
theorem dX11_sortLists_102 : decode cX11_sortLists 102 = .ok (.isub, 1) := dk_100 (dk_at dksX11_sortLists_4 10 rfl rfl)
theorem dX11_sortLists_103 : decode cX11_sortLists 103 = .ok (.iaload, 1) := dk_46 (dk_at dksX11_sortLists_4 11 rfl rfl)
theorem dX11_sortLists_104 : decode cX11_sortLists 104 = .ok (.iaload, 1) := dk_46 (dk_at dksX11_sortLists_4 12 rfl rfl)
theorem dX11_sortLists_105 : decode cX11_sortLists 105 = .ok (.if_icmp .ge 25, 3) := dk_162 0 25 (dk_at dksX11_sortLists_4 13 rfl rfl)
theorem dX11_sortLists_108 : decode cX11_sortLists 108 = .ok (.aload_n 0, 1) := dk_42 (dk_at dksX11_sortLists_4 16 rfl rfl)
theorem dX11_sortLists_109 : decode cX11_sortLists 109 = .ok (.getfield 1097, 3) := dk_180 4 73 (dk_at dksX11_sortLists_4 17 rfl rfl)
theorem dX11_sortLists_112 : decode cX11_sortLists 112 = .ok (.iload 4, 2) := dk_21 4 (dk_at dksX11_sortLists_4 20 rfl rfl)
theorem dX11_sortLists_114 : decode cX11_sortLists 114 = .ok (.aload_n 0, 1) := dk_42 (dk_at dksX11_sortLists_4 22 rfl rfl)
theorem dX11_sortLists_115 : decode cX11_sortLists 115 = .ok (.getfield 1097, 3) := dk_180 4 73 (dk_at dksX11_sortLists_5 0 rfl rfl)
theorem dX11_sortLists_118 : decode cX11_sortLists 118 = .ok (.iload 4, 2) := dk_21 4 (dk_at dksX11_sortLists_5 3 rfl rfl)
theorem dX11_sortLists_120 : decode cX11_sortLists 120 = .ok (.iconst 1, 1) := dk_4 (dk_at dksX11_sortLists_5 5 rfl rfl)
theorem dX11_sortLists_121 : decode cX11_sortLists 121 = .ok (.isub, 1) := dk_100 (dk_at dksX11_sortLists_5 6 rfl rfl)
theorem dX11_sortLists_122 : decode cX11_sortLists 122 = .ok (.iaload, 1) := dk_46 (dk_at dksX11_sortLists_5 7 rfl rfl)
theorem dX11_sortLists_123 : decode cX11_sortLists 123 = .ok (.iastore, 1) := dk_79 (dk_at dksX11_sortLists_5 8 rfl rfl)
theorem dX11_sortLists_124 : decode cX11_sortLists 124 = .ok (.iinc 4 (-1), 3) := dk_132 4 255 (dk_at dksX11_sortLists_5 9 rfl rfl)
theorem dX11_sortLists_127 : decode cX11_sortLists 127 = .ok (.goto (-77), 3) := dk_167 255 179 (dk_at dksX11_sortLists_5 12 rfl rfl)
theorem dX11_sortLists_130 : decode cX11_sortLists 130 = .ok (.aload_n 0, 1) := dk_42 (dk_at dksX11_sortLists_5 15 rfl rfl)
theorem dX11_sortLists_131 : decode cX11_sortLists 131 = .ok (.getfield 1097, 3) := dk_180 4 73 (dk_at dksX11_sortLists_5 16 rfl rfl)
theorem dX11_sortLists_134 : decode cX11_sortLists 134 = .ok (.iload 4, 2) := dk_21 4 (dk_at dksX11_sortLists_5 19 rfl rfl)
theorem dX11_sortLists_136 : decode cX11_sortLists 136 = .ok (.iload_n 3, 1) := dk_29 (dk_at dksX11_sortLists_5 21 rfl rfl)
theorem dX11_sortLists_137 : decode cX11_sortLists 137 = .ok (.iastore, 1) := dk_79 (dk_at dksX11_sortLists_5 22 rfl rfl)
theorem dX11_sortLists_138 : decode cX11_sortLists 138 = .ok (.aload_n 0, 1) := dk_42 (dk_at dksX11_sortLists_5 23 rfl rfl)
theorem dX11_sortLists_139 : decode cX11_sortLists 139 = .ok (.dup, 1) := dk_89 (dk_at dksX11_sortLists_6 0 rfl rfl)
theorem dX11_sortLists_140 : decode cX11_sortLists 140 = .ok (.getfield 798, 3) := dk_180 3 30 (dk_at dksX11_sortLists_6 1 rfl rfl)
theorem dX11_sortLists_143 : decode cX11_sortLists 143 = .ok (.iconst 1, 1) := dk_4 (dk_at dksX11_sortLists_6 4 rfl rfl)
theorem dX11_sortLists_144 : decode cX11_sortLists 144 = .ok (.iadd, 1) := dk_96 (dk_at dksX11_sortLists_6 5 rfl rfl)
theorem dX11_sortLists_145 : decode cX11_sortLists 145 = .ok (.putfield 798, 3) := dk_181 3 30 (dk_at dksX11_sortLists_6 6 rfl rfl)
theorem dX11_sortLists_148 : decode cX11_sortLists 148 = .ok (.iinc 2 1, 3) := dk_132 2 1 (dk_at dksX11_sortLists_6 9 rfl rfl)
theorem dX11_sortLists_151 : decode cX11_sortLists 151 = .ok (.goto (-144), 3) := dk_167 255 112 (dk_at dksX11_sortLists_6 12 rfl rfl)
theorem dX11_sortLists_154 : decode cX11_sortLists 154 = .ok (.return_, 1) := dk_177 (dk_at dksX11_sortLists_6 15 rfl rfl)
abbrev cX11_hasPlace : ByteArray := prog_17_method_180_code
def yX11_hasPlace : MethodName := ⟨RX11, "hasPlace", "(IZ)Z"⟩
def dkwX11_hasPlace_1 : List UInt8 := [46, 162, 0, 7, 4, 167, 0, 4, 3, 172]
abbrev dktX11_hasPlace_1 : List UInt8 := dkwX11_hasPlace_1 ++ []
def dkwX11_hasPlace_0 : List UInt8 := [42, 180, 4, 48, 27, 51, 153, 0, 26, 28, 153, 0, 18, 42, 180, 4, 51, 27, 46, 42, 180, 4, 36, 27]
abbrev dktX11_hasPlace_0 : List UInt8 := dkwX11_hasPlace_0 ++ dktX11_hasPlace_1
theorem dksX11_hasPlace_0 : cX11_hasPlace.data.toList.drop 0 = dktX11_hasPlace_0 := by decide +kernel
theorem dksX11_hasPlace_1 : cX11_hasPlace.data.toList.drop 24 = dktX11_hasPlace_1 := dk_seg dksX11_hasPlace_0 24 rfl rfl
theorem dX11_hasPlace_0 : decode cX11_hasPlace 0 = .ok (.aload_n 0, 1) := dk_42 (dk_at dksX11_hasPlace_0 0 rfl rfl)
theorem dX11_hasPlace_1 : decode cX11_hasPlace 1 = .ok (.getfield 1072, 3) := dk_180 4 48 (dk_at dksX11_hasPlace_0 1 rfl rfl)
theorem dX11_hasPlace_4 : decode cX11_hasPlace 4 = .ok (.iload_n 1, 1) := dk_27 (dk_at dksX11_hasPlace_0 4 rfl rfl)
theorem dX11_hasPlace_5 : decode cX11_hasPlace 5 = .ok (.baload, 1) := dk_51 (dk_at dksX11_hasPlace_0 5 rfl rfl)
theorem dX11_hasPlace_6 : decode cX11_hasPlace 6 = .ok (.ifCond .eq 26, 3) := dk_153 0 26 (dk_at dksX11_hasPlace_0 6 rfl rfl)
theorem dX11_hasPlace_9 : decode cX11_hasPlace 9 = .ok (.iload_n 2, 1) := dk_28 (dk_at dksX11_hasPlace_0 9 rfl rfl)
theorem dX11_hasPlace_10 : decode cX11_hasPlace 10 = .ok (.ifCond .eq 18, 3) := dk_153 0 18 (dk_at dksX11_hasPlace_0 10 rfl rfl)
theorem dX11_hasPlace_13 : decode cX11_hasPlace 13 = .ok (.aload_n 0, 1) := dk_42 (dk_at dksX11_hasPlace_0 13 rfl rfl)
theorem dX11_hasPlace_14 : decode cX11_hasPlace 14 = .ok (.getfield 1075, 3) := dk_180 4 51 (dk_at dksX11_hasPlace_0 14 rfl rfl)
theorem dX11_hasPlace_17 : decode cX11_hasPlace 17 = .ok (.iload_n 1, 1) := dk_27 (dk_at dksX11_hasPlace_0 17 rfl rfl)
theorem dX11_hasPlace_18 : decode cX11_hasPlace 18 = .ok (.iaload, 1) := dk_46 (dk_at dksX11_hasPlace_0 18 rfl rfl)
theorem dX11_hasPlace_19 : decode cX11_hasPlace 19 = .ok (.aload_n 0, 1) := dk_42 (dk_at dksX11_hasPlace_0 19 rfl rfl)
theorem dX11_hasPlace_20 : decode cX11_hasPlace 20 = .ok (.getfield 1060, 3) := dk_180 4 36 (dk_at dksX11_hasPlace_0 20 rfl rfl)
theorem dX11_hasPlace_23 : decode cX11_hasPlace 23 = .ok (.iload_n 1, 1) := dk_27 (dk_at dksX11_hasPlace_0 23 rfl rfl)
theorem dX11_hasPlace_24 : decode cX11_hasPlace 24 = .ok (.iaload, 1) := dk_46 (dk_at dksX11_hasPlace_1 0 rfl rfl)
theorem dX11_hasPlace_25 : decode cX11_hasPlace 25 = .ok (.if_icmp .ge 7, 3) := dk_162 0 7 (dk_at dksX11_hasPlace_1 1 rfl rfl)
theorem dX11_hasPlace_28 : decode cX11_hasPlace 28 = .ok (.iconst 1, 1) := dk_4 (dk_at dksX11_hasPlace_1 4 rfl rfl)
theorem dX11_hasPlace_29 : decode cX11_hasPlace 29 = .ok (.goto 4, 3) := dk_167 0 4 (dk_at dksX11_hasPlace_1 5 rfl rfl)
theorem dX11_hasPlace_32 : decode cX11_hasPlace 32 = .ok (.iconst 0, 1) := dk_3 (dk_at dksX11_hasPlace_1 8 rfl rfl)
theorem dX11_hasPlace_33 : decode cX11_hasPlace 33 = .ok (.ireturn, 1) := dk_172 (dk_at dksX11_hasPlace_1 9 rfl rfl)
abbrev cX11_divisor : ByteArray := prog_17_method_181_code
def yX11_divisor : MethodName := ⟨RX11, "divisor", "(II)I"⟩
def dkwX11_divisor_3 : List UInt8 := [16, 14, 167, 0, 11, 16, 10, 5, 27, 104, 4, 96, 104, 172]
abbrev dktX11_divisor_3 : List UInt8 := dkwX11_divisor_3 ++ []
def dkwX11_divisor_2 : List UInt8 := [27, 4, 96, 172, 5, 27, 104, 4, 96, 172, 6, 27, 104, 4, 96, 172, 27, 5, 96, 172, 27, 154, 0, 8]
abbrev dktX11_divisor_2 : List UInt8 := dkwX11_divisor_2 ++ dktX11_divisor_3
def dkwX11_divisor_1 : List UInt8 := [170, 0, 0, 0, 0, 0, 51, 0, 0, 0, 0, 0, 0, 0, 3, 0, 0, 0, 31, 0, 0, 0, 35, 0, 0, 0, 41, 0, 0, 0, 47]
abbrev dktX11_divisor_1 : List UInt8 := dkwX11_divisor_1 ++ dktX11_divisor_2
def dkwX11_divisor_0 : List UInt8 := [26]
abbrev dktX11_divisor_0 : List UInt8 := dkwX11_divisor_0 ++ dktX11_divisor_1
theorem dksX11_divisor_0 : cX11_divisor.data.toList.drop 0 = dktX11_divisor_0 := by decide +kernel
theorem dksX11_divisor_1 : cX11_divisor.data.toList.drop 1 = dktX11_divisor_1 := dk_seg dksX11_divisor_0 1 rfl rfl
theorem dksX11_divisor_2 : cX11_divisor.data.toList.drop 32 = dktX11_divisor_2 := dk_seg dksX11_divisor_1 31 rfl rfl
theorem dksX11_divisor_3 : cX11_divisor.data.toList.drop 56 = dktX11_divisor_3 := dk_seg dksX11_divisor_2 24 rfl rfl
theorem dX11_divisor_0 : decode cX11_divisor 0 = .ok (.iload_n 0, 1) := dk_26 (dk_at dksX11_divisor_0 0 rfl rfl)
theorem dX11_divisor_1 : decode cX11_divisor 1 = .ok (.tableswitch 51 0 3 #[31, 35, 41, 47], 31) := by decide +kernel
theorem dX11_divisor_32 : decode cX11_divisor 32 = .ok (.iload_n 1, 1) := dk_27 (dk_at dksX11_divisor_2 0 rfl rfl)
theorem dX11_divisor_33 : decode cX11_divisor 33 = .ok (.iconst 1, 1) := dk_4 (dk_at dksX11_divisor_2 1 rfl rfl)
theorem dX11_divisor_34 : decode cX11_divisor 34 = .ok (.iadd, 1) := dk_96 (dk_at dksX11_divisor_2 2 rfl rfl)
theorem dX11_divisor_35 : decode cX11_divisor 35 = .ok (.ireturn, 1) := dk_172 (dk_at dksX11_divisor_2 3 rfl rfl)
theorem dX11_divisor_36 : decode cX11_divisor 36 = .ok (.iconst 2, 1) := dk_5 (dk_at dksX11_divisor_2 4 rfl rfl)
theorem dX11_divisor_37 : decode cX11_divisor 37 = .ok (.iload_n 1, 1) := dk_27 (dk_at dksX11_divisor_2 5 rfl rfl)
theorem dX11_divisor_38 : decode cX11_divisor 38 = .ok (.imul, 1) := dk_104 (dk_at dksX11_divisor_2 6 rfl rfl)
theorem dX11_divisor_39 : decode cX11_divisor 39 = .ok (.iconst 1, 1) := dk_4 (dk_at dksX11_divisor_2 7 rfl rfl)
theorem dX11_divisor_40 : decode cX11_divisor 40 = .ok (.iadd, 1) := dk_96 (dk_at dksX11_divisor_2 8 rfl rfl)
theorem dX11_divisor_41 : decode cX11_divisor 41 = .ok (.ireturn, 1) := dk_172 (dk_at dksX11_divisor_2 9 rfl rfl)
theorem dX11_divisor_42 : decode cX11_divisor 42 = .ok (.iconst 3, 1) := dk_6 (dk_at dksX11_divisor_2 10 rfl rfl)
theorem dX11_divisor_43 : decode cX11_divisor 43 = .ok (.iload_n 1, 1) := dk_27 (dk_at dksX11_divisor_2 11 rfl rfl)
theorem dX11_divisor_44 : decode cX11_divisor 44 = .ok (.imul, 1) := dk_104 (dk_at dksX11_divisor_2 12 rfl rfl)
theorem dX11_divisor_45 : decode cX11_divisor 45 = .ok (.iconst 1, 1) := dk_4 (dk_at dksX11_divisor_2 13 rfl rfl)
theorem dX11_divisor_46 : decode cX11_divisor 46 = .ok (.iadd, 1) := dk_96 (dk_at dksX11_divisor_2 14 rfl rfl)
theorem dX11_divisor_47 : decode cX11_divisor 47 = .ok (.ireturn, 1) := dk_172 (dk_at dksX11_divisor_2 15 rfl rfl)
theorem dX11_divisor_48 : decode cX11_divisor 48 = .ok (.iload_n 1, 1) := dk_27 (dk_at dksX11_divisor_2 16 rfl rfl)
theorem dX11_divisor_49 : decode cX11_divisor 49 = .ok (.iconst 2, 1) := dk_5 (dk_at dksX11_divisor_2 17 rfl rfl)
theorem dX11_divisor_50 : decode cX11_divisor 50 = .ok (.iadd, 1) := dk_96 (dk_at dksX11_divisor_2 18 rfl rfl)
theorem dX11_divisor_51 : decode cX11_divisor 51 = .ok (.ireturn, 1) := dk_172 (dk_at dksX11_divisor_2 19 rfl rfl)
theorem dX11_divisor_52 : decode cX11_divisor 52 = .ok (.iload_n 1, 1) := dk_27 (dk_at dksX11_divisor_2 20 rfl rfl)
theorem dX11_divisor_53 : decode cX11_divisor 53 = .ok (.ifCond .ne 8, 3) := dk_154 0 8 (dk_at dksX11_divisor_2 21 rfl rfl)
theorem dX11_divisor_56 : decode cX11_divisor 56 = .ok (.bipush 14, 2) := dk_16 14 (dk_at dksX11_divisor_3 0 rfl rfl)
theorem dX11_divisor_58 : decode cX11_divisor 58 = .ok (.goto 11, 3) := dk_167 0 11 (dk_at dksX11_divisor_3 2 rfl rfl)
theorem dX11_divisor_61 : decode cX11_divisor 61 = .ok (.bipush 10, 2) := dk_16 10 (dk_at dksX11_divisor_3 5 rfl rfl)
theorem dX11_divisor_63 : decode cX11_divisor 63 = .ok (.iconst 2, 1) := dk_5 (dk_at dksX11_divisor_3 7 rfl rfl)
theorem dX11_divisor_64 : decode cX11_divisor 64 = .ok (.iload_n 1, 1) := dk_27 (dk_at dksX11_divisor_3 8 rfl rfl)
theorem dX11_divisor_65 : decode cX11_divisor 65 = .ok (.imul, 1) := dk_104 (dk_at dksX11_divisor_3 9 rfl rfl)
theorem dX11_divisor_66 : decode cX11_divisor 66 = .ok (.iconst 1, 1) := dk_4 (dk_at dksX11_divisor_3 10 rfl rfl)
theorem dX11_divisor_67 : decode cX11_divisor 67 = .ok (.iadd, 1) := dk_96 (dk_at dksX11_divisor_3 11 rfl rfl)
theorem dX11_divisor_68 : decode cX11_divisor 68 = .ok (.imul, 1) := dk_104 (dk_at dksX11_divisor_3 12 rfl rfl)
theorem dX11_divisor_69 : decode cX11_divisor 69 = .ok (.ireturn, 1) := dk_172 (dk_at dksX11_divisor_3 13 rfl rfl)
abbrev cX11_electLists : ByteArray := prog_17_method_187_code
def yX11_electLists : MethodName := ⟨RX11, "electLists", "(Z)V"⟩
def dkwX11_electLists_11 : List UInt8 := [132, 2, 1, 167, 255, 148, 177]
abbrev dktX11_electLists_11 : List UInt8 := dkwX11_electLists_11 ++ []
def dkwX11_electLists_10 : List UInt8 := [42, 21, 5, 182, 3, 64, 42, 180, 4, 42, 29, 92, 46, 4, 96, 79, 132, 4, 1, 167, 255, 172]
abbrev dktX11_electLists_10 : List UInt8 := dkwX11_electLists_10 ++ dktX11_electLists_11
def dkwX11_electLists_9 : List UInt8 := [162, 0, 40, 27, 153, 0, 20, 42, 180, 4, 24, 42, 21, 5, 182, 4, 27, 51, 153, 0, 6, 167, 0, 19]
abbrev dktX11_electLists_9 : List UInt8 := dkwX11_electLists_9 ++ dktX11_electLists_10
def dkwX11_electLists_8 : List UInt8 := [180, 4, 45, 21, 5, 46, 29, 160, 0, 55, 42, 180, 4, 42, 29, 46, 42, 180, 4, 51, 29, 46]
abbrev dktX11_electLists_8 : List UInt8 := dkwX11_electLists_8 ++ dktX11_electLists_9
def dkwX11_electLists_7 : List UInt8 := [62, 3, 54, 4, 21, 4, 42, 180, 3, 30, 162, 0, 81, 42, 180, 3, 37, 21, 4, 46, 54, 5, 42]
abbrev dktX11_electLists_7 : List UInt8 := dkwX11_electLists_7 ++ dktX11_electLists_8
def dkwX11_electLists_6 : List UInt8 := [28, 79, 132, 2, 1, 167, 255, 190, 3, 61, 28, 42, 180, 4, 30, 162, 0, 106, 42, 180, 4, 73, 28, 46]
abbrev dktX11_electLists_6 : List UInt8 := dkwX11_electLists_6 ++ dktX11_electLists_7
def dkwX11_electLists_5 : List UInt8 := [180, 4, 73, 29, 42, 180, 4, 73, 29, 4, 100, 46, 79, 132, 3, 255, 167, 255, 213, 42, 180, 4, 73, 29]
abbrev dktX11_electLists_5 : List UInt8 := dkwX11_electLists_5 ++ dktX11_electLists_6
def dkwX11_electLists_4 : List UInt8 := [180, 4, 39, 28, 46, 42, 180, 4, 39, 42, 180, 4, 73, 29, 4, 100, 46, 46, 164, 0, 23, 42]
abbrev dktX11_electLists_4 : List UInt8 := dkwX11_electLists_4 ++ dktX11_electLists_5
def dkwX11_electLists_3 : List UInt8 := [132, 2, 1, 167, 255, 216, 3, 61, 28, 42, 180, 4, 30, 162, 0, 64, 28, 62, 29, 158, 0, 45, 42]
abbrev dktX11_electLists_3 : List UInt8 := dkwX11_electLists_3 ++ dktX11_electLists_4
def dkwX11_electLists_2 : List UInt8 := [153, 0, 23, 42, 180, 3, 37, 42, 180, 3, 30, 28, 79, 42, 89, 180, 3, 30, 4, 96, 181, 3, 30]
abbrev dktX11_electLists_2 : List UInt8 := dkwX11_electLists_2 ++ dktX11_electLists_3
def dkwX11_electLists_1 : List UInt8 := [167, 0, 53, 42, 3, 181, 3, 30, 3, 61, 28, 42, 180, 2, 243, 162, 0, 38, 42, 180, 2, 252, 28, 51]
abbrev dktX11_electLists_1 : List UInt8 := dkwX11_electLists_1 ++ dktX11_electLists_2
def dkwX11_electLists_0 : List UInt8 := [42, 42, 180, 2, 237, 16, 6, 182, 1, 229, 4, 160, 0, 15, 42, 5, 182, 3, 97, 42, 182, 3, 103]
abbrev dktX11_electLists_0 : List UInt8 := dkwX11_electLists_0 ++ dktX11_electLists_1
theorem dksX11_electLists_0 : cX11_electLists.data.toList.drop 0 = dktX11_electLists_0 := by decide +kernel
theorem dksX11_electLists_1 : cX11_electLists.data.toList.drop 23 = dktX11_electLists_1 := dk_seg dksX11_electLists_0 23 rfl rfl
theorem dksX11_electLists_2 : cX11_electLists.data.toList.drop 47 = dktX11_electLists_2 := dk_seg dksX11_electLists_1 24 rfl rfl
theorem dksX11_electLists_3 : cX11_electLists.data.toList.drop 70 = dktX11_electLists_3 := dk_seg dksX11_electLists_2 23 rfl rfl
theorem dksX11_electLists_4 : cX11_electLists.data.toList.drop 93 = dktX11_electLists_4 := dk_seg dksX11_electLists_3 23 rfl rfl
theorem dksX11_electLists_5 : cX11_electLists.data.toList.drop 115 = dktX11_electLists_5 := dk_seg dksX11_electLists_4 22 rfl rfl
theorem dksX11_electLists_6 : cX11_electLists.data.toList.drop 139 = dktX11_electLists_6 := dk_seg dksX11_electLists_5 24 rfl rfl
theorem dksX11_electLists_7 : cX11_electLists.data.toList.drop 163 = dktX11_electLists_7 := dk_seg dksX11_electLists_6 24 rfl rfl
theorem dksX11_electLists_8 : cX11_electLists.data.toList.drop 186 = dktX11_electLists_8 := dk_seg dksX11_electLists_7 23 rfl rfl
theorem dksX11_electLists_9 : cX11_electLists.data.toList.drop 208 = dktX11_electLists_9 := dk_seg dksX11_electLists_8 22 rfl rfl
theorem dksX11_electLists_10 : cX11_electLists.data.toList.drop 232 = dktX11_electLists_10 := dk_seg dksX11_electLists_9 24 rfl rfl
theorem dksX11_electLists_11 : cX11_electLists.data.toList.drop 254 = dktX11_electLists_11 := dk_seg dksX11_electLists_10 22 rfl rfl
theorem dX11_electLists_0 : decode cX11_electLists 0 = .ok (.aload_n 0, 1) := dk_42 (dk_at dksX11_electLists_0 0 rfl rfl)
theorem dX11_electLists_1 : decode cX11_electLists 1 = .ok (.aload_n 0, 1) := dk_42 (dk_at dksX11_electLists_0 1 rfl rfl)
theorem dX11_electLists_2 : decode cX11_electLists 2 = .ok (.getfield 749, 3) := dk_180 2 237 (dk_at dksX11_electLists_0 2 rfl rfl)
theorem dX11_electLists_5 : decode cX11_electLists 5 = .ok (.bipush 6, 2) := dk_16 6 (dk_at dksX11_electLists_0 5 rfl rfl)
theorem dX11_electLists_7 : decode cX11_electLists 7 = .ok (.invokevirtual 485, 3) := dk_182 1 229 (dk_at dksX11_electLists_0 7 rfl rfl)
theorem dX11_electLists_10 : decode cX11_electLists 10 = .ok (.iconst 1, 1) := dk_4 (dk_at dksX11_electLists_0 10 rfl rfl)
theorem dX11_electLists_11 : decode cX11_electLists 11 = .ok (.if_icmp .ne 15, 3) := dk_160 0 15 (dk_at dksX11_electLists_0 11 rfl rfl)
theorem dX11_electLists_14 : decode cX11_electLists 14 = .ok (.aload_n 0, 1) := dk_42 (dk_at dksX11_electLists_0 14 rfl rfl)
theorem dX11_electLists_15 : decode cX11_electLists 15 = .ok (.iconst 2, 1) := dk_5 (dk_at dksX11_electLists_0 15 rfl rfl)
theorem dX11_electLists_16 : decode cX11_electLists 16 = .ok (.invokevirtual 865, 3) := dk_182 3 97 (dk_at dksX11_electLists_0 16 rfl rfl)
theorem dX11_electLists_19 : decode cX11_electLists 19 = .ok (.aload_n 0, 1) := dk_42 (dk_at dksX11_electLists_0 19 rfl rfl)
theorem dX11_electLists_20 : decode cX11_electLists 20 = .ok (.invokevirtual 871, 3) := dk_182 3 103 (dk_at dksX11_electLists_0 20 rfl rfl)
theorem dX11_electLists_23 : decode cX11_electLists 23 = .ok (.goto 53, 3) := dk_167 0 53 (dk_at dksX11_electLists_1 0 rfl rfl)
theorem dX11_electLists_26 : decode cX11_electLists 26 = .ok (.aload_n 0, 1) := dk_42 (dk_at dksX11_electLists_1 3 rfl rfl)
theorem dX11_electLists_27 : decode cX11_electLists 27 = .ok (.iconst 0, 1) := dk_3 (dk_at dksX11_electLists_1 4 rfl rfl)
theorem dX11_electLists_28 : decode cX11_electLists 28 = .ok (.putfield 798, 3) := dk_181 3 30 (dk_at dksX11_electLists_1 5 rfl rfl)
theorem dX11_electLists_31 : decode cX11_electLists 31 = .ok (.iconst 0, 1) := dk_3 (dk_at dksX11_electLists_1 8 rfl rfl)
theorem dX11_electLists_32 : decode cX11_electLists 32 = .ok (.istore_n 2, 1) := dk_61 (dk_at dksX11_electLists_1 9 rfl rfl)
theorem dX11_electLists_33 : decode cX11_electLists 33 = .ok (.iload_n 2, 1) := dk_28 (dk_at dksX11_electLists_1 10 rfl rfl)
theorem dX11_electLists_34 : decode cX11_electLists 34 = .ok (.aload_n 0, 1) := dk_42 (dk_at dksX11_electLists_1 11 rfl rfl)
theorem dX11_electLists_35 : decode cX11_electLists 35 = .ok (.getfield 755, 3) := dk_180 2 243 (dk_at dksX11_electLists_1 12 rfl rfl)
theorem dX11_electLists_38 : decode cX11_electLists 38 = .ok (.if_icmp .ge 38, 3) := dk_162 0 38 (dk_at dksX11_electLists_1 15 rfl rfl)
theorem dX11_electLists_41 : decode cX11_electLists 41 = .ok (.aload_n 0, 1) := dk_42 (dk_at dksX11_electLists_1 18 rfl rfl)
theorem dX11_electLists_42 : decode cX11_electLists 42 = .ok (.getfield 764, 3) := dk_180 2 252 (dk_at dksX11_electLists_1 19 rfl rfl)
theorem dX11_electLists_45 : decode cX11_electLists 45 = .ok (.iload_n 2, 1) := dk_28 (dk_at dksX11_electLists_1 22 rfl rfl)
theorem dX11_electLists_46 : decode cX11_electLists 46 = .ok (.baload, 1) := dk_51 (dk_at dksX11_electLists_1 23 rfl rfl)
theorem dX11_electLists_47 : decode cX11_electLists 47 = .ok (.ifCond .eq 23, 3) := dk_153 0 23 (dk_at dksX11_electLists_2 0 rfl rfl)
theorem dX11_electLists_50 : decode cX11_electLists 50 = .ok (.aload_n 0, 1) := dk_42 (dk_at dksX11_electLists_2 3 rfl rfl)
theorem dX11_electLists_51 : decode cX11_electLists 51 = .ok (.getfield 805, 3) := dk_180 3 37 (dk_at dksX11_electLists_2 4 rfl rfl)
theorem dX11_electLists_54 : decode cX11_electLists 54 = .ok (.aload_n 0, 1) := dk_42 (dk_at dksX11_electLists_2 7 rfl rfl)
theorem dX11_electLists_55 : decode cX11_electLists 55 = .ok (.getfield 798, 3) := dk_180 3 30 (dk_at dksX11_electLists_2 8 rfl rfl)
theorem dX11_electLists_58 : decode cX11_electLists 58 = .ok (.iload_n 2, 1) := dk_28 (dk_at dksX11_electLists_2 11 rfl rfl)
theorem dX11_electLists_59 : decode cX11_electLists 59 = .ok (.iastore, 1) := dk_79 (dk_at dksX11_electLists_2 12 rfl rfl)
theorem dX11_electLists_60 : decode cX11_electLists 60 = .ok (.aload_n 0, 1) := dk_42 (dk_at dksX11_electLists_2 13 rfl rfl)
theorem dX11_electLists_61 : decode cX11_electLists 61 = .ok (.dup, 1) := dk_89 (dk_at dksX11_electLists_2 14 rfl rfl)
theorem dX11_electLists_62 : decode cX11_electLists 62 = .ok (.getfield 798, 3) := dk_180 3 30 (dk_at dksX11_electLists_2 15 rfl rfl)
theorem dX11_electLists_65 : decode cX11_electLists 65 = .ok (.iconst 1, 1) := dk_4 (dk_at dksX11_electLists_2 18 rfl rfl)
theorem dX11_electLists_66 : decode cX11_electLists 66 = .ok (.iadd, 1) := dk_96 (dk_at dksX11_electLists_2 19 rfl rfl)
theorem dX11_electLists_67 : decode cX11_electLists 67 = .ok (.putfield 798, 3) := dk_181 3 30 (dk_at dksX11_electLists_2 20 rfl rfl)
theorem dX11_electLists_70 : decode cX11_electLists 70 = .ok (.iinc 2 1, 3) := dk_132 2 1 (dk_at dksX11_electLists_3 0 rfl rfl)
theorem dX11_electLists_73 : decode cX11_electLists 73 = .ok (.goto (-40), 3) := dk_167 255 216 (dk_at dksX11_electLists_3 3 rfl rfl)
theorem dX11_electLists_76 : decode cX11_electLists 76 = .ok (.iconst 0, 1) := dk_3 (dk_at dksX11_electLists_3 6 rfl rfl)
theorem dX11_electLists_77 : decode cX11_electLists 77 = .ok (.istore_n 2, 1) := dk_61 (dk_at dksX11_electLists_3 7 rfl rfl)
theorem dX11_electLists_78 : decode cX11_electLists 78 = .ok (.iload_n 2, 1) := dk_28 (dk_at dksX11_electLists_3 8 rfl rfl)
theorem dX11_electLists_79 : decode cX11_electLists 79 = .ok (.aload_n 0, 1) := dk_42 (dk_at dksX11_electLists_3 9 rfl rfl)
theorem dX11_electLists_80 : decode cX11_electLists 80 = .ok (.getfield 1054, 3) := dk_180 4 30 (dk_at dksX11_electLists_3 10 rfl rfl)
theorem dX11_electLists_83 : decode cX11_electLists 83 = .ok (.if_icmp .ge 64, 3) := dk_162 0 64 (dk_at dksX11_electLists_3 13 rfl rfl)
theorem dX11_electLists_86 : decode cX11_electLists 86 = .ok (.iload_n 2, 1) := dk_28 (dk_at dksX11_electLists_3 16 rfl rfl)
theorem dX11_electLists_87 : decode cX11_electLists 87 = .ok (.istore_n 3, 1) := dk_62 (dk_at dksX11_electLists_3 17 rfl rfl)
theorem dX11_electLists_88 : decode cX11_electLists 88 = .ok (.iload_n 3, 1) := dk_29 (dk_at dksX11_electLists_3 18 rfl rfl)
theorem dX11_electLists_89 : decode cX11_electLists 89 = .ok (.ifCond .le 45, 3) := dk_158 0 45 (dk_at dksX11_electLists_3 19 rfl rfl)
theorem dX11_electLists_92 : decode cX11_electLists 92 = .ok (.aload_n 0, 1) := dk_42 (dk_at dksX11_electLists_3 22 rfl rfl)
theorem dX11_electLists_93 : decode cX11_electLists 93 = .ok (.getfield 1063, 3) := dk_180 4 39 (dk_at dksX11_electLists_4 0 rfl rfl)
theorem dX11_electLists_96 : decode cX11_electLists 96 = .ok (.iload_n 2, 1) := dk_28 (dk_at dksX11_electLists_4 3 rfl rfl)
theorem dX11_electLists_97 : decode cX11_electLists 97 = .ok (.iaload, 1) := dk_46 (dk_at dksX11_electLists_4 4 rfl rfl)
theorem dX11_electLists_98 : decode cX11_electLists 98 = .ok (.aload_n 0, 1) := dk_42 (dk_at dksX11_electLists_4 5 rfl rfl)
theorem dX11_electLists_99 : decode cX11_electLists 99 = .ok (.getfield 1063, 3) := dk_180 4 39 (dk_at dksX11_electLists_4 6 rfl rfl)
theorem dX11_electLists_102 : decode cX11_electLists 102 = .ok (.aload_n 0, 1) := dk_42 (dk_at dksX11_electLists_4 9 rfl rfl)
theorem dX11_electLists_103 : decode cX11_electLists 103 = .ok (.getfield 1097, 3) := dk_180 4 73 (dk_at dksX11_electLists_4 10 rfl rfl)
theorem dX11_electLists_106 : decode cX11_electLists 106 = .ok (.iload_n 3, 1) := dk_29 (dk_at dksX11_electLists_4 13 rfl rfl)
theorem dX11_electLists_107 : decode cX11_electLists 107 = .ok (.iconst 1, 1) := dk_4 (dk_at dksX11_electLists_4 14 rfl rfl)
theorem dX11_electLists_108 : decode cX11_electLists 108 = .ok (.isub, 1) := dk_100 (dk_at dksX11_electLists_4 15 rfl rfl)
theorem dX11_electLists_109 : decode cX11_electLists 109 = .ok (.iaload, 1) := dk_46 (dk_at dksX11_electLists_4 16 rfl rfl)
theorem dX11_electLists_110 : decode cX11_electLists 110 = .ok (.iaload, 1) := dk_46 (dk_at dksX11_electLists_4 17 rfl rfl)
theorem dX11_electLists_111 : decode cX11_electLists 111 = .ok (.if_icmp .le 23, 3) := dk_164 0 23 (dk_at dksX11_electLists_4 18 rfl rfl)
theorem dX11_electLists_114 : decode cX11_electLists 114 = .ok (.aload_n 0, 1) := dk_42 (dk_at dksX11_electLists_4 21 rfl rfl)
theorem dX11_electLists_115 : decode cX11_electLists 115 = .ok (.getfield 1097, 3) := dk_180 4 73 (dk_at dksX11_electLists_5 0 rfl rfl)
theorem dX11_electLists_118 : decode cX11_electLists 118 = .ok (.iload_n 3, 1) := dk_29 (dk_at dksX11_electLists_5 3 rfl rfl)
theorem dX11_electLists_119 : decode cX11_electLists 119 = .ok (.aload_n 0, 1) := dk_42 (dk_at dksX11_electLists_5 4 rfl rfl)
theorem dX11_electLists_120 : decode cX11_electLists 120 = .ok (.getfield 1097, 3) := dk_180 4 73 (dk_at dksX11_electLists_5 5 rfl rfl)
theorem dX11_electLists_123 : decode cX11_electLists 123 = .ok (.iload_n 3, 1) := dk_29 (dk_at dksX11_electLists_5 8 rfl rfl)
theorem dX11_electLists_124 : decode cX11_electLists 124 = .ok (.iconst 1, 1) := dk_4 (dk_at dksX11_electLists_5 9 rfl rfl)
theorem dX11_electLists_125 : decode cX11_electLists 125 = .ok (.isub, 1) := dk_100 (dk_at dksX11_electLists_5 10 rfl rfl)
theorem dX11_electLists_126 : decode cX11_electLists 126 = .ok (.iaload, 1) := dk_46 (dk_at dksX11_electLists_5 11 rfl rfl)
theorem dX11_electLists_127 : decode cX11_electLists 127 = .ok (.iastore, 1) := dk_79 (dk_at dksX11_electLists_5 12 rfl rfl)
theorem dX11_electLists_128 : decode cX11_electLists 128 = .ok (.iinc 3 (-1), 3) := dk_132 3 255 (dk_at dksX11_electLists_5 13 rfl rfl)
theorem dX11_electLists_131 : decode cX11_electLists 131 = .ok (.goto (-43), 3) := dk_167 255 213 (dk_at dksX11_electLists_5 16 rfl rfl)
theorem dX11_electLists_134 : decode cX11_electLists 134 = .ok (.aload_n 0, 1) := dk_42 (dk_at dksX11_electLists_5 19 rfl rfl)
theorem dX11_electLists_135 : decode cX11_electLists 135 = .ok (.getfield 1097, 3) := dk_180 4 73 (dk_at dksX11_electLists_5 20 rfl rfl)
theorem dX11_electLists_138 : decode cX11_electLists 138 = .ok (.iload_n 3, 1) := dk_29 (dk_at dksX11_electLists_5 23 rfl rfl)
theorem dX11_electLists_139 : decode cX11_electLists 139 = .ok (.iload_n 2, 1) := dk_28 (dk_at dksX11_electLists_6 0 rfl rfl)
theorem dX11_electLists_140 : decode cX11_electLists 140 = .ok (.iastore, 1) := dk_79 (dk_at dksX11_electLists_6 1 rfl rfl)
theorem dX11_electLists_141 : decode cX11_electLists 141 = .ok (.iinc 2 1, 3) := dk_132 2 1 (dk_at dksX11_electLists_6 2 rfl rfl)
theorem dX11_electLists_144 : decode cX11_electLists 144 = .ok (.goto (-66), 3) := dk_167 255 190 (dk_at dksX11_electLists_6 5 rfl rfl)
theorem dX11_electLists_147 : decode cX11_electLists 147 = .ok (.iconst 0, 1) := dk_3 (dk_at dksX11_electLists_6 8 rfl rfl)
theorem dX11_electLists_148 : decode cX11_electLists 148 = .ok (.istore_n 2, 1) := dk_61 (dk_at dksX11_electLists_6 9 rfl rfl)
theorem dX11_electLists_149 : decode cX11_electLists 149 = .ok (.iload_n 2, 1) := dk_28 (dk_at dksX11_electLists_6 10 rfl rfl)
theorem dX11_electLists_150 : decode cX11_electLists 150 = .ok (.aload_n 0, 1) := dk_42 (dk_at dksX11_electLists_6 11 rfl rfl)
theorem dX11_electLists_151 : decode cX11_electLists 151 = .ok (.getfield 1054, 3) := dk_180 4 30 (dk_at dksX11_electLists_6 12 rfl rfl)
theorem dX11_electLists_154 : decode cX11_electLists 154 = .ok (.if_icmp .ge 106, 3) := dk_162 0 106 (dk_at dksX11_electLists_6 15 rfl rfl)
theorem dX11_electLists_157 : decode cX11_electLists 157 = .ok (.aload_n 0, 1) := dk_42 (dk_at dksX11_electLists_6 18 rfl rfl)
theorem dX11_electLists_158 : decode cX11_electLists 158 = .ok (.getfield 1097, 3) := dk_180 4 73 (dk_at dksX11_electLists_6 19 rfl rfl)
theorem dX11_electLists_161 : decode cX11_electLists 161 = .ok (.iload_n 2, 1) := dk_28 (dk_at dksX11_electLists_6 22 rfl rfl)
theorem dX11_electLists_162 : decode cX11_electLists 162 = .ok (.iaload, 1) := dk_46 (dk_at dksX11_electLists_6 23 rfl rfl)
theorem dX11_electLists_163 : decode cX11_electLists 163 = .ok (.istore_n 3, 1) := dk_62 (dk_at dksX11_electLists_7 0 rfl rfl)
theorem dX11_electLists_164 : decode cX11_electLists 164 = .ok (.iconst 0, 1) := dk_3 (dk_at dksX11_electLists_7 1 rfl rfl)
theorem dX11_electLists_165 : decode cX11_electLists 165 = .ok (.istore 4, 2) := dk_54 4 (dk_at dksX11_electLists_7 2 rfl rfl)
theorem dX11_electLists_167 : decode cX11_electLists 167 = .ok (.iload 4, 2) := dk_21 4 (dk_at dksX11_electLists_7 4 rfl rfl)
theorem dX11_electLists_169 : decode cX11_electLists 169 = .ok (.aload_n 0, 1) := dk_42 (dk_at dksX11_electLists_7 6 rfl rfl)
theorem dX11_electLists_170 : decode cX11_electLists 170 = .ok (.getfield 798, 3) := dk_180 3 30 (dk_at dksX11_electLists_7 7 rfl rfl)
theorem dX11_electLists_173 : decode cX11_electLists 173 = .ok (.if_icmp .ge 81, 3) := dk_162 0 81 (dk_at dksX11_electLists_7 10 rfl rfl)
theorem dX11_electLists_176 : decode cX11_electLists 176 = .ok (.aload_n 0, 1) := dk_42 (dk_at dksX11_electLists_7 13 rfl rfl)
theorem dX11_electLists_177 : decode cX11_electLists 177 = .ok (.getfield 805, 3) := dk_180 3 37 (dk_at dksX11_electLists_7 14 rfl rfl)
theorem dX11_electLists_180 : decode cX11_electLists 180 = .ok (.iload 4, 2) := dk_21 4 (dk_at dksX11_electLists_7 17 rfl rfl)
theorem dX11_electLists_182 : decode cX11_electLists 182 = .ok (.iaload, 1) := dk_46 (dk_at dksX11_electLists_7 19 rfl rfl)
theorem dX11_electLists_183 : decode cX11_electLists 183 = .ok (.istore 5, 2) := dk_54 5 (dk_at dksX11_electLists_7 20 rfl rfl)
theorem dX11_electLists_185 : decode cX11_electLists 185 = .ok (.aload_n 0, 1) := dk_42 (dk_at dksX11_electLists_7 22 rfl rfl)
theorem dX11_electLists_186 : decode cX11_electLists 186 = .ok (.getfield 1069, 3) := dk_180 4 45 (dk_at dksX11_electLists_8 0 rfl rfl)
theorem dX11_electLists_189 : decode cX11_electLists 189 = .ok (.iload 5, 2) := dk_21 5 (dk_at dksX11_electLists_8 3 rfl rfl)
theorem dX11_electLists_191 : decode cX11_electLists 191 = .ok (.iaload, 1) := dk_46 (dk_at dksX11_electLists_8 5 rfl rfl)
theorem dX11_electLists_192 : decode cX11_electLists 192 = .ok (.iload_n 3, 1) := dk_29 (dk_at dksX11_electLists_8 6 rfl rfl)
theorem dX11_electLists_193 : decode cX11_electLists 193 = .ok (.if_icmp .ne 55, 3) := dk_160 0 55 (dk_at dksX11_electLists_8 7 rfl rfl)
theorem dX11_electLists_196 : decode cX11_electLists 196 = .ok (.aload_n 0, 1) := dk_42 (dk_at dksX11_electLists_8 10 rfl rfl)
theorem dX11_electLists_197 : decode cX11_electLists 197 = .ok (.getfield 1066, 3) := dk_180 4 42 (dk_at dksX11_electLists_8 11 rfl rfl)
theorem dX11_electLists_200 : decode cX11_electLists 200 = .ok (.iload_n 3, 1) := dk_29 (dk_at dksX11_electLists_8 14 rfl rfl)
theorem dX11_electLists_201 : decode cX11_electLists 201 = .ok (.iaload, 1) := dk_46 (dk_at dksX11_electLists_8 15 rfl rfl)
theorem dX11_electLists_202 : decode cX11_electLists 202 = .ok (.aload_n 0, 1) := dk_42 (dk_at dksX11_electLists_8 16 rfl rfl)
theorem dX11_electLists_203 : decode cX11_electLists 203 = .ok (.getfield 1075, 3) := dk_180 4 51 (dk_at dksX11_electLists_8 17 rfl rfl)
theorem dX11_electLists_206 : decode cX11_electLists 206 = .ok (.iload_n 3, 1) := dk_29 (dk_at dksX11_electLists_8 20 rfl rfl)
theorem dX11_electLists_207 : decode cX11_electLists 207 = .ok (.iaload, 1) := dk_46 (dk_at dksX11_electLists_8 21 rfl rfl)
theorem dX11_electLists_208 : decode cX11_electLists 208 = .ok (.if_icmp .ge 40, 3) := dk_162 0 40 (dk_at dksX11_electLists_9 0 rfl rfl)
theorem dX11_electLists_211 : decode cX11_electLists 211 = .ok (.iload_n 1, 1) := dk_27 (dk_at dksX11_electLists_9 3 rfl rfl)
theorem dX11_electLists_212 : decode cX11_electLists 212 = .ok (.ifCond .eq 20, 3) := dk_153 0 20 (dk_at dksX11_electLists_9 4 rfl rfl)
theorem dX11_electLists_215 : decode cX11_electLists 215 = .ok (.aload_n 0, 1) := dk_42 (dk_at dksX11_electLists_9 7 rfl rfl)
theorem dX11_electLists_216 : decode cX11_electLists 216 = .ok (.getfield 1048, 3) := dk_180 4 24 (dk_at dksX11_electLists_9 8 rfl rfl)
theorem dX11_electLists_219 : decode cX11_electLists 219 = .ok (.aload_n 0, 1) := dk_42 (dk_at dksX11_electLists_9 11 rfl rfl)
theorem dX11_electLists_220 : decode cX11_electLists 220 = .ok (.iload 5, 2) := dk_21 5 (dk_at dksX11_electLists_9 12 rfl rfl)
theorem dX11_electLists_222 : decode cX11_electLists 222 = .ok (.invokevirtual 1051, 3) := dk_182 4 27 (dk_at dksX11_electLists_9 14 rfl rfl)
theorem dX11_electLists_225 : decode cX11_electLists 225 = .ok (.baload, 1) := dk_51 (dk_at dksX11_electLists_9 17 rfl rfl)
theorem dX11_electLists_226 : decode cX11_electLists 226 = .ok (.ifCond .eq 6, 3) := dk_153 0 6 (dk_at dksX11_electLists_9 18 rfl rfl)
theorem dX11_electLists_229 : decode cX11_electLists 229 = .ok (.goto 19, 3) := dk_167 0 19 (dk_at dksX11_electLists_9 21 rfl rfl)
theorem dX11_electLists_232 : decode cX11_electLists 232 = .ok (.aload_n 0, 1) := dk_42 (dk_at dksX11_electLists_10 0 rfl rfl)
theorem dX11_electLists_233 : decode cX11_electLists 233 = .ok (.iload 5, 2) := dk_21 5 (dk_at dksX11_electLists_10 1 rfl rfl)
theorem dX11_electLists_235 : decode cX11_electLists 235 = .ok (.invokevirtual 832, 3) := dk_182 3 64 (dk_at dksX11_electLists_10 3 rfl rfl)
theorem dX11_electLists_238 : decode cX11_electLists 238 = .ok (.aload_n 0, 1) := dk_42 (dk_at dksX11_electLists_10 6 rfl rfl)
theorem dX11_electLists_239 : decode cX11_electLists 239 = .ok (.getfield 1066, 3) := dk_180 4 42 (dk_at dksX11_electLists_10 7 rfl rfl)
theorem dX11_electLists_242 : decode cX11_electLists 242 = .ok (.iload_n 3, 1) := dk_29 (dk_at dksX11_electLists_10 10 rfl rfl)
theorem dX11_electLists_243 : decode cX11_electLists 243 = .ok (.dup2, 1) := dk_92 (dk_at dksX11_electLists_10 11 rfl rfl)
theorem dX11_electLists_244 : decode cX11_electLists 244 = .ok (.iaload, 1) := dk_46 (dk_at dksX11_electLists_10 12 rfl rfl)
theorem dX11_electLists_245 : decode cX11_electLists 245 = .ok (.iconst 1, 1) := dk_4 (dk_at dksX11_electLists_10 13 rfl rfl)
theorem dX11_electLists_246 : decode cX11_electLists 246 = .ok (.iadd, 1) := dk_96 (dk_at dksX11_electLists_10 14 rfl rfl)
theorem dX11_electLists_247 : decode cX11_electLists 247 = .ok (.iastore, 1) := dk_79 (dk_at dksX11_electLists_10 15 rfl rfl)
theorem dX11_electLists_248 : decode cX11_electLists 248 = .ok (.iinc 4 1, 3) := dk_132 4 1 (dk_at dksX11_electLists_10 16 rfl rfl)
theorem dX11_electLists_251 : decode cX11_electLists 251 = .ok (.goto (-84), 3) := dk_167 255 172 (dk_at dksX11_electLists_10 19 rfl rfl)
theorem dX11_electLists_254 : decode cX11_electLists 254 = .ok (.iinc 2 1, 3) := dk_132 2 1 (dk_at dksX11_electLists_11 0 rfl rfl)
theorem dX11_electLists_257 : decode cX11_electLists 257 = .ok (.goto (-108), 3) := dk_167 255 148 (dk_at dksX11_electLists_11 3 rfl rfl)
theorem dX11_electLists_260 : decode cX11_electLists 260 = .ok (.return_, 1) := dk_177 (dk_at dksX11_electLists_11 6 rfl rfl)
abbrev cX11_win : ByteArray := prog_17_method_141_code
def yX11_win : MethodName := ⟨RX11, "win", "(I)V"⟩
def dkwX11_win_0 : List UInt8 := [42, 180, 3, 58, 42, 180, 3, 61, 27, 79, 42, 89, 180, 3, 61, 4, 96, 181, 3, 61, 177]
abbrev dktX11_win_0 : List UInt8 := dkwX11_win_0 ++ []
theorem dksX11_win_0 : cX11_win.data.toList.drop 0 = dktX11_win_0 := by decide +kernel
theorem dX11_win_0 : decode cX11_win 0 = .ok (.aload_n 0, 1) := dk_42 (dk_at dksX11_win_0 0 rfl rfl)
theorem dX11_win_1 : decode cX11_win 1 = .ok (.getfield 826, 3) := dk_180 3 58 (dk_at dksX11_win_0 1 rfl rfl)
theorem dX11_win_4 : decode cX11_win 4 = .ok (.aload_n 0, 1) := dk_42 (dk_at dksX11_win_0 4 rfl rfl)
theorem dX11_win_5 : decode cX11_win 5 = .ok (.getfield 829, 3) := dk_180 3 61 (dk_at dksX11_win_0 5 rfl rfl)
theorem dX11_win_8 : decode cX11_win 8 = .ok (.iload_n 1, 1) := dk_27 (dk_at dksX11_win_0 8 rfl rfl)
theorem dX11_win_9 : decode cX11_win 9 = .ok (.iastore, 1) := dk_79 (dk_at dksX11_win_0 9 rfl rfl)
theorem dX11_win_10 : decode cX11_win 10 = .ok (.aload_n 0, 1) := dk_42 (dk_at dksX11_win_0 10 rfl rfl)
theorem dX11_win_11 : decode cX11_win 11 = .ok (.dup, 1) := dk_89 (dk_at dksX11_win_0 11 rfl rfl)
theorem dX11_win_12 : decode cX11_win 12 = .ok (.getfield 829, 3) := dk_180 3 61 (dk_at dksX11_win_0 12 rfl rfl)
theorem dX11_win_15 : decode cX11_win 15 = .ok (.iconst 1, 1) := dk_4 (dk_at dksX11_win_0 15 rfl rfl)
theorem dX11_win_16 : decode cX11_win 16 = .ok (.iadd, 1) := dk_96 (dk_at dksX11_win_0 16 rfl rfl)
theorem dX11_win_17 : decode cX11_win 17 = .ok (.putfield 829, 3) := dk_181 3 61 (dk_at dksX11_win_0 17 rfl rfl)
theorem dX11_win_20 : decode cX11_win 20 = .ok (.return_, 1) := dk_177 (dk_at dksX11_win_0 20 rfl rfl)
abbrev cX11_tell : ByteArray := prog_17_method_139_code
def yX11_tell : MethodName := ⟨RX11, "tell", "()V"⟩
def dkwX11_tell_3 : List UInt8 := [180, 3, 49, 2, 79, 42, 89, 180, 3, 49, 4, 96, 181, 3, 49, 177]
abbrev dktX11_tell_3 : List UInt8 := dkwX11_tell_3 ++ []
def dkwX11_tell_2 : List UInt8 := [9, 80, 132, 1, 1, 167, 255, 206, 42, 180, 3, 52, 42, 180, 3, 49, 3, 79, 42, 180, 3, 55, 42]
abbrev dktX11_tell_2 : List UInt8 := dkwX11_tell_2 ++ dktX11_tell_3
def dkwX11_tell_1 : List UInt8 := [180, 2, 243, 162, 0, 21, 42, 180, 2, 252, 27, 51, 153, 0, 12, 42, 180, 3, 33, 27, 47, 167, 0, 4]
abbrev dktX11_tell_1 : List UInt8 := dkwX11_tell_1 ++ dktX11_tell_2
def dkwX11_tell_0 : List UInt8 := [3, 60, 27, 16, 9, 162, 0, 50, 42, 180, 3, 46, 16, 9, 42, 180, 3, 49, 104, 27, 96, 27, 42]
abbrev dktX11_tell_0 : List UInt8 := dkwX11_tell_0 ++ dktX11_tell_1
theorem dksX11_tell_0 : cX11_tell.data.toList.drop 0 = dktX11_tell_0 := by decide +kernel
theorem dksX11_tell_1 : cX11_tell.data.toList.drop 23 = dktX11_tell_1 := dk_seg dksX11_tell_0 23 rfl rfl
theorem dksX11_tell_2 : cX11_tell.data.toList.drop 47 = dktX11_tell_2 := dk_seg dksX11_tell_1 24 rfl rfl
theorem dksX11_tell_3 : cX11_tell.data.toList.drop 70 = dktX11_tell_3 := dk_seg dksX11_tell_2 23 rfl rfl
theorem dX11_tell_0 : decode cX11_tell 0 = .ok (.iconst 0, 1) := dk_3 (dk_at dksX11_tell_0 0 rfl rfl)
theorem dX11_tell_1 : decode cX11_tell 1 = .ok (.istore_n 1, 1) := dk_60 (dk_at dksX11_tell_0 1 rfl rfl)
theorem dX11_tell_2 : decode cX11_tell 2 = .ok (.iload_n 1, 1) := dk_27 (dk_at dksX11_tell_0 2 rfl rfl)
theorem dX11_tell_3 : decode cX11_tell 3 = .ok (.bipush 9, 2) := dk_16 9 (dk_at dksX11_tell_0 3 rfl rfl)
theorem dX11_tell_5 : decode cX11_tell 5 = .ok (.if_icmp .ge 50, 3) := dk_162 0 50 (dk_at dksX11_tell_0 5 rfl rfl)
theorem dX11_tell_8 : decode cX11_tell 8 = .ok (.aload_n 0, 1) := dk_42 (dk_at dksX11_tell_0 8 rfl rfl)
theorem dX11_tell_9 : decode cX11_tell 9 = .ok (.getfield 814, 3) := dk_180 3 46 (dk_at dksX11_tell_0 9 rfl rfl)
theorem dX11_tell_12 : decode cX11_tell 12 = .ok (.bipush 9, 2) := dk_16 9 (dk_at dksX11_tell_0 12 rfl rfl)
theorem dX11_tell_14 : decode cX11_tell 14 = .ok (.aload_n 0, 1) := dk_42 (dk_at dksX11_tell_0 14 rfl rfl)
theorem dX11_tell_15 : decode cX11_tell 15 = .ok (.getfield 817, 3) := dk_180 3 49 (dk_at dksX11_tell_0 15 rfl rfl)
theorem dX11_tell_18 : decode cX11_tell 18 = .ok (.imul, 1) := dk_104 (dk_at dksX11_tell_0 18 rfl rfl)
theorem dX11_tell_19 : decode cX11_tell 19 = .ok (.iload_n 1, 1) := dk_27 (dk_at dksX11_tell_0 19 rfl rfl)
theorem dX11_tell_20 : decode cX11_tell 20 = .ok (.iadd, 1) := dk_96 (dk_at dksX11_tell_0 20 rfl rfl)
theorem dX11_tell_21 : decode cX11_tell 21 = .ok (.iload_n 1, 1) := dk_27 (dk_at dksX11_tell_0 21 rfl rfl)
theorem dX11_tell_22 : decode cX11_tell 22 = .ok (.aload_n 0, 1) := dk_42 (dk_at dksX11_tell_0 22 rfl rfl)
theorem dX11_tell_23 : decode cX11_tell 23 = .ok (.getfield 755, 3) := dk_180 2 243 (dk_at dksX11_tell_1 0 rfl rfl)
theorem dX11_tell_26 : decode cX11_tell 26 = .ok (.if_icmp .ge 21, 3) := dk_162 0 21 (dk_at dksX11_tell_1 3 rfl rfl)
theorem dX11_tell_29 : decode cX11_tell 29 = .ok (.aload_n 0, 1) := dk_42 (dk_at dksX11_tell_1 6 rfl rfl)
theorem dX11_tell_30 : decode cX11_tell 30 = .ok (.getfield 764, 3) := dk_180 2 252 (dk_at dksX11_tell_1 7 rfl rfl)
theorem dX11_tell_33 : decode cX11_tell 33 = .ok (.iload_n 1, 1) := dk_27 (dk_at dksX11_tell_1 10 rfl rfl)
theorem dX11_tell_34 : decode cX11_tell 34 = .ok (.baload, 1) := dk_51 (dk_at dksX11_tell_1 11 rfl rfl)
theorem dX11_tell_35 : decode cX11_tell 35 = .ok (.ifCond .eq 12, 3) := dk_153 0 12 (dk_at dksX11_tell_1 12 rfl rfl)
theorem dX11_tell_38 : decode cX11_tell 38 = .ok (.aload_n 0, 1) := dk_42 (dk_at dksX11_tell_1 15 rfl rfl)
theorem dX11_tell_39 : decode cX11_tell 39 = .ok (.getfield 801, 3) := dk_180 3 33 (dk_at dksX11_tell_1 16 rfl rfl)
theorem dX11_tell_42 : decode cX11_tell 42 = .ok (.iload_n 1, 1) := dk_27 (dk_at dksX11_tell_1 19 rfl rfl)
theorem dX11_tell_43 : decode cX11_tell 43 = .ok (.laload, 1) := dk_47 (dk_at dksX11_tell_1 20 rfl rfl)
theorem dX11_tell_44 : decode cX11_tell 44 = .ok (.goto 4, 3) := dk_167 0 4 (dk_at dksX11_tell_1 21 rfl rfl)
theorem dX11_tell_47 : decode cX11_tell 47 = .ok (.lconst 0, 1) := dk_9 (dk_at dksX11_tell_2 0 rfl rfl)
theorem dX11_tell_48 : decode cX11_tell 48 = .ok (.lastore, 1) := dk_80 (dk_at dksX11_tell_2 1 rfl rfl)
theorem dX11_tell_49 : decode cX11_tell 49 = .ok (.iinc 1 1, 3) := dk_132 1 1 (dk_at dksX11_tell_2 2 rfl rfl)
theorem dX11_tell_52 : decode cX11_tell 52 = .ok (.goto (-50), 3) := dk_167 255 206 (dk_at dksX11_tell_2 5 rfl rfl)
theorem dX11_tell_55 : decode cX11_tell 55 = .ok (.aload_n 0, 1) := dk_42 (dk_at dksX11_tell_2 8 rfl rfl)
theorem dX11_tell_56 : decode cX11_tell 56 = .ok (.getfield 820, 3) := dk_180 3 52 (dk_at dksX11_tell_2 9 rfl rfl)
theorem dX11_tell_59 : decode cX11_tell 59 = .ok (.aload_n 0, 1) := dk_42 (dk_at dksX11_tell_2 12 rfl rfl)
theorem dX11_tell_60 : decode cX11_tell 60 = .ok (.getfield 817, 3) := dk_180 3 49 (dk_at dksX11_tell_2 13 rfl rfl)
theorem dX11_tell_63 : decode cX11_tell 63 = .ok (.iconst 0, 1) := dk_3 (dk_at dksX11_tell_2 16 rfl rfl)
theorem dX11_tell_64 : decode cX11_tell 64 = .ok (.iastore, 1) := dk_79 (dk_at dksX11_tell_2 17 rfl rfl)
theorem dX11_tell_65 : decode cX11_tell 65 = .ok (.aload_n 0, 1) := dk_42 (dk_at dksX11_tell_2 18 rfl rfl)
theorem dX11_tell_66 : decode cX11_tell 66 = .ok (.getfield 823, 3) := dk_180 3 55 (dk_at dksX11_tell_2 19 rfl rfl)
theorem dX11_tell_69 : decode cX11_tell 69 = .ok (.aload_n 0, 1) := dk_42 (dk_at dksX11_tell_2 22 rfl rfl)
theorem dX11_tell_70 : decode cX11_tell 70 = .ok (.getfield 817, 3) := dk_180 3 49 (dk_at dksX11_tell_3 0 rfl rfl)
theorem dX11_tell_73 : decode cX11_tell 73 = .ok (.iconst (-1), 1) := dk_2 (dk_at dksX11_tell_3 3 rfl rfl)
theorem dX11_tell_74 : decode cX11_tell 74 = .ok (.iastore, 1) := dk_79 (dk_at dksX11_tell_3 4 rfl rfl)
theorem dX11_tell_75 : decode cX11_tell 75 = .ok (.aload_n 0, 1) := dk_42 (dk_at dksX11_tell_3 5 rfl rfl)
theorem dX11_tell_76 : decode cX11_tell 76 = .ok (.dup, 1) := dk_89 (dk_at dksX11_tell_3 6 rfl rfl)
theorem dX11_tell_77 : decode cX11_tell 77 = .ok (.getfield 817, 3) := dk_180 3 49 (dk_at dksX11_tell_3 7 rfl rfl)
theorem dX11_tell_80 : decode cX11_tell 80 = .ok (.iconst 1, 1) := dk_4 (dk_at dksX11_tell_3 10 rfl rfl)
theorem dX11_tell_81 : decode cX11_tell 81 = .ok (.iadd, 1) := dk_96 (dk_at dksX11_tell_3 11 rfl rfl)
theorem dX11_tell_82 : decode cX11_tell 82 = .ok (.putfield 817, 3) := dk_181 3 49 (dk_at dksX11_tell_3 12 rfl rfl)
theorem dX11_tell_85 : decode cX11_tell 85 = .ok (.return_, 1) := dk_177 (dk_at dksX11_tell_3 15 rfl rfl)
abbrev cX11_countBy : ByteArray := prog_17_method_145_code
def yX11_countBy : MethodName := ⟨RX11, "countBy", "(I)V"⟩
def dkwX11_countBy_5 : List UInt8 := [167, 0, 8, 42, 27, 182, 3, 122, 177]
abbrev dktX11_countBy_5 : List UInt8 := dkwX11_countBy_5 ++ []
def dkwX11_countBy_4 : List UInt8 := [42, 182, 3, 115, 167, 0, 26, 42, 27, 16, 13, 160, 0, 7, 4, 167, 0, 4, 3, 182, 3, 118]
abbrev dktX11_countBy_4 : List UInt8 := dkwX11_countBy_4 ++ dktX11_countBy_5
def dkwX11_countBy_3 : List UInt8 := [182, 3, 103, 42, 182, 3, 106, 167, 0, 47, 42, 182, 3, 109, 167, 0, 40, 42, 182, 3, 112, 167, 0, 33]
abbrev dktX11_countBy_3 : List UInt8 := dkwX11_countBy_3 ++ dktX11_countBy_4
def dkwX11_countBy_2 : List UInt8 := [27, 8, 160, 0, 10, 42, 182, 3, 94, 167, 0, 8, 42, 27, 182, 3, 97, 42, 182, 3, 100, 42]
abbrev dktX11_countBy_2 : List UInt8 := dkwX11_countBy_2 ++ dktX11_countBy_3
def dkwX11_countBy_1 : List UInt8 := [170, 0, 0, 0, 0, 0, 142, 0, 0, 0, 0, 0, 0, 0, 13, 0, 0, 0, 71, 0, 0, 0, 71, 0, 0, 0, 71, 0, 0, 0, 71, 0, 0, 0, 103, 0, 0, 0, 71, 0, 0, 0, 110, 0, 0, 0, 142, 0, 0, 0, 142, 0, 0, 0, 142, 0, 0, 0, 142, 0, 0, 0, 117, 0, 0, 0, 124, 0, 0, 0, 124]
abbrev dktX11_countBy_1 : List UInt8 := dkwX11_countBy_1 ++ dktX11_countBy_2
def dkwX11_countBy_0 : List UInt8 := [27]
abbrev dktX11_countBy_0 : List UInt8 := dkwX11_countBy_0 ++ dktX11_countBy_1
theorem dksX11_countBy_0 : cX11_countBy.data.toList.drop 0 = dktX11_countBy_0 := by decide +kernel
theorem dksX11_countBy_1 : cX11_countBy.data.toList.drop 1 = dktX11_countBy_1 := dk_seg dksX11_countBy_0 1 rfl rfl
theorem dksX11_countBy_2 : cX11_countBy.data.toList.drop 72 = dktX11_countBy_2 := dk_seg dksX11_countBy_1 71 rfl rfl
theorem dksX11_countBy_3 : cX11_countBy.data.toList.drop 94 = dktX11_countBy_3 := dk_seg dksX11_countBy_2 22 rfl rfl
theorem dksX11_countBy_4 : cX11_countBy.data.toList.drop 118 = dktX11_countBy_4 := dk_seg dksX11_countBy_3 24 rfl rfl
theorem dksX11_countBy_5 : cX11_countBy.data.toList.drop 140 = dktX11_countBy_5 := dk_seg dksX11_countBy_4 22 rfl rfl
theorem dX11_countBy_0 : decode cX11_countBy 0 = .ok (.iload_n 1, 1) := dk_27 (dk_at dksX11_countBy_0 0 rfl rfl)
theorem dX11_countBy_1 : decode cX11_countBy 1 = .ok (.tableswitch 142 0 13 #[71, 71, 71, 71, 103, 71, 110, 142, 142, 142, 142, 117, 124, 124], 71) := by decide +kernel
theorem dX11_countBy_72 : decode cX11_countBy 72 = .ok (.iload_n 1, 1) := dk_27 (dk_at dksX11_countBy_2 0 rfl rfl)
theorem dX11_countBy_73 : decode cX11_countBy 73 = .ok (.iconst 5, 1) := dk_8 (dk_at dksX11_countBy_2 1 rfl rfl)
theorem dX11_countBy_74 : decode cX11_countBy 74 = .ok (.if_icmp .ne 10, 3) := dk_160 0 10 (dk_at dksX11_countBy_2 2 rfl rfl)
theorem dX11_countBy_77 : decode cX11_countBy 77 = .ok (.aload_n 0, 1) := dk_42 (dk_at dksX11_countBy_2 5 rfl rfl)
theorem dX11_countBy_78 : decode cX11_countBy 78 = .ok (.invokevirtual 862, 3) := dk_182 3 94 (dk_at dksX11_countBy_2 6 rfl rfl)
theorem dX11_countBy_81 : decode cX11_countBy 81 = .ok (.goto 8, 3) := dk_167 0 8 (dk_at dksX11_countBy_2 9 rfl rfl)
theorem dX11_countBy_84 : decode cX11_countBy 84 = .ok (.aload_n 0, 1) := dk_42 (dk_at dksX11_countBy_2 12 rfl rfl)
theorem dX11_countBy_85 : decode cX11_countBy 85 = .ok (.iload_n 1, 1) := dk_27 (dk_at dksX11_countBy_2 13 rfl rfl)
theorem dX11_countBy_86 : decode cX11_countBy 86 = .ok (.invokevirtual 865, 3) := dk_182 3 97 (dk_at dksX11_countBy_2 14 rfl rfl)
theorem dX11_countBy_89 : decode cX11_countBy 89 = .ok (.aload_n 0, 1) := dk_42 (dk_at dksX11_countBy_2 17 rfl rfl)
theorem dX11_countBy_90 : decode cX11_countBy 90 = .ok (.invokevirtual 868, 3) := dk_182 3 100 (dk_at dksX11_countBy_2 18 rfl rfl)
theorem dX11_countBy_93 : decode cX11_countBy 93 = .ok (.aload_n 0, 1) := dk_42 (dk_at dksX11_countBy_2 21 rfl rfl)
theorem dX11_countBy_94 : decode cX11_countBy 94 = .ok (.invokevirtual 871, 3) := dk_182 3 103 (dk_at dksX11_countBy_3 0 rfl rfl)
theorem dX11_countBy_97 : decode cX11_countBy 97 = .ok (.aload_n 0, 1) := dk_42 (dk_at dksX11_countBy_3 3 rfl rfl)
theorem dX11_countBy_98 : decode cX11_countBy 98 = .ok (.invokevirtual 874, 3) := dk_182 3 106 (dk_at dksX11_countBy_3 4 rfl rfl)
theorem dX11_countBy_101 : decode cX11_countBy 101 = .ok (.goto 47, 3) := dk_167 0 47 (dk_at dksX11_countBy_3 7 rfl rfl)
theorem dX11_countBy_104 : decode cX11_countBy 104 = .ok (.aload_n 0, 1) := dk_42 (dk_at dksX11_countBy_3 10 rfl rfl)
theorem dX11_countBy_105 : decode cX11_countBy 105 = .ok (.invokevirtual 877, 3) := dk_182 3 109 (dk_at dksX11_countBy_3 11 rfl rfl)
theorem dX11_countBy_108 : decode cX11_countBy 108 = .ok (.goto 40, 3) := dk_167 0 40 (dk_at dksX11_countBy_3 14 rfl rfl)
theorem dX11_countBy_111 : decode cX11_countBy 111 = .ok (.aload_n 0, 1) := dk_42 (dk_at dksX11_countBy_3 17 rfl rfl)
theorem dX11_countBy_112 : decode cX11_countBy 112 = .ok (.invokevirtual 880, 3) := dk_182 3 112 (dk_at dksX11_countBy_3 18 rfl rfl)
theorem dX11_countBy_115 : decode cX11_countBy 115 = .ok (.goto 33, 3) := dk_167 0 33 (dk_at dksX11_countBy_3 21 rfl rfl)
theorem dX11_countBy_118 : decode cX11_countBy 118 = .ok (.aload_n 0, 1) := dk_42 (dk_at dksX11_countBy_4 0 rfl rfl)
theorem dX11_countBy_119 : decode cX11_countBy 119 = .ok (.invokevirtual 883, 3) := dk_182 3 115 (dk_at dksX11_countBy_4 1 rfl rfl)
theorem dX11_countBy_122 : decode cX11_countBy 122 = .ok (.goto 26, 3) := dk_167 0 26 (dk_at dksX11_countBy_4 4 rfl rfl)
theorem dX11_countBy_125 : decode cX11_countBy 125 = .ok (.aload_n 0, 1) := dk_42 (dk_at dksX11_countBy_4 7 rfl rfl)
theorem dX11_countBy_126 : decode cX11_countBy 126 = .ok (.iload_n 1, 1) := dk_27 (dk_at dksX11_countBy_4 8 rfl rfl)
theorem dX11_countBy_127 : decode cX11_countBy 127 = .ok (.bipush 13, 2) := dk_16 13 (dk_at dksX11_countBy_4 9 rfl rfl)
theorem dX11_countBy_129 : decode cX11_countBy 129 = .ok (.if_icmp .ne 7, 3) := dk_160 0 7 (dk_at dksX11_countBy_4 11 rfl rfl)
theorem dX11_countBy_132 : decode cX11_countBy 132 = .ok (.iconst 1, 1) := dk_4 (dk_at dksX11_countBy_4 14 rfl rfl)
theorem dX11_countBy_133 : decode cX11_countBy 133 = .ok (.goto 4, 3) := dk_167 0 4 (dk_at dksX11_countBy_4 15 rfl rfl)
theorem dX11_countBy_136 : decode cX11_countBy 136 = .ok (.iconst 0, 1) := dk_3 (dk_at dksX11_countBy_4 18 rfl rfl)
theorem dX11_countBy_137 : decode cX11_countBy 137 = .ok (.invokevirtual 886, 3) := dk_182 3 118 (dk_at dksX11_countBy_4 19 rfl rfl)
theorem dX11_countBy_140 : decode cX11_countBy 140 = .ok (.goto 8, 3) := dk_167 0 8 (dk_at dksX11_countBy_5 0 rfl rfl)
theorem dX11_countBy_143 : decode cX11_countBy 143 = .ok (.aload_n 0, 1) := dk_42 (dk_at dksX11_countBy_5 3 rfl rfl)
theorem dX11_countBy_144 : decode cX11_countBy 144 = .ok (.iload_n 1, 1) := dk_27 (dk_at dksX11_countBy_5 4 rfl rfl)
theorem dX11_countBy_145 : decode cX11_countBy 145 = .ok (.invokevirtual 890, 3) := dk_182 3 122 (dk_at dksX11_countBy_5 5 rfl rfl)
theorem dX11_countBy_148 : decode cX11_countBy 148 = .ok (.return_, 1) := dk_177 (dk_at dksX11_countBy_5 8 rfl rfl)
abbrev cX11_votesByRanks : ByteArray := prog_17_method_138_code
def yX11_votesByRanks : MethodName := ⟨RX11, "votesByRanks", "()V"⟩
def dkwX11_votesByRanks_2 : List UInt8 := [4, 100, 28, 100, 133, 97, 80, 132, 2, 1, 167, 255, 215, 132, 1, 1, 167, 255, 199, 177]
abbrev dktX11_votesByRanks_2 : List UInt8 := dkwX11_votesByRanks_2 ++ []
def dkwX11_votesByRanks_1 : List UInt8 := [162, 0, 37, 42, 180, 3, 33, 42, 180, 3, 24, 16, 9, 27, 104, 28, 96, 46, 92, 47, 42, 180, 2, 249]
abbrev dktX11_votesByRanks_1 : List UInt8 := dkwX11_votesByRanks_1 ++ dktX11_votesByRanks_2
def dkwX11_votesByRanks_0 : List UInt8 := [42, 182, 3, 43, 3, 60, 27, 42, 180, 2, 255, 162, 0, 55, 3, 61, 28, 42, 180, 3, 21, 27, 46]
abbrev dktX11_votesByRanks_0 : List UInt8 := dkwX11_votesByRanks_0 ++ dktX11_votesByRanks_1
theorem dksX11_votesByRanks_0 : cX11_votesByRanks.data.toList.drop 0 = dktX11_votesByRanks_0 := by decide +kernel
theorem dksX11_votesByRanks_1 : cX11_votesByRanks.data.toList.drop 23 = dktX11_votesByRanks_1 := dk_seg dksX11_votesByRanks_0 23 rfl rfl
theorem dksX11_votesByRanks_2 : cX11_votesByRanks.data.toList.drop 47 = dktX11_votesByRanks_2 := dk_seg dksX11_votesByRanks_1 24 rfl rfl
theorem dX11_votesByRanks_0 : decode cX11_votesByRanks 0 = .ok (.aload_n 0, 1) := dk_42 (dk_at dksX11_votesByRanks_0 0 rfl rfl)
theorem dX11_votesByRanks_1 : decode cX11_votesByRanks 1 = .ok (.invokevirtual 811, 3) := dk_182 3 43 (dk_at dksX11_votesByRanks_0 1 rfl rfl)
theorem dX11_votesByRanks_4 : decode cX11_votesByRanks 4 = .ok (.iconst 0, 1) := dk_3 (dk_at dksX11_votesByRanks_0 4 rfl rfl)
theorem dX11_votesByRanks_5 : decode cX11_votesByRanks 5 = .ok (.istore_n 1, 1) := dk_60 (dk_at dksX11_votesByRanks_0 5 rfl rfl)
theorem dX11_votesByRanks_6 : decode cX11_votesByRanks 6 = .ok (.iload_n 1, 1) := dk_27 (dk_at dksX11_votesByRanks_0 6 rfl rfl)
theorem dX11_votesByRanks_7 : decode cX11_votesByRanks 7 = .ok (.aload_n 0, 1) := dk_42 (dk_at dksX11_votesByRanks_0 7 rfl rfl)
theorem dX11_votesByRanks_8 : decode cX11_votesByRanks 8 = .ok (.getfield 767, 3) := dk_180 2 255 (dk_at dksX11_votesByRanks_0 8 rfl rfl)
theorem dX11_votesByRanks_11 : decode cX11_votesByRanks 11 = .ok (.if_icmp .ge 55, 3) := dk_162 0 55 (dk_at dksX11_votesByRanks_0 11 rfl rfl)
theorem dX11_votesByRanks_14 : decode cX11_votesByRanks 14 = .ok (.iconst 0, 1) := dk_3 (dk_at dksX11_votesByRanks_0 14 rfl rfl)
theorem dX11_votesByRanks_15 : decode cX11_votesByRanks 15 = .ok (.istore_n 2, 1) := dk_61 (dk_at dksX11_votesByRanks_0 15 rfl rfl)
theorem dX11_votesByRanks_16 : decode cX11_votesByRanks 16 = .ok (.iload_n 2, 1) := dk_28 (dk_at dksX11_votesByRanks_0 16 rfl rfl)
theorem dX11_votesByRanks_17 : decode cX11_votesByRanks 17 = .ok (.aload_n 0, 1) := dk_42 (dk_at dksX11_votesByRanks_0 17 rfl rfl)
theorem dX11_votesByRanks_18 : decode cX11_votesByRanks 18 = .ok (.getfield 789, 3) := dk_180 3 21 (dk_at dksX11_votesByRanks_0 18 rfl rfl)
theorem dX11_votesByRanks_21 : decode cX11_votesByRanks 21 = .ok (.iload_n 1, 1) := dk_27 (dk_at dksX11_votesByRanks_0 21 rfl rfl)
theorem dX11_votesByRanks_22 : decode cX11_votesByRanks 22 = .ok (.iaload, 1) := dk_46 (dk_at dksX11_votesByRanks_0 22 rfl rfl)
theorem dX11_votesByRanks_23 : decode cX11_votesByRanks 23 = .ok (.if_icmp .ge 37, 3) := dk_162 0 37 (dk_at dksX11_votesByRanks_1 0 rfl rfl)
theorem dX11_votesByRanks_26 : decode cX11_votesByRanks 26 = .ok (.aload_n 0, 1) := dk_42 (dk_at dksX11_votesByRanks_1 3 rfl rfl)
theorem dX11_votesByRanks_27 : decode cX11_votesByRanks 27 = .ok (.getfield 801, 3) := dk_180 3 33 (dk_at dksX11_votesByRanks_1 4 rfl rfl)
theorem dX11_votesByRanks_30 : decode cX11_votesByRanks 30 = .ok (.aload_n 0, 1) := dk_42 (dk_at dksX11_votesByRanks_1 7 rfl rfl)
theorem dX11_votesByRanks_31 : decode cX11_votesByRanks 31 = .ok (.getfield 792, 3) := dk_180 3 24 (dk_at dksX11_votesByRanks_1 8 rfl rfl)
theorem dX11_votesByRanks_34 : decode cX11_votesByRanks 34 = .ok (.bipush 9, 2) := dk_16 9 (dk_at dksX11_votesByRanks_1 11 rfl rfl)
theorem dX11_votesByRanks_36 : decode cX11_votesByRanks 36 = .ok (.iload_n 1, 1) := dk_27 (dk_at dksX11_votesByRanks_1 13 rfl rfl)
theorem dX11_votesByRanks_37 : decode cX11_votesByRanks 37 = .ok (.imul, 1) := dk_104 (dk_at dksX11_votesByRanks_1 14 rfl rfl)
theorem dX11_votesByRanks_38 : decode cX11_votesByRanks 38 = .ok (.iload_n 2, 1) := dk_28 (dk_at dksX11_votesByRanks_1 15 rfl rfl)
theorem dX11_votesByRanks_39 : decode cX11_votesByRanks 39 = .ok (.iadd, 1) := dk_96 (dk_at dksX11_votesByRanks_1 16 rfl rfl)
theorem dX11_votesByRanks_40 : decode cX11_votesByRanks 40 = .ok (.iaload, 1) := dk_46 (dk_at dksX11_votesByRanks_1 17 rfl rfl)
theorem dX11_votesByRanks_41 : decode cX11_votesByRanks 41 = .ok (.dup2, 1) := dk_92 (dk_at dksX11_votesByRanks_1 18 rfl rfl)
theorem dX11_votesByRanks_42 : decode cX11_votesByRanks 42 = .ok (.laload, 1) := dk_47 (dk_at dksX11_votesByRanks_1 19 rfl rfl)
theorem dX11_votesByRanks_43 : decode cX11_votesByRanks 43 = .ok (.aload_n 0, 1) := dk_42 (dk_at dksX11_votesByRanks_1 20 rfl rfl)
theorem dX11_votesByRanks_44 : decode cX11_votesByRanks 44 = .ok (.getfield 761, 3) := dk_180 2 249 (dk_at dksX11_votesByRanks_1 21 rfl rfl)
theorem dX11_votesByRanks_47 : decode cX11_votesByRanks 47 = .ok (.iconst 1, 1) := dk_4 (dk_at dksX11_votesByRanks_2 0 rfl rfl)
theorem dX11_votesByRanks_48 : decode cX11_votesByRanks 48 = .ok (.isub, 1) := dk_100 (dk_at dksX11_votesByRanks_2 1 rfl rfl)
theorem dX11_votesByRanks_49 : decode cX11_votesByRanks 49 = .ok (.iload_n 2, 1) := dk_28 (dk_at dksX11_votesByRanks_2 2 rfl rfl)
theorem dX11_votesByRanks_50 : decode cX11_votesByRanks 50 = .ok (.isub, 1) := dk_100 (dk_at dksX11_votesByRanks_2 3 rfl rfl)
theorem dX11_votesByRanks_51 : decode cX11_votesByRanks 51 = .ok (.i2l, 1) := dk_133 (dk_at dksX11_votesByRanks_2 4 rfl rfl)
theorem dX11_votesByRanks_52 : decode cX11_votesByRanks 52 = .ok (.ladd, 1) := dk_97 (dk_at dksX11_votesByRanks_2 5 rfl rfl)
theorem dX11_votesByRanks_53 : decode cX11_votesByRanks 53 = .ok (.lastore, 1) := dk_80 (dk_at dksX11_votesByRanks_2 6 rfl rfl)
theorem dX11_votesByRanks_54 : decode cX11_votesByRanks 54 = .ok (.iinc 2 1, 3) := dk_132 2 1 (dk_at dksX11_votesByRanks_2 7 rfl rfl)
theorem dX11_votesByRanks_57 : decode cX11_votesByRanks 57 = .ok (.goto (-41), 3) := dk_167 255 215 (dk_at dksX11_votesByRanks_2 10 rfl rfl)
theorem dX11_votesByRanks_60 : decode cX11_votesByRanks 60 = .ok (.iinc 1 1, 3) := dk_132 1 1 (dk_at dksX11_votesByRanks_2 13 rfl rfl)
theorem dX11_votesByRanks_63 : decode cX11_votesByRanks 63 = .ok (.goto (-57), 3) := dk_167 255 199 (dk_at dksX11_votesByRanks_2 16 rfl rfl)
theorem dX11_votesByRanks_66 : decode cX11_votesByRanks 66 = .ok (.return_, 1) := dk_177 (dk_at dksX11_votesByRanks_2 19 rfl rfl)
abbrev cX11_winFirst : ByteArray := prog_17_method_142_code
def yX11_winFirst : MethodName := ⟨RX11, "winFirst", "()V"⟩
def dkwX11_winFirst_1 : List UInt8 := [167, 255, 235, 177]
abbrev dktX11_winFirst_1 : List UInt8 := dkwX11_winFirst_1 ++ []
def dkwX11_winFirst_0 : List UInt8 := [3, 60, 27, 42, 180, 2, 246, 162, 0, 19, 42, 42, 180, 3, 37, 27, 46, 182, 3, 64, 132, 1, 1]
abbrev dktX11_winFirst_0 : List UInt8 := dkwX11_winFirst_0 ++ dktX11_winFirst_1
theorem dksX11_winFirst_0 : cX11_winFirst.data.toList.drop 0 = dktX11_winFirst_0 := by decide +kernel
theorem dksX11_winFirst_1 : cX11_winFirst.data.toList.drop 23 = dktX11_winFirst_1 := dk_seg dksX11_winFirst_0 23 rfl rfl
theorem dX11_winFirst_0 : decode cX11_winFirst 0 = .ok (.iconst 0, 1) := dk_3 (dk_at dksX11_winFirst_0 0 rfl rfl)
theorem dX11_winFirst_1 : decode cX11_winFirst 1 = .ok (.istore_n 1, 1) := dk_60 (dk_at dksX11_winFirst_0 1 rfl rfl)
theorem dX11_winFirst_2 : decode cX11_winFirst 2 = .ok (.iload_n 1, 1) := dk_27 (dk_at dksX11_winFirst_0 2 rfl rfl)
theorem dX11_winFirst_3 : decode cX11_winFirst 3 = .ok (.aload_n 0, 1) := dk_42 (dk_at dksX11_winFirst_0 3 rfl rfl)
theorem dX11_winFirst_4 : decode cX11_winFirst 4 = .ok (.getfield 758, 3) := dk_180 2 246 (dk_at dksX11_winFirst_0 4 rfl rfl)
theorem dX11_winFirst_7 : decode cX11_winFirst 7 = .ok (.if_icmp .ge 19, 3) := dk_162 0 19 (dk_at dksX11_winFirst_0 7 rfl rfl)
theorem dX11_winFirst_10 : decode cX11_winFirst 10 = .ok (.aload_n 0, 1) := dk_42 (dk_at dksX11_winFirst_0 10 rfl rfl)
theorem dX11_winFirst_11 : decode cX11_winFirst 11 = .ok (.aload_n 0, 1) := dk_42 (dk_at dksX11_winFirst_0 11 rfl rfl)
theorem dX11_winFirst_12 : decode cX11_winFirst 12 = .ok (.getfield 805, 3) := dk_180 3 37 (dk_at dksX11_winFirst_0 12 rfl rfl)
theorem dX11_winFirst_15 : decode cX11_winFirst 15 = .ok (.iload_n 1, 1) := dk_27 (dk_at dksX11_winFirst_0 15 rfl rfl)
theorem dX11_winFirst_16 : decode cX11_winFirst 16 = .ok (.iaload, 1) := dk_46 (dk_at dksX11_winFirst_0 16 rfl rfl)
theorem dX11_winFirst_17 : decode cX11_winFirst 17 = .ok (.invokevirtual 832, 3) := dk_182 3 64 (dk_at dksX11_winFirst_0 17 rfl rfl)
theorem dX11_winFirst_20 : decode cX11_winFirst 20 = .ok (.iinc 1 1, 3) := dk_132 1 1 (dk_at dksX11_winFirst_0 20 rfl rfl)
theorem dX11_winFirst_23 : decode cX11_winFirst 23 = .ok (.goto (-21), 3) := dk_167 255 235 (dk_at dksX11_winFirst_1 0 rfl rfl)
theorem dX11_winFirst_26 : decode cX11_winFirst 26 = .ok (.return_, 1) := dk_177 (dk_at dksX11_winFirst_1 3 rfl rfl)
abbrev cX11_countMedian : ByteArray := prog_17_method_148_code
def yX11_countMedian : MethodName := ⟨RX11, "countMedian", "()V"⟩
def dkwX11_countMedian_9 : List UInt8 := [167, 255, 176, 42, 182, 3, 103, 42, 182, 3, 106, 177]
abbrev dktX11_countMedian_9 : List UInt8 := dkwX11_countMedian_9 ++ []
def dkwX11_countMedian_8 : List UInt8 := [182, 3, 138, 153, 0, 7, 10, 167, 0, 4, 9, 97, 80, 132, 2, 1, 167, 255, 199, 132, 1, 1]
abbrev dktX11_countMedian_8 : List UInt8 := dkwX11_countMedian_8 ++ dktX11_countMedian_9
def dkwX11_countMedian_7 : List UInt8 := [27, 51, 153, 0, 30, 42, 180, 2, 252, 28, 51, 153, 0, 21, 28, 27, 159, 0, 16, 42, 27, 28]
abbrev dktX11_countMedian_7 : List UInt8 := dkwX11_countMedian_7 ++ dktX11_countMedian_8
def dkwX11_countMedian_6 : List UInt8 := [27, 9, 80, 3, 61, 28, 42, 180, 2, 243, 162, 0, 55, 42, 180, 3, 33, 27, 92, 47, 42, 180, 2, 252]
abbrev dktX11_countMedian_6 : List UInt8 := dkwX11_countMedian_6 ++ dktX11_countMedian_7
def dkwX11_countMedian_5 : List UInt8 := [42, 182, 3, 100, 132, 1, 1, 167, 255, 209, 3, 60, 27, 42, 180, 2, 243, 162, 0, 78, 42, 180, 3, 33]
abbrev dktX11_countMedian_5 : List UInt8 := dkwX11_countMedian_5 ++ dktX11_countMedian_6
def dkwX11_countMedian_4 : List UInt8 := [42, 180, 3, 33, 28, 42, 180, 3, 128, 16, 10, 28, 104, 27, 96, 46, 133, 80, 132, 2, 1, 167, 255, 227]
abbrev dktX11_countMedian_4 : List UInt8 := dkwX11_countMedian_4 ++ dktX11_countMedian_5
def dkwX11_countMedian_3 : List UInt8 := [132, 1, 1, 167, 255, 204, 3, 60, 27, 16, 10, 162, 0, 47, 3, 61, 28, 42, 180, 2, 243, 162, 0, 27]
abbrev dktX11_countMedian_3 : List UInt8 := dkwX11_countMedian_3 ++ dktX11_countMedian_4
def dkwX11_countMedian_2 : List UInt8 := [104, 42, 180, 3, 12, 16, 9, 27, 104, 28, 96, 46, 96, 92, 46, 4, 96, 79, 132, 2, 1, 167, 255, 220]
abbrev dktX11_countMedian_2 : List UInt8 := dkwX11_countMedian_2 ++ dktX11_countMedian_3
def dkwX11_countMedian_1 : List UInt8 := [42, 180, 2, 255, 162, 0, 50, 3, 61, 28, 42, 180, 2, 243, 162, 0, 34, 42, 180, 3, 128, 16, 10, 28]
abbrev dktX11_countMedian_1 : List UInt8 := dkwX11_countMedian_1 ++ dktX11_countMedian_2
def dkwX11_countMedian_0 : List UInt8 := [3, 60, 27, 16, 90, 162, 0, 16, 42, 180, 3, 128, 27, 3, 79, 132, 1, 1, 167, 255, 240, 3, 60, 27]
abbrev dktX11_countMedian_0 : List UInt8 := dkwX11_countMedian_0 ++ dktX11_countMedian_1
theorem dksX11_countMedian_0 : cX11_countMedian.data.toList.drop 0 = dktX11_countMedian_0 := by decide +kernel
theorem dksX11_countMedian_1 : cX11_countMedian.data.toList.drop 24 = dktX11_countMedian_1 := dk_seg dksX11_countMedian_0 24 rfl rfl
theorem dksX11_countMedian_2 : cX11_countMedian.data.toList.drop 48 = dktX11_countMedian_2 := dk_seg dksX11_countMedian_1 24 rfl rfl
theorem dksX11_countMedian_3 : cX11_countMedian.data.toList.drop 72 = dktX11_countMedian_3 := dk_seg dksX11_countMedian_2 24 rfl rfl
theorem dksX11_countMedian_4 : cX11_countMedian.data.toList.drop 96 = dktX11_countMedian_4 := dk_seg dksX11_countMedian_3 24 rfl rfl
theorem dksX11_countMedian_5 : cX11_countMedian.data.toList.drop 120 = dktX11_countMedian_5 := dk_seg dksX11_countMedian_4 24 rfl rfl
theorem dksX11_countMedian_6 : cX11_countMedian.data.toList.drop 144 = dktX11_countMedian_6 := dk_seg dksX11_countMedian_5 24 rfl rfl
theorem dksX11_countMedian_7 : cX11_countMedian.data.toList.drop 168 = dktX11_countMedian_7 := dk_seg dksX11_countMedian_6 24 rfl rfl
theorem dksX11_countMedian_8 : cX11_countMedian.data.toList.drop 190 = dktX11_countMedian_8 := dk_seg dksX11_countMedian_7 22 rfl rfl
theorem dksX11_countMedian_9 : cX11_countMedian.data.toList.drop 212 = dktX11_countMedian_9 := dk_seg dksX11_countMedian_8 22 rfl rfl
theorem dX11_countMedian_0 : decode cX11_countMedian 0 = .ok (.iconst 0, 1) := dk_3 (dk_at dksX11_countMedian_0 0 rfl rfl)
theorem dX11_countMedian_1 : decode cX11_countMedian 1 = .ok (.istore_n 1, 1) := dk_60 (dk_at dksX11_countMedian_0 1 rfl rfl)
theorem dX11_countMedian_2 : decode cX11_countMedian 2 = .ok (.iload_n 1, 1) := dk_27 (dk_at dksX11_countMedian_0 2 rfl rfl)
theorem dX11_countMedian_3 : decode cX11_countMedian 3 = .ok (.bipush 90, 2) := dk_16 90 (dk_at dksX11_countMedian_0 3 rfl rfl)
theorem dX11_countMedian_5 : decode cX11_countMedian 5 = .ok (.if_icmp .ge 16, 3) := dk_162 0 16 (dk_at dksX11_countMedian_0 5 rfl rfl)
theorem dX11_countMedian_8 : decode cX11_countMedian 8 = .ok (.aload_n 0, 1) := dk_42 (dk_at dksX11_countMedian_0 8 rfl rfl)
theorem dX11_countMedian_9 : decode cX11_countMedian 9 = .ok (.getfield 896, 3) := dk_180 3 128 (dk_at dksX11_countMedian_0 9 rfl rfl)
theorem dX11_countMedian_12 : decode cX11_countMedian 12 = .ok (.iload_n 1, 1) := dk_27 (dk_at dksX11_countMedian_0 12 rfl rfl)
theorem dX11_countMedian_13 : decode cX11_countMedian 13 = .ok (.iconst 0, 1) := dk_3 (dk_at dksX11_countMedian_0 13 rfl rfl)
theorem dX11_countMedian_14 : decode cX11_countMedian 14 = .ok (.iastore, 1) := dk_79 (dk_at dksX11_countMedian_0 14 rfl rfl)
theorem dX11_countMedian_15 : decode cX11_countMedian 15 = .ok (.iinc 1 1, 3) := dk_132 1 1 (dk_at dksX11_countMedian_0 15 rfl rfl)
theorem dX11_countMedian_18 : decode cX11_countMedian 18 = .ok (.goto (-16), 3) := dk_167 255 240 (dk_at dksX11_countMedian_0 18 rfl rfl)
theorem dX11_countMedian_21 : decode cX11_countMedian 21 = .ok (.iconst 0, 1) := dk_3 (dk_at dksX11_countMedian_0 21 rfl rfl)
theorem dX11_countMedian_22 : decode cX11_countMedian 22 = .ok (.istore_n 1, 1) := dk_60 (dk_at dksX11_countMedian_0 22 rfl rfl)
theorem dX11_countMedian_23 : decode cX11_countMedian 23 = .ok (.iload_n 1, 1) := dk_27 (dk_at dksX11_countMedian_0 23 rfl rfl)
theorem dX11_countMedian_24 : decode cX11_countMedian 24 = .ok (.aload_n 0, 1) := dk_42 (dk_at dksX11_countMedian_1 0 rfl rfl)
theorem dX11_countMedian_25 : decode cX11_countMedian 25 = .ok (.getfield 767, 3) := dk_180 2 255 (dk_at dksX11_countMedian_1 1 rfl rfl)
theorem dX11_countMedian_28 : decode cX11_countMedian 28 = .ok (.if_icmp .ge 50, 3) := dk_162 0 50 (dk_at dksX11_countMedian_1 4 rfl rfl)
theorem dX11_countMedian_31 : decode cX11_countMedian 31 = .ok (.iconst 0, 1) := dk_3 (dk_at dksX11_countMedian_1 7 rfl rfl)
theorem dX11_countMedian_32 : decode cX11_countMedian 32 = .ok (.istore_n 2, 1) := dk_61 (dk_at dksX11_countMedian_1 8 rfl rfl)
theorem dX11_countMedian_33 : decode cX11_countMedian 33 = .ok (.iload_n 2, 1) := dk_28 (dk_at dksX11_countMedian_1 9 rfl rfl)
theorem dX11_countMedian_34 : decode cX11_countMedian 34 = .ok (.aload_n 0, 1) := dk_42 (dk_at dksX11_countMedian_1 10 rfl rfl)
theorem dX11_countMedian_35 : decode cX11_countMedian 35 = .ok (.getfield 755, 3) := dk_180 2 243 (dk_at dksX11_countMedian_1 11 rfl rfl)
theorem dX11_countMedian_38 : decode cX11_countMedian 38 = .ok (.if_icmp .ge 34, 3) := dk_162 0 34 (dk_at dksX11_countMedian_1 14 rfl rfl)
theorem dX11_countMedian_41 : decode cX11_countMedian 41 = .ok (.aload_n 0, 1) := dk_42 (dk_at dksX11_countMedian_1 17 rfl rfl)
theorem dX11_countMedian_42 : decode cX11_countMedian 42 = .ok (.getfield 896, 3) := dk_180 3 128 (dk_at dksX11_countMedian_1 18 rfl rfl)
theorem dX11_countMedian_45 : decode cX11_countMedian 45 = .ok (.bipush 10, 2) := dk_16 10 (dk_at dksX11_countMedian_1 21 rfl rfl)
theorem dX11_countMedian_47 : decode cX11_countMedian 47 = .ok (.iload_n 2, 1) := dk_28 (dk_at dksX11_countMedian_1 23 rfl rfl)
theorem dX11_countMedian_48 : decode cX11_countMedian 48 = .ok (.imul, 1) := dk_104 (dk_at dksX11_countMedian_2 0 rfl rfl)
theorem dX11_countMedian_49 : decode cX11_countMedian 49 = .ok (.aload_n 0, 1) := dk_42 (dk_at dksX11_countMedian_2 1 rfl rfl)
theorem dX11_countMedian_50 : decode cX11_countMedian 50 = .ok (.getfield 780, 3) := dk_180 3 12 (dk_at dksX11_countMedian_2 2 rfl rfl)
theorem dX11_countMedian_53 : decode cX11_countMedian 53 = .ok (.bipush 9, 2) := dk_16 9 (dk_at dksX11_countMedian_2 5 rfl rfl)
theorem dX11_countMedian_55 : decode cX11_countMedian 55 = .ok (.iload_n 1, 1) := dk_27 (dk_at dksX11_countMedian_2 7 rfl rfl)
theorem dX11_countMedian_56 : decode cX11_countMedian 56 = .ok (.imul, 1) := dk_104 (dk_at dksX11_countMedian_2 8 rfl rfl)
theorem dX11_countMedian_57 : decode cX11_countMedian 57 = .ok (.iload_n 2, 1) := dk_28 (dk_at dksX11_countMedian_2 9 rfl rfl)
theorem dX11_countMedian_58 : decode cX11_countMedian 58 = .ok (.iadd, 1) := dk_96 (dk_at dksX11_countMedian_2 10 rfl rfl)
theorem dX11_countMedian_59 : decode cX11_countMedian 59 = .ok (.iaload, 1) := dk_46 (dk_at dksX11_countMedian_2 11 rfl rfl)
theorem dX11_countMedian_60 : decode cX11_countMedian 60 = .ok (.iadd, 1) := dk_96 (dk_at dksX11_countMedian_2 12 rfl rfl)
theorem dX11_countMedian_61 : decode cX11_countMedian 61 = .ok (.dup2, 1) := dk_92 (dk_at dksX11_countMedian_2 13 rfl rfl)
theorem dX11_countMedian_62 : decode cX11_countMedian 62 = .ok (.iaload, 1) := dk_46 (dk_at dksX11_countMedian_2 14 rfl rfl)
theorem dX11_countMedian_63 : decode cX11_countMedian 63 = .ok (.iconst 1, 1) := dk_4 (dk_at dksX11_countMedian_2 15 rfl rfl)
theorem dX11_countMedian_64 : decode cX11_countMedian 64 = .ok (.iadd, 1) := dk_96 (dk_at dksX11_countMedian_2 16 rfl rfl)
theorem dX11_countMedian_65 : decode cX11_countMedian 65 = .ok (.iastore, 1) := dk_79 (dk_at dksX11_countMedian_2 17 rfl rfl)
theorem dX11_countMedian_66 : decode cX11_countMedian 66 = .ok (.iinc 2 1, 3) := dk_132 2 1 (dk_at dksX11_countMedian_2 18 rfl rfl)
theorem dX11_countMedian_69 : decode cX11_countMedian 69 = .ok (.goto (-36), 3) := dk_167 255 220 (dk_at dksX11_countMedian_2 21 rfl rfl)
theorem dX11_countMedian_72 : decode cX11_countMedian 72 = .ok (.iinc 1 1, 3) := dk_132 1 1 (dk_at dksX11_countMedian_3 0 rfl rfl)
theorem dX11_countMedian_75 : decode cX11_countMedian 75 = .ok (.goto (-52), 3) := dk_167 255 204 (dk_at dksX11_countMedian_3 3 rfl rfl)
theorem dX11_countMedian_78 : decode cX11_countMedian 78 = .ok (.iconst 0, 1) := dk_3 (dk_at dksX11_countMedian_3 6 rfl rfl)
theorem dX11_countMedian_79 : decode cX11_countMedian 79 = .ok (.istore_n 1, 1) := dk_60 (dk_at dksX11_countMedian_3 7 rfl rfl)
theorem dX11_countMedian_80 : decode cX11_countMedian 80 = .ok (.iload_n 1, 1) := dk_27 (dk_at dksX11_countMedian_3 8 rfl rfl)
theorem dX11_countMedian_81 : decode cX11_countMedian 81 = .ok (.bipush 10, 2) := dk_16 10 (dk_at dksX11_countMedian_3 9 rfl rfl)
theorem dX11_countMedian_83 : decode cX11_countMedian 83 = .ok (.if_icmp .ge 47, 3) := dk_162 0 47 (dk_at dksX11_countMedian_3 11 rfl rfl)
theorem dX11_countMedian_86 : decode cX11_countMedian 86 = .ok (.iconst 0, 1) := dk_3 (dk_at dksX11_countMedian_3 14 rfl rfl)
theorem dX11_countMedian_87 : decode cX11_countMedian 87 = .ok (.istore_n 2, 1) := dk_61 (dk_at dksX11_countMedian_3 15 rfl rfl)
theorem dX11_countMedian_88 : decode cX11_countMedian 88 = .ok (.iload_n 2, 1) := dk_28 (dk_at dksX11_countMedian_3 16 rfl rfl)
theorem dX11_countMedian_89 : decode cX11_countMedian 89 = .ok (.aload_n 0, 1) := dk_42 (dk_at dksX11_countMedian_3 17 rfl rfl)
theorem dX11_countMedian_90 : decode cX11_countMedian 90 = .ok (.getfield 755, 3) := dk_180 2 243 (dk_at dksX11_countMedian_3 18 rfl rfl)
theorem dX11_countMedian_93 : decode cX11_countMedian 93 = .ok (.if_icmp .ge 27, 3) := dk_162 0 27 (dk_at dksX11_countMedian_3 21 rfl rfl)
theorem dX11_countMedian_96 : decode cX11_countMedian 96 = .ok (.aload_n 0, 1) := dk_42 (dk_at dksX11_countMedian_4 0 rfl rfl)
theorem dX11_countMedian_97 : decode cX11_countMedian 97 = .ok (.getfield 801, 3) := dk_180 3 33 (dk_at dksX11_countMedian_4 1 rfl rfl)
theorem dX11_countMedian_100 : decode cX11_countMedian 100 = .ok (.iload_n 2, 1) := dk_28 (dk_at dksX11_countMedian_4 4 rfl rfl)
theorem dX11_countMedian_101 : decode cX11_countMedian 101 = .ok (.aload_n 0, 1) := dk_42 (dk_at dksX11_countMedian_4 5 rfl rfl)
theorem dX11_countMedian_102 : decode cX11_countMedian 102 = .ok (.getfield 896, 3) := dk_180 3 128 (dk_at dksX11_countMedian_4 6 rfl rfl)
theorem dX11_countMedian_105 : decode cX11_countMedian 105 = .ok (.bipush 10, 2) := dk_16 10 (dk_at dksX11_countMedian_4 9 rfl rfl)
theorem dX11_countMedian_107 : decode cX11_countMedian 107 = .ok (.iload_n 2, 1) := dk_28 (dk_at dksX11_countMedian_4 11 rfl rfl)
theorem dX11_countMedian_108 : decode cX11_countMedian 108 = .ok (.imul, 1) := dk_104 (dk_at dksX11_countMedian_4 12 rfl rfl)
theorem dX11_countMedian_109 : decode cX11_countMedian 109 = .ok (.iload_n 1, 1) := dk_27 (dk_at dksX11_countMedian_4 13 rfl rfl)
theorem dX11_countMedian_110 : decode cX11_countMedian 110 = .ok (.iadd, 1) := dk_96 (dk_at dksX11_countMedian_4 14 rfl rfl)
theorem dX11_countMedian_111 : decode cX11_countMedian 111 = .ok (.iaload, 1) := dk_46 (dk_at dksX11_countMedian_4 15 rfl rfl)
theorem dX11_countMedian_112 : decode cX11_countMedian 112 = .ok (.i2l, 1) := dk_133 (dk_at dksX11_countMedian_4 16 rfl rfl)
theorem dX11_countMedian_113 : decode cX11_countMedian 113 = .ok (.lastore, 1) := dk_80 (dk_at dksX11_countMedian_4 17 rfl rfl)
theorem dX11_countMedian_114 : decode cX11_countMedian 114 = .ok (.iinc 2 1, 3) := dk_132 2 1 (dk_at dksX11_countMedian_4 18 rfl rfl)
theorem dX11_countMedian_117 : decode cX11_countMedian 117 = .ok (.goto (-29), 3) := dk_167 255 227 (dk_at dksX11_countMedian_4 21 rfl rfl)
theorem dX11_countMedian_120 : decode cX11_countMedian 120 = .ok (.aload_n 0, 1) := dk_42 (dk_at dksX11_countMedian_5 0 rfl rfl)
theorem dX11_countMedian_121 : decode cX11_countMedian 121 = .ok (.invokevirtual 868, 3) := dk_182 3 100 (dk_at dksX11_countMedian_5 1 rfl rfl)
theorem dX11_countMedian_124 : decode cX11_countMedian 124 = .ok (.iinc 1 1, 3) := dk_132 1 1 (dk_at dksX11_countMedian_5 4 rfl rfl)
theorem dX11_countMedian_127 : decode cX11_countMedian 127 = .ok (.goto (-47), 3) := dk_167 255 209 (dk_at dksX11_countMedian_5 7 rfl rfl)
theorem dX11_countMedian_130 : decode cX11_countMedian 130 = .ok (.iconst 0, 1) := dk_3 (dk_at dksX11_countMedian_5 10 rfl rfl)
theorem dX11_countMedian_131 : decode cX11_countMedian 131 = .ok (.istore_n 1, 1) := dk_60 (dk_at dksX11_countMedian_5 11 rfl rfl)
theorem dX11_countMedian_132 : decode cX11_countMedian 132 = .ok (.iload_n 1, 1) := dk_27 (dk_at dksX11_countMedian_5 12 rfl rfl)
theorem dX11_countMedian_133 : decode cX11_countMedian 133 = .ok (.aload_n 0, 1) := dk_42 (dk_at dksX11_countMedian_5 13 rfl rfl)
theorem dX11_countMedian_134 : decode cX11_countMedian 134 = .ok (.getfield 755, 3) := dk_180 2 243 (dk_at dksX11_countMedian_5 14 rfl rfl)
theorem dX11_countMedian_137 : decode cX11_countMedian 137 = .ok (.if_icmp .ge 78, 3) := dk_162 0 78 (dk_at dksX11_countMedian_5 17 rfl rfl)
theorem dX11_countMedian_140 : decode cX11_countMedian 140 = .ok (.aload_n 0, 1) := dk_42 (dk_at dksX11_countMedian_5 20 rfl rfl)
theorem dX11_countMedian_141 : decode cX11_countMedian 141 = .ok (.getfield 801, 3) := dk_180 3 33 (dk_at dksX11_countMedian_5 21 rfl rfl)
theorem dX11_countMedian_144 : decode cX11_countMedian 144 = .ok (.iload_n 1, 1) := dk_27 (dk_at dksX11_countMedian_6 0 rfl rfl)
theorem dX11_countMedian_145 : decode cX11_countMedian 145 = .ok (.lconst 0, 1) := dk_9 (dk_at dksX11_countMedian_6 1 rfl rfl)
theorem dX11_countMedian_146 : decode cX11_countMedian 146 = .ok (.lastore, 1) := dk_80 (dk_at dksX11_countMedian_6 2 rfl rfl)
theorem dX11_countMedian_147 : decode cX11_countMedian 147 = .ok (.iconst 0, 1) := dk_3 (dk_at dksX11_countMedian_6 3 rfl rfl)
theorem dX11_countMedian_148 : decode cX11_countMedian 148 = .ok (.istore_n 2, 1) := dk_61 (dk_at dksX11_countMedian_6 4 rfl rfl)
theorem dX11_countMedian_149 : decode cX11_countMedian 149 = .ok (.iload_n 2, 1) := dk_28 (dk_at dksX11_countMedian_6 5 rfl rfl)
theorem dX11_countMedian_150 : decode cX11_countMedian 150 = .ok (.aload_n 0, 1) := dk_42 (dk_at dksX11_countMedian_6 6 rfl rfl)
theorem dX11_countMedian_151 : decode cX11_countMedian 151 = .ok (.getfield 755, 3) := dk_180 2 243 (dk_at dksX11_countMedian_6 7 rfl rfl)
theorem dX11_countMedian_154 : decode cX11_countMedian 154 = .ok (.if_icmp .ge 55, 3) := dk_162 0 55 (dk_at dksX11_countMedian_6 10 rfl rfl)
theorem dX11_countMedian_157 : decode cX11_countMedian 157 = .ok (.aload_n 0, 1) := dk_42 (dk_at dksX11_countMedian_6 13 rfl rfl)
theorem dX11_countMedian_158 : decode cX11_countMedian 158 = .ok (.getfield 801, 3) := dk_180 3 33 (dk_at dksX11_countMedian_6 14 rfl rfl)
theorem dX11_countMedian_161 : decode cX11_countMedian 161 = .ok (.iload_n 1, 1) := dk_27 (dk_at dksX11_countMedian_6 17 rfl rfl)
theorem dX11_countMedian_162 : decode cX11_countMedian 162 = .ok (.dup2, 1) := dk_92 (dk_at dksX11_countMedian_6 18 rfl rfl)
theorem dX11_countMedian_163 : decode cX11_countMedian 163 = .ok (.laload, 1) := dk_47 (dk_at dksX11_countMedian_6 19 rfl rfl)
theorem dX11_countMedian_164 : decode cX11_countMedian 164 = .ok (.aload_n 0, 1) := dk_42 (dk_at dksX11_countMedian_6 20 rfl rfl)
theorem dX11_countMedian_165 : decode cX11_countMedian 165 = .ok (.getfield 764, 3) := dk_180 2 252 (dk_at dksX11_countMedian_6 21 rfl rfl)
theorem dX11_countMedian_168 : decode cX11_countMedian 168 = .ok (.iload_n 1, 1) := dk_27 (dk_at dksX11_countMedian_7 0 rfl rfl)
theorem dX11_countMedian_169 : decode cX11_countMedian 169 = .ok (.baload, 1) := dk_51 (dk_at dksX11_countMedian_7 1 rfl rfl)
theorem dX11_countMedian_170 : decode cX11_countMedian 170 = .ok (.ifCond .eq 30, 3) := dk_153 0 30 (dk_at dksX11_countMedian_7 2 rfl rfl)
theorem dX11_countMedian_173 : decode cX11_countMedian 173 = .ok (.aload_n 0, 1) := dk_42 (dk_at dksX11_countMedian_7 5 rfl rfl)
theorem dX11_countMedian_174 : decode cX11_countMedian 174 = .ok (.getfield 764, 3) := dk_180 2 252 (dk_at dksX11_countMedian_7 6 rfl rfl)
theorem dX11_countMedian_177 : decode cX11_countMedian 177 = .ok (.iload_n 2, 1) := dk_28 (dk_at dksX11_countMedian_7 9 rfl rfl)
theorem dX11_countMedian_178 : decode cX11_countMedian 178 = .ok (.baload, 1) := dk_51 (dk_at dksX11_countMedian_7 10 rfl rfl)
theorem dX11_countMedian_179 : decode cX11_countMedian 179 = .ok (.ifCond .eq 21, 3) := dk_153 0 21 (dk_at dksX11_countMedian_7 11 rfl rfl)
theorem dX11_countMedian_182 : decode cX11_countMedian 182 = .ok (.iload_n 2, 1) := dk_28 (dk_at dksX11_countMedian_7 14 rfl rfl)
theorem dX11_countMedian_183 : decode cX11_countMedian 183 = .ok (.iload_n 1, 1) := dk_27 (dk_at dksX11_countMedian_7 15 rfl rfl)
theorem dX11_countMedian_184 : decode cX11_countMedian 184 = .ok (.if_icmp .eq 16, 3) := dk_159 0 16 (dk_at dksX11_countMedian_7 16 rfl rfl)
theorem dX11_countMedian_187 : decode cX11_countMedian 187 = .ok (.aload_n 0, 1) := dk_42 (dk_at dksX11_countMedian_7 19 rfl rfl)
theorem dX11_countMedian_188 : decode cX11_countMedian 188 = .ok (.iload_n 1, 1) := dk_27 (dk_at dksX11_countMedian_7 20 rfl rfl)
theorem dX11_countMedian_189 : decode cX11_countMedian 189 = .ok (.iload_n 2, 1) := dk_28 (dk_at dksX11_countMedian_7 21 rfl rfl)
theorem dX11_countMedian_190 : decode cX11_countMedian 190 = .ok (.invokevirtual 906, 3) := dk_182 3 138 (dk_at dksX11_countMedian_8 0 rfl rfl)
theorem dX11_countMedian_193 : decode cX11_countMedian 193 = .ok (.ifCond .eq 7, 3) := dk_153 0 7 (dk_at dksX11_countMedian_8 3 rfl rfl)
theorem dX11_countMedian_196 : decode cX11_countMedian 196 = .ok (.lconst 1, 1) := dk_10 (dk_at dksX11_countMedian_8 6 rfl rfl)
theorem dX11_countMedian_197 : decode cX11_countMedian 197 = .ok (.goto 4, 3) := dk_167 0 4 (dk_at dksX11_countMedian_8 7 rfl rfl)
theorem dX11_countMedian_200 : decode cX11_countMedian 200 = .ok (.lconst 0, 1) := dk_9 (dk_at dksX11_countMedian_8 10 rfl rfl)
theorem dX11_countMedian_201 : decode cX11_countMedian 201 = .ok (.ladd, 1) := dk_97 (dk_at dksX11_countMedian_8 11 rfl rfl)
theorem dX11_countMedian_202 : decode cX11_countMedian 202 = .ok (.lastore, 1) := dk_80 (dk_at dksX11_countMedian_8 12 rfl rfl)
theorem dX11_countMedian_203 : decode cX11_countMedian 203 = .ok (.iinc 2 1, 3) := dk_132 2 1 (dk_at dksX11_countMedian_8 13 rfl rfl)
theorem dX11_countMedian_206 : decode cX11_countMedian 206 = .ok (.goto (-57), 3) := dk_167 255 199 (dk_at dksX11_countMedian_8 16 rfl rfl)
theorem dX11_countMedian_209 : decode cX11_countMedian 209 = .ok (.iinc 1 1, 3) := dk_132 1 1 (dk_at dksX11_countMedian_8 19 rfl rfl)
theorem dX11_countMedian_212 : decode cX11_countMedian 212 = .ok (.goto (-80), 3) := dk_167 255 176 (dk_at dksX11_countMedian_9 0 rfl rfl)
theorem dX11_countMedian_215 : decode cX11_countMedian 215 = .ok (.aload_n 0, 1) := dk_42 (dk_at dksX11_countMedian_9 3 rfl rfl)
theorem dX11_countMedian_216 : decode cX11_countMedian 216 = .ok (.invokevirtual 871, 3) := dk_182 3 103 (dk_at dksX11_countMedian_9 4 rfl rfl)
theorem dX11_countMedian_219 : decode cX11_countMedian 219 = .ok (.aload_n 0, 1) := dk_42 (dk_at dksX11_countMedian_9 7 rfl rfl)
theorem dX11_countMedian_220 : decode cX11_countMedian 220 = .ok (.invokevirtual 874, 3) := dk_182 3 106 (dk_at dksX11_countMedian_9 8 rfl rfl)
theorem dX11_countMedian_223 : decode cX11_countMedian 223 = .ok (.return_, 1) := dk_177 (dk_at dksX11_countMedian_9 11 rfl rfl)
abbrev cX11_isMedianAhead : ByteArray := prog_17_method_147_code
def yX11_isMedianAhead : MethodName := ⟨RX11, "isMedianAhead", "(II)Z"⟩
def dkwX11_isMedianAhead_6 : List UInt8 := [172]
abbrev dktX11_isMedianAhead_6 : List UInt8 := dkwX11_isMedianAhead_6 ++ []
def dkwX11_isMedianAhead_5 : List UInt8 := [132, 3, 255, 167, 255, 187, 42, 27, 182, 3, 40, 42, 28, 182, 3, 40, 162, 0, 7, 4, 167, 0, 4, 3]
abbrev dktX11_isMedianAhead_5 : List UInt8 := dkwX11_isMedianAhead_5 ++ dktX11_isMedianAhead_6
def dkwX11_isMedianAhead_4 : List UInt8 := [172, 42, 180, 3, 125, 21, 4, 92, 46, 4, 100, 79, 42, 180, 3, 131, 21, 5, 92, 46, 4, 100, 79]
abbrev dktX11_isMedianAhead_4 : List UInt8 := dkwX11_isMedianAhead_4 ++ dktX11_isMedianAhead_5
def dkwX11_isMedianAhead_3 : List UInt8 := [184, 3, 134, 54, 5, 21, 4, 21, 5, 159, 0, 16, 21, 4, 21, 5, 164, 0, 7, 4, 167, 0, 4, 3]
abbrev dktX11_isMedianAhead_3 : List UInt8 := dkwX11_isMedianAhead_3 ++ dktX11_isMedianAhead_4
def dkwX11_isMedianAhead_2 : List UInt8 := [42, 180, 2, 255, 62, 29, 158, 0, 71, 42, 180, 3, 125, 29, 184, 3, 134, 54, 4, 42, 180, 3, 131, 29]
abbrev dktX11_isMedianAhead_2 : List UInt8 := dkwX11_isMedianAhead_2 ++ dktX11_isMedianAhead_3
def dkwX11_isMedianAhead_1 : List UInt8 := [79, 42, 180, 3, 131, 29, 42, 180, 3, 128, 16, 10, 28, 104, 29, 96, 46, 79, 132, 3, 1, 167, 255, 213]
abbrev dktX11_isMedianAhead_1 : List UInt8 := dkwX11_isMedianAhead_1 ++ dktX11_isMedianAhead_2
def dkwX11_isMedianAhead_0 : List UInt8 := [3, 62, 29, 16, 10, 162, 0, 43, 42, 180, 3, 125, 29, 42, 180, 3, 128, 16, 10, 27, 104, 29, 96, 46]
abbrev dktX11_isMedianAhead_0 : List UInt8 := dkwX11_isMedianAhead_0 ++ dktX11_isMedianAhead_1
theorem dksX11_isMedianAhead_0 : cX11_isMedianAhead.data.toList.drop 0 = dktX11_isMedianAhead_0 := by decide +kernel
theorem dksX11_isMedianAhead_1 : cX11_isMedianAhead.data.toList.drop 24 = dktX11_isMedianAhead_1 := dk_seg dksX11_isMedianAhead_0 24 rfl rfl
theorem dksX11_isMedianAhead_2 : cX11_isMedianAhead.data.toList.drop 48 = dktX11_isMedianAhead_2 := dk_seg dksX11_isMedianAhead_1 24 rfl rfl
theorem dksX11_isMedianAhead_3 : cX11_isMedianAhead.data.toList.drop 72 = dktX11_isMedianAhead_3 := dk_seg dksX11_isMedianAhead_2 24 rfl rfl
theorem dksX11_isMedianAhead_4 : cX11_isMedianAhead.data.toList.drop 96 = dktX11_isMedianAhead_4 := dk_seg dksX11_isMedianAhead_3 24 rfl rfl
theorem dksX11_isMedianAhead_5 : cX11_isMedianAhead.data.toList.drop 119 = dktX11_isMedianAhead_5 := dk_seg dksX11_isMedianAhead_4 23 rfl rfl
theorem dksX11_isMedianAhead_6 : cX11_isMedianAhead.data.toList.drop 143 = dktX11_isMedianAhead_6 := dk_seg dksX11_isMedianAhead_5 24 rfl rfl
theorem dX11_isMedianAhead_0 : decode cX11_isMedianAhead 0 = .ok (.iconst 0, 1) := dk_3 (dk_at dksX11_isMedianAhead_0 0 rfl rfl)
theorem dX11_isMedianAhead_1 : decode cX11_isMedianAhead 1 = .ok (.istore_n 3, 1) := dk_62 (dk_at dksX11_isMedianAhead_0 1 rfl rfl)
theorem dX11_isMedianAhead_2 : decode cX11_isMedianAhead 2 = .ok (.iload_n 3, 1) := dk_29 (dk_at dksX11_isMedianAhead_0 2 rfl rfl)
theorem dX11_isMedianAhead_3 : decode cX11_isMedianAhead 3 = .ok (.bipush 10, 2) := dk_16 10 (dk_at dksX11_isMedianAhead_0 3 rfl rfl)
theorem dX11_isMedianAhead_5 : decode cX11_isMedianAhead 5 = .ok (.if_icmp .ge 43, 3) := dk_162 0 43 (dk_at dksX11_isMedianAhead_0 5 rfl rfl)
theorem dX11_isMedianAhead_8 : decode cX11_isMedianAhead 8 = .ok (.aload_n 0, 1) := dk_42 (dk_at dksX11_isMedianAhead_0 8 rfl rfl)
theorem dX11_isMedianAhead_9 : decode cX11_isMedianAhead 9 = .ok (.getfield 893, 3) := dk_180 3 125 (dk_at dksX11_isMedianAhead_0 9 rfl rfl)
theorem dX11_isMedianAhead_12 : decode cX11_isMedianAhead 12 = .ok (.iload_n 3, 1) := dk_29 (dk_at dksX11_isMedianAhead_0 12 rfl rfl)
theorem dX11_isMedianAhead_13 : decode cX11_isMedianAhead 13 = .ok (.aload_n 0, 1) := dk_42 (dk_at dksX11_isMedianAhead_0 13 rfl rfl)
theorem dX11_isMedianAhead_14 : decode cX11_isMedianAhead 14 = .ok (.getfield 896, 3) := dk_180 3 128 (dk_at dksX11_isMedianAhead_0 14 rfl rfl)
theorem dX11_isMedianAhead_17 : decode cX11_isMedianAhead 17 = .ok (.bipush 10, 2) := dk_16 10 (dk_at dksX11_isMedianAhead_0 17 rfl rfl)
theorem dX11_isMedianAhead_19 : decode cX11_isMedianAhead 19 = .ok (.iload_n 1, 1) := dk_27 (dk_at dksX11_isMedianAhead_0 19 rfl rfl)
theorem dX11_isMedianAhead_20 : decode cX11_isMedianAhead 20 = .ok (.imul, 1) := dk_104 (dk_at dksX11_isMedianAhead_0 20 rfl rfl)
theorem dX11_isMedianAhead_21 : decode cX11_isMedianAhead 21 = .ok (.iload_n 3, 1) := dk_29 (dk_at dksX11_isMedianAhead_0 21 rfl rfl)
theorem dX11_isMedianAhead_22 : decode cX11_isMedianAhead 22 = .ok (.iadd, 1) := dk_96 (dk_at dksX11_isMedianAhead_0 22 rfl rfl)
theorem dX11_isMedianAhead_23 : decode cX11_isMedianAhead 23 = .ok (.iaload, 1) := dk_46 (dk_at dksX11_isMedianAhead_0 23 rfl rfl)
theorem dX11_isMedianAhead_24 : decode cX11_isMedianAhead 24 = .ok (.iastore, 1) := dk_79 (dk_at dksX11_isMedianAhead_1 0 rfl rfl)
theorem dX11_isMedianAhead_25 : decode cX11_isMedianAhead 25 = .ok (.aload_n 0, 1) := dk_42 (dk_at dksX11_isMedianAhead_1 1 rfl rfl)
theorem dX11_isMedianAhead_26 : decode cX11_isMedianAhead 26 = .ok (.getfield 899, 3) := dk_180 3 131 (dk_at dksX11_isMedianAhead_1 2 rfl rfl)
theorem dX11_isMedianAhead_29 : decode cX11_isMedianAhead 29 = .ok (.iload_n 3, 1) := dk_29 (dk_at dksX11_isMedianAhead_1 5 rfl rfl)
theorem dX11_isMedianAhead_30 : decode cX11_isMedianAhead 30 = .ok (.aload_n 0, 1) := dk_42 (dk_at dksX11_isMedianAhead_1 6 rfl rfl)
theorem dX11_isMedianAhead_31 : decode cX11_isMedianAhead 31 = .ok (.getfield 896, 3) := dk_180 3 128 (dk_at dksX11_isMedianAhead_1 7 rfl rfl)
theorem dX11_isMedianAhead_34 : decode cX11_isMedianAhead 34 = .ok (.bipush 10, 2) := dk_16 10 (dk_at dksX11_isMedianAhead_1 10 rfl rfl)
theorem dX11_isMedianAhead_36 : decode cX11_isMedianAhead 36 = .ok (.iload_n 2, 1) := dk_28 (dk_at dksX11_isMedianAhead_1 12 rfl rfl)
theorem dX11_isMedianAhead_37 : decode cX11_isMedianAhead 37 = .ok (.imul, 1) := dk_104 (dk_at dksX11_isMedianAhead_1 13 rfl rfl)
theorem dX11_isMedianAhead_38 : decode cX11_isMedianAhead 38 = .ok (.iload_n 3, 1) := dk_29 (dk_at dksX11_isMedianAhead_1 14 rfl rfl)
theorem dX11_isMedianAhead_39 : decode cX11_isMedianAhead 39 = .ok (.iadd, 1) := dk_96 (dk_at dksX11_isMedianAhead_1 15 rfl rfl)
theorem dX11_isMedianAhead_40 : decode cX11_isMedianAhead 40 = .ok (.iaload, 1) := dk_46 (dk_at dksX11_isMedianAhead_1 16 rfl rfl)
theorem dX11_isMedianAhead_41 : decode cX11_isMedianAhead 41 = .ok (.iastore, 1) := dk_79 (dk_at dksX11_isMedianAhead_1 17 rfl rfl)
theorem dX11_isMedianAhead_42 : decode cX11_isMedianAhead 42 = .ok (.iinc 3 1, 3) := dk_132 3 1 (dk_at dksX11_isMedianAhead_1 18 rfl rfl)
theorem dX11_isMedianAhead_45 : decode cX11_isMedianAhead 45 = .ok (.goto (-43), 3) := dk_167 255 213 (dk_at dksX11_isMedianAhead_1 21 rfl rfl)
theorem dX11_isMedianAhead_48 : decode cX11_isMedianAhead 48 = .ok (.aload_n 0, 1) := dk_42 (dk_at dksX11_isMedianAhead_2 0 rfl rfl)
theorem dX11_isMedianAhead_49 : decode cX11_isMedianAhead 49 = .ok (.getfield 767, 3) := dk_180 2 255 (dk_at dksX11_isMedianAhead_2 1 rfl rfl)
theorem dX11_isMedianAhead_52 : decode cX11_isMedianAhead 52 = .ok (.istore_n 3, 1) := dk_62 (dk_at dksX11_isMedianAhead_2 4 rfl rfl)
theorem dX11_isMedianAhead_53 : decode cX11_isMedianAhead 53 = .ok (.iload_n 3, 1) := dk_29 (dk_at dksX11_isMedianAhead_2 5 rfl rfl)
theorem dX11_isMedianAhead_54 : decode cX11_isMedianAhead 54 = .ok (.ifCond .le 71, 3) := dk_158 0 71 (dk_at dksX11_isMedianAhead_2 6 rfl rfl)
theorem dX11_isMedianAhead_57 : decode cX11_isMedianAhead 57 = .ok (.aload_n 0, 1) := dk_42 (dk_at dksX11_isMedianAhead_2 9 rfl rfl)
theorem dX11_isMedianAhead_58 : decode cX11_isMedianAhead 58 = .ok (.getfield 893, 3) := dk_180 3 125 (dk_at dksX11_isMedianAhead_2 10 rfl rfl)
theorem dX11_isMedianAhead_61 : decode cX11_isMedianAhead 61 = .ok (.iload_n 3, 1) := dk_29 (dk_at dksX11_isMedianAhead_2 13 rfl rfl)
theorem dX11_isMedianAhead_62 : decode cX11_isMedianAhead 62 = .ok (.invokestatic 902, 3) := dk_184 3 134 (dk_at dksX11_isMedianAhead_2 14 rfl rfl)
theorem dX11_isMedianAhead_65 : decode cX11_isMedianAhead 65 = .ok (.istore 4, 2) := dk_54 4 (dk_at dksX11_isMedianAhead_2 17 rfl rfl)
theorem dX11_isMedianAhead_67 : decode cX11_isMedianAhead 67 = .ok (.aload_n 0, 1) := dk_42 (dk_at dksX11_isMedianAhead_2 19 rfl rfl)
theorem dX11_isMedianAhead_68 : decode cX11_isMedianAhead 68 = .ok (.getfield 899, 3) := dk_180 3 131 (dk_at dksX11_isMedianAhead_2 20 rfl rfl)
theorem dX11_isMedianAhead_71 : decode cX11_isMedianAhead 71 = .ok (.iload_n 3, 1) := dk_29 (dk_at dksX11_isMedianAhead_2 23 rfl rfl)
theorem dX11_isMedianAhead_72 : decode cX11_isMedianAhead 72 = .ok (.invokestatic 902, 3) := dk_184 3 134 (dk_at dksX11_isMedianAhead_3 0 rfl rfl)
theorem dX11_isMedianAhead_75 : decode cX11_isMedianAhead 75 = .ok (.istore 5, 2) := dk_54 5 (dk_at dksX11_isMedianAhead_3 3 rfl rfl)
theorem dX11_isMedianAhead_77 : decode cX11_isMedianAhead 77 = .ok (.iload 4, 2) := dk_21 4 (dk_at dksX11_isMedianAhead_3 5 rfl rfl)
theorem dX11_isMedianAhead_79 : decode cX11_isMedianAhead 79 = .ok (.iload 5, 2) := dk_21 5 (dk_at dksX11_isMedianAhead_3 7 rfl rfl)
theorem dX11_isMedianAhead_81 : decode cX11_isMedianAhead 81 = .ok (.if_icmp .eq 16, 3) := dk_159 0 16 (dk_at dksX11_isMedianAhead_3 9 rfl rfl)
theorem dX11_isMedianAhead_84 : decode cX11_isMedianAhead 84 = .ok (.iload 4, 2) := dk_21 4 (dk_at dksX11_isMedianAhead_3 12 rfl rfl)
theorem dX11_isMedianAhead_86 : decode cX11_isMedianAhead 86 = .ok (.iload 5, 2) := dk_21 5 (dk_at dksX11_isMedianAhead_3 14 rfl rfl)
theorem dX11_isMedianAhead_88 : decode cX11_isMedianAhead 88 = .ok (.if_icmp .le 7, 3) := dk_164 0 7 (dk_at dksX11_isMedianAhead_3 16 rfl rfl)
theorem dX11_isMedianAhead_91 : decode cX11_isMedianAhead 91 = .ok (.iconst 1, 1) := dk_4 (dk_at dksX11_isMedianAhead_3 19 rfl rfl)
theorem dX11_isMedianAhead_92 : decode cX11_isMedianAhead 92 = .ok (.goto 4, 3) := dk_167 0 4 (dk_at dksX11_isMedianAhead_3 20 rfl rfl)
theorem dX11_isMedianAhead_95 : decode cX11_isMedianAhead 95 = .ok (.iconst 0, 1) := dk_3 (dk_at dksX11_isMedianAhead_3 23 rfl rfl)
theorem dX11_isMedianAhead_96 : decode cX11_isMedianAhead 96 = .ok (.ireturn, 1) := dk_172 (dk_at dksX11_isMedianAhead_4 0 rfl rfl)
theorem dX11_isMedianAhead_97 : decode cX11_isMedianAhead 97 = .ok (.aload_n 0, 1) := dk_42 (dk_at dksX11_isMedianAhead_4 1 rfl rfl)
theorem dX11_isMedianAhead_98 : decode cX11_isMedianAhead 98 = .ok (.getfield 893, 3) := dk_180 3 125 (dk_at dksX11_isMedianAhead_4 2 rfl rfl)
theorem dX11_isMedianAhead_101 : decode cX11_isMedianAhead 101 = .ok (.iload 4, 2) := dk_21 4 (dk_at dksX11_isMedianAhead_4 5 rfl rfl)
theorem dX11_isMedianAhead_103 : decode cX11_isMedianAhead 103 = .ok (.dup2, 1) := dk_92 (dk_at dksX11_isMedianAhead_4 7 rfl rfl)
theorem dX11_isMedianAhead_104 : decode cX11_isMedianAhead 104 = .ok (.iaload, 1) := dk_46 (dk_at dksX11_isMedianAhead_4 8 rfl rfl)
theorem dX11_isMedianAhead_105 : decode cX11_isMedianAhead 105 = .ok (.iconst 1, 1) := dk_4 (dk_at dksX11_isMedianAhead_4 9 rfl rfl)
theorem dX11_isMedianAhead_106 : decode cX11_isMedianAhead 106 = .ok (.isub, 1) := dk_100 (dk_at dksX11_isMedianAhead_4 10 rfl rfl)
theorem dX11_isMedianAhead_107 : decode cX11_isMedianAhead 107 = .ok (.iastore, 1) := dk_79 (dk_at dksX11_isMedianAhead_4 11 rfl rfl)
theorem dX11_isMedianAhead_108 : decode cX11_isMedianAhead 108 = .ok (.aload_n 0, 1) := dk_42 (dk_at dksX11_isMedianAhead_4 12 rfl rfl)
theorem dX11_isMedianAhead_109 : decode cX11_isMedianAhead 109 = .ok (.getfield 899, 3) := dk_180 3 131 (dk_at dksX11_isMedianAhead_4 13 rfl rfl)
theorem dX11_isMedianAhead_112 : decode cX11_isMedianAhead 112 = .ok (.iload 5, 2) := dk_21 5 (dk_at dksX11_isMedianAhead_4 16 rfl rfl)
theorem dX11_isMedianAhead_114 : decode cX11_isMedianAhead 114 = .ok (.dup2, 1) := dk_92 (dk_at dksX11_isMedianAhead_4 18 rfl rfl)
theorem dX11_isMedianAhead_115 : decode cX11_isMedianAhead 115 = .ok (.iaload, 1) := dk_46 (dk_at dksX11_isMedianAhead_4 19 rfl rfl)
theorem dX11_isMedianAhead_116 : decode cX11_isMedianAhead 116 = .ok (.iconst 1, 1) := dk_4 (dk_at dksX11_isMedianAhead_4 20 rfl rfl)
theorem dX11_isMedianAhead_117 : decode cX11_isMedianAhead 117 = .ok (.isub, 1) := dk_100 (dk_at dksX11_isMedianAhead_4 21 rfl rfl)
theorem dX11_isMedianAhead_118 : decode cX11_isMedianAhead 118 = .ok (.iastore, 1) := dk_79 (dk_at dksX11_isMedianAhead_4 22 rfl rfl)
theorem dX11_isMedianAhead_119 : decode cX11_isMedianAhead 119 = .ok (.iinc 3 (-1), 3) := dk_132 3 255 (dk_at dksX11_isMedianAhead_5 0 rfl rfl)
theorem dX11_isMedianAhead_122 : decode cX11_isMedianAhead 122 = .ok (.goto (-69), 3) := dk_167 255 187 (dk_at dksX11_isMedianAhead_5 3 rfl rfl)
theorem dX11_isMedianAhead_125 : decode cX11_isMedianAhead 125 = .ok (.aload_n 0, 1) := dk_42 (dk_at dksX11_isMedianAhead_5 6 rfl rfl)
theorem dX11_isMedianAhead_126 : decode cX11_isMedianAhead 126 = .ok (.iload_n 1, 1) := dk_27 (dk_at dksX11_isMedianAhead_5 7 rfl rfl)
theorem dX11_isMedianAhead_127 : decode cX11_isMedianAhead 127 = .ok (.invokevirtual 808, 3) := dk_182 3 40 (dk_at dksX11_isMedianAhead_5 8 rfl rfl)
theorem dX11_isMedianAhead_130 : decode cX11_isMedianAhead 130 = .ok (.aload_n 0, 1) := dk_42 (dk_at dksX11_isMedianAhead_5 11 rfl rfl)
theorem dX11_isMedianAhead_131 : decode cX11_isMedianAhead 131 = .ok (.iload_n 2, 1) := dk_28 (dk_at dksX11_isMedianAhead_5 12 rfl rfl)
theorem dX11_isMedianAhead_132 : decode cX11_isMedianAhead 132 = .ok (.invokevirtual 808, 3) := dk_182 3 40 (dk_at dksX11_isMedianAhead_5 13 rfl rfl)
theorem dX11_isMedianAhead_135 : decode cX11_isMedianAhead 135 = .ok (.if_icmp .ge 7, 3) := dk_162 0 7 (dk_at dksX11_isMedianAhead_5 16 rfl rfl)
theorem dX11_isMedianAhead_138 : decode cX11_isMedianAhead 138 = .ok (.iconst 1, 1) := dk_4 (dk_at dksX11_isMedianAhead_5 19 rfl rfl)
theorem dX11_isMedianAhead_139 : decode cX11_isMedianAhead 139 = .ok (.goto 4, 3) := dk_167 0 4 (dk_at dksX11_isMedianAhead_5 20 rfl rfl)
theorem dX11_isMedianAhead_142 : decode cX11_isMedianAhead 142 = .ok (.iconst 0, 1) := dk_3 (dk_at dksX11_isMedianAhead_5 23 rfl rfl)
theorem dX11_isMedianAhead_143 : decode cX11_isMedianAhead 143 = .ok (.ireturn, 1) := dk_172 (dk_at dksX11_isMedianAhead_6 0 rfl rfl)
abbrev cX11_medianOf : ByteArray := prog_17_method_146_code
def yX11_medianOf : MethodName := ⟨RX11, "medianOf", "([II)I"⟩
def dkwX11_medianOf_1 : List UInt8 := [100, 61, 132, 3, 255, 167, 255, 234, 3, 172]
abbrev dktX11_medianOf_1 : List UInt8 := dkwX11_medianOf_1 ++ []
def dkwX11_medianOf_0 : List UInt8 := [27, 5, 108, 61, 16, 9, 62, 29, 158, 0, 24, 28, 42, 29, 46, 162, 0, 5, 29, 172, 28, 42, 29, 46]
abbrev dktX11_medianOf_0 : List UInt8 := dkwX11_medianOf_0 ++ dktX11_medianOf_1
theorem dksX11_medianOf_0 : cX11_medianOf.data.toList.drop 0 = dktX11_medianOf_0 := by decide +kernel
theorem dksX11_medianOf_1 : cX11_medianOf.data.toList.drop 24 = dktX11_medianOf_1 := dk_seg dksX11_medianOf_0 24 rfl rfl
theorem dX11_medianOf_0 : decode cX11_medianOf 0 = .ok (.iload_n 1, 1) := dk_27 (dk_at dksX11_medianOf_0 0 rfl rfl)
theorem dX11_medianOf_1 : decode cX11_medianOf 1 = .ok (.iconst 2, 1) := dk_5 (dk_at dksX11_medianOf_0 1 rfl rfl)
theorem dX11_medianOf_2 : decode cX11_medianOf 2 = .ok (.idiv, 1) := dk_108 (dk_at dksX11_medianOf_0 2 rfl rfl)
theorem dX11_medianOf_3 : decode cX11_medianOf 3 = .ok (.istore_n 2, 1) := dk_61 (dk_at dksX11_medianOf_0 3 rfl rfl)
theorem dX11_medianOf_4 : decode cX11_medianOf 4 = .ok (.bipush 9, 2) := dk_16 9 (dk_at dksX11_medianOf_0 4 rfl rfl)
theorem dX11_medianOf_6 : decode cX11_medianOf 6 = .ok (.istore_n 3, 1) := dk_62 (dk_at dksX11_medianOf_0 6 rfl rfl)
theorem dX11_medianOf_7 : decode cX11_medianOf 7 = .ok (.iload_n 3, 1) := dk_29 (dk_at dksX11_medianOf_0 7 rfl rfl)
theorem dX11_medianOf_8 : decode cX11_medianOf 8 = .ok (.ifCond .le 24, 3) := dk_158 0 24 (dk_at dksX11_medianOf_0 8 rfl rfl)
theorem dX11_medianOf_11 : decode cX11_medianOf 11 = .ok (.iload_n 2, 1) := dk_28 (dk_at dksX11_medianOf_0 11 rfl rfl)
theorem dX11_medianOf_12 : decode cX11_medianOf 12 = .ok (.aload_n 0, 1) := dk_42 (dk_at dksX11_medianOf_0 12 rfl rfl)
theorem dX11_medianOf_13 : decode cX11_medianOf 13 = .ok (.iload_n 3, 1) := dk_29 (dk_at dksX11_medianOf_0 13 rfl rfl)
theorem dX11_medianOf_14 : decode cX11_medianOf 14 = .ok (.iaload, 1) := dk_46 (dk_at dksX11_medianOf_0 14 rfl rfl)
theorem dX11_medianOf_15 : decode cX11_medianOf 15 = .ok (.if_icmp .ge 5, 3) := dk_162 0 5 (dk_at dksX11_medianOf_0 15 rfl rfl)
theorem dX11_medianOf_18 : decode cX11_medianOf 18 = .ok (.iload_n 3, 1) := dk_29 (dk_at dksX11_medianOf_0 18 rfl rfl)
theorem dX11_medianOf_19 : decode cX11_medianOf 19 = .ok (.ireturn, 1) := dk_172 (dk_at dksX11_medianOf_0 19 rfl rfl)
theorem dX11_medianOf_20 : decode cX11_medianOf 20 = .ok (.iload_n 2, 1) := dk_28 (dk_at dksX11_medianOf_0 20 rfl rfl)
theorem dX11_medianOf_21 : decode cX11_medianOf 21 = .ok (.aload_n 0, 1) := dk_42 (dk_at dksX11_medianOf_0 21 rfl rfl)
theorem dX11_medianOf_22 : decode cX11_medianOf 22 = .ok (.iload_n 3, 1) := dk_29 (dk_at dksX11_medianOf_0 22 rfl rfl)
theorem dX11_medianOf_23 : decode cX11_medianOf 23 = .ok (.iaload, 1) := dk_46 (dk_at dksX11_medianOf_0 23 rfl rfl)
theorem dX11_medianOf_24 : decode cX11_medianOf 24 = .ok (.isub, 1) := dk_100 (dk_at dksX11_medianOf_1 0 rfl rfl)
theorem dX11_medianOf_25 : decode cX11_medianOf 25 = .ok (.istore_n 2, 1) := dk_61 (dk_at dksX11_medianOf_1 1 rfl rfl)
theorem dX11_medianOf_26 : decode cX11_medianOf 26 = .ok (.iinc 3 (-1), 3) := dk_132 3 255 (dk_at dksX11_medianOf_1 2 rfl rfl)
theorem dX11_medianOf_29 : decode cX11_medianOf 29 = .ok (.goto (-22), 3) := dk_167 255 234 (dk_at dksX11_medianOf_1 5 rfl rfl)
theorem dX11_medianOf_32 : decode cX11_medianOf 32 = .ok (.iconst 0, 1) := dk_3 (dk_at dksX11_medianOf_1 8 rfl rfl)
theorem dX11_medianOf_33 : decode cX11_medianOf 33 = .ok (.ireturn, 1) := dk_172 (dk_at dksX11_medianOf_1 9 rfl rfl)
abbrev cX11_countOut : ByteArray := prog_17_method_156_code
def yX11_countOut : MethodName := ⟨RX11, "countOut", "()V"⟩
def dkwX11_countOut_4 : List UInt8 := [177]
abbrev dktX11_countOut_4 : List UInt8 := dkwX11_countOut_4 ++ []
def dkwX11_countOut_3 : List UInt8 := [27, 153, 0, 12, 42, 4, 182, 3, 167, 87, 167, 255, 181, 42, 20, 3, 155, 182, 3, 157, 87, 167, 255, 170]
abbrev dktX11_countOut_3 : List UInt8 := dkwX11_countOut_3 ++ dktX11_countOut_4
def dkwX11_countOut_2 : List UInt8 := [167, 255, 225, 42, 182, 3, 100, 42, 182, 3, 150, 42, 180, 2, 246, 164, 0, 7, 4, 167, 0, 4, 3, 60]
abbrev dktX11_countOut_2 : List UInt8 := dkwX11_countOut_2 ++ dktX11_countOut_3
def dkwX11_countOut_1 : List UInt8 := [42, 28, 182, 3, 164, 62, 29, 155, 0, 13, 42, 180, 3, 33, 29, 92, 47, 10, 97, 80, 132, 2, 1]
abbrev dktX11_countOut_1 : List UInt8 := dkwX11_countOut_1 ++ dktX11_countOut_2
def dkwX11_countOut_0 : List UInt8 := [42, 182, 3, 161, 4, 60, 27, 153, 0, 88, 42, 182, 3, 43, 3, 61, 28, 42, 180, 2, 255, 162, 0, 29]
abbrev dktX11_countOut_0 : List UInt8 := dkwX11_countOut_0 ++ dktX11_countOut_1
theorem dksX11_countOut_0 : cX11_countOut.data.toList.drop 0 = dktX11_countOut_0 := by decide +kernel
theorem dksX11_countOut_1 : cX11_countOut.data.toList.drop 24 = dktX11_countOut_1 := dk_seg dksX11_countOut_0 24 rfl rfl
theorem dksX11_countOut_2 : cX11_countOut.data.toList.drop 47 = dktX11_countOut_2 := dk_seg dksX11_countOut_1 23 rfl rfl
theorem dksX11_countOut_3 : cX11_countOut.data.toList.drop 71 = dktX11_countOut_3 := dk_seg dksX11_countOut_2 24 rfl rfl
theorem dksX11_countOut_4 : cX11_countOut.data.toList.drop 95 = dktX11_countOut_4 := dk_seg dksX11_countOut_3 24 rfl rfl
theorem dX11_countOut_0 : decode cX11_countOut 0 = .ok (.aload_n 0, 1) := dk_42 (dk_at dksX11_countOut_0 0 rfl rfl)
theorem dX11_countOut_1 : decode cX11_countOut 1 = .ok (.invokevirtual 929, 3) := dk_182 3 161 (dk_at dksX11_countOut_0 1 rfl rfl)
theorem dX11_countOut_4 : decode cX11_countOut 4 = .ok (.iconst 1, 1) := dk_4 (dk_at dksX11_countOut_0 4 rfl rfl)
theorem dX11_countOut_5 : decode cX11_countOut 5 = .ok (.istore_n 1, 1) := dk_60 (dk_at dksX11_countOut_0 5 rfl rfl)
theorem dX11_countOut_6 : decode cX11_countOut 6 = .ok (.iload_n 1, 1) := dk_27 (dk_at dksX11_countOut_0 6 rfl rfl)
theorem dX11_countOut_7 : decode cX11_countOut 7 = .ok (.ifCond .eq 88, 3) := dk_153 0 88 (dk_at dksX11_countOut_0 7 rfl rfl)
theorem dX11_countOut_10 : decode cX11_countOut 10 = .ok (.aload_n 0, 1) := dk_42 (dk_at dksX11_countOut_0 10 rfl rfl)
theorem dX11_countOut_11 : decode cX11_countOut 11 = .ok (.invokevirtual 811, 3) := dk_182 3 43 (dk_at dksX11_countOut_0 11 rfl rfl)
theorem dX11_countOut_14 : decode cX11_countOut 14 = .ok (.iconst 0, 1) := dk_3 (dk_at dksX11_countOut_0 14 rfl rfl)
theorem dX11_countOut_15 : decode cX11_countOut 15 = .ok (.istore_n 2, 1) := dk_61 (dk_at dksX11_countOut_0 15 rfl rfl)
theorem dX11_countOut_16 : decode cX11_countOut 16 = .ok (.iload_n 2, 1) := dk_28 (dk_at dksX11_countOut_0 16 rfl rfl)
theorem dX11_countOut_17 : decode cX11_countOut 17 = .ok (.aload_n 0, 1) := dk_42 (dk_at dksX11_countOut_0 17 rfl rfl)
theorem dX11_countOut_18 : decode cX11_countOut 18 = .ok (.getfield 767, 3) := dk_180 2 255 (dk_at dksX11_countOut_0 18 rfl rfl)
theorem dX11_countOut_21 : decode cX11_countOut 21 = .ok (.if_icmp .ge 29, 3) := dk_162 0 29 (dk_at dksX11_countOut_0 21 rfl rfl)
theorem dX11_countOut_24 : decode cX11_countOut 24 = .ok (.aload_n 0, 1) := dk_42 (dk_at dksX11_countOut_1 0 rfl rfl)
theorem dX11_countOut_25 : decode cX11_countOut 25 = .ok (.iload_n 2, 1) := dk_28 (dk_at dksX11_countOut_1 1 rfl rfl)
theorem dX11_countOut_26 : decode cX11_countOut 26 = .ok (.invokevirtual 932, 3) := dk_182 3 164 (dk_at dksX11_countOut_1 2 rfl rfl)
theorem dX11_countOut_29 : decode cX11_countOut 29 = .ok (.istore_n 3, 1) := dk_62 (dk_at dksX11_countOut_1 5 rfl rfl)
theorem dX11_countOut_30 : decode cX11_countOut 30 = .ok (.iload_n 3, 1) := dk_29 (dk_at dksX11_countOut_1 6 rfl rfl)
theorem dX11_countOut_31 : decode cX11_countOut 31 = .ok (.ifCond .lt 13, 3) := dk_155 0 13 (dk_at dksX11_countOut_1 7 rfl rfl)
theorem dX11_countOut_34 : decode cX11_countOut 34 = .ok (.aload_n 0, 1) := dk_42 (dk_at dksX11_countOut_1 10 rfl rfl)
theorem dX11_countOut_35 : decode cX11_countOut 35 = .ok (.getfield 801, 3) := dk_180 3 33 (dk_at dksX11_countOut_1 11 rfl rfl)
theorem dX11_countOut_38 : decode cX11_countOut 38 = .ok (.iload_n 3, 1) := dk_29 (dk_at dksX11_countOut_1 14 rfl rfl)
theorem dX11_countOut_39 : decode cX11_countOut 39 = .ok (.dup2, 1) := dk_92 (dk_at dksX11_countOut_1 15 rfl rfl)
theorem dX11_countOut_40 : decode cX11_countOut 40 = .ok (.laload, 1) := dk_47 (dk_at dksX11_countOut_1 16 rfl rfl)
theorem dX11_countOut_41 : decode cX11_countOut 41 = .ok (.lconst 1, 1) := dk_10 (dk_at dksX11_countOut_1 17 rfl rfl)
theorem dX11_countOut_42 : decode cX11_countOut 42 = .ok (.ladd, 1) := dk_97 (dk_at dksX11_countOut_1 18 rfl rfl)
theorem dX11_countOut_43 : decode cX11_countOut 43 = .ok (.lastore, 1) := dk_80 (dk_at dksX11_countOut_1 19 rfl rfl)
theorem dX11_countOut_44 : decode cX11_countOut 44 = .ok (.iinc 2 1, 3) := dk_132 2 1 (dk_at dksX11_countOut_1 20 rfl rfl)
theorem dX11_countOut_47 : decode cX11_countOut 47 = .ok (.goto (-31), 3) := dk_167 255 225 (dk_at dksX11_countOut_2 0 rfl rfl)
theorem dX11_countOut_50 : decode cX11_countOut 50 = .ok (.aload_n 0, 1) := dk_42 (dk_at dksX11_countOut_2 3 rfl rfl)
theorem dX11_countOut_51 : decode cX11_countOut 51 = .ok (.invokevirtual 868, 3) := dk_182 3 100 (dk_at dksX11_countOut_2 4 rfl rfl)
theorem dX11_countOut_54 : decode cX11_countOut 54 = .ok (.aload_n 0, 1) := dk_42 (dk_at dksX11_countOut_2 7 rfl rfl)
theorem dX11_countOut_55 : decode cX11_countOut 55 = .ok (.invokevirtual 918, 3) := dk_182 3 150 (dk_at dksX11_countOut_2 8 rfl rfl)
theorem dX11_countOut_58 : decode cX11_countOut 58 = .ok (.aload_n 0, 1) := dk_42 (dk_at dksX11_countOut_2 11 rfl rfl)
theorem dX11_countOut_59 : decode cX11_countOut 59 = .ok (.getfield 758, 3) := dk_180 2 246 (dk_at dksX11_countOut_2 12 rfl rfl)
theorem dX11_countOut_62 : decode cX11_countOut 62 = .ok (.if_icmp .le 7, 3) := dk_164 0 7 (dk_at dksX11_countOut_2 15 rfl rfl)
theorem dX11_countOut_65 : decode cX11_countOut 65 = .ok (.iconst 1, 1) := dk_4 (dk_at dksX11_countOut_2 18 rfl rfl)
theorem dX11_countOut_66 : decode cX11_countOut 66 = .ok (.goto 4, 3) := dk_167 0 4 (dk_at dksX11_countOut_2 19 rfl rfl)
theorem dX11_countOut_69 : decode cX11_countOut 69 = .ok (.iconst 0, 1) := dk_3 (dk_at dksX11_countOut_2 22 rfl rfl)
theorem dX11_countOut_70 : decode cX11_countOut 70 = .ok (.istore_n 1, 1) := dk_60 (dk_at dksX11_countOut_2 23 rfl rfl)
theorem dX11_countOut_71 : decode cX11_countOut 71 = .ok (.iload_n 1, 1) := dk_27 (dk_at dksX11_countOut_3 0 rfl rfl)
theorem dX11_countOut_72 : decode cX11_countOut 72 = .ok (.ifCond .eq 12, 3) := dk_153 0 12 (dk_at dksX11_countOut_3 1 rfl rfl)
theorem dX11_countOut_75 : decode cX11_countOut 75 = .ok (.aload_n 0, 1) := dk_42 (dk_at dksX11_countOut_3 4 rfl rfl)
theorem dX11_countOut_76 : decode cX11_countOut 76 = .ok (.iconst 1, 1) := dk_4 (dk_at dksX11_countOut_3 5 rfl rfl)
theorem dX11_countOut_77 : decode cX11_countOut 77 = .ok (.invokevirtual 935, 3) := dk_182 3 167 (dk_at dksX11_countOut_3 6 rfl rfl)
theorem dX11_countOut_80 : decode cX11_countOut 80 = .ok (.pop, 1) := dk_87 (dk_at dksX11_countOut_3 9 rfl rfl)
theorem dX11_countOut_81 : decode cX11_countOut 81 = .ok (.goto (-75), 3) := dk_167 255 181 (dk_at dksX11_countOut_3 10 rfl rfl)
theorem dX11_countOut_84 : decode cX11_countOut 84 = .ok (.aload_n 0, 1) := dk_42 (dk_at dksX11_countOut_3 13 rfl rfl)
theorem dX11_countOut_85 : decode cX11_countOut 85 = .ok (.ldc2_w 923, 3) := dk_20 3 155 (dk_at dksX11_countOut_3 14 rfl rfl)
theorem dX11_countOut_88 : decode cX11_countOut 88 = .ok (.invokevirtual 925, 3) := dk_182 3 157 (dk_at dksX11_countOut_3 17 rfl rfl)
theorem dX11_countOut_91 : decode cX11_countOut 91 = .ok (.pop, 1) := dk_87 (dk_at dksX11_countOut_3 20 rfl rfl)
theorem dX11_countOut_92 : decode cX11_countOut 92 = .ok (.goto (-86), 3) := dk_167 255 170 (dk_at dksX11_countOut_3 21 rfl rfl)
theorem dX11_countOut_95 : decode cX11_countOut 95 = .ok (.return_, 1) := dk_177 (dk_at dksX11_countOut_4 0 rfl rfl)
abbrev cX11_allIn : ByteArray := prog_17_method_149_code
def yX11_allIn : MethodName := ⟨RX11, "allIn", "()V"⟩
def dkwX11_allIn_1 : List UInt8 := [3, 167, 0, 4, 5, 79, 132, 1, 1, 167, 255, 225, 177]
abbrev dktX11_allIn_1 : List UInt8 := dkwX11_allIn_1 ++ []
def dkwX11_allIn_0 : List UInt8 := [3, 60, 27, 42, 180, 2, 243, 162, 0, 29, 42, 180, 3, 141, 27, 42, 180, 2, 252, 27, 51, 153, 0, 7]
abbrev dktX11_allIn_0 : List UInt8 := dkwX11_allIn_0 ++ dktX11_allIn_1
theorem dksX11_allIn_0 : cX11_allIn.data.toList.drop 0 = dktX11_allIn_0 := by decide +kernel
theorem dksX11_allIn_1 : cX11_allIn.data.toList.drop 24 = dktX11_allIn_1 := dk_seg dksX11_allIn_0 24 rfl rfl
theorem dX11_allIn_0 : decode cX11_allIn 0 = .ok (.iconst 0, 1) := dk_3 (dk_at dksX11_allIn_0 0 rfl rfl)
theorem dX11_allIn_1 : decode cX11_allIn 1 = .ok (.istore_n 1, 1) := dk_60 (dk_at dksX11_allIn_0 1 rfl rfl)
theorem dX11_allIn_2 : decode cX11_allIn 2 = .ok (.iload_n 1, 1) := dk_27 (dk_at dksX11_allIn_0 2 rfl rfl)
theorem dX11_allIn_3 : decode cX11_allIn 3 = .ok (.aload_n 0, 1) := dk_42 (dk_at dksX11_allIn_0 3 rfl rfl)
theorem dX11_allIn_4 : decode cX11_allIn 4 = .ok (.getfield 755, 3) := dk_180 2 243 (dk_at dksX11_allIn_0 4 rfl rfl)
theorem dX11_allIn_7 : decode cX11_allIn 7 = .ok (.if_icmp .ge 29, 3) := dk_162 0 29 (dk_at dksX11_allIn_0 7 rfl rfl)
theorem dX11_allIn_10 : decode cX11_allIn 10 = .ok (.aload_n 0, 1) := dk_42 (dk_at dksX11_allIn_0 10 rfl rfl)
theorem dX11_allIn_11 : decode cX11_allIn 11 = .ok (.getfield 909, 3) := dk_180 3 141 (dk_at dksX11_allIn_0 11 rfl rfl)
theorem dX11_allIn_14 : decode cX11_allIn 14 = .ok (.iload_n 1, 1) := dk_27 (dk_at dksX11_allIn_0 14 rfl rfl)
theorem dX11_allIn_15 : decode cX11_allIn 15 = .ok (.aload_n 0, 1) := dk_42 (dk_at dksX11_allIn_0 15 rfl rfl)
theorem dX11_allIn_16 : decode cX11_allIn 16 = .ok (.getfield 764, 3) := dk_180 2 252 (dk_at dksX11_allIn_0 16 rfl rfl)
theorem dX11_allIn_19 : decode cX11_allIn 19 = .ok (.iload_n 1, 1) := dk_27 (dk_at dksX11_allIn_0 19 rfl rfl)
theorem dX11_allIn_20 : decode cX11_allIn 20 = .ok (.baload, 1) := dk_51 (dk_at dksX11_allIn_0 20 rfl rfl)
theorem dX11_allIn_21 : decode cX11_allIn 21 = .ok (.ifCond .eq 7, 3) := dk_153 0 7 (dk_at dksX11_allIn_0 21 rfl rfl)
theorem dX11_allIn_24 : decode cX11_allIn 24 = .ok (.iconst 0, 1) := dk_3 (dk_at dksX11_allIn_1 0 rfl rfl)
theorem dX11_allIn_25 : decode cX11_allIn 25 = .ok (.goto 4, 3) := dk_167 0 4 (dk_at dksX11_allIn_1 1 rfl rfl)
theorem dX11_allIn_28 : decode cX11_allIn 28 = .ok (.iconst 2, 1) := dk_5 (dk_at dksX11_allIn_1 4 rfl rfl)
theorem dX11_allIn_29 : decode cX11_allIn 29 = .ok (.iastore, 1) := dk_79 (dk_at dksX11_allIn_1 5 rfl rfl)
theorem dX11_allIn_30 : decode cX11_allIn 30 = .ok (.iinc 1 1, 3) := dk_132 1 1 (dk_at dksX11_allIn_1 6 rfl rfl)
theorem dX11_allIn_33 : decode cX11_allIn 33 = .ok (.goto (-31), 3) := dk_167 255 225 (dk_at dksX11_allIn_1 9 rfl rfl)
theorem dX11_allIn_36 : decode cX11_allIn 36 = .ok (.return_, 1) := dk_177 (dk_at dksX11_allIn_1 12 rfl rfl)
abbrev cX11_firstIn : ByteArray := prog_17_method_155_code
def yX11_firstIn : MethodName := ⟨RX11, "firstIn", "(I)I"⟩
def dkwX11_firstIn_2 : List UInt8 := [167, 255, 212, 2, 172]
abbrev dktX11_firstIn_2 : List UInt8 := dkwX11_firstIn_2 ++ []
def dkwX11_firstIn_1 : List UInt8 := [28, 96, 46, 46, 154, 0, 15, 42, 180, 3, 24, 16, 9, 27, 104, 28, 96, 46, 172, 132, 2, 1]
abbrev dktX11_firstIn_1 : List UInt8 := dkwX11_firstIn_1 ++ dktX11_firstIn_2
def dkwX11_firstIn_0 : List UInt8 := [3, 61, 28, 42, 180, 3, 21, 27, 46, 162, 0, 40, 42, 180, 3, 141, 42, 180, 3, 24, 16, 9, 27, 104]
abbrev dktX11_firstIn_0 : List UInt8 := dkwX11_firstIn_0 ++ dktX11_firstIn_1
theorem dksX11_firstIn_0 : cX11_firstIn.data.toList.drop 0 = dktX11_firstIn_0 := by decide +kernel
theorem dksX11_firstIn_1 : cX11_firstIn.data.toList.drop 24 = dktX11_firstIn_1 := dk_seg dksX11_firstIn_0 24 rfl rfl
theorem dksX11_firstIn_2 : cX11_firstIn.data.toList.drop 46 = dktX11_firstIn_2 := dk_seg dksX11_firstIn_1 22 rfl rfl
theorem dX11_firstIn_0 : decode cX11_firstIn 0 = .ok (.iconst 0, 1) := dk_3 (dk_at dksX11_firstIn_0 0 rfl rfl)
theorem dX11_firstIn_1 : decode cX11_firstIn 1 = .ok (.istore_n 2, 1) := dk_61 (dk_at dksX11_firstIn_0 1 rfl rfl)
theorem dX11_firstIn_2 : decode cX11_firstIn 2 = .ok (.iload_n 2, 1) := dk_28 (dk_at dksX11_firstIn_0 2 rfl rfl)
theorem dX11_firstIn_3 : decode cX11_firstIn 3 = .ok (.aload_n 0, 1) := dk_42 (dk_at dksX11_firstIn_0 3 rfl rfl)
theorem dX11_firstIn_4 : decode cX11_firstIn 4 = .ok (.getfield 789, 3) := dk_180 3 21 (dk_at dksX11_firstIn_0 4 rfl rfl)
theorem dX11_firstIn_7 : decode cX11_firstIn 7 = .ok (.iload_n 1, 1) := dk_27 (dk_at dksX11_firstIn_0 7 rfl rfl)
theorem dX11_firstIn_8 : decode cX11_firstIn 8 = .ok (.iaload, 1) := dk_46 (dk_at dksX11_firstIn_0 8 rfl rfl)
theorem dX11_firstIn_9 : decode cX11_firstIn 9 = .ok (.if_icmp .ge 40, 3) := dk_162 0 40 (dk_at dksX11_firstIn_0 9 rfl rfl)
theorem dX11_firstIn_12 : decode cX11_firstIn 12 = .ok (.aload_n 0, 1) := dk_42 (dk_at dksX11_firstIn_0 12 rfl rfl)
theorem dX11_firstIn_13 : decode cX11_firstIn 13 = .ok (.getfield 909, 3) := dk_180 3 141 (dk_at dksX11_firstIn_0 13 rfl rfl)
theorem dX11_firstIn_16 : decode cX11_firstIn 16 = .ok (.aload_n 0, 1) := dk_42 (dk_at dksX11_firstIn_0 16 rfl rfl)
theorem dX11_firstIn_17 : decode cX11_firstIn 17 = .ok (.getfield 792, 3) := dk_180 3 24 (dk_at dksX11_firstIn_0 17 rfl rfl)
theorem dX11_firstIn_20 : decode cX11_firstIn 20 = .ok (.bipush 9, 2) := dk_16 9 (dk_at dksX11_firstIn_0 20 rfl rfl)
theorem dX11_firstIn_22 : decode cX11_firstIn 22 = .ok (.iload_n 1, 1) := dk_27 (dk_at dksX11_firstIn_0 22 rfl rfl)
theorem dX11_firstIn_23 : decode cX11_firstIn 23 = .ok (.imul, 1) := dk_104 (dk_at dksX11_firstIn_0 23 rfl rfl)
theorem dX11_firstIn_24 : decode cX11_firstIn 24 = .ok (.iload_n 2, 1) := dk_28 (dk_at dksX11_firstIn_1 0 rfl rfl)
theorem dX11_firstIn_25 : decode cX11_firstIn 25 = .ok (.iadd, 1) := dk_96 (dk_at dksX11_firstIn_1 1 rfl rfl)
theorem dX11_firstIn_26 : decode cX11_firstIn 26 = .ok (.iaload, 1) := dk_46 (dk_at dksX11_firstIn_1 2 rfl rfl)
theorem dX11_firstIn_27 : decode cX11_firstIn 27 = .ok (.iaload, 1) := dk_46 (dk_at dksX11_firstIn_1 3 rfl rfl)
theorem dX11_firstIn_28 : decode cX11_firstIn 28 = .ok (.ifCond .ne 15, 3) := dk_154 0 15 (dk_at dksX11_firstIn_1 4 rfl rfl)
theorem dX11_firstIn_31 : decode cX11_firstIn 31 = .ok (.aload_n 0, 1) := dk_42 (dk_at dksX11_firstIn_1 7 rfl rfl)
theorem dX11_firstIn_32 : decode cX11_firstIn 32 = .ok (.getfield 792, 3) := dk_180 3 24 (dk_at dksX11_firstIn_1 8 rfl rfl)
theorem dX11_firstIn_35 : decode cX11_firstIn 35 = .ok (.bipush 9, 2) := dk_16 9 (dk_at dksX11_firstIn_1 11 rfl rfl)
theorem dX11_firstIn_37 : decode cX11_firstIn 37 = .ok (.iload_n 1, 1) := dk_27 (dk_at dksX11_firstIn_1 13 rfl rfl)
theorem dX11_firstIn_38 : decode cX11_firstIn 38 = .ok (.imul, 1) := dk_104 (dk_at dksX11_firstIn_1 14 rfl rfl)
theorem dX11_firstIn_39 : decode cX11_firstIn 39 = .ok (.iload_n 2, 1) := dk_28 (dk_at dksX11_firstIn_1 15 rfl rfl)
theorem dX11_firstIn_40 : decode cX11_firstIn 40 = .ok (.iadd, 1) := dk_96 (dk_at dksX11_firstIn_1 16 rfl rfl)
theorem dX11_firstIn_41 : decode cX11_firstIn 41 = .ok (.iaload, 1) := dk_46 (dk_at dksX11_firstIn_1 17 rfl rfl)
theorem dX11_firstIn_42 : decode cX11_firstIn 42 = .ok (.ireturn, 1) := dk_172 (dk_at dksX11_firstIn_1 18 rfl rfl)
theorem dX11_firstIn_43 : decode cX11_firstIn 43 = .ok (.iinc 2 1, 3) := dk_132 2 1 (dk_at dksX11_firstIn_1 19 rfl rfl)
theorem dX11_firstIn_46 : decode cX11_firstIn 46 = .ok (.goto (-44), 3) := dk_167 255 212 (dk_at dksX11_firstIn_2 0 rfl rfl)
theorem dX11_firstIn_49 : decode cX11_firstIn 49 = .ok (.iconst (-1), 1) := dk_2 (dk_at dksX11_firstIn_2 3 rfl rfl)
theorem dX11_firstIn_50 : decode cX11_firstIn 50 = .ok (.ireturn, 1) := dk_172 (dk_at dksX11_firstIn_2 4 rfl rfl)
abbrev cX11_howManyIn : ByteArray := prog_17_method_150_code
def yX11_howManyIn : MethodName := ⟨RX11, "howManyIn", "()I"⟩
def dkwX11_howManyIn_1 : List UInt8 := [167, 0, 4, 3, 96, 60, 132, 2, 1, 167, 255, 228, 27, 172]
abbrev dktX11_howManyIn_1 : List UInt8 := dkwX11_howManyIn_1 ++ []
def dkwX11_howManyIn_0 : List UInt8 := [3, 60, 3, 61, 28, 42, 180, 2, 243, 162, 0, 26, 27, 42, 180, 3, 141, 28, 46, 154, 0, 7, 4]
abbrev dktX11_howManyIn_0 : List UInt8 := dkwX11_howManyIn_0 ++ dktX11_howManyIn_1
theorem dksX11_howManyIn_0 : cX11_howManyIn.data.toList.drop 0 = dktX11_howManyIn_0 := by decide +kernel
theorem dksX11_howManyIn_1 : cX11_howManyIn.data.toList.drop 23 = dktX11_howManyIn_1 := dk_seg dksX11_howManyIn_0 23 rfl rfl
theorem dX11_howManyIn_0 : decode cX11_howManyIn 0 = .ok (.iconst 0, 1) := dk_3 (dk_at dksX11_howManyIn_0 0 rfl rfl)
theorem dX11_howManyIn_1 : decode cX11_howManyIn 1 = .ok (.istore_n 1, 1) := dk_60 (dk_at dksX11_howManyIn_0 1 rfl rfl)
theorem dX11_howManyIn_2 : decode cX11_howManyIn 2 = .ok (.iconst 0, 1) := dk_3 (dk_at dksX11_howManyIn_0 2 rfl rfl)
theorem dX11_howManyIn_3 : decode cX11_howManyIn 3 = .ok (.istore_n 2, 1) := dk_61 (dk_at dksX11_howManyIn_0 3 rfl rfl)
theorem dX11_howManyIn_4 : decode cX11_howManyIn 4 = .ok (.iload_n 2, 1) := dk_28 (dk_at dksX11_howManyIn_0 4 rfl rfl)
theorem dX11_howManyIn_5 : decode cX11_howManyIn 5 = .ok (.aload_n 0, 1) := dk_42 (dk_at dksX11_howManyIn_0 5 rfl rfl)
theorem dX11_howManyIn_6 : decode cX11_howManyIn 6 = .ok (.getfield 755, 3) := dk_180 2 243 (dk_at dksX11_howManyIn_0 6 rfl rfl)
theorem dX11_howManyIn_9 : decode cX11_howManyIn 9 = .ok (.if_icmp .ge 26, 3) := dk_162 0 26 (dk_at dksX11_howManyIn_0 9 rfl rfl)
theorem dX11_howManyIn_12 : decode cX11_howManyIn 12 = .ok (.iload_n 1, 1) := dk_27 (dk_at dksX11_howManyIn_0 12 rfl rfl)
theorem dX11_howManyIn_13 : decode cX11_howManyIn 13 = .ok (.aload_n 0, 1) := dk_42 (dk_at dksX11_howManyIn_0 13 rfl rfl)
theorem dX11_howManyIn_14 : decode cX11_howManyIn 14 = .ok (.getfield 909, 3) := dk_180 3 141 (dk_at dksX11_howManyIn_0 14 rfl rfl)
theorem dX11_howManyIn_17 : decode cX11_howManyIn 17 = .ok (.iload_n 2, 1) := dk_28 (dk_at dksX11_howManyIn_0 17 rfl rfl)
theorem dX11_howManyIn_18 : decode cX11_howManyIn 18 = .ok (.iaload, 1) := dk_46 (dk_at dksX11_howManyIn_0 18 rfl rfl)
theorem dX11_howManyIn_19 : decode cX11_howManyIn 19 = .ok (.ifCond .ne 7, 3) := dk_154 0 7 (dk_at dksX11_howManyIn_0 19 rfl rfl)
theorem dX11_howManyIn_22 : decode cX11_howManyIn 22 = .ok (.iconst 1, 1) := dk_4 (dk_at dksX11_howManyIn_0 22 rfl rfl)
theorem dX11_howManyIn_23 : decode cX11_howManyIn 23 = .ok (.goto 4, 3) := dk_167 0 4 (dk_at dksX11_howManyIn_1 0 rfl rfl)
theorem dX11_howManyIn_26 : decode cX11_howManyIn 26 = .ok (.iconst 0, 1) := dk_3 (dk_at dksX11_howManyIn_1 3 rfl rfl)
theorem dX11_howManyIn_27 : decode cX11_howManyIn 27 = .ok (.iadd, 1) := dk_96 (dk_at dksX11_howManyIn_1 4 rfl rfl)
theorem dX11_howManyIn_28 : decode cX11_howManyIn 28 = .ok (.istore_n 1, 1) := dk_60 (dk_at dksX11_howManyIn_1 5 rfl rfl)
theorem dX11_howManyIn_29 : decode cX11_howManyIn 29 = .ok (.iinc 2 1, 3) := dk_132 2 1 (dk_at dksX11_howManyIn_1 6 rfl rfl)
theorem dX11_howManyIn_32 : decode cX11_howManyIn 32 = .ok (.goto (-28), 3) := dk_167 255 228 (dk_at dksX11_howManyIn_1 9 rfl rfl)
theorem dX11_howManyIn_35 : decode cX11_howManyIn 35 = .ok (.iload_n 1, 1) := dk_27 (dk_at dksX11_howManyIn_1 12 rfl rfl)
theorem dX11_howManyIn_36 : decode cX11_howManyIn 36 = .ok (.ireturn, 1) := dk_172 (dk_at dksX11_howManyIn_1 13 rfl rfl)
abbrev cX11_goesOut : ByteArray := prog_17_method_152_code
def yX11_goesOut : MethodName := ⟨RX11, "goesOut", "(Z)I"⟩
def dkwX11_goesOut_2 : List UInt8 := [180, 3, 141, 28, 5, 79, 42, 5, 28, 182, 3, 147, 28, 172]
abbrev dktX11_goesOut_2 : List UInt8 := dkwX11_goesOut_2 ++ []
def dkwX11_goesOut_1 : List UInt8 := [155, 0, 13, 42, 29, 28, 27, 182, 3, 144, 153, 0, 5, 29, 61, 132, 3, 1, 167, 255, 220, 42]
abbrev dktX11_goesOut_1 : List UInt8 := dkwX11_goesOut_1 ++ dktX11_goesOut_2
def dkwX11_goesOut_0 : List UInt8 := [2, 61, 3, 62, 29, 42, 180, 2, 243, 162, 0, 34, 42, 180, 3, 141, 29, 46, 154, 0, 19, 28]
abbrev dktX11_goesOut_0 : List UInt8 := dkwX11_goesOut_0 ++ dktX11_goesOut_1
theorem dksX11_goesOut_0 : cX11_goesOut.data.toList.drop 0 = dktX11_goesOut_0 := by decide +kernel
theorem dksX11_goesOut_1 : cX11_goesOut.data.toList.drop 22 = dktX11_goesOut_1 := dk_seg dksX11_goesOut_0 22 rfl rfl
theorem dksX11_goesOut_2 : cX11_goesOut.data.toList.drop 44 = dktX11_goesOut_2 := dk_seg dksX11_goesOut_1 22 rfl rfl
theorem dX11_goesOut_0 : decode cX11_goesOut 0 = .ok (.iconst (-1), 1) := dk_2 (dk_at dksX11_goesOut_0 0 rfl rfl)
theorem dX11_goesOut_1 : decode cX11_goesOut 1 = .ok (.istore_n 2, 1) := dk_61 (dk_at dksX11_goesOut_0 1 rfl rfl)
theorem dX11_goesOut_2 : decode cX11_goesOut 2 = .ok (.iconst 0, 1) := dk_3 (dk_at dksX11_goesOut_0 2 rfl rfl)
theorem dX11_goesOut_3 : decode cX11_goesOut 3 = .ok (.istore_n 3, 1) := dk_62 (dk_at dksX11_goesOut_0 3 rfl rfl)
theorem dX11_goesOut_4 : decode cX11_goesOut 4 = .ok (.iload_n 3, 1) := dk_29 (dk_at dksX11_goesOut_0 4 rfl rfl)
theorem dX11_goesOut_5 : decode cX11_goesOut 5 = .ok (.aload_n 0, 1) := dk_42 (dk_at dksX11_goesOut_0 5 rfl rfl)
theorem dX11_goesOut_6 : decode cX11_goesOut 6 = .ok (.getfield 755, 3) := dk_180 2 243 (dk_at dksX11_goesOut_0 6 rfl rfl)
theorem dX11_goesOut_9 : decode cX11_goesOut 9 = .ok (.if_icmp .ge 34, 3) := dk_162 0 34 (dk_at dksX11_goesOut_0 9 rfl rfl)
theorem dX11_goesOut_12 : decode cX11_goesOut 12 = .ok (.aload_n 0, 1) := dk_42 (dk_at dksX11_goesOut_0 12 rfl rfl)
theorem dX11_goesOut_13 : decode cX11_goesOut 13 = .ok (.getfield 909, 3) := dk_180 3 141 (dk_at dksX11_goesOut_0 13 rfl rfl)
theorem dX11_goesOut_16 : decode cX11_goesOut 16 = .ok (.iload_n 3, 1) := dk_29 (dk_at dksX11_goesOut_0 16 rfl rfl)
theorem dX11_goesOut_17 : decode cX11_goesOut 17 = .ok (.iaload, 1) := dk_46 (dk_at dksX11_goesOut_0 17 rfl rfl)
theorem dX11_goesOut_18 : decode cX11_goesOut 18 = .ok (.ifCond .ne 19, 3) := dk_154 0 19 (dk_at dksX11_goesOut_0 18 rfl rfl)
theorem dX11_goesOut_21 : decode cX11_goesOut 21 = .ok (.iload_n 2, 1) := dk_28 (dk_at dksX11_goesOut_0 21 rfl rfl)
theorem dX11_goesOut_22 : decode cX11_goesOut 22 = .ok (.ifCond .lt 13, 3) := dk_155 0 13 (dk_at dksX11_goesOut_1 0 rfl rfl)
theorem dX11_goesOut_25 : decode cX11_goesOut 25 = .ok (.aload_n 0, 1) := dk_42 (dk_at dksX11_goesOut_1 3 rfl rfl)
theorem dX11_goesOut_26 : decode cX11_goesOut 26 = .ok (.iload_n 3, 1) := dk_29 (dk_at dksX11_goesOut_1 4 rfl rfl)
theorem dX11_goesOut_27 : decode cX11_goesOut 27 = .ok (.iload_n 2, 1) := dk_28 (dk_at dksX11_goesOut_1 5 rfl rfl)
theorem dX11_goesOut_28 : decode cX11_goesOut 28 = .ok (.iload_n 1, 1) := dk_27 (dk_at dksX11_goesOut_1 6 rfl rfl)
theorem dX11_goesOut_29 : decode cX11_goesOut 29 = .ok (.invokevirtual 912, 3) := dk_182 3 144 (dk_at dksX11_goesOut_1 7 rfl rfl)
theorem dX11_goesOut_32 : decode cX11_goesOut 32 = .ok (.ifCond .eq 5, 3) := dk_153 0 5 (dk_at dksX11_goesOut_1 10 rfl rfl)
theorem dX11_goesOut_35 : decode cX11_goesOut 35 = .ok (.iload_n 3, 1) := dk_29 (dk_at dksX11_goesOut_1 13 rfl rfl)
theorem dX11_goesOut_36 : decode cX11_goesOut 36 = .ok (.istore_n 2, 1) := dk_61 (dk_at dksX11_goesOut_1 14 rfl rfl)
theorem dX11_goesOut_37 : decode cX11_goesOut 37 = .ok (.iinc 3 1, 3) := dk_132 3 1 (dk_at dksX11_goesOut_1 15 rfl rfl)
theorem dX11_goesOut_40 : decode cX11_goesOut 40 = .ok (.goto (-36), 3) := dk_167 255 220 (dk_at dksX11_goesOut_1 18 rfl rfl)
theorem dX11_goesOut_43 : decode cX11_goesOut 43 = .ok (.aload_n 0, 1) := dk_42 (dk_at dksX11_goesOut_1 21 rfl rfl)
theorem dX11_goesOut_44 : decode cX11_goesOut 44 = .ok (.getfield 909, 3) := dk_180 3 141 (dk_at dksX11_goesOut_2 0 rfl rfl)
theorem dX11_goesOut_47 : decode cX11_goesOut 47 = .ok (.iload_n 2, 1) := dk_28 (dk_at dksX11_goesOut_2 3 rfl rfl)
theorem dX11_goesOut_48 : decode cX11_goesOut 48 = .ok (.iconst 2, 1) := dk_5 (dk_at dksX11_goesOut_2 4 rfl rfl)
theorem dX11_goesOut_49 : decode cX11_goesOut 49 = .ok (.iastore, 1) := dk_79 (dk_at dksX11_goesOut_2 5 rfl rfl)
theorem dX11_goesOut_50 : decode cX11_goesOut 50 = .ok (.aload_n 0, 1) := dk_42 (dk_at dksX11_goesOut_2 6 rfl rfl)
theorem dX11_goesOut_51 : decode cX11_goesOut 51 = .ok (.iconst 2, 1) := dk_5 (dk_at dksX11_goesOut_2 7 rfl rfl)
theorem dX11_goesOut_52 : decode cX11_goesOut 52 = .ok (.iload_n 2, 1) := dk_28 (dk_at dksX11_goesOut_2 8 rfl rfl)
theorem dX11_goesOut_53 : decode cX11_goesOut 53 = .ok (.invokevirtual 915, 3) := dk_182 3 147 (dk_at dksX11_goesOut_2 9 rfl rfl)
theorem dX11_goesOut_56 : decode cX11_goesOut 56 = .ok (.iload_n 2, 1) := dk_28 (dk_at dksX11_goesOut_2 12 rfl rfl)
theorem dX11_goesOut_57 : decode cX11_goesOut 57 = .ok (.ireturn, 1) := dk_172 (dk_at dksX11_goesOut_2 13 rfl rfl)
abbrev cX11_isWorse : ByteArray := prog_17_method_151_code
def yX11_isWorse : MethodName := ⟨RX11, "isWorse", "(IIZ)Z"⟩
def dkwX11_isWorse_4 : List UInt8 := [164, 0, 7, 4, 167, 0, 4, 3, 172]
abbrev dktX11_isWorse_4 : List UInt8 := dkwX11_isWorse_4 ++ []
def dkwX11_isWorse_3 : List UInt8 := [4, 167, 0, 4, 3, 172, 132, 4, 255, 167, 255, 183, 42, 27, 182, 3, 40, 42, 28, 182, 3, 40]
abbrev dktX11_isWorse_3 : List UInt8 := dkwX11_isWorse_3 ++ dktX11_isWorse_4
def dkwX11_isWorse_2 : List UInt8 := [21, 4, 104, 28, 96, 47, 55, 7, 22, 5, 22, 7, 148, 153, 0, 17, 22, 5, 22, 7, 148, 156, 0, 7]
abbrev dktX11_isWorse_2 : List UInt8 := dkwX11_isWorse_2 ++ dktX11_isWorse_3
def dkwX11_isWorse_1 : List UInt8 := [100, 160, 0, 59, 42, 180, 3, 46, 16, 9, 21, 4, 104, 27, 96, 47, 55, 5, 42, 180, 3, 46, 16, 9]
abbrev dktX11_isWorse_1 : List UInt8 := dkwX11_isWorse_1 ++ dktX11_isWorse_2
def dkwX11_isWorse_0 : List UInt8 := [42, 180, 3, 49, 4, 100, 54, 4, 21, 4, 155, 0, 74, 29, 154, 0, 14, 21, 4, 42, 180, 3, 49, 4]
abbrev dktX11_isWorse_0 : List UInt8 := dkwX11_isWorse_0 ++ dktX11_isWorse_1
theorem dksX11_isWorse_0 : cX11_isWorse.data.toList.drop 0 = dktX11_isWorse_0 := by decide +kernel
theorem dksX11_isWorse_1 : cX11_isWorse.data.toList.drop 24 = dktX11_isWorse_1 := dk_seg dksX11_isWorse_0 24 rfl rfl
theorem dksX11_isWorse_2 : cX11_isWorse.data.toList.drop 48 = dktX11_isWorse_2 := dk_seg dksX11_isWorse_1 24 rfl rfl
theorem dksX11_isWorse_3 : cX11_isWorse.data.toList.drop 72 = dktX11_isWorse_3 := dk_seg dksX11_isWorse_2 24 rfl rfl
theorem dksX11_isWorse_4 : cX11_isWorse.data.toList.drop 94 = dktX11_isWorse_4 := dk_seg dksX11_isWorse_3 22 rfl rfl
theorem dX11_isWorse_0 : decode cX11_isWorse 0 = .ok (.aload_n 0, 1) := dk_42 (dk_at dksX11_isWorse_0 0 rfl rfl)
theorem dX11_isWorse_1 : decode cX11_isWorse 1 = .ok (.getfield 817, 3) := dk_180 3 49 (dk_at dksX11_isWorse_0 1 rfl rfl)
theorem dX11_isWorse_4 : decode cX11_isWorse 4 = .ok (.iconst 1, 1) := dk_4 (dk_at dksX11_isWorse_0 4 rfl rfl)
theorem dX11_isWorse_5 : decode cX11_isWorse 5 = .ok (.isub, 1) := dk_100 (dk_at dksX11_isWorse_0 5 rfl rfl)
theorem dX11_isWorse_6 : decode cX11_isWorse 6 = .ok (.istore 4, 2) := dk_54 4 (dk_at dksX11_isWorse_0 6 rfl rfl)
theorem dX11_isWorse_8 : decode cX11_isWorse 8 = .ok (.iload 4, 2) := dk_21 4 (dk_at dksX11_isWorse_0 8 rfl rfl)
theorem dX11_isWorse_10 : decode cX11_isWorse 10 = .ok (.ifCond .lt 74, 3) := dk_155 0 74 (dk_at dksX11_isWorse_0 10 rfl rfl)
theorem dX11_isWorse_13 : decode cX11_isWorse 13 = .ok (.iload_n 3, 1) := dk_29 (dk_at dksX11_isWorse_0 13 rfl rfl)
theorem dX11_isWorse_14 : decode cX11_isWorse 14 = .ok (.ifCond .ne 14, 3) := dk_154 0 14 (dk_at dksX11_isWorse_0 14 rfl rfl)
theorem dX11_isWorse_17 : decode cX11_isWorse 17 = .ok (.iload 4, 2) := dk_21 4 (dk_at dksX11_isWorse_0 17 rfl rfl)
theorem dX11_isWorse_19 : decode cX11_isWorse 19 = .ok (.aload_n 0, 1) := dk_42 (dk_at dksX11_isWorse_0 19 rfl rfl)
theorem dX11_isWorse_20 : decode cX11_isWorse 20 = .ok (.getfield 817, 3) := dk_180 3 49 (dk_at dksX11_isWorse_0 20 rfl rfl)
theorem dX11_isWorse_23 : decode cX11_isWorse 23 = .ok (.iconst 1, 1) := dk_4 (dk_at dksX11_isWorse_0 23 rfl rfl)
theorem dX11_isWorse_24 : decode cX11_isWorse 24 = .ok (.isub, 1) := dk_100 (dk_at dksX11_isWorse_1 0 rfl rfl)
theorem dX11_isWorse_25 : decode cX11_isWorse 25 = .ok (.if_icmp .ne 59, 3) := dk_160 0 59 (dk_at dksX11_isWorse_1 1 rfl rfl)
theorem dX11_isWorse_28 : decode cX11_isWorse 28 = .ok (.aload_n 0, 1) := dk_42 (dk_at dksX11_isWorse_1 4 rfl rfl)
theorem dX11_isWorse_29 : decode cX11_isWorse 29 = .ok (.getfield 814, 3) := dk_180 3 46 (dk_at dksX11_isWorse_1 5 rfl rfl)
theorem dX11_isWorse_32 : decode cX11_isWorse 32 = .ok (.bipush 9, 2) := dk_16 9 (dk_at dksX11_isWorse_1 8 rfl rfl)
theorem dX11_isWorse_34 : decode cX11_isWorse 34 = .ok (.iload 4, 2) := dk_21 4 (dk_at dksX11_isWorse_1 10 rfl rfl)
theorem dX11_isWorse_36 : decode cX11_isWorse 36 = .ok (.imul, 1) := dk_104 (dk_at dksX11_isWorse_1 12 rfl rfl)
theorem dX11_isWorse_37 : decode cX11_isWorse 37 = .ok (.iload_n 1, 1) := dk_27 (dk_at dksX11_isWorse_1 13 rfl rfl)
theorem dX11_isWorse_38 : decode cX11_isWorse 38 = .ok (.iadd, 1) := dk_96 (dk_at dksX11_isWorse_1 14 rfl rfl)
theorem dX11_isWorse_39 : decode cX11_isWorse 39 = .ok (.laload, 1) := dk_47 (dk_at dksX11_isWorse_1 15 rfl rfl)
theorem dX11_isWorse_40 : decode cX11_isWorse 40 = .ok (.lstore 5, 2) := dk_55 5 (dk_at dksX11_isWorse_1 16 rfl rfl)
theorem dX11_isWorse_42 : decode cX11_isWorse 42 = .ok (.aload_n 0, 1) := dk_42 (dk_at dksX11_isWorse_1 18 rfl rfl)
theorem dX11_isWorse_43 : decode cX11_isWorse 43 = .ok (.getfield 814, 3) := dk_180 3 46 (dk_at dksX11_isWorse_1 19 rfl rfl)
theorem dX11_isWorse_46 : decode cX11_isWorse 46 = .ok (.bipush 9, 2) := dk_16 9 (dk_at dksX11_isWorse_1 22 rfl rfl)
theorem dX11_isWorse_48 : decode cX11_isWorse 48 = .ok (.iload 4, 2) := dk_21 4 (dk_at dksX11_isWorse_2 0 rfl rfl)
theorem dX11_isWorse_50 : decode cX11_isWorse 50 = .ok (.imul, 1) := dk_104 (dk_at dksX11_isWorse_2 2 rfl rfl)
theorem dX11_isWorse_51 : decode cX11_isWorse 51 = .ok (.iload_n 2, 1) := dk_28 (dk_at dksX11_isWorse_2 3 rfl rfl)
theorem dX11_isWorse_52 : decode cX11_isWorse 52 = .ok (.iadd, 1) := dk_96 (dk_at dksX11_isWorse_2 4 rfl rfl)
theorem dX11_isWorse_53 : decode cX11_isWorse 53 = .ok (.laload, 1) := dk_47 (dk_at dksX11_isWorse_2 5 rfl rfl)
theorem dX11_isWorse_54 : decode cX11_isWorse 54 = .ok (.lstore 7, 2) := dk_55 7 (dk_at dksX11_isWorse_2 6 rfl rfl)
theorem dX11_isWorse_56 : decode cX11_isWorse 56 = .ok (.lload 5, 2) := dk_22 5 (dk_at dksX11_isWorse_2 8 rfl rfl)
theorem dX11_isWorse_58 : decode cX11_isWorse 58 = .ok (.lload 7, 2) := dk_22 7 (dk_at dksX11_isWorse_2 10 rfl rfl)
theorem dX11_isWorse_60 : decode cX11_isWorse 60 = .ok (.lcmp, 1) := dk_148 (dk_at dksX11_isWorse_2 12 rfl rfl)
theorem dX11_isWorse_61 : decode cX11_isWorse 61 = .ok (.ifCond .eq 17, 3) := dk_153 0 17 (dk_at dksX11_isWorse_2 13 rfl rfl)
theorem dX11_isWorse_64 : decode cX11_isWorse 64 = .ok (.lload 5, 2) := dk_22 5 (dk_at dksX11_isWorse_2 16 rfl rfl)
theorem dX11_isWorse_66 : decode cX11_isWorse 66 = .ok (.lload 7, 2) := dk_22 7 (dk_at dksX11_isWorse_2 18 rfl rfl)
theorem dX11_isWorse_68 : decode cX11_isWorse 68 = .ok (.lcmp, 1) := dk_148 (dk_at dksX11_isWorse_2 20 rfl rfl)
theorem dX11_isWorse_69 : decode cX11_isWorse 69 = .ok (.ifCond .ge 7, 3) := dk_156 0 7 (dk_at dksX11_isWorse_2 21 rfl rfl)
theorem dX11_isWorse_72 : decode cX11_isWorse 72 = .ok (.iconst 1, 1) := dk_4 (dk_at dksX11_isWorse_3 0 rfl rfl)
theorem dX11_isWorse_73 : decode cX11_isWorse 73 = .ok (.goto 4, 3) := dk_167 0 4 (dk_at dksX11_isWorse_3 1 rfl rfl)
theorem dX11_isWorse_76 : decode cX11_isWorse 76 = .ok (.iconst 0, 1) := dk_3 (dk_at dksX11_isWorse_3 4 rfl rfl)
theorem dX11_isWorse_77 : decode cX11_isWorse 77 = .ok (.ireturn, 1) := dk_172 (dk_at dksX11_isWorse_3 5 rfl rfl)
theorem dX11_isWorse_78 : decode cX11_isWorse 78 = .ok (.iinc 4 (-1), 3) := dk_132 4 255 (dk_at dksX11_isWorse_3 6 rfl rfl)
theorem dX11_isWorse_81 : decode cX11_isWorse 81 = .ok (.goto (-73), 3) := dk_167 255 183 (dk_at dksX11_isWorse_3 9 rfl rfl)
theorem dX11_isWorse_84 : decode cX11_isWorse 84 = .ok (.aload_n 0, 1) := dk_42 (dk_at dksX11_isWorse_3 12 rfl rfl)
theorem dX11_isWorse_85 : decode cX11_isWorse 85 = .ok (.iload_n 1, 1) := dk_27 (dk_at dksX11_isWorse_3 13 rfl rfl)
theorem dX11_isWorse_86 : decode cX11_isWorse 86 = .ok (.invokevirtual 808, 3) := dk_182 3 40 (dk_at dksX11_isWorse_3 14 rfl rfl)
theorem dX11_isWorse_89 : decode cX11_isWorse 89 = .ok (.aload_n 0, 1) := dk_42 (dk_at dksX11_isWorse_3 17 rfl rfl)
theorem dX11_isWorse_90 : decode cX11_isWorse 90 = .ok (.iload_n 2, 1) := dk_28 (dk_at dksX11_isWorse_3 18 rfl rfl)
theorem dX11_isWorse_91 : decode cX11_isWorse 91 = .ok (.invokevirtual 808, 3) := dk_182 3 40 (dk_at dksX11_isWorse_3 19 rfl rfl)
theorem dX11_isWorse_94 : decode cX11_isWorse 94 = .ok (.if_icmp .le 7, 3) := dk_164 0 7 (dk_at dksX11_isWorse_4 0 rfl rfl)
theorem dX11_isWorse_97 : decode cX11_isWorse 97 = .ok (.iconst 1, 1) := dk_4 (dk_at dksX11_isWorse_4 3 rfl rfl)
theorem dX11_isWorse_98 : decode cX11_isWorse 98 = .ok (.goto 4, 3) := dk_167 0 4 (dk_at dksX11_isWorse_4 4 rfl rfl)
theorem dX11_isWorse_101 : decode cX11_isWorse 101 = .ok (.iconst 0, 1) := dk_3 (dk_at dksX11_isWorse_4 7 rfl rfl)
theorem dX11_isWorse_102 : decode cX11_isWorse 102 = .ok (.ireturn, 1) := dk_172 (dk_at dksX11_isWorse_4 8 rfl rfl)
abbrev cX11_acted : ByteArray := prog_17_method_140_code
def yX11_acted : MethodName := ⟨RX11, "acted", "(II)V"⟩
def dkwX11_acted_1 : List UInt8 := [177]
abbrev dktX11_acted_1 : List UInt8 := dkwX11_acted_1 ++ []
def dkwX11_acted_0 : List UInt8 := [42, 180, 3, 52, 42, 180, 3, 49, 4, 100, 27, 79, 42, 180, 3, 55, 42, 180, 3, 49, 4, 100, 28, 79]
abbrev dktX11_acted_0 : List UInt8 := dkwX11_acted_0 ++ dktX11_acted_1
theorem dksX11_acted_0 : cX11_acted.data.toList.drop 0 = dktX11_acted_0 := by decide +kernel
theorem dksX11_acted_1 : cX11_acted.data.toList.drop 24 = dktX11_acted_1 := dk_seg dksX11_acted_0 24 rfl rfl
theorem dX11_acted_0 : decode cX11_acted 0 = .ok (.aload_n 0, 1) := dk_42 (dk_at dksX11_acted_0 0 rfl rfl)
theorem dX11_acted_1 : decode cX11_acted 1 = .ok (.getfield 820, 3) := dk_180 3 52 (dk_at dksX11_acted_0 1 rfl rfl)
theorem dX11_acted_4 : decode cX11_acted 4 = .ok (.aload_n 0, 1) := dk_42 (dk_at dksX11_acted_0 4 rfl rfl)
theorem dX11_acted_5 : decode cX11_acted 5 = .ok (.getfield 817, 3) := dk_180 3 49 (dk_at dksX11_acted_0 5 rfl rfl)
theorem dX11_acted_8 : decode cX11_acted 8 = .ok (.iconst 1, 1) := dk_4 (dk_at dksX11_acted_0 8 rfl rfl)
theorem dX11_acted_9 : decode cX11_acted 9 = .ok (.isub, 1) := dk_100 (dk_at dksX11_acted_0 9 rfl rfl)
theorem dX11_acted_10 : decode cX11_acted 10 = .ok (.iload_n 1, 1) := dk_27 (dk_at dksX11_acted_0 10 rfl rfl)
theorem dX11_acted_11 : decode cX11_acted 11 = .ok (.iastore, 1) := dk_79 (dk_at dksX11_acted_0 11 rfl rfl)
theorem dX11_acted_12 : decode cX11_acted 12 = .ok (.aload_n 0, 1) := dk_42 (dk_at dksX11_acted_0 12 rfl rfl)
theorem dX11_acted_13 : decode cX11_acted 13 = .ok (.getfield 823, 3) := dk_180 3 55 (dk_at dksX11_acted_0 13 rfl rfl)
theorem dX11_acted_16 : decode cX11_acted 16 = .ok (.aload_n 0, 1) := dk_42 (dk_at dksX11_acted_0 16 rfl rfl)
theorem dX11_acted_17 : decode cX11_acted 17 = .ok (.getfield 817, 3) := dk_180 3 49 (dk_at dksX11_acted_0 17 rfl rfl)
theorem dX11_acted_20 : decode cX11_acted 20 = .ok (.iconst 1, 1) := dk_4 (dk_at dksX11_acted_0 20 rfl rfl)
theorem dX11_acted_21 : decode cX11_acted 21 = .ok (.isub, 1) := dk_100 (dk_at dksX11_acted_0 21 rfl rfl)
theorem dX11_acted_22 : decode cX11_acted 22 = .ok (.iload_n 2, 1) := dk_28 (dk_at dksX11_acted_0 22 rfl rfl)
theorem dX11_acted_23 : decode cX11_acted 23 = .ok (.iastore, 1) := dk_79 (dk_at dksX11_acted_0 23 rfl rfl)
theorem dX11_acted_24 : decode cX11_acted 24 = .ok (.return_, 1) := dk_177 (dk_at dksX11_acted_1 0 rfl rfl)
abbrev cX11_electFrom : ByteArray := prog_17_method_153_code
def yX11_electFrom : MethodName := ⟨RX11, "electFrom", "(J)I"⟩
def dkwX11_electFrom_6 : List UInt8 := [182, 3, 64, 132, 3, 1, 167, 255, 115, 29, 172]
abbrev dktX11_electFrom_6 : List UInt8 := dkwX11_electFrom_6 ++ []
def dkwX11_electFrom_5 : List UInt8 := [132, 5, 1, 167, 255, 159, 21, 4, 156, 0, 5, 29, 172, 42, 180, 3, 141, 21, 4, 4, 79, 42, 21, 4]
abbrev dktX11_electFrom_5 : List UInt8 := dkwX11_electFrom_5 ++ dktX11_electFrom_6
def dkwX11_electFrom_4 : List UInt8 := [154, 0, 22, 42, 21, 5, 182, 3, 40, 42, 21, 4, 182, 3, 40, 162, 0, 7, 21, 5, 54, 4]
abbrev dktX11_electFrom_4 : List UInt8 := dkwX11_electFrom_4 ++ dktX11_electFrom_5
def dkwX11_electFrom_3 : List UInt8 := [21, 4, 47, 148, 157, 0, 36, 42, 180, 3, 33, 21, 5, 47, 42, 180, 3, 33, 21, 4, 47, 148]
abbrev dktX11_electFrom_3 : List UInt8 := dkwX11_electFrom_3 ++ dktX11_electFrom_4
def dkwX11_electFrom_2 : List UInt8 := [148, 156, 0, 6, 167, 0, 63, 21, 4, 155, 0, 54, 42, 180, 3, 33, 21, 5, 47, 42, 180, 3, 33]
abbrev dktX11_electFrom_2 : List UInt8 := dkwX11_electFrom_2 ++ dktX11_electFrom_3
def dkwX11_electFrom_1 : List UInt8 := [180, 2, 243, 162, 0, 94, 42, 180, 3, 141, 21, 5, 46, 154, 0, 78, 42, 180, 3, 33, 21, 5, 47, 31]
abbrev dktX11_electFrom_1 : List UInt8 := dkwX11_electFrom_1 ++ dktX11_electFrom_2
def dkwX11_electFrom_0 : List UInt8 := [3, 62, 42, 180, 3, 61, 42, 180, 2, 246, 162, 0, 136, 2, 54, 4, 3, 54, 5, 21, 5, 42]
abbrev dktX11_electFrom_0 : List UInt8 := dkwX11_electFrom_0 ++ dktX11_electFrom_1
theorem dksX11_electFrom_0 : cX11_electFrom.data.toList.drop 0 = dktX11_electFrom_0 := by decide +kernel
theorem dksX11_electFrom_1 : cX11_electFrom.data.toList.drop 22 = dktX11_electFrom_1 := dk_seg dksX11_electFrom_0 22 rfl rfl
theorem dksX11_electFrom_2 : cX11_electFrom.data.toList.drop 46 = dktX11_electFrom_2 := dk_seg dksX11_electFrom_1 24 rfl rfl
theorem dksX11_electFrom_3 : cX11_electFrom.data.toList.drop 69 = dktX11_electFrom_3 := dk_seg dksX11_electFrom_2 23 rfl rfl
theorem dksX11_electFrom_4 : cX11_electFrom.data.toList.drop 91 = dktX11_electFrom_4 := dk_seg dksX11_electFrom_3 22 rfl rfl
theorem dksX11_electFrom_5 : cX11_electFrom.data.toList.drop 113 = dktX11_electFrom_5 := dk_seg dksX11_electFrom_4 22 rfl rfl
theorem dksX11_electFrom_6 : cX11_electFrom.data.toList.drop 137 = dktX11_electFrom_6 := dk_seg dksX11_electFrom_5 24 rfl rfl
theorem dX11_electFrom_0 : decode cX11_electFrom 0 = .ok (.iconst 0, 1) := dk_3 (dk_at dksX11_electFrom_0 0 rfl rfl)
theorem dX11_electFrom_1 : decode cX11_electFrom 1 = .ok (.istore_n 3, 1) := dk_62 (dk_at dksX11_electFrom_0 1 rfl rfl)
theorem dX11_electFrom_2 : decode cX11_electFrom 2 = .ok (.aload_n 0, 1) := dk_42 (dk_at dksX11_electFrom_0 2 rfl rfl)
theorem dX11_electFrom_3 : decode cX11_electFrom 3 = .ok (.getfield 829, 3) := dk_180 3 61 (dk_at dksX11_electFrom_0 3 rfl rfl)
theorem dX11_electFrom_6 : decode cX11_electFrom 6 = .ok (.aload_n 0, 1) := dk_42 (dk_at dksX11_electFrom_0 6 rfl rfl)
theorem dX11_electFrom_7 : decode cX11_electFrom 7 = .ok (.getfield 758, 3) := dk_180 2 246 (dk_at dksX11_electFrom_0 7 rfl rfl)
theorem dX11_electFrom_10 : decode cX11_electFrom 10 = .ok (.if_icmp .ge 136, 3) := dk_162 0 136 (dk_at dksX11_electFrom_0 10 rfl rfl)
theorem dX11_electFrom_13 : decode cX11_electFrom 13 = .ok (.iconst (-1), 1) := dk_2 (dk_at dksX11_electFrom_0 13 rfl rfl)
theorem dX11_electFrom_14 : decode cX11_electFrom 14 = .ok (.istore 4, 2) := dk_54 4 (dk_at dksX11_electFrom_0 14 rfl rfl)
theorem dX11_electFrom_16 : decode cX11_electFrom 16 = .ok (.iconst 0, 1) := dk_3 (dk_at dksX11_electFrom_0 16 rfl rfl)
theorem dX11_electFrom_17 : decode cX11_electFrom 17 = .ok (.istore 5, 2) := dk_54 5 (dk_at dksX11_electFrom_0 17 rfl rfl)
theorem dX11_electFrom_19 : decode cX11_electFrom 19 = .ok (.iload 5, 2) := dk_21 5 (dk_at dksX11_electFrom_0 19 rfl rfl)
theorem dX11_electFrom_21 : decode cX11_electFrom 21 = .ok (.aload_n 0, 1) := dk_42 (dk_at dksX11_electFrom_0 21 rfl rfl)
theorem dX11_electFrom_22 : decode cX11_electFrom 22 = .ok (.getfield 755, 3) := dk_180 2 243 (dk_at dksX11_electFrom_1 0 rfl rfl)
theorem dX11_electFrom_25 : decode cX11_electFrom 25 = .ok (.if_icmp .ge 94, 3) := dk_162 0 94 (dk_at dksX11_electFrom_1 3 rfl rfl)
theorem dX11_electFrom_28 : decode cX11_electFrom 28 = .ok (.aload_n 0, 1) := dk_42 (dk_at dksX11_electFrom_1 6 rfl rfl)
theorem dX11_electFrom_29 : decode cX11_electFrom 29 = .ok (.getfield 909, 3) := dk_180 3 141 (dk_at dksX11_electFrom_1 7 rfl rfl)
theorem dX11_electFrom_32 : decode cX11_electFrom 32 = .ok (.iload 5, 2) := dk_21 5 (dk_at dksX11_electFrom_1 10 rfl rfl)
theorem dX11_electFrom_34 : decode cX11_electFrom 34 = .ok (.iaload, 1) := dk_46 (dk_at dksX11_electFrom_1 12 rfl rfl)
theorem dX11_electFrom_35 : decode cX11_electFrom 35 = .ok (.ifCond .ne 78, 3) := dk_154 0 78 (dk_at dksX11_electFrom_1 13 rfl rfl)
theorem dX11_electFrom_38 : decode cX11_electFrom 38 = .ok (.aload_n 0, 1) := dk_42 (dk_at dksX11_electFrom_1 16 rfl rfl)
theorem dX11_electFrom_39 : decode cX11_electFrom 39 = .ok (.getfield 801, 3) := dk_180 3 33 (dk_at dksX11_electFrom_1 17 rfl rfl)
theorem dX11_electFrom_42 : decode cX11_electFrom 42 = .ok (.iload 5, 2) := dk_21 5 (dk_at dksX11_electFrom_1 20 rfl rfl)
theorem dX11_electFrom_44 : decode cX11_electFrom 44 = .ok (.laload, 1) := dk_47 (dk_at dksX11_electFrom_1 22 rfl rfl)
theorem dX11_electFrom_45 : decode cX11_electFrom 45 = .ok (.lload_n 1, 1) := dk_31 (dk_at dksX11_electFrom_1 23 rfl rfl)
theorem dX11_electFrom_46 : decode cX11_electFrom 46 = .ok (.lcmp, 1) := dk_148 (dk_at dksX11_electFrom_2 0 rfl rfl)
theorem dX11_electFrom_47 : decode cX11_electFrom 47 = .ok (.ifCond .ge 6, 3) := dk_156 0 6 (dk_at dksX11_electFrom_2 1 rfl rfl)
theorem dX11_electFrom_50 : decode cX11_electFrom 50 = .ok (.goto 63, 3) := dk_167 0 63 (dk_at dksX11_electFrom_2 4 rfl rfl)
theorem dX11_electFrom_53 : decode cX11_electFrom 53 = .ok (.iload 4, 2) := dk_21 4 (dk_at dksX11_electFrom_2 7 rfl rfl)
theorem dX11_electFrom_55 : decode cX11_electFrom 55 = .ok (.ifCond .lt 54, 3) := dk_155 0 54 (dk_at dksX11_electFrom_2 9 rfl rfl)
theorem dX11_electFrom_58 : decode cX11_electFrom 58 = .ok (.aload_n 0, 1) := dk_42 (dk_at dksX11_electFrom_2 12 rfl rfl)
theorem dX11_electFrom_59 : decode cX11_electFrom 59 = .ok (.getfield 801, 3) := dk_180 3 33 (dk_at dksX11_electFrom_2 13 rfl rfl)
theorem dX11_electFrom_62 : decode cX11_electFrom 62 = .ok (.iload 5, 2) := dk_21 5 (dk_at dksX11_electFrom_2 16 rfl rfl)
theorem dX11_electFrom_64 : decode cX11_electFrom 64 = .ok (.laload, 1) := dk_47 (dk_at dksX11_electFrom_2 18 rfl rfl)
theorem dX11_electFrom_65 : decode cX11_electFrom 65 = .ok (.aload_n 0, 1) := dk_42 (dk_at dksX11_electFrom_2 19 rfl rfl)
theorem dX11_electFrom_66 : decode cX11_electFrom 66 = .ok (.getfield 801, 3) := dk_180 3 33 (dk_at dksX11_electFrom_2 20 rfl rfl)
theorem dX11_electFrom_69 : decode cX11_electFrom 69 = .ok (.iload 4, 2) := dk_21 4 (dk_at dksX11_electFrom_3 0 rfl rfl)
theorem dX11_electFrom_71 : decode cX11_electFrom 71 = .ok (.laload, 1) := dk_47 (dk_at dksX11_electFrom_3 2 rfl rfl)
theorem dX11_electFrom_72 : decode cX11_electFrom 72 = .ok (.lcmp, 1) := dk_148 (dk_at dksX11_electFrom_3 3 rfl rfl)
theorem dX11_electFrom_73 : decode cX11_electFrom 73 = .ok (.ifCond .gt 36, 3) := dk_157 0 36 (dk_at dksX11_electFrom_3 4 rfl rfl)
theorem dX11_electFrom_76 : decode cX11_electFrom 76 = .ok (.aload_n 0, 1) := dk_42 (dk_at dksX11_electFrom_3 7 rfl rfl)
theorem dX11_electFrom_77 : decode cX11_electFrom 77 = .ok (.getfield 801, 3) := dk_180 3 33 (dk_at dksX11_electFrom_3 8 rfl rfl)
theorem dX11_electFrom_80 : decode cX11_electFrom 80 = .ok (.iload 5, 2) := dk_21 5 (dk_at dksX11_electFrom_3 11 rfl rfl)
theorem dX11_electFrom_82 : decode cX11_electFrom 82 = .ok (.laload, 1) := dk_47 (dk_at dksX11_electFrom_3 13 rfl rfl)
theorem dX11_electFrom_83 : decode cX11_electFrom 83 = .ok (.aload_n 0, 1) := dk_42 (dk_at dksX11_electFrom_3 14 rfl rfl)
theorem dX11_electFrom_84 : decode cX11_electFrom 84 = .ok (.getfield 801, 3) := dk_180 3 33 (dk_at dksX11_electFrom_3 15 rfl rfl)
theorem dX11_electFrom_87 : decode cX11_electFrom 87 = .ok (.iload 4, 2) := dk_21 4 (dk_at dksX11_electFrom_3 18 rfl rfl)
theorem dX11_electFrom_89 : decode cX11_electFrom 89 = .ok (.laload, 1) := dk_47 (dk_at dksX11_electFrom_3 20 rfl rfl)
theorem dX11_electFrom_90 : decode cX11_electFrom 90 = .ok (.lcmp, 1) := dk_148 (dk_at dksX11_electFrom_3 21 rfl rfl)
theorem dX11_electFrom_91 : decode cX11_electFrom 91 = .ok (.ifCond .ne 22, 3) := dk_154 0 22 (dk_at dksX11_electFrom_4 0 rfl rfl)
theorem dX11_electFrom_94 : decode cX11_electFrom 94 = .ok (.aload_n 0, 1) := dk_42 (dk_at dksX11_electFrom_4 3 rfl rfl)
theorem dX11_electFrom_95 : decode cX11_electFrom 95 = .ok (.iload 5, 2) := dk_21 5 (dk_at dksX11_electFrom_4 4 rfl rfl)
theorem dX11_electFrom_97 : decode cX11_electFrom 97 = .ok (.invokevirtual 808, 3) := dk_182 3 40 (dk_at dksX11_electFrom_4 6 rfl rfl)
theorem dX11_electFrom_100 : decode cX11_electFrom 100 = .ok (.aload_n 0, 1) := dk_42 (dk_at dksX11_electFrom_4 9 rfl rfl)
theorem dX11_electFrom_101 : decode cX11_electFrom 101 = .ok (.iload 4, 2) := dk_21 4 (dk_at dksX11_electFrom_4 10 rfl rfl)
theorem dX11_electFrom_103 : decode cX11_electFrom 103 = .ok (.invokevirtual 808, 3) := dk_182 3 40 (dk_at dksX11_electFrom_4 12 rfl rfl)
theorem dX11_electFrom_106 : decode cX11_electFrom 106 = .ok (.if_icmp .ge 7, 3) := dk_162 0 7 (dk_at dksX11_electFrom_4 15 rfl rfl)
theorem dX11_electFrom_109 : decode cX11_electFrom 109 = .ok (.iload 5, 2) := dk_21 5 (dk_at dksX11_electFrom_4 18 rfl rfl)
theorem dX11_electFrom_111 : decode cX11_electFrom 111 = .ok (.istore 4, 2) := dk_54 4 (dk_at dksX11_electFrom_4 20 rfl rfl)
theorem dX11_electFrom_113 : decode cX11_electFrom 113 = .ok (.iinc 5 1, 3) := dk_132 5 1 (dk_at dksX11_electFrom_5 0 rfl rfl)
theorem dX11_electFrom_116 : decode cX11_electFrom 116 = .ok (.goto (-97), 3) := dk_167 255 159 (dk_at dksX11_electFrom_5 3 rfl rfl)
theorem dX11_electFrom_119 : decode cX11_electFrom 119 = .ok (.iload 4, 2) := dk_21 4 (dk_at dksX11_electFrom_5 6 rfl rfl)
theorem dX11_electFrom_121 : decode cX11_electFrom 121 = .ok (.ifCond .ge 5, 3) := dk_156 0 5 (dk_at dksX11_electFrom_5 8 rfl rfl)
theorem dX11_electFrom_124 : decode cX11_electFrom 124 = .ok (.iload_n 3, 1) := dk_29 (dk_at dksX11_electFrom_5 11 rfl rfl)
theorem dX11_electFrom_125 : decode cX11_electFrom 125 = .ok (.ireturn, 1) := dk_172 (dk_at dksX11_electFrom_5 12 rfl rfl)
theorem dX11_electFrom_126 : decode cX11_electFrom 126 = .ok (.aload_n 0, 1) := dk_42 (dk_at dksX11_electFrom_5 13 rfl rfl)
theorem dX11_electFrom_127 : decode cX11_electFrom 127 = .ok (.getfield 909, 3) := dk_180 3 141 (dk_at dksX11_electFrom_5 14 rfl rfl)
theorem dX11_electFrom_130 : decode cX11_electFrom 130 = .ok (.iload 4, 2) := dk_21 4 (dk_at dksX11_electFrom_5 17 rfl rfl)
theorem dX11_electFrom_132 : decode cX11_electFrom 132 = .ok (.iconst 1, 1) := dk_4 (dk_at dksX11_electFrom_5 19 rfl rfl)
theorem dX11_electFrom_133 : decode cX11_electFrom 133 = .ok (.iastore, 1) := dk_79 (dk_at dksX11_electFrom_5 20 rfl rfl)
theorem dX11_electFrom_134 : decode cX11_electFrom 134 = .ok (.aload_n 0, 1) := dk_42 (dk_at dksX11_electFrom_5 21 rfl rfl)
theorem dX11_electFrom_135 : decode cX11_electFrom 135 = .ok (.iload 4, 2) := dk_21 4 (dk_at dksX11_electFrom_5 22 rfl rfl)
theorem dX11_electFrom_137 : decode cX11_electFrom 137 = .ok (.invokevirtual 832, 3) := dk_182 3 64 (dk_at dksX11_electFrom_6 0 rfl rfl)
theorem dX11_electFrom_140 : decode cX11_electFrom 140 = .ok (.iinc 3 1, 3) := dk_132 3 1 (dk_at dksX11_electFrom_6 3 rfl rfl)
theorem dX11_electFrom_143 : decode cX11_electFrom 143 = .ok (.goto (-141), 3) := dk_167 255 115 (dk_at dksX11_electFrom_6 6 rfl rfl)
theorem dX11_electFrom_146 : decode cX11_electFrom 146 = .ok (.iload_n 3, 1) := dk_29 (dk_at dksX11_electFrom_6 9 rfl rfl)
theorem dX11_electFrom_147 : decode cX11_electFrom 147 = .ok (.ireturn, 1) := dk_172 (dk_at dksX11_electFrom_6 10 rfl rfl)
abbrev cX11_countMeek : ByteArray := prog_17_method_165_code
def yX11_countMeek : MethodName := ⟨RX11, "countMeek", "()V"⟩
def dkwX11_countMeek_10 : List UInt8 := [132, 8, 1, 167, 255, 181, 167, 255, 50]
abbrev dktX11_countMeek_10 : List UInt8 := dkwX11_countMeek_10 ++ []
def dkwX11_countMeek_9 : List UInt8 := [180, 3, 33, 21, 9, 47, 184, 3, 214, 184, 3, 228, 167, 0, 10, 42, 180, 3, 211, 21, 9, 47, 80]
abbrev dktX11_countMeek_9 : List UInt8 := dkwX11_countMeek_9 ++ dktX11_countMeek_10
def dkwX11_countMeek_8 : List UInt8 := [180, 3, 33, 21, 9, 47, 9, 148, 158, 0, 31, 20, 3, 209, 42, 180, 3, 211, 21, 9, 47, 33, 105, 42]
abbrev dktX11_countMeek_8 : List UInt8 := dkwX11_countMeek_8 ++ dktX11_countMeek_9
def dkwX11_countMeek_7 : List UInt8 := [180, 3, 61, 162, 0, 72, 42, 180, 3, 58, 21, 8, 46, 54, 9, 42, 180, 3, 211, 21, 9, 42]
abbrev dktX11_countMeek_7 : List UInt8 := dkwX11_countMeek_7 ++ dktX11_countMeek_8
def dkwX11_countMeek_6 : List UInt8 := [42, 3, 182, 3, 167, 9, 80, 20, 3, 217, 64, 167, 0, 6, 22, 6, 64, 3, 54, 8, 21, 8, 42]
abbrev dktX11_countMeek_6 : List UInt8 := dkwX11_countMeek_6 ++ dktX11_countMeek_7
def dkwX11_countMeek_5 : List UInt8 := [22, 6, 20, 3, 226, 148, 155, 0, 10, 22, 6, 31, 148, 155, 0, 25, 42, 182, 3, 100, 42, 180, 3, 211]
abbrev dktX11_countMeek_5 : List UInt8 := dkwX11_countMeek_5 ++ dktX11_countMeek_6
def dkwX11_countMeek_4 : List UInt8 := [55, 6, 132, 8, 1, 167, 255, 221, 21, 5, 158, 0, 14, 42, 182, 3, 100, 20, 3, 217, 64, 167, 0, 44]
abbrev dktX11_countMeek_4 : List UInt8 := dkwX11_countMeek_4 ++ dktX11_countMeek_5
def dkwX11_countMeek_3 : List UInt8 := [162, 0, 32, 22, 6, 9, 42, 180, 3, 33, 42, 180, 3, 58, 21, 8, 46, 47, 33, 101, 184, 3, 223, 97]
abbrev dktX11_countMeek_3 : List UInt8 := dkwX11_countMeek_3 ++ dktX11_countMeek_4
def dkwX11_countMeek_2 : List UInt8 := [182, 3, 191, 153, 0, 8, 42, 182, 3, 100, 177, 9, 55, 6, 3, 54, 8, 21, 8, 42, 180, 3, 61]
abbrev dktX11_countMeek_2 : List UInt8 := dkwX11_countMeek_2 ++ dktX11_countMeek_3
def dkwX11_countMeek_1 : List UInt8 := [132, 1, 1, 167, 255, 236, 20, 3, 217, 64, 42, 182, 3, 219, 66, 42, 33, 182, 3, 157, 54, 5, 42]
abbrev dktX11_countMeek_1 : List UInt8 := dkwX11_countMeek_1 ++ dktX11_countMeek_2
def dkwX11_countMeek_0 : List UInt8 := [42, 182, 3, 161, 3, 60, 27, 42, 180, 2, 243, 162, 0, 18, 42, 180, 3, 211, 27, 20, 3, 209, 80]
abbrev dktX11_countMeek_0 : List UInt8 := dkwX11_countMeek_0 ++ dktX11_countMeek_1
theorem dksX11_countMeek_0 : cX11_countMeek.data.toList.drop 0 = dktX11_countMeek_0 := by decide +kernel
theorem dksX11_countMeek_1 : cX11_countMeek.data.toList.drop 23 = dktX11_countMeek_1 := dk_seg dksX11_countMeek_0 23 rfl rfl
theorem dksX11_countMeek_2 : cX11_countMeek.data.toList.drop 46 = dktX11_countMeek_2 := dk_seg dksX11_countMeek_1 23 rfl rfl
theorem dksX11_countMeek_3 : cX11_countMeek.data.toList.drop 69 = dktX11_countMeek_3 := dk_seg dksX11_countMeek_2 23 rfl rfl
theorem dksX11_countMeek_4 : cX11_countMeek.data.toList.drop 93 = dktX11_countMeek_4 := dk_seg dksX11_countMeek_3 24 rfl rfl
theorem dksX11_countMeek_5 : cX11_countMeek.data.toList.drop 117 = dktX11_countMeek_5 := dk_seg dksX11_countMeek_4 24 rfl rfl
theorem dksX11_countMeek_6 : cX11_countMeek.data.toList.drop 141 = dktX11_countMeek_6 := dk_seg dksX11_countMeek_5 24 rfl rfl
theorem dksX11_countMeek_7 : cX11_countMeek.data.toList.drop 164 = dktX11_countMeek_7 := dk_seg dksX11_countMeek_6 23 rfl rfl
theorem dksX11_countMeek_8 : cX11_countMeek.data.toList.drop 186 = dktX11_countMeek_8 := dk_seg dksX11_countMeek_7 22 rfl rfl
theorem dksX11_countMeek_9 : cX11_countMeek.data.toList.drop 210 = dktX11_countMeek_9 := dk_seg dksX11_countMeek_8 24 rfl rfl
theorem dksX11_countMeek_10 : cX11_countMeek.data.toList.drop 233 = dktX11_countMeek_10 := dk_seg dksX11_countMeek_9 23 rfl rfl
theorem dX11_countMeek_0 : decode cX11_countMeek 0 = .ok (.aload_n 0, 1) := dk_42 (dk_at dksX11_countMeek_0 0 rfl rfl)
theorem dX11_countMeek_1 : decode cX11_countMeek 1 = .ok (.invokevirtual 929, 3) := dk_182 3 161 (dk_at dksX11_countMeek_0 1 rfl rfl)
theorem dX11_countMeek_4 : decode cX11_countMeek 4 = .ok (.iconst 0, 1) := dk_3 (dk_at dksX11_countMeek_0 4 rfl rfl)
theorem dX11_countMeek_5 : decode cX11_countMeek 5 = .ok (.istore_n 1, 1) := dk_60 (dk_at dksX11_countMeek_0 5 rfl rfl)
theorem dX11_countMeek_6 : decode cX11_countMeek 6 = .ok (.iload_n 1, 1) := dk_27 (dk_at dksX11_countMeek_0 6 rfl rfl)
theorem dX11_countMeek_7 : decode cX11_countMeek 7 = .ok (.aload_n 0, 1) := dk_42 (dk_at dksX11_countMeek_0 7 rfl rfl)
theorem dX11_countMeek_8 : decode cX11_countMeek 8 = .ok (.getfield 755, 3) := dk_180 2 243 (dk_at dksX11_countMeek_0 8 rfl rfl)
theorem dX11_countMeek_11 : decode cX11_countMeek 11 = .ok (.if_icmp .ge 18, 3) := dk_162 0 18 (dk_at dksX11_countMeek_0 11 rfl rfl)
theorem dX11_countMeek_14 : decode cX11_countMeek 14 = .ok (.aload_n 0, 1) := dk_42 (dk_at dksX11_countMeek_0 14 rfl rfl)
theorem dX11_countMeek_15 : decode cX11_countMeek 15 = .ok (.getfield 979, 3) := dk_180 3 211 (dk_at dksX11_countMeek_0 15 rfl rfl)
theorem dX11_countMeek_18 : decode cX11_countMeek 18 = .ok (.iload_n 1, 1) := dk_27 (dk_at dksX11_countMeek_0 18 rfl rfl)
theorem dX11_countMeek_19 : decode cX11_countMeek 19 = .ok (.ldc2_w 977, 3) := dk_20 3 209 (dk_at dksX11_countMeek_0 19 rfl rfl)
theorem dX11_countMeek_22 : decode cX11_countMeek 22 = .ok (.lastore, 1) := dk_80 (dk_at dksX11_countMeek_0 22 rfl rfl)
theorem dX11_countMeek_23 : decode cX11_countMeek 23 = .ok (.iinc 1 1, 3) := dk_132 1 1 (dk_at dksX11_countMeek_1 0 rfl rfl)
theorem dX11_countMeek_26 : decode cX11_countMeek 26 = .ok (.goto (-20), 3) := dk_167 255 236 (dk_at dksX11_countMeek_1 3 rfl rfl)
theorem dX11_countMeek_29 : decode cX11_countMeek 29 = .ok (.ldc2_w 985, 3) := dk_20 3 217 (dk_at dksX11_countMeek_1 6 rfl rfl)
theorem dX11_countMeek_32 : decode cX11_countMeek 32 = .ok (.lstore_n 1, 1) := dk_64 (dk_at dksX11_countMeek_1 9 rfl rfl)
theorem dX11_countMeek_33 : decode cX11_countMeek 33 = .ok (.aload_n 0, 1) := dk_42 (dk_at dksX11_countMeek_1 10 rfl rfl)
theorem dX11_countMeek_34 : decode cX11_countMeek 34 = .ok (.invokevirtual 987, 3) := dk_182 3 219 (dk_at dksX11_countMeek_1 11 rfl rfl)
theorem dX11_countMeek_37 : decode cX11_countMeek 37 = .ok (.lstore_n 3, 1) := dk_66 (dk_at dksX11_countMeek_1 14 rfl rfl)
theorem dX11_countMeek_38 : decode cX11_countMeek 38 = .ok (.aload_n 0, 1) := dk_42 (dk_at dksX11_countMeek_1 15 rfl rfl)
theorem dX11_countMeek_39 : decode cX11_countMeek 39 = .ok (.lload_n 3, 1) := dk_33 (dk_at dksX11_countMeek_1 16 rfl rfl)
theorem dX11_countMeek_40 : decode cX11_countMeek 40 = .ok (.invokevirtual 925, 3) := dk_182 3 157 (dk_at dksX11_countMeek_1 17 rfl rfl)
theorem dX11_countMeek_43 : decode cX11_countMeek 43 = .ok (.istore 5, 2) := dk_54 5 (dk_at dksX11_countMeek_1 20 rfl rfl)
theorem dX11_countMeek_45 : decode cX11_countMeek 45 = .ok (.aload_n 0, 1) := dk_42 (dk_at dksX11_countMeek_1 22 rfl rfl)
theorem dX11_countMeek_46 : decode cX11_countMeek 46 = .ok (.invokevirtual 959, 3) := dk_182 3 191 (dk_at dksX11_countMeek_2 0 rfl rfl)
theorem dX11_countMeek_49 : decode cX11_countMeek 49 = .ok (.ifCond .eq 8, 3) := dk_153 0 8 (dk_at dksX11_countMeek_2 3 rfl rfl)
theorem dX11_countMeek_52 : decode cX11_countMeek 52 = .ok (.aload_n 0, 1) := dk_42 (dk_at dksX11_countMeek_2 6 rfl rfl)
theorem dX11_countMeek_53 : decode cX11_countMeek 53 = .ok (.invokevirtual 868, 3) := dk_182 3 100 (dk_at dksX11_countMeek_2 7 rfl rfl)
theorem dX11_countMeek_56 : decode cX11_countMeek 56 = .ok (.return_, 1) := dk_177 (dk_at dksX11_countMeek_2 10 rfl rfl)
theorem dX11_countMeek_57 : decode cX11_countMeek 57 = .ok (.lconst 0, 1) := dk_9 (dk_at dksX11_countMeek_2 11 rfl rfl)
theorem dX11_countMeek_58 : decode cX11_countMeek 58 = .ok (.lstore 6, 2) := dk_55 6 (dk_at dksX11_countMeek_2 12 rfl rfl)
theorem dX11_countMeek_60 : decode cX11_countMeek 60 = .ok (.iconst 0, 1) := dk_3 (dk_at dksX11_countMeek_2 14 rfl rfl)
theorem dX11_countMeek_61 : decode cX11_countMeek 61 = .ok (.istore 8, 2) := dk_54 8 (dk_at dksX11_countMeek_2 15 rfl rfl)
theorem dX11_countMeek_63 : decode cX11_countMeek 63 = .ok (.iload 8, 2) := dk_21 8 (dk_at dksX11_countMeek_2 17 rfl rfl)
theorem dX11_countMeek_65 : decode cX11_countMeek 65 = .ok (.aload_n 0, 1) := dk_42 (dk_at dksX11_countMeek_2 19 rfl rfl)
theorem dX11_countMeek_66 : decode cX11_countMeek 66 = .ok (.getfield 829, 3) := dk_180 3 61 (dk_at dksX11_countMeek_2 20 rfl rfl)
theorem dX11_countMeek_69 : decode cX11_countMeek 69 = .ok (.if_icmp .ge 32, 3) := dk_162 0 32 (dk_at dksX11_countMeek_3 0 rfl rfl)
theorem dX11_countMeek_72 : decode cX11_countMeek 72 = .ok (.lload 6, 2) := dk_22 6 (dk_at dksX11_countMeek_3 3 rfl rfl)
theorem dX11_countMeek_74 : decode cX11_countMeek 74 = .ok (.lconst 0, 1) := dk_9 (dk_at dksX11_countMeek_3 5 rfl rfl)
theorem dX11_countMeek_75 : decode cX11_countMeek 75 = .ok (.aload_n 0, 1) := dk_42 (dk_at dksX11_countMeek_3 6 rfl rfl)
theorem dX11_countMeek_76 : decode cX11_countMeek 76 = .ok (.getfield 801, 3) := dk_180 3 33 (dk_at dksX11_countMeek_3 7 rfl rfl)
theorem dX11_countMeek_79 : decode cX11_countMeek 79 = .ok (.aload_n 0, 1) := dk_42 (dk_at dksX11_countMeek_3 10 rfl rfl)
theorem dX11_countMeek_80 : decode cX11_countMeek 80 = .ok (.getfield 826, 3) := dk_180 3 58 (dk_at dksX11_countMeek_3 11 rfl rfl)
theorem dX11_countMeek_83 : decode cX11_countMeek 83 = .ok (.iload 8, 2) := dk_21 8 (dk_at dksX11_countMeek_3 14 rfl rfl)
theorem dX11_countMeek_85 : decode cX11_countMeek 85 = .ok (.iaload, 1) := dk_46 (dk_at dksX11_countMeek_3 16 rfl rfl)
theorem dX11_countMeek_86 : decode cX11_countMeek 86 = .ok (.laload, 1) := dk_47 (dk_at dksX11_countMeek_3 17 rfl rfl)
theorem dX11_countMeek_87 : decode cX11_countMeek 87 = .ok (.lload_n 3, 1) := dk_33 (dk_at dksX11_countMeek_3 18 rfl rfl)
theorem dX11_countMeek_88 : decode cX11_countMeek 88 = .ok (.lsub, 1) := dk_101 (dk_at dksX11_countMeek_3 19 rfl rfl)
theorem dX11_countMeek_89 : decode cX11_countMeek 89 = .ok (.invokestatic 991, 3) := dk_184 3 223 (dk_at dksX11_countMeek_3 20 rfl rfl)
theorem dX11_countMeek_92 : decode cX11_countMeek 92 = .ok (.ladd, 1) := dk_97 (dk_at dksX11_countMeek_3 23 rfl rfl)
theorem dX11_countMeek_93 : decode cX11_countMeek 93 = .ok (.lstore 6, 2) := dk_55 6 (dk_at dksX11_countMeek_4 0 rfl rfl)
theorem dX11_countMeek_95 : decode cX11_countMeek 95 = .ok (.iinc 8 1, 3) := dk_132 8 1 (dk_at dksX11_countMeek_4 2 rfl rfl)
theorem dX11_countMeek_98 : decode cX11_countMeek 98 = .ok (.goto (-35), 3) := dk_167 255 221 (dk_at dksX11_countMeek_4 5 rfl rfl)
theorem dX11_countMeek_101 : decode cX11_countMeek 101 = .ok (.iload 5, 2) := dk_21 5 (dk_at dksX11_countMeek_4 8 rfl rfl)
theorem dX11_countMeek_103 : decode cX11_countMeek 103 = .ok (.ifCond .le 14, 3) := dk_158 0 14 (dk_at dksX11_countMeek_4 10 rfl rfl)
theorem dX11_countMeek_106 : decode cX11_countMeek 106 = .ok (.aload_n 0, 1) := dk_42 (dk_at dksX11_countMeek_4 13 rfl rfl)
theorem dX11_countMeek_107 : decode cX11_countMeek 107 = .ok (.invokevirtual 868, 3) := dk_182 3 100 (dk_at dksX11_countMeek_4 14 rfl rfl)
theorem dX11_countMeek_110 : decode cX11_countMeek 110 = .ok (.ldc2_w 985, 3) := dk_20 3 217 (dk_at dksX11_countMeek_4 17 rfl rfl)
theorem dX11_countMeek_113 : decode cX11_countMeek 113 = .ok (.lstore_n 1, 1) := dk_64 (dk_at dksX11_countMeek_4 20 rfl rfl)
theorem dX11_countMeek_114 : decode cX11_countMeek 114 = .ok (.goto 44, 3) := dk_167 0 44 (dk_at dksX11_countMeek_4 21 rfl rfl)
theorem dX11_countMeek_117 : decode cX11_countMeek 117 = .ok (.lload 6, 2) := dk_22 6 (dk_at dksX11_countMeek_5 0 rfl rfl)
theorem dX11_countMeek_119 : decode cX11_countMeek 119 = .ok (.ldc2_w 994, 3) := dk_20 3 226 (dk_at dksX11_countMeek_5 2 rfl rfl)
theorem dX11_countMeek_122 : decode cX11_countMeek 122 = .ok (.lcmp, 1) := dk_148 (dk_at dksX11_countMeek_5 5 rfl rfl)
theorem dX11_countMeek_123 : decode cX11_countMeek 123 = .ok (.ifCond .lt 10, 3) := dk_155 0 10 (dk_at dksX11_countMeek_5 6 rfl rfl)
theorem dX11_countMeek_126 : decode cX11_countMeek 126 = .ok (.lload 6, 2) := dk_22 6 (dk_at dksX11_countMeek_5 9 rfl rfl)
theorem dX11_countMeek_128 : decode cX11_countMeek 128 = .ok (.lload_n 1, 1) := dk_31 (dk_at dksX11_countMeek_5 11 rfl rfl)
theorem dX11_countMeek_129 : decode cX11_countMeek 129 = .ok (.lcmp, 1) := dk_148 (dk_at dksX11_countMeek_5 12 rfl rfl)
theorem dX11_countMeek_130 : decode cX11_countMeek 130 = .ok (.ifCond .lt 25, 3) := dk_155 0 25 (dk_at dksX11_countMeek_5 13 rfl rfl)
theorem dX11_countMeek_133 : decode cX11_countMeek 133 = .ok (.aload_n 0, 1) := dk_42 (dk_at dksX11_countMeek_5 16 rfl rfl)
theorem dX11_countMeek_134 : decode cX11_countMeek 134 = .ok (.invokevirtual 868, 3) := dk_182 3 100 (dk_at dksX11_countMeek_5 17 rfl rfl)
theorem dX11_countMeek_137 : decode cX11_countMeek 137 = .ok (.aload_n 0, 1) := dk_42 (dk_at dksX11_countMeek_5 20 rfl rfl)
theorem dX11_countMeek_138 : decode cX11_countMeek 138 = .ok (.getfield 979, 3) := dk_180 3 211 (dk_at dksX11_countMeek_5 21 rfl rfl)
theorem dX11_countMeek_141 : decode cX11_countMeek 141 = .ok (.aload_n 0, 1) := dk_42 (dk_at dksX11_countMeek_6 0 rfl rfl)
theorem dX11_countMeek_142 : decode cX11_countMeek 142 = .ok (.iconst 0, 1) := dk_3 (dk_at dksX11_countMeek_6 1 rfl rfl)
theorem dX11_countMeek_143 : decode cX11_countMeek 143 = .ok (.invokevirtual 935, 3) := dk_182 3 167 (dk_at dksX11_countMeek_6 2 rfl rfl)
theorem dX11_countMeek_146 : decode cX11_countMeek 146 = .ok (.lconst 0, 1) := dk_9 (dk_at dksX11_countMeek_6 5 rfl rfl)
theorem dX11_countMeek_147 : decode cX11_countMeek 147 = .ok (.lastore, 1) := dk_80 (dk_at dksX11_countMeek_6 6 rfl rfl)
theorem dX11_countMeek_148 : decode cX11_countMeek 148 = .ok (.ldc2_w 985, 3) := dk_20 3 217 (dk_at dksX11_countMeek_6 7 rfl rfl)
theorem dX11_countMeek_151 : decode cX11_countMeek 151 = .ok (.lstore_n 1, 1) := dk_64 (dk_at dksX11_countMeek_6 10 rfl rfl)
theorem dX11_countMeek_152 : decode cX11_countMeek 152 = .ok (.goto 6, 3) := dk_167 0 6 (dk_at dksX11_countMeek_6 11 rfl rfl)
theorem dX11_countMeek_155 : decode cX11_countMeek 155 = .ok (.lload 6, 2) := dk_22 6 (dk_at dksX11_countMeek_6 14 rfl rfl)
theorem dX11_countMeek_157 : decode cX11_countMeek 157 = .ok (.lstore_n 1, 1) := dk_64 (dk_at dksX11_countMeek_6 16 rfl rfl)
theorem dX11_countMeek_158 : decode cX11_countMeek 158 = .ok (.iconst 0, 1) := dk_3 (dk_at dksX11_countMeek_6 17 rfl rfl)
theorem dX11_countMeek_159 : decode cX11_countMeek 159 = .ok (.istore 8, 2) := dk_54 8 (dk_at dksX11_countMeek_6 18 rfl rfl)
theorem dX11_countMeek_161 : decode cX11_countMeek 161 = .ok (.iload 8, 2) := dk_21 8 (dk_at dksX11_countMeek_6 20 rfl rfl)
theorem dX11_countMeek_163 : decode cX11_countMeek 163 = .ok (.aload_n 0, 1) := dk_42 (dk_at dksX11_countMeek_6 22 rfl rfl)
theorem dX11_countMeek_164 : decode cX11_countMeek 164 = .ok (.getfield 829, 3) := dk_180 3 61 (dk_at dksX11_countMeek_7 0 rfl rfl)
theorem dX11_countMeek_167 : decode cX11_countMeek 167 = .ok (.if_icmp .ge 72, 3) := dk_162 0 72 (dk_at dksX11_countMeek_7 3 rfl rfl)
theorem dX11_countMeek_170 : decode cX11_countMeek 170 = .ok (.aload_n 0, 1) := dk_42 (dk_at dksX11_countMeek_7 6 rfl rfl)
theorem dX11_countMeek_171 : decode cX11_countMeek 171 = .ok (.getfield 826, 3) := dk_180 3 58 (dk_at dksX11_countMeek_7 7 rfl rfl)
theorem dX11_countMeek_174 : decode cX11_countMeek 174 = .ok (.iload 8, 2) := dk_21 8 (dk_at dksX11_countMeek_7 10 rfl rfl)
theorem dX11_countMeek_176 : decode cX11_countMeek 176 = .ok (.iaload, 1) := dk_46 (dk_at dksX11_countMeek_7 12 rfl rfl)
theorem dX11_countMeek_177 : decode cX11_countMeek 177 = .ok (.istore 9, 2) := dk_54 9 (dk_at dksX11_countMeek_7 13 rfl rfl)
theorem dX11_countMeek_179 : decode cX11_countMeek 179 = .ok (.aload_n 0, 1) := dk_42 (dk_at dksX11_countMeek_7 15 rfl rfl)
theorem dX11_countMeek_180 : decode cX11_countMeek 180 = .ok (.getfield 979, 3) := dk_180 3 211 (dk_at dksX11_countMeek_7 16 rfl rfl)
theorem dX11_countMeek_183 : decode cX11_countMeek 183 = .ok (.iload 9, 2) := dk_21 9 (dk_at dksX11_countMeek_7 19 rfl rfl)
theorem dX11_countMeek_185 : decode cX11_countMeek 185 = .ok (.aload_n 0, 1) := dk_42 (dk_at dksX11_countMeek_7 21 rfl rfl)
theorem dX11_countMeek_186 : decode cX11_countMeek 186 = .ok (.getfield 801, 3) := dk_180 3 33 (dk_at dksX11_countMeek_8 0 rfl rfl)
theorem dX11_countMeek_189 : decode cX11_countMeek 189 = .ok (.iload 9, 2) := dk_21 9 (dk_at dksX11_countMeek_8 3 rfl rfl)
theorem dX11_countMeek_191 : decode cX11_countMeek 191 = .ok (.laload, 1) := dk_47 (dk_at dksX11_countMeek_8 5 rfl rfl)
theorem dX11_countMeek_192 : decode cX11_countMeek 192 = .ok (.lconst 0, 1) := dk_9 (dk_at dksX11_countMeek_8 6 rfl rfl)
theorem dX11_countMeek_193 : decode cX11_countMeek 193 = .ok (.lcmp, 1) := dk_148 (dk_at dksX11_countMeek_8 7 rfl rfl)
theorem dX11_countMeek_194 : decode cX11_countMeek 194 = .ok (.ifCond .le 31, 3) := dk_158 0 31 (dk_at dksX11_countMeek_8 8 rfl rfl)
theorem dX11_countMeek_197 : decode cX11_countMeek 197 = .ok (.ldc2_w 977, 3) := dk_20 3 209 (dk_at dksX11_countMeek_8 11 rfl rfl)
theorem dX11_countMeek_200 : decode cX11_countMeek 200 = .ok (.aload_n 0, 1) := dk_42 (dk_at dksX11_countMeek_8 14 rfl rfl)
theorem dX11_countMeek_201 : decode cX11_countMeek 201 = .ok (.getfield 979, 3) := dk_180 3 211 (dk_at dksX11_countMeek_8 15 rfl rfl)
theorem dX11_countMeek_204 : decode cX11_countMeek 204 = .ok (.iload 9, 2) := dk_21 9 (dk_at dksX11_countMeek_8 18 rfl rfl)
theorem dX11_countMeek_206 : decode cX11_countMeek 206 = .ok (.laload, 1) := dk_47 (dk_at dksX11_countMeek_8 20 rfl rfl)
theorem dX11_countMeek_207 : decode cX11_countMeek 207 = .ok (.lload_n 3, 1) := dk_33 (dk_at dksX11_countMeek_8 21 rfl rfl)
theorem dX11_countMeek_208 : decode cX11_countMeek 208 = .ok (.lmul, 1) := dk_105 (dk_at dksX11_countMeek_8 22 rfl rfl)
theorem dX11_countMeek_209 : decode cX11_countMeek 209 = .ok (.aload_n 0, 1) := dk_42 (dk_at dksX11_countMeek_8 23 rfl rfl)
theorem dX11_countMeek_210 : decode cX11_countMeek 210 = .ok (.getfield 801, 3) := dk_180 3 33 (dk_at dksX11_countMeek_9 0 rfl rfl)
theorem dX11_countMeek_213 : decode cX11_countMeek 213 = .ok (.iload 9, 2) := dk_21 9 (dk_at dksX11_countMeek_9 3 rfl rfl)
theorem dX11_countMeek_215 : decode cX11_countMeek 215 = .ok (.laload, 1) := dk_47 (dk_at dksX11_countMeek_9 5 rfl rfl)
theorem dX11_countMeek_216 : decode cX11_countMeek 216 = .ok (.invokestatic 982, 3) := dk_184 3 214 (dk_at dksX11_countMeek_9 6 rfl rfl)
theorem dX11_countMeek_219 : decode cX11_countMeek 219 = .ok (.invokestatic 996, 3) := dk_184 3 228 (dk_at dksX11_countMeek_9 9 rfl rfl)
theorem dX11_countMeek_222 : decode cX11_countMeek 222 = .ok (.goto 10, 3) := dk_167 0 10 (dk_at dksX11_countMeek_9 12 rfl rfl)
theorem dX11_countMeek_225 : decode cX11_countMeek 225 = .ok (.aload_n 0, 1) := dk_42 (dk_at dksX11_countMeek_9 15 rfl rfl)
theorem dX11_countMeek_226 : decode cX11_countMeek 226 = .ok (.getfield 979, 3) := dk_180 3 211 (dk_at dksX11_countMeek_9 16 rfl rfl)
theorem dX11_countMeek_229 : decode cX11_countMeek 229 = .ok (.iload 9, 2) := dk_21 9 (dk_at dksX11_countMeek_9 19 rfl rfl)
theorem dX11_countMeek_231 : decode cX11_countMeek 231 = .ok (.laload, 1) := dk_47 (dk_at dksX11_countMeek_9 21 rfl rfl)
theorem dX11_countMeek_232 : decode cX11_countMeek 232 = .ok (.lastore, 1) := dk_80 (dk_at dksX11_countMeek_9 22 rfl rfl)
theorem dX11_countMeek_233 : decode cX11_countMeek 233 = .ok (.iinc 8 1, 3) := dk_132 8 1 (dk_at dksX11_countMeek_10 0 rfl rfl)
theorem dX11_countMeek_236 : decode cX11_countMeek 236 = .ok (.goto (-75), 3) := dk_167 255 181 (dk_at dksX11_countMeek_10 3 rfl rfl)
theorem dX11_countMeek_239 : decode cX11_countMeek 239 = .ok (.goto (-206), 3) := dk_167 255 50 (dk_at dksX11_countMeek_10 6 rfl rfl)
abbrev cX11_iterate : ByteArray := prog_17_method_164_code
def yX11_iterate : MethodName := ⟨RX11, "iterate", "()J"⟩
def dkwX11_iterate_4 : List UInt8 := [167, 255, 186, 132, 3, 1, 167, 255, 164, 31, 42, 180, 2, 246, 4, 96, 133, 109, 10, 97, 173]
abbrev dktX11_iterate_4 : List UInt8 := dkwX11_iterate_4 ++ []
def dkwX11_iterate_3 : List UInt8 := [21, 7, 92, 47, 22, 8, 97, 80, 22, 4, 22, 8, 101, 55, 4, 31, 22, 8, 97, 64, 132, 6, 1]
abbrev dktX11_iterate_3 : List UInt8 := dkwX11_iterate_3 ++ dktX11_iterate_4
def dkwX11_iterate_2 : List UInt8 := [54, 7, 22, 4, 42, 180, 3, 211, 21, 7, 47, 105, 20, 3, 209, 184, 3, 214, 55, 8, 42, 180, 3, 33]
abbrev dktX11_iterate_2 : List UInt8 := dkwX11_iterate_2 ++ dktX11_iterate_3
def dkwX11_iterate_1 : List UInt8 := [21, 6, 42, 180, 3, 21, 29, 46, 162, 0, 65, 42, 180, 3, 24, 16, 9, 29, 104, 21, 6, 96, 46]
abbrev dktX11_iterate_1 : List UInt8 := dkwX11_iterate_1 ++ dktX11_iterate_2
def dkwX11_iterate_0 : List UInt8 := [42, 182, 3, 43, 9, 64, 3, 62, 29, 42, 180, 2, 255, 162, 0, 90, 20, 3, 209, 55, 4, 3, 54, 6]
abbrev dktX11_iterate_0 : List UInt8 := dkwX11_iterate_0 ++ dktX11_iterate_1
theorem dksX11_iterate_0 : cX11_iterate.data.toList.drop 0 = dktX11_iterate_0 := by decide +kernel
theorem dksX11_iterate_1 : cX11_iterate.data.toList.drop 24 = dktX11_iterate_1 := dk_seg dksX11_iterate_0 24 rfl rfl
theorem dksX11_iterate_2 : cX11_iterate.data.toList.drop 47 = dktX11_iterate_2 := dk_seg dksX11_iterate_1 23 rfl rfl
theorem dksX11_iterate_3 : cX11_iterate.data.toList.drop 71 = dktX11_iterate_3 := dk_seg dksX11_iterate_2 24 rfl rfl
theorem dksX11_iterate_4 : cX11_iterate.data.toList.drop 94 = dktX11_iterate_4 := dk_seg dksX11_iterate_3 23 rfl rfl
theorem dX11_iterate_0 : decode cX11_iterate 0 = .ok (.aload_n 0, 1) := dk_42 (dk_at dksX11_iterate_0 0 rfl rfl)
theorem dX11_iterate_1 : decode cX11_iterate 1 = .ok (.invokevirtual 811, 3) := dk_182 3 43 (dk_at dksX11_iterate_0 1 rfl rfl)
theorem dX11_iterate_4 : decode cX11_iterate 4 = .ok (.lconst 0, 1) := dk_9 (dk_at dksX11_iterate_0 4 rfl rfl)
theorem dX11_iterate_5 : decode cX11_iterate 5 = .ok (.lstore_n 1, 1) := dk_64 (dk_at dksX11_iterate_0 5 rfl rfl)
theorem dX11_iterate_6 : decode cX11_iterate 6 = .ok (.iconst 0, 1) := dk_3 (dk_at dksX11_iterate_0 6 rfl rfl)
theorem dX11_iterate_7 : decode cX11_iterate 7 = .ok (.istore_n 3, 1) := dk_62 (dk_at dksX11_iterate_0 7 rfl rfl)
theorem dX11_iterate_8 : decode cX11_iterate 8 = .ok (.iload_n 3, 1) := dk_29 (dk_at dksX11_iterate_0 8 rfl rfl)
theorem dX11_iterate_9 : decode cX11_iterate 9 = .ok (.aload_n 0, 1) := dk_42 (dk_at dksX11_iterate_0 9 rfl rfl)
theorem dX11_iterate_10 : decode cX11_iterate 10 = .ok (.getfield 767, 3) := dk_180 2 255 (dk_at dksX11_iterate_0 10 rfl rfl)
theorem dX11_iterate_13 : decode cX11_iterate 13 = .ok (.if_icmp .ge 90, 3) := dk_162 0 90 (dk_at dksX11_iterate_0 13 rfl rfl)
theorem dX11_iterate_16 : decode cX11_iterate 16 = .ok (.ldc2_w 977, 3) := dk_20 3 209 (dk_at dksX11_iterate_0 16 rfl rfl)
theorem dX11_iterate_19 : decode cX11_iterate 19 = .ok (.lstore 4, 2) := dk_55 4 (dk_at dksX11_iterate_0 19 rfl rfl)
theorem dX11_iterate_21 : decode cX11_iterate 21 = .ok (.iconst 0, 1) := dk_3 (dk_at dksX11_iterate_0 21 rfl rfl)
theorem dX11_iterate_22 : decode cX11_iterate 22 = .ok (.istore 6, 2) := dk_54 6 (dk_at dksX11_iterate_0 22 rfl rfl)
theorem dX11_iterate_24 : decode cX11_iterate 24 = .ok (.iload 6, 2) := dk_21 6 (dk_at dksX11_iterate_1 0 rfl rfl)
theorem dX11_iterate_26 : decode cX11_iterate 26 = .ok (.aload_n 0, 1) := dk_42 (dk_at dksX11_iterate_1 2 rfl rfl)
theorem dX11_iterate_27 : decode cX11_iterate 27 = .ok (.getfield 789, 3) := dk_180 3 21 (dk_at dksX11_iterate_1 3 rfl rfl)
theorem dX11_iterate_30 : decode cX11_iterate 30 = .ok (.iload_n 3, 1) := dk_29 (dk_at dksX11_iterate_1 6 rfl rfl)
theorem dX11_iterate_31 : decode cX11_iterate 31 = .ok (.iaload, 1) := dk_46 (dk_at dksX11_iterate_1 7 rfl rfl)
theorem dX11_iterate_32 : decode cX11_iterate 32 = .ok (.if_icmp .ge 65, 3) := dk_162 0 65 (dk_at dksX11_iterate_1 8 rfl rfl)
theorem dX11_iterate_35 : decode cX11_iterate 35 = .ok (.aload_n 0, 1) := dk_42 (dk_at dksX11_iterate_1 11 rfl rfl)
theorem dX11_iterate_36 : decode cX11_iterate 36 = .ok (.getfield 792, 3) := dk_180 3 24 (dk_at dksX11_iterate_1 12 rfl rfl)
theorem dX11_iterate_39 : decode cX11_iterate 39 = .ok (.bipush 9, 2) := dk_16 9 (dk_at dksX11_iterate_1 15 rfl rfl)
theorem dX11_iterate_41 : decode cX11_iterate 41 = .ok (.iload_n 3, 1) := dk_29 (dk_at dksX11_iterate_1 17 rfl rfl)
theorem dX11_iterate_42 : decode cX11_iterate 42 = .ok (.imul, 1) := dk_104 (dk_at dksX11_iterate_1 18 rfl rfl)
theorem dX11_iterate_43 : decode cX11_iterate 43 = .ok (.iload 6, 2) := dk_21 6 (dk_at dksX11_iterate_1 19 rfl rfl)
theorem dX11_iterate_45 : decode cX11_iterate 45 = .ok (.iadd, 1) := dk_96 (dk_at dksX11_iterate_1 21 rfl rfl)
theorem dX11_iterate_46 : decode cX11_iterate 46 = .ok (.iaload, 1) := dk_46 (dk_at dksX11_iterate_1 22 rfl rfl)
theorem dX11_iterate_47 : decode cX11_iterate 47 = .ok (.istore 7, 2) := dk_54 7 (dk_at dksX11_iterate_2 0 rfl rfl)
theorem dX11_iterate_49 : decode cX11_iterate 49 = .ok (.lload 4, 2) := dk_22 4 (dk_at dksX11_iterate_2 2 rfl rfl)
theorem dX11_iterate_51 : decode cX11_iterate 51 = .ok (.aload_n 0, 1) := dk_42 (dk_at dksX11_iterate_2 4 rfl rfl)
theorem dX11_iterate_52 : decode cX11_iterate 52 = .ok (.getfield 979, 3) := dk_180 3 211 (dk_at dksX11_iterate_2 5 rfl rfl)
theorem dX11_iterate_55 : decode cX11_iterate 55 = .ok (.iload 7, 2) := dk_21 7 (dk_at dksX11_iterate_2 8 rfl rfl)
theorem dX11_iterate_57 : decode cX11_iterate 57 = .ok (.laload, 1) := dk_47 (dk_at dksX11_iterate_2 10 rfl rfl)
theorem dX11_iterate_58 : decode cX11_iterate 58 = .ok (.lmul, 1) := dk_105 (dk_at dksX11_iterate_2 11 rfl rfl)
theorem dX11_iterate_59 : decode cX11_iterate 59 = .ok (.ldc2_w 977, 3) := dk_20 3 209 (dk_at dksX11_iterate_2 12 rfl rfl)
theorem dX11_iterate_62 : decode cX11_iterate 62 = .ok (.invokestatic 982, 3) := dk_184 3 214 (dk_at dksX11_iterate_2 15 rfl rfl)
theorem dX11_iterate_65 : decode cX11_iterate 65 = .ok (.lstore 8, 2) := dk_55 8 (dk_at dksX11_iterate_2 18 rfl rfl)
theorem dX11_iterate_67 : decode cX11_iterate 67 = .ok (.aload_n 0, 1) := dk_42 (dk_at dksX11_iterate_2 20 rfl rfl)
theorem dX11_iterate_68 : decode cX11_iterate 68 = .ok (.getfield 801, 3) := dk_180 3 33 (dk_at dksX11_iterate_2 21 rfl rfl)
theorem dX11_iterate_71 : decode cX11_iterate 71 = .ok (.iload 7, 2) := dk_21 7 (dk_at dksX11_iterate_3 0 rfl rfl)
theorem dX11_iterate_73 : decode cX11_iterate 73 = .ok (.dup2, 1) := dk_92 (dk_at dksX11_iterate_3 2 rfl rfl)
theorem dX11_iterate_74 : decode cX11_iterate 74 = .ok (.laload, 1) := dk_47 (dk_at dksX11_iterate_3 3 rfl rfl)
theorem dX11_iterate_75 : decode cX11_iterate 75 = .ok (.lload 8, 2) := dk_22 8 (dk_at dksX11_iterate_3 4 rfl rfl)
theorem dX11_iterate_77 : decode cX11_iterate 77 = .ok (.ladd, 1) := dk_97 (dk_at dksX11_iterate_3 6 rfl rfl)
theorem dX11_iterate_78 : decode cX11_iterate 78 = .ok (.lastore, 1) := dk_80 (dk_at dksX11_iterate_3 7 rfl rfl)
theorem dX11_iterate_79 : decode cX11_iterate 79 = .ok (.lload 4, 2) := dk_22 4 (dk_at dksX11_iterate_3 8 rfl rfl)
theorem dX11_iterate_81 : decode cX11_iterate 81 = .ok (.lload 8, 2) := dk_22 8 (dk_at dksX11_iterate_3 10 rfl rfl)
theorem dX11_iterate_83 : decode cX11_iterate 83 = .ok (.lsub, 1) := dk_101 (dk_at dksX11_iterate_3 12 rfl rfl)
theorem dX11_iterate_84 : decode cX11_iterate 84 = .ok (.lstore 4, 2) := dk_55 4 (dk_at dksX11_iterate_3 13 rfl rfl)
theorem dX11_iterate_86 : decode cX11_iterate 86 = .ok (.lload_n 1, 1) := dk_31 (dk_at dksX11_iterate_3 15 rfl rfl)
theorem dX11_iterate_87 : decode cX11_iterate 87 = .ok (.lload 8, 2) := dk_22 8 (dk_at dksX11_iterate_3 16 rfl rfl)
theorem dX11_iterate_89 : decode cX11_iterate 89 = .ok (.ladd, 1) := dk_97 (dk_at dksX11_iterate_3 18 rfl rfl)
theorem dX11_iterate_90 : decode cX11_iterate 90 = .ok (.lstore_n 1, 1) := dk_64 (dk_at dksX11_iterate_3 19 rfl rfl)
theorem dX11_iterate_91 : decode cX11_iterate 91 = .ok (.iinc 6 1, 3) := dk_132 6 1 (dk_at dksX11_iterate_3 20 rfl rfl)
theorem dX11_iterate_94 : decode cX11_iterate 94 = .ok (.goto (-70), 3) := dk_167 255 186 (dk_at dksX11_iterate_4 0 rfl rfl)
theorem dX11_iterate_97 : decode cX11_iterate 97 = .ok (.iinc 3 1, 3) := dk_132 3 1 (dk_at dksX11_iterate_4 3 rfl rfl)
theorem dX11_iterate_100 : decode cX11_iterate 100 = .ok (.goto (-92), 3) := dk_167 255 164 (dk_at dksX11_iterate_4 6 rfl rfl)
theorem dX11_iterate_103 : decode cX11_iterate 103 = .ok (.lload_n 1, 1) := dk_31 (dk_at dksX11_iterate_4 9 rfl rfl)
theorem dX11_iterate_104 : decode cX11_iterate 104 = .ok (.aload_n 0, 1) := dk_42 (dk_at dksX11_iterate_4 10 rfl rfl)
theorem dX11_iterate_105 : decode cX11_iterate 105 = .ok (.getfield 758, 3) := dk_180 2 246 (dk_at dksX11_iterate_4 11 rfl rfl)
theorem dX11_iterate_108 : decode cX11_iterate 108 = .ok (.iconst 1, 1) := dk_4 (dk_at dksX11_iterate_4 14 rfl rfl)
theorem dX11_iterate_109 : decode cX11_iterate 109 = .ok (.iadd, 1) := dk_96 (dk_at dksX11_iterate_4 15 rfl rfl)
theorem dX11_iterate_110 : decode cX11_iterate 110 = .ok (.i2l, 1) := dk_133 (dk_at dksX11_iterate_4 16 rfl rfl)
theorem dX11_iterate_111 : decode cX11_iterate 111 = .ok (.ldiv, 1) := dk_109 (dk_at dksX11_iterate_4 17 rfl rfl)
theorem dX11_iterate_112 : decode cX11_iterate 112 = .ok (.lconst 1, 1) := dk_10 (dk_at dksX11_iterate_4 18 rfl rfl)
theorem dX11_iterate_113 : decode cX11_iterate 113 = .ok (.ladd, 1) := dk_97 (dk_at dksX11_iterate_4 19 rfl rfl)
theorem dX11_iterate_114 : decode cX11_iterate 114 = .ok (.lreturn, 1) := dk_173 (dk_at dksX11_iterate_4 20 rfl rfl)
abbrev cX11_up : ByteArray := prog_17_method_163_code
def yX11_up : MethodName := ⟨RX11, "up", "(JJ)J"⟩
def dkwX11_up_0 : List UInt8 := [30, 117, 32, 184, 3, 205, 117, 173]
abbrev dktX11_up_0 : List UInt8 := dkwX11_up_0 ++ []
theorem dksX11_up_0 : cX11_up.data.toList.drop 0 = dktX11_up_0 := by decide +kernel
theorem dX11_up_0 : decode cX11_up 0 = .ok (.lload_n 0, 1) := dk_30 (dk_at dksX11_up_0 0 rfl rfl)
theorem dX11_up_1 : decode cX11_up 1 = .ok (.lneg, 1) := dk_117 (dk_at dksX11_up_0 1 rfl rfl)
theorem dX11_up_2 : decode cX11_up 2 = .ok (.lload_n 2, 1) := dk_32 (dk_at dksX11_up_0 2 rfl rfl)
theorem dX11_up_3 : decode cX11_up 3 = .ok (.invokestatic 973, 3) := dk_184 3 205 (dk_at dksX11_up_0 3 rfl rfl)
theorem dX11_up_6 : decode cX11_up 6 = .ok (.lneg, 1) := dk_117 (dk_at dksX11_up_0 6 rfl rfl)
theorem dX11_up_7 : decode cX11_up 7 = .ok (.lreturn, 1) := dk_173 (dk_at dksX11_up_0 7 rfl rfl)
abbrev cX11_isThrough : ByteArray := prog_17_method_154_code
def yX11_isThrough : MethodName := ⟨RX11, "isThrough", "()Z"⟩
def dkwX11_isThrough_2 : List UInt8 := [167, 0, 4, 3, 172]
abbrev dktX11_isThrough_2 : List UInt8 := dkwX11_isThrough_2 ++ []
def dkwX11_isThrough_1 : List UInt8 := [160, 0, 11, 42, 20, 3, 155, 182, 3, 157, 87, 42, 180, 3, 61, 42, 180, 2, 246, 160, 0, 7, 4]
abbrev dktX11_isThrough_1 : List UInt8 := dkwX11_isThrough_1 ++ dktX11_isThrough_2
def dkwX11_isThrough_0 : List UInt8 := [42, 180, 3, 61, 42, 180, 2, 246, 162, 0, 27, 42, 180, 3, 61, 42, 182, 3, 150, 96, 42, 180, 2, 246]
abbrev dktX11_isThrough_0 : List UInt8 := dkwX11_isThrough_0 ++ dktX11_isThrough_1
theorem dksX11_isThrough_0 : cX11_isThrough.data.toList.drop 0 = dktX11_isThrough_0 := by decide +kernel
theorem dksX11_isThrough_1 : cX11_isThrough.data.toList.drop 24 = dktX11_isThrough_1 := dk_seg dksX11_isThrough_0 24 rfl rfl
theorem dksX11_isThrough_2 : cX11_isThrough.data.toList.drop 47 = dktX11_isThrough_2 := dk_seg dksX11_isThrough_1 23 rfl rfl
theorem dX11_isThrough_0 : decode cX11_isThrough 0 = .ok (.aload_n 0, 1) := dk_42 (dk_at dksX11_isThrough_0 0 rfl rfl)
theorem dX11_isThrough_1 : decode cX11_isThrough 1 = .ok (.getfield 829, 3) := dk_180 3 61 (dk_at dksX11_isThrough_0 1 rfl rfl)
theorem dX11_isThrough_4 : decode cX11_isThrough 4 = .ok (.aload_n 0, 1) := dk_42 (dk_at dksX11_isThrough_0 4 rfl rfl)
theorem dX11_isThrough_5 : decode cX11_isThrough 5 = .ok (.getfield 758, 3) := dk_180 2 246 (dk_at dksX11_isThrough_0 5 rfl rfl)
theorem dX11_isThrough_8 : decode cX11_isThrough 8 = .ok (.if_icmp .ge 27, 3) := dk_162 0 27 (dk_at dksX11_isThrough_0 8 rfl rfl)
theorem dX11_isThrough_11 : decode cX11_isThrough 11 = .ok (.aload_n 0, 1) := dk_42 (dk_at dksX11_isThrough_0 11 rfl rfl)
theorem dX11_isThrough_12 : decode cX11_isThrough 12 = .ok (.getfield 829, 3) := dk_180 3 61 (dk_at dksX11_isThrough_0 12 rfl rfl)
theorem dX11_isThrough_15 : decode cX11_isThrough 15 = .ok (.aload_n 0, 1) := dk_42 (dk_at dksX11_isThrough_0 15 rfl rfl)
theorem dX11_isThrough_16 : decode cX11_isThrough 16 = .ok (.invokevirtual 918, 3) := dk_182 3 150 (dk_at dksX11_isThrough_0 16 rfl rfl)
theorem dX11_isThrough_19 : decode cX11_isThrough 19 = .ok (.iadd, 1) := dk_96 (dk_at dksX11_isThrough_0 19 rfl rfl)
theorem dX11_isThrough_20 : decode cX11_isThrough 20 = .ok (.aload_n 0, 1) := dk_42 (dk_at dksX11_isThrough_0 20 rfl rfl)
theorem dX11_isThrough_21 : decode cX11_isThrough 21 = .ok (.getfield 758, 3) := dk_180 2 246 (dk_at dksX11_isThrough_0 21 rfl rfl)
theorem dX11_isThrough_24 : decode cX11_isThrough 24 = .ok (.if_icmp .ne 11, 3) := dk_160 0 11 (dk_at dksX11_isThrough_1 0 rfl rfl)
theorem dX11_isThrough_27 : decode cX11_isThrough 27 = .ok (.aload_n 0, 1) := dk_42 (dk_at dksX11_isThrough_1 3 rfl rfl)
theorem dX11_isThrough_28 : decode cX11_isThrough 28 = .ok (.ldc2_w 923, 3) := dk_20 3 155 (dk_at dksX11_isThrough_1 4 rfl rfl)
theorem dX11_isThrough_31 : decode cX11_isThrough 31 = .ok (.invokevirtual 925, 3) := dk_182 3 157 (dk_at dksX11_isThrough_1 7 rfl rfl)
theorem dX11_isThrough_34 : decode cX11_isThrough 34 = .ok (.pop, 1) := dk_87 (dk_at dksX11_isThrough_1 10 rfl rfl)
theorem dX11_isThrough_35 : decode cX11_isThrough 35 = .ok (.aload_n 0, 1) := dk_42 (dk_at dksX11_isThrough_1 11 rfl rfl)
theorem dX11_isThrough_36 : decode cX11_isThrough 36 = .ok (.getfield 829, 3) := dk_180 3 61 (dk_at dksX11_isThrough_1 12 rfl rfl)
theorem dX11_isThrough_39 : decode cX11_isThrough 39 = .ok (.aload_n 0, 1) := dk_42 (dk_at dksX11_isThrough_1 15 rfl rfl)
theorem dX11_isThrough_40 : decode cX11_isThrough 40 = .ok (.getfield 758, 3) := dk_180 2 246 (dk_at dksX11_isThrough_1 16 rfl rfl)
theorem dX11_isThrough_43 : decode cX11_isThrough 43 = .ok (.if_icmp .ne 7, 3) := dk_160 0 7 (dk_at dksX11_isThrough_1 19 rfl rfl)
theorem dX11_isThrough_46 : decode cX11_isThrough 46 = .ok (.iconst 1, 1) := dk_4 (dk_at dksX11_isThrough_1 22 rfl rfl)
theorem dX11_isThrough_47 : decode cX11_isThrough 47 = .ok (.goto 4, 3) := dk_167 0 4 (dk_at dksX11_isThrough_2 0 rfl rfl)
theorem dX11_isThrough_50 : decode cX11_isThrough 50 = .ok (.iconst 0, 1) := dk_3 (dk_at dksX11_isThrough_2 3 rfl rfl)
theorem dX11_isThrough_51 : decode cX11_isThrough 51 = .ok (.ireturn, 1) := dk_172 (dk_at dksX11_isThrough_2 4 rfl rfl)
abbrev cX11_countTransfer : ByteArray := prog_17_method_159_code
def yX11_countTransfer : MethodName := ⟨RX11, "countTransfer", "(Z)V"⟩
def dkwX11_countTransfer_16 : List UInt8 := [47, 22, 4, 101, 22, 6, 182, 3, 201, 55, 6, 167, 255, 9]
abbrev dktX11_countTransfer_16 : List UInt8 := dkwX11_countTransfer_16 ++ []
def dkwX11_countTransfer_15 : List UInt8 := [27, 154, 0, 14, 42, 21, 9, 22, 4, 182, 3, 197, 167, 0, 23, 42, 21, 9, 42, 180, 3, 33, 21, 9]
abbrev dktX11_countTransfer_15 : List UInt8 := dkwX11_countTransfer_15 ++ dktX11_countTransfer_16
def dkwX11_countTransfer_14 : List UInt8 := [132, 11, 1, 167, 255, 209, 167, 255, 62, 42, 180, 3, 182, 21, 9, 4, 84, 42, 4, 21, 9, 182, 3, 147]
abbrev dktX11_countTransfer_14 : List UInt8 := dkwX11_countTransfer_14 ++ dktX11_countTransfer_15
def dkwX11_countTransfer_13 : List UInt8 := [46, 21, 10, 160, 0, 12, 42, 21, 11, 182, 3, 164, 167, 0, 10, 42, 180, 3, 188, 21, 11, 46, 79]
abbrev dktX11_countTransfer_13 : List UInt8 := dkwX11_countTransfer_13 ++ dktX11_countTransfer_14
def dkwX11_countTransfer_12 : List UInt8 := [3, 54, 11, 21, 11, 42, 180, 2, 255, 162, 0, 44, 42, 180, 3, 188, 21, 11, 42, 180, 3, 188, 21, 11]
abbrev dktX11_countTransfer_12 : List UInt8 := dkwX11_countTransfer_12 ++ dktX11_countTransfer_13
def dkwX11_countTransfer_11 : List UInt8 := [153, 0, 4, 177, 42, 22, 4, 182, 3, 194, 54, 9, 21, 9, 156, 0, 66, 42, 4, 182, 3, 167, 54, 10]
abbrev dktX11_countTransfer_11 : List UInt8 := dkwX11_countTransfer_11 ++ dktX11_countTransfer_12
def dkwX11_countTransfer_10 : List UInt8 := [132, 8, 1, 167, 255, 215, 42, 182, 3, 100, 42, 22, 4, 182, 3, 157, 54, 8, 42, 182, 3, 191]
abbrev dktX11_countTransfer_10 : List UInt8 := dkwX11_countTransfer_10 ++ dktX11_countTransfer_11
def dkwX11_countTransfer_9 : List UInt8 := [180, 3, 182, 21, 8, 51, 153, 0, 8, 22, 4, 167, 0, 10, 42, 180, 3, 33, 21, 8, 47, 80]
abbrev dktX11_countTransfer_9 : List UInt8 := dkwX11_countTransfer_9 ++ dktX11_countTransfer_10
def dkwX11_countTransfer_8 : List UInt8 := [167, 255, 212, 3, 54, 8, 21, 8, 42, 180, 2, 243, 162, 0, 38, 42, 180, 3, 33, 21, 8, 42]
abbrev dktX11_countTransfer_8 : List UInt8 := dkwX11_countTransfer_8 ++ dktX11_countTransfer_9
def dkwX11_countTransfer_7 : List UInt8 := [180, 3, 33, 42, 180, 3, 188, 21, 8, 46, 92, 47, 42, 180, 3, 185, 21, 8, 47, 97, 80, 132, 8, 1]
abbrev dktX11_countTransfer_7 : List UInt8 := dkwX11_countTransfer_7 ++ dktX11_countTransfer_8
def dkwX11_countTransfer_6 : List UInt8 := [54, 8, 21, 8, 42, 180, 2, 255, 162, 0, 41, 42, 180, 3, 188, 21, 8, 46, 155, 0, 25, 42]
abbrev dktX11_countTransfer_6 : List UInt8 := dkwX11_countTransfer_6 ++ dktX11_countTransfer_7
def dkwX11_countTransfer_5 : List UInt8 := [180, 3, 188, 21, 8, 42, 21, 8, 182, 3, 164, 79, 132, 8, 1, 167, 255, 223, 42, 182, 3, 43, 3]
abbrev dktX11_countTransfer_5 : List UInt8 := dkwX11_countTransfer_5 ++ dktX11_countTransfer_6
def dkwX11_countTransfer_4 : List UInt8 := [167, 255, 236, 3, 54, 8, 21, 8, 42, 180, 2, 255, 162, 0, 30, 42, 180, 3, 185, 21, 8, 32, 80, 42]
abbrev dktX11_countTransfer_4 : List UInt8 := dkwX11_countTransfer_4 ++ dktX11_countTransfer_5
def dkwX11_countTransfer_3 : List UInt8 := [54, 8, 21, 8, 42, 180, 2, 243, 162, 0, 17, 42, 180, 3, 182, 21, 8, 3, 84, 132, 8, 1]
abbrev dktX11_countTransfer_3 : List UInt8 := dkwX11_countTransfer_3 ++ dktX11_countTransfer_4
def dkwX11_countTransfer_2 : List UInt8 := [96, 108, 4, 96, 133, 105, 55, 4, 42, 180, 2, 237, 133, 55, 6, 42, 182, 3, 161, 42, 182, 3, 179, 3]
abbrev dktX11_countTransfer_2 : List UInt8 := dkwX11_countTransfer_2 ++ dktX11_countTransfer_3
def dkwX11_countTransfer_1 : List UInt8 := [154, 0, 15, 42, 180, 2, 255, 42, 180, 2, 246, 108, 167, 0, 16, 42, 180, 2, 255, 42, 180, 2, 246, 4]
abbrev dktX11_countTransfer_1 : List UInt8 := dkwX11_countTransfer_1 ++ dktX11_countTransfer_2
def dkwX11_countTransfer_0 : List UInt8 := [27, 153, 0, 7, 10, 167, 0, 6, 20, 3, 177, 65, 32, 42, 42, 180, 2, 237, 6, 182, 1, 229]
abbrev dktX11_countTransfer_0 : List UInt8 := dkwX11_countTransfer_0 ++ dktX11_countTransfer_1
theorem dksX11_countTransfer_0 : cX11_countTransfer.data.toList.drop 0 = dktX11_countTransfer_0 := by decide +kernel
theorem dksX11_countTransfer_1 : cX11_countTransfer.data.toList.drop 22 = dktX11_countTransfer_1 := dk_seg dksX11_countTransfer_0 22 rfl rfl
theorem dksX11_countTransfer_2 : cX11_countTransfer.data.toList.drop 46 = dktX11_countTransfer_2 := dk_seg dksX11_countTransfer_1 24 rfl rfl
theorem dksX11_countTransfer_3 : cX11_countTransfer.data.toList.drop 70 = dktX11_countTransfer_3 := dk_seg dksX11_countTransfer_2 24 rfl rfl
theorem dksX11_countTransfer_4 : cX11_countTransfer.data.toList.drop 92 = dktX11_countTransfer_4 := dk_seg dksX11_countTransfer_3 22 rfl rfl
theorem dksX11_countTransfer_5 : cX11_countTransfer.data.toList.drop 116 = dktX11_countTransfer_5 := dk_seg dksX11_countTransfer_4 24 rfl rfl
theorem dksX11_countTransfer_6 : cX11_countTransfer.data.toList.drop 139 = dktX11_countTransfer_6 := dk_seg dksX11_countTransfer_5 23 rfl rfl
theorem dksX11_countTransfer_7 : cX11_countTransfer.data.toList.drop 161 = dktX11_countTransfer_7 := dk_seg dksX11_countTransfer_6 22 rfl rfl
theorem dksX11_countTransfer_8 : cX11_countTransfer.data.toList.drop 185 = dktX11_countTransfer_8 := dk_seg dksX11_countTransfer_7 24 rfl rfl
theorem dksX11_countTransfer_9 : cX11_countTransfer.data.toList.drop 207 = dktX11_countTransfer_9 := dk_seg dksX11_countTransfer_8 22 rfl rfl
theorem dksX11_countTransfer_10 : cX11_countTransfer.data.toList.drop 229 = dktX11_countTransfer_10 := dk_seg dksX11_countTransfer_9 22 rfl rfl
theorem dksX11_countTransfer_11 : cX11_countTransfer.data.toList.drop 251 = dktX11_countTransfer_11 := dk_seg dksX11_countTransfer_10 22 rfl rfl
theorem dksX11_countTransfer_12 : cX11_countTransfer.data.toList.drop 275 = dktX11_countTransfer_12 := dk_seg dksX11_countTransfer_11 24 rfl rfl
theorem dksX11_countTransfer_13 : cX11_countTransfer.data.toList.drop 299 = dktX11_countTransfer_13 := dk_seg dksX11_countTransfer_12 24 rfl rfl
theorem dksX11_countTransfer_14 : cX11_countTransfer.data.toList.drop 322 = dktX11_countTransfer_14 := dk_seg dksX11_countTransfer_13 23 rfl rfl
theorem dksX11_countTransfer_15 : cX11_countTransfer.data.toList.drop 346 = dktX11_countTransfer_15 := dk_seg dksX11_countTransfer_14 24 rfl rfl
theorem dksX11_countTransfer_16 : cX11_countTransfer.data.toList.drop 370 = dktX11_countTransfer_16 := dk_seg dksX11_countTransfer_15 24 rfl rfl
theorem dX11_countTransfer_0 : decode cX11_countTransfer 0 = .ok (.iload_n 1, 1) := dk_27 (dk_at dksX11_countTransfer_0 0 rfl rfl)
theorem dX11_countTransfer_1 : decode cX11_countTransfer 1 = .ok (.ifCond .eq 7, 3) := dk_153 0 7 (dk_at dksX11_countTransfer_0 1 rfl rfl)
theorem dX11_countTransfer_4 : decode cX11_countTransfer 4 = .ok (.lconst 1, 1) := dk_10 (dk_at dksX11_countTransfer_0 4 rfl rfl)
theorem dX11_countTransfer_5 : decode cX11_countTransfer 5 = .ok (.goto 6, 3) := dk_167 0 6 (dk_at dksX11_countTransfer_0 5 rfl rfl)
theorem dX11_countTransfer_8 : decode cX11_countTransfer 8 = .ok (.ldc2_w 945, 3) := dk_20 3 177 (dk_at dksX11_countTransfer_0 8 rfl rfl)
theorem dX11_countTransfer_11 : decode cX11_countTransfer 11 = .ok (.lstore_n 2, 1) := dk_65 (dk_at dksX11_countTransfer_0 11 rfl rfl)
theorem dX11_countTransfer_12 : decode cX11_countTransfer 12 = .ok (.lload_n 2, 1) := dk_32 (dk_at dksX11_countTransfer_0 12 rfl rfl)
theorem dX11_countTransfer_13 : decode cX11_countTransfer 13 = .ok (.aload_n 0, 1) := dk_42 (dk_at dksX11_countTransfer_0 13 rfl rfl)
theorem dX11_countTransfer_14 : decode cX11_countTransfer 14 = .ok (.aload_n 0, 1) := dk_42 (dk_at dksX11_countTransfer_0 14 rfl rfl)
theorem dX11_countTransfer_15 : decode cX11_countTransfer 15 = .ok (.getfield 749, 3) := dk_180 2 237 (dk_at dksX11_countTransfer_0 15 rfl rfl)
theorem dX11_countTransfer_18 : decode cX11_countTransfer 18 = .ok (.iconst 3, 1) := dk_6 (dk_at dksX11_countTransfer_0 18 rfl rfl)
theorem dX11_countTransfer_19 : decode cX11_countTransfer 19 = .ok (.invokevirtual 485, 3) := dk_182 1 229 (dk_at dksX11_countTransfer_0 19 rfl rfl)
theorem dX11_countTransfer_22 : decode cX11_countTransfer 22 = .ok (.ifCond .ne 15, 3) := dk_154 0 15 (dk_at dksX11_countTransfer_1 0 rfl rfl)
theorem dX11_countTransfer_25 : decode cX11_countTransfer 25 = .ok (.aload_n 0, 1) := dk_42 (dk_at dksX11_countTransfer_1 3 rfl rfl)
theorem dX11_countTransfer_26 : decode cX11_countTransfer 26 = .ok (.getfield 767, 3) := dk_180 2 255 (dk_at dksX11_countTransfer_1 4 rfl rfl)
theorem dX11_countTransfer_29 : decode cX11_countTransfer 29 = .ok (.aload_n 0, 1) := dk_42 (dk_at dksX11_countTransfer_1 7 rfl rfl)
theorem dX11_countTransfer_30 : decode cX11_countTransfer 30 = .ok (.getfield 758, 3) := dk_180 2 246 (dk_at dksX11_countTransfer_1 8 rfl rfl)
theorem dX11_countTransfer_33 : decode cX11_countTransfer 33 = .ok (.idiv, 1) := dk_108 (dk_at dksX11_countTransfer_1 11 rfl rfl)
theorem dX11_countTransfer_34 : decode cX11_countTransfer 34 = .ok (.goto 16, 3) := dk_167 0 16 (dk_at dksX11_countTransfer_1 12 rfl rfl)
theorem dX11_countTransfer_37 : decode cX11_countTransfer 37 = .ok (.aload_n 0, 1) := dk_42 (dk_at dksX11_countTransfer_1 15 rfl rfl)
theorem dX11_countTransfer_38 : decode cX11_countTransfer 38 = .ok (.getfield 767, 3) := dk_180 2 255 (dk_at dksX11_countTransfer_1 16 rfl rfl)
theorem dX11_countTransfer_41 : decode cX11_countTransfer 41 = .ok (.aload_n 0, 1) := dk_42 (dk_at dksX11_countTransfer_1 19 rfl rfl)
theorem dX11_countTransfer_42 : decode cX11_countTransfer 42 = .ok (.getfield 758, 3) := dk_180 2 246 (dk_at dksX11_countTransfer_1 20 rfl rfl)
theorem dX11_countTransfer_45 : decode cX11_countTransfer 45 = .ok (.iconst 1, 1) := dk_4 (dk_at dksX11_countTransfer_1 23 rfl rfl)
theorem dX11_countTransfer_46 : decode cX11_countTransfer 46 = .ok (.iadd, 1) := dk_96 (dk_at dksX11_countTransfer_2 0 rfl rfl)
theorem dX11_countTransfer_47 : decode cX11_countTransfer 47 = .ok (.idiv, 1) := dk_108 (dk_at dksX11_countTransfer_2 1 rfl rfl)
theorem dX11_countTransfer_48 : decode cX11_countTransfer 48 = .ok (.iconst 1, 1) := dk_4 (dk_at dksX11_countTransfer_2 2 rfl rfl)
theorem dX11_countTransfer_49 : decode cX11_countTransfer 49 = .ok (.iadd, 1) := dk_96 (dk_at dksX11_countTransfer_2 3 rfl rfl)
theorem dX11_countTransfer_50 : decode cX11_countTransfer 50 = .ok (.i2l, 1) := dk_133 (dk_at dksX11_countTransfer_2 4 rfl rfl)
theorem dX11_countTransfer_51 : decode cX11_countTransfer 51 = .ok (.lmul, 1) := dk_105 (dk_at dksX11_countTransfer_2 5 rfl rfl)
theorem dX11_countTransfer_52 : decode cX11_countTransfer 52 = .ok (.lstore 4, 2) := dk_55 4 (dk_at dksX11_countTransfer_2 6 rfl rfl)
theorem dX11_countTransfer_54 : decode cX11_countTransfer 54 = .ok (.aload_n 0, 1) := dk_42 (dk_at dksX11_countTransfer_2 8 rfl rfl)
theorem dX11_countTransfer_55 : decode cX11_countTransfer 55 = .ok (.getfield 749, 3) := dk_180 2 237 (dk_at dksX11_countTransfer_2 9 rfl rfl)
theorem dX11_countTransfer_58 : decode cX11_countTransfer 58 = .ok (.i2l, 1) := dk_133 (dk_at dksX11_countTransfer_2 12 rfl rfl)
theorem dX11_countTransfer_59 : decode cX11_countTransfer 59 = .ok (.lstore 6, 2) := dk_55 6 (dk_at dksX11_countTransfer_2 13 rfl rfl)
theorem dX11_countTransfer_61 : decode cX11_countTransfer 61 = .ok (.aload_n 0, 1) := dk_42 (dk_at dksX11_countTransfer_2 15 rfl rfl)
theorem dX11_countTransfer_62 : decode cX11_countTransfer 62 = .ok (.invokevirtual 929, 3) := dk_182 3 161 (dk_at dksX11_countTransfer_2 16 rfl rfl)
theorem dX11_countTransfer_65 : decode cX11_countTransfer 65 = .ok (.aload_n 0, 1) := dk_42 (dk_at dksX11_countTransfer_2 19 rfl rfl)
theorem dX11_countTransfer_66 : decode cX11_countTransfer 66 = .ok (.invokevirtual 947, 3) := dk_182 3 179 (dk_at dksX11_countTransfer_2 20 rfl rfl)
theorem dX11_countTransfer_69 : decode cX11_countTransfer 69 = .ok (.iconst 0, 1) := dk_3 (dk_at dksX11_countTransfer_2 23 rfl rfl)
theorem dX11_countTransfer_70 : decode cX11_countTransfer 70 = .ok (.istore 8, 2) := dk_54 8 (dk_at dksX11_countTransfer_3 0 rfl rfl)
theorem dX11_countTransfer_72 : decode cX11_countTransfer 72 = .ok (.iload 8, 2) := dk_21 8 (dk_at dksX11_countTransfer_3 2 rfl rfl)
theorem dX11_countTransfer_74 : decode cX11_countTransfer 74 = .ok (.aload_n 0, 1) := dk_42 (dk_at dksX11_countTransfer_3 4 rfl rfl)
theorem dX11_countTransfer_75 : decode cX11_countTransfer 75 = .ok (.getfield 755, 3) := dk_180 2 243 (dk_at dksX11_countTransfer_3 5 rfl rfl)
theorem dX11_countTransfer_78 : decode cX11_countTransfer 78 = .ok (.if_icmp .ge 17, 3) := dk_162 0 17 (dk_at dksX11_countTransfer_3 8 rfl rfl)
theorem dX11_countTransfer_81 : decode cX11_countTransfer 81 = .ok (.aload_n 0, 1) := dk_42 (dk_at dksX11_countTransfer_3 11 rfl rfl)
theorem dX11_countTransfer_82 : decode cX11_countTransfer 82 = .ok (.getfield 950, 3) := dk_180 3 182 (dk_at dksX11_countTransfer_3 12 rfl rfl)
theorem dX11_countTransfer_85 : decode cX11_countTransfer 85 = .ok (.iload 8, 2) := dk_21 8 (dk_at dksX11_countTransfer_3 15 rfl rfl)
theorem dX11_countTransfer_87 : decode cX11_countTransfer 87 = .ok (.iconst 0, 1) := dk_3 (dk_at dksX11_countTransfer_3 17 rfl rfl)
theorem dX11_countTransfer_88 : decode cX11_countTransfer 88 = .ok (.bastore, 1) := dk_84 (dk_at dksX11_countTransfer_3 18 rfl rfl)
theorem dX11_countTransfer_89 : decode cX11_countTransfer 89 = .ok (.iinc 8 1, 3) := dk_132 8 1 (dk_at dksX11_countTransfer_3 19 rfl rfl)
theorem dX11_countTransfer_92 : decode cX11_countTransfer 92 = .ok (.goto (-20), 3) := dk_167 255 236 (dk_at dksX11_countTransfer_4 0 rfl rfl)
theorem dX11_countTransfer_95 : decode cX11_countTransfer 95 = .ok (.iconst 0, 1) := dk_3 (dk_at dksX11_countTransfer_4 3 rfl rfl)
theorem dX11_countTransfer_96 : decode cX11_countTransfer 96 = .ok (.istore 8, 2) := dk_54 8 (dk_at dksX11_countTransfer_4 4 rfl rfl)
theorem dX11_countTransfer_98 : decode cX11_countTransfer 98 = .ok (.iload 8, 2) := dk_21 8 (dk_at dksX11_countTransfer_4 6 rfl rfl)
theorem dX11_countTransfer_100 : decode cX11_countTransfer 100 = .ok (.aload_n 0, 1) := dk_42 (dk_at dksX11_countTransfer_4 8 rfl rfl)
theorem dX11_countTransfer_101 : decode cX11_countTransfer 101 = .ok (.getfield 767, 3) := dk_180 2 255 (dk_at dksX11_countTransfer_4 9 rfl rfl)
theorem dX11_countTransfer_104 : decode cX11_countTransfer 104 = .ok (.if_icmp .ge 30, 3) := dk_162 0 30 (dk_at dksX11_countTransfer_4 12 rfl rfl)
theorem dX11_countTransfer_107 : decode cX11_countTransfer 107 = .ok (.aload_n 0, 1) := dk_42 (dk_at dksX11_countTransfer_4 15 rfl rfl)
theorem dX11_countTransfer_108 : decode cX11_countTransfer 108 = .ok (.getfield 953, 3) := dk_180 3 185 (dk_at dksX11_countTransfer_4 16 rfl rfl)
theorem dX11_countTransfer_111 : decode cX11_countTransfer 111 = .ok (.iload 8, 2) := dk_21 8 (dk_at dksX11_countTransfer_4 19 rfl rfl)
theorem dX11_countTransfer_113 : decode cX11_countTransfer 113 = .ok (.lload_n 2, 1) := dk_32 (dk_at dksX11_countTransfer_4 21 rfl rfl)
theorem dX11_countTransfer_114 : decode cX11_countTransfer 114 = .ok (.lastore, 1) := dk_80 (dk_at dksX11_countTransfer_4 22 rfl rfl)
theorem dX11_countTransfer_115 : decode cX11_countTransfer 115 = .ok (.aload_n 0, 1) := dk_42 (dk_at dksX11_countTransfer_4 23 rfl rfl)
theorem dX11_countTransfer_116 : decode cX11_countTransfer 116 = .ok (.getfield 956, 3) := dk_180 3 188 (dk_at dksX11_countTransfer_5 0 rfl rfl)
theorem dX11_countTransfer_119 : decode cX11_countTransfer 119 = .ok (.iload 8, 2) := dk_21 8 (dk_at dksX11_countTransfer_5 3 rfl rfl)
theorem dX11_countTransfer_121 : decode cX11_countTransfer 121 = .ok (.aload_n 0, 1) := dk_42 (dk_at dksX11_countTransfer_5 5 rfl rfl)
theorem dX11_countTransfer_122 : decode cX11_countTransfer 122 = .ok (.iload 8, 2) := dk_21 8 (dk_at dksX11_countTransfer_5 6 rfl rfl)
theorem dX11_countTransfer_124 : decode cX11_countTransfer 124 = .ok (.invokevirtual 932, 3) := dk_182 3 164 (dk_at dksX11_countTransfer_5 8 rfl rfl)
theorem dX11_countTransfer_127 : decode cX11_countTransfer 127 = .ok (.iastore, 1) := dk_79 (dk_at dksX11_countTransfer_5 11 rfl rfl)
theorem dX11_countTransfer_128 : decode cX11_countTransfer 128 = .ok (.iinc 8 1, 3) := dk_132 8 1 (dk_at dksX11_countTransfer_5 12 rfl rfl)
theorem dX11_countTransfer_131 : decode cX11_countTransfer 131 = .ok (.goto (-33), 3) := dk_167 255 223 (dk_at dksX11_countTransfer_5 15 rfl rfl)
theorem dX11_countTransfer_134 : decode cX11_countTransfer 134 = .ok (.aload_n 0, 1) := dk_42 (dk_at dksX11_countTransfer_5 18 rfl rfl)
theorem dX11_countTransfer_135 : decode cX11_countTransfer 135 = .ok (.invokevirtual 811, 3) := dk_182 3 43 (dk_at dksX11_countTransfer_5 19 rfl rfl)
theorem dX11_countTransfer_138 : decode cX11_countTransfer 138 = .ok (.iconst 0, 1) := dk_3 (dk_at dksX11_countTransfer_5 22 rfl rfl)
theorem dX11_countTransfer_139 : decode cX11_countTransfer 139 = .ok (.istore 8, 2) := dk_54 8 (dk_at dksX11_countTransfer_6 0 rfl rfl)
theorem dX11_countTransfer_141 : decode cX11_countTransfer 141 = .ok (.iload 8, 2) := dk_21 8 (dk_at dksX11_countTransfer_6 2 rfl rfl)
theorem dX11_countTransfer_143 : decode cX11_countTransfer 143 = .ok (.aload_n 0, 1) := dk_42 (dk_at dksX11_countTransfer_6 4 rfl rfl)
theorem dX11_countTransfer_144 : decode cX11_countTransfer 144 = .ok (.getfield 767, 3) := dk_180 2 255 (dk_at dksX11_countTransfer_6 5 rfl rfl)
theorem dX11_countTransfer_147 : decode cX11_countTransfer 147 = .ok (.if_icmp .ge 41, 3) := dk_162 0 41 (dk_at dksX11_countTransfer_6 8 rfl rfl)
theorem dX11_countTransfer_150 : decode cX11_countTransfer 150 = .ok (.aload_n 0, 1) := dk_42 (dk_at dksX11_countTransfer_6 11 rfl rfl)
theorem dX11_countTransfer_151 : decode cX11_countTransfer 151 = .ok (.getfield 956, 3) := dk_180 3 188 (dk_at dksX11_countTransfer_6 12 rfl rfl)
theorem dX11_countTransfer_154 : decode cX11_countTransfer 154 = .ok (.iload 8, 2) := dk_21 8 (dk_at dksX11_countTransfer_6 15 rfl rfl)
theorem dX11_countTransfer_156 : decode cX11_countTransfer 156 = .ok (.iaload, 1) := dk_46 (dk_at dksX11_countTransfer_6 17 rfl rfl)
theorem dX11_countTransfer_157 : decode cX11_countTransfer 157 = .ok (.ifCond .lt 25, 3) := dk_155 0 25 (dk_at dksX11_countTransfer_6 18 rfl rfl)
theorem dX11_countTransfer_160 : decode cX11_countTransfer 160 = .ok (.aload_n 0, 1) := dk_42 (dk_at dksX11_countTransfer_6 21 rfl rfl)
theorem dX11_countTransfer_161 : decode cX11_countTransfer 161 = .ok (.getfield 801, 3) := dk_180 3 33 (dk_at dksX11_countTransfer_7 0 rfl rfl)
theorem dX11_countTransfer_164 : decode cX11_countTransfer 164 = .ok (.aload_n 0, 1) := dk_42 (dk_at dksX11_countTransfer_7 3 rfl rfl)
theorem dX11_countTransfer_165 : decode cX11_countTransfer 165 = .ok (.getfield 956, 3) := dk_180 3 188 (dk_at dksX11_countTransfer_7 4 rfl rfl)
theorem dX11_countTransfer_168 : decode cX11_countTransfer 168 = .ok (.iload 8, 2) := dk_21 8 (dk_at dksX11_countTransfer_7 7 rfl rfl)
theorem dX11_countTransfer_170 : decode cX11_countTransfer 170 = .ok (.iaload, 1) := dk_46 (dk_at dksX11_countTransfer_7 9 rfl rfl)
theorem dX11_countTransfer_171 : decode cX11_countTransfer 171 = .ok (.dup2, 1) := dk_92 (dk_at dksX11_countTransfer_7 10 rfl rfl)
theorem dX11_countTransfer_172 : decode cX11_countTransfer 172 = .ok (.laload, 1) := dk_47 (dk_at dksX11_countTransfer_7 11 rfl rfl)
theorem dX11_countTransfer_173 : decode cX11_countTransfer 173 = .ok (.aload_n 0, 1) := dk_42 (dk_at dksX11_countTransfer_7 12 rfl rfl)
theorem dX11_countTransfer_174 : decode cX11_countTransfer 174 = .ok (.getfield 953, 3) := dk_180 3 185 (dk_at dksX11_countTransfer_7 13 rfl rfl)
theorem dX11_countTransfer_177 : decode cX11_countTransfer 177 = .ok (.iload 8, 2) := dk_21 8 (dk_at dksX11_countTransfer_7 16 rfl rfl)
theorem dX11_countTransfer_179 : decode cX11_countTransfer 179 = .ok (.laload, 1) := dk_47 (dk_at dksX11_countTransfer_7 18 rfl rfl)
theorem dX11_countTransfer_180 : decode cX11_countTransfer 180 = .ok (.ladd, 1) := dk_97 (dk_at dksX11_countTransfer_7 19 rfl rfl)
theorem dX11_countTransfer_181 : decode cX11_countTransfer 181 = .ok (.lastore, 1) := dk_80 (dk_at dksX11_countTransfer_7 20 rfl rfl)
theorem dX11_countTransfer_182 : decode cX11_countTransfer 182 = .ok (.iinc 8 1, 3) := dk_132 8 1 (dk_at dksX11_countTransfer_7 21 rfl rfl)
theorem dX11_countTransfer_185 : decode cX11_countTransfer 185 = .ok (.goto (-44), 3) := dk_167 255 212 (dk_at dksX11_countTransfer_8 0 rfl rfl)
theorem dX11_countTransfer_188 : decode cX11_countTransfer 188 = .ok (.iconst 0, 1) := dk_3 (dk_at dksX11_countTransfer_8 3 rfl rfl)
theorem dX11_countTransfer_189 : decode cX11_countTransfer 189 = .ok (.istore 8, 2) := dk_54 8 (dk_at dksX11_countTransfer_8 4 rfl rfl)
theorem dX11_countTransfer_191 : decode cX11_countTransfer 191 = .ok (.iload 8, 2) := dk_21 8 (dk_at dksX11_countTransfer_8 6 rfl rfl)
theorem dX11_countTransfer_193 : decode cX11_countTransfer 193 = .ok (.aload_n 0, 1) := dk_42 (dk_at dksX11_countTransfer_8 8 rfl rfl)
theorem dX11_countTransfer_194 : decode cX11_countTransfer 194 = .ok (.getfield 755, 3) := dk_180 2 243 (dk_at dksX11_countTransfer_8 9 rfl rfl)
theorem dX11_countTransfer_197 : decode cX11_countTransfer 197 = .ok (.if_icmp .ge 38, 3) := dk_162 0 38 (dk_at dksX11_countTransfer_8 12 rfl rfl)
theorem dX11_countTransfer_200 : decode cX11_countTransfer 200 = .ok (.aload_n 0, 1) := dk_42 (dk_at dksX11_countTransfer_8 15 rfl rfl)
theorem dX11_countTransfer_201 : decode cX11_countTransfer 201 = .ok (.getfield 801, 3) := dk_180 3 33 (dk_at dksX11_countTransfer_8 16 rfl rfl)
theorem dX11_countTransfer_204 : decode cX11_countTransfer 204 = .ok (.iload 8, 2) := dk_21 8 (dk_at dksX11_countTransfer_8 19 rfl rfl)
theorem dX11_countTransfer_206 : decode cX11_countTransfer 206 = .ok (.aload_n 0, 1) := dk_42 (dk_at dksX11_countTransfer_8 21 rfl rfl)
theorem dX11_countTransfer_207 : decode cX11_countTransfer 207 = .ok (.getfield 950, 3) := dk_180 3 182 (dk_at dksX11_countTransfer_9 0 rfl rfl)
theorem dX11_countTransfer_210 : decode cX11_countTransfer 210 = .ok (.iload 8, 2) := dk_21 8 (dk_at dksX11_countTransfer_9 3 rfl rfl)
theorem dX11_countTransfer_212 : decode cX11_countTransfer 212 = .ok (.baload, 1) := dk_51 (dk_at dksX11_countTransfer_9 5 rfl rfl)
theorem dX11_countTransfer_213 : decode cX11_countTransfer 213 = .ok (.ifCond .eq 8, 3) := dk_153 0 8 (dk_at dksX11_countTransfer_9 6 rfl rfl)
theorem dX11_countTransfer_216 : decode cX11_countTransfer 216 = .ok (.lload 4, 2) := dk_22 4 (dk_at dksX11_countTransfer_9 9 rfl rfl)
theorem dX11_countTransfer_218 : decode cX11_countTransfer 218 = .ok (.goto 10, 3) := dk_167 0 10 (dk_at dksX11_countTransfer_9 11 rfl rfl)
theorem dX11_countTransfer_221 : decode cX11_countTransfer 221 = .ok (.aload_n 0, 1) := dk_42 (dk_at dksX11_countTransfer_9 14 rfl rfl)
theorem dX11_countTransfer_222 : decode cX11_countTransfer 222 = .ok (.getfield 801, 3) := dk_180 3 33 (dk_at dksX11_countTransfer_9 15 rfl rfl)
theorem dX11_countTransfer_225 : decode cX11_countTransfer 225 = .ok (.iload 8, 2) := dk_21 8 (dk_at dksX11_countTransfer_9 18 rfl rfl)
theorem dX11_countTransfer_227 : decode cX11_countTransfer 227 = .ok (.laload, 1) := dk_47 (dk_at dksX11_countTransfer_9 20 rfl rfl)
theorem dX11_countTransfer_228 : decode cX11_countTransfer 228 = .ok (.lastore, 1) := dk_80 (dk_at dksX11_countTransfer_9 21 rfl rfl)
theorem dX11_countTransfer_229 : decode cX11_countTransfer 229 = .ok (.iinc 8 1, 3) := dk_132 8 1 (dk_at dksX11_countTransfer_10 0 rfl rfl)
theorem dX11_countTransfer_232 : decode cX11_countTransfer 232 = .ok (.goto (-41), 3) := dk_167 255 215 (dk_at dksX11_countTransfer_10 3 rfl rfl)
theorem dX11_countTransfer_235 : decode cX11_countTransfer 235 = .ok (.aload_n 0, 1) := dk_42 (dk_at dksX11_countTransfer_10 6 rfl rfl)
theorem dX11_countTransfer_236 : decode cX11_countTransfer 236 = .ok (.invokevirtual 868, 3) := dk_182 3 100 (dk_at dksX11_countTransfer_10 7 rfl rfl)
theorem dX11_countTransfer_239 : decode cX11_countTransfer 239 = .ok (.aload_n 0, 1) := dk_42 (dk_at dksX11_countTransfer_10 10 rfl rfl)
theorem dX11_countTransfer_240 : decode cX11_countTransfer 240 = .ok (.lload 4, 2) := dk_22 4 (dk_at dksX11_countTransfer_10 11 rfl rfl)
theorem dX11_countTransfer_242 : decode cX11_countTransfer 242 = .ok (.invokevirtual 925, 3) := dk_182 3 157 (dk_at dksX11_countTransfer_10 13 rfl rfl)
theorem dX11_countTransfer_245 : decode cX11_countTransfer 245 = .ok (.istore 8, 2) := dk_54 8 (dk_at dksX11_countTransfer_10 16 rfl rfl)
theorem dX11_countTransfer_247 : decode cX11_countTransfer 247 = .ok (.aload_n 0, 1) := dk_42 (dk_at dksX11_countTransfer_10 18 rfl rfl)
theorem dX11_countTransfer_248 : decode cX11_countTransfer 248 = .ok (.invokevirtual 959, 3) := dk_182 3 191 (dk_at dksX11_countTransfer_10 19 rfl rfl)
theorem dX11_countTransfer_251 : decode cX11_countTransfer 251 = .ok (.ifCond .eq 4, 3) := dk_153 0 4 (dk_at dksX11_countTransfer_11 0 rfl rfl)
theorem dX11_countTransfer_254 : decode cX11_countTransfer 254 = .ok (.return_, 1) := dk_177 (dk_at dksX11_countTransfer_11 3 rfl rfl)
theorem dX11_countTransfer_255 : decode cX11_countTransfer 255 = .ok (.aload_n 0, 1) := dk_42 (dk_at dksX11_countTransfer_11 4 rfl rfl)
theorem dX11_countTransfer_256 : decode cX11_countTransfer 256 = .ok (.lload 4, 2) := dk_22 4 (dk_at dksX11_countTransfer_11 5 rfl rfl)
theorem dX11_countTransfer_258 : decode cX11_countTransfer 258 = .ok (.invokevirtual 962, 3) := dk_182 3 194 (dk_at dksX11_countTransfer_11 7 rfl rfl)
theorem dX11_countTransfer_261 : decode cX11_countTransfer 261 = .ok (.istore 9, 2) := dk_54 9 (dk_at dksX11_countTransfer_11 10 rfl rfl)
theorem dX11_countTransfer_263 : decode cX11_countTransfer 263 = .ok (.iload 9, 2) := dk_21 9 (dk_at dksX11_countTransfer_11 12 rfl rfl)
theorem dX11_countTransfer_265 : decode cX11_countTransfer 265 = .ok (.ifCond .ge 66, 3) := dk_156 0 66 (dk_at dksX11_countTransfer_11 14 rfl rfl)
theorem dX11_countTransfer_268 : decode cX11_countTransfer 268 = .ok (.aload_n 0, 1) := dk_42 (dk_at dksX11_countTransfer_11 17 rfl rfl)
theorem dX11_countTransfer_269 : decode cX11_countTransfer 269 = .ok (.iconst 1, 1) := dk_4 (dk_at dksX11_countTransfer_11 18 rfl rfl)
theorem dX11_countTransfer_270 : decode cX11_countTransfer 270 = .ok (.invokevirtual 935, 3) := dk_182 3 167 (dk_at dksX11_countTransfer_11 19 rfl rfl)
theorem dX11_countTransfer_273 : decode cX11_countTransfer 273 = .ok (.istore 10, 2) := dk_54 10 (dk_at dksX11_countTransfer_11 22 rfl rfl)
theorem dX11_countTransfer_275 : decode cX11_countTransfer 275 = .ok (.iconst 0, 1) := dk_3 (dk_at dksX11_countTransfer_12 0 rfl rfl)
theorem dX11_countTransfer_276 : decode cX11_countTransfer 276 = .ok (.istore 11, 2) := dk_54 11 (dk_at dksX11_countTransfer_12 1 rfl rfl)
theorem dX11_countTransfer_278 : decode cX11_countTransfer 278 = .ok (.iload 11, 2) := dk_21 11 (dk_at dksX11_countTransfer_12 3 rfl rfl)
theorem dX11_countTransfer_280 : decode cX11_countTransfer 280 = .ok (.aload_n 0, 1) := dk_42 (dk_at dksX11_countTransfer_12 5 rfl rfl)
theorem dX11_countTransfer_281 : decode cX11_countTransfer 281 = .ok (.getfield 767, 3) := dk_180 2 255 (dk_at dksX11_countTransfer_12 6 rfl rfl)
theorem dX11_countTransfer_284 : decode cX11_countTransfer 284 = .ok (.if_icmp .ge 44, 3) := dk_162 0 44 (dk_at dksX11_countTransfer_12 9 rfl rfl)
theorem dX11_countTransfer_287 : decode cX11_countTransfer 287 = .ok (.aload_n 0, 1) := dk_42 (dk_at dksX11_countTransfer_12 12 rfl rfl)
theorem dX11_countTransfer_288 : decode cX11_countTransfer 288 = .ok (.getfield 956, 3) := dk_180 3 188 (dk_at dksX11_countTransfer_12 13 rfl rfl)
theorem dX11_countTransfer_291 : decode cX11_countTransfer 291 = .ok (.iload 11, 2) := dk_21 11 (dk_at dksX11_countTransfer_12 16 rfl rfl)
theorem dX11_countTransfer_293 : decode cX11_countTransfer 293 = .ok (.aload_n 0, 1) := dk_42 (dk_at dksX11_countTransfer_12 18 rfl rfl)
theorem dX11_countTransfer_294 : decode cX11_countTransfer 294 = .ok (.getfield 956, 3) := dk_180 3 188 (dk_at dksX11_countTransfer_12 19 rfl rfl)
theorem dX11_countTransfer_297 : decode cX11_countTransfer 297 = .ok (.iload 11, 2) := dk_21 11 (dk_at dksX11_countTransfer_12 22 rfl rfl)
theorem dX11_countTransfer_299 : decode cX11_countTransfer 299 = .ok (.iaload, 1) := dk_46 (dk_at dksX11_countTransfer_13 0 rfl rfl)
theorem dX11_countTransfer_300 : decode cX11_countTransfer 300 = .ok (.iload 10, 2) := dk_21 10 (dk_at dksX11_countTransfer_13 1 rfl rfl)
theorem dX11_countTransfer_302 : decode cX11_countTransfer 302 = .ok (.if_icmp .ne 12, 3) := dk_160 0 12 (dk_at dksX11_countTransfer_13 3 rfl rfl)
theorem dX11_countTransfer_305 : decode cX11_countTransfer 305 = .ok (.aload_n 0, 1) := dk_42 (dk_at dksX11_countTransfer_13 6 rfl rfl)
theorem dX11_countTransfer_306 : decode cX11_countTransfer 306 = .ok (.iload 11, 2) := dk_21 11 (dk_at dksX11_countTransfer_13 7 rfl rfl)
theorem dX11_countTransfer_308 : decode cX11_countTransfer 308 = .ok (.invokevirtual 932, 3) := dk_182 3 164 (dk_at dksX11_countTransfer_13 9 rfl rfl)
theorem dX11_countTransfer_311 : decode cX11_countTransfer 311 = .ok (.goto 10, 3) := dk_167 0 10 (dk_at dksX11_countTransfer_13 12 rfl rfl)
theorem dX11_countTransfer_314 : decode cX11_countTransfer 314 = .ok (.aload_n 0, 1) := dk_42 (dk_at dksX11_countTransfer_13 15 rfl rfl)
theorem dX11_countTransfer_315 : decode cX11_countTransfer 315 = .ok (.getfield 956, 3) := dk_180 3 188 (dk_at dksX11_countTransfer_13 16 rfl rfl)
theorem dX11_countTransfer_318 : decode cX11_countTransfer 318 = .ok (.iload 11, 2) := dk_21 11 (dk_at dksX11_countTransfer_13 19 rfl rfl)
theorem dX11_countTransfer_320 : decode cX11_countTransfer 320 = .ok (.iaload, 1) := dk_46 (dk_at dksX11_countTransfer_13 21 rfl rfl)
theorem dX11_countTransfer_321 : decode cX11_countTransfer 321 = .ok (.iastore, 1) := dk_79 (dk_at dksX11_countTransfer_13 22 rfl rfl)
theorem dX11_countTransfer_322 : decode cX11_countTransfer 322 = .ok (.iinc 11 1, 3) := dk_132 11 1 (dk_at dksX11_countTransfer_14 0 rfl rfl)
theorem dX11_countTransfer_325 : decode cX11_countTransfer 325 = .ok (.goto (-47), 3) := dk_167 255 209 (dk_at dksX11_countTransfer_14 3 rfl rfl)
theorem dX11_countTransfer_328 : decode cX11_countTransfer 328 = .ok (.goto (-194), 3) := dk_167 255 62 (dk_at dksX11_countTransfer_14 6 rfl rfl)
theorem dX11_countTransfer_331 : decode cX11_countTransfer 331 = .ok (.aload_n 0, 1) := dk_42 (dk_at dksX11_countTransfer_14 9 rfl rfl)
theorem dX11_countTransfer_332 : decode cX11_countTransfer 332 = .ok (.getfield 950, 3) := dk_180 3 182 (dk_at dksX11_countTransfer_14 10 rfl rfl)
theorem dX11_countTransfer_335 : decode cX11_countTransfer 335 = .ok (.iload 9, 2) := dk_21 9 (dk_at dksX11_countTransfer_14 13 rfl rfl)
theorem dX11_countTransfer_337 : decode cX11_countTransfer 337 = .ok (.iconst 1, 1) := dk_4 (dk_at dksX11_countTransfer_14 15 rfl rfl)
theorem dX11_countTransfer_338 : decode cX11_countTransfer 338 = .ok (.bastore, 1) := dk_84 (dk_at dksX11_countTransfer_14 16 rfl rfl)
theorem dX11_countTransfer_339 : decode cX11_countTransfer 339 = .ok (.aload_n 0, 1) := dk_42 (dk_at dksX11_countTransfer_14 17 rfl rfl)
theorem dX11_countTransfer_340 : decode cX11_countTransfer 340 = .ok (.iconst 1, 1) := dk_4 (dk_at dksX11_countTransfer_14 18 rfl rfl)
theorem dX11_countTransfer_341 : decode cX11_countTransfer 341 = .ok (.iload 9, 2) := dk_21 9 (dk_at dksX11_countTransfer_14 19 rfl rfl)
theorem dX11_countTransfer_343 : decode cX11_countTransfer 343 = .ok (.invokevirtual 915, 3) := dk_182 3 147 (dk_at dksX11_countTransfer_14 21 rfl rfl)
theorem dX11_countTransfer_346 : decode cX11_countTransfer 346 = .ok (.iload_n 1, 1) := dk_27 (dk_at dksX11_countTransfer_15 0 rfl rfl)
theorem dX11_countTransfer_347 : decode cX11_countTransfer 347 = .ok (.ifCond .ne 14, 3) := dk_154 0 14 (dk_at dksX11_countTransfer_15 1 rfl rfl)
theorem dX11_countTransfer_350 : decode cX11_countTransfer 350 = .ok (.aload_n 0, 1) := dk_42 (dk_at dksX11_countTransfer_15 4 rfl rfl)
theorem dX11_countTransfer_351 : decode cX11_countTransfer 351 = .ok (.iload 9, 2) := dk_21 9 (dk_at dksX11_countTransfer_15 5 rfl rfl)
theorem dX11_countTransfer_353 : decode cX11_countTransfer 353 = .ok (.lload 4, 2) := dk_22 4 (dk_at dksX11_countTransfer_15 7 rfl rfl)
theorem dX11_countTransfer_355 : decode cX11_countTransfer 355 = .ok (.invokevirtual 965, 3) := dk_182 3 197 (dk_at dksX11_countTransfer_15 9 rfl rfl)
theorem dX11_countTransfer_358 : decode cX11_countTransfer 358 = .ok (.goto 23, 3) := dk_167 0 23 (dk_at dksX11_countTransfer_15 12 rfl rfl)
theorem dX11_countTransfer_361 : decode cX11_countTransfer 361 = .ok (.aload_n 0, 1) := dk_42 (dk_at dksX11_countTransfer_15 15 rfl rfl)
theorem dX11_countTransfer_362 : decode cX11_countTransfer 362 = .ok (.iload 9, 2) := dk_21 9 (dk_at dksX11_countTransfer_15 16 rfl rfl)
theorem dX11_countTransfer_364 : decode cX11_countTransfer 364 = .ok (.aload_n 0, 1) := dk_42 (dk_at dksX11_countTransfer_15 18 rfl rfl)
theorem dX11_countTransfer_365 : decode cX11_countTransfer 365 = .ok (.getfield 801, 3) := dk_180 3 33 (dk_at dksX11_countTransfer_15 19 rfl rfl)
theorem dX11_countTransfer_368 : decode cX11_countTransfer 368 = .ok (.iload 9, 2) := dk_21 9 (dk_at dksX11_countTransfer_15 22 rfl rfl)
theorem dX11_countTransfer_370 : decode cX11_countTransfer 370 = .ok (.laload, 1) := dk_47 (dk_at dksX11_countTransfer_16 0 rfl rfl)
theorem dX11_countTransfer_371 : decode cX11_countTransfer 371 = .ok (.lload 4, 2) := dk_22 4 (dk_at dksX11_countTransfer_16 1 rfl rfl)
theorem dX11_countTransfer_373 : decode cX11_countTransfer 373 = .ok (.lsub, 1) := dk_101 (dk_at dksX11_countTransfer_16 3 rfl rfl)
theorem dX11_countTransfer_374 : decode cX11_countTransfer 374 = .ok (.lload 6, 2) := dk_22 6 (dk_at dksX11_countTransfer_16 4 rfl rfl)
theorem dX11_countTransfer_376 : decode cX11_countTransfer 376 = .ok (.invokevirtual 969, 3) := dk_182 3 201 (dk_at dksX11_countTransfer_16 6 rfl rfl)
theorem dX11_countTransfer_379 : decode cX11_countTransfer 379 = .ok (.lstore 6, 2) := dk_55 6 (dk_at dksX11_countTransfer_16 9 rfl rfl)
theorem dX11_countTransfer_381 : decode cX11_countTransfer 381 = .ok (.goto (-247), 3) := dk_167 255 9 (dk_at dksX11_countTransfer_16 11 rfl rfl)
abbrev cX11_sortBallots : ByteArray := prog_17_method_158_code
def yX11_sortBallots : MethodName := ⟨RX11, "sortBallots", "()V"⟩
def dkwX11_sortBallots_2 : List UInt8 := [132, 2, 255, 167, 255, 219, 42, 180, 3, 171, 28, 27, 79, 132, 1, 1, 167, 255, 196, 177]
abbrev dktX11_sortBallots_2 : List UInt8 := dkwX11_sortBallots_2 ++ []
def dkwX11_sortBallots_1 : List UInt8 := [100, 46, 182, 3, 174, 153, 0, 23, 42, 180, 3, 171, 28, 42, 180, 3, 171, 28, 4, 100, 46, 79]
abbrev dktX11_sortBallots_1 : List UInt8 := dkwX11_sortBallots_1 ++ dktX11_sortBallots_2
def dkwX11_sortBallots_0 : List UInt8 := [3, 60, 27, 42, 180, 2, 255, 162, 0, 58, 27, 61, 28, 158, 0, 39, 42, 27, 42, 180, 3, 171, 28, 4]
abbrev dktX11_sortBallots_0 : List UInt8 := dkwX11_sortBallots_0 ++ dktX11_sortBallots_1
theorem dksX11_sortBallots_0 : cX11_sortBallots.data.toList.drop 0 = dktX11_sortBallots_0 := by decide +kernel
theorem dksX11_sortBallots_1 : cX11_sortBallots.data.toList.drop 24 = dktX11_sortBallots_1 := dk_seg dksX11_sortBallots_0 24 rfl rfl
theorem dksX11_sortBallots_2 : cX11_sortBallots.data.toList.drop 46 = dktX11_sortBallots_2 := dk_seg dksX11_sortBallots_1 22 rfl rfl
theorem dX11_sortBallots_0 : decode cX11_sortBallots 0 = .ok (.iconst 0, 1) := dk_3 (dk_at dksX11_sortBallots_0 0 rfl rfl)
theorem dX11_sortBallots_1 : decode cX11_sortBallots 1 = .ok (.istore_n 1, 1) := dk_60 (dk_at dksX11_sortBallots_0 1 rfl rfl)
theorem dX11_sortBallots_2 : decode cX11_sortBallots 2 = .ok (.iload_n 1, 1) := dk_27 (dk_at dksX11_sortBallots_0 2 rfl rfl)
theorem dX11_sortBallots_3 : decode cX11_sortBallots 3 = .ok (.aload_n 0, 1) := dk_42 (dk_at dksX11_sortBallots_0 3 rfl rfl)
theorem dX11_sortBallots_4 : decode cX11_sortBallots 4 = .ok (.getfield 767, 3) := dk_180 2 255 (dk_at dksX11_sortBallots_0 4 rfl rfl)
theorem dX11_sortBallots_7 : decode cX11_sortBallots 7 = .ok (.if_icmp .ge 58, 3) := dk_162 0 58 (dk_at dksX11_sortBallots_0 7 rfl rfl)
theorem dX11_sortBallots_10 : decode cX11_sortBallots 10 = .ok (.iload_n 1, 1) := dk_27 (dk_at dksX11_sortBallots_0 10 rfl rfl)
theorem dX11_sortBallots_11 : decode cX11_sortBallots 11 = .ok (.istore_n 2, 1) := dk_61 (dk_at dksX11_sortBallots_0 11 rfl rfl)
theorem dX11_sortBallots_12 : decode cX11_sortBallots 12 = .ok (.iload_n 2, 1) := dk_28 (dk_at dksX11_sortBallots_0 12 rfl rfl)
theorem dX11_sortBallots_13 : decode cX11_sortBallots 13 = .ok (.ifCond .le 39, 3) := dk_158 0 39 (dk_at dksX11_sortBallots_0 13 rfl rfl)
theorem dX11_sortBallots_16 : decode cX11_sortBallots 16 = .ok (.aload_n 0, 1) := dk_42 (dk_at dksX11_sortBallots_0 16 rfl rfl)
theorem dX11_sortBallots_17 : decode cX11_sortBallots 17 = .ok (.iload_n 1, 1) := dk_27 (dk_at dksX11_sortBallots_0 17 rfl rfl)
theorem dX11_sortBallots_18 : decode cX11_sortBallots 18 = .ok (.aload_n 0, 1) := dk_42 (dk_at dksX11_sortBallots_0 18 rfl rfl)
theorem dX11_sortBallots_19 : decode cX11_sortBallots 19 = .ok (.getfield 939, 3) := dk_180 3 171 (dk_at dksX11_sortBallots_0 19 rfl rfl)
theorem dX11_sortBallots_22 : decode cX11_sortBallots 22 = .ok (.iload_n 2, 1) := dk_28 (dk_at dksX11_sortBallots_0 22 rfl rfl)
theorem dX11_sortBallots_23 : decode cX11_sortBallots 23 = .ok (.iconst 1, 1) := dk_4 (dk_at dksX11_sortBallots_0 23 rfl rfl)
theorem dX11_sortBallots_24 : decode cX11_sortBallots 24 = .ok (.isub, 1) := dk_100 (dk_at dksX11_sortBallots_1 0 rfl rfl)
theorem dX11_sortBallots_25 : decode cX11_sortBallots 25 = .ok (.iaload, 1) := dk_46 (dk_at dksX11_sortBallots_1 1 rfl rfl)
theorem dX11_sortBallots_26 : decode cX11_sortBallots 26 = .ok (.invokevirtual 942, 3) := dk_182 3 174 (dk_at dksX11_sortBallots_1 2 rfl rfl)
theorem dX11_sortBallots_29 : decode cX11_sortBallots 29 = .ok (.ifCond .eq 23, 3) := dk_153 0 23 (dk_at dksX11_sortBallots_1 5 rfl rfl)
theorem dX11_sortBallots_32 : decode cX11_sortBallots 32 = .ok (.aload_n 0, 1) := dk_42 (dk_at dksX11_sortBallots_1 8 rfl rfl)
theorem dX11_sortBallots_33 : decode cX11_sortBallots 33 = .ok (.getfield 939, 3) := dk_180 3 171 (dk_at dksX11_sortBallots_1 9 rfl rfl)
theorem dX11_sortBallots_36 : decode cX11_sortBallots 36 = .ok (.iload_n 2, 1) := dk_28 (dk_at dksX11_sortBallots_1 12 rfl rfl)
theorem dX11_sortBallots_37 : decode cX11_sortBallots 37 = .ok (.aload_n 0, 1) := dk_42 (dk_at dksX11_sortBallots_1 13 rfl rfl)
theorem dX11_sortBallots_38 : decode cX11_sortBallots 38 = .ok (.getfield 939, 3) := dk_180 3 171 (dk_at dksX11_sortBallots_1 14 rfl rfl)
theorem dX11_sortBallots_41 : decode cX11_sortBallots 41 = .ok (.iload_n 2, 1) := dk_28 (dk_at dksX11_sortBallots_1 17 rfl rfl)
theorem dX11_sortBallots_42 : decode cX11_sortBallots 42 = .ok (.iconst 1, 1) := dk_4 (dk_at dksX11_sortBallots_1 18 rfl rfl)
theorem dX11_sortBallots_43 : decode cX11_sortBallots 43 = .ok (.isub, 1) := dk_100 (dk_at dksX11_sortBallots_1 19 rfl rfl)
theorem dX11_sortBallots_44 : decode cX11_sortBallots 44 = .ok (.iaload, 1) := dk_46 (dk_at dksX11_sortBallots_1 20 rfl rfl)
theorem dX11_sortBallots_45 : decode cX11_sortBallots 45 = .ok (.iastore, 1) := dk_79 (dk_at dksX11_sortBallots_1 21 rfl rfl)
theorem dX11_sortBallots_46 : decode cX11_sortBallots 46 = .ok (.iinc 2 (-1), 3) := dk_132 2 255 (dk_at dksX11_sortBallots_2 0 rfl rfl)
theorem dX11_sortBallots_49 : decode cX11_sortBallots 49 = .ok (.goto (-37), 3) := dk_167 255 219 (dk_at dksX11_sortBallots_2 3 rfl rfl)
theorem dX11_sortBallots_52 : decode cX11_sortBallots 52 = .ok (.aload_n 0, 1) := dk_42 (dk_at dksX11_sortBallots_2 6 rfl rfl)
theorem dX11_sortBallots_53 : decode cX11_sortBallots 53 = .ok (.getfield 939, 3) := dk_180 3 171 (dk_at dksX11_sortBallots_2 7 rfl rfl)
theorem dX11_sortBallots_56 : decode cX11_sortBallots 56 = .ok (.iload_n 2, 1) := dk_28 (dk_at dksX11_sortBallots_2 10 rfl rfl)
theorem dX11_sortBallots_57 : decode cX11_sortBallots 57 = .ok (.iload_n 1, 1) := dk_27 (dk_at dksX11_sortBallots_2 11 rfl rfl)
theorem dX11_sortBallots_58 : decode cX11_sortBallots 58 = .ok (.iastore, 1) := dk_79 (dk_at dksX11_sortBallots_2 12 rfl rfl)
theorem dX11_sortBallots_59 : decode cX11_sortBallots 59 = .ok (.iinc 1 1, 3) := dk_132 1 1 (dk_at dksX11_sortBallots_2 13 rfl rfl)
theorem dX11_sortBallots_62 : decode cX11_sortBallots 62 = .ok (.goto (-60), 3) := dk_167 255 196 (dk_at dksX11_sortBallots_2 16 rfl rfl)
theorem dX11_sortBallots_65 : decode cX11_sortBallots 65 = .ok (.return_, 1) := dk_177 (dk_at dksX11_sortBallots_2 19 rfl rfl)
abbrev cX11_isLesser : ByteArray := prog_17_method_157_code
def yX11_isLesser : MethodName := ⟨RX11, "isLesser", "(II)Z"⟩
def dkwX11_isLesser_2 : List UInt8 := [162, 0, 7, 4, 167, 0, 4, 3, 172, 132, 3, 1, 167, 255, 199, 3, 172]
abbrev dktX11_isLesser_2 : List UInt8 := dkwX11_isLesser_2 ++ []
def dkwX11_isLesser_1 : List UInt8 := [180, 3, 12, 16, 9, 28, 104, 29, 96, 46, 54, 5, 21, 4, 21, 5, 159, 0, 16, 21, 4, 21, 5]
abbrev dktX11_isLesser_1 : List UInt8 := dkwX11_isLesser_1 ++ dktX11_isLesser_2
def dkwX11_isLesser_0 : List UInt8 := [3, 62, 29, 42, 180, 2, 243, 162, 0, 55, 42, 180, 3, 12, 16, 9, 27, 104, 29, 96, 46, 54, 4, 42]
abbrev dktX11_isLesser_0 : List UInt8 := dkwX11_isLesser_0 ++ dktX11_isLesser_1
theorem dksX11_isLesser_0 : cX11_isLesser.data.toList.drop 0 = dktX11_isLesser_0 := by decide +kernel
theorem dksX11_isLesser_1 : cX11_isLesser.data.toList.drop 24 = dktX11_isLesser_1 := dk_seg dksX11_isLesser_0 24 rfl rfl
theorem dksX11_isLesser_2 : cX11_isLesser.data.toList.drop 47 = dktX11_isLesser_2 := dk_seg dksX11_isLesser_1 23 rfl rfl
theorem dX11_isLesser_0 : decode cX11_isLesser 0 = .ok (.iconst 0, 1) := dk_3 (dk_at dksX11_isLesser_0 0 rfl rfl)
theorem dX11_isLesser_1 : decode cX11_isLesser 1 = .ok (.istore_n 3, 1) := dk_62 (dk_at dksX11_isLesser_0 1 rfl rfl)
theorem dX11_isLesser_2 : decode cX11_isLesser 2 = .ok (.iload_n 3, 1) := dk_29 (dk_at dksX11_isLesser_0 2 rfl rfl)
theorem dX11_isLesser_3 : decode cX11_isLesser 3 = .ok (.aload_n 0, 1) := dk_42 (dk_at dksX11_isLesser_0 3 rfl rfl)
theorem dX11_isLesser_4 : decode cX11_isLesser 4 = .ok (.getfield 755, 3) := dk_180 2 243 (dk_at dksX11_isLesser_0 4 rfl rfl)
theorem dX11_isLesser_7 : decode cX11_isLesser 7 = .ok (.if_icmp .ge 55, 3) := dk_162 0 55 (dk_at dksX11_isLesser_0 7 rfl rfl)
theorem dX11_isLesser_10 : decode cX11_isLesser 10 = .ok (.aload_n 0, 1) := dk_42 (dk_at dksX11_isLesser_0 10 rfl rfl)
theorem dX11_isLesser_11 : decode cX11_isLesser 11 = .ok (.getfield 780, 3) := dk_180 3 12 (dk_at dksX11_isLesser_0 11 rfl rfl)
theorem dX11_isLesser_14 : decode cX11_isLesser 14 = .ok (.bipush 9, 2) := dk_16 9 (dk_at dksX11_isLesser_0 14 rfl rfl)
theorem dX11_isLesser_16 : decode cX11_isLesser 16 = .ok (.iload_n 1, 1) := dk_27 (dk_at dksX11_isLesser_0 16 rfl rfl)
theorem dX11_isLesser_17 : decode cX11_isLesser 17 = .ok (.imul, 1) := dk_104 (dk_at dksX11_isLesser_0 17 rfl rfl)
theorem dX11_isLesser_18 : decode cX11_isLesser 18 = .ok (.iload_n 3, 1) := dk_29 (dk_at dksX11_isLesser_0 18 rfl rfl)
theorem dX11_isLesser_19 : decode cX11_isLesser 19 = .ok (.iadd, 1) := dk_96 (dk_at dksX11_isLesser_0 19 rfl rfl)
theorem dX11_isLesser_20 : decode cX11_isLesser 20 = .ok (.iaload, 1) := dk_46 (dk_at dksX11_isLesser_0 20 rfl rfl)
theorem dX11_isLesser_21 : decode cX11_isLesser 21 = .ok (.istore 4, 2) := dk_54 4 (dk_at dksX11_isLesser_0 21 rfl rfl)
theorem dX11_isLesser_23 : decode cX11_isLesser 23 = .ok (.aload_n 0, 1) := dk_42 (dk_at dksX11_isLesser_0 23 rfl rfl)
theorem dX11_isLesser_24 : decode cX11_isLesser 24 = .ok (.getfield 780, 3) := dk_180 3 12 (dk_at dksX11_isLesser_1 0 rfl rfl)
theorem dX11_isLesser_27 : decode cX11_isLesser 27 = .ok (.bipush 9, 2) := dk_16 9 (dk_at dksX11_isLesser_1 3 rfl rfl)
theorem dX11_isLesser_29 : decode cX11_isLesser 29 = .ok (.iload_n 2, 1) := dk_28 (dk_at dksX11_isLesser_1 5 rfl rfl)
theorem dX11_isLesser_30 : decode cX11_isLesser 30 = .ok (.imul, 1) := dk_104 (dk_at dksX11_isLesser_1 6 rfl rfl)
theorem dX11_isLesser_31 : decode cX11_isLesser 31 = .ok (.iload_n 3, 1) := dk_29 (dk_at dksX11_isLesser_1 7 rfl rfl)
theorem dX11_isLesser_32 : decode cX11_isLesser 32 = .ok (.iadd, 1) := dk_96 (dk_at dksX11_isLesser_1 8 rfl rfl)
theorem dX11_isLesser_33 : decode cX11_isLesser 33 = .ok (.iaload, 1) := dk_46 (dk_at dksX11_isLesser_1 9 rfl rfl)
theorem dX11_isLesser_34 : decode cX11_isLesser 34 = .ok (.istore 5, 2) := dk_54 5 (dk_at dksX11_isLesser_1 10 rfl rfl)
theorem dX11_isLesser_36 : decode cX11_isLesser 36 = .ok (.iload 4, 2) := dk_21 4 (dk_at dksX11_isLesser_1 12 rfl rfl)
theorem dX11_isLesser_38 : decode cX11_isLesser 38 = .ok (.iload 5, 2) := dk_21 5 (dk_at dksX11_isLesser_1 14 rfl rfl)
theorem dX11_isLesser_40 : decode cX11_isLesser 40 = .ok (.if_icmp .eq 16, 3) := dk_159 0 16 (dk_at dksX11_isLesser_1 16 rfl rfl)
theorem dX11_isLesser_43 : decode cX11_isLesser 43 = .ok (.iload 4, 2) := dk_21 4 (dk_at dksX11_isLesser_1 19 rfl rfl)
theorem dX11_isLesser_45 : decode cX11_isLesser 45 = .ok (.iload 5, 2) := dk_21 5 (dk_at dksX11_isLesser_1 21 rfl rfl)
theorem dX11_isLesser_47 : decode cX11_isLesser 47 = .ok (.if_icmp .ge 7, 3) := dk_162 0 7 (dk_at dksX11_isLesser_2 0 rfl rfl)
theorem dX11_isLesser_50 : decode cX11_isLesser 50 = .ok (.iconst 1, 1) := dk_4 (dk_at dksX11_isLesser_2 3 rfl rfl)
theorem dX11_isLesser_51 : decode cX11_isLesser 51 = .ok (.goto 4, 3) := dk_167 0 4 (dk_at dksX11_isLesser_2 4 rfl rfl)
theorem dX11_isLesser_54 : decode cX11_isLesser 54 = .ok (.iconst 0, 1) := dk_3 (dk_at dksX11_isLesser_2 7 rfl rfl)
theorem dX11_isLesser_55 : decode cX11_isLesser 55 = .ok (.ireturn, 1) := dk_172 (dk_at dksX11_isLesser_2 8 rfl rfl)
theorem dX11_isLesser_56 : decode cX11_isLesser 56 = .ok (.iinc 3 1, 3) := dk_132 3 1 (dk_at dksX11_isLesser_2 9 rfl rfl)
theorem dX11_isLesser_59 : decode cX11_isLesser 59 = .ok (.goto (-57), 3) := dk_167 255 199 (dk_at dksX11_isLesser_2 12 rfl rfl)
theorem dX11_isLesser_62 : decode cX11_isLesser 62 = .ok (.iconst 0, 1) := dk_3 (dk_at dksX11_isLesser_2 15 rfl rfl)
theorem dX11_isLesser_63 : decode cX11_isLesser 63 = .ok (.ireturn, 1) := dk_172 (dk_at dksX11_isLesser_2 16 rfl rfl)
abbrev cX11_surplusOf : ByteArray := prog_17_method_160_code
def yX11_surplusOf : MethodName := ⟨RX11, "surplusOf", "(J)I"⟩
def dkwX11_surplusOf_3 : List UInt8 := [132, 4, 1, 167, 255, 189, 29, 172]
abbrev dktX11_surplusOf_3 : List UInt8 := dkwX11_surplusOf_3 ++ []
def dkwX11_surplusOf_2 : List UInt8 := [155, 0, 20, 42, 180, 3, 33, 21, 5, 47, 42, 180, 3, 33, 29, 47, 148, 158, 0, 6, 21, 5, 62]
abbrev dktX11_surplusOf_2 : List UInt8 := dkwX11_surplusOf_2 ++ dktX11_surplusOf_3
def dkwX11_surplusOf_1 : List UInt8 := [180, 3, 182, 21, 5, 51, 154, 0, 39, 42, 180, 3, 33, 21, 5, 47, 31, 148, 158, 0, 27, 29]
abbrev dktX11_surplusOf_1 : List UInt8 := dkwX11_surplusOf_1 ++ dktX11_surplusOf_2
def dkwX11_surplusOf_0 : List UInt8 := [2, 62, 3, 54, 4, 21, 4, 42, 180, 3, 61, 162, 0, 64, 42, 180, 3, 58, 21, 4, 46, 54, 5, 42]
abbrev dktX11_surplusOf_0 : List UInt8 := dkwX11_surplusOf_0 ++ dktX11_surplusOf_1
theorem dksX11_surplusOf_0 : cX11_surplusOf.data.toList.drop 0 = dktX11_surplusOf_0 := by decide +kernel
theorem dksX11_surplusOf_1 : cX11_surplusOf.data.toList.drop 24 = dktX11_surplusOf_1 := dk_seg dksX11_surplusOf_0 24 rfl rfl
theorem dksX11_surplusOf_2 : cX11_surplusOf.data.toList.drop 46 = dktX11_surplusOf_2 := dk_seg dksX11_surplusOf_1 22 rfl rfl
theorem dksX11_surplusOf_3 : cX11_surplusOf.data.toList.drop 69 = dktX11_surplusOf_3 := dk_seg dksX11_surplusOf_2 23 rfl rfl
theorem dX11_surplusOf_0 : decode cX11_surplusOf 0 = .ok (.iconst (-1), 1) := dk_2 (dk_at dksX11_surplusOf_0 0 rfl rfl)
theorem dX11_surplusOf_1 : decode cX11_surplusOf 1 = .ok (.istore_n 3, 1) := dk_62 (dk_at dksX11_surplusOf_0 1 rfl rfl)
theorem dX11_surplusOf_2 : decode cX11_surplusOf 2 = .ok (.iconst 0, 1) := dk_3 (dk_at dksX11_surplusOf_0 2 rfl rfl)
theorem dX11_surplusOf_3 : decode cX11_surplusOf 3 = .ok (.istore 4, 2) := dk_54 4 (dk_at dksX11_surplusOf_0 3 rfl rfl)
theorem dX11_surplusOf_5 : decode cX11_surplusOf 5 = .ok (.iload 4, 2) := dk_21 4 (dk_at dksX11_surplusOf_0 5 rfl rfl)
theorem dX11_surplusOf_7 : decode cX11_surplusOf 7 = .ok (.aload_n 0, 1) := dk_42 (dk_at dksX11_surplusOf_0 7 rfl rfl)
theorem dX11_surplusOf_8 : decode cX11_surplusOf 8 = .ok (.getfield 829, 3) := dk_180 3 61 (dk_at dksX11_surplusOf_0 8 rfl rfl)
theorem dX11_surplusOf_11 : decode cX11_surplusOf 11 = .ok (.if_icmp .ge 64, 3) := dk_162 0 64 (dk_at dksX11_surplusOf_0 11 rfl rfl)
theorem dX11_surplusOf_14 : decode cX11_surplusOf 14 = .ok (.aload_n 0, 1) := dk_42 (dk_at dksX11_surplusOf_0 14 rfl rfl)
theorem dX11_surplusOf_15 : decode cX11_surplusOf 15 = .ok (.getfield 826, 3) := dk_180 3 58 (dk_at dksX11_surplusOf_0 15 rfl rfl)
theorem dX11_surplusOf_18 : decode cX11_surplusOf 18 = .ok (.iload 4, 2) := dk_21 4 (dk_at dksX11_surplusOf_0 18 rfl rfl)
theorem dX11_surplusOf_20 : decode cX11_surplusOf 20 = .ok (.iaload, 1) := dk_46 (dk_at dksX11_surplusOf_0 20 rfl rfl)
theorem dX11_surplusOf_21 : decode cX11_surplusOf 21 = .ok (.istore 5, 2) := dk_54 5 (dk_at dksX11_surplusOf_0 21 rfl rfl)
theorem dX11_surplusOf_23 : decode cX11_surplusOf 23 = .ok (.aload_n 0, 1) := dk_42 (dk_at dksX11_surplusOf_0 23 rfl rfl)
theorem dX11_surplusOf_24 : decode cX11_surplusOf 24 = .ok (.getfield 950, 3) := dk_180 3 182 (dk_at dksX11_surplusOf_1 0 rfl rfl)
theorem dX11_surplusOf_27 : decode cX11_surplusOf 27 = .ok (.iload 5, 2) := dk_21 5 (dk_at dksX11_surplusOf_1 3 rfl rfl)
theorem dX11_surplusOf_29 : decode cX11_surplusOf 29 = .ok (.baload, 1) := dk_51 (dk_at dksX11_surplusOf_1 5 rfl rfl)
theorem dX11_surplusOf_30 : decode cX11_surplusOf 30 = .ok (.ifCond .ne 39, 3) := dk_154 0 39 (dk_at dksX11_surplusOf_1 6 rfl rfl)
theorem dX11_surplusOf_33 : decode cX11_surplusOf 33 = .ok (.aload_n 0, 1) := dk_42 (dk_at dksX11_surplusOf_1 9 rfl rfl)
theorem dX11_surplusOf_34 : decode cX11_surplusOf 34 = .ok (.getfield 801, 3) := dk_180 3 33 (dk_at dksX11_surplusOf_1 10 rfl rfl)
theorem dX11_surplusOf_37 : decode cX11_surplusOf 37 = .ok (.iload 5, 2) := dk_21 5 (dk_at dksX11_surplusOf_1 13 rfl rfl)
theorem dX11_surplusOf_39 : decode cX11_surplusOf 39 = .ok (.laload, 1) := dk_47 (dk_at dksX11_surplusOf_1 15 rfl rfl)
theorem dX11_surplusOf_40 : decode cX11_surplusOf 40 = .ok (.lload_n 1, 1) := dk_31 (dk_at dksX11_surplusOf_1 16 rfl rfl)
theorem dX11_surplusOf_41 : decode cX11_surplusOf 41 = .ok (.lcmp, 1) := dk_148 (dk_at dksX11_surplusOf_1 17 rfl rfl)
theorem dX11_surplusOf_42 : decode cX11_surplusOf 42 = .ok (.ifCond .le 27, 3) := dk_158 0 27 (dk_at dksX11_surplusOf_1 18 rfl rfl)
theorem dX11_surplusOf_45 : decode cX11_surplusOf 45 = .ok (.iload_n 3, 1) := dk_29 (dk_at dksX11_surplusOf_1 21 rfl rfl)
theorem dX11_surplusOf_46 : decode cX11_surplusOf 46 = .ok (.ifCond .lt 20, 3) := dk_155 0 20 (dk_at dksX11_surplusOf_2 0 rfl rfl)
theorem dX11_surplusOf_49 : decode cX11_surplusOf 49 = .ok (.aload_n 0, 1) := dk_42 (dk_at dksX11_surplusOf_2 3 rfl rfl)
theorem dX11_surplusOf_50 : decode cX11_surplusOf 50 = .ok (.getfield 801, 3) := dk_180 3 33 (dk_at dksX11_surplusOf_2 4 rfl rfl)
theorem dX11_surplusOf_53 : decode cX11_surplusOf 53 = .ok (.iload 5, 2) := dk_21 5 (dk_at dksX11_surplusOf_2 7 rfl rfl)
theorem dX11_surplusOf_55 : decode cX11_surplusOf 55 = .ok (.laload, 1) := dk_47 (dk_at dksX11_surplusOf_2 9 rfl rfl)
theorem dX11_surplusOf_56 : decode cX11_surplusOf 56 = .ok (.aload_n 0, 1) := dk_42 (dk_at dksX11_surplusOf_2 10 rfl rfl)
theorem dX11_surplusOf_57 : decode cX11_surplusOf 57 = .ok (.getfield 801, 3) := dk_180 3 33 (dk_at dksX11_surplusOf_2 11 rfl rfl)
theorem dX11_surplusOf_60 : decode cX11_surplusOf 60 = .ok (.iload_n 3, 1) := dk_29 (dk_at dksX11_surplusOf_2 14 rfl rfl)
theorem dX11_surplusOf_61 : decode cX11_surplusOf 61 = .ok (.laload, 1) := dk_47 (dk_at dksX11_surplusOf_2 15 rfl rfl)
theorem dX11_surplusOf_62 : decode cX11_surplusOf 62 = .ok (.lcmp, 1) := dk_148 (dk_at dksX11_surplusOf_2 16 rfl rfl)
theorem dX11_surplusOf_63 : decode cX11_surplusOf 63 = .ok (.ifCond .le 6, 3) := dk_158 0 6 (dk_at dksX11_surplusOf_2 17 rfl rfl)
theorem dX11_surplusOf_66 : decode cX11_surplusOf 66 = .ok (.iload 5, 2) := dk_21 5 (dk_at dksX11_surplusOf_2 20 rfl rfl)
theorem dX11_surplusOf_68 : decode cX11_surplusOf 68 = .ok (.istore_n 3, 1) := dk_62 (dk_at dksX11_surplusOf_2 22 rfl rfl)
theorem dX11_surplusOf_69 : decode cX11_surplusOf 69 = .ok (.iinc 4 1, 3) := dk_132 4 1 (dk_at dksX11_surplusOf_3 0 rfl rfl)
theorem dX11_surplusOf_72 : decode cX11_surplusOf 72 = .ok (.goto (-67), 3) := dk_167 255 189 (dk_at dksX11_surplusOf_3 3 rfl rfl)
theorem dX11_surplusOf_75 : decode cX11_surplusOf 75 = .ok (.iload_n 3, 1) := dk_29 (dk_at dksX11_surplusOf_3 6 rfl rfl)
theorem dX11_surplusOf_76 : decode cX11_surplusOf 76 = .ok (.ireturn, 1) := dk_172 (dk_at dksX11_surplusOf_3 7 rfl rfl)
abbrev cX11_givePart : ByteArray := prog_17_method_161_code
def yX11_givePart : MethodName := ⟨RX11, "givePart", "(IJ)V"⟩
def dkwX11_givePart_3 : List UInt8 := [132, 4, 1, 167, 255, 187, 177]
abbrev dktX11_givePart_3 : List UInt8 := dkwX11_givePart_3 ++ []
def dkwX11_givePart_2 : List UInt8 := [105, 42, 180, 3, 33, 27, 47, 109, 80, 42, 180, 3, 188, 21, 4, 42, 21, 4, 182, 3, 164, 79]
abbrev dktX11_givePart_2 : List UInt8 := dkwX11_givePart_2 ++ dktX11_givePart_3
def dkwX11_givePart_1 : List UInt8 := [167, 0, 46, 42, 180, 3, 185, 21, 4, 42, 180, 3, 185, 21, 4, 47, 42, 180, 3, 33, 27, 47, 32, 101]
abbrev dktX11_givePart_1 : List UInt8 := dkwX11_givePart_1 ++ dktX11_givePart_2
def dkwX11_givePart_0 : List UInt8 := [3, 54, 4, 21, 4, 42, 180, 2, 255, 162, 0, 66, 42, 180, 3, 188, 21, 4, 46, 27, 159, 0, 6]
abbrev dktX11_givePart_0 : List UInt8 := dkwX11_givePart_0 ++ dktX11_givePart_1
theorem dksX11_givePart_0 : cX11_givePart.data.toList.drop 0 = dktX11_givePart_0 := by decide +kernel
theorem dksX11_givePart_1 : cX11_givePart.data.toList.drop 23 = dktX11_givePart_1 := dk_seg dksX11_givePart_0 23 rfl rfl
theorem dksX11_givePart_2 : cX11_givePart.data.toList.drop 47 = dktX11_givePart_2 := dk_seg dksX11_givePart_1 24 rfl rfl
theorem dksX11_givePart_3 : cX11_givePart.data.toList.drop 69 = dktX11_givePart_3 := dk_seg dksX11_givePart_2 22 rfl rfl
theorem dX11_givePart_0 : decode cX11_givePart 0 = .ok (.iconst 0, 1) := dk_3 (dk_at dksX11_givePart_0 0 rfl rfl)
theorem dX11_givePart_1 : decode cX11_givePart 1 = .ok (.istore 4, 2) := dk_54 4 (dk_at dksX11_givePart_0 1 rfl rfl)
theorem dX11_givePart_3 : decode cX11_givePart 3 = .ok (.iload 4, 2) := dk_21 4 (dk_at dksX11_givePart_0 3 rfl rfl)
theorem dX11_givePart_5 : decode cX11_givePart 5 = .ok (.aload_n 0, 1) := dk_42 (dk_at dksX11_givePart_0 5 rfl rfl)
theorem dX11_givePart_6 : decode cX11_givePart 6 = .ok (.getfield 767, 3) := dk_180 2 255 (dk_at dksX11_givePart_0 6 rfl rfl)
theorem dX11_givePart_9 : decode cX11_givePart 9 = .ok (.if_icmp .ge 66, 3) := dk_162 0 66 (dk_at dksX11_givePart_0 9 rfl rfl)
theorem dX11_givePart_12 : decode cX11_givePart 12 = .ok (.aload_n 0, 1) := dk_42 (dk_at dksX11_givePart_0 12 rfl rfl)
theorem dX11_givePart_13 : decode cX11_givePart 13 = .ok (.getfield 956, 3) := dk_180 3 188 (dk_at dksX11_givePart_0 13 rfl rfl)
theorem dX11_givePart_16 : decode cX11_givePart 16 = .ok (.iload 4, 2) := dk_21 4 (dk_at dksX11_givePart_0 16 rfl rfl)
theorem dX11_givePart_18 : decode cX11_givePart 18 = .ok (.iaload, 1) := dk_46 (dk_at dksX11_givePart_0 18 rfl rfl)
theorem dX11_givePart_19 : decode cX11_givePart 19 = .ok (.iload_n 1, 1) := dk_27 (dk_at dksX11_givePart_0 19 rfl rfl)
theorem dX11_givePart_20 : decode cX11_givePart 20 = .ok (.if_icmp .eq 6, 3) := dk_159 0 6 (dk_at dksX11_givePart_0 20 rfl rfl)
theorem dX11_givePart_23 : decode cX11_givePart 23 = .ok (.goto 46, 3) := dk_167 0 46 (dk_at dksX11_givePart_1 0 rfl rfl)
theorem dX11_givePart_26 : decode cX11_givePart 26 = .ok (.aload_n 0, 1) := dk_42 (dk_at dksX11_givePart_1 3 rfl rfl)
theorem dX11_givePart_27 : decode cX11_givePart 27 = .ok (.getfield 953, 3) := dk_180 3 185 (dk_at dksX11_givePart_1 4 rfl rfl)
theorem dX11_givePart_30 : decode cX11_givePart 30 = .ok (.iload 4, 2) := dk_21 4 (dk_at dksX11_givePart_1 7 rfl rfl)
theorem dX11_givePart_32 : decode cX11_givePart 32 = .ok (.aload_n 0, 1) := dk_42 (dk_at dksX11_givePart_1 9 rfl rfl)
theorem dX11_givePart_33 : decode cX11_givePart 33 = .ok (.getfield 953, 3) := dk_180 3 185 (dk_at dksX11_givePart_1 10 rfl rfl)
theorem dX11_givePart_36 : decode cX11_givePart 36 = .ok (.iload 4, 2) := dk_21 4 (dk_at dksX11_givePart_1 13 rfl rfl)
theorem dX11_givePart_38 : decode cX11_givePart 38 = .ok (.laload, 1) := dk_47 (dk_at dksX11_givePart_1 15 rfl rfl)
theorem dX11_givePart_39 : decode cX11_givePart 39 = .ok (.aload_n 0, 1) := dk_42 (dk_at dksX11_givePart_1 16 rfl rfl)
theorem dX11_givePart_40 : decode cX11_givePart 40 = .ok (.getfield 801, 3) := dk_180 3 33 (dk_at dksX11_givePart_1 17 rfl rfl)
theorem dX11_givePart_43 : decode cX11_givePart 43 = .ok (.iload_n 1, 1) := dk_27 (dk_at dksX11_givePart_1 20 rfl rfl)
theorem dX11_givePart_44 : decode cX11_givePart 44 = .ok (.laload, 1) := dk_47 (dk_at dksX11_givePart_1 21 rfl rfl)
theorem dX11_givePart_45 : decode cX11_givePart 45 = .ok (.lload_n 2, 1) := dk_32 (dk_at dksX11_givePart_1 22 rfl rfl)
theorem dX11_givePart_46 : decode cX11_givePart 46 = .ok (.lsub, 1) := dk_101 (dk_at dksX11_givePart_1 23 rfl rfl)
theorem dX11_givePart_47 : decode cX11_givePart 47 = .ok (.lmul, 1) := dk_105 (dk_at dksX11_givePart_2 0 rfl rfl)
theorem dX11_givePart_48 : decode cX11_givePart 48 = .ok (.aload_n 0, 1) := dk_42 (dk_at dksX11_givePart_2 1 rfl rfl)
theorem dX11_givePart_49 : decode cX11_givePart 49 = .ok (.getfield 801, 3) := dk_180 3 33 (dk_at dksX11_givePart_2 2 rfl rfl)
theorem dX11_givePart_52 : decode cX11_givePart 52 = .ok (.iload_n 1, 1) := dk_27 (dk_at dksX11_givePart_2 5 rfl rfl)
theorem dX11_givePart_53 : decode cX11_givePart 53 = .ok (.laload, 1) := dk_47 (dk_at dksX11_givePart_2 6 rfl rfl)
theorem dX11_givePart_54 : decode cX11_givePart 54 = .ok (.ldiv, 1) := dk_109 (dk_at dksX11_givePart_2 7 rfl rfl)
theorem dX11_givePart_55 : decode cX11_givePart 55 = .ok (.lastore, 1) := dk_80 (dk_at dksX11_givePart_2 8 rfl rfl)
theorem dX11_givePart_56 : decode cX11_givePart 56 = .ok (.aload_n 0, 1) := dk_42 (dk_at dksX11_givePart_2 9 rfl rfl)
theorem dX11_givePart_57 : decode cX11_givePart 57 = .ok (.getfield 956, 3) := dk_180 3 188 (dk_at dksX11_givePart_2 10 rfl rfl)
theorem dX11_givePart_60 : decode cX11_givePart 60 = .ok (.iload 4, 2) := dk_21 4 (dk_at dksX11_givePart_2 13 rfl rfl)
theorem dX11_givePart_62 : decode cX11_givePart 62 = .ok (.aload_n 0, 1) := dk_42 (dk_at dksX11_givePart_2 15 rfl rfl)
theorem dX11_givePart_63 : decode cX11_givePart 63 = .ok (.iload 4, 2) := dk_21 4 (dk_at dksX11_givePart_2 16 rfl rfl)
theorem dX11_givePart_65 : decode cX11_givePart 65 = .ok (.invokevirtual 932, 3) := dk_182 3 164 (dk_at dksX11_givePart_2 18 rfl rfl)
theorem dX11_givePart_68 : decode cX11_givePart 68 = .ok (.iastore, 1) := dk_79 (dk_at dksX11_givePart_2 21 rfl rfl)
theorem dX11_givePart_69 : decode cX11_givePart 69 = .ok (.iinc 4 1, 3) := dk_132 4 1 (dk_at dksX11_givePart_3 0 rfl rfl)
theorem dX11_givePart_72 : decode cX11_givePart 72 = .ok (.goto (-69), 3) := dk_167 255 187 (dk_at dksX11_givePart_3 3 rfl rfl)
theorem dX11_givePart_75 : decode cX11_givePart 75 = .ok (.return_, 1) := dk_177 (dk_at dksX11_givePart_3 6 rfl rfl)
abbrev cX11_giveSome : ByteArray := prog_17_method_162_code
def yX11_giveSome : MethodName := ⟨RX11, "giveSome", "(IJJ)J"⟩
def dkwX11_giveSome_6 : List UInt8 := [42, 42, 180, 3, 171, 21, 12, 46, 182, 3, 164, 79, 22, 8, 10, 97, 55, 8, 167, 255, 103, 22, 6, 173]
abbrev dktX11_giveSome_6 : List UInt8 := dkwX11_giveSome_6 ++ []
def dkwX11_giveSome_5 : List UInt8 := [167, 0, 4, 3, 100, 54, 11, 132, 12, 1, 167, 255, 206, 42, 180, 3, 188, 42, 180, 3, 171, 21, 12, 46]
abbrev dktX11_giveSome_5 : List UInt8 := dkwX11_giveSome_5 ++ dktX11_giveSome_6
def dkwX11_giveSome_4 : List UInt8 := [21, 11, 158, 0, 35, 21, 11, 42, 180, 3, 188, 42, 180, 3, 171, 21, 12, 46, 46, 27, 160, 0, 7, 4]
abbrev dktX11_giveSome_4 : List UInt8 := dkwX11_giveSome_4 ++ dktX11_giveSome_5
def dkwX11_giveSome_3 : List UInt8 := [133, 113, 136, 54, 11, 3, 54, 12, 42, 180, 3, 188, 42, 180, 3, 171, 21, 12, 46, 46, 27, 160, 0, 8]
abbrev dktX11_giveSome_3 : List UInt8 := dkwX11_giveSome_3 ++ dktX11_giveSome_4
def dkwX11_giveSome_2 : List UInt8 := [160, 0, 7, 4, 167, 0, 4, 3, 96, 54, 10, 132, 11, 1, 167, 255, 223, 22, 6, 16, 33, 125, 21, 10]
abbrev dktX11_giveSome_2 : List UInt8 := dkwX11_giveSome_2 ++ dktX11_giveSome_3
def dkwX11_giveSome_1 : List UInt8 := [3, 54, 11, 21, 11, 42, 180, 2, 255, 162, 0, 30, 21, 10, 42, 180, 3, 188, 21, 11, 46, 27]
abbrev dktX11_giveSome_1 : List UInt8 := dkwX11_giveSome_1 ++ dktX11_giveSome_2
def dkwX11_giveSome_0 : List UInt8 := [22, 4, 55, 6, 9, 55, 8, 22, 8, 32, 148, 156, 0, 152, 22, 6, 184, 2, 133, 55, 6, 3, 54, 10]
abbrev dktX11_giveSome_0 : List UInt8 := dkwX11_giveSome_0 ++ dktX11_giveSome_1
theorem dksX11_giveSome_0 : cX11_giveSome.data.toList.drop 0 = dktX11_giveSome_0 := by decide +kernel
theorem dksX11_giveSome_1 : cX11_giveSome.data.toList.drop 24 = dktX11_giveSome_1 := dk_seg dksX11_giveSome_0 24 rfl rfl
theorem dksX11_giveSome_2 : cX11_giveSome.data.toList.drop 46 = dktX11_giveSome_2 := dk_seg dksX11_giveSome_1 22 rfl rfl
theorem dksX11_giveSome_3 : cX11_giveSome.data.toList.drop 70 = dktX11_giveSome_3 := dk_seg dksX11_giveSome_2 24 rfl rfl
theorem dksX11_giveSome_4 : cX11_giveSome.data.toList.drop 94 = dktX11_giveSome_4 := dk_seg dksX11_giveSome_3 24 rfl rfl
theorem dksX11_giveSome_5 : cX11_giveSome.data.toList.drop 118 = dktX11_giveSome_5 := dk_seg dksX11_giveSome_4 24 rfl rfl
theorem dksX11_giveSome_6 : cX11_giveSome.data.toList.drop 142 = dktX11_giveSome_6 := dk_seg dksX11_giveSome_5 24 rfl rfl
theorem dX11_giveSome_0 : decode cX11_giveSome 0 = .ok (.lload 4, 2) := dk_22 4 (dk_at dksX11_giveSome_0 0 rfl rfl)
theorem dX11_giveSome_2 : decode cX11_giveSome 2 = .ok (.lstore 6, 2) := dk_55 6 (dk_at dksX11_giveSome_0 2 rfl rfl)
theorem dX11_giveSome_4 : decode cX11_giveSome 4 = .ok (.lconst 0, 1) := dk_9 (dk_at dksX11_giveSome_0 4 rfl rfl)
theorem dX11_giveSome_5 : decode cX11_giveSome 5 = .ok (.lstore 8, 2) := dk_55 8 (dk_at dksX11_giveSome_0 5 rfl rfl)
theorem dX11_giveSome_7 : decode cX11_giveSome 7 = .ok (.lload 8, 2) := dk_22 8 (dk_at dksX11_giveSome_0 7 rfl rfl)
theorem dX11_giveSome_9 : decode cX11_giveSome 9 = .ok (.lload_n 2, 1) := dk_32 (dk_at dksX11_giveSome_0 9 rfl rfl)
theorem dX11_giveSome_10 : decode cX11_giveSome 10 = .ok (.lcmp, 1) := dk_148 (dk_at dksX11_giveSome_0 10 rfl rfl)
theorem dX11_giveSome_11 : decode cX11_giveSome 11 = .ok (.ifCond .ge 152, 3) := dk_156 0 152 (dk_at dksX11_giveSome_0 11 rfl rfl)
theorem dX11_giveSome_14 : decode cX11_giveSome 14 = .ok (.lload 6, 2) := dk_22 6 (dk_at dksX11_giveSome_0 14 rfl rfl)
theorem dX11_giveSome_16 : decode cX11_giveSome 16 = .ok (.invokestatic 645, 3) := dk_184 2 133 (dk_at dksX11_giveSome_0 16 rfl rfl)
theorem dX11_giveSome_19 : decode cX11_giveSome 19 = .ok (.lstore 6, 2) := dk_55 6 (dk_at dksX11_giveSome_0 19 rfl rfl)
theorem dX11_giveSome_21 : decode cX11_giveSome 21 = .ok (.iconst 0, 1) := dk_3 (dk_at dksX11_giveSome_0 21 rfl rfl)
theorem dX11_giveSome_22 : decode cX11_giveSome 22 = .ok (.istore 10, 2) := dk_54 10 (dk_at dksX11_giveSome_0 22 rfl rfl)
theorem dX11_giveSome_24 : decode cX11_giveSome 24 = .ok (.iconst 0, 1) := dk_3 (dk_at dksX11_giveSome_1 0 rfl rfl)
theorem dX11_giveSome_25 : decode cX11_giveSome 25 = .ok (.istore 11, 2) := dk_54 11 (dk_at dksX11_giveSome_1 1 rfl rfl)
theorem dX11_giveSome_27 : decode cX11_giveSome 27 = .ok (.iload 11, 2) := dk_21 11 (dk_at dksX11_giveSome_1 3 rfl rfl)
theorem dX11_giveSome_29 : decode cX11_giveSome 29 = .ok (.aload_n 0, 1) := dk_42 (dk_at dksX11_giveSome_1 5 rfl rfl)
theorem dX11_giveSome_30 : decode cX11_giveSome 30 = .ok (.getfield 767, 3) := dk_180 2 255 (dk_at dksX11_giveSome_1 6 rfl rfl)
theorem dX11_giveSome_33 : decode cX11_giveSome 33 = .ok (.if_icmp .ge 30, 3) := dk_162 0 30 (dk_at dksX11_giveSome_1 9 rfl rfl)
theorem dX11_giveSome_36 : decode cX11_giveSome 36 = .ok (.iload 10, 2) := dk_21 10 (dk_at dksX11_giveSome_1 12 rfl rfl)
theorem dX11_giveSome_38 : decode cX11_giveSome 38 = .ok (.aload_n 0, 1) := dk_42 (dk_at dksX11_giveSome_1 14 rfl rfl)
theorem dX11_giveSome_39 : decode cX11_giveSome 39 = .ok (.getfield 956, 3) := dk_180 3 188 (dk_at dksX11_giveSome_1 15 rfl rfl)
theorem dX11_giveSome_42 : decode cX11_giveSome 42 = .ok (.iload 11, 2) := dk_21 11 (dk_at dksX11_giveSome_1 18 rfl rfl)
theorem dX11_giveSome_44 : decode cX11_giveSome 44 = .ok (.iaload, 1) := dk_46 (dk_at dksX11_giveSome_1 20 rfl rfl)
theorem dX11_giveSome_45 : decode cX11_giveSome 45 = .ok (.iload_n 1, 1) := dk_27 (dk_at dksX11_giveSome_1 21 rfl rfl)
theorem dX11_giveSome_46 : decode cX11_giveSome 46 = .ok (.if_icmp .ne 7, 3) := dk_160 0 7 (dk_at dksX11_giveSome_2 0 rfl rfl)
theorem dX11_giveSome_49 : decode cX11_giveSome 49 = .ok (.iconst 1, 1) := dk_4 (dk_at dksX11_giveSome_2 3 rfl rfl)
theorem dX11_giveSome_50 : decode cX11_giveSome 50 = .ok (.goto 4, 3) := dk_167 0 4 (dk_at dksX11_giveSome_2 4 rfl rfl)
theorem dX11_giveSome_53 : decode cX11_giveSome 53 = .ok (.iconst 0, 1) := dk_3 (dk_at dksX11_giveSome_2 7 rfl rfl)
theorem dX11_giveSome_54 : decode cX11_giveSome 54 = .ok (.iadd, 1) := dk_96 (dk_at dksX11_giveSome_2 8 rfl rfl)
theorem dX11_giveSome_55 : decode cX11_giveSome 55 = .ok (.istore 10, 2) := dk_54 10 (dk_at dksX11_giveSome_2 9 rfl rfl)
theorem dX11_giveSome_57 : decode cX11_giveSome 57 = .ok (.iinc 11 1, 3) := dk_132 11 1 (dk_at dksX11_giveSome_2 11 rfl rfl)
theorem dX11_giveSome_60 : decode cX11_giveSome 60 = .ok (.goto (-33), 3) := dk_167 255 223 (dk_at dksX11_giveSome_2 14 rfl rfl)
theorem dX11_giveSome_63 : decode cX11_giveSome 63 = .ok (.lload 6, 2) := dk_22 6 (dk_at dksX11_giveSome_2 17 rfl rfl)
theorem dX11_giveSome_65 : decode cX11_giveSome 65 = .ok (.bipush 33, 2) := dk_16 33 (dk_at dksX11_giveSome_2 19 rfl rfl)
theorem dX11_giveSome_67 : decode cX11_giveSome 67 = .ok (.lushr, 1) := dk_125 (dk_at dksX11_giveSome_2 21 rfl rfl)
theorem dX11_giveSome_68 : decode cX11_giveSome 68 = .ok (.iload 10, 2) := dk_21 10 (dk_at dksX11_giveSome_2 22 rfl rfl)
theorem dX11_giveSome_70 : decode cX11_giveSome 70 = .ok (.i2l, 1) := dk_133 (dk_at dksX11_giveSome_3 0 rfl rfl)
theorem dX11_giveSome_71 : decode cX11_giveSome 71 = .ok (.lrem, 1) := dk_113 (dk_at dksX11_giveSome_3 1 rfl rfl)
theorem dX11_giveSome_72 : decode cX11_giveSome 72 = .ok (.l2i, 1) := dk_136 (dk_at dksX11_giveSome_3 2 rfl rfl)
theorem dX11_giveSome_73 : decode cX11_giveSome 73 = .ok (.istore 11, 2) := dk_54 11 (dk_at dksX11_giveSome_3 3 rfl rfl)
theorem dX11_giveSome_75 : decode cX11_giveSome 75 = .ok (.iconst 0, 1) := dk_3 (dk_at dksX11_giveSome_3 5 rfl rfl)
theorem dX11_giveSome_76 : decode cX11_giveSome 76 = .ok (.istore 12, 2) := dk_54 12 (dk_at dksX11_giveSome_3 6 rfl rfl)
theorem dX11_giveSome_78 : decode cX11_giveSome 78 = .ok (.aload_n 0, 1) := dk_42 (dk_at dksX11_giveSome_3 8 rfl rfl)
theorem dX11_giveSome_79 : decode cX11_giveSome 79 = .ok (.getfield 956, 3) := dk_180 3 188 (dk_at dksX11_giveSome_3 9 rfl rfl)
theorem dX11_giveSome_82 : decode cX11_giveSome 82 = .ok (.aload_n 0, 1) := dk_42 (dk_at dksX11_giveSome_3 12 rfl rfl)
theorem dX11_giveSome_83 : decode cX11_giveSome 83 = .ok (.getfield 939, 3) := dk_180 3 171 (dk_at dksX11_giveSome_3 13 rfl rfl)
theorem dX11_giveSome_86 : decode cX11_giveSome 86 = .ok (.iload 12, 2) := dk_21 12 (dk_at dksX11_giveSome_3 16 rfl rfl)
theorem dX11_giveSome_88 : decode cX11_giveSome 88 = .ok (.iaload, 1) := dk_46 (dk_at dksX11_giveSome_3 18 rfl rfl)
theorem dX11_giveSome_89 : decode cX11_giveSome 89 = .ok (.iaload, 1) := dk_46 (dk_at dksX11_giveSome_3 19 rfl rfl)
theorem dX11_giveSome_90 : decode cX11_giveSome 90 = .ok (.iload_n 1, 1) := dk_27 (dk_at dksX11_giveSome_3 20 rfl rfl)
theorem dX11_giveSome_91 : decode cX11_giveSome 91 = .ok (.if_icmp .ne 8, 3) := dk_160 0 8 (dk_at dksX11_giveSome_3 21 rfl rfl)
theorem dX11_giveSome_94 : decode cX11_giveSome 94 = .ok (.iload 11, 2) := dk_21 11 (dk_at dksX11_giveSome_4 0 rfl rfl)
theorem dX11_giveSome_96 : decode cX11_giveSome 96 = .ok (.ifCond .le 35, 3) := dk_158 0 35 (dk_at dksX11_giveSome_4 2 rfl rfl)
theorem dX11_giveSome_99 : decode cX11_giveSome 99 = .ok (.iload 11, 2) := dk_21 11 (dk_at dksX11_giveSome_4 5 rfl rfl)
theorem dX11_giveSome_101 : decode cX11_giveSome 101 = .ok (.aload_n 0, 1) := dk_42 (dk_at dksX11_giveSome_4 7 rfl rfl)
theorem dX11_giveSome_102 : decode cX11_giveSome 102 = .ok (.getfield 956, 3) := dk_180 3 188 (dk_at dksX11_giveSome_4 8 rfl rfl)
theorem dX11_giveSome_105 : decode cX11_giveSome 105 = .ok (.aload_n 0, 1) := dk_42 (dk_at dksX11_giveSome_4 11 rfl rfl)
theorem dX11_giveSome_106 : decode cX11_giveSome 106 = .ok (.getfield 939, 3) := dk_180 3 171 (dk_at dksX11_giveSome_4 12 rfl rfl)
theorem dX11_giveSome_109 : decode cX11_giveSome 109 = .ok (.iload 12, 2) := dk_21 12 (dk_at dksX11_giveSome_4 15 rfl rfl)
theorem dX11_giveSome_111 : decode cX11_giveSome 111 = .ok (.iaload, 1) := dk_46 (dk_at dksX11_giveSome_4 17 rfl rfl)
theorem dX11_giveSome_112 : decode cX11_giveSome 112 = .ok (.iaload, 1) := dk_46 (dk_at dksX11_giveSome_4 18 rfl rfl)
theorem dX11_giveSome_113 : decode cX11_giveSome 113 = .ok (.iload_n 1, 1) := dk_27 (dk_at dksX11_giveSome_4 19 rfl rfl)
theorem dX11_giveSome_114 : decode cX11_giveSome 114 = .ok (.if_icmp .ne 7, 3) := dk_160 0 7 (dk_at dksX11_giveSome_4 20 rfl rfl)
theorem dX11_giveSome_117 : decode cX11_giveSome 117 = .ok (.iconst 1, 1) := dk_4 (dk_at dksX11_giveSome_4 23 rfl rfl)
theorem dX11_giveSome_118 : decode cX11_giveSome 118 = .ok (.goto 4, 3) := dk_167 0 4 (dk_at dksX11_giveSome_5 0 rfl rfl)
theorem dX11_giveSome_121 : decode cX11_giveSome 121 = .ok (.iconst 0, 1) := dk_3 (dk_at dksX11_giveSome_5 3 rfl rfl)
theorem dX11_giveSome_122 : decode cX11_giveSome 122 = .ok (.isub, 1) := dk_100 (dk_at dksX11_giveSome_5 4 rfl rfl)
theorem dX11_giveSome_123 : decode cX11_giveSome 123 = .ok (.istore 11, 2) := dk_54 11 (dk_at dksX11_giveSome_5 5 rfl rfl)
theorem dX11_giveSome_125 : decode cX11_giveSome 125 = .ok (.iinc 12 1, 3) := dk_132 12 1 (dk_at dksX11_giveSome_5 7 rfl rfl)
theorem dX11_giveSome_128 : decode cX11_giveSome 128 = .ok (.goto (-50), 3) := dk_167 255 206 (dk_at dksX11_giveSome_5 10 rfl rfl)
theorem dX11_giveSome_131 : decode cX11_giveSome 131 = .ok (.aload_n 0, 1) := dk_42 (dk_at dksX11_giveSome_5 13 rfl rfl)
theorem dX11_giveSome_132 : decode cX11_giveSome 132 = .ok (.getfield 956, 3) := dk_180 3 188 (dk_at dksX11_giveSome_5 14 rfl rfl)
theorem dX11_giveSome_135 : decode cX11_giveSome 135 = .ok (.aload_n 0, 1) := dk_42 (dk_at dksX11_giveSome_5 17 rfl rfl)
theorem dX11_giveSome_136 : decode cX11_giveSome 136 = .ok (.getfield 939, 3) := dk_180 3 171 (dk_at dksX11_giveSome_5 18 rfl rfl)
theorem dX11_giveSome_139 : decode cX11_giveSome 139 = .ok (.iload 12, 2) := dk_21 12 (dk_at dksX11_giveSome_5 21 rfl rfl)
theorem dX11_giveSome_141 : decode cX11_giveSome 141 = .ok (.iaload, 1) := dk_46 (dk_at dksX11_giveSome_5 23 rfl rfl)
theorem dX11_giveSome_142 : decode cX11_giveSome 142 = .ok (.aload_n 0, 1) := dk_42 (dk_at dksX11_giveSome_6 0 rfl rfl)
theorem dX11_giveSome_143 : decode cX11_giveSome 143 = .ok (.aload_n 0, 1) := dk_42 (dk_at dksX11_giveSome_6 1 rfl rfl)
theorem dX11_giveSome_144 : decode cX11_giveSome 144 = .ok (.getfield 939, 3) := dk_180 3 171 (dk_at dksX11_giveSome_6 2 rfl rfl)
theorem dX11_giveSome_147 : decode cX11_giveSome 147 = .ok (.iload 12, 2) := dk_21 12 (dk_at dksX11_giveSome_6 5 rfl rfl)
theorem dX11_giveSome_149 : decode cX11_giveSome 149 = .ok (.iaload, 1) := dk_46 (dk_at dksX11_giveSome_6 7 rfl rfl)
theorem dX11_giveSome_150 : decode cX11_giveSome 150 = .ok (.invokevirtual 932, 3) := dk_182 3 164 (dk_at dksX11_giveSome_6 8 rfl rfl)
theorem dX11_giveSome_153 : decode cX11_giveSome 153 = .ok (.iastore, 1) := dk_79 (dk_at dksX11_giveSome_6 11 rfl rfl)
theorem dX11_giveSome_154 : decode cX11_giveSome 154 = .ok (.lload 8, 2) := dk_22 8 (dk_at dksX11_giveSome_6 12 rfl rfl)
theorem dX11_giveSome_156 : decode cX11_giveSome 156 = .ok (.lconst 1, 1) := dk_10 (dk_at dksX11_giveSome_6 14 rfl rfl)
theorem dX11_giveSome_157 : decode cX11_giveSome 157 = .ok (.ladd, 1) := dk_97 (dk_at dksX11_giveSome_6 15 rfl rfl)
theorem dX11_giveSome_158 : decode cX11_giveSome 158 = .ok (.lstore 8, 2) := dk_55 8 (dk_at dksX11_giveSome_6 16 rfl rfl)
theorem dX11_giveSome_160 : decode cX11_giveSome 160 = .ok (.goto (-153), 3) := dk_167 255 103 (dk_at dksX11_giveSome_6 18 rfl rfl)
theorem dX11_giveSome_163 : decode cX11_giveSome 163 = .ok (.lload 6, 2) := dk_22 6 (dk_at dksX11_giveSome_6 21 rfl rfl)
theorem dX11_giveSome_165 : decode cX11_giveSome 165 = .ok (.lreturn, 1) := dk_173 (dk_at dksX11_giveSome_6 23 rfl rfl)
abbrev cX11_countPairs : ByteArray := prog_17_method_168_code
def yX11_countPairs : MethodName := ⟨RX11, "countPairs", "(I)V"⟩
def dkwX11_countPairs_12 : List UInt8 := [28, 182, 3, 64, 167, 255, 227, 177]
abbrev dktX11_countPairs_12 : List UInt8 := dkwX11_countPairs_12 ++ []
def dkwX11_countPairs_11 : List UInt8 := [180, 3, 61, 42, 180, 2, 246, 162, 0, 24, 42, 27, 182, 3, 242, 61, 42, 180, 3, 141, 28, 4, 79, 42]
abbrev dktX11_countPairs_11 : List UInt8 := dkwX11_countPairs_11 ++ dktX11_countPairs_12
def dkwX11_countPairs_10 : List UInt8 := [16, 8, 160, 0, 7, 42, 182, 3, 236, 27, 16, 9, 160, 0, 7, 42, 182, 3, 239, 42, 182, 3, 161, 42]
abbrev dktX11_countPairs_10 : List UInt8 := dkwX11_countPairs_10 ++ dktX11_countPairs_11
def dkwX11_countPairs_9 : List UInt8 := [80, 132, 3, 1, 167, 255, 205, 132, 2, 1, 167, 255, 182, 42, 182, 3, 103, 42, 182, 3, 106, 177, 27]
abbrev dktX11_countPairs_9 : List UInt8 := dkwX11_countPairs_9 ++ dktX11_countPairs_10
def dkwX11_countPairs_8 : List UInt8 := [180, 3, 33, 28, 47, 42, 28, 29, 182, 3, 233, 133, 184, 3, 228, 167, 0, 9, 42, 180, 3, 33, 28, 47]
abbrev dktX11_countPairs_8 : List UInt8 := dkwX11_countPairs_8 ++ dktX11_countPairs_9
def dkwX11_countPairs_7 : List UInt8 := [62, 29, 42, 180, 2, 243, 162, 0, 49, 42, 180, 3, 33, 28, 42, 180, 2, 252, 29, 51, 153, 0, 22, 42]
abbrev dktX11_countPairs_7 : List UInt8 := dkwX11_countPairs_7 ++ dktX11_countPairs_8
def dkwX11_countPairs_6 : List UInt8 := [27, 16, 7, 160, 0, 91, 3, 61, 28, 42, 180, 2, 243, 162, 0, 72, 42, 180, 3, 33, 28, 9, 80, 3]
abbrev dktX11_countPairs_6 : List UInt8 := dkwX11_countPairs_6 ++ dktX11_countPairs_7
def dkwX11_countPairs_5 : List UInt8 := [180, 3, 33, 29, 21, 4, 133, 80, 132, 3, 1, 167, 255, 138, 42, 182, 3, 100, 132, 2, 1, 167, 255, 118]
abbrev dktX11_countPairs_5 : List UInt8 := dkwX11_countPairs_5 ++ dktX11_countPairs_6
def dkwX11_countPairs_4 : List UInt8 := [96, 54, 4, 132, 5, 1, 167, 255, 180, 42, 180, 3, 230, 16, 9, 28, 104, 29, 96, 21, 4, 79, 42]
abbrev dktX11_countPairs_4 : List UInt8 := dkwX11_countPairs_4 ++ dktX11_countPairs_5
def dkwX11_countPairs_3 : List UInt8 := [21, 4, 21, 6, 158, 0, 19, 21, 7, 153, 0, 10, 21, 6, 21, 7, 162, 0, 7, 4, 167, 0, 4, 3]
abbrev dktX11_countPairs_3 : List UInt8 := dkwX11_countPairs_3 ++ dktX11_countPairs_4
def dkwX11_countPairs_2 : List UInt8 := [16, 9, 21, 5, 104, 28, 96, 46, 54, 6, 42, 180, 3, 12, 16, 9, 21, 5, 104, 29, 96, 46, 54, 7]
abbrev dktX11_countPairs_2 : List UInt8 := dkwX11_countPairs_2 ++ dktX11_countPairs_3
def dkwX11_countPairs_1 : List UInt8 := [54, 5, 21, 5, 42, 180, 2, 255, 162, 0, 73, 42, 180, 2, 252, 29, 51, 153, 0, 64, 42, 180, 3, 12]
abbrev dktX11_countPairs_1 : List UInt8 := dkwX11_countPairs_1 ++ dktX11_countPairs_2
def dkwX11_countPairs_0 : List UInt8 := [3, 61, 28, 42, 180, 2, 243, 162, 0, 136, 3, 62, 29, 42, 180, 2, 243, 162, 0, 116, 3, 54, 4, 3]
abbrev dktX11_countPairs_0 : List UInt8 := dkwX11_countPairs_0 ++ dktX11_countPairs_1
theorem dksX11_countPairs_0 : cX11_countPairs.data.toList.drop 0 = dktX11_countPairs_0 := by decide +kernel
theorem dksX11_countPairs_1 : cX11_countPairs.data.toList.drop 24 = dktX11_countPairs_1 := dk_seg dksX11_countPairs_0 24 rfl rfl
theorem dksX11_countPairs_2 : cX11_countPairs.data.toList.drop 48 = dktX11_countPairs_2 := dk_seg dksX11_countPairs_1 24 rfl rfl
theorem dksX11_countPairs_3 : cX11_countPairs.data.toList.drop 72 = dktX11_countPairs_3 := dk_seg dksX11_countPairs_2 24 rfl rfl
theorem dksX11_countPairs_4 : cX11_countPairs.data.toList.drop 96 = dktX11_countPairs_4 := dk_seg dksX11_countPairs_3 24 rfl rfl
theorem dksX11_countPairs_5 : cX11_countPairs.data.toList.drop 119 = dktX11_countPairs_5 := dk_seg dksX11_countPairs_4 23 rfl rfl
theorem dksX11_countPairs_6 : cX11_countPairs.data.toList.drop 143 = dktX11_countPairs_6 := dk_seg dksX11_countPairs_5 24 rfl rfl
theorem dksX11_countPairs_7 : cX11_countPairs.data.toList.drop 167 = dktX11_countPairs_7 := dk_seg dksX11_countPairs_6 24 rfl rfl
theorem dksX11_countPairs_8 : cX11_countPairs.data.toList.drop 191 = dktX11_countPairs_8 := dk_seg dksX11_countPairs_7 24 rfl rfl
theorem dksX11_countPairs_9 : cX11_countPairs.data.toList.drop 215 = dktX11_countPairs_9 := dk_seg dksX11_countPairs_8 24 rfl rfl
theorem dksX11_countPairs_10 : cX11_countPairs.data.toList.drop 238 = dktX11_countPairs_10 := dk_seg dksX11_countPairs_9 23 rfl rfl
theorem dksX11_countPairs_11 : cX11_countPairs.data.toList.drop 262 = dktX11_countPairs_11 := dk_seg dksX11_countPairs_10 24 rfl rfl
theorem dksX11_countPairs_12 : cX11_countPairs.data.toList.drop 286 = dktX11_countPairs_12 := dk_seg dksX11_countPairs_11 24 rfl rfl
theorem dX11_countPairs_0 : decode cX11_countPairs 0 = .ok (.iconst 0, 1) := dk_3 (dk_at dksX11_countPairs_0 0 rfl rfl)
theorem dX11_countPairs_1 : decode cX11_countPairs 1 = .ok (.istore_n 2, 1) := dk_61 (dk_at dksX11_countPairs_0 1 rfl rfl)
theorem dX11_countPairs_2 : decode cX11_countPairs 2 = .ok (.iload_n 2, 1) := dk_28 (dk_at dksX11_countPairs_0 2 rfl rfl)
theorem dX11_countPairs_3 : decode cX11_countPairs 3 = .ok (.aload_n 0, 1) := dk_42 (dk_at dksX11_countPairs_0 3 rfl rfl)
theorem dX11_countPairs_4 : decode cX11_countPairs 4 = .ok (.getfield 755, 3) := dk_180 2 243 (dk_at dksX11_countPairs_0 4 rfl rfl)
theorem dX11_countPairs_7 : decode cX11_countPairs 7 = .ok (.if_icmp .ge 136, 3) := dk_162 0 136 (dk_at dksX11_countPairs_0 7 rfl rfl)
theorem dX11_countPairs_10 : decode cX11_countPairs 10 = .ok (.iconst 0, 1) := dk_3 (dk_at dksX11_countPairs_0 10 rfl rfl)
theorem dX11_countPairs_11 : decode cX11_countPairs 11 = .ok (.istore_n 3, 1) := dk_62 (dk_at dksX11_countPairs_0 11 rfl rfl)
theorem dX11_countPairs_12 : decode cX11_countPairs 12 = .ok (.iload_n 3, 1) := dk_29 (dk_at dksX11_countPairs_0 12 rfl rfl)
theorem dX11_countPairs_13 : decode cX11_countPairs 13 = .ok (.aload_n 0, 1) := dk_42 (dk_at dksX11_countPairs_0 13 rfl rfl)
theorem dX11_countPairs_14 : decode cX11_countPairs 14 = .ok (.getfield 755, 3) := dk_180 2 243 (dk_at dksX11_countPairs_0 14 rfl rfl)
theorem dX11_countPairs_17 : decode cX11_countPairs 17 = .ok (.if_icmp .ge 116, 3) := dk_162 0 116 (dk_at dksX11_countPairs_0 17 rfl rfl)
theorem dX11_countPairs_20 : decode cX11_countPairs 20 = .ok (.iconst 0, 1) := dk_3 (dk_at dksX11_countPairs_0 20 rfl rfl)
theorem dX11_countPairs_21 : decode cX11_countPairs 21 = .ok (.istore 4, 2) := dk_54 4 (dk_at dksX11_countPairs_0 21 rfl rfl)
theorem dX11_countPairs_23 : decode cX11_countPairs 23 = .ok (.iconst 0, 1) := dk_3 (dk_at dksX11_countPairs_0 23 rfl rfl)
theorem dX11_countPairs_24 : decode cX11_countPairs 24 = .ok (.istore 5, 2) := dk_54 5 (dk_at dksX11_countPairs_1 0 rfl rfl)
theorem dX11_countPairs_26 : decode cX11_countPairs 26 = .ok (.iload 5, 2) := dk_21 5 (dk_at dksX11_countPairs_1 2 rfl rfl)
theorem dX11_countPairs_28 : decode cX11_countPairs 28 = .ok (.aload_n 0, 1) := dk_42 (dk_at dksX11_countPairs_1 4 rfl rfl)
theorem dX11_countPairs_29 : decode cX11_countPairs 29 = .ok (.getfield 767, 3) := dk_180 2 255 (dk_at dksX11_countPairs_1 5 rfl rfl)
theorem dX11_countPairs_32 : decode cX11_countPairs 32 = .ok (.if_icmp .ge 73, 3) := dk_162 0 73 (dk_at dksX11_countPairs_1 8 rfl rfl)
theorem dX11_countPairs_35 : decode cX11_countPairs 35 = .ok (.aload_n 0, 1) := dk_42 (dk_at dksX11_countPairs_1 11 rfl rfl)
theorem dX11_countPairs_36 : decode cX11_countPairs 36 = .ok (.getfield 764, 3) := dk_180 2 252 (dk_at dksX11_countPairs_1 12 rfl rfl)
theorem dX11_countPairs_39 : decode cX11_countPairs 39 = .ok (.iload_n 3, 1) := dk_29 (dk_at dksX11_countPairs_1 15 rfl rfl)
theorem dX11_countPairs_40 : decode cX11_countPairs 40 = .ok (.baload, 1) := dk_51 (dk_at dksX11_countPairs_1 16 rfl rfl)
theorem dX11_countPairs_41 : decode cX11_countPairs 41 = .ok (.ifCond .eq 64, 3) := dk_153 0 64 (dk_at dksX11_countPairs_1 17 rfl rfl)
theorem dX11_countPairs_44 : decode cX11_countPairs 44 = .ok (.aload_n 0, 1) := dk_42 (dk_at dksX11_countPairs_1 20 rfl rfl)
theorem dX11_countPairs_45 : decode cX11_countPairs 45 = .ok (.getfield 780, 3) := dk_180 3 12 (dk_at dksX11_countPairs_1 21 rfl rfl)
theorem dX11_countPairs_48 : decode cX11_countPairs 48 = .ok (.bipush 9, 2) := dk_16 9 (dk_at dksX11_countPairs_2 0 rfl rfl)
theorem dX11_countPairs_50 : decode cX11_countPairs 50 = .ok (.iload 5, 2) := dk_21 5 (dk_at dksX11_countPairs_2 2 rfl rfl)
theorem dX11_countPairs_52 : decode cX11_countPairs 52 = .ok (.imul, 1) := dk_104 (dk_at dksX11_countPairs_2 4 rfl rfl)
theorem dX11_countPairs_53 : decode cX11_countPairs 53 = .ok (.iload_n 2, 1) := dk_28 (dk_at dksX11_countPairs_2 5 rfl rfl)
theorem dX11_countPairs_54 : decode cX11_countPairs 54 = .ok (.iadd, 1) := dk_96 (dk_at dksX11_countPairs_2 6 rfl rfl)
theorem dX11_countPairs_55 : decode cX11_countPairs 55 = .ok (.iaload, 1) := dk_46 (dk_at dksX11_countPairs_2 7 rfl rfl)
theorem dX11_countPairs_56 : decode cX11_countPairs 56 = .ok (.istore 6, 2) := dk_54 6 (dk_at dksX11_countPairs_2 8 rfl rfl)
theorem dX11_countPairs_58 : decode cX11_countPairs 58 = .ok (.aload_n 0, 1) := dk_42 (dk_at dksX11_countPairs_2 10 rfl rfl)
theorem dX11_countPairs_59 : decode cX11_countPairs 59 = .ok (.getfield 780, 3) := dk_180 3 12 (dk_at dksX11_countPairs_2 11 rfl rfl)
theorem dX11_countPairs_62 : decode cX11_countPairs 62 = .ok (.bipush 9, 2) := dk_16 9 (dk_at dksX11_countPairs_2 14 rfl rfl)
theorem dX11_countPairs_64 : decode cX11_countPairs 64 = .ok (.iload 5, 2) := dk_21 5 (dk_at dksX11_countPairs_2 16 rfl rfl)
theorem dX11_countPairs_66 : decode cX11_countPairs 66 = .ok (.imul, 1) := dk_104 (dk_at dksX11_countPairs_2 18 rfl rfl)
theorem dX11_countPairs_67 : decode cX11_countPairs 67 = .ok (.iload_n 3, 1) := dk_29 (dk_at dksX11_countPairs_2 19 rfl rfl)
theorem dX11_countPairs_68 : decode cX11_countPairs 68 = .ok (.iadd, 1) := dk_96 (dk_at dksX11_countPairs_2 20 rfl rfl)
theorem dX11_countPairs_69 : decode cX11_countPairs 69 = .ok (.iaload, 1) := dk_46 (dk_at dksX11_countPairs_2 21 rfl rfl)
theorem dX11_countPairs_70 : decode cX11_countPairs 70 = .ok (.istore 7, 2) := dk_54 7 (dk_at dksX11_countPairs_2 22 rfl rfl)
theorem dX11_countPairs_72 : decode cX11_countPairs 72 = .ok (.iload 4, 2) := dk_21 4 (dk_at dksX11_countPairs_3 0 rfl rfl)
theorem dX11_countPairs_74 : decode cX11_countPairs 74 = .ok (.iload 6, 2) := dk_21 6 (dk_at dksX11_countPairs_3 2 rfl rfl)
theorem dX11_countPairs_76 : decode cX11_countPairs 76 = .ok (.ifCond .le 19, 3) := dk_158 0 19 (dk_at dksX11_countPairs_3 4 rfl rfl)
theorem dX11_countPairs_79 : decode cX11_countPairs 79 = .ok (.iload 7, 2) := dk_21 7 (dk_at dksX11_countPairs_3 7 rfl rfl)
theorem dX11_countPairs_81 : decode cX11_countPairs 81 = .ok (.ifCond .eq 10, 3) := dk_153 0 10 (dk_at dksX11_countPairs_3 9 rfl rfl)
theorem dX11_countPairs_84 : decode cX11_countPairs 84 = .ok (.iload 6, 2) := dk_21 6 (dk_at dksX11_countPairs_3 12 rfl rfl)
theorem dX11_countPairs_86 : decode cX11_countPairs 86 = .ok (.iload 7, 2) := dk_21 7 (dk_at dksX11_countPairs_3 14 rfl rfl)
theorem dX11_countPairs_88 : decode cX11_countPairs 88 = .ok (.if_icmp .ge 7, 3) := dk_162 0 7 (dk_at dksX11_countPairs_3 16 rfl rfl)
theorem dX11_countPairs_91 : decode cX11_countPairs 91 = .ok (.iconst 1, 1) := dk_4 (dk_at dksX11_countPairs_3 19 rfl rfl)
theorem dX11_countPairs_92 : decode cX11_countPairs 92 = .ok (.goto 4, 3) := dk_167 0 4 (dk_at dksX11_countPairs_3 20 rfl rfl)
theorem dX11_countPairs_95 : decode cX11_countPairs 95 = .ok (.iconst 0, 1) := dk_3 (dk_at dksX11_countPairs_3 23 rfl rfl)
theorem dX11_countPairs_96 : decode cX11_countPairs 96 = .ok (.iadd, 1) := dk_96 (dk_at dksX11_countPairs_4 0 rfl rfl)
theorem dX11_countPairs_97 : decode cX11_countPairs 97 = .ok (.istore 4, 2) := dk_54 4 (dk_at dksX11_countPairs_4 1 rfl rfl)
theorem dX11_countPairs_99 : decode cX11_countPairs 99 = .ok (.iinc 5 1, 3) := dk_132 5 1 (dk_at dksX11_countPairs_4 3 rfl rfl)
theorem dX11_countPairs_102 : decode cX11_countPairs 102 = .ok (.goto (-76), 3) := dk_167 255 180 (dk_at dksX11_countPairs_4 6 rfl rfl)
theorem dX11_countPairs_105 : decode cX11_countPairs 105 = .ok (.aload_n 0, 1) := dk_42 (dk_at dksX11_countPairs_4 9 rfl rfl)
theorem dX11_countPairs_106 : decode cX11_countPairs 106 = .ok (.getfield 998, 3) := dk_180 3 230 (dk_at dksX11_countPairs_4 10 rfl rfl)
theorem dX11_countPairs_109 : decode cX11_countPairs 109 = .ok (.bipush 9, 2) := dk_16 9 (dk_at dksX11_countPairs_4 13 rfl rfl)
theorem dX11_countPairs_111 : decode cX11_countPairs 111 = .ok (.iload_n 2, 1) := dk_28 (dk_at dksX11_countPairs_4 15 rfl rfl)
theorem dX11_countPairs_112 : decode cX11_countPairs 112 = .ok (.imul, 1) := dk_104 (dk_at dksX11_countPairs_4 16 rfl rfl)
theorem dX11_countPairs_113 : decode cX11_countPairs 113 = .ok (.iload_n 3, 1) := dk_29 (dk_at dksX11_countPairs_4 17 rfl rfl)
theorem dX11_countPairs_114 : decode cX11_countPairs 114 = .ok (.iadd, 1) := dk_96 (dk_at dksX11_countPairs_4 18 rfl rfl)
theorem dX11_countPairs_115 : decode cX11_countPairs 115 = .ok (.iload 4, 2) := dk_21 4 (dk_at dksX11_countPairs_4 19 rfl rfl)
theorem dX11_countPairs_117 : decode cX11_countPairs 117 = .ok (.iastore, 1) := dk_79 (dk_at dksX11_countPairs_4 21 rfl rfl)
theorem dX11_countPairs_118 : decode cX11_countPairs 118 = .ok (.aload_n 0, 1) := dk_42 (dk_at dksX11_countPairs_4 22 rfl rfl)
theorem dX11_countPairs_119 : decode cX11_countPairs 119 = .ok (.getfield 801, 3) := dk_180 3 33 (dk_at dksX11_countPairs_5 0 rfl rfl)
theorem dX11_countPairs_122 : decode cX11_countPairs 122 = .ok (.iload_n 3, 1) := dk_29 (dk_at dksX11_countPairs_5 3 rfl rfl)
theorem dX11_countPairs_123 : decode cX11_countPairs 123 = .ok (.iload 4, 2) := dk_21 4 (dk_at dksX11_countPairs_5 4 rfl rfl)
theorem dX11_countPairs_125 : decode cX11_countPairs 125 = .ok (.i2l, 1) := dk_133 (dk_at dksX11_countPairs_5 6 rfl rfl)
theorem dX11_countPairs_126 : decode cX11_countPairs 126 = .ok (.lastore, 1) := dk_80 (dk_at dksX11_countPairs_5 7 rfl rfl)
theorem dX11_countPairs_127 : decode cX11_countPairs 127 = .ok (.iinc 3 1, 3) := dk_132 3 1 (dk_at dksX11_countPairs_5 8 rfl rfl)
theorem dX11_countPairs_130 : decode cX11_countPairs 130 = .ok (.goto (-118), 3) := dk_167 255 138 (dk_at dksX11_countPairs_5 11 rfl rfl)
theorem dX11_countPairs_133 : decode cX11_countPairs 133 = .ok (.aload_n 0, 1) := dk_42 (dk_at dksX11_countPairs_5 14 rfl rfl)
theorem dX11_countPairs_134 : decode cX11_countPairs 134 = .ok (.invokevirtual 868, 3) := dk_182 3 100 (dk_at dksX11_countPairs_5 15 rfl rfl)
theorem dX11_countPairs_137 : decode cX11_countPairs 137 = .ok (.iinc 2 1, 3) := dk_132 2 1 (dk_at dksX11_countPairs_5 18 rfl rfl)
theorem dX11_countPairs_140 : decode cX11_countPairs 140 = .ok (.goto (-138), 3) := dk_167 255 118 (dk_at dksX11_countPairs_5 21 rfl rfl)
theorem dX11_countPairs_143 : decode cX11_countPairs 143 = .ok (.iload_n 1, 1) := dk_27 (dk_at dksX11_countPairs_6 0 rfl rfl)
theorem dX11_countPairs_144 : decode cX11_countPairs 144 = .ok (.bipush 7, 2) := dk_16 7 (dk_at dksX11_countPairs_6 1 rfl rfl)
theorem dX11_countPairs_146 : decode cX11_countPairs 146 = .ok (.if_icmp .ne 91, 3) := dk_160 0 91 (dk_at dksX11_countPairs_6 3 rfl rfl)
theorem dX11_countPairs_149 : decode cX11_countPairs 149 = .ok (.iconst 0, 1) := dk_3 (dk_at dksX11_countPairs_6 6 rfl rfl)
theorem dX11_countPairs_150 : decode cX11_countPairs 150 = .ok (.istore_n 2, 1) := dk_61 (dk_at dksX11_countPairs_6 7 rfl rfl)
theorem dX11_countPairs_151 : decode cX11_countPairs 151 = .ok (.iload_n 2, 1) := dk_28 (dk_at dksX11_countPairs_6 8 rfl rfl)
theorem dX11_countPairs_152 : decode cX11_countPairs 152 = .ok (.aload_n 0, 1) := dk_42 (dk_at dksX11_countPairs_6 9 rfl rfl)
theorem dX11_countPairs_153 : decode cX11_countPairs 153 = .ok (.getfield 755, 3) := dk_180 2 243 (dk_at dksX11_countPairs_6 10 rfl rfl)
theorem dX11_countPairs_156 : decode cX11_countPairs 156 = .ok (.if_icmp .ge 72, 3) := dk_162 0 72 (dk_at dksX11_countPairs_6 13 rfl rfl)
theorem dX11_countPairs_159 : decode cX11_countPairs 159 = .ok (.aload_n 0, 1) := dk_42 (dk_at dksX11_countPairs_6 16 rfl rfl)
theorem dX11_countPairs_160 : decode cX11_countPairs 160 = .ok (.getfield 801, 3) := dk_180 3 33 (dk_at dksX11_countPairs_6 17 rfl rfl)
theorem dX11_countPairs_163 : decode cX11_countPairs 163 = .ok (.iload_n 2, 1) := dk_28 (dk_at dksX11_countPairs_6 20 rfl rfl)
theorem dX11_countPairs_164 : decode cX11_countPairs 164 = .ok (.lconst 0, 1) := dk_9 (dk_at dksX11_countPairs_6 21 rfl rfl)
theorem dX11_countPairs_165 : decode cX11_countPairs 165 = .ok (.lastore, 1) := dk_80 (dk_at dksX11_countPairs_6 22 rfl rfl)
theorem dX11_countPairs_166 : decode cX11_countPairs 166 = .ok (.iconst 0, 1) := dk_3 (dk_at dksX11_countPairs_6 23 rfl rfl)
theorem dX11_countPairs_167 : decode cX11_countPairs 167 = .ok (.istore_n 3, 1) := dk_62 (dk_at dksX11_countPairs_7 0 rfl rfl)
theorem dX11_countPairs_168 : decode cX11_countPairs 168 = .ok (.iload_n 3, 1) := dk_29 (dk_at dksX11_countPairs_7 1 rfl rfl)
theorem dX11_countPairs_169 : decode cX11_countPairs 169 = .ok (.aload_n 0, 1) := dk_42 (dk_at dksX11_countPairs_7 2 rfl rfl)
theorem dX11_countPairs_170 : decode cX11_countPairs 170 = .ok (.getfield 755, 3) := dk_180 2 243 (dk_at dksX11_countPairs_7 3 rfl rfl)
theorem dX11_countPairs_173 : decode cX11_countPairs 173 = .ok (.if_icmp .ge 49, 3) := dk_162 0 49 (dk_at dksX11_countPairs_7 6 rfl rfl)
theorem dX11_countPairs_176 : decode cX11_countPairs 176 = .ok (.aload_n 0, 1) := dk_42 (dk_at dksX11_countPairs_7 9 rfl rfl)
theorem dX11_countPairs_177 : decode cX11_countPairs 177 = .ok (.getfield 801, 3) := dk_180 3 33 (dk_at dksX11_countPairs_7 10 rfl rfl)
theorem dX11_countPairs_180 : decode cX11_countPairs 180 = .ok (.iload_n 2, 1) := dk_28 (dk_at dksX11_countPairs_7 13 rfl rfl)
theorem dX11_countPairs_181 : decode cX11_countPairs 181 = .ok (.aload_n 0, 1) := dk_42 (dk_at dksX11_countPairs_7 14 rfl rfl)
theorem dX11_countPairs_182 : decode cX11_countPairs 182 = .ok (.getfield 764, 3) := dk_180 2 252 (dk_at dksX11_countPairs_7 15 rfl rfl)
theorem dX11_countPairs_185 : decode cX11_countPairs 185 = .ok (.iload_n 3, 1) := dk_29 (dk_at dksX11_countPairs_7 18 rfl rfl)
theorem dX11_countPairs_186 : decode cX11_countPairs 186 = .ok (.baload, 1) := dk_51 (dk_at dksX11_countPairs_7 19 rfl rfl)
theorem dX11_countPairs_187 : decode cX11_countPairs 187 = .ok (.ifCond .eq 22, 3) := dk_153 0 22 (dk_at dksX11_countPairs_7 20 rfl rfl)
theorem dX11_countPairs_190 : decode cX11_countPairs 190 = .ok (.aload_n 0, 1) := dk_42 (dk_at dksX11_countPairs_7 23 rfl rfl)
theorem dX11_countPairs_191 : decode cX11_countPairs 191 = .ok (.getfield 801, 3) := dk_180 3 33 (dk_at dksX11_countPairs_8 0 rfl rfl)
theorem dX11_countPairs_194 : decode cX11_countPairs 194 = .ok (.iload_n 2, 1) := dk_28 (dk_at dksX11_countPairs_8 3 rfl rfl)
theorem dX11_countPairs_195 : decode cX11_countPairs 195 = .ok (.laload, 1) := dk_47 (dk_at dksX11_countPairs_8 4 rfl rfl)
theorem dX11_countPairs_196 : decode cX11_countPairs 196 = .ok (.aload_n 0, 1) := dk_42 (dk_at dksX11_countPairs_8 5 rfl rfl)
theorem dX11_countPairs_197 : decode cX11_countPairs 197 = .ok (.iload_n 2, 1) := dk_28 (dk_at dksX11_countPairs_8 6 rfl rfl)
theorem dX11_countPairs_198 : decode cX11_countPairs 198 = .ok (.iload_n 3, 1) := dk_29 (dk_at dksX11_countPairs_8 7 rfl rfl)
theorem dX11_countPairs_199 : decode cX11_countPairs 199 = .ok (.invokevirtual 1001, 3) := dk_182 3 233 (dk_at dksX11_countPairs_8 8 rfl rfl)
theorem dX11_countPairs_202 : decode cX11_countPairs 202 = .ok (.i2l, 1) := dk_133 (dk_at dksX11_countPairs_8 11 rfl rfl)
theorem dX11_countPairs_203 : decode cX11_countPairs 203 = .ok (.invokestatic 996, 3) := dk_184 3 228 (dk_at dksX11_countPairs_8 12 rfl rfl)
theorem dX11_countPairs_206 : decode cX11_countPairs 206 = .ok (.goto 9, 3) := dk_167 0 9 (dk_at dksX11_countPairs_8 15 rfl rfl)
theorem dX11_countPairs_209 : decode cX11_countPairs 209 = .ok (.aload_n 0, 1) := dk_42 (dk_at dksX11_countPairs_8 18 rfl rfl)
theorem dX11_countPairs_210 : decode cX11_countPairs 210 = .ok (.getfield 801, 3) := dk_180 3 33 (dk_at dksX11_countPairs_8 19 rfl rfl)
theorem dX11_countPairs_213 : decode cX11_countPairs 213 = .ok (.iload_n 2, 1) := dk_28 (dk_at dksX11_countPairs_8 22 rfl rfl)
theorem dX11_countPairs_214 : decode cX11_countPairs 214 = .ok (.laload, 1) := dk_47 (dk_at dksX11_countPairs_8 23 rfl rfl)
theorem dX11_countPairs_215 : decode cX11_countPairs 215 = .ok (.lastore, 1) := dk_80 (dk_at dksX11_countPairs_9 0 rfl rfl)
theorem dX11_countPairs_216 : decode cX11_countPairs 216 = .ok (.iinc 3 1, 3) := dk_132 3 1 (dk_at dksX11_countPairs_9 1 rfl rfl)
theorem dX11_countPairs_219 : decode cX11_countPairs 219 = .ok (.goto (-51), 3) := dk_167 255 205 (dk_at dksX11_countPairs_9 4 rfl rfl)
theorem dX11_countPairs_222 : decode cX11_countPairs 222 = .ok (.iinc 2 1, 3) := dk_132 2 1 (dk_at dksX11_countPairs_9 7 rfl rfl)
theorem dX11_countPairs_225 : decode cX11_countPairs 225 = .ok (.goto (-74), 3) := dk_167 255 182 (dk_at dksX11_countPairs_9 10 rfl rfl)
theorem dX11_countPairs_228 : decode cX11_countPairs 228 = .ok (.aload_n 0, 1) := dk_42 (dk_at dksX11_countPairs_9 13 rfl rfl)
theorem dX11_countPairs_229 : decode cX11_countPairs 229 = .ok (.invokevirtual 871, 3) := dk_182 3 103 (dk_at dksX11_countPairs_9 14 rfl rfl)
theorem dX11_countPairs_232 : decode cX11_countPairs 232 = .ok (.aload_n 0, 1) := dk_42 (dk_at dksX11_countPairs_9 17 rfl rfl)
theorem dX11_countPairs_233 : decode cX11_countPairs 233 = .ok (.invokevirtual 874, 3) := dk_182 3 106 (dk_at dksX11_countPairs_9 18 rfl rfl)
theorem dX11_countPairs_236 : decode cX11_countPairs 236 = .ok (.return_, 1) := dk_177 (dk_at dksX11_countPairs_9 21 rfl rfl)
theorem dX11_countPairs_237 : decode cX11_countPairs 237 = .ok (.iload_n 1, 1) := dk_27 (dk_at dksX11_countPairs_9 22 rfl rfl)
theorem dX11_countPairs_238 : decode cX11_countPairs 238 = .ok (.bipush 8, 2) := dk_16 8 (dk_at dksX11_countPairs_10 0 rfl rfl)
theorem dX11_countPairs_240 : decode cX11_countPairs 240 = .ok (.if_icmp .ne 7, 3) := dk_160 0 7 (dk_at dksX11_countPairs_10 2 rfl rfl)
theorem dX11_countPairs_243 : decode cX11_countPairs 243 = .ok (.aload_n 0, 1) := dk_42 (dk_at dksX11_countPairs_10 5 rfl rfl)
theorem dX11_countPairs_244 : decode cX11_countPairs 244 = .ok (.invokevirtual 1004, 3) := dk_182 3 236 (dk_at dksX11_countPairs_10 6 rfl rfl)
theorem dX11_countPairs_247 : decode cX11_countPairs 247 = .ok (.iload_n 1, 1) := dk_27 (dk_at dksX11_countPairs_10 9 rfl rfl)
theorem dX11_countPairs_248 : decode cX11_countPairs 248 = .ok (.bipush 9, 2) := dk_16 9 (dk_at dksX11_countPairs_10 10 rfl rfl)
theorem dX11_countPairs_250 : decode cX11_countPairs 250 = .ok (.if_icmp .ne 7, 3) := dk_160 0 7 (dk_at dksX11_countPairs_10 12 rfl rfl)
theorem dX11_countPairs_253 : decode cX11_countPairs 253 = .ok (.aload_n 0, 1) := dk_42 (dk_at dksX11_countPairs_10 15 rfl rfl)
theorem dX11_countPairs_254 : decode cX11_countPairs 254 = .ok (.invokevirtual 1007, 3) := dk_182 3 239 (dk_at dksX11_countPairs_10 16 rfl rfl)
theorem dX11_countPairs_257 : decode cX11_countPairs 257 = .ok (.aload_n 0, 1) := dk_42 (dk_at dksX11_countPairs_10 19 rfl rfl)
theorem dX11_countPairs_258 : decode cX11_countPairs 258 = .ok (.invokevirtual 929, 3) := dk_182 3 161 (dk_at dksX11_countPairs_10 20 rfl rfl)
theorem dX11_countPairs_261 : decode cX11_countPairs 261 = .ok (.aload_n 0, 1) := dk_42 (dk_at dksX11_countPairs_10 23 rfl rfl)
theorem dX11_countPairs_262 : decode cX11_countPairs 262 = .ok (.getfield 829, 3) := dk_180 3 61 (dk_at dksX11_countPairs_11 0 rfl rfl)
theorem dX11_countPairs_265 : decode cX11_countPairs 265 = .ok (.aload_n 0, 1) := dk_42 (dk_at dksX11_countPairs_11 3 rfl rfl)
theorem dX11_countPairs_266 : decode cX11_countPairs 266 = .ok (.getfield 758, 3) := dk_180 2 246 (dk_at dksX11_countPairs_11 4 rfl rfl)
theorem dX11_countPairs_269 : decode cX11_countPairs 269 = .ok (.if_icmp .ge 24, 3) := dk_162 0 24 (dk_at dksX11_countPairs_11 7 rfl rfl)
theorem dX11_countPairs_272 : decode cX11_countPairs 272 = .ok (.aload_n 0, 1) := dk_42 (dk_at dksX11_countPairs_11 10 rfl rfl)
theorem dX11_countPairs_273 : decode cX11_countPairs 273 = .ok (.iload_n 1, 1) := dk_27 (dk_at dksX11_countPairs_11 11 rfl rfl)
theorem dX11_countPairs_274 : decode cX11_countPairs 274 = .ok (.invokevirtual 1010, 3) := dk_182 3 242 (dk_at dksX11_countPairs_11 12 rfl rfl)
theorem dX11_countPairs_277 : decode cX11_countPairs 277 = .ok (.istore_n 2, 1) := dk_61 (dk_at dksX11_countPairs_11 15 rfl rfl)
theorem dX11_countPairs_278 : decode cX11_countPairs 278 = .ok (.aload_n 0, 1) := dk_42 (dk_at dksX11_countPairs_11 16 rfl rfl)
theorem dX11_countPairs_279 : decode cX11_countPairs 279 = .ok (.getfield 909, 3) := dk_180 3 141 (dk_at dksX11_countPairs_11 17 rfl rfl)
theorem dX11_countPairs_282 : decode cX11_countPairs 282 = .ok (.iload_n 2, 1) := dk_28 (dk_at dksX11_countPairs_11 20 rfl rfl)
theorem dX11_countPairs_283 : decode cX11_countPairs 283 = .ok (.iconst 1, 1) := dk_4 (dk_at dksX11_countPairs_11 21 rfl rfl)
theorem dX11_countPairs_284 : decode cX11_countPairs 284 = .ok (.iastore, 1) := dk_79 (dk_at dksX11_countPairs_11 22 rfl rfl)
theorem dX11_countPairs_285 : decode cX11_countPairs 285 = .ok (.aload_n 0, 1) := dk_42 (dk_at dksX11_countPairs_11 23 rfl rfl)
theorem dX11_countPairs_286 : decode cX11_countPairs 286 = .ok (.iload_n 2, 1) := dk_28 (dk_at dksX11_countPairs_12 0 rfl rfl)
theorem dX11_countPairs_287 : decode cX11_countPairs 287 = .ok (.invokevirtual 832, 3) := dk_182 3 64 (dk_at dksX11_countPairs_12 1 rfl rfl)
theorem dX11_countPairs_290 : decode cX11_countPairs 290 = .ok (.goto (-29), 3) := dk_167 255 227 (dk_at dksX11_countPairs_12 4 rfl rfl)
theorem dX11_countPairs_293 : decode cX11_countPairs 293 = .ok (.return_, 1) := dk_177 (dk_at dksX11_countPairs_12 7 rfl rfl)
abbrev cX11_margin : ByteArray := prog_17_method_167_code
def yX11_margin : MethodName := ⟨RX11, "margin", "(II)I"⟩
def dkwX11_margin_0 : List UInt8 := [42, 180, 3, 230, 16, 9, 27, 104, 28, 96, 46, 42, 180, 3, 230, 16, 9, 28, 104, 27, 96, 46, 100, 172]
abbrev dktX11_margin_0 : List UInt8 := dkwX11_margin_0 ++ []
theorem dksX11_margin_0 : cX11_margin.data.toList.drop 0 = dktX11_margin_0 := by decide +kernel
theorem dX11_margin_0 : decode cX11_margin 0 = .ok (.aload_n 0, 1) := dk_42 (dk_at dksX11_margin_0 0 rfl rfl)
theorem dX11_margin_1 : decode cX11_margin 1 = .ok (.getfield 998, 3) := dk_180 3 230 (dk_at dksX11_margin_0 1 rfl rfl)
theorem dX11_margin_4 : decode cX11_margin 4 = .ok (.bipush 9, 2) := dk_16 9 (dk_at dksX11_margin_0 4 rfl rfl)
theorem dX11_margin_6 : decode cX11_margin 6 = .ok (.iload_n 1, 1) := dk_27 (dk_at dksX11_margin_0 6 rfl rfl)
theorem dX11_margin_7 : decode cX11_margin 7 = .ok (.imul, 1) := dk_104 (dk_at dksX11_margin_0 7 rfl rfl)
theorem dX11_margin_8 : decode cX11_margin 8 = .ok (.iload_n 2, 1) := dk_28 (dk_at dksX11_margin_0 8 rfl rfl)
theorem dX11_margin_9 : decode cX11_margin 9 = .ok (.iadd, 1) := dk_96 (dk_at dksX11_margin_0 9 rfl rfl)
theorem dX11_margin_10 : decode cX11_margin 10 = .ok (.iaload, 1) := dk_46 (dk_at dksX11_margin_0 10 rfl rfl)
theorem dX11_margin_11 : decode cX11_margin 11 = .ok (.aload_n 0, 1) := dk_42 (dk_at dksX11_margin_0 11 rfl rfl)
theorem dX11_margin_12 : decode cX11_margin 12 = .ok (.getfield 998, 3) := dk_180 3 230 (dk_at dksX11_margin_0 12 rfl rfl)
theorem dX11_margin_15 : decode cX11_margin 15 = .ok (.bipush 9, 2) := dk_16 9 (dk_at dksX11_margin_0 15 rfl rfl)
theorem dX11_margin_17 : decode cX11_margin 17 = .ok (.iload_n 2, 1) := dk_28 (dk_at dksX11_margin_0 17 rfl rfl)
theorem dX11_margin_18 : decode cX11_margin 18 = .ok (.imul, 1) := dk_104 (dk_at dksX11_margin_0 18 rfl rfl)
theorem dX11_margin_19 : decode cX11_margin 19 = .ok (.iload_n 1, 1) := dk_27 (dk_at dksX11_margin_0 19 rfl rfl)
theorem dX11_margin_20 : decode cX11_margin 20 = .ok (.iadd, 1) := dk_96 (dk_at dksX11_margin_0 20 rfl rfl)
theorem dX11_margin_21 : decode cX11_margin 21 = .ok (.iaload, 1) := dk_46 (dk_at dksX11_margin_0 21 rfl rfl)
theorem dX11_margin_22 : decode cX11_margin 22 = .ok (.isub, 1) := dk_100 (dk_at dksX11_margin_0 22 rfl rfl)
theorem dX11_margin_23 : decode cX11_margin 23 = .ok (.ireturn, 1) := dk_172 (dk_at dksX11_margin_0 23 rfl rfl)
abbrev cX11_keepPairs : ByteArray := prog_17_method_174_code
def yX11_keepPairs : MethodName := ⟨RX11, "keepPairs", "()V"⟩
def dkwX11_keepPairs_13 : List UInt8 := [3, 128, 84, 132, 6, 1, 167, 255, 192, 132, 5, 1, 167, 255, 174, 132, 2, 1, 167, 255, 109, 177]
abbrev dktX11_keepPairs_13 : List UInt8 := dkwX11_keepPairs_13 ++ []
def dkwX11_keepPairs_12 : List UInt8 := [51, 153, 0, 23, 42, 180, 4, 7, 16, 9, 21, 4, 104, 21, 6, 96, 51, 153, 0, 7, 4, 167, 0, 4]
abbrev dktX11_keepPairs_12 : List UInt8 := dkwX11_keepPairs_12 ++ dktX11_keepPairs_13
def dkwX11_keepPairs_11 : List UInt8 := [180, 4, 7, 16, 9, 21, 5, 104, 21, 6, 96, 92, 51, 42, 180, 4, 7, 16, 9, 21, 5, 104, 29, 96]
abbrev dktX11_keepPairs_11 : List UInt8 := dkwX11_keepPairs_11 ++ dktX11_keepPairs_12
def dkwX11_keepPairs_10 : List UInt8 := [54, 5, 21, 5, 42, 180, 2, 243, 162, 0, 79, 3, 54, 6, 21, 6, 42, 180, 2, 243, 162, 0, 61, 42]
abbrev dktX11_keepPairs_10 : List UInt8 := dkwX11_keepPairs_10 ++ dktX11_keepPairs_11
def dkwX11_keepPairs_9 : List UInt8 := [104, 29, 96, 51, 153, 0, 6, 167, 0, 103, 42, 180, 3, 254, 42, 180, 4, 10, 28, 46, 4, 84, 3]
abbrev dktX11_keepPairs_9 : List UInt8 := dkwX11_keepPairs_9 ++ dktX11_keepPairs_10
def dkwX11_keepPairs_8 : List UInt8 := [46, 16, 9, 108, 62, 42, 180, 4, 10, 28, 46, 16, 9, 112, 54, 4, 42, 180, 4, 7, 16, 9, 21, 4]
abbrev dktX11_keepPairs_8 : List UInt8 := dkwX11_keepPairs_8 ++ dktX11_keepPairs_9
def dkwX11_keepPairs_7 : List UInt8 := [132, 3, 1, 167, 255, 147, 132, 2, 1, 167, 255, 131, 3, 61, 28, 27, 162, 0, 148, 42, 180, 4, 10, 28]
abbrev dktX11_keepPairs_7 : List UInt8 := dkwX11_keepPairs_7 ++ dktX11_keepPairs_8
def dkwX11_keepPairs_6 : List UInt8 := [132, 4, 255, 167, 255, 210, 42, 180, 4, 10, 21, 4, 16, 9, 28, 104, 29, 96, 79, 132, 1, 1]
abbrev dktX11_keepPairs_6 : List UInt8 := dkwX11_keepPairs_6 ++ dktX11_keepPairs_7
def dkwX11_keepPairs_5 : List UInt8 := [182, 4, 13, 153, 0, 25, 42, 180, 4, 10, 21, 4, 42, 180, 4, 10, 21, 4, 4, 100, 46, 79]
abbrev dktX11_keepPairs_5 : List UInt8 := dkwX11_keepPairs_5 ++ dktX11_keepPairs_6
def dkwX11_keepPairs_4 : List UInt8 := [27, 54, 4, 21, 4, 158, 0, 47, 42, 16, 9, 28, 104, 29, 96, 42, 180, 4, 10, 21, 4, 4, 100, 46]
abbrev dktX11_keepPairs_4 : List UInt8 := dkwX11_keepPairs_4 ++ dktX11_keepPairs_5
def dkwX11_keepPairs_3 : List UInt8 := [153, 0, 92, 42, 180, 2, 252, 29, 51, 153, 0, 83, 42, 28, 29, 182, 3, 251, 154, 0, 6, 167, 0, 71]
abbrev dktX11_keepPairs_3 : List UInt8 := dkwX11_keepPairs_3 ++ dktX11_keepPairs_4
def dkwX11_keepPairs_2 : List UInt8 := [180, 2, 243, 162, 0, 123, 3, 62, 29, 42, 180, 2, 243, 162, 0, 107, 42, 180, 2, 252, 28, 51]
abbrev dktX11_keepPairs_2 : List UInt8 := dkwX11_keepPairs_2 ++ dktX11_keepPairs_3
def dkwX11_keepPairs_1 : List UInt8 := [16, 10, 112, 154, 0, 7, 4, 167, 0, 4, 3, 84, 132, 2, 1, 167, 255, 222, 3, 61, 28, 42]
abbrev dktX11_keepPairs_1 : List UInt8 := dkwX11_keepPairs_1 ++ dktX11_keepPairs_2
def dkwX11_keepPairs_0 : List UInt8 := [3, 60, 3, 61, 28, 16, 81, 162, 0, 34, 42, 180, 3, 254, 28, 3, 84, 42, 180, 4, 7, 28, 28]
abbrev dktX11_keepPairs_0 : List UInt8 := dkwX11_keepPairs_0 ++ dktX11_keepPairs_1
theorem dksX11_keepPairs_0 : cX11_keepPairs.data.toList.drop 0 = dktX11_keepPairs_0 := by decide +kernel
theorem dksX11_keepPairs_1 : cX11_keepPairs.data.toList.drop 23 = dktX11_keepPairs_1 := dk_seg dksX11_keepPairs_0 23 rfl rfl
theorem dksX11_keepPairs_2 : cX11_keepPairs.data.toList.drop 45 = dktX11_keepPairs_2 := dk_seg dksX11_keepPairs_1 22 rfl rfl
theorem dksX11_keepPairs_3 : cX11_keepPairs.data.toList.drop 67 = dktX11_keepPairs_3 := dk_seg dksX11_keepPairs_2 22 rfl rfl
theorem dksX11_keepPairs_4 : cX11_keepPairs.data.toList.drop 91 = dktX11_keepPairs_4 := dk_seg dksX11_keepPairs_3 24 rfl rfl
theorem dksX11_keepPairs_5 : cX11_keepPairs.data.toList.drop 115 = dktX11_keepPairs_5 := dk_seg dksX11_keepPairs_4 24 rfl rfl
theorem dksX11_keepPairs_6 : cX11_keepPairs.data.toList.drop 137 = dktX11_keepPairs_6 := dk_seg dksX11_keepPairs_5 22 rfl rfl
theorem dksX11_keepPairs_7 : cX11_keepPairs.data.toList.drop 159 = dktX11_keepPairs_7 := dk_seg dksX11_keepPairs_6 22 rfl rfl
theorem dksX11_keepPairs_8 : cX11_keepPairs.data.toList.drop 183 = dktX11_keepPairs_8 := dk_seg dksX11_keepPairs_7 24 rfl rfl
theorem dksX11_keepPairs_9 : cX11_keepPairs.data.toList.drop 207 = dktX11_keepPairs_9 := dk_seg dksX11_keepPairs_8 24 rfl rfl
theorem dksX11_keepPairs_10 : cX11_keepPairs.data.toList.drop 230 = dktX11_keepPairs_10 := dk_seg dksX11_keepPairs_9 23 rfl rfl
theorem dksX11_keepPairs_11 : cX11_keepPairs.data.toList.drop 254 = dktX11_keepPairs_11 := dk_seg dksX11_keepPairs_10 24 rfl rfl
theorem dksX11_keepPairs_12 : cX11_keepPairs.data.toList.drop 278 = dktX11_keepPairs_12 := dk_seg dksX11_keepPairs_11 24 rfl rfl
theorem dksX11_keepPairs_13 : cX11_keepPairs.data.toList.drop 302 = dktX11_keepPairs_13 := dk_seg dksX11_keepPairs_12 24 rfl rfl
theorem dX11_keepPairs_0 : decode cX11_keepPairs 0 = .ok (.iconst 0, 1) := dk_3 (dk_at dksX11_keepPairs_0 0 rfl rfl)
theorem dX11_keepPairs_1 : decode cX11_keepPairs 1 = .ok (.istore_n 1, 1) := dk_60 (dk_at dksX11_keepPairs_0 1 rfl rfl)
theorem dX11_keepPairs_2 : decode cX11_keepPairs 2 = .ok (.iconst 0, 1) := dk_3 (dk_at dksX11_keepPairs_0 2 rfl rfl)
theorem dX11_keepPairs_3 : decode cX11_keepPairs 3 = .ok (.istore_n 2, 1) := dk_61 (dk_at dksX11_keepPairs_0 3 rfl rfl)
theorem dX11_keepPairs_4 : decode cX11_keepPairs 4 = .ok (.iload_n 2, 1) := dk_28 (dk_at dksX11_keepPairs_0 4 rfl rfl)
theorem dX11_keepPairs_5 : decode cX11_keepPairs 5 = .ok (.bipush 81, 2) := dk_16 81 (dk_at dksX11_keepPairs_0 5 rfl rfl)
theorem dX11_keepPairs_7 : decode cX11_keepPairs 7 = .ok (.if_icmp .ge 34, 3) := dk_162 0 34 (dk_at dksX11_keepPairs_0 7 rfl rfl)
theorem dX11_keepPairs_10 : decode cX11_keepPairs 10 = .ok (.aload_n 0, 1) := dk_42 (dk_at dksX11_keepPairs_0 10 rfl rfl)
theorem dX11_keepPairs_11 : decode cX11_keepPairs 11 = .ok (.getfield 1022, 3) := dk_180 3 254 (dk_at dksX11_keepPairs_0 11 rfl rfl)
theorem dX11_keepPairs_14 : decode cX11_keepPairs 14 = .ok (.iload_n 2, 1) := dk_28 (dk_at dksX11_keepPairs_0 14 rfl rfl)
theorem dX11_keepPairs_15 : decode cX11_keepPairs 15 = .ok (.iconst 0, 1) := dk_3 (dk_at dksX11_keepPairs_0 15 rfl rfl)
theorem dX11_keepPairs_16 : decode cX11_keepPairs 16 = .ok (.bastore, 1) := dk_84 (dk_at dksX11_keepPairs_0 16 rfl rfl)
theorem dX11_keepPairs_17 : decode cX11_keepPairs 17 = .ok (.aload_n 0, 1) := dk_42 (dk_at dksX11_keepPairs_0 17 rfl rfl)
theorem dX11_keepPairs_18 : decode cX11_keepPairs 18 = .ok (.getfield 1031, 3) := dk_180 4 7 (dk_at dksX11_keepPairs_0 18 rfl rfl)
theorem dX11_keepPairs_21 : decode cX11_keepPairs 21 = .ok (.iload_n 2, 1) := dk_28 (dk_at dksX11_keepPairs_0 21 rfl rfl)
theorem dX11_keepPairs_22 : decode cX11_keepPairs 22 = .ok (.iload_n 2, 1) := dk_28 (dk_at dksX11_keepPairs_0 22 rfl rfl)
theorem dX11_keepPairs_23 : decode cX11_keepPairs 23 = .ok (.bipush 10, 2) := dk_16 10 (dk_at dksX11_keepPairs_1 0 rfl rfl)
theorem dX11_keepPairs_25 : decode cX11_keepPairs 25 = .ok (.irem, 1) := dk_112 (dk_at dksX11_keepPairs_1 2 rfl rfl)
theorem dX11_keepPairs_26 : decode cX11_keepPairs 26 = .ok (.ifCond .ne 7, 3) := dk_154 0 7 (dk_at dksX11_keepPairs_1 3 rfl rfl)
theorem dX11_keepPairs_29 : decode cX11_keepPairs 29 = .ok (.iconst 1, 1) := dk_4 (dk_at dksX11_keepPairs_1 6 rfl rfl)
theorem dX11_keepPairs_30 : decode cX11_keepPairs 30 = .ok (.goto 4, 3) := dk_167 0 4 (dk_at dksX11_keepPairs_1 7 rfl rfl)
theorem dX11_keepPairs_33 : decode cX11_keepPairs 33 = .ok (.iconst 0, 1) := dk_3 (dk_at dksX11_keepPairs_1 10 rfl rfl)
theorem dX11_keepPairs_34 : decode cX11_keepPairs 34 = .ok (.bastore, 1) := dk_84 (dk_at dksX11_keepPairs_1 11 rfl rfl)
theorem dX11_keepPairs_35 : decode cX11_keepPairs 35 = .ok (.iinc 2 1, 3) := dk_132 2 1 (dk_at dksX11_keepPairs_1 12 rfl rfl)
theorem dX11_keepPairs_38 : decode cX11_keepPairs 38 = .ok (.goto (-34), 3) := dk_167 255 222 (dk_at dksX11_keepPairs_1 15 rfl rfl)
theorem dX11_keepPairs_41 : decode cX11_keepPairs 41 = .ok (.iconst 0, 1) := dk_3 (dk_at dksX11_keepPairs_1 18 rfl rfl)
theorem dX11_keepPairs_42 : decode cX11_keepPairs 42 = .ok (.istore_n 2, 1) := dk_61 (dk_at dksX11_keepPairs_1 19 rfl rfl)
theorem dX11_keepPairs_43 : decode cX11_keepPairs 43 = .ok (.iload_n 2, 1) := dk_28 (dk_at dksX11_keepPairs_1 20 rfl rfl)
theorem dX11_keepPairs_44 : decode cX11_keepPairs 44 = .ok (.aload_n 0, 1) := dk_42 (dk_at dksX11_keepPairs_1 21 rfl rfl)
theorem dX11_keepPairs_45 : decode cX11_keepPairs 45 = .ok (.getfield 755, 3) := dk_180 2 243 (dk_at dksX11_keepPairs_2 0 rfl rfl)
theorem dX11_keepPairs_48 : decode cX11_keepPairs 48 = .ok (.if_icmp .ge 123, 3) := dk_162 0 123 (dk_at dksX11_keepPairs_2 3 rfl rfl)
theorem dX11_keepPairs_51 : decode cX11_keepPairs 51 = .ok (.iconst 0, 1) := dk_3 (dk_at dksX11_keepPairs_2 6 rfl rfl)
theorem dX11_keepPairs_52 : decode cX11_keepPairs 52 = .ok (.istore_n 3, 1) := dk_62 (dk_at dksX11_keepPairs_2 7 rfl rfl)
theorem dX11_keepPairs_53 : decode cX11_keepPairs 53 = .ok (.iload_n 3, 1) := dk_29 (dk_at dksX11_keepPairs_2 8 rfl rfl)
theorem dX11_keepPairs_54 : decode cX11_keepPairs 54 = .ok (.aload_n 0, 1) := dk_42 (dk_at dksX11_keepPairs_2 9 rfl rfl)
theorem dX11_keepPairs_55 : decode cX11_keepPairs 55 = .ok (.getfield 755, 3) := dk_180 2 243 (dk_at dksX11_keepPairs_2 10 rfl rfl)
theorem dX11_keepPairs_58 : decode cX11_keepPairs 58 = .ok (.if_icmp .ge 107, 3) := dk_162 0 107 (dk_at dksX11_keepPairs_2 13 rfl rfl)
theorem dX11_keepPairs_61 : decode cX11_keepPairs 61 = .ok (.aload_n 0, 1) := dk_42 (dk_at dksX11_keepPairs_2 16 rfl rfl)
theorem dX11_keepPairs_62 : decode cX11_keepPairs 62 = .ok (.getfield 764, 3) := dk_180 2 252 (dk_at dksX11_keepPairs_2 17 rfl rfl)
theorem dX11_keepPairs_65 : decode cX11_keepPairs 65 = .ok (.iload_n 2, 1) := dk_28 (dk_at dksX11_keepPairs_2 20 rfl rfl)
theorem dX11_keepPairs_66 : decode cX11_keepPairs 66 = .ok (.baload, 1) := dk_51 (dk_at dksX11_keepPairs_2 21 rfl rfl)
theorem dX11_keepPairs_67 : decode cX11_keepPairs 67 = .ok (.ifCond .eq 92, 3) := dk_153 0 92 (dk_at dksX11_keepPairs_3 0 rfl rfl)
theorem dX11_keepPairs_70 : decode cX11_keepPairs 70 = .ok (.aload_n 0, 1) := dk_42 (dk_at dksX11_keepPairs_3 3 rfl rfl)
theorem dX11_keepPairs_71 : decode cX11_keepPairs 71 = .ok (.getfield 764, 3) := dk_180 2 252 (dk_at dksX11_keepPairs_3 4 rfl rfl)
theorem dX11_keepPairs_74 : decode cX11_keepPairs 74 = .ok (.iload_n 3, 1) := dk_29 (dk_at dksX11_keepPairs_3 7 rfl rfl)
theorem dX11_keepPairs_75 : decode cX11_keepPairs 75 = .ok (.baload, 1) := dk_51 (dk_at dksX11_keepPairs_3 8 rfl rfl)
theorem dX11_keepPairs_76 : decode cX11_keepPairs 76 = .ok (.ifCond .eq 83, 3) := dk_153 0 83 (dk_at dksX11_keepPairs_3 9 rfl rfl)
theorem dX11_keepPairs_79 : decode cX11_keepPairs 79 = .ok (.aload_n 0, 1) := dk_42 (dk_at dksX11_keepPairs_3 12 rfl rfl)
theorem dX11_keepPairs_80 : decode cX11_keepPairs 80 = .ok (.iload_n 2, 1) := dk_28 (dk_at dksX11_keepPairs_3 13 rfl rfl)
theorem dX11_keepPairs_81 : decode cX11_keepPairs 81 = .ok (.iload_n 3, 1) := dk_29 (dk_at dksX11_keepPairs_3 14 rfl rfl)
theorem dX11_keepPairs_82 : decode cX11_keepPairs 82 = .ok (.invokevirtual 1019, 3) := dk_182 3 251 (dk_at dksX11_keepPairs_3 15 rfl rfl)
theorem dX11_keepPairs_85 : decode cX11_keepPairs 85 = .ok (.ifCond .ne 6, 3) := dk_154 0 6 (dk_at dksX11_keepPairs_3 18 rfl rfl)
theorem dX11_keepPairs_88 : decode cX11_keepPairs 88 = .ok (.goto 71, 3) := dk_167 0 71 (dk_at dksX11_keepPairs_3 21 rfl rfl)
theorem dX11_keepPairs_91 : decode cX11_keepPairs 91 = .ok (.iload_n 1, 1) := dk_27 (dk_at dksX11_keepPairs_4 0 rfl rfl)
theorem dX11_keepPairs_92 : decode cX11_keepPairs 92 = .ok (.istore 4, 2) := dk_54 4 (dk_at dksX11_keepPairs_4 1 rfl rfl)
theorem dX11_keepPairs_94 : decode cX11_keepPairs 94 = .ok (.iload 4, 2) := dk_21 4 (dk_at dksX11_keepPairs_4 3 rfl rfl)
theorem dX11_keepPairs_96 : decode cX11_keepPairs 96 = .ok (.ifCond .le 47, 3) := dk_158 0 47 (dk_at dksX11_keepPairs_4 5 rfl rfl)
theorem dX11_keepPairs_99 : decode cX11_keepPairs 99 = .ok (.aload_n 0, 1) := dk_42 (dk_at dksX11_keepPairs_4 8 rfl rfl)
theorem dX11_keepPairs_100 : decode cX11_keepPairs 100 = .ok (.bipush 9, 2) := dk_16 9 (dk_at dksX11_keepPairs_4 9 rfl rfl)
theorem dX11_keepPairs_102 : decode cX11_keepPairs 102 = .ok (.iload_n 2, 1) := dk_28 (dk_at dksX11_keepPairs_4 11 rfl rfl)
theorem dX11_keepPairs_103 : decode cX11_keepPairs 103 = .ok (.imul, 1) := dk_104 (dk_at dksX11_keepPairs_4 12 rfl rfl)
theorem dX11_keepPairs_104 : decode cX11_keepPairs 104 = .ok (.iload_n 3, 1) := dk_29 (dk_at dksX11_keepPairs_4 13 rfl rfl)
theorem dX11_keepPairs_105 : decode cX11_keepPairs 105 = .ok (.iadd, 1) := dk_96 (dk_at dksX11_keepPairs_4 14 rfl rfl)
theorem dX11_keepPairs_106 : decode cX11_keepPairs 106 = .ok (.aload_n 0, 1) := dk_42 (dk_at dksX11_keepPairs_4 15 rfl rfl)
theorem dX11_keepPairs_107 : decode cX11_keepPairs 107 = .ok (.getfield 1034, 3) := dk_180 4 10 (dk_at dksX11_keepPairs_4 16 rfl rfl)
theorem dX11_keepPairs_110 : decode cX11_keepPairs 110 = .ok (.iload 4, 2) := dk_21 4 (dk_at dksX11_keepPairs_4 19 rfl rfl)
theorem dX11_keepPairs_112 : decode cX11_keepPairs 112 = .ok (.iconst 1, 1) := dk_4 (dk_at dksX11_keepPairs_4 21 rfl rfl)
theorem dX11_keepPairs_113 : decode cX11_keepPairs 113 = .ok (.isub, 1) := dk_100 (dk_at dksX11_keepPairs_4 22 rfl rfl)
theorem dX11_keepPairs_114 : decode cX11_keepPairs 114 = .ok (.iaload, 1) := dk_46 (dk_at dksX11_keepPairs_4 23 rfl rfl)
theorem dX11_keepPairs_115 : decode cX11_keepPairs 115 = .ok (.invokevirtual 1037, 3) := dk_182 4 13 (dk_at dksX11_keepPairs_5 0 rfl rfl)
theorem dX11_keepPairs_118 : decode cX11_keepPairs 118 = .ok (.ifCond .eq 25, 3) := dk_153 0 25 (dk_at dksX11_keepPairs_5 3 rfl rfl)
theorem dX11_keepPairs_121 : decode cX11_keepPairs 121 = .ok (.aload_n 0, 1) := dk_42 (dk_at dksX11_keepPairs_5 6 rfl rfl)
theorem dX11_keepPairs_122 : decode cX11_keepPairs 122 = .ok (.getfield 1034, 3) := dk_180 4 10 (dk_at dksX11_keepPairs_5 7 rfl rfl)
theorem dX11_keepPairs_125 : decode cX11_keepPairs 125 = .ok (.iload 4, 2) := dk_21 4 (dk_at dksX11_keepPairs_5 10 rfl rfl)
theorem dX11_keepPairs_127 : decode cX11_keepPairs 127 = .ok (.aload_n 0, 1) := dk_42 (dk_at dksX11_keepPairs_5 12 rfl rfl)
theorem dX11_keepPairs_128 : decode cX11_keepPairs 128 = .ok (.getfield 1034, 3) := dk_180 4 10 (dk_at dksX11_keepPairs_5 13 rfl rfl)
theorem dX11_keepPairs_131 : decode cX11_keepPairs 131 = .ok (.iload 4, 2) := dk_21 4 (dk_at dksX11_keepPairs_5 16 rfl rfl)
theorem dX11_keepPairs_133 : decode cX11_keepPairs 133 = .ok (.iconst 1, 1) := dk_4 (dk_at dksX11_keepPairs_5 18 rfl rfl)
theorem dX11_keepPairs_134 : decode cX11_keepPairs 134 = .ok (.isub, 1) := dk_100 (dk_at dksX11_keepPairs_5 19 rfl rfl)
theorem dX11_keepPairs_135 : decode cX11_keepPairs 135 = .ok (.iaload, 1) := dk_46 (dk_at dksX11_keepPairs_5 20 rfl rfl)
theorem dX11_keepPairs_136 : decode cX11_keepPairs 136 = .ok (.iastore, 1) := dk_79 (dk_at dksX11_keepPairs_5 21 rfl rfl)
theorem dX11_keepPairs_137 : decode cX11_keepPairs 137 = .ok (.iinc 4 (-1), 3) := dk_132 4 255 (dk_at dksX11_keepPairs_6 0 rfl rfl)
theorem dX11_keepPairs_140 : decode cX11_keepPairs 140 = .ok (.goto (-46), 3) := dk_167 255 210 (dk_at dksX11_keepPairs_6 3 rfl rfl)
theorem dX11_keepPairs_143 : decode cX11_keepPairs 143 = .ok (.aload_n 0, 1) := dk_42 (dk_at dksX11_keepPairs_6 6 rfl rfl)
theorem dX11_keepPairs_144 : decode cX11_keepPairs 144 = .ok (.getfield 1034, 3) := dk_180 4 10 (dk_at dksX11_keepPairs_6 7 rfl rfl)
theorem dX11_keepPairs_147 : decode cX11_keepPairs 147 = .ok (.iload 4, 2) := dk_21 4 (dk_at dksX11_keepPairs_6 10 rfl rfl)
theorem dX11_keepPairs_149 : decode cX11_keepPairs 149 = .ok (.bipush 9, 2) := dk_16 9 (dk_at dksX11_keepPairs_6 12 rfl rfl)
theorem dX11_keepPairs_151 : decode cX11_keepPairs 151 = .ok (.iload_n 2, 1) := dk_28 (dk_at dksX11_keepPairs_6 14 rfl rfl)
theorem dX11_keepPairs_152 : decode cX11_keepPairs 152 = .ok (.imul, 1) := dk_104 (dk_at dksX11_keepPairs_6 15 rfl rfl)
theorem dX11_keepPairs_153 : decode cX11_keepPairs 153 = .ok (.iload_n 3, 1) := dk_29 (dk_at dksX11_keepPairs_6 16 rfl rfl)
theorem dX11_keepPairs_154 : decode cX11_keepPairs 154 = .ok (.iadd, 1) := dk_96 (dk_at dksX11_keepPairs_6 17 rfl rfl)
theorem dX11_keepPairs_155 : decode cX11_keepPairs 155 = .ok (.iastore, 1) := dk_79 (dk_at dksX11_keepPairs_6 18 rfl rfl)
theorem dX11_keepPairs_156 : decode cX11_keepPairs 156 = .ok (.iinc 1 1, 3) := dk_132 1 1 (dk_at dksX11_keepPairs_6 19 rfl rfl)
theorem dX11_keepPairs_159 : decode cX11_keepPairs 159 = .ok (.iinc 3 1, 3) := dk_132 3 1 (dk_at dksX11_keepPairs_7 0 rfl rfl)
theorem dX11_keepPairs_162 : decode cX11_keepPairs 162 = .ok (.goto (-109), 3) := dk_167 255 147 (dk_at dksX11_keepPairs_7 3 rfl rfl)
theorem dX11_keepPairs_165 : decode cX11_keepPairs 165 = .ok (.iinc 2 1, 3) := dk_132 2 1 (dk_at dksX11_keepPairs_7 6 rfl rfl)
theorem dX11_keepPairs_168 : decode cX11_keepPairs 168 = .ok (.goto (-125), 3) := dk_167 255 131 (dk_at dksX11_keepPairs_7 9 rfl rfl)
theorem dX11_keepPairs_171 : decode cX11_keepPairs 171 = .ok (.iconst 0, 1) := dk_3 (dk_at dksX11_keepPairs_7 12 rfl rfl)
theorem dX11_keepPairs_172 : decode cX11_keepPairs 172 = .ok (.istore_n 2, 1) := dk_61 (dk_at dksX11_keepPairs_7 13 rfl rfl)
theorem dX11_keepPairs_173 : decode cX11_keepPairs 173 = .ok (.iload_n 2, 1) := dk_28 (dk_at dksX11_keepPairs_7 14 rfl rfl)
theorem dX11_keepPairs_174 : decode cX11_keepPairs 174 = .ok (.iload_n 1, 1) := dk_27 (dk_at dksX11_keepPairs_7 15 rfl rfl)
theorem dX11_keepPairs_175 : decode cX11_keepPairs 175 = .ok (.if_icmp .ge 148, 3) := dk_162 0 148 (dk_at dksX11_keepPairs_7 16 rfl rfl)
theorem dX11_keepPairs_178 : decode cX11_keepPairs 178 = .ok (.aload_n 0, 1) := dk_42 (dk_at dksX11_keepPairs_7 19 rfl rfl)
theorem dX11_keepPairs_179 : decode cX11_keepPairs 179 = .ok (.getfield 1034, 3) := dk_180 4 10 (dk_at dksX11_keepPairs_7 20 rfl rfl)
theorem dX11_keepPairs_182 : decode cX11_keepPairs 182 = .ok (.iload_n 2, 1) := dk_28 (dk_at dksX11_keepPairs_7 23 rfl rfl)
theorem dX11_keepPairs_183 : decode cX11_keepPairs 183 = .ok (.iaload, 1) := dk_46 (dk_at dksX11_keepPairs_8 0 rfl rfl)
theorem dX11_keepPairs_184 : decode cX11_keepPairs 184 = .ok (.bipush 9, 2) := dk_16 9 (dk_at dksX11_keepPairs_8 1 rfl rfl)
theorem dX11_keepPairs_186 : decode cX11_keepPairs 186 = .ok (.idiv, 1) := dk_108 (dk_at dksX11_keepPairs_8 3 rfl rfl)
theorem dX11_keepPairs_187 : decode cX11_keepPairs 187 = .ok (.istore_n 3, 1) := dk_62 (dk_at dksX11_keepPairs_8 4 rfl rfl)
theorem dX11_keepPairs_188 : decode cX11_keepPairs 188 = .ok (.aload_n 0, 1) := dk_42 (dk_at dksX11_keepPairs_8 5 rfl rfl)
theorem dX11_keepPairs_189 : decode cX11_keepPairs 189 = .ok (.getfield 1034, 3) := dk_180 4 10 (dk_at dksX11_keepPairs_8 6 rfl rfl)
theorem dX11_keepPairs_192 : decode cX11_keepPairs 192 = .ok (.iload_n 2, 1) := dk_28 (dk_at dksX11_keepPairs_8 9 rfl rfl)
theorem dX11_keepPairs_193 : decode cX11_keepPairs 193 = .ok (.iaload, 1) := dk_46 (dk_at dksX11_keepPairs_8 10 rfl rfl)
theorem dX11_keepPairs_194 : decode cX11_keepPairs 194 = .ok (.bipush 9, 2) := dk_16 9 (dk_at dksX11_keepPairs_8 11 rfl rfl)
theorem dX11_keepPairs_196 : decode cX11_keepPairs 196 = .ok (.irem, 1) := dk_112 (dk_at dksX11_keepPairs_8 13 rfl rfl)
theorem dX11_keepPairs_197 : decode cX11_keepPairs 197 = .ok (.istore 4, 2) := dk_54 4 (dk_at dksX11_keepPairs_8 14 rfl rfl)
theorem dX11_keepPairs_199 : decode cX11_keepPairs 199 = .ok (.aload_n 0, 1) := dk_42 (dk_at dksX11_keepPairs_8 16 rfl rfl)
theorem dX11_keepPairs_200 : decode cX11_keepPairs 200 = .ok (.getfield 1031, 3) := dk_180 4 7 (dk_at dksX11_keepPairs_8 17 rfl rfl)
theorem dX11_keepPairs_203 : decode cX11_keepPairs 203 = .ok (.bipush 9, 2) := dk_16 9 (dk_at dksX11_keepPairs_8 20 rfl rfl)
theorem dX11_keepPairs_205 : decode cX11_keepPairs 205 = .ok (.iload 4, 2) := dk_21 4 (dk_at dksX11_keepPairs_8 22 rfl rfl)
theorem dX11_keepPairs_207 : decode cX11_keepPairs 207 = .ok (.imul, 1) := dk_104 (dk_at dksX11_keepPairs_9 0 rfl rfl)
theorem dX11_keepPairs_208 : decode cX11_keepPairs 208 = .ok (.iload_n 3, 1) := dk_29 (dk_at dksX11_keepPairs_9 1 rfl rfl)
theorem dX11_keepPairs_209 : decode cX11_keepPairs 209 = .ok (.iadd, 1) := dk_96 (dk_at dksX11_keepPairs_9 2 rfl rfl)
theorem dX11_keepPairs_210 : decode cX11_keepPairs 210 = .ok (.baload, 1) := dk_51 (dk_at dksX11_keepPairs_9 3 rfl rfl)
theorem dX11_keepPairs_211 : decode cX11_keepPairs 211 = .ok (.ifCond .eq 6, 3) := dk_153 0 6 (dk_at dksX11_keepPairs_9 4 rfl rfl)
theorem dX11_keepPairs_214 : decode cX11_keepPairs 214 = .ok (.goto 103, 3) := dk_167 0 103 (dk_at dksX11_keepPairs_9 7 rfl rfl)
theorem dX11_keepPairs_217 : decode cX11_keepPairs 217 = .ok (.aload_n 0, 1) := dk_42 (dk_at dksX11_keepPairs_9 10 rfl rfl)
theorem dX11_keepPairs_218 : decode cX11_keepPairs 218 = .ok (.getfield 1022, 3) := dk_180 3 254 (dk_at dksX11_keepPairs_9 11 rfl rfl)
theorem dX11_keepPairs_221 : decode cX11_keepPairs 221 = .ok (.aload_n 0, 1) := dk_42 (dk_at dksX11_keepPairs_9 14 rfl rfl)
theorem dX11_keepPairs_222 : decode cX11_keepPairs 222 = .ok (.getfield 1034, 3) := dk_180 4 10 (dk_at dksX11_keepPairs_9 15 rfl rfl)
theorem dX11_keepPairs_225 : decode cX11_keepPairs 225 = .ok (.iload_n 2, 1) := dk_28 (dk_at dksX11_keepPairs_9 18 rfl rfl)
theorem dX11_keepPairs_226 : decode cX11_keepPairs 226 = .ok (.iaload, 1) := dk_46 (dk_at dksX11_keepPairs_9 19 rfl rfl)
theorem dX11_keepPairs_227 : decode cX11_keepPairs 227 = .ok (.iconst 1, 1) := dk_4 (dk_at dksX11_keepPairs_9 20 rfl rfl)
theorem dX11_keepPairs_228 : decode cX11_keepPairs 228 = .ok (.bastore, 1) := dk_84 (dk_at dksX11_keepPairs_9 21 rfl rfl)
theorem dX11_keepPairs_229 : decode cX11_keepPairs 229 = .ok (.iconst 0, 1) := dk_3 (dk_at dksX11_keepPairs_9 22 rfl rfl)
theorem dX11_keepPairs_230 : decode cX11_keepPairs 230 = .ok (.istore 5, 2) := dk_54 5 (dk_at dksX11_keepPairs_10 0 rfl rfl)
theorem dX11_keepPairs_232 : decode cX11_keepPairs 232 = .ok (.iload 5, 2) := dk_21 5 (dk_at dksX11_keepPairs_10 2 rfl rfl)
theorem dX11_keepPairs_234 : decode cX11_keepPairs 234 = .ok (.aload_n 0, 1) := dk_42 (dk_at dksX11_keepPairs_10 4 rfl rfl)
theorem dX11_keepPairs_235 : decode cX11_keepPairs 235 = .ok (.getfield 755, 3) := dk_180 2 243 (dk_at dksX11_keepPairs_10 5 rfl rfl)
theorem dX11_keepPairs_238 : decode cX11_keepPairs 238 = .ok (.if_icmp .ge 79, 3) := dk_162 0 79 (dk_at dksX11_keepPairs_10 8 rfl rfl)
theorem dX11_keepPairs_241 : decode cX11_keepPairs 241 = .ok (.iconst 0, 1) := dk_3 (dk_at dksX11_keepPairs_10 11 rfl rfl)
theorem dX11_keepPairs_242 : decode cX11_keepPairs 242 = .ok (.istore 6, 2) := dk_54 6 (dk_at dksX11_keepPairs_10 12 rfl rfl)
theorem dX11_keepPairs_244 : decode cX11_keepPairs 244 = .ok (.iload 6, 2) := dk_21 6 (dk_at dksX11_keepPairs_10 14 rfl rfl)
theorem dX11_keepPairs_246 : decode cX11_keepPairs 246 = .ok (.aload_n 0, 1) := dk_42 (dk_at dksX11_keepPairs_10 16 rfl rfl)
theorem dX11_keepPairs_247 : decode cX11_keepPairs 247 = .ok (.getfield 755, 3) := dk_180 2 243 (dk_at dksX11_keepPairs_10 17 rfl rfl)
theorem dX11_keepPairs_250 : decode cX11_keepPairs 250 = .ok (.if_icmp .ge 61, 3) := dk_162 0 61 (dk_at dksX11_keepPairs_10 20 rfl rfl)
theorem dX11_keepPairs_253 : decode cX11_keepPairs 253 = .ok (.aload_n 0, 1) := dk_42 (dk_at dksX11_keepPairs_10 23 rfl rfl)
theorem dX11_keepPairs_254 : decode cX11_keepPairs 254 = .ok (.getfield 1031, 3) := dk_180 4 7 (dk_at dksX11_keepPairs_11 0 rfl rfl)
theorem dX11_keepPairs_257 : decode cX11_keepPairs 257 = .ok (.bipush 9, 2) := dk_16 9 (dk_at dksX11_keepPairs_11 3 rfl rfl)
theorem dX11_keepPairs_259 : decode cX11_keepPairs 259 = .ok (.iload 5, 2) := dk_21 5 (dk_at dksX11_keepPairs_11 5 rfl rfl)
theorem dX11_keepPairs_261 : decode cX11_keepPairs 261 = .ok (.imul, 1) := dk_104 (dk_at dksX11_keepPairs_11 7 rfl rfl)
theorem dX11_keepPairs_262 : decode cX11_keepPairs 262 = .ok (.iload 6, 2) := dk_21 6 (dk_at dksX11_keepPairs_11 8 rfl rfl)
theorem dX11_keepPairs_264 : decode cX11_keepPairs 264 = .ok (.iadd, 1) := dk_96 (dk_at dksX11_keepPairs_11 10 rfl rfl)
theorem dX11_keepPairs_265 : decode cX11_keepPairs 265 = .ok (.dup2, 1) := dk_92 (dk_at dksX11_keepPairs_11 11 rfl rfl)
theorem dX11_keepPairs_266 : decode cX11_keepPairs 266 = .ok (.baload, 1) := dk_51 (dk_at dksX11_keepPairs_11 12 rfl rfl)
theorem dX11_keepPairs_267 : decode cX11_keepPairs 267 = .ok (.aload_n 0, 1) := dk_42 (dk_at dksX11_keepPairs_11 13 rfl rfl)
theorem dX11_keepPairs_268 : decode cX11_keepPairs 268 = .ok (.getfield 1031, 3) := dk_180 4 7 (dk_at dksX11_keepPairs_11 14 rfl rfl)
theorem dX11_keepPairs_271 : decode cX11_keepPairs 271 = .ok (.bipush 9, 2) := dk_16 9 (dk_at dksX11_keepPairs_11 17 rfl rfl)
theorem dX11_keepPairs_273 : decode cX11_keepPairs 273 = .ok (.iload 5, 2) := dk_21 5 (dk_at dksX11_keepPairs_11 19 rfl rfl)
theorem dX11_keepPairs_275 : decode cX11_keepPairs 275 = .ok (.imul, 1) := dk_104 (dk_at dksX11_keepPairs_11 21 rfl rfl)
theorem dX11_keepPairs_276 : decode cX11_keepPairs 276 = .ok (.iload_n 3, 1) := dk_29 (dk_at dksX11_keepPairs_11 22 rfl rfl)
theorem dX11_keepPairs_277 : decode cX11_keepPairs 277 = .ok (.iadd, 1) := dk_96 (dk_at dksX11_keepPairs_11 23 rfl rfl)
theorem dX11_keepPairs_278 : decode cX11_keepPairs 278 = .ok (.baload, 1) := dk_51 (dk_at dksX11_keepPairs_12 0 rfl rfl)
theorem dX11_keepPairs_279 : decode cX11_keepPairs 279 = .ok (.ifCond .eq 23, 3) := dk_153 0 23 (dk_at dksX11_keepPairs_12 1 rfl rfl)
theorem dX11_keepPairs_282 : decode cX11_keepPairs 282 = .ok (.aload_n 0, 1) := dk_42 (dk_at dksX11_keepPairs_12 4 rfl rfl)
theorem dX11_keepPairs_283 : decode cX11_keepPairs 283 = .ok (.getfield 1031, 3) := dk_180 4 7 (dk_at dksX11_keepPairs_12 5 rfl rfl)
theorem dX11_keepPairs_286 : decode cX11_keepPairs 286 = .ok (.bipush 9, 2) := dk_16 9 (dk_at dksX11_keepPairs_12 8 rfl rfl)
theorem dX11_keepPairs_288 : decode cX11_keepPairs 288 = .ok (.iload 4, 2) := dk_21 4 (dk_at dksX11_keepPairs_12 10 rfl rfl)
theorem dX11_keepPairs_290 : decode cX11_keepPairs 290 = .ok (.imul, 1) := dk_104 (dk_at dksX11_keepPairs_12 12 rfl rfl)
theorem dX11_keepPairs_291 : decode cX11_keepPairs 291 = .ok (.iload 6, 2) := dk_21 6 (dk_at dksX11_keepPairs_12 13 rfl rfl)
theorem dX11_keepPairs_293 : decode cX11_keepPairs 293 = .ok (.iadd, 1) := dk_96 (dk_at dksX11_keepPairs_12 15 rfl rfl)
theorem dX11_keepPairs_294 : decode cX11_keepPairs 294 = .ok (.baload, 1) := dk_51 (dk_at dksX11_keepPairs_12 16 rfl rfl)
theorem dX11_keepPairs_295 : decode cX11_keepPairs 295 = .ok (.ifCond .eq 7, 3) := dk_153 0 7 (dk_at dksX11_keepPairs_12 17 rfl rfl)
theorem dX11_keepPairs_298 : decode cX11_keepPairs 298 = .ok (.iconst 1, 1) := dk_4 (dk_at dksX11_keepPairs_12 20 rfl rfl)
theorem dX11_keepPairs_299 : decode cX11_keepPairs 299 = .ok (.goto 4, 3) := dk_167 0 4 (dk_at dksX11_keepPairs_12 21 rfl rfl)
theorem dX11_keepPairs_302 : decode cX11_keepPairs 302 = .ok (.iconst 0, 1) := dk_3 (dk_at dksX11_keepPairs_13 0 rfl rfl)
theorem dX11_keepPairs_303 : decode cX11_keepPairs 303 = .ok (.ior, 1) := dk_128 (dk_at dksX11_keepPairs_13 1 rfl rfl)
theorem dX11_keepPairs_304 : decode cX11_keepPairs 304 = .ok (.bastore, 1) := dk_84 (dk_at dksX11_keepPairs_13 2 rfl rfl)
theorem dX11_keepPairs_305 : decode cX11_keepPairs 305 = .ok (.iinc 6 1, 3) := dk_132 6 1 (dk_at dksX11_keepPairs_13 3 rfl rfl)
theorem dX11_keepPairs_308 : decode cX11_keepPairs 308 = .ok (.goto (-64), 3) := dk_167 255 192 (dk_at dksX11_keepPairs_13 6 rfl rfl)
theorem dX11_keepPairs_311 : decode cX11_keepPairs 311 = .ok (.iinc 5 1, 3) := dk_132 5 1 (dk_at dksX11_keepPairs_13 9 rfl rfl)
theorem dX11_keepPairs_314 : decode cX11_keepPairs 314 = .ok (.goto (-82), 3) := dk_167 255 174 (dk_at dksX11_keepPairs_13 12 rfl rfl)
theorem dX11_keepPairs_317 : decode cX11_keepPairs 317 = .ok (.iinc 2 1, 3) := dk_132 2 1 (dk_at dksX11_keepPairs_13 15 rfl rfl)
theorem dX11_keepPairs_320 : decode cX11_keepPairs 320 = .ok (.goto (-147), 3) := dk_167 255 109 (dk_at dksX11_keepPairs_13 18 rfl rfl)
theorem dX11_keepPairs_323 : decode cX11_keepPairs 323 = .ok (.return_, 1) := dk_177 (dk_at dksX11_keepPairs_13 21 rfl rfl)
abbrev cX11_beats : ByteArray := prog_17_method_166_code
def yX11_beats : MethodName := ⟨RX11, "beats", "(II)Z"⟩
def dkwX11_beats_1 : List UInt8 := [164, 0, 7, 4, 167, 0, 4, 3, 172]
abbrev dktX11_beats_1 : List UInt8 := dkwX11_beats_1 ++ []
def dkwX11_beats_0 : List UInt8 := [42, 180, 3, 230, 16, 9, 27, 104, 28, 96, 46, 42, 180, 3, 230, 16, 9, 28, 104, 27, 96, 46]
abbrev dktX11_beats_0 : List UInt8 := dkwX11_beats_0 ++ dktX11_beats_1
theorem dksX11_beats_0 : cX11_beats.data.toList.drop 0 = dktX11_beats_0 := by decide +kernel
theorem dksX11_beats_1 : cX11_beats.data.toList.drop 22 = dktX11_beats_1 := dk_seg dksX11_beats_0 22 rfl rfl
theorem dX11_beats_0 : decode cX11_beats 0 = .ok (.aload_n 0, 1) := dk_42 (dk_at dksX11_beats_0 0 rfl rfl)
theorem dX11_beats_1 : decode cX11_beats 1 = .ok (.getfield 998, 3) := dk_180 3 230 (dk_at dksX11_beats_0 1 rfl rfl)
theorem dX11_beats_4 : decode cX11_beats 4 = .ok (.bipush 9, 2) := dk_16 9 (dk_at dksX11_beats_0 4 rfl rfl)
theorem dX11_beats_6 : decode cX11_beats 6 = .ok (.iload_n 1, 1) := dk_27 (dk_at dksX11_beats_0 6 rfl rfl)
theorem dX11_beats_7 : decode cX11_beats 7 = .ok (.imul, 1) := dk_104 (dk_at dksX11_beats_0 7 rfl rfl)
theorem dX11_beats_8 : decode cX11_beats 8 = .ok (.iload_n 2, 1) := dk_28 (dk_at dksX11_beats_0 8 rfl rfl)
theorem dX11_beats_9 : decode cX11_beats 9 = .ok (.iadd, 1) := dk_96 (dk_at dksX11_beats_0 9 rfl rfl)
theorem dX11_beats_10 : decode cX11_beats 10 = .ok (.iaload, 1) := dk_46 (dk_at dksX11_beats_0 10 rfl rfl)
theorem dX11_beats_11 : decode cX11_beats 11 = .ok (.aload_n 0, 1) := dk_42 (dk_at dksX11_beats_0 11 rfl rfl)
theorem dX11_beats_12 : decode cX11_beats 12 = .ok (.getfield 998, 3) := dk_180 3 230 (dk_at dksX11_beats_0 12 rfl rfl)
theorem dX11_beats_15 : decode cX11_beats 15 = .ok (.bipush 9, 2) := dk_16 9 (dk_at dksX11_beats_0 15 rfl rfl)
theorem dX11_beats_17 : decode cX11_beats 17 = .ok (.iload_n 2, 1) := dk_28 (dk_at dksX11_beats_0 17 rfl rfl)
theorem dX11_beats_18 : decode cX11_beats 18 = .ok (.imul, 1) := dk_104 (dk_at dksX11_beats_0 18 rfl rfl)
theorem dX11_beats_19 : decode cX11_beats 19 = .ok (.iload_n 1, 1) := dk_27 (dk_at dksX11_beats_0 19 rfl rfl)
theorem dX11_beats_20 : decode cX11_beats 20 = .ok (.iadd, 1) := dk_96 (dk_at dksX11_beats_0 20 rfl rfl)
theorem dX11_beats_21 : decode cX11_beats 21 = .ok (.iaload, 1) := dk_46 (dk_at dksX11_beats_0 21 rfl rfl)
theorem dX11_beats_22 : decode cX11_beats 22 = .ok (.if_icmp .le 7, 3) := dk_164 0 7 (dk_at dksX11_beats_1 0 rfl rfl)
theorem dX11_beats_25 : decode cX11_beats 25 = .ok (.iconst 1, 1) := dk_4 (dk_at dksX11_beats_1 3 rfl rfl)
theorem dX11_beats_26 : decode cX11_beats 26 = .ok (.goto 4, 3) := dk_167 0 4 (dk_at dksX11_beats_1 4 rfl rfl)
theorem dX11_beats_29 : decode cX11_beats 29 = .ok (.iconst 0, 1) := dk_3 (dk_at dksX11_beats_1 7 rfl rfl)
theorem dX11_beats_30 : decode cX11_beats 30 = .ok (.ireturn, 1) := dk_172 (dk_at dksX11_beats_1 8 rfl rfl)
abbrev cX11_isDuelAhead : ByteArray := prog_17_method_173_code
def yX11_isDuelAhead : MethodName := ⟨RX11, "isDuelAhead", "(II)Z"⟩
def dkwX11_isDuelAhead_6 : List UInt8 := [162, 0, 7, 4, 167, 0, 4, 3, 172]
abbrev dktX11_isDuelAhead_6 : List UInt8 := dkwX11_isDuelAhead_6 ++ []
def dkwX11_isDuelAhead_5 : List UInt8 := [162, 0, 7, 4, 167, 0, 27, 3, 167, 0, 23, 42, 21, 4, 182, 3, 40, 42, 21, 6, 182, 3, 40]
abbrev dktX11_isDuelAhead_5 : List UInt8 := dkwX11_isDuelAhead_5 ++ dktX11_isDuelAhead_6
def dkwX11_isDuelAhead_4 : List UInt8 := [167, 0, 4, 3, 172, 29, 21, 5, 159, 0, 25, 42, 29, 182, 3, 40, 42, 21, 5, 182, 3, 40]
abbrev dktX11_isDuelAhead_4 : List UInt8 := dkwX11_isDuelAhead_4 ++ dktX11_isDuelAhead_5
def dkwX11_isDuelAhead_3 : List UInt8 := [180, 3, 230, 28, 46, 159, 0, 24, 42, 180, 3, 230, 27, 46, 42, 180, 3, 230, 28, 46, 164, 0, 7, 4]
abbrev dktX11_isDuelAhead_3 : List UInt8 := dkwX11_isDuelAhead_3 ++ dktX11_isDuelAhead_4
def dkwX11_isDuelAhead_2 : List UInt8 := [42, 21, 5, 21, 6, 182, 3, 233, 164, 0, 7, 4, 167, 0, 4, 3, 172, 42, 180, 3, 230, 27, 46, 42]
abbrev dktX11_isDuelAhead_2 : List UInt8 := dkwX11_isDuelAhead_2 ++ dktX11_isDuelAhead_3
def dkwX11_isDuelAhead_1 : List UInt8 := [29, 21, 4, 182, 3, 233, 42, 21, 5, 21, 6, 182, 3, 233, 159, 0, 27, 42, 29, 21, 4, 182, 3, 233]
abbrev dktX11_isDuelAhead_1 : List UInt8 := dkwX11_isDuelAhead_1 ++ dktX11_isDuelAhead_2
def dkwX11_isDuelAhead_0 : List UInt8 := [27, 16, 9, 108, 62, 27, 16, 9, 112, 54, 4, 28, 16, 9, 108, 54, 5, 28, 16, 9, 112, 54, 6, 42]
abbrev dktX11_isDuelAhead_0 : List UInt8 := dkwX11_isDuelAhead_0 ++ dktX11_isDuelAhead_1
theorem dksX11_isDuelAhead_0 : cX11_isDuelAhead.data.toList.drop 0 = dktX11_isDuelAhead_0 := by decide +kernel
theorem dksX11_isDuelAhead_1 : cX11_isDuelAhead.data.toList.drop 24 = dktX11_isDuelAhead_1 := dk_seg dksX11_isDuelAhead_0 24 rfl rfl
theorem dksX11_isDuelAhead_2 : cX11_isDuelAhead.data.toList.drop 48 = dktX11_isDuelAhead_2 := dk_seg dksX11_isDuelAhead_1 24 rfl rfl
theorem dksX11_isDuelAhead_3 : cX11_isDuelAhead.data.toList.drop 72 = dktX11_isDuelAhead_3 := dk_seg dksX11_isDuelAhead_2 24 rfl rfl
theorem dksX11_isDuelAhead_4 : cX11_isDuelAhead.data.toList.drop 96 = dktX11_isDuelAhead_4 := dk_seg dksX11_isDuelAhead_3 24 rfl rfl
theorem dksX11_isDuelAhead_5 : cX11_isDuelAhead.data.toList.drop 118 = dktX11_isDuelAhead_5 := dk_seg dksX11_isDuelAhead_4 22 rfl rfl
theorem dksX11_isDuelAhead_6 : cX11_isDuelAhead.data.toList.drop 141 = dktX11_isDuelAhead_6 := dk_seg dksX11_isDuelAhead_5 23 rfl rfl
theorem dX11_isDuelAhead_0 : decode cX11_isDuelAhead 0 = .ok (.iload_n 1, 1) := dk_27 (dk_at dksX11_isDuelAhead_0 0 rfl rfl)
theorem dX11_isDuelAhead_1 : decode cX11_isDuelAhead 1 = .ok (.bipush 9, 2) := dk_16 9 (dk_at dksX11_isDuelAhead_0 1 rfl rfl)
theorem dX11_isDuelAhead_3 : decode cX11_isDuelAhead 3 = .ok (.idiv, 1) := dk_108 (dk_at dksX11_isDuelAhead_0 3 rfl rfl)
theorem dX11_isDuelAhead_4 : decode cX11_isDuelAhead 4 = .ok (.istore_n 3, 1) := dk_62 (dk_at dksX11_isDuelAhead_0 4 rfl rfl)
theorem dX11_isDuelAhead_5 : decode cX11_isDuelAhead 5 = .ok (.iload_n 1, 1) := dk_27 (dk_at dksX11_isDuelAhead_0 5 rfl rfl)
theorem dX11_isDuelAhead_6 : decode cX11_isDuelAhead 6 = .ok (.bipush 9, 2) := dk_16 9 (dk_at dksX11_isDuelAhead_0 6 rfl rfl)
theorem dX11_isDuelAhead_8 : decode cX11_isDuelAhead 8 = .ok (.irem, 1) := dk_112 (dk_at dksX11_isDuelAhead_0 8 rfl rfl)
theorem dX11_isDuelAhead_9 : decode cX11_isDuelAhead 9 = .ok (.istore 4, 2) := dk_54 4 (dk_at dksX11_isDuelAhead_0 9 rfl rfl)
theorem dX11_isDuelAhead_11 : decode cX11_isDuelAhead 11 = .ok (.iload_n 2, 1) := dk_28 (dk_at dksX11_isDuelAhead_0 11 rfl rfl)
theorem dX11_isDuelAhead_12 : decode cX11_isDuelAhead 12 = .ok (.bipush 9, 2) := dk_16 9 (dk_at dksX11_isDuelAhead_0 12 rfl rfl)
theorem dX11_isDuelAhead_14 : decode cX11_isDuelAhead 14 = .ok (.idiv, 1) := dk_108 (dk_at dksX11_isDuelAhead_0 14 rfl rfl)
theorem dX11_isDuelAhead_15 : decode cX11_isDuelAhead 15 = .ok (.istore 5, 2) := dk_54 5 (dk_at dksX11_isDuelAhead_0 15 rfl rfl)
theorem dX11_isDuelAhead_17 : decode cX11_isDuelAhead 17 = .ok (.iload_n 2, 1) := dk_28 (dk_at dksX11_isDuelAhead_0 17 rfl rfl)
theorem dX11_isDuelAhead_18 : decode cX11_isDuelAhead 18 = .ok (.bipush 9, 2) := dk_16 9 (dk_at dksX11_isDuelAhead_0 18 rfl rfl)
theorem dX11_isDuelAhead_20 : decode cX11_isDuelAhead 20 = .ok (.irem, 1) := dk_112 (dk_at dksX11_isDuelAhead_0 20 rfl rfl)
theorem dX11_isDuelAhead_21 : decode cX11_isDuelAhead 21 = .ok (.istore 6, 2) := dk_54 6 (dk_at dksX11_isDuelAhead_0 21 rfl rfl)
theorem dX11_isDuelAhead_23 : decode cX11_isDuelAhead 23 = .ok (.aload_n 0, 1) := dk_42 (dk_at dksX11_isDuelAhead_0 23 rfl rfl)
theorem dX11_isDuelAhead_24 : decode cX11_isDuelAhead 24 = .ok (.iload_n 3, 1) := dk_29 (dk_at dksX11_isDuelAhead_1 0 rfl rfl)
theorem dX11_isDuelAhead_25 : decode cX11_isDuelAhead 25 = .ok (.iload 4, 2) := dk_21 4 (dk_at dksX11_isDuelAhead_1 1 rfl rfl)
theorem dX11_isDuelAhead_27 : decode cX11_isDuelAhead 27 = .ok (.invokevirtual 1001, 3) := dk_182 3 233 (dk_at dksX11_isDuelAhead_1 3 rfl rfl)
theorem dX11_isDuelAhead_30 : decode cX11_isDuelAhead 30 = .ok (.aload_n 0, 1) := dk_42 (dk_at dksX11_isDuelAhead_1 6 rfl rfl)
theorem dX11_isDuelAhead_31 : decode cX11_isDuelAhead 31 = .ok (.iload 5, 2) := dk_21 5 (dk_at dksX11_isDuelAhead_1 7 rfl rfl)
theorem dX11_isDuelAhead_33 : decode cX11_isDuelAhead 33 = .ok (.iload 6, 2) := dk_21 6 (dk_at dksX11_isDuelAhead_1 9 rfl rfl)
theorem dX11_isDuelAhead_35 : decode cX11_isDuelAhead 35 = .ok (.invokevirtual 1001, 3) := dk_182 3 233 (dk_at dksX11_isDuelAhead_1 11 rfl rfl)
theorem dX11_isDuelAhead_38 : decode cX11_isDuelAhead 38 = .ok (.if_icmp .eq 27, 3) := dk_159 0 27 (dk_at dksX11_isDuelAhead_1 14 rfl rfl)
theorem dX11_isDuelAhead_41 : decode cX11_isDuelAhead 41 = .ok (.aload_n 0, 1) := dk_42 (dk_at dksX11_isDuelAhead_1 17 rfl rfl)
theorem dX11_isDuelAhead_42 : decode cX11_isDuelAhead 42 = .ok (.iload_n 3, 1) := dk_29 (dk_at dksX11_isDuelAhead_1 18 rfl rfl)
theorem dX11_isDuelAhead_43 : decode cX11_isDuelAhead 43 = .ok (.iload 4, 2) := dk_21 4 (dk_at dksX11_isDuelAhead_1 19 rfl rfl)
theorem dX11_isDuelAhead_45 : decode cX11_isDuelAhead 45 = .ok (.invokevirtual 1001, 3) := dk_182 3 233 (dk_at dksX11_isDuelAhead_1 21 rfl rfl)
theorem dX11_isDuelAhead_48 : decode cX11_isDuelAhead 48 = .ok (.aload_n 0, 1) := dk_42 (dk_at dksX11_isDuelAhead_2 0 rfl rfl)
theorem dX11_isDuelAhead_49 : decode cX11_isDuelAhead 49 = .ok (.iload 5, 2) := dk_21 5 (dk_at dksX11_isDuelAhead_2 1 rfl rfl)
theorem dX11_isDuelAhead_51 : decode cX11_isDuelAhead 51 = .ok (.iload 6, 2) := dk_21 6 (dk_at dksX11_isDuelAhead_2 3 rfl rfl)
theorem dX11_isDuelAhead_53 : decode cX11_isDuelAhead 53 = .ok (.invokevirtual 1001, 3) := dk_182 3 233 (dk_at dksX11_isDuelAhead_2 5 rfl rfl)
theorem dX11_isDuelAhead_56 : decode cX11_isDuelAhead 56 = .ok (.if_icmp .le 7, 3) := dk_164 0 7 (dk_at dksX11_isDuelAhead_2 8 rfl rfl)
theorem dX11_isDuelAhead_59 : decode cX11_isDuelAhead 59 = .ok (.iconst 1, 1) := dk_4 (dk_at dksX11_isDuelAhead_2 11 rfl rfl)
theorem dX11_isDuelAhead_60 : decode cX11_isDuelAhead 60 = .ok (.goto 4, 3) := dk_167 0 4 (dk_at dksX11_isDuelAhead_2 12 rfl rfl)
theorem dX11_isDuelAhead_63 : decode cX11_isDuelAhead 63 = .ok (.iconst 0, 1) := dk_3 (dk_at dksX11_isDuelAhead_2 15 rfl rfl)
theorem dX11_isDuelAhead_64 : decode cX11_isDuelAhead 64 = .ok (.ireturn, 1) := dk_172 (dk_at dksX11_isDuelAhead_2 16 rfl rfl)
theorem dX11_isDuelAhead_65 : decode cX11_isDuelAhead 65 = .ok (.aload_n 0, 1) := dk_42 (dk_at dksX11_isDuelAhead_2 17 rfl rfl)
theorem dX11_isDuelAhead_66 : decode cX11_isDuelAhead 66 = .ok (.getfield 998, 3) := dk_180 3 230 (dk_at dksX11_isDuelAhead_2 18 rfl rfl)
theorem dX11_isDuelAhead_69 : decode cX11_isDuelAhead 69 = .ok (.iload_n 1, 1) := dk_27 (dk_at dksX11_isDuelAhead_2 21 rfl rfl)
theorem dX11_isDuelAhead_70 : decode cX11_isDuelAhead 70 = .ok (.iaload, 1) := dk_46 (dk_at dksX11_isDuelAhead_2 22 rfl rfl)
theorem dX11_isDuelAhead_71 : decode cX11_isDuelAhead 71 = .ok (.aload_n 0, 1) := dk_42 (dk_at dksX11_isDuelAhead_2 23 rfl rfl)
theorem dX11_isDuelAhead_72 : decode cX11_isDuelAhead 72 = .ok (.getfield 998, 3) := dk_180 3 230 (dk_at dksX11_isDuelAhead_3 0 rfl rfl)
theorem dX11_isDuelAhead_75 : decode cX11_isDuelAhead 75 = .ok (.iload_n 2, 1) := dk_28 (dk_at dksX11_isDuelAhead_3 3 rfl rfl)
theorem dX11_isDuelAhead_76 : decode cX11_isDuelAhead 76 = .ok (.iaload, 1) := dk_46 (dk_at dksX11_isDuelAhead_3 4 rfl rfl)
theorem dX11_isDuelAhead_77 : decode cX11_isDuelAhead 77 = .ok (.if_icmp .eq 24, 3) := dk_159 0 24 (dk_at dksX11_isDuelAhead_3 5 rfl rfl)
theorem dX11_isDuelAhead_80 : decode cX11_isDuelAhead 80 = .ok (.aload_n 0, 1) := dk_42 (dk_at dksX11_isDuelAhead_3 8 rfl rfl)
theorem dX11_isDuelAhead_81 : decode cX11_isDuelAhead 81 = .ok (.getfield 998, 3) := dk_180 3 230 (dk_at dksX11_isDuelAhead_3 9 rfl rfl)
theorem dX11_isDuelAhead_84 : decode cX11_isDuelAhead 84 = .ok (.iload_n 1, 1) := dk_27 (dk_at dksX11_isDuelAhead_3 12 rfl rfl)
theorem dX11_isDuelAhead_85 : decode cX11_isDuelAhead 85 = .ok (.iaload, 1) := dk_46 (dk_at dksX11_isDuelAhead_3 13 rfl rfl)
theorem dX11_isDuelAhead_86 : decode cX11_isDuelAhead 86 = .ok (.aload_n 0, 1) := dk_42 (dk_at dksX11_isDuelAhead_3 14 rfl rfl)
theorem dX11_isDuelAhead_87 : decode cX11_isDuelAhead 87 = .ok (.getfield 998, 3) := dk_180 3 230 (dk_at dksX11_isDuelAhead_3 15 rfl rfl)
theorem dX11_isDuelAhead_90 : decode cX11_isDuelAhead 90 = .ok (.iload_n 2, 1) := dk_28 (dk_at dksX11_isDuelAhead_3 18 rfl rfl)
theorem dX11_isDuelAhead_91 : decode cX11_isDuelAhead 91 = .ok (.iaload, 1) := dk_46 (dk_at dksX11_isDuelAhead_3 19 rfl rfl)
theorem dX11_isDuelAhead_92 : decode cX11_isDuelAhead 92 = .ok (.if_icmp .le 7, 3) := dk_164 0 7 (dk_at dksX11_isDuelAhead_3 20 rfl rfl)
theorem dX11_isDuelAhead_95 : decode cX11_isDuelAhead 95 = .ok (.iconst 1, 1) := dk_4 (dk_at dksX11_isDuelAhead_3 23 rfl rfl)
theorem dX11_isDuelAhead_96 : decode cX11_isDuelAhead 96 = .ok (.goto 4, 3) := dk_167 0 4 (dk_at dksX11_isDuelAhead_4 0 rfl rfl)
theorem dX11_isDuelAhead_99 : decode cX11_isDuelAhead 99 = .ok (.iconst 0, 1) := dk_3 (dk_at dksX11_isDuelAhead_4 3 rfl rfl)
theorem dX11_isDuelAhead_100 : decode cX11_isDuelAhead 100 = .ok (.ireturn, 1) := dk_172 (dk_at dksX11_isDuelAhead_4 4 rfl rfl)
theorem dX11_isDuelAhead_101 : decode cX11_isDuelAhead 101 = .ok (.iload_n 3, 1) := dk_29 (dk_at dksX11_isDuelAhead_4 5 rfl rfl)
theorem dX11_isDuelAhead_102 : decode cX11_isDuelAhead 102 = .ok (.iload 5, 2) := dk_21 5 (dk_at dksX11_isDuelAhead_4 6 rfl rfl)
theorem dX11_isDuelAhead_104 : decode cX11_isDuelAhead 104 = .ok (.if_icmp .eq 25, 3) := dk_159 0 25 (dk_at dksX11_isDuelAhead_4 8 rfl rfl)
theorem dX11_isDuelAhead_107 : decode cX11_isDuelAhead 107 = .ok (.aload_n 0, 1) := dk_42 (dk_at dksX11_isDuelAhead_4 11 rfl rfl)
theorem dX11_isDuelAhead_108 : decode cX11_isDuelAhead 108 = .ok (.iload_n 3, 1) := dk_29 (dk_at dksX11_isDuelAhead_4 12 rfl rfl)
theorem dX11_isDuelAhead_109 : decode cX11_isDuelAhead 109 = .ok (.invokevirtual 808, 3) := dk_182 3 40 (dk_at dksX11_isDuelAhead_4 13 rfl rfl)
theorem dX11_isDuelAhead_112 : decode cX11_isDuelAhead 112 = .ok (.aload_n 0, 1) := dk_42 (dk_at dksX11_isDuelAhead_4 16 rfl rfl)
theorem dX11_isDuelAhead_113 : decode cX11_isDuelAhead 113 = .ok (.iload 5, 2) := dk_21 5 (dk_at dksX11_isDuelAhead_4 17 rfl rfl)
theorem dX11_isDuelAhead_115 : decode cX11_isDuelAhead 115 = .ok (.invokevirtual 808, 3) := dk_182 3 40 (dk_at dksX11_isDuelAhead_4 19 rfl rfl)
theorem dX11_isDuelAhead_118 : decode cX11_isDuelAhead 118 = .ok (.if_icmp .ge 7, 3) := dk_162 0 7 (dk_at dksX11_isDuelAhead_5 0 rfl rfl)
theorem dX11_isDuelAhead_121 : decode cX11_isDuelAhead 121 = .ok (.iconst 1, 1) := dk_4 (dk_at dksX11_isDuelAhead_5 3 rfl rfl)
theorem dX11_isDuelAhead_122 : decode cX11_isDuelAhead 122 = .ok (.goto 27, 3) := dk_167 0 27 (dk_at dksX11_isDuelAhead_5 4 rfl rfl)
theorem dX11_isDuelAhead_125 : decode cX11_isDuelAhead 125 = .ok (.iconst 0, 1) := dk_3 (dk_at dksX11_isDuelAhead_5 7 rfl rfl)
theorem dX11_isDuelAhead_126 : decode cX11_isDuelAhead 126 = .ok (.goto 23, 3) := dk_167 0 23 (dk_at dksX11_isDuelAhead_5 8 rfl rfl)
theorem dX11_isDuelAhead_129 : decode cX11_isDuelAhead 129 = .ok (.aload_n 0, 1) := dk_42 (dk_at dksX11_isDuelAhead_5 11 rfl rfl)
theorem dX11_isDuelAhead_130 : decode cX11_isDuelAhead 130 = .ok (.iload 4, 2) := dk_21 4 (dk_at dksX11_isDuelAhead_5 12 rfl rfl)
theorem dX11_isDuelAhead_132 : decode cX11_isDuelAhead 132 = .ok (.invokevirtual 808, 3) := dk_182 3 40 (dk_at dksX11_isDuelAhead_5 14 rfl rfl)
theorem dX11_isDuelAhead_135 : decode cX11_isDuelAhead 135 = .ok (.aload_n 0, 1) := dk_42 (dk_at dksX11_isDuelAhead_5 17 rfl rfl)
theorem dX11_isDuelAhead_136 : decode cX11_isDuelAhead 136 = .ok (.iload 6, 2) := dk_21 6 (dk_at dksX11_isDuelAhead_5 18 rfl rfl)
theorem dX11_isDuelAhead_138 : decode cX11_isDuelAhead 138 = .ok (.invokevirtual 808, 3) := dk_182 3 40 (dk_at dksX11_isDuelAhead_5 20 rfl rfl)
theorem dX11_isDuelAhead_141 : decode cX11_isDuelAhead 141 = .ok (.if_icmp .ge 7, 3) := dk_162 0 7 (dk_at dksX11_isDuelAhead_6 0 rfl rfl)
theorem dX11_isDuelAhead_144 : decode cX11_isDuelAhead 144 = .ok (.iconst 1, 1) := dk_4 (dk_at dksX11_isDuelAhead_6 3 rfl rfl)
theorem dX11_isDuelAhead_145 : decode cX11_isDuelAhead 145 = .ok (.goto 4, 3) := dk_167 0 4 (dk_at dksX11_isDuelAhead_6 4 rfl rfl)
theorem dX11_isDuelAhead_148 : decode cX11_isDuelAhead 148 = .ok (.iconst 0, 1) := dk_3 (dk_at dksX11_isDuelAhead_6 7 rfl rfl)
theorem dX11_isDuelAhead_149 : decode cX11_isDuelAhead 149 = .ok (.ireturn, 1) := dk_172 (dk_at dksX11_isDuelAhead_6 8 rfl rfl)
abbrev cX11_findWays : ByteArray := prog_17_method_175_code
def yX11_findWays : MethodName := ⟨RX11, "findWays", "()V"⟩
def dkwX11_findWays_7 : List UInt8 := [184, 4, 16, 79, 132, 3, 1, 167, 255, 191, 132, 2, 1, 167, 255, 175, 132, 1, 1, 167, 255, 159, 177]
abbrev dktX11_findWays_7 : List UInt8 := dkwX11_findWays_7 ++ []
def dkwX11_findWays_6 : List UInt8 := [180, 4, 1, 16, 9, 28, 104, 29, 96, 42, 180, 4, 1, 16, 9, 28, 104, 29, 96, 46, 21, 4]
abbrev dktX11_findWays_6 : List UInt8 := dkwX11_findWays_6 ++ dktX11_findWays_7
def dkwX11_findWays_5 : List UInt8 := [16, 9, 28, 104, 27, 96, 46, 42, 180, 4, 1, 16, 9, 27, 104, 29, 96, 46, 184, 0, 179, 54, 4, 42]
abbrev dktX11_findWays_5 : List UInt8 := dkwX11_findWays_5 ++ dktX11_findWays_6
def dkwX11_findWays_4 : List UInt8 := [61, 28, 42, 180, 2, 243, 162, 0, 79, 3, 62, 29, 42, 180, 2, 243, 162, 0, 63, 42, 180, 4, 1]
abbrev dktX11_findWays_4 : List UInt8 := dkwX11_findWays_4 ++ dktX11_findWays_5
def dkwX11_findWays_3 : List UInt8 := [79, 132, 2, 1, 167, 255, 192, 132, 1, 1, 167, 255, 176, 3, 60, 27, 42, 180, 2, 243, 162, 0, 95, 3]
abbrev dktX11_findWays_3 : List UInt8 := dkwX11_findWays_3 ++ dktX11_findWays_4
def dkwX11_findWays_2 : List UInt8 := [42, 27, 28, 182, 3, 251, 153, 0, 17, 42, 180, 3, 230, 16, 9, 27, 104, 28, 96, 46, 167, 0, 4, 3]
abbrev dktX11_findWays_2 : List UInt8 := dkwX11_findWays_2 ++ dktX11_findWays_3
def dkwX11_findWays_1 : List UInt8 := [16, 9, 27, 104, 28, 96, 42, 180, 2, 252, 27, 51, 153, 0, 35, 42, 180, 2, 252, 28, 51, 153, 0, 26]
abbrev dktX11_findWays_1 : List UInt8 := dkwX11_findWays_1 ++ dktX11_findWays_2
def dkwX11_findWays_0 : List UInt8 := [3, 60, 27, 42, 180, 2, 243, 162, 0, 78, 3, 61, 28, 42, 180, 2, 243, 162, 0, 62, 42, 180, 4, 1]
abbrev dktX11_findWays_0 : List UInt8 := dkwX11_findWays_0 ++ dktX11_findWays_1
theorem dksX11_findWays_0 : cX11_findWays.data.toList.drop 0 = dktX11_findWays_0 := by decide +kernel
theorem dksX11_findWays_1 : cX11_findWays.data.toList.drop 24 = dktX11_findWays_1 := dk_seg dksX11_findWays_0 24 rfl rfl
theorem dksX11_findWays_2 : cX11_findWays.data.toList.drop 48 = dktX11_findWays_2 := dk_seg dksX11_findWays_1 24 rfl rfl
theorem dksX11_findWays_3 : cX11_findWays.data.toList.drop 72 = dktX11_findWays_3 := dk_seg dksX11_findWays_2 24 rfl rfl
theorem dksX11_findWays_4 : cX11_findWays.data.toList.drop 96 = dktX11_findWays_4 := dk_seg dksX11_findWays_3 24 rfl rfl
theorem dksX11_findWays_5 : cX11_findWays.data.toList.drop 119 = dktX11_findWays_5 := dk_seg dksX11_findWays_4 23 rfl rfl
theorem dksX11_findWays_6 : cX11_findWays.data.toList.drop 143 = dktX11_findWays_6 := dk_seg dksX11_findWays_5 24 rfl rfl
theorem dksX11_findWays_7 : cX11_findWays.data.toList.drop 165 = dktX11_findWays_7 := dk_seg dksX11_findWays_6 22 rfl rfl
theorem dX11_findWays_0 : decode cX11_findWays 0 = .ok (.iconst 0, 1) := dk_3 (dk_at dksX11_findWays_0 0 rfl rfl)
theorem dX11_findWays_1 : decode cX11_findWays 1 = .ok (.istore_n 1, 1) := dk_60 (dk_at dksX11_findWays_0 1 rfl rfl)
theorem dX11_findWays_2 : decode cX11_findWays 2 = .ok (.iload_n 1, 1) := dk_27 (dk_at dksX11_findWays_0 2 rfl rfl)
theorem dX11_findWays_3 : decode cX11_findWays 3 = .ok (.aload_n 0, 1) := dk_42 (dk_at dksX11_findWays_0 3 rfl rfl)
theorem dX11_findWays_4 : decode cX11_findWays 4 = .ok (.getfield 755, 3) := dk_180 2 243 (dk_at dksX11_findWays_0 4 rfl rfl)
theorem dX11_findWays_7 : decode cX11_findWays 7 = .ok (.if_icmp .ge 78, 3) := dk_162 0 78 (dk_at dksX11_findWays_0 7 rfl rfl)
theorem dX11_findWays_10 : decode cX11_findWays 10 = .ok (.iconst 0, 1) := dk_3 (dk_at dksX11_findWays_0 10 rfl rfl)
theorem dX11_findWays_11 : decode cX11_findWays 11 = .ok (.istore_n 2, 1) := dk_61 (dk_at dksX11_findWays_0 11 rfl rfl)
theorem dX11_findWays_12 : decode cX11_findWays 12 = .ok (.iload_n 2, 1) := dk_28 (dk_at dksX11_findWays_0 12 rfl rfl)
theorem dX11_findWays_13 : decode cX11_findWays 13 = .ok (.aload_n 0, 1) := dk_42 (dk_at dksX11_findWays_0 13 rfl rfl)
theorem dX11_findWays_14 : decode cX11_findWays 14 = .ok (.getfield 755, 3) := dk_180 2 243 (dk_at dksX11_findWays_0 14 rfl rfl)
theorem dX11_findWays_17 : decode cX11_findWays 17 = .ok (.if_icmp .ge 62, 3) := dk_162 0 62 (dk_at dksX11_findWays_0 17 rfl rfl)
theorem dX11_findWays_20 : decode cX11_findWays 20 = .ok (.aload_n 0, 1) := dk_42 (dk_at dksX11_findWays_0 20 rfl rfl)
theorem dX11_findWays_21 : decode cX11_findWays 21 = .ok (.getfield 1025, 3) := dk_180 4 1 (dk_at dksX11_findWays_0 21 rfl rfl)
theorem dX11_findWays_24 : decode cX11_findWays 24 = .ok (.bipush 9, 2) := dk_16 9 (dk_at dksX11_findWays_1 0 rfl rfl)
theorem dX11_findWays_26 : decode cX11_findWays 26 = .ok (.iload_n 1, 1) := dk_27 (dk_at dksX11_findWays_1 2 rfl rfl)
theorem dX11_findWays_27 : decode cX11_findWays 27 = .ok (.imul, 1) := dk_104 (dk_at dksX11_findWays_1 3 rfl rfl)
theorem dX11_findWays_28 : decode cX11_findWays 28 = .ok (.iload_n 2, 1) := dk_28 (dk_at dksX11_findWays_1 4 rfl rfl)
theorem dX11_findWays_29 : decode cX11_findWays 29 = .ok (.iadd, 1) := dk_96 (dk_at dksX11_findWays_1 5 rfl rfl)
theorem dX11_findWays_30 : decode cX11_findWays 30 = .ok (.aload_n 0, 1) := dk_42 (dk_at dksX11_findWays_1 6 rfl rfl)
theorem dX11_findWays_31 : decode cX11_findWays 31 = .ok (.getfield 764, 3) := dk_180 2 252 (dk_at dksX11_findWays_1 7 rfl rfl)
theorem dX11_findWays_34 : decode cX11_findWays 34 = .ok (.iload_n 1, 1) := dk_27 (dk_at dksX11_findWays_1 10 rfl rfl)
theorem dX11_findWays_35 : decode cX11_findWays 35 = .ok (.baload, 1) := dk_51 (dk_at dksX11_findWays_1 11 rfl rfl)
theorem dX11_findWays_36 : decode cX11_findWays 36 = .ok (.ifCond .eq 35, 3) := dk_153 0 35 (dk_at dksX11_findWays_1 12 rfl rfl)
theorem dX11_findWays_39 : decode cX11_findWays 39 = .ok (.aload_n 0, 1) := dk_42 (dk_at dksX11_findWays_1 15 rfl rfl)
theorem dX11_findWays_40 : decode cX11_findWays 40 = .ok (.getfield 764, 3) := dk_180 2 252 (dk_at dksX11_findWays_1 16 rfl rfl)
theorem dX11_findWays_43 : decode cX11_findWays 43 = .ok (.iload_n 2, 1) := dk_28 (dk_at dksX11_findWays_1 19 rfl rfl)
theorem dX11_findWays_44 : decode cX11_findWays 44 = .ok (.baload, 1) := dk_51 (dk_at dksX11_findWays_1 20 rfl rfl)
theorem dX11_findWays_45 : decode cX11_findWays 45 = .ok (.ifCond .eq 26, 3) := dk_153 0 26 (dk_at dksX11_findWays_1 21 rfl rfl)
theorem dX11_findWays_48 : decode cX11_findWays 48 = .ok (.aload_n 0, 1) := dk_42 (dk_at dksX11_findWays_2 0 rfl rfl)
theorem dX11_findWays_49 : decode cX11_findWays 49 = .ok (.iload_n 1, 1) := dk_27 (dk_at dksX11_findWays_2 1 rfl rfl)
theorem dX11_findWays_50 : decode cX11_findWays 50 = .ok (.iload_n 2, 1) := dk_28 (dk_at dksX11_findWays_2 2 rfl rfl)
theorem dX11_findWays_51 : decode cX11_findWays 51 = .ok (.invokevirtual 1019, 3) := dk_182 3 251 (dk_at dksX11_findWays_2 3 rfl rfl)
theorem dX11_findWays_54 : decode cX11_findWays 54 = .ok (.ifCond .eq 17, 3) := dk_153 0 17 (dk_at dksX11_findWays_2 6 rfl rfl)
theorem dX11_findWays_57 : decode cX11_findWays 57 = .ok (.aload_n 0, 1) := dk_42 (dk_at dksX11_findWays_2 9 rfl rfl)
theorem dX11_findWays_58 : decode cX11_findWays 58 = .ok (.getfield 998, 3) := dk_180 3 230 (dk_at dksX11_findWays_2 10 rfl rfl)
theorem dX11_findWays_61 : decode cX11_findWays 61 = .ok (.bipush 9, 2) := dk_16 9 (dk_at dksX11_findWays_2 13 rfl rfl)
theorem dX11_findWays_63 : decode cX11_findWays 63 = .ok (.iload_n 1, 1) := dk_27 (dk_at dksX11_findWays_2 15 rfl rfl)
theorem dX11_findWays_64 : decode cX11_findWays 64 = .ok (.imul, 1) := dk_104 (dk_at dksX11_findWays_2 16 rfl rfl)
theorem dX11_findWays_65 : decode cX11_findWays 65 = .ok (.iload_n 2, 1) := dk_28 (dk_at dksX11_findWays_2 17 rfl rfl)
theorem dX11_findWays_66 : decode cX11_findWays 66 = .ok (.iadd, 1) := dk_96 (dk_at dksX11_findWays_2 18 rfl rfl)
theorem dX11_findWays_67 : decode cX11_findWays 67 = .ok (.iaload, 1) := dk_46 (dk_at dksX11_findWays_2 19 rfl rfl)
theorem dX11_findWays_68 : decode cX11_findWays 68 = .ok (.goto 4, 3) := dk_167 0 4 (dk_at dksX11_findWays_2 20 rfl rfl)
theorem dX11_findWays_71 : decode cX11_findWays 71 = .ok (.iconst 0, 1) := dk_3 (dk_at dksX11_findWays_2 23 rfl rfl)
theorem dX11_findWays_72 : decode cX11_findWays 72 = .ok (.iastore, 1) := dk_79 (dk_at dksX11_findWays_3 0 rfl rfl)
theorem dX11_findWays_73 : decode cX11_findWays 73 = .ok (.iinc 2 1, 3) := dk_132 2 1 (dk_at dksX11_findWays_3 1 rfl rfl)
theorem dX11_findWays_76 : decode cX11_findWays 76 = .ok (.goto (-64), 3) := dk_167 255 192 (dk_at dksX11_findWays_3 4 rfl rfl)
theorem dX11_findWays_79 : decode cX11_findWays 79 = .ok (.iinc 1 1, 3) := dk_132 1 1 (dk_at dksX11_findWays_3 7 rfl rfl)
theorem dX11_findWays_82 : decode cX11_findWays 82 = .ok (.goto (-80), 3) := dk_167 255 176 (dk_at dksX11_findWays_3 10 rfl rfl)
theorem dX11_findWays_85 : decode cX11_findWays 85 = .ok (.iconst 0, 1) := dk_3 (dk_at dksX11_findWays_3 13 rfl rfl)
theorem dX11_findWays_86 : decode cX11_findWays 86 = .ok (.istore_n 1, 1) := dk_60 (dk_at dksX11_findWays_3 14 rfl rfl)
theorem dX11_findWays_87 : decode cX11_findWays 87 = .ok (.iload_n 1, 1) := dk_27 (dk_at dksX11_findWays_3 15 rfl rfl)
theorem dX11_findWays_88 : decode cX11_findWays 88 = .ok (.aload_n 0, 1) := dk_42 (dk_at dksX11_findWays_3 16 rfl rfl)
theorem dX11_findWays_89 : decode cX11_findWays 89 = .ok (.getfield 755, 3) := dk_180 2 243 (dk_at dksX11_findWays_3 17 rfl rfl)
theorem dX11_findWays_92 : decode cX11_findWays 92 = .ok (.if_icmp .ge 95, 3) := dk_162 0 95 (dk_at dksX11_findWays_3 20 rfl rfl)
theorem dX11_findWays_95 : decode cX11_findWays 95 = .ok (.iconst 0, 1) := dk_3 (dk_at dksX11_findWays_3 23 rfl rfl)
theorem dX11_findWays_96 : decode cX11_findWays 96 = .ok (.istore_n 2, 1) := dk_61 (dk_at dksX11_findWays_4 0 rfl rfl)
theorem dX11_findWays_97 : decode cX11_findWays 97 = .ok (.iload_n 2, 1) := dk_28 (dk_at dksX11_findWays_4 1 rfl rfl)
theorem dX11_findWays_98 : decode cX11_findWays 98 = .ok (.aload_n 0, 1) := dk_42 (dk_at dksX11_findWays_4 2 rfl rfl)
theorem dX11_findWays_99 : decode cX11_findWays 99 = .ok (.getfield 755, 3) := dk_180 2 243 (dk_at dksX11_findWays_4 3 rfl rfl)
theorem dX11_findWays_102 : decode cX11_findWays 102 = .ok (.if_icmp .ge 79, 3) := dk_162 0 79 (dk_at dksX11_findWays_4 6 rfl rfl)
theorem dX11_findWays_105 : decode cX11_findWays 105 = .ok (.iconst 0, 1) := dk_3 (dk_at dksX11_findWays_4 9 rfl rfl)
theorem dX11_findWays_106 : decode cX11_findWays 106 = .ok (.istore_n 3, 1) := dk_62 (dk_at dksX11_findWays_4 10 rfl rfl)
theorem dX11_findWays_107 : decode cX11_findWays 107 = .ok (.iload_n 3, 1) := dk_29 (dk_at dksX11_findWays_4 11 rfl rfl)
theorem dX11_findWays_108 : decode cX11_findWays 108 = .ok (.aload_n 0, 1) := dk_42 (dk_at dksX11_findWays_4 12 rfl rfl)
theorem dX11_findWays_109 : decode cX11_findWays 109 = .ok (.getfield 755, 3) := dk_180 2 243 (dk_at dksX11_findWays_4 13 rfl rfl)
theorem dX11_findWays_112 : decode cX11_findWays 112 = .ok (.if_icmp .ge 63, 3) := dk_162 0 63 (dk_at dksX11_findWays_4 16 rfl rfl)
theorem dX11_findWays_115 : decode cX11_findWays 115 = .ok (.aload_n 0, 1) := dk_42 (dk_at dksX11_findWays_4 19 rfl rfl)
theorem dX11_findWays_116 : decode cX11_findWays 116 = .ok (.getfield 1025, 3) := dk_180 4 1 (dk_at dksX11_findWays_4 20 rfl rfl)
theorem dX11_findWays_119 : decode cX11_findWays 119 = .ok (.bipush 9, 2) := dk_16 9 (dk_at dksX11_findWays_5 0 rfl rfl)
theorem dX11_findWays_121 : decode cX11_findWays 121 = .ok (.iload_n 2, 1) := dk_28 (dk_at dksX11_findWays_5 2 rfl rfl)
theorem dX11_findWays_122 : decode cX11_findWays 122 = .ok (.imul, 1) := dk_104 (dk_at dksX11_findWays_5 3 rfl rfl)
theorem dX11_findWays_123 : decode cX11_findWays 123 = .ok (.iload_n 1, 1) := dk_27 (dk_at dksX11_findWays_5 4 rfl rfl)
theorem dX11_findWays_124 : decode cX11_findWays 124 = .ok (.iadd, 1) := dk_96 (dk_at dksX11_findWays_5 5 rfl rfl)
theorem dX11_findWays_125 : decode cX11_findWays 125 = .ok (.iaload, 1) := dk_46 (dk_at dksX11_findWays_5 6 rfl rfl)
theorem dX11_findWays_126 : decode cX11_findWays 126 = .ok (.aload_n 0, 1) := dk_42 (dk_at dksX11_findWays_5 7 rfl rfl)
theorem dX11_findWays_127 : decode cX11_findWays 127 = .ok (.getfield 1025, 3) := dk_180 4 1 (dk_at dksX11_findWays_5 8 rfl rfl)
theorem dX11_findWays_130 : decode cX11_findWays 130 = .ok (.bipush 9, 2) := dk_16 9 (dk_at dksX11_findWays_5 11 rfl rfl)
theorem dX11_findWays_132 : decode cX11_findWays 132 = .ok (.iload_n 1, 1) := dk_27 (dk_at dksX11_findWays_5 13 rfl rfl)
theorem dX11_findWays_133 : decode cX11_findWays 133 = .ok (.imul, 1) := dk_104 (dk_at dksX11_findWays_5 14 rfl rfl)
theorem dX11_findWays_134 : decode cX11_findWays 134 = .ok (.iload_n 3, 1) := dk_29 (dk_at dksX11_findWays_5 15 rfl rfl)
theorem dX11_findWays_135 : decode cX11_findWays 135 = .ok (.iadd, 1) := dk_96 (dk_at dksX11_findWays_5 16 rfl rfl)
theorem dX11_findWays_136 : decode cX11_findWays 136 = .ok (.iaload, 1) := dk_46 (dk_at dksX11_findWays_5 17 rfl rfl)
theorem dX11_findWays_137 : decode cX11_findWays 137 = .ok (.invokestatic 179, 3) := dk_184 0 179 (dk_at dksX11_findWays_5 18 rfl rfl)
theorem dX11_findWays_140 : decode cX11_findWays 140 = .ok (.istore 4, 2) := dk_54 4 (dk_at dksX11_findWays_5 21 rfl rfl)
theorem dX11_findWays_142 : decode cX11_findWays 142 = .ok (.aload_n 0, 1) := dk_42 (dk_at dksX11_findWays_5 23 rfl rfl)
theorem dX11_findWays_143 : decode cX11_findWays 143 = .ok (.getfield 1025, 3) := dk_180 4 1 (dk_at dksX11_findWays_6 0 rfl rfl)
theorem dX11_findWays_146 : decode cX11_findWays 146 = .ok (.bipush 9, 2) := dk_16 9 (dk_at dksX11_findWays_6 3 rfl rfl)
theorem dX11_findWays_148 : decode cX11_findWays 148 = .ok (.iload_n 2, 1) := dk_28 (dk_at dksX11_findWays_6 5 rfl rfl)
theorem dX11_findWays_149 : decode cX11_findWays 149 = .ok (.imul, 1) := dk_104 (dk_at dksX11_findWays_6 6 rfl rfl)
theorem dX11_findWays_150 : decode cX11_findWays 150 = .ok (.iload_n 3, 1) := dk_29 (dk_at dksX11_findWays_6 7 rfl rfl)
theorem dX11_findWays_151 : decode cX11_findWays 151 = .ok (.iadd, 1) := dk_96 (dk_at dksX11_findWays_6 8 rfl rfl)
theorem dX11_findWays_152 : decode cX11_findWays 152 = .ok (.aload_n 0, 1) := dk_42 (dk_at dksX11_findWays_6 9 rfl rfl)
theorem dX11_findWays_153 : decode cX11_findWays 153 = .ok (.getfield 1025, 3) := dk_180 4 1 (dk_at dksX11_findWays_6 10 rfl rfl)
theorem dX11_findWays_156 : decode cX11_findWays 156 = .ok (.bipush 9, 2) := dk_16 9 (dk_at dksX11_findWays_6 13 rfl rfl)
theorem dX11_findWays_158 : decode cX11_findWays 158 = .ok (.iload_n 2, 1) := dk_28 (dk_at dksX11_findWays_6 15 rfl rfl)
theorem dX11_findWays_159 : decode cX11_findWays 159 = .ok (.imul, 1) := dk_104 (dk_at dksX11_findWays_6 16 rfl rfl)
theorem dX11_findWays_160 : decode cX11_findWays 160 = .ok (.iload_n 3, 1) := dk_29 (dk_at dksX11_findWays_6 17 rfl rfl)
theorem dX11_findWays_161 : decode cX11_findWays 161 = .ok (.iadd, 1) := dk_96 (dk_at dksX11_findWays_6 18 rfl rfl)
theorem dX11_findWays_162 : decode cX11_findWays 162 = .ok (.iaload, 1) := dk_46 (dk_at dksX11_findWays_6 19 rfl rfl)
theorem dX11_findWays_163 : decode cX11_findWays 163 = .ok (.iload 4, 2) := dk_21 4 (dk_at dksX11_findWays_6 20 rfl rfl)
theorem dX11_findWays_165 : decode cX11_findWays 165 = .ok (.invokestatic 1040, 3) := dk_184 4 16 (dk_at dksX11_findWays_7 0 rfl rfl)
theorem dX11_findWays_168 : decode cX11_findWays 168 = .ok (.iastore, 1) := dk_79 (dk_at dksX11_findWays_7 3 rfl rfl)
theorem dX11_findWays_169 : decode cX11_findWays 169 = .ok (.iinc 3 1, 3) := dk_132 3 1 (dk_at dksX11_findWays_7 4 rfl rfl)
theorem dX11_findWays_172 : decode cX11_findWays 172 = .ok (.goto (-65), 3) := dk_167 255 191 (dk_at dksX11_findWays_7 7 rfl rfl)
theorem dX11_findWays_175 : decode cX11_findWays 175 = .ok (.iinc 2 1, 3) := dk_132 2 1 (dk_at dksX11_findWays_7 10 rfl rfl)
theorem dX11_findWays_178 : decode cX11_findWays 178 = .ok (.goto (-81), 3) := dk_167 255 175 (dk_at dksX11_findWays_7 13 rfl rfl)
theorem dX11_findWays_181 : decode cX11_findWays 181 = .ok (.iinc 1 1, 3) := dk_132 1 1 (dk_at dksX11_findWays_7 16 rfl rfl)
theorem dX11_findWays_184 : decode cX11_findWays 184 = .ok (.goto (-97), 3) := dk_167 255 159 (dk_at dksX11_findWays_7 19 rfl rfl)
theorem dX11_findWays_187 : decode cX11_findWays 187 = .ok (.return_, 1) := dk_177 (dk_at dksX11_findWays_7 22 rfl rfl)
abbrev cX11_nextBy : ByteArray := prog_17_method_169_code
def yX11_nextBy : MethodName := ⟨RX11, "nextBy", "(I)I"⟩
def dkwX11_nextBy_4 : List UInt8 := [167, 255, 170, 28, 172]
abbrev dktX11_nextBy_4 : List UInt8 := dkwX11_nextBy_4 ++ []
def dkwX11_nextBy_3 : List UInt8 := [3, 54, 6, 28, 155, 0, 9, 21, 6, 29, 164, 0, 9, 21, 5, 61, 21, 6, 62, 132, 4, 1]
abbrev dktX11_nextBy_3 : List UInt8 := dkwX11_nextBy_3 ++ dktX11_nextBy_4
def dkwX11_nextBy_2 : List UInt8 := [182, 3, 245, 153, 0, 6, 167, 0, 37, 27, 16, 10, 160, 0, 12, 42, 21, 5, 182, 3, 248, 167, 0, 4]
abbrev dktX11_nextBy_2 : List UInt8 := dkwX11_nextBy_2 ++ dktX11_nextBy_3
def dkwX11_nextBy_1 : List UInt8 := [180, 2, 237, 104, 21, 4, 96, 46, 54, 5, 42, 180, 3, 141, 21, 5, 46, 154, 0, 50, 42, 21, 5, 27]
abbrev dktX11_nextBy_1 : List UInt8 := dkwX11_nextBy_1 ++ dktX11_nextBy_2
def dkwX11_nextBy_0 : List UInt8 := [2, 61, 3, 62, 3, 54, 4, 21, 4, 42, 180, 2, 243, 162, 0, 83, 42, 180, 2, 99, 16, 9, 42]
abbrev dktX11_nextBy_0 : List UInt8 := dkwX11_nextBy_0 ++ dktX11_nextBy_1
theorem dksX11_nextBy_0 : cX11_nextBy.data.toList.drop 0 = dktX11_nextBy_0 := by decide +kernel
theorem dksX11_nextBy_1 : cX11_nextBy.data.toList.drop 23 = dktX11_nextBy_1 := dk_seg dksX11_nextBy_0 23 rfl rfl
theorem dksX11_nextBy_2 : cX11_nextBy.data.toList.drop 47 = dktX11_nextBy_2 := dk_seg dksX11_nextBy_1 24 rfl rfl
theorem dksX11_nextBy_3 : cX11_nextBy.data.toList.drop 71 = dktX11_nextBy_3 := dk_seg dksX11_nextBy_2 24 rfl rfl
theorem dksX11_nextBy_4 : cX11_nextBy.data.toList.drop 93 = dktX11_nextBy_4 := dk_seg dksX11_nextBy_3 22 rfl rfl
theorem dX11_nextBy_0 : decode cX11_nextBy 0 = .ok (.iconst (-1), 1) := dk_2 (dk_at dksX11_nextBy_0 0 rfl rfl)
theorem dX11_nextBy_1 : decode cX11_nextBy 1 = .ok (.istore_n 2, 1) := dk_61 (dk_at dksX11_nextBy_0 1 rfl rfl)
theorem dX11_nextBy_2 : decode cX11_nextBy 2 = .ok (.iconst 0, 1) := dk_3 (dk_at dksX11_nextBy_0 2 rfl rfl)
theorem dX11_nextBy_3 : decode cX11_nextBy 3 = .ok (.istore_n 3, 1) := dk_62 (dk_at dksX11_nextBy_0 3 rfl rfl)
theorem dX11_nextBy_4 : decode cX11_nextBy 4 = .ok (.iconst 0, 1) := dk_3 (dk_at dksX11_nextBy_0 4 rfl rfl)
theorem dX11_nextBy_5 : decode cX11_nextBy 5 = .ok (.istore 4, 2) := dk_54 4 (dk_at dksX11_nextBy_0 5 rfl rfl)
theorem dX11_nextBy_7 : decode cX11_nextBy 7 = .ok (.iload 4, 2) := dk_21 4 (dk_at dksX11_nextBy_0 7 rfl rfl)
theorem dX11_nextBy_9 : decode cX11_nextBy 9 = .ok (.aload_n 0, 1) := dk_42 (dk_at dksX11_nextBy_0 9 rfl rfl)
theorem dX11_nextBy_10 : decode cX11_nextBy 10 = .ok (.getfield 755, 3) := dk_180 2 243 (dk_at dksX11_nextBy_0 10 rfl rfl)
theorem dX11_nextBy_13 : decode cX11_nextBy 13 = .ok (.if_icmp .ge 83, 3) := dk_162 0 83 (dk_at dksX11_nextBy_0 13 rfl rfl)
theorem dX11_nextBy_16 : decode cX11_nextBy 16 = .ok (.aload_n 0, 1) := dk_42 (dk_at dksX11_nextBy_0 16 rfl rfl)
theorem dX11_nextBy_17 : decode cX11_nextBy 17 = .ok (.getfield 611, 3) := dk_180 2 99 (dk_at dksX11_nextBy_0 17 rfl rfl)
theorem dX11_nextBy_20 : decode cX11_nextBy 20 = .ok (.bipush 9, 2) := dk_16 9 (dk_at dksX11_nextBy_0 20 rfl rfl)
theorem dX11_nextBy_22 : decode cX11_nextBy 22 = .ok (.aload_n 0, 1) := dk_42 (dk_at dksX11_nextBy_0 22 rfl rfl)
theorem dX11_nextBy_23 : decode cX11_nextBy 23 = .ok (.getfield 749, 3) := dk_180 2 237 (dk_at dksX11_nextBy_1 0 rfl rfl)
theorem dX11_nextBy_26 : decode cX11_nextBy 26 = .ok (.imul, 1) := dk_104 (dk_at dksX11_nextBy_1 3 rfl rfl)
theorem dX11_nextBy_27 : decode cX11_nextBy 27 = .ok (.iload 4, 2) := dk_21 4 (dk_at dksX11_nextBy_1 4 rfl rfl)
theorem dX11_nextBy_29 : decode cX11_nextBy 29 = .ok (.iadd, 1) := dk_96 (dk_at dksX11_nextBy_1 6 rfl rfl)
theorem dX11_nextBy_30 : decode cX11_nextBy 30 = .ok (.iaload, 1) := dk_46 (dk_at dksX11_nextBy_1 7 rfl rfl)
theorem dX11_nextBy_31 : decode cX11_nextBy 31 = .ok (.istore 5, 2) := dk_54 5 (dk_at dksX11_nextBy_1 8 rfl rfl)
theorem dX11_nextBy_33 : decode cX11_nextBy 33 = .ok (.aload_n 0, 1) := dk_42 (dk_at dksX11_nextBy_1 10 rfl rfl)
theorem dX11_nextBy_34 : decode cX11_nextBy 34 = .ok (.getfield 909, 3) := dk_180 3 141 (dk_at dksX11_nextBy_1 11 rfl rfl)
theorem dX11_nextBy_37 : decode cX11_nextBy 37 = .ok (.iload 5, 2) := dk_21 5 (dk_at dksX11_nextBy_1 14 rfl rfl)
theorem dX11_nextBy_39 : decode cX11_nextBy 39 = .ok (.iaload, 1) := dk_46 (dk_at dksX11_nextBy_1 16 rfl rfl)
theorem dX11_nextBy_40 : decode cX11_nextBy 40 = .ok (.ifCond .ne 50, 3) := dk_154 0 50 (dk_at dksX11_nextBy_1 17 rfl rfl)
theorem dX11_nextBy_43 : decode cX11_nextBy 43 = .ok (.aload_n 0, 1) := dk_42 (dk_at dksX11_nextBy_1 20 rfl rfl)
theorem dX11_nextBy_44 : decode cX11_nextBy 44 = .ok (.iload 5, 2) := dk_21 5 (dk_at dksX11_nextBy_1 21 rfl rfl)
theorem dX11_nextBy_46 : decode cX11_nextBy 46 = .ok (.iload_n 1, 1) := dk_27 (dk_at dksX11_nextBy_1 23 rfl rfl)
theorem dX11_nextBy_47 : decode cX11_nextBy 47 = .ok (.invokevirtual 1013, 3) := dk_182 3 245 (dk_at dksX11_nextBy_2 0 rfl rfl)
theorem dX11_nextBy_50 : decode cX11_nextBy 50 = .ok (.ifCond .eq 6, 3) := dk_153 0 6 (dk_at dksX11_nextBy_2 3 rfl rfl)
theorem dX11_nextBy_53 : decode cX11_nextBy 53 = .ok (.goto 37, 3) := dk_167 0 37 (dk_at dksX11_nextBy_2 6 rfl rfl)
theorem dX11_nextBy_56 : decode cX11_nextBy 56 = .ok (.iload_n 1, 1) := dk_27 (dk_at dksX11_nextBy_2 9 rfl rfl)
theorem dX11_nextBy_57 : decode cX11_nextBy 57 = .ok (.bipush 10, 2) := dk_16 10 (dk_at dksX11_nextBy_2 10 rfl rfl)
theorem dX11_nextBy_59 : decode cX11_nextBy 59 = .ok (.if_icmp .ne 12, 3) := dk_160 0 12 (dk_at dksX11_nextBy_2 12 rfl rfl)
theorem dX11_nextBy_62 : decode cX11_nextBy 62 = .ok (.aload_n 0, 1) := dk_42 (dk_at dksX11_nextBy_2 15 rfl rfl)
theorem dX11_nextBy_63 : decode cX11_nextBy 63 = .ok (.iload 5, 2) := dk_21 5 (dk_at dksX11_nextBy_2 16 rfl rfl)
theorem dX11_nextBy_65 : decode cX11_nextBy 65 = .ok (.invokevirtual 1016, 3) := dk_182 3 248 (dk_at dksX11_nextBy_2 18 rfl rfl)
theorem dX11_nextBy_68 : decode cX11_nextBy 68 = .ok (.goto 4, 3) := dk_167 0 4 (dk_at dksX11_nextBy_2 21 rfl rfl)
theorem dX11_nextBy_71 : decode cX11_nextBy 71 = .ok (.iconst 0, 1) := dk_3 (dk_at dksX11_nextBy_3 0 rfl rfl)
theorem dX11_nextBy_72 : decode cX11_nextBy 72 = .ok (.istore 6, 2) := dk_54 6 (dk_at dksX11_nextBy_3 1 rfl rfl)
theorem dX11_nextBy_74 : decode cX11_nextBy 74 = .ok (.iload_n 2, 1) := dk_28 (dk_at dksX11_nextBy_3 3 rfl rfl)
theorem dX11_nextBy_75 : decode cX11_nextBy 75 = .ok (.ifCond .lt 9, 3) := dk_155 0 9 (dk_at dksX11_nextBy_3 4 rfl rfl)
theorem dX11_nextBy_78 : decode cX11_nextBy 78 = .ok (.iload 6, 2) := dk_21 6 (dk_at dksX11_nextBy_3 7 rfl rfl)
theorem dX11_nextBy_80 : decode cX11_nextBy 80 = .ok (.iload_n 3, 1) := dk_29 (dk_at dksX11_nextBy_3 9 rfl rfl)
theorem dX11_nextBy_81 : decode cX11_nextBy 81 = .ok (.if_icmp .le 9, 3) := dk_164 0 9 (dk_at dksX11_nextBy_3 10 rfl rfl)
theorem dX11_nextBy_84 : decode cX11_nextBy 84 = .ok (.iload 5, 2) := dk_21 5 (dk_at dksX11_nextBy_3 13 rfl rfl)
theorem dX11_nextBy_86 : decode cX11_nextBy 86 = .ok (.istore_n 2, 1) := dk_61 (dk_at dksX11_nextBy_3 15 rfl rfl)
theorem dX11_nextBy_87 : decode cX11_nextBy 87 = .ok (.iload 6, 2) := dk_21 6 (dk_at dksX11_nextBy_3 16 rfl rfl)
theorem dX11_nextBy_89 : decode cX11_nextBy 89 = .ok (.istore_n 3, 1) := dk_62 (dk_at dksX11_nextBy_3 18 rfl rfl)
theorem dX11_nextBy_90 : decode cX11_nextBy 90 = .ok (.iinc 4 1, 3) := dk_132 4 1 (dk_at dksX11_nextBy_3 19 rfl rfl)
theorem dX11_nextBy_93 : decode cX11_nextBy 93 = .ok (.goto (-86), 3) := dk_167 255 170 (dk_at dksX11_nextBy_4 0 rfl rfl)
theorem dX11_nextBy_96 : decode cX11_nextBy 96 = .ok (.iload_n 2, 1) := dk_28 (dk_at dksX11_nextBy_4 3 rfl rfl)
theorem dX11_nextBy_97 : decode cX11_nextBy 97 = .ok (.ireturn, 1) := dk_172 (dk_at dksX11_nextBy_4 4 rfl rfl)
