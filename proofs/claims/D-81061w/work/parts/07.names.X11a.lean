set_option maxRecDepth 100000
set_option maxRecDepth 100000
abbrev cX11_feed : ByteArray := prog_17_method_2_code
def yX11_feed : MethodName := ⟨RX11, "feed", "(IIIII)I"⟩
def dkwX11_feed_5 : List UInt8 := [180, 0, 5, 172]
abbrev dktX11_feed_5 : List UInt8 := dkwX11_feed_5 ++ []
def dkwX11_feed_4 : List UInt8 := [112, 104, 100, 122, 145, 84, 132, 6, 1, 167, 255, 172, 42, 89, 180, 0, 5, 16, 20, 96, 181, 0, 5, 42]
abbrev dktX11_feed_4 : List UInt8 := dkwX11_feed_4 ++ dktX11_feed_5
def dkwX11_feed_3 : List UInt8 := [21, 5, 54, 7, 42, 180, 0, 9, 42, 180, 0, 5, 21, 6, 96, 21, 7, 16, 24, 16, 8, 21, 6, 7]
abbrev dktX11_feed_3 : List UInt8 := dkwX11_feed_3 ++ dktX11_feed_4
def dkwX11_feed_2 : List UInt8 := [21, 6, 16, 12, 162, 0, 7, 29, 167, 0, 17, 21, 6, 16, 16, 162, 0, 8, 21, 4, 167, 0, 5]
abbrev dktX11_feed_2 : List UInt8 := dkwX11_feed_2 ++ dktX11_feed_3
def dkwX11_feed_1 : List UInt8 := [162, 0, 83, 21, 6, 7, 162, 0, 7, 27, 167, 0, 39, 21, 6, 16, 8, 162, 0, 7, 28, 167, 0, 28]
abbrev dktX11_feed_1 : List UInt8 := dkwX11_feed_1 ++ dktX11_feed_2
def dkwX11_feed_0 : List UInt8 := [42, 180, 0, 5, 16, 20, 96, 17, 15, 160, 164, 0, 6, 16, 251, 172, 3, 54, 6, 21, 6, 16, 20]
abbrev dktX11_feed_0 : List UInt8 := dkwX11_feed_0 ++ dktX11_feed_1
theorem dksX11_feed_0 : cX11_feed.data.toList.drop 0 = dktX11_feed_0 := by decide +kernel
theorem dksX11_feed_1 : cX11_feed.data.toList.drop 23 = dktX11_feed_1 := dk_seg dksX11_feed_0 23 rfl rfl
theorem dksX11_feed_2 : cX11_feed.data.toList.drop 47 = dktX11_feed_2 := dk_seg dksX11_feed_1 24 rfl rfl
theorem dksX11_feed_3 : cX11_feed.data.toList.drop 70 = dktX11_feed_3 := dk_seg dksX11_feed_2 23 rfl rfl
theorem dksX11_feed_4 : cX11_feed.data.toList.drop 94 = dktX11_feed_4 := dk_seg dksX11_feed_3 24 rfl rfl
theorem dksX11_feed_5 : cX11_feed.data.toList.drop 118 = dktX11_feed_5 := dk_seg dksX11_feed_4 24 rfl rfl
theorem dX11_feed_0 : decode cX11_feed 0 = .ok (.aload_n 0, 1) := dk_42 (dk_at dksX11_feed_0 0 rfl rfl)
theorem dX11_feed_1 : decode cX11_feed 1 = .ok (.getfield 5, 3) := dk_180 0 5 (dk_at dksX11_feed_0 1 rfl rfl)
theorem dX11_feed_4 : decode cX11_feed 4 = .ok (.bipush 20, 2) := dk_16 20 (dk_at dksX11_feed_0 4 rfl rfl)
theorem dX11_feed_6 : decode cX11_feed 6 = .ok (.iadd, 1) := dk_96 (dk_at dksX11_feed_0 6 rfl rfl)
theorem dX11_feed_7 : decode cX11_feed 7 = .ok (.sipush 4000, 3) := dk_17 15 160 (dk_at dksX11_feed_0 7 rfl rfl)
theorem dX11_feed_10 : decode cX11_feed 10 = .ok (.if_icmp .le 6, 3) := dk_164 0 6 (dk_at dksX11_feed_0 10 rfl rfl)
theorem dX11_feed_13 : decode cX11_feed 13 = .ok (.bipush (-5), 2) := dk_16 251 (dk_at dksX11_feed_0 13 rfl rfl)
theorem dX11_feed_15 : decode cX11_feed 15 = .ok (.ireturn, 1) := dk_172 (dk_at dksX11_feed_0 15 rfl rfl)
theorem dX11_feed_16 : decode cX11_feed 16 = .ok (.iconst 0, 1) := dk_3 (dk_at dksX11_feed_0 16 rfl rfl)
theorem dX11_feed_17 : decode cX11_feed 17 = .ok (.istore 6, 2) := dk_54 6 (dk_at dksX11_feed_0 17 rfl rfl)
theorem dX11_feed_19 : decode cX11_feed 19 = .ok (.iload 6, 2) := dk_21 6 (dk_at dksX11_feed_0 19 rfl rfl)
theorem dX11_feed_21 : decode cX11_feed 21 = .ok (.bipush 20, 2) := dk_16 20 (dk_at dksX11_feed_0 21 rfl rfl)
theorem dX11_feed_23 : decode cX11_feed 23 = .ok (.if_icmp .ge 83, 3) := dk_162 0 83 (dk_at dksX11_feed_1 0 rfl rfl)
theorem dX11_feed_26 : decode cX11_feed 26 = .ok (.iload 6, 2) := dk_21 6 (dk_at dksX11_feed_1 3 rfl rfl)
theorem dX11_feed_28 : decode cX11_feed 28 = .ok (.iconst 4, 1) := dk_7 (dk_at dksX11_feed_1 5 rfl rfl)
theorem dX11_feed_29 : decode cX11_feed 29 = .ok (.if_icmp .ge 7, 3) := dk_162 0 7 (dk_at dksX11_feed_1 6 rfl rfl)
theorem dX11_feed_32 : decode cX11_feed 32 = .ok (.iload_n 1, 1) := dk_27 (dk_at dksX11_feed_1 9 rfl rfl)
theorem dX11_feed_33 : decode cX11_feed 33 = .ok (.goto 39, 3) := dk_167 0 39 (dk_at dksX11_feed_1 10 rfl rfl)
theorem dX11_feed_36 : decode cX11_feed 36 = .ok (.iload 6, 2) := dk_21 6 (dk_at dksX11_feed_1 13 rfl rfl)
theorem dX11_feed_38 : decode cX11_feed 38 = .ok (.bipush 8, 2) := dk_16 8 (dk_at dksX11_feed_1 15 rfl rfl)
theorem dX11_feed_40 : decode cX11_feed 40 = .ok (.if_icmp .ge 7, 3) := dk_162 0 7 (dk_at dksX11_feed_1 17 rfl rfl)
theorem dX11_feed_43 : decode cX11_feed 43 = .ok (.iload_n 2, 1) := dk_28 (dk_at dksX11_feed_1 20 rfl rfl)
theorem dX11_feed_44 : decode cX11_feed 44 = .ok (.goto 28, 3) := dk_167 0 28 (dk_at dksX11_feed_1 21 rfl rfl)
theorem dX11_feed_47 : decode cX11_feed 47 = .ok (.iload 6, 2) := dk_21 6 (dk_at dksX11_feed_2 0 rfl rfl)
theorem dX11_feed_49 : decode cX11_feed 49 = .ok (.bipush 12, 2) := dk_16 12 (dk_at dksX11_feed_2 2 rfl rfl)
theorem dX11_feed_51 : decode cX11_feed 51 = .ok (.if_icmp .ge 7, 3) := dk_162 0 7 (dk_at dksX11_feed_2 4 rfl rfl)
theorem dX11_feed_54 : decode cX11_feed 54 = .ok (.iload_n 3, 1) := dk_29 (dk_at dksX11_feed_2 7 rfl rfl)
theorem dX11_feed_55 : decode cX11_feed 55 = .ok (.goto 17, 3) := dk_167 0 17 (dk_at dksX11_feed_2 8 rfl rfl)
theorem dX11_feed_58 : decode cX11_feed 58 = .ok (.iload 6, 2) := dk_21 6 (dk_at dksX11_feed_2 11 rfl rfl)
theorem dX11_feed_60 : decode cX11_feed 60 = .ok (.bipush 16, 2) := dk_16 16 (dk_at dksX11_feed_2 13 rfl rfl)
theorem dX11_feed_62 : decode cX11_feed 62 = .ok (.if_icmp .ge 8, 3) := dk_162 0 8 (dk_at dksX11_feed_2 15 rfl rfl)
theorem dX11_feed_65 : decode cX11_feed 65 = .ok (.iload 4, 2) := dk_21 4 (dk_at dksX11_feed_2 18 rfl rfl)
theorem dX11_feed_67 : decode cX11_feed 67 = .ok (.goto 5, 3) := dk_167 0 5 (dk_at dksX11_feed_2 20 rfl rfl)
theorem dX11_feed_70 : decode cX11_feed 70 = .ok (.iload 5, 2) := dk_21 5 (dk_at dksX11_feed_3 0 rfl rfl)
theorem dX11_feed_72 : decode cX11_feed 72 = .ok (.istore 7, 2) := dk_54 7 (dk_at dksX11_feed_3 2 rfl rfl)
theorem dX11_feed_74 : decode cX11_feed 74 = .ok (.aload_n 0, 1) := dk_42 (dk_at dksX11_feed_3 4 rfl rfl)
theorem dX11_feed_75 : decode cX11_feed 75 = .ok (.getfield 9, 3) := dk_180 0 9 (dk_at dksX11_feed_3 5 rfl rfl)
theorem dX11_feed_78 : decode cX11_feed 78 = .ok (.aload_n 0, 1) := dk_42 (dk_at dksX11_feed_3 8 rfl rfl)
theorem dX11_feed_79 : decode cX11_feed 79 = .ok (.getfield 5, 3) := dk_180 0 5 (dk_at dksX11_feed_3 9 rfl rfl)
theorem dX11_feed_82 : decode cX11_feed 82 = .ok (.iload 6, 2) := dk_21 6 (dk_at dksX11_feed_3 12 rfl rfl)
theorem dX11_feed_84 : decode cX11_feed 84 = .ok (.iadd, 1) := dk_96 (dk_at dksX11_feed_3 14 rfl rfl)
theorem dX11_feed_85 : decode cX11_feed 85 = .ok (.iload 7, 2) := dk_21 7 (dk_at dksX11_feed_3 15 rfl rfl)
theorem dX11_feed_87 : decode cX11_feed 87 = .ok (.bipush 24, 2) := dk_16 24 (dk_at dksX11_feed_3 17 rfl rfl)
theorem dX11_feed_89 : decode cX11_feed 89 = .ok (.bipush 8, 2) := dk_16 8 (dk_at dksX11_feed_3 19 rfl rfl)
theorem dX11_feed_91 : decode cX11_feed 91 = .ok (.iload 6, 2) := dk_21 6 (dk_at dksX11_feed_3 21 rfl rfl)
theorem dX11_feed_93 : decode cX11_feed 93 = .ok (.iconst 4, 1) := dk_7 (dk_at dksX11_feed_3 23 rfl rfl)
theorem dX11_feed_94 : decode cX11_feed 94 = .ok (.irem, 1) := dk_112 (dk_at dksX11_feed_4 0 rfl rfl)
theorem dX11_feed_95 : decode cX11_feed 95 = .ok (.imul, 1) := dk_104 (dk_at dksX11_feed_4 1 rfl rfl)
theorem dX11_feed_96 : decode cX11_feed 96 = .ok (.isub, 1) := dk_100 (dk_at dksX11_feed_4 2 rfl rfl)
theorem dX11_feed_97 : decode cX11_feed 97 = .ok (.ishr, 1) := dk_122 (dk_at dksX11_feed_4 3 rfl rfl)
theorem dX11_feed_98 : decode cX11_feed 98 = .ok (.i2b, 1) := dk_145 (dk_at dksX11_feed_4 4 rfl rfl)
theorem dX11_feed_99 : decode cX11_feed 99 = .ok (.bastore, 1) := dk_84 (dk_at dksX11_feed_4 5 rfl rfl)
theorem dX11_feed_100 : decode cX11_feed 100 = .ok (.iinc 6 1, 3) := dk_132 6 1 (dk_at dksX11_feed_4 6 rfl rfl)
theorem dX11_feed_103 : decode cX11_feed 103 = .ok (.goto (-84), 3) := dk_167 255 172 (dk_at dksX11_feed_4 9 rfl rfl)
theorem dX11_feed_106 : decode cX11_feed 106 = .ok (.aload_n 0, 1) := dk_42 (dk_at dksX11_feed_4 12 rfl rfl)
theorem dX11_feed_107 : decode cX11_feed 107 = .ok (.dup, 1) := dk_89 (dk_at dksX11_feed_4 13 rfl rfl)
theorem dX11_feed_108 : decode cX11_feed 108 = .ok (.getfield 5, 3) := dk_180 0 5 (dk_at dksX11_feed_4 14 rfl rfl)
theorem dX11_feed_111 : decode cX11_feed 111 = .ok (.bipush 20, 2) := dk_16 20 (dk_at dksX11_feed_4 17 rfl rfl)
theorem dX11_feed_113 : decode cX11_feed 113 = .ok (.iadd, 1) := dk_96 (dk_at dksX11_feed_4 19 rfl rfl)
theorem dX11_feed_114 : decode cX11_feed 114 = .ok (.putfield 5, 3) := dk_181 0 5 (dk_at dksX11_feed_4 20 rfl rfl)
theorem dX11_feed_117 : decode cX11_feed 117 = .ok (.aload_n 0, 1) := dk_42 (dk_at dksX11_feed_4 23 rfl rfl)
theorem dX11_feed_118 : decode cX11_feed 118 = .ok (.getfield 5, 3) := dk_180 0 5 (dk_at dksX11_feed_5 0 rfl rfl)
theorem dX11_feed_121 : decode cX11_feed 121 = .ok (.ireturn, 1) := dk_172 (dk_at dksX11_feed_5 3 rfl rfl)
abbrev cX11_cut : ByteArray := prog_17_method_3_code
def yX11_cut : MethodName := ⟨RX11, "cut", "(I)I"⟩
def dkwX11_cut_0 : List UInt8 := [27, 133, 9, 42, 180, 0, 5, 133, 184, 0, 13, 154, 0, 6, 16, 254, 172, 42, 27, 181, 0, 5, 27, 172]
abbrev dktX11_cut_0 : List UInt8 := dkwX11_cut_0 ++ []
theorem dksX11_cut_0 : cX11_cut.data.toList.drop 0 = dktX11_cut_0 := by decide +kernel
theorem dX11_cut_0 : decode cX11_cut 0 = .ok (.iload_n 1, 1) := dk_27 (dk_at dksX11_cut_0 0 rfl rfl)
theorem dX11_cut_1 : decode cX11_cut 1 = .ok (.i2l, 1) := dk_133 (dk_at dksX11_cut_0 1 rfl rfl)
theorem dX11_cut_2 : decode cX11_cut 2 = .ok (.lconst 0, 1) := dk_9 (dk_at dksX11_cut_0 2 rfl rfl)
theorem dX11_cut_3 : decode cX11_cut 3 = .ok (.aload_n 0, 1) := dk_42 (dk_at dksX11_cut_0 3 rfl rfl)
theorem dX11_cut_4 : decode cX11_cut 4 = .ok (.getfield 5, 3) := dk_180 0 5 (dk_at dksX11_cut_0 4 rfl rfl)
theorem dX11_cut_7 : decode cX11_cut 7 = .ok (.i2l, 1) := dk_133 (dk_at dksX11_cut_0 7 rfl rfl)
theorem dX11_cut_8 : decode cX11_cut 8 = .ok (.invokestatic 13, 3) := dk_184 0 13 (dk_at dksX11_cut_0 8 rfl rfl)
theorem dX11_cut_11 : decode cX11_cut 11 = .ok (.ifCond .ne 6, 3) := dk_154 0 6 (dk_at dksX11_cut_0 11 rfl rfl)
theorem dX11_cut_14 : decode cX11_cut 14 = .ok (.bipush (-2), 2) := dk_16 254 (dk_at dksX11_cut_0 14 rfl rfl)
theorem dX11_cut_16 : decode cX11_cut 16 = .ok (.ireturn, 1) := dk_172 (dk_at dksX11_cut_0 16 rfl rfl)
theorem dX11_cut_17 : decode cX11_cut 17 = .ok (.aload_n 0, 1) := dk_42 (dk_at dksX11_cut_0 17 rfl rfl)
theorem dX11_cut_18 : decode cX11_cut 18 = .ok (.iload_n 1, 1) := dk_27 (dk_at dksX11_cut_0 18 rfl rfl)
theorem dX11_cut_19 : decode cX11_cut 19 = .ok (.putfield 5, 3) := dk_181 0 5 (dk_at dksX11_cut_0 19 rfl rfl)
theorem dX11_cut_22 : decode cX11_cut 22 = .ok (.iload_n 1, 1) := dk_27 (dk_at dksX11_cut_0 22 rfl rfl)
theorem dX11_cut_23 : decode cX11_cut 23 = .ok (.ireturn, 1) := dk_172 (dk_at dksX11_cut_0 23 rfl rfl)
abbrev cX11_in : ByteArray := prog_17_method_1_code
def yX11_in : MethodName := ⟨RX11, "in", "(JJJ)Z"⟩
def dkwX11_in_0 : List UInt8 := [30, 32, 148, 155, 0, 14, 30, 22, 4, 148, 157, 0, 7, 4, 167, 0, 4, 3, 172]
abbrev dktX11_in_0 : List UInt8 := dkwX11_in_0 ++ []
theorem dksX11_in_0 : cX11_in.data.toList.drop 0 = dktX11_in_0 := by decide +kernel
theorem dX11_in_0 : decode cX11_in 0 = .ok (.lload_n 0, 1) := dk_30 (dk_at dksX11_in_0 0 rfl rfl)
theorem dX11_in_1 : decode cX11_in 1 = .ok (.lload_n 2, 1) := dk_32 (dk_at dksX11_in_0 1 rfl rfl)
theorem dX11_in_2 : decode cX11_in 2 = .ok (.lcmp, 1) := dk_148 (dk_at dksX11_in_0 2 rfl rfl)
theorem dX11_in_3 : decode cX11_in 3 = .ok (.ifCond .lt 14, 3) := dk_155 0 14 (dk_at dksX11_in_0 3 rfl rfl)
theorem dX11_in_6 : decode cX11_in 6 = .ok (.lload_n 0, 1) := dk_30 (dk_at dksX11_in_0 6 rfl rfl)
theorem dX11_in_7 : decode cX11_in 7 = .ok (.lload 4, 2) := dk_22 4 (dk_at dksX11_in_0 7 rfl rfl)
theorem dX11_in_9 : decode cX11_in 9 = .ok (.lcmp, 1) := dk_148 (dk_at dksX11_in_0 9 rfl rfl)
theorem dX11_in_10 : decode cX11_in 10 = .ok (.ifCond .gt 7, 3) := dk_157 0 7 (dk_at dksX11_in_0 10 rfl rfl)
theorem dX11_in_13 : decode cX11_in 13 = .ok (.iconst 1, 1) := dk_4 (dk_at dksX11_in_0 13 rfl rfl)
theorem dX11_in_14 : decode cX11_in 14 = .ok (.goto 4, 3) := dk_167 0 4 (dk_at dksX11_in_0 14 rfl rfl)
theorem dX11_in_17 : decode cX11_in 17 = .ok (.iconst 0, 1) := dk_3 (dk_at dksX11_in_0 17 rfl rfl)
theorem dX11_in_18 : decode cX11_in 18 = .ok (.ireturn, 1) := dk_172 (dk_at dksX11_in_0 18 rfl rfl)
abbrev cX11_day : ByteArray := prog_17_method_4_code
def yX11_day : MethodName := ⟨RX11, "day", "(I)I"⟩
def dkwX11_day_1 : List UInt8 := [42, 3, 27, 3, 3, 3, 182, 0, 22, 27, 172]
abbrev dktX11_day_1 : List UInt8 := dkwX11_day_1 ++ []
def dkwX11_day_0 : List UInt8 := [27, 133, 42, 180, 0, 17, 133, 20, 0, 20, 184, 0, 13, 154, 0, 6, 16, 254, 172, 42, 27, 181, 0, 17]
abbrev dktX11_day_0 : List UInt8 := dkwX11_day_0 ++ dktX11_day_1
theorem dksX11_day_0 : cX11_day.data.toList.drop 0 = dktX11_day_0 := by decide +kernel
theorem dksX11_day_1 : cX11_day.data.toList.drop 24 = dktX11_day_1 := dk_seg dksX11_day_0 24 rfl rfl
theorem dX11_day_0 : decode cX11_day 0 = .ok (.iload_n 1, 1) := dk_27 (dk_at dksX11_day_0 0 rfl rfl)
theorem dX11_day_1 : decode cX11_day 1 = .ok (.i2l, 1) := dk_133 (dk_at dksX11_day_0 1 rfl rfl)
theorem dX11_day_2 : decode cX11_day 2 = .ok (.aload_n 0, 1) := dk_42 (dk_at dksX11_day_0 2 rfl rfl)
theorem dX11_day_3 : decode cX11_day 3 = .ok (.getfield 17, 3) := dk_180 0 17 (dk_at dksX11_day_0 3 rfl rfl)
theorem dX11_day_6 : decode cX11_day 6 = .ok (.i2l, 1) := dk_133 (dk_at dksX11_day_0 6 rfl rfl)
theorem dX11_day_7 : decode cX11_day 7 = .ok (.ldc2_w 20, 3) := dk_20 0 20 (dk_at dksX11_day_0 7 rfl rfl)
theorem dX11_day_10 : decode cX11_day 10 = .ok (.invokestatic 13, 3) := dk_184 0 13 (dk_at dksX11_day_0 10 rfl rfl)
theorem dX11_day_13 : decode cX11_day 13 = .ok (.ifCond .ne 6, 3) := dk_154 0 6 (dk_at dksX11_day_0 13 rfl rfl)
theorem dX11_day_16 : decode cX11_day 16 = .ok (.bipush (-2), 2) := dk_16 254 (dk_at dksX11_day_0 16 rfl rfl)
theorem dX11_day_18 : decode cX11_day 18 = .ok (.ireturn, 1) := dk_172 (dk_at dksX11_day_0 18 rfl rfl)
theorem dX11_day_19 : decode cX11_day 19 = .ok (.aload_n 0, 1) := dk_42 (dk_at dksX11_day_0 19 rfl rfl)
theorem dX11_day_20 : decode cX11_day 20 = .ok (.iload_n 1, 1) := dk_27 (dk_at dksX11_day_0 20 rfl rfl)
theorem dX11_day_21 : decode cX11_day 21 = .ok (.putfield 17, 3) := dk_181 0 17 (dk_at dksX11_day_0 21 rfl rfl)
theorem dX11_day_24 : decode cX11_day 24 = .ok (.aload_n 0, 1) := dk_42 (dk_at dksX11_day_1 0 rfl rfl)
theorem dX11_day_25 : decode cX11_day 25 = .ok (.iconst 0, 1) := dk_3 (dk_at dksX11_day_1 1 rfl rfl)
theorem dX11_day_26 : decode cX11_day 26 = .ok (.iload_n 1, 1) := dk_27 (dk_at dksX11_day_1 2 rfl rfl)
theorem dX11_day_27 : decode cX11_day 27 = .ok (.iconst 0, 1) := dk_3 (dk_at dksX11_day_1 3 rfl rfl)
theorem dX11_day_28 : decode cX11_day 28 = .ok (.iconst 0, 1) := dk_3 (dk_at dksX11_day_1 4 rfl rfl)
theorem dX11_day_29 : decode cX11_day 29 = .ok (.iconst 0, 1) := dk_3 (dk_at dksX11_day_1 5 rfl rfl)
theorem dX11_day_30 : decode cX11_day 30 = .ok (.invokevirtual 22, 3) := dk_182 0 22 (dk_at dksX11_day_1 6 rfl rfl)
theorem dX11_day_33 : decode cX11_day 33 = .ok (.iload_n 1, 1) := dk_27 (dk_at dksX11_day_1 9 rfl rfl)
theorem dX11_day_34 : decode cX11_day 34 = .ok (.ireturn, 1) := dk_172 (dk_at dksX11_day_1 10 rfl rfl)
abbrev cX11_write : ByteArray := prog_17_method_200_code
def yX11_write : MethodName := ⟨RX11, "write", "(IIIII)V"⟩
def dkwX11_write_7 : List UInt8 := [4, 96, 181, 4, 248, 177]
abbrev dktX11_write_7 : List UInt8 := dkwX11_write_7 ++ []
def dkwX11_write_6 : List UInt8 := [21, 6, 104, 42, 180, 4, 126, 21, 6, 46, 182, 4, 241, 132, 6, 1, 167, 255, 227, 42, 89, 180, 4, 248]
abbrev dktX11_write_6 : List UInt8 := dkwX11_write_6 ++ dktX11_write_7
def dkwX11_write_5 : List UInt8 := [182, 4, 241, 42, 182, 4, 245, 3, 54, 6, 21, 6, 16, 8, 162, 0, 28, 42, 42, 180, 4, 117, 7]
abbrev dktX11_write_5 : List UInt8 := dkwX11_write_5 ++ dktX11_write_6
def dkwX11_write_4 : List UInt8 := [182, 4, 241, 42, 180, 4, 120, 16, 52, 16, 128, 84, 42, 42, 180, 4, 120, 16, 60, 17, 1, 160]
abbrev dktX11_write_4 : List UInt8 := dkwX11_write_4 ++ dktX11_write_5
def dkwX11_write_3 : List UInt8 := [182, 4, 241, 42, 42, 180, 4, 120, 16, 44, 21, 4, 182, 4, 241, 42, 42, 180, 4, 120, 16, 48, 21, 5]
abbrev dktX11_write_3 : List UInt8 := dkwX11_write_3 ++ dktX11_write_4
def dkwX11_write_2 : List UInt8 := [27, 182, 4, 241, 42, 42, 180, 4, 120, 16, 36, 28, 182, 4, 241, 42, 42, 180, 4, 120, 16, 40, 29]
abbrev dktX11_write_2 : List UInt8 := dkwX11_write_2 ++ dktX11_write_3
def dkwX11_write_1 : List UInt8 := [180, 4, 117, 21, 6, 51, 167, 0, 4, 3, 84, 132, 6, 1, 167, 255, 221, 42, 42, 180, 4, 120, 16, 32]
abbrev dktX11_write_1 : List UInt8 := dkwX11_write_1 ++ dktX11_write_2
def dkwX11_write_0 : List UInt8 := [3, 54, 6, 21, 6, 16, 64, 162, 0, 34, 42, 180, 4, 120, 21, 6, 21, 6, 16, 32, 162, 0, 13, 42]
abbrev dktX11_write_0 : List UInt8 := dkwX11_write_0 ++ dktX11_write_1
theorem dksX11_write_0 : cX11_write.data.toList.drop 0 = dktX11_write_0 := by decide +kernel
theorem dksX11_write_1 : cX11_write.data.toList.drop 24 = dktX11_write_1 := dk_seg dksX11_write_0 24 rfl rfl
theorem dksX11_write_2 : cX11_write.data.toList.drop 48 = dktX11_write_2 := dk_seg dksX11_write_1 24 rfl rfl
theorem dksX11_write_3 : cX11_write.data.toList.drop 71 = dktX11_write_3 := dk_seg dksX11_write_2 23 rfl rfl
theorem dksX11_write_4 : cX11_write.data.toList.drop 95 = dktX11_write_4 := dk_seg dksX11_write_3 24 rfl rfl
theorem dksX11_write_5 : cX11_write.data.toList.drop 117 = dktX11_write_5 := dk_seg dksX11_write_4 22 rfl rfl
theorem dksX11_write_6 : cX11_write.data.toList.drop 140 = dktX11_write_6 := dk_seg dksX11_write_5 23 rfl rfl
theorem dksX11_write_7 : cX11_write.data.toList.drop 164 = dktX11_write_7 := dk_seg dksX11_write_6 24 rfl rfl
theorem dX11_write_0 : decode cX11_write 0 = .ok (.iconst 0, 1) := dk_3 (dk_at dksX11_write_0 0 rfl rfl)
theorem dX11_write_1 : decode cX11_write 1 = .ok (.istore 6, 2) := dk_54 6 (dk_at dksX11_write_0 1 rfl rfl)
theorem dX11_write_3 : decode cX11_write 3 = .ok (.iload 6, 2) := dk_21 6 (dk_at dksX11_write_0 3 rfl rfl)
theorem dX11_write_5 : decode cX11_write 5 = .ok (.bipush 64, 2) := dk_16 64 (dk_at dksX11_write_0 5 rfl rfl)
theorem dX11_write_7 : decode cX11_write 7 = .ok (.if_icmp .ge 34, 3) := dk_162 0 34 (dk_at dksX11_write_0 7 rfl rfl)
theorem dX11_write_10 : decode cX11_write 10 = .ok (.aload_n 0, 1) := dk_42 (dk_at dksX11_write_0 10 rfl rfl)
theorem dX11_write_11 : decode cX11_write 11 = .ok (.getfield 1144, 3) := dk_180 4 120 (dk_at dksX11_write_0 11 rfl rfl)
theorem dX11_write_14 : decode cX11_write 14 = .ok (.iload 6, 2) := dk_21 6 (dk_at dksX11_write_0 14 rfl rfl)
theorem dX11_write_16 : decode cX11_write 16 = .ok (.iload 6, 2) := dk_21 6 (dk_at dksX11_write_0 16 rfl rfl)
theorem dX11_write_18 : decode cX11_write 18 = .ok (.bipush 32, 2) := dk_16 32 (dk_at dksX11_write_0 18 rfl rfl)
theorem dX11_write_20 : decode cX11_write 20 = .ok (.if_icmp .ge 13, 3) := dk_162 0 13 (dk_at dksX11_write_0 20 rfl rfl)
theorem dX11_write_23 : decode cX11_write 23 = .ok (.aload_n 0, 1) := dk_42 (dk_at dksX11_write_0 23 rfl rfl)
theorem dX11_write_24 : decode cX11_write 24 = .ok (.getfield 1141, 3) := dk_180 4 117 (dk_at dksX11_write_1 0 rfl rfl)
theorem dX11_write_27 : decode cX11_write 27 = .ok (.iload 6, 2) := dk_21 6 (dk_at dksX11_write_1 3 rfl rfl)
theorem dX11_write_29 : decode cX11_write 29 = .ok (.baload, 1) := dk_51 (dk_at dksX11_write_1 5 rfl rfl)
theorem dX11_write_30 : decode cX11_write 30 = .ok (.goto 4, 3) := dk_167 0 4 (dk_at dksX11_write_1 6 rfl rfl)
theorem dX11_write_33 : decode cX11_write 33 = .ok (.iconst 0, 1) := dk_3 (dk_at dksX11_write_1 9 rfl rfl)
theorem dX11_write_34 : decode cX11_write 34 = .ok (.bastore, 1) := dk_84 (dk_at dksX11_write_1 10 rfl rfl)
theorem dX11_write_35 : decode cX11_write 35 = .ok (.iinc 6 1, 3) := dk_132 6 1 (dk_at dksX11_write_1 11 rfl rfl)
theorem dX11_write_38 : decode cX11_write 38 = .ok (.goto (-35), 3) := dk_167 255 221 (dk_at dksX11_write_1 14 rfl rfl)
theorem dX11_write_41 : decode cX11_write 41 = .ok (.aload_n 0, 1) := dk_42 (dk_at dksX11_write_1 17 rfl rfl)
theorem dX11_write_42 : decode cX11_write 42 = .ok (.aload_n 0, 1) := dk_42 (dk_at dksX11_write_1 18 rfl rfl)
theorem dX11_write_43 : decode cX11_write 43 = .ok (.getfield 1144, 3) := dk_180 4 120 (dk_at dksX11_write_1 19 rfl rfl)
theorem dX11_write_46 : decode cX11_write 46 = .ok (.bipush 32, 2) := dk_16 32 (dk_at dksX11_write_1 22 rfl rfl)
theorem dX11_write_48 : decode cX11_write 48 = .ok (.iload_n 1, 1) := dk_27 (dk_at dksX11_write_2 0 rfl rfl)
theorem dX11_write_49 : decode cX11_write 49 = .ok (.invokevirtual 1265, 3) := dk_182 4 241 (dk_at dksX11_write_2 1 rfl rfl)
theorem dX11_write_52 : decode cX11_write 52 = .ok (.aload_n 0, 1) := dk_42 (dk_at dksX11_write_2 4 rfl rfl)
theorem dX11_write_53 : decode cX11_write 53 = .ok (.aload_n 0, 1) := dk_42 (dk_at dksX11_write_2 5 rfl rfl)
theorem dX11_write_54 : decode cX11_write 54 = .ok (.getfield 1144, 3) := dk_180 4 120 (dk_at dksX11_write_2 6 rfl rfl)
theorem dX11_write_57 : decode cX11_write 57 = .ok (.bipush 36, 2) := dk_16 36 (dk_at dksX11_write_2 9 rfl rfl)
theorem dX11_write_59 : decode cX11_write 59 = .ok (.iload_n 2, 1) := dk_28 (dk_at dksX11_write_2 11 rfl rfl)
theorem dX11_write_60 : decode cX11_write 60 = .ok (.invokevirtual 1265, 3) := dk_182 4 241 (dk_at dksX11_write_2 12 rfl rfl)
theorem dX11_write_63 : decode cX11_write 63 = .ok (.aload_n 0, 1) := dk_42 (dk_at dksX11_write_2 15 rfl rfl)
theorem dX11_write_64 : decode cX11_write 64 = .ok (.aload_n 0, 1) := dk_42 (dk_at dksX11_write_2 16 rfl rfl)
theorem dX11_write_65 : decode cX11_write 65 = .ok (.getfield 1144, 3) := dk_180 4 120 (dk_at dksX11_write_2 17 rfl rfl)
theorem dX11_write_68 : decode cX11_write 68 = .ok (.bipush 40, 2) := dk_16 40 (dk_at dksX11_write_2 20 rfl rfl)
theorem dX11_write_70 : decode cX11_write 70 = .ok (.iload_n 3, 1) := dk_29 (dk_at dksX11_write_2 22 rfl rfl)
theorem dX11_write_71 : decode cX11_write 71 = .ok (.invokevirtual 1265, 3) := dk_182 4 241 (dk_at dksX11_write_3 0 rfl rfl)
theorem dX11_write_74 : decode cX11_write 74 = .ok (.aload_n 0, 1) := dk_42 (dk_at dksX11_write_3 3 rfl rfl)
theorem dX11_write_75 : decode cX11_write 75 = .ok (.aload_n 0, 1) := dk_42 (dk_at dksX11_write_3 4 rfl rfl)
theorem dX11_write_76 : decode cX11_write 76 = .ok (.getfield 1144, 3) := dk_180 4 120 (dk_at dksX11_write_3 5 rfl rfl)
theorem dX11_write_79 : decode cX11_write 79 = .ok (.bipush 44, 2) := dk_16 44 (dk_at dksX11_write_3 8 rfl rfl)
theorem dX11_write_81 : decode cX11_write 81 = .ok (.iload 4, 2) := dk_21 4 (dk_at dksX11_write_3 10 rfl rfl)
theorem dX11_write_83 : decode cX11_write 83 = .ok (.invokevirtual 1265, 3) := dk_182 4 241 (dk_at dksX11_write_3 12 rfl rfl)
theorem dX11_write_86 : decode cX11_write 86 = .ok (.aload_n 0, 1) := dk_42 (dk_at dksX11_write_3 15 rfl rfl)
theorem dX11_write_87 : decode cX11_write 87 = .ok (.aload_n 0, 1) := dk_42 (dk_at dksX11_write_3 16 rfl rfl)
theorem dX11_write_88 : decode cX11_write 88 = .ok (.getfield 1144, 3) := dk_180 4 120 (dk_at dksX11_write_3 17 rfl rfl)
theorem dX11_write_91 : decode cX11_write 91 = .ok (.bipush 48, 2) := dk_16 48 (dk_at dksX11_write_3 20 rfl rfl)
theorem dX11_write_93 : decode cX11_write 93 = .ok (.iload 5, 2) := dk_21 5 (dk_at dksX11_write_3 22 rfl rfl)
theorem dX11_write_95 : decode cX11_write 95 = .ok (.invokevirtual 1265, 3) := dk_182 4 241 (dk_at dksX11_write_4 0 rfl rfl)
theorem dX11_write_98 : decode cX11_write 98 = .ok (.aload_n 0, 1) := dk_42 (dk_at dksX11_write_4 3 rfl rfl)
theorem dX11_write_99 : decode cX11_write 99 = .ok (.getfield 1144, 3) := dk_180 4 120 (dk_at dksX11_write_4 4 rfl rfl)
theorem dX11_write_102 : decode cX11_write 102 = .ok (.bipush 52, 2) := dk_16 52 (dk_at dksX11_write_4 7 rfl rfl)
theorem dX11_write_104 : decode cX11_write 104 = .ok (.bipush (-128), 2) := dk_16 128 (dk_at dksX11_write_4 9 rfl rfl)
theorem dX11_write_106 : decode cX11_write 106 = .ok (.bastore, 1) := dk_84 (dk_at dksX11_write_4 11 rfl rfl)
theorem dX11_write_107 : decode cX11_write 107 = .ok (.aload_n 0, 1) := dk_42 (dk_at dksX11_write_4 12 rfl rfl)
theorem dX11_write_108 : decode cX11_write 108 = .ok (.aload_n 0, 1) := dk_42 (dk_at dksX11_write_4 13 rfl rfl)
theorem dX11_write_109 : decode cX11_write 109 = .ok (.getfield 1144, 3) := dk_180 4 120 (dk_at dksX11_write_4 14 rfl rfl)
theorem dX11_write_112 : decode cX11_write 112 = .ok (.bipush 60, 2) := dk_16 60 (dk_at dksX11_write_4 17 rfl rfl)
theorem dX11_write_114 : decode cX11_write 114 = .ok (.sipush 416, 3) := dk_17 1 160 (dk_at dksX11_write_4 19 rfl rfl)
theorem dX11_write_117 : decode cX11_write 117 = .ok (.invokevirtual 1265, 3) := dk_182 4 241 (dk_at dksX11_write_5 0 rfl rfl)
theorem dX11_write_120 : decode cX11_write 120 = .ok (.aload_n 0, 1) := dk_42 (dk_at dksX11_write_5 3 rfl rfl)
theorem dX11_write_121 : decode cX11_write 121 = .ok (.invokevirtual 1269, 3) := dk_182 4 245 (dk_at dksX11_write_5 4 rfl rfl)
theorem dX11_write_124 : decode cX11_write 124 = .ok (.iconst 0, 1) := dk_3 (dk_at dksX11_write_5 7 rfl rfl)
theorem dX11_write_125 : decode cX11_write 125 = .ok (.istore 6, 2) := dk_54 6 (dk_at dksX11_write_5 8 rfl rfl)
theorem dX11_write_127 : decode cX11_write 127 = .ok (.iload 6, 2) := dk_21 6 (dk_at dksX11_write_5 10 rfl rfl)
theorem dX11_write_129 : decode cX11_write 129 = .ok (.bipush 8, 2) := dk_16 8 (dk_at dksX11_write_5 12 rfl rfl)
theorem dX11_write_131 : decode cX11_write 131 = .ok (.if_icmp .ge 28, 3) := dk_162 0 28 (dk_at dksX11_write_5 14 rfl rfl)
theorem dX11_write_134 : decode cX11_write 134 = .ok (.aload_n 0, 1) := dk_42 (dk_at dksX11_write_5 17 rfl rfl)
theorem dX11_write_135 : decode cX11_write 135 = .ok (.aload_n 0, 1) := dk_42 (dk_at dksX11_write_5 18 rfl rfl)
theorem dX11_write_136 : decode cX11_write 136 = .ok (.getfield 1141, 3) := dk_180 4 117 (dk_at dksX11_write_5 19 rfl rfl)
theorem dX11_write_139 : decode cX11_write 139 = .ok (.iconst 4, 1) := dk_7 (dk_at dksX11_write_5 22 rfl rfl)
theorem dX11_write_140 : decode cX11_write 140 = .ok (.iload 6, 2) := dk_21 6 (dk_at dksX11_write_6 0 rfl rfl)
theorem dX11_write_142 : decode cX11_write 142 = .ok (.imul, 1) := dk_104 (dk_at dksX11_write_6 2 rfl rfl)
theorem dX11_write_143 : decode cX11_write 143 = .ok (.aload_n 0, 1) := dk_42 (dk_at dksX11_write_6 3 rfl rfl)
theorem dX11_write_144 : decode cX11_write 144 = .ok (.getfield 1150, 3) := dk_180 4 126 (dk_at dksX11_write_6 4 rfl rfl)
theorem dX11_write_147 : decode cX11_write 147 = .ok (.iload 6, 2) := dk_21 6 (dk_at dksX11_write_6 7 rfl rfl)
theorem dX11_write_149 : decode cX11_write 149 = .ok (.iaload, 1) := dk_46 (dk_at dksX11_write_6 9 rfl rfl)
theorem dX11_write_150 : decode cX11_write 150 = .ok (.invokevirtual 1265, 3) := dk_182 4 241 (dk_at dksX11_write_6 10 rfl rfl)
theorem dX11_write_153 : decode cX11_write 153 = .ok (.iinc 6 1, 3) := dk_132 6 1 (dk_at dksX11_write_6 13 rfl rfl)
theorem dX11_write_156 : decode cX11_write 156 = .ok (.goto (-29), 3) := dk_167 255 227 (dk_at dksX11_write_6 16 rfl rfl)
theorem dX11_write_159 : decode cX11_write 159 = .ok (.aload_n 0, 1) := dk_42 (dk_at dksX11_write_6 19 rfl rfl)
theorem dX11_write_160 : decode cX11_write 160 = .ok (.dup, 1) := dk_89 (dk_at dksX11_write_6 20 rfl rfl)
theorem dX11_write_161 : decode cX11_write 161 = .ok (.getfield 1272, 3) := dk_180 4 248 (dk_at dksX11_write_6 21 rfl rfl)
theorem dX11_write_164 : decode cX11_write 164 = .ok (.iconst 1, 1) := dk_4 (dk_at dksX11_write_7 0 rfl rfl)
theorem dX11_write_165 : decode cX11_write 165 = .ok (.iadd, 1) := dk_96 (dk_at dksX11_write_7 1 rfl rfl)
theorem dX11_write_166 : decode cX11_write 166 = .ok (.putfield 1272, 3) := dk_181 4 248 (dk_at dksX11_write_7 2 rfl rfl)
theorem dX11_write_169 : decode cX11_write 169 = .ok (.return_, 1) := dk_177 (dk_at dksX11_write_7 5 rfl rfl)
abbrev cX11_lay4 : ByteArray := prog_17_method_199_code
def yX11_lay4 : MethodName := ⟨RX11, "lay4", "([BII)V"⟩
def dkwX11_lay4_1 : List UInt8 := [145, 84, 132, 4, 1, 167, 255, 230, 177]
abbrev dktX11_lay4_1 : List UInt8 := dkwX11_lay4_1 ++ []
def dkwX11_lay4_0 : List UInt8 := [3, 54, 4, 21, 4, 7, 162, 0, 26, 43, 28, 21, 4, 96, 29, 16, 24, 16, 8, 21, 4, 104, 100, 122]
abbrev dktX11_lay4_0 : List UInt8 := dkwX11_lay4_0 ++ dktX11_lay4_1
theorem dksX11_lay4_0 : cX11_lay4.data.toList.drop 0 = dktX11_lay4_0 := by decide +kernel
theorem dksX11_lay4_1 : cX11_lay4.data.toList.drop 24 = dktX11_lay4_1 := dk_seg dksX11_lay4_0 24 rfl rfl
theorem dX11_lay4_0 : decode cX11_lay4 0 = .ok (.iconst 0, 1) := dk_3 (dk_at dksX11_lay4_0 0 rfl rfl)
theorem dX11_lay4_1 : decode cX11_lay4 1 = .ok (.istore 4, 2) := dk_54 4 (dk_at dksX11_lay4_0 1 rfl rfl)
theorem dX11_lay4_3 : decode cX11_lay4 3 = .ok (.iload 4, 2) := dk_21 4 (dk_at dksX11_lay4_0 3 rfl rfl)
theorem dX11_lay4_5 : decode cX11_lay4 5 = .ok (.iconst 4, 1) := dk_7 (dk_at dksX11_lay4_0 5 rfl rfl)
theorem dX11_lay4_6 : decode cX11_lay4 6 = .ok (.if_icmp .ge 26, 3) := dk_162 0 26 (dk_at dksX11_lay4_0 6 rfl rfl)
theorem dX11_lay4_9 : decode cX11_lay4 9 = .ok (.aload_n 1, 1) := dk_43 (dk_at dksX11_lay4_0 9 rfl rfl)
theorem dX11_lay4_10 : decode cX11_lay4 10 = .ok (.iload_n 2, 1) := dk_28 (dk_at dksX11_lay4_0 10 rfl rfl)
theorem dX11_lay4_11 : decode cX11_lay4 11 = .ok (.iload 4, 2) := dk_21 4 (dk_at dksX11_lay4_0 11 rfl rfl)
theorem dX11_lay4_13 : decode cX11_lay4 13 = .ok (.iadd, 1) := dk_96 (dk_at dksX11_lay4_0 13 rfl rfl)
theorem dX11_lay4_14 : decode cX11_lay4 14 = .ok (.iload_n 3, 1) := dk_29 (dk_at dksX11_lay4_0 14 rfl rfl)
theorem dX11_lay4_15 : decode cX11_lay4 15 = .ok (.bipush 24, 2) := dk_16 24 (dk_at dksX11_lay4_0 15 rfl rfl)
theorem dX11_lay4_17 : decode cX11_lay4 17 = .ok (.bipush 8, 2) := dk_16 8 (dk_at dksX11_lay4_0 17 rfl rfl)
theorem dX11_lay4_19 : decode cX11_lay4 19 = .ok (.iload 4, 2) := dk_21 4 (dk_at dksX11_lay4_0 19 rfl rfl)
theorem dX11_lay4_21 : decode cX11_lay4 21 = .ok (.imul, 1) := dk_104 (dk_at dksX11_lay4_0 21 rfl rfl)
theorem dX11_lay4_22 : decode cX11_lay4 22 = .ok (.isub, 1) := dk_100 (dk_at dksX11_lay4_0 22 rfl rfl)
theorem dX11_lay4_23 : decode cX11_lay4 23 = .ok (.ishr, 1) := dk_122 (dk_at dksX11_lay4_0 23 rfl rfl)
theorem dX11_lay4_24 : decode cX11_lay4 24 = .ok (.i2b, 1) := dk_145 (dk_at dksX11_lay4_1 0 rfl rfl)
theorem dX11_lay4_25 : decode cX11_lay4 25 = .ok (.bastore, 1) := dk_84 (dk_at dksX11_lay4_1 1 rfl rfl)
theorem dX11_lay4_26 : decode cX11_lay4 26 = .ok (.iinc 4 1, 3) := dk_132 4 1 (dk_at dksX11_lay4_1 2 rfl rfl)
theorem dX11_lay4_29 : decode cX11_lay4 29 = .ok (.goto (-26), 3) := dk_167 255 230 (dk_at dksX11_lay4_1 5 rfl rfl)
theorem dX11_lay4_32 : decode cX11_lay4 32 = .ok (.return_, 1) := dk_177 (dk_at dksX11_lay4_1 8 rfl rfl)
abbrev cX11_digest : ByteArray := prog_17_method_202_code
def yX11_digest : MethodName := ⟨RX11, "digest", "()V"⟩
def dkwX11_digest_18 : List UInt8 := [27, 46, 42, 180, 4, 129, 27, 46, 96, 79, 132, 1, 1, 167, 255, 228, 177]
abbrev dktX11_digest_18 : List UInt8 := dkwX11_digest_18 ++ []
def dkwX11_digest_17 : List UInt8 := [79, 132, 1, 1, 167, 255, 62, 3, 60, 27, 16, 8, 162, 0, 28, 42, 180, 4, 126, 27, 42, 180, 4, 207]
abbrev dktX11_digest_17 : List UInt8 := dkwX11_digest_17 ++ dktX11_digest_18
def dkwX11_digest_16 : List UInt8 := [167, 255, 232, 42, 180, 4, 129, 7, 92, 46, 21, 4, 96, 79, 42, 180, 4, 129, 3, 21, 4, 21, 5, 96]
abbrev dktX11_digest_16 : List UInt8 := dkwX11_digest_16 ++ dktX11_digest_17
def dkwX11_digest_15 : List UInt8 := [158, 0, 25, 42, 180, 4, 129, 21, 6, 42, 180, 4, 129, 21, 6, 4, 100, 46, 79, 132, 6, 255]
abbrev dktX11_digest_15 : List UInt8 := dkwX11_digest_15 ++ dktX11_digest_16
def dkwX11_digest_14 : List UInt8 := [180, 4, 129, 4, 46, 42, 180, 4, 129, 5, 46, 126, 130, 96, 54, 5, 16, 7, 54, 6, 21, 6]
abbrev dktX11_digest_14 : List UInt8 := dkwX11_digest_14 ++ dktX11_digest_15
def dkwX11_digest_13 : List UInt8 := [184, 4, 251, 130, 28, 42, 180, 4, 129, 4, 46, 126, 28, 42, 180, 4, 129, 5, 46, 126, 130, 42]
abbrev dktX11_digest_13 : List UInt8 := dkwX11_digest_13 ++ dktX11_digest_14
def dkwX11_digest_12 : List UInt8 := [180, 4, 123, 27, 46, 96, 54, 4, 28, 5, 184, 4, 251, 28, 16, 13, 184, 4, 251, 130, 28, 16, 22]
abbrev dktX11_digest_12 : List UInt8 := dkwX11_digest_12 ++ dktX11_digest_13
def dkwX11_digest_11 : List UInt8 := [46, 126, 29, 2, 130, 42, 180, 4, 129, 16, 6, 46, 126, 130, 96, 42, 180, 4, 196, 27, 46, 96, 42]
abbrev dktX11_digest_11 : List UInt8 := dkwX11_digest_11 ++ dktX11_digest_12
def dkwX11_digest_10 : List UInt8 := [184, 4, 251, 29, 16, 11, 184, 4, 251, 130, 29, 16, 25, 184, 4, 251, 130, 96, 29, 42, 180, 4, 129, 8]
abbrev dktX11_digest_10 : List UInt8 := dkwX11_digest_10 ++ dktX11_digest_11
def dkwX11_digest_9 : List UInt8 := [180, 4, 129, 3, 46, 61, 42, 180, 4, 129, 7, 46, 62, 42, 180, 4, 129, 16, 7, 46, 29, 16, 6]
abbrev dktX11_digest_9 : List UInt8 := dkwX11_digest_9 ++ dktX11_digest_10
def dkwX11_digest_8 : List UInt8 := [27, 42, 180, 4, 207, 27, 46, 79, 132, 1, 1, 167, 255, 235, 3, 60, 27, 16, 64, 162, 0, 194, 42]
abbrev dktX11_digest_8 : List UInt8 := dkwX11_digest_8 ++ dktX11_digest_9
def dkwX11_digest_7 : List UInt8 := [16, 10, 124, 130, 96, 79, 132, 1, 1, 167, 255, 85, 3, 60, 27, 16, 8, 162, 0, 21, 42, 180, 4, 129]
abbrev dktX11_digest_7 : List UInt8 := dkwX11_digest_7 ++ dktX11_digest_8
def dkwX11_digest_6 : List UInt8 := [180, 4, 123, 27, 16, 7, 100, 46, 96, 29, 16, 17, 184, 4, 251, 29, 16, 19, 184, 4, 251, 130, 29]
abbrev dktX11_digest_6 : List UInt8 := dkwX11_digest_6 ++ dktX11_digest_7
def dkwX11_digest_5 : List UInt8 := [16, 16, 100, 46, 28, 16, 7, 184, 4, 251, 28, 16, 18, 184, 4, 251, 130, 28, 6, 124, 130, 96, 42]
abbrev dktX11_digest_5 : List UInt8 := dkwX11_digest_5 ++ dktX11_digest_6
def dkwX11_digest_4 : List UInt8 := [16, 15, 100, 46, 61, 42, 180, 4, 123, 27, 5, 100, 46, 62, 42, 180, 4, 123, 27, 42, 180, 4, 123, 27]
abbrev dktX11_digest_4 : List UInt8 := dkwX11_digest_4 ++ dktX11_digest_5
def dkwX11_digest_3 : List UInt8 := [180, 4, 120, 7, 27, 104, 6, 96, 51, 17, 0, 255, 126, 128, 79, 167, 0, 84, 42, 180, 4, 123, 27]
abbrev dktX11_digest_3 : List UInt8 := dkwX11_digest_3 ++ dktX11_digest_4
def dkwX11_digest_2 : List UInt8 := [16, 16, 120, 128, 42, 180, 4, 120, 7, 27, 104, 5, 96, 51, 17, 0, 255, 126, 16, 8, 120, 128, 42]
abbrev dktX11_digest_2 : List UInt8 := dkwX11_digest_2 ++ dktX11_digest_3
def dkwX11_digest_1 : List UInt8 := [27, 104, 51, 17, 0, 255, 126, 16, 24, 120, 42, 180, 4, 120, 7, 27, 104, 4, 96, 51, 17, 0, 255, 126]
abbrev dktX11_digest_1 : List UInt8 := dkwX11_digest_1 ++ dktX11_digest_2
def dkwX11_digest_0 : List UInt8 := [3, 60, 27, 16, 64, 162, 0, 171, 27, 16, 16, 162, 0, 78, 42, 180, 4, 123, 27, 42, 180, 4, 120, 7]
abbrev dktX11_digest_0 : List UInt8 := dkwX11_digest_0 ++ dktX11_digest_1
theorem dksX11_digest_0 : cX11_digest.data.toList.drop 0 = dktX11_digest_0 := by decide +kernel
theorem dksX11_digest_1 : cX11_digest.data.toList.drop 24 = dktX11_digest_1 := dk_seg dksX11_digest_0 24 rfl rfl
theorem dksX11_digest_2 : cX11_digest.data.toList.drop 48 = dktX11_digest_2 := dk_seg dksX11_digest_1 24 rfl rfl
theorem dksX11_digest_3 : cX11_digest.data.toList.drop 71 = dktX11_digest_3 := dk_seg dksX11_digest_2 23 rfl rfl
theorem dksX11_digest_4 : cX11_digest.data.toList.drop 94 = dktX11_digest_4 := dk_seg dksX11_digest_3 23 rfl rfl
theorem dksX11_digest_5 : cX11_digest.data.toList.drop 118 = dktX11_digest_5 := dk_seg dksX11_digest_4 24 rfl rfl
theorem dksX11_digest_6 : cX11_digest.data.toList.drop 141 = dktX11_digest_6 := dk_seg dksX11_digest_5 23 rfl rfl
theorem dksX11_digest_7 : cX11_digest.data.toList.drop 164 = dktX11_digest_7 := dk_seg dksX11_digest_6 23 rfl rfl
theorem dksX11_digest_8 : cX11_digest.data.toList.drop 188 = dktX11_digest_8 := dk_seg dksX11_digest_7 24 rfl rfl
theorem dksX11_digest_9 : cX11_digest.data.toList.drop 211 = dktX11_digest_9 := dk_seg dksX11_digest_8 23 rfl rfl
theorem dksX11_digest_10 : cX11_digest.data.toList.drop 234 = dktX11_digest_10 := dk_seg dksX11_digest_9 23 rfl rfl
theorem dksX11_digest_11 : cX11_digest.data.toList.drop 258 = dktX11_digest_11 := dk_seg dksX11_digest_10 24 rfl rfl
theorem dksX11_digest_12 : cX11_digest.data.toList.drop 281 = dktX11_digest_12 := dk_seg dksX11_digest_11 23 rfl rfl
theorem dksX11_digest_13 : cX11_digest.data.toList.drop 304 = dktX11_digest_13 := dk_seg dksX11_digest_12 23 rfl rfl
theorem dksX11_digest_14 : cX11_digest.data.toList.drop 326 = dktX11_digest_14 := dk_seg dksX11_digest_13 22 rfl rfl
theorem dksX11_digest_15 : cX11_digest.data.toList.drop 348 = dktX11_digest_15 := dk_seg dksX11_digest_14 22 rfl rfl
theorem dksX11_digest_16 : cX11_digest.data.toList.drop 370 = dktX11_digest_16 := dk_seg dksX11_digest_15 22 rfl rfl
theorem dksX11_digest_17 : cX11_digest.data.toList.drop 394 = dktX11_digest_17 := dk_seg dksX11_digest_16 24 rfl rfl
theorem dksX11_digest_18 : cX11_digest.data.toList.drop 418 = dktX11_digest_18 := dk_seg dksX11_digest_17 24 rfl rfl
theorem dX11_digest_0 : decode cX11_digest 0 = .ok (.iconst 0, 1) := dk_3 (dk_at dksX11_digest_0 0 rfl rfl)
theorem dX11_digest_1 : decode cX11_digest 1 = .ok (.istore_n 1, 1) := dk_60 (dk_at dksX11_digest_0 1 rfl rfl)
theorem dX11_digest_2 : decode cX11_digest 2 = .ok (.iload_n 1, 1) := dk_27 (dk_at dksX11_digest_0 2 rfl rfl)
theorem dX11_digest_3 : decode cX11_digest 3 = .ok (.bipush 64, 2) := dk_16 64 (dk_at dksX11_digest_0 3 rfl rfl)
theorem dX11_digest_5 : decode cX11_digest 5 = .ok (.if_icmp .ge 171, 3) := dk_162 0 171 (dk_at dksX11_digest_0 5 rfl rfl)
theorem dX11_digest_8 : decode cX11_digest 8 = .ok (.iload_n 1, 1) := dk_27 (dk_at dksX11_digest_0 8 rfl rfl)
theorem dX11_digest_9 : decode cX11_digest 9 = .ok (.bipush 16, 2) := dk_16 16 (dk_at dksX11_digest_0 9 rfl rfl)
theorem dX11_digest_11 : decode cX11_digest 11 = .ok (.if_icmp .ge 78, 3) := dk_162 0 78 (dk_at dksX11_digest_0 11 rfl rfl)
theorem dX11_digest_14 : decode cX11_digest 14 = .ok (.aload_n 0, 1) := dk_42 (dk_at dksX11_digest_0 14 rfl rfl)
theorem dX11_digest_15 : decode cX11_digest 15 = .ok (.getfield 1147, 3) := dk_180 4 123 (dk_at dksX11_digest_0 15 rfl rfl)
theorem dX11_digest_18 : decode cX11_digest 18 = .ok (.iload_n 1, 1) := dk_27 (dk_at dksX11_digest_0 18 rfl rfl)
theorem dX11_digest_19 : decode cX11_digest 19 = .ok (.aload_n 0, 1) := dk_42 (dk_at dksX11_digest_0 19 rfl rfl)
theorem dX11_digest_20 : decode cX11_digest 20 = .ok (.getfield 1144, 3) := dk_180 4 120 (dk_at dksX11_digest_0 20 rfl rfl)
theorem dX11_digest_23 : decode cX11_digest 23 = .ok (.iconst 4, 1) := dk_7 (dk_at dksX11_digest_0 23 rfl rfl)
theorem dX11_digest_24 : decode cX11_digest 24 = .ok (.iload_n 1, 1) := dk_27 (dk_at dksX11_digest_1 0 rfl rfl)
theorem dX11_digest_25 : decode cX11_digest 25 = .ok (.imul, 1) := dk_104 (dk_at dksX11_digest_1 1 rfl rfl)
theorem dX11_digest_26 : decode cX11_digest 26 = .ok (.baload, 1) := dk_51 (dk_at dksX11_digest_1 2 rfl rfl)
theorem dX11_digest_27 : decode cX11_digest 27 = .ok (.sipush 255, 3) := dk_17 0 255 (dk_at dksX11_digest_1 3 rfl rfl)
theorem dX11_digest_30 : decode cX11_digest 30 = .ok (.iand, 1) := dk_126 (dk_at dksX11_digest_1 6 rfl rfl)
theorem dX11_digest_31 : decode cX11_digest 31 = .ok (.bipush 24, 2) := dk_16 24 (dk_at dksX11_digest_1 7 rfl rfl)
theorem dX11_digest_33 : decode cX11_digest 33 = .ok (.ishl, 1) := dk_120 (dk_at dksX11_digest_1 9 rfl rfl)
theorem dX11_digest_34 : decode cX11_digest 34 = .ok (.aload_n 0, 1) := dk_42 (dk_at dksX11_digest_1 10 rfl rfl)
theorem dX11_digest_35 : decode cX11_digest 35 = .ok (.getfield 1144, 3) := dk_180 4 120 (dk_at dksX11_digest_1 11 rfl rfl)
theorem dX11_digest_38 : decode cX11_digest 38 = .ok (.iconst 4, 1) := dk_7 (dk_at dksX11_digest_1 14 rfl rfl)
theorem dX11_digest_39 : decode cX11_digest 39 = .ok (.iload_n 1, 1) := dk_27 (dk_at dksX11_digest_1 15 rfl rfl)
theorem dX11_digest_40 : decode cX11_digest 40 = .ok (.imul, 1) := dk_104 (dk_at dksX11_digest_1 16 rfl rfl)
theorem dX11_digest_41 : decode cX11_digest 41 = .ok (.iconst 1, 1) := dk_4 (dk_at dksX11_digest_1 17 rfl rfl)
theorem dX11_digest_42 : decode cX11_digest 42 = .ok (.iadd, 1) := dk_96 (dk_at dksX11_digest_1 18 rfl rfl)
theorem dX11_digest_43 : decode cX11_digest 43 = .ok (.baload, 1) := dk_51 (dk_at dksX11_digest_1 19 rfl rfl)
theorem dX11_digest_44 : decode cX11_digest 44 = .ok (.sipush 255, 3) := dk_17 0 255 (dk_at dksX11_digest_1 20 rfl rfl)
theorem dX11_digest_47 : decode cX11_digest 47 = .ok (.iand, 1) := dk_126 (dk_at dksX11_digest_1 23 rfl rfl)
theorem dX11_digest_48 : decode cX11_digest 48 = .ok (.bipush 16, 2) := dk_16 16 (dk_at dksX11_digest_2 0 rfl rfl)
theorem dX11_digest_50 : decode cX11_digest 50 = .ok (.ishl, 1) := dk_120 (dk_at dksX11_digest_2 2 rfl rfl)
theorem dX11_digest_51 : decode cX11_digest 51 = .ok (.ior, 1) := dk_128 (dk_at dksX11_digest_2 3 rfl rfl)
theorem dX11_digest_52 : decode cX11_digest 52 = .ok (.aload_n 0, 1) := dk_42 (dk_at dksX11_digest_2 4 rfl rfl)
theorem dX11_digest_53 : decode cX11_digest 53 = .ok (.getfield 1144, 3) := dk_180 4 120 (dk_at dksX11_digest_2 5 rfl rfl)
theorem dX11_digest_56 : decode cX11_digest 56 = .ok (.iconst 4, 1) := dk_7 (dk_at dksX11_digest_2 8 rfl rfl)
theorem dX11_digest_57 : decode cX11_digest 57 = .ok (.iload_n 1, 1) := dk_27 (dk_at dksX11_digest_2 9 rfl rfl)
theorem dX11_digest_58 : decode cX11_digest 58 = .ok (.imul, 1) := dk_104 (dk_at dksX11_digest_2 10 rfl rfl)
theorem dX11_digest_59 : decode cX11_digest 59 = .ok (.iconst 2, 1) := dk_5 (dk_at dksX11_digest_2 11 rfl rfl)
theorem dX11_digest_60 : decode cX11_digest 60 = .ok (.iadd, 1) := dk_96 (dk_at dksX11_digest_2 12 rfl rfl)
theorem dX11_digest_61 : decode cX11_digest 61 = .ok (.baload, 1) := dk_51 (dk_at dksX11_digest_2 13 rfl rfl)
theorem dX11_digest_62 : decode cX11_digest 62 = .ok (.sipush 255, 3) := dk_17 0 255 (dk_at dksX11_digest_2 14 rfl rfl)
theorem dX11_digest_65 : decode cX11_digest 65 = .ok (.iand, 1) := dk_126 (dk_at dksX11_digest_2 17 rfl rfl)
theorem dX11_digest_66 : decode cX11_digest 66 = .ok (.bipush 8, 2) := dk_16 8 (dk_at dksX11_digest_2 18 rfl rfl)
theorem dX11_digest_68 : decode cX11_digest 68 = .ok (.ishl, 1) := dk_120 (dk_at dksX11_digest_2 20 rfl rfl)
theorem dX11_digest_69 : decode cX11_digest 69 = .ok (.ior, 1) := dk_128 (dk_at dksX11_digest_2 21 rfl rfl)
theorem dX11_digest_70 : decode cX11_digest 70 = .ok (.aload_n 0, 1) := dk_42 (dk_at dksX11_digest_2 22 rfl rfl)
theorem dX11_digest_71 : decode cX11_digest 71 = .ok (.getfield 1144, 3) := dk_180 4 120 (dk_at dksX11_digest_3 0 rfl rfl)
theorem dX11_digest_74 : decode cX11_digest 74 = .ok (.iconst 4, 1) := dk_7 (dk_at dksX11_digest_3 3 rfl rfl)
theorem dX11_digest_75 : decode cX11_digest 75 = .ok (.iload_n 1, 1) := dk_27 (dk_at dksX11_digest_3 4 rfl rfl)
theorem dX11_digest_76 : decode cX11_digest 76 = .ok (.imul, 1) := dk_104 (dk_at dksX11_digest_3 5 rfl rfl)
theorem dX11_digest_77 : decode cX11_digest 77 = .ok (.iconst 3, 1) := dk_6 (dk_at dksX11_digest_3 6 rfl rfl)
theorem dX11_digest_78 : decode cX11_digest 78 = .ok (.iadd, 1) := dk_96 (dk_at dksX11_digest_3 7 rfl rfl)
theorem dX11_digest_79 : decode cX11_digest 79 = .ok (.baload, 1) := dk_51 (dk_at dksX11_digest_3 8 rfl rfl)
theorem dX11_digest_80 : decode cX11_digest 80 = .ok (.sipush 255, 3) := dk_17 0 255 (dk_at dksX11_digest_3 9 rfl rfl)
theorem dX11_digest_83 : decode cX11_digest 83 = .ok (.iand, 1) := dk_126 (dk_at dksX11_digest_3 12 rfl rfl)
theorem dX11_digest_84 : decode cX11_digest 84 = .ok (.ior, 1) := dk_128 (dk_at dksX11_digest_3 13 rfl rfl)
theorem dX11_digest_85 : decode cX11_digest 85 = .ok (.iastore, 1) := dk_79 (dk_at dksX11_digest_3 14 rfl rfl)
theorem dX11_digest_86 : decode cX11_digest 86 = .ok (.goto 84, 3) := dk_167 0 84 (dk_at dksX11_digest_3 15 rfl rfl)
theorem dX11_digest_89 : decode cX11_digest 89 = .ok (.aload_n 0, 1) := dk_42 (dk_at dksX11_digest_3 18 rfl rfl)
theorem dX11_digest_90 : decode cX11_digest 90 = .ok (.getfield 1147, 3) := dk_180 4 123 (dk_at dksX11_digest_3 19 rfl rfl)
theorem dX11_digest_93 : decode cX11_digest 93 = .ok (.iload_n 1, 1) := dk_27 (dk_at dksX11_digest_3 22 rfl rfl)
theorem dX11_digest_94 : decode cX11_digest 94 = .ok (.bipush 15, 2) := dk_16 15 (dk_at dksX11_digest_4 0 rfl rfl)
theorem dX11_digest_96 : decode cX11_digest 96 = .ok (.isub, 1) := dk_100 (dk_at dksX11_digest_4 2 rfl rfl)
theorem dX11_digest_97 : decode cX11_digest 97 = .ok (.iaload, 1) := dk_46 (dk_at dksX11_digest_4 3 rfl rfl)
theorem dX11_digest_98 : decode cX11_digest 98 = .ok (.istore_n 2, 1) := dk_61 (dk_at dksX11_digest_4 4 rfl rfl)
theorem dX11_digest_99 : decode cX11_digest 99 = .ok (.aload_n 0, 1) := dk_42 (dk_at dksX11_digest_4 5 rfl rfl)
theorem dX11_digest_100 : decode cX11_digest 100 = .ok (.getfield 1147, 3) := dk_180 4 123 (dk_at dksX11_digest_4 6 rfl rfl)
theorem dX11_digest_103 : decode cX11_digest 103 = .ok (.iload_n 1, 1) := dk_27 (dk_at dksX11_digest_4 9 rfl rfl)
theorem dX11_digest_104 : decode cX11_digest 104 = .ok (.iconst 2, 1) := dk_5 (dk_at dksX11_digest_4 10 rfl rfl)
theorem dX11_digest_105 : decode cX11_digest 105 = .ok (.isub, 1) := dk_100 (dk_at dksX11_digest_4 11 rfl rfl)
theorem dX11_digest_106 : decode cX11_digest 106 = .ok (.iaload, 1) := dk_46 (dk_at dksX11_digest_4 12 rfl rfl)
theorem dX11_digest_107 : decode cX11_digest 107 = .ok (.istore_n 3, 1) := dk_62 (dk_at dksX11_digest_4 13 rfl rfl)
theorem dX11_digest_108 : decode cX11_digest 108 = .ok (.aload_n 0, 1) := dk_42 (dk_at dksX11_digest_4 14 rfl rfl)
theorem dX11_digest_109 : decode cX11_digest 109 = .ok (.getfield 1147, 3) := dk_180 4 123 (dk_at dksX11_digest_4 15 rfl rfl)
theorem dX11_digest_112 : decode cX11_digest 112 = .ok (.iload_n 1, 1) := dk_27 (dk_at dksX11_digest_4 18 rfl rfl)
theorem dX11_digest_113 : decode cX11_digest 113 = .ok (.aload_n 0, 1) := dk_42 (dk_at dksX11_digest_4 19 rfl rfl)
theorem dX11_digest_114 : decode cX11_digest 114 = .ok (.getfield 1147, 3) := dk_180 4 123 (dk_at dksX11_digest_4 20 rfl rfl)
theorem dX11_digest_117 : decode cX11_digest 117 = .ok (.iload_n 1, 1) := dk_27 (dk_at dksX11_digest_4 23 rfl rfl)
theorem dX11_digest_118 : decode cX11_digest 118 = .ok (.bipush 16, 2) := dk_16 16 (dk_at dksX11_digest_5 0 rfl rfl)
theorem dX11_digest_120 : decode cX11_digest 120 = .ok (.isub, 1) := dk_100 (dk_at dksX11_digest_5 2 rfl rfl)
theorem dX11_digest_121 : decode cX11_digest 121 = .ok (.iaload, 1) := dk_46 (dk_at dksX11_digest_5 3 rfl rfl)
theorem dX11_digest_122 : decode cX11_digest 122 = .ok (.iload_n 2, 1) := dk_28 (dk_at dksX11_digest_5 4 rfl rfl)
theorem dX11_digest_123 : decode cX11_digest 123 = .ok (.bipush 7, 2) := dk_16 7 (dk_at dksX11_digest_5 5 rfl rfl)
theorem dX11_digest_125 : decode cX11_digest 125 = .ok (.invokestatic 1275, 3) := dk_184 4 251 (dk_at dksX11_digest_5 7 rfl rfl)
theorem dX11_digest_128 : decode cX11_digest 128 = .ok (.iload_n 2, 1) := dk_28 (dk_at dksX11_digest_5 10 rfl rfl)
theorem dX11_digest_129 : decode cX11_digest 129 = .ok (.bipush 18, 2) := dk_16 18 (dk_at dksX11_digest_5 11 rfl rfl)
theorem dX11_digest_131 : decode cX11_digest 131 = .ok (.invokestatic 1275, 3) := dk_184 4 251 (dk_at dksX11_digest_5 13 rfl rfl)
theorem dX11_digest_134 : decode cX11_digest 134 = .ok (.ixor, 1) := dk_130 (dk_at dksX11_digest_5 16 rfl rfl)
theorem dX11_digest_135 : decode cX11_digest 135 = .ok (.iload_n 2, 1) := dk_28 (dk_at dksX11_digest_5 17 rfl rfl)
theorem dX11_digest_136 : decode cX11_digest 136 = .ok (.iconst 3, 1) := dk_6 (dk_at dksX11_digest_5 18 rfl rfl)
theorem dX11_digest_137 : decode cX11_digest 137 = .ok (.iushr, 1) := dk_124 (dk_at dksX11_digest_5 19 rfl rfl)
theorem dX11_digest_138 : decode cX11_digest 138 = .ok (.ixor, 1) := dk_130 (dk_at dksX11_digest_5 20 rfl rfl)
theorem dX11_digest_139 : decode cX11_digest 139 = .ok (.iadd, 1) := dk_96 (dk_at dksX11_digest_5 21 rfl rfl)
theorem dX11_digest_140 : decode cX11_digest 140 = .ok (.aload_n 0, 1) := dk_42 (dk_at dksX11_digest_5 22 rfl rfl)
theorem dX11_digest_141 : decode cX11_digest 141 = .ok (.getfield 1147, 3) := dk_180 4 123 (dk_at dksX11_digest_6 0 rfl rfl)
theorem dX11_digest_144 : decode cX11_digest 144 = .ok (.iload_n 1, 1) := dk_27 (dk_at dksX11_digest_6 3 rfl rfl)
theorem dX11_digest_145 : decode cX11_digest 145 = .ok (.bipush 7, 2) := dk_16 7 (dk_at dksX11_digest_6 4 rfl rfl)
theorem dX11_digest_147 : decode cX11_digest 147 = .ok (.isub, 1) := dk_100 (dk_at dksX11_digest_6 6 rfl rfl)
theorem dX11_digest_148 : decode cX11_digest 148 = .ok (.iaload, 1) := dk_46 (dk_at dksX11_digest_6 7 rfl rfl)
theorem dX11_digest_149 : decode cX11_digest 149 = .ok (.iadd, 1) := dk_96 (dk_at dksX11_digest_6 8 rfl rfl)
theorem dX11_digest_150 : decode cX11_digest 150 = .ok (.iload_n 3, 1) := dk_29 (dk_at dksX11_digest_6 9 rfl rfl)
theorem dX11_digest_151 : decode cX11_digest 151 = .ok (.bipush 17, 2) := dk_16 17 (dk_at dksX11_digest_6 10 rfl rfl)
theorem dX11_digest_153 : decode cX11_digest 153 = .ok (.invokestatic 1275, 3) := dk_184 4 251 (dk_at dksX11_digest_6 12 rfl rfl)
theorem dX11_digest_156 : decode cX11_digest 156 = .ok (.iload_n 3, 1) := dk_29 (dk_at dksX11_digest_6 15 rfl rfl)
theorem dX11_digest_157 : decode cX11_digest 157 = .ok (.bipush 19, 2) := dk_16 19 (dk_at dksX11_digest_6 16 rfl rfl)
theorem dX11_digest_159 : decode cX11_digest 159 = .ok (.invokestatic 1275, 3) := dk_184 4 251 (dk_at dksX11_digest_6 18 rfl rfl)
theorem dX11_digest_162 : decode cX11_digest 162 = .ok (.ixor, 1) := dk_130 (dk_at dksX11_digest_6 21 rfl rfl)
theorem dX11_digest_163 : decode cX11_digest 163 = .ok (.iload_n 3, 1) := dk_29 (dk_at dksX11_digest_6 22 rfl rfl)
theorem dX11_digest_164 : decode cX11_digest 164 = .ok (.bipush 10, 2) := dk_16 10 (dk_at dksX11_digest_7 0 rfl rfl)
theorem dX11_digest_166 : decode cX11_digest 166 = .ok (.iushr, 1) := dk_124 (dk_at dksX11_digest_7 2 rfl rfl)
theorem dX11_digest_167 : decode cX11_digest 167 = .ok (.ixor, 1) := dk_130 (dk_at dksX11_digest_7 3 rfl rfl)
theorem dX11_digest_168 : decode cX11_digest 168 = .ok (.iadd, 1) := dk_96 (dk_at dksX11_digest_7 4 rfl rfl)
theorem dX11_digest_169 : decode cX11_digest 169 = .ok (.iastore, 1) := dk_79 (dk_at dksX11_digest_7 5 rfl rfl)
theorem dX11_digest_170 : decode cX11_digest 170 = .ok (.iinc 1 1, 3) := dk_132 1 1 (dk_at dksX11_digest_7 6 rfl rfl)
theorem dX11_digest_173 : decode cX11_digest 173 = .ok (.goto (-171), 3) := dk_167 255 85 (dk_at dksX11_digest_7 9 rfl rfl)
theorem dX11_digest_176 : decode cX11_digest 176 = .ok (.iconst 0, 1) := dk_3 (dk_at dksX11_digest_7 12 rfl rfl)
theorem dX11_digest_177 : decode cX11_digest 177 = .ok (.istore_n 1, 1) := dk_60 (dk_at dksX11_digest_7 13 rfl rfl)
theorem dX11_digest_178 : decode cX11_digest 178 = .ok (.iload_n 1, 1) := dk_27 (dk_at dksX11_digest_7 14 rfl rfl)
theorem dX11_digest_179 : decode cX11_digest 179 = .ok (.bipush 8, 2) := dk_16 8 (dk_at dksX11_digest_7 15 rfl rfl)
theorem dX11_digest_181 : decode cX11_digest 181 = .ok (.if_icmp .ge 21, 3) := dk_162 0 21 (dk_at dksX11_digest_7 17 rfl rfl)
theorem dX11_digest_184 : decode cX11_digest 184 = .ok (.aload_n 0, 1) := dk_42 (dk_at dksX11_digest_7 20 rfl rfl)
theorem dX11_digest_185 : decode cX11_digest 185 = .ok (.getfield 1153, 3) := dk_180 4 129 (dk_at dksX11_digest_7 21 rfl rfl)
theorem dX11_digest_188 : decode cX11_digest 188 = .ok (.iload_n 1, 1) := dk_27 (dk_at dksX11_digest_8 0 rfl rfl)
theorem dX11_digest_189 : decode cX11_digest 189 = .ok (.aload_n 0, 1) := dk_42 (dk_at dksX11_digest_8 1 rfl rfl)
theorem dX11_digest_190 : decode cX11_digest 190 = .ok (.getfield 1231, 3) := dk_180 4 207 (dk_at dksX11_digest_8 2 rfl rfl)
theorem dX11_digest_193 : decode cX11_digest 193 = .ok (.iload_n 1, 1) := dk_27 (dk_at dksX11_digest_8 5 rfl rfl)
theorem dX11_digest_194 : decode cX11_digest 194 = .ok (.iaload, 1) := dk_46 (dk_at dksX11_digest_8 6 rfl rfl)
theorem dX11_digest_195 : decode cX11_digest 195 = .ok (.iastore, 1) := dk_79 (dk_at dksX11_digest_8 7 rfl rfl)
theorem dX11_digest_196 : decode cX11_digest 196 = .ok (.iinc 1 1, 3) := dk_132 1 1 (dk_at dksX11_digest_8 8 rfl rfl)
theorem dX11_digest_199 : decode cX11_digest 199 = .ok (.goto (-21), 3) := dk_167 255 235 (dk_at dksX11_digest_8 11 rfl rfl)
theorem dX11_digest_202 : decode cX11_digest 202 = .ok (.iconst 0, 1) := dk_3 (dk_at dksX11_digest_8 14 rfl rfl)
theorem dX11_digest_203 : decode cX11_digest 203 = .ok (.istore_n 1, 1) := dk_60 (dk_at dksX11_digest_8 15 rfl rfl)
theorem dX11_digest_204 : decode cX11_digest 204 = .ok (.iload_n 1, 1) := dk_27 (dk_at dksX11_digest_8 16 rfl rfl)
theorem dX11_digest_205 : decode cX11_digest 205 = .ok (.bipush 64, 2) := dk_16 64 (dk_at dksX11_digest_8 17 rfl rfl)
theorem dX11_digest_207 : decode cX11_digest 207 = .ok (.if_icmp .ge 194, 3) := dk_162 0 194 (dk_at dksX11_digest_8 19 rfl rfl)
theorem dX11_digest_210 : decode cX11_digest 210 = .ok (.aload_n 0, 1) := dk_42 (dk_at dksX11_digest_8 22 rfl rfl)
theorem dX11_digest_211 : decode cX11_digest 211 = .ok (.getfield 1153, 3) := dk_180 4 129 (dk_at dksX11_digest_9 0 rfl rfl)
theorem dX11_digest_214 : decode cX11_digest 214 = .ok (.iconst 0, 1) := dk_3 (dk_at dksX11_digest_9 3 rfl rfl)
theorem dX11_digest_215 : decode cX11_digest 215 = .ok (.iaload, 1) := dk_46 (dk_at dksX11_digest_9 4 rfl rfl)
theorem dX11_digest_216 : decode cX11_digest 216 = .ok (.istore_n 2, 1) := dk_61 (dk_at dksX11_digest_9 5 rfl rfl)
theorem dX11_digest_217 : decode cX11_digest 217 = .ok (.aload_n 0, 1) := dk_42 (dk_at dksX11_digest_9 6 rfl rfl)
theorem dX11_digest_218 : decode cX11_digest 218 = .ok (.getfield 1153, 3) := dk_180 4 129 (dk_at dksX11_digest_9 7 rfl rfl)
theorem dX11_digest_221 : decode cX11_digest 221 = .ok (.iconst 4, 1) := dk_7 (dk_at dksX11_digest_9 10 rfl rfl)
theorem dX11_digest_222 : decode cX11_digest 222 = .ok (.iaload, 1) := dk_46 (dk_at dksX11_digest_9 11 rfl rfl)
theorem dX11_digest_223 : decode cX11_digest 223 = .ok (.istore_n 3, 1) := dk_62 (dk_at dksX11_digest_9 12 rfl rfl)
theorem dX11_digest_224 : decode cX11_digest 224 = .ok (.aload_n 0, 1) := dk_42 (dk_at dksX11_digest_9 13 rfl rfl)
theorem dX11_digest_225 : decode cX11_digest 225 = .ok (.getfield 1153, 3) := dk_180 4 129 (dk_at dksX11_digest_9 14 rfl rfl)
theorem dX11_digest_228 : decode cX11_digest 228 = .ok (.bipush 7, 2) := dk_16 7 (dk_at dksX11_digest_9 17 rfl rfl)
theorem dX11_digest_230 : decode cX11_digest 230 = .ok (.iaload, 1) := dk_46 (dk_at dksX11_digest_9 19 rfl rfl)
theorem dX11_digest_231 : decode cX11_digest 231 = .ok (.iload_n 3, 1) := dk_29 (dk_at dksX11_digest_9 20 rfl rfl)
theorem dX11_digest_232 : decode cX11_digest 232 = .ok (.bipush 6, 2) := dk_16 6 (dk_at dksX11_digest_9 21 rfl rfl)
theorem dX11_digest_234 : decode cX11_digest 234 = .ok (.invokestatic 1275, 3) := dk_184 4 251 (dk_at dksX11_digest_10 0 rfl rfl)
theorem dX11_digest_237 : decode cX11_digest 237 = .ok (.iload_n 3, 1) := dk_29 (dk_at dksX11_digest_10 3 rfl rfl)
theorem dX11_digest_238 : decode cX11_digest 238 = .ok (.bipush 11, 2) := dk_16 11 (dk_at dksX11_digest_10 4 rfl rfl)
theorem dX11_digest_240 : decode cX11_digest 240 = .ok (.invokestatic 1275, 3) := dk_184 4 251 (dk_at dksX11_digest_10 6 rfl rfl)
theorem dX11_digest_243 : decode cX11_digest 243 = .ok (.ixor, 1) := dk_130 (dk_at dksX11_digest_10 9 rfl rfl)
theorem dX11_digest_244 : decode cX11_digest 244 = .ok (.iload_n 3, 1) := dk_29 (dk_at dksX11_digest_10 10 rfl rfl)
theorem dX11_digest_245 : decode cX11_digest 245 = .ok (.bipush 25, 2) := dk_16 25 (dk_at dksX11_digest_10 11 rfl rfl)
theorem dX11_digest_247 : decode cX11_digest 247 = .ok (.invokestatic 1275, 3) := dk_184 4 251 (dk_at dksX11_digest_10 13 rfl rfl)
theorem dX11_digest_250 : decode cX11_digest 250 = .ok (.ixor, 1) := dk_130 (dk_at dksX11_digest_10 16 rfl rfl)
theorem dX11_digest_251 : decode cX11_digest 251 = .ok (.iadd, 1) := dk_96 (dk_at dksX11_digest_10 17 rfl rfl)
theorem dX11_digest_252 : decode cX11_digest 252 = .ok (.iload_n 3, 1) := dk_29 (dk_at dksX11_digest_10 18 rfl rfl)
theorem dX11_digest_253 : decode cX11_digest 253 = .ok (.aload_n 0, 1) := dk_42 (dk_at dksX11_digest_10 19 rfl rfl)
theorem dX11_digest_254 : decode cX11_digest 254 = .ok (.getfield 1153, 3) := dk_180 4 129 (dk_at dksX11_digest_10 20 rfl rfl)
theorem dX11_digest_257 : decode cX11_digest 257 = .ok (.iconst 5, 1) := dk_8 (dk_at dksX11_digest_10 23 rfl rfl)
theorem dX11_digest_258 : decode cX11_digest 258 = .ok (.iaload, 1) := dk_46 (dk_at dksX11_digest_11 0 rfl rfl)
theorem dX11_digest_259 : decode cX11_digest 259 = .ok (.iand, 1) := dk_126 (dk_at dksX11_digest_11 1 rfl rfl)
theorem dX11_digest_260 : decode cX11_digest 260 = .ok (.iload_n 3, 1) := dk_29 (dk_at dksX11_digest_11 2 rfl rfl)
theorem dX11_digest_261 : decode cX11_digest 261 = .ok (.iconst (-1), 1) := dk_2 (dk_at dksX11_digest_11 3 rfl rfl)
theorem dX11_digest_262 : decode cX11_digest 262 = .ok (.ixor, 1) := dk_130 (dk_at dksX11_digest_11 4 rfl rfl)
theorem dX11_digest_263 : decode cX11_digest 263 = .ok (.aload_n 0, 1) := dk_42 (dk_at dksX11_digest_11 5 rfl rfl)
theorem dX11_digest_264 : decode cX11_digest 264 = .ok (.getfield 1153, 3) := dk_180 4 129 (dk_at dksX11_digest_11 6 rfl rfl)
theorem dX11_digest_267 : decode cX11_digest 267 = .ok (.bipush 6, 2) := dk_16 6 (dk_at dksX11_digest_11 9 rfl rfl)
theorem dX11_digest_269 : decode cX11_digest 269 = .ok (.iaload, 1) := dk_46 (dk_at dksX11_digest_11 11 rfl rfl)
theorem dX11_digest_270 : decode cX11_digest 270 = .ok (.iand, 1) := dk_126 (dk_at dksX11_digest_11 12 rfl rfl)
theorem dX11_digest_271 : decode cX11_digest 271 = .ok (.ixor, 1) := dk_130 (dk_at dksX11_digest_11 13 rfl rfl)
theorem dX11_digest_272 : decode cX11_digest 272 = .ok (.iadd, 1) := dk_96 (dk_at dksX11_digest_11 14 rfl rfl)
theorem dX11_digest_273 : decode cX11_digest 273 = .ok (.aload_n 0, 1) := dk_42 (dk_at dksX11_digest_11 15 rfl rfl)
theorem dX11_digest_274 : decode cX11_digest 274 = .ok (.getfield 1220, 3) := dk_180 4 196 (dk_at dksX11_digest_11 16 rfl rfl)
theorem dX11_digest_277 : decode cX11_digest 277 = .ok (.iload_n 1, 1) := dk_27 (dk_at dksX11_digest_11 19 rfl rfl)
theorem dX11_digest_278 : decode cX11_digest 278 = .ok (.iaload, 1) := dk_46 (dk_at dksX11_digest_11 20 rfl rfl)
theorem dX11_digest_279 : decode cX11_digest 279 = .ok (.iadd, 1) := dk_96 (dk_at dksX11_digest_11 21 rfl rfl)
theorem dX11_digest_280 : decode cX11_digest 280 = .ok (.aload_n 0, 1) := dk_42 (dk_at dksX11_digest_11 22 rfl rfl)
theorem dX11_digest_281 : decode cX11_digest 281 = .ok (.getfield 1147, 3) := dk_180 4 123 (dk_at dksX11_digest_12 0 rfl rfl)
theorem dX11_digest_284 : decode cX11_digest 284 = .ok (.iload_n 1, 1) := dk_27 (dk_at dksX11_digest_12 3 rfl rfl)
theorem dX11_digest_285 : decode cX11_digest 285 = .ok (.iaload, 1) := dk_46 (dk_at dksX11_digest_12 4 rfl rfl)
theorem dX11_digest_286 : decode cX11_digest 286 = .ok (.iadd, 1) := dk_96 (dk_at dksX11_digest_12 5 rfl rfl)
theorem dX11_digest_287 : decode cX11_digest 287 = .ok (.istore 4, 2) := dk_54 4 (dk_at dksX11_digest_12 6 rfl rfl)
theorem dX11_digest_289 : decode cX11_digest 289 = .ok (.iload_n 2, 1) := dk_28 (dk_at dksX11_digest_12 8 rfl rfl)
theorem dX11_digest_290 : decode cX11_digest 290 = .ok (.iconst 2, 1) := dk_5 (dk_at dksX11_digest_12 9 rfl rfl)
theorem dX11_digest_291 : decode cX11_digest 291 = .ok (.invokestatic 1275, 3) := dk_184 4 251 (dk_at dksX11_digest_12 10 rfl rfl)
theorem dX11_digest_294 : decode cX11_digest 294 = .ok (.iload_n 2, 1) := dk_28 (dk_at dksX11_digest_12 13 rfl rfl)
theorem dX11_digest_295 : decode cX11_digest 295 = .ok (.bipush 13, 2) := dk_16 13 (dk_at dksX11_digest_12 14 rfl rfl)
theorem dX11_digest_297 : decode cX11_digest 297 = .ok (.invokestatic 1275, 3) := dk_184 4 251 (dk_at dksX11_digest_12 16 rfl rfl)
theorem dX11_digest_300 : decode cX11_digest 300 = .ok (.ixor, 1) := dk_130 (dk_at dksX11_digest_12 19 rfl rfl)
theorem dX11_digest_301 : decode cX11_digest 301 = .ok (.iload_n 2, 1) := dk_28 (dk_at dksX11_digest_12 20 rfl rfl)
theorem dX11_digest_302 : decode cX11_digest 302 = .ok (.bipush 22, 2) := dk_16 22 (dk_at dksX11_digest_12 21 rfl rfl)
theorem dX11_digest_304 : decode cX11_digest 304 = .ok (.invokestatic 1275, 3) := dk_184 4 251 (dk_at dksX11_digest_13 0 rfl rfl)
theorem dX11_digest_307 : decode cX11_digest 307 = .ok (.ixor, 1) := dk_130 (dk_at dksX11_digest_13 3 rfl rfl)
theorem dX11_digest_308 : decode cX11_digest 308 = .ok (.iload_n 2, 1) := dk_28 (dk_at dksX11_digest_13 4 rfl rfl)
theorem dX11_digest_309 : decode cX11_digest 309 = .ok (.aload_n 0, 1) := dk_42 (dk_at dksX11_digest_13 5 rfl rfl)
theorem dX11_digest_310 : decode cX11_digest 310 = .ok (.getfield 1153, 3) := dk_180 4 129 (dk_at dksX11_digest_13 6 rfl rfl)
theorem dX11_digest_313 : decode cX11_digest 313 = .ok (.iconst 1, 1) := dk_4 (dk_at dksX11_digest_13 9 rfl rfl)
theorem dX11_digest_314 : decode cX11_digest 314 = .ok (.iaload, 1) := dk_46 (dk_at dksX11_digest_13 10 rfl rfl)
theorem dX11_digest_315 : decode cX11_digest 315 = .ok (.iand, 1) := dk_126 (dk_at dksX11_digest_13 11 rfl rfl)
theorem dX11_digest_316 : decode cX11_digest 316 = .ok (.iload_n 2, 1) := dk_28 (dk_at dksX11_digest_13 12 rfl rfl)
theorem dX11_digest_317 : decode cX11_digest 317 = .ok (.aload_n 0, 1) := dk_42 (dk_at dksX11_digest_13 13 rfl rfl)
theorem dX11_digest_318 : decode cX11_digest 318 = .ok (.getfield 1153, 3) := dk_180 4 129 (dk_at dksX11_digest_13 14 rfl rfl)
theorem dX11_digest_321 : decode cX11_digest 321 = .ok (.iconst 2, 1) := dk_5 (dk_at dksX11_digest_13 17 rfl rfl)
theorem dX11_digest_322 : decode cX11_digest 322 = .ok (.iaload, 1) := dk_46 (dk_at dksX11_digest_13 18 rfl rfl)
theorem dX11_digest_323 : decode cX11_digest 323 = .ok (.iand, 1) := dk_126 (dk_at dksX11_digest_13 19 rfl rfl)
theorem dX11_digest_324 : decode cX11_digest 324 = .ok (.ixor, 1) := dk_130 (dk_at dksX11_digest_13 20 rfl rfl)
theorem dX11_digest_325 : decode cX11_digest 325 = .ok (.aload_n 0, 1) := dk_42 (dk_at dksX11_digest_13 21 rfl rfl)
theorem dX11_digest_326 : decode cX11_digest 326 = .ok (.getfield 1153, 3) := dk_180 4 129 (dk_at dksX11_digest_14 0 rfl rfl)
theorem dX11_digest_329 : decode cX11_digest 329 = .ok (.iconst 1, 1) := dk_4 (dk_at dksX11_digest_14 3 rfl rfl)
theorem dX11_digest_330 : decode cX11_digest 330 = .ok (.iaload, 1) := dk_46 (dk_at dksX11_digest_14 4 rfl rfl)
theorem dX11_digest_331 : decode cX11_digest 331 = .ok (.aload_n 0, 1) := dk_42 (dk_at dksX11_digest_14 5 rfl rfl)
theorem dX11_digest_332 : decode cX11_digest 332 = .ok (.getfield 1153, 3) := dk_180 4 129 (dk_at dksX11_digest_14 6 rfl rfl)
theorem dX11_digest_335 : decode cX11_digest 335 = .ok (.iconst 2, 1) := dk_5 (dk_at dksX11_digest_14 9 rfl rfl)
theorem dX11_digest_336 : decode cX11_digest 336 = .ok (.iaload, 1) := dk_46 (dk_at dksX11_digest_14 10 rfl rfl)
theorem dX11_digest_337 : decode cX11_digest 337 = .ok (.iand, 1) := dk_126 (dk_at dksX11_digest_14 11 rfl rfl)
theorem dX11_digest_338 : decode cX11_digest 338 = .ok (.ixor, 1) := dk_130 (dk_at dksX11_digest_14 12 rfl rfl)
theorem dX11_digest_339 : decode cX11_digest 339 = .ok (.iadd, 1) := dk_96 (dk_at dksX11_digest_14 13 rfl rfl)
theorem dX11_digest_340 : decode cX11_digest 340 = .ok (.istore 5, 2) := dk_54 5 (dk_at dksX11_digest_14 14 rfl rfl)
theorem dX11_digest_342 : decode cX11_digest 342 = .ok (.bipush 7, 2) := dk_16 7 (dk_at dksX11_digest_14 16 rfl rfl)
theorem dX11_digest_344 : decode cX11_digest 344 = .ok (.istore 6, 2) := dk_54 6 (dk_at dksX11_digest_14 18 rfl rfl)
theorem dX11_digest_346 : decode cX11_digest 346 = .ok (.iload 6, 2) := dk_21 6 (dk_at dksX11_digest_14 20 rfl rfl)
theorem dX11_digest_348 : decode cX11_digest 348 = .ok (.ifCond .le 25, 3) := dk_158 0 25 (dk_at dksX11_digest_15 0 rfl rfl)
theorem dX11_digest_351 : decode cX11_digest 351 = .ok (.aload_n 0, 1) := dk_42 (dk_at dksX11_digest_15 3 rfl rfl)
theorem dX11_digest_352 : decode cX11_digest 352 = .ok (.getfield 1153, 3) := dk_180 4 129 (dk_at dksX11_digest_15 4 rfl rfl)
theorem dX11_digest_355 : decode cX11_digest 355 = .ok (.iload 6, 2) := dk_21 6 (dk_at dksX11_digest_15 7 rfl rfl)
theorem dX11_digest_357 : decode cX11_digest 357 = .ok (.aload_n 0, 1) := dk_42 (dk_at dksX11_digest_15 9 rfl rfl)
theorem dX11_digest_358 : decode cX11_digest 358 = .ok (.getfield 1153, 3) := dk_180 4 129 (dk_at dksX11_digest_15 10 rfl rfl)
theorem dX11_digest_361 : decode cX11_digest 361 = .ok (.iload 6, 2) := dk_21 6 (dk_at dksX11_digest_15 13 rfl rfl)
theorem dX11_digest_363 : decode cX11_digest 363 = .ok (.iconst 1, 1) := dk_4 (dk_at dksX11_digest_15 15 rfl rfl)
theorem dX11_digest_364 : decode cX11_digest 364 = .ok (.isub, 1) := dk_100 (dk_at dksX11_digest_15 16 rfl rfl)
theorem dX11_digest_365 : decode cX11_digest 365 = .ok (.iaload, 1) := dk_46 (dk_at dksX11_digest_15 17 rfl rfl)
theorem dX11_digest_366 : decode cX11_digest 366 = .ok (.iastore, 1) := dk_79 (dk_at dksX11_digest_15 18 rfl rfl)
theorem dX11_digest_367 : decode cX11_digest 367 = .ok (.iinc 6 (-1), 3) := dk_132 6 255 (dk_at dksX11_digest_15 19 rfl rfl)
theorem dX11_digest_370 : decode cX11_digest 370 = .ok (.goto (-24), 3) := dk_167 255 232 (dk_at dksX11_digest_16 0 rfl rfl)
theorem dX11_digest_373 : decode cX11_digest 373 = .ok (.aload_n 0, 1) := dk_42 (dk_at dksX11_digest_16 3 rfl rfl)
theorem dX11_digest_374 : decode cX11_digest 374 = .ok (.getfield 1153, 3) := dk_180 4 129 (dk_at dksX11_digest_16 4 rfl rfl)
theorem dX11_digest_377 : decode cX11_digest 377 = .ok (.iconst 4, 1) := dk_7 (dk_at dksX11_digest_16 7 rfl rfl)
theorem dX11_digest_378 : decode cX11_digest 378 = .ok (.dup2, 1) := dk_92 (dk_at dksX11_digest_16 8 rfl rfl)
theorem dX11_digest_379 : decode cX11_digest 379 = .ok (.iaload, 1) := dk_46 (dk_at dksX11_digest_16 9 rfl rfl)
theorem dX11_digest_380 : decode cX11_digest 380 = .ok (.iload 4, 2) := dk_21 4 (dk_at dksX11_digest_16 10 rfl rfl)
theorem dX11_digest_382 : decode cX11_digest 382 = .ok (.iadd, 1) := dk_96 (dk_at dksX11_digest_16 12 rfl rfl)
theorem dX11_digest_383 : decode cX11_digest 383 = .ok (.iastore, 1) := dk_79 (dk_at dksX11_digest_16 13 rfl rfl)
theorem dX11_digest_384 : decode cX11_digest 384 = .ok (.aload_n 0, 1) := dk_42 (dk_at dksX11_digest_16 14 rfl rfl)
theorem dX11_digest_385 : decode cX11_digest 385 = .ok (.getfield 1153, 3) := dk_180 4 129 (dk_at dksX11_digest_16 15 rfl rfl)
theorem dX11_digest_388 : decode cX11_digest 388 = .ok (.iconst 0, 1) := dk_3 (dk_at dksX11_digest_16 18 rfl rfl)
theorem dX11_digest_389 : decode cX11_digest 389 = .ok (.iload 4, 2) := dk_21 4 (dk_at dksX11_digest_16 19 rfl rfl)
theorem dX11_digest_391 : decode cX11_digest 391 = .ok (.iload 5, 2) := dk_21 5 (dk_at dksX11_digest_16 21 rfl rfl)
theorem dX11_digest_393 : decode cX11_digest 393 = .ok (.iadd, 1) := dk_96 (dk_at dksX11_digest_16 23 rfl rfl)
theorem dX11_digest_394 : decode cX11_digest 394 = .ok (.iastore, 1) := dk_79 (dk_at dksX11_digest_17 0 rfl rfl)
theorem dX11_digest_395 : decode cX11_digest 395 = .ok (.iinc 1 1, 3) := dk_132 1 1 (dk_at dksX11_digest_17 1 rfl rfl)
theorem dX11_digest_398 : decode cX11_digest 398 = .ok (.goto (-194), 3) := dk_167 255 62 (dk_at dksX11_digest_17 4 rfl rfl)
theorem dX11_digest_401 : decode cX11_digest 401 = .ok (.iconst 0, 1) := dk_3 (dk_at dksX11_digest_17 7 rfl rfl)
theorem dX11_digest_402 : decode cX11_digest 402 = .ok (.istore_n 1, 1) := dk_60 (dk_at dksX11_digest_17 8 rfl rfl)
theorem dX11_digest_403 : decode cX11_digest 403 = .ok (.iload_n 1, 1) := dk_27 (dk_at dksX11_digest_17 9 rfl rfl)
theorem dX11_digest_404 : decode cX11_digest 404 = .ok (.bipush 8, 2) := dk_16 8 (dk_at dksX11_digest_17 10 rfl rfl)
theorem dX11_digest_406 : decode cX11_digest 406 = .ok (.if_icmp .ge 28, 3) := dk_162 0 28 (dk_at dksX11_digest_17 12 rfl rfl)
theorem dX11_digest_409 : decode cX11_digest 409 = .ok (.aload_n 0, 1) := dk_42 (dk_at dksX11_digest_17 15 rfl rfl)
theorem dX11_digest_410 : decode cX11_digest 410 = .ok (.getfield 1150, 3) := dk_180 4 126 (dk_at dksX11_digest_17 16 rfl rfl)
theorem dX11_digest_413 : decode cX11_digest 413 = .ok (.iload_n 1, 1) := dk_27 (dk_at dksX11_digest_17 19 rfl rfl)
theorem dX11_digest_414 : decode cX11_digest 414 = .ok (.aload_n 0, 1) := dk_42 (dk_at dksX11_digest_17 20 rfl rfl)
theorem dX11_digest_415 : decode cX11_digest 415 = .ok (.getfield 1231, 3) := dk_180 4 207 (dk_at dksX11_digest_17 21 rfl rfl)
theorem dX11_digest_418 : decode cX11_digest 418 = .ok (.iload_n 1, 1) := dk_27 (dk_at dksX11_digest_18 0 rfl rfl)
theorem dX11_digest_419 : decode cX11_digest 419 = .ok (.iaload, 1) := dk_46 (dk_at dksX11_digest_18 1 rfl rfl)
theorem dX11_digest_420 : decode cX11_digest 420 = .ok (.aload_n 0, 1) := dk_42 (dk_at dksX11_digest_18 2 rfl rfl)
theorem dX11_digest_421 : decode cX11_digest 421 = .ok (.getfield 1153, 3) := dk_180 4 129 (dk_at dksX11_digest_18 3 rfl rfl)
theorem dX11_digest_424 : decode cX11_digest 424 = .ok (.iload_n 1, 1) := dk_27 (dk_at dksX11_digest_18 6 rfl rfl)
theorem dX11_digest_425 : decode cX11_digest 425 = .ok (.iaload, 1) := dk_46 (dk_at dksX11_digest_18 7 rfl rfl)
theorem dX11_digest_426 : decode cX11_digest 426 = .ok (.iadd, 1) := dk_96 (dk_at dksX11_digest_18 8 rfl rfl)
theorem dX11_digest_427 : decode cX11_digest 427 = .ok (.iastore, 1) := dk_79 (dk_at dksX11_digest_18 9 rfl rfl)
theorem dX11_digest_428 : decode cX11_digest 428 = .ok (.iinc 1 1, 3) := dk_132 1 1 (dk_at dksX11_digest_18 10 rfl rfl)
theorem dX11_digest_431 : decode cX11_digest 431 = .ok (.goto (-28), 3) := dk_167 255 228 (dk_at dksX11_digest_18 13 rfl rfl)
theorem dX11_digest_434 : decode cX11_digest 434 = .ok (.return_, 1) := dk_177 (dk_at dksX11_digest_18 16 rfl rfl)
abbrev cX11_turn : ByteArray := prog_17_method_201_code
def yX11_turn : MethodName := ⟨RX11, "turn", "(II)I"⟩
def dkwX11_turn_0 : List UInt8 := [26, 27, 124, 26, 16, 32, 27, 100, 120, 128, 172]
abbrev dktX11_turn_0 : List UInt8 := dkwX11_turn_0 ++ []
theorem dksX11_turn_0 : cX11_turn.data.toList.drop 0 = dktX11_turn_0 := by decide +kernel
theorem dX11_turn_0 : decode cX11_turn 0 = .ok (.iload_n 0, 1) := dk_26 (dk_at dksX11_turn_0 0 rfl rfl)
theorem dX11_turn_1 : decode cX11_turn 1 = .ok (.iload_n 1, 1) := dk_27 (dk_at dksX11_turn_0 1 rfl rfl)
theorem dX11_turn_2 : decode cX11_turn 2 = .ok (.iushr, 1) := dk_124 (dk_at dksX11_turn_0 2 rfl rfl)
theorem dX11_turn_3 : decode cX11_turn 3 = .ok (.iload_n 0, 1) := dk_26 (dk_at dksX11_turn_0 3 rfl rfl)
theorem dX11_turn_4 : decode cX11_turn 4 = .ok (.bipush 32, 2) := dk_16 32 (dk_at dksX11_turn_0 4 rfl rfl)
theorem dX11_turn_6 : decode cX11_turn 6 = .ok (.iload_n 1, 1) := dk_27 (dk_at dksX11_turn_0 6 rfl rfl)
theorem dX11_turn_7 : decode cX11_turn 7 = .ok (.isub, 1) := dk_100 (dk_at dksX11_turn_0 7 rfl rfl)
theorem dX11_turn_8 : decode cX11_turn 8 = .ok (.ishl, 1) := dk_120 (dk_at dksX11_turn_0 8 rfl rfl)
theorem dX11_turn_9 : decode cX11_turn 9 = .ok (.ior, 1) := dk_128 (dk_at dksX11_turn_0 9 rfl rfl)
theorem dX11_turn_10 : decode cX11_turn 10 = .ok (.ireturn, 1) := dk_172 (dk_at dksX11_turn_0 10 rfl rfl)
abbrev cX11_area : ByteArray := prog_17_method_12_code
def yX11_area : MethodName := ⟨RX11, "area", "(I)I"⟩
def dkwX11_area_2 : List UInt8 := [180, 0, 61, 90, 4, 96, 181, 0, 61, 172]
abbrev dktX11_area_2 : List UInt8 := dkwX11_area_2 ++ []
def dkwX11_area_1 : List UInt8 := [16, 251, 172, 42, 180, 0, 64, 42, 180, 0, 61, 27, 79, 42, 4, 27, 3, 3, 3, 182, 0, 22, 42, 89]
abbrev dktX11_area_1 : List UInt8 := dkwX11_area_1 ++ dktX11_area_2
def dkwX11_area_0 : List UInt8 := [27, 133, 9, 20, 0, 59, 184, 0, 13, 154, 0, 6, 16, 254, 172, 42, 180, 0, 61, 16, 24, 160, 0, 6]
abbrev dktX11_area_0 : List UInt8 := dkwX11_area_0 ++ dktX11_area_1
theorem dksX11_area_0 : cX11_area.data.toList.drop 0 = dktX11_area_0 := by decide +kernel
theorem dksX11_area_1 : cX11_area.data.toList.drop 24 = dktX11_area_1 := dk_seg dksX11_area_0 24 rfl rfl
theorem dksX11_area_2 : cX11_area.data.toList.drop 48 = dktX11_area_2 := dk_seg dksX11_area_1 24 rfl rfl
theorem dX11_area_0 : decode cX11_area 0 = .ok (.iload_n 1, 1) := dk_27 (dk_at dksX11_area_0 0 rfl rfl)
theorem dX11_area_1 : decode cX11_area 1 = .ok (.i2l, 1) := dk_133 (dk_at dksX11_area_0 1 rfl rfl)
theorem dX11_area_2 : decode cX11_area 2 = .ok (.lconst 0, 1) := dk_9 (dk_at dksX11_area_0 2 rfl rfl)
theorem dX11_area_3 : decode cX11_area 3 = .ok (.ldc2_w 59, 3) := dk_20 0 59 (dk_at dksX11_area_0 3 rfl rfl)
theorem dX11_area_6 : decode cX11_area 6 = .ok (.invokestatic 13, 3) := dk_184 0 13 (dk_at dksX11_area_0 6 rfl rfl)
theorem dX11_area_9 : decode cX11_area 9 = .ok (.ifCond .ne 6, 3) := dk_154 0 6 (dk_at dksX11_area_0 9 rfl rfl)
theorem dX11_area_12 : decode cX11_area 12 = .ok (.bipush (-2), 2) := dk_16 254 (dk_at dksX11_area_0 12 rfl rfl)
theorem dX11_area_14 : decode cX11_area 14 = .ok (.ireturn, 1) := dk_172 (dk_at dksX11_area_0 14 rfl rfl)
theorem dX11_area_15 : decode cX11_area 15 = .ok (.aload_n 0, 1) := dk_42 (dk_at dksX11_area_0 15 rfl rfl)
theorem dX11_area_16 : decode cX11_area 16 = .ok (.getfield 61, 3) := dk_180 0 61 (dk_at dksX11_area_0 16 rfl rfl)
theorem dX11_area_19 : decode cX11_area 19 = .ok (.bipush 24, 2) := dk_16 24 (dk_at dksX11_area_0 19 rfl rfl)
theorem dX11_area_21 : decode cX11_area 21 = .ok (.if_icmp .ne 6, 3) := dk_160 0 6 (dk_at dksX11_area_0 21 rfl rfl)
theorem dX11_area_24 : decode cX11_area 24 = .ok (.bipush (-5), 2) := dk_16 251 (dk_at dksX11_area_1 0 rfl rfl)
theorem dX11_area_26 : decode cX11_area 26 = .ok (.ireturn, 1) := dk_172 (dk_at dksX11_area_1 2 rfl rfl)
theorem dX11_area_27 : decode cX11_area 27 = .ok (.aload_n 0, 1) := dk_42 (dk_at dksX11_area_1 3 rfl rfl)
theorem dX11_area_28 : decode cX11_area 28 = .ok (.getfield 64, 3) := dk_180 0 64 (dk_at dksX11_area_1 4 rfl rfl)
theorem dX11_area_31 : decode cX11_area 31 = .ok (.aload_n 0, 1) := dk_42 (dk_at dksX11_area_1 7 rfl rfl)
theorem dX11_area_32 : decode cX11_area 32 = .ok (.getfield 61, 3) := dk_180 0 61 (dk_at dksX11_area_1 8 rfl rfl)
theorem dX11_area_35 : decode cX11_area 35 = .ok (.iload_n 1, 1) := dk_27 (dk_at dksX11_area_1 11 rfl rfl)
theorem dX11_area_36 : decode cX11_area 36 = .ok (.iastore, 1) := dk_79 (dk_at dksX11_area_1 12 rfl rfl)
theorem dX11_area_37 : decode cX11_area 37 = .ok (.aload_n 0, 1) := dk_42 (dk_at dksX11_area_1 13 rfl rfl)
theorem dX11_area_38 : decode cX11_area 38 = .ok (.iconst 1, 1) := dk_4 (dk_at dksX11_area_1 14 rfl rfl)
theorem dX11_area_39 : decode cX11_area 39 = .ok (.iload_n 1, 1) := dk_27 (dk_at dksX11_area_1 15 rfl rfl)
theorem dX11_area_40 : decode cX11_area 40 = .ok (.iconst 0, 1) := dk_3 (dk_at dksX11_area_1 16 rfl rfl)
theorem dX11_area_41 : decode cX11_area 41 = .ok (.iconst 0, 1) := dk_3 (dk_at dksX11_area_1 17 rfl rfl)
theorem dX11_area_42 : decode cX11_area 42 = .ok (.iconst 0, 1) := dk_3 (dk_at dksX11_area_1 18 rfl rfl)
theorem dX11_area_43 : decode cX11_area 43 = .ok (.invokevirtual 22, 3) := dk_182 0 22 (dk_at dksX11_area_1 19 rfl rfl)
theorem dX11_area_46 : decode cX11_area 46 = .ok (.aload_n 0, 1) := dk_42 (dk_at dksX11_area_1 22 rfl rfl)
theorem dX11_area_47 : decode cX11_area 47 = .ok (.dup, 1) := dk_89 (dk_at dksX11_area_1 23 rfl rfl)
theorem dX11_area_48 : decode cX11_area 48 = .ok (.getfield 61, 3) := dk_180 0 61 (dk_at dksX11_area_2 0 rfl rfl)
theorem dX11_area_51 : decode cX11_area 51 = .ok (.dup_x1, 1) := dk_90 (dk_at dksX11_area_2 3 rfl rfl)
theorem dX11_area_52 : decode cX11_area 52 = .ok (.iconst 1, 1) := dk_4 (dk_at dksX11_area_2 4 rfl rfl)
theorem dX11_area_53 : decode cX11_area 53 = .ok (.iadd, 1) := dk_96 (dk_at dksX11_area_2 5 rfl rfl)
theorem dX11_area_54 : decode cX11_area 54 = .ok (.putfield 61, 3) := dk_181 0 61 (dk_at dksX11_area_2 6 rfl rfl)
theorem dX11_area_57 : decode cX11_area 57 = .ok (.ireturn, 1) := dk_172 (dk_at dksX11_area_2 9 rfl rfl)
abbrev cX11_border : ByteArray := prog_17_method_13_code
def yX11_border : MethodName := ⟨RX11, "border", "(IIII)I"⟩
def dkwX11_border_5 : List UInt8 := [27, 28, 29, 21, 4, 182, 0, 22, 42, 180, 0, 74, 172]
abbrev dktX11_border_5 : List UInt8 := dkwX11_border_5 ++ []
def dkwX11_border_4 : List UInt8 := [79, 42, 180, 0, 86, 42, 180, 0, 74, 21, 4, 79, 42, 89, 180, 0, 74, 4, 96, 181, 0, 74, 42, 5]
abbrev dktX11_border_4 : List UInt8 := dkwX11_border_4 ++ dktX11_border_5
def dkwX11_border_3 : List UInt8 := [180, 0, 74, 27, 79, 42, 180, 0, 80, 42, 180, 0, 74, 28, 79, 42, 180, 0, 83, 42, 180, 0, 74, 29]
abbrev dktX11_border_3 : List UInt8 := dkwX11_border_3 ++ dktX11_border_4
def dkwX11_border_2 : List UInt8 := [154, 0, 6, 16, 254, 172, 42, 180, 0, 74, 16, 60, 160, 0, 6, 16, 251, 172, 42, 180, 0, 77, 42]
abbrev dktX11_border_2 : List UInt8 := dkwX11_border_2 ++ dktX11_border_3
def dkwX11_border_1 : List UInt8 := [184, 0, 13, 153, 0, 24, 29, 133, 28, 133, 20, 0, 68, 184, 0, 13, 153, 0, 11, 21, 4, 184, 0, 70]
abbrev dktX11_border_1 : List UInt8 := dkwX11_border_1 ++ dktX11_border_2
def dkwX11_border_0 : List UInt8 := [27, 133, 9, 42, 180, 0, 61, 4, 100, 133, 184, 0, 13, 154, 0, 5, 2, 172, 28, 133, 9, 20, 0, 68]
abbrev dktX11_border_0 : List UInt8 := dkwX11_border_0 ++ dktX11_border_1
theorem dksX11_border_0 : cX11_border.data.toList.drop 0 = dktX11_border_0 := by decide +kernel
theorem dksX11_border_1 : cX11_border.data.toList.drop 24 = dktX11_border_1 := dk_seg dksX11_border_0 24 rfl rfl
theorem dksX11_border_2 : cX11_border.data.toList.drop 48 = dktX11_border_2 := dk_seg dksX11_border_1 24 rfl rfl
theorem dksX11_border_3 : cX11_border.data.toList.drop 71 = dktX11_border_3 := dk_seg dksX11_border_2 23 rfl rfl
theorem dksX11_border_4 : cX11_border.data.toList.drop 95 = dktX11_border_4 := dk_seg dksX11_border_3 24 rfl rfl
theorem dksX11_border_5 : cX11_border.data.toList.drop 119 = dktX11_border_5 := dk_seg dksX11_border_4 24 rfl rfl
theorem dX11_border_0 : decode cX11_border 0 = .ok (.iload_n 1, 1) := dk_27 (dk_at dksX11_border_0 0 rfl rfl)
theorem dX11_border_1 : decode cX11_border 1 = .ok (.i2l, 1) := dk_133 (dk_at dksX11_border_0 1 rfl rfl)
theorem dX11_border_2 : decode cX11_border 2 = .ok (.lconst 0, 1) := dk_9 (dk_at dksX11_border_0 2 rfl rfl)
theorem dX11_border_3 : decode cX11_border 3 = .ok (.aload_n 0, 1) := dk_42 (dk_at dksX11_border_0 3 rfl rfl)
theorem dX11_border_4 : decode cX11_border 4 = .ok (.getfield 61, 3) := dk_180 0 61 (dk_at dksX11_border_0 4 rfl rfl)
theorem dX11_border_7 : decode cX11_border 7 = .ok (.iconst 1, 1) := dk_4 (dk_at dksX11_border_0 7 rfl rfl)
theorem dX11_border_8 : decode cX11_border 8 = .ok (.isub, 1) := dk_100 (dk_at dksX11_border_0 8 rfl rfl)
theorem dX11_border_9 : decode cX11_border 9 = .ok (.i2l, 1) := dk_133 (dk_at dksX11_border_0 9 rfl rfl)
theorem dX11_border_10 : decode cX11_border 10 = .ok (.invokestatic 13, 3) := dk_184 0 13 (dk_at dksX11_border_0 10 rfl rfl)
theorem dX11_border_13 : decode cX11_border 13 = .ok (.ifCond .ne 5, 3) := dk_154 0 5 (dk_at dksX11_border_0 13 rfl rfl)
theorem dX11_border_16 : decode cX11_border 16 = .ok (.iconst (-1), 1) := dk_2 (dk_at dksX11_border_0 16 rfl rfl)
theorem dX11_border_17 : decode cX11_border 17 = .ok (.ireturn, 1) := dk_172 (dk_at dksX11_border_0 17 rfl rfl)
theorem dX11_border_18 : decode cX11_border 18 = .ok (.iload_n 2, 1) := dk_28 (dk_at dksX11_border_0 18 rfl rfl)
theorem dX11_border_19 : decode cX11_border 19 = .ok (.i2l, 1) := dk_133 (dk_at dksX11_border_0 19 rfl rfl)
theorem dX11_border_20 : decode cX11_border 20 = .ok (.lconst 0, 1) := dk_9 (dk_at dksX11_border_0 20 rfl rfl)
theorem dX11_border_21 : decode cX11_border 21 = .ok (.ldc2_w 68, 3) := dk_20 0 68 (dk_at dksX11_border_0 21 rfl rfl)
theorem dX11_border_24 : decode cX11_border 24 = .ok (.invokestatic 13, 3) := dk_184 0 13 (dk_at dksX11_border_1 0 rfl rfl)
theorem dX11_border_27 : decode cX11_border 27 = .ok (.ifCond .eq 24, 3) := dk_153 0 24 (dk_at dksX11_border_1 3 rfl rfl)
theorem dX11_border_30 : decode cX11_border 30 = .ok (.iload_n 3, 1) := dk_29 (dk_at dksX11_border_1 6 rfl rfl)
theorem dX11_border_31 : decode cX11_border 31 = .ok (.i2l, 1) := dk_133 (dk_at dksX11_border_1 7 rfl rfl)
theorem dX11_border_32 : decode cX11_border 32 = .ok (.iload_n 2, 1) := dk_28 (dk_at dksX11_border_1 8 rfl rfl)
theorem dX11_border_33 : decode cX11_border 33 = .ok (.i2l, 1) := dk_133 (dk_at dksX11_border_1 9 rfl rfl)
theorem dX11_border_34 : decode cX11_border 34 = .ok (.ldc2_w 68, 3) := dk_20 0 68 (dk_at dksX11_border_1 10 rfl rfl)
theorem dX11_border_37 : decode cX11_border 37 = .ok (.invokestatic 13, 3) := dk_184 0 13 (dk_at dksX11_border_1 13 rfl rfl)
theorem dX11_border_40 : decode cX11_border 40 = .ok (.ifCond .eq 11, 3) := dk_153 0 11 (dk_at dksX11_border_1 16 rfl rfl)
theorem dX11_border_43 : decode cX11_border 43 = .ok (.iload 4, 2) := dk_21 4 (dk_at dksX11_border_1 19 rfl rfl)
theorem dX11_border_45 : decode cX11_border 45 = .ok (.invokestatic 70, 3) := dk_184 0 70 (dk_at dksX11_border_1 21 rfl rfl)
theorem dX11_border_48 : decode cX11_border 48 = .ok (.ifCond .ne 6, 3) := dk_154 0 6 (dk_at dksX11_border_2 0 rfl rfl)
theorem dX11_border_51 : decode cX11_border 51 = .ok (.bipush (-2), 2) := dk_16 254 (dk_at dksX11_border_2 3 rfl rfl)
theorem dX11_border_53 : decode cX11_border 53 = .ok (.ireturn, 1) := dk_172 (dk_at dksX11_border_2 5 rfl rfl)
theorem dX11_border_54 : decode cX11_border 54 = .ok (.aload_n 0, 1) := dk_42 (dk_at dksX11_border_2 6 rfl rfl)
theorem dX11_border_55 : decode cX11_border 55 = .ok (.getfield 74, 3) := dk_180 0 74 (dk_at dksX11_border_2 7 rfl rfl)
theorem dX11_border_58 : decode cX11_border 58 = .ok (.bipush 60, 2) := dk_16 60 (dk_at dksX11_border_2 10 rfl rfl)
theorem dX11_border_60 : decode cX11_border 60 = .ok (.if_icmp .ne 6, 3) := dk_160 0 6 (dk_at dksX11_border_2 12 rfl rfl)
theorem dX11_border_63 : decode cX11_border 63 = .ok (.bipush (-5), 2) := dk_16 251 (dk_at dksX11_border_2 15 rfl rfl)
theorem dX11_border_65 : decode cX11_border 65 = .ok (.ireturn, 1) := dk_172 (dk_at dksX11_border_2 17 rfl rfl)
theorem dX11_border_66 : decode cX11_border 66 = .ok (.aload_n 0, 1) := dk_42 (dk_at dksX11_border_2 18 rfl rfl)
theorem dX11_border_67 : decode cX11_border 67 = .ok (.getfield 77, 3) := dk_180 0 77 (dk_at dksX11_border_2 19 rfl rfl)
theorem dX11_border_70 : decode cX11_border 70 = .ok (.aload_n 0, 1) := dk_42 (dk_at dksX11_border_2 22 rfl rfl)
theorem dX11_border_71 : decode cX11_border 71 = .ok (.getfield 74, 3) := dk_180 0 74 (dk_at dksX11_border_3 0 rfl rfl)
theorem dX11_border_74 : decode cX11_border 74 = .ok (.iload_n 1, 1) := dk_27 (dk_at dksX11_border_3 3 rfl rfl)
theorem dX11_border_75 : decode cX11_border 75 = .ok (.iastore, 1) := dk_79 (dk_at dksX11_border_3 4 rfl rfl)
theorem dX11_border_76 : decode cX11_border 76 = .ok (.aload_n 0, 1) := dk_42 (dk_at dksX11_border_3 5 rfl rfl)
theorem dX11_border_77 : decode cX11_border 77 = .ok (.getfield 80, 3) := dk_180 0 80 (dk_at dksX11_border_3 6 rfl rfl)
theorem dX11_border_80 : decode cX11_border 80 = .ok (.aload_n 0, 1) := dk_42 (dk_at dksX11_border_3 9 rfl rfl)
theorem dX11_border_81 : decode cX11_border 81 = .ok (.getfield 74, 3) := dk_180 0 74 (dk_at dksX11_border_3 10 rfl rfl)
theorem dX11_border_84 : decode cX11_border 84 = .ok (.iload_n 2, 1) := dk_28 (dk_at dksX11_border_3 13 rfl rfl)
theorem dX11_border_85 : decode cX11_border 85 = .ok (.iastore, 1) := dk_79 (dk_at dksX11_border_3 14 rfl rfl)
theorem dX11_border_86 : decode cX11_border 86 = .ok (.aload_n 0, 1) := dk_42 (dk_at dksX11_border_3 15 rfl rfl)
theorem dX11_border_87 : decode cX11_border 87 = .ok (.getfield 83, 3) := dk_180 0 83 (dk_at dksX11_border_3 16 rfl rfl)
theorem dX11_border_90 : decode cX11_border 90 = .ok (.aload_n 0, 1) := dk_42 (dk_at dksX11_border_3 19 rfl rfl)
theorem dX11_border_91 : decode cX11_border 91 = .ok (.getfield 74, 3) := dk_180 0 74 (dk_at dksX11_border_3 20 rfl rfl)
theorem dX11_border_94 : decode cX11_border 94 = .ok (.iload_n 3, 1) := dk_29 (dk_at dksX11_border_3 23 rfl rfl)
theorem dX11_border_95 : decode cX11_border 95 = .ok (.iastore, 1) := dk_79 (dk_at dksX11_border_4 0 rfl rfl)
theorem dX11_border_96 : decode cX11_border 96 = .ok (.aload_n 0, 1) := dk_42 (dk_at dksX11_border_4 1 rfl rfl)
theorem dX11_border_97 : decode cX11_border 97 = .ok (.getfield 86, 3) := dk_180 0 86 (dk_at dksX11_border_4 2 rfl rfl)
theorem dX11_border_100 : decode cX11_border 100 = .ok (.aload_n 0, 1) := dk_42 (dk_at dksX11_border_4 5 rfl rfl)
theorem dX11_border_101 : decode cX11_border 101 = .ok (.getfield 74, 3) := dk_180 0 74 (dk_at dksX11_border_4 6 rfl rfl)
theorem dX11_border_104 : decode cX11_border 104 = .ok (.iload 4, 2) := dk_21 4 (dk_at dksX11_border_4 9 rfl rfl)
theorem dX11_border_106 : decode cX11_border 106 = .ok (.iastore, 1) := dk_79 (dk_at dksX11_border_4 11 rfl rfl)
theorem dX11_border_107 : decode cX11_border 107 = .ok (.aload_n 0, 1) := dk_42 (dk_at dksX11_border_4 12 rfl rfl)
theorem dX11_border_108 : decode cX11_border 108 = .ok (.dup, 1) := dk_89 (dk_at dksX11_border_4 13 rfl rfl)
theorem dX11_border_109 : decode cX11_border 109 = .ok (.getfield 74, 3) := dk_180 0 74 (dk_at dksX11_border_4 14 rfl rfl)
theorem dX11_border_112 : decode cX11_border 112 = .ok (.iconst 1, 1) := dk_4 (dk_at dksX11_border_4 17 rfl rfl)
theorem dX11_border_113 : decode cX11_border 113 = .ok (.iadd, 1) := dk_96 (dk_at dksX11_border_4 18 rfl rfl)
theorem dX11_border_114 : decode cX11_border 114 = .ok (.putfield 74, 3) := dk_181 0 74 (dk_at dksX11_border_4 19 rfl rfl)
theorem dX11_border_117 : decode cX11_border 117 = .ok (.aload_n 0, 1) := dk_42 (dk_at dksX11_border_4 22 rfl rfl)
theorem dX11_border_118 : decode cX11_border 118 = .ok (.iconst 2, 1) := dk_5 (dk_at dksX11_border_4 23 rfl rfl)
theorem dX11_border_119 : decode cX11_border 119 = .ok (.iload_n 1, 1) := dk_27 (dk_at dksX11_border_5 0 rfl rfl)
theorem dX11_border_120 : decode cX11_border 120 = .ok (.iload_n 2, 1) := dk_28 (dk_at dksX11_border_5 1 rfl rfl)
theorem dX11_border_121 : decode cX11_border 121 = .ok (.iload_n 3, 1) := dk_29 (dk_at dksX11_border_5 2 rfl rfl)
theorem dX11_border_122 : decode cX11_border 122 = .ok (.iload 4, 2) := dk_21 4 (dk_at dksX11_border_5 3 rfl rfl)
theorem dX11_border_124 : decode cX11_border 124 = .ok (.invokevirtual 22, 3) := dk_182 0 22 (dk_at dksX11_border_5 5 rfl rfl)
theorem dX11_border_127 : decode cX11_border 127 = .ok (.aload_n 0, 1) := dk_42 (dk_at dksX11_border_5 8 rfl rfl)
theorem dX11_border_128 : decode cX11_border 128 = .ok (.getfield 74, 3) := dk_180 0 74 (dk_at dksX11_border_5 9 rfl rfl)
theorem dX11_border_131 : decode cX11_border 131 = .ok (.ireturn, 1) := dk_172 (dk_at dksX11_border_5 12 rfl rfl)
abbrev cX11_isDay : ByteArray := prog_17_method_5_code
def yX11_isDay : MethodName := ⟨RX11, "isDay", "(I)Z"⟩
def dkwX11_isDay_0 : List UInt8 := [26, 133, 20, 0, 26, 20, 0, 20, 184, 0, 13, 172]
abbrev dktX11_isDay_0 : List UInt8 := dkwX11_isDay_0 ++ []
theorem dksX11_isDay_0 : cX11_isDay.data.toList.drop 0 = dktX11_isDay_0 := by decide +kernel
theorem dX11_isDay_0 : decode cX11_isDay 0 = .ok (.iload_n 0, 1) := dk_26 (dk_at dksX11_isDay_0 0 rfl rfl)
theorem dX11_isDay_1 : decode cX11_isDay 1 = .ok (.i2l, 1) := dk_133 (dk_at dksX11_isDay_0 1 rfl rfl)
theorem dX11_isDay_2 : decode cX11_isDay 2 = .ok (.ldc2_w 26, 3) := dk_20 0 26 (dk_at dksX11_isDay_0 2 rfl rfl)
theorem dX11_isDay_5 : decode cX11_isDay 5 = .ok (.ldc2_w 20, 3) := dk_20 0 20 (dk_at dksX11_isDay_0 5 rfl rfl)
theorem dX11_isDay_8 : decode cX11_isDay 8 = .ok (.invokestatic 13, 3) := dk_184 0 13 (dk_at dksX11_isDay_0 8 rfl rfl)
theorem dX11_isDay_11 : decode cX11_isDay 11 = .ok (.ireturn, 1) := dk_172 (dk_at dksX11_isDay_0 11 rfl rfl)
abbrev cX11_areaOf : ByteArray := prog_17_method_15_code
def yX11_areaOf : MethodName := ⟨RX11, "areaOf", "(III)I"⟩
def dkwX11_areaOf_1 : List UInt8 := [29, 184, 0, 70, 154, 0, 8, 16, 254, 167, 0, 10, 42, 27, 28, 29, 182, 0, 89, 172]
abbrev dktX11_areaOf_1 : List UInt8 := dkwX11_areaOf_1 ++ []
def dkwX11_areaOf_0 : List UInt8 := [27, 133, 9, 20, 0, 59, 184, 0, 13, 153, 0, 22, 28, 133, 9, 20, 0, 68, 184, 0, 13, 153, 0, 10]
abbrev dktX11_areaOf_0 : List UInt8 := dkwX11_areaOf_0 ++ dktX11_areaOf_1
theorem dksX11_areaOf_0 : cX11_areaOf.data.toList.drop 0 = dktX11_areaOf_0 := by decide +kernel
theorem dksX11_areaOf_1 : cX11_areaOf.data.toList.drop 24 = dktX11_areaOf_1 := dk_seg dksX11_areaOf_0 24 rfl rfl
theorem dX11_areaOf_0 : decode cX11_areaOf 0 = .ok (.iload_n 1, 1) := dk_27 (dk_at dksX11_areaOf_0 0 rfl rfl)
theorem dX11_areaOf_1 : decode cX11_areaOf 1 = .ok (.i2l, 1) := dk_133 (dk_at dksX11_areaOf_0 1 rfl rfl)
theorem dX11_areaOf_2 : decode cX11_areaOf 2 = .ok (.lconst 0, 1) := dk_9 (dk_at dksX11_areaOf_0 2 rfl rfl)
theorem dX11_areaOf_3 : decode cX11_areaOf 3 = .ok (.ldc2_w 59, 3) := dk_20 0 59 (dk_at dksX11_areaOf_0 3 rfl rfl)
theorem dX11_areaOf_6 : decode cX11_areaOf 6 = .ok (.invokestatic 13, 3) := dk_184 0 13 (dk_at dksX11_areaOf_0 6 rfl rfl)
theorem dX11_areaOf_9 : decode cX11_areaOf 9 = .ok (.ifCond .eq 22, 3) := dk_153 0 22 (dk_at dksX11_areaOf_0 9 rfl rfl)
theorem dX11_areaOf_12 : decode cX11_areaOf 12 = .ok (.iload_n 2, 1) := dk_28 (dk_at dksX11_areaOf_0 12 rfl rfl)
theorem dX11_areaOf_13 : decode cX11_areaOf 13 = .ok (.i2l, 1) := dk_133 (dk_at dksX11_areaOf_0 13 rfl rfl)
theorem dX11_areaOf_14 : decode cX11_areaOf 14 = .ok (.lconst 0, 1) := dk_9 (dk_at dksX11_areaOf_0 14 rfl rfl)
theorem dX11_areaOf_15 : decode cX11_areaOf 15 = .ok (.ldc2_w 68, 3) := dk_20 0 68 (dk_at dksX11_areaOf_0 15 rfl rfl)
theorem dX11_areaOf_18 : decode cX11_areaOf 18 = .ok (.invokestatic 13, 3) := dk_184 0 13 (dk_at dksX11_areaOf_0 18 rfl rfl)
theorem dX11_areaOf_21 : decode cX11_areaOf 21 = .ok (.ifCond .eq 10, 3) := dk_153 0 10 (dk_at dksX11_areaOf_0 21 rfl rfl)
theorem dX11_areaOf_24 : decode cX11_areaOf 24 = .ok (.iload_n 3, 1) := dk_29 (dk_at dksX11_areaOf_1 0 rfl rfl)
theorem dX11_areaOf_25 : decode cX11_areaOf 25 = .ok (.invokestatic 70, 3) := dk_184 0 70 (dk_at dksX11_areaOf_1 1 rfl rfl)
theorem dX11_areaOf_28 : decode cX11_areaOf 28 = .ok (.ifCond .ne 8, 3) := dk_154 0 8 (dk_at dksX11_areaOf_1 4 rfl rfl)
theorem dX11_areaOf_31 : decode cX11_areaOf 31 = .ok (.bipush (-2), 2) := dk_16 254 (dk_at dksX11_areaOf_1 7 rfl rfl)
theorem dX11_areaOf_33 : decode cX11_areaOf 33 = .ok (.goto 10, 3) := dk_167 0 10 (dk_at dksX11_areaOf_1 9 rfl rfl)
theorem dX11_areaOf_36 : decode cX11_areaOf 36 = .ok (.aload_n 0, 1) := dk_42 (dk_at dksX11_areaOf_1 12 rfl rfl)
theorem dX11_areaOf_37 : decode cX11_areaOf 37 = .ok (.iload_n 1, 1) := dk_27 (dk_at dksX11_areaOf_1 13 rfl rfl)
theorem dX11_areaOf_38 : decode cX11_areaOf 38 = .ok (.iload_n 2, 1) := dk_28 (dk_at dksX11_areaOf_1 14 rfl rfl)
theorem dX11_areaOf_39 : decode cX11_areaOf 39 = .ok (.iload_n 3, 1) := dk_29 (dk_at dksX11_areaOf_1 15 rfl rfl)
theorem dX11_areaOf_40 : decode cX11_areaOf 40 = .ok (.invokevirtual 89, 3) := dk_182 0 89 (dk_at dksX11_areaOf_1 16 rfl rfl)
theorem dX11_areaOf_43 : decode cX11_areaOf 43 = .ok (.ireturn, 1) := dk_172 (dk_at dksX11_areaOf_1 19 rfl rfl)
abbrev cX11_lies : ByteArray := prog_17_method_14_code
def yX11_lies : MethodName := ⟨RX11, "lies", "(III)I"⟩
def dkwX11_lies_4 : List UInt8 := [167, 255, 167, 21, 4, 172]
abbrev dktX11_lies_4 : List UInt8 := dkwX11_lies_4 ++ []
def dkwX11_lies_3 : List UInt8 := [54, 6, 21, 6, 153, 0, 13, 42, 180, 0, 77, 21, 5, 46, 167, 0, 5, 21, 4, 54, 4, 132, 5, 1]
abbrev dktX11_lies_3 : List UInt8 := dkwX11_lies_3 ++ dktX11_lies_4
def dkwX11_lies_2 : List UInt8 := [46, 133, 184, 0, 13, 153, 0, 18, 42, 180, 0, 86, 21, 5, 46, 29, 163, 0, 7, 4, 167, 0, 4, 3]
abbrev dktX11_lies_2 : List UInt8 := dkwX11_lies_2 ++ dktX11_lies_3
def dkwX11_lies_1 : List UInt8 := [21, 5, 46, 46, 27, 160, 0, 42, 28, 133, 42, 180, 0, 80, 21, 5, 46, 133, 42, 180, 0, 83, 21, 5]
abbrev dktX11_lies_1 : List UInt8 := dkwX11_lies_1 ++ dktX11_lies_2
def dkwX11_lies_0 : List UInt8 := [2, 54, 4, 3, 54, 5, 21, 5, 42, 180, 0, 74, 162, 0, 86, 42, 180, 0, 64, 42, 180, 0, 77]
abbrev dktX11_lies_0 : List UInt8 := dkwX11_lies_0 ++ dktX11_lies_1
theorem dksX11_lies_0 : cX11_lies.data.toList.drop 0 = dktX11_lies_0 := by decide +kernel
theorem dksX11_lies_1 : cX11_lies.data.toList.drop 23 = dktX11_lies_1 := dk_seg dksX11_lies_0 23 rfl rfl
theorem dksX11_lies_2 : cX11_lies.data.toList.drop 47 = dktX11_lies_2 := dk_seg dksX11_lies_1 24 rfl rfl
theorem dksX11_lies_3 : cX11_lies.data.toList.drop 71 = dktX11_lies_3 := dk_seg dksX11_lies_2 24 rfl rfl
theorem dksX11_lies_4 : cX11_lies.data.toList.drop 95 = dktX11_lies_4 := dk_seg dksX11_lies_3 24 rfl rfl
theorem dX11_lies_0 : decode cX11_lies 0 = .ok (.iconst (-1), 1) := dk_2 (dk_at dksX11_lies_0 0 rfl rfl)
theorem dX11_lies_1 : decode cX11_lies 1 = .ok (.istore 4, 2) := dk_54 4 (dk_at dksX11_lies_0 1 rfl rfl)
theorem dX11_lies_3 : decode cX11_lies 3 = .ok (.iconst 0, 1) := dk_3 (dk_at dksX11_lies_0 3 rfl rfl)
theorem dX11_lies_4 : decode cX11_lies 4 = .ok (.istore 5, 2) := dk_54 5 (dk_at dksX11_lies_0 4 rfl rfl)
theorem dX11_lies_6 : decode cX11_lies 6 = .ok (.iload 5, 2) := dk_21 5 (dk_at dksX11_lies_0 6 rfl rfl)
theorem dX11_lies_8 : decode cX11_lies 8 = .ok (.aload_n 0, 1) := dk_42 (dk_at dksX11_lies_0 8 rfl rfl)
theorem dX11_lies_9 : decode cX11_lies 9 = .ok (.getfield 74, 3) := dk_180 0 74 (dk_at dksX11_lies_0 9 rfl rfl)
theorem dX11_lies_12 : decode cX11_lies 12 = .ok (.if_icmp .ge 86, 3) := dk_162 0 86 (dk_at dksX11_lies_0 12 rfl rfl)
theorem dX11_lies_15 : decode cX11_lies 15 = .ok (.aload_n 0, 1) := dk_42 (dk_at dksX11_lies_0 15 rfl rfl)
theorem dX11_lies_16 : decode cX11_lies 16 = .ok (.getfield 64, 3) := dk_180 0 64 (dk_at dksX11_lies_0 16 rfl rfl)
theorem dX11_lies_19 : decode cX11_lies 19 = .ok (.aload_n 0, 1) := dk_42 (dk_at dksX11_lies_0 19 rfl rfl)
theorem dX11_lies_20 : decode cX11_lies 20 = .ok (.getfield 77, 3) := dk_180 0 77 (dk_at dksX11_lies_0 20 rfl rfl)
theorem dX11_lies_23 : decode cX11_lies 23 = .ok (.iload 5, 2) := dk_21 5 (dk_at dksX11_lies_1 0 rfl rfl)
theorem dX11_lies_25 : decode cX11_lies 25 = .ok (.iaload, 1) := dk_46 (dk_at dksX11_lies_1 2 rfl rfl)
theorem dX11_lies_26 : decode cX11_lies 26 = .ok (.iaload, 1) := dk_46 (dk_at dksX11_lies_1 3 rfl rfl)
theorem dX11_lies_27 : decode cX11_lies 27 = .ok (.iload_n 1, 1) := dk_27 (dk_at dksX11_lies_1 4 rfl rfl)
theorem dX11_lies_28 : decode cX11_lies 28 = .ok (.if_icmp .ne 42, 3) := dk_160 0 42 (dk_at dksX11_lies_1 5 rfl rfl)
theorem dX11_lies_31 : decode cX11_lies 31 = .ok (.iload_n 2, 1) := dk_28 (dk_at dksX11_lies_1 8 rfl rfl)
theorem dX11_lies_32 : decode cX11_lies 32 = .ok (.i2l, 1) := dk_133 (dk_at dksX11_lies_1 9 rfl rfl)
theorem dX11_lies_33 : decode cX11_lies 33 = .ok (.aload_n 0, 1) := dk_42 (dk_at dksX11_lies_1 10 rfl rfl)
theorem dX11_lies_34 : decode cX11_lies 34 = .ok (.getfield 80, 3) := dk_180 0 80 (dk_at dksX11_lies_1 11 rfl rfl)
theorem dX11_lies_37 : decode cX11_lies 37 = .ok (.iload 5, 2) := dk_21 5 (dk_at dksX11_lies_1 14 rfl rfl)
theorem dX11_lies_39 : decode cX11_lies 39 = .ok (.iaload, 1) := dk_46 (dk_at dksX11_lies_1 16 rfl rfl)
theorem dX11_lies_40 : decode cX11_lies 40 = .ok (.i2l, 1) := dk_133 (dk_at dksX11_lies_1 17 rfl rfl)
theorem dX11_lies_41 : decode cX11_lies 41 = .ok (.aload_n 0, 1) := dk_42 (dk_at dksX11_lies_1 18 rfl rfl)
theorem dX11_lies_42 : decode cX11_lies 42 = .ok (.getfield 83, 3) := dk_180 0 83 (dk_at dksX11_lies_1 19 rfl rfl)
theorem dX11_lies_45 : decode cX11_lies 45 = .ok (.iload 5, 2) := dk_21 5 (dk_at dksX11_lies_1 22 rfl rfl)
theorem dX11_lies_47 : decode cX11_lies 47 = .ok (.iaload, 1) := dk_46 (dk_at dksX11_lies_2 0 rfl rfl)
theorem dX11_lies_48 : decode cX11_lies 48 = .ok (.i2l, 1) := dk_133 (dk_at dksX11_lies_2 1 rfl rfl)
theorem dX11_lies_49 : decode cX11_lies 49 = .ok (.invokestatic 13, 3) := dk_184 0 13 (dk_at dksX11_lies_2 2 rfl rfl)
theorem dX11_lies_52 : decode cX11_lies 52 = .ok (.ifCond .eq 18, 3) := dk_153 0 18 (dk_at dksX11_lies_2 5 rfl rfl)
theorem dX11_lies_55 : decode cX11_lies 55 = .ok (.aload_n 0, 1) := dk_42 (dk_at dksX11_lies_2 8 rfl rfl)
theorem dX11_lies_56 : decode cX11_lies 56 = .ok (.getfield 86, 3) := dk_180 0 86 (dk_at dksX11_lies_2 9 rfl rfl)
theorem dX11_lies_59 : decode cX11_lies 59 = .ok (.iload 5, 2) := dk_21 5 (dk_at dksX11_lies_2 12 rfl rfl)
theorem dX11_lies_61 : decode cX11_lies 61 = .ok (.iaload, 1) := dk_46 (dk_at dksX11_lies_2 14 rfl rfl)
theorem dX11_lies_62 : decode cX11_lies 62 = .ok (.iload_n 3, 1) := dk_29 (dk_at dksX11_lies_2 15 rfl rfl)
theorem dX11_lies_63 : decode cX11_lies 63 = .ok (.if_icmp .gt 7, 3) := dk_163 0 7 (dk_at dksX11_lies_2 16 rfl rfl)
theorem dX11_lies_66 : decode cX11_lies 66 = .ok (.iconst 1, 1) := dk_4 (dk_at dksX11_lies_2 19 rfl rfl)
theorem dX11_lies_67 : decode cX11_lies 67 = .ok (.goto 4, 3) := dk_167 0 4 (dk_at dksX11_lies_2 20 rfl rfl)
theorem dX11_lies_70 : decode cX11_lies 70 = .ok (.iconst 0, 1) := dk_3 (dk_at dksX11_lies_2 23 rfl rfl)
theorem dX11_lies_71 : decode cX11_lies 71 = .ok (.istore 6, 2) := dk_54 6 (dk_at dksX11_lies_3 0 rfl rfl)
theorem dX11_lies_73 : decode cX11_lies 73 = .ok (.iload 6, 2) := dk_21 6 (dk_at dksX11_lies_3 2 rfl rfl)
theorem dX11_lies_75 : decode cX11_lies 75 = .ok (.ifCond .eq 13, 3) := dk_153 0 13 (dk_at dksX11_lies_3 4 rfl rfl)
theorem dX11_lies_78 : decode cX11_lies 78 = .ok (.aload_n 0, 1) := dk_42 (dk_at dksX11_lies_3 7 rfl rfl)
theorem dX11_lies_79 : decode cX11_lies 79 = .ok (.getfield 77, 3) := dk_180 0 77 (dk_at dksX11_lies_3 8 rfl rfl)
theorem dX11_lies_82 : decode cX11_lies 82 = .ok (.iload 5, 2) := dk_21 5 (dk_at dksX11_lies_3 11 rfl rfl)
theorem dX11_lies_84 : decode cX11_lies 84 = .ok (.iaload, 1) := dk_46 (dk_at dksX11_lies_3 13 rfl rfl)
theorem dX11_lies_85 : decode cX11_lies 85 = .ok (.goto 5, 3) := dk_167 0 5 (dk_at dksX11_lies_3 14 rfl rfl)
theorem dX11_lies_88 : decode cX11_lies 88 = .ok (.iload 4, 2) := dk_21 4 (dk_at dksX11_lies_3 17 rfl rfl)
theorem dX11_lies_90 : decode cX11_lies 90 = .ok (.istore 4, 2) := dk_54 4 (dk_at dksX11_lies_3 19 rfl rfl)
theorem dX11_lies_92 : decode cX11_lies 92 = .ok (.iinc 5 1, 3) := dk_132 5 1 (dk_at dksX11_lies_3 21 rfl rfl)
theorem dX11_lies_95 : decode cX11_lies 95 = .ok (.goto (-89), 3) := dk_167 255 167 (dk_at dksX11_lies_4 0 rfl rfl)
theorem dX11_lies_98 : decode cX11_lies 98 = .ok (.iload 4, 2) := dk_21 4 (dk_at dksX11_lies_4 3 rfl rfl)
theorem dX11_lies_100 : decode cX11_lies 100 = .ok (.ireturn, 1) := dk_172 (dk_at dksX11_lies_4 5 rfl rfl)
abbrev cX11_person : ByteArray := prog_17_method_17_code
def yX11_person : MethodName := ⟨RX11, "person", "(III)I"⟩
def dkwX11_person_4 : List UInt8 := [180, 0, 92, 90, 4, 96, 181, 0, 92, 172]
abbrev dktX11_person_4 : List UInt8 := dkwX11_person_4 ++ []
def dkwX11_person_3 : List UInt8 := [79, 42, 180, 0, 107, 42, 180, 0, 92, 18, 42, 79, 42, 6, 27, 28, 29, 3, 182, 0, 22, 42, 89]
abbrev dktX11_person_3 : List UInt8 := dkwX11_person_3 ++ dktX11_person_4
def dkwX11_person_2 : List UInt8 := [180, 0, 92, 27, 79, 42, 180, 0, 101, 42, 180, 0, 92, 28, 79, 42, 180, 0, 104, 42, 180, 0, 92, 29]
abbrev dktX11_person_2 : List UInt8 := dkwX11_person_2 ++ dktX11_person_3
def dkwX11_person_1 : List UInt8 := [160, 0, 6, 16, 251, 172, 42, 180, 0, 95, 42, 180, 0, 92, 21, 4, 79, 42, 180, 0, 98, 42]
abbrev dktX11_person_1 : List UInt8 := dkwX11_person_1 ++ dktX11_person_2
def dkwX11_person_0 : List UInt8 := [27, 28, 29, 184, 0, 48, 54, 4, 21, 4, 18, 42, 160, 0, 6, 16, 254, 172, 42, 180, 0, 92, 16, 60]
abbrev dktX11_person_0 : List UInt8 := dkwX11_person_0 ++ dktX11_person_1
theorem dksX11_person_0 : cX11_person.data.toList.drop 0 = dktX11_person_0 := by decide +kernel
theorem dksX11_person_1 : cX11_person.data.toList.drop 24 = dktX11_person_1 := dk_seg dksX11_person_0 24 rfl rfl
theorem dksX11_person_2 : cX11_person.data.toList.drop 46 = dktX11_person_2 := dk_seg dksX11_person_1 22 rfl rfl
theorem dksX11_person_3 : cX11_person.data.toList.drop 70 = dktX11_person_3 := dk_seg dksX11_person_2 24 rfl rfl
theorem dksX11_person_4 : cX11_person.data.toList.drop 93 = dktX11_person_4 := dk_seg dksX11_person_3 23 rfl rfl
theorem dX11_person_0 : decode cX11_person 0 = .ok (.iload_n 1, 1) := dk_27 (dk_at dksX11_person_0 0 rfl rfl)
theorem dX11_person_1 : decode cX11_person 1 = .ok (.iload_n 2, 1) := dk_28 (dk_at dksX11_person_0 1 rfl rfl)
theorem dX11_person_2 : decode cX11_person 2 = .ok (.iload_n 3, 1) := dk_29 (dk_at dksX11_person_0 2 rfl rfl)
theorem dX11_person_3 : decode cX11_person 3 = .ok (.invokestatic 48, 3) := dk_184 0 48 (dk_at dksX11_person_0 3 rfl rfl)
theorem dX11_person_6 : decode cX11_person 6 = .ok (.istore 4, 2) := dk_54 4 (dk_at dksX11_person_0 6 rfl rfl)
theorem dX11_person_8 : decode cX11_person 8 = .ok (.iload 4, 2) := dk_21 4 (dk_at dksX11_person_0 8 rfl rfl)
theorem dX11_person_10 : decode cX11_person 10 = .ok (.ldc 42, 2) := dk_18 42 (dk_at dksX11_person_0 10 rfl rfl)
theorem dX11_person_12 : decode cX11_person 12 = .ok (.if_icmp .ne 6, 3) := dk_160 0 6 (dk_at dksX11_person_0 12 rfl rfl)
theorem dX11_person_15 : decode cX11_person 15 = .ok (.bipush (-2), 2) := dk_16 254 (dk_at dksX11_person_0 15 rfl rfl)
theorem dX11_person_17 : decode cX11_person 17 = .ok (.ireturn, 1) := dk_172 (dk_at dksX11_person_0 17 rfl rfl)
theorem dX11_person_18 : decode cX11_person 18 = .ok (.aload_n 0, 1) := dk_42 (dk_at dksX11_person_0 18 rfl rfl)
theorem dX11_person_19 : decode cX11_person 19 = .ok (.getfield 92, 3) := dk_180 0 92 (dk_at dksX11_person_0 19 rfl rfl)
theorem dX11_person_22 : decode cX11_person 22 = .ok (.bipush 60, 2) := dk_16 60 (dk_at dksX11_person_0 22 rfl rfl)
theorem dX11_person_24 : decode cX11_person 24 = .ok (.if_icmp .ne 6, 3) := dk_160 0 6 (dk_at dksX11_person_1 0 rfl rfl)
theorem dX11_person_27 : decode cX11_person 27 = .ok (.bipush (-5), 2) := dk_16 251 (dk_at dksX11_person_1 3 rfl rfl)
theorem dX11_person_29 : decode cX11_person 29 = .ok (.ireturn, 1) := dk_172 (dk_at dksX11_person_1 5 rfl rfl)
theorem dX11_person_30 : decode cX11_person 30 = .ok (.aload_n 0, 1) := dk_42 (dk_at dksX11_person_1 6 rfl rfl)
theorem dX11_person_31 : decode cX11_person 31 = .ok (.getfield 95, 3) := dk_180 0 95 (dk_at dksX11_person_1 7 rfl rfl)
theorem dX11_person_34 : decode cX11_person 34 = .ok (.aload_n 0, 1) := dk_42 (dk_at dksX11_person_1 10 rfl rfl)
theorem dX11_person_35 : decode cX11_person 35 = .ok (.getfield 92, 3) := dk_180 0 92 (dk_at dksX11_person_1 11 rfl rfl)
theorem dX11_person_38 : decode cX11_person 38 = .ok (.iload 4, 2) := dk_21 4 (dk_at dksX11_person_1 14 rfl rfl)
theorem dX11_person_40 : decode cX11_person 40 = .ok (.iastore, 1) := dk_79 (dk_at dksX11_person_1 16 rfl rfl)
theorem dX11_person_41 : decode cX11_person 41 = .ok (.aload_n 0, 1) := dk_42 (dk_at dksX11_person_1 17 rfl rfl)
theorem dX11_person_42 : decode cX11_person 42 = .ok (.getfield 98, 3) := dk_180 0 98 (dk_at dksX11_person_1 18 rfl rfl)
theorem dX11_person_45 : decode cX11_person 45 = .ok (.aload_n 0, 1) := dk_42 (dk_at dksX11_person_1 21 rfl rfl)
theorem dX11_person_46 : decode cX11_person 46 = .ok (.getfield 92, 3) := dk_180 0 92 (dk_at dksX11_person_2 0 rfl rfl)
theorem dX11_person_49 : decode cX11_person 49 = .ok (.iload_n 1, 1) := dk_27 (dk_at dksX11_person_2 3 rfl rfl)
theorem dX11_person_50 : decode cX11_person 50 = .ok (.iastore, 1) := dk_79 (dk_at dksX11_person_2 4 rfl rfl)
theorem dX11_person_51 : decode cX11_person 51 = .ok (.aload_n 0, 1) := dk_42 (dk_at dksX11_person_2 5 rfl rfl)
theorem dX11_person_52 : decode cX11_person 52 = .ok (.getfield 101, 3) := dk_180 0 101 (dk_at dksX11_person_2 6 rfl rfl)
theorem dX11_person_55 : decode cX11_person 55 = .ok (.aload_n 0, 1) := dk_42 (dk_at dksX11_person_2 9 rfl rfl)
theorem dX11_person_56 : decode cX11_person 56 = .ok (.getfield 92, 3) := dk_180 0 92 (dk_at dksX11_person_2 10 rfl rfl)
theorem dX11_person_59 : decode cX11_person 59 = .ok (.iload_n 2, 1) := dk_28 (dk_at dksX11_person_2 13 rfl rfl)
theorem dX11_person_60 : decode cX11_person 60 = .ok (.iastore, 1) := dk_79 (dk_at dksX11_person_2 14 rfl rfl)
theorem dX11_person_61 : decode cX11_person 61 = .ok (.aload_n 0, 1) := dk_42 (dk_at dksX11_person_2 15 rfl rfl)
theorem dX11_person_62 : decode cX11_person 62 = .ok (.getfield 104, 3) := dk_180 0 104 (dk_at dksX11_person_2 16 rfl rfl)
theorem dX11_person_65 : decode cX11_person 65 = .ok (.aload_n 0, 1) := dk_42 (dk_at dksX11_person_2 19 rfl rfl)
theorem dX11_person_66 : decode cX11_person 66 = .ok (.getfield 92, 3) := dk_180 0 92 (dk_at dksX11_person_2 20 rfl rfl)
theorem dX11_person_69 : decode cX11_person 69 = .ok (.iload_n 3, 1) := dk_29 (dk_at dksX11_person_2 23 rfl rfl)
theorem dX11_person_70 : decode cX11_person 70 = .ok (.iastore, 1) := dk_79 (dk_at dksX11_person_3 0 rfl rfl)
theorem dX11_person_71 : decode cX11_person 71 = .ok (.aload_n 0, 1) := dk_42 (dk_at dksX11_person_3 1 rfl rfl)
theorem dX11_person_72 : decode cX11_person 72 = .ok (.getfield 107, 3) := dk_180 0 107 (dk_at dksX11_person_3 2 rfl rfl)
theorem dX11_person_75 : decode cX11_person 75 = .ok (.aload_n 0, 1) := dk_42 (dk_at dksX11_person_3 5 rfl rfl)
theorem dX11_person_76 : decode cX11_person 76 = .ok (.getfield 92, 3) := dk_180 0 92 (dk_at dksX11_person_3 6 rfl rfl)
theorem dX11_person_79 : decode cX11_person 79 = .ok (.ldc 42, 2) := dk_18 42 (dk_at dksX11_person_3 9 rfl rfl)
theorem dX11_person_81 : decode cX11_person 81 = .ok (.iastore, 1) := dk_79 (dk_at dksX11_person_3 11 rfl rfl)
theorem dX11_person_82 : decode cX11_person 82 = .ok (.aload_n 0, 1) := dk_42 (dk_at dksX11_person_3 12 rfl rfl)
theorem dX11_person_83 : decode cX11_person 83 = .ok (.iconst 3, 1) := dk_6 (dk_at dksX11_person_3 13 rfl rfl)
theorem dX11_person_84 : decode cX11_person 84 = .ok (.iload_n 1, 1) := dk_27 (dk_at dksX11_person_3 14 rfl rfl)
theorem dX11_person_85 : decode cX11_person 85 = .ok (.iload_n 2, 1) := dk_28 (dk_at dksX11_person_3 15 rfl rfl)
theorem dX11_person_86 : decode cX11_person 86 = .ok (.iload_n 3, 1) := dk_29 (dk_at dksX11_person_3 16 rfl rfl)
theorem dX11_person_87 : decode cX11_person 87 = .ok (.iconst 0, 1) := dk_3 (dk_at dksX11_person_3 17 rfl rfl)
theorem dX11_person_88 : decode cX11_person 88 = .ok (.invokevirtual 22, 3) := dk_182 0 22 (dk_at dksX11_person_3 18 rfl rfl)
theorem dX11_person_91 : decode cX11_person 91 = .ok (.aload_n 0, 1) := dk_42 (dk_at dksX11_person_3 21 rfl rfl)
theorem dX11_person_92 : decode cX11_person 92 = .ok (.dup, 1) := dk_89 (dk_at dksX11_person_3 22 rfl rfl)
theorem dX11_person_93 : decode cX11_person 93 = .ok (.getfield 92, 3) := dk_180 0 92 (dk_at dksX11_person_4 0 rfl rfl)
theorem dX11_person_96 : decode cX11_person 96 = .ok (.dup_x1, 1) := dk_90 (dk_at dksX11_person_4 3 rfl rfl)
theorem dX11_person_97 : decode cX11_person 97 = .ok (.iconst 1, 1) := dk_4 (dk_at dksX11_person_4 4 rfl rfl)
theorem dX11_person_98 : decode cX11_person 98 = .ok (.iadd, 1) := dk_96 (dk_at dksX11_person_4 5 rfl rfl)
theorem dX11_person_99 : decode cX11_person 99 = .ok (.putfield 92, 3) := dk_181 0 92 (dk_at dksX11_person_4 6 rfl rfl)
theorem dX11_person_102 : decode cX11_person 102 = .ok (.ireturn, 1) := dk_172 (dk_at dksX11_person_4 9 rfl rfl)
abbrev cX11_dayOf : ByteArray := prog_17_method_8_code
def yX11_dayOf : MethodName := ⟨RX11, "dayOf", "(III)I"⟩
def dkwX11_dayOf_5 : List UInt8 := [132, 4, 1, 167, 255, 238, 29, 172]
abbrev dktX11_dayOf_5 : List UInt8 := dkwX11_dayOf_5 ++ []
def dkwX11_dayOf_4 : List UInt8 := [132, 4, 1, 167, 255, 237, 4, 54, 4, 21, 4, 27, 162, 0, 18, 29, 26, 21, 4, 184, 0, 38, 96, 62]
abbrev dktX11_dayOf_4 : List UInt8 := dkwX11_dayOf_4 ++ dktX11_dayOf_5
def dkwX11_dayOf_3 : List UInt8 := [167, 255, 239, 26, 54, 4, 21, 4, 17, 7, 208, 162, 0, 17, 29, 21, 4, 184, 0, 28, 100, 62]
abbrev dktX11_dayOf_3 : List UInt8 := dkwX11_dayOf_3 ++ dktX11_dayOf_4
def dkwX11_dayOf_2 : List UInt8 := [62, 17, 7, 208, 54, 4, 21, 4, 26, 162, 0, 17, 29, 21, 4, 184, 0, 28, 96, 62, 132, 4, 1]
abbrev dktX11_dayOf_2 : List UInt8 := dkwX11_dayOf_2 ++ dktX11_dayOf_3
def dkwX11_dayOf_1 : List UInt8 := [153, 0, 18, 28, 133, 10, 26, 27, 184, 0, 38, 133, 184, 0, 13, 154, 0, 6, 18, 42, 172, 28, 4, 100]
abbrev dktX11_dayOf_1 : List UInt8 := dkwX11_dayOf_1 ++ dktX11_dayOf_2
def dkwX11_dayOf_0 : List UInt8 := [26, 133, 20, 0, 32, 20, 0, 34, 184, 0, 13, 153, 0, 30, 27, 133, 10, 20, 0, 36, 184, 0, 13]
abbrev dktX11_dayOf_0 : List UInt8 := dkwX11_dayOf_0 ++ dktX11_dayOf_1
theorem dksX11_dayOf_0 : cX11_dayOf.data.toList.drop 0 = dktX11_dayOf_0 := by decide +kernel
theorem dksX11_dayOf_1 : cX11_dayOf.data.toList.drop 23 = dktX11_dayOf_1 := dk_seg dksX11_dayOf_0 23 rfl rfl
theorem dksX11_dayOf_2 : cX11_dayOf.data.toList.drop 47 = dktX11_dayOf_2 := dk_seg dksX11_dayOf_1 24 rfl rfl
theorem dksX11_dayOf_3 : cX11_dayOf.data.toList.drop 70 = dktX11_dayOf_3 := dk_seg dksX11_dayOf_2 23 rfl rfl
theorem dksX11_dayOf_4 : cX11_dayOf.data.toList.drop 92 = dktX11_dayOf_4 := dk_seg dksX11_dayOf_3 22 rfl rfl
theorem dksX11_dayOf_5 : cX11_dayOf.data.toList.drop 116 = dktX11_dayOf_5 := dk_seg dksX11_dayOf_4 24 rfl rfl
theorem dX11_dayOf_0 : decode cX11_dayOf 0 = .ok (.iload_n 0, 1) := dk_26 (dk_at dksX11_dayOf_0 0 rfl rfl)
theorem dX11_dayOf_1 : decode cX11_dayOf 1 = .ok (.i2l, 1) := dk_133 (dk_at dksX11_dayOf_0 1 rfl rfl)
theorem dX11_dayOf_2 : decode cX11_dayOf 2 = .ok (.ldc2_w 32, 3) := dk_20 0 32 (dk_at dksX11_dayOf_0 2 rfl rfl)
theorem dX11_dayOf_5 : decode cX11_dayOf 5 = .ok (.ldc2_w 34, 3) := dk_20 0 34 (dk_at dksX11_dayOf_0 5 rfl rfl)
theorem dX11_dayOf_8 : decode cX11_dayOf 8 = .ok (.invokestatic 13, 3) := dk_184 0 13 (dk_at dksX11_dayOf_0 8 rfl rfl)
theorem dX11_dayOf_11 : decode cX11_dayOf 11 = .ok (.ifCond .eq 30, 3) := dk_153 0 30 (dk_at dksX11_dayOf_0 11 rfl rfl)
theorem dX11_dayOf_14 : decode cX11_dayOf 14 = .ok (.iload_n 1, 1) := dk_27 (dk_at dksX11_dayOf_0 14 rfl rfl)
theorem dX11_dayOf_15 : decode cX11_dayOf 15 = .ok (.i2l, 1) := dk_133 (dk_at dksX11_dayOf_0 15 rfl rfl)
theorem dX11_dayOf_16 : decode cX11_dayOf 16 = .ok (.lconst 1, 1) := dk_10 (dk_at dksX11_dayOf_0 16 rfl rfl)
theorem dX11_dayOf_17 : decode cX11_dayOf 17 = .ok (.ldc2_w 36, 3) := dk_20 0 36 (dk_at dksX11_dayOf_0 17 rfl rfl)
theorem dX11_dayOf_20 : decode cX11_dayOf 20 = .ok (.invokestatic 13, 3) := dk_184 0 13 (dk_at dksX11_dayOf_0 20 rfl rfl)
theorem dX11_dayOf_23 : decode cX11_dayOf 23 = .ok (.ifCond .eq 18, 3) := dk_153 0 18 (dk_at dksX11_dayOf_1 0 rfl rfl)
theorem dX11_dayOf_26 : decode cX11_dayOf 26 = .ok (.iload_n 2, 1) := dk_28 (dk_at dksX11_dayOf_1 3 rfl rfl)
theorem dX11_dayOf_27 : decode cX11_dayOf 27 = .ok (.i2l, 1) := dk_133 (dk_at dksX11_dayOf_1 4 rfl rfl)
theorem dX11_dayOf_28 : decode cX11_dayOf 28 = .ok (.lconst 1, 1) := dk_10 (dk_at dksX11_dayOf_1 5 rfl rfl)
theorem dX11_dayOf_29 : decode cX11_dayOf 29 = .ok (.iload_n 0, 1) := dk_26 (dk_at dksX11_dayOf_1 6 rfl rfl)
theorem dX11_dayOf_30 : decode cX11_dayOf 30 = .ok (.iload_n 1, 1) := dk_27 (dk_at dksX11_dayOf_1 7 rfl rfl)
theorem dX11_dayOf_31 : decode cX11_dayOf 31 = .ok (.invokestatic 38, 3) := dk_184 0 38 (dk_at dksX11_dayOf_1 8 rfl rfl)
theorem dX11_dayOf_34 : decode cX11_dayOf 34 = .ok (.i2l, 1) := dk_133 (dk_at dksX11_dayOf_1 11 rfl rfl)
theorem dX11_dayOf_35 : decode cX11_dayOf 35 = .ok (.invokestatic 13, 3) := dk_184 0 13 (dk_at dksX11_dayOf_1 12 rfl rfl)
theorem dX11_dayOf_38 : decode cX11_dayOf 38 = .ok (.ifCond .ne 6, 3) := dk_154 0 6 (dk_at dksX11_dayOf_1 15 rfl rfl)
theorem dX11_dayOf_41 : decode cX11_dayOf 41 = .ok (.ldc 42, 2) := dk_18 42 (dk_at dksX11_dayOf_1 18 rfl rfl)
theorem dX11_dayOf_43 : decode cX11_dayOf 43 = .ok (.ireturn, 1) := dk_172 (dk_at dksX11_dayOf_1 20 rfl rfl)
theorem dX11_dayOf_44 : decode cX11_dayOf 44 = .ok (.iload_n 2, 1) := dk_28 (dk_at dksX11_dayOf_1 21 rfl rfl)
theorem dX11_dayOf_45 : decode cX11_dayOf 45 = .ok (.iconst 1, 1) := dk_4 (dk_at dksX11_dayOf_1 22 rfl rfl)
theorem dX11_dayOf_46 : decode cX11_dayOf 46 = .ok (.isub, 1) := dk_100 (dk_at dksX11_dayOf_1 23 rfl rfl)
theorem dX11_dayOf_47 : decode cX11_dayOf 47 = .ok (.istore_n 3, 1) := dk_62 (dk_at dksX11_dayOf_2 0 rfl rfl)
theorem dX11_dayOf_48 : decode cX11_dayOf 48 = .ok (.sipush 2000, 3) := dk_17 7 208 (dk_at dksX11_dayOf_2 1 rfl rfl)
theorem dX11_dayOf_51 : decode cX11_dayOf 51 = .ok (.istore 4, 2) := dk_54 4 (dk_at dksX11_dayOf_2 4 rfl rfl)
theorem dX11_dayOf_53 : decode cX11_dayOf 53 = .ok (.iload 4, 2) := dk_21 4 (dk_at dksX11_dayOf_2 6 rfl rfl)
theorem dX11_dayOf_55 : decode cX11_dayOf 55 = .ok (.iload_n 0, 1) := dk_26 (dk_at dksX11_dayOf_2 8 rfl rfl)
theorem dX11_dayOf_56 : decode cX11_dayOf 56 = .ok (.if_icmp .ge 17, 3) := dk_162 0 17 (dk_at dksX11_dayOf_2 9 rfl rfl)
theorem dX11_dayOf_59 : decode cX11_dayOf 59 = .ok (.iload_n 3, 1) := dk_29 (dk_at dksX11_dayOf_2 12 rfl rfl)
theorem dX11_dayOf_60 : decode cX11_dayOf 60 = .ok (.iload 4, 2) := dk_21 4 (dk_at dksX11_dayOf_2 13 rfl rfl)
theorem dX11_dayOf_62 : decode cX11_dayOf 62 = .ok (.invokestatic 28, 3) := dk_184 0 28 (dk_at dksX11_dayOf_2 15 rfl rfl)
theorem dX11_dayOf_65 : decode cX11_dayOf 65 = .ok (.iadd, 1) := dk_96 (dk_at dksX11_dayOf_2 18 rfl rfl)
theorem dX11_dayOf_66 : decode cX11_dayOf 66 = .ok (.istore_n 3, 1) := dk_62 (dk_at dksX11_dayOf_2 19 rfl rfl)
theorem dX11_dayOf_67 : decode cX11_dayOf 67 = .ok (.iinc 4 1, 3) := dk_132 4 1 (dk_at dksX11_dayOf_2 20 rfl rfl)
theorem dX11_dayOf_70 : decode cX11_dayOf 70 = .ok (.goto (-17), 3) := dk_167 255 239 (dk_at dksX11_dayOf_3 0 rfl rfl)
theorem dX11_dayOf_73 : decode cX11_dayOf 73 = .ok (.iload_n 0, 1) := dk_26 (dk_at dksX11_dayOf_3 3 rfl rfl)
theorem dX11_dayOf_74 : decode cX11_dayOf 74 = .ok (.istore 4, 2) := dk_54 4 (dk_at dksX11_dayOf_3 4 rfl rfl)
theorem dX11_dayOf_76 : decode cX11_dayOf 76 = .ok (.iload 4, 2) := dk_21 4 (dk_at dksX11_dayOf_3 6 rfl rfl)
theorem dX11_dayOf_78 : decode cX11_dayOf 78 = .ok (.sipush 2000, 3) := dk_17 7 208 (dk_at dksX11_dayOf_3 8 rfl rfl)
theorem dX11_dayOf_81 : decode cX11_dayOf 81 = .ok (.if_icmp .ge 17, 3) := dk_162 0 17 (dk_at dksX11_dayOf_3 11 rfl rfl)
theorem dX11_dayOf_84 : decode cX11_dayOf 84 = .ok (.iload_n 3, 1) := dk_29 (dk_at dksX11_dayOf_3 14 rfl rfl)
theorem dX11_dayOf_85 : decode cX11_dayOf 85 = .ok (.iload 4, 2) := dk_21 4 (dk_at dksX11_dayOf_3 15 rfl rfl)
theorem dX11_dayOf_87 : decode cX11_dayOf 87 = .ok (.invokestatic 28, 3) := dk_184 0 28 (dk_at dksX11_dayOf_3 17 rfl rfl)
theorem dX11_dayOf_90 : decode cX11_dayOf 90 = .ok (.isub, 1) := dk_100 (dk_at dksX11_dayOf_3 20 rfl rfl)
theorem dX11_dayOf_91 : decode cX11_dayOf 91 = .ok (.istore_n 3, 1) := dk_62 (dk_at dksX11_dayOf_3 21 rfl rfl)
theorem dX11_dayOf_92 : decode cX11_dayOf 92 = .ok (.iinc 4 1, 3) := dk_132 4 1 (dk_at dksX11_dayOf_4 0 rfl rfl)
theorem dX11_dayOf_95 : decode cX11_dayOf 95 = .ok (.goto (-19), 3) := dk_167 255 237 (dk_at dksX11_dayOf_4 3 rfl rfl)
theorem dX11_dayOf_98 : decode cX11_dayOf 98 = .ok (.iconst 1, 1) := dk_4 (dk_at dksX11_dayOf_4 6 rfl rfl)
theorem dX11_dayOf_99 : decode cX11_dayOf 99 = .ok (.istore 4, 2) := dk_54 4 (dk_at dksX11_dayOf_4 7 rfl rfl)
theorem dX11_dayOf_101 : decode cX11_dayOf 101 = .ok (.iload 4, 2) := dk_21 4 (dk_at dksX11_dayOf_4 9 rfl rfl)
theorem dX11_dayOf_103 : decode cX11_dayOf 103 = .ok (.iload_n 1, 1) := dk_27 (dk_at dksX11_dayOf_4 11 rfl rfl)
theorem dX11_dayOf_104 : decode cX11_dayOf 104 = .ok (.if_icmp .ge 18, 3) := dk_162 0 18 (dk_at dksX11_dayOf_4 12 rfl rfl)
theorem dX11_dayOf_107 : decode cX11_dayOf 107 = .ok (.iload_n 3, 1) := dk_29 (dk_at dksX11_dayOf_4 15 rfl rfl)
theorem dX11_dayOf_108 : decode cX11_dayOf 108 = .ok (.iload_n 0, 1) := dk_26 (dk_at dksX11_dayOf_4 16 rfl rfl)
theorem dX11_dayOf_109 : decode cX11_dayOf 109 = .ok (.iload 4, 2) := dk_21 4 (dk_at dksX11_dayOf_4 17 rfl rfl)
theorem dX11_dayOf_111 : decode cX11_dayOf 111 = .ok (.invokestatic 38, 3) := dk_184 0 38 (dk_at dksX11_dayOf_4 19 rfl rfl)
theorem dX11_dayOf_114 : decode cX11_dayOf 114 = .ok (.iadd, 1) := dk_96 (dk_at dksX11_dayOf_4 22 rfl rfl)
theorem dX11_dayOf_115 : decode cX11_dayOf 115 = .ok (.istore_n 3, 1) := dk_62 (dk_at dksX11_dayOf_4 23 rfl rfl)
theorem dX11_dayOf_116 : decode cX11_dayOf 116 = .ok (.iinc 4 1, 3) := dk_132 4 1 (dk_at dksX11_dayOf_5 0 rfl rfl)
theorem dX11_dayOf_119 : decode cX11_dayOf 119 = .ok (.goto (-18), 3) := dk_167 255 238 (dk_at dksX11_dayOf_5 3 rfl rfl)
theorem dX11_dayOf_122 : decode cX11_dayOf 122 = .ok (.iload_n 3, 1) := dk_29 (dk_at dksX11_dayOf_5 6 rfl rfl)
theorem dX11_dayOf_123 : decode cX11_dayOf 123 = .ok (.ireturn, 1) := dk_172 (dk_at dksX11_dayOf_5 7 rfl rfl)
abbrev cX11_monthDays : ByteArray := prog_17_method_7_code
def yX11_monthDays : MethodName := ⟨RX11, "monthDays", "(II)I"⟩
def dkwX11_monthDays_1 : List UInt8 := [159, 0, 15, 27, 16, 9, 159, 0, 9, 27, 16, 11, 160, 0, 8, 16, 30, 167, 0, 5, 16, 31, 172]
abbrev dktX11_monthDays_1 : List UInt8 := dkwX11_monthDays_1 ++ []
def dkwX11_monthDays_0 : List UInt8 := [27, 5, 160, 0, 12, 26, 184, 0, 28, 17, 1, 81, 100, 172, 27, 7, 159, 0, 21, 27, 16, 6]
abbrev dktX11_monthDays_0 : List UInt8 := dkwX11_monthDays_0 ++ dktX11_monthDays_1
theorem dksX11_monthDays_0 : cX11_monthDays.data.toList.drop 0 = dktX11_monthDays_0 := by decide +kernel
theorem dksX11_monthDays_1 : cX11_monthDays.data.toList.drop 22 = dktX11_monthDays_1 := dk_seg dksX11_monthDays_0 22 rfl rfl
theorem dX11_monthDays_0 : decode cX11_monthDays 0 = .ok (.iload_n 1, 1) := dk_27 (dk_at dksX11_monthDays_0 0 rfl rfl)
theorem dX11_monthDays_1 : decode cX11_monthDays 1 = .ok (.iconst 2, 1) := dk_5 (dk_at dksX11_monthDays_0 1 rfl rfl)
theorem dX11_monthDays_2 : decode cX11_monthDays 2 = .ok (.if_icmp .ne 12, 3) := dk_160 0 12 (dk_at dksX11_monthDays_0 2 rfl rfl)
theorem dX11_monthDays_5 : decode cX11_monthDays 5 = .ok (.iload_n 0, 1) := dk_26 (dk_at dksX11_monthDays_0 5 rfl rfl)
theorem dX11_monthDays_6 : decode cX11_monthDays 6 = .ok (.invokestatic 28, 3) := dk_184 0 28 (dk_at dksX11_monthDays_0 6 rfl rfl)
theorem dX11_monthDays_9 : decode cX11_monthDays 9 = .ok (.sipush 337, 3) := dk_17 1 81 (dk_at dksX11_monthDays_0 9 rfl rfl)
theorem dX11_monthDays_12 : decode cX11_monthDays 12 = .ok (.isub, 1) := dk_100 (dk_at dksX11_monthDays_0 12 rfl rfl)
theorem dX11_monthDays_13 : decode cX11_monthDays 13 = .ok (.ireturn, 1) := dk_172 (dk_at dksX11_monthDays_0 13 rfl rfl)
theorem dX11_monthDays_14 : decode cX11_monthDays 14 = .ok (.iload_n 1, 1) := dk_27 (dk_at dksX11_monthDays_0 14 rfl rfl)
theorem dX11_monthDays_15 : decode cX11_monthDays 15 = .ok (.iconst 4, 1) := dk_7 (dk_at dksX11_monthDays_0 15 rfl rfl)
theorem dX11_monthDays_16 : decode cX11_monthDays 16 = .ok (.if_icmp .eq 21, 3) := dk_159 0 21 (dk_at dksX11_monthDays_0 16 rfl rfl)
theorem dX11_monthDays_19 : decode cX11_monthDays 19 = .ok (.iload_n 1, 1) := dk_27 (dk_at dksX11_monthDays_0 19 rfl rfl)
theorem dX11_monthDays_20 : decode cX11_monthDays 20 = .ok (.bipush 6, 2) := dk_16 6 (dk_at dksX11_monthDays_0 20 rfl rfl)
theorem dX11_monthDays_22 : decode cX11_monthDays 22 = .ok (.if_icmp .eq 15, 3) := dk_159 0 15 (dk_at dksX11_monthDays_1 0 rfl rfl)
theorem dX11_monthDays_25 : decode cX11_monthDays 25 = .ok (.iload_n 1, 1) := dk_27 (dk_at dksX11_monthDays_1 3 rfl rfl)
theorem dX11_monthDays_26 : decode cX11_monthDays 26 = .ok (.bipush 9, 2) := dk_16 9 (dk_at dksX11_monthDays_1 4 rfl rfl)
theorem dX11_monthDays_28 : decode cX11_monthDays 28 = .ok (.if_icmp .eq 9, 3) := dk_159 0 9 (dk_at dksX11_monthDays_1 6 rfl rfl)
theorem dX11_monthDays_31 : decode cX11_monthDays 31 = .ok (.iload_n 1, 1) := dk_27 (dk_at dksX11_monthDays_1 9 rfl rfl)
theorem dX11_monthDays_32 : decode cX11_monthDays 32 = .ok (.bipush 11, 2) := dk_16 11 (dk_at dksX11_monthDays_1 10 rfl rfl)
theorem dX11_monthDays_34 : decode cX11_monthDays 34 = .ok (.if_icmp .ne 8, 3) := dk_160 0 8 (dk_at dksX11_monthDays_1 12 rfl rfl)
theorem dX11_monthDays_37 : decode cX11_monthDays 37 = .ok (.bipush 30, 2) := dk_16 30 (dk_at dksX11_monthDays_1 15 rfl rfl)
theorem dX11_monthDays_39 : decode cX11_monthDays 39 = .ok (.goto 5, 3) := dk_167 0 5 (dk_at dksX11_monthDays_1 17 rfl rfl)
theorem dX11_monthDays_42 : decode cX11_monthDays 42 = .ok (.bipush 31, 2) := dk_16 31 (dk_at dksX11_monthDays_1 20 rfl rfl)
theorem dX11_monthDays_44 : decode cX11_monthDays 44 = .ok (.ireturn, 1) := dk_172 (dk_at dksX11_monthDays_1 22 rfl rfl)
abbrev cX11_yearDays : ByteArray := prog_17_method_6_code
def yX11_yearDays : MethodName := ⟨RX11, "yearDays", "(I)I"⟩
def dkwX11_yearDays_0 : List UInt8 := [26, 7, 112, 154, 0, 16, 26, 17, 7, 108, 159, 0, 9, 17, 1, 110, 167, 0, 6, 17, 1, 109, 172]
abbrev dktX11_yearDays_0 : List UInt8 := dkwX11_yearDays_0 ++ []
theorem dksX11_yearDays_0 : cX11_yearDays.data.toList.drop 0 = dktX11_yearDays_0 := by decide +kernel
theorem dX11_yearDays_0 : decode cX11_yearDays 0 = .ok (.iload_n 0, 1) := dk_26 (dk_at dksX11_yearDays_0 0 rfl rfl)
theorem dX11_yearDays_1 : decode cX11_yearDays 1 = .ok (.iconst 4, 1) := dk_7 (dk_at dksX11_yearDays_0 1 rfl rfl)
theorem dX11_yearDays_2 : decode cX11_yearDays 2 = .ok (.irem, 1) := dk_112 (dk_at dksX11_yearDays_0 2 rfl rfl)
theorem dX11_yearDays_3 : decode cX11_yearDays 3 = .ok (.ifCond .ne 16, 3) := dk_154 0 16 (dk_at dksX11_yearDays_0 3 rfl rfl)
theorem dX11_yearDays_6 : decode cX11_yearDays 6 = .ok (.iload_n 0, 1) := dk_26 (dk_at dksX11_yearDays_0 6 rfl rfl)
theorem dX11_yearDays_7 : decode cX11_yearDays 7 = .ok (.sipush 1900, 3) := dk_17 7 108 (dk_at dksX11_yearDays_0 7 rfl rfl)
theorem dX11_yearDays_10 : decode cX11_yearDays 10 = .ok (.if_icmp .eq 9, 3) := dk_159 0 9 (dk_at dksX11_yearDays_0 10 rfl rfl)
theorem dX11_yearDays_13 : decode cX11_yearDays 13 = .ok (.sipush 366, 3) := dk_17 1 110 (dk_at dksX11_yearDays_0 13 rfl rfl)
theorem dX11_yearDays_16 : decode cX11_yearDays 16 = .ok (.goto 6, 3) := dk_167 0 6 (dk_at dksX11_yearDays_0 16 rfl rfl)
theorem dX11_yearDays_19 : decode cX11_yearDays 19 = .ok (.sipush 365, 3) := dk_17 1 109 (dk_at dksX11_yearDays_0 19 rfl rfl)
theorem dX11_yearDays_22 : decode cX11_yearDays 22 = .ok (.ireturn, 1) := dk_172 (dk_at dksX11_yearDays_0 22 rfl rfl)
abbrev cX11_move : ByteArray := prog_17_method_19_code
def yX11_move : MethodName := ⟨RX11, "move", "(III)I"⟩
def dkwX11_move_4 : List UInt8 := [7, 27, 28, 29, 3, 182, 0, 22, 42, 180, 0, 115, 27, 46, 172]
abbrev dktX11_move_4 : List UInt8 := dkwX11_move_4 ++ []
def dkwX11_move_3 : List UInt8 := [16, 10, 27, 104, 42, 180, 0, 115, 27, 46, 96, 29, 79, 42, 180, 0, 115, 27, 92, 46, 4, 96, 79, 42]
abbrev dktX11_move_3 : List UInt8 := dkwX11_move_3 ++ dktX11_move_4
def dkwX11_move_2 : List UInt8 := [16, 251, 172, 42, 180, 0, 118, 16, 10, 27, 104, 42, 180, 0, 115, 27, 46, 96, 28, 79, 42, 180, 0, 121]
abbrev dktX11_move_2 : List UInt8 := dkwX11_move_2 ++ dktX11_move_3
def dkwX11_move_1 : List UInt8 := [20, 0, 68, 184, 0, 13, 154, 0, 6, 16, 254, 172, 42, 180, 0, 115, 27, 46, 16, 10, 160, 0, 6]
abbrev dktX11_move_1 : List UInt8 := dkwX11_move_1 ++ dktX11_move_2
def dkwX11_move_0 : List UInt8 := [42, 27, 182, 0, 110, 154, 0, 5, 2, 172, 28, 184, 0, 70, 153, 0, 17, 29, 133, 20, 0, 113]
abbrev dktX11_move_0 : List UInt8 := dkwX11_move_0 ++ dktX11_move_1
theorem dksX11_move_0 : cX11_move.data.toList.drop 0 = dktX11_move_0 := by decide +kernel
theorem dksX11_move_1 : cX11_move.data.toList.drop 22 = dktX11_move_1 := dk_seg dksX11_move_0 22 rfl rfl
theorem dksX11_move_2 : cX11_move.data.toList.drop 45 = dktX11_move_2 := dk_seg dksX11_move_1 23 rfl rfl
theorem dksX11_move_3 : cX11_move.data.toList.drop 69 = dktX11_move_3 := dk_seg dksX11_move_2 24 rfl rfl
theorem dksX11_move_4 : cX11_move.data.toList.drop 93 = dktX11_move_4 := dk_seg dksX11_move_3 24 rfl rfl
theorem dX11_move_0 : decode cX11_move 0 = .ok (.aload_n 0, 1) := dk_42 (dk_at dksX11_move_0 0 rfl rfl)
theorem dX11_move_1 : decode cX11_move 1 = .ok (.iload_n 1, 1) := dk_27 (dk_at dksX11_move_0 1 rfl rfl)
theorem dX11_move_2 : decode cX11_move 2 = .ok (.invokevirtual 110, 3) := dk_182 0 110 (dk_at dksX11_move_0 2 rfl rfl)
theorem dX11_move_5 : decode cX11_move 5 = .ok (.ifCond .ne 5, 3) := dk_154 0 5 (dk_at dksX11_move_0 5 rfl rfl)
theorem dX11_move_8 : decode cX11_move 8 = .ok (.iconst (-1), 1) := dk_2 (dk_at dksX11_move_0 8 rfl rfl)
theorem dX11_move_9 : decode cX11_move 9 = .ok (.ireturn, 1) := dk_172 (dk_at dksX11_move_0 9 rfl rfl)
theorem dX11_move_10 : decode cX11_move 10 = .ok (.iload_n 2, 1) := dk_28 (dk_at dksX11_move_0 10 rfl rfl)
theorem dX11_move_11 : decode cX11_move 11 = .ok (.invokestatic 70, 3) := dk_184 0 70 (dk_at dksX11_move_0 11 rfl rfl)
theorem dX11_move_14 : decode cX11_move 14 = .ok (.ifCond .eq 17, 3) := dk_153 0 17 (dk_at dksX11_move_0 14 rfl rfl)
theorem dX11_move_17 : decode cX11_move 17 = .ok (.iload_n 3, 1) := dk_29 (dk_at dksX11_move_0 17 rfl rfl)
theorem dX11_move_18 : decode cX11_move 18 = .ok (.i2l, 1) := dk_133 (dk_at dksX11_move_0 18 rfl rfl)
theorem dX11_move_19 : decode cX11_move 19 = .ok (.ldc2_w 113, 3) := dk_20 0 113 (dk_at dksX11_move_0 19 rfl rfl)
theorem dX11_move_22 : decode cX11_move 22 = .ok (.ldc2_w 68, 3) := dk_20 0 68 (dk_at dksX11_move_1 0 rfl rfl)
theorem dX11_move_25 : decode cX11_move 25 = .ok (.invokestatic 13, 3) := dk_184 0 13 (dk_at dksX11_move_1 3 rfl rfl)
theorem dX11_move_28 : decode cX11_move 28 = .ok (.ifCond .ne 6, 3) := dk_154 0 6 (dk_at dksX11_move_1 6 rfl rfl)
theorem dX11_move_31 : decode cX11_move 31 = .ok (.bipush (-2), 2) := dk_16 254 (dk_at dksX11_move_1 9 rfl rfl)
theorem dX11_move_33 : decode cX11_move 33 = .ok (.ireturn, 1) := dk_172 (dk_at dksX11_move_1 11 rfl rfl)
theorem dX11_move_34 : decode cX11_move 34 = .ok (.aload_n 0, 1) := dk_42 (dk_at dksX11_move_1 12 rfl rfl)
theorem dX11_move_35 : decode cX11_move 35 = .ok (.getfield 115, 3) := dk_180 0 115 (dk_at dksX11_move_1 13 rfl rfl)
theorem dX11_move_38 : decode cX11_move 38 = .ok (.iload_n 1, 1) := dk_27 (dk_at dksX11_move_1 16 rfl rfl)
theorem dX11_move_39 : decode cX11_move 39 = .ok (.iaload, 1) := dk_46 (dk_at dksX11_move_1 17 rfl rfl)
theorem dX11_move_40 : decode cX11_move 40 = .ok (.bipush 10, 2) := dk_16 10 (dk_at dksX11_move_1 18 rfl rfl)
theorem dX11_move_42 : decode cX11_move 42 = .ok (.if_icmp .ne 6, 3) := dk_160 0 6 (dk_at dksX11_move_1 20 rfl rfl)
theorem dX11_move_45 : decode cX11_move 45 = .ok (.bipush (-5), 2) := dk_16 251 (dk_at dksX11_move_2 0 rfl rfl)
theorem dX11_move_47 : decode cX11_move 47 = .ok (.ireturn, 1) := dk_172 (dk_at dksX11_move_2 2 rfl rfl)
theorem dX11_move_48 : decode cX11_move 48 = .ok (.aload_n 0, 1) := dk_42 (dk_at dksX11_move_2 3 rfl rfl)
theorem dX11_move_49 : decode cX11_move 49 = .ok (.getfield 118, 3) := dk_180 0 118 (dk_at dksX11_move_2 4 rfl rfl)
theorem dX11_move_52 : decode cX11_move 52 = .ok (.bipush 10, 2) := dk_16 10 (dk_at dksX11_move_2 7 rfl rfl)
theorem dX11_move_54 : decode cX11_move 54 = .ok (.iload_n 1, 1) := dk_27 (dk_at dksX11_move_2 9 rfl rfl)
theorem dX11_move_55 : decode cX11_move 55 = .ok (.imul, 1) := dk_104 (dk_at dksX11_move_2 10 rfl rfl)
theorem dX11_move_56 : decode cX11_move 56 = .ok (.aload_n 0, 1) := dk_42 (dk_at dksX11_move_2 11 rfl rfl)
theorem dX11_move_57 : decode cX11_move 57 = .ok (.getfield 115, 3) := dk_180 0 115 (dk_at dksX11_move_2 12 rfl rfl)
theorem dX11_move_60 : decode cX11_move 60 = .ok (.iload_n 1, 1) := dk_27 (dk_at dksX11_move_2 15 rfl rfl)
theorem dX11_move_61 : decode cX11_move 61 = .ok (.iaload, 1) := dk_46 (dk_at dksX11_move_2 16 rfl rfl)
theorem dX11_move_62 : decode cX11_move 62 = .ok (.iadd, 1) := dk_96 (dk_at dksX11_move_2 17 rfl rfl)
theorem dX11_move_63 : decode cX11_move 63 = .ok (.iload_n 2, 1) := dk_28 (dk_at dksX11_move_2 18 rfl rfl)
theorem dX11_move_64 : decode cX11_move 64 = .ok (.iastore, 1) := dk_79 (dk_at dksX11_move_2 19 rfl rfl)
theorem dX11_move_65 : decode cX11_move 65 = .ok (.aload_n 0, 1) := dk_42 (dk_at dksX11_move_2 20 rfl rfl)
theorem dX11_move_66 : decode cX11_move 66 = .ok (.getfield 121, 3) := dk_180 0 121 (dk_at dksX11_move_2 21 rfl rfl)
theorem dX11_move_69 : decode cX11_move 69 = .ok (.bipush 10, 2) := dk_16 10 (dk_at dksX11_move_3 0 rfl rfl)
theorem dX11_move_71 : decode cX11_move 71 = .ok (.iload_n 1, 1) := dk_27 (dk_at dksX11_move_3 2 rfl rfl)
theorem dX11_move_72 : decode cX11_move 72 = .ok (.imul, 1) := dk_104 (dk_at dksX11_move_3 3 rfl rfl)
theorem dX11_move_73 : decode cX11_move 73 = .ok (.aload_n 0, 1) := dk_42 (dk_at dksX11_move_3 4 rfl rfl)
theorem dX11_move_74 : decode cX11_move 74 = .ok (.getfield 115, 3) := dk_180 0 115 (dk_at dksX11_move_3 5 rfl rfl)
theorem dX11_move_77 : decode cX11_move 77 = .ok (.iload_n 1, 1) := dk_27 (dk_at dksX11_move_3 8 rfl rfl)
theorem dX11_move_78 : decode cX11_move 78 = .ok (.iaload, 1) := dk_46 (dk_at dksX11_move_3 9 rfl rfl)
theorem dX11_move_79 : decode cX11_move 79 = .ok (.iadd, 1) := dk_96 (dk_at dksX11_move_3 10 rfl rfl)
theorem dX11_move_80 : decode cX11_move 80 = .ok (.iload_n 3, 1) := dk_29 (dk_at dksX11_move_3 11 rfl rfl)
theorem dX11_move_81 : decode cX11_move 81 = .ok (.iastore, 1) := dk_79 (dk_at dksX11_move_3 12 rfl rfl)
theorem dX11_move_82 : decode cX11_move 82 = .ok (.aload_n 0, 1) := dk_42 (dk_at dksX11_move_3 13 rfl rfl)
theorem dX11_move_83 : decode cX11_move 83 = .ok (.getfield 115, 3) := dk_180 0 115 (dk_at dksX11_move_3 14 rfl rfl)
theorem dX11_move_86 : decode cX11_move 86 = .ok (.iload_n 1, 1) := dk_27 (dk_at dksX11_move_3 17 rfl rfl)
theorem dX11_move_87 : decode cX11_move 87 = .ok (.dup2, 1) := dk_92 (dk_at dksX11_move_3 18 rfl rfl)
theorem dX11_move_88 : decode cX11_move 88 = .ok (.iaload, 1) := dk_46 (dk_at dksX11_move_3 19 rfl rfl)
theorem dX11_move_89 : decode cX11_move 89 = .ok (.iconst 1, 1) := dk_4 (dk_at dksX11_move_3 20 rfl rfl)
theorem dX11_move_90 : decode cX11_move 90 = .ok (.iadd, 1) := dk_96 (dk_at dksX11_move_3 21 rfl rfl)
theorem dX11_move_91 : decode cX11_move 91 = .ok (.iastore, 1) := dk_79 (dk_at dksX11_move_3 22 rfl rfl)
theorem dX11_move_92 : decode cX11_move 92 = .ok (.aload_n 0, 1) := dk_42 (dk_at dksX11_move_3 23 rfl rfl)
theorem dX11_move_93 : decode cX11_move 93 = .ok (.iconst 4, 1) := dk_7 (dk_at dksX11_move_4 0 rfl rfl)
theorem dX11_move_94 : decode cX11_move 94 = .ok (.iload_n 1, 1) := dk_27 (dk_at dksX11_move_4 1 rfl rfl)
theorem dX11_move_95 : decode cX11_move 95 = .ok (.iload_n 2, 1) := dk_28 (dk_at dksX11_move_4 2 rfl rfl)
theorem dX11_move_96 : decode cX11_move 96 = .ok (.iload_n 3, 1) := dk_29 (dk_at dksX11_move_4 3 rfl rfl)
theorem dX11_move_97 : decode cX11_move 97 = .ok (.iconst 0, 1) := dk_3 (dk_at dksX11_move_4 4 rfl rfl)
theorem dX11_move_98 : decode cX11_move 98 = .ok (.invokevirtual 22, 3) := dk_182 0 22 (dk_at dksX11_move_4 5 rfl rfl)
theorem dX11_move_101 : decode cX11_move 101 = .ok (.aload_n 0, 1) := dk_42 (dk_at dksX11_move_4 8 rfl rfl)
theorem dX11_move_102 : decode cX11_move 102 = .ok (.getfield 115, 3) := dk_180 0 115 (dk_at dksX11_move_4 9 rfl rfl)
theorem dX11_move_105 : decode cX11_move 105 = .ok (.iload_n 1, 1) := dk_27 (dk_at dksX11_move_4 12 rfl rfl)
theorem dX11_move_106 : decode cX11_move 106 = .ok (.iaload, 1) := dk_46 (dk_at dksX11_move_4 13 rfl rfl)
theorem dX11_move_107 : decode cX11_move 107 = .ok (.ireturn, 1) := dk_172 (dk_at dksX11_move_4 14 rfl rfl)
abbrev cX11_isPerson : ByteArray := prog_17_method_18_code
def yX11_isPerson : MethodName := ⟨RX11, "isPerson", "(I)Z"⟩
def dkwX11_isPerson_0 : List UInt8 := [27, 133, 9, 42, 180, 0, 92, 4, 100, 133, 184, 0, 13, 172]
abbrev dktX11_isPerson_0 : List UInt8 := dkwX11_isPerson_0 ++ []
theorem dksX11_isPerson_0 : cX11_isPerson.data.toList.drop 0 = dktX11_isPerson_0 := by decide +kernel
theorem dX11_isPerson_0 : decode cX11_isPerson 0 = .ok (.iload_n 1, 1) := dk_27 (dk_at dksX11_isPerson_0 0 rfl rfl)
theorem dX11_isPerson_1 : decode cX11_isPerson 1 = .ok (.i2l, 1) := dk_133 (dk_at dksX11_isPerson_0 1 rfl rfl)
theorem dX11_isPerson_2 : decode cX11_isPerson 2 = .ok (.lconst 0, 1) := dk_9 (dk_at dksX11_isPerson_0 2 rfl rfl)
theorem dX11_isPerson_3 : decode cX11_isPerson 3 = .ok (.aload_n 0, 1) := dk_42 (dk_at dksX11_isPerson_0 3 rfl rfl)
theorem dX11_isPerson_4 : decode cX11_isPerson 4 = .ok (.getfield 92, 3) := dk_180 0 92 (dk_at dksX11_isPerson_0 4 rfl rfl)
theorem dX11_isPerson_7 : decode cX11_isPerson 7 = .ok (.iconst 1, 1) := dk_4 (dk_at dksX11_isPerson_0 7 rfl rfl)
theorem dX11_isPerson_8 : decode cX11_isPerson 8 = .ok (.isub, 1) := dk_100 (dk_at dksX11_isPerson_0 8 rfl rfl)
theorem dX11_isPerson_9 : decode cX11_isPerson 9 = .ok (.i2l, 1) := dk_133 (dk_at dksX11_isPerson_0 9 rfl rfl)
theorem dX11_isPerson_10 : decode cX11_isPerson 10 = .ok (.invokestatic 13, 3) := dk_184 0 13 (dk_at dksX11_isPerson_0 10 rfl rfl)
theorem dX11_isPerson_13 : decode cX11_isPerson 13 = .ok (.ireturn, 1) := dk_172 (dk_at dksX11_isPerson_0 13 rfl rfl)
abbrev cX11_fact : ByteArray := prog_17_method_20_code
def yX11_fact : MethodName := ⟨RX11, "fact", "(IIIII)I"⟩
def dkwX11_fact_6 : List UInt8 := [182, 0, 22, 42, 180, 0, 126, 27, 46, 172]
abbrev dktX11_fact_6 : List UInt8 := dkwX11_fact_6 ++ []
def dkwX11_fact_5 : List UInt8 := [79, 42, 180, 0, 126, 27, 92, 46, 4, 96, 79, 42, 8, 27, 5, 28, 104, 29, 96, 21, 4, 21, 5]
abbrev dktX11_fact_5 : List UInt8 := dkwX11_fact_5 ++ dktX11_fact_6
def dkwX11_fact_4 : List UInt8 := [180, 0, 132, 21, 6, 29, 79, 42, 180, 0, 135, 21, 6, 21, 4, 79, 42, 180, 0, 138, 21, 6, 21, 5]
abbrev dktX11_fact_4 : List UInt8 := dkwX11_fact_4 ++ dktX11_fact_5
def dkwX11_fact_3 : List UInt8 := [16, 12, 27, 104, 42, 180, 0, 126, 27, 46, 96, 54, 6, 42, 180, 0, 129, 21, 6, 28, 79, 42]
abbrev dktX11_fact_3 : List UInt8 := dkwX11_fact_3 ++ dktX11_fact_4
def dkwX11_fact_2 : List UInt8 := [21, 5, 21, 4, 162, 0, 6, 16, 254, 172, 42, 180, 0, 126, 27, 46, 16, 12, 160, 0, 6, 16, 251, 172]
abbrev dktX11_fact_2 : List UInt8 := dkwX11_fact_2 ++ dktX11_fact_3
def dkwX11_fact_1 : List UInt8 := [9, 10, 184, 0, 13, 153, 0, 26, 21, 4, 184, 0, 70, 153, 0, 18, 21, 5, 184, 0, 70, 153, 0, 10]
abbrev dktX11_fact_1 : List UInt8 := dkwX11_fact_1 ++ dktX11_fact_2
def dkwX11_fact_0 : List UInt8 := [42, 27, 182, 0, 110, 154, 0, 5, 2, 172, 28, 133, 9, 20, 0, 124, 184, 0, 13, 153, 0, 36, 29, 133]
abbrev dktX11_fact_0 : List UInt8 := dkwX11_fact_0 ++ dktX11_fact_1
theorem dksX11_fact_0 : cX11_fact.data.toList.drop 0 = dktX11_fact_0 := by decide +kernel
theorem dksX11_fact_1 : cX11_fact.data.toList.drop 24 = dktX11_fact_1 := dk_seg dksX11_fact_0 24 rfl rfl
theorem dksX11_fact_2 : cX11_fact.data.toList.drop 48 = dktX11_fact_2 := dk_seg dksX11_fact_1 24 rfl rfl
theorem dksX11_fact_3 : cX11_fact.data.toList.drop 72 = dktX11_fact_3 := dk_seg dksX11_fact_2 24 rfl rfl
theorem dksX11_fact_4 : cX11_fact.data.toList.drop 94 = dktX11_fact_4 := dk_seg dksX11_fact_3 22 rfl rfl
theorem dksX11_fact_5 : cX11_fact.data.toList.drop 118 = dktX11_fact_5 := dk_seg dksX11_fact_4 24 rfl rfl
theorem dksX11_fact_6 : cX11_fact.data.toList.drop 141 = dktX11_fact_6 := dk_seg dksX11_fact_5 23 rfl rfl
theorem dX11_fact_0 : decode cX11_fact 0 = .ok (.aload_n 0, 1) := dk_42 (dk_at dksX11_fact_0 0 rfl rfl)
theorem dX11_fact_1 : decode cX11_fact 1 = .ok (.iload_n 1, 1) := dk_27 (dk_at dksX11_fact_0 1 rfl rfl)
theorem dX11_fact_2 : decode cX11_fact 2 = .ok (.invokevirtual 110, 3) := dk_182 0 110 (dk_at dksX11_fact_0 2 rfl rfl)
theorem dX11_fact_5 : decode cX11_fact 5 = .ok (.ifCond .ne 5, 3) := dk_154 0 5 (dk_at dksX11_fact_0 5 rfl rfl)
theorem dX11_fact_8 : decode cX11_fact 8 = .ok (.iconst (-1), 1) := dk_2 (dk_at dksX11_fact_0 8 rfl rfl)
theorem dX11_fact_9 : decode cX11_fact 9 = .ok (.ireturn, 1) := dk_172 (dk_at dksX11_fact_0 9 rfl rfl)
theorem dX11_fact_10 : decode cX11_fact 10 = .ok (.iload_n 2, 1) := dk_28 (dk_at dksX11_fact_0 10 rfl rfl)
theorem dX11_fact_11 : decode cX11_fact 11 = .ok (.i2l, 1) := dk_133 (dk_at dksX11_fact_0 11 rfl rfl)
theorem dX11_fact_12 : decode cX11_fact 12 = .ok (.lconst 0, 1) := dk_9 (dk_at dksX11_fact_0 12 rfl rfl)
theorem dX11_fact_13 : decode cX11_fact 13 = .ok (.ldc2_w 124, 3) := dk_20 0 124 (dk_at dksX11_fact_0 13 rfl rfl)
theorem dX11_fact_16 : decode cX11_fact 16 = .ok (.invokestatic 13, 3) := dk_184 0 13 (dk_at dksX11_fact_0 16 rfl rfl)
theorem dX11_fact_19 : decode cX11_fact 19 = .ok (.ifCond .eq 36, 3) := dk_153 0 36 (dk_at dksX11_fact_0 19 rfl rfl)
theorem dX11_fact_22 : decode cX11_fact 22 = .ok (.iload_n 3, 1) := dk_29 (dk_at dksX11_fact_0 22 rfl rfl)
theorem dX11_fact_23 : decode cX11_fact 23 = .ok (.i2l, 1) := dk_133 (dk_at dksX11_fact_0 23 rfl rfl)
theorem dX11_fact_24 : decode cX11_fact 24 = .ok (.lconst 0, 1) := dk_9 (dk_at dksX11_fact_1 0 rfl rfl)
theorem dX11_fact_25 : decode cX11_fact 25 = .ok (.lconst 1, 1) := dk_10 (dk_at dksX11_fact_1 1 rfl rfl)
theorem dX11_fact_26 : decode cX11_fact 26 = .ok (.invokestatic 13, 3) := dk_184 0 13 (dk_at dksX11_fact_1 2 rfl rfl)
theorem dX11_fact_29 : decode cX11_fact 29 = .ok (.ifCond .eq 26, 3) := dk_153 0 26 (dk_at dksX11_fact_1 5 rfl rfl)
theorem dX11_fact_32 : decode cX11_fact 32 = .ok (.iload 4, 2) := dk_21 4 (dk_at dksX11_fact_1 8 rfl rfl)
theorem dX11_fact_34 : decode cX11_fact 34 = .ok (.invokestatic 70, 3) := dk_184 0 70 (dk_at dksX11_fact_1 10 rfl rfl)
theorem dX11_fact_37 : decode cX11_fact 37 = .ok (.ifCond .eq 18, 3) := dk_153 0 18 (dk_at dksX11_fact_1 13 rfl rfl)
theorem dX11_fact_40 : decode cX11_fact 40 = .ok (.iload 5, 2) := dk_21 5 (dk_at dksX11_fact_1 16 rfl rfl)
theorem dX11_fact_42 : decode cX11_fact 42 = .ok (.invokestatic 70, 3) := dk_184 0 70 (dk_at dksX11_fact_1 18 rfl rfl)
theorem dX11_fact_45 : decode cX11_fact 45 = .ok (.ifCond .eq 10, 3) := dk_153 0 10 (dk_at dksX11_fact_1 21 rfl rfl)
theorem dX11_fact_48 : decode cX11_fact 48 = .ok (.iload 5, 2) := dk_21 5 (dk_at dksX11_fact_2 0 rfl rfl)
theorem dX11_fact_50 : decode cX11_fact 50 = .ok (.iload 4, 2) := dk_21 4 (dk_at dksX11_fact_2 2 rfl rfl)
theorem dX11_fact_52 : decode cX11_fact 52 = .ok (.if_icmp .ge 6, 3) := dk_162 0 6 (dk_at dksX11_fact_2 4 rfl rfl)
theorem dX11_fact_55 : decode cX11_fact 55 = .ok (.bipush (-2), 2) := dk_16 254 (dk_at dksX11_fact_2 7 rfl rfl)
theorem dX11_fact_57 : decode cX11_fact 57 = .ok (.ireturn, 1) := dk_172 (dk_at dksX11_fact_2 9 rfl rfl)
theorem dX11_fact_58 : decode cX11_fact 58 = .ok (.aload_n 0, 1) := dk_42 (dk_at dksX11_fact_2 10 rfl rfl)
theorem dX11_fact_59 : decode cX11_fact 59 = .ok (.getfield 126, 3) := dk_180 0 126 (dk_at dksX11_fact_2 11 rfl rfl)
theorem dX11_fact_62 : decode cX11_fact 62 = .ok (.iload_n 1, 1) := dk_27 (dk_at dksX11_fact_2 14 rfl rfl)
theorem dX11_fact_63 : decode cX11_fact 63 = .ok (.iaload, 1) := dk_46 (dk_at dksX11_fact_2 15 rfl rfl)
theorem dX11_fact_64 : decode cX11_fact 64 = .ok (.bipush 12, 2) := dk_16 12 (dk_at dksX11_fact_2 16 rfl rfl)
theorem dX11_fact_66 : decode cX11_fact 66 = .ok (.if_icmp .ne 6, 3) := dk_160 0 6 (dk_at dksX11_fact_2 18 rfl rfl)
theorem dX11_fact_69 : decode cX11_fact 69 = .ok (.bipush (-5), 2) := dk_16 251 (dk_at dksX11_fact_2 21 rfl rfl)
theorem dX11_fact_71 : decode cX11_fact 71 = .ok (.ireturn, 1) := dk_172 (dk_at dksX11_fact_2 23 rfl rfl)
theorem dX11_fact_72 : decode cX11_fact 72 = .ok (.bipush 12, 2) := dk_16 12 (dk_at dksX11_fact_3 0 rfl rfl)
theorem dX11_fact_74 : decode cX11_fact 74 = .ok (.iload_n 1, 1) := dk_27 (dk_at dksX11_fact_3 2 rfl rfl)
theorem dX11_fact_75 : decode cX11_fact 75 = .ok (.imul, 1) := dk_104 (dk_at dksX11_fact_3 3 rfl rfl)
theorem dX11_fact_76 : decode cX11_fact 76 = .ok (.aload_n 0, 1) := dk_42 (dk_at dksX11_fact_3 4 rfl rfl)
theorem dX11_fact_77 : decode cX11_fact 77 = .ok (.getfield 126, 3) := dk_180 0 126 (dk_at dksX11_fact_3 5 rfl rfl)
theorem dX11_fact_80 : decode cX11_fact 80 = .ok (.iload_n 1, 1) := dk_27 (dk_at dksX11_fact_3 8 rfl rfl)
theorem dX11_fact_81 : decode cX11_fact 81 = .ok (.iaload, 1) := dk_46 (dk_at dksX11_fact_3 9 rfl rfl)
theorem dX11_fact_82 : decode cX11_fact 82 = .ok (.iadd, 1) := dk_96 (dk_at dksX11_fact_3 10 rfl rfl)
theorem dX11_fact_83 : decode cX11_fact 83 = .ok (.istore 6, 2) := dk_54 6 (dk_at dksX11_fact_3 11 rfl rfl)
theorem dX11_fact_85 : decode cX11_fact 85 = .ok (.aload_n 0, 1) := dk_42 (dk_at dksX11_fact_3 13 rfl rfl)
theorem dX11_fact_86 : decode cX11_fact 86 = .ok (.getfield 129, 3) := dk_180 0 129 (dk_at dksX11_fact_3 14 rfl rfl)
theorem dX11_fact_89 : decode cX11_fact 89 = .ok (.iload 6, 2) := dk_21 6 (dk_at dksX11_fact_3 17 rfl rfl)
theorem dX11_fact_91 : decode cX11_fact 91 = .ok (.iload_n 2, 1) := dk_28 (dk_at dksX11_fact_3 19 rfl rfl)
theorem dX11_fact_92 : decode cX11_fact 92 = .ok (.iastore, 1) := dk_79 (dk_at dksX11_fact_3 20 rfl rfl)
theorem dX11_fact_93 : decode cX11_fact 93 = .ok (.aload_n 0, 1) := dk_42 (dk_at dksX11_fact_3 21 rfl rfl)
theorem dX11_fact_94 : decode cX11_fact 94 = .ok (.getfield 132, 3) := dk_180 0 132 (dk_at dksX11_fact_4 0 rfl rfl)
theorem dX11_fact_97 : decode cX11_fact 97 = .ok (.iload 6, 2) := dk_21 6 (dk_at dksX11_fact_4 3 rfl rfl)
theorem dX11_fact_99 : decode cX11_fact 99 = .ok (.iload_n 3, 1) := dk_29 (dk_at dksX11_fact_4 5 rfl rfl)
theorem dX11_fact_100 : decode cX11_fact 100 = .ok (.iastore, 1) := dk_79 (dk_at dksX11_fact_4 6 rfl rfl)
theorem dX11_fact_101 : decode cX11_fact 101 = .ok (.aload_n 0, 1) := dk_42 (dk_at dksX11_fact_4 7 rfl rfl)
theorem dX11_fact_102 : decode cX11_fact 102 = .ok (.getfield 135, 3) := dk_180 0 135 (dk_at dksX11_fact_4 8 rfl rfl)
theorem dX11_fact_105 : decode cX11_fact 105 = .ok (.iload 6, 2) := dk_21 6 (dk_at dksX11_fact_4 11 rfl rfl)
theorem dX11_fact_107 : decode cX11_fact 107 = .ok (.iload 4, 2) := dk_21 4 (dk_at dksX11_fact_4 13 rfl rfl)
theorem dX11_fact_109 : decode cX11_fact 109 = .ok (.iastore, 1) := dk_79 (dk_at dksX11_fact_4 15 rfl rfl)
theorem dX11_fact_110 : decode cX11_fact 110 = .ok (.aload_n 0, 1) := dk_42 (dk_at dksX11_fact_4 16 rfl rfl)
theorem dX11_fact_111 : decode cX11_fact 111 = .ok (.getfield 138, 3) := dk_180 0 138 (dk_at dksX11_fact_4 17 rfl rfl)
theorem dX11_fact_114 : decode cX11_fact 114 = .ok (.iload 6, 2) := dk_21 6 (dk_at dksX11_fact_4 20 rfl rfl)
theorem dX11_fact_116 : decode cX11_fact 116 = .ok (.iload 5, 2) := dk_21 5 (dk_at dksX11_fact_4 22 rfl rfl)
theorem dX11_fact_118 : decode cX11_fact 118 = .ok (.iastore, 1) := dk_79 (dk_at dksX11_fact_5 0 rfl rfl)
theorem dX11_fact_119 : decode cX11_fact 119 = .ok (.aload_n 0, 1) := dk_42 (dk_at dksX11_fact_5 1 rfl rfl)
theorem dX11_fact_120 : decode cX11_fact 120 = .ok (.getfield 126, 3) := dk_180 0 126 (dk_at dksX11_fact_5 2 rfl rfl)
theorem dX11_fact_123 : decode cX11_fact 123 = .ok (.iload_n 1, 1) := dk_27 (dk_at dksX11_fact_5 5 rfl rfl)
theorem dX11_fact_124 : decode cX11_fact 124 = .ok (.dup2, 1) := dk_92 (dk_at dksX11_fact_5 6 rfl rfl)
theorem dX11_fact_125 : decode cX11_fact 125 = .ok (.iaload, 1) := dk_46 (dk_at dksX11_fact_5 7 rfl rfl)
theorem dX11_fact_126 : decode cX11_fact 126 = .ok (.iconst 1, 1) := dk_4 (dk_at dksX11_fact_5 8 rfl rfl)
theorem dX11_fact_127 : decode cX11_fact 127 = .ok (.iadd, 1) := dk_96 (dk_at dksX11_fact_5 9 rfl rfl)
theorem dX11_fact_128 : decode cX11_fact 128 = .ok (.iastore, 1) := dk_79 (dk_at dksX11_fact_5 10 rfl rfl)
theorem dX11_fact_129 : decode cX11_fact 129 = .ok (.aload_n 0, 1) := dk_42 (dk_at dksX11_fact_5 11 rfl rfl)
theorem dX11_fact_130 : decode cX11_fact 130 = .ok (.iconst 5, 1) := dk_8 (dk_at dksX11_fact_5 12 rfl rfl)
theorem dX11_fact_131 : decode cX11_fact 131 = .ok (.iload_n 1, 1) := dk_27 (dk_at dksX11_fact_5 13 rfl rfl)
theorem dX11_fact_132 : decode cX11_fact 132 = .ok (.iconst 2, 1) := dk_5 (dk_at dksX11_fact_5 14 rfl rfl)
theorem dX11_fact_133 : decode cX11_fact 133 = .ok (.iload_n 2, 1) := dk_28 (dk_at dksX11_fact_5 15 rfl rfl)
theorem dX11_fact_134 : decode cX11_fact 134 = .ok (.imul, 1) := dk_104 (dk_at dksX11_fact_5 16 rfl rfl)
theorem dX11_fact_135 : decode cX11_fact 135 = .ok (.iload_n 3, 1) := dk_29 (dk_at dksX11_fact_5 17 rfl rfl)
theorem dX11_fact_136 : decode cX11_fact 136 = .ok (.iadd, 1) := dk_96 (dk_at dksX11_fact_5 18 rfl rfl)
theorem dX11_fact_137 : decode cX11_fact 137 = .ok (.iload 4, 2) := dk_21 4 (dk_at dksX11_fact_5 19 rfl rfl)
theorem dX11_fact_139 : decode cX11_fact 139 = .ok (.iload 5, 2) := dk_21 5 (dk_at dksX11_fact_5 21 rfl rfl)
theorem dX11_fact_141 : decode cX11_fact 141 = .ok (.invokevirtual 22, 3) := dk_182 0 22 (dk_at dksX11_fact_6 0 rfl rfl)
theorem dX11_fact_144 : decode cX11_fact 144 = .ok (.aload_n 0, 1) := dk_42 (dk_at dksX11_fact_6 3 rfl rfl)
theorem dX11_fact_145 : decode cX11_fact 145 = .ok (.getfield 126, 3) := dk_180 0 126 (dk_at dksX11_fact_6 4 rfl rfl)
theorem dX11_fact_148 : decode cX11_fact 148 = .ok (.iload_n 1, 1) := dk_27 (dk_at dksX11_fact_6 7 rfl rfl)
theorem dX11_fact_149 : decode cX11_fact 149 = .ok (.iaload, 1) := dk_46 (dk_at dksX11_fact_6 8 rfl rfl)
theorem dX11_fact_150 : decode cX11_fact 150 = .ok (.ireturn, 1) := dk_172 (dk_at dksX11_fact_6 9 rfl rfl)
abbrev cX11_die : ByteArray := prog_17_method_21_code
def yX11_die : MethodName := ⟨RX11, "die", "(II)I"⟩
def dkwX11_die_2 : List UInt8 := [27, 28, 79, 42, 16, 6, 27, 28, 3, 3, 182, 0, 22, 4, 172]
abbrev dktX11_die_2 : List UInt8 := dkwX11_die_2 ++ []
def dkwX11_die_1 : List UInt8 := [162, 0, 6, 16, 254, 172, 42, 180, 0, 107, 27, 46, 18, 42, 159, 0, 6, 16, 252, 172, 42, 180, 0, 107]
abbrev dktX11_die_1 : List UInt8 := dkwX11_die_1 ++ dktX11_die_2
def dkwX11_die_0 : List UInt8 := [42, 27, 182, 0, 110, 154, 0, 5, 2, 172, 28, 184, 0, 70, 153, 0, 13, 28, 42, 180, 0, 95, 27, 46]
abbrev dktX11_die_0 : List UInt8 := dkwX11_die_0 ++ dktX11_die_1
theorem dksX11_die_0 : cX11_die.data.toList.drop 0 = dktX11_die_0 := by decide +kernel
theorem dksX11_die_1 : cX11_die.data.toList.drop 24 = dktX11_die_1 := dk_seg dksX11_die_0 24 rfl rfl
theorem dksX11_die_2 : cX11_die.data.toList.drop 48 = dktX11_die_2 := dk_seg dksX11_die_1 24 rfl rfl
theorem dX11_die_0 : decode cX11_die 0 = .ok (.aload_n 0, 1) := dk_42 (dk_at dksX11_die_0 0 rfl rfl)
theorem dX11_die_1 : decode cX11_die 1 = .ok (.iload_n 1, 1) := dk_27 (dk_at dksX11_die_0 1 rfl rfl)
theorem dX11_die_2 : decode cX11_die 2 = .ok (.invokevirtual 110, 3) := dk_182 0 110 (dk_at dksX11_die_0 2 rfl rfl)
theorem dX11_die_5 : decode cX11_die 5 = .ok (.ifCond .ne 5, 3) := dk_154 0 5 (dk_at dksX11_die_0 5 rfl rfl)
theorem dX11_die_8 : decode cX11_die 8 = .ok (.iconst (-1), 1) := dk_2 (dk_at dksX11_die_0 8 rfl rfl)
theorem dX11_die_9 : decode cX11_die 9 = .ok (.ireturn, 1) := dk_172 (dk_at dksX11_die_0 9 rfl rfl)
theorem dX11_die_10 : decode cX11_die 10 = .ok (.iload_n 2, 1) := dk_28 (dk_at dksX11_die_0 10 rfl rfl)
theorem dX11_die_11 : decode cX11_die 11 = .ok (.invokestatic 70, 3) := dk_184 0 70 (dk_at dksX11_die_0 11 rfl rfl)
theorem dX11_die_14 : decode cX11_die 14 = .ok (.ifCond .eq 13, 3) := dk_153 0 13 (dk_at dksX11_die_0 14 rfl rfl)
theorem dX11_die_17 : decode cX11_die 17 = .ok (.iload_n 2, 1) := dk_28 (dk_at dksX11_die_0 17 rfl rfl)
theorem dX11_die_18 : decode cX11_die 18 = .ok (.aload_n 0, 1) := dk_42 (dk_at dksX11_die_0 18 rfl rfl)
theorem dX11_die_19 : decode cX11_die 19 = .ok (.getfield 95, 3) := dk_180 0 95 (dk_at dksX11_die_0 19 rfl rfl)
theorem dX11_die_22 : decode cX11_die 22 = .ok (.iload_n 1, 1) := dk_27 (dk_at dksX11_die_0 22 rfl rfl)
theorem dX11_die_23 : decode cX11_die 23 = .ok (.iaload, 1) := dk_46 (dk_at dksX11_die_0 23 rfl rfl)
theorem dX11_die_24 : decode cX11_die 24 = .ok (.if_icmp .ge 6, 3) := dk_162 0 6 (dk_at dksX11_die_1 0 rfl rfl)
theorem dX11_die_27 : decode cX11_die 27 = .ok (.bipush (-2), 2) := dk_16 254 (dk_at dksX11_die_1 3 rfl rfl)
theorem dX11_die_29 : decode cX11_die 29 = .ok (.ireturn, 1) := dk_172 (dk_at dksX11_die_1 5 rfl rfl)
theorem dX11_die_30 : decode cX11_die 30 = .ok (.aload_n 0, 1) := dk_42 (dk_at dksX11_die_1 6 rfl rfl)
theorem dX11_die_31 : decode cX11_die 31 = .ok (.getfield 107, 3) := dk_180 0 107 (dk_at dksX11_die_1 7 rfl rfl)
theorem dX11_die_34 : decode cX11_die 34 = .ok (.iload_n 1, 1) := dk_27 (dk_at dksX11_die_1 10 rfl rfl)
theorem dX11_die_35 : decode cX11_die 35 = .ok (.iaload, 1) := dk_46 (dk_at dksX11_die_1 11 rfl rfl)
theorem dX11_die_36 : decode cX11_die 36 = .ok (.ldc 42, 2) := dk_18 42 (dk_at dksX11_die_1 12 rfl rfl)
theorem dX11_die_38 : decode cX11_die 38 = .ok (.if_icmp .eq 6, 3) := dk_159 0 6 (dk_at dksX11_die_1 14 rfl rfl)
theorem dX11_die_41 : decode cX11_die 41 = .ok (.bipush (-4), 2) := dk_16 252 (dk_at dksX11_die_1 17 rfl rfl)
theorem dX11_die_43 : decode cX11_die 43 = .ok (.ireturn, 1) := dk_172 (dk_at dksX11_die_1 19 rfl rfl)
theorem dX11_die_44 : decode cX11_die 44 = .ok (.aload_n 0, 1) := dk_42 (dk_at dksX11_die_1 20 rfl rfl)
theorem dX11_die_45 : decode cX11_die 45 = .ok (.getfield 107, 3) := dk_180 0 107 (dk_at dksX11_die_1 21 rfl rfl)
theorem dX11_die_48 : decode cX11_die 48 = .ok (.iload_n 1, 1) := dk_27 (dk_at dksX11_die_2 0 rfl rfl)
theorem dX11_die_49 : decode cX11_die 49 = .ok (.iload_n 2, 1) := dk_28 (dk_at dksX11_die_2 1 rfl rfl)
theorem dX11_die_50 : decode cX11_die 50 = .ok (.iastore, 1) := dk_79 (dk_at dksX11_die_2 2 rfl rfl)
theorem dX11_die_51 : decode cX11_die 51 = .ok (.aload_n 0, 1) := dk_42 (dk_at dksX11_die_2 3 rfl rfl)
theorem dX11_die_52 : decode cX11_die 52 = .ok (.bipush 6, 2) := dk_16 6 (dk_at dksX11_die_2 4 rfl rfl)
theorem dX11_die_54 : decode cX11_die 54 = .ok (.iload_n 1, 1) := dk_27 (dk_at dksX11_die_2 6 rfl rfl)
theorem dX11_die_55 : decode cX11_die 55 = .ok (.iload_n 2, 1) := dk_28 (dk_at dksX11_die_2 7 rfl rfl)
theorem dX11_die_56 : decode cX11_die 56 = .ok (.iconst 0, 1) := dk_3 (dk_at dksX11_die_2 8 rfl rfl)
theorem dX11_die_57 : decode cX11_die 57 = .ok (.iconst 0, 1) := dk_3 (dk_at dksX11_die_2 9 rfl rfl)
theorem dX11_die_58 : decode cX11_die 58 = .ok (.invokevirtual 22, 3) := dk_182 0 22 (dk_at dksX11_die_2 10 rfl rfl)
theorem dX11_die_61 : decode cX11_die 61 = .ok (.iconst 1, 1) := dk_4 (dk_at dksX11_die_2 13 rfl rfl)
theorem dX11_die_62 : decode cX11_die 62 = .ok (.ireturn, 1) := dk_172 (dk_at dksX11_die_2 14 rfl rfl)
abbrev cX11_age : ByteArray := prog_17_method_26_code
def yX11_age : MethodName := ⟨RX11, "age", "(II)I"⟩
def dkwX11_age_1 : List UInt8 := [42, 27, 28, 182, 0, 148, 172]
abbrev dktX11_age_1 : List UInt8 := dkwX11_age_1 ++ []
def dkwX11_age_0 : List UInt8 := [42, 27, 182, 0, 110, 154, 0, 7, 2, 167, 0, 21, 28, 184, 0, 70, 154, 0, 8, 16, 254, 167, 0, 9]
abbrev dktX11_age_0 : List UInt8 := dkwX11_age_0 ++ dktX11_age_1
theorem dksX11_age_0 : cX11_age.data.toList.drop 0 = dktX11_age_0 := by decide +kernel
theorem dksX11_age_1 : cX11_age.data.toList.drop 24 = dktX11_age_1 := dk_seg dksX11_age_0 24 rfl rfl
theorem dX11_age_0 : decode cX11_age 0 = .ok (.aload_n 0, 1) := dk_42 (dk_at dksX11_age_0 0 rfl rfl)
theorem dX11_age_1 : decode cX11_age 1 = .ok (.iload_n 1, 1) := dk_27 (dk_at dksX11_age_0 1 rfl rfl)
theorem dX11_age_2 : decode cX11_age 2 = .ok (.invokevirtual 110, 3) := dk_182 0 110 (dk_at dksX11_age_0 2 rfl rfl)
theorem dX11_age_5 : decode cX11_age 5 = .ok (.ifCond .ne 7, 3) := dk_154 0 7 (dk_at dksX11_age_0 5 rfl rfl)
theorem dX11_age_8 : decode cX11_age 8 = .ok (.iconst (-1), 1) := dk_2 (dk_at dksX11_age_0 8 rfl rfl)
theorem dX11_age_9 : decode cX11_age 9 = .ok (.goto 21, 3) := dk_167 0 21 (dk_at dksX11_age_0 9 rfl rfl)
theorem dX11_age_12 : decode cX11_age 12 = .ok (.iload_n 2, 1) := dk_28 (dk_at dksX11_age_0 12 rfl rfl)
theorem dX11_age_13 : decode cX11_age 13 = .ok (.invokestatic 70, 3) := dk_184 0 70 (dk_at dksX11_age_0 13 rfl rfl)
theorem dX11_age_16 : decode cX11_age 16 = .ok (.ifCond .ne 8, 3) := dk_154 0 8 (dk_at dksX11_age_0 16 rfl rfl)
theorem dX11_age_19 : decode cX11_age 19 = .ok (.bipush (-2), 2) := dk_16 254 (dk_at dksX11_age_0 19 rfl rfl)
theorem dX11_age_21 : decode cX11_age 21 = .ok (.goto 9, 3) := dk_167 0 9 (dk_at dksX11_age_0 21 rfl rfl)
theorem dX11_age_24 : decode cX11_age 24 = .ok (.aload_n 0, 1) := dk_42 (dk_at dksX11_age_1 0 rfl rfl)
theorem dX11_age_25 : decode cX11_age 25 = .ok (.iload_n 1, 1) := dk_27 (dk_at dksX11_age_1 1 rfl rfl)
theorem dX11_age_26 : decode cX11_age 26 = .ok (.iload_n 2, 1) := dk_28 (dk_at dksX11_age_1 2 rfl rfl)
theorem dX11_age_27 : decode cX11_age 27 = .ok (.invokevirtual 148, 3) := dk_182 0 148 (dk_at dksX11_age_1 3 rfl rfl)
theorem dX11_age_30 : decode cX11_age 30 = .ok (.ireturn, 1) := dk_172 (dk_at dksX11_age_1 6 rfl rfl)
abbrev cX11_ageOn : ByteArray := prog_17_method_23_code
def yX11_ageOn : MethodName := ⟨RX11, "ageOn", "(II)I"⟩
def dkwX11_ageOn_6 : List UInt8 := [167, 0, 4, 3, 96, 62, 132, 4, 1, 167, 255, 133, 29, 172]
abbrev dktX11_ageOn_6 : List UInt8 := dkwX11_ageOn_6 ++ []
def dkwX11_ageOn_5 : List UInt8 := [184, 0, 48, 167, 0, 10, 21, 4, 6, 4, 184, 0, 48, 54, 6, 29, 21, 6, 28, 163, 0, 7, 4]
abbrev dktX11_ageOn_5 : List UInt8 := dkwX11_ageOn_5 ++ dktX11_ageOn_6
def dkwX11_ageOn_4 : List UInt8 := [167, 0, 35, 42, 180, 0, 141, 153, 0, 21, 42, 180, 0, 145, 153, 0, 14, 21, 4, 5, 16, 28]
abbrev dktX11_ageOn_4 : List UInt8 := dkwX11_ageOn_4 ++ dktX11_ageOn_5
def dkwX11_ageOn_3 : List UInt8 := [21, 5, 154, 0, 23, 21, 4, 42, 180, 0, 101, 27, 46, 42, 180, 0, 104, 27, 46, 184, 0, 48]
abbrev dktX11_ageOn_3 : List UInt8 := dkwX11_ageOn_3 ++ dktX11_ageOn_4
def dkwX11_ageOn_2 : List UInt8 := [16, 29, 160, 0, 18, 21, 4, 184, 0, 28, 17, 1, 109, 160, 0, 7, 4, 167, 0, 4, 3, 54, 5]
abbrev dktX11_ageOn_2 : List UInt8 := dkwX11_ageOn_2 ++ dktX11_ageOn_3
def dkwX11_ageOn_1 : List UInt8 := [21, 4, 17, 8, 51, 163, 0, 121, 42, 180, 0, 101, 27, 46, 5, 160, 0, 29, 42, 180, 0, 104, 27, 46]
abbrev dktX11_ageOn_1 : List UInt8 := dkwX11_ageOn_1 ++ dktX11_ageOn_2
def dkwX11_ageOn_0 : List UInt8 := [28, 42, 180, 0, 95, 27, 46, 162, 0, 5, 2, 172, 3, 62, 42, 180, 0, 98, 27, 46, 4, 96, 54, 4]
abbrev dktX11_ageOn_0 : List UInt8 := dkwX11_ageOn_0 ++ dktX11_ageOn_1
theorem dksX11_ageOn_0 : cX11_ageOn.data.toList.drop 0 = dktX11_ageOn_0 := by decide +kernel
theorem dksX11_ageOn_1 : cX11_ageOn.data.toList.drop 24 = dktX11_ageOn_1 := dk_seg dksX11_ageOn_0 24 rfl rfl
theorem dksX11_ageOn_2 : cX11_ageOn.data.toList.drop 48 = dktX11_ageOn_2 := dk_seg dksX11_ageOn_1 24 rfl rfl
theorem dksX11_ageOn_3 : cX11_ageOn.data.toList.drop 71 = dktX11_ageOn_3 := dk_seg dksX11_ageOn_2 23 rfl rfl
theorem dksX11_ageOn_4 : cX11_ageOn.data.toList.drop 93 = dktX11_ageOn_4 := dk_seg dksX11_ageOn_3 22 rfl rfl
theorem dksX11_ageOn_5 : cX11_ageOn.data.toList.drop 115 = dktX11_ageOn_5 := dk_seg dksX11_ageOn_4 22 rfl rfl
theorem dksX11_ageOn_6 : cX11_ageOn.data.toList.drop 138 = dktX11_ageOn_6 := dk_seg dksX11_ageOn_5 23 rfl rfl
theorem dX11_ageOn_0 : decode cX11_ageOn 0 = .ok (.iload_n 2, 1) := dk_28 (dk_at dksX11_ageOn_0 0 rfl rfl)
theorem dX11_ageOn_1 : decode cX11_ageOn 1 = .ok (.aload_n 0, 1) := dk_42 (dk_at dksX11_ageOn_0 1 rfl rfl)
theorem dX11_ageOn_2 : decode cX11_ageOn 2 = .ok (.getfield 95, 3) := dk_180 0 95 (dk_at dksX11_ageOn_0 2 rfl rfl)
theorem dX11_ageOn_5 : decode cX11_ageOn 5 = .ok (.iload_n 1, 1) := dk_27 (dk_at dksX11_ageOn_0 5 rfl rfl)
theorem dX11_ageOn_6 : decode cX11_ageOn 6 = .ok (.iaload, 1) := dk_46 (dk_at dksX11_ageOn_0 6 rfl rfl)
theorem dX11_ageOn_7 : decode cX11_ageOn 7 = .ok (.if_icmp .ge 5, 3) := dk_162 0 5 (dk_at dksX11_ageOn_0 7 rfl rfl)
theorem dX11_ageOn_10 : decode cX11_ageOn 10 = .ok (.iconst (-1), 1) := dk_2 (dk_at dksX11_ageOn_0 10 rfl rfl)
theorem dX11_ageOn_11 : decode cX11_ageOn 11 = .ok (.ireturn, 1) := dk_172 (dk_at dksX11_ageOn_0 11 rfl rfl)
theorem dX11_ageOn_12 : decode cX11_ageOn 12 = .ok (.iconst 0, 1) := dk_3 (dk_at dksX11_ageOn_0 12 rfl rfl)
theorem dX11_ageOn_13 : decode cX11_ageOn 13 = .ok (.istore_n 3, 1) := dk_62 (dk_at dksX11_ageOn_0 13 rfl rfl)
theorem dX11_ageOn_14 : decode cX11_ageOn 14 = .ok (.aload_n 0, 1) := dk_42 (dk_at dksX11_ageOn_0 14 rfl rfl)
theorem dX11_ageOn_15 : decode cX11_ageOn 15 = .ok (.getfield 98, 3) := dk_180 0 98 (dk_at dksX11_ageOn_0 15 rfl rfl)
theorem dX11_ageOn_18 : decode cX11_ageOn 18 = .ok (.iload_n 1, 1) := dk_27 (dk_at dksX11_ageOn_0 18 rfl rfl)
theorem dX11_ageOn_19 : decode cX11_ageOn 19 = .ok (.iaload, 1) := dk_46 (dk_at dksX11_ageOn_0 19 rfl rfl)
theorem dX11_ageOn_20 : decode cX11_ageOn 20 = .ok (.iconst 1, 1) := dk_4 (dk_at dksX11_ageOn_0 20 rfl rfl)
theorem dX11_ageOn_21 : decode cX11_ageOn 21 = .ok (.iadd, 1) := dk_96 (dk_at dksX11_ageOn_0 21 rfl rfl)
theorem dX11_ageOn_22 : decode cX11_ageOn 22 = .ok (.istore 4, 2) := dk_54 4 (dk_at dksX11_ageOn_0 22 rfl rfl)
theorem dX11_ageOn_24 : decode cX11_ageOn 24 = .ok (.iload 4, 2) := dk_21 4 (dk_at dksX11_ageOn_1 0 rfl rfl)
theorem dX11_ageOn_26 : decode cX11_ageOn 26 = .ok (.sipush 2099, 3) := dk_17 8 51 (dk_at dksX11_ageOn_1 2 rfl rfl)
theorem dX11_ageOn_29 : decode cX11_ageOn 29 = .ok (.if_icmp .gt 121, 3) := dk_163 0 121 (dk_at dksX11_ageOn_1 5 rfl rfl)
theorem dX11_ageOn_32 : decode cX11_ageOn 32 = .ok (.aload_n 0, 1) := dk_42 (dk_at dksX11_ageOn_1 8 rfl rfl)
theorem dX11_ageOn_33 : decode cX11_ageOn 33 = .ok (.getfield 101, 3) := dk_180 0 101 (dk_at dksX11_ageOn_1 9 rfl rfl)
theorem dX11_ageOn_36 : decode cX11_ageOn 36 = .ok (.iload_n 1, 1) := dk_27 (dk_at dksX11_ageOn_1 12 rfl rfl)
theorem dX11_ageOn_37 : decode cX11_ageOn 37 = .ok (.iaload, 1) := dk_46 (dk_at dksX11_ageOn_1 13 rfl rfl)
theorem dX11_ageOn_38 : decode cX11_ageOn 38 = .ok (.iconst 2, 1) := dk_5 (dk_at dksX11_ageOn_1 14 rfl rfl)
theorem dX11_ageOn_39 : decode cX11_ageOn 39 = .ok (.if_icmp .ne 29, 3) := dk_160 0 29 (dk_at dksX11_ageOn_1 15 rfl rfl)
theorem dX11_ageOn_42 : decode cX11_ageOn 42 = .ok (.aload_n 0, 1) := dk_42 (dk_at dksX11_ageOn_1 18 rfl rfl)
theorem dX11_ageOn_43 : decode cX11_ageOn 43 = .ok (.getfield 104, 3) := dk_180 0 104 (dk_at dksX11_ageOn_1 19 rfl rfl)
theorem dX11_ageOn_46 : decode cX11_ageOn 46 = .ok (.iload_n 1, 1) := dk_27 (dk_at dksX11_ageOn_1 22 rfl rfl)
theorem dX11_ageOn_47 : decode cX11_ageOn 47 = .ok (.iaload, 1) := dk_46 (dk_at dksX11_ageOn_1 23 rfl rfl)
theorem dX11_ageOn_48 : decode cX11_ageOn 48 = .ok (.bipush 29, 2) := dk_16 29 (dk_at dksX11_ageOn_2 0 rfl rfl)
theorem dX11_ageOn_50 : decode cX11_ageOn 50 = .ok (.if_icmp .ne 18, 3) := dk_160 0 18 (dk_at dksX11_ageOn_2 2 rfl rfl)
theorem dX11_ageOn_53 : decode cX11_ageOn 53 = .ok (.iload 4, 2) := dk_21 4 (dk_at dksX11_ageOn_2 5 rfl rfl)
theorem dX11_ageOn_55 : decode cX11_ageOn 55 = .ok (.invokestatic 28, 3) := dk_184 0 28 (dk_at dksX11_ageOn_2 7 rfl rfl)
theorem dX11_ageOn_58 : decode cX11_ageOn 58 = .ok (.sipush 365, 3) := dk_17 1 109 (dk_at dksX11_ageOn_2 10 rfl rfl)
theorem dX11_ageOn_61 : decode cX11_ageOn 61 = .ok (.if_icmp .ne 7, 3) := dk_160 0 7 (dk_at dksX11_ageOn_2 13 rfl rfl)
theorem dX11_ageOn_64 : decode cX11_ageOn 64 = .ok (.iconst 1, 1) := dk_4 (dk_at dksX11_ageOn_2 16 rfl rfl)
theorem dX11_ageOn_65 : decode cX11_ageOn 65 = .ok (.goto 4, 3) := dk_167 0 4 (dk_at dksX11_ageOn_2 17 rfl rfl)
theorem dX11_ageOn_68 : decode cX11_ageOn 68 = .ok (.iconst 0, 1) := dk_3 (dk_at dksX11_ageOn_2 20 rfl rfl)
theorem dX11_ageOn_69 : decode cX11_ageOn 69 = .ok (.istore 5, 2) := dk_54 5 (dk_at dksX11_ageOn_2 21 rfl rfl)
theorem dX11_ageOn_71 : decode cX11_ageOn 71 = .ok (.iload 5, 2) := dk_21 5 (dk_at dksX11_ageOn_3 0 rfl rfl)
theorem dX11_ageOn_73 : decode cX11_ageOn 73 = .ok (.ifCond .ne 23, 3) := dk_154 0 23 (dk_at dksX11_ageOn_3 2 rfl rfl)
theorem dX11_ageOn_76 : decode cX11_ageOn 76 = .ok (.iload 4, 2) := dk_21 4 (dk_at dksX11_ageOn_3 5 rfl rfl)
theorem dX11_ageOn_78 : decode cX11_ageOn 78 = .ok (.aload_n 0, 1) := dk_42 (dk_at dksX11_ageOn_3 7 rfl rfl)
theorem dX11_ageOn_79 : decode cX11_ageOn 79 = .ok (.getfield 101, 3) := dk_180 0 101 (dk_at dksX11_ageOn_3 8 rfl rfl)
theorem dX11_ageOn_82 : decode cX11_ageOn 82 = .ok (.iload_n 1, 1) := dk_27 (dk_at dksX11_ageOn_3 11 rfl rfl)
theorem dX11_ageOn_83 : decode cX11_ageOn 83 = .ok (.iaload, 1) := dk_46 (dk_at dksX11_ageOn_3 12 rfl rfl)
theorem dX11_ageOn_84 : decode cX11_ageOn 84 = .ok (.aload_n 0, 1) := dk_42 (dk_at dksX11_ageOn_3 13 rfl rfl)
theorem dX11_ageOn_85 : decode cX11_ageOn 85 = .ok (.getfield 104, 3) := dk_180 0 104 (dk_at dksX11_ageOn_3 14 rfl rfl)
theorem dX11_ageOn_88 : decode cX11_ageOn 88 = .ok (.iload_n 1, 1) := dk_27 (dk_at dksX11_ageOn_3 17 rfl rfl)
theorem dX11_ageOn_89 : decode cX11_ageOn 89 = .ok (.iaload, 1) := dk_46 (dk_at dksX11_ageOn_3 18 rfl rfl)
theorem dX11_ageOn_90 : decode cX11_ageOn 90 = .ok (.invokestatic 48, 3) := dk_184 0 48 (dk_at dksX11_ageOn_3 19 rfl rfl)
theorem dX11_ageOn_93 : decode cX11_ageOn 93 = .ok (.goto 35, 3) := dk_167 0 35 (dk_at dksX11_ageOn_4 0 rfl rfl)
theorem dX11_ageOn_96 : decode cX11_ageOn 96 = .ok (.aload_n 0, 1) := dk_42 (dk_at dksX11_ageOn_4 3 rfl rfl)
theorem dX11_ageOn_97 : decode cX11_ageOn 97 = .ok (.getfield 141, 3) := dk_180 0 141 (dk_at dksX11_ageOn_4 4 rfl rfl)
theorem dX11_ageOn_100 : decode cX11_ageOn 100 = .ok (.ifCond .eq 21, 3) := dk_153 0 21 (dk_at dksX11_ageOn_4 7 rfl rfl)
theorem dX11_ageOn_103 : decode cX11_ageOn 103 = .ok (.aload_n 0, 1) := dk_42 (dk_at dksX11_ageOn_4 10 rfl rfl)
theorem dX11_ageOn_104 : decode cX11_ageOn 104 = .ok (.getfield 145, 3) := dk_180 0 145 (dk_at dksX11_ageOn_4 11 rfl rfl)
theorem dX11_ageOn_107 : decode cX11_ageOn 107 = .ok (.ifCond .eq 14, 3) := dk_153 0 14 (dk_at dksX11_ageOn_4 14 rfl rfl)
theorem dX11_ageOn_110 : decode cX11_ageOn 110 = .ok (.iload 4, 2) := dk_21 4 (dk_at dksX11_ageOn_4 17 rfl rfl)
theorem dX11_ageOn_112 : decode cX11_ageOn 112 = .ok (.iconst 2, 1) := dk_5 (dk_at dksX11_ageOn_4 19 rfl rfl)
theorem dX11_ageOn_113 : decode cX11_ageOn 113 = .ok (.bipush 28, 2) := dk_16 28 (dk_at dksX11_ageOn_4 20 rfl rfl)
theorem dX11_ageOn_115 : decode cX11_ageOn 115 = .ok (.invokestatic 48, 3) := dk_184 0 48 (dk_at dksX11_ageOn_5 0 rfl rfl)
theorem dX11_ageOn_118 : decode cX11_ageOn 118 = .ok (.goto 10, 3) := dk_167 0 10 (dk_at dksX11_ageOn_5 3 rfl rfl)
theorem dX11_ageOn_121 : decode cX11_ageOn 121 = .ok (.iload 4, 2) := dk_21 4 (dk_at dksX11_ageOn_5 6 rfl rfl)
theorem dX11_ageOn_123 : decode cX11_ageOn 123 = .ok (.iconst 3, 1) := dk_6 (dk_at dksX11_ageOn_5 8 rfl rfl)
theorem dX11_ageOn_124 : decode cX11_ageOn 124 = .ok (.iconst 1, 1) := dk_4 (dk_at dksX11_ageOn_5 9 rfl rfl)
theorem dX11_ageOn_125 : decode cX11_ageOn 125 = .ok (.invokestatic 48, 3) := dk_184 0 48 (dk_at dksX11_ageOn_5 10 rfl rfl)
theorem dX11_ageOn_128 : decode cX11_ageOn 128 = .ok (.istore 6, 2) := dk_54 6 (dk_at dksX11_ageOn_5 13 rfl rfl)
theorem dX11_ageOn_130 : decode cX11_ageOn 130 = .ok (.iload_n 3, 1) := dk_29 (dk_at dksX11_ageOn_5 15 rfl rfl)
theorem dX11_ageOn_131 : decode cX11_ageOn 131 = .ok (.iload 6, 2) := dk_21 6 (dk_at dksX11_ageOn_5 16 rfl rfl)
theorem dX11_ageOn_133 : decode cX11_ageOn 133 = .ok (.iload_n 2, 1) := dk_28 (dk_at dksX11_ageOn_5 18 rfl rfl)
theorem dX11_ageOn_134 : decode cX11_ageOn 134 = .ok (.if_icmp .gt 7, 3) := dk_163 0 7 (dk_at dksX11_ageOn_5 19 rfl rfl)
theorem dX11_ageOn_137 : decode cX11_ageOn 137 = .ok (.iconst 1, 1) := dk_4 (dk_at dksX11_ageOn_5 22 rfl rfl)
theorem dX11_ageOn_138 : decode cX11_ageOn 138 = .ok (.goto 4, 3) := dk_167 0 4 (dk_at dksX11_ageOn_6 0 rfl rfl)
theorem dX11_ageOn_141 : decode cX11_ageOn 141 = .ok (.iconst 0, 1) := dk_3 (dk_at dksX11_ageOn_6 3 rfl rfl)
theorem dX11_ageOn_142 : decode cX11_ageOn 142 = .ok (.iadd, 1) := dk_96 (dk_at dksX11_ageOn_6 4 rfl rfl)
theorem dX11_ageOn_143 : decode cX11_ageOn 143 = .ok (.istore_n 3, 1) := dk_62 (dk_at dksX11_ageOn_6 5 rfl rfl)
theorem dX11_ageOn_144 : decode cX11_ageOn 144 = .ok (.iinc 4 1, 3) := dk_132 4 1 (dk_at dksX11_ageOn_6 6 rfl rfl)
theorem dX11_ageOn_147 : decode cX11_ageOn 147 = .ok (.goto (-123), 3) := dk_167 255 133 (dk_at dksX11_ageOn_6 9 rfl rfl)
theorem dX11_ageOn_150 : decode cX11_ageOn 150 = .ok (.iload_n 3, 1) := dk_29 (dk_at dksX11_ageOn_6 12 rfl rfl)
theorem dX11_ageOn_151 : decode cX11_ageOn 151 = .ok (.ireturn, 1) := dk_172 (dk_at dksX11_ageOn_6 13 rfl rfl)
abbrev cX11_addressOf : ByteArray := prog_17_method_27_code
def yX11_addressOf : MethodName := ⟨RX11, "addressOf", "(II)I"⟩
def dkwX11_addressOf_1 : List UInt8 := [42, 27, 28, 182, 0, 151, 172]
abbrev dktX11_addressOf_1 : List UInt8 := dkwX11_addressOf_1 ++ []
def dkwX11_addressOf_0 : List UInt8 := [42, 27, 182, 0, 110, 154, 0, 7, 2, 167, 0, 21, 28, 184, 0, 70, 154, 0, 8, 16, 254, 167, 0, 9]
abbrev dktX11_addressOf_0 : List UInt8 := dkwX11_addressOf_0 ++ dktX11_addressOf_1
theorem dksX11_addressOf_0 : cX11_addressOf.data.toList.drop 0 = dktX11_addressOf_0 := by decide +kernel
theorem dksX11_addressOf_1 : cX11_addressOf.data.toList.drop 24 = dktX11_addressOf_1 := dk_seg dksX11_addressOf_0 24 rfl rfl
theorem dX11_addressOf_0 : decode cX11_addressOf 0 = .ok (.aload_n 0, 1) := dk_42 (dk_at dksX11_addressOf_0 0 rfl rfl)
theorem dX11_addressOf_1 : decode cX11_addressOf 1 = .ok (.iload_n 1, 1) := dk_27 (dk_at dksX11_addressOf_0 1 rfl rfl)
theorem dX11_addressOf_2 : decode cX11_addressOf 2 = .ok (.invokevirtual 110, 3) := dk_182 0 110 (dk_at dksX11_addressOf_0 2 rfl rfl)
theorem dX11_addressOf_5 : decode cX11_addressOf 5 = .ok (.ifCond .ne 7, 3) := dk_154 0 7 (dk_at dksX11_addressOf_0 5 rfl rfl)
theorem dX11_addressOf_8 : decode cX11_addressOf 8 = .ok (.iconst (-1), 1) := dk_2 (dk_at dksX11_addressOf_0 8 rfl rfl)
theorem dX11_addressOf_9 : decode cX11_addressOf 9 = .ok (.goto 21, 3) := dk_167 0 21 (dk_at dksX11_addressOf_0 9 rfl rfl)
theorem dX11_addressOf_12 : decode cX11_addressOf 12 = .ok (.iload_n 2, 1) := dk_28 (dk_at dksX11_addressOf_0 12 rfl rfl)
theorem dX11_addressOf_13 : decode cX11_addressOf 13 = .ok (.invokestatic 70, 3) := dk_184 0 70 (dk_at dksX11_addressOf_0 13 rfl rfl)
theorem dX11_addressOf_16 : decode cX11_addressOf 16 = .ok (.ifCond .ne 8, 3) := dk_154 0 8 (dk_at dksX11_addressOf_0 16 rfl rfl)
theorem dX11_addressOf_19 : decode cX11_addressOf 19 = .ok (.bipush (-2), 2) := dk_16 254 (dk_at dksX11_addressOf_0 19 rfl rfl)
theorem dX11_addressOf_21 : decode cX11_addressOf 21 = .ok (.goto 9, 3) := dk_167 0 9 (dk_at dksX11_addressOf_0 21 rfl rfl)
theorem dX11_addressOf_24 : decode cX11_addressOf 24 = .ok (.aload_n 0, 1) := dk_42 (dk_at dksX11_addressOf_1 0 rfl rfl)
theorem dX11_addressOf_25 : decode cX11_addressOf 25 = .ok (.iload_n 1, 1) := dk_27 (dk_at dksX11_addressOf_1 1 rfl rfl)
theorem dX11_addressOf_26 : decode cX11_addressOf 26 = .ok (.iload_n 2, 1) := dk_28 (dk_at dksX11_addressOf_1 2 rfl rfl)
theorem dX11_addressOf_27 : decode cX11_addressOf 27 = .ok (.invokevirtual 151, 3) := dk_182 0 151 (dk_at dksX11_addressOf_1 3 rfl rfl)
theorem dX11_addressOf_30 : decode cX11_addressOf 30 = .ok (.ireturn, 1) := dk_172 (dk_at dksX11_addressOf_1 6 rfl rfl)
abbrev cX11_addressOn : ByteArray := prog_17_method_24_code
def yX11_addressOn : MethodName := ⟨RX11, "addressOn", "(II)I"⟩
def dkwX11_addressOn_3 : List UInt8 := [167, 0, 9, 42, 180, 0, 121, 29, 46, 172]
abbrev dktX11_addressOn_3 : List UInt8 := dkwX11_addressOn_3 ++ []
def dkwX11_addressOn_2 : List UInt8 := [180, 0, 118, 29, 46, 161, 0, 6, 21, 4, 62, 132, 4, 1, 167, 255, 203, 29, 156, 0, 7, 2]
abbrev dktX11_addressOn_2 : List UInt8 := dkwX11_addressOn_2 ++ dktX11_addressOn_3
def dkwX11_addressOn_1 : List UInt8 := [42, 180, 0, 118, 21, 4, 46, 28, 163, 0, 26, 29, 155, 0, 19, 42, 180, 0, 118, 21, 4, 46, 42]
abbrev dktX11_addressOn_1 : List UInt8 := dkwX11_addressOn_1 ++ dktX11_addressOn_2
def dkwX11_addressOn_0 : List UInt8 := [2, 62, 16, 10, 27, 104, 54, 4, 21, 4, 16, 10, 27, 104, 42, 180, 0, 115, 27, 46, 96, 162, 0, 43]
abbrev dktX11_addressOn_0 : List UInt8 := dkwX11_addressOn_0 ++ dktX11_addressOn_1
theorem dksX11_addressOn_0 : cX11_addressOn.data.toList.drop 0 = dktX11_addressOn_0 := by decide +kernel
theorem dksX11_addressOn_1 : cX11_addressOn.data.toList.drop 24 = dktX11_addressOn_1 := dk_seg dksX11_addressOn_0 24 rfl rfl
theorem dksX11_addressOn_2 : cX11_addressOn.data.toList.drop 47 = dktX11_addressOn_2 := dk_seg dksX11_addressOn_1 23 rfl rfl
theorem dksX11_addressOn_3 : cX11_addressOn.data.toList.drop 69 = dktX11_addressOn_3 := dk_seg dksX11_addressOn_2 22 rfl rfl
theorem dX11_addressOn_0 : decode cX11_addressOn 0 = .ok (.iconst (-1), 1) := dk_2 (dk_at dksX11_addressOn_0 0 rfl rfl)
theorem dX11_addressOn_1 : decode cX11_addressOn 1 = .ok (.istore_n 3, 1) := dk_62 (dk_at dksX11_addressOn_0 1 rfl rfl)
theorem dX11_addressOn_2 : decode cX11_addressOn 2 = .ok (.bipush 10, 2) := dk_16 10 (dk_at dksX11_addressOn_0 2 rfl rfl)
theorem dX11_addressOn_4 : decode cX11_addressOn 4 = .ok (.iload_n 1, 1) := dk_27 (dk_at dksX11_addressOn_0 4 rfl rfl)
theorem dX11_addressOn_5 : decode cX11_addressOn 5 = .ok (.imul, 1) := dk_104 (dk_at dksX11_addressOn_0 5 rfl rfl)
theorem dX11_addressOn_6 : decode cX11_addressOn 6 = .ok (.istore 4, 2) := dk_54 4 (dk_at dksX11_addressOn_0 6 rfl rfl)
theorem dX11_addressOn_8 : decode cX11_addressOn 8 = .ok (.iload 4, 2) := dk_21 4 (dk_at dksX11_addressOn_0 8 rfl rfl)
theorem dX11_addressOn_10 : decode cX11_addressOn 10 = .ok (.bipush 10, 2) := dk_16 10 (dk_at dksX11_addressOn_0 10 rfl rfl)
theorem dX11_addressOn_12 : decode cX11_addressOn 12 = .ok (.iload_n 1, 1) := dk_27 (dk_at dksX11_addressOn_0 12 rfl rfl)
theorem dX11_addressOn_13 : decode cX11_addressOn 13 = .ok (.imul, 1) := dk_104 (dk_at dksX11_addressOn_0 13 rfl rfl)
theorem dX11_addressOn_14 : decode cX11_addressOn 14 = .ok (.aload_n 0, 1) := dk_42 (dk_at dksX11_addressOn_0 14 rfl rfl)
theorem dX11_addressOn_15 : decode cX11_addressOn 15 = .ok (.getfield 115, 3) := dk_180 0 115 (dk_at dksX11_addressOn_0 15 rfl rfl)
theorem dX11_addressOn_18 : decode cX11_addressOn 18 = .ok (.iload_n 1, 1) := dk_27 (dk_at dksX11_addressOn_0 18 rfl rfl)
theorem dX11_addressOn_19 : decode cX11_addressOn 19 = .ok (.iaload, 1) := dk_46 (dk_at dksX11_addressOn_0 19 rfl rfl)
theorem dX11_addressOn_20 : decode cX11_addressOn 20 = .ok (.iadd, 1) := dk_96 (dk_at dksX11_addressOn_0 20 rfl rfl)
theorem dX11_addressOn_21 : decode cX11_addressOn 21 = .ok (.if_icmp .ge 43, 3) := dk_162 0 43 (dk_at dksX11_addressOn_0 21 rfl rfl)
theorem dX11_addressOn_24 : decode cX11_addressOn 24 = .ok (.aload_n 0, 1) := dk_42 (dk_at dksX11_addressOn_1 0 rfl rfl)
theorem dX11_addressOn_25 : decode cX11_addressOn 25 = .ok (.getfield 118, 3) := dk_180 0 118 (dk_at dksX11_addressOn_1 1 rfl rfl)
theorem dX11_addressOn_28 : decode cX11_addressOn 28 = .ok (.iload 4, 2) := dk_21 4 (dk_at dksX11_addressOn_1 4 rfl rfl)
theorem dX11_addressOn_30 : decode cX11_addressOn 30 = .ok (.iaload, 1) := dk_46 (dk_at dksX11_addressOn_1 6 rfl rfl)
theorem dX11_addressOn_31 : decode cX11_addressOn 31 = .ok (.iload_n 2, 1) := dk_28 (dk_at dksX11_addressOn_1 7 rfl rfl)
theorem dX11_addressOn_32 : decode cX11_addressOn 32 = .ok (.if_icmp .gt 26, 3) := dk_163 0 26 (dk_at dksX11_addressOn_1 8 rfl rfl)
theorem dX11_addressOn_35 : decode cX11_addressOn 35 = .ok (.iload_n 3, 1) := dk_29 (dk_at dksX11_addressOn_1 11 rfl rfl)
theorem dX11_addressOn_36 : decode cX11_addressOn 36 = .ok (.ifCond .lt 19, 3) := dk_155 0 19 (dk_at dksX11_addressOn_1 12 rfl rfl)
theorem dX11_addressOn_39 : decode cX11_addressOn 39 = .ok (.aload_n 0, 1) := dk_42 (dk_at dksX11_addressOn_1 15 rfl rfl)
theorem dX11_addressOn_40 : decode cX11_addressOn 40 = .ok (.getfield 118, 3) := dk_180 0 118 (dk_at dksX11_addressOn_1 16 rfl rfl)
theorem dX11_addressOn_43 : decode cX11_addressOn 43 = .ok (.iload 4, 2) := dk_21 4 (dk_at dksX11_addressOn_1 19 rfl rfl)
theorem dX11_addressOn_45 : decode cX11_addressOn 45 = .ok (.iaload, 1) := dk_46 (dk_at dksX11_addressOn_1 21 rfl rfl)
theorem dX11_addressOn_46 : decode cX11_addressOn 46 = .ok (.aload_n 0, 1) := dk_42 (dk_at dksX11_addressOn_1 22 rfl rfl)
theorem dX11_addressOn_47 : decode cX11_addressOn 47 = .ok (.getfield 118, 3) := dk_180 0 118 (dk_at dksX11_addressOn_2 0 rfl rfl)
theorem dX11_addressOn_50 : decode cX11_addressOn 50 = .ok (.iload_n 3, 1) := dk_29 (dk_at dksX11_addressOn_2 3 rfl rfl)
theorem dX11_addressOn_51 : decode cX11_addressOn 51 = .ok (.iaload, 1) := dk_46 (dk_at dksX11_addressOn_2 4 rfl rfl)
theorem dX11_addressOn_52 : decode cX11_addressOn 52 = .ok (.if_icmp .lt 6, 3) := dk_161 0 6 (dk_at dksX11_addressOn_2 5 rfl rfl)
theorem dX11_addressOn_55 : decode cX11_addressOn 55 = .ok (.iload 4, 2) := dk_21 4 (dk_at dksX11_addressOn_2 8 rfl rfl)
theorem dX11_addressOn_57 : decode cX11_addressOn 57 = .ok (.istore_n 3, 1) := dk_62 (dk_at dksX11_addressOn_2 10 rfl rfl)
theorem dX11_addressOn_58 : decode cX11_addressOn 58 = .ok (.iinc 4 1, 3) := dk_132 4 1 (dk_at dksX11_addressOn_2 11 rfl rfl)
theorem dX11_addressOn_61 : decode cX11_addressOn 61 = .ok (.goto (-53), 3) := dk_167 255 203 (dk_at dksX11_addressOn_2 14 rfl rfl)
theorem dX11_addressOn_64 : decode cX11_addressOn 64 = .ok (.iload_n 3, 1) := dk_29 (dk_at dksX11_addressOn_2 17 rfl rfl)
theorem dX11_addressOn_65 : decode cX11_addressOn 65 = .ok (.ifCond .ge 7, 3) := dk_156 0 7 (dk_at dksX11_addressOn_2 18 rfl rfl)
theorem dX11_addressOn_68 : decode cX11_addressOn 68 = .ok (.iconst (-1), 1) := dk_2 (dk_at dksX11_addressOn_2 21 rfl rfl)
theorem dX11_addressOn_69 : decode cX11_addressOn 69 = .ok (.goto 9, 3) := dk_167 0 9 (dk_at dksX11_addressOn_3 0 rfl rfl)
theorem dX11_addressOn_72 : decode cX11_addressOn 72 = .ok (.aload_n 0, 1) := dk_42 (dk_at dksX11_addressOn_3 3 rfl rfl)
theorem dX11_addressOn_73 : decode cX11_addressOn 73 = .ok (.getfield 121, 3) := dk_180 0 121 (dk_at dksX11_addressOn_3 4 rfl rfl)
theorem dX11_addressOn_76 : decode cX11_addressOn 76 = .ok (.iload_n 3, 1) := dk_29 (dk_at dksX11_addressOn_3 7 rfl rfl)
theorem dX11_addressOn_77 : decode cX11_addressOn 77 = .ok (.iaload, 1) := dk_46 (dk_at dksX11_addressOn_3 8 rfl rfl)
theorem dX11_addressOn_78 : decode cX11_addressOn 78 = .ok (.ireturn, 1) := dk_172 (dk_at dksX11_addressOn_3 9 rfl rfl)
abbrev cX11_is : ByteArray := prog_17_method_28_code
def yX11_is : MethodName := ⟨RX11, "is", "(III)I"⟩
def dkwX11_is_2 : List UInt8 := [167, 0, 4, 3, 172]
abbrev dktX11_is_2 : List UInt8 := dkwX11_is_2 ++ []
def dkwX11_is_1 : List UInt8 := [29, 184, 0, 70, 154, 0, 8, 16, 254, 167, 0, 18, 42, 27, 28, 29, 182, 0, 154, 153, 0, 7, 4]
abbrev dktX11_is_1 : List UInt8 := dkwX11_is_1 ++ dktX11_is_2
def dkwX11_is_0 : List UInt8 := [42, 27, 182, 0, 110, 154, 0, 7, 2, 167, 0, 42, 28, 133, 9, 20, 0, 124, 184, 0, 13, 153, 0, 10]
abbrev dktX11_is_0 : List UInt8 := dkwX11_is_0 ++ dktX11_is_1
theorem dksX11_is_0 : cX11_is.data.toList.drop 0 = dktX11_is_0 := by decide +kernel
theorem dksX11_is_1 : cX11_is.data.toList.drop 24 = dktX11_is_1 := dk_seg dksX11_is_0 24 rfl rfl
theorem dksX11_is_2 : cX11_is.data.toList.drop 47 = dktX11_is_2 := dk_seg dksX11_is_1 23 rfl rfl
theorem dX11_is_0 : decode cX11_is 0 = .ok (.aload_n 0, 1) := dk_42 (dk_at dksX11_is_0 0 rfl rfl)
theorem dX11_is_1 : decode cX11_is 1 = .ok (.iload_n 1, 1) := dk_27 (dk_at dksX11_is_0 1 rfl rfl)
theorem dX11_is_2 : decode cX11_is 2 = .ok (.invokevirtual 110, 3) := dk_182 0 110 (dk_at dksX11_is_0 2 rfl rfl)
theorem dX11_is_5 : decode cX11_is 5 = .ok (.ifCond .ne 7, 3) := dk_154 0 7 (dk_at dksX11_is_0 5 rfl rfl)
theorem dX11_is_8 : decode cX11_is 8 = .ok (.iconst (-1), 1) := dk_2 (dk_at dksX11_is_0 8 rfl rfl)
theorem dX11_is_9 : decode cX11_is 9 = .ok (.goto 42, 3) := dk_167 0 42 (dk_at dksX11_is_0 9 rfl rfl)
theorem dX11_is_12 : decode cX11_is 12 = .ok (.iload_n 2, 1) := dk_28 (dk_at dksX11_is_0 12 rfl rfl)
theorem dX11_is_13 : decode cX11_is 13 = .ok (.i2l, 1) := dk_133 (dk_at dksX11_is_0 13 rfl rfl)
theorem dX11_is_14 : decode cX11_is 14 = .ok (.lconst 0, 1) := dk_9 (dk_at dksX11_is_0 14 rfl rfl)
theorem dX11_is_15 : decode cX11_is 15 = .ok (.ldc2_w 124, 3) := dk_20 0 124 (dk_at dksX11_is_0 15 rfl rfl)
theorem dX11_is_18 : decode cX11_is 18 = .ok (.invokestatic 13, 3) := dk_184 0 13 (dk_at dksX11_is_0 18 rfl rfl)
theorem dX11_is_21 : decode cX11_is 21 = .ok (.ifCond .eq 10, 3) := dk_153 0 10 (dk_at dksX11_is_0 21 rfl rfl)
theorem dX11_is_24 : decode cX11_is 24 = .ok (.iload_n 3, 1) := dk_29 (dk_at dksX11_is_1 0 rfl rfl)
theorem dX11_is_25 : decode cX11_is 25 = .ok (.invokestatic 70, 3) := dk_184 0 70 (dk_at dksX11_is_1 1 rfl rfl)
theorem dX11_is_28 : decode cX11_is 28 = .ok (.ifCond .ne 8, 3) := dk_154 0 8 (dk_at dksX11_is_1 4 rfl rfl)
theorem dX11_is_31 : decode cX11_is 31 = .ok (.bipush (-2), 2) := dk_16 254 (dk_at dksX11_is_1 7 rfl rfl)
theorem dX11_is_33 : decode cX11_is 33 = .ok (.goto 18, 3) := dk_167 0 18 (dk_at dksX11_is_1 9 rfl rfl)
theorem dX11_is_36 : decode cX11_is 36 = .ok (.aload_n 0, 1) := dk_42 (dk_at dksX11_is_1 12 rfl rfl)
theorem dX11_is_37 : decode cX11_is 37 = .ok (.iload_n 1, 1) := dk_27 (dk_at dksX11_is_1 13 rfl rfl)
theorem dX11_is_38 : decode cX11_is 38 = .ok (.iload_n 2, 1) := dk_28 (dk_at dksX11_is_1 14 rfl rfl)
theorem dX11_is_39 : decode cX11_is 39 = .ok (.iload_n 3, 1) := dk_29 (dk_at dksX11_is_1 15 rfl rfl)
theorem dX11_is_40 : decode cX11_is 40 = .ok (.invokevirtual 154, 3) := dk_182 0 154 (dk_at dksX11_is_1 16 rfl rfl)
theorem dX11_is_43 : decode cX11_is 43 = .ok (.ifCond .eq 7, 3) := dk_153 0 7 (dk_at dksX11_is_1 19 rfl rfl)
theorem dX11_is_46 : decode cX11_is 46 = .ok (.iconst 1, 1) := dk_4 (dk_at dksX11_is_1 22 rfl rfl)
theorem dX11_is_47 : decode cX11_is 47 = .ok (.goto 4, 3) := dk_167 0 4 (dk_at dksX11_is_2 0 rfl rfl)
theorem dX11_is_50 : decode cX11_is 50 = .ok (.iconst 0, 1) := dk_3 (dk_at dksX11_is_2 3 rfl rfl)
theorem dX11_is_51 : decode cX11_is 51 = .ok (.ireturn, 1) := dk_172 (dk_at dksX11_is_2 4 rfl rfl)
abbrev cX11_isSo : ByteArray := prog_17_method_25_code
def yX11_isSo : MethodName := ⟨RX11, "isSo", "(III)Z"⟩
def dkwX11_isSo_3 : List UInt8 := [21, 4, 54, 4, 132, 5, 1, 167, 255, 188, 21, 4, 4, 160, 0, 7, 4, 167, 0, 4, 3, 172]
abbrev dktX11_isSo_3 : List UInt8 := dkwX11_isSo_3 ++ []
def dkwX11_isSo_2 : List UInt8 := [42, 180, 0, 138, 21, 5, 46, 133, 184, 0, 13, 153, 0, 13, 42, 180, 0, 132, 21, 5, 46, 167, 0, 5]
abbrev dktX11_isSo_2 : List UInt8 := dkwX11_isSo_2 ++ dktX11_isSo_3
def dkwX11_isSo_1 : List UInt8 := [162, 0, 58, 42, 180, 0, 129, 21, 5, 46, 28, 160, 0, 37, 29, 133, 42, 180, 0, 135, 21, 5, 46, 133]
abbrev dktX11_isSo_1 : List UInt8 := dkwX11_isSo_1 ++ dktX11_isSo_2
def dkwX11_isSo_0 : List UInt8 := [3, 54, 4, 16, 12, 27, 104, 54, 5, 21, 5, 16, 12, 27, 104, 42, 180, 0, 126, 27, 46, 96]
abbrev dktX11_isSo_0 : List UInt8 := dkwX11_isSo_0 ++ dktX11_isSo_1
theorem dksX11_isSo_0 : cX11_isSo.data.toList.drop 0 = dktX11_isSo_0 := by decide +kernel
theorem dksX11_isSo_1 : cX11_isSo.data.toList.drop 22 = dktX11_isSo_1 := dk_seg dksX11_isSo_0 22 rfl rfl
theorem dksX11_isSo_2 : cX11_isSo.data.toList.drop 46 = dktX11_isSo_2 := dk_seg dksX11_isSo_1 24 rfl rfl
theorem dksX11_isSo_3 : cX11_isSo.data.toList.drop 70 = dktX11_isSo_3 := dk_seg dksX11_isSo_2 24 rfl rfl
theorem dX11_isSo_0 : decode cX11_isSo 0 = .ok (.iconst 0, 1) := dk_3 (dk_at dksX11_isSo_0 0 rfl rfl)
theorem dX11_isSo_1 : decode cX11_isSo 1 = .ok (.istore 4, 2) := dk_54 4 (dk_at dksX11_isSo_0 1 rfl rfl)
theorem dX11_isSo_3 : decode cX11_isSo 3 = .ok (.bipush 12, 2) := dk_16 12 (dk_at dksX11_isSo_0 3 rfl rfl)
theorem dX11_isSo_5 : decode cX11_isSo 5 = .ok (.iload_n 1, 1) := dk_27 (dk_at dksX11_isSo_0 5 rfl rfl)
theorem dX11_isSo_6 : decode cX11_isSo 6 = .ok (.imul, 1) := dk_104 (dk_at dksX11_isSo_0 6 rfl rfl)
theorem dX11_isSo_7 : decode cX11_isSo 7 = .ok (.istore 5, 2) := dk_54 5 (dk_at dksX11_isSo_0 7 rfl rfl)
theorem dX11_isSo_9 : decode cX11_isSo 9 = .ok (.iload 5, 2) := dk_21 5 (dk_at dksX11_isSo_0 9 rfl rfl)
theorem dX11_isSo_11 : decode cX11_isSo 11 = .ok (.bipush 12, 2) := dk_16 12 (dk_at dksX11_isSo_0 11 rfl rfl)
theorem dX11_isSo_13 : decode cX11_isSo 13 = .ok (.iload_n 1, 1) := dk_27 (dk_at dksX11_isSo_0 13 rfl rfl)
theorem dX11_isSo_14 : decode cX11_isSo 14 = .ok (.imul, 1) := dk_104 (dk_at dksX11_isSo_0 14 rfl rfl)
theorem dX11_isSo_15 : decode cX11_isSo 15 = .ok (.aload_n 0, 1) := dk_42 (dk_at dksX11_isSo_0 15 rfl rfl)
theorem dX11_isSo_16 : decode cX11_isSo 16 = .ok (.getfield 126, 3) := dk_180 0 126 (dk_at dksX11_isSo_0 16 rfl rfl)
theorem dX11_isSo_19 : decode cX11_isSo 19 = .ok (.iload_n 1, 1) := dk_27 (dk_at dksX11_isSo_0 19 rfl rfl)
theorem dX11_isSo_20 : decode cX11_isSo 20 = .ok (.iaload, 1) := dk_46 (dk_at dksX11_isSo_0 20 rfl rfl)
theorem dX11_isSo_21 : decode cX11_isSo 21 = .ok (.iadd, 1) := dk_96 (dk_at dksX11_isSo_0 21 rfl rfl)
theorem dX11_isSo_22 : decode cX11_isSo 22 = .ok (.if_icmp .ge 58, 3) := dk_162 0 58 (dk_at dksX11_isSo_1 0 rfl rfl)
theorem dX11_isSo_25 : decode cX11_isSo 25 = .ok (.aload_n 0, 1) := dk_42 (dk_at dksX11_isSo_1 3 rfl rfl)
theorem dX11_isSo_26 : decode cX11_isSo 26 = .ok (.getfield 129, 3) := dk_180 0 129 (dk_at dksX11_isSo_1 4 rfl rfl)
theorem dX11_isSo_29 : decode cX11_isSo 29 = .ok (.iload 5, 2) := dk_21 5 (dk_at dksX11_isSo_1 7 rfl rfl)
theorem dX11_isSo_31 : decode cX11_isSo 31 = .ok (.iaload, 1) := dk_46 (dk_at dksX11_isSo_1 9 rfl rfl)
theorem dX11_isSo_32 : decode cX11_isSo 32 = .ok (.iload_n 2, 1) := dk_28 (dk_at dksX11_isSo_1 10 rfl rfl)
theorem dX11_isSo_33 : decode cX11_isSo 33 = .ok (.if_icmp .ne 37, 3) := dk_160 0 37 (dk_at dksX11_isSo_1 11 rfl rfl)
theorem dX11_isSo_36 : decode cX11_isSo 36 = .ok (.iload_n 3, 1) := dk_29 (dk_at dksX11_isSo_1 14 rfl rfl)
theorem dX11_isSo_37 : decode cX11_isSo 37 = .ok (.i2l, 1) := dk_133 (dk_at dksX11_isSo_1 15 rfl rfl)
theorem dX11_isSo_38 : decode cX11_isSo 38 = .ok (.aload_n 0, 1) := dk_42 (dk_at dksX11_isSo_1 16 rfl rfl)
theorem dX11_isSo_39 : decode cX11_isSo 39 = .ok (.getfield 135, 3) := dk_180 0 135 (dk_at dksX11_isSo_1 17 rfl rfl)
theorem dX11_isSo_42 : decode cX11_isSo 42 = .ok (.iload 5, 2) := dk_21 5 (dk_at dksX11_isSo_1 20 rfl rfl)
theorem dX11_isSo_44 : decode cX11_isSo 44 = .ok (.iaload, 1) := dk_46 (dk_at dksX11_isSo_1 22 rfl rfl)
theorem dX11_isSo_45 : decode cX11_isSo 45 = .ok (.i2l, 1) := dk_133 (dk_at dksX11_isSo_1 23 rfl rfl)
theorem dX11_isSo_46 : decode cX11_isSo 46 = .ok (.aload_n 0, 1) := dk_42 (dk_at dksX11_isSo_2 0 rfl rfl)
theorem dX11_isSo_47 : decode cX11_isSo 47 = .ok (.getfield 138, 3) := dk_180 0 138 (dk_at dksX11_isSo_2 1 rfl rfl)
theorem dX11_isSo_50 : decode cX11_isSo 50 = .ok (.iload 5, 2) := dk_21 5 (dk_at dksX11_isSo_2 4 rfl rfl)
theorem dX11_isSo_52 : decode cX11_isSo 52 = .ok (.iaload, 1) := dk_46 (dk_at dksX11_isSo_2 6 rfl rfl)
theorem dX11_isSo_53 : decode cX11_isSo 53 = .ok (.i2l, 1) := dk_133 (dk_at dksX11_isSo_2 7 rfl rfl)
theorem dX11_isSo_54 : decode cX11_isSo 54 = .ok (.invokestatic 13, 3) := dk_184 0 13 (dk_at dksX11_isSo_2 8 rfl rfl)
theorem dX11_isSo_57 : decode cX11_isSo 57 = .ok (.ifCond .eq 13, 3) := dk_153 0 13 (dk_at dksX11_isSo_2 11 rfl rfl)
theorem dX11_isSo_60 : decode cX11_isSo 60 = .ok (.aload_n 0, 1) := dk_42 (dk_at dksX11_isSo_2 14 rfl rfl)
theorem dX11_isSo_61 : decode cX11_isSo 61 = .ok (.getfield 132, 3) := dk_180 0 132 (dk_at dksX11_isSo_2 15 rfl rfl)
theorem dX11_isSo_64 : decode cX11_isSo 64 = .ok (.iload 5, 2) := dk_21 5 (dk_at dksX11_isSo_2 18 rfl rfl)
theorem dX11_isSo_66 : decode cX11_isSo 66 = .ok (.iaload, 1) := dk_46 (dk_at dksX11_isSo_2 20 rfl rfl)
theorem dX11_isSo_67 : decode cX11_isSo 67 = .ok (.goto 5, 3) := dk_167 0 5 (dk_at dksX11_isSo_2 21 rfl rfl)
theorem dX11_isSo_70 : decode cX11_isSo 70 = .ok (.iload 4, 2) := dk_21 4 (dk_at dksX11_isSo_3 0 rfl rfl)
theorem dX11_isSo_72 : decode cX11_isSo 72 = .ok (.istore 4, 2) := dk_54 4 (dk_at dksX11_isSo_3 2 rfl rfl)
theorem dX11_isSo_74 : decode cX11_isSo 74 = .ok (.iinc 5 1, 3) := dk_132 5 1 (dk_at dksX11_isSo_3 4 rfl rfl)
theorem dX11_isSo_77 : decode cX11_isSo 77 = .ok (.goto (-68), 3) := dk_167 255 188 (dk_at dksX11_isSo_3 7 rfl rfl)
theorem dX11_isSo_80 : decode cX11_isSo 80 = .ok (.iload 4, 2) := dk_21 4 (dk_at dksX11_isSo_3 10 rfl rfl)
theorem dX11_isSo_82 : decode cX11_isSo 82 = .ok (.iconst 1, 1) := dk_4 (dk_at dksX11_isSo_3 12 rfl rfl)
theorem dX11_isSo_83 : decode cX11_isSo 83 = .ok (.if_icmp .ne 7, 3) := dk_160 0 7 (dk_at dksX11_isSo_3 13 rfl rfl)
theorem dX11_isSo_86 : decode cX11_isSo 86 = .ok (.iconst 1, 1) := dk_4 (dk_at dksX11_isSo_3 16 rfl rfl)
theorem dX11_isSo_87 : decode cX11_isSo 87 = .ok (.goto 4, 3) := dk_167 0 4 (dk_at dksX11_isSo_3 17 rfl rfl)
theorem dX11_isSo_90 : decode cX11_isSo 90 = .ok (.iconst 0, 1) := dk_3 (dk_at dksX11_isSo_3 20 rfl rfl)
theorem dX11_isSo_91 : decode cX11_isSo 91 = .ok (.ireturn, 1) := dk_172 (dk_at dksX11_isSo_3 21 rfl rfl)
abbrev cX11_law : ByteArray := prog_17_method_59_code
def yX11_law : MethodName := ⟨RX11, "law", "()I"⟩
def dkwX11_law_9 : List UInt8 := [16, 7, 42, 180, 1, 213, 3, 3, 3, 182, 0, 22, 42, 180, 1, 213, 172]
abbrev dktX11_law_9 : List UInt8 := dkwX11_law_9 ++ []
def dkwX11_law_8 : List UInt8 := [181, 0, 145, 42, 42, 16, 9, 182, 1, 210, 181, 1, 213, 42, 2, 181, 1, 216, 42, 182, 1, 219, 42]
abbrev dktX11_law_8 : List UInt8 := dkwX11_law_8 ++ dktX11_law_9
def dkwX11_law_7 : List UInt8 := [184, 1, 204, 42, 4, 181, 0, 141, 42, 42, 7, 182, 1, 210, 4, 160, 0, 7, 4, 167, 0, 4, 3]
abbrev dktX11_law_7 : List UInt8 := dkwX11_law_7 ++ dktX11_law_8
def dkwX11_law_6 : List UInt8 := [42, 180, 1, 63, 16, 41, 16, 41, 184, 1, 204, 42, 180, 1, 66, 3, 42, 180, 1, 66, 16, 41, 16, 41]
abbrev dktX11_law_6 : List UInt8 := dkwX11_law_6 ++ dktX11_law_7
def dkwX11_law_5 : List UInt8 := [184, 1, 204, 42, 180, 1, 60, 3, 42, 180, 1, 60, 16, 41, 16, 41, 184, 1, 204, 42, 180, 1, 63, 3]
abbrev dktX11_law_5 : List UInt8 := dkwX11_law_5 ++ dktX11_law_6
def dkwX11_law_4 : List UInt8 := [180, 1, 34, 6, 42, 180, 1, 34, 4, 46, 79, 42, 180, 1, 57, 3, 42, 180, 1, 57, 16, 41, 16, 41]
abbrev dktX11_law_4 : List UInt8 := dkwX11_law_4 ++ dktX11_law_5
def dkwX11_law_3 : List UInt8 := [17, 31, 68, 17, 31, 68, 184, 1, 204, 42, 180, 1, 34, 5, 42, 180, 1, 34, 3, 46, 79, 42]
abbrev dktX11_law_3 : List UInt8 := dkwX11_law_3 ++ dktX11_law_4
def dkwX11_law_2 : List UInt8 := [180, 1, 28, 3, 42, 180, 1, 28, 16, 48, 16, 48, 184, 1, 204, 42, 180, 1, 31, 3, 42, 180, 1, 31]
abbrev dktX11_law_2 : List UInt8 := dkwX11_law_2 ++ dktX11_law_3
def dkwX11_law_1 : List UInt8 := [17, 252, 24, 27, 100, 172, 42, 180, 1, 25, 3, 42, 180, 1, 25, 16, 10, 16, 10, 184, 1, 204, 42]
abbrev dktX11_law_1 : List UInt8 := dkwX11_law_1 ++ dktX11_law_2
def dkwX11_law_0 : List UInt8 := [42, 42, 180, 0, 5, 181, 0, 158, 42, 3, 181, 0, 5, 42, 182, 1, 201, 60, 27, 2, 159, 0, 9]
abbrev dktX11_law_0 : List UInt8 := dkwX11_law_0 ++ dktX11_law_1
theorem dksX11_law_0 : cX11_law.data.toList.drop 0 = dktX11_law_0 := by decide +kernel
theorem dksX11_law_1 : cX11_law.data.toList.drop 23 = dktX11_law_1 := dk_seg dksX11_law_0 23 rfl rfl
theorem dksX11_law_2 : cX11_law.data.toList.drop 46 = dktX11_law_2 := dk_seg dksX11_law_1 23 rfl rfl
theorem dksX11_law_3 : cX11_law.data.toList.drop 70 = dktX11_law_3 := dk_seg dksX11_law_2 24 rfl rfl
theorem dksX11_law_4 : cX11_law.data.toList.drop 92 = dktX11_law_4 := dk_seg dksX11_law_3 22 rfl rfl
theorem dksX11_law_5 : cX11_law.data.toList.drop 116 = dktX11_law_5 := dk_seg dksX11_law_4 24 rfl rfl
theorem dksX11_law_6 : cX11_law.data.toList.drop 140 = dktX11_law_6 := dk_seg dksX11_law_5 24 rfl rfl
theorem dksX11_law_7 : cX11_law.data.toList.drop 164 = dktX11_law_7 := dk_seg dksX11_law_6 24 rfl rfl
theorem dksX11_law_8 : cX11_law.data.toList.drop 187 = dktX11_law_8 := dk_seg dksX11_law_7 23 rfl rfl
theorem dksX11_law_9 : cX11_law.data.toList.drop 210 = dktX11_law_9 := dk_seg dksX11_law_8 23 rfl rfl
theorem dX11_law_0 : decode cX11_law 0 = .ok (.aload_n 0, 1) := dk_42 (dk_at dksX11_law_0 0 rfl rfl)
theorem dX11_law_1 : decode cX11_law 1 = .ok (.aload_n 0, 1) := dk_42 (dk_at dksX11_law_0 1 rfl rfl)
theorem dX11_law_2 : decode cX11_law 2 = .ok (.getfield 5, 3) := dk_180 0 5 (dk_at dksX11_law_0 2 rfl rfl)
theorem dX11_law_5 : decode cX11_law 5 = .ok (.putfield 158, 3) := dk_181 0 158 (dk_at dksX11_law_0 5 rfl rfl)
theorem dX11_law_8 : decode cX11_law 8 = .ok (.aload_n 0, 1) := dk_42 (dk_at dksX11_law_0 8 rfl rfl)
theorem dX11_law_9 : decode cX11_law 9 = .ok (.iconst 0, 1) := dk_3 (dk_at dksX11_law_0 9 rfl rfl)
theorem dX11_law_10 : decode cX11_law 10 = .ok (.putfield 5, 3) := dk_181 0 5 (dk_at dksX11_law_0 10 rfl rfl)
theorem dX11_law_13 : decode cX11_law 13 = .ok (.aload_n 0, 1) := dk_42 (dk_at dksX11_law_0 13 rfl rfl)
theorem dX11_law_14 : decode cX11_law 14 = .ok (.invokevirtual 457, 3) := dk_182 1 201 (dk_at dksX11_law_0 14 rfl rfl)
theorem dX11_law_17 : decode cX11_law 17 = .ok (.istore_n 1, 1) := dk_60 (dk_at dksX11_law_0 17 rfl rfl)
theorem dX11_law_18 : decode cX11_law 18 = .ok (.iload_n 1, 1) := dk_27 (dk_at dksX11_law_0 18 rfl rfl)
theorem dX11_law_19 : decode cX11_law 19 = .ok (.iconst (-1), 1) := dk_2 (dk_at dksX11_law_0 19 rfl rfl)
theorem dX11_law_20 : decode cX11_law 20 = .ok (.if_icmp .eq 9, 3) := dk_159 0 9 (dk_at dksX11_law_0 20 rfl rfl)
theorem dX11_law_23 : decode cX11_law 23 = .ok (.sipush (-1000), 3) := dk_17 252 24 (dk_at dksX11_law_1 0 rfl rfl)
theorem dX11_law_26 : decode cX11_law 26 = .ok (.iload_n 1, 1) := dk_27 (dk_at dksX11_law_1 3 rfl rfl)
theorem dX11_law_27 : decode cX11_law 27 = .ok (.isub, 1) := dk_100 (dk_at dksX11_law_1 4 rfl rfl)
theorem dX11_law_28 : decode cX11_law 28 = .ok (.ireturn, 1) := dk_172 (dk_at dksX11_law_1 5 rfl rfl)
theorem dX11_law_29 : decode cX11_law 29 = .ok (.aload_n 0, 1) := dk_42 (dk_at dksX11_law_1 6 rfl rfl)
theorem dX11_law_30 : decode cX11_law 30 = .ok (.getfield 281, 3) := dk_180 1 25 (dk_at dksX11_law_1 7 rfl rfl)
theorem dX11_law_33 : decode cX11_law 33 = .ok (.iconst 0, 1) := dk_3 (dk_at dksX11_law_1 10 rfl rfl)
theorem dX11_law_34 : decode cX11_law 34 = .ok (.aload_n 0, 1) := dk_42 (dk_at dksX11_law_1 11 rfl rfl)
theorem dX11_law_35 : decode cX11_law 35 = .ok (.getfield 281, 3) := dk_180 1 25 (dk_at dksX11_law_1 12 rfl rfl)
theorem dX11_law_38 : decode cX11_law 38 = .ok (.bipush 10, 2) := dk_16 10 (dk_at dksX11_law_1 15 rfl rfl)
theorem dX11_law_40 : decode cX11_law 40 = .ok (.bipush 10, 2) := dk_16 10 (dk_at dksX11_law_1 17 rfl rfl)
theorem dX11_law_42 : decode cX11_law 42 = .ok (.invokestatic 460, 3) := dk_184 1 204 (dk_at dksX11_law_1 19 rfl rfl)
theorem dX11_law_45 : decode cX11_law 45 = .ok (.aload_n 0, 1) := dk_42 (dk_at dksX11_law_1 22 rfl rfl)
theorem dX11_law_46 : decode cX11_law 46 = .ok (.getfield 284, 3) := dk_180 1 28 (dk_at dksX11_law_2 0 rfl rfl)
theorem dX11_law_49 : decode cX11_law 49 = .ok (.iconst 0, 1) := dk_3 (dk_at dksX11_law_2 3 rfl rfl)
theorem dX11_law_50 : decode cX11_law 50 = .ok (.aload_n 0, 1) := dk_42 (dk_at dksX11_law_2 4 rfl rfl)
theorem dX11_law_51 : decode cX11_law 51 = .ok (.getfield 284, 3) := dk_180 1 28 (dk_at dksX11_law_2 5 rfl rfl)
theorem dX11_law_54 : decode cX11_law 54 = .ok (.bipush 48, 2) := dk_16 48 (dk_at dksX11_law_2 8 rfl rfl)
theorem dX11_law_56 : decode cX11_law 56 = .ok (.bipush 48, 2) := dk_16 48 (dk_at dksX11_law_2 10 rfl rfl)
theorem dX11_law_58 : decode cX11_law 58 = .ok (.invokestatic 460, 3) := dk_184 1 204 (dk_at dksX11_law_2 12 rfl rfl)
theorem dX11_law_61 : decode cX11_law 61 = .ok (.aload_n 0, 1) := dk_42 (dk_at dksX11_law_2 15 rfl rfl)
theorem dX11_law_62 : decode cX11_law 62 = .ok (.getfield 287, 3) := dk_180 1 31 (dk_at dksX11_law_2 16 rfl rfl)
theorem dX11_law_65 : decode cX11_law 65 = .ok (.iconst 0, 1) := dk_3 (dk_at dksX11_law_2 19 rfl rfl)
theorem dX11_law_66 : decode cX11_law 66 = .ok (.aload_n 0, 1) := dk_42 (dk_at dksX11_law_2 20 rfl rfl)
theorem dX11_law_67 : decode cX11_law 67 = .ok (.getfield 287, 3) := dk_180 1 31 (dk_at dksX11_law_2 21 rfl rfl)
theorem dX11_law_70 : decode cX11_law 70 = .ok (.sipush 8004, 3) := dk_17 31 68 (dk_at dksX11_law_3 0 rfl rfl)
theorem dX11_law_73 : decode cX11_law 73 = .ok (.sipush 8004, 3) := dk_17 31 68 (dk_at dksX11_law_3 3 rfl rfl)
theorem dX11_law_76 : decode cX11_law 76 = .ok (.invokestatic 460, 3) := dk_184 1 204 (dk_at dksX11_law_3 6 rfl rfl)
theorem dX11_law_79 : decode cX11_law 79 = .ok (.aload_n 0, 1) := dk_42 (dk_at dksX11_law_3 9 rfl rfl)
theorem dX11_law_80 : decode cX11_law 80 = .ok (.getfield 290, 3) := dk_180 1 34 (dk_at dksX11_law_3 10 rfl rfl)
theorem dX11_law_83 : decode cX11_law 83 = .ok (.iconst 2, 1) := dk_5 (dk_at dksX11_law_3 13 rfl rfl)
theorem dX11_law_84 : decode cX11_law 84 = .ok (.aload_n 0, 1) := dk_42 (dk_at dksX11_law_3 14 rfl rfl)
theorem dX11_law_85 : decode cX11_law 85 = .ok (.getfield 290, 3) := dk_180 1 34 (dk_at dksX11_law_3 15 rfl rfl)
theorem dX11_law_88 : decode cX11_law 88 = .ok (.iconst 0, 1) := dk_3 (dk_at dksX11_law_3 18 rfl rfl)
theorem dX11_law_89 : decode cX11_law 89 = .ok (.iaload, 1) := dk_46 (dk_at dksX11_law_3 19 rfl rfl)
theorem dX11_law_90 : decode cX11_law 90 = .ok (.iastore, 1) := dk_79 (dk_at dksX11_law_3 20 rfl rfl)
theorem dX11_law_91 : decode cX11_law 91 = .ok (.aload_n 0, 1) := dk_42 (dk_at dksX11_law_3 21 rfl rfl)
theorem dX11_law_92 : decode cX11_law 92 = .ok (.getfield 290, 3) := dk_180 1 34 (dk_at dksX11_law_4 0 rfl rfl)
theorem dX11_law_95 : decode cX11_law 95 = .ok (.iconst 3, 1) := dk_6 (dk_at dksX11_law_4 3 rfl rfl)
theorem dX11_law_96 : decode cX11_law 96 = .ok (.aload_n 0, 1) := dk_42 (dk_at dksX11_law_4 4 rfl rfl)
theorem dX11_law_97 : decode cX11_law 97 = .ok (.getfield 290, 3) := dk_180 1 34 (dk_at dksX11_law_4 5 rfl rfl)
theorem dX11_law_100 : decode cX11_law 100 = .ok (.iconst 1, 1) := dk_4 (dk_at dksX11_law_4 8 rfl rfl)
theorem dX11_law_101 : decode cX11_law 101 = .ok (.iaload, 1) := dk_46 (dk_at dksX11_law_4 9 rfl rfl)
theorem dX11_law_102 : decode cX11_law 102 = .ok (.iastore, 1) := dk_79 (dk_at dksX11_law_4 10 rfl rfl)
theorem dX11_law_103 : decode cX11_law 103 = .ok (.aload_n 0, 1) := dk_42 (dk_at dksX11_law_4 11 rfl rfl)
theorem dX11_law_104 : decode cX11_law 104 = .ok (.getfield 313, 3) := dk_180 1 57 (dk_at dksX11_law_4 12 rfl rfl)
theorem dX11_law_107 : decode cX11_law 107 = .ok (.iconst 0, 1) := dk_3 (dk_at dksX11_law_4 15 rfl rfl)
theorem dX11_law_108 : decode cX11_law 108 = .ok (.aload_n 0, 1) := dk_42 (dk_at dksX11_law_4 16 rfl rfl)
theorem dX11_law_109 : decode cX11_law 109 = .ok (.getfield 313, 3) := dk_180 1 57 (dk_at dksX11_law_4 17 rfl rfl)
theorem dX11_law_112 : decode cX11_law 112 = .ok (.bipush 41, 2) := dk_16 41 (dk_at dksX11_law_4 20 rfl rfl)
theorem dX11_law_114 : decode cX11_law 114 = .ok (.bipush 41, 2) := dk_16 41 (dk_at dksX11_law_4 22 rfl rfl)
theorem dX11_law_116 : decode cX11_law 116 = .ok (.invokestatic 460, 3) := dk_184 1 204 (dk_at dksX11_law_5 0 rfl rfl)
theorem dX11_law_119 : decode cX11_law 119 = .ok (.aload_n 0, 1) := dk_42 (dk_at dksX11_law_5 3 rfl rfl)
theorem dX11_law_120 : decode cX11_law 120 = .ok (.getfield 316, 3) := dk_180 1 60 (dk_at dksX11_law_5 4 rfl rfl)
theorem dX11_law_123 : decode cX11_law 123 = .ok (.iconst 0, 1) := dk_3 (dk_at dksX11_law_5 7 rfl rfl)
theorem dX11_law_124 : decode cX11_law 124 = .ok (.aload_n 0, 1) := dk_42 (dk_at dksX11_law_5 8 rfl rfl)
theorem dX11_law_125 : decode cX11_law 125 = .ok (.getfield 316, 3) := dk_180 1 60 (dk_at dksX11_law_5 9 rfl rfl)
theorem dX11_law_128 : decode cX11_law 128 = .ok (.bipush 41, 2) := dk_16 41 (dk_at dksX11_law_5 12 rfl rfl)
theorem dX11_law_130 : decode cX11_law 130 = .ok (.bipush 41, 2) := dk_16 41 (dk_at dksX11_law_5 14 rfl rfl)
theorem dX11_law_132 : decode cX11_law 132 = .ok (.invokestatic 460, 3) := dk_184 1 204 (dk_at dksX11_law_5 16 rfl rfl)
theorem dX11_law_135 : decode cX11_law 135 = .ok (.aload_n 0, 1) := dk_42 (dk_at dksX11_law_5 19 rfl rfl)
theorem dX11_law_136 : decode cX11_law 136 = .ok (.getfield 319, 3) := dk_180 1 63 (dk_at dksX11_law_5 20 rfl rfl)
theorem dX11_law_139 : decode cX11_law 139 = .ok (.iconst 0, 1) := dk_3 (dk_at dksX11_law_5 23 rfl rfl)
theorem dX11_law_140 : decode cX11_law 140 = .ok (.aload_n 0, 1) := dk_42 (dk_at dksX11_law_6 0 rfl rfl)
theorem dX11_law_141 : decode cX11_law 141 = .ok (.getfield 319, 3) := dk_180 1 63 (dk_at dksX11_law_6 1 rfl rfl)
theorem dX11_law_144 : decode cX11_law 144 = .ok (.bipush 41, 2) := dk_16 41 (dk_at dksX11_law_6 4 rfl rfl)
theorem dX11_law_146 : decode cX11_law 146 = .ok (.bipush 41, 2) := dk_16 41 (dk_at dksX11_law_6 6 rfl rfl)
theorem dX11_law_148 : decode cX11_law 148 = .ok (.invokestatic 460, 3) := dk_184 1 204 (dk_at dksX11_law_6 8 rfl rfl)
theorem dX11_law_151 : decode cX11_law 151 = .ok (.aload_n 0, 1) := dk_42 (dk_at dksX11_law_6 11 rfl rfl)
theorem dX11_law_152 : decode cX11_law 152 = .ok (.getfield 322, 3) := dk_180 1 66 (dk_at dksX11_law_6 12 rfl rfl)
theorem dX11_law_155 : decode cX11_law 155 = .ok (.iconst 0, 1) := dk_3 (dk_at dksX11_law_6 15 rfl rfl)
theorem dX11_law_156 : decode cX11_law 156 = .ok (.aload_n 0, 1) := dk_42 (dk_at dksX11_law_6 16 rfl rfl)
theorem dX11_law_157 : decode cX11_law 157 = .ok (.getfield 322, 3) := dk_180 1 66 (dk_at dksX11_law_6 17 rfl rfl)
theorem dX11_law_160 : decode cX11_law 160 = .ok (.bipush 41, 2) := dk_16 41 (dk_at dksX11_law_6 20 rfl rfl)
theorem dX11_law_162 : decode cX11_law 162 = .ok (.bipush 41, 2) := dk_16 41 (dk_at dksX11_law_6 22 rfl rfl)
theorem dX11_law_164 : decode cX11_law 164 = .ok (.invokestatic 460, 3) := dk_184 1 204 (dk_at dksX11_law_7 0 rfl rfl)
theorem dX11_law_167 : decode cX11_law 167 = .ok (.aload_n 0, 1) := dk_42 (dk_at dksX11_law_7 3 rfl rfl)
theorem dX11_law_168 : decode cX11_law 168 = .ok (.iconst 1, 1) := dk_4 (dk_at dksX11_law_7 4 rfl rfl)
theorem dX11_law_169 : decode cX11_law 169 = .ok (.putfield 141, 3) := dk_181 0 141 (dk_at dksX11_law_7 5 rfl rfl)
theorem dX11_law_172 : decode cX11_law 172 = .ok (.aload_n 0, 1) := dk_42 (dk_at dksX11_law_7 8 rfl rfl)
theorem dX11_law_173 : decode cX11_law 173 = .ok (.aload_n 0, 1) := dk_42 (dk_at dksX11_law_7 9 rfl rfl)
theorem dX11_law_174 : decode cX11_law 174 = .ok (.iconst 4, 1) := dk_7 (dk_at dksX11_law_7 10 rfl rfl)
theorem dX11_law_175 : decode cX11_law 175 = .ok (.invokevirtual 466, 3) := dk_182 1 210 (dk_at dksX11_law_7 11 rfl rfl)
theorem dX11_law_178 : decode cX11_law 178 = .ok (.iconst 1, 1) := dk_4 (dk_at dksX11_law_7 14 rfl rfl)
theorem dX11_law_179 : decode cX11_law 179 = .ok (.if_icmp .ne 7, 3) := dk_160 0 7 (dk_at dksX11_law_7 15 rfl rfl)
theorem dX11_law_182 : decode cX11_law 182 = .ok (.iconst 1, 1) := dk_4 (dk_at dksX11_law_7 18 rfl rfl)
theorem dX11_law_183 : decode cX11_law 183 = .ok (.goto 4, 3) := dk_167 0 4 (dk_at dksX11_law_7 19 rfl rfl)
theorem dX11_law_186 : decode cX11_law 186 = .ok (.iconst 0, 1) := dk_3 (dk_at dksX11_law_7 22 rfl rfl)
theorem dX11_law_187 : decode cX11_law 187 = .ok (.putfield 145, 3) := dk_181 0 145 (dk_at dksX11_law_8 0 rfl rfl)
theorem dX11_law_190 : decode cX11_law 190 = .ok (.aload_n 0, 1) := dk_42 (dk_at dksX11_law_8 3 rfl rfl)
theorem dX11_law_191 : decode cX11_law 191 = .ok (.aload_n 0, 1) := dk_42 (dk_at dksX11_law_8 4 rfl rfl)
theorem dX11_law_192 : decode cX11_law 192 = .ok (.bipush 9, 2) := dk_16 9 (dk_at dksX11_law_8 5 rfl rfl)
theorem dX11_law_194 : decode cX11_law 194 = .ok (.invokevirtual 466, 3) := dk_182 1 210 (dk_at dksX11_law_8 7 rfl rfl)
theorem dX11_law_197 : decode cX11_law 197 = .ok (.putfield 469, 3) := dk_181 1 213 (dk_at dksX11_law_8 10 rfl rfl)
theorem dX11_law_200 : decode cX11_law 200 = .ok (.aload_n 0, 1) := dk_42 (dk_at dksX11_law_8 13 rfl rfl)
theorem dX11_law_201 : decode cX11_law 201 = .ok (.iconst (-1), 1) := dk_2 (dk_at dksX11_law_8 14 rfl rfl)
theorem dX11_law_202 : decode cX11_law 202 = .ok (.putfield 472, 3) := dk_181 1 216 (dk_at dksX11_law_8 15 rfl rfl)
theorem dX11_law_205 : decode cX11_law 205 = .ok (.aload_n 0, 1) := dk_42 (dk_at dksX11_law_8 18 rfl rfl)
theorem dX11_law_206 : decode cX11_law 206 = .ok (.invokevirtual 475, 3) := dk_182 1 219 (dk_at dksX11_law_8 19 rfl rfl)
theorem dX11_law_209 : decode cX11_law 209 = .ok (.aload_n 0, 1) := dk_42 (dk_at dksX11_law_8 22 rfl rfl)
theorem dX11_law_210 : decode cX11_law 210 = .ok (.bipush 7, 2) := dk_16 7 (dk_at dksX11_law_9 0 rfl rfl)
theorem dX11_law_212 : decode cX11_law 212 = .ok (.aload_n 0, 1) := dk_42 (dk_at dksX11_law_9 2 rfl rfl)
theorem dX11_law_213 : decode cX11_law 213 = .ok (.getfield 469, 3) := dk_180 1 213 (dk_at dksX11_law_9 3 rfl rfl)
theorem dX11_law_216 : decode cX11_law 216 = .ok (.iconst 0, 1) := dk_3 (dk_at dksX11_law_9 6 rfl rfl)
theorem dX11_law_217 : decode cX11_law 217 = .ok (.iconst 0, 1) := dk_3 (dk_at dksX11_law_9 7 rfl rfl)
theorem dX11_law_218 : decode cX11_law 218 = .ok (.iconst 0, 1) := dk_3 (dk_at dksX11_law_9 8 rfl rfl)
theorem dX11_law_219 : decode cX11_law 219 = .ok (.invokevirtual 22, 3) := dk_182 0 22 (dk_at dksX11_law_9 9 rfl rfl)
theorem dX11_law_222 : decode cX11_law 222 = .ok (.aload_n 0, 1) := dk_42 (dk_at dksX11_law_9 12 rfl rfl)
theorem dX11_law_223 : decode cX11_law 223 = .ok (.getfield 469, 3) := dk_180 1 213 (dk_at dksX11_law_9 13 rfl rfl)
theorem dX11_law_226 : decode cX11_law 226 = .ok (.ireturn, 1) := dk_172 (dk_at dksX11_law_9 16 rfl rfl)
abbrev cX11_readLaw : ByteArray := prog_17_method_58_code
def yX11_readLaw : MethodName := ⟨RX11, "readLaw", "()I"⟩
def dkwX11_readLaw_6 : List UInt8 := [19, 1, 193, 160, 0, 7, 2, 167, 0, 7, 42, 180, 0, 204, 172]
abbrev dktX11_readLaw_6 : List UInt8 := dkwX11_readLaw_6 ++ []
def dkwX11_readLaw_5 : List UInt8 := [180, 1, 176, 16, 7, 122, 4, 126, 154, 0, 11, 42, 42, 180, 0, 158, 182, 0, 224, 42, 180, 0, 204]
abbrev dktX11_readLaw_5 : List UInt8 := dkwX11_readLaw_5 ++ dktX11_readLaw_6
def dkwX11_readLaw_4 : List UInt8 := [16, 59, 182, 1, 19, 154, 255, 235, 42, 180, 0, 201, 172, 42, 180, 1, 176, 4, 126, 153, 0, 15, 42]
abbrev dktX11_readLaw_4 : List UInt8 := dkwX11_readLaw_4 ++ dktX11_readLaw_5
def dkwX11_readLaw_3 : List UInt8 := [3, 181, 0, 188, 42, 182, 1, 194, 42, 3, 182, 0, 207, 154, 0, 24, 42, 182, 1, 198, 153, 0, 12, 42]
abbrev dktX11_readLaw_3 : List UInt8 := dkwX11_readLaw_3 ++ dktX11_readLaw_4
def dkwX11_readLaw_2 : List UInt8 := [180, 1, 54, 3, 3, 79, 42, 3, 181, 1, 176, 42, 3, 181, 1, 154, 42, 19, 1, 193, 181, 0, 204, 42]
abbrev dktX11_readLaw_2 : List UInt8 := dkwX11_readLaw_2 ++ dktX11_readLaw_3
def dkwX11_readLaw_1 : List UInt8 := [180, 1, 25, 16, 6, 4, 79, 42, 180, 1, 34, 3, 3, 79, 42, 180, 1, 34, 4, 3, 79, 42]
abbrev dktX11_readLaw_1 : List UInt8 := dkwX11_readLaw_1 ++ dktX11_readLaw_2
def dkwX11_readLaw_0 : List UInt8 := [3, 60, 27, 16, 10, 162, 0, 16, 42, 180, 1, 25, 27, 3, 79, 132, 1, 1, 167, 255, 240, 42]
abbrev dktX11_readLaw_0 : List UInt8 := dkwX11_readLaw_0 ++ dktX11_readLaw_1
theorem dksX11_readLaw_0 : cX11_readLaw.data.toList.drop 0 = dktX11_readLaw_0 := by decide +kernel
theorem dksX11_readLaw_1 : cX11_readLaw.data.toList.drop 22 = dktX11_readLaw_1 := dk_seg dksX11_readLaw_0 22 rfl rfl
theorem dksX11_readLaw_2 : cX11_readLaw.data.toList.drop 44 = dktX11_readLaw_2 := dk_seg dksX11_readLaw_1 22 rfl rfl
theorem dksX11_readLaw_3 : cX11_readLaw.data.toList.drop 68 = dktX11_readLaw_3 := dk_seg dksX11_readLaw_2 24 rfl rfl
theorem dksX11_readLaw_4 : cX11_readLaw.data.toList.drop 92 = dktX11_readLaw_4 := dk_seg dksX11_readLaw_3 24 rfl rfl
theorem dksX11_readLaw_5 : cX11_readLaw.data.toList.drop 115 = dktX11_readLaw_5 := dk_seg dksX11_readLaw_4 23 rfl rfl
theorem dksX11_readLaw_6 : cX11_readLaw.data.toList.drop 138 = dktX11_readLaw_6 := dk_seg dksX11_readLaw_5 23 rfl rfl
theorem dX11_readLaw_0 : decode cX11_readLaw 0 = .ok (.iconst 0, 1) := dk_3 (dk_at dksX11_readLaw_0 0 rfl rfl)
theorem dX11_readLaw_1 : decode cX11_readLaw 1 = .ok (.istore_n 1, 1) := dk_60 (dk_at dksX11_readLaw_0 1 rfl rfl)
theorem dX11_readLaw_2 : decode cX11_readLaw 2 = .ok (.iload_n 1, 1) := dk_27 (dk_at dksX11_readLaw_0 2 rfl rfl)
theorem dX11_readLaw_3 : decode cX11_readLaw 3 = .ok (.bipush 10, 2) := dk_16 10 (dk_at dksX11_readLaw_0 3 rfl rfl)
theorem dX11_readLaw_5 : decode cX11_readLaw 5 = .ok (.if_icmp .ge 16, 3) := dk_162 0 16 (dk_at dksX11_readLaw_0 5 rfl rfl)
theorem dX11_readLaw_8 : decode cX11_readLaw 8 = .ok (.aload_n 0, 1) := dk_42 (dk_at dksX11_readLaw_0 8 rfl rfl)
theorem dX11_readLaw_9 : decode cX11_readLaw 9 = .ok (.getfield 281, 3) := dk_180 1 25 (dk_at dksX11_readLaw_0 9 rfl rfl)
theorem dX11_readLaw_12 : decode cX11_readLaw 12 = .ok (.iload_n 1, 1) := dk_27 (dk_at dksX11_readLaw_0 12 rfl rfl)
theorem dX11_readLaw_13 : decode cX11_readLaw 13 = .ok (.iconst 0, 1) := dk_3 (dk_at dksX11_readLaw_0 13 rfl rfl)
theorem dX11_readLaw_14 : decode cX11_readLaw 14 = .ok (.iastore, 1) := dk_79 (dk_at dksX11_readLaw_0 14 rfl rfl)
theorem dX11_readLaw_15 : decode cX11_readLaw 15 = .ok (.iinc 1 1, 3) := dk_132 1 1 (dk_at dksX11_readLaw_0 15 rfl rfl)
theorem dX11_readLaw_18 : decode cX11_readLaw 18 = .ok (.goto (-16), 3) := dk_167 255 240 (dk_at dksX11_readLaw_0 18 rfl rfl)
theorem dX11_readLaw_21 : decode cX11_readLaw 21 = .ok (.aload_n 0, 1) := dk_42 (dk_at dksX11_readLaw_0 21 rfl rfl)
theorem dX11_readLaw_22 : decode cX11_readLaw 22 = .ok (.getfield 281, 3) := dk_180 1 25 (dk_at dksX11_readLaw_1 0 rfl rfl)
theorem dX11_readLaw_25 : decode cX11_readLaw 25 = .ok (.bipush 6, 2) := dk_16 6 (dk_at dksX11_readLaw_1 3 rfl rfl)
theorem dX11_readLaw_27 : decode cX11_readLaw 27 = .ok (.iconst 1, 1) := dk_4 (dk_at dksX11_readLaw_1 5 rfl rfl)
theorem dX11_readLaw_28 : decode cX11_readLaw 28 = .ok (.iastore, 1) := dk_79 (dk_at dksX11_readLaw_1 6 rfl rfl)
theorem dX11_readLaw_29 : decode cX11_readLaw 29 = .ok (.aload_n 0, 1) := dk_42 (dk_at dksX11_readLaw_1 7 rfl rfl)
theorem dX11_readLaw_30 : decode cX11_readLaw 30 = .ok (.getfield 290, 3) := dk_180 1 34 (dk_at dksX11_readLaw_1 8 rfl rfl)
theorem dX11_readLaw_33 : decode cX11_readLaw 33 = .ok (.iconst 0, 1) := dk_3 (dk_at dksX11_readLaw_1 11 rfl rfl)
theorem dX11_readLaw_34 : decode cX11_readLaw 34 = .ok (.iconst 0, 1) := dk_3 (dk_at dksX11_readLaw_1 12 rfl rfl)
theorem dX11_readLaw_35 : decode cX11_readLaw 35 = .ok (.iastore, 1) := dk_79 (dk_at dksX11_readLaw_1 13 rfl rfl)
theorem dX11_readLaw_36 : decode cX11_readLaw 36 = .ok (.aload_n 0, 1) := dk_42 (dk_at dksX11_readLaw_1 14 rfl rfl)
theorem dX11_readLaw_37 : decode cX11_readLaw 37 = .ok (.getfield 290, 3) := dk_180 1 34 (dk_at dksX11_readLaw_1 15 rfl rfl)
theorem dX11_readLaw_40 : decode cX11_readLaw 40 = .ok (.iconst 1, 1) := dk_4 (dk_at dksX11_readLaw_1 18 rfl rfl)
theorem dX11_readLaw_41 : decode cX11_readLaw 41 = .ok (.iconst 0, 1) := dk_3 (dk_at dksX11_readLaw_1 19 rfl rfl)
theorem dX11_readLaw_42 : decode cX11_readLaw 42 = .ok (.iastore, 1) := dk_79 (dk_at dksX11_readLaw_1 20 rfl rfl)
theorem dX11_readLaw_43 : decode cX11_readLaw 43 = .ok (.aload_n 0, 1) := dk_42 (dk_at dksX11_readLaw_1 21 rfl rfl)
theorem dX11_readLaw_44 : decode cX11_readLaw 44 = .ok (.getfield 310, 3) := dk_180 1 54 (dk_at dksX11_readLaw_2 0 rfl rfl)
theorem dX11_readLaw_47 : decode cX11_readLaw 47 = .ok (.iconst 0, 1) := dk_3 (dk_at dksX11_readLaw_2 3 rfl rfl)
theorem dX11_readLaw_48 : decode cX11_readLaw 48 = .ok (.iconst 0, 1) := dk_3 (dk_at dksX11_readLaw_2 4 rfl rfl)
theorem dX11_readLaw_49 : decode cX11_readLaw 49 = .ok (.iastore, 1) := dk_79 (dk_at dksX11_readLaw_2 5 rfl rfl)
theorem dX11_readLaw_50 : decode cX11_readLaw 50 = .ok (.aload_n 0, 1) := dk_42 (dk_at dksX11_readLaw_2 6 rfl rfl)
theorem dX11_readLaw_51 : decode cX11_readLaw 51 = .ok (.iconst 0, 1) := dk_3 (dk_at dksX11_readLaw_2 7 rfl rfl)
theorem dX11_readLaw_52 : decode cX11_readLaw 52 = .ok (.putfield 432, 3) := dk_181 1 176 (dk_at dksX11_readLaw_2 8 rfl rfl)
theorem dX11_readLaw_55 : decode cX11_readLaw 55 = .ok (.aload_n 0, 1) := dk_42 (dk_at dksX11_readLaw_2 11 rfl rfl)
theorem dX11_readLaw_56 : decode cX11_readLaw 56 = .ok (.iconst 0, 1) := dk_3 (dk_at dksX11_readLaw_2 12 rfl rfl)
theorem dX11_readLaw_57 : decode cX11_readLaw 57 = .ok (.putfield 410, 3) := dk_181 1 154 (dk_at dksX11_readLaw_2 13 rfl rfl)
theorem dX11_readLaw_60 : decode cX11_readLaw 60 = .ok (.aload_n 0, 1) := dk_42 (dk_at dksX11_readLaw_2 16 rfl rfl)
theorem dX11_readLaw_61 : decode cX11_readLaw 61 = .ok (.ldc_w 449, 3) := dk_19 1 193 (dk_at dksX11_readLaw_2 17 rfl rfl)
theorem dX11_readLaw_64 : decode cX11_readLaw 64 = .ok (.putfield 204, 3) := dk_181 0 204 (dk_at dksX11_readLaw_2 20 rfl rfl)
theorem dX11_readLaw_67 : decode cX11_readLaw 67 = .ok (.aload_n 0, 1) := dk_42 (dk_at dksX11_readLaw_2 23 rfl rfl)
theorem dX11_readLaw_68 : decode cX11_readLaw 68 = .ok (.iconst 0, 1) := dk_3 (dk_at dksX11_readLaw_3 0 rfl rfl)
theorem dX11_readLaw_69 : decode cX11_readLaw 69 = .ok (.putfield 188, 3) := dk_181 0 188 (dk_at dksX11_readLaw_3 1 rfl rfl)
theorem dX11_readLaw_72 : decode cX11_readLaw 72 = .ok (.aload_n 0, 1) := dk_42 (dk_at dksX11_readLaw_3 4 rfl rfl)
theorem dX11_readLaw_73 : decode cX11_readLaw 73 = .ok (.invokevirtual 450, 3) := dk_182 1 194 (dk_at dksX11_readLaw_3 5 rfl rfl)
theorem dX11_readLaw_76 : decode cX11_readLaw 76 = .ok (.aload_n 0, 1) := dk_42 (dk_at dksX11_readLaw_3 8 rfl rfl)
theorem dX11_readLaw_77 : decode cX11_readLaw 77 = .ok (.iconst 0, 1) := dk_3 (dk_at dksX11_readLaw_3 9 rfl rfl)
theorem dX11_readLaw_78 : decode cX11_readLaw 78 = .ok (.invokevirtual 207, 3) := dk_182 0 207 (dk_at dksX11_readLaw_3 10 rfl rfl)
theorem dX11_readLaw_81 : decode cX11_readLaw 81 = .ok (.ifCond .ne 24, 3) := dk_154 0 24 (dk_at dksX11_readLaw_3 13 rfl rfl)
theorem dX11_readLaw_84 : decode cX11_readLaw 84 = .ok (.aload_n 0, 1) := dk_42 (dk_at dksX11_readLaw_3 16 rfl rfl)
theorem dX11_readLaw_85 : decode cX11_readLaw 85 = .ok (.invokevirtual 454, 3) := dk_182 1 198 (dk_at dksX11_readLaw_3 17 rfl rfl)
theorem dX11_readLaw_88 : decode cX11_readLaw 88 = .ok (.ifCond .eq 12, 3) := dk_153 0 12 (dk_at dksX11_readLaw_3 20 rfl rfl)
theorem dX11_readLaw_91 : decode cX11_readLaw 91 = .ok (.aload_n 0, 1) := dk_42 (dk_at dksX11_readLaw_3 23 rfl rfl)
theorem dX11_readLaw_92 : decode cX11_readLaw 92 = .ok (.bipush 59, 2) := dk_16 59 (dk_at dksX11_readLaw_4 0 rfl rfl)
theorem dX11_readLaw_94 : decode cX11_readLaw 94 = .ok (.invokevirtual 275, 3) := dk_182 1 19 (dk_at dksX11_readLaw_4 2 rfl rfl)
theorem dX11_readLaw_97 : decode cX11_readLaw 97 = .ok (.ifCond .ne (-21), 3) := dk_154 255 235 (dk_at dksX11_readLaw_4 5 rfl rfl)
theorem dX11_readLaw_100 : decode cX11_readLaw 100 = .ok (.aload_n 0, 1) := dk_42 (dk_at dksX11_readLaw_4 8 rfl rfl)
theorem dX11_readLaw_101 : decode cX11_readLaw 101 = .ok (.getfield 201, 3) := dk_180 0 201 (dk_at dksX11_readLaw_4 9 rfl rfl)
theorem dX11_readLaw_104 : decode cX11_readLaw 104 = .ok (.ireturn, 1) := dk_172 (dk_at dksX11_readLaw_4 12 rfl rfl)
theorem dX11_readLaw_105 : decode cX11_readLaw 105 = .ok (.aload_n 0, 1) := dk_42 (dk_at dksX11_readLaw_4 13 rfl rfl)
theorem dX11_readLaw_106 : decode cX11_readLaw 106 = .ok (.getfield 432, 3) := dk_180 1 176 (dk_at dksX11_readLaw_4 14 rfl rfl)
theorem dX11_readLaw_109 : decode cX11_readLaw 109 = .ok (.iconst 1, 1) := dk_4 (dk_at dksX11_readLaw_4 17 rfl rfl)
theorem dX11_readLaw_110 : decode cX11_readLaw 110 = .ok (.iand, 1) := dk_126 (dk_at dksX11_readLaw_4 18 rfl rfl)
theorem dX11_readLaw_111 : decode cX11_readLaw 111 = .ok (.ifCond .eq 15, 3) := dk_153 0 15 (dk_at dksX11_readLaw_4 19 rfl rfl)
theorem dX11_readLaw_114 : decode cX11_readLaw 114 = .ok (.aload_n 0, 1) := dk_42 (dk_at dksX11_readLaw_4 22 rfl rfl)
theorem dX11_readLaw_115 : decode cX11_readLaw 115 = .ok (.getfield 432, 3) := dk_180 1 176 (dk_at dksX11_readLaw_5 0 rfl rfl)
theorem dX11_readLaw_118 : decode cX11_readLaw 118 = .ok (.bipush 7, 2) := dk_16 7 (dk_at dksX11_readLaw_5 3 rfl rfl)
theorem dX11_readLaw_120 : decode cX11_readLaw 120 = .ok (.ishr, 1) := dk_122 (dk_at dksX11_readLaw_5 5 rfl rfl)
theorem dX11_readLaw_121 : decode cX11_readLaw 121 = .ok (.iconst 1, 1) := dk_4 (dk_at dksX11_readLaw_5 6 rfl rfl)
theorem dX11_readLaw_122 : decode cX11_readLaw 122 = .ok (.iand, 1) := dk_126 (dk_at dksX11_readLaw_5 7 rfl rfl)
theorem dX11_readLaw_123 : decode cX11_readLaw 123 = .ok (.ifCond .ne 11, 3) := dk_154 0 11 (dk_at dksX11_readLaw_5 8 rfl rfl)
theorem dX11_readLaw_126 : decode cX11_readLaw 126 = .ok (.aload_n 0, 1) := dk_42 (dk_at dksX11_readLaw_5 11 rfl rfl)
theorem dX11_readLaw_127 : decode cX11_readLaw 127 = .ok (.aload_n 0, 1) := dk_42 (dk_at dksX11_readLaw_5 12 rfl rfl)
theorem dX11_readLaw_128 : decode cX11_readLaw 128 = .ok (.getfield 158, 3) := dk_180 0 158 (dk_at dksX11_readLaw_5 13 rfl rfl)
theorem dX11_readLaw_131 : decode cX11_readLaw 131 = .ok (.invokevirtual 224, 3) := dk_182 0 224 (dk_at dksX11_readLaw_5 16 rfl rfl)
theorem dX11_readLaw_134 : decode cX11_readLaw 134 = .ok (.aload_n 0, 1) := dk_42 (dk_at dksX11_readLaw_5 19 rfl rfl)
theorem dX11_readLaw_135 : decode cX11_readLaw 135 = .ok (.getfield 204, 3) := dk_180 0 204 (dk_at dksX11_readLaw_5 20 rfl rfl)
theorem dX11_readLaw_138 : decode cX11_readLaw 138 = .ok (.ldc_w 449, 3) := dk_19 1 193 (dk_at dksX11_readLaw_6 0 rfl rfl)
theorem dX11_readLaw_141 : decode cX11_readLaw 141 = .ok (.if_icmp .ne 7, 3) := dk_160 0 7 (dk_at dksX11_readLaw_6 3 rfl rfl)
theorem dX11_readLaw_144 : decode cX11_readLaw 144 = .ok (.iconst (-1), 1) := dk_2 (dk_at dksX11_readLaw_6 6 rfl rfl)
theorem dX11_readLaw_145 : decode cX11_readLaw 145 = .ok (.goto 7, 3) := dk_167 0 7 (dk_at dksX11_readLaw_6 7 rfl rfl)
theorem dX11_readLaw_148 : decode cX11_readLaw 148 = .ok (.aload_n 0, 1) := dk_42 (dk_at dksX11_readLaw_6 10 rfl rfl)
theorem dX11_readLaw_149 : decode cX11_readLaw 149 = .ok (.getfield 204, 3) := dk_180 0 204 (dk_at dksX11_readLaw_6 11 rfl rfl)
theorem dX11_readLaw_152 : decode cX11_readLaw 152 = .ok (.ireturn, 1) := dk_172 (dk_at dksX11_readLaw_6 14 rfl rfl)
abbrev cX11_cutSigns : ByteArray := prog_17_method_30_code
def yX11_cutSigns : MethodName := ⟨RX11, "cutSigns", "()V"⟩
def dkwX11_cutSigns_15 : List UInt8 := [177]
abbrev dktX11_cutSigns_15 : List UInt8 := dkwX11_cutSigns_15 ++ []
def dkwX11_cutSigns_14 : List UInt8 := [180, 0, 167, 27, 46, 6, 159, 0, 7, 4, 167, 0, 4, 3, 62, 132, 1, 1, 21, 5, 61, 167, 254, 173]
abbrev dktX11_cutSigns_14 : List UInt8 := dkwX11_cutSigns_14 ++ dktX11_cutSigns_15
def dkwX11_cutSigns_13 : List UInt8 := [167, 0, 4, 6, 79, 42, 180, 0, 185, 27, 21, 5, 79, 42, 180, 0, 167, 27, 46, 153, 0, 17, 42]
abbrev dktX11_cutSigns_13 : List UInt8 := dkwX11_cutSigns_13 ++ dktX11_cutSigns_14
def dkwX11_cutSigns_12 : List UInt8 := [16, 47, 160, 0, 7, 4, 167, 0, 4, 3, 54, 6, 42, 180, 0, 167, 27, 21, 6, 153, 0, 8, 21, 4]
abbrev dktX11_cutSigns_12 : List UInt8 := dkwX11_cutSigns_12 ++ dktX11_cutSigns_13
def dkwX11_cutSigns_11 : List UInt8 := [21, 4, 16, 59, 159, 0, 24, 21, 4, 16, 43, 159, 0, 17, 21, 4, 16, 45, 159, 0, 10, 21, 4]
abbrev dktX11_cutSigns_11 : List UInt8 := dkwX11_cutSigns_11 ++ dktX11_cutSigns_12
def dkwX11_cutSigns_10 : List UInt8 := [167, 0, 76, 21, 4, 16, 40, 159, 0, 45, 21, 4, 16, 41, 159, 0, 38, 21, 4, 16, 44, 159, 0, 31]
abbrev dktX11_cutSigns_10 : List UInt8 := dkwX11_cutSigns_10 ++ dktX11_cutSigns_11
def dkwX11_cutSigns_9 : List UInt8 := [27, 5, 79, 42, 180, 0, 182, 27, 21, 5, 28, 100, 8, 164, 0, 8, 18, 178, 167, 0, 5, 21, 6, 79]
abbrev dktX11_cutSigns_9 : List UInt8 := dkwX11_cutSigns_9 ++ dktX11_cutSigns_10
def dkwX11_cutSigns_8 : List UInt8 := [21, 5, 182, 0, 164, 96, 16, 48, 100, 184, 0, 179, 54, 6, 132, 5, 1, 167, 255, 212, 42, 180, 0, 167]
abbrev dktX11_cutSigns_8 : List UInt8 := dkwX11_cutSigns_8 ++ dktX11_cutSigns_9
def dkwX11_cutSigns_7 : List UInt8 := [182, 0, 164, 133, 20, 0, 174, 20, 0, 176, 184, 0, 13, 153, 0, 31, 18, 178, 16, 10, 21, 6, 104, 42]
abbrev dktX11_cutSigns_7 : List UInt8 := dkwX11_cutSigns_7 ++ dktX11_cutSigns_8
def dkwX11_cutSigns_6 : List UInt8 := [20, 0, 174, 20, 0, 176, 184, 0, 13, 153, 0, 88, 21, 4, 16, 48, 100, 54, 6, 42, 21, 5]
abbrev dktX11_cutSigns_6 : List UInt8 := dkwX11_cutSigns_6 ++ dktX11_cutSigns_7
def dkwX11_cutSigns_5 : List UInt8 := [153, 0, 9, 132, 5, 1, 167, 255, 234, 42, 180, 0, 167, 27, 4, 79, 167, 0, 176, 21, 4, 133]
abbrev dktX11_cutSigns_5 : List UInt8 := dkwX11_cutSigns_5 ++ dktX11_cutSigns_6
def dkwX11_cutSigns_4 : List UInt8 := [184, 0, 13, 153, 0, 38, 42, 21, 5, 182, 0, 164, 133, 20, 0, 170, 20, 0, 172, 184, 0, 13]
abbrev dktX11_cutSigns_4 : List UInt8 := dkwX11_cutSigns_4 ++ dktX11_cutSigns_5
def dkwX11_cutSigns_3 : List UInt8 := [160, 0, 13, 42, 180, 0, 167, 27, 3, 79, 167, 0, 226, 21, 4, 133, 20, 0, 170, 20, 0, 172]
abbrev dktX11_cutSigns_3 : List UInt8 := dkwX11_cutSigns_3 ++ dktX11_cutSigns_4
def dkwX11_cutSigns_2 : List UInt8 := [180, 0, 161, 27, 28, 79, 42, 28, 182, 0, 164, 54, 4, 28, 4, 96, 54, 5, 28, 42, 180, 0, 158]
abbrev dktX11_cutSigns_2 : List UInt8 := dkwX11_cutSigns_2 ++ dktX11_cutSigns_3
def dkwX11_cutSigns_1 : List UInt8 := [16, 32, 159, 0, 14, 42, 180, 0, 9, 28, 51, 16, 10, 160, 0, 9, 132, 2, 1, 167, 255, 223, 42]
abbrev dktX11_cutSigns_1 : List UInt8 := dkwX11_cutSigns_1 ++ dktX11_cutSigns_2
def dkwX11_cutSigns_0 : List UInt8 := [3, 60, 3, 61, 4, 62, 29, 153, 1, 85, 28, 42, 180, 0, 158, 162, 0, 31, 42, 180, 0, 9, 28, 51]
abbrev dktX11_cutSigns_0 : List UInt8 := dkwX11_cutSigns_0 ++ dktX11_cutSigns_1
theorem dksX11_cutSigns_0 : cX11_cutSigns.data.toList.drop 0 = dktX11_cutSigns_0 := by decide +kernel
theorem dksX11_cutSigns_1 : cX11_cutSigns.data.toList.drop 24 = dktX11_cutSigns_1 := dk_seg dksX11_cutSigns_0 24 rfl rfl
theorem dksX11_cutSigns_2 : cX11_cutSigns.data.toList.drop 47 = dktX11_cutSigns_2 := dk_seg dksX11_cutSigns_1 23 rfl rfl
theorem dksX11_cutSigns_3 : cX11_cutSigns.data.toList.drop 70 = dktX11_cutSigns_3 := dk_seg dksX11_cutSigns_2 23 rfl rfl
theorem dksX11_cutSigns_4 : cX11_cutSigns.data.toList.drop 92 = dktX11_cutSigns_4 := dk_seg dksX11_cutSigns_3 22 rfl rfl
theorem dksX11_cutSigns_5 : cX11_cutSigns.data.toList.drop 114 = dktX11_cutSigns_5 := dk_seg dksX11_cutSigns_4 22 rfl rfl
theorem dksX11_cutSigns_6 : cX11_cutSigns.data.toList.drop 136 = dktX11_cutSigns_6 := dk_seg dksX11_cutSigns_5 22 rfl rfl
theorem dksX11_cutSigns_7 : cX11_cutSigns.data.toList.drop 158 = dktX11_cutSigns_7 := dk_seg dksX11_cutSigns_6 22 rfl rfl
theorem dksX11_cutSigns_8 : cX11_cutSigns.data.toList.drop 182 = dktX11_cutSigns_8 := dk_seg dksX11_cutSigns_7 24 rfl rfl
theorem dksX11_cutSigns_9 : cX11_cutSigns.data.toList.drop 206 = dktX11_cutSigns_9 := dk_seg dksX11_cutSigns_8 24 rfl rfl
theorem dksX11_cutSigns_10 : cX11_cutSigns.data.toList.drop 230 = dktX11_cutSigns_10 := dk_seg dksX11_cutSigns_9 24 rfl rfl
theorem dksX11_cutSigns_11 : cX11_cutSigns.data.toList.drop 254 = dktX11_cutSigns_11 := dk_seg dksX11_cutSigns_10 24 rfl rfl
theorem dksX11_cutSigns_12 : cX11_cutSigns.data.toList.drop 277 = dktX11_cutSigns_12 := dk_seg dksX11_cutSigns_11 23 rfl rfl
theorem dksX11_cutSigns_13 : cX11_cutSigns.data.toList.drop 301 = dktX11_cutSigns_13 := dk_seg dksX11_cutSigns_12 24 rfl rfl
theorem dksX11_cutSigns_14 : cX11_cutSigns.data.toList.drop 324 = dktX11_cutSigns_14 := dk_seg dksX11_cutSigns_13 23 rfl rfl
theorem dksX11_cutSigns_15 : cX11_cutSigns.data.toList.drop 348 = dktX11_cutSigns_15 := dk_seg dksX11_cutSigns_14 24 rfl rfl
theorem dX11_cutSigns_0 : decode cX11_cutSigns 0 = .ok (.iconst 0, 1) := dk_3 (dk_at dksX11_cutSigns_0 0 rfl rfl)
theorem dX11_cutSigns_1 : decode cX11_cutSigns 1 = .ok (.istore_n 1, 1) := dk_60 (dk_at dksX11_cutSigns_0 1 rfl rfl)
theorem dX11_cutSigns_2 : decode cX11_cutSigns 2 = .ok (.iconst 0, 1) := dk_3 (dk_at dksX11_cutSigns_0 2 rfl rfl)
theorem dX11_cutSigns_3 : decode cX11_cutSigns 3 = .ok (.istore_n 2, 1) := dk_61 (dk_at dksX11_cutSigns_0 3 rfl rfl)
theorem dX11_cutSigns_4 : decode cX11_cutSigns 4 = .ok (.iconst 1, 1) := dk_4 (dk_at dksX11_cutSigns_0 4 rfl rfl)
theorem dX11_cutSigns_5 : decode cX11_cutSigns 5 = .ok (.istore_n 3, 1) := dk_62 (dk_at dksX11_cutSigns_0 5 rfl rfl)
theorem dX11_cutSigns_6 : decode cX11_cutSigns 6 = .ok (.iload_n 3, 1) := dk_29 (dk_at dksX11_cutSigns_0 6 rfl rfl)
theorem dX11_cutSigns_7 : decode cX11_cutSigns 7 = .ok (.ifCond .eq 341, 3) := dk_153 1 85 (dk_at dksX11_cutSigns_0 7 rfl rfl)
theorem dX11_cutSigns_10 : decode cX11_cutSigns 10 = .ok (.iload_n 2, 1) := dk_28 (dk_at dksX11_cutSigns_0 10 rfl rfl)
theorem dX11_cutSigns_11 : decode cX11_cutSigns 11 = .ok (.aload_n 0, 1) := dk_42 (dk_at dksX11_cutSigns_0 11 rfl rfl)
theorem dX11_cutSigns_12 : decode cX11_cutSigns 12 = .ok (.getfield 158, 3) := dk_180 0 158 (dk_at dksX11_cutSigns_0 12 rfl rfl)
theorem dX11_cutSigns_15 : decode cX11_cutSigns 15 = .ok (.if_icmp .ge 31, 3) := dk_162 0 31 (dk_at dksX11_cutSigns_0 15 rfl rfl)
theorem dX11_cutSigns_18 : decode cX11_cutSigns 18 = .ok (.aload_n 0, 1) := dk_42 (dk_at dksX11_cutSigns_0 18 rfl rfl)
theorem dX11_cutSigns_19 : decode cX11_cutSigns 19 = .ok (.getfield 9, 3) := dk_180 0 9 (dk_at dksX11_cutSigns_0 19 rfl rfl)
theorem dX11_cutSigns_22 : decode cX11_cutSigns 22 = .ok (.iload_n 2, 1) := dk_28 (dk_at dksX11_cutSigns_0 22 rfl rfl)
theorem dX11_cutSigns_23 : decode cX11_cutSigns 23 = .ok (.baload, 1) := dk_51 (dk_at dksX11_cutSigns_0 23 rfl rfl)
theorem dX11_cutSigns_24 : decode cX11_cutSigns 24 = .ok (.bipush 32, 2) := dk_16 32 (dk_at dksX11_cutSigns_1 0 rfl rfl)
theorem dX11_cutSigns_26 : decode cX11_cutSigns 26 = .ok (.if_icmp .eq 14, 3) := dk_159 0 14 (dk_at dksX11_cutSigns_1 2 rfl rfl)
theorem dX11_cutSigns_29 : decode cX11_cutSigns 29 = .ok (.aload_n 0, 1) := dk_42 (dk_at dksX11_cutSigns_1 5 rfl rfl)
theorem dX11_cutSigns_30 : decode cX11_cutSigns 30 = .ok (.getfield 9, 3) := dk_180 0 9 (dk_at dksX11_cutSigns_1 6 rfl rfl)
theorem dX11_cutSigns_33 : decode cX11_cutSigns 33 = .ok (.iload_n 2, 1) := dk_28 (dk_at dksX11_cutSigns_1 9 rfl rfl)
theorem dX11_cutSigns_34 : decode cX11_cutSigns 34 = .ok (.baload, 1) := dk_51 (dk_at dksX11_cutSigns_1 10 rfl rfl)
theorem dX11_cutSigns_35 : decode cX11_cutSigns 35 = .ok (.bipush 10, 2) := dk_16 10 (dk_at dksX11_cutSigns_1 11 rfl rfl)
theorem dX11_cutSigns_37 : decode cX11_cutSigns 37 = .ok (.if_icmp .ne 9, 3) := dk_160 0 9 (dk_at dksX11_cutSigns_1 13 rfl rfl)
theorem dX11_cutSigns_40 : decode cX11_cutSigns 40 = .ok (.iinc 2 1, 3) := dk_132 2 1 (dk_at dksX11_cutSigns_1 16 rfl rfl)
theorem dX11_cutSigns_43 : decode cX11_cutSigns 43 = .ok (.goto (-33), 3) := dk_167 255 223 (dk_at dksX11_cutSigns_1 19 rfl rfl)
theorem dX11_cutSigns_46 : decode cX11_cutSigns 46 = .ok (.aload_n 0, 1) := dk_42 (dk_at dksX11_cutSigns_1 22 rfl rfl)
theorem dX11_cutSigns_47 : decode cX11_cutSigns 47 = .ok (.getfield 161, 3) := dk_180 0 161 (dk_at dksX11_cutSigns_2 0 rfl rfl)
theorem dX11_cutSigns_50 : decode cX11_cutSigns 50 = .ok (.iload_n 1, 1) := dk_27 (dk_at dksX11_cutSigns_2 3 rfl rfl)
theorem dX11_cutSigns_51 : decode cX11_cutSigns 51 = .ok (.iload_n 2, 1) := dk_28 (dk_at dksX11_cutSigns_2 4 rfl rfl)
theorem dX11_cutSigns_52 : decode cX11_cutSigns 52 = .ok (.iastore, 1) := dk_79 (dk_at dksX11_cutSigns_2 5 rfl rfl)
theorem dX11_cutSigns_53 : decode cX11_cutSigns 53 = .ok (.aload_n 0, 1) := dk_42 (dk_at dksX11_cutSigns_2 6 rfl rfl)
theorem dX11_cutSigns_54 : decode cX11_cutSigns 54 = .ok (.iload_n 2, 1) := dk_28 (dk_at dksX11_cutSigns_2 7 rfl rfl)
theorem dX11_cutSigns_55 : decode cX11_cutSigns 55 = .ok (.invokevirtual 164, 3) := dk_182 0 164 (dk_at dksX11_cutSigns_2 8 rfl rfl)
theorem dX11_cutSigns_58 : decode cX11_cutSigns 58 = .ok (.istore 4, 2) := dk_54 4 (dk_at dksX11_cutSigns_2 11 rfl rfl)
theorem dX11_cutSigns_60 : decode cX11_cutSigns 60 = .ok (.iload_n 2, 1) := dk_28 (dk_at dksX11_cutSigns_2 13 rfl rfl)
theorem dX11_cutSigns_61 : decode cX11_cutSigns 61 = .ok (.iconst 1, 1) := dk_4 (dk_at dksX11_cutSigns_2 14 rfl rfl)
theorem dX11_cutSigns_62 : decode cX11_cutSigns 62 = .ok (.iadd, 1) := dk_96 (dk_at dksX11_cutSigns_2 15 rfl rfl)
theorem dX11_cutSigns_63 : decode cX11_cutSigns 63 = .ok (.istore 5, 2) := dk_54 5 (dk_at dksX11_cutSigns_2 16 rfl rfl)
theorem dX11_cutSigns_65 : decode cX11_cutSigns 65 = .ok (.iload_n 2, 1) := dk_28 (dk_at dksX11_cutSigns_2 18 rfl rfl)
theorem dX11_cutSigns_66 : decode cX11_cutSigns 66 = .ok (.aload_n 0, 1) := dk_42 (dk_at dksX11_cutSigns_2 19 rfl rfl)
theorem dX11_cutSigns_67 : decode cX11_cutSigns 67 = .ok (.getfield 158, 3) := dk_180 0 158 (dk_at dksX11_cutSigns_2 20 rfl rfl)
theorem dX11_cutSigns_70 : decode cX11_cutSigns 70 = .ok (.if_icmp .ne 13, 3) := dk_160 0 13 (dk_at dksX11_cutSigns_3 0 rfl rfl)
theorem dX11_cutSigns_73 : decode cX11_cutSigns 73 = .ok (.aload_n 0, 1) := dk_42 (dk_at dksX11_cutSigns_3 3 rfl rfl)
theorem dX11_cutSigns_74 : decode cX11_cutSigns 74 = .ok (.getfield 167, 3) := dk_180 0 167 (dk_at dksX11_cutSigns_3 4 rfl rfl)
theorem dX11_cutSigns_77 : decode cX11_cutSigns 77 = .ok (.iload_n 1, 1) := dk_27 (dk_at dksX11_cutSigns_3 7 rfl rfl)
theorem dX11_cutSigns_78 : decode cX11_cutSigns 78 = .ok (.iconst 0, 1) := dk_3 (dk_at dksX11_cutSigns_3 8 rfl rfl)
theorem dX11_cutSigns_79 : decode cX11_cutSigns 79 = .ok (.iastore, 1) := dk_79 (dk_at dksX11_cutSigns_3 9 rfl rfl)
theorem dX11_cutSigns_80 : decode cX11_cutSigns 80 = .ok (.goto 226, 3) := dk_167 0 226 (dk_at dksX11_cutSigns_3 10 rfl rfl)
theorem dX11_cutSigns_83 : decode cX11_cutSigns 83 = .ok (.iload 4, 2) := dk_21 4 (dk_at dksX11_cutSigns_3 13 rfl rfl)
theorem dX11_cutSigns_85 : decode cX11_cutSigns 85 = .ok (.i2l, 1) := dk_133 (dk_at dksX11_cutSigns_3 15 rfl rfl)
theorem dX11_cutSigns_86 : decode cX11_cutSigns 86 = .ok (.ldc2_w 170, 3) := dk_20 0 170 (dk_at dksX11_cutSigns_3 16 rfl rfl)
theorem dX11_cutSigns_89 : decode cX11_cutSigns 89 = .ok (.ldc2_w 172, 3) := dk_20 0 172 (dk_at dksX11_cutSigns_3 19 rfl rfl)
theorem dX11_cutSigns_92 : decode cX11_cutSigns 92 = .ok (.invokestatic 13, 3) := dk_184 0 13 (dk_at dksX11_cutSigns_4 0 rfl rfl)
theorem dX11_cutSigns_95 : decode cX11_cutSigns 95 = .ok (.ifCond .eq 38, 3) := dk_153 0 38 (dk_at dksX11_cutSigns_4 3 rfl rfl)
theorem dX11_cutSigns_98 : decode cX11_cutSigns 98 = .ok (.aload_n 0, 1) := dk_42 (dk_at dksX11_cutSigns_4 6 rfl rfl)
theorem dX11_cutSigns_99 : decode cX11_cutSigns 99 = .ok (.iload 5, 2) := dk_21 5 (dk_at dksX11_cutSigns_4 7 rfl rfl)
theorem dX11_cutSigns_101 : decode cX11_cutSigns 101 = .ok (.invokevirtual 164, 3) := dk_182 0 164 (dk_at dksX11_cutSigns_4 9 rfl rfl)
theorem dX11_cutSigns_104 : decode cX11_cutSigns 104 = .ok (.i2l, 1) := dk_133 (dk_at dksX11_cutSigns_4 12 rfl rfl)
theorem dX11_cutSigns_105 : decode cX11_cutSigns 105 = .ok (.ldc2_w 170, 3) := dk_20 0 170 (dk_at dksX11_cutSigns_4 13 rfl rfl)
theorem dX11_cutSigns_108 : decode cX11_cutSigns 108 = .ok (.ldc2_w 172, 3) := dk_20 0 172 (dk_at dksX11_cutSigns_4 16 rfl rfl)
theorem dX11_cutSigns_111 : decode cX11_cutSigns 111 = .ok (.invokestatic 13, 3) := dk_184 0 13 (dk_at dksX11_cutSigns_4 19 rfl rfl)
theorem dX11_cutSigns_114 : decode cX11_cutSigns 114 = .ok (.ifCond .eq 9, 3) := dk_153 0 9 (dk_at dksX11_cutSigns_5 0 rfl rfl)
theorem dX11_cutSigns_117 : decode cX11_cutSigns 117 = .ok (.iinc 5 1, 3) := dk_132 5 1 (dk_at dksX11_cutSigns_5 3 rfl rfl)
theorem dX11_cutSigns_120 : decode cX11_cutSigns 120 = .ok (.goto (-22), 3) := dk_167 255 234 (dk_at dksX11_cutSigns_5 6 rfl rfl)
theorem dX11_cutSigns_123 : decode cX11_cutSigns 123 = .ok (.aload_n 0, 1) := dk_42 (dk_at dksX11_cutSigns_5 9 rfl rfl)
theorem dX11_cutSigns_124 : decode cX11_cutSigns 124 = .ok (.getfield 167, 3) := dk_180 0 167 (dk_at dksX11_cutSigns_5 10 rfl rfl)
theorem dX11_cutSigns_127 : decode cX11_cutSigns 127 = .ok (.iload_n 1, 1) := dk_27 (dk_at dksX11_cutSigns_5 13 rfl rfl)
theorem dX11_cutSigns_128 : decode cX11_cutSigns 128 = .ok (.iconst 1, 1) := dk_4 (dk_at dksX11_cutSigns_5 14 rfl rfl)
theorem dX11_cutSigns_129 : decode cX11_cutSigns 129 = .ok (.iastore, 1) := dk_79 (dk_at dksX11_cutSigns_5 15 rfl rfl)
theorem dX11_cutSigns_130 : decode cX11_cutSigns 130 = .ok (.goto 176, 3) := dk_167 0 176 (dk_at dksX11_cutSigns_5 16 rfl rfl)
theorem dX11_cutSigns_133 : decode cX11_cutSigns 133 = .ok (.iload 4, 2) := dk_21 4 (dk_at dksX11_cutSigns_5 19 rfl rfl)
theorem dX11_cutSigns_135 : decode cX11_cutSigns 135 = .ok (.i2l, 1) := dk_133 (dk_at dksX11_cutSigns_5 21 rfl rfl)
theorem dX11_cutSigns_136 : decode cX11_cutSigns 136 = .ok (.ldc2_w 174, 3) := dk_20 0 174 (dk_at dksX11_cutSigns_6 0 rfl rfl)
theorem dX11_cutSigns_139 : decode cX11_cutSigns 139 = .ok (.ldc2_w 176, 3) := dk_20 0 176 (dk_at dksX11_cutSigns_6 3 rfl rfl)
theorem dX11_cutSigns_142 : decode cX11_cutSigns 142 = .ok (.invokestatic 13, 3) := dk_184 0 13 (dk_at dksX11_cutSigns_6 6 rfl rfl)
theorem dX11_cutSigns_145 : decode cX11_cutSigns 145 = .ok (.ifCond .eq 88, 3) := dk_153 0 88 (dk_at dksX11_cutSigns_6 9 rfl rfl)
theorem dX11_cutSigns_148 : decode cX11_cutSigns 148 = .ok (.iload 4, 2) := dk_21 4 (dk_at dksX11_cutSigns_6 12 rfl rfl)
theorem dX11_cutSigns_150 : decode cX11_cutSigns 150 = .ok (.bipush 48, 2) := dk_16 48 (dk_at dksX11_cutSigns_6 14 rfl rfl)
theorem dX11_cutSigns_152 : decode cX11_cutSigns 152 = .ok (.isub, 1) := dk_100 (dk_at dksX11_cutSigns_6 16 rfl rfl)
theorem dX11_cutSigns_153 : decode cX11_cutSigns 153 = .ok (.istore 6, 2) := dk_54 6 (dk_at dksX11_cutSigns_6 17 rfl rfl)
theorem dX11_cutSigns_155 : decode cX11_cutSigns 155 = .ok (.aload_n 0, 1) := dk_42 (dk_at dksX11_cutSigns_6 19 rfl rfl)
theorem dX11_cutSigns_156 : decode cX11_cutSigns 156 = .ok (.iload 5, 2) := dk_21 5 (dk_at dksX11_cutSigns_6 20 rfl rfl)
theorem dX11_cutSigns_158 : decode cX11_cutSigns 158 = .ok (.invokevirtual 164, 3) := dk_182 0 164 (dk_at dksX11_cutSigns_7 0 rfl rfl)
theorem dX11_cutSigns_161 : decode cX11_cutSigns 161 = .ok (.i2l, 1) := dk_133 (dk_at dksX11_cutSigns_7 3 rfl rfl)
theorem dX11_cutSigns_162 : decode cX11_cutSigns 162 = .ok (.ldc2_w 174, 3) := dk_20 0 174 (dk_at dksX11_cutSigns_7 4 rfl rfl)
theorem dX11_cutSigns_165 : decode cX11_cutSigns 165 = .ok (.ldc2_w 176, 3) := dk_20 0 176 (dk_at dksX11_cutSigns_7 7 rfl rfl)
theorem dX11_cutSigns_168 : decode cX11_cutSigns 168 = .ok (.invokestatic 13, 3) := dk_184 0 13 (dk_at dksX11_cutSigns_7 10 rfl rfl)
theorem dX11_cutSigns_171 : decode cX11_cutSigns 171 = .ok (.ifCond .eq 31, 3) := dk_153 0 31 (dk_at dksX11_cutSigns_7 13 rfl rfl)
theorem dX11_cutSigns_174 : decode cX11_cutSigns 174 = .ok (.ldc 178, 2) := dk_18 178 (dk_at dksX11_cutSigns_7 16 rfl rfl)
theorem dX11_cutSigns_176 : decode cX11_cutSigns 176 = .ok (.bipush 10, 2) := dk_16 10 (dk_at dksX11_cutSigns_7 18 rfl rfl)
theorem dX11_cutSigns_178 : decode cX11_cutSigns 178 = .ok (.iload 6, 2) := dk_21 6 (dk_at dksX11_cutSigns_7 20 rfl rfl)
theorem dX11_cutSigns_180 : decode cX11_cutSigns 180 = .ok (.imul, 1) := dk_104 (dk_at dksX11_cutSigns_7 22 rfl rfl)
theorem dX11_cutSigns_181 : decode cX11_cutSigns 181 = .ok (.aload_n 0, 1) := dk_42 (dk_at dksX11_cutSigns_7 23 rfl rfl)
theorem dX11_cutSigns_182 : decode cX11_cutSigns 182 = .ok (.iload 5, 2) := dk_21 5 (dk_at dksX11_cutSigns_8 0 rfl rfl)
theorem dX11_cutSigns_184 : decode cX11_cutSigns 184 = .ok (.invokevirtual 164, 3) := dk_182 0 164 (dk_at dksX11_cutSigns_8 2 rfl rfl)
theorem dX11_cutSigns_187 : decode cX11_cutSigns 187 = .ok (.iadd, 1) := dk_96 (dk_at dksX11_cutSigns_8 5 rfl rfl)
theorem dX11_cutSigns_188 : decode cX11_cutSigns 188 = .ok (.bipush 48, 2) := dk_16 48 (dk_at dksX11_cutSigns_8 6 rfl rfl)
theorem dX11_cutSigns_190 : decode cX11_cutSigns 190 = .ok (.isub, 1) := dk_100 (dk_at dksX11_cutSigns_8 8 rfl rfl)
theorem dX11_cutSigns_191 : decode cX11_cutSigns 191 = .ok (.invokestatic 179, 3) := dk_184 0 179 (dk_at dksX11_cutSigns_8 9 rfl rfl)
theorem dX11_cutSigns_194 : decode cX11_cutSigns 194 = .ok (.istore 6, 2) := dk_54 6 (dk_at dksX11_cutSigns_8 12 rfl rfl)
theorem dX11_cutSigns_196 : decode cX11_cutSigns 196 = .ok (.iinc 5 1, 3) := dk_132 5 1 (dk_at dksX11_cutSigns_8 14 rfl rfl)
theorem dX11_cutSigns_199 : decode cX11_cutSigns 199 = .ok (.goto (-44), 3) := dk_167 255 212 (dk_at dksX11_cutSigns_8 17 rfl rfl)
theorem dX11_cutSigns_202 : decode cX11_cutSigns 202 = .ok (.aload_n 0, 1) := dk_42 (dk_at dksX11_cutSigns_8 20 rfl rfl)
theorem dX11_cutSigns_203 : decode cX11_cutSigns 203 = .ok (.getfield 167, 3) := dk_180 0 167 (dk_at dksX11_cutSigns_8 21 rfl rfl)
theorem dX11_cutSigns_206 : decode cX11_cutSigns 206 = .ok (.iload_n 1, 1) := dk_27 (dk_at dksX11_cutSigns_9 0 rfl rfl)
theorem dX11_cutSigns_207 : decode cX11_cutSigns 207 = .ok (.iconst 2, 1) := dk_5 (dk_at dksX11_cutSigns_9 1 rfl rfl)
theorem dX11_cutSigns_208 : decode cX11_cutSigns 208 = .ok (.iastore, 1) := dk_79 (dk_at dksX11_cutSigns_9 2 rfl rfl)
theorem dX11_cutSigns_209 : decode cX11_cutSigns 209 = .ok (.aload_n 0, 1) := dk_42 (dk_at dksX11_cutSigns_9 3 rfl rfl)
theorem dX11_cutSigns_210 : decode cX11_cutSigns 210 = .ok (.getfield 182, 3) := dk_180 0 182 (dk_at dksX11_cutSigns_9 4 rfl rfl)
theorem dX11_cutSigns_213 : decode cX11_cutSigns 213 = .ok (.iload_n 1, 1) := dk_27 (dk_at dksX11_cutSigns_9 7 rfl rfl)
theorem dX11_cutSigns_214 : decode cX11_cutSigns 214 = .ok (.iload 5, 2) := dk_21 5 (dk_at dksX11_cutSigns_9 8 rfl rfl)
theorem dX11_cutSigns_216 : decode cX11_cutSigns 216 = .ok (.iload_n 2, 1) := dk_28 (dk_at dksX11_cutSigns_9 10 rfl rfl)
theorem dX11_cutSigns_217 : decode cX11_cutSigns 217 = .ok (.isub, 1) := dk_100 (dk_at dksX11_cutSigns_9 11 rfl rfl)
theorem dX11_cutSigns_218 : decode cX11_cutSigns 218 = .ok (.iconst 5, 1) := dk_8 (dk_at dksX11_cutSigns_9 12 rfl rfl)
theorem dX11_cutSigns_219 : decode cX11_cutSigns 219 = .ok (.if_icmp .le 8, 3) := dk_164 0 8 (dk_at dksX11_cutSigns_9 13 rfl rfl)
theorem dX11_cutSigns_222 : decode cX11_cutSigns 222 = .ok (.ldc 178, 2) := dk_18 178 (dk_at dksX11_cutSigns_9 16 rfl rfl)
theorem dX11_cutSigns_224 : decode cX11_cutSigns 224 = .ok (.goto 5, 3) := dk_167 0 5 (dk_at dksX11_cutSigns_9 18 rfl rfl)
theorem dX11_cutSigns_227 : decode cX11_cutSigns 227 = .ok (.iload 6, 2) := dk_21 6 (dk_at dksX11_cutSigns_9 21 rfl rfl)
theorem dX11_cutSigns_229 : decode cX11_cutSigns 229 = .ok (.iastore, 1) := dk_79 (dk_at dksX11_cutSigns_9 23 rfl rfl)
theorem dX11_cutSigns_230 : decode cX11_cutSigns 230 = .ok (.goto 76, 3) := dk_167 0 76 (dk_at dksX11_cutSigns_10 0 rfl rfl)
theorem dX11_cutSigns_233 : decode cX11_cutSigns 233 = .ok (.iload 4, 2) := dk_21 4 (dk_at dksX11_cutSigns_10 3 rfl rfl)
theorem dX11_cutSigns_235 : decode cX11_cutSigns 235 = .ok (.bipush 40, 2) := dk_16 40 (dk_at dksX11_cutSigns_10 5 rfl rfl)
theorem dX11_cutSigns_237 : decode cX11_cutSigns 237 = .ok (.if_icmp .eq 45, 3) := dk_159 0 45 (dk_at dksX11_cutSigns_10 7 rfl rfl)
theorem dX11_cutSigns_240 : decode cX11_cutSigns 240 = .ok (.iload 4, 2) := dk_21 4 (dk_at dksX11_cutSigns_10 10 rfl rfl)
theorem dX11_cutSigns_242 : decode cX11_cutSigns 242 = .ok (.bipush 41, 2) := dk_16 41 (dk_at dksX11_cutSigns_10 12 rfl rfl)
theorem dX11_cutSigns_244 : decode cX11_cutSigns 244 = .ok (.if_icmp .eq 38, 3) := dk_159 0 38 (dk_at dksX11_cutSigns_10 14 rfl rfl)
theorem dX11_cutSigns_247 : decode cX11_cutSigns 247 = .ok (.iload 4, 2) := dk_21 4 (dk_at dksX11_cutSigns_10 17 rfl rfl)
theorem dX11_cutSigns_249 : decode cX11_cutSigns 249 = .ok (.bipush 44, 2) := dk_16 44 (dk_at dksX11_cutSigns_10 19 rfl rfl)
theorem dX11_cutSigns_251 : decode cX11_cutSigns 251 = .ok (.if_icmp .eq 31, 3) := dk_159 0 31 (dk_at dksX11_cutSigns_10 21 rfl rfl)
theorem dX11_cutSigns_254 : decode cX11_cutSigns 254 = .ok (.iload 4, 2) := dk_21 4 (dk_at dksX11_cutSigns_11 0 rfl rfl)
theorem dX11_cutSigns_256 : decode cX11_cutSigns 256 = .ok (.bipush 59, 2) := dk_16 59 (dk_at dksX11_cutSigns_11 2 rfl rfl)
theorem dX11_cutSigns_258 : decode cX11_cutSigns 258 = .ok (.if_icmp .eq 24, 3) := dk_159 0 24 (dk_at dksX11_cutSigns_11 4 rfl rfl)
theorem dX11_cutSigns_261 : decode cX11_cutSigns 261 = .ok (.iload 4, 2) := dk_21 4 (dk_at dksX11_cutSigns_11 7 rfl rfl)
theorem dX11_cutSigns_263 : decode cX11_cutSigns 263 = .ok (.bipush 43, 2) := dk_16 43 (dk_at dksX11_cutSigns_11 9 rfl rfl)
theorem dX11_cutSigns_265 : decode cX11_cutSigns 265 = .ok (.if_icmp .eq 17, 3) := dk_159 0 17 (dk_at dksX11_cutSigns_11 11 rfl rfl)
theorem dX11_cutSigns_268 : decode cX11_cutSigns 268 = .ok (.iload 4, 2) := dk_21 4 (dk_at dksX11_cutSigns_11 14 rfl rfl)
theorem dX11_cutSigns_270 : decode cX11_cutSigns 270 = .ok (.bipush 45, 2) := dk_16 45 (dk_at dksX11_cutSigns_11 16 rfl rfl)
theorem dX11_cutSigns_272 : decode cX11_cutSigns 272 = .ok (.if_icmp .eq 10, 3) := dk_159 0 10 (dk_at dksX11_cutSigns_11 18 rfl rfl)
theorem dX11_cutSigns_275 : decode cX11_cutSigns 275 = .ok (.iload 4, 2) := dk_21 4 (dk_at dksX11_cutSigns_11 21 rfl rfl)
theorem dX11_cutSigns_277 : decode cX11_cutSigns 277 = .ok (.bipush 47, 2) := dk_16 47 (dk_at dksX11_cutSigns_12 0 rfl rfl)
theorem dX11_cutSigns_279 : decode cX11_cutSigns 279 = .ok (.if_icmp .ne 7, 3) := dk_160 0 7 (dk_at dksX11_cutSigns_12 2 rfl rfl)
theorem dX11_cutSigns_282 : decode cX11_cutSigns 282 = .ok (.iconst 1, 1) := dk_4 (dk_at dksX11_cutSigns_12 5 rfl rfl)
theorem dX11_cutSigns_283 : decode cX11_cutSigns 283 = .ok (.goto 4, 3) := dk_167 0 4 (dk_at dksX11_cutSigns_12 6 rfl rfl)
theorem dX11_cutSigns_286 : decode cX11_cutSigns 286 = .ok (.iconst 0, 1) := dk_3 (dk_at dksX11_cutSigns_12 9 rfl rfl)
theorem dX11_cutSigns_287 : decode cX11_cutSigns 287 = .ok (.istore 6, 2) := dk_54 6 (dk_at dksX11_cutSigns_12 10 rfl rfl)
theorem dX11_cutSigns_289 : decode cX11_cutSigns 289 = .ok (.aload_n 0, 1) := dk_42 (dk_at dksX11_cutSigns_12 12 rfl rfl)
theorem dX11_cutSigns_290 : decode cX11_cutSigns 290 = .ok (.getfield 167, 3) := dk_180 0 167 (dk_at dksX11_cutSigns_12 13 rfl rfl)
theorem dX11_cutSigns_293 : decode cX11_cutSigns 293 = .ok (.iload_n 1, 1) := dk_27 (dk_at dksX11_cutSigns_12 16 rfl rfl)
theorem dX11_cutSigns_294 : decode cX11_cutSigns 294 = .ok (.iload 6, 2) := dk_21 6 (dk_at dksX11_cutSigns_12 17 rfl rfl)
theorem dX11_cutSigns_296 : decode cX11_cutSigns 296 = .ok (.ifCond .eq 8, 3) := dk_153 0 8 (dk_at dksX11_cutSigns_12 19 rfl rfl)
theorem dX11_cutSigns_299 : decode cX11_cutSigns 299 = .ok (.iload 4, 2) := dk_21 4 (dk_at dksX11_cutSigns_12 22 rfl rfl)
theorem dX11_cutSigns_301 : decode cX11_cutSigns 301 = .ok (.goto 4, 3) := dk_167 0 4 (dk_at dksX11_cutSigns_13 0 rfl rfl)
theorem dX11_cutSigns_304 : decode cX11_cutSigns 304 = .ok (.iconst 3, 1) := dk_6 (dk_at dksX11_cutSigns_13 3 rfl rfl)
theorem dX11_cutSigns_305 : decode cX11_cutSigns 305 = .ok (.iastore, 1) := dk_79 (dk_at dksX11_cutSigns_13 4 rfl rfl)
theorem dX11_cutSigns_306 : decode cX11_cutSigns 306 = .ok (.aload_n 0, 1) := dk_42 (dk_at dksX11_cutSigns_13 5 rfl rfl)
theorem dX11_cutSigns_307 : decode cX11_cutSigns 307 = .ok (.getfield 185, 3) := dk_180 0 185 (dk_at dksX11_cutSigns_13 6 rfl rfl)
theorem dX11_cutSigns_310 : decode cX11_cutSigns 310 = .ok (.iload_n 1, 1) := dk_27 (dk_at dksX11_cutSigns_13 9 rfl rfl)
theorem dX11_cutSigns_311 : decode cX11_cutSigns 311 = .ok (.iload 5, 2) := dk_21 5 (dk_at dksX11_cutSigns_13 10 rfl rfl)
theorem dX11_cutSigns_313 : decode cX11_cutSigns 313 = .ok (.iastore, 1) := dk_79 (dk_at dksX11_cutSigns_13 12 rfl rfl)
theorem dX11_cutSigns_314 : decode cX11_cutSigns 314 = .ok (.aload_n 0, 1) := dk_42 (dk_at dksX11_cutSigns_13 13 rfl rfl)
theorem dX11_cutSigns_315 : decode cX11_cutSigns 315 = .ok (.getfield 167, 3) := dk_180 0 167 (dk_at dksX11_cutSigns_13 14 rfl rfl)
theorem dX11_cutSigns_318 : decode cX11_cutSigns 318 = .ok (.iload_n 1, 1) := dk_27 (dk_at dksX11_cutSigns_13 17 rfl rfl)
theorem dX11_cutSigns_319 : decode cX11_cutSigns 319 = .ok (.iaload, 1) := dk_46 (dk_at dksX11_cutSigns_13 18 rfl rfl)
theorem dX11_cutSigns_320 : decode cX11_cutSigns 320 = .ok (.ifCond .eq 17, 3) := dk_153 0 17 (dk_at dksX11_cutSigns_13 19 rfl rfl)
theorem dX11_cutSigns_323 : decode cX11_cutSigns 323 = .ok (.aload_n 0, 1) := dk_42 (dk_at dksX11_cutSigns_13 22 rfl rfl)
theorem dX11_cutSigns_324 : decode cX11_cutSigns 324 = .ok (.getfield 167, 3) := dk_180 0 167 (dk_at dksX11_cutSigns_14 0 rfl rfl)
theorem dX11_cutSigns_327 : decode cX11_cutSigns 327 = .ok (.iload_n 1, 1) := dk_27 (dk_at dksX11_cutSigns_14 3 rfl rfl)
theorem dX11_cutSigns_328 : decode cX11_cutSigns 328 = .ok (.iaload, 1) := dk_46 (dk_at dksX11_cutSigns_14 4 rfl rfl)
theorem dX11_cutSigns_329 : decode cX11_cutSigns 329 = .ok (.iconst 3, 1) := dk_6 (dk_at dksX11_cutSigns_14 5 rfl rfl)
theorem dX11_cutSigns_330 : decode cX11_cutSigns 330 = .ok (.if_icmp .eq 7, 3) := dk_159 0 7 (dk_at dksX11_cutSigns_14 6 rfl rfl)
theorem dX11_cutSigns_333 : decode cX11_cutSigns 333 = .ok (.iconst 1, 1) := dk_4 (dk_at dksX11_cutSigns_14 9 rfl rfl)
theorem dX11_cutSigns_334 : decode cX11_cutSigns 334 = .ok (.goto 4, 3) := dk_167 0 4 (dk_at dksX11_cutSigns_14 10 rfl rfl)
theorem dX11_cutSigns_337 : decode cX11_cutSigns 337 = .ok (.iconst 0, 1) := dk_3 (dk_at dksX11_cutSigns_14 13 rfl rfl)
theorem dX11_cutSigns_338 : decode cX11_cutSigns 338 = .ok (.istore_n 3, 1) := dk_62 (dk_at dksX11_cutSigns_14 14 rfl rfl)
theorem dX11_cutSigns_339 : decode cX11_cutSigns 339 = .ok (.iinc 1 1, 3) := dk_132 1 1 (dk_at dksX11_cutSigns_14 15 rfl rfl)
theorem dX11_cutSigns_342 : decode cX11_cutSigns 342 = .ok (.iload 5, 2) := dk_21 5 (dk_at dksX11_cutSigns_14 18 rfl rfl)
theorem dX11_cutSigns_344 : decode cX11_cutSigns 344 = .ok (.istore_n 2, 1) := dk_61 (dk_at dksX11_cutSigns_14 20 rfl rfl)
theorem dX11_cutSigns_345 : decode cX11_cutSigns 345 = .ok (.goto (-339), 3) := dk_167 254 173 (dk_at dksX11_cutSigns_14 21 rfl rfl)
theorem dX11_cutSigns_348 : decode cX11_cutSigns 348 = .ok (.return_, 1) := dk_177 (dk_at dksX11_cutSigns_15 0 rfl rfl)
abbrev cX11_textAt : ByteArray := prog_17_method_29_code
def yX11_textAt : MethodName := ⟨RX11, "textAt", "(I)I"⟩
def dkwX11_textAt_0 : List UInt8 := [27, 42, 180, 0, 158, 162, 0, 12, 42, 180, 0, 9, 27, 51, 167, 0, 4, 3, 172]
abbrev dktX11_textAt_0 : List UInt8 := dkwX11_textAt_0 ++ []
theorem dksX11_textAt_0 : cX11_textAt.data.toList.drop 0 = dktX11_textAt_0 := by decide +kernel
theorem dX11_textAt_0 : decode cX11_textAt 0 = .ok (.iload_n 1, 1) := dk_27 (dk_at dksX11_textAt_0 0 rfl rfl)
theorem dX11_textAt_1 : decode cX11_textAt 1 = .ok (.aload_n 0, 1) := dk_42 (dk_at dksX11_textAt_0 1 rfl rfl)
theorem dX11_textAt_2 : decode cX11_textAt 2 = .ok (.getfield 158, 3) := dk_180 0 158 (dk_at dksX11_textAt_0 2 rfl rfl)
theorem dX11_textAt_5 : decode cX11_textAt 5 = .ok (.if_icmp .ge 12, 3) := dk_162 0 12 (dk_at dksX11_textAt_0 5 rfl rfl)
theorem dX11_textAt_8 : decode cX11_textAt 8 = .ok (.aload_n 0, 1) := dk_42 (dk_at dksX11_textAt_0 8 rfl rfl)
theorem dX11_textAt_9 : decode cX11_textAt 9 = .ok (.getfield 9, 3) := dk_180 0 9 (dk_at dksX11_textAt_0 9 rfl rfl)
theorem dX11_textAt_12 : decode cX11_textAt 12 = .ok (.iload_n 1, 1) := dk_27 (dk_at dksX11_textAt_0 12 rfl rfl)
theorem dX11_textAt_13 : decode cX11_textAt 13 = .ok (.baload, 1) := dk_51 (dk_at dksX11_textAt_0 13 rfl rfl)
theorem dX11_textAt_14 : decode cX11_textAt 14 = .ok (.goto 4, 3) := dk_167 0 4 (dk_at dksX11_textAt_0 14 rfl rfl)
theorem dX11_textAt_17 : decode cX11_textAt 17 = .ok (.iconst 0, 1) := dk_3 (dk_at dksX11_textAt_0 17 rfl rfl)
theorem dX11_textAt_18 : decode cX11_textAt 18 = .ok (.ireturn, 1) := dk_172 (dk_at dksX11_textAt_0 18 rfl rfl)
abbrev cX11_isSign : ByteArray := prog_17_method_31_code
def yX11_isSign : MethodName := ⟨RX11, "isSign", "(I)Z"⟩
def dkwX11_isSign_0 : List UInt8 := [42, 180, 0, 167, 42, 180, 0, 188, 46, 27, 160, 0, 7, 4, 167, 0, 4, 3, 172]
abbrev dktX11_isSign_0 : List UInt8 := dkwX11_isSign_0 ++ []
theorem dksX11_isSign_0 : cX11_isSign.data.toList.drop 0 = dktX11_isSign_0 := by decide +kernel
theorem dX11_isSign_0 : decode cX11_isSign 0 = .ok (.aload_n 0, 1) := dk_42 (dk_at dksX11_isSign_0 0 rfl rfl)
theorem dX11_isSign_1 : decode cX11_isSign 1 = .ok (.getfield 167, 3) := dk_180 0 167 (dk_at dksX11_isSign_0 1 rfl rfl)
theorem dX11_isSign_4 : decode cX11_isSign 4 = .ok (.aload_n 0, 1) := dk_42 (dk_at dksX11_isSign_0 4 rfl rfl)
theorem dX11_isSign_5 : decode cX11_isSign 5 = .ok (.getfield 188, 3) := dk_180 0 188 (dk_at dksX11_isSign_0 5 rfl rfl)
theorem dX11_isSign_8 : decode cX11_isSign 8 = .ok (.iaload, 1) := dk_46 (dk_at dksX11_isSign_0 8 rfl rfl)
theorem dX11_isSign_9 : decode cX11_isSign 9 = .ok (.iload_n 1, 1) := dk_27 (dk_at dksX11_isSign_0 9 rfl rfl)
theorem dX11_isSign_10 : decode cX11_isSign 10 = .ok (.if_icmp .ne 7, 3) := dk_160 0 7 (dk_at dksX11_isSign_0 10 rfl rfl)
theorem dX11_isSign_13 : decode cX11_isSign 13 = .ok (.iconst 1, 1) := dk_4 (dk_at dksX11_isSign_0 13 rfl rfl)
theorem dX11_isSign_14 : decode cX11_isSign 14 = .ok (.goto 4, 3) := dk_167 0 4 (dk_at dksX11_isSign_0 14 rfl rfl)
theorem dX11_isSign_17 : decode cX11_isSign 17 = .ok (.iconst 0, 1) := dk_3 (dk_at dksX11_isSign_0 17 rfl rfl)
theorem dX11_isSign_18 : decode cX11_isSign 18 = .ok (.ireturn, 1) := dk_172 (dk_at dksX11_isSign_0 18 rfl rfl)
abbrev cX11_takeClause : ByteArray := prog_17_method_56_code
def yX11_takeClause : MethodName := ⟨RX11, "takeClause", "()Z"⟩
def dkwX11_takeClause_8 : List UInt8 := [16, 7, 42, 180, 0, 218, 79, 4, 172, 42, 180, 1, 25, 16, 8, 4, 79, 4, 172, 42, 182, 1, 188, 172]
abbrev dktX11_takeClause_8 : List UInt8 := dkwX11_takeClause_8 ++ []
def dkwX11_takeClause_7 : List UInt8 := [182, 1, 182, 172, 42, 182, 1, 185, 172, 42, 3, 6, 182, 1, 45, 154, 0, 5, 3, 172, 42, 180, 1, 25]
abbrev dktX11_takeClause_7 : List UInt8 := dkwX11_takeClause_7 ++ dktX11_takeClause_8
def dkwX11_takeClause_6 : List UInt8 := [42, 182, 1, 179, 172, 42, 180, 1, 25, 7, 4, 79, 4, 172, 42, 3, 182, 1, 182, 172, 42, 4]
abbrev dktX11_takeClause_6 : List UInt8 := dkwX11_takeClause_6 ++ dktX11_takeClause_7
def dkwX11_takeClause_5 : List UInt8 := [170, 0, 0, 0, 0, 107, 0, 0, 0, 0, 0, 0, 0, 6, 0, 0, 0, 42, 0, 0, 0, 47, 0, 0, 0, 56, 0, 0, 0, 62, 0, 0, 0, 68, 0, 0, 0, 73, 0, 0, 0, 97]
abbrev dktX11_takeClause_5 : List UInt8 := dkwX11_takeClause_5 ++ dktX11_takeClause_6
def dkwX11_takeClause_4 : List UInt8 := [182, 0, 224, 42, 89, 180, 1, 176, 4, 28, 120, 128, 181, 1, 176, 28]
abbrev dktX11_takeClause_4 : List UInt8 := dkwX11_takeClause_4 ++ dktX11_takeClause_5
def dkwX11_takeClause_3 : List UInt8 := [159, 0, 21, 28, 16, 7, 160, 0, 20, 42, 180, 1, 25, 16, 9, 46, 16, 6, 161, 0, 8, 42, 27]
abbrev dktX11_takeClause_3 : List UInt8 := dkwX11_takeClause_3 ++ dktX11_takeClause_4
def dkwX11_takeClause_2 : List UInt8 := [156, 0, 8, 42, 182, 0, 210, 172, 28, 16, 7, 162, 0, 15, 42, 180, 1, 176, 28, 122, 4, 126, 4]
abbrev dktX11_takeClause_2 : List UInt8 := dkwX11_takeClause_2 ++ dktX11_takeClause_3
def dkwX11_takeClause_1 : List UInt8 := [42, 29, 184, 1, 173, 182, 0, 249, 153, 0, 7, 29, 167, 0, 4, 2, 61, 132, 3, 1, 167, 255, 226, 28]
abbrev dktX11_takeClause_1 : List UInt8 := dkwX11_takeClause_1 ++ dktX11_takeClause_2
def dkwX11_takeClause_0 : List UInt8 := [42, 180, 0, 161, 42, 180, 0, 188, 46, 60, 2, 61, 3, 62, 29, 16, 8, 162, 0, 30, 28, 156, 0, 26]
abbrev dktX11_takeClause_0 : List UInt8 := dkwX11_takeClause_0 ++ dktX11_takeClause_1
theorem dksX11_takeClause_0 : cX11_takeClause.data.toList.drop 0 = dktX11_takeClause_0 := by decide +kernel
theorem dksX11_takeClause_1 : cX11_takeClause.data.toList.drop 24 = dktX11_takeClause_1 := dk_seg dksX11_takeClause_0 24 rfl rfl
theorem dksX11_takeClause_2 : cX11_takeClause.data.toList.drop 48 = dktX11_takeClause_2 := dk_seg dksX11_takeClause_1 24 rfl rfl
theorem dksX11_takeClause_3 : cX11_takeClause.data.toList.drop 71 = dktX11_takeClause_3 := dk_seg dksX11_takeClause_2 23 rfl rfl
theorem dksX11_takeClause_4 : cX11_takeClause.data.toList.drop 94 = dktX11_takeClause_4 := dk_seg dksX11_takeClause_3 23 rfl rfl
theorem dksX11_takeClause_5 : cX11_takeClause.data.toList.drop 110 = dktX11_takeClause_5 := dk_seg dksX11_takeClause_4 16 rfl rfl
theorem dksX11_takeClause_6 : cX11_takeClause.data.toList.drop 152 = dktX11_takeClause_6 := dk_seg dksX11_takeClause_5 42 rfl rfl
theorem dksX11_takeClause_7 : cX11_takeClause.data.toList.drop 174 = dktX11_takeClause_7 := dk_seg dksX11_takeClause_6 22 rfl rfl
theorem dksX11_takeClause_8 : cX11_takeClause.data.toList.drop 198 = dktX11_takeClause_8 := dk_seg dksX11_takeClause_7 24 rfl rfl
theorem dX11_takeClause_0 : decode cX11_takeClause 0 = .ok (.aload_n 0, 1) := dk_42 (dk_at dksX11_takeClause_0 0 rfl rfl)
theorem dX11_takeClause_1 : decode cX11_takeClause 1 = .ok (.getfield 161, 3) := dk_180 0 161 (dk_at dksX11_takeClause_0 1 rfl rfl)
theorem dX11_takeClause_4 : decode cX11_takeClause 4 = .ok (.aload_n 0, 1) := dk_42 (dk_at dksX11_takeClause_0 4 rfl rfl)
theorem dX11_takeClause_5 : decode cX11_takeClause 5 = .ok (.getfield 188, 3) := dk_180 0 188 (dk_at dksX11_takeClause_0 5 rfl rfl)
theorem dX11_takeClause_8 : decode cX11_takeClause 8 = .ok (.iaload, 1) := dk_46 (dk_at dksX11_takeClause_0 8 rfl rfl)
theorem dX11_takeClause_9 : decode cX11_takeClause 9 = .ok (.istore_n 1, 1) := dk_60 (dk_at dksX11_takeClause_0 9 rfl rfl)
theorem dX11_takeClause_10 : decode cX11_takeClause 10 = .ok (.iconst (-1), 1) := dk_2 (dk_at dksX11_takeClause_0 10 rfl rfl)
theorem dX11_takeClause_11 : decode cX11_takeClause 11 = .ok (.istore_n 2, 1) := dk_61 (dk_at dksX11_takeClause_0 11 rfl rfl)
theorem dX11_takeClause_12 : decode cX11_takeClause 12 = .ok (.iconst 0, 1) := dk_3 (dk_at dksX11_takeClause_0 12 rfl rfl)
theorem dX11_takeClause_13 : decode cX11_takeClause 13 = .ok (.istore_n 3, 1) := dk_62 (dk_at dksX11_takeClause_0 13 rfl rfl)
theorem dX11_takeClause_14 : decode cX11_takeClause 14 = .ok (.iload_n 3, 1) := dk_29 (dk_at dksX11_takeClause_0 14 rfl rfl)
theorem dX11_takeClause_15 : decode cX11_takeClause 15 = .ok (.bipush 8, 2) := dk_16 8 (dk_at dksX11_takeClause_0 15 rfl rfl)
theorem dX11_takeClause_17 : decode cX11_takeClause 17 = .ok (.if_icmp .ge 30, 3) := dk_162 0 30 (dk_at dksX11_takeClause_0 17 rfl rfl)
theorem dX11_takeClause_20 : decode cX11_takeClause 20 = .ok (.iload_n 2, 1) := dk_28 (dk_at dksX11_takeClause_0 20 rfl rfl)
theorem dX11_takeClause_21 : decode cX11_takeClause 21 = .ok (.ifCond .ge 26, 3) := dk_156 0 26 (dk_at dksX11_takeClause_0 21 rfl rfl)
theorem dX11_takeClause_24 : decode cX11_takeClause 24 = .ok (.aload_n 0, 1) := dk_42 (dk_at dksX11_takeClause_1 0 rfl rfl)
theorem dX11_takeClause_25 : decode cX11_takeClause 25 = .ok (.iload_n 3, 1) := dk_29 (dk_at dksX11_takeClause_1 1 rfl rfl)
theorem dX11_takeClause_26 : decode cX11_takeClause 26 = .ok (.invokestatic 429, 3) := dk_184 1 173 (dk_at dksX11_takeClause_1 2 rfl rfl)
theorem dX11_takeClause_29 : decode cX11_takeClause 29 = .ok (.invokevirtual 249, 3) := dk_182 0 249 (dk_at dksX11_takeClause_1 5 rfl rfl)
theorem dX11_takeClause_32 : decode cX11_takeClause 32 = .ok (.ifCond .eq 7, 3) := dk_153 0 7 (dk_at dksX11_takeClause_1 8 rfl rfl)
theorem dX11_takeClause_35 : decode cX11_takeClause 35 = .ok (.iload_n 3, 1) := dk_29 (dk_at dksX11_takeClause_1 11 rfl rfl)
theorem dX11_takeClause_36 : decode cX11_takeClause 36 = .ok (.goto 4, 3) := dk_167 0 4 (dk_at dksX11_takeClause_1 12 rfl rfl)
theorem dX11_takeClause_39 : decode cX11_takeClause 39 = .ok (.iconst (-1), 1) := dk_2 (dk_at dksX11_takeClause_1 15 rfl rfl)
theorem dX11_takeClause_40 : decode cX11_takeClause 40 = .ok (.istore_n 2, 1) := dk_61 (dk_at dksX11_takeClause_1 16 rfl rfl)
theorem dX11_takeClause_41 : decode cX11_takeClause 41 = .ok (.iinc 3 1, 3) := dk_132 3 1 (dk_at dksX11_takeClause_1 17 rfl rfl)
theorem dX11_takeClause_44 : decode cX11_takeClause 44 = .ok (.goto (-30), 3) := dk_167 255 226 (dk_at dksX11_takeClause_1 20 rfl rfl)
theorem dX11_takeClause_47 : decode cX11_takeClause 47 = .ok (.iload_n 2, 1) := dk_28 (dk_at dksX11_takeClause_1 23 rfl rfl)
theorem dX11_takeClause_48 : decode cX11_takeClause 48 = .ok (.ifCond .ge 8, 3) := dk_156 0 8 (dk_at dksX11_takeClause_2 0 rfl rfl)
theorem dX11_takeClause_51 : decode cX11_takeClause 51 = .ok (.aload_n 0, 1) := dk_42 (dk_at dksX11_takeClause_2 3 rfl rfl)
theorem dX11_takeClause_52 : decode cX11_takeClause 52 = .ok (.invokevirtual 210, 3) := dk_182 0 210 (dk_at dksX11_takeClause_2 4 rfl rfl)
theorem dX11_takeClause_55 : decode cX11_takeClause 55 = .ok (.ireturn, 1) := dk_172 (dk_at dksX11_takeClause_2 7 rfl rfl)
theorem dX11_takeClause_56 : decode cX11_takeClause 56 = .ok (.iload_n 2, 1) := dk_28 (dk_at dksX11_takeClause_2 8 rfl rfl)
theorem dX11_takeClause_57 : decode cX11_takeClause 57 = .ok (.bipush 7, 2) := dk_16 7 (dk_at dksX11_takeClause_2 9 rfl rfl)
theorem dX11_takeClause_59 : decode cX11_takeClause 59 = .ok (.if_icmp .ge 15, 3) := dk_162 0 15 (dk_at dksX11_takeClause_2 11 rfl rfl)
theorem dX11_takeClause_62 : decode cX11_takeClause 62 = .ok (.aload_n 0, 1) := dk_42 (dk_at dksX11_takeClause_2 14 rfl rfl)
theorem dX11_takeClause_63 : decode cX11_takeClause 63 = .ok (.getfield 432, 3) := dk_180 1 176 (dk_at dksX11_takeClause_2 15 rfl rfl)
theorem dX11_takeClause_66 : decode cX11_takeClause 66 = .ok (.iload_n 2, 1) := dk_28 (dk_at dksX11_takeClause_2 18 rfl rfl)
theorem dX11_takeClause_67 : decode cX11_takeClause 67 = .ok (.ishr, 1) := dk_122 (dk_at dksX11_takeClause_2 19 rfl rfl)
theorem dX11_takeClause_68 : decode cX11_takeClause 68 = .ok (.iconst 1, 1) := dk_4 (dk_at dksX11_takeClause_2 20 rfl rfl)
theorem dX11_takeClause_69 : decode cX11_takeClause 69 = .ok (.iand, 1) := dk_126 (dk_at dksX11_takeClause_2 21 rfl rfl)
theorem dX11_takeClause_70 : decode cX11_takeClause 70 = .ok (.iconst 1, 1) := dk_4 (dk_at dksX11_takeClause_2 22 rfl rfl)
theorem dX11_takeClause_71 : decode cX11_takeClause 71 = .ok (.if_icmp .eq 21, 3) := dk_159 0 21 (dk_at dksX11_takeClause_3 0 rfl rfl)
theorem dX11_takeClause_74 : decode cX11_takeClause 74 = .ok (.iload_n 2, 1) := dk_28 (dk_at dksX11_takeClause_3 3 rfl rfl)
theorem dX11_takeClause_75 : decode cX11_takeClause 75 = .ok (.bipush 7, 2) := dk_16 7 (dk_at dksX11_takeClause_3 4 rfl rfl)
theorem dX11_takeClause_77 : decode cX11_takeClause 77 = .ok (.if_icmp .ne 20, 3) := dk_160 0 20 (dk_at dksX11_takeClause_3 6 rfl rfl)
theorem dX11_takeClause_80 : decode cX11_takeClause 80 = .ok (.aload_n 0, 1) := dk_42 (dk_at dksX11_takeClause_3 9 rfl rfl)
theorem dX11_takeClause_81 : decode cX11_takeClause 81 = .ok (.getfield 281, 3) := dk_180 1 25 (dk_at dksX11_takeClause_3 10 rfl rfl)
theorem dX11_takeClause_84 : decode cX11_takeClause 84 = .ok (.bipush 9, 2) := dk_16 9 (dk_at dksX11_takeClause_3 13 rfl rfl)
theorem dX11_takeClause_86 : decode cX11_takeClause 86 = .ok (.iaload, 1) := dk_46 (dk_at dksX11_takeClause_3 15 rfl rfl)
theorem dX11_takeClause_87 : decode cX11_takeClause 87 = .ok (.bipush 6, 2) := dk_16 6 (dk_at dksX11_takeClause_3 16 rfl rfl)
theorem dX11_takeClause_89 : decode cX11_takeClause 89 = .ok (.if_icmp .lt 8, 3) := dk_161 0 8 (dk_at dksX11_takeClause_3 18 rfl rfl)
theorem dX11_takeClause_92 : decode cX11_takeClause 92 = .ok (.aload_n 0, 1) := dk_42 (dk_at dksX11_takeClause_3 21 rfl rfl)
theorem dX11_takeClause_93 : decode cX11_takeClause 93 = .ok (.iload_n 1, 1) := dk_27 (dk_at dksX11_takeClause_3 22 rfl rfl)
theorem dX11_takeClause_94 : decode cX11_takeClause 94 = .ok (.invokevirtual 224, 3) := dk_182 0 224 (dk_at dksX11_takeClause_4 0 rfl rfl)
theorem dX11_takeClause_97 : decode cX11_takeClause 97 = .ok (.aload_n 0, 1) := dk_42 (dk_at dksX11_takeClause_4 3 rfl rfl)
theorem dX11_takeClause_98 : decode cX11_takeClause 98 = .ok (.dup, 1) := dk_89 (dk_at dksX11_takeClause_4 4 rfl rfl)
theorem dX11_takeClause_99 : decode cX11_takeClause 99 = .ok (.getfield 432, 3) := dk_180 1 176 (dk_at dksX11_takeClause_4 5 rfl rfl)
theorem dX11_takeClause_102 : decode cX11_takeClause 102 = .ok (.iconst 1, 1) := dk_4 (dk_at dksX11_takeClause_4 8 rfl rfl)
theorem dX11_takeClause_103 : decode cX11_takeClause 103 = .ok (.iload_n 2, 1) := dk_28 (dk_at dksX11_takeClause_4 9 rfl rfl)
theorem dX11_takeClause_104 : decode cX11_takeClause 104 = .ok (.ishl, 1) := dk_120 (dk_at dksX11_takeClause_4 10 rfl rfl)
theorem dX11_takeClause_105 : decode cX11_takeClause 105 = .ok (.ior, 1) := dk_128 (dk_at dksX11_takeClause_4 11 rfl rfl)
theorem dX11_takeClause_106 : decode cX11_takeClause 106 = .ok (.putfield 432, 3) := dk_181 1 176 (dk_at dksX11_takeClause_4 12 rfl rfl)
theorem dX11_takeClause_109 : decode cX11_takeClause 109 = .ok (.iload_n 2, 1) := dk_28 (dk_at dksX11_takeClause_4 15 rfl rfl)
theorem dX11_takeClause_110 : decode cX11_takeClause 110 = .ok (.tableswitch 107 0 6 #[42, 47, 56, 62, 68, 73, 97], 42) := by decide +kernel
theorem dX11_takeClause_152 : decode cX11_takeClause 152 = .ok (.aload_n 0, 1) := dk_42 (dk_at dksX11_takeClause_6 0 rfl rfl)
theorem dX11_takeClause_153 : decode cX11_takeClause 153 = .ok (.invokevirtual 435, 3) := dk_182 1 179 (dk_at dksX11_takeClause_6 1 rfl rfl)
theorem dX11_takeClause_156 : decode cX11_takeClause 156 = .ok (.ireturn, 1) := dk_172 (dk_at dksX11_takeClause_6 4 rfl rfl)
theorem dX11_takeClause_157 : decode cX11_takeClause 157 = .ok (.aload_n 0, 1) := dk_42 (dk_at dksX11_takeClause_6 5 rfl rfl)
theorem dX11_takeClause_158 : decode cX11_takeClause 158 = .ok (.getfield 281, 3) := dk_180 1 25 (dk_at dksX11_takeClause_6 6 rfl rfl)
theorem dX11_takeClause_161 : decode cX11_takeClause 161 = .ok (.iconst 4, 1) := dk_7 (dk_at dksX11_takeClause_6 9 rfl rfl)
theorem dX11_takeClause_162 : decode cX11_takeClause 162 = .ok (.iconst 1, 1) := dk_4 (dk_at dksX11_takeClause_6 10 rfl rfl)
theorem dX11_takeClause_163 : decode cX11_takeClause 163 = .ok (.iastore, 1) := dk_79 (dk_at dksX11_takeClause_6 11 rfl rfl)
theorem dX11_takeClause_164 : decode cX11_takeClause 164 = .ok (.iconst 1, 1) := dk_4 (dk_at dksX11_takeClause_6 12 rfl rfl)
theorem dX11_takeClause_165 : decode cX11_takeClause 165 = .ok (.ireturn, 1) := dk_172 (dk_at dksX11_takeClause_6 13 rfl rfl)
theorem dX11_takeClause_166 : decode cX11_takeClause 166 = .ok (.aload_n 0, 1) := dk_42 (dk_at dksX11_takeClause_6 14 rfl rfl)
theorem dX11_takeClause_167 : decode cX11_takeClause 167 = .ok (.iconst 0, 1) := dk_3 (dk_at dksX11_takeClause_6 15 rfl rfl)
theorem dX11_takeClause_168 : decode cX11_takeClause 168 = .ok (.invokevirtual 438, 3) := dk_182 1 182 (dk_at dksX11_takeClause_6 16 rfl rfl)
theorem dX11_takeClause_171 : decode cX11_takeClause 171 = .ok (.ireturn, 1) := dk_172 (dk_at dksX11_takeClause_6 19 rfl rfl)
theorem dX11_takeClause_172 : decode cX11_takeClause 172 = .ok (.aload_n 0, 1) := dk_42 (dk_at dksX11_takeClause_6 20 rfl rfl)
theorem dX11_takeClause_173 : decode cX11_takeClause 173 = .ok (.iconst 1, 1) := dk_4 (dk_at dksX11_takeClause_6 21 rfl rfl)
theorem dX11_takeClause_174 : decode cX11_takeClause 174 = .ok (.invokevirtual 438, 3) := dk_182 1 182 (dk_at dksX11_takeClause_7 0 rfl rfl)
theorem dX11_takeClause_177 : decode cX11_takeClause 177 = .ok (.ireturn, 1) := dk_172 (dk_at dksX11_takeClause_7 3 rfl rfl)
theorem dX11_takeClause_178 : decode cX11_takeClause 178 = .ok (.aload_n 0, 1) := dk_42 (dk_at dksX11_takeClause_7 4 rfl rfl)
theorem dX11_takeClause_179 : decode cX11_takeClause 179 = .ok (.invokevirtual 441, 3) := dk_182 1 185 (dk_at dksX11_takeClause_7 5 rfl rfl)
theorem dX11_takeClause_182 : decode cX11_takeClause 182 = .ok (.ireturn, 1) := dk_172 (dk_at dksX11_takeClause_7 8 rfl rfl)
theorem dX11_takeClause_183 : decode cX11_takeClause 183 = .ok (.aload_n 0, 1) := dk_42 (dk_at dksX11_takeClause_7 9 rfl rfl)
theorem dX11_takeClause_184 : decode cX11_takeClause 184 = .ok (.iconst 0, 1) := dk_3 (dk_at dksX11_takeClause_7 10 rfl rfl)
theorem dX11_takeClause_185 : decode cX11_takeClause 185 = .ok (.iconst 3, 1) := dk_6 (dk_at dksX11_takeClause_7 11 rfl rfl)
theorem dX11_takeClause_186 : decode cX11_takeClause 186 = .ok (.invokevirtual 301, 3) := dk_182 1 45 (dk_at dksX11_takeClause_7 12 rfl rfl)
theorem dX11_takeClause_189 : decode cX11_takeClause 189 = .ok (.ifCond .ne 5, 3) := dk_154 0 5 (dk_at dksX11_takeClause_7 15 rfl rfl)
theorem dX11_takeClause_192 : decode cX11_takeClause 192 = .ok (.iconst 0, 1) := dk_3 (dk_at dksX11_takeClause_7 18 rfl rfl)
theorem dX11_takeClause_193 : decode cX11_takeClause 193 = .ok (.ireturn, 1) := dk_172 (dk_at dksX11_takeClause_7 19 rfl rfl)
theorem dX11_takeClause_194 : decode cX11_takeClause 194 = .ok (.aload_n 0, 1) := dk_42 (dk_at dksX11_takeClause_7 20 rfl rfl)
theorem dX11_takeClause_195 : decode cX11_takeClause 195 = .ok (.getfield 281, 3) := dk_180 1 25 (dk_at dksX11_takeClause_7 21 rfl rfl)
theorem dX11_takeClause_198 : decode cX11_takeClause 198 = .ok (.bipush 7, 2) := dk_16 7 (dk_at dksX11_takeClause_8 0 rfl rfl)
theorem dX11_takeClause_200 : decode cX11_takeClause 200 = .ok (.aload_n 0, 1) := dk_42 (dk_at dksX11_takeClause_8 2 rfl rfl)
theorem dX11_takeClause_201 : decode cX11_takeClause 201 = .ok (.getfield 218, 3) := dk_180 0 218 (dk_at dksX11_takeClause_8 3 rfl rfl)
theorem dX11_takeClause_204 : decode cX11_takeClause 204 = .ok (.iastore, 1) := dk_79 (dk_at dksX11_takeClause_8 6 rfl rfl)
theorem dX11_takeClause_205 : decode cX11_takeClause 205 = .ok (.iconst 1, 1) := dk_4 (dk_at dksX11_takeClause_8 7 rfl rfl)
theorem dX11_takeClause_206 : decode cX11_takeClause 206 = .ok (.ireturn, 1) := dk_172 (dk_at dksX11_takeClause_8 8 rfl rfl)
theorem dX11_takeClause_207 : decode cX11_takeClause 207 = .ok (.aload_n 0, 1) := dk_42 (dk_at dksX11_takeClause_8 9 rfl rfl)
theorem dX11_takeClause_208 : decode cX11_takeClause 208 = .ok (.getfield 281, 3) := dk_180 1 25 (dk_at dksX11_takeClause_8 10 rfl rfl)
theorem dX11_takeClause_211 : decode cX11_takeClause 211 = .ok (.bipush 8, 2) := dk_16 8 (dk_at dksX11_takeClause_8 13 rfl rfl)
theorem dX11_takeClause_213 : decode cX11_takeClause 213 = .ok (.iconst 1, 1) := dk_4 (dk_at dksX11_takeClause_8 15 rfl rfl)
theorem dX11_takeClause_214 : decode cX11_takeClause 214 = .ok (.iastore, 1) := dk_79 (dk_at dksX11_takeClause_8 16 rfl rfl)
theorem dX11_takeClause_215 : decode cX11_takeClause 215 = .ok (.iconst 1, 1) := dk_4 (dk_at dksX11_takeClause_8 17 rfl rfl)
theorem dX11_takeClause_216 : decode cX11_takeClause 216 = .ok (.ireturn, 1) := dk_172 (dk_at dksX11_takeClause_8 18 rfl rfl)
theorem dX11_takeClause_217 : decode cX11_takeClause 217 = .ok (.aload_n 0, 1) := dk_42 (dk_at dksX11_takeClause_8 19 rfl rfl)
theorem dX11_takeClause_218 : decode cX11_takeClause 218 = .ok (.invokevirtual 444, 3) := dk_182 1 188 (dk_at dksX11_takeClause_8 20 rfl rfl)
theorem dX11_takeClause_221 : decode cX11_takeClause 221 = .ok (.ireturn, 1) := dk_172 (dk_at dksX11_takeClause_8 23 rfl rfl)
abbrev cX11_clauseName : ByteArray := prog_17_method_55_code
def yX11_clauseName : MethodName := ⟨RX11, "clauseName", "(I)Ljava/lang/String;"⟩
def dkwX11_clauseName_3 : List UInt8 := [160, 0, 9, 19, 1, 169, 167, 0, 6, 19, 1, 171, 176]
abbrev dktX11_clauseName_3 : List UInt8 := dkwX11_clauseName_3 ++ []
def dkwX11_clauseName_2 : List UInt8 := [160, 0, 9, 19, 1, 165, 167, 0, 29, 26, 8, 160, 0, 9, 19, 1, 167, 167, 0, 18, 26, 16, 6]
abbrev dktX11_clauseName_2 : List UInt8 := dkwX11_clauseName_2 ++ dktX11_clauseName_3
def dkwX11_clauseName_1 : List UInt8 := [160, 0, 9, 19, 1, 161, 167, 0, 51, 26, 6, 160, 0, 9, 19, 1, 163, 167, 0, 40, 26, 7]
abbrev dktX11_clauseName_1 : List UInt8 := dkwX11_clauseName_1 ++ dktX11_clauseName_2
def dkwX11_clauseName_0 : List UInt8 := [26, 154, 0, 9, 19, 1, 157, 167, 0, 73, 26, 4, 160, 0, 9, 19, 1, 159, 167, 0, 62, 26, 5]
abbrev dktX11_clauseName_0 : List UInt8 := dkwX11_clauseName_0 ++ dktX11_clauseName_1
theorem dksX11_clauseName_0 : cX11_clauseName.data.toList.drop 0 = dktX11_clauseName_0 := by decide +kernel
theorem dksX11_clauseName_1 : cX11_clauseName.data.toList.drop 23 = dktX11_clauseName_1 := dk_seg dksX11_clauseName_0 23 rfl rfl
theorem dksX11_clauseName_2 : cX11_clauseName.data.toList.drop 45 = dktX11_clauseName_2 := dk_seg dksX11_clauseName_1 22 rfl rfl
theorem dksX11_clauseName_3 : cX11_clauseName.data.toList.drop 68 = dktX11_clauseName_3 := dk_seg dksX11_clauseName_2 23 rfl rfl
theorem dX11_clauseName_0 : decode cX11_clauseName 0 = .ok (.iload_n 0, 1) := dk_26 (dk_at dksX11_clauseName_0 0 rfl rfl)
theorem dX11_clauseName_1 : decode cX11_clauseName 1 = .ok (.ifCond .ne 9, 3) := dk_154 0 9 (dk_at dksX11_clauseName_0 1 rfl rfl)
theorem dX11_clauseName_4 : decode cX11_clauseName 4 = .ok (.ldc_w 413, 3) := dk_19 1 157 (dk_at dksX11_clauseName_0 4 rfl rfl)
theorem dX11_clauseName_7 : decode cX11_clauseName 7 = .ok (.goto 73, 3) := dk_167 0 73 (dk_at dksX11_clauseName_0 7 rfl rfl)
theorem dX11_clauseName_10 : decode cX11_clauseName 10 = .ok (.iload_n 0, 1) := dk_26 (dk_at dksX11_clauseName_0 10 rfl rfl)
theorem dX11_clauseName_11 : decode cX11_clauseName 11 = .ok (.iconst 1, 1) := dk_4 (dk_at dksX11_clauseName_0 11 rfl rfl)
theorem dX11_clauseName_12 : decode cX11_clauseName 12 = .ok (.if_icmp .ne 9, 3) := dk_160 0 9 (dk_at dksX11_clauseName_0 12 rfl rfl)
theorem dX11_clauseName_15 : decode cX11_clauseName 15 = .ok (.ldc_w 415, 3) := dk_19 1 159 (dk_at dksX11_clauseName_0 15 rfl rfl)
theorem dX11_clauseName_18 : decode cX11_clauseName 18 = .ok (.goto 62, 3) := dk_167 0 62 (dk_at dksX11_clauseName_0 18 rfl rfl)
theorem dX11_clauseName_21 : decode cX11_clauseName 21 = .ok (.iload_n 0, 1) := dk_26 (dk_at dksX11_clauseName_0 21 rfl rfl)
theorem dX11_clauseName_22 : decode cX11_clauseName 22 = .ok (.iconst 2, 1) := dk_5 (dk_at dksX11_clauseName_0 22 rfl rfl)
theorem dX11_clauseName_23 : decode cX11_clauseName 23 = .ok (.if_icmp .ne 9, 3) := dk_160 0 9 (dk_at dksX11_clauseName_1 0 rfl rfl)
theorem dX11_clauseName_26 : decode cX11_clauseName 26 = .ok (.ldc_w 417, 3) := dk_19 1 161 (dk_at dksX11_clauseName_1 3 rfl rfl)
theorem dX11_clauseName_29 : decode cX11_clauseName 29 = .ok (.goto 51, 3) := dk_167 0 51 (dk_at dksX11_clauseName_1 6 rfl rfl)
theorem dX11_clauseName_32 : decode cX11_clauseName 32 = .ok (.iload_n 0, 1) := dk_26 (dk_at dksX11_clauseName_1 9 rfl rfl)
theorem dX11_clauseName_33 : decode cX11_clauseName 33 = .ok (.iconst 3, 1) := dk_6 (dk_at dksX11_clauseName_1 10 rfl rfl)
theorem dX11_clauseName_34 : decode cX11_clauseName 34 = .ok (.if_icmp .ne 9, 3) := dk_160 0 9 (dk_at dksX11_clauseName_1 11 rfl rfl)
theorem dX11_clauseName_37 : decode cX11_clauseName 37 = .ok (.ldc_w 419, 3) := dk_19 1 163 (dk_at dksX11_clauseName_1 14 rfl rfl)
theorem dX11_clauseName_40 : decode cX11_clauseName 40 = .ok (.goto 40, 3) := dk_167 0 40 (dk_at dksX11_clauseName_1 17 rfl rfl)
theorem dX11_clauseName_43 : decode cX11_clauseName 43 = .ok (.iload_n 0, 1) := dk_26 (dk_at dksX11_clauseName_1 20 rfl rfl)
theorem dX11_clauseName_44 : decode cX11_clauseName 44 = .ok (.iconst 4, 1) := dk_7 (dk_at dksX11_clauseName_1 21 rfl rfl)
theorem dX11_clauseName_45 : decode cX11_clauseName 45 = .ok (.if_icmp .ne 9, 3) := dk_160 0 9 (dk_at dksX11_clauseName_2 0 rfl rfl)
theorem dX11_clauseName_48 : decode cX11_clauseName 48 = .ok (.ldc_w 421, 3) := dk_19 1 165 (dk_at dksX11_clauseName_2 3 rfl rfl)
theorem dX11_clauseName_51 : decode cX11_clauseName 51 = .ok (.goto 29, 3) := dk_167 0 29 (dk_at dksX11_clauseName_2 6 rfl rfl)
theorem dX11_clauseName_54 : decode cX11_clauseName 54 = .ok (.iload_n 0, 1) := dk_26 (dk_at dksX11_clauseName_2 9 rfl rfl)
theorem dX11_clauseName_55 : decode cX11_clauseName 55 = .ok (.iconst 5, 1) := dk_8 (dk_at dksX11_clauseName_2 10 rfl rfl)
theorem dX11_clauseName_56 : decode cX11_clauseName 56 = .ok (.if_icmp .ne 9, 3) := dk_160 0 9 (dk_at dksX11_clauseName_2 11 rfl rfl)
theorem dX11_clauseName_59 : decode cX11_clauseName 59 = .ok (.ldc_w 423, 3) := dk_19 1 167 (dk_at dksX11_clauseName_2 14 rfl rfl)
theorem dX11_clauseName_62 : decode cX11_clauseName 62 = .ok (.goto 18, 3) := dk_167 0 18 (dk_at dksX11_clauseName_2 17 rfl rfl)
theorem dX11_clauseName_65 : decode cX11_clauseName 65 = .ok (.iload_n 0, 1) := dk_26 (dk_at dksX11_clauseName_2 20 rfl rfl)
theorem dX11_clauseName_66 : decode cX11_clauseName 66 = .ok (.bipush 6, 2) := dk_16 6 (dk_at dksX11_clauseName_2 21 rfl rfl)
theorem dX11_clauseName_68 : decode cX11_clauseName 68 = .ok (.if_icmp .ne 9, 3) := dk_160 0 9 (dk_at dksX11_clauseName_3 0 rfl rfl)
theorem dX11_clauseName_71 : decode cX11_clauseName 71 = .ok (.ldc_w 425, 3) := dk_19 1 169 (dk_at dksX11_clauseName_3 3 rfl rfl)
theorem dX11_clauseName_74 : decode cX11_clauseName 74 = .ok (.goto 6, 3) := dk_167 0 6 (dk_at dksX11_clauseName_3 6 rfl rfl)
theorem dX11_clauseName_77 : decode cX11_clauseName 77 = .ok (.ldc_w 427, 3) := dk_19 1 171 (dk_at dksX11_clauseName_3 9 rfl rfl)
theorem dX11_clauseName_80 : decode cX11_clauseName 80 = .ok (.areturn, 1) := dk_176 (dk_at dksX11_clauseName_3 12 rfl rfl)
abbrev cX11_mayWord : ByteArray := prog_17_method_37_code
def yX11_mayWord : MethodName := ⟨RX11, "mayWord", "(Ljava/lang/String;)Z"⟩
def dkwX11_mayWord_1 : List UInt8 := [28, 172]
abbrev dktX11_mayWord_1 : List UInt8 := dkwX11_mayWord_1 ++ []
def dkwX11_mayWord_0 : List UInt8 := [42, 43, 182, 0, 214, 61, 42, 89, 180, 0, 188, 28, 153, 0, 7, 4, 167, 0, 4, 3, 96, 181, 0, 188]
abbrev dktX11_mayWord_0 : List UInt8 := dkwX11_mayWord_0 ++ dktX11_mayWord_1
theorem dksX11_mayWord_0 : cX11_mayWord.data.toList.drop 0 = dktX11_mayWord_0 := by decide +kernel
theorem dksX11_mayWord_1 : cX11_mayWord.data.toList.drop 24 = dktX11_mayWord_1 := dk_seg dksX11_mayWord_0 24 rfl rfl
theorem dX11_mayWord_0 : decode cX11_mayWord 0 = .ok (.aload_n 0, 1) := dk_42 (dk_at dksX11_mayWord_0 0 rfl rfl)
theorem dX11_mayWord_1 : decode cX11_mayWord 1 = .ok (.aload_n 1, 1) := dk_43 (dk_at dksX11_mayWord_0 1 rfl rfl)
theorem dX11_mayWord_2 : decode cX11_mayWord 2 = .ok (.invokevirtual 214, 3) := dk_182 0 214 (dk_at dksX11_mayWord_0 2 rfl rfl)
theorem dX11_mayWord_5 : decode cX11_mayWord 5 = .ok (.istore_n 2, 1) := dk_61 (dk_at dksX11_mayWord_0 5 rfl rfl)
theorem dX11_mayWord_6 : decode cX11_mayWord 6 = .ok (.aload_n 0, 1) := dk_42 (dk_at dksX11_mayWord_0 6 rfl rfl)
theorem dX11_mayWord_7 : decode cX11_mayWord 7 = .ok (.dup, 1) := dk_89 (dk_at dksX11_mayWord_0 7 rfl rfl)
theorem dX11_mayWord_8 : decode cX11_mayWord 8 = .ok (.getfield 188, 3) := dk_180 0 188 (dk_at dksX11_mayWord_0 8 rfl rfl)
theorem dX11_mayWord_11 : decode cX11_mayWord 11 = .ok (.iload_n 2, 1) := dk_28 (dk_at dksX11_mayWord_0 11 rfl rfl)
theorem dX11_mayWord_12 : decode cX11_mayWord 12 = .ok (.ifCond .eq 7, 3) := dk_153 0 7 (dk_at dksX11_mayWord_0 12 rfl rfl)
theorem dX11_mayWord_15 : decode cX11_mayWord 15 = .ok (.iconst 1, 1) := dk_4 (dk_at dksX11_mayWord_0 15 rfl rfl)
theorem dX11_mayWord_16 : decode cX11_mayWord 16 = .ok (.goto 4, 3) := dk_167 0 4 (dk_at dksX11_mayWord_0 16 rfl rfl)
theorem dX11_mayWord_19 : decode cX11_mayWord 19 = .ok (.iconst 0, 1) := dk_3 (dk_at dksX11_mayWord_0 19 rfl rfl)
theorem dX11_mayWord_20 : decode cX11_mayWord 20 = .ok (.iadd, 1) := dk_96 (dk_at dksX11_mayWord_0 20 rfl rfl)
theorem dX11_mayWord_21 : decode cX11_mayWord 21 = .ok (.putfield 188, 3) := dk_181 0 188 (dk_at dksX11_mayWord_0 21 rfl rfl)
theorem dX11_mayWord_24 : decode cX11_mayWord 24 = .ok (.iload_n 2, 1) := dk_28 (dk_at dksX11_mayWord_1 0 rfl rfl)
theorem dX11_mayWord_25 : decode cX11_mayWord 25 = .ok (.ireturn, 1) := dk_172 (dk_at dksX11_mayWord_1 1 rfl rfl)
abbrev cX11_isWord : ByteArray := prog_17_method_32_code
def yX11_isWord : MethodName := ⟨RX11, "isWord", "(Ljava/lang/String;)Z"⟩
def dkwX11_isWord_3 : List UInt8 := [182, 0, 197, 159, 0, 5, 3, 172, 132, 2, 1, 167, 255, 219, 4, 172]
abbrev dktX11_isWord_3 : List UInt8 := dkwX11_isWord_3 ++ []
def dkwX11_isWord_2 : List UInt8 := [182, 0, 191, 162, 0, 35, 42, 180, 0, 9, 42, 180, 0, 161, 42, 180, 0, 188, 46, 28, 96, 51, 43, 28]
abbrev dktX11_isWord_2 : List UInt8 := dkwX11_isWord_2 ++ dktX11_isWord_3
def dkwX11_isWord_1 : List UInt8 := [180, 0, 161, 42, 180, 0, 188, 46, 100, 43, 182, 0, 191, 159, 0, 5, 3, 172, 3, 61, 28, 43]
abbrev dktX11_isWord_1 : List UInt8 := dkwX11_isWord_1 ++ dktX11_isWord_2
def dkwX11_isWord_0 : List UInt8 := [42, 180, 0, 167, 42, 180, 0, 188, 46, 4, 160, 0, 29, 42, 180, 0, 185, 42, 180, 0, 188, 46, 42]
abbrev dktX11_isWord_0 : List UInt8 := dkwX11_isWord_0 ++ dktX11_isWord_1
theorem dksX11_isWord_0 : cX11_isWord.data.toList.drop 0 = dktX11_isWord_0 := by decide +kernel
theorem dksX11_isWord_1 : cX11_isWord.data.toList.drop 23 = dktX11_isWord_1 := dk_seg dksX11_isWord_0 23 rfl rfl
theorem dksX11_isWord_2 : cX11_isWord.data.toList.drop 45 = dktX11_isWord_2 := dk_seg dksX11_isWord_1 22 rfl rfl
theorem dksX11_isWord_3 : cX11_isWord.data.toList.drop 69 = dktX11_isWord_3 := dk_seg dksX11_isWord_2 24 rfl rfl
theorem dX11_isWord_0 : decode cX11_isWord 0 = .ok (.aload_n 0, 1) := dk_42 (dk_at dksX11_isWord_0 0 rfl rfl)
theorem dX11_isWord_1 : decode cX11_isWord 1 = .ok (.getfield 167, 3) := dk_180 0 167 (dk_at dksX11_isWord_0 1 rfl rfl)
theorem dX11_isWord_4 : decode cX11_isWord 4 = .ok (.aload_n 0, 1) := dk_42 (dk_at dksX11_isWord_0 4 rfl rfl)
theorem dX11_isWord_5 : decode cX11_isWord 5 = .ok (.getfield 188, 3) := dk_180 0 188 (dk_at dksX11_isWord_0 5 rfl rfl)
theorem dX11_isWord_8 : decode cX11_isWord 8 = .ok (.iaload, 1) := dk_46 (dk_at dksX11_isWord_0 8 rfl rfl)
theorem dX11_isWord_9 : decode cX11_isWord 9 = .ok (.iconst 1, 1) := dk_4 (dk_at dksX11_isWord_0 9 rfl rfl)
theorem dX11_isWord_10 : decode cX11_isWord 10 = .ok (.if_icmp .ne 29, 3) := dk_160 0 29 (dk_at dksX11_isWord_0 10 rfl rfl)
theorem dX11_isWord_13 : decode cX11_isWord 13 = .ok (.aload_n 0, 1) := dk_42 (dk_at dksX11_isWord_0 13 rfl rfl)
theorem dX11_isWord_14 : decode cX11_isWord 14 = .ok (.getfield 185, 3) := dk_180 0 185 (dk_at dksX11_isWord_0 14 rfl rfl)
theorem dX11_isWord_17 : decode cX11_isWord 17 = .ok (.aload_n 0, 1) := dk_42 (dk_at dksX11_isWord_0 17 rfl rfl)
theorem dX11_isWord_18 : decode cX11_isWord 18 = .ok (.getfield 188, 3) := dk_180 0 188 (dk_at dksX11_isWord_0 18 rfl rfl)
theorem dX11_isWord_21 : decode cX11_isWord 21 = .ok (.iaload, 1) := dk_46 (dk_at dksX11_isWord_0 21 rfl rfl)
theorem dX11_isWord_22 : decode cX11_isWord 22 = .ok (.aload_n 0, 1) := dk_42 (dk_at dksX11_isWord_0 22 rfl rfl)
theorem dX11_isWord_23 : decode cX11_isWord 23 = .ok (.getfield 161, 3) := dk_180 0 161 (dk_at dksX11_isWord_1 0 rfl rfl)
theorem dX11_isWord_26 : decode cX11_isWord 26 = .ok (.aload_n 0, 1) := dk_42 (dk_at dksX11_isWord_1 3 rfl rfl)
theorem dX11_isWord_27 : decode cX11_isWord 27 = .ok (.getfield 188, 3) := dk_180 0 188 (dk_at dksX11_isWord_1 4 rfl rfl)
theorem dX11_isWord_30 : decode cX11_isWord 30 = .ok (.iaload, 1) := dk_46 (dk_at dksX11_isWord_1 7 rfl rfl)
theorem dX11_isWord_31 : decode cX11_isWord 31 = .ok (.isub, 1) := dk_100 (dk_at dksX11_isWord_1 8 rfl rfl)
theorem dX11_isWord_32 : decode cX11_isWord 32 = .ok (.aload_n 1, 1) := dk_43 (dk_at dksX11_isWord_1 9 rfl rfl)
theorem dX11_isWord_33 : decode cX11_isWord 33 = .ok (.invokevirtual 191, 3) := dk_182 0 191 (dk_at dksX11_isWord_1 10 rfl rfl)
theorem dX11_isWord_36 : decode cX11_isWord 36 = .ok (.if_icmp .eq 5, 3) := dk_159 0 5 (dk_at dksX11_isWord_1 13 rfl rfl)
theorem dX11_isWord_39 : decode cX11_isWord 39 = .ok (.iconst 0, 1) := dk_3 (dk_at dksX11_isWord_1 16 rfl rfl)
theorem dX11_isWord_40 : decode cX11_isWord 40 = .ok (.ireturn, 1) := dk_172 (dk_at dksX11_isWord_1 17 rfl rfl)
theorem dX11_isWord_41 : decode cX11_isWord 41 = .ok (.iconst 0, 1) := dk_3 (dk_at dksX11_isWord_1 18 rfl rfl)
theorem dX11_isWord_42 : decode cX11_isWord 42 = .ok (.istore_n 2, 1) := dk_61 (dk_at dksX11_isWord_1 19 rfl rfl)
theorem dX11_isWord_43 : decode cX11_isWord 43 = .ok (.iload_n 2, 1) := dk_28 (dk_at dksX11_isWord_1 20 rfl rfl)
theorem dX11_isWord_44 : decode cX11_isWord 44 = .ok (.aload_n 1, 1) := dk_43 (dk_at dksX11_isWord_1 21 rfl rfl)
theorem dX11_isWord_45 : decode cX11_isWord 45 = .ok (.invokevirtual 191, 3) := dk_182 0 191 (dk_at dksX11_isWord_2 0 rfl rfl)
theorem dX11_isWord_48 : decode cX11_isWord 48 = .ok (.if_icmp .ge 35, 3) := dk_162 0 35 (dk_at dksX11_isWord_2 3 rfl rfl)
theorem dX11_isWord_51 : decode cX11_isWord 51 = .ok (.aload_n 0, 1) := dk_42 (dk_at dksX11_isWord_2 6 rfl rfl)
theorem dX11_isWord_52 : decode cX11_isWord 52 = .ok (.getfield 9, 3) := dk_180 0 9 (dk_at dksX11_isWord_2 7 rfl rfl)
theorem dX11_isWord_55 : decode cX11_isWord 55 = .ok (.aload_n 0, 1) := dk_42 (dk_at dksX11_isWord_2 10 rfl rfl)
theorem dX11_isWord_56 : decode cX11_isWord 56 = .ok (.getfield 161, 3) := dk_180 0 161 (dk_at dksX11_isWord_2 11 rfl rfl)
theorem dX11_isWord_59 : decode cX11_isWord 59 = .ok (.aload_n 0, 1) := dk_42 (dk_at dksX11_isWord_2 14 rfl rfl)
theorem dX11_isWord_60 : decode cX11_isWord 60 = .ok (.getfield 188, 3) := dk_180 0 188 (dk_at dksX11_isWord_2 15 rfl rfl)
theorem dX11_isWord_63 : decode cX11_isWord 63 = .ok (.iaload, 1) := dk_46 (dk_at dksX11_isWord_2 18 rfl rfl)
theorem dX11_isWord_64 : decode cX11_isWord 64 = .ok (.iload_n 2, 1) := dk_28 (dk_at dksX11_isWord_2 19 rfl rfl)
theorem dX11_isWord_65 : decode cX11_isWord 65 = .ok (.iadd, 1) := dk_96 (dk_at dksX11_isWord_2 20 rfl rfl)
theorem dX11_isWord_66 : decode cX11_isWord 66 = .ok (.baload, 1) := dk_51 (dk_at dksX11_isWord_2 21 rfl rfl)
theorem dX11_isWord_67 : decode cX11_isWord 67 = .ok (.aload_n 1, 1) := dk_43 (dk_at dksX11_isWord_2 22 rfl rfl)
theorem dX11_isWord_68 : decode cX11_isWord 68 = .ok (.iload_n 2, 1) := dk_28 (dk_at dksX11_isWord_2 23 rfl rfl)
theorem dX11_isWord_69 : decode cX11_isWord 69 = .ok (.invokevirtual 197, 3) := dk_182 0 197 (dk_at dksX11_isWord_3 0 rfl rfl)
theorem dX11_isWord_72 : decode cX11_isWord 72 = .ok (.if_icmp .eq 5, 3) := dk_159 0 5 (dk_at dksX11_isWord_3 3 rfl rfl)
theorem dX11_isWord_75 : decode cX11_isWord 75 = .ok (.iconst 0, 1) := dk_3 (dk_at dksX11_isWord_3 6 rfl rfl)
theorem dX11_isWord_76 : decode cX11_isWord 76 = .ok (.ireturn, 1) := dk_172 (dk_at dksX11_isWord_3 7 rfl rfl)
theorem dX11_isWord_77 : decode cX11_isWord 77 = .ok (.iinc 2 1, 3) := dk_132 2 1 (dk_at dksX11_isWord_3 8 rfl rfl)
theorem dX11_isWord_80 : decode cX11_isWord 80 = .ok (.goto (-37), 3) := dk_167 255 219 (dk_at dksX11_isWord_3 11 rfl rfl)
theorem dX11_isWord_83 : decode cX11_isWord 83 = .ok (.iconst 1, 1) := dk_4 (dk_at dksX11_isWord_3 14 rfl rfl)
theorem dX11_isWord_84 : decode cX11_isWord 84 = .ok (.ireturn, 1) := dk_172 (dk_at dksX11_isWord_3 15 rfl rfl)
abbrev cX11_miss : ByteArray := prog_17_method_33_code
def yX11_miss : MethodName := ⟨RX11, "miss", "()Z"⟩
def dkwX11_miss_0 : List UInt8 := [42, 42, 180, 0, 161, 42, 180, 0, 188, 46, 181, 0, 201, 3, 172]
abbrev dktX11_miss_0 : List UInt8 := dkwX11_miss_0 ++ []
theorem dksX11_miss_0 : cX11_miss.data.toList.drop 0 = dktX11_miss_0 := by decide +kernel
theorem dX11_miss_0 : decode cX11_miss 0 = .ok (.aload_n 0, 1) := dk_42 (dk_at dksX11_miss_0 0 rfl rfl)
theorem dX11_miss_1 : decode cX11_miss 1 = .ok (.aload_n 0, 1) := dk_42 (dk_at dksX11_miss_0 1 rfl rfl)
theorem dX11_miss_2 : decode cX11_miss 2 = .ok (.getfield 161, 3) := dk_180 0 161 (dk_at dksX11_miss_0 2 rfl rfl)
theorem dX11_miss_5 : decode cX11_miss 5 = .ok (.aload_n 0, 1) := dk_42 (dk_at dksX11_miss_0 5 rfl rfl)
theorem dX11_miss_6 : decode cX11_miss 6 = .ok (.getfield 188, 3) := dk_180 0 188 (dk_at dksX11_miss_0 6 rfl rfl)
theorem dX11_miss_9 : decode cX11_miss 9 = .ok (.iaload, 1) := dk_46 (dk_at dksX11_miss_0 9 rfl rfl)
theorem dX11_miss_10 : decode cX11_miss 10 = .ok (.putfield 201, 3) := dk_181 0 201 (dk_at dksX11_miss_0 10 rfl rfl)
theorem dX11_miss_13 : decode cX11_miss 13 = .ok (.iconst 0, 1) := dk_3 (dk_at dksX11_miss_0 13 rfl rfl)
theorem dX11_miss_14 : decode cX11_miss 14 = .ok (.ireturn, 1) := dk_172 (dk_at dksX11_miss_0 14 rfl rfl)
abbrev cX11_blame : ByteArray := prog_17_method_34_code
def yX11_blame : MethodName := ⟨RX11, "blame", "(I)V"⟩
def dkwX11_blame_0 : List UInt8 := [42, 42, 180, 0, 204, 27, 184, 0, 179, 181, 0, 204, 177]
abbrev dktX11_blame_0 : List UInt8 := dkwX11_blame_0 ++ []
theorem dksX11_blame_0 : cX11_blame.data.toList.drop 0 = dktX11_blame_0 := by decide +kernel
theorem dX11_blame_0 : decode cX11_blame 0 = .ok (.aload_n 0, 1) := dk_42 (dk_at dksX11_blame_0 0 rfl rfl)
theorem dX11_blame_1 : decode cX11_blame 1 = .ok (.aload_n 0, 1) := dk_42 (dk_at dksX11_blame_0 1 rfl rfl)
theorem dX11_blame_2 : decode cX11_blame 2 = .ok (.getfield 204, 3) := dk_180 0 204 (dk_at dksX11_blame_0 2 rfl rfl)
theorem dX11_blame_5 : decode cX11_blame 5 = .ok (.iload_n 1, 1) := dk_27 (dk_at dksX11_blame_0 5 rfl rfl)
theorem dX11_blame_6 : decode cX11_blame 6 = .ok (.invokestatic 179, 3) := dk_184 0 179 (dk_at dksX11_blame_0 6 rfl rfl)
theorem dX11_blame_9 : decode cX11_blame 9 = .ok (.putfield 204, 3) := dk_181 0 204 (dk_at dksX11_blame_0 9 rfl rfl)
theorem dX11_blame_12 : decode cX11_blame 12 = .ok (.return_, 1) := dk_177 (dk_at dksX11_blame_0 12 rfl rfl)
abbrev cX11_takeDays : ByteArray := prog_17_method_50_code
def yX11_takeDays : MethodName := ⟨RX11, "takeDays", "()Z"⟩
def dkwX11_takeDays_3 : List UInt8 := [4, 172]
abbrev dktX11_takeDays_3 : List UInt8 := dkwX11_takeDays_3 ++ []
def dkwX11_takeDays_2 : List UInt8 := [182, 0, 224, 42, 180, 0, 255, 60, 42, 180, 1, 25, 28, 42, 180, 0, 255, 79, 132, 2, 1, 167, 255, 193]
abbrev dktX11_takeDays_2 : List UInt8 := dkwX11_takeDays_2 ++ dktX11_takeDays_3
def dkwX11_takeDays_1 : List UInt8 := [172, 42, 182, 1, 51, 154, 0, 5, 3, 172, 42, 180, 0, 255, 27, 162, 0, 11, 42, 42, 180, 0, 252]
abbrev dktX11_takeDays_1 : List UInt8 := dkwX11_takeDays_1 ++ dktX11_takeDays_2
def dkwX11_takeDays_0 : List UInt8 := [18, 42, 60, 3, 61, 28, 7, 162, 0, 64, 28, 158, 0, 14, 42, 16, 44, 182, 1, 19, 154, 0, 5, 3]
abbrev dktX11_takeDays_0 : List UInt8 := dkwX11_takeDays_0 ++ dktX11_takeDays_1
theorem dksX11_takeDays_0 : cX11_takeDays.data.toList.drop 0 = dktX11_takeDays_0 := by decide +kernel
theorem dksX11_takeDays_1 : cX11_takeDays.data.toList.drop 24 = dktX11_takeDays_1 := dk_seg dksX11_takeDays_0 24 rfl rfl
theorem dksX11_takeDays_2 : cX11_takeDays.data.toList.drop 47 = dktX11_takeDays_2 := dk_seg dksX11_takeDays_1 23 rfl rfl
theorem dksX11_takeDays_3 : cX11_takeDays.data.toList.drop 71 = dktX11_takeDays_3 := dk_seg dksX11_takeDays_2 24 rfl rfl
theorem dX11_takeDays_0 : decode cX11_takeDays 0 = .ok (.ldc 42, 2) := dk_18 42 (dk_at dksX11_takeDays_0 0 rfl rfl)
theorem dX11_takeDays_2 : decode cX11_takeDays 2 = .ok (.istore_n 1, 1) := dk_60 (dk_at dksX11_takeDays_0 2 rfl rfl)
theorem dX11_takeDays_3 : decode cX11_takeDays 3 = .ok (.iconst 0, 1) := dk_3 (dk_at dksX11_takeDays_0 3 rfl rfl)
theorem dX11_takeDays_4 : decode cX11_takeDays 4 = .ok (.istore_n 2, 1) := dk_61 (dk_at dksX11_takeDays_0 4 rfl rfl)
theorem dX11_takeDays_5 : decode cX11_takeDays 5 = .ok (.iload_n 2, 1) := dk_28 (dk_at dksX11_takeDays_0 5 rfl rfl)
theorem dX11_takeDays_6 : decode cX11_takeDays 6 = .ok (.iconst 4, 1) := dk_7 (dk_at dksX11_takeDays_0 6 rfl rfl)
theorem dX11_takeDays_7 : decode cX11_takeDays 7 = .ok (.if_icmp .ge 64, 3) := dk_162 0 64 (dk_at dksX11_takeDays_0 7 rfl rfl)
theorem dX11_takeDays_10 : decode cX11_takeDays 10 = .ok (.iload_n 2, 1) := dk_28 (dk_at dksX11_takeDays_0 10 rfl rfl)
theorem dX11_takeDays_11 : decode cX11_takeDays 11 = .ok (.ifCond .le 14, 3) := dk_158 0 14 (dk_at dksX11_takeDays_0 11 rfl rfl)
theorem dX11_takeDays_14 : decode cX11_takeDays 14 = .ok (.aload_n 0, 1) := dk_42 (dk_at dksX11_takeDays_0 14 rfl rfl)
theorem dX11_takeDays_15 : decode cX11_takeDays 15 = .ok (.bipush 44, 2) := dk_16 44 (dk_at dksX11_takeDays_0 15 rfl rfl)
theorem dX11_takeDays_17 : decode cX11_takeDays 17 = .ok (.invokevirtual 275, 3) := dk_182 1 19 (dk_at dksX11_takeDays_0 17 rfl rfl)
theorem dX11_takeDays_20 : decode cX11_takeDays 20 = .ok (.ifCond .ne 5, 3) := dk_154 0 5 (dk_at dksX11_takeDays_0 20 rfl rfl)
theorem dX11_takeDays_23 : decode cX11_takeDays 23 = .ok (.iconst 0, 1) := dk_3 (dk_at dksX11_takeDays_0 23 rfl rfl)
theorem dX11_takeDays_24 : decode cX11_takeDays 24 = .ok (.ireturn, 1) := dk_172 (dk_at dksX11_takeDays_1 0 rfl rfl)
theorem dX11_takeDays_25 : decode cX11_takeDays 25 = .ok (.aload_n 0, 1) := dk_42 (dk_at dksX11_takeDays_1 1 rfl rfl)
theorem dX11_takeDays_26 : decode cX11_takeDays 26 = .ok (.invokevirtual 307, 3) := dk_182 1 51 (dk_at dksX11_takeDays_1 2 rfl rfl)
theorem dX11_takeDays_29 : decode cX11_takeDays 29 = .ok (.ifCond .ne 5, 3) := dk_154 0 5 (dk_at dksX11_takeDays_1 5 rfl rfl)
theorem dX11_takeDays_32 : decode cX11_takeDays 32 = .ok (.iconst 0, 1) := dk_3 (dk_at dksX11_takeDays_1 8 rfl rfl)
theorem dX11_takeDays_33 : decode cX11_takeDays 33 = .ok (.ireturn, 1) := dk_172 (dk_at dksX11_takeDays_1 9 rfl rfl)
theorem dX11_takeDays_34 : decode cX11_takeDays 34 = .ok (.aload_n 0, 1) := dk_42 (dk_at dksX11_takeDays_1 10 rfl rfl)
theorem dX11_takeDays_35 : decode cX11_takeDays 35 = .ok (.getfield 255, 3) := dk_180 0 255 (dk_at dksX11_takeDays_1 11 rfl rfl)
theorem dX11_takeDays_38 : decode cX11_takeDays 38 = .ok (.iload_n 1, 1) := dk_27 (dk_at dksX11_takeDays_1 14 rfl rfl)
theorem dX11_takeDays_39 : decode cX11_takeDays 39 = .ok (.if_icmp .ge 11, 3) := dk_162 0 11 (dk_at dksX11_takeDays_1 15 rfl rfl)
theorem dX11_takeDays_42 : decode cX11_takeDays 42 = .ok (.aload_n 0, 1) := dk_42 (dk_at dksX11_takeDays_1 18 rfl rfl)
theorem dX11_takeDays_43 : decode cX11_takeDays 43 = .ok (.aload_n 0, 1) := dk_42 (dk_at dksX11_takeDays_1 19 rfl rfl)
theorem dX11_takeDays_44 : decode cX11_takeDays 44 = .ok (.getfield 252, 3) := dk_180 0 252 (dk_at dksX11_takeDays_1 20 rfl rfl)
theorem dX11_takeDays_47 : decode cX11_takeDays 47 = .ok (.invokevirtual 224, 3) := dk_182 0 224 (dk_at dksX11_takeDays_2 0 rfl rfl)
theorem dX11_takeDays_50 : decode cX11_takeDays 50 = .ok (.aload_n 0, 1) := dk_42 (dk_at dksX11_takeDays_2 3 rfl rfl)
theorem dX11_takeDays_51 : decode cX11_takeDays 51 = .ok (.getfield 255, 3) := dk_180 0 255 (dk_at dksX11_takeDays_2 4 rfl rfl)
theorem dX11_takeDays_54 : decode cX11_takeDays 54 = .ok (.istore_n 1, 1) := dk_60 (dk_at dksX11_takeDays_2 7 rfl rfl)
theorem dX11_takeDays_55 : decode cX11_takeDays 55 = .ok (.aload_n 0, 1) := dk_42 (dk_at dksX11_takeDays_2 8 rfl rfl)
theorem dX11_takeDays_56 : decode cX11_takeDays 56 = .ok (.getfield 281, 3) := dk_180 1 25 (dk_at dksX11_takeDays_2 9 rfl rfl)
theorem dX11_takeDays_59 : decode cX11_takeDays 59 = .ok (.iload_n 2, 1) := dk_28 (dk_at dksX11_takeDays_2 12 rfl rfl)
theorem dX11_takeDays_60 : decode cX11_takeDays 60 = .ok (.aload_n 0, 1) := dk_42 (dk_at dksX11_takeDays_2 13 rfl rfl)
theorem dX11_takeDays_61 : decode cX11_takeDays 61 = .ok (.getfield 255, 3) := dk_180 0 255 (dk_at dksX11_takeDays_2 14 rfl rfl)
theorem dX11_takeDays_64 : decode cX11_takeDays 64 = .ok (.iastore, 1) := dk_79 (dk_at dksX11_takeDays_2 17 rfl rfl)
theorem dX11_takeDays_65 : decode cX11_takeDays 65 = .ok (.iinc 2 1, 3) := dk_132 2 1 (dk_at dksX11_takeDays_2 18 rfl rfl)
theorem dX11_takeDays_68 : decode cX11_takeDays 68 = .ok (.goto (-63), 3) := dk_167 255 193 (dk_at dksX11_takeDays_2 21 rfl rfl)
theorem dX11_takeDays_71 : decode cX11_takeDays 71 = .ok (.iconst 1, 1) := dk_4 (dk_at dksX11_takeDays_3 0 rfl rfl)
theorem dX11_takeDays_72 : decode cX11_takeDays 72 = .ok (.ireturn, 1) := dk_172 (dk_at dksX11_takeDays_3 1 rfl rfl)
abbrev cX11_takeSign : ByteArray := prog_17_method_35_code
def yX11_takeSign : MethodName := ⟨RX11, "takeSign", "(I)Z"⟩
def dkwX11_takeSign_1 : List UInt8 := [172]
abbrev dktX11_takeSign_1 : List UInt8 := dkwX11_takeSign_1 ++ []
def dkwX11_takeSign_0 : List UInt8 := [42, 27, 182, 0, 207, 154, 0, 8, 42, 182, 0, 210, 172, 42, 89, 180, 0, 188, 4, 96, 181, 0, 188, 4]
abbrev dktX11_takeSign_0 : List UInt8 := dkwX11_takeSign_0 ++ dktX11_takeSign_1
theorem dksX11_takeSign_0 : cX11_takeSign.data.toList.drop 0 = dktX11_takeSign_0 := by decide +kernel
theorem dksX11_takeSign_1 : cX11_takeSign.data.toList.drop 24 = dktX11_takeSign_1 := dk_seg dksX11_takeSign_0 24 rfl rfl
theorem dX11_takeSign_0 : decode cX11_takeSign 0 = .ok (.aload_n 0, 1) := dk_42 (dk_at dksX11_takeSign_0 0 rfl rfl)
theorem dX11_takeSign_1 : decode cX11_takeSign 1 = .ok (.iload_n 1, 1) := dk_27 (dk_at dksX11_takeSign_0 1 rfl rfl)
theorem dX11_takeSign_2 : decode cX11_takeSign 2 = .ok (.invokevirtual 207, 3) := dk_182 0 207 (dk_at dksX11_takeSign_0 2 rfl rfl)
theorem dX11_takeSign_5 : decode cX11_takeSign 5 = .ok (.ifCond .ne 8, 3) := dk_154 0 8 (dk_at dksX11_takeSign_0 5 rfl rfl)
theorem dX11_takeSign_8 : decode cX11_takeSign 8 = .ok (.aload_n 0, 1) := dk_42 (dk_at dksX11_takeSign_0 8 rfl rfl)
theorem dX11_takeSign_9 : decode cX11_takeSign 9 = .ok (.invokevirtual 210, 3) := dk_182 0 210 (dk_at dksX11_takeSign_0 9 rfl rfl)
theorem dX11_takeSign_12 : decode cX11_takeSign 12 = .ok (.ireturn, 1) := dk_172 (dk_at dksX11_takeSign_0 12 rfl rfl)
theorem dX11_takeSign_13 : decode cX11_takeSign 13 = .ok (.aload_n 0, 1) := dk_42 (dk_at dksX11_takeSign_0 13 rfl rfl)
theorem dX11_takeSign_14 : decode cX11_takeSign 14 = .ok (.dup, 1) := dk_89 (dk_at dksX11_takeSign_0 14 rfl rfl)
theorem dX11_takeSign_15 : decode cX11_takeSign 15 = .ok (.getfield 188, 3) := dk_180 0 188 (dk_at dksX11_takeSign_0 15 rfl rfl)
theorem dX11_takeSign_18 : decode cX11_takeSign 18 = .ok (.iconst 1, 1) := dk_4 (dk_at dksX11_takeSign_0 18 rfl rfl)
theorem dX11_takeSign_19 : decode cX11_takeSign 19 = .ok (.iadd, 1) := dk_96 (dk_at dksX11_takeSign_0 19 rfl rfl)
theorem dX11_takeSign_20 : decode cX11_takeSign 20 = .ok (.putfield 188, 3) := dk_181 0 188 (dk_at dksX11_takeSign_0 20 rfl rfl)
theorem dX11_takeSign_23 : decode cX11_takeSign 23 = .ok (.iconst 1, 1) := dk_4 (dk_at dksX11_takeSign_0 23 rfl rfl)
theorem dX11_takeSign_24 : decode cX11_takeSign 24 = .ok (.ireturn, 1) := dk_172 (dk_at dksX11_takeSign_1 0 rfl rfl)
abbrev cX11_takeTime : ByteArray := prog_17_method_44_code
def yX11_takeTime : MethodName := ⟨RX11, "takeTime", "()Z"⟩
def dkwX11_takeTime_6 : List UInt8 := [167, 255, 151, 4, 172]
abbrev dktX11_takeTime_6 : List UInt8 := dkwX11_takeTime_6 ++ []
def dkwX11_takeTime_5 : List UInt8 := [180, 0, 255, 133, 9, 20, 0, 20, 184, 0, 13, 154, 0, 13, 42, 42, 180, 0, 252, 182, 0, 224, 3, 60]
abbrev dktX11_takeTime_5 : List UInt8 := dkwX11_takeTime_5 ++ dktX11_takeTime_6
def dkwX11_takeTime_4 : List UInt8 := [180, 0, 255, 28, 42, 180, 0, 218, 104, 96, 167, 0, 5, 18, 42, 181, 0, 255, 27, 153, 0, 28, 42]
abbrev dktX11_takeTime_4 : List UInt8 := dkwX11_takeTime_4 ++ dktX11_takeTime_5
def dkwX11_takeTime_3 : List UInt8 := [180, 0, 188, 4, 96, 181, 0, 188, 42, 182, 0, 228, 154, 0, 5, 3, 172, 42, 27, 153, 0, 17, 42]
abbrev dktX11_takeTime_3 : List UInt8 := dkwX11_takeTime_3 ++ dktX11_takeTime_4
def dkwX11_takeTime_2 : List UInt8 := [182, 0, 207, 153, 0, 93, 42, 16, 43, 182, 0, 207, 153, 0, 7, 4, 167, 0, 4, 2, 61, 42, 89]
abbrev dktX11_takeTime_2 : List UInt8 := dkwX11_takeTime_2 ++ dktX11_takeTime_3
def dkwX11_takeTime_1 : List UInt8 := [27, 154, 0, 11, 42, 42, 180, 0, 252, 182, 0, 224, 42, 16, 43, 182, 0, 207, 154, 0, 12, 42, 16, 45]
abbrev dktX11_takeTime_1 : List UInt8 := dkwX11_takeTime_1 ++ dktX11_takeTime_2
def dkwX11_takeTime_0 : List UInt8 := [42, 182, 1, 22, 154, 0, 5, 3, 172, 42, 180, 0, 255, 18, 42, 159, 0, 7, 4, 167, 0, 4, 3, 60]
abbrev dktX11_takeTime_0 : List UInt8 := dkwX11_takeTime_0 ++ dktX11_takeTime_1
theorem dksX11_takeTime_0 : cX11_takeTime.data.toList.drop 0 = dktX11_takeTime_0 := by decide +kernel
theorem dksX11_takeTime_1 : cX11_takeTime.data.toList.drop 24 = dktX11_takeTime_1 := dk_seg dksX11_takeTime_0 24 rfl rfl
theorem dksX11_takeTime_2 : cX11_takeTime.data.toList.drop 48 = dktX11_takeTime_2 := dk_seg dksX11_takeTime_1 24 rfl rfl
theorem dksX11_takeTime_3 : cX11_takeTime.data.toList.drop 71 = dktX11_takeTime_3 := dk_seg dksX11_takeTime_2 23 rfl rfl
theorem dksX11_takeTime_4 : cX11_takeTime.data.toList.drop 94 = dktX11_takeTime_4 := dk_seg dksX11_takeTime_3 23 rfl rfl
theorem dksX11_takeTime_5 : cX11_takeTime.data.toList.drop 117 = dktX11_takeTime_5 := dk_seg dksX11_takeTime_4 23 rfl rfl
theorem dksX11_takeTime_6 : cX11_takeTime.data.toList.drop 141 = dktX11_takeTime_6 := dk_seg dksX11_takeTime_5 24 rfl rfl
theorem dX11_takeTime_0 : decode cX11_takeTime 0 = .ok (.aload_n 0, 1) := dk_42 (dk_at dksX11_takeTime_0 0 rfl rfl)
theorem dX11_takeTime_1 : decode cX11_takeTime 1 = .ok (.invokevirtual 278, 3) := dk_182 1 22 (dk_at dksX11_takeTime_0 1 rfl rfl)
theorem dX11_takeTime_4 : decode cX11_takeTime 4 = .ok (.ifCond .ne 5, 3) := dk_154 0 5 (dk_at dksX11_takeTime_0 4 rfl rfl)
theorem dX11_takeTime_7 : decode cX11_takeTime 7 = .ok (.iconst 0, 1) := dk_3 (dk_at dksX11_takeTime_0 7 rfl rfl)
theorem dX11_takeTime_8 : decode cX11_takeTime 8 = .ok (.ireturn, 1) := dk_172 (dk_at dksX11_takeTime_0 8 rfl rfl)
theorem dX11_takeTime_9 : decode cX11_takeTime 9 = .ok (.aload_n 0, 1) := dk_42 (dk_at dksX11_takeTime_0 9 rfl rfl)
theorem dX11_takeTime_10 : decode cX11_takeTime 10 = .ok (.getfield 255, 3) := dk_180 0 255 (dk_at dksX11_takeTime_0 10 rfl rfl)
theorem dX11_takeTime_13 : decode cX11_takeTime 13 = .ok (.ldc 42, 2) := dk_18 42 (dk_at dksX11_takeTime_0 13 rfl rfl)
theorem dX11_takeTime_15 : decode cX11_takeTime 15 = .ok (.if_icmp .eq 7, 3) := dk_159 0 7 (dk_at dksX11_takeTime_0 15 rfl rfl)
theorem dX11_takeTime_18 : decode cX11_takeTime 18 = .ok (.iconst 1, 1) := dk_4 (dk_at dksX11_takeTime_0 18 rfl rfl)
theorem dX11_takeTime_19 : decode cX11_takeTime 19 = .ok (.goto 4, 3) := dk_167 0 4 (dk_at dksX11_takeTime_0 19 rfl rfl)
theorem dX11_takeTime_22 : decode cX11_takeTime 22 = .ok (.iconst 0, 1) := dk_3 (dk_at dksX11_takeTime_0 22 rfl rfl)
theorem dX11_takeTime_23 : decode cX11_takeTime 23 = .ok (.istore_n 1, 1) := dk_60 (dk_at dksX11_takeTime_0 23 rfl rfl)
theorem dX11_takeTime_24 : decode cX11_takeTime 24 = .ok (.iload_n 1, 1) := dk_27 (dk_at dksX11_takeTime_1 0 rfl rfl)
theorem dX11_takeTime_25 : decode cX11_takeTime 25 = .ok (.ifCond .ne 11, 3) := dk_154 0 11 (dk_at dksX11_takeTime_1 1 rfl rfl)
theorem dX11_takeTime_28 : decode cX11_takeTime 28 = .ok (.aload_n 0, 1) := dk_42 (dk_at dksX11_takeTime_1 4 rfl rfl)
theorem dX11_takeTime_29 : decode cX11_takeTime 29 = .ok (.aload_n 0, 1) := dk_42 (dk_at dksX11_takeTime_1 5 rfl rfl)
theorem dX11_takeTime_30 : decode cX11_takeTime 30 = .ok (.getfield 252, 3) := dk_180 0 252 (dk_at dksX11_takeTime_1 6 rfl rfl)
theorem dX11_takeTime_33 : decode cX11_takeTime 33 = .ok (.invokevirtual 224, 3) := dk_182 0 224 (dk_at dksX11_takeTime_1 9 rfl rfl)
theorem dX11_takeTime_36 : decode cX11_takeTime 36 = .ok (.aload_n 0, 1) := dk_42 (dk_at dksX11_takeTime_1 12 rfl rfl)
theorem dX11_takeTime_37 : decode cX11_takeTime 37 = .ok (.bipush 43, 2) := dk_16 43 (dk_at dksX11_takeTime_1 13 rfl rfl)
theorem dX11_takeTime_39 : decode cX11_takeTime 39 = .ok (.invokevirtual 207, 3) := dk_182 0 207 (dk_at dksX11_takeTime_1 15 rfl rfl)
theorem dX11_takeTime_42 : decode cX11_takeTime 42 = .ok (.ifCond .ne 12, 3) := dk_154 0 12 (dk_at dksX11_takeTime_1 18 rfl rfl)
theorem dX11_takeTime_45 : decode cX11_takeTime 45 = .ok (.aload_n 0, 1) := dk_42 (dk_at dksX11_takeTime_1 21 rfl rfl)
theorem dX11_takeTime_46 : decode cX11_takeTime 46 = .ok (.bipush 45, 2) := dk_16 45 (dk_at dksX11_takeTime_1 22 rfl rfl)
theorem dX11_takeTime_48 : decode cX11_takeTime 48 = .ok (.invokevirtual 207, 3) := dk_182 0 207 (dk_at dksX11_takeTime_2 0 rfl rfl)
theorem dX11_takeTime_51 : decode cX11_takeTime 51 = .ok (.ifCond .eq 93, 3) := dk_153 0 93 (dk_at dksX11_takeTime_2 3 rfl rfl)
theorem dX11_takeTime_54 : decode cX11_takeTime 54 = .ok (.aload_n 0, 1) := dk_42 (dk_at dksX11_takeTime_2 6 rfl rfl)
theorem dX11_takeTime_55 : decode cX11_takeTime 55 = .ok (.bipush 43, 2) := dk_16 43 (dk_at dksX11_takeTime_2 7 rfl rfl)
theorem dX11_takeTime_57 : decode cX11_takeTime 57 = .ok (.invokevirtual 207, 3) := dk_182 0 207 (dk_at dksX11_takeTime_2 9 rfl rfl)
theorem dX11_takeTime_60 : decode cX11_takeTime 60 = .ok (.ifCond .eq 7, 3) := dk_153 0 7 (dk_at dksX11_takeTime_2 12 rfl rfl)
theorem dX11_takeTime_63 : decode cX11_takeTime 63 = .ok (.iconst 1, 1) := dk_4 (dk_at dksX11_takeTime_2 15 rfl rfl)
theorem dX11_takeTime_64 : decode cX11_takeTime 64 = .ok (.goto 4, 3) := dk_167 0 4 (dk_at dksX11_takeTime_2 16 rfl rfl)
theorem dX11_takeTime_67 : decode cX11_takeTime 67 = .ok (.iconst (-1), 1) := dk_2 (dk_at dksX11_takeTime_2 19 rfl rfl)
theorem dX11_takeTime_68 : decode cX11_takeTime 68 = .ok (.istore_n 2, 1) := dk_61 (dk_at dksX11_takeTime_2 20 rfl rfl)
theorem dX11_takeTime_69 : decode cX11_takeTime 69 = .ok (.aload_n 0, 1) := dk_42 (dk_at dksX11_takeTime_2 21 rfl rfl)
theorem dX11_takeTime_70 : decode cX11_takeTime 70 = .ok (.dup, 1) := dk_89 (dk_at dksX11_takeTime_2 22 rfl rfl)
theorem dX11_takeTime_71 : decode cX11_takeTime 71 = .ok (.getfield 188, 3) := dk_180 0 188 (dk_at dksX11_takeTime_3 0 rfl rfl)
theorem dX11_takeTime_74 : decode cX11_takeTime 74 = .ok (.iconst 1, 1) := dk_4 (dk_at dksX11_takeTime_3 3 rfl rfl)
theorem dX11_takeTime_75 : decode cX11_takeTime 75 = .ok (.iadd, 1) := dk_96 (dk_at dksX11_takeTime_3 4 rfl rfl)
theorem dX11_takeTime_76 : decode cX11_takeTime 76 = .ok (.putfield 188, 3) := dk_181 0 188 (dk_at dksX11_takeTime_3 5 rfl rfl)
theorem dX11_takeTime_79 : decode cX11_takeTime 79 = .ok (.aload_n 0, 1) := dk_42 (dk_at dksX11_takeTime_3 8 rfl rfl)
theorem dX11_takeTime_80 : decode cX11_takeTime 80 = .ok (.invokevirtual 228, 3) := dk_182 0 228 (dk_at dksX11_takeTime_3 9 rfl rfl)
theorem dX11_takeTime_83 : decode cX11_takeTime 83 = .ok (.ifCond .ne 5, 3) := dk_154 0 5 (dk_at dksX11_takeTime_3 12 rfl rfl)
theorem dX11_takeTime_86 : decode cX11_takeTime 86 = .ok (.iconst 0, 1) := dk_3 (dk_at dksX11_takeTime_3 15 rfl rfl)
theorem dX11_takeTime_87 : decode cX11_takeTime 87 = .ok (.ireturn, 1) := dk_172 (dk_at dksX11_takeTime_3 16 rfl rfl)
theorem dX11_takeTime_88 : decode cX11_takeTime 88 = .ok (.aload_n 0, 1) := dk_42 (dk_at dksX11_takeTime_3 17 rfl rfl)
theorem dX11_takeTime_89 : decode cX11_takeTime 89 = .ok (.iload_n 1, 1) := dk_27 (dk_at dksX11_takeTime_3 18 rfl rfl)
theorem dX11_takeTime_90 : decode cX11_takeTime 90 = .ok (.ifCond .eq 17, 3) := dk_153 0 17 (dk_at dksX11_takeTime_3 19 rfl rfl)
theorem dX11_takeTime_93 : decode cX11_takeTime 93 = .ok (.aload_n 0, 1) := dk_42 (dk_at dksX11_takeTime_3 22 rfl rfl)
theorem dX11_takeTime_94 : decode cX11_takeTime 94 = .ok (.getfield 255, 3) := dk_180 0 255 (dk_at dksX11_takeTime_4 0 rfl rfl)
theorem dX11_takeTime_97 : decode cX11_takeTime 97 = .ok (.iload_n 2, 1) := dk_28 (dk_at dksX11_takeTime_4 3 rfl rfl)
theorem dX11_takeTime_98 : decode cX11_takeTime 98 = .ok (.aload_n 0, 1) := dk_42 (dk_at dksX11_takeTime_4 4 rfl rfl)
theorem dX11_takeTime_99 : decode cX11_takeTime 99 = .ok (.getfield 218, 3) := dk_180 0 218 (dk_at dksX11_takeTime_4 5 rfl rfl)
theorem dX11_takeTime_102 : decode cX11_takeTime 102 = .ok (.imul, 1) := dk_104 (dk_at dksX11_takeTime_4 8 rfl rfl)
theorem dX11_takeTime_103 : decode cX11_takeTime 103 = .ok (.iadd, 1) := dk_96 (dk_at dksX11_takeTime_4 9 rfl rfl)
theorem dX11_takeTime_104 : decode cX11_takeTime 104 = .ok (.goto 5, 3) := dk_167 0 5 (dk_at dksX11_takeTime_4 10 rfl rfl)
theorem dX11_takeTime_107 : decode cX11_takeTime 107 = .ok (.ldc 42, 2) := dk_18 42 (dk_at dksX11_takeTime_4 13 rfl rfl)
theorem dX11_takeTime_109 : decode cX11_takeTime 109 = .ok (.putfield 255, 3) := dk_181 0 255 (dk_at dksX11_takeTime_4 15 rfl rfl)
theorem dX11_takeTime_112 : decode cX11_takeTime 112 = .ok (.iload_n 1, 1) := dk_27 (dk_at dksX11_takeTime_4 18 rfl rfl)
theorem dX11_takeTime_113 : decode cX11_takeTime 113 = .ok (.ifCond .eq 28, 3) := dk_153 0 28 (dk_at dksX11_takeTime_4 19 rfl rfl)
theorem dX11_takeTime_116 : decode cX11_takeTime 116 = .ok (.aload_n 0, 1) := dk_42 (dk_at dksX11_takeTime_4 22 rfl rfl)
theorem dX11_takeTime_117 : decode cX11_takeTime 117 = .ok (.getfield 255, 3) := dk_180 0 255 (dk_at dksX11_takeTime_5 0 rfl rfl)
theorem dX11_takeTime_120 : decode cX11_takeTime 120 = .ok (.i2l, 1) := dk_133 (dk_at dksX11_takeTime_5 3 rfl rfl)
theorem dX11_takeTime_121 : decode cX11_takeTime 121 = .ok (.lconst 0, 1) := dk_9 (dk_at dksX11_takeTime_5 4 rfl rfl)
theorem dX11_takeTime_122 : decode cX11_takeTime 122 = .ok (.ldc2_w 20, 3) := dk_20 0 20 (dk_at dksX11_takeTime_5 5 rfl rfl)
theorem dX11_takeTime_125 : decode cX11_takeTime 125 = .ok (.invokestatic 13, 3) := dk_184 0 13 (dk_at dksX11_takeTime_5 8 rfl rfl)
theorem dX11_takeTime_128 : decode cX11_takeTime 128 = .ok (.ifCond .ne 13, 3) := dk_154 0 13 (dk_at dksX11_takeTime_5 11 rfl rfl)
theorem dX11_takeTime_131 : decode cX11_takeTime 131 = .ok (.aload_n 0, 1) := dk_42 (dk_at dksX11_takeTime_5 14 rfl rfl)
theorem dX11_takeTime_132 : decode cX11_takeTime 132 = .ok (.aload_n 0, 1) := dk_42 (dk_at dksX11_takeTime_5 15 rfl rfl)
theorem dX11_takeTime_133 : decode cX11_takeTime 133 = .ok (.getfield 252, 3) := dk_180 0 252 (dk_at dksX11_takeTime_5 16 rfl rfl)
theorem dX11_takeTime_136 : decode cX11_takeTime 136 = .ok (.invokevirtual 224, 3) := dk_182 0 224 (dk_at dksX11_takeTime_5 19 rfl rfl)
theorem dX11_takeTime_139 : decode cX11_takeTime 139 = .ok (.iconst 0, 1) := dk_3 (dk_at dksX11_takeTime_5 22 rfl rfl)
theorem dX11_takeTime_140 : decode cX11_takeTime 140 = .ok (.istore_n 1, 1) := dk_60 (dk_at dksX11_takeTime_5 23 rfl rfl)
theorem dX11_takeTime_141 : decode cX11_takeTime 141 = .ok (.goto (-105), 3) := dk_167 255 151 (dk_at dksX11_takeTime_6 0 rfl rfl)
theorem dX11_takeTime_144 : decode cX11_takeTime 144 = .ok (.iconst 1, 1) := dk_4 (dk_at dksX11_takeTime_6 3 rfl rfl)
theorem dX11_takeTime_145 : decode cX11_takeTime 145 = .ok (.ireturn, 1) := dk_172 (dk_at dksX11_takeTime_6 4 rfl rfl)
abbrev cX11_takeDate : ByteArray := prog_17_method_42_code
def yX11_takeDate : MethodName := ⟨RX11, "takeDate", "()Z"⟩
def dkwX11_takeDate_8 : List UInt8 := [184, 1, 15, 181, 0, 255, 4, 172]
abbrev dktX11_takeDate_8 : List UInt8 := dkwX11_takeDate_8 ++ []
def dkwX11_takeDate_7 : List UInt8 := [180, 0, 218, 54, 4, 42, 182, 0, 228, 154, 0, 5, 3, 172, 42, 28, 29, 42, 180, 0, 218, 21, 4]
abbrev dktX11_takeDate_7 : List UInt8 := dkwX11_takeDate_7 ++ dktX11_takeDate_8
def dkwX11_takeDate_6 : List UInt8 := [182, 1, 12, 62, 29, 156, 0, 8, 42, 182, 0, 210, 172, 42, 182, 0, 228, 154, 0, 5, 3, 172, 42]
abbrev dktX11_takeDate_6 : List UInt8 := dkwX11_takeDate_6 ++ dktX11_takeDate_7
def dkwX11_takeDate_5 : List UInt8 := [61, 27, 154, 0, 21, 42, 16, 45, 182, 0, 207, 153, 0, 12, 42, 42, 180, 0, 218, 182, 1, 9, 172, 42]
abbrev dktX11_takeDate_5 : List UInt8 := dkwX11_takeDate_5 ++ dktX11_takeDate_6
def dkwX11_takeDate_4 : List UInt8 := [153, 0, 8, 16, 6, 167, 0, 19, 42, 180, 0, 218, 8, 164, 0, 7, 3, 167, 0, 7, 42, 180, 0, 218]
abbrev dktX11_takeDate_4 : List UInt8 := dkwX11_takeDate_4 ++ dktX11_takeDate_5
def dkwX11_takeDate_3 : List UInt8 := [4, 172, 42, 19, 1, 7, 182, 0, 249, 60, 27, 154, 0, 12, 42, 182, 0, 228, 154, 0, 5, 3, 172, 27]
abbrev dktX11_takeDate_3 : List UInt8 := dkwX11_takeDate_3 ++ dktX11_takeDate_4
def dkwX11_takeDate_2 : List UInt8 := [20, 0, 34, 184, 0, 13, 153, 0, 13, 42, 180, 0, 218, 184, 1, 4, 167, 0, 5, 18, 42, 181, 0, 255]
abbrev dktX11_takeDate_2 : List UInt8 := dkwX11_takeDate_2 ++ dktX11_takeDate_3
def dkwX11_takeDate_1 : List UInt8 := [182, 0, 249, 153, 0, 47, 42, 182, 0, 228, 154, 0, 5, 3, 172, 42, 42, 180, 0, 218, 133, 20, 0, 52]
abbrev dktX11_takeDate_1 : List UInt8 := dkwX11_takeDate_1 ++ dktX11_takeDate_2
def dkwX11_takeDate_0 : List UInt8 := [42, 42, 180, 0, 161, 42, 180, 0, 188, 46, 181, 0, 252, 42, 18, 42, 181, 0, 255, 42, 19, 1, 2]
abbrev dktX11_takeDate_0 : List UInt8 := dkwX11_takeDate_0 ++ dktX11_takeDate_1
theorem dksX11_takeDate_0 : cX11_takeDate.data.toList.drop 0 = dktX11_takeDate_0 := by decide +kernel
theorem dksX11_takeDate_1 : cX11_takeDate.data.toList.drop 23 = dktX11_takeDate_1 := dk_seg dksX11_takeDate_0 23 rfl rfl
theorem dksX11_takeDate_2 : cX11_takeDate.data.toList.drop 47 = dktX11_takeDate_2 := dk_seg dksX11_takeDate_1 24 rfl rfl
theorem dksX11_takeDate_3 : cX11_takeDate.data.toList.drop 71 = dktX11_takeDate_3 := dk_seg dksX11_takeDate_2 24 rfl rfl
theorem dksX11_takeDate_4 : cX11_takeDate.data.toList.drop 95 = dktX11_takeDate_4 := dk_seg dksX11_takeDate_3 24 rfl rfl
theorem dksX11_takeDate_5 : cX11_takeDate.data.toList.drop 119 = dktX11_takeDate_5 := dk_seg dksX11_takeDate_4 24 rfl rfl
theorem dksX11_takeDate_6 : cX11_takeDate.data.toList.drop 143 = dktX11_takeDate_6 := dk_seg dksX11_takeDate_5 24 rfl rfl
theorem dksX11_takeDate_7 : cX11_takeDate.data.toList.drop 166 = dktX11_takeDate_7 := dk_seg dksX11_takeDate_6 23 rfl rfl
theorem dksX11_takeDate_8 : cX11_takeDate.data.toList.drop 189 = dktX11_takeDate_8 := dk_seg dksX11_takeDate_7 23 rfl rfl
theorem dX11_takeDate_0 : decode cX11_takeDate 0 = .ok (.aload_n 0, 1) := dk_42 (dk_at dksX11_takeDate_0 0 rfl rfl)
theorem dX11_takeDate_1 : decode cX11_takeDate 1 = .ok (.aload_n 0, 1) := dk_42 (dk_at dksX11_takeDate_0 1 rfl rfl)
theorem dX11_takeDate_2 : decode cX11_takeDate 2 = .ok (.getfield 161, 3) := dk_180 0 161 (dk_at dksX11_takeDate_0 2 rfl rfl)
theorem dX11_takeDate_5 : decode cX11_takeDate 5 = .ok (.aload_n 0, 1) := dk_42 (dk_at dksX11_takeDate_0 5 rfl rfl)
theorem dX11_takeDate_6 : decode cX11_takeDate 6 = .ok (.getfield 188, 3) := dk_180 0 188 (dk_at dksX11_takeDate_0 6 rfl rfl)
theorem dX11_takeDate_9 : decode cX11_takeDate 9 = .ok (.iaload, 1) := dk_46 (dk_at dksX11_takeDate_0 9 rfl rfl)
theorem dX11_takeDate_10 : decode cX11_takeDate 10 = .ok (.putfield 252, 3) := dk_181 0 252 (dk_at dksX11_takeDate_0 10 rfl rfl)
theorem dX11_takeDate_13 : decode cX11_takeDate 13 = .ok (.aload_n 0, 1) := dk_42 (dk_at dksX11_takeDate_0 13 rfl rfl)
theorem dX11_takeDate_14 : decode cX11_takeDate 14 = .ok (.ldc 42, 2) := dk_18 42 (dk_at dksX11_takeDate_0 14 rfl rfl)
theorem dX11_takeDate_16 : decode cX11_takeDate 16 = .ok (.putfield 255, 3) := dk_181 0 255 (dk_at dksX11_takeDate_0 16 rfl rfl)
theorem dX11_takeDate_19 : decode cX11_takeDate 19 = .ok (.aload_n 0, 1) := dk_42 (dk_at dksX11_takeDate_0 19 rfl rfl)
theorem dX11_takeDate_20 : decode cX11_takeDate 20 = .ok (.ldc_w 258, 3) := dk_19 1 2 (dk_at dksX11_takeDate_0 20 rfl rfl)
theorem dX11_takeDate_23 : decode cX11_takeDate 23 = .ok (.invokevirtual 249, 3) := dk_182 0 249 (dk_at dksX11_takeDate_1 0 rfl rfl)
theorem dX11_takeDate_26 : decode cX11_takeDate 26 = .ok (.ifCond .eq 47, 3) := dk_153 0 47 (dk_at dksX11_takeDate_1 3 rfl rfl)
theorem dX11_takeDate_29 : decode cX11_takeDate 29 = .ok (.aload_n 0, 1) := dk_42 (dk_at dksX11_takeDate_1 6 rfl rfl)
theorem dX11_takeDate_30 : decode cX11_takeDate 30 = .ok (.invokevirtual 228, 3) := dk_182 0 228 (dk_at dksX11_takeDate_1 7 rfl rfl)
theorem dX11_takeDate_33 : decode cX11_takeDate 33 = .ok (.ifCond .ne 5, 3) := dk_154 0 5 (dk_at dksX11_takeDate_1 10 rfl rfl)
theorem dX11_takeDate_36 : decode cX11_takeDate 36 = .ok (.iconst 0, 1) := dk_3 (dk_at dksX11_takeDate_1 13 rfl rfl)
theorem dX11_takeDate_37 : decode cX11_takeDate 37 = .ok (.ireturn, 1) := dk_172 (dk_at dksX11_takeDate_1 14 rfl rfl)
theorem dX11_takeDate_38 : decode cX11_takeDate 38 = .ok (.aload_n 0, 1) := dk_42 (dk_at dksX11_takeDate_1 15 rfl rfl)
theorem dX11_takeDate_39 : decode cX11_takeDate 39 = .ok (.aload_n 0, 1) := dk_42 (dk_at dksX11_takeDate_1 16 rfl rfl)
theorem dX11_takeDate_40 : decode cX11_takeDate 40 = .ok (.getfield 218, 3) := dk_180 0 218 (dk_at dksX11_takeDate_1 17 rfl rfl)
theorem dX11_takeDate_43 : decode cX11_takeDate 43 = .ok (.i2l, 1) := dk_133 (dk_at dksX11_takeDate_1 20 rfl rfl)
theorem dX11_takeDate_44 : decode cX11_takeDate 44 = .ok (.ldc2_w 52, 3) := dk_20 0 52 (dk_at dksX11_takeDate_1 21 rfl rfl)
theorem dX11_takeDate_47 : decode cX11_takeDate 47 = .ok (.ldc2_w 34, 3) := dk_20 0 34 (dk_at dksX11_takeDate_2 0 rfl rfl)
theorem dX11_takeDate_50 : decode cX11_takeDate 50 = .ok (.invokestatic 13, 3) := dk_184 0 13 (dk_at dksX11_takeDate_2 3 rfl rfl)
theorem dX11_takeDate_53 : decode cX11_takeDate 53 = .ok (.ifCond .eq 13, 3) := dk_153 0 13 (dk_at dksX11_takeDate_2 6 rfl rfl)
theorem dX11_takeDate_56 : decode cX11_takeDate 56 = .ok (.aload_n 0, 1) := dk_42 (dk_at dksX11_takeDate_2 9 rfl rfl)
theorem dX11_takeDate_57 : decode cX11_takeDate 57 = .ok (.getfield 218, 3) := dk_180 0 218 (dk_at dksX11_takeDate_2 10 rfl rfl)
theorem dX11_takeDate_60 : decode cX11_takeDate 60 = .ok (.invokestatic 260, 3) := dk_184 1 4 (dk_at dksX11_takeDate_2 13 rfl rfl)
theorem dX11_takeDate_63 : decode cX11_takeDate 63 = .ok (.goto 5, 3) := dk_167 0 5 (dk_at dksX11_takeDate_2 16 rfl rfl)
theorem dX11_takeDate_66 : decode cX11_takeDate 66 = .ok (.ldc 42, 2) := dk_18 42 (dk_at dksX11_takeDate_2 19 rfl rfl)
theorem dX11_takeDate_68 : decode cX11_takeDate 68 = .ok (.putfield 255, 3) := dk_181 0 255 (dk_at dksX11_takeDate_2 21 rfl rfl)
theorem dX11_takeDate_71 : decode cX11_takeDate 71 = .ok (.iconst 1, 1) := dk_4 (dk_at dksX11_takeDate_3 0 rfl rfl)
theorem dX11_takeDate_72 : decode cX11_takeDate 72 = .ok (.ireturn, 1) := dk_172 (dk_at dksX11_takeDate_3 1 rfl rfl)
theorem dX11_takeDate_73 : decode cX11_takeDate 73 = .ok (.aload_n 0, 1) := dk_42 (dk_at dksX11_takeDate_3 2 rfl rfl)
theorem dX11_takeDate_74 : decode cX11_takeDate 74 = .ok (.ldc_w 263, 3) := dk_19 1 7 (dk_at dksX11_takeDate_3 3 rfl rfl)
theorem dX11_takeDate_77 : decode cX11_takeDate 77 = .ok (.invokevirtual 249, 3) := dk_182 0 249 (dk_at dksX11_takeDate_3 6 rfl rfl)
theorem dX11_takeDate_80 : decode cX11_takeDate 80 = .ok (.istore_n 1, 1) := dk_60 (dk_at dksX11_takeDate_3 9 rfl rfl)
theorem dX11_takeDate_81 : decode cX11_takeDate 81 = .ok (.iload_n 1, 1) := dk_27 (dk_at dksX11_takeDate_3 10 rfl rfl)
theorem dX11_takeDate_82 : decode cX11_takeDate 82 = .ok (.ifCond .ne 12, 3) := dk_154 0 12 (dk_at dksX11_takeDate_3 11 rfl rfl)
theorem dX11_takeDate_85 : decode cX11_takeDate 85 = .ok (.aload_n 0, 1) := dk_42 (dk_at dksX11_takeDate_3 14 rfl rfl)
theorem dX11_takeDate_86 : decode cX11_takeDate 86 = .ok (.invokevirtual 228, 3) := dk_182 0 228 (dk_at dksX11_takeDate_3 15 rfl rfl)
theorem dX11_takeDate_89 : decode cX11_takeDate 89 = .ok (.ifCond .ne 5, 3) := dk_154 0 5 (dk_at dksX11_takeDate_3 18 rfl rfl)
theorem dX11_takeDate_92 : decode cX11_takeDate 92 = .ok (.iconst 0, 1) := dk_3 (dk_at dksX11_takeDate_3 21 rfl rfl)
theorem dX11_takeDate_93 : decode cX11_takeDate 93 = .ok (.ireturn, 1) := dk_172 (dk_at dksX11_takeDate_3 22 rfl rfl)
theorem dX11_takeDate_94 : decode cX11_takeDate 94 = .ok (.iload_n 1, 1) := dk_27 (dk_at dksX11_takeDate_3 23 rfl rfl)
theorem dX11_takeDate_95 : decode cX11_takeDate 95 = .ok (.ifCond .eq 8, 3) := dk_153 0 8 (dk_at dksX11_takeDate_4 0 rfl rfl)
theorem dX11_takeDate_98 : decode cX11_takeDate 98 = .ok (.bipush 6, 2) := dk_16 6 (dk_at dksX11_takeDate_4 3 rfl rfl)
theorem dX11_takeDate_100 : decode cX11_takeDate 100 = .ok (.goto 19, 3) := dk_167 0 19 (dk_at dksX11_takeDate_4 5 rfl rfl)
theorem dX11_takeDate_103 : decode cX11_takeDate 103 = .ok (.aload_n 0, 1) := dk_42 (dk_at dksX11_takeDate_4 8 rfl rfl)
theorem dX11_takeDate_104 : decode cX11_takeDate 104 = .ok (.getfield 218, 3) := dk_180 0 218 (dk_at dksX11_takeDate_4 9 rfl rfl)
theorem dX11_takeDate_107 : decode cX11_takeDate 107 = .ok (.iconst 5, 1) := dk_8 (dk_at dksX11_takeDate_4 12 rfl rfl)
theorem dX11_takeDate_108 : decode cX11_takeDate 108 = .ok (.if_icmp .le 7, 3) := dk_164 0 7 (dk_at dksX11_takeDate_4 13 rfl rfl)
theorem dX11_takeDate_111 : decode cX11_takeDate 111 = .ok (.iconst 0, 1) := dk_3 (dk_at dksX11_takeDate_4 16 rfl rfl)
theorem dX11_takeDate_112 : decode cX11_takeDate 112 = .ok (.goto 7, 3) := dk_167 0 7 (dk_at dksX11_takeDate_4 17 rfl rfl)
theorem dX11_takeDate_115 : decode cX11_takeDate 115 = .ok (.aload_n 0, 1) := dk_42 (dk_at dksX11_takeDate_4 20 rfl rfl)
theorem dX11_takeDate_116 : decode cX11_takeDate 116 = .ok (.getfield 218, 3) := dk_180 0 218 (dk_at dksX11_takeDate_4 21 rfl rfl)
theorem dX11_takeDate_119 : decode cX11_takeDate 119 = .ok (.istore_n 2, 1) := dk_61 (dk_at dksX11_takeDate_5 0 rfl rfl)
theorem dX11_takeDate_120 : decode cX11_takeDate 120 = .ok (.iload_n 1, 1) := dk_27 (dk_at dksX11_takeDate_5 1 rfl rfl)
theorem dX11_takeDate_121 : decode cX11_takeDate 121 = .ok (.ifCond .ne 21, 3) := dk_154 0 21 (dk_at dksX11_takeDate_5 2 rfl rfl)
theorem dX11_takeDate_124 : decode cX11_takeDate 124 = .ok (.aload_n 0, 1) := dk_42 (dk_at dksX11_takeDate_5 5 rfl rfl)
theorem dX11_takeDate_125 : decode cX11_takeDate 125 = .ok (.bipush 45, 2) := dk_16 45 (dk_at dksX11_takeDate_5 6 rfl rfl)
theorem dX11_takeDate_127 : decode cX11_takeDate 127 = .ok (.invokevirtual 207, 3) := dk_182 0 207 (dk_at dksX11_takeDate_5 8 rfl rfl)
theorem dX11_takeDate_130 : decode cX11_takeDate 130 = .ok (.ifCond .eq 12, 3) := dk_153 0 12 (dk_at dksX11_takeDate_5 11 rfl rfl)
theorem dX11_takeDate_133 : decode cX11_takeDate 133 = .ok (.aload_n 0, 1) := dk_42 (dk_at dksX11_takeDate_5 14 rfl rfl)
theorem dX11_takeDate_134 : decode cX11_takeDate 134 = .ok (.aload_n 0, 1) := dk_42 (dk_at dksX11_takeDate_5 15 rfl rfl)
theorem dX11_takeDate_135 : decode cX11_takeDate 135 = .ok (.getfield 218, 3) := dk_180 0 218 (dk_at dksX11_takeDate_5 16 rfl rfl)
theorem dX11_takeDate_138 : decode cX11_takeDate 138 = .ok (.invokevirtual 265, 3) := dk_182 1 9 (dk_at dksX11_takeDate_5 19 rfl rfl)
theorem dX11_takeDate_141 : decode cX11_takeDate 141 = .ok (.ireturn, 1) := dk_172 (dk_at dksX11_takeDate_5 22 rfl rfl)
theorem dX11_takeDate_142 : decode cX11_takeDate 142 = .ok (.aload_n 0, 1) := dk_42 (dk_at dksX11_takeDate_5 23 rfl rfl)
theorem dX11_takeDate_143 : decode cX11_takeDate 143 = .ok (.invokevirtual 268, 3) := dk_182 1 12 (dk_at dksX11_takeDate_6 0 rfl rfl)
theorem dX11_takeDate_146 : decode cX11_takeDate 146 = .ok (.istore_n 3, 1) := dk_62 (dk_at dksX11_takeDate_6 3 rfl rfl)
theorem dX11_takeDate_147 : decode cX11_takeDate 147 = .ok (.iload_n 3, 1) := dk_29 (dk_at dksX11_takeDate_6 4 rfl rfl)
theorem dX11_takeDate_148 : decode cX11_takeDate 148 = .ok (.ifCond .ge 8, 3) := dk_156 0 8 (dk_at dksX11_takeDate_6 5 rfl rfl)
theorem dX11_takeDate_151 : decode cX11_takeDate 151 = .ok (.aload_n 0, 1) := dk_42 (dk_at dksX11_takeDate_6 8 rfl rfl)
theorem dX11_takeDate_152 : decode cX11_takeDate 152 = .ok (.invokevirtual 210, 3) := dk_182 0 210 (dk_at dksX11_takeDate_6 9 rfl rfl)
theorem dX11_takeDate_155 : decode cX11_takeDate 155 = .ok (.ireturn, 1) := dk_172 (dk_at dksX11_takeDate_6 12 rfl rfl)
theorem dX11_takeDate_156 : decode cX11_takeDate 156 = .ok (.aload_n 0, 1) := dk_42 (dk_at dksX11_takeDate_6 13 rfl rfl)
theorem dX11_takeDate_157 : decode cX11_takeDate 157 = .ok (.invokevirtual 228, 3) := dk_182 0 228 (dk_at dksX11_takeDate_6 14 rfl rfl)
theorem dX11_takeDate_160 : decode cX11_takeDate 160 = .ok (.ifCond .ne 5, 3) := dk_154 0 5 (dk_at dksX11_takeDate_6 17 rfl rfl)
theorem dX11_takeDate_163 : decode cX11_takeDate 163 = .ok (.iconst 0, 1) := dk_3 (dk_at dksX11_takeDate_6 20 rfl rfl)
theorem dX11_takeDate_164 : decode cX11_takeDate 164 = .ok (.ireturn, 1) := dk_172 (dk_at dksX11_takeDate_6 21 rfl rfl)
theorem dX11_takeDate_165 : decode cX11_takeDate 165 = .ok (.aload_n 0, 1) := dk_42 (dk_at dksX11_takeDate_6 22 rfl rfl)
theorem dX11_takeDate_166 : decode cX11_takeDate 166 = .ok (.getfield 218, 3) := dk_180 0 218 (dk_at dksX11_takeDate_7 0 rfl rfl)
theorem dX11_takeDate_169 : decode cX11_takeDate 169 = .ok (.istore 4, 2) := dk_54 4 (dk_at dksX11_takeDate_7 3 rfl rfl)
theorem dX11_takeDate_171 : decode cX11_takeDate 171 = .ok (.aload_n 0, 1) := dk_42 (dk_at dksX11_takeDate_7 5 rfl rfl)
theorem dX11_takeDate_172 : decode cX11_takeDate 172 = .ok (.invokevirtual 228, 3) := dk_182 0 228 (dk_at dksX11_takeDate_7 6 rfl rfl)
theorem dX11_takeDate_175 : decode cX11_takeDate 175 = .ok (.ifCond .ne 5, 3) := dk_154 0 5 (dk_at dksX11_takeDate_7 9 rfl rfl)
theorem dX11_takeDate_178 : decode cX11_takeDate 178 = .ok (.iconst 0, 1) := dk_3 (dk_at dksX11_takeDate_7 12 rfl rfl)
theorem dX11_takeDate_179 : decode cX11_takeDate 179 = .ok (.ireturn, 1) := dk_172 (dk_at dksX11_takeDate_7 13 rfl rfl)
theorem dX11_takeDate_180 : decode cX11_takeDate 180 = .ok (.aload_n 0, 1) := dk_42 (dk_at dksX11_takeDate_7 14 rfl rfl)
theorem dX11_takeDate_181 : decode cX11_takeDate 181 = .ok (.iload_n 2, 1) := dk_28 (dk_at dksX11_takeDate_7 15 rfl rfl)
theorem dX11_takeDate_182 : decode cX11_takeDate 182 = .ok (.iload_n 3, 1) := dk_29 (dk_at dksX11_takeDate_7 16 rfl rfl)
theorem dX11_takeDate_183 : decode cX11_takeDate 183 = .ok (.aload_n 0, 1) := dk_42 (dk_at dksX11_takeDate_7 17 rfl rfl)
theorem dX11_takeDate_184 : decode cX11_takeDate 184 = .ok (.getfield 218, 3) := dk_180 0 218 (dk_at dksX11_takeDate_7 18 rfl rfl)
theorem dX11_takeDate_187 : decode cX11_takeDate 187 = .ok (.iload 4, 2) := dk_21 4 (dk_at dksX11_takeDate_7 21 rfl rfl)
theorem dX11_takeDate_189 : decode cX11_takeDate 189 = .ok (.invokestatic 271, 3) := dk_184 1 15 (dk_at dksX11_takeDate_8 0 rfl rfl)
theorem dX11_takeDate_192 : decode cX11_takeDate 192 = .ok (.putfield 255, 3) := dk_181 0 255 (dk_at dksX11_takeDate_8 3 rfl rfl)
theorem dX11_takeDate_195 : decode cX11_takeDate 195 = .ok (.iconst 1, 1) := dk_4 (dk_at dksX11_takeDate_8 6 rfl rfl)
theorem dX11_takeDate_196 : decode cX11_takeDate 196 = .ok (.ireturn, 1) := dk_172 (dk_at dksX11_takeDate_8 7 rfl rfl)
abbrev cX11_takeNumber : ByteArray := prog_17_method_38_code
def yX11_takeNumber : MethodName := ⟨RX11, "takeNumber", "()Z"⟩
def dkwX11_takeNumber_3 : List UInt8 := [182, 0, 224, 42, 89, 180, 0, 188, 4, 96, 181, 0, 188, 4, 172]
abbrev dktX11_takeNumber_3 : List UInt8 := dkwX11_takeNumber_3 ++ []
def dkwX11_takeNumber_2 : List UInt8 := [42, 180, 0, 188, 46, 42, 180, 0, 161, 42, 180, 0, 188, 46, 100, 8, 164, 0, 11, 42, 42, 180, 0, 221]
abbrev dktX11_takeNumber_2 : List UInt8 := dkwX11_takeNumber_2 ++ dktX11_takeNumber_3
def dkwX11_takeNumber_1 : List UInt8 := [180, 0, 188, 46, 181, 0, 218, 42, 42, 180, 0, 161, 42, 180, 0, 188, 46, 181, 0, 221, 42, 180, 0, 185]
abbrev dktX11_takeNumber_1 : List UInt8 := dkwX11_takeNumber_1 ++ dktX11_takeNumber_2
def dkwX11_takeNumber_0 : List UInt8 := [42, 180, 0, 167, 42, 180, 0, 188, 46, 5, 159, 0, 8, 42, 182, 0, 210, 172, 42, 42, 180, 0, 182, 42]
abbrev dktX11_takeNumber_0 : List UInt8 := dkwX11_takeNumber_0 ++ dktX11_takeNumber_1
theorem dksX11_takeNumber_0 : cX11_takeNumber.data.toList.drop 0 = dktX11_takeNumber_0 := by decide +kernel
theorem dksX11_takeNumber_1 : cX11_takeNumber.data.toList.drop 24 = dktX11_takeNumber_1 := dk_seg dksX11_takeNumber_0 24 rfl rfl
theorem dksX11_takeNumber_2 : cX11_takeNumber.data.toList.drop 48 = dktX11_takeNumber_2 := dk_seg dksX11_takeNumber_1 24 rfl rfl
theorem dksX11_takeNumber_3 : cX11_takeNumber.data.toList.drop 72 = dktX11_takeNumber_3 := dk_seg dksX11_takeNumber_2 24 rfl rfl
theorem dX11_takeNumber_0 : decode cX11_takeNumber 0 = .ok (.aload_n 0, 1) := dk_42 (dk_at dksX11_takeNumber_0 0 rfl rfl)
theorem dX11_takeNumber_1 : decode cX11_takeNumber 1 = .ok (.getfield 167, 3) := dk_180 0 167 (dk_at dksX11_takeNumber_0 1 rfl rfl)
theorem dX11_takeNumber_4 : decode cX11_takeNumber 4 = .ok (.aload_n 0, 1) := dk_42 (dk_at dksX11_takeNumber_0 4 rfl rfl)
theorem dX11_takeNumber_5 : decode cX11_takeNumber 5 = .ok (.getfield 188, 3) := dk_180 0 188 (dk_at dksX11_takeNumber_0 5 rfl rfl)
theorem dX11_takeNumber_8 : decode cX11_takeNumber 8 = .ok (.iaload, 1) := dk_46 (dk_at dksX11_takeNumber_0 8 rfl rfl)
theorem dX11_takeNumber_9 : decode cX11_takeNumber 9 = .ok (.iconst 2, 1) := dk_5 (dk_at dksX11_takeNumber_0 9 rfl rfl)
theorem dX11_takeNumber_10 : decode cX11_takeNumber 10 = .ok (.if_icmp .eq 8, 3) := dk_159 0 8 (dk_at dksX11_takeNumber_0 10 rfl rfl)
theorem dX11_takeNumber_13 : decode cX11_takeNumber 13 = .ok (.aload_n 0, 1) := dk_42 (dk_at dksX11_takeNumber_0 13 rfl rfl)
theorem dX11_takeNumber_14 : decode cX11_takeNumber 14 = .ok (.invokevirtual 210, 3) := dk_182 0 210 (dk_at dksX11_takeNumber_0 14 rfl rfl)
theorem dX11_takeNumber_17 : decode cX11_takeNumber 17 = .ok (.ireturn, 1) := dk_172 (dk_at dksX11_takeNumber_0 17 rfl rfl)
theorem dX11_takeNumber_18 : decode cX11_takeNumber 18 = .ok (.aload_n 0, 1) := dk_42 (dk_at dksX11_takeNumber_0 18 rfl rfl)
theorem dX11_takeNumber_19 : decode cX11_takeNumber 19 = .ok (.aload_n 0, 1) := dk_42 (dk_at dksX11_takeNumber_0 19 rfl rfl)
theorem dX11_takeNumber_20 : decode cX11_takeNumber 20 = .ok (.getfield 182, 3) := dk_180 0 182 (dk_at dksX11_takeNumber_0 20 rfl rfl)
theorem dX11_takeNumber_23 : decode cX11_takeNumber 23 = .ok (.aload_n 0, 1) := dk_42 (dk_at dksX11_takeNumber_0 23 rfl rfl)
theorem dX11_takeNumber_24 : decode cX11_takeNumber 24 = .ok (.getfield 188, 3) := dk_180 0 188 (dk_at dksX11_takeNumber_1 0 rfl rfl)
theorem dX11_takeNumber_27 : decode cX11_takeNumber 27 = .ok (.iaload, 1) := dk_46 (dk_at dksX11_takeNumber_1 3 rfl rfl)
theorem dX11_takeNumber_28 : decode cX11_takeNumber 28 = .ok (.putfield 218, 3) := dk_181 0 218 (dk_at dksX11_takeNumber_1 4 rfl rfl)
theorem dX11_takeNumber_31 : decode cX11_takeNumber 31 = .ok (.aload_n 0, 1) := dk_42 (dk_at dksX11_takeNumber_1 7 rfl rfl)
theorem dX11_takeNumber_32 : decode cX11_takeNumber 32 = .ok (.aload_n 0, 1) := dk_42 (dk_at dksX11_takeNumber_1 8 rfl rfl)
theorem dX11_takeNumber_33 : decode cX11_takeNumber 33 = .ok (.getfield 161, 3) := dk_180 0 161 (dk_at dksX11_takeNumber_1 9 rfl rfl)
theorem dX11_takeNumber_36 : decode cX11_takeNumber 36 = .ok (.aload_n 0, 1) := dk_42 (dk_at dksX11_takeNumber_1 12 rfl rfl)
theorem dX11_takeNumber_37 : decode cX11_takeNumber 37 = .ok (.getfield 188, 3) := dk_180 0 188 (dk_at dksX11_takeNumber_1 13 rfl rfl)
theorem dX11_takeNumber_40 : decode cX11_takeNumber 40 = .ok (.iaload, 1) := dk_46 (dk_at dksX11_takeNumber_1 16 rfl rfl)
theorem dX11_takeNumber_41 : decode cX11_takeNumber 41 = .ok (.putfield 221, 3) := dk_181 0 221 (dk_at dksX11_takeNumber_1 17 rfl rfl)
theorem dX11_takeNumber_44 : decode cX11_takeNumber 44 = .ok (.aload_n 0, 1) := dk_42 (dk_at dksX11_takeNumber_1 20 rfl rfl)
theorem dX11_takeNumber_45 : decode cX11_takeNumber 45 = .ok (.getfield 185, 3) := dk_180 0 185 (dk_at dksX11_takeNumber_1 21 rfl rfl)
theorem dX11_takeNumber_48 : decode cX11_takeNumber 48 = .ok (.aload_n 0, 1) := dk_42 (dk_at dksX11_takeNumber_2 0 rfl rfl)
theorem dX11_takeNumber_49 : decode cX11_takeNumber 49 = .ok (.getfield 188, 3) := dk_180 0 188 (dk_at dksX11_takeNumber_2 1 rfl rfl)
theorem dX11_takeNumber_52 : decode cX11_takeNumber 52 = .ok (.iaload, 1) := dk_46 (dk_at dksX11_takeNumber_2 4 rfl rfl)
theorem dX11_takeNumber_53 : decode cX11_takeNumber 53 = .ok (.aload_n 0, 1) := dk_42 (dk_at dksX11_takeNumber_2 5 rfl rfl)
theorem dX11_takeNumber_54 : decode cX11_takeNumber 54 = .ok (.getfield 161, 3) := dk_180 0 161 (dk_at dksX11_takeNumber_2 6 rfl rfl)
theorem dX11_takeNumber_57 : decode cX11_takeNumber 57 = .ok (.aload_n 0, 1) := dk_42 (dk_at dksX11_takeNumber_2 9 rfl rfl)
theorem dX11_takeNumber_58 : decode cX11_takeNumber 58 = .ok (.getfield 188, 3) := dk_180 0 188 (dk_at dksX11_takeNumber_2 10 rfl rfl)
theorem dX11_takeNumber_61 : decode cX11_takeNumber 61 = .ok (.iaload, 1) := dk_46 (dk_at dksX11_takeNumber_2 13 rfl rfl)
theorem dX11_takeNumber_62 : decode cX11_takeNumber 62 = .ok (.isub, 1) := dk_100 (dk_at dksX11_takeNumber_2 14 rfl rfl)
theorem dX11_takeNumber_63 : decode cX11_takeNumber 63 = .ok (.iconst 5, 1) := dk_8 (dk_at dksX11_takeNumber_2 15 rfl rfl)
theorem dX11_takeNumber_64 : decode cX11_takeNumber 64 = .ok (.if_icmp .le 11, 3) := dk_164 0 11 (dk_at dksX11_takeNumber_2 16 rfl rfl)
theorem dX11_takeNumber_67 : decode cX11_takeNumber 67 = .ok (.aload_n 0, 1) := dk_42 (dk_at dksX11_takeNumber_2 19 rfl rfl)
theorem dX11_takeNumber_68 : decode cX11_takeNumber 68 = .ok (.aload_n 0, 1) := dk_42 (dk_at dksX11_takeNumber_2 20 rfl rfl)
theorem dX11_takeNumber_69 : decode cX11_takeNumber 69 = .ok (.getfield 221, 3) := dk_180 0 221 (dk_at dksX11_takeNumber_2 21 rfl rfl)
theorem dX11_takeNumber_72 : decode cX11_takeNumber 72 = .ok (.invokevirtual 224, 3) := dk_182 0 224 (dk_at dksX11_takeNumber_3 0 rfl rfl)
theorem dX11_takeNumber_75 : decode cX11_takeNumber 75 = .ok (.aload_n 0, 1) := dk_42 (dk_at dksX11_takeNumber_3 3 rfl rfl)
theorem dX11_takeNumber_76 : decode cX11_takeNumber 76 = .ok (.dup, 1) := dk_89 (dk_at dksX11_takeNumber_3 4 rfl rfl)
theorem dX11_takeNumber_77 : decode cX11_takeNumber 77 = .ok (.getfield 188, 3) := dk_180 0 188 (dk_at dksX11_takeNumber_3 5 rfl rfl)
theorem dX11_takeNumber_80 : decode cX11_takeNumber 80 = .ok (.iconst 1, 1) := dk_4 (dk_at dksX11_takeNumber_3 8 rfl rfl)
theorem dX11_takeNumber_81 : decode cX11_takeNumber 81 = .ok (.iadd, 1) := dk_96 (dk_at dksX11_takeNumber_3 9 rfl rfl)
theorem dX11_takeNumber_82 : decode cX11_takeNumber 82 = .ok (.putfield 188, 3) := dk_181 0 188 (dk_at dksX11_takeNumber_3 10 rfl rfl)
theorem dX11_takeNumber_85 : decode cX11_takeNumber 85 = .ok (.iconst 1, 1) := dk_4 (dk_at dksX11_takeNumber_3 13 rfl rfl)
theorem dX11_takeNumber_86 : decode cX11_takeNumber 86 = .ok (.ireturn, 1) := dk_172 (dk_at dksX11_takeNumber_3 14 rfl rfl)
abbrev cX11_easterOf : ByteArray := prog_17_method_10_code
def yX11_easterOf : MethodName := ⟨RX11, "easterOf", "(I)I"⟩
def dkwX11_easterOf_5 : List UInt8 := [16, 31, 112, 4, 96, 184, 0, 48, 172]
abbrev dktX11_easterOf_5 : List UInt8 := dkwX11_easterOf_5 ++ []
def dkwX11_easterOf_4 : List UInt8 := [21, 5, 21, 6, 96, 16, 7, 21, 7, 104, 100, 16, 114, 96, 54, 8, 26, 21, 8, 16, 31, 108, 21, 8]
abbrev dktX11_easterOf_4 : List UInt8 := dkwX11_easterOf_4 ++ dktX11_easterOf_5
def dkwX11_easterOf_3 : List UInt8 := [16, 7, 112, 54, 6, 27, 16, 11, 21, 5, 104, 96, 16, 22, 21, 6, 104, 96, 17, 1, 195, 108, 54, 7]
abbrev dktX11_easterOf_3 : List UInt8 := dkwX11_easterOf_3 ++ dktX11_easterOf_4
def dkwX11_easterOf_2 : List UInt8 := [112, 54, 5, 16, 32, 5, 28, 7, 112, 104, 96, 5, 29, 7, 108, 104, 96, 21, 5, 100, 29, 7, 112, 100]
abbrev dktX11_easterOf_2 : List UInt8 := dkwX11_easterOf_2 ++ dktX11_easterOf_3
def dkwX11_easterOf_1 : List UInt8 := [4, 96, 6, 108, 54, 4, 16, 19, 27, 104, 28, 96, 28, 7, 108, 100, 21, 4, 100, 16, 15, 96, 16, 30]
abbrev dktX11_easterOf_1 : List UInt8 := dkwX11_easterOf_1 ++ dktX11_easterOf_2
def dkwX11_easterOf_0 : List UInt8 := [26, 16, 19, 112, 60, 26, 16, 100, 108, 61, 26, 16, 100, 112, 62, 28, 28, 16, 8, 96, 16, 25, 108, 100]
abbrev dktX11_easterOf_0 : List UInt8 := dkwX11_easterOf_0 ++ dktX11_easterOf_1
theorem dksX11_easterOf_0 : cX11_easterOf.data.toList.drop 0 = dktX11_easterOf_0 := by decide +kernel
theorem dksX11_easterOf_1 : cX11_easterOf.data.toList.drop 24 = dktX11_easterOf_1 := dk_seg dksX11_easterOf_0 24 rfl rfl
theorem dksX11_easterOf_2 : cX11_easterOf.data.toList.drop 48 = dktX11_easterOf_2 := dk_seg dksX11_easterOf_1 24 rfl rfl
theorem dksX11_easterOf_3 : cX11_easterOf.data.toList.drop 72 = dktX11_easterOf_3 := dk_seg dksX11_easterOf_2 24 rfl rfl
theorem dksX11_easterOf_4 : cX11_easterOf.data.toList.drop 96 = dktX11_easterOf_4 := dk_seg dksX11_easterOf_3 24 rfl rfl
theorem dksX11_easterOf_5 : cX11_easterOf.data.toList.drop 120 = dktX11_easterOf_5 := dk_seg dksX11_easterOf_4 24 rfl rfl
theorem dX11_easterOf_0 : decode cX11_easterOf 0 = .ok (.iload_n 0, 1) := dk_26 (dk_at dksX11_easterOf_0 0 rfl rfl)
theorem dX11_easterOf_1 : decode cX11_easterOf 1 = .ok (.bipush 19, 2) := dk_16 19 (dk_at dksX11_easterOf_0 1 rfl rfl)
theorem dX11_easterOf_3 : decode cX11_easterOf 3 = .ok (.irem, 1) := dk_112 (dk_at dksX11_easterOf_0 3 rfl rfl)
theorem dX11_easterOf_4 : decode cX11_easterOf 4 = .ok (.istore_n 1, 1) := dk_60 (dk_at dksX11_easterOf_0 4 rfl rfl)
theorem dX11_easterOf_5 : decode cX11_easterOf 5 = .ok (.iload_n 0, 1) := dk_26 (dk_at dksX11_easterOf_0 5 rfl rfl)
theorem dX11_easterOf_6 : decode cX11_easterOf 6 = .ok (.bipush 100, 2) := dk_16 100 (dk_at dksX11_easterOf_0 6 rfl rfl)
theorem dX11_easterOf_8 : decode cX11_easterOf 8 = .ok (.idiv, 1) := dk_108 (dk_at dksX11_easterOf_0 8 rfl rfl)
theorem dX11_easterOf_9 : decode cX11_easterOf 9 = .ok (.istore_n 2, 1) := dk_61 (dk_at dksX11_easterOf_0 9 rfl rfl)
theorem dX11_easterOf_10 : decode cX11_easterOf 10 = .ok (.iload_n 0, 1) := dk_26 (dk_at dksX11_easterOf_0 10 rfl rfl)
theorem dX11_easterOf_11 : decode cX11_easterOf 11 = .ok (.bipush 100, 2) := dk_16 100 (dk_at dksX11_easterOf_0 11 rfl rfl)
theorem dX11_easterOf_13 : decode cX11_easterOf 13 = .ok (.irem, 1) := dk_112 (dk_at dksX11_easterOf_0 13 rfl rfl)
theorem dX11_easterOf_14 : decode cX11_easterOf 14 = .ok (.istore_n 3, 1) := dk_62 (dk_at dksX11_easterOf_0 14 rfl rfl)
theorem dX11_easterOf_15 : decode cX11_easterOf 15 = .ok (.iload_n 2, 1) := dk_28 (dk_at dksX11_easterOf_0 15 rfl rfl)
theorem dX11_easterOf_16 : decode cX11_easterOf 16 = .ok (.iload_n 2, 1) := dk_28 (dk_at dksX11_easterOf_0 16 rfl rfl)
theorem dX11_easterOf_17 : decode cX11_easterOf 17 = .ok (.bipush 8, 2) := dk_16 8 (dk_at dksX11_easterOf_0 17 rfl rfl)
theorem dX11_easterOf_19 : decode cX11_easterOf 19 = .ok (.iadd, 1) := dk_96 (dk_at dksX11_easterOf_0 19 rfl rfl)
theorem dX11_easterOf_20 : decode cX11_easterOf 20 = .ok (.bipush 25, 2) := dk_16 25 (dk_at dksX11_easterOf_0 20 rfl rfl)
theorem dX11_easterOf_22 : decode cX11_easterOf 22 = .ok (.idiv, 1) := dk_108 (dk_at dksX11_easterOf_0 22 rfl rfl)
theorem dX11_easterOf_23 : decode cX11_easterOf 23 = .ok (.isub, 1) := dk_100 (dk_at dksX11_easterOf_0 23 rfl rfl)
theorem dX11_easterOf_24 : decode cX11_easterOf 24 = .ok (.iconst 1, 1) := dk_4 (dk_at dksX11_easterOf_1 0 rfl rfl)
theorem dX11_easterOf_25 : decode cX11_easterOf 25 = .ok (.iadd, 1) := dk_96 (dk_at dksX11_easterOf_1 1 rfl rfl)
theorem dX11_easterOf_26 : decode cX11_easterOf 26 = .ok (.iconst 3, 1) := dk_6 (dk_at dksX11_easterOf_1 2 rfl rfl)
theorem dX11_easterOf_27 : decode cX11_easterOf 27 = .ok (.idiv, 1) := dk_108 (dk_at dksX11_easterOf_1 3 rfl rfl)
theorem dX11_easterOf_28 : decode cX11_easterOf 28 = .ok (.istore 4, 2) := dk_54 4 (dk_at dksX11_easterOf_1 4 rfl rfl)
theorem dX11_easterOf_30 : decode cX11_easterOf 30 = .ok (.bipush 19, 2) := dk_16 19 (dk_at dksX11_easterOf_1 6 rfl rfl)
theorem dX11_easterOf_32 : decode cX11_easterOf 32 = .ok (.iload_n 1, 1) := dk_27 (dk_at dksX11_easterOf_1 8 rfl rfl)
theorem dX11_easterOf_33 : decode cX11_easterOf 33 = .ok (.imul, 1) := dk_104 (dk_at dksX11_easterOf_1 9 rfl rfl)
theorem dX11_easterOf_34 : decode cX11_easterOf 34 = .ok (.iload_n 2, 1) := dk_28 (dk_at dksX11_easterOf_1 10 rfl rfl)
theorem dX11_easterOf_35 : decode cX11_easterOf 35 = .ok (.iadd, 1) := dk_96 (dk_at dksX11_easterOf_1 11 rfl rfl)
theorem dX11_easterOf_36 : decode cX11_easterOf 36 = .ok (.iload_n 2, 1) := dk_28 (dk_at dksX11_easterOf_1 12 rfl rfl)
theorem dX11_easterOf_37 : decode cX11_easterOf 37 = .ok (.iconst 4, 1) := dk_7 (dk_at dksX11_easterOf_1 13 rfl rfl)
theorem dX11_easterOf_38 : decode cX11_easterOf 38 = .ok (.idiv, 1) := dk_108 (dk_at dksX11_easterOf_1 14 rfl rfl)
theorem dX11_easterOf_39 : decode cX11_easterOf 39 = .ok (.isub, 1) := dk_100 (dk_at dksX11_easterOf_1 15 rfl rfl)
theorem dX11_easterOf_40 : decode cX11_easterOf 40 = .ok (.iload 4, 2) := dk_21 4 (dk_at dksX11_easterOf_1 16 rfl rfl)
theorem dX11_easterOf_42 : decode cX11_easterOf 42 = .ok (.isub, 1) := dk_100 (dk_at dksX11_easterOf_1 18 rfl rfl)
theorem dX11_easterOf_43 : decode cX11_easterOf 43 = .ok (.bipush 15, 2) := dk_16 15 (dk_at dksX11_easterOf_1 19 rfl rfl)
theorem dX11_easterOf_45 : decode cX11_easterOf 45 = .ok (.iadd, 1) := dk_96 (dk_at dksX11_easterOf_1 21 rfl rfl)
theorem dX11_easterOf_46 : decode cX11_easterOf 46 = .ok (.bipush 30, 2) := dk_16 30 (dk_at dksX11_easterOf_1 22 rfl rfl)
theorem dX11_easterOf_48 : decode cX11_easterOf 48 = .ok (.irem, 1) := dk_112 (dk_at dksX11_easterOf_2 0 rfl rfl)
theorem dX11_easterOf_49 : decode cX11_easterOf 49 = .ok (.istore 5, 2) := dk_54 5 (dk_at dksX11_easterOf_2 1 rfl rfl)
theorem dX11_easterOf_51 : decode cX11_easterOf 51 = .ok (.bipush 32, 2) := dk_16 32 (dk_at dksX11_easterOf_2 3 rfl rfl)
theorem dX11_easterOf_53 : decode cX11_easterOf 53 = .ok (.iconst 2, 1) := dk_5 (dk_at dksX11_easterOf_2 5 rfl rfl)
theorem dX11_easterOf_54 : decode cX11_easterOf 54 = .ok (.iload_n 2, 1) := dk_28 (dk_at dksX11_easterOf_2 6 rfl rfl)
theorem dX11_easterOf_55 : decode cX11_easterOf 55 = .ok (.iconst 4, 1) := dk_7 (dk_at dksX11_easterOf_2 7 rfl rfl)
theorem dX11_easterOf_56 : decode cX11_easterOf 56 = .ok (.irem, 1) := dk_112 (dk_at dksX11_easterOf_2 8 rfl rfl)
theorem dX11_easterOf_57 : decode cX11_easterOf 57 = .ok (.imul, 1) := dk_104 (dk_at dksX11_easterOf_2 9 rfl rfl)
theorem dX11_easterOf_58 : decode cX11_easterOf 58 = .ok (.iadd, 1) := dk_96 (dk_at dksX11_easterOf_2 10 rfl rfl)
theorem dX11_easterOf_59 : decode cX11_easterOf 59 = .ok (.iconst 2, 1) := dk_5 (dk_at dksX11_easterOf_2 11 rfl rfl)
theorem dX11_easterOf_60 : decode cX11_easterOf 60 = .ok (.iload_n 3, 1) := dk_29 (dk_at dksX11_easterOf_2 12 rfl rfl)
theorem dX11_easterOf_61 : decode cX11_easterOf 61 = .ok (.iconst 4, 1) := dk_7 (dk_at dksX11_easterOf_2 13 rfl rfl)
theorem dX11_easterOf_62 : decode cX11_easterOf 62 = .ok (.idiv, 1) := dk_108 (dk_at dksX11_easterOf_2 14 rfl rfl)
theorem dX11_easterOf_63 : decode cX11_easterOf 63 = .ok (.imul, 1) := dk_104 (dk_at dksX11_easterOf_2 15 rfl rfl)
theorem dX11_easterOf_64 : decode cX11_easterOf 64 = .ok (.iadd, 1) := dk_96 (dk_at dksX11_easterOf_2 16 rfl rfl)
theorem dX11_easterOf_65 : decode cX11_easterOf 65 = .ok (.iload 5, 2) := dk_21 5 (dk_at dksX11_easterOf_2 17 rfl rfl)
theorem dX11_easterOf_67 : decode cX11_easterOf 67 = .ok (.isub, 1) := dk_100 (dk_at dksX11_easterOf_2 19 rfl rfl)
theorem dX11_easterOf_68 : decode cX11_easterOf 68 = .ok (.iload_n 3, 1) := dk_29 (dk_at dksX11_easterOf_2 20 rfl rfl)
theorem dX11_easterOf_69 : decode cX11_easterOf 69 = .ok (.iconst 4, 1) := dk_7 (dk_at dksX11_easterOf_2 21 rfl rfl)
theorem dX11_easterOf_70 : decode cX11_easterOf 70 = .ok (.irem, 1) := dk_112 (dk_at dksX11_easterOf_2 22 rfl rfl)
theorem dX11_easterOf_71 : decode cX11_easterOf 71 = .ok (.isub, 1) := dk_100 (dk_at dksX11_easterOf_2 23 rfl rfl)
theorem dX11_easterOf_72 : decode cX11_easterOf 72 = .ok (.bipush 7, 2) := dk_16 7 (dk_at dksX11_easterOf_3 0 rfl rfl)
theorem dX11_easterOf_74 : decode cX11_easterOf 74 = .ok (.irem, 1) := dk_112 (dk_at dksX11_easterOf_3 2 rfl rfl)
theorem dX11_easterOf_75 : decode cX11_easterOf 75 = .ok (.istore 6, 2) := dk_54 6 (dk_at dksX11_easterOf_3 3 rfl rfl)
theorem dX11_easterOf_77 : decode cX11_easterOf 77 = .ok (.iload_n 1, 1) := dk_27 (dk_at dksX11_easterOf_3 5 rfl rfl)
theorem dX11_easterOf_78 : decode cX11_easterOf 78 = .ok (.bipush 11, 2) := dk_16 11 (dk_at dksX11_easterOf_3 6 rfl rfl)
theorem dX11_easterOf_80 : decode cX11_easterOf 80 = .ok (.iload 5, 2) := dk_21 5 (dk_at dksX11_easterOf_3 8 rfl rfl)
theorem dX11_easterOf_82 : decode cX11_easterOf 82 = .ok (.imul, 1) := dk_104 (dk_at dksX11_easterOf_3 10 rfl rfl)
theorem dX11_easterOf_83 : decode cX11_easterOf 83 = .ok (.iadd, 1) := dk_96 (dk_at dksX11_easterOf_3 11 rfl rfl)
theorem dX11_easterOf_84 : decode cX11_easterOf 84 = .ok (.bipush 22, 2) := dk_16 22 (dk_at dksX11_easterOf_3 12 rfl rfl)
theorem dX11_easterOf_86 : decode cX11_easterOf 86 = .ok (.iload 6, 2) := dk_21 6 (dk_at dksX11_easterOf_3 14 rfl rfl)
theorem dX11_easterOf_88 : decode cX11_easterOf 88 = .ok (.imul, 1) := dk_104 (dk_at dksX11_easterOf_3 16 rfl rfl)
theorem dX11_easterOf_89 : decode cX11_easterOf 89 = .ok (.iadd, 1) := dk_96 (dk_at dksX11_easterOf_3 17 rfl rfl)
theorem dX11_easterOf_90 : decode cX11_easterOf 90 = .ok (.sipush 451, 3) := dk_17 1 195 (dk_at dksX11_easterOf_3 18 rfl rfl)
theorem dX11_easterOf_93 : decode cX11_easterOf 93 = .ok (.idiv, 1) := dk_108 (dk_at dksX11_easterOf_3 21 rfl rfl)
theorem dX11_easterOf_94 : decode cX11_easterOf 94 = .ok (.istore 7, 2) := dk_54 7 (dk_at dksX11_easterOf_3 22 rfl rfl)
theorem dX11_easterOf_96 : decode cX11_easterOf 96 = .ok (.iload 5, 2) := dk_21 5 (dk_at dksX11_easterOf_4 0 rfl rfl)
theorem dX11_easterOf_98 : decode cX11_easterOf 98 = .ok (.iload 6, 2) := dk_21 6 (dk_at dksX11_easterOf_4 2 rfl rfl)
theorem dX11_easterOf_100 : decode cX11_easterOf 100 = .ok (.iadd, 1) := dk_96 (dk_at dksX11_easterOf_4 4 rfl rfl)
theorem dX11_easterOf_101 : decode cX11_easterOf 101 = .ok (.bipush 7, 2) := dk_16 7 (dk_at dksX11_easterOf_4 5 rfl rfl)
theorem dX11_easterOf_103 : decode cX11_easterOf 103 = .ok (.iload 7, 2) := dk_21 7 (dk_at dksX11_easterOf_4 7 rfl rfl)
theorem dX11_easterOf_105 : decode cX11_easterOf 105 = .ok (.imul, 1) := dk_104 (dk_at dksX11_easterOf_4 9 rfl rfl)
theorem dX11_easterOf_106 : decode cX11_easterOf 106 = .ok (.isub, 1) := dk_100 (dk_at dksX11_easterOf_4 10 rfl rfl)
theorem dX11_easterOf_107 : decode cX11_easterOf 107 = .ok (.bipush 114, 2) := dk_16 114 (dk_at dksX11_easterOf_4 11 rfl rfl)
theorem dX11_easterOf_109 : decode cX11_easterOf 109 = .ok (.iadd, 1) := dk_96 (dk_at dksX11_easterOf_4 13 rfl rfl)
theorem dX11_easterOf_110 : decode cX11_easterOf 110 = .ok (.istore 8, 2) := dk_54 8 (dk_at dksX11_easterOf_4 14 rfl rfl)
theorem dX11_easterOf_112 : decode cX11_easterOf 112 = .ok (.iload_n 0, 1) := dk_26 (dk_at dksX11_easterOf_4 16 rfl rfl)
theorem dX11_easterOf_113 : decode cX11_easterOf 113 = .ok (.iload 8, 2) := dk_21 8 (dk_at dksX11_easterOf_4 17 rfl rfl)
theorem dX11_easterOf_115 : decode cX11_easterOf 115 = .ok (.bipush 31, 2) := dk_16 31 (dk_at dksX11_easterOf_4 19 rfl rfl)
theorem dX11_easterOf_117 : decode cX11_easterOf 117 = .ok (.idiv, 1) := dk_108 (dk_at dksX11_easterOf_4 21 rfl rfl)
theorem dX11_easterOf_118 : decode cX11_easterOf 118 = .ok (.iload 8, 2) := dk_21 8 (dk_at dksX11_easterOf_4 22 rfl rfl)
theorem dX11_easterOf_120 : decode cX11_easterOf 120 = .ok (.bipush 31, 2) := dk_16 31 (dk_at dksX11_easterOf_5 0 rfl rfl)
theorem dX11_easterOf_122 : decode cX11_easterOf 122 = .ok (.irem, 1) := dk_112 (dk_at dksX11_easterOf_5 2 rfl rfl)
theorem dX11_easterOf_123 : decode cX11_easterOf 123 = .ok (.iconst 1, 1) := dk_4 (dk_at dksX11_easterOf_5 3 rfl rfl)
theorem dX11_easterOf_124 : decode cX11_easterOf 124 = .ok (.iadd, 1) := dk_96 (dk_at dksX11_easterOf_5 4 rfl rfl)
theorem dX11_easterOf_125 : decode cX11_easterOf 125 = .ok (.invokestatic 48, 3) := dk_184 0 48 (dk_at dksX11_easterOf_5 5 rfl rfl)
theorem dX11_easterOf_128 : decode cX11_easterOf 128 = .ok (.ireturn, 1) := dk_172 (dk_at dksX11_easterOf_5 8 rfl rfl)
abbrev cX11_takePlain : ByteArray := prog_17_method_43_code
def yX11_takePlain : MethodName := ⟨RX11, "takePlain", "(I)Z"⟩
def dkwX11_takePlain_2 : List UInt8 := [162, 0, 8, 18, 42, 167, 0, 12, 27, 28, 42, 180, 0, 218, 184, 0, 48, 181, 0, 255, 4, 172]
abbrev dktX11_takePlain_2 : List UInt8 := dkwX11_takePlain_2 ++ []
def dkwX11_takePlain_1 : List UInt8 := [42, 16, 45, 182, 1, 19, 153, 0, 10, 42, 182, 0, 228, 154, 0, 5, 3, 172, 42, 27, 17, 7, 208]
abbrev dktX11_takePlain_1 : List UInt8 := dkwX11_takePlain_1 ++ dktX11_takePlain_2
def dkwX11_takePlain_0 : List UInt8 := [42, 89, 180, 0, 188, 4, 96, 181, 0, 188, 42, 182, 0, 228, 154, 0, 5, 3, 172, 42, 180, 0, 218, 61]
abbrev dktX11_takePlain_0 : List UInt8 := dkwX11_takePlain_0 ++ dktX11_takePlain_1
theorem dksX11_takePlain_0 : cX11_takePlain.data.toList.drop 0 = dktX11_takePlain_0 := by decide +kernel
theorem dksX11_takePlain_1 : cX11_takePlain.data.toList.drop 24 = dktX11_takePlain_1 := dk_seg dksX11_takePlain_0 24 rfl rfl
theorem dksX11_takePlain_2 : cX11_takePlain.data.toList.drop 47 = dktX11_takePlain_2 := dk_seg dksX11_takePlain_1 23 rfl rfl
theorem dX11_takePlain_0 : decode cX11_takePlain 0 = .ok (.aload_n 0, 1) := dk_42 (dk_at dksX11_takePlain_0 0 rfl rfl)
theorem dX11_takePlain_1 : decode cX11_takePlain 1 = .ok (.dup, 1) := dk_89 (dk_at dksX11_takePlain_0 1 rfl rfl)
theorem dX11_takePlain_2 : decode cX11_takePlain 2 = .ok (.getfield 188, 3) := dk_180 0 188 (dk_at dksX11_takePlain_0 2 rfl rfl)
theorem dX11_takePlain_5 : decode cX11_takePlain 5 = .ok (.iconst 1, 1) := dk_4 (dk_at dksX11_takePlain_0 5 rfl rfl)
theorem dX11_takePlain_6 : decode cX11_takePlain 6 = .ok (.iadd, 1) := dk_96 (dk_at dksX11_takePlain_0 6 rfl rfl)
theorem dX11_takePlain_7 : decode cX11_takePlain 7 = .ok (.putfield 188, 3) := dk_181 0 188 (dk_at dksX11_takePlain_0 7 rfl rfl)
theorem dX11_takePlain_10 : decode cX11_takePlain 10 = .ok (.aload_n 0, 1) := dk_42 (dk_at dksX11_takePlain_0 10 rfl rfl)
theorem dX11_takePlain_11 : decode cX11_takePlain 11 = .ok (.invokevirtual 228, 3) := dk_182 0 228 (dk_at dksX11_takePlain_0 11 rfl rfl)
theorem dX11_takePlain_14 : decode cX11_takePlain 14 = .ok (.ifCond .ne 5, 3) := dk_154 0 5 (dk_at dksX11_takePlain_0 14 rfl rfl)
theorem dX11_takePlain_17 : decode cX11_takePlain 17 = .ok (.iconst 0, 1) := dk_3 (dk_at dksX11_takePlain_0 17 rfl rfl)
theorem dX11_takePlain_18 : decode cX11_takePlain 18 = .ok (.ireturn, 1) := dk_172 (dk_at dksX11_takePlain_0 18 rfl rfl)
theorem dX11_takePlain_19 : decode cX11_takePlain 19 = .ok (.aload_n 0, 1) := dk_42 (dk_at dksX11_takePlain_0 19 rfl rfl)
theorem dX11_takePlain_20 : decode cX11_takePlain 20 = .ok (.getfield 218, 3) := dk_180 0 218 (dk_at dksX11_takePlain_0 20 rfl rfl)
theorem dX11_takePlain_23 : decode cX11_takePlain 23 = .ok (.istore_n 2, 1) := dk_61 (dk_at dksX11_takePlain_0 23 rfl rfl)
theorem dX11_takePlain_24 : decode cX11_takePlain 24 = .ok (.aload_n 0, 1) := dk_42 (dk_at dksX11_takePlain_1 0 rfl rfl)
theorem dX11_takePlain_25 : decode cX11_takePlain 25 = .ok (.bipush 45, 2) := dk_16 45 (dk_at dksX11_takePlain_1 1 rfl rfl)
theorem dX11_takePlain_27 : decode cX11_takePlain 27 = .ok (.invokevirtual 275, 3) := dk_182 1 19 (dk_at dksX11_takePlain_1 3 rfl rfl)
theorem dX11_takePlain_30 : decode cX11_takePlain 30 = .ok (.ifCond .eq 10, 3) := dk_153 0 10 (dk_at dksX11_takePlain_1 6 rfl rfl)
theorem dX11_takePlain_33 : decode cX11_takePlain 33 = .ok (.aload_n 0, 1) := dk_42 (dk_at dksX11_takePlain_1 9 rfl rfl)
theorem dX11_takePlain_34 : decode cX11_takePlain 34 = .ok (.invokevirtual 228, 3) := dk_182 0 228 (dk_at dksX11_takePlain_1 10 rfl rfl)
theorem dX11_takePlain_37 : decode cX11_takePlain 37 = .ok (.ifCond .ne 5, 3) := dk_154 0 5 (dk_at dksX11_takePlain_1 13 rfl rfl)
theorem dX11_takePlain_40 : decode cX11_takePlain 40 = .ok (.iconst 0, 1) := dk_3 (dk_at dksX11_takePlain_1 16 rfl rfl)
theorem dX11_takePlain_41 : decode cX11_takePlain 41 = .ok (.ireturn, 1) := dk_172 (dk_at dksX11_takePlain_1 17 rfl rfl)
theorem dX11_takePlain_42 : decode cX11_takePlain 42 = .ok (.aload_n 0, 1) := dk_42 (dk_at dksX11_takePlain_1 18 rfl rfl)
theorem dX11_takePlain_43 : decode cX11_takePlain 43 = .ok (.iload_n 1, 1) := dk_27 (dk_at dksX11_takePlain_1 19 rfl rfl)
theorem dX11_takePlain_44 : decode cX11_takePlain 44 = .ok (.sipush 2000, 3) := dk_17 7 208 (dk_at dksX11_takePlain_1 20 rfl rfl)
theorem dX11_takePlain_47 : decode cX11_takePlain 47 = .ok (.if_icmp .ge 8, 3) := dk_162 0 8 (dk_at dksX11_takePlain_2 0 rfl rfl)
theorem dX11_takePlain_50 : decode cX11_takePlain 50 = .ok (.ldc 42, 2) := dk_18 42 (dk_at dksX11_takePlain_2 3 rfl rfl)
theorem dX11_takePlain_52 : decode cX11_takePlain 52 = .ok (.goto 12, 3) := dk_167 0 12 (dk_at dksX11_takePlain_2 5 rfl rfl)
theorem dX11_takePlain_55 : decode cX11_takePlain 55 = .ok (.iload_n 1, 1) := dk_27 (dk_at dksX11_takePlain_2 8 rfl rfl)
theorem dX11_takePlain_56 : decode cX11_takePlain 56 = .ok (.iload_n 2, 1) := dk_28 (dk_at dksX11_takePlain_2 9 rfl rfl)
theorem dX11_takePlain_57 : decode cX11_takePlain 57 = .ok (.aload_n 0, 1) := dk_42 (dk_at dksX11_takePlain_2 10 rfl rfl)
theorem dX11_takePlain_58 : decode cX11_takePlain 58 = .ok (.getfield 218, 3) := dk_180 0 218 (dk_at dksX11_takePlain_2 11 rfl rfl)
theorem dX11_takePlain_61 : decode cX11_takePlain 61 = .ok (.invokestatic 48, 3) := dk_184 0 48 (dk_at dksX11_takePlain_2 14 rfl rfl)
theorem dX11_takePlain_64 : decode cX11_takePlain 64 = .ok (.putfield 255, 3) := dk_181 0 255 (dk_at dksX11_takePlain_2 17 rfl rfl)
theorem dX11_takePlain_67 : decode cX11_takePlain 67 = .ok (.iconst 1, 1) := dk_4 (dk_at dksX11_takePlain_2 20 rfl rfl)
theorem dX11_takePlain_68 : decode cX11_takePlain 68 = .ok (.ireturn, 1) := dk_172 (dk_at dksX11_takePlain_2 21 rfl rfl)
abbrev cX11_takeWeekday : ByteArray := prog_17_method_41_code
def yX11_takeWeekday : MethodName := ⟨RX11, "takeWeekday", "()I"⟩
def dkwX11_takeWeekday_1 : List UInt8 := [167, 255, 234, 2, 172]
abbrev dktX11_takeWeekday_1 : List UInt8 := dkwX11_takeWeekday_1 ++ []
def dkwX11_takeWeekday_0 : List UInt8 := [3, 60, 27, 16, 7, 162, 0, 22, 42, 27, 184, 0, 245, 182, 0, 249, 153, 0, 5, 27, 172, 132, 1, 1]
abbrev dktX11_takeWeekday_0 : List UInt8 := dkwX11_takeWeekday_0 ++ dktX11_takeWeekday_1
theorem dksX11_takeWeekday_0 : cX11_takeWeekday.data.toList.drop 0 = dktX11_takeWeekday_0 := by decide +kernel
theorem dksX11_takeWeekday_1 : cX11_takeWeekday.data.toList.drop 24 = dktX11_takeWeekday_1 := dk_seg dksX11_takeWeekday_0 24 rfl rfl
theorem dX11_takeWeekday_0 : decode cX11_takeWeekday 0 = .ok (.iconst 0, 1) := dk_3 (dk_at dksX11_takeWeekday_0 0 rfl rfl)
theorem dX11_takeWeekday_1 : decode cX11_takeWeekday 1 = .ok (.istore_n 1, 1) := dk_60 (dk_at dksX11_takeWeekday_0 1 rfl rfl)
theorem dX11_takeWeekday_2 : decode cX11_takeWeekday 2 = .ok (.iload_n 1, 1) := dk_27 (dk_at dksX11_takeWeekday_0 2 rfl rfl)
theorem dX11_takeWeekday_3 : decode cX11_takeWeekday 3 = .ok (.bipush 7, 2) := dk_16 7 (dk_at dksX11_takeWeekday_0 3 rfl rfl)
theorem dX11_takeWeekday_5 : decode cX11_takeWeekday 5 = .ok (.if_icmp .ge 22, 3) := dk_162 0 22 (dk_at dksX11_takeWeekday_0 5 rfl rfl)
theorem dX11_takeWeekday_8 : decode cX11_takeWeekday 8 = .ok (.aload_n 0, 1) := dk_42 (dk_at dksX11_takeWeekday_0 8 rfl rfl)
theorem dX11_takeWeekday_9 : decode cX11_takeWeekday 9 = .ok (.iload_n 1, 1) := dk_27 (dk_at dksX11_takeWeekday_0 9 rfl rfl)
theorem dX11_takeWeekday_10 : decode cX11_takeWeekday 10 = .ok (.invokestatic 245, 3) := dk_184 0 245 (dk_at dksX11_takeWeekday_0 10 rfl rfl)
theorem dX11_takeWeekday_13 : decode cX11_takeWeekday 13 = .ok (.invokevirtual 249, 3) := dk_182 0 249 (dk_at dksX11_takeWeekday_0 13 rfl rfl)
theorem dX11_takeWeekday_16 : decode cX11_takeWeekday 16 = .ok (.ifCond .eq 5, 3) := dk_153 0 5 (dk_at dksX11_takeWeekday_0 16 rfl rfl)
theorem dX11_takeWeekday_19 : decode cX11_takeWeekday 19 = .ok (.iload_n 1, 1) := dk_27 (dk_at dksX11_takeWeekday_0 19 rfl rfl)
theorem dX11_takeWeekday_20 : decode cX11_takeWeekday 20 = .ok (.ireturn, 1) := dk_172 (dk_at dksX11_takeWeekday_0 20 rfl rfl)
theorem dX11_takeWeekday_21 : decode cX11_takeWeekday 21 = .ok (.iinc 1 1, 3) := dk_132 1 1 (dk_at dksX11_takeWeekday_0 21 rfl rfl)
theorem dX11_takeWeekday_24 : decode cX11_takeWeekday 24 = .ok (.goto (-22), 3) := dk_167 255 234 (dk_at dksX11_takeWeekday_1 0 rfl rfl)
theorem dX11_takeWeekday_27 : decode cX11_takeWeekday 27 = .ok (.iconst (-1), 1) := dk_2 (dk_at dksX11_takeWeekday_1 3 rfl rfl)
theorem dX11_takeWeekday_28 : decode cX11_takeWeekday 28 = .ok (.ireturn, 1) := dk_172 (dk_at dksX11_takeWeekday_1 4 rfl rfl)
abbrev cX11_weekdayName : ByteArray := prog_17_method_40_code
def yX11_weekdayName : MethodName := ⟨RX11, "weekdayName", "(I)Ljava/lang/String;"⟩
def dkwX11_weekdayName_2 : List UInt8 := [167, 0, 15, 26, 8, 160, 0, 8, 18, 241, 167, 0, 5, 18, 243, 176]
abbrev dktX11_weekdayName_2 : List UInt8 := dkwX11_weekdayName_2 ++ []
def dkwX11_weekdayName_1 : List UInt8 := [18, 235, 167, 0, 35, 26, 6, 160, 0, 8, 18, 237, 167, 0, 25, 26, 7, 160, 0, 8, 18, 239]
abbrev dktX11_weekdayName_1 : List UInt8 := dkwX11_weekdayName_1 ++ dktX11_weekdayName_2
def dkwX11_weekdayName_0 : List UInt8 := [26, 154, 0, 8, 18, 231, 167, 0, 55, 26, 4, 160, 0, 8, 18, 233, 167, 0, 45, 26, 5, 160, 0, 8]
abbrev dktX11_weekdayName_0 : List UInt8 := dkwX11_weekdayName_0 ++ dktX11_weekdayName_1
theorem dksX11_weekdayName_0 : cX11_weekdayName.data.toList.drop 0 = dktX11_weekdayName_0 := by decide +kernel
theorem dksX11_weekdayName_1 : cX11_weekdayName.data.toList.drop 24 = dktX11_weekdayName_1 := dk_seg dksX11_weekdayName_0 24 rfl rfl
theorem dksX11_weekdayName_2 : cX11_weekdayName.data.toList.drop 46 = dktX11_weekdayName_2 := dk_seg dksX11_weekdayName_1 22 rfl rfl
theorem dX11_weekdayName_0 : decode cX11_weekdayName 0 = .ok (.iload_n 0, 1) := dk_26 (dk_at dksX11_weekdayName_0 0 rfl rfl)
theorem dX11_weekdayName_1 : decode cX11_weekdayName 1 = .ok (.ifCond .ne 8, 3) := dk_154 0 8 (dk_at dksX11_weekdayName_0 1 rfl rfl)
theorem dX11_weekdayName_4 : decode cX11_weekdayName 4 = .ok (.ldc 231, 2) := dk_18 231 (dk_at dksX11_weekdayName_0 4 rfl rfl)
theorem dX11_weekdayName_6 : decode cX11_weekdayName 6 = .ok (.goto 55, 3) := dk_167 0 55 (dk_at dksX11_weekdayName_0 6 rfl rfl)
theorem dX11_weekdayName_9 : decode cX11_weekdayName 9 = .ok (.iload_n 0, 1) := dk_26 (dk_at dksX11_weekdayName_0 9 rfl rfl)
theorem dX11_weekdayName_10 : decode cX11_weekdayName 10 = .ok (.iconst 1, 1) := dk_4 (dk_at dksX11_weekdayName_0 10 rfl rfl)
theorem dX11_weekdayName_11 : decode cX11_weekdayName 11 = .ok (.if_icmp .ne 8, 3) := dk_160 0 8 (dk_at dksX11_weekdayName_0 11 rfl rfl)
theorem dX11_weekdayName_14 : decode cX11_weekdayName 14 = .ok (.ldc 233, 2) := dk_18 233 (dk_at dksX11_weekdayName_0 14 rfl rfl)
theorem dX11_weekdayName_16 : decode cX11_weekdayName 16 = .ok (.goto 45, 3) := dk_167 0 45 (dk_at dksX11_weekdayName_0 16 rfl rfl)
theorem dX11_weekdayName_19 : decode cX11_weekdayName 19 = .ok (.iload_n 0, 1) := dk_26 (dk_at dksX11_weekdayName_0 19 rfl rfl)
theorem dX11_weekdayName_20 : decode cX11_weekdayName 20 = .ok (.iconst 2, 1) := dk_5 (dk_at dksX11_weekdayName_0 20 rfl rfl)
theorem dX11_weekdayName_21 : decode cX11_weekdayName 21 = .ok (.if_icmp .ne 8, 3) := dk_160 0 8 (dk_at dksX11_weekdayName_0 21 rfl rfl)
theorem dX11_weekdayName_24 : decode cX11_weekdayName 24 = .ok (.ldc 235, 2) := dk_18 235 (dk_at dksX11_weekdayName_1 0 rfl rfl)
theorem dX11_weekdayName_26 : decode cX11_weekdayName 26 = .ok (.goto 35, 3) := dk_167 0 35 (dk_at dksX11_weekdayName_1 2 rfl rfl)
theorem dX11_weekdayName_29 : decode cX11_weekdayName 29 = .ok (.iload_n 0, 1) := dk_26 (dk_at dksX11_weekdayName_1 5 rfl rfl)
theorem dX11_weekdayName_30 : decode cX11_weekdayName 30 = .ok (.iconst 3, 1) := dk_6 (dk_at dksX11_weekdayName_1 6 rfl rfl)
theorem dX11_weekdayName_31 : decode cX11_weekdayName 31 = .ok (.if_icmp .ne 8, 3) := dk_160 0 8 (dk_at dksX11_weekdayName_1 7 rfl rfl)
theorem dX11_weekdayName_34 : decode cX11_weekdayName 34 = .ok (.ldc 237, 2) := dk_18 237 (dk_at dksX11_weekdayName_1 10 rfl rfl)
theorem dX11_weekdayName_36 : decode cX11_weekdayName 36 = .ok (.goto 25, 3) := dk_167 0 25 (dk_at dksX11_weekdayName_1 12 rfl rfl)
theorem dX11_weekdayName_39 : decode cX11_weekdayName 39 = .ok (.iload_n 0, 1) := dk_26 (dk_at dksX11_weekdayName_1 15 rfl rfl)
theorem dX11_weekdayName_40 : decode cX11_weekdayName 40 = .ok (.iconst 4, 1) := dk_7 (dk_at dksX11_weekdayName_1 16 rfl rfl)
theorem dX11_weekdayName_41 : decode cX11_weekdayName 41 = .ok (.if_icmp .ne 8, 3) := dk_160 0 8 (dk_at dksX11_weekdayName_1 17 rfl rfl)
theorem dX11_weekdayName_44 : decode cX11_weekdayName 44 = .ok (.ldc 239, 2) := dk_18 239 (dk_at dksX11_weekdayName_1 20 rfl rfl)
theorem dX11_weekdayName_46 : decode cX11_weekdayName 46 = .ok (.goto 15, 3) := dk_167 0 15 (dk_at dksX11_weekdayName_2 0 rfl rfl)
theorem dX11_weekdayName_49 : decode cX11_weekdayName 49 = .ok (.iload_n 0, 1) := dk_26 (dk_at dksX11_weekdayName_2 3 rfl rfl)
theorem dX11_weekdayName_50 : decode cX11_weekdayName 50 = .ok (.iconst 5, 1) := dk_8 (dk_at dksX11_weekdayName_2 4 rfl rfl)
theorem dX11_weekdayName_51 : decode cX11_weekdayName 51 = .ok (.if_icmp .ne 8, 3) := dk_160 0 8 (dk_at dksX11_weekdayName_2 5 rfl rfl)
theorem dX11_weekdayName_54 : decode cX11_weekdayName 54 = .ok (.ldc 241, 2) := dk_18 241 (dk_at dksX11_weekdayName_2 8 rfl rfl)
theorem dX11_weekdayName_56 : decode cX11_weekdayName 56 = .ok (.goto 5, 3) := dk_167 0 5 (dk_at dksX11_weekdayName_2 10 rfl rfl)
theorem dX11_weekdayName_59 : decode cX11_weekdayName 59 = .ok (.ldc 243, 2) := dk_18 243 (dk_at dksX11_weekdayName_2 13 rfl rfl)
theorem dX11_weekdayName_61 : decode cX11_weekdayName 61 = .ok (.areturn, 1) := dk_176 (dk_at dksX11_weekdayName_2 15 rfl rfl)
abbrev cX11_nthOf : ByteArray := prog_17_method_11_code
def yX11_nthOf : MethodName := ⟨RX11, "nthOf", "(IIII)I"⟩
def dkwX11_nthOf_4 : List UInt8 := [160, 0, 8, 21, 7, 167, 0, 5, 21, 4, 54, 4, 132, 6, 1, 167, 255, 198, 21, 4, 172]
abbrev dktX11_nthOf_4 : List UInt8 := dkwX11_nthOf_4 ++ []
def dkwX11_nthOf_3 : List UInt8 := [21, 7, 184, 0, 56, 27, 159, 0, 6, 167, 0, 27, 132, 5, 1, 26, 16, 6, 159, 0, 9, 21, 5, 26]
abbrev dktX11_nthOf_3 : List UInt8 := dkwX11_nthOf_3 ++ dktX11_nthOf_4
def dkwX11_nthOf_2 : List UInt8 := [54, 5, 4, 54, 6, 21, 6, 28, 29, 184, 0, 38, 163, 0, 54, 28, 29, 21, 6, 184, 0, 48, 54, 7]
abbrev dktX11_nthOf_2 : List UInt8 := dkwX11_nthOf_2 ++ dktX11_nthOf_3
def dkwX11_nthOf_1 : List UInt8 := [153, 0, 15, 26, 133, 10, 20, 0, 54, 184, 0, 13, 154, 0, 6, 18, 42, 172, 18, 42, 54, 4, 3]
abbrev dktX11_nthOf_1 : List UInt8 := dkwX11_nthOf_1 ++ dktX11_nthOf_2
def dkwX11_nthOf_0 : List UInt8 := [28, 133, 20, 0, 52, 20, 0, 34, 184, 0, 13, 153, 0, 27, 29, 133, 10, 20, 0, 36, 184, 0, 13]
abbrev dktX11_nthOf_0 : List UInt8 := dkwX11_nthOf_0 ++ dktX11_nthOf_1
theorem dksX11_nthOf_0 : cX11_nthOf.data.toList.drop 0 = dktX11_nthOf_0 := by decide +kernel
theorem dksX11_nthOf_1 : cX11_nthOf.data.toList.drop 23 = dktX11_nthOf_1 := dk_seg dksX11_nthOf_0 23 rfl rfl
theorem dksX11_nthOf_2 : cX11_nthOf.data.toList.drop 46 = dktX11_nthOf_2 := dk_seg dksX11_nthOf_1 23 rfl rfl
theorem dksX11_nthOf_3 : cX11_nthOf.data.toList.drop 70 = dktX11_nthOf_3 := dk_seg dksX11_nthOf_2 24 rfl rfl
theorem dksX11_nthOf_4 : cX11_nthOf.data.toList.drop 94 = dktX11_nthOf_4 := dk_seg dksX11_nthOf_3 24 rfl rfl
theorem dX11_nthOf_0 : decode cX11_nthOf 0 = .ok (.iload_n 2, 1) := dk_28 (dk_at dksX11_nthOf_0 0 rfl rfl)
theorem dX11_nthOf_1 : decode cX11_nthOf 1 = .ok (.i2l, 1) := dk_133 (dk_at dksX11_nthOf_0 1 rfl rfl)
theorem dX11_nthOf_2 : decode cX11_nthOf 2 = .ok (.ldc2_w 52, 3) := dk_20 0 52 (dk_at dksX11_nthOf_0 2 rfl rfl)
theorem dX11_nthOf_5 : decode cX11_nthOf 5 = .ok (.ldc2_w 34, 3) := dk_20 0 34 (dk_at dksX11_nthOf_0 5 rfl rfl)
theorem dX11_nthOf_8 : decode cX11_nthOf 8 = .ok (.invokestatic 13, 3) := dk_184 0 13 (dk_at dksX11_nthOf_0 8 rfl rfl)
theorem dX11_nthOf_11 : decode cX11_nthOf 11 = .ok (.ifCond .eq 27, 3) := dk_153 0 27 (dk_at dksX11_nthOf_0 11 rfl rfl)
theorem dX11_nthOf_14 : decode cX11_nthOf 14 = .ok (.iload_n 3, 1) := dk_29 (dk_at dksX11_nthOf_0 14 rfl rfl)
theorem dX11_nthOf_15 : decode cX11_nthOf 15 = .ok (.i2l, 1) := dk_133 (dk_at dksX11_nthOf_0 15 rfl rfl)
theorem dX11_nthOf_16 : decode cX11_nthOf 16 = .ok (.lconst 1, 1) := dk_10 (dk_at dksX11_nthOf_0 16 rfl rfl)
theorem dX11_nthOf_17 : decode cX11_nthOf 17 = .ok (.ldc2_w 36, 3) := dk_20 0 36 (dk_at dksX11_nthOf_0 17 rfl rfl)
theorem dX11_nthOf_20 : decode cX11_nthOf 20 = .ok (.invokestatic 13, 3) := dk_184 0 13 (dk_at dksX11_nthOf_0 20 rfl rfl)
theorem dX11_nthOf_23 : decode cX11_nthOf 23 = .ok (.ifCond .eq 15, 3) := dk_153 0 15 (dk_at dksX11_nthOf_1 0 rfl rfl)
theorem dX11_nthOf_26 : decode cX11_nthOf 26 = .ok (.iload_n 0, 1) := dk_26 (dk_at dksX11_nthOf_1 3 rfl rfl)
theorem dX11_nthOf_27 : decode cX11_nthOf 27 = .ok (.i2l, 1) := dk_133 (dk_at dksX11_nthOf_1 4 rfl rfl)
theorem dX11_nthOf_28 : decode cX11_nthOf 28 = .ok (.lconst 1, 1) := dk_10 (dk_at dksX11_nthOf_1 5 rfl rfl)
theorem dX11_nthOf_29 : decode cX11_nthOf 29 = .ok (.ldc2_w 54, 3) := dk_20 0 54 (dk_at dksX11_nthOf_1 6 rfl rfl)
theorem dX11_nthOf_32 : decode cX11_nthOf 32 = .ok (.invokestatic 13, 3) := dk_184 0 13 (dk_at dksX11_nthOf_1 9 rfl rfl)
theorem dX11_nthOf_35 : decode cX11_nthOf 35 = .ok (.ifCond .ne 6, 3) := dk_154 0 6 (dk_at dksX11_nthOf_1 12 rfl rfl)
theorem dX11_nthOf_38 : decode cX11_nthOf 38 = .ok (.ldc 42, 2) := dk_18 42 (dk_at dksX11_nthOf_1 15 rfl rfl)
theorem dX11_nthOf_40 : decode cX11_nthOf 40 = .ok (.ireturn, 1) := dk_172 (dk_at dksX11_nthOf_1 17 rfl rfl)
theorem dX11_nthOf_41 : decode cX11_nthOf 41 = .ok (.ldc 42, 2) := dk_18 42 (dk_at dksX11_nthOf_1 18 rfl rfl)
theorem dX11_nthOf_43 : decode cX11_nthOf 43 = .ok (.istore 4, 2) := dk_54 4 (dk_at dksX11_nthOf_1 20 rfl rfl)
theorem dX11_nthOf_45 : decode cX11_nthOf 45 = .ok (.iconst 0, 1) := dk_3 (dk_at dksX11_nthOf_1 22 rfl rfl)
theorem dX11_nthOf_46 : decode cX11_nthOf 46 = .ok (.istore 5, 2) := dk_54 5 (dk_at dksX11_nthOf_2 0 rfl rfl)
theorem dX11_nthOf_48 : decode cX11_nthOf 48 = .ok (.iconst 1, 1) := dk_4 (dk_at dksX11_nthOf_2 2 rfl rfl)
theorem dX11_nthOf_49 : decode cX11_nthOf 49 = .ok (.istore 6, 2) := dk_54 6 (dk_at dksX11_nthOf_2 3 rfl rfl)
theorem dX11_nthOf_51 : decode cX11_nthOf 51 = .ok (.iload 6, 2) := dk_21 6 (dk_at dksX11_nthOf_2 5 rfl rfl)
theorem dX11_nthOf_53 : decode cX11_nthOf 53 = .ok (.iload_n 2, 1) := dk_28 (dk_at dksX11_nthOf_2 7 rfl rfl)
theorem dX11_nthOf_54 : decode cX11_nthOf 54 = .ok (.iload_n 3, 1) := dk_29 (dk_at dksX11_nthOf_2 8 rfl rfl)
theorem dX11_nthOf_55 : decode cX11_nthOf 55 = .ok (.invokestatic 38, 3) := dk_184 0 38 (dk_at dksX11_nthOf_2 9 rfl rfl)
theorem dX11_nthOf_58 : decode cX11_nthOf 58 = .ok (.if_icmp .gt 54, 3) := dk_163 0 54 (dk_at dksX11_nthOf_2 12 rfl rfl)
theorem dX11_nthOf_61 : decode cX11_nthOf 61 = .ok (.iload_n 2, 1) := dk_28 (dk_at dksX11_nthOf_2 15 rfl rfl)
theorem dX11_nthOf_62 : decode cX11_nthOf 62 = .ok (.iload_n 3, 1) := dk_29 (dk_at dksX11_nthOf_2 16 rfl rfl)
theorem dX11_nthOf_63 : decode cX11_nthOf 63 = .ok (.iload 6, 2) := dk_21 6 (dk_at dksX11_nthOf_2 17 rfl rfl)
theorem dX11_nthOf_65 : decode cX11_nthOf 65 = .ok (.invokestatic 48, 3) := dk_184 0 48 (dk_at dksX11_nthOf_2 19 rfl rfl)
theorem dX11_nthOf_68 : decode cX11_nthOf 68 = .ok (.istore 7, 2) := dk_54 7 (dk_at dksX11_nthOf_2 22 rfl rfl)
theorem dX11_nthOf_70 : decode cX11_nthOf 70 = .ok (.iload 7, 2) := dk_21 7 (dk_at dksX11_nthOf_3 0 rfl rfl)
theorem dX11_nthOf_72 : decode cX11_nthOf 72 = .ok (.invokestatic 56, 3) := dk_184 0 56 (dk_at dksX11_nthOf_3 2 rfl rfl)
theorem dX11_nthOf_75 : decode cX11_nthOf 75 = .ok (.iload_n 1, 1) := dk_27 (dk_at dksX11_nthOf_3 5 rfl rfl)
theorem dX11_nthOf_76 : decode cX11_nthOf 76 = .ok (.if_icmp .eq 6, 3) := dk_159 0 6 (dk_at dksX11_nthOf_3 6 rfl rfl)
theorem dX11_nthOf_79 : decode cX11_nthOf 79 = .ok (.goto 27, 3) := dk_167 0 27 (dk_at dksX11_nthOf_3 9 rfl rfl)
theorem dX11_nthOf_82 : decode cX11_nthOf 82 = .ok (.iinc 5 1, 3) := dk_132 5 1 (dk_at dksX11_nthOf_3 12 rfl rfl)
theorem dX11_nthOf_85 : decode cX11_nthOf 85 = .ok (.iload_n 0, 1) := dk_26 (dk_at dksX11_nthOf_3 15 rfl rfl)
theorem dX11_nthOf_86 : decode cX11_nthOf 86 = .ok (.bipush 6, 2) := dk_16 6 (dk_at dksX11_nthOf_3 16 rfl rfl)
theorem dX11_nthOf_88 : decode cX11_nthOf 88 = .ok (.if_icmp .eq 9, 3) := dk_159 0 9 (dk_at dksX11_nthOf_3 18 rfl rfl)
theorem dX11_nthOf_91 : decode cX11_nthOf 91 = .ok (.iload 5, 2) := dk_21 5 (dk_at dksX11_nthOf_3 21 rfl rfl)
theorem dX11_nthOf_93 : decode cX11_nthOf 93 = .ok (.iload_n 0, 1) := dk_26 (dk_at dksX11_nthOf_3 23 rfl rfl)
theorem dX11_nthOf_94 : decode cX11_nthOf 94 = .ok (.if_icmp .ne 8, 3) := dk_160 0 8 (dk_at dksX11_nthOf_4 0 rfl rfl)
theorem dX11_nthOf_97 : decode cX11_nthOf 97 = .ok (.iload 7, 2) := dk_21 7 (dk_at dksX11_nthOf_4 3 rfl rfl)
theorem dX11_nthOf_99 : decode cX11_nthOf 99 = .ok (.goto 5, 3) := dk_167 0 5 (dk_at dksX11_nthOf_4 5 rfl rfl)
theorem dX11_nthOf_102 : decode cX11_nthOf 102 = .ok (.iload 4, 2) := dk_21 4 (dk_at dksX11_nthOf_4 8 rfl rfl)
theorem dX11_nthOf_104 : decode cX11_nthOf 104 = .ok (.istore 4, 2) := dk_54 4 (dk_at dksX11_nthOf_4 10 rfl rfl)
theorem dX11_nthOf_106 : decode cX11_nthOf 106 = .ok (.iinc 6 1, 3) := dk_132 6 1 (dk_at dksX11_nthOf_4 12 rfl rfl)
theorem dX11_nthOf_109 : decode cX11_nthOf 109 = .ok (.goto (-58), 3) := dk_167 255 198 (dk_at dksX11_nthOf_4 15 rfl rfl)
theorem dX11_nthOf_112 : decode cX11_nthOf 112 = .ok (.iload 4, 2) := dk_21 4 (dk_at dksX11_nthOf_4 18 rfl rfl)
theorem dX11_nthOf_114 : decode cX11_nthOf 114 = .ok (.ireturn, 1) := dk_172 (dk_at dksX11_nthOf_4 20 rfl rfl)
abbrev cX11_weekdayOf : ByteArray := prog_17_method_9_code
def yX11_weekdayOf : MethodName := ⟨RX11, "weekdayOf", "(I)I"⟩
def dkwX11_weekdayOf_0 : List UInt8 := [26, 8, 96, 16, 7, 184, 0, 43, 172]
abbrev dktX11_weekdayOf_0 : List UInt8 := dkwX11_weekdayOf_0 ++ []
theorem dksX11_weekdayOf_0 : cX11_weekdayOf.data.toList.drop 0 = dktX11_weekdayOf_0 := by decide +kernel
theorem dX11_weekdayOf_0 : decode cX11_weekdayOf 0 = .ok (.iload_n 0, 1) := dk_26 (dk_at dksX11_weekdayOf_0 0 rfl rfl)
theorem dX11_weekdayOf_1 : decode cX11_weekdayOf 1 = .ok (.iconst 5, 1) := dk_8 (dk_at dksX11_weekdayOf_0 1 rfl rfl)
theorem dX11_weekdayOf_2 : decode cX11_weekdayOf 2 = .ok (.iadd, 1) := dk_96 (dk_at dksX11_weekdayOf_0 2 rfl rfl)
theorem dX11_weekdayOf_3 : decode cX11_weekdayOf 3 = .ok (.bipush 7, 2) := dk_16 7 (dk_at dksX11_weekdayOf_0 3 rfl rfl)
theorem dX11_weekdayOf_5 : decode cX11_weekdayOf 5 = .ok (.invokestatic 43, 3) := dk_184 0 43 (dk_at dksX11_weekdayOf_0 5 rfl rfl)
theorem dX11_weekdayOf_8 : decode cX11_weekdayOf 8 = .ok (.ireturn, 1) := dk_172 (dk_at dksX11_weekdayOf_0 8 rfl rfl)
abbrev cX11_takeCondition : ByteArray := prog_17_method_49_code
def yX11_takeCondition : MethodName := ⟨RX11, "takeCondition", "(I)Z"⟩
def dkwX11_takeCondition_8 : List UInt8 := [167, 0, 5, 16, 251, 182, 1, 69, 42, 89, 180, 0, 188, 4, 96, 181, 0, 188, 167, 255, 65]
abbrev dktX11_takeCondition_8 : List UInt8 := dkwX11_takeCondition_8 ++ []
def dkwX11_takeCondition_7 : List UInt8 := [153, 0, 10, 42, 182, 0, 210, 153, 0, 7, 4, 167, 0, 4, 3, 172, 42, 27, 29, 153, 0, 8, 16, 252]
abbrev dktX11_takeCondition_7 : List UInt8 := dkwX11_takeCondition_7 ++ dktX11_takeCondition_8
def dkwX11_takeCondition_6 : List UInt8 := [19, 1, 78, 182, 0, 214, 62, 29, 154, 0, 30, 42, 19, 1, 80, 182, 0, 214, 154, 0, 20, 28]
abbrev dktX11_takeCondition_6 : List UInt8 := dkwX11_takeCondition_6 ++ dktX11_takeCondition_7
def dkwX11_takeCondition_5 : List UInt8 := [16, 253, 182, 1, 69, 132, 2, 255, 42, 89, 180, 0, 188, 4, 96, 181, 0, 188, 167, 255, 223, 42]
abbrev dktX11_takeCondition_5 : List UInt8 := dkwX11_takeCondition_5 ++ dktX11_takeCondition_6
def dkwX11_takeCondition_4 : List UInt8 := [27, 182, 1, 75, 154, 0, 5, 3, 172, 28, 158, 0, 35, 42, 16, 41, 182, 0, 207, 153, 0, 26, 42, 27]
abbrev dktX11_takeCondition_4 : List UInt8 := dkwX11_takeCondition_4 ++ dktX11_takeCondition_5
def dkwX11_takeCondition_3 : List UInt8 := [182, 0, 224, 42, 27, 16, 254, 182, 1, 69, 42, 89, 180, 0, 188, 4, 96, 181, 0, 188, 167, 255, 179, 42]
abbrev dktX11_takeCondition_3 : List UInt8 := dkwX11_takeCondition_3 ++ dktX11_takeCondition_4
def dkwX11_takeCondition_2 : List UInt8 := [153, 0, 45, 132, 2, 1, 28, 16, 30, 164, 0, 16, 42, 42, 180, 0, 161, 42, 180, 0, 188, 46]
abbrev dktX11_takeCondition_2 : List UInt8 := dkwX11_takeCondition_2 ++ dktX11_takeCondition_3
def dkwX11_takeCondition_1 : List UInt8 := [182, 1, 69, 42, 89, 180, 0, 188, 4, 96, 181, 0, 188, 167, 255, 230, 42, 16, 40, 182, 0, 207]
abbrev dktX11_takeCondition_1 : List UInt8 := dkwX11_takeCondition_1 ++ dktX11_takeCondition_2
def dkwX11_takeCondition_0 : List UInt8 := [3, 61, 42, 180, 1, 34, 27, 3, 79, 42, 19, 1, 73, 182, 0, 214, 153, 0, 22, 42, 27, 2]
abbrev dktX11_takeCondition_0 : List UInt8 := dkwX11_takeCondition_0 ++ dktX11_takeCondition_1
theorem dksX11_takeCondition_0 : cX11_takeCondition.data.toList.drop 0 = dktX11_takeCondition_0 := by decide +kernel
theorem dksX11_takeCondition_1 : cX11_takeCondition.data.toList.drop 22 = dktX11_takeCondition_1 := dk_seg dksX11_takeCondition_0 22 rfl rfl
theorem dksX11_takeCondition_2 : cX11_takeCondition.data.toList.drop 44 = dktX11_takeCondition_2 := dk_seg dksX11_takeCondition_1 22 rfl rfl
theorem dksX11_takeCondition_3 : cX11_takeCondition.data.toList.drop 66 = dktX11_takeCondition_3 := dk_seg dksX11_takeCondition_2 22 rfl rfl
theorem dksX11_takeCondition_4 : cX11_takeCondition.data.toList.drop 90 = dktX11_takeCondition_4 := dk_seg dksX11_takeCondition_3 24 rfl rfl
theorem dksX11_takeCondition_5 : cX11_takeCondition.data.toList.drop 114 = dktX11_takeCondition_5 := dk_seg dksX11_takeCondition_4 24 rfl rfl
theorem dksX11_takeCondition_6 : cX11_takeCondition.data.toList.drop 136 = dktX11_takeCondition_6 := dk_seg dksX11_takeCondition_5 22 rfl rfl
theorem dksX11_takeCondition_7 : cX11_takeCondition.data.toList.drop 158 = dktX11_takeCondition_7 := dk_seg dksX11_takeCondition_6 22 rfl rfl
theorem dksX11_takeCondition_8 : cX11_takeCondition.data.toList.drop 182 = dktX11_takeCondition_8 := dk_seg dksX11_takeCondition_7 24 rfl rfl
theorem dX11_takeCondition_0 : decode cX11_takeCondition 0 = .ok (.iconst 0, 1) := dk_3 (dk_at dksX11_takeCondition_0 0 rfl rfl)
theorem dX11_takeCondition_1 : decode cX11_takeCondition 1 = .ok (.istore_n 2, 1) := dk_61 (dk_at dksX11_takeCondition_0 1 rfl rfl)
theorem dX11_takeCondition_2 : decode cX11_takeCondition 2 = .ok (.aload_n 0, 1) := dk_42 (dk_at dksX11_takeCondition_0 2 rfl rfl)
theorem dX11_takeCondition_3 : decode cX11_takeCondition 3 = .ok (.getfield 290, 3) := dk_180 1 34 (dk_at dksX11_takeCondition_0 3 rfl rfl)
theorem dX11_takeCondition_6 : decode cX11_takeCondition 6 = .ok (.iload_n 1, 1) := dk_27 (dk_at dksX11_takeCondition_0 6 rfl rfl)
theorem dX11_takeCondition_7 : decode cX11_takeCondition 7 = .ok (.iconst 0, 1) := dk_3 (dk_at dksX11_takeCondition_0 7 rfl rfl)
theorem dX11_takeCondition_8 : decode cX11_takeCondition 8 = .ok (.iastore, 1) := dk_79 (dk_at dksX11_takeCondition_0 8 rfl rfl)
theorem dX11_takeCondition_9 : decode cX11_takeCondition 9 = .ok (.aload_n 0, 1) := dk_42 (dk_at dksX11_takeCondition_0 9 rfl rfl)
theorem dX11_takeCondition_10 : decode cX11_takeCondition 10 = .ok (.ldc_w 329, 3) := dk_19 1 73 (dk_at dksX11_takeCondition_0 10 rfl rfl)
theorem dX11_takeCondition_13 : decode cX11_takeCondition 13 = .ok (.invokevirtual 214, 3) := dk_182 0 214 (dk_at dksX11_takeCondition_0 13 rfl rfl)
theorem dX11_takeCondition_16 : decode cX11_takeCondition 16 = .ok (.ifCond .eq 22, 3) := dk_153 0 22 (dk_at dksX11_takeCondition_0 16 rfl rfl)
theorem dX11_takeCondition_19 : decode cX11_takeCondition 19 = .ok (.aload_n 0, 1) := dk_42 (dk_at dksX11_takeCondition_0 19 rfl rfl)
theorem dX11_takeCondition_20 : decode cX11_takeCondition 20 = .ok (.iload_n 1, 1) := dk_27 (dk_at dksX11_takeCondition_0 20 rfl rfl)
theorem dX11_takeCondition_21 : decode cX11_takeCondition 21 = .ok (.iconst (-1), 1) := dk_2 (dk_at dksX11_takeCondition_0 21 rfl rfl)
theorem dX11_takeCondition_22 : decode cX11_takeCondition 22 = .ok (.invokevirtual 325, 3) := dk_182 1 69 (dk_at dksX11_takeCondition_1 0 rfl rfl)
theorem dX11_takeCondition_25 : decode cX11_takeCondition 25 = .ok (.aload_n 0, 1) := dk_42 (dk_at dksX11_takeCondition_1 3 rfl rfl)
theorem dX11_takeCondition_26 : decode cX11_takeCondition 26 = .ok (.dup, 1) := dk_89 (dk_at dksX11_takeCondition_1 4 rfl rfl)
theorem dX11_takeCondition_27 : decode cX11_takeCondition 27 = .ok (.getfield 188, 3) := dk_180 0 188 (dk_at dksX11_takeCondition_1 5 rfl rfl)
theorem dX11_takeCondition_30 : decode cX11_takeCondition 30 = .ok (.iconst 1, 1) := dk_4 (dk_at dksX11_takeCondition_1 8 rfl rfl)
theorem dX11_takeCondition_31 : decode cX11_takeCondition 31 = .ok (.iadd, 1) := dk_96 (dk_at dksX11_takeCondition_1 9 rfl rfl)
theorem dX11_takeCondition_32 : decode cX11_takeCondition 32 = .ok (.putfield 188, 3) := dk_181 0 188 (dk_at dksX11_takeCondition_1 10 rfl rfl)
theorem dX11_takeCondition_35 : decode cX11_takeCondition 35 = .ok (.goto (-26), 3) := dk_167 255 230 (dk_at dksX11_takeCondition_1 13 rfl rfl)
theorem dX11_takeCondition_38 : decode cX11_takeCondition 38 = .ok (.aload_n 0, 1) := dk_42 (dk_at dksX11_takeCondition_1 16 rfl rfl)
theorem dX11_takeCondition_39 : decode cX11_takeCondition 39 = .ok (.bipush 40, 2) := dk_16 40 (dk_at dksX11_takeCondition_1 17 rfl rfl)
theorem dX11_takeCondition_41 : decode cX11_takeCondition 41 = .ok (.invokevirtual 207, 3) := dk_182 0 207 (dk_at dksX11_takeCondition_1 19 rfl rfl)
theorem dX11_takeCondition_44 : decode cX11_takeCondition 44 = .ok (.ifCond .eq 45, 3) := dk_153 0 45 (dk_at dksX11_takeCondition_2 0 rfl rfl)
theorem dX11_takeCondition_47 : decode cX11_takeCondition 47 = .ok (.iinc 2 1, 3) := dk_132 2 1 (dk_at dksX11_takeCondition_2 3 rfl rfl)
theorem dX11_takeCondition_50 : decode cX11_takeCondition 50 = .ok (.iload_n 2, 1) := dk_28 (dk_at dksX11_takeCondition_2 6 rfl rfl)
theorem dX11_takeCondition_51 : decode cX11_takeCondition 51 = .ok (.bipush 30, 2) := dk_16 30 (dk_at dksX11_takeCondition_2 7 rfl rfl)
theorem dX11_takeCondition_53 : decode cX11_takeCondition 53 = .ok (.if_icmp .le 16, 3) := dk_164 0 16 (dk_at dksX11_takeCondition_2 9 rfl rfl)
theorem dX11_takeCondition_56 : decode cX11_takeCondition 56 = .ok (.aload_n 0, 1) := dk_42 (dk_at dksX11_takeCondition_2 12 rfl rfl)
theorem dX11_takeCondition_57 : decode cX11_takeCondition 57 = .ok (.aload_n 0, 1) := dk_42 (dk_at dksX11_takeCondition_2 13 rfl rfl)
theorem dX11_takeCondition_58 : decode cX11_takeCondition 58 = .ok (.getfield 161, 3) := dk_180 0 161 (dk_at dksX11_takeCondition_2 14 rfl rfl)
theorem dX11_takeCondition_61 : decode cX11_takeCondition 61 = .ok (.aload_n 0, 1) := dk_42 (dk_at dksX11_takeCondition_2 17 rfl rfl)
theorem dX11_takeCondition_62 : decode cX11_takeCondition 62 = .ok (.getfield 188, 3) := dk_180 0 188 (dk_at dksX11_takeCondition_2 18 rfl rfl)
theorem dX11_takeCondition_65 : decode cX11_takeCondition 65 = .ok (.iaload, 1) := dk_46 (dk_at dksX11_takeCondition_2 21 rfl rfl)
theorem dX11_takeCondition_66 : decode cX11_takeCondition 66 = .ok (.invokevirtual 224, 3) := dk_182 0 224 (dk_at dksX11_takeCondition_3 0 rfl rfl)
theorem dX11_takeCondition_69 : decode cX11_takeCondition 69 = .ok (.aload_n 0, 1) := dk_42 (dk_at dksX11_takeCondition_3 3 rfl rfl)
theorem dX11_takeCondition_70 : decode cX11_takeCondition 70 = .ok (.iload_n 1, 1) := dk_27 (dk_at dksX11_takeCondition_3 4 rfl rfl)
theorem dX11_takeCondition_71 : decode cX11_takeCondition 71 = .ok (.bipush (-2), 2) := dk_16 254 (dk_at dksX11_takeCondition_3 5 rfl rfl)
theorem dX11_takeCondition_73 : decode cX11_takeCondition 73 = .ok (.invokevirtual 325, 3) := dk_182 1 69 (dk_at dksX11_takeCondition_3 7 rfl rfl)
theorem dX11_takeCondition_76 : decode cX11_takeCondition 76 = .ok (.aload_n 0, 1) := dk_42 (dk_at dksX11_takeCondition_3 10 rfl rfl)
theorem dX11_takeCondition_77 : decode cX11_takeCondition 77 = .ok (.dup, 1) := dk_89 (dk_at dksX11_takeCondition_3 11 rfl rfl)
theorem dX11_takeCondition_78 : decode cX11_takeCondition 78 = .ok (.getfield 188, 3) := dk_180 0 188 (dk_at dksX11_takeCondition_3 12 rfl rfl)
theorem dX11_takeCondition_81 : decode cX11_takeCondition 81 = .ok (.iconst 1, 1) := dk_4 (dk_at dksX11_takeCondition_3 15 rfl rfl)
theorem dX11_takeCondition_82 : decode cX11_takeCondition 82 = .ok (.iadd, 1) := dk_96 (dk_at dksX11_takeCondition_3 16 rfl rfl)
theorem dX11_takeCondition_83 : decode cX11_takeCondition 83 = .ok (.putfield 188, 3) := dk_181 0 188 (dk_at dksX11_takeCondition_3 17 rfl rfl)
theorem dX11_takeCondition_86 : decode cX11_takeCondition 86 = .ok (.goto (-77), 3) := dk_167 255 179 (dk_at dksX11_takeCondition_3 20 rfl rfl)
theorem dX11_takeCondition_89 : decode cX11_takeCondition 89 = .ok (.aload_n 0, 1) := dk_42 (dk_at dksX11_takeCondition_3 23 rfl rfl)
theorem dX11_takeCondition_90 : decode cX11_takeCondition 90 = .ok (.iload_n 1, 1) := dk_27 (dk_at dksX11_takeCondition_4 0 rfl rfl)
theorem dX11_takeCondition_91 : decode cX11_takeCondition 91 = .ok (.invokevirtual 331, 3) := dk_182 1 75 (dk_at dksX11_takeCondition_4 1 rfl rfl)
theorem dX11_takeCondition_94 : decode cX11_takeCondition 94 = .ok (.ifCond .ne 5, 3) := dk_154 0 5 (dk_at dksX11_takeCondition_4 4 rfl rfl)
theorem dX11_takeCondition_97 : decode cX11_takeCondition 97 = .ok (.iconst 0, 1) := dk_3 (dk_at dksX11_takeCondition_4 7 rfl rfl)
theorem dX11_takeCondition_98 : decode cX11_takeCondition 98 = .ok (.ireturn, 1) := dk_172 (dk_at dksX11_takeCondition_4 8 rfl rfl)
theorem dX11_takeCondition_99 : decode cX11_takeCondition 99 = .ok (.iload_n 2, 1) := dk_28 (dk_at dksX11_takeCondition_4 9 rfl rfl)
theorem dX11_takeCondition_100 : decode cX11_takeCondition 100 = .ok (.ifCond .le 35, 3) := dk_158 0 35 (dk_at dksX11_takeCondition_4 10 rfl rfl)
theorem dX11_takeCondition_103 : decode cX11_takeCondition 103 = .ok (.aload_n 0, 1) := dk_42 (dk_at dksX11_takeCondition_4 13 rfl rfl)
theorem dX11_takeCondition_104 : decode cX11_takeCondition 104 = .ok (.bipush 41, 2) := dk_16 41 (dk_at dksX11_takeCondition_4 14 rfl rfl)
theorem dX11_takeCondition_106 : decode cX11_takeCondition 106 = .ok (.invokevirtual 207, 3) := dk_182 0 207 (dk_at dksX11_takeCondition_4 16 rfl rfl)
theorem dX11_takeCondition_109 : decode cX11_takeCondition 109 = .ok (.ifCond .eq 26, 3) := dk_153 0 26 (dk_at dksX11_takeCondition_4 19 rfl rfl)
theorem dX11_takeCondition_112 : decode cX11_takeCondition 112 = .ok (.aload_n 0, 1) := dk_42 (dk_at dksX11_takeCondition_4 22 rfl rfl)
theorem dX11_takeCondition_113 : decode cX11_takeCondition 113 = .ok (.iload_n 1, 1) := dk_27 (dk_at dksX11_takeCondition_4 23 rfl rfl)
theorem dX11_takeCondition_114 : decode cX11_takeCondition 114 = .ok (.bipush (-3), 2) := dk_16 253 (dk_at dksX11_takeCondition_5 0 rfl rfl)
theorem dX11_takeCondition_116 : decode cX11_takeCondition 116 = .ok (.invokevirtual 325, 3) := dk_182 1 69 (dk_at dksX11_takeCondition_5 2 rfl rfl)
theorem dX11_takeCondition_119 : decode cX11_takeCondition 119 = .ok (.iinc 2 (-1), 3) := dk_132 2 255 (dk_at dksX11_takeCondition_5 5 rfl rfl)
theorem dX11_takeCondition_122 : decode cX11_takeCondition 122 = .ok (.aload_n 0, 1) := dk_42 (dk_at dksX11_takeCondition_5 8 rfl rfl)
theorem dX11_takeCondition_123 : decode cX11_takeCondition 123 = .ok (.dup, 1) := dk_89 (dk_at dksX11_takeCondition_5 9 rfl rfl)
theorem dX11_takeCondition_124 : decode cX11_takeCondition 124 = .ok (.getfield 188, 3) := dk_180 0 188 (dk_at dksX11_takeCondition_5 10 rfl rfl)
theorem dX11_takeCondition_127 : decode cX11_takeCondition 127 = .ok (.iconst 1, 1) := dk_4 (dk_at dksX11_takeCondition_5 13 rfl rfl)
theorem dX11_takeCondition_128 : decode cX11_takeCondition 128 = .ok (.iadd, 1) := dk_96 (dk_at dksX11_takeCondition_5 14 rfl rfl)
theorem dX11_takeCondition_129 : decode cX11_takeCondition 129 = .ok (.putfield 188, 3) := dk_181 0 188 (dk_at dksX11_takeCondition_5 15 rfl rfl)
theorem dX11_takeCondition_132 : decode cX11_takeCondition 132 = .ok (.goto (-33), 3) := dk_167 255 223 (dk_at dksX11_takeCondition_5 18 rfl rfl)
theorem dX11_takeCondition_135 : decode cX11_takeCondition 135 = .ok (.aload_n 0, 1) := dk_42 (dk_at dksX11_takeCondition_5 21 rfl rfl)
theorem dX11_takeCondition_136 : decode cX11_takeCondition 136 = .ok (.ldc_w 334, 3) := dk_19 1 78 (dk_at dksX11_takeCondition_6 0 rfl rfl)
theorem dX11_takeCondition_139 : decode cX11_takeCondition 139 = .ok (.invokevirtual 214, 3) := dk_182 0 214 (dk_at dksX11_takeCondition_6 3 rfl rfl)
theorem dX11_takeCondition_142 : decode cX11_takeCondition 142 = .ok (.istore_n 3, 1) := dk_62 (dk_at dksX11_takeCondition_6 6 rfl rfl)
theorem dX11_takeCondition_143 : decode cX11_takeCondition 143 = .ok (.iload_n 3, 1) := dk_29 (dk_at dksX11_takeCondition_6 7 rfl rfl)
theorem dX11_takeCondition_144 : decode cX11_takeCondition 144 = .ok (.ifCond .ne 30, 3) := dk_154 0 30 (dk_at dksX11_takeCondition_6 8 rfl rfl)
theorem dX11_takeCondition_147 : decode cX11_takeCondition 147 = .ok (.aload_n 0, 1) := dk_42 (dk_at dksX11_takeCondition_6 11 rfl rfl)
theorem dX11_takeCondition_148 : decode cX11_takeCondition 148 = .ok (.ldc_w 336, 3) := dk_19 1 80 (dk_at dksX11_takeCondition_6 12 rfl rfl)
theorem dX11_takeCondition_151 : decode cX11_takeCondition 151 = .ok (.invokevirtual 214, 3) := dk_182 0 214 (dk_at dksX11_takeCondition_6 15 rfl rfl)
theorem dX11_takeCondition_154 : decode cX11_takeCondition 154 = .ok (.ifCond .ne 20, 3) := dk_154 0 20 (dk_at dksX11_takeCondition_6 18 rfl rfl)
theorem dX11_takeCondition_157 : decode cX11_takeCondition 157 = .ok (.iload_n 2, 1) := dk_28 (dk_at dksX11_takeCondition_6 21 rfl rfl)
theorem dX11_takeCondition_158 : decode cX11_takeCondition 158 = .ok (.ifCond .eq 10, 3) := dk_153 0 10 (dk_at dksX11_takeCondition_7 0 rfl rfl)
theorem dX11_takeCondition_161 : decode cX11_takeCondition 161 = .ok (.aload_n 0, 1) := dk_42 (dk_at dksX11_takeCondition_7 3 rfl rfl)
theorem dX11_takeCondition_162 : decode cX11_takeCondition 162 = .ok (.invokevirtual 210, 3) := dk_182 0 210 (dk_at dksX11_takeCondition_7 4 rfl rfl)
theorem dX11_takeCondition_165 : decode cX11_takeCondition 165 = .ok (.ifCond .eq 7, 3) := dk_153 0 7 (dk_at dksX11_takeCondition_7 7 rfl rfl)
theorem dX11_takeCondition_168 : decode cX11_takeCondition 168 = .ok (.iconst 1, 1) := dk_4 (dk_at dksX11_takeCondition_7 10 rfl rfl)
theorem dX11_takeCondition_169 : decode cX11_takeCondition 169 = .ok (.goto 4, 3) := dk_167 0 4 (dk_at dksX11_takeCondition_7 11 rfl rfl)
theorem dX11_takeCondition_172 : decode cX11_takeCondition 172 = .ok (.iconst 0, 1) := dk_3 (dk_at dksX11_takeCondition_7 14 rfl rfl)
theorem dX11_takeCondition_173 : decode cX11_takeCondition 173 = .ok (.ireturn, 1) := dk_172 (dk_at dksX11_takeCondition_7 15 rfl rfl)
theorem dX11_takeCondition_174 : decode cX11_takeCondition 174 = .ok (.aload_n 0, 1) := dk_42 (dk_at dksX11_takeCondition_7 16 rfl rfl)
theorem dX11_takeCondition_175 : decode cX11_takeCondition 175 = .ok (.iload_n 1, 1) := dk_27 (dk_at dksX11_takeCondition_7 17 rfl rfl)
theorem dX11_takeCondition_176 : decode cX11_takeCondition 176 = .ok (.iload_n 3, 1) := dk_29 (dk_at dksX11_takeCondition_7 18 rfl rfl)
theorem dX11_takeCondition_177 : decode cX11_takeCondition 177 = .ok (.ifCond .eq 8, 3) := dk_153 0 8 (dk_at dksX11_takeCondition_7 19 rfl rfl)
theorem dX11_takeCondition_180 : decode cX11_takeCondition 180 = .ok (.bipush (-4), 2) := dk_16 252 (dk_at dksX11_takeCondition_7 22 rfl rfl)
theorem dX11_takeCondition_182 : decode cX11_takeCondition 182 = .ok (.goto 5, 3) := dk_167 0 5 (dk_at dksX11_takeCondition_8 0 rfl rfl)
theorem dX11_takeCondition_185 : decode cX11_takeCondition 185 = .ok (.bipush (-5), 2) := dk_16 251 (dk_at dksX11_takeCondition_8 3 rfl rfl)
theorem dX11_takeCondition_187 : decode cX11_takeCondition 187 = .ok (.invokevirtual 325, 3) := dk_182 1 69 (dk_at dksX11_takeCondition_8 5 rfl rfl)
theorem dX11_takeCondition_190 : decode cX11_takeCondition 190 = .ok (.aload_n 0, 1) := dk_42 (dk_at dksX11_takeCondition_8 8 rfl rfl)
theorem dX11_takeCondition_191 : decode cX11_takeCondition 191 = .ok (.dup, 1) := dk_89 (dk_at dksX11_takeCondition_8 9 rfl rfl)
theorem dX11_takeCondition_192 : decode cX11_takeCondition 192 = .ok (.getfield 188, 3) := dk_180 0 188 (dk_at dksX11_takeCondition_8 10 rfl rfl)
theorem dX11_takeCondition_195 : decode cX11_takeCondition 195 = .ok (.iconst 1, 1) := dk_4 (dk_at dksX11_takeCondition_8 13 rfl rfl)
theorem dX11_takeCondition_196 : decode cX11_takeCondition 196 = .ok (.iadd, 1) := dk_96 (dk_at dksX11_takeCondition_8 14 rfl rfl)
theorem dX11_takeCondition_197 : decode cX11_takeCondition 197 = .ok (.putfield 188, 3) := dk_181 0 188 (dk_at dksX11_takeCondition_8 15 rfl rfl)
theorem dX11_takeCondition_200 : decode cX11_takeCondition 200 = .ok (.goto (-191), 3) := dk_167 255 65 (dk_at dksX11_takeCondition_8 18 rfl rfl)
abbrev cX11_addStep : ByteArray := prog_17_method_47_code
def yX11_addStep : MethodName := ⟨RX11, "addStep", "(II)V"⟩
def dkwX11_addStep_1 : List UInt8 := [46, 4, 96, 79, 177]
abbrev dktX11_addStep_1 : List UInt8 := dkwX11_addStep_1 ++ []
def dkwX11_addStep_0 : List UInt8 := [42, 180, 1, 31, 17, 15, 162, 27, 104, 42, 180, 1, 34, 27, 46, 96, 28, 79, 42, 180, 1, 34, 27, 92]
abbrev dktX11_addStep_0 : List UInt8 := dkwX11_addStep_0 ++ dktX11_addStep_1
theorem dksX11_addStep_0 : cX11_addStep.data.toList.drop 0 = dktX11_addStep_0 := by decide +kernel
theorem dksX11_addStep_1 : cX11_addStep.data.toList.drop 24 = dktX11_addStep_1 := dk_seg dksX11_addStep_0 24 rfl rfl
theorem dX11_addStep_0 : decode cX11_addStep 0 = .ok (.aload_n 0, 1) := dk_42 (dk_at dksX11_addStep_0 0 rfl rfl)
theorem dX11_addStep_1 : decode cX11_addStep 1 = .ok (.getfield 287, 3) := dk_180 1 31 (dk_at dksX11_addStep_0 1 rfl rfl)
theorem dX11_addStep_4 : decode cX11_addStep 4 = .ok (.sipush 4002, 3) := dk_17 15 162 (dk_at dksX11_addStep_0 4 rfl rfl)
theorem dX11_addStep_7 : decode cX11_addStep 7 = .ok (.iload_n 1, 1) := dk_27 (dk_at dksX11_addStep_0 7 rfl rfl)
theorem dX11_addStep_8 : decode cX11_addStep 8 = .ok (.imul, 1) := dk_104 (dk_at dksX11_addStep_0 8 rfl rfl)
theorem dX11_addStep_9 : decode cX11_addStep 9 = .ok (.aload_n 0, 1) := dk_42 (dk_at dksX11_addStep_0 9 rfl rfl)
theorem dX11_addStep_10 : decode cX11_addStep 10 = .ok (.getfield 290, 3) := dk_180 1 34 (dk_at dksX11_addStep_0 10 rfl rfl)
theorem dX11_addStep_13 : decode cX11_addStep 13 = .ok (.iload_n 1, 1) := dk_27 (dk_at dksX11_addStep_0 13 rfl rfl)
theorem dX11_addStep_14 : decode cX11_addStep 14 = .ok (.iaload, 1) := dk_46 (dk_at dksX11_addStep_0 14 rfl rfl)
theorem dX11_addStep_15 : decode cX11_addStep 15 = .ok (.iadd, 1) := dk_96 (dk_at dksX11_addStep_0 15 rfl rfl)
theorem dX11_addStep_16 : decode cX11_addStep 16 = .ok (.iload_n 2, 1) := dk_28 (dk_at dksX11_addStep_0 16 rfl rfl)
theorem dX11_addStep_17 : decode cX11_addStep 17 = .ok (.iastore, 1) := dk_79 (dk_at dksX11_addStep_0 17 rfl rfl)
theorem dX11_addStep_18 : decode cX11_addStep 18 = .ok (.aload_n 0, 1) := dk_42 (dk_at dksX11_addStep_0 18 rfl rfl)
theorem dX11_addStep_19 : decode cX11_addStep 19 = .ok (.getfield 290, 3) := dk_180 1 34 (dk_at dksX11_addStep_0 19 rfl rfl)
theorem dX11_addStep_22 : decode cX11_addStep 22 = .ok (.iload_n 1, 1) := dk_27 (dk_at dksX11_addStep_0 22 rfl rfl)
theorem dX11_addStep_23 : decode cX11_addStep 23 = .ok (.dup2, 1) := dk_92 (dk_at dksX11_addStep_0 23 rfl rfl)
theorem dX11_addStep_24 : decode cX11_addStep 24 = .ok (.iaload, 1) := dk_46 (dk_at dksX11_addStep_1 0 rfl rfl)
theorem dX11_addStep_25 : decode cX11_addStep 25 = .ok (.iconst 1, 1) := dk_4 (dk_at dksX11_addStep_1 1 rfl rfl)
theorem dX11_addStep_26 : decode cX11_addStep 26 = .ok (.iadd, 1) := dk_96 (dk_at dksX11_addStep_1 2 rfl rfl)
theorem dX11_addStep_27 : decode cX11_addStep 27 = .ok (.iastore, 1) := dk_79 (dk_at dksX11_addStep_1 3 rfl rfl)
theorem dX11_addStep_28 : decode cX11_addStep 28 = .ok (.return_, 1) := dk_177 (dk_at dksX11_addStep_1 4 rfl rfl)
abbrev cX11_takeTest : ByteArray := prog_17_method_48_code
def yX11_takeTest : MethodName := ⟨RX11, "takeTest", "(I)Z"⟩
def dkwX11_takeTest_11 : List UInt8 := [79, 42, 27, 21, 8, 182, 1, 69, 4, 172]
abbrev dktX11_takeTest_11 : List UInt8 := dkwX11_takeTest_11 ++ []
def dkwX11_takeTest_10 : List UInt8 := [180, 1, 60, 21, 8, 21, 6, 79, 42, 180, 1, 63, 21, 8, 21, 7, 79, 42, 180, 1, 66, 21, 8, 28]
abbrev dktX11_takeTest_10 : List UInt8 := dkwX11_takeTest_10 ++ dktX11_takeTest_11
def dkwX11_takeTest_9 : List UInt8 := [28, 182, 0, 224, 42, 180, 1, 54, 3, 21, 8, 4, 96, 79, 42, 180, 1, 57, 21, 8, 29, 79, 42]
abbrev dktX11_takeTest_9 : List UInt8 := dkwX11_takeTest_9 ++ dktX11_takeTest_10
def dkwX11_takeTest_8 : List UInt8 := [180, 1, 54, 3, 46, 16, 40, 184, 0, 179, 54, 8, 42, 180, 1, 54, 3, 46, 16, 40, 161, 0, 8, 42]
abbrev dktX11_takeTest_8 : List UInt8 := dkwX11_takeTest_8 ++ dktX11_takeTest_9
def dkwX11_takeTest_7 : List UInt8 := [182, 0, 249, 153, 0, 18, 42, 182, 1, 51, 154, 0, 5, 3, 172, 42, 180, 0, 255, 54, 7, 42]
abbrev dktX11_takeTest_7 : List UInt8 := dkwX11_takeTest_7 ++ dktX11_takeTest_8
def dkwX11_takeTest_6 : List UInt8 := [182, 1, 45, 154, 0, 5, 3, 172, 42, 180, 0, 218, 54, 6, 18, 42, 54, 7, 42, 19, 1, 49]
abbrev dktX11_takeTest_6 : List UInt8 := dkwX11_takeTest_6 ++ dktX11_takeTest_7
def dkwX11_takeTest_5 : List UInt8 := [29, 5, 160, 0, 12, 42, 180, 0, 61, 4, 100, 167, 0, 5, 16, 9, 54, 5, 42, 21, 4, 21, 5]
abbrev dktX11_takeTest_5 : List UInt8 := dkwX11_takeTest_5 ++ dktX11_takeTest_6
def dkwX11_takeTest_4 : List UInt8 := [3, 54, 4, 29, 154, 0, 9, 17, 0, 150, 167, 0, 30, 29, 4, 160, 0, 9, 17, 1, 144, 167, 0, 19]
abbrev dktX11_takeTest_4 : List UInt8 := dkwX11_takeTest_4 ++ dktX11_takeTest_5
def dkwX11_takeTest_3 : List UInt8 := [42, 182, 0, 210, 172, 42, 89, 180, 0, 188, 4, 96, 181, 0, 188, 29, 4, 160, 0, 7, 4, 167, 0, 4]
abbrev dktX11_takeTest_3 : List UInt8 := dkwX11_takeTest_3 ++ dktX11_takeTest_4
def dkwX11_takeTest_2 : List UInt8 := [5, 167, 0, 18, 42, 19, 1, 43, 182, 0, 214, 153, 0, 7, 6, 167, 0, 4, 2, 62, 29, 156, 0, 8]
abbrev dktX11_takeTest_2 : List UInt8 := dkwX11_takeTest_2 ++ dktX11_takeTest_3
def dkwX11_takeTest_1 : List UInt8 := [42, 19, 1, 39, 182, 0, 214, 153, 0, 7, 4, 167, 0, 32, 42, 19, 1, 41, 182, 0, 214, 153, 0, 7]
abbrev dktX11_takeTest_1 : List UInt8 := dkwX11_takeTest_1 ++ dktX11_takeTest_2
def dkwX11_takeTest_0 : List UInt8 := [42, 180, 0, 161, 42, 180, 0, 188, 46, 61, 42, 19, 1, 37, 182, 0, 214, 153, 0, 7, 3, 167, 0, 46]
abbrev dktX11_takeTest_0 : List UInt8 := dkwX11_takeTest_0 ++ dktX11_takeTest_1
theorem dksX11_takeTest_0 : cX11_takeTest.data.toList.drop 0 = dktX11_takeTest_0 := by decide +kernel
theorem dksX11_takeTest_1 : cX11_takeTest.data.toList.drop 24 = dktX11_takeTest_1 := dk_seg dksX11_takeTest_0 24 rfl rfl
theorem dksX11_takeTest_2 : cX11_takeTest.data.toList.drop 48 = dktX11_takeTest_2 := dk_seg dksX11_takeTest_1 24 rfl rfl
theorem dksX11_takeTest_3 : cX11_takeTest.data.toList.drop 72 = dktX11_takeTest_3 := dk_seg dksX11_takeTest_2 24 rfl rfl
theorem dksX11_takeTest_4 : cX11_takeTest.data.toList.drop 96 = dktX11_takeTest_4 := dk_seg dksX11_takeTest_3 24 rfl rfl
theorem dksX11_takeTest_5 : cX11_takeTest.data.toList.drop 120 = dktX11_takeTest_5 := dk_seg dksX11_takeTest_4 24 rfl rfl
theorem dksX11_takeTest_6 : cX11_takeTest.data.toList.drop 143 = dktX11_takeTest_6 := dk_seg dksX11_takeTest_5 23 rfl rfl
theorem dksX11_takeTest_7 : cX11_takeTest.data.toList.drop 165 = dktX11_takeTest_7 := dk_seg dksX11_takeTest_6 22 rfl rfl
theorem dksX11_takeTest_8 : cX11_takeTest.data.toList.drop 187 = dktX11_takeTest_8 := dk_seg dksX11_takeTest_7 22 rfl rfl
theorem dksX11_takeTest_9 : cX11_takeTest.data.toList.drop 211 = dktX11_takeTest_9 := dk_seg dksX11_takeTest_8 24 rfl rfl
theorem dksX11_takeTest_10 : cX11_takeTest.data.toList.drop 234 = dktX11_takeTest_10 := dk_seg dksX11_takeTest_9 23 rfl rfl
theorem dksX11_takeTest_11 : cX11_takeTest.data.toList.drop 258 = dktX11_takeTest_11 := dk_seg dksX11_takeTest_10 24 rfl rfl
theorem dX11_takeTest_0 : decode cX11_takeTest 0 = .ok (.aload_n 0, 1) := dk_42 (dk_at dksX11_takeTest_0 0 rfl rfl)
theorem dX11_takeTest_1 : decode cX11_takeTest 1 = .ok (.getfield 161, 3) := dk_180 0 161 (dk_at dksX11_takeTest_0 1 rfl rfl)
theorem dX11_takeTest_4 : decode cX11_takeTest 4 = .ok (.aload_n 0, 1) := dk_42 (dk_at dksX11_takeTest_0 4 rfl rfl)
theorem dX11_takeTest_5 : decode cX11_takeTest 5 = .ok (.getfield 188, 3) := dk_180 0 188 (dk_at dksX11_takeTest_0 5 rfl rfl)
theorem dX11_takeTest_8 : decode cX11_takeTest 8 = .ok (.iaload, 1) := dk_46 (dk_at dksX11_takeTest_0 8 rfl rfl)
theorem dX11_takeTest_9 : decode cX11_takeTest 9 = .ok (.istore_n 2, 1) := dk_61 (dk_at dksX11_takeTest_0 9 rfl rfl)
theorem dX11_takeTest_10 : decode cX11_takeTest 10 = .ok (.aload_n 0, 1) := dk_42 (dk_at dksX11_takeTest_0 10 rfl rfl)
theorem dX11_takeTest_11 : decode cX11_takeTest 11 = .ok (.ldc_w 293, 3) := dk_19 1 37 (dk_at dksX11_takeTest_0 11 rfl rfl)
theorem dX11_takeTest_14 : decode cX11_takeTest 14 = .ok (.invokevirtual 214, 3) := dk_182 0 214 (dk_at dksX11_takeTest_0 14 rfl rfl)
theorem dX11_takeTest_17 : decode cX11_takeTest 17 = .ok (.ifCond .eq 7, 3) := dk_153 0 7 (dk_at dksX11_takeTest_0 17 rfl rfl)
theorem dX11_takeTest_20 : decode cX11_takeTest 20 = .ok (.iconst 0, 1) := dk_3 (dk_at dksX11_takeTest_0 20 rfl rfl)
theorem dX11_takeTest_21 : decode cX11_takeTest 21 = .ok (.goto 46, 3) := dk_167 0 46 (dk_at dksX11_takeTest_0 21 rfl rfl)
theorem dX11_takeTest_24 : decode cX11_takeTest 24 = .ok (.aload_n 0, 1) := dk_42 (dk_at dksX11_takeTest_1 0 rfl rfl)
theorem dX11_takeTest_25 : decode cX11_takeTest 25 = .ok (.ldc_w 295, 3) := dk_19 1 39 (dk_at dksX11_takeTest_1 1 rfl rfl)
theorem dX11_takeTest_28 : decode cX11_takeTest 28 = .ok (.invokevirtual 214, 3) := dk_182 0 214 (dk_at dksX11_takeTest_1 4 rfl rfl)
theorem dX11_takeTest_31 : decode cX11_takeTest 31 = .ok (.ifCond .eq 7, 3) := dk_153 0 7 (dk_at dksX11_takeTest_1 7 rfl rfl)
theorem dX11_takeTest_34 : decode cX11_takeTest 34 = .ok (.iconst 1, 1) := dk_4 (dk_at dksX11_takeTest_1 10 rfl rfl)
theorem dX11_takeTest_35 : decode cX11_takeTest 35 = .ok (.goto 32, 3) := dk_167 0 32 (dk_at dksX11_takeTest_1 11 rfl rfl)
theorem dX11_takeTest_38 : decode cX11_takeTest 38 = .ok (.aload_n 0, 1) := dk_42 (dk_at dksX11_takeTest_1 14 rfl rfl)
theorem dX11_takeTest_39 : decode cX11_takeTest 39 = .ok (.ldc_w 297, 3) := dk_19 1 41 (dk_at dksX11_takeTest_1 15 rfl rfl)
theorem dX11_takeTest_42 : decode cX11_takeTest 42 = .ok (.invokevirtual 214, 3) := dk_182 0 214 (dk_at dksX11_takeTest_1 18 rfl rfl)
theorem dX11_takeTest_45 : decode cX11_takeTest 45 = .ok (.ifCond .eq 7, 3) := dk_153 0 7 (dk_at dksX11_takeTest_1 21 rfl rfl)
theorem dX11_takeTest_48 : decode cX11_takeTest 48 = .ok (.iconst 2, 1) := dk_5 (dk_at dksX11_takeTest_2 0 rfl rfl)
theorem dX11_takeTest_49 : decode cX11_takeTest 49 = .ok (.goto 18, 3) := dk_167 0 18 (dk_at dksX11_takeTest_2 1 rfl rfl)
theorem dX11_takeTest_52 : decode cX11_takeTest 52 = .ok (.aload_n 0, 1) := dk_42 (dk_at dksX11_takeTest_2 4 rfl rfl)
theorem dX11_takeTest_53 : decode cX11_takeTest 53 = .ok (.ldc_w 299, 3) := dk_19 1 43 (dk_at dksX11_takeTest_2 5 rfl rfl)
theorem dX11_takeTest_56 : decode cX11_takeTest 56 = .ok (.invokevirtual 214, 3) := dk_182 0 214 (dk_at dksX11_takeTest_2 8 rfl rfl)
theorem dX11_takeTest_59 : decode cX11_takeTest 59 = .ok (.ifCond .eq 7, 3) := dk_153 0 7 (dk_at dksX11_takeTest_2 11 rfl rfl)
theorem dX11_takeTest_62 : decode cX11_takeTest 62 = .ok (.iconst 3, 1) := dk_6 (dk_at dksX11_takeTest_2 14 rfl rfl)
theorem dX11_takeTest_63 : decode cX11_takeTest 63 = .ok (.goto 4, 3) := dk_167 0 4 (dk_at dksX11_takeTest_2 15 rfl rfl)
theorem dX11_takeTest_66 : decode cX11_takeTest 66 = .ok (.iconst (-1), 1) := dk_2 (dk_at dksX11_takeTest_2 18 rfl rfl)
theorem dX11_takeTest_67 : decode cX11_takeTest 67 = .ok (.istore_n 3, 1) := dk_62 (dk_at dksX11_takeTest_2 19 rfl rfl)
theorem dX11_takeTest_68 : decode cX11_takeTest 68 = .ok (.iload_n 3, 1) := dk_29 (dk_at dksX11_takeTest_2 20 rfl rfl)
theorem dX11_takeTest_69 : decode cX11_takeTest 69 = .ok (.ifCond .ge 8, 3) := dk_156 0 8 (dk_at dksX11_takeTest_2 21 rfl rfl)
theorem dX11_takeTest_72 : decode cX11_takeTest 72 = .ok (.aload_n 0, 1) := dk_42 (dk_at dksX11_takeTest_3 0 rfl rfl)
theorem dX11_takeTest_73 : decode cX11_takeTest 73 = .ok (.invokevirtual 210, 3) := dk_182 0 210 (dk_at dksX11_takeTest_3 1 rfl rfl)
theorem dX11_takeTest_76 : decode cX11_takeTest 76 = .ok (.ireturn, 1) := dk_172 (dk_at dksX11_takeTest_3 4 rfl rfl)
theorem dX11_takeTest_77 : decode cX11_takeTest 77 = .ok (.aload_n 0, 1) := dk_42 (dk_at dksX11_takeTest_3 5 rfl rfl)
theorem dX11_takeTest_78 : decode cX11_takeTest 78 = .ok (.dup, 1) := dk_89 (dk_at dksX11_takeTest_3 6 rfl rfl)
theorem dX11_takeTest_79 : decode cX11_takeTest 79 = .ok (.getfield 188, 3) := dk_180 0 188 (dk_at dksX11_takeTest_3 7 rfl rfl)
theorem dX11_takeTest_82 : decode cX11_takeTest 82 = .ok (.iconst 1, 1) := dk_4 (dk_at dksX11_takeTest_3 10 rfl rfl)
theorem dX11_takeTest_83 : decode cX11_takeTest 83 = .ok (.iadd, 1) := dk_96 (dk_at dksX11_takeTest_3 11 rfl rfl)
theorem dX11_takeTest_84 : decode cX11_takeTest 84 = .ok (.putfield 188, 3) := dk_181 0 188 (dk_at dksX11_takeTest_3 12 rfl rfl)
theorem dX11_takeTest_87 : decode cX11_takeTest 87 = .ok (.iload_n 3, 1) := dk_29 (dk_at dksX11_takeTest_3 15 rfl rfl)
theorem dX11_takeTest_88 : decode cX11_takeTest 88 = .ok (.iconst 1, 1) := dk_4 (dk_at dksX11_takeTest_3 16 rfl rfl)
theorem dX11_takeTest_89 : decode cX11_takeTest 89 = .ok (.if_icmp .ne 7, 3) := dk_160 0 7 (dk_at dksX11_takeTest_3 17 rfl rfl)
theorem dX11_takeTest_92 : decode cX11_takeTest 92 = .ok (.iconst 1, 1) := dk_4 (dk_at dksX11_takeTest_3 20 rfl rfl)
theorem dX11_takeTest_93 : decode cX11_takeTest 93 = .ok (.goto 4, 3) := dk_167 0 4 (dk_at dksX11_takeTest_3 21 rfl rfl)
theorem dX11_takeTest_96 : decode cX11_takeTest 96 = .ok (.iconst 0, 1) := dk_3 (dk_at dksX11_takeTest_4 0 rfl rfl)
theorem dX11_takeTest_97 : decode cX11_takeTest 97 = .ok (.istore 4, 2) := dk_54 4 (dk_at dksX11_takeTest_4 1 rfl rfl)
theorem dX11_takeTest_99 : decode cX11_takeTest 99 = .ok (.iload_n 3, 1) := dk_29 (dk_at dksX11_takeTest_4 3 rfl rfl)
theorem dX11_takeTest_100 : decode cX11_takeTest 100 = .ok (.ifCond .ne 9, 3) := dk_154 0 9 (dk_at dksX11_takeTest_4 4 rfl rfl)
theorem dX11_takeTest_103 : decode cX11_takeTest 103 = .ok (.sipush 150, 3) := dk_17 0 150 (dk_at dksX11_takeTest_4 7 rfl rfl)
theorem dX11_takeTest_106 : decode cX11_takeTest 106 = .ok (.goto 30, 3) := dk_167 0 30 (dk_at dksX11_takeTest_4 10 rfl rfl)
theorem dX11_takeTest_109 : decode cX11_takeTest 109 = .ok (.iload_n 3, 1) := dk_29 (dk_at dksX11_takeTest_4 13 rfl rfl)
theorem dX11_takeTest_110 : decode cX11_takeTest 110 = .ok (.iconst 1, 1) := dk_4 (dk_at dksX11_takeTest_4 14 rfl rfl)
theorem dX11_takeTest_111 : decode cX11_takeTest 111 = .ok (.if_icmp .ne 9, 3) := dk_160 0 9 (dk_at dksX11_takeTest_4 15 rfl rfl)
theorem dX11_takeTest_114 : decode cX11_takeTest 114 = .ok (.sipush 400, 3) := dk_17 1 144 (dk_at dksX11_takeTest_4 18 rfl rfl)
theorem dX11_takeTest_117 : decode cX11_takeTest 117 = .ok (.goto 19, 3) := dk_167 0 19 (dk_at dksX11_takeTest_4 21 rfl rfl)
theorem dX11_takeTest_120 : decode cX11_takeTest 120 = .ok (.iload_n 3, 1) := dk_29 (dk_at dksX11_takeTest_5 0 rfl rfl)
theorem dX11_takeTest_121 : decode cX11_takeTest 121 = .ok (.iconst 2, 1) := dk_5 (dk_at dksX11_takeTest_5 1 rfl rfl)
theorem dX11_takeTest_122 : decode cX11_takeTest 122 = .ok (.if_icmp .ne 12, 3) := dk_160 0 12 (dk_at dksX11_takeTest_5 2 rfl rfl)
theorem dX11_takeTest_125 : decode cX11_takeTest 125 = .ok (.aload_n 0, 1) := dk_42 (dk_at dksX11_takeTest_5 5 rfl rfl)
theorem dX11_takeTest_126 : decode cX11_takeTest 126 = .ok (.getfield 61, 3) := dk_180 0 61 (dk_at dksX11_takeTest_5 6 rfl rfl)
theorem dX11_takeTest_129 : decode cX11_takeTest 129 = .ok (.iconst 1, 1) := dk_4 (dk_at dksX11_takeTest_5 9 rfl rfl)
theorem dX11_takeTest_130 : decode cX11_takeTest 130 = .ok (.isub, 1) := dk_100 (dk_at dksX11_takeTest_5 10 rfl rfl)
theorem dX11_takeTest_131 : decode cX11_takeTest 131 = .ok (.goto 5, 3) := dk_167 0 5 (dk_at dksX11_takeTest_5 11 rfl rfl)
theorem dX11_takeTest_134 : decode cX11_takeTest 134 = .ok (.bipush 9, 2) := dk_16 9 (dk_at dksX11_takeTest_5 14 rfl rfl)
theorem dX11_takeTest_136 : decode cX11_takeTest 136 = .ok (.istore 5, 2) := dk_54 5 (dk_at dksX11_takeTest_5 16 rfl rfl)
theorem dX11_takeTest_138 : decode cX11_takeTest 138 = .ok (.aload_n 0, 1) := dk_42 (dk_at dksX11_takeTest_5 18 rfl rfl)
theorem dX11_takeTest_139 : decode cX11_takeTest 139 = .ok (.iload 4, 2) := dk_21 4 (dk_at dksX11_takeTest_5 19 rfl rfl)
theorem dX11_takeTest_141 : decode cX11_takeTest 141 = .ok (.iload 5, 2) := dk_21 5 (dk_at dksX11_takeTest_5 21 rfl rfl)
theorem dX11_takeTest_143 : decode cX11_takeTest 143 = .ok (.invokevirtual 301, 3) := dk_182 1 45 (dk_at dksX11_takeTest_6 0 rfl rfl)
theorem dX11_takeTest_146 : decode cX11_takeTest 146 = .ok (.ifCond .ne 5, 3) := dk_154 0 5 (dk_at dksX11_takeTest_6 3 rfl rfl)
theorem dX11_takeTest_149 : decode cX11_takeTest 149 = .ok (.iconst 0, 1) := dk_3 (dk_at dksX11_takeTest_6 6 rfl rfl)
theorem dX11_takeTest_150 : decode cX11_takeTest 150 = .ok (.ireturn, 1) := dk_172 (dk_at dksX11_takeTest_6 7 rfl rfl)
theorem dX11_takeTest_151 : decode cX11_takeTest 151 = .ok (.aload_n 0, 1) := dk_42 (dk_at dksX11_takeTest_6 8 rfl rfl)
theorem dX11_takeTest_152 : decode cX11_takeTest 152 = .ok (.getfield 218, 3) := dk_180 0 218 (dk_at dksX11_takeTest_6 9 rfl rfl)
theorem dX11_takeTest_155 : decode cX11_takeTest 155 = .ok (.istore 6, 2) := dk_54 6 (dk_at dksX11_takeTest_6 12 rfl rfl)
theorem dX11_takeTest_157 : decode cX11_takeTest 157 = .ok (.ldc 42, 2) := dk_18 42 (dk_at dksX11_takeTest_6 14 rfl rfl)
theorem dX11_takeTest_159 : decode cX11_takeTest 159 = .ok (.istore 7, 2) := dk_54 7 (dk_at dksX11_takeTest_6 16 rfl rfl)
theorem dX11_takeTest_161 : decode cX11_takeTest 161 = .ok (.aload_n 0, 1) := dk_42 (dk_at dksX11_takeTest_6 18 rfl rfl)
theorem dX11_takeTest_162 : decode cX11_takeTest 162 = .ok (.ldc_w 305, 3) := dk_19 1 49 (dk_at dksX11_takeTest_6 19 rfl rfl)
theorem dX11_takeTest_165 : decode cX11_takeTest 165 = .ok (.invokevirtual 249, 3) := dk_182 0 249 (dk_at dksX11_takeTest_7 0 rfl rfl)
theorem dX11_takeTest_168 : decode cX11_takeTest 168 = .ok (.ifCond .eq 18, 3) := dk_153 0 18 (dk_at dksX11_takeTest_7 3 rfl rfl)
theorem dX11_takeTest_171 : decode cX11_takeTest 171 = .ok (.aload_n 0, 1) := dk_42 (dk_at dksX11_takeTest_7 6 rfl rfl)
theorem dX11_takeTest_172 : decode cX11_takeTest 172 = .ok (.invokevirtual 307, 3) := dk_182 1 51 (dk_at dksX11_takeTest_7 7 rfl rfl)
theorem dX11_takeTest_175 : decode cX11_takeTest 175 = .ok (.ifCond .ne 5, 3) := dk_154 0 5 (dk_at dksX11_takeTest_7 10 rfl rfl)
theorem dX11_takeTest_178 : decode cX11_takeTest 178 = .ok (.iconst 0, 1) := dk_3 (dk_at dksX11_takeTest_7 13 rfl rfl)
theorem dX11_takeTest_179 : decode cX11_takeTest 179 = .ok (.ireturn, 1) := dk_172 (dk_at dksX11_takeTest_7 14 rfl rfl)
theorem dX11_takeTest_180 : decode cX11_takeTest 180 = .ok (.aload_n 0, 1) := dk_42 (dk_at dksX11_takeTest_7 15 rfl rfl)
theorem dX11_takeTest_181 : decode cX11_takeTest 181 = .ok (.getfield 255, 3) := dk_180 0 255 (dk_at dksX11_takeTest_7 16 rfl rfl)
theorem dX11_takeTest_184 : decode cX11_takeTest 184 = .ok (.istore 7, 2) := dk_54 7 (dk_at dksX11_takeTest_7 19 rfl rfl)
theorem dX11_takeTest_186 : decode cX11_takeTest 186 = .ok (.aload_n 0, 1) := dk_42 (dk_at dksX11_takeTest_7 21 rfl rfl)
theorem dX11_takeTest_187 : decode cX11_takeTest 187 = .ok (.getfield 310, 3) := dk_180 1 54 (dk_at dksX11_takeTest_8 0 rfl rfl)
theorem dX11_takeTest_190 : decode cX11_takeTest 190 = .ok (.iconst 0, 1) := dk_3 (dk_at dksX11_takeTest_8 3 rfl rfl)
theorem dX11_takeTest_191 : decode cX11_takeTest 191 = .ok (.iaload, 1) := dk_46 (dk_at dksX11_takeTest_8 4 rfl rfl)
theorem dX11_takeTest_192 : decode cX11_takeTest 192 = .ok (.bipush 40, 2) := dk_16 40 (dk_at dksX11_takeTest_8 5 rfl rfl)
theorem dX11_takeTest_194 : decode cX11_takeTest 194 = .ok (.invokestatic 179, 3) := dk_184 0 179 (dk_at dksX11_takeTest_8 7 rfl rfl)
theorem dX11_takeTest_197 : decode cX11_takeTest 197 = .ok (.istore 8, 2) := dk_54 8 (dk_at dksX11_takeTest_8 10 rfl rfl)
theorem dX11_takeTest_199 : decode cX11_takeTest 199 = .ok (.aload_n 0, 1) := dk_42 (dk_at dksX11_takeTest_8 12 rfl rfl)
theorem dX11_takeTest_200 : decode cX11_takeTest 200 = .ok (.getfield 310, 3) := dk_180 1 54 (dk_at dksX11_takeTest_8 13 rfl rfl)
theorem dX11_takeTest_203 : decode cX11_takeTest 203 = .ok (.iconst 0, 1) := dk_3 (dk_at dksX11_takeTest_8 16 rfl rfl)
theorem dX11_takeTest_204 : decode cX11_takeTest 204 = .ok (.iaload, 1) := dk_46 (dk_at dksX11_takeTest_8 17 rfl rfl)
theorem dX11_takeTest_205 : decode cX11_takeTest 205 = .ok (.bipush 40, 2) := dk_16 40 (dk_at dksX11_takeTest_8 18 rfl rfl)
theorem dX11_takeTest_207 : decode cX11_takeTest 207 = .ok (.if_icmp .lt 8, 3) := dk_161 0 8 (dk_at dksX11_takeTest_8 20 rfl rfl)
theorem dX11_takeTest_210 : decode cX11_takeTest 210 = .ok (.aload_n 0, 1) := dk_42 (dk_at dksX11_takeTest_8 23 rfl rfl)
theorem dX11_takeTest_211 : decode cX11_takeTest 211 = .ok (.iload_n 2, 1) := dk_28 (dk_at dksX11_takeTest_9 0 rfl rfl)
theorem dX11_takeTest_212 : decode cX11_takeTest 212 = .ok (.invokevirtual 224, 3) := dk_182 0 224 (dk_at dksX11_takeTest_9 1 rfl rfl)
theorem dX11_takeTest_215 : decode cX11_takeTest 215 = .ok (.aload_n 0, 1) := dk_42 (dk_at dksX11_takeTest_9 4 rfl rfl)
theorem dX11_takeTest_216 : decode cX11_takeTest 216 = .ok (.getfield 310, 3) := dk_180 1 54 (dk_at dksX11_takeTest_9 5 rfl rfl)
theorem dX11_takeTest_219 : decode cX11_takeTest 219 = .ok (.iconst 0, 1) := dk_3 (dk_at dksX11_takeTest_9 8 rfl rfl)
theorem dX11_takeTest_220 : decode cX11_takeTest 220 = .ok (.iload 8, 2) := dk_21 8 (dk_at dksX11_takeTest_9 9 rfl rfl)
theorem dX11_takeTest_222 : decode cX11_takeTest 222 = .ok (.iconst 1, 1) := dk_4 (dk_at dksX11_takeTest_9 11 rfl rfl)
theorem dX11_takeTest_223 : decode cX11_takeTest 223 = .ok (.iadd, 1) := dk_96 (dk_at dksX11_takeTest_9 12 rfl rfl)
theorem dX11_takeTest_224 : decode cX11_takeTest 224 = .ok (.iastore, 1) := dk_79 (dk_at dksX11_takeTest_9 13 rfl rfl)
theorem dX11_takeTest_225 : decode cX11_takeTest 225 = .ok (.aload_n 0, 1) := dk_42 (dk_at dksX11_takeTest_9 14 rfl rfl)
theorem dX11_takeTest_226 : decode cX11_takeTest 226 = .ok (.getfield 313, 3) := dk_180 1 57 (dk_at dksX11_takeTest_9 15 rfl rfl)
theorem dX11_takeTest_229 : decode cX11_takeTest 229 = .ok (.iload 8, 2) := dk_21 8 (dk_at dksX11_takeTest_9 18 rfl rfl)
theorem dX11_takeTest_231 : decode cX11_takeTest 231 = .ok (.iload_n 3, 1) := dk_29 (dk_at dksX11_takeTest_9 20 rfl rfl)
theorem dX11_takeTest_232 : decode cX11_takeTest 232 = .ok (.iastore, 1) := dk_79 (dk_at dksX11_takeTest_9 21 rfl rfl)
theorem dX11_takeTest_233 : decode cX11_takeTest 233 = .ok (.aload_n 0, 1) := dk_42 (dk_at dksX11_takeTest_9 22 rfl rfl)
theorem dX11_takeTest_234 : decode cX11_takeTest 234 = .ok (.getfield 316, 3) := dk_180 1 60 (dk_at dksX11_takeTest_10 0 rfl rfl)
theorem dX11_takeTest_237 : decode cX11_takeTest 237 = .ok (.iload 8, 2) := dk_21 8 (dk_at dksX11_takeTest_10 3 rfl rfl)
theorem dX11_takeTest_239 : decode cX11_takeTest 239 = .ok (.iload 6, 2) := dk_21 6 (dk_at dksX11_takeTest_10 5 rfl rfl)
theorem dX11_takeTest_241 : decode cX11_takeTest 241 = .ok (.iastore, 1) := dk_79 (dk_at dksX11_takeTest_10 7 rfl rfl)
theorem dX11_takeTest_242 : decode cX11_takeTest 242 = .ok (.aload_n 0, 1) := dk_42 (dk_at dksX11_takeTest_10 8 rfl rfl)
theorem dX11_takeTest_243 : decode cX11_takeTest 243 = .ok (.getfield 319, 3) := dk_180 1 63 (dk_at dksX11_takeTest_10 9 rfl rfl)
theorem dX11_takeTest_246 : decode cX11_takeTest 246 = .ok (.iload 8, 2) := dk_21 8 (dk_at dksX11_takeTest_10 12 rfl rfl)
theorem dX11_takeTest_248 : decode cX11_takeTest 248 = .ok (.iload 7, 2) := dk_21 7 (dk_at dksX11_takeTest_10 14 rfl rfl)
theorem dX11_takeTest_250 : decode cX11_takeTest 250 = .ok (.iastore, 1) := dk_79 (dk_at dksX11_takeTest_10 16 rfl rfl)
theorem dX11_takeTest_251 : decode cX11_takeTest 251 = .ok (.aload_n 0, 1) := dk_42 (dk_at dksX11_takeTest_10 17 rfl rfl)
theorem dX11_takeTest_252 : decode cX11_takeTest 252 = .ok (.getfield 322, 3) := dk_180 1 66 (dk_at dksX11_takeTest_10 18 rfl rfl)
theorem dX11_takeTest_255 : decode cX11_takeTest 255 = .ok (.iload 8, 2) := dk_21 8 (dk_at dksX11_takeTest_10 21 rfl rfl)
theorem dX11_takeTest_257 : decode cX11_takeTest 257 = .ok (.iload_n 2, 1) := dk_28 (dk_at dksX11_takeTest_10 23 rfl rfl)
theorem dX11_takeTest_258 : decode cX11_takeTest 258 = .ok (.iastore, 1) := dk_79 (dk_at dksX11_takeTest_11 0 rfl rfl)
theorem dX11_takeTest_259 : decode cX11_takeTest 259 = .ok (.aload_n 0, 1) := dk_42 (dk_at dksX11_takeTest_11 1 rfl rfl)
theorem dX11_takeTest_260 : decode cX11_takeTest 260 = .ok (.iload_n 1, 1) := dk_27 (dk_at dksX11_takeTest_11 2 rfl rfl)
theorem dX11_takeTest_261 : decode cX11_takeTest 261 = .ok (.iload 8, 2) := dk_21 8 (dk_at dksX11_takeTest_11 3 rfl rfl)
theorem dX11_takeTest_263 : decode cX11_takeTest 263 = .ok (.invokevirtual 325, 3) := dk_182 1 69 (dk_at dksX11_takeTest_11 5 rfl rfl)
theorem dX11_takeTest_266 : decode cX11_takeTest 266 = .ok (.iconst 1, 1) := dk_4 (dk_at dksX11_takeTest_11 8 rfl rfl)
theorem dX11_takeTest_267 : decode cX11_takeTest 267 = .ok (.ireturn, 1) := dk_172 (dk_at dksX11_takeTest_11 9 rfl rfl)
abbrev cX11_takeWithin : ByteArray := prog_17_method_39_code
def yX11_takeWithin : MethodName := ⟨RX11, "takeWithin", "(II)Z"⟩
def dkwX11_takeWithin_1 : List UInt8 := [42, 42, 180, 0, 221, 182, 0, 224, 4, 172]
abbrev dktX11_takeWithin_1 : List UInt8 := dkwX11_takeWithin_1 ++ []
def dkwX11_takeWithin_0 : List UInt8 := [42, 182, 0, 228, 154, 0, 5, 3, 172, 42, 180, 0, 218, 133, 27, 133, 28, 133, 184, 0, 13, 154, 0, 11]
abbrev dktX11_takeWithin_0 : List UInt8 := dkwX11_takeWithin_0 ++ dktX11_takeWithin_1
theorem dksX11_takeWithin_0 : cX11_takeWithin.data.toList.drop 0 = dktX11_takeWithin_0 := by decide +kernel
theorem dksX11_takeWithin_1 : cX11_takeWithin.data.toList.drop 24 = dktX11_takeWithin_1 := dk_seg dksX11_takeWithin_0 24 rfl rfl
theorem dX11_takeWithin_0 : decode cX11_takeWithin 0 = .ok (.aload_n 0, 1) := dk_42 (dk_at dksX11_takeWithin_0 0 rfl rfl)
theorem dX11_takeWithin_1 : decode cX11_takeWithin 1 = .ok (.invokevirtual 228, 3) := dk_182 0 228 (dk_at dksX11_takeWithin_0 1 rfl rfl)
theorem dX11_takeWithin_4 : decode cX11_takeWithin 4 = .ok (.ifCond .ne 5, 3) := dk_154 0 5 (dk_at dksX11_takeWithin_0 4 rfl rfl)
theorem dX11_takeWithin_7 : decode cX11_takeWithin 7 = .ok (.iconst 0, 1) := dk_3 (dk_at dksX11_takeWithin_0 7 rfl rfl)
theorem dX11_takeWithin_8 : decode cX11_takeWithin 8 = .ok (.ireturn, 1) := dk_172 (dk_at dksX11_takeWithin_0 8 rfl rfl)
theorem dX11_takeWithin_9 : decode cX11_takeWithin 9 = .ok (.aload_n 0, 1) := dk_42 (dk_at dksX11_takeWithin_0 9 rfl rfl)
theorem dX11_takeWithin_10 : decode cX11_takeWithin 10 = .ok (.getfield 218, 3) := dk_180 0 218 (dk_at dksX11_takeWithin_0 10 rfl rfl)
theorem dX11_takeWithin_13 : decode cX11_takeWithin 13 = .ok (.i2l, 1) := dk_133 (dk_at dksX11_takeWithin_0 13 rfl rfl)
theorem dX11_takeWithin_14 : decode cX11_takeWithin 14 = .ok (.iload_n 1, 1) := dk_27 (dk_at dksX11_takeWithin_0 14 rfl rfl)
theorem dX11_takeWithin_15 : decode cX11_takeWithin 15 = .ok (.i2l, 1) := dk_133 (dk_at dksX11_takeWithin_0 15 rfl rfl)
theorem dX11_takeWithin_16 : decode cX11_takeWithin 16 = .ok (.iload_n 2, 1) := dk_28 (dk_at dksX11_takeWithin_0 16 rfl rfl)
theorem dX11_takeWithin_17 : decode cX11_takeWithin 17 = .ok (.i2l, 1) := dk_133 (dk_at dksX11_takeWithin_0 17 rfl rfl)
theorem dX11_takeWithin_18 : decode cX11_takeWithin 18 = .ok (.invokestatic 13, 3) := dk_184 0 13 (dk_at dksX11_takeWithin_0 18 rfl rfl)
theorem dX11_takeWithin_21 : decode cX11_takeWithin 21 = .ok (.ifCond .ne 11, 3) := dk_154 0 11 (dk_at dksX11_takeWithin_0 21 rfl rfl)
theorem dX11_takeWithin_24 : decode cX11_takeWithin 24 = .ok (.aload_n 0, 1) := dk_42 (dk_at dksX11_takeWithin_1 0 rfl rfl)
theorem dX11_takeWithin_25 : decode cX11_takeWithin 25 = .ok (.aload_n 0, 1) := dk_42 (dk_at dksX11_takeWithin_1 1 rfl rfl)
theorem dX11_takeWithin_26 : decode cX11_takeWithin 26 = .ok (.getfield 221, 3) := dk_180 0 221 (dk_at dksX11_takeWithin_1 2 rfl rfl)
theorem dX11_takeWithin_29 : decode cX11_takeWithin 29 = .ok (.invokevirtual 224, 3) := dk_182 0 224 (dk_at dksX11_takeWithin_1 5 rfl rfl)
theorem dX11_takeWithin_32 : decode cX11_takeWithin 32 = .ok (.iconst 1, 1) := dk_4 (dk_at dksX11_takeWithin_1 8 rfl rfl)
theorem dX11_takeWithin_33 : decode cX11_takeWithin 33 = .ok (.ireturn, 1) := dk_172 (dk_at dksX11_takeWithin_1 9 rfl rfl)
abbrev cX11_takeSignatures : ByteArray := prog_17_method_57_code
def yX11_takeSignatures : MethodName := ⟨RX11, "takeSignatures", "()Z"⟩
def dkwX11_takeSignatures_2 : List UInt8 := [182, 1, 45, 154, 0, 5, 3, 172, 42, 180, 1, 25, 16, 6, 42, 180, 0, 218, 79, 4, 172]
abbrev dktX11_takeSignatures_2 : List UInt8 := dkwX11_takeSignatures_2 ++ []
def dkwX11_takeSignatures_1 : List UInt8 := [180, 1, 25, 16, 6, 4, 79, 42, 19, 1, 191, 182, 0, 249, 154, 0, 5, 4, 172, 42, 4, 16, 20]
abbrev dktX11_takeSignatures_1 : List UInt8 := dkwX11_takeSignatures_1 ++ dktX11_takeSignatures_2
def dkwX11_takeSignatures_0 : List UInt8 := [42, 3, 16, 20, 182, 1, 45, 154, 0, 5, 3, 172, 42, 180, 1, 25, 8, 42, 180, 0, 218, 79, 42]
abbrev dktX11_takeSignatures_0 : List UInt8 := dkwX11_takeSignatures_0 ++ dktX11_takeSignatures_1
theorem dksX11_takeSignatures_0 : cX11_takeSignatures.data.toList.drop 0 = dktX11_takeSignatures_0 := by decide +kernel
theorem dksX11_takeSignatures_1 : cX11_takeSignatures.data.toList.drop 23 = dktX11_takeSignatures_1 := dk_seg dksX11_takeSignatures_0 23 rfl rfl
theorem dksX11_takeSignatures_2 : cX11_takeSignatures.data.toList.drop 46 = dktX11_takeSignatures_2 := dk_seg dksX11_takeSignatures_1 23 rfl rfl
theorem dX11_takeSignatures_0 : decode cX11_takeSignatures 0 = .ok (.aload_n 0, 1) := dk_42 (dk_at dksX11_takeSignatures_0 0 rfl rfl)
theorem dX11_takeSignatures_1 : decode cX11_takeSignatures 1 = .ok (.iconst 0, 1) := dk_3 (dk_at dksX11_takeSignatures_0 1 rfl rfl)
theorem dX11_takeSignatures_2 : decode cX11_takeSignatures 2 = .ok (.bipush 20, 2) := dk_16 20 (dk_at dksX11_takeSignatures_0 2 rfl rfl)
theorem dX11_takeSignatures_4 : decode cX11_takeSignatures 4 = .ok (.invokevirtual 301, 3) := dk_182 1 45 (dk_at dksX11_takeSignatures_0 4 rfl rfl)
theorem dX11_takeSignatures_7 : decode cX11_takeSignatures 7 = .ok (.ifCond .ne 5, 3) := dk_154 0 5 (dk_at dksX11_takeSignatures_0 7 rfl rfl)
theorem dX11_takeSignatures_10 : decode cX11_takeSignatures 10 = .ok (.iconst 0, 1) := dk_3 (dk_at dksX11_takeSignatures_0 10 rfl rfl)
theorem dX11_takeSignatures_11 : decode cX11_takeSignatures 11 = .ok (.ireturn, 1) := dk_172 (dk_at dksX11_takeSignatures_0 11 rfl rfl)
theorem dX11_takeSignatures_12 : decode cX11_takeSignatures 12 = .ok (.aload_n 0, 1) := dk_42 (dk_at dksX11_takeSignatures_0 12 rfl rfl)
theorem dX11_takeSignatures_13 : decode cX11_takeSignatures 13 = .ok (.getfield 281, 3) := dk_180 1 25 (dk_at dksX11_takeSignatures_0 13 rfl rfl)
theorem dX11_takeSignatures_16 : decode cX11_takeSignatures 16 = .ok (.iconst 5, 1) := dk_8 (dk_at dksX11_takeSignatures_0 16 rfl rfl)
theorem dX11_takeSignatures_17 : decode cX11_takeSignatures 17 = .ok (.aload_n 0, 1) := dk_42 (dk_at dksX11_takeSignatures_0 17 rfl rfl)
theorem dX11_takeSignatures_18 : decode cX11_takeSignatures 18 = .ok (.getfield 218, 3) := dk_180 0 218 (dk_at dksX11_takeSignatures_0 18 rfl rfl)
theorem dX11_takeSignatures_21 : decode cX11_takeSignatures 21 = .ok (.iastore, 1) := dk_79 (dk_at dksX11_takeSignatures_0 21 rfl rfl)
theorem dX11_takeSignatures_22 : decode cX11_takeSignatures 22 = .ok (.aload_n 0, 1) := dk_42 (dk_at dksX11_takeSignatures_0 22 rfl rfl)
theorem dX11_takeSignatures_23 : decode cX11_takeSignatures 23 = .ok (.getfield 281, 3) := dk_180 1 25 (dk_at dksX11_takeSignatures_1 0 rfl rfl)
theorem dX11_takeSignatures_26 : decode cX11_takeSignatures 26 = .ok (.bipush 6, 2) := dk_16 6 (dk_at dksX11_takeSignatures_1 3 rfl rfl)
theorem dX11_takeSignatures_28 : decode cX11_takeSignatures 28 = .ok (.iconst 1, 1) := dk_4 (dk_at dksX11_takeSignatures_1 5 rfl rfl)
theorem dX11_takeSignatures_29 : decode cX11_takeSignatures 29 = .ok (.iastore, 1) := dk_79 (dk_at dksX11_takeSignatures_1 6 rfl rfl)
theorem dX11_takeSignatures_30 : decode cX11_takeSignatures 30 = .ok (.aload_n 0, 1) := dk_42 (dk_at dksX11_takeSignatures_1 7 rfl rfl)
theorem dX11_takeSignatures_31 : decode cX11_takeSignatures 31 = .ok (.ldc_w 447, 3) := dk_19 1 191 (dk_at dksX11_takeSignatures_1 8 rfl rfl)
theorem dX11_takeSignatures_34 : decode cX11_takeSignatures 34 = .ok (.invokevirtual 249, 3) := dk_182 0 249 (dk_at dksX11_takeSignatures_1 11 rfl rfl)
theorem dX11_takeSignatures_37 : decode cX11_takeSignatures 37 = .ok (.ifCond .ne 5, 3) := dk_154 0 5 (dk_at dksX11_takeSignatures_1 14 rfl rfl)
theorem dX11_takeSignatures_40 : decode cX11_takeSignatures 40 = .ok (.iconst 1, 1) := dk_4 (dk_at dksX11_takeSignatures_1 17 rfl rfl)
theorem dX11_takeSignatures_41 : decode cX11_takeSignatures 41 = .ok (.ireturn, 1) := dk_172 (dk_at dksX11_takeSignatures_1 18 rfl rfl)
theorem dX11_takeSignatures_42 : decode cX11_takeSignatures 42 = .ok (.aload_n 0, 1) := dk_42 (dk_at dksX11_takeSignatures_1 19 rfl rfl)
theorem dX11_takeSignatures_43 : decode cX11_takeSignatures 43 = .ok (.iconst 1, 1) := dk_4 (dk_at dksX11_takeSignatures_1 20 rfl rfl)
theorem dX11_takeSignatures_44 : decode cX11_takeSignatures 44 = .ok (.bipush 20, 2) := dk_16 20 (dk_at dksX11_takeSignatures_1 21 rfl rfl)
theorem dX11_takeSignatures_46 : decode cX11_takeSignatures 46 = .ok (.invokevirtual 301, 3) := dk_182 1 45 (dk_at dksX11_takeSignatures_2 0 rfl rfl)
theorem dX11_takeSignatures_49 : decode cX11_takeSignatures 49 = .ok (.ifCond .ne 5, 3) := dk_154 0 5 (dk_at dksX11_takeSignatures_2 3 rfl rfl)
theorem dX11_takeSignatures_52 : decode cX11_takeSignatures 52 = .ok (.iconst 0, 1) := dk_3 (dk_at dksX11_takeSignatures_2 6 rfl rfl)
theorem dX11_takeSignatures_53 : decode cX11_takeSignatures 53 = .ok (.ireturn, 1) := dk_172 (dk_at dksX11_takeSignatures_2 7 rfl rfl)
theorem dX11_takeSignatures_54 : decode cX11_takeSignatures 54 = .ok (.aload_n 0, 1) := dk_42 (dk_at dksX11_takeSignatures_2 8 rfl rfl)
theorem dX11_takeSignatures_55 : decode cX11_takeSignatures 55 = .ok (.getfield 281, 3) := dk_180 1 25 (dk_at dksX11_takeSignatures_2 9 rfl rfl)
theorem dX11_takeSignatures_58 : decode cX11_takeSignatures 58 = .ok (.bipush 6, 2) := dk_16 6 (dk_at dksX11_takeSignatures_2 12 rfl rfl)
theorem dX11_takeSignatures_60 : decode cX11_takeSignatures 60 = .ok (.aload_n 0, 1) := dk_42 (dk_at dksX11_takeSignatures_2 14 rfl rfl)
theorem dX11_takeSignatures_61 : decode cX11_takeSignatures 61 = .ok (.getfield 218, 3) := dk_180 0 218 (dk_at dksX11_takeSignatures_2 15 rfl rfl)
theorem dX11_takeSignatures_64 : decode cX11_takeSignatures 64 = .ok (.iastore, 1) := dk_79 (dk_at dksX11_takeSignatures_2 18 rfl rfl)
theorem dX11_takeSignatures_65 : decode cX11_takeSignatures 65 = .ok (.iconst 1, 1) := dk_4 (dk_at dksX11_takeSignatures_2 19 rfl rfl)
theorem dX11_takeSignatures_66 : decode cX11_takeSignatures 66 = .ok (.ireturn, 1) := dk_172 (dk_at dksX11_takeSignatures_2 20 rfl rfl)
abbrev cX11_takeContest : ByteArray := prog_17_method_53_code
def yX11_takeContest : MethodName := ⟨RX11, "takeContest", "()Z"⟩
def dkwX11_takeContest_11 : List UInt8 := [160, 0, 11, 42, 28, 182, 1, 140, 153, 0, 7, 4, 167, 0, 4, 3, 172]
abbrev dktX11_takeContest_11 : List UInt8 := dkwX11_takeContest_11 ++ []
def dkwX11_takeContest_10 : List UInt8 := [172, 42, 180, 1, 28, 28, 6, 96, 21, 4, 153, 0, 7, 3, 167, 0, 4, 4, 79, 29, 16, 14]
abbrev dktX11_takeContest_10 : List UInt8 := dkwX11_takeContest_10 ++ dktX11_takeContest_11
def dkwX11_takeContest_9 : List UInt8 := [19, 1, 122, 182, 0, 249, 54, 4, 21, 4, 154, 0, 15, 42, 19, 1, 124, 182, 1, 130, 154, 0, 5, 3]
abbrev dktX11_takeContest_9 : List UInt8 := dkwX11_takeContest_9 ++ dktX11_takeContest_10
def dkwX11_takeContest_8 : List UInt8 := [42, 180, 1, 25, 16, 9, 92, 46, 4, 96, 79, 29, 16, 12, 159, 0, 9, 29, 16, 13, 160, 0, 47, 42]
abbrev dktX11_takeContest_8 : List UInt8 := dkwX11_takeContest_8 ++ dktX11_takeContest_9
def dkwX11_takeContest_7 : List UInt8 := [132, 4, 1, 167, 255, 223, 29, 156, 0, 8, 42, 182, 0, 210, 172, 42, 180, 1, 28, 28, 5, 96, 29, 79]
abbrev dktX11_takeContest_7 : List UInt8 := dkwX11_takeContest_7 ++ dktX11_takeContest_8
def dkwX11_takeContest_6 : List UInt8 := [156, 0, 28, 42, 21, 4, 184, 1, 137, 182, 0, 249, 153, 0, 8, 21, 4, 167, 0, 4, 2, 62]
abbrev dktX11_takeContest_6 : List UInt8 := dkwX11_takeContest_6 ++ dktX11_takeContest_7
def dkwX11_takeContest_5 : List UInt8 := [19, 1, 135, 182, 1, 130, 154, 0, 5, 3, 172, 2, 62, 3, 54, 4, 21, 4, 16, 14, 163, 0, 32, 29]
abbrev dktX11_takeContest_5 : List UInt8 := dkwX11_takeContest_5 ++ dktX11_takeContest_6
def dkwX11_takeContest_4 : List UInt8 := [16, 9, 182, 1, 45, 154, 0, 5, 3, 172, 42, 180, 1, 28, 28, 4, 96, 42, 180, 0, 218, 79, 42]
abbrev dktX11_takeContest_4 : List UInt8 := dkwX11_takeContest_4 ++ dktX11_takeContest_5
def dkwX11_takeContest_3 : List UInt8 := [180, 1, 28, 28, 3, 96, 42, 180, 0, 218, 79, 42, 19, 1, 133, 182, 1, 130, 153, 0, 13, 42, 4]
abbrev dktX11_takeContest_3 : List UInt8 := dkwX11_takeContest_3 ++ dktX11_takeContest_4
def dkwX11_takeContest_2 : List UInt8 := [182, 1, 130, 153, 0, 17, 42, 3, 42, 180, 0, 61, 4, 100, 182, 1, 45, 154, 0, 5, 3, 172, 42]
abbrev dktX11_takeContest_2 : List UInt8 := dkwX11_takeContest_2 ++ dktX11_takeContest_3
def dkwX11_takeContest_1 : List UInt8 := [162, 0, 18, 42, 180, 1, 28, 28, 29, 96, 3, 79, 132, 3, 1, 167, 255, 238, 42, 19, 1, 41]
abbrev dktX11_takeContest_1 : List UInt8 := dkwX11_takeContest_1 ++ dktX11_takeContest_2
def dkwX11_takeContest_0 : List UInt8 := [42, 180, 1, 25, 16, 9, 46, 8, 184, 0, 179, 60, 16, 8, 27, 104, 61, 3, 62, 29, 16, 8]
abbrev dktX11_takeContest_0 : List UInt8 := dkwX11_takeContest_0 ++ dktX11_takeContest_1
theorem dksX11_takeContest_0 : cX11_takeContest.data.toList.drop 0 = dktX11_takeContest_0 := by decide +kernel
theorem dksX11_takeContest_1 : cX11_takeContest.data.toList.drop 22 = dktX11_takeContest_1 := dk_seg dksX11_takeContest_0 22 rfl rfl
theorem dksX11_takeContest_2 : cX11_takeContest.data.toList.drop 44 = dktX11_takeContest_2 := dk_seg dksX11_takeContest_1 22 rfl rfl
theorem dksX11_takeContest_3 : cX11_takeContest.data.toList.drop 67 = dktX11_takeContest_3 := dk_seg dksX11_takeContest_2 23 rfl rfl
theorem dksX11_takeContest_4 : cX11_takeContest.data.toList.drop 90 = dktX11_takeContest_4 := dk_seg dksX11_takeContest_3 23 rfl rfl
theorem dksX11_takeContest_5 : cX11_takeContest.data.toList.drop 113 = dktX11_takeContest_5 := dk_seg dksX11_takeContest_4 23 rfl rfl
theorem dksX11_takeContest_6 : cX11_takeContest.data.toList.drop 137 = dktX11_takeContest_6 := dk_seg dksX11_takeContest_5 24 rfl rfl
theorem dksX11_takeContest_7 : cX11_takeContest.data.toList.drop 159 = dktX11_takeContest_7 := dk_seg dksX11_takeContest_6 22 rfl rfl
theorem dksX11_takeContest_8 : cX11_takeContest.data.toList.drop 183 = dktX11_takeContest_8 := dk_seg dksX11_takeContest_7 24 rfl rfl
theorem dksX11_takeContest_9 : cX11_takeContest.data.toList.drop 207 = dktX11_takeContest_9 := dk_seg dksX11_takeContest_8 24 rfl rfl
theorem dksX11_takeContest_10 : cX11_takeContest.data.toList.drop 231 = dktX11_takeContest_10 := dk_seg dksX11_takeContest_9 24 rfl rfl
theorem dksX11_takeContest_11 : cX11_takeContest.data.toList.drop 253 = dktX11_takeContest_11 := dk_seg dksX11_takeContest_10 22 rfl rfl
theorem dX11_takeContest_0 : decode cX11_takeContest 0 = .ok (.aload_n 0, 1) := dk_42 (dk_at dksX11_takeContest_0 0 rfl rfl)
theorem dX11_takeContest_1 : decode cX11_takeContest 1 = .ok (.getfield 281, 3) := dk_180 1 25 (dk_at dksX11_takeContest_0 1 rfl rfl)
theorem dX11_takeContest_4 : decode cX11_takeContest 4 = .ok (.bipush 9, 2) := dk_16 9 (dk_at dksX11_takeContest_0 4 rfl rfl)
theorem dX11_takeContest_6 : decode cX11_takeContest 6 = .ok (.iaload, 1) := dk_46 (dk_at dksX11_takeContest_0 6 rfl rfl)
theorem dX11_takeContest_7 : decode cX11_takeContest 7 = .ok (.iconst 5, 1) := dk_8 (dk_at dksX11_takeContest_0 7 rfl rfl)
theorem dX11_takeContest_8 : decode cX11_takeContest 8 = .ok (.invokestatic 179, 3) := dk_184 0 179 (dk_at dksX11_takeContest_0 8 rfl rfl)
theorem dX11_takeContest_11 : decode cX11_takeContest 11 = .ok (.istore_n 1, 1) := dk_60 (dk_at dksX11_takeContest_0 11 rfl rfl)
theorem dX11_takeContest_12 : decode cX11_takeContest 12 = .ok (.bipush 8, 2) := dk_16 8 (dk_at dksX11_takeContest_0 12 rfl rfl)
theorem dX11_takeContest_14 : decode cX11_takeContest 14 = .ok (.iload_n 1, 1) := dk_27 (dk_at dksX11_takeContest_0 14 rfl rfl)
theorem dX11_takeContest_15 : decode cX11_takeContest 15 = .ok (.imul, 1) := dk_104 (dk_at dksX11_takeContest_0 15 rfl rfl)
theorem dX11_takeContest_16 : decode cX11_takeContest 16 = .ok (.istore_n 2, 1) := dk_61 (dk_at dksX11_takeContest_0 16 rfl rfl)
theorem dX11_takeContest_17 : decode cX11_takeContest 17 = .ok (.iconst 0, 1) := dk_3 (dk_at dksX11_takeContest_0 17 rfl rfl)
theorem dX11_takeContest_18 : decode cX11_takeContest 18 = .ok (.istore_n 3, 1) := dk_62 (dk_at dksX11_takeContest_0 18 rfl rfl)
theorem dX11_takeContest_19 : decode cX11_takeContest 19 = .ok (.iload_n 3, 1) := dk_29 (dk_at dksX11_takeContest_0 19 rfl rfl)
theorem dX11_takeContest_20 : decode cX11_takeContest 20 = .ok (.bipush 8, 2) := dk_16 8 (dk_at dksX11_takeContest_0 20 rfl rfl)
theorem dX11_takeContest_22 : decode cX11_takeContest 22 = .ok (.if_icmp .ge 18, 3) := dk_162 0 18 (dk_at dksX11_takeContest_1 0 rfl rfl)
theorem dX11_takeContest_25 : decode cX11_takeContest 25 = .ok (.aload_n 0, 1) := dk_42 (dk_at dksX11_takeContest_1 3 rfl rfl)
theorem dX11_takeContest_26 : decode cX11_takeContest 26 = .ok (.getfield 284, 3) := dk_180 1 28 (dk_at dksX11_takeContest_1 4 rfl rfl)
theorem dX11_takeContest_29 : decode cX11_takeContest 29 = .ok (.iload_n 2, 1) := dk_28 (dk_at dksX11_takeContest_1 7 rfl rfl)
theorem dX11_takeContest_30 : decode cX11_takeContest 30 = .ok (.iload_n 3, 1) := dk_29 (dk_at dksX11_takeContest_1 8 rfl rfl)
theorem dX11_takeContest_31 : decode cX11_takeContest 31 = .ok (.iadd, 1) := dk_96 (dk_at dksX11_takeContest_1 9 rfl rfl)
theorem dX11_takeContest_32 : decode cX11_takeContest 32 = .ok (.iconst 0, 1) := dk_3 (dk_at dksX11_takeContest_1 10 rfl rfl)
theorem dX11_takeContest_33 : decode cX11_takeContest 33 = .ok (.iastore, 1) := dk_79 (dk_at dksX11_takeContest_1 11 rfl rfl)
theorem dX11_takeContest_34 : decode cX11_takeContest 34 = .ok (.iinc 3 1, 3) := dk_132 3 1 (dk_at dksX11_takeContest_1 12 rfl rfl)
theorem dX11_takeContest_37 : decode cX11_takeContest 37 = .ok (.goto (-18), 3) := dk_167 255 238 (dk_at dksX11_takeContest_1 15 rfl rfl)
theorem dX11_takeContest_40 : decode cX11_takeContest 40 = .ok (.aload_n 0, 1) := dk_42 (dk_at dksX11_takeContest_1 18 rfl rfl)
theorem dX11_takeContest_41 : decode cX11_takeContest 41 = .ok (.ldc_w 297, 3) := dk_19 1 41 (dk_at dksX11_takeContest_1 19 rfl rfl)
theorem dX11_takeContest_44 : decode cX11_takeContest 44 = .ok (.invokevirtual 386, 3) := dk_182 1 130 (dk_at dksX11_takeContest_2 0 rfl rfl)
theorem dX11_takeContest_47 : decode cX11_takeContest 47 = .ok (.ifCond .eq 17, 3) := dk_153 0 17 (dk_at dksX11_takeContest_2 3 rfl rfl)
theorem dX11_takeContest_50 : decode cX11_takeContest 50 = .ok (.aload_n 0, 1) := dk_42 (dk_at dksX11_takeContest_2 6 rfl rfl)
theorem dX11_takeContest_51 : decode cX11_takeContest 51 = .ok (.iconst 0, 1) := dk_3 (dk_at dksX11_takeContest_2 7 rfl rfl)
theorem dX11_takeContest_52 : decode cX11_takeContest 52 = .ok (.aload_n 0, 1) := dk_42 (dk_at dksX11_takeContest_2 8 rfl rfl)
theorem dX11_takeContest_53 : decode cX11_takeContest 53 = .ok (.getfield 61, 3) := dk_180 0 61 (dk_at dksX11_takeContest_2 9 rfl rfl)
theorem dX11_takeContest_56 : decode cX11_takeContest 56 = .ok (.iconst 1, 1) := dk_4 (dk_at dksX11_takeContest_2 12 rfl rfl)
theorem dX11_takeContest_57 : decode cX11_takeContest 57 = .ok (.isub, 1) := dk_100 (dk_at dksX11_takeContest_2 13 rfl rfl)
theorem dX11_takeContest_58 : decode cX11_takeContest 58 = .ok (.invokevirtual 301, 3) := dk_182 1 45 (dk_at dksX11_takeContest_2 14 rfl rfl)
theorem dX11_takeContest_61 : decode cX11_takeContest 61 = .ok (.ifCond .ne 5, 3) := dk_154 0 5 (dk_at dksX11_takeContest_2 17 rfl rfl)
theorem dX11_takeContest_64 : decode cX11_takeContest 64 = .ok (.iconst 0, 1) := dk_3 (dk_at dksX11_takeContest_2 20 rfl rfl)
theorem dX11_takeContest_65 : decode cX11_takeContest 65 = .ok (.ireturn, 1) := dk_172 (dk_at dksX11_takeContest_2 21 rfl rfl)
theorem dX11_takeContest_66 : decode cX11_takeContest 66 = .ok (.aload_n 0, 1) := dk_42 (dk_at dksX11_takeContest_2 22 rfl rfl)
theorem dX11_takeContest_67 : decode cX11_takeContest 67 = .ok (.getfield 284, 3) := dk_180 1 28 (dk_at dksX11_takeContest_3 0 rfl rfl)
theorem dX11_takeContest_70 : decode cX11_takeContest 70 = .ok (.iload_n 2, 1) := dk_28 (dk_at dksX11_takeContest_3 3 rfl rfl)
theorem dX11_takeContest_71 : decode cX11_takeContest 71 = .ok (.iconst 0, 1) := dk_3 (dk_at dksX11_takeContest_3 4 rfl rfl)
theorem dX11_takeContest_72 : decode cX11_takeContest 72 = .ok (.iadd, 1) := dk_96 (dk_at dksX11_takeContest_3 5 rfl rfl)
theorem dX11_takeContest_73 : decode cX11_takeContest 73 = .ok (.aload_n 0, 1) := dk_42 (dk_at dksX11_takeContest_3 6 rfl rfl)
theorem dX11_takeContest_74 : decode cX11_takeContest 74 = .ok (.getfield 218, 3) := dk_180 0 218 (dk_at dksX11_takeContest_3 7 rfl rfl)
theorem dX11_takeContest_77 : decode cX11_takeContest 77 = .ok (.iastore, 1) := dk_79 (dk_at dksX11_takeContest_3 10 rfl rfl)
theorem dX11_takeContest_78 : decode cX11_takeContest 78 = .ok (.aload_n 0, 1) := dk_42 (dk_at dksX11_takeContest_3 11 rfl rfl)
theorem dX11_takeContest_79 : decode cX11_takeContest 79 = .ok (.ldc_w 389, 3) := dk_19 1 133 (dk_at dksX11_takeContest_3 12 rfl rfl)
theorem dX11_takeContest_82 : decode cX11_takeContest 82 = .ok (.invokevirtual 386, 3) := dk_182 1 130 (dk_at dksX11_takeContest_3 15 rfl rfl)
theorem dX11_takeContest_85 : decode cX11_takeContest 85 = .ok (.ifCond .eq 13, 3) := dk_153 0 13 (dk_at dksX11_takeContest_3 18 rfl rfl)
theorem dX11_takeContest_88 : decode cX11_takeContest 88 = .ok (.aload_n 0, 1) := dk_42 (dk_at dksX11_takeContest_3 21 rfl rfl)
theorem dX11_takeContest_89 : decode cX11_takeContest 89 = .ok (.iconst 1, 1) := dk_4 (dk_at dksX11_takeContest_3 22 rfl rfl)
theorem dX11_takeContest_90 : decode cX11_takeContest 90 = .ok (.bipush 9, 2) := dk_16 9 (dk_at dksX11_takeContest_4 0 rfl rfl)
theorem dX11_takeContest_92 : decode cX11_takeContest 92 = .ok (.invokevirtual 301, 3) := dk_182 1 45 (dk_at dksX11_takeContest_4 2 rfl rfl)
theorem dX11_takeContest_95 : decode cX11_takeContest 95 = .ok (.ifCond .ne 5, 3) := dk_154 0 5 (dk_at dksX11_takeContest_4 5 rfl rfl)
theorem dX11_takeContest_98 : decode cX11_takeContest 98 = .ok (.iconst 0, 1) := dk_3 (dk_at dksX11_takeContest_4 8 rfl rfl)
theorem dX11_takeContest_99 : decode cX11_takeContest 99 = .ok (.ireturn, 1) := dk_172 (dk_at dksX11_takeContest_4 9 rfl rfl)
theorem dX11_takeContest_100 : decode cX11_takeContest 100 = .ok (.aload_n 0, 1) := dk_42 (dk_at dksX11_takeContest_4 10 rfl rfl)
theorem dX11_takeContest_101 : decode cX11_takeContest 101 = .ok (.getfield 284, 3) := dk_180 1 28 (dk_at dksX11_takeContest_4 11 rfl rfl)
theorem dX11_takeContest_104 : decode cX11_takeContest 104 = .ok (.iload_n 2, 1) := dk_28 (dk_at dksX11_takeContest_4 14 rfl rfl)
theorem dX11_takeContest_105 : decode cX11_takeContest 105 = .ok (.iconst 1, 1) := dk_4 (dk_at dksX11_takeContest_4 15 rfl rfl)
theorem dX11_takeContest_106 : decode cX11_takeContest 106 = .ok (.iadd, 1) := dk_96 (dk_at dksX11_takeContest_4 16 rfl rfl)
theorem dX11_takeContest_107 : decode cX11_takeContest 107 = .ok (.aload_n 0, 1) := dk_42 (dk_at dksX11_takeContest_4 17 rfl rfl)
theorem dX11_takeContest_108 : decode cX11_takeContest 108 = .ok (.getfield 218, 3) := dk_180 0 218 (dk_at dksX11_takeContest_4 18 rfl rfl)
theorem dX11_takeContest_111 : decode cX11_takeContest 111 = .ok (.iastore, 1) := dk_79 (dk_at dksX11_takeContest_4 21 rfl rfl)
theorem dX11_takeContest_112 : decode cX11_takeContest 112 = .ok (.aload_n 0, 1) := dk_42 (dk_at dksX11_takeContest_4 22 rfl rfl)
theorem dX11_takeContest_113 : decode cX11_takeContest 113 = .ok (.ldc_w 391, 3) := dk_19 1 135 (dk_at dksX11_takeContest_5 0 rfl rfl)
theorem dX11_takeContest_116 : decode cX11_takeContest 116 = .ok (.invokevirtual 386, 3) := dk_182 1 130 (dk_at dksX11_takeContest_5 3 rfl rfl)
theorem dX11_takeContest_119 : decode cX11_takeContest 119 = .ok (.ifCond .ne 5, 3) := dk_154 0 5 (dk_at dksX11_takeContest_5 6 rfl rfl)
theorem dX11_takeContest_122 : decode cX11_takeContest 122 = .ok (.iconst 0, 1) := dk_3 (dk_at dksX11_takeContest_5 9 rfl rfl)
theorem dX11_takeContest_123 : decode cX11_takeContest 123 = .ok (.ireturn, 1) := dk_172 (dk_at dksX11_takeContest_5 10 rfl rfl)
theorem dX11_takeContest_124 : decode cX11_takeContest 124 = .ok (.iconst (-1), 1) := dk_2 (dk_at dksX11_takeContest_5 11 rfl rfl)
theorem dX11_takeContest_125 : decode cX11_takeContest 125 = .ok (.istore_n 3, 1) := dk_62 (dk_at dksX11_takeContest_5 12 rfl rfl)
theorem dX11_takeContest_126 : decode cX11_takeContest 126 = .ok (.iconst 0, 1) := dk_3 (dk_at dksX11_takeContest_5 13 rfl rfl)
theorem dX11_takeContest_127 : decode cX11_takeContest 127 = .ok (.istore 4, 2) := dk_54 4 (dk_at dksX11_takeContest_5 14 rfl rfl)
theorem dX11_takeContest_129 : decode cX11_takeContest 129 = .ok (.iload 4, 2) := dk_21 4 (dk_at dksX11_takeContest_5 16 rfl rfl)
theorem dX11_takeContest_131 : decode cX11_takeContest 131 = .ok (.bipush 14, 2) := dk_16 14 (dk_at dksX11_takeContest_5 18 rfl rfl)
theorem dX11_takeContest_133 : decode cX11_takeContest 133 = .ok (.if_icmp .gt 32, 3) := dk_163 0 32 (dk_at dksX11_takeContest_5 20 rfl rfl)
theorem dX11_takeContest_136 : decode cX11_takeContest 136 = .ok (.iload_n 3, 1) := dk_29 (dk_at dksX11_takeContest_5 23 rfl rfl)
theorem dX11_takeContest_137 : decode cX11_takeContest 137 = .ok (.ifCond .ge 28, 3) := dk_156 0 28 (dk_at dksX11_takeContest_6 0 rfl rfl)
theorem dX11_takeContest_140 : decode cX11_takeContest 140 = .ok (.aload_n 0, 1) := dk_42 (dk_at dksX11_takeContest_6 3 rfl rfl)
theorem dX11_takeContest_141 : decode cX11_takeContest 141 = .ok (.iload 4, 2) := dk_21 4 (dk_at dksX11_takeContest_6 4 rfl rfl)
theorem dX11_takeContest_143 : decode cX11_takeContest 143 = .ok (.invokestatic 393, 3) := dk_184 1 137 (dk_at dksX11_takeContest_6 6 rfl rfl)
theorem dX11_takeContest_146 : decode cX11_takeContest 146 = .ok (.invokevirtual 249, 3) := dk_182 0 249 (dk_at dksX11_takeContest_6 9 rfl rfl)
theorem dX11_takeContest_149 : decode cX11_takeContest 149 = .ok (.ifCond .eq 8, 3) := dk_153 0 8 (dk_at dksX11_takeContest_6 12 rfl rfl)
theorem dX11_takeContest_152 : decode cX11_takeContest 152 = .ok (.iload 4, 2) := dk_21 4 (dk_at dksX11_takeContest_6 15 rfl rfl)
theorem dX11_takeContest_154 : decode cX11_takeContest 154 = .ok (.goto 4, 3) := dk_167 0 4 (dk_at dksX11_takeContest_6 17 rfl rfl)
theorem dX11_takeContest_157 : decode cX11_takeContest 157 = .ok (.iconst (-1), 1) := dk_2 (dk_at dksX11_takeContest_6 20 rfl rfl)
theorem dX11_takeContest_158 : decode cX11_takeContest 158 = .ok (.istore_n 3, 1) := dk_62 (dk_at dksX11_takeContest_6 21 rfl rfl)
theorem dX11_takeContest_159 : decode cX11_takeContest 159 = .ok (.iinc 4 1, 3) := dk_132 4 1 (dk_at dksX11_takeContest_7 0 rfl rfl)
theorem dX11_takeContest_162 : decode cX11_takeContest 162 = .ok (.goto (-33), 3) := dk_167 255 223 (dk_at dksX11_takeContest_7 3 rfl rfl)
theorem dX11_takeContest_165 : decode cX11_takeContest 165 = .ok (.iload_n 3, 1) := dk_29 (dk_at dksX11_takeContest_7 6 rfl rfl)
theorem dX11_takeContest_166 : decode cX11_takeContest 166 = .ok (.ifCond .ge 8, 3) := dk_156 0 8 (dk_at dksX11_takeContest_7 7 rfl rfl)
theorem dX11_takeContest_169 : decode cX11_takeContest 169 = .ok (.aload_n 0, 1) := dk_42 (dk_at dksX11_takeContest_7 10 rfl rfl)
theorem dX11_takeContest_170 : decode cX11_takeContest 170 = .ok (.invokevirtual 210, 3) := dk_182 0 210 (dk_at dksX11_takeContest_7 11 rfl rfl)
theorem dX11_takeContest_173 : decode cX11_takeContest 173 = .ok (.ireturn, 1) := dk_172 (dk_at dksX11_takeContest_7 14 rfl rfl)
theorem dX11_takeContest_174 : decode cX11_takeContest 174 = .ok (.aload_n 0, 1) := dk_42 (dk_at dksX11_takeContest_7 15 rfl rfl)
theorem dX11_takeContest_175 : decode cX11_takeContest 175 = .ok (.getfield 284, 3) := dk_180 1 28 (dk_at dksX11_takeContest_7 16 rfl rfl)
theorem dX11_takeContest_178 : decode cX11_takeContest 178 = .ok (.iload_n 2, 1) := dk_28 (dk_at dksX11_takeContest_7 19 rfl rfl)
theorem dX11_takeContest_179 : decode cX11_takeContest 179 = .ok (.iconst 2, 1) := dk_5 (dk_at dksX11_takeContest_7 20 rfl rfl)
theorem dX11_takeContest_180 : decode cX11_takeContest 180 = .ok (.iadd, 1) := dk_96 (dk_at dksX11_takeContest_7 21 rfl rfl)
theorem dX11_takeContest_181 : decode cX11_takeContest 181 = .ok (.iload_n 3, 1) := dk_29 (dk_at dksX11_takeContest_7 22 rfl rfl)
theorem dX11_takeContest_182 : decode cX11_takeContest 182 = .ok (.iastore, 1) := dk_79 (dk_at dksX11_takeContest_7 23 rfl rfl)
theorem dX11_takeContest_183 : decode cX11_takeContest 183 = .ok (.aload_n 0, 1) := dk_42 (dk_at dksX11_takeContest_8 0 rfl rfl)
theorem dX11_takeContest_184 : decode cX11_takeContest 184 = .ok (.getfield 281, 3) := dk_180 1 25 (dk_at dksX11_takeContest_8 1 rfl rfl)
theorem dX11_takeContest_187 : decode cX11_takeContest 187 = .ok (.bipush 9, 2) := dk_16 9 (dk_at dksX11_takeContest_8 4 rfl rfl)
theorem dX11_takeContest_189 : decode cX11_takeContest 189 = .ok (.dup2, 1) := dk_92 (dk_at dksX11_takeContest_8 6 rfl rfl)
theorem dX11_takeContest_190 : decode cX11_takeContest 190 = .ok (.iaload, 1) := dk_46 (dk_at dksX11_takeContest_8 7 rfl rfl)
theorem dX11_takeContest_191 : decode cX11_takeContest 191 = .ok (.iconst 1, 1) := dk_4 (dk_at dksX11_takeContest_8 8 rfl rfl)
theorem dX11_takeContest_192 : decode cX11_takeContest 192 = .ok (.iadd, 1) := dk_96 (dk_at dksX11_takeContest_8 9 rfl rfl)
theorem dX11_takeContest_193 : decode cX11_takeContest 193 = .ok (.iastore, 1) := dk_79 (dk_at dksX11_takeContest_8 10 rfl rfl)
theorem dX11_takeContest_194 : decode cX11_takeContest 194 = .ok (.iload_n 3, 1) := dk_29 (dk_at dksX11_takeContest_8 11 rfl rfl)
theorem dX11_takeContest_195 : decode cX11_takeContest 195 = .ok (.bipush 12, 2) := dk_16 12 (dk_at dksX11_takeContest_8 12 rfl rfl)
theorem dX11_takeContest_197 : decode cX11_takeContest 197 = .ok (.if_icmp .eq 9, 3) := dk_159 0 9 (dk_at dksX11_takeContest_8 14 rfl rfl)
theorem dX11_takeContest_200 : decode cX11_takeContest 200 = .ok (.iload_n 3, 1) := dk_29 (dk_at dksX11_takeContest_8 17 rfl rfl)
theorem dX11_takeContest_201 : decode cX11_takeContest 201 = .ok (.bipush 13, 2) := dk_16 13 (dk_at dksX11_takeContest_8 18 rfl rfl)
theorem dX11_takeContest_203 : decode cX11_takeContest 203 = .ok (.if_icmp .ne 47, 3) := dk_160 0 47 (dk_at dksX11_takeContest_8 20 rfl rfl)
theorem dX11_takeContest_206 : decode cX11_takeContest 206 = .ok (.aload_n 0, 1) := dk_42 (dk_at dksX11_takeContest_8 23 rfl rfl)
theorem dX11_takeContest_207 : decode cX11_takeContest 207 = .ok (.ldc_w 378, 3) := dk_19 1 122 (dk_at dksX11_takeContest_9 0 rfl rfl)
theorem dX11_takeContest_210 : decode cX11_takeContest 210 = .ok (.invokevirtual 249, 3) := dk_182 0 249 (dk_at dksX11_takeContest_9 3 rfl rfl)
theorem dX11_takeContest_213 : decode cX11_takeContest 213 = .ok (.istore 4, 2) := dk_54 4 (dk_at dksX11_takeContest_9 6 rfl rfl)
theorem dX11_takeContest_215 : decode cX11_takeContest 215 = .ok (.iload 4, 2) := dk_21 4 (dk_at dksX11_takeContest_9 8 rfl rfl)
theorem dX11_takeContest_217 : decode cX11_takeContest 217 = .ok (.ifCond .ne 15, 3) := dk_154 0 15 (dk_at dksX11_takeContest_9 10 rfl rfl)
theorem dX11_takeContest_220 : decode cX11_takeContest 220 = .ok (.aload_n 0, 1) := dk_42 (dk_at dksX11_takeContest_9 13 rfl rfl)
theorem dX11_takeContest_221 : decode cX11_takeContest 221 = .ok (.ldc_w 380, 3) := dk_19 1 124 (dk_at dksX11_takeContest_9 14 rfl rfl)
theorem dX11_takeContest_224 : decode cX11_takeContest 224 = .ok (.invokevirtual 386, 3) := dk_182 1 130 (dk_at dksX11_takeContest_9 17 rfl rfl)
theorem dX11_takeContest_227 : decode cX11_takeContest 227 = .ok (.ifCond .ne 5, 3) := dk_154 0 5 (dk_at dksX11_takeContest_9 20 rfl rfl)
theorem dX11_takeContest_230 : decode cX11_takeContest 230 = .ok (.iconst 0, 1) := dk_3 (dk_at dksX11_takeContest_9 23 rfl rfl)
theorem dX11_takeContest_231 : decode cX11_takeContest 231 = .ok (.ireturn, 1) := dk_172 (dk_at dksX11_takeContest_10 0 rfl rfl)
theorem dX11_takeContest_232 : decode cX11_takeContest 232 = .ok (.aload_n 0, 1) := dk_42 (dk_at dksX11_takeContest_10 1 rfl rfl)
theorem dX11_takeContest_233 : decode cX11_takeContest 233 = .ok (.getfield 284, 3) := dk_180 1 28 (dk_at dksX11_takeContest_10 2 rfl rfl)
theorem dX11_takeContest_236 : decode cX11_takeContest 236 = .ok (.iload_n 2, 1) := dk_28 (dk_at dksX11_takeContest_10 5 rfl rfl)
theorem dX11_takeContest_237 : decode cX11_takeContest 237 = .ok (.iconst 3, 1) := dk_6 (dk_at dksX11_takeContest_10 6 rfl rfl)
theorem dX11_takeContest_238 : decode cX11_takeContest 238 = .ok (.iadd, 1) := dk_96 (dk_at dksX11_takeContest_10 7 rfl rfl)
theorem dX11_takeContest_239 : decode cX11_takeContest 239 = .ok (.iload 4, 2) := dk_21 4 (dk_at dksX11_takeContest_10 8 rfl rfl)
theorem dX11_takeContest_241 : decode cX11_takeContest 241 = .ok (.ifCond .eq 7, 3) := dk_153 0 7 (dk_at dksX11_takeContest_10 10 rfl rfl)
theorem dX11_takeContest_244 : decode cX11_takeContest 244 = .ok (.iconst 0, 1) := dk_3 (dk_at dksX11_takeContest_10 13 rfl rfl)
theorem dX11_takeContest_245 : decode cX11_takeContest 245 = .ok (.goto 4, 3) := dk_167 0 4 (dk_at dksX11_takeContest_10 14 rfl rfl)
theorem dX11_takeContest_248 : decode cX11_takeContest 248 = .ok (.iconst 1, 1) := dk_4 (dk_at dksX11_takeContest_10 17 rfl rfl)
theorem dX11_takeContest_249 : decode cX11_takeContest 249 = .ok (.iastore, 1) := dk_79 (dk_at dksX11_takeContest_10 18 rfl rfl)
theorem dX11_takeContest_250 : decode cX11_takeContest 250 = .ok (.iload_n 3, 1) := dk_29 (dk_at dksX11_takeContest_10 19 rfl rfl)
theorem dX11_takeContest_251 : decode cX11_takeContest 251 = .ok (.bipush 14, 2) := dk_16 14 (dk_at dksX11_takeContest_10 20 rfl rfl)
theorem dX11_takeContest_253 : decode cX11_takeContest 253 = .ok (.if_icmp .ne 11, 3) := dk_160 0 11 (dk_at dksX11_takeContest_11 0 rfl rfl)
theorem dX11_takeContest_256 : decode cX11_takeContest 256 = .ok (.aload_n 0, 1) := dk_42 (dk_at dksX11_takeContest_11 3 rfl rfl)
theorem dX11_takeContest_257 : decode cX11_takeContest 257 = .ok (.iload_n 2, 1) := dk_28 (dk_at dksX11_takeContest_11 4 rfl rfl)
theorem dX11_takeContest_258 : decode cX11_takeContest 258 = .ok (.invokevirtual 396, 3) := dk_182 1 140 (dk_at dksX11_takeContest_11 5 rfl rfl)
theorem dX11_takeContest_261 : decode cX11_takeContest 261 = .ok (.ifCond .eq 7, 3) := dk_153 0 7 (dk_at dksX11_takeContest_11 8 rfl rfl)
theorem dX11_takeContest_264 : decode cX11_takeContest 264 = .ok (.iconst 1, 1) := dk_4 (dk_at dksX11_takeContest_11 11 rfl rfl)
theorem dX11_takeContest_265 : decode cX11_takeContest 265 = .ok (.goto 4, 3) := dk_167 0 4 (dk_at dksX11_takeContest_11 12 rfl rfl)
theorem dX11_takeContest_268 : decode cX11_takeContest 268 = .ok (.iconst 0, 1) := dk_3 (dk_at dksX11_takeContest_11 15 rfl rfl)
theorem dX11_takeContest_269 : decode cX11_takeContest 269 = .ok (.ireturn, 1) := dk_172 (dk_at dksX11_takeContest_11 16 rfl rfl)
abbrev cX11_takeWord : ByteArray := prog_17_method_36_code
def yX11_takeWord : MethodName := ⟨RX11, "takeWord", "(Ljava/lang/String;)Z"⟩
def dkwX11_takeWord_1 : List UInt8 := [172]
abbrev dktX11_takeWord_1 : List UInt8 := dkwX11_takeWord_1 ++ []
def dkwX11_takeWord_0 : List UInt8 := [42, 43, 182, 0, 214, 154, 0, 8, 42, 182, 0, 210, 172, 42, 89, 180, 0, 188, 4, 96, 181, 0, 188, 4]
abbrev dktX11_takeWord_0 : List UInt8 := dkwX11_takeWord_0 ++ dktX11_takeWord_1
theorem dksX11_takeWord_0 : cX11_takeWord.data.toList.drop 0 = dktX11_takeWord_0 := by decide +kernel
theorem dksX11_takeWord_1 : cX11_takeWord.data.toList.drop 24 = dktX11_takeWord_1 := dk_seg dksX11_takeWord_0 24 rfl rfl
theorem dX11_takeWord_0 : decode cX11_takeWord 0 = .ok (.aload_n 0, 1) := dk_42 (dk_at dksX11_takeWord_0 0 rfl rfl)
theorem dX11_takeWord_1 : decode cX11_takeWord 1 = .ok (.aload_n 1, 1) := dk_43 (dk_at dksX11_takeWord_0 1 rfl rfl)
theorem dX11_takeWord_2 : decode cX11_takeWord 2 = .ok (.invokevirtual 214, 3) := dk_182 0 214 (dk_at dksX11_takeWord_0 2 rfl rfl)
theorem dX11_takeWord_5 : decode cX11_takeWord 5 = .ok (.ifCond .ne 8, 3) := dk_154 0 8 (dk_at dksX11_takeWord_0 5 rfl rfl)
theorem dX11_takeWord_8 : decode cX11_takeWord 8 = .ok (.aload_n 0, 1) := dk_42 (dk_at dksX11_takeWord_0 8 rfl rfl)
theorem dX11_takeWord_9 : decode cX11_takeWord 9 = .ok (.invokevirtual 210, 3) := dk_182 0 210 (dk_at dksX11_takeWord_0 9 rfl rfl)
theorem dX11_takeWord_12 : decode cX11_takeWord 12 = .ok (.ireturn, 1) := dk_172 (dk_at dksX11_takeWord_0 12 rfl rfl)
theorem dX11_takeWord_13 : decode cX11_takeWord 13 = .ok (.aload_n 0, 1) := dk_42 (dk_at dksX11_takeWord_0 13 rfl rfl)
theorem dX11_takeWord_14 : decode cX11_takeWord 14 = .ok (.dup, 1) := dk_89 (dk_at dksX11_takeWord_0 14 rfl rfl)
theorem dX11_takeWord_15 : decode cX11_takeWord 15 = .ok (.getfield 188, 3) := dk_180 0 188 (dk_at dksX11_takeWord_0 15 rfl rfl)
theorem dX11_takeWord_18 : decode cX11_takeWord 18 = .ok (.iconst 1, 1) := dk_4 (dk_at dksX11_takeWord_0 18 rfl rfl)
theorem dX11_takeWord_19 : decode cX11_takeWord 19 = .ok (.iadd, 1) := dk_96 (dk_at dksX11_takeWord_0 19 rfl rfl)
theorem dX11_takeWord_20 : decode cX11_takeWord 20 = .ok (.putfield 188, 3) := dk_181 0 188 (dk_at dksX11_takeWord_0 20 rfl rfl)
theorem dX11_takeWord_23 : decode cX11_takeWord 23 = .ok (.iconst 1, 1) := dk_4 (dk_at dksX11_takeWord_0 23 rfl rfl)
theorem dX11_takeWord_24 : decode cX11_takeWord 24 = .ok (.ireturn, 1) := dk_172 (dk_at dksX11_takeWord_1 0 rfl rfl)
abbrev cX11_ruleName : ByteArray := prog_17_method_51_code
def yX11_ruleName : MethodName := ⟨RX11, "ruleName", "(I)Ljava/lang/String;"⟩
def dkwX11_ruleName_4 : List UInt8 := [19, 1, 106, 176, 19, 1, 108, 176, 19, 1, 110, 176]
abbrev dktX11_ruleName_4 : List UInt8 := dkwX11_ruleName_4 ++ []
def dkwX11_ruleName_3 : List UInt8 := [19, 1, 94, 176, 19, 1, 96, 176, 19, 1, 98, 176, 19, 1, 100, 176, 19, 1, 102, 176, 19, 1, 104, 176]
abbrev dktX11_ruleName_3 : List UInt8 := dkwX11_ruleName_3 ++ dktX11_ruleName_4
def dkwX11_ruleName_2 : List UInt8 := [19, 1, 82, 176, 19, 1, 84, 176, 19, 1, 86, 176, 19, 1, 88, 176, 19, 1, 90, 176, 19, 1, 92, 176]
abbrev dktX11_ruleName_2 : List UInt8 := dkwX11_ruleName_2 ++ dktX11_ruleName_3
def dkwX11_ruleName_1 : List UInt8 := [170, 0, 0, 0, 0, 0, 127, 0, 0, 0, 0, 0, 0, 0, 13, 0, 0, 0, 71, 0, 0, 0, 75, 0, 0, 0, 79, 0, 0, 0, 83, 0, 0, 0, 87, 0, 0, 0, 91, 0, 0, 0, 95, 0, 0, 0, 99, 0, 0, 0, 103, 0, 0, 0, 107, 0, 0, 0, 111, 0, 0, 0, 115, 0, 0, 0, 119, 0, 0, 0, 123]
abbrev dktX11_ruleName_1 : List UInt8 := dkwX11_ruleName_1 ++ dktX11_ruleName_2
def dkwX11_ruleName_0 : List UInt8 := [26]
abbrev dktX11_ruleName_0 : List UInt8 := dkwX11_ruleName_0 ++ dktX11_ruleName_1
theorem dksX11_ruleName_0 : cX11_ruleName.data.toList.drop 0 = dktX11_ruleName_0 := by decide +kernel
theorem dksX11_ruleName_1 : cX11_ruleName.data.toList.drop 1 = dktX11_ruleName_1 := dk_seg dksX11_ruleName_0 1 rfl rfl
theorem dksX11_ruleName_2 : cX11_ruleName.data.toList.drop 72 = dktX11_ruleName_2 := dk_seg dksX11_ruleName_1 71 rfl rfl
theorem dksX11_ruleName_3 : cX11_ruleName.data.toList.drop 96 = dktX11_ruleName_3 := dk_seg dksX11_ruleName_2 24 rfl rfl
theorem dksX11_ruleName_4 : cX11_ruleName.data.toList.drop 120 = dktX11_ruleName_4 := dk_seg dksX11_ruleName_3 24 rfl rfl
theorem dX11_ruleName_0 : decode cX11_ruleName 0 = .ok (.iload_n 0, 1) := dk_26 (dk_at dksX11_ruleName_0 0 rfl rfl)
theorem dX11_ruleName_1 : decode cX11_ruleName 1 = .ok (.tableswitch 127 0 13 #[71, 75, 79, 83, 87, 91, 95, 99, 103, 107, 111, 115, 119, 123], 71) := by decide +kernel
theorem dX11_ruleName_72 : decode cX11_ruleName 72 = .ok (.ldc_w 338, 3) := dk_19 1 82 (dk_at dksX11_ruleName_2 0 rfl rfl)
theorem dX11_ruleName_75 : decode cX11_ruleName 75 = .ok (.areturn, 1) := dk_176 (dk_at dksX11_ruleName_2 3 rfl rfl)
theorem dX11_ruleName_76 : decode cX11_ruleName 76 = .ok (.ldc_w 340, 3) := dk_19 1 84 (dk_at dksX11_ruleName_2 4 rfl rfl)
theorem dX11_ruleName_79 : decode cX11_ruleName 79 = .ok (.areturn, 1) := dk_176 (dk_at dksX11_ruleName_2 7 rfl rfl)
theorem dX11_ruleName_80 : decode cX11_ruleName 80 = .ok (.ldc_w 342, 3) := dk_19 1 86 (dk_at dksX11_ruleName_2 8 rfl rfl)
theorem dX11_ruleName_83 : decode cX11_ruleName 83 = .ok (.areturn, 1) := dk_176 (dk_at dksX11_ruleName_2 11 rfl rfl)
theorem dX11_ruleName_84 : decode cX11_ruleName 84 = .ok (.ldc_w 344, 3) := dk_19 1 88 (dk_at dksX11_ruleName_2 12 rfl rfl)
theorem dX11_ruleName_87 : decode cX11_ruleName 87 = .ok (.areturn, 1) := dk_176 (dk_at dksX11_ruleName_2 15 rfl rfl)
theorem dX11_ruleName_88 : decode cX11_ruleName 88 = .ok (.ldc_w 346, 3) := dk_19 1 90 (dk_at dksX11_ruleName_2 16 rfl rfl)
theorem dX11_ruleName_91 : decode cX11_ruleName 91 = .ok (.areturn, 1) := dk_176 (dk_at dksX11_ruleName_2 19 rfl rfl)
theorem dX11_ruleName_92 : decode cX11_ruleName 92 = .ok (.ldc_w 348, 3) := dk_19 1 92 (dk_at dksX11_ruleName_2 20 rfl rfl)
theorem dX11_ruleName_95 : decode cX11_ruleName 95 = .ok (.areturn, 1) := dk_176 (dk_at dksX11_ruleName_2 23 rfl rfl)
theorem dX11_ruleName_96 : decode cX11_ruleName 96 = .ok (.ldc_w 350, 3) := dk_19 1 94 (dk_at dksX11_ruleName_3 0 rfl rfl)
theorem dX11_ruleName_99 : decode cX11_ruleName 99 = .ok (.areturn, 1) := dk_176 (dk_at dksX11_ruleName_3 3 rfl rfl)
theorem dX11_ruleName_100 : decode cX11_ruleName 100 = .ok (.ldc_w 352, 3) := dk_19 1 96 (dk_at dksX11_ruleName_3 4 rfl rfl)
theorem dX11_ruleName_103 : decode cX11_ruleName 103 = .ok (.areturn, 1) := dk_176 (dk_at dksX11_ruleName_3 7 rfl rfl)
theorem dX11_ruleName_104 : decode cX11_ruleName 104 = .ok (.ldc_w 354, 3) := dk_19 1 98 (dk_at dksX11_ruleName_3 8 rfl rfl)
theorem dX11_ruleName_107 : decode cX11_ruleName 107 = .ok (.areturn, 1) := dk_176 (dk_at dksX11_ruleName_3 11 rfl rfl)
theorem dX11_ruleName_108 : decode cX11_ruleName 108 = .ok (.ldc_w 356, 3) := dk_19 1 100 (dk_at dksX11_ruleName_3 12 rfl rfl)
theorem dX11_ruleName_111 : decode cX11_ruleName 111 = .ok (.areturn, 1) := dk_176 (dk_at dksX11_ruleName_3 15 rfl rfl)
theorem dX11_ruleName_112 : decode cX11_ruleName 112 = .ok (.ldc_w 358, 3) := dk_19 1 102 (dk_at dksX11_ruleName_3 16 rfl rfl)
theorem dX11_ruleName_115 : decode cX11_ruleName 115 = .ok (.areturn, 1) := dk_176 (dk_at dksX11_ruleName_3 19 rfl rfl)
theorem dX11_ruleName_116 : decode cX11_ruleName 116 = .ok (.ldc_w 360, 3) := dk_19 1 104 (dk_at dksX11_ruleName_3 20 rfl rfl)
theorem dX11_ruleName_119 : decode cX11_ruleName 119 = .ok (.areturn, 1) := dk_176 (dk_at dksX11_ruleName_3 23 rfl rfl)
theorem dX11_ruleName_120 : decode cX11_ruleName 120 = .ok (.ldc_w 362, 3) := dk_19 1 106 (dk_at dksX11_ruleName_4 0 rfl rfl)
theorem dX11_ruleName_123 : decode cX11_ruleName 123 = .ok (.areturn, 1) := dk_176 (dk_at dksX11_ruleName_4 3 rfl rfl)
theorem dX11_ruleName_124 : decode cX11_ruleName 124 = .ok (.ldc_w 364, 3) := dk_19 1 108 (dk_at dksX11_ruleName_4 4 rfl rfl)
theorem dX11_ruleName_127 : decode cX11_ruleName 127 = .ok (.areturn, 1) := dk_176 (dk_at dksX11_ruleName_4 7 rfl rfl)
theorem dX11_ruleName_128 : decode cX11_ruleName 128 = .ok (.ldc_w 366, 3) := dk_19 1 110 (dk_at dksX11_ruleName_4 8 rfl rfl)
theorem dX11_ruleName_131 : decode cX11_ruleName 131 = .ok (.areturn, 1) := dk_176 (dk_at dksX11_ruleName_4 11 rfl rfl)
abbrev cX11_takeLists : ByteArray := prog_17_method_54_code
def yX11_takeLists : MethodName := ⟨RX11, "takeLists", "(I)Z"⟩
def dkwX11_takeLists_10 : List UInt8 := [4, 172]
abbrev dktX11_takeLists_10 : List UInt8 := dkwX11_takeLists_10 ++ []
def dkwX11_takeLists_9 : List UInt8 := [4, 181, 1, 154, 42, 180, 1, 28, 27, 16, 7, 96, 4, 79, 42, 89, 180, 0, 188, 4, 96, 181, 0, 188]
abbrev dktX11_takeLists_9 : List UInt8 := dkwX11_takeLists_9 ++ dktX11_takeLists_10
def dkwX11_takeLists_8 : List UInt8 := [153, 0, 48, 42, 180, 1, 154, 153, 0, 16, 42, 42, 180, 0, 161, 42, 180, 0, 188, 46, 182, 0, 224, 42]
abbrev dktX11_takeLists_8 : List UInt8 := dkwX11_takeLists_8 ++ dktX11_takeLists_9
def dkwX11_takeLists_7 : List UInt8 := [19, 1, 150, 182, 0, 249, 153, 0, 7, 4, 167, 0, 4, 3, 79, 42, 19, 1, 152, 182, 0, 214]
abbrev dktX11_takeLists_7 : List UInt8 := dkwX11_takeLists_7 ++ dktX11_takeLists_8
def dkwX11_takeLists_6 : List UInt8 := [29, 79, 42, 180, 1, 28, 27, 8, 96, 42, 180, 0, 218, 79, 42, 180, 1, 28, 27, 16, 6, 96, 42]
abbrev dktX11_takeLists_6 : List UInt8 := dkwX11_takeLists_6 ++ dktX11_takeLists_7
def dkwX11_takeLists_5 : List UInt8 := [153, 0, 11, 29, 42, 180, 0, 218, 161, 0, 9, 42, 21, 4, 182, 0, 224, 42, 180, 1, 28, 27, 7, 96]
abbrev dktX11_takeLists_5 : List UInt8 := dkwX11_takeLists_5 ++ dktX11_takeLists_6
def dkwX11_takeLists_4 : List UInt8 := [153, 0, 10, 42, 182, 0, 228, 154, 0, 5, 3, 172, 42, 180, 0, 218, 133, 10, 20, 1, 148, 184, 0, 13]
abbrev dktX11_takeLists_4 : List UInt8 := dkwX11_takeLists_4 ++ dktX11_takeLists_5
def dkwX11_takeLists_3 : List UInt8 := [154, 0, 5, 3, 172, 42, 180, 0, 218, 62, 42, 180, 0, 221, 54, 4, 42, 16, 47, 182, 1, 19]
abbrev dktX11_takeLists_3 : List UInt8 := dkwX11_takeLists_3 ++ dktX11_takeLists_4
def dkwX11_takeLists_2 : List UInt8 := [42, 180, 1, 28, 27, 6, 96, 28, 79, 42, 19, 1, 146, 182, 0, 249, 153, 0, 91, 42, 182, 0, 228]
abbrev dktX11_takeLists_2 : List UInt8 := dkwX11_takeLists_2 ++ dktX11_takeLists_3
def dkwX11_takeLists_1 : List UInt8 := [153, 0, 7, 29, 167, 0, 4, 2, 61, 132, 3, 1, 167, 255, 226, 28, 156, 0, 8, 42, 182, 0, 210, 172]
abbrev dktX11_takeLists_1 : List UInt8 := dkwX11_takeLists_1 ++ dktX11_takeLists_2
def dkwX11_takeLists_0 : List UInt8 := [2, 61, 3, 62, 29, 16, 8, 163, 0, 30, 28, 156, 0, 26, 42, 29, 184, 1, 143, 182, 0, 249]
abbrev dktX11_takeLists_0 : List UInt8 := dkwX11_takeLists_0 ++ dktX11_takeLists_1
theorem dksX11_takeLists_0 : cX11_takeLists.data.toList.drop 0 = dktX11_takeLists_0 := by decide +kernel
theorem dksX11_takeLists_1 : cX11_takeLists.data.toList.drop 22 = dktX11_takeLists_1 := dk_seg dksX11_takeLists_0 22 rfl rfl
theorem dksX11_takeLists_2 : cX11_takeLists.data.toList.drop 46 = dktX11_takeLists_2 := dk_seg dksX11_takeLists_1 24 rfl rfl
theorem dksX11_takeLists_3 : cX11_takeLists.data.toList.drop 69 = dktX11_takeLists_3 := dk_seg dksX11_takeLists_2 23 rfl rfl
theorem dksX11_takeLists_4 : cX11_takeLists.data.toList.drop 91 = dktX11_takeLists_4 := dk_seg dksX11_takeLists_3 22 rfl rfl
theorem dksX11_takeLists_5 : cX11_takeLists.data.toList.drop 115 = dktX11_takeLists_5 := dk_seg dksX11_takeLists_4 24 rfl rfl
theorem dksX11_takeLists_6 : cX11_takeLists.data.toList.drop 139 = dktX11_takeLists_6 := dk_seg dksX11_takeLists_5 24 rfl rfl
theorem dksX11_takeLists_7 : cX11_takeLists.data.toList.drop 162 = dktX11_takeLists_7 := dk_seg dksX11_takeLists_6 23 rfl rfl
theorem dksX11_takeLists_8 : cX11_takeLists.data.toList.drop 184 = dktX11_takeLists_8 := dk_seg dksX11_takeLists_7 22 rfl rfl
theorem dksX11_takeLists_9 : cX11_takeLists.data.toList.drop 208 = dktX11_takeLists_9 := dk_seg dksX11_takeLists_8 24 rfl rfl
theorem dksX11_takeLists_10 : cX11_takeLists.data.toList.drop 232 = dktX11_takeLists_10 := dk_seg dksX11_takeLists_9 24 rfl rfl
theorem dX11_takeLists_0 : decode cX11_takeLists 0 = .ok (.iconst (-1), 1) := dk_2 (dk_at dksX11_takeLists_0 0 rfl rfl)
theorem dX11_takeLists_1 : decode cX11_takeLists 1 = .ok (.istore_n 2, 1) := dk_61 (dk_at dksX11_takeLists_0 1 rfl rfl)
theorem dX11_takeLists_2 : decode cX11_takeLists 2 = .ok (.iconst 0, 1) := dk_3 (dk_at dksX11_takeLists_0 2 rfl rfl)
theorem dX11_takeLists_3 : decode cX11_takeLists 3 = .ok (.istore_n 3, 1) := dk_62 (dk_at dksX11_takeLists_0 3 rfl rfl)
theorem dX11_takeLists_4 : decode cX11_takeLists 4 = .ok (.iload_n 3, 1) := dk_29 (dk_at dksX11_takeLists_0 4 rfl rfl)
theorem dX11_takeLists_5 : decode cX11_takeLists 5 = .ok (.bipush 8, 2) := dk_16 8 (dk_at dksX11_takeLists_0 5 rfl rfl)
theorem dX11_takeLists_7 : decode cX11_takeLists 7 = .ok (.if_icmp .gt 30, 3) := dk_163 0 30 (dk_at dksX11_takeLists_0 7 rfl rfl)
theorem dX11_takeLists_10 : decode cX11_takeLists 10 = .ok (.iload_n 2, 1) := dk_28 (dk_at dksX11_takeLists_0 10 rfl rfl)
theorem dX11_takeLists_11 : decode cX11_takeLists 11 = .ok (.ifCond .ge 26, 3) := dk_156 0 26 (dk_at dksX11_takeLists_0 11 rfl rfl)
theorem dX11_takeLists_14 : decode cX11_takeLists 14 = .ok (.aload_n 0, 1) := dk_42 (dk_at dksX11_takeLists_0 14 rfl rfl)
theorem dX11_takeLists_15 : decode cX11_takeLists 15 = .ok (.iload_n 3, 1) := dk_29 (dk_at dksX11_takeLists_0 15 rfl rfl)
theorem dX11_takeLists_16 : decode cX11_takeLists 16 = .ok (.invokestatic 399, 3) := dk_184 1 143 (dk_at dksX11_takeLists_0 16 rfl rfl)
theorem dX11_takeLists_19 : decode cX11_takeLists 19 = .ok (.invokevirtual 249, 3) := dk_182 0 249 (dk_at dksX11_takeLists_0 19 rfl rfl)
theorem dX11_takeLists_22 : decode cX11_takeLists 22 = .ok (.ifCond .eq 7, 3) := dk_153 0 7 (dk_at dksX11_takeLists_1 0 rfl rfl)
theorem dX11_takeLists_25 : decode cX11_takeLists 25 = .ok (.iload_n 3, 1) := dk_29 (dk_at dksX11_takeLists_1 3 rfl rfl)
theorem dX11_takeLists_26 : decode cX11_takeLists 26 = .ok (.goto 4, 3) := dk_167 0 4 (dk_at dksX11_takeLists_1 4 rfl rfl)
theorem dX11_takeLists_29 : decode cX11_takeLists 29 = .ok (.iconst (-1), 1) := dk_2 (dk_at dksX11_takeLists_1 7 rfl rfl)
theorem dX11_takeLists_30 : decode cX11_takeLists 30 = .ok (.istore_n 2, 1) := dk_61 (dk_at dksX11_takeLists_1 8 rfl rfl)
theorem dX11_takeLists_31 : decode cX11_takeLists 31 = .ok (.iinc 3 1, 3) := dk_132 3 1 (dk_at dksX11_takeLists_1 9 rfl rfl)
theorem dX11_takeLists_34 : decode cX11_takeLists 34 = .ok (.goto (-30), 3) := dk_167 255 226 (dk_at dksX11_takeLists_1 12 rfl rfl)
theorem dX11_takeLists_37 : decode cX11_takeLists 37 = .ok (.iload_n 2, 1) := dk_28 (dk_at dksX11_takeLists_1 15 rfl rfl)
theorem dX11_takeLists_38 : decode cX11_takeLists 38 = .ok (.ifCond .ge 8, 3) := dk_156 0 8 (dk_at dksX11_takeLists_1 16 rfl rfl)
theorem dX11_takeLists_41 : decode cX11_takeLists 41 = .ok (.aload_n 0, 1) := dk_42 (dk_at dksX11_takeLists_1 19 rfl rfl)
theorem dX11_takeLists_42 : decode cX11_takeLists 42 = .ok (.invokevirtual 210, 3) := dk_182 0 210 (dk_at dksX11_takeLists_1 20 rfl rfl)
theorem dX11_takeLists_45 : decode cX11_takeLists 45 = .ok (.ireturn, 1) := dk_172 (dk_at dksX11_takeLists_1 23 rfl rfl)
theorem dX11_takeLists_46 : decode cX11_takeLists 46 = .ok (.aload_n 0, 1) := dk_42 (dk_at dksX11_takeLists_2 0 rfl rfl)
theorem dX11_takeLists_47 : decode cX11_takeLists 47 = .ok (.getfield 284, 3) := dk_180 1 28 (dk_at dksX11_takeLists_2 1 rfl rfl)
theorem dX11_takeLists_50 : decode cX11_takeLists 50 = .ok (.iload_n 1, 1) := dk_27 (dk_at dksX11_takeLists_2 4 rfl rfl)
theorem dX11_takeLists_51 : decode cX11_takeLists 51 = .ok (.iconst 3, 1) := dk_6 (dk_at dksX11_takeLists_2 5 rfl rfl)
theorem dX11_takeLists_52 : decode cX11_takeLists 52 = .ok (.iadd, 1) := dk_96 (dk_at dksX11_takeLists_2 6 rfl rfl)
theorem dX11_takeLists_53 : decode cX11_takeLists 53 = .ok (.iload_n 2, 1) := dk_28 (dk_at dksX11_takeLists_2 7 rfl rfl)
theorem dX11_takeLists_54 : decode cX11_takeLists 54 = .ok (.iastore, 1) := dk_79 (dk_at dksX11_takeLists_2 8 rfl rfl)
theorem dX11_takeLists_55 : decode cX11_takeLists 55 = .ok (.aload_n 0, 1) := dk_42 (dk_at dksX11_takeLists_2 9 rfl rfl)
theorem dX11_takeLists_56 : decode cX11_takeLists 56 = .ok (.ldc_w 402, 3) := dk_19 1 146 (dk_at dksX11_takeLists_2 10 rfl rfl)
theorem dX11_takeLists_59 : decode cX11_takeLists 59 = .ok (.invokevirtual 249, 3) := dk_182 0 249 (dk_at dksX11_takeLists_2 13 rfl rfl)
theorem dX11_takeLists_62 : decode cX11_takeLists 62 = .ok (.ifCond .eq 91, 3) := dk_153 0 91 (dk_at dksX11_takeLists_2 16 rfl rfl)
theorem dX11_takeLists_65 : decode cX11_takeLists 65 = .ok (.aload_n 0, 1) := dk_42 (dk_at dksX11_takeLists_2 19 rfl rfl)
theorem dX11_takeLists_66 : decode cX11_takeLists 66 = .ok (.invokevirtual 228, 3) := dk_182 0 228 (dk_at dksX11_takeLists_2 20 rfl rfl)
theorem dX11_takeLists_69 : decode cX11_takeLists 69 = .ok (.ifCond .ne 5, 3) := dk_154 0 5 (dk_at dksX11_takeLists_3 0 rfl rfl)
theorem dX11_takeLists_72 : decode cX11_takeLists 72 = .ok (.iconst 0, 1) := dk_3 (dk_at dksX11_takeLists_3 3 rfl rfl)
theorem dX11_takeLists_73 : decode cX11_takeLists 73 = .ok (.ireturn, 1) := dk_172 (dk_at dksX11_takeLists_3 4 rfl rfl)
theorem dX11_takeLists_74 : decode cX11_takeLists 74 = .ok (.aload_n 0, 1) := dk_42 (dk_at dksX11_takeLists_3 5 rfl rfl)
theorem dX11_takeLists_75 : decode cX11_takeLists 75 = .ok (.getfield 218, 3) := dk_180 0 218 (dk_at dksX11_takeLists_3 6 rfl rfl)
theorem dX11_takeLists_78 : decode cX11_takeLists 78 = .ok (.istore_n 3, 1) := dk_62 (dk_at dksX11_takeLists_3 9 rfl rfl)
theorem dX11_takeLists_79 : decode cX11_takeLists 79 = .ok (.aload_n 0, 1) := dk_42 (dk_at dksX11_takeLists_3 10 rfl rfl)
theorem dX11_takeLists_80 : decode cX11_takeLists 80 = .ok (.getfield 221, 3) := dk_180 0 221 (dk_at dksX11_takeLists_3 11 rfl rfl)
theorem dX11_takeLists_83 : decode cX11_takeLists 83 = .ok (.istore 4, 2) := dk_54 4 (dk_at dksX11_takeLists_3 14 rfl rfl)
theorem dX11_takeLists_85 : decode cX11_takeLists 85 = .ok (.aload_n 0, 1) := dk_42 (dk_at dksX11_takeLists_3 16 rfl rfl)
theorem dX11_takeLists_86 : decode cX11_takeLists 86 = .ok (.bipush 47, 2) := dk_16 47 (dk_at dksX11_takeLists_3 17 rfl rfl)
theorem dX11_takeLists_88 : decode cX11_takeLists 88 = .ok (.invokevirtual 275, 3) := dk_182 1 19 (dk_at dksX11_takeLists_3 19 rfl rfl)
theorem dX11_takeLists_91 : decode cX11_takeLists 91 = .ok (.ifCond .eq 10, 3) := dk_153 0 10 (dk_at dksX11_takeLists_4 0 rfl rfl)
theorem dX11_takeLists_94 : decode cX11_takeLists 94 = .ok (.aload_n 0, 1) := dk_42 (dk_at dksX11_takeLists_4 3 rfl rfl)
theorem dX11_takeLists_95 : decode cX11_takeLists 95 = .ok (.invokevirtual 228, 3) := dk_182 0 228 (dk_at dksX11_takeLists_4 4 rfl rfl)
theorem dX11_takeLists_98 : decode cX11_takeLists 98 = .ok (.ifCond .ne 5, 3) := dk_154 0 5 (dk_at dksX11_takeLists_4 7 rfl rfl)
theorem dX11_takeLists_101 : decode cX11_takeLists 101 = .ok (.iconst 0, 1) := dk_3 (dk_at dksX11_takeLists_4 10 rfl rfl)
theorem dX11_takeLists_102 : decode cX11_takeLists 102 = .ok (.ireturn, 1) := dk_172 (dk_at dksX11_takeLists_4 11 rfl rfl)
theorem dX11_takeLists_103 : decode cX11_takeLists 103 = .ok (.aload_n 0, 1) := dk_42 (dk_at dksX11_takeLists_4 12 rfl rfl)
theorem dX11_takeLists_104 : decode cX11_takeLists 104 = .ok (.getfield 218, 3) := dk_180 0 218 (dk_at dksX11_takeLists_4 13 rfl rfl)
theorem dX11_takeLists_107 : decode cX11_takeLists 107 = .ok (.i2l, 1) := dk_133 (dk_at dksX11_takeLists_4 16 rfl rfl)
theorem dX11_takeLists_108 : decode cX11_takeLists 108 = .ok (.lconst 1, 1) := dk_10 (dk_at dksX11_takeLists_4 17 rfl rfl)
theorem dX11_takeLists_109 : decode cX11_takeLists 109 = .ok (.ldc2_w 404, 3) := dk_20 1 148 (dk_at dksX11_takeLists_4 18 rfl rfl)
theorem dX11_takeLists_112 : decode cX11_takeLists 112 = .ok (.invokestatic 13, 3) := dk_184 0 13 (dk_at dksX11_takeLists_4 21 rfl rfl)
theorem dX11_takeLists_115 : decode cX11_takeLists 115 = .ok (.ifCond .eq 11, 3) := dk_153 0 11 (dk_at dksX11_takeLists_5 0 rfl rfl)
theorem dX11_takeLists_118 : decode cX11_takeLists 118 = .ok (.iload_n 3, 1) := dk_29 (dk_at dksX11_takeLists_5 3 rfl rfl)
theorem dX11_takeLists_119 : decode cX11_takeLists 119 = .ok (.aload_n 0, 1) := dk_42 (dk_at dksX11_takeLists_5 4 rfl rfl)
theorem dX11_takeLists_120 : decode cX11_takeLists 120 = .ok (.getfield 218, 3) := dk_180 0 218 (dk_at dksX11_takeLists_5 5 rfl rfl)
theorem dX11_takeLists_123 : decode cX11_takeLists 123 = .ok (.if_icmp .lt 9, 3) := dk_161 0 9 (dk_at dksX11_takeLists_5 8 rfl rfl)
theorem dX11_takeLists_126 : decode cX11_takeLists 126 = .ok (.aload_n 0, 1) := dk_42 (dk_at dksX11_takeLists_5 11 rfl rfl)
theorem dX11_takeLists_127 : decode cX11_takeLists 127 = .ok (.iload 4, 2) := dk_21 4 (dk_at dksX11_takeLists_5 12 rfl rfl)
theorem dX11_takeLists_129 : decode cX11_takeLists 129 = .ok (.invokevirtual 224, 3) := dk_182 0 224 (dk_at dksX11_takeLists_5 14 rfl rfl)
theorem dX11_takeLists_132 : decode cX11_takeLists 132 = .ok (.aload_n 0, 1) := dk_42 (dk_at dksX11_takeLists_5 17 rfl rfl)
theorem dX11_takeLists_133 : decode cX11_takeLists 133 = .ok (.getfield 284, 3) := dk_180 1 28 (dk_at dksX11_takeLists_5 18 rfl rfl)
theorem dX11_takeLists_136 : decode cX11_takeLists 136 = .ok (.iload_n 1, 1) := dk_27 (dk_at dksX11_takeLists_5 21 rfl rfl)
theorem dX11_takeLists_137 : decode cX11_takeLists 137 = .ok (.iconst 4, 1) := dk_7 (dk_at dksX11_takeLists_5 22 rfl rfl)
theorem dX11_takeLists_138 : decode cX11_takeLists 138 = .ok (.iadd, 1) := dk_96 (dk_at dksX11_takeLists_5 23 rfl rfl)
theorem dX11_takeLists_139 : decode cX11_takeLists 139 = .ok (.iload_n 3, 1) := dk_29 (dk_at dksX11_takeLists_6 0 rfl rfl)
theorem dX11_takeLists_140 : decode cX11_takeLists 140 = .ok (.iastore, 1) := dk_79 (dk_at dksX11_takeLists_6 1 rfl rfl)
theorem dX11_takeLists_141 : decode cX11_takeLists 141 = .ok (.aload_n 0, 1) := dk_42 (dk_at dksX11_takeLists_6 2 rfl rfl)
theorem dX11_takeLists_142 : decode cX11_takeLists 142 = .ok (.getfield 284, 3) := dk_180 1 28 (dk_at dksX11_takeLists_6 3 rfl rfl)
theorem dX11_takeLists_145 : decode cX11_takeLists 145 = .ok (.iload_n 1, 1) := dk_27 (dk_at dksX11_takeLists_6 6 rfl rfl)
theorem dX11_takeLists_146 : decode cX11_takeLists 146 = .ok (.iconst 5, 1) := dk_8 (dk_at dksX11_takeLists_6 7 rfl rfl)
theorem dX11_takeLists_147 : decode cX11_takeLists 147 = .ok (.iadd, 1) := dk_96 (dk_at dksX11_takeLists_6 8 rfl rfl)
theorem dX11_takeLists_148 : decode cX11_takeLists 148 = .ok (.aload_n 0, 1) := dk_42 (dk_at dksX11_takeLists_6 9 rfl rfl)
theorem dX11_takeLists_149 : decode cX11_takeLists 149 = .ok (.getfield 218, 3) := dk_180 0 218 (dk_at dksX11_takeLists_6 10 rfl rfl)
theorem dX11_takeLists_152 : decode cX11_takeLists 152 = .ok (.iastore, 1) := dk_79 (dk_at dksX11_takeLists_6 13 rfl rfl)
theorem dX11_takeLists_153 : decode cX11_takeLists 153 = .ok (.aload_n 0, 1) := dk_42 (dk_at dksX11_takeLists_6 14 rfl rfl)
theorem dX11_takeLists_154 : decode cX11_takeLists 154 = .ok (.getfield 284, 3) := dk_180 1 28 (dk_at dksX11_takeLists_6 15 rfl rfl)
theorem dX11_takeLists_157 : decode cX11_takeLists 157 = .ok (.iload_n 1, 1) := dk_27 (dk_at dksX11_takeLists_6 18 rfl rfl)
theorem dX11_takeLists_158 : decode cX11_takeLists 158 = .ok (.bipush 6, 2) := dk_16 6 (dk_at dksX11_takeLists_6 19 rfl rfl)
theorem dX11_takeLists_160 : decode cX11_takeLists 160 = .ok (.iadd, 1) := dk_96 (dk_at dksX11_takeLists_6 21 rfl rfl)
theorem dX11_takeLists_161 : decode cX11_takeLists 161 = .ok (.aload_n 0, 1) := dk_42 (dk_at dksX11_takeLists_6 22 rfl rfl)
theorem dX11_takeLists_162 : decode cX11_takeLists 162 = .ok (.ldc_w 406, 3) := dk_19 1 150 (dk_at dksX11_takeLists_7 0 rfl rfl)
theorem dX11_takeLists_165 : decode cX11_takeLists 165 = .ok (.invokevirtual 249, 3) := dk_182 0 249 (dk_at dksX11_takeLists_7 3 rfl rfl)
theorem dX11_takeLists_168 : decode cX11_takeLists 168 = .ok (.ifCond .eq 7, 3) := dk_153 0 7 (dk_at dksX11_takeLists_7 6 rfl rfl)
theorem dX11_takeLists_171 : decode cX11_takeLists 171 = .ok (.iconst 1, 1) := dk_4 (dk_at dksX11_takeLists_7 9 rfl rfl)
theorem dX11_takeLists_172 : decode cX11_takeLists 172 = .ok (.goto 4, 3) := dk_167 0 4 (dk_at dksX11_takeLists_7 10 rfl rfl)
theorem dX11_takeLists_175 : decode cX11_takeLists 175 = .ok (.iconst 0, 1) := dk_3 (dk_at dksX11_takeLists_7 13 rfl rfl)
theorem dX11_takeLists_176 : decode cX11_takeLists 176 = .ok (.iastore, 1) := dk_79 (dk_at dksX11_takeLists_7 14 rfl rfl)
theorem dX11_takeLists_177 : decode cX11_takeLists 177 = .ok (.aload_n 0, 1) := dk_42 (dk_at dksX11_takeLists_7 15 rfl rfl)
theorem dX11_takeLists_178 : decode cX11_takeLists 178 = .ok (.ldc_w 408, 3) := dk_19 1 152 (dk_at dksX11_takeLists_7 16 rfl rfl)
theorem dX11_takeLists_181 : decode cX11_takeLists 181 = .ok (.invokevirtual 214, 3) := dk_182 0 214 (dk_at dksX11_takeLists_7 19 rfl rfl)
theorem dX11_takeLists_184 : decode cX11_takeLists 184 = .ok (.ifCond .eq 48, 3) := dk_153 0 48 (dk_at dksX11_takeLists_8 0 rfl rfl)
theorem dX11_takeLists_187 : decode cX11_takeLists 187 = .ok (.aload_n 0, 1) := dk_42 (dk_at dksX11_takeLists_8 3 rfl rfl)
theorem dX11_takeLists_188 : decode cX11_takeLists 188 = .ok (.getfield 410, 3) := dk_180 1 154 (dk_at dksX11_takeLists_8 4 rfl rfl)
theorem dX11_takeLists_191 : decode cX11_takeLists 191 = .ok (.ifCond .eq 16, 3) := dk_153 0 16 (dk_at dksX11_takeLists_8 7 rfl rfl)
theorem dX11_takeLists_194 : decode cX11_takeLists 194 = .ok (.aload_n 0, 1) := dk_42 (dk_at dksX11_takeLists_8 10 rfl rfl)
theorem dX11_takeLists_195 : decode cX11_takeLists 195 = .ok (.aload_n 0, 1) := dk_42 (dk_at dksX11_takeLists_8 11 rfl rfl)
theorem dX11_takeLists_196 : decode cX11_takeLists 196 = .ok (.getfield 161, 3) := dk_180 0 161 (dk_at dksX11_takeLists_8 12 rfl rfl)
theorem dX11_takeLists_199 : decode cX11_takeLists 199 = .ok (.aload_n 0, 1) := dk_42 (dk_at dksX11_takeLists_8 15 rfl rfl)
theorem dX11_takeLists_200 : decode cX11_takeLists 200 = .ok (.getfield 188, 3) := dk_180 0 188 (dk_at dksX11_takeLists_8 16 rfl rfl)
theorem dX11_takeLists_203 : decode cX11_takeLists 203 = .ok (.iaload, 1) := dk_46 (dk_at dksX11_takeLists_8 19 rfl rfl)
theorem dX11_takeLists_204 : decode cX11_takeLists 204 = .ok (.invokevirtual 224, 3) := dk_182 0 224 (dk_at dksX11_takeLists_8 20 rfl rfl)
theorem dX11_takeLists_207 : decode cX11_takeLists 207 = .ok (.aload_n 0, 1) := dk_42 (dk_at dksX11_takeLists_8 23 rfl rfl)
theorem dX11_takeLists_208 : decode cX11_takeLists 208 = .ok (.iconst 1, 1) := dk_4 (dk_at dksX11_takeLists_9 0 rfl rfl)
theorem dX11_takeLists_209 : decode cX11_takeLists 209 = .ok (.putfield 410, 3) := dk_181 1 154 (dk_at dksX11_takeLists_9 1 rfl rfl)
theorem dX11_takeLists_212 : decode cX11_takeLists 212 = .ok (.aload_n 0, 1) := dk_42 (dk_at dksX11_takeLists_9 4 rfl rfl)
theorem dX11_takeLists_213 : decode cX11_takeLists 213 = .ok (.getfield 284, 3) := dk_180 1 28 (dk_at dksX11_takeLists_9 5 rfl rfl)
theorem dX11_takeLists_216 : decode cX11_takeLists 216 = .ok (.iload_n 1, 1) := dk_27 (dk_at dksX11_takeLists_9 8 rfl rfl)
theorem dX11_takeLists_217 : decode cX11_takeLists 217 = .ok (.bipush 7, 2) := dk_16 7 (dk_at dksX11_takeLists_9 9 rfl rfl)
theorem dX11_takeLists_219 : decode cX11_takeLists 219 = .ok (.iadd, 1) := dk_96 (dk_at dksX11_takeLists_9 11 rfl rfl)
theorem dX11_takeLists_220 : decode cX11_takeLists 220 = .ok (.iconst 1, 1) := dk_4 (dk_at dksX11_takeLists_9 12 rfl rfl)
theorem dX11_takeLists_221 : decode cX11_takeLists 221 = .ok (.iastore, 1) := dk_79 (dk_at dksX11_takeLists_9 13 rfl rfl)
theorem dX11_takeLists_222 : decode cX11_takeLists 222 = .ok (.aload_n 0, 1) := dk_42 (dk_at dksX11_takeLists_9 14 rfl rfl)
theorem dX11_takeLists_223 : decode cX11_takeLists 223 = .ok (.dup, 1) := dk_89 (dk_at dksX11_takeLists_9 15 rfl rfl)
theorem dX11_takeLists_224 : decode cX11_takeLists 224 = .ok (.getfield 188, 3) := dk_180 0 188 (dk_at dksX11_takeLists_9 16 rfl rfl)
theorem dX11_takeLists_227 : decode cX11_takeLists 227 = .ok (.iconst 1, 1) := dk_4 (dk_at dksX11_takeLists_9 19 rfl rfl)
theorem dX11_takeLists_228 : decode cX11_takeLists 228 = .ok (.iadd, 1) := dk_96 (dk_at dksX11_takeLists_9 20 rfl rfl)
theorem dX11_takeLists_229 : decode cX11_takeLists 229 = .ok (.putfield 188, 3) := dk_181 0 188 (dk_at dksX11_takeLists_9 21 rfl rfl)
theorem dX11_takeLists_232 : decode cX11_takeLists 232 = .ok (.iconst 1, 1) := dk_4 (dk_at dksX11_takeLists_10 0 rfl rfl)
theorem dX11_takeLists_233 : decode cX11_takeLists 233 = .ok (.ireturn, 1) := dk_172 (dk_at dksX11_takeLists_10 1 rfl rfl)
abbrev cX11_wayName : ByteArray := prog_17_method_52_code
def yX11_wayName : MethodName := ⟨RX11, "wayName", "(I)Ljava/lang/String;"⟩
def dkwX11_wayName_3 : List UInt8 := [19, 1, 124, 176, 19, 1, 126, 176, 19, 1, 128, 176]
abbrev dktX11_wayName_3 : List UInt8 := dkwX11_wayName_3 ++ []
def dkwX11_wayName_2 : List UInt8 := [19, 1, 112, 176, 19, 1, 114, 176, 19, 1, 116, 176, 19, 1, 118, 176, 19, 1, 120, 176, 19, 1, 122, 176]
abbrev dktX11_wayName_2 : List UInt8 := dkwX11_wayName_2 ++ dktX11_wayName_3
def dkwX11_wayName_1 : List UInt8 := [170, 0, 0, 0, 0, 0, 79, 0, 0, 0, 0, 0, 0, 0, 7, 0, 0, 0, 47, 0, 0, 0, 51, 0, 0, 0, 55, 0, 0, 0, 59, 0, 0, 0, 63, 0, 0, 0, 67, 0, 0, 0, 71, 0, 0, 0, 75]
abbrev dktX11_wayName_1 : List UInt8 := dkwX11_wayName_1 ++ dktX11_wayName_2
def dkwX11_wayName_0 : List UInt8 := [26]
abbrev dktX11_wayName_0 : List UInt8 := dkwX11_wayName_0 ++ dktX11_wayName_1
theorem dksX11_wayName_0 : cX11_wayName.data.toList.drop 0 = dktX11_wayName_0 := by decide +kernel
theorem dksX11_wayName_1 : cX11_wayName.data.toList.drop 1 = dktX11_wayName_1 := dk_seg dksX11_wayName_0 1 rfl rfl
theorem dksX11_wayName_2 : cX11_wayName.data.toList.drop 48 = dktX11_wayName_2 := dk_seg dksX11_wayName_1 47 rfl rfl
theorem dksX11_wayName_3 : cX11_wayName.data.toList.drop 72 = dktX11_wayName_3 := dk_seg dksX11_wayName_2 24 rfl rfl
theorem dX11_wayName_0 : decode cX11_wayName 0 = .ok (.iload_n 0, 1) := dk_26 (dk_at dksX11_wayName_0 0 rfl rfl)
theorem dX11_wayName_1 : decode cX11_wayName 1 = .ok (.tableswitch 79 0 7 #[47, 51, 55, 59, 63, 67, 71, 75], 47) := by decide +kernel
theorem dX11_wayName_48 : decode cX11_wayName 48 = .ok (.ldc_w 368, 3) := dk_19 1 112 (dk_at dksX11_wayName_2 0 rfl rfl)
theorem dX11_wayName_51 : decode cX11_wayName 51 = .ok (.areturn, 1) := dk_176 (dk_at dksX11_wayName_2 3 rfl rfl)
theorem dX11_wayName_52 : decode cX11_wayName 52 = .ok (.ldc_w 370, 3) := dk_19 1 114 (dk_at dksX11_wayName_2 4 rfl rfl)
theorem dX11_wayName_55 : decode cX11_wayName 55 = .ok (.areturn, 1) := dk_176 (dk_at dksX11_wayName_2 7 rfl rfl)
theorem dX11_wayName_56 : decode cX11_wayName 56 = .ok (.ldc_w 372, 3) := dk_19 1 116 (dk_at dksX11_wayName_2 8 rfl rfl)
theorem dX11_wayName_59 : decode cX11_wayName 59 = .ok (.areturn, 1) := dk_176 (dk_at dksX11_wayName_2 11 rfl rfl)
theorem dX11_wayName_60 : decode cX11_wayName 60 = .ok (.ldc_w 374, 3) := dk_19 1 118 (dk_at dksX11_wayName_2 12 rfl rfl)
theorem dX11_wayName_63 : decode cX11_wayName 63 = .ok (.areturn, 1) := dk_176 (dk_at dksX11_wayName_2 15 rfl rfl)
theorem dX11_wayName_64 : decode cX11_wayName 64 = .ok (.ldc_w 376, 3) := dk_19 1 120 (dk_at dksX11_wayName_2 16 rfl rfl)
theorem dX11_wayName_67 : decode cX11_wayName 67 = .ok (.areturn, 1) := dk_176 (dk_at dksX11_wayName_2 19 rfl rfl)
theorem dX11_wayName_68 : decode cX11_wayName 68 = .ok (.ldc_w 378, 3) := dk_19 1 122 (dk_at dksX11_wayName_2 20 rfl rfl)
theorem dX11_wayName_71 : decode cX11_wayName 71 = .ok (.areturn, 1) := dk_176 (dk_at dksX11_wayName_2 23 rfl rfl)
theorem dX11_wayName_72 : decode cX11_wayName 72 = .ok (.ldc_w 380, 3) := dk_19 1 124 (dk_at dksX11_wayName_3 0 rfl rfl)
theorem dX11_wayName_75 : decode cX11_wayName 75 = .ok (.areturn, 1) := dk_176 (dk_at dksX11_wayName_3 3 rfl rfl)
theorem dX11_wayName_76 : decode cX11_wayName 76 = .ok (.ldc_w 382, 3) := dk_19 1 126 (dk_at dksX11_wayName_3 4 rfl rfl)
theorem dX11_wayName_79 : decode cX11_wayName 79 = .ok (.areturn, 1) := dk_176 (dk_at dksX11_wayName_3 7 rfl rfl)
theorem dX11_wayName_80 : decode cX11_wayName 80 = .ok (.ldc_w 384, 3) := dk_19 1 128 (dk_at dksX11_wayName_3 8 rfl rfl)
theorem dX11_wayName_83 : decode cX11_wayName 83 = .ok (.areturn, 1) := dk_176 (dk_at dksX11_wayName_3 11 rfl rfl)
abbrev cX11_lawIs : ByteArray := prog_17_method_45_code
def yX11_lawIs : MethodName := ⟨RX11, "lawIs", "(I)I"⟩
def dkwX11_lawIs_0 : List UInt8 := [42, 180, 1, 25, 16, 10, 27, 96, 46, 172]
abbrev dktX11_lawIs_0 : List UInt8 := dkwX11_lawIs_0 ++ []
theorem dksX11_lawIs_0 : cX11_lawIs.data.toList.drop 0 = dktX11_lawIs_0 := by decide +kernel
theorem dX11_lawIs_0 : decode cX11_lawIs 0 = .ok (.aload_n 0, 1) := dk_42 (dk_at dksX11_lawIs_0 0 rfl rfl)
theorem dX11_lawIs_1 : decode cX11_lawIs 1 = .ok (.getfield 281, 3) := dk_180 1 25 (dk_at dksX11_lawIs_0 1 rfl rfl)
theorem dX11_lawIs_4 : decode cX11_lawIs 4 = .ok (.bipush 10, 2) := dk_16 10 (dk_at dksX11_lawIs_0 4 rfl rfl)
theorem dX11_lawIs_6 : decode cX11_lawIs 6 = .ok (.iload_n 1, 1) := dk_27 (dk_at dksX11_lawIs_0 6 rfl rfl)
theorem dX11_lawIs_7 : decode cX11_lawIs 7 = .ok (.iadd, 1) := dk_96 (dk_at dksX11_lawIs_0 7 rfl rfl)
theorem dX11_lawIs_8 : decode cX11_lawIs 8 = .ok (.iaload, 1) := dk_46 (dk_at dksX11_lawIs_0 8 rfl rfl)
theorem dX11_lawIs_9 : decode cX11_lawIs 9 = .ok (.ireturn, 1) := dk_172 (dk_at dksX11_lawIs_0 9 rfl rfl)
abbrev cX11_beginElection : ByteArray := prog_17_method_69_code
def yX11_beginElection : MethodName := ⟨RX11, "beginElection", "()V"⟩
def dkwX11_beginElection_4 : List UInt8 := [3, 181, 2, 46, 42, 3, 181, 2, 49, 42, 3, 181, 2, 52, 177]
abbrev dktX11_beginElection_4 : List UInt8 := dkwX11_beginElection_4 ++ []
def dkwX11_beginElection_3 : List UInt8 := [27, 3, 79, 42, 180, 2, 40, 27, 3, 84, 42, 180, 2, 43, 27, 3, 84, 132, 1, 1, 167, 255, 226, 42]
abbrev dktX11_beginElection_3 : List UInt8 := dkwX11_beginElection_3 ++ dktX11_beginElection_4
def dkwX11_beginElection_2 : List UInt8 := [180, 2, 34, 27, 3, 84, 132, 1, 1, 167, 255, 233, 3, 60, 27, 16, 7, 162, 0, 30, 42, 180, 2, 37]
abbrev dktX11_beginElection_2 : List UInt8 := dkwX11_beginElection_2 ++ dktX11_beginElection_3
def dkwX11_beginElection_1 : List UInt8 := [181, 2, 28, 42, 3, 181, 2, 31, 3, 60, 27, 16, 6, 162, 0, 23, 42, 180, 1, 232, 27, 3, 79, 42]
abbrev dktX11_beginElection_1 : List UInt8 := dkwX11_beginElection_1 ++ dktX11_beginElection_2
def dkwX11_beginElection_0 : List UInt8 := [42, 3, 181, 2, 16, 42, 3, 181, 2, 19, 42, 3, 181, 2, 22, 42, 3, 181, 2, 25, 42, 3]
abbrev dktX11_beginElection_0 : List UInt8 := dkwX11_beginElection_0 ++ dktX11_beginElection_1
theorem dksX11_beginElection_0 : cX11_beginElection.data.toList.drop 0 = dktX11_beginElection_0 := by decide +kernel
theorem dksX11_beginElection_1 : cX11_beginElection.data.toList.drop 22 = dktX11_beginElection_1 := dk_seg dksX11_beginElection_0 22 rfl rfl
theorem dksX11_beginElection_2 : cX11_beginElection.data.toList.drop 46 = dktX11_beginElection_2 := dk_seg dksX11_beginElection_1 24 rfl rfl
theorem dksX11_beginElection_3 : cX11_beginElection.data.toList.drop 70 = dktX11_beginElection_3 := dk_seg dksX11_beginElection_2 24 rfl rfl
theorem dksX11_beginElection_4 : cX11_beginElection.data.toList.drop 94 = dktX11_beginElection_4 := dk_seg dksX11_beginElection_3 24 rfl rfl
theorem dX11_beginElection_0 : decode cX11_beginElection 0 = .ok (.aload_n 0, 1) := dk_42 (dk_at dksX11_beginElection_0 0 rfl rfl)
theorem dX11_beginElection_1 : decode cX11_beginElection 1 = .ok (.iconst 0, 1) := dk_3 (dk_at dksX11_beginElection_0 1 rfl rfl)
theorem dX11_beginElection_2 : decode cX11_beginElection 2 = .ok (.putfield 528, 3) := dk_181 2 16 (dk_at dksX11_beginElection_0 2 rfl rfl)
theorem dX11_beginElection_5 : decode cX11_beginElection 5 = .ok (.aload_n 0, 1) := dk_42 (dk_at dksX11_beginElection_0 5 rfl rfl)
theorem dX11_beginElection_6 : decode cX11_beginElection 6 = .ok (.iconst 0, 1) := dk_3 (dk_at dksX11_beginElection_0 6 rfl rfl)
theorem dX11_beginElection_7 : decode cX11_beginElection 7 = .ok (.putfield 531, 3) := dk_181 2 19 (dk_at dksX11_beginElection_0 7 rfl rfl)
theorem dX11_beginElection_10 : decode cX11_beginElection 10 = .ok (.aload_n 0, 1) := dk_42 (dk_at dksX11_beginElection_0 10 rfl rfl)
theorem dX11_beginElection_11 : decode cX11_beginElection 11 = .ok (.iconst 0, 1) := dk_3 (dk_at dksX11_beginElection_0 11 rfl rfl)
theorem dX11_beginElection_12 : decode cX11_beginElection 12 = .ok (.putfield 534, 3) := dk_181 2 22 (dk_at dksX11_beginElection_0 12 rfl rfl)
theorem dX11_beginElection_15 : decode cX11_beginElection 15 = .ok (.aload_n 0, 1) := dk_42 (dk_at dksX11_beginElection_0 15 rfl rfl)
theorem dX11_beginElection_16 : decode cX11_beginElection 16 = .ok (.iconst 0, 1) := dk_3 (dk_at dksX11_beginElection_0 16 rfl rfl)
theorem dX11_beginElection_17 : decode cX11_beginElection 17 = .ok (.putfield 537, 3) := dk_181 2 25 (dk_at dksX11_beginElection_0 17 rfl rfl)
theorem dX11_beginElection_20 : decode cX11_beginElection 20 = .ok (.aload_n 0, 1) := dk_42 (dk_at dksX11_beginElection_0 20 rfl rfl)
theorem dX11_beginElection_21 : decode cX11_beginElection 21 = .ok (.iconst 0, 1) := dk_3 (dk_at dksX11_beginElection_0 21 rfl rfl)
theorem dX11_beginElection_22 : decode cX11_beginElection 22 = .ok (.putfield 540, 3) := dk_181 2 28 (dk_at dksX11_beginElection_1 0 rfl rfl)
theorem dX11_beginElection_25 : decode cX11_beginElection 25 = .ok (.aload_n 0, 1) := dk_42 (dk_at dksX11_beginElection_1 3 rfl rfl)
theorem dX11_beginElection_26 : decode cX11_beginElection 26 = .ok (.iconst 0, 1) := dk_3 (dk_at dksX11_beginElection_1 4 rfl rfl)
theorem dX11_beginElection_27 : decode cX11_beginElection 27 = .ok (.putfield 543, 3) := dk_181 2 31 (dk_at dksX11_beginElection_1 5 rfl rfl)
theorem dX11_beginElection_30 : decode cX11_beginElection 30 = .ok (.iconst 0, 1) := dk_3 (dk_at dksX11_beginElection_1 8 rfl rfl)
theorem dX11_beginElection_31 : decode cX11_beginElection 31 = .ok (.istore_n 1, 1) := dk_60 (dk_at dksX11_beginElection_1 9 rfl rfl)
theorem dX11_beginElection_32 : decode cX11_beginElection 32 = .ok (.iload_n 1, 1) := dk_27 (dk_at dksX11_beginElection_1 10 rfl rfl)
theorem dX11_beginElection_33 : decode cX11_beginElection 33 = .ok (.bipush 6, 2) := dk_16 6 (dk_at dksX11_beginElection_1 11 rfl rfl)
theorem dX11_beginElection_35 : decode cX11_beginElection 35 = .ok (.if_icmp .ge 23, 3) := dk_162 0 23 (dk_at dksX11_beginElection_1 13 rfl rfl)
theorem dX11_beginElection_38 : decode cX11_beginElection 38 = .ok (.aload_n 0, 1) := dk_42 (dk_at dksX11_beginElection_1 16 rfl rfl)
theorem dX11_beginElection_39 : decode cX11_beginElection 39 = .ok (.getfield 488, 3) := dk_180 1 232 (dk_at dksX11_beginElection_1 17 rfl rfl)
theorem dX11_beginElection_42 : decode cX11_beginElection 42 = .ok (.iload_n 1, 1) := dk_27 (dk_at dksX11_beginElection_1 20 rfl rfl)
theorem dX11_beginElection_43 : decode cX11_beginElection 43 = .ok (.iconst 0, 1) := dk_3 (dk_at dksX11_beginElection_1 21 rfl rfl)
theorem dX11_beginElection_44 : decode cX11_beginElection 44 = .ok (.iastore, 1) := dk_79 (dk_at dksX11_beginElection_1 22 rfl rfl)
theorem dX11_beginElection_45 : decode cX11_beginElection 45 = .ok (.aload_n 0, 1) := dk_42 (dk_at dksX11_beginElection_1 23 rfl rfl)
theorem dX11_beginElection_46 : decode cX11_beginElection 46 = .ok (.getfield 546, 3) := dk_180 2 34 (dk_at dksX11_beginElection_2 0 rfl rfl)
theorem dX11_beginElection_49 : decode cX11_beginElection 49 = .ok (.iload_n 1, 1) := dk_27 (dk_at dksX11_beginElection_2 3 rfl rfl)
theorem dX11_beginElection_50 : decode cX11_beginElection 50 = .ok (.iconst 0, 1) := dk_3 (dk_at dksX11_beginElection_2 4 rfl rfl)
theorem dX11_beginElection_51 : decode cX11_beginElection 51 = .ok (.bastore, 1) := dk_84 (dk_at dksX11_beginElection_2 5 rfl rfl)
theorem dX11_beginElection_52 : decode cX11_beginElection 52 = .ok (.iinc 1 1, 3) := dk_132 1 1 (dk_at dksX11_beginElection_2 6 rfl rfl)
theorem dX11_beginElection_55 : decode cX11_beginElection 55 = .ok (.goto (-23), 3) := dk_167 255 233 (dk_at dksX11_beginElection_2 9 rfl rfl)
theorem dX11_beginElection_58 : decode cX11_beginElection 58 = .ok (.iconst 0, 1) := dk_3 (dk_at dksX11_beginElection_2 12 rfl rfl)
theorem dX11_beginElection_59 : decode cX11_beginElection 59 = .ok (.istore_n 1, 1) := dk_60 (dk_at dksX11_beginElection_2 13 rfl rfl)
theorem dX11_beginElection_60 : decode cX11_beginElection 60 = .ok (.iload_n 1, 1) := dk_27 (dk_at dksX11_beginElection_2 14 rfl rfl)
theorem dX11_beginElection_61 : decode cX11_beginElection 61 = .ok (.bipush 7, 2) := dk_16 7 (dk_at dksX11_beginElection_2 15 rfl rfl)
theorem dX11_beginElection_63 : decode cX11_beginElection 63 = .ok (.if_icmp .ge 30, 3) := dk_162 0 30 (dk_at dksX11_beginElection_2 17 rfl rfl)
theorem dX11_beginElection_66 : decode cX11_beginElection 66 = .ok (.aload_n 0, 1) := dk_42 (dk_at dksX11_beginElection_2 20 rfl rfl)
theorem dX11_beginElection_67 : decode cX11_beginElection 67 = .ok (.getfield 549, 3) := dk_180 2 37 (dk_at dksX11_beginElection_2 21 rfl rfl)
theorem dX11_beginElection_70 : decode cX11_beginElection 70 = .ok (.iload_n 1, 1) := dk_27 (dk_at dksX11_beginElection_3 0 rfl rfl)
theorem dX11_beginElection_71 : decode cX11_beginElection 71 = .ok (.iconst 0, 1) := dk_3 (dk_at dksX11_beginElection_3 1 rfl rfl)
theorem dX11_beginElection_72 : decode cX11_beginElection 72 = .ok (.iastore, 1) := dk_79 (dk_at dksX11_beginElection_3 2 rfl rfl)
theorem dX11_beginElection_73 : decode cX11_beginElection 73 = .ok (.aload_n 0, 1) := dk_42 (dk_at dksX11_beginElection_3 3 rfl rfl)
theorem dX11_beginElection_74 : decode cX11_beginElection 74 = .ok (.getfield 552, 3) := dk_180 2 40 (dk_at dksX11_beginElection_3 4 rfl rfl)
theorem dX11_beginElection_77 : decode cX11_beginElection 77 = .ok (.iload_n 1, 1) := dk_27 (dk_at dksX11_beginElection_3 7 rfl rfl)
theorem dX11_beginElection_78 : decode cX11_beginElection 78 = .ok (.iconst 0, 1) := dk_3 (dk_at dksX11_beginElection_3 8 rfl rfl)
theorem dX11_beginElection_79 : decode cX11_beginElection 79 = .ok (.bastore, 1) := dk_84 (dk_at dksX11_beginElection_3 9 rfl rfl)
theorem dX11_beginElection_80 : decode cX11_beginElection 80 = .ok (.aload_n 0, 1) := dk_42 (dk_at dksX11_beginElection_3 10 rfl rfl)
theorem dX11_beginElection_81 : decode cX11_beginElection 81 = .ok (.getfield 555, 3) := dk_180 2 43 (dk_at dksX11_beginElection_3 11 rfl rfl)
theorem dX11_beginElection_84 : decode cX11_beginElection 84 = .ok (.iload_n 1, 1) := dk_27 (dk_at dksX11_beginElection_3 14 rfl rfl)
theorem dX11_beginElection_85 : decode cX11_beginElection 85 = .ok (.iconst 0, 1) := dk_3 (dk_at dksX11_beginElection_3 15 rfl rfl)
theorem dX11_beginElection_86 : decode cX11_beginElection 86 = .ok (.bastore, 1) := dk_84 (dk_at dksX11_beginElection_3 16 rfl rfl)
theorem dX11_beginElection_87 : decode cX11_beginElection 87 = .ok (.iinc 1 1, 3) := dk_132 1 1 (dk_at dksX11_beginElection_3 17 rfl rfl)
theorem dX11_beginElection_90 : decode cX11_beginElection 90 = .ok (.goto (-30), 3) := dk_167 255 226 (dk_at dksX11_beginElection_3 20 rfl rfl)
theorem dX11_beginElection_93 : decode cX11_beginElection 93 = .ok (.aload_n 0, 1) := dk_42 (dk_at dksX11_beginElection_3 23 rfl rfl)
theorem dX11_beginElection_94 : decode cX11_beginElection 94 = .ok (.iconst 0, 1) := dk_3 (dk_at dksX11_beginElection_4 0 rfl rfl)
theorem dX11_beginElection_95 : decode cX11_beginElection 95 = .ok (.putfield 558, 3) := dk_181 2 46 (dk_at dksX11_beginElection_4 1 rfl rfl)
theorem dX11_beginElection_98 : decode cX11_beginElection 98 = .ok (.aload_n 0, 1) := dk_42 (dk_at dksX11_beginElection_4 4 rfl rfl)
theorem dX11_beginElection_99 : decode cX11_beginElection 99 = .ok (.iconst 0, 1) := dk_3 (dk_at dksX11_beginElection_4 5 rfl rfl)
theorem dX11_beginElection_100 : decode cX11_beginElection 100 = .ok (.putfield 561, 3) := dk_181 2 49 (dk_at dksX11_beginElection_4 6 rfl rfl)
theorem dX11_beginElection_103 : decode cX11_beginElection 103 = .ok (.aload_n 0, 1) := dk_42 (dk_at dksX11_beginElection_4 9 rfl rfl)
theorem dX11_beginElection_104 : decode cX11_beginElection 104 = .ok (.iconst 0, 1) := dk_3 (dk_at dksX11_beginElection_4 10 rfl rfl)
theorem dX11_beginElection_105 : decode cX11_beginElection 105 = .ok (.putfield 564, 3) := dk_181 2 52 (dk_at dksX11_beginElection_4 11 rfl rfl)
theorem dX11_beginElection_108 : decode cX11_beginElection 108 = .ok (.return_, 1) := dk_177 (dk_at dksX11_beginElection_4 14 rfl rfl)
abbrev cX11_days : ByteArray := prog_17_method_60_code
def yX11_days : MethodName := ⟨RX11, "days", "(I)I"⟩
def dkwX11_days_1 : List UInt8 := [16, 254, 167, 0, 8, 42, 27, 182, 1, 210, 172]
abbrev dktX11_days_1 : List UInt8 := dkwX11_days_1 ++ []
def dkwX11_days_0 : List UInt8 := [42, 180, 0, 141, 154, 0, 7, 2, 167, 0, 25, 27, 133, 9, 20, 1, 222, 184, 0, 13, 154, 0, 8]
abbrev dktX11_days_0 : List UInt8 := dkwX11_days_0 ++ dktX11_days_1
theorem dksX11_days_0 : cX11_days.data.toList.drop 0 = dktX11_days_0 := by decide +kernel
theorem dksX11_days_1 : cX11_days.data.toList.drop 23 = dktX11_days_1 := dk_seg dksX11_days_0 23 rfl rfl
theorem dX11_days_0 : decode cX11_days 0 = .ok (.aload_n 0, 1) := dk_42 (dk_at dksX11_days_0 0 rfl rfl)
theorem dX11_days_1 : decode cX11_days 1 = .ok (.getfield 141, 3) := dk_180 0 141 (dk_at dksX11_days_0 1 rfl rfl)
theorem dX11_days_4 : decode cX11_days 4 = .ok (.ifCond .ne 7, 3) := dk_154 0 7 (dk_at dksX11_days_0 4 rfl rfl)
theorem dX11_days_7 : decode cX11_days 7 = .ok (.iconst (-1), 1) := dk_2 (dk_at dksX11_days_0 7 rfl rfl)
theorem dX11_days_8 : decode cX11_days 8 = .ok (.goto 25, 3) := dk_167 0 25 (dk_at dksX11_days_0 8 rfl rfl)
theorem dX11_days_11 : decode cX11_days 11 = .ok (.iload_n 1, 1) := dk_27 (dk_at dksX11_days_0 11 rfl rfl)
theorem dX11_days_12 : decode cX11_days 12 = .ok (.i2l, 1) := dk_133 (dk_at dksX11_days_0 12 rfl rfl)
theorem dX11_days_13 : decode cX11_days 13 = .ok (.lconst 0, 1) := dk_9 (dk_at dksX11_days_0 13 rfl rfl)
theorem dX11_days_14 : decode cX11_days 14 = .ok (.ldc2_w 478, 3) := dk_20 1 222 (dk_at dksX11_days_0 14 rfl rfl)
theorem dX11_days_17 : decode cX11_days 17 = .ok (.invokestatic 13, 3) := dk_184 0 13 (dk_at dksX11_days_0 17 rfl rfl)
theorem dX11_days_20 : decode cX11_days 20 = .ok (.ifCond .ne 8, 3) := dk_154 0 8 (dk_at dksX11_days_0 20 rfl rfl)
theorem dX11_days_23 : decode cX11_days 23 = .ok (.bipush (-2), 2) := dk_16 254 (dk_at dksX11_days_1 0 rfl rfl)
theorem dX11_days_25 : decode cX11_days 25 = .ok (.goto 8, 3) := dk_167 0 8 (dk_at dksX11_days_1 2 rfl rfl)
theorem dX11_days_28 : decode cX11_days 28 = .ok (.aload_n 0, 1) := dk_42 (dk_at dksX11_days_1 5 rfl rfl)
theorem dX11_days_29 : decode cX11_days 29 = .ok (.iload_n 1, 1) := dk_27 (dk_at dksX11_days_1 6 rfl rfl)
theorem dX11_days_30 : decode cX11_days 30 = .ok (.invokevirtual 466, 3) := dk_182 1 210 (dk_at dksX11_days_1 7 rfl rfl)
theorem dX11_days_33 : decode cX11_days 33 = .ok (.ireturn, 1) := dk_172 (dk_at dksX11_days_1 10 rfl rfl)
abbrev cX11_contest : ByteArray := prog_17_method_62_code
def yX11_contest : MethodName := ⟨RX11, "contest", "(II)I"⟩
def dkwX11_contest_2 : List UInt8 := [27, 46, 167, 0, 8, 42, 27, 182, 1, 235, 172]
abbrev dktX11_contest_2 : List UInt8 := dkwX11_contest_2 ++ []
def dkwX11_contest_1 : List UInt8 := [172, 28, 7, 162, 0, 12, 42, 27, 28, 182, 1, 229, 167, 0, 22, 28, 7, 160, 0, 12, 42, 180, 1, 232]
abbrev dktX11_contest_1 : List UInt8 := dkwX11_contest_1 ++ dktX11_contest_2
def dkwX11_contest_0 : List UInt8 := [42, 27, 182, 1, 224, 154, 0, 5, 2, 172, 28, 133, 9, 20, 1, 227, 184, 0, 13, 154, 0, 6, 16, 254]
abbrev dktX11_contest_0 : List UInt8 := dkwX11_contest_0 ++ dktX11_contest_1
theorem dksX11_contest_0 : cX11_contest.data.toList.drop 0 = dktX11_contest_0 := by decide +kernel
theorem dksX11_contest_1 : cX11_contest.data.toList.drop 24 = dktX11_contest_1 := dk_seg dksX11_contest_0 24 rfl rfl
theorem dksX11_contest_2 : cX11_contest.data.toList.drop 48 = dktX11_contest_2 := dk_seg dksX11_contest_1 24 rfl rfl
theorem dX11_contest_0 : decode cX11_contest 0 = .ok (.aload_n 0, 1) := dk_42 (dk_at dksX11_contest_0 0 rfl rfl)
theorem dX11_contest_1 : decode cX11_contest 1 = .ok (.iload_n 1, 1) := dk_27 (dk_at dksX11_contest_0 1 rfl rfl)
theorem dX11_contest_2 : decode cX11_contest 2 = .ok (.invokevirtual 480, 3) := dk_182 1 224 (dk_at dksX11_contest_0 2 rfl rfl)
theorem dX11_contest_5 : decode cX11_contest 5 = .ok (.ifCond .ne 5, 3) := dk_154 0 5 (dk_at dksX11_contest_0 5 rfl rfl)
theorem dX11_contest_8 : decode cX11_contest 8 = .ok (.iconst (-1), 1) := dk_2 (dk_at dksX11_contest_0 8 rfl rfl)
theorem dX11_contest_9 : decode cX11_contest 9 = .ok (.ireturn, 1) := dk_172 (dk_at dksX11_contest_0 9 rfl rfl)
theorem dX11_contest_10 : decode cX11_contest 10 = .ok (.iload_n 2, 1) := dk_28 (dk_at dksX11_contest_0 10 rfl rfl)
theorem dX11_contest_11 : decode cX11_contest 11 = .ok (.i2l, 1) := dk_133 (dk_at dksX11_contest_0 11 rfl rfl)
theorem dX11_contest_12 : decode cX11_contest 12 = .ok (.lconst 0, 1) := dk_9 (dk_at dksX11_contest_0 12 rfl rfl)
theorem dX11_contest_13 : decode cX11_contest 13 = .ok (.ldc2_w 483, 3) := dk_20 1 227 (dk_at dksX11_contest_0 13 rfl rfl)
theorem dX11_contest_16 : decode cX11_contest 16 = .ok (.invokestatic 13, 3) := dk_184 0 13 (dk_at dksX11_contest_0 16 rfl rfl)
theorem dX11_contest_19 : decode cX11_contest 19 = .ok (.ifCond .ne 6, 3) := dk_154 0 6 (dk_at dksX11_contest_0 19 rfl rfl)
theorem dX11_contest_22 : decode cX11_contest 22 = .ok (.bipush (-2), 2) := dk_16 254 (dk_at dksX11_contest_0 22 rfl rfl)
theorem dX11_contest_24 : decode cX11_contest 24 = .ok (.ireturn, 1) := dk_172 (dk_at dksX11_contest_1 0 rfl rfl)
theorem dX11_contest_25 : decode cX11_contest 25 = .ok (.iload_n 2, 1) := dk_28 (dk_at dksX11_contest_1 1 rfl rfl)
theorem dX11_contest_26 : decode cX11_contest 26 = .ok (.iconst 4, 1) := dk_7 (dk_at dksX11_contest_1 2 rfl rfl)
theorem dX11_contest_27 : decode cX11_contest 27 = .ok (.if_icmp .ge 12, 3) := dk_162 0 12 (dk_at dksX11_contest_1 3 rfl rfl)
theorem dX11_contest_30 : decode cX11_contest 30 = .ok (.aload_n 0, 1) := dk_42 (dk_at dksX11_contest_1 6 rfl rfl)
theorem dX11_contest_31 : decode cX11_contest 31 = .ok (.iload_n 1, 1) := dk_27 (dk_at dksX11_contest_1 7 rfl rfl)
theorem dX11_contest_32 : decode cX11_contest 32 = .ok (.iload_n 2, 1) := dk_28 (dk_at dksX11_contest_1 8 rfl rfl)
theorem dX11_contest_33 : decode cX11_contest 33 = .ok (.invokevirtual 485, 3) := dk_182 1 229 (dk_at dksX11_contest_1 9 rfl rfl)
theorem dX11_contest_36 : decode cX11_contest 36 = .ok (.goto 22, 3) := dk_167 0 22 (dk_at dksX11_contest_1 12 rfl rfl)
theorem dX11_contest_39 : decode cX11_contest 39 = .ok (.iload_n 2, 1) := dk_28 (dk_at dksX11_contest_1 15 rfl rfl)
theorem dX11_contest_40 : decode cX11_contest 40 = .ok (.iconst 4, 1) := dk_7 (dk_at dksX11_contest_1 16 rfl rfl)
theorem dX11_contest_41 : decode cX11_contest 41 = .ok (.if_icmp .ne 12, 3) := dk_160 0 12 (dk_at dksX11_contest_1 17 rfl rfl)
theorem dX11_contest_44 : decode cX11_contest 44 = .ok (.aload_n 0, 1) := dk_42 (dk_at dksX11_contest_1 20 rfl rfl)
theorem dX11_contest_45 : decode cX11_contest 45 = .ok (.getfield 488, 3) := dk_180 1 232 (dk_at dksX11_contest_1 21 rfl rfl)
theorem dX11_contest_48 : decode cX11_contest 48 = .ok (.iload_n 1, 1) := dk_27 (dk_at dksX11_contest_2 0 rfl rfl)
theorem dX11_contest_49 : decode cX11_contest 49 = .ok (.iaload, 1) := dk_46 (dk_at dksX11_contest_2 1 rfl rfl)
theorem dX11_contest_50 : decode cX11_contest 50 = .ok (.goto 8, 3) := dk_167 0 8 (dk_at dksX11_contest_2 2 rfl rfl)
theorem dX11_contest_53 : decode cX11_contest 53 = .ok (.aload_n 0, 1) := dk_42 (dk_at dksX11_contest_2 5 rfl rfl)
theorem dX11_contest_54 : decode cX11_contest 54 = .ok (.iload_n 1, 1) := dk_27 (dk_at dksX11_contest_2 6 rfl rfl)
theorem dX11_contest_55 : decode cX11_contest 55 = .ok (.invokevirtual 491, 3) := dk_182 1 235 (dk_at dksX11_contest_2 7 rfl rfl)
theorem dX11_contest_58 : decode cX11_contest 58 = .ok (.ireturn, 1) := dk_172 (dk_at dksX11_contest_2 10 rfl rfl)
abbrev cX11_isContest : ByteArray := prog_17_method_61_code
def yX11_isContest : MethodName := ⟨RX11, "isContest", "(I)Z"⟩
def dkwX11_isContest_1 : List UInt8 := [167, 0, 4, 3, 172]
abbrev dktX11_isContest_1 : List UInt8 := dkwX11_isContest_1 ++ []
def dkwX11_isContest_0 : List UInt8 := [42, 180, 0, 141, 153, 0, 23, 27, 133, 9, 42, 180, 1, 213, 4, 100, 133, 184, 0, 13, 153, 0, 7, 4]
abbrev dktX11_isContest_0 : List UInt8 := dkwX11_isContest_0 ++ dktX11_isContest_1
theorem dksX11_isContest_0 : cX11_isContest.data.toList.drop 0 = dktX11_isContest_0 := by decide +kernel
theorem dksX11_isContest_1 : cX11_isContest.data.toList.drop 24 = dktX11_isContest_1 := dk_seg dksX11_isContest_0 24 rfl rfl
theorem dX11_isContest_0 : decode cX11_isContest 0 = .ok (.aload_n 0, 1) := dk_42 (dk_at dksX11_isContest_0 0 rfl rfl)
theorem dX11_isContest_1 : decode cX11_isContest 1 = .ok (.getfield 141, 3) := dk_180 0 141 (dk_at dksX11_isContest_0 1 rfl rfl)
theorem dX11_isContest_4 : decode cX11_isContest 4 = .ok (.ifCond .eq 23, 3) := dk_153 0 23 (dk_at dksX11_isContest_0 4 rfl rfl)
theorem dX11_isContest_7 : decode cX11_isContest 7 = .ok (.iload_n 1, 1) := dk_27 (dk_at dksX11_isContest_0 7 rfl rfl)
theorem dX11_isContest_8 : decode cX11_isContest 8 = .ok (.i2l, 1) := dk_133 (dk_at dksX11_isContest_0 8 rfl rfl)
theorem dX11_isContest_9 : decode cX11_isContest 9 = .ok (.lconst 0, 1) := dk_9 (dk_at dksX11_isContest_0 9 rfl rfl)
theorem dX11_isContest_10 : decode cX11_isContest 10 = .ok (.aload_n 0, 1) := dk_42 (dk_at dksX11_isContest_0 10 rfl rfl)
theorem dX11_isContest_11 : decode cX11_isContest 11 = .ok (.getfield 469, 3) := dk_180 1 213 (dk_at dksX11_isContest_0 11 rfl rfl)
theorem dX11_isContest_14 : decode cX11_isContest 14 = .ok (.iconst 1, 1) := dk_4 (dk_at dksX11_isContest_0 14 rfl rfl)
theorem dX11_isContest_15 : decode cX11_isContest 15 = .ok (.isub, 1) := dk_100 (dk_at dksX11_isContest_0 15 rfl rfl)
theorem dX11_isContest_16 : decode cX11_isContest 16 = .ok (.i2l, 1) := dk_133 (dk_at dksX11_isContest_0 16 rfl rfl)
theorem dX11_isContest_17 : decode cX11_isContest 17 = .ok (.invokestatic 13, 3) := dk_184 0 13 (dk_at dksX11_isContest_0 17 rfl rfl)
theorem dX11_isContest_20 : decode cX11_isContest 20 = .ok (.ifCond .eq 7, 3) := dk_153 0 7 (dk_at dksX11_isContest_0 20 rfl rfl)
theorem dX11_isContest_23 : decode cX11_isContest 23 = .ok (.iconst 1, 1) := dk_4 (dk_at dksX11_isContest_0 23 rfl rfl)
theorem dX11_isContest_24 : decode cX11_isContest 24 = .ok (.goto 4, 3) := dk_167 0 4 (dk_at dksX11_isContest_1 0 rfl rfl)
theorem dX11_isContest_27 : decode cX11_isContest 27 = .ok (.iconst 0, 1) := dk_3 (dk_at dksX11_isContest_1 3 rfl rfl)
theorem dX11_isContest_28 : decode cX11_isContest 28 = .ok (.ireturn, 1) := dk_172 (dk_at dksX11_isContest_1 4 rfl rfl)
abbrev cX11_contestIs : ByteArray := prog_17_method_46_code
def yX11_contestIs : MethodName := ⟨RX11, "contestIs", "(II)I"⟩
def dkwX11_contestIs_0 : List UInt8 := [42, 180, 1, 28, 16, 8, 16, 6, 27, 96, 104, 28, 96, 46, 172]
abbrev dktX11_contestIs_0 : List UInt8 := dkwX11_contestIs_0 ++ []
theorem dksX11_contestIs_0 : cX11_contestIs.data.toList.drop 0 = dktX11_contestIs_0 := by decide +kernel
theorem dX11_contestIs_0 : decode cX11_contestIs 0 = .ok (.aload_n 0, 1) := dk_42 (dk_at dksX11_contestIs_0 0 rfl rfl)
theorem dX11_contestIs_1 : decode cX11_contestIs 1 = .ok (.getfield 284, 3) := dk_180 1 28 (dk_at dksX11_contestIs_0 1 rfl rfl)
theorem dX11_contestIs_4 : decode cX11_contestIs 4 = .ok (.bipush 8, 2) := dk_16 8 (dk_at dksX11_contestIs_0 4 rfl rfl)
theorem dX11_contestIs_6 : decode cX11_contestIs 6 = .ok (.bipush 6, 2) := dk_16 6 (dk_at dksX11_contestIs_0 6 rfl rfl)
theorem dX11_contestIs_8 : decode cX11_contestIs 8 = .ok (.iload_n 1, 1) := dk_27 (dk_at dksX11_contestIs_0 8 rfl rfl)
theorem dX11_contestIs_9 : decode cX11_contestIs 9 = .ok (.iadd, 1) := dk_96 (dk_at dksX11_contestIs_0 9 rfl rfl)
theorem dX11_contestIs_10 : decode cX11_contestIs 10 = .ok (.imul, 1) := dk_104 (dk_at dksX11_contestIs_0 10 rfl rfl)
theorem dX11_contestIs_11 : decode cX11_contestIs 11 = .ok (.iload_n 2, 1) := dk_28 (dk_at dksX11_contestIs_0 11 rfl rfl)
theorem dX11_contestIs_12 : decode cX11_contestIs 12 = .ok (.iadd, 1) := dk_96 (dk_at dksX11_contestIs_0 12 rfl rfl)
theorem dX11_contestIs_13 : decode cX11_contestIs 13 = .ok (.iaload, 1) := dk_46 (dk_at dksX11_contestIs_0 13 rfl rfl)
theorem dX11_contestIs_14 : decode cX11_contestIs 14 = .ok (.ireturn, 1) := dk_172 (dk_at dksX11_contestIs_0 14 rfl rfl)
abbrev cX11_struckOf : ByteArray := prog_17_method_70_code
def yX11_struckOf : MethodName := ⟨RX11, "struckOf", "(I)I"⟩
def dkwX11_struckOf_1 : List UInt8 := [180, 2, 55, 29, 51, 153, 0, 7, 4, 167, 0, 4, 3, 96, 61, 132, 3, 1, 167, 255, 221, 28, 172]
abbrev dktX11_struckOf_1 : List UInt8 := dkwX11_struckOf_1 ++ []
def dkwX11_struckOf_0 : List UInt8 := [3, 61, 16, 9, 27, 104, 62, 29, 16, 9, 27, 104, 42, 180, 1, 232, 27, 46, 96, 162, 0, 26, 28, 42]
abbrev dktX11_struckOf_0 : List UInt8 := dkwX11_struckOf_0 ++ dktX11_struckOf_1
theorem dksX11_struckOf_0 : cX11_struckOf.data.toList.drop 0 = dktX11_struckOf_0 := by decide +kernel
theorem dksX11_struckOf_1 : cX11_struckOf.data.toList.drop 24 = dktX11_struckOf_1 := dk_seg dksX11_struckOf_0 24 rfl rfl
theorem dX11_struckOf_0 : decode cX11_struckOf 0 = .ok (.iconst 0, 1) := dk_3 (dk_at dksX11_struckOf_0 0 rfl rfl)
theorem dX11_struckOf_1 : decode cX11_struckOf 1 = .ok (.istore_n 2, 1) := dk_61 (dk_at dksX11_struckOf_0 1 rfl rfl)
theorem dX11_struckOf_2 : decode cX11_struckOf 2 = .ok (.bipush 9, 2) := dk_16 9 (dk_at dksX11_struckOf_0 2 rfl rfl)
theorem dX11_struckOf_4 : decode cX11_struckOf 4 = .ok (.iload_n 1, 1) := dk_27 (dk_at dksX11_struckOf_0 4 rfl rfl)
theorem dX11_struckOf_5 : decode cX11_struckOf 5 = .ok (.imul, 1) := dk_104 (dk_at dksX11_struckOf_0 5 rfl rfl)
theorem dX11_struckOf_6 : decode cX11_struckOf 6 = .ok (.istore_n 3, 1) := dk_62 (dk_at dksX11_struckOf_0 6 rfl rfl)
theorem dX11_struckOf_7 : decode cX11_struckOf 7 = .ok (.iload_n 3, 1) := dk_29 (dk_at dksX11_struckOf_0 7 rfl rfl)
theorem dX11_struckOf_8 : decode cX11_struckOf 8 = .ok (.bipush 9, 2) := dk_16 9 (dk_at dksX11_struckOf_0 8 rfl rfl)
theorem dX11_struckOf_10 : decode cX11_struckOf 10 = .ok (.iload_n 1, 1) := dk_27 (dk_at dksX11_struckOf_0 10 rfl rfl)
theorem dX11_struckOf_11 : decode cX11_struckOf 11 = .ok (.imul, 1) := dk_104 (dk_at dksX11_struckOf_0 11 rfl rfl)
theorem dX11_struckOf_12 : decode cX11_struckOf 12 = .ok (.aload_n 0, 1) := dk_42 (dk_at dksX11_struckOf_0 12 rfl rfl)
theorem dX11_struckOf_13 : decode cX11_struckOf 13 = .ok (.getfield 488, 3) := dk_180 1 232 (dk_at dksX11_struckOf_0 13 rfl rfl)
theorem dX11_struckOf_16 : decode cX11_struckOf 16 = .ok (.iload_n 1, 1) := dk_27 (dk_at dksX11_struckOf_0 16 rfl rfl)
theorem dX11_struckOf_17 : decode cX11_struckOf 17 = .ok (.iaload, 1) := dk_46 (dk_at dksX11_struckOf_0 17 rfl rfl)
theorem dX11_struckOf_18 : decode cX11_struckOf 18 = .ok (.iadd, 1) := dk_96 (dk_at dksX11_struckOf_0 18 rfl rfl)
theorem dX11_struckOf_19 : decode cX11_struckOf 19 = .ok (.if_icmp .ge 26, 3) := dk_162 0 26 (dk_at dksX11_struckOf_0 19 rfl rfl)
theorem dX11_struckOf_22 : decode cX11_struckOf 22 = .ok (.iload_n 2, 1) := dk_28 (dk_at dksX11_struckOf_0 22 rfl rfl)
theorem dX11_struckOf_23 : decode cX11_struckOf 23 = .ok (.aload_n 0, 1) := dk_42 (dk_at dksX11_struckOf_0 23 rfl rfl)
theorem dX11_struckOf_24 : decode cX11_struckOf 24 = .ok (.getfield 567, 3) := dk_180 2 55 (dk_at dksX11_struckOf_1 0 rfl rfl)
theorem dX11_struckOf_27 : decode cX11_struckOf 27 = .ok (.iload_n 3, 1) := dk_29 (dk_at dksX11_struckOf_1 3 rfl rfl)
theorem dX11_struckOf_28 : decode cX11_struckOf 28 = .ok (.baload, 1) := dk_51 (dk_at dksX11_struckOf_1 4 rfl rfl)
theorem dX11_struckOf_29 : decode cX11_struckOf 29 = .ok (.ifCond .eq 7, 3) := dk_153 0 7 (dk_at dksX11_struckOf_1 5 rfl rfl)
theorem dX11_struckOf_32 : decode cX11_struckOf 32 = .ok (.iconst 1, 1) := dk_4 (dk_at dksX11_struckOf_1 8 rfl rfl)
theorem dX11_struckOf_33 : decode cX11_struckOf 33 = .ok (.goto 4, 3) := dk_167 0 4 (dk_at dksX11_struckOf_1 9 rfl rfl)
theorem dX11_struckOf_36 : decode cX11_struckOf 36 = .ok (.iconst 0, 1) := dk_3 (dk_at dksX11_struckOf_1 12 rfl rfl)
theorem dX11_struckOf_37 : decode cX11_struckOf 37 = .ok (.iadd, 1) := dk_96 (dk_at dksX11_struckOf_1 13 rfl rfl)
theorem dX11_struckOf_38 : decode cX11_struckOf 38 = .ok (.istore_n 2, 1) := dk_61 (dk_at dksX11_struckOf_1 14 rfl rfl)
theorem dX11_struckOf_39 : decode cX11_struckOf 39 = .ok (.iinc 3 1, 3) := dk_132 3 1 (dk_at dksX11_struckOf_1 15 rfl rfl)
theorem dX11_struckOf_42 : decode cX11_struckOf 42 = .ok (.goto (-35), 3) := dk_167 255 221 (dk_at dksX11_struckOf_1 18 rfl rfl)
theorem dX11_struckOf_45 : decode cX11_struckOf 45 = .ok (.iload_n 2, 1) := dk_28 (dk_at dksX11_struckOf_1 21 rfl rfl)
theorem dX11_struckOf_46 : decode cX11_struckOf 46 = .ok (.ireturn, 1) := dk_172 (dk_at dksX11_struckOf_1 22 rfl rfl)
abbrev cX11_may : ByteArray := prog_17_method_67_code
def yX11_may : MethodName := ⟨RX11, "may", "(II)I"⟩
def dkwX11_may_3 : List UInt8 := [167, 0, 4, 3, 172]
abbrev dktX11_may_3 : List UInt8 := dkwX11_may_3 ++ []
def dkwX11_may_2 : List UInt8 := [153, 0, 10, 42, 180, 1, 216, 167, 0, 7, 42, 180, 1, 254, 181, 1, 216, 29, 153, 0, 7, 4]
abbrev dktX11_may_2 : List UInt8 := dkwX11_may_2 ++ dktX11_may_3
def dkwX11_may_1 : List UInt8 := [154, 0, 6, 16, 254, 172, 42, 27, 28, 154, 0, 7, 4, 167, 0, 4, 3, 182, 2, 12, 62, 42, 29]
abbrev dktX11_may_1 : List UInt8 := dkwX11_may_1 ++ dktX11_may_2
def dkwX11_may_0 : List UInt8 := [42, 180, 0, 141, 153, 0, 11, 42, 27, 182, 0, 110, 154, 0, 5, 2, 172, 28, 133, 9, 10, 184, 0, 13]
abbrev dktX11_may_0 : List UInt8 := dkwX11_may_0 ++ dktX11_may_1
theorem dksX11_may_0 : cX11_may.data.toList.drop 0 = dktX11_may_0 := by decide +kernel
theorem dksX11_may_1 : cX11_may.data.toList.drop 24 = dktX11_may_1 := dk_seg dksX11_may_0 24 rfl rfl
theorem dksX11_may_2 : cX11_may.data.toList.drop 47 = dktX11_may_2 := dk_seg dksX11_may_1 23 rfl rfl
theorem dksX11_may_3 : cX11_may.data.toList.drop 69 = dktX11_may_3 := dk_seg dksX11_may_2 22 rfl rfl
theorem dX11_may_0 : decode cX11_may 0 = .ok (.aload_n 0, 1) := dk_42 (dk_at dksX11_may_0 0 rfl rfl)
theorem dX11_may_1 : decode cX11_may 1 = .ok (.getfield 141, 3) := dk_180 0 141 (dk_at dksX11_may_0 1 rfl rfl)
theorem dX11_may_4 : decode cX11_may 4 = .ok (.ifCond .eq 11, 3) := dk_153 0 11 (dk_at dksX11_may_0 4 rfl rfl)
theorem dX11_may_7 : decode cX11_may 7 = .ok (.aload_n 0, 1) := dk_42 (dk_at dksX11_may_0 7 rfl rfl)
theorem dX11_may_8 : decode cX11_may 8 = .ok (.iload_n 1, 1) := dk_27 (dk_at dksX11_may_0 8 rfl rfl)
theorem dX11_may_9 : decode cX11_may 9 = .ok (.invokevirtual 110, 3) := dk_182 0 110 (dk_at dksX11_may_0 9 rfl rfl)
theorem dX11_may_12 : decode cX11_may 12 = .ok (.ifCond .ne 5, 3) := dk_154 0 5 (dk_at dksX11_may_0 12 rfl rfl)
theorem dX11_may_15 : decode cX11_may 15 = .ok (.iconst (-1), 1) := dk_2 (dk_at dksX11_may_0 15 rfl rfl)
theorem dX11_may_16 : decode cX11_may 16 = .ok (.ireturn, 1) := dk_172 (dk_at dksX11_may_0 16 rfl rfl)
theorem dX11_may_17 : decode cX11_may 17 = .ok (.iload_n 2, 1) := dk_28 (dk_at dksX11_may_0 17 rfl rfl)
theorem dX11_may_18 : decode cX11_may 18 = .ok (.i2l, 1) := dk_133 (dk_at dksX11_may_0 18 rfl rfl)
theorem dX11_may_19 : decode cX11_may 19 = .ok (.lconst 0, 1) := dk_9 (dk_at dksX11_may_0 19 rfl rfl)
theorem dX11_may_20 : decode cX11_may 20 = .ok (.lconst 1, 1) := dk_10 (dk_at dksX11_may_0 20 rfl rfl)
theorem dX11_may_21 : decode cX11_may 21 = .ok (.invokestatic 13, 3) := dk_184 0 13 (dk_at dksX11_may_0 21 rfl rfl)
theorem dX11_may_24 : decode cX11_may 24 = .ok (.ifCond .ne 6, 3) := dk_154 0 6 (dk_at dksX11_may_1 0 rfl rfl)
theorem dX11_may_27 : decode cX11_may 27 = .ok (.bipush (-2), 2) := dk_16 254 (dk_at dksX11_may_1 3 rfl rfl)
theorem dX11_may_29 : decode cX11_may 29 = .ok (.ireturn, 1) := dk_172 (dk_at dksX11_may_1 5 rfl rfl)
theorem dX11_may_30 : decode cX11_may 30 = .ok (.aload_n 0, 1) := dk_42 (dk_at dksX11_may_1 6 rfl rfl)
theorem dX11_may_31 : decode cX11_may 31 = .ok (.iload_n 1, 1) := dk_27 (dk_at dksX11_may_1 7 rfl rfl)
theorem dX11_may_32 : decode cX11_may 32 = .ok (.iload_n 2, 1) := dk_28 (dk_at dksX11_may_1 8 rfl rfl)
theorem dX11_may_33 : decode cX11_may 33 = .ok (.ifCond .ne 7, 3) := dk_154 0 7 (dk_at dksX11_may_1 9 rfl rfl)
theorem dX11_may_36 : decode cX11_may 36 = .ok (.iconst 1, 1) := dk_4 (dk_at dksX11_may_1 12 rfl rfl)
theorem dX11_may_37 : decode cX11_may 37 = .ok (.goto 4, 3) := dk_167 0 4 (dk_at dksX11_may_1 13 rfl rfl)
theorem dX11_may_40 : decode cX11_may 40 = .ok (.iconst 0, 1) := dk_3 (dk_at dksX11_may_1 16 rfl rfl)
theorem dX11_may_41 : decode cX11_may 41 = .ok (.invokevirtual 524, 3) := dk_182 2 12 (dk_at dksX11_may_1 17 rfl rfl)
theorem dX11_may_44 : decode cX11_may 44 = .ok (.istore_n 3, 1) := dk_62 (dk_at dksX11_may_1 20 rfl rfl)
theorem dX11_may_45 : decode cX11_may 45 = .ok (.aload_n 0, 1) := dk_42 (dk_at dksX11_may_1 21 rfl rfl)
theorem dX11_may_46 : decode cX11_may 46 = .ok (.iload_n 3, 1) := dk_29 (dk_at dksX11_may_1 22 rfl rfl)
theorem dX11_may_47 : decode cX11_may 47 = .ok (.ifCond .eq 10, 3) := dk_153 0 10 (dk_at dksX11_may_2 0 rfl rfl)
theorem dX11_may_50 : decode cX11_may 50 = .ok (.aload_n 0, 1) := dk_42 (dk_at dksX11_may_2 3 rfl rfl)
theorem dX11_may_51 : decode cX11_may 51 = .ok (.getfield 472, 3) := dk_180 1 216 (dk_at dksX11_may_2 4 rfl rfl)
theorem dX11_may_54 : decode cX11_may 54 = .ok (.goto 7, 3) := dk_167 0 7 (dk_at dksX11_may_2 7 rfl rfl)
theorem dX11_may_57 : decode cX11_may 57 = .ok (.aload_n 0, 1) := dk_42 (dk_at dksX11_may_2 10 rfl rfl)
theorem dX11_may_58 : decode cX11_may 58 = .ok (.getfield 510, 3) := dk_180 1 254 (dk_at dksX11_may_2 11 rfl rfl)
theorem dX11_may_61 : decode cX11_may 61 = .ok (.putfield 472, 3) := dk_181 1 216 (dk_at dksX11_may_2 14 rfl rfl)
theorem dX11_may_64 : decode cX11_may 64 = .ok (.iload_n 3, 1) := dk_29 (dk_at dksX11_may_2 17 rfl rfl)
theorem dX11_may_65 : decode cX11_may 65 = .ok (.ifCond .eq 7, 3) := dk_153 0 7 (dk_at dksX11_may_2 18 rfl rfl)
theorem dX11_may_68 : decode cX11_may 68 = .ok (.iconst 1, 1) := dk_4 (dk_at dksX11_may_2 21 rfl rfl)
theorem dX11_may_69 : decode cX11_may 69 = .ok (.goto 4, 3) := dk_167 0 4 (dk_at dksX11_may_3 0 rfl rfl)
theorem dX11_may_72 : decode cX11_may 72 = .ok (.iconst 0, 1) := dk_3 (dk_at dksX11_may_3 3 rfl rfl)
theorem dX11_may_73 : decode cX11_may 73 = .ok (.ireturn, 1) := dk_172 (dk_at dksX11_may_3 4 rfl rfl)
abbrev cX11_lets : ByteArray := prog_17_method_66_code
def yX11_lets : MethodName := ⟨RX11, "lets", "(IZ)Z"⟩
def dkwX11_lets_13 : List UInt8 := [154, 0, 12, 42, 180, 1, 245, 3, 51, 153, 0, 7, 4, 167, 0, 4, 3, 172]
abbrev dktX11_lets_13 : List UInt8 := dkwX11_lets_13 ++ []
def dkwX11_lets_12 : List UInt8 := [51, 128, 84, 42, 180, 1, 245, 21, 4, 4, 84, 132, 5, 1, 167, 254, 255, 42, 180, 1, 241, 3, 51]
abbrev dktX11_lets_12 : List UInt8 := dkwX11_lets_12 ++ dktX11_lets_13
def dkwX11_lets_11 : List UInt8 := [167, 0, 35, 21, 6, 16, 251, 160, 0, 28, 42, 180, 1, 241, 21, 4, 92, 51, 42, 180, 1, 245, 21, 4]
abbrev dktX11_lets_11 : List UInt8 := dkwX11_lets_11 ++ dktX11_lets_12
def dkwX11_lets_10 : List UInt8 := [154, 0, 15, 42, 180, 1, 245, 21, 4, 4, 96, 51, 153, 0, 7, 4, 167, 0, 4, 3, 182, 2, 9]
abbrev dktX11_lets_10 : List UInt8 := dkwX11_lets_10 ++ dktX11_lets_11
def dkwX11_lets_9 : List UInt8 := [21, 6, 16, 253, 160, 0, 44, 132, 4, 255, 42, 21, 4, 42, 180, 1, 241, 21, 4, 4, 96, 51]
abbrev dktX11_lets_9 : List UInt8 := dkwX11_lets_9 ++ dktX11_lets_10
def dkwX11_lets_8 : List UInt8 := [180, 1, 248, 21, 4, 51, 159, 0, 7, 4, 167, 0, 4, 3, 182, 2, 1, 132, 4, 1, 167, 0, 83]
abbrev dktX11_lets_8 : List UInt8 := dkwX11_lets_8 ++ dktX11_lets_9
def dkwX11_lets_7 : List UInt8 := [84, 167, 0, 126, 21, 6, 16, 254, 160, 0, 39, 42, 21, 4, 4, 96, 42, 180, 1, 251, 21, 4, 51, 42]
abbrev dktX11_lets_7 : List UInt8 := dkwX11_lets_7 ++ dktX11_lets_8
def dkwX11_lets_6 : List UInt8 := [160, 0, 28, 42, 180, 1, 248, 21, 4, 42, 180, 1, 248, 21, 4, 51, 154, 0, 7, 4, 167, 0, 4, 3]
abbrev dktX11_lets_6 : List UInt8 := dkwX11_lets_6 ++ dktX11_lets_7
def dkwX11_lets_5 : List UInt8 := [16, 41, 21, 6, 96, 46, 181, 1, 254, 42, 21, 4, 21, 7, 182, 2, 9, 167, 0, 157, 21, 6, 2]
abbrev dktX11_lets_5 : List UInt8 := dkwX11_lets_5 ++ dktX11_lets_6
def dkwX11_lets_4 : List UInt8 := [51, 42, 180, 1, 248, 21, 4, 51, 159, 0, 7, 4, 167, 0, 4, 3, 160, 0, 17, 42, 42, 180, 1, 66]
abbrev dktX11_lets_4 : List UInt8 := dkwX11_lets_4 ++ dktX11_lets_5
def dkwX11_lets_3 : List UInt8 := [21, 6, 27, 28, 182, 2, 5, 54, 7, 42, 180, 1, 254, 156, 0, 44, 21, 7, 42, 180, 1, 251, 21, 4]
abbrev dktX11_lets_3 : List UInt8 := dkwX11_lets_3 ++ dktX11_lets_4
def dkwX11_lets_2 : List UInt8 := [162, 0, 252, 42, 180, 1, 31, 17, 15, 162, 29, 104, 21, 5, 96, 46, 54, 6, 21, 6, 155, 0, 72, 42]
abbrev dktX11_lets_2 : List UInt8 := dkwX11_lets_2 ++ dktX11_lets_3
def dkwX11_lets_1 : List UInt8 := [4, 172, 3, 54, 4, 42, 3, 3, 182, 2, 1, 3, 54, 5, 21, 5, 42, 180, 1, 34, 29, 46]
abbrev dktX11_lets_1 : List UInt8 := dkwX11_lets_1 ++ dktX11_lets_2
def dkwX11_lets_0 : List UInt8 := [28, 153, 0, 7, 5, 167, 0, 4, 6, 62, 42, 2, 181, 1, 254, 42, 180, 1, 34, 29, 46, 154, 0, 5]
abbrev dktX11_lets_0 : List UInt8 := dkwX11_lets_0 ++ dktX11_lets_1
theorem dksX11_lets_0 : cX11_lets.data.toList.drop 0 = dktX11_lets_0 := by decide +kernel
theorem dksX11_lets_1 : cX11_lets.data.toList.drop 24 = dktX11_lets_1 := dk_seg dksX11_lets_0 24 rfl rfl
theorem dksX11_lets_2 : cX11_lets.data.toList.drop 46 = dktX11_lets_2 := dk_seg dksX11_lets_1 22 rfl rfl
theorem dksX11_lets_3 : cX11_lets.data.toList.drop 70 = dktX11_lets_3 := dk_seg dksX11_lets_2 24 rfl rfl
theorem dksX11_lets_4 : cX11_lets.data.toList.drop 94 = dktX11_lets_4 := dk_seg dksX11_lets_3 24 rfl rfl
theorem dksX11_lets_5 : cX11_lets.data.toList.drop 118 = dktX11_lets_5 := dk_seg dksX11_lets_4 24 rfl rfl
theorem dksX11_lets_6 : cX11_lets.data.toList.drop 141 = dktX11_lets_6 := dk_seg dksX11_lets_5 23 rfl rfl
theorem dksX11_lets_7 : cX11_lets.data.toList.drop 165 = dktX11_lets_7 := dk_seg dksX11_lets_6 24 rfl rfl
theorem dksX11_lets_8 : cX11_lets.data.toList.drop 189 = dktX11_lets_8 := dk_seg dksX11_lets_7 24 rfl rfl
theorem dksX11_lets_9 : cX11_lets.data.toList.drop 212 = dktX11_lets_9 := dk_seg dksX11_lets_8 23 rfl rfl
theorem dksX11_lets_10 : cX11_lets.data.toList.drop 234 = dktX11_lets_10 := dk_seg dksX11_lets_9 22 rfl rfl
theorem dksX11_lets_11 : cX11_lets.data.toList.drop 257 = dktX11_lets_11 := dk_seg dksX11_lets_10 23 rfl rfl
theorem dksX11_lets_12 : cX11_lets.data.toList.drop 281 = dktX11_lets_12 := dk_seg dksX11_lets_11 24 rfl rfl
theorem dksX11_lets_13 : cX11_lets.data.toList.drop 304 = dktX11_lets_13 := dk_seg dksX11_lets_12 23 rfl rfl
theorem dX11_lets_0 : decode cX11_lets 0 = .ok (.iload_n 2, 1) := dk_28 (dk_at dksX11_lets_0 0 rfl rfl)
theorem dX11_lets_1 : decode cX11_lets 1 = .ok (.ifCond .eq 7, 3) := dk_153 0 7 (dk_at dksX11_lets_0 1 rfl rfl)
theorem dX11_lets_4 : decode cX11_lets 4 = .ok (.iconst 2, 1) := dk_5 (dk_at dksX11_lets_0 4 rfl rfl)
theorem dX11_lets_5 : decode cX11_lets 5 = .ok (.goto 4, 3) := dk_167 0 4 (dk_at dksX11_lets_0 5 rfl rfl)
theorem dX11_lets_8 : decode cX11_lets 8 = .ok (.iconst 3, 1) := dk_6 (dk_at dksX11_lets_0 8 rfl rfl)
theorem dX11_lets_9 : decode cX11_lets 9 = .ok (.istore_n 3, 1) := dk_62 (dk_at dksX11_lets_0 9 rfl rfl)
theorem dX11_lets_10 : decode cX11_lets 10 = .ok (.aload_n 0, 1) := dk_42 (dk_at dksX11_lets_0 10 rfl rfl)
theorem dX11_lets_11 : decode cX11_lets 11 = .ok (.iconst (-1), 1) := dk_2 (dk_at dksX11_lets_0 11 rfl rfl)
theorem dX11_lets_12 : decode cX11_lets 12 = .ok (.putfield 510, 3) := dk_181 1 254 (dk_at dksX11_lets_0 12 rfl rfl)
theorem dX11_lets_15 : decode cX11_lets 15 = .ok (.aload_n 0, 1) := dk_42 (dk_at dksX11_lets_0 15 rfl rfl)
theorem dX11_lets_16 : decode cX11_lets 16 = .ok (.getfield 290, 3) := dk_180 1 34 (dk_at dksX11_lets_0 16 rfl rfl)
theorem dX11_lets_19 : decode cX11_lets 19 = .ok (.iload_n 3, 1) := dk_29 (dk_at dksX11_lets_0 19 rfl rfl)
theorem dX11_lets_20 : decode cX11_lets 20 = .ok (.iaload, 1) := dk_46 (dk_at dksX11_lets_0 20 rfl rfl)
theorem dX11_lets_21 : decode cX11_lets 21 = .ok (.ifCond .ne 5, 3) := dk_154 0 5 (dk_at dksX11_lets_0 21 rfl rfl)
theorem dX11_lets_24 : decode cX11_lets 24 = .ok (.iconst 1, 1) := dk_4 (dk_at dksX11_lets_1 0 rfl rfl)
theorem dX11_lets_25 : decode cX11_lets 25 = .ok (.ireturn, 1) := dk_172 (dk_at dksX11_lets_1 1 rfl rfl)
theorem dX11_lets_26 : decode cX11_lets 26 = .ok (.iconst 0, 1) := dk_3 (dk_at dksX11_lets_1 2 rfl rfl)
theorem dX11_lets_27 : decode cX11_lets 27 = .ok (.istore 4, 2) := dk_54 4 (dk_at dksX11_lets_1 3 rfl rfl)
theorem dX11_lets_29 : decode cX11_lets 29 = .ok (.aload_n 0, 1) := dk_42 (dk_at dksX11_lets_1 5 rfl rfl)
theorem dX11_lets_30 : decode cX11_lets 30 = .ok (.iconst 0, 1) := dk_3 (dk_at dksX11_lets_1 6 rfl rfl)
theorem dX11_lets_31 : decode cX11_lets 31 = .ok (.iconst 0, 1) := dk_3 (dk_at dksX11_lets_1 7 rfl rfl)
theorem dX11_lets_32 : decode cX11_lets 32 = .ok (.invokevirtual 513, 3) := dk_182 2 1 (dk_at dksX11_lets_1 8 rfl rfl)
theorem dX11_lets_35 : decode cX11_lets 35 = .ok (.iconst 0, 1) := dk_3 (dk_at dksX11_lets_1 11 rfl rfl)
theorem dX11_lets_36 : decode cX11_lets 36 = .ok (.istore 5, 2) := dk_54 5 (dk_at dksX11_lets_1 12 rfl rfl)
theorem dX11_lets_38 : decode cX11_lets 38 = .ok (.iload 5, 2) := dk_21 5 (dk_at dksX11_lets_1 14 rfl rfl)
theorem dX11_lets_40 : decode cX11_lets 40 = .ok (.aload_n 0, 1) := dk_42 (dk_at dksX11_lets_1 16 rfl rfl)
theorem dX11_lets_41 : decode cX11_lets 41 = .ok (.getfield 290, 3) := dk_180 1 34 (dk_at dksX11_lets_1 17 rfl rfl)
theorem dX11_lets_44 : decode cX11_lets 44 = .ok (.iload_n 3, 1) := dk_29 (dk_at dksX11_lets_1 20 rfl rfl)
theorem dX11_lets_45 : decode cX11_lets 45 = .ok (.iaload, 1) := dk_46 (dk_at dksX11_lets_1 21 rfl rfl)
theorem dX11_lets_46 : decode cX11_lets 46 = .ok (.if_icmp .ge 252, 3) := dk_162 0 252 (dk_at dksX11_lets_2 0 rfl rfl)
theorem dX11_lets_49 : decode cX11_lets 49 = .ok (.aload_n 0, 1) := dk_42 (dk_at dksX11_lets_2 3 rfl rfl)
theorem dX11_lets_50 : decode cX11_lets 50 = .ok (.getfield 287, 3) := dk_180 1 31 (dk_at dksX11_lets_2 4 rfl rfl)
theorem dX11_lets_53 : decode cX11_lets 53 = .ok (.sipush 4002, 3) := dk_17 15 162 (dk_at dksX11_lets_2 7 rfl rfl)
theorem dX11_lets_56 : decode cX11_lets 56 = .ok (.iload_n 3, 1) := dk_29 (dk_at dksX11_lets_2 10 rfl rfl)
theorem dX11_lets_57 : decode cX11_lets 57 = .ok (.imul, 1) := dk_104 (dk_at dksX11_lets_2 11 rfl rfl)
theorem dX11_lets_58 : decode cX11_lets 58 = .ok (.iload 5, 2) := dk_21 5 (dk_at dksX11_lets_2 12 rfl rfl)
theorem dX11_lets_60 : decode cX11_lets 60 = .ok (.iadd, 1) := dk_96 (dk_at dksX11_lets_2 14 rfl rfl)
theorem dX11_lets_61 : decode cX11_lets 61 = .ok (.iaload, 1) := dk_46 (dk_at dksX11_lets_2 15 rfl rfl)
theorem dX11_lets_62 : decode cX11_lets 62 = .ok (.istore 6, 2) := dk_54 6 (dk_at dksX11_lets_2 16 rfl rfl)
theorem dX11_lets_64 : decode cX11_lets 64 = .ok (.iload 6, 2) := dk_21 6 (dk_at dksX11_lets_2 18 rfl rfl)
theorem dX11_lets_66 : decode cX11_lets 66 = .ok (.ifCond .lt 72, 3) := dk_155 0 72 (dk_at dksX11_lets_2 20 rfl rfl)
theorem dX11_lets_69 : decode cX11_lets 69 = .ok (.aload_n 0, 1) := dk_42 (dk_at dksX11_lets_2 23 rfl rfl)
theorem dX11_lets_70 : decode cX11_lets 70 = .ok (.iload 6, 2) := dk_21 6 (dk_at dksX11_lets_3 0 rfl rfl)
theorem dX11_lets_72 : decode cX11_lets 72 = .ok (.iload_n 1, 1) := dk_27 (dk_at dksX11_lets_3 2 rfl rfl)
theorem dX11_lets_73 : decode cX11_lets 73 = .ok (.iload_n 2, 1) := dk_28 (dk_at dksX11_lets_3 3 rfl rfl)
theorem dX11_lets_74 : decode cX11_lets 74 = .ok (.invokevirtual 517, 3) := dk_182 2 5 (dk_at dksX11_lets_3 4 rfl rfl)
theorem dX11_lets_77 : decode cX11_lets 77 = .ok (.istore 7, 2) := dk_54 7 (dk_at dksX11_lets_3 7 rfl rfl)
theorem dX11_lets_79 : decode cX11_lets 79 = .ok (.aload_n 0, 1) := dk_42 (dk_at dksX11_lets_3 9 rfl rfl)
theorem dX11_lets_80 : decode cX11_lets 80 = .ok (.getfield 510, 3) := dk_180 1 254 (dk_at dksX11_lets_3 10 rfl rfl)
theorem dX11_lets_83 : decode cX11_lets 83 = .ok (.ifCond .ge 44, 3) := dk_156 0 44 (dk_at dksX11_lets_3 13 rfl rfl)
theorem dX11_lets_86 : decode cX11_lets 86 = .ok (.iload 7, 2) := dk_21 7 (dk_at dksX11_lets_3 16 rfl rfl)
theorem dX11_lets_88 : decode cX11_lets 88 = .ok (.aload_n 0, 1) := dk_42 (dk_at dksX11_lets_3 18 rfl rfl)
theorem dX11_lets_89 : decode cX11_lets 89 = .ok (.getfield 507, 3) := dk_180 1 251 (dk_at dksX11_lets_3 19 rfl rfl)
theorem dX11_lets_92 : decode cX11_lets 92 = .ok (.iload 4, 2) := dk_21 4 (dk_at dksX11_lets_3 22 rfl rfl)
theorem dX11_lets_94 : decode cX11_lets 94 = .ok (.baload, 1) := dk_51 (dk_at dksX11_lets_4 0 rfl rfl)
theorem dX11_lets_95 : decode cX11_lets 95 = .ok (.aload_n 0, 1) := dk_42 (dk_at dksX11_lets_4 1 rfl rfl)
theorem dX11_lets_96 : decode cX11_lets 96 = .ok (.getfield 504, 3) := dk_180 1 248 (dk_at dksX11_lets_4 2 rfl rfl)
theorem dX11_lets_99 : decode cX11_lets 99 = .ok (.iload 4, 2) := dk_21 4 (dk_at dksX11_lets_4 5 rfl rfl)
theorem dX11_lets_101 : decode cX11_lets 101 = .ok (.baload, 1) := dk_51 (dk_at dksX11_lets_4 7 rfl rfl)
theorem dX11_lets_102 : decode cX11_lets 102 = .ok (.if_icmp .eq 7, 3) := dk_159 0 7 (dk_at dksX11_lets_4 8 rfl rfl)
theorem dX11_lets_105 : decode cX11_lets 105 = .ok (.iconst 1, 1) := dk_4 (dk_at dksX11_lets_4 11 rfl rfl)
theorem dX11_lets_106 : decode cX11_lets 106 = .ok (.goto 4, 3) := dk_167 0 4 (dk_at dksX11_lets_4 12 rfl rfl)
theorem dX11_lets_109 : decode cX11_lets 109 = .ok (.iconst 0, 1) := dk_3 (dk_at dksX11_lets_4 15 rfl rfl)
theorem dX11_lets_110 : decode cX11_lets 110 = .ok (.if_icmp .ne 17, 3) := dk_160 0 17 (dk_at dksX11_lets_4 16 rfl rfl)
theorem dX11_lets_113 : decode cX11_lets 113 = .ok (.aload_n 0, 1) := dk_42 (dk_at dksX11_lets_4 19 rfl rfl)
theorem dX11_lets_114 : decode cX11_lets 114 = .ok (.aload_n 0, 1) := dk_42 (dk_at dksX11_lets_4 20 rfl rfl)
theorem dX11_lets_115 : decode cX11_lets 115 = .ok (.getfield 322, 3) := dk_180 1 66 (dk_at dksX11_lets_4 21 rfl rfl)
theorem dX11_lets_118 : decode cX11_lets 118 = .ok (.bipush 41, 2) := dk_16 41 (dk_at dksX11_lets_5 0 rfl rfl)
theorem dX11_lets_120 : decode cX11_lets 120 = .ok (.iload 6, 2) := dk_21 6 (dk_at dksX11_lets_5 2 rfl rfl)
theorem dX11_lets_122 : decode cX11_lets 122 = .ok (.iadd, 1) := dk_96 (dk_at dksX11_lets_5 4 rfl rfl)
theorem dX11_lets_123 : decode cX11_lets 123 = .ok (.iaload, 1) := dk_46 (dk_at dksX11_lets_5 5 rfl rfl)
theorem dX11_lets_124 : decode cX11_lets 124 = .ok (.putfield 510, 3) := dk_181 1 254 (dk_at dksX11_lets_5 6 rfl rfl)
theorem dX11_lets_127 : decode cX11_lets 127 = .ok (.aload_n 0, 1) := dk_42 (dk_at dksX11_lets_5 9 rfl rfl)
theorem dX11_lets_128 : decode cX11_lets 128 = .ok (.iload 4, 2) := dk_21 4 (dk_at dksX11_lets_5 10 rfl rfl)
theorem dX11_lets_130 : decode cX11_lets 130 = .ok (.iload 7, 2) := dk_21 7 (dk_at dksX11_lets_5 12 rfl rfl)
theorem dX11_lets_132 : decode cX11_lets 132 = .ok (.invokevirtual 521, 3) := dk_182 2 9 (dk_at dksX11_lets_5 14 rfl rfl)
theorem dX11_lets_135 : decode cX11_lets 135 = .ok (.goto 157, 3) := dk_167 0 157 (dk_at dksX11_lets_5 17 rfl rfl)
theorem dX11_lets_138 : decode cX11_lets 138 = .ok (.iload 6, 2) := dk_21 6 (dk_at dksX11_lets_5 20 rfl rfl)
theorem dX11_lets_140 : decode cX11_lets 140 = .ok (.iconst (-1), 1) := dk_2 (dk_at dksX11_lets_5 22 rfl rfl)
theorem dX11_lets_141 : decode cX11_lets 141 = .ok (.if_icmp .ne 28, 3) := dk_160 0 28 (dk_at dksX11_lets_6 0 rfl rfl)
theorem dX11_lets_144 : decode cX11_lets 144 = .ok (.aload_n 0, 1) := dk_42 (dk_at dksX11_lets_6 3 rfl rfl)
theorem dX11_lets_145 : decode cX11_lets 145 = .ok (.getfield 504, 3) := dk_180 1 248 (dk_at dksX11_lets_6 4 rfl rfl)
theorem dX11_lets_148 : decode cX11_lets 148 = .ok (.iload 4, 2) := dk_21 4 (dk_at dksX11_lets_6 7 rfl rfl)
theorem dX11_lets_150 : decode cX11_lets 150 = .ok (.aload_n 0, 1) := dk_42 (dk_at dksX11_lets_6 9 rfl rfl)
theorem dX11_lets_151 : decode cX11_lets 151 = .ok (.getfield 504, 3) := dk_180 1 248 (dk_at dksX11_lets_6 10 rfl rfl)
theorem dX11_lets_154 : decode cX11_lets 154 = .ok (.iload 4, 2) := dk_21 4 (dk_at dksX11_lets_6 13 rfl rfl)
theorem dX11_lets_156 : decode cX11_lets 156 = .ok (.baload, 1) := dk_51 (dk_at dksX11_lets_6 15 rfl rfl)
theorem dX11_lets_157 : decode cX11_lets 157 = .ok (.ifCond .ne 7, 3) := dk_154 0 7 (dk_at dksX11_lets_6 16 rfl rfl)
theorem dX11_lets_160 : decode cX11_lets 160 = .ok (.iconst 1, 1) := dk_4 (dk_at dksX11_lets_6 19 rfl rfl)
theorem dX11_lets_161 : decode cX11_lets 161 = .ok (.goto 4, 3) := dk_167 0 4 (dk_at dksX11_lets_6 20 rfl rfl)
theorem dX11_lets_164 : decode cX11_lets 164 = .ok (.iconst 0, 1) := dk_3 (dk_at dksX11_lets_6 23 rfl rfl)
theorem dX11_lets_165 : decode cX11_lets 165 = .ok (.bastore, 1) := dk_84 (dk_at dksX11_lets_7 0 rfl rfl)
theorem dX11_lets_166 : decode cX11_lets 166 = .ok (.goto 126, 3) := dk_167 0 126 (dk_at dksX11_lets_7 1 rfl rfl)
theorem dX11_lets_169 : decode cX11_lets 169 = .ok (.iload 6, 2) := dk_21 6 (dk_at dksX11_lets_7 4 rfl rfl)
theorem dX11_lets_171 : decode cX11_lets 171 = .ok (.bipush (-2), 2) := dk_16 254 (dk_at dksX11_lets_7 6 rfl rfl)
theorem dX11_lets_173 : decode cX11_lets 173 = .ok (.if_icmp .ne 39, 3) := dk_160 0 39 (dk_at dksX11_lets_7 8 rfl rfl)
theorem dX11_lets_176 : decode cX11_lets 176 = .ok (.aload_n 0, 1) := dk_42 (dk_at dksX11_lets_7 11 rfl rfl)
theorem dX11_lets_177 : decode cX11_lets 177 = .ok (.iload 4, 2) := dk_21 4 (dk_at dksX11_lets_7 12 rfl rfl)
theorem dX11_lets_179 : decode cX11_lets 179 = .ok (.iconst 1, 1) := dk_4 (dk_at dksX11_lets_7 14 rfl rfl)
theorem dX11_lets_180 : decode cX11_lets 180 = .ok (.iadd, 1) := dk_96 (dk_at dksX11_lets_7 15 rfl rfl)
theorem dX11_lets_181 : decode cX11_lets 181 = .ok (.aload_n 0, 1) := dk_42 (dk_at dksX11_lets_7 16 rfl rfl)
theorem dX11_lets_182 : decode cX11_lets 182 = .ok (.getfield 507, 3) := dk_180 1 251 (dk_at dksX11_lets_7 17 rfl rfl)
theorem dX11_lets_185 : decode cX11_lets 185 = .ok (.iload 4, 2) := dk_21 4 (dk_at dksX11_lets_7 20 rfl rfl)
theorem dX11_lets_187 : decode cX11_lets 187 = .ok (.baload, 1) := dk_51 (dk_at dksX11_lets_7 22 rfl rfl)
theorem dX11_lets_188 : decode cX11_lets 188 = .ok (.aload_n 0, 1) := dk_42 (dk_at dksX11_lets_7 23 rfl rfl)
theorem dX11_lets_189 : decode cX11_lets 189 = .ok (.getfield 504, 3) := dk_180 1 248 (dk_at dksX11_lets_8 0 rfl rfl)
theorem dX11_lets_192 : decode cX11_lets 192 = .ok (.iload 4, 2) := dk_21 4 (dk_at dksX11_lets_8 3 rfl rfl)
theorem dX11_lets_194 : decode cX11_lets 194 = .ok (.baload, 1) := dk_51 (dk_at dksX11_lets_8 5 rfl rfl)
theorem dX11_lets_195 : decode cX11_lets 195 = .ok (.if_icmp .eq 7, 3) := dk_159 0 7 (dk_at dksX11_lets_8 6 rfl rfl)
theorem dX11_lets_198 : decode cX11_lets 198 = .ok (.iconst 1, 1) := dk_4 (dk_at dksX11_lets_8 9 rfl rfl)
theorem dX11_lets_199 : decode cX11_lets 199 = .ok (.goto 4, 3) := dk_167 0 4 (dk_at dksX11_lets_8 10 rfl rfl)
theorem dX11_lets_202 : decode cX11_lets 202 = .ok (.iconst 0, 1) := dk_3 (dk_at dksX11_lets_8 13 rfl rfl)
theorem dX11_lets_203 : decode cX11_lets 203 = .ok (.invokevirtual 513, 3) := dk_182 2 1 (dk_at dksX11_lets_8 14 rfl rfl)
theorem dX11_lets_206 : decode cX11_lets 206 = .ok (.iinc 4 1, 3) := dk_132 4 1 (dk_at dksX11_lets_8 17 rfl rfl)
theorem dX11_lets_209 : decode cX11_lets 209 = .ok (.goto 83, 3) := dk_167 0 83 (dk_at dksX11_lets_8 20 rfl rfl)
theorem dX11_lets_212 : decode cX11_lets 212 = .ok (.iload 6, 2) := dk_21 6 (dk_at dksX11_lets_9 0 rfl rfl)
theorem dX11_lets_214 : decode cX11_lets 214 = .ok (.bipush (-3), 2) := dk_16 253 (dk_at dksX11_lets_9 2 rfl rfl)
theorem dX11_lets_216 : decode cX11_lets 216 = .ok (.if_icmp .ne 44, 3) := dk_160 0 44 (dk_at dksX11_lets_9 4 rfl rfl)
theorem dX11_lets_219 : decode cX11_lets 219 = .ok (.iinc 4 (-1), 3) := dk_132 4 255 (dk_at dksX11_lets_9 7 rfl rfl)
theorem dX11_lets_222 : decode cX11_lets 222 = .ok (.aload_n 0, 1) := dk_42 (dk_at dksX11_lets_9 10 rfl rfl)
theorem dX11_lets_223 : decode cX11_lets 223 = .ok (.iload 4, 2) := dk_21 4 (dk_at dksX11_lets_9 11 rfl rfl)
theorem dX11_lets_225 : decode cX11_lets 225 = .ok (.aload_n 0, 1) := dk_42 (dk_at dksX11_lets_9 13 rfl rfl)
theorem dX11_lets_226 : decode cX11_lets 226 = .ok (.getfield 497, 3) := dk_180 1 241 (dk_at dksX11_lets_9 14 rfl rfl)
theorem dX11_lets_229 : decode cX11_lets 229 = .ok (.iload 4, 2) := dk_21 4 (dk_at dksX11_lets_9 17 rfl rfl)
theorem dX11_lets_231 : decode cX11_lets 231 = .ok (.iconst 1, 1) := dk_4 (dk_at dksX11_lets_9 19 rfl rfl)
theorem dX11_lets_232 : decode cX11_lets 232 = .ok (.iadd, 1) := dk_96 (dk_at dksX11_lets_9 20 rfl rfl)
theorem dX11_lets_233 : decode cX11_lets 233 = .ok (.baload, 1) := dk_51 (dk_at dksX11_lets_9 21 rfl rfl)
theorem dX11_lets_234 : decode cX11_lets 234 = .ok (.ifCond .ne 15, 3) := dk_154 0 15 (dk_at dksX11_lets_10 0 rfl rfl)
theorem dX11_lets_237 : decode cX11_lets 237 = .ok (.aload_n 0, 1) := dk_42 (dk_at dksX11_lets_10 3 rfl rfl)
theorem dX11_lets_238 : decode cX11_lets 238 = .ok (.getfield 501, 3) := dk_180 1 245 (dk_at dksX11_lets_10 4 rfl rfl)
theorem dX11_lets_241 : decode cX11_lets 241 = .ok (.iload 4, 2) := dk_21 4 (dk_at dksX11_lets_10 7 rfl rfl)
theorem dX11_lets_243 : decode cX11_lets 243 = .ok (.iconst 1, 1) := dk_4 (dk_at dksX11_lets_10 9 rfl rfl)
theorem dX11_lets_244 : decode cX11_lets 244 = .ok (.iadd, 1) := dk_96 (dk_at dksX11_lets_10 10 rfl rfl)
theorem dX11_lets_245 : decode cX11_lets 245 = .ok (.baload, 1) := dk_51 (dk_at dksX11_lets_10 11 rfl rfl)
theorem dX11_lets_246 : decode cX11_lets 246 = .ok (.ifCond .eq 7, 3) := dk_153 0 7 (dk_at dksX11_lets_10 12 rfl rfl)
theorem dX11_lets_249 : decode cX11_lets 249 = .ok (.iconst 1, 1) := dk_4 (dk_at dksX11_lets_10 15 rfl rfl)
theorem dX11_lets_250 : decode cX11_lets 250 = .ok (.goto 4, 3) := dk_167 0 4 (dk_at dksX11_lets_10 16 rfl rfl)
theorem dX11_lets_253 : decode cX11_lets 253 = .ok (.iconst 0, 1) := dk_3 (dk_at dksX11_lets_10 19 rfl rfl)
theorem dX11_lets_254 : decode cX11_lets 254 = .ok (.invokevirtual 521, 3) := dk_182 2 9 (dk_at dksX11_lets_10 20 rfl rfl)
theorem dX11_lets_257 : decode cX11_lets 257 = .ok (.goto 35, 3) := dk_167 0 35 (dk_at dksX11_lets_11 0 rfl rfl)
theorem dX11_lets_260 : decode cX11_lets 260 = .ok (.iload 6, 2) := dk_21 6 (dk_at dksX11_lets_11 3 rfl rfl)
theorem dX11_lets_262 : decode cX11_lets 262 = .ok (.bipush (-5), 2) := dk_16 251 (dk_at dksX11_lets_11 5 rfl rfl)
theorem dX11_lets_264 : decode cX11_lets 264 = .ok (.if_icmp .ne 28, 3) := dk_160 0 28 (dk_at dksX11_lets_11 7 rfl rfl)
theorem dX11_lets_267 : decode cX11_lets 267 = .ok (.aload_n 0, 1) := dk_42 (dk_at dksX11_lets_11 10 rfl rfl)
theorem dX11_lets_268 : decode cX11_lets 268 = .ok (.getfield 497, 3) := dk_180 1 241 (dk_at dksX11_lets_11 11 rfl rfl)
theorem dX11_lets_271 : decode cX11_lets 271 = .ok (.iload 4, 2) := dk_21 4 (dk_at dksX11_lets_11 14 rfl rfl)
theorem dX11_lets_273 : decode cX11_lets 273 = .ok (.dup2, 1) := dk_92 (dk_at dksX11_lets_11 16 rfl rfl)
theorem dX11_lets_274 : decode cX11_lets 274 = .ok (.baload, 1) := dk_51 (dk_at dksX11_lets_11 17 rfl rfl)
theorem dX11_lets_275 : decode cX11_lets 275 = .ok (.aload_n 0, 1) := dk_42 (dk_at dksX11_lets_11 18 rfl rfl)
theorem dX11_lets_276 : decode cX11_lets 276 = .ok (.getfield 501, 3) := dk_180 1 245 (dk_at dksX11_lets_11 19 rfl rfl)
theorem dX11_lets_279 : decode cX11_lets 279 = .ok (.iload 4, 2) := dk_21 4 (dk_at dksX11_lets_11 22 rfl rfl)
theorem dX11_lets_281 : decode cX11_lets 281 = .ok (.baload, 1) := dk_51 (dk_at dksX11_lets_12 0 rfl rfl)
theorem dX11_lets_282 : decode cX11_lets 282 = .ok (.ior, 1) := dk_128 (dk_at dksX11_lets_12 1 rfl rfl)
theorem dX11_lets_283 : decode cX11_lets 283 = .ok (.bastore, 1) := dk_84 (dk_at dksX11_lets_12 2 rfl rfl)
theorem dX11_lets_284 : decode cX11_lets 284 = .ok (.aload_n 0, 1) := dk_42 (dk_at dksX11_lets_12 3 rfl rfl)
theorem dX11_lets_285 : decode cX11_lets 285 = .ok (.getfield 501, 3) := dk_180 1 245 (dk_at dksX11_lets_12 4 rfl rfl)
theorem dX11_lets_288 : decode cX11_lets 288 = .ok (.iload 4, 2) := dk_21 4 (dk_at dksX11_lets_12 7 rfl rfl)
theorem dX11_lets_290 : decode cX11_lets 290 = .ok (.iconst 1, 1) := dk_4 (dk_at dksX11_lets_12 9 rfl rfl)
theorem dX11_lets_291 : decode cX11_lets 291 = .ok (.bastore, 1) := dk_84 (dk_at dksX11_lets_12 10 rfl rfl)
theorem dX11_lets_292 : decode cX11_lets 292 = .ok (.iinc 5 1, 3) := dk_132 5 1 (dk_at dksX11_lets_12 11 rfl rfl)
theorem dX11_lets_295 : decode cX11_lets 295 = .ok (.goto (-257), 3) := dk_167 254 255 (dk_at dksX11_lets_12 14 rfl rfl)
theorem dX11_lets_298 : decode cX11_lets 298 = .ok (.aload_n 0, 1) := dk_42 (dk_at dksX11_lets_12 17 rfl rfl)
theorem dX11_lets_299 : decode cX11_lets 299 = .ok (.getfield 497, 3) := dk_180 1 241 (dk_at dksX11_lets_12 18 rfl rfl)
theorem dX11_lets_302 : decode cX11_lets 302 = .ok (.iconst 0, 1) := dk_3 (dk_at dksX11_lets_12 21 rfl rfl)
theorem dX11_lets_303 : decode cX11_lets 303 = .ok (.baload, 1) := dk_51 (dk_at dksX11_lets_12 22 rfl rfl)
theorem dX11_lets_304 : decode cX11_lets 304 = .ok (.ifCond .ne 12, 3) := dk_154 0 12 (dk_at dksX11_lets_13 0 rfl rfl)
theorem dX11_lets_307 : decode cX11_lets 307 = .ok (.aload_n 0, 1) := dk_42 (dk_at dksX11_lets_13 3 rfl rfl)
theorem dX11_lets_308 : decode cX11_lets 308 = .ok (.getfield 501, 3) := dk_180 1 245 (dk_at dksX11_lets_13 4 rfl rfl)
theorem dX11_lets_311 : decode cX11_lets 311 = .ok (.iconst 0, 1) := dk_3 (dk_at dksX11_lets_13 7 rfl rfl)
theorem dX11_lets_312 : decode cX11_lets 312 = .ok (.baload, 1) := dk_51 (dk_at dksX11_lets_13 8 rfl rfl)
theorem dX11_lets_313 : decode cX11_lets 313 = .ok (.ifCond .eq 7, 3) := dk_153 0 7 (dk_at dksX11_lets_13 9 rfl rfl)
theorem dX11_lets_316 : decode cX11_lets 316 = .ok (.iconst 1, 1) := dk_4 (dk_at dksX11_lets_13 12 rfl rfl)
theorem dX11_lets_317 : decode cX11_lets 317 = .ok (.goto 4, 3) := dk_167 0 4 (dk_at dksX11_lets_13 13 rfl rfl)
theorem dX11_lets_320 : decode cX11_lets 320 = .ok (.iconst 0, 1) := dk_3 (dk_at dksX11_lets_13 16 rfl rfl)
theorem dX11_lets_321 : decode cX11_lets 321 = .ok (.ireturn, 1) := dk_172 (dk_at dksX11_lets_13 17 rfl rfl)
