set_option maxRecDepth 100000
abbrev cX8_inMany : ByteArray := prog_5_method_13_code
def yX8_inMany : MethodName := ⟨RX8, "inMany", "()I"⟩
def dkwX8_inMany_1 : List UInt8 := [167, 0, 4, 3, 96, 60, 132, 2, 1, 167, 255, 229, 27, 172]
abbrev dktX8_inMany_1 : List UInt8 := dkwX8_inMany_1 ++ []
def dkwX8_inMany_0 : List UInt8 := [3, 60, 3, 61, 28, 42, 180, 0, 148, 162, 0, 25, 27, 42, 28, 182, 0, 209, 153, 0, 7, 4]
abbrev dktX8_inMany_0 : List UInt8 := dkwX8_inMany_0 ++ dktX8_inMany_1
theorem dksX8_inMany_0 : cX8_inMany.data.toList.drop 0 = dktX8_inMany_0 := by decide +kernel
theorem dksX8_inMany_1 : cX8_inMany.data.toList.drop 22 = dktX8_inMany_1 := dk_seg dksX8_inMany_0 22 rfl rfl
theorem dX8_inMany_0 : decode cX8_inMany 0 = .ok (.iconst 0, 1) := dk_3 (dk_at dksX8_inMany_0 0 rfl rfl)
theorem dX8_inMany_1 : decode cX8_inMany 1 = .ok (.istore_n 1, 1) := dk_60 (dk_at dksX8_inMany_0 1 rfl rfl)
theorem dX8_inMany_2 : decode cX8_inMany 2 = .ok (.iconst 0, 1) := dk_3 (dk_at dksX8_inMany_0 2 rfl rfl)
theorem dX8_inMany_3 : decode cX8_inMany 3 = .ok (.istore_n 2, 1) := dk_61 (dk_at dksX8_inMany_0 3 rfl rfl)
theorem dX8_inMany_4 : decode cX8_inMany 4 = .ok (.iload_n 2, 1) := dk_28 (dk_at dksX8_inMany_0 4 rfl rfl)
theorem dX8_inMany_5 : decode cX8_inMany 5 = .ok (.aload_n 0, 1) := dk_42 (dk_at dksX8_inMany_0 5 rfl rfl)
theorem dX8_inMany_6 : decode cX8_inMany 6 = .ok (.getfield 148, 3) := dk_180 0 148 (dk_at dksX8_inMany_0 6 rfl rfl)
theorem dX8_inMany_9 : decode cX8_inMany 9 = .ok (.if_icmp .ge 25, 3) := dk_162 0 25 (dk_at dksX8_inMany_0 9 rfl rfl)
theorem dX8_inMany_12 : decode cX8_inMany 12 = .ok (.iload_n 1, 1) := dk_27 (dk_at dksX8_inMany_0 12 rfl rfl)
theorem dX8_inMany_13 : decode cX8_inMany 13 = .ok (.aload_n 0, 1) := dk_42 (dk_at dksX8_inMany_0 13 rfl rfl)
theorem dX8_inMany_14 : decode cX8_inMany 14 = .ok (.iload_n 2, 1) := dk_28 (dk_at dksX8_inMany_0 14 rfl rfl)
theorem dX8_inMany_15 : decode cX8_inMany 15 = .ok (.invokevirtual 209, 3) := dk_182 0 209 (dk_at dksX8_inMany_0 15 rfl rfl)
theorem dX8_inMany_18 : decode cX8_inMany 18 = .ok (.ifCond .eq 7, 3) := dk_153 0 7 (dk_at dksX8_inMany_0 18 rfl rfl)
theorem dX8_inMany_21 : decode cX8_inMany 21 = .ok (.iconst 1, 1) := dk_4 (dk_at dksX8_inMany_0 21 rfl rfl)
theorem dX8_inMany_22 : decode cX8_inMany 22 = .ok (.goto 4, 3) := dk_167 0 4 (dk_at dksX8_inMany_1 0 rfl rfl)
theorem dX8_inMany_25 : decode cX8_inMany 25 = .ok (.iconst 0, 1) := dk_3 (dk_at dksX8_inMany_1 3 rfl rfl)
theorem dX8_inMany_26 : decode cX8_inMany 26 = .ok (.iadd, 1) := dk_96 (dk_at dksX8_inMany_1 4 rfl rfl)
theorem dX8_inMany_27 : decode cX8_inMany 27 = .ok (.istore_n 1, 1) := dk_60 (dk_at dksX8_inMany_1 5 rfl rfl)
theorem dX8_inMany_28 : decode cX8_inMany 28 = .ok (.iinc 2 1, 3) := dk_132 2 1 (dk_at dksX8_inMany_1 6 rfl rfl)
theorem dX8_inMany_31 : decode cX8_inMany 31 = .ok (.goto (-27), 3) := dk_167 255 229 (dk_at dksX8_inMany_1 9 rfl rfl)
theorem dX8_inMany_34 : decode cX8_inMany 34 = .ok (.iload_n 1, 1) := dk_27 (dk_at dksX8_inMany_1 12 rfl rfl)
theorem dX8_inMany_35 : decode cX8_inMany 35 = .ok (.ireturn, 1) := dk_172 (dk_at dksX8_inMany_1 13 rfl rfl)
abbrev cX8_fewest : ByteArray := prog_5_method_18_code
def yX8_fewest : MethodName := ⟨RX8, "fewest", "()I"⟩
def dkwX8_fewest_2 : List UInt8 := [132, 2, 1, 167, 255, 211, 27, 172]
abbrev dktX8_fewest_2 : List UInt8 := dkwX8_fewest_2 ++ []
def dkwX8_fewest_1 : List UInt8 := [182, 0, 209, 153, 0, 19, 27, 2, 159, 0, 12, 42, 29, 27, 182, 0, 231, 154, 0, 5, 29, 60]
abbrev dktX8_fewest_1 : List UInt8 := dkwX8_fewest_1 ++ dktX8_fewest_2
def dkwX8_fewest_0 : List UInt8 := [2, 60, 3, 61, 28, 42, 180, 0, 148, 162, 0, 43, 42, 180, 0, 135, 180, 0, 212, 28, 46, 62, 42, 29]
abbrev dktX8_fewest_0 : List UInt8 := dkwX8_fewest_0 ++ dktX8_fewest_1
theorem dksX8_fewest_0 : cX8_fewest.data.toList.drop 0 = dktX8_fewest_0 := by decide +kernel
theorem dksX8_fewest_1 : cX8_fewest.data.toList.drop 24 = dktX8_fewest_1 := dk_seg dksX8_fewest_0 24 rfl rfl
theorem dksX8_fewest_2 : cX8_fewest.data.toList.drop 46 = dktX8_fewest_2 := dk_seg dksX8_fewest_1 22 rfl rfl
theorem dX8_fewest_0 : decode cX8_fewest 0 = .ok (.iconst (-1), 1) := dk_2 (dk_at dksX8_fewest_0 0 rfl rfl)
theorem dX8_fewest_1 : decode cX8_fewest 1 = .ok (.istore_n 1, 1) := dk_60 (dk_at dksX8_fewest_0 1 rfl rfl)
theorem dX8_fewest_2 : decode cX8_fewest 2 = .ok (.iconst 0, 1) := dk_3 (dk_at dksX8_fewest_0 2 rfl rfl)
theorem dX8_fewest_3 : decode cX8_fewest 3 = .ok (.istore_n 2, 1) := dk_61 (dk_at dksX8_fewest_0 3 rfl rfl)
theorem dX8_fewest_4 : decode cX8_fewest 4 = .ok (.iload_n 2, 1) := dk_28 (dk_at dksX8_fewest_0 4 rfl rfl)
theorem dX8_fewest_5 : decode cX8_fewest 5 = .ok (.aload_n 0, 1) := dk_42 (dk_at dksX8_fewest_0 5 rfl rfl)
theorem dX8_fewest_6 : decode cX8_fewest 6 = .ok (.getfield 148, 3) := dk_180 0 148 (dk_at dksX8_fewest_0 6 rfl rfl)
theorem dX8_fewest_9 : decode cX8_fewest 9 = .ok (.if_icmp .ge 43, 3) := dk_162 0 43 (dk_at dksX8_fewest_0 9 rfl rfl)
theorem dX8_fewest_12 : decode cX8_fewest 12 = .ok (.aload_n 0, 1) := dk_42 (dk_at dksX8_fewest_0 12 rfl rfl)
theorem dX8_fewest_13 : decode cX8_fewest 13 = .ok (.getfield 135, 3) := dk_180 0 135 (dk_at dksX8_fewest_0 13 rfl rfl)
theorem dX8_fewest_16 : decode cX8_fewest 16 = .ok (.getfield 212, 3) := dk_180 0 212 (dk_at dksX8_fewest_0 16 rfl rfl)
theorem dX8_fewest_19 : decode cX8_fewest 19 = .ok (.iload_n 2, 1) := dk_28 (dk_at dksX8_fewest_0 19 rfl rfl)
theorem dX8_fewest_20 : decode cX8_fewest 20 = .ok (.iaload, 1) := dk_46 (dk_at dksX8_fewest_0 20 rfl rfl)
theorem dX8_fewest_21 : decode cX8_fewest 21 = .ok (.istore_n 3, 1) := dk_62 (dk_at dksX8_fewest_0 21 rfl rfl)
theorem dX8_fewest_22 : decode cX8_fewest 22 = .ok (.aload_n 0, 1) := dk_42 (dk_at dksX8_fewest_0 22 rfl rfl)
theorem dX8_fewest_23 : decode cX8_fewest 23 = .ok (.iload_n 3, 1) := dk_29 (dk_at dksX8_fewest_0 23 rfl rfl)
theorem dX8_fewest_24 : decode cX8_fewest 24 = .ok (.invokevirtual 209, 3) := dk_182 0 209 (dk_at dksX8_fewest_1 0 rfl rfl)
theorem dX8_fewest_27 : decode cX8_fewest 27 = .ok (.ifCond .eq 19, 3) := dk_153 0 19 (dk_at dksX8_fewest_1 3 rfl rfl)
theorem dX8_fewest_30 : decode cX8_fewest 30 = .ok (.iload_n 1, 1) := dk_27 (dk_at dksX8_fewest_1 6 rfl rfl)
theorem dX8_fewest_31 : decode cX8_fewest 31 = .ok (.iconst (-1), 1) := dk_2 (dk_at dksX8_fewest_1 7 rfl rfl)
theorem dX8_fewest_32 : decode cX8_fewest 32 = .ok (.if_icmp .eq 12, 3) := dk_159 0 12 (dk_at dksX8_fewest_1 8 rfl rfl)
theorem dX8_fewest_35 : decode cX8_fewest 35 = .ok (.aload_n 0, 1) := dk_42 (dk_at dksX8_fewest_1 11 rfl rfl)
theorem dX8_fewest_36 : decode cX8_fewest 36 = .ok (.iload_n 3, 1) := dk_29 (dk_at dksX8_fewest_1 12 rfl rfl)
theorem dX8_fewest_37 : decode cX8_fewest 37 = .ok (.iload_n 1, 1) := dk_27 (dk_at dksX8_fewest_1 13 rfl rfl)
theorem dX8_fewest_38 : decode cX8_fewest 38 = .ok (.invokevirtual 231, 3) := dk_182 0 231 (dk_at dksX8_fewest_1 14 rfl rfl)
theorem dX8_fewest_41 : decode cX8_fewest 41 = .ok (.ifCond .ne 5, 3) := dk_154 0 5 (dk_at dksX8_fewest_1 17 rfl rfl)
theorem dX8_fewest_44 : decode cX8_fewest 44 = .ok (.iload_n 3, 1) := dk_29 (dk_at dksX8_fewest_1 20 rfl rfl)
theorem dX8_fewest_45 : decode cX8_fewest 45 = .ok (.istore_n 1, 1) := dk_60 (dk_at dksX8_fewest_1 21 rfl rfl)
theorem dX8_fewest_46 : decode cX8_fewest 46 = .ok (.iinc 2 1, 3) := dk_132 2 1 (dk_at dksX8_fewest_2 0 rfl rfl)
theorem dX8_fewest_49 : decode cX8_fewest 49 = .ok (.goto (-45), 3) := dk_167 255 211 (dk_at dksX8_fewest_2 3 rfl rfl)
theorem dX8_fewest_52 : decode cX8_fewest 52 = .ok (.iload_n 1, 1) := dk_27 (dk_at dksX8_fewest_2 6 rfl rfl)
theorem dX8_fewest_53 : decode cX8_fewest 53 = .ok (.ireturn, 1) := dk_172 (dk_at dksX8_fewest_2 7 rfl rfl)
abbrev cX8_isMore : ByteArray := prog_5_method_19_code
def yX8_isMore : MethodName := ⟨RX8, "isMore", "(II)Z"⟩
def dkwX8_isMore_2 : List UInt8 := [158, 0, 7, 4, 167, 0, 4, 3, 172, 132, 3, 255, 167, 255, 203, 3, 172]
abbrev dktX8_isMore_2 : List UInt8 := dkwX8_isMore_2 ++ []
def dkwX8_isMore_1 : List UInt8 := [50, 28, 47, 148, 153, 0, 29, 42, 180, 0, 39, 29, 50, 27, 47, 42, 180, 0, 39, 29, 50, 28, 47, 148]
abbrev dktX8_isMore_1 : List UInt8 := dkwX8_isMore_1 ++ dktX8_isMore_2
def dkwX8_isMore_0 : List UInt8 := [42, 180, 0, 164, 4, 100, 62, 29, 155, 0, 55, 42, 180, 0, 39, 29, 50, 27, 47, 42, 180, 0, 39, 29]
abbrev dktX8_isMore_0 : List UInt8 := dkwX8_isMore_0 ++ dktX8_isMore_1
theorem dksX8_isMore_0 : cX8_isMore.data.toList.drop 0 = dktX8_isMore_0 := by decide +kernel
theorem dksX8_isMore_1 : cX8_isMore.data.toList.drop 24 = dktX8_isMore_1 := dk_seg dksX8_isMore_0 24 rfl rfl
theorem dksX8_isMore_2 : cX8_isMore.data.toList.drop 48 = dktX8_isMore_2 := dk_seg dksX8_isMore_1 24 rfl rfl
theorem dX8_isMore_0 : decode cX8_isMore 0 = .ok (.aload_n 0, 1) := dk_42 (dk_at dksX8_isMore_0 0 rfl rfl)
theorem dX8_isMore_1 : decode cX8_isMore 1 = .ok (.getfield 164, 3) := dk_180 0 164 (dk_at dksX8_isMore_0 1 rfl rfl)
theorem dX8_isMore_4 : decode cX8_isMore 4 = .ok (.iconst 1, 1) := dk_4 (dk_at dksX8_isMore_0 4 rfl rfl)
theorem dX8_isMore_5 : decode cX8_isMore 5 = .ok (.isub, 1) := dk_100 (dk_at dksX8_isMore_0 5 rfl rfl)
theorem dX8_isMore_6 : decode cX8_isMore 6 = .ok (.istore_n 3, 1) := dk_62 (dk_at dksX8_isMore_0 6 rfl rfl)
theorem dX8_isMore_7 : decode cX8_isMore 7 = .ok (.iload_n 3, 1) := dk_29 (dk_at dksX8_isMore_0 7 rfl rfl)
theorem dX8_isMore_8 : decode cX8_isMore 8 = .ok (.ifCond .lt 55, 3) := dk_155 0 55 (dk_at dksX8_isMore_0 8 rfl rfl)
theorem dX8_isMore_11 : decode cX8_isMore 11 = .ok (.aload_n 0, 1) := dk_42 (dk_at dksX8_isMore_0 11 rfl rfl)
theorem dX8_isMore_12 : decode cX8_isMore 12 = .ok (.getfield 39, 3) := dk_180 0 39 (dk_at dksX8_isMore_0 12 rfl rfl)
theorem dX8_isMore_15 : decode cX8_isMore 15 = .ok (.iload_n 3, 1) := dk_29 (dk_at dksX8_isMore_0 15 rfl rfl)
theorem dX8_isMore_16 : decode cX8_isMore 16 = .ok (.aaload, 1) := dk_50 (dk_at dksX8_isMore_0 16 rfl rfl)
theorem dX8_isMore_17 : decode cX8_isMore 17 = .ok (.iload_n 1, 1) := dk_27 (dk_at dksX8_isMore_0 17 rfl rfl)
theorem dX8_isMore_18 : decode cX8_isMore 18 = .ok (.laload, 1) := dk_47 (dk_at dksX8_isMore_0 18 rfl rfl)
theorem dX8_isMore_19 : decode cX8_isMore 19 = .ok (.aload_n 0, 1) := dk_42 (dk_at dksX8_isMore_0 19 rfl rfl)
theorem dX8_isMore_20 : decode cX8_isMore 20 = .ok (.getfield 39, 3) := dk_180 0 39 (dk_at dksX8_isMore_0 20 rfl rfl)
theorem dX8_isMore_23 : decode cX8_isMore 23 = .ok (.iload_n 3, 1) := dk_29 (dk_at dksX8_isMore_0 23 rfl rfl)
theorem dX8_isMore_24 : decode cX8_isMore 24 = .ok (.aaload, 1) := dk_50 (dk_at dksX8_isMore_1 0 rfl rfl)
theorem dX8_isMore_25 : decode cX8_isMore 25 = .ok (.iload_n 2, 1) := dk_28 (dk_at dksX8_isMore_1 1 rfl rfl)
theorem dX8_isMore_26 : decode cX8_isMore 26 = .ok (.laload, 1) := dk_47 (dk_at dksX8_isMore_1 2 rfl rfl)
theorem dX8_isMore_27 : decode cX8_isMore 27 = .ok (.lcmp, 1) := dk_148 (dk_at dksX8_isMore_1 3 rfl rfl)
theorem dX8_isMore_28 : decode cX8_isMore 28 = .ok (.ifCond .eq 29, 3) := dk_153 0 29 (dk_at dksX8_isMore_1 4 rfl rfl)
theorem dX8_isMore_31 : decode cX8_isMore 31 = .ok (.aload_n 0, 1) := dk_42 (dk_at dksX8_isMore_1 7 rfl rfl)
theorem dX8_isMore_32 : decode cX8_isMore 32 = .ok (.getfield 39, 3) := dk_180 0 39 (dk_at dksX8_isMore_1 8 rfl rfl)
theorem dX8_isMore_35 : decode cX8_isMore 35 = .ok (.iload_n 3, 1) := dk_29 (dk_at dksX8_isMore_1 11 rfl rfl)
theorem dX8_isMore_36 : decode cX8_isMore 36 = .ok (.aaload, 1) := dk_50 (dk_at dksX8_isMore_1 12 rfl rfl)
theorem dX8_isMore_37 : decode cX8_isMore 37 = .ok (.iload_n 1, 1) := dk_27 (dk_at dksX8_isMore_1 13 rfl rfl)
theorem dX8_isMore_38 : decode cX8_isMore 38 = .ok (.laload, 1) := dk_47 (dk_at dksX8_isMore_1 14 rfl rfl)
theorem dX8_isMore_39 : decode cX8_isMore 39 = .ok (.aload_n 0, 1) := dk_42 (dk_at dksX8_isMore_1 15 rfl rfl)
theorem dX8_isMore_40 : decode cX8_isMore 40 = .ok (.getfield 39, 3) := dk_180 0 39 (dk_at dksX8_isMore_1 16 rfl rfl)
theorem dX8_isMore_43 : decode cX8_isMore 43 = .ok (.iload_n 3, 1) := dk_29 (dk_at dksX8_isMore_1 19 rfl rfl)
theorem dX8_isMore_44 : decode cX8_isMore 44 = .ok (.aaload, 1) := dk_50 (dk_at dksX8_isMore_1 20 rfl rfl)
theorem dX8_isMore_45 : decode cX8_isMore 45 = .ok (.iload_n 2, 1) := dk_28 (dk_at dksX8_isMore_1 21 rfl rfl)
theorem dX8_isMore_46 : decode cX8_isMore 46 = .ok (.laload, 1) := dk_47 (dk_at dksX8_isMore_1 22 rfl rfl)
theorem dX8_isMore_47 : decode cX8_isMore 47 = .ok (.lcmp, 1) := dk_148 (dk_at dksX8_isMore_1 23 rfl rfl)
theorem dX8_isMore_48 : decode cX8_isMore 48 = .ok (.ifCond .le 7, 3) := dk_158 0 7 (dk_at dksX8_isMore_2 0 rfl rfl)
theorem dX8_isMore_51 : decode cX8_isMore 51 = .ok (.iconst 1, 1) := dk_4 (dk_at dksX8_isMore_2 3 rfl rfl)
theorem dX8_isMore_52 : decode cX8_isMore 52 = .ok (.goto 4, 3) := dk_167 0 4 (dk_at dksX8_isMore_2 4 rfl rfl)
theorem dX8_isMore_55 : decode cX8_isMore 55 = .ok (.iconst 0, 1) := dk_3 (dk_at dksX8_isMore_2 7 rfl rfl)
theorem dX8_isMore_56 : decode cX8_isMore 56 = .ok (.ireturn, 1) := dk_172 (dk_at dksX8_isMore_2 8 rfl rfl)
theorem dX8_isMore_57 : decode cX8_isMore 57 = .ok (.iinc 3 (-1), 3) := dk_132 3 255 (dk_at dksX8_isMore_2 9 rfl rfl)
theorem dX8_isMore_60 : decode cX8_isMore 60 = .ok (.goto (-53), 3) := dk_167 255 203 (dk_at dksX8_isMore_2 12 rfl rfl)
theorem dX8_isMore_63 : decode cX8_isMore 63 = .ok (.iconst 0, 1) := dk_3 (dk_at dksX8_isMore_2 15 rfl rfl)
theorem dX8_isMore_64 : decode cX8_isMore 64 = .ok (.ireturn, 1) := dk_172 (dk_at dksX8_isMore_2 16 rfl rfl)
abbrev cX8_goes : ByteArray := prog_5_method_20_code
def yX8_goes : MethodName := ⟨RX8, "goes", "(I)V"⟩
def dkwX8_goes_0 : List UInt8 := [42, 180, 0, 54, 27, 4, 84, 42, 5, 27, 182, 0, 235, 177]
abbrev dktX8_goes_0 : List UInt8 := dkwX8_goes_0 ++ []
theorem dksX8_goes_0 : cX8_goes.data.toList.drop 0 = dktX8_goes_0 := by decide +kernel
theorem dX8_goes_0 : decode cX8_goes 0 = .ok (.aload_n 0, 1) := dk_42 (dk_at dksX8_goes_0 0 rfl rfl)
theorem dX8_goes_1 : decode cX8_goes 1 = .ok (.getfield 54, 3) := dk_180 0 54 (dk_at dksX8_goes_0 1 rfl rfl)
theorem dX8_goes_4 : decode cX8_goes 4 = .ok (.iload_n 1, 1) := dk_27 (dk_at dksX8_goes_0 4 rfl rfl)
theorem dX8_goes_5 : decode cX8_goes 5 = .ok (.iconst 1, 1) := dk_4 (dk_at dksX8_goes_0 5 rfl rfl)
theorem dX8_goes_6 : decode cX8_goes 6 = .ok (.bastore, 1) := dk_84 (dk_at dksX8_goes_0 6 rfl rfl)
theorem dX8_goes_7 : decode cX8_goes 7 = .ok (.aload_n 0, 1) := dk_42 (dk_at dksX8_goes_0 7 rfl rfl)
theorem dX8_goes_8 : decode cX8_goes 8 = .ok (.iconst 2, 1) := dk_5 (dk_at dksX8_goes_0 8 rfl rfl)
theorem dX8_goes_9 : decode cX8_goes 9 = .ok (.iload_n 1, 1) := dk_27 (dk_at dksX8_goes_0 9 rfl rfl)
theorem dX8_goes_10 : decode cX8_goes 10 = .ok (.invokevirtual 235, 3) := dk_182 0 235 (dk_at dksX8_goes_0 10 rfl rfl)
theorem dX8_goes_13 : decode cX8_goes 13 = .ok (.return_, 1) := dk_177 (dk_at dksX8_goes_0 13 rfl rfl)
abbrev cX8_act : ByteArray := prog_5_method_11_code
def yX8_act : MethodName := ⟨RX8, "act", "(II)V"⟩
def dkwX8_act_1 : List UInt8 := [177]
abbrev dktX8_act_1 : List UInt8 := dkwX8_act_1 ++ []
def dkwX8_act_0 : List UInt8 := [42, 180, 0, 42, 42, 180, 0, 164, 4, 100, 27, 79, 42, 180, 0, 45, 42, 180, 0, 164, 4, 100, 28, 79]
abbrev dktX8_act_0 : List UInt8 := dkwX8_act_0 ++ dktX8_act_1
theorem dksX8_act_0 : cX8_act.data.toList.drop 0 = dktX8_act_0 := by decide +kernel
theorem dksX8_act_1 : cX8_act.data.toList.drop 24 = dktX8_act_1 := dk_seg dksX8_act_0 24 rfl rfl
theorem dX8_act_0 : decode cX8_act 0 = .ok (.aload_n 0, 1) := dk_42 (dk_at dksX8_act_0 0 rfl rfl)
theorem dX8_act_1 : decode cX8_act 1 = .ok (.getfield 42, 3) := dk_180 0 42 (dk_at dksX8_act_0 1 rfl rfl)
theorem dX8_act_4 : decode cX8_act 4 = .ok (.aload_n 0, 1) := dk_42 (dk_at dksX8_act_0 4 rfl rfl)
theorem dX8_act_5 : decode cX8_act 5 = .ok (.getfield 164, 3) := dk_180 0 164 (dk_at dksX8_act_0 5 rfl rfl)
theorem dX8_act_8 : decode cX8_act 8 = .ok (.iconst 1, 1) := dk_4 (dk_at dksX8_act_0 8 rfl rfl)
theorem dX8_act_9 : decode cX8_act 9 = .ok (.isub, 1) := dk_100 (dk_at dksX8_act_0 9 rfl rfl)
theorem dX8_act_10 : decode cX8_act 10 = .ok (.iload_n 1, 1) := dk_27 (dk_at dksX8_act_0 10 rfl rfl)
theorem dX8_act_11 : decode cX8_act 11 = .ok (.iastore, 1) := dk_79 (dk_at dksX8_act_0 11 rfl rfl)
theorem dX8_act_12 : decode cX8_act 12 = .ok (.aload_n 0, 1) := dk_42 (dk_at dksX8_act_0 12 rfl rfl)
theorem dX8_act_13 : decode cX8_act 13 = .ok (.getfield 45, 3) := dk_180 0 45 (dk_at dksX8_act_0 13 rfl rfl)
theorem dX8_act_16 : decode cX8_act 16 = .ok (.aload_n 0, 1) := dk_42 (dk_at dksX8_act_0 16 rfl rfl)
theorem dX8_act_17 : decode cX8_act 17 = .ok (.getfield 164, 3) := dk_180 0 164 (dk_at dksX8_act_0 17 rfl rfl)
theorem dX8_act_20 : decode cX8_act 20 = .ok (.iconst 1, 1) := dk_4 (dk_at dksX8_act_0 20 rfl rfl)
theorem dX8_act_21 : decode cX8_act 21 = .ok (.isub, 1) := dk_100 (dk_at dksX8_act_0 21 rfl rfl)
theorem dX8_act_22 : decode cX8_act 22 = .ok (.iload_n 2, 1) := dk_28 (dk_at dksX8_act_0 22 rfl rfl)
theorem dX8_act_23 : decode cX8_act 23 = .ok (.iastore, 1) := dk_79 (dk_at dksX8_act_0 23 rfl rfl)
theorem dX8_act_24 : decode cX8_act 24 = .ok (.return_, 1) := dk_177 (dk_at dksX8_act_1 0 rfl rfl)
abbrev cX8_byKeeping : ByteArray := prog_5_method_41_code
def yX8_byKeeping : MethodName := ⟨RX8, "byKeeping", "()V"⟩
def dkwX8_byKeeping_9 : List UInt8 := [47, 184, 1, 71, 184, 1, 97, 80, 132, 8, 1, 167, 255, 175, 167, 255, 50, 177]
abbrev dktX8_byKeeping_9 : List UInt8 := dkwX8_byKeeping_9 ++ []
def dkwX8_byKeeping_8 : List UInt8 := [47, 167, 0, 30, 20, 1, 69, 42, 180, 0, 75, 21, 9, 47, 42, 180, 1, 24, 42, 180, 0, 33, 21, 9]
abbrev dktX8_byKeeping_8 : List UInt8 := dkwX8_byKeeping_8 ++ dktX8_byKeeping_9
def dkwX8_byKeeping_7 : List UInt8 := [42, 180, 0, 75, 21, 9, 42, 180, 0, 33, 21, 9, 47, 9, 148, 154, 0, 13, 42, 180, 0, 75, 21, 9]
abbrev dktX8_byKeeping_7 : List UInt8 := dkwX8_byKeeping_7 ++ dktX8_byKeeping_8
def dkwX8_byKeeping_6 : List UInt8 := [54, 8, 21, 8, 42, 180, 0, 167, 162, 0, 78, 29, 153, 0, 74, 42, 180, 0, 48, 21, 8, 46, 54, 9]
abbrev dktX8_byKeeping_6 : List UInt8 := dkwX8_byKeeping_6 ++ dktX8_byKeeping_7
def dkwX8_byKeeping_5 : List UInt8 := [153, 0, 23, 42, 182, 1, 94, 54, 8, 42, 21, 8, 182, 1, 16, 42, 180, 0, 75, 21, 8, 9, 80, 3]
abbrev dktX8_byKeeping_5 : List UInt8 := dkwX8_byKeeping_5 ++ dktX8_byKeeping_6
def dkwX8_byKeeping_4 : List UInt8 := [153, 0, 11, 42, 182, 0, 254, 20, 1, 83, 64, 29, 153, 0, 33, 21, 4, 154, 0, 28, 21, 7]
abbrev dktX8_byKeeping_4 : List UInt8 := dkwX8_byKeeping_4 ++ dktX8_byKeeping_5
def dkwX8_byKeeping_3 : List UInt8 := [155, 0, 7, 4, 167, 0, 4, 3, 54, 7, 22, 5, 64, 29, 153, 0, 13, 21, 4, 154, 0, 8, 21, 7]
abbrev dktX8_byKeeping_3 : List UInt8 := dkwX8_byKeeping_3 ++ dktX8_byKeeping_4
def dkwX8_byKeeping_2 : List UInt8 := [167, 0, 4, 3, 62, 42, 182, 1, 88, 55, 5, 22, 5, 20, 1, 92, 148, 155, 0, 10, 22, 5, 31, 148]
abbrev dktX8_byKeeping_2 : List UInt8 := dkwX8_byKeeping_2 ++ dktX8_byKeeping_3
def dkwX8_byKeeping_1 : List UInt8 := [42, 182, 1, 85, 42, 42, 180, 1, 24, 182, 0, 227, 54, 4, 42, 182, 1, 54, 154, 0, 7, 4]
abbrev dktX8_byKeeping_1 : List UInt8 := dkwX8_byKeeping_1 ++ dktX8_byKeeping_2
def dkwX8_byKeeping_0 : List UInt8 := [42, 182, 0, 239, 42, 180, 0, 75, 20, 1, 69, 184, 0, 242, 20, 1, 83, 64, 4, 62, 29, 153, 0, 208]
abbrev dktX8_byKeeping_0 : List UInt8 := dkwX8_byKeeping_0 ++ dktX8_byKeeping_1
theorem dksX8_byKeeping_0 : cX8_byKeeping.data.toList.drop 0 = dktX8_byKeeping_0 := by decide +kernel
theorem dksX8_byKeeping_1 : cX8_byKeeping.data.toList.drop 24 = dktX8_byKeeping_1 := dk_seg dksX8_byKeeping_0 24 rfl rfl
theorem dksX8_byKeeping_2 : cX8_byKeeping.data.toList.drop 46 = dktX8_byKeeping_2 := dk_seg dksX8_byKeeping_1 22 rfl rfl
theorem dksX8_byKeeping_3 : cX8_byKeeping.data.toList.drop 70 = dktX8_byKeeping_3 := dk_seg dksX8_byKeeping_2 24 rfl rfl
theorem dksX8_byKeeping_4 : cX8_byKeeping.data.toList.drop 94 = dktX8_byKeeping_4 := dk_seg dksX8_byKeeping_3 24 rfl rfl
theorem dksX8_byKeeping_5 : cX8_byKeeping.data.toList.drop 116 = dktX8_byKeeping_5 := dk_seg dksX8_byKeeping_4 22 rfl rfl
theorem dksX8_byKeeping_6 : cX8_byKeeping.data.toList.drop 140 = dktX8_byKeeping_6 := dk_seg dksX8_byKeeping_5 24 rfl rfl
theorem dksX8_byKeeping_7 : cX8_byKeeping.data.toList.drop 164 = dktX8_byKeeping_7 := dk_seg dksX8_byKeeping_6 24 rfl rfl
theorem dksX8_byKeeping_8 : cX8_byKeeping.data.toList.drop 188 = dktX8_byKeeping_8 := dk_seg dksX8_byKeeping_7 24 rfl rfl
theorem dksX8_byKeeping_9 : cX8_byKeeping.data.toList.drop 212 = dktX8_byKeeping_9 := dk_seg dksX8_byKeeping_8 24 rfl rfl
theorem dX8_byKeeping_0 : decode cX8_byKeeping 0 = .ok (.aload_n 0, 1) := dk_42 (dk_at dksX8_byKeeping_0 0 rfl rfl)
theorem dX8_byKeeping_1 : decode cX8_byKeeping 1 = .ok (.invokevirtual 239, 3) := dk_182 0 239 (dk_at dksX8_byKeeping_0 1 rfl rfl)
theorem dX8_byKeeping_4 : decode cX8_byKeeping 4 = .ok (.aload_n 0, 1) := dk_42 (dk_at dksX8_byKeeping_0 4 rfl rfl)
theorem dX8_byKeeping_5 : decode cX8_byKeeping 5 = .ok (.getfield 75, 3) := dk_180 0 75 (dk_at dksX8_byKeeping_0 5 rfl rfl)
theorem dX8_byKeeping_8 : decode cX8_byKeeping 8 = .ok (.ldc2_w 325, 3) := dk_20 1 69 (dk_at dksX8_byKeeping_0 8 rfl rfl)
theorem dX8_byKeeping_11 : decode cX8_byKeeping 11 = .ok (.invokestatic 242, 3) := dk_184 0 242 (dk_at dksX8_byKeeping_0 11 rfl rfl)
theorem dX8_byKeeping_14 : decode cX8_byKeeping 14 = .ok (.ldc2_w 339, 3) := dk_20 1 83 (dk_at dksX8_byKeeping_0 14 rfl rfl)
theorem dX8_byKeeping_17 : decode cX8_byKeeping 17 = .ok (.lstore_n 1, 1) := dk_64 (dk_at dksX8_byKeeping_0 17 rfl rfl)
theorem dX8_byKeeping_18 : decode cX8_byKeeping 18 = .ok (.iconst 1, 1) := dk_4 (dk_at dksX8_byKeeping_0 18 rfl rfl)
theorem dX8_byKeeping_19 : decode cX8_byKeeping 19 = .ok (.istore_n 3, 1) := dk_62 (dk_at dksX8_byKeeping_0 19 rfl rfl)
theorem dX8_byKeeping_20 : decode cX8_byKeeping 20 = .ok (.iload_n 3, 1) := dk_29 (dk_at dksX8_byKeeping_0 20 rfl rfl)
theorem dX8_byKeeping_21 : decode cX8_byKeeping 21 = .ok (.ifCond .eq 208, 3) := dk_153 0 208 (dk_at dksX8_byKeeping_0 21 rfl rfl)
theorem dX8_byKeeping_24 : decode cX8_byKeeping 24 = .ok (.aload_n 0, 1) := dk_42 (dk_at dksX8_byKeeping_1 0 rfl rfl)
theorem dX8_byKeeping_25 : decode cX8_byKeeping 25 = .ok (.invokevirtual 341, 3) := dk_182 1 85 (dk_at dksX8_byKeeping_1 1 rfl rfl)
theorem dX8_byKeeping_28 : decode cX8_byKeeping 28 = .ok (.aload_n 0, 1) := dk_42 (dk_at dksX8_byKeeping_1 4 rfl rfl)
theorem dX8_byKeeping_29 : decode cX8_byKeeping 29 = .ok (.aload_n 0, 1) := dk_42 (dk_at dksX8_byKeeping_1 5 rfl rfl)
theorem dX8_byKeeping_30 : decode cX8_byKeeping 30 = .ok (.getfield 280, 3) := dk_180 1 24 (dk_at dksX8_byKeeping_1 6 rfl rfl)
theorem dX8_byKeeping_33 : decode cX8_byKeeping 33 = .ok (.invokevirtual 227, 3) := dk_182 0 227 (dk_at dksX8_byKeeping_1 9 rfl rfl)
theorem dX8_byKeeping_36 : decode cX8_byKeeping 36 = .ok (.istore 4, 2) := dk_54 4 (dk_at dksX8_byKeeping_1 12 rfl rfl)
theorem dX8_byKeeping_38 : decode cX8_byKeeping 38 = .ok (.aload_n 0, 1) := dk_42 (dk_at dksX8_byKeeping_1 14 rfl rfl)
theorem dX8_byKeeping_39 : decode cX8_byKeeping 39 = .ok (.invokevirtual 310, 3) := dk_182 1 54 (dk_at dksX8_byKeeping_1 15 rfl rfl)
theorem dX8_byKeeping_42 : decode cX8_byKeeping 42 = .ok (.ifCond .ne 7, 3) := dk_154 0 7 (dk_at dksX8_byKeeping_1 18 rfl rfl)
theorem dX8_byKeeping_45 : decode cX8_byKeeping 45 = .ok (.iconst 1, 1) := dk_4 (dk_at dksX8_byKeeping_1 21 rfl rfl)
theorem dX8_byKeeping_46 : decode cX8_byKeeping 46 = .ok (.goto 4, 3) := dk_167 0 4 (dk_at dksX8_byKeeping_2 0 rfl rfl)
theorem dX8_byKeeping_49 : decode cX8_byKeeping 49 = .ok (.iconst 0, 1) := dk_3 (dk_at dksX8_byKeeping_2 3 rfl rfl)
theorem dX8_byKeeping_50 : decode cX8_byKeeping 50 = .ok (.istore_n 3, 1) := dk_62 (dk_at dksX8_byKeeping_2 4 rfl rfl)
theorem dX8_byKeeping_51 : decode cX8_byKeeping 51 = .ok (.aload_n 0, 1) := dk_42 (dk_at dksX8_byKeeping_2 5 rfl rfl)
theorem dX8_byKeeping_52 : decode cX8_byKeeping 52 = .ok (.invokevirtual 344, 3) := dk_182 1 88 (dk_at dksX8_byKeeping_2 6 rfl rfl)
theorem dX8_byKeeping_55 : decode cX8_byKeeping 55 = .ok (.lstore 5, 2) := dk_55 5 (dk_at dksX8_byKeeping_2 9 rfl rfl)
theorem dX8_byKeeping_57 : decode cX8_byKeeping 57 = .ok (.lload 5, 2) := dk_22 5 (dk_at dksX8_byKeeping_2 11 rfl rfl)
theorem dX8_byKeeping_59 : decode cX8_byKeeping 59 = .ok (.ldc2_w 348, 3) := dk_20 1 92 (dk_at dksX8_byKeeping_2 13 rfl rfl)
theorem dX8_byKeeping_62 : decode cX8_byKeeping 62 = .ok (.lcmp, 1) := dk_148 (dk_at dksX8_byKeeping_2 16 rfl rfl)
theorem dX8_byKeeping_63 : decode cX8_byKeeping 63 = .ok (.ifCond .lt 10, 3) := dk_155 0 10 (dk_at dksX8_byKeeping_2 17 rfl rfl)
theorem dX8_byKeeping_66 : decode cX8_byKeeping 66 = .ok (.lload 5, 2) := dk_22 5 (dk_at dksX8_byKeeping_2 20 rfl rfl)
theorem dX8_byKeeping_68 : decode cX8_byKeeping 68 = .ok (.lload_n 1, 1) := dk_31 (dk_at dksX8_byKeeping_2 22 rfl rfl)
theorem dX8_byKeeping_69 : decode cX8_byKeeping 69 = .ok (.lcmp, 1) := dk_148 (dk_at dksX8_byKeeping_2 23 rfl rfl)
theorem dX8_byKeeping_70 : decode cX8_byKeeping 70 = .ok (.ifCond .lt 7, 3) := dk_155 0 7 (dk_at dksX8_byKeeping_3 0 rfl rfl)
theorem dX8_byKeeping_73 : decode cX8_byKeeping 73 = .ok (.iconst 1, 1) := dk_4 (dk_at dksX8_byKeeping_3 3 rfl rfl)
theorem dX8_byKeeping_74 : decode cX8_byKeeping 74 = .ok (.goto 4, 3) := dk_167 0 4 (dk_at dksX8_byKeeping_3 4 rfl rfl)
theorem dX8_byKeeping_77 : decode cX8_byKeeping 77 = .ok (.iconst 0, 1) := dk_3 (dk_at dksX8_byKeeping_3 7 rfl rfl)
theorem dX8_byKeeping_78 : decode cX8_byKeeping 78 = .ok (.istore 7, 2) := dk_54 7 (dk_at dksX8_byKeeping_3 8 rfl rfl)
theorem dX8_byKeeping_80 : decode cX8_byKeeping 80 = .ok (.lload 5, 2) := dk_22 5 (dk_at dksX8_byKeeping_3 10 rfl rfl)
theorem dX8_byKeeping_82 : decode cX8_byKeeping 82 = .ok (.lstore_n 1, 1) := dk_64 (dk_at dksX8_byKeeping_3 12 rfl rfl)
theorem dX8_byKeeping_83 : decode cX8_byKeeping 83 = .ok (.iload_n 3, 1) := dk_29 (dk_at dksX8_byKeeping_3 13 rfl rfl)
theorem dX8_byKeeping_84 : decode cX8_byKeeping 84 = .ok (.ifCond .eq 13, 3) := dk_153 0 13 (dk_at dksX8_byKeeping_3 14 rfl rfl)
theorem dX8_byKeeping_87 : decode cX8_byKeeping 87 = .ok (.iload 4, 2) := dk_21 4 (dk_at dksX8_byKeeping_3 17 rfl rfl)
theorem dX8_byKeeping_89 : decode cX8_byKeeping 89 = .ok (.ifCond .ne 8, 3) := dk_154 0 8 (dk_at dksX8_byKeeping_3 19 rfl rfl)
theorem dX8_byKeeping_92 : decode cX8_byKeeping 92 = .ok (.iload 7, 2) := dk_21 7 (dk_at dksX8_byKeeping_3 22 rfl rfl)
theorem dX8_byKeeping_94 : decode cX8_byKeeping 94 = .ok (.ifCond .eq 11, 3) := dk_153 0 11 (dk_at dksX8_byKeeping_4 0 rfl rfl)
theorem dX8_byKeeping_97 : decode cX8_byKeeping 97 = .ok (.aload_n 0, 1) := dk_42 (dk_at dksX8_byKeeping_4 3 rfl rfl)
theorem dX8_byKeeping_98 : decode cX8_byKeeping 98 = .ok (.invokevirtual 254, 3) := dk_182 0 254 (dk_at dksX8_byKeeping_4 4 rfl rfl)
theorem dX8_byKeeping_101 : decode cX8_byKeeping 101 = .ok (.ldc2_w 339, 3) := dk_20 1 83 (dk_at dksX8_byKeeping_4 7 rfl rfl)
theorem dX8_byKeeping_104 : decode cX8_byKeeping 104 = .ok (.lstore_n 1, 1) := dk_64 (dk_at dksX8_byKeeping_4 10 rfl rfl)
theorem dX8_byKeeping_105 : decode cX8_byKeeping 105 = .ok (.iload_n 3, 1) := dk_29 (dk_at dksX8_byKeeping_4 11 rfl rfl)
theorem dX8_byKeeping_106 : decode cX8_byKeeping 106 = .ok (.ifCond .eq 33, 3) := dk_153 0 33 (dk_at dksX8_byKeeping_4 12 rfl rfl)
theorem dX8_byKeeping_109 : decode cX8_byKeeping 109 = .ok (.iload 4, 2) := dk_21 4 (dk_at dksX8_byKeeping_4 15 rfl rfl)
theorem dX8_byKeeping_111 : decode cX8_byKeeping 111 = .ok (.ifCond .ne 28, 3) := dk_154 0 28 (dk_at dksX8_byKeeping_4 17 rfl rfl)
theorem dX8_byKeeping_114 : decode cX8_byKeeping 114 = .ok (.iload 7, 2) := dk_21 7 (dk_at dksX8_byKeeping_4 20 rfl rfl)
theorem dX8_byKeeping_116 : decode cX8_byKeeping 116 = .ok (.ifCond .eq 23, 3) := dk_153 0 23 (dk_at dksX8_byKeeping_5 0 rfl rfl)
theorem dX8_byKeeping_119 : decode cX8_byKeeping 119 = .ok (.aload_n 0, 1) := dk_42 (dk_at dksX8_byKeeping_5 3 rfl rfl)
theorem dX8_byKeeping_120 : decode cX8_byKeeping 120 = .ok (.invokevirtual 350, 3) := dk_182 1 94 (dk_at dksX8_byKeeping_5 4 rfl rfl)
theorem dX8_byKeeping_123 : decode cX8_byKeeping 123 = .ok (.istore 8, 2) := dk_54 8 (dk_at dksX8_byKeeping_5 7 rfl rfl)
theorem dX8_byKeeping_125 : decode cX8_byKeeping 125 = .ok (.aload_n 0, 1) := dk_42 (dk_at dksX8_byKeeping_5 9 rfl rfl)
theorem dX8_byKeeping_126 : decode cX8_byKeeping 126 = .ok (.iload 8, 2) := dk_21 8 (dk_at dksX8_byKeeping_5 10 rfl rfl)
theorem dX8_byKeeping_128 : decode cX8_byKeeping 128 = .ok (.invokevirtual 272, 3) := dk_182 1 16 (dk_at dksX8_byKeeping_5 12 rfl rfl)
theorem dX8_byKeeping_131 : decode cX8_byKeeping 131 = .ok (.aload_n 0, 1) := dk_42 (dk_at dksX8_byKeeping_5 15 rfl rfl)
theorem dX8_byKeeping_132 : decode cX8_byKeeping 132 = .ok (.getfield 75, 3) := dk_180 0 75 (dk_at dksX8_byKeeping_5 16 rfl rfl)
theorem dX8_byKeeping_135 : decode cX8_byKeeping 135 = .ok (.iload 8, 2) := dk_21 8 (dk_at dksX8_byKeeping_5 19 rfl rfl)
theorem dX8_byKeeping_137 : decode cX8_byKeeping 137 = .ok (.lconst 0, 1) := dk_9 (dk_at dksX8_byKeeping_5 21 rfl rfl)
theorem dX8_byKeeping_138 : decode cX8_byKeeping 138 = .ok (.lastore, 1) := dk_80 (dk_at dksX8_byKeeping_5 22 rfl rfl)
theorem dX8_byKeeping_139 : decode cX8_byKeeping 139 = .ok (.iconst 0, 1) := dk_3 (dk_at dksX8_byKeeping_5 23 rfl rfl)
theorem dX8_byKeeping_140 : decode cX8_byKeeping 140 = .ok (.istore 8, 2) := dk_54 8 (dk_at dksX8_byKeeping_6 0 rfl rfl)
theorem dX8_byKeeping_142 : decode cX8_byKeeping 142 = .ok (.iload 8, 2) := dk_21 8 (dk_at dksX8_byKeeping_6 2 rfl rfl)
theorem dX8_byKeeping_144 : decode cX8_byKeeping 144 = .ok (.aload_n 0, 1) := dk_42 (dk_at dksX8_byKeeping_6 4 rfl rfl)
theorem dX8_byKeeping_145 : decode cX8_byKeeping 145 = .ok (.getfield 167, 3) := dk_180 0 167 (dk_at dksX8_byKeeping_6 5 rfl rfl)
theorem dX8_byKeeping_148 : decode cX8_byKeeping 148 = .ok (.if_icmp .ge 78, 3) := dk_162 0 78 (dk_at dksX8_byKeeping_6 8 rfl rfl)
theorem dX8_byKeeping_151 : decode cX8_byKeeping 151 = .ok (.iload_n 3, 1) := dk_29 (dk_at dksX8_byKeeping_6 11 rfl rfl)
theorem dX8_byKeeping_152 : decode cX8_byKeeping 152 = .ok (.ifCond .eq 74, 3) := dk_153 0 74 (dk_at dksX8_byKeeping_6 12 rfl rfl)
theorem dX8_byKeeping_155 : decode cX8_byKeeping 155 = .ok (.aload_n 0, 1) := dk_42 (dk_at dksX8_byKeeping_6 15 rfl rfl)
theorem dX8_byKeeping_156 : decode cX8_byKeeping 156 = .ok (.getfield 48, 3) := dk_180 0 48 (dk_at dksX8_byKeeping_6 16 rfl rfl)
theorem dX8_byKeeping_159 : decode cX8_byKeeping 159 = .ok (.iload 8, 2) := dk_21 8 (dk_at dksX8_byKeeping_6 19 rfl rfl)
theorem dX8_byKeeping_161 : decode cX8_byKeeping 161 = .ok (.iaload, 1) := dk_46 (dk_at dksX8_byKeeping_6 21 rfl rfl)
theorem dX8_byKeeping_162 : decode cX8_byKeeping 162 = .ok (.istore 9, 2) := dk_54 9 (dk_at dksX8_byKeeping_6 22 rfl rfl)
theorem dX8_byKeeping_164 : decode cX8_byKeeping 164 = .ok (.aload_n 0, 1) := dk_42 (dk_at dksX8_byKeeping_7 0 rfl rfl)
theorem dX8_byKeeping_165 : decode cX8_byKeeping 165 = .ok (.getfield 75, 3) := dk_180 0 75 (dk_at dksX8_byKeeping_7 1 rfl rfl)
theorem dX8_byKeeping_168 : decode cX8_byKeeping 168 = .ok (.iload 9, 2) := dk_21 9 (dk_at dksX8_byKeeping_7 4 rfl rfl)
theorem dX8_byKeeping_170 : decode cX8_byKeeping 170 = .ok (.aload_n 0, 1) := dk_42 (dk_at dksX8_byKeeping_7 6 rfl rfl)
theorem dX8_byKeeping_171 : decode cX8_byKeeping 171 = .ok (.getfield 33, 3) := dk_180 0 33 (dk_at dksX8_byKeeping_7 7 rfl rfl)
theorem dX8_byKeeping_174 : decode cX8_byKeeping 174 = .ok (.iload 9, 2) := dk_21 9 (dk_at dksX8_byKeeping_7 10 rfl rfl)
theorem dX8_byKeeping_176 : decode cX8_byKeeping 176 = .ok (.laload, 1) := dk_47 (dk_at dksX8_byKeeping_7 12 rfl rfl)
theorem dX8_byKeeping_177 : decode cX8_byKeeping 177 = .ok (.lconst 0, 1) := dk_9 (dk_at dksX8_byKeeping_7 13 rfl rfl)
theorem dX8_byKeeping_178 : decode cX8_byKeeping 178 = .ok (.lcmp, 1) := dk_148 (dk_at dksX8_byKeeping_7 14 rfl rfl)
theorem dX8_byKeeping_179 : decode cX8_byKeeping 179 = .ok (.ifCond .ne 13, 3) := dk_154 0 13 (dk_at dksX8_byKeeping_7 15 rfl rfl)
theorem dX8_byKeeping_182 : decode cX8_byKeeping 182 = .ok (.aload_n 0, 1) := dk_42 (dk_at dksX8_byKeeping_7 18 rfl rfl)
theorem dX8_byKeeping_183 : decode cX8_byKeeping 183 = .ok (.getfield 75, 3) := dk_180 0 75 (dk_at dksX8_byKeeping_7 19 rfl rfl)
theorem dX8_byKeeping_186 : decode cX8_byKeeping 186 = .ok (.iload 9, 2) := dk_21 9 (dk_at dksX8_byKeeping_7 22 rfl rfl)
theorem dX8_byKeeping_188 : decode cX8_byKeeping 188 = .ok (.laload, 1) := dk_47 (dk_at dksX8_byKeeping_8 0 rfl rfl)
theorem dX8_byKeeping_189 : decode cX8_byKeeping 189 = .ok (.goto 30, 3) := dk_167 0 30 (dk_at dksX8_byKeeping_8 1 rfl rfl)
theorem dX8_byKeeping_192 : decode cX8_byKeeping 192 = .ok (.ldc2_w 325, 3) := dk_20 1 69 (dk_at dksX8_byKeeping_8 4 rfl rfl)
theorem dX8_byKeeping_195 : decode cX8_byKeeping 195 = .ok (.aload_n 0, 1) := dk_42 (dk_at dksX8_byKeeping_8 7 rfl rfl)
theorem dX8_byKeeping_196 : decode cX8_byKeeping 196 = .ok (.getfield 75, 3) := dk_180 0 75 (dk_at dksX8_byKeeping_8 8 rfl rfl)
theorem dX8_byKeeping_199 : decode cX8_byKeeping 199 = .ok (.iload 9, 2) := dk_21 9 (dk_at dksX8_byKeeping_8 11 rfl rfl)
theorem dX8_byKeeping_201 : decode cX8_byKeeping 201 = .ok (.laload, 1) := dk_47 (dk_at dksX8_byKeeping_8 13 rfl rfl)
theorem dX8_byKeeping_202 : decode cX8_byKeeping 202 = .ok (.aload_n 0, 1) := dk_42 (dk_at dksX8_byKeeping_8 14 rfl rfl)
theorem dX8_byKeeping_203 : decode cX8_byKeeping 203 = .ok (.getfield 280, 3) := dk_180 1 24 (dk_at dksX8_byKeeping_8 15 rfl rfl)
theorem dX8_byKeeping_206 : decode cX8_byKeeping 206 = .ok (.aload_n 0, 1) := dk_42 (dk_at dksX8_byKeeping_8 18 rfl rfl)
theorem dX8_byKeeping_207 : decode cX8_byKeeping 207 = .ok (.getfield 33, 3) := dk_180 0 33 (dk_at dksX8_byKeeping_8 19 rfl rfl)
theorem dX8_byKeeping_210 : decode cX8_byKeeping 210 = .ok (.iload 9, 2) := dk_21 9 (dk_at dksX8_byKeeping_8 22 rfl rfl)
theorem dX8_byKeeping_212 : decode cX8_byKeeping 212 = .ok (.laload, 1) := dk_47 (dk_at dksX8_byKeeping_9 0 rfl rfl)
theorem dX8_byKeeping_213 : decode cX8_byKeeping 213 = .ok (.invokestatic 327, 3) := dk_184 1 71 (dk_at dksX8_byKeeping_9 1 rfl rfl)
theorem dX8_byKeeping_216 : decode cX8_byKeeping 216 = .ok (.invokestatic 353, 3) := dk_184 1 97 (dk_at dksX8_byKeeping_9 4 rfl rfl)
theorem dX8_byKeeping_219 : decode cX8_byKeeping 219 = .ok (.lastore, 1) := dk_80 (dk_at dksX8_byKeeping_9 7 rfl rfl)
theorem dX8_byKeeping_220 : decode cX8_byKeeping 220 = .ok (.iinc 8 1, 3) := dk_132 8 1 (dk_at dksX8_byKeeping_9 8 rfl rfl)
theorem dX8_byKeeping_223 : decode cX8_byKeeping 223 = .ok (.goto (-81), 3) := dk_167 255 175 (dk_at dksX8_byKeeping_9 11 rfl rfl)
theorem dX8_byKeeping_226 : decode cX8_byKeeping 226 = .ok (.goto (-206), 3) := dk_167 255 50 (dk_at dksX8_byKeeping_9 14 rfl rfl)
theorem dX8_byKeeping_229 : decode cX8_byKeeping 229 = .ok (.return_, 1) := dk_177 (dk_at dksX8_byKeeping_9 17 rfl rfl)
abbrev cX8_flow : ByteArray := prog_5_method_39_code
def yX8_flow : MethodName := ⟨RX8, "flow", "()V"⟩
def dkwX8_flow_5 : List UInt8 := [180, 0, 131, 180, 0, 185, 4, 96, 133, 109, 10, 97, 181, 1, 24, 177]
abbrev dktX8_flow_5 : List UInt8 := dkwX8_flow_5 ++ []
def dkwX8_flow_4 : List UInt8 := [22, 6, 101, 65, 132, 4, 1, 167, 255, 187, 132, 1, 1, 167, 255, 166, 42, 42, 180, 1, 66, 42]
abbrev dktX8_flow_4 : List UInt8 := dkwX8_flow_4 ++ dktX8_flow_5
def dkwX8_flow_3 : List UInt8 := [180, 0, 33, 21, 5, 92, 47, 22, 6, 97, 80, 42, 89, 180, 1, 66, 22, 6, 97, 181, 1, 66, 32]
abbrev dktX8_flow_3 : List UInt8 := dkwX8_flow_3 ++ dktX8_flow_4
def dkwX8_flow_2 : List UInt8 := [21, 4, 46, 54, 5, 32, 42, 180, 0, 75, 21, 5, 47, 20, 1, 69, 184, 1, 71, 55, 6, 42]
abbrev dktX8_flow_2 : List UInt8 := dkwX8_flow_2 ++ dktX8_flow_3
def dkwX8_flow_1 : List UInt8 := [20, 1, 69, 65, 3, 54, 4, 21, 4, 42, 180, 0, 29, 27, 46, 162, 0, 64, 42, 180, 0, 26, 27, 50]
abbrev dktX8_flow_1 : List UInt8 := dkwX8_flow_1 ++ dktX8_flow_2
def dkwX8_flow_0 : List UInt8 := [42, 180, 0, 33, 9, 184, 0, 242, 42, 9, 181, 1, 66, 3, 60, 27, 42, 180, 0, 155, 162, 0, 88]
abbrev dktX8_flow_0 : List UInt8 := dkwX8_flow_0 ++ dktX8_flow_1
theorem dksX8_flow_0 : cX8_flow.data.toList.drop 0 = dktX8_flow_0 := by decide +kernel
theorem dksX8_flow_1 : cX8_flow.data.toList.drop 23 = dktX8_flow_1 := dk_seg dksX8_flow_0 23 rfl rfl
theorem dksX8_flow_2 : cX8_flow.data.toList.drop 47 = dktX8_flow_2 := dk_seg dksX8_flow_1 24 rfl rfl
theorem dksX8_flow_3 : cX8_flow.data.toList.drop 69 = dktX8_flow_3 := dk_seg dksX8_flow_2 22 rfl rfl
theorem dksX8_flow_4 : cX8_flow.data.toList.drop 92 = dktX8_flow_4 := dk_seg dksX8_flow_3 23 rfl rfl
theorem dksX8_flow_5 : cX8_flow.data.toList.drop 114 = dktX8_flow_5 := dk_seg dksX8_flow_4 22 rfl rfl
theorem dX8_flow_0 : decode cX8_flow 0 = .ok (.aload_n 0, 1) := dk_42 (dk_at dksX8_flow_0 0 rfl rfl)
theorem dX8_flow_1 : decode cX8_flow 1 = .ok (.getfield 33, 3) := dk_180 0 33 (dk_at dksX8_flow_0 1 rfl rfl)
theorem dX8_flow_4 : decode cX8_flow 4 = .ok (.lconst 0, 1) := dk_9 (dk_at dksX8_flow_0 4 rfl rfl)
theorem dX8_flow_5 : decode cX8_flow 5 = .ok (.invokestatic 242, 3) := dk_184 0 242 (dk_at dksX8_flow_0 5 rfl rfl)
theorem dX8_flow_8 : decode cX8_flow 8 = .ok (.aload_n 0, 1) := dk_42 (dk_at dksX8_flow_0 8 rfl rfl)
theorem dX8_flow_9 : decode cX8_flow 9 = .ok (.lconst 0, 1) := dk_9 (dk_at dksX8_flow_0 9 rfl rfl)
theorem dX8_flow_10 : decode cX8_flow 10 = .ok (.putfield 322, 3) := dk_181 1 66 (dk_at dksX8_flow_0 10 rfl rfl)
theorem dX8_flow_13 : decode cX8_flow 13 = .ok (.iconst 0, 1) := dk_3 (dk_at dksX8_flow_0 13 rfl rfl)
theorem dX8_flow_14 : decode cX8_flow 14 = .ok (.istore_n 1, 1) := dk_60 (dk_at dksX8_flow_0 14 rfl rfl)
theorem dX8_flow_15 : decode cX8_flow 15 = .ok (.iload_n 1, 1) := dk_27 (dk_at dksX8_flow_0 15 rfl rfl)
theorem dX8_flow_16 : decode cX8_flow 16 = .ok (.aload_n 0, 1) := dk_42 (dk_at dksX8_flow_0 16 rfl rfl)
theorem dX8_flow_17 : decode cX8_flow 17 = .ok (.getfield 155, 3) := dk_180 0 155 (dk_at dksX8_flow_0 17 rfl rfl)
theorem dX8_flow_20 : decode cX8_flow 20 = .ok (.if_icmp .ge 88, 3) := dk_162 0 88 (dk_at dksX8_flow_0 20 rfl rfl)
theorem dX8_flow_23 : decode cX8_flow 23 = .ok (.ldc2_w 325, 3) := dk_20 1 69 (dk_at dksX8_flow_1 0 rfl rfl)
theorem dX8_flow_26 : decode cX8_flow 26 = .ok (.lstore_n 2, 1) := dk_65 (dk_at dksX8_flow_1 3 rfl rfl)
theorem dX8_flow_27 : decode cX8_flow 27 = .ok (.iconst 0, 1) := dk_3 (dk_at dksX8_flow_1 4 rfl rfl)
theorem dX8_flow_28 : decode cX8_flow 28 = .ok (.istore 4, 2) := dk_54 4 (dk_at dksX8_flow_1 5 rfl rfl)
theorem dX8_flow_30 : decode cX8_flow 30 = .ok (.iload 4, 2) := dk_21 4 (dk_at dksX8_flow_1 7 rfl rfl)
theorem dX8_flow_32 : decode cX8_flow 32 = .ok (.aload_n 0, 1) := dk_42 (dk_at dksX8_flow_1 9 rfl rfl)
theorem dX8_flow_33 : decode cX8_flow 33 = .ok (.getfield 29, 3) := dk_180 0 29 (dk_at dksX8_flow_1 10 rfl rfl)
theorem dX8_flow_36 : decode cX8_flow 36 = .ok (.iload_n 1, 1) := dk_27 (dk_at dksX8_flow_1 13 rfl rfl)
theorem dX8_flow_37 : decode cX8_flow 37 = .ok (.iaload, 1) := dk_46 (dk_at dksX8_flow_1 14 rfl rfl)
theorem dX8_flow_38 : decode cX8_flow 38 = .ok (.if_icmp .ge 64, 3) := dk_162 0 64 (dk_at dksX8_flow_1 15 rfl rfl)
theorem dX8_flow_41 : decode cX8_flow 41 = .ok (.aload_n 0, 1) := dk_42 (dk_at dksX8_flow_1 18 rfl rfl)
theorem dX8_flow_42 : decode cX8_flow 42 = .ok (.getfield 26, 3) := dk_180 0 26 (dk_at dksX8_flow_1 19 rfl rfl)
theorem dX8_flow_45 : decode cX8_flow 45 = .ok (.iload_n 1, 1) := dk_27 (dk_at dksX8_flow_1 22 rfl rfl)
theorem dX8_flow_46 : decode cX8_flow 46 = .ok (.aaload, 1) := dk_50 (dk_at dksX8_flow_1 23 rfl rfl)
theorem dX8_flow_47 : decode cX8_flow 47 = .ok (.iload 4, 2) := dk_21 4 (dk_at dksX8_flow_2 0 rfl rfl)
theorem dX8_flow_49 : decode cX8_flow 49 = .ok (.iaload, 1) := dk_46 (dk_at dksX8_flow_2 2 rfl rfl)
theorem dX8_flow_50 : decode cX8_flow 50 = .ok (.istore 5, 2) := dk_54 5 (dk_at dksX8_flow_2 3 rfl rfl)
theorem dX8_flow_52 : decode cX8_flow 52 = .ok (.lload_n 2, 1) := dk_32 (dk_at dksX8_flow_2 5 rfl rfl)
theorem dX8_flow_53 : decode cX8_flow 53 = .ok (.aload_n 0, 1) := dk_42 (dk_at dksX8_flow_2 6 rfl rfl)
theorem dX8_flow_54 : decode cX8_flow 54 = .ok (.getfield 75, 3) := dk_180 0 75 (dk_at dksX8_flow_2 7 rfl rfl)
theorem dX8_flow_57 : decode cX8_flow 57 = .ok (.iload 5, 2) := dk_21 5 (dk_at dksX8_flow_2 10 rfl rfl)
theorem dX8_flow_59 : decode cX8_flow 59 = .ok (.laload, 1) := dk_47 (dk_at dksX8_flow_2 12 rfl rfl)
theorem dX8_flow_60 : decode cX8_flow 60 = .ok (.ldc2_w 325, 3) := dk_20 1 69 (dk_at dksX8_flow_2 13 rfl rfl)
theorem dX8_flow_63 : decode cX8_flow 63 = .ok (.invokestatic 327, 3) := dk_184 1 71 (dk_at dksX8_flow_2 16 rfl rfl)
theorem dX8_flow_66 : decode cX8_flow 66 = .ok (.lstore 6, 2) := dk_55 6 (dk_at dksX8_flow_2 19 rfl rfl)
theorem dX8_flow_68 : decode cX8_flow 68 = .ok (.aload_n 0, 1) := dk_42 (dk_at dksX8_flow_2 21 rfl rfl)
theorem dX8_flow_69 : decode cX8_flow 69 = .ok (.getfield 33, 3) := dk_180 0 33 (dk_at dksX8_flow_3 0 rfl rfl)
theorem dX8_flow_72 : decode cX8_flow 72 = .ok (.iload 5, 2) := dk_21 5 (dk_at dksX8_flow_3 3 rfl rfl)
theorem dX8_flow_74 : decode cX8_flow 74 = .ok (.dup2, 1) := dk_92 (dk_at dksX8_flow_3 5 rfl rfl)
theorem dX8_flow_75 : decode cX8_flow 75 = .ok (.laload, 1) := dk_47 (dk_at dksX8_flow_3 6 rfl rfl)
theorem dX8_flow_76 : decode cX8_flow 76 = .ok (.lload 6, 2) := dk_22 6 (dk_at dksX8_flow_3 7 rfl rfl)
theorem dX8_flow_78 : decode cX8_flow 78 = .ok (.ladd, 1) := dk_97 (dk_at dksX8_flow_3 9 rfl rfl)
theorem dX8_flow_79 : decode cX8_flow 79 = .ok (.lastore, 1) := dk_80 (dk_at dksX8_flow_3 10 rfl rfl)
theorem dX8_flow_80 : decode cX8_flow 80 = .ok (.aload_n 0, 1) := dk_42 (dk_at dksX8_flow_3 11 rfl rfl)
theorem dX8_flow_81 : decode cX8_flow 81 = .ok (.dup, 1) := dk_89 (dk_at dksX8_flow_3 12 rfl rfl)
theorem dX8_flow_82 : decode cX8_flow 82 = .ok (.getfield 322, 3) := dk_180 1 66 (dk_at dksX8_flow_3 13 rfl rfl)
theorem dX8_flow_85 : decode cX8_flow 85 = .ok (.lload 6, 2) := dk_22 6 (dk_at dksX8_flow_3 16 rfl rfl)
theorem dX8_flow_87 : decode cX8_flow 87 = .ok (.ladd, 1) := dk_97 (dk_at dksX8_flow_3 18 rfl rfl)
theorem dX8_flow_88 : decode cX8_flow 88 = .ok (.putfield 322, 3) := dk_181 1 66 (dk_at dksX8_flow_3 19 rfl rfl)
theorem dX8_flow_91 : decode cX8_flow 91 = .ok (.lload_n 2, 1) := dk_32 (dk_at dksX8_flow_3 22 rfl rfl)
theorem dX8_flow_92 : decode cX8_flow 92 = .ok (.lload 6, 2) := dk_22 6 (dk_at dksX8_flow_4 0 rfl rfl)
theorem dX8_flow_94 : decode cX8_flow 94 = .ok (.lsub, 1) := dk_101 (dk_at dksX8_flow_4 2 rfl rfl)
theorem dX8_flow_95 : decode cX8_flow 95 = .ok (.lstore_n 2, 1) := dk_65 (dk_at dksX8_flow_4 3 rfl rfl)
theorem dX8_flow_96 : decode cX8_flow 96 = .ok (.iinc 4 1, 3) := dk_132 4 1 (dk_at dksX8_flow_4 4 rfl rfl)
theorem dX8_flow_99 : decode cX8_flow 99 = .ok (.goto (-69), 3) := dk_167 255 187 (dk_at dksX8_flow_4 7 rfl rfl)
theorem dX8_flow_102 : decode cX8_flow 102 = .ok (.iinc 1 1, 3) := dk_132 1 1 (dk_at dksX8_flow_4 10 rfl rfl)
theorem dX8_flow_105 : decode cX8_flow 105 = .ok (.goto (-90), 3) := dk_167 255 166 (dk_at dksX8_flow_4 13 rfl rfl)
theorem dX8_flow_108 : decode cX8_flow 108 = .ok (.aload_n 0, 1) := dk_42 (dk_at dksX8_flow_4 16 rfl rfl)
theorem dX8_flow_109 : decode cX8_flow 109 = .ok (.aload_n 0, 1) := dk_42 (dk_at dksX8_flow_4 17 rfl rfl)
theorem dX8_flow_110 : decode cX8_flow 110 = .ok (.getfield 322, 3) := dk_180 1 66 (dk_at dksX8_flow_4 18 rfl rfl)
theorem dX8_flow_113 : decode cX8_flow 113 = .ok (.aload_n 0, 1) := dk_42 (dk_at dksX8_flow_4 21 rfl rfl)
theorem dX8_flow_114 : decode cX8_flow 114 = .ok (.getfield 131, 3) := dk_180 0 131 (dk_at dksX8_flow_5 0 rfl rfl)
theorem dX8_flow_117 : decode cX8_flow 117 = .ok (.getfield 185, 3) := dk_180 0 185 (dk_at dksX8_flow_5 3 rfl rfl)
theorem dX8_flow_120 : decode cX8_flow 120 = .ok (.iconst 1, 1) := dk_4 (dk_at dksX8_flow_5 6 rfl rfl)
theorem dX8_flow_121 : decode cX8_flow 121 = .ok (.iadd, 1) := dk_96 (dk_at dksX8_flow_5 7 rfl rfl)
theorem dX8_flow_122 : decode cX8_flow 122 = .ok (.i2l, 1) := dk_133 (dk_at dksX8_flow_5 8 rfl rfl)
theorem dX8_flow_123 : decode cX8_flow 123 = .ok (.ldiv, 1) := dk_109 (dk_at dksX8_flow_5 9 rfl rfl)
theorem dX8_flow_124 : decode cX8_flow 124 = .ok (.lconst 1, 1) := dk_10 (dk_at dksX8_flow_5 10 rfl rfl)
theorem dX8_flow_125 : decode cX8_flow 125 = .ok (.ladd, 1) := dk_97 (dk_at dksX8_flow_5 11 rfl rfl)
theorem dX8_flow_126 : decode cX8_flow 126 = .ok (.putfield 280, 3) := dk_181 1 24 (dk_at dksX8_flow_5 12 rfl rfl)
theorem dX8_flow_129 : decode cX8_flow 129 = .ok (.return_, 1) := dk_177 (dk_at dksX8_flow_5 15 rfl rfl)
abbrev cX8_up : ByteArray := prog_5_method_38_code
def yX8_up : MethodName := ⟨RX8, "up", "(JJJ)J"⟩
def dkwX8_up_0 : List UInt8 := [30, 32, 105, 22, 4, 97, 10, 101, 22, 4, 109, 173]
abbrev dktX8_up_0 : List UInt8 := dkwX8_up_0 ++ []
theorem dksX8_up_0 : cX8_up.data.toList.drop 0 = dktX8_up_0 := by decide +kernel
theorem dX8_up_0 : decode cX8_up 0 = .ok (.lload_n 0, 1) := dk_30 (dk_at dksX8_up_0 0 rfl rfl)
theorem dX8_up_1 : decode cX8_up 1 = .ok (.lload_n 2, 1) := dk_32 (dk_at dksX8_up_0 1 rfl rfl)
theorem dX8_up_2 : decode cX8_up 2 = .ok (.lmul, 1) := dk_105 (dk_at dksX8_up_0 2 rfl rfl)
theorem dX8_up_3 : decode cX8_up 3 = .ok (.lload 4, 2) := dk_22 4 (dk_at dksX8_up_0 3 rfl rfl)
theorem dX8_up_5 : decode cX8_up 5 = .ok (.ladd, 1) := dk_97 (dk_at dksX8_up_0 5 rfl rfl)
theorem dX8_up_6 : decode cX8_up 6 = .ok (.lconst 1, 1) := dk_10 (dk_at dksX8_up_0 6 rfl rfl)
theorem dX8_up_7 : decode cX8_up 7 = .ok (.lsub, 1) := dk_101 (dk_at dksX8_up_0 7 rfl rfl)
theorem dX8_up_8 : decode cX8_up 8 = .ok (.lload 4, 2) := dk_22 4 (dk_at dksX8_up_0 8 rfl rfl)
theorem dX8_up_10 : decode cX8_up 10 = .ok (.ldiv, 1) := dk_109 (dk_at dksX8_up_0 10 rfl rfl)
theorem dX8_up_11 : decode cX8_up 11 = .ok (.lreturn, 1) := dk_173 (dk_at dksX8_up_0 11 rfl rfl)
abbrev cX8_ends : ByteArray := prog_5_method_17_code
def yX8_ends : MethodName := ⟨RX8, "ends", "()Z"⟩
def dkwX8_ends_1 : List UInt8 := [180, 0, 131, 180, 0, 185, 164, 0, 5, 3, 172, 42, 9, 182, 0, 227, 60, 4, 172]
abbrev dktX8_ends_1 : List UInt8 := dkwX8_ends_1 ++ []
def dkwX8_ends_0 : List UInt8 := [42, 180, 0, 167, 42, 180, 0, 131, 180, 0, 185, 162, 0, 24, 42, 180, 0, 167, 42, 182, 0, 223, 96, 42]
abbrev dktX8_ends_0 : List UInt8 := dkwX8_ends_0 ++ dktX8_ends_1
theorem dksX8_ends_0 : cX8_ends.data.toList.drop 0 = dktX8_ends_0 := by decide +kernel
theorem dksX8_ends_1 : cX8_ends.data.toList.drop 24 = dktX8_ends_1 := dk_seg dksX8_ends_0 24 rfl rfl
theorem dX8_ends_0 : decode cX8_ends 0 = .ok (.aload_n 0, 1) := dk_42 (dk_at dksX8_ends_0 0 rfl rfl)
theorem dX8_ends_1 : decode cX8_ends 1 = .ok (.getfield 167, 3) := dk_180 0 167 (dk_at dksX8_ends_0 1 rfl rfl)
theorem dX8_ends_4 : decode cX8_ends 4 = .ok (.aload_n 0, 1) := dk_42 (dk_at dksX8_ends_0 4 rfl rfl)
theorem dX8_ends_5 : decode cX8_ends 5 = .ok (.getfield 131, 3) := dk_180 0 131 (dk_at dksX8_ends_0 5 rfl rfl)
theorem dX8_ends_8 : decode cX8_ends 8 = .ok (.getfield 185, 3) := dk_180 0 185 (dk_at dksX8_ends_0 8 rfl rfl)
theorem dX8_ends_11 : decode cX8_ends 11 = .ok (.if_icmp .ge 24, 3) := dk_162 0 24 (dk_at dksX8_ends_0 11 rfl rfl)
theorem dX8_ends_14 : decode cX8_ends 14 = .ok (.aload_n 0, 1) := dk_42 (dk_at dksX8_ends_0 14 rfl rfl)
theorem dX8_ends_15 : decode cX8_ends 15 = .ok (.getfield 167, 3) := dk_180 0 167 (dk_at dksX8_ends_0 15 rfl rfl)
theorem dX8_ends_18 : decode cX8_ends 18 = .ok (.aload_n 0, 1) := dk_42 (dk_at dksX8_ends_0 18 rfl rfl)
theorem dX8_ends_19 : decode cX8_ends 19 = .ok (.invokevirtual 223, 3) := dk_182 0 223 (dk_at dksX8_ends_0 19 rfl rfl)
theorem dX8_ends_22 : decode cX8_ends 22 = .ok (.iadd, 1) := dk_96 (dk_at dksX8_ends_0 22 rfl rfl)
theorem dX8_ends_23 : decode cX8_ends 23 = .ok (.aload_n 0, 1) := dk_42 (dk_at dksX8_ends_0 23 rfl rfl)
theorem dX8_ends_24 : decode cX8_ends 24 = .ok (.getfield 131, 3) := dk_180 0 131 (dk_at dksX8_ends_1 0 rfl rfl)
theorem dX8_ends_27 : decode cX8_ends 27 = .ok (.getfield 185, 3) := dk_180 0 185 (dk_at dksX8_ends_1 3 rfl rfl)
theorem dX8_ends_30 : decode cX8_ends 30 = .ok (.if_icmp .le 5, 3) := dk_164 0 5 (dk_at dksX8_ends_1 6 rfl rfl)
theorem dX8_ends_33 : decode cX8_ends 33 = .ok (.iconst 0, 1) := dk_3 (dk_at dksX8_ends_1 9 rfl rfl)
theorem dX8_ends_34 : decode cX8_ends 34 = .ok (.ireturn, 1) := dk_172 (dk_at dksX8_ends_1 10 rfl rfl)
theorem dX8_ends_35 : decode cX8_ends 35 = .ok (.aload_n 0, 1) := dk_42 (dk_at dksX8_ends_1 11 rfl rfl)
theorem dX8_ends_36 : decode cX8_ends 36 = .ok (.lconst 0, 1) := dk_9 (dk_at dksX8_ends_1 12 rfl rfl)
theorem dX8_ends_37 : decode cX8_ends 37 = .ok (.invokevirtual 227, 3) := dk_182 0 227 (dk_at dksX8_ends_1 13 rfl rfl)
theorem dX8_ends_40 : decode cX8_ends 40 = .ok (.istore_n 1, 1) := dk_60 (dk_at dksX8_ends_1 16 rfl rfl)
theorem dX8_ends_41 : decode cX8_ends 41 = .ok (.iconst 1, 1) := dk_4 (dk_at dksX8_ends_1 17 rfl rfl)
theorem dX8_ends_42 : decode cX8_ends 42 = .ok (.ireturn, 1) := dk_172 (dk_at dksX8_ends_1 18 rfl rfl)
abbrev cX8_surplus : ByteArray := prog_5_method_40_code
def yX8_surplus : MethodName := ⟨RX8, "surplus", "()J"⟩
def dkwX8_surplus_1 : List UInt8 := [47, 42, 180, 1, 24, 101, 184, 1, 75, 97, 64, 132, 3, 1, 167, 255, 222, 31, 173]
abbrev dktX8_surplus_1 : List UInt8 := dkwX8_surplus_1 ++ []
def dkwX8_surplus_0 : List UInt8 := [9, 64, 3, 62, 29, 42, 180, 0, 167, 162, 0, 32, 31, 9, 42, 180, 0, 33, 42, 180, 0, 48, 29, 46]
abbrev dktX8_surplus_0 : List UInt8 := dkwX8_surplus_0 ++ dktX8_surplus_1
theorem dksX8_surplus_0 : cX8_surplus.data.toList.drop 0 = dktX8_surplus_0 := by decide +kernel
theorem dksX8_surplus_1 : cX8_surplus.data.toList.drop 24 = dktX8_surplus_1 := dk_seg dksX8_surplus_0 24 rfl rfl
theorem dX8_surplus_0 : decode cX8_surplus 0 = .ok (.lconst 0, 1) := dk_9 (dk_at dksX8_surplus_0 0 rfl rfl)
theorem dX8_surplus_1 : decode cX8_surplus 1 = .ok (.lstore_n 1, 1) := dk_64 (dk_at dksX8_surplus_0 1 rfl rfl)
theorem dX8_surplus_2 : decode cX8_surplus 2 = .ok (.iconst 0, 1) := dk_3 (dk_at dksX8_surplus_0 2 rfl rfl)
theorem dX8_surplus_3 : decode cX8_surplus 3 = .ok (.istore_n 3, 1) := dk_62 (dk_at dksX8_surplus_0 3 rfl rfl)
theorem dX8_surplus_4 : decode cX8_surplus 4 = .ok (.iload_n 3, 1) := dk_29 (dk_at dksX8_surplus_0 4 rfl rfl)
theorem dX8_surplus_5 : decode cX8_surplus 5 = .ok (.aload_n 0, 1) := dk_42 (dk_at dksX8_surplus_0 5 rfl rfl)
theorem dX8_surplus_6 : decode cX8_surplus 6 = .ok (.getfield 167, 3) := dk_180 0 167 (dk_at dksX8_surplus_0 6 rfl rfl)
theorem dX8_surplus_9 : decode cX8_surplus 9 = .ok (.if_icmp .ge 32, 3) := dk_162 0 32 (dk_at dksX8_surplus_0 9 rfl rfl)
theorem dX8_surplus_12 : decode cX8_surplus 12 = .ok (.lload_n 1, 1) := dk_31 (dk_at dksX8_surplus_0 12 rfl rfl)
theorem dX8_surplus_13 : decode cX8_surplus 13 = .ok (.lconst 0, 1) := dk_9 (dk_at dksX8_surplus_0 13 rfl rfl)
theorem dX8_surplus_14 : decode cX8_surplus 14 = .ok (.aload_n 0, 1) := dk_42 (dk_at dksX8_surplus_0 14 rfl rfl)
theorem dX8_surplus_15 : decode cX8_surplus 15 = .ok (.getfield 33, 3) := dk_180 0 33 (dk_at dksX8_surplus_0 15 rfl rfl)
theorem dX8_surplus_18 : decode cX8_surplus 18 = .ok (.aload_n 0, 1) := dk_42 (dk_at dksX8_surplus_0 18 rfl rfl)
theorem dX8_surplus_19 : decode cX8_surplus 19 = .ok (.getfield 48, 3) := dk_180 0 48 (dk_at dksX8_surplus_0 19 rfl rfl)
theorem dX8_surplus_22 : decode cX8_surplus 22 = .ok (.iload_n 3, 1) := dk_29 (dk_at dksX8_surplus_0 22 rfl rfl)
theorem dX8_surplus_23 : decode cX8_surplus 23 = .ok (.iaload, 1) := dk_46 (dk_at dksX8_surplus_0 23 rfl rfl)
theorem dX8_surplus_24 : decode cX8_surplus 24 = .ok (.laload, 1) := dk_47 (dk_at dksX8_surplus_1 0 rfl rfl)
theorem dX8_surplus_25 : decode cX8_surplus 25 = .ok (.aload_n 0, 1) := dk_42 (dk_at dksX8_surplus_1 1 rfl rfl)
theorem dX8_surplus_26 : decode cX8_surplus 26 = .ok (.getfield 280, 3) := dk_180 1 24 (dk_at dksX8_surplus_1 2 rfl rfl)
theorem dX8_surplus_29 : decode cX8_surplus 29 = .ok (.lsub, 1) := dk_101 (dk_at dksX8_surplus_1 5 rfl rfl)
theorem dX8_surplus_30 : decode cX8_surplus 30 = .ok (.invokestatic 331, 3) := dk_184 1 75 (dk_at dksX8_surplus_1 6 rfl rfl)
theorem dX8_surplus_33 : decode cX8_surplus 33 = .ok (.ladd, 1) := dk_97 (dk_at dksX8_surplus_1 9 rfl rfl)
theorem dX8_surplus_34 : decode cX8_surplus 34 = .ok (.lstore_n 1, 1) := dk_64 (dk_at dksX8_surplus_1 10 rfl rfl)
theorem dX8_surplus_35 : decode cX8_surplus 35 = .ok (.iinc 3 1, 3) := dk_132 3 1 (dk_at dksX8_surplus_1 11 rfl rfl)
theorem dX8_surplus_38 : decode cX8_surplus 38 = .ok (.goto (-34), 3) := dk_167 255 222 (dk_at dksX8_surplus_1 14 rfl rfl)
theorem dX8_surplus_41 : decode cX8_surplus 41 = .ok (.lload_n 1, 1) := dk_31 (dk_at dksX8_surplus_1 17 rfl rfl)
theorem dX8_surplus_42 : decode cX8_surplus 42 = .ok (.lreturn, 1) := dk_173 (dk_at dksX8_surplus_1 18 rfl rfl)
abbrev cX8_fewestNow : ByteArray := prog_5_method_42_code
def yX8_fewestNow : MethodName := ⟨RX8, "fewestNow", "()I"⟩
def dkwX8_fewestNow_2 : List UInt8 := [157, 0, 5, 29, 60, 132, 2, 1, 167, 255, 204, 27, 172]
abbrev dktX8_fewestNow_2 : List UInt8 := dkwX8_fewestNow_2 ++ []
def dkwX8_fewestNow_1 : List UInt8 := [182, 0, 209, 153, 0, 26, 27, 2, 159, 0, 19, 42, 180, 0, 33, 29, 47, 42, 180, 0, 33, 27, 47, 148]
abbrev dktX8_fewestNow_1 : List UInt8 := dkwX8_fewestNow_1 ++ dktX8_fewestNow_2
def dkwX8_fewestNow_0 : List UInt8 := [2, 60, 3, 61, 28, 42, 180, 0, 148, 162, 0, 50, 42, 180, 0, 135, 180, 0, 212, 28, 46, 62, 42, 29]
abbrev dktX8_fewestNow_0 : List UInt8 := dkwX8_fewestNow_0 ++ dktX8_fewestNow_1
theorem dksX8_fewestNow_0 : cX8_fewestNow.data.toList.drop 0 = dktX8_fewestNow_0 := by decide +kernel
theorem dksX8_fewestNow_1 : cX8_fewestNow.data.toList.drop 24 = dktX8_fewestNow_1 := dk_seg dksX8_fewestNow_0 24 rfl rfl
theorem dksX8_fewestNow_2 : cX8_fewestNow.data.toList.drop 48 = dktX8_fewestNow_2 := dk_seg dksX8_fewestNow_1 24 rfl rfl
theorem dX8_fewestNow_0 : decode cX8_fewestNow 0 = .ok (.iconst (-1), 1) := dk_2 (dk_at dksX8_fewestNow_0 0 rfl rfl)
theorem dX8_fewestNow_1 : decode cX8_fewestNow 1 = .ok (.istore_n 1, 1) := dk_60 (dk_at dksX8_fewestNow_0 1 rfl rfl)
theorem dX8_fewestNow_2 : decode cX8_fewestNow 2 = .ok (.iconst 0, 1) := dk_3 (dk_at dksX8_fewestNow_0 2 rfl rfl)
theorem dX8_fewestNow_3 : decode cX8_fewestNow 3 = .ok (.istore_n 2, 1) := dk_61 (dk_at dksX8_fewestNow_0 3 rfl rfl)
theorem dX8_fewestNow_4 : decode cX8_fewestNow 4 = .ok (.iload_n 2, 1) := dk_28 (dk_at dksX8_fewestNow_0 4 rfl rfl)
theorem dX8_fewestNow_5 : decode cX8_fewestNow 5 = .ok (.aload_n 0, 1) := dk_42 (dk_at dksX8_fewestNow_0 5 rfl rfl)
theorem dX8_fewestNow_6 : decode cX8_fewestNow 6 = .ok (.getfield 148, 3) := dk_180 0 148 (dk_at dksX8_fewestNow_0 6 rfl rfl)
theorem dX8_fewestNow_9 : decode cX8_fewestNow 9 = .ok (.if_icmp .ge 50, 3) := dk_162 0 50 (dk_at dksX8_fewestNow_0 9 rfl rfl)
theorem dX8_fewestNow_12 : decode cX8_fewestNow 12 = .ok (.aload_n 0, 1) := dk_42 (dk_at dksX8_fewestNow_0 12 rfl rfl)
theorem dX8_fewestNow_13 : decode cX8_fewestNow 13 = .ok (.getfield 135, 3) := dk_180 0 135 (dk_at dksX8_fewestNow_0 13 rfl rfl)
theorem dX8_fewestNow_16 : decode cX8_fewestNow 16 = .ok (.getfield 212, 3) := dk_180 0 212 (dk_at dksX8_fewestNow_0 16 rfl rfl)
theorem dX8_fewestNow_19 : decode cX8_fewestNow 19 = .ok (.iload_n 2, 1) := dk_28 (dk_at dksX8_fewestNow_0 19 rfl rfl)
theorem dX8_fewestNow_20 : decode cX8_fewestNow 20 = .ok (.iaload, 1) := dk_46 (dk_at dksX8_fewestNow_0 20 rfl rfl)
theorem dX8_fewestNow_21 : decode cX8_fewestNow 21 = .ok (.istore_n 3, 1) := dk_62 (dk_at dksX8_fewestNow_0 21 rfl rfl)
theorem dX8_fewestNow_22 : decode cX8_fewestNow 22 = .ok (.aload_n 0, 1) := dk_42 (dk_at dksX8_fewestNow_0 22 rfl rfl)
theorem dX8_fewestNow_23 : decode cX8_fewestNow 23 = .ok (.iload_n 3, 1) := dk_29 (dk_at dksX8_fewestNow_0 23 rfl rfl)
theorem dX8_fewestNow_24 : decode cX8_fewestNow 24 = .ok (.invokevirtual 209, 3) := dk_182 0 209 (dk_at dksX8_fewestNow_1 0 rfl rfl)
theorem dX8_fewestNow_27 : decode cX8_fewestNow 27 = .ok (.ifCond .eq 26, 3) := dk_153 0 26 (dk_at dksX8_fewestNow_1 3 rfl rfl)
theorem dX8_fewestNow_30 : decode cX8_fewestNow 30 = .ok (.iload_n 1, 1) := dk_27 (dk_at dksX8_fewestNow_1 6 rfl rfl)
theorem dX8_fewestNow_31 : decode cX8_fewestNow 31 = .ok (.iconst (-1), 1) := dk_2 (dk_at dksX8_fewestNow_1 7 rfl rfl)
theorem dX8_fewestNow_32 : decode cX8_fewestNow 32 = .ok (.if_icmp .eq 19, 3) := dk_159 0 19 (dk_at dksX8_fewestNow_1 8 rfl rfl)
theorem dX8_fewestNow_35 : decode cX8_fewestNow 35 = .ok (.aload_n 0, 1) := dk_42 (dk_at dksX8_fewestNow_1 11 rfl rfl)
theorem dX8_fewestNow_36 : decode cX8_fewestNow 36 = .ok (.getfield 33, 3) := dk_180 0 33 (dk_at dksX8_fewestNow_1 12 rfl rfl)
theorem dX8_fewestNow_39 : decode cX8_fewestNow 39 = .ok (.iload_n 3, 1) := dk_29 (dk_at dksX8_fewestNow_1 15 rfl rfl)
theorem dX8_fewestNow_40 : decode cX8_fewestNow 40 = .ok (.laload, 1) := dk_47 (dk_at dksX8_fewestNow_1 16 rfl rfl)
theorem dX8_fewestNow_41 : decode cX8_fewestNow 41 = .ok (.aload_n 0, 1) := dk_42 (dk_at dksX8_fewestNow_1 17 rfl rfl)
theorem dX8_fewestNow_42 : decode cX8_fewestNow 42 = .ok (.getfield 33, 3) := dk_180 0 33 (dk_at dksX8_fewestNow_1 18 rfl rfl)
theorem dX8_fewestNow_45 : decode cX8_fewestNow 45 = .ok (.iload_n 1, 1) := dk_27 (dk_at dksX8_fewestNow_1 21 rfl rfl)
theorem dX8_fewestNow_46 : decode cX8_fewestNow 46 = .ok (.laload, 1) := dk_47 (dk_at dksX8_fewestNow_1 22 rfl rfl)
theorem dX8_fewestNow_47 : decode cX8_fewestNow 47 = .ok (.lcmp, 1) := dk_148 (dk_at dksX8_fewestNow_1 23 rfl rfl)
theorem dX8_fewestNow_48 : decode cX8_fewestNow 48 = .ok (.ifCond .gt 5, 3) := dk_157 0 5 (dk_at dksX8_fewestNow_2 0 rfl rfl)
theorem dX8_fewestNow_51 : decode cX8_fewestNow 51 = .ok (.iload_n 3, 1) := dk_29 (dk_at dksX8_fewestNow_2 3 rfl rfl)
theorem dX8_fewestNow_52 : decode cX8_fewestNow 52 = .ok (.istore_n 1, 1) := dk_60 (dk_at dksX8_fewestNow_2 4 rfl rfl)
theorem dX8_fewestNow_53 : decode cX8_fewestNow 53 = .ok (.iinc 2 1, 3) := dk_132 2 1 (dk_at dksX8_fewestNow_2 5 rfl rfl)
theorem dX8_fewestNow_56 : decode cX8_fewestNow 56 = .ok (.goto (-52), 3) := dk_167 255 204 (dk_at dksX8_fewestNow_2 8 rfl rfl)
theorem dX8_fewestNow_59 : decode cX8_fewestNow 59 = .ok (.iload_n 1, 1) := dk_27 (dk_at dksX8_fewestNow_2 11 rfl rfl)
theorem dX8_fewestNow_60 : decode cX8_fewestNow 60 = .ok (.ireturn, 1) := dk_172 (dk_at dksX8_fewestNow_2 12 rfl rfl)
abbrev cX8_byTransfers : ByteArray := prog_5_method_37_code
def yX8_byTransfers : MethodName := ⟨RX8, "byTransfers", "()V"⟩
def dkwX8_byTransfers_3 : List UInt8 := [182, 1, 63, 167, 255, 192, 177]
abbrev dktX8_byTransfers_3 : List UInt8 := dkwX8_byTransfers_3 ++ []
def dkwX8_byTransfers_2 : List UInt8 := [182, 1, 57, 62, 29, 2, 159, 0, 11, 42, 29, 182, 1, 60, 167, 0, 11, 42, 42, 182, 1, 13]
abbrev dktX8_byTransfers_2 : List UInt8 := dkwX8_byTransfers_2 ++ dktX8_byTransfers_3
def dkwX8_byTransfers_1 : List UInt8 := [182, 0, 227, 61, 42, 182, 1, 54, 154, 0, 7, 4, 167, 0, 4, 3, 60, 27, 153, 0, 29, 42]
abbrev dktX8_byTransfers_1 : List UInt8 := dkwX8_byTransfers_1 ++ dktX8_byTransfers_2
def dkwX8_byTransfers_0 : List UInt8 := [42, 182, 1, 48, 4, 60, 27, 153, 0, 66, 42, 182, 1, 51, 42, 182, 0, 254, 42, 42, 180, 1, 24]
abbrev dktX8_byTransfers_0 : List UInt8 := dkwX8_byTransfers_0 ++ dktX8_byTransfers_1
theorem dksX8_byTransfers_0 : cX8_byTransfers.data.toList.drop 0 = dktX8_byTransfers_0 := by decide +kernel
theorem dksX8_byTransfers_1 : cX8_byTransfers.data.toList.drop 23 = dktX8_byTransfers_1 := dk_seg dksX8_byTransfers_0 23 rfl rfl
theorem dksX8_byTransfers_2 : cX8_byTransfers.data.toList.drop 45 = dktX8_byTransfers_2 := dk_seg dksX8_byTransfers_1 22 rfl rfl
theorem dksX8_byTransfers_3 : cX8_byTransfers.data.toList.drop 67 = dktX8_byTransfers_3 := dk_seg dksX8_byTransfers_2 22 rfl rfl
theorem dX8_byTransfers_0 : decode cX8_byTransfers 0 = .ok (.aload_n 0, 1) := dk_42 (dk_at dksX8_byTransfers_0 0 rfl rfl)
theorem dX8_byTransfers_1 : decode cX8_byTransfers 1 = .ok (.invokevirtual 304, 3) := dk_182 1 48 (dk_at dksX8_byTransfers_0 1 rfl rfl)
theorem dX8_byTransfers_4 : decode cX8_byTransfers 4 = .ok (.iconst 1, 1) := dk_4 (dk_at dksX8_byTransfers_0 4 rfl rfl)
theorem dX8_byTransfers_5 : decode cX8_byTransfers 5 = .ok (.istore_n 1, 1) := dk_60 (dk_at dksX8_byTransfers_0 5 rfl rfl)
theorem dX8_byTransfers_6 : decode cX8_byTransfers 6 = .ok (.iload_n 1, 1) := dk_27 (dk_at dksX8_byTransfers_0 6 rfl rfl)
theorem dX8_byTransfers_7 : decode cX8_byTransfers 7 = .ok (.ifCond .eq 66, 3) := dk_153 0 66 (dk_at dksX8_byTransfers_0 7 rfl rfl)
theorem dX8_byTransfers_10 : decode cX8_byTransfers 10 = .ok (.aload_n 0, 1) := dk_42 (dk_at dksX8_byTransfers_0 10 rfl rfl)
theorem dX8_byTransfers_11 : decode cX8_byTransfers 11 = .ok (.invokevirtual 307, 3) := dk_182 1 51 (dk_at dksX8_byTransfers_0 11 rfl rfl)
theorem dX8_byTransfers_14 : decode cX8_byTransfers 14 = .ok (.aload_n 0, 1) := dk_42 (dk_at dksX8_byTransfers_0 14 rfl rfl)
theorem dX8_byTransfers_15 : decode cX8_byTransfers 15 = .ok (.invokevirtual 254, 3) := dk_182 0 254 (dk_at dksX8_byTransfers_0 15 rfl rfl)
theorem dX8_byTransfers_18 : decode cX8_byTransfers 18 = .ok (.aload_n 0, 1) := dk_42 (dk_at dksX8_byTransfers_0 18 rfl rfl)
theorem dX8_byTransfers_19 : decode cX8_byTransfers 19 = .ok (.aload_n 0, 1) := dk_42 (dk_at dksX8_byTransfers_0 19 rfl rfl)
theorem dX8_byTransfers_20 : decode cX8_byTransfers 20 = .ok (.getfield 280, 3) := dk_180 1 24 (dk_at dksX8_byTransfers_0 20 rfl rfl)
theorem dX8_byTransfers_23 : decode cX8_byTransfers 23 = .ok (.invokevirtual 227, 3) := dk_182 0 227 (dk_at dksX8_byTransfers_1 0 rfl rfl)
theorem dX8_byTransfers_26 : decode cX8_byTransfers 26 = .ok (.istore_n 2, 1) := dk_61 (dk_at dksX8_byTransfers_1 3 rfl rfl)
theorem dX8_byTransfers_27 : decode cX8_byTransfers 27 = .ok (.aload_n 0, 1) := dk_42 (dk_at dksX8_byTransfers_1 4 rfl rfl)
theorem dX8_byTransfers_28 : decode cX8_byTransfers 28 = .ok (.invokevirtual 310, 3) := dk_182 1 54 (dk_at dksX8_byTransfers_1 5 rfl rfl)
theorem dX8_byTransfers_31 : decode cX8_byTransfers 31 = .ok (.ifCond .ne 7, 3) := dk_154 0 7 (dk_at dksX8_byTransfers_1 8 rfl rfl)
theorem dX8_byTransfers_34 : decode cX8_byTransfers 34 = .ok (.iconst 1, 1) := dk_4 (dk_at dksX8_byTransfers_1 11 rfl rfl)
theorem dX8_byTransfers_35 : decode cX8_byTransfers 35 = .ok (.goto 4, 3) := dk_167 0 4 (dk_at dksX8_byTransfers_1 12 rfl rfl)
theorem dX8_byTransfers_38 : decode cX8_byTransfers 38 = .ok (.iconst 0, 1) := dk_3 (dk_at dksX8_byTransfers_1 15 rfl rfl)
theorem dX8_byTransfers_39 : decode cX8_byTransfers 39 = .ok (.istore_n 1, 1) := dk_60 (dk_at dksX8_byTransfers_1 16 rfl rfl)
theorem dX8_byTransfers_40 : decode cX8_byTransfers 40 = .ok (.iload_n 1, 1) := dk_27 (dk_at dksX8_byTransfers_1 17 rfl rfl)
theorem dX8_byTransfers_41 : decode cX8_byTransfers 41 = .ok (.ifCond .eq 29, 3) := dk_153 0 29 (dk_at dksX8_byTransfers_1 18 rfl rfl)
theorem dX8_byTransfers_44 : decode cX8_byTransfers 44 = .ok (.aload_n 0, 1) := dk_42 (dk_at dksX8_byTransfers_1 21 rfl rfl)
theorem dX8_byTransfers_45 : decode cX8_byTransfers 45 = .ok (.invokevirtual 313, 3) := dk_182 1 57 (dk_at dksX8_byTransfers_2 0 rfl rfl)
theorem dX8_byTransfers_48 : decode cX8_byTransfers 48 = .ok (.istore_n 3, 1) := dk_62 (dk_at dksX8_byTransfers_2 3 rfl rfl)
theorem dX8_byTransfers_49 : decode cX8_byTransfers 49 = .ok (.iload_n 3, 1) := dk_29 (dk_at dksX8_byTransfers_2 4 rfl rfl)
theorem dX8_byTransfers_50 : decode cX8_byTransfers 50 = .ok (.iconst (-1), 1) := dk_2 (dk_at dksX8_byTransfers_2 5 rfl rfl)
theorem dX8_byTransfers_51 : decode cX8_byTransfers 51 = .ok (.if_icmp .eq 11, 3) := dk_159 0 11 (dk_at dksX8_byTransfers_2 6 rfl rfl)
theorem dX8_byTransfers_54 : decode cX8_byTransfers 54 = .ok (.aload_n 0, 1) := dk_42 (dk_at dksX8_byTransfers_2 9 rfl rfl)
theorem dX8_byTransfers_55 : decode cX8_byTransfers 55 = .ok (.iload_n 3, 1) := dk_29 (dk_at dksX8_byTransfers_2 10 rfl rfl)
theorem dX8_byTransfers_56 : decode cX8_byTransfers 56 = .ok (.invokevirtual 316, 3) := dk_182 1 60 (dk_at dksX8_byTransfers_2 11 rfl rfl)
theorem dX8_byTransfers_59 : decode cX8_byTransfers 59 = .ok (.goto 11, 3) := dk_167 0 11 (dk_at dksX8_byTransfers_2 14 rfl rfl)
theorem dX8_byTransfers_62 : decode cX8_byTransfers 62 = .ok (.aload_n 0, 1) := dk_42 (dk_at dksX8_byTransfers_2 17 rfl rfl)
theorem dX8_byTransfers_63 : decode cX8_byTransfers 63 = .ok (.aload_n 0, 1) := dk_42 (dk_at dksX8_byTransfers_2 18 rfl rfl)
theorem dX8_byTransfers_64 : decode cX8_byTransfers 64 = .ok (.invokevirtual 269, 3) := dk_182 1 13 (dk_at dksX8_byTransfers_2 19 rfl rfl)
theorem dX8_byTransfers_67 : decode cX8_byTransfers 67 = .ok (.invokevirtual 319, 3) := dk_182 1 63 (dk_at dksX8_byTransfers_3 0 rfl rfl)
theorem dX8_byTransfers_70 : decode cX8_byTransfers 70 = .ok (.goto (-64), 3) := dk_167 255 192 (dk_at dksX8_byTransfers_3 3 rfl rfl)
theorem dX8_byTransfers_73 : decode cX8_byTransfers 73 = .ok (.return_, 1) := dk_177 (dk_at dksX8_byTransfers_3 6 rfl rfl)
abbrev cX8_lay : ByteArray := prog_5_method_30_code
def yX8_lay : MethodName := ⟨RX8, "lay", "()V"⟩
def dkwX8_lay_5 : List UInt8 := [180, 0, 72, 3, 184, 1, 31, 177]
abbrev dktX8_lay_5 : List UInt8 := dkwX8_lay_5 ++ []
def dkwX8_lay_4 : List UInt8 := [180, 0, 66, 29, 31, 80, 42, 180, 0, 69, 29, 42, 29, 182, 1, 7, 79, 132, 3, 1, 167, 255, 227, 42]
abbrev dktX8_lay_4 : List UInt8 := dkwX8_lay_4 ++ dktX8_lay_5
def dkwX8_lay_3 : List UInt8 := [180, 0, 139, 133, 181, 1, 28, 42, 182, 0, 239, 3, 62, 29, 42, 180, 0, 155, 162, 0, 27, 42]
abbrev dktX8_lay_3 : List UInt8 := dkwX8_lay_3 ++ dktX8_lay_4
def dkwX8_lay_2 : List UInt8 := [42, 180, 0, 155, 42, 180, 0, 131, 180, 0, 185, 4, 96, 108, 4, 96, 133, 105, 181, 1, 24, 42, 42]
abbrev dktX8_lay_2 : List UInt8 := dkwX8_lay_2 ++ dktX8_lay_3
def dkwX8_lay_1 : List UInt8 := [180, 0, 131, 180, 1, 21, 154, 0, 18, 42, 180, 0, 155, 42, 180, 0, 131, 180, 0, 185, 108, 167, 0, 19]
abbrev dktX8_lay_1 : List UInt8 := dkwX8_lay_1 ++ dktX8_lay_2
def dkwX8_lay_0 : List UInt8 := [42, 180, 0, 131, 180, 0, 180, 16, 12, 160, 0, 9, 20, 1, 19, 167, 0, 4, 10, 64, 42, 31, 42]
abbrev dktX8_lay_0 : List UInt8 := dkwX8_lay_0 ++ dktX8_lay_1
theorem dksX8_lay_0 : cX8_lay.data.toList.drop 0 = dktX8_lay_0 := by decide +kernel
theorem dksX8_lay_1 : cX8_lay.data.toList.drop 23 = dktX8_lay_1 := dk_seg dksX8_lay_0 23 rfl rfl
theorem dksX8_lay_2 : cX8_lay.data.toList.drop 47 = dktX8_lay_2 := dk_seg dksX8_lay_1 24 rfl rfl
theorem dksX8_lay_3 : cX8_lay.data.toList.drop 70 = dktX8_lay_3 := dk_seg dksX8_lay_2 23 rfl rfl
theorem dksX8_lay_4 : cX8_lay.data.toList.drop 92 = dktX8_lay_4 := dk_seg dksX8_lay_3 22 rfl rfl
theorem dksX8_lay_5 : cX8_lay.data.toList.drop 116 = dktX8_lay_5 := dk_seg dksX8_lay_4 24 rfl rfl
theorem dX8_lay_0 : decode cX8_lay 0 = .ok (.aload_n 0, 1) := dk_42 (dk_at dksX8_lay_0 0 rfl rfl)
theorem dX8_lay_1 : decode cX8_lay 1 = .ok (.getfield 131, 3) := dk_180 0 131 (dk_at dksX8_lay_0 1 rfl rfl)
theorem dX8_lay_4 : decode cX8_lay 4 = .ok (.getfield 180, 3) := dk_180 0 180 (dk_at dksX8_lay_0 4 rfl rfl)
theorem dX8_lay_7 : decode cX8_lay 7 = .ok (.bipush 12, 2) := dk_16 12 (dk_at dksX8_lay_0 7 rfl rfl)
theorem dX8_lay_9 : decode cX8_lay 9 = .ok (.if_icmp .ne 9, 3) := dk_160 0 9 (dk_at dksX8_lay_0 9 rfl rfl)
theorem dX8_lay_12 : decode cX8_lay 12 = .ok (.ldc2_w 275, 3) := dk_20 1 19 (dk_at dksX8_lay_0 12 rfl rfl)
theorem dX8_lay_15 : decode cX8_lay 15 = .ok (.goto 4, 3) := dk_167 0 4 (dk_at dksX8_lay_0 15 rfl rfl)
theorem dX8_lay_18 : decode cX8_lay 18 = .ok (.lconst 1, 1) := dk_10 (dk_at dksX8_lay_0 18 rfl rfl)
theorem dX8_lay_19 : decode cX8_lay 19 = .ok (.lstore_n 1, 1) := dk_64 (dk_at dksX8_lay_0 19 rfl rfl)
theorem dX8_lay_20 : decode cX8_lay 20 = .ok (.aload_n 0, 1) := dk_42 (dk_at dksX8_lay_0 20 rfl rfl)
theorem dX8_lay_21 : decode cX8_lay 21 = .ok (.lload_n 1, 1) := dk_31 (dk_at dksX8_lay_0 21 rfl rfl)
theorem dX8_lay_22 : decode cX8_lay 22 = .ok (.aload_n 0, 1) := dk_42 (dk_at dksX8_lay_0 22 rfl rfl)
theorem dX8_lay_23 : decode cX8_lay 23 = .ok (.getfield 131, 3) := dk_180 0 131 (dk_at dksX8_lay_1 0 rfl rfl)
theorem dX8_lay_26 : decode cX8_lay 26 = .ok (.getfield 277, 3) := dk_180 1 21 (dk_at dksX8_lay_1 3 rfl rfl)
theorem dX8_lay_29 : decode cX8_lay 29 = .ok (.ifCond .ne 18, 3) := dk_154 0 18 (dk_at dksX8_lay_1 6 rfl rfl)
theorem dX8_lay_32 : decode cX8_lay 32 = .ok (.aload_n 0, 1) := dk_42 (dk_at dksX8_lay_1 9 rfl rfl)
theorem dX8_lay_33 : decode cX8_lay 33 = .ok (.getfield 155, 3) := dk_180 0 155 (dk_at dksX8_lay_1 10 rfl rfl)
theorem dX8_lay_36 : decode cX8_lay 36 = .ok (.aload_n 0, 1) := dk_42 (dk_at dksX8_lay_1 13 rfl rfl)
theorem dX8_lay_37 : decode cX8_lay 37 = .ok (.getfield 131, 3) := dk_180 0 131 (dk_at dksX8_lay_1 14 rfl rfl)
theorem dX8_lay_40 : decode cX8_lay 40 = .ok (.getfield 185, 3) := dk_180 0 185 (dk_at dksX8_lay_1 17 rfl rfl)
theorem dX8_lay_43 : decode cX8_lay 43 = .ok (.idiv, 1) := dk_108 (dk_at dksX8_lay_1 20 rfl rfl)
theorem dX8_lay_44 : decode cX8_lay 44 = .ok (.goto 19, 3) := dk_167 0 19 (dk_at dksX8_lay_1 21 rfl rfl)
theorem dX8_lay_47 : decode cX8_lay 47 = .ok (.aload_n 0, 1) := dk_42 (dk_at dksX8_lay_2 0 rfl rfl)
theorem dX8_lay_48 : decode cX8_lay 48 = .ok (.getfield 155, 3) := dk_180 0 155 (dk_at dksX8_lay_2 1 rfl rfl)
theorem dX8_lay_51 : decode cX8_lay 51 = .ok (.aload_n 0, 1) := dk_42 (dk_at dksX8_lay_2 4 rfl rfl)
theorem dX8_lay_52 : decode cX8_lay 52 = .ok (.getfield 131, 3) := dk_180 0 131 (dk_at dksX8_lay_2 5 rfl rfl)
theorem dX8_lay_55 : decode cX8_lay 55 = .ok (.getfield 185, 3) := dk_180 0 185 (dk_at dksX8_lay_2 8 rfl rfl)
theorem dX8_lay_58 : decode cX8_lay 58 = .ok (.iconst 1, 1) := dk_4 (dk_at dksX8_lay_2 11 rfl rfl)
theorem dX8_lay_59 : decode cX8_lay 59 = .ok (.iadd, 1) := dk_96 (dk_at dksX8_lay_2 12 rfl rfl)
theorem dX8_lay_60 : decode cX8_lay 60 = .ok (.idiv, 1) := dk_108 (dk_at dksX8_lay_2 13 rfl rfl)
theorem dX8_lay_61 : decode cX8_lay 61 = .ok (.iconst 1, 1) := dk_4 (dk_at dksX8_lay_2 14 rfl rfl)
theorem dX8_lay_62 : decode cX8_lay 62 = .ok (.iadd, 1) := dk_96 (dk_at dksX8_lay_2 15 rfl rfl)
theorem dX8_lay_63 : decode cX8_lay 63 = .ok (.i2l, 1) := dk_133 (dk_at dksX8_lay_2 16 rfl rfl)
theorem dX8_lay_64 : decode cX8_lay 64 = .ok (.lmul, 1) := dk_105 (dk_at dksX8_lay_2 17 rfl rfl)
theorem dX8_lay_65 : decode cX8_lay 65 = .ok (.putfield 280, 3) := dk_181 1 24 (dk_at dksX8_lay_2 18 rfl rfl)
theorem dX8_lay_68 : decode cX8_lay 68 = .ok (.aload_n 0, 1) := dk_42 (dk_at dksX8_lay_2 21 rfl rfl)
theorem dX8_lay_69 : decode cX8_lay 69 = .ok (.aload_n 0, 1) := dk_42 (dk_at dksX8_lay_2 22 rfl rfl)
theorem dX8_lay_70 : decode cX8_lay 70 = .ok (.getfield 139, 3) := dk_180 0 139 (dk_at dksX8_lay_3 0 rfl rfl)
theorem dX8_lay_73 : decode cX8_lay 73 = .ok (.i2l, 1) := dk_133 (dk_at dksX8_lay_3 3 rfl rfl)
theorem dX8_lay_74 : decode cX8_lay 74 = .ok (.putfield 284, 3) := dk_181 1 28 (dk_at dksX8_lay_3 4 rfl rfl)
theorem dX8_lay_77 : decode cX8_lay 77 = .ok (.aload_n 0, 1) := dk_42 (dk_at dksX8_lay_3 7 rfl rfl)
theorem dX8_lay_78 : decode cX8_lay 78 = .ok (.invokevirtual 239, 3) := dk_182 0 239 (dk_at dksX8_lay_3 8 rfl rfl)
theorem dX8_lay_81 : decode cX8_lay 81 = .ok (.iconst 0, 1) := dk_3 (dk_at dksX8_lay_3 11 rfl rfl)
theorem dX8_lay_82 : decode cX8_lay 82 = .ok (.istore_n 3, 1) := dk_62 (dk_at dksX8_lay_3 12 rfl rfl)
theorem dX8_lay_83 : decode cX8_lay 83 = .ok (.iload_n 3, 1) := dk_29 (dk_at dksX8_lay_3 13 rfl rfl)
theorem dX8_lay_84 : decode cX8_lay 84 = .ok (.aload_n 0, 1) := dk_42 (dk_at dksX8_lay_3 14 rfl rfl)
theorem dX8_lay_85 : decode cX8_lay 85 = .ok (.getfield 155, 3) := dk_180 0 155 (dk_at dksX8_lay_3 15 rfl rfl)
theorem dX8_lay_88 : decode cX8_lay 88 = .ok (.if_icmp .ge 27, 3) := dk_162 0 27 (dk_at dksX8_lay_3 18 rfl rfl)
theorem dX8_lay_91 : decode cX8_lay 91 = .ok (.aload_n 0, 1) := dk_42 (dk_at dksX8_lay_3 21 rfl rfl)
theorem dX8_lay_92 : decode cX8_lay 92 = .ok (.getfield 66, 3) := dk_180 0 66 (dk_at dksX8_lay_4 0 rfl rfl)
theorem dX8_lay_95 : decode cX8_lay 95 = .ok (.iload_n 3, 1) := dk_29 (dk_at dksX8_lay_4 3 rfl rfl)
theorem dX8_lay_96 : decode cX8_lay 96 = .ok (.lload_n 1, 1) := dk_31 (dk_at dksX8_lay_4 4 rfl rfl)
theorem dX8_lay_97 : decode cX8_lay 97 = .ok (.lastore, 1) := dk_80 (dk_at dksX8_lay_4 5 rfl rfl)
theorem dX8_lay_98 : decode cX8_lay 98 = .ok (.aload_n 0, 1) := dk_42 (dk_at dksX8_lay_4 6 rfl rfl)
theorem dX8_lay_99 : decode cX8_lay 99 = .ok (.getfield 69, 3) := dk_180 0 69 (dk_at dksX8_lay_4 7 rfl rfl)
theorem dX8_lay_102 : decode cX8_lay 102 = .ok (.iload_n 3, 1) := dk_29 (dk_at dksX8_lay_4 10 rfl rfl)
theorem dX8_lay_103 : decode cX8_lay 103 = .ok (.aload_n 0, 1) := dk_42 (dk_at dksX8_lay_4 11 rfl rfl)
theorem dX8_lay_104 : decode cX8_lay 104 = .ok (.iload_n 3, 1) := dk_29 (dk_at dksX8_lay_4 12 rfl rfl)
theorem dX8_lay_105 : decode cX8_lay 105 = .ok (.invokevirtual 263, 3) := dk_182 1 7 (dk_at dksX8_lay_4 13 rfl rfl)
theorem dX8_lay_108 : decode cX8_lay 108 = .ok (.iastore, 1) := dk_79 (dk_at dksX8_lay_4 16 rfl rfl)
theorem dX8_lay_109 : decode cX8_lay 109 = .ok (.iinc 3 1, 3) := dk_132 3 1 (dk_at dksX8_lay_4 17 rfl rfl)
theorem dX8_lay_112 : decode cX8_lay 112 = .ok (.goto (-29), 3) := dk_167 255 227 (dk_at dksX8_lay_4 20 rfl rfl)
theorem dX8_lay_115 : decode cX8_lay 115 = .ok (.aload_n 0, 1) := dk_42 (dk_at dksX8_lay_4 23 rfl rfl)
theorem dX8_lay_116 : decode cX8_lay 116 = .ok (.getfield 72, 3) := dk_180 0 72 (dk_at dksX8_lay_5 0 rfl rfl)
theorem dX8_lay_119 : decode cX8_lay 119 = .ok (.iconst 0, 1) := dk_3 (dk_at dksX8_lay_5 3 rfl rfl)
theorem dX8_lay_120 : decode cX8_lay 120 = .ok (.invokestatic 287, 3) := dk_184 1 31 (dk_at dksX8_lay_5 4 rfl rfl)
theorem dX8_lay_123 : decode cX8_lay 123 = .ok (.return_, 1) := dk_177 (dk_at dksX8_lay_5 7 rfl rfl)
abbrev cX8_weigh : ByteArray := prog_5_method_31_code
def yX8_weigh : MethodName := ⟨RX8, "weigh", "()V"⟩
def dkwX8_weigh_3 : List UInt8 := [47, 42, 180, 0, 66, 27, 47, 97, 80, 132, 1, 1, 167, 255, 215, 177]
abbrev dktX8_weigh_3 : List UInt8 := dkwX8_weigh_3 ++ []
def dkwX8_weigh_2 : List UInt8 := [162, 0, 39, 42, 180, 0, 69, 27, 46, 2, 159, 0, 23, 42, 180, 0, 33, 42, 180, 0, 69, 27, 46, 92]
abbrev dktX8_weigh_2 : List UInt8 := dkwX8_weigh_2 ++ dktX8_weigh_3
def dkwX8_weigh_1 : List UInt8 := [42, 180, 1, 24, 167, 0, 4, 9, 80, 132, 1, 1, 167, 255, 222, 3, 60, 27, 42, 180, 0, 155]
abbrev dktX8_weigh_1 : List UInt8 := dkwX8_weigh_1 ++ dktX8_weigh_2
def dkwX8_weigh_0 : List UInt8 := [3, 60, 27, 42, 180, 0, 148, 162, 0, 32, 42, 180, 0, 33, 27, 42, 180, 0, 72, 27, 51, 153, 0, 10]
abbrev dktX8_weigh_0 : List UInt8 := dkwX8_weigh_0 ++ dktX8_weigh_1
theorem dksX8_weigh_0 : cX8_weigh.data.toList.drop 0 = dktX8_weigh_0 := by decide +kernel
theorem dksX8_weigh_1 : cX8_weigh.data.toList.drop 24 = dktX8_weigh_1 := dk_seg dksX8_weigh_0 24 rfl rfl
theorem dksX8_weigh_2 : cX8_weigh.data.toList.drop 46 = dktX8_weigh_2 := dk_seg dksX8_weigh_1 22 rfl rfl
theorem dksX8_weigh_3 : cX8_weigh.data.toList.drop 70 = dktX8_weigh_3 := dk_seg dksX8_weigh_2 24 rfl rfl
theorem dX8_weigh_0 : decode cX8_weigh 0 = .ok (.iconst 0, 1) := dk_3 (dk_at dksX8_weigh_0 0 rfl rfl)
theorem dX8_weigh_1 : decode cX8_weigh 1 = .ok (.istore_n 1, 1) := dk_60 (dk_at dksX8_weigh_0 1 rfl rfl)
theorem dX8_weigh_2 : decode cX8_weigh 2 = .ok (.iload_n 1, 1) := dk_27 (dk_at dksX8_weigh_0 2 rfl rfl)
theorem dX8_weigh_3 : decode cX8_weigh 3 = .ok (.aload_n 0, 1) := dk_42 (dk_at dksX8_weigh_0 3 rfl rfl)
theorem dX8_weigh_4 : decode cX8_weigh 4 = .ok (.getfield 148, 3) := dk_180 0 148 (dk_at dksX8_weigh_0 4 rfl rfl)
theorem dX8_weigh_7 : decode cX8_weigh 7 = .ok (.if_icmp .ge 32, 3) := dk_162 0 32 (dk_at dksX8_weigh_0 7 rfl rfl)
theorem dX8_weigh_10 : decode cX8_weigh 10 = .ok (.aload_n 0, 1) := dk_42 (dk_at dksX8_weigh_0 10 rfl rfl)
theorem dX8_weigh_11 : decode cX8_weigh 11 = .ok (.getfield 33, 3) := dk_180 0 33 (dk_at dksX8_weigh_0 11 rfl rfl)
theorem dX8_weigh_14 : decode cX8_weigh 14 = .ok (.iload_n 1, 1) := dk_27 (dk_at dksX8_weigh_0 14 rfl rfl)
theorem dX8_weigh_15 : decode cX8_weigh 15 = .ok (.aload_n 0, 1) := dk_42 (dk_at dksX8_weigh_0 15 rfl rfl)
theorem dX8_weigh_16 : decode cX8_weigh 16 = .ok (.getfield 72, 3) := dk_180 0 72 (dk_at dksX8_weigh_0 16 rfl rfl)
theorem dX8_weigh_19 : decode cX8_weigh 19 = .ok (.iload_n 1, 1) := dk_27 (dk_at dksX8_weigh_0 19 rfl rfl)
theorem dX8_weigh_20 : decode cX8_weigh 20 = .ok (.baload, 1) := dk_51 (dk_at dksX8_weigh_0 20 rfl rfl)
theorem dX8_weigh_21 : decode cX8_weigh 21 = .ok (.ifCond .eq 10, 3) := dk_153 0 10 (dk_at dksX8_weigh_0 21 rfl rfl)
theorem dX8_weigh_24 : decode cX8_weigh 24 = .ok (.aload_n 0, 1) := dk_42 (dk_at dksX8_weigh_1 0 rfl rfl)
theorem dX8_weigh_25 : decode cX8_weigh 25 = .ok (.getfield 280, 3) := dk_180 1 24 (dk_at dksX8_weigh_1 1 rfl rfl)
theorem dX8_weigh_28 : decode cX8_weigh 28 = .ok (.goto 4, 3) := dk_167 0 4 (dk_at dksX8_weigh_1 4 rfl rfl)
theorem dX8_weigh_31 : decode cX8_weigh 31 = .ok (.lconst 0, 1) := dk_9 (dk_at dksX8_weigh_1 7 rfl rfl)
theorem dX8_weigh_32 : decode cX8_weigh 32 = .ok (.lastore, 1) := dk_80 (dk_at dksX8_weigh_1 8 rfl rfl)
theorem dX8_weigh_33 : decode cX8_weigh 33 = .ok (.iinc 1 1, 3) := dk_132 1 1 (dk_at dksX8_weigh_1 9 rfl rfl)
theorem dX8_weigh_36 : decode cX8_weigh 36 = .ok (.goto (-34), 3) := dk_167 255 222 (dk_at dksX8_weigh_1 12 rfl rfl)
theorem dX8_weigh_39 : decode cX8_weigh 39 = .ok (.iconst 0, 1) := dk_3 (dk_at dksX8_weigh_1 15 rfl rfl)
theorem dX8_weigh_40 : decode cX8_weigh 40 = .ok (.istore_n 1, 1) := dk_60 (dk_at dksX8_weigh_1 16 rfl rfl)
theorem dX8_weigh_41 : decode cX8_weigh 41 = .ok (.iload_n 1, 1) := dk_27 (dk_at dksX8_weigh_1 17 rfl rfl)
theorem dX8_weigh_42 : decode cX8_weigh 42 = .ok (.aload_n 0, 1) := dk_42 (dk_at dksX8_weigh_1 18 rfl rfl)
theorem dX8_weigh_43 : decode cX8_weigh 43 = .ok (.getfield 155, 3) := dk_180 0 155 (dk_at dksX8_weigh_1 19 rfl rfl)
theorem dX8_weigh_46 : decode cX8_weigh 46 = .ok (.if_icmp .ge 39, 3) := dk_162 0 39 (dk_at dksX8_weigh_2 0 rfl rfl)
theorem dX8_weigh_49 : decode cX8_weigh 49 = .ok (.aload_n 0, 1) := dk_42 (dk_at dksX8_weigh_2 3 rfl rfl)
theorem dX8_weigh_50 : decode cX8_weigh 50 = .ok (.getfield 69, 3) := dk_180 0 69 (dk_at dksX8_weigh_2 4 rfl rfl)
theorem dX8_weigh_53 : decode cX8_weigh 53 = .ok (.iload_n 1, 1) := dk_27 (dk_at dksX8_weigh_2 7 rfl rfl)
theorem dX8_weigh_54 : decode cX8_weigh 54 = .ok (.iaload, 1) := dk_46 (dk_at dksX8_weigh_2 8 rfl rfl)
theorem dX8_weigh_55 : decode cX8_weigh 55 = .ok (.iconst (-1), 1) := dk_2 (dk_at dksX8_weigh_2 9 rfl rfl)
theorem dX8_weigh_56 : decode cX8_weigh 56 = .ok (.if_icmp .eq 23, 3) := dk_159 0 23 (dk_at dksX8_weigh_2 10 rfl rfl)
theorem dX8_weigh_59 : decode cX8_weigh 59 = .ok (.aload_n 0, 1) := dk_42 (dk_at dksX8_weigh_2 13 rfl rfl)
theorem dX8_weigh_60 : decode cX8_weigh 60 = .ok (.getfield 33, 3) := dk_180 0 33 (dk_at dksX8_weigh_2 14 rfl rfl)
theorem dX8_weigh_63 : decode cX8_weigh 63 = .ok (.aload_n 0, 1) := dk_42 (dk_at dksX8_weigh_2 17 rfl rfl)
theorem dX8_weigh_64 : decode cX8_weigh 64 = .ok (.getfield 69, 3) := dk_180 0 69 (dk_at dksX8_weigh_2 18 rfl rfl)
theorem dX8_weigh_67 : decode cX8_weigh 67 = .ok (.iload_n 1, 1) := dk_27 (dk_at dksX8_weigh_2 21 rfl rfl)
theorem dX8_weigh_68 : decode cX8_weigh 68 = .ok (.iaload, 1) := dk_46 (dk_at dksX8_weigh_2 22 rfl rfl)
theorem dX8_weigh_69 : decode cX8_weigh 69 = .ok (.dup2, 1) := dk_92 (dk_at dksX8_weigh_2 23 rfl rfl)
theorem dX8_weigh_70 : decode cX8_weigh 70 = .ok (.laload, 1) := dk_47 (dk_at dksX8_weigh_3 0 rfl rfl)
theorem dX8_weigh_71 : decode cX8_weigh 71 = .ok (.aload_n 0, 1) := dk_42 (dk_at dksX8_weigh_3 1 rfl rfl)
theorem dX8_weigh_72 : decode cX8_weigh 72 = .ok (.getfield 66, 3) := dk_180 0 66 (dk_at dksX8_weigh_3 2 rfl rfl)
theorem dX8_weigh_75 : decode cX8_weigh 75 = .ok (.iload_n 1, 1) := dk_27 (dk_at dksX8_weigh_3 5 rfl rfl)
theorem dX8_weigh_76 : decode cX8_weigh 76 = .ok (.laload, 1) := dk_47 (dk_at dksX8_weigh_3 6 rfl rfl)
theorem dX8_weigh_77 : decode cX8_weigh 77 = .ok (.ladd, 1) := dk_97 (dk_at dksX8_weigh_3 7 rfl rfl)
theorem dX8_weigh_78 : decode cX8_weigh 78 = .ok (.lastore, 1) := dk_80 (dk_at dksX8_weigh_3 8 rfl rfl)
theorem dX8_weigh_79 : decode cX8_weigh 79 = .ok (.iinc 1 1, 3) := dk_132 1 1 (dk_at dksX8_weigh_3 9 rfl rfl)
theorem dX8_weigh_82 : decode cX8_weigh 82 = .ok (.goto (-41), 3) := dk_167 255 215 (dk_at dksX8_weigh_3 12 rfl rfl)
theorem dX8_weigh_85 : decode cX8_weigh 85 = .ok (.return_, 1) := dk_177 (dk_at dksX8_weigh_3 15 rfl rfl)
abbrev cX8_richest : ByteArray := prog_5_method_32_code
def yX8_richest : MethodName := ⟨RX8, "richest", "()I"⟩
def dkwX8_richest_3 : List UInt8 := [172]
abbrev dktX8_richest_3 : List UInt8 := dkwX8_richest_3 ++ []
def dkwX8_richest_2 : List UInt8 := [180, 0, 33, 29, 47, 42, 180, 0, 33, 27, 47, 148, 158, 0, 5, 29, 60, 132, 2, 1, 167, 255, 192, 27]
abbrev dktX8_richest_2 : List UInt8 := dkwX8_richest_2 ++ dktX8_richest_3
def dkwX8_richest_1 : List UInt8 := [51, 154, 0, 40, 42, 180, 0, 33, 29, 47, 42, 180, 1, 24, 148, 158, 0, 26, 27, 2, 159, 0, 19, 42]
abbrev dktX8_richest_1 : List UInt8 := dkwX8_richest_1 ++ dktX8_richest_2
def dkwX8_richest_0 : List UInt8 := [2, 60, 3, 61, 28, 42, 180, 0, 167, 162, 0, 62, 42, 180, 0, 48, 28, 46, 62, 42, 180, 0, 72, 29]
abbrev dktX8_richest_0 : List UInt8 := dkwX8_richest_0 ++ dktX8_richest_1
theorem dksX8_richest_0 : cX8_richest.data.toList.drop 0 = dktX8_richest_0 := by decide +kernel
theorem dksX8_richest_1 : cX8_richest.data.toList.drop 24 = dktX8_richest_1 := dk_seg dksX8_richest_0 24 rfl rfl
theorem dksX8_richest_2 : cX8_richest.data.toList.drop 48 = dktX8_richest_2 := dk_seg dksX8_richest_1 24 rfl rfl
theorem dksX8_richest_3 : cX8_richest.data.toList.drop 72 = dktX8_richest_3 := dk_seg dksX8_richest_2 24 rfl rfl
theorem dX8_richest_0 : decode cX8_richest 0 = .ok (.iconst (-1), 1) := dk_2 (dk_at dksX8_richest_0 0 rfl rfl)
theorem dX8_richest_1 : decode cX8_richest 1 = .ok (.istore_n 1, 1) := dk_60 (dk_at dksX8_richest_0 1 rfl rfl)
theorem dX8_richest_2 : decode cX8_richest 2 = .ok (.iconst 0, 1) := dk_3 (dk_at dksX8_richest_0 2 rfl rfl)
theorem dX8_richest_3 : decode cX8_richest 3 = .ok (.istore_n 2, 1) := dk_61 (dk_at dksX8_richest_0 3 rfl rfl)
theorem dX8_richest_4 : decode cX8_richest 4 = .ok (.iload_n 2, 1) := dk_28 (dk_at dksX8_richest_0 4 rfl rfl)
theorem dX8_richest_5 : decode cX8_richest 5 = .ok (.aload_n 0, 1) := dk_42 (dk_at dksX8_richest_0 5 rfl rfl)
theorem dX8_richest_6 : decode cX8_richest 6 = .ok (.getfield 167, 3) := dk_180 0 167 (dk_at dksX8_richest_0 6 rfl rfl)
theorem dX8_richest_9 : decode cX8_richest 9 = .ok (.if_icmp .ge 62, 3) := dk_162 0 62 (dk_at dksX8_richest_0 9 rfl rfl)
theorem dX8_richest_12 : decode cX8_richest 12 = .ok (.aload_n 0, 1) := dk_42 (dk_at dksX8_richest_0 12 rfl rfl)
theorem dX8_richest_13 : decode cX8_richest 13 = .ok (.getfield 48, 3) := dk_180 0 48 (dk_at dksX8_richest_0 13 rfl rfl)
theorem dX8_richest_16 : decode cX8_richest 16 = .ok (.iload_n 2, 1) := dk_28 (dk_at dksX8_richest_0 16 rfl rfl)
theorem dX8_richest_17 : decode cX8_richest 17 = .ok (.iaload, 1) := dk_46 (dk_at dksX8_richest_0 17 rfl rfl)
theorem dX8_richest_18 : decode cX8_richest 18 = .ok (.istore_n 3, 1) := dk_62 (dk_at dksX8_richest_0 18 rfl rfl)
theorem dX8_richest_19 : decode cX8_richest 19 = .ok (.aload_n 0, 1) := dk_42 (dk_at dksX8_richest_0 19 rfl rfl)
theorem dX8_richest_20 : decode cX8_richest 20 = .ok (.getfield 72, 3) := dk_180 0 72 (dk_at dksX8_richest_0 20 rfl rfl)
theorem dX8_richest_23 : decode cX8_richest 23 = .ok (.iload_n 3, 1) := dk_29 (dk_at dksX8_richest_0 23 rfl rfl)
theorem dX8_richest_24 : decode cX8_richest 24 = .ok (.baload, 1) := dk_51 (dk_at dksX8_richest_1 0 rfl rfl)
theorem dX8_richest_25 : decode cX8_richest 25 = .ok (.ifCond .ne 40, 3) := dk_154 0 40 (dk_at dksX8_richest_1 1 rfl rfl)
theorem dX8_richest_28 : decode cX8_richest 28 = .ok (.aload_n 0, 1) := dk_42 (dk_at dksX8_richest_1 4 rfl rfl)
theorem dX8_richest_29 : decode cX8_richest 29 = .ok (.getfield 33, 3) := dk_180 0 33 (dk_at dksX8_richest_1 5 rfl rfl)
theorem dX8_richest_32 : decode cX8_richest 32 = .ok (.iload_n 3, 1) := dk_29 (dk_at dksX8_richest_1 8 rfl rfl)
theorem dX8_richest_33 : decode cX8_richest 33 = .ok (.laload, 1) := dk_47 (dk_at dksX8_richest_1 9 rfl rfl)
theorem dX8_richest_34 : decode cX8_richest 34 = .ok (.aload_n 0, 1) := dk_42 (dk_at dksX8_richest_1 10 rfl rfl)
theorem dX8_richest_35 : decode cX8_richest 35 = .ok (.getfield 280, 3) := dk_180 1 24 (dk_at dksX8_richest_1 11 rfl rfl)
theorem dX8_richest_38 : decode cX8_richest 38 = .ok (.lcmp, 1) := dk_148 (dk_at dksX8_richest_1 14 rfl rfl)
theorem dX8_richest_39 : decode cX8_richest 39 = .ok (.ifCond .le 26, 3) := dk_158 0 26 (dk_at dksX8_richest_1 15 rfl rfl)
theorem dX8_richest_42 : decode cX8_richest 42 = .ok (.iload_n 1, 1) := dk_27 (dk_at dksX8_richest_1 18 rfl rfl)
theorem dX8_richest_43 : decode cX8_richest 43 = .ok (.iconst (-1), 1) := dk_2 (dk_at dksX8_richest_1 19 rfl rfl)
theorem dX8_richest_44 : decode cX8_richest 44 = .ok (.if_icmp .eq 19, 3) := dk_159 0 19 (dk_at dksX8_richest_1 20 rfl rfl)
theorem dX8_richest_47 : decode cX8_richest 47 = .ok (.aload_n 0, 1) := dk_42 (dk_at dksX8_richest_1 23 rfl rfl)
theorem dX8_richest_48 : decode cX8_richest 48 = .ok (.getfield 33, 3) := dk_180 0 33 (dk_at dksX8_richest_2 0 rfl rfl)
theorem dX8_richest_51 : decode cX8_richest 51 = .ok (.iload_n 3, 1) := dk_29 (dk_at dksX8_richest_2 3 rfl rfl)
theorem dX8_richest_52 : decode cX8_richest 52 = .ok (.laload, 1) := dk_47 (dk_at dksX8_richest_2 4 rfl rfl)
theorem dX8_richest_53 : decode cX8_richest 53 = .ok (.aload_n 0, 1) := dk_42 (dk_at dksX8_richest_2 5 rfl rfl)
theorem dX8_richest_54 : decode cX8_richest 54 = .ok (.getfield 33, 3) := dk_180 0 33 (dk_at dksX8_richest_2 6 rfl rfl)
theorem dX8_richest_57 : decode cX8_richest 57 = .ok (.iload_n 1, 1) := dk_27 (dk_at dksX8_richest_2 9 rfl rfl)
theorem dX8_richest_58 : decode cX8_richest 58 = .ok (.laload, 1) := dk_47 (dk_at dksX8_richest_2 10 rfl rfl)
theorem dX8_richest_59 : decode cX8_richest 59 = .ok (.lcmp, 1) := dk_148 (dk_at dksX8_richest_2 11 rfl rfl)
theorem dX8_richest_60 : decode cX8_richest 60 = .ok (.ifCond .le 5, 3) := dk_158 0 5 (dk_at dksX8_richest_2 12 rfl rfl)
theorem dX8_richest_63 : decode cX8_richest 63 = .ok (.iload_n 3, 1) := dk_29 (dk_at dksX8_richest_2 15 rfl rfl)
theorem dX8_richest_64 : decode cX8_richest 64 = .ok (.istore_n 1, 1) := dk_60 (dk_at dksX8_richest_2 16 rfl rfl)
theorem dX8_richest_65 : decode cX8_richest 65 = .ok (.iinc 2 1, 3) := dk_132 2 1 (dk_at dksX8_richest_2 17 rfl rfl)
theorem dX8_richest_68 : decode cX8_richest 68 = .ok (.goto (-64), 3) := dk_167 255 192 (dk_at dksX8_richest_2 20 rfl rfl)
theorem dX8_richest_71 : decode cX8_richest 71 = .ok (.iload_n 1, 1) := dk_27 (dk_at dksX8_richest_2 23 rfl rfl)
theorem dX8_richest_72 : decode cX8_richest 72 = .ok (.ireturn, 1) := dk_172 (dk_at dksX8_richest_3 0 rfl rfl)
abbrev cX8_give : ByteArray := prog_5_method_35_code
def yX8_give : MethodName := ⟨RX8, "give", "(I)V"⟩
def dkwX8_give_3 : List UInt8 := [79, 132, 2, 1, 167, 255, 219, 42, 180, 0, 72, 27, 4, 84, 177]
abbrev dktX8_give_3 : List UInt8 := dkwX8_give_3 ++ []
def dkwX8_give_2 : List UInt8 := [180, 0, 69, 28, 42, 180, 0, 69, 28, 46, 27, 160, 0, 7, 2, 167, 0, 9, 42, 180, 0, 69, 28, 46]
abbrev dktX8_give_2 : List UInt8 := dkwX8_give_2 ++ dktX8_give_3
def dkwX8_give_1 : List UInt8 := [180, 0, 72, 27, 4, 84, 177, 42, 27, 182, 1, 45, 3, 61, 28, 42, 180, 0, 155, 162, 0, 35, 42]
abbrev dktX8_give_1 : List UInt8 := dkwX8_give_1 ++ dktX8_give_2
def dkwX8_give_0 : List UInt8 := [42, 4, 27, 182, 0, 235, 42, 180, 0, 131, 180, 0, 180, 16, 12, 160, 0, 16, 42, 27, 182, 1, 42, 42]
abbrev dktX8_give_0 : List UInt8 := dkwX8_give_0 ++ dktX8_give_1
theorem dksX8_give_0 : cX8_give.data.toList.drop 0 = dktX8_give_0 := by decide +kernel
theorem dksX8_give_1 : cX8_give.data.toList.drop 24 = dktX8_give_1 := dk_seg dksX8_give_0 24 rfl rfl
theorem dksX8_give_2 : cX8_give.data.toList.drop 47 = dktX8_give_2 := dk_seg dksX8_give_1 23 rfl rfl
theorem dksX8_give_3 : cX8_give.data.toList.drop 71 = dktX8_give_3 := dk_seg dksX8_give_2 24 rfl rfl
theorem dX8_give_0 : decode cX8_give 0 = .ok (.aload_n 0, 1) := dk_42 (dk_at dksX8_give_0 0 rfl rfl)
theorem dX8_give_1 : decode cX8_give 1 = .ok (.iconst 1, 1) := dk_4 (dk_at dksX8_give_0 1 rfl rfl)
theorem dX8_give_2 : decode cX8_give 2 = .ok (.iload_n 1, 1) := dk_27 (dk_at dksX8_give_0 2 rfl rfl)
theorem dX8_give_3 : decode cX8_give 3 = .ok (.invokevirtual 235, 3) := dk_182 0 235 (dk_at dksX8_give_0 3 rfl rfl)
theorem dX8_give_6 : decode cX8_give 6 = .ok (.aload_n 0, 1) := dk_42 (dk_at dksX8_give_0 6 rfl rfl)
theorem dX8_give_7 : decode cX8_give 7 = .ok (.getfield 131, 3) := dk_180 0 131 (dk_at dksX8_give_0 7 rfl rfl)
theorem dX8_give_10 : decode cX8_give 10 = .ok (.getfield 180, 3) := dk_180 0 180 (dk_at dksX8_give_0 10 rfl rfl)
theorem dX8_give_13 : decode cX8_give 13 = .ok (.bipush 12, 2) := dk_16 12 (dk_at dksX8_give_0 13 rfl rfl)
theorem dX8_give_15 : decode cX8_give 15 = .ok (.if_icmp .ne 16, 3) := dk_160 0 16 (dk_at dksX8_give_0 15 rfl rfl)
theorem dX8_give_18 : decode cX8_give 18 = .ok (.aload_n 0, 1) := dk_42 (dk_at dksX8_give_0 18 rfl rfl)
theorem dX8_give_19 : decode cX8_give 19 = .ok (.iload_n 1, 1) := dk_27 (dk_at dksX8_give_0 19 rfl rfl)
theorem dX8_give_20 : decode cX8_give 20 = .ok (.invokevirtual 298, 3) := dk_182 1 42 (dk_at dksX8_give_0 20 rfl rfl)
theorem dX8_give_23 : decode cX8_give 23 = .ok (.aload_n 0, 1) := dk_42 (dk_at dksX8_give_0 23 rfl rfl)
theorem dX8_give_24 : decode cX8_give 24 = .ok (.getfield 72, 3) := dk_180 0 72 (dk_at dksX8_give_1 0 rfl rfl)
theorem dX8_give_27 : decode cX8_give 27 = .ok (.iload_n 1, 1) := dk_27 (dk_at dksX8_give_1 3 rfl rfl)
theorem dX8_give_28 : decode cX8_give 28 = .ok (.iconst 1, 1) := dk_4 (dk_at dksX8_give_1 4 rfl rfl)
theorem dX8_give_29 : decode cX8_give 29 = .ok (.bastore, 1) := dk_84 (dk_at dksX8_give_1 5 rfl rfl)
theorem dX8_give_30 : decode cX8_give 30 = .ok (.return_, 1) := dk_177 (dk_at dksX8_give_1 6 rfl rfl)
theorem dX8_give_31 : decode cX8_give 31 = .ok (.aload_n 0, 1) := dk_42 (dk_at dksX8_give_1 7 rfl rfl)
theorem dX8_give_32 : decode cX8_give 32 = .ok (.iload_n 1, 1) := dk_27 (dk_at dksX8_give_1 8 rfl rfl)
theorem dX8_give_33 : decode cX8_give 33 = .ok (.invokevirtual 301, 3) := dk_182 1 45 (dk_at dksX8_give_1 9 rfl rfl)
theorem dX8_give_36 : decode cX8_give 36 = .ok (.iconst 0, 1) := dk_3 (dk_at dksX8_give_1 12 rfl rfl)
theorem dX8_give_37 : decode cX8_give 37 = .ok (.istore_n 2, 1) := dk_61 (dk_at dksX8_give_1 13 rfl rfl)
theorem dX8_give_38 : decode cX8_give 38 = .ok (.iload_n 2, 1) := dk_28 (dk_at dksX8_give_1 14 rfl rfl)
theorem dX8_give_39 : decode cX8_give 39 = .ok (.aload_n 0, 1) := dk_42 (dk_at dksX8_give_1 15 rfl rfl)
theorem dX8_give_40 : decode cX8_give 40 = .ok (.getfield 155, 3) := dk_180 0 155 (dk_at dksX8_give_1 16 rfl rfl)
theorem dX8_give_43 : decode cX8_give 43 = .ok (.if_icmp .ge 35, 3) := dk_162 0 35 (dk_at dksX8_give_1 19 rfl rfl)
theorem dX8_give_46 : decode cX8_give 46 = .ok (.aload_n 0, 1) := dk_42 (dk_at dksX8_give_1 22 rfl rfl)
theorem dX8_give_47 : decode cX8_give 47 = .ok (.getfield 69, 3) := dk_180 0 69 (dk_at dksX8_give_2 0 rfl rfl)
theorem dX8_give_50 : decode cX8_give 50 = .ok (.iload_n 2, 1) := dk_28 (dk_at dksX8_give_2 3 rfl rfl)
theorem dX8_give_51 : decode cX8_give 51 = .ok (.aload_n 0, 1) := dk_42 (dk_at dksX8_give_2 4 rfl rfl)
theorem dX8_give_52 : decode cX8_give 52 = .ok (.getfield 69, 3) := dk_180 0 69 (dk_at dksX8_give_2 5 rfl rfl)
theorem dX8_give_55 : decode cX8_give 55 = .ok (.iload_n 2, 1) := dk_28 (dk_at dksX8_give_2 8 rfl rfl)
theorem dX8_give_56 : decode cX8_give 56 = .ok (.iaload, 1) := dk_46 (dk_at dksX8_give_2 9 rfl rfl)
theorem dX8_give_57 : decode cX8_give 57 = .ok (.iload_n 1, 1) := dk_27 (dk_at dksX8_give_2 10 rfl rfl)
theorem dX8_give_58 : decode cX8_give 58 = .ok (.if_icmp .ne 7, 3) := dk_160 0 7 (dk_at dksX8_give_2 11 rfl rfl)
theorem dX8_give_61 : decode cX8_give 61 = .ok (.iconst (-1), 1) := dk_2 (dk_at dksX8_give_2 14 rfl rfl)
theorem dX8_give_62 : decode cX8_give 62 = .ok (.goto 9, 3) := dk_167 0 9 (dk_at dksX8_give_2 15 rfl rfl)
theorem dX8_give_65 : decode cX8_give 65 = .ok (.aload_n 0, 1) := dk_42 (dk_at dksX8_give_2 18 rfl rfl)
theorem dX8_give_66 : decode cX8_give 66 = .ok (.getfield 69, 3) := dk_180 0 69 (dk_at dksX8_give_2 19 rfl rfl)
theorem dX8_give_69 : decode cX8_give 69 = .ok (.iload_n 2, 1) := dk_28 (dk_at dksX8_give_2 22 rfl rfl)
theorem dX8_give_70 : decode cX8_give 70 = .ok (.iaload, 1) := dk_46 (dk_at dksX8_give_2 23 rfl rfl)
theorem dX8_give_71 : decode cX8_give 71 = .ok (.iastore, 1) := dk_79 (dk_at dksX8_give_3 0 rfl rfl)
theorem dX8_give_72 : decode cX8_give 72 = .ok (.iinc 2 1, 3) := dk_132 2 1 (dk_at dksX8_give_3 1 rfl rfl)
theorem dX8_give_75 : decode cX8_give 75 = .ok (.goto (-37), 3) := dk_167 255 219 (dk_at dksX8_give_3 4 rfl rfl)
theorem dX8_give_78 : decode cX8_give 78 = .ok (.aload_n 0, 1) := dk_42 (dk_at dksX8_give_3 7 rfl rfl)
theorem dX8_give_79 : decode cX8_give 79 = .ok (.getfield 72, 3) := dk_180 0 72 (dk_at dksX8_give_3 8 rfl rfl)
theorem dX8_give_82 : decode cX8_give 82 = .ok (.iload_n 1, 1) := dk_27 (dk_at dksX8_give_3 11 rfl rfl)
theorem dX8_give_83 : decode cX8_give 83 = .ok (.iconst 1, 1) := dk_4 (dk_at dksX8_give_3 12 rfl rfl)
theorem dX8_give_84 : decode cX8_give 84 = .ok (.bastore, 1) := dk_84 (dk_at dksX8_give_3 13 rfl rfl)
theorem dX8_give_85 : decode cX8_give 85 = .ok (.return_, 1) := dk_177 (dk_at dksX8_give_3 14 rfl rfl)
abbrev cX8_giveParts : ByteArray := prog_5_method_33_code
def yX8_giveParts : MethodName := ⟨RX8, "giveParts", "(I)V"⟩
def dkwX8_giveParts_2 : List UInt8 := [47, 109, 80, 42, 180, 0, 69, 28, 42, 28, 182, 1, 7, 79, 132, 2, 1, 167, 255, 193, 177]
abbrev dktX8_giveParts_2 : List UInt8 := dkwX8_giveParts_2 ++ []
def dkwX8_giveParts_1 : List UInt8 := [28, 42, 180, 0, 66, 28, 47, 42, 180, 0, 33, 27, 47, 42, 180, 1, 24, 101, 105, 42, 180, 0, 33, 27]
abbrev dktX8_giveParts_1 : List UInt8 := dkwX8_giveParts_1 ++ dktX8_giveParts_2
def dkwX8_giveParts_0 : List UInt8 := [3, 61, 28, 42, 180, 0, 155, 162, 0, 61, 42, 180, 0, 69, 28, 46, 27, 160, 0, 45, 42, 180, 0, 66]
abbrev dktX8_giveParts_0 : List UInt8 := dkwX8_giveParts_0 ++ dktX8_giveParts_1
theorem dksX8_giveParts_0 : cX8_giveParts.data.toList.drop 0 = dktX8_giveParts_0 := by decide +kernel
theorem dksX8_giveParts_1 : cX8_giveParts.data.toList.drop 24 = dktX8_giveParts_1 := dk_seg dksX8_giveParts_0 24 rfl rfl
theorem dksX8_giveParts_2 : cX8_giveParts.data.toList.drop 48 = dktX8_giveParts_2 := dk_seg dksX8_giveParts_1 24 rfl rfl
theorem dX8_giveParts_0 : decode cX8_giveParts 0 = .ok (.iconst 0, 1) := dk_3 (dk_at dksX8_giveParts_0 0 rfl rfl)
theorem dX8_giveParts_1 : decode cX8_giveParts 1 = .ok (.istore_n 2, 1) := dk_61 (dk_at dksX8_giveParts_0 1 rfl rfl)
theorem dX8_giveParts_2 : decode cX8_giveParts 2 = .ok (.iload_n 2, 1) := dk_28 (dk_at dksX8_giveParts_0 2 rfl rfl)
theorem dX8_giveParts_3 : decode cX8_giveParts 3 = .ok (.aload_n 0, 1) := dk_42 (dk_at dksX8_giveParts_0 3 rfl rfl)
theorem dX8_giveParts_4 : decode cX8_giveParts 4 = .ok (.getfield 155, 3) := dk_180 0 155 (dk_at dksX8_giveParts_0 4 rfl rfl)
theorem dX8_giveParts_7 : decode cX8_giveParts 7 = .ok (.if_icmp .ge 61, 3) := dk_162 0 61 (dk_at dksX8_giveParts_0 7 rfl rfl)
theorem dX8_giveParts_10 : decode cX8_giveParts 10 = .ok (.aload_n 0, 1) := dk_42 (dk_at dksX8_giveParts_0 10 rfl rfl)
theorem dX8_giveParts_11 : decode cX8_giveParts 11 = .ok (.getfield 69, 3) := dk_180 0 69 (dk_at dksX8_giveParts_0 11 rfl rfl)
theorem dX8_giveParts_14 : decode cX8_giveParts 14 = .ok (.iload_n 2, 1) := dk_28 (dk_at dksX8_giveParts_0 14 rfl rfl)
theorem dX8_giveParts_15 : decode cX8_giveParts 15 = .ok (.iaload, 1) := dk_46 (dk_at dksX8_giveParts_0 15 rfl rfl)
theorem dX8_giveParts_16 : decode cX8_giveParts 16 = .ok (.iload_n 1, 1) := dk_27 (dk_at dksX8_giveParts_0 16 rfl rfl)
theorem dX8_giveParts_17 : decode cX8_giveParts 17 = .ok (.if_icmp .ne 45, 3) := dk_160 0 45 (dk_at dksX8_giveParts_0 17 rfl rfl)
theorem dX8_giveParts_20 : decode cX8_giveParts 20 = .ok (.aload_n 0, 1) := dk_42 (dk_at dksX8_giveParts_0 20 rfl rfl)
theorem dX8_giveParts_21 : decode cX8_giveParts 21 = .ok (.getfield 66, 3) := dk_180 0 66 (dk_at dksX8_giveParts_0 21 rfl rfl)
theorem dX8_giveParts_24 : decode cX8_giveParts 24 = .ok (.iload_n 2, 1) := dk_28 (dk_at dksX8_giveParts_1 0 rfl rfl)
theorem dX8_giveParts_25 : decode cX8_giveParts 25 = .ok (.aload_n 0, 1) := dk_42 (dk_at dksX8_giveParts_1 1 rfl rfl)
theorem dX8_giveParts_26 : decode cX8_giveParts 26 = .ok (.getfield 66, 3) := dk_180 0 66 (dk_at dksX8_giveParts_1 2 rfl rfl)
theorem dX8_giveParts_29 : decode cX8_giveParts 29 = .ok (.iload_n 2, 1) := dk_28 (dk_at dksX8_giveParts_1 5 rfl rfl)
theorem dX8_giveParts_30 : decode cX8_giveParts 30 = .ok (.laload, 1) := dk_47 (dk_at dksX8_giveParts_1 6 rfl rfl)
theorem dX8_giveParts_31 : decode cX8_giveParts 31 = .ok (.aload_n 0, 1) := dk_42 (dk_at dksX8_giveParts_1 7 rfl rfl)
theorem dX8_giveParts_32 : decode cX8_giveParts 32 = .ok (.getfield 33, 3) := dk_180 0 33 (dk_at dksX8_giveParts_1 8 rfl rfl)
theorem dX8_giveParts_35 : decode cX8_giveParts 35 = .ok (.iload_n 1, 1) := dk_27 (dk_at dksX8_giveParts_1 11 rfl rfl)
theorem dX8_giveParts_36 : decode cX8_giveParts 36 = .ok (.laload, 1) := dk_47 (dk_at dksX8_giveParts_1 12 rfl rfl)
theorem dX8_giveParts_37 : decode cX8_giveParts 37 = .ok (.aload_n 0, 1) := dk_42 (dk_at dksX8_giveParts_1 13 rfl rfl)
theorem dX8_giveParts_38 : decode cX8_giveParts 38 = .ok (.getfield 280, 3) := dk_180 1 24 (dk_at dksX8_giveParts_1 14 rfl rfl)
theorem dX8_giveParts_41 : decode cX8_giveParts 41 = .ok (.lsub, 1) := dk_101 (dk_at dksX8_giveParts_1 17 rfl rfl)
theorem dX8_giveParts_42 : decode cX8_giveParts 42 = .ok (.lmul, 1) := dk_105 (dk_at dksX8_giveParts_1 18 rfl rfl)
theorem dX8_giveParts_43 : decode cX8_giveParts 43 = .ok (.aload_n 0, 1) := dk_42 (dk_at dksX8_giveParts_1 19 rfl rfl)
theorem dX8_giveParts_44 : decode cX8_giveParts 44 = .ok (.getfield 33, 3) := dk_180 0 33 (dk_at dksX8_giveParts_1 20 rfl rfl)
theorem dX8_giveParts_47 : decode cX8_giveParts 47 = .ok (.iload_n 1, 1) := dk_27 (dk_at dksX8_giveParts_1 23 rfl rfl)
theorem dX8_giveParts_48 : decode cX8_giveParts 48 = .ok (.laload, 1) := dk_47 (dk_at dksX8_giveParts_2 0 rfl rfl)
theorem dX8_giveParts_49 : decode cX8_giveParts 49 = .ok (.ldiv, 1) := dk_109 (dk_at dksX8_giveParts_2 1 rfl rfl)
theorem dX8_giveParts_50 : decode cX8_giveParts 50 = .ok (.lastore, 1) := dk_80 (dk_at dksX8_giveParts_2 2 rfl rfl)
theorem dX8_giveParts_51 : decode cX8_giveParts 51 = .ok (.aload_n 0, 1) := dk_42 (dk_at dksX8_giveParts_2 3 rfl rfl)
theorem dX8_giveParts_52 : decode cX8_giveParts 52 = .ok (.getfield 69, 3) := dk_180 0 69 (dk_at dksX8_giveParts_2 4 rfl rfl)
theorem dX8_giveParts_55 : decode cX8_giveParts 55 = .ok (.iload_n 2, 1) := dk_28 (dk_at dksX8_giveParts_2 7 rfl rfl)
theorem dX8_giveParts_56 : decode cX8_giveParts 56 = .ok (.aload_n 0, 1) := dk_42 (dk_at dksX8_giveParts_2 8 rfl rfl)
theorem dX8_giveParts_57 : decode cX8_giveParts 57 = .ok (.iload_n 2, 1) := dk_28 (dk_at dksX8_giveParts_2 9 rfl rfl)
theorem dX8_giveParts_58 : decode cX8_giveParts 58 = .ok (.invokevirtual 263, 3) := dk_182 1 7 (dk_at dksX8_giveParts_2 10 rfl rfl)
theorem dX8_giveParts_61 : decode cX8_giveParts 61 = .ok (.iastore, 1) := dk_79 (dk_at dksX8_giveParts_2 13 rfl rfl)
theorem dX8_giveParts_62 : decode cX8_giveParts 62 = .ok (.iinc 2 1, 3) := dk_132 2 1 (dk_at dksX8_giveParts_2 14 rfl rfl)
theorem dX8_giveParts_65 : decode cX8_giveParts 65 = .ok (.goto (-63), 3) := dk_167 255 193 (dk_at dksX8_giveParts_2 17 rfl rfl)
theorem dX8_giveParts_68 : decode cX8_giveParts 68 = .ok (.return_, 1) := dk_177 (dk_at dksX8_giveParts_2 20 rfl rfl)
abbrev cX8_giveWhole : ByteArray := prog_5_method_34_code
def yX8_giveWhole : MethodName := ⟨RX8, "giveWhole", "(I)V"⟩
def dkwX8_giveWhole_4 : List UInt8 := [182, 1, 7, 79, 32, 10, 101, 65, 167, 255, 162, 177]
abbrev dktX8_giveWhole_4 : List UInt8 := dkwX8_giveWhole_4 ++ []
def dkwX8_giveWhole_3 : List UInt8 := [167, 0, 4, 3, 100, 54, 4, 132, 5, 1, 167, 255, 216, 42, 180, 0, 69, 21, 5, 42, 21, 5]
abbrev dktX8_giveWhole_3 : List UInt8 := dkwX8_giveWhole_3 ++ dktX8_giveWhole_4
def dkwX8_giveWhole_2 : List UInt8 := [27, 160, 0, 8, 21, 4, 158, 0, 30, 21, 4, 42, 180, 0, 69, 21, 5, 46, 27, 160, 0, 7, 4]
abbrev dktX8_giveWhole_2 : List UInt8 := dkwX8_giveWhole_2 ++ dktX8_giveWhole_3
def dkwX8_giveWhole_1 : List UInt8 := [181, 1, 28, 42, 180, 1, 28, 32, 136, 184, 1, 38, 54, 4, 3, 54, 5, 42, 180, 0, 69, 21, 5, 46]
abbrev dktX8_giveWhole_1 : List UInt8 := dkwX8_giveWhole_1 ++ dktX8_giveWhole_2
def dkwX8_giveWhole_0 : List UInt8 := [42, 180, 0, 33, 27, 47, 65, 32, 42, 180, 1, 24, 148, 158, 0, 91, 42, 42, 180, 1, 28, 184, 1, 34]
abbrev dktX8_giveWhole_0 : List UInt8 := dkwX8_giveWhole_0 ++ dktX8_giveWhole_1
theorem dksX8_giveWhole_0 : cX8_giveWhole.data.toList.drop 0 = dktX8_giveWhole_0 := by decide +kernel
theorem dksX8_giveWhole_1 : cX8_giveWhole.data.toList.drop 24 = dktX8_giveWhole_1 := dk_seg dksX8_giveWhole_0 24 rfl rfl
theorem dksX8_giveWhole_2 : cX8_giveWhole.data.toList.drop 48 = dktX8_giveWhole_2 := dk_seg dksX8_giveWhole_1 24 rfl rfl
theorem dksX8_giveWhole_3 : cX8_giveWhole.data.toList.drop 71 = dktX8_giveWhole_3 := dk_seg dksX8_giveWhole_2 23 rfl rfl
theorem dksX8_giveWhole_4 : cX8_giveWhole.data.toList.drop 93 = dktX8_giveWhole_4 := dk_seg dksX8_giveWhole_3 22 rfl rfl
theorem dX8_giveWhole_0 : decode cX8_giveWhole 0 = .ok (.aload_n 0, 1) := dk_42 (dk_at dksX8_giveWhole_0 0 rfl rfl)
theorem dX8_giveWhole_1 : decode cX8_giveWhole 1 = .ok (.getfield 33, 3) := dk_180 0 33 (dk_at dksX8_giveWhole_0 1 rfl rfl)
theorem dX8_giveWhole_4 : decode cX8_giveWhole 4 = .ok (.iload_n 1, 1) := dk_27 (dk_at dksX8_giveWhole_0 4 rfl rfl)
theorem dX8_giveWhole_5 : decode cX8_giveWhole 5 = .ok (.laload, 1) := dk_47 (dk_at dksX8_giveWhole_0 5 rfl rfl)
theorem dX8_giveWhole_6 : decode cX8_giveWhole 6 = .ok (.lstore_n 2, 1) := dk_65 (dk_at dksX8_giveWhole_0 6 rfl rfl)
theorem dX8_giveWhole_7 : decode cX8_giveWhole 7 = .ok (.lload_n 2, 1) := dk_32 (dk_at dksX8_giveWhole_0 7 rfl rfl)
theorem dX8_giveWhole_8 : decode cX8_giveWhole 8 = .ok (.aload_n 0, 1) := dk_42 (dk_at dksX8_giveWhole_0 8 rfl rfl)
theorem dX8_giveWhole_9 : decode cX8_giveWhole 9 = .ok (.getfield 280, 3) := dk_180 1 24 (dk_at dksX8_giveWhole_0 9 rfl rfl)
theorem dX8_giveWhole_12 : decode cX8_giveWhole 12 = .ok (.lcmp, 1) := dk_148 (dk_at dksX8_giveWhole_0 12 rfl rfl)
theorem dX8_giveWhole_13 : decode cX8_giveWhole 13 = .ok (.ifCond .le 91, 3) := dk_158 0 91 (dk_at dksX8_giveWhole_0 13 rfl rfl)
theorem dX8_giveWhole_16 : decode cX8_giveWhole 16 = .ok (.aload_n 0, 1) := dk_42 (dk_at dksX8_giveWhole_0 16 rfl rfl)
theorem dX8_giveWhole_17 : decode cX8_giveWhole 17 = .ok (.aload_n 0, 1) := dk_42 (dk_at dksX8_giveWhole_0 17 rfl rfl)
theorem dX8_giveWhole_18 : decode cX8_giveWhole 18 = .ok (.getfield 284, 3) := dk_180 1 28 (dk_at dksX8_giveWhole_0 18 rfl rfl)
theorem dX8_giveWhole_21 : decode cX8_giveWhole 21 = .ok (.invokestatic 290, 3) := dk_184 1 34 (dk_at dksX8_giveWhole_0 21 rfl rfl)
theorem dX8_giveWhole_24 : decode cX8_giveWhole 24 = .ok (.putfield 284, 3) := dk_181 1 28 (dk_at dksX8_giveWhole_1 0 rfl rfl)
theorem dX8_giveWhole_27 : decode cX8_giveWhole 27 = .ok (.aload_n 0, 1) := dk_42 (dk_at dksX8_giveWhole_1 3 rfl rfl)
theorem dX8_giveWhole_28 : decode cX8_giveWhole 28 = .ok (.getfield 284, 3) := dk_180 1 28 (dk_at dksX8_giveWhole_1 4 rfl rfl)
theorem dX8_giveWhole_31 : decode cX8_giveWhole 31 = .ok (.lload_n 2, 1) := dk_32 (dk_at dksX8_giveWhole_1 7 rfl rfl)
theorem dX8_giveWhole_32 : decode cX8_giveWhole 32 = .ok (.l2i, 1) := dk_136 (dk_at dksX8_giveWhole_1 8 rfl rfl)
theorem dX8_giveWhole_33 : decode cX8_giveWhole 33 = .ok (.invokestatic 294, 3) := dk_184 1 38 (dk_at dksX8_giveWhole_1 9 rfl rfl)
theorem dX8_giveWhole_36 : decode cX8_giveWhole 36 = .ok (.istore 4, 2) := dk_54 4 (dk_at dksX8_giveWhole_1 12 rfl rfl)
theorem dX8_giveWhole_38 : decode cX8_giveWhole 38 = .ok (.iconst 0, 1) := dk_3 (dk_at dksX8_giveWhole_1 14 rfl rfl)
theorem dX8_giveWhole_39 : decode cX8_giveWhole 39 = .ok (.istore 5, 2) := dk_54 5 (dk_at dksX8_giveWhole_1 15 rfl rfl)
theorem dX8_giveWhole_41 : decode cX8_giveWhole 41 = .ok (.aload_n 0, 1) := dk_42 (dk_at dksX8_giveWhole_1 17 rfl rfl)
theorem dX8_giveWhole_42 : decode cX8_giveWhole 42 = .ok (.getfield 69, 3) := dk_180 0 69 (dk_at dksX8_giveWhole_1 18 rfl rfl)
theorem dX8_giveWhole_45 : decode cX8_giveWhole 45 = .ok (.iload 5, 2) := dk_21 5 (dk_at dksX8_giveWhole_1 21 rfl rfl)
theorem dX8_giveWhole_47 : decode cX8_giveWhole 47 = .ok (.iaload, 1) := dk_46 (dk_at dksX8_giveWhole_1 23 rfl rfl)
theorem dX8_giveWhole_48 : decode cX8_giveWhole 48 = .ok (.iload_n 1, 1) := dk_27 (dk_at dksX8_giveWhole_2 0 rfl rfl)
theorem dX8_giveWhole_49 : decode cX8_giveWhole 49 = .ok (.if_icmp .ne 8, 3) := dk_160 0 8 (dk_at dksX8_giveWhole_2 1 rfl rfl)
theorem dX8_giveWhole_52 : decode cX8_giveWhole 52 = .ok (.iload 4, 2) := dk_21 4 (dk_at dksX8_giveWhole_2 4 rfl rfl)
theorem dX8_giveWhole_54 : decode cX8_giveWhole 54 = .ok (.ifCond .le 30, 3) := dk_158 0 30 (dk_at dksX8_giveWhole_2 6 rfl rfl)
theorem dX8_giveWhole_57 : decode cX8_giveWhole 57 = .ok (.iload 4, 2) := dk_21 4 (dk_at dksX8_giveWhole_2 9 rfl rfl)
theorem dX8_giveWhole_59 : decode cX8_giveWhole 59 = .ok (.aload_n 0, 1) := dk_42 (dk_at dksX8_giveWhole_2 11 rfl rfl)
theorem dX8_giveWhole_60 : decode cX8_giveWhole 60 = .ok (.getfield 69, 3) := dk_180 0 69 (dk_at dksX8_giveWhole_2 12 rfl rfl)
theorem dX8_giveWhole_63 : decode cX8_giveWhole 63 = .ok (.iload 5, 2) := dk_21 5 (dk_at dksX8_giveWhole_2 15 rfl rfl)
theorem dX8_giveWhole_65 : decode cX8_giveWhole 65 = .ok (.iaload, 1) := dk_46 (dk_at dksX8_giveWhole_2 17 rfl rfl)
theorem dX8_giveWhole_66 : decode cX8_giveWhole 66 = .ok (.iload_n 1, 1) := dk_27 (dk_at dksX8_giveWhole_2 18 rfl rfl)
theorem dX8_giveWhole_67 : decode cX8_giveWhole 67 = .ok (.if_icmp .ne 7, 3) := dk_160 0 7 (dk_at dksX8_giveWhole_2 19 rfl rfl)
theorem dX8_giveWhole_70 : decode cX8_giveWhole 70 = .ok (.iconst 1, 1) := dk_4 (dk_at dksX8_giveWhole_2 22 rfl rfl)
theorem dX8_giveWhole_71 : decode cX8_giveWhole 71 = .ok (.goto 4, 3) := dk_167 0 4 (dk_at dksX8_giveWhole_3 0 rfl rfl)
theorem dX8_giveWhole_74 : decode cX8_giveWhole 74 = .ok (.iconst 0, 1) := dk_3 (dk_at dksX8_giveWhole_3 3 rfl rfl)
theorem dX8_giveWhole_75 : decode cX8_giveWhole 75 = .ok (.isub, 1) := dk_100 (dk_at dksX8_giveWhole_3 4 rfl rfl)
theorem dX8_giveWhole_76 : decode cX8_giveWhole 76 = .ok (.istore 4, 2) := dk_54 4 (dk_at dksX8_giveWhole_3 5 rfl rfl)
theorem dX8_giveWhole_78 : decode cX8_giveWhole 78 = .ok (.iinc 5 1, 3) := dk_132 5 1 (dk_at dksX8_giveWhole_3 7 rfl rfl)
theorem dX8_giveWhole_81 : decode cX8_giveWhole 81 = .ok (.goto (-40), 3) := dk_167 255 216 (dk_at dksX8_giveWhole_3 10 rfl rfl)
theorem dX8_giveWhole_84 : decode cX8_giveWhole 84 = .ok (.aload_n 0, 1) := dk_42 (dk_at dksX8_giveWhole_3 13 rfl rfl)
theorem dX8_giveWhole_85 : decode cX8_giveWhole 85 = .ok (.getfield 69, 3) := dk_180 0 69 (dk_at dksX8_giveWhole_3 14 rfl rfl)
theorem dX8_giveWhole_88 : decode cX8_giveWhole 88 = .ok (.iload 5, 2) := dk_21 5 (dk_at dksX8_giveWhole_3 17 rfl rfl)
theorem dX8_giveWhole_90 : decode cX8_giveWhole 90 = .ok (.aload_n 0, 1) := dk_42 (dk_at dksX8_giveWhole_3 19 rfl rfl)
theorem dX8_giveWhole_91 : decode cX8_giveWhole 91 = .ok (.iload 5, 2) := dk_21 5 (dk_at dksX8_giveWhole_3 20 rfl rfl)
theorem dX8_giveWhole_93 : decode cX8_giveWhole 93 = .ok (.invokevirtual 263, 3) := dk_182 1 7 (dk_at dksX8_giveWhole_4 0 rfl rfl)
theorem dX8_giveWhole_96 : decode cX8_giveWhole 96 = .ok (.iastore, 1) := dk_79 (dk_at dksX8_giveWhole_4 3 rfl rfl)
theorem dX8_giveWhole_97 : decode cX8_giveWhole 97 = .ok (.lload_n 2, 1) := dk_32 (dk_at dksX8_giveWhole_4 4 rfl rfl)
theorem dX8_giveWhole_98 : decode cX8_giveWhole 98 = .ok (.lconst 1, 1) := dk_10 (dk_at dksX8_giveWhole_4 5 rfl rfl)
theorem dX8_giveWhole_99 : decode cX8_giveWhole 99 = .ok (.lsub, 1) := dk_101 (dk_at dksX8_giveWhole_4 6 rfl rfl)
theorem dX8_giveWhole_100 : decode cX8_giveWhole 100 = .ok (.lstore_n 2, 1) := dk_65 (dk_at dksX8_giveWhole_4 7 rfl rfl)
theorem dX8_giveWhole_101 : decode cX8_giveWhole 101 = .ok (.goto (-94), 3) := dk_167 255 162 (dk_at dksX8_giveWhole_4 8 rfl rfl)
theorem dX8_giveWhole_104 : decode cX8_giveWhole 104 = .ok (.return_, 1) := dk_177 (dk_at dksX8_giveWhole_4 11 rfl rfl)
abbrev cX8_leave : ByteArray := prog_5_method_36_code
def yX8_leave : MethodName := ⟨RX8, "leave", "(I)V"⟩
def dkwX8_leave_2 : List UInt8 := [167, 255, 215, 177]
abbrev dktX8_leave_2 : List UInt8 := dkwX8_leave_2 ++ []
def dkwX8_leave_1 : List UInt8 := [28, 46, 27, 160, 0, 11, 42, 28, 182, 1, 7, 167, 0, 9, 42, 180, 0, 69, 28, 46, 79, 132, 2, 1]
abbrev dktX8_leave_1 : List UInt8 := dkwX8_leave_1 ++ dktX8_leave_2
def dkwX8_leave_0 : List UInt8 := [42, 27, 182, 1, 16, 3, 61, 28, 42, 180, 0, 155, 162, 0, 39, 42, 180, 0, 69, 28, 42, 180, 0, 69]
abbrev dktX8_leave_0 : List UInt8 := dkwX8_leave_0 ++ dktX8_leave_1
theorem dksX8_leave_0 : cX8_leave.data.toList.drop 0 = dktX8_leave_0 := by decide +kernel
theorem dksX8_leave_1 : cX8_leave.data.toList.drop 24 = dktX8_leave_1 := dk_seg dksX8_leave_0 24 rfl rfl
theorem dksX8_leave_2 : cX8_leave.data.toList.drop 48 = dktX8_leave_2 := dk_seg dksX8_leave_1 24 rfl rfl
theorem dX8_leave_0 : decode cX8_leave 0 = .ok (.aload_n 0, 1) := dk_42 (dk_at dksX8_leave_0 0 rfl rfl)
theorem dX8_leave_1 : decode cX8_leave 1 = .ok (.iload_n 1, 1) := dk_27 (dk_at dksX8_leave_0 1 rfl rfl)
theorem dX8_leave_2 : decode cX8_leave 2 = .ok (.invokevirtual 272, 3) := dk_182 1 16 (dk_at dksX8_leave_0 2 rfl rfl)
theorem dX8_leave_5 : decode cX8_leave 5 = .ok (.iconst 0, 1) := dk_3 (dk_at dksX8_leave_0 5 rfl rfl)
theorem dX8_leave_6 : decode cX8_leave 6 = .ok (.istore_n 2, 1) := dk_61 (dk_at dksX8_leave_0 6 rfl rfl)
theorem dX8_leave_7 : decode cX8_leave 7 = .ok (.iload_n 2, 1) := dk_28 (dk_at dksX8_leave_0 7 rfl rfl)
theorem dX8_leave_8 : decode cX8_leave 8 = .ok (.aload_n 0, 1) := dk_42 (dk_at dksX8_leave_0 8 rfl rfl)
theorem dX8_leave_9 : decode cX8_leave 9 = .ok (.getfield 155, 3) := dk_180 0 155 (dk_at dksX8_leave_0 9 rfl rfl)
theorem dX8_leave_12 : decode cX8_leave 12 = .ok (.if_icmp .ge 39, 3) := dk_162 0 39 (dk_at dksX8_leave_0 12 rfl rfl)
theorem dX8_leave_15 : decode cX8_leave 15 = .ok (.aload_n 0, 1) := dk_42 (dk_at dksX8_leave_0 15 rfl rfl)
theorem dX8_leave_16 : decode cX8_leave 16 = .ok (.getfield 69, 3) := dk_180 0 69 (dk_at dksX8_leave_0 16 rfl rfl)
theorem dX8_leave_19 : decode cX8_leave 19 = .ok (.iload_n 2, 1) := dk_28 (dk_at dksX8_leave_0 19 rfl rfl)
theorem dX8_leave_20 : decode cX8_leave 20 = .ok (.aload_n 0, 1) := dk_42 (dk_at dksX8_leave_0 20 rfl rfl)
theorem dX8_leave_21 : decode cX8_leave 21 = .ok (.getfield 69, 3) := dk_180 0 69 (dk_at dksX8_leave_0 21 rfl rfl)
theorem dX8_leave_24 : decode cX8_leave 24 = .ok (.iload_n 2, 1) := dk_28 (dk_at dksX8_leave_1 0 rfl rfl)
theorem dX8_leave_25 : decode cX8_leave 25 = .ok (.iaload, 1) := dk_46 (dk_at dksX8_leave_1 1 rfl rfl)
theorem dX8_leave_26 : decode cX8_leave 26 = .ok (.iload_n 1, 1) := dk_27 (dk_at dksX8_leave_1 2 rfl rfl)
theorem dX8_leave_27 : decode cX8_leave 27 = .ok (.if_icmp .ne 11, 3) := dk_160 0 11 (dk_at dksX8_leave_1 3 rfl rfl)
theorem dX8_leave_30 : decode cX8_leave 30 = .ok (.aload_n 0, 1) := dk_42 (dk_at dksX8_leave_1 6 rfl rfl)
theorem dX8_leave_31 : decode cX8_leave 31 = .ok (.iload_n 2, 1) := dk_28 (dk_at dksX8_leave_1 7 rfl rfl)
theorem dX8_leave_32 : decode cX8_leave 32 = .ok (.invokevirtual 263, 3) := dk_182 1 7 (dk_at dksX8_leave_1 8 rfl rfl)
theorem dX8_leave_35 : decode cX8_leave 35 = .ok (.goto 9, 3) := dk_167 0 9 (dk_at dksX8_leave_1 11 rfl rfl)
theorem dX8_leave_38 : decode cX8_leave 38 = .ok (.aload_n 0, 1) := dk_42 (dk_at dksX8_leave_1 14 rfl rfl)
theorem dX8_leave_39 : decode cX8_leave 39 = .ok (.getfield 69, 3) := dk_180 0 69 (dk_at dksX8_leave_1 15 rfl rfl)
theorem dX8_leave_42 : decode cX8_leave 42 = .ok (.iload_n 2, 1) := dk_28 (dk_at dksX8_leave_1 18 rfl rfl)
theorem dX8_leave_43 : decode cX8_leave 43 = .ok (.iaload, 1) := dk_46 (dk_at dksX8_leave_1 19 rfl rfl)
theorem dX8_leave_44 : decode cX8_leave 44 = .ok (.iastore, 1) := dk_79 (dk_at dksX8_leave_1 20 rfl rfl)
theorem dX8_leave_45 : decode cX8_leave 45 = .ok (.iinc 2 1, 3) := dk_132 2 1 (dk_at dksX8_leave_1 21 rfl rfl)
theorem dX8_leave_48 : decode cX8_leave 48 = .ok (.goto (-41), 3) := dk_167 255 215 (dk_at dksX8_leave_2 0 rfl rfl)
theorem dX8_leave_51 : decode cX8_leave 51 = .ok (.return_, 1) := dk_177 (dk_at dksX8_leave_2 3 rfl rfl)
abbrev cX8_byPairs : ByteArray := prog_5_method_58_code
def yX8_byPairs : MethodName := ⟨RX8, "byPairs", "()V"⟩
def dkwX8_byPairs_1 : List UInt8 := [180, 0, 131, 180, 0, 180, 16, 9, 160, 0, 7, 42, 182, 1, 151, 42, 182, 1, 154, 177]
abbrev dktX8_byPairs_1 : List UInt8 := dkwX8_byPairs_1 ++ []
def dkwX8_byPairs_0 : List UInt8 := [42, 182, 1, 145, 42, 180, 0, 131, 180, 0, 180, 16, 8, 160, 0, 10, 42, 182, 1, 148, 167, 0, 19, 42]
abbrev dktX8_byPairs_0 : List UInt8 := dkwX8_byPairs_0 ++ dktX8_byPairs_1
theorem dksX8_byPairs_0 : cX8_byPairs.data.toList.drop 0 = dktX8_byPairs_0 := by decide +kernel
theorem dksX8_byPairs_1 : cX8_byPairs.data.toList.drop 24 = dktX8_byPairs_1 := dk_seg dksX8_byPairs_0 24 rfl rfl
theorem dX8_byPairs_0 : decode cX8_byPairs 0 = .ok (.aload_n 0, 1) := dk_42 (dk_at dksX8_byPairs_0 0 rfl rfl)
theorem dX8_byPairs_1 : decode cX8_byPairs 1 = .ok (.invokevirtual 401, 3) := dk_182 1 145 (dk_at dksX8_byPairs_0 1 rfl rfl)
theorem dX8_byPairs_4 : decode cX8_byPairs 4 = .ok (.aload_n 0, 1) := dk_42 (dk_at dksX8_byPairs_0 4 rfl rfl)
theorem dX8_byPairs_5 : decode cX8_byPairs 5 = .ok (.getfield 131, 3) := dk_180 0 131 (dk_at dksX8_byPairs_0 5 rfl rfl)
theorem dX8_byPairs_8 : decode cX8_byPairs 8 = .ok (.getfield 180, 3) := dk_180 0 180 (dk_at dksX8_byPairs_0 8 rfl rfl)
theorem dX8_byPairs_11 : decode cX8_byPairs 11 = .ok (.bipush 8, 2) := dk_16 8 (dk_at dksX8_byPairs_0 11 rfl rfl)
theorem dX8_byPairs_13 : decode cX8_byPairs 13 = .ok (.if_icmp .ne 10, 3) := dk_160 0 10 (dk_at dksX8_byPairs_0 13 rfl rfl)
theorem dX8_byPairs_16 : decode cX8_byPairs 16 = .ok (.aload_n 0, 1) := dk_42 (dk_at dksX8_byPairs_0 16 rfl rfl)
theorem dX8_byPairs_17 : decode cX8_byPairs 17 = .ok (.invokevirtual 404, 3) := dk_182 1 148 (dk_at dksX8_byPairs_0 17 rfl rfl)
theorem dX8_byPairs_20 : decode cX8_byPairs 20 = .ok (.goto 19, 3) := dk_167 0 19 (dk_at dksX8_byPairs_0 20 rfl rfl)
theorem dX8_byPairs_23 : decode cX8_byPairs 23 = .ok (.aload_n 0, 1) := dk_42 (dk_at dksX8_byPairs_0 23 rfl rfl)
theorem dX8_byPairs_24 : decode cX8_byPairs 24 = .ok (.getfield 131, 3) := dk_180 0 131 (dk_at dksX8_byPairs_1 0 rfl rfl)
theorem dX8_byPairs_27 : decode cX8_byPairs 27 = .ok (.getfield 180, 3) := dk_180 0 180 (dk_at dksX8_byPairs_1 3 rfl rfl)
theorem dX8_byPairs_30 : decode cX8_byPairs 30 = .ok (.bipush 9, 2) := dk_16 9 (dk_at dksX8_byPairs_1 6 rfl rfl)
theorem dX8_byPairs_32 : decode cX8_byPairs 32 = .ok (.if_icmp .ne 7, 3) := dk_160 0 7 (dk_at dksX8_byPairs_1 8 rfl rfl)
theorem dX8_byPairs_35 : decode cX8_byPairs 35 = .ok (.aload_n 0, 1) := dk_42 (dk_at dksX8_byPairs_1 11 rfl rfl)
theorem dX8_byPairs_36 : decode cX8_byPairs 36 = .ok (.invokevirtual 407, 3) := dk_182 1 151 (dk_at dksX8_byPairs_1 12 rfl rfl)
theorem dX8_byPairs_39 : decode cX8_byPairs 39 = .ok (.aload_n 0, 1) := dk_42 (dk_at dksX8_byPairs_1 15 rfl rfl)
theorem dX8_byPairs_40 : decode cX8_byPairs 40 = .ok (.invokevirtual 410, 3) := dk_182 1 154 (dk_at dksX8_byPairs_1 16 rfl rfl)
theorem dX8_byPairs_43 : decode cX8_byPairs 43 = .ok (.return_, 1) := dk_177 (dk_at dksX8_byPairs_1 19 rfl rfl)
abbrev cX8_matrix : ByteArray := prog_5_method_44_code
def yX8_matrix : MethodName := ⟨RX8, "matrix", "()V"⟩
def dkwX8_matrix_8 : List UInt8 := [167, 255, 195, 132, 1, 1, 167, 255, 179, 177]
abbrev dktX8_matrix_8 : List UInt8 := dkwX8_matrix_8 ++ []
def dkwX8_matrix_7 : List UInt8 := [27, 50, 28, 46, 42, 180, 0, 78, 28, 50, 27, 46, 164, 0, 7, 4, 167, 0, 4, 3, 84, 132, 2, 1]
abbrev dktX8_matrix_7 : List UInt8 := dkwX8_matrix_7 ++ dktX8_matrix_8
def dkwX8_matrix_6 : List UInt8 := [50, 28, 42, 180, 0, 9, 27, 51, 153, 0, 35, 42, 180, 0, 9, 28, 51, 153, 0, 26, 42, 180, 0, 78]
abbrev dktX8_matrix_6 : List UInt8 := dkwX8_matrix_6 ++ dktX8_matrix_7
def dkwX8_matrix_5 : List UInt8 := [60, 27, 42, 180, 0, 148, 162, 0, 75, 3, 61, 28, 42, 180, 0, 148, 162, 0, 59, 42, 180, 0, 83, 27]
abbrev dktX8_matrix_5 : List UInt8 := dkwX8_matrix_5 ++ dktX8_matrix_6
def dkwX8_matrix_4 : List UInt8 := [180, 0, 33, 28, 29, 133, 80, 132, 2, 1, 167, 255, 176, 42, 182, 0, 254, 132, 1, 1, 167, 255, 148, 3]
abbrev dktX8_matrix_4 : List UInt8 := dkwX8_matrix_4 ++ dktX8_matrix_5
def dkwX8_matrix_3 : List UInt8 := [167, 0, 4, 3, 96, 62, 132, 4, 1, 167, 255, 212, 42, 180, 0, 78, 27, 50, 28, 29, 79, 42]
abbrev dktX8_matrix_3 : List UInt8 := dkwX8_matrix_3 ++ dktX8_matrix_4
def dkwX8_matrix_2 : List UInt8 := [180, 0, 17, 21, 4, 50, 27, 51, 42, 180, 0, 17, 21, 4, 50, 28, 51, 184, 1, 100, 153, 0, 7, 4]
abbrev dktX8_matrix_2 : List UInt8 := dkwX8_matrix_2 ++ dktX8_matrix_3
def dkwX8_matrix_1 : List UInt8 := [180, 0, 148, 162, 0, 78, 3, 62, 3, 54, 4, 21, 4, 42, 180, 0, 155, 162, 0, 41, 29, 42]
abbrev dktX8_matrix_1 : List UInt8 := dkwX8_matrix_1 ++ dktX8_matrix_2
def dkwX8_matrix_0 : List UInt8 := [3, 60, 27, 42, 180, 0, 148, 162, 0, 106, 42, 180, 0, 33, 9, 184, 0, 242, 3, 61, 28, 42]
abbrev dktX8_matrix_0 : List UInt8 := dkwX8_matrix_0 ++ dktX8_matrix_1
theorem dksX8_matrix_0 : cX8_matrix.data.toList.drop 0 = dktX8_matrix_0 := by decide +kernel
theorem dksX8_matrix_1 : cX8_matrix.data.toList.drop 22 = dktX8_matrix_1 := dk_seg dksX8_matrix_0 22 rfl rfl
theorem dksX8_matrix_2 : cX8_matrix.data.toList.drop 44 = dktX8_matrix_2 := dk_seg dksX8_matrix_1 22 rfl rfl
theorem dksX8_matrix_3 : cX8_matrix.data.toList.drop 68 = dktX8_matrix_3 := dk_seg dksX8_matrix_2 24 rfl rfl
theorem dksX8_matrix_4 : cX8_matrix.data.toList.drop 90 = dktX8_matrix_4 := dk_seg dksX8_matrix_3 22 rfl rfl
theorem dksX8_matrix_5 : cX8_matrix.data.toList.drop 114 = dktX8_matrix_5 := dk_seg dksX8_matrix_4 24 rfl rfl
theorem dksX8_matrix_6 : cX8_matrix.data.toList.drop 138 = dktX8_matrix_6 := dk_seg dksX8_matrix_5 24 rfl rfl
theorem dksX8_matrix_7 : cX8_matrix.data.toList.drop 162 = dktX8_matrix_7 := dk_seg dksX8_matrix_6 24 rfl rfl
theorem dksX8_matrix_8 : cX8_matrix.data.toList.drop 186 = dktX8_matrix_8 := dk_seg dksX8_matrix_7 24 rfl rfl
theorem dX8_matrix_0 : decode cX8_matrix 0 = .ok (.iconst 0, 1) := dk_3 (dk_at dksX8_matrix_0 0 rfl rfl)
theorem dX8_matrix_1 : decode cX8_matrix 1 = .ok (.istore_n 1, 1) := dk_60 (dk_at dksX8_matrix_0 1 rfl rfl)
theorem dX8_matrix_2 : decode cX8_matrix 2 = .ok (.iload_n 1, 1) := dk_27 (dk_at dksX8_matrix_0 2 rfl rfl)
theorem dX8_matrix_3 : decode cX8_matrix 3 = .ok (.aload_n 0, 1) := dk_42 (dk_at dksX8_matrix_0 3 rfl rfl)
theorem dX8_matrix_4 : decode cX8_matrix 4 = .ok (.getfield 148, 3) := dk_180 0 148 (dk_at dksX8_matrix_0 4 rfl rfl)
theorem dX8_matrix_7 : decode cX8_matrix 7 = .ok (.if_icmp .ge 106, 3) := dk_162 0 106 (dk_at dksX8_matrix_0 7 rfl rfl)
theorem dX8_matrix_10 : decode cX8_matrix 10 = .ok (.aload_n 0, 1) := dk_42 (dk_at dksX8_matrix_0 10 rfl rfl)
theorem dX8_matrix_11 : decode cX8_matrix 11 = .ok (.getfield 33, 3) := dk_180 0 33 (dk_at dksX8_matrix_0 11 rfl rfl)
theorem dX8_matrix_14 : decode cX8_matrix 14 = .ok (.lconst 0, 1) := dk_9 (dk_at dksX8_matrix_0 14 rfl rfl)
theorem dX8_matrix_15 : decode cX8_matrix 15 = .ok (.invokestatic 242, 3) := dk_184 0 242 (dk_at dksX8_matrix_0 15 rfl rfl)
theorem dX8_matrix_18 : decode cX8_matrix 18 = .ok (.iconst 0, 1) := dk_3 (dk_at dksX8_matrix_0 18 rfl rfl)
theorem dX8_matrix_19 : decode cX8_matrix 19 = .ok (.istore_n 2, 1) := dk_61 (dk_at dksX8_matrix_0 19 rfl rfl)
theorem dX8_matrix_20 : decode cX8_matrix 20 = .ok (.iload_n 2, 1) := dk_28 (dk_at dksX8_matrix_0 20 rfl rfl)
theorem dX8_matrix_21 : decode cX8_matrix 21 = .ok (.aload_n 0, 1) := dk_42 (dk_at dksX8_matrix_0 21 rfl rfl)
theorem dX8_matrix_22 : decode cX8_matrix 22 = .ok (.getfield 148, 3) := dk_180 0 148 (dk_at dksX8_matrix_1 0 rfl rfl)
theorem dX8_matrix_25 : decode cX8_matrix 25 = .ok (.if_icmp .ge 78, 3) := dk_162 0 78 (dk_at dksX8_matrix_1 3 rfl rfl)
theorem dX8_matrix_28 : decode cX8_matrix 28 = .ok (.iconst 0, 1) := dk_3 (dk_at dksX8_matrix_1 6 rfl rfl)
theorem dX8_matrix_29 : decode cX8_matrix 29 = .ok (.istore_n 3, 1) := dk_62 (dk_at dksX8_matrix_1 7 rfl rfl)
theorem dX8_matrix_30 : decode cX8_matrix 30 = .ok (.iconst 0, 1) := dk_3 (dk_at dksX8_matrix_1 8 rfl rfl)
theorem dX8_matrix_31 : decode cX8_matrix 31 = .ok (.istore 4, 2) := dk_54 4 (dk_at dksX8_matrix_1 9 rfl rfl)
theorem dX8_matrix_33 : decode cX8_matrix 33 = .ok (.iload 4, 2) := dk_21 4 (dk_at dksX8_matrix_1 11 rfl rfl)
theorem dX8_matrix_35 : decode cX8_matrix 35 = .ok (.aload_n 0, 1) := dk_42 (dk_at dksX8_matrix_1 13 rfl rfl)
theorem dX8_matrix_36 : decode cX8_matrix 36 = .ok (.getfield 155, 3) := dk_180 0 155 (dk_at dksX8_matrix_1 14 rfl rfl)
theorem dX8_matrix_39 : decode cX8_matrix 39 = .ok (.if_icmp .ge 41, 3) := dk_162 0 41 (dk_at dksX8_matrix_1 17 rfl rfl)
theorem dX8_matrix_42 : decode cX8_matrix 42 = .ok (.iload_n 3, 1) := dk_29 (dk_at dksX8_matrix_1 20 rfl rfl)
theorem dX8_matrix_43 : decode cX8_matrix 43 = .ok (.aload_n 0, 1) := dk_42 (dk_at dksX8_matrix_1 21 rfl rfl)
theorem dX8_matrix_44 : decode cX8_matrix 44 = .ok (.getfield 17, 3) := dk_180 0 17 (dk_at dksX8_matrix_2 0 rfl rfl)
theorem dX8_matrix_47 : decode cX8_matrix 47 = .ok (.iload 4, 2) := dk_21 4 (dk_at dksX8_matrix_2 3 rfl rfl)
theorem dX8_matrix_49 : decode cX8_matrix 49 = .ok (.aaload, 1) := dk_50 (dk_at dksX8_matrix_2 5 rfl rfl)
theorem dX8_matrix_50 : decode cX8_matrix 50 = .ok (.iload_n 1, 1) := dk_27 (dk_at dksX8_matrix_2 6 rfl rfl)
theorem dX8_matrix_51 : decode cX8_matrix 51 = .ok (.baload, 1) := dk_51 (dk_at dksX8_matrix_2 7 rfl rfl)
theorem dX8_matrix_52 : decode cX8_matrix 52 = .ok (.aload_n 0, 1) := dk_42 (dk_at dksX8_matrix_2 8 rfl rfl)
theorem dX8_matrix_53 : decode cX8_matrix 53 = .ok (.getfield 17, 3) := dk_180 0 17 (dk_at dksX8_matrix_2 9 rfl rfl)
theorem dX8_matrix_56 : decode cX8_matrix 56 = .ok (.iload 4, 2) := dk_21 4 (dk_at dksX8_matrix_2 12 rfl rfl)
theorem dX8_matrix_58 : decode cX8_matrix 58 = .ok (.aaload, 1) := dk_50 (dk_at dksX8_matrix_2 14 rfl rfl)
theorem dX8_matrix_59 : decode cX8_matrix 59 = .ok (.iload_n 2, 1) := dk_28 (dk_at dksX8_matrix_2 15 rfl rfl)
theorem dX8_matrix_60 : decode cX8_matrix 60 = .ok (.baload, 1) := dk_51 (dk_at dksX8_matrix_2 16 rfl rfl)
theorem dX8_matrix_61 : decode cX8_matrix 61 = .ok (.invokestatic 356, 3) := dk_184 1 100 (dk_at dksX8_matrix_2 17 rfl rfl)
theorem dX8_matrix_64 : decode cX8_matrix 64 = .ok (.ifCond .eq 7, 3) := dk_153 0 7 (dk_at dksX8_matrix_2 20 rfl rfl)
theorem dX8_matrix_67 : decode cX8_matrix 67 = .ok (.iconst 1, 1) := dk_4 (dk_at dksX8_matrix_2 23 rfl rfl)
theorem dX8_matrix_68 : decode cX8_matrix 68 = .ok (.goto 4, 3) := dk_167 0 4 (dk_at dksX8_matrix_3 0 rfl rfl)
theorem dX8_matrix_71 : decode cX8_matrix 71 = .ok (.iconst 0, 1) := dk_3 (dk_at dksX8_matrix_3 3 rfl rfl)
theorem dX8_matrix_72 : decode cX8_matrix 72 = .ok (.iadd, 1) := dk_96 (dk_at dksX8_matrix_3 4 rfl rfl)
theorem dX8_matrix_73 : decode cX8_matrix 73 = .ok (.istore_n 3, 1) := dk_62 (dk_at dksX8_matrix_3 5 rfl rfl)
theorem dX8_matrix_74 : decode cX8_matrix 74 = .ok (.iinc 4 1, 3) := dk_132 4 1 (dk_at dksX8_matrix_3 6 rfl rfl)
theorem dX8_matrix_77 : decode cX8_matrix 77 = .ok (.goto (-44), 3) := dk_167 255 212 (dk_at dksX8_matrix_3 9 rfl rfl)
theorem dX8_matrix_80 : decode cX8_matrix 80 = .ok (.aload_n 0, 1) := dk_42 (dk_at dksX8_matrix_3 12 rfl rfl)
theorem dX8_matrix_81 : decode cX8_matrix 81 = .ok (.getfield 78, 3) := dk_180 0 78 (dk_at dksX8_matrix_3 13 rfl rfl)
theorem dX8_matrix_84 : decode cX8_matrix 84 = .ok (.iload_n 1, 1) := dk_27 (dk_at dksX8_matrix_3 16 rfl rfl)
theorem dX8_matrix_85 : decode cX8_matrix 85 = .ok (.aaload, 1) := dk_50 (dk_at dksX8_matrix_3 17 rfl rfl)
theorem dX8_matrix_86 : decode cX8_matrix 86 = .ok (.iload_n 2, 1) := dk_28 (dk_at dksX8_matrix_3 18 rfl rfl)
theorem dX8_matrix_87 : decode cX8_matrix 87 = .ok (.iload_n 3, 1) := dk_29 (dk_at dksX8_matrix_3 19 rfl rfl)
theorem dX8_matrix_88 : decode cX8_matrix 88 = .ok (.iastore, 1) := dk_79 (dk_at dksX8_matrix_3 20 rfl rfl)
theorem dX8_matrix_89 : decode cX8_matrix 89 = .ok (.aload_n 0, 1) := dk_42 (dk_at dksX8_matrix_3 21 rfl rfl)
theorem dX8_matrix_90 : decode cX8_matrix 90 = .ok (.getfield 33, 3) := dk_180 0 33 (dk_at dksX8_matrix_4 0 rfl rfl)
theorem dX8_matrix_93 : decode cX8_matrix 93 = .ok (.iload_n 2, 1) := dk_28 (dk_at dksX8_matrix_4 3 rfl rfl)
theorem dX8_matrix_94 : decode cX8_matrix 94 = .ok (.iload_n 3, 1) := dk_29 (dk_at dksX8_matrix_4 4 rfl rfl)
theorem dX8_matrix_95 : decode cX8_matrix 95 = .ok (.i2l, 1) := dk_133 (dk_at dksX8_matrix_4 5 rfl rfl)
theorem dX8_matrix_96 : decode cX8_matrix 96 = .ok (.lastore, 1) := dk_80 (dk_at dksX8_matrix_4 6 rfl rfl)
theorem dX8_matrix_97 : decode cX8_matrix 97 = .ok (.iinc 2 1, 3) := dk_132 2 1 (dk_at dksX8_matrix_4 7 rfl rfl)
theorem dX8_matrix_100 : decode cX8_matrix 100 = .ok (.goto (-80), 3) := dk_167 255 176 (dk_at dksX8_matrix_4 10 rfl rfl)
theorem dX8_matrix_103 : decode cX8_matrix 103 = .ok (.aload_n 0, 1) := dk_42 (dk_at dksX8_matrix_4 13 rfl rfl)
theorem dX8_matrix_104 : decode cX8_matrix 104 = .ok (.invokevirtual 254, 3) := dk_182 0 254 (dk_at dksX8_matrix_4 14 rfl rfl)
theorem dX8_matrix_107 : decode cX8_matrix 107 = .ok (.iinc 1 1, 3) := dk_132 1 1 (dk_at dksX8_matrix_4 17 rfl rfl)
theorem dX8_matrix_110 : decode cX8_matrix 110 = .ok (.goto (-108), 3) := dk_167 255 148 (dk_at dksX8_matrix_4 20 rfl rfl)
theorem dX8_matrix_113 : decode cX8_matrix 113 = .ok (.iconst 0, 1) := dk_3 (dk_at dksX8_matrix_4 23 rfl rfl)
theorem dX8_matrix_114 : decode cX8_matrix 114 = .ok (.istore_n 1, 1) := dk_60 (dk_at dksX8_matrix_5 0 rfl rfl)
theorem dX8_matrix_115 : decode cX8_matrix 115 = .ok (.iload_n 1, 1) := dk_27 (dk_at dksX8_matrix_5 1 rfl rfl)
theorem dX8_matrix_116 : decode cX8_matrix 116 = .ok (.aload_n 0, 1) := dk_42 (dk_at dksX8_matrix_5 2 rfl rfl)
theorem dX8_matrix_117 : decode cX8_matrix 117 = .ok (.getfield 148, 3) := dk_180 0 148 (dk_at dksX8_matrix_5 3 rfl rfl)
theorem dX8_matrix_120 : decode cX8_matrix 120 = .ok (.if_icmp .ge 75, 3) := dk_162 0 75 (dk_at dksX8_matrix_5 6 rfl rfl)
theorem dX8_matrix_123 : decode cX8_matrix 123 = .ok (.iconst 0, 1) := dk_3 (dk_at dksX8_matrix_5 9 rfl rfl)
theorem dX8_matrix_124 : decode cX8_matrix 124 = .ok (.istore_n 2, 1) := dk_61 (dk_at dksX8_matrix_5 10 rfl rfl)
theorem dX8_matrix_125 : decode cX8_matrix 125 = .ok (.iload_n 2, 1) := dk_28 (dk_at dksX8_matrix_5 11 rfl rfl)
theorem dX8_matrix_126 : decode cX8_matrix 126 = .ok (.aload_n 0, 1) := dk_42 (dk_at dksX8_matrix_5 12 rfl rfl)
theorem dX8_matrix_127 : decode cX8_matrix 127 = .ok (.getfield 148, 3) := dk_180 0 148 (dk_at dksX8_matrix_5 13 rfl rfl)
theorem dX8_matrix_130 : decode cX8_matrix 130 = .ok (.if_icmp .ge 59, 3) := dk_162 0 59 (dk_at dksX8_matrix_5 16 rfl rfl)
theorem dX8_matrix_133 : decode cX8_matrix 133 = .ok (.aload_n 0, 1) := dk_42 (dk_at dksX8_matrix_5 19 rfl rfl)
theorem dX8_matrix_134 : decode cX8_matrix 134 = .ok (.getfield 83, 3) := dk_180 0 83 (dk_at dksX8_matrix_5 20 rfl rfl)
theorem dX8_matrix_137 : decode cX8_matrix 137 = .ok (.iload_n 1, 1) := dk_27 (dk_at dksX8_matrix_5 23 rfl rfl)
theorem dX8_matrix_138 : decode cX8_matrix 138 = .ok (.aaload, 1) := dk_50 (dk_at dksX8_matrix_6 0 rfl rfl)
theorem dX8_matrix_139 : decode cX8_matrix 139 = .ok (.iload_n 2, 1) := dk_28 (dk_at dksX8_matrix_6 1 rfl rfl)
theorem dX8_matrix_140 : decode cX8_matrix 140 = .ok (.aload_n 0, 1) := dk_42 (dk_at dksX8_matrix_6 2 rfl rfl)
theorem dX8_matrix_141 : decode cX8_matrix 141 = .ok (.getfield 9, 3) := dk_180 0 9 (dk_at dksX8_matrix_6 3 rfl rfl)
theorem dX8_matrix_144 : decode cX8_matrix 144 = .ok (.iload_n 1, 1) := dk_27 (dk_at dksX8_matrix_6 6 rfl rfl)
theorem dX8_matrix_145 : decode cX8_matrix 145 = .ok (.baload, 1) := dk_51 (dk_at dksX8_matrix_6 7 rfl rfl)
theorem dX8_matrix_146 : decode cX8_matrix 146 = .ok (.ifCond .eq 35, 3) := dk_153 0 35 (dk_at dksX8_matrix_6 8 rfl rfl)
theorem dX8_matrix_149 : decode cX8_matrix 149 = .ok (.aload_n 0, 1) := dk_42 (dk_at dksX8_matrix_6 11 rfl rfl)
theorem dX8_matrix_150 : decode cX8_matrix 150 = .ok (.getfield 9, 3) := dk_180 0 9 (dk_at dksX8_matrix_6 12 rfl rfl)
theorem dX8_matrix_153 : decode cX8_matrix 153 = .ok (.iload_n 2, 1) := dk_28 (dk_at dksX8_matrix_6 15 rfl rfl)
theorem dX8_matrix_154 : decode cX8_matrix 154 = .ok (.baload, 1) := dk_51 (dk_at dksX8_matrix_6 16 rfl rfl)
theorem dX8_matrix_155 : decode cX8_matrix 155 = .ok (.ifCond .eq 26, 3) := dk_153 0 26 (dk_at dksX8_matrix_6 17 rfl rfl)
theorem dX8_matrix_158 : decode cX8_matrix 158 = .ok (.aload_n 0, 1) := dk_42 (dk_at dksX8_matrix_6 20 rfl rfl)
theorem dX8_matrix_159 : decode cX8_matrix 159 = .ok (.getfield 78, 3) := dk_180 0 78 (dk_at dksX8_matrix_6 21 rfl rfl)
theorem dX8_matrix_162 : decode cX8_matrix 162 = .ok (.iload_n 1, 1) := dk_27 (dk_at dksX8_matrix_7 0 rfl rfl)
theorem dX8_matrix_163 : decode cX8_matrix 163 = .ok (.aaload, 1) := dk_50 (dk_at dksX8_matrix_7 1 rfl rfl)
theorem dX8_matrix_164 : decode cX8_matrix 164 = .ok (.iload_n 2, 1) := dk_28 (dk_at dksX8_matrix_7 2 rfl rfl)
theorem dX8_matrix_165 : decode cX8_matrix 165 = .ok (.iaload, 1) := dk_46 (dk_at dksX8_matrix_7 3 rfl rfl)
theorem dX8_matrix_166 : decode cX8_matrix 166 = .ok (.aload_n 0, 1) := dk_42 (dk_at dksX8_matrix_7 4 rfl rfl)
theorem dX8_matrix_167 : decode cX8_matrix 167 = .ok (.getfield 78, 3) := dk_180 0 78 (dk_at dksX8_matrix_7 5 rfl rfl)
theorem dX8_matrix_170 : decode cX8_matrix 170 = .ok (.iload_n 2, 1) := dk_28 (dk_at dksX8_matrix_7 8 rfl rfl)
theorem dX8_matrix_171 : decode cX8_matrix 171 = .ok (.aaload, 1) := dk_50 (dk_at dksX8_matrix_7 9 rfl rfl)
theorem dX8_matrix_172 : decode cX8_matrix 172 = .ok (.iload_n 1, 1) := dk_27 (dk_at dksX8_matrix_7 10 rfl rfl)
theorem dX8_matrix_173 : decode cX8_matrix 173 = .ok (.iaload, 1) := dk_46 (dk_at dksX8_matrix_7 11 rfl rfl)
theorem dX8_matrix_174 : decode cX8_matrix 174 = .ok (.if_icmp .le 7, 3) := dk_164 0 7 (dk_at dksX8_matrix_7 12 rfl rfl)
theorem dX8_matrix_177 : decode cX8_matrix 177 = .ok (.iconst 1, 1) := dk_4 (dk_at dksX8_matrix_7 15 rfl rfl)
theorem dX8_matrix_178 : decode cX8_matrix 178 = .ok (.goto 4, 3) := dk_167 0 4 (dk_at dksX8_matrix_7 16 rfl rfl)
theorem dX8_matrix_181 : decode cX8_matrix 181 = .ok (.iconst 0, 1) := dk_3 (dk_at dksX8_matrix_7 19 rfl rfl)
theorem dX8_matrix_182 : decode cX8_matrix 182 = .ok (.bastore, 1) := dk_84 (dk_at dksX8_matrix_7 20 rfl rfl)
theorem dX8_matrix_183 : decode cX8_matrix 183 = .ok (.iinc 2 1, 3) := dk_132 2 1 (dk_at dksX8_matrix_7 21 rfl rfl)
theorem dX8_matrix_186 : decode cX8_matrix 186 = .ok (.goto (-61), 3) := dk_167 255 195 (dk_at dksX8_matrix_8 0 rfl rfl)
theorem dX8_matrix_189 : decode cX8_matrix 189 = .ok (.iinc 1 1, 3) := dk_132 1 1 (dk_at dksX8_matrix_8 3 rfl rfl)
theorem dX8_matrix_192 : decode cX8_matrix 192 = .ok (.goto (-77), 3) := dk_167 255 179 (dk_at dksX8_matrix_8 6 rfl rfl)
theorem dX8_matrix_195 : decode cX8_matrix 195 = .ok (.return_, 1) := dk_177 (dk_at dksX8_matrix_8 9 rfl rfl)
abbrev cX8_isAbove : ByteArray := prog_5_method_43_code
def yX8_isAbove : MethodName := ⟨RX8, "isAbove", "(II)Z"⟩
def dkwX8_isAbove_0 : List UInt8 := [26, 158, 0, 16, 27, 153, 0, 8, 26, 27, 162, 0, 7, 4, 167, 0, 4, 3, 172]
abbrev dktX8_isAbove_0 : List UInt8 := dkwX8_isAbove_0 ++ []
theorem dksX8_isAbove_0 : cX8_isAbove.data.toList.drop 0 = dktX8_isAbove_0 := by decide +kernel
theorem dX8_isAbove_0 : decode cX8_isAbove 0 = .ok (.iload_n 0, 1) := dk_26 (dk_at dksX8_isAbove_0 0 rfl rfl)
theorem dX8_isAbove_1 : decode cX8_isAbove 1 = .ok (.ifCond .le 16, 3) := dk_158 0 16 (dk_at dksX8_isAbove_0 1 rfl rfl)
theorem dX8_isAbove_4 : decode cX8_isAbove 4 = .ok (.iload_n 1, 1) := dk_27 (dk_at dksX8_isAbove_0 4 rfl rfl)
theorem dX8_isAbove_5 : decode cX8_isAbove 5 = .ok (.ifCond .eq 8, 3) := dk_153 0 8 (dk_at dksX8_isAbove_0 5 rfl rfl)
theorem dX8_isAbove_8 : decode cX8_isAbove 8 = .ok (.iload_n 0, 1) := dk_26 (dk_at dksX8_isAbove_0 8 rfl rfl)
theorem dX8_isAbove_9 : decode cX8_isAbove 9 = .ok (.iload_n 1, 1) := dk_27 (dk_at dksX8_isAbove_0 9 rfl rfl)
theorem dX8_isAbove_10 : decode cX8_isAbove 10 = .ok (.if_icmp .ge 7, 3) := dk_162 0 7 (dk_at dksX8_isAbove_0 10 rfl rfl)
theorem dX8_isAbove_13 : decode cX8_isAbove 13 = .ok (.iconst 1, 1) := dk_4 (dk_at dksX8_isAbove_0 13 rfl rfl)
theorem dX8_isAbove_14 : decode cX8_isAbove 14 = .ok (.goto 4, 3) := dk_167 0 4 (dk_at dksX8_isAbove_0 14 rfl rfl)
theorem dX8_isAbove_17 : decode cX8_isAbove 17 = .ok (.iconst 0, 1) := dk_3 (dk_at dksX8_isAbove_0 17 rfl rfl)
theorem dX8_isAbove_18 : decode cX8_isAbove 18 = .ok (.ireturn, 1) := dk_172 (dk_at dksX8_isAbove_0 18 rfl rfl)
abbrev cX8_keepPairs : ByteArray := prog_5_method_55_code
def yX8_keepPairs : MethodName := ⟨RX8, "keepPairs", "()V"⟩
def dkwX8_keepPairs_3 : List UInt8 := [132, 1, 1, 167, 255, 214, 177]
abbrev dktX8_keepPairs_3 : List UInt8 := dkwX8_keepPairs_3 ++ []
def dkwX8_keepPairs_2 : List UInt8 := [180, 0, 98, 27, 46, 62, 42, 180, 0, 86, 29, 50, 28, 51, 154, 0, 9, 42, 28, 29, 182, 1, 140]
abbrev dktX8_keepPairs_2 : List UInt8 := dkwX8_keepPairs_2 ++ dktX8_keepPairs_3
def dkwX8_keepPairs_1 : List UInt8 := [132, 1, 1, 167, 255, 235, 3, 60, 27, 42, 180, 1, 130, 162, 0, 40, 42, 180, 0, 95, 27, 46, 61, 42]
abbrev dktX8_keepPairs_1 : List UInt8 := dkwX8_keepPairs_1 ++ dktX8_keepPairs_2
def dkwX8_keepPairs_0 : List UInt8 := [42, 182, 1, 137, 3, 60, 27, 42, 180, 0, 148, 162, 0, 19, 42, 180, 0, 86, 27, 50, 3, 184, 1, 31]
abbrev dktX8_keepPairs_0 : List UInt8 := dkwX8_keepPairs_0 ++ dktX8_keepPairs_1
theorem dksX8_keepPairs_0 : cX8_keepPairs.data.toList.drop 0 = dktX8_keepPairs_0 := by decide +kernel
theorem dksX8_keepPairs_1 : cX8_keepPairs.data.toList.drop 24 = dktX8_keepPairs_1 := dk_seg dksX8_keepPairs_0 24 rfl rfl
theorem dksX8_keepPairs_2 : cX8_keepPairs.data.toList.drop 48 = dktX8_keepPairs_2 := dk_seg dksX8_keepPairs_1 24 rfl rfl
theorem dksX8_keepPairs_3 : cX8_keepPairs.data.toList.drop 71 = dktX8_keepPairs_3 := dk_seg dksX8_keepPairs_2 23 rfl rfl
theorem dX8_keepPairs_0 : decode cX8_keepPairs 0 = .ok (.aload_n 0, 1) := dk_42 (dk_at dksX8_keepPairs_0 0 rfl rfl)
theorem dX8_keepPairs_1 : decode cX8_keepPairs 1 = .ok (.invokevirtual 393, 3) := dk_182 1 137 (dk_at dksX8_keepPairs_0 1 rfl rfl)
theorem dX8_keepPairs_4 : decode cX8_keepPairs 4 = .ok (.iconst 0, 1) := dk_3 (dk_at dksX8_keepPairs_0 4 rfl rfl)
theorem dX8_keepPairs_5 : decode cX8_keepPairs 5 = .ok (.istore_n 1, 1) := dk_60 (dk_at dksX8_keepPairs_0 5 rfl rfl)
theorem dX8_keepPairs_6 : decode cX8_keepPairs 6 = .ok (.iload_n 1, 1) := dk_27 (dk_at dksX8_keepPairs_0 6 rfl rfl)
theorem dX8_keepPairs_7 : decode cX8_keepPairs 7 = .ok (.aload_n 0, 1) := dk_42 (dk_at dksX8_keepPairs_0 7 rfl rfl)
theorem dX8_keepPairs_8 : decode cX8_keepPairs 8 = .ok (.getfield 148, 3) := dk_180 0 148 (dk_at dksX8_keepPairs_0 8 rfl rfl)
theorem dX8_keepPairs_11 : decode cX8_keepPairs 11 = .ok (.if_icmp .ge 19, 3) := dk_162 0 19 (dk_at dksX8_keepPairs_0 11 rfl rfl)
theorem dX8_keepPairs_14 : decode cX8_keepPairs 14 = .ok (.aload_n 0, 1) := dk_42 (dk_at dksX8_keepPairs_0 14 rfl rfl)
theorem dX8_keepPairs_15 : decode cX8_keepPairs 15 = .ok (.getfield 86, 3) := dk_180 0 86 (dk_at dksX8_keepPairs_0 15 rfl rfl)
theorem dX8_keepPairs_18 : decode cX8_keepPairs 18 = .ok (.iload_n 1, 1) := dk_27 (dk_at dksX8_keepPairs_0 18 rfl rfl)
theorem dX8_keepPairs_19 : decode cX8_keepPairs 19 = .ok (.aaload, 1) := dk_50 (dk_at dksX8_keepPairs_0 19 rfl rfl)
theorem dX8_keepPairs_20 : decode cX8_keepPairs 20 = .ok (.iconst 0, 1) := dk_3 (dk_at dksX8_keepPairs_0 20 rfl rfl)
theorem dX8_keepPairs_21 : decode cX8_keepPairs 21 = .ok (.invokestatic 287, 3) := dk_184 1 31 (dk_at dksX8_keepPairs_0 21 rfl rfl)
theorem dX8_keepPairs_24 : decode cX8_keepPairs 24 = .ok (.iinc 1 1, 3) := dk_132 1 1 (dk_at dksX8_keepPairs_1 0 rfl rfl)
theorem dX8_keepPairs_27 : decode cX8_keepPairs 27 = .ok (.goto (-21), 3) := dk_167 255 235 (dk_at dksX8_keepPairs_1 3 rfl rfl)
theorem dX8_keepPairs_30 : decode cX8_keepPairs 30 = .ok (.iconst 0, 1) := dk_3 (dk_at dksX8_keepPairs_1 6 rfl rfl)
theorem dX8_keepPairs_31 : decode cX8_keepPairs 31 = .ok (.istore_n 1, 1) := dk_60 (dk_at dksX8_keepPairs_1 7 rfl rfl)
theorem dX8_keepPairs_32 : decode cX8_keepPairs 32 = .ok (.iload_n 1, 1) := dk_27 (dk_at dksX8_keepPairs_1 8 rfl rfl)
theorem dX8_keepPairs_33 : decode cX8_keepPairs 33 = .ok (.aload_n 0, 1) := dk_42 (dk_at dksX8_keepPairs_1 9 rfl rfl)
theorem dX8_keepPairs_34 : decode cX8_keepPairs 34 = .ok (.getfield 386, 3) := dk_180 1 130 (dk_at dksX8_keepPairs_1 10 rfl rfl)
theorem dX8_keepPairs_37 : decode cX8_keepPairs 37 = .ok (.if_icmp .ge 40, 3) := dk_162 0 40 (dk_at dksX8_keepPairs_1 13 rfl rfl)
theorem dX8_keepPairs_40 : decode cX8_keepPairs 40 = .ok (.aload_n 0, 1) := dk_42 (dk_at dksX8_keepPairs_1 16 rfl rfl)
theorem dX8_keepPairs_41 : decode cX8_keepPairs 41 = .ok (.getfield 95, 3) := dk_180 0 95 (dk_at dksX8_keepPairs_1 17 rfl rfl)
theorem dX8_keepPairs_44 : decode cX8_keepPairs 44 = .ok (.iload_n 1, 1) := dk_27 (dk_at dksX8_keepPairs_1 20 rfl rfl)
theorem dX8_keepPairs_45 : decode cX8_keepPairs 45 = .ok (.iaload, 1) := dk_46 (dk_at dksX8_keepPairs_1 21 rfl rfl)
theorem dX8_keepPairs_46 : decode cX8_keepPairs 46 = .ok (.istore_n 2, 1) := dk_61 (dk_at dksX8_keepPairs_1 22 rfl rfl)
theorem dX8_keepPairs_47 : decode cX8_keepPairs 47 = .ok (.aload_n 0, 1) := dk_42 (dk_at dksX8_keepPairs_1 23 rfl rfl)
theorem dX8_keepPairs_48 : decode cX8_keepPairs 48 = .ok (.getfield 98, 3) := dk_180 0 98 (dk_at dksX8_keepPairs_2 0 rfl rfl)
theorem dX8_keepPairs_51 : decode cX8_keepPairs 51 = .ok (.iload_n 1, 1) := dk_27 (dk_at dksX8_keepPairs_2 3 rfl rfl)
theorem dX8_keepPairs_52 : decode cX8_keepPairs 52 = .ok (.iaload, 1) := dk_46 (dk_at dksX8_keepPairs_2 4 rfl rfl)
theorem dX8_keepPairs_53 : decode cX8_keepPairs 53 = .ok (.istore_n 3, 1) := dk_62 (dk_at dksX8_keepPairs_2 5 rfl rfl)
theorem dX8_keepPairs_54 : decode cX8_keepPairs 54 = .ok (.aload_n 0, 1) := dk_42 (dk_at dksX8_keepPairs_2 6 rfl rfl)
theorem dX8_keepPairs_55 : decode cX8_keepPairs 55 = .ok (.getfield 86, 3) := dk_180 0 86 (dk_at dksX8_keepPairs_2 7 rfl rfl)
theorem dX8_keepPairs_58 : decode cX8_keepPairs 58 = .ok (.iload_n 3, 1) := dk_29 (dk_at dksX8_keepPairs_2 10 rfl rfl)
theorem dX8_keepPairs_59 : decode cX8_keepPairs 59 = .ok (.aaload, 1) := dk_50 (dk_at dksX8_keepPairs_2 11 rfl rfl)
theorem dX8_keepPairs_60 : decode cX8_keepPairs 60 = .ok (.iload_n 2, 1) := dk_28 (dk_at dksX8_keepPairs_2 12 rfl rfl)
theorem dX8_keepPairs_61 : decode cX8_keepPairs 61 = .ok (.baload, 1) := dk_51 (dk_at dksX8_keepPairs_2 13 rfl rfl)
theorem dX8_keepPairs_62 : decode cX8_keepPairs 62 = .ok (.ifCond .ne 9, 3) := dk_154 0 9 (dk_at dksX8_keepPairs_2 14 rfl rfl)
theorem dX8_keepPairs_65 : decode cX8_keepPairs 65 = .ok (.aload_n 0, 1) := dk_42 (dk_at dksX8_keepPairs_2 17 rfl rfl)
theorem dX8_keepPairs_66 : decode cX8_keepPairs 66 = .ok (.iload_n 2, 1) := dk_28 (dk_at dksX8_keepPairs_2 18 rfl rfl)
theorem dX8_keepPairs_67 : decode cX8_keepPairs 67 = .ok (.iload_n 3, 1) := dk_29 (dk_at dksX8_keepPairs_2 19 rfl rfl)
theorem dX8_keepPairs_68 : decode cX8_keepPairs 68 = .ok (.invokevirtual 396, 3) := dk_182 1 140 (dk_at dksX8_keepPairs_2 20 rfl rfl)
theorem dX8_keepPairs_71 : decode cX8_keepPairs 71 = .ok (.iinc 1 1, 3) := dk_132 1 1 (dk_at dksX8_keepPairs_3 0 rfl rfl)
theorem dX8_keepPairs_74 : decode cX8_keepPairs 74 = .ok (.goto (-42), 3) := dk_167 255 214 (dk_at dksX8_keepPairs_3 3 rfl rfl)
theorem dX8_keepPairs_77 : decode cX8_keepPairs 77 = .ok (.return_, 1) := dk_177 (dk_at dksX8_keepPairs_3 6 rfl rfl)
abbrev cX8_sortPairs : ByteArray := prog_5_method_54_code
def yX8_sortPairs : MethodName := ⟨RX8, "sortPairs", "()V"⟩
def dkwX8_sortPairs_5 : List UInt8 := [42, 89, 180, 1, 130, 4, 96, 181, 1, 130, 132, 2, 1, 167, 255, 142, 132, 1, 1, 167, 255, 126, 177]
abbrev dktX8_sortPairs_5 : List UInt8 := dkwX8_sortPairs_5 ++ []
def dkwX8_sortPairs_4 : List UInt8 := [4, 100, 46, 79, 132, 3, 255, 167, 255, 196, 42, 180, 0, 95, 29, 27, 79, 42, 180, 0, 98, 29, 28, 79]
abbrev dktX8_sortPairs_4 : List UInt8 := dkwX8_sortPairs_4 ++ dktX8_sortPairs_5
def dkwX8_sortPairs_3 : List UInt8 := [42, 180, 0, 95, 29, 42, 180, 0, 95, 29, 4, 100, 46, 79, 42, 180, 0, 98, 29, 42, 180, 0, 98, 29]
abbrev dktX8_sortPairs_3 : List UInt8 := dkwX8_sortPairs_3 ++ dktX8_sortPairs_4
def dkwX8_sortPairs_2 : List UInt8 := [27, 28, 42, 180, 0, 95, 29, 4, 100, 46, 42, 180, 0, 98, 29, 4, 100, 46, 182, 1, 133, 153, 0, 37]
abbrev dktX8_sortPairs_2 : List UInt8 := dkwX8_sortPairs_2 ++ dktX8_sortPairs_3
def dkwX8_sortPairs_1 : List UInt8 := [162, 0, 112, 42, 180, 0, 83, 27, 50, 28, 51, 153, 0, 95, 42, 180, 1, 130, 62, 29, 158, 0, 62, 42]
abbrev dktX8_sortPairs_1 : List UInt8 := dkwX8_sortPairs_1 ++ dktX8_sortPairs_2
def dkwX8_sortPairs_0 : List UInt8 := [42, 3, 181, 1, 130, 3, 60, 27, 42, 180, 0, 148, 162, 0, 128, 3, 61, 28, 42, 180, 0, 148]
abbrev dktX8_sortPairs_0 : List UInt8 := dkwX8_sortPairs_0 ++ dktX8_sortPairs_1
theorem dksX8_sortPairs_0 : cX8_sortPairs.data.toList.drop 0 = dktX8_sortPairs_0 := by decide +kernel
theorem dksX8_sortPairs_1 : cX8_sortPairs.data.toList.drop 22 = dktX8_sortPairs_1 := dk_seg dksX8_sortPairs_0 22 rfl rfl
theorem dksX8_sortPairs_2 : cX8_sortPairs.data.toList.drop 46 = dktX8_sortPairs_2 := dk_seg dksX8_sortPairs_1 24 rfl rfl
theorem dksX8_sortPairs_3 : cX8_sortPairs.data.toList.drop 70 = dktX8_sortPairs_3 := dk_seg dksX8_sortPairs_2 24 rfl rfl
theorem dksX8_sortPairs_4 : cX8_sortPairs.data.toList.drop 94 = dktX8_sortPairs_4 := dk_seg dksX8_sortPairs_3 24 rfl rfl
theorem dksX8_sortPairs_5 : cX8_sortPairs.data.toList.drop 118 = dktX8_sortPairs_5 := dk_seg dksX8_sortPairs_4 24 rfl rfl
theorem dX8_sortPairs_0 : decode cX8_sortPairs 0 = .ok (.aload_n 0, 1) := dk_42 (dk_at dksX8_sortPairs_0 0 rfl rfl)
theorem dX8_sortPairs_1 : decode cX8_sortPairs 1 = .ok (.iconst 0, 1) := dk_3 (dk_at dksX8_sortPairs_0 1 rfl rfl)
theorem dX8_sortPairs_2 : decode cX8_sortPairs 2 = .ok (.putfield 386, 3) := dk_181 1 130 (dk_at dksX8_sortPairs_0 2 rfl rfl)
theorem dX8_sortPairs_5 : decode cX8_sortPairs 5 = .ok (.iconst 0, 1) := dk_3 (dk_at dksX8_sortPairs_0 5 rfl rfl)
theorem dX8_sortPairs_6 : decode cX8_sortPairs 6 = .ok (.istore_n 1, 1) := dk_60 (dk_at dksX8_sortPairs_0 6 rfl rfl)
theorem dX8_sortPairs_7 : decode cX8_sortPairs 7 = .ok (.iload_n 1, 1) := dk_27 (dk_at dksX8_sortPairs_0 7 rfl rfl)
theorem dX8_sortPairs_8 : decode cX8_sortPairs 8 = .ok (.aload_n 0, 1) := dk_42 (dk_at dksX8_sortPairs_0 8 rfl rfl)
theorem dX8_sortPairs_9 : decode cX8_sortPairs 9 = .ok (.getfield 148, 3) := dk_180 0 148 (dk_at dksX8_sortPairs_0 9 rfl rfl)
theorem dX8_sortPairs_12 : decode cX8_sortPairs 12 = .ok (.if_icmp .ge 128, 3) := dk_162 0 128 (dk_at dksX8_sortPairs_0 12 rfl rfl)
theorem dX8_sortPairs_15 : decode cX8_sortPairs 15 = .ok (.iconst 0, 1) := dk_3 (dk_at dksX8_sortPairs_0 15 rfl rfl)
theorem dX8_sortPairs_16 : decode cX8_sortPairs 16 = .ok (.istore_n 2, 1) := dk_61 (dk_at dksX8_sortPairs_0 16 rfl rfl)
theorem dX8_sortPairs_17 : decode cX8_sortPairs 17 = .ok (.iload_n 2, 1) := dk_28 (dk_at dksX8_sortPairs_0 17 rfl rfl)
theorem dX8_sortPairs_18 : decode cX8_sortPairs 18 = .ok (.aload_n 0, 1) := dk_42 (dk_at dksX8_sortPairs_0 18 rfl rfl)
theorem dX8_sortPairs_19 : decode cX8_sortPairs 19 = .ok (.getfield 148, 3) := dk_180 0 148 (dk_at dksX8_sortPairs_0 19 rfl rfl)
theorem dX8_sortPairs_22 : decode cX8_sortPairs 22 = .ok (.if_icmp .ge 112, 3) := dk_162 0 112 (dk_at dksX8_sortPairs_1 0 rfl rfl)
theorem dX8_sortPairs_25 : decode cX8_sortPairs 25 = .ok (.aload_n 0, 1) := dk_42 (dk_at dksX8_sortPairs_1 3 rfl rfl)
theorem dX8_sortPairs_26 : decode cX8_sortPairs 26 = .ok (.getfield 83, 3) := dk_180 0 83 (dk_at dksX8_sortPairs_1 4 rfl rfl)
theorem dX8_sortPairs_29 : decode cX8_sortPairs 29 = .ok (.iload_n 1, 1) := dk_27 (dk_at dksX8_sortPairs_1 7 rfl rfl)
theorem dX8_sortPairs_30 : decode cX8_sortPairs 30 = .ok (.aaload, 1) := dk_50 (dk_at dksX8_sortPairs_1 8 rfl rfl)
theorem dX8_sortPairs_31 : decode cX8_sortPairs 31 = .ok (.iload_n 2, 1) := dk_28 (dk_at dksX8_sortPairs_1 9 rfl rfl)
theorem dX8_sortPairs_32 : decode cX8_sortPairs 32 = .ok (.baload, 1) := dk_51 (dk_at dksX8_sortPairs_1 10 rfl rfl)
theorem dX8_sortPairs_33 : decode cX8_sortPairs 33 = .ok (.ifCond .eq 95, 3) := dk_153 0 95 (dk_at dksX8_sortPairs_1 11 rfl rfl)
theorem dX8_sortPairs_36 : decode cX8_sortPairs 36 = .ok (.aload_n 0, 1) := dk_42 (dk_at dksX8_sortPairs_1 14 rfl rfl)
theorem dX8_sortPairs_37 : decode cX8_sortPairs 37 = .ok (.getfield 386, 3) := dk_180 1 130 (dk_at dksX8_sortPairs_1 15 rfl rfl)
theorem dX8_sortPairs_40 : decode cX8_sortPairs 40 = .ok (.istore_n 3, 1) := dk_62 (dk_at dksX8_sortPairs_1 18 rfl rfl)
theorem dX8_sortPairs_41 : decode cX8_sortPairs 41 = .ok (.iload_n 3, 1) := dk_29 (dk_at dksX8_sortPairs_1 19 rfl rfl)
theorem dX8_sortPairs_42 : decode cX8_sortPairs 42 = .ok (.ifCond .le 62, 3) := dk_158 0 62 (dk_at dksX8_sortPairs_1 20 rfl rfl)
theorem dX8_sortPairs_45 : decode cX8_sortPairs 45 = .ok (.aload_n 0, 1) := dk_42 (dk_at dksX8_sortPairs_1 23 rfl rfl)
theorem dX8_sortPairs_46 : decode cX8_sortPairs 46 = .ok (.iload_n 1, 1) := dk_27 (dk_at dksX8_sortPairs_2 0 rfl rfl)
theorem dX8_sortPairs_47 : decode cX8_sortPairs 47 = .ok (.iload_n 2, 1) := dk_28 (dk_at dksX8_sortPairs_2 1 rfl rfl)
theorem dX8_sortPairs_48 : decode cX8_sortPairs 48 = .ok (.aload_n 0, 1) := dk_42 (dk_at dksX8_sortPairs_2 2 rfl rfl)
theorem dX8_sortPairs_49 : decode cX8_sortPairs 49 = .ok (.getfield 95, 3) := dk_180 0 95 (dk_at dksX8_sortPairs_2 3 rfl rfl)
theorem dX8_sortPairs_52 : decode cX8_sortPairs 52 = .ok (.iload_n 3, 1) := dk_29 (dk_at dksX8_sortPairs_2 6 rfl rfl)
theorem dX8_sortPairs_53 : decode cX8_sortPairs 53 = .ok (.iconst 1, 1) := dk_4 (dk_at dksX8_sortPairs_2 7 rfl rfl)
theorem dX8_sortPairs_54 : decode cX8_sortPairs 54 = .ok (.isub, 1) := dk_100 (dk_at dksX8_sortPairs_2 8 rfl rfl)
theorem dX8_sortPairs_55 : decode cX8_sortPairs 55 = .ok (.iaload, 1) := dk_46 (dk_at dksX8_sortPairs_2 9 rfl rfl)
theorem dX8_sortPairs_56 : decode cX8_sortPairs 56 = .ok (.aload_n 0, 1) := dk_42 (dk_at dksX8_sortPairs_2 10 rfl rfl)
theorem dX8_sortPairs_57 : decode cX8_sortPairs 57 = .ok (.getfield 98, 3) := dk_180 0 98 (dk_at dksX8_sortPairs_2 11 rfl rfl)
theorem dX8_sortPairs_60 : decode cX8_sortPairs 60 = .ok (.iload_n 3, 1) := dk_29 (dk_at dksX8_sortPairs_2 14 rfl rfl)
theorem dX8_sortPairs_61 : decode cX8_sortPairs 61 = .ok (.iconst 1, 1) := dk_4 (dk_at dksX8_sortPairs_2 15 rfl rfl)
theorem dX8_sortPairs_62 : decode cX8_sortPairs 62 = .ok (.isub, 1) := dk_100 (dk_at dksX8_sortPairs_2 16 rfl rfl)
theorem dX8_sortPairs_63 : decode cX8_sortPairs 63 = .ok (.iaload, 1) := dk_46 (dk_at dksX8_sortPairs_2 17 rfl rfl)
theorem dX8_sortPairs_64 : decode cX8_sortPairs 64 = .ok (.invokevirtual 389, 3) := dk_182 1 133 (dk_at dksX8_sortPairs_2 18 rfl rfl)
theorem dX8_sortPairs_67 : decode cX8_sortPairs 67 = .ok (.ifCond .eq 37, 3) := dk_153 0 37 (dk_at dksX8_sortPairs_2 21 rfl rfl)
theorem dX8_sortPairs_70 : decode cX8_sortPairs 70 = .ok (.aload_n 0, 1) := dk_42 (dk_at dksX8_sortPairs_3 0 rfl rfl)
theorem dX8_sortPairs_71 : decode cX8_sortPairs 71 = .ok (.getfield 95, 3) := dk_180 0 95 (dk_at dksX8_sortPairs_3 1 rfl rfl)
theorem dX8_sortPairs_74 : decode cX8_sortPairs 74 = .ok (.iload_n 3, 1) := dk_29 (dk_at dksX8_sortPairs_3 4 rfl rfl)
theorem dX8_sortPairs_75 : decode cX8_sortPairs 75 = .ok (.aload_n 0, 1) := dk_42 (dk_at dksX8_sortPairs_3 5 rfl rfl)
theorem dX8_sortPairs_76 : decode cX8_sortPairs 76 = .ok (.getfield 95, 3) := dk_180 0 95 (dk_at dksX8_sortPairs_3 6 rfl rfl)
theorem dX8_sortPairs_79 : decode cX8_sortPairs 79 = .ok (.iload_n 3, 1) := dk_29 (dk_at dksX8_sortPairs_3 9 rfl rfl)
theorem dX8_sortPairs_80 : decode cX8_sortPairs 80 = .ok (.iconst 1, 1) := dk_4 (dk_at dksX8_sortPairs_3 10 rfl rfl)
theorem dX8_sortPairs_81 : decode cX8_sortPairs 81 = .ok (.isub, 1) := dk_100 (dk_at dksX8_sortPairs_3 11 rfl rfl)
theorem dX8_sortPairs_82 : decode cX8_sortPairs 82 = .ok (.iaload, 1) := dk_46 (dk_at dksX8_sortPairs_3 12 rfl rfl)
theorem dX8_sortPairs_83 : decode cX8_sortPairs 83 = .ok (.iastore, 1) := dk_79 (dk_at dksX8_sortPairs_3 13 rfl rfl)
theorem dX8_sortPairs_84 : decode cX8_sortPairs 84 = .ok (.aload_n 0, 1) := dk_42 (dk_at dksX8_sortPairs_3 14 rfl rfl)
theorem dX8_sortPairs_85 : decode cX8_sortPairs 85 = .ok (.getfield 98, 3) := dk_180 0 98 (dk_at dksX8_sortPairs_3 15 rfl rfl)
theorem dX8_sortPairs_88 : decode cX8_sortPairs 88 = .ok (.iload_n 3, 1) := dk_29 (dk_at dksX8_sortPairs_3 18 rfl rfl)
theorem dX8_sortPairs_89 : decode cX8_sortPairs 89 = .ok (.aload_n 0, 1) := dk_42 (dk_at dksX8_sortPairs_3 19 rfl rfl)
theorem dX8_sortPairs_90 : decode cX8_sortPairs 90 = .ok (.getfield 98, 3) := dk_180 0 98 (dk_at dksX8_sortPairs_3 20 rfl rfl)
theorem dX8_sortPairs_93 : decode cX8_sortPairs 93 = .ok (.iload_n 3, 1) := dk_29 (dk_at dksX8_sortPairs_3 23 rfl rfl)
theorem dX8_sortPairs_94 : decode cX8_sortPairs 94 = .ok (.iconst 1, 1) := dk_4 (dk_at dksX8_sortPairs_4 0 rfl rfl)
theorem dX8_sortPairs_95 : decode cX8_sortPairs 95 = .ok (.isub, 1) := dk_100 (dk_at dksX8_sortPairs_4 1 rfl rfl)
theorem dX8_sortPairs_96 : decode cX8_sortPairs 96 = .ok (.iaload, 1) := dk_46 (dk_at dksX8_sortPairs_4 2 rfl rfl)
theorem dX8_sortPairs_97 : decode cX8_sortPairs 97 = .ok (.iastore, 1) := dk_79 (dk_at dksX8_sortPairs_4 3 rfl rfl)
theorem dX8_sortPairs_98 : decode cX8_sortPairs 98 = .ok (.iinc 3 (-1), 3) := dk_132 3 255 (dk_at dksX8_sortPairs_4 4 rfl rfl)
theorem dX8_sortPairs_101 : decode cX8_sortPairs 101 = .ok (.goto (-60), 3) := dk_167 255 196 (dk_at dksX8_sortPairs_4 7 rfl rfl)
theorem dX8_sortPairs_104 : decode cX8_sortPairs 104 = .ok (.aload_n 0, 1) := dk_42 (dk_at dksX8_sortPairs_4 10 rfl rfl)
theorem dX8_sortPairs_105 : decode cX8_sortPairs 105 = .ok (.getfield 95, 3) := dk_180 0 95 (dk_at dksX8_sortPairs_4 11 rfl rfl)
theorem dX8_sortPairs_108 : decode cX8_sortPairs 108 = .ok (.iload_n 3, 1) := dk_29 (dk_at dksX8_sortPairs_4 14 rfl rfl)
theorem dX8_sortPairs_109 : decode cX8_sortPairs 109 = .ok (.iload_n 1, 1) := dk_27 (dk_at dksX8_sortPairs_4 15 rfl rfl)
theorem dX8_sortPairs_110 : decode cX8_sortPairs 110 = .ok (.iastore, 1) := dk_79 (dk_at dksX8_sortPairs_4 16 rfl rfl)
theorem dX8_sortPairs_111 : decode cX8_sortPairs 111 = .ok (.aload_n 0, 1) := dk_42 (dk_at dksX8_sortPairs_4 17 rfl rfl)
theorem dX8_sortPairs_112 : decode cX8_sortPairs 112 = .ok (.getfield 98, 3) := dk_180 0 98 (dk_at dksX8_sortPairs_4 18 rfl rfl)
theorem dX8_sortPairs_115 : decode cX8_sortPairs 115 = .ok (.iload_n 3, 1) := dk_29 (dk_at dksX8_sortPairs_4 21 rfl rfl)
theorem dX8_sortPairs_116 : decode cX8_sortPairs 116 = .ok (.iload_n 2, 1) := dk_28 (dk_at dksX8_sortPairs_4 22 rfl rfl)
theorem dX8_sortPairs_117 : decode cX8_sortPairs 117 = .ok (.iastore, 1) := dk_79 (dk_at dksX8_sortPairs_4 23 rfl rfl)
theorem dX8_sortPairs_118 : decode cX8_sortPairs 118 = .ok (.aload_n 0, 1) := dk_42 (dk_at dksX8_sortPairs_5 0 rfl rfl)
theorem dX8_sortPairs_119 : decode cX8_sortPairs 119 = .ok (.dup, 1) := dk_89 (dk_at dksX8_sortPairs_5 1 rfl rfl)
theorem dX8_sortPairs_120 : decode cX8_sortPairs 120 = .ok (.getfield 386, 3) := dk_180 1 130 (dk_at dksX8_sortPairs_5 2 rfl rfl)
theorem dX8_sortPairs_123 : decode cX8_sortPairs 123 = .ok (.iconst 1, 1) := dk_4 (dk_at dksX8_sortPairs_5 5 rfl rfl)
theorem dX8_sortPairs_124 : decode cX8_sortPairs 124 = .ok (.iadd, 1) := dk_96 (dk_at dksX8_sortPairs_5 6 rfl rfl)
theorem dX8_sortPairs_125 : decode cX8_sortPairs 125 = .ok (.putfield 386, 3) := dk_181 1 130 (dk_at dksX8_sortPairs_5 7 rfl rfl)
theorem dX8_sortPairs_128 : decode cX8_sortPairs 128 = .ok (.iinc 2 1, 3) := dk_132 2 1 (dk_at dksX8_sortPairs_5 10 rfl rfl)
theorem dX8_sortPairs_131 : decode cX8_sortPairs 131 = .ok (.goto (-114), 3) := dk_167 255 142 (dk_at dksX8_sortPairs_5 13 rfl rfl)
theorem dX8_sortPairs_134 : decode cX8_sortPairs 134 = .ok (.iinc 1 1, 3) := dk_132 1 1 (dk_at dksX8_sortPairs_5 16 rfl rfl)
theorem dX8_sortPairs_137 : decode cX8_sortPairs 137 = .ok (.goto (-130), 3) := dk_167 255 126 (dk_at dksX8_sortPairs_5 19 rfl rfl)
theorem dX8_sortPairs_140 : decode cX8_sortPairs 140 = .ok (.return_, 1) := dk_177 (dk_at dksX8_sortPairs_5 22 rfl rfl)
abbrev cX8_isStronger : ByteArray := prog_5_method_53_code
def yX8_isStronger : MethodName := ⟨RX8, "isStronger", "(IIII)Z"⟩
def dkwX8_isStronger_7 : List UInt8 := [162, 0, 7, 4, 167, 0, 4, 3, 172]
abbrev dktX8_isStronger_7 : List UInt8 := dkwX8_isStronger_7 ++ []
def dkwX8_isStronger_6 : List UInt8 := [167, 0, 30, 42, 180, 0, 135, 180, 1, 128, 28, 46, 42, 180, 0, 135, 180, 1, 128, 21, 4, 46]
abbrev dktX8_isStronger_6 : List UInt8 := dkwX8_isStronger_6 ++ dktX8_isStronger_7
def dkwX8_isStronger_5 : List UInt8 := [180, 1, 128, 27, 46, 42, 180, 0, 135, 180, 1, 128, 29, 46, 162, 0, 7, 4, 167, 0, 34, 3]
abbrev dktX8_isStronger_5 : List UInt8 := dkwX8_isStronger_5 ++ dktX8_isStronger_6
def dkwX8_isStronger_4 : List UInt8 := [50, 21, 4, 46, 164, 0, 7, 4, 167, 0, 4, 3, 172, 27, 29, 159, 0, 32, 42, 180, 0, 135]
abbrev dktX8_isStronger_4 : List UInt8 := dkwX8_isStronger_4 ++ dktX8_isStronger_5
def dkwX8_isStronger_3 : List UInt8 := [180, 0, 78, 29, 50, 21, 4, 46, 159, 0, 29, 42, 180, 0, 78, 27, 50, 28, 46, 42, 180, 0, 78, 29]
abbrev dktX8_isStronger_3 : List UInt8 := dkwX8_isStronger_3 ++ dktX8_isStronger_4
def dkwX8_isStronger_2 : List UInt8 := [21, 5, 21, 6, 164, 0, 7, 4, 167, 0, 4, 3, 172, 42, 180, 0, 78, 27, 50, 28, 46, 42]
abbrev dktX8_isStronger_2 : List UInt8 := dkwX8_isStronger_2 ++ dktX8_isStronger_3
def dkwX8_isStronger_1 : List UInt8 := [50, 21, 4, 46, 42, 180, 0, 78, 21, 4, 50, 29, 46, 100, 54, 6, 21, 5, 21, 6, 159, 0, 16]
abbrev dktX8_isStronger_1 : List UInt8 := dkwX8_isStronger_1 ++ dktX8_isStronger_2
def dkwX8_isStronger_0 : List UInt8 := [42, 180, 0, 78, 27, 50, 28, 46, 42, 180, 0, 78, 28, 50, 27, 46, 100, 54, 5, 42, 180, 0, 78, 29]
abbrev dktX8_isStronger_0 : List UInt8 := dkwX8_isStronger_0 ++ dktX8_isStronger_1
theorem dksX8_isStronger_0 : cX8_isStronger.data.toList.drop 0 = dktX8_isStronger_0 := by decide +kernel
theorem dksX8_isStronger_1 : cX8_isStronger.data.toList.drop 24 = dktX8_isStronger_1 := dk_seg dksX8_isStronger_0 24 rfl rfl
theorem dksX8_isStronger_2 : cX8_isStronger.data.toList.drop 47 = dktX8_isStronger_2 := dk_seg dksX8_isStronger_1 23 rfl rfl
theorem dksX8_isStronger_3 : cX8_isStronger.data.toList.drop 69 = dktX8_isStronger_3 := dk_seg dksX8_isStronger_2 22 rfl rfl
theorem dksX8_isStronger_4 : cX8_isStronger.data.toList.drop 93 = dktX8_isStronger_4 := dk_seg dksX8_isStronger_3 24 rfl rfl
theorem dksX8_isStronger_5 : cX8_isStronger.data.toList.drop 115 = dktX8_isStronger_5 := dk_seg dksX8_isStronger_4 22 rfl rfl
theorem dksX8_isStronger_6 : cX8_isStronger.data.toList.drop 137 = dktX8_isStronger_6 := dk_seg dksX8_isStronger_5 22 rfl rfl
theorem dksX8_isStronger_7 : cX8_isStronger.data.toList.drop 159 = dktX8_isStronger_7 := dk_seg dksX8_isStronger_6 22 rfl rfl
theorem dX8_isStronger_0 : decode cX8_isStronger 0 = .ok (.aload_n 0, 1) := dk_42 (dk_at dksX8_isStronger_0 0 rfl rfl)
theorem dX8_isStronger_1 : decode cX8_isStronger 1 = .ok (.getfield 78, 3) := dk_180 0 78 (dk_at dksX8_isStronger_0 1 rfl rfl)
theorem dX8_isStronger_4 : decode cX8_isStronger 4 = .ok (.iload_n 1, 1) := dk_27 (dk_at dksX8_isStronger_0 4 rfl rfl)
theorem dX8_isStronger_5 : decode cX8_isStronger 5 = .ok (.aaload, 1) := dk_50 (dk_at dksX8_isStronger_0 5 rfl rfl)
theorem dX8_isStronger_6 : decode cX8_isStronger 6 = .ok (.iload_n 2, 1) := dk_28 (dk_at dksX8_isStronger_0 6 rfl rfl)
theorem dX8_isStronger_7 : decode cX8_isStronger 7 = .ok (.iaload, 1) := dk_46 (dk_at dksX8_isStronger_0 7 rfl rfl)
theorem dX8_isStronger_8 : decode cX8_isStronger 8 = .ok (.aload_n 0, 1) := dk_42 (dk_at dksX8_isStronger_0 8 rfl rfl)
theorem dX8_isStronger_9 : decode cX8_isStronger 9 = .ok (.getfield 78, 3) := dk_180 0 78 (dk_at dksX8_isStronger_0 9 rfl rfl)
theorem dX8_isStronger_12 : decode cX8_isStronger 12 = .ok (.iload_n 2, 1) := dk_28 (dk_at dksX8_isStronger_0 12 rfl rfl)
theorem dX8_isStronger_13 : decode cX8_isStronger 13 = .ok (.aaload, 1) := dk_50 (dk_at dksX8_isStronger_0 13 rfl rfl)
theorem dX8_isStronger_14 : decode cX8_isStronger 14 = .ok (.iload_n 1, 1) := dk_27 (dk_at dksX8_isStronger_0 14 rfl rfl)
theorem dX8_isStronger_15 : decode cX8_isStronger 15 = .ok (.iaload, 1) := dk_46 (dk_at dksX8_isStronger_0 15 rfl rfl)
theorem dX8_isStronger_16 : decode cX8_isStronger 16 = .ok (.isub, 1) := dk_100 (dk_at dksX8_isStronger_0 16 rfl rfl)
theorem dX8_isStronger_17 : decode cX8_isStronger 17 = .ok (.istore 5, 2) := dk_54 5 (dk_at dksX8_isStronger_0 17 rfl rfl)
theorem dX8_isStronger_19 : decode cX8_isStronger 19 = .ok (.aload_n 0, 1) := dk_42 (dk_at dksX8_isStronger_0 19 rfl rfl)
theorem dX8_isStronger_20 : decode cX8_isStronger 20 = .ok (.getfield 78, 3) := dk_180 0 78 (dk_at dksX8_isStronger_0 20 rfl rfl)
theorem dX8_isStronger_23 : decode cX8_isStronger 23 = .ok (.iload_n 3, 1) := dk_29 (dk_at dksX8_isStronger_0 23 rfl rfl)
theorem dX8_isStronger_24 : decode cX8_isStronger 24 = .ok (.aaload, 1) := dk_50 (dk_at dksX8_isStronger_1 0 rfl rfl)
theorem dX8_isStronger_25 : decode cX8_isStronger 25 = .ok (.iload 4, 2) := dk_21 4 (dk_at dksX8_isStronger_1 1 rfl rfl)
theorem dX8_isStronger_27 : decode cX8_isStronger 27 = .ok (.iaload, 1) := dk_46 (dk_at dksX8_isStronger_1 3 rfl rfl)
theorem dX8_isStronger_28 : decode cX8_isStronger 28 = .ok (.aload_n 0, 1) := dk_42 (dk_at dksX8_isStronger_1 4 rfl rfl)
theorem dX8_isStronger_29 : decode cX8_isStronger 29 = .ok (.getfield 78, 3) := dk_180 0 78 (dk_at dksX8_isStronger_1 5 rfl rfl)
theorem dX8_isStronger_32 : decode cX8_isStronger 32 = .ok (.iload 4, 2) := dk_21 4 (dk_at dksX8_isStronger_1 8 rfl rfl)
theorem dX8_isStronger_34 : decode cX8_isStronger 34 = .ok (.aaload, 1) := dk_50 (dk_at dksX8_isStronger_1 10 rfl rfl)
theorem dX8_isStronger_35 : decode cX8_isStronger 35 = .ok (.iload_n 3, 1) := dk_29 (dk_at dksX8_isStronger_1 11 rfl rfl)
theorem dX8_isStronger_36 : decode cX8_isStronger 36 = .ok (.iaload, 1) := dk_46 (dk_at dksX8_isStronger_1 12 rfl rfl)
theorem dX8_isStronger_37 : decode cX8_isStronger 37 = .ok (.isub, 1) := dk_100 (dk_at dksX8_isStronger_1 13 rfl rfl)
theorem dX8_isStronger_38 : decode cX8_isStronger 38 = .ok (.istore 6, 2) := dk_54 6 (dk_at dksX8_isStronger_1 14 rfl rfl)
theorem dX8_isStronger_40 : decode cX8_isStronger 40 = .ok (.iload 5, 2) := dk_21 5 (dk_at dksX8_isStronger_1 16 rfl rfl)
theorem dX8_isStronger_42 : decode cX8_isStronger 42 = .ok (.iload 6, 2) := dk_21 6 (dk_at dksX8_isStronger_1 18 rfl rfl)
theorem dX8_isStronger_44 : decode cX8_isStronger 44 = .ok (.if_icmp .eq 16, 3) := dk_159 0 16 (dk_at dksX8_isStronger_1 20 rfl rfl)
theorem dX8_isStronger_47 : decode cX8_isStronger 47 = .ok (.iload 5, 2) := dk_21 5 (dk_at dksX8_isStronger_2 0 rfl rfl)
theorem dX8_isStronger_49 : decode cX8_isStronger 49 = .ok (.iload 6, 2) := dk_21 6 (dk_at dksX8_isStronger_2 2 rfl rfl)
theorem dX8_isStronger_51 : decode cX8_isStronger 51 = .ok (.if_icmp .le 7, 3) := dk_164 0 7 (dk_at dksX8_isStronger_2 4 rfl rfl)
theorem dX8_isStronger_54 : decode cX8_isStronger 54 = .ok (.iconst 1, 1) := dk_4 (dk_at dksX8_isStronger_2 7 rfl rfl)
theorem dX8_isStronger_55 : decode cX8_isStronger 55 = .ok (.goto 4, 3) := dk_167 0 4 (dk_at dksX8_isStronger_2 8 rfl rfl)
theorem dX8_isStronger_58 : decode cX8_isStronger 58 = .ok (.iconst 0, 1) := dk_3 (dk_at dksX8_isStronger_2 11 rfl rfl)
theorem dX8_isStronger_59 : decode cX8_isStronger 59 = .ok (.ireturn, 1) := dk_172 (dk_at dksX8_isStronger_2 12 rfl rfl)
theorem dX8_isStronger_60 : decode cX8_isStronger 60 = .ok (.aload_n 0, 1) := dk_42 (dk_at dksX8_isStronger_2 13 rfl rfl)
theorem dX8_isStronger_61 : decode cX8_isStronger 61 = .ok (.getfield 78, 3) := dk_180 0 78 (dk_at dksX8_isStronger_2 14 rfl rfl)
theorem dX8_isStronger_64 : decode cX8_isStronger 64 = .ok (.iload_n 1, 1) := dk_27 (dk_at dksX8_isStronger_2 17 rfl rfl)
theorem dX8_isStronger_65 : decode cX8_isStronger 65 = .ok (.aaload, 1) := dk_50 (dk_at dksX8_isStronger_2 18 rfl rfl)
theorem dX8_isStronger_66 : decode cX8_isStronger 66 = .ok (.iload_n 2, 1) := dk_28 (dk_at dksX8_isStronger_2 19 rfl rfl)
theorem dX8_isStronger_67 : decode cX8_isStronger 67 = .ok (.iaload, 1) := dk_46 (dk_at dksX8_isStronger_2 20 rfl rfl)
theorem dX8_isStronger_68 : decode cX8_isStronger 68 = .ok (.aload_n 0, 1) := dk_42 (dk_at dksX8_isStronger_2 21 rfl rfl)
theorem dX8_isStronger_69 : decode cX8_isStronger 69 = .ok (.getfield 78, 3) := dk_180 0 78 (dk_at dksX8_isStronger_3 0 rfl rfl)
theorem dX8_isStronger_72 : decode cX8_isStronger 72 = .ok (.iload_n 3, 1) := dk_29 (dk_at dksX8_isStronger_3 3 rfl rfl)
theorem dX8_isStronger_73 : decode cX8_isStronger 73 = .ok (.aaload, 1) := dk_50 (dk_at dksX8_isStronger_3 4 rfl rfl)
theorem dX8_isStronger_74 : decode cX8_isStronger 74 = .ok (.iload 4, 2) := dk_21 4 (dk_at dksX8_isStronger_3 5 rfl rfl)
theorem dX8_isStronger_76 : decode cX8_isStronger 76 = .ok (.iaload, 1) := dk_46 (dk_at dksX8_isStronger_3 7 rfl rfl)
theorem dX8_isStronger_77 : decode cX8_isStronger 77 = .ok (.if_icmp .eq 29, 3) := dk_159 0 29 (dk_at dksX8_isStronger_3 8 rfl rfl)
theorem dX8_isStronger_80 : decode cX8_isStronger 80 = .ok (.aload_n 0, 1) := dk_42 (dk_at dksX8_isStronger_3 11 rfl rfl)
theorem dX8_isStronger_81 : decode cX8_isStronger 81 = .ok (.getfield 78, 3) := dk_180 0 78 (dk_at dksX8_isStronger_3 12 rfl rfl)
theorem dX8_isStronger_84 : decode cX8_isStronger 84 = .ok (.iload_n 1, 1) := dk_27 (dk_at dksX8_isStronger_3 15 rfl rfl)
theorem dX8_isStronger_85 : decode cX8_isStronger 85 = .ok (.aaload, 1) := dk_50 (dk_at dksX8_isStronger_3 16 rfl rfl)
theorem dX8_isStronger_86 : decode cX8_isStronger 86 = .ok (.iload_n 2, 1) := dk_28 (dk_at dksX8_isStronger_3 17 rfl rfl)
theorem dX8_isStronger_87 : decode cX8_isStronger 87 = .ok (.iaload, 1) := dk_46 (dk_at dksX8_isStronger_3 18 rfl rfl)
theorem dX8_isStronger_88 : decode cX8_isStronger 88 = .ok (.aload_n 0, 1) := dk_42 (dk_at dksX8_isStronger_3 19 rfl rfl)
theorem dX8_isStronger_89 : decode cX8_isStronger 89 = .ok (.getfield 78, 3) := dk_180 0 78 (dk_at dksX8_isStronger_3 20 rfl rfl)
theorem dX8_isStronger_92 : decode cX8_isStronger 92 = .ok (.iload_n 3, 1) := dk_29 (dk_at dksX8_isStronger_3 23 rfl rfl)
theorem dX8_isStronger_93 : decode cX8_isStronger 93 = .ok (.aaload, 1) := dk_50 (dk_at dksX8_isStronger_4 0 rfl rfl)
theorem dX8_isStronger_94 : decode cX8_isStronger 94 = .ok (.iload 4, 2) := dk_21 4 (dk_at dksX8_isStronger_4 1 rfl rfl)
theorem dX8_isStronger_96 : decode cX8_isStronger 96 = .ok (.iaload, 1) := dk_46 (dk_at dksX8_isStronger_4 3 rfl rfl)
theorem dX8_isStronger_97 : decode cX8_isStronger 97 = .ok (.if_icmp .le 7, 3) := dk_164 0 7 (dk_at dksX8_isStronger_4 4 rfl rfl)
theorem dX8_isStronger_100 : decode cX8_isStronger 100 = .ok (.iconst 1, 1) := dk_4 (dk_at dksX8_isStronger_4 7 rfl rfl)
theorem dX8_isStronger_101 : decode cX8_isStronger 101 = .ok (.goto 4, 3) := dk_167 0 4 (dk_at dksX8_isStronger_4 8 rfl rfl)
theorem dX8_isStronger_104 : decode cX8_isStronger 104 = .ok (.iconst 0, 1) := dk_3 (dk_at dksX8_isStronger_4 11 rfl rfl)
theorem dX8_isStronger_105 : decode cX8_isStronger 105 = .ok (.ireturn, 1) := dk_172 (dk_at dksX8_isStronger_4 12 rfl rfl)
theorem dX8_isStronger_106 : decode cX8_isStronger 106 = .ok (.iload_n 1, 1) := dk_27 (dk_at dksX8_isStronger_4 13 rfl rfl)
theorem dX8_isStronger_107 : decode cX8_isStronger 107 = .ok (.iload_n 3, 1) := dk_29 (dk_at dksX8_isStronger_4 14 rfl rfl)
theorem dX8_isStronger_108 : decode cX8_isStronger 108 = .ok (.if_icmp .eq 32, 3) := dk_159 0 32 (dk_at dksX8_isStronger_4 15 rfl rfl)
theorem dX8_isStronger_111 : decode cX8_isStronger 111 = .ok (.aload_n 0, 1) := dk_42 (dk_at dksX8_isStronger_4 18 rfl rfl)
theorem dX8_isStronger_112 : decode cX8_isStronger 112 = .ok (.getfield 135, 3) := dk_180 0 135 (dk_at dksX8_isStronger_4 19 rfl rfl)
theorem dX8_isStronger_115 : decode cX8_isStronger 115 = .ok (.getfield 384, 3) := dk_180 1 128 (dk_at dksX8_isStronger_5 0 rfl rfl)
theorem dX8_isStronger_118 : decode cX8_isStronger 118 = .ok (.iload_n 1, 1) := dk_27 (dk_at dksX8_isStronger_5 3 rfl rfl)
theorem dX8_isStronger_119 : decode cX8_isStronger 119 = .ok (.iaload, 1) := dk_46 (dk_at dksX8_isStronger_5 4 rfl rfl)
theorem dX8_isStronger_120 : decode cX8_isStronger 120 = .ok (.aload_n 0, 1) := dk_42 (dk_at dksX8_isStronger_5 5 rfl rfl)
theorem dX8_isStronger_121 : decode cX8_isStronger 121 = .ok (.getfield 135, 3) := dk_180 0 135 (dk_at dksX8_isStronger_5 6 rfl rfl)
theorem dX8_isStronger_124 : decode cX8_isStronger 124 = .ok (.getfield 384, 3) := dk_180 1 128 (dk_at dksX8_isStronger_5 9 rfl rfl)
theorem dX8_isStronger_127 : decode cX8_isStronger 127 = .ok (.iload_n 3, 1) := dk_29 (dk_at dksX8_isStronger_5 12 rfl rfl)
theorem dX8_isStronger_128 : decode cX8_isStronger 128 = .ok (.iaload, 1) := dk_46 (dk_at dksX8_isStronger_5 13 rfl rfl)
theorem dX8_isStronger_129 : decode cX8_isStronger 129 = .ok (.if_icmp .ge 7, 3) := dk_162 0 7 (dk_at dksX8_isStronger_5 14 rfl rfl)
theorem dX8_isStronger_132 : decode cX8_isStronger 132 = .ok (.iconst 1, 1) := dk_4 (dk_at dksX8_isStronger_5 17 rfl rfl)
theorem dX8_isStronger_133 : decode cX8_isStronger 133 = .ok (.goto 34, 3) := dk_167 0 34 (dk_at dksX8_isStronger_5 18 rfl rfl)
theorem dX8_isStronger_136 : decode cX8_isStronger 136 = .ok (.iconst 0, 1) := dk_3 (dk_at dksX8_isStronger_5 21 rfl rfl)
theorem dX8_isStronger_137 : decode cX8_isStronger 137 = .ok (.goto 30, 3) := dk_167 0 30 (dk_at dksX8_isStronger_6 0 rfl rfl)
theorem dX8_isStronger_140 : decode cX8_isStronger 140 = .ok (.aload_n 0, 1) := dk_42 (dk_at dksX8_isStronger_6 3 rfl rfl)
theorem dX8_isStronger_141 : decode cX8_isStronger 141 = .ok (.getfield 135, 3) := dk_180 0 135 (dk_at dksX8_isStronger_6 4 rfl rfl)
theorem dX8_isStronger_144 : decode cX8_isStronger 144 = .ok (.getfield 384, 3) := dk_180 1 128 (dk_at dksX8_isStronger_6 7 rfl rfl)
theorem dX8_isStronger_147 : decode cX8_isStronger 147 = .ok (.iload_n 2, 1) := dk_28 (dk_at dksX8_isStronger_6 10 rfl rfl)
theorem dX8_isStronger_148 : decode cX8_isStronger 148 = .ok (.iaload, 1) := dk_46 (dk_at dksX8_isStronger_6 11 rfl rfl)
theorem dX8_isStronger_149 : decode cX8_isStronger 149 = .ok (.aload_n 0, 1) := dk_42 (dk_at dksX8_isStronger_6 12 rfl rfl)
theorem dX8_isStronger_150 : decode cX8_isStronger 150 = .ok (.getfield 135, 3) := dk_180 0 135 (dk_at dksX8_isStronger_6 13 rfl rfl)
theorem dX8_isStronger_153 : decode cX8_isStronger 153 = .ok (.getfield 384, 3) := dk_180 1 128 (dk_at dksX8_isStronger_6 16 rfl rfl)
theorem dX8_isStronger_156 : decode cX8_isStronger 156 = .ok (.iload 4, 2) := dk_21 4 (dk_at dksX8_isStronger_6 19 rfl rfl)
theorem dX8_isStronger_158 : decode cX8_isStronger 158 = .ok (.iaload, 1) := dk_46 (dk_at dksX8_isStronger_6 21 rfl rfl)
theorem dX8_isStronger_159 : decode cX8_isStronger 159 = .ok (.if_icmp .ge 7, 3) := dk_162 0 7 (dk_at dksX8_isStronger_7 0 rfl rfl)
theorem dX8_isStronger_162 : decode cX8_isStronger 162 = .ok (.iconst 1, 1) := dk_4 (dk_at dksX8_isStronger_7 3 rfl rfl)
theorem dX8_isStronger_163 : decode cX8_isStronger 163 = .ok (.goto 4, 3) := dk_167 0 4 (dk_at dksX8_isStronger_7 4 rfl rfl)
theorem dX8_isStronger_166 : decode cX8_isStronger 166 = .ok (.iconst 0, 1) := dk_3 (dk_at dksX8_isStronger_7 7 rfl rfl)
theorem dX8_isStronger_167 : decode cX8_isStronger 167 = .ok (.ireturn, 1) := dk_172 (dk_at dksX8_isStronger_7 8 rfl rfl)
abbrev cX8_join : ByteArray := prog_5_method_56_code
def yX8_join : MethodName := ⟨RX8, "join", "(II)V"⟩
def dkwX8_join_3 : List UInt8 := [167, 0, 4, 3, 128, 84, 132, 4, 1, 167, 255, 193, 132, 3, 1, 167, 255, 176, 177]
abbrev dktX8_join_3 : List UInt8 := dkwX8_join_3 ++ []
def dkwX8_join_2 : List UInt8 := [153, 0, 25, 21, 4, 28, 159, 0, 15, 42, 180, 0, 86, 28, 50, 21, 4, 51, 153, 0, 7, 4]
abbrev dktX8_join_2 : List UInt8 := dkwX8_join_2 ++ dktX8_join_3
def dkwX8_join_1 : List UInt8 := [180, 0, 86, 29, 50, 21, 4, 92, 51, 29, 27, 159, 0, 14, 42, 180, 0, 86, 29, 50, 27, 51]
abbrev dktX8_join_1 : List UInt8 := dkwX8_join_1 ++ dktX8_join_2
def dkwX8_join_0 : List UInt8 := [3, 62, 29, 42, 180, 0, 148, 162, 0, 78, 3, 54, 4, 21, 4, 42, 180, 0, 148, 162, 0, 60, 42]
abbrev dktX8_join_0 : List UInt8 := dkwX8_join_0 ++ dktX8_join_1
theorem dksX8_join_0 : cX8_join.data.toList.drop 0 = dktX8_join_0 := by decide +kernel
theorem dksX8_join_1 : cX8_join.data.toList.drop 23 = dktX8_join_1 := dk_seg dksX8_join_0 23 rfl rfl
theorem dksX8_join_2 : cX8_join.data.toList.drop 45 = dktX8_join_2 := dk_seg dksX8_join_1 22 rfl rfl
theorem dksX8_join_3 : cX8_join.data.toList.drop 67 = dktX8_join_3 := dk_seg dksX8_join_2 22 rfl rfl
theorem dX8_join_0 : decode cX8_join 0 = .ok (.iconst 0, 1) := dk_3 (dk_at dksX8_join_0 0 rfl rfl)
theorem dX8_join_1 : decode cX8_join 1 = .ok (.istore_n 3, 1) := dk_62 (dk_at dksX8_join_0 1 rfl rfl)
theorem dX8_join_2 : decode cX8_join 2 = .ok (.iload_n 3, 1) := dk_29 (dk_at dksX8_join_0 2 rfl rfl)
theorem dX8_join_3 : decode cX8_join 3 = .ok (.aload_n 0, 1) := dk_42 (dk_at dksX8_join_0 3 rfl rfl)
theorem dX8_join_4 : decode cX8_join 4 = .ok (.getfield 148, 3) := dk_180 0 148 (dk_at dksX8_join_0 4 rfl rfl)
theorem dX8_join_7 : decode cX8_join 7 = .ok (.if_icmp .ge 78, 3) := dk_162 0 78 (dk_at dksX8_join_0 7 rfl rfl)
theorem dX8_join_10 : decode cX8_join 10 = .ok (.iconst 0, 1) := dk_3 (dk_at dksX8_join_0 10 rfl rfl)
theorem dX8_join_11 : decode cX8_join 11 = .ok (.istore 4, 2) := dk_54 4 (dk_at dksX8_join_0 11 rfl rfl)
theorem dX8_join_13 : decode cX8_join 13 = .ok (.iload 4, 2) := dk_21 4 (dk_at dksX8_join_0 13 rfl rfl)
theorem dX8_join_15 : decode cX8_join 15 = .ok (.aload_n 0, 1) := dk_42 (dk_at dksX8_join_0 15 rfl rfl)
theorem dX8_join_16 : decode cX8_join 16 = .ok (.getfield 148, 3) := dk_180 0 148 (dk_at dksX8_join_0 16 rfl rfl)
theorem dX8_join_19 : decode cX8_join 19 = .ok (.if_icmp .ge 60, 3) := dk_162 0 60 (dk_at dksX8_join_0 19 rfl rfl)
theorem dX8_join_22 : decode cX8_join 22 = .ok (.aload_n 0, 1) := dk_42 (dk_at dksX8_join_0 22 rfl rfl)
theorem dX8_join_23 : decode cX8_join 23 = .ok (.getfield 86, 3) := dk_180 0 86 (dk_at dksX8_join_1 0 rfl rfl)
theorem dX8_join_26 : decode cX8_join 26 = .ok (.iload_n 3, 1) := dk_29 (dk_at dksX8_join_1 3 rfl rfl)
theorem dX8_join_27 : decode cX8_join 27 = .ok (.aaload, 1) := dk_50 (dk_at dksX8_join_1 4 rfl rfl)
theorem dX8_join_28 : decode cX8_join 28 = .ok (.iload 4, 2) := dk_21 4 (dk_at dksX8_join_1 5 rfl rfl)
theorem dX8_join_30 : decode cX8_join 30 = .ok (.dup2, 1) := dk_92 (dk_at dksX8_join_1 7 rfl rfl)
theorem dX8_join_31 : decode cX8_join 31 = .ok (.baload, 1) := dk_51 (dk_at dksX8_join_1 8 rfl rfl)
theorem dX8_join_32 : decode cX8_join 32 = .ok (.iload_n 3, 1) := dk_29 (dk_at dksX8_join_1 9 rfl rfl)
theorem dX8_join_33 : decode cX8_join 33 = .ok (.iload_n 1, 1) := dk_27 (dk_at dksX8_join_1 10 rfl rfl)
theorem dX8_join_34 : decode cX8_join 34 = .ok (.if_icmp .eq 14, 3) := dk_159 0 14 (dk_at dksX8_join_1 11 rfl rfl)
theorem dX8_join_37 : decode cX8_join 37 = .ok (.aload_n 0, 1) := dk_42 (dk_at dksX8_join_1 14 rfl rfl)
theorem dX8_join_38 : decode cX8_join 38 = .ok (.getfield 86, 3) := dk_180 0 86 (dk_at dksX8_join_1 15 rfl rfl)
theorem dX8_join_41 : decode cX8_join 41 = .ok (.iload_n 3, 1) := dk_29 (dk_at dksX8_join_1 18 rfl rfl)
theorem dX8_join_42 : decode cX8_join 42 = .ok (.aaload, 1) := dk_50 (dk_at dksX8_join_1 19 rfl rfl)
theorem dX8_join_43 : decode cX8_join 43 = .ok (.iload_n 1, 1) := dk_27 (dk_at dksX8_join_1 20 rfl rfl)
theorem dX8_join_44 : decode cX8_join 44 = .ok (.baload, 1) := dk_51 (dk_at dksX8_join_1 21 rfl rfl)
theorem dX8_join_45 : decode cX8_join 45 = .ok (.ifCond .eq 25, 3) := dk_153 0 25 (dk_at dksX8_join_2 0 rfl rfl)
theorem dX8_join_48 : decode cX8_join 48 = .ok (.iload 4, 2) := dk_21 4 (dk_at dksX8_join_2 3 rfl rfl)
theorem dX8_join_50 : decode cX8_join 50 = .ok (.iload_n 2, 1) := dk_28 (dk_at dksX8_join_2 5 rfl rfl)
theorem dX8_join_51 : decode cX8_join 51 = .ok (.if_icmp .eq 15, 3) := dk_159 0 15 (dk_at dksX8_join_2 6 rfl rfl)
theorem dX8_join_54 : decode cX8_join 54 = .ok (.aload_n 0, 1) := dk_42 (dk_at dksX8_join_2 9 rfl rfl)
theorem dX8_join_55 : decode cX8_join 55 = .ok (.getfield 86, 3) := dk_180 0 86 (dk_at dksX8_join_2 10 rfl rfl)
theorem dX8_join_58 : decode cX8_join 58 = .ok (.iload_n 2, 1) := dk_28 (dk_at dksX8_join_2 13 rfl rfl)
theorem dX8_join_59 : decode cX8_join 59 = .ok (.aaload, 1) := dk_50 (dk_at dksX8_join_2 14 rfl rfl)
theorem dX8_join_60 : decode cX8_join 60 = .ok (.iload 4, 2) := dk_21 4 (dk_at dksX8_join_2 15 rfl rfl)
theorem dX8_join_62 : decode cX8_join 62 = .ok (.baload, 1) := dk_51 (dk_at dksX8_join_2 17 rfl rfl)
theorem dX8_join_63 : decode cX8_join 63 = .ok (.ifCond .eq 7, 3) := dk_153 0 7 (dk_at dksX8_join_2 18 rfl rfl)
theorem dX8_join_66 : decode cX8_join 66 = .ok (.iconst 1, 1) := dk_4 (dk_at dksX8_join_2 21 rfl rfl)
theorem dX8_join_67 : decode cX8_join 67 = .ok (.goto 4, 3) := dk_167 0 4 (dk_at dksX8_join_3 0 rfl rfl)
theorem dX8_join_70 : decode cX8_join 70 = .ok (.iconst 0, 1) := dk_3 (dk_at dksX8_join_3 3 rfl rfl)
theorem dX8_join_71 : decode cX8_join 71 = .ok (.ior, 1) := dk_128 (dk_at dksX8_join_3 4 rfl rfl)
theorem dX8_join_72 : decode cX8_join 72 = .ok (.bastore, 1) := dk_84 (dk_at dksX8_join_3 5 rfl rfl)
theorem dX8_join_73 : decode cX8_join 73 = .ok (.iinc 4 1, 3) := dk_132 4 1 (dk_at dksX8_join_3 6 rfl rfl)
theorem dX8_join_76 : decode cX8_join 76 = .ok (.goto (-63), 3) := dk_167 255 193 (dk_at dksX8_join_3 9 rfl rfl)
theorem dX8_join_79 : decode cX8_join 79 = .ok (.iinc 3 1, 3) := dk_132 3 1 (dk_at dksX8_join_3 12 rfl rfl)
theorem dX8_join_82 : decode cX8_join 82 = .ok (.goto (-80), 3) := dk_167 255 176 (dk_at dksX8_join_3 15 rfl rfl)
theorem dX8_join_85 : decode cX8_join 85 = .ok (.return_, 1) := dk_177 (dk_at dksX8_join_3 18 rfl rfl)
abbrev cX8_widen : ByteArray := prog_5_method_57_code
def yX8_widen : MethodName := ⟨RX8, "widen", "()V"⟩
def dkwX8_widen_6 : List UInt8 := [167, 255, 191, 132, 1, 1, 167, 255, 175, 177]
abbrev dktX8_widen_6 : List UInt8 := dkwX8_widen_6 ++ []
def dkwX8_widen_5 : List UInt8 := [180, 0, 89, 27, 50, 29, 46, 184, 1, 143, 184, 1, 122, 79, 132, 3, 1, 167, 255, 207, 132, 2, 1]
abbrev dktX8_widen_5 : List UInt8 := dkwX8_widen_5 ++ dktX8_widen_6
def dkwX8_widen_4 : List UInt8 := [180, 0, 89, 28, 50, 29, 42, 180, 0, 89, 28, 50, 29, 46, 42, 180, 0, 89, 28, 50, 27, 46, 42]
abbrev dktX8_widen_4 : List UInt8 := dkwX8_widen_4 ++ dktX8_widen_5
def dkwX8_widen_3 : List UInt8 := [162, 0, 79, 3, 61, 28, 42, 180, 0, 148, 162, 0, 63, 3, 62, 29, 42, 180, 0, 148, 162, 0, 47, 42]
abbrev dktX8_widen_3 : List UInt8 := dkwX8_widen_3 ++ dktX8_widen_4
def dkwX8_widen_2 : List UInt8 := [167, 0, 4, 3, 79, 132, 2, 1, 167, 255, 214, 132, 1, 1, 167, 255, 198, 3, 60, 27, 42, 180, 0, 148]
abbrev dktX8_widen_2 : List UInt8 := dkwX8_widen_2 ++ dktX8_widen_3
def dkwX8_widen_1 : List UInt8 := [27, 50, 28, 42, 180, 0, 83, 27, 50, 28, 51, 153, 0, 14, 42, 180, 0, 78, 27, 50, 28, 46]
abbrev dktX8_widen_1 : List UInt8 := dkwX8_widen_1 ++ dktX8_widen_2
def dkwX8_widen_0 : List UInt8 := [3, 60, 27, 42, 180, 0, 148, 162, 0, 56, 3, 61, 28, 42, 180, 0, 148, 162, 0, 40, 42, 180, 0, 89]
abbrev dktX8_widen_0 : List UInt8 := dkwX8_widen_0 ++ dktX8_widen_1
theorem dksX8_widen_0 : cX8_widen.data.toList.drop 0 = dktX8_widen_0 := by decide +kernel
theorem dksX8_widen_1 : cX8_widen.data.toList.drop 24 = dktX8_widen_1 := dk_seg dksX8_widen_0 24 rfl rfl
theorem dksX8_widen_2 : cX8_widen.data.toList.drop 46 = dktX8_widen_2 := dk_seg dksX8_widen_1 22 rfl rfl
theorem dksX8_widen_3 : cX8_widen.data.toList.drop 70 = dktX8_widen_3 := dk_seg dksX8_widen_2 24 rfl rfl
theorem dksX8_widen_4 : cX8_widen.data.toList.drop 94 = dktX8_widen_4 := dk_seg dksX8_widen_3 24 rfl rfl
theorem dksX8_widen_5 : cX8_widen.data.toList.drop 117 = dktX8_widen_5 := dk_seg dksX8_widen_4 23 rfl rfl
theorem dksX8_widen_6 : cX8_widen.data.toList.drop 140 = dktX8_widen_6 := dk_seg dksX8_widen_5 23 rfl rfl
theorem dX8_widen_0 : decode cX8_widen 0 = .ok (.iconst 0, 1) := dk_3 (dk_at dksX8_widen_0 0 rfl rfl)
theorem dX8_widen_1 : decode cX8_widen 1 = .ok (.istore_n 1, 1) := dk_60 (dk_at dksX8_widen_0 1 rfl rfl)
theorem dX8_widen_2 : decode cX8_widen 2 = .ok (.iload_n 1, 1) := dk_27 (dk_at dksX8_widen_0 2 rfl rfl)
theorem dX8_widen_3 : decode cX8_widen 3 = .ok (.aload_n 0, 1) := dk_42 (dk_at dksX8_widen_0 3 rfl rfl)
theorem dX8_widen_4 : decode cX8_widen 4 = .ok (.getfield 148, 3) := dk_180 0 148 (dk_at dksX8_widen_0 4 rfl rfl)
theorem dX8_widen_7 : decode cX8_widen 7 = .ok (.if_icmp .ge 56, 3) := dk_162 0 56 (dk_at dksX8_widen_0 7 rfl rfl)
theorem dX8_widen_10 : decode cX8_widen 10 = .ok (.iconst 0, 1) := dk_3 (dk_at dksX8_widen_0 10 rfl rfl)
theorem dX8_widen_11 : decode cX8_widen 11 = .ok (.istore_n 2, 1) := dk_61 (dk_at dksX8_widen_0 11 rfl rfl)
theorem dX8_widen_12 : decode cX8_widen 12 = .ok (.iload_n 2, 1) := dk_28 (dk_at dksX8_widen_0 12 rfl rfl)
theorem dX8_widen_13 : decode cX8_widen 13 = .ok (.aload_n 0, 1) := dk_42 (dk_at dksX8_widen_0 13 rfl rfl)
theorem dX8_widen_14 : decode cX8_widen 14 = .ok (.getfield 148, 3) := dk_180 0 148 (dk_at dksX8_widen_0 14 rfl rfl)
theorem dX8_widen_17 : decode cX8_widen 17 = .ok (.if_icmp .ge 40, 3) := dk_162 0 40 (dk_at dksX8_widen_0 17 rfl rfl)
theorem dX8_widen_20 : decode cX8_widen 20 = .ok (.aload_n 0, 1) := dk_42 (dk_at dksX8_widen_0 20 rfl rfl)
theorem dX8_widen_21 : decode cX8_widen 21 = .ok (.getfield 89, 3) := dk_180 0 89 (dk_at dksX8_widen_0 21 rfl rfl)
theorem dX8_widen_24 : decode cX8_widen 24 = .ok (.iload_n 1, 1) := dk_27 (dk_at dksX8_widen_1 0 rfl rfl)
theorem dX8_widen_25 : decode cX8_widen 25 = .ok (.aaload, 1) := dk_50 (dk_at dksX8_widen_1 1 rfl rfl)
theorem dX8_widen_26 : decode cX8_widen 26 = .ok (.iload_n 2, 1) := dk_28 (dk_at dksX8_widen_1 2 rfl rfl)
theorem dX8_widen_27 : decode cX8_widen 27 = .ok (.aload_n 0, 1) := dk_42 (dk_at dksX8_widen_1 3 rfl rfl)
theorem dX8_widen_28 : decode cX8_widen 28 = .ok (.getfield 83, 3) := dk_180 0 83 (dk_at dksX8_widen_1 4 rfl rfl)
theorem dX8_widen_31 : decode cX8_widen 31 = .ok (.iload_n 1, 1) := dk_27 (dk_at dksX8_widen_1 7 rfl rfl)
theorem dX8_widen_32 : decode cX8_widen 32 = .ok (.aaload, 1) := dk_50 (dk_at dksX8_widen_1 8 rfl rfl)
theorem dX8_widen_33 : decode cX8_widen 33 = .ok (.iload_n 2, 1) := dk_28 (dk_at dksX8_widen_1 9 rfl rfl)
theorem dX8_widen_34 : decode cX8_widen 34 = .ok (.baload, 1) := dk_51 (dk_at dksX8_widen_1 10 rfl rfl)
theorem dX8_widen_35 : decode cX8_widen 35 = .ok (.ifCond .eq 14, 3) := dk_153 0 14 (dk_at dksX8_widen_1 11 rfl rfl)
theorem dX8_widen_38 : decode cX8_widen 38 = .ok (.aload_n 0, 1) := dk_42 (dk_at dksX8_widen_1 14 rfl rfl)
theorem dX8_widen_39 : decode cX8_widen 39 = .ok (.getfield 78, 3) := dk_180 0 78 (dk_at dksX8_widen_1 15 rfl rfl)
theorem dX8_widen_42 : decode cX8_widen 42 = .ok (.iload_n 1, 1) := dk_27 (dk_at dksX8_widen_1 18 rfl rfl)
theorem dX8_widen_43 : decode cX8_widen 43 = .ok (.aaload, 1) := dk_50 (dk_at dksX8_widen_1 19 rfl rfl)
theorem dX8_widen_44 : decode cX8_widen 44 = .ok (.iload_n 2, 1) := dk_28 (dk_at dksX8_widen_1 20 rfl rfl)
theorem dX8_widen_45 : decode cX8_widen 45 = .ok (.iaload, 1) := dk_46 (dk_at dksX8_widen_1 21 rfl rfl)
theorem dX8_widen_46 : decode cX8_widen 46 = .ok (.goto 4, 3) := dk_167 0 4 (dk_at dksX8_widen_2 0 rfl rfl)
theorem dX8_widen_49 : decode cX8_widen 49 = .ok (.iconst 0, 1) := dk_3 (dk_at dksX8_widen_2 3 rfl rfl)
theorem dX8_widen_50 : decode cX8_widen 50 = .ok (.iastore, 1) := dk_79 (dk_at dksX8_widen_2 4 rfl rfl)
theorem dX8_widen_51 : decode cX8_widen 51 = .ok (.iinc 2 1, 3) := dk_132 2 1 (dk_at dksX8_widen_2 5 rfl rfl)
theorem dX8_widen_54 : decode cX8_widen 54 = .ok (.goto (-42), 3) := dk_167 255 214 (dk_at dksX8_widen_2 8 rfl rfl)
theorem dX8_widen_57 : decode cX8_widen 57 = .ok (.iinc 1 1, 3) := dk_132 1 1 (dk_at dksX8_widen_2 11 rfl rfl)
theorem dX8_widen_60 : decode cX8_widen 60 = .ok (.goto (-58), 3) := dk_167 255 198 (dk_at dksX8_widen_2 14 rfl rfl)
theorem dX8_widen_63 : decode cX8_widen 63 = .ok (.iconst 0, 1) := dk_3 (dk_at dksX8_widen_2 17 rfl rfl)
theorem dX8_widen_64 : decode cX8_widen 64 = .ok (.istore_n 1, 1) := dk_60 (dk_at dksX8_widen_2 18 rfl rfl)
theorem dX8_widen_65 : decode cX8_widen 65 = .ok (.iload_n 1, 1) := dk_27 (dk_at dksX8_widen_2 19 rfl rfl)
theorem dX8_widen_66 : decode cX8_widen 66 = .ok (.aload_n 0, 1) := dk_42 (dk_at dksX8_widen_2 20 rfl rfl)
theorem dX8_widen_67 : decode cX8_widen 67 = .ok (.getfield 148, 3) := dk_180 0 148 (dk_at dksX8_widen_2 21 rfl rfl)
theorem dX8_widen_70 : decode cX8_widen 70 = .ok (.if_icmp .ge 79, 3) := dk_162 0 79 (dk_at dksX8_widen_3 0 rfl rfl)
theorem dX8_widen_73 : decode cX8_widen 73 = .ok (.iconst 0, 1) := dk_3 (dk_at dksX8_widen_3 3 rfl rfl)
theorem dX8_widen_74 : decode cX8_widen 74 = .ok (.istore_n 2, 1) := dk_61 (dk_at dksX8_widen_3 4 rfl rfl)
theorem dX8_widen_75 : decode cX8_widen 75 = .ok (.iload_n 2, 1) := dk_28 (dk_at dksX8_widen_3 5 rfl rfl)
theorem dX8_widen_76 : decode cX8_widen 76 = .ok (.aload_n 0, 1) := dk_42 (dk_at dksX8_widen_3 6 rfl rfl)
theorem dX8_widen_77 : decode cX8_widen 77 = .ok (.getfield 148, 3) := dk_180 0 148 (dk_at dksX8_widen_3 7 rfl rfl)
theorem dX8_widen_80 : decode cX8_widen 80 = .ok (.if_icmp .ge 63, 3) := dk_162 0 63 (dk_at dksX8_widen_3 10 rfl rfl)
theorem dX8_widen_83 : decode cX8_widen 83 = .ok (.iconst 0, 1) := dk_3 (dk_at dksX8_widen_3 13 rfl rfl)
theorem dX8_widen_84 : decode cX8_widen 84 = .ok (.istore_n 3, 1) := dk_62 (dk_at dksX8_widen_3 14 rfl rfl)
theorem dX8_widen_85 : decode cX8_widen 85 = .ok (.iload_n 3, 1) := dk_29 (dk_at dksX8_widen_3 15 rfl rfl)
theorem dX8_widen_86 : decode cX8_widen 86 = .ok (.aload_n 0, 1) := dk_42 (dk_at dksX8_widen_3 16 rfl rfl)
theorem dX8_widen_87 : decode cX8_widen 87 = .ok (.getfield 148, 3) := dk_180 0 148 (dk_at dksX8_widen_3 17 rfl rfl)
theorem dX8_widen_90 : decode cX8_widen 90 = .ok (.if_icmp .ge 47, 3) := dk_162 0 47 (dk_at dksX8_widen_3 20 rfl rfl)
theorem dX8_widen_93 : decode cX8_widen 93 = .ok (.aload_n 0, 1) := dk_42 (dk_at dksX8_widen_3 23 rfl rfl)
theorem dX8_widen_94 : decode cX8_widen 94 = .ok (.getfield 89, 3) := dk_180 0 89 (dk_at dksX8_widen_4 0 rfl rfl)
theorem dX8_widen_97 : decode cX8_widen 97 = .ok (.iload_n 2, 1) := dk_28 (dk_at dksX8_widen_4 3 rfl rfl)
theorem dX8_widen_98 : decode cX8_widen 98 = .ok (.aaload, 1) := dk_50 (dk_at dksX8_widen_4 4 rfl rfl)
theorem dX8_widen_99 : decode cX8_widen 99 = .ok (.iload_n 3, 1) := dk_29 (dk_at dksX8_widen_4 5 rfl rfl)
theorem dX8_widen_100 : decode cX8_widen 100 = .ok (.aload_n 0, 1) := dk_42 (dk_at dksX8_widen_4 6 rfl rfl)
theorem dX8_widen_101 : decode cX8_widen 101 = .ok (.getfield 89, 3) := dk_180 0 89 (dk_at dksX8_widen_4 7 rfl rfl)
theorem dX8_widen_104 : decode cX8_widen 104 = .ok (.iload_n 2, 1) := dk_28 (dk_at dksX8_widen_4 10 rfl rfl)
theorem dX8_widen_105 : decode cX8_widen 105 = .ok (.aaload, 1) := dk_50 (dk_at dksX8_widen_4 11 rfl rfl)
theorem dX8_widen_106 : decode cX8_widen 106 = .ok (.iload_n 3, 1) := dk_29 (dk_at dksX8_widen_4 12 rfl rfl)
theorem dX8_widen_107 : decode cX8_widen 107 = .ok (.iaload, 1) := dk_46 (dk_at dksX8_widen_4 13 rfl rfl)
theorem dX8_widen_108 : decode cX8_widen 108 = .ok (.aload_n 0, 1) := dk_42 (dk_at dksX8_widen_4 14 rfl rfl)
theorem dX8_widen_109 : decode cX8_widen 109 = .ok (.getfield 89, 3) := dk_180 0 89 (dk_at dksX8_widen_4 15 rfl rfl)
theorem dX8_widen_112 : decode cX8_widen 112 = .ok (.iload_n 2, 1) := dk_28 (dk_at dksX8_widen_4 18 rfl rfl)
theorem dX8_widen_113 : decode cX8_widen 113 = .ok (.aaload, 1) := dk_50 (dk_at dksX8_widen_4 19 rfl rfl)
theorem dX8_widen_114 : decode cX8_widen 114 = .ok (.iload_n 1, 1) := dk_27 (dk_at dksX8_widen_4 20 rfl rfl)
theorem dX8_widen_115 : decode cX8_widen 115 = .ok (.iaload, 1) := dk_46 (dk_at dksX8_widen_4 21 rfl rfl)
theorem dX8_widen_116 : decode cX8_widen 116 = .ok (.aload_n 0, 1) := dk_42 (dk_at dksX8_widen_4 22 rfl rfl)
theorem dX8_widen_117 : decode cX8_widen 117 = .ok (.getfield 89, 3) := dk_180 0 89 (dk_at dksX8_widen_5 0 rfl rfl)
theorem dX8_widen_120 : decode cX8_widen 120 = .ok (.iload_n 1, 1) := dk_27 (dk_at dksX8_widen_5 3 rfl rfl)
theorem dX8_widen_121 : decode cX8_widen 121 = .ok (.aaload, 1) := dk_50 (dk_at dksX8_widen_5 4 rfl rfl)
theorem dX8_widen_122 : decode cX8_widen 122 = .ok (.iload_n 3, 1) := dk_29 (dk_at dksX8_widen_5 5 rfl rfl)
theorem dX8_widen_123 : decode cX8_widen 123 = .ok (.iaload, 1) := dk_46 (dk_at dksX8_widen_5 6 rfl rfl)
theorem dX8_widen_124 : decode cX8_widen 124 = .ok (.invokestatic 399, 3) := dk_184 1 143 (dk_at dksX8_widen_5 7 rfl rfl)
theorem dX8_widen_127 : decode cX8_widen 127 = .ok (.invokestatic 378, 3) := dk_184 1 122 (dk_at dksX8_widen_5 10 rfl rfl)
theorem dX8_widen_130 : decode cX8_widen 130 = .ok (.iastore, 1) := dk_79 (dk_at dksX8_widen_5 13 rfl rfl)
theorem dX8_widen_131 : decode cX8_widen 131 = .ok (.iinc 3 1, 3) := dk_132 3 1 (dk_at dksX8_widen_5 14 rfl rfl)
theorem dX8_widen_134 : decode cX8_widen 134 = .ok (.goto (-49), 3) := dk_167 255 207 (dk_at dksX8_widen_5 17 rfl rfl)
theorem dX8_widen_137 : decode cX8_widen 137 = .ok (.iinc 2 1, 3) := dk_132 2 1 (dk_at dksX8_widen_5 20 rfl rfl)
theorem dX8_widen_140 : decode cX8_widen 140 = .ok (.goto (-65), 3) := dk_167 255 191 (dk_at dksX8_widen_6 0 rfl rfl)
theorem dX8_widen_143 : decode cX8_widen 143 = .ok (.iinc 1 1, 3) := dk_132 1 1 (dk_at dksX8_widen_6 3 rfl rfl)
theorem dX8_widen_146 : decode cX8_widen 146 = .ok (.goto (-81), 3) := dk_167 255 175 (dk_at dksX8_widen_6 6 rfl rfl)
theorem dX8_widen_149 : decode cX8_widen 149 = .ok (.return_, 1) := dk_177 (dk_at dksX8_widen_6 9 rfl rfl)
abbrev cX8_byOrder : ByteArray := prog_5_method_45_code
def yX8_byOrder : MethodName := ⟨RX8, "byOrder", "()V"⟩
def dkwX8_byOrder_6 : List UInt8 := [177]
abbrev dktX8_byOrder_6 : List UInt8 := dkwX8_byOrder_6 ++ []
def dkwX8_byOrder_5 : List UInt8 := [21, 5, 61, 132, 3, 1, 167, 255, 185, 42, 180, 0, 92, 27, 3, 84, 42, 27, 182, 0, 219, 167, 255, 150]
abbrev dktX8_byOrder_5 : List UInt8 := dkwX8_byOrder_5 ++ dktX8_byOrder_6
def dkwX8_byOrder_4 : List UInt8 := [180, 0, 92, 21, 4, 51, 153, 0, 20, 27, 2, 159, 0, 9, 21, 5, 28, 164, 0, 9, 21, 4, 60]
abbrev dktX8_byOrder_4 : List UInt8 := dkwX8_byOrder_4 ++ dktX8_byOrder_5
def dkwX8_byOrder_3 : List UInt8 := [180, 0, 92, 21, 4, 51, 153, 0, 12, 42, 21, 4, 182, 1, 103, 167, 0, 4, 3, 54, 5, 42]
abbrev dktX8_byOrder_3 : List UInt8 := dkwX8_byOrder_3 ++ dktX8_byOrder_4
def dkwX8_byOrder_2 : List UInt8 := [3, 62, 29, 42, 180, 0, 148, 162, 0, 69, 42, 180, 0, 135, 180, 0, 212, 29, 46, 54, 4, 42]
abbrev dktX8_byOrder_2 : List UInt8 := dkwX8_byOrder_2 ++ dktX8_byOrder_3
def dkwX8_byOrder_1 : List UInt8 := [132, 1, 1, 167, 255, 233, 42, 180, 0, 167, 42, 180, 0, 131, 180, 0, 185, 162, 0, 98, 2, 60, 3, 61]
abbrev dktX8_byOrder_1 : List UInt8 := dkwX8_byOrder_1 ++ dktX8_byOrder_2
def dkwX8_byOrder_0 : List UInt8 := [3, 60, 27, 42, 180, 0, 148, 162, 0, 21, 42, 180, 0, 92, 27, 42, 180, 0, 9, 27, 51, 84]
abbrev dktX8_byOrder_0 : List UInt8 := dkwX8_byOrder_0 ++ dktX8_byOrder_1
theorem dksX8_byOrder_0 : cX8_byOrder.data.toList.drop 0 = dktX8_byOrder_0 := by decide +kernel
theorem dksX8_byOrder_1 : cX8_byOrder.data.toList.drop 22 = dktX8_byOrder_1 := dk_seg dksX8_byOrder_0 22 rfl rfl
theorem dksX8_byOrder_2 : cX8_byOrder.data.toList.drop 46 = dktX8_byOrder_2 := dk_seg dksX8_byOrder_1 24 rfl rfl
theorem dksX8_byOrder_3 : cX8_byOrder.data.toList.drop 68 = dktX8_byOrder_3 := dk_seg dksX8_byOrder_2 22 rfl rfl
theorem dksX8_byOrder_4 : cX8_byOrder.data.toList.drop 90 = dktX8_byOrder_4 := dk_seg dksX8_byOrder_3 22 rfl rfl
theorem dksX8_byOrder_5 : cX8_byOrder.data.toList.drop 113 = dktX8_byOrder_5 := dk_seg dksX8_byOrder_4 23 rfl rfl
theorem dksX8_byOrder_6 : cX8_byOrder.data.toList.drop 137 = dktX8_byOrder_6 := dk_seg dksX8_byOrder_5 24 rfl rfl
theorem dX8_byOrder_0 : decode cX8_byOrder 0 = .ok (.iconst 0, 1) := dk_3 (dk_at dksX8_byOrder_0 0 rfl rfl)
theorem dX8_byOrder_1 : decode cX8_byOrder 1 = .ok (.istore_n 1, 1) := dk_60 (dk_at dksX8_byOrder_0 1 rfl rfl)
theorem dX8_byOrder_2 : decode cX8_byOrder 2 = .ok (.iload_n 1, 1) := dk_27 (dk_at dksX8_byOrder_0 2 rfl rfl)
theorem dX8_byOrder_3 : decode cX8_byOrder 3 = .ok (.aload_n 0, 1) := dk_42 (dk_at dksX8_byOrder_0 3 rfl rfl)
theorem dX8_byOrder_4 : decode cX8_byOrder 4 = .ok (.getfield 148, 3) := dk_180 0 148 (dk_at dksX8_byOrder_0 4 rfl rfl)
theorem dX8_byOrder_7 : decode cX8_byOrder 7 = .ok (.if_icmp .ge 21, 3) := dk_162 0 21 (dk_at dksX8_byOrder_0 7 rfl rfl)
theorem dX8_byOrder_10 : decode cX8_byOrder 10 = .ok (.aload_n 0, 1) := dk_42 (dk_at dksX8_byOrder_0 10 rfl rfl)
theorem dX8_byOrder_11 : decode cX8_byOrder 11 = .ok (.getfield 92, 3) := dk_180 0 92 (dk_at dksX8_byOrder_0 11 rfl rfl)
theorem dX8_byOrder_14 : decode cX8_byOrder 14 = .ok (.iload_n 1, 1) := dk_27 (dk_at dksX8_byOrder_0 14 rfl rfl)
theorem dX8_byOrder_15 : decode cX8_byOrder 15 = .ok (.aload_n 0, 1) := dk_42 (dk_at dksX8_byOrder_0 15 rfl rfl)
theorem dX8_byOrder_16 : decode cX8_byOrder 16 = .ok (.getfield 9, 3) := dk_180 0 9 (dk_at dksX8_byOrder_0 16 rfl rfl)
theorem dX8_byOrder_19 : decode cX8_byOrder 19 = .ok (.iload_n 1, 1) := dk_27 (dk_at dksX8_byOrder_0 19 rfl rfl)
theorem dX8_byOrder_20 : decode cX8_byOrder 20 = .ok (.baload, 1) := dk_51 (dk_at dksX8_byOrder_0 20 rfl rfl)
theorem dX8_byOrder_21 : decode cX8_byOrder 21 = .ok (.bastore, 1) := dk_84 (dk_at dksX8_byOrder_0 21 rfl rfl)
theorem dX8_byOrder_22 : decode cX8_byOrder 22 = .ok (.iinc 1 1, 3) := dk_132 1 1 (dk_at dksX8_byOrder_1 0 rfl rfl)
theorem dX8_byOrder_25 : decode cX8_byOrder 25 = .ok (.goto (-23), 3) := dk_167 255 233 (dk_at dksX8_byOrder_1 3 rfl rfl)
theorem dX8_byOrder_28 : decode cX8_byOrder 28 = .ok (.aload_n 0, 1) := dk_42 (dk_at dksX8_byOrder_1 6 rfl rfl)
theorem dX8_byOrder_29 : decode cX8_byOrder 29 = .ok (.getfield 167, 3) := dk_180 0 167 (dk_at dksX8_byOrder_1 7 rfl rfl)
theorem dX8_byOrder_32 : decode cX8_byOrder 32 = .ok (.aload_n 0, 1) := dk_42 (dk_at dksX8_byOrder_1 10 rfl rfl)
theorem dX8_byOrder_33 : decode cX8_byOrder 33 = .ok (.getfield 131, 3) := dk_180 0 131 (dk_at dksX8_byOrder_1 11 rfl rfl)
theorem dX8_byOrder_36 : decode cX8_byOrder 36 = .ok (.getfield 185, 3) := dk_180 0 185 (dk_at dksX8_byOrder_1 14 rfl rfl)
theorem dX8_byOrder_39 : decode cX8_byOrder 39 = .ok (.if_icmp .ge 98, 3) := dk_162 0 98 (dk_at dksX8_byOrder_1 17 rfl rfl)
theorem dX8_byOrder_42 : decode cX8_byOrder 42 = .ok (.iconst (-1), 1) := dk_2 (dk_at dksX8_byOrder_1 20 rfl rfl)
theorem dX8_byOrder_43 : decode cX8_byOrder 43 = .ok (.istore_n 1, 1) := dk_60 (dk_at dksX8_byOrder_1 21 rfl rfl)
theorem dX8_byOrder_44 : decode cX8_byOrder 44 = .ok (.iconst 0, 1) := dk_3 (dk_at dksX8_byOrder_1 22 rfl rfl)
theorem dX8_byOrder_45 : decode cX8_byOrder 45 = .ok (.istore_n 2, 1) := dk_61 (dk_at dksX8_byOrder_1 23 rfl rfl)
theorem dX8_byOrder_46 : decode cX8_byOrder 46 = .ok (.iconst 0, 1) := dk_3 (dk_at dksX8_byOrder_2 0 rfl rfl)
theorem dX8_byOrder_47 : decode cX8_byOrder 47 = .ok (.istore_n 3, 1) := dk_62 (dk_at dksX8_byOrder_2 1 rfl rfl)
theorem dX8_byOrder_48 : decode cX8_byOrder 48 = .ok (.iload_n 3, 1) := dk_29 (dk_at dksX8_byOrder_2 2 rfl rfl)
theorem dX8_byOrder_49 : decode cX8_byOrder 49 = .ok (.aload_n 0, 1) := dk_42 (dk_at dksX8_byOrder_2 3 rfl rfl)
theorem dX8_byOrder_50 : decode cX8_byOrder 50 = .ok (.getfield 148, 3) := dk_180 0 148 (dk_at dksX8_byOrder_2 4 rfl rfl)
theorem dX8_byOrder_53 : decode cX8_byOrder 53 = .ok (.if_icmp .ge 69, 3) := dk_162 0 69 (dk_at dksX8_byOrder_2 7 rfl rfl)
theorem dX8_byOrder_56 : decode cX8_byOrder 56 = .ok (.aload_n 0, 1) := dk_42 (dk_at dksX8_byOrder_2 10 rfl rfl)
theorem dX8_byOrder_57 : decode cX8_byOrder 57 = .ok (.getfield 135, 3) := dk_180 0 135 (dk_at dksX8_byOrder_2 11 rfl rfl)
theorem dX8_byOrder_60 : decode cX8_byOrder 60 = .ok (.getfield 212, 3) := dk_180 0 212 (dk_at dksX8_byOrder_2 14 rfl rfl)
theorem dX8_byOrder_63 : decode cX8_byOrder 63 = .ok (.iload_n 3, 1) := dk_29 (dk_at dksX8_byOrder_2 17 rfl rfl)
theorem dX8_byOrder_64 : decode cX8_byOrder 64 = .ok (.iaload, 1) := dk_46 (dk_at dksX8_byOrder_2 18 rfl rfl)
theorem dX8_byOrder_65 : decode cX8_byOrder 65 = .ok (.istore 4, 2) := dk_54 4 (dk_at dksX8_byOrder_2 19 rfl rfl)
theorem dX8_byOrder_67 : decode cX8_byOrder 67 = .ok (.aload_n 0, 1) := dk_42 (dk_at dksX8_byOrder_2 21 rfl rfl)
theorem dX8_byOrder_68 : decode cX8_byOrder 68 = .ok (.getfield 92, 3) := dk_180 0 92 (dk_at dksX8_byOrder_3 0 rfl rfl)
theorem dX8_byOrder_71 : decode cX8_byOrder 71 = .ok (.iload 4, 2) := dk_21 4 (dk_at dksX8_byOrder_3 3 rfl rfl)
theorem dX8_byOrder_73 : decode cX8_byOrder 73 = .ok (.baload, 1) := dk_51 (dk_at dksX8_byOrder_3 5 rfl rfl)
theorem dX8_byOrder_74 : decode cX8_byOrder 74 = .ok (.ifCond .eq 12, 3) := dk_153 0 12 (dk_at dksX8_byOrder_3 6 rfl rfl)
theorem dX8_byOrder_77 : decode cX8_byOrder 77 = .ok (.aload_n 0, 1) := dk_42 (dk_at dksX8_byOrder_3 9 rfl rfl)
theorem dX8_byOrder_78 : decode cX8_byOrder 78 = .ok (.iload 4, 2) := dk_21 4 (dk_at dksX8_byOrder_3 10 rfl rfl)
theorem dX8_byOrder_80 : decode cX8_byOrder 80 = .ok (.invokevirtual 359, 3) := dk_182 1 103 (dk_at dksX8_byOrder_3 12 rfl rfl)
theorem dX8_byOrder_83 : decode cX8_byOrder 83 = .ok (.goto 4, 3) := dk_167 0 4 (dk_at dksX8_byOrder_3 15 rfl rfl)
theorem dX8_byOrder_86 : decode cX8_byOrder 86 = .ok (.iconst 0, 1) := dk_3 (dk_at dksX8_byOrder_3 18 rfl rfl)
theorem dX8_byOrder_87 : decode cX8_byOrder 87 = .ok (.istore 5, 2) := dk_54 5 (dk_at dksX8_byOrder_3 19 rfl rfl)
theorem dX8_byOrder_89 : decode cX8_byOrder 89 = .ok (.aload_n 0, 1) := dk_42 (dk_at dksX8_byOrder_3 21 rfl rfl)
theorem dX8_byOrder_90 : decode cX8_byOrder 90 = .ok (.getfield 92, 3) := dk_180 0 92 (dk_at dksX8_byOrder_4 0 rfl rfl)
theorem dX8_byOrder_93 : decode cX8_byOrder 93 = .ok (.iload 4, 2) := dk_21 4 (dk_at dksX8_byOrder_4 3 rfl rfl)
theorem dX8_byOrder_95 : decode cX8_byOrder 95 = .ok (.baload, 1) := dk_51 (dk_at dksX8_byOrder_4 5 rfl rfl)
theorem dX8_byOrder_96 : decode cX8_byOrder 96 = .ok (.ifCond .eq 20, 3) := dk_153 0 20 (dk_at dksX8_byOrder_4 6 rfl rfl)
theorem dX8_byOrder_99 : decode cX8_byOrder 99 = .ok (.iload_n 1, 1) := dk_27 (dk_at dksX8_byOrder_4 9 rfl rfl)
theorem dX8_byOrder_100 : decode cX8_byOrder 100 = .ok (.iconst (-1), 1) := dk_2 (dk_at dksX8_byOrder_4 10 rfl rfl)
theorem dX8_byOrder_101 : decode cX8_byOrder 101 = .ok (.if_icmp .eq 9, 3) := dk_159 0 9 (dk_at dksX8_byOrder_4 11 rfl rfl)
theorem dX8_byOrder_104 : decode cX8_byOrder 104 = .ok (.iload 5, 2) := dk_21 5 (dk_at dksX8_byOrder_4 14 rfl rfl)
theorem dX8_byOrder_106 : decode cX8_byOrder 106 = .ok (.iload_n 2, 1) := dk_28 (dk_at dksX8_byOrder_4 16 rfl rfl)
theorem dX8_byOrder_107 : decode cX8_byOrder 107 = .ok (.if_icmp .le 9, 3) := dk_164 0 9 (dk_at dksX8_byOrder_4 17 rfl rfl)
theorem dX8_byOrder_110 : decode cX8_byOrder 110 = .ok (.iload 4, 2) := dk_21 4 (dk_at dksX8_byOrder_4 20 rfl rfl)
theorem dX8_byOrder_112 : decode cX8_byOrder 112 = .ok (.istore_n 1, 1) := dk_60 (dk_at dksX8_byOrder_4 22 rfl rfl)
theorem dX8_byOrder_113 : decode cX8_byOrder 113 = .ok (.iload 5, 2) := dk_21 5 (dk_at dksX8_byOrder_5 0 rfl rfl)
theorem dX8_byOrder_115 : decode cX8_byOrder 115 = .ok (.istore_n 2, 1) := dk_61 (dk_at dksX8_byOrder_5 2 rfl rfl)
theorem dX8_byOrder_116 : decode cX8_byOrder 116 = .ok (.iinc 3 1, 3) := dk_132 3 1 (dk_at dksX8_byOrder_5 3 rfl rfl)
theorem dX8_byOrder_119 : decode cX8_byOrder 119 = .ok (.goto (-71), 3) := dk_167 255 185 (dk_at dksX8_byOrder_5 6 rfl rfl)
theorem dX8_byOrder_122 : decode cX8_byOrder 122 = .ok (.aload_n 0, 1) := dk_42 (dk_at dksX8_byOrder_5 9 rfl rfl)
theorem dX8_byOrder_123 : decode cX8_byOrder 123 = .ok (.getfield 92, 3) := dk_180 0 92 (dk_at dksX8_byOrder_5 10 rfl rfl)
theorem dX8_byOrder_126 : decode cX8_byOrder 126 = .ok (.iload_n 1, 1) := dk_27 (dk_at dksX8_byOrder_5 13 rfl rfl)
theorem dX8_byOrder_127 : decode cX8_byOrder 127 = .ok (.iconst 0, 1) := dk_3 (dk_at dksX8_byOrder_5 14 rfl rfl)
theorem dX8_byOrder_128 : decode cX8_byOrder 128 = .ok (.bastore, 1) := dk_84 (dk_at dksX8_byOrder_5 15 rfl rfl)
theorem dX8_byOrder_129 : decode cX8_byOrder 129 = .ok (.aload_n 0, 1) := dk_42 (dk_at dksX8_byOrder_5 16 rfl rfl)
theorem dX8_byOrder_130 : decode cX8_byOrder 130 = .ok (.iload_n 1, 1) := dk_27 (dk_at dksX8_byOrder_5 17 rfl rfl)
theorem dX8_byOrder_131 : decode cX8_byOrder 131 = .ok (.invokevirtual 219, 3) := dk_182 0 219 (dk_at dksX8_byOrder_5 18 rfl rfl)
theorem dX8_byOrder_134 : decode cX8_byOrder 134 = .ok (.goto (-106), 3) := dk_167 255 150 (dk_at dksX8_byOrder_5 21 rfl rfl)
theorem dX8_byOrder_137 : decode cX8_byOrder 137 = .ok (.return_, 1) := dk_177 (dk_at dksX8_byOrder_6 0 rfl rfl)
abbrev cX8_worthOf : ByteArray := prog_5_method_46_code
def yX8_worthOf : MethodName := ⟨RX8, "worthOf", "(I)I"⟩
def dkwX8_worthOf_4 : List UInt8 := [17, 252, 24, 167, 0, 8, 42, 27, 182, 1, 119, 172]
abbrev dktX8_worthOf_4 : List UInt8 := dkwX8_worthOf_4 ++ []
def dkwX8_worthOf_3 : List UInt8 := [172, 42, 27, 182, 1, 113, 153, 0, 7, 2, 167, 0, 4, 3, 172, 42, 27, 182, 1, 116, 153, 0, 9]
abbrev dktX8_worthOf_3 : List UInt8 := dkwX8_worthOf_3 ++ dktX8_worthOf_4
def dkwX8_worthOf_2 : List UInt8 := [42, 27, 182, 1, 106, 116, 172, 42, 27, 42, 180, 0, 86, 182, 1, 109, 153, 0, 7, 2, 167, 0, 4, 3]
abbrev dktX8_worthOf_2 : List UInt8 := dkwX8_worthOf_2 ++ dktX8_worthOf_3
def dkwX8_worthOf_1 : List UInt8 := [170, 0, 0, 0, 64, 0, 0, 0, 7, 0, 0, 0, 9, 0, 0, 0, 25, 0, 0, 0, 32, 0, 0, 0, 50]
abbrev dktX8_worthOf_1 : List UInt8 := dkwX8_worthOf_1 ++ dktX8_worthOf_2
def dkwX8_worthOf_0 : List UInt8 := [42, 180, 0, 131, 180, 0, 180]
abbrev dktX8_worthOf_0 : List UInt8 := dkwX8_worthOf_0 ++ dktX8_worthOf_1
theorem dksX8_worthOf_0 : cX8_worthOf.data.toList.drop 0 = dktX8_worthOf_0 := by decide +kernel
theorem dksX8_worthOf_1 : cX8_worthOf.data.toList.drop 7 = dktX8_worthOf_1 := dk_seg dksX8_worthOf_0 7 rfl rfl
theorem dksX8_worthOf_2 : cX8_worthOf.data.toList.drop 32 = dktX8_worthOf_2 := dk_seg dksX8_worthOf_1 25 rfl rfl
theorem dksX8_worthOf_3 : cX8_worthOf.data.toList.drop 56 = dktX8_worthOf_3 := dk_seg dksX8_worthOf_2 24 rfl rfl
theorem dksX8_worthOf_4 : cX8_worthOf.data.toList.drop 79 = dktX8_worthOf_4 := dk_seg dksX8_worthOf_3 23 rfl rfl
theorem dX8_worthOf_0 : decode cX8_worthOf 0 = .ok (.aload_n 0, 1) := dk_42 (dk_at dksX8_worthOf_0 0 rfl rfl)
theorem dX8_worthOf_1 : decode cX8_worthOf 1 = .ok (.getfield 131, 3) := dk_180 0 131 (dk_at dksX8_worthOf_0 1 rfl rfl)
theorem dX8_worthOf_4 : decode cX8_worthOf 4 = .ok (.getfield 180, 3) := dk_180 0 180 (dk_at dksX8_worthOf_0 4 rfl rfl)
theorem dX8_worthOf_7 : decode cX8_worthOf 7 = .ok (.tableswitch 64 7 9 #[25, 32, 50], 25) := by decide +kernel
theorem dX8_worthOf_32 : decode cX8_worthOf 32 = .ok (.aload_n 0, 1) := dk_42 (dk_at dksX8_worthOf_2 0 rfl rfl)
theorem dX8_worthOf_33 : decode cX8_worthOf 33 = .ok (.iload_n 1, 1) := dk_27 (dk_at dksX8_worthOf_2 1 rfl rfl)
theorem dX8_worthOf_34 : decode cX8_worthOf 34 = .ok (.invokevirtual 362, 3) := dk_182 1 106 (dk_at dksX8_worthOf_2 2 rfl rfl)
theorem dX8_worthOf_37 : decode cX8_worthOf 37 = .ok (.ineg, 1) := dk_116 (dk_at dksX8_worthOf_2 5 rfl rfl)
theorem dX8_worthOf_38 : decode cX8_worthOf 38 = .ok (.ireturn, 1) := dk_172 (dk_at dksX8_worthOf_2 6 rfl rfl)
theorem dX8_worthOf_39 : decode cX8_worthOf 39 = .ok (.aload_n 0, 1) := dk_42 (dk_at dksX8_worthOf_2 7 rfl rfl)
theorem dX8_worthOf_40 : decode cX8_worthOf 40 = .ok (.iload_n 1, 1) := dk_27 (dk_at dksX8_worthOf_2 8 rfl rfl)
theorem dX8_worthOf_41 : decode cX8_worthOf 41 = .ok (.aload_n 0, 1) := dk_42 (dk_at dksX8_worthOf_2 9 rfl rfl)
theorem dX8_worthOf_42 : decode cX8_worthOf 42 = .ok (.getfield 86, 3) := dk_180 0 86 (dk_at dksX8_worthOf_2 10 rfl rfl)
theorem dX8_worthOf_45 : decode cX8_worthOf 45 = .ok (.invokevirtual 365, 3) := dk_182 1 109 (dk_at dksX8_worthOf_2 13 rfl rfl)
theorem dX8_worthOf_48 : decode cX8_worthOf 48 = .ok (.ifCond .eq 7, 3) := dk_153 0 7 (dk_at dksX8_worthOf_2 16 rfl rfl)
theorem dX8_worthOf_51 : decode cX8_worthOf 51 = .ok (.iconst (-1), 1) := dk_2 (dk_at dksX8_worthOf_2 19 rfl rfl)
theorem dX8_worthOf_52 : decode cX8_worthOf 52 = .ok (.goto 4, 3) := dk_167 0 4 (dk_at dksX8_worthOf_2 20 rfl rfl)
theorem dX8_worthOf_55 : decode cX8_worthOf 55 = .ok (.iconst 0, 1) := dk_3 (dk_at dksX8_worthOf_2 23 rfl rfl)
theorem dX8_worthOf_56 : decode cX8_worthOf 56 = .ok (.ireturn, 1) := dk_172 (dk_at dksX8_worthOf_3 0 rfl rfl)
theorem dX8_worthOf_57 : decode cX8_worthOf 57 = .ok (.aload_n 0, 1) := dk_42 (dk_at dksX8_worthOf_3 1 rfl rfl)
theorem dX8_worthOf_58 : decode cX8_worthOf 58 = .ok (.iload_n 1, 1) := dk_27 (dk_at dksX8_worthOf_3 2 rfl rfl)
theorem dX8_worthOf_59 : decode cX8_worthOf 59 = .ok (.invokevirtual 369, 3) := dk_182 1 113 (dk_at dksX8_worthOf_3 3 rfl rfl)
theorem dX8_worthOf_62 : decode cX8_worthOf 62 = .ok (.ifCond .eq 7, 3) := dk_153 0 7 (dk_at dksX8_worthOf_3 6 rfl rfl)
theorem dX8_worthOf_65 : decode cX8_worthOf 65 = .ok (.iconst (-1), 1) := dk_2 (dk_at dksX8_worthOf_3 9 rfl rfl)
theorem dX8_worthOf_66 : decode cX8_worthOf 66 = .ok (.goto 4, 3) := dk_167 0 4 (dk_at dksX8_worthOf_3 10 rfl rfl)
theorem dX8_worthOf_69 : decode cX8_worthOf 69 = .ok (.iconst 0, 1) := dk_3 (dk_at dksX8_worthOf_3 13 rfl rfl)
theorem dX8_worthOf_70 : decode cX8_worthOf 70 = .ok (.ireturn, 1) := dk_172 (dk_at dksX8_worthOf_3 14 rfl rfl)
theorem dX8_worthOf_71 : decode cX8_worthOf 71 = .ok (.aload_n 0, 1) := dk_42 (dk_at dksX8_worthOf_3 15 rfl rfl)
theorem dX8_worthOf_72 : decode cX8_worthOf 72 = .ok (.iload_n 1, 1) := dk_27 (dk_at dksX8_worthOf_3 16 rfl rfl)
theorem dX8_worthOf_73 : decode cX8_worthOf 73 = .ok (.invokevirtual 372, 3) := dk_182 1 116 (dk_at dksX8_worthOf_3 17 rfl rfl)
theorem dX8_worthOf_76 : decode cX8_worthOf 76 = .ok (.ifCond .eq 9, 3) := dk_153 0 9 (dk_at dksX8_worthOf_3 20 rfl rfl)
theorem dX8_worthOf_79 : decode cX8_worthOf 79 = .ok (.sipush (-1000), 3) := dk_17 252 24 (dk_at dksX8_worthOf_4 0 rfl rfl)
theorem dX8_worthOf_82 : decode cX8_worthOf 82 = .ok (.goto 8, 3) := dk_167 0 8 (dk_at dksX8_worthOf_4 3 rfl rfl)
theorem dX8_worthOf_85 : decode cX8_worthOf 85 = .ok (.aload_n 0, 1) := dk_42 (dk_at dksX8_worthOf_4 6 rfl rfl)
theorem dX8_worthOf_86 : decode cX8_worthOf 86 = .ok (.iload_n 1, 1) := dk_27 (dk_at dksX8_worthOf_4 7 rfl rfl)
theorem dX8_worthOf_87 : decode cX8_worthOf 87 = .ok (.invokevirtual 375, 3) := dk_182 1 119 (dk_at dksX8_worthOf_4 8 rfl rfl)
theorem dX8_worthOf_90 : decode cX8_worthOf 90 = .ok (.ireturn, 1) := dk_172 (dk_at dksX8_worthOf_4 11 rfl rfl)
abbrev cX8_greatestDefeat : ByteArray := prog_5_method_47_code
def yX8_greatestDefeat : MethodName := ⟨RX8, "greatestDefeat", "(I)I"⟩
def dkwX8_greatestDefeat_2 : List UInt8 := [132, 3, 1, 167, 255, 210, 28, 172]
abbrev dktX8_greatestDefeat_2 : List UInt8 := dkwX8_greatestDefeat_2 ++ []
def dkwX8_greatestDefeat_1 : List UInt8 := [180, 0, 78, 29, 50, 27, 46, 42, 180, 0, 78, 27, 50, 29, 46, 100, 167, 0, 4, 3, 184, 1, 122, 61]
abbrev dktX8_greatestDefeat_1 : List UInt8 := dkwX8_greatestDefeat_1 ++ dktX8_greatestDefeat_2
def dkwX8_greatestDefeat_0 : List UInt8 := [3, 61, 3, 62, 29, 42, 180, 0, 148, 162, 0, 44, 28, 42, 180, 0, 9, 29, 51, 153, 0, 23, 42]
abbrev dktX8_greatestDefeat_0 : List UInt8 := dkwX8_greatestDefeat_0 ++ dktX8_greatestDefeat_1
theorem dksX8_greatestDefeat_0 : cX8_greatestDefeat.data.toList.drop 0 = dktX8_greatestDefeat_0 := by decide +kernel
theorem dksX8_greatestDefeat_1 : cX8_greatestDefeat.data.toList.drop 23 = dktX8_greatestDefeat_1 := dk_seg dksX8_greatestDefeat_0 23 rfl rfl
theorem dksX8_greatestDefeat_2 : cX8_greatestDefeat.data.toList.drop 47 = dktX8_greatestDefeat_2 := dk_seg dksX8_greatestDefeat_1 24 rfl rfl
theorem dX8_greatestDefeat_0 : decode cX8_greatestDefeat 0 = .ok (.iconst 0, 1) := dk_3 (dk_at dksX8_greatestDefeat_0 0 rfl rfl)
theorem dX8_greatestDefeat_1 : decode cX8_greatestDefeat 1 = .ok (.istore_n 2, 1) := dk_61 (dk_at dksX8_greatestDefeat_0 1 rfl rfl)
theorem dX8_greatestDefeat_2 : decode cX8_greatestDefeat 2 = .ok (.iconst 0, 1) := dk_3 (dk_at dksX8_greatestDefeat_0 2 rfl rfl)
theorem dX8_greatestDefeat_3 : decode cX8_greatestDefeat 3 = .ok (.istore_n 3, 1) := dk_62 (dk_at dksX8_greatestDefeat_0 3 rfl rfl)
theorem dX8_greatestDefeat_4 : decode cX8_greatestDefeat 4 = .ok (.iload_n 3, 1) := dk_29 (dk_at dksX8_greatestDefeat_0 4 rfl rfl)
theorem dX8_greatestDefeat_5 : decode cX8_greatestDefeat 5 = .ok (.aload_n 0, 1) := dk_42 (dk_at dksX8_greatestDefeat_0 5 rfl rfl)
theorem dX8_greatestDefeat_6 : decode cX8_greatestDefeat 6 = .ok (.getfield 148, 3) := dk_180 0 148 (dk_at dksX8_greatestDefeat_0 6 rfl rfl)
theorem dX8_greatestDefeat_9 : decode cX8_greatestDefeat 9 = .ok (.if_icmp .ge 44, 3) := dk_162 0 44 (dk_at dksX8_greatestDefeat_0 9 rfl rfl)
theorem dX8_greatestDefeat_12 : decode cX8_greatestDefeat 12 = .ok (.iload_n 2, 1) := dk_28 (dk_at dksX8_greatestDefeat_0 12 rfl rfl)
theorem dX8_greatestDefeat_13 : decode cX8_greatestDefeat 13 = .ok (.aload_n 0, 1) := dk_42 (dk_at dksX8_greatestDefeat_0 13 rfl rfl)
theorem dX8_greatestDefeat_14 : decode cX8_greatestDefeat 14 = .ok (.getfield 9, 3) := dk_180 0 9 (dk_at dksX8_greatestDefeat_0 14 rfl rfl)
theorem dX8_greatestDefeat_17 : decode cX8_greatestDefeat 17 = .ok (.iload_n 3, 1) := dk_29 (dk_at dksX8_greatestDefeat_0 17 rfl rfl)
theorem dX8_greatestDefeat_18 : decode cX8_greatestDefeat 18 = .ok (.baload, 1) := dk_51 (dk_at dksX8_greatestDefeat_0 18 rfl rfl)
theorem dX8_greatestDefeat_19 : decode cX8_greatestDefeat 19 = .ok (.ifCond .eq 23, 3) := dk_153 0 23 (dk_at dksX8_greatestDefeat_0 19 rfl rfl)
theorem dX8_greatestDefeat_22 : decode cX8_greatestDefeat 22 = .ok (.aload_n 0, 1) := dk_42 (dk_at dksX8_greatestDefeat_0 22 rfl rfl)
theorem dX8_greatestDefeat_23 : decode cX8_greatestDefeat 23 = .ok (.getfield 78, 3) := dk_180 0 78 (dk_at dksX8_greatestDefeat_1 0 rfl rfl)
theorem dX8_greatestDefeat_26 : decode cX8_greatestDefeat 26 = .ok (.iload_n 3, 1) := dk_29 (dk_at dksX8_greatestDefeat_1 3 rfl rfl)
theorem dX8_greatestDefeat_27 : decode cX8_greatestDefeat 27 = .ok (.aaload, 1) := dk_50 (dk_at dksX8_greatestDefeat_1 4 rfl rfl)
theorem dX8_greatestDefeat_28 : decode cX8_greatestDefeat 28 = .ok (.iload_n 1, 1) := dk_27 (dk_at dksX8_greatestDefeat_1 5 rfl rfl)
theorem dX8_greatestDefeat_29 : decode cX8_greatestDefeat 29 = .ok (.iaload, 1) := dk_46 (dk_at dksX8_greatestDefeat_1 6 rfl rfl)
theorem dX8_greatestDefeat_30 : decode cX8_greatestDefeat 30 = .ok (.aload_n 0, 1) := dk_42 (dk_at dksX8_greatestDefeat_1 7 rfl rfl)
theorem dX8_greatestDefeat_31 : decode cX8_greatestDefeat 31 = .ok (.getfield 78, 3) := dk_180 0 78 (dk_at dksX8_greatestDefeat_1 8 rfl rfl)
theorem dX8_greatestDefeat_34 : decode cX8_greatestDefeat 34 = .ok (.iload_n 1, 1) := dk_27 (dk_at dksX8_greatestDefeat_1 11 rfl rfl)
theorem dX8_greatestDefeat_35 : decode cX8_greatestDefeat 35 = .ok (.aaload, 1) := dk_50 (dk_at dksX8_greatestDefeat_1 12 rfl rfl)
theorem dX8_greatestDefeat_36 : decode cX8_greatestDefeat 36 = .ok (.iload_n 3, 1) := dk_29 (dk_at dksX8_greatestDefeat_1 13 rfl rfl)
theorem dX8_greatestDefeat_37 : decode cX8_greatestDefeat 37 = .ok (.iaload, 1) := dk_46 (dk_at dksX8_greatestDefeat_1 14 rfl rfl)
theorem dX8_greatestDefeat_38 : decode cX8_greatestDefeat 38 = .ok (.isub, 1) := dk_100 (dk_at dksX8_greatestDefeat_1 15 rfl rfl)
theorem dX8_greatestDefeat_39 : decode cX8_greatestDefeat 39 = .ok (.goto 4, 3) := dk_167 0 4 (dk_at dksX8_greatestDefeat_1 16 rfl rfl)
theorem dX8_greatestDefeat_42 : decode cX8_greatestDefeat 42 = .ok (.iconst 0, 1) := dk_3 (dk_at dksX8_greatestDefeat_1 19 rfl rfl)
theorem dX8_greatestDefeat_43 : decode cX8_greatestDefeat 43 = .ok (.invokestatic 378, 3) := dk_184 1 122 (dk_at dksX8_greatestDefeat_1 20 rfl rfl)
theorem dX8_greatestDefeat_46 : decode cX8_greatestDefeat 46 = .ok (.istore_n 2, 1) := dk_61 (dk_at dksX8_greatestDefeat_1 23 rfl rfl)
theorem dX8_greatestDefeat_47 : decode cX8_greatestDefeat 47 = .ok (.iinc 3 1, 3) := dk_132 3 1 (dk_at dksX8_greatestDefeat_2 0 rfl rfl)
theorem dX8_greatestDefeat_50 : decode cX8_greatestDefeat 50 = .ok (.goto (-46), 3) := dk_167 255 210 (dk_at dksX8_greatestDefeat_2 3 rfl rfl)
theorem dX8_greatestDefeat_53 : decode cX8_greatestDefeat 53 = .ok (.iload_n 2, 1) := dk_28 (dk_at dksX8_greatestDefeat_2 6 rfl rfl)
theorem dX8_greatestDefeat_54 : decode cX8_greatestDefeat 54 = .ok (.ireturn, 1) := dk_172 (dk_at dksX8_greatestDefeat_2 7 rfl rfl)
abbrev cX8_isUnder : ByteArray := prog_5_method_48_code
def yX8_isUnder : MethodName := ⟨RX8, "isUnder", "(I[[Z)Z"⟩
def dkwX8_isUnder_2 : List UInt8 := [167, 255, 217, 29, 172]
abbrev dktX8_isUnder_2 : List UInt8 := dkwX8_isUnder_2 ++ []
def dkwX8_isUnder_1 : List UInt8 := [153, 0, 16, 44, 21, 4, 50, 27, 51, 153, 0, 7, 4, 167, 0, 4, 3, 128, 62, 132, 4, 1]
abbrev dktX8_isUnder_1 : List UInt8 := dkwX8_isUnder_1 ++ dktX8_isUnder_2
def dkwX8_isUnder_0 : List UInt8 := [3, 62, 3, 54, 4, 21, 4, 42, 180, 0, 148, 162, 0, 36, 29, 42, 180, 0, 92, 21, 4, 51]
abbrev dktX8_isUnder_0 : List UInt8 := dkwX8_isUnder_0 ++ dktX8_isUnder_1
theorem dksX8_isUnder_0 : cX8_isUnder.data.toList.drop 0 = dktX8_isUnder_0 := by decide +kernel
theorem dksX8_isUnder_1 : cX8_isUnder.data.toList.drop 22 = dktX8_isUnder_1 := dk_seg dksX8_isUnder_0 22 rfl rfl
theorem dksX8_isUnder_2 : cX8_isUnder.data.toList.drop 44 = dktX8_isUnder_2 := dk_seg dksX8_isUnder_1 22 rfl rfl
theorem dX8_isUnder_0 : decode cX8_isUnder 0 = .ok (.iconst 0, 1) := dk_3 (dk_at dksX8_isUnder_0 0 rfl rfl)
theorem dX8_isUnder_1 : decode cX8_isUnder 1 = .ok (.istore_n 3, 1) := dk_62 (dk_at dksX8_isUnder_0 1 rfl rfl)
theorem dX8_isUnder_2 : decode cX8_isUnder 2 = .ok (.iconst 0, 1) := dk_3 (dk_at dksX8_isUnder_0 2 rfl rfl)
theorem dX8_isUnder_3 : decode cX8_isUnder 3 = .ok (.istore 4, 2) := dk_54 4 (dk_at dksX8_isUnder_0 3 rfl rfl)
theorem dX8_isUnder_5 : decode cX8_isUnder 5 = .ok (.iload 4, 2) := dk_21 4 (dk_at dksX8_isUnder_0 5 rfl rfl)
theorem dX8_isUnder_7 : decode cX8_isUnder 7 = .ok (.aload_n 0, 1) := dk_42 (dk_at dksX8_isUnder_0 7 rfl rfl)
theorem dX8_isUnder_8 : decode cX8_isUnder 8 = .ok (.getfield 148, 3) := dk_180 0 148 (dk_at dksX8_isUnder_0 8 rfl rfl)
theorem dX8_isUnder_11 : decode cX8_isUnder 11 = .ok (.if_icmp .ge 36, 3) := dk_162 0 36 (dk_at dksX8_isUnder_0 11 rfl rfl)
theorem dX8_isUnder_14 : decode cX8_isUnder 14 = .ok (.iload_n 3, 1) := dk_29 (dk_at dksX8_isUnder_0 14 rfl rfl)
theorem dX8_isUnder_15 : decode cX8_isUnder 15 = .ok (.aload_n 0, 1) := dk_42 (dk_at dksX8_isUnder_0 15 rfl rfl)
theorem dX8_isUnder_16 : decode cX8_isUnder 16 = .ok (.getfield 92, 3) := dk_180 0 92 (dk_at dksX8_isUnder_0 16 rfl rfl)
theorem dX8_isUnder_19 : decode cX8_isUnder 19 = .ok (.iload 4, 2) := dk_21 4 (dk_at dksX8_isUnder_0 19 rfl rfl)
theorem dX8_isUnder_21 : decode cX8_isUnder 21 = .ok (.baload, 1) := dk_51 (dk_at dksX8_isUnder_0 21 rfl rfl)
theorem dX8_isUnder_22 : decode cX8_isUnder 22 = .ok (.ifCond .eq 16, 3) := dk_153 0 16 (dk_at dksX8_isUnder_1 0 rfl rfl)
theorem dX8_isUnder_25 : decode cX8_isUnder 25 = .ok (.aload_n 2, 1) := dk_44 (dk_at dksX8_isUnder_1 3 rfl rfl)
theorem dX8_isUnder_26 : decode cX8_isUnder 26 = .ok (.iload 4, 2) := dk_21 4 (dk_at dksX8_isUnder_1 4 rfl rfl)
theorem dX8_isUnder_28 : decode cX8_isUnder 28 = .ok (.aaload, 1) := dk_50 (dk_at dksX8_isUnder_1 6 rfl rfl)
theorem dX8_isUnder_29 : decode cX8_isUnder 29 = .ok (.iload_n 1, 1) := dk_27 (dk_at dksX8_isUnder_1 7 rfl rfl)
theorem dX8_isUnder_30 : decode cX8_isUnder 30 = .ok (.baload, 1) := dk_51 (dk_at dksX8_isUnder_1 8 rfl rfl)
theorem dX8_isUnder_31 : decode cX8_isUnder 31 = .ok (.ifCond .eq 7, 3) := dk_153 0 7 (dk_at dksX8_isUnder_1 9 rfl rfl)
theorem dX8_isUnder_34 : decode cX8_isUnder 34 = .ok (.iconst 1, 1) := dk_4 (dk_at dksX8_isUnder_1 12 rfl rfl)
theorem dX8_isUnder_35 : decode cX8_isUnder 35 = .ok (.goto 4, 3) := dk_167 0 4 (dk_at dksX8_isUnder_1 13 rfl rfl)
theorem dX8_isUnder_38 : decode cX8_isUnder 38 = .ok (.iconst 0, 1) := dk_3 (dk_at dksX8_isUnder_1 16 rfl rfl)
theorem dX8_isUnder_39 : decode cX8_isUnder 39 = .ok (.ior, 1) := dk_128 (dk_at dksX8_isUnder_1 17 rfl rfl)
theorem dX8_isUnder_40 : decode cX8_isUnder 40 = .ok (.istore_n 3, 1) := dk_62 (dk_at dksX8_isUnder_1 18 rfl rfl)
theorem dX8_isUnder_41 : decode cX8_isUnder 41 = .ok (.iinc 4 1, 3) := dk_132 4 1 (dk_at dksX8_isUnder_1 19 rfl rfl)
theorem dX8_isUnder_44 : decode cX8_isUnder 44 = .ok (.goto (-39), 3) := dk_167 255 217 (dk_at dksX8_isUnder_2 0 rfl rfl)
theorem dX8_isUnder_47 : decode cX8_isUnder 47 = .ok (.iload_n 3, 1) := dk_29 (dk_at dksX8_isUnder_2 3 rfl rfl)
theorem dX8_isUnder_48 : decode cX8_isUnder 48 = .ok (.ireturn, 1) := dk_172 (dk_at dksX8_isUnder_2 4 rfl rfl)
abbrev cX8_isBehind : ByteArray := prog_5_method_49_code
def yX8_isBehind : MethodName := ⟨RX8, "isBehind", "(I)Z"⟩
def dkwX8_isBehind_2 : List UInt8 := [61, 132, 3, 1, 167, 255, 209, 28, 172]
abbrev dktX8_isBehind_2 : List UInt8 := dkwX8_isBehind_2 ++ []
def dkwX8_isBehind_1 : List UInt8 := [180, 0, 89, 29, 50, 27, 46, 42, 180, 0, 89, 27, 50, 29, 46, 164, 0, 7, 4, 167, 0, 4, 3, 128]
abbrev dktX8_isBehind_1 : List UInt8 := dkwX8_isBehind_1 ++ dktX8_isBehind_2
def dkwX8_isBehind_0 : List UInt8 := [3, 61, 3, 62, 29, 42, 180, 0, 148, 162, 0, 45, 28, 42, 180, 0, 92, 29, 51, 153, 0, 26, 42]
abbrev dktX8_isBehind_0 : List UInt8 := dkwX8_isBehind_0 ++ dktX8_isBehind_1
theorem dksX8_isBehind_0 : cX8_isBehind.data.toList.drop 0 = dktX8_isBehind_0 := by decide +kernel
theorem dksX8_isBehind_1 : cX8_isBehind.data.toList.drop 23 = dktX8_isBehind_1 := dk_seg dksX8_isBehind_0 23 rfl rfl
theorem dksX8_isBehind_2 : cX8_isBehind.data.toList.drop 47 = dktX8_isBehind_2 := dk_seg dksX8_isBehind_1 24 rfl rfl
theorem dX8_isBehind_0 : decode cX8_isBehind 0 = .ok (.iconst 0, 1) := dk_3 (dk_at dksX8_isBehind_0 0 rfl rfl)
theorem dX8_isBehind_1 : decode cX8_isBehind 1 = .ok (.istore_n 2, 1) := dk_61 (dk_at dksX8_isBehind_0 1 rfl rfl)
theorem dX8_isBehind_2 : decode cX8_isBehind 2 = .ok (.iconst 0, 1) := dk_3 (dk_at dksX8_isBehind_0 2 rfl rfl)
theorem dX8_isBehind_3 : decode cX8_isBehind 3 = .ok (.istore_n 3, 1) := dk_62 (dk_at dksX8_isBehind_0 3 rfl rfl)
theorem dX8_isBehind_4 : decode cX8_isBehind 4 = .ok (.iload_n 3, 1) := dk_29 (dk_at dksX8_isBehind_0 4 rfl rfl)
theorem dX8_isBehind_5 : decode cX8_isBehind 5 = .ok (.aload_n 0, 1) := dk_42 (dk_at dksX8_isBehind_0 5 rfl rfl)
theorem dX8_isBehind_6 : decode cX8_isBehind 6 = .ok (.getfield 148, 3) := dk_180 0 148 (dk_at dksX8_isBehind_0 6 rfl rfl)
theorem dX8_isBehind_9 : decode cX8_isBehind 9 = .ok (.if_icmp .ge 45, 3) := dk_162 0 45 (dk_at dksX8_isBehind_0 9 rfl rfl)
theorem dX8_isBehind_12 : decode cX8_isBehind 12 = .ok (.iload_n 2, 1) := dk_28 (dk_at dksX8_isBehind_0 12 rfl rfl)
theorem dX8_isBehind_13 : decode cX8_isBehind 13 = .ok (.aload_n 0, 1) := dk_42 (dk_at dksX8_isBehind_0 13 rfl rfl)
theorem dX8_isBehind_14 : decode cX8_isBehind 14 = .ok (.getfield 92, 3) := dk_180 0 92 (dk_at dksX8_isBehind_0 14 rfl rfl)
theorem dX8_isBehind_17 : decode cX8_isBehind 17 = .ok (.iload_n 3, 1) := dk_29 (dk_at dksX8_isBehind_0 17 rfl rfl)
theorem dX8_isBehind_18 : decode cX8_isBehind 18 = .ok (.baload, 1) := dk_51 (dk_at dksX8_isBehind_0 18 rfl rfl)
theorem dX8_isBehind_19 : decode cX8_isBehind 19 = .ok (.ifCond .eq 26, 3) := dk_153 0 26 (dk_at dksX8_isBehind_0 19 rfl rfl)
theorem dX8_isBehind_22 : decode cX8_isBehind 22 = .ok (.aload_n 0, 1) := dk_42 (dk_at dksX8_isBehind_0 22 rfl rfl)
theorem dX8_isBehind_23 : decode cX8_isBehind 23 = .ok (.getfield 89, 3) := dk_180 0 89 (dk_at dksX8_isBehind_1 0 rfl rfl)
theorem dX8_isBehind_26 : decode cX8_isBehind 26 = .ok (.iload_n 3, 1) := dk_29 (dk_at dksX8_isBehind_1 3 rfl rfl)
theorem dX8_isBehind_27 : decode cX8_isBehind 27 = .ok (.aaload, 1) := dk_50 (dk_at dksX8_isBehind_1 4 rfl rfl)
theorem dX8_isBehind_28 : decode cX8_isBehind 28 = .ok (.iload_n 1, 1) := dk_27 (dk_at dksX8_isBehind_1 5 rfl rfl)
theorem dX8_isBehind_29 : decode cX8_isBehind 29 = .ok (.iaload, 1) := dk_46 (dk_at dksX8_isBehind_1 6 rfl rfl)
theorem dX8_isBehind_30 : decode cX8_isBehind 30 = .ok (.aload_n 0, 1) := dk_42 (dk_at dksX8_isBehind_1 7 rfl rfl)
theorem dX8_isBehind_31 : decode cX8_isBehind 31 = .ok (.getfield 89, 3) := dk_180 0 89 (dk_at dksX8_isBehind_1 8 rfl rfl)
theorem dX8_isBehind_34 : decode cX8_isBehind 34 = .ok (.iload_n 1, 1) := dk_27 (dk_at dksX8_isBehind_1 11 rfl rfl)
theorem dX8_isBehind_35 : decode cX8_isBehind 35 = .ok (.aaload, 1) := dk_50 (dk_at dksX8_isBehind_1 12 rfl rfl)
theorem dX8_isBehind_36 : decode cX8_isBehind 36 = .ok (.iload_n 3, 1) := dk_29 (dk_at dksX8_isBehind_1 13 rfl rfl)
theorem dX8_isBehind_37 : decode cX8_isBehind 37 = .ok (.iaload, 1) := dk_46 (dk_at dksX8_isBehind_1 14 rfl rfl)
theorem dX8_isBehind_38 : decode cX8_isBehind 38 = .ok (.if_icmp .le 7, 3) := dk_164 0 7 (dk_at dksX8_isBehind_1 15 rfl rfl)
theorem dX8_isBehind_41 : decode cX8_isBehind 41 = .ok (.iconst 1, 1) := dk_4 (dk_at dksX8_isBehind_1 18 rfl rfl)
theorem dX8_isBehind_42 : decode cX8_isBehind 42 = .ok (.goto 4, 3) := dk_167 0 4 (dk_at dksX8_isBehind_1 19 rfl rfl)
theorem dX8_isBehind_45 : decode cX8_isBehind 45 = .ok (.iconst 0, 1) := dk_3 (dk_at dksX8_isBehind_1 22 rfl rfl)
theorem dX8_isBehind_46 : decode cX8_isBehind 46 = .ok (.ior, 1) := dk_128 (dk_at dksX8_isBehind_1 23 rfl rfl)
theorem dX8_isBehind_47 : decode cX8_isBehind 47 = .ok (.istore_n 2, 1) := dk_61 (dk_at dksX8_isBehind_2 0 rfl rfl)
theorem dX8_isBehind_48 : decode cX8_isBehind 48 = .ok (.iinc 3 1, 3) := dk_132 3 1 (dk_at dksX8_isBehind_2 1 rfl rfl)
theorem dX8_isBehind_51 : decode cX8_isBehind 51 = .ok (.goto (-47), 3) := dk_167 255 209 (dk_at dksX8_isBehind_2 4 rfl rfl)
theorem dX8_isBehind_54 : decode cX8_isBehind 54 = .ok (.iload_n 2, 1) := dk_28 (dk_at dksX8_isBehind_2 7 rfl rfl)
theorem dX8_isBehind_55 : decode cX8_isBehind 55 = .ok (.ireturn, 1) := dk_172 (dk_at dksX8_isBehind_2 8 rfl rfl)
abbrev cX8_isCovered : ByteArray := prog_5_method_51_code
def yX8_isCovered : MethodName := ⟨RX8, "isCovered", "(I)Z"⟩
def dkwX8_isCovered_1 : List UInt8 := [27, 182, 1, 125, 153, 0, 7, 4, 167, 0, 4, 3, 128, 61, 132, 3, 1, 167, 255, 219, 28, 172]
abbrev dktX8_isCovered_1 : List UInt8 := dkwX8_isCovered_1 ++ []
def dkwX8_isCovered_0 : List UInt8 := [3, 61, 3, 62, 29, 42, 180, 0, 148, 162, 0, 35, 28, 42, 180, 0, 92, 29, 51, 153, 0, 16, 42, 29]
abbrev dktX8_isCovered_0 : List UInt8 := dkwX8_isCovered_0 ++ dktX8_isCovered_1
theorem dksX8_isCovered_0 : cX8_isCovered.data.toList.drop 0 = dktX8_isCovered_0 := by decide +kernel
theorem dksX8_isCovered_1 : cX8_isCovered.data.toList.drop 24 = dktX8_isCovered_1 := dk_seg dksX8_isCovered_0 24 rfl rfl
theorem dX8_isCovered_0 : decode cX8_isCovered 0 = .ok (.iconst 0, 1) := dk_3 (dk_at dksX8_isCovered_0 0 rfl rfl)
theorem dX8_isCovered_1 : decode cX8_isCovered 1 = .ok (.istore_n 2, 1) := dk_61 (dk_at dksX8_isCovered_0 1 rfl rfl)
theorem dX8_isCovered_2 : decode cX8_isCovered 2 = .ok (.iconst 0, 1) := dk_3 (dk_at dksX8_isCovered_0 2 rfl rfl)
theorem dX8_isCovered_3 : decode cX8_isCovered 3 = .ok (.istore_n 3, 1) := dk_62 (dk_at dksX8_isCovered_0 3 rfl rfl)
theorem dX8_isCovered_4 : decode cX8_isCovered 4 = .ok (.iload_n 3, 1) := dk_29 (dk_at dksX8_isCovered_0 4 rfl rfl)
theorem dX8_isCovered_5 : decode cX8_isCovered 5 = .ok (.aload_n 0, 1) := dk_42 (dk_at dksX8_isCovered_0 5 rfl rfl)
theorem dX8_isCovered_6 : decode cX8_isCovered 6 = .ok (.getfield 148, 3) := dk_180 0 148 (dk_at dksX8_isCovered_0 6 rfl rfl)
theorem dX8_isCovered_9 : decode cX8_isCovered 9 = .ok (.if_icmp .ge 35, 3) := dk_162 0 35 (dk_at dksX8_isCovered_0 9 rfl rfl)
theorem dX8_isCovered_12 : decode cX8_isCovered 12 = .ok (.iload_n 2, 1) := dk_28 (dk_at dksX8_isCovered_0 12 rfl rfl)
theorem dX8_isCovered_13 : decode cX8_isCovered 13 = .ok (.aload_n 0, 1) := dk_42 (dk_at dksX8_isCovered_0 13 rfl rfl)
theorem dX8_isCovered_14 : decode cX8_isCovered 14 = .ok (.getfield 92, 3) := dk_180 0 92 (dk_at dksX8_isCovered_0 14 rfl rfl)
theorem dX8_isCovered_17 : decode cX8_isCovered 17 = .ok (.iload_n 3, 1) := dk_29 (dk_at dksX8_isCovered_0 17 rfl rfl)
theorem dX8_isCovered_18 : decode cX8_isCovered 18 = .ok (.baload, 1) := dk_51 (dk_at dksX8_isCovered_0 18 rfl rfl)
theorem dX8_isCovered_19 : decode cX8_isCovered 19 = .ok (.ifCond .eq 16, 3) := dk_153 0 16 (dk_at dksX8_isCovered_0 19 rfl rfl)
theorem dX8_isCovered_22 : decode cX8_isCovered 22 = .ok (.aload_n 0, 1) := dk_42 (dk_at dksX8_isCovered_0 22 rfl rfl)
theorem dX8_isCovered_23 : decode cX8_isCovered 23 = .ok (.iload_n 3, 1) := dk_29 (dk_at dksX8_isCovered_0 23 rfl rfl)
theorem dX8_isCovered_24 : decode cX8_isCovered 24 = .ok (.iload_n 1, 1) := dk_27 (dk_at dksX8_isCovered_1 0 rfl rfl)
theorem dX8_isCovered_25 : decode cX8_isCovered 25 = .ok (.invokevirtual 381, 3) := dk_182 1 125 (dk_at dksX8_isCovered_1 1 rfl rfl)
theorem dX8_isCovered_28 : decode cX8_isCovered 28 = .ok (.ifCond .eq 7, 3) := dk_153 0 7 (dk_at dksX8_isCovered_1 4 rfl rfl)
theorem dX8_isCovered_31 : decode cX8_isCovered 31 = .ok (.iconst 1, 1) := dk_4 (dk_at dksX8_isCovered_1 7 rfl rfl)
theorem dX8_isCovered_32 : decode cX8_isCovered 32 = .ok (.goto 4, 3) := dk_167 0 4 (dk_at dksX8_isCovered_1 8 rfl rfl)
theorem dX8_isCovered_35 : decode cX8_isCovered 35 = .ok (.iconst 0, 1) := dk_3 (dk_at dksX8_isCovered_1 11 rfl rfl)
theorem dX8_isCovered_36 : decode cX8_isCovered 36 = .ok (.ior, 1) := dk_128 (dk_at dksX8_isCovered_1 12 rfl rfl)
theorem dX8_isCovered_37 : decode cX8_isCovered 37 = .ok (.istore_n 2, 1) := dk_61 (dk_at dksX8_isCovered_1 13 rfl rfl)
theorem dX8_isCovered_38 : decode cX8_isCovered 38 = .ok (.iinc 3 1, 3) := dk_132 3 1 (dk_at dksX8_isCovered_1 14 rfl rfl)
theorem dX8_isCovered_41 : decode cX8_isCovered 41 = .ok (.goto (-37), 3) := dk_167 255 219 (dk_at dksX8_isCovered_1 17 rfl rfl)
theorem dX8_isCovered_44 : decode cX8_isCovered 44 = .ok (.iload_n 2, 1) := dk_28 (dk_at dksX8_isCovered_1 20 rfl rfl)
theorem dX8_isCovered_45 : decode cX8_isCovered 45 = .ok (.ireturn, 1) := dk_172 (dk_at dksX8_isCovered_1 21 rfl rfl)
abbrev cX8_covers : ByteArray := prog_5_method_50_code
def yX8_covers : MethodName := ⟨RX8, "covers", "(II)Z"⟩
def dkwX8_covers_3 : List UInt8 := [29, 172]
abbrev dktX8_covers_3 : List UInt8 := dkwX8_covers_3 ++ []
def dkwX8_covers_2 : List UInt8 := [180, 0, 83, 27, 50, 21, 4, 51, 153, 0, 7, 4, 167, 0, 4, 3, 126, 62, 132, 4, 1, 167, 255, 202]
abbrev dktX8_covers_2 : List UInt8 := dkwX8_covers_2 ++ dktX8_covers_3
def dkwX8_covers_1 : List UInt8 := [180, 0, 92, 21, 4, 51, 153, 0, 27, 42, 180, 0, 83, 28, 50, 21, 4, 51, 153, 0, 15, 42]
abbrev dktX8_covers_1 : List UInt8 := dkwX8_covers_1 ++ dktX8_covers_2
def dkwX8_covers_0 : List UInt8 := [42, 180, 0, 83, 27, 50, 28, 51, 62, 3, 54, 4, 21, 4, 42, 180, 0, 148, 162, 0, 51, 29, 42]
abbrev dktX8_covers_0 : List UInt8 := dkwX8_covers_0 ++ dktX8_covers_1
theorem dksX8_covers_0 : cX8_covers.data.toList.drop 0 = dktX8_covers_0 := by decide +kernel
theorem dksX8_covers_1 : cX8_covers.data.toList.drop 23 = dktX8_covers_1 := dk_seg dksX8_covers_0 23 rfl rfl
theorem dksX8_covers_2 : cX8_covers.data.toList.drop 45 = dktX8_covers_2 := dk_seg dksX8_covers_1 22 rfl rfl
theorem dksX8_covers_3 : cX8_covers.data.toList.drop 69 = dktX8_covers_3 := dk_seg dksX8_covers_2 24 rfl rfl
theorem dX8_covers_0 : decode cX8_covers 0 = .ok (.aload_n 0, 1) := dk_42 (dk_at dksX8_covers_0 0 rfl rfl)
theorem dX8_covers_1 : decode cX8_covers 1 = .ok (.getfield 83, 3) := dk_180 0 83 (dk_at dksX8_covers_0 1 rfl rfl)
theorem dX8_covers_4 : decode cX8_covers 4 = .ok (.iload_n 1, 1) := dk_27 (dk_at dksX8_covers_0 4 rfl rfl)
theorem dX8_covers_5 : decode cX8_covers 5 = .ok (.aaload, 1) := dk_50 (dk_at dksX8_covers_0 5 rfl rfl)
theorem dX8_covers_6 : decode cX8_covers 6 = .ok (.iload_n 2, 1) := dk_28 (dk_at dksX8_covers_0 6 rfl rfl)
theorem dX8_covers_7 : decode cX8_covers 7 = .ok (.baload, 1) := dk_51 (dk_at dksX8_covers_0 7 rfl rfl)
theorem dX8_covers_8 : decode cX8_covers 8 = .ok (.istore_n 3, 1) := dk_62 (dk_at dksX8_covers_0 8 rfl rfl)
theorem dX8_covers_9 : decode cX8_covers 9 = .ok (.iconst 0, 1) := dk_3 (dk_at dksX8_covers_0 9 rfl rfl)
theorem dX8_covers_10 : decode cX8_covers 10 = .ok (.istore 4, 2) := dk_54 4 (dk_at dksX8_covers_0 10 rfl rfl)
theorem dX8_covers_12 : decode cX8_covers 12 = .ok (.iload 4, 2) := dk_21 4 (dk_at dksX8_covers_0 12 rfl rfl)
theorem dX8_covers_14 : decode cX8_covers 14 = .ok (.aload_n 0, 1) := dk_42 (dk_at dksX8_covers_0 14 rfl rfl)
theorem dX8_covers_15 : decode cX8_covers 15 = .ok (.getfield 148, 3) := dk_180 0 148 (dk_at dksX8_covers_0 15 rfl rfl)
theorem dX8_covers_18 : decode cX8_covers 18 = .ok (.if_icmp .ge 51, 3) := dk_162 0 51 (dk_at dksX8_covers_0 18 rfl rfl)
theorem dX8_covers_21 : decode cX8_covers 21 = .ok (.iload_n 3, 1) := dk_29 (dk_at dksX8_covers_0 21 rfl rfl)
theorem dX8_covers_22 : decode cX8_covers 22 = .ok (.aload_n 0, 1) := dk_42 (dk_at dksX8_covers_0 22 rfl rfl)
theorem dX8_covers_23 : decode cX8_covers 23 = .ok (.getfield 92, 3) := dk_180 0 92 (dk_at dksX8_covers_1 0 rfl rfl)
theorem dX8_covers_26 : decode cX8_covers 26 = .ok (.iload 4, 2) := dk_21 4 (dk_at dksX8_covers_1 3 rfl rfl)
theorem dX8_covers_28 : decode cX8_covers 28 = .ok (.baload, 1) := dk_51 (dk_at dksX8_covers_1 5 rfl rfl)
theorem dX8_covers_29 : decode cX8_covers 29 = .ok (.ifCond .eq 27, 3) := dk_153 0 27 (dk_at dksX8_covers_1 6 rfl rfl)
theorem dX8_covers_32 : decode cX8_covers 32 = .ok (.aload_n 0, 1) := dk_42 (dk_at dksX8_covers_1 9 rfl rfl)
theorem dX8_covers_33 : decode cX8_covers 33 = .ok (.getfield 83, 3) := dk_180 0 83 (dk_at dksX8_covers_1 10 rfl rfl)
theorem dX8_covers_36 : decode cX8_covers 36 = .ok (.iload_n 2, 1) := dk_28 (dk_at dksX8_covers_1 13 rfl rfl)
theorem dX8_covers_37 : decode cX8_covers 37 = .ok (.aaload, 1) := dk_50 (dk_at dksX8_covers_1 14 rfl rfl)
theorem dX8_covers_38 : decode cX8_covers 38 = .ok (.iload 4, 2) := dk_21 4 (dk_at dksX8_covers_1 15 rfl rfl)
theorem dX8_covers_40 : decode cX8_covers 40 = .ok (.baload, 1) := dk_51 (dk_at dksX8_covers_1 17 rfl rfl)
theorem dX8_covers_41 : decode cX8_covers 41 = .ok (.ifCond .eq 15, 3) := dk_153 0 15 (dk_at dksX8_covers_1 18 rfl rfl)
theorem dX8_covers_44 : decode cX8_covers 44 = .ok (.aload_n 0, 1) := dk_42 (dk_at dksX8_covers_1 21 rfl rfl)
theorem dX8_covers_45 : decode cX8_covers 45 = .ok (.getfield 83, 3) := dk_180 0 83 (dk_at dksX8_covers_2 0 rfl rfl)
theorem dX8_covers_48 : decode cX8_covers 48 = .ok (.iload_n 1, 1) := dk_27 (dk_at dksX8_covers_2 3 rfl rfl)
theorem dX8_covers_49 : decode cX8_covers 49 = .ok (.aaload, 1) := dk_50 (dk_at dksX8_covers_2 4 rfl rfl)
theorem dX8_covers_50 : decode cX8_covers 50 = .ok (.iload 4, 2) := dk_21 4 (dk_at dksX8_covers_2 5 rfl rfl)
theorem dX8_covers_52 : decode cX8_covers 52 = .ok (.baload, 1) := dk_51 (dk_at dksX8_covers_2 7 rfl rfl)
theorem dX8_covers_53 : decode cX8_covers 53 = .ok (.ifCond .eq 7, 3) := dk_153 0 7 (dk_at dksX8_covers_2 8 rfl rfl)
theorem dX8_covers_56 : decode cX8_covers 56 = .ok (.iconst 1, 1) := dk_4 (dk_at dksX8_covers_2 11 rfl rfl)
theorem dX8_covers_57 : decode cX8_covers 57 = .ok (.goto 4, 3) := dk_167 0 4 (dk_at dksX8_covers_2 12 rfl rfl)
theorem dX8_covers_60 : decode cX8_covers 60 = .ok (.iconst 0, 1) := dk_3 (dk_at dksX8_covers_2 15 rfl rfl)
theorem dX8_covers_61 : decode cX8_covers 61 = .ok (.iand, 1) := dk_126 (dk_at dksX8_covers_2 16 rfl rfl)
theorem dX8_covers_62 : decode cX8_covers 62 = .ok (.istore_n 3, 1) := dk_62 (dk_at dksX8_covers_2 17 rfl rfl)
theorem dX8_covers_63 : decode cX8_covers 63 = .ok (.iinc 4 1, 3) := dk_132 4 1 (dk_at dksX8_covers_2 18 rfl rfl)
theorem dX8_covers_66 : decode cX8_covers 66 = .ok (.goto (-54), 3) := dk_167 255 202 (dk_at dksX8_covers_2 21 rfl rfl)
theorem dX8_covers_69 : decode cX8_covers 69 = .ok (.iload_n 3, 1) := dk_29 (dk_at dksX8_covers_3 0 rfl rfl)
theorem dX8_covers_70 : decode cX8_covers 70 = .ok (.ireturn, 1) := dk_172 (dk_at dksX8_covers_3 1 rfl rfl)
abbrev cX8_score : ByteArray := prog_5_method_52_code
def yX8_score : MethodName := ⟨RX8, "score", "(I)I"⟩
def dkwX8_score_3 : List UInt8 := [172]
abbrev dktX8_score_3 : List UInt8 := dkwX8_score_3 ++ []
def dkwX8_score_2 : List UInt8 := [180, 0, 83, 29, 50, 27, 51, 153, 0, 7, 2, 167, 0, 4, 3, 96, 61, 132, 3, 1, 167, 255, 193, 28]
abbrev dktX8_score_2 : List UInt8 := dkwX8_score_2 ++ dktX8_score_3
def dkwX8_score_1 : List UInt8 := [180, 0, 83, 27, 50, 29, 51, 153, 0, 7, 4, 167, 0, 28, 42, 180, 0, 92, 29, 51, 153, 0, 18, 42]
abbrev dktX8_score_1 : List UInt8 := dkwX8_score_1 ++ dktX8_score_2
def dkwX8_score_0 : List UInt8 := [3, 61, 3, 62, 29, 42, 180, 0, 148, 162, 0, 61, 28, 42, 180, 0, 92, 29, 51, 153, 0, 18, 42]
abbrev dktX8_score_0 : List UInt8 := dkwX8_score_0 ++ dktX8_score_1
theorem dksX8_score_0 : cX8_score.data.toList.drop 0 = dktX8_score_0 := by decide +kernel
theorem dksX8_score_1 : cX8_score.data.toList.drop 23 = dktX8_score_1 := dk_seg dksX8_score_0 23 rfl rfl
theorem dksX8_score_2 : cX8_score.data.toList.drop 47 = dktX8_score_2 := dk_seg dksX8_score_1 24 rfl rfl
theorem dksX8_score_3 : cX8_score.data.toList.drop 71 = dktX8_score_3 := dk_seg dksX8_score_2 24 rfl rfl
theorem dX8_score_0 : decode cX8_score 0 = .ok (.iconst 0, 1) := dk_3 (dk_at dksX8_score_0 0 rfl rfl)
theorem dX8_score_1 : decode cX8_score 1 = .ok (.istore_n 2, 1) := dk_61 (dk_at dksX8_score_0 1 rfl rfl)
theorem dX8_score_2 : decode cX8_score 2 = .ok (.iconst 0, 1) := dk_3 (dk_at dksX8_score_0 2 rfl rfl)
theorem dX8_score_3 : decode cX8_score 3 = .ok (.istore_n 3, 1) := dk_62 (dk_at dksX8_score_0 3 rfl rfl)
theorem dX8_score_4 : decode cX8_score 4 = .ok (.iload_n 3, 1) := dk_29 (dk_at dksX8_score_0 4 rfl rfl)
theorem dX8_score_5 : decode cX8_score 5 = .ok (.aload_n 0, 1) := dk_42 (dk_at dksX8_score_0 5 rfl rfl)
theorem dX8_score_6 : decode cX8_score 6 = .ok (.getfield 148, 3) := dk_180 0 148 (dk_at dksX8_score_0 6 rfl rfl)
theorem dX8_score_9 : decode cX8_score 9 = .ok (.if_icmp .ge 61, 3) := dk_162 0 61 (dk_at dksX8_score_0 9 rfl rfl)
theorem dX8_score_12 : decode cX8_score 12 = .ok (.iload_n 2, 1) := dk_28 (dk_at dksX8_score_0 12 rfl rfl)
theorem dX8_score_13 : decode cX8_score 13 = .ok (.aload_n 0, 1) := dk_42 (dk_at dksX8_score_0 13 rfl rfl)
theorem dX8_score_14 : decode cX8_score 14 = .ok (.getfield 92, 3) := dk_180 0 92 (dk_at dksX8_score_0 14 rfl rfl)
theorem dX8_score_17 : decode cX8_score 17 = .ok (.iload_n 3, 1) := dk_29 (dk_at dksX8_score_0 17 rfl rfl)
theorem dX8_score_18 : decode cX8_score 18 = .ok (.baload, 1) := dk_51 (dk_at dksX8_score_0 18 rfl rfl)
theorem dX8_score_19 : decode cX8_score 19 = .ok (.ifCond .eq 18, 3) := dk_153 0 18 (dk_at dksX8_score_0 19 rfl rfl)
theorem dX8_score_22 : decode cX8_score 22 = .ok (.aload_n 0, 1) := dk_42 (dk_at dksX8_score_0 22 rfl rfl)
theorem dX8_score_23 : decode cX8_score 23 = .ok (.getfield 83, 3) := dk_180 0 83 (dk_at dksX8_score_1 0 rfl rfl)
theorem dX8_score_26 : decode cX8_score 26 = .ok (.iload_n 1, 1) := dk_27 (dk_at dksX8_score_1 3 rfl rfl)
theorem dX8_score_27 : decode cX8_score 27 = .ok (.aaload, 1) := dk_50 (dk_at dksX8_score_1 4 rfl rfl)
theorem dX8_score_28 : decode cX8_score 28 = .ok (.iload_n 3, 1) := dk_29 (dk_at dksX8_score_1 5 rfl rfl)
theorem dX8_score_29 : decode cX8_score 29 = .ok (.baload, 1) := dk_51 (dk_at dksX8_score_1 6 rfl rfl)
theorem dX8_score_30 : decode cX8_score 30 = .ok (.ifCond .eq 7, 3) := dk_153 0 7 (dk_at dksX8_score_1 7 rfl rfl)
theorem dX8_score_33 : decode cX8_score 33 = .ok (.iconst 1, 1) := dk_4 (dk_at dksX8_score_1 10 rfl rfl)
theorem dX8_score_34 : decode cX8_score 34 = .ok (.goto 28, 3) := dk_167 0 28 (dk_at dksX8_score_1 11 rfl rfl)
theorem dX8_score_37 : decode cX8_score 37 = .ok (.aload_n 0, 1) := dk_42 (dk_at dksX8_score_1 14 rfl rfl)
theorem dX8_score_38 : decode cX8_score 38 = .ok (.getfield 92, 3) := dk_180 0 92 (dk_at dksX8_score_1 15 rfl rfl)
theorem dX8_score_41 : decode cX8_score 41 = .ok (.iload_n 3, 1) := dk_29 (dk_at dksX8_score_1 18 rfl rfl)
theorem dX8_score_42 : decode cX8_score 42 = .ok (.baload, 1) := dk_51 (dk_at dksX8_score_1 19 rfl rfl)
theorem dX8_score_43 : decode cX8_score 43 = .ok (.ifCond .eq 18, 3) := dk_153 0 18 (dk_at dksX8_score_1 20 rfl rfl)
theorem dX8_score_46 : decode cX8_score 46 = .ok (.aload_n 0, 1) := dk_42 (dk_at dksX8_score_1 23 rfl rfl)
theorem dX8_score_47 : decode cX8_score 47 = .ok (.getfield 83, 3) := dk_180 0 83 (dk_at dksX8_score_2 0 rfl rfl)
theorem dX8_score_50 : decode cX8_score 50 = .ok (.iload_n 3, 1) := dk_29 (dk_at dksX8_score_2 3 rfl rfl)
theorem dX8_score_51 : decode cX8_score 51 = .ok (.aaload, 1) := dk_50 (dk_at dksX8_score_2 4 rfl rfl)
theorem dX8_score_52 : decode cX8_score 52 = .ok (.iload_n 1, 1) := dk_27 (dk_at dksX8_score_2 5 rfl rfl)
theorem dX8_score_53 : decode cX8_score 53 = .ok (.baload, 1) := dk_51 (dk_at dksX8_score_2 6 rfl rfl)
theorem dX8_score_54 : decode cX8_score 54 = .ok (.ifCond .eq 7, 3) := dk_153 0 7 (dk_at dksX8_score_2 7 rfl rfl)
theorem dX8_score_57 : decode cX8_score 57 = .ok (.iconst (-1), 1) := dk_2 (dk_at dksX8_score_2 10 rfl rfl)
theorem dX8_score_58 : decode cX8_score 58 = .ok (.goto 4, 3) := dk_167 0 4 (dk_at dksX8_score_2 11 rfl rfl)
theorem dX8_score_61 : decode cX8_score 61 = .ok (.iconst 0, 1) := dk_3 (dk_at dksX8_score_2 14 rfl rfl)
theorem dX8_score_62 : decode cX8_score 62 = .ok (.iadd, 1) := dk_96 (dk_at dksX8_score_2 15 rfl rfl)
theorem dX8_score_63 : decode cX8_score 63 = .ok (.istore_n 2, 1) := dk_61 (dk_at dksX8_score_2 16 rfl rfl)
theorem dX8_score_64 : decode cX8_score 64 = .ok (.iinc 3 1, 3) := dk_132 3 1 (dk_at dksX8_score_2 17 rfl rfl)
theorem dX8_score_67 : decode cX8_score 67 = .ok (.goto (-63), 3) := dk_167 255 193 (dk_at dksX8_score_2 20 rfl rfl)
theorem dX8_score_70 : decode cX8_score 70 = .ok (.iload_n 2, 1) := dk_28 (dk_at dksX8_score_2 23 rfl rfl)
theorem dX8_score_71 : decode cX8_score 71 = .ok (.ireturn, 1) := dk_172 (dk_at dksX8_score_3 0 rfl rfl)
abbrev cX8_addFirst : ByteArray := prog_5_method_80_code
def yX8_addFirst : MethodName := ⟨RX8, "addFirst", "(II)V"⟩
def dkwX8_addFirst_1 : List UInt8 := [180, 0, 122, 28, 92, 46, 4, 96, 79, 177]
abbrev dktX8_addFirst_1 : List UInt8 := dkwX8_addFirst_1 ++ []
def dkwX8_addFirst_0 : List UInt8 := [42, 89, 180, 1, 200, 4, 96, 181, 1, 200, 42, 180, 0, 125, 27, 4, 84, 28, 2, 159, 0, 13, 42]
abbrev dktX8_addFirst_0 : List UInt8 := dkwX8_addFirst_0 ++ dktX8_addFirst_1
theorem dksX8_addFirst_0 : cX8_addFirst.data.toList.drop 0 = dktX8_addFirst_0 := by decide +kernel
theorem dksX8_addFirst_1 : cX8_addFirst.data.toList.drop 23 = dktX8_addFirst_1 := dk_seg dksX8_addFirst_0 23 rfl rfl
theorem dX8_addFirst_0 : decode cX8_addFirst 0 = .ok (.aload_n 0, 1) := dk_42 (dk_at dksX8_addFirst_0 0 rfl rfl)
theorem dX8_addFirst_1 : decode cX8_addFirst 1 = .ok (.dup, 1) := dk_89 (dk_at dksX8_addFirst_0 1 rfl rfl)
theorem dX8_addFirst_2 : decode cX8_addFirst 2 = .ok (.getfield 456, 3) := dk_180 1 200 (dk_at dksX8_addFirst_0 2 rfl rfl)
theorem dX8_addFirst_5 : decode cX8_addFirst 5 = .ok (.iconst 1, 1) := dk_4 (dk_at dksX8_addFirst_0 5 rfl rfl)
theorem dX8_addFirst_6 : decode cX8_addFirst 6 = .ok (.iadd, 1) := dk_96 (dk_at dksX8_addFirst_0 6 rfl rfl)
theorem dX8_addFirst_7 : decode cX8_addFirst 7 = .ok (.putfield 456, 3) := dk_181 1 200 (dk_at dksX8_addFirst_0 7 rfl rfl)
theorem dX8_addFirst_10 : decode cX8_addFirst 10 = .ok (.aload_n 0, 1) := dk_42 (dk_at dksX8_addFirst_0 10 rfl rfl)
theorem dX8_addFirst_11 : decode cX8_addFirst 11 = .ok (.getfield 125, 3) := dk_180 0 125 (dk_at dksX8_addFirst_0 11 rfl rfl)
theorem dX8_addFirst_14 : decode cX8_addFirst 14 = .ok (.iload_n 1, 1) := dk_27 (dk_at dksX8_addFirst_0 14 rfl rfl)
theorem dX8_addFirst_15 : decode cX8_addFirst 15 = .ok (.iconst 1, 1) := dk_4 (dk_at dksX8_addFirst_0 15 rfl rfl)
theorem dX8_addFirst_16 : decode cX8_addFirst 16 = .ok (.bastore, 1) := dk_84 (dk_at dksX8_addFirst_0 16 rfl rfl)
theorem dX8_addFirst_17 : decode cX8_addFirst 17 = .ok (.iload_n 2, 1) := dk_28 (dk_at dksX8_addFirst_0 17 rfl rfl)
theorem dX8_addFirst_18 : decode cX8_addFirst 18 = .ok (.iconst (-1), 1) := dk_2 (dk_at dksX8_addFirst_0 18 rfl rfl)
theorem dX8_addFirst_19 : decode cX8_addFirst 19 = .ok (.if_icmp .eq 13, 3) := dk_159 0 13 (dk_at dksX8_addFirst_0 19 rfl rfl)
theorem dX8_addFirst_22 : decode cX8_addFirst 22 = .ok (.aload_n 0, 1) := dk_42 (dk_at dksX8_addFirst_0 22 rfl rfl)
theorem dX8_addFirst_23 : decode cX8_addFirst 23 = .ok (.getfield 122, 3) := dk_180 0 122 (dk_at dksX8_addFirst_1 0 rfl rfl)
theorem dX8_addFirst_26 : decode cX8_addFirst 26 = .ok (.iload_n 2, 1) := dk_28 (dk_at dksX8_addFirst_1 3 rfl rfl)
theorem dX8_addFirst_27 : decode cX8_addFirst 27 = .ok (.dup2, 1) := dk_92 (dk_at dksX8_addFirst_1 4 rfl rfl)
theorem dX8_addFirst_28 : decode cX8_addFirst 28 = .ok (.iaload, 1) := dk_46 (dk_at dksX8_addFirst_1 5 rfl rfl)
theorem dX8_addFirst_29 : decode cX8_addFirst 29 = .ok (.iconst 1, 1) := dk_4 (dk_at dksX8_addFirst_1 6 rfl rfl)
theorem dX8_addFirst_30 : decode cX8_addFirst 30 = .ok (.iadd, 1) := dk_96 (dk_at dksX8_addFirst_1 7 rfl rfl)
theorem dX8_addFirst_31 : decode cX8_addFirst 31 = .ok (.iastore, 1) := dk_79 (dk_at dksX8_addFirst_1 8 rfl rfl)
theorem dX8_addFirst_32 : decode cX8_addFirst 32 = .ok (.return_, 1) := dk_177 (dk_at dksX8_addFirst_1 9 rfl rfl)
theorem q293 : (Jvm.Cond.initialized "ElectionHouse$Count") ∈ lw_all := lw_g (lw_at lw_m1 12 rfl) rfl
theorem q573 : (Jvm.Cond.fieldLinkNest "ElectionHouse$Count" (185 : Nat) "ElectionHouse$Way" "seats" "I" "ElectionHouse") ∈ lw_tbl := lw_at lw_m2 52 rfl
theorem q576 : (Jvm.Cond.fieldLinkNest "ElectionHouse$Count" (180 : Nat) "ElectionHouse$Way" "rule" "I" "ElectionHouse") ∈ lw_tbl := lw_at lw_m2 55 rfl
theorem q580 : (Jvm.Cond.fieldLinkNest "ElectionHouse$Count" (277 : Nat) "ElectionHouse$Way" "option" "I" "ElectionHouse") ∈ lw_tbl := lw_at lw_m2 59 rfl
theorem q583 : (Jvm.Cond.fieldLinkNest "ElectionHouse$Count" (431 : Nat) "ElectionHouse$Way" "above" "I" "ElectionHouse") ∈ lw_tbl := lw_at lw_m2 62 rfl
theorem q585 : (Jvm.Cond.fieldLinkNest "ElectionHouse$Count" (428 : Nat) "ElectionHouse$Way" "below" "I" "ElectionHouse") ∈ lw_tbl := lw_at lw_m2 64 rfl
theorem q587 : (Jvm.Cond.fieldLinkNest "ElectionHouse$Count" (465 : Nat) "ElectionHouse$Way" "isOpen" "Z" "ElectionHouse") ∈ lw_tbl := lw_at lw_m2 66 rfl
theorem q589 : (Jvm.Cond.fieldLinkNest "ElectionHouse$Count" (469 : Nat) "ElectionHouse$Way" "isLevel" "Z" "ElectionHouse") ∈ lw_tbl := lw_at lw_m2 68 rfl
theorem q709 : (Jvm.Cond.instantiable "ElectionHouse$Count" (54 : Nat)) ∈ lw_all := lw_g (lw_at lw_m2 188 rfl) rfl
theorem q711 : (Jvm.Cond.instanceMethod ({ cls := "ElectionHouse$Count", name := "<init>", desc := "()V" } : Jvm.MethodName)) ∈ lw_all := lw_g (lw_at lw_m2 190 rfl) rfl
theorem q712 : (Jvm.Cond.code ({ cls := "ElectionHouse$Count", name := "<init>", desc := "()V" } : Jvm.MethodName) prog_5_method_1_code (1 : Nat) (Option.none : Option Jvm.ClassFile.FieldType)) ∈ lw_all := lw_g (lw_at lw_m2 191 rfl) rfl
theorem q713 : (Jvm.Cond.methodLink "ElectionHouse$Count" (3 : Nat) ({ cls := "java/lang/Object", name := "<init>", desc := "()V" } : Jvm.MethodName)) ∈ lw_all := lw_g (lw_at lw_m2 192 rfl) rfl
theorem q714 : (Jvm.Cond.classLink "ElectionHouse$Count" (15 : Nat) "[[B") ∈ lw_all := lw_g (lw_at lw_m2 193 rfl) rfl
theorem q715 : (Jvm.Cond.classLink "ElectionHouse$Count" (24 : Nat) "[[I") ∈ lw_all := lw_g (lw_at lw_m2 194 rfl) rfl
theorem q717 : (Jvm.Cond.classLink "ElectionHouse$Count" (37 : Nat) "[[J") ∈ lw_all := lw_g (lw_at lw_m2 196 rfl) rfl
theorem q719 : (Jvm.Cond.classLink "ElectionHouse$Count" (81 : Nat) "[[Z") ∈ lw_all := lw_g (lw_at lw_m2 198 rfl) rfl
theorem q721 : (Jvm.Cond.fieldLink "ElectionHouse$Count" (131 : Nat) "ElectionHouse$Count" "way" "LElectionHouse$Way;") ∈ lw_all := lw_g (lw_at lw_m2 200 rfl) rfl
theorem q722 : (Jvm.Cond.fieldLink "ElectionHouse$Count" (135 : Nat) "ElectionHouse$Count" "of" "LElectionHouse$Contest;") ∈ lw_all := lw_g (lw_at lw_m2 201 rfl) rfl
theorem q723 : (Jvm.Cond.fieldLink "ElectionHouse$Count" (139 : Nat) "ElectionHouse$Count" "number" "I") ∈ lw_all := lw_g (lw_at lw_m2 202 rfl) rfl
theorem q724 : (Jvm.Cond.fieldLink "ElectionHouse$Count" (148 : Nat) "ElectionHouse$Count" "candidates" "I") ∈ lw_all := lw_g (lw_at lw_m2 203 rfl) rfl
theorem q726 : (Jvm.Cond.fieldLink "ElectionHouse$Count" (9 : Nat) "ElectionHouse$Count" "is" "[Z") ∈ lw_all := lw_g (lw_at lw_m2 205 rfl) rfl
theorem q728 : (Jvm.Cond.fieldLink "ElectionHouse$Count" (149 : Nat) "ElectionHouse$Count" "left" "I") ∈ lw_all := lw_g (lw_at lw_m2 207 rfl) rfl
theorem q729 : (Jvm.Cond.fieldLink "ElectionHouse$Count" (17 : Nat) "ElectionHouse$Count" "ballots" "[[B") ∈ lw_all := lw_g (lw_at lw_m2 208 rfl) rfl
theorem q730 : (Jvm.Cond.fieldLink "ElectionHouse$Count" (20 : Nat) "ElectionHouse$Count" "ballot" "[B") ∈ lw_all := lw_g (lw_at lw_m2 209 rfl) rfl
theorem q731 : (Jvm.Cond.fieldLink "ElectionHouse$Count" (155 : Nat) "ElectionHouse$Count" "valid" "I") ∈ lw_all := lw_g (lw_at lw_m2 210 rfl) rfl
theorem q733 : (Jvm.Cond.fieldLink "ElectionHouse$Count" (158 : Nat) "ElectionHouse$Count" "blank" "I") ∈ lw_all := lw_g (lw_at lw_m2 212 rfl) rfl
theorem q735 : (Jvm.Cond.fieldLink "ElectionHouse$Count" (161 : Nat) "ElectionHouse$Count" "spoiled" "I") ∈ lw_all := lw_g (lw_at lw_m2 214 rfl) rfl
theorem q737 : (Jvm.Cond.fieldLink "ElectionHouse$Count" (26 : Nat) "ElectionHouse$Count" "rankings" "[[I") ∈ lw_all := lw_g (lw_at lw_m2 216 rfl) rfl
theorem q738 : (Jvm.Cond.fieldLink "ElectionHouse$Count" (29 : Nat) "ElectionHouse$Count" "ranked" "[I") ∈ lw_all := lw_g (lw_at lw_m2 217 rfl) rfl
theorem q739 : (Jvm.Cond.fieldLink "ElectionHouse$Count" (33 : Nat) "ElectionHouse$Count" "votes" "[J") ∈ lw_all := lw_g (lw_at lw_m2 218 rfl) rfl
theorem q741 : (Jvm.Cond.fieldLink "ElectionHouse$Count" (39 : Nat) "ElectionHouse$Count" "rounds" "[[J") ∈ lw_all := lw_g (lw_at lw_m2 220 rfl) rfl
theorem q743 : (Jvm.Cond.fieldLink "ElectionHouse$Count" (42 : Nat) "ElectionHouse$Count" "acts" "[I") ∈ lw_all := lw_g (lw_at lw_m2 222 rfl) rfl
theorem q745 : (Jvm.Cond.fieldLink "ElectionHouse$Count" (45 : Nat) "ElectionHouse$Count" "whose" "[I") ∈ lw_all := lw_g (lw_at lw_m2 224 rfl) rfl
theorem q747 : (Jvm.Cond.fieldLink "ElectionHouse$Count" (164 : Nat) "ElectionHouse$Count" "roundMany" "I") ∈ lw_all := lw_g (lw_at lw_m2 226 rfl) rfl
theorem q749 : (Jvm.Cond.fieldLink "ElectionHouse$Count" (48 : Nat) "ElectionHouse$Count" "elected" "[I") ∈ lw_all := lw_g (lw_at lw_m2 228 rfl) rfl
theorem q751 : (Jvm.Cond.fieldLink "ElectionHouse$Count" (167 : Nat) "ElectionHouse$Count" "electedMany" "I") ∈ lw_all := lw_g (lw_at lw_m2 230 rfl) rfl
theorem q753 : (Jvm.Cond.fieldLink "ElectionHouse$Count" (51 : Nat) "ElectionHouse$Count" "isElected" "[Z") ∈ lw_all := lw_g (lw_at lw_m2 232 rfl) rfl
theorem q755 : (Jvm.Cond.fieldLink "ElectionHouse$Count" (54 : Nat) "ElectionHouse$Count" "isOut" "[Z") ∈ lw_all := lw_g (lw_at lw_m2 234 rfl) rfl
theorem q756 : (Jvm.Cond.fieldLink "ElectionHouse$Count" (170 : Nat) "ElectionHouse$Count" "house" "I") ∈ lw_all := lw_g (lw_at lw_m2 235 rfl) rfl
theorem q758 : (Jvm.Cond.fieldLink "ElectionHouse$Count" (57 : Nat) "ElectionHouse$Count" "marks" "[[B") ∈ lw_all := lw_g (lw_at lw_m2 237 rfl) rfl
theorem q759 : (Jvm.Cond.fieldLink "ElectionHouse$Count" (60 : Nat) "ElectionHouse$Count" "one" "[B") ∈ lw_all := lw_g (lw_at lw_m2 238 rfl) rfl
theorem q760 : (Jvm.Cond.fieldLink "ElectionHouse$Count" (63 : Nat) "ElectionHouse$Count" "two" "[B") ∈ lw_all := lw_g (lw_at lw_m2 239 rfl) rfl
theorem q761 : (Jvm.Cond.fieldLink "ElectionHouse$Count" (66 : Nat) "ElectionHouse$Count" "worth" "[J") ∈ lw_all := lw_g (lw_at lw_m3 0 rfl) rfl
theorem q762 : (Jvm.Cond.fieldLink "ElectionHouse$Count" (69 : Nat) "ElectionHouse$Count" "lies" "[I") ∈ lw_all := lw_g (lw_at lw_m3 1 rfl) rfl
theorem q763 : (Jvm.Cond.fieldLink "ElectionHouse$Count" (72 : Nat) "ElectionHouse$Count" "isGiven" "[Z") ∈ lw_all := lw_g (lw_at lw_m3 2 rfl) rfl
theorem q764 : (Jvm.Cond.fieldLink "ElectionHouse$Count" (280 : Nat) "ElectionHouse$Count" "quota" "J") ∈ lw_all := lw_g (lw_at lw_m3 3 rfl) rfl
theorem q765 : (Jvm.Cond.fieldLink "ElectionHouse$Count" (284 : Nat) "ElectionHouse$Count" "x" "J") ∈ lw_all := lw_g (lw_at lw_m3 4 rfl) rfl
theorem q766 : (Jvm.Cond.fieldLink "ElectionHouse$Count" (75 : Nat) "ElectionHouse$Count" "keeps" "[J") ∈ lw_all := lw_g (lw_at lw_m3 5 rfl) rfl
theorem q767 : (Jvm.Cond.fieldLink "ElectionHouse$Count" (322 : Nat) "ElectionHouse$Count" "allVotes" "J") ∈ lw_all := lw_g (lw_at lw_m3 6 rfl) rfl
theorem q768 : (Jvm.Cond.fieldLink "ElectionHouse$Count" (78 : Nat) "ElectionHouse$Count" "above" "[[I") ∈ lw_all := lw_g (lw_at lw_m3 7 rfl) rfl
theorem q769 : (Jvm.Cond.fieldLink "ElectionHouse$Count" (83 : Nat) "ElectionHouse$Count" "beats" "[[Z") ∈ lw_all := lw_g (lw_at lw_m3 8 rfl) rfl
theorem q770 : (Jvm.Cond.fieldLink "ElectionHouse$Count" (86 : Nat) "ElectionHouse$Count" "kept" "[[Z") ∈ lw_all := lw_g (lw_at lw_m3 9 rfl) rfl
theorem q771 : (Jvm.Cond.fieldLink "ElectionHouse$Count" (89 : Nat) "ElectionHouse$Count" "widths" "[[I") ∈ lw_all := lw_g (lw_at lw_m3 10 rfl) rfl
theorem q772 : (Jvm.Cond.fieldLink "ElectionHouse$Count" (92 : Nat) "ElectionHouse$Count" "rest" "[Z") ∈ lw_all := lw_g (lw_at lw_m3 11 rfl) rfl
theorem q773 : (Jvm.Cond.fieldLink "ElectionHouse$Count" (95 : Nat) "ElectionHouse$Count" "pairA" "[I") ∈ lw_all := lw_g (lw_at lw_m3 12 rfl) rfl
theorem q774 : (Jvm.Cond.fieldLink "ElectionHouse$Count" (98 : Nat) "ElectionHouse$Count" "pairB" "[I") ∈ lw_all := lw_g (lw_at lw_m3 13 rfl) rfl
theorem q775 : (Jvm.Cond.fieldLink "ElectionHouse$Count" (386 : Nat) "ElectionHouse$Count" "pairs" "I") ∈ lw_all := lw_g (lw_at lw_m3 14 rfl) rfl
theorem q776 : (Jvm.Cond.fieldLink "ElectionHouse$Count" (101 : Nat) "ElectionHouse$Count" "lists" "[I") ∈ lw_all := lw_g (lw_at lw_m3 15 rfl) rfl
theorem q777 : (Jvm.Cond.fieldLink "ElectionHouse$Count" (416 : Nat) "ElectionHouse$Count" "listMany" "I") ∈ lw_all := lw_g (lw_at lw_m3 16 rfl) rfl
theorem q778 : (Jvm.Cond.fieldLink "ElectionHouse$Count" (104 : Nat) "ElectionHouse$Count" "listVotes" "[I") ∈ lw_all := lw_g (lw_at lw_m3 17 rfl) rfl
theorem q779 : (Jvm.Cond.fieldLink "ElectionHouse$Count" (107 : Nat) "ElectionHouse$Count" "room" "[I") ∈ lw_all := lw_g (lw_at lw_m3 18 rfl) rfl
theorem q780 : (Jvm.Cond.fieldLink "ElectionHouse$Count" (110 : Nat) "ElectionHouse$Count" "takesPart" "[Z") ∈ lw_all := lw_g (lw_at lw_m3 19 rfl) rfl
theorem q781 : (Jvm.Cond.fieldLink "ElectionHouse$Count" (113 : Nat) "ElectionHouse$Count" "seats" "[I") ∈ lw_all := lw_g (lw_at lw_m3 20 rfl) rfl
theorem q782 : (Jvm.Cond.fieldLink "ElectionHouse$Count" (116 : Nat) "ElectionHouse$Count" "remainders" "[I") ∈ lw_all := lw_g (lw_at lw_m3 21 rfl) rfl
theorem q783 : (Jvm.Cond.fieldLink "ElectionHouse$Count" (119 : Nat) "ElectionHouse$Count" "byRemainder" "[I") ∈ lw_all := lw_g (lw_at lw_m3 22 rfl) rfl
theorem q784 : (Jvm.Cond.fieldLink "ElectionHouse$Count" (425 : Nat) "ElectionHouse$Count" "taking" "I") ∈ lw_all := lw_g (lw_at lw_m3 23 rfl) rfl
theorem q785 : (Jvm.Cond.fieldLink "ElectionHouse$Count" (122 : Nat) "ElectionHouse$Count" "firstSeats" "[I") ∈ lw_all := lw_g (lw_at lw_m3 24 rfl) rfl
theorem q786 : (Jvm.Cond.fieldLink "ElectionHouse$Count" (456 : Nat) "ElectionHouse$Count" "allFirst" "I") ∈ lw_all := lw_g (lw_at lw_m3 25 rfl) rfl
theorem q787 : (Jvm.Cond.fieldLink "ElectionHouse$Count" (125 : Nat) "ElectionHouse$Count" "isElsewhere" "[Z") ∈ lw_all := lw_g (lw_at lw_m3 26 rfl) rfl
theorem q788 : (Jvm.Cond.fieldLink "ElectionHouse$Count" (128 : Nat) "ElectionHouse$Count" "marked" "[J") ∈ lw_all := lw_g (lw_at lw_m3 27 rfl) rfl
theorem q789 : (Jvm.Cond.lays "ElectionHouse$Count" "ElectionHouse$Count" "way" "LElectionHouse$Way;") ∈ lw_all := lw_g (lw_at lw_m3 28 rfl) rfl
theorem q790 : (Jvm.Cond.soleField "ElectionHouse$Count" "way") ∈ lw_all := lw_g (lw_at lw_m3 29 rfl) rfl
theorem q791 : (Jvm.Cond.lays "ElectionHouse$Count" "ElectionHouse$Count" "of" "LElectionHouse$Contest;") ∈ lw_all := lw_g (lw_at lw_m3 30 rfl) rfl
theorem q792 : (Jvm.Cond.soleField "ElectionHouse$Count" "of") ∈ lw_all := lw_g (lw_at lw_m3 31 rfl) rfl
theorem q793 : (Jvm.Cond.lays "ElectionHouse$Count" "ElectionHouse$Count" "number" "I") ∈ lw_all := lw_g (lw_at lw_m3 32 rfl) rfl
theorem q794 : (Jvm.Cond.soleField "ElectionHouse$Count" "number") ∈ lw_all := lw_g (lw_at lw_m3 33 rfl) rfl
theorem q795 : (Jvm.Cond.lays "ElectionHouse$Count" "ElectionHouse$Count" "candidates" "I") ∈ lw_all := lw_g (lw_at lw_m3 34 rfl) rfl
theorem q796 : (Jvm.Cond.soleField "ElectionHouse$Count" "candidates") ∈ lw_all := lw_g (lw_at lw_m3 35 rfl) rfl
theorem q797 : (Jvm.Cond.laysFinal "ElectionHouse$Count" "ElectionHouse$Count" "is" "[Z") ∈ lw_all := lw_g (lw_at lw_m3 36 rfl) rfl
theorem q798 : (Jvm.Cond.soleField "ElectionHouse$Count" "is") ∈ lw_all := lw_g (lw_at lw_m3 37 rfl) rfl
theorem q799 : (Jvm.Cond.lays "ElectionHouse$Count" "ElectionHouse$Count" "left" "I") ∈ lw_all := lw_g (lw_at lw_m3 38 rfl) rfl
theorem q800 : (Jvm.Cond.soleField "ElectionHouse$Count" "left") ∈ lw_all := lw_g (lw_at lw_m3 39 rfl) rfl
theorem q801 : (Jvm.Cond.laysFinal "ElectionHouse$Count" "ElectionHouse$Count" "ballots" "[[B") ∈ lw_all := lw_g (lw_at lw_m3 40 rfl) rfl
theorem q802 : (Jvm.Cond.soleField "ElectionHouse$Count" "ballots") ∈ lw_all := lw_g (lw_at lw_m3 41 rfl) rfl
theorem q803 : (Jvm.Cond.laysFinal "ElectionHouse$Count" "ElectionHouse$Count" "ballot" "[B") ∈ lw_all := lw_g (lw_at lw_m3 42 rfl) rfl
theorem q804 : (Jvm.Cond.soleField "ElectionHouse$Count" "ballot") ∈ lw_all := lw_g (lw_at lw_m3 43 rfl) rfl
theorem q805 : (Jvm.Cond.lays "ElectionHouse$Count" "ElectionHouse$Count" "valid" "I") ∈ lw_all := lw_g (lw_at lw_m3 44 rfl) rfl
theorem q806 : (Jvm.Cond.soleField "ElectionHouse$Count" "valid") ∈ lw_all := lw_g (lw_at lw_m3 45 rfl) rfl
theorem q807 : (Jvm.Cond.lays "ElectionHouse$Count" "ElectionHouse$Count" "blank" "I") ∈ lw_all := lw_g (lw_at lw_m3 46 rfl) rfl
theorem q808 : (Jvm.Cond.soleField "ElectionHouse$Count" "blank") ∈ lw_all := lw_g (lw_at lw_m3 47 rfl) rfl
theorem q809 : (Jvm.Cond.lays "ElectionHouse$Count" "ElectionHouse$Count" "spoiled" "I") ∈ lw_all := lw_g (lw_at lw_m3 48 rfl) rfl
theorem q810 : (Jvm.Cond.soleField "ElectionHouse$Count" "spoiled") ∈ lw_all := lw_g (lw_at lw_m3 49 rfl) rfl
theorem q811 : (Jvm.Cond.laysFinal "ElectionHouse$Count" "ElectionHouse$Count" "rankings" "[[I") ∈ lw_all := lw_g (lw_at lw_m3 50 rfl) rfl
theorem q812 : (Jvm.Cond.soleField "ElectionHouse$Count" "rankings") ∈ lw_all := lw_g (lw_at lw_m3 51 rfl) rfl
theorem q813 : (Jvm.Cond.laysFinal "ElectionHouse$Count" "ElectionHouse$Count" "ranked" "[I") ∈ lw_all := lw_g (lw_at lw_m3 52 rfl) rfl
theorem q814 : (Jvm.Cond.soleField "ElectionHouse$Count" "ranked") ∈ lw_all := lw_g (lw_at lw_m3 53 rfl) rfl
theorem q815 : (Jvm.Cond.laysFinal "ElectionHouse$Count" "ElectionHouse$Count" "votes" "[J") ∈ lw_all := lw_g (lw_at lw_m3 54 rfl) rfl
theorem q816 : (Jvm.Cond.soleField "ElectionHouse$Count" "votes") ∈ lw_all := lw_g (lw_at lw_m3 55 rfl) rfl
theorem q817 : (Jvm.Cond.laysFinal "ElectionHouse$Count" "ElectionHouse$Count" "rounds" "[[J") ∈ lw_all := lw_g (lw_at lw_m3 56 rfl) rfl
theorem q818 : (Jvm.Cond.soleField "ElectionHouse$Count" "rounds") ∈ lw_all := lw_g (lw_at lw_m3 57 rfl) rfl
theorem q819 : (Jvm.Cond.laysFinal "ElectionHouse$Count" "ElectionHouse$Count" "acts" "[I") ∈ lw_all := lw_g (lw_at lw_m3 58 rfl) rfl
theorem q820 : (Jvm.Cond.soleField "ElectionHouse$Count" "acts") ∈ lw_all := lw_g (lw_at lw_m3 59 rfl) rfl
theorem q821 : (Jvm.Cond.laysFinal "ElectionHouse$Count" "ElectionHouse$Count" "whose" "[I") ∈ lw_all := lw_g (lw_at lw_m3 60 rfl) rfl
theorem q822 : (Jvm.Cond.soleField "ElectionHouse$Count" "whose") ∈ lw_all := lw_g (lw_at lw_m3 61 rfl) rfl
theorem q823 : (Jvm.Cond.lays "ElectionHouse$Count" "ElectionHouse$Count" "roundMany" "I") ∈ lw_all := lw_g (lw_at lw_m3 62 rfl) rfl
theorem q824 : (Jvm.Cond.soleField "ElectionHouse$Count" "roundMany") ∈ lw_all := lw_g (lw_at lw_m3 63 rfl) rfl
theorem q825 : (Jvm.Cond.laysFinal "ElectionHouse$Count" "ElectionHouse$Count" "elected" "[I") ∈ lw_all := lw_g (lw_at lw_m3 64 rfl) rfl
theorem q826 : (Jvm.Cond.soleField "ElectionHouse$Count" "elected") ∈ lw_all := lw_g (lw_at lw_m3 65 rfl) rfl
theorem q827 : (Jvm.Cond.lays "ElectionHouse$Count" "ElectionHouse$Count" "electedMany" "I") ∈ lw_all := lw_g (lw_at lw_m3 66 rfl) rfl
theorem q828 : (Jvm.Cond.soleField "ElectionHouse$Count" "electedMany") ∈ lw_all := lw_g (lw_at lw_m3 67 rfl) rfl
theorem q829 : (Jvm.Cond.laysFinal "ElectionHouse$Count" "ElectionHouse$Count" "isElected" "[Z") ∈ lw_all := lw_g (lw_at lw_m3 68 rfl) rfl
theorem q830 : (Jvm.Cond.soleField "ElectionHouse$Count" "isElected") ∈ lw_all := lw_g (lw_at lw_m3 69 rfl) rfl
theorem q831 : (Jvm.Cond.laysFinal "ElectionHouse$Count" "ElectionHouse$Count" "isOut" "[Z") ∈ lw_all := lw_g (lw_at lw_m3 70 rfl) rfl
theorem q832 : (Jvm.Cond.soleField "ElectionHouse$Count" "isOut") ∈ lw_all := lw_g (lw_at lw_m3 71 rfl) rfl
theorem q833 : (Jvm.Cond.lays "ElectionHouse$Count" "ElectionHouse$Count" "house" "I") ∈ lw_all := lw_g (lw_at lw_m3 72 rfl) rfl
theorem q834 : (Jvm.Cond.soleField "ElectionHouse$Count" "house") ∈ lw_all := lw_g (lw_at lw_m3 73 rfl) rfl
theorem q835 : (Jvm.Cond.laysFinal "ElectionHouse$Count" "ElectionHouse$Count" "marks" "[[B") ∈ lw_all := lw_g (lw_at lw_m3 74 rfl) rfl
theorem q836 : (Jvm.Cond.soleField "ElectionHouse$Count" "marks") ∈ lw_all := lw_g (lw_at lw_m3 75 rfl) rfl
theorem q837 : (Jvm.Cond.laysFinal "ElectionHouse$Count" "ElectionHouse$Count" "one" "[B") ∈ lw_all := lw_g (lw_at lw_m3 76 rfl) rfl
theorem q838 : (Jvm.Cond.soleField "ElectionHouse$Count" "one") ∈ lw_all := lw_g (lw_at lw_m3 77 rfl) rfl
theorem q839 : (Jvm.Cond.laysFinal "ElectionHouse$Count" "ElectionHouse$Count" "two" "[B") ∈ lw_all := lw_g (lw_at lw_m3 78 rfl) rfl
theorem q840 : (Jvm.Cond.soleField "ElectionHouse$Count" "two") ∈ lw_all := lw_g (lw_at lw_m3 79 rfl) rfl
theorem q841 : (Jvm.Cond.laysFinal "ElectionHouse$Count" "ElectionHouse$Count" "worth" "[J") ∈ lw_all := lw_g (lw_at lw_m3 80 rfl) rfl
theorem q842 : (Jvm.Cond.soleField "ElectionHouse$Count" "worth") ∈ lw_all := lw_g (lw_at lw_m3 81 rfl) rfl
theorem q843 : (Jvm.Cond.laysFinal "ElectionHouse$Count" "ElectionHouse$Count" "lies" "[I") ∈ lw_all := lw_g (lw_at lw_m3 82 rfl) rfl
theorem q844 : (Jvm.Cond.soleField "ElectionHouse$Count" "lies") ∈ lw_all := lw_g (lw_at lw_m3 83 rfl) rfl
theorem q845 : (Jvm.Cond.laysFinal "ElectionHouse$Count" "ElectionHouse$Count" "isGiven" "[Z") ∈ lw_all := lw_g (lw_at lw_m3 84 rfl) rfl
theorem q846 : (Jvm.Cond.soleField "ElectionHouse$Count" "isGiven") ∈ lw_all := lw_g (lw_at lw_m3 85 rfl) rfl
theorem q847 : (Jvm.Cond.lays "ElectionHouse$Count" "ElectionHouse$Count" "quota" "J") ∈ lw_all := lw_g (lw_at lw_m3 86 rfl) rfl
theorem q848 : (Jvm.Cond.soleField "ElectionHouse$Count" "quota") ∈ lw_all := lw_g (lw_at lw_m3 87 rfl) rfl
theorem q849 : (Jvm.Cond.lays "ElectionHouse$Count" "ElectionHouse$Count" "x" "J") ∈ lw_all := lw_g (lw_at lw_m3 88 rfl) rfl
theorem q850 : (Jvm.Cond.soleField "ElectionHouse$Count" "x") ∈ lw_all := lw_g (lw_at lw_m3 89 rfl) rfl
theorem q851 : (Jvm.Cond.laysFinal "ElectionHouse$Count" "ElectionHouse$Count" "keeps" "[J") ∈ lw_all := lw_g (lw_at lw_m3 90 rfl) rfl
theorem q852 : (Jvm.Cond.soleField "ElectionHouse$Count" "keeps") ∈ lw_all := lw_g (lw_at lw_m3 91 rfl) rfl
theorem q853 : (Jvm.Cond.lays "ElectionHouse$Count" "ElectionHouse$Count" "allVotes" "J") ∈ lw_all := lw_g (lw_at lw_m3 92 rfl) rfl
theorem q854 : (Jvm.Cond.soleField "ElectionHouse$Count" "allVotes") ∈ lw_all := lw_g (lw_at lw_m3 93 rfl) rfl
theorem q855 : (Jvm.Cond.laysFinal "ElectionHouse$Count" "ElectionHouse$Count" "above" "[[I") ∈ lw_all := lw_g (lw_at lw_m3 94 rfl) rfl
theorem q856 : (Jvm.Cond.soleField "ElectionHouse$Count" "above") ∈ lw_all := lw_g (lw_at lw_m3 95 rfl) rfl
theorem q857 : (Jvm.Cond.laysFinal "ElectionHouse$Count" "ElectionHouse$Count" "beats" "[[Z") ∈ lw_all := lw_g (lw_at lw_m3 96 rfl) rfl
theorem q858 : (Jvm.Cond.soleField "ElectionHouse$Count" "beats") ∈ lw_all := lw_g (lw_at lw_m3 97 rfl) rfl
theorem q859 : (Jvm.Cond.laysFinal "ElectionHouse$Count" "ElectionHouse$Count" "kept" "[[Z") ∈ lw_all := lw_g (lw_at lw_m3 98 rfl) rfl
theorem q860 : (Jvm.Cond.soleField "ElectionHouse$Count" "kept") ∈ lw_all := lw_g (lw_at lw_m3 99 rfl) rfl
theorem q861 : (Jvm.Cond.laysFinal "ElectionHouse$Count" "ElectionHouse$Count" "widths" "[[I") ∈ lw_all := lw_g (lw_at lw_m3 100 rfl) rfl
theorem q862 : (Jvm.Cond.soleField "ElectionHouse$Count" "widths") ∈ lw_all := lw_g (lw_at lw_m3 101 rfl) rfl
theorem q863 : (Jvm.Cond.laysFinal "ElectionHouse$Count" "ElectionHouse$Count" "rest" "[Z") ∈ lw_all := lw_g (lw_at lw_m3 102 rfl) rfl
theorem q864 : (Jvm.Cond.soleField "ElectionHouse$Count" "rest") ∈ lw_all := lw_g (lw_at lw_m3 103 rfl) rfl
theorem q865 : (Jvm.Cond.laysFinal "ElectionHouse$Count" "ElectionHouse$Count" "pairA" "[I") ∈ lw_all := lw_g (lw_at lw_m3 104 rfl) rfl
theorem q866 : (Jvm.Cond.soleField "ElectionHouse$Count" "pairA") ∈ lw_all := lw_g (lw_at lw_m3 105 rfl) rfl
theorem q867 : (Jvm.Cond.laysFinal "ElectionHouse$Count" "ElectionHouse$Count" "pairB" "[I") ∈ lw_all := lw_g (lw_at lw_m3 106 rfl) rfl
theorem q868 : (Jvm.Cond.soleField "ElectionHouse$Count" "pairB") ∈ lw_all := lw_g (lw_at lw_m3 107 rfl) rfl
theorem q869 : (Jvm.Cond.lays "ElectionHouse$Count" "ElectionHouse$Count" "pairs" "I") ∈ lw_all := lw_g (lw_at lw_m3 108 rfl) rfl
theorem q870 : (Jvm.Cond.soleField "ElectionHouse$Count" "pairs") ∈ lw_all := lw_g (lw_at lw_m3 109 rfl) rfl
theorem q871 : (Jvm.Cond.laysFinal "ElectionHouse$Count" "ElectionHouse$Count" "lists" "[I") ∈ lw_all := lw_g (lw_at lw_m3 110 rfl) rfl
theorem q872 : (Jvm.Cond.soleField "ElectionHouse$Count" "lists") ∈ lw_all := lw_g (lw_at lw_m3 111 rfl) rfl
theorem q873 : (Jvm.Cond.lays "ElectionHouse$Count" "ElectionHouse$Count" "listMany" "I") ∈ lw_all := lw_g (lw_at lw_m3 112 rfl) rfl
theorem q874 : (Jvm.Cond.soleField "ElectionHouse$Count" "listMany") ∈ lw_all := lw_g (lw_at lw_m3 113 rfl) rfl
theorem q875 : (Jvm.Cond.laysFinal "ElectionHouse$Count" "ElectionHouse$Count" "listVotes" "[I") ∈ lw_all := lw_g (lw_at lw_m3 114 rfl) rfl
theorem q876 : (Jvm.Cond.soleField "ElectionHouse$Count" "listVotes") ∈ lw_all := lw_g (lw_at lw_m3 115 rfl) rfl
theorem q877 : (Jvm.Cond.laysFinal "ElectionHouse$Count" "ElectionHouse$Count" "room" "[I") ∈ lw_all := lw_g (lw_at lw_m3 116 rfl) rfl
theorem q878 : (Jvm.Cond.soleField "ElectionHouse$Count" "room") ∈ lw_all := lw_g (lw_at lw_m3 117 rfl) rfl
theorem q879 : (Jvm.Cond.laysFinal "ElectionHouse$Count" "ElectionHouse$Count" "takesPart" "[Z") ∈ lw_all := lw_g (lw_at lw_m3 118 rfl) rfl
theorem q880 : (Jvm.Cond.soleField "ElectionHouse$Count" "takesPart") ∈ lw_all := lw_g (lw_at lw_m3 119 rfl) rfl
theorem q881 : (Jvm.Cond.laysFinal "ElectionHouse$Count" "ElectionHouse$Count" "seats" "[I") ∈ lw_all := lw_g (lw_at lw_m3 120 rfl) rfl
theorem q882 : (Jvm.Cond.soleField "ElectionHouse$Count" "seats") ∈ lw_all := lw_g (lw_at lw_m3 121 rfl) rfl
theorem q883 : (Jvm.Cond.laysFinal "ElectionHouse$Count" "ElectionHouse$Count" "remainders" "[I") ∈ lw_all := lw_g (lw_at lw_m3 122 rfl) rfl
theorem q884 : (Jvm.Cond.soleField "ElectionHouse$Count" "remainders") ∈ lw_all := lw_g (lw_at lw_m3 123 rfl) rfl
theorem q885 : (Jvm.Cond.laysFinal "ElectionHouse$Count" "ElectionHouse$Count" "byRemainder" "[I") ∈ lw_all := lw_g (lw_at lw_m3 124 rfl) rfl
theorem q886 : (Jvm.Cond.soleField "ElectionHouse$Count" "byRemainder") ∈ lw_all := lw_g (lw_at lw_m3 125 rfl) rfl
theorem q887 : (Jvm.Cond.lays "ElectionHouse$Count" "ElectionHouse$Count" "taking" "I") ∈ lw_all := lw_g (lw_at lw_m3 126 rfl) rfl
theorem q888 : (Jvm.Cond.soleField "ElectionHouse$Count" "taking") ∈ lw_all := lw_g (lw_at lw_m3 127 rfl) rfl
theorem q889 : (Jvm.Cond.laysFinal "ElectionHouse$Count" "ElectionHouse$Count" "firstSeats" "[I") ∈ lw_all := lw_g (lw_at lw_m3 128 rfl) rfl
theorem q890 : (Jvm.Cond.soleField "ElectionHouse$Count" "firstSeats") ∈ lw_all := lw_g (lw_at lw_m3 129 rfl) rfl
theorem q891 : (Jvm.Cond.lays "ElectionHouse$Count" "ElectionHouse$Count" "allFirst" "I") ∈ lw_all := lw_g (lw_at lw_m3 130 rfl) rfl
theorem q892 : (Jvm.Cond.soleField "ElectionHouse$Count" "allFirst") ∈ lw_all := lw_g (lw_at lw_m3 131 rfl) rfl
theorem q893 : (Jvm.Cond.laysFinal "ElectionHouse$Count" "ElectionHouse$Count" "isElsewhere" "[Z") ∈ lw_all := lw_g (lw_at lw_m3 132 rfl) rfl
theorem q894 : (Jvm.Cond.soleField "ElectionHouse$Count" "isElsewhere") ∈ lw_all := lw_g (lw_at lw_m3 133 rfl) rfl
theorem q895 : (Jvm.Cond.laysFinal "ElectionHouse$Count" "ElectionHouse$Count" "marked" "[J") ∈ lw_all := lw_g (lw_at lw_m3 134 rfl) rfl
theorem q896 : (Jvm.Cond.soleField "ElectionHouse$Count" "marked") ∈ lw_all := lw_g (lw_at lw_m3 135 rfl) rfl
theorem q897 : (Jvm.Cond.superclass "ElectionHouse$Count" "java/lang/Object") ∈ lw_all := lw_g (lw_at lw_m3 136 rfl) rfl
theorem q911 : (Jvm.Cond.fieldLinkNest "ElectionHouse$Count" (472 : Nat) "ElectionHouse$Contest" "persons" "[I" "ElectionHouse") ∈ lw_tbl := lw_at lw_m3 150 rfl
theorem q914 : (Jvm.Cond.fieldLinkNest "ElectionHouse$Count" (413 : Nat) "ElectionHouse$Contest" "parties" "[I" "ElectionHouse") ∈ lw_tbl := lw_at lw_m3 153 rfl
theorem q918 : (Jvm.Cond.fieldLinkNest "ElectionHouse$Count" (152 : Nat) "ElectionHouse$Contest" "isStruck" "[Z" "ElectionHouse") ∈ lw_tbl := lw_at lw_m3 157 rfl
theorem q921 : (Jvm.Cond.fieldLinkNest "ElectionHouse$Count" (143 : Nat) "ElectionHouse$Contest" "candidates" "I" "ElectionHouse") ∈ lw_tbl := lw_at lw_m3 160 rfl
theorem q924 : (Jvm.Cond.fieldLinkNest "ElectionHouse$Count" (212 : Nat) "ElectionHouse$Contest" "lot" "[I" "ElectionHouse") ∈ lw_tbl := lw_at lw_m3 163 rfl
theorem q927 : (Jvm.Cond.fieldLinkNest "ElectionHouse$Count" (384 : Nat) "ElectionHouse$Contest" "places" "[I" "ElectionHouse") ∈ lw_tbl := lw_at lw_m3 166 rfl
theorem q1989 : (Jvm.Cond.instanceMethod ({ cls := "ElectionHouse$Count", name := "beginFirsts", desc := "()V" } : Jvm.MethodName)) ∈ lw_all := lw_g (lw_at lw_m8 28 rfl) rfl
theorem q1990 : (Jvm.Cond.selects "ElectionHouse$Count" ({ cls := "ElectionHouse$Count", name := "beginFirsts", desc := "()V" } : Jvm.MethodName) ({ cls := "ElectionHouse$Count", name := "beginFirsts", desc := "()V" } : Jvm.MethodName)) ∈ lw_all := lw_g (lw_at lw_m8 29 rfl) rfl
theorem q1991 : (Jvm.Cond.code ({ cls := "ElectionHouse$Count", name := "beginFirsts", desc := "()V" } : Jvm.MethodName) prog_5_method_79_code (1 : Nat) (Option.none : Option Jvm.ClassFile.FieldType)) ∈ lw_all := lw_g (lw_at lw_m8 30 rfl) rfl
theorem q1992 : (Jvm.Cond.methodLink "ElectionHouse$Count" (419 : Nat) ({ cls := "java/util/Arrays", name := "fill", desc := "([II)V" } : Jvm.MethodName)) ∈ lw_all := lw_g (lw_at lw_m8 31 rfl) rfl
theorem q1993 : (Jvm.Cond.methodLink "ElectionHouse$Count" (287 : Nat) ({ cls := "java/util/Arrays", name := "fill", desc := "([ZZ)V" } : Jvm.MethodName)) ∈ lw_all := lw_g (lw_at lw_m8 32 rfl) rfl
theorem q1999 : (Jvm.Cond.instanceMethod ({ cls := "ElectionHouse$Count", name := "begin", desc := "(LElectionHouse$Way;LElectionHouse$Contest;I)V" } : Jvm.MethodName)) ∈ lw_all := lw_g (lw_at lw_m8 38 rfl) rfl
theorem q2000 : (Jvm.Cond.selects "ElectionHouse$Count" ({ cls := "ElectionHouse$Count", name := "begin", desc := "(LElectionHouse$Way;LElectionHouse$Contest;I)V" } : Jvm.MethodName) ({ cls := "ElectionHouse$Count", name := "begin", desc := "(LElectionHouse$Way;LElectionHouse$Contest;I)V" } : Jvm.MethodName)) ∈ lw_all := lw_g (lw_at lw_m8 39 rfl) rfl
theorem q2001 : (Jvm.Cond.code ({ cls := "ElectionHouse$Count", name := "begin", desc := "(LElectionHouse$Way;LElectionHouse$Contest;I)V" } : Jvm.MethodName) prog_5_method_2_code (5 : Nat) (Option.none : Option Jvm.ClassFile.FieldType)) ∈ lw_all := lw_g (lw_at lw_m8 40 rfl) rfl
theorem q2007 : (Jvm.Cond.instanceMethod ({ cls := "ElectionHouse$Count", name := "add", desc := "([BI)V" } : Jvm.MethodName)) ∈ lw_all := lw_g (lw_at lw_m8 46 rfl) rfl
theorem q2008 : (Jvm.Cond.selects "ElectionHouse$Count" ({ cls := "ElectionHouse$Count", name := "add", desc := "([BI)V" } : Jvm.MethodName) ({ cls := "ElectionHouse$Count", name := "add", desc := "([BI)V" } : Jvm.MethodName)) ∈ lw_all := lw_g (lw_at lw_m8 47 rfl) rfl
theorem q2009 : (Jvm.Cond.code ({ cls := "ElectionHouse$Count", name := "add", desc := "([BI)V" } : Jvm.MethodName) prog_5_method_3_code (5 : Nat) (Option.none : Option Jvm.ClassFile.FieldType)) ∈ lw_all := lw_g (lw_at lw_m8 48 rfl) rfl
theorem q2010 : (Jvm.Cond.methodLink "ElectionHouse$Count" (173 : Nat) ({ cls := "ElectionHouse$Count", name := "isSpoiled", desc := "(I)Z" } : Jvm.MethodName)) ∈ lw_all := lw_g (lw_at lw_m8 49 rfl) rfl
theorem q2011 : (Jvm.Cond.privateMethod ({ cls := "ElectionHouse$Count", name := "isSpoiled", desc := "(I)Z" } : Jvm.MethodName)) ∈ lw_tbl := lw_at lw_m8 50 rfl
theorem q2012 : (Jvm.Cond.instanceMethod ({ cls := "ElectionHouse$Count", name := "isSpoiled", desc := "(I)Z" } : Jvm.MethodName)) ∈ lw_all := lw_g (lw_at lw_m8 51 rfl) rfl
theorem q2013 : (Jvm.Cond.code ({ cls := "ElectionHouse$Count", name := "isSpoiled", desc := "(I)Z" } : Jvm.MethodName) prog_5_method_4_code (2 : Nat) (Option.some Jvm.ClassFile.FieldType.boolean)) ∈ lw_all := lw_g (lw_at lw_m8 52 rfl) rfl
theorem q2014 : (Jvm.Cond.methodLink "ElectionHouse$Count" (187 : Nat) ({ cls := "ElectionHouse$Count", name := "rank", desc := "([I)I" } : Jvm.MethodName)) ∈ lw_all := lw_g (lw_at lw_m8 53 rfl) rfl
theorem q2015 : (Jvm.Cond.privateMethod ({ cls := "ElectionHouse$Count", name := "rank", desc := "([I)I" } : Jvm.MethodName)) ∈ lw_tbl := lw_at lw_m8 54 rfl
theorem q2016 : (Jvm.Cond.instanceMethod ({ cls := "ElectionHouse$Count", name := "rank", desc := "([I)I" } : Jvm.MethodName)) ∈ lw_all := lw_g (lw_at lw_m8 55 rfl) rfl
theorem q2017 : (Jvm.Cond.code ({ cls := "ElectionHouse$Count", name := "rank", desc := "([I)I" } : Jvm.MethodName) prog_5_method_6_code (7 : Nat) (Option.some Jvm.ClassFile.FieldType.int)) ∈ lw_all := lw_g (lw_at lw_m8 56 rfl) rfl
theorem q2018 : (Jvm.Cond.methodLink "ElectionHouse$Count" (191 : Nat) ({ cls := "ElectionHouse$Count", name := "isOneList", desc := "()Z" } : Jvm.MethodName)) ∈ lw_all := lw_g (lw_at lw_m8 57 rfl) rfl
theorem q2019 : (Jvm.Cond.privateMethod ({ cls := "ElectionHouse$Count", name := "isOneList", desc := "()Z" } : Jvm.MethodName)) ∈ lw_tbl := lw_at lw_m8 58 rfl
theorem q2020 : (Jvm.Cond.instanceMethod ({ cls := "ElectionHouse$Count", name := "isOneList", desc := "()Z" } : Jvm.MethodName)) ∈ lw_all := lw_g (lw_at lw_m8 59 rfl) rfl
theorem q2021 : (Jvm.Cond.code ({ cls := "ElectionHouse$Count", name := "isOneList", desc := "()Z" } : Jvm.MethodName) prog_5_method_5_code (4 : Nat) (Option.some Jvm.ClassFile.FieldType.boolean)) ∈ lw_all := lw_g (lw_at lw_m8 60 rfl) rfl
theorem q2022 : (Jvm.Cond.methodLink "ElectionHouse$Count" (195 : Nat) ({ cls := "ElectionHouse$Count", name := "listOf", desc := "(I)I" } : Jvm.MethodName)) ∈ lw_all := lw_g (lw_at lw_m8 61 rfl) rfl
theorem q2023 : (Jvm.Cond.privateMethod ({ cls := "ElectionHouse$Count", name := "listOf", desc := "(I)I" } : Jvm.MethodName)) ∈ lw_tbl := lw_at lw_m8 62 rfl
theorem q2024 : (Jvm.Cond.instanceMethod ({ cls := "ElectionHouse$Count", name := "listOf", desc := "(I)I" } : Jvm.MethodName)) ∈ lw_all := lw_g (lw_at lw_m8 63 rfl) rfl
theorem q2025 : (Jvm.Cond.code ({ cls := "ElectionHouse$Count", name := "listOf", desc := "(I)I" } : Jvm.MethodName) prog_5_method_59_code (3 : Nat) (Option.some Jvm.ClassFile.FieldType.int)) ∈ lw_all := lw_g (lw_at lw_m8 64 rfl) rfl
theorem q2026 : (Jvm.Cond.methodLink "ElectionHouse$Count" (177 : Nat) ({ cls := "ElectionHouse$Count", name := "insert", desc := "()V" } : Jvm.MethodName)) ∈ lw_all := lw_g (lw_at lw_m8 65 rfl) rfl
theorem q2027 : (Jvm.Cond.privateMethod ({ cls := "ElectionHouse$Count", name := "insert", desc := "()V" } : Jvm.MethodName)) ∈ lw_tbl := lw_at lw_m8 66 rfl
theorem q2028 : (Jvm.Cond.instanceMethod ({ cls := "ElectionHouse$Count", name := "insert", desc := "()V" } : Jvm.MethodName)) ∈ lw_all := lw_g (lw_at lw_m8 67 rfl) rfl
theorem q2029 : (Jvm.Cond.code ({ cls := "ElectionHouse$Count", name := "insert", desc := "()V" } : Jvm.MethodName) prog_5_method_8_code (2 : Nat) (Option.none : Option Jvm.ClassFile.FieldType)) ∈ lw_all := lw_g (lw_at lw_m8 68 rfl) rfl
theorem q2030 : (Jvm.Cond.methodLink "ElectionHouse$Count" (199 : Nat) ({ cls := "ElectionHouse$Count", name := "isLess", desc := "([B[B)Z" } : Jvm.MethodName)) ∈ lw_all := lw_g (lw_at lw_m8 69 rfl) rfl
theorem q2031 : (Jvm.Cond.privateMethod ({ cls := "ElectionHouse$Count", name := "isLess", desc := "([B[B)Z" } : Jvm.MethodName)) ∈ lw_tbl := lw_at lw_m8 70 rfl
theorem q2032 : (Jvm.Cond.instanceMethod ({ cls := "ElectionHouse$Count", name := "isLess", desc := "([B[B)Z" } : Jvm.MethodName)) ∈ lw_all := lw_g (lw_at lw_m8 71 rfl) rfl
theorem q2033 : (Jvm.Cond.code ({ cls := "ElectionHouse$Count", name := "isLess", desc := "([B[B)Z" } : Jvm.MethodName) prog_5_method_7_code (4 : Nat) (Option.some Jvm.ClassFile.FieldType.boolean)) ∈ lw_all := lw_g (lw_at lw_m8 72 rfl) rfl
theorem q2034 : (Jvm.Cond.methodLink "ElectionHouse$Count" (203 : Nat) ({ cls := "java/lang/System", name := "arraycopy", desc := "(Ljava/lang/Object;ILjava/lang/Object;II)V" } : Jvm.MethodName)) ∈ lw_all := lw_g (lw_at lw_m8 73 rfl) rfl
theorem q2036 : (Jvm.Cond.instanceMethod ({ cls := "ElectionHouse$Count", name := "run", desc := "()V" } : Jvm.MethodName)) ∈ lw_all := lw_g (lw_at lw_m8 75 rfl) rfl
theorem q2037 : (Jvm.Cond.selects "ElectionHouse$Count" ({ cls := "ElectionHouse$Count", name := "run", desc := "()V" } : Jvm.MethodName) ({ cls := "ElectionHouse$Count", name := "run", desc := "()V" } : Jvm.MethodName)) ∈ lw_all := lw_g (lw_at lw_m8 76 rfl) rfl
theorem q2038 : (Jvm.Cond.code ({ cls := "ElectionHouse$Count", name := "run", desc := "()V" } : Jvm.MethodName) prog_5_method_81_code (2 : Nat) (Option.none : Option Jvm.ClassFile.FieldType)) ∈ lw_all := lw_g (lw_at lw_m8 77 rfl) rfl
theorem q2039 : (Jvm.Cond.methodLink "ElectionHouse$Count" (498 : Nat) ({ cls := "ElectionHouse$Count", name := "byLists", desc := "()V" } : Jvm.MethodName)) ∈ lw_all := lw_g (lw_at lw_m8 78 rfl) rfl
theorem q2040 : (Jvm.Cond.privateMethod ({ cls := "ElectionHouse$Count", name := "byLists", desc := "()V" } : Jvm.MethodName)) ∈ lw_tbl := lw_at lw_m8 79 rfl
theorem q2041 : (Jvm.Cond.instanceMethod ({ cls := "ElectionHouse$Count", name := "byLists", desc := "()V" } : Jvm.MethodName)) ∈ lw_all := lw_g (lw_at lw_m8 80 rfl) rfl
theorem q2042 : (Jvm.Cond.code ({ cls := "ElectionHouse$Count", name := "byLists", desc := "()V" } : Jvm.MethodName) prog_5_method_78_code (1 : Nat) (Option.none : Option Jvm.ClassFile.FieldType)) ∈ lw_all := lw_g (lw_at lw_m8 81 rfl) rfl
theorem q2043 : (Jvm.Cond.methodLink "ElectionHouse$Count" (478 : Nat) ({ cls := "ElectionHouse$Count", name := "gatherLists", desc := "()V" } : Jvm.MethodName)) ∈ lw_all := lw_g (lw_at lw_m8 82 rfl) rfl
theorem q2044 : (Jvm.Cond.privateMethod ({ cls := "ElectionHouse$Count", name := "gatherLists", desc := "()V" } : Jvm.MethodName)) ∈ lw_tbl := lw_at lw_m8 83 rfl
theorem q2045 : (Jvm.Cond.instanceMethod ({ cls := "ElectionHouse$Count", name := "gatherLists", desc := "()V" } : Jvm.MethodName)) ∈ lw_all := lw_g (lw_at lw_m8 84 rfl) rfl
theorem q2046 : (Jvm.Cond.code ({ cls := "ElectionHouse$Count", name := "gatherLists", desc := "()V" } : Jvm.MethodName) prog_5_method_61_code (4 : Nat) (Option.none : Option Jvm.ClassFile.FieldType)) ∈ lw_all := lw_g (lw_at lw_m8 85 rfl) rfl
theorem q2047 : (Jvm.Cond.methodLink "ElectionHouse$Count" (422 : Nat) ({ cls := "ElectionHouse$Count", name := "isList", desc := "(I)Z" } : Jvm.MethodName)) ∈ lw_all := lw_g (lw_at lw_m8 86 rfl) rfl
theorem q2048 : (Jvm.Cond.privateMethod ({ cls := "ElectionHouse$Count", name := "isList", desc := "(I)Z" } : Jvm.MethodName)) ∈ lw_tbl := lw_at lw_m8 87 rfl
theorem q2049 : (Jvm.Cond.instanceMethod ({ cls := "ElectionHouse$Count", name := "isList", desc := "(I)Z" } : Jvm.MethodName)) ∈ lw_all := lw_g (lw_at lw_m8 88 rfl) rfl
theorem q2050 : (Jvm.Cond.code ({ cls := "ElectionHouse$Count", name := "isList", desc := "(I)Z" } : Jvm.MethodName) prog_5_method_60_code (3 : Nat) (Option.some Jvm.ClassFile.FieldType.boolean)) ∈ lw_all := lw_g (lw_at lw_m8 89 rfl) rfl
theorem q2051 : (Jvm.Cond.methodLink "ElectionHouse$Count" (481 : Nat) ({ cls := "ElectionHouse$Count", name := "countLists", desc := "()V" } : Jvm.MethodName)) ∈ lw_all := lw_g (lw_at lw_m8 90 rfl) rfl
theorem q2052 : (Jvm.Cond.privateMethod ({ cls := "ElectionHouse$Count", name := "countLists", desc := "()V" } : Jvm.MethodName)) ∈ lw_tbl := lw_at lw_m8 91 rfl
theorem q2053 : (Jvm.Cond.instanceMethod ({ cls := "ElectionHouse$Count", name := "countLists", desc := "()V" } : Jvm.MethodName)) ∈ lw_all := lw_g (lw_at lw_m8 92 rfl) rfl
theorem q2054 : (Jvm.Cond.code ({ cls := "ElectionHouse$Count", name := "countLists", desc := "()V" } : Jvm.MethodName) prog_5_method_62_code (4 : Nat) (Option.none : Option Jvm.ClassFile.FieldType)) ∈ lw_all := lw_g (lw_at lw_m8 93 rfl) rfl
theorem q2055 : (Jvm.Cond.methodLink "ElectionHouse$Count" (242 : Nat) ({ cls := "java/util/Arrays", name := "fill", desc := "([JJ)V" } : Jvm.MethodName)) ∈ lw_all := lw_g (lw_at lw_m8 94 rfl) rfl
theorem q2058 : (Jvm.Cond.methodLink "ElectionHouse$Count" (254 : Nat) ({ cls := "ElectionHouse$Count", name := "tell", desc := "()V" } : Jvm.MethodName)) ∈ lw_all := lw_g (lw_at lw_m8 97 rfl) rfl
theorem q2059 : (Jvm.Cond.privateMethod ({ cls := "ElectionHouse$Count", name := "tell", desc := "()V" } : Jvm.MethodName)) ∈ lw_tbl := lw_at lw_m8 98 rfl
theorem q2060 : (Jvm.Cond.instanceMethod ({ cls := "ElectionHouse$Count", name := "tell", desc := "()V" } : Jvm.MethodName)) ∈ lw_all := lw_g (lw_at lw_m8 99 rfl) rfl
theorem q2061 : (Jvm.Cond.code ({ cls := "ElectionHouse$Count", name := "tell", desc := "()V" } : Jvm.MethodName) prog_5_method_10_code (2 : Nat) (Option.none : Option Jvm.ClassFile.FieldType)) ∈ lw_all := lw_g (lw_at lw_m8 100 rfl) rfl
theorem q2062 : (Jvm.Cond.methodLink "ElectionHouse$Count" (484 : Nat) ({ cls := "ElectionHouse$Count", name := "tellLists", desc := "()V" } : Jvm.MethodName)) ∈ lw_all := lw_g (lw_at lw_m8 101 rfl) rfl
theorem q2063 : (Jvm.Cond.privateMethod ({ cls := "ElectionHouse$Count", name := "tellLists", desc := "()V" } : Jvm.MethodName)) ∈ lw_tbl := lw_at lw_m8 102 rfl
theorem q2064 : (Jvm.Cond.instanceMethod ({ cls := "ElectionHouse$Count", name := "tellLists", desc := "()V" } : Jvm.MethodName)) ∈ lw_all := lw_g (lw_at lw_m8 103 rfl) rfl
theorem q2065 : (Jvm.Cond.code ({ cls := "ElectionHouse$Count", name := "tellLists", desc := "()V" } : Jvm.MethodName) prog_5_method_76_code (2 : Nat) (Option.none : Option Jvm.ClassFile.FieldType)) ∈ lw_all := lw_g (lw_at lw_m8 104 rfl) rfl
theorem q2066 : (Jvm.Cond.methodLink "ElectionHouse$Count" (487 : Nat) ({ cls := "ElectionHouse$Count", name := "admit", desc := "()V" } : Jvm.MethodName)) ∈ lw_all := lw_g (lw_at lw_m8 105 rfl) rfl
theorem q2067 : (Jvm.Cond.privateMethod ({ cls := "ElectionHouse$Count", name := "admit", desc := "()V" } : Jvm.MethodName)) ∈ lw_tbl := lw_at lw_m8 106 rfl
theorem q2068 : (Jvm.Cond.instanceMethod ({ cls := "ElectionHouse$Count", name := "admit", desc := "()V" } : Jvm.MethodName)) ∈ lw_all := lw_g (lw_at lw_m8 107 rfl) rfl
theorem q2069 : (Jvm.Cond.code ({ cls := "ElectionHouse$Count", name := "admit", desc := "()V" } : Jvm.MethodName) prog_5_method_63_code (4 : Nat) (Option.none : Option Jvm.ClassFile.FieldType)) ∈ lw_all := lw_g (lw_at lw_m8 108 rfl) rfl
theorem q2070 : (Jvm.Cond.methodLink "ElectionHouse$Count" (490 : Nat) ({ cls := "ElectionHouse$Count", name := "level", desc := "()V" } : Jvm.MethodName)) ∈ lw_all := lw_g (lw_at lw_m8 109 rfl) rfl
theorem q2071 : (Jvm.Cond.privateMethod ({ cls := "ElectionHouse$Count", name := "level", desc := "()V" } : Jvm.MethodName)) ∈ lw_tbl := lw_at lw_m8 110 rfl
theorem q2072 : (Jvm.Cond.instanceMethod ({ cls := "ElectionHouse$Count", name := "level", desc := "()V" } : Jvm.MethodName)) ∈ lw_all := lw_g (lw_at lw_m8 111 rfl) rfl
theorem q2073 : (Jvm.Cond.code ({ cls := "ElectionHouse$Count", name := "level", desc := "()V" } : Jvm.MethodName) prog_5_method_73_code (5 : Nat) (Option.none : Option Jvm.ClassFile.FieldType)) ∈ lw_all := lw_g (lw_at lw_m8 112 rfl) rfl
theorem q2074 : (Jvm.Cond.methodLink "ElectionHouse$Count" (453 : Nat) ({ cls := "ElectionHouse$Count", name := "firstOf", desc := "(I)I" } : Jvm.MethodName)) ∈ lw_all := lw_g (lw_at lw_m8 113 rfl) rfl
theorem q2075 : (Jvm.Cond.privateMethod ({ cls := "ElectionHouse$Count", name := "firstOf", desc := "(I)I" } : Jvm.MethodName)) ∈ lw_tbl := lw_at lw_m8 114 rfl
theorem q2076 : (Jvm.Cond.instanceMethod ({ cls := "ElectionHouse$Count", name := "firstOf", desc := "(I)I" } : Jvm.MethodName)) ∈ lw_all := lw_g (lw_at lw_m8 115 rfl) rfl
theorem q2077 : (Jvm.Cond.code ({ cls := "ElectionHouse$Count", name := "firstOf", desc := "(I)I" } : Jvm.MethodName) prog_5_method_71_code (2 : Nat) (Option.some Jvm.ClassFile.FieldType.int)) ∈ lw_all := lw_g (lw_at lw_m8 116 rfl) rfl
theorem q2078 : (Jvm.Cond.methodLink "ElectionHouse$Count" (459 : Nat) ({ cls := "ElectionHouse$Count", name := "deal", desc := "(IZ)V" } : Jvm.MethodName)) ∈ lw_all := lw_g (lw_at lw_m8 117 rfl) rfl
theorem q2079 : (Jvm.Cond.privateMethod ({ cls := "ElectionHouse$Count", name := "deal", desc := "(IZ)V" } : Jvm.MethodName)) ∈ lw_tbl := lw_at lw_m8 118 rfl
theorem q2080 : (Jvm.Cond.instanceMethod ({ cls := "ElectionHouse$Count", name := "deal", desc := "(IZ)V" } : Jvm.MethodName)) ∈ lw_all := lw_g (lw_at lw_m8 119 rfl) rfl
theorem q2081 : (Jvm.Cond.code ({ cls := "ElectionHouse$Count", name := "deal", desc := "(IZ)V" } : Jvm.MethodName) prog_5_method_70_code (3 : Nat) (Option.none : Option Jvm.ClassFile.FieldType)) ∈ lw_all := lw_g (lw_at lw_m8 120 rfl) rfl
theorem q2082 : (Jvm.Cond.methodLink "ElectionHouse$Count" (446 : Nat) ({ cls := "ElectionHouse$Count", name := "byDivisors", desc := "(IZ)V" } : Jvm.MethodName)) ∈ lw_all := lw_g (lw_at lw_m8 121 rfl) rfl
theorem q2083 : (Jvm.Cond.privateMethod ({ cls := "ElectionHouse$Count", name := "byDivisors", desc := "(IZ)V" } : Jvm.MethodName)) ∈ lw_tbl := lw_at lw_m8 122 rfl
theorem q2084 : (Jvm.Cond.instanceMethod ({ cls := "ElectionHouse$Count", name := "byDivisors", desc := "(IZ)V" } : Jvm.MethodName)) ∈ lw_all := lw_g (lw_at lw_m8 123 rfl) rfl
theorem q2085 : (Jvm.Cond.code ({ cls := "ElectionHouse$Count", name := "byDivisors", desc := "(IZ)V" } : Jvm.MethodName) prog_5_method_65_code (9 : Nat) (Option.none : Option Jvm.ClassFile.FieldType)) ∈ lw_all := lw_g (lw_at lw_m8 124 rfl) rfl
theorem q2086 : (Jvm.Cond.methodLink "ElectionHouse$Count" (433 : Nat) ({ cls := "ElectionHouse$Count", name := "divisor", desc := "(I)I" } : Jvm.MethodName)) ∈ lw_all := lw_g (lw_at lw_m8 125 rfl) rfl
theorem q2087 : (Jvm.Cond.privateMethod ({ cls := "ElectionHouse$Count", name := "divisor", desc := "(I)I" } : Jvm.MethodName)) ∈ lw_tbl := lw_at lw_m8 126 rfl
theorem q2088 : (Jvm.Cond.instanceMethod ({ cls := "ElectionHouse$Count", name := "divisor", desc := "(I)I" } : Jvm.MethodName)) ∈ lw_all := lw_g (lw_at lw_m8 127 rfl) rfl
theorem q2089 : (Jvm.Cond.code ({ cls := "ElectionHouse$Count", name := "divisor", desc := "(I)I" } : Jvm.MethodName) prog_5_method_64_code (2 : Nat) (Option.some Jvm.ClassFile.FieldType.int)) ∈ lw_all := lw_g (lw_at lw_m8 128 rfl) rfl
theorem q2090 : (Jvm.Cond.methodLink "ElectionHouse$Count" (450 : Nat) ({ cls := "ElectionHouse$Count", name := "byQuotas", desc := "(IZ)V" } : Jvm.MethodName)) ∈ lw_all := lw_g (lw_at lw_m8 129 rfl) rfl
theorem q2091 : (Jvm.Cond.privateMethod ({ cls := "ElectionHouse$Count", name := "byQuotas", desc := "(IZ)V" } : Jvm.MethodName)) ∈ lw_tbl := lw_at lw_m8 130 rfl
theorem q2092 : (Jvm.Cond.instanceMethod ({ cls := "ElectionHouse$Count", name := "byQuotas", desc := "(IZ)V" } : Jvm.MethodName)) ∈ lw_all := lw_g (lw_at lw_m8 131 rfl) rfl
theorem q2093 : (Jvm.Cond.code ({ cls := "ElectionHouse$Count", name := "byQuotas", desc := "(IZ)V" } : Jvm.MethodName) prog_5_method_67_code (9 : Nat) (Option.none : Option Jvm.ClassFile.FieldType)) ∈ lw_all := lw_g (lw_at lw_m8 132 rfl) rfl
theorem q2094 : (Jvm.Cond.methodLink "ElectionHouse$Count" (399 : Nat) ({ cls := "java/lang/Math", name := "min", desc := "(II)I" } : Jvm.MethodName)) ∈ lw_all := lw_g (lw_at lw_m8 133 rfl) rfl
theorem q2095 : (Jvm.Cond.methodLink "ElectionHouse$Count" (436 : Nat) ({ cls := "ElectionHouse$Count", name := "sortRemainders", desc := "()I" } : Jvm.MethodName)) ∈ lw_all := lw_g (lw_at lw_m8 134 rfl) rfl
theorem q2096 : (Jvm.Cond.privateMethod ({ cls := "ElectionHouse$Count", name := "sortRemainders", desc := "()I" } : Jvm.MethodName)) ∈ lw_tbl := lw_at lw_m8 135 rfl
theorem q2097 : (Jvm.Cond.instanceMethod ({ cls := "ElectionHouse$Count", name := "sortRemainders", desc := "()I" } : Jvm.MethodName)) ∈ lw_all := lw_g (lw_at lw_m8 136 rfl) rfl
theorem q2098 : (Jvm.Cond.code ({ cls := "ElectionHouse$Count", name := "sortRemainders", desc := "()I" } : Jvm.MethodName) prog_5_method_66_code (5 : Nat) (Option.some Jvm.ClassFile.FieldType.int)) ∈ lw_all := lw_g (lw_at lw_m8 137 rfl) rfl
theorem q2099 : (Jvm.Cond.methodLink "ElectionHouse$Count" (439 : Nat) ({ cls := "ElectionHouse$Count", name := "takeBack", desc := "(II)V" } : Jvm.MethodName)) ∈ lw_all := lw_g (lw_at lw_m8 138 rfl) rfl
theorem q2100 : (Jvm.Cond.privateMethod ({ cls := "ElectionHouse$Count", name := "takeBack", desc := "(II)V" } : Jvm.MethodName)) ∈ lw_tbl := lw_at lw_m8 139 rfl
theorem q2101 : (Jvm.Cond.instanceMethod ({ cls := "ElectionHouse$Count", name := "takeBack", desc := "(II)V" } : Jvm.MethodName)) ∈ lw_all := lw_g (lw_at lw_m8 140 rfl) rfl
theorem q2102 : (Jvm.Cond.code ({ cls := "ElectionHouse$Count", name := "takeBack", desc := "(II)V" } : Jvm.MethodName) prog_5_method_68_code (6 : Nat) (Option.none : Option Jvm.ClassFile.FieldType)) ∈ lw_all := lw_g (lw_at lw_m8 141 rfl) rfl
theorem q2103 : (Jvm.Cond.methodLink "ElectionHouse$Count" (442 : Nat) ({ cls := "ElectionHouse$Count", name := "addTo", desc := "(IIZ)V" } : Jvm.MethodName)) ∈ lw_all := lw_g (lw_at lw_m8 142 rfl) rfl
theorem q2104 : (Jvm.Cond.privateMethod ({ cls := "ElectionHouse$Count", name := "addTo", desc := "(IIZ)V" } : Jvm.MethodName)) ∈ lw_tbl := lw_at lw_m8 143 rfl
theorem q2105 : (Jvm.Cond.instanceMethod ({ cls := "ElectionHouse$Count", name := "addTo", desc := "(IIZ)V" } : Jvm.MethodName)) ∈ lw_all := lw_g (lw_at lw_m8 144 rfl) rfl
theorem q2106 : (Jvm.Cond.code ({ cls := "ElectionHouse$Count", name := "addTo", desc := "(IIZ)V" } : Jvm.MethodName) prog_5_method_69_code (8 : Nat) (Option.none : Option Jvm.ClassFile.FieldType)) ∈ lw_all := lw_g (lw_at lw_m8 145 rfl) rfl
theorem q2107 : (Jvm.Cond.methodLink "ElectionHouse$Count" (462 : Nat) ({ cls := "ElectionHouse$Count", name := "isOver", desc := "()Z" } : Jvm.MethodName)) ∈ lw_all := lw_g (lw_at lw_m8 146 rfl) rfl
theorem q2108 : (Jvm.Cond.privateMethod ({ cls := "ElectionHouse$Count", name := "isOver", desc := "()Z" } : Jvm.MethodName)) ∈ lw_tbl := lw_at lw_m8 147 rfl
theorem q2109 : (Jvm.Cond.instanceMethod ({ cls := "ElectionHouse$Count", name := "isOver", desc := "()Z" } : Jvm.MethodName)) ∈ lw_all := lw_g (lw_at lw_m8 148 rfl) rfl
theorem q2110 : (Jvm.Cond.code ({ cls := "ElectionHouse$Count", name := "isOver", desc := "()Z" } : Jvm.MethodName) prog_5_method_72_code (4 : Nat) (Option.some Jvm.ClassFile.FieldType.boolean)) ∈ lw_all := lw_g (lw_at lw_m8 149 rfl) rfl
theorem q2111 : (Jvm.Cond.methodLink "ElectionHouse$Count" (378 : Nat) ({ cls := "java/lang/Math", name := "max", desc := "(II)I" } : Jvm.MethodName)) ∈ lw_all := lw_g (lw_at lw_m8 150 rfl) rfl
theorem q2112 : (Jvm.Cond.methodLink "ElectionHouse$Count" (493 : Nat) ({ cls := "ElectionHouse$Count", name := "fill", desc := "()V" } : Jvm.MethodName)) ∈ lw_all := lw_g (lw_at lw_m8 151 rfl) rfl
theorem q2113 : (Jvm.Cond.privateMethod ({ cls := "ElectionHouse$Count", name := "fill", desc := "()V" } : Jvm.MethodName)) ∈ lw_tbl := lw_at lw_m8 152 rfl
theorem q2114 : (Jvm.Cond.instanceMethod ({ cls := "ElectionHouse$Count", name := "fill", desc := "()V" } : Jvm.MethodName)) ∈ lw_all := lw_g (lw_at lw_m8 153 rfl) rfl
theorem q2115 : (Jvm.Cond.code ({ cls := "ElectionHouse$Count", name := "fill", desc := "()V" } : Jvm.MethodName) prog_5_method_75_code (6 : Nat) (Option.none : Option Jvm.ClassFile.FieldType)) ∈ lw_all := lw_g (lw_at lw_m8 154 rfl) rfl
theorem q2116 : (Jvm.Cond.methodLink "ElectionHouse$Count" (475 : Nat) ({ cls := "ElectionHouse$Count", name := "nextOf", desc := "(I)I" } : Jvm.MethodName)) ∈ lw_all := lw_g (lw_at lw_m8 155 rfl) rfl
theorem q2117 : (Jvm.Cond.privateMethod ({ cls := "ElectionHouse$Count", name := "nextOf", desc := "(I)I" } : Jvm.MethodName)) ∈ lw_tbl := lw_at lw_m8 156 rfl
theorem q2118 : (Jvm.Cond.instanceMethod ({ cls := "ElectionHouse$Count", name := "nextOf", desc := "(I)I" } : Jvm.MethodName)) ∈ lw_all := lw_g (lw_at lw_m8 157 rfl) rfl
theorem q2119 : (Jvm.Cond.code ({ cls := "ElectionHouse$Count", name := "nextOf", desc := "(I)I" } : Jvm.MethodName) prog_5_method_74_code (6 : Nat) (Option.some Jvm.ClassFile.FieldType.int)) ∈ lw_all := lw_g (lw_at lw_m8 158 rfl) rfl
theorem q2120 : (Jvm.Cond.methodLink "ElectionHouse$Count" (209 : Nat) ({ cls := "ElectionHouse$Count", name := "isIn", desc := "(I)Z" } : Jvm.MethodName)) ∈ lw_all := lw_g (lw_at lw_m8 159 rfl) rfl
theorem q2121 : (Jvm.Cond.privateMethod ({ cls := "ElectionHouse$Count", name := "isIn", desc := "(I)Z" } : Jvm.MethodName)) ∈ lw_tbl := lw_at lw_m8 160 rfl
theorem q2122 : (Jvm.Cond.instanceMethod ({ cls := "ElectionHouse$Count", name := "isIn", desc := "(I)Z" } : Jvm.MethodName)) ∈ lw_all := lw_g (lw_at lw_m8 161 rfl) rfl
theorem q2123 : (Jvm.Cond.code ({ cls := "ElectionHouse$Count", name := "isIn", desc := "(I)Z" } : Jvm.MethodName) prog_5_method_12_code (2 : Nat) (Option.some Jvm.ClassFile.FieldType.boolean)) ∈ lw_all := lw_g (lw_at lw_m8 162 rfl) rfl
theorem q2124 : (Jvm.Cond.methodLink "ElectionHouse$Count" (219 : Nat) ({ cls := "ElectionHouse$Count", name := "elect", desc := "(I)V" } : Jvm.MethodName)) ∈ lw_all := lw_g (lw_at lw_m8 163 rfl) rfl
theorem q2125 : (Jvm.Cond.privateMethod ({ cls := "ElectionHouse$Count", name := "elect", desc := "(I)V" } : Jvm.MethodName)) ∈ lw_tbl := lw_at lw_m8 164 rfl
theorem q2126 : (Jvm.Cond.instanceMethod ({ cls := "ElectionHouse$Count", name := "elect", desc := "(I)V" } : Jvm.MethodName)) ∈ lw_all := lw_g (lw_at lw_m8 165 rfl) rfl
theorem q2127 : (Jvm.Cond.code ({ cls := "ElectionHouse$Count", name := "elect", desc := "(I)V" } : Jvm.MethodName) prog_5_method_14_code (2 : Nat) (Option.none : Option Jvm.ClassFile.FieldType)) ∈ lw_all := lw_g (lw_at lw_m8 166 rfl) rfl
theorem q2128 : (Jvm.Cond.methodLink "ElectionHouse$Count" (495 : Nat) ({ cls := "ElectionHouse$Count", name := "tellSeats", desc := "()V" } : Jvm.MethodName)) ∈ lw_all := lw_g (lw_at lw_m8 167 rfl) rfl
theorem q2129 : (Jvm.Cond.privateMethod ({ cls := "ElectionHouse$Count", name := "tellSeats", desc := "()V" } : Jvm.MethodName)) ∈ lw_tbl := lw_at lw_m8 168 rfl
theorem q2130 : (Jvm.Cond.instanceMethod ({ cls := "ElectionHouse$Count", name := "tellSeats", desc := "()V" } : Jvm.MethodName)) ∈ lw_all := lw_g (lw_at lw_m8 169 rfl) rfl
theorem q2131 : (Jvm.Cond.code ({ cls := "ElectionHouse$Count", name := "tellSeats", desc := "()V" } : Jvm.MethodName) prog_5_method_77_code (3 : Nat) (Option.none : Option Jvm.ClassFile.FieldType)) ∈ lw_all := lw_g (lw_at lw_m8 170 rfl) rfl
theorem q2132 : (Jvm.Cond.methodLink "ElectionHouse$Count" (501 : Nat) ({ cls := "ElectionHouse$Count", name := "bySums", desc := "()V" } : Jvm.MethodName)) ∈ lw_all := lw_g (lw_at lw_m8 171 rfl) rfl
theorem q2133 : (Jvm.Cond.privateMethod ({ cls := "ElectionHouse$Count", name := "bySums", desc := "()V" } : Jvm.MethodName)) ∈ lw_tbl := lw_at lw_m8 172 rfl
theorem q2134 : (Jvm.Cond.instanceMethod ({ cls := "ElectionHouse$Count", name := "bySums", desc := "()V" } : Jvm.MethodName)) ∈ lw_all := lw_g (lw_at lw_m8 173 rfl) rfl
theorem q2135 : (Jvm.Cond.code ({ cls := "ElectionHouse$Count", name := "bySums", desc := "()V" } : Jvm.MethodName) prog_5_method_23_code (2 : Nat) (Option.none : Option Jvm.ClassFile.FieldType)) ∈ lw_all := lw_g (lw_at lw_m8 174 rfl) rfl
theorem q2136 : (Jvm.Cond.methodLink "ElectionHouse$Count" (248 : Nat) ({ cls := "ElectionHouse$Count", name := "places", desc := "()V" } : Jvm.MethodName)) ∈ lw_all := lw_g (lw_at lw_m8 175 rfl) rfl
theorem q2137 : (Jvm.Cond.privateMethod ({ cls := "ElectionHouse$Count", name := "places", desc := "()V" } : Jvm.MethodName)) ∈ lw_tbl := lw_at lw_m8 176 rfl
theorem q2138 : (Jvm.Cond.instanceMethod ({ cls := "ElectionHouse$Count", name := "places", desc := "()V" } : Jvm.MethodName)) ∈ lw_all := lw_g (lw_at lw_m8 177 rfl) rfl
theorem q2139 : (Jvm.Cond.code ({ cls := "ElectionHouse$Count", name := "places", desc := "()V" } : Jvm.MethodName) prog_5_method_22_code (3 : Nat) (Option.none : Option Jvm.ClassFile.FieldType)) ∈ lw_all := lw_g (lw_at lw_m8 178 rfl) rfl
theorem q2140 : (Jvm.Cond.methodLink "ElectionHouse$Count" (239 : Nat) ({ cls := "ElectionHouse$Count", name := "rankAll", desc := "()V" } : Jvm.MethodName)) ∈ lw_all := lw_g (lw_at lw_m8 179 rfl) rfl
theorem q2141 : (Jvm.Cond.privateMethod ({ cls := "ElectionHouse$Count", name := "rankAll", desc := "()V" } : Jvm.MethodName)) ∈ lw_tbl := lw_at lw_m8 180 rfl
theorem q2142 : (Jvm.Cond.instanceMethod ({ cls := "ElectionHouse$Count", name := "rankAll", desc := "()V" } : Jvm.MethodName)) ∈ lw_all := lw_g (lw_at lw_m8 181 rfl) rfl
theorem q2143 : (Jvm.Cond.code ({ cls := "ElectionHouse$Count", name := "rankAll", desc := "()V" } : Jvm.MethodName) prog_5_method_9_code (2 : Nat) (Option.none : Option Jvm.ClassFile.FieldType)) ∈ lw_all := lw_g (lw_at lw_m8 182 rfl) rfl
theorem q2144 : (Jvm.Cond.methodLink "ElectionHouse$Count" (251 : Nat) ({ cls := "ElectionHouse$Count", name := "sums", desc := "()V" } : Jvm.MethodName)) ∈ lw_all := lw_g (lw_at lw_m8 183 rfl) rfl
theorem q2145 : (Jvm.Cond.privateMethod ({ cls := "ElectionHouse$Count", name := "sums", desc := "()V" } : Jvm.MethodName)) ∈ lw_tbl := lw_at lw_m8 184 rfl
theorem q2146 : (Jvm.Cond.instanceMethod ({ cls := "ElectionHouse$Count", name := "sums", desc := "()V" } : Jvm.MethodName)) ∈ lw_all := lw_g (lw_at lw_m8 185 rfl) rfl
theorem q2147 : (Jvm.Cond.code ({ cls := "ElectionHouse$Count", name := "sums", desc := "()V" } : Jvm.MethodName) prog_5_method_21_code (3 : Nat) (Option.none : Option Jvm.ClassFile.FieldType)) ∈ lw_all := lw_g (lw_at lw_m8 186 rfl) rfl
theorem q2148 : (Jvm.Cond.methodLink "ElectionHouse$Count" (227 : Nat) ({ cls := "ElectionHouse$Count", name := "electAll", desc := "(J)Z" } : Jvm.MethodName)) ∈ lw_all := lw_g (lw_at lw_m8 187 rfl) rfl
theorem q2149 : (Jvm.Cond.privateMethod ({ cls := "ElectionHouse$Count", name := "electAll", desc := "(J)Z" } : Jvm.MethodName)) ∈ lw_tbl := lw_at lw_m8 188 rfl
theorem q2150 : (Jvm.Cond.instanceMethod ({ cls := "ElectionHouse$Count", name := "electAll", desc := "(J)Z" } : Jvm.MethodName)) ∈ lw_all := lw_g (lw_at lw_m8 189 rfl) rfl
theorem q2151 : (Jvm.Cond.code ({ cls := "ElectionHouse$Count", name := "electAll", desc := "(J)Z" } : Jvm.MethodName) prog_5_method_16_code (5 : Nat) (Option.some Jvm.ClassFile.FieldType.boolean)) ∈ lw_all := lw_g (lw_at lw_m8 190 rfl) rfl
theorem q2152 : (Jvm.Cond.methodLink "ElectionHouse$Count" (215 : Nat) ({ cls := "ElectionHouse$Count", name := "most", desc := "(J)I" } : Jvm.MethodName)) ∈ lw_all := lw_g (lw_at lw_m8 191 rfl) rfl
theorem q2153 : (Jvm.Cond.privateMethod ({ cls := "ElectionHouse$Count", name := "most", desc := "(J)I" } : Jvm.MethodName)) ∈ lw_tbl := lw_at lw_m8 192 rfl
theorem q2154 : (Jvm.Cond.instanceMethod ({ cls := "ElectionHouse$Count", name := "most", desc := "(J)I" } : Jvm.MethodName)) ∈ lw_all := lw_g (lw_at lw_m8 193 rfl) rfl
theorem q2155 : (Jvm.Cond.code ({ cls := "ElectionHouse$Count", name := "most", desc := "(J)I" } : Jvm.MethodName) prog_5_method_15_code (6 : Nat) (Option.some Jvm.ClassFile.FieldType.int)) ∈ lw_all := lw_g (lw_at lw_m8 194 rfl) rfl
theorem q2156 : (Jvm.Cond.methodLink "ElectionHouse$Count" (504 : Nat) ({ cls := "ElectionHouse$Count", name := "byMedians", desc := "()V" } : Jvm.MethodName)) ∈ lw_all := lw_g (lw_at lw_m8 195 rfl) rfl
theorem q2157 : (Jvm.Cond.privateMethod ({ cls := "ElectionHouse$Count", name := "byMedians", desc := "()V" } : Jvm.MethodName)) ∈ lw_tbl := lw_at lw_m8 196 rfl
theorem q2158 : (Jvm.Cond.instanceMethod ({ cls := "ElectionHouse$Count", name := "byMedians", desc := "()V" } : Jvm.MethodName)) ∈ lw_all := lw_g (lw_at lw_m8 197 rfl) rfl
theorem q2159 : (Jvm.Cond.code ({ cls := "ElectionHouse$Count", name := "byMedians", desc := "()V" } : Jvm.MethodName) prog_5_method_26_code (4 : Nat) (Option.none : Option Jvm.ClassFile.FieldType)) ∈ lw_all := lw_g (lw_at lw_m8 198 rfl) rfl
theorem q2160 : (Jvm.Cond.methodLink "ElectionHouse$Count" (257 : Nat) ({ cls := "ElectionHouse$Count", name := "sortMarks", desc := "(I)V" } : Jvm.MethodName)) ∈ lw_all := lw_g (lw_at lw_m8 199 rfl) rfl
theorem q2161 : (Jvm.Cond.privateMethod ({ cls := "ElectionHouse$Count", name := "sortMarks", desc := "(I)V" } : Jvm.MethodName)) ∈ lw_tbl := lw_at lw_m8 200 rfl
theorem q2162 : (Jvm.Cond.instanceMethod ({ cls := "ElectionHouse$Count", name := "sortMarks", desc := "(I)V" } : Jvm.MethodName)) ∈ lw_all := lw_g (lw_at lw_m8 201 rfl) rfl
theorem q2163 : (Jvm.Cond.code ({ cls := "ElectionHouse$Count", name := "sortMarks", desc := "(I)V" } : Jvm.MethodName) prog_5_method_24_code (4 : Nat) (Option.none : Option Jvm.ClassFile.FieldType)) ∈ lw_all := lw_g (lw_at lw_m8 202 rfl) rfl
theorem q2164 : (Jvm.Cond.methodLink "ElectionHouse$Count" (260 : Nat) ({ cls := "ElectionHouse$Count", name := "isGraded", desc := "(II)Z" } : Jvm.MethodName)) ∈ lw_all := lw_g (lw_at lw_m8 203 rfl) rfl
theorem q2165 : (Jvm.Cond.privateMethod ({ cls := "ElectionHouse$Count", name := "isGraded", desc := "(II)Z" } : Jvm.MethodName)) ∈ lw_tbl := lw_at lw_m8 204 rfl
theorem q2166 : (Jvm.Cond.instanceMethod ({ cls := "ElectionHouse$Count", name := "isGraded", desc := "(II)Z" } : Jvm.MethodName)) ∈ lw_all := lw_g (lw_at lw_m8 205 rfl) rfl
theorem q2167 : (Jvm.Cond.code ({ cls := "ElectionHouse$Count", name := "isGraded", desc := "(II)Z" } : Jvm.MethodName) prog_5_method_25_code (5 : Nat) (Option.some Jvm.ClassFile.FieldType.boolean)) ∈ lw_all := lw_g (lw_at lw_m8 206 rfl) rfl
theorem q2168 : (Jvm.Cond.methodLink "ElectionHouse$Count" (507 : Nat) ({ cls := "ElectionHouse$Count", name := "byLeaving", desc := "()V" } : Jvm.MethodName)) ∈ lw_all := lw_g (lw_at lw_m8 207 rfl) rfl
theorem q2169 : (Jvm.Cond.privateMethod ({ cls := "ElectionHouse$Count", name := "byLeaving", desc := "()V" } : Jvm.MethodName)) ∈ lw_tbl := lw_at lw_m8 208 rfl
theorem q2170 : (Jvm.Cond.instanceMethod ({ cls := "ElectionHouse$Count", name := "byLeaving", desc := "()V" } : Jvm.MethodName)) ∈ lw_all := lw_g (lw_at lw_m8 209 rfl) rfl
theorem q2171 : (Jvm.Cond.code ({ cls := "ElectionHouse$Count", name := "byLeaving", desc := "()V" } : Jvm.MethodName) prog_5_method_29_code (3 : Nat) (Option.none : Option Jvm.ClassFile.FieldType)) ∈ lw_all := lw_g (lw_at lw_m8 210 rfl) rfl
theorem q2172 : (Jvm.Cond.methodLink "ElectionHouse$Count" (266 : Nat) ({ cls := "ElectionHouse$Count", name := "firsts", desc := "()V" } : Jvm.MethodName)) ∈ lw_all := lw_g (lw_at lw_m8 211 rfl) rfl
theorem q2173 : (Jvm.Cond.privateMethod ({ cls := "ElectionHouse$Count", name := "firsts", desc := "()V" } : Jvm.MethodName)) ∈ lw_tbl := lw_at lw_m8 212 rfl
theorem q2174 : (Jvm.Cond.instanceMethod ({ cls := "ElectionHouse$Count", name := "firsts", desc := "()V" } : Jvm.MethodName)) ∈ lw_all := lw_g (lw_at lw_m8 213 rfl) rfl
theorem q2175 : (Jvm.Cond.code ({ cls := "ElectionHouse$Count", name := "firsts", desc := "()V" } : Jvm.MethodName) prog_5_method_27_code (3 : Nat) (Option.none : Option Jvm.ClassFile.FieldType)) ∈ lw_all := lw_g (lw_at lw_m8 214 rfl) rfl
theorem q2176 : (Jvm.Cond.methodLink "ElectionHouse$Count" (263 : Nat) ({ cls := "ElectionHouse$Count", name := "nextOn", desc := "(I)I" } : Jvm.MethodName)) ∈ lw_all := lw_g (lw_at lw_m8 215 rfl) rfl
theorem q2177 : (Jvm.Cond.privateMethod ({ cls := "ElectionHouse$Count", name := "nextOn", desc := "(I)I" } : Jvm.MethodName)) ∈ lw_tbl := lw_at lw_m8 216 rfl
theorem q2178 : (Jvm.Cond.instanceMethod ({ cls := "ElectionHouse$Count", name := "nextOn", desc := "(I)I" } : Jvm.MethodName)) ∈ lw_all := lw_g (lw_at lw_m8 217 rfl) rfl
theorem q2179 : (Jvm.Cond.code ({ cls := "ElectionHouse$Count", name := "nextOn", desc := "(I)I" } : Jvm.MethodName) prog_5_method_28_code (3 : Nat) (Option.some Jvm.ClassFile.FieldType.int)) ∈ lw_all := lw_g (lw_at lw_m8 218 rfl) rfl
theorem q2180 : (Jvm.Cond.methodLink "ElectionHouse$Count" (223 : Nat) ({ cls := "ElectionHouse$Count", name := "inMany", desc := "()I" } : Jvm.MethodName)) ∈ lw_all := lw_g (lw_at lw_m8 219 rfl) rfl
theorem q2181 : (Jvm.Cond.privateMethod ({ cls := "ElectionHouse$Count", name := "inMany", desc := "()I" } : Jvm.MethodName)) ∈ lw_tbl := lw_at lw_m8 220 rfl
theorem q2182 : (Jvm.Cond.instanceMethod ({ cls := "ElectionHouse$Count", name := "inMany", desc := "()I" } : Jvm.MethodName)) ∈ lw_all := lw_g (lw_at lw_m8 221 rfl) rfl
theorem q2183 : (Jvm.Cond.code ({ cls := "ElectionHouse$Count", name := "inMany", desc := "()I" } : Jvm.MethodName) prog_5_method_13_code (3 : Nat) (Option.some Jvm.ClassFile.FieldType.int)) ∈ lw_all := lw_g (lw_at lw_m8 222 rfl) rfl
theorem q2184 : (Jvm.Cond.methodLink "ElectionHouse$Count" (269 : Nat) ({ cls := "ElectionHouse$Count", name := "fewest", desc := "()I" } : Jvm.MethodName)) ∈ lw_all := lw_g (lw_at lw_m8 223 rfl) rfl
theorem q2185 : (Jvm.Cond.privateMethod ({ cls := "ElectionHouse$Count", name := "fewest", desc := "()I" } : Jvm.MethodName)) ∈ lw_tbl := lw_at lw_m8 224 rfl
theorem q2186 : (Jvm.Cond.instanceMethod ({ cls := "ElectionHouse$Count", name := "fewest", desc := "()I" } : Jvm.MethodName)) ∈ lw_all := lw_g (lw_at lw_m8 225 rfl) rfl
theorem q2187 : (Jvm.Cond.code ({ cls := "ElectionHouse$Count", name := "fewest", desc := "()I" } : Jvm.MethodName) prog_5_method_18_code (4 : Nat) (Option.some Jvm.ClassFile.FieldType.int)) ∈ lw_all := lw_g (lw_at lw_m8 226 rfl) rfl
theorem q2188 : (Jvm.Cond.methodLink "ElectionHouse$Count" (231 : Nat) ({ cls := "ElectionHouse$Count", name := "isMore", desc := "(II)Z" } : Jvm.MethodName)) ∈ lw_all := lw_g (lw_at lw_m8 227 rfl) rfl
theorem q2189 : (Jvm.Cond.privateMethod ({ cls := "ElectionHouse$Count", name := "isMore", desc := "(II)Z" } : Jvm.MethodName)) ∈ lw_tbl := lw_at lw_m8 228 rfl
theorem q2190 : (Jvm.Cond.instanceMethod ({ cls := "ElectionHouse$Count", name := "isMore", desc := "(II)Z" } : Jvm.MethodName)) ∈ lw_all := lw_g (lw_at lw_m8 229 rfl) rfl
theorem q2191 : (Jvm.Cond.code ({ cls := "ElectionHouse$Count", name := "isMore", desc := "(II)Z" } : Jvm.MethodName) prog_5_method_19_code (4 : Nat) (Option.some Jvm.ClassFile.FieldType.boolean)) ∈ lw_all := lw_g (lw_at lw_m8 230 rfl) rfl
theorem q2192 : (Jvm.Cond.methodLink "ElectionHouse$Count" (272 : Nat) ({ cls := "ElectionHouse$Count", name := "goes", desc := "(I)V" } : Jvm.MethodName)) ∈ lw_all := lw_g (lw_at lw_m8 231 rfl) rfl
theorem q2193 : (Jvm.Cond.privateMethod ({ cls := "ElectionHouse$Count", name := "goes", desc := "(I)V" } : Jvm.MethodName)) ∈ lw_tbl := lw_at lw_m8 232 rfl
theorem q2194 : (Jvm.Cond.instanceMethod ({ cls := "ElectionHouse$Count", name := "goes", desc := "(I)V" } : Jvm.MethodName)) ∈ lw_all := lw_g (lw_at lw_m8 233 rfl) rfl
theorem q2195 : (Jvm.Cond.code ({ cls := "ElectionHouse$Count", name := "goes", desc := "(I)V" } : Jvm.MethodName) prog_5_method_20_code (2 : Nat) (Option.none : Option Jvm.ClassFile.FieldType)) ∈ lw_all := lw_g (lw_at lw_m8 234 rfl) rfl
theorem q2196 : (Jvm.Cond.methodLink "ElectionHouse$Count" (235 : Nat) ({ cls := "ElectionHouse$Count", name := "act", desc := "(II)V" } : Jvm.MethodName)) ∈ lw_all := lw_g (lw_at lw_m8 235 rfl) rfl
theorem q2197 : (Jvm.Cond.privateMethod ({ cls := "ElectionHouse$Count", name := "act", desc := "(II)V" } : Jvm.MethodName)) ∈ lw_tbl := lw_at lw_m8 236 rfl
theorem q2198 : (Jvm.Cond.instanceMethod ({ cls := "ElectionHouse$Count", name := "act", desc := "(II)V" } : Jvm.MethodName)) ∈ lw_all := lw_g (lw_at lw_m8 237 rfl) rfl
theorem q2199 : (Jvm.Cond.code ({ cls := "ElectionHouse$Count", name := "act", desc := "(II)V" } : Jvm.MethodName) prog_5_method_11_code (3 : Nat) (Option.none : Option Jvm.ClassFile.FieldType)) ∈ lw_all := lw_g (lw_at lw_m8 238 rfl) rfl
theorem q2200 : (Jvm.Cond.methodLink "ElectionHouse$Count" (510 : Nat) ({ cls := "ElectionHouse$Count", name := "byKeeping", desc := "()V" } : Jvm.MethodName)) ∈ lw_all := lw_g (lw_at lw_m8 239 rfl) rfl
theorem q2201 : (Jvm.Cond.privateMethod ({ cls := "ElectionHouse$Count", name := "byKeeping", desc := "()V" } : Jvm.MethodName)) ∈ lw_tbl := lw_at lw_m9 0 rfl
theorem q2202 : (Jvm.Cond.instanceMethod ({ cls := "ElectionHouse$Count", name := "byKeeping", desc := "()V" } : Jvm.MethodName)) ∈ lw_all := lw_g (lw_at lw_m9 1 rfl) rfl
theorem q2203 : (Jvm.Cond.code ({ cls := "ElectionHouse$Count", name := "byKeeping", desc := "()V" } : Jvm.MethodName) prog_5_method_41_code (10 : Nat) (Option.none : Option Jvm.ClassFile.FieldType)) ∈ lw_all := lw_g (lw_at lw_m9 2 rfl) rfl
theorem q2204 : (Jvm.Cond.constantLong "ElectionHouse$Count" (325 : Nat) (100000000 : Int64)) ∈ lw_all := lw_g (lw_at lw_m9 3 rfl) rfl
theorem q2205 : (Jvm.Cond.constantLong "ElectionHouse$Count" (339 : Nat) (9223372036854775807 : Int64)) ∈ lw_all := lw_g (lw_at lw_m9 4 rfl) rfl
theorem q2206 : (Jvm.Cond.methodLink "ElectionHouse$Count" (341 : Nat) ({ cls := "ElectionHouse$Count", name := "flow", desc := "()V" } : Jvm.MethodName)) ∈ lw_all := lw_g (lw_at lw_m9 5 rfl) rfl
theorem q2207 : (Jvm.Cond.privateMethod ({ cls := "ElectionHouse$Count", name := "flow", desc := "()V" } : Jvm.MethodName)) ∈ lw_tbl := lw_at lw_m9 6 rfl
theorem q2208 : (Jvm.Cond.instanceMethod ({ cls := "ElectionHouse$Count", name := "flow", desc := "()V" } : Jvm.MethodName)) ∈ lw_all := lw_g (lw_at lw_m9 7 rfl) rfl
theorem q2209 : (Jvm.Cond.code ({ cls := "ElectionHouse$Count", name := "flow", desc := "()V" } : Jvm.MethodName) prog_5_method_39_code (8 : Nat) (Option.none : Option Jvm.ClassFile.FieldType)) ∈ lw_all := lw_g (lw_at lw_m9 8 rfl) rfl
theorem q2210 : (Jvm.Cond.methodLink "ElectionHouse$Count" (327 : Nat) ({ cls := "ElectionHouse$Count", name := "up", desc := "(JJJ)J" } : Jvm.MethodName)) ∈ lw_all := lw_g (lw_at lw_m9 9 rfl) rfl
theorem q2211 : (Jvm.Cond.static ({ cls := "ElectionHouse$Count", name := "up", desc := "(JJJ)J" } : Jvm.MethodName)) ∈ lw_all := lw_g (lw_at lw_m9 10 rfl) rfl
theorem q2212 : (Jvm.Cond.code ({ cls := "ElectionHouse$Count", name := "up", desc := "(JJJ)J" } : Jvm.MethodName) prog_5_method_38_code (6 : Nat) (Option.some Jvm.ClassFile.FieldType.long)) ∈ lw_all := lw_g (lw_at lw_m9 11 rfl) rfl
theorem q2213 : (Jvm.Cond.methodLink "ElectionHouse$Count" (310 : Nat) ({ cls := "ElectionHouse$Count", name := "ends", desc := "()Z" } : Jvm.MethodName)) ∈ lw_all := lw_g (lw_at lw_m9 12 rfl) rfl
theorem q2214 : (Jvm.Cond.privateMethod ({ cls := "ElectionHouse$Count", name := "ends", desc := "()Z" } : Jvm.MethodName)) ∈ lw_tbl := lw_at lw_m9 13 rfl
theorem q2215 : (Jvm.Cond.instanceMethod ({ cls := "ElectionHouse$Count", name := "ends", desc := "()Z" } : Jvm.MethodName)) ∈ lw_all := lw_g (lw_at lw_m9 14 rfl) rfl
theorem q2216 : (Jvm.Cond.code ({ cls := "ElectionHouse$Count", name := "ends", desc := "()Z" } : Jvm.MethodName) prog_5_method_17_code (2 : Nat) (Option.some Jvm.ClassFile.FieldType.boolean)) ∈ lw_all := lw_g (lw_at lw_m9 15 rfl) rfl
theorem q2217 : (Jvm.Cond.methodLink "ElectionHouse$Count" (344 : Nat) ({ cls := "ElectionHouse$Count", name := "surplus", desc := "()J" } : Jvm.MethodName)) ∈ lw_all := lw_g (lw_at lw_m9 16 rfl) rfl
theorem q2218 : (Jvm.Cond.privateMethod ({ cls := "ElectionHouse$Count", name := "surplus", desc := "()J" } : Jvm.MethodName)) ∈ lw_tbl := lw_at lw_m9 17 rfl
theorem q2219 : (Jvm.Cond.instanceMethod ({ cls := "ElectionHouse$Count", name := "surplus", desc := "()J" } : Jvm.MethodName)) ∈ lw_all := lw_g (lw_at lw_m9 18 rfl) rfl
theorem q2220 : (Jvm.Cond.code ({ cls := "ElectionHouse$Count", name := "surplus", desc := "()J" } : Jvm.MethodName) prog_5_method_40_code (4 : Nat) (Option.some Jvm.ClassFile.FieldType.long)) ∈ lw_all := lw_g (lw_at lw_m9 19 rfl) rfl
theorem q2221 : (Jvm.Cond.methodLink "ElectionHouse$Count" (331 : Nat) ({ cls := "java/lang/Math", name := "max", desc := "(JJ)J" } : Jvm.MethodName)) ∈ lw_all := lw_g (lw_at lw_m9 20 rfl) rfl
theorem q2224 : (Jvm.Cond.constantLong "ElectionHouse$Count" (348 : Nat) (100 : Int64)) ∈ lw_all := lw_g (lw_at lw_m9 23 rfl) rfl
theorem q2225 : (Jvm.Cond.methodLink "ElectionHouse$Count" (350 : Nat) ({ cls := "ElectionHouse$Count", name := "fewestNow", desc := "()I" } : Jvm.MethodName)) ∈ lw_all := lw_g (lw_at lw_m9 24 rfl) rfl
theorem q2226 : (Jvm.Cond.privateMethod ({ cls := "ElectionHouse$Count", name := "fewestNow", desc := "()I" } : Jvm.MethodName)) ∈ lw_tbl := lw_at lw_m9 25 rfl
theorem q2227 : (Jvm.Cond.instanceMethod ({ cls := "ElectionHouse$Count", name := "fewestNow", desc := "()I" } : Jvm.MethodName)) ∈ lw_all := lw_g (lw_at lw_m9 26 rfl) rfl
theorem q2228 : (Jvm.Cond.code ({ cls := "ElectionHouse$Count", name := "fewestNow", desc := "()I" } : Jvm.MethodName) prog_5_method_42_code (4 : Nat) (Option.some Jvm.ClassFile.FieldType.int)) ∈ lw_all := lw_g (lw_at lw_m9 27 rfl) rfl
theorem q2229 : (Jvm.Cond.methodLink "ElectionHouse$Count" (353 : Nat) ({ cls := "java/lang/Math", name := "min", desc := "(JJ)J" } : Jvm.MethodName)) ∈ lw_all := lw_g (lw_at lw_m9 28 rfl) rfl
theorem q2232 : (Jvm.Cond.methodLink "ElectionHouse$Count" (513 : Nat) ({ cls := "ElectionHouse$Count", name := "byTransfers", desc := "()V" } : Jvm.MethodName)) ∈ lw_all := lw_g (lw_at lw_m9 31 rfl) rfl
theorem q2233 : (Jvm.Cond.privateMethod ({ cls := "ElectionHouse$Count", name := "byTransfers", desc := "()V" } : Jvm.MethodName)) ∈ lw_tbl := lw_at lw_m9 32 rfl
theorem q2234 : (Jvm.Cond.instanceMethod ({ cls := "ElectionHouse$Count", name := "byTransfers", desc := "()V" } : Jvm.MethodName)) ∈ lw_all := lw_g (lw_at lw_m9 33 rfl) rfl
theorem q2235 : (Jvm.Cond.code ({ cls := "ElectionHouse$Count", name := "byTransfers", desc := "()V" } : Jvm.MethodName) prog_5_method_37_code (4 : Nat) (Option.none : Option Jvm.ClassFile.FieldType)) ∈ lw_all := lw_g (lw_at lw_m9 34 rfl) rfl
theorem q2236 : (Jvm.Cond.methodLink "ElectionHouse$Count" (304 : Nat) ({ cls := "ElectionHouse$Count", name := "lay", desc := "()V" } : Jvm.MethodName)) ∈ lw_all := lw_g (lw_at lw_m9 35 rfl) rfl
theorem q2237 : (Jvm.Cond.privateMethod ({ cls := "ElectionHouse$Count", name := "lay", desc := "()V" } : Jvm.MethodName)) ∈ lw_tbl := lw_at lw_m9 36 rfl
theorem q2238 : (Jvm.Cond.instanceMethod ({ cls := "ElectionHouse$Count", name := "lay", desc := "()V" } : Jvm.MethodName)) ∈ lw_all := lw_g (lw_at lw_m9 37 rfl) rfl
theorem q2239 : (Jvm.Cond.code ({ cls := "ElectionHouse$Count", name := "lay", desc := "()V" } : Jvm.MethodName) prog_5_method_30_code (4 : Nat) (Option.none : Option Jvm.ClassFile.FieldType)) ∈ lw_all := lw_g (lw_at lw_m9 38 rfl) rfl
theorem q2240 : (Jvm.Cond.constantLong "ElectionHouse$Count" (275 : Nat) (1000000 : Int64)) ∈ lw_all := lw_g (lw_at lw_m9 39 rfl) rfl
theorem q2241 : (Jvm.Cond.methodLink "ElectionHouse$Count" (307 : Nat) ({ cls := "ElectionHouse$Count", name := "weigh", desc := "()V" } : Jvm.MethodName)) ∈ lw_all := lw_g (lw_at lw_m9 40 rfl) rfl
theorem q2242 : (Jvm.Cond.privateMethod ({ cls := "ElectionHouse$Count", name := "weigh", desc := "()V" } : Jvm.MethodName)) ∈ lw_tbl := lw_at lw_m9 41 rfl
theorem q2243 : (Jvm.Cond.instanceMethod ({ cls := "ElectionHouse$Count", name := "weigh", desc := "()V" } : Jvm.MethodName)) ∈ lw_all := lw_g (lw_at lw_m9 42 rfl) rfl
theorem q2244 : (Jvm.Cond.code ({ cls := "ElectionHouse$Count", name := "weigh", desc := "()V" } : Jvm.MethodName) prog_5_method_31_code (2 : Nat) (Option.none : Option Jvm.ClassFile.FieldType)) ∈ lw_all := lw_g (lw_at lw_m9 43 rfl) rfl
theorem q2245 : (Jvm.Cond.methodLink "ElectionHouse$Count" (313 : Nat) ({ cls := "ElectionHouse$Count", name := "richest", desc := "()I" } : Jvm.MethodName)) ∈ lw_all := lw_g (lw_at lw_m9 44 rfl) rfl
theorem q2246 : (Jvm.Cond.privateMethod ({ cls := "ElectionHouse$Count", name := "richest", desc := "()I" } : Jvm.MethodName)) ∈ lw_tbl := lw_at lw_m9 45 rfl
theorem q2247 : (Jvm.Cond.instanceMethod ({ cls := "ElectionHouse$Count", name := "richest", desc := "()I" } : Jvm.MethodName)) ∈ lw_all := lw_g (lw_at lw_m9 46 rfl) rfl
theorem q2248 : (Jvm.Cond.code ({ cls := "ElectionHouse$Count", name := "richest", desc := "()I" } : Jvm.MethodName) prog_5_method_32_code (4 : Nat) (Option.some Jvm.ClassFile.FieldType.int)) ∈ lw_all := lw_g (lw_at lw_m9 47 rfl) rfl
theorem q2249 : (Jvm.Cond.methodLink "ElectionHouse$Count" (316 : Nat) ({ cls := "ElectionHouse$Count", name := "give", desc := "(I)V" } : Jvm.MethodName)) ∈ lw_all := lw_g (lw_at lw_m9 48 rfl) rfl
theorem q2250 : (Jvm.Cond.privateMethod ({ cls := "ElectionHouse$Count", name := "give", desc := "(I)V" } : Jvm.MethodName)) ∈ lw_tbl := lw_at lw_m9 49 rfl
theorem q2251 : (Jvm.Cond.instanceMethod ({ cls := "ElectionHouse$Count", name := "give", desc := "(I)V" } : Jvm.MethodName)) ∈ lw_all := lw_g (lw_at lw_m9 50 rfl) rfl
theorem q2252 : (Jvm.Cond.code ({ cls := "ElectionHouse$Count", name := "give", desc := "(I)V" } : Jvm.MethodName) prog_5_method_35_code (3 : Nat) (Option.none : Option Jvm.ClassFile.FieldType)) ∈ lw_all := lw_g (lw_at lw_m9 51 rfl) rfl
theorem q2253 : (Jvm.Cond.methodLink "ElectionHouse$Count" (298 : Nat) ({ cls := "ElectionHouse$Count", name := "giveParts", desc := "(I)V" } : Jvm.MethodName)) ∈ lw_all := lw_g (lw_at lw_m9 52 rfl) rfl
theorem q2254 : (Jvm.Cond.privateMethod ({ cls := "ElectionHouse$Count", name := "giveParts", desc := "(I)V" } : Jvm.MethodName)) ∈ lw_tbl := lw_at lw_m9 53 rfl
theorem q2255 : (Jvm.Cond.instanceMethod ({ cls := "ElectionHouse$Count", name := "giveParts", desc := "(I)V" } : Jvm.MethodName)) ∈ lw_all := lw_g (lw_at lw_m9 54 rfl) rfl
theorem q2256 : (Jvm.Cond.code ({ cls := "ElectionHouse$Count", name := "giveParts", desc := "(I)V" } : Jvm.MethodName) prog_5_method_33_code (3 : Nat) (Option.none : Option Jvm.ClassFile.FieldType)) ∈ lw_all := lw_g (lw_at lw_m9 55 rfl) rfl
theorem q2257 : (Jvm.Cond.methodLink "ElectionHouse$Count" (301 : Nat) ({ cls := "ElectionHouse$Count", name := "giveWhole", desc := "(I)V" } : Jvm.MethodName)) ∈ lw_all := lw_g (lw_at lw_m9 56 rfl) rfl
theorem q2258 : (Jvm.Cond.privateMethod ({ cls := "ElectionHouse$Count", name := "giveWhole", desc := "(I)V" } : Jvm.MethodName)) ∈ lw_tbl := lw_at lw_m9 57 rfl
theorem q2259 : (Jvm.Cond.instanceMethod ({ cls := "ElectionHouse$Count", name := "giveWhole", desc := "(I)V" } : Jvm.MethodName)) ∈ lw_all := lw_g (lw_at lw_m9 58 rfl) rfl
theorem q2260 : (Jvm.Cond.code ({ cls := "ElectionHouse$Count", name := "giveWhole", desc := "(I)V" } : Jvm.MethodName) prog_5_method_34_code (6 : Nat) (Option.none : Option Jvm.ClassFile.FieldType)) ∈ lw_all := lw_g (lw_at lw_m9 59 rfl) rfl
theorem q2261 : (Jvm.Cond.methodLinkNest "ElectionHouse$Count" (290 : Nat) ({ cls := "ElectionHouse", name := "stepped", desc := "(J)J" } : Jvm.MethodName) "ElectionHouse") ∈ lw_tbl := lw_at lw_m9 60 rfl
theorem q2262 : (Jvm.Cond.methodLinkNest "ElectionHouse$Count" (294 : Nat) ({ cls := "ElectionHouse", name := "placeOf", desc := "(JI)I" } : Jvm.MethodName) "ElectionHouse") ∈ lw_tbl := lw_at lw_m9 61 rfl
theorem q2263 : (Jvm.Cond.methodLink "ElectionHouse$Count" (319 : Nat) ({ cls := "ElectionHouse$Count", name := "leave", desc := "(I)V" } : Jvm.MethodName)) ∈ lw_all := lw_g (lw_at lw_m9 62 rfl) rfl
theorem q2264 : (Jvm.Cond.privateMethod ({ cls := "ElectionHouse$Count", name := "leave", desc := "(I)V" } : Jvm.MethodName)) ∈ lw_tbl := lw_at lw_m9 63 rfl
theorem q2265 : (Jvm.Cond.instanceMethod ({ cls := "ElectionHouse$Count", name := "leave", desc := "(I)V" } : Jvm.MethodName)) ∈ lw_all := lw_g (lw_at lw_m9 64 rfl) rfl
theorem q2266 : (Jvm.Cond.code ({ cls := "ElectionHouse$Count", name := "leave", desc := "(I)V" } : Jvm.MethodName) prog_5_method_36_code (3 : Nat) (Option.none : Option Jvm.ClassFile.FieldType)) ∈ lw_all := lw_g (lw_at lw_m9 65 rfl) rfl
theorem q2267 : (Jvm.Cond.methodLink "ElectionHouse$Count" (516 : Nat) ({ cls := "ElectionHouse$Count", name := "byPairs", desc := "()V" } : Jvm.MethodName)) ∈ lw_all := lw_g (lw_at lw_m9 66 rfl) rfl
theorem q2268 : (Jvm.Cond.privateMethod ({ cls := "ElectionHouse$Count", name := "byPairs", desc := "()V" } : Jvm.MethodName)) ∈ lw_tbl := lw_at lw_m9 67 rfl
theorem q2269 : (Jvm.Cond.instanceMethod ({ cls := "ElectionHouse$Count", name := "byPairs", desc := "()V" } : Jvm.MethodName)) ∈ lw_all := lw_g (lw_at lw_m9 68 rfl) rfl
theorem q2270 : (Jvm.Cond.code ({ cls := "ElectionHouse$Count", name := "byPairs", desc := "()V" } : Jvm.MethodName) prog_5_method_58_code (1 : Nat) (Option.none : Option Jvm.ClassFile.FieldType)) ∈ lw_all := lw_g (lw_at lw_m9 69 rfl) rfl
theorem q2271 : (Jvm.Cond.methodLink "ElectionHouse$Count" (401 : Nat) ({ cls := "ElectionHouse$Count", name := "matrix", desc := "()V" } : Jvm.MethodName)) ∈ lw_all := lw_g (lw_at lw_m9 70 rfl) rfl
theorem q2272 : (Jvm.Cond.privateMethod ({ cls := "ElectionHouse$Count", name := "matrix", desc := "()V" } : Jvm.MethodName)) ∈ lw_tbl := lw_at lw_m9 71 rfl
theorem q2273 : (Jvm.Cond.instanceMethod ({ cls := "ElectionHouse$Count", name := "matrix", desc := "()V" } : Jvm.MethodName)) ∈ lw_all := lw_g (lw_at lw_m9 72 rfl) rfl
theorem q2274 : (Jvm.Cond.code ({ cls := "ElectionHouse$Count", name := "matrix", desc := "()V" } : Jvm.MethodName) prog_5_method_44_code (5 : Nat) (Option.none : Option Jvm.ClassFile.FieldType)) ∈ lw_all := lw_g (lw_at lw_m9 73 rfl) rfl
theorem q2275 : (Jvm.Cond.methodLink "ElectionHouse$Count" (356 : Nat) ({ cls := "ElectionHouse$Count", name := "isAbove", desc := "(II)Z" } : Jvm.MethodName)) ∈ lw_all := lw_g (lw_at lw_m9 74 rfl) rfl
theorem q2276 : (Jvm.Cond.static ({ cls := "ElectionHouse$Count", name := "isAbove", desc := "(II)Z" } : Jvm.MethodName)) ∈ lw_all := lw_g (lw_at lw_m9 75 rfl) rfl
theorem q2277 : (Jvm.Cond.code ({ cls := "ElectionHouse$Count", name := "isAbove", desc := "(II)Z" } : Jvm.MethodName) prog_5_method_43_code (2 : Nat) (Option.some Jvm.ClassFile.FieldType.boolean)) ∈ lw_all := lw_g (lw_at lw_m9 76 rfl) rfl
theorem q2278 : (Jvm.Cond.methodLink "ElectionHouse$Count" (404 : Nat) ({ cls := "ElectionHouse$Count", name := "keepPairs", desc := "()V" } : Jvm.MethodName)) ∈ lw_all := lw_g (lw_at lw_m9 77 rfl) rfl
theorem q2279 : (Jvm.Cond.privateMethod ({ cls := "ElectionHouse$Count", name := "keepPairs", desc := "()V" } : Jvm.MethodName)) ∈ lw_tbl := lw_at lw_m9 78 rfl
theorem q2280 : (Jvm.Cond.instanceMethod ({ cls := "ElectionHouse$Count", name := "keepPairs", desc := "()V" } : Jvm.MethodName)) ∈ lw_all := lw_g (lw_at lw_m9 79 rfl) rfl
theorem q2281 : (Jvm.Cond.code ({ cls := "ElectionHouse$Count", name := "keepPairs", desc := "()V" } : Jvm.MethodName) prog_5_method_55_code (4 : Nat) (Option.none : Option Jvm.ClassFile.FieldType)) ∈ lw_all := lw_g (lw_at lw_m9 80 rfl) rfl
theorem q2282 : (Jvm.Cond.methodLink "ElectionHouse$Count" (393 : Nat) ({ cls := "ElectionHouse$Count", name := "sortPairs", desc := "()V" } : Jvm.MethodName)) ∈ lw_all := lw_g (lw_at lw_m9 81 rfl) rfl
theorem q2283 : (Jvm.Cond.privateMethod ({ cls := "ElectionHouse$Count", name := "sortPairs", desc := "()V" } : Jvm.MethodName)) ∈ lw_tbl := lw_at lw_m9 82 rfl
theorem q2284 : (Jvm.Cond.instanceMethod ({ cls := "ElectionHouse$Count", name := "sortPairs", desc := "()V" } : Jvm.MethodName)) ∈ lw_all := lw_g (lw_at lw_m9 83 rfl) rfl
theorem q2285 : (Jvm.Cond.code ({ cls := "ElectionHouse$Count", name := "sortPairs", desc := "()V" } : Jvm.MethodName) prog_5_method_54_code (4 : Nat) (Option.none : Option Jvm.ClassFile.FieldType)) ∈ lw_all := lw_g (lw_at lw_m9 84 rfl) rfl
theorem q2286 : (Jvm.Cond.methodLink "ElectionHouse$Count" (389 : Nat) ({ cls := "ElectionHouse$Count", name := "isStronger", desc := "(IIII)Z" } : Jvm.MethodName)) ∈ lw_all := lw_g (lw_at lw_m9 85 rfl) rfl
theorem q2287 : (Jvm.Cond.privateMethod ({ cls := "ElectionHouse$Count", name := "isStronger", desc := "(IIII)Z" } : Jvm.MethodName)) ∈ lw_tbl := lw_at lw_m9 86 rfl
theorem q2288 : (Jvm.Cond.instanceMethod ({ cls := "ElectionHouse$Count", name := "isStronger", desc := "(IIII)Z" } : Jvm.MethodName)) ∈ lw_all := lw_g (lw_at lw_m9 87 rfl) rfl
theorem q2289 : (Jvm.Cond.code ({ cls := "ElectionHouse$Count", name := "isStronger", desc := "(IIII)Z" } : Jvm.MethodName) prog_5_method_53_code (7 : Nat) (Option.some Jvm.ClassFile.FieldType.boolean)) ∈ lw_all := lw_g (lw_at lw_m9 88 rfl) rfl
theorem q2290 : (Jvm.Cond.methodLink "ElectionHouse$Count" (396 : Nat) ({ cls := "ElectionHouse$Count", name := "join", desc := "(II)V" } : Jvm.MethodName)) ∈ lw_all := lw_g (lw_at lw_m9 89 rfl) rfl
theorem q2291 : (Jvm.Cond.privateMethod ({ cls := "ElectionHouse$Count", name := "join", desc := "(II)V" } : Jvm.MethodName)) ∈ lw_tbl := lw_at lw_m9 90 rfl
theorem q2292 : (Jvm.Cond.instanceMethod ({ cls := "ElectionHouse$Count", name := "join", desc := "(II)V" } : Jvm.MethodName)) ∈ lw_all := lw_g (lw_at lw_m9 91 rfl) rfl
theorem q2293 : (Jvm.Cond.code ({ cls := "ElectionHouse$Count", name := "join", desc := "(II)V" } : Jvm.MethodName) prog_5_method_56_code (5 : Nat) (Option.none : Option Jvm.ClassFile.FieldType)) ∈ lw_all := lw_g (lw_at lw_m9 92 rfl) rfl
theorem q2294 : (Jvm.Cond.methodLink "ElectionHouse$Count" (407 : Nat) ({ cls := "ElectionHouse$Count", name := "widen", desc := "()V" } : Jvm.MethodName)) ∈ lw_all := lw_g (lw_at lw_m9 93 rfl) rfl
theorem q2295 : (Jvm.Cond.privateMethod ({ cls := "ElectionHouse$Count", name := "widen", desc := "()V" } : Jvm.MethodName)) ∈ lw_tbl := lw_at lw_m9 94 rfl
theorem q2296 : (Jvm.Cond.instanceMethod ({ cls := "ElectionHouse$Count", name := "widen", desc := "()V" } : Jvm.MethodName)) ∈ lw_all := lw_g (lw_at lw_m9 95 rfl) rfl
theorem q2297 : (Jvm.Cond.code ({ cls := "ElectionHouse$Count", name := "widen", desc := "()V" } : Jvm.MethodName) prog_5_method_57_code (4 : Nat) (Option.none : Option Jvm.ClassFile.FieldType)) ∈ lw_all := lw_g (lw_at lw_m9 96 rfl) rfl
theorem q2298 : (Jvm.Cond.methodLink "ElectionHouse$Count" (410 : Nat) ({ cls := "ElectionHouse$Count", name := "byOrder", desc := "()V" } : Jvm.MethodName)) ∈ lw_all := lw_g (lw_at lw_m9 97 rfl) rfl
theorem q2299 : (Jvm.Cond.privateMethod ({ cls := "ElectionHouse$Count", name := "byOrder", desc := "()V" } : Jvm.MethodName)) ∈ lw_tbl := lw_at lw_m9 98 rfl
theorem q2300 : (Jvm.Cond.instanceMethod ({ cls := "ElectionHouse$Count", name := "byOrder", desc := "()V" } : Jvm.MethodName)) ∈ lw_all := lw_g (lw_at lw_m9 99 rfl) rfl
theorem q2301 : (Jvm.Cond.code ({ cls := "ElectionHouse$Count", name := "byOrder", desc := "()V" } : Jvm.MethodName) prog_5_method_45_code (6 : Nat) (Option.none : Option Jvm.ClassFile.FieldType)) ∈ lw_all := lw_g (lw_at lw_m9 100 rfl) rfl
theorem q2302 : (Jvm.Cond.methodLink "ElectionHouse$Count" (359 : Nat) ({ cls := "ElectionHouse$Count", name := "worthOf", desc := "(I)I" } : Jvm.MethodName)) ∈ lw_all := lw_g (lw_at lw_m9 101 rfl) rfl
theorem q2303 : (Jvm.Cond.privateMethod ({ cls := "ElectionHouse$Count", name := "worthOf", desc := "(I)I" } : Jvm.MethodName)) ∈ lw_tbl := lw_at lw_m9 102 rfl
theorem q2304 : (Jvm.Cond.instanceMethod ({ cls := "ElectionHouse$Count", name := "worthOf", desc := "(I)I" } : Jvm.MethodName)) ∈ lw_all := lw_g (lw_at lw_m9 103 rfl) rfl
theorem q2305 : (Jvm.Cond.code ({ cls := "ElectionHouse$Count", name := "worthOf", desc := "(I)I" } : Jvm.MethodName) prog_5_method_46_code (2 : Nat) (Option.some Jvm.ClassFile.FieldType.int)) ∈ lw_all := lw_g (lw_at lw_m9 104 rfl) rfl
theorem q2306 : (Jvm.Cond.methodLink "ElectionHouse$Count" (362 : Nat) ({ cls := "ElectionHouse$Count", name := "greatestDefeat", desc := "(I)I" } : Jvm.MethodName)) ∈ lw_all := lw_g (lw_at lw_m9 105 rfl) rfl
theorem q2307 : (Jvm.Cond.privateMethod ({ cls := "ElectionHouse$Count", name := "greatestDefeat", desc := "(I)I" } : Jvm.MethodName)) ∈ lw_tbl := lw_at lw_m9 106 rfl
theorem q2308 : (Jvm.Cond.instanceMethod ({ cls := "ElectionHouse$Count", name := "greatestDefeat", desc := "(I)I" } : Jvm.MethodName)) ∈ lw_all := lw_g (lw_at lw_m9 107 rfl) rfl
theorem q2309 : (Jvm.Cond.code ({ cls := "ElectionHouse$Count", name := "greatestDefeat", desc := "(I)I" } : Jvm.MethodName) prog_5_method_47_code (4 : Nat) (Option.some Jvm.ClassFile.FieldType.int)) ∈ lw_all := lw_g (lw_at lw_m9 108 rfl) rfl
theorem q2310 : (Jvm.Cond.methodLink "ElectionHouse$Count" (365 : Nat) ({ cls := "ElectionHouse$Count", name := "isUnder", desc := "(I[[Z)Z" } : Jvm.MethodName)) ∈ lw_all := lw_g (lw_at lw_m9 109 rfl) rfl
theorem q2311 : (Jvm.Cond.privateMethod ({ cls := "ElectionHouse$Count", name := "isUnder", desc := "(I[[Z)Z" } : Jvm.MethodName)) ∈ lw_tbl := lw_at lw_m9 110 rfl
theorem q2312 : (Jvm.Cond.instanceMethod ({ cls := "ElectionHouse$Count", name := "isUnder", desc := "(I[[Z)Z" } : Jvm.MethodName)) ∈ lw_all := lw_g (lw_at lw_m9 111 rfl) rfl
theorem q2313 : (Jvm.Cond.code ({ cls := "ElectionHouse$Count", name := "isUnder", desc := "(I[[Z)Z" } : Jvm.MethodName) prog_5_method_48_code (5 : Nat) (Option.some Jvm.ClassFile.FieldType.boolean)) ∈ lw_all := lw_g (lw_at lw_m9 112 rfl) rfl
theorem q2314 : (Jvm.Cond.methodLink "ElectionHouse$Count" (369 : Nat) ({ cls := "ElectionHouse$Count", name := "isBehind", desc := "(I)Z" } : Jvm.MethodName)) ∈ lw_all := lw_g (lw_at lw_m9 113 rfl) rfl
theorem q2315 : (Jvm.Cond.privateMethod ({ cls := "ElectionHouse$Count", name := "isBehind", desc := "(I)Z" } : Jvm.MethodName)) ∈ lw_tbl := lw_at lw_m9 114 rfl
theorem q2316 : (Jvm.Cond.instanceMethod ({ cls := "ElectionHouse$Count", name := "isBehind", desc := "(I)Z" } : Jvm.MethodName)) ∈ lw_all := lw_g (lw_at lw_m9 115 rfl) rfl
theorem q2317 : (Jvm.Cond.code ({ cls := "ElectionHouse$Count", name := "isBehind", desc := "(I)Z" } : Jvm.MethodName) prog_5_method_49_code (4 : Nat) (Option.some Jvm.ClassFile.FieldType.boolean)) ∈ lw_all := lw_g (lw_at lw_m9 116 rfl) rfl
theorem q2318 : (Jvm.Cond.methodLink "ElectionHouse$Count" (372 : Nat) ({ cls := "ElectionHouse$Count", name := "isCovered", desc := "(I)Z" } : Jvm.MethodName)) ∈ lw_all := lw_g (lw_at lw_m9 117 rfl) rfl
theorem q2319 : (Jvm.Cond.privateMethod ({ cls := "ElectionHouse$Count", name := "isCovered", desc := "(I)Z" } : Jvm.MethodName)) ∈ lw_tbl := lw_at lw_m9 118 rfl
theorem q2320 : (Jvm.Cond.instanceMethod ({ cls := "ElectionHouse$Count", name := "isCovered", desc := "(I)Z" } : Jvm.MethodName)) ∈ lw_all := lw_g (lw_at lw_m9 119 rfl) rfl
theorem q2321 : (Jvm.Cond.code ({ cls := "ElectionHouse$Count", name := "isCovered", desc := "(I)Z" } : Jvm.MethodName) prog_5_method_51_code (4 : Nat) (Option.some Jvm.ClassFile.FieldType.boolean)) ∈ lw_all := lw_g (lw_at lw_m9 120 rfl) rfl
theorem q2322 : (Jvm.Cond.methodLink "ElectionHouse$Count" (381 : Nat) ({ cls := "ElectionHouse$Count", name := "covers", desc := "(II)Z" } : Jvm.MethodName)) ∈ lw_all := lw_g (lw_at lw_m9 121 rfl) rfl
theorem q2323 : (Jvm.Cond.privateMethod ({ cls := "ElectionHouse$Count", name := "covers", desc := "(II)Z" } : Jvm.MethodName)) ∈ lw_tbl := lw_at lw_m9 122 rfl
theorem q2324 : (Jvm.Cond.instanceMethod ({ cls := "ElectionHouse$Count", name := "covers", desc := "(II)Z" } : Jvm.MethodName)) ∈ lw_all := lw_g (lw_at lw_m9 123 rfl) rfl
theorem q2325 : (Jvm.Cond.code ({ cls := "ElectionHouse$Count", name := "covers", desc := "(II)Z" } : Jvm.MethodName) prog_5_method_50_code (5 : Nat) (Option.some Jvm.ClassFile.FieldType.boolean)) ∈ lw_all := lw_g (lw_at lw_m9 124 rfl) rfl
theorem q2326 : (Jvm.Cond.methodLink "ElectionHouse$Count" (375 : Nat) ({ cls := "ElectionHouse$Count", name := "score", desc := "(I)I" } : Jvm.MethodName)) ∈ lw_all := lw_g (lw_at lw_m9 125 rfl) rfl
theorem q2327 : (Jvm.Cond.privateMethod ({ cls := "ElectionHouse$Count", name := "score", desc := "(I)I" } : Jvm.MethodName)) ∈ lw_tbl := lw_at lw_m9 126 rfl
theorem q2328 : (Jvm.Cond.instanceMethod ({ cls := "ElectionHouse$Count", name := "score", desc := "(I)I" } : Jvm.MethodName)) ∈ lw_all := lw_g (lw_at lw_m9 127 rfl) rfl
theorem q2329 : (Jvm.Cond.code ({ cls := "ElectionHouse$Count", name := "score", desc := "(I)I" } : Jvm.MethodName) prog_5_method_52_code (4 : Nat) (Option.some Jvm.ClassFile.FieldType.int)) ∈ lw_all := lw_g (lw_at lw_m9 128 rfl) rfl
theorem q2331 : (Jvm.Cond.instanceMethod ({ cls := "ElectionHouse$Count", name := "addFirst", desc := "(II)V" } : Jvm.MethodName)) ∈ lw_all := lw_g (lw_at lw_m9 130 rfl) rfl
theorem q2332 : (Jvm.Cond.selects "ElectionHouse$Count" ({ cls := "ElectionHouse$Count", name := "addFirst", desc := "(II)V" } : Jvm.MethodName) ({ cls := "ElectionHouse$Count", name := "addFirst", desc := "(II)V" } : Jvm.MethodName)) ∈ lw_all := lw_g (lw_at lw_m9 131 rfl) rfl
theorem q2333 : (Jvm.Cond.code ({ cls := "ElectionHouse$Count", name := "addFirst", desc := "(II)V" } : Jvm.MethodName) prog_5_method_80_code (3 : Nat) (Option.none : Option Jvm.ClassFile.FieldType)) ∈ lw_all := lw_g (lw_at lw_m9 132 rfl) rfl
theorem in_X8 : ∀ w ∈ wsX80, w ∈ lw_all := lw_in wsX80 [789, 791, 793, 795, 797, 799, 801, 803, 805, 807, 809, 811, 813, 815, 817, 819, 821, 823, 825, 827, 829, 831, 833, 835, 837, 839, 841, 843, 845, 847, 849, 851, 853, 855, 857, 859, 861, 863, 865, 867, 869, 871, 873, 875, 877, 879, 881, 883, 885, 887, 889, 891, 893, 895] (by decide +kernel) (by decide +kernel)

