set_option maxRecDepth 100000
abbrev cX1_init : ByteArray := prog_10_method_1_code
def yX1_init : MethodName := ⟨RX1, "<init>", "()V"⟩
def dkwX1_init_1 : List UInt8 := [188, 10, 181, 0, 18, 42, 16, 60, 188, 10, 181, 0, 21, 42, 16, 60, 188, 10, 181, 0, 24, 177]
abbrev dktX1_init_1 : List UInt8 := dkwX1_init_1 ++ []
def dkwX1_init_0 : List UInt8 := [42, 183, 0, 3, 42, 16, 24, 188, 10, 181, 0, 9, 42, 16, 60, 188, 10, 181, 0, 15, 42, 16, 60]
abbrev dktX1_init_0 : List UInt8 := dkwX1_init_0 ++ dktX1_init_1
theorem dksX1_init_0 : cX1_init.data.toList.drop 0 = dktX1_init_0 := by decide +kernel
theorem dksX1_init_1 : cX1_init.data.toList.drop 23 = dktX1_init_1 := dk_seg dksX1_init_0 23 rfl rfl
theorem dX1_init_0 : decode cX1_init 0 = .ok (.aload_n 0, 1) := dk_42 (dk_at dksX1_init_0 0 rfl rfl)
theorem dX1_init_1 : decode cX1_init 1 = .ok (.invokespecial 3, 3) := dk_183 0 3 (dk_at dksX1_init_0 1 rfl rfl)
theorem dX1_init_4 : decode cX1_init 4 = .ok (.aload_n 0, 1) := dk_42 (dk_at dksX1_init_0 4 rfl rfl)
theorem dX1_init_5 : decode cX1_init 5 = .ok (.bipush 24, 2) := dk_16 24 (dk_at dksX1_init_0 5 rfl rfl)
theorem dX1_init_7 : decode cX1_init 7 = .ok (.newarray .int, 2) := dk_188_10 (dk_at dksX1_init_0 7 rfl rfl)
theorem dX1_init_9 : decode cX1_init 9 = .ok (.putfield 9, 3) := dk_181 0 9 (dk_at dksX1_init_0 9 rfl rfl)
theorem dX1_init_12 : decode cX1_init 12 = .ok (.aload_n 0, 1) := dk_42 (dk_at dksX1_init_0 12 rfl rfl)
theorem dX1_init_13 : decode cX1_init 13 = .ok (.bipush 60, 2) := dk_16 60 (dk_at dksX1_init_0 13 rfl rfl)
theorem dX1_init_15 : decode cX1_init 15 = .ok (.newarray .int, 2) := dk_188_10 (dk_at dksX1_init_0 15 rfl rfl)
theorem dX1_init_17 : decode cX1_init 17 = .ok (.putfield 15, 3) := dk_181 0 15 (dk_at dksX1_init_0 17 rfl rfl)
theorem dX1_init_20 : decode cX1_init 20 = .ok (.aload_n 0, 1) := dk_42 (dk_at dksX1_init_0 20 rfl rfl)
theorem dX1_init_21 : decode cX1_init 21 = .ok (.bipush 60, 2) := dk_16 60 (dk_at dksX1_init_0 21 rfl rfl)
theorem dX1_init_23 : decode cX1_init 23 = .ok (.newarray .int, 2) := dk_188_10 (dk_at dksX1_init_1 0 rfl rfl)
theorem dX1_init_25 : decode cX1_init 25 = .ok (.putfield 18, 3) := dk_181 0 18 (dk_at dksX1_init_1 2 rfl rfl)
theorem dX1_init_28 : decode cX1_init 28 = .ok (.aload_n 0, 1) := dk_42 (dk_at dksX1_init_1 5 rfl rfl)
theorem dX1_init_29 : decode cX1_init 29 = .ok (.bipush 60, 2) := dk_16 60 (dk_at dksX1_init_1 6 rfl rfl)
theorem dX1_init_31 : decode cX1_init 31 = .ok (.newarray .int, 2) := dk_188_10 (dk_at dksX1_init_1 8 rfl rfl)
theorem dX1_init_33 : decode cX1_init 33 = .ok (.putfield 21, 3) := dk_181 0 21 (dk_at dksX1_init_1 10 rfl rfl)
theorem dX1_init_36 : decode cX1_init 36 = .ok (.aload_n 0, 1) := dk_42 (dk_at dksX1_init_1 13 rfl rfl)
theorem dX1_init_37 : decode cX1_init 37 = .ok (.bipush 60, 2) := dk_16 60 (dk_at dksX1_init_1 14 rfl rfl)
theorem dX1_init_39 : decode cX1_init 39 = .ok (.newarray .int, 2) := dk_188_10 (dk_at dksX1_init_1 16 rfl rfl)
theorem dX1_init_41 : decode cX1_init 41 = .ok (.putfield 24, 3) := dk_181 0 24 (dk_at dksX1_init_1 18 rfl rfl)
theorem dX1_init_44 : decode cX1_init 44 = .ok (.return_, 1) := dk_177 (dk_at dksX1_init_1 21 rfl rfl)
abbrev cX1_add : ByteArray := prog_10_method_3_code
def yX1_add : MethodName := ⟨RX1, "add", "(I)I"⟩
def dkwX1_add_1 : List UInt8 := [4, 100, 172]
abbrev dktX1_add_1 : List UInt8 := dkwX1_add_1 ++ []
def dkwX1_add_0 : List UInt8 := [42, 180, 0, 9, 42, 180, 0, 27, 27, 79, 42, 89, 180, 0, 27, 4, 96, 181, 0, 27, 42, 180, 0, 27]
abbrev dktX1_add_0 : List UInt8 := dkwX1_add_0 ++ dktX1_add_1
theorem dksX1_add_0 : cX1_add.data.toList.drop 0 = dktX1_add_0 := by decide +kernel
theorem dksX1_add_1 : cX1_add.data.toList.drop 24 = dktX1_add_1 := dk_seg dksX1_add_0 24 rfl rfl
theorem dX1_add_0 : decode cX1_add 0 = .ok (.aload_n 0, 1) := dk_42 (dk_at dksX1_add_0 0 rfl rfl)
theorem dX1_add_1 : decode cX1_add 1 = .ok (.getfield 9, 3) := dk_180 0 9 (dk_at dksX1_add_0 1 rfl rfl)
theorem dX1_add_4 : decode cX1_add 4 = .ok (.aload_n 0, 1) := dk_42 (dk_at dksX1_add_0 4 rfl rfl)
theorem dX1_add_5 : decode cX1_add 5 = .ok (.getfield 27, 3) := dk_180 0 27 (dk_at dksX1_add_0 5 rfl rfl)
theorem dX1_add_8 : decode cX1_add 8 = .ok (.iload_n 1, 1) := dk_27 (dk_at dksX1_add_0 8 rfl rfl)
theorem dX1_add_9 : decode cX1_add 9 = .ok (.iastore, 1) := dk_79 (dk_at dksX1_add_0 9 rfl rfl)
theorem dX1_add_10 : decode cX1_add 10 = .ok (.aload_n 0, 1) := dk_42 (dk_at dksX1_add_0 10 rfl rfl)
theorem dX1_add_11 : decode cX1_add 11 = .ok (.dup, 1) := dk_89 (dk_at dksX1_add_0 11 rfl rfl)
theorem dX1_add_12 : decode cX1_add 12 = .ok (.getfield 27, 3) := dk_180 0 27 (dk_at dksX1_add_0 12 rfl rfl)
theorem dX1_add_15 : decode cX1_add 15 = .ok (.iconst 1, 1) := dk_4 (dk_at dksX1_add_0 15 rfl rfl)
theorem dX1_add_16 : decode cX1_add 16 = .ok (.iadd, 1) := dk_96 (dk_at dksX1_add_0 16 rfl rfl)
theorem dX1_add_17 : decode cX1_add 17 = .ok (.putfield 27, 3) := dk_181 0 27 (dk_at dksX1_add_0 17 rfl rfl)
theorem dX1_add_20 : decode cX1_add 20 = .ok (.aload_n 0, 1) := dk_42 (dk_at dksX1_add_0 20 rfl rfl)
theorem dX1_add_21 : decode cX1_add 21 = .ok (.getfield 27, 3) := dk_180 0 27 (dk_at dksX1_add_0 21 rfl rfl)
theorem dX1_add_24 : decode cX1_add 24 = .ok (.iconst 1, 1) := dk_4 (dk_at dksX1_add_1 0 rfl rfl)
theorem dX1_add_25 : decode cX1_add 25 = .ok (.isub, 1) := dk_100 (dk_at dksX1_add_1 1 rfl rfl)
theorem dX1_add_26 : decode cX1_add 26 = .ok (.ireturn, 1) := dk_172 (dk_at dksX1_add_1 2 rfl rfl)
abbrev cX1_has : ByteArray := prog_10_method_2_code
def yX1_has : MethodName := ⟨RX1, "has", "(I)Z"⟩
def dkwX1_has_0 : List UInt8 := [27, 3, 42, 180, 0, 27, 4, 100, 184, 0, 31, 172]
abbrev dktX1_has_0 : List UInt8 := dkwX1_has_0 ++ []
theorem dksX1_has_0 : cX1_has.data.toList.drop 0 = dktX1_has_0 := by decide +kernel
theorem dX1_has_0 : decode cX1_has 0 = .ok (.iload_n 1, 1) := dk_27 (dk_at dksX1_has_0 0 rfl rfl)
theorem dX1_has_1 : decode cX1_has 1 = .ok (.iconst 0, 1) := dk_3 (dk_at dksX1_has_0 1 rfl rfl)
theorem dX1_has_2 : decode cX1_has 2 = .ok (.aload_n 0, 1) := dk_42 (dk_at dksX1_has_0 2 rfl rfl)
theorem dX1_has_3 : decode cX1_has 3 = .ok (.getfield 27, 3) := dk_180 0 27 (dk_at dksX1_has_0 3 rfl rfl)
theorem dX1_has_6 : decode cX1_has 6 = .ok (.iconst 1, 1) := dk_4 (dk_at dksX1_has_0 6 rfl rfl)
theorem dX1_has_7 : decode cX1_has 7 = .ok (.isub, 1) := dk_100 (dk_at dksX1_has_0 7 rfl rfl)
theorem dX1_has_8 : decode cX1_has 8 = .ok (.invokestatic 31, 3) := dk_184 0 31 (dk_at dksX1_has_0 8 rfl rfl)
theorem dX1_has_11 : decode cX1_has 11 = .ok (.ireturn, 1) := dk_172 (dk_at dksX1_has_0 11 rfl rfl)
abbrev cX1_border : ByteArray := prog_10_method_4_code
def yX1_border : MethodName := ⟨RX1, "border", "(IIII)I"⟩
def dkwX1_border_2 : List UInt8 := [181, 0, 35, 42, 180, 0, 35, 172]
abbrev dktX1_border_2 : List UInt8 := dkwX1_border_2 ++ []
def dkwX1_border_1 : List UInt8 := [42, 180, 0, 35, 29, 79, 42, 180, 0, 24, 42, 180, 0, 35, 21, 4, 79, 42, 89, 180, 0, 35, 4, 96]
abbrev dktX1_border_1 : List UInt8 := dkwX1_border_1 ++ dktX1_border_2
def dkwX1_border_0 : List UInt8 := [42, 180, 0, 15, 42, 180, 0, 35, 27, 79, 42, 180, 0, 18, 42, 180, 0, 35, 28, 79, 42, 180, 0, 21]
abbrev dktX1_border_0 : List UInt8 := dkwX1_border_0 ++ dktX1_border_1
theorem dksX1_border_0 : cX1_border.data.toList.drop 0 = dktX1_border_0 := by decide +kernel
theorem dksX1_border_1 : cX1_border.data.toList.drop 24 = dktX1_border_1 := dk_seg dksX1_border_0 24 rfl rfl
theorem dksX1_border_2 : cX1_border.data.toList.drop 48 = dktX1_border_2 := dk_seg dksX1_border_1 24 rfl rfl
theorem dX1_border_0 : decode cX1_border 0 = .ok (.aload_n 0, 1) := dk_42 (dk_at dksX1_border_0 0 rfl rfl)
theorem dX1_border_1 : decode cX1_border 1 = .ok (.getfield 15, 3) := dk_180 0 15 (dk_at dksX1_border_0 1 rfl rfl)
theorem dX1_border_4 : decode cX1_border 4 = .ok (.aload_n 0, 1) := dk_42 (dk_at dksX1_border_0 4 rfl rfl)
theorem dX1_border_5 : decode cX1_border 5 = .ok (.getfield 35, 3) := dk_180 0 35 (dk_at dksX1_border_0 5 rfl rfl)
theorem dX1_border_8 : decode cX1_border 8 = .ok (.iload_n 1, 1) := dk_27 (dk_at dksX1_border_0 8 rfl rfl)
theorem dX1_border_9 : decode cX1_border 9 = .ok (.iastore, 1) := dk_79 (dk_at dksX1_border_0 9 rfl rfl)
theorem dX1_border_10 : decode cX1_border 10 = .ok (.aload_n 0, 1) := dk_42 (dk_at dksX1_border_0 10 rfl rfl)
theorem dX1_border_11 : decode cX1_border 11 = .ok (.getfield 18, 3) := dk_180 0 18 (dk_at dksX1_border_0 11 rfl rfl)
theorem dX1_border_14 : decode cX1_border 14 = .ok (.aload_n 0, 1) := dk_42 (dk_at dksX1_border_0 14 rfl rfl)
theorem dX1_border_15 : decode cX1_border 15 = .ok (.getfield 35, 3) := dk_180 0 35 (dk_at dksX1_border_0 15 rfl rfl)
theorem dX1_border_18 : decode cX1_border 18 = .ok (.iload_n 2, 1) := dk_28 (dk_at dksX1_border_0 18 rfl rfl)
theorem dX1_border_19 : decode cX1_border 19 = .ok (.iastore, 1) := dk_79 (dk_at dksX1_border_0 19 rfl rfl)
theorem dX1_border_20 : decode cX1_border 20 = .ok (.aload_n 0, 1) := dk_42 (dk_at dksX1_border_0 20 rfl rfl)
theorem dX1_border_21 : decode cX1_border 21 = .ok (.getfield 21, 3) := dk_180 0 21 (dk_at dksX1_border_0 21 rfl rfl)
theorem dX1_border_24 : decode cX1_border 24 = .ok (.aload_n 0, 1) := dk_42 (dk_at dksX1_border_1 0 rfl rfl)
theorem dX1_border_25 : decode cX1_border 25 = .ok (.getfield 35, 3) := dk_180 0 35 (dk_at dksX1_border_1 1 rfl rfl)
theorem dX1_border_28 : decode cX1_border 28 = .ok (.iload_n 3, 1) := dk_29 (dk_at dksX1_border_1 4 rfl rfl)
theorem dX1_border_29 : decode cX1_border 29 = .ok (.iastore, 1) := dk_79 (dk_at dksX1_border_1 5 rfl rfl)
theorem dX1_border_30 : decode cX1_border 30 = .ok (.aload_n 0, 1) := dk_42 (dk_at dksX1_border_1 6 rfl rfl)
theorem dX1_border_31 : decode cX1_border 31 = .ok (.getfield 24, 3) := dk_180 0 24 (dk_at dksX1_border_1 7 rfl rfl)
theorem dX1_border_34 : decode cX1_border 34 = .ok (.aload_n 0, 1) := dk_42 (dk_at dksX1_border_1 10 rfl rfl)
theorem dX1_border_35 : decode cX1_border 35 = .ok (.getfield 35, 3) := dk_180 0 35 (dk_at dksX1_border_1 11 rfl rfl)
theorem dX1_border_38 : decode cX1_border 38 = .ok (.iload 4, 2) := dk_21 4 (dk_at dksX1_border_1 14 rfl rfl)
theorem dX1_border_40 : decode cX1_border 40 = .ok (.iastore, 1) := dk_79 (dk_at dksX1_border_1 16 rfl rfl)
theorem dX1_border_41 : decode cX1_border 41 = .ok (.aload_n 0, 1) := dk_42 (dk_at dksX1_border_1 17 rfl rfl)
theorem dX1_border_42 : decode cX1_border 42 = .ok (.dup, 1) := dk_89 (dk_at dksX1_border_1 18 rfl rfl)
theorem dX1_border_43 : decode cX1_border 43 = .ok (.getfield 35, 3) := dk_180 0 35 (dk_at dksX1_border_1 19 rfl rfl)
theorem dX1_border_46 : decode cX1_border 46 = .ok (.iconst 1, 1) := dk_4 (dk_at dksX1_border_1 22 rfl rfl)
theorem dX1_border_47 : decode cX1_border 47 = .ok (.iadd, 1) := dk_96 (dk_at dksX1_border_1 23 rfl rfl)
theorem dX1_border_48 : decode cX1_border 48 = .ok (.putfield 35, 3) := dk_181 0 35 (dk_at dksX1_border_2 0 rfl rfl)
theorem dX1_border_51 : decode cX1_border 51 = .ok (.aload_n 0, 1) := dk_42 (dk_at dksX1_border_2 3 rfl rfl)
theorem dX1_border_52 : decode cX1_border 52 = .ok (.getfield 35, 3) := dk_180 0 35 (dk_at dksX1_border_2 4 rfl rfl)
theorem dX1_border_55 : decode cX1_border 55 = .ok (.ireturn, 1) := dk_172 (dk_at dksX1_border_2 7 rfl rfl)
abbrev cX1_areaOf : ByteArray := prog_10_method_5_code
def yX1_areaOf : MethodName := ⟨RX1, "areaOf", "(III)I"⟩
def dkwX1_areaOf_3 : List UInt8 := [132, 4, 255, 167, 255, 192, 2, 172]
abbrev dktX1_areaOf_3 : List UInt8 := dkwX1_areaOf_3 ++ []
def dkwX1_areaOf_2 : List UInt8 := [153, 0, 22, 42, 180, 0, 24, 21, 4, 46, 29, 163, 0, 11, 42, 180, 0, 15, 21, 4, 46, 172]
abbrev dktX1_areaOf_2 : List UInt8 := dkwX1_areaOf_2 ++ dktX1_areaOf_3
def dkwX1_areaOf_1 : List UInt8 := [46, 27, 160, 0, 43, 28, 42, 180, 0, 18, 21, 4, 46, 42, 180, 0, 21, 21, 4, 46, 184, 0, 31]
abbrev dktX1_areaOf_1 : List UInt8 := dkwX1_areaOf_1 ++ dktX1_areaOf_2
def dkwX1_areaOf_0 : List UInt8 := [42, 180, 0, 35, 4, 100, 54, 4, 21, 4, 155, 0, 65, 42, 180, 0, 9, 42, 180, 0, 15, 21, 4, 46]
abbrev dktX1_areaOf_0 : List UInt8 := dkwX1_areaOf_0 ++ dktX1_areaOf_1
theorem dksX1_areaOf_0 : cX1_areaOf.data.toList.drop 0 = dktX1_areaOf_0 := by decide +kernel
theorem dksX1_areaOf_1 : cX1_areaOf.data.toList.drop 24 = dktX1_areaOf_1 := dk_seg dksX1_areaOf_0 24 rfl rfl
theorem dksX1_areaOf_2 : cX1_areaOf.data.toList.drop 47 = dktX1_areaOf_2 := dk_seg dksX1_areaOf_1 23 rfl rfl
theorem dksX1_areaOf_3 : cX1_areaOf.data.toList.drop 69 = dktX1_areaOf_3 := dk_seg dksX1_areaOf_2 22 rfl rfl
theorem dX1_areaOf_0 : decode cX1_areaOf 0 = .ok (.aload_n 0, 1) := dk_42 (dk_at dksX1_areaOf_0 0 rfl rfl)
theorem dX1_areaOf_1 : decode cX1_areaOf 1 = .ok (.getfield 35, 3) := dk_180 0 35 (dk_at dksX1_areaOf_0 1 rfl rfl)
theorem dX1_areaOf_4 : decode cX1_areaOf 4 = .ok (.iconst 1, 1) := dk_4 (dk_at dksX1_areaOf_0 4 rfl rfl)
theorem dX1_areaOf_5 : decode cX1_areaOf 5 = .ok (.isub, 1) := dk_100 (dk_at dksX1_areaOf_0 5 rfl rfl)
theorem dX1_areaOf_6 : decode cX1_areaOf 6 = .ok (.istore 4, 2) := dk_54 4 (dk_at dksX1_areaOf_0 6 rfl rfl)
theorem dX1_areaOf_8 : decode cX1_areaOf 8 = .ok (.iload 4, 2) := dk_21 4 (dk_at dksX1_areaOf_0 8 rfl rfl)
theorem dX1_areaOf_10 : decode cX1_areaOf 10 = .ok (.ifCond .lt 65, 3) := dk_155 0 65 (dk_at dksX1_areaOf_0 10 rfl rfl)
theorem dX1_areaOf_13 : decode cX1_areaOf 13 = .ok (.aload_n 0, 1) := dk_42 (dk_at dksX1_areaOf_0 13 rfl rfl)
theorem dX1_areaOf_14 : decode cX1_areaOf 14 = .ok (.getfield 9, 3) := dk_180 0 9 (dk_at dksX1_areaOf_0 14 rfl rfl)
theorem dX1_areaOf_17 : decode cX1_areaOf 17 = .ok (.aload_n 0, 1) := dk_42 (dk_at dksX1_areaOf_0 17 rfl rfl)
theorem dX1_areaOf_18 : decode cX1_areaOf 18 = .ok (.getfield 15, 3) := dk_180 0 15 (dk_at dksX1_areaOf_0 18 rfl rfl)
theorem dX1_areaOf_21 : decode cX1_areaOf 21 = .ok (.iload 4, 2) := dk_21 4 (dk_at dksX1_areaOf_0 21 rfl rfl)
theorem dX1_areaOf_23 : decode cX1_areaOf 23 = .ok (.iaload, 1) := dk_46 (dk_at dksX1_areaOf_0 23 rfl rfl)
theorem dX1_areaOf_24 : decode cX1_areaOf 24 = .ok (.iaload, 1) := dk_46 (dk_at dksX1_areaOf_1 0 rfl rfl)
theorem dX1_areaOf_25 : decode cX1_areaOf 25 = .ok (.iload_n 1, 1) := dk_27 (dk_at dksX1_areaOf_1 1 rfl rfl)
theorem dX1_areaOf_26 : decode cX1_areaOf 26 = .ok (.if_icmp .ne 43, 3) := dk_160 0 43 (dk_at dksX1_areaOf_1 2 rfl rfl)
theorem dX1_areaOf_29 : decode cX1_areaOf 29 = .ok (.iload_n 2, 1) := dk_28 (dk_at dksX1_areaOf_1 5 rfl rfl)
theorem dX1_areaOf_30 : decode cX1_areaOf 30 = .ok (.aload_n 0, 1) := dk_42 (dk_at dksX1_areaOf_1 6 rfl rfl)
theorem dX1_areaOf_31 : decode cX1_areaOf 31 = .ok (.getfield 18, 3) := dk_180 0 18 (dk_at dksX1_areaOf_1 7 rfl rfl)
theorem dX1_areaOf_34 : decode cX1_areaOf 34 = .ok (.iload 4, 2) := dk_21 4 (dk_at dksX1_areaOf_1 10 rfl rfl)
theorem dX1_areaOf_36 : decode cX1_areaOf 36 = .ok (.iaload, 1) := dk_46 (dk_at dksX1_areaOf_1 12 rfl rfl)
theorem dX1_areaOf_37 : decode cX1_areaOf 37 = .ok (.aload_n 0, 1) := dk_42 (dk_at dksX1_areaOf_1 13 rfl rfl)
theorem dX1_areaOf_38 : decode cX1_areaOf 38 = .ok (.getfield 21, 3) := dk_180 0 21 (dk_at dksX1_areaOf_1 14 rfl rfl)
theorem dX1_areaOf_41 : decode cX1_areaOf 41 = .ok (.iload 4, 2) := dk_21 4 (dk_at dksX1_areaOf_1 17 rfl rfl)
theorem dX1_areaOf_43 : decode cX1_areaOf 43 = .ok (.iaload, 1) := dk_46 (dk_at dksX1_areaOf_1 19 rfl rfl)
theorem dX1_areaOf_44 : decode cX1_areaOf 44 = .ok (.invokestatic 31, 3) := dk_184 0 31 (dk_at dksX1_areaOf_1 20 rfl rfl)
theorem dX1_areaOf_47 : decode cX1_areaOf 47 = .ok (.ifCond .eq 22, 3) := dk_153 0 22 (dk_at dksX1_areaOf_2 0 rfl rfl)
theorem dX1_areaOf_50 : decode cX1_areaOf 50 = .ok (.aload_n 0, 1) := dk_42 (dk_at dksX1_areaOf_2 3 rfl rfl)
theorem dX1_areaOf_51 : decode cX1_areaOf 51 = .ok (.getfield 24, 3) := dk_180 0 24 (dk_at dksX1_areaOf_2 4 rfl rfl)
theorem dX1_areaOf_54 : decode cX1_areaOf 54 = .ok (.iload 4, 2) := dk_21 4 (dk_at dksX1_areaOf_2 7 rfl rfl)
theorem dX1_areaOf_56 : decode cX1_areaOf 56 = .ok (.iaload, 1) := dk_46 (dk_at dksX1_areaOf_2 9 rfl rfl)
theorem dX1_areaOf_57 : decode cX1_areaOf 57 = .ok (.iload_n 3, 1) := dk_29 (dk_at dksX1_areaOf_2 10 rfl rfl)
theorem dX1_areaOf_58 : decode cX1_areaOf 58 = .ok (.if_icmp .gt 11, 3) := dk_163 0 11 (dk_at dksX1_areaOf_2 11 rfl rfl)
theorem dX1_areaOf_61 : decode cX1_areaOf 61 = .ok (.aload_n 0, 1) := dk_42 (dk_at dksX1_areaOf_2 14 rfl rfl)
theorem dX1_areaOf_62 : decode cX1_areaOf 62 = .ok (.getfield 15, 3) := dk_180 0 15 (dk_at dksX1_areaOf_2 15 rfl rfl)
theorem dX1_areaOf_65 : decode cX1_areaOf 65 = .ok (.iload 4, 2) := dk_21 4 (dk_at dksX1_areaOf_2 18 rfl rfl)
theorem dX1_areaOf_67 : decode cX1_areaOf 67 = .ok (.iaload, 1) := dk_46 (dk_at dksX1_areaOf_2 20 rfl rfl)
theorem dX1_areaOf_68 : decode cX1_areaOf 68 = .ok (.ireturn, 1) := dk_172 (dk_at dksX1_areaOf_2 21 rfl rfl)
theorem dX1_areaOf_69 : decode cX1_areaOf 69 = .ok (.iinc 4 (-1), 3) := dk_132 4 255 (dk_at dksX1_areaOf_3 0 rfl rfl)
theorem dX1_areaOf_72 : decode cX1_areaOf 72 = .ok (.goto (-64), 3) := dk_167 255 192 (dk_at dksX1_areaOf_3 3 rfl rfl)
theorem dX1_areaOf_75 : decode cX1_areaOf 75 = .ok (.iconst (-1), 1) := dk_2 (dk_at dksX1_areaOf_3 6 rfl rfl)
theorem dX1_areaOf_76 : decode cX1_areaOf 76 = .ok (.ireturn, 1) := dk_172 (dk_at dksX1_areaOf_3 7 rfl rfl)
abbrev cX1_isIn : ByteArray := prog_10_method_6_code
def yX1_isIn : MethodName := ⟨RX1, "isIn", "(III)Z"⟩
def dkwX1_isIn_1 : List UInt8 := [167, 0, 4, 3, 172]
abbrev dktX1_isIn_1 : List UInt8 := dkwX1_isIn_1 ++ []
def dkwX1_isIn_0 : List UInt8 := [28, 2, 159, 0, 23, 42, 42, 180, 0, 9, 27, 46, 28, 29, 182, 0, 38, 27, 160, 0, 7, 4]
abbrev dktX1_isIn_0 : List UInt8 := dkwX1_isIn_0 ++ dktX1_isIn_1
theorem dksX1_isIn_0 : cX1_isIn.data.toList.drop 0 = dktX1_isIn_0 := by decide +kernel
theorem dksX1_isIn_1 : cX1_isIn.data.toList.drop 22 = dktX1_isIn_1 := dk_seg dksX1_isIn_0 22 rfl rfl
theorem dX1_isIn_0 : decode cX1_isIn 0 = .ok (.iload_n 2, 1) := dk_28 (dk_at dksX1_isIn_0 0 rfl rfl)
theorem dX1_isIn_1 : decode cX1_isIn 1 = .ok (.iconst (-1), 1) := dk_2 (dk_at dksX1_isIn_0 1 rfl rfl)
theorem dX1_isIn_2 : decode cX1_isIn 2 = .ok (.if_icmp .eq 23, 3) := dk_159 0 23 (dk_at dksX1_isIn_0 2 rfl rfl)
theorem dX1_isIn_5 : decode cX1_isIn 5 = .ok (.aload_n 0, 1) := dk_42 (dk_at dksX1_isIn_0 5 rfl rfl)
theorem dX1_isIn_6 : decode cX1_isIn 6 = .ok (.aload_n 0, 1) := dk_42 (dk_at dksX1_isIn_0 6 rfl rfl)
theorem dX1_isIn_7 : decode cX1_isIn 7 = .ok (.getfield 9, 3) := dk_180 0 9 (dk_at dksX1_isIn_0 7 rfl rfl)
theorem dX1_isIn_10 : decode cX1_isIn 10 = .ok (.iload_n 1, 1) := dk_27 (dk_at dksX1_isIn_0 10 rfl rfl)
theorem dX1_isIn_11 : decode cX1_isIn 11 = .ok (.iaload, 1) := dk_46 (dk_at dksX1_isIn_0 11 rfl rfl)
theorem dX1_isIn_12 : decode cX1_isIn 12 = .ok (.iload_n 2, 1) := dk_28 (dk_at dksX1_isIn_0 12 rfl rfl)
theorem dX1_isIn_13 : decode cX1_isIn 13 = .ok (.iload_n 3, 1) := dk_29 (dk_at dksX1_isIn_0 13 rfl rfl)
theorem dX1_isIn_14 : decode cX1_isIn 14 = .ok (.invokevirtual 38, 3) := dk_182 0 38 (dk_at dksX1_isIn_0 14 rfl rfl)
theorem dX1_isIn_17 : decode cX1_isIn 17 = .ok (.iload_n 1, 1) := dk_27 (dk_at dksX1_isIn_0 17 rfl rfl)
theorem dX1_isIn_18 : decode cX1_isIn 18 = .ok (.if_icmp .ne 7, 3) := dk_160 0 7 (dk_at dksX1_isIn_0 18 rfl rfl)
theorem dX1_isIn_21 : decode cX1_isIn 21 = .ok (.iconst 1, 1) := dk_4 (dk_at dksX1_isIn_0 21 rfl rfl)
theorem dX1_isIn_22 : decode cX1_isIn 22 = .ok (.goto 4, 3) := dk_167 0 4 (dk_at dksX1_isIn_1 0 rfl rfl)
theorem dX1_isIn_25 : decode cX1_isIn 25 = .ok (.iconst 0, 1) := dk_3 (dk_at dksX1_isIn_1 3 rfl rfl)
theorem dX1_isIn_26 : decode cX1_isIn 26 = .ok (.ireturn, 1) := dk_172 (dk_at dksX1_isIn_1 4 rfl rfl)
theorem q283 : (Jvm.Cond.initialized "ElectionHouse$Land") ∈ lw_all := lw_g (lw_at lw_m1 2 rfl) rfl
theorem q318 : (Jvm.Cond.instantiable "ElectionHouse$Land" (7 : Nat)) ∈ lw_all := lw_g (lw_at lw_m1 37 rfl) rfl
theorem q320 : (Jvm.Cond.instanceMethod ({ cls := "ElectionHouse$Land", name := "<init>", desc := "()V" } : Jvm.MethodName)) ∈ lw_all := lw_g (lw_at lw_m1 39 rfl) rfl
theorem q321 : (Jvm.Cond.code ({ cls := "ElectionHouse$Land", name := "<init>", desc := "()V" } : Jvm.MethodName) prog_10_method_1_code (1 : Nat) (Option.none : Option Jvm.ClassFile.FieldType)) ∈ lw_all := lw_g (lw_at lw_m1 40 rfl) rfl
theorem q322 : (Jvm.Cond.methodLink "ElectionHouse$Land" (3 : Nat) ({ cls := "java/lang/Object", name := "<init>", desc := "()V" } : Jvm.MethodName)) ∈ lw_all := lw_g (lw_at lw_m1 41 rfl) rfl
theorem q323 : (Jvm.Cond.fieldLink "ElectionHouse$Land" (9 : Nat) "ElectionHouse$Land" "kinds" "[I") ∈ lw_all := lw_g (lw_at lw_m1 42 rfl) rfl
theorem q324 : (Jvm.Cond.fieldLink "ElectionHouse$Land" (27 : Nat) "ElectionHouse$Land" "areas" "I") ∈ lw_all := lw_g (lw_at lw_m1 43 rfl) rfl
theorem q326 : (Jvm.Cond.fieldLink "ElectionHouse$Land" (15 : Nat) "ElectionHouse$Land" "of" "[I") ∈ lw_all := lw_g (lw_at lw_m1 45 rfl) rfl
theorem q327 : (Jvm.Cond.fieldLink "ElectionHouse$Land" (18 : Nat) "ElectionHouse$Land" "from" "[I") ∈ lw_all := lw_g (lw_at lw_m1 46 rfl) rfl
theorem q328 : (Jvm.Cond.fieldLink "ElectionHouse$Land" (21 : Nat) "ElectionHouse$Land" "to" "[I") ∈ lw_all := lw_g (lw_at lw_m1 47 rfl) rfl
theorem q329 : (Jvm.Cond.fieldLink "ElectionHouse$Land" (24 : Nat) "ElectionHouse$Land" "since" "[I") ∈ lw_all := lw_g (lw_at lw_m1 48 rfl) rfl
theorem q330 : (Jvm.Cond.fieldLink "ElectionHouse$Land" (35 : Nat) "ElectionHouse$Land" "borders" "I") ∈ lw_all := lw_g (lw_at lw_m1 49 rfl) rfl
theorem q332 : (Jvm.Cond.laysFinal "ElectionHouse$Land" "ElectionHouse$Land" "kinds" "[I") ∈ lw_all := lw_g (lw_at lw_m1 51 rfl) rfl
theorem q333 : (Jvm.Cond.soleField "ElectionHouse$Land" "kinds") ∈ lw_all := lw_g (lw_at lw_m1 52 rfl) rfl
theorem q334 : (Jvm.Cond.lays "ElectionHouse$Land" "ElectionHouse$Land" "areas" "I") ∈ lw_all := lw_g (lw_at lw_m1 53 rfl) rfl
theorem q335 : (Jvm.Cond.soleField "ElectionHouse$Land" "areas") ∈ lw_all := lw_g (lw_at lw_m1 54 rfl) rfl
theorem q336 : (Jvm.Cond.laysFinal "ElectionHouse$Land" "ElectionHouse$Land" "of" "[I") ∈ lw_all := lw_g (lw_at lw_m1 55 rfl) rfl
theorem q337 : (Jvm.Cond.soleField "ElectionHouse$Land" "of") ∈ lw_all := lw_g (lw_at lw_m1 56 rfl) rfl
theorem q338 : (Jvm.Cond.laysFinal "ElectionHouse$Land" "ElectionHouse$Land" "from" "[I") ∈ lw_all := lw_g (lw_at lw_m1 57 rfl) rfl
theorem q339 : (Jvm.Cond.soleField "ElectionHouse$Land" "from") ∈ lw_all := lw_g (lw_at lw_m1 58 rfl) rfl
theorem q340 : (Jvm.Cond.laysFinal "ElectionHouse$Land" "ElectionHouse$Land" "to" "[I") ∈ lw_all := lw_g (lw_at lw_m1 59 rfl) rfl
theorem q341 : (Jvm.Cond.soleField "ElectionHouse$Land" "to") ∈ lw_all := lw_g (lw_at lw_m1 60 rfl) rfl
theorem q342 : (Jvm.Cond.laysFinal "ElectionHouse$Land" "ElectionHouse$Land" "since" "[I") ∈ lw_all := lw_g (lw_at lw_m1 61 rfl) rfl
theorem q343 : (Jvm.Cond.soleField "ElectionHouse$Land" "since") ∈ lw_all := lw_g (lw_at lw_m1 62 rfl) rfl
theorem q344 : (Jvm.Cond.lays "ElectionHouse$Land" "ElectionHouse$Land" "borders" "I") ∈ lw_all := lw_g (lw_at lw_m1 63 rfl) rfl
theorem q345 : (Jvm.Cond.soleField "ElectionHouse$Land" "borders") ∈ lw_all := lw_g (lw_at lw_m1 64 rfl) rfl
theorem q346 : (Jvm.Cond.superclass "ElectionHouse$Land" "java/lang/Object") ∈ lw_all := lw_g (lw_at lw_m1 65 rfl) rfl
theorem q1174 : (Jvm.Cond.instanceMethod ({ cls := "ElectionHouse$Land", name := "add", desc := "(I)I" } : Jvm.MethodName)) ∈ lw_all := lw_g (lw_at lw_m4 173 rfl) rfl
theorem q1175 : (Jvm.Cond.selects "ElectionHouse$Land" ({ cls := "ElectionHouse$Land", name := "add", desc := "(I)I" } : Jvm.MethodName) ({ cls := "ElectionHouse$Land", name := "add", desc := "(I)I" } : Jvm.MethodName)) ∈ lw_all := lw_g (lw_at lw_m4 174 rfl) rfl
theorem q1176 : (Jvm.Cond.code ({ cls := "ElectionHouse$Land", name := "add", desc := "(I)I" } : Jvm.MethodName) prog_10_method_3_code (2 : Nat) (Option.some Jvm.ClassFile.FieldType.int)) ∈ lw_all := lw_g (lw_at lw_m4 175 rfl) rfl
theorem q1182 : (Jvm.Cond.instanceMethod ({ cls := "ElectionHouse$Land", name := "has", desc := "(I)Z" } : Jvm.MethodName)) ∈ lw_all := lw_g (lw_at lw_m4 181 rfl) rfl
theorem q1183 : (Jvm.Cond.selects "ElectionHouse$Land" ({ cls := "ElectionHouse$Land", name := "has", desc := "(I)Z" } : Jvm.MethodName) ({ cls := "ElectionHouse$Land", name := "has", desc := "(I)Z" } : Jvm.MethodName)) ∈ lw_all := lw_g (lw_at lw_m4 182 rfl) rfl
theorem q1184 : (Jvm.Cond.code ({ cls := "ElectionHouse$Land", name := "has", desc := "(I)Z" } : Jvm.MethodName) prog_10_method_2_code (2 : Nat) (Option.some Jvm.ClassFile.FieldType.boolean)) ∈ lw_all := lw_g (lw_at lw_m4 183 rfl) rfl
theorem q1185 : (Jvm.Cond.methodLinkNest "ElectionHouse$Land" (31 : Nat) ({ cls := "ElectionHouse", name := "within", desc := "(III)Z" } : Jvm.MethodName) "ElectionHouse") ∈ lw_tbl := lw_at lw_m4 184 rfl
theorem q1193 : (Jvm.Cond.instanceMethod ({ cls := "ElectionHouse$Land", name := "border", desc := "(IIII)I" } : Jvm.MethodName)) ∈ lw_all := lw_g (lw_at lw_m4 192 rfl) rfl
theorem q1194 : (Jvm.Cond.selects "ElectionHouse$Land" ({ cls := "ElectionHouse$Land", name := "border", desc := "(IIII)I" } : Jvm.MethodName) ({ cls := "ElectionHouse$Land", name := "border", desc := "(IIII)I" } : Jvm.MethodName)) ∈ lw_all := lw_g (lw_at lw_m4 193 rfl) rfl
theorem q1195 : (Jvm.Cond.code ({ cls := "ElectionHouse$Land", name := "border", desc := "(IIII)I" } : Jvm.MethodName) prog_10_method_4_code (5 : Nat) (Option.some Jvm.ClassFile.FieldType.int)) ∈ lw_all := lw_g (lw_at lw_m4 194 rfl) rfl
theorem q1201 : (Jvm.Cond.instanceMethod ({ cls := "ElectionHouse$Land", name := "areaOf", desc := "(III)I" } : Jvm.MethodName)) ∈ lw_all := lw_g (lw_at lw_m4 200 rfl) rfl
theorem q1202 : (Jvm.Cond.selects "ElectionHouse$Land" ({ cls := "ElectionHouse$Land", name := "areaOf", desc := "(III)I" } : Jvm.MethodName) ({ cls := "ElectionHouse$Land", name := "areaOf", desc := "(III)I" } : Jvm.MethodName)) ∈ lw_all := lw_g (lw_at lw_m4 201 rfl) rfl
theorem q1203 : (Jvm.Cond.code ({ cls := "ElectionHouse$Land", name := "areaOf", desc := "(III)I" } : Jvm.MethodName) prog_10_method_5_code (5 : Nat) (Option.some Jvm.ClassFile.FieldType.int)) ∈ lw_all := lw_g (lw_at lw_m4 202 rfl) rfl
theorem q1619 : (Jvm.Cond.instanceMethod ({ cls := "ElectionHouse$Land", name := "isIn", desc := "(III)Z" } : Jvm.MethodName)) ∈ lw_all := lw_g (lw_at lw_m6 138 rfl) rfl
theorem q1620 : (Jvm.Cond.selects "ElectionHouse$Land" ({ cls := "ElectionHouse$Land", name := "isIn", desc := "(III)Z" } : Jvm.MethodName) ({ cls := "ElectionHouse$Land", name := "isIn", desc := "(III)Z" } : Jvm.MethodName)) ∈ lw_all := lw_g (lw_at lw_m6 139 rfl) rfl
theorem q1621 : (Jvm.Cond.code ({ cls := "ElectionHouse$Land", name := "isIn", desc := "(III)Z" } : Jvm.MethodName) prog_10_method_6_code (4 : Nat) (Option.some Jvm.ClassFile.FieldType.boolean)) ∈ lw_all := lw_g (lw_at lw_m6 140 rfl) rfl
theorem q1622 : (Jvm.Cond.methodLink "ElectionHouse$Land" (38 : Nat) ({ cls := "ElectionHouse$Land", name := "areaOf", desc := "(III)I" } : Jvm.MethodName)) ∈ lw_all := lw_g (lw_at lw_m6 141 rfl) rfl
theorem in_X1 : ∀ w ∈ wsX10, w ∈ lw_all := lw_in wsX10 [332, 334, 336, 338, 340, 342, 344] (by decide +kernel) (by decide +kernel)

set_option maxRecDepth 100000
abbrev cX2_init : ByteArray := prog_14_method_1_code
def yX2_init : MethodName := ⟨RX2, "<init>", "([BLElectionHouse$Land;)V"⟩
def dkwX2_init_15 : List UInt8 := [89, 16, 53, 18, 142, 83, 89, 16, 54, 18, 144, 83, 181, 0, 146, 177]
abbrev dktX2_init_15 : List UInt8 := dkwX2_init_15 ++ []
def dkwX2_init_14 : List UInt8 := [89, 16, 49, 18, 134, 83, 89, 16, 50, 18, 136, 83, 89, 16, 51, 18, 138, 83, 89, 16, 52, 18, 140, 83]
abbrev dktX2_init_14 : List UInt8 := dkwX2_init_14 ++ dktX2_init_15
def dkwX2_init_13 : List UInt8 := [89, 16, 45, 18, 126, 83, 89, 16, 46, 18, 128, 83, 89, 16, 47, 18, 130, 83, 89, 16, 48, 18, 132, 83]
abbrev dktX2_init_13 : List UInt8 := dkwX2_init_13 ++ dktX2_init_14
def dkwX2_init_12 : List UInt8 := [89, 16, 41, 18, 118, 83, 89, 16, 42, 18, 120, 83, 89, 16, 43, 18, 122, 83, 89, 16, 44, 18, 124, 83]
abbrev dktX2_init_12 : List UInt8 := dkwX2_init_12 ++ dktX2_init_13
def dkwX2_init_11 : List UInt8 := [89, 16, 37, 18, 110, 83, 89, 16, 38, 18, 112, 83, 89, 16, 39, 18, 114, 83, 89, 16, 40, 18, 116, 83]
abbrev dktX2_init_11 : List UInt8 := dkwX2_init_11 ++ dktX2_init_12
def dkwX2_init_10 : List UInt8 := [89, 16, 33, 18, 102, 83, 89, 16, 34, 18, 104, 83, 89, 16, 35, 18, 106, 83, 89, 16, 36, 18, 108, 83]
abbrev dktX2_init_10 : List UInt8 := dkwX2_init_10 ++ dktX2_init_11
def dkwX2_init_9 : List UInt8 := [89, 16, 29, 18, 94, 83, 89, 16, 30, 18, 96, 83, 89, 16, 31, 18, 98, 83, 89, 16, 32, 18, 100, 83]
abbrev dktX2_init_9 : List UInt8 := dkwX2_init_9 ++ dktX2_init_10
def dkwX2_init_8 : List UInt8 := [89, 16, 25, 18, 86, 83, 89, 16, 26, 18, 88, 83, 89, 16, 27, 18, 90, 83, 89, 16, 28, 18, 92, 83]
abbrev dktX2_init_8 : List UInt8 := dkwX2_init_8 ++ dktX2_init_9
def dkwX2_init_7 : List UInt8 := [89, 16, 21, 18, 78, 83, 89, 16, 22, 18, 80, 83, 89, 16, 23, 18, 82, 83, 89, 16, 24, 18, 84, 83]
abbrev dktX2_init_7 : List UInt8 := dkwX2_init_7 ++ dktX2_init_8
def dkwX2_init_6 : List UInt8 := [89, 16, 17, 18, 70, 83, 89, 16, 18, 18, 72, 83, 89, 16, 19, 18, 74, 83, 89, 16, 20, 18, 76, 83]
abbrev dktX2_init_6 : List UInt8 := dkwX2_init_6 ++ dktX2_init_7
def dkwX2_init_5 : List UInt8 := [89, 16, 13, 18, 62, 83, 89, 16, 14, 18, 64, 83, 89, 16, 15, 18, 66, 83, 89, 16, 16, 18, 68, 83]
abbrev dktX2_init_5 : List UInt8 := dkwX2_init_5 ++ dktX2_init_6
def dkwX2_init_4 : List UInt8 := [89, 16, 9, 18, 54, 83, 89, 16, 10, 18, 56, 83, 89, 16, 11, 18, 58, 83, 89, 16, 12, 18, 60, 83]
abbrev dktX2_init_4 : List UInt8 := dkwX2_init_4 ++ dktX2_init_5
def dkwX2_init_3 : List UInt8 := [83, 89, 8, 18, 46, 83, 89, 16, 6, 18, 48, 83, 89, 16, 7, 18, 50, 83, 89, 16, 8, 18, 52, 83]
abbrev dktX2_init_3 : List UInt8 := dkwX2_init_3 ++ dktX2_init_4
def dkwX2_init_2 : List UInt8 := [89, 3, 18, 36, 83, 89, 4, 18, 38, 83, 89, 5, 18, 40, 83, 89, 6, 18, 42, 83, 89, 7, 18, 44]
abbrev dktX2_init_2 : List UInt8 := dkwX2_init_2 ++ dktX2_init_3
def dkwX2_init_1 : List UInt8 := [17, 15, 160, 188, 10, 181, 0, 22, 42, 43, 181, 0, 26, 42, 44, 181, 0, 30, 42, 16, 55, 189, 0, 34]
abbrev dktX2_init_1 : List UInt8 := dkwX2_init_1 ++ dktX2_init_2
def dkwX2_init_0 : List UInt8 := [42, 183, 0, 3, 42, 187, 0, 9, 89, 183, 0, 11, 181, 0, 12, 42, 16, 7, 188, 4, 181, 0, 18, 42]
abbrev dktX2_init_0 : List UInt8 := dkwX2_init_0 ++ dktX2_init_1
theorem dksX2_init_0 : cX2_init.data.toList.drop 0 = dktX2_init_0 := by decide +kernel
theorem dksX2_init_1 : cX2_init.data.toList.drop 24 = dktX2_init_1 := dk_seg dksX2_init_0 24 rfl rfl
theorem dksX2_init_2 : cX2_init.data.toList.drop 48 = dktX2_init_2 := dk_seg dksX2_init_1 24 rfl rfl
theorem dksX2_init_3 : cX2_init.data.toList.drop 72 = dktX2_init_3 := dk_seg dksX2_init_2 24 rfl rfl
theorem dksX2_init_4 : cX2_init.data.toList.drop 96 = dktX2_init_4 := dk_seg dksX2_init_3 24 rfl rfl
theorem dksX2_init_5 : cX2_init.data.toList.drop 120 = dktX2_init_5 := dk_seg dksX2_init_4 24 rfl rfl
theorem dksX2_init_6 : cX2_init.data.toList.drop 144 = dktX2_init_6 := dk_seg dksX2_init_5 24 rfl rfl
theorem dksX2_init_7 : cX2_init.data.toList.drop 168 = dktX2_init_7 := dk_seg dksX2_init_6 24 rfl rfl
theorem dksX2_init_8 : cX2_init.data.toList.drop 192 = dktX2_init_8 := dk_seg dksX2_init_7 24 rfl rfl
theorem dksX2_init_9 : cX2_init.data.toList.drop 216 = dktX2_init_9 := dk_seg dksX2_init_8 24 rfl rfl
theorem dksX2_init_10 : cX2_init.data.toList.drop 240 = dktX2_init_10 := dk_seg dksX2_init_9 24 rfl rfl
theorem dksX2_init_11 : cX2_init.data.toList.drop 264 = dktX2_init_11 := dk_seg dksX2_init_10 24 rfl rfl
theorem dksX2_init_12 : cX2_init.data.toList.drop 288 = dktX2_init_12 := dk_seg dksX2_init_11 24 rfl rfl
theorem dksX2_init_13 : cX2_init.data.toList.drop 312 = dktX2_init_13 := dk_seg dksX2_init_12 24 rfl rfl
theorem dksX2_init_14 : cX2_init.data.toList.drop 336 = dktX2_init_14 := dk_seg dksX2_init_13 24 rfl rfl
theorem dksX2_init_15 : cX2_init.data.toList.drop 360 = dktX2_init_15 := dk_seg dksX2_init_14 24 rfl rfl
theorem dX2_init_0 : decode cX2_init 0 = .ok (.aload_n 0, 1) := dk_42 (dk_at dksX2_init_0 0 rfl rfl)
theorem dX2_init_1 : decode cX2_init 1 = .ok (.invokespecial 3, 3) := dk_183 0 3 (dk_at dksX2_init_0 1 rfl rfl)
theorem dX2_init_4 : decode cX2_init 4 = .ok (.aload_n 0, 1) := dk_42 (dk_at dksX2_init_0 4 rfl rfl)
theorem dX2_init_5 : decode cX2_init 5 = .ok (.new 9, 3) := dk_187 0 9 (dk_at dksX2_init_0 5 rfl rfl)
theorem dX2_init_8 : decode cX2_init 8 = .ok (.dup, 1) := dk_89 (dk_at dksX2_init_0 8 rfl rfl)
theorem dX2_init_9 : decode cX2_init 9 = .ok (.invokespecial 11, 3) := dk_183 0 11 (dk_at dksX2_init_0 9 rfl rfl)
theorem dX2_init_12 : decode cX2_init 12 = .ok (.putfield 12, 3) := dk_181 0 12 (dk_at dksX2_init_0 12 rfl rfl)
theorem dX2_init_15 : decode cX2_init 15 = .ok (.aload_n 0, 1) := dk_42 (dk_at dksX2_init_0 15 rfl rfl)
theorem dX2_init_16 : decode cX2_init 16 = .ok (.bipush 7, 2) := dk_16 7 (dk_at dksX2_init_0 16 rfl rfl)
theorem dX2_init_18 : decode cX2_init 18 = .ok (.newarray .boolean, 2) := dk_188_4 (dk_at dksX2_init_0 18 rfl rfl)
theorem dX2_init_20 : decode cX2_init 20 = .ok (.putfield 18, 3) := dk_181 0 18 (dk_at dksX2_init_0 20 rfl rfl)
theorem dX2_init_23 : decode cX2_init 23 = .ok (.aload_n 0, 1) := dk_42 (dk_at dksX2_init_0 23 rfl rfl)
theorem dX2_init_24 : decode cX2_init 24 = .ok (.sipush 4000, 3) := dk_17 15 160 (dk_at dksX2_init_1 0 rfl rfl)
theorem dX2_init_27 : decode cX2_init 27 = .ok (.newarray .int, 2) := dk_188_10 (dk_at dksX2_init_1 3 rfl rfl)
theorem dX2_init_29 : decode cX2_init 29 = .ok (.putfield 22, 3) := dk_181 0 22 (dk_at dksX2_init_1 5 rfl rfl)
theorem dX2_init_32 : decode cX2_init 32 = .ok (.aload_n 0, 1) := dk_42 (dk_at dksX2_init_1 8 rfl rfl)
theorem dX2_init_33 : decode cX2_init 33 = .ok (.aload_n 1, 1) := dk_43 (dk_at dksX2_init_1 9 rfl rfl)
theorem dX2_init_34 : decode cX2_init 34 = .ok (.putfield 26, 3) := dk_181 0 26 (dk_at dksX2_init_1 10 rfl rfl)
theorem dX2_init_37 : decode cX2_init 37 = .ok (.aload_n 0, 1) := dk_42 (dk_at dksX2_init_1 13 rfl rfl)
theorem dX2_init_38 : decode cX2_init 38 = .ok (.aload_n 2, 1) := dk_44 (dk_at dksX2_init_1 14 rfl rfl)
theorem dX2_init_39 : decode cX2_init 39 = .ok (.putfield 30, 3) := dk_181 0 30 (dk_at dksX2_init_1 15 rfl rfl)
theorem dX2_init_42 : decode cX2_init 42 = .ok (.aload_n 0, 1) := dk_42 (dk_at dksX2_init_1 18 rfl rfl)
theorem dX2_init_43 : decode cX2_init 43 = .ok (.bipush 55, 2) := dk_16 55 (dk_at dksX2_init_1 19 rfl rfl)
theorem dX2_init_45 : decode cX2_init 45 = .ok (.anewarray 34, 3) := dk_189 0 34 (dk_at dksX2_init_1 21 rfl rfl)
theorem dX2_init_48 : decode cX2_init 48 = .ok (.dup, 1) := dk_89 (dk_at dksX2_init_2 0 rfl rfl)
theorem dX2_init_49 : decode cX2_init 49 = .ok (.iconst 0, 1) := dk_3 (dk_at dksX2_init_2 1 rfl rfl)
theorem dX2_init_50 : decode cX2_init 50 = .ok (.ldc 36, 2) := dk_18 36 (dk_at dksX2_init_2 2 rfl rfl)
theorem dX2_init_52 : decode cX2_init 52 = .ok (.aastore, 1) := dk_83 (dk_at dksX2_init_2 4 rfl rfl)
theorem dX2_init_53 : decode cX2_init 53 = .ok (.dup, 1) := dk_89 (dk_at dksX2_init_2 5 rfl rfl)
theorem dX2_init_54 : decode cX2_init 54 = .ok (.iconst 1, 1) := dk_4 (dk_at dksX2_init_2 6 rfl rfl)
theorem dX2_init_55 : decode cX2_init 55 = .ok (.ldc 38, 2) := dk_18 38 (dk_at dksX2_init_2 7 rfl rfl)
theorem dX2_init_57 : decode cX2_init 57 = .ok (.aastore, 1) := dk_83 (dk_at dksX2_init_2 9 rfl rfl)
theorem dX2_init_58 : decode cX2_init 58 = .ok (.dup, 1) := dk_89 (dk_at dksX2_init_2 10 rfl rfl)
theorem dX2_init_59 : decode cX2_init 59 = .ok (.iconst 2, 1) := dk_5 (dk_at dksX2_init_2 11 rfl rfl)
theorem dX2_init_60 : decode cX2_init 60 = .ok (.ldc 40, 2) := dk_18 40 (dk_at dksX2_init_2 12 rfl rfl)
theorem dX2_init_62 : decode cX2_init 62 = .ok (.aastore, 1) := dk_83 (dk_at dksX2_init_2 14 rfl rfl)
theorem dX2_init_63 : decode cX2_init 63 = .ok (.dup, 1) := dk_89 (dk_at dksX2_init_2 15 rfl rfl)
theorem dX2_init_64 : decode cX2_init 64 = .ok (.iconst 3, 1) := dk_6 (dk_at dksX2_init_2 16 rfl rfl)
theorem dX2_init_65 : decode cX2_init 65 = .ok (.ldc 42, 2) := dk_18 42 (dk_at dksX2_init_2 17 rfl rfl)
theorem dX2_init_67 : decode cX2_init 67 = .ok (.aastore, 1) := dk_83 (dk_at dksX2_init_2 19 rfl rfl)
theorem dX2_init_68 : decode cX2_init 68 = .ok (.dup, 1) := dk_89 (dk_at dksX2_init_2 20 rfl rfl)
theorem dX2_init_69 : decode cX2_init 69 = .ok (.iconst 4, 1) := dk_7 (dk_at dksX2_init_2 21 rfl rfl)
theorem dX2_init_70 : decode cX2_init 70 = .ok (.ldc 44, 2) := dk_18 44 (dk_at dksX2_init_2 22 rfl rfl)
theorem dX2_init_72 : decode cX2_init 72 = .ok (.aastore, 1) := dk_83 (dk_at dksX2_init_3 0 rfl rfl)
theorem dX2_init_73 : decode cX2_init 73 = .ok (.dup, 1) := dk_89 (dk_at dksX2_init_3 1 rfl rfl)
theorem dX2_init_74 : decode cX2_init 74 = .ok (.iconst 5, 1) := dk_8 (dk_at dksX2_init_3 2 rfl rfl)
theorem dX2_init_75 : decode cX2_init 75 = .ok (.ldc 46, 2) := dk_18 46 (dk_at dksX2_init_3 3 rfl rfl)
theorem dX2_init_77 : decode cX2_init 77 = .ok (.aastore, 1) := dk_83 (dk_at dksX2_init_3 5 rfl rfl)
theorem dX2_init_78 : decode cX2_init 78 = .ok (.dup, 1) := dk_89 (dk_at dksX2_init_3 6 rfl rfl)
theorem dX2_init_79 : decode cX2_init 79 = .ok (.bipush 6, 2) := dk_16 6 (dk_at dksX2_init_3 7 rfl rfl)
theorem dX2_init_81 : decode cX2_init 81 = .ok (.ldc 48, 2) := dk_18 48 (dk_at dksX2_init_3 9 rfl rfl)
theorem dX2_init_83 : decode cX2_init 83 = .ok (.aastore, 1) := dk_83 (dk_at dksX2_init_3 11 rfl rfl)
theorem dX2_init_84 : decode cX2_init 84 = .ok (.dup, 1) := dk_89 (dk_at dksX2_init_3 12 rfl rfl)
theorem dX2_init_85 : decode cX2_init 85 = .ok (.bipush 7, 2) := dk_16 7 (dk_at dksX2_init_3 13 rfl rfl)
theorem dX2_init_87 : decode cX2_init 87 = .ok (.ldc 50, 2) := dk_18 50 (dk_at dksX2_init_3 15 rfl rfl)
theorem dX2_init_89 : decode cX2_init 89 = .ok (.aastore, 1) := dk_83 (dk_at dksX2_init_3 17 rfl rfl)
theorem dX2_init_90 : decode cX2_init 90 = .ok (.dup, 1) := dk_89 (dk_at dksX2_init_3 18 rfl rfl)
theorem dX2_init_91 : decode cX2_init 91 = .ok (.bipush 8, 2) := dk_16 8 (dk_at dksX2_init_3 19 rfl rfl)
theorem dX2_init_93 : decode cX2_init 93 = .ok (.ldc 52, 2) := dk_18 52 (dk_at dksX2_init_3 21 rfl rfl)
theorem dX2_init_95 : decode cX2_init 95 = .ok (.aastore, 1) := dk_83 (dk_at dksX2_init_3 23 rfl rfl)
theorem dX2_init_96 : decode cX2_init 96 = .ok (.dup, 1) := dk_89 (dk_at dksX2_init_4 0 rfl rfl)
theorem dX2_init_97 : decode cX2_init 97 = .ok (.bipush 9, 2) := dk_16 9 (dk_at dksX2_init_4 1 rfl rfl)
theorem dX2_init_99 : decode cX2_init 99 = .ok (.ldc 54, 2) := dk_18 54 (dk_at dksX2_init_4 3 rfl rfl)
theorem dX2_init_101 : decode cX2_init 101 = .ok (.aastore, 1) := dk_83 (dk_at dksX2_init_4 5 rfl rfl)
theorem dX2_init_102 : decode cX2_init 102 = .ok (.dup, 1) := dk_89 (dk_at dksX2_init_4 6 rfl rfl)
theorem dX2_init_103 : decode cX2_init 103 = .ok (.bipush 10, 2) := dk_16 10 (dk_at dksX2_init_4 7 rfl rfl)
theorem dX2_init_105 : decode cX2_init 105 = .ok (.ldc 56, 2) := dk_18 56 (dk_at dksX2_init_4 9 rfl rfl)
theorem dX2_init_107 : decode cX2_init 107 = .ok (.aastore, 1) := dk_83 (dk_at dksX2_init_4 11 rfl rfl)
theorem dX2_init_108 : decode cX2_init 108 = .ok (.dup, 1) := dk_89 (dk_at dksX2_init_4 12 rfl rfl)
theorem dX2_init_109 : decode cX2_init 109 = .ok (.bipush 11, 2) := dk_16 11 (dk_at dksX2_init_4 13 rfl rfl)
theorem dX2_init_111 : decode cX2_init 111 = .ok (.ldc 58, 2) := dk_18 58 (dk_at dksX2_init_4 15 rfl rfl)
theorem dX2_init_113 : decode cX2_init 113 = .ok (.aastore, 1) := dk_83 (dk_at dksX2_init_4 17 rfl rfl)
theorem dX2_init_114 : decode cX2_init 114 = .ok (.dup, 1) := dk_89 (dk_at dksX2_init_4 18 rfl rfl)
theorem dX2_init_115 : decode cX2_init 115 = .ok (.bipush 12, 2) := dk_16 12 (dk_at dksX2_init_4 19 rfl rfl)
theorem dX2_init_117 : decode cX2_init 117 = .ok (.ldc 60, 2) := dk_18 60 (dk_at dksX2_init_4 21 rfl rfl)
theorem dX2_init_119 : decode cX2_init 119 = .ok (.aastore, 1) := dk_83 (dk_at dksX2_init_4 23 rfl rfl)
theorem dX2_init_120 : decode cX2_init 120 = .ok (.dup, 1) := dk_89 (dk_at dksX2_init_5 0 rfl rfl)
theorem dX2_init_121 : decode cX2_init 121 = .ok (.bipush 13, 2) := dk_16 13 (dk_at dksX2_init_5 1 rfl rfl)
theorem dX2_init_123 : decode cX2_init 123 = .ok (.ldc 62, 2) := dk_18 62 (dk_at dksX2_init_5 3 rfl rfl)
theorem dX2_init_125 : decode cX2_init 125 = .ok (.aastore, 1) := dk_83 (dk_at dksX2_init_5 5 rfl rfl)
theorem dX2_init_126 : decode cX2_init 126 = .ok (.dup, 1) := dk_89 (dk_at dksX2_init_5 6 rfl rfl)
theorem dX2_init_127 : decode cX2_init 127 = .ok (.bipush 14, 2) := dk_16 14 (dk_at dksX2_init_5 7 rfl rfl)
theorem dX2_init_129 : decode cX2_init 129 = .ok (.ldc 64, 2) := dk_18 64 (dk_at dksX2_init_5 9 rfl rfl)
theorem dX2_init_131 : decode cX2_init 131 = .ok (.aastore, 1) := dk_83 (dk_at dksX2_init_5 11 rfl rfl)
theorem dX2_init_132 : decode cX2_init 132 = .ok (.dup, 1) := dk_89 (dk_at dksX2_init_5 12 rfl rfl)
theorem dX2_init_133 : decode cX2_init 133 = .ok (.bipush 15, 2) := dk_16 15 (dk_at dksX2_init_5 13 rfl rfl)
theorem dX2_init_135 : decode cX2_init 135 = .ok (.ldc 66, 2) := dk_18 66 (dk_at dksX2_init_5 15 rfl rfl)
theorem dX2_init_137 : decode cX2_init 137 = .ok (.aastore, 1) := dk_83 (dk_at dksX2_init_5 17 rfl rfl)
theorem dX2_init_138 : decode cX2_init 138 = .ok (.dup, 1) := dk_89 (dk_at dksX2_init_5 18 rfl rfl)
theorem dX2_init_139 : decode cX2_init 139 = .ok (.bipush 16, 2) := dk_16 16 (dk_at dksX2_init_5 19 rfl rfl)
theorem dX2_init_141 : decode cX2_init 141 = .ok (.ldc 68, 2) := dk_18 68 (dk_at dksX2_init_5 21 rfl rfl)
theorem dX2_init_143 : decode cX2_init 143 = .ok (.aastore, 1) := dk_83 (dk_at dksX2_init_5 23 rfl rfl)
theorem dX2_init_144 : decode cX2_init 144 = .ok (.dup, 1) := dk_89 (dk_at dksX2_init_6 0 rfl rfl)
theorem dX2_init_145 : decode cX2_init 145 = .ok (.bipush 17, 2) := dk_16 17 (dk_at dksX2_init_6 1 rfl rfl)
theorem dX2_init_147 : decode cX2_init 147 = .ok (.ldc 70, 2) := dk_18 70 (dk_at dksX2_init_6 3 rfl rfl)
theorem dX2_init_149 : decode cX2_init 149 = .ok (.aastore, 1) := dk_83 (dk_at dksX2_init_6 5 rfl rfl)
theorem dX2_init_150 : decode cX2_init 150 = .ok (.dup, 1) := dk_89 (dk_at dksX2_init_6 6 rfl rfl)
theorem dX2_init_151 : decode cX2_init 151 = .ok (.bipush 18, 2) := dk_16 18 (dk_at dksX2_init_6 7 rfl rfl)
theorem dX2_init_153 : decode cX2_init 153 = .ok (.ldc 72, 2) := dk_18 72 (dk_at dksX2_init_6 9 rfl rfl)
theorem dX2_init_155 : decode cX2_init 155 = .ok (.aastore, 1) := dk_83 (dk_at dksX2_init_6 11 rfl rfl)
theorem dX2_init_156 : decode cX2_init 156 = .ok (.dup, 1) := dk_89 (dk_at dksX2_init_6 12 rfl rfl)
theorem dX2_init_157 : decode cX2_init 157 = .ok (.bipush 19, 2) := dk_16 19 (dk_at dksX2_init_6 13 rfl rfl)
theorem dX2_init_159 : decode cX2_init 159 = .ok (.ldc 74, 2) := dk_18 74 (dk_at dksX2_init_6 15 rfl rfl)
theorem dX2_init_161 : decode cX2_init 161 = .ok (.aastore, 1) := dk_83 (dk_at dksX2_init_6 17 rfl rfl)
theorem dX2_init_162 : decode cX2_init 162 = .ok (.dup, 1) := dk_89 (dk_at dksX2_init_6 18 rfl rfl)
theorem dX2_init_163 : decode cX2_init 163 = .ok (.bipush 20, 2) := dk_16 20 (dk_at dksX2_init_6 19 rfl rfl)
theorem dX2_init_165 : decode cX2_init 165 = .ok (.ldc 76, 2) := dk_18 76 (dk_at dksX2_init_6 21 rfl rfl)
theorem dX2_init_167 : decode cX2_init 167 = .ok (.aastore, 1) := dk_83 (dk_at dksX2_init_6 23 rfl rfl)
theorem dX2_init_168 : decode cX2_init 168 = .ok (.dup, 1) := dk_89 (dk_at dksX2_init_7 0 rfl rfl)
theorem dX2_init_169 : decode cX2_init 169 = .ok (.bipush 21, 2) := dk_16 21 (dk_at dksX2_init_7 1 rfl rfl)
theorem dX2_init_171 : decode cX2_init 171 = .ok (.ldc 78, 2) := dk_18 78 (dk_at dksX2_init_7 3 rfl rfl)
theorem dX2_init_173 : decode cX2_init 173 = .ok (.aastore, 1) := dk_83 (dk_at dksX2_init_7 5 rfl rfl)
theorem dX2_init_174 : decode cX2_init 174 = .ok (.dup, 1) := dk_89 (dk_at dksX2_init_7 6 rfl rfl)
theorem dX2_init_175 : decode cX2_init 175 = .ok (.bipush 22, 2) := dk_16 22 (dk_at dksX2_init_7 7 rfl rfl)
theorem dX2_init_177 : decode cX2_init 177 = .ok (.ldc 80, 2) := dk_18 80 (dk_at dksX2_init_7 9 rfl rfl)
theorem dX2_init_179 : decode cX2_init 179 = .ok (.aastore, 1) := dk_83 (dk_at dksX2_init_7 11 rfl rfl)
theorem dX2_init_180 : decode cX2_init 180 = .ok (.dup, 1) := dk_89 (dk_at dksX2_init_7 12 rfl rfl)
theorem dX2_init_181 : decode cX2_init 181 = .ok (.bipush 23, 2) := dk_16 23 (dk_at dksX2_init_7 13 rfl rfl)
theorem dX2_init_183 : decode cX2_init 183 = .ok (.ldc 82, 2) := dk_18 82 (dk_at dksX2_init_7 15 rfl rfl)
theorem dX2_init_185 : decode cX2_init 185 = .ok (.aastore, 1) := dk_83 (dk_at dksX2_init_7 17 rfl rfl)
theorem dX2_init_186 : decode cX2_init 186 = .ok (.dup, 1) := dk_89 (dk_at dksX2_init_7 18 rfl rfl)
theorem dX2_init_187 : decode cX2_init 187 = .ok (.bipush 24, 2) := dk_16 24 (dk_at dksX2_init_7 19 rfl rfl)
theorem dX2_init_189 : decode cX2_init 189 = .ok (.ldc 84, 2) := dk_18 84 (dk_at dksX2_init_7 21 rfl rfl)
theorem dX2_init_191 : decode cX2_init 191 = .ok (.aastore, 1) := dk_83 (dk_at dksX2_init_7 23 rfl rfl)
theorem dX2_init_192 : decode cX2_init 192 = .ok (.dup, 1) := dk_89 (dk_at dksX2_init_8 0 rfl rfl)
theorem dX2_init_193 : decode cX2_init 193 = .ok (.bipush 25, 2) := dk_16 25 (dk_at dksX2_init_8 1 rfl rfl)
theorem dX2_init_195 : decode cX2_init 195 = .ok (.ldc 86, 2) := dk_18 86 (dk_at dksX2_init_8 3 rfl rfl)
theorem dX2_init_197 : decode cX2_init 197 = .ok (.aastore, 1) := dk_83 (dk_at dksX2_init_8 5 rfl rfl)
theorem dX2_init_198 : decode cX2_init 198 = .ok (.dup, 1) := dk_89 (dk_at dksX2_init_8 6 rfl rfl)
theorem dX2_init_199 : decode cX2_init 199 = .ok (.bipush 26, 2) := dk_16 26 (dk_at dksX2_init_8 7 rfl rfl)
theorem dX2_init_201 : decode cX2_init 201 = .ok (.ldc 88, 2) := dk_18 88 (dk_at dksX2_init_8 9 rfl rfl)
theorem dX2_init_203 : decode cX2_init 203 = .ok (.aastore, 1) := dk_83 (dk_at dksX2_init_8 11 rfl rfl)
theorem dX2_init_204 : decode cX2_init 204 = .ok (.dup, 1) := dk_89 (dk_at dksX2_init_8 12 rfl rfl)
theorem dX2_init_205 : decode cX2_init 205 = .ok (.bipush 27, 2) := dk_16 27 (dk_at dksX2_init_8 13 rfl rfl)
theorem dX2_init_207 : decode cX2_init 207 = .ok (.ldc 90, 2) := dk_18 90 (dk_at dksX2_init_8 15 rfl rfl)
theorem dX2_init_209 : decode cX2_init 209 = .ok (.aastore, 1) := dk_83 (dk_at dksX2_init_8 17 rfl rfl)
theorem dX2_init_210 : decode cX2_init 210 = .ok (.dup, 1) := dk_89 (dk_at dksX2_init_8 18 rfl rfl)
theorem dX2_init_211 : decode cX2_init 211 = .ok (.bipush 28, 2) := dk_16 28 (dk_at dksX2_init_8 19 rfl rfl)
theorem dX2_init_213 : decode cX2_init 213 = .ok (.ldc 92, 2) := dk_18 92 (dk_at dksX2_init_8 21 rfl rfl)
theorem dX2_init_215 : decode cX2_init 215 = .ok (.aastore, 1) := dk_83 (dk_at dksX2_init_8 23 rfl rfl)
theorem dX2_init_216 : decode cX2_init 216 = .ok (.dup, 1) := dk_89 (dk_at dksX2_init_9 0 rfl rfl)
theorem dX2_init_217 : decode cX2_init 217 = .ok (.bipush 29, 2) := dk_16 29 (dk_at dksX2_init_9 1 rfl rfl)
theorem dX2_init_219 : decode cX2_init 219 = .ok (.ldc 94, 2) := dk_18 94 (dk_at dksX2_init_9 3 rfl rfl)
theorem dX2_init_221 : decode cX2_init 221 = .ok (.aastore, 1) := dk_83 (dk_at dksX2_init_9 5 rfl rfl)
theorem dX2_init_222 : decode cX2_init 222 = .ok (.dup, 1) := dk_89 (dk_at dksX2_init_9 6 rfl rfl)
theorem dX2_init_223 : decode cX2_init 223 = .ok (.bipush 30, 2) := dk_16 30 (dk_at dksX2_init_9 7 rfl rfl)
theorem dX2_init_225 : decode cX2_init 225 = .ok (.ldc 96, 2) := dk_18 96 (dk_at dksX2_init_9 9 rfl rfl)
theorem dX2_init_227 : decode cX2_init 227 = .ok (.aastore, 1) := dk_83 (dk_at dksX2_init_9 11 rfl rfl)
theorem dX2_init_228 : decode cX2_init 228 = .ok (.dup, 1) := dk_89 (dk_at dksX2_init_9 12 rfl rfl)
theorem dX2_init_229 : decode cX2_init 229 = .ok (.bipush 31, 2) := dk_16 31 (dk_at dksX2_init_9 13 rfl rfl)
theorem dX2_init_231 : decode cX2_init 231 = .ok (.ldc 98, 2) := dk_18 98 (dk_at dksX2_init_9 15 rfl rfl)
theorem dX2_init_233 : decode cX2_init 233 = .ok (.aastore, 1) := dk_83 (dk_at dksX2_init_9 17 rfl rfl)
theorem dX2_init_234 : decode cX2_init 234 = .ok (.dup, 1) := dk_89 (dk_at dksX2_init_9 18 rfl rfl)
theorem dX2_init_235 : decode cX2_init 235 = .ok (.bipush 32, 2) := dk_16 32 (dk_at dksX2_init_9 19 rfl rfl)
theorem dX2_init_237 : decode cX2_init 237 = .ok (.ldc 100, 2) := dk_18 100 (dk_at dksX2_init_9 21 rfl rfl)
theorem dX2_init_239 : decode cX2_init 239 = .ok (.aastore, 1) := dk_83 (dk_at dksX2_init_9 23 rfl rfl)
theorem dX2_init_240 : decode cX2_init 240 = .ok (.dup, 1) := dk_89 (dk_at dksX2_init_10 0 rfl rfl)
theorem dX2_init_241 : decode cX2_init 241 = .ok (.bipush 33, 2) := dk_16 33 (dk_at dksX2_init_10 1 rfl rfl)
theorem dX2_init_243 : decode cX2_init 243 = .ok (.ldc 102, 2) := dk_18 102 (dk_at dksX2_init_10 3 rfl rfl)
theorem dX2_init_245 : decode cX2_init 245 = .ok (.aastore, 1) := dk_83 (dk_at dksX2_init_10 5 rfl rfl)
theorem dX2_init_246 : decode cX2_init 246 = .ok (.dup, 1) := dk_89 (dk_at dksX2_init_10 6 rfl rfl)
theorem dX2_init_247 : decode cX2_init 247 = .ok (.bipush 34, 2) := dk_16 34 (dk_at dksX2_init_10 7 rfl rfl)
theorem dX2_init_249 : decode cX2_init 249 = .ok (.ldc 104, 2) := dk_18 104 (dk_at dksX2_init_10 9 rfl rfl)
theorem dX2_init_251 : decode cX2_init 251 = .ok (.aastore, 1) := dk_83 (dk_at dksX2_init_10 11 rfl rfl)
theorem dX2_init_252 : decode cX2_init 252 = .ok (.dup, 1) := dk_89 (dk_at dksX2_init_10 12 rfl rfl)
theorem dX2_init_253 : decode cX2_init 253 = .ok (.bipush 35, 2) := dk_16 35 (dk_at dksX2_init_10 13 rfl rfl)
theorem dX2_init_255 : decode cX2_init 255 = .ok (.ldc 106, 2) := dk_18 106 (dk_at dksX2_init_10 15 rfl rfl)
theorem dX2_init_257 : decode cX2_init 257 = .ok (.aastore, 1) := dk_83 (dk_at dksX2_init_10 17 rfl rfl)
theorem dX2_init_258 : decode cX2_init 258 = .ok (.dup, 1) := dk_89 (dk_at dksX2_init_10 18 rfl rfl)
theorem dX2_init_259 : decode cX2_init 259 = .ok (.bipush 36, 2) := dk_16 36 (dk_at dksX2_init_10 19 rfl rfl)
theorem dX2_init_261 : decode cX2_init 261 = .ok (.ldc 108, 2) := dk_18 108 (dk_at dksX2_init_10 21 rfl rfl)
theorem dX2_init_263 : decode cX2_init 263 = .ok (.aastore, 1) := dk_83 (dk_at dksX2_init_10 23 rfl rfl)
theorem dX2_init_264 : decode cX2_init 264 = .ok (.dup, 1) := dk_89 (dk_at dksX2_init_11 0 rfl rfl)
theorem dX2_init_265 : decode cX2_init 265 = .ok (.bipush 37, 2) := dk_16 37 (dk_at dksX2_init_11 1 rfl rfl)
theorem dX2_init_267 : decode cX2_init 267 = .ok (.ldc 110, 2) := dk_18 110 (dk_at dksX2_init_11 3 rfl rfl)
theorem dX2_init_269 : decode cX2_init 269 = .ok (.aastore, 1) := dk_83 (dk_at dksX2_init_11 5 rfl rfl)
theorem dX2_init_270 : decode cX2_init 270 = .ok (.dup, 1) := dk_89 (dk_at dksX2_init_11 6 rfl rfl)
theorem dX2_init_271 : decode cX2_init 271 = .ok (.bipush 38, 2) := dk_16 38 (dk_at dksX2_init_11 7 rfl rfl)
theorem dX2_init_273 : decode cX2_init 273 = .ok (.ldc 112, 2) := dk_18 112 (dk_at dksX2_init_11 9 rfl rfl)
theorem dX2_init_275 : decode cX2_init 275 = .ok (.aastore, 1) := dk_83 (dk_at dksX2_init_11 11 rfl rfl)
theorem dX2_init_276 : decode cX2_init 276 = .ok (.dup, 1) := dk_89 (dk_at dksX2_init_11 12 rfl rfl)
theorem dX2_init_277 : decode cX2_init 277 = .ok (.bipush 39, 2) := dk_16 39 (dk_at dksX2_init_11 13 rfl rfl)
theorem dX2_init_279 : decode cX2_init 279 = .ok (.ldc 114, 2) := dk_18 114 (dk_at dksX2_init_11 15 rfl rfl)
theorem dX2_init_281 : decode cX2_init 281 = .ok (.aastore, 1) := dk_83 (dk_at dksX2_init_11 17 rfl rfl)
theorem dX2_init_282 : decode cX2_init 282 = .ok (.dup, 1) := dk_89 (dk_at dksX2_init_11 18 rfl rfl)
theorem dX2_init_283 : decode cX2_init 283 = .ok (.bipush 40, 2) := dk_16 40 (dk_at dksX2_init_11 19 rfl rfl)
theorem dX2_init_285 : decode cX2_init 285 = .ok (.ldc 116, 2) := dk_18 116 (dk_at dksX2_init_11 21 rfl rfl)
theorem dX2_init_287 : decode cX2_init 287 = .ok (.aastore, 1) := dk_83 (dk_at dksX2_init_11 23 rfl rfl)
theorem dX2_init_288 : decode cX2_init 288 = .ok (.dup, 1) := dk_89 (dk_at dksX2_init_12 0 rfl rfl)
theorem dX2_init_289 : decode cX2_init 289 = .ok (.bipush 41, 2) := dk_16 41 (dk_at dksX2_init_12 1 rfl rfl)
theorem dX2_init_291 : decode cX2_init 291 = .ok (.ldc 118, 2) := dk_18 118 (dk_at dksX2_init_12 3 rfl rfl)
theorem dX2_init_293 : decode cX2_init 293 = .ok (.aastore, 1) := dk_83 (dk_at dksX2_init_12 5 rfl rfl)
theorem dX2_init_294 : decode cX2_init 294 = .ok (.dup, 1) := dk_89 (dk_at dksX2_init_12 6 rfl rfl)
theorem dX2_init_295 : decode cX2_init 295 = .ok (.bipush 42, 2) := dk_16 42 (dk_at dksX2_init_12 7 rfl rfl)
theorem dX2_init_297 : decode cX2_init 297 = .ok (.ldc 120, 2) := dk_18 120 (dk_at dksX2_init_12 9 rfl rfl)
theorem dX2_init_299 : decode cX2_init 299 = .ok (.aastore, 1) := dk_83 (dk_at dksX2_init_12 11 rfl rfl)
theorem dX2_init_300 : decode cX2_init 300 = .ok (.dup, 1) := dk_89 (dk_at dksX2_init_12 12 rfl rfl)
theorem dX2_init_301 : decode cX2_init 301 = .ok (.bipush 43, 2) := dk_16 43 (dk_at dksX2_init_12 13 rfl rfl)
theorem dX2_init_303 : decode cX2_init 303 = .ok (.ldc 122, 2) := dk_18 122 (dk_at dksX2_init_12 15 rfl rfl)
theorem dX2_init_305 : decode cX2_init 305 = .ok (.aastore, 1) := dk_83 (dk_at dksX2_init_12 17 rfl rfl)
theorem dX2_init_306 : decode cX2_init 306 = .ok (.dup, 1) := dk_89 (dk_at dksX2_init_12 18 rfl rfl)
theorem dX2_init_307 : decode cX2_init 307 = .ok (.bipush 44, 2) := dk_16 44 (dk_at dksX2_init_12 19 rfl rfl)
theorem dX2_init_309 : decode cX2_init 309 = .ok (.ldc 124, 2) := dk_18 124 (dk_at dksX2_init_12 21 rfl rfl)
theorem dX2_init_311 : decode cX2_init 311 = .ok (.aastore, 1) := dk_83 (dk_at dksX2_init_12 23 rfl rfl)
theorem dX2_init_312 : decode cX2_init 312 = .ok (.dup, 1) := dk_89 (dk_at dksX2_init_13 0 rfl rfl)
theorem dX2_init_313 : decode cX2_init 313 = .ok (.bipush 45, 2) := dk_16 45 (dk_at dksX2_init_13 1 rfl rfl)
theorem dX2_init_315 : decode cX2_init 315 = .ok (.ldc 126, 2) := dk_18 126 (dk_at dksX2_init_13 3 rfl rfl)
theorem dX2_init_317 : decode cX2_init 317 = .ok (.aastore, 1) := dk_83 (dk_at dksX2_init_13 5 rfl rfl)
theorem dX2_init_318 : decode cX2_init 318 = .ok (.dup, 1) := dk_89 (dk_at dksX2_init_13 6 rfl rfl)
theorem dX2_init_319 : decode cX2_init 319 = .ok (.bipush 46, 2) := dk_16 46 (dk_at dksX2_init_13 7 rfl rfl)
theorem dX2_init_321 : decode cX2_init 321 = .ok (.ldc 128, 2) := dk_18 128 (dk_at dksX2_init_13 9 rfl rfl)
theorem dX2_init_323 : decode cX2_init 323 = .ok (.aastore, 1) := dk_83 (dk_at dksX2_init_13 11 rfl rfl)
theorem dX2_init_324 : decode cX2_init 324 = .ok (.dup, 1) := dk_89 (dk_at dksX2_init_13 12 rfl rfl)
theorem dX2_init_325 : decode cX2_init 325 = .ok (.bipush 47, 2) := dk_16 47 (dk_at dksX2_init_13 13 rfl rfl)
theorem dX2_init_327 : decode cX2_init 327 = .ok (.ldc 130, 2) := dk_18 130 (dk_at dksX2_init_13 15 rfl rfl)
theorem dX2_init_329 : decode cX2_init 329 = .ok (.aastore, 1) := dk_83 (dk_at dksX2_init_13 17 rfl rfl)
theorem dX2_init_330 : decode cX2_init 330 = .ok (.dup, 1) := dk_89 (dk_at dksX2_init_13 18 rfl rfl)
theorem dX2_init_331 : decode cX2_init 331 = .ok (.bipush 48, 2) := dk_16 48 (dk_at dksX2_init_13 19 rfl rfl)
theorem dX2_init_333 : decode cX2_init 333 = .ok (.ldc 132, 2) := dk_18 132 (dk_at dksX2_init_13 21 rfl rfl)
theorem dX2_init_335 : decode cX2_init 335 = .ok (.aastore, 1) := dk_83 (dk_at dksX2_init_13 23 rfl rfl)
theorem dX2_init_336 : decode cX2_init 336 = .ok (.dup, 1) := dk_89 (dk_at dksX2_init_14 0 rfl rfl)
theorem dX2_init_337 : decode cX2_init 337 = .ok (.bipush 49, 2) := dk_16 49 (dk_at dksX2_init_14 1 rfl rfl)
theorem dX2_init_339 : decode cX2_init 339 = .ok (.ldc 134, 2) := dk_18 134 (dk_at dksX2_init_14 3 rfl rfl)
theorem dX2_init_341 : decode cX2_init 341 = .ok (.aastore, 1) := dk_83 (dk_at dksX2_init_14 5 rfl rfl)
theorem dX2_init_342 : decode cX2_init 342 = .ok (.dup, 1) := dk_89 (dk_at dksX2_init_14 6 rfl rfl)
theorem dX2_init_343 : decode cX2_init 343 = .ok (.bipush 50, 2) := dk_16 50 (dk_at dksX2_init_14 7 rfl rfl)
theorem dX2_init_345 : decode cX2_init 345 = .ok (.ldc 136, 2) := dk_18 136 (dk_at dksX2_init_14 9 rfl rfl)
theorem dX2_init_347 : decode cX2_init 347 = .ok (.aastore, 1) := dk_83 (dk_at dksX2_init_14 11 rfl rfl)
theorem dX2_init_348 : decode cX2_init 348 = .ok (.dup, 1) := dk_89 (dk_at dksX2_init_14 12 rfl rfl)
theorem dX2_init_349 : decode cX2_init 349 = .ok (.bipush 51, 2) := dk_16 51 (dk_at dksX2_init_14 13 rfl rfl)
theorem dX2_init_351 : decode cX2_init 351 = .ok (.ldc 138, 2) := dk_18 138 (dk_at dksX2_init_14 15 rfl rfl)
theorem dX2_init_353 : decode cX2_init 353 = .ok (.aastore, 1) := dk_83 (dk_at dksX2_init_14 17 rfl rfl)
theorem dX2_init_354 : decode cX2_init 354 = .ok (.dup, 1) := dk_89 (dk_at dksX2_init_14 18 rfl rfl)
theorem dX2_init_355 : decode cX2_init 355 = .ok (.bipush 52, 2) := dk_16 52 (dk_at dksX2_init_14 19 rfl rfl)
theorem dX2_init_357 : decode cX2_init 357 = .ok (.ldc 140, 2) := dk_18 140 (dk_at dksX2_init_14 21 rfl rfl)
theorem dX2_init_359 : decode cX2_init 359 = .ok (.aastore, 1) := dk_83 (dk_at dksX2_init_14 23 rfl rfl)
theorem dX2_init_360 : decode cX2_init 360 = .ok (.dup, 1) := dk_89 (dk_at dksX2_init_15 0 rfl rfl)
theorem dX2_init_361 : decode cX2_init 361 = .ok (.bipush 53, 2) := dk_16 53 (dk_at dksX2_init_15 1 rfl rfl)
theorem dX2_init_363 : decode cX2_init 363 = .ok (.ldc 142, 2) := dk_18 142 (dk_at dksX2_init_15 3 rfl rfl)
theorem dX2_init_365 : decode cX2_init 365 = .ok (.aastore, 1) := dk_83 (dk_at dksX2_init_15 5 rfl rfl)
theorem dX2_init_366 : decode cX2_init 366 = .ok (.dup, 1) := dk_89 (dk_at dksX2_init_15 6 rfl rfl)
theorem dX2_init_367 : decode cX2_init 367 = .ok (.bipush 54, 2) := dk_16 54 (dk_at dksX2_init_15 7 rfl rfl)
theorem dX2_init_369 : decode cX2_init 369 = .ok (.ldc 144, 2) := dk_18 144 (dk_at dksX2_init_15 9 rfl rfl)
theorem dX2_init_371 : decode cX2_init 371 = .ok (.aastore, 1) := dk_83 (dk_at dksX2_init_15 11 rfl rfl)
theorem dX2_init_372 : decode cX2_init 372 = .ok (.putfield 146, 3) := dk_181 0 146 (dk_at dksX2_init_15 12 rfl rfl)
theorem dX2_init_375 : decode cX2_init 375 = .ok (.return_, 1) := dk_177 (dk_at dksX2_init_15 15 rfl rfl)
abbrev cX2_read : ByteArray := prog_14_method_35_code
def yX2_read : MethodName := ⟨RX2, "read", "(LElectionHouse$Law;I)I"⟩
def dkwX2_read_2 : List UInt8 := [182, 1, 172, 167, 0, 9, 78, 45, 180, 0, 154, 172, 42, 180, 0, 157, 172]
abbrev dktX2_read_2 : List UInt8 := dkwX2_read_2 ++ []
def dkwX2_read_1 : List UInt8 := [181, 0, 157, 42, 3, 181, 1, 24, 42, 3, 181, 1, 131, 42, 180, 0, 18, 3, 184, 1, 166, 42]
abbrev dktX2_read_1 : List UInt8 := dkwX2_read_1 ++ dktX2_read_2
def dkwX2_read_0 : List UInt8 := [42, 43, 181, 1, 7, 42, 28, 181, 0, 160, 42, 180, 1, 7, 182, 1, 164, 42, 3, 181, 0, 167, 42, 2]
abbrev dktX2_read_0 : List UInt8 := dkwX2_read_0 ++ dktX2_read_1
theorem dksX2_read_0 : cX2_read.data.toList.drop 0 = dktX2_read_0 := by decide +kernel
theorem dksX2_read_1 : cX2_read.data.toList.drop 24 = dktX2_read_1 := dk_seg dksX2_read_0 24 rfl rfl
theorem dksX2_read_2 : cX2_read.data.toList.drop 46 = dktX2_read_2 := dk_seg dksX2_read_1 22 rfl rfl
theorem dX2_read_0 : decode cX2_read 0 = .ok (.aload_n 0, 1) := dk_42 (dk_at dksX2_read_0 0 rfl rfl)
theorem dX2_read_1 : decode cX2_read 1 = .ok (.aload_n 1, 1) := dk_43 (dk_at dksX2_read_0 1 rfl rfl)
theorem dX2_read_2 : decode cX2_read 2 = .ok (.putfield 263, 3) := dk_181 1 7 (dk_at dksX2_read_0 2 rfl rfl)
theorem dX2_read_5 : decode cX2_read 5 = .ok (.aload_n 0, 1) := dk_42 (dk_at dksX2_read_0 5 rfl rfl)
theorem dX2_read_6 : decode cX2_read 6 = .ok (.iload_n 2, 1) := dk_28 (dk_at dksX2_read_0 6 rfl rfl)
theorem dX2_read_7 : decode cX2_read 7 = .ok (.putfield 160, 3) := dk_181 0 160 (dk_at dksX2_read_0 7 rfl rfl)
theorem dX2_read_10 : decode cX2_read 10 = .ok (.aload_n 0, 1) := dk_42 (dk_at dksX2_read_0 10 rfl rfl)
theorem dX2_read_11 : decode cX2_read 11 = .ok (.getfield 263, 3) := dk_180 1 7 (dk_at dksX2_read_0 11 rfl rfl)
theorem dX2_read_14 : decode cX2_read 14 = .ok (.invokevirtual 420, 3) := dk_182 1 164 (dk_at dksX2_read_0 14 rfl rfl)
theorem dX2_read_17 : decode cX2_read 17 = .ok (.aload_n 0, 1) := dk_42 (dk_at dksX2_read_0 17 rfl rfl)
theorem dX2_read_18 : decode cX2_read 18 = .ok (.iconst 0, 1) := dk_3 (dk_at dksX2_read_0 18 rfl rfl)
theorem dX2_read_19 : decode cX2_read 19 = .ok (.putfield 167, 3) := dk_181 0 167 (dk_at dksX2_read_0 19 rfl rfl)
theorem dX2_read_22 : decode cX2_read 22 = .ok (.aload_n 0, 1) := dk_42 (dk_at dksX2_read_0 22 rfl rfl)
theorem dX2_read_23 : decode cX2_read 23 = .ok (.iconst (-1), 1) := dk_2 (dk_at dksX2_read_0 23 rfl rfl)
theorem dX2_read_24 : decode cX2_read 24 = .ok (.putfield 157, 3) := dk_181 0 157 (dk_at dksX2_read_1 0 rfl rfl)
theorem dX2_read_27 : decode cX2_read 27 = .ok (.aload_n 0, 1) := dk_42 (dk_at dksX2_read_1 3 rfl rfl)
theorem dX2_read_28 : decode cX2_read 28 = .ok (.iconst 0, 1) := dk_3 (dk_at dksX2_read_1 4 rfl rfl)
theorem dX2_read_29 : decode cX2_read 29 = .ok (.putfield 280, 3) := dk_181 1 24 (dk_at dksX2_read_1 5 rfl rfl)
theorem dX2_read_32 : decode cX2_read 32 = .ok (.aload_n 0, 1) := dk_42 (dk_at dksX2_read_1 8 rfl rfl)
theorem dX2_read_33 : decode cX2_read 33 = .ok (.iconst 0, 1) := dk_3 (dk_at dksX2_read_1 9 rfl rfl)
theorem dX2_read_34 : decode cX2_read 34 = .ok (.putfield 387, 3) := dk_181 1 131 (dk_at dksX2_read_1 10 rfl rfl)
theorem dX2_read_37 : decode cX2_read 37 = .ok (.aload_n 0, 1) := dk_42 (dk_at dksX2_read_1 13 rfl rfl)
theorem dX2_read_38 : decode cX2_read 38 = .ok (.getfield 18, 3) := dk_180 0 18 (dk_at dksX2_read_1 14 rfl rfl)
theorem dX2_read_41 : decode cX2_read 41 = .ok (.iconst 0, 1) := dk_3 (dk_at dksX2_read_1 17 rfl rfl)
theorem dX2_read_42 : decode cX2_read 42 = .ok (.invokestatic 422, 3) := dk_184 1 166 (dk_at dksX2_read_1 18 rfl rfl)
theorem dX2_read_45 : decode cX2_read 45 = .ok (.aload_n 0, 1) := dk_42 (dk_at dksX2_read_1 21 rfl rfl)
theorem dX2_read_46 : decode cX2_read 46 = .ok (.invokevirtual 428, 3) := dk_182 1 172 (dk_at dksX2_read_2 0 rfl rfl)
theorem dX2_read_49 : decode cX2_read 49 = .ok (.goto 9, 3) := dk_167 0 9 (dk_at dksX2_read_2 3 rfl rfl)
theorem dX2_read_52 : decode cX2_read 52 = .ok (.astore_n 3, 1) := dk_78 (dk_at dksX2_read_2 6 rfl rfl)
theorem dX2_read_53 : decode cX2_read 53 = .ok (.aload_n 3, 1) := dk_45 (dk_at dksX2_read_2 7 rfl rfl)
theorem dX2_read_54 : decode cX2_read 54 = .ok (.getfield 154, 3) := dk_180 0 154 (dk_at dksX2_read_2 8 rfl rfl)
theorem dX2_read_57 : decode cX2_read 57 = .ok (.ireturn, 1) := dk_172 (dk_at dksX2_read_2 11 rfl rfl)
theorem dX2_read_58 : decode cX2_read 58 = .ok (.aload_n 0, 1) := dk_42 (dk_at dksX2_read_2 12 rfl rfl)
theorem dX2_read_59 : decode cX2_read 59 = .ok (.getfield 157, 3) := dk_180 0 157 (dk_at dksX2_read_2 13 rfl rfl)
theorem dX2_read_62 : decode cX2_read 62 = .ok (.ireturn, 1) := dk_172 (dk_at dksX2_read_2 16 rfl rfl)
abbrev cX2_all : ByteArray := prog_14_method_36_code
def yX2_all : MethodName := ⟨RX2, "all", "()V"⟩
def dkwX2_all_2 : List UInt8 := [3, 42, 180, 0, 160, 182, 0, 215, 177]
abbrev dktX2_all_2 : List UInt8 := dkwX2_all_2 ++ []
def dkwX2_all_1 : List UInt8 := [42, 42, 180, 0, 18, 3, 51, 153, 0, 17, 42, 180, 1, 7, 180, 1, 90, 158, 0, 7, 4, 167, 0, 4]
abbrev dktX2_all_1 : List UInt8 := dkwX2_all_1 ++ dktX2_all_2
def dkwX2_all_0 : List UInt8 := [42, 182, 0, 209, 42, 180, 0, 193, 153, 0, 16, 42, 182, 1, 175, 42, 16, 59, 182, 0, 244, 167, 255, 239]
abbrev dktX2_all_0 : List UInt8 := dkwX2_all_0 ++ dktX2_all_1
theorem dksX2_all_0 : cX2_all.data.toList.drop 0 = dktX2_all_0 := by decide +kernel
theorem dksX2_all_1 : cX2_all.data.toList.drop 24 = dktX2_all_1 := dk_seg dksX2_all_0 24 rfl rfl
theorem dksX2_all_2 : cX2_all.data.toList.drop 48 = dktX2_all_2 := dk_seg dksX2_all_1 24 rfl rfl
theorem dX2_all_0 : decode cX2_all 0 = .ok (.aload_n 0, 1) := dk_42 (dk_at dksX2_all_0 0 rfl rfl)
theorem dX2_all_1 : decode cX2_all 1 = .ok (.invokevirtual 209, 3) := dk_182 0 209 (dk_at dksX2_all_0 1 rfl rfl)
theorem dX2_all_4 : decode cX2_all 4 = .ok (.aload_n 0, 1) := dk_42 (dk_at dksX2_all_0 4 rfl rfl)
theorem dX2_all_5 : decode cX2_all 5 = .ok (.getfield 193, 3) := dk_180 0 193 (dk_at dksX2_all_0 5 rfl rfl)
theorem dX2_all_8 : decode cX2_all 8 = .ok (.ifCond .eq 16, 3) := dk_153 0 16 (dk_at dksX2_all_0 8 rfl rfl)
theorem dX2_all_11 : decode cX2_all 11 = .ok (.aload_n 0, 1) := dk_42 (dk_at dksX2_all_0 11 rfl rfl)
theorem dX2_all_12 : decode cX2_all 12 = .ok (.invokevirtual 431, 3) := dk_182 1 175 (dk_at dksX2_all_0 12 rfl rfl)
theorem dX2_all_15 : decode cX2_all 15 = .ok (.aload_n 0, 1) := dk_42 (dk_at dksX2_all_0 15 rfl rfl)
theorem dX2_all_16 : decode cX2_all 16 = .ok (.bipush 59, 2) := dk_16 59 (dk_at dksX2_all_0 16 rfl rfl)
theorem dX2_all_18 : decode cX2_all 18 = .ok (.invokevirtual 244, 3) := dk_182 0 244 (dk_at dksX2_all_0 18 rfl rfl)
theorem dX2_all_21 : decode cX2_all 21 = .ok (.goto (-17), 3) := dk_167 255 239 (dk_at dksX2_all_0 21 rfl rfl)
theorem dX2_all_24 : decode cX2_all 24 = .ok (.aload_n 0, 1) := dk_42 (dk_at dksX2_all_1 0 rfl rfl)
theorem dX2_all_25 : decode cX2_all 25 = .ok (.aload_n 0, 1) := dk_42 (dk_at dksX2_all_1 1 rfl rfl)
theorem dX2_all_26 : decode cX2_all 26 = .ok (.getfield 18, 3) := dk_180 0 18 (dk_at dksX2_all_1 2 rfl rfl)
theorem dX2_all_29 : decode cX2_all 29 = .ok (.iconst 0, 1) := dk_3 (dk_at dksX2_all_1 5 rfl rfl)
theorem dX2_all_30 : decode cX2_all 30 = .ok (.baload, 1) := dk_51 (dk_at dksX2_all_1 6 rfl rfl)
theorem dX2_all_31 : decode cX2_all 31 = .ok (.ifCond .eq 17, 3) := dk_153 0 17 (dk_at dksX2_all_1 7 rfl rfl)
theorem dX2_all_34 : decode cX2_all 34 = .ok (.aload_n 0, 1) := dk_42 (dk_at dksX2_all_1 10 rfl rfl)
theorem dX2_all_35 : decode cX2_all 35 = .ok (.getfield 263, 3) := dk_180 1 7 (dk_at dksX2_all_1 11 rfl rfl)
theorem dX2_all_38 : decode cX2_all 38 = .ok (.getfield 346, 3) := dk_180 1 90 (dk_at dksX2_all_1 14 rfl rfl)
theorem dX2_all_41 : decode cX2_all 41 = .ok (.ifCond .le 7, 3) := dk_158 0 7 (dk_at dksX2_all_1 17 rfl rfl)
theorem dX2_all_44 : decode cX2_all 44 = .ok (.iconst 1, 1) := dk_4 (dk_at dksX2_all_1 20 rfl rfl)
theorem dX2_all_45 : decode cX2_all 45 = .ok (.goto 4, 3) := dk_167 0 4 (dk_at dksX2_all_1 21 rfl rfl)
theorem dX2_all_48 : decode cX2_all 48 = .ok (.iconst 0, 1) := dk_3 (dk_at dksX2_all_2 0 rfl rfl)
theorem dX2_all_49 : decode cX2_all 49 = .ok (.aload_n 0, 1) := dk_42 (dk_at dksX2_all_2 1 rfl rfl)
theorem dX2_all_50 : decode cX2_all 50 = .ok (.getfield 160, 3) := dk_180 0 160 (dk_at dksX2_all_2 2 rfl rfl)
theorem dX2_all_53 : decode cX2_all 53 = .ok (.invokevirtual 215, 3) := dk_182 0 215 (dk_at dksX2_all_2 5 rfl rfl)
theorem dX2_all_56 : decode cX2_all 56 = .ok (.return_, 1) := dk_177 (dk_at dksX2_all_2 8 rfl rfl)
abbrev cX2_take : ByteArray := prog_14_method_9_code
def yX2_take : MethodName := ⟨RX2, "take", "()V"⟩
def dkwX2_take_10 : List UInt8 := [181, 0, 182, 42, 89, 180, 0, 167, 4, 96, 181, 0, 167, 177]
abbrev dktX2_take_10 : List UInt8 := dkwX2_take_10 ++ []
def dkwX2_take_9 : List UInt8 := [182, 0, 199, 167, 0, 34, 42, 180, 0, 193, 6, 160, 0, 26, 42, 42, 180, 0, 26, 42, 180, 0, 150, 51]
abbrev dktX2_take_9 : List UInt8 := dkwX2_take_9 ++ dktX2_take_10
def dkwX2_take_8 : List UInt8 := [160, 0, 14, 42, 42, 182, 0, 196, 181, 0, 182, 167, 0, 49, 42, 180, 0, 193, 5, 160, 0, 10, 42]
abbrev dktX2_take_8 : List UInt8 := dkwX2_take_8 ++ dktX2_take_9
def dkwX2_take_7 : List UInt8 := [182, 0, 190, 153, 0, 16, 42, 89, 180, 0, 167, 4, 96, 181, 0, 167, 167, 255, 227, 42, 180, 0, 193, 4]
abbrev dktX2_take_7 : List UInt8 := dkwX2_take_7 ++ dktX2_take_8
def dkwX2_take_6 : List UInt8 := [180, 0, 167, 4, 96, 181, 0, 167, 167, 255, 227, 42, 180, 0, 193, 5, 160, 0, 27, 42, 42, 180, 0, 167]
abbrev dktX2_take_6 : List UInt8 := dkwX2_take_6 ++ dktX2_take_7
def dkwX2_take_5 : List UInt8 := [181, 0, 193, 42, 180, 0, 193, 4, 160, 0, 27, 42, 42, 180, 0, 167, 182, 0, 186, 153, 0, 16, 42, 89]
abbrev dktX2_take_5 : List UInt8 := dkwX2_take_5 ++ dktX2_take_6
def dkwX2_take_4 : List UInt8 := [153, 0, 7, 4, 167, 0, 19, 42, 42, 180, 0, 150, 182, 0, 190, 153, 0, 7, 5, 167, 0, 4, 6]
abbrev dktX2_take_4 : List UInt8 := dkwX2_take_4 ++ dktX2_take_5
def dkwX2_take_3 : List UInt8 := [180, 0, 150, 42, 180, 0, 160, 160, 0, 7, 3, 167, 0, 34, 42, 42, 180, 0, 150, 182, 0, 186]
abbrev dktX2_take_3 : List UInt8 := dkwX2_take_3 ++ dktX2_take_4
def dkwX2_take_2 : List UInt8 := [89, 180, 0, 150, 4, 96, 181, 0, 150, 167, 255, 207, 42, 42, 180, 0, 150, 181, 0, 167, 42, 42]
abbrev dktX2_take_2 : List UInt8 := dkwX2_take_2 ++ dktX2_take_3
def dkwX2_take_1 : List UInt8 := [180, 0, 150, 51, 16, 32, 159, 0, 17, 42, 180, 0, 26, 42, 180, 0, 150, 51, 16, 10, 160, 0, 16, 42]
abbrev dktX2_take_1 : List UInt8 := dkwX2_take_1 ++ dktX2_take_2
def dkwX2_take_0 : List UInt8 := [42, 42, 180, 0, 167, 181, 0, 150, 42, 180, 0, 150, 42, 180, 0, 160, 162, 0, 44, 42, 180, 0, 26, 42]
abbrev dktX2_take_0 : List UInt8 := dkwX2_take_0 ++ dktX2_take_1
theorem dksX2_take_0 : cX2_take.data.toList.drop 0 = dktX2_take_0 := by decide +kernel
theorem dksX2_take_1 : cX2_take.data.toList.drop 24 = dktX2_take_1 := dk_seg dksX2_take_0 24 rfl rfl
theorem dksX2_take_2 : cX2_take.data.toList.drop 48 = dktX2_take_2 := dk_seg dksX2_take_1 24 rfl rfl
theorem dksX2_take_3 : cX2_take.data.toList.drop 70 = dktX2_take_3 := dk_seg dksX2_take_2 22 rfl rfl
theorem dksX2_take_4 : cX2_take.data.toList.drop 92 = dktX2_take_4 := dk_seg dksX2_take_3 22 rfl rfl
theorem dksX2_take_5 : cX2_take.data.toList.drop 115 = dktX2_take_5 := dk_seg dksX2_take_4 23 rfl rfl
theorem dksX2_take_6 : cX2_take.data.toList.drop 139 = dktX2_take_6 := dk_seg dksX2_take_5 24 rfl rfl
theorem dksX2_take_7 : cX2_take.data.toList.drop 163 = dktX2_take_7 := dk_seg dksX2_take_6 24 rfl rfl
theorem dksX2_take_8 : cX2_take.data.toList.drop 187 = dktX2_take_8 := dk_seg dksX2_take_7 24 rfl rfl
theorem dksX2_take_9 : cX2_take.data.toList.drop 210 = dktX2_take_9 := dk_seg dksX2_take_8 23 rfl rfl
theorem dksX2_take_10 : cX2_take.data.toList.drop 234 = dktX2_take_10 := dk_seg dksX2_take_9 24 rfl rfl
theorem dX2_take_0 : decode cX2_take 0 = .ok (.aload_n 0, 1) := dk_42 (dk_at dksX2_take_0 0 rfl rfl)
theorem dX2_take_1 : decode cX2_take 1 = .ok (.aload_n 0, 1) := dk_42 (dk_at dksX2_take_0 1 rfl rfl)
theorem dX2_take_2 : decode cX2_take 2 = .ok (.getfield 167, 3) := dk_180 0 167 (dk_at dksX2_take_0 2 rfl rfl)
theorem dX2_take_5 : decode cX2_take 5 = .ok (.putfield 150, 3) := dk_181 0 150 (dk_at dksX2_take_0 5 rfl rfl)
theorem dX2_take_8 : decode cX2_take 8 = .ok (.aload_n 0, 1) := dk_42 (dk_at dksX2_take_0 8 rfl rfl)
theorem dX2_take_9 : decode cX2_take 9 = .ok (.getfield 150, 3) := dk_180 0 150 (dk_at dksX2_take_0 9 rfl rfl)
theorem dX2_take_12 : decode cX2_take 12 = .ok (.aload_n 0, 1) := dk_42 (dk_at dksX2_take_0 12 rfl rfl)
theorem dX2_take_13 : decode cX2_take 13 = .ok (.getfield 160, 3) := dk_180 0 160 (dk_at dksX2_take_0 13 rfl rfl)
theorem dX2_take_16 : decode cX2_take 16 = .ok (.if_icmp .ge 44, 3) := dk_162 0 44 (dk_at dksX2_take_0 16 rfl rfl)
theorem dX2_take_19 : decode cX2_take 19 = .ok (.aload_n 0, 1) := dk_42 (dk_at dksX2_take_0 19 rfl rfl)
theorem dX2_take_20 : decode cX2_take 20 = .ok (.getfield 26, 3) := dk_180 0 26 (dk_at dksX2_take_0 20 rfl rfl)
theorem dX2_take_23 : decode cX2_take 23 = .ok (.aload_n 0, 1) := dk_42 (dk_at dksX2_take_0 23 rfl rfl)
theorem dX2_take_24 : decode cX2_take 24 = .ok (.getfield 150, 3) := dk_180 0 150 (dk_at dksX2_take_1 0 rfl rfl)
theorem dX2_take_27 : decode cX2_take 27 = .ok (.baload, 1) := dk_51 (dk_at dksX2_take_1 3 rfl rfl)
theorem dX2_take_28 : decode cX2_take 28 = .ok (.bipush 32, 2) := dk_16 32 (dk_at dksX2_take_1 4 rfl rfl)
theorem dX2_take_30 : decode cX2_take 30 = .ok (.if_icmp .eq 17, 3) := dk_159 0 17 (dk_at dksX2_take_1 6 rfl rfl)
theorem dX2_take_33 : decode cX2_take 33 = .ok (.aload_n 0, 1) := dk_42 (dk_at dksX2_take_1 9 rfl rfl)
theorem dX2_take_34 : decode cX2_take 34 = .ok (.getfield 26, 3) := dk_180 0 26 (dk_at dksX2_take_1 10 rfl rfl)
theorem dX2_take_37 : decode cX2_take 37 = .ok (.aload_n 0, 1) := dk_42 (dk_at dksX2_take_1 13 rfl rfl)
theorem dX2_take_38 : decode cX2_take 38 = .ok (.getfield 150, 3) := dk_180 0 150 (dk_at dksX2_take_1 14 rfl rfl)
theorem dX2_take_41 : decode cX2_take 41 = .ok (.baload, 1) := dk_51 (dk_at dksX2_take_1 17 rfl rfl)
theorem dX2_take_42 : decode cX2_take 42 = .ok (.bipush 10, 2) := dk_16 10 (dk_at dksX2_take_1 18 rfl rfl)
theorem dX2_take_44 : decode cX2_take 44 = .ok (.if_icmp .ne 16, 3) := dk_160 0 16 (dk_at dksX2_take_1 20 rfl rfl)
theorem dX2_take_47 : decode cX2_take 47 = .ok (.aload_n 0, 1) := dk_42 (dk_at dksX2_take_1 23 rfl rfl)
theorem dX2_take_48 : decode cX2_take 48 = .ok (.dup, 1) := dk_89 (dk_at dksX2_take_2 0 rfl rfl)
theorem dX2_take_49 : decode cX2_take 49 = .ok (.getfield 150, 3) := dk_180 0 150 (dk_at dksX2_take_2 1 rfl rfl)
theorem dX2_take_52 : decode cX2_take 52 = .ok (.iconst 1, 1) := dk_4 (dk_at dksX2_take_2 4 rfl rfl)
theorem dX2_take_53 : decode cX2_take 53 = .ok (.iadd, 1) := dk_96 (dk_at dksX2_take_2 5 rfl rfl)
theorem dX2_take_54 : decode cX2_take 54 = .ok (.putfield 150, 3) := dk_181 0 150 (dk_at dksX2_take_2 6 rfl rfl)
theorem dX2_take_57 : decode cX2_take 57 = .ok (.goto (-49), 3) := dk_167 255 207 (dk_at dksX2_take_2 9 rfl rfl)
theorem dX2_take_60 : decode cX2_take 60 = .ok (.aload_n 0, 1) := dk_42 (dk_at dksX2_take_2 12 rfl rfl)
theorem dX2_take_61 : decode cX2_take 61 = .ok (.aload_n 0, 1) := dk_42 (dk_at dksX2_take_2 13 rfl rfl)
theorem dX2_take_62 : decode cX2_take 62 = .ok (.getfield 150, 3) := dk_180 0 150 (dk_at dksX2_take_2 14 rfl rfl)
theorem dX2_take_65 : decode cX2_take 65 = .ok (.putfield 167, 3) := dk_181 0 167 (dk_at dksX2_take_2 17 rfl rfl)
theorem dX2_take_68 : decode cX2_take 68 = .ok (.aload_n 0, 1) := dk_42 (dk_at dksX2_take_2 20 rfl rfl)
theorem dX2_take_69 : decode cX2_take 69 = .ok (.aload_n 0, 1) := dk_42 (dk_at dksX2_take_2 21 rfl rfl)
theorem dX2_take_70 : decode cX2_take 70 = .ok (.getfield 150, 3) := dk_180 0 150 (dk_at dksX2_take_3 0 rfl rfl)
theorem dX2_take_73 : decode cX2_take 73 = .ok (.aload_n 0, 1) := dk_42 (dk_at dksX2_take_3 3 rfl rfl)
theorem dX2_take_74 : decode cX2_take 74 = .ok (.getfield 160, 3) := dk_180 0 160 (dk_at dksX2_take_3 4 rfl rfl)
theorem dX2_take_77 : decode cX2_take 77 = .ok (.if_icmp .ne 7, 3) := dk_160 0 7 (dk_at dksX2_take_3 7 rfl rfl)
theorem dX2_take_80 : decode cX2_take 80 = .ok (.iconst 0, 1) := dk_3 (dk_at dksX2_take_3 10 rfl rfl)
theorem dX2_take_81 : decode cX2_take 81 = .ok (.goto 34, 3) := dk_167 0 34 (dk_at dksX2_take_3 11 rfl rfl)
theorem dX2_take_84 : decode cX2_take 84 = .ok (.aload_n 0, 1) := dk_42 (dk_at dksX2_take_3 14 rfl rfl)
theorem dX2_take_85 : decode cX2_take 85 = .ok (.aload_n 0, 1) := dk_42 (dk_at dksX2_take_3 15 rfl rfl)
theorem dX2_take_86 : decode cX2_take 86 = .ok (.getfield 150, 3) := dk_180 0 150 (dk_at dksX2_take_3 16 rfl rfl)
theorem dX2_take_89 : decode cX2_take 89 = .ok (.invokevirtual 186, 3) := dk_182 0 186 (dk_at dksX2_take_3 19 rfl rfl)
theorem dX2_take_92 : decode cX2_take 92 = .ok (.ifCond .eq 7, 3) := dk_153 0 7 (dk_at dksX2_take_4 0 rfl rfl)
theorem dX2_take_95 : decode cX2_take 95 = .ok (.iconst 1, 1) := dk_4 (dk_at dksX2_take_4 3 rfl rfl)
theorem dX2_take_96 : decode cX2_take 96 = .ok (.goto 19, 3) := dk_167 0 19 (dk_at dksX2_take_4 4 rfl rfl)
theorem dX2_take_99 : decode cX2_take 99 = .ok (.aload_n 0, 1) := dk_42 (dk_at dksX2_take_4 7 rfl rfl)
theorem dX2_take_100 : decode cX2_take 100 = .ok (.aload_n 0, 1) := dk_42 (dk_at dksX2_take_4 8 rfl rfl)
theorem dX2_take_101 : decode cX2_take 101 = .ok (.getfield 150, 3) := dk_180 0 150 (dk_at dksX2_take_4 9 rfl rfl)
theorem dX2_take_104 : decode cX2_take 104 = .ok (.invokevirtual 190, 3) := dk_182 0 190 (dk_at dksX2_take_4 12 rfl rfl)
theorem dX2_take_107 : decode cX2_take 107 = .ok (.ifCond .eq 7, 3) := dk_153 0 7 (dk_at dksX2_take_4 15 rfl rfl)
theorem dX2_take_110 : decode cX2_take 110 = .ok (.iconst 2, 1) := dk_5 (dk_at dksX2_take_4 18 rfl rfl)
theorem dX2_take_111 : decode cX2_take 111 = .ok (.goto 4, 3) := dk_167 0 4 (dk_at dksX2_take_4 19 rfl rfl)
theorem dX2_take_114 : decode cX2_take 114 = .ok (.iconst 3, 1) := dk_6 (dk_at dksX2_take_4 22 rfl rfl)
theorem dX2_take_115 : decode cX2_take 115 = .ok (.putfield 193, 3) := dk_181 0 193 (dk_at dksX2_take_5 0 rfl rfl)
theorem dX2_take_118 : decode cX2_take 118 = .ok (.aload_n 0, 1) := dk_42 (dk_at dksX2_take_5 3 rfl rfl)
theorem dX2_take_119 : decode cX2_take 119 = .ok (.getfield 193, 3) := dk_180 0 193 (dk_at dksX2_take_5 4 rfl rfl)
theorem dX2_take_122 : decode cX2_take 122 = .ok (.iconst 1, 1) := dk_4 (dk_at dksX2_take_5 7 rfl rfl)
theorem dX2_take_123 : decode cX2_take 123 = .ok (.if_icmp .ne 27, 3) := dk_160 0 27 (dk_at dksX2_take_5 8 rfl rfl)
theorem dX2_take_126 : decode cX2_take 126 = .ok (.aload_n 0, 1) := dk_42 (dk_at dksX2_take_5 11 rfl rfl)
theorem dX2_take_127 : decode cX2_take 127 = .ok (.aload_n 0, 1) := dk_42 (dk_at dksX2_take_5 12 rfl rfl)
theorem dX2_take_128 : decode cX2_take 128 = .ok (.getfield 167, 3) := dk_180 0 167 (dk_at dksX2_take_5 13 rfl rfl)
theorem dX2_take_131 : decode cX2_take 131 = .ok (.invokevirtual 186, 3) := dk_182 0 186 (dk_at dksX2_take_5 16 rfl rfl)
theorem dX2_take_134 : decode cX2_take 134 = .ok (.ifCond .eq 16, 3) := dk_153 0 16 (dk_at dksX2_take_5 19 rfl rfl)
theorem dX2_take_137 : decode cX2_take 137 = .ok (.aload_n 0, 1) := dk_42 (dk_at dksX2_take_5 22 rfl rfl)
theorem dX2_take_138 : decode cX2_take 138 = .ok (.dup, 1) := dk_89 (dk_at dksX2_take_5 23 rfl rfl)
theorem dX2_take_139 : decode cX2_take 139 = .ok (.getfield 167, 3) := dk_180 0 167 (dk_at dksX2_take_6 0 rfl rfl)
theorem dX2_take_142 : decode cX2_take 142 = .ok (.iconst 1, 1) := dk_4 (dk_at dksX2_take_6 3 rfl rfl)
theorem dX2_take_143 : decode cX2_take 143 = .ok (.iadd, 1) := dk_96 (dk_at dksX2_take_6 4 rfl rfl)
theorem dX2_take_144 : decode cX2_take 144 = .ok (.putfield 167, 3) := dk_181 0 167 (dk_at dksX2_take_6 5 rfl rfl)
theorem dX2_take_147 : decode cX2_take 147 = .ok (.goto (-29), 3) := dk_167 255 227 (dk_at dksX2_take_6 8 rfl rfl)
theorem dX2_take_150 : decode cX2_take 150 = .ok (.aload_n 0, 1) := dk_42 (dk_at dksX2_take_6 11 rfl rfl)
theorem dX2_take_151 : decode cX2_take 151 = .ok (.getfield 193, 3) := dk_180 0 193 (dk_at dksX2_take_6 12 rfl rfl)
theorem dX2_take_154 : decode cX2_take 154 = .ok (.iconst 2, 1) := dk_5 (dk_at dksX2_take_6 15 rfl rfl)
theorem dX2_take_155 : decode cX2_take 155 = .ok (.if_icmp .ne 27, 3) := dk_160 0 27 (dk_at dksX2_take_6 16 rfl rfl)
theorem dX2_take_158 : decode cX2_take 158 = .ok (.aload_n 0, 1) := dk_42 (dk_at dksX2_take_6 19 rfl rfl)
theorem dX2_take_159 : decode cX2_take 159 = .ok (.aload_n 0, 1) := dk_42 (dk_at dksX2_take_6 20 rfl rfl)
theorem dX2_take_160 : decode cX2_take 160 = .ok (.getfield 167, 3) := dk_180 0 167 (dk_at dksX2_take_6 21 rfl rfl)
theorem dX2_take_163 : decode cX2_take 163 = .ok (.invokevirtual 190, 3) := dk_182 0 190 (dk_at dksX2_take_7 0 rfl rfl)
theorem dX2_take_166 : decode cX2_take 166 = .ok (.ifCond .eq 16, 3) := dk_153 0 16 (dk_at dksX2_take_7 3 rfl rfl)
theorem dX2_take_169 : decode cX2_take 169 = .ok (.aload_n 0, 1) := dk_42 (dk_at dksX2_take_7 6 rfl rfl)
theorem dX2_take_170 : decode cX2_take 170 = .ok (.dup, 1) := dk_89 (dk_at dksX2_take_7 7 rfl rfl)
theorem dX2_take_171 : decode cX2_take 171 = .ok (.getfield 167, 3) := dk_180 0 167 (dk_at dksX2_take_7 8 rfl rfl)
theorem dX2_take_174 : decode cX2_take 174 = .ok (.iconst 1, 1) := dk_4 (dk_at dksX2_take_7 11 rfl rfl)
theorem dX2_take_175 : decode cX2_take 175 = .ok (.iadd, 1) := dk_96 (dk_at dksX2_take_7 12 rfl rfl)
theorem dX2_take_176 : decode cX2_take 176 = .ok (.putfield 167, 3) := dk_181 0 167 (dk_at dksX2_take_7 13 rfl rfl)
theorem dX2_take_179 : decode cX2_take 179 = .ok (.goto (-29), 3) := dk_167 255 227 (dk_at dksX2_take_7 16 rfl rfl)
theorem dX2_take_182 : decode cX2_take 182 = .ok (.aload_n 0, 1) := dk_42 (dk_at dksX2_take_7 19 rfl rfl)
theorem dX2_take_183 : decode cX2_take 183 = .ok (.getfield 193, 3) := dk_180 0 193 (dk_at dksX2_take_7 20 rfl rfl)
theorem dX2_take_186 : decode cX2_take 186 = .ok (.iconst 1, 1) := dk_4 (dk_at dksX2_take_7 23 rfl rfl)
theorem dX2_take_187 : decode cX2_take 187 = .ok (.if_icmp .ne 14, 3) := dk_160 0 14 (dk_at dksX2_take_8 0 rfl rfl)
theorem dX2_take_190 : decode cX2_take 190 = .ok (.aload_n 0, 1) := dk_42 (dk_at dksX2_take_8 3 rfl rfl)
theorem dX2_take_191 : decode cX2_take 191 = .ok (.aload_n 0, 1) := dk_42 (dk_at dksX2_take_8 4 rfl rfl)
theorem dX2_take_192 : decode cX2_take 192 = .ok (.invokevirtual 196, 3) := dk_182 0 196 (dk_at dksX2_take_8 5 rfl rfl)
theorem dX2_take_195 : decode cX2_take 195 = .ok (.putfield 182, 3) := dk_181 0 182 (dk_at dksX2_take_8 8 rfl rfl)
theorem dX2_take_198 : decode cX2_take 198 = .ok (.goto 49, 3) := dk_167 0 49 (dk_at dksX2_take_8 11 rfl rfl)
theorem dX2_take_201 : decode cX2_take 201 = .ok (.aload_n 0, 1) := dk_42 (dk_at dksX2_take_8 14 rfl rfl)
theorem dX2_take_202 : decode cX2_take 202 = .ok (.getfield 193, 3) := dk_180 0 193 (dk_at dksX2_take_8 15 rfl rfl)
theorem dX2_take_205 : decode cX2_take 205 = .ok (.iconst 2, 1) := dk_5 (dk_at dksX2_take_8 18 rfl rfl)
theorem dX2_take_206 : decode cX2_take 206 = .ok (.if_icmp .ne 10, 3) := dk_160 0 10 (dk_at dksX2_take_8 19 rfl rfl)
theorem dX2_take_209 : decode cX2_take 209 = .ok (.aload_n 0, 1) := dk_42 (dk_at dksX2_take_8 22 rfl rfl)
theorem dX2_take_210 : decode cX2_take 210 = .ok (.invokevirtual 199, 3) := dk_182 0 199 (dk_at dksX2_take_9 0 rfl rfl)
theorem dX2_take_213 : decode cX2_take 213 = .ok (.goto 34, 3) := dk_167 0 34 (dk_at dksX2_take_9 3 rfl rfl)
theorem dX2_take_216 : decode cX2_take 216 = .ok (.aload_n 0, 1) := dk_42 (dk_at dksX2_take_9 6 rfl rfl)
theorem dX2_take_217 : decode cX2_take 217 = .ok (.getfield 193, 3) := dk_180 0 193 (dk_at dksX2_take_9 7 rfl rfl)
theorem dX2_take_220 : decode cX2_take 220 = .ok (.iconst 3, 1) := dk_6 (dk_at dksX2_take_9 10 rfl rfl)
theorem dX2_take_221 : decode cX2_take 221 = .ok (.if_icmp .ne 26, 3) := dk_160 0 26 (dk_at dksX2_take_9 11 rfl rfl)
theorem dX2_take_224 : decode cX2_take 224 = .ok (.aload_n 0, 1) := dk_42 (dk_at dksX2_take_9 14 rfl rfl)
theorem dX2_take_225 : decode cX2_take 225 = .ok (.aload_n 0, 1) := dk_42 (dk_at dksX2_take_9 15 rfl rfl)
theorem dX2_take_226 : decode cX2_take 226 = .ok (.getfield 26, 3) := dk_180 0 26 (dk_at dksX2_take_9 16 rfl rfl)
theorem dX2_take_229 : decode cX2_take 229 = .ok (.aload_n 0, 1) := dk_42 (dk_at dksX2_take_9 19 rfl rfl)
theorem dX2_take_230 : decode cX2_take 230 = .ok (.getfield 150, 3) := dk_180 0 150 (dk_at dksX2_take_9 20 rfl rfl)
theorem dX2_take_233 : decode cX2_take 233 = .ok (.baload, 1) := dk_51 (dk_at dksX2_take_9 23 rfl rfl)
theorem dX2_take_234 : decode cX2_take 234 = .ok (.putfield 182, 3) := dk_181 0 182 (dk_at dksX2_take_10 0 rfl rfl)
theorem dX2_take_237 : decode cX2_take 237 = .ok (.aload_n 0, 1) := dk_42 (dk_at dksX2_take_10 3 rfl rfl)
theorem dX2_take_238 : decode cX2_take 238 = .ok (.dup, 1) := dk_89 (dk_at dksX2_take_10 4 rfl rfl)
theorem dX2_take_239 : decode cX2_take 239 = .ok (.getfield 167, 3) := dk_180 0 167 (dk_at dksX2_take_10 5 rfl rfl)
theorem dX2_take_242 : decode cX2_take 242 = .ok (.iconst 1, 1) := dk_4 (dk_at dksX2_take_10 8 rfl rfl)
theorem dX2_take_243 : decode cX2_take 243 = .ok (.iadd, 1) := dk_96 (dk_at dksX2_take_10 9 rfl rfl)
theorem dX2_take_244 : decode cX2_take 244 = .ok (.putfield 167, 3) := dk_181 0 167 (dk_at dksX2_take_10 10 rfl rfl)
theorem dX2_take_247 : decode cX2_take 247 = .ok (.return_, 1) := dk_177 (dk_at dksX2_take_10 13 rfl rfl)
abbrev cX2_isLetter : ByteArray := prog_14_method_4_code
def yX2_isLetter : MethodName := ⟨RX2, "isLetter", "(I)Z"⟩
def dkwX2_isLetter_1 : List UInt8 := [4, 167, 0, 4, 3, 172]
abbrev dktX2_isLetter_1 : List UInt8 := dkwX2_isLetter_1 ++ []
def dkwX2_isLetter_0 : List UInt8 := [27, 42, 180, 0, 160, 162, 0, 23, 42, 180, 0, 26, 27, 51, 16, 65, 16, 90, 184, 0, 163, 153, 0, 7]
abbrev dktX2_isLetter_0 : List UInt8 := dkwX2_isLetter_0 ++ dktX2_isLetter_1
theorem dksX2_isLetter_0 : cX2_isLetter.data.toList.drop 0 = dktX2_isLetter_0 := by decide +kernel
theorem dksX2_isLetter_1 : cX2_isLetter.data.toList.drop 24 = dktX2_isLetter_1 := dk_seg dksX2_isLetter_0 24 rfl rfl
theorem dX2_isLetter_0 : decode cX2_isLetter 0 = .ok (.iload_n 1, 1) := dk_27 (dk_at dksX2_isLetter_0 0 rfl rfl)
theorem dX2_isLetter_1 : decode cX2_isLetter 1 = .ok (.aload_n 0, 1) := dk_42 (dk_at dksX2_isLetter_0 1 rfl rfl)
theorem dX2_isLetter_2 : decode cX2_isLetter 2 = .ok (.getfield 160, 3) := dk_180 0 160 (dk_at dksX2_isLetter_0 2 rfl rfl)
theorem dX2_isLetter_5 : decode cX2_isLetter 5 = .ok (.if_icmp .ge 23, 3) := dk_162 0 23 (dk_at dksX2_isLetter_0 5 rfl rfl)
theorem dX2_isLetter_8 : decode cX2_isLetter 8 = .ok (.aload_n 0, 1) := dk_42 (dk_at dksX2_isLetter_0 8 rfl rfl)
theorem dX2_isLetter_9 : decode cX2_isLetter 9 = .ok (.getfield 26, 3) := dk_180 0 26 (dk_at dksX2_isLetter_0 9 rfl rfl)
theorem dX2_isLetter_12 : decode cX2_isLetter 12 = .ok (.iload_n 1, 1) := dk_27 (dk_at dksX2_isLetter_0 12 rfl rfl)
theorem dX2_isLetter_13 : decode cX2_isLetter 13 = .ok (.baload, 1) := dk_51 (dk_at dksX2_isLetter_0 13 rfl rfl)
theorem dX2_isLetter_14 : decode cX2_isLetter 14 = .ok (.bipush 65, 2) := dk_16 65 (dk_at dksX2_isLetter_0 14 rfl rfl)
theorem dX2_isLetter_16 : decode cX2_isLetter 16 = .ok (.bipush 90, 2) := dk_16 90 (dk_at dksX2_isLetter_0 16 rfl rfl)
theorem dX2_isLetter_18 : decode cX2_isLetter 18 = .ok (.invokestatic 163, 3) := dk_184 0 163 (dk_at dksX2_isLetter_0 18 rfl rfl)
theorem dX2_isLetter_21 : decode cX2_isLetter 21 = .ok (.ifCond .eq 7, 3) := dk_153 0 7 (dk_at dksX2_isLetter_0 21 rfl rfl)
theorem dX2_isLetter_24 : decode cX2_isLetter 24 = .ok (.iconst 1, 1) := dk_4 (dk_at dksX2_isLetter_1 0 rfl rfl)
theorem dX2_isLetter_25 : decode cX2_isLetter 25 = .ok (.goto 4, 3) := dk_167 0 4 (dk_at dksX2_isLetter_1 1 rfl rfl)
theorem dX2_isLetter_28 : decode cX2_isLetter 28 = .ok (.iconst 0, 1) := dk_3 (dk_at dksX2_isLetter_1 4 rfl rfl)
theorem dX2_isLetter_29 : decode cX2_isLetter 29 = .ok (.ireturn, 1) := dk_172 (dk_at dksX2_isLetter_1 5 rfl rfl)
abbrev cX2_isDigit : ByteArray := prog_14_method_5_code
def yX2_isDigit : MethodName := ⟨RX2, "isDigit", "(I)Z"⟩
def dkwX2_isDigit_1 : List UInt8 := [4, 167, 0, 4, 3, 172]
abbrev dktX2_isDigit_1 : List UInt8 := dkwX2_isDigit_1 ++ []
def dkwX2_isDigit_0 : List UInt8 := [27, 42, 180, 0, 160, 162, 0, 23, 42, 180, 0, 26, 27, 51, 16, 48, 16, 57, 184, 0, 163, 153, 0, 7]
abbrev dktX2_isDigit_0 : List UInt8 := dkwX2_isDigit_0 ++ dktX2_isDigit_1
theorem dksX2_isDigit_0 : cX2_isDigit.data.toList.drop 0 = dktX2_isDigit_0 := by decide +kernel
theorem dksX2_isDigit_1 : cX2_isDigit.data.toList.drop 24 = dktX2_isDigit_1 := dk_seg dksX2_isDigit_0 24 rfl rfl
theorem dX2_isDigit_0 : decode cX2_isDigit 0 = .ok (.iload_n 1, 1) := dk_27 (dk_at dksX2_isDigit_0 0 rfl rfl)
theorem dX2_isDigit_1 : decode cX2_isDigit 1 = .ok (.aload_n 0, 1) := dk_42 (dk_at dksX2_isDigit_0 1 rfl rfl)
theorem dX2_isDigit_2 : decode cX2_isDigit 2 = .ok (.getfield 160, 3) := dk_180 0 160 (dk_at dksX2_isDigit_0 2 rfl rfl)
theorem dX2_isDigit_5 : decode cX2_isDigit 5 = .ok (.if_icmp .ge 23, 3) := dk_162 0 23 (dk_at dksX2_isDigit_0 5 rfl rfl)
theorem dX2_isDigit_8 : decode cX2_isDigit 8 = .ok (.aload_n 0, 1) := dk_42 (dk_at dksX2_isDigit_0 8 rfl rfl)
theorem dX2_isDigit_9 : decode cX2_isDigit 9 = .ok (.getfield 26, 3) := dk_180 0 26 (dk_at dksX2_isDigit_0 9 rfl rfl)
theorem dX2_isDigit_12 : decode cX2_isDigit 12 = .ok (.iload_n 1, 1) := dk_27 (dk_at dksX2_isDigit_0 12 rfl rfl)
theorem dX2_isDigit_13 : decode cX2_isDigit 13 = .ok (.baload, 1) := dk_51 (dk_at dksX2_isDigit_0 13 rfl rfl)
theorem dX2_isDigit_14 : decode cX2_isDigit 14 = .ok (.bipush 48, 2) := dk_16 48 (dk_at dksX2_isDigit_0 14 rfl rfl)
theorem dX2_isDigit_16 : decode cX2_isDigit 16 = .ok (.bipush 57, 2) := dk_16 57 (dk_at dksX2_isDigit_0 16 rfl rfl)
theorem dX2_isDigit_18 : decode cX2_isDigit 18 = .ok (.invokestatic 163, 3) := dk_184 0 163 (dk_at dksX2_isDigit_0 18 rfl rfl)
theorem dX2_isDigit_21 : decode cX2_isDigit 21 = .ok (.ifCond .eq 7, 3) := dk_153 0 7 (dk_at dksX2_isDigit_0 21 rfl rfl)
theorem dX2_isDigit_24 : decode cX2_isDigit 24 = .ok (.iconst 1, 1) := dk_4 (dk_at dksX2_isDigit_1 0 rfl rfl)
theorem dX2_isDigit_25 : decode cX2_isDigit 25 = .ok (.goto 4, 3) := dk_167 0 4 (dk_at dksX2_isDigit_1 1 rfl rfl)
theorem dX2_isDigit_28 : decode cX2_isDigit 28 = .ok (.iconst 0, 1) := dk_3 (dk_at dksX2_isDigit_1 4 rfl rfl)
theorem dX2_isDigit_29 : decode cX2_isDigit 29 = .ok (.ireturn, 1) := dk_172 (dk_at dksX2_isDigit_1 5 rfl rfl)
abbrev cX2_wordHere : ByteArray := prog_14_method_7_code
def yX2_wordHere : MethodName := ⟨RX2, "wordHere", "()I"⟩
def dkwX2_wordHere_1 : List UInt8 := [27, 172, 132, 1, 1, 167, 255, 229, 2, 172]
abbrev dktX2_wordHere_1 : List UInt8 := dkwX2_wordHere_1 ++ []
def dkwX2_wordHere_0 : List UInt8 := [3, 60, 27, 42, 180, 0, 146, 190, 162, 0, 24, 42, 42, 180, 0, 146, 27, 50, 182, 0, 178, 153, 0, 5]
abbrev dktX2_wordHere_0 : List UInt8 := dkwX2_wordHere_0 ++ dktX2_wordHere_1
theorem dksX2_wordHere_0 : cX2_wordHere.data.toList.drop 0 = dktX2_wordHere_0 := by decide +kernel
theorem dksX2_wordHere_1 : cX2_wordHere.data.toList.drop 24 = dktX2_wordHere_1 := dk_seg dksX2_wordHere_0 24 rfl rfl
theorem dX2_wordHere_0 : decode cX2_wordHere 0 = .ok (.iconst 0, 1) := dk_3 (dk_at dksX2_wordHere_0 0 rfl rfl)
theorem dX2_wordHere_1 : decode cX2_wordHere 1 = .ok (.istore_n 1, 1) := dk_60 (dk_at dksX2_wordHere_0 1 rfl rfl)
theorem dX2_wordHere_2 : decode cX2_wordHere 2 = .ok (.iload_n 1, 1) := dk_27 (dk_at dksX2_wordHere_0 2 rfl rfl)
theorem dX2_wordHere_3 : decode cX2_wordHere 3 = .ok (.aload_n 0, 1) := dk_42 (dk_at dksX2_wordHere_0 3 rfl rfl)
theorem dX2_wordHere_4 : decode cX2_wordHere 4 = .ok (.getfield 146, 3) := dk_180 0 146 (dk_at dksX2_wordHere_0 4 rfl rfl)
theorem dX2_wordHere_7 : decode cX2_wordHere 7 = .ok (.arraylength, 1) := dk_190 (dk_at dksX2_wordHere_0 7 rfl rfl)
theorem dX2_wordHere_8 : decode cX2_wordHere 8 = .ok (.if_icmp .ge 24, 3) := dk_162 0 24 (dk_at dksX2_wordHere_0 8 rfl rfl)
theorem dX2_wordHere_11 : decode cX2_wordHere 11 = .ok (.aload_n 0, 1) := dk_42 (dk_at dksX2_wordHere_0 11 rfl rfl)
theorem dX2_wordHere_12 : decode cX2_wordHere 12 = .ok (.aload_n 0, 1) := dk_42 (dk_at dksX2_wordHere_0 12 rfl rfl)
theorem dX2_wordHere_13 : decode cX2_wordHere 13 = .ok (.getfield 146, 3) := dk_180 0 146 (dk_at dksX2_wordHere_0 13 rfl rfl)
theorem dX2_wordHere_16 : decode cX2_wordHere 16 = .ok (.iload_n 1, 1) := dk_27 (dk_at dksX2_wordHere_0 16 rfl rfl)
theorem dX2_wordHere_17 : decode cX2_wordHere 17 = .ok (.aaload, 1) := dk_50 (dk_at dksX2_wordHere_0 17 rfl rfl)
theorem dX2_wordHere_18 : decode cX2_wordHere 18 = .ok (.invokevirtual 178, 3) := dk_182 0 178 (dk_at dksX2_wordHere_0 18 rfl rfl)
theorem dX2_wordHere_21 : decode cX2_wordHere 21 = .ok (.ifCond .eq 5, 3) := dk_153 0 5 (dk_at dksX2_wordHere_0 21 rfl rfl)
theorem dX2_wordHere_24 : decode cX2_wordHere 24 = .ok (.iload_n 1, 1) := dk_27 (dk_at dksX2_wordHere_1 0 rfl rfl)
theorem dX2_wordHere_25 : decode cX2_wordHere 25 = .ok (.ireturn, 1) := dk_172 (dk_at dksX2_wordHere_1 1 rfl rfl)
theorem dX2_wordHere_26 : decode cX2_wordHere 26 = .ok (.iinc 1 1, 3) := dk_132 1 1 (dk_at dksX2_wordHere_1 2 rfl rfl)
theorem dX2_wordHere_29 : decode cX2_wordHere 29 = .ok (.goto (-27), 3) := dk_167 255 229 (dk_at dksX2_wordHere_1 5 rfl rfl)
theorem dX2_wordHere_32 : decode cX2_wordHere 32 = .ok (.iconst (-1), 1) := dk_2 (dk_at dksX2_wordHere_1 8 rfl rfl)
theorem dX2_wordHere_33 : decode cX2_wordHere 33 = .ok (.ireturn, 1) := dk_172 (dk_at dksX2_wordHere_1 9 rfl rfl)
abbrev cX2_isWord : ByteArray := prog_14_method_6_code
def yX2_isWord : MethodName := ⟨RX2, "isWord", "(Ljava/lang/String;)Z"⟩
def dkwX2_isWord_2 : List UInt8 := [159, 0, 5, 3, 172, 132, 2, 1, 167, 255, 224, 4, 172]
abbrev dktX2_isWord_2 : List UInt8 := dkwX2_isWord_2 ++ []
def dkwX2_isWord_1 : List UInt8 := [42, 180, 0, 167, 162, 0, 30, 42, 180, 0, 26, 28, 51, 43, 28, 42, 180, 0, 150, 100, 182, 0, 174]
abbrev dktX2_isWord_1 : List UInt8 := dkwX2_isWord_1 ++ dktX2_isWord_2
def dkwX2_isWord_0 : List UInt8 := [42, 180, 0, 167, 42, 180, 0, 150, 100, 43, 182, 0, 170, 159, 0, 5, 3, 172, 42, 180, 0, 150, 61, 28]
abbrev dktX2_isWord_0 : List UInt8 := dkwX2_isWord_0 ++ dktX2_isWord_1
theorem dksX2_isWord_0 : cX2_isWord.data.toList.drop 0 = dktX2_isWord_0 := by decide +kernel
theorem dksX2_isWord_1 : cX2_isWord.data.toList.drop 24 = dktX2_isWord_1 := dk_seg dksX2_isWord_0 24 rfl rfl
theorem dksX2_isWord_2 : cX2_isWord.data.toList.drop 47 = dktX2_isWord_2 := dk_seg dksX2_isWord_1 23 rfl rfl
theorem dX2_isWord_0 : decode cX2_isWord 0 = .ok (.aload_n 0, 1) := dk_42 (dk_at dksX2_isWord_0 0 rfl rfl)
theorem dX2_isWord_1 : decode cX2_isWord 1 = .ok (.getfield 167, 3) := dk_180 0 167 (dk_at dksX2_isWord_0 1 rfl rfl)
theorem dX2_isWord_4 : decode cX2_isWord 4 = .ok (.aload_n 0, 1) := dk_42 (dk_at dksX2_isWord_0 4 rfl rfl)
theorem dX2_isWord_5 : decode cX2_isWord 5 = .ok (.getfield 150, 3) := dk_180 0 150 (dk_at dksX2_isWord_0 5 rfl rfl)
theorem dX2_isWord_8 : decode cX2_isWord 8 = .ok (.isub, 1) := dk_100 (dk_at dksX2_isWord_0 8 rfl rfl)
theorem dX2_isWord_9 : decode cX2_isWord 9 = .ok (.aload_n 1, 1) := dk_43 (dk_at dksX2_isWord_0 9 rfl rfl)
theorem dX2_isWord_10 : decode cX2_isWord 10 = .ok (.invokevirtual 170, 3) := dk_182 0 170 (dk_at dksX2_isWord_0 10 rfl rfl)
theorem dX2_isWord_13 : decode cX2_isWord 13 = .ok (.if_icmp .eq 5, 3) := dk_159 0 5 (dk_at dksX2_isWord_0 13 rfl rfl)
theorem dX2_isWord_16 : decode cX2_isWord 16 = .ok (.iconst 0, 1) := dk_3 (dk_at dksX2_isWord_0 16 rfl rfl)
theorem dX2_isWord_17 : decode cX2_isWord 17 = .ok (.ireturn, 1) := dk_172 (dk_at dksX2_isWord_0 17 rfl rfl)
theorem dX2_isWord_18 : decode cX2_isWord 18 = .ok (.aload_n 0, 1) := dk_42 (dk_at dksX2_isWord_0 18 rfl rfl)
theorem dX2_isWord_19 : decode cX2_isWord 19 = .ok (.getfield 150, 3) := dk_180 0 150 (dk_at dksX2_isWord_0 19 rfl rfl)
theorem dX2_isWord_22 : decode cX2_isWord 22 = .ok (.istore_n 2, 1) := dk_61 (dk_at dksX2_isWord_0 22 rfl rfl)
theorem dX2_isWord_23 : decode cX2_isWord 23 = .ok (.iload_n 2, 1) := dk_28 (dk_at dksX2_isWord_0 23 rfl rfl)
theorem dX2_isWord_24 : decode cX2_isWord 24 = .ok (.aload_n 0, 1) := dk_42 (dk_at dksX2_isWord_1 0 rfl rfl)
theorem dX2_isWord_25 : decode cX2_isWord 25 = .ok (.getfield 167, 3) := dk_180 0 167 (dk_at dksX2_isWord_1 1 rfl rfl)
theorem dX2_isWord_28 : decode cX2_isWord 28 = .ok (.if_icmp .ge 30, 3) := dk_162 0 30 (dk_at dksX2_isWord_1 4 rfl rfl)
theorem dX2_isWord_31 : decode cX2_isWord 31 = .ok (.aload_n 0, 1) := dk_42 (dk_at dksX2_isWord_1 7 rfl rfl)
theorem dX2_isWord_32 : decode cX2_isWord 32 = .ok (.getfield 26, 3) := dk_180 0 26 (dk_at dksX2_isWord_1 8 rfl rfl)
theorem dX2_isWord_35 : decode cX2_isWord 35 = .ok (.iload_n 2, 1) := dk_28 (dk_at dksX2_isWord_1 11 rfl rfl)
theorem dX2_isWord_36 : decode cX2_isWord 36 = .ok (.baload, 1) := dk_51 (dk_at dksX2_isWord_1 12 rfl rfl)
theorem dX2_isWord_37 : decode cX2_isWord 37 = .ok (.aload_n 1, 1) := dk_43 (dk_at dksX2_isWord_1 13 rfl rfl)
theorem dX2_isWord_38 : decode cX2_isWord 38 = .ok (.iload_n 2, 1) := dk_28 (dk_at dksX2_isWord_1 14 rfl rfl)
theorem dX2_isWord_39 : decode cX2_isWord 39 = .ok (.aload_n 0, 1) := dk_42 (dk_at dksX2_isWord_1 15 rfl rfl)
theorem dX2_isWord_40 : decode cX2_isWord 40 = .ok (.getfield 150, 3) := dk_180 0 150 (dk_at dksX2_isWord_1 16 rfl rfl)
theorem dX2_isWord_43 : decode cX2_isWord 43 = .ok (.isub, 1) := dk_100 (dk_at dksX2_isWord_1 19 rfl rfl)
theorem dX2_isWord_44 : decode cX2_isWord 44 = .ok (.invokevirtual 174, 3) := dk_182 0 174 (dk_at dksX2_isWord_1 20 rfl rfl)
theorem dX2_isWord_47 : decode cX2_isWord 47 = .ok (.if_icmp .eq 5, 3) := dk_159 0 5 (dk_at dksX2_isWord_2 0 rfl rfl)
theorem dX2_isWord_50 : decode cX2_isWord 50 = .ok (.iconst 0, 1) := dk_3 (dk_at dksX2_isWord_2 3 rfl rfl)
theorem dX2_isWord_51 : decode cX2_isWord 51 = .ok (.ireturn, 1) := dk_172 (dk_at dksX2_isWord_2 4 rfl rfl)
theorem dX2_isWord_52 : decode cX2_isWord 52 = .ok (.iinc 2 1, 3) := dk_132 2 1 (dk_at dksX2_isWord_2 5 rfl rfl)
theorem dX2_isWord_55 : decode cX2_isWord 55 = .ok (.goto (-32), 3) := dk_167 255 224 (dk_at dksX2_isWord_2 8 rfl rfl)
theorem dX2_isWord_58 : decode cX2_isWord 58 = .ok (.iconst 1, 1) := dk_4 (dk_at dksX2_isWord_2 11 rfl rfl)
theorem dX2_isWord_59 : decode cX2_isWord 59 = .ok (.ireturn, 1) := dk_172 (dk_at dksX2_isWord_2 12 rfl rfl)
abbrev cX2_numberHere : ByteArray := prog_14_method_8_code
def yX2_numberHere : MethodName := ⟨RX2, "numberHere", "()V"⟩
def dkwX2_numberHere_3 : List UInt8 := [163, 0, 10, 42, 180, 0, 182, 167, 0, 5, 18, 185, 181, 0, 182, 177]
abbrev dktX2_numberHere_3 : List UInt8 := dkwX2_numberHere_3 ++ []
def dkwX2_numberHere_2 : List UInt8 := [16, 48, 100, 181, 0, 182, 132, 1, 1, 167, 255, 211, 42, 42, 180, 0, 167, 42, 180, 0, 150, 100, 8]
abbrev dktX2_numberHere_2 : List UInt8 := dkwX2_numberHere_2 ++ dktX2_numberHere_3
def dkwX2_numberHere_1 : List UInt8 := [180, 0, 150, 100, 8, 163, 0, 30, 42, 16, 10, 42, 180, 0, 182, 104, 42, 180, 0, 26, 27, 51, 96]
abbrev dktX2_numberHere_1 : List UInt8 := dkwX2_numberHere_1 ++ dktX2_numberHere_2
def dkwX2_numberHere_0 : List UInt8 := [42, 3, 181, 0, 182, 42, 180, 0, 150, 60, 27, 42, 180, 0, 167, 162, 0, 43, 42, 180, 0, 167, 42]
abbrev dktX2_numberHere_0 : List UInt8 := dkwX2_numberHere_0 ++ dktX2_numberHere_1
theorem dksX2_numberHere_0 : cX2_numberHere.data.toList.drop 0 = dktX2_numberHere_0 := by decide +kernel
theorem dksX2_numberHere_1 : cX2_numberHere.data.toList.drop 23 = dktX2_numberHere_1 := dk_seg dksX2_numberHere_0 23 rfl rfl
theorem dksX2_numberHere_2 : cX2_numberHere.data.toList.drop 46 = dktX2_numberHere_2 := dk_seg dksX2_numberHere_1 23 rfl rfl
theorem dksX2_numberHere_3 : cX2_numberHere.data.toList.drop 69 = dktX2_numberHere_3 := dk_seg dksX2_numberHere_2 23 rfl rfl
theorem dX2_numberHere_0 : decode cX2_numberHere 0 = .ok (.aload_n 0, 1) := dk_42 (dk_at dksX2_numberHere_0 0 rfl rfl)
theorem dX2_numberHere_1 : decode cX2_numberHere 1 = .ok (.iconst 0, 1) := dk_3 (dk_at dksX2_numberHere_0 1 rfl rfl)
theorem dX2_numberHere_2 : decode cX2_numberHere 2 = .ok (.putfield 182, 3) := dk_181 0 182 (dk_at dksX2_numberHere_0 2 rfl rfl)
theorem dX2_numberHere_5 : decode cX2_numberHere 5 = .ok (.aload_n 0, 1) := dk_42 (dk_at dksX2_numberHere_0 5 rfl rfl)
theorem dX2_numberHere_6 : decode cX2_numberHere 6 = .ok (.getfield 150, 3) := dk_180 0 150 (dk_at dksX2_numberHere_0 6 rfl rfl)
theorem dX2_numberHere_9 : decode cX2_numberHere 9 = .ok (.istore_n 1, 1) := dk_60 (dk_at dksX2_numberHere_0 9 rfl rfl)
theorem dX2_numberHere_10 : decode cX2_numberHere 10 = .ok (.iload_n 1, 1) := dk_27 (dk_at dksX2_numberHere_0 10 rfl rfl)
theorem dX2_numberHere_11 : decode cX2_numberHere 11 = .ok (.aload_n 0, 1) := dk_42 (dk_at dksX2_numberHere_0 11 rfl rfl)
theorem dX2_numberHere_12 : decode cX2_numberHere 12 = .ok (.getfield 167, 3) := dk_180 0 167 (dk_at dksX2_numberHere_0 12 rfl rfl)
theorem dX2_numberHere_15 : decode cX2_numberHere 15 = .ok (.if_icmp .ge 43, 3) := dk_162 0 43 (dk_at dksX2_numberHere_0 15 rfl rfl)
theorem dX2_numberHere_18 : decode cX2_numberHere 18 = .ok (.aload_n 0, 1) := dk_42 (dk_at dksX2_numberHere_0 18 rfl rfl)
theorem dX2_numberHere_19 : decode cX2_numberHere 19 = .ok (.getfield 167, 3) := dk_180 0 167 (dk_at dksX2_numberHere_0 19 rfl rfl)
theorem dX2_numberHere_22 : decode cX2_numberHere 22 = .ok (.aload_n 0, 1) := dk_42 (dk_at dksX2_numberHere_0 22 rfl rfl)
theorem dX2_numberHere_23 : decode cX2_numberHere 23 = .ok (.getfield 150, 3) := dk_180 0 150 (dk_at dksX2_numberHere_1 0 rfl rfl)
theorem dX2_numberHere_26 : decode cX2_numberHere 26 = .ok (.isub, 1) := dk_100 (dk_at dksX2_numberHere_1 3 rfl rfl)
theorem dX2_numberHere_27 : decode cX2_numberHere 27 = .ok (.iconst 5, 1) := dk_8 (dk_at dksX2_numberHere_1 4 rfl rfl)
theorem dX2_numberHere_28 : decode cX2_numberHere 28 = .ok (.if_icmp .gt 30, 3) := dk_163 0 30 (dk_at dksX2_numberHere_1 5 rfl rfl)
theorem dX2_numberHere_31 : decode cX2_numberHere 31 = .ok (.aload_n 0, 1) := dk_42 (dk_at dksX2_numberHere_1 8 rfl rfl)
theorem dX2_numberHere_32 : decode cX2_numberHere 32 = .ok (.bipush 10, 2) := dk_16 10 (dk_at dksX2_numberHere_1 9 rfl rfl)
theorem dX2_numberHere_34 : decode cX2_numberHere 34 = .ok (.aload_n 0, 1) := dk_42 (dk_at dksX2_numberHere_1 11 rfl rfl)
theorem dX2_numberHere_35 : decode cX2_numberHere 35 = .ok (.getfield 182, 3) := dk_180 0 182 (dk_at dksX2_numberHere_1 12 rfl rfl)
theorem dX2_numberHere_38 : decode cX2_numberHere 38 = .ok (.imul, 1) := dk_104 (dk_at dksX2_numberHere_1 15 rfl rfl)
theorem dX2_numberHere_39 : decode cX2_numberHere 39 = .ok (.aload_n 0, 1) := dk_42 (dk_at dksX2_numberHere_1 16 rfl rfl)
theorem dX2_numberHere_40 : decode cX2_numberHere 40 = .ok (.getfield 26, 3) := dk_180 0 26 (dk_at dksX2_numberHere_1 17 rfl rfl)
theorem dX2_numberHere_43 : decode cX2_numberHere 43 = .ok (.iload_n 1, 1) := dk_27 (dk_at dksX2_numberHere_1 20 rfl rfl)
theorem dX2_numberHere_44 : decode cX2_numberHere 44 = .ok (.baload, 1) := dk_51 (dk_at dksX2_numberHere_1 21 rfl rfl)
theorem dX2_numberHere_45 : decode cX2_numberHere 45 = .ok (.iadd, 1) := dk_96 (dk_at dksX2_numberHere_1 22 rfl rfl)
theorem dX2_numberHere_46 : decode cX2_numberHere 46 = .ok (.bipush 48, 2) := dk_16 48 (dk_at dksX2_numberHere_2 0 rfl rfl)
theorem dX2_numberHere_48 : decode cX2_numberHere 48 = .ok (.isub, 1) := dk_100 (dk_at dksX2_numberHere_2 2 rfl rfl)
theorem dX2_numberHere_49 : decode cX2_numberHere 49 = .ok (.putfield 182, 3) := dk_181 0 182 (dk_at dksX2_numberHere_2 3 rfl rfl)
theorem dX2_numberHere_52 : decode cX2_numberHere 52 = .ok (.iinc 1 1, 3) := dk_132 1 1 (dk_at dksX2_numberHere_2 6 rfl rfl)
theorem dX2_numberHere_55 : decode cX2_numberHere 55 = .ok (.goto (-45), 3) := dk_167 255 211 (dk_at dksX2_numberHere_2 9 rfl rfl)
theorem dX2_numberHere_58 : decode cX2_numberHere 58 = .ok (.aload_n 0, 1) := dk_42 (dk_at dksX2_numberHere_2 12 rfl rfl)
theorem dX2_numberHere_59 : decode cX2_numberHere 59 = .ok (.aload_n 0, 1) := dk_42 (dk_at dksX2_numberHere_2 13 rfl rfl)
theorem dX2_numberHere_60 : decode cX2_numberHere 60 = .ok (.getfield 167, 3) := dk_180 0 167 (dk_at dksX2_numberHere_2 14 rfl rfl)
theorem dX2_numberHere_63 : decode cX2_numberHere 63 = .ok (.aload_n 0, 1) := dk_42 (dk_at dksX2_numberHere_2 17 rfl rfl)
theorem dX2_numberHere_64 : decode cX2_numberHere 64 = .ok (.getfield 150, 3) := dk_180 0 150 (dk_at dksX2_numberHere_2 18 rfl rfl)
theorem dX2_numberHere_67 : decode cX2_numberHere 67 = .ok (.isub, 1) := dk_100 (dk_at dksX2_numberHere_2 21 rfl rfl)
theorem dX2_numberHere_68 : decode cX2_numberHere 68 = .ok (.iconst 5, 1) := dk_8 (dk_at dksX2_numberHere_2 22 rfl rfl)
theorem dX2_numberHere_69 : decode cX2_numberHere 69 = .ok (.if_icmp .gt 10, 3) := dk_163 0 10 (dk_at dksX2_numberHere_3 0 rfl rfl)
theorem dX2_numberHere_72 : decode cX2_numberHere 72 = .ok (.aload_n 0, 1) := dk_42 (dk_at dksX2_numberHere_3 3 rfl rfl)
theorem dX2_numberHere_73 : decode cX2_numberHere 73 = .ok (.getfield 182, 3) := dk_180 0 182 (dk_at dksX2_numberHere_3 4 rfl rfl)
theorem dX2_numberHere_76 : decode cX2_numberHere 76 = .ok (.goto 5, 3) := dk_167 0 5 (dk_at dksX2_numberHere_3 7 rfl rfl)
theorem dX2_numberHere_79 : decode cX2_numberHere 79 = .ok (.ldc 185, 2) := dk_18 185 (dk_at dksX2_numberHere_3 10 rfl rfl)
theorem dX2_numberHere_81 : decode cX2_numberHere 81 = .ok (.putfield 182, 3) := dk_181 0 182 (dk_at dksX2_numberHere_3 12 rfl rfl)
theorem dX2_numberHere_84 : decode cX2_numberHere 84 = .ok (.return_, 1) := dk_177 (dk_at dksX2_numberHere_3 15 rfl rfl)
abbrev cX2_clause : ByteArray := prog_14_method_34_code
def yX2_clause : MethodName := ⟨RX2, "clause", "()V"⟩
def dkwX2_clause_8 : List UInt8 := [42, 3, 6, 182, 1, 22, 181, 1, 158, 167, 0, 11, 42, 180, 1, 7, 4, 181, 1, 161, 177]
abbrev dktX2_clause_8 : List UInt8 := dkwX2_clause_8 ++ []
def dkwX2_clause_7 : List UInt8 := [182, 0, 209, 42, 180, 1, 7, 42, 4, 16, 20, 182, 1, 22, 181, 1, 155, 167, 0, 27, 42, 180, 1, 7]
abbrev dktX2_clause_7 : List UInt8 := dkwX2_clause_7 ++ dktX2_clause_8
def dkwX2_clause_6 : List UInt8 := [180, 1, 7, 42, 3, 16, 20, 182, 1, 22, 181, 1, 152, 42, 16, 8, 182, 0, 202, 153, 0, 48, 42]
abbrev dktX2_clause_6 : List UInt8 := dkwX2_clause_6 ++ dktX2_clause_7
def dkwX2_clause_5 : List UInt8 := [180, 1, 142, 182, 1, 146, 167, 0, 85, 42, 42, 180, 1, 7, 180, 1, 149, 182, 1, 146, 167, 0, 71, 42]
abbrev dktX2_clause_5 : List UInt8 := dkwX2_clause_5 ++ dktX2_clause_6
def dkwX2_clause_4 : List UInt8 := [42, 182, 1, 137, 167, 0, 110, 42, 180, 1, 7, 4, 181, 1, 139, 167, 0, 99, 42, 42, 180, 1, 7]
abbrev dktX2_clause_4 : List UInt8 := dkwX2_clause_4 ++ dktX2_clause_5
def dkwX2_clause_3 : List UInt8 := [170, 0, 0, 0, 0, 0, 0, 146, 0, 0, 0, 0, 0, 0, 0, 5, 0, 0, 0, 40, 0, 0, 0, 47, 0, 0, 0, 58, 0, 0, 0, 72, 0, 0, 0, 86, 0, 0, 0, 130]
abbrev dktX2_clause_3 : List UInt8 := dkwX2_clause_3 ++ dktX2_clause_4
def dkwX2_clause_2 : List UInt8 := [28, 4, 84, 28]
abbrev dktX2_clause_2 : List UInt8 := dkwX2_clause_2 ++ dktX2_clause_3
def dkwX2_clause_1 : List UInt8 := [177, 42, 42, 180, 0, 18, 28, 51, 154, 0, 7, 4, 167, 0, 4, 3, 27, 182, 0, 215, 42, 180, 0, 18]
abbrev dktX2_clause_1 : List UInt8 := dkwX2_clause_1 ++ dktX2_clause_2
def dkwX2_clause_0 : List UInt8 := [42, 180, 0, 150, 60, 42, 3, 16, 7, 182, 0, 222, 61, 28, 16, 7, 160, 0, 9, 42, 27, 182, 1, 134]
abbrev dktX2_clause_0 : List UInt8 := dkwX2_clause_0 ++ dktX2_clause_1
theorem dksX2_clause_0 : cX2_clause.data.toList.drop 0 = dktX2_clause_0 := by decide +kernel
theorem dksX2_clause_1 : cX2_clause.data.toList.drop 24 = dktX2_clause_1 := dk_seg dksX2_clause_0 24 rfl rfl
theorem dksX2_clause_2 : cX2_clause.data.toList.drop 48 = dktX2_clause_2 := dk_seg dksX2_clause_1 24 rfl rfl
theorem dksX2_clause_3 : cX2_clause.data.toList.drop 52 = dktX2_clause_3 := dk_seg dksX2_clause_2 4 rfl rfl
theorem dksX2_clause_4 : cX2_clause.data.toList.drop 92 = dktX2_clause_4 := dk_seg dksX2_clause_3 40 rfl rfl
theorem dksX2_clause_5 : cX2_clause.data.toList.drop 115 = dktX2_clause_5 := dk_seg dksX2_clause_4 23 rfl rfl
theorem dksX2_clause_6 : cX2_clause.data.toList.drop 139 = dktX2_clause_6 := dk_seg dksX2_clause_5 24 rfl rfl
theorem dksX2_clause_7 : cX2_clause.data.toList.drop 162 = dktX2_clause_7 := dk_seg dksX2_clause_6 23 rfl rfl
theorem dksX2_clause_8 : cX2_clause.data.toList.drop 186 = dktX2_clause_8 := dk_seg dksX2_clause_7 24 rfl rfl
theorem dX2_clause_0 : decode cX2_clause 0 = .ok (.aload_n 0, 1) := dk_42 (dk_at dksX2_clause_0 0 rfl rfl)
theorem dX2_clause_1 : decode cX2_clause 1 = .ok (.getfield 150, 3) := dk_180 0 150 (dk_at dksX2_clause_0 1 rfl rfl)
theorem dX2_clause_4 : decode cX2_clause 4 = .ok (.istore_n 1, 1) := dk_60 (dk_at dksX2_clause_0 4 rfl rfl)
theorem dX2_clause_5 : decode cX2_clause 5 = .ok (.aload_n 0, 1) := dk_42 (dk_at dksX2_clause_0 5 rfl rfl)
theorem dX2_clause_6 : decode cX2_clause 6 = .ok (.iconst 0, 1) := dk_3 (dk_at dksX2_clause_0 6 rfl rfl)
theorem dX2_clause_7 : decode cX2_clause 7 = .ok (.bipush 7, 2) := dk_16 7 (dk_at dksX2_clause_0 7 rfl rfl)
theorem dX2_clause_9 : decode cX2_clause 9 = .ok (.invokevirtual 222, 3) := dk_182 0 222 (dk_at dksX2_clause_0 9 rfl rfl)
theorem dX2_clause_12 : decode cX2_clause 12 = .ok (.istore_n 2, 1) := dk_61 (dk_at dksX2_clause_0 12 rfl rfl)
theorem dX2_clause_13 : decode cX2_clause 13 = .ok (.iload_n 2, 1) := dk_28 (dk_at dksX2_clause_0 13 rfl rfl)
theorem dX2_clause_14 : decode cX2_clause 14 = .ok (.bipush 7, 2) := dk_16 7 (dk_at dksX2_clause_0 14 rfl rfl)
theorem dX2_clause_16 : decode cX2_clause 16 = .ok (.if_icmp .ne 9, 3) := dk_160 0 9 (dk_at dksX2_clause_0 16 rfl rfl)
theorem dX2_clause_19 : decode cX2_clause 19 = .ok (.aload_n 0, 1) := dk_42 (dk_at dksX2_clause_0 19 rfl rfl)
theorem dX2_clause_20 : decode cX2_clause 20 = .ok (.iload_n 1, 1) := dk_27 (dk_at dksX2_clause_0 20 rfl rfl)
theorem dX2_clause_21 : decode cX2_clause 21 = .ok (.invokevirtual 390, 3) := dk_182 1 134 (dk_at dksX2_clause_0 21 rfl rfl)
theorem dX2_clause_24 : decode cX2_clause 24 = .ok (.return_, 1) := dk_177 (dk_at dksX2_clause_1 0 rfl rfl)
theorem dX2_clause_25 : decode cX2_clause 25 = .ok (.aload_n 0, 1) := dk_42 (dk_at dksX2_clause_1 1 rfl rfl)
theorem dX2_clause_26 : decode cX2_clause 26 = .ok (.aload_n 0, 1) := dk_42 (dk_at dksX2_clause_1 2 rfl rfl)
theorem dX2_clause_27 : decode cX2_clause 27 = .ok (.getfield 18, 3) := dk_180 0 18 (dk_at dksX2_clause_1 3 rfl rfl)
theorem dX2_clause_30 : decode cX2_clause 30 = .ok (.iload_n 2, 1) := dk_28 (dk_at dksX2_clause_1 6 rfl rfl)
theorem dX2_clause_31 : decode cX2_clause 31 = .ok (.baload, 1) := dk_51 (dk_at dksX2_clause_1 7 rfl rfl)
theorem dX2_clause_32 : decode cX2_clause 32 = .ok (.ifCond .ne 7, 3) := dk_154 0 7 (dk_at dksX2_clause_1 8 rfl rfl)
theorem dX2_clause_35 : decode cX2_clause 35 = .ok (.iconst 1, 1) := dk_4 (dk_at dksX2_clause_1 11 rfl rfl)
theorem dX2_clause_36 : decode cX2_clause 36 = .ok (.goto 4, 3) := dk_167 0 4 (dk_at dksX2_clause_1 12 rfl rfl)
theorem dX2_clause_39 : decode cX2_clause 39 = .ok (.iconst 0, 1) := dk_3 (dk_at dksX2_clause_1 15 rfl rfl)
theorem dX2_clause_40 : decode cX2_clause 40 = .ok (.iload_n 1, 1) := dk_27 (dk_at dksX2_clause_1 16 rfl rfl)
theorem dX2_clause_41 : decode cX2_clause 41 = .ok (.invokevirtual 215, 3) := dk_182 0 215 (dk_at dksX2_clause_1 17 rfl rfl)
theorem dX2_clause_44 : decode cX2_clause 44 = .ok (.aload_n 0, 1) := dk_42 (dk_at dksX2_clause_1 20 rfl rfl)
theorem dX2_clause_45 : decode cX2_clause 45 = .ok (.getfield 18, 3) := dk_180 0 18 (dk_at dksX2_clause_1 21 rfl rfl)
theorem dX2_clause_48 : decode cX2_clause 48 = .ok (.iload_n 2, 1) := dk_28 (dk_at dksX2_clause_2 0 rfl rfl)
theorem dX2_clause_49 : decode cX2_clause 49 = .ok (.iconst 1, 1) := dk_4 (dk_at dksX2_clause_2 1 rfl rfl)
theorem dX2_clause_50 : decode cX2_clause 50 = .ok (.bastore, 1) := dk_84 (dk_at dksX2_clause_2 2 rfl rfl)
theorem dX2_clause_51 : decode cX2_clause 51 = .ok (.iload_n 2, 1) := dk_28 (dk_at dksX2_clause_2 3 rfl rfl)
theorem dX2_clause_52 : decode cX2_clause 52 = .ok (.tableswitch 146 0 5 #[40, 47, 58, 72, 86, 130], 40) := by decide +kernel
theorem dX2_clause_92 : decode cX2_clause 92 = .ok (.aload_n 0, 1) := dk_42 (dk_at dksX2_clause_4 0 rfl rfl)
theorem dX2_clause_93 : decode cX2_clause 93 = .ok (.invokevirtual 393, 3) := dk_182 1 137 (dk_at dksX2_clause_4 1 rfl rfl)
theorem dX2_clause_96 : decode cX2_clause 96 = .ok (.goto 110, 3) := dk_167 0 110 (dk_at dksX2_clause_4 4 rfl rfl)
theorem dX2_clause_99 : decode cX2_clause 99 = .ok (.aload_n 0, 1) := dk_42 (dk_at dksX2_clause_4 7 rfl rfl)
theorem dX2_clause_100 : decode cX2_clause 100 = .ok (.getfield 263, 3) := dk_180 1 7 (dk_at dksX2_clause_4 8 rfl rfl)
theorem dX2_clause_103 : decode cX2_clause 103 = .ok (.iconst 1, 1) := dk_4 (dk_at dksX2_clause_4 11 rfl rfl)
theorem dX2_clause_104 : decode cX2_clause 104 = .ok (.putfield 395, 3) := dk_181 1 139 (dk_at dksX2_clause_4 12 rfl rfl)
theorem dX2_clause_107 : decode cX2_clause 107 = .ok (.goto 99, 3) := dk_167 0 99 (dk_at dksX2_clause_4 15 rfl rfl)
theorem dX2_clause_110 : decode cX2_clause 110 = .ok (.aload_n 0, 1) := dk_42 (dk_at dksX2_clause_4 18 rfl rfl)
theorem dX2_clause_111 : decode cX2_clause 111 = .ok (.aload_n 0, 1) := dk_42 (dk_at dksX2_clause_4 19 rfl rfl)
theorem dX2_clause_112 : decode cX2_clause 112 = .ok (.getfield 263, 3) := dk_180 1 7 (dk_at dksX2_clause_4 20 rfl rfl)
theorem dX2_clause_115 : decode cX2_clause 115 = .ok (.getfield 398, 3) := dk_180 1 142 (dk_at dksX2_clause_5 0 rfl rfl)
theorem dX2_clause_118 : decode cX2_clause 118 = .ok (.invokevirtual 402, 3) := dk_182 1 146 (dk_at dksX2_clause_5 3 rfl rfl)
theorem dX2_clause_121 : decode cX2_clause 121 = .ok (.goto 85, 3) := dk_167 0 85 (dk_at dksX2_clause_5 6 rfl rfl)
theorem dX2_clause_124 : decode cX2_clause 124 = .ok (.aload_n 0, 1) := dk_42 (dk_at dksX2_clause_5 9 rfl rfl)
theorem dX2_clause_125 : decode cX2_clause 125 = .ok (.aload_n 0, 1) := dk_42 (dk_at dksX2_clause_5 10 rfl rfl)
theorem dX2_clause_126 : decode cX2_clause 126 = .ok (.getfield 263, 3) := dk_180 1 7 (dk_at dksX2_clause_5 11 rfl rfl)
theorem dX2_clause_129 : decode cX2_clause 129 = .ok (.getfield 405, 3) := dk_180 1 149 (dk_at dksX2_clause_5 14 rfl rfl)
theorem dX2_clause_132 : decode cX2_clause 132 = .ok (.invokevirtual 402, 3) := dk_182 1 146 (dk_at dksX2_clause_5 17 rfl rfl)
theorem dX2_clause_135 : decode cX2_clause 135 = .ok (.goto 71, 3) := dk_167 0 71 (dk_at dksX2_clause_5 20 rfl rfl)
theorem dX2_clause_138 : decode cX2_clause 138 = .ok (.aload_n 0, 1) := dk_42 (dk_at dksX2_clause_5 23 rfl rfl)
theorem dX2_clause_139 : decode cX2_clause 139 = .ok (.getfield 263, 3) := dk_180 1 7 (dk_at dksX2_clause_6 0 rfl rfl)
theorem dX2_clause_142 : decode cX2_clause 142 = .ok (.aload_n 0, 1) := dk_42 (dk_at dksX2_clause_6 3 rfl rfl)
theorem dX2_clause_143 : decode cX2_clause 143 = .ok (.iconst 0, 1) := dk_3 (dk_at dksX2_clause_6 4 rfl rfl)
theorem dX2_clause_144 : decode cX2_clause 144 = .ok (.bipush 20, 2) := dk_16 20 (dk_at dksX2_clause_6 5 rfl rfl)
theorem dX2_clause_146 : decode cX2_clause 146 = .ok (.invokevirtual 278, 3) := dk_182 1 22 (dk_at dksX2_clause_6 7 rfl rfl)
theorem dX2_clause_149 : decode cX2_clause 149 = .ok (.putfield 408, 3) := dk_181 1 152 (dk_at dksX2_clause_6 10 rfl rfl)
theorem dX2_clause_152 : decode cX2_clause 152 = .ok (.aload_n 0, 1) := dk_42 (dk_at dksX2_clause_6 13 rfl rfl)
theorem dX2_clause_153 : decode cX2_clause 153 = .ok (.bipush 8, 2) := dk_16 8 (dk_at dksX2_clause_6 14 rfl rfl)
theorem dX2_clause_155 : decode cX2_clause 155 = .ok (.invokevirtual 202, 3) := dk_182 0 202 (dk_at dksX2_clause_6 16 rfl rfl)
theorem dX2_clause_158 : decode cX2_clause 158 = .ok (.ifCond .eq 48, 3) := dk_153 0 48 (dk_at dksX2_clause_6 19 rfl rfl)
theorem dX2_clause_161 : decode cX2_clause 161 = .ok (.aload_n 0, 1) := dk_42 (dk_at dksX2_clause_6 22 rfl rfl)
theorem dX2_clause_162 : decode cX2_clause 162 = .ok (.invokevirtual 209, 3) := dk_182 0 209 (dk_at dksX2_clause_7 0 rfl rfl)
theorem dX2_clause_165 : decode cX2_clause 165 = .ok (.aload_n 0, 1) := dk_42 (dk_at dksX2_clause_7 3 rfl rfl)
theorem dX2_clause_166 : decode cX2_clause 166 = .ok (.getfield 263, 3) := dk_180 1 7 (dk_at dksX2_clause_7 4 rfl rfl)
theorem dX2_clause_169 : decode cX2_clause 169 = .ok (.aload_n 0, 1) := dk_42 (dk_at dksX2_clause_7 7 rfl rfl)
theorem dX2_clause_170 : decode cX2_clause 170 = .ok (.iconst 1, 1) := dk_4 (dk_at dksX2_clause_7 8 rfl rfl)
theorem dX2_clause_171 : decode cX2_clause 171 = .ok (.bipush 20, 2) := dk_16 20 (dk_at dksX2_clause_7 9 rfl rfl)
theorem dX2_clause_173 : decode cX2_clause 173 = .ok (.invokevirtual 278, 3) := dk_182 1 22 (dk_at dksX2_clause_7 11 rfl rfl)
theorem dX2_clause_176 : decode cX2_clause 176 = .ok (.putfield 411, 3) := dk_181 1 155 (dk_at dksX2_clause_7 14 rfl rfl)
theorem dX2_clause_179 : decode cX2_clause 179 = .ok (.goto 27, 3) := dk_167 0 27 (dk_at dksX2_clause_7 17 rfl rfl)
theorem dX2_clause_182 : decode cX2_clause 182 = .ok (.aload_n 0, 1) := dk_42 (dk_at dksX2_clause_7 20 rfl rfl)
theorem dX2_clause_183 : decode cX2_clause 183 = .ok (.getfield 263, 3) := dk_180 1 7 (dk_at dksX2_clause_7 21 rfl rfl)
theorem dX2_clause_186 : decode cX2_clause 186 = .ok (.aload_n 0, 1) := dk_42 (dk_at dksX2_clause_8 0 rfl rfl)
theorem dX2_clause_187 : decode cX2_clause 187 = .ok (.iconst 0, 1) := dk_3 (dk_at dksX2_clause_8 1 rfl rfl)
theorem dX2_clause_188 : decode cX2_clause 188 = .ok (.iconst 3, 1) := dk_6 (dk_at dksX2_clause_8 2 rfl rfl)
theorem dX2_clause_189 : decode cX2_clause 189 = .ok (.invokevirtual 278, 3) := dk_182 1 22 (dk_at dksX2_clause_8 3 rfl rfl)
theorem dX2_clause_192 : decode cX2_clause 192 = .ok (.putfield 414, 3) := dk_181 1 158 (dk_at dksX2_clause_8 6 rfl rfl)
theorem dX2_clause_195 : decode cX2_clause 195 = .ok (.goto 11, 3) := dk_167 0 11 (dk_at dksX2_clause_8 9 rfl rfl)
theorem dX2_clause_198 : decode cX2_clause 198 = .ok (.aload_n 0, 1) := dk_42 (dk_at dksX2_clause_8 12 rfl rfl)
theorem dX2_clause_199 : decode cX2_clause 199 = .ok (.getfield 263, 3) := dk_180 1 7 (dk_at dksX2_clause_8 13 rfl rfl)
theorem dX2_clause_202 : decode cX2_clause 202 = .ok (.iconst 1, 1) := dk_4 (dk_at dksX2_clause_8 16 rfl rfl)
theorem dX2_clause_203 : decode cX2_clause 203 = .ok (.putfield 417, 3) := dk_181 1 161 (dk_at dksX2_clause_8 17 rfl rfl)
theorem dX2_clause_206 : decode cX2_clause 206 = .ok (.return_, 1) := dk_177 (dk_at dksX2_clause_8 20 rfl rfl)
abbrev cX2_oneOf : ByteArray := prog_14_method_14_code
def yX2_oneOf : MethodName := ⟨RX2, "oneOf", "(II)I"⟩
def dkwX2_oneOf_1 : List UInt8 := [191, 42, 180, 0, 182, 27, 100, 62, 42, 182, 0, 209, 29, 172]
abbrev dktX2_oneOf_1 : List UInt8 := dkwX2_oneOf_1 ++ []
def dkwX2_oneOf_0 : List UInt8 := [42, 180, 0, 193, 4, 160, 0, 15, 42, 180, 0, 182, 27, 28, 184, 0, 163, 154, 0, 8, 42, 182, 0, 205]
abbrev dktX2_oneOf_0 : List UInt8 := dkwX2_oneOf_0 ++ dktX2_oneOf_1
theorem dksX2_oneOf_0 : cX2_oneOf.data.toList.drop 0 = dktX2_oneOf_0 := by decide +kernel
theorem dksX2_oneOf_1 : cX2_oneOf.data.toList.drop 24 = dktX2_oneOf_1 := dk_seg dksX2_oneOf_0 24 rfl rfl
theorem dX2_oneOf_0 : decode cX2_oneOf 0 = .ok (.aload_n 0, 1) := dk_42 (dk_at dksX2_oneOf_0 0 rfl rfl)
theorem dX2_oneOf_1 : decode cX2_oneOf 1 = .ok (.getfield 193, 3) := dk_180 0 193 (dk_at dksX2_oneOf_0 1 rfl rfl)
theorem dX2_oneOf_4 : decode cX2_oneOf 4 = .ok (.iconst 1, 1) := dk_4 (dk_at dksX2_oneOf_0 4 rfl rfl)
theorem dX2_oneOf_5 : decode cX2_oneOf 5 = .ok (.if_icmp .ne 15, 3) := dk_160 0 15 (dk_at dksX2_oneOf_0 5 rfl rfl)
theorem dX2_oneOf_8 : decode cX2_oneOf 8 = .ok (.aload_n 0, 1) := dk_42 (dk_at dksX2_oneOf_0 8 rfl rfl)
theorem dX2_oneOf_9 : decode cX2_oneOf 9 = .ok (.getfield 182, 3) := dk_180 0 182 (dk_at dksX2_oneOf_0 9 rfl rfl)
theorem dX2_oneOf_12 : decode cX2_oneOf 12 = .ok (.iload_n 1, 1) := dk_27 (dk_at dksX2_oneOf_0 12 rfl rfl)
theorem dX2_oneOf_13 : decode cX2_oneOf 13 = .ok (.iload_n 2, 1) := dk_28 (dk_at dksX2_oneOf_0 13 rfl rfl)
theorem dX2_oneOf_14 : decode cX2_oneOf 14 = .ok (.invokestatic 163, 3) := dk_184 0 163 (dk_at dksX2_oneOf_0 14 rfl rfl)
theorem dX2_oneOf_17 : decode cX2_oneOf 17 = .ok (.ifCond .ne 8, 3) := dk_154 0 8 (dk_at dksX2_oneOf_0 17 rfl rfl)
theorem dX2_oneOf_20 : decode cX2_oneOf 20 = .ok (.aload_n 0, 1) := dk_42 (dk_at dksX2_oneOf_0 20 rfl rfl)
theorem dX2_oneOf_21 : decode cX2_oneOf 21 = .ok (.invokevirtual 205, 3) := dk_182 0 205 (dk_at dksX2_oneOf_0 21 rfl rfl)
theorem dX2_oneOf_24 : decode cX2_oneOf 24 = .ok (.athrow, 1) := dk_191 (dk_at dksX2_oneOf_1 0 rfl rfl)
theorem dX2_oneOf_25 : decode cX2_oneOf 25 = .ok (.aload_n 0, 1) := dk_42 (dk_at dksX2_oneOf_1 1 rfl rfl)
theorem dX2_oneOf_26 : decode cX2_oneOf 26 = .ok (.getfield 182, 3) := dk_180 0 182 (dk_at dksX2_oneOf_1 2 rfl rfl)
theorem dX2_oneOf_29 : decode cX2_oneOf 29 = .ok (.iload_n 1, 1) := dk_27 (dk_at dksX2_oneOf_1 5 rfl rfl)
theorem dX2_oneOf_30 : decode cX2_oneOf 30 = .ok (.isub, 1) := dk_100 (dk_at dksX2_oneOf_1 6 rfl rfl)
theorem dX2_oneOf_31 : decode cX2_oneOf 31 = .ok (.istore_n 3, 1) := dk_62 (dk_at dksX2_oneOf_1 7 rfl rfl)
theorem dX2_oneOf_32 : decode cX2_oneOf 32 = .ok (.aload_n 0, 1) := dk_42 (dk_at dksX2_oneOf_1 8 rfl rfl)
theorem dX2_oneOf_33 : decode cX2_oneOf 33 = .ok (.invokevirtual 209, 3) := dk_182 0 209 (dk_at dksX2_oneOf_1 9 rfl rfl)
theorem dX2_oneOf_36 : decode cX2_oneOf 36 = .ok (.iload_n 3, 1) := dk_29 (dk_at dksX2_oneOf_1 12 rfl rfl)
theorem dX2_oneOf_37 : decode cX2_oneOf 37 = .ok (.ireturn, 1) := dk_172 (dk_at dksX2_oneOf_1 13 rfl rfl)
abbrev cX2_bad : ByteArray := prog_14_method_2_code
def yX2_bad : MethodName := ⟨RX2, "bad", "()LElectionHouse$Fault;"⟩
def dkwX2_bad_0 : List UInt8 := [42, 180, 0, 12, 42, 180, 0, 150, 181, 0, 154, 42, 180, 0, 12, 176]
abbrev dktX2_bad_0 : List UInt8 := dkwX2_bad_0 ++ []
theorem dksX2_bad_0 : cX2_bad.data.toList.drop 0 = dktX2_bad_0 := by decide +kernel
theorem dX2_bad_0 : decode cX2_bad 0 = .ok (.aload_n 0, 1) := dk_42 (dk_at dksX2_bad_0 0 rfl rfl)
theorem dX2_bad_1 : decode cX2_bad 1 = .ok (.getfield 12, 3) := dk_180 0 12 (dk_at dksX2_bad_0 1 rfl rfl)
theorem dX2_bad_4 : decode cX2_bad 4 = .ok (.aload_n 0, 1) := dk_42 (dk_at dksX2_bad_0 4 rfl rfl)
theorem dX2_bad_5 : decode cX2_bad 5 = .ok (.getfield 150, 3) := dk_180 0 150 (dk_at dksX2_bad_0 5 rfl rfl)
theorem dX2_bad_8 : decode cX2_bad 8 = .ok (.putfield 154, 3) := dk_181 0 154 (dk_at dksX2_bad_0 8 rfl rfl)
theorem dX2_bad_11 : decode cX2_bad 11 = .ok (.aload_n 0, 1) := dk_42 (dk_at dksX2_bad_0 11 rfl rfl)
theorem dX2_bad_12 : decode cX2_bad 12 = .ok (.getfield 12, 3) := dk_180 0 12 (dk_at dksX2_bad_0 12 rfl rfl)
theorem dX2_bad_15 : decode cX2_bad 15 = .ok (.areturn, 1) := dk_176 (dk_at dksX2_bad_0 15 rfl rfl)
abbrev cX2_contest : ByteArray := prog_14_method_32_code
def yX2_contest : MethodName := ⟨RX2, "contest", "(I)V"⟩
def dkwX2_contest_7 : List UInt8 := [180, 1, 109, 16, 14, 160, 0, 8, 42, 44, 182, 1, 127, 177]
abbrev dktX2_contest_7 : List UInt8 := dkwX2_contest_7 ++ []
def dkwX2_contest_6 : List UInt8 := [180, 1, 109, 16, 13, 160, 0, 18, 44, 42, 16, 51, 16, 52, 182, 0, 222, 181, 1, 112, 167, 0, 17, 44]
abbrev dktX2_contest_6 : List UInt8 := dkwX2_contest_6 ++ dktX2_contest_7
def dkwX2_contest_5 : List UInt8 := [181, 1, 118, 44, 3, 181, 1, 121, 44, 3, 181, 1, 124, 44, 180, 1, 109, 16, 12, 159, 0, 12, 44]
abbrev dktX2_contest_5 : List UInt8 := dkwX2_contest_5 ++ dktX2_contest_6
def dkwX2_contest_4 : List UInt8 := [16, 31, 16, 45, 182, 0, 222, 181, 1, 109, 44, 3, 181, 1, 112, 44, 3, 181, 1, 115, 44, 4]
abbrev dktX2_contest_4 : List UInt8 := dkwX2_contest_4 ++ dktX2_contest_5
def dkwX2_contest_3 : List UInt8 := [16, 10, 182, 1, 100, 44, 42, 4, 16, 9, 182, 1, 22, 181, 1, 106, 42, 16, 11, 182, 1, 100, 44, 42]
abbrev dktX2_contest_3 : List UInt8 := dkwX2_contest_3 ++ dktX2_contest_4
def dkwX2_contest_2 : List UInt8 := [180, 1, 90, 4, 96, 181, 1, 90, 42, 16, 9, 182, 1, 100, 44, 42, 182, 1, 19, 181, 1, 102, 42]
abbrev dktX2_contest_2 : List UInt8 := dkwX2_contest_2 ++ dktX2_contest_3
def dkwX2_contest_1 : List UInt8 := [180, 1, 7, 180, 1, 93, 42, 180, 1, 7, 180, 1, 90, 8, 184, 1, 97, 50, 77, 42, 180, 1, 7, 89]
abbrev dktX2_contest_1 : List UInt8 := dkwX2_contest_1 ++ dktX2_contest_2
def dkwX2_contest_0 : List UInt8 := [42, 42, 180, 1, 7, 180, 1, 90, 16, 6, 162, 0, 7, 4, 167, 0, 4, 3, 27, 182, 0, 215, 42]
abbrev dktX2_contest_0 : List UInt8 := dkwX2_contest_0 ++ dktX2_contest_1
theorem dksX2_contest_0 : cX2_contest.data.toList.drop 0 = dktX2_contest_0 := by decide +kernel
theorem dksX2_contest_1 : cX2_contest.data.toList.drop 23 = dktX2_contest_1 := dk_seg dksX2_contest_0 23 rfl rfl
theorem dksX2_contest_2 : cX2_contest.data.toList.drop 47 = dktX2_contest_2 := dk_seg dksX2_contest_1 24 rfl rfl
theorem dksX2_contest_3 : cX2_contest.data.toList.drop 70 = dktX2_contest_3 := dk_seg dksX2_contest_2 23 rfl rfl
theorem dksX2_contest_4 : cX2_contest.data.toList.drop 94 = dktX2_contest_4 := dk_seg dksX2_contest_3 24 rfl rfl
theorem dksX2_contest_5 : cX2_contest.data.toList.drop 116 = dktX2_contest_5 := dk_seg dksX2_contest_4 22 rfl rfl
theorem dksX2_contest_6 : cX2_contest.data.toList.drop 139 = dktX2_contest_6 := dk_seg dksX2_contest_5 23 rfl rfl
theorem dksX2_contest_7 : cX2_contest.data.toList.drop 163 = dktX2_contest_7 := dk_seg dksX2_contest_6 24 rfl rfl
theorem dX2_contest_0 : decode cX2_contest 0 = .ok (.aload_n 0, 1) := dk_42 (dk_at dksX2_contest_0 0 rfl rfl)
theorem dX2_contest_1 : decode cX2_contest 1 = .ok (.aload_n 0, 1) := dk_42 (dk_at dksX2_contest_0 1 rfl rfl)
theorem dX2_contest_2 : decode cX2_contest 2 = .ok (.getfield 263, 3) := dk_180 1 7 (dk_at dksX2_contest_0 2 rfl rfl)
theorem dX2_contest_5 : decode cX2_contest 5 = .ok (.getfield 346, 3) := dk_180 1 90 (dk_at dksX2_contest_0 5 rfl rfl)
theorem dX2_contest_8 : decode cX2_contest 8 = .ok (.bipush 6, 2) := dk_16 6 (dk_at dksX2_contest_0 8 rfl rfl)
theorem dX2_contest_10 : decode cX2_contest 10 = .ok (.if_icmp .ge 7, 3) := dk_162 0 7 (dk_at dksX2_contest_0 10 rfl rfl)
theorem dX2_contest_13 : decode cX2_contest 13 = .ok (.iconst 1, 1) := dk_4 (dk_at dksX2_contest_0 13 rfl rfl)
theorem dX2_contest_14 : decode cX2_contest 14 = .ok (.goto 4, 3) := dk_167 0 4 (dk_at dksX2_contest_0 14 rfl rfl)
theorem dX2_contest_17 : decode cX2_contest 17 = .ok (.iconst 0, 1) := dk_3 (dk_at dksX2_contest_0 17 rfl rfl)
theorem dX2_contest_18 : decode cX2_contest 18 = .ok (.iload_n 1, 1) := dk_27 (dk_at dksX2_contest_0 18 rfl rfl)
theorem dX2_contest_19 : decode cX2_contest 19 = .ok (.invokevirtual 215, 3) := dk_182 0 215 (dk_at dksX2_contest_0 19 rfl rfl)
theorem dX2_contest_22 : decode cX2_contest 22 = .ok (.aload_n 0, 1) := dk_42 (dk_at dksX2_contest_0 22 rfl rfl)
theorem dX2_contest_23 : decode cX2_contest 23 = .ok (.getfield 263, 3) := dk_180 1 7 (dk_at dksX2_contest_1 0 rfl rfl)
theorem dX2_contest_26 : decode cX2_contest 26 = .ok (.getfield 349, 3) := dk_180 1 93 (dk_at dksX2_contest_1 3 rfl rfl)
theorem dX2_contest_29 : decode cX2_contest 29 = .ok (.aload_n 0, 1) := dk_42 (dk_at dksX2_contest_1 6 rfl rfl)
theorem dX2_contest_30 : decode cX2_contest 30 = .ok (.getfield 263, 3) := dk_180 1 7 (dk_at dksX2_contest_1 7 rfl rfl)
theorem dX2_contest_33 : decode cX2_contest 33 = .ok (.getfield 346, 3) := dk_180 1 90 (dk_at dksX2_contest_1 10 rfl rfl)
theorem dX2_contest_36 : decode cX2_contest 36 = .ok (.iconst 5, 1) := dk_8 (dk_at dksX2_contest_1 13 rfl rfl)
theorem dX2_contest_37 : decode cX2_contest 37 = .ok (.invokestatic 353, 3) := dk_184 1 97 (dk_at dksX2_contest_1 14 rfl rfl)
theorem dX2_contest_40 : decode cX2_contest 40 = .ok (.aaload, 1) := dk_50 (dk_at dksX2_contest_1 17 rfl rfl)
theorem dX2_contest_41 : decode cX2_contest 41 = .ok (.astore_n 2, 1) := dk_77 (dk_at dksX2_contest_1 18 rfl rfl)
theorem dX2_contest_42 : decode cX2_contest 42 = .ok (.aload_n 0, 1) := dk_42 (dk_at dksX2_contest_1 19 rfl rfl)
theorem dX2_contest_43 : decode cX2_contest 43 = .ok (.getfield 263, 3) := dk_180 1 7 (dk_at dksX2_contest_1 20 rfl rfl)
theorem dX2_contest_46 : decode cX2_contest 46 = .ok (.dup, 1) := dk_89 (dk_at dksX2_contest_1 23 rfl rfl)
theorem dX2_contest_47 : decode cX2_contest 47 = .ok (.getfield 346, 3) := dk_180 1 90 (dk_at dksX2_contest_2 0 rfl rfl)
theorem dX2_contest_50 : decode cX2_contest 50 = .ok (.iconst 1, 1) := dk_4 (dk_at dksX2_contest_2 3 rfl rfl)
theorem dX2_contest_51 : decode cX2_contest 51 = .ok (.iadd, 1) := dk_96 (dk_at dksX2_contest_2 4 rfl rfl)
theorem dX2_contest_52 : decode cX2_contest 52 = .ok (.putfield 346, 3) := dk_181 1 90 (dk_at dksX2_contest_2 5 rfl rfl)
theorem dX2_contest_55 : decode cX2_contest 55 = .ok (.aload_n 0, 1) := dk_42 (dk_at dksX2_contest_2 8 rfl rfl)
theorem dX2_contest_56 : decode cX2_contest 56 = .ok (.bipush 9, 2) := dk_16 9 (dk_at dksX2_contest_2 9 rfl rfl)
theorem dX2_contest_58 : decode cX2_contest 58 = .ok (.invokevirtual 356, 3) := dk_182 1 100 (dk_at dksX2_contest_2 11 rfl rfl)
theorem dX2_contest_61 : decode cX2_contest 61 = .ok (.aload_n 2, 1) := dk_44 (dk_at dksX2_contest_2 14 rfl rfl)
theorem dX2_contest_62 : decode cX2_contest 62 = .ok (.aload_n 0, 1) := dk_42 (dk_at dksX2_contest_2 15 rfl rfl)
theorem dX2_contest_63 : decode cX2_contest 63 = .ok (.invokevirtual 275, 3) := dk_182 1 19 (dk_at dksX2_contest_2 16 rfl rfl)
theorem dX2_contest_66 : decode cX2_contest 66 = .ok (.putfield 358, 3) := dk_181 1 102 (dk_at dksX2_contest_2 19 rfl rfl)
theorem dX2_contest_69 : decode cX2_contest 69 = .ok (.aload_n 0, 1) := dk_42 (dk_at dksX2_contest_2 22 rfl rfl)
theorem dX2_contest_70 : decode cX2_contest 70 = .ok (.bipush 10, 2) := dk_16 10 (dk_at dksX2_contest_3 0 rfl rfl)
theorem dX2_contest_72 : decode cX2_contest 72 = .ok (.invokevirtual 356, 3) := dk_182 1 100 (dk_at dksX2_contest_3 2 rfl rfl)
theorem dX2_contest_75 : decode cX2_contest 75 = .ok (.aload_n 2, 1) := dk_44 (dk_at dksX2_contest_3 5 rfl rfl)
theorem dX2_contest_76 : decode cX2_contest 76 = .ok (.aload_n 0, 1) := dk_42 (dk_at dksX2_contest_3 6 rfl rfl)
theorem dX2_contest_77 : decode cX2_contest 77 = .ok (.iconst 1, 1) := dk_4 (dk_at dksX2_contest_3 7 rfl rfl)
theorem dX2_contest_78 : decode cX2_contest 78 = .ok (.bipush 9, 2) := dk_16 9 (dk_at dksX2_contest_3 8 rfl rfl)
theorem dX2_contest_80 : decode cX2_contest 80 = .ok (.invokevirtual 278, 3) := dk_182 1 22 (dk_at dksX2_contest_3 10 rfl rfl)
theorem dX2_contest_83 : decode cX2_contest 83 = .ok (.putfield 362, 3) := dk_181 1 106 (dk_at dksX2_contest_3 13 rfl rfl)
theorem dX2_contest_86 : decode cX2_contest 86 = .ok (.aload_n 0, 1) := dk_42 (dk_at dksX2_contest_3 16 rfl rfl)
theorem dX2_contest_87 : decode cX2_contest 87 = .ok (.bipush 11, 2) := dk_16 11 (dk_at dksX2_contest_3 17 rfl rfl)
theorem dX2_contest_89 : decode cX2_contest 89 = .ok (.invokevirtual 356, 3) := dk_182 1 100 (dk_at dksX2_contest_3 19 rfl rfl)
theorem dX2_contest_92 : decode cX2_contest 92 = .ok (.aload_n 2, 1) := dk_44 (dk_at dksX2_contest_3 22 rfl rfl)
theorem dX2_contest_93 : decode cX2_contest 93 = .ok (.aload_n 0, 1) := dk_42 (dk_at dksX2_contest_3 23 rfl rfl)
theorem dX2_contest_94 : decode cX2_contest 94 = .ok (.bipush 31, 2) := dk_16 31 (dk_at dksX2_contest_4 0 rfl rfl)
theorem dX2_contest_96 : decode cX2_contest 96 = .ok (.bipush 45, 2) := dk_16 45 (dk_at dksX2_contest_4 2 rfl rfl)
theorem dX2_contest_98 : decode cX2_contest 98 = .ok (.invokevirtual 222, 3) := dk_182 0 222 (dk_at dksX2_contest_4 4 rfl rfl)
theorem dX2_contest_101 : decode cX2_contest 101 = .ok (.putfield 365, 3) := dk_181 1 109 (dk_at dksX2_contest_4 7 rfl rfl)
theorem dX2_contest_104 : decode cX2_contest 104 = .ok (.aload_n 2, 1) := dk_44 (dk_at dksX2_contest_4 10 rfl rfl)
theorem dX2_contest_105 : decode cX2_contest 105 = .ok (.iconst 0, 1) := dk_3 (dk_at dksX2_contest_4 11 rfl rfl)
theorem dX2_contest_106 : decode cX2_contest 106 = .ok (.putfield 368, 3) := dk_181 1 112 (dk_at dksX2_contest_4 12 rfl rfl)
theorem dX2_contest_109 : decode cX2_contest 109 = .ok (.aload_n 2, 1) := dk_44 (dk_at dksX2_contest_4 15 rfl rfl)
theorem dX2_contest_110 : decode cX2_contest 110 = .ok (.iconst 0, 1) := dk_3 (dk_at dksX2_contest_4 16 rfl rfl)
theorem dX2_contest_111 : decode cX2_contest 111 = .ok (.putfield 371, 3) := dk_181 1 115 (dk_at dksX2_contest_4 17 rfl rfl)
theorem dX2_contest_114 : decode cX2_contest 114 = .ok (.aload_n 2, 1) := dk_44 (dk_at dksX2_contest_4 20 rfl rfl)
theorem dX2_contest_115 : decode cX2_contest 115 = .ok (.iconst 1, 1) := dk_4 (dk_at dksX2_contest_4 21 rfl rfl)
theorem dX2_contest_116 : decode cX2_contest 116 = .ok (.putfield 374, 3) := dk_181 1 118 (dk_at dksX2_contest_5 0 rfl rfl)
theorem dX2_contest_119 : decode cX2_contest 119 = .ok (.aload_n 2, 1) := dk_44 (dk_at dksX2_contest_5 3 rfl rfl)
theorem dX2_contest_120 : decode cX2_contest 120 = .ok (.iconst 0, 1) := dk_3 (dk_at dksX2_contest_5 4 rfl rfl)
theorem dX2_contest_121 : decode cX2_contest 121 = .ok (.putfield 377, 3) := dk_181 1 121 (dk_at dksX2_contest_5 5 rfl rfl)
theorem dX2_contest_124 : decode cX2_contest 124 = .ok (.aload_n 2, 1) := dk_44 (dk_at dksX2_contest_5 8 rfl rfl)
theorem dX2_contest_125 : decode cX2_contest 125 = .ok (.iconst 0, 1) := dk_3 (dk_at dksX2_contest_5 9 rfl rfl)
theorem dX2_contest_126 : decode cX2_contest 126 = .ok (.putfield 380, 3) := dk_181 1 124 (dk_at dksX2_contest_5 10 rfl rfl)
theorem dX2_contest_129 : decode cX2_contest 129 = .ok (.aload_n 2, 1) := dk_44 (dk_at dksX2_contest_5 13 rfl rfl)
theorem dX2_contest_130 : decode cX2_contest 130 = .ok (.getfield 365, 3) := dk_180 1 109 (dk_at dksX2_contest_5 14 rfl rfl)
theorem dX2_contest_133 : decode cX2_contest 133 = .ok (.bipush 12, 2) := dk_16 12 (dk_at dksX2_contest_5 17 rfl rfl)
theorem dX2_contest_135 : decode cX2_contest 135 = .ok (.if_icmp .eq 12, 3) := dk_159 0 12 (dk_at dksX2_contest_5 19 rfl rfl)
theorem dX2_contest_138 : decode cX2_contest 138 = .ok (.aload_n 2, 1) := dk_44 (dk_at dksX2_contest_5 22 rfl rfl)
theorem dX2_contest_139 : decode cX2_contest 139 = .ok (.getfield 365, 3) := dk_180 1 109 (dk_at dksX2_contest_6 0 rfl rfl)
theorem dX2_contest_142 : decode cX2_contest 142 = .ok (.bipush 13, 2) := dk_16 13 (dk_at dksX2_contest_6 3 rfl rfl)
theorem dX2_contest_144 : decode cX2_contest 144 = .ok (.if_icmp .ne 18, 3) := dk_160 0 18 (dk_at dksX2_contest_6 5 rfl rfl)
theorem dX2_contest_147 : decode cX2_contest 147 = .ok (.aload_n 2, 1) := dk_44 (dk_at dksX2_contest_6 8 rfl rfl)
theorem dX2_contest_148 : decode cX2_contest 148 = .ok (.aload_n 0, 1) := dk_42 (dk_at dksX2_contest_6 9 rfl rfl)
theorem dX2_contest_149 : decode cX2_contest 149 = .ok (.bipush 51, 2) := dk_16 51 (dk_at dksX2_contest_6 10 rfl rfl)
theorem dX2_contest_151 : decode cX2_contest 151 = .ok (.bipush 52, 2) := dk_16 52 (dk_at dksX2_contest_6 12 rfl rfl)
theorem dX2_contest_153 : decode cX2_contest 153 = .ok (.invokevirtual 222, 3) := dk_182 0 222 (dk_at dksX2_contest_6 14 rfl rfl)
theorem dX2_contest_156 : decode cX2_contest 156 = .ok (.putfield 368, 3) := dk_181 1 112 (dk_at dksX2_contest_6 17 rfl rfl)
theorem dX2_contest_159 : decode cX2_contest 159 = .ok (.goto 17, 3) := dk_167 0 17 (dk_at dksX2_contest_6 20 rfl rfl)
theorem dX2_contest_162 : decode cX2_contest 162 = .ok (.aload_n 2, 1) := dk_44 (dk_at dksX2_contest_6 23 rfl rfl)
theorem dX2_contest_163 : decode cX2_contest 163 = .ok (.getfield 365, 3) := dk_180 1 109 (dk_at dksX2_contest_7 0 rfl rfl)
theorem dX2_contest_166 : decode cX2_contest 166 = .ok (.bipush 14, 2) := dk_16 14 (dk_at dksX2_contest_7 3 rfl rfl)
theorem dX2_contest_168 : decode cX2_contest 168 = .ok (.if_icmp .ne 8, 3) := dk_160 0 8 (dk_at dksX2_contest_7 5 rfl rfl)
theorem dX2_contest_171 : decode cX2_contest 171 = .ok (.aload_n 0, 1) := dk_42 (dk_at dksX2_contest_7 8 rfl rfl)
theorem dX2_contest_172 : decode cX2_contest 172 = .ok (.aload_n 2, 1) := dk_44 (dk_at dksX2_contest_7 9 rfl rfl)
theorem dX2_contest_173 : decode cX2_contest 173 = .ok (.invokevirtual 383, 3) := dk_182 1 127 (dk_at dksX2_contest_7 10 rfl rfl)
theorem dX2_contest_176 : decode cX2_contest 176 = .ok (.return_, 1) := dk_177 (dk_at dksX2_contest_7 13 rfl rfl)
abbrev cX2_note : ByteArray := prog_14_method_3_code
def yX2_note : MethodName := ⟨RX2, "note", "(ZI)V"⟩
def dkwX2_note_1 : List UInt8 := [181, 0, 157, 177]
abbrev dktX2_note_1 : List UInt8 := dkwX2_note_1 ++ []
def dkwX2_note_0 : List UInt8 := [27, 154, 0, 24, 42, 180, 0, 157, 2, 159, 0, 11, 28, 42, 180, 0, 157, 162, 0, 8, 42, 28]
abbrev dktX2_note_0 : List UInt8 := dkwX2_note_0 ++ dktX2_note_1
theorem dksX2_note_0 : cX2_note.data.toList.drop 0 = dktX2_note_0 := by decide +kernel
theorem dksX2_note_1 : cX2_note.data.toList.drop 22 = dktX2_note_1 := dk_seg dksX2_note_0 22 rfl rfl
theorem dX2_note_0 : decode cX2_note 0 = .ok (.iload_n 1, 1) := dk_27 (dk_at dksX2_note_0 0 rfl rfl)
theorem dX2_note_1 : decode cX2_note 1 = .ok (.ifCond .ne 24, 3) := dk_154 0 24 (dk_at dksX2_note_0 1 rfl rfl)
theorem dX2_note_4 : decode cX2_note 4 = .ok (.aload_n 0, 1) := dk_42 (dk_at dksX2_note_0 4 rfl rfl)
theorem dX2_note_5 : decode cX2_note 5 = .ok (.getfield 157, 3) := dk_180 0 157 (dk_at dksX2_note_0 5 rfl rfl)
theorem dX2_note_8 : decode cX2_note 8 = .ok (.iconst (-1), 1) := dk_2 (dk_at dksX2_note_0 8 rfl rfl)
theorem dX2_note_9 : decode cX2_note 9 = .ok (.if_icmp .eq 11, 3) := dk_159 0 11 (dk_at dksX2_note_0 9 rfl rfl)
theorem dX2_note_12 : decode cX2_note 12 = .ok (.iload_n 2, 1) := dk_28 (dk_at dksX2_note_0 12 rfl rfl)
theorem dX2_note_13 : decode cX2_note 13 = .ok (.aload_n 0, 1) := dk_42 (dk_at dksX2_note_0 13 rfl rfl)
theorem dX2_note_14 : decode cX2_note 14 = .ok (.getfield 157, 3) := dk_180 0 157 (dk_at dksX2_note_0 14 rfl rfl)
theorem dX2_note_17 : decode cX2_note 17 = .ok (.if_icmp .ge 8, 3) := dk_162 0 8 (dk_at dksX2_note_0 17 rfl rfl)
theorem dX2_note_20 : decode cX2_note 20 = .ok (.aload_n 0, 1) := dk_42 (dk_at dksX2_note_0 20 rfl rfl)
theorem dX2_note_21 : decode cX2_note 21 = .ok (.iload_n 2, 1) := dk_28 (dk_at dksX2_note_0 21 rfl rfl)
theorem dX2_note_22 : decode cX2_note 22 = .ok (.putfield 157, 3) := dk_181 0 157 (dk_at dksX2_note_1 0 rfl rfl)
theorem dX2_note_25 : decode cX2_note 25 = .ok (.return_, 1) := dk_177 (dk_at dksX2_note_1 3 rfl rfl)
abbrev cX2_word : ByteArray := prog_14_method_12_code
def yX2_word : MethodName := ⟨RX2, "word", "(I)V"⟩
def dkwX2_word_0 : List UInt8 := [42, 27, 182, 0, 202, 154, 0, 8, 42, 182, 0, 205, 191, 42, 182, 0, 209, 177]
abbrev dktX2_word_0 : List UInt8 := dkwX2_word_0 ++ []
theorem dksX2_word_0 : cX2_word.data.toList.drop 0 = dktX2_word_0 := by decide +kernel
theorem dX2_word_0 : decode cX2_word 0 = .ok (.aload_n 0, 1) := dk_42 (dk_at dksX2_word_0 0 rfl rfl)
theorem dX2_word_1 : decode cX2_word 1 = .ok (.iload_n 1, 1) := dk_27 (dk_at dksX2_word_0 1 rfl rfl)
theorem dX2_word_2 : decode cX2_word 2 = .ok (.invokevirtual 202, 3) := dk_182 0 202 (dk_at dksX2_word_0 2 rfl rfl)
theorem dX2_word_5 : decode cX2_word 5 = .ok (.ifCond .ne 8, 3) := dk_154 0 8 (dk_at dksX2_word_0 5 rfl rfl)
theorem dX2_word_8 : decode cX2_word 8 = .ok (.aload_n 0, 1) := dk_42 (dk_at dksX2_word_0 8 rfl rfl)
theorem dX2_word_9 : decode cX2_word 9 = .ok (.invokevirtual 205, 3) := dk_182 0 205 (dk_at dksX2_word_0 9 rfl rfl)
theorem dX2_word_12 : decode cX2_word 12 = .ok (.athrow, 1) := dk_191 (dk_at dksX2_word_0 12 rfl rfl)
theorem dX2_word_13 : decode cX2_word 13 = .ok (.aload_n 0, 1) := dk_42 (dk_at dksX2_word_0 13 rfl rfl)
theorem dX2_word_14 : decode cX2_word 14 = .ok (.invokevirtual 209, 3) := dk_182 0 209 (dk_at dksX2_word_0 14 rfl rfl)
theorem dX2_word_17 : decode cX2_word 17 = .ok (.return_, 1) := dk_177 (dk_at dksX2_word_0 17 rfl rfl)
abbrev cX2_isWordHere : ByteArray := prog_14_method_10_code
def yX2_isWordHere : MethodName := ⟨RX2, "isWordHere", "(I)Z"⟩
def dkwX2_isWordHere_0 : List UInt8 := [42, 180, 0, 193, 4, 160, 0, 15, 42, 180, 0, 182, 27, 160, 0, 7, 4, 167, 0, 4, 3, 172]
abbrev dktX2_isWordHere_0 : List UInt8 := dkwX2_isWordHere_0 ++ []
theorem dksX2_isWordHere_0 : cX2_isWordHere.data.toList.drop 0 = dktX2_isWordHere_0 := by decide +kernel
theorem dX2_isWordHere_0 : decode cX2_isWordHere 0 = .ok (.aload_n 0, 1) := dk_42 (dk_at dksX2_isWordHere_0 0 rfl rfl)
theorem dX2_isWordHere_1 : decode cX2_isWordHere 1 = .ok (.getfield 193, 3) := dk_180 0 193 (dk_at dksX2_isWordHere_0 1 rfl rfl)
theorem dX2_isWordHere_4 : decode cX2_isWordHere 4 = .ok (.iconst 1, 1) := dk_4 (dk_at dksX2_isWordHere_0 4 rfl rfl)
theorem dX2_isWordHere_5 : decode cX2_isWordHere 5 = .ok (.if_icmp .ne 15, 3) := dk_160 0 15 (dk_at dksX2_isWordHere_0 5 rfl rfl)
theorem dX2_isWordHere_8 : decode cX2_isWordHere 8 = .ok (.aload_n 0, 1) := dk_42 (dk_at dksX2_isWordHere_0 8 rfl rfl)
theorem dX2_isWordHere_9 : decode cX2_isWordHere 9 = .ok (.getfield 182, 3) := dk_180 0 182 (dk_at dksX2_isWordHere_0 9 rfl rfl)
theorem dX2_isWordHere_12 : decode cX2_isWordHere 12 = .ok (.iload_n 1, 1) := dk_27 (dk_at dksX2_isWordHere_0 12 rfl rfl)
theorem dX2_isWordHere_13 : decode cX2_isWordHere 13 = .ok (.if_icmp .ne 7, 3) := dk_160 0 7 (dk_at dksX2_isWordHere_0 13 rfl rfl)
theorem dX2_isWordHere_16 : decode cX2_isWordHere 16 = .ok (.iconst 1, 1) := dk_4 (dk_at dksX2_isWordHere_0 16 rfl rfl)
theorem dX2_isWordHere_17 : decode cX2_isWordHere 17 = .ok (.goto 4, 3) := dk_167 0 4 (dk_at dksX2_isWordHere_0 17 rfl rfl)
theorem dX2_isWordHere_20 : decode cX2_isWordHere 20 = .ok (.iconst 0, 1) := dk_3 (dk_at dksX2_isWordHere_0 20 rfl rfl)
theorem dX2_isWordHere_21 : decode cX2_isWordHere 21 = .ok (.ireturn, 1) := dk_172 (dk_at dksX2_isWordHere_0 21 rfl rfl)
abbrev cX2_area : ByteArray := prog_14_method_22_code
def yX2_area : MethodName := ⟨RX2, "area", "()I"⟩
def dkwX2_area_1 : List UInt8 := [172]
abbrev dktX2_area_1 : List UInt8 := dkwX2_area_1 ++ []
def dkwX2_area_0 : List UInt8 := [42, 180, 0, 150, 60, 42, 182, 0, 219, 61, 42, 42, 180, 0, 30, 28, 182, 1, 50, 27, 182, 0, 215, 28]
abbrev dktX2_area_0 : List UInt8 := dkwX2_area_0 ++ dktX2_area_1
theorem dksX2_area_0 : cX2_area.data.toList.drop 0 = dktX2_area_0 := by decide +kernel
theorem dksX2_area_1 : cX2_area.data.toList.drop 24 = dktX2_area_1 := dk_seg dksX2_area_0 24 rfl rfl
theorem dX2_area_0 : decode cX2_area 0 = .ok (.aload_n 0, 1) := dk_42 (dk_at dksX2_area_0 0 rfl rfl)
theorem dX2_area_1 : decode cX2_area 1 = .ok (.getfield 150, 3) := dk_180 0 150 (dk_at dksX2_area_0 1 rfl rfl)
theorem dX2_area_4 : decode cX2_area 4 = .ok (.istore_n 1, 1) := dk_60 (dk_at dksX2_area_0 4 rfl rfl)
theorem dX2_area_5 : decode cX2_area 5 = .ok (.aload_n 0, 1) := dk_42 (dk_at dksX2_area_0 5 rfl rfl)
theorem dX2_area_6 : decode cX2_area 6 = .ok (.invokevirtual 219, 3) := dk_182 0 219 (dk_at dksX2_area_0 6 rfl rfl)
theorem dX2_area_9 : decode cX2_area 9 = .ok (.istore_n 2, 1) := dk_61 (dk_at dksX2_area_0 9 rfl rfl)
theorem dX2_area_10 : decode cX2_area 10 = .ok (.aload_n 0, 1) := dk_42 (dk_at dksX2_area_0 10 rfl rfl)
theorem dX2_area_11 : decode cX2_area 11 = .ok (.aload_n 0, 1) := dk_42 (dk_at dksX2_area_0 11 rfl rfl)
theorem dX2_area_12 : decode cX2_area 12 = .ok (.getfield 30, 3) := dk_180 0 30 (dk_at dksX2_area_0 12 rfl rfl)
theorem dX2_area_15 : decode cX2_area 15 = .ok (.iload_n 2, 1) := dk_28 (dk_at dksX2_area_0 15 rfl rfl)
theorem dX2_area_16 : decode cX2_area 16 = .ok (.invokevirtual 306, 3) := dk_182 1 50 (dk_at dksX2_area_0 16 rfl rfl)
theorem dX2_area_19 : decode cX2_area 19 = .ok (.iload_n 1, 1) := dk_27 (dk_at dksX2_area_0 19 rfl rfl)
theorem dX2_area_20 : decode cX2_area 20 = .ok (.invokevirtual 215, 3) := dk_182 0 215 (dk_at dksX2_area_0 20 rfl rfl)
theorem dX2_area_23 : decode cX2_area 23 = .ok (.iload_n 2, 1) := dk_28 (dk_at dksX2_area_0 23 rfl rfl)
theorem dX2_area_24 : decode cX2_area 24 = .ok (.ireturn, 1) := dk_172 (dk_at dksX2_area_1 0 rfl rfl)
abbrev cX2_number : ByteArray := prog_14_method_15_code
def yX2_number : MethodName := ⟨RX2, "number", "()I"⟩
def dkwX2_number_2 : List UInt8 := [27, 172]
abbrev dktX2_number_2 : List UInt8 := dkwX2_number_2 ++ []
def dkwX2_number_1 : List UInt8 := [163, 0, 7, 4, 167, 0, 4, 3, 42, 180, 0, 150, 182, 0, 215, 42, 180, 0, 182, 60, 42, 182, 0, 209]
abbrev dktX2_number_1 : List UInt8 := dkwX2_number_1 ++ dktX2_number_2
def dkwX2_number_0 : List UInt8 := [42, 180, 0, 193, 5, 159, 0, 8, 42, 182, 0, 205, 191, 42, 42, 180, 0, 167, 42, 180, 0, 150, 100, 8]
abbrev dktX2_number_0 : List UInt8 := dkwX2_number_0 ++ dktX2_number_1
theorem dksX2_number_0 : cX2_number.data.toList.drop 0 = dktX2_number_0 := by decide +kernel
theorem dksX2_number_1 : cX2_number.data.toList.drop 24 = dktX2_number_1 := dk_seg dksX2_number_0 24 rfl rfl
theorem dksX2_number_2 : cX2_number.data.toList.drop 48 = dktX2_number_2 := dk_seg dksX2_number_1 24 rfl rfl
theorem dX2_number_0 : decode cX2_number 0 = .ok (.aload_n 0, 1) := dk_42 (dk_at dksX2_number_0 0 rfl rfl)
theorem dX2_number_1 : decode cX2_number 1 = .ok (.getfield 193, 3) := dk_180 0 193 (dk_at dksX2_number_0 1 rfl rfl)
theorem dX2_number_4 : decode cX2_number 4 = .ok (.iconst 2, 1) := dk_5 (dk_at dksX2_number_0 4 rfl rfl)
theorem dX2_number_5 : decode cX2_number 5 = .ok (.if_icmp .eq 8, 3) := dk_159 0 8 (dk_at dksX2_number_0 5 rfl rfl)
theorem dX2_number_8 : decode cX2_number 8 = .ok (.aload_n 0, 1) := dk_42 (dk_at dksX2_number_0 8 rfl rfl)
theorem dX2_number_9 : decode cX2_number 9 = .ok (.invokevirtual 205, 3) := dk_182 0 205 (dk_at dksX2_number_0 9 rfl rfl)
theorem dX2_number_12 : decode cX2_number 12 = .ok (.athrow, 1) := dk_191 (dk_at dksX2_number_0 12 rfl rfl)
theorem dX2_number_13 : decode cX2_number 13 = .ok (.aload_n 0, 1) := dk_42 (dk_at dksX2_number_0 13 rfl rfl)
theorem dX2_number_14 : decode cX2_number 14 = .ok (.aload_n 0, 1) := dk_42 (dk_at dksX2_number_0 14 rfl rfl)
theorem dX2_number_15 : decode cX2_number 15 = .ok (.getfield 167, 3) := dk_180 0 167 (dk_at dksX2_number_0 15 rfl rfl)
theorem dX2_number_18 : decode cX2_number 18 = .ok (.aload_n 0, 1) := dk_42 (dk_at dksX2_number_0 18 rfl rfl)
theorem dX2_number_19 : decode cX2_number 19 = .ok (.getfield 150, 3) := dk_180 0 150 (dk_at dksX2_number_0 19 rfl rfl)
theorem dX2_number_22 : decode cX2_number 22 = .ok (.isub, 1) := dk_100 (dk_at dksX2_number_0 22 rfl rfl)
theorem dX2_number_23 : decode cX2_number 23 = .ok (.iconst 5, 1) := dk_8 (dk_at dksX2_number_0 23 rfl rfl)
theorem dX2_number_24 : decode cX2_number 24 = .ok (.if_icmp .gt 7, 3) := dk_163 0 7 (dk_at dksX2_number_1 0 rfl rfl)
theorem dX2_number_27 : decode cX2_number 27 = .ok (.iconst 1, 1) := dk_4 (dk_at dksX2_number_1 3 rfl rfl)
theorem dX2_number_28 : decode cX2_number 28 = .ok (.goto 4, 3) := dk_167 0 4 (dk_at dksX2_number_1 4 rfl rfl)
theorem dX2_number_31 : decode cX2_number 31 = .ok (.iconst 0, 1) := dk_3 (dk_at dksX2_number_1 7 rfl rfl)
theorem dX2_number_32 : decode cX2_number 32 = .ok (.aload_n 0, 1) := dk_42 (dk_at dksX2_number_1 8 rfl rfl)
theorem dX2_number_33 : decode cX2_number 33 = .ok (.getfield 150, 3) := dk_180 0 150 (dk_at dksX2_number_1 9 rfl rfl)
theorem dX2_number_36 : decode cX2_number 36 = .ok (.invokevirtual 215, 3) := dk_182 0 215 (dk_at dksX2_number_1 12 rfl rfl)
theorem dX2_number_39 : decode cX2_number 39 = .ok (.aload_n 0, 1) := dk_42 (dk_at dksX2_number_1 15 rfl rfl)
theorem dX2_number_40 : decode cX2_number 40 = .ok (.getfield 182, 3) := dk_180 0 182 (dk_at dksX2_number_1 16 rfl rfl)
theorem dX2_number_43 : decode cX2_number 43 = .ok (.istore_n 1, 1) := dk_60 (dk_at dksX2_number_1 19 rfl rfl)
theorem dX2_number_44 : decode cX2_number 44 = .ok (.aload_n 0, 1) := dk_42 (dk_at dksX2_number_1 20 rfl rfl)
theorem dX2_number_45 : decode cX2_number 45 = .ok (.invokevirtual 209, 3) := dk_182 0 209 (dk_at dksX2_number_1 21 rfl rfl)
theorem dX2_number_48 : decode cX2_number 48 = .ok (.iload_n 1, 1) := dk_27 (dk_at dksX2_number_2 0 rfl rfl)
theorem dX2_number_49 : decode cX2_number 49 = .ok (.ireturn, 1) := dk_172 (dk_at dksX2_number_2 1 rfl rfl)
abbrev cX2_number_2 : ByteArray := prog_14_method_16_code
def yX2_number_2 : MethodName := ⟨RX2, "number", "(II)I"⟩
def dkwX2_number_2_1 : List UInt8 := [21, 4, 172]
abbrev dktX2_number_2_1 : List UInt8 := dkwX2_number_2_1 ++ []
def dkwX2_number_2_0 : List UInt8 := [42, 180, 0, 150, 62, 42, 182, 0, 219, 54, 4, 42, 21, 4, 27, 28, 184, 0, 163, 29, 182, 0, 215]
abbrev dktX2_number_2_0 : List UInt8 := dkwX2_number_2_0 ++ dktX2_number_2_1
theorem dksX2_number_2_0 : cX2_number_2.data.toList.drop 0 = dktX2_number_2_0 := by decide +kernel
theorem dksX2_number_2_1 : cX2_number_2.data.toList.drop 23 = dktX2_number_2_1 := dk_seg dksX2_number_2_0 23 rfl rfl
theorem dX2_number_2_0 : decode cX2_number_2 0 = .ok (.aload_n 0, 1) := dk_42 (dk_at dksX2_number_2_0 0 rfl rfl)
theorem dX2_number_2_1 : decode cX2_number_2 1 = .ok (.getfield 150, 3) := dk_180 0 150 (dk_at dksX2_number_2_0 1 rfl rfl)
theorem dX2_number_2_4 : decode cX2_number_2 4 = .ok (.istore_n 3, 1) := dk_62 (dk_at dksX2_number_2_0 4 rfl rfl)
theorem dX2_number_2_5 : decode cX2_number_2 5 = .ok (.aload_n 0, 1) := dk_42 (dk_at dksX2_number_2_0 5 rfl rfl)
theorem dX2_number_2_6 : decode cX2_number_2 6 = .ok (.invokevirtual 219, 3) := dk_182 0 219 (dk_at dksX2_number_2_0 6 rfl rfl)
theorem dX2_number_2_9 : decode cX2_number_2 9 = .ok (.istore 4, 2) := dk_54 4 (dk_at dksX2_number_2_0 9 rfl rfl)
theorem dX2_number_2_11 : decode cX2_number_2 11 = .ok (.aload_n 0, 1) := dk_42 (dk_at dksX2_number_2_0 11 rfl rfl)
theorem dX2_number_2_12 : decode cX2_number_2 12 = .ok (.iload 4, 2) := dk_21 4 (dk_at dksX2_number_2_0 12 rfl rfl)
theorem dX2_number_2_14 : decode cX2_number_2 14 = .ok (.iload_n 1, 1) := dk_27 (dk_at dksX2_number_2_0 14 rfl rfl)
theorem dX2_number_2_15 : decode cX2_number_2 15 = .ok (.iload_n 2, 1) := dk_28 (dk_at dksX2_number_2_0 15 rfl rfl)
theorem dX2_number_2_16 : decode cX2_number_2 16 = .ok (.invokestatic 163, 3) := dk_184 0 163 (dk_at dksX2_number_2_0 16 rfl rfl)
theorem dX2_number_2_19 : decode cX2_number_2 19 = .ok (.iload_n 3, 1) := dk_29 (dk_at dksX2_number_2_0 19 rfl rfl)
theorem dX2_number_2_20 : decode cX2_number_2 20 = .ok (.invokevirtual 215, 3) := dk_182 0 215 (dk_at dksX2_number_2_0 20 rfl rfl)
theorem dX2_number_2_23 : decode cX2_number_2 23 = .ok (.iload 4, 2) := dk_21 4 (dk_at dksX2_number_2_1 0 rfl rfl)
theorem dX2_number_2_25 : decode cX2_number_2 25 = .ok (.ireturn, 1) := dk_172 (dk_at dksX2_number_2_1 2 rfl rfl)
abbrev cX2_lists : ByteArray := prog_14_method_33_code
def yX2_lists : MethodName := ⟨RX2, "lists", "(LElectionHouse$Way;)V"⟩
def dkwX2_lists_6 : List UInt8 := [181, 1, 131, 43, 4, 181, 1, 124, 42, 182, 0, 209, 177]
abbrev dktX2_lists_6 : List UInt8 := dkwX2_lists_6 ++ []
def dkwX2_lists_5 : List UInt8 := [42, 42, 180, 1, 131, 154, 0, 7, 4, 167, 0, 4, 3, 42, 180, 0, 150, 182, 0, 215, 42, 4]
abbrev dktX2_lists_5 : List UInt8 := dkwX2_lists_5 ++ dktX2_lists_6
def dkwX2_lists_4 : List UInt8 := [182, 0, 202, 153, 0, 12, 43, 4, 181, 1, 121, 42, 182, 0, 209, 42, 16, 23, 182, 0, 202, 153, 0, 37]
abbrev dktX2_lists_4 : List UInt8 := dkwX2_lists_4 ++ dktX2_lists_5
def dkwX2_lists_3 : List UInt8 := [180, 1, 115, 43, 180, 1, 118, 162, 0, 7, 4, 167, 0, 4, 3, 28, 182, 0, 215, 42, 16, 22]
abbrev dktX2_lists_3 : List UInt8 := dkwX2_lists_3 ++ dktX2_lists_4
def dkwX2_lists_2 : List UInt8 := [182, 0, 219, 181, 1, 118, 42, 43, 180, 1, 118, 4, 17, 3, 232, 184, 0, 163, 153, 0, 18, 43]
abbrev dktX2_lists_2 : List UInt8 := dkwX2_lists_2 ++ dktX2_lists_3
def dkwX2_lists_1 : List UInt8 := [182, 0, 209, 42, 180, 0, 150, 61, 43, 42, 182, 0, 219, 181, 1, 115, 42, 16, 47, 182, 0, 244, 43, 42]
abbrev dktX2_lists_1 : List UInt8 := dkwX2_lists_1 ++ dktX2_lists_2
def dkwX2_lists_0 : List UInt8 := [43, 42, 16, 46, 16, 54, 182, 0, 222, 181, 1, 112, 42, 16, 21, 182, 0, 202, 153, 0, 69, 42]
abbrev dktX2_lists_0 : List UInt8 := dkwX2_lists_0 ++ dktX2_lists_1
theorem dksX2_lists_0 : cX2_lists.data.toList.drop 0 = dktX2_lists_0 := by decide +kernel
theorem dksX2_lists_1 : cX2_lists.data.toList.drop 22 = dktX2_lists_1 := dk_seg dksX2_lists_0 22 rfl rfl
theorem dksX2_lists_2 : cX2_lists.data.toList.drop 46 = dktX2_lists_2 := dk_seg dksX2_lists_1 24 rfl rfl
theorem dksX2_lists_3 : cX2_lists.data.toList.drop 68 = dktX2_lists_3 := dk_seg dksX2_lists_2 22 rfl rfl
theorem dksX2_lists_4 : cX2_lists.data.toList.drop 90 = dktX2_lists_4 := dk_seg dksX2_lists_3 22 rfl rfl
theorem dksX2_lists_5 : cX2_lists.data.toList.drop 114 = dktX2_lists_5 := dk_seg dksX2_lists_4 24 rfl rfl
theorem dksX2_lists_6 : cX2_lists.data.toList.drop 136 = dktX2_lists_6 := dk_seg dksX2_lists_5 22 rfl rfl
theorem dX2_lists_0 : decode cX2_lists 0 = .ok (.aload_n 1, 1) := dk_43 (dk_at dksX2_lists_0 0 rfl rfl)
theorem dX2_lists_1 : decode cX2_lists 1 = .ok (.aload_n 0, 1) := dk_42 (dk_at dksX2_lists_0 1 rfl rfl)
theorem dX2_lists_2 : decode cX2_lists 2 = .ok (.bipush 46, 2) := dk_16 46 (dk_at dksX2_lists_0 2 rfl rfl)
theorem dX2_lists_4 : decode cX2_lists 4 = .ok (.bipush 54, 2) := dk_16 54 (dk_at dksX2_lists_0 4 rfl rfl)
theorem dX2_lists_6 : decode cX2_lists 6 = .ok (.invokevirtual 222, 3) := dk_182 0 222 (dk_at dksX2_lists_0 6 rfl rfl)
theorem dX2_lists_9 : decode cX2_lists 9 = .ok (.putfield 368, 3) := dk_181 1 112 (dk_at dksX2_lists_0 9 rfl rfl)
theorem dX2_lists_12 : decode cX2_lists 12 = .ok (.aload_n 0, 1) := dk_42 (dk_at dksX2_lists_0 12 rfl rfl)
theorem dX2_lists_13 : decode cX2_lists 13 = .ok (.bipush 21, 2) := dk_16 21 (dk_at dksX2_lists_0 13 rfl rfl)
theorem dX2_lists_15 : decode cX2_lists 15 = .ok (.invokevirtual 202, 3) := dk_182 0 202 (dk_at dksX2_lists_0 15 rfl rfl)
theorem dX2_lists_18 : decode cX2_lists 18 = .ok (.ifCond .eq 69, 3) := dk_153 0 69 (dk_at dksX2_lists_0 18 rfl rfl)
theorem dX2_lists_21 : decode cX2_lists 21 = .ok (.aload_n 0, 1) := dk_42 (dk_at dksX2_lists_0 21 rfl rfl)
theorem dX2_lists_22 : decode cX2_lists 22 = .ok (.invokevirtual 209, 3) := dk_182 0 209 (dk_at dksX2_lists_1 0 rfl rfl)
theorem dX2_lists_25 : decode cX2_lists 25 = .ok (.aload_n 0, 1) := dk_42 (dk_at dksX2_lists_1 3 rfl rfl)
theorem dX2_lists_26 : decode cX2_lists 26 = .ok (.getfield 150, 3) := dk_180 0 150 (dk_at dksX2_lists_1 4 rfl rfl)
theorem dX2_lists_29 : decode cX2_lists 29 = .ok (.istore_n 2, 1) := dk_61 (dk_at dksX2_lists_1 7 rfl rfl)
theorem dX2_lists_30 : decode cX2_lists 30 = .ok (.aload_n 1, 1) := dk_43 (dk_at dksX2_lists_1 8 rfl rfl)
theorem dX2_lists_31 : decode cX2_lists 31 = .ok (.aload_n 0, 1) := dk_42 (dk_at dksX2_lists_1 9 rfl rfl)
theorem dX2_lists_32 : decode cX2_lists 32 = .ok (.invokevirtual 219, 3) := dk_182 0 219 (dk_at dksX2_lists_1 10 rfl rfl)
theorem dX2_lists_35 : decode cX2_lists 35 = .ok (.putfield 371, 3) := dk_181 1 115 (dk_at dksX2_lists_1 13 rfl rfl)
theorem dX2_lists_38 : decode cX2_lists 38 = .ok (.aload_n 0, 1) := dk_42 (dk_at dksX2_lists_1 16 rfl rfl)
theorem dX2_lists_39 : decode cX2_lists 39 = .ok (.bipush 47, 2) := dk_16 47 (dk_at dksX2_lists_1 17 rfl rfl)
theorem dX2_lists_41 : decode cX2_lists 41 = .ok (.invokevirtual 244, 3) := dk_182 0 244 (dk_at dksX2_lists_1 19 rfl rfl)
theorem dX2_lists_44 : decode cX2_lists 44 = .ok (.aload_n 1, 1) := dk_43 (dk_at dksX2_lists_1 22 rfl rfl)
theorem dX2_lists_45 : decode cX2_lists 45 = .ok (.aload_n 0, 1) := dk_42 (dk_at dksX2_lists_1 23 rfl rfl)
theorem dX2_lists_46 : decode cX2_lists 46 = .ok (.invokevirtual 219, 3) := dk_182 0 219 (dk_at dksX2_lists_2 0 rfl rfl)
theorem dX2_lists_49 : decode cX2_lists 49 = .ok (.putfield 374, 3) := dk_181 1 118 (dk_at dksX2_lists_2 3 rfl rfl)
theorem dX2_lists_52 : decode cX2_lists 52 = .ok (.aload_n 0, 1) := dk_42 (dk_at dksX2_lists_2 6 rfl rfl)
theorem dX2_lists_53 : decode cX2_lists 53 = .ok (.aload_n 1, 1) := dk_43 (dk_at dksX2_lists_2 7 rfl rfl)
theorem dX2_lists_54 : decode cX2_lists 54 = .ok (.getfield 374, 3) := dk_180 1 118 (dk_at dksX2_lists_2 8 rfl rfl)
theorem dX2_lists_57 : decode cX2_lists 57 = .ok (.iconst 1, 1) := dk_4 (dk_at dksX2_lists_2 11 rfl rfl)
theorem dX2_lists_58 : decode cX2_lists 58 = .ok (.sipush 1000, 3) := dk_17 3 232 (dk_at dksX2_lists_2 12 rfl rfl)
theorem dX2_lists_61 : decode cX2_lists 61 = .ok (.invokestatic 163, 3) := dk_184 0 163 (dk_at dksX2_lists_2 15 rfl rfl)
theorem dX2_lists_64 : decode cX2_lists 64 = .ok (.ifCond .eq 18, 3) := dk_153 0 18 (dk_at dksX2_lists_2 18 rfl rfl)
theorem dX2_lists_67 : decode cX2_lists 67 = .ok (.aload_n 1, 1) := dk_43 (dk_at dksX2_lists_2 21 rfl rfl)
theorem dX2_lists_68 : decode cX2_lists 68 = .ok (.getfield 371, 3) := dk_180 1 115 (dk_at dksX2_lists_3 0 rfl rfl)
theorem dX2_lists_71 : decode cX2_lists 71 = .ok (.aload_n 1, 1) := dk_43 (dk_at dksX2_lists_3 3 rfl rfl)
theorem dX2_lists_72 : decode cX2_lists 72 = .ok (.getfield 374, 3) := dk_180 1 118 (dk_at dksX2_lists_3 4 rfl rfl)
theorem dX2_lists_75 : decode cX2_lists 75 = .ok (.if_icmp .ge 7, 3) := dk_162 0 7 (dk_at dksX2_lists_3 7 rfl rfl)
theorem dX2_lists_78 : decode cX2_lists 78 = .ok (.iconst 1, 1) := dk_4 (dk_at dksX2_lists_3 10 rfl rfl)
theorem dX2_lists_79 : decode cX2_lists 79 = .ok (.goto 4, 3) := dk_167 0 4 (dk_at dksX2_lists_3 11 rfl rfl)
theorem dX2_lists_82 : decode cX2_lists 82 = .ok (.iconst 0, 1) := dk_3 (dk_at dksX2_lists_3 14 rfl rfl)
theorem dX2_lists_83 : decode cX2_lists 83 = .ok (.iload_n 2, 1) := dk_28 (dk_at dksX2_lists_3 15 rfl rfl)
theorem dX2_lists_84 : decode cX2_lists 84 = .ok (.invokevirtual 215, 3) := dk_182 0 215 (dk_at dksX2_lists_3 16 rfl rfl)
theorem dX2_lists_87 : decode cX2_lists 87 = .ok (.aload_n 0, 1) := dk_42 (dk_at dksX2_lists_3 19 rfl rfl)
theorem dX2_lists_88 : decode cX2_lists 88 = .ok (.bipush 22, 2) := dk_16 22 (dk_at dksX2_lists_3 20 rfl rfl)
theorem dX2_lists_90 : decode cX2_lists 90 = .ok (.invokevirtual 202, 3) := dk_182 0 202 (dk_at dksX2_lists_4 0 rfl rfl)
theorem dX2_lists_93 : decode cX2_lists 93 = .ok (.ifCond .eq 12, 3) := dk_153 0 12 (dk_at dksX2_lists_4 3 rfl rfl)
theorem dX2_lists_96 : decode cX2_lists 96 = .ok (.aload_n 1, 1) := dk_43 (dk_at dksX2_lists_4 6 rfl rfl)
theorem dX2_lists_97 : decode cX2_lists 97 = .ok (.iconst 1, 1) := dk_4 (dk_at dksX2_lists_4 7 rfl rfl)
theorem dX2_lists_98 : decode cX2_lists 98 = .ok (.putfield 377, 3) := dk_181 1 121 (dk_at dksX2_lists_4 8 rfl rfl)
theorem dX2_lists_101 : decode cX2_lists 101 = .ok (.aload_n 0, 1) := dk_42 (dk_at dksX2_lists_4 11 rfl rfl)
theorem dX2_lists_102 : decode cX2_lists 102 = .ok (.invokevirtual 209, 3) := dk_182 0 209 (dk_at dksX2_lists_4 12 rfl rfl)
theorem dX2_lists_105 : decode cX2_lists 105 = .ok (.aload_n 0, 1) := dk_42 (dk_at dksX2_lists_4 15 rfl rfl)
theorem dX2_lists_106 : decode cX2_lists 106 = .ok (.bipush 23, 2) := dk_16 23 (dk_at dksX2_lists_4 16 rfl rfl)
theorem dX2_lists_108 : decode cX2_lists 108 = .ok (.invokevirtual 202, 3) := dk_182 0 202 (dk_at dksX2_lists_4 18 rfl rfl)
theorem dX2_lists_111 : decode cX2_lists 111 = .ok (.ifCond .eq 37, 3) := dk_153 0 37 (dk_at dksX2_lists_4 21 rfl rfl)
theorem dX2_lists_114 : decode cX2_lists 114 = .ok (.aload_n 0, 1) := dk_42 (dk_at dksX2_lists_5 0 rfl rfl)
theorem dX2_lists_115 : decode cX2_lists 115 = .ok (.aload_n 0, 1) := dk_42 (dk_at dksX2_lists_5 1 rfl rfl)
theorem dX2_lists_116 : decode cX2_lists 116 = .ok (.getfield 387, 3) := dk_180 1 131 (dk_at dksX2_lists_5 2 rfl rfl)
theorem dX2_lists_119 : decode cX2_lists 119 = .ok (.ifCond .ne 7, 3) := dk_154 0 7 (dk_at dksX2_lists_5 5 rfl rfl)
theorem dX2_lists_122 : decode cX2_lists 122 = .ok (.iconst 1, 1) := dk_4 (dk_at dksX2_lists_5 8 rfl rfl)
theorem dX2_lists_123 : decode cX2_lists 123 = .ok (.goto 4, 3) := dk_167 0 4 (dk_at dksX2_lists_5 9 rfl rfl)
theorem dX2_lists_126 : decode cX2_lists 126 = .ok (.iconst 0, 1) := dk_3 (dk_at dksX2_lists_5 12 rfl rfl)
theorem dX2_lists_127 : decode cX2_lists 127 = .ok (.aload_n 0, 1) := dk_42 (dk_at dksX2_lists_5 13 rfl rfl)
theorem dX2_lists_128 : decode cX2_lists 128 = .ok (.getfield 150, 3) := dk_180 0 150 (dk_at dksX2_lists_5 14 rfl rfl)
theorem dX2_lists_131 : decode cX2_lists 131 = .ok (.invokevirtual 215, 3) := dk_182 0 215 (dk_at dksX2_lists_5 17 rfl rfl)
theorem dX2_lists_134 : decode cX2_lists 134 = .ok (.aload_n 0, 1) := dk_42 (dk_at dksX2_lists_5 20 rfl rfl)
theorem dX2_lists_135 : decode cX2_lists 135 = .ok (.iconst 1, 1) := dk_4 (dk_at dksX2_lists_5 21 rfl rfl)
theorem dX2_lists_136 : decode cX2_lists 136 = .ok (.putfield 387, 3) := dk_181 1 131 (dk_at dksX2_lists_6 0 rfl rfl)
theorem dX2_lists_139 : decode cX2_lists 139 = .ok (.aload_n 1, 1) := dk_43 (dk_at dksX2_lists_6 3 rfl rfl)
theorem dX2_lists_140 : decode cX2_lists 140 = .ok (.iconst 1, 1) := dk_4 (dk_at dksX2_lists_6 4 rfl rfl)
theorem dX2_lists_141 : decode cX2_lists 141 = .ok (.putfield 380, 3) := dk_181 1 124 (dk_at dksX2_lists_6 5 rfl rfl)
theorem dX2_lists_144 : decode cX2_lists 144 = .ok (.aload_n 0, 1) := dk_42 (dk_at dksX2_lists_6 8 rfl rfl)
theorem dX2_lists_145 : decode cX2_lists 145 = .ok (.invokevirtual 209, 3) := dk_182 0 209 (dk_at dksX2_lists_6 9 rfl rfl)
theorem dX2_lists_148 : decode cX2_lists 148 = .ok (.return_, 1) := dk_177 (dk_at dksX2_lists_6 12 rfl rfl)
abbrev cX2_sign : ByteArray := prog_14_method_13_code
def yX2_sign : MethodName := ⟨RX2, "sign", "(I)V"⟩
def dkwX2_sign_0 : List UInt8 := [42, 27, 182, 0, 212, 154, 0, 8, 42, 182, 0, 205, 191, 42, 182, 0, 209, 177]
abbrev dktX2_sign_0 : List UInt8 := dkwX2_sign_0 ++ []
theorem dksX2_sign_0 : cX2_sign.data.toList.drop 0 = dktX2_sign_0 := by decide +kernel
theorem dX2_sign_0 : decode cX2_sign 0 = .ok (.aload_n 0, 1) := dk_42 (dk_at dksX2_sign_0 0 rfl rfl)
theorem dX2_sign_1 : decode cX2_sign 1 = .ok (.iload_n 1, 1) := dk_27 (dk_at dksX2_sign_0 1 rfl rfl)
theorem dX2_sign_2 : decode cX2_sign 2 = .ok (.invokevirtual 212, 3) := dk_182 0 212 (dk_at dksX2_sign_0 2 rfl rfl)
theorem dX2_sign_5 : decode cX2_sign 5 = .ok (.ifCond .ne 8, 3) := dk_154 0 8 (dk_at dksX2_sign_0 5 rfl rfl)
theorem dX2_sign_8 : decode cX2_sign 8 = .ok (.aload_n 0, 1) := dk_42 (dk_at dksX2_sign_0 8 rfl rfl)
theorem dX2_sign_9 : decode cX2_sign 9 = .ok (.invokevirtual 205, 3) := dk_182 0 205 (dk_at dksX2_sign_0 9 rfl rfl)
theorem dX2_sign_12 : decode cX2_sign 12 = .ok (.athrow, 1) := dk_191 (dk_at dksX2_sign_0 12 rfl rfl)
theorem dX2_sign_13 : decode cX2_sign 13 = .ok (.aload_n 0, 1) := dk_42 (dk_at dksX2_sign_0 13 rfl rfl)
theorem dX2_sign_14 : decode cX2_sign 14 = .ok (.invokevirtual 209, 3) := dk_182 0 209 (dk_at dksX2_sign_0 14 rfl rfl)
theorem dX2_sign_17 : decode cX2_sign 17 = .ok (.return_, 1) := dk_177 (dk_at dksX2_sign_0 17 rfl rfl)
abbrev cX2_isSign : ByteArray := prog_14_method_11_code
def yX2_isSign : MethodName := ⟨RX2, "isSign", "(I)Z"⟩
def dkwX2_isSign_0 : List UInt8 := [42, 180, 0, 193, 6, 160, 0, 15, 42, 180, 0, 182, 27, 160, 0, 7, 4, 167, 0, 4, 3, 172]
abbrev dktX2_isSign_0 : List UInt8 := dkwX2_isSign_0 ++ []
theorem dksX2_isSign_0 : cX2_isSign.data.toList.drop 0 = dktX2_isSign_0 := by decide +kernel
theorem dX2_isSign_0 : decode cX2_isSign 0 = .ok (.aload_n 0, 1) := dk_42 (dk_at dksX2_isSign_0 0 rfl rfl)
theorem dX2_isSign_1 : decode cX2_isSign 1 = .ok (.getfield 193, 3) := dk_180 0 193 (dk_at dksX2_isSign_0 1 rfl rfl)
theorem dX2_isSign_4 : decode cX2_isSign 4 = .ok (.iconst 3, 1) := dk_6 (dk_at dksX2_isSign_0 4 rfl rfl)
theorem dX2_isSign_5 : decode cX2_isSign 5 = .ok (.if_icmp .ne 15, 3) := dk_160 0 15 (dk_at dksX2_isSign_0 5 rfl rfl)
theorem dX2_isSign_8 : decode cX2_isSign 8 = .ok (.aload_n 0, 1) := dk_42 (dk_at dksX2_isSign_0 8 rfl rfl)
theorem dX2_isSign_9 : decode cX2_isSign 9 = .ok (.getfield 182, 3) := dk_180 0 182 (dk_at dksX2_isSign_0 9 rfl rfl)
theorem dX2_isSign_12 : decode cX2_isSign 12 = .ok (.iload_n 1, 1) := dk_27 (dk_at dksX2_isSign_0 12 rfl rfl)
theorem dX2_isSign_13 : decode cX2_isSign 13 = .ok (.if_icmp .ne 7, 3) := dk_160 0 7 (dk_at dksX2_isSign_0 13 rfl rfl)
theorem dX2_isSign_16 : decode cX2_isSign 16 = .ok (.iconst 1, 1) := dk_4 (dk_at dksX2_isSign_0 16 rfl rfl)
theorem dX2_isSign_17 : decode cX2_isSign 17 = .ok (.goto 4, 3) := dk_167 0 4 (dk_at dksX2_isSign_0 17 rfl rfl)
theorem dX2_isSign_20 : decode cX2_isSign 20 = .ok (.iconst 0, 1) := dk_3 (dk_at dksX2_isSign_0 20 rfl rfl)
theorem dX2_isSign_21 : decode cX2_isSign 21 = .ok (.ireturn, 1) := dk_172 (dk_at dksX2_isSign_0 21 rfl rfl)
abbrev cX2_days : ByteArray := prog_14_method_20_code
def yX2_days : MethodName := ⟨RX2, "days", "()V"⟩
def dkwX2_days_3 : List UInt8 := [182, 0, 215, 132, 1, 1, 167, 255, 183, 177]
abbrev dktX2_days_3 : List UInt8 := dkwX2_days_3 ++ []
def dkwX2_days_2 : List UInt8 := [27, 46, 42, 180, 1, 7, 180, 1, 11, 27, 4, 100, 46, 161, 0, 7, 4, 167, 0, 4, 3, 28]
abbrev dktX2_days_2 : List UInt8 := dkwX2_days_2 ++ dktX2_days_3
def dkwX2_days_1 : List UInt8 := [180, 1, 7, 180, 1, 11, 27, 42, 182, 1, 16, 79, 42, 27, 153, 0, 26, 42, 180, 1, 7, 180, 1, 11]
abbrev dktX2_days_1 : List UInt8 := dkwX2_days_1 ++ dktX2_days_2
def dkwX2_days_0 : List UInt8 := [3, 60, 27, 7, 162, 0, 74, 27, 158, 0, 9, 42, 16, 44, 182, 0, 244, 42, 180, 0, 150, 61, 42]
abbrev dktX2_days_0 : List UInt8 := dkwX2_days_0 ++ dktX2_days_1
theorem dksX2_days_0 : cX2_days.data.toList.drop 0 = dktX2_days_0 := by decide +kernel
theorem dksX2_days_1 : cX2_days.data.toList.drop 23 = dktX2_days_1 := dk_seg dksX2_days_0 23 rfl rfl
theorem dksX2_days_2 : cX2_days.data.toList.drop 47 = dktX2_days_2 := dk_seg dksX2_days_1 24 rfl rfl
theorem dksX2_days_3 : cX2_days.data.toList.drop 69 = dktX2_days_3 := dk_seg dksX2_days_2 22 rfl rfl
theorem dX2_days_0 : decode cX2_days 0 = .ok (.iconst 0, 1) := dk_3 (dk_at dksX2_days_0 0 rfl rfl)
theorem dX2_days_1 : decode cX2_days 1 = .ok (.istore_n 1, 1) := dk_60 (dk_at dksX2_days_0 1 rfl rfl)
theorem dX2_days_2 : decode cX2_days 2 = .ok (.iload_n 1, 1) := dk_27 (dk_at dksX2_days_0 2 rfl rfl)
theorem dX2_days_3 : decode cX2_days 3 = .ok (.iconst 4, 1) := dk_7 (dk_at dksX2_days_0 3 rfl rfl)
theorem dX2_days_4 : decode cX2_days 4 = .ok (.if_icmp .ge 74, 3) := dk_162 0 74 (dk_at dksX2_days_0 4 rfl rfl)
theorem dX2_days_7 : decode cX2_days 7 = .ok (.iload_n 1, 1) := dk_27 (dk_at dksX2_days_0 7 rfl rfl)
theorem dX2_days_8 : decode cX2_days 8 = .ok (.ifCond .le 9, 3) := dk_158 0 9 (dk_at dksX2_days_0 8 rfl rfl)
theorem dX2_days_11 : decode cX2_days 11 = .ok (.aload_n 0, 1) := dk_42 (dk_at dksX2_days_0 11 rfl rfl)
theorem dX2_days_12 : decode cX2_days 12 = .ok (.bipush 44, 2) := dk_16 44 (dk_at dksX2_days_0 12 rfl rfl)
theorem dX2_days_14 : decode cX2_days 14 = .ok (.invokevirtual 244, 3) := dk_182 0 244 (dk_at dksX2_days_0 14 rfl rfl)
theorem dX2_days_17 : decode cX2_days 17 = .ok (.aload_n 0, 1) := dk_42 (dk_at dksX2_days_0 17 rfl rfl)
theorem dX2_days_18 : decode cX2_days 18 = .ok (.getfield 150, 3) := dk_180 0 150 (dk_at dksX2_days_0 18 rfl rfl)
theorem dX2_days_21 : decode cX2_days 21 = .ok (.istore_n 2, 1) := dk_61 (dk_at dksX2_days_0 21 rfl rfl)
theorem dX2_days_22 : decode cX2_days 22 = .ok (.aload_n 0, 1) := dk_42 (dk_at dksX2_days_0 22 rfl rfl)
theorem dX2_days_23 : decode cX2_days 23 = .ok (.getfield 263, 3) := dk_180 1 7 (dk_at dksX2_days_1 0 rfl rfl)
theorem dX2_days_26 : decode cX2_days 26 = .ok (.getfield 267, 3) := dk_180 1 11 (dk_at dksX2_days_1 3 rfl rfl)
theorem dX2_days_29 : decode cX2_days 29 = .ok (.iload_n 1, 1) := dk_27 (dk_at dksX2_days_1 6 rfl rfl)
theorem dX2_days_30 : decode cX2_days 30 = .ok (.aload_n 0, 1) := dk_42 (dk_at dksX2_days_1 7 rfl rfl)
theorem dX2_days_31 : decode cX2_days 31 = .ok (.invokevirtual 272, 3) := dk_182 1 16 (dk_at dksX2_days_1 8 rfl rfl)
theorem dX2_days_34 : decode cX2_days 34 = .ok (.iastore, 1) := dk_79 (dk_at dksX2_days_1 11 rfl rfl)
theorem dX2_days_35 : decode cX2_days 35 = .ok (.aload_n 0, 1) := dk_42 (dk_at dksX2_days_1 12 rfl rfl)
theorem dX2_days_36 : decode cX2_days 36 = .ok (.iload_n 1, 1) := dk_27 (dk_at dksX2_days_1 13 rfl rfl)
theorem dX2_days_37 : decode cX2_days 37 = .ok (.ifCond .eq 26, 3) := dk_153 0 26 (dk_at dksX2_days_1 14 rfl rfl)
theorem dX2_days_40 : decode cX2_days 40 = .ok (.aload_n 0, 1) := dk_42 (dk_at dksX2_days_1 17 rfl rfl)
theorem dX2_days_41 : decode cX2_days 41 = .ok (.getfield 263, 3) := dk_180 1 7 (dk_at dksX2_days_1 18 rfl rfl)
theorem dX2_days_44 : decode cX2_days 44 = .ok (.getfield 267, 3) := dk_180 1 11 (dk_at dksX2_days_1 21 rfl rfl)
theorem dX2_days_47 : decode cX2_days 47 = .ok (.iload_n 1, 1) := dk_27 (dk_at dksX2_days_2 0 rfl rfl)
theorem dX2_days_48 : decode cX2_days 48 = .ok (.iaload, 1) := dk_46 (dk_at dksX2_days_2 1 rfl rfl)
theorem dX2_days_49 : decode cX2_days 49 = .ok (.aload_n 0, 1) := dk_42 (dk_at dksX2_days_2 2 rfl rfl)
theorem dX2_days_50 : decode cX2_days 50 = .ok (.getfield 263, 3) := dk_180 1 7 (dk_at dksX2_days_2 3 rfl rfl)
theorem dX2_days_53 : decode cX2_days 53 = .ok (.getfield 267, 3) := dk_180 1 11 (dk_at dksX2_days_2 6 rfl rfl)
theorem dX2_days_56 : decode cX2_days 56 = .ok (.iload_n 1, 1) := dk_27 (dk_at dksX2_days_2 9 rfl rfl)
theorem dX2_days_57 : decode cX2_days 57 = .ok (.iconst 1, 1) := dk_4 (dk_at dksX2_days_2 10 rfl rfl)
theorem dX2_days_58 : decode cX2_days 58 = .ok (.isub, 1) := dk_100 (dk_at dksX2_days_2 11 rfl rfl)
theorem dX2_days_59 : decode cX2_days 59 = .ok (.iaload, 1) := dk_46 (dk_at dksX2_days_2 12 rfl rfl)
theorem dX2_days_60 : decode cX2_days 60 = .ok (.if_icmp .lt 7, 3) := dk_161 0 7 (dk_at dksX2_days_2 13 rfl rfl)
theorem dX2_days_63 : decode cX2_days 63 = .ok (.iconst 1, 1) := dk_4 (dk_at dksX2_days_2 16 rfl rfl)
theorem dX2_days_64 : decode cX2_days 64 = .ok (.goto 4, 3) := dk_167 0 4 (dk_at dksX2_days_2 17 rfl rfl)
theorem dX2_days_67 : decode cX2_days 67 = .ok (.iconst 0, 1) := dk_3 (dk_at dksX2_days_2 20 rfl rfl)
theorem dX2_days_68 : decode cX2_days 68 = .ok (.iload_n 2, 1) := dk_28 (dk_at dksX2_days_2 21 rfl rfl)
theorem dX2_days_69 : decode cX2_days 69 = .ok (.invokevirtual 215, 3) := dk_182 0 215 (dk_at dksX2_days_3 0 rfl rfl)
theorem dX2_days_72 : decode cX2_days 72 = .ok (.iinc 1 1, 3) := dk_132 1 1 (dk_at dksX2_days_3 3 rfl rfl)
theorem dX2_days_75 : decode cX2_days 75 = .ok (.goto (-73), 3) := dk_167 255 183 (dk_at dksX2_days_3 6 rfl rfl)
theorem dX2_days_78 : decode cX2_days 78 = .ok (.return_, 1) := dk_177 (dk_at dksX2_days_3 9 rfl rfl)
abbrev cX2_time : ByteArray := prog_14_method_19_code
def yX2_time : MethodName := ⟨RX2, "time", "()I"⟩
def dkwX2_time_3 : List UInt8 := [182, 0, 215, 167, 255, 193, 28, 172]
abbrev dktX2_time_3 : List UInt8 := dkwX2_time_3 ++ []
def dkwX2_time_2 : List UInt8 := [29, 153, 0, 8, 21, 4, 167, 0, 6, 21, 4, 116, 96, 61, 42, 28, 3, 19, 1, 6, 184, 0, 163, 27]
abbrev dktX2_time_2 : List UInt8 := dkwX2_time_2 ++ dktX2_time_3
def dkwX2_time_1 : List UInt8 := [182, 0, 212, 153, 0, 51, 42, 16, 43, 182, 0, 212, 62, 42, 182, 0, 209, 42, 182, 0, 219, 54, 4, 28]
abbrev dktX2_time_1 : List UInt8 := dkwX2_time_1 ++ dktX2_time_2
def dkwX2_time_0 : List UInt8 := [42, 180, 0, 150, 60, 42, 182, 1, 3, 61, 42, 16, 43, 182, 0, 212, 154, 0, 12, 42, 16, 45]
abbrev dktX2_time_0 : List UInt8 := dkwX2_time_0 ++ dktX2_time_1
theorem dksX2_time_0 : cX2_time.data.toList.drop 0 = dktX2_time_0 := by decide +kernel
theorem dksX2_time_1 : cX2_time.data.toList.drop 22 = dktX2_time_1 := dk_seg dksX2_time_0 22 rfl rfl
theorem dksX2_time_2 : cX2_time.data.toList.drop 46 = dktX2_time_2 := dk_seg dksX2_time_1 24 rfl rfl
theorem dksX2_time_3 : cX2_time.data.toList.drop 70 = dktX2_time_3 := dk_seg dksX2_time_2 24 rfl rfl
theorem dX2_time_0 : decode cX2_time 0 = .ok (.aload_n 0, 1) := dk_42 (dk_at dksX2_time_0 0 rfl rfl)
theorem dX2_time_1 : decode cX2_time 1 = .ok (.getfield 150, 3) := dk_180 0 150 (dk_at dksX2_time_0 1 rfl rfl)
theorem dX2_time_4 : decode cX2_time 4 = .ok (.istore_n 1, 1) := dk_60 (dk_at dksX2_time_0 4 rfl rfl)
theorem dX2_time_5 : decode cX2_time 5 = .ok (.aload_n 0, 1) := dk_42 (dk_at dksX2_time_0 5 rfl rfl)
theorem dX2_time_6 : decode cX2_time 6 = .ok (.invokevirtual 259, 3) := dk_182 1 3 (dk_at dksX2_time_0 6 rfl rfl)
theorem dX2_time_9 : decode cX2_time 9 = .ok (.istore_n 2, 1) := dk_61 (dk_at dksX2_time_0 9 rfl rfl)
theorem dX2_time_10 : decode cX2_time 10 = .ok (.aload_n 0, 1) := dk_42 (dk_at dksX2_time_0 10 rfl rfl)
theorem dX2_time_11 : decode cX2_time 11 = .ok (.bipush 43, 2) := dk_16 43 (dk_at dksX2_time_0 11 rfl rfl)
theorem dX2_time_13 : decode cX2_time 13 = .ok (.invokevirtual 212, 3) := dk_182 0 212 (dk_at dksX2_time_0 13 rfl rfl)
theorem dX2_time_16 : decode cX2_time 16 = .ok (.ifCond .ne 12, 3) := dk_154 0 12 (dk_at dksX2_time_0 16 rfl rfl)
theorem dX2_time_19 : decode cX2_time 19 = .ok (.aload_n 0, 1) := dk_42 (dk_at dksX2_time_0 19 rfl rfl)
theorem dX2_time_20 : decode cX2_time 20 = .ok (.bipush 45, 2) := dk_16 45 (dk_at dksX2_time_0 20 rfl rfl)
theorem dX2_time_22 : decode cX2_time 22 = .ok (.invokevirtual 212, 3) := dk_182 0 212 (dk_at dksX2_time_1 0 rfl rfl)
theorem dX2_time_25 : decode cX2_time 25 = .ok (.ifCond .eq 51, 3) := dk_153 0 51 (dk_at dksX2_time_1 3 rfl rfl)
theorem dX2_time_28 : decode cX2_time 28 = .ok (.aload_n 0, 1) := dk_42 (dk_at dksX2_time_1 6 rfl rfl)
theorem dX2_time_29 : decode cX2_time 29 = .ok (.bipush 43, 2) := dk_16 43 (dk_at dksX2_time_1 7 rfl rfl)
theorem dX2_time_31 : decode cX2_time 31 = .ok (.invokevirtual 212, 3) := dk_182 0 212 (dk_at dksX2_time_1 9 rfl rfl)
theorem dX2_time_34 : decode cX2_time 34 = .ok (.istore_n 3, 1) := dk_62 (dk_at dksX2_time_1 12 rfl rfl)
theorem dX2_time_35 : decode cX2_time 35 = .ok (.aload_n 0, 1) := dk_42 (dk_at dksX2_time_1 13 rfl rfl)
theorem dX2_time_36 : decode cX2_time 36 = .ok (.invokevirtual 209, 3) := dk_182 0 209 (dk_at dksX2_time_1 14 rfl rfl)
theorem dX2_time_39 : decode cX2_time 39 = .ok (.aload_n 0, 1) := dk_42 (dk_at dksX2_time_1 17 rfl rfl)
theorem dX2_time_40 : decode cX2_time 40 = .ok (.invokevirtual 219, 3) := dk_182 0 219 (dk_at dksX2_time_1 18 rfl rfl)
theorem dX2_time_43 : decode cX2_time 43 = .ok (.istore 4, 2) := dk_54 4 (dk_at dksX2_time_1 21 rfl rfl)
theorem dX2_time_45 : decode cX2_time 45 = .ok (.iload_n 2, 1) := dk_28 (dk_at dksX2_time_1 23 rfl rfl)
theorem dX2_time_46 : decode cX2_time 46 = .ok (.iload_n 3, 1) := dk_29 (dk_at dksX2_time_2 0 rfl rfl)
theorem dX2_time_47 : decode cX2_time 47 = .ok (.ifCond .eq 8, 3) := dk_153 0 8 (dk_at dksX2_time_2 1 rfl rfl)
theorem dX2_time_50 : decode cX2_time 50 = .ok (.iload 4, 2) := dk_21 4 (dk_at dksX2_time_2 4 rfl rfl)
theorem dX2_time_52 : decode cX2_time 52 = .ok (.goto 6, 3) := dk_167 0 6 (dk_at dksX2_time_2 6 rfl rfl)
theorem dX2_time_55 : decode cX2_time 55 = .ok (.iload 4, 2) := dk_21 4 (dk_at dksX2_time_2 9 rfl rfl)
theorem dX2_time_57 : decode cX2_time 57 = .ok (.ineg, 1) := dk_116 (dk_at dksX2_time_2 11 rfl rfl)
theorem dX2_time_58 : decode cX2_time 58 = .ok (.iadd, 1) := dk_96 (dk_at dksX2_time_2 12 rfl rfl)
theorem dX2_time_59 : decode cX2_time 59 = .ok (.istore_n 2, 1) := dk_61 (dk_at dksX2_time_2 13 rfl rfl)
theorem dX2_time_60 : decode cX2_time 60 = .ok (.aload_n 0, 1) := dk_42 (dk_at dksX2_time_2 14 rfl rfl)
theorem dX2_time_61 : decode cX2_time 61 = .ok (.iload_n 2, 1) := dk_28 (dk_at dksX2_time_2 15 rfl rfl)
theorem dX2_time_62 : decode cX2_time 62 = .ok (.iconst 0, 1) := dk_3 (dk_at dksX2_time_2 16 rfl rfl)
theorem dX2_time_63 : decode cX2_time 63 = .ok (.ldc_w 262, 3) := dk_19 1 6 (dk_at dksX2_time_2 17 rfl rfl)
theorem dX2_time_66 : decode cX2_time 66 = .ok (.invokestatic 163, 3) := dk_184 0 163 (dk_at dksX2_time_2 20 rfl rfl)
theorem dX2_time_69 : decode cX2_time 69 = .ok (.iload_n 1, 1) := dk_27 (dk_at dksX2_time_2 23 rfl rfl)
theorem dX2_time_70 : decode cX2_time 70 = .ok (.invokevirtual 215, 3) := dk_182 0 215 (dk_at dksX2_time_3 0 rfl rfl)
theorem dX2_time_73 : decode cX2_time 73 = .ok (.goto (-63), 3) := dk_167 255 193 (dk_at dksX2_time_3 3 rfl rfl)
theorem dX2_time_76 : decode cX2_time 76 = .ok (.iload_n 2, 1) := dk_28 (dk_at dksX2_time_3 6 rfl rfl)
theorem dX2_time_77 : decode cX2_time 77 = .ok (.ireturn, 1) := dk_172 (dk_at dksX2_time_3 7 rfl rfl)
abbrev cX2_date : ByteArray := prog_14_method_17_code
def yX2_date : MethodName := ⟨RX2, "date", "()I"⟩
def dkwX2_date_4 : List UInt8 := [182, 0, 215, 3, 28, 184, 0, 239, 172]
abbrev dktX2_date_4 : List UInt8 := dkwX2_date_4 ++ []
def dkwX2_date_3 : List UInt8 := [167, 0, 12, 42, 42, 182, 0, 219, 182, 0, 236, 61, 42, 28, 2, 159, 0, 7, 4, 167, 0, 4, 3, 27]
abbrev dktX2_date_3 : List UInt8 := dkwX2_date_3 ++ dktX2_date_4
def dkwX2_date_2 : List UInt8 := [167, 0, 36, 42, 16, 13, 182, 0, 202, 153, 0, 18, 42, 182, 0, 209, 42, 182, 0, 219, 184, 0, 232, 61]
abbrev dktX2_date_2 : List UInt8 := dkwX2_date_2 ++ dktX2_date_3
def dkwX2_date_1 : List UInt8 := [16, 30, 182, 0, 222, 62, 42, 182, 0, 219, 54, 4, 29, 21, 4, 42, 182, 0, 219, 184, 0, 226, 61]
abbrev dktX2_date_1 : List UInt8 := dkwX2_date_1 ++ dktX2_date_2
def dkwX2_date_0 : List UInt8 := [42, 180, 0, 150, 60, 2, 61, 42, 16, 12, 182, 0, 202, 153, 0, 36, 42, 182, 0, 209, 42, 16, 24]
abbrev dktX2_date_0 : List UInt8 := dkwX2_date_0 ++ dktX2_date_1
theorem dksX2_date_0 : cX2_date.data.toList.drop 0 = dktX2_date_0 := by decide +kernel
theorem dksX2_date_1 : cX2_date.data.toList.drop 23 = dktX2_date_1 := dk_seg dksX2_date_0 23 rfl rfl
theorem dksX2_date_2 : cX2_date.data.toList.drop 46 = dktX2_date_2 := dk_seg dksX2_date_1 23 rfl rfl
theorem dksX2_date_3 : cX2_date.data.toList.drop 70 = dktX2_date_3 := dk_seg dksX2_date_2 24 rfl rfl
theorem dksX2_date_4 : cX2_date.data.toList.drop 94 = dktX2_date_4 := dk_seg dksX2_date_3 24 rfl rfl
theorem dX2_date_0 : decode cX2_date 0 = .ok (.aload_n 0, 1) := dk_42 (dk_at dksX2_date_0 0 rfl rfl)
theorem dX2_date_1 : decode cX2_date 1 = .ok (.getfield 150, 3) := dk_180 0 150 (dk_at dksX2_date_0 1 rfl rfl)
theorem dX2_date_4 : decode cX2_date 4 = .ok (.istore_n 1, 1) := dk_60 (dk_at dksX2_date_0 4 rfl rfl)
theorem dX2_date_5 : decode cX2_date 5 = .ok (.iconst (-1), 1) := dk_2 (dk_at dksX2_date_0 5 rfl rfl)
theorem dX2_date_6 : decode cX2_date 6 = .ok (.istore_n 2, 1) := dk_61 (dk_at dksX2_date_0 6 rfl rfl)
theorem dX2_date_7 : decode cX2_date 7 = .ok (.aload_n 0, 1) := dk_42 (dk_at dksX2_date_0 7 rfl rfl)
theorem dX2_date_8 : decode cX2_date 8 = .ok (.bipush 12, 2) := dk_16 12 (dk_at dksX2_date_0 8 rfl rfl)
theorem dX2_date_10 : decode cX2_date 10 = .ok (.invokevirtual 202, 3) := dk_182 0 202 (dk_at dksX2_date_0 10 rfl rfl)
theorem dX2_date_13 : decode cX2_date 13 = .ok (.ifCond .eq 36, 3) := dk_153 0 36 (dk_at dksX2_date_0 13 rfl rfl)
theorem dX2_date_16 : decode cX2_date 16 = .ok (.aload_n 0, 1) := dk_42 (dk_at dksX2_date_0 16 rfl rfl)
theorem dX2_date_17 : decode cX2_date 17 = .ok (.invokevirtual 209, 3) := dk_182 0 209 (dk_at dksX2_date_0 17 rfl rfl)
theorem dX2_date_20 : decode cX2_date 20 = .ok (.aload_n 0, 1) := dk_42 (dk_at dksX2_date_0 20 rfl rfl)
theorem dX2_date_21 : decode cX2_date 21 = .ok (.bipush 24, 2) := dk_16 24 (dk_at dksX2_date_0 21 rfl rfl)
theorem dX2_date_23 : decode cX2_date 23 = .ok (.bipush 30, 2) := dk_16 30 (dk_at dksX2_date_1 0 rfl rfl)
theorem dX2_date_25 : decode cX2_date 25 = .ok (.invokevirtual 222, 3) := dk_182 0 222 (dk_at dksX2_date_1 2 rfl rfl)
theorem dX2_date_28 : decode cX2_date 28 = .ok (.istore_n 3, 1) := dk_62 (dk_at dksX2_date_1 5 rfl rfl)
theorem dX2_date_29 : decode cX2_date 29 = .ok (.aload_n 0, 1) := dk_42 (dk_at dksX2_date_1 6 rfl rfl)
theorem dX2_date_30 : decode cX2_date 30 = .ok (.invokevirtual 219, 3) := dk_182 0 219 (dk_at dksX2_date_1 7 rfl rfl)
theorem dX2_date_33 : decode cX2_date 33 = .ok (.istore 4, 2) := dk_54 4 (dk_at dksX2_date_1 10 rfl rfl)
theorem dX2_date_35 : decode cX2_date 35 = .ok (.iload_n 3, 1) := dk_29 (dk_at dksX2_date_1 12 rfl rfl)
theorem dX2_date_36 : decode cX2_date 36 = .ok (.iload 4, 2) := dk_21 4 (dk_at dksX2_date_1 13 rfl rfl)
theorem dX2_date_38 : decode cX2_date 38 = .ok (.aload_n 0, 1) := dk_42 (dk_at dksX2_date_1 15 rfl rfl)
theorem dX2_date_39 : decode cX2_date 39 = .ok (.invokevirtual 219, 3) := dk_182 0 219 (dk_at dksX2_date_1 16 rfl rfl)
theorem dX2_date_42 : decode cX2_date 42 = .ok (.invokestatic 226, 3) := dk_184 0 226 (dk_at dksX2_date_1 19 rfl rfl)
theorem dX2_date_45 : decode cX2_date 45 = .ok (.istore_n 2, 1) := dk_61 (dk_at dksX2_date_1 22 rfl rfl)
theorem dX2_date_46 : decode cX2_date 46 = .ok (.goto 36, 3) := dk_167 0 36 (dk_at dksX2_date_2 0 rfl rfl)
theorem dX2_date_49 : decode cX2_date 49 = .ok (.aload_n 0, 1) := dk_42 (dk_at dksX2_date_2 3 rfl rfl)
theorem dX2_date_50 : decode cX2_date 50 = .ok (.bipush 13, 2) := dk_16 13 (dk_at dksX2_date_2 4 rfl rfl)
theorem dX2_date_52 : decode cX2_date 52 = .ok (.invokevirtual 202, 3) := dk_182 0 202 (dk_at dksX2_date_2 6 rfl rfl)
theorem dX2_date_55 : decode cX2_date 55 = .ok (.ifCond .eq 18, 3) := dk_153 0 18 (dk_at dksX2_date_2 9 rfl rfl)
theorem dX2_date_58 : decode cX2_date 58 = .ok (.aload_n 0, 1) := dk_42 (dk_at dksX2_date_2 12 rfl rfl)
theorem dX2_date_59 : decode cX2_date 59 = .ok (.invokevirtual 209, 3) := dk_182 0 209 (dk_at dksX2_date_2 13 rfl rfl)
theorem dX2_date_62 : decode cX2_date 62 = .ok (.aload_n 0, 1) := dk_42 (dk_at dksX2_date_2 16 rfl rfl)
theorem dX2_date_63 : decode cX2_date 63 = .ok (.invokevirtual 219, 3) := dk_182 0 219 (dk_at dksX2_date_2 17 rfl rfl)
theorem dX2_date_66 : decode cX2_date 66 = .ok (.invokestatic 232, 3) := dk_184 0 232 (dk_at dksX2_date_2 20 rfl rfl)
theorem dX2_date_69 : decode cX2_date 69 = .ok (.istore_n 2, 1) := dk_61 (dk_at dksX2_date_2 23 rfl rfl)
theorem dX2_date_70 : decode cX2_date 70 = .ok (.goto 12, 3) := dk_167 0 12 (dk_at dksX2_date_3 0 rfl rfl)
theorem dX2_date_73 : decode cX2_date 73 = .ok (.aload_n 0, 1) := dk_42 (dk_at dksX2_date_3 3 rfl rfl)
theorem dX2_date_74 : decode cX2_date 74 = .ok (.aload_n 0, 1) := dk_42 (dk_at dksX2_date_3 4 rfl rfl)
theorem dX2_date_75 : decode cX2_date 75 = .ok (.invokevirtual 219, 3) := dk_182 0 219 (dk_at dksX2_date_3 5 rfl rfl)
theorem dX2_date_78 : decode cX2_date 78 = .ok (.invokevirtual 236, 3) := dk_182 0 236 (dk_at dksX2_date_3 8 rfl rfl)
theorem dX2_date_81 : decode cX2_date 81 = .ok (.istore_n 2, 1) := dk_61 (dk_at dksX2_date_3 11 rfl rfl)
theorem dX2_date_82 : decode cX2_date 82 = .ok (.aload_n 0, 1) := dk_42 (dk_at dksX2_date_3 12 rfl rfl)
theorem dX2_date_83 : decode cX2_date 83 = .ok (.iload_n 2, 1) := dk_28 (dk_at dksX2_date_3 13 rfl rfl)
theorem dX2_date_84 : decode cX2_date 84 = .ok (.iconst (-1), 1) := dk_2 (dk_at dksX2_date_3 14 rfl rfl)
theorem dX2_date_85 : decode cX2_date 85 = .ok (.if_icmp .eq 7, 3) := dk_159 0 7 (dk_at dksX2_date_3 15 rfl rfl)
theorem dX2_date_88 : decode cX2_date 88 = .ok (.iconst 1, 1) := dk_4 (dk_at dksX2_date_3 18 rfl rfl)
theorem dX2_date_89 : decode cX2_date 89 = .ok (.goto 4, 3) := dk_167 0 4 (dk_at dksX2_date_3 19 rfl rfl)
theorem dX2_date_92 : decode cX2_date 92 = .ok (.iconst 0, 1) := dk_3 (dk_at dksX2_date_3 22 rfl rfl)
theorem dX2_date_93 : decode cX2_date 93 = .ok (.iload_n 1, 1) := dk_27 (dk_at dksX2_date_3 23 rfl rfl)
theorem dX2_date_94 : decode cX2_date 94 = .ok (.invokevirtual 215, 3) := dk_182 0 215 (dk_at dksX2_date_4 0 rfl rfl)
theorem dX2_date_97 : decode cX2_date 97 = .ok (.iconst 0, 1) := dk_3 (dk_at dksX2_date_4 3 rfl rfl)
theorem dX2_date_98 : decode cX2_date 98 = .ok (.iload_n 2, 1) := dk_28 (dk_at dksX2_date_4 4 rfl rfl)
theorem dX2_date_99 : decode cX2_date 99 = .ok (.invokestatic 239, 3) := dk_184 0 239 (dk_at dksX2_date_4 5 rfl rfl)
theorem dX2_date_102 : decode cX2_date 102 = .ok (.ireturn, 1) := dk_172 (dk_at dksX2_date_4 8 rfl rfl)
abbrev cX2_dateBehind : ByteArray := prog_14_method_18_code
def yX2_dateBehind : MethodName := ⟨RX2, "dateBehind", "(I)I"⟩
def dkwX2_dateBehind_3 : List UInt8 := [182, 0, 219, 184, 0, 255, 172]
abbrev dktX2_dateBehind_3 : List UInt8 := dkwX2_dateBehind_3 ++ []
def dkwX2_dateBehind_2 : List UInt8 := [167, 0, 4, 2, 172, 42, 16, 24, 16, 30, 182, 0, 222, 61, 42, 182, 0, 219, 62, 27, 28, 29, 42]
abbrev dktX2_dateBehind_2 : List UInt8 := dkwX2_dateBehind_2 ++ dktX2_dateBehind_3
def dkwX2_dateBehind_1 : List UInt8 := [42, 182, 0, 219, 62, 27, 28, 29, 17, 7, 208, 184, 0, 248, 153, 0, 12, 27, 28, 29, 184, 0, 252]
abbrev dktX2_dateBehind_1 : List UInt8 := dkwX2_dateBehind_1 ++ dktX2_dateBehind_2
def dkwX2_dateBehind_0 : List UInt8 := [42, 16, 45, 182, 0, 212, 153, 0, 46, 42, 182, 0, 209, 42, 182, 0, 219, 61, 42, 16, 45, 182, 0, 244]
abbrev dktX2_dateBehind_0 : List UInt8 := dkwX2_dateBehind_0 ++ dktX2_dateBehind_1
theorem dksX2_dateBehind_0 : cX2_dateBehind.data.toList.drop 0 = dktX2_dateBehind_0 := by decide +kernel
theorem dksX2_dateBehind_1 : cX2_dateBehind.data.toList.drop 24 = dktX2_dateBehind_1 := dk_seg dksX2_dateBehind_0 24 rfl rfl
theorem dksX2_dateBehind_2 : cX2_dateBehind.data.toList.drop 47 = dktX2_dateBehind_2 := dk_seg dksX2_dateBehind_1 23 rfl rfl
theorem dksX2_dateBehind_3 : cX2_dateBehind.data.toList.drop 70 = dktX2_dateBehind_3 := dk_seg dksX2_dateBehind_2 23 rfl rfl
theorem dX2_dateBehind_0 : decode cX2_dateBehind 0 = .ok (.aload_n 0, 1) := dk_42 (dk_at dksX2_dateBehind_0 0 rfl rfl)
theorem dX2_dateBehind_1 : decode cX2_dateBehind 1 = .ok (.bipush 45, 2) := dk_16 45 (dk_at dksX2_dateBehind_0 1 rfl rfl)
theorem dX2_dateBehind_3 : decode cX2_dateBehind 3 = .ok (.invokevirtual 212, 3) := dk_182 0 212 (dk_at dksX2_dateBehind_0 3 rfl rfl)
theorem dX2_dateBehind_6 : decode cX2_dateBehind 6 = .ok (.ifCond .eq 46, 3) := dk_153 0 46 (dk_at dksX2_dateBehind_0 6 rfl rfl)
theorem dX2_dateBehind_9 : decode cX2_dateBehind 9 = .ok (.aload_n 0, 1) := dk_42 (dk_at dksX2_dateBehind_0 9 rfl rfl)
theorem dX2_dateBehind_10 : decode cX2_dateBehind 10 = .ok (.invokevirtual 209, 3) := dk_182 0 209 (dk_at dksX2_dateBehind_0 10 rfl rfl)
theorem dX2_dateBehind_13 : decode cX2_dateBehind 13 = .ok (.aload_n 0, 1) := dk_42 (dk_at dksX2_dateBehind_0 13 rfl rfl)
theorem dX2_dateBehind_14 : decode cX2_dateBehind 14 = .ok (.invokevirtual 219, 3) := dk_182 0 219 (dk_at dksX2_dateBehind_0 14 rfl rfl)
theorem dX2_dateBehind_17 : decode cX2_dateBehind 17 = .ok (.istore_n 2, 1) := dk_61 (dk_at dksX2_dateBehind_0 17 rfl rfl)
theorem dX2_dateBehind_18 : decode cX2_dateBehind 18 = .ok (.aload_n 0, 1) := dk_42 (dk_at dksX2_dateBehind_0 18 rfl rfl)
theorem dX2_dateBehind_19 : decode cX2_dateBehind 19 = .ok (.bipush 45, 2) := dk_16 45 (dk_at dksX2_dateBehind_0 19 rfl rfl)
theorem dX2_dateBehind_21 : decode cX2_dateBehind 21 = .ok (.invokevirtual 244, 3) := dk_182 0 244 (dk_at dksX2_dateBehind_0 21 rfl rfl)
theorem dX2_dateBehind_24 : decode cX2_dateBehind 24 = .ok (.aload_n 0, 1) := dk_42 (dk_at dksX2_dateBehind_1 0 rfl rfl)
theorem dX2_dateBehind_25 : decode cX2_dateBehind 25 = .ok (.invokevirtual 219, 3) := dk_182 0 219 (dk_at dksX2_dateBehind_1 1 rfl rfl)
theorem dX2_dateBehind_28 : decode cX2_dateBehind 28 = .ok (.istore_n 3, 1) := dk_62 (dk_at dksX2_dateBehind_1 4 rfl rfl)
theorem dX2_dateBehind_29 : decode cX2_dateBehind 29 = .ok (.iload_n 1, 1) := dk_27 (dk_at dksX2_dateBehind_1 5 rfl rfl)
theorem dX2_dateBehind_30 : decode cX2_dateBehind 30 = .ok (.iload_n 2, 1) := dk_28 (dk_at dksX2_dateBehind_1 6 rfl rfl)
theorem dX2_dateBehind_31 : decode cX2_dateBehind 31 = .ok (.iload_n 3, 1) := dk_29 (dk_at dksX2_dateBehind_1 7 rfl rfl)
theorem dX2_dateBehind_32 : decode cX2_dateBehind 32 = .ok (.sipush 2000, 3) := dk_17 7 208 (dk_at dksX2_dateBehind_1 8 rfl rfl)
theorem dX2_dateBehind_35 : decode cX2_dateBehind 35 = .ok (.invokestatic 248, 3) := dk_184 0 248 (dk_at dksX2_dateBehind_1 11 rfl rfl)
theorem dX2_dateBehind_38 : decode cX2_dateBehind 38 = .ok (.ifCond .eq 12, 3) := dk_153 0 12 (dk_at dksX2_dateBehind_1 14 rfl rfl)
theorem dX2_dateBehind_41 : decode cX2_dateBehind 41 = .ok (.iload_n 1, 1) := dk_27 (dk_at dksX2_dateBehind_1 17 rfl rfl)
theorem dX2_dateBehind_42 : decode cX2_dateBehind 42 = .ok (.iload_n 2, 1) := dk_28 (dk_at dksX2_dateBehind_1 18 rfl rfl)
theorem dX2_dateBehind_43 : decode cX2_dateBehind 43 = .ok (.iload_n 3, 1) := dk_29 (dk_at dksX2_dateBehind_1 19 rfl rfl)
theorem dX2_dateBehind_44 : decode cX2_dateBehind 44 = .ok (.invokestatic 252, 3) := dk_184 0 252 (dk_at dksX2_dateBehind_1 20 rfl rfl)
theorem dX2_dateBehind_47 : decode cX2_dateBehind 47 = .ok (.goto 4, 3) := dk_167 0 4 (dk_at dksX2_dateBehind_2 0 rfl rfl)
theorem dX2_dateBehind_50 : decode cX2_dateBehind 50 = .ok (.iconst (-1), 1) := dk_2 (dk_at dksX2_dateBehind_2 3 rfl rfl)
theorem dX2_dateBehind_51 : decode cX2_dateBehind 51 = .ok (.ireturn, 1) := dk_172 (dk_at dksX2_dateBehind_2 4 rfl rfl)
theorem dX2_dateBehind_52 : decode cX2_dateBehind 52 = .ok (.aload_n 0, 1) := dk_42 (dk_at dksX2_dateBehind_2 5 rfl rfl)
theorem dX2_dateBehind_53 : decode cX2_dateBehind 53 = .ok (.bipush 24, 2) := dk_16 24 (dk_at dksX2_dateBehind_2 6 rfl rfl)
theorem dX2_dateBehind_55 : decode cX2_dateBehind 55 = .ok (.bipush 30, 2) := dk_16 30 (dk_at dksX2_dateBehind_2 8 rfl rfl)
theorem dX2_dateBehind_57 : decode cX2_dateBehind 57 = .ok (.invokevirtual 222, 3) := dk_182 0 222 (dk_at dksX2_dateBehind_2 10 rfl rfl)
theorem dX2_dateBehind_60 : decode cX2_dateBehind 60 = .ok (.istore_n 2, 1) := dk_61 (dk_at dksX2_dateBehind_2 13 rfl rfl)
theorem dX2_dateBehind_61 : decode cX2_dateBehind 61 = .ok (.aload_n 0, 1) := dk_42 (dk_at dksX2_dateBehind_2 14 rfl rfl)
theorem dX2_dateBehind_62 : decode cX2_dateBehind 62 = .ok (.invokevirtual 219, 3) := dk_182 0 219 (dk_at dksX2_dateBehind_2 15 rfl rfl)
theorem dX2_dateBehind_65 : decode cX2_dateBehind 65 = .ok (.istore_n 3, 1) := dk_62 (dk_at dksX2_dateBehind_2 18 rfl rfl)
theorem dX2_dateBehind_66 : decode cX2_dateBehind 66 = .ok (.iload_n 1, 1) := dk_27 (dk_at dksX2_dateBehind_2 19 rfl rfl)
theorem dX2_dateBehind_67 : decode cX2_dateBehind 67 = .ok (.iload_n 2, 1) := dk_28 (dk_at dksX2_dateBehind_2 20 rfl rfl)
theorem dX2_dateBehind_68 : decode cX2_dateBehind 68 = .ok (.iload_n 3, 1) := dk_29 (dk_at dksX2_dateBehind_2 21 rfl rfl)
theorem dX2_dateBehind_69 : decode cX2_dateBehind 69 = .ok (.aload_n 0, 1) := dk_42 (dk_at dksX2_dateBehind_2 22 rfl rfl)
theorem dX2_dateBehind_70 : decode cX2_dateBehind 70 = .ok (.invokevirtual 219, 3) := dk_182 0 219 (dk_at dksX2_dateBehind_3 0 rfl rfl)
theorem dX2_dateBehind_73 : decode cX2_dateBehind 73 = .ok (.invokestatic 255, 3) := dk_184 0 255 (dk_at dksX2_dateBehind_3 3 rfl rfl)
theorem dX2_dateBehind_76 : decode cX2_dateBehind 76 = .ok (.ireturn, 1) := dk_172 (dk_at dksX2_dateBehind_3 6 rfl rfl)
abbrev cX2_condition : ByteArray := prog_14_method_28_code
def yX2_condition : MethodName := ⟨RX2, "condition", "(LElectionHouse$Clause;)V"⟩
def dkwX2_condition_5 : List UInt8 := [28, 158, 0, 8, 42, 182, 0, 205, 191, 42, 43, 182, 1, 72, 177]
abbrev dktX2_condition_5 : List UInt8 := dkwX2_condition_5 ++ []
def dkwX2_condition_4 : List UInt8 := [182, 0, 202, 153, 0, 7, 4, 167, 0, 4, 3, 62, 29, 153, 255, 175, 42, 43, 182, 1, 78, 167, 255, 167]
abbrev dktX2_condition_4 : List UInt8 := dkwX2_condition_4 ++ dktX2_condition_5
def dkwX2_condition_3 : List UInt8 := [182, 0, 209, 42, 43, 182, 1, 75, 167, 255, 216, 42, 16, 15, 182, 0, 202, 154, 0, 12, 42, 16, 14]
abbrev dktX2_condition_3 : List UInt8 := dkwX2_condition_3 ++ dktX2_condition_4
def dkwX2_condition_2 : List UInt8 := [153, 0, 33, 42, 43, 182, 1, 72, 42, 89, 180, 1, 55, 4, 100, 181, 1, 55, 132, 2, 255, 42]
abbrev dktX2_condition_2 : List UInt8 := dkwX2_condition_2 ++ dktX2_condition_3
def dkwX2_condition_1 : List UInt8 := [153, 0, 91, 28, 42, 43, 28, 182, 1, 68, 96, 61, 28, 158, 0, 42, 42, 16, 41, 182, 0, 212]
abbrev dktX2_condition_1 : List UInt8 := dkwX2_condition_1 ++ dktX2_condition_2
def dkwX2_condition_0 : List UInt8 := [43, 42, 180, 1, 24, 182, 1, 65, 42, 3, 181, 1, 55, 42, 3, 181, 1, 40, 3, 61, 4, 62, 29]
abbrev dktX2_condition_0 : List UInt8 := dkwX2_condition_0 ++ dktX2_condition_1
theorem dksX2_condition_0 : cX2_condition.data.toList.drop 0 = dktX2_condition_0 := by decide +kernel
theorem dksX2_condition_1 : cX2_condition.data.toList.drop 23 = dktX2_condition_1 := dk_seg dksX2_condition_0 23 rfl rfl
theorem dksX2_condition_2 : cX2_condition.data.toList.drop 45 = dktX2_condition_2 := dk_seg dksX2_condition_1 22 rfl rfl
theorem dksX2_condition_3 : cX2_condition.data.toList.drop 67 = dktX2_condition_3 := dk_seg dksX2_condition_2 22 rfl rfl
theorem dksX2_condition_4 : cX2_condition.data.toList.drop 90 = dktX2_condition_4 := dk_seg dksX2_condition_3 23 rfl rfl
theorem dksX2_condition_5 : cX2_condition.data.toList.drop 114 = dktX2_condition_5 := dk_seg dksX2_condition_4 24 rfl rfl
theorem dX2_condition_0 : decode cX2_condition 0 = .ok (.aload_n 1, 1) := dk_43 (dk_at dksX2_condition_0 0 rfl rfl)
theorem dX2_condition_1 : decode cX2_condition 1 = .ok (.aload_n 0, 1) := dk_42 (dk_at dksX2_condition_0 1 rfl rfl)
theorem dX2_condition_2 : decode cX2_condition 2 = .ok (.getfield 280, 3) := dk_180 1 24 (dk_at dksX2_condition_0 2 rfl rfl)
theorem dX2_condition_5 : decode cX2_condition 5 = .ok (.invokevirtual 321, 3) := dk_182 1 65 (dk_at dksX2_condition_0 5 rfl rfl)
theorem dX2_condition_8 : decode cX2_condition 8 = .ok (.aload_n 0, 1) := dk_42 (dk_at dksX2_condition_0 8 rfl rfl)
theorem dX2_condition_9 : decode cX2_condition 9 = .ok (.iconst 0, 1) := dk_3 (dk_at dksX2_condition_0 9 rfl rfl)
theorem dX2_condition_10 : decode cX2_condition 10 = .ok (.putfield 311, 3) := dk_181 1 55 (dk_at dksX2_condition_0 10 rfl rfl)
theorem dX2_condition_13 : decode cX2_condition 13 = .ok (.aload_n 0, 1) := dk_42 (dk_at dksX2_condition_0 13 rfl rfl)
theorem dX2_condition_14 : decode cX2_condition 14 = .ok (.iconst 0, 1) := dk_3 (dk_at dksX2_condition_0 14 rfl rfl)
theorem dX2_condition_15 : decode cX2_condition 15 = .ok (.putfield 296, 3) := dk_181 1 40 (dk_at dksX2_condition_0 15 rfl rfl)
theorem dX2_condition_18 : decode cX2_condition 18 = .ok (.iconst 0, 1) := dk_3 (dk_at dksX2_condition_0 18 rfl rfl)
theorem dX2_condition_19 : decode cX2_condition 19 = .ok (.istore_n 2, 1) := dk_61 (dk_at dksX2_condition_0 19 rfl rfl)
theorem dX2_condition_20 : decode cX2_condition 20 = .ok (.iconst 1, 1) := dk_4 (dk_at dksX2_condition_0 20 rfl rfl)
theorem dX2_condition_21 : decode cX2_condition 21 = .ok (.istore_n 3, 1) := dk_62 (dk_at dksX2_condition_0 21 rfl rfl)
theorem dX2_condition_22 : decode cX2_condition 22 = .ok (.iload_n 3, 1) := dk_29 (dk_at dksX2_condition_0 22 rfl rfl)
theorem dX2_condition_23 : decode cX2_condition 23 = .ok (.ifCond .eq 91, 3) := dk_153 0 91 (dk_at dksX2_condition_1 0 rfl rfl)
theorem dX2_condition_26 : decode cX2_condition 26 = .ok (.iload_n 2, 1) := dk_28 (dk_at dksX2_condition_1 3 rfl rfl)
theorem dX2_condition_27 : decode cX2_condition 27 = .ok (.aload_n 0, 1) := dk_42 (dk_at dksX2_condition_1 4 rfl rfl)
theorem dX2_condition_28 : decode cX2_condition 28 = .ok (.aload_n 1, 1) := dk_43 (dk_at dksX2_condition_1 5 rfl rfl)
theorem dX2_condition_29 : decode cX2_condition 29 = .ok (.iload_n 2, 1) := dk_28 (dk_at dksX2_condition_1 6 rfl rfl)
theorem dX2_condition_30 : decode cX2_condition 30 = .ok (.invokevirtual 324, 3) := dk_182 1 68 (dk_at dksX2_condition_1 7 rfl rfl)
theorem dX2_condition_33 : decode cX2_condition 33 = .ok (.iadd, 1) := dk_96 (dk_at dksX2_condition_1 10 rfl rfl)
theorem dX2_condition_34 : decode cX2_condition 34 = .ok (.istore_n 2, 1) := dk_61 (dk_at dksX2_condition_1 11 rfl rfl)
theorem dX2_condition_35 : decode cX2_condition 35 = .ok (.iload_n 2, 1) := dk_28 (dk_at dksX2_condition_1 12 rfl rfl)
theorem dX2_condition_36 : decode cX2_condition 36 = .ok (.ifCond .le 42, 3) := dk_158 0 42 (dk_at dksX2_condition_1 13 rfl rfl)
theorem dX2_condition_39 : decode cX2_condition 39 = .ok (.aload_n 0, 1) := dk_42 (dk_at dksX2_condition_1 16 rfl rfl)
theorem dX2_condition_40 : decode cX2_condition 40 = .ok (.bipush 41, 2) := dk_16 41 (dk_at dksX2_condition_1 17 rfl rfl)
theorem dX2_condition_42 : decode cX2_condition 42 = .ok (.invokevirtual 212, 3) := dk_182 0 212 (dk_at dksX2_condition_1 19 rfl rfl)
theorem dX2_condition_45 : decode cX2_condition 45 = .ok (.ifCond .eq 33, 3) := dk_153 0 33 (dk_at dksX2_condition_2 0 rfl rfl)
theorem dX2_condition_48 : decode cX2_condition 48 = .ok (.aload_n 0, 1) := dk_42 (dk_at dksX2_condition_2 3 rfl rfl)
theorem dX2_condition_49 : decode cX2_condition 49 = .ok (.aload_n 1, 1) := dk_43 (dk_at dksX2_condition_2 4 rfl rfl)
theorem dX2_condition_50 : decode cX2_condition 50 = .ok (.invokevirtual 328, 3) := dk_182 1 72 (dk_at dksX2_condition_2 5 rfl rfl)
theorem dX2_condition_53 : decode cX2_condition 53 = .ok (.aload_n 0, 1) := dk_42 (dk_at dksX2_condition_2 8 rfl rfl)
theorem dX2_condition_54 : decode cX2_condition 54 = .ok (.dup, 1) := dk_89 (dk_at dksX2_condition_2 9 rfl rfl)
theorem dX2_condition_55 : decode cX2_condition 55 = .ok (.getfield 311, 3) := dk_180 1 55 (dk_at dksX2_condition_2 10 rfl rfl)
theorem dX2_condition_58 : decode cX2_condition 58 = .ok (.iconst 1, 1) := dk_4 (dk_at dksX2_condition_2 13 rfl rfl)
theorem dX2_condition_59 : decode cX2_condition 59 = .ok (.isub, 1) := dk_100 (dk_at dksX2_condition_2 14 rfl rfl)
theorem dX2_condition_60 : decode cX2_condition 60 = .ok (.putfield 311, 3) := dk_181 1 55 (dk_at dksX2_condition_2 15 rfl rfl)
theorem dX2_condition_63 : decode cX2_condition 63 = .ok (.iinc 2 (-1), 3) := dk_132 2 255 (dk_at dksX2_condition_2 18 rfl rfl)
theorem dX2_condition_66 : decode cX2_condition 66 = .ok (.aload_n 0, 1) := dk_42 (dk_at dksX2_condition_2 21 rfl rfl)
theorem dX2_condition_67 : decode cX2_condition 67 = .ok (.invokevirtual 209, 3) := dk_182 0 209 (dk_at dksX2_condition_3 0 rfl rfl)
theorem dX2_condition_70 : decode cX2_condition 70 = .ok (.aload_n 0, 1) := dk_42 (dk_at dksX2_condition_3 3 rfl rfl)
theorem dX2_condition_71 : decode cX2_condition 71 = .ok (.aload_n 1, 1) := dk_43 (dk_at dksX2_condition_3 4 rfl rfl)
theorem dX2_condition_72 : decode cX2_condition 72 = .ok (.invokevirtual 331, 3) := dk_182 1 75 (dk_at dksX2_condition_3 5 rfl rfl)
theorem dX2_condition_75 : decode cX2_condition 75 = .ok (.goto (-40), 3) := dk_167 255 216 (dk_at dksX2_condition_3 8 rfl rfl)
theorem dX2_condition_78 : decode cX2_condition 78 = .ok (.aload_n 0, 1) := dk_42 (dk_at dksX2_condition_3 11 rfl rfl)
theorem dX2_condition_79 : decode cX2_condition 79 = .ok (.bipush 15, 2) := dk_16 15 (dk_at dksX2_condition_3 12 rfl rfl)
theorem dX2_condition_81 : decode cX2_condition 81 = .ok (.invokevirtual 202, 3) := dk_182 0 202 (dk_at dksX2_condition_3 14 rfl rfl)
theorem dX2_condition_84 : decode cX2_condition 84 = .ok (.ifCond .ne 12, 3) := dk_154 0 12 (dk_at dksX2_condition_3 17 rfl rfl)
theorem dX2_condition_87 : decode cX2_condition 87 = .ok (.aload_n 0, 1) := dk_42 (dk_at dksX2_condition_3 20 rfl rfl)
theorem dX2_condition_88 : decode cX2_condition 88 = .ok (.bipush 14, 2) := dk_16 14 (dk_at dksX2_condition_3 21 rfl rfl)
theorem dX2_condition_90 : decode cX2_condition 90 = .ok (.invokevirtual 202, 3) := dk_182 0 202 (dk_at dksX2_condition_4 0 rfl rfl)
theorem dX2_condition_93 : decode cX2_condition 93 = .ok (.ifCond .eq 7, 3) := dk_153 0 7 (dk_at dksX2_condition_4 3 rfl rfl)
theorem dX2_condition_96 : decode cX2_condition 96 = .ok (.iconst 1, 1) := dk_4 (dk_at dksX2_condition_4 6 rfl rfl)
theorem dX2_condition_97 : decode cX2_condition 97 = .ok (.goto 4, 3) := dk_167 0 4 (dk_at dksX2_condition_4 7 rfl rfl)
theorem dX2_condition_100 : decode cX2_condition 100 = .ok (.iconst 0, 1) := dk_3 (dk_at dksX2_condition_4 10 rfl rfl)
theorem dX2_condition_101 : decode cX2_condition 101 = .ok (.istore_n 3, 1) := dk_62 (dk_at dksX2_condition_4 11 rfl rfl)
theorem dX2_condition_102 : decode cX2_condition 102 = .ok (.iload_n 3, 1) := dk_29 (dk_at dksX2_condition_4 12 rfl rfl)
theorem dX2_condition_103 : decode cX2_condition 103 = .ok (.ifCond .eq (-81), 3) := dk_153 255 175 (dk_at dksX2_condition_4 13 rfl rfl)
theorem dX2_condition_106 : decode cX2_condition 106 = .ok (.aload_n 0, 1) := dk_42 (dk_at dksX2_condition_4 16 rfl rfl)
theorem dX2_condition_107 : decode cX2_condition 107 = .ok (.aload_n 1, 1) := dk_43 (dk_at dksX2_condition_4 17 rfl rfl)
theorem dX2_condition_108 : decode cX2_condition 108 = .ok (.invokevirtual 334, 3) := dk_182 1 78 (dk_at dksX2_condition_4 18 rfl rfl)
theorem dX2_condition_111 : decode cX2_condition 111 = .ok (.goto (-89), 3) := dk_167 255 167 (dk_at dksX2_condition_4 21 rfl rfl)
theorem dX2_condition_114 : decode cX2_condition 114 = .ok (.iload_n 2, 1) := dk_28 (dk_at dksX2_condition_5 0 rfl rfl)
theorem dX2_condition_115 : decode cX2_condition 115 = .ok (.ifCond .le 8, 3) := dk_158 0 8 (dk_at dksX2_condition_5 1 rfl rfl)
theorem dX2_condition_118 : decode cX2_condition 118 = .ok (.aload_n 0, 1) := dk_42 (dk_at dksX2_condition_5 4 rfl rfl)
theorem dX2_condition_119 : decode cX2_condition 119 = .ok (.invokevirtual 205, 3) := dk_182 0 205 (dk_at dksX2_condition_5 5 rfl rfl)
theorem dX2_condition_122 : decode cX2_condition 122 = .ok (.athrow, 1) := dk_191 (dk_at dksX2_condition_5 8 rfl rfl)
theorem dX2_condition_123 : decode cX2_condition 123 = .ok (.aload_n 0, 1) := dk_42 (dk_at dksX2_condition_5 9 rfl rfl)
theorem dX2_condition_124 : decode cX2_condition 124 = .ok (.aload_n 1, 1) := dk_43 (dk_at dksX2_condition_5 10 rfl rfl)
theorem dX2_condition_125 : decode cX2_condition 125 = .ok (.invokevirtual 328, 3) := dk_182 1 72 (dk_at dksX2_condition_5 11 rfl rfl)
theorem dX2_condition_128 : decode cX2_condition 128 = .ok (.return_, 1) := dk_177 (dk_at dksX2_condition_5 14 rfl rfl)
abbrev cX2_operand : ByteArray := prog_14_method_29_code
def yX2_operand : MethodName := ⟨RX2, "operand", "(LElectionHouse$Clause;I)I"⟩
def dkwX2_operand_5 : List UInt8 := [182, 0, 205, 191, 42, 43, 182, 1, 87, 42, 43, 182, 1, 75, 29, 172]
abbrev dktX2_operand_5 : List UInt8 := dkwX2_operand_5 ++ []
def dkwX2_operand_4 : List UInt8 := [167, 0, 4, 2, 182, 1, 80, 42, 182, 0, 209, 167, 255, 153, 42, 182, 1, 83, 154, 0, 8, 42]
abbrev dktX2_operand_4 : List UInt8 := dkwX2_operand_4 ++ dktX2_operand_5
def dkwX2_operand_3 : List UInt8 := [163, 0, 7, 4, 167, 0, 4, 3, 42, 180, 0, 150, 182, 0, 215, 42, 21, 4, 153, 0, 9, 17, 15, 162]
abbrev dktX2_operand_3 : List UInt8 := dkwX2_operand_3 ++ dktX2_operand_4
def dkwX2_operand_2 : List UInt8 := [21, 4, 153, 0, 7, 3, 167, 0, 4, 4, 96, 62, 42, 21, 4, 154, 0, 11, 28, 29, 96, 16, 30]
abbrev dktX2_operand_2 : List UInt8 := dkwX2_operand_2 ++ dktX2_operand_3
def dkwX2_operand_1 : List UInt8 := [4, 160, 0, 7, 4, 167, 0, 4, 3, 54, 4, 42, 89, 180, 1, 40, 21, 4, 130, 181, 1, 40, 29]
abbrev dktX2_operand_1 : List UInt8 := dkwX2_operand_1 ++ dktX2_operand_2
def dkwX2_operand_0 : List UInt8 := [3, 62, 42, 16, 16, 182, 0, 202, 154, 0, 12, 42, 16, 40, 182, 0, 212, 153, 0, 91, 42, 180, 0, 193]
abbrev dktX2_operand_0 : List UInt8 := dkwX2_operand_0 ++ dktX2_operand_1
theorem dksX2_operand_0 : cX2_operand.data.toList.drop 0 = dktX2_operand_0 := by decide +kernel
theorem dksX2_operand_1 : cX2_operand.data.toList.drop 24 = dktX2_operand_1 := dk_seg dksX2_operand_0 24 rfl rfl
theorem dksX2_operand_2 : cX2_operand.data.toList.drop 47 = dktX2_operand_2 := dk_seg dksX2_operand_1 23 rfl rfl
theorem dksX2_operand_3 : cX2_operand.data.toList.drop 70 = dktX2_operand_3 := dk_seg dksX2_operand_2 23 rfl rfl
theorem dksX2_operand_4 : cX2_operand.data.toList.drop 94 = dktX2_operand_4 := dk_seg dksX2_operand_3 24 rfl rfl
theorem dksX2_operand_5 : cX2_operand.data.toList.drop 116 = dktX2_operand_5 := dk_seg dksX2_operand_4 22 rfl rfl
theorem dX2_operand_0 : decode cX2_operand 0 = .ok (.iconst 0, 1) := dk_3 (dk_at dksX2_operand_0 0 rfl rfl)
theorem dX2_operand_1 : decode cX2_operand 1 = .ok (.istore_n 3, 1) := dk_62 (dk_at dksX2_operand_0 1 rfl rfl)
theorem dX2_operand_2 : decode cX2_operand 2 = .ok (.aload_n 0, 1) := dk_42 (dk_at dksX2_operand_0 2 rfl rfl)
theorem dX2_operand_3 : decode cX2_operand 3 = .ok (.bipush 16, 2) := dk_16 16 (dk_at dksX2_operand_0 3 rfl rfl)
theorem dX2_operand_5 : decode cX2_operand 5 = .ok (.invokevirtual 202, 3) := dk_182 0 202 (dk_at dksX2_operand_0 5 rfl rfl)
theorem dX2_operand_8 : decode cX2_operand 8 = .ok (.ifCond .ne 12, 3) := dk_154 0 12 (dk_at dksX2_operand_0 8 rfl rfl)
theorem dX2_operand_11 : decode cX2_operand 11 = .ok (.aload_n 0, 1) := dk_42 (dk_at dksX2_operand_0 11 rfl rfl)
theorem dX2_operand_12 : decode cX2_operand 12 = .ok (.bipush 40, 2) := dk_16 40 (dk_at dksX2_operand_0 12 rfl rfl)
theorem dX2_operand_14 : decode cX2_operand 14 = .ok (.invokevirtual 212, 3) := dk_182 0 212 (dk_at dksX2_operand_0 14 rfl rfl)
theorem dX2_operand_17 : decode cX2_operand 17 = .ok (.ifCond .eq 91, 3) := dk_153 0 91 (dk_at dksX2_operand_0 17 rfl rfl)
theorem dX2_operand_20 : decode cX2_operand 20 = .ok (.aload_n 0, 1) := dk_42 (dk_at dksX2_operand_0 20 rfl rfl)
theorem dX2_operand_21 : decode cX2_operand 21 = .ok (.getfield 193, 3) := dk_180 0 193 (dk_at dksX2_operand_0 21 rfl rfl)
theorem dX2_operand_24 : decode cX2_operand 24 = .ok (.iconst 1, 1) := dk_4 (dk_at dksX2_operand_1 0 rfl rfl)
theorem dX2_operand_25 : decode cX2_operand 25 = .ok (.if_icmp .ne 7, 3) := dk_160 0 7 (dk_at dksX2_operand_1 1 rfl rfl)
theorem dX2_operand_28 : decode cX2_operand 28 = .ok (.iconst 1, 1) := dk_4 (dk_at dksX2_operand_1 4 rfl rfl)
theorem dX2_operand_29 : decode cX2_operand 29 = .ok (.goto 4, 3) := dk_167 0 4 (dk_at dksX2_operand_1 5 rfl rfl)
theorem dX2_operand_32 : decode cX2_operand 32 = .ok (.iconst 0, 1) := dk_3 (dk_at dksX2_operand_1 8 rfl rfl)
theorem dX2_operand_33 : decode cX2_operand 33 = .ok (.istore 4, 2) := dk_54 4 (dk_at dksX2_operand_1 9 rfl rfl)
theorem dX2_operand_35 : decode cX2_operand 35 = .ok (.aload_n 0, 1) := dk_42 (dk_at dksX2_operand_1 11 rfl rfl)
theorem dX2_operand_36 : decode cX2_operand 36 = .ok (.dup, 1) := dk_89 (dk_at dksX2_operand_1 12 rfl rfl)
theorem dX2_operand_37 : decode cX2_operand 37 = .ok (.getfield 296, 3) := dk_180 1 40 (dk_at dksX2_operand_1 13 rfl rfl)
theorem dX2_operand_40 : decode cX2_operand 40 = .ok (.iload 4, 2) := dk_21 4 (dk_at dksX2_operand_1 16 rfl rfl)
theorem dX2_operand_42 : decode cX2_operand 42 = .ok (.ixor, 1) := dk_130 (dk_at dksX2_operand_1 18 rfl rfl)
theorem dX2_operand_43 : decode cX2_operand 43 = .ok (.putfield 296, 3) := dk_181 1 40 (dk_at dksX2_operand_1 19 rfl rfl)
theorem dX2_operand_46 : decode cX2_operand 46 = .ok (.iload_n 3, 1) := dk_29 (dk_at dksX2_operand_1 22 rfl rfl)
theorem dX2_operand_47 : decode cX2_operand 47 = .ok (.iload 4, 2) := dk_21 4 (dk_at dksX2_operand_2 0 rfl rfl)
theorem dX2_operand_49 : decode cX2_operand 49 = .ok (.ifCond .eq 7, 3) := dk_153 0 7 (dk_at dksX2_operand_2 2 rfl rfl)
theorem dX2_operand_52 : decode cX2_operand 52 = .ok (.iconst 0, 1) := dk_3 (dk_at dksX2_operand_2 5 rfl rfl)
theorem dX2_operand_53 : decode cX2_operand 53 = .ok (.goto 4, 3) := dk_167 0 4 (dk_at dksX2_operand_2 6 rfl rfl)
theorem dX2_operand_56 : decode cX2_operand 56 = .ok (.iconst 1, 1) := dk_4 (dk_at dksX2_operand_2 9 rfl rfl)
theorem dX2_operand_57 : decode cX2_operand 57 = .ok (.iadd, 1) := dk_96 (dk_at dksX2_operand_2 10 rfl rfl)
theorem dX2_operand_58 : decode cX2_operand 58 = .ok (.istore_n 3, 1) := dk_62 (dk_at dksX2_operand_2 11 rfl rfl)
theorem dX2_operand_59 : decode cX2_operand 59 = .ok (.aload_n 0, 1) := dk_42 (dk_at dksX2_operand_2 12 rfl rfl)
theorem dX2_operand_60 : decode cX2_operand 60 = .ok (.iload 4, 2) := dk_21 4 (dk_at dksX2_operand_2 13 rfl rfl)
theorem dX2_operand_62 : decode cX2_operand 62 = .ok (.ifCond .ne 11, 3) := dk_154 0 11 (dk_at dksX2_operand_2 15 rfl rfl)
theorem dX2_operand_65 : decode cX2_operand 65 = .ok (.iload_n 2, 1) := dk_28 (dk_at dksX2_operand_2 18 rfl rfl)
theorem dX2_operand_66 : decode cX2_operand 66 = .ok (.iload_n 3, 1) := dk_29 (dk_at dksX2_operand_2 19 rfl rfl)
theorem dX2_operand_67 : decode cX2_operand 67 = .ok (.iadd, 1) := dk_96 (dk_at dksX2_operand_2 20 rfl rfl)
theorem dX2_operand_68 : decode cX2_operand 68 = .ok (.bipush 30, 2) := dk_16 30 (dk_at dksX2_operand_2 21 rfl rfl)
theorem dX2_operand_70 : decode cX2_operand 70 = .ok (.if_icmp .gt 7, 3) := dk_163 0 7 (dk_at dksX2_operand_3 0 rfl rfl)
theorem dX2_operand_73 : decode cX2_operand 73 = .ok (.iconst 1, 1) := dk_4 (dk_at dksX2_operand_3 3 rfl rfl)
theorem dX2_operand_74 : decode cX2_operand 74 = .ok (.goto 4, 3) := dk_167 0 4 (dk_at dksX2_operand_3 4 rfl rfl)
theorem dX2_operand_77 : decode cX2_operand 77 = .ok (.iconst 0, 1) := dk_3 (dk_at dksX2_operand_3 7 rfl rfl)
theorem dX2_operand_78 : decode cX2_operand 78 = .ok (.aload_n 0, 1) := dk_42 (dk_at dksX2_operand_3 8 rfl rfl)
theorem dX2_operand_79 : decode cX2_operand 79 = .ok (.getfield 150, 3) := dk_180 0 150 (dk_at dksX2_operand_3 9 rfl rfl)
theorem dX2_operand_82 : decode cX2_operand 82 = .ok (.invokevirtual 215, 3) := dk_182 0 215 (dk_at dksX2_operand_3 12 rfl rfl)
theorem dX2_operand_85 : decode cX2_operand 85 = .ok (.aload_n 0, 1) := dk_42 (dk_at dksX2_operand_3 15 rfl rfl)
theorem dX2_operand_86 : decode cX2_operand 86 = .ok (.iload 4, 2) := dk_21 4 (dk_at dksX2_operand_3 16 rfl rfl)
theorem dX2_operand_88 : decode cX2_operand 88 = .ok (.ifCond .eq 9, 3) := dk_153 0 9 (dk_at dksX2_operand_3 18 rfl rfl)
theorem dX2_operand_91 : decode cX2_operand 91 = .ok (.sipush 4002, 3) := dk_17 15 162 (dk_at dksX2_operand_3 21 rfl rfl)
theorem dX2_operand_94 : decode cX2_operand 94 = .ok (.goto 4, 3) := dk_167 0 4 (dk_at dksX2_operand_4 0 rfl rfl)
theorem dX2_operand_97 : decode cX2_operand 97 = .ok (.iconst (-1), 1) := dk_2 (dk_at dksX2_operand_4 3 rfl rfl)
theorem dX2_operand_98 : decode cX2_operand 98 = .ok (.invokevirtual 336, 3) := dk_182 1 80 (dk_at dksX2_operand_4 4 rfl rfl)
theorem dX2_operand_101 : decode cX2_operand 101 = .ok (.aload_n 0, 1) := dk_42 (dk_at dksX2_operand_4 7 rfl rfl)
theorem dX2_operand_102 : decode cX2_operand 102 = .ok (.invokevirtual 209, 3) := dk_182 0 209 (dk_at dksX2_operand_4 8 rfl rfl)
theorem dX2_operand_105 : decode cX2_operand 105 = .ok (.goto (-103), 3) := dk_167 255 153 (dk_at dksX2_operand_4 11 rfl rfl)
theorem dX2_operand_108 : decode cX2_operand 108 = .ok (.aload_n 0, 1) := dk_42 (dk_at dksX2_operand_4 14 rfl rfl)
theorem dX2_operand_109 : decode cX2_operand 109 = .ok (.invokevirtual 339, 3) := dk_182 1 83 (dk_at dksX2_operand_4 15 rfl rfl)
theorem dX2_operand_112 : decode cX2_operand 112 = .ok (.ifCond .ne 8, 3) := dk_154 0 8 (dk_at dksX2_operand_4 18 rfl rfl)
theorem dX2_operand_115 : decode cX2_operand 115 = .ok (.aload_n 0, 1) := dk_42 (dk_at dksX2_operand_4 21 rfl rfl)
theorem dX2_operand_116 : decode cX2_operand 116 = .ok (.invokevirtual 205, 3) := dk_182 0 205 (dk_at dksX2_operand_5 0 rfl rfl)
theorem dX2_operand_119 : decode cX2_operand 119 = .ok (.athrow, 1) := dk_191 (dk_at dksX2_operand_5 3 rfl rfl)
theorem dX2_operand_120 : decode cX2_operand 120 = .ok (.aload_n 0, 1) := dk_42 (dk_at dksX2_operand_5 4 rfl rfl)
theorem dX2_operand_121 : decode cX2_operand 121 = .ok (.aload_n 1, 1) := dk_43 (dk_at dksX2_operand_5 5 rfl rfl)
theorem dX2_operand_122 : decode cX2_operand 122 = .ok (.invokevirtual 343, 3) := dk_182 1 87 (dk_at dksX2_operand_5 6 rfl rfl)
theorem dX2_operand_125 : decode cX2_operand 125 = .ok (.aload_n 0, 1) := dk_42 (dk_at dksX2_operand_5 9 rfl rfl)
theorem dX2_operand_126 : decode cX2_operand 126 = .ok (.aload_n 1, 1) := dk_43 (dk_at dksX2_operand_5 10 rfl rfl)
theorem dX2_operand_127 : decode cX2_operand 127 = .ok (.invokevirtual 331, 3) := dk_182 1 75 (dk_at dksX2_operand_5 11 rfl rfl)
theorem dX2_operand_130 : decode cX2_operand 130 = .ok (.iload_n 3, 1) := dk_29 (dk_at dksX2_operand_5 14 rfl rfl)
theorem dX2_operand_131 : decode cX2_operand 131 = .ok (.ireturn, 1) := dk_172 (dk_at dksX2_operand_5 15 rfl rfl)
abbrev cX2_push : ByteArray := prog_14_method_26_code
def yX2_push : MethodName := ⟨RX2, "push", "(I)V"⟩
def dkwX2_push_0 : List UInt8 := [42, 180, 0, 22, 42, 180, 1, 55, 27, 79, 42, 89, 180, 1, 55, 4, 96, 181, 1, 55, 177]
abbrev dktX2_push_0 : List UInt8 := dkwX2_push_0 ++ []
theorem dksX2_push_0 : cX2_push.data.toList.drop 0 = dktX2_push_0 := by decide +kernel
theorem dX2_push_0 : decode cX2_push 0 = .ok (.aload_n 0, 1) := dk_42 (dk_at dksX2_push_0 0 rfl rfl)
theorem dX2_push_1 : decode cX2_push 1 = .ok (.getfield 22, 3) := dk_180 0 22 (dk_at dksX2_push_0 1 rfl rfl)
theorem dX2_push_4 : decode cX2_push 4 = .ok (.aload_n 0, 1) := dk_42 (dk_at dksX2_push_0 4 rfl rfl)
theorem dX2_push_5 : decode cX2_push 5 = .ok (.getfield 311, 3) := dk_180 1 55 (dk_at dksX2_push_0 5 rfl rfl)
theorem dX2_push_8 : decode cX2_push 8 = .ok (.iload_n 1, 1) := dk_27 (dk_at dksX2_push_0 8 rfl rfl)
theorem dX2_push_9 : decode cX2_push 9 = .ok (.iastore, 1) := dk_79 (dk_at dksX2_push_0 9 rfl rfl)
theorem dX2_push_10 : decode cX2_push 10 = .ok (.aload_n 0, 1) := dk_42 (dk_at dksX2_push_0 10 rfl rfl)
theorem dX2_push_11 : decode cX2_push 11 = .ok (.dup, 1) := dk_89 (dk_at dksX2_push_0 11 rfl rfl)
theorem dX2_push_12 : decode cX2_push 12 = .ok (.getfield 311, 3) := dk_180 1 55 (dk_at dksX2_push_0 12 rfl rfl)
theorem dX2_push_15 : decode cX2_push 15 = .ok (.iconst 1, 1) := dk_4 (dk_at dksX2_push_0 15 rfl rfl)
theorem dX2_push_16 : decode cX2_push 16 = .ok (.iadd, 1) := dk_96 (dk_at dksX2_push_0 16 rfl rfl)
theorem dX2_push_17 : decode cX2_push 17 = .ok (.putfield 311, 3) := dk_181 1 55 (dk_at dksX2_push_0 17 rfl rfl)
theorem dX2_push_20 : decode cX2_push 20 = .ok (.return_, 1) := dk_177 (dk_at dksX2_push_0 20 rfl rfl)
abbrev cX2_isTest : ByteArray := prog_14_method_23_code
def yX2_isTest : MethodName := ⟨RX2, "isTest", "()Z"⟩
def dkwX2_isTest_1 : List UInt8 := [180, 0, 182, 16, 9, 160, 0, 7, 4, 167, 0, 4, 3, 172]
abbrev dktX2_isTest_1 : List UInt8 := dkwX2_isTest_1 ++ []
def dkwX2_isTest_0 : List UInt8 := [42, 180, 0, 193, 4, 160, 0, 30, 42, 180, 0, 182, 16, 17, 16, 19, 184, 0, 163, 154, 0, 12, 42]
abbrev dktX2_isTest_0 : List UInt8 := dkwX2_isTest_0 ++ dktX2_isTest_1
theorem dksX2_isTest_0 : cX2_isTest.data.toList.drop 0 = dktX2_isTest_0 := by decide +kernel
theorem dksX2_isTest_1 : cX2_isTest.data.toList.drop 23 = dktX2_isTest_1 := dk_seg dksX2_isTest_0 23 rfl rfl
theorem dX2_isTest_0 : decode cX2_isTest 0 = .ok (.aload_n 0, 1) := dk_42 (dk_at dksX2_isTest_0 0 rfl rfl)
theorem dX2_isTest_1 : decode cX2_isTest 1 = .ok (.getfield 193, 3) := dk_180 0 193 (dk_at dksX2_isTest_0 1 rfl rfl)
theorem dX2_isTest_4 : decode cX2_isTest 4 = .ok (.iconst 1, 1) := dk_4 (dk_at dksX2_isTest_0 4 rfl rfl)
theorem dX2_isTest_5 : decode cX2_isTest 5 = .ok (.if_icmp .ne 30, 3) := dk_160 0 30 (dk_at dksX2_isTest_0 5 rfl rfl)
theorem dX2_isTest_8 : decode cX2_isTest 8 = .ok (.aload_n 0, 1) := dk_42 (dk_at dksX2_isTest_0 8 rfl rfl)
theorem dX2_isTest_9 : decode cX2_isTest 9 = .ok (.getfield 182, 3) := dk_180 0 182 (dk_at dksX2_isTest_0 9 rfl rfl)
theorem dX2_isTest_12 : decode cX2_isTest 12 = .ok (.bipush 17, 2) := dk_16 17 (dk_at dksX2_isTest_0 12 rfl rfl)
theorem dX2_isTest_14 : decode cX2_isTest 14 = .ok (.bipush 19, 2) := dk_16 19 (dk_at dksX2_isTest_0 14 rfl rfl)
theorem dX2_isTest_16 : decode cX2_isTest 16 = .ok (.invokestatic 163, 3) := dk_184 0 163 (dk_at dksX2_isTest_0 16 rfl rfl)
theorem dX2_isTest_19 : decode cX2_isTest 19 = .ok (.ifCond .ne 12, 3) := dk_154 0 12 (dk_at dksX2_isTest_0 19 rfl rfl)
theorem dX2_isTest_22 : decode cX2_isTest 22 = .ok (.aload_n 0, 1) := dk_42 (dk_at dksX2_isTest_0 22 rfl rfl)
theorem dX2_isTest_23 : decode cX2_isTest 23 = .ok (.getfield 182, 3) := dk_180 0 182 (dk_at dksX2_isTest_1 0 rfl rfl)
theorem dX2_isTest_26 : decode cX2_isTest 26 = .ok (.bipush 9, 2) := dk_16 9 (dk_at dksX2_isTest_1 3 rfl rfl)
theorem dX2_isTest_28 : decode cX2_isTest 28 = .ok (.if_icmp .ne 7, 3) := dk_160 0 7 (dk_at dksX2_isTest_1 5 rfl rfl)
theorem dX2_isTest_31 : decode cX2_isTest 31 = .ok (.iconst 1, 1) := dk_4 (dk_at dksX2_isTest_1 8 rfl rfl)
theorem dX2_isTest_32 : decode cX2_isTest 32 = .ok (.goto 4, 3) := dk_167 0 4 (dk_at dksX2_isTest_1 9 rfl rfl)
theorem dX2_isTest_35 : decode cX2_isTest 35 = .ok (.iconst 0, 1) := dk_3 (dk_at dksX2_isTest_1 12 rfl rfl)
theorem dX2_isTest_36 : decode cX2_isTest 36 = .ok (.ireturn, 1) := dk_172 (dk_at dksX2_isTest_1 13 rfl rfl)
abbrev cX2_test : ByteArray := prog_14_method_21_code
def yX2_test : MethodName := ⟨RX2, "test", "(LElectionHouse$Clause;)V"⟩
def dkwX2_test_9 : List UInt8 := [181, 1, 24, 43, 42, 180, 1, 24, 181, 1, 48, 177]
abbrev dktX2_test_9 : List UInt8 := dkwX2_test_9 ++ []
def dkwX2_test_8 : List UInt8 := [180, 1, 24, 42, 180, 1, 40, 84, 43, 42, 180, 1, 24, 182, 1, 43, 42, 89, 180, 1, 24, 4, 96]
abbrev dktX2_test_8 : List UInt8 := dkwX2_test_8 ++ dktX2_test_9
def dkwX2_test_7 : List UInt8 := [21, 5, 79, 42, 180, 1, 7, 180, 1, 35, 42, 180, 1, 24, 28, 79, 42, 180, 1, 7, 180, 1, 37, 42]
abbrev dktX2_test_7 : List UInt8 := dkwX2_test_7 ++ dktX2_test_8
def dkwX2_test_6 : List UInt8 := [180, 1, 7, 180, 1, 30, 42, 180, 1, 24, 21, 4, 79, 42, 180, 1, 7, 180, 1, 32, 42, 180, 1, 24]
abbrev dktX2_test_6 : List UInt8 := dkwX2_test_6 ++ dktX2_test_7
def dkwX2_test_5 : List UInt8 := [42, 180, 1, 24, 16, 40, 162, 0, 99, 42, 180, 1, 7, 180, 1, 27, 42, 180, 1, 24, 29, 79, 42]
abbrev dktX2_test_5 : List UInt8 := dkwX2_test_5 ++ dktX2_test_6
def dkwX2_test_4 : List UInt8 := [182, 1, 16, 54, 5, 42, 42, 180, 1, 24, 16, 40, 162, 0, 7, 4, 167, 0, 4, 3, 28, 182, 0, 215]
abbrev dktX2_test_4 : List UInt8 := dkwX2_test_4 ++ dktX2_test_5
def dkwX2_test_3 : List UInt8 := [182, 1, 22, 54, 4, 2, 54, 5, 42, 16, 20, 182, 0, 202, 153, 0, 13, 42, 182, 0, 209, 42]
abbrev dktX2_test_3 : List UInt8 := dkwX2_test_3 ++ dktX2_test_4
def dkwX2_test_2 : List UInt8 := [167, 0, 27, 29, 16, 18, 160, 0, 14, 42, 4, 17, 1, 144, 182, 1, 22, 167, 0, 10, 42, 3, 16, 9]
abbrev dktX2_test_2 : List UInt8 := dkwX2_test_2 ++ dktX2_test_3
def dkwX2_test_1 : List UInt8 := [182, 1, 19, 54, 4, 167, 0, 46, 29, 16, 17, 160, 0, 14, 42, 3, 17, 0, 150, 182, 1, 22]
abbrev dktX2_test_1 : List UInt8 := dkwX2_test_1 ++ dktX2_test_2
def dkwX2_test_0 : List UInt8 := [42, 180, 0, 150, 61, 42, 180, 0, 182, 62, 42, 182, 0, 209, 3, 54, 4, 29, 16, 9, 160, 0, 12, 42]
abbrev dktX2_test_0 : List UInt8 := dkwX2_test_0 ++ dktX2_test_1
theorem dksX2_test_0 : cX2_test.data.toList.drop 0 = dktX2_test_0 := by decide +kernel
theorem dksX2_test_1 : cX2_test.data.toList.drop 24 = dktX2_test_1 := dk_seg dksX2_test_0 24 rfl rfl
theorem dksX2_test_2 : cX2_test.data.toList.drop 46 = dktX2_test_2 := dk_seg dksX2_test_1 22 rfl rfl
theorem dksX2_test_3 : cX2_test.data.toList.drop 70 = dktX2_test_3 := dk_seg dksX2_test_2 24 rfl rfl
theorem dksX2_test_4 : cX2_test.data.toList.drop 92 = dktX2_test_4 := dk_seg dksX2_test_3 22 rfl rfl
theorem dksX2_test_5 : cX2_test.data.toList.drop 116 = dktX2_test_5 := dk_seg dksX2_test_4 24 rfl rfl
theorem dksX2_test_6 : cX2_test.data.toList.drop 139 = dktX2_test_6 := dk_seg dksX2_test_5 23 rfl rfl
theorem dksX2_test_7 : cX2_test.data.toList.drop 163 = dktX2_test_7 := dk_seg dksX2_test_6 24 rfl rfl
theorem dksX2_test_8 : cX2_test.data.toList.drop 187 = dktX2_test_8 := dk_seg dksX2_test_7 24 rfl rfl
theorem dksX2_test_9 : cX2_test.data.toList.drop 210 = dktX2_test_9 := dk_seg dksX2_test_8 23 rfl rfl
theorem dX2_test_0 : decode cX2_test 0 = .ok (.aload_n 0, 1) := dk_42 (dk_at dksX2_test_0 0 rfl rfl)
theorem dX2_test_1 : decode cX2_test 1 = .ok (.getfield 150, 3) := dk_180 0 150 (dk_at dksX2_test_0 1 rfl rfl)
theorem dX2_test_4 : decode cX2_test 4 = .ok (.istore_n 2, 1) := dk_61 (dk_at dksX2_test_0 4 rfl rfl)
theorem dX2_test_5 : decode cX2_test 5 = .ok (.aload_n 0, 1) := dk_42 (dk_at dksX2_test_0 5 rfl rfl)
theorem dX2_test_6 : decode cX2_test 6 = .ok (.getfield 182, 3) := dk_180 0 182 (dk_at dksX2_test_0 6 rfl rfl)
theorem dX2_test_9 : decode cX2_test 9 = .ok (.istore_n 3, 1) := dk_62 (dk_at dksX2_test_0 9 rfl rfl)
theorem dX2_test_10 : decode cX2_test 10 = .ok (.aload_n 0, 1) := dk_42 (dk_at dksX2_test_0 10 rfl rfl)
theorem dX2_test_11 : decode cX2_test 11 = .ok (.invokevirtual 209, 3) := dk_182 0 209 (dk_at dksX2_test_0 11 rfl rfl)
theorem dX2_test_14 : decode cX2_test 14 = .ok (.iconst 0, 1) := dk_3 (dk_at dksX2_test_0 14 rfl rfl)
theorem dX2_test_15 : decode cX2_test 15 = .ok (.istore 4, 2) := dk_54 4 (dk_at dksX2_test_0 15 rfl rfl)
theorem dX2_test_17 : decode cX2_test 17 = .ok (.iload_n 3, 1) := dk_29 (dk_at dksX2_test_0 17 rfl rfl)
theorem dX2_test_18 : decode cX2_test 18 = .ok (.bipush 9, 2) := dk_16 9 (dk_at dksX2_test_0 18 rfl rfl)
theorem dX2_test_20 : decode cX2_test 20 = .ok (.if_icmp .ne 12, 3) := dk_160 0 12 (dk_at dksX2_test_0 20 rfl rfl)
theorem dX2_test_23 : decode cX2_test 23 = .ok (.aload_n 0, 1) := dk_42 (dk_at dksX2_test_0 23 rfl rfl)
theorem dX2_test_24 : decode cX2_test 24 = .ok (.invokevirtual 275, 3) := dk_182 1 19 (dk_at dksX2_test_1 0 rfl rfl)
theorem dX2_test_27 : decode cX2_test 27 = .ok (.istore 4, 2) := dk_54 4 (dk_at dksX2_test_1 3 rfl rfl)
theorem dX2_test_29 : decode cX2_test 29 = .ok (.goto 46, 3) := dk_167 0 46 (dk_at dksX2_test_1 5 rfl rfl)
theorem dX2_test_32 : decode cX2_test 32 = .ok (.iload_n 3, 1) := dk_29 (dk_at dksX2_test_1 8 rfl rfl)
theorem dX2_test_33 : decode cX2_test 33 = .ok (.bipush 17, 2) := dk_16 17 (dk_at dksX2_test_1 9 rfl rfl)
theorem dX2_test_35 : decode cX2_test 35 = .ok (.if_icmp .ne 14, 3) := dk_160 0 14 (dk_at dksX2_test_1 11 rfl rfl)
theorem dX2_test_38 : decode cX2_test 38 = .ok (.aload_n 0, 1) := dk_42 (dk_at dksX2_test_1 14 rfl rfl)
theorem dX2_test_39 : decode cX2_test 39 = .ok (.iconst 0, 1) := dk_3 (dk_at dksX2_test_1 15 rfl rfl)
theorem dX2_test_40 : decode cX2_test 40 = .ok (.sipush 150, 3) := dk_17 0 150 (dk_at dksX2_test_1 16 rfl rfl)
theorem dX2_test_43 : decode cX2_test 43 = .ok (.invokevirtual 278, 3) := dk_182 1 22 (dk_at dksX2_test_1 19 rfl rfl)
theorem dX2_test_46 : decode cX2_test 46 = .ok (.goto 27, 3) := dk_167 0 27 (dk_at dksX2_test_2 0 rfl rfl)
theorem dX2_test_49 : decode cX2_test 49 = .ok (.iload_n 3, 1) := dk_29 (dk_at dksX2_test_2 3 rfl rfl)
theorem dX2_test_50 : decode cX2_test 50 = .ok (.bipush 18, 2) := dk_16 18 (dk_at dksX2_test_2 4 rfl rfl)
theorem dX2_test_52 : decode cX2_test 52 = .ok (.if_icmp .ne 14, 3) := dk_160 0 14 (dk_at dksX2_test_2 6 rfl rfl)
theorem dX2_test_55 : decode cX2_test 55 = .ok (.aload_n 0, 1) := dk_42 (dk_at dksX2_test_2 9 rfl rfl)
theorem dX2_test_56 : decode cX2_test 56 = .ok (.iconst 1, 1) := dk_4 (dk_at dksX2_test_2 10 rfl rfl)
theorem dX2_test_57 : decode cX2_test 57 = .ok (.sipush 400, 3) := dk_17 1 144 (dk_at dksX2_test_2 11 rfl rfl)
theorem dX2_test_60 : decode cX2_test 60 = .ok (.invokevirtual 278, 3) := dk_182 1 22 (dk_at dksX2_test_2 14 rfl rfl)
theorem dX2_test_63 : decode cX2_test 63 = .ok (.goto 10, 3) := dk_167 0 10 (dk_at dksX2_test_2 17 rfl rfl)
theorem dX2_test_66 : decode cX2_test 66 = .ok (.aload_n 0, 1) := dk_42 (dk_at dksX2_test_2 20 rfl rfl)
theorem dX2_test_67 : decode cX2_test 67 = .ok (.iconst 0, 1) := dk_3 (dk_at dksX2_test_2 21 rfl rfl)
theorem dX2_test_68 : decode cX2_test 68 = .ok (.bipush 9, 2) := dk_16 9 (dk_at dksX2_test_2 22 rfl rfl)
theorem dX2_test_70 : decode cX2_test 70 = .ok (.invokevirtual 278, 3) := dk_182 1 22 (dk_at dksX2_test_3 0 rfl rfl)
theorem dX2_test_73 : decode cX2_test 73 = .ok (.istore 4, 2) := dk_54 4 (dk_at dksX2_test_3 3 rfl rfl)
theorem dX2_test_75 : decode cX2_test 75 = .ok (.iconst (-1), 1) := dk_2 (dk_at dksX2_test_3 5 rfl rfl)
theorem dX2_test_76 : decode cX2_test 76 = .ok (.istore 5, 2) := dk_54 5 (dk_at dksX2_test_3 6 rfl rfl)
theorem dX2_test_78 : decode cX2_test 78 = .ok (.aload_n 0, 1) := dk_42 (dk_at dksX2_test_3 8 rfl rfl)
theorem dX2_test_79 : decode cX2_test 79 = .ok (.bipush 20, 2) := dk_16 20 (dk_at dksX2_test_3 9 rfl rfl)
theorem dX2_test_81 : decode cX2_test 81 = .ok (.invokevirtual 202, 3) := dk_182 0 202 (dk_at dksX2_test_3 11 rfl rfl)
theorem dX2_test_84 : decode cX2_test 84 = .ok (.ifCond .eq 13, 3) := dk_153 0 13 (dk_at dksX2_test_3 14 rfl rfl)
theorem dX2_test_87 : decode cX2_test 87 = .ok (.aload_n 0, 1) := dk_42 (dk_at dksX2_test_3 17 rfl rfl)
theorem dX2_test_88 : decode cX2_test 88 = .ok (.invokevirtual 209, 3) := dk_182 0 209 (dk_at dksX2_test_3 18 rfl rfl)
theorem dX2_test_91 : decode cX2_test 91 = .ok (.aload_n 0, 1) := dk_42 (dk_at dksX2_test_3 21 rfl rfl)
theorem dX2_test_92 : decode cX2_test 92 = .ok (.invokevirtual 272, 3) := dk_182 1 16 (dk_at dksX2_test_4 0 rfl rfl)
theorem dX2_test_95 : decode cX2_test 95 = .ok (.istore 5, 2) := dk_54 5 (dk_at dksX2_test_4 3 rfl rfl)
theorem dX2_test_97 : decode cX2_test 97 = .ok (.aload_n 0, 1) := dk_42 (dk_at dksX2_test_4 5 rfl rfl)
theorem dX2_test_98 : decode cX2_test 98 = .ok (.aload_n 0, 1) := dk_42 (dk_at dksX2_test_4 6 rfl rfl)
theorem dX2_test_99 : decode cX2_test 99 = .ok (.getfield 280, 3) := dk_180 1 24 (dk_at dksX2_test_4 7 rfl rfl)
theorem dX2_test_102 : decode cX2_test 102 = .ok (.bipush 40, 2) := dk_16 40 (dk_at dksX2_test_4 10 rfl rfl)
theorem dX2_test_104 : decode cX2_test 104 = .ok (.if_icmp .ge 7, 3) := dk_162 0 7 (dk_at dksX2_test_4 12 rfl rfl)
theorem dX2_test_107 : decode cX2_test 107 = .ok (.iconst 1, 1) := dk_4 (dk_at dksX2_test_4 15 rfl rfl)
theorem dX2_test_108 : decode cX2_test 108 = .ok (.goto 4, 3) := dk_167 0 4 (dk_at dksX2_test_4 16 rfl rfl)
theorem dX2_test_111 : decode cX2_test 111 = .ok (.iconst 0, 1) := dk_3 (dk_at dksX2_test_4 19 rfl rfl)
theorem dX2_test_112 : decode cX2_test 112 = .ok (.iload_n 2, 1) := dk_28 (dk_at dksX2_test_4 20 rfl rfl)
theorem dX2_test_113 : decode cX2_test 113 = .ok (.invokevirtual 215, 3) := dk_182 0 215 (dk_at dksX2_test_4 21 rfl rfl)
theorem dX2_test_116 : decode cX2_test 116 = .ok (.aload_n 0, 1) := dk_42 (dk_at dksX2_test_5 0 rfl rfl)
theorem dX2_test_117 : decode cX2_test 117 = .ok (.getfield 280, 3) := dk_180 1 24 (dk_at dksX2_test_5 1 rfl rfl)
theorem dX2_test_120 : decode cX2_test 120 = .ok (.bipush 40, 2) := dk_16 40 (dk_at dksX2_test_5 4 rfl rfl)
theorem dX2_test_122 : decode cX2_test 122 = .ok (.if_icmp .ge 99, 3) := dk_162 0 99 (dk_at dksX2_test_5 6 rfl rfl)
theorem dX2_test_125 : decode cX2_test 125 = .ok (.aload_n 0, 1) := dk_42 (dk_at dksX2_test_5 9 rfl rfl)
theorem dX2_test_126 : decode cX2_test 126 = .ok (.getfield 263, 3) := dk_180 1 7 (dk_at dksX2_test_5 10 rfl rfl)
theorem dX2_test_129 : decode cX2_test 129 = .ok (.getfield 283, 3) := dk_180 1 27 (dk_at dksX2_test_5 13 rfl rfl)
theorem dX2_test_132 : decode cX2_test 132 = .ok (.aload_n 0, 1) := dk_42 (dk_at dksX2_test_5 16 rfl rfl)
theorem dX2_test_133 : decode cX2_test 133 = .ok (.getfield 280, 3) := dk_180 1 24 (dk_at dksX2_test_5 17 rfl rfl)
theorem dX2_test_136 : decode cX2_test 136 = .ok (.iload_n 3, 1) := dk_29 (dk_at dksX2_test_5 20 rfl rfl)
theorem dX2_test_137 : decode cX2_test 137 = .ok (.iastore, 1) := dk_79 (dk_at dksX2_test_5 21 rfl rfl)
theorem dX2_test_138 : decode cX2_test 138 = .ok (.aload_n 0, 1) := dk_42 (dk_at dksX2_test_5 22 rfl rfl)
theorem dX2_test_139 : decode cX2_test 139 = .ok (.getfield 263, 3) := dk_180 1 7 (dk_at dksX2_test_6 0 rfl rfl)
theorem dX2_test_142 : decode cX2_test 142 = .ok (.getfield 286, 3) := dk_180 1 30 (dk_at dksX2_test_6 3 rfl rfl)
theorem dX2_test_145 : decode cX2_test 145 = .ok (.aload_n 0, 1) := dk_42 (dk_at dksX2_test_6 6 rfl rfl)
theorem dX2_test_146 : decode cX2_test 146 = .ok (.getfield 280, 3) := dk_180 1 24 (dk_at dksX2_test_6 7 rfl rfl)
theorem dX2_test_149 : decode cX2_test 149 = .ok (.iload 4, 2) := dk_21 4 (dk_at dksX2_test_6 10 rfl rfl)
theorem dX2_test_151 : decode cX2_test 151 = .ok (.iastore, 1) := dk_79 (dk_at dksX2_test_6 12 rfl rfl)
theorem dX2_test_152 : decode cX2_test 152 = .ok (.aload_n 0, 1) := dk_42 (dk_at dksX2_test_6 13 rfl rfl)
theorem dX2_test_153 : decode cX2_test 153 = .ok (.getfield 263, 3) := dk_180 1 7 (dk_at dksX2_test_6 14 rfl rfl)
theorem dX2_test_156 : decode cX2_test 156 = .ok (.getfield 288, 3) := dk_180 1 32 (dk_at dksX2_test_6 17 rfl rfl)
theorem dX2_test_159 : decode cX2_test 159 = .ok (.aload_n 0, 1) := dk_42 (dk_at dksX2_test_6 20 rfl rfl)
theorem dX2_test_160 : decode cX2_test 160 = .ok (.getfield 280, 3) := dk_180 1 24 (dk_at dksX2_test_6 21 rfl rfl)
theorem dX2_test_163 : decode cX2_test 163 = .ok (.iload 5, 2) := dk_21 5 (dk_at dksX2_test_7 0 rfl rfl)
theorem dX2_test_165 : decode cX2_test 165 = .ok (.iastore, 1) := dk_79 (dk_at dksX2_test_7 2 rfl rfl)
theorem dX2_test_166 : decode cX2_test 166 = .ok (.aload_n 0, 1) := dk_42 (dk_at dksX2_test_7 3 rfl rfl)
theorem dX2_test_167 : decode cX2_test 167 = .ok (.getfield 263, 3) := dk_180 1 7 (dk_at dksX2_test_7 4 rfl rfl)
theorem dX2_test_170 : decode cX2_test 170 = .ok (.getfield 291, 3) := dk_180 1 35 (dk_at dksX2_test_7 7 rfl rfl)
theorem dX2_test_173 : decode cX2_test 173 = .ok (.aload_n 0, 1) := dk_42 (dk_at dksX2_test_7 10 rfl rfl)
theorem dX2_test_174 : decode cX2_test 174 = .ok (.getfield 280, 3) := dk_180 1 24 (dk_at dksX2_test_7 11 rfl rfl)
theorem dX2_test_177 : decode cX2_test 177 = .ok (.iload_n 2, 1) := dk_28 (dk_at dksX2_test_7 14 rfl rfl)
theorem dX2_test_178 : decode cX2_test 178 = .ok (.iastore, 1) := dk_79 (dk_at dksX2_test_7 15 rfl rfl)
theorem dX2_test_179 : decode cX2_test 179 = .ok (.aload_n 0, 1) := dk_42 (dk_at dksX2_test_7 16 rfl rfl)
theorem dX2_test_180 : decode cX2_test 180 = .ok (.getfield 263, 3) := dk_180 1 7 (dk_at dksX2_test_7 17 rfl rfl)
theorem dX2_test_183 : decode cX2_test 183 = .ok (.getfield 293, 3) := dk_180 1 37 (dk_at dksX2_test_7 20 rfl rfl)
theorem dX2_test_186 : decode cX2_test 186 = .ok (.aload_n 0, 1) := dk_42 (dk_at dksX2_test_7 23 rfl rfl)
theorem dX2_test_187 : decode cX2_test 187 = .ok (.getfield 280, 3) := dk_180 1 24 (dk_at dksX2_test_8 0 rfl rfl)
theorem dX2_test_190 : decode cX2_test 190 = .ok (.aload_n 0, 1) := dk_42 (dk_at dksX2_test_8 3 rfl rfl)
theorem dX2_test_191 : decode cX2_test 191 = .ok (.getfield 296, 3) := dk_180 1 40 (dk_at dksX2_test_8 4 rfl rfl)
theorem dX2_test_194 : decode cX2_test 194 = .ok (.bastore, 1) := dk_84 (dk_at dksX2_test_8 7 rfl rfl)
theorem dX2_test_195 : decode cX2_test 195 = .ok (.aload_n 1, 1) := dk_43 (dk_at dksX2_test_8 8 rfl rfl)
theorem dX2_test_196 : decode cX2_test 196 = .ok (.aload_n 0, 1) := dk_42 (dk_at dksX2_test_8 9 rfl rfl)
theorem dX2_test_197 : decode cX2_test 197 = .ok (.getfield 280, 3) := dk_180 1 24 (dk_at dksX2_test_8 10 rfl rfl)
theorem dX2_test_200 : decode cX2_test 200 = .ok (.invokevirtual 299, 3) := dk_182 1 43 (dk_at dksX2_test_8 13 rfl rfl)
theorem dX2_test_203 : decode cX2_test 203 = .ok (.aload_n 0, 1) := dk_42 (dk_at dksX2_test_8 16 rfl rfl)
theorem dX2_test_204 : decode cX2_test 204 = .ok (.dup, 1) := dk_89 (dk_at dksX2_test_8 17 rfl rfl)
theorem dX2_test_205 : decode cX2_test 205 = .ok (.getfield 280, 3) := dk_180 1 24 (dk_at dksX2_test_8 18 rfl rfl)
theorem dX2_test_208 : decode cX2_test 208 = .ok (.iconst 1, 1) := dk_4 (dk_at dksX2_test_8 21 rfl rfl)
theorem dX2_test_209 : decode cX2_test 209 = .ok (.iadd, 1) := dk_96 (dk_at dksX2_test_8 22 rfl rfl)
theorem dX2_test_210 : decode cX2_test 210 = .ok (.putfield 280, 3) := dk_181 1 24 (dk_at dksX2_test_9 0 rfl rfl)
theorem dX2_test_213 : decode cX2_test 213 = .ok (.aload_n 1, 1) := dk_43 (dk_at dksX2_test_9 3 rfl rfl)
theorem dX2_test_214 : decode cX2_test 214 = .ok (.aload_n 0, 1) := dk_42 (dk_at dksX2_test_9 4 rfl rfl)
theorem dX2_test_215 : decode cX2_test 215 = .ok (.getfield 280, 3) := dk_180 1 24 (dk_at dksX2_test_9 5 rfl rfl)
theorem dX2_test_218 : decode cX2_test 218 = .ok (.putfield 304, 3) := dk_181 1 48 (dk_at dksX2_test_9 8 rfl rfl)
theorem dX2_test_221 : decode cX2_test 221 = .ok (.return_, 1) := dk_177 (dk_at dksX2_test_9 11 rfl rfl)
abbrev cX2_turns : ByteArray := prog_14_method_27_code
def yX2_turns : MethodName := ⟨RX2, "turns", "(LElectionHouse$Clause;)V"⟩
def dkwX2_turns_0 : List UInt8 := [42, 17, 15, 162, 182, 1, 58, 153, 0, 11, 42, 43, 182, 1, 61, 167, 255, 241, 177]
abbrev dktX2_turns_0 : List UInt8 := dkwX2_turns_0 ++ []
theorem dksX2_turns_0 : cX2_turns.data.toList.drop 0 = dktX2_turns_0 := by decide +kernel
theorem dX2_turns_0 : decode cX2_turns 0 = .ok (.aload_n 0, 1) := dk_42 (dk_at dksX2_turns_0 0 rfl rfl)
theorem dX2_turns_1 : decode cX2_turns 1 = .ok (.sipush 4002, 3) := dk_17 15 162 (dk_at dksX2_turns_0 1 rfl rfl)
theorem dX2_turns_4 : decode cX2_turns 4 = .ok (.invokevirtual 314, 3) := dk_182 1 58 (dk_at dksX2_turns_0 4 rfl rfl)
theorem dX2_turns_7 : decode cX2_turns 7 = .ok (.ifCond .eq 11, 3) := dk_153 0 11 (dk_at dksX2_turns_0 7 rfl rfl)
theorem dX2_turns_10 : decode cX2_turns 10 = .ok (.aload_n 0, 1) := dk_42 (dk_at dksX2_turns_0 10 rfl rfl)
theorem dX2_turns_11 : decode cX2_turns 11 = .ok (.aload_n 1, 1) := dk_43 (dk_at dksX2_turns_0 11 rfl rfl)
theorem dX2_turns_12 : decode cX2_turns 12 = .ok (.invokevirtual 317, 3) := dk_182 1 61 (dk_at dksX2_turns_0 12 rfl rfl)
theorem dX2_turns_15 : decode cX2_turns 15 = .ok (.goto (-15), 3) := dk_167 255 241 (dk_at dksX2_turns_0 15 rfl rfl)
theorem dX2_turns_18 : decode cX2_turns 18 = .ok (.return_, 1) := dk_177 (dk_at dksX2_turns_0 18 rfl rfl)
abbrev cX2_isTop : ByteArray := prog_14_method_25_code
def yX2_isTop : MethodName := ⟨RX2, "isTop", "(I)Z"⟩
def dkwX2_isTop_1 : List UInt8 := [167, 0, 4, 3, 172]
abbrev dktX2_isTop_1 : List UInt8 := dkwX2_isTop_1 ++ []
def dkwX2_isTop_0 : List UInt8 := [42, 180, 1, 55, 158, 0, 22, 42, 180, 0, 22, 42, 180, 1, 55, 4, 100, 46, 27, 160, 0, 7, 4]
abbrev dktX2_isTop_0 : List UInt8 := dkwX2_isTop_0 ++ dktX2_isTop_1
theorem dksX2_isTop_0 : cX2_isTop.data.toList.drop 0 = dktX2_isTop_0 := by decide +kernel
theorem dksX2_isTop_1 : cX2_isTop.data.toList.drop 23 = dktX2_isTop_1 := dk_seg dksX2_isTop_0 23 rfl rfl
theorem dX2_isTop_0 : decode cX2_isTop 0 = .ok (.aload_n 0, 1) := dk_42 (dk_at dksX2_isTop_0 0 rfl rfl)
theorem dX2_isTop_1 : decode cX2_isTop 1 = .ok (.getfield 311, 3) := dk_180 1 55 (dk_at dksX2_isTop_0 1 rfl rfl)
theorem dX2_isTop_4 : decode cX2_isTop 4 = .ok (.ifCond .le 22, 3) := dk_158 0 22 (dk_at dksX2_isTop_0 4 rfl rfl)
theorem dX2_isTop_7 : decode cX2_isTop 7 = .ok (.aload_n 0, 1) := dk_42 (dk_at dksX2_isTop_0 7 rfl rfl)
theorem dX2_isTop_8 : decode cX2_isTop 8 = .ok (.getfield 22, 3) := dk_180 0 22 (dk_at dksX2_isTop_0 8 rfl rfl)
theorem dX2_isTop_11 : decode cX2_isTop 11 = .ok (.aload_n 0, 1) := dk_42 (dk_at dksX2_isTop_0 11 rfl rfl)
theorem dX2_isTop_12 : decode cX2_isTop 12 = .ok (.getfield 311, 3) := dk_180 1 55 (dk_at dksX2_isTop_0 12 rfl rfl)
theorem dX2_isTop_15 : decode cX2_isTop 15 = .ok (.iconst 1, 1) := dk_4 (dk_at dksX2_isTop_0 15 rfl rfl)
theorem dX2_isTop_16 : decode cX2_isTop 16 = .ok (.isub, 1) := dk_100 (dk_at dksX2_isTop_0 16 rfl rfl)
theorem dX2_isTop_17 : decode cX2_isTop 17 = .ok (.iaload, 1) := dk_46 (dk_at dksX2_isTop_0 17 rfl rfl)
theorem dX2_isTop_18 : decode cX2_isTop 18 = .ok (.iload_n 1, 1) := dk_27 (dk_at dksX2_isTop_0 18 rfl rfl)
theorem dX2_isTop_19 : decode cX2_isTop 19 = .ok (.if_icmp .ne 7, 3) := dk_160 0 7 (dk_at dksX2_isTop_0 19 rfl rfl)
theorem dX2_isTop_22 : decode cX2_isTop 22 = .ok (.iconst 1, 1) := dk_4 (dk_at dksX2_isTop_0 22 rfl rfl)
theorem dX2_isTop_23 : decode cX2_isTop 23 = .ok (.goto 4, 3) := dk_167 0 4 (dk_at dksX2_isTop_1 0 rfl rfl)
theorem dX2_isTop_26 : decode cX2_isTop 26 = .ok (.iconst 0, 1) := dk_3 (dk_at dksX2_isTop_1 3 rfl rfl)
theorem dX2_isTop_27 : decode cX2_isTop 27 = .ok (.ireturn, 1) := dk_172 (dk_at dksX2_isTop_1 4 rfl rfl)
abbrev cX2_pop : ByteArray := prog_14_method_24_code
def yX2_pop : MethodName := ⟨RX2, "pop", "(LElectionHouse$Clause;)V"⟩
def dkwX2_pop_2 : List UInt8 := [177]
abbrev dktX2_pop_2 : List UInt8 := dkwX2_pop_2 ++ []
def dkwX2_pop_1 : List UInt8 := [182, 1, 43, 42, 89, 180, 1, 40, 28, 17, 15, 162, 160, 0, 7, 4, 167, 0, 4, 3, 130, 181, 1, 40]
abbrev dktX2_pop_1 : List UInt8 := dkwX2_pop_1 ++ dktX2_pop_2
def dkwX2_pop_0 : List UInt8 := [42, 89, 180, 1, 55, 4, 100, 181, 1, 55, 42, 180, 0, 22, 42, 180, 1, 55, 46, 61, 43, 28]
abbrev dktX2_pop_0 : List UInt8 := dkwX2_pop_0 ++ dktX2_pop_1
theorem dksX2_pop_0 : cX2_pop.data.toList.drop 0 = dktX2_pop_0 := by decide +kernel
theorem dksX2_pop_1 : cX2_pop.data.toList.drop 22 = dktX2_pop_1 := dk_seg dksX2_pop_0 22 rfl rfl
theorem dksX2_pop_2 : cX2_pop.data.toList.drop 46 = dktX2_pop_2 := dk_seg dksX2_pop_1 24 rfl rfl
theorem dX2_pop_0 : decode cX2_pop 0 = .ok (.aload_n 0, 1) := dk_42 (dk_at dksX2_pop_0 0 rfl rfl)
theorem dX2_pop_1 : decode cX2_pop 1 = .ok (.dup, 1) := dk_89 (dk_at dksX2_pop_0 1 rfl rfl)
theorem dX2_pop_2 : decode cX2_pop 2 = .ok (.getfield 311, 3) := dk_180 1 55 (dk_at dksX2_pop_0 2 rfl rfl)
theorem dX2_pop_5 : decode cX2_pop 5 = .ok (.iconst 1, 1) := dk_4 (dk_at dksX2_pop_0 5 rfl rfl)
theorem dX2_pop_6 : decode cX2_pop 6 = .ok (.isub, 1) := dk_100 (dk_at dksX2_pop_0 6 rfl rfl)
theorem dX2_pop_7 : decode cX2_pop 7 = .ok (.putfield 311, 3) := dk_181 1 55 (dk_at dksX2_pop_0 7 rfl rfl)
theorem dX2_pop_10 : decode cX2_pop 10 = .ok (.aload_n 0, 1) := dk_42 (dk_at dksX2_pop_0 10 rfl rfl)
theorem dX2_pop_11 : decode cX2_pop 11 = .ok (.getfield 22, 3) := dk_180 0 22 (dk_at dksX2_pop_0 11 rfl rfl)
theorem dX2_pop_14 : decode cX2_pop 14 = .ok (.aload_n 0, 1) := dk_42 (dk_at dksX2_pop_0 14 rfl rfl)
theorem dX2_pop_15 : decode cX2_pop 15 = .ok (.getfield 311, 3) := dk_180 1 55 (dk_at dksX2_pop_0 15 rfl rfl)
theorem dX2_pop_18 : decode cX2_pop 18 = .ok (.iaload, 1) := dk_46 (dk_at dksX2_pop_0 18 rfl rfl)
theorem dX2_pop_19 : decode cX2_pop 19 = .ok (.istore_n 2, 1) := dk_61 (dk_at dksX2_pop_0 19 rfl rfl)
theorem dX2_pop_20 : decode cX2_pop 20 = .ok (.aload_n 1, 1) := dk_43 (dk_at dksX2_pop_0 20 rfl rfl)
theorem dX2_pop_21 : decode cX2_pop 21 = .ok (.iload_n 2, 1) := dk_28 (dk_at dksX2_pop_0 21 rfl rfl)
theorem dX2_pop_22 : decode cX2_pop 22 = .ok (.invokevirtual 299, 3) := dk_182 1 43 (dk_at dksX2_pop_1 0 rfl rfl)
theorem dX2_pop_25 : decode cX2_pop 25 = .ok (.aload_n 0, 1) := dk_42 (dk_at dksX2_pop_1 3 rfl rfl)
theorem dX2_pop_26 : decode cX2_pop 26 = .ok (.dup, 1) := dk_89 (dk_at dksX2_pop_1 4 rfl rfl)
theorem dX2_pop_27 : decode cX2_pop 27 = .ok (.getfield 296, 3) := dk_180 1 40 (dk_at dksX2_pop_1 5 rfl rfl)
theorem dX2_pop_30 : decode cX2_pop 30 = .ok (.iload_n 2, 1) := dk_28 (dk_at dksX2_pop_1 8 rfl rfl)
theorem dX2_pop_31 : decode cX2_pop 31 = .ok (.sipush 4002, 3) := dk_17 15 162 (dk_at dksX2_pop_1 9 rfl rfl)
theorem dX2_pop_34 : decode cX2_pop 34 = .ok (.if_icmp .ne 7, 3) := dk_160 0 7 (dk_at dksX2_pop_1 12 rfl rfl)
theorem dX2_pop_37 : decode cX2_pop 37 = .ok (.iconst 1, 1) := dk_4 (dk_at dksX2_pop_1 15 rfl rfl)
theorem dX2_pop_38 : decode cX2_pop 38 = .ok (.goto 4, 3) := dk_167 0 4 (dk_at dksX2_pop_1 16 rfl rfl)
theorem dX2_pop_41 : decode cX2_pop 41 = .ok (.iconst 0, 1) := dk_3 (dk_at dksX2_pop_1 19 rfl rfl)
theorem dX2_pop_42 : decode cX2_pop 42 = .ok (.ixor, 1) := dk_130 (dk_at dksX2_pop_1 20 rfl rfl)
theorem dX2_pop_43 : decode cX2_pop 43 = .ok (.putfield 296, 3) := dk_181 1 40 (dk_at dksX2_pop_1 21 rfl rfl)
theorem dX2_pop_46 : decode cX2_pop 46 = .ok (.return_, 1) := dk_177 (dk_at dksX2_pop_2 0 rfl rfl)
abbrev cX2_joins : ByteArray := prog_14_method_31_code
def yX2_joins : MethodName := ⟨RX2, "joins", "(LElectionHouse$Clause;)V"⟩
def dkwX2_joins_0 : List UInt8 := [42, 180, 1, 55, 158, 0, 19, 42, 2, 182, 1, 58, 154, 0, 11, 42, 43, 182, 1, 61, 167, 255, 236, 177]
abbrev dktX2_joins_0 : List UInt8 := dkwX2_joins_0 ++ []
theorem dksX2_joins_0 : cX2_joins.data.toList.drop 0 = dktX2_joins_0 := by decide +kernel
theorem dX2_joins_0 : decode cX2_joins 0 = .ok (.aload_n 0, 1) := dk_42 (dk_at dksX2_joins_0 0 rfl rfl)
theorem dX2_joins_1 : decode cX2_joins 1 = .ok (.getfield 311, 3) := dk_180 1 55 (dk_at dksX2_joins_0 1 rfl rfl)
theorem dX2_joins_4 : decode cX2_joins 4 = .ok (.ifCond .le 19, 3) := dk_158 0 19 (dk_at dksX2_joins_0 4 rfl rfl)
theorem dX2_joins_7 : decode cX2_joins 7 = .ok (.aload_n 0, 1) := dk_42 (dk_at dksX2_joins_0 7 rfl rfl)
theorem dX2_joins_8 : decode cX2_joins 8 = .ok (.iconst (-1), 1) := dk_2 (dk_at dksX2_joins_0 8 rfl rfl)
theorem dX2_joins_9 : decode cX2_joins 9 = .ok (.invokevirtual 314, 3) := dk_182 1 58 (dk_at dksX2_joins_0 9 rfl rfl)
theorem dX2_joins_12 : decode cX2_joins 12 = .ok (.ifCond .ne 11, 3) := dk_154 0 11 (dk_at dksX2_joins_0 12 rfl rfl)
theorem dX2_joins_15 : decode cX2_joins 15 = .ok (.aload_n 0, 1) := dk_42 (dk_at dksX2_joins_0 15 rfl rfl)
theorem dX2_joins_16 : decode cX2_joins 16 = .ok (.aload_n 1, 1) := dk_43 (dk_at dksX2_joins_0 16 rfl rfl)
theorem dX2_joins_17 : decode cX2_joins 17 = .ok (.invokevirtual 317, 3) := dk_182 1 61 (dk_at dksX2_joins_0 17 rfl rfl)
theorem dX2_joins_20 : decode cX2_joins 20 = .ok (.goto (-20), 3) := dk_167 255 236 (dk_at dksX2_joins_0 20 rfl rfl)
theorem dX2_joins_23 : decode cX2_joins 23 = .ok (.return_, 1) := dk_177 (dk_at dksX2_joins_0 23 rfl rfl)
abbrev cX2_sign_2 : ByteArray := prog_14_method_30_code
def yX2_sign_2 : MethodName := ⟨RX2, "sign", "(LElectionHouse$Clause;)V"⟩
def dkwX2_sign_2_3 : List UInt8 := [177]
abbrev dktX2_sign_2_3 : List UInt8 := dkwX2_sign_2_3 ++ []
def dkwX2_sign_2_2 : List UInt8 := [167, 255, 227, 42, 28, 153, 0, 9, 17, 15, 160, 167, 0, 6, 17, 15, 161, 182, 1, 80, 42, 182, 0, 209]
abbrev dktX2_sign_2_2 : List UInt8 := dkwX2_sign_2_2 ++ dktX2_sign_2_3
def dkwX2_sign_2_1 : List UInt8 := [154, 0, 17, 28, 154, 0, 21, 42, 17, 15, 161, 182, 1, 58, 153, 0, 11, 42, 43, 182, 1, 61]
abbrev dktX2_sign_2_1 : List UInt8 := dkwX2_sign_2_1 ++ dktX2_sign_2_2
def dkwX2_sign_2_0 : List UInt8 := [42, 180, 0, 182, 16, 15, 160, 0, 7, 4, 167, 0, 4, 3, 61, 42, 17, 15, 160, 182, 1, 58]
abbrev dktX2_sign_2_0 : List UInt8 := dkwX2_sign_2_0 ++ dktX2_sign_2_1
theorem dksX2_sign_2_0 : cX2_sign_2.data.toList.drop 0 = dktX2_sign_2_0 := by decide +kernel
theorem dksX2_sign_2_1 : cX2_sign_2.data.toList.drop 22 = dktX2_sign_2_1 := dk_seg dksX2_sign_2_0 22 rfl rfl
theorem dksX2_sign_2_2 : cX2_sign_2.data.toList.drop 44 = dktX2_sign_2_2 := dk_seg dksX2_sign_2_1 22 rfl rfl
theorem dksX2_sign_2_3 : cX2_sign_2.data.toList.drop 68 = dktX2_sign_2_3 := dk_seg dksX2_sign_2_2 24 rfl rfl
theorem dX2_sign_2_0 : decode cX2_sign_2 0 = .ok (.aload_n 0, 1) := dk_42 (dk_at dksX2_sign_2_0 0 rfl rfl)
theorem dX2_sign_2_1 : decode cX2_sign_2 1 = .ok (.getfield 182, 3) := dk_180 0 182 (dk_at dksX2_sign_2_0 1 rfl rfl)
theorem dX2_sign_2_4 : decode cX2_sign_2 4 = .ok (.bipush 15, 2) := dk_16 15 (dk_at dksX2_sign_2_0 4 rfl rfl)
theorem dX2_sign_2_6 : decode cX2_sign_2 6 = .ok (.if_icmp .ne 7, 3) := dk_160 0 7 (dk_at dksX2_sign_2_0 6 rfl rfl)
theorem dX2_sign_2_9 : decode cX2_sign_2 9 = .ok (.iconst 1, 1) := dk_4 (dk_at dksX2_sign_2_0 9 rfl rfl)
theorem dX2_sign_2_10 : decode cX2_sign_2 10 = .ok (.goto 4, 3) := dk_167 0 4 (dk_at dksX2_sign_2_0 10 rfl rfl)
theorem dX2_sign_2_13 : decode cX2_sign_2 13 = .ok (.iconst 0, 1) := dk_3 (dk_at dksX2_sign_2_0 13 rfl rfl)
theorem dX2_sign_2_14 : decode cX2_sign_2 14 = .ok (.istore_n 2, 1) := dk_61 (dk_at dksX2_sign_2_0 14 rfl rfl)
theorem dX2_sign_2_15 : decode cX2_sign_2 15 = .ok (.aload_n 0, 1) := dk_42 (dk_at dksX2_sign_2_0 15 rfl rfl)
theorem dX2_sign_2_16 : decode cX2_sign_2 16 = .ok (.sipush 4000, 3) := dk_17 15 160 (dk_at dksX2_sign_2_0 16 rfl rfl)
theorem dX2_sign_2_19 : decode cX2_sign_2 19 = .ok (.invokevirtual 314, 3) := dk_182 1 58 (dk_at dksX2_sign_2_0 19 rfl rfl)
theorem dX2_sign_2_22 : decode cX2_sign_2 22 = .ok (.ifCond .ne 17, 3) := dk_154 0 17 (dk_at dksX2_sign_2_1 0 rfl rfl)
theorem dX2_sign_2_25 : decode cX2_sign_2 25 = .ok (.iload_n 2, 1) := dk_28 (dk_at dksX2_sign_2_1 3 rfl rfl)
theorem dX2_sign_2_26 : decode cX2_sign_2 26 = .ok (.ifCond .ne 21, 3) := dk_154 0 21 (dk_at dksX2_sign_2_1 4 rfl rfl)
theorem dX2_sign_2_29 : decode cX2_sign_2 29 = .ok (.aload_n 0, 1) := dk_42 (dk_at dksX2_sign_2_1 7 rfl rfl)
theorem dX2_sign_2_30 : decode cX2_sign_2 30 = .ok (.sipush 4001, 3) := dk_17 15 161 (dk_at dksX2_sign_2_1 8 rfl rfl)
theorem dX2_sign_2_33 : decode cX2_sign_2 33 = .ok (.invokevirtual 314, 3) := dk_182 1 58 (dk_at dksX2_sign_2_1 11 rfl rfl)
theorem dX2_sign_2_36 : decode cX2_sign_2 36 = .ok (.ifCond .eq 11, 3) := dk_153 0 11 (dk_at dksX2_sign_2_1 14 rfl rfl)
theorem dX2_sign_2_39 : decode cX2_sign_2 39 = .ok (.aload_n 0, 1) := dk_42 (dk_at dksX2_sign_2_1 17 rfl rfl)
theorem dX2_sign_2_40 : decode cX2_sign_2 40 = .ok (.aload_n 1, 1) := dk_43 (dk_at dksX2_sign_2_1 18 rfl rfl)
theorem dX2_sign_2_41 : decode cX2_sign_2 41 = .ok (.invokevirtual 317, 3) := dk_182 1 61 (dk_at dksX2_sign_2_1 19 rfl rfl)
theorem dX2_sign_2_44 : decode cX2_sign_2 44 = .ok (.goto (-29), 3) := dk_167 255 227 (dk_at dksX2_sign_2_2 0 rfl rfl)
theorem dX2_sign_2_47 : decode cX2_sign_2 47 = .ok (.aload_n 0, 1) := dk_42 (dk_at dksX2_sign_2_2 3 rfl rfl)
theorem dX2_sign_2_48 : decode cX2_sign_2 48 = .ok (.iload_n 2, 1) := dk_28 (dk_at dksX2_sign_2_2 4 rfl rfl)
theorem dX2_sign_2_49 : decode cX2_sign_2 49 = .ok (.ifCond .eq 9, 3) := dk_153 0 9 (dk_at dksX2_sign_2_2 5 rfl rfl)
theorem dX2_sign_2_52 : decode cX2_sign_2 52 = .ok (.sipush 4000, 3) := dk_17 15 160 (dk_at dksX2_sign_2_2 8 rfl rfl)
theorem dX2_sign_2_55 : decode cX2_sign_2 55 = .ok (.goto 6, 3) := dk_167 0 6 (dk_at dksX2_sign_2_2 11 rfl rfl)
theorem dX2_sign_2_58 : decode cX2_sign_2 58 = .ok (.sipush 4001, 3) := dk_17 15 161 (dk_at dksX2_sign_2_2 14 rfl rfl)
theorem dX2_sign_2_61 : decode cX2_sign_2 61 = .ok (.invokevirtual 336, 3) := dk_182 1 80 (dk_at dksX2_sign_2_2 17 rfl rfl)
theorem dX2_sign_2_64 : decode cX2_sign_2 64 = .ok (.aload_n 0, 1) := dk_42 (dk_at dksX2_sign_2_2 20 rfl rfl)
theorem dX2_sign_2_65 : decode cX2_sign_2 65 = .ok (.invokevirtual 209, 3) := dk_182 0 209 (dk_at dksX2_sign_2_2 21 rfl rfl)
theorem dX2_sign_2_68 : decode cX2_sign_2 68 = .ok (.return_, 1) := dk_177 (dk_at dksX2_sign_2_3 0 rfl rfl)
theorem q284 : (Jvm.Cond.initialized "ElectionHouse$Reader") ∈ lw_all := lw_g (lw_at lw_m1 3 rfl) rfl
theorem q352 : (Jvm.Cond.instantiable "ElectionHouse$Reader" (17 : Nat)) ∈ lw_all := lw_g (lw_at lw_m1 71 rfl) rfl
theorem q354 : (Jvm.Cond.instanceMethod ({ cls := "ElectionHouse$Reader", name := "<init>", desc := "([BLElectionHouse$Land;)V" } : Jvm.MethodName)) ∈ lw_all := lw_g (lw_at lw_m1 73 rfl) rfl
theorem q355 : (Jvm.Cond.code ({ cls := "ElectionHouse$Reader", name := "<init>", desc := "([BLElectionHouse$Land;)V" } : Jvm.MethodName) prog_14_method_1_code (3 : Nat) (Option.none : Option Jvm.ClassFile.FieldType)) ∈ lw_all := lw_g (lw_at lw_m1 74 rfl) rfl
theorem q356 : (Jvm.Cond.methodLink "ElectionHouse$Reader" (3 : Nat) ({ cls := "java/lang/Object", name := "<init>", desc := "()V" } : Jvm.MethodName)) ∈ lw_all := lw_g (lw_at lw_m1 75 rfl) rfl
theorem q357 : (Jvm.Cond.classLink "ElectionHouse$Reader" (9 : Nat) "ElectionHouse$Fault") ∈ lw_all := lw_g (lw_at lw_m1 76 rfl) rfl
theorem q396 : (Jvm.Cond.methodLink "ElectionHouse$Reader" (11 : Nat) ({ cls := "ElectionHouse$Fault", name := "<init>", desc := "()V" } : Jvm.MethodName)) ∈ lw_all := lw_g (lw_at lw_m1 115 rfl) rfl
theorem q408 : (Jvm.Cond.fieldLinkNest "ElectionHouse$Reader" (154 : Nat) "ElectionHouse$Fault" "place" "I" "ElectionHouse") ∈ lw_tbl := lw_at lw_m1 127 rfl
theorem q424 : (Jvm.Cond.classLink "ElectionHouse$Reader" (34 : Nat) "java/lang/String") ∈ lw_all := lw_g (lw_at lw_m1 143 rfl) rfl
theorem q426 : (Jvm.Cond.stringRef "ElectionHouse$Reader" (36 : Nat) "DAYS") ∈ lw_tbl := lw_at lw_m1 145 rfl
theorem q427 : (Jvm.Cond.stringRef "ElectionHouse$Reader" (38 : Nat) "EVE") ∈ lw_tbl := lw_at lw_m1 146 rfl
theorem q428 : (Jvm.Cond.stringRef "ElectionHouse$Reader" (40 : Nat) "VOTE") ∈ lw_tbl := lw_at lw_m1 147 rfl
theorem q429 : (Jvm.Cond.stringRef "ElectionHouse$Reader" (42 : Nat) "STAND") ∈ lw_tbl := lw_at lw_m1 148 rfl
theorem q430 : (Jvm.Cond.stringRef "ElectionHouse$Reader" (44 : Nat) "SIGNATURES") ∈ lw_tbl := lw_at lw_m1 149 rfl
theorem q431 : (Jvm.Cond.stringRef "ElectionHouse$Reader" (46 : Nat) "SPOIL") ∈ lw_tbl := lw_at lw_m1 150 rfl
theorem q432 : (Jvm.Cond.stringRef "ElectionHouse$Reader" (48 : Nat) "MAIL") ∈ lw_tbl := lw_at lw_m1 151 rfl
theorem q433 : (Jvm.Cond.stringRef "ElectionHouse$Reader" (50 : Nat) "CONTEST") ∈ lw_tbl := lw_at lw_m1 152 rfl
theorem q434 : (Jvm.Cond.stringRef "ElectionHouse$Reader" (52 : Nat) "EACH") ∈ lw_tbl := lw_at lw_m1 153 rfl
theorem q435 : (Jvm.Cond.stringRef "ElectionHouse$Reader" (54 : Nat) "IN") ∈ lw_tbl := lw_at lw_m1 154 rfl
theorem q436 : (Jvm.Cond.stringRef "ElectionHouse$Reader" (56 : Nat) "SEATS") ∈ lw_tbl := lw_at lw_m1 155 rfl
theorem q437 : (Jvm.Cond.stringRef "ElectionHouse$Reader" (58 : Nat) "BY") ∈ lw_tbl := lw_at lw_m1 156 rfl
theorem q438 : (Jvm.Cond.stringRef "ElectionHouse$Reader" (60 : Nat) "LAST") ∈ lw_tbl := lw_at lw_m1 157 rfl
theorem q439 : (Jvm.Cond.stringRef "ElectionHouse$Reader" (62 : Nat) "EASTER") ∈ lw_tbl := lw_at lw_m1 158 rfl
theorem q440 : (Jvm.Cond.stringRef "ElectionHouse$Reader" (64 : Nat) "OR") ∈ lw_tbl := lw_at lw_m1 159 rfl
theorem q441 : (Jvm.Cond.stringRef "ElectionHouse$Reader" (66 : Nat) "AND") ∈ lw_tbl := lw_at lw_m1 160 rfl
theorem q442 : (Jvm.Cond.stringRef "ElectionHouse$Reader" (68 : Nat) "NOT") ∈ lw_tbl := lw_at lw_m1 161 rfl
theorem q443 : (Jvm.Cond.stringRef "ElectionHouse$Reader" (70 : Nat) "AGE") ∈ lw_tbl := lw_at lw_m1 162 rfl
theorem q444 : (Jvm.Cond.stringRef "ElectionHouse$Reader" (72 : Nat) "LIVED") ∈ lw_tbl := lw_at lw_m1 163 rfl
theorem q445 : (Jvm.Cond.stringRef "ElectionHouse$Reader" (74 : Nat) "FACT") ∈ lw_tbl := lw_at lw_m1 164 rfl
theorem q446 : (Jvm.Cond.stringRef "ElectionHouse$Reader" (76 : Nat) "ON") ∈ lw_tbl := lw_at lw_m1 165 rfl
theorem q447 : (Jvm.Cond.stringRef "ElectionHouse$Reader" (78 : Nat) "ABOVE") ∈ lw_tbl := lw_at lw_m1 166 rfl
theorem q448 : (Jvm.Cond.stringRef "ElectionHouse$Reader" (80 : Nat) "OPEN") ∈ lw_tbl := lw_at lw_m1 167 rfl
theorem q449 : (Jvm.Cond.stringRef "ElectionHouse$Reader" (82 : Nat) "LEVEL") ∈ lw_tbl := lw_at lw_m1 168 rfl
theorem q450 : (Jvm.Cond.stringRef "ElectionHouse$Reader" (84 : Nat) "MON") ∈ lw_tbl := lw_at lw_m1 169 rfl
theorem q451 : (Jvm.Cond.stringRef "ElectionHouse$Reader" (86 : Nat) "TUE") ∈ lw_tbl := lw_at lw_m1 170 rfl
theorem q452 : (Jvm.Cond.stringRef "ElectionHouse$Reader" (88 : Nat) "WED") ∈ lw_tbl := lw_at lw_m1 171 rfl
theorem q453 : (Jvm.Cond.stringRef "ElectionHouse$Reader" (90 : Nat) "THU") ∈ lw_tbl := lw_at lw_m1 172 rfl
theorem q454 : (Jvm.Cond.stringRef "ElectionHouse$Reader" (92 : Nat) "FRI") ∈ lw_tbl := lw_at lw_m1 173 rfl
theorem q455 : (Jvm.Cond.stringRef "ElectionHouse$Reader" (94 : Nat) "SAT") ∈ lw_tbl := lw_at lw_m1 174 rfl
theorem q456 : (Jvm.Cond.stringRef "ElectionHouse$Reader" (96 : Nat) "SUN") ∈ lw_tbl := lw_at lw_m1 175 rfl
theorem q457 : (Jvm.Cond.stringRef "ElectionHouse$Reader" (98 : Nat) "FIRST") ∈ lw_tbl := lw_at lw_m1 176 rfl
theorem q458 : (Jvm.Cond.stringRef "ElectionHouse$Reader" (100 : Nat) "BLOCK") ∈ lw_tbl := lw_at lw_m1 177 rfl
theorem q459 : (Jvm.Cond.stringRef "ElectionHouse$Reader" (102 : Nat) "APPROVAL") ∈ lw_tbl := lw_at lw_m1 178 rfl
theorem q460 : (Jvm.Cond.stringRef "ElectionHouse$Reader" (104 : Nat) "POINTS") ∈ lw_tbl := lw_at lw_m1 179 rfl
theorem q461 : (Jvm.Cond.stringRef "ElectionHouse$Reader" (106 : Nat) "MEDIAN") ∈ lw_tbl := lw_at lw_m1 180 rfl
theorem q462 : (Jvm.Cond.stringRef "ElectionHouse$Reader" (108 : Nat) "RANKS") ∈ lw_tbl := lw_at lw_m1 181 rfl
theorem q463 : (Jvm.Cond.stringRef "ElectionHouse$Reader" (110 : Nat) "OUT") ∈ lw_tbl := lw_at lw_m1 182 rfl
theorem q464 : (Jvm.Cond.stringRef "ElectionHouse$Reader" (112 : Nat) "LEAST") ∈ lw_tbl := lw_at lw_m1 183 rfl
theorem q465 : (Jvm.Cond.stringRef "ElectionHouse$Reader" (114 : Nat) "PAIRS") ∈ lw_tbl := lw_at lw_m1 184 rfl
theorem q466 : (Jvm.Cond.stringRef "ElectionHouse$Reader" (116 : Nat) "PATHS") ∈ lw_tbl := lw_at lw_m1 185 rfl
theorem q467 : (Jvm.Cond.stringRef "ElectionHouse$Reader" (118 : Nat) "TOP") ∈ lw_tbl := lw_at lw_m1 186 rfl
theorem q468 : (Jvm.Cond.stringRef "ElectionHouse$Reader" (120 : Nat) "MEEK") ∈ lw_tbl := lw_at lw_m1 187 rfl
theorem q469 : (Jvm.Cond.stringRef "ElectionHouse$Reader" (122 : Nat) "TRANSFER") ∈ lw_tbl := lw_at lw_m1 188 rfl
theorem q470 : (Jvm.Cond.stringRef "ElectionHouse$Reader" (124 : Nat) "WHOLE") ∈ lw_tbl := lw_at lw_m1 189 rfl
theorem q471 : (Jvm.Cond.stringRef "ElectionHouse$Reader" (126 : Nat) "LISTS") ∈ lw_tbl := lw_at lw_m1 190 rfl
theorem q472 : (Jvm.Cond.stringRef "ElectionHouse$Reader" (128 : Nat) "ONES") ∈ lw_tbl := lw_at lw_m1 191 rfl
theorem q473 : (Jvm.Cond.stringRef "ElectionHouse$Reader" (130 : Nat) "ODDS") ∈ lw_tbl := lw_at lw_m1 192 rfl
theorem q474 : (Jvm.Cond.stringRef "ElectionHouse$Reader" (132 : Nat) "STEEP") ∈ lw_tbl := lw_at lw_m1 193 rfl
theorem q475 : (Jvm.Cond.stringRef "ElectionHouse$Reader" (134 : Nat) "HALVES") ∈ lw_tbl := lw_at lw_m1 194 rfl
theorem q476 : (Jvm.Cond.stringRef "ElectionHouse$Reader" (136 : Nat) "MODIFIED") ∈ lw_tbl := lw_at lw_m1 195 rfl
theorem q477 : (Jvm.Cond.stringRef "ElectionHouse$Reader" (138 : Nat) "HARE") ∈ lw_tbl := lw_at lw_m1 196 rfl
theorem q478 : (Jvm.Cond.stringRef "ElectionHouse$Reader" (140 : Nat) "DROOP") ∈ lw_tbl := lw_at lw_m1 197 rfl
theorem q479 : (Jvm.Cond.stringRef "ElectionHouse$Reader" (142 : Nat) "BISCHOFF") ∈ lw_tbl := lw_at lw_m1 198 rfl
theorem q480 : (Jvm.Cond.stringRef "ElectionHouse$Reader" (144 : Nat) "DOUBLE") ∈ lw_tbl := lw_at lw_m1 199 rfl
theorem q481 : (Jvm.Cond.fieldLink "ElectionHouse$Reader" (146 : Nat) "ElectionHouse$Reader" "words" "[Ljava/lang/String;") ∈ lw_all := lw_g (lw_at lw_m1 200 rfl) rfl
theorem q482 : (Jvm.Cond.fieldLink "ElectionHouse$Reader" (12 : Nat) "ElectionHouse$Reader" "fault" "LElectionHouse$Fault;") ∈ lw_all := lw_g (lw_at lw_m1 201 rfl) rfl
theorem q483 : (Jvm.Cond.fieldLink "ElectionHouse$Reader" (30 : Nat) "ElectionHouse$Reader" "land" "LElectionHouse$Land;") ∈ lw_all := lw_g (lw_at lw_m1 202 rfl) rfl
theorem q484 : (Jvm.Cond.fieldLink "ElectionHouse$Reader" (26 : Nat) "ElectionHouse$Reader" "text" "[B") ∈ lw_all := lw_g (lw_at lw_m1 203 rfl) rfl
theorem q485 : (Jvm.Cond.fieldLink "ElectionHouse$Reader" (160 : Nat) "ElectionHouse$Reader" "size" "I") ∈ lw_all := lw_g (lw_at lw_m1 204 rfl) rfl
theorem q486 : (Jvm.Cond.fieldLink "ElectionHouse$Reader" (150 : Nat) "ElectionHouse$Reader" "at" "I") ∈ lw_all := lw_g (lw_at lw_m1 205 rfl) rfl
theorem q487 : (Jvm.Cond.fieldLink "ElectionHouse$Reader" (167 : Nat) "ElectionHouse$Reader" "end" "I") ∈ lw_all := lw_g (lw_at lw_m1 206 rfl) rfl
theorem q488 : (Jvm.Cond.fieldLink "ElectionHouse$Reader" (193 : Nat) "ElectionHouse$Reader" "kind" "I") ∈ lw_all := lw_g (lw_at lw_m1 207 rfl) rfl
theorem q489 : (Jvm.Cond.fieldLink "ElectionHouse$Reader" (182 : Nat) "ElectionHouse$Reader" "value" "I") ∈ lw_all := lw_g (lw_at lw_m1 208 rfl) rfl
theorem q490 : (Jvm.Cond.fieldLink "ElectionHouse$Reader" (157 : Nat) "ElectionHouse$Reader" "wrong" "I") ∈ lw_all := lw_g (lw_at lw_m1 209 rfl) rfl
theorem q491 : (Jvm.Cond.fieldLink "ElectionHouse$Reader" (263 : Nat) "ElectionHouse$Reader" "to" "LElectionHouse$Law;") ∈ lw_all := lw_g (lw_at lw_m1 210 rfl) rfl
theorem q492 : (Jvm.Cond.fieldLink "ElectionHouse$Reader" (18 : Nat) "ElectionHouse$Reader" "seen" "[Z") ∈ lw_all := lw_g (lw_at lw_m1 211 rfl) rfl
theorem q493 : (Jvm.Cond.fieldLink "ElectionHouse$Reader" (387 : Nat) "ElectionHouse$Reader" "hasLevel" "Z") ∈ lw_all := lw_g (lw_at lw_m1 212 rfl) rfl
theorem q494 : (Jvm.Cond.fieldLink "ElectionHouse$Reader" (280 : Nat) "ElectionHouse$Reader" "tests" "I") ∈ lw_all := lw_g (lw_at lw_m1 213 rfl) rfl
theorem q495 : (Jvm.Cond.fieldLink "ElectionHouse$Reader" (22 : Nat) "ElectionHouse$Reader" "stack" "[I") ∈ lw_all := lw_g (lw_at lw_m1 214 rfl) rfl
theorem q496 : (Jvm.Cond.fieldLink "ElectionHouse$Reader" (311 : Nat) "ElectionHouse$Reader" "waiting" "I") ∈ lw_all := lw_g (lw_at lw_m1 215 rfl) rfl
theorem q497 : (Jvm.Cond.fieldLink "ElectionHouse$Reader" (296 : Nat) "ElectionHouse$Reader" "isTurned" "Z") ∈ lw_all := lw_g (lw_at lw_m1 216 rfl) rfl
theorem q498 : (Jvm.Cond.laysFinal "ElectionHouse$Reader" "ElectionHouse$Reader" "words" "[Ljava/lang/String;") ∈ lw_all := lw_g (lw_at lw_m1 217 rfl) rfl
theorem q499 : (Jvm.Cond.soleField "ElectionHouse$Reader" "words") ∈ lw_all := lw_g (lw_at lw_m1 218 rfl) rfl
theorem q500 : (Jvm.Cond.laysFinal "ElectionHouse$Reader" "ElectionHouse$Reader" "fault" "LElectionHouse$Fault;") ∈ lw_all := lw_g (lw_at lw_m1 219 rfl) rfl
theorem q501 : (Jvm.Cond.soleField "ElectionHouse$Reader" "fault") ∈ lw_all := lw_g (lw_at lw_m1 220 rfl) rfl
theorem q502 : (Jvm.Cond.laysFinal "ElectionHouse$Reader" "ElectionHouse$Reader" "land" "LElectionHouse$Land;") ∈ lw_all := lw_g (lw_at lw_m1 221 rfl) rfl
theorem q503 : (Jvm.Cond.soleField "ElectionHouse$Reader" "land") ∈ lw_all := lw_g (lw_at lw_m1 222 rfl) rfl
theorem q504 : (Jvm.Cond.laysFinal "ElectionHouse$Reader" "ElectionHouse$Reader" "text" "[B") ∈ lw_all := lw_g (lw_at lw_m1 223 rfl) rfl
theorem q505 : (Jvm.Cond.soleField "ElectionHouse$Reader" "text") ∈ lw_all := lw_g (lw_at lw_m1 224 rfl) rfl
theorem q506 : (Jvm.Cond.lays "ElectionHouse$Reader" "ElectionHouse$Reader" "size" "I") ∈ lw_all := lw_g (lw_at lw_m1 225 rfl) rfl
theorem q507 : (Jvm.Cond.soleField "ElectionHouse$Reader" "size") ∈ lw_all := lw_g (lw_at lw_m1 226 rfl) rfl
theorem q508 : (Jvm.Cond.lays "ElectionHouse$Reader" "ElectionHouse$Reader" "at" "I") ∈ lw_all := lw_g (lw_at lw_m1 227 rfl) rfl
theorem q509 : (Jvm.Cond.soleField "ElectionHouse$Reader" "at") ∈ lw_all := lw_g (lw_at lw_m1 228 rfl) rfl
theorem q510 : (Jvm.Cond.lays "ElectionHouse$Reader" "ElectionHouse$Reader" "end" "I") ∈ lw_all := lw_g (lw_at lw_m1 229 rfl) rfl
theorem q511 : (Jvm.Cond.soleField "ElectionHouse$Reader" "end") ∈ lw_all := lw_g (lw_at lw_m1 230 rfl) rfl
theorem q512 : (Jvm.Cond.lays "ElectionHouse$Reader" "ElectionHouse$Reader" "kind" "I") ∈ lw_all := lw_g (lw_at lw_m1 231 rfl) rfl
theorem q513 : (Jvm.Cond.soleField "ElectionHouse$Reader" "kind") ∈ lw_all := lw_g (lw_at lw_m1 232 rfl) rfl
theorem q514 : (Jvm.Cond.lays "ElectionHouse$Reader" "ElectionHouse$Reader" "value" "I") ∈ lw_all := lw_g (lw_at lw_m1 233 rfl) rfl
theorem q515 : (Jvm.Cond.soleField "ElectionHouse$Reader" "value") ∈ lw_all := lw_g (lw_at lw_m1 234 rfl) rfl
theorem q516 : (Jvm.Cond.lays "ElectionHouse$Reader" "ElectionHouse$Reader" "wrong" "I") ∈ lw_all := lw_g (lw_at lw_m1 235 rfl) rfl
theorem q517 : (Jvm.Cond.soleField "ElectionHouse$Reader" "wrong") ∈ lw_all := lw_g (lw_at lw_m1 236 rfl) rfl
theorem q518 : (Jvm.Cond.lays "ElectionHouse$Reader" "ElectionHouse$Reader" "to" "LElectionHouse$Law;") ∈ lw_all := lw_g (lw_at lw_m1 237 rfl) rfl
theorem q519 : (Jvm.Cond.soleField "ElectionHouse$Reader" "to") ∈ lw_all := lw_g (lw_at lw_m1 238 rfl) rfl
theorem q520 : (Jvm.Cond.laysFinal "ElectionHouse$Reader" "ElectionHouse$Reader" "seen" "[Z") ∈ lw_all := lw_g (lw_at lw_m1 239 rfl) rfl
theorem q521 : (Jvm.Cond.soleField "ElectionHouse$Reader" "seen") ∈ lw_all := lw_g (lw_at lw_m2 0 rfl) rfl
theorem q522 : (Jvm.Cond.lays "ElectionHouse$Reader" "ElectionHouse$Reader" "hasLevel" "Z") ∈ lw_all := lw_g (lw_at lw_m2 1 rfl) rfl
theorem q523 : (Jvm.Cond.soleField "ElectionHouse$Reader" "hasLevel") ∈ lw_all := lw_g (lw_at lw_m2 2 rfl) rfl
theorem q524 : (Jvm.Cond.lays "ElectionHouse$Reader" "ElectionHouse$Reader" "tests" "I") ∈ lw_all := lw_g (lw_at lw_m2 3 rfl) rfl
theorem q525 : (Jvm.Cond.soleField "ElectionHouse$Reader" "tests") ∈ lw_all := lw_g (lw_at lw_m2 4 rfl) rfl
theorem q526 : (Jvm.Cond.laysFinal "ElectionHouse$Reader" "ElectionHouse$Reader" "stack" "[I") ∈ lw_all := lw_g (lw_at lw_m2 5 rfl) rfl
theorem q527 : (Jvm.Cond.soleField "ElectionHouse$Reader" "stack") ∈ lw_all := lw_g (lw_at lw_m2 6 rfl) rfl
theorem q528 : (Jvm.Cond.lays "ElectionHouse$Reader" "ElectionHouse$Reader" "waiting" "I") ∈ lw_all := lw_g (lw_at lw_m2 7 rfl) rfl
theorem q529 : (Jvm.Cond.soleField "ElectionHouse$Reader" "waiting") ∈ lw_all := lw_g (lw_at lw_m2 8 rfl) rfl
theorem q530 : (Jvm.Cond.lays "ElectionHouse$Reader" "ElectionHouse$Reader" "isTurned" "Z") ∈ lw_all := lw_g (lw_at lw_m2 9 rfl) rfl
theorem q531 : (Jvm.Cond.soleField "ElectionHouse$Reader" "isTurned") ∈ lw_all := lw_g (lw_at lw_m2 10 rfl) rfl
theorem q532 : (Jvm.Cond.superclass "ElectionHouse$Reader" "java/lang/Object") ∈ lw_all := lw_g (lw_at lw_m2 11 rfl) rfl
theorem q554 : (Jvm.Cond.fieldLinkNest "ElectionHouse$Reader" (304 : Nat) "ElectionHouse$Clause" "to" "I" "ElectionHouse") ∈ lw_tbl := lw_at lw_m2 33 rfl
theorem q572 : (Jvm.Cond.fieldLinkNest "ElectionHouse$Reader" (358 : Nat) "ElectionHouse$Way" "area" "I" "ElectionHouse") ∈ lw_tbl := lw_at lw_m2 51 rfl
theorem q575 : (Jvm.Cond.fieldLinkNest "ElectionHouse$Reader" (362 : Nat) "ElectionHouse$Way" "seats" "I" "ElectionHouse") ∈ lw_tbl := lw_at lw_m2 54 rfl
theorem q578 : (Jvm.Cond.fieldLinkNest "ElectionHouse$Reader" (365 : Nat) "ElectionHouse$Way" "rule" "I" "ElectionHouse") ∈ lw_tbl := lw_at lw_m2 57 rfl
theorem q581 : (Jvm.Cond.fieldLinkNest "ElectionHouse$Reader" (368 : Nat) "ElectionHouse$Way" "option" "I" "ElectionHouse") ∈ lw_tbl := lw_at lw_m2 60 rfl
theorem q582 : (Jvm.Cond.fieldLinkNest "ElectionHouse$Reader" (371 : Nat) "ElectionHouse$Way" "above" "I" "ElectionHouse") ∈ lw_tbl := lw_at lw_m2 61 rfl
theorem q584 : (Jvm.Cond.fieldLinkNest "ElectionHouse$Reader" (374 : Nat) "ElectionHouse$Way" "below" "I" "ElectionHouse") ∈ lw_tbl := lw_at lw_m2 63 rfl
theorem q586 : (Jvm.Cond.fieldLinkNest "ElectionHouse$Reader" (377 : Nat) "ElectionHouse$Way" "isOpen" "Z" "ElectionHouse") ∈ lw_tbl := lw_at lw_m2 65 rfl
theorem q588 : (Jvm.Cond.fieldLinkNest "ElectionHouse$Reader" (380 : Nat) "ElectionHouse$Way" "isLevel" "Z" "ElectionHouse") ∈ lw_tbl := lw_at lw_m2 67 rfl
theorem q609 : (Jvm.Cond.fieldLinkNest "ElectionHouse$Reader" (267 : Nat) "ElectionHouse$Law" "days" "[I" "ElectionHouse") ∈ lw_tbl := lw_at lw_m2 88 rfl
theorem q613 : (Jvm.Cond.fieldLinkNest "ElectionHouse$Reader" (395 : Nat) "ElectionHouse$Law" "eve" "Z" "ElectionHouse") ∈ lw_tbl := lw_at lw_m2 92 rfl
theorem q615 : (Jvm.Cond.fieldLinkNest "ElectionHouse$Reader" (417 : Nat) "ElectionHouse$Law" "mail" "Z" "ElectionHouse") ∈ lw_tbl := lw_at lw_m2 94 rfl
theorem q618 : (Jvm.Cond.fieldLinkNest "ElectionHouse$Reader" (408 : Nat) "ElectionHouse$Law" "signatures" "I" "ElectionHouse") ∈ lw_tbl := lw_at lw_m2 97 rfl
theorem q622 : (Jvm.Cond.fieldLinkNest "ElectionHouse$Reader" (411 : Nat) "ElectionHouse$Law" "each" "I" "ElectionHouse") ∈ lw_tbl := lw_at lw_m2 101 rfl
theorem q624 : (Jvm.Cond.fieldLinkNest "ElectionHouse$Reader" (414 : Nat) "ElectionHouse$Law" "spoil" "I" "ElectionHouse") ∈ lw_tbl := lw_at lw_m2 103 rfl
theorem q628 : (Jvm.Cond.fieldLinkNest "ElectionHouse$Reader" (398 : Nat) "ElectionHouse$Law" "vote" "LElectionHouse$Clause;" "ElectionHouse") ∈ lw_tbl := lw_at lw_m2 107 rfl
theorem q631 : (Jvm.Cond.fieldLinkNest "ElectionHouse$Reader" (405 : Nat) "ElectionHouse$Law" "stand" "LElectionHouse$Clause;" "ElectionHouse") ∈ lw_tbl := lw_at lw_m2 110 rfl
theorem q633 : (Jvm.Cond.fieldLinkNest "ElectionHouse$Reader" (283 : Nat) "ElectionHouse$Law" "word" "[I" "ElectionHouse") ∈ lw_tbl := lw_at lw_m2 112 rfl
theorem q635 : (Jvm.Cond.fieldLinkNest "ElectionHouse$Reader" (286 : Nat) "ElectionHouse$Law" "number" "[I" "ElectionHouse") ∈ lw_tbl := lw_at lw_m2 114 rfl
theorem q637 : (Jvm.Cond.fieldLinkNest "ElectionHouse$Reader" (288 : Nat) "ElectionHouse$Law" "on" "[I" "ElectionHouse") ∈ lw_tbl := lw_at lw_m2 116 rfl
theorem q639 : (Jvm.Cond.fieldLinkNest "ElectionHouse$Reader" (291 : Nat) "ElectionHouse$Law" "place" "[I" "ElectionHouse") ∈ lw_tbl := lw_at lw_m2 118 rfl
theorem q641 : (Jvm.Cond.fieldLinkNest "ElectionHouse$Reader" (293 : Nat) "ElectionHouse$Law" "isTurned" "[Z" "ElectionHouse") ∈ lw_tbl := lw_at lw_m2 120 rfl
theorem q644 : (Jvm.Cond.fieldLinkNest "ElectionHouse$Reader" (349 : Nat) "ElectionHouse$Law" "ways" "[LElectionHouse$Way;" "ElectionHouse") ∈ lw_tbl := lw_at lw_m2 123 rfl
theorem q647 : (Jvm.Cond.fieldLinkNest "ElectionHouse$Reader" (346 : Nat) "ElectionHouse$Law" "contests" "I" "ElectionHouse") ∈ lw_tbl := lw_at lw_m2 126 rfl
theorem q1336 : (Jvm.Cond.instanceMethod ({ cls := "ElectionHouse$Reader", name := "read", desc := "(LElectionHouse$Law;I)I" } : Jvm.MethodName)) ∈ lw_all := lw_g (lw_at lw_m5 95 rfl) rfl
theorem q1337 : (Jvm.Cond.selects "ElectionHouse$Reader" ({ cls := "ElectionHouse$Reader", name := "read", desc := "(LElectionHouse$Law;I)I" } : Jvm.MethodName) ({ cls := "ElectionHouse$Reader", name := "read", desc := "(LElectionHouse$Law;I)I" } : Jvm.MethodName)) ∈ lw_all := lw_g (lw_at lw_m5 96 rfl) rfl
theorem q1338 : (Jvm.Cond.codeWith ({ cls := "ElectionHouse$Reader", name := "read", desc := "(LElectionHouse$Law;I)I" } : Jvm.MethodName) prog_14_method_35_code (4 : Nat) (Option.some Jvm.ClassFile.FieldType.int) [((45 : Nat), (49 : Nat), (52 : Nat), (9 : Nat))]) ∈ lw_all := lw_g (lw_at lw_m5 97 rfl) rfl
theorem q1339 : (Jvm.Cond.methodLink "ElectionHouse$Reader" (420 : Nat) ({ cls := "ElectionHouse$Law", name := "begin", desc := "()V" } : Jvm.MethodName)) ∈ lw_all := lw_g (lw_at lw_m5 98 rfl) rfl
theorem q1347 : (Jvm.Cond.methodLink "ElectionHouse$Reader" (422 : Nat) ({ cls := "java/util/Arrays", name := "fill", desc := "([ZZ)V" } : Jvm.MethodName)) ∈ lw_all := lw_g (lw_at lw_m5 106 rfl) rfl
theorem q1350 : (Jvm.Cond.methodLink "ElectionHouse$Reader" (428 : Nat) ({ cls := "ElectionHouse$Reader", name := "all", desc := "()V" } : Jvm.MethodName)) ∈ lw_all := lw_g (lw_at lw_m5 109 rfl) rfl
theorem q1351 : (Jvm.Cond.privateMethod ({ cls := "ElectionHouse$Reader", name := "all", desc := "()V" } : Jvm.MethodName)) ∈ lw_tbl := lw_at lw_m5 110 rfl
theorem q1352 : (Jvm.Cond.instanceMethod ({ cls := "ElectionHouse$Reader", name := "all", desc := "()V" } : Jvm.MethodName)) ∈ lw_all := lw_g (lw_at lw_m5 111 rfl) rfl
theorem q1353 : (Jvm.Cond.code ({ cls := "ElectionHouse$Reader", name := "all", desc := "()V" } : Jvm.MethodName) prog_14_method_36_code (1 : Nat) (Option.none : Option Jvm.ClassFile.FieldType)) ∈ lw_all := lw_g (lw_at lw_m5 112 rfl) rfl
theorem q1354 : (Jvm.Cond.methodLink "ElectionHouse$Reader" (209 : Nat) ({ cls := "ElectionHouse$Reader", name := "take", desc := "()V" } : Jvm.MethodName)) ∈ lw_all := lw_g (lw_at lw_m5 113 rfl) rfl
theorem q1355 : (Jvm.Cond.privateMethod ({ cls := "ElectionHouse$Reader", name := "take", desc := "()V" } : Jvm.MethodName)) ∈ lw_tbl := lw_at lw_m5 114 rfl
theorem q1356 : (Jvm.Cond.instanceMethod ({ cls := "ElectionHouse$Reader", name := "take", desc := "()V" } : Jvm.MethodName)) ∈ lw_all := lw_g (lw_at lw_m5 115 rfl) rfl
theorem q1357 : (Jvm.Cond.code ({ cls := "ElectionHouse$Reader", name := "take", desc := "()V" } : Jvm.MethodName) prog_14_method_9_code (1 : Nat) (Option.none : Option Jvm.ClassFile.FieldType)) ∈ lw_all := lw_g (lw_at lw_m5 116 rfl) rfl
theorem q1358 : (Jvm.Cond.methodLink "ElectionHouse$Reader" (186 : Nat) ({ cls := "ElectionHouse$Reader", name := "isLetter", desc := "(I)Z" } : Jvm.MethodName)) ∈ lw_all := lw_g (lw_at lw_m5 117 rfl) rfl
theorem q1359 : (Jvm.Cond.privateMethod ({ cls := "ElectionHouse$Reader", name := "isLetter", desc := "(I)Z" } : Jvm.MethodName)) ∈ lw_tbl := lw_at lw_m5 118 rfl
theorem q1360 : (Jvm.Cond.instanceMethod ({ cls := "ElectionHouse$Reader", name := "isLetter", desc := "(I)Z" } : Jvm.MethodName)) ∈ lw_all := lw_g (lw_at lw_m5 119 rfl) rfl
theorem q1361 : (Jvm.Cond.code ({ cls := "ElectionHouse$Reader", name := "isLetter", desc := "(I)Z" } : Jvm.MethodName) prog_14_method_4_code (2 : Nat) (Option.some Jvm.ClassFile.FieldType.boolean)) ∈ lw_all := lw_g (lw_at lw_m5 120 rfl) rfl
theorem q1362 : (Jvm.Cond.methodLinkNest "ElectionHouse$Reader" (163 : Nat) ({ cls := "ElectionHouse", name := "within", desc := "(III)Z" } : Jvm.MethodName) "ElectionHouse") ∈ lw_tbl := lw_at lw_m5 121 rfl
theorem q1363 : (Jvm.Cond.methodLink "ElectionHouse$Reader" (190 : Nat) ({ cls := "ElectionHouse$Reader", name := "isDigit", desc := "(I)Z" } : Jvm.MethodName)) ∈ lw_all := lw_g (lw_at lw_m5 122 rfl) rfl
theorem q1364 : (Jvm.Cond.privateMethod ({ cls := "ElectionHouse$Reader", name := "isDigit", desc := "(I)Z" } : Jvm.MethodName)) ∈ lw_tbl := lw_at lw_m5 123 rfl
theorem q1365 : (Jvm.Cond.instanceMethod ({ cls := "ElectionHouse$Reader", name := "isDigit", desc := "(I)Z" } : Jvm.MethodName)) ∈ lw_all := lw_g (lw_at lw_m5 124 rfl) rfl
theorem q1366 : (Jvm.Cond.code ({ cls := "ElectionHouse$Reader", name := "isDigit", desc := "(I)Z" } : Jvm.MethodName) prog_14_method_5_code (2 : Nat) (Option.some Jvm.ClassFile.FieldType.boolean)) ∈ lw_all := lw_g (lw_at lw_m5 125 rfl) rfl
theorem q1367 : (Jvm.Cond.methodLink "ElectionHouse$Reader" (196 : Nat) ({ cls := "ElectionHouse$Reader", name := "wordHere", desc := "()I" } : Jvm.MethodName)) ∈ lw_all := lw_g (lw_at lw_m5 126 rfl) rfl
theorem q1368 : (Jvm.Cond.privateMethod ({ cls := "ElectionHouse$Reader", name := "wordHere", desc := "()I" } : Jvm.MethodName)) ∈ lw_tbl := lw_at lw_m5 127 rfl
theorem q1369 : (Jvm.Cond.instanceMethod ({ cls := "ElectionHouse$Reader", name := "wordHere", desc := "()I" } : Jvm.MethodName)) ∈ lw_all := lw_g (lw_at lw_m5 128 rfl) rfl
theorem q1370 : (Jvm.Cond.code ({ cls := "ElectionHouse$Reader", name := "wordHere", desc := "()I" } : Jvm.MethodName) prog_14_method_7_code (2 : Nat) (Option.some Jvm.ClassFile.FieldType.int)) ∈ lw_all := lw_g (lw_at lw_m5 129 rfl) rfl
theorem q1371 : (Jvm.Cond.methodLink "ElectionHouse$Reader" (178 : Nat) ({ cls := "ElectionHouse$Reader", name := "isWord", desc := "(Ljava/lang/String;)Z" } : Jvm.MethodName)) ∈ lw_all := lw_g (lw_at lw_m5 130 rfl) rfl
theorem q1372 : (Jvm.Cond.privateMethod ({ cls := "ElectionHouse$Reader", name := "isWord", desc := "(Ljava/lang/String;)Z" } : Jvm.MethodName)) ∈ lw_tbl := lw_at lw_m5 131 rfl
theorem q1373 : (Jvm.Cond.instanceMethod ({ cls := "ElectionHouse$Reader", name := "isWord", desc := "(Ljava/lang/String;)Z" } : Jvm.MethodName)) ∈ lw_all := lw_g (lw_at lw_m5 132 rfl) rfl
theorem q1374 : (Jvm.Cond.code ({ cls := "ElectionHouse$Reader", name := "isWord", desc := "(Ljava/lang/String;)Z" } : Jvm.MethodName) prog_14_method_6_code (3 : Nat) (Option.some Jvm.ClassFile.FieldType.boolean)) ∈ lw_all := lw_g (lw_at lw_m5 133 rfl) rfl
theorem q1375 : (Jvm.Cond.methodLink "ElectionHouse$Reader" (170 : Nat) ({ cls := "java/lang/String", name := "length", desc := "()I" } : Jvm.MethodName)) ∈ lw_all := lw_g (lw_at lw_m5 134 rfl) rfl
theorem q1385 : (Jvm.Cond.methodLink "ElectionHouse$Reader" (174 : Nat) ({ cls := "java/lang/String", name := "charAt", desc := "(I)C" } : Jvm.MethodName)) ∈ lw_all := lw_g (lw_at lw_m5 144 rfl) rfl
theorem q1423 : (Jvm.Cond.methodLink "ElectionHouse$Reader" (199 : Nat) ({ cls := "ElectionHouse$Reader", name := "numberHere", desc := "()V" } : Jvm.MethodName)) ∈ lw_all := lw_g (lw_at lw_m5 182 rfl) rfl
theorem q1424 : (Jvm.Cond.privateMethod ({ cls := "ElectionHouse$Reader", name := "numberHere", desc := "()V" } : Jvm.MethodName)) ∈ lw_tbl := lw_at lw_m5 183 rfl
theorem q1425 : (Jvm.Cond.instanceMethod ({ cls := "ElectionHouse$Reader", name := "numberHere", desc := "()V" } : Jvm.MethodName)) ∈ lw_all := lw_g (lw_at lw_m5 184 rfl) rfl
theorem q1426 : (Jvm.Cond.code ({ cls := "ElectionHouse$Reader", name := "numberHere", desc := "()V" } : Jvm.MethodName) prog_14_method_8_code (2 : Nat) (Option.none : Option Jvm.ClassFile.FieldType)) ∈ lw_all := lw_g (lw_at lw_m5 185 rfl) rfl
theorem q1427 : (Jvm.Cond.constant "ElectionHouse$Reader" (185 : Nat) (99999 : Int32)) ∈ lw_all := lw_g (lw_at lw_m5 186 rfl) rfl
theorem q1428 : (Jvm.Cond.methodLink "ElectionHouse$Reader" (431 : Nat) ({ cls := "ElectionHouse$Reader", name := "clause", desc := "()V" } : Jvm.MethodName)) ∈ lw_all := lw_g (lw_at lw_m5 187 rfl) rfl
theorem q1429 : (Jvm.Cond.privateMethod ({ cls := "ElectionHouse$Reader", name := "clause", desc := "()V" } : Jvm.MethodName)) ∈ lw_tbl := lw_at lw_m5 188 rfl
theorem q1430 : (Jvm.Cond.instanceMethod ({ cls := "ElectionHouse$Reader", name := "clause", desc := "()V" } : Jvm.MethodName)) ∈ lw_all := lw_g (lw_at lw_m5 189 rfl) rfl
theorem q1431 : (Jvm.Cond.code ({ cls := "ElectionHouse$Reader", name := "clause", desc := "()V" } : Jvm.MethodName) prog_14_method_34_code (3 : Nat) (Option.none : Option Jvm.ClassFile.FieldType)) ∈ lw_all := lw_g (lw_at lw_m5 190 rfl) rfl
theorem q1432 : (Jvm.Cond.methodLink "ElectionHouse$Reader" (222 : Nat) ({ cls := "ElectionHouse$Reader", name := "oneOf", desc := "(II)I" } : Jvm.MethodName)) ∈ lw_all := lw_g (lw_at lw_m5 191 rfl) rfl
theorem q1433 : (Jvm.Cond.privateMethod ({ cls := "ElectionHouse$Reader", name := "oneOf", desc := "(II)I" } : Jvm.MethodName)) ∈ lw_tbl := lw_at lw_m5 192 rfl
theorem q1434 : (Jvm.Cond.instanceMethod ({ cls := "ElectionHouse$Reader", name := "oneOf", desc := "(II)I" } : Jvm.MethodName)) ∈ lw_all := lw_g (lw_at lw_m5 193 rfl) rfl
theorem q1435 : (Jvm.Cond.code ({ cls := "ElectionHouse$Reader", name := "oneOf", desc := "(II)I" } : Jvm.MethodName) prog_14_method_14_code (4 : Nat) (Option.some Jvm.ClassFile.FieldType.int)) ∈ lw_all := lw_g (lw_at lw_m5 194 rfl) rfl
theorem q1436 : (Jvm.Cond.methodLink "ElectionHouse$Reader" (205 : Nat) ({ cls := "ElectionHouse$Reader", name := "bad", desc := "()LElectionHouse$Fault;" } : Jvm.MethodName)) ∈ lw_all := lw_g (lw_at lw_m5 195 rfl) rfl
theorem q1437 : (Jvm.Cond.privateMethod ({ cls := "ElectionHouse$Reader", name := "bad", desc := "()LElectionHouse$Fault;" } : Jvm.MethodName)) ∈ lw_tbl := lw_at lw_m5 196 rfl
theorem q1438 : (Jvm.Cond.instanceMethod ({ cls := "ElectionHouse$Reader", name := "bad", desc := "()LElectionHouse$Fault;" } : Jvm.MethodName)) ∈ lw_all := lw_g (lw_at lw_m5 197 rfl) rfl
theorem q1439 : (Jvm.Cond.code ({ cls := "ElectionHouse$Reader", name := "bad", desc := "()LElectionHouse$Fault;" } : Jvm.MethodName) prog_14_method_2_code (1 : Nat) (Option.some (Jvm.ClassFile.FieldType.object "ElectionHouse$Fault"))) ∈ lw_all := lw_g (lw_at lw_m5 198 rfl) rfl
theorem q1440 : (Jvm.Cond.methodLink "ElectionHouse$Reader" (390 : Nat) ({ cls := "ElectionHouse$Reader", name := "contest", desc := "(I)V" } : Jvm.MethodName)) ∈ lw_all := lw_g (lw_at lw_m5 199 rfl) rfl
theorem q1441 : (Jvm.Cond.privateMethod ({ cls := "ElectionHouse$Reader", name := "contest", desc := "(I)V" } : Jvm.MethodName)) ∈ lw_tbl := lw_at lw_m5 200 rfl
theorem q1442 : (Jvm.Cond.instanceMethod ({ cls := "ElectionHouse$Reader", name := "contest", desc := "(I)V" } : Jvm.MethodName)) ∈ lw_all := lw_g (lw_at lw_m5 201 rfl) rfl
theorem q1443 : (Jvm.Cond.code ({ cls := "ElectionHouse$Reader", name := "contest", desc := "(I)V" } : Jvm.MethodName) prog_14_method_32_code (3 : Nat) (Option.none : Option Jvm.ClassFile.FieldType)) ∈ lw_all := lw_g (lw_at lw_m5 202 rfl) rfl
theorem q1444 : (Jvm.Cond.methodLink "ElectionHouse$Reader" (215 : Nat) ({ cls := "ElectionHouse$Reader", name := "note", desc := "(ZI)V" } : Jvm.MethodName)) ∈ lw_all := lw_g (lw_at lw_m5 203 rfl) rfl
theorem q1445 : (Jvm.Cond.privateMethod ({ cls := "ElectionHouse$Reader", name := "note", desc := "(ZI)V" } : Jvm.MethodName)) ∈ lw_tbl := lw_at lw_m5 204 rfl
theorem q1446 : (Jvm.Cond.instanceMethod ({ cls := "ElectionHouse$Reader", name := "note", desc := "(ZI)V" } : Jvm.MethodName)) ∈ lw_all := lw_g (lw_at lw_m5 205 rfl) rfl
theorem q1447 : (Jvm.Cond.code ({ cls := "ElectionHouse$Reader", name := "note", desc := "(ZI)V" } : Jvm.MethodName) prog_14_method_3_code (3 : Nat) (Option.none : Option Jvm.ClassFile.FieldType)) ∈ lw_all := lw_g (lw_at lw_m5 206 rfl) rfl
theorem q1448 : (Jvm.Cond.methodLink "ElectionHouse$Reader" (353 : Nat) ({ cls := "java/lang/Math", name := "min", desc := "(II)I" } : Jvm.MethodName)) ∈ lw_all := lw_g (lw_at lw_m5 207 rfl) rfl
theorem q1451 : (Jvm.Cond.methodLink "ElectionHouse$Reader" (356 : Nat) ({ cls := "ElectionHouse$Reader", name := "word", desc := "(I)V" } : Jvm.MethodName)) ∈ lw_all := lw_g (lw_at lw_m5 210 rfl) rfl
theorem q1452 : (Jvm.Cond.privateMethod ({ cls := "ElectionHouse$Reader", name := "word", desc := "(I)V" } : Jvm.MethodName)) ∈ lw_tbl := lw_at lw_m5 211 rfl
theorem q1453 : (Jvm.Cond.instanceMethod ({ cls := "ElectionHouse$Reader", name := "word", desc := "(I)V" } : Jvm.MethodName)) ∈ lw_all := lw_g (lw_at lw_m5 212 rfl) rfl
theorem q1454 : (Jvm.Cond.code ({ cls := "ElectionHouse$Reader", name := "word", desc := "(I)V" } : Jvm.MethodName) prog_14_method_12_code (2 : Nat) (Option.none : Option Jvm.ClassFile.FieldType)) ∈ lw_all := lw_g (lw_at lw_m5 213 rfl) rfl
theorem q1455 : (Jvm.Cond.methodLink "ElectionHouse$Reader" (202 : Nat) ({ cls := "ElectionHouse$Reader", name := "isWordHere", desc := "(I)Z" } : Jvm.MethodName)) ∈ lw_all := lw_g (lw_at lw_m5 214 rfl) rfl
theorem q1456 : (Jvm.Cond.privateMethod ({ cls := "ElectionHouse$Reader", name := "isWordHere", desc := "(I)Z" } : Jvm.MethodName)) ∈ lw_tbl := lw_at lw_m5 215 rfl
theorem q1457 : (Jvm.Cond.instanceMethod ({ cls := "ElectionHouse$Reader", name := "isWordHere", desc := "(I)Z" } : Jvm.MethodName)) ∈ lw_all := lw_g (lw_at lw_m5 216 rfl) rfl
theorem q1458 : (Jvm.Cond.code ({ cls := "ElectionHouse$Reader", name := "isWordHere", desc := "(I)Z" } : Jvm.MethodName) prog_14_method_10_code (2 : Nat) (Option.some Jvm.ClassFile.FieldType.boolean)) ∈ lw_all := lw_g (lw_at lw_m5 217 rfl) rfl
theorem q1459 : (Jvm.Cond.methodLink "ElectionHouse$Reader" (275 : Nat) ({ cls := "ElectionHouse$Reader", name := "area", desc := "()I" } : Jvm.MethodName)) ∈ lw_all := lw_g (lw_at lw_m5 218 rfl) rfl
theorem q1460 : (Jvm.Cond.privateMethod ({ cls := "ElectionHouse$Reader", name := "area", desc := "()I" } : Jvm.MethodName)) ∈ lw_tbl := lw_at lw_m5 219 rfl
theorem q1461 : (Jvm.Cond.instanceMethod ({ cls := "ElectionHouse$Reader", name := "area", desc := "()I" } : Jvm.MethodName)) ∈ lw_all := lw_g (lw_at lw_m5 220 rfl) rfl
theorem q1462 : (Jvm.Cond.code ({ cls := "ElectionHouse$Reader", name := "area", desc := "()I" } : Jvm.MethodName) prog_14_method_22_code (3 : Nat) (Option.some Jvm.ClassFile.FieldType.int)) ∈ lw_all := lw_g (lw_at lw_m5 221 rfl) rfl
theorem q1463 : (Jvm.Cond.methodLink "ElectionHouse$Reader" (219 : Nat) ({ cls := "ElectionHouse$Reader", name := "number", desc := "()I" } : Jvm.MethodName)) ∈ lw_all := lw_g (lw_at lw_m5 222 rfl) rfl
theorem q1464 : (Jvm.Cond.privateMethod ({ cls := "ElectionHouse$Reader", name := "number", desc := "()I" } : Jvm.MethodName)) ∈ lw_tbl := lw_at lw_m5 223 rfl
theorem q1465 : (Jvm.Cond.instanceMethod ({ cls := "ElectionHouse$Reader", name := "number", desc := "()I" } : Jvm.MethodName)) ∈ lw_all := lw_g (lw_at lw_m5 224 rfl) rfl
theorem q1466 : (Jvm.Cond.code ({ cls := "ElectionHouse$Reader", name := "number", desc := "()I" } : Jvm.MethodName) prog_14_method_15_code (2 : Nat) (Option.some Jvm.ClassFile.FieldType.int)) ∈ lw_all := lw_g (lw_at lw_m5 225 rfl) rfl
theorem q1467 : (Jvm.Cond.methodLink "ElectionHouse$Reader" (306 : Nat) ({ cls := "ElectionHouse$Land", name := "has", desc := "(I)Z" } : Jvm.MethodName)) ∈ lw_all := lw_g (lw_at lw_m5 226 rfl) rfl
theorem q1468 : (Jvm.Cond.methodLink "ElectionHouse$Reader" (278 : Nat) ({ cls := "ElectionHouse$Reader", name := "number", desc := "(II)I" } : Jvm.MethodName)) ∈ lw_all := lw_g (lw_at lw_m5 227 rfl) rfl
theorem q1469 : (Jvm.Cond.privateMethod ({ cls := "ElectionHouse$Reader", name := "number", desc := "(II)I" } : Jvm.MethodName)) ∈ lw_tbl := lw_at lw_m5 228 rfl
theorem q1470 : (Jvm.Cond.instanceMethod ({ cls := "ElectionHouse$Reader", name := "number", desc := "(II)I" } : Jvm.MethodName)) ∈ lw_all := lw_g (lw_at lw_m5 229 rfl) rfl
theorem q1471 : (Jvm.Cond.code ({ cls := "ElectionHouse$Reader", name := "number", desc := "(II)I" } : Jvm.MethodName) prog_14_method_16_code (5 : Nat) (Option.some Jvm.ClassFile.FieldType.int)) ∈ lw_all := lw_g (lw_at lw_m5 230 rfl) rfl
theorem q1472 : (Jvm.Cond.methodLink "ElectionHouse$Reader" (383 : Nat) ({ cls := "ElectionHouse$Reader", name := "lists", desc := "(LElectionHouse$Way;)V" } : Jvm.MethodName)) ∈ lw_all := lw_g (lw_at lw_m5 231 rfl) rfl
theorem q1473 : (Jvm.Cond.privateMethod ({ cls := "ElectionHouse$Reader", name := "lists", desc := "(LElectionHouse$Way;)V" } : Jvm.MethodName)) ∈ lw_tbl := lw_at lw_m5 232 rfl
theorem q1474 : (Jvm.Cond.instanceMethod ({ cls := "ElectionHouse$Reader", name := "lists", desc := "(LElectionHouse$Way;)V" } : Jvm.MethodName)) ∈ lw_all := lw_g (lw_at lw_m5 233 rfl) rfl
theorem q1475 : (Jvm.Cond.code ({ cls := "ElectionHouse$Reader", name := "lists", desc := "(LElectionHouse$Way;)V" } : Jvm.MethodName) prog_14_method_33_code (3 : Nat) (Option.none : Option Jvm.ClassFile.FieldType)) ∈ lw_all := lw_g (lw_at lw_m5 234 rfl) rfl
theorem q1476 : (Jvm.Cond.methodLink "ElectionHouse$Reader" (244 : Nat) ({ cls := "ElectionHouse$Reader", name := "sign", desc := "(I)V" } : Jvm.MethodName)) ∈ lw_all := lw_g (lw_at lw_m5 235 rfl) rfl
theorem q1477 : (Jvm.Cond.privateMethod ({ cls := "ElectionHouse$Reader", name := "sign", desc := "(I)V" } : Jvm.MethodName)) ∈ lw_tbl := lw_at lw_m5 236 rfl
theorem q1478 : (Jvm.Cond.instanceMethod ({ cls := "ElectionHouse$Reader", name := "sign", desc := "(I)V" } : Jvm.MethodName)) ∈ lw_all := lw_g (lw_at lw_m5 237 rfl) rfl
theorem q1479 : (Jvm.Cond.code ({ cls := "ElectionHouse$Reader", name := "sign", desc := "(I)V" } : Jvm.MethodName) prog_14_method_13_code (2 : Nat) (Option.none : Option Jvm.ClassFile.FieldType)) ∈ lw_all := lw_g (lw_at lw_m5 238 rfl) rfl
theorem q1480 : (Jvm.Cond.methodLink "ElectionHouse$Reader" (212 : Nat) ({ cls := "ElectionHouse$Reader", name := "isSign", desc := "(I)Z" } : Jvm.MethodName)) ∈ lw_all := lw_g (lw_at lw_m5 239 rfl) rfl
theorem q1481 : (Jvm.Cond.privateMethod ({ cls := "ElectionHouse$Reader", name := "isSign", desc := "(I)Z" } : Jvm.MethodName)) ∈ lw_tbl := lw_at lw_m6 0 rfl
theorem q1482 : (Jvm.Cond.instanceMethod ({ cls := "ElectionHouse$Reader", name := "isSign", desc := "(I)Z" } : Jvm.MethodName)) ∈ lw_all := lw_g (lw_at lw_m6 1 rfl) rfl
theorem q1483 : (Jvm.Cond.code ({ cls := "ElectionHouse$Reader", name := "isSign", desc := "(I)Z" } : Jvm.MethodName) prog_14_method_11_code (2 : Nat) (Option.some Jvm.ClassFile.FieldType.boolean)) ∈ lw_all := lw_g (lw_at lw_m6 2 rfl) rfl
theorem q1484 : (Jvm.Cond.methodLink "ElectionHouse$Reader" (393 : Nat) ({ cls := "ElectionHouse$Reader", name := "days", desc := "()V" } : Jvm.MethodName)) ∈ lw_all := lw_g (lw_at lw_m6 3 rfl) rfl
theorem q1485 : (Jvm.Cond.privateMethod ({ cls := "ElectionHouse$Reader", name := "days", desc := "()V" } : Jvm.MethodName)) ∈ lw_tbl := lw_at lw_m6 4 rfl
theorem q1486 : (Jvm.Cond.instanceMethod ({ cls := "ElectionHouse$Reader", name := "days", desc := "()V" } : Jvm.MethodName)) ∈ lw_all := lw_g (lw_at lw_m6 5 rfl) rfl
theorem q1487 : (Jvm.Cond.code ({ cls := "ElectionHouse$Reader", name := "days", desc := "()V" } : Jvm.MethodName) prog_14_method_20_code (3 : Nat) (Option.none : Option Jvm.ClassFile.FieldType)) ∈ lw_all := lw_g (lw_at lw_m6 6 rfl) rfl
theorem q1488 : (Jvm.Cond.methodLink "ElectionHouse$Reader" (272 : Nat) ({ cls := "ElectionHouse$Reader", name := "time", desc := "()I" } : Jvm.MethodName)) ∈ lw_all := lw_g (lw_at lw_m6 7 rfl) rfl
theorem q1489 : (Jvm.Cond.privateMethod ({ cls := "ElectionHouse$Reader", name := "time", desc := "()I" } : Jvm.MethodName)) ∈ lw_tbl := lw_at lw_m6 8 rfl
theorem q1490 : (Jvm.Cond.instanceMethod ({ cls := "ElectionHouse$Reader", name := "time", desc := "()I" } : Jvm.MethodName)) ∈ lw_all := lw_g (lw_at lw_m6 9 rfl) rfl
theorem q1491 : (Jvm.Cond.code ({ cls := "ElectionHouse$Reader", name := "time", desc := "()I" } : Jvm.MethodName) prog_14_method_19_code (5 : Nat) (Option.some Jvm.ClassFile.FieldType.int)) ∈ lw_all := lw_g (lw_at lw_m6 10 rfl) rfl
theorem q1492 : (Jvm.Cond.methodLink "ElectionHouse$Reader" (259 : Nat) ({ cls := "ElectionHouse$Reader", name := "date", desc := "()I" } : Jvm.MethodName)) ∈ lw_all := lw_g (lw_at lw_m6 11 rfl) rfl
theorem q1493 : (Jvm.Cond.privateMethod ({ cls := "ElectionHouse$Reader", name := "date", desc := "()I" } : Jvm.MethodName)) ∈ lw_tbl := lw_at lw_m6 12 rfl
theorem q1494 : (Jvm.Cond.instanceMethod ({ cls := "ElectionHouse$Reader", name := "date", desc := "()I" } : Jvm.MethodName)) ∈ lw_all := lw_g (lw_at lw_m6 13 rfl) rfl
theorem q1495 : (Jvm.Cond.code ({ cls := "ElectionHouse$Reader", name := "date", desc := "()I" } : Jvm.MethodName) prog_14_method_17_code (5 : Nat) (Option.some Jvm.ClassFile.FieldType.int)) ∈ lw_all := lw_g (lw_at lw_m6 14 rfl) rfl
theorem q1496 : (Jvm.Cond.methodLink "ElectionHouse$Reader" (226 : Nat) ({ cls := "ElectionHouse$Days", name := "last", desc := "(III)I" } : Jvm.MethodName)) ∈ lw_all := lw_g (lw_at lw_m6 15 rfl) rfl
theorem q1507 : (Jvm.Cond.methodLink "ElectionHouse$Reader" (232 : Nat) ({ cls := "ElectionHouse$Days", name := "easter", desc := "(I)I" } : Jvm.MethodName)) ∈ lw_all := lw_g (lw_at lw_m6 26 rfl) rfl
theorem q1510 : (Jvm.Cond.methodLink "ElectionHouse$Reader" (236 : Nat) ({ cls := "ElectionHouse$Reader", name := "dateBehind", desc := "(I)I" } : Jvm.MethodName)) ∈ lw_all := lw_g (lw_at lw_m6 29 rfl) rfl
theorem q1511 : (Jvm.Cond.privateMethod ({ cls := "ElectionHouse$Reader", name := "dateBehind", desc := "(I)I" } : Jvm.MethodName)) ∈ lw_tbl := lw_at lw_m6 30 rfl
theorem q1512 : (Jvm.Cond.instanceMethod ({ cls := "ElectionHouse$Reader", name := "dateBehind", desc := "(I)I" } : Jvm.MethodName)) ∈ lw_all := lw_g (lw_at lw_m6 31 rfl) rfl
theorem q1513 : (Jvm.Cond.code ({ cls := "ElectionHouse$Reader", name := "dateBehind", desc := "(I)I" } : Jvm.MethodName) prog_14_method_18_code (4 : Nat) (Option.some Jvm.ClassFile.FieldType.int)) ∈ lw_all := lw_g (lw_at lw_m6 32 rfl) rfl
theorem q1514 : (Jvm.Cond.methodLink "ElectionHouse$Reader" (248 : Nat) ({ cls := "ElectionHouse$Days", name := "is", desc := "(IIII)Z" } : Jvm.MethodName)) ∈ lw_all := lw_g (lw_at lw_m6 33 rfl) rfl
theorem q1515 : (Jvm.Cond.methodLink "ElectionHouse$Reader" (252 : Nat) ({ cls := "ElectionHouse$Days", name := "of", desc := "(III)I" } : Jvm.MethodName)) ∈ lw_all := lw_g (lw_at lw_m6 34 rfl) rfl
theorem q1516 : (Jvm.Cond.methodLink "ElectionHouse$Reader" (255 : Nat) ({ cls := "ElectionHouse$Days", name := "nth", desc := "(IIII)I" } : Jvm.MethodName)) ∈ lw_all := lw_g (lw_at lw_m6 35 rfl) rfl
theorem q1519 : (Jvm.Cond.methodLink "ElectionHouse$Reader" (239 : Nat) ({ cls := "java/lang/Math", name := "max", desc := "(II)I" } : Jvm.MethodName)) ∈ lw_all := lw_g (lw_at lw_m6 38 rfl) rfl
theorem q1522 : (Jvm.Cond.constant "ElectionHouse$Reader" (262 : Nat) (36524 : Int32)) ∈ lw_all := lw_g (lw_at lw_m6 41 rfl) rfl
theorem q1523 : (Jvm.Cond.methodLink "ElectionHouse$Reader" (402 : Nat) ({ cls := "ElectionHouse$Reader", name := "condition", desc := "(LElectionHouse$Clause;)V" } : Jvm.MethodName)) ∈ lw_all := lw_g (lw_at lw_m6 42 rfl) rfl
theorem q1524 : (Jvm.Cond.privateMethod ({ cls := "ElectionHouse$Reader", name := "condition", desc := "(LElectionHouse$Clause;)V" } : Jvm.MethodName)) ∈ lw_tbl := lw_at lw_m6 43 rfl
theorem q1525 : (Jvm.Cond.instanceMethod ({ cls := "ElectionHouse$Reader", name := "condition", desc := "(LElectionHouse$Clause;)V" } : Jvm.MethodName)) ∈ lw_all := lw_g (lw_at lw_m6 44 rfl) rfl
theorem q1526 : (Jvm.Cond.code ({ cls := "ElectionHouse$Reader", name := "condition", desc := "(LElectionHouse$Clause;)V" } : Jvm.MethodName) prog_14_method_28_code (4 : Nat) (Option.none : Option Jvm.ClassFile.FieldType)) ∈ lw_all := lw_g (lw_at lw_m6 45 rfl) rfl
theorem q1527 : (Jvm.Cond.methodLink "ElectionHouse$Reader" (321 : Nat) ({ cls := "ElectionHouse$Clause", name := "begin", desc := "(I)V" } : Jvm.MethodName)) ∈ lw_all := lw_g (lw_at lw_m6 46 rfl) rfl
theorem q1528 : (Jvm.Cond.methodLink "ElectionHouse$Reader" (324 : Nat) ({ cls := "ElectionHouse$Reader", name := "operand", desc := "(LElectionHouse$Clause;I)I" } : Jvm.MethodName)) ∈ lw_all := lw_g (lw_at lw_m6 47 rfl) rfl
theorem q1529 : (Jvm.Cond.privateMethod ({ cls := "ElectionHouse$Reader", name := "operand", desc := "(LElectionHouse$Clause;I)I" } : Jvm.MethodName)) ∈ lw_tbl := lw_at lw_m6 48 rfl
theorem q1530 : (Jvm.Cond.instanceMethod ({ cls := "ElectionHouse$Reader", name := "operand", desc := "(LElectionHouse$Clause;I)I" } : Jvm.MethodName)) ∈ lw_all := lw_g (lw_at lw_m6 49 rfl) rfl
theorem q1531 : (Jvm.Cond.code ({ cls := "ElectionHouse$Reader", name := "operand", desc := "(LElectionHouse$Clause;I)I" } : Jvm.MethodName) prog_14_method_29_code (5 : Nat) (Option.some Jvm.ClassFile.FieldType.int)) ∈ lw_all := lw_g (lw_at lw_m6 50 rfl) rfl
theorem q1532 : (Jvm.Cond.methodLink "ElectionHouse$Reader" (336 : Nat) ({ cls := "ElectionHouse$Reader", name := "push", desc := "(I)V" } : Jvm.MethodName)) ∈ lw_all := lw_g (lw_at lw_m6 51 rfl) rfl
theorem q1533 : (Jvm.Cond.privateMethod ({ cls := "ElectionHouse$Reader", name := "push", desc := "(I)V" } : Jvm.MethodName)) ∈ lw_tbl := lw_at lw_m6 52 rfl
theorem q1534 : (Jvm.Cond.instanceMethod ({ cls := "ElectionHouse$Reader", name := "push", desc := "(I)V" } : Jvm.MethodName)) ∈ lw_all := lw_g (lw_at lw_m6 53 rfl) rfl
theorem q1535 : (Jvm.Cond.code ({ cls := "ElectionHouse$Reader", name := "push", desc := "(I)V" } : Jvm.MethodName) prog_14_method_26_code (2 : Nat) (Option.none : Option Jvm.ClassFile.FieldType)) ∈ lw_all := lw_g (lw_at lw_m6 54 rfl) rfl
theorem q1536 : (Jvm.Cond.methodLink "ElectionHouse$Reader" (339 : Nat) ({ cls := "ElectionHouse$Reader", name := "isTest", desc := "()Z" } : Jvm.MethodName)) ∈ lw_all := lw_g (lw_at lw_m6 55 rfl) rfl
theorem q1537 : (Jvm.Cond.privateMethod ({ cls := "ElectionHouse$Reader", name := "isTest", desc := "()Z" } : Jvm.MethodName)) ∈ lw_tbl := lw_at lw_m6 56 rfl
theorem q1538 : (Jvm.Cond.instanceMethod ({ cls := "ElectionHouse$Reader", name := "isTest", desc := "()Z" } : Jvm.MethodName)) ∈ lw_all := lw_g (lw_at lw_m6 57 rfl) rfl
theorem q1539 : (Jvm.Cond.code ({ cls := "ElectionHouse$Reader", name := "isTest", desc := "()Z" } : Jvm.MethodName) prog_14_method_23_code (1 : Nat) (Option.some Jvm.ClassFile.FieldType.boolean)) ∈ lw_all := lw_g (lw_at lw_m6 58 rfl) rfl
theorem q1540 : (Jvm.Cond.methodLink "ElectionHouse$Reader" (343 : Nat) ({ cls := "ElectionHouse$Reader", name := "test", desc := "(LElectionHouse$Clause;)V" } : Jvm.MethodName)) ∈ lw_all := lw_g (lw_at lw_m6 59 rfl) rfl
theorem q1541 : (Jvm.Cond.privateMethod ({ cls := "ElectionHouse$Reader", name := "test", desc := "(LElectionHouse$Clause;)V" } : Jvm.MethodName)) ∈ lw_tbl := lw_at lw_m6 60 rfl
theorem q1542 : (Jvm.Cond.instanceMethod ({ cls := "ElectionHouse$Reader", name := "test", desc := "(LElectionHouse$Clause;)V" } : Jvm.MethodName)) ∈ lw_all := lw_g (lw_at lw_m6 61 rfl) rfl
theorem q1543 : (Jvm.Cond.code ({ cls := "ElectionHouse$Reader", name := "test", desc := "(LElectionHouse$Clause;)V" } : Jvm.MethodName) prog_14_method_21_code (6 : Nat) (Option.none : Option Jvm.ClassFile.FieldType)) ∈ lw_all := lw_g (lw_at lw_m6 62 rfl) rfl
theorem q1544 : (Jvm.Cond.methodLink "ElectionHouse$Reader" (299 : Nat) ({ cls := "ElectionHouse$Clause", name := "put", desc := "(I)V" } : Jvm.MethodName)) ∈ lw_all := lw_g (lw_at lw_m6 63 rfl) rfl
theorem q1548 : (Jvm.Cond.methodLink "ElectionHouse$Reader" (331 : Nat) ({ cls := "ElectionHouse$Reader", name := "turns", desc := "(LElectionHouse$Clause;)V" } : Jvm.MethodName)) ∈ lw_all := lw_g (lw_at lw_m6 67 rfl) rfl
theorem q1549 : (Jvm.Cond.privateMethod ({ cls := "ElectionHouse$Reader", name := "turns", desc := "(LElectionHouse$Clause;)V" } : Jvm.MethodName)) ∈ lw_tbl := lw_at lw_m6 68 rfl
theorem q1550 : (Jvm.Cond.instanceMethod ({ cls := "ElectionHouse$Reader", name := "turns", desc := "(LElectionHouse$Clause;)V" } : Jvm.MethodName)) ∈ lw_all := lw_g (lw_at lw_m6 69 rfl) rfl
theorem q1551 : (Jvm.Cond.code ({ cls := "ElectionHouse$Reader", name := "turns", desc := "(LElectionHouse$Clause;)V" } : Jvm.MethodName) prog_14_method_27_code (2 : Nat) (Option.none : Option Jvm.ClassFile.FieldType)) ∈ lw_all := lw_g (lw_at lw_m6 70 rfl) rfl
theorem q1552 : (Jvm.Cond.methodLink "ElectionHouse$Reader" (314 : Nat) ({ cls := "ElectionHouse$Reader", name := "isTop", desc := "(I)Z" } : Jvm.MethodName)) ∈ lw_all := lw_g (lw_at lw_m6 71 rfl) rfl
theorem q1553 : (Jvm.Cond.privateMethod ({ cls := "ElectionHouse$Reader", name := "isTop", desc := "(I)Z" } : Jvm.MethodName)) ∈ lw_tbl := lw_at lw_m6 72 rfl
theorem q1554 : (Jvm.Cond.instanceMethod ({ cls := "ElectionHouse$Reader", name := "isTop", desc := "(I)Z" } : Jvm.MethodName)) ∈ lw_all := lw_g (lw_at lw_m6 73 rfl) rfl
theorem q1555 : (Jvm.Cond.code ({ cls := "ElectionHouse$Reader", name := "isTop", desc := "(I)Z" } : Jvm.MethodName) prog_14_method_25_code (2 : Nat) (Option.some Jvm.ClassFile.FieldType.boolean)) ∈ lw_all := lw_g (lw_at lw_m6 74 rfl) rfl
theorem q1556 : (Jvm.Cond.methodLink "ElectionHouse$Reader" (317 : Nat) ({ cls := "ElectionHouse$Reader", name := "pop", desc := "(LElectionHouse$Clause;)V" } : Jvm.MethodName)) ∈ lw_all := lw_g (lw_at lw_m6 75 rfl) rfl
theorem q1557 : (Jvm.Cond.privateMethod ({ cls := "ElectionHouse$Reader", name := "pop", desc := "(LElectionHouse$Clause;)V" } : Jvm.MethodName)) ∈ lw_tbl := lw_at lw_m6 76 rfl
theorem q1558 : (Jvm.Cond.instanceMethod ({ cls := "ElectionHouse$Reader", name := "pop", desc := "(LElectionHouse$Clause;)V" } : Jvm.MethodName)) ∈ lw_all := lw_g (lw_at lw_m6 77 rfl) rfl
theorem q1559 : (Jvm.Cond.code ({ cls := "ElectionHouse$Reader", name := "pop", desc := "(LElectionHouse$Clause;)V" } : Jvm.MethodName) prog_14_method_24_code (3 : Nat) (Option.none : Option Jvm.ClassFile.FieldType)) ∈ lw_all := lw_g (lw_at lw_m6 78 rfl) rfl
theorem q1560 : (Jvm.Cond.methodLink "ElectionHouse$Reader" (328 : Nat) ({ cls := "ElectionHouse$Reader", name := "joins", desc := "(LElectionHouse$Clause;)V" } : Jvm.MethodName)) ∈ lw_all := lw_g (lw_at lw_m6 79 rfl) rfl
theorem q1561 : (Jvm.Cond.privateMethod ({ cls := "ElectionHouse$Reader", name := "joins", desc := "(LElectionHouse$Clause;)V" } : Jvm.MethodName)) ∈ lw_tbl := lw_at lw_m6 80 rfl
theorem q1562 : (Jvm.Cond.instanceMethod ({ cls := "ElectionHouse$Reader", name := "joins", desc := "(LElectionHouse$Clause;)V" } : Jvm.MethodName)) ∈ lw_all := lw_g (lw_at lw_m6 81 rfl) rfl
theorem q1563 : (Jvm.Cond.code ({ cls := "ElectionHouse$Reader", name := "joins", desc := "(LElectionHouse$Clause;)V" } : Jvm.MethodName) prog_14_method_31_code (2 : Nat) (Option.none : Option Jvm.ClassFile.FieldType)) ∈ lw_all := lw_g (lw_at lw_m6 82 rfl) rfl
theorem q1564 : (Jvm.Cond.methodLink "ElectionHouse$Reader" (334 : Nat) ({ cls := "ElectionHouse$Reader", name := "sign", desc := "(LElectionHouse$Clause;)V" } : Jvm.MethodName)) ∈ lw_all := lw_g (lw_at lw_m6 83 rfl) rfl
theorem q1565 : (Jvm.Cond.privateMethod ({ cls := "ElectionHouse$Reader", name := "sign", desc := "(LElectionHouse$Clause;)V" } : Jvm.MethodName)) ∈ lw_tbl := lw_at lw_m6 84 rfl
theorem q1566 : (Jvm.Cond.instanceMethod ({ cls := "ElectionHouse$Reader", name := "sign", desc := "(LElectionHouse$Clause;)V" } : Jvm.MethodName)) ∈ lw_all := lw_g (lw_at lw_m6 85 rfl) rfl
theorem q1567 : (Jvm.Cond.code ({ cls := "ElectionHouse$Reader", name := "sign", desc := "(LElectionHouse$Clause;)V" } : Jvm.MethodName) prog_14_method_30_code (3 : Nat) (Option.none : Option Jvm.ClassFile.FieldType)) ∈ lw_all := lw_g (lw_at lw_m6 86 rfl) rfl
theorem in_X2 : ∀ w ∈ wsX20, w ∈ lw_all := lw_in wsX20 [498, 500, 502, 504, 506, 508, 510, 512, 514, 516, 518, 520, 522, 524, 526, 528, 530] (by decide +kernel) (by decide +kernel)

set_option maxRecDepth 100000
abbrev cX3_init : ByteArray := prog_8_method_1_code
def yX3_init : MethodName := ⟨RX3, "<init>", "()V"⟩
def dkwX3_init_0 : List UInt8 := [42, 1, 1, 3, 3, 183, 0, 1, 177]
abbrev dktX3_init_0 : List UInt8 := dkwX3_init_0 ++ []
theorem dksX3_init_0 : cX3_init.data.toList.drop 0 = dktX3_init_0 := by decide +kernel
theorem dX3_init_0 : decode cX3_init 0 = .ok (.aload_n 0, 1) := dk_42 (dk_at dksX3_init_0 0 rfl rfl)
theorem dX3_init_1 : decode cX3_init 1 = .ok (.aconst_null, 1) := dk_1 (dk_at dksX3_init_0 1 rfl rfl)
theorem dX3_init_2 : decode cX3_init 2 = .ok (.aconst_null, 1) := dk_1 (dk_at dksX3_init_0 2 rfl rfl)
theorem dX3_init_3 : decode cX3_init 3 = .ok (.iconst 0, 1) := dk_3 (dk_at dksX3_init_0 3 rfl rfl)
theorem dX3_init_4 : decode cX3_init 4 = .ok (.iconst 0, 1) := dk_3 (dk_at dksX3_init_0 4 rfl rfl)
theorem dX3_init_5 : decode cX3_init 5 = .ok (.invokespecial 1, 3) := dk_183 0 1 (dk_at dksX3_init_0 5 rfl rfl)
theorem dX3_init_8 : decode cX3_init 8 = .ok (.return_, 1) := dk_177 (dk_at dksX3_init_0 8 rfl rfl)
theorem q288 : (Jvm.Cond.initialized "ElectionHouse$Fault") ∈ lw_all := lw_g (lw_at lw_m1 7 rfl) rfl
theorem q358 : (Jvm.Cond.instantiable "ElectionHouse$Fault" (7 : Nat)) ∈ lw_all := lw_g (lw_at lw_m1 77 rfl) rfl
theorem q359 : (Jvm.Cond.castable "ElectionHouse$Fault" "ElectionHouse$Fault") ∈ lw_tbl := lw_at lw_m1 78 rfl
theorem q366 : (Jvm.Cond.selects "ElectionHouse$Fault" ({ cls := "java/lang/Throwable", name := "fillInStackTrace", desc := "(I)Ljava/lang/Throwable;" } : Jvm.MethodName) ({ cls := "java/lang/Throwable", name := "fillInStackTrace", desc := "(I)Ljava/lang/Throwable;" } : Jvm.MethodName)) ∈ lw_all := lw_g (lw_at lw_m1 85 rfl) rfl
theorem q367 : (Jvm.Cond.selects "ElectionHouse$Fault" ({ cls := "java/lang/Throwable", name := "fillInStackTrace", desc := "()Ljava/lang/Throwable;" } : Jvm.MethodName) ({ cls := "java/lang/Throwable", name := "fillInStackTrace", desc := "()Ljava/lang/Throwable;" } : Jvm.MethodName)) ∈ lw_all := lw_g (lw_at lw_m1 86 rfl) rfl
theorem q368 : (Jvm.Cond.lays "ElectionHouse$Fault" "java/lang/Throwable" "cause" "Ljava/lang/Throwable;") ∈ lw_all := lw_g (lw_at lw_m1 87 rfl) rfl
theorem q370 : (Jvm.Cond.lays "ElectionHouse$Fault" "java/lang/Throwable" "stackTrace" "[Ljava/lang/StackTraceElement;") ∈ lw_all := lw_g (lw_at lw_m1 89 rfl) rfl
theorem q372 : (Jvm.Cond.lays "ElectionHouse$Fault" "java/lang/Throwable" "suppressedExceptions" "Ljava/util/List;") ∈ lw_all := lw_g (lw_at lw_m1 91 rfl) rfl
theorem q374 : (Jvm.Cond.lays "ElectionHouse$Fault" "java/lang/Throwable" "detailMessage" "Ljava/lang/String;") ∈ lw_all := lw_g (lw_at lw_m1 93 rfl) rfl
theorem q376 : (Jvm.Cond.lays "ElectionHouse$Fault" "java/lang/Throwable" "backtrace" "Ljava/lang/Object;") ∈ lw_all := lw_g (lw_at lw_m1 95 rfl) rfl
theorem q397 : (Jvm.Cond.instanceMethod ({ cls := "ElectionHouse$Fault", name := "<init>", desc := "()V" } : Jvm.MethodName)) ∈ lw_all := lw_g (lw_at lw_m1 116 rfl) rfl
theorem q398 : (Jvm.Cond.code ({ cls := "ElectionHouse$Fault", name := "<init>", desc := "()V" } : Jvm.MethodName) prog_8_method_1_code (1 : Nat) (Option.none : Option Jvm.ClassFile.FieldType)) ∈ lw_all := lw_g (lw_at lw_m1 117 rfl) rfl
theorem q399 : (Jvm.Cond.methodLink "ElectionHouse$Fault" (1 : Nat) ({ cls := "java/lang/RuntimeException", name := "<init>", desc := "(Ljava/lang/String;Ljava/lang/Throwable;ZZ)V" } : Jvm.MethodName)) ∈ lw_all := lw_g (lw_at lw_m1 118 rfl) rfl
theorem q414 : (Jvm.Cond.lays "ElectionHouse$Fault" "ElectionHouse$Fault" "place" "I") ∈ lw_all := lw_g (lw_at lw_m1 133 rfl) rfl
theorem q415 : (Jvm.Cond.soleField "ElectionHouse$Fault" "place") ∈ lw_all := lw_g (lw_at lw_m1 134 rfl) rfl
theorem q420 : (Jvm.Cond.lays "ElectionHouse$Fault" "java/lang/Throwable" "depth" "I") ∈ lw_all := lw_g (lw_at lw_m1 139 rfl) rfl
theorem q423 : (Jvm.Cond.superclass "ElectionHouse$Fault" "java/lang/RuntimeException") ∈ lw_all := lw_g (lw_at lw_m1 142 rfl) rfl

theorem in_X3 : ∀ w ∈ wsX30, w ∈ lw_all := lw_in wsX30 [414, 376, 374, 368, 370, 420, 372] (by decide +kernel) (by decide +kernel)
set_option maxRecDepth 100000
abbrev cX4_init : ByteArray := prog_11_method_1_code
def yX4_init : MethodName := ⟨RX4, "<init>", "()V"⟩
def dkwX4_init_5 : List UInt8 := [177]
abbrev dktX4_init_5 : List UInt8 := dkwX4_init_5 ++ []
def dkwX4_init_4 : List UInt8 := [16, 6, 162, 0, 22, 42, 180, 0, 43, 27, 187, 0, 41, 89, 183, 0, 50, 83, 132, 1, 1, 167, 255, 234]
abbrev dktX4_init_4 : List UInt8 := dkwX4_init_4 ++ dktX4_init_5
def dkwX4_init_3 : List UInt8 := [181, 0, 37, 42, 16, 6, 189, 0, 41, 181, 0, 43, 42, 16, 41, 188, 4, 181, 0, 47, 3, 60, 27]
abbrev dktX4_init_3 : List UInt8 := dkwX4_init_3 ++ dktX4_init_4
def dkwX4_init_2 : List UInt8 := [181, 0, 28, 42, 16, 40, 188, 10, 181, 0, 31, 42, 16, 40, 188, 10, 181, 0, 34, 42, 16, 40, 188, 4]
abbrev dktX4_init_2 : List UInt8 := dkwX4_init_2 ++ dktX4_init_3
def dkwX4_init_1 : List UInt8 := [187, 0, 15, 89, 183, 0, 17, 181, 0, 22, 42, 16, 40, 188, 10, 181, 0, 25, 42, 16, 40, 188, 10]
abbrev dktX4_init_1 : List UInt8 := dkwX4_init_1 ++ dktX4_init_2
def dkwX4_init_0 : List UInt8 := [42, 183, 0, 3, 42, 7, 188, 10, 181, 0, 9, 42, 187, 0, 15, 89, 183, 0, 17, 181, 0, 18, 42]
abbrev dktX4_init_0 : List UInt8 := dkwX4_init_0 ++ dktX4_init_1
theorem dksX4_init_0 : cX4_init.data.toList.drop 0 = dktX4_init_0 := by decide +kernel
theorem dksX4_init_1 : cX4_init.data.toList.drop 23 = dktX4_init_1 := dk_seg dksX4_init_0 23 rfl rfl
theorem dksX4_init_2 : cX4_init.data.toList.drop 46 = dktX4_init_2 := dk_seg dksX4_init_1 23 rfl rfl
theorem dksX4_init_3 : cX4_init.data.toList.drop 70 = dktX4_init_3 := dk_seg dksX4_init_2 24 rfl rfl
theorem dksX4_init_4 : cX4_init.data.toList.drop 93 = dktX4_init_4 := dk_seg dksX4_init_3 23 rfl rfl
theorem dksX4_init_5 : cX4_init.data.toList.drop 117 = dktX4_init_5 := dk_seg dksX4_init_4 24 rfl rfl
theorem dX4_init_0 : decode cX4_init 0 = .ok (.aload_n 0, 1) := dk_42 (dk_at dksX4_init_0 0 rfl rfl)
theorem dX4_init_1 : decode cX4_init 1 = .ok (.invokespecial 3, 3) := dk_183 0 3 (dk_at dksX4_init_0 1 rfl rfl)
theorem dX4_init_4 : decode cX4_init 4 = .ok (.aload_n 0, 1) := dk_42 (dk_at dksX4_init_0 4 rfl rfl)
theorem dX4_init_5 : decode cX4_init 5 = .ok (.iconst 4, 1) := dk_7 (dk_at dksX4_init_0 5 rfl rfl)
theorem dX4_init_6 : decode cX4_init 6 = .ok (.newarray .int, 2) := dk_188_10 (dk_at dksX4_init_0 6 rfl rfl)
theorem dX4_init_8 : decode cX4_init 8 = .ok (.putfield 9, 3) := dk_181 0 9 (dk_at dksX4_init_0 8 rfl rfl)
theorem dX4_init_11 : decode cX4_init 11 = .ok (.aload_n 0, 1) := dk_42 (dk_at dksX4_init_0 11 rfl rfl)
theorem dX4_init_12 : decode cX4_init 12 = .ok (.new 15, 3) := dk_187 0 15 (dk_at dksX4_init_0 12 rfl rfl)
theorem dX4_init_15 : decode cX4_init 15 = .ok (.dup, 1) := dk_89 (dk_at dksX4_init_0 15 rfl rfl)
theorem dX4_init_16 : decode cX4_init 16 = .ok (.invokespecial 17, 3) := dk_183 0 17 (dk_at dksX4_init_0 16 rfl rfl)
theorem dX4_init_19 : decode cX4_init 19 = .ok (.putfield 18, 3) := dk_181 0 18 (dk_at dksX4_init_0 19 rfl rfl)
theorem dX4_init_22 : decode cX4_init 22 = .ok (.aload_n 0, 1) := dk_42 (dk_at dksX4_init_0 22 rfl rfl)
theorem dX4_init_23 : decode cX4_init 23 = .ok (.new 15, 3) := dk_187 0 15 (dk_at dksX4_init_1 0 rfl rfl)
theorem dX4_init_26 : decode cX4_init 26 = .ok (.dup, 1) := dk_89 (dk_at dksX4_init_1 3 rfl rfl)
theorem dX4_init_27 : decode cX4_init 27 = .ok (.invokespecial 17, 3) := dk_183 0 17 (dk_at dksX4_init_1 4 rfl rfl)
theorem dX4_init_30 : decode cX4_init 30 = .ok (.putfield 22, 3) := dk_181 0 22 (dk_at dksX4_init_1 7 rfl rfl)
theorem dX4_init_33 : decode cX4_init 33 = .ok (.aload_n 0, 1) := dk_42 (dk_at dksX4_init_1 10 rfl rfl)
theorem dX4_init_34 : decode cX4_init 34 = .ok (.bipush 40, 2) := dk_16 40 (dk_at dksX4_init_1 11 rfl rfl)
theorem dX4_init_36 : decode cX4_init 36 = .ok (.newarray .int, 2) := dk_188_10 (dk_at dksX4_init_1 13 rfl rfl)
theorem dX4_init_38 : decode cX4_init 38 = .ok (.putfield 25, 3) := dk_181 0 25 (dk_at dksX4_init_1 15 rfl rfl)
theorem dX4_init_41 : decode cX4_init 41 = .ok (.aload_n 0, 1) := dk_42 (dk_at dksX4_init_1 18 rfl rfl)
theorem dX4_init_42 : decode cX4_init 42 = .ok (.bipush 40, 2) := dk_16 40 (dk_at dksX4_init_1 19 rfl rfl)
theorem dX4_init_44 : decode cX4_init 44 = .ok (.newarray .int, 2) := dk_188_10 (dk_at dksX4_init_1 21 rfl rfl)
theorem dX4_init_46 : decode cX4_init 46 = .ok (.putfield 28, 3) := dk_181 0 28 (dk_at dksX4_init_2 0 rfl rfl)
theorem dX4_init_49 : decode cX4_init 49 = .ok (.aload_n 0, 1) := dk_42 (dk_at dksX4_init_2 3 rfl rfl)
theorem dX4_init_50 : decode cX4_init 50 = .ok (.bipush 40, 2) := dk_16 40 (dk_at dksX4_init_2 4 rfl rfl)
theorem dX4_init_52 : decode cX4_init 52 = .ok (.newarray .int, 2) := dk_188_10 (dk_at dksX4_init_2 6 rfl rfl)
theorem dX4_init_54 : decode cX4_init 54 = .ok (.putfield 31, 3) := dk_181 0 31 (dk_at dksX4_init_2 8 rfl rfl)
theorem dX4_init_57 : decode cX4_init 57 = .ok (.aload_n 0, 1) := dk_42 (dk_at dksX4_init_2 11 rfl rfl)
theorem dX4_init_58 : decode cX4_init 58 = .ok (.bipush 40, 2) := dk_16 40 (dk_at dksX4_init_2 12 rfl rfl)
theorem dX4_init_60 : decode cX4_init 60 = .ok (.newarray .int, 2) := dk_188_10 (dk_at dksX4_init_2 14 rfl rfl)
theorem dX4_init_62 : decode cX4_init 62 = .ok (.putfield 34, 3) := dk_181 0 34 (dk_at dksX4_init_2 16 rfl rfl)
theorem dX4_init_65 : decode cX4_init 65 = .ok (.aload_n 0, 1) := dk_42 (dk_at dksX4_init_2 19 rfl rfl)
theorem dX4_init_66 : decode cX4_init 66 = .ok (.bipush 40, 2) := dk_16 40 (dk_at dksX4_init_2 20 rfl rfl)
theorem dX4_init_68 : decode cX4_init 68 = .ok (.newarray .boolean, 2) := dk_188_4 (dk_at dksX4_init_2 22 rfl rfl)
theorem dX4_init_70 : decode cX4_init 70 = .ok (.putfield 37, 3) := dk_181 0 37 (dk_at dksX4_init_3 0 rfl rfl)
theorem dX4_init_73 : decode cX4_init 73 = .ok (.aload_n 0, 1) := dk_42 (dk_at dksX4_init_3 3 rfl rfl)
theorem dX4_init_74 : decode cX4_init 74 = .ok (.bipush 6, 2) := dk_16 6 (dk_at dksX4_init_3 4 rfl rfl)
theorem dX4_init_76 : decode cX4_init 76 = .ok (.anewarray 41, 3) := dk_189 0 41 (dk_at dksX4_init_3 6 rfl rfl)
theorem dX4_init_79 : decode cX4_init 79 = .ok (.putfield 43, 3) := dk_181 0 43 (dk_at dksX4_init_3 9 rfl rfl)
theorem dX4_init_82 : decode cX4_init 82 = .ok (.aload_n 0, 1) := dk_42 (dk_at dksX4_init_3 12 rfl rfl)
theorem dX4_init_83 : decode cX4_init 83 = .ok (.bipush 41, 2) := dk_16 41 (dk_at dksX4_init_3 13 rfl rfl)
theorem dX4_init_85 : decode cX4_init 85 = .ok (.newarray .boolean, 2) := dk_188_4 (dk_at dksX4_init_3 15 rfl rfl)
theorem dX4_init_87 : decode cX4_init 87 = .ok (.putfield 47, 3) := dk_181 0 47 (dk_at dksX4_init_3 17 rfl rfl)
theorem dX4_init_90 : decode cX4_init 90 = .ok (.iconst 0, 1) := dk_3 (dk_at dksX4_init_3 20 rfl rfl)
theorem dX4_init_91 : decode cX4_init 91 = .ok (.istore_n 1, 1) := dk_60 (dk_at dksX4_init_3 21 rfl rfl)
theorem dX4_init_92 : decode cX4_init 92 = .ok (.iload_n 1, 1) := dk_27 (dk_at dksX4_init_3 22 rfl rfl)
theorem dX4_init_93 : decode cX4_init 93 = .ok (.bipush 6, 2) := dk_16 6 (dk_at dksX4_init_4 0 rfl rfl)
theorem dX4_init_95 : decode cX4_init 95 = .ok (.if_icmp .ge 22, 3) := dk_162 0 22 (dk_at dksX4_init_4 2 rfl rfl)
theorem dX4_init_98 : decode cX4_init 98 = .ok (.aload_n 0, 1) := dk_42 (dk_at dksX4_init_4 5 rfl rfl)
theorem dX4_init_99 : decode cX4_init 99 = .ok (.getfield 43, 3) := dk_180 0 43 (dk_at dksX4_init_4 6 rfl rfl)
theorem dX4_init_102 : decode cX4_init 102 = .ok (.iload_n 1, 1) := dk_27 (dk_at dksX4_init_4 9 rfl rfl)
theorem dX4_init_103 : decode cX4_init 103 = .ok (.new 41, 3) := dk_187 0 41 (dk_at dksX4_init_4 10 rfl rfl)
theorem dX4_init_106 : decode cX4_init 106 = .ok (.dup, 1) := dk_89 (dk_at dksX4_init_4 13 rfl rfl)
theorem dX4_init_107 : decode cX4_init 107 = .ok (.invokespecial 50, 3) := dk_183 0 50 (dk_at dksX4_init_4 14 rfl rfl)
theorem dX4_init_110 : decode cX4_init 110 = .ok (.aastore, 1) := dk_83 (dk_at dksX4_init_4 17 rfl rfl)
theorem dX4_init_111 : decode cX4_init 111 = .ok (.iinc 1 1, 3) := dk_132 1 1 (dk_at dksX4_init_4 18 rfl rfl)
theorem dX4_init_114 : decode cX4_init 114 = .ok (.goto (-22), 3) := dk_167 255 234 (dk_at dksX4_init_4 21 rfl rfl)
theorem dX4_init_117 : decode cX4_init 117 = .ok (.return_, 1) := dk_177 (dk_at dksX4_init_5 0 rfl rfl)
abbrev cX4_begin : ByteArray := prog_11_method_2_code
def yX4_begin : MethodName := ⟨RX4, "begin", "()V"⟩
def dkwX4_begin_2 : List UInt8 := [177]
abbrev dktX4_begin_2 : List UInt8 := dkwX4_begin_2 ++ []
def dkwX4_begin_1 : List UInt8 := [181, 0, 65, 42, 180, 0, 18, 3, 182, 0, 68, 42, 180, 0, 22, 3, 182, 0, 68, 42, 3, 181, 0, 72]
abbrev dktX4_begin_1 : List UInt8 := dkwX4_begin_1 ++ dktX4_begin_2
def dkwX4_begin_0 : List UInt8 := [42, 3, 181, 0, 51, 42, 3, 181, 0, 55, 42, 3, 181, 0, 58, 42, 4, 181, 0, 62, 42, 3]
abbrev dktX4_begin_0 : List UInt8 := dkwX4_begin_0 ++ dktX4_begin_1
theorem dksX4_begin_0 : cX4_begin.data.toList.drop 0 = dktX4_begin_0 := by decide +kernel
theorem dksX4_begin_1 : cX4_begin.data.toList.drop 22 = dktX4_begin_1 := dk_seg dksX4_begin_0 22 rfl rfl
theorem dksX4_begin_2 : cX4_begin.data.toList.drop 46 = dktX4_begin_2 := dk_seg dksX4_begin_1 24 rfl rfl
theorem dX4_begin_0 : decode cX4_begin 0 = .ok (.aload_n 0, 1) := dk_42 (dk_at dksX4_begin_0 0 rfl rfl)
theorem dX4_begin_1 : decode cX4_begin 1 = .ok (.iconst 0, 1) := dk_3 (dk_at dksX4_begin_0 1 rfl rfl)
theorem dX4_begin_2 : decode cX4_begin 2 = .ok (.putfield 51, 3) := dk_181 0 51 (dk_at dksX4_begin_0 2 rfl rfl)
theorem dX4_begin_5 : decode cX4_begin 5 = .ok (.aload_n 0, 1) := dk_42 (dk_at dksX4_begin_0 5 rfl rfl)
theorem dX4_begin_6 : decode cX4_begin 6 = .ok (.iconst 0, 1) := dk_3 (dk_at dksX4_begin_0 6 rfl rfl)
theorem dX4_begin_7 : decode cX4_begin 7 = .ok (.putfield 55, 3) := dk_181 0 55 (dk_at dksX4_begin_0 7 rfl rfl)
theorem dX4_begin_10 : decode cX4_begin 10 = .ok (.aload_n 0, 1) := dk_42 (dk_at dksX4_begin_0 10 rfl rfl)
theorem dX4_begin_11 : decode cX4_begin 11 = .ok (.iconst 0, 1) := dk_3 (dk_at dksX4_begin_0 11 rfl rfl)
theorem dX4_begin_12 : decode cX4_begin 12 = .ok (.putfield 58, 3) := dk_181 0 58 (dk_at dksX4_begin_0 12 rfl rfl)
theorem dX4_begin_15 : decode cX4_begin 15 = .ok (.aload_n 0, 1) := dk_42 (dk_at dksX4_begin_0 15 rfl rfl)
theorem dX4_begin_16 : decode cX4_begin 16 = .ok (.iconst 1, 1) := dk_4 (dk_at dksX4_begin_0 16 rfl rfl)
theorem dX4_begin_17 : decode cX4_begin 17 = .ok (.putfield 62, 3) := dk_181 0 62 (dk_at dksX4_begin_0 17 rfl rfl)
theorem dX4_begin_20 : decode cX4_begin 20 = .ok (.aload_n 0, 1) := dk_42 (dk_at dksX4_begin_0 20 rfl rfl)
theorem dX4_begin_21 : decode cX4_begin 21 = .ok (.iconst 0, 1) := dk_3 (dk_at dksX4_begin_0 21 rfl rfl)
theorem dX4_begin_22 : decode cX4_begin 22 = .ok (.putfield 65, 3) := dk_181 0 65 (dk_at dksX4_begin_1 0 rfl rfl)
theorem dX4_begin_25 : decode cX4_begin 25 = .ok (.aload_n 0, 1) := dk_42 (dk_at dksX4_begin_1 3 rfl rfl)
theorem dX4_begin_26 : decode cX4_begin 26 = .ok (.getfield 18, 3) := dk_180 0 18 (dk_at dksX4_begin_1 4 rfl rfl)
theorem dX4_begin_29 : decode cX4_begin 29 = .ok (.iconst 0, 1) := dk_3 (dk_at dksX4_begin_1 7 rfl rfl)
theorem dX4_begin_30 : decode cX4_begin 30 = .ok (.invokevirtual 68, 3) := dk_182 0 68 (dk_at dksX4_begin_1 8 rfl rfl)
theorem dX4_begin_33 : decode cX4_begin 33 = .ok (.aload_n 0, 1) := dk_42 (dk_at dksX4_begin_1 11 rfl rfl)
theorem dX4_begin_34 : decode cX4_begin 34 = .ok (.getfield 22, 3) := dk_180 0 22 (dk_at dksX4_begin_1 12 rfl rfl)
theorem dX4_begin_37 : decode cX4_begin 37 = .ok (.iconst 0, 1) := dk_3 (dk_at dksX4_begin_1 15 rfl rfl)
theorem dX4_begin_38 : decode cX4_begin 38 = .ok (.invokevirtual 68, 3) := dk_182 0 68 (dk_at dksX4_begin_1 16 rfl rfl)
theorem dX4_begin_41 : decode cX4_begin 41 = .ok (.aload_n 0, 1) := dk_42 (dk_at dksX4_begin_1 19 rfl rfl)
theorem dX4_begin_42 : decode cX4_begin 42 = .ok (.iconst 0, 1) := dk_3 (dk_at dksX4_begin_1 20 rfl rfl)
theorem dX4_begin_43 : decode cX4_begin 43 = .ok (.putfield 72, 3) := dk_181 0 72 (dk_at dksX4_begin_1 21 rfl rfl)
theorem dX4_begin_46 : decode cX4_begin 46 = .ok (.return_, 1) := dk_177 (dk_at dksX4_begin_2 0 rfl rfl)
abbrev cX4_may : ByteArray := prog_11_method_4_code
def yX4_may : MethodName := ⟨RX4, "may", "(LElectionHouse$Clause;LElectionHouse$Person;LElectionHouse$Land;)Z"⟩
def dkwX4_may_8 : List UInt8 := [3, 51, 153, 0, 7, 4, 167, 0, 4, 3, 172]
abbrev dktX4_may_8 : List UInt8 := dkwX4_may_8 ++ []
def dkwX4_may_7 : List UInt8 := [21, 4, 182, 0, 105, 84, 132, 5, 1, 132, 6, 1, 167, 255, 112, 21, 5, 153, 0, 12, 42, 180, 0, 47]
abbrev dktX4_may_7 : List UInt8 := dkwX4_may_7 ++ dktX4_may_8
def dkwX4_may_6 : List UInt8 := [42, 180, 0, 47, 21, 5, 51, 128, 84, 167, 0, 23, 42, 180, 0, 47, 21, 5, 42, 21, 7, 44, 45]
abbrev dktX4_may_6 : List UInt8 := dkwX4_may_6 ++ dktX4_may_7
def dkwX4_may_5 : List UInt8 := [167, 0, 56, 21, 7, 17, 15, 161, 160, 0, 28, 132, 5, 255, 42, 180, 0, 47, 21, 5, 4, 100, 92, 51]
abbrev dktX4_may_5 : List UInt8 := dkwX4_may_5 ++ dktX4_may_6
def dkwX4_may_4 : List UInt8 := [132, 5, 255, 42, 180, 0, 47, 21, 5, 4, 100, 92, 51, 42, 180, 0, 47, 21, 5, 51, 126, 84]
abbrev dktX4_may_4 : List UInt8 := dkwX4_may_4 ++ dktX4_may_5
def dkwX4_may_3 : List UInt8 := [4, 100, 51, 154, 0, 7, 4, 167, 0, 4, 3, 84, 167, 0, 89, 21, 7, 17, 15, 160, 160, 0, 28]
abbrev dktX4_may_3 : List UInt8 := dkwX4_may_3 ++ dktX4_may_4
def dkwX4_may_2 : List UInt8 := [54, 7, 21, 7, 17, 15, 162, 160, 0, 32, 42, 180, 0, 47, 21, 5, 4, 100, 42, 180, 0, 47, 21, 5]
abbrev dktX4_may_2 : List UInt8 := dkwX4_may_2 ++ dktX4_may_3
def dkwX4_may_1 : List UInt8 := [54, 4, 3, 54, 5, 3, 54, 6, 21, 6, 43, 180, 0, 99, 162, 0, 141, 43, 180, 0, 102, 21, 6, 46]
abbrev dktX4_may_1 : List UInt8 := dkwX4_may_1 ++ dktX4_may_2
def dkwX4_may_0 : List UInt8 := [43, 42, 180, 0, 18, 166, 0, 12, 42, 180, 0, 9, 4, 46, 167, 0, 9, 42, 180, 0, 9, 3, 46]
abbrev dktX4_may_0 : List UInt8 := dkwX4_may_0 ++ dktX4_may_1
theorem dksX4_may_0 : cX4_may.data.toList.drop 0 = dktX4_may_0 := by decide +kernel
theorem dksX4_may_1 : cX4_may.data.toList.drop 23 = dktX4_may_1 := dk_seg dksX4_may_0 23 rfl rfl
theorem dksX4_may_2 : cX4_may.data.toList.drop 47 = dktX4_may_2 := dk_seg dksX4_may_1 24 rfl rfl
theorem dksX4_may_3 : cX4_may.data.toList.drop 71 = dktX4_may_3 := dk_seg dksX4_may_2 24 rfl rfl
theorem dksX4_may_4 : cX4_may.data.toList.drop 94 = dktX4_may_4 := dk_seg dksX4_may_3 23 rfl rfl
theorem dksX4_may_5 : cX4_may.data.toList.drop 116 = dktX4_may_5 := dk_seg dksX4_may_4 22 rfl rfl
theorem dksX4_may_6 : cX4_may.data.toList.drop 140 = dktX4_may_6 := dk_seg dksX4_may_5 24 rfl rfl
theorem dksX4_may_7 : cX4_may.data.toList.drop 163 = dktX4_may_7 := dk_seg dksX4_may_6 23 rfl rfl
theorem dksX4_may_8 : cX4_may.data.toList.drop 187 = dktX4_may_8 := dk_seg dksX4_may_7 24 rfl rfl
theorem dX4_may_0 : decode cX4_may 0 = .ok (.aload_n 1, 1) := dk_43 (dk_at dksX4_may_0 0 rfl rfl)
theorem dX4_may_1 : decode cX4_may 1 = .ok (.aload_n 0, 1) := dk_42 (dk_at dksX4_may_0 1 rfl rfl)
theorem dX4_may_2 : decode cX4_may 2 = .ok (.getfield 18, 3) := dk_180 0 18 (dk_at dksX4_may_0 2 rfl rfl)
theorem dX4_may_5 : decode cX4_may 5 = .ok (.if_acmp .ne 12, 3) := dk_166 0 12 (dk_at dksX4_may_0 5 rfl rfl)
theorem dX4_may_8 : decode cX4_may 8 = .ok (.aload_n 0, 1) := dk_42 (dk_at dksX4_may_0 8 rfl rfl)
theorem dX4_may_9 : decode cX4_may 9 = .ok (.getfield 9, 3) := dk_180 0 9 (dk_at dksX4_may_0 9 rfl rfl)
theorem dX4_may_12 : decode cX4_may 12 = .ok (.iconst 1, 1) := dk_4 (dk_at dksX4_may_0 12 rfl rfl)
theorem dX4_may_13 : decode cX4_may 13 = .ok (.iaload, 1) := dk_46 (dk_at dksX4_may_0 13 rfl rfl)
theorem dX4_may_14 : decode cX4_may 14 = .ok (.goto 9, 3) := dk_167 0 9 (dk_at dksX4_may_0 14 rfl rfl)
theorem dX4_may_17 : decode cX4_may 17 = .ok (.aload_n 0, 1) := dk_42 (dk_at dksX4_may_0 17 rfl rfl)
theorem dX4_may_18 : decode cX4_may 18 = .ok (.getfield 9, 3) := dk_180 0 9 (dk_at dksX4_may_0 18 rfl rfl)
theorem dX4_may_21 : decode cX4_may 21 = .ok (.iconst 0, 1) := dk_3 (dk_at dksX4_may_0 21 rfl rfl)
theorem dX4_may_22 : decode cX4_may 22 = .ok (.iaload, 1) := dk_46 (dk_at dksX4_may_0 22 rfl rfl)
theorem dX4_may_23 : decode cX4_may 23 = .ok (.istore 4, 2) := dk_54 4 (dk_at dksX4_may_1 0 rfl rfl)
theorem dX4_may_25 : decode cX4_may 25 = .ok (.iconst 0, 1) := dk_3 (dk_at dksX4_may_1 2 rfl rfl)
theorem dX4_may_26 : decode cX4_may 26 = .ok (.istore 5, 2) := dk_54 5 (dk_at dksX4_may_1 3 rfl rfl)
theorem dX4_may_28 : decode cX4_may 28 = .ok (.iconst 0, 1) := dk_3 (dk_at dksX4_may_1 5 rfl rfl)
theorem dX4_may_29 : decode cX4_may 29 = .ok (.istore 6, 2) := dk_54 6 (dk_at dksX4_may_1 6 rfl rfl)
theorem dX4_may_31 : decode cX4_may 31 = .ok (.iload 6, 2) := dk_21 6 (dk_at dksX4_may_1 8 rfl rfl)
theorem dX4_may_33 : decode cX4_may 33 = .ok (.aload_n 1, 1) := dk_43 (dk_at dksX4_may_1 10 rfl rfl)
theorem dX4_may_34 : decode cX4_may 34 = .ok (.getfield 99, 3) := dk_180 0 99 (dk_at dksX4_may_1 11 rfl rfl)
theorem dX4_may_37 : decode cX4_may 37 = .ok (.if_icmp .ge 141, 3) := dk_162 0 141 (dk_at dksX4_may_1 14 rfl rfl)
theorem dX4_may_40 : decode cX4_may 40 = .ok (.aload_n 1, 1) := dk_43 (dk_at dksX4_may_1 17 rfl rfl)
theorem dX4_may_41 : decode cX4_may 41 = .ok (.getfield 102, 3) := dk_180 0 102 (dk_at dksX4_may_1 18 rfl rfl)
theorem dX4_may_44 : decode cX4_may 44 = .ok (.iload 6, 2) := dk_21 6 (dk_at dksX4_may_1 21 rfl rfl)
theorem dX4_may_46 : decode cX4_may 46 = .ok (.iaload, 1) := dk_46 (dk_at dksX4_may_1 23 rfl rfl)
theorem dX4_may_47 : decode cX4_may 47 = .ok (.istore 7, 2) := dk_54 7 (dk_at dksX4_may_2 0 rfl rfl)
theorem dX4_may_49 : decode cX4_may 49 = .ok (.iload 7, 2) := dk_21 7 (dk_at dksX4_may_2 2 rfl rfl)
theorem dX4_may_51 : decode cX4_may 51 = .ok (.sipush 4002, 3) := dk_17 15 162 (dk_at dksX4_may_2 4 rfl rfl)
theorem dX4_may_54 : decode cX4_may 54 = .ok (.if_icmp .ne 32, 3) := dk_160 0 32 (dk_at dksX4_may_2 7 rfl rfl)
theorem dX4_may_57 : decode cX4_may 57 = .ok (.aload_n 0, 1) := dk_42 (dk_at dksX4_may_2 10 rfl rfl)
theorem dX4_may_58 : decode cX4_may 58 = .ok (.getfield 47, 3) := dk_180 0 47 (dk_at dksX4_may_2 11 rfl rfl)
theorem dX4_may_61 : decode cX4_may 61 = .ok (.iload 5, 2) := dk_21 5 (dk_at dksX4_may_2 14 rfl rfl)
theorem dX4_may_63 : decode cX4_may 63 = .ok (.iconst 1, 1) := dk_4 (dk_at dksX4_may_2 16 rfl rfl)
theorem dX4_may_64 : decode cX4_may 64 = .ok (.isub, 1) := dk_100 (dk_at dksX4_may_2 17 rfl rfl)
theorem dX4_may_65 : decode cX4_may 65 = .ok (.aload_n 0, 1) := dk_42 (dk_at dksX4_may_2 18 rfl rfl)
theorem dX4_may_66 : decode cX4_may 66 = .ok (.getfield 47, 3) := dk_180 0 47 (dk_at dksX4_may_2 19 rfl rfl)
theorem dX4_may_69 : decode cX4_may 69 = .ok (.iload 5, 2) := dk_21 5 (dk_at dksX4_may_2 22 rfl rfl)
theorem dX4_may_71 : decode cX4_may 71 = .ok (.iconst 1, 1) := dk_4 (dk_at dksX4_may_3 0 rfl rfl)
theorem dX4_may_72 : decode cX4_may 72 = .ok (.isub, 1) := dk_100 (dk_at dksX4_may_3 1 rfl rfl)
theorem dX4_may_73 : decode cX4_may 73 = .ok (.baload, 1) := dk_51 (dk_at dksX4_may_3 2 rfl rfl)
theorem dX4_may_74 : decode cX4_may 74 = .ok (.ifCond .ne 7, 3) := dk_154 0 7 (dk_at dksX4_may_3 3 rfl rfl)
theorem dX4_may_77 : decode cX4_may 77 = .ok (.iconst 1, 1) := dk_4 (dk_at dksX4_may_3 6 rfl rfl)
theorem dX4_may_78 : decode cX4_may 78 = .ok (.goto 4, 3) := dk_167 0 4 (dk_at dksX4_may_3 7 rfl rfl)
theorem dX4_may_81 : decode cX4_may 81 = .ok (.iconst 0, 1) := dk_3 (dk_at dksX4_may_3 10 rfl rfl)
theorem dX4_may_82 : decode cX4_may 82 = .ok (.bastore, 1) := dk_84 (dk_at dksX4_may_3 11 rfl rfl)
theorem dX4_may_83 : decode cX4_may 83 = .ok (.goto 89, 3) := dk_167 0 89 (dk_at dksX4_may_3 12 rfl rfl)
theorem dX4_may_86 : decode cX4_may 86 = .ok (.iload 7, 2) := dk_21 7 (dk_at dksX4_may_3 15 rfl rfl)
theorem dX4_may_88 : decode cX4_may 88 = .ok (.sipush 4000, 3) := dk_17 15 160 (dk_at dksX4_may_3 17 rfl rfl)
theorem dX4_may_91 : decode cX4_may 91 = .ok (.if_icmp .ne 28, 3) := dk_160 0 28 (dk_at dksX4_may_3 20 rfl rfl)
theorem dX4_may_94 : decode cX4_may 94 = .ok (.iinc 5 (-1), 3) := dk_132 5 255 (dk_at dksX4_may_4 0 rfl rfl)
theorem dX4_may_97 : decode cX4_may 97 = .ok (.aload_n 0, 1) := dk_42 (dk_at dksX4_may_4 3 rfl rfl)
theorem dX4_may_98 : decode cX4_may 98 = .ok (.getfield 47, 3) := dk_180 0 47 (dk_at dksX4_may_4 4 rfl rfl)
theorem dX4_may_101 : decode cX4_may 101 = .ok (.iload 5, 2) := dk_21 5 (dk_at dksX4_may_4 7 rfl rfl)
theorem dX4_may_103 : decode cX4_may 103 = .ok (.iconst 1, 1) := dk_4 (dk_at dksX4_may_4 9 rfl rfl)
theorem dX4_may_104 : decode cX4_may 104 = .ok (.isub, 1) := dk_100 (dk_at dksX4_may_4 10 rfl rfl)
theorem dX4_may_105 : decode cX4_may 105 = .ok (.dup2, 1) := dk_92 (dk_at dksX4_may_4 11 rfl rfl)
theorem dX4_may_106 : decode cX4_may 106 = .ok (.baload, 1) := dk_51 (dk_at dksX4_may_4 12 rfl rfl)
theorem dX4_may_107 : decode cX4_may 107 = .ok (.aload_n 0, 1) := dk_42 (dk_at dksX4_may_4 13 rfl rfl)
theorem dX4_may_108 : decode cX4_may 108 = .ok (.getfield 47, 3) := dk_180 0 47 (dk_at dksX4_may_4 14 rfl rfl)
theorem dX4_may_111 : decode cX4_may 111 = .ok (.iload 5, 2) := dk_21 5 (dk_at dksX4_may_4 17 rfl rfl)
theorem dX4_may_113 : decode cX4_may 113 = .ok (.baload, 1) := dk_51 (dk_at dksX4_may_4 19 rfl rfl)
theorem dX4_may_114 : decode cX4_may 114 = .ok (.iand, 1) := dk_126 (dk_at dksX4_may_4 20 rfl rfl)
theorem dX4_may_115 : decode cX4_may 115 = .ok (.bastore, 1) := dk_84 (dk_at dksX4_may_4 21 rfl rfl)
theorem dX4_may_116 : decode cX4_may 116 = .ok (.goto 56, 3) := dk_167 0 56 (dk_at dksX4_may_5 0 rfl rfl)
theorem dX4_may_119 : decode cX4_may 119 = .ok (.iload 7, 2) := dk_21 7 (dk_at dksX4_may_5 3 rfl rfl)
theorem dX4_may_121 : decode cX4_may 121 = .ok (.sipush 4001, 3) := dk_17 15 161 (dk_at dksX4_may_5 5 rfl rfl)
theorem dX4_may_124 : decode cX4_may 124 = .ok (.if_icmp .ne 28, 3) := dk_160 0 28 (dk_at dksX4_may_5 8 rfl rfl)
theorem dX4_may_127 : decode cX4_may 127 = .ok (.iinc 5 (-1), 3) := dk_132 5 255 (dk_at dksX4_may_5 11 rfl rfl)
theorem dX4_may_130 : decode cX4_may 130 = .ok (.aload_n 0, 1) := dk_42 (dk_at dksX4_may_5 14 rfl rfl)
theorem dX4_may_131 : decode cX4_may 131 = .ok (.getfield 47, 3) := dk_180 0 47 (dk_at dksX4_may_5 15 rfl rfl)
theorem dX4_may_134 : decode cX4_may 134 = .ok (.iload 5, 2) := dk_21 5 (dk_at dksX4_may_5 18 rfl rfl)
theorem dX4_may_136 : decode cX4_may 136 = .ok (.iconst 1, 1) := dk_4 (dk_at dksX4_may_5 20 rfl rfl)
theorem dX4_may_137 : decode cX4_may 137 = .ok (.isub, 1) := dk_100 (dk_at dksX4_may_5 21 rfl rfl)
theorem dX4_may_138 : decode cX4_may 138 = .ok (.dup2, 1) := dk_92 (dk_at dksX4_may_5 22 rfl rfl)
theorem dX4_may_139 : decode cX4_may 139 = .ok (.baload, 1) := dk_51 (dk_at dksX4_may_5 23 rfl rfl)
theorem dX4_may_140 : decode cX4_may 140 = .ok (.aload_n 0, 1) := dk_42 (dk_at dksX4_may_6 0 rfl rfl)
theorem dX4_may_141 : decode cX4_may 141 = .ok (.getfield 47, 3) := dk_180 0 47 (dk_at dksX4_may_6 1 rfl rfl)
theorem dX4_may_144 : decode cX4_may 144 = .ok (.iload 5, 2) := dk_21 5 (dk_at dksX4_may_6 4 rfl rfl)
theorem dX4_may_146 : decode cX4_may 146 = .ok (.baload, 1) := dk_51 (dk_at dksX4_may_6 6 rfl rfl)
theorem dX4_may_147 : decode cX4_may 147 = .ok (.ior, 1) := dk_128 (dk_at dksX4_may_6 7 rfl rfl)
theorem dX4_may_148 : decode cX4_may 148 = .ok (.bastore, 1) := dk_84 (dk_at dksX4_may_6 8 rfl rfl)
theorem dX4_may_149 : decode cX4_may 149 = .ok (.goto 23, 3) := dk_167 0 23 (dk_at dksX4_may_6 9 rfl rfl)
theorem dX4_may_152 : decode cX4_may 152 = .ok (.aload_n 0, 1) := dk_42 (dk_at dksX4_may_6 12 rfl rfl)
theorem dX4_may_153 : decode cX4_may 153 = .ok (.getfield 47, 3) := dk_180 0 47 (dk_at dksX4_may_6 13 rfl rfl)
theorem dX4_may_156 : decode cX4_may 156 = .ok (.iload 5, 2) := dk_21 5 (dk_at dksX4_may_6 16 rfl rfl)
theorem dX4_may_158 : decode cX4_may 158 = .ok (.aload_n 0, 1) := dk_42 (dk_at dksX4_may_6 18 rfl rfl)
theorem dX4_may_159 : decode cX4_may 159 = .ok (.iload 7, 2) := dk_21 7 (dk_at dksX4_may_6 19 rfl rfl)
theorem dX4_may_161 : decode cX4_may 161 = .ok (.aload_n 2, 1) := dk_44 (dk_at dksX4_may_6 21 rfl rfl)
theorem dX4_may_162 : decode cX4_may 162 = .ok (.aload_n 3, 1) := dk_45 (dk_at dksX4_may_6 22 rfl rfl)
theorem dX4_may_163 : decode cX4_may 163 = .ok (.iload 4, 2) := dk_21 4 (dk_at dksX4_may_7 0 rfl rfl)
theorem dX4_may_165 : decode cX4_may 165 = .ok (.invokevirtual 105, 3) := dk_182 0 105 (dk_at dksX4_may_7 2 rfl rfl)
theorem dX4_may_168 : decode cX4_may 168 = .ok (.bastore, 1) := dk_84 (dk_at dksX4_may_7 5 rfl rfl)
theorem dX4_may_169 : decode cX4_may 169 = .ok (.iinc 5 1, 3) := dk_132 5 1 (dk_at dksX4_may_7 6 rfl rfl)
theorem dX4_may_172 : decode cX4_may 172 = .ok (.iinc 6 1, 3) := dk_132 6 1 (dk_at dksX4_may_7 9 rfl rfl)
theorem dX4_may_175 : decode cX4_may 175 = .ok (.goto (-144), 3) := dk_167 255 112 (dk_at dksX4_may_7 12 rfl rfl)
theorem dX4_may_178 : decode cX4_may 178 = .ok (.iload 5, 2) := dk_21 5 (dk_at dksX4_may_7 15 rfl rfl)
theorem dX4_may_180 : decode cX4_may 180 = .ok (.ifCond .eq 12, 3) := dk_153 0 12 (dk_at dksX4_may_7 17 rfl rfl)
theorem dX4_may_183 : decode cX4_may 183 = .ok (.aload_n 0, 1) := dk_42 (dk_at dksX4_may_7 20 rfl rfl)
theorem dX4_may_184 : decode cX4_may 184 = .ok (.getfield 47, 3) := dk_180 0 47 (dk_at dksX4_may_7 21 rfl rfl)
theorem dX4_may_187 : decode cX4_may 187 = .ok (.iconst 0, 1) := dk_3 (dk_at dksX4_may_8 0 rfl rfl)
theorem dX4_may_188 : decode cX4_may 188 = .ok (.baload, 1) := dk_51 (dk_at dksX4_may_8 1 rfl rfl)
theorem dX4_may_189 : decode cX4_may 189 = .ok (.ifCond .eq 7, 3) := dk_153 0 7 (dk_at dksX4_may_8 2 rfl rfl)
theorem dX4_may_192 : decode cX4_may 192 = .ok (.iconst 1, 1) := dk_4 (dk_at dksX4_may_8 5 rfl rfl)
theorem dX4_may_193 : decode cX4_may 193 = .ok (.goto 4, 3) := dk_167 0 4 (dk_at dksX4_may_8 6 rfl rfl)
theorem dX4_may_196 : decode cX4_may 196 = .ok (.iconst 0, 1) := dk_3 (dk_at dksX4_may_8 9 rfl rfl)
theorem dX4_may_197 : decode cX4_may 197 = .ok (.ireturn, 1) := dk_172 (dk_at dksX4_may_8 10 rfl rfl)
abbrev cX4_test : ByteArray := prog_11_method_3_code
def yX4_test : MethodName := ⟨RX4, "test", "(ILElectionHouse$Person;LElectionHouse$Land;I)Z"⟩
def dkwX4_test_6 : List UInt8 := [160, 0, 7, 4, 167, 0, 4, 3, 172]
abbrev dktX4_test_6 : List UInt8 := dkwX4_test_6 ++ []
def dkwX4_test_5 : List UInt8 := [182, 0, 85, 21, 5, 182, 0, 89, 172, 44, 42, 180, 0, 28, 27, 46, 21, 5, 182, 0, 95, 4]
abbrev dktX4_test_5 : List UInt8 := dkwX4_test_5 ++ dktX4_test_6
def dkwX4_test_4 : List UInt8 := [172, 44, 42, 180, 0, 28, 27, 46, 21, 5, 182, 0, 81, 172, 45, 42, 180, 0, 28, 27, 46, 44, 21, 5]
abbrev dktX4_test_4 : List UInt8 := dkwX4_test_4 ++ dktX4_test_5
def dkwX4_test_3 : List UInt8 := [44, 21, 5, 42, 180, 0, 51, 182, 0, 75, 42, 180, 0, 28, 27, 46, 161, 0, 7, 4, 167, 0, 4, 3]
abbrev dktX4_test_3 : List UInt8 := dkwX4_test_3 ++ dktX4_test_4
def dkwX4_test_2 : List UInt8 := [171, 0, 0, 0, 0, 0, 92, 0, 0, 0, 3, 0, 0, 0, 9, 0, 0, 0, 73, 0, 0, 0, 17, 0, 0, 0, 35, 0, 0, 0, 18, 0, 0, 0, 60]
abbrev dktX4_test_2 : List UInt8 := dkwX4_test_2 ++ dktX4_test_3
def dkwX4_test_1 : List UInt8 := [180, 0, 25, 27, 46]
abbrev dktX4_test_1 : List UInt8 := dkwX4_test_1 ++ dktX4_test_2
def dkwX4_test_0 : List UInt8 := [42, 180, 0, 31, 27, 46, 2, 160, 0, 8, 21, 4, 167, 0, 9, 42, 180, 0, 31, 27, 46, 54, 5, 42]
abbrev dktX4_test_0 : List UInt8 := dkwX4_test_0 ++ dktX4_test_1
theorem dksX4_test_0 : cX4_test.data.toList.drop 0 = dktX4_test_0 := by decide +kernel
theorem dksX4_test_1 : cX4_test.data.toList.drop 24 = dktX4_test_1 := dk_seg dksX4_test_0 24 rfl rfl
theorem dksX4_test_2 : cX4_test.data.toList.drop 29 = dktX4_test_2 := dk_seg dksX4_test_1 5 rfl rfl
theorem dksX4_test_3 : cX4_test.data.toList.drop 64 = dktX4_test_3 := dk_seg dksX4_test_2 35 rfl rfl
theorem dksX4_test_4 : cX4_test.data.toList.drop 88 = dktX4_test_4 := dk_seg dksX4_test_3 24 rfl rfl
theorem dksX4_test_5 : cX4_test.data.toList.drop 112 = dktX4_test_5 := dk_seg dksX4_test_4 24 rfl rfl
theorem dksX4_test_6 : cX4_test.data.toList.drop 134 = dktX4_test_6 := dk_seg dksX4_test_5 22 rfl rfl
theorem dX4_test_0 : decode cX4_test 0 = .ok (.aload_n 0, 1) := dk_42 (dk_at dksX4_test_0 0 rfl rfl)
theorem dX4_test_1 : decode cX4_test 1 = .ok (.getfield 31, 3) := dk_180 0 31 (dk_at dksX4_test_0 1 rfl rfl)
theorem dX4_test_4 : decode cX4_test 4 = .ok (.iload_n 1, 1) := dk_27 (dk_at dksX4_test_0 4 rfl rfl)
theorem dX4_test_5 : decode cX4_test 5 = .ok (.iaload, 1) := dk_46 (dk_at dksX4_test_0 5 rfl rfl)
theorem dX4_test_6 : decode cX4_test 6 = .ok (.iconst (-1), 1) := dk_2 (dk_at dksX4_test_0 6 rfl rfl)
theorem dX4_test_7 : decode cX4_test 7 = .ok (.if_icmp .ne 8, 3) := dk_160 0 8 (dk_at dksX4_test_0 7 rfl rfl)
theorem dX4_test_10 : decode cX4_test 10 = .ok (.iload 4, 2) := dk_21 4 (dk_at dksX4_test_0 10 rfl rfl)
theorem dX4_test_12 : decode cX4_test 12 = .ok (.goto 9, 3) := dk_167 0 9 (dk_at dksX4_test_0 12 rfl rfl)
theorem dX4_test_15 : decode cX4_test 15 = .ok (.aload_n 0, 1) := dk_42 (dk_at dksX4_test_0 15 rfl rfl)
theorem dX4_test_16 : decode cX4_test 16 = .ok (.getfield 31, 3) := dk_180 0 31 (dk_at dksX4_test_0 16 rfl rfl)
theorem dX4_test_19 : decode cX4_test 19 = .ok (.iload_n 1, 1) := dk_27 (dk_at dksX4_test_0 19 rfl rfl)
theorem dX4_test_20 : decode cX4_test 20 = .ok (.iaload, 1) := dk_46 (dk_at dksX4_test_0 20 rfl rfl)
theorem dX4_test_21 : decode cX4_test 21 = .ok (.istore 5, 2) := dk_54 5 (dk_at dksX4_test_0 21 rfl rfl)
theorem dX4_test_23 : decode cX4_test 23 = .ok (.aload_n 0, 1) := dk_42 (dk_at dksX4_test_0 23 rfl rfl)
theorem dX4_test_24 : decode cX4_test 24 = .ok (.getfield 25, 3) := dk_180 0 25 (dk_at dksX4_test_1 0 rfl rfl)
theorem dX4_test_27 : decode cX4_test 27 = .ok (.iload_n 1, 1) := dk_27 (dk_at dksX4_test_1 3 rfl rfl)
theorem dX4_test_28 : decode cX4_test 28 = .ok (.iaload, 1) := dk_46 (dk_at dksX4_test_1 4 rfl rfl)
theorem dX4_test_29 : decode cX4_test 29 = .ok (.lookupswitch 92 #[(9, 73), (17, 35), (18, 60)], 35) := by decide +kernel
theorem dX4_test_64 : decode cX4_test 64 = .ok (.aload_n 2, 1) := dk_44 (dk_at dksX4_test_3 0 rfl rfl)
theorem dX4_test_65 : decode cX4_test 65 = .ok (.iload 5, 2) := dk_21 5 (dk_at dksX4_test_3 1 rfl rfl)
theorem dX4_test_67 : decode cX4_test 67 = .ok (.aload_n 0, 1) := dk_42 (dk_at dksX4_test_3 3 rfl rfl)
theorem dX4_test_68 : decode cX4_test 68 = .ok (.getfield 51, 3) := dk_180 0 51 (dk_at dksX4_test_3 4 rfl rfl)
theorem dX4_test_71 : decode cX4_test 71 = .ok (.invokevirtual 75, 3) := dk_182 0 75 (dk_at dksX4_test_3 7 rfl rfl)
theorem dX4_test_74 : decode cX4_test 74 = .ok (.aload_n 0, 1) := dk_42 (dk_at dksX4_test_3 10 rfl rfl)
theorem dX4_test_75 : decode cX4_test 75 = .ok (.getfield 28, 3) := dk_180 0 28 (dk_at dksX4_test_3 11 rfl rfl)
theorem dX4_test_78 : decode cX4_test 78 = .ok (.iload_n 1, 1) := dk_27 (dk_at dksX4_test_3 14 rfl rfl)
theorem dX4_test_79 : decode cX4_test 79 = .ok (.iaload, 1) := dk_46 (dk_at dksX4_test_3 15 rfl rfl)
theorem dX4_test_80 : decode cX4_test 80 = .ok (.if_icmp .lt 7, 3) := dk_161 0 7 (dk_at dksX4_test_3 16 rfl rfl)
theorem dX4_test_83 : decode cX4_test 83 = .ok (.iconst 1, 1) := dk_4 (dk_at dksX4_test_3 19 rfl rfl)
theorem dX4_test_84 : decode cX4_test 84 = .ok (.goto 4, 3) := dk_167 0 4 (dk_at dksX4_test_3 20 rfl rfl)
theorem dX4_test_87 : decode cX4_test 87 = .ok (.iconst 0, 1) := dk_3 (dk_at dksX4_test_3 23 rfl rfl)
theorem dX4_test_88 : decode cX4_test 88 = .ok (.ireturn, 1) := dk_172 (dk_at dksX4_test_4 0 rfl rfl)
theorem dX4_test_89 : decode cX4_test 89 = .ok (.aload_n 2, 1) := dk_44 (dk_at dksX4_test_4 1 rfl rfl)
theorem dX4_test_90 : decode cX4_test 90 = .ok (.aload_n 0, 1) := dk_42 (dk_at dksX4_test_4 2 rfl rfl)
theorem dX4_test_91 : decode cX4_test 91 = .ok (.getfield 28, 3) := dk_180 0 28 (dk_at dksX4_test_4 3 rfl rfl)
theorem dX4_test_94 : decode cX4_test 94 = .ok (.iload_n 1, 1) := dk_27 (dk_at dksX4_test_4 6 rfl rfl)
theorem dX4_test_95 : decode cX4_test 95 = .ok (.iaload, 1) := dk_46 (dk_at dksX4_test_4 7 rfl rfl)
theorem dX4_test_96 : decode cX4_test 96 = .ok (.iload 5, 2) := dk_21 5 (dk_at dksX4_test_4 8 rfl rfl)
theorem dX4_test_98 : decode cX4_test 98 = .ok (.invokevirtual 81, 3) := dk_182 0 81 (dk_at dksX4_test_4 10 rfl rfl)
theorem dX4_test_101 : decode cX4_test 101 = .ok (.ireturn, 1) := dk_172 (dk_at dksX4_test_4 13 rfl rfl)
theorem dX4_test_102 : decode cX4_test 102 = .ok (.aload_n 3, 1) := dk_45 (dk_at dksX4_test_4 14 rfl rfl)
theorem dX4_test_103 : decode cX4_test 103 = .ok (.aload_n 0, 1) := dk_42 (dk_at dksX4_test_4 15 rfl rfl)
theorem dX4_test_104 : decode cX4_test 104 = .ok (.getfield 28, 3) := dk_180 0 28 (dk_at dksX4_test_4 16 rfl rfl)
theorem dX4_test_107 : decode cX4_test 107 = .ok (.iload_n 1, 1) := dk_27 (dk_at dksX4_test_4 19 rfl rfl)
theorem dX4_test_108 : decode cX4_test 108 = .ok (.iaload, 1) := dk_46 (dk_at dksX4_test_4 20 rfl rfl)
theorem dX4_test_109 : decode cX4_test 109 = .ok (.aload_n 2, 1) := dk_44 (dk_at dksX4_test_4 21 rfl rfl)
theorem dX4_test_110 : decode cX4_test 110 = .ok (.iload 5, 2) := dk_21 5 (dk_at dksX4_test_4 22 rfl rfl)
theorem dX4_test_112 : decode cX4_test 112 = .ok (.invokevirtual 85, 3) := dk_182 0 85 (dk_at dksX4_test_5 0 rfl rfl)
theorem dX4_test_115 : decode cX4_test 115 = .ok (.iload 5, 2) := dk_21 5 (dk_at dksX4_test_5 3 rfl rfl)
theorem dX4_test_117 : decode cX4_test 117 = .ok (.invokevirtual 89, 3) := dk_182 0 89 (dk_at dksX4_test_5 5 rfl rfl)
theorem dX4_test_120 : decode cX4_test 120 = .ok (.ireturn, 1) := dk_172 (dk_at dksX4_test_5 8 rfl rfl)
theorem dX4_test_121 : decode cX4_test 121 = .ok (.aload_n 2, 1) := dk_44 (dk_at dksX4_test_5 9 rfl rfl)
theorem dX4_test_122 : decode cX4_test 122 = .ok (.aload_n 0, 1) := dk_42 (dk_at dksX4_test_5 10 rfl rfl)
theorem dX4_test_123 : decode cX4_test 123 = .ok (.getfield 28, 3) := dk_180 0 28 (dk_at dksX4_test_5 11 rfl rfl)
theorem dX4_test_126 : decode cX4_test 126 = .ok (.iload_n 1, 1) := dk_27 (dk_at dksX4_test_5 14 rfl rfl)
theorem dX4_test_127 : decode cX4_test 127 = .ok (.iaload, 1) := dk_46 (dk_at dksX4_test_5 15 rfl rfl)
theorem dX4_test_128 : decode cX4_test 128 = .ok (.iload 5, 2) := dk_21 5 (dk_at dksX4_test_5 16 rfl rfl)
theorem dX4_test_130 : decode cX4_test 130 = .ok (.invokevirtual 95, 3) := dk_182 0 95 (dk_at dksX4_test_5 18 rfl rfl)
theorem dX4_test_133 : decode cX4_test 133 = .ok (.iconst 1, 1) := dk_4 (dk_at dksX4_test_5 21 rfl rfl)
theorem dX4_test_134 : decode cX4_test 134 = .ok (.if_icmp .ne 7, 3) := dk_160 0 7 (dk_at dksX4_test_6 0 rfl rfl)
theorem dX4_test_137 : decode cX4_test 137 = .ok (.iconst 1, 1) := dk_4 (dk_at dksX4_test_6 3 rfl rfl)
theorem dX4_test_138 : decode cX4_test 138 = .ok (.goto 4, 3) := dk_167 0 4 (dk_at dksX4_test_6 4 rfl rfl)
theorem dX4_test_141 : decode cX4_test 141 = .ok (.iconst 0, 1) := dk_3 (dk_at dksX4_test_6 7 rfl rfl)
theorem dX4_test_142 : decode cX4_test 142 = .ok (.ireturn, 1) := dk_172 (dk_at dksX4_test_6 8 rfl rfl)
abbrev cX4_fails : ByteArray := prog_11_method_5_code
def yX4_fails : MethodName := ⟨RX4, "fails", "(LElectionHouse$Clause;LElectionHouse$Person;LElectionHouse$Land;)I"⟩
def dkwX4_fails_3 : List UInt8 := [167, 255, 216, 2, 172]
abbrev dktX4_fails_3 : List UInt8 := dkwX4_fails_3 ++ []
def dkwX4_fails_2 : List UInt8 := [182, 0, 105, 42, 180, 0, 37, 21, 5, 51, 160, 0, 11, 42, 180, 0, 34, 21, 5, 46, 172, 132, 5, 1]
abbrev dktX4_fails_2 : List UInt8 := dkwX4_fails_2 ++ dktX4_fails_3
def dkwX4_fails_1 : List UInt8 := [54, 4, 43, 180, 0, 109, 54, 5, 21, 5, 43, 180, 0, 112, 162, 0, 37, 42, 21, 5, 44, 45, 21, 4]
abbrev dktX4_fails_1 : List UInt8 := dkwX4_fails_1 ++ dktX4_fails_2
def dkwX4_fails_0 : List UInt8 := [43, 42, 180, 0, 18, 166, 0, 12, 42, 180, 0, 9, 4, 46, 167, 0, 9, 42, 180, 0, 9, 3, 46]
abbrev dktX4_fails_0 : List UInt8 := dkwX4_fails_0 ++ dktX4_fails_1
theorem dksX4_fails_0 : cX4_fails.data.toList.drop 0 = dktX4_fails_0 := by decide +kernel
theorem dksX4_fails_1 : cX4_fails.data.toList.drop 23 = dktX4_fails_1 := dk_seg dksX4_fails_0 23 rfl rfl
theorem dksX4_fails_2 : cX4_fails.data.toList.drop 47 = dktX4_fails_2 := dk_seg dksX4_fails_1 24 rfl rfl
theorem dksX4_fails_3 : cX4_fails.data.toList.drop 71 = dktX4_fails_3 := dk_seg dksX4_fails_2 24 rfl rfl
theorem dX4_fails_0 : decode cX4_fails 0 = .ok (.aload_n 1, 1) := dk_43 (dk_at dksX4_fails_0 0 rfl rfl)
theorem dX4_fails_1 : decode cX4_fails 1 = .ok (.aload_n 0, 1) := dk_42 (dk_at dksX4_fails_0 1 rfl rfl)
theorem dX4_fails_2 : decode cX4_fails 2 = .ok (.getfield 18, 3) := dk_180 0 18 (dk_at dksX4_fails_0 2 rfl rfl)
theorem dX4_fails_5 : decode cX4_fails 5 = .ok (.if_acmp .ne 12, 3) := dk_166 0 12 (dk_at dksX4_fails_0 5 rfl rfl)
theorem dX4_fails_8 : decode cX4_fails 8 = .ok (.aload_n 0, 1) := dk_42 (dk_at dksX4_fails_0 8 rfl rfl)
theorem dX4_fails_9 : decode cX4_fails 9 = .ok (.getfield 9, 3) := dk_180 0 9 (dk_at dksX4_fails_0 9 rfl rfl)
theorem dX4_fails_12 : decode cX4_fails 12 = .ok (.iconst 1, 1) := dk_4 (dk_at dksX4_fails_0 12 rfl rfl)
theorem dX4_fails_13 : decode cX4_fails 13 = .ok (.iaload, 1) := dk_46 (dk_at dksX4_fails_0 13 rfl rfl)
theorem dX4_fails_14 : decode cX4_fails 14 = .ok (.goto 9, 3) := dk_167 0 9 (dk_at dksX4_fails_0 14 rfl rfl)
theorem dX4_fails_17 : decode cX4_fails 17 = .ok (.aload_n 0, 1) := dk_42 (dk_at dksX4_fails_0 17 rfl rfl)
theorem dX4_fails_18 : decode cX4_fails 18 = .ok (.getfield 9, 3) := dk_180 0 9 (dk_at dksX4_fails_0 18 rfl rfl)
theorem dX4_fails_21 : decode cX4_fails 21 = .ok (.iconst 0, 1) := dk_3 (dk_at dksX4_fails_0 21 rfl rfl)
theorem dX4_fails_22 : decode cX4_fails 22 = .ok (.iaload, 1) := dk_46 (dk_at dksX4_fails_0 22 rfl rfl)
theorem dX4_fails_23 : decode cX4_fails 23 = .ok (.istore 4, 2) := dk_54 4 (dk_at dksX4_fails_1 0 rfl rfl)
theorem dX4_fails_25 : decode cX4_fails 25 = .ok (.aload_n 1, 1) := dk_43 (dk_at dksX4_fails_1 2 rfl rfl)
theorem dX4_fails_26 : decode cX4_fails 26 = .ok (.getfield 109, 3) := dk_180 0 109 (dk_at dksX4_fails_1 3 rfl rfl)
theorem dX4_fails_29 : decode cX4_fails 29 = .ok (.istore 5, 2) := dk_54 5 (dk_at dksX4_fails_1 6 rfl rfl)
theorem dX4_fails_31 : decode cX4_fails 31 = .ok (.iload 5, 2) := dk_21 5 (dk_at dksX4_fails_1 8 rfl rfl)
theorem dX4_fails_33 : decode cX4_fails 33 = .ok (.aload_n 1, 1) := dk_43 (dk_at dksX4_fails_1 10 rfl rfl)
theorem dX4_fails_34 : decode cX4_fails 34 = .ok (.getfield 112, 3) := dk_180 0 112 (dk_at dksX4_fails_1 11 rfl rfl)
theorem dX4_fails_37 : decode cX4_fails 37 = .ok (.if_icmp .ge 37, 3) := dk_162 0 37 (dk_at dksX4_fails_1 14 rfl rfl)
theorem dX4_fails_40 : decode cX4_fails 40 = .ok (.aload_n 0, 1) := dk_42 (dk_at dksX4_fails_1 17 rfl rfl)
theorem dX4_fails_41 : decode cX4_fails 41 = .ok (.iload 5, 2) := dk_21 5 (dk_at dksX4_fails_1 18 rfl rfl)
theorem dX4_fails_43 : decode cX4_fails 43 = .ok (.aload_n 2, 1) := dk_44 (dk_at dksX4_fails_1 20 rfl rfl)
theorem dX4_fails_44 : decode cX4_fails 44 = .ok (.aload_n 3, 1) := dk_45 (dk_at dksX4_fails_1 21 rfl rfl)
theorem dX4_fails_45 : decode cX4_fails 45 = .ok (.iload 4, 2) := dk_21 4 (dk_at dksX4_fails_1 22 rfl rfl)
theorem dX4_fails_47 : decode cX4_fails 47 = .ok (.invokevirtual 105, 3) := dk_182 0 105 (dk_at dksX4_fails_2 0 rfl rfl)
theorem dX4_fails_50 : decode cX4_fails 50 = .ok (.aload_n 0, 1) := dk_42 (dk_at dksX4_fails_2 3 rfl rfl)
theorem dX4_fails_51 : decode cX4_fails 51 = .ok (.getfield 37, 3) := dk_180 0 37 (dk_at dksX4_fails_2 4 rfl rfl)
theorem dX4_fails_54 : decode cX4_fails 54 = .ok (.iload 5, 2) := dk_21 5 (dk_at dksX4_fails_2 7 rfl rfl)
theorem dX4_fails_56 : decode cX4_fails 56 = .ok (.baload, 1) := dk_51 (dk_at dksX4_fails_2 9 rfl rfl)
theorem dX4_fails_57 : decode cX4_fails 57 = .ok (.if_icmp .ne 11, 3) := dk_160 0 11 (dk_at dksX4_fails_2 10 rfl rfl)
theorem dX4_fails_60 : decode cX4_fails 60 = .ok (.aload_n 0, 1) := dk_42 (dk_at dksX4_fails_2 13 rfl rfl)
theorem dX4_fails_61 : decode cX4_fails 61 = .ok (.getfield 34, 3) := dk_180 0 34 (dk_at dksX4_fails_2 14 rfl rfl)
theorem dX4_fails_64 : decode cX4_fails 64 = .ok (.iload 5, 2) := dk_21 5 (dk_at dksX4_fails_2 17 rfl rfl)
theorem dX4_fails_66 : decode cX4_fails 66 = .ok (.iaload, 1) := dk_46 (dk_at dksX4_fails_2 19 rfl rfl)
theorem dX4_fails_67 : decode cX4_fails 67 = .ok (.ireturn, 1) := dk_172 (dk_at dksX4_fails_2 20 rfl rfl)
theorem dX4_fails_68 : decode cX4_fails 68 = .ok (.iinc 5 1, 3) := dk_132 5 1 (dk_at dksX4_fails_2 21 rfl rfl)
theorem dX4_fails_71 : decode cX4_fails 71 = .ok (.goto (-40), 3) := dk_167 255 216 (dk_at dksX4_fails_3 0 rfl rfl)
theorem dX4_fails_74 : decode cX4_fails 74 = .ok (.iconst (-1), 1) := dk_2 (dk_at dksX4_fails_3 3 rfl rfl)
theorem dX4_fails_75 : decode cX4_fails 75 = .ok (.ireturn, 1) := dk_172 (dk_at dksX4_fails_3 4 rfl rfl)
theorem q289 : (Jvm.Cond.initialized "ElectionHouse$Law") ∈ lw_all := lw_g (lw_at lw_m1 8 rfl) rfl
theorem q535 : (Jvm.Cond.instantiable "ElectionHouse$Law" (16 : Nat)) ∈ lw_all := lw_g (lw_at lw_m2 14 rfl) rfl
theorem q537 : (Jvm.Cond.instanceMethod ({ cls := "ElectionHouse$Law", name := "<init>", desc := "()V" } : Jvm.MethodName)) ∈ lw_all := lw_g (lw_at lw_m2 16 rfl) rfl
theorem q538 : (Jvm.Cond.code ({ cls := "ElectionHouse$Law", name := "<init>", desc := "()V" } : Jvm.MethodName) prog_11_method_1_code (2 : Nat) (Option.none : Option Jvm.ClassFile.FieldType)) ∈ lw_all := lw_g (lw_at lw_m2 17 rfl) rfl
theorem q539 : (Jvm.Cond.methodLink "ElectionHouse$Law" (3 : Nat) ({ cls := "java/lang/Object", name := "<init>", desc := "()V" } : Jvm.MethodName)) ∈ lw_all := lw_g (lw_at lw_m2 18 rfl) rfl
theorem q540 : (Jvm.Cond.classLink "ElectionHouse$Law" (15 : Nat) "ElectionHouse$Clause") ∈ lw_all := lw_g (lw_at lw_m2 19 rfl) rfl
theorem q542 : (Jvm.Cond.methodLinkNest "ElectionHouse$Law" (17 : Nat) ({ cls := "ElectionHouse$Clause", name := "<init>", desc := "()V" } : Jvm.MethodName) "ElectionHouse") ∈ lw_tbl := lw_at lw_m2 21 rfl
theorem q547 : (Jvm.Cond.fieldLinkNest "ElectionHouse$Law" (102 : Nat) "ElectionHouse$Clause" "code" "[I" "ElectionHouse") ∈ lw_tbl := lw_at lw_m2 26 rfl
theorem q549 : (Jvm.Cond.fieldLinkNest "ElectionHouse$Law" (99 : Nat) "ElectionHouse$Clause" "size" "I" "ElectionHouse") ∈ lw_tbl := lw_at lw_m2 28 rfl
theorem q551 : (Jvm.Cond.fieldLinkNest "ElectionHouse$Law" (109 : Nat) "ElectionHouse$Clause" "from" "I" "ElectionHouse") ∈ lw_tbl := lw_at lw_m2 30 rfl
theorem q553 : (Jvm.Cond.fieldLinkNest "ElectionHouse$Law" (112 : Nat) "ElectionHouse$Clause" "to" "I" "ElectionHouse") ∈ lw_tbl := lw_at lw_m2 32 rfl
theorem q564 : (Jvm.Cond.classLink "ElectionHouse$Law" (41 : Nat) "ElectionHouse$Way") ∈ lw_all := lw_g (lw_at lw_m2 43 rfl) rfl
theorem q567 : (Jvm.Cond.methodLinkNest "ElectionHouse$Law" (50 : Nat) ({ cls := "ElectionHouse$Way", name := "<init>", desc := "()V" } : Jvm.MethodName) "ElectionHouse") ∈ lw_tbl := lw_at lw_m2 46 rfl
theorem q608 : (Jvm.Cond.fieldLink "ElectionHouse$Law" (9 : Nat) "ElectionHouse$Law" "days" "[I") ∈ lw_all := lw_g (lw_at lw_m2 87 rfl) rfl
theorem q611 : (Jvm.Cond.fieldLink "ElectionHouse$Law" (51 : Nat) "ElectionHouse$Law" "eve" "Z") ∈ lw_all := lw_g (lw_at lw_m2 90 rfl) rfl
theorem q614 : (Jvm.Cond.fieldLink "ElectionHouse$Law" (55 : Nat) "ElectionHouse$Law" "mail" "Z") ∈ lw_all := lw_g (lw_at lw_m2 93 rfl) rfl
theorem q617 : (Jvm.Cond.fieldLink "ElectionHouse$Law" (58 : Nat) "ElectionHouse$Law" "signatures" "I") ∈ lw_all := lw_g (lw_at lw_m2 96 rfl) rfl
theorem q620 : (Jvm.Cond.fieldLink "ElectionHouse$Law" (62 : Nat) "ElectionHouse$Law" "each" "I") ∈ lw_all := lw_g (lw_at lw_m2 99 rfl) rfl
theorem q623 : (Jvm.Cond.fieldLink "ElectionHouse$Law" (65 : Nat) "ElectionHouse$Law" "spoil" "I") ∈ lw_all := lw_g (lw_at lw_m2 102 rfl) rfl
theorem q626 : (Jvm.Cond.fieldLink "ElectionHouse$Law" (18 : Nat) "ElectionHouse$Law" "vote" "LElectionHouse$Clause;") ∈ lw_all := lw_g (lw_at lw_m2 105 rfl) rfl
theorem q629 : (Jvm.Cond.fieldLink "ElectionHouse$Law" (22 : Nat) "ElectionHouse$Law" "stand" "LElectionHouse$Clause;") ∈ lw_all := lw_g (lw_at lw_m2 108 rfl) rfl
theorem q632 : (Jvm.Cond.fieldLink "ElectionHouse$Law" (25 : Nat) "ElectionHouse$Law" "word" "[I") ∈ lw_all := lw_g (lw_at lw_m2 111 rfl) rfl
theorem q634 : (Jvm.Cond.fieldLink "ElectionHouse$Law" (28 : Nat) "ElectionHouse$Law" "number" "[I") ∈ lw_all := lw_g (lw_at lw_m2 113 rfl) rfl
theorem q636 : (Jvm.Cond.fieldLink "ElectionHouse$Law" (31 : Nat) "ElectionHouse$Law" "on" "[I") ∈ lw_all := lw_g (lw_at lw_m2 115 rfl) rfl
theorem q638 : (Jvm.Cond.fieldLink "ElectionHouse$Law" (34 : Nat) "ElectionHouse$Law" "place" "[I") ∈ lw_all := lw_g (lw_at lw_m2 117 rfl) rfl
theorem q640 : (Jvm.Cond.fieldLink "ElectionHouse$Law" (37 : Nat) "ElectionHouse$Law" "isTurned" "[Z") ∈ lw_all := lw_g (lw_at lw_m2 119 rfl) rfl
theorem q642 : (Jvm.Cond.fieldLink "ElectionHouse$Law" (43 : Nat) "ElectionHouse$Law" "ways" "[LElectionHouse$Way;") ∈ lw_all := lw_g (lw_at lw_m2 121 rfl) rfl
theorem q645 : (Jvm.Cond.fieldLink "ElectionHouse$Law" (72 : Nat) "ElectionHouse$Law" "contests" "I") ∈ lw_all := lw_g (lw_at lw_m2 124 rfl) rfl
theorem q648 : (Jvm.Cond.fieldLink "ElectionHouse$Law" (47 : Nat) "ElectionHouse$Law" "values" "[Z") ∈ lw_all := lw_g (lw_at lw_m2 127 rfl) rfl
theorem q649 : (Jvm.Cond.laysFinal "ElectionHouse$Law" "ElectionHouse$Law" "days" "[I") ∈ lw_all := lw_g (lw_at lw_m2 128 rfl) rfl
theorem q650 : (Jvm.Cond.soleField "ElectionHouse$Law" "days") ∈ lw_all := lw_g (lw_at lw_m2 129 rfl) rfl
theorem q651 : (Jvm.Cond.lays "ElectionHouse$Law" "ElectionHouse$Law" "eve" "Z") ∈ lw_all := lw_g (lw_at lw_m2 130 rfl) rfl
theorem q652 : (Jvm.Cond.soleField "ElectionHouse$Law" "eve") ∈ lw_all := lw_g (lw_at lw_m2 131 rfl) rfl
theorem q653 : (Jvm.Cond.lays "ElectionHouse$Law" "ElectionHouse$Law" "mail" "Z") ∈ lw_all := lw_g (lw_at lw_m2 132 rfl) rfl
theorem q654 : (Jvm.Cond.soleField "ElectionHouse$Law" "mail") ∈ lw_all := lw_g (lw_at lw_m2 133 rfl) rfl
theorem q655 : (Jvm.Cond.lays "ElectionHouse$Law" "ElectionHouse$Law" "signatures" "I") ∈ lw_all := lw_g (lw_at lw_m2 134 rfl) rfl
theorem q656 : (Jvm.Cond.soleField "ElectionHouse$Law" "signatures") ∈ lw_all := lw_g (lw_at lw_m2 135 rfl) rfl
theorem q657 : (Jvm.Cond.lays "ElectionHouse$Law" "ElectionHouse$Law" "each" "I") ∈ lw_all := lw_g (lw_at lw_m2 136 rfl) rfl
theorem q658 : (Jvm.Cond.soleField "ElectionHouse$Law" "each") ∈ lw_all := lw_g (lw_at lw_m2 137 rfl) rfl
theorem q659 : (Jvm.Cond.lays "ElectionHouse$Law" "ElectionHouse$Law" "spoil" "I") ∈ lw_all := lw_g (lw_at lw_m2 138 rfl) rfl
theorem q660 : (Jvm.Cond.soleField "ElectionHouse$Law" "spoil") ∈ lw_all := lw_g (lw_at lw_m2 139 rfl) rfl
theorem q661 : (Jvm.Cond.laysFinal "ElectionHouse$Law" "ElectionHouse$Law" "vote" "LElectionHouse$Clause;") ∈ lw_all := lw_g (lw_at lw_m2 140 rfl) rfl
theorem q662 : (Jvm.Cond.soleField "ElectionHouse$Law" "vote") ∈ lw_all := lw_g (lw_at lw_m2 141 rfl) rfl
theorem q663 : (Jvm.Cond.laysFinal "ElectionHouse$Law" "ElectionHouse$Law" "stand" "LElectionHouse$Clause;") ∈ lw_all := lw_g (lw_at lw_m2 142 rfl) rfl
theorem q664 : (Jvm.Cond.soleField "ElectionHouse$Law" "stand") ∈ lw_all := lw_g (lw_at lw_m2 143 rfl) rfl
theorem q665 : (Jvm.Cond.laysFinal "ElectionHouse$Law" "ElectionHouse$Law" "word" "[I") ∈ lw_all := lw_g (lw_at lw_m2 144 rfl) rfl
theorem q666 : (Jvm.Cond.soleField "ElectionHouse$Law" "word") ∈ lw_all := lw_g (lw_at lw_m2 145 rfl) rfl
theorem q667 : (Jvm.Cond.laysFinal "ElectionHouse$Law" "ElectionHouse$Law" "number" "[I") ∈ lw_all := lw_g (lw_at lw_m2 146 rfl) rfl
theorem q668 : (Jvm.Cond.soleField "ElectionHouse$Law" "number") ∈ lw_all := lw_g (lw_at lw_m2 147 rfl) rfl
theorem q669 : (Jvm.Cond.laysFinal "ElectionHouse$Law" "ElectionHouse$Law" "on" "[I") ∈ lw_all := lw_g (lw_at lw_m2 148 rfl) rfl
theorem q670 : (Jvm.Cond.soleField "ElectionHouse$Law" "on") ∈ lw_all := lw_g (lw_at lw_m2 149 rfl) rfl
theorem q671 : (Jvm.Cond.laysFinal "ElectionHouse$Law" "ElectionHouse$Law" "place" "[I") ∈ lw_all := lw_g (lw_at lw_m2 150 rfl) rfl
theorem q672 : (Jvm.Cond.soleField "ElectionHouse$Law" "place") ∈ lw_all := lw_g (lw_at lw_m2 151 rfl) rfl
theorem q673 : (Jvm.Cond.laysFinal "ElectionHouse$Law" "ElectionHouse$Law" "isTurned" "[Z") ∈ lw_all := lw_g (lw_at lw_m2 152 rfl) rfl
theorem q674 : (Jvm.Cond.soleField "ElectionHouse$Law" "isTurned") ∈ lw_all := lw_g (lw_at lw_m2 153 rfl) rfl
theorem q675 : (Jvm.Cond.laysFinal "ElectionHouse$Law" "ElectionHouse$Law" "ways" "[LElectionHouse$Way;") ∈ lw_all := lw_g (lw_at lw_m2 154 rfl) rfl
theorem q676 : (Jvm.Cond.soleField "ElectionHouse$Law" "ways") ∈ lw_all := lw_g (lw_at lw_m2 155 rfl) rfl
theorem q677 : (Jvm.Cond.lays "ElectionHouse$Law" "ElectionHouse$Law" "contests" "I") ∈ lw_all := lw_g (lw_at lw_m2 156 rfl) rfl
theorem q678 : (Jvm.Cond.soleField "ElectionHouse$Law" "contests") ∈ lw_all := lw_g (lw_at lw_m2 157 rfl) rfl
theorem q679 : (Jvm.Cond.laysFinal "ElectionHouse$Law" "ElectionHouse$Law" "values" "[Z") ∈ lw_all := lw_g (lw_at lw_m2 158 rfl) rfl
theorem q680 : (Jvm.Cond.soleField "ElectionHouse$Law" "values") ∈ lw_all := lw_g (lw_at lw_m2 159 rfl) rfl
theorem q681 : (Jvm.Cond.superclass "ElectionHouse$Law" "java/lang/Object") ∈ lw_all := lw_g (lw_at lw_m2 160 rfl) rfl
theorem q1340 : (Jvm.Cond.instanceMethod ({ cls := "ElectionHouse$Law", name := "begin", desc := "()V" } : Jvm.MethodName)) ∈ lw_all := lw_g (lw_at lw_m5 99 rfl) rfl
theorem q1341 : (Jvm.Cond.selects "ElectionHouse$Law" ({ cls := "ElectionHouse$Law", name := "begin", desc := "()V" } : Jvm.MethodName) ({ cls := "ElectionHouse$Law", name := "begin", desc := "()V" } : Jvm.MethodName)) ∈ lw_all := lw_g (lw_at lw_m5 100 rfl) rfl
theorem q1342 : (Jvm.Cond.code ({ cls := "ElectionHouse$Law", name := "begin", desc := "()V" } : Jvm.MethodName) prog_11_method_2_code (1 : Nat) (Option.none : Option Jvm.ClassFile.FieldType)) ∈ lw_all := lw_g (lw_at lw_m5 101 rfl) rfl
theorem q1343 : (Jvm.Cond.methodLink "ElectionHouse$Law" (68 : Nat) ({ cls := "ElectionHouse$Clause", name := "begin", desc := "(I)V" } : Jvm.MethodName)) ∈ lw_all := lw_g (lw_at lw_m5 102 rfl) rfl
theorem q1604 : (Jvm.Cond.instanceMethod ({ cls := "ElectionHouse$Law", name := "may", desc := "(LElectionHouse$Clause;LElectionHouse$Person;LElectionHouse$Land;)Z" } : Jvm.MethodName)) ∈ lw_all := lw_g (lw_at lw_m6 123 rfl) rfl
theorem q1605 : (Jvm.Cond.selects "ElectionHouse$Law" ({ cls := "ElectionHouse$Law", name := "may", desc := "(LElectionHouse$Clause;LElectionHouse$Person;LElectionHouse$Land;)Z" } : Jvm.MethodName) ({ cls := "ElectionHouse$Law", name := "may", desc := "(LElectionHouse$Clause;LElectionHouse$Person;LElectionHouse$Land;)Z" } : Jvm.MethodName)) ∈ lw_all := lw_g (lw_at lw_m6 124 rfl) rfl
theorem q1606 : (Jvm.Cond.code ({ cls := "ElectionHouse$Law", name := "may", desc := "(LElectionHouse$Clause;LElectionHouse$Person;LElectionHouse$Land;)Z" } : Jvm.MethodName) prog_11_method_4_code (8 : Nat) (Option.some Jvm.ClassFile.FieldType.boolean)) ∈ lw_all := lw_g (lw_at lw_m6 125 rfl) rfl
theorem q1607 : (Jvm.Cond.methodLink "ElectionHouse$Law" (105 : Nat) ({ cls := "ElectionHouse$Law", name := "test", desc := "(ILElectionHouse$Person;LElectionHouse$Land;I)Z" } : Jvm.MethodName)) ∈ lw_all := lw_g (lw_at lw_m6 126 rfl) rfl
theorem q1608 : (Jvm.Cond.privateMethod ({ cls := "ElectionHouse$Law", name := "test", desc := "(ILElectionHouse$Person;LElectionHouse$Land;I)Z" } : Jvm.MethodName)) ∈ lw_tbl := lw_at lw_m6 127 rfl
theorem q1609 : (Jvm.Cond.instanceMethod ({ cls := "ElectionHouse$Law", name := "test", desc := "(ILElectionHouse$Person;LElectionHouse$Land;I)Z" } : Jvm.MethodName)) ∈ lw_all := lw_g (lw_at lw_m6 128 rfl) rfl
theorem q1610 : (Jvm.Cond.code ({ cls := "ElectionHouse$Law", name := "test", desc := "(ILElectionHouse$Person;LElectionHouse$Land;I)Z" } : Jvm.MethodName) prog_11_method_3_code (6 : Nat) (Option.some Jvm.ClassFile.FieldType.boolean)) ∈ lw_all := lw_g (lw_at lw_m6 129 rfl) rfl
theorem q1611 : (Jvm.Cond.methodLink "ElectionHouse$Law" (75 : Nat) ({ cls := "ElectionHouse$Person", name := "age", desc := "(IZ)I" } : Jvm.MethodName)) ∈ lw_all := lw_g (lw_at lw_m6 130 rfl) rfl
theorem q1612 : (Jvm.Cond.methodLink "ElectionHouse$Law" (81 : Nat) ({ cls := "ElectionHouse$Person", name := "lived", desc := "(II)Z" } : Jvm.MethodName)) ∈ lw_all := lw_g (lw_at lw_m6 131 rfl) rfl
theorem q1617 : (Jvm.Cond.methodLink "ElectionHouse$Law" (85 : Nat) ({ cls := "ElectionHouse$Person", name := "address", desc := "(I)I" } : Jvm.MethodName)) ∈ lw_all := lw_g (lw_at lw_m6 136 rfl) rfl
theorem q1618 : (Jvm.Cond.methodLink "ElectionHouse$Law" (89 : Nat) ({ cls := "ElectionHouse$Land", name := "isIn", desc := "(III)Z" } : Jvm.MethodName)) ∈ lw_all := lw_g (lw_at lw_m6 137 rfl) rfl
theorem q1623 : (Jvm.Cond.methodLink "ElectionHouse$Law" (95 : Nat) ({ cls := "ElectionHouse$Person", name := "is", desc := "(II)I" } : Jvm.MethodName)) ∈ lw_all := lw_g (lw_at lw_m6 142 rfl) rfl
theorem q1625 : (Jvm.Cond.instanceMethod ({ cls := "ElectionHouse$Law", name := "fails", desc := "(LElectionHouse$Clause;LElectionHouse$Person;LElectionHouse$Land;)I" } : Jvm.MethodName)) ∈ lw_all := lw_g (lw_at lw_m6 144 rfl) rfl
theorem q1626 : (Jvm.Cond.selects "ElectionHouse$Law" ({ cls := "ElectionHouse$Law", name := "fails", desc := "(LElectionHouse$Clause;LElectionHouse$Person;LElectionHouse$Land;)I" } : Jvm.MethodName) ({ cls := "ElectionHouse$Law", name := "fails", desc := "(LElectionHouse$Clause;LElectionHouse$Person;LElectionHouse$Land;)I" } : Jvm.MethodName)) ∈ lw_all := lw_g (lw_at lw_m6 145 rfl) rfl
theorem q1627 : (Jvm.Cond.code ({ cls := "ElectionHouse$Law", name := "fails", desc := "(LElectionHouse$Clause;LElectionHouse$Person;LElectionHouse$Land;)I" } : Jvm.MethodName) prog_11_method_5_code (6 : Nat) (Option.some Jvm.ClassFile.FieldType.int)) ∈ lw_all := lw_g (lw_at lw_m6 146 rfl) rfl
theorem in_X4 : ∀ w ∈ wsX40, w ∈ lw_all := lw_in wsX40 [649, 651, 653, 655, 657, 659, 661, 663, 665, 667, 669, 671, 673, 675, 677, 679] (by decide +kernel) (by decide +kernel)

set_option maxRecDepth 100000
abbrev cX5_init : ByteArray := prog_3_method_1_code
def yX5_init : MethodName := ⟨RX5, "<init>", "()V"⟩
def dkwX5_init_0 : List UInt8 := [42, 183, 0, 3, 42, 17, 15, 160, 188, 10, 181, 0, 9, 177]
abbrev dktX5_init_0 : List UInt8 := dkwX5_init_0 ++ []
theorem dksX5_init_0 : cX5_init.data.toList.drop 0 = dktX5_init_0 := by decide +kernel
theorem dX5_init_0 : decode cX5_init 0 = .ok (.aload_n 0, 1) := dk_42 (dk_at dksX5_init_0 0 rfl rfl)
theorem dX5_init_1 : decode cX5_init 1 = .ok (.invokespecial 3, 3) := dk_183 0 3 (dk_at dksX5_init_0 1 rfl rfl)
theorem dX5_init_4 : decode cX5_init 4 = .ok (.aload_n 0, 1) := dk_42 (dk_at dksX5_init_0 4 rfl rfl)
theorem dX5_init_5 : decode cX5_init 5 = .ok (.sipush 4000, 3) := dk_17 15 160 (dk_at dksX5_init_0 5 rfl rfl)
theorem dX5_init_8 : decode cX5_init 8 = .ok (.newarray .int, 2) := dk_188_10 (dk_at dksX5_init_0 8 rfl rfl)
theorem dX5_init_10 : decode cX5_init 10 = .ok (.putfield 9, 3) := dk_181 0 9 (dk_at dksX5_init_0 10 rfl rfl)
theorem dX5_init_13 : decode cX5_init 13 = .ok (.return_, 1) := dk_177 (dk_at dksX5_init_0 13 rfl rfl)
abbrev cX5_begin : ByteArray := prog_3_method_2_code
def yX5_begin : MethodName := ⟨RX5, "begin", "(I)V"⟩
def dkwX5_begin_0 : List UInt8 := [42, 3, 181, 0, 15, 42, 27, 181, 0, 19, 42, 27, 181, 0, 22, 177]
abbrev dktX5_begin_0 : List UInt8 := dkwX5_begin_0 ++ []
theorem dksX5_begin_0 : cX5_begin.data.toList.drop 0 = dktX5_begin_0 := by decide +kernel
theorem dX5_begin_0 : decode cX5_begin 0 = .ok (.aload_n 0, 1) := dk_42 (dk_at dksX5_begin_0 0 rfl rfl)
theorem dX5_begin_1 : decode cX5_begin 1 = .ok (.iconst 0, 1) := dk_3 (dk_at dksX5_begin_0 1 rfl rfl)
theorem dX5_begin_2 : decode cX5_begin 2 = .ok (.putfield 15, 3) := dk_181 0 15 (dk_at dksX5_begin_0 2 rfl rfl)
theorem dX5_begin_5 : decode cX5_begin 5 = .ok (.aload_n 0, 1) := dk_42 (dk_at dksX5_begin_0 5 rfl rfl)
theorem dX5_begin_6 : decode cX5_begin 6 = .ok (.iload_n 1, 1) := dk_27 (dk_at dksX5_begin_0 6 rfl rfl)
theorem dX5_begin_7 : decode cX5_begin 7 = .ok (.putfield 19, 3) := dk_181 0 19 (dk_at dksX5_begin_0 7 rfl rfl)
theorem dX5_begin_10 : decode cX5_begin 10 = .ok (.aload_n 0, 1) := dk_42 (dk_at dksX5_begin_0 10 rfl rfl)
theorem dX5_begin_11 : decode cX5_begin 11 = .ok (.iload_n 1, 1) := dk_27 (dk_at dksX5_begin_0 11 rfl rfl)
theorem dX5_begin_12 : decode cX5_begin 12 = .ok (.putfield 22, 3) := dk_181 0 22 (dk_at dksX5_begin_0 12 rfl rfl)
theorem dX5_begin_15 : decode cX5_begin 15 = .ok (.return_, 1) := dk_177 (dk_at dksX5_begin_0 15 rfl rfl)
abbrev cX5_put : ByteArray := prog_3_method_3_code
def yX5_put : MethodName := ⟨RX5, "put", "(I)V"⟩
def dkwX5_put_0 : List UInt8 := [42, 180, 0, 9, 42, 180, 0, 15, 27, 79, 42, 89, 180, 0, 15, 4, 96, 181, 0, 15, 177]
abbrev dktX5_put_0 : List UInt8 := dkwX5_put_0 ++ []
theorem dksX5_put_0 : cX5_put.data.toList.drop 0 = dktX5_put_0 := by decide +kernel
theorem dX5_put_0 : decode cX5_put 0 = .ok (.aload_n 0, 1) := dk_42 (dk_at dksX5_put_0 0 rfl rfl)
theorem dX5_put_1 : decode cX5_put 1 = .ok (.getfield 9, 3) := dk_180 0 9 (dk_at dksX5_put_0 1 rfl rfl)
theorem dX5_put_4 : decode cX5_put 4 = .ok (.aload_n 0, 1) := dk_42 (dk_at dksX5_put_0 4 rfl rfl)
theorem dX5_put_5 : decode cX5_put 5 = .ok (.getfield 15, 3) := dk_180 0 15 (dk_at dksX5_put_0 5 rfl rfl)
theorem dX5_put_8 : decode cX5_put 8 = .ok (.iload_n 1, 1) := dk_27 (dk_at dksX5_put_0 8 rfl rfl)
theorem dX5_put_9 : decode cX5_put 9 = .ok (.iastore, 1) := dk_79 (dk_at dksX5_put_0 9 rfl rfl)
theorem dX5_put_10 : decode cX5_put 10 = .ok (.aload_n 0, 1) := dk_42 (dk_at dksX5_put_0 10 rfl rfl)
theorem dX5_put_11 : decode cX5_put 11 = .ok (.dup, 1) := dk_89 (dk_at dksX5_put_0 11 rfl rfl)
theorem dX5_put_12 : decode cX5_put 12 = .ok (.getfield 15, 3) := dk_180 0 15 (dk_at dksX5_put_0 12 rfl rfl)
theorem dX5_put_15 : decode cX5_put 15 = .ok (.iconst 1, 1) := dk_4 (dk_at dksX5_put_0 15 rfl rfl)
theorem dX5_put_16 : decode cX5_put 16 = .ok (.iadd, 1) := dk_96 (dk_at dksX5_put_0 16 rfl rfl)
theorem dX5_put_17 : decode cX5_put 17 = .ok (.putfield 15, 3) := dk_181 0 15 (dk_at dksX5_put_0 17 rfl rfl)
theorem dX5_put_20 : decode cX5_put 20 = .ok (.return_, 1) := dk_177 (dk_at dksX5_put_0 20 rfl rfl)
theorem q290 : (Jvm.Cond.initialized "ElectionHouse$Clause") ∈ lw_all := lw_g (lw_at lw_m1 9 rfl) rfl
theorem q541 : (Jvm.Cond.instantiable "ElectionHouse$Clause" (4 : Nat)) ∈ lw_all := lw_g (lw_at lw_m2 20 rfl) rfl
theorem q543 : (Jvm.Cond.instanceMethod ({ cls := "ElectionHouse$Clause", name := "<init>", desc := "()V" } : Jvm.MethodName)) ∈ lw_all := lw_g (lw_at lw_m2 22 rfl) rfl
theorem q544 : (Jvm.Cond.code ({ cls := "ElectionHouse$Clause", name := "<init>", desc := "()V" } : Jvm.MethodName) prog_3_method_1_code (1 : Nat) (Option.none : Option Jvm.ClassFile.FieldType)) ∈ lw_all := lw_g (lw_at lw_m2 23 rfl) rfl
theorem q545 : (Jvm.Cond.methodLink "ElectionHouse$Clause" (3 : Nat) ({ cls := "java/lang/Object", name := "<init>", desc := "()V" } : Jvm.MethodName)) ∈ lw_all := lw_g (lw_at lw_m2 24 rfl) rfl
theorem q546 : (Jvm.Cond.fieldLink "ElectionHouse$Clause" (9 : Nat) "ElectionHouse$Clause" "code" "[I") ∈ lw_all := lw_g (lw_at lw_m2 25 rfl) rfl
theorem q548 : (Jvm.Cond.fieldLink "ElectionHouse$Clause" (15 : Nat) "ElectionHouse$Clause" "size" "I") ∈ lw_all := lw_g (lw_at lw_m2 27 rfl) rfl
theorem q550 : (Jvm.Cond.fieldLink "ElectionHouse$Clause" (19 : Nat) "ElectionHouse$Clause" "from" "I") ∈ lw_all := lw_g (lw_at lw_m2 29 rfl) rfl
theorem q552 : (Jvm.Cond.fieldLink "ElectionHouse$Clause" (22 : Nat) "ElectionHouse$Clause" "to" "I") ∈ lw_all := lw_g (lw_at lw_m2 31 rfl) rfl
theorem q555 : (Jvm.Cond.laysFinal "ElectionHouse$Clause" "ElectionHouse$Clause" "code" "[I") ∈ lw_all := lw_g (lw_at lw_m2 34 rfl) rfl
theorem q556 : (Jvm.Cond.soleField "ElectionHouse$Clause" "code") ∈ lw_all := lw_g (lw_at lw_m2 35 rfl) rfl
theorem q557 : (Jvm.Cond.lays "ElectionHouse$Clause" "ElectionHouse$Clause" "size" "I") ∈ lw_all := lw_g (lw_at lw_m2 36 rfl) rfl
theorem q558 : (Jvm.Cond.soleField "ElectionHouse$Clause" "size") ∈ lw_all := lw_g (lw_at lw_m2 37 rfl) rfl
theorem q559 : (Jvm.Cond.lays "ElectionHouse$Clause" "ElectionHouse$Clause" "from" "I") ∈ lw_all := lw_g (lw_at lw_m2 38 rfl) rfl
theorem q560 : (Jvm.Cond.soleField "ElectionHouse$Clause" "from") ∈ lw_all := lw_g (lw_at lw_m2 39 rfl) rfl
theorem q561 : (Jvm.Cond.lays "ElectionHouse$Clause" "ElectionHouse$Clause" "to" "I") ∈ lw_all := lw_g (lw_at lw_m2 40 rfl) rfl
theorem q562 : (Jvm.Cond.soleField "ElectionHouse$Clause" "to") ∈ lw_all := lw_g (lw_at lw_m2 41 rfl) rfl
theorem q563 : (Jvm.Cond.superclass "ElectionHouse$Clause" "java/lang/Object") ∈ lw_all := lw_g (lw_at lw_m2 42 rfl) rfl
theorem q1344 : (Jvm.Cond.instanceMethod ({ cls := "ElectionHouse$Clause", name := "begin", desc := "(I)V" } : Jvm.MethodName)) ∈ lw_all := lw_g (lw_at lw_m5 103 rfl) rfl
theorem q1345 : (Jvm.Cond.selects "ElectionHouse$Clause" ({ cls := "ElectionHouse$Clause", name := "begin", desc := "(I)V" } : Jvm.MethodName) ({ cls := "ElectionHouse$Clause", name := "begin", desc := "(I)V" } : Jvm.MethodName)) ∈ lw_all := lw_g (lw_at lw_m5 104 rfl) rfl
theorem q1346 : (Jvm.Cond.code ({ cls := "ElectionHouse$Clause", name := "begin", desc := "(I)V" } : Jvm.MethodName) prog_3_method_2_code (2 : Nat) (Option.none : Option Jvm.ClassFile.FieldType)) ∈ lw_all := lw_g (lw_at lw_m5 105 rfl) rfl
theorem q1545 : (Jvm.Cond.instanceMethod ({ cls := "ElectionHouse$Clause", name := "put", desc := "(I)V" } : Jvm.MethodName)) ∈ lw_all := lw_g (lw_at lw_m6 64 rfl) rfl
theorem q1546 : (Jvm.Cond.selects "ElectionHouse$Clause" ({ cls := "ElectionHouse$Clause", name := "put", desc := "(I)V" } : Jvm.MethodName) ({ cls := "ElectionHouse$Clause", name := "put", desc := "(I)V" } : Jvm.MethodName)) ∈ lw_all := lw_g (lw_at lw_m6 65 rfl) rfl
theorem q1547 : (Jvm.Cond.code ({ cls := "ElectionHouse$Clause", name := "put", desc := "(I)V" } : Jvm.MethodName) prog_3_method_3_code (2 : Nat) (Option.none : Option Jvm.ClassFile.FieldType)) ∈ lw_all := lw_g (lw_at lw_m6 66 rfl) rfl
theorem in_X5 : ∀ w ∈ wsX50, w ∈ lw_all := lw_in wsX50 [555, 557, 559, 561] (by decide +kernel) (by decide +kernel)

set_option maxRecDepth 100000
abbrev cX6_init : ByteArray := prog_15_method_1_code
def yX6_init : MethodName := ⟨RX6, "<init>", "()V"⟩
theorem dX6_init_0 : decode cX6_init 0 = .ok (.aload_n 0, 1) := by decide +kernel
theorem dX6_init_1 : decode cX6_init 1 = .ok (.invokespecial 1, 3) := by decide +kernel
theorem dX6_init_4 : decode cX6_init 4 = .ok (.return_, 1) := by decide +kernel
theorem q291 : (Jvm.Cond.initialized "ElectionHouse$Way") ∈ lw_all := lw_g (lw_at lw_m1 10 rfl) rfl
theorem q566 : (Jvm.Cond.instantiable "ElectionHouse$Way" (8 : Nat)) ∈ lw_all := lw_g (lw_at lw_m2 45 rfl) rfl
theorem q568 : (Jvm.Cond.instanceMethod ({ cls := "ElectionHouse$Way", name := "<init>", desc := "()V" } : Jvm.MethodName)) ∈ lw_all := lw_g (lw_at lw_m2 47 rfl) rfl
theorem q569 : (Jvm.Cond.code ({ cls := "ElectionHouse$Way", name := "<init>", desc := "()V" } : Jvm.MethodName) prog_15_method_1_code (1 : Nat) (Option.none : Option Jvm.ClassFile.FieldType)) ∈ lw_all := lw_g (lw_at lw_m2 48 rfl) rfl
theorem q570 : (Jvm.Cond.methodLink "ElectionHouse$Way" (1 : Nat) ({ cls := "java/lang/Object", name := "<init>", desc := "()V" } : Jvm.MethodName)) ∈ lw_all := lw_g (lw_at lw_m2 49 rfl) rfl
theorem q591 : (Jvm.Cond.lays "ElectionHouse$Way" "ElectionHouse$Way" "area" "I") ∈ lw_all := lw_g (lw_at lw_m2 70 rfl) rfl
theorem q592 : (Jvm.Cond.soleField "ElectionHouse$Way" "area") ∈ lw_all := lw_g (lw_at lw_m2 71 rfl) rfl
theorem q593 : (Jvm.Cond.lays "ElectionHouse$Way" "ElectionHouse$Way" "seats" "I") ∈ lw_all := lw_g (lw_at lw_m2 72 rfl) rfl
theorem q594 : (Jvm.Cond.soleField "ElectionHouse$Way" "seats") ∈ lw_all := lw_g (lw_at lw_m2 73 rfl) rfl
theorem q595 : (Jvm.Cond.lays "ElectionHouse$Way" "ElectionHouse$Way" "rule" "I") ∈ lw_all := lw_g (lw_at lw_m2 74 rfl) rfl
theorem q596 : (Jvm.Cond.soleField "ElectionHouse$Way" "rule") ∈ lw_all := lw_g (lw_at lw_m2 75 rfl) rfl
theorem q597 : (Jvm.Cond.lays "ElectionHouse$Way" "ElectionHouse$Way" "option" "I") ∈ lw_all := lw_g (lw_at lw_m2 76 rfl) rfl
theorem q598 : (Jvm.Cond.soleField "ElectionHouse$Way" "option") ∈ lw_all := lw_g (lw_at lw_m2 77 rfl) rfl
theorem q599 : (Jvm.Cond.lays "ElectionHouse$Way" "ElectionHouse$Way" "above" "I") ∈ lw_all := lw_g (lw_at lw_m2 78 rfl) rfl
theorem q600 : (Jvm.Cond.soleField "ElectionHouse$Way" "above") ∈ lw_all := lw_g (lw_at lw_m2 79 rfl) rfl
theorem q601 : (Jvm.Cond.lays "ElectionHouse$Way" "ElectionHouse$Way" "below" "I") ∈ lw_all := lw_g (lw_at lw_m2 80 rfl) rfl
theorem q602 : (Jvm.Cond.soleField "ElectionHouse$Way" "below") ∈ lw_all := lw_g (lw_at lw_m2 81 rfl) rfl
theorem q603 : (Jvm.Cond.lays "ElectionHouse$Way" "ElectionHouse$Way" "isOpen" "Z") ∈ lw_all := lw_g (lw_at lw_m2 82 rfl) rfl
theorem q604 : (Jvm.Cond.soleField "ElectionHouse$Way" "isOpen") ∈ lw_all := lw_g (lw_at lw_m2 83 rfl) rfl
theorem q605 : (Jvm.Cond.lays "ElectionHouse$Way" "ElectionHouse$Way" "isLevel" "Z") ∈ lw_all := lw_g (lw_at lw_m2 84 rfl) rfl
theorem q606 : (Jvm.Cond.soleField "ElectionHouse$Way" "isLevel") ∈ lw_all := lw_g (lw_at lw_m2 85 rfl) rfl
theorem q607 : (Jvm.Cond.superclass "ElectionHouse$Way" "java/lang/Object") ∈ lw_all := lw_g (lw_at lw_m2 86 rfl) rfl
theorem in_X6 : ∀ w ∈ wsX60, w ∈ lw_all := lw_in wsX60 [591, 593, 595, 597, 599, 601, 603, 605] (by decide +kernel) (by decide +kernel)

set_option maxRecDepth 100000
abbrev cX7_init : ByteArray := prog_7_method_1_code
def yX7_init : MethodName := ⟨RX7, "<init>", "()V"⟩
def dkwX7_init_1 : List UInt8 := [188, 10, 181, 0, 16, 177]
abbrev dktX7_init_1 : List UInt8 := dkwX7_init_1 ++ []
def dkwX7_init_0 : List UInt8 := [42, 183, 0, 1, 42, 16, 8, 188, 10, 181, 0, 7, 42, 16, 64, 188, 10, 181, 0, 13, 42, 16, 8]
abbrev dktX7_init_0 : List UInt8 := dkwX7_init_0 ++ dktX7_init_1
theorem dksX7_init_0 : cX7_init.data.toList.drop 0 = dktX7_init_0 := by decide +kernel
theorem dksX7_init_1 : cX7_init.data.toList.drop 23 = dktX7_init_1 := dk_seg dksX7_init_0 23 rfl rfl
theorem dX7_init_0 : decode cX7_init 0 = .ok (.aload_n 0, 1) := dk_42 (dk_at dksX7_init_0 0 rfl rfl)
theorem dX7_init_1 : decode cX7_init 1 = .ok (.invokespecial 1, 3) := dk_183 0 1 (dk_at dksX7_init_0 1 rfl rfl)
theorem dX7_init_4 : decode cX7_init 4 = .ok (.aload_n 0, 1) := dk_42 (dk_at dksX7_init_0 4 rfl rfl)
theorem dX7_init_5 : decode cX7_init 5 = .ok (.bipush 8, 2) := dk_16 8 (dk_at dksX7_init_0 5 rfl rfl)
theorem dX7_init_7 : decode cX7_init 7 = .ok (.newarray .int, 2) := dk_188_10 (dk_at dksX7_init_0 7 rfl rfl)
theorem dX7_init_9 : decode cX7_init 9 = .ok (.putfield 7, 3) := dk_181 0 7 (dk_at dksX7_init_0 9 rfl rfl)
theorem dX7_init_12 : decode cX7_init 12 = .ok (.aload_n 0, 1) := dk_42 (dk_at dksX7_init_0 12 rfl rfl)
theorem dX7_init_13 : decode cX7_init 13 = .ok (.bipush 64, 2) := dk_16 64 (dk_at dksX7_init_0 13 rfl rfl)
theorem dX7_init_15 : decode cX7_init 15 = .ok (.newarray .int, 2) := dk_188_10 (dk_at dksX7_init_0 15 rfl rfl)
theorem dX7_init_17 : decode cX7_init 17 = .ok (.putfield 13, 3) := dk_181 0 13 (dk_at dksX7_init_0 17 rfl rfl)
theorem dX7_init_20 : decode cX7_init 20 = .ok (.aload_n 0, 1) := dk_42 (dk_at dksX7_init_0 20 rfl rfl)
theorem dX7_init_21 : decode cX7_init 21 = .ok (.bipush 8, 2) := dk_16 8 (dk_at dksX7_init_0 21 rfl rfl)
theorem dX7_init_23 : decode cX7_init 23 = .ok (.newarray .int, 2) := dk_188_10 (dk_at dksX7_init_1 0 rfl rfl)
theorem dX7_init_25 : decode cX7_init 25 = .ok (.putfield 16, 3) := dk_181 0 16 (dk_at dksX7_init_1 2 rfl rfl)
theorem dX7_init_28 : decode cX7_init 28 = .ok (.return_, 1) := dk_177 (dk_at dksX7_init_1 5 rfl rfl)
abbrev cX7_add : ByteArray := prog_7_method_3_code
def yX7_add : MethodName := ⟨RX7, "add", "(IIIII)V"⟩
def dkwX7_add_3 : List UInt8 := [3, 79, 42, 180, 0, 13, 16, 15, 17, 1, 160, 79, 42, 182, 0, 38, 177]
abbrev dktX7_add_3 : List UInt8 := dkwX7_add_3 ++ []
def dkwX7_add_2 : List UInt8 := [42, 180, 0, 13, 16, 12, 21, 5, 79, 42, 180, 0, 13, 16, 13, 18, 37, 79, 42, 180, 0, 13, 16, 14]
abbrev dktX7_add_2 : List UInt8 := dkwX7_add_2 ++ dktX7_add_3
def dkwX7_add_1 : List UInt8 := [180, 0, 13, 16, 9, 28, 79, 42, 180, 0, 13, 16, 10, 29, 79, 42, 180, 0, 13, 16, 11, 21, 4, 79]
abbrev dktX7_add_1 : List UInt8 := dkwX7_add_1 ++ dktX7_add_2
def dkwX7_add_0 : List UInt8 := [42, 180, 0, 16, 3, 42, 180, 0, 13, 3, 16, 8, 184, 0, 28, 42, 180, 0, 13, 16, 8, 27, 79, 42]
abbrev dktX7_add_0 : List UInt8 := dkwX7_add_0 ++ dktX7_add_1
theorem dksX7_add_0 : cX7_add.data.toList.drop 0 = dktX7_add_0 := by decide +kernel
theorem dksX7_add_1 : cX7_add.data.toList.drop 24 = dktX7_add_1 := dk_seg dksX7_add_0 24 rfl rfl
theorem dksX7_add_2 : cX7_add.data.toList.drop 48 = dktX7_add_2 := dk_seg dksX7_add_1 24 rfl rfl
theorem dksX7_add_3 : cX7_add.data.toList.drop 72 = dktX7_add_3 := dk_seg dksX7_add_2 24 rfl rfl
theorem dX7_add_0 : decode cX7_add 0 = .ok (.aload_n 0, 1) := dk_42 (dk_at dksX7_add_0 0 rfl rfl)
theorem dX7_add_1 : decode cX7_add 1 = .ok (.getfield 16, 3) := dk_180 0 16 (dk_at dksX7_add_0 1 rfl rfl)
theorem dX7_add_4 : decode cX7_add 4 = .ok (.iconst 0, 1) := dk_3 (dk_at dksX7_add_0 4 rfl rfl)
theorem dX7_add_5 : decode cX7_add 5 = .ok (.aload_n 0, 1) := dk_42 (dk_at dksX7_add_0 5 rfl rfl)
theorem dX7_add_6 : decode cX7_add 6 = .ok (.getfield 13, 3) := dk_180 0 13 (dk_at dksX7_add_0 6 rfl rfl)
theorem dX7_add_9 : decode cX7_add 9 = .ok (.iconst 0, 1) := dk_3 (dk_at dksX7_add_0 9 rfl rfl)
theorem dX7_add_10 : decode cX7_add 10 = .ok (.bipush 8, 2) := dk_16 8 (dk_at dksX7_add_0 10 rfl rfl)
theorem dX7_add_12 : decode cX7_add 12 = .ok (.invokestatic 28, 3) := dk_184 0 28 (dk_at dksX7_add_0 12 rfl rfl)
theorem dX7_add_15 : decode cX7_add 15 = .ok (.aload_n 0, 1) := dk_42 (dk_at dksX7_add_0 15 rfl rfl)
theorem dX7_add_16 : decode cX7_add 16 = .ok (.getfield 13, 3) := dk_180 0 13 (dk_at dksX7_add_0 16 rfl rfl)
theorem dX7_add_19 : decode cX7_add 19 = .ok (.bipush 8, 2) := dk_16 8 (dk_at dksX7_add_0 19 rfl rfl)
theorem dX7_add_21 : decode cX7_add 21 = .ok (.iload_n 1, 1) := dk_27 (dk_at dksX7_add_0 21 rfl rfl)
theorem dX7_add_22 : decode cX7_add 22 = .ok (.iastore, 1) := dk_79 (dk_at dksX7_add_0 22 rfl rfl)
theorem dX7_add_23 : decode cX7_add 23 = .ok (.aload_n 0, 1) := dk_42 (dk_at dksX7_add_0 23 rfl rfl)
theorem dX7_add_24 : decode cX7_add 24 = .ok (.getfield 13, 3) := dk_180 0 13 (dk_at dksX7_add_1 0 rfl rfl)
theorem dX7_add_27 : decode cX7_add 27 = .ok (.bipush 9, 2) := dk_16 9 (dk_at dksX7_add_1 3 rfl rfl)
theorem dX7_add_29 : decode cX7_add 29 = .ok (.iload_n 2, 1) := dk_28 (dk_at dksX7_add_1 5 rfl rfl)
theorem dX7_add_30 : decode cX7_add 30 = .ok (.iastore, 1) := dk_79 (dk_at dksX7_add_1 6 rfl rfl)
theorem dX7_add_31 : decode cX7_add 31 = .ok (.aload_n 0, 1) := dk_42 (dk_at dksX7_add_1 7 rfl rfl)
theorem dX7_add_32 : decode cX7_add 32 = .ok (.getfield 13, 3) := dk_180 0 13 (dk_at dksX7_add_1 8 rfl rfl)
theorem dX7_add_35 : decode cX7_add 35 = .ok (.bipush 10, 2) := dk_16 10 (dk_at dksX7_add_1 11 rfl rfl)
theorem dX7_add_37 : decode cX7_add 37 = .ok (.iload_n 3, 1) := dk_29 (dk_at dksX7_add_1 13 rfl rfl)
theorem dX7_add_38 : decode cX7_add 38 = .ok (.iastore, 1) := dk_79 (dk_at dksX7_add_1 14 rfl rfl)
theorem dX7_add_39 : decode cX7_add 39 = .ok (.aload_n 0, 1) := dk_42 (dk_at dksX7_add_1 15 rfl rfl)
theorem dX7_add_40 : decode cX7_add 40 = .ok (.getfield 13, 3) := dk_180 0 13 (dk_at dksX7_add_1 16 rfl rfl)
theorem dX7_add_43 : decode cX7_add 43 = .ok (.bipush 11, 2) := dk_16 11 (dk_at dksX7_add_1 19 rfl rfl)
theorem dX7_add_45 : decode cX7_add 45 = .ok (.iload 4, 2) := dk_21 4 (dk_at dksX7_add_1 21 rfl rfl)
theorem dX7_add_47 : decode cX7_add 47 = .ok (.iastore, 1) := dk_79 (dk_at dksX7_add_1 23 rfl rfl)
theorem dX7_add_48 : decode cX7_add 48 = .ok (.aload_n 0, 1) := dk_42 (dk_at dksX7_add_2 0 rfl rfl)
theorem dX7_add_49 : decode cX7_add 49 = .ok (.getfield 13, 3) := dk_180 0 13 (dk_at dksX7_add_2 1 rfl rfl)
theorem dX7_add_52 : decode cX7_add 52 = .ok (.bipush 12, 2) := dk_16 12 (dk_at dksX7_add_2 4 rfl rfl)
theorem dX7_add_54 : decode cX7_add 54 = .ok (.iload 5, 2) := dk_21 5 (dk_at dksX7_add_2 6 rfl rfl)
theorem dX7_add_56 : decode cX7_add 56 = .ok (.iastore, 1) := dk_79 (dk_at dksX7_add_2 8 rfl rfl)
theorem dX7_add_57 : decode cX7_add 57 = .ok (.aload_n 0, 1) := dk_42 (dk_at dksX7_add_2 9 rfl rfl)
theorem dX7_add_58 : decode cX7_add 58 = .ok (.getfield 13, 3) := dk_180 0 13 (dk_at dksX7_add_2 10 rfl rfl)
theorem dX7_add_61 : decode cX7_add 61 = .ok (.bipush 13, 2) := dk_16 13 (dk_at dksX7_add_2 13 rfl rfl)
theorem dX7_add_63 : decode cX7_add 63 = .ok (.ldc 37, 2) := dk_18 37 (dk_at dksX7_add_2 15 rfl rfl)
theorem dX7_add_65 : decode cX7_add 65 = .ok (.iastore, 1) := dk_79 (dk_at dksX7_add_2 17 rfl rfl)
theorem dX7_add_66 : decode cX7_add 66 = .ok (.aload_n 0, 1) := dk_42 (dk_at dksX7_add_2 18 rfl rfl)
theorem dX7_add_67 : decode cX7_add 67 = .ok (.getfield 13, 3) := dk_180 0 13 (dk_at dksX7_add_2 19 rfl rfl)
theorem dX7_add_70 : decode cX7_add 70 = .ok (.bipush 14, 2) := dk_16 14 (dk_at dksX7_add_2 22 rfl rfl)
theorem dX7_add_72 : decode cX7_add 72 = .ok (.iconst 0, 1) := dk_3 (dk_at dksX7_add_3 0 rfl rfl)
theorem dX7_add_73 : decode cX7_add 73 = .ok (.iastore, 1) := dk_79 (dk_at dksX7_add_3 1 rfl rfl)
theorem dX7_add_74 : decode cX7_add 74 = .ok (.aload_n 0, 1) := dk_42 (dk_at dksX7_add_3 2 rfl rfl)
theorem dX7_add_75 : decode cX7_add 75 = .ok (.getfield 13, 3) := dk_180 0 13 (dk_at dksX7_add_3 3 rfl rfl)
theorem dX7_add_78 : decode cX7_add 78 = .ok (.bipush 15, 2) := dk_16 15 (dk_at dksX7_add_3 6 rfl rfl)
theorem dX7_add_80 : decode cX7_add 80 = .ok (.sipush 416, 3) := dk_17 1 160 (dk_at dksX7_add_3 8 rfl rfl)
theorem dX7_add_83 : decode cX7_add 83 = .ok (.iastore, 1) := dk_79 (dk_at dksX7_add_3 11 rfl rfl)
theorem dX7_add_84 : decode cX7_add 84 = .ok (.aload_n 0, 1) := dk_42 (dk_at dksX7_add_3 12 rfl rfl)
theorem dX7_add_85 : decode cX7_add 85 = .ok (.invokevirtual 38, 3) := dk_182 0 38 (dk_at dksX7_add_3 13 rfl rfl)
theorem dX7_add_88 : decode cX7_add 88 = .ok (.return_, 1) := dk_177 (dk_at dksX7_add_3 16 rfl rfl)
abbrev cX7_round : ByteArray := prog_7_method_2_code
def yX7_round : MethodName := ⟨RX7, "round", "()V"⟩
def dkwX7_round_13 : List UInt8 := [180, 0, 16, 27, 178, 0, 25, 27, 46, 42, 180, 0, 7, 27, 46, 96, 79, 132, 1, 1, 167, 255, 229, 177]
abbrev dktX7_round_13 : List UInt8 := dkwX7_round_13 ++ []
def dkwX7_round_12 : List UInt8 := [3, 21, 4, 21, 5, 96, 79, 132, 1, 1, 167, 255, 79, 3, 60, 27, 16, 8, 162, 0, 27, 42]
abbrev dktX7_round_12 : List UInt8 := dkwX7_round_12 ++ dktX7_round_13
def dkwX7_round_11 : List UInt8 := [180, 0, 7, 4, 16, 7, 184, 0, 28, 42, 180, 0, 7, 7, 92, 46, 21, 4, 96, 79, 42, 180, 0, 7]
abbrev dktX7_round_11 : List UInt8 := dkwX7_round_11 ++ dktX7_round_12
def dkwX7_round_10 : List UInt8 := [42, 180, 0, 7, 4, 46, 42, 180, 0, 7, 5, 46, 126, 130, 96, 54, 5, 42, 180, 0, 7, 3, 42]
abbrev dktX7_round_10 : List UInt8 := dkwX7_round_10 ++ dktX7_round_11
def dkwX7_round_9 : List UInt8 := [29, 16, 22, 184, 0, 19, 130, 29, 42, 180, 0, 7, 4, 46, 126, 29, 42, 180, 0, 7, 5, 46, 126, 130]
abbrev dktX7_round_9 : List UInt8 := dkwX7_round_9 ++ dktX7_round_10
def dkwX7_round_8 : List UInt8 := [27, 46, 96, 42, 180, 0, 13, 27, 46, 96, 54, 4, 29, 5, 184, 0, 19, 29, 16, 13, 184, 0, 19, 130]
abbrev dktX7_round_8 : List UInt8 := dkwX7_round_8 ++ dktX7_round_9
def dkwX7_round_7 : List UInt8 := [28, 42, 180, 0, 7, 8, 46, 126, 28, 2, 130, 42, 180, 0, 7, 16, 6, 46, 126, 130, 96, 178, 0, 34]
abbrev dktX7_round_7 : List UInt8 := dkwX7_round_7 ++ dktX7_round_8
def dkwX7_round_6 : List UInt8 := [16, 7, 46, 28, 16, 6, 184, 0, 19, 28, 16, 11, 184, 0, 19, 130, 28, 16, 25, 184, 0, 19, 130, 96]
abbrev dktX7_round_6 : List UInt8 := dkwX7_round_6 ++ dktX7_round_7
def dkwX7_round_5 : List UInt8 := [27, 16, 64, 162, 0, 177, 42, 180, 0, 7, 7, 46, 61, 42, 180, 0, 7, 3, 46, 62, 42, 180, 0, 7]
abbrev dktX7_round_5 : List UInt8 := dkwX7_round_5 ++ dktX7_round_6
def dkwX7_round_4 : List UInt8 := [96, 79, 132, 1, 1, 167, 255, 158, 178, 0, 25, 3, 42, 180, 0, 7, 3, 16, 8, 184, 0, 28, 3, 60]
abbrev dktX7_round_4 : List UInt8 := dkwX7_round_4 ++ dktX7_round_5
def dkwX7_round_3 : List UInt8 := [42, 180, 0, 13, 27, 16, 16, 100, 46, 21, 4, 96, 42, 180, 0, 13, 27, 16, 7, 100, 46, 96, 21, 5]
abbrev dktX7_round_3 : List UInt8 := dkwX7_round_3 ++ dktX7_round_4
def dkwX7_round_2 : List UInt8 := [16, 17, 184, 0, 19, 29, 16, 19, 184, 0, 19, 130, 29, 16, 10, 124, 130, 54, 5, 42, 180, 0, 13, 27]
abbrev dktX7_round_2 : List UInt8 := dkwX7_round_2 ++ dktX7_round_3
def dkwX7_round_1 : List UInt8 := [5, 100, 46, 62, 28, 16, 7, 184, 0, 19, 28, 16, 18, 184, 0, 19, 130, 28, 6, 124, 130, 54, 4, 29]
abbrev dktX7_round_1 : List UInt8 := dkwX7_round_1 ++ dktX7_round_2
def dkwX7_round_0 : List UInt8 := [16, 16, 60, 27, 16, 64, 162, 0, 98, 42, 180, 0, 13, 27, 16, 15, 100, 46, 61, 42, 180, 0, 13, 27]
abbrev dktX7_round_0 : List UInt8 := dkwX7_round_0 ++ dktX7_round_1
theorem dksX7_round_0 : cX7_round.data.toList.drop 0 = dktX7_round_0 := by decide +kernel
theorem dksX7_round_1 : cX7_round.data.toList.drop 24 = dktX7_round_1 := dk_seg dksX7_round_0 24 rfl rfl
theorem dksX7_round_2 : cX7_round.data.toList.drop 48 = dktX7_round_2 := dk_seg dksX7_round_1 24 rfl rfl
theorem dksX7_round_3 : cX7_round.data.toList.drop 72 = dktX7_round_3 := dk_seg dksX7_round_2 24 rfl rfl
theorem dksX7_round_4 : cX7_round.data.toList.drop 96 = dktX7_round_4 := dk_seg dksX7_round_3 24 rfl rfl
theorem dksX7_round_5 : cX7_round.data.toList.drop 120 = dktX7_round_5 := dk_seg dksX7_round_4 24 rfl rfl
theorem dksX7_round_6 : cX7_round.data.toList.drop 144 = dktX7_round_6 := dk_seg dksX7_round_5 24 rfl rfl
theorem dksX7_round_7 : cX7_round.data.toList.drop 168 = dktX7_round_7 := dk_seg dksX7_round_6 24 rfl rfl
theorem dksX7_round_8 : cX7_round.data.toList.drop 192 = dktX7_round_8 := dk_seg dksX7_round_7 24 rfl rfl
theorem dksX7_round_9 : cX7_round.data.toList.drop 216 = dktX7_round_9 := dk_seg dksX7_round_8 24 rfl rfl
theorem dksX7_round_10 : cX7_round.data.toList.drop 240 = dktX7_round_10 := dk_seg dksX7_round_9 24 rfl rfl
theorem dksX7_round_11 : cX7_round.data.toList.drop 263 = dktX7_round_11 := dk_seg dksX7_round_10 23 rfl rfl
theorem dksX7_round_12 : cX7_round.data.toList.drop 287 = dktX7_round_12 := dk_seg dksX7_round_11 24 rfl rfl
theorem dksX7_round_13 : cX7_round.data.toList.drop 309 = dktX7_round_13 := dk_seg dksX7_round_12 22 rfl rfl
theorem dX7_round_0 : decode cX7_round 0 = .ok (.bipush 16, 2) := dk_16 16 (dk_at dksX7_round_0 0 rfl rfl)
theorem dX7_round_2 : decode cX7_round 2 = .ok (.istore_n 1, 1) := dk_60 (dk_at dksX7_round_0 2 rfl rfl)
theorem dX7_round_3 : decode cX7_round 3 = .ok (.iload_n 1, 1) := dk_27 (dk_at dksX7_round_0 3 rfl rfl)
theorem dX7_round_4 : decode cX7_round 4 = .ok (.bipush 64, 2) := dk_16 64 (dk_at dksX7_round_0 4 rfl rfl)
theorem dX7_round_6 : decode cX7_round 6 = .ok (.if_icmp .ge 98, 3) := dk_162 0 98 (dk_at dksX7_round_0 6 rfl rfl)
theorem dX7_round_9 : decode cX7_round 9 = .ok (.aload_n 0, 1) := dk_42 (dk_at dksX7_round_0 9 rfl rfl)
theorem dX7_round_10 : decode cX7_round 10 = .ok (.getfield 13, 3) := dk_180 0 13 (dk_at dksX7_round_0 10 rfl rfl)
theorem dX7_round_13 : decode cX7_round 13 = .ok (.iload_n 1, 1) := dk_27 (dk_at dksX7_round_0 13 rfl rfl)
theorem dX7_round_14 : decode cX7_round 14 = .ok (.bipush 15, 2) := dk_16 15 (dk_at dksX7_round_0 14 rfl rfl)
theorem dX7_round_16 : decode cX7_round 16 = .ok (.isub, 1) := dk_100 (dk_at dksX7_round_0 16 rfl rfl)
theorem dX7_round_17 : decode cX7_round 17 = .ok (.iaload, 1) := dk_46 (dk_at dksX7_round_0 17 rfl rfl)
theorem dX7_round_18 : decode cX7_round 18 = .ok (.istore_n 2, 1) := dk_61 (dk_at dksX7_round_0 18 rfl rfl)
theorem dX7_round_19 : decode cX7_round 19 = .ok (.aload_n 0, 1) := dk_42 (dk_at dksX7_round_0 19 rfl rfl)
theorem dX7_round_20 : decode cX7_round 20 = .ok (.getfield 13, 3) := dk_180 0 13 (dk_at dksX7_round_0 20 rfl rfl)
theorem dX7_round_23 : decode cX7_round 23 = .ok (.iload_n 1, 1) := dk_27 (dk_at dksX7_round_0 23 rfl rfl)
theorem dX7_round_24 : decode cX7_round 24 = .ok (.iconst 2, 1) := dk_5 (dk_at dksX7_round_1 0 rfl rfl)
theorem dX7_round_25 : decode cX7_round 25 = .ok (.isub, 1) := dk_100 (dk_at dksX7_round_1 1 rfl rfl)
theorem dX7_round_26 : decode cX7_round 26 = .ok (.iaload, 1) := dk_46 (dk_at dksX7_round_1 2 rfl rfl)
theorem dX7_round_27 : decode cX7_round 27 = .ok (.istore_n 3, 1) := dk_62 (dk_at dksX7_round_1 3 rfl rfl)
theorem dX7_round_28 : decode cX7_round 28 = .ok (.iload_n 2, 1) := dk_28 (dk_at dksX7_round_1 4 rfl rfl)
theorem dX7_round_29 : decode cX7_round 29 = .ok (.bipush 7, 2) := dk_16 7 (dk_at dksX7_round_1 5 rfl rfl)
theorem dX7_round_31 : decode cX7_round 31 = .ok (.invokestatic 19, 3) := dk_184 0 19 (dk_at dksX7_round_1 7 rfl rfl)
theorem dX7_round_34 : decode cX7_round 34 = .ok (.iload_n 2, 1) := dk_28 (dk_at dksX7_round_1 10 rfl rfl)
theorem dX7_round_35 : decode cX7_round 35 = .ok (.bipush 18, 2) := dk_16 18 (dk_at dksX7_round_1 11 rfl rfl)
theorem dX7_round_37 : decode cX7_round 37 = .ok (.invokestatic 19, 3) := dk_184 0 19 (dk_at dksX7_round_1 13 rfl rfl)
theorem dX7_round_40 : decode cX7_round 40 = .ok (.ixor, 1) := dk_130 (dk_at dksX7_round_1 16 rfl rfl)
theorem dX7_round_41 : decode cX7_round 41 = .ok (.iload_n 2, 1) := dk_28 (dk_at dksX7_round_1 17 rfl rfl)
theorem dX7_round_42 : decode cX7_round 42 = .ok (.iconst 3, 1) := dk_6 (dk_at dksX7_round_1 18 rfl rfl)
theorem dX7_round_43 : decode cX7_round 43 = .ok (.iushr, 1) := dk_124 (dk_at dksX7_round_1 19 rfl rfl)
theorem dX7_round_44 : decode cX7_round 44 = .ok (.ixor, 1) := dk_130 (dk_at dksX7_round_1 20 rfl rfl)
theorem dX7_round_45 : decode cX7_round 45 = .ok (.istore 4, 2) := dk_54 4 (dk_at dksX7_round_1 21 rfl rfl)
theorem dX7_round_47 : decode cX7_round 47 = .ok (.iload_n 3, 1) := dk_29 (dk_at dksX7_round_1 23 rfl rfl)
theorem dX7_round_48 : decode cX7_round 48 = .ok (.bipush 17, 2) := dk_16 17 (dk_at dksX7_round_2 0 rfl rfl)
theorem dX7_round_50 : decode cX7_round 50 = .ok (.invokestatic 19, 3) := dk_184 0 19 (dk_at dksX7_round_2 2 rfl rfl)
theorem dX7_round_53 : decode cX7_round 53 = .ok (.iload_n 3, 1) := dk_29 (dk_at dksX7_round_2 5 rfl rfl)
theorem dX7_round_54 : decode cX7_round 54 = .ok (.bipush 19, 2) := dk_16 19 (dk_at dksX7_round_2 6 rfl rfl)
theorem dX7_round_56 : decode cX7_round 56 = .ok (.invokestatic 19, 3) := dk_184 0 19 (dk_at dksX7_round_2 8 rfl rfl)
theorem dX7_round_59 : decode cX7_round 59 = .ok (.ixor, 1) := dk_130 (dk_at dksX7_round_2 11 rfl rfl)
theorem dX7_round_60 : decode cX7_round 60 = .ok (.iload_n 3, 1) := dk_29 (dk_at dksX7_round_2 12 rfl rfl)
theorem dX7_round_61 : decode cX7_round 61 = .ok (.bipush 10, 2) := dk_16 10 (dk_at dksX7_round_2 13 rfl rfl)
theorem dX7_round_63 : decode cX7_round 63 = .ok (.iushr, 1) := dk_124 (dk_at dksX7_round_2 15 rfl rfl)
theorem dX7_round_64 : decode cX7_round 64 = .ok (.ixor, 1) := dk_130 (dk_at dksX7_round_2 16 rfl rfl)
theorem dX7_round_65 : decode cX7_round 65 = .ok (.istore 5, 2) := dk_54 5 (dk_at dksX7_round_2 17 rfl rfl)
theorem dX7_round_67 : decode cX7_round 67 = .ok (.aload_n 0, 1) := dk_42 (dk_at dksX7_round_2 19 rfl rfl)
theorem dX7_round_68 : decode cX7_round 68 = .ok (.getfield 13, 3) := dk_180 0 13 (dk_at dksX7_round_2 20 rfl rfl)
theorem dX7_round_71 : decode cX7_round 71 = .ok (.iload_n 1, 1) := dk_27 (dk_at dksX7_round_2 23 rfl rfl)
theorem dX7_round_72 : decode cX7_round 72 = .ok (.aload_n 0, 1) := dk_42 (dk_at dksX7_round_3 0 rfl rfl)
theorem dX7_round_73 : decode cX7_round 73 = .ok (.getfield 13, 3) := dk_180 0 13 (dk_at dksX7_round_3 1 rfl rfl)
theorem dX7_round_76 : decode cX7_round 76 = .ok (.iload_n 1, 1) := dk_27 (dk_at dksX7_round_3 4 rfl rfl)
theorem dX7_round_77 : decode cX7_round 77 = .ok (.bipush 16, 2) := dk_16 16 (dk_at dksX7_round_3 5 rfl rfl)
theorem dX7_round_79 : decode cX7_round 79 = .ok (.isub, 1) := dk_100 (dk_at dksX7_round_3 7 rfl rfl)
theorem dX7_round_80 : decode cX7_round 80 = .ok (.iaload, 1) := dk_46 (dk_at dksX7_round_3 8 rfl rfl)
theorem dX7_round_81 : decode cX7_round 81 = .ok (.iload 4, 2) := dk_21 4 (dk_at dksX7_round_3 9 rfl rfl)
theorem dX7_round_83 : decode cX7_round 83 = .ok (.iadd, 1) := dk_96 (dk_at dksX7_round_3 11 rfl rfl)
theorem dX7_round_84 : decode cX7_round 84 = .ok (.aload_n 0, 1) := dk_42 (dk_at dksX7_round_3 12 rfl rfl)
theorem dX7_round_85 : decode cX7_round 85 = .ok (.getfield 13, 3) := dk_180 0 13 (dk_at dksX7_round_3 13 rfl rfl)
theorem dX7_round_88 : decode cX7_round 88 = .ok (.iload_n 1, 1) := dk_27 (dk_at dksX7_round_3 16 rfl rfl)
theorem dX7_round_89 : decode cX7_round 89 = .ok (.bipush 7, 2) := dk_16 7 (dk_at dksX7_round_3 17 rfl rfl)
theorem dX7_round_91 : decode cX7_round 91 = .ok (.isub, 1) := dk_100 (dk_at dksX7_round_3 19 rfl rfl)
theorem dX7_round_92 : decode cX7_round 92 = .ok (.iaload, 1) := dk_46 (dk_at dksX7_round_3 20 rfl rfl)
theorem dX7_round_93 : decode cX7_round 93 = .ok (.iadd, 1) := dk_96 (dk_at dksX7_round_3 21 rfl rfl)
theorem dX7_round_94 : decode cX7_round 94 = .ok (.iload 5, 2) := dk_21 5 (dk_at dksX7_round_3 22 rfl rfl)
theorem dX7_round_96 : decode cX7_round 96 = .ok (.iadd, 1) := dk_96 (dk_at dksX7_round_4 0 rfl rfl)
theorem dX7_round_97 : decode cX7_round 97 = .ok (.iastore, 1) := dk_79 (dk_at dksX7_round_4 1 rfl rfl)
theorem dX7_round_98 : decode cX7_round 98 = .ok (.iinc 1 1, 3) := dk_132 1 1 (dk_at dksX7_round_4 2 rfl rfl)
theorem dX7_round_101 : decode cX7_round 101 = .ok (.goto (-98), 3) := dk_167 255 158 (dk_at dksX7_round_4 5 rfl rfl)
theorem dX7_round_104 : decode cX7_round 104 = .ok (.getstatic 25, 3) := dk_178 0 25 (dk_at dksX7_round_4 8 rfl rfl)
theorem dX7_round_107 : decode cX7_round 107 = .ok (.iconst 0, 1) := dk_3 (dk_at dksX7_round_4 11 rfl rfl)
theorem dX7_round_108 : decode cX7_round 108 = .ok (.aload_n 0, 1) := dk_42 (dk_at dksX7_round_4 12 rfl rfl)
theorem dX7_round_109 : decode cX7_round 109 = .ok (.getfield 7, 3) := dk_180 0 7 (dk_at dksX7_round_4 13 rfl rfl)
theorem dX7_round_112 : decode cX7_round 112 = .ok (.iconst 0, 1) := dk_3 (dk_at dksX7_round_4 16 rfl rfl)
theorem dX7_round_113 : decode cX7_round 113 = .ok (.bipush 8, 2) := dk_16 8 (dk_at dksX7_round_4 17 rfl rfl)
theorem dX7_round_115 : decode cX7_round 115 = .ok (.invokestatic 28, 3) := dk_184 0 28 (dk_at dksX7_round_4 19 rfl rfl)
theorem dX7_round_118 : decode cX7_round 118 = .ok (.iconst 0, 1) := dk_3 (dk_at dksX7_round_4 22 rfl rfl)
theorem dX7_round_119 : decode cX7_round 119 = .ok (.istore_n 1, 1) := dk_60 (dk_at dksX7_round_4 23 rfl rfl)
theorem dX7_round_120 : decode cX7_round 120 = .ok (.iload_n 1, 1) := dk_27 (dk_at dksX7_round_5 0 rfl rfl)
theorem dX7_round_121 : decode cX7_round 121 = .ok (.bipush 64, 2) := dk_16 64 (dk_at dksX7_round_5 1 rfl rfl)
theorem dX7_round_123 : decode cX7_round 123 = .ok (.if_icmp .ge 177, 3) := dk_162 0 177 (dk_at dksX7_round_5 3 rfl rfl)
theorem dX7_round_126 : decode cX7_round 126 = .ok (.aload_n 0, 1) := dk_42 (dk_at dksX7_round_5 6 rfl rfl)
theorem dX7_round_127 : decode cX7_round 127 = .ok (.getfield 7, 3) := dk_180 0 7 (dk_at dksX7_round_5 7 rfl rfl)
theorem dX7_round_130 : decode cX7_round 130 = .ok (.iconst 4, 1) := dk_7 (dk_at dksX7_round_5 10 rfl rfl)
theorem dX7_round_131 : decode cX7_round 131 = .ok (.iaload, 1) := dk_46 (dk_at dksX7_round_5 11 rfl rfl)
theorem dX7_round_132 : decode cX7_round 132 = .ok (.istore_n 2, 1) := dk_61 (dk_at dksX7_round_5 12 rfl rfl)
theorem dX7_round_133 : decode cX7_round 133 = .ok (.aload_n 0, 1) := dk_42 (dk_at dksX7_round_5 13 rfl rfl)
theorem dX7_round_134 : decode cX7_round 134 = .ok (.getfield 7, 3) := dk_180 0 7 (dk_at dksX7_round_5 14 rfl rfl)
theorem dX7_round_137 : decode cX7_round 137 = .ok (.iconst 0, 1) := dk_3 (dk_at dksX7_round_5 17 rfl rfl)
theorem dX7_round_138 : decode cX7_round 138 = .ok (.iaload, 1) := dk_46 (dk_at dksX7_round_5 18 rfl rfl)
theorem dX7_round_139 : decode cX7_round 139 = .ok (.istore_n 3, 1) := dk_62 (dk_at dksX7_round_5 19 rfl rfl)
theorem dX7_round_140 : decode cX7_round 140 = .ok (.aload_n 0, 1) := dk_42 (dk_at dksX7_round_5 20 rfl rfl)
theorem dX7_round_141 : decode cX7_round 141 = .ok (.getfield 7, 3) := dk_180 0 7 (dk_at dksX7_round_5 21 rfl rfl)
theorem dX7_round_144 : decode cX7_round 144 = .ok (.bipush 7, 2) := dk_16 7 (dk_at dksX7_round_6 0 rfl rfl)
theorem dX7_round_146 : decode cX7_round 146 = .ok (.iaload, 1) := dk_46 (dk_at dksX7_round_6 2 rfl rfl)
theorem dX7_round_147 : decode cX7_round 147 = .ok (.iload_n 2, 1) := dk_28 (dk_at dksX7_round_6 3 rfl rfl)
theorem dX7_round_148 : decode cX7_round 148 = .ok (.bipush 6, 2) := dk_16 6 (dk_at dksX7_round_6 4 rfl rfl)
theorem dX7_round_150 : decode cX7_round 150 = .ok (.invokestatic 19, 3) := dk_184 0 19 (dk_at dksX7_round_6 6 rfl rfl)
theorem dX7_round_153 : decode cX7_round 153 = .ok (.iload_n 2, 1) := dk_28 (dk_at dksX7_round_6 9 rfl rfl)
theorem dX7_round_154 : decode cX7_round 154 = .ok (.bipush 11, 2) := dk_16 11 (dk_at dksX7_round_6 10 rfl rfl)
theorem dX7_round_156 : decode cX7_round 156 = .ok (.invokestatic 19, 3) := dk_184 0 19 (dk_at dksX7_round_6 12 rfl rfl)
theorem dX7_round_159 : decode cX7_round 159 = .ok (.ixor, 1) := dk_130 (dk_at dksX7_round_6 15 rfl rfl)
theorem dX7_round_160 : decode cX7_round 160 = .ok (.iload_n 2, 1) := dk_28 (dk_at dksX7_round_6 16 rfl rfl)
theorem dX7_round_161 : decode cX7_round 161 = .ok (.bipush 25, 2) := dk_16 25 (dk_at dksX7_round_6 17 rfl rfl)
theorem dX7_round_163 : decode cX7_round 163 = .ok (.invokestatic 19, 3) := dk_184 0 19 (dk_at dksX7_round_6 19 rfl rfl)
theorem dX7_round_166 : decode cX7_round 166 = .ok (.ixor, 1) := dk_130 (dk_at dksX7_round_6 22 rfl rfl)
theorem dX7_round_167 : decode cX7_round 167 = .ok (.iadd, 1) := dk_96 (dk_at dksX7_round_6 23 rfl rfl)
theorem dX7_round_168 : decode cX7_round 168 = .ok (.iload_n 2, 1) := dk_28 (dk_at dksX7_round_7 0 rfl rfl)
theorem dX7_round_169 : decode cX7_round 169 = .ok (.aload_n 0, 1) := dk_42 (dk_at dksX7_round_7 1 rfl rfl)
theorem dX7_round_170 : decode cX7_round 170 = .ok (.getfield 7, 3) := dk_180 0 7 (dk_at dksX7_round_7 2 rfl rfl)
theorem dX7_round_173 : decode cX7_round 173 = .ok (.iconst 5, 1) := dk_8 (dk_at dksX7_round_7 5 rfl rfl)
theorem dX7_round_174 : decode cX7_round 174 = .ok (.iaload, 1) := dk_46 (dk_at dksX7_round_7 6 rfl rfl)
theorem dX7_round_175 : decode cX7_round 175 = .ok (.iand, 1) := dk_126 (dk_at dksX7_round_7 7 rfl rfl)
theorem dX7_round_176 : decode cX7_round 176 = .ok (.iload_n 2, 1) := dk_28 (dk_at dksX7_round_7 8 rfl rfl)
theorem dX7_round_177 : decode cX7_round 177 = .ok (.iconst (-1), 1) := dk_2 (dk_at dksX7_round_7 9 rfl rfl)
theorem dX7_round_178 : decode cX7_round 178 = .ok (.ixor, 1) := dk_130 (dk_at dksX7_round_7 10 rfl rfl)
theorem dX7_round_179 : decode cX7_round 179 = .ok (.aload_n 0, 1) := dk_42 (dk_at dksX7_round_7 11 rfl rfl)
theorem dX7_round_180 : decode cX7_round 180 = .ok (.getfield 7, 3) := dk_180 0 7 (dk_at dksX7_round_7 12 rfl rfl)
theorem dX7_round_183 : decode cX7_round 183 = .ok (.bipush 6, 2) := dk_16 6 (dk_at dksX7_round_7 15 rfl rfl)
theorem dX7_round_185 : decode cX7_round 185 = .ok (.iaload, 1) := dk_46 (dk_at dksX7_round_7 17 rfl rfl)
theorem dX7_round_186 : decode cX7_round 186 = .ok (.iand, 1) := dk_126 (dk_at dksX7_round_7 18 rfl rfl)
theorem dX7_round_187 : decode cX7_round 187 = .ok (.ixor, 1) := dk_130 (dk_at dksX7_round_7 19 rfl rfl)
theorem dX7_round_188 : decode cX7_round 188 = .ok (.iadd, 1) := dk_96 (dk_at dksX7_round_7 20 rfl rfl)
theorem dX7_round_189 : decode cX7_round 189 = .ok (.getstatic 34, 3) := dk_178 0 34 (dk_at dksX7_round_7 21 rfl rfl)
theorem dX7_round_192 : decode cX7_round 192 = .ok (.iload_n 1, 1) := dk_27 (dk_at dksX7_round_8 0 rfl rfl)
theorem dX7_round_193 : decode cX7_round 193 = .ok (.iaload, 1) := dk_46 (dk_at dksX7_round_8 1 rfl rfl)
theorem dX7_round_194 : decode cX7_round 194 = .ok (.iadd, 1) := dk_96 (dk_at dksX7_round_8 2 rfl rfl)
theorem dX7_round_195 : decode cX7_round 195 = .ok (.aload_n 0, 1) := dk_42 (dk_at dksX7_round_8 3 rfl rfl)
theorem dX7_round_196 : decode cX7_round 196 = .ok (.getfield 13, 3) := dk_180 0 13 (dk_at dksX7_round_8 4 rfl rfl)
theorem dX7_round_199 : decode cX7_round 199 = .ok (.iload_n 1, 1) := dk_27 (dk_at dksX7_round_8 7 rfl rfl)
theorem dX7_round_200 : decode cX7_round 200 = .ok (.iaload, 1) := dk_46 (dk_at dksX7_round_8 8 rfl rfl)
theorem dX7_round_201 : decode cX7_round 201 = .ok (.iadd, 1) := dk_96 (dk_at dksX7_round_8 9 rfl rfl)
theorem dX7_round_202 : decode cX7_round 202 = .ok (.istore 4, 2) := dk_54 4 (dk_at dksX7_round_8 10 rfl rfl)
theorem dX7_round_204 : decode cX7_round 204 = .ok (.iload_n 3, 1) := dk_29 (dk_at dksX7_round_8 12 rfl rfl)
theorem dX7_round_205 : decode cX7_round 205 = .ok (.iconst 2, 1) := dk_5 (dk_at dksX7_round_8 13 rfl rfl)
theorem dX7_round_206 : decode cX7_round 206 = .ok (.invokestatic 19, 3) := dk_184 0 19 (dk_at dksX7_round_8 14 rfl rfl)
theorem dX7_round_209 : decode cX7_round 209 = .ok (.iload_n 3, 1) := dk_29 (dk_at dksX7_round_8 17 rfl rfl)
theorem dX7_round_210 : decode cX7_round 210 = .ok (.bipush 13, 2) := dk_16 13 (dk_at dksX7_round_8 18 rfl rfl)
theorem dX7_round_212 : decode cX7_round 212 = .ok (.invokestatic 19, 3) := dk_184 0 19 (dk_at dksX7_round_8 20 rfl rfl)
theorem dX7_round_215 : decode cX7_round 215 = .ok (.ixor, 1) := dk_130 (dk_at dksX7_round_8 23 rfl rfl)
theorem dX7_round_216 : decode cX7_round 216 = .ok (.iload_n 3, 1) := dk_29 (dk_at dksX7_round_9 0 rfl rfl)
theorem dX7_round_217 : decode cX7_round 217 = .ok (.bipush 22, 2) := dk_16 22 (dk_at dksX7_round_9 1 rfl rfl)
theorem dX7_round_219 : decode cX7_round 219 = .ok (.invokestatic 19, 3) := dk_184 0 19 (dk_at dksX7_round_9 3 rfl rfl)
theorem dX7_round_222 : decode cX7_round 222 = .ok (.ixor, 1) := dk_130 (dk_at dksX7_round_9 6 rfl rfl)
theorem dX7_round_223 : decode cX7_round 223 = .ok (.iload_n 3, 1) := dk_29 (dk_at dksX7_round_9 7 rfl rfl)
theorem dX7_round_224 : decode cX7_round 224 = .ok (.aload_n 0, 1) := dk_42 (dk_at dksX7_round_9 8 rfl rfl)
theorem dX7_round_225 : decode cX7_round 225 = .ok (.getfield 7, 3) := dk_180 0 7 (dk_at dksX7_round_9 9 rfl rfl)
theorem dX7_round_228 : decode cX7_round 228 = .ok (.iconst 1, 1) := dk_4 (dk_at dksX7_round_9 12 rfl rfl)
theorem dX7_round_229 : decode cX7_round 229 = .ok (.iaload, 1) := dk_46 (dk_at dksX7_round_9 13 rfl rfl)
theorem dX7_round_230 : decode cX7_round 230 = .ok (.iand, 1) := dk_126 (dk_at dksX7_round_9 14 rfl rfl)
theorem dX7_round_231 : decode cX7_round 231 = .ok (.iload_n 3, 1) := dk_29 (dk_at dksX7_round_9 15 rfl rfl)
theorem dX7_round_232 : decode cX7_round 232 = .ok (.aload_n 0, 1) := dk_42 (dk_at dksX7_round_9 16 rfl rfl)
theorem dX7_round_233 : decode cX7_round 233 = .ok (.getfield 7, 3) := dk_180 0 7 (dk_at dksX7_round_9 17 rfl rfl)
theorem dX7_round_236 : decode cX7_round 236 = .ok (.iconst 2, 1) := dk_5 (dk_at dksX7_round_9 20 rfl rfl)
theorem dX7_round_237 : decode cX7_round 237 = .ok (.iaload, 1) := dk_46 (dk_at dksX7_round_9 21 rfl rfl)
theorem dX7_round_238 : decode cX7_round 238 = .ok (.iand, 1) := dk_126 (dk_at dksX7_round_9 22 rfl rfl)
theorem dX7_round_239 : decode cX7_round 239 = .ok (.ixor, 1) := dk_130 (dk_at dksX7_round_9 23 rfl rfl)
theorem dX7_round_240 : decode cX7_round 240 = .ok (.aload_n 0, 1) := dk_42 (dk_at dksX7_round_10 0 rfl rfl)
theorem dX7_round_241 : decode cX7_round 241 = .ok (.getfield 7, 3) := dk_180 0 7 (dk_at dksX7_round_10 1 rfl rfl)
theorem dX7_round_244 : decode cX7_round 244 = .ok (.iconst 1, 1) := dk_4 (dk_at dksX7_round_10 4 rfl rfl)
theorem dX7_round_245 : decode cX7_round 245 = .ok (.iaload, 1) := dk_46 (dk_at dksX7_round_10 5 rfl rfl)
theorem dX7_round_246 : decode cX7_round 246 = .ok (.aload_n 0, 1) := dk_42 (dk_at dksX7_round_10 6 rfl rfl)
theorem dX7_round_247 : decode cX7_round 247 = .ok (.getfield 7, 3) := dk_180 0 7 (dk_at dksX7_round_10 7 rfl rfl)
theorem dX7_round_250 : decode cX7_round 250 = .ok (.iconst 2, 1) := dk_5 (dk_at dksX7_round_10 10 rfl rfl)
theorem dX7_round_251 : decode cX7_round 251 = .ok (.iaload, 1) := dk_46 (dk_at dksX7_round_10 11 rfl rfl)
theorem dX7_round_252 : decode cX7_round 252 = .ok (.iand, 1) := dk_126 (dk_at dksX7_round_10 12 rfl rfl)
theorem dX7_round_253 : decode cX7_round 253 = .ok (.ixor, 1) := dk_130 (dk_at dksX7_round_10 13 rfl rfl)
theorem dX7_round_254 : decode cX7_round 254 = .ok (.iadd, 1) := dk_96 (dk_at dksX7_round_10 14 rfl rfl)
theorem dX7_round_255 : decode cX7_round 255 = .ok (.istore 5, 2) := dk_54 5 (dk_at dksX7_round_10 15 rfl rfl)
theorem dX7_round_257 : decode cX7_round 257 = .ok (.aload_n 0, 1) := dk_42 (dk_at dksX7_round_10 17 rfl rfl)
theorem dX7_round_258 : decode cX7_round 258 = .ok (.getfield 7, 3) := dk_180 0 7 (dk_at dksX7_round_10 18 rfl rfl)
theorem dX7_round_261 : decode cX7_round 261 = .ok (.iconst 0, 1) := dk_3 (dk_at dksX7_round_10 21 rfl rfl)
theorem dX7_round_262 : decode cX7_round 262 = .ok (.aload_n 0, 1) := dk_42 (dk_at dksX7_round_10 22 rfl rfl)
theorem dX7_round_263 : decode cX7_round 263 = .ok (.getfield 7, 3) := dk_180 0 7 (dk_at dksX7_round_11 0 rfl rfl)
theorem dX7_round_266 : decode cX7_round 266 = .ok (.iconst 1, 1) := dk_4 (dk_at dksX7_round_11 3 rfl rfl)
theorem dX7_round_267 : decode cX7_round 267 = .ok (.bipush 7, 2) := dk_16 7 (dk_at dksX7_round_11 4 rfl rfl)
theorem dX7_round_269 : decode cX7_round 269 = .ok (.invokestatic 28, 3) := dk_184 0 28 (dk_at dksX7_round_11 6 rfl rfl)
theorem dX7_round_272 : decode cX7_round 272 = .ok (.aload_n 0, 1) := dk_42 (dk_at dksX7_round_11 9 rfl rfl)
theorem dX7_round_273 : decode cX7_round 273 = .ok (.getfield 7, 3) := dk_180 0 7 (dk_at dksX7_round_11 10 rfl rfl)
theorem dX7_round_276 : decode cX7_round 276 = .ok (.iconst 4, 1) := dk_7 (dk_at dksX7_round_11 13 rfl rfl)
theorem dX7_round_277 : decode cX7_round 277 = .ok (.dup2, 1) := dk_92 (dk_at dksX7_round_11 14 rfl rfl)
theorem dX7_round_278 : decode cX7_round 278 = .ok (.iaload, 1) := dk_46 (dk_at dksX7_round_11 15 rfl rfl)
theorem dX7_round_279 : decode cX7_round 279 = .ok (.iload 4, 2) := dk_21 4 (dk_at dksX7_round_11 16 rfl rfl)
theorem dX7_round_281 : decode cX7_round 281 = .ok (.iadd, 1) := dk_96 (dk_at dksX7_round_11 18 rfl rfl)
theorem dX7_round_282 : decode cX7_round 282 = .ok (.iastore, 1) := dk_79 (dk_at dksX7_round_11 19 rfl rfl)
theorem dX7_round_283 : decode cX7_round 283 = .ok (.aload_n 0, 1) := dk_42 (dk_at dksX7_round_11 20 rfl rfl)
theorem dX7_round_284 : decode cX7_round 284 = .ok (.getfield 7, 3) := dk_180 0 7 (dk_at dksX7_round_11 21 rfl rfl)
theorem dX7_round_287 : decode cX7_round 287 = .ok (.iconst 0, 1) := dk_3 (dk_at dksX7_round_12 0 rfl rfl)
theorem dX7_round_288 : decode cX7_round 288 = .ok (.iload 4, 2) := dk_21 4 (dk_at dksX7_round_12 1 rfl rfl)
theorem dX7_round_290 : decode cX7_round 290 = .ok (.iload 5, 2) := dk_21 5 (dk_at dksX7_round_12 3 rfl rfl)
theorem dX7_round_292 : decode cX7_round 292 = .ok (.iadd, 1) := dk_96 (dk_at dksX7_round_12 5 rfl rfl)
theorem dX7_round_293 : decode cX7_round 293 = .ok (.iastore, 1) := dk_79 (dk_at dksX7_round_12 6 rfl rfl)
theorem dX7_round_294 : decode cX7_round 294 = .ok (.iinc 1 1, 3) := dk_132 1 1 (dk_at dksX7_round_12 7 rfl rfl)
theorem dX7_round_297 : decode cX7_round 297 = .ok (.goto (-177), 3) := dk_167 255 79 (dk_at dksX7_round_12 10 rfl rfl)
theorem dX7_round_300 : decode cX7_round 300 = .ok (.iconst 0, 1) := dk_3 (dk_at dksX7_round_12 13 rfl rfl)
theorem dX7_round_301 : decode cX7_round 301 = .ok (.istore_n 1, 1) := dk_60 (dk_at dksX7_round_12 14 rfl rfl)
theorem dX7_round_302 : decode cX7_round 302 = .ok (.iload_n 1, 1) := dk_27 (dk_at dksX7_round_12 15 rfl rfl)
theorem dX7_round_303 : decode cX7_round 303 = .ok (.bipush 8, 2) := dk_16 8 (dk_at dksX7_round_12 16 rfl rfl)
theorem dX7_round_305 : decode cX7_round 305 = .ok (.if_icmp .ge 27, 3) := dk_162 0 27 (dk_at dksX7_round_12 18 rfl rfl)
theorem dX7_round_308 : decode cX7_round 308 = .ok (.aload_n 0, 1) := dk_42 (dk_at dksX7_round_12 21 rfl rfl)
theorem dX7_round_309 : decode cX7_round 309 = .ok (.getfield 16, 3) := dk_180 0 16 (dk_at dksX7_round_13 0 rfl rfl)
theorem dX7_round_312 : decode cX7_round 312 = .ok (.iload_n 1, 1) := dk_27 (dk_at dksX7_round_13 3 rfl rfl)
theorem dX7_round_313 : decode cX7_round 313 = .ok (.getstatic 25, 3) := dk_178 0 25 (dk_at dksX7_round_13 4 rfl rfl)
theorem dX7_round_316 : decode cX7_round 316 = .ok (.iload_n 1, 1) := dk_27 (dk_at dksX7_round_13 7 rfl rfl)
theorem dX7_round_317 : decode cX7_round 317 = .ok (.iaload, 1) := dk_46 (dk_at dksX7_round_13 8 rfl rfl)
theorem dX7_round_318 : decode cX7_round 318 = .ok (.aload_n 0, 1) := dk_42 (dk_at dksX7_round_13 9 rfl rfl)
theorem dX7_round_319 : decode cX7_round 319 = .ok (.getfield 7, 3) := dk_180 0 7 (dk_at dksX7_round_13 10 rfl rfl)
theorem dX7_round_322 : decode cX7_round 322 = .ok (.iload_n 1, 1) := dk_27 (dk_at dksX7_round_13 13 rfl rfl)
theorem dX7_round_323 : decode cX7_round 323 = .ok (.iaload, 1) := dk_46 (dk_at dksX7_round_13 14 rfl rfl)
theorem dX7_round_324 : decode cX7_round 324 = .ok (.iadd, 1) := dk_96 (dk_at dksX7_round_13 15 rfl rfl)
theorem dX7_round_325 : decode cX7_round 325 = .ok (.iastore, 1) := dk_79 (dk_at dksX7_round_13 16 rfl rfl)
theorem dX7_round_326 : decode cX7_round 326 = .ok (.iinc 1 1, 3) := dk_132 1 1 (dk_at dksX7_round_13 17 rfl rfl)
theorem dX7_round_329 : decode cX7_round 329 = .ok (.goto (-27), 3) := dk_167 255 229 (dk_at dksX7_round_13 20 rfl rfl)
theorem dX7_round_332 : decode cX7_round 332 = .ok (.return_, 1) := dk_177 (dk_at dksX7_round_13 23 rfl rfl)
abbrev cX7_at : ByteArray := prog_7_method_4_code
def yX7_at : MethodName := ⟨RX7, "at", "(I)I"⟩
def dkwX7_at_0 : List UInt8 := [42, 180, 0, 16, 27, 7, 108, 46, 16, 24, 16, 8, 27, 7, 112, 104, 100, 122, 17, 0, 255, 126, 172]
abbrev dktX7_at_0 : List UInt8 := dkwX7_at_0 ++ []
theorem dksX7_at_0 : cX7_at.data.toList.drop 0 = dktX7_at_0 := by decide +kernel
theorem dX7_at_0 : decode cX7_at 0 = .ok (.aload_n 0, 1) := dk_42 (dk_at dksX7_at_0 0 rfl rfl)
theorem dX7_at_1 : decode cX7_at 1 = .ok (.getfield 16, 3) := dk_180 0 16 (dk_at dksX7_at_0 1 rfl rfl)
theorem dX7_at_4 : decode cX7_at 4 = .ok (.iload_n 1, 1) := dk_27 (dk_at dksX7_at_0 4 rfl rfl)
theorem dX7_at_5 : decode cX7_at 5 = .ok (.iconst 4, 1) := dk_7 (dk_at dksX7_at_0 5 rfl rfl)
theorem dX7_at_6 : decode cX7_at 6 = .ok (.idiv, 1) := dk_108 (dk_at dksX7_at_0 6 rfl rfl)
theorem dX7_at_7 : decode cX7_at 7 = .ok (.iaload, 1) := dk_46 (dk_at dksX7_at_0 7 rfl rfl)
theorem dX7_at_8 : decode cX7_at 8 = .ok (.bipush 24, 2) := dk_16 24 (dk_at dksX7_at_0 8 rfl rfl)
theorem dX7_at_10 : decode cX7_at 10 = .ok (.bipush 8, 2) := dk_16 8 (dk_at dksX7_at_0 10 rfl rfl)
theorem dX7_at_12 : decode cX7_at 12 = .ok (.iload_n 1, 1) := dk_27 (dk_at dksX7_at_0 12 rfl rfl)
theorem dX7_at_13 : decode cX7_at 13 = .ok (.iconst 4, 1) := dk_7 (dk_at dksX7_at_0 13 rfl rfl)
theorem dX7_at_14 : decode cX7_at 14 = .ok (.irem, 1) := dk_112 (dk_at dksX7_at_0 14 rfl rfl)
theorem dX7_at_15 : decode cX7_at 15 = .ok (.imul, 1) := dk_104 (dk_at dksX7_at_0 15 rfl rfl)
theorem dX7_at_16 : decode cX7_at 16 = .ok (.isub, 1) := dk_100 (dk_at dksX7_at_0 16 rfl rfl)
theorem dX7_at_17 : decode cX7_at 17 = .ok (.ishr, 1) := dk_122 (dk_at dksX7_at_0 17 rfl rfl)
theorem dX7_at_18 : decode cX7_at 18 = .ok (.sipush 255, 3) := dk_17 0 255 (dk_at dksX7_at_0 18 rfl rfl)
theorem dX7_at_21 : decode cX7_at 21 = .ok (.iand, 1) := dk_126 (dk_at dksX7_at_0 21 rfl rfl)
theorem dX7_at_22 : decode cX7_at 22 = .ok (.ireturn, 1) := dk_172 (dk_at dksX7_at_0 22 rfl rfl)
theorem q292 : (Jvm.Cond.initialized "ElectionHouse$Digests") ∈ lw_all := lw_g (lw_at lw_m1 11 rfl) rfl
theorem q683 : (Jvm.Cond.instantiable "ElectionHouse$Digests" (3 : Nat)) ∈ lw_all := lw_g (lw_at lw_m2 162 rfl) rfl
theorem q685 : (Jvm.Cond.instanceMethod ({ cls := "ElectionHouse$Digests", name := "<init>", desc := "()V" } : Jvm.MethodName)) ∈ lw_all := lw_g (lw_at lw_m2 164 rfl) rfl
theorem q686 : (Jvm.Cond.code ({ cls := "ElectionHouse$Digests", name := "<init>", desc := "()V" } : Jvm.MethodName) prog_7_method_1_code (1 : Nat) (Option.none : Option Jvm.ClassFile.FieldType)) ∈ lw_all := lw_g (lw_at lw_m2 165 rfl) rfl
theorem q687 : (Jvm.Cond.methodLink "ElectionHouse$Digests" (1 : Nat) ({ cls := "java/lang/Object", name := "<init>", desc := "()V" } : Jvm.MethodName)) ∈ lw_all := lw_g (lw_at lw_m2 166 rfl) rfl
theorem q688 : (Jvm.Cond.fieldLink "ElectionHouse$Digests" (7 : Nat) "ElectionHouse$Digests" "v" "[I") ∈ lw_all := lw_g (lw_at lw_m2 167 rfl) rfl
theorem q689 : (Jvm.Cond.fieldLink "ElectionHouse$Digests" (13 : Nat) "ElectionHouse$Digests" "w" "[I") ∈ lw_all := lw_g (lw_at lw_m2 168 rfl) rfl
theorem q690 : (Jvm.Cond.fieldLink "ElectionHouse$Digests" (16 : Nat) "ElectionHouse$Digests" "head" "[I") ∈ lw_all := lw_g (lw_at lw_m2 169 rfl) rfl
theorem q691 : (Jvm.Cond.laysFinal "ElectionHouse$Digests" "ElectionHouse$Digests" "v" "[I") ∈ lw_all := lw_g (lw_at lw_m2 170 rfl) rfl
theorem q692 : (Jvm.Cond.soleField "ElectionHouse$Digests" "v") ∈ lw_all := lw_g (lw_at lw_m2 171 rfl) rfl
theorem q693 : (Jvm.Cond.laysFinal "ElectionHouse$Digests" "ElectionHouse$Digests" "w" "[I") ∈ lw_all := lw_g (lw_at lw_m2 172 rfl) rfl
theorem q694 : (Jvm.Cond.soleField "ElectionHouse$Digests" "w") ∈ lw_all := lw_g (lw_at lw_m2 173 rfl) rfl
theorem q695 : (Jvm.Cond.laysFinal "ElectionHouse$Digests" "ElectionHouse$Digests" "head" "[I") ∈ lw_all := lw_g (lw_at lw_m2 174 rfl) rfl
theorem q696 : (Jvm.Cond.soleField "ElectionHouse$Digests" "head") ∈ lw_all := lw_g (lw_at lw_m2 175 rfl) rfl
theorem q697 : (Jvm.Cond.superclass "ElectionHouse$Digests" "java/lang/Object") ∈ lw_all := lw_g (lw_at lw_m2 176 rfl) rfl
theorem q1151 : (Jvm.Cond.instanceMethod ({ cls := "ElectionHouse$Digests", name := "add", desc := "(IIIII)V" } : Jvm.MethodName)) ∈ lw_all := lw_g (lw_at lw_m4 150 rfl) rfl
theorem q1152 : (Jvm.Cond.selects "ElectionHouse$Digests" ({ cls := "ElectionHouse$Digests", name := "add", desc := "(IIIII)V" } : Jvm.MethodName) ({ cls := "ElectionHouse$Digests", name := "add", desc := "(IIIII)V" } : Jvm.MethodName)) ∈ lw_all := lw_g (lw_at lw_m4 151 rfl) rfl
theorem q1153 : (Jvm.Cond.code ({ cls := "ElectionHouse$Digests", name := "add", desc := "(IIIII)V" } : Jvm.MethodName) prog_7_method_3_code (6 : Nat) (Option.none : Option Jvm.ClassFile.FieldType)) ∈ lw_all := lw_g (lw_at lw_m4 152 rfl) rfl
theorem q1154 : (Jvm.Cond.methodLink "ElectionHouse$Digests" (28 : Nat) ({ cls := "java/lang/System", name := "arraycopy", desc := "(Ljava/lang/Object;ILjava/lang/Object;II)V" } : Jvm.MethodName)) ∈ lw_all := lw_g (lw_at lw_m4 153 rfl) rfl
theorem q1157 : (Jvm.Cond.constant "ElectionHouse$Digests" (37 : Nat) (-2147483648 : Int32)) ∈ lw_all := lw_g (lw_at lw_m4 156 rfl) rfl
theorem q1158 : (Jvm.Cond.methodLink "ElectionHouse$Digests" (38 : Nat) ({ cls := "ElectionHouse$Digests", name := "round", desc := "()V" } : Jvm.MethodName)) ∈ lw_all := lw_g (lw_at lw_m4 157 rfl) rfl
theorem q1159 : (Jvm.Cond.privateMethod ({ cls := "ElectionHouse$Digests", name := "round", desc := "()V" } : Jvm.MethodName)) ∈ lw_tbl := lw_at lw_m4 158 rfl
theorem q1160 : (Jvm.Cond.instanceMethod ({ cls := "ElectionHouse$Digests", name := "round", desc := "()V" } : Jvm.MethodName)) ∈ lw_all := lw_g (lw_at lw_m4 159 rfl) rfl
theorem q1161 : (Jvm.Cond.code ({ cls := "ElectionHouse$Digests", name := "round", desc := "()V" } : Jvm.MethodName) prog_7_method_2_code (6 : Nat) (Option.none : Option Jvm.ClassFile.FieldType)) ∈ lw_all := lw_g (lw_at lw_m4 160 rfl) rfl
theorem q1162 : (Jvm.Cond.methodLink "ElectionHouse$Digests" (19 : Nat) ({ cls := "java/lang/Integer", name := "rotateRight", desc := "(II)I" } : Jvm.MethodName)) ∈ lw_all := lw_g (lw_at lw_m4 161 rfl) rfl
theorem q1165 : (Jvm.Cond.fieldLink "ElectionHouse$Digests" (25 : Nat) "ElectionHouse$Digests" "BEGIN" "[I") ∈ lw_all := lw_g (lw_at lw_m4 164 rfl) rfl
theorem q1166 : (Jvm.Cond.laysStatic "ElectionHouse$Digests" "BEGIN" "[I") ∈ lw_tbl := lw_at lw_m4 165 rfl
theorem q1167 : (Jvm.Cond.fieldLink "ElectionHouse$Digests" (34 : Nat) "ElectionHouse$Digests" "K" "[I") ∈ lw_all := lw_g (lw_at lw_m4 166 rfl) rfl
theorem q1168 : (Jvm.Cond.laysStatic "ElectionHouse$Digests" "K" "[I") ∈ lw_tbl := lw_at lw_m4 167 rfl
theorem q2402 : (Jvm.Cond.instanceMethod ({ cls := "ElectionHouse$Digests", name := "at", desc := "(I)I" } : Jvm.MethodName)) ∈ lw_all := lw_g (lw_at lw_m9 201 rfl) rfl
theorem q2403 : (Jvm.Cond.selects "ElectionHouse$Digests" ({ cls := "ElectionHouse$Digests", name := "at", desc := "(I)I" } : Jvm.MethodName) ({ cls := "ElectionHouse$Digests", name := "at", desc := "(I)I" } : Jvm.MethodName)) ∈ lw_all := lw_g (lw_at lw_m9 202 rfl) rfl
theorem q2404 : (Jvm.Cond.code ({ cls := "ElectionHouse$Digests", name := "at", desc := "(I)I" } : Jvm.MethodName) prog_7_method_4_code (2 : Nat) (Option.some Jvm.ClassFile.FieldType.int)) ∈ lw_all := lw_g (lw_at lw_m9 203 rfl) rfl
theorem in_X7 : ∀ w ∈ wsX70, w ∈ lw_all := lw_in wsX70 [691, 693, 695] (by decide +kernel) (by decide +kernel)

set_option maxRecDepth 100000
abbrev cX9_init : ByteArray := prog_4_method_1_code
def yX9_init : MethodName := ⟨RX9, "<init>", "()V"⟩
def dkwX9_init_2 : List UInt8 := [188, 10, 181, 0, 28, 42, 16, 9, 188, 10, 181, 0, 31, 177]
abbrev dktX9_init_2 : List UInt8 := dkwX9_init_2 ++ []
def dkwX9_init_1 : List UInt8 := [188, 10, 181, 0, 18, 42, 16, 9, 188, 10, 181, 0, 21, 42, 16, 9, 188, 4, 181, 0, 24, 42, 16, 9]
abbrev dktX9_init_1 : List UInt8 := dkwX9_init_1 ++ dktX9_init_2
def dkwX9_init_0 : List UInt8 := [42, 183, 0, 3, 42, 16, 9, 188, 10, 181, 0, 9, 42, 16, 9, 188, 10, 181, 0, 15, 42, 16, 9]
abbrev dktX9_init_0 : List UInt8 := dkwX9_init_0 ++ dktX9_init_1
theorem dksX9_init_0 : cX9_init.data.toList.drop 0 = dktX9_init_0 := by decide +kernel
theorem dksX9_init_1 : cX9_init.data.toList.drop 23 = dktX9_init_1 := dk_seg dksX9_init_0 23 rfl rfl
theorem dksX9_init_2 : cX9_init.data.toList.drop 47 = dktX9_init_2 := dk_seg dksX9_init_1 24 rfl rfl
theorem dX9_init_0 : decode cX9_init 0 = .ok (.aload_n 0, 1) := dk_42 (dk_at dksX9_init_0 0 rfl rfl)
theorem dX9_init_1 : decode cX9_init 1 = .ok (.invokespecial 3, 3) := dk_183 0 3 (dk_at dksX9_init_0 1 rfl rfl)
theorem dX9_init_4 : decode cX9_init 4 = .ok (.aload_n 0, 1) := dk_42 (dk_at dksX9_init_0 4 rfl rfl)
theorem dX9_init_5 : decode cX9_init 5 = .ok (.bipush 9, 2) := dk_16 9 (dk_at dksX9_init_0 5 rfl rfl)
theorem dX9_init_7 : decode cX9_init 7 = .ok (.newarray .int, 2) := dk_188_10 (dk_at dksX9_init_0 7 rfl rfl)
theorem dX9_init_9 : decode cX9_init 9 = .ok (.putfield 9, 3) := dk_181 0 9 (dk_at dksX9_init_0 9 rfl rfl)
theorem dX9_init_12 : decode cX9_init 12 = .ok (.aload_n 0, 1) := dk_42 (dk_at dksX9_init_0 12 rfl rfl)
theorem dX9_init_13 : decode cX9_init 13 = .ok (.bipush 9, 2) := dk_16 9 (dk_at dksX9_init_0 13 rfl rfl)
theorem dX9_init_15 : decode cX9_init 15 = .ok (.newarray .int, 2) := dk_188_10 (dk_at dksX9_init_0 15 rfl rfl)
theorem dX9_init_17 : decode cX9_init 17 = .ok (.putfield 15, 3) := dk_181 0 15 (dk_at dksX9_init_0 17 rfl rfl)
theorem dX9_init_20 : decode cX9_init 20 = .ok (.aload_n 0, 1) := dk_42 (dk_at dksX9_init_0 20 rfl rfl)
theorem dX9_init_21 : decode cX9_init 21 = .ok (.bipush 9, 2) := dk_16 9 (dk_at dksX9_init_0 21 rfl rfl)
theorem dX9_init_23 : decode cX9_init 23 = .ok (.newarray .int, 2) := dk_188_10 (dk_at dksX9_init_1 0 rfl rfl)
theorem dX9_init_25 : decode cX9_init 25 = .ok (.putfield 18, 3) := dk_181 0 18 (dk_at dksX9_init_1 2 rfl rfl)
theorem dX9_init_28 : decode cX9_init 28 = .ok (.aload_n 0, 1) := dk_42 (dk_at dksX9_init_1 5 rfl rfl)
theorem dX9_init_29 : decode cX9_init 29 = .ok (.bipush 9, 2) := dk_16 9 (dk_at dksX9_init_1 6 rfl rfl)
theorem dX9_init_31 : decode cX9_init 31 = .ok (.newarray .int, 2) := dk_188_10 (dk_at dksX9_init_1 8 rfl rfl)
theorem dX9_init_33 : decode cX9_init 33 = .ok (.putfield 21, 3) := dk_181 0 21 (dk_at dksX9_init_1 10 rfl rfl)
theorem dX9_init_36 : decode cX9_init 36 = .ok (.aload_n 0, 1) := dk_42 (dk_at dksX9_init_1 13 rfl rfl)
theorem dX9_init_37 : decode cX9_init 37 = .ok (.bipush 9, 2) := dk_16 9 (dk_at dksX9_init_1 14 rfl rfl)
theorem dX9_init_39 : decode cX9_init 39 = .ok (.newarray .boolean, 2) := dk_188_4 (dk_at dksX9_init_1 16 rfl rfl)
theorem dX9_init_41 : decode cX9_init 41 = .ok (.putfield 24, 3) := dk_181 0 24 (dk_at dksX9_init_1 18 rfl rfl)
theorem dX9_init_44 : decode cX9_init 44 = .ok (.aload_n 0, 1) := dk_42 (dk_at dksX9_init_1 21 rfl rfl)
theorem dX9_init_45 : decode cX9_init 45 = .ok (.bipush 9, 2) := dk_16 9 (dk_at dksX9_init_1 22 rfl rfl)
theorem dX9_init_47 : decode cX9_init 47 = .ok (.newarray .int, 2) := dk_188_10 (dk_at dksX9_init_2 0 rfl rfl)
theorem dX9_init_49 : decode cX9_init 49 = .ok (.putfield 28, 3) := dk_181 0 28 (dk_at dksX9_init_2 2 rfl rfl)
theorem dX9_init_52 : decode cX9_init 52 = .ok (.aload_n 0, 1) := dk_42 (dk_at dksX9_init_2 5 rfl rfl)
theorem dX9_init_53 : decode cX9_init 53 = .ok (.bipush 9, 2) := dk_16 9 (dk_at dksX9_init_2 6 rfl rfl)
theorem dX9_init_55 : decode cX9_init 55 = .ok (.newarray .int, 2) := dk_188_10 (dk_at dksX9_init_2 8 rfl rfl)
theorem dX9_init_57 : decode cX9_init 57 = .ok (.putfield 31, 3) := dk_181 0 31 (dk_at dksX9_init_2 10 rfl rfl)
theorem dX9_init_60 : decode cX9_init 60 = .ok (.return_, 1) := dk_177 (dk_at dksX9_init_2 13 rfl rfl)
abbrev cX9_begin : ByteArray := prog_4_method_2_code
def yX9_begin : MethodName := ⟨RX9, "begin", "()V"⟩
def dkwX9_begin_0 : List UInt8 := [42, 3, 181, 0, 34, 42, 3, 181, 0, 38, 42, 3, 181, 0, 41, 177]
abbrev dktX9_begin_0 : List UInt8 := dkwX9_begin_0 ++ []
theorem dksX9_begin_0 : cX9_begin.data.toList.drop 0 = dktX9_begin_0 := by decide +kernel
theorem dX9_begin_0 : decode cX9_begin 0 = .ok (.aload_n 0, 1) := dk_42 (dk_at dksX9_begin_0 0 rfl rfl)
theorem dX9_begin_1 : decode cX9_begin 1 = .ok (.iconst 0, 1) := dk_3 (dk_at dksX9_begin_0 1 rfl rfl)
theorem dX9_begin_2 : decode cX9_begin 2 = .ok (.putfield 34, 3) := dk_181 0 34 (dk_at dksX9_begin_0 2 rfl rfl)
theorem dX9_begin_5 : decode cX9_begin 5 = .ok (.aload_n 0, 1) := dk_42 (dk_at dksX9_begin_0 5 rfl rfl)
theorem dX9_begin_6 : decode cX9_begin 6 = .ok (.iconst 0, 1) := dk_3 (dk_at dksX9_begin_0 6 rfl rfl)
theorem dX9_begin_7 : decode cX9_begin 7 = .ok (.putfield 38, 3) := dk_181 0 38 (dk_at dksX9_begin_0 7 rfl rfl)
theorem dX9_begin_10 : decode cX9_begin 10 = .ok (.aload_n 0, 1) := dk_42 (dk_at dksX9_begin_0 10 rfl rfl)
theorem dX9_begin_11 : decode cX9_begin 11 = .ok (.iconst 0, 1) := dk_3 (dk_at dksX9_begin_0 11 rfl rfl)
theorem dX9_begin_12 : decode cX9_begin 12 = .ok (.putfield 41, 3) := dk_181 0 41 (dk_at dksX9_begin_0 12 rfl rfl)
theorem dX9_begin_15 : decode cX9_begin 15 = .ok (.return_, 1) := dk_177 (dk_at dksX9_begin_0 15 rfl rfl)
abbrev cX9_struck : ByteArray := prog_4_method_6_code
def yX9_struck : MethodName := ⟨RX9, "struck", "()I"⟩
def dkwX9_struck_1 : List UInt8 := [167, 0, 4, 3, 96, 60, 132, 2, 1, 167, 255, 228, 27, 172]
abbrev dktX9_struck_1 : List UInt8 := dkwX9_struck_1 ++ []
def dkwX9_struck_0 : List UInt8 := [3, 60, 3, 61, 28, 42, 180, 0, 38, 162, 0, 26, 27, 42, 180, 0, 24, 28, 51, 153, 0, 7, 4]
abbrev dktX9_struck_0 : List UInt8 := dkwX9_struck_0 ++ dktX9_struck_1
theorem dksX9_struck_0 : cX9_struck.data.toList.drop 0 = dktX9_struck_0 := by decide +kernel
theorem dksX9_struck_1 : cX9_struck.data.toList.drop 23 = dktX9_struck_1 := dk_seg dksX9_struck_0 23 rfl rfl
theorem dX9_struck_0 : decode cX9_struck 0 = .ok (.iconst 0, 1) := dk_3 (dk_at dksX9_struck_0 0 rfl rfl)
theorem dX9_struck_1 : decode cX9_struck 1 = .ok (.istore_n 1, 1) := dk_60 (dk_at dksX9_struck_0 1 rfl rfl)
theorem dX9_struck_2 : decode cX9_struck 2 = .ok (.iconst 0, 1) := dk_3 (dk_at dksX9_struck_0 2 rfl rfl)
theorem dX9_struck_3 : decode cX9_struck 3 = .ok (.istore_n 2, 1) := dk_61 (dk_at dksX9_struck_0 3 rfl rfl)
theorem dX9_struck_4 : decode cX9_struck 4 = .ok (.iload_n 2, 1) := dk_28 (dk_at dksX9_struck_0 4 rfl rfl)
theorem dX9_struck_5 : decode cX9_struck 5 = .ok (.aload_n 0, 1) := dk_42 (dk_at dksX9_struck_0 5 rfl rfl)
theorem dX9_struck_6 : decode cX9_struck 6 = .ok (.getfield 38, 3) := dk_180 0 38 (dk_at dksX9_struck_0 6 rfl rfl)
theorem dX9_struck_9 : decode cX9_struck 9 = .ok (.if_icmp .ge 26, 3) := dk_162 0 26 (dk_at dksX9_struck_0 9 rfl rfl)
theorem dX9_struck_12 : decode cX9_struck 12 = .ok (.iload_n 1, 1) := dk_27 (dk_at dksX9_struck_0 12 rfl rfl)
theorem dX9_struck_13 : decode cX9_struck 13 = .ok (.aload_n 0, 1) := dk_42 (dk_at dksX9_struck_0 13 rfl rfl)
theorem dX9_struck_14 : decode cX9_struck 14 = .ok (.getfield 24, 3) := dk_180 0 24 (dk_at dksX9_struck_0 14 rfl rfl)
theorem dX9_struck_17 : decode cX9_struck 17 = .ok (.iload_n 2, 1) := dk_28 (dk_at dksX9_struck_0 17 rfl rfl)
theorem dX9_struck_18 : decode cX9_struck 18 = .ok (.baload, 1) := dk_51 (dk_at dksX9_struck_0 18 rfl rfl)
theorem dX9_struck_19 : decode cX9_struck 19 = .ok (.ifCond .eq 7, 3) := dk_153 0 7 (dk_at dksX9_struck_0 19 rfl rfl)
theorem dX9_struck_22 : decode cX9_struck 22 = .ok (.iconst 1, 1) := dk_4 (dk_at dksX9_struck_0 22 rfl rfl)
theorem dX9_struck_23 : decode cX9_struck 23 = .ok (.goto 4, 3) := dk_167 0 4 (dk_at dksX9_struck_1 0 rfl rfl)
theorem dX9_struck_26 : decode cX9_struck 26 = .ok (.iconst 0, 1) := dk_3 (dk_at dksX9_struck_1 3 rfl rfl)
theorem dX9_struck_27 : decode cX9_struck 27 = .ok (.iadd, 1) := dk_96 (dk_at dksX9_struck_1 4 rfl rfl)
theorem dX9_struck_28 : decode cX9_struck 28 = .ok (.istore_n 1, 1) := dk_60 (dk_at dksX9_struck_1 5 rfl rfl)
theorem dX9_struck_29 : decode cX9_struck 29 = .ok (.iinc 2 1, 3) := dk_132 2 1 (dk_at dksX9_struck_1 6 rfl rfl)
theorem dX9_struck_32 : decode cX9_struck 32 = .ok (.goto (-28), 3) := dk_167 255 228 (dk_at dksX9_struck_1 9 rfl rfl)
theorem dX9_struck_35 : decode cX9_struck 35 = .ok (.iload_n 1, 1) := dk_27 (dk_at dksX9_struck_1 12 rfl rfl)
theorem dX9_struck_36 : decode cX9_struck 36 = .ok (.ireturn, 1) := dk_172 (dk_at dksX9_struck_1 13 rfl rfl)
abbrev cX9_hasPerson : ByteArray := prog_4_method_3_code
def yX9_hasPerson : MethodName := ⟨RX9, "hasPerson", "(I)Z"⟩
def dkwX9_hasPerson_1 : List UInt8 := [132, 2, 1, 167, 255, 233, 3, 172]
abbrev dktX9_hasPerson_1 : List UInt8 := dkwX9_hasPerson_1 ++ []
def dkwX9_hasPerson_0 : List UInt8 := [3, 61, 28, 42, 180, 0, 34, 162, 0, 21, 42, 180, 0, 9, 28, 46, 27, 160, 0, 5, 4, 172]
abbrev dktX9_hasPerson_0 : List UInt8 := dkwX9_hasPerson_0 ++ dktX9_hasPerson_1
theorem dksX9_hasPerson_0 : cX9_hasPerson.data.toList.drop 0 = dktX9_hasPerson_0 := by decide +kernel
theorem dksX9_hasPerson_1 : cX9_hasPerson.data.toList.drop 22 = dktX9_hasPerson_1 := dk_seg dksX9_hasPerson_0 22 rfl rfl
theorem dX9_hasPerson_0 : decode cX9_hasPerson 0 = .ok (.iconst 0, 1) := dk_3 (dk_at dksX9_hasPerson_0 0 rfl rfl)
theorem dX9_hasPerson_1 : decode cX9_hasPerson 1 = .ok (.istore_n 2, 1) := dk_61 (dk_at dksX9_hasPerson_0 1 rfl rfl)
theorem dX9_hasPerson_2 : decode cX9_hasPerson 2 = .ok (.iload_n 2, 1) := dk_28 (dk_at dksX9_hasPerson_0 2 rfl rfl)
theorem dX9_hasPerson_3 : decode cX9_hasPerson 3 = .ok (.aload_n 0, 1) := dk_42 (dk_at dksX9_hasPerson_0 3 rfl rfl)
theorem dX9_hasPerson_4 : decode cX9_hasPerson 4 = .ok (.getfield 34, 3) := dk_180 0 34 (dk_at dksX9_hasPerson_0 4 rfl rfl)
theorem dX9_hasPerson_7 : decode cX9_hasPerson 7 = .ok (.if_icmp .ge 21, 3) := dk_162 0 21 (dk_at dksX9_hasPerson_0 7 rfl rfl)
theorem dX9_hasPerson_10 : decode cX9_hasPerson 10 = .ok (.aload_n 0, 1) := dk_42 (dk_at dksX9_hasPerson_0 10 rfl rfl)
theorem dX9_hasPerson_11 : decode cX9_hasPerson 11 = .ok (.getfield 9, 3) := dk_180 0 9 (dk_at dksX9_hasPerson_0 11 rfl rfl)
theorem dX9_hasPerson_14 : decode cX9_hasPerson 14 = .ok (.iload_n 2, 1) := dk_28 (dk_at dksX9_hasPerson_0 14 rfl rfl)
theorem dX9_hasPerson_15 : decode cX9_hasPerson 15 = .ok (.iaload, 1) := dk_46 (dk_at dksX9_hasPerson_0 15 rfl rfl)
theorem dX9_hasPerson_16 : decode cX9_hasPerson 16 = .ok (.iload_n 1, 1) := dk_27 (dk_at dksX9_hasPerson_0 16 rfl rfl)
theorem dX9_hasPerson_17 : decode cX9_hasPerson 17 = .ok (.if_icmp .ne 5, 3) := dk_160 0 5 (dk_at dksX9_hasPerson_0 17 rfl rfl)
theorem dX9_hasPerson_20 : decode cX9_hasPerson 20 = .ok (.iconst 1, 1) := dk_4 (dk_at dksX9_hasPerson_0 20 rfl rfl)
theorem dX9_hasPerson_21 : decode cX9_hasPerson 21 = .ok (.ireturn, 1) := dk_172 (dk_at dksX9_hasPerson_0 21 rfl rfl)
theorem dX9_hasPerson_22 : decode cX9_hasPerson 22 = .ok (.iinc 2 1, 3) := dk_132 2 1 (dk_at dksX9_hasPerson_1 0 rfl rfl)
theorem dX9_hasPerson_25 : decode cX9_hasPerson 25 = .ok (.goto (-23), 3) := dk_167 255 233 (dk_at dksX9_hasPerson_1 3 rfl rfl)
theorem dX9_hasPerson_28 : decode cX9_hasPerson 28 = .ok (.iconst 0, 1) := dk_3 (dk_at dksX9_hasPerson_1 6 rfl rfl)
theorem dX9_hasPerson_29 : decode cX9_hasPerson 29 = .ok (.ireturn, 1) := dk_172 (dk_at dksX9_hasPerson_1 7 rfl rfl)
abbrev cX9_add : ByteArray := prog_4_method_4_code
def yX9_add : MethodName := ⟨RX9, "add", "(LElectionHouse$Nomination;I)V"⟩
def dkwX9_add_3 : List UInt8 := [180, 0, 38, 79, 43, 42, 180, 0, 38, 181, 0, 53, 42, 89, 180, 0, 38, 4, 96, 181, 0, 38, 177]
abbrev dktX9_add_3 : List UInt8 := dkwX9_add_3 ++ []
def dkwX9_add_2 : List UInt8 := [42, 180, 0, 28, 42, 180, 0, 38, 42, 180, 0, 38, 79, 42, 180, 0, 31, 42, 180, 0, 38, 42]
abbrev dktX9_add_2 : List UInt8 := dkwX9_add_2 ++ dktX9_add_3
def dkwX9_add_1 : List UInt8 := [180, 0, 50, 79, 42, 180, 0, 21, 42, 180, 0, 38, 28, 79, 42, 180, 0, 24, 42, 180, 0, 38, 3, 84]
abbrev dktX9_add_1 : List UInt8 := dkwX9_add_1 ++ dktX9_add_2
def dkwX9_add_0 : List UInt8 := [42, 180, 0, 15, 42, 180, 0, 38, 43, 180, 0, 45, 79, 42, 180, 0, 18, 42, 180, 0, 38, 43]
abbrev dktX9_add_0 : List UInt8 := dkwX9_add_0 ++ dktX9_add_1
theorem dksX9_add_0 : cX9_add.data.toList.drop 0 = dktX9_add_0 := by decide +kernel
theorem dksX9_add_1 : cX9_add.data.toList.drop 22 = dktX9_add_1 := dk_seg dksX9_add_0 22 rfl rfl
theorem dksX9_add_2 : cX9_add.data.toList.drop 46 = dktX9_add_2 := dk_seg dksX9_add_1 24 rfl rfl
theorem dksX9_add_3 : cX9_add.data.toList.drop 68 = dktX9_add_3 := dk_seg dksX9_add_2 22 rfl rfl
theorem dX9_add_0 : decode cX9_add 0 = .ok (.aload_n 0, 1) := dk_42 (dk_at dksX9_add_0 0 rfl rfl)
theorem dX9_add_1 : decode cX9_add 1 = .ok (.getfield 15, 3) := dk_180 0 15 (dk_at dksX9_add_0 1 rfl rfl)
theorem dX9_add_4 : decode cX9_add 4 = .ok (.aload_n 0, 1) := dk_42 (dk_at dksX9_add_0 4 rfl rfl)
theorem dX9_add_5 : decode cX9_add 5 = .ok (.getfield 38, 3) := dk_180 0 38 (dk_at dksX9_add_0 5 rfl rfl)
theorem dX9_add_8 : decode cX9_add 8 = .ok (.aload_n 1, 1) := dk_43 (dk_at dksX9_add_0 8 rfl rfl)
theorem dX9_add_9 : decode cX9_add 9 = .ok (.getfield 45, 3) := dk_180 0 45 (dk_at dksX9_add_0 9 rfl rfl)
theorem dX9_add_12 : decode cX9_add 12 = .ok (.iastore, 1) := dk_79 (dk_at dksX9_add_0 12 rfl rfl)
theorem dX9_add_13 : decode cX9_add 13 = .ok (.aload_n 0, 1) := dk_42 (dk_at dksX9_add_0 13 rfl rfl)
theorem dX9_add_14 : decode cX9_add 14 = .ok (.getfield 18, 3) := dk_180 0 18 (dk_at dksX9_add_0 14 rfl rfl)
theorem dX9_add_17 : decode cX9_add 17 = .ok (.aload_n 0, 1) := dk_42 (dk_at dksX9_add_0 17 rfl rfl)
theorem dX9_add_18 : decode cX9_add 18 = .ok (.getfield 38, 3) := dk_180 0 38 (dk_at dksX9_add_0 18 rfl rfl)
theorem dX9_add_21 : decode cX9_add 21 = .ok (.aload_n 1, 1) := dk_43 (dk_at dksX9_add_0 21 rfl rfl)
theorem dX9_add_22 : decode cX9_add 22 = .ok (.getfield 50, 3) := dk_180 0 50 (dk_at dksX9_add_1 0 rfl rfl)
theorem dX9_add_25 : decode cX9_add 25 = .ok (.iastore, 1) := dk_79 (dk_at dksX9_add_1 3 rfl rfl)
theorem dX9_add_26 : decode cX9_add 26 = .ok (.aload_n 0, 1) := dk_42 (dk_at dksX9_add_1 4 rfl rfl)
theorem dX9_add_27 : decode cX9_add 27 = .ok (.getfield 21, 3) := dk_180 0 21 (dk_at dksX9_add_1 5 rfl rfl)
theorem dX9_add_30 : decode cX9_add 30 = .ok (.aload_n 0, 1) := dk_42 (dk_at dksX9_add_1 8 rfl rfl)
theorem dX9_add_31 : decode cX9_add 31 = .ok (.getfield 38, 3) := dk_180 0 38 (dk_at dksX9_add_1 9 rfl rfl)
theorem dX9_add_34 : decode cX9_add 34 = .ok (.iload_n 2, 1) := dk_28 (dk_at dksX9_add_1 12 rfl rfl)
theorem dX9_add_35 : decode cX9_add 35 = .ok (.iastore, 1) := dk_79 (dk_at dksX9_add_1 13 rfl rfl)
theorem dX9_add_36 : decode cX9_add 36 = .ok (.aload_n 0, 1) := dk_42 (dk_at dksX9_add_1 14 rfl rfl)
theorem dX9_add_37 : decode cX9_add 37 = .ok (.getfield 24, 3) := dk_180 0 24 (dk_at dksX9_add_1 15 rfl rfl)
theorem dX9_add_40 : decode cX9_add 40 = .ok (.aload_n 0, 1) := dk_42 (dk_at dksX9_add_1 18 rfl rfl)
theorem dX9_add_41 : decode cX9_add 41 = .ok (.getfield 38, 3) := dk_180 0 38 (dk_at dksX9_add_1 19 rfl rfl)
theorem dX9_add_44 : decode cX9_add 44 = .ok (.iconst 0, 1) := dk_3 (dk_at dksX9_add_1 22 rfl rfl)
theorem dX9_add_45 : decode cX9_add 45 = .ok (.bastore, 1) := dk_84 (dk_at dksX9_add_1 23 rfl rfl)
theorem dX9_add_46 : decode cX9_add 46 = .ok (.aload_n 0, 1) := dk_42 (dk_at dksX9_add_2 0 rfl rfl)
theorem dX9_add_47 : decode cX9_add 47 = .ok (.getfield 28, 3) := dk_180 0 28 (dk_at dksX9_add_2 1 rfl rfl)
theorem dX9_add_50 : decode cX9_add 50 = .ok (.aload_n 0, 1) := dk_42 (dk_at dksX9_add_2 4 rfl rfl)
theorem dX9_add_51 : decode cX9_add 51 = .ok (.getfield 38, 3) := dk_180 0 38 (dk_at dksX9_add_2 5 rfl rfl)
theorem dX9_add_54 : decode cX9_add 54 = .ok (.aload_n 0, 1) := dk_42 (dk_at dksX9_add_2 8 rfl rfl)
theorem dX9_add_55 : decode cX9_add 55 = .ok (.getfield 38, 3) := dk_180 0 38 (dk_at dksX9_add_2 9 rfl rfl)
theorem dX9_add_58 : decode cX9_add 58 = .ok (.iastore, 1) := dk_79 (dk_at dksX9_add_2 12 rfl rfl)
theorem dX9_add_59 : decode cX9_add 59 = .ok (.aload_n 0, 1) := dk_42 (dk_at dksX9_add_2 13 rfl rfl)
theorem dX9_add_60 : decode cX9_add 60 = .ok (.getfield 31, 3) := dk_180 0 31 (dk_at dksX9_add_2 14 rfl rfl)
theorem dX9_add_63 : decode cX9_add 63 = .ok (.aload_n 0, 1) := dk_42 (dk_at dksX9_add_2 17 rfl rfl)
theorem dX9_add_64 : decode cX9_add 64 = .ok (.getfield 38, 3) := dk_180 0 38 (dk_at dksX9_add_2 18 rfl rfl)
theorem dX9_add_67 : decode cX9_add 67 = .ok (.aload_n 0, 1) := dk_42 (dk_at dksX9_add_2 21 rfl rfl)
theorem dX9_add_68 : decode cX9_add 68 = .ok (.getfield 38, 3) := dk_180 0 38 (dk_at dksX9_add_3 0 rfl rfl)
theorem dX9_add_71 : decode cX9_add 71 = .ok (.iastore, 1) := dk_79 (dk_at dksX9_add_3 3 rfl rfl)
theorem dX9_add_72 : decode cX9_add 72 = .ok (.aload_n 1, 1) := dk_43 (dk_at dksX9_add_3 4 rfl rfl)
theorem dX9_add_73 : decode cX9_add 73 = .ok (.aload_n 0, 1) := dk_42 (dk_at dksX9_add_3 5 rfl rfl)
theorem dX9_add_74 : decode cX9_add 74 = .ok (.getfield 38, 3) := dk_180 0 38 (dk_at dksX9_add_3 6 rfl rfl)
theorem dX9_add_77 : decode cX9_add 77 = .ok (.putfield 53, 3) := dk_181 0 53 (dk_at dksX9_add_3 9 rfl rfl)
theorem dX9_add_80 : decode cX9_add 80 = .ok (.aload_n 0, 1) := dk_42 (dk_at dksX9_add_3 12 rfl rfl)
theorem dX9_add_81 : decode cX9_add 81 = .ok (.dup, 1) := dk_89 (dk_at dksX9_add_3 13 rfl rfl)
theorem dX9_add_82 : decode cX9_add 82 = .ok (.getfield 38, 3) := dk_180 0 38 (dk_at dksX9_add_3 14 rfl rfl)
theorem dX9_add_85 : decode cX9_add 85 = .ok (.iconst 1, 1) := dk_4 (dk_at dksX9_add_3 17 rfl rfl)
theorem dX9_add_86 : decode cX9_add 86 = .ok (.iadd, 1) := dk_96 (dk_at dksX9_add_3 18 rfl rfl)
theorem dX9_add_87 : decode cX9_add 87 = .ok (.putfield 38, 3) := dk_181 0 38 (dk_at dksX9_add_3 19 rfl rfl)
theorem dX9_add_90 : decode cX9_add 90 = .ok (.return_, 1) := dk_177 (dk_at dksX9_add_3 22 rfl rfl)
abbrev cX9_draw : ByteArray := prog_4_method_5_code
def yX9_draw : MethodName := ⟨RX9, "draw", "(J)V"⟩
def dkwX9_draw_4 : List UInt8 := [79, 132, 5, 1, 167, 255, 230, 42, 4, 181, 0, 41, 177]
abbrev dktX9_draw_4 : List UInt8 := dkwX9_draw_4 ++ []
def dkwX9_draw_3 : List UInt8 := [54, 5, 21, 5, 42, 180, 0, 38, 162, 0, 23, 42, 180, 0, 31, 42, 180, 0, 28, 21, 5, 46, 21, 5]
abbrev dktX9_draw_3 : List UInt8 := dkwX9_draw_3 ++ dktX9_draw_4
def dkwX9_draw_2 : List UInt8 := [180, 0, 28, 21, 6, 46, 79, 42, 180, 0, 28, 21, 6, 21, 7, 79, 132, 5, 255, 167, 255, 201, 3]
abbrev dktX9_draw_2 : List UInt8 := dkwX9_draw_2 ++ dktX9_draw_3
def dkwX9_draw_1 : List UInt8 := [96, 184, 0, 60, 54, 6, 42, 180, 0, 28, 21, 5, 46, 54, 7, 42, 180, 0, 28, 21, 5, 42]
abbrev dktX9_draw_1 : List UInt8 := dkwX9_draw_1 ++ dktX9_draw_2
def dkwX9_draw_0 : List UInt8 := [31, 66, 42, 180, 0, 38, 4, 100, 54, 5, 21, 5, 158, 0, 56, 33, 184, 0, 56, 66, 33, 21, 5, 4]
abbrev dktX9_draw_0 : List UInt8 := dkwX9_draw_0 ++ dktX9_draw_1
theorem dksX9_draw_0 : cX9_draw.data.toList.drop 0 = dktX9_draw_0 := by decide +kernel
theorem dksX9_draw_1 : cX9_draw.data.toList.drop 24 = dktX9_draw_1 := dk_seg dksX9_draw_0 24 rfl rfl
theorem dksX9_draw_2 : cX9_draw.data.toList.drop 46 = dktX9_draw_2 := dk_seg dksX9_draw_1 22 rfl rfl
theorem dksX9_draw_3 : cX9_draw.data.toList.drop 69 = dktX9_draw_3 := dk_seg dksX9_draw_2 23 rfl rfl
theorem dksX9_draw_4 : cX9_draw.data.toList.drop 93 = dktX9_draw_4 := dk_seg dksX9_draw_3 24 rfl rfl
theorem dX9_draw_0 : decode cX9_draw 0 = .ok (.lload_n 1, 1) := dk_31 (dk_at dksX9_draw_0 0 rfl rfl)
theorem dX9_draw_1 : decode cX9_draw 1 = .ok (.lstore_n 3, 1) := dk_66 (dk_at dksX9_draw_0 1 rfl rfl)
theorem dX9_draw_2 : decode cX9_draw 2 = .ok (.aload_n 0, 1) := dk_42 (dk_at dksX9_draw_0 2 rfl rfl)
theorem dX9_draw_3 : decode cX9_draw 3 = .ok (.getfield 38, 3) := dk_180 0 38 (dk_at dksX9_draw_0 3 rfl rfl)
theorem dX9_draw_6 : decode cX9_draw 6 = .ok (.iconst 1, 1) := dk_4 (dk_at dksX9_draw_0 6 rfl rfl)
theorem dX9_draw_7 : decode cX9_draw 7 = .ok (.isub, 1) := dk_100 (dk_at dksX9_draw_0 7 rfl rfl)
theorem dX9_draw_8 : decode cX9_draw 8 = .ok (.istore 5, 2) := dk_54 5 (dk_at dksX9_draw_0 8 rfl rfl)
theorem dX9_draw_10 : decode cX9_draw 10 = .ok (.iload 5, 2) := dk_21 5 (dk_at dksX9_draw_0 10 rfl rfl)
theorem dX9_draw_12 : decode cX9_draw 12 = .ok (.ifCond .le 56, 3) := dk_158 0 56 (dk_at dksX9_draw_0 12 rfl rfl)
theorem dX9_draw_15 : decode cX9_draw 15 = .ok (.lload_n 3, 1) := dk_33 (dk_at dksX9_draw_0 15 rfl rfl)
theorem dX9_draw_16 : decode cX9_draw 16 = .ok (.invokestatic 56, 3) := dk_184 0 56 (dk_at dksX9_draw_0 16 rfl rfl)
theorem dX9_draw_19 : decode cX9_draw 19 = .ok (.lstore_n 3, 1) := dk_66 (dk_at dksX9_draw_0 19 rfl rfl)
theorem dX9_draw_20 : decode cX9_draw 20 = .ok (.lload_n 3, 1) := dk_33 (dk_at dksX9_draw_0 20 rfl rfl)
theorem dX9_draw_21 : decode cX9_draw 21 = .ok (.iload 5, 2) := dk_21 5 (dk_at dksX9_draw_0 21 rfl rfl)
theorem dX9_draw_23 : decode cX9_draw 23 = .ok (.iconst 1, 1) := dk_4 (dk_at dksX9_draw_0 23 rfl rfl)
theorem dX9_draw_24 : decode cX9_draw 24 = .ok (.iadd, 1) := dk_96 (dk_at dksX9_draw_1 0 rfl rfl)
theorem dX9_draw_25 : decode cX9_draw 25 = .ok (.invokestatic 60, 3) := dk_184 0 60 (dk_at dksX9_draw_1 1 rfl rfl)
theorem dX9_draw_28 : decode cX9_draw 28 = .ok (.istore 6, 2) := dk_54 6 (dk_at dksX9_draw_1 4 rfl rfl)
theorem dX9_draw_30 : decode cX9_draw 30 = .ok (.aload_n 0, 1) := dk_42 (dk_at dksX9_draw_1 6 rfl rfl)
theorem dX9_draw_31 : decode cX9_draw 31 = .ok (.getfield 28, 3) := dk_180 0 28 (dk_at dksX9_draw_1 7 rfl rfl)
theorem dX9_draw_34 : decode cX9_draw 34 = .ok (.iload 5, 2) := dk_21 5 (dk_at dksX9_draw_1 10 rfl rfl)
theorem dX9_draw_36 : decode cX9_draw 36 = .ok (.iaload, 1) := dk_46 (dk_at dksX9_draw_1 12 rfl rfl)
theorem dX9_draw_37 : decode cX9_draw 37 = .ok (.istore 7, 2) := dk_54 7 (dk_at dksX9_draw_1 13 rfl rfl)
theorem dX9_draw_39 : decode cX9_draw 39 = .ok (.aload_n 0, 1) := dk_42 (dk_at dksX9_draw_1 15 rfl rfl)
theorem dX9_draw_40 : decode cX9_draw 40 = .ok (.getfield 28, 3) := dk_180 0 28 (dk_at dksX9_draw_1 16 rfl rfl)
theorem dX9_draw_43 : decode cX9_draw 43 = .ok (.iload 5, 2) := dk_21 5 (dk_at dksX9_draw_1 19 rfl rfl)
theorem dX9_draw_45 : decode cX9_draw 45 = .ok (.aload_n 0, 1) := dk_42 (dk_at dksX9_draw_1 21 rfl rfl)
theorem dX9_draw_46 : decode cX9_draw 46 = .ok (.getfield 28, 3) := dk_180 0 28 (dk_at dksX9_draw_2 0 rfl rfl)
theorem dX9_draw_49 : decode cX9_draw 49 = .ok (.iload 6, 2) := dk_21 6 (dk_at dksX9_draw_2 3 rfl rfl)
theorem dX9_draw_51 : decode cX9_draw 51 = .ok (.iaload, 1) := dk_46 (dk_at dksX9_draw_2 5 rfl rfl)
theorem dX9_draw_52 : decode cX9_draw 52 = .ok (.iastore, 1) := dk_79 (dk_at dksX9_draw_2 6 rfl rfl)
theorem dX9_draw_53 : decode cX9_draw 53 = .ok (.aload_n 0, 1) := dk_42 (dk_at dksX9_draw_2 7 rfl rfl)
theorem dX9_draw_54 : decode cX9_draw 54 = .ok (.getfield 28, 3) := dk_180 0 28 (dk_at dksX9_draw_2 8 rfl rfl)
theorem dX9_draw_57 : decode cX9_draw 57 = .ok (.iload 6, 2) := dk_21 6 (dk_at dksX9_draw_2 11 rfl rfl)
theorem dX9_draw_59 : decode cX9_draw 59 = .ok (.iload 7, 2) := dk_21 7 (dk_at dksX9_draw_2 13 rfl rfl)
theorem dX9_draw_61 : decode cX9_draw 61 = .ok (.iastore, 1) := dk_79 (dk_at dksX9_draw_2 15 rfl rfl)
theorem dX9_draw_62 : decode cX9_draw 62 = .ok (.iinc 5 (-1), 3) := dk_132 5 255 (dk_at dksX9_draw_2 16 rfl rfl)
theorem dX9_draw_65 : decode cX9_draw 65 = .ok (.goto (-55), 3) := dk_167 255 201 (dk_at dksX9_draw_2 19 rfl rfl)
theorem dX9_draw_68 : decode cX9_draw 68 = .ok (.iconst 0, 1) := dk_3 (dk_at dksX9_draw_2 22 rfl rfl)
theorem dX9_draw_69 : decode cX9_draw 69 = .ok (.istore 5, 2) := dk_54 5 (dk_at dksX9_draw_3 0 rfl rfl)
theorem dX9_draw_71 : decode cX9_draw 71 = .ok (.iload 5, 2) := dk_21 5 (dk_at dksX9_draw_3 2 rfl rfl)
theorem dX9_draw_73 : decode cX9_draw 73 = .ok (.aload_n 0, 1) := dk_42 (dk_at dksX9_draw_3 4 rfl rfl)
theorem dX9_draw_74 : decode cX9_draw 74 = .ok (.getfield 38, 3) := dk_180 0 38 (dk_at dksX9_draw_3 5 rfl rfl)
theorem dX9_draw_77 : decode cX9_draw 77 = .ok (.if_icmp .ge 23, 3) := dk_162 0 23 (dk_at dksX9_draw_3 8 rfl rfl)
theorem dX9_draw_80 : decode cX9_draw 80 = .ok (.aload_n 0, 1) := dk_42 (dk_at dksX9_draw_3 11 rfl rfl)
theorem dX9_draw_81 : decode cX9_draw 81 = .ok (.getfield 31, 3) := dk_180 0 31 (dk_at dksX9_draw_3 12 rfl rfl)
theorem dX9_draw_84 : decode cX9_draw 84 = .ok (.aload_n 0, 1) := dk_42 (dk_at dksX9_draw_3 15 rfl rfl)
theorem dX9_draw_85 : decode cX9_draw 85 = .ok (.getfield 28, 3) := dk_180 0 28 (dk_at dksX9_draw_3 16 rfl rfl)
theorem dX9_draw_88 : decode cX9_draw 88 = .ok (.iload 5, 2) := dk_21 5 (dk_at dksX9_draw_3 19 rfl rfl)
theorem dX9_draw_90 : decode cX9_draw 90 = .ok (.iaload, 1) := dk_46 (dk_at dksX9_draw_3 21 rfl rfl)
theorem dX9_draw_91 : decode cX9_draw 91 = .ok (.iload 5, 2) := dk_21 5 (dk_at dksX9_draw_3 22 rfl rfl)
theorem dX9_draw_93 : decode cX9_draw 93 = .ok (.iastore, 1) := dk_79 (dk_at dksX9_draw_4 0 rfl rfl)
theorem dX9_draw_94 : decode cX9_draw 94 = .ok (.iinc 5 1, 3) := dk_132 5 1 (dk_at dksX9_draw_4 1 rfl rfl)
theorem dX9_draw_97 : decode cX9_draw 97 = .ok (.goto (-26), 3) := dk_167 255 230 (dk_at dksX9_draw_4 4 rfl rfl)
theorem dX9_draw_100 : decode cX9_draw 100 = .ok (.aload_n 0, 1) := dk_42 (dk_at dksX9_draw_4 7 rfl rfl)
theorem dX9_draw_101 : decode cX9_draw 101 = .ok (.iconst 1, 1) := dk_4 (dk_at dksX9_draw_4 8 rfl rfl)
theorem dX9_draw_102 : decode cX9_draw 102 = .ok (.putfield 41, 3) := dk_181 0 41 (dk_at dksX9_draw_4 9 rfl rfl)
theorem dX9_draw_105 : decode cX9_draw 105 = .ok (.return_, 1) := dk_177 (dk_at dksX9_draw_4 12 rfl rfl)
theorem q294 : (Jvm.Cond.initialized "ElectionHouse$Contest") ∈ lw_all := lw_g (lw_at lw_m1 13 rfl) rfl
theorem q900 : (Jvm.Cond.instantiable "ElectionHouse$Contest" (10 : Nat)) ∈ lw_all := lw_g (lw_at lw_m3 139 rfl) rfl
theorem q902 : (Jvm.Cond.instanceMethod ({ cls := "ElectionHouse$Contest", name := "<init>", desc := "()V" } : Jvm.MethodName)) ∈ lw_all := lw_g (lw_at lw_m3 141 rfl) rfl
theorem q903 : (Jvm.Cond.code ({ cls := "ElectionHouse$Contest", name := "<init>", desc := "()V" } : Jvm.MethodName) prog_4_method_1_code (1 : Nat) (Option.none : Option Jvm.ClassFile.FieldType)) ∈ lw_all := lw_g (lw_at lw_m3 142 rfl) rfl
theorem q904 : (Jvm.Cond.methodLink "ElectionHouse$Contest" (3 : Nat) ({ cls := "java/lang/Object", name := "<init>", desc := "()V" } : Jvm.MethodName)) ∈ lw_all := lw_g (lw_at lw_m3 143 rfl) rfl
theorem q905 : (Jvm.Cond.fieldLink "ElectionHouse$Contest" (34 : Nat) "ElectionHouse$Contest" "nominated" "I") ∈ lw_all := lw_g (lw_at lw_m3 144 rfl) rfl
theorem q907 : (Jvm.Cond.fieldLink "ElectionHouse$Contest" (9 : Nat) "ElectionHouse$Contest" "people" "[I") ∈ lw_all := lw_g (lw_at lw_m3 146 rfl) rfl
theorem q909 : (Jvm.Cond.fieldLink "ElectionHouse$Contest" (15 : Nat) "ElectionHouse$Contest" "persons" "[I") ∈ lw_all := lw_g (lw_at lw_m3 148 rfl) rfl
theorem q912 : (Jvm.Cond.fieldLink "ElectionHouse$Contest" (18 : Nat) "ElectionHouse$Contest" "parties" "[I") ∈ lw_all := lw_g (lw_at lw_m3 151 rfl) rfl
theorem q915 : (Jvm.Cond.fieldLink "ElectionHouse$Contest" (21 : Nat) "ElectionHouse$Contest" "nominations" "[I") ∈ lw_all := lw_g (lw_at lw_m3 154 rfl) rfl
theorem q917 : (Jvm.Cond.fieldLink "ElectionHouse$Contest" (24 : Nat) "ElectionHouse$Contest" "isStruck" "[Z") ∈ lw_all := lw_g (lw_at lw_m3 156 rfl) rfl
theorem q920 : (Jvm.Cond.fieldLink "ElectionHouse$Contest" (38 : Nat) "ElectionHouse$Contest" "candidates" "I") ∈ lw_all := lw_g (lw_at lw_m3 159 rfl) rfl
theorem q923 : (Jvm.Cond.fieldLink "ElectionHouse$Contest" (28 : Nat) "ElectionHouse$Contest" "lot" "[I") ∈ lw_all := lw_g (lw_at lw_m3 162 rfl) rfl
theorem q925 : (Jvm.Cond.fieldLink "ElectionHouse$Contest" (31 : Nat) "ElectionHouse$Contest" "places" "[I") ∈ lw_all := lw_g (lw_at lw_m3 164 rfl) rfl
theorem q928 : (Jvm.Cond.fieldLink "ElectionHouse$Contest" (41 : Nat) "ElectionHouse$Contest" "isDrawn" "Z") ∈ lw_all := lw_g (lw_at lw_m3 167 rfl) rfl
theorem q930 : (Jvm.Cond.lays "ElectionHouse$Contest" "ElectionHouse$Contest" "nominated" "I") ∈ lw_all := lw_g (lw_at lw_m3 169 rfl) rfl
theorem q931 : (Jvm.Cond.soleField "ElectionHouse$Contest" "nominated") ∈ lw_all := lw_g (lw_at lw_m3 170 rfl) rfl
theorem q932 : (Jvm.Cond.laysFinal "ElectionHouse$Contest" "ElectionHouse$Contest" "people" "[I") ∈ lw_all := lw_g (lw_at lw_m3 171 rfl) rfl
theorem q933 : (Jvm.Cond.soleField "ElectionHouse$Contest" "people") ∈ lw_all := lw_g (lw_at lw_m3 172 rfl) rfl
theorem q934 : (Jvm.Cond.laysFinal "ElectionHouse$Contest" "ElectionHouse$Contest" "persons" "[I") ∈ lw_all := lw_g (lw_at lw_m3 173 rfl) rfl
theorem q935 : (Jvm.Cond.soleField "ElectionHouse$Contest" "persons") ∈ lw_all := lw_g (lw_at lw_m3 174 rfl) rfl
theorem q936 : (Jvm.Cond.laysFinal "ElectionHouse$Contest" "ElectionHouse$Contest" "parties" "[I") ∈ lw_all := lw_g (lw_at lw_m3 175 rfl) rfl
theorem q937 : (Jvm.Cond.soleField "ElectionHouse$Contest" "parties") ∈ lw_all := lw_g (lw_at lw_m3 176 rfl) rfl
theorem q938 : (Jvm.Cond.laysFinal "ElectionHouse$Contest" "ElectionHouse$Contest" "nominations" "[I") ∈ lw_all := lw_g (lw_at lw_m3 177 rfl) rfl
theorem q939 : (Jvm.Cond.soleField "ElectionHouse$Contest" "nominations") ∈ lw_all := lw_g (lw_at lw_m3 178 rfl) rfl
theorem q940 : (Jvm.Cond.laysFinal "ElectionHouse$Contest" "ElectionHouse$Contest" "isStruck" "[Z") ∈ lw_all := lw_g (lw_at lw_m3 179 rfl) rfl
theorem q941 : (Jvm.Cond.soleField "ElectionHouse$Contest" "isStruck") ∈ lw_all := lw_g (lw_at lw_m3 180 rfl) rfl
theorem q942 : (Jvm.Cond.lays "ElectionHouse$Contest" "ElectionHouse$Contest" "candidates" "I") ∈ lw_all := lw_g (lw_at lw_m3 181 rfl) rfl
theorem q943 : (Jvm.Cond.soleField "ElectionHouse$Contest" "candidates") ∈ lw_all := lw_g (lw_at lw_m3 182 rfl) rfl
theorem q944 : (Jvm.Cond.laysFinal "ElectionHouse$Contest" "ElectionHouse$Contest" "lot" "[I") ∈ lw_all := lw_g (lw_at lw_m3 183 rfl) rfl
theorem q945 : (Jvm.Cond.soleField "ElectionHouse$Contest" "lot") ∈ lw_all := lw_g (lw_at lw_m3 184 rfl) rfl
theorem q946 : (Jvm.Cond.laysFinal "ElectionHouse$Contest" "ElectionHouse$Contest" "places" "[I") ∈ lw_all := lw_g (lw_at lw_m3 185 rfl) rfl
theorem q947 : (Jvm.Cond.soleField "ElectionHouse$Contest" "places") ∈ lw_all := lw_g (lw_at lw_m3 186 rfl) rfl
theorem q948 : (Jvm.Cond.lays "ElectionHouse$Contest" "ElectionHouse$Contest" "isDrawn" "Z") ∈ lw_all := lw_g (lw_at lw_m3 187 rfl) rfl
theorem q949 : (Jvm.Cond.soleField "ElectionHouse$Contest" "isDrawn") ∈ lw_all := lw_g (lw_at lw_m3 188 rfl) rfl
theorem q950 : (Jvm.Cond.superclass "ElectionHouse$Contest" "java/lang/Object") ∈ lw_all := lw_g (lw_at lw_m3 189 rfl) rfl
theorem q1573 : (Jvm.Cond.instanceMethod ({ cls := "ElectionHouse$Contest", name := "begin", desc := "()V" } : Jvm.MethodName)) ∈ lw_all := lw_g (lw_at lw_m6 92 rfl) rfl
theorem q1574 : (Jvm.Cond.selects "ElectionHouse$Contest" ({ cls := "ElectionHouse$Contest", name := "begin", desc := "()V" } : Jvm.MethodName) ({ cls := "ElectionHouse$Contest", name := "begin", desc := "()V" } : Jvm.MethodName)) ∈ lw_all := lw_g (lw_at lw_m6 93 rfl) rfl
theorem q1575 : (Jvm.Cond.code ({ cls := "ElectionHouse$Contest", name := "begin", desc := "()V" } : Jvm.MethodName) prog_4_method_2_code (1 : Nat) (Option.none : Option Jvm.ClassFile.FieldType)) ∈ lw_all := lw_g (lw_at lw_m6 94 rfl) rfl
theorem q1596 : (Jvm.Cond.instanceMethod ({ cls := "ElectionHouse$Contest", name := "struck", desc := "()I" } : Jvm.MethodName)) ∈ lw_all := lw_g (lw_at lw_m6 115 rfl) rfl
theorem q1597 : (Jvm.Cond.selects "ElectionHouse$Contest" ({ cls := "ElectionHouse$Contest", name := "struck", desc := "()I" } : Jvm.MethodName) ({ cls := "ElectionHouse$Contest", name := "struck", desc := "()I" } : Jvm.MethodName)) ∈ lw_all := lw_g (lw_at lw_m6 116 rfl) rfl
theorem q1598 : (Jvm.Cond.code ({ cls := "ElectionHouse$Contest", name := "struck", desc := "()I" } : Jvm.MethodName) prog_4_method_6_code (3 : Nat) (Option.some Jvm.ClassFile.FieldType.int)) ∈ lw_all := lw_g (lw_at lw_m6 117 rfl) rfl
theorem q1641 : (Jvm.Cond.instanceMethod ({ cls := "ElectionHouse$Contest", name := "hasPerson", desc := "(I)Z" } : Jvm.MethodName)) ∈ lw_all := lw_g (lw_at lw_m6 160 rfl) rfl
theorem q1642 : (Jvm.Cond.selects "ElectionHouse$Contest" ({ cls := "ElectionHouse$Contest", name := "hasPerson", desc := "(I)Z" } : Jvm.MethodName) ({ cls := "ElectionHouse$Contest", name := "hasPerson", desc := "(I)Z" } : Jvm.MethodName)) ∈ lw_all := lw_g (lw_at lw_m6 161 rfl) rfl
theorem q1643 : (Jvm.Cond.code ({ cls := "ElectionHouse$Contest", name := "hasPerson", desc := "(I)Z" } : Jvm.MethodName) prog_4_method_3_code (3 : Nat) (Option.some Jvm.ClassFile.FieldType.boolean)) ∈ lw_all := lw_g (lw_at lw_m6 162 rfl) rfl
theorem q1652 : (Jvm.Cond.fieldLinkNest "ElectionHouse$Contest" (45 : Nat) "ElectionHouse$Nomination" "person" "I" "ElectionHouse") ∈ lw_tbl := lw_at lw_m6 171 rfl
theorem q1655 : (Jvm.Cond.fieldLinkNest "ElectionHouse$Contest" (50 : Nat) "ElectionHouse$Nomination" "party" "I" "ElectionHouse") ∈ lw_tbl := lw_at lw_m6 174 rfl
theorem q1662 : (Jvm.Cond.fieldLinkNest "ElectionHouse$Contest" (53 : Nat) "ElectionHouse$Nomination" "candidate" "I" "ElectionHouse") ∈ lw_tbl := lw_at lw_m6 181 rfl
theorem q1711 : (Jvm.Cond.instanceMethod ({ cls := "ElectionHouse$Contest", name := "add", desc := "(LElectionHouse$Nomination;I)V" } : Jvm.MethodName)) ∈ lw_all := lw_g (lw_at lw_m6 230 rfl) rfl
theorem q1712 : (Jvm.Cond.selects "ElectionHouse$Contest" ({ cls := "ElectionHouse$Contest", name := "add", desc := "(LElectionHouse$Nomination;I)V" } : Jvm.MethodName) ({ cls := "ElectionHouse$Contest", name := "add", desc := "(LElectionHouse$Nomination;I)V" } : Jvm.MethodName)) ∈ lw_all := lw_g (lw_at lw_m6 231 rfl) rfl
theorem q1713 : (Jvm.Cond.code ({ cls := "ElectionHouse$Contest", name := "add", desc := "(LElectionHouse$Nomination;I)V" } : Jvm.MethodName) prog_4_method_4_code (3 : Nat) (Option.none : Option Jvm.ClassFile.FieldType)) ∈ lw_all := lw_g (lw_at lw_m6 232 rfl) rfl
theorem q1759 : (Jvm.Cond.instanceMethod ({ cls := "ElectionHouse$Contest", name := "draw", desc := "(J)V" } : Jvm.MethodName)) ∈ lw_all := lw_g (lw_at lw_m7 38 rfl) rfl
theorem q1760 : (Jvm.Cond.selects "ElectionHouse$Contest" ({ cls := "ElectionHouse$Contest", name := "draw", desc := "(J)V" } : Jvm.MethodName) ({ cls := "ElectionHouse$Contest", name := "draw", desc := "(J)V" } : Jvm.MethodName)) ∈ lw_all := lw_g (lw_at lw_m7 39 rfl) rfl
theorem q1761 : (Jvm.Cond.code ({ cls := "ElectionHouse$Contest", name := "draw", desc := "(J)V" } : Jvm.MethodName) prog_4_method_5_code (8 : Nat) (Option.none : Option Jvm.ClassFile.FieldType)) ∈ lw_all := lw_g (lw_at lw_m7 40 rfl) rfl
theorem q1762 : (Jvm.Cond.methodLinkNest "ElectionHouse$Contest" (56 : Nat) ({ cls := "ElectionHouse", name := "stepped", desc := "(J)J" } : Jvm.MethodName) "ElectionHouse") ∈ lw_tbl := lw_at lw_m7 41 rfl
theorem q1767 : (Jvm.Cond.methodLinkNest "ElectionHouse$Contest" (60 : Nat) ({ cls := "ElectionHouse", name := "placeOf", desc := "(JI)I" } : Jvm.MethodName) "ElectionHouse") ∈ lw_tbl := lw_at lw_m7 46 rfl
theorem in_X9 : ∀ w ∈ wsX90, w ∈ lw_all := lw_in wsX90 [930, 932, 934, 936, 938, 940, 942, 944, 946, 948] (by decide +kernel) (by decide +kernel)

set_option maxRecDepth 100000
abbrev cX10_init : ByteArray := prog_2_method_1_code
def yX10_init : MethodName := ⟨RX10, "<init>", "()V"⟩
def dkwX10_init_1 : List UInt8 := [42, 16, 60, 16, 54, 197, 0, 15, 2, 181, 0, 20, 177]
abbrev dktX10_init_1 : List UInt8 := dkwX10_init_1 ++ []
def dkwX10_init_0 : List UInt8 := [42, 183, 0, 3, 42, 16, 60, 188, 10, 181, 0, 9, 42, 16, 60, 16, 54, 197, 0, 15, 2, 181, 0, 17]
abbrev dktX10_init_0 : List UInt8 := dkwX10_init_0 ++ dktX10_init_1
theorem dksX10_init_0 : cX10_init.data.toList.drop 0 = dktX10_init_0 := by decide +kernel
theorem dksX10_init_1 : cX10_init.data.toList.drop 24 = dktX10_init_1 := dk_seg dksX10_init_0 24 rfl rfl
theorem dX10_init_0 : decode cX10_init 0 = .ok (.aload_n 0, 1) := dk_42 (dk_at dksX10_init_0 0 rfl rfl)
theorem dX10_init_1 : decode cX10_init 1 = .ok (.invokespecial 3, 3) := dk_183 0 3 (dk_at dksX10_init_0 1 rfl rfl)
theorem dX10_init_4 : decode cX10_init 4 = .ok (.aload_n 0, 1) := dk_42 (dk_at dksX10_init_0 4 rfl rfl)
theorem dX10_init_5 : decode cX10_init 5 = .ok (.bipush 60, 2) := dk_16 60 (dk_at dksX10_init_0 5 rfl rfl)
theorem dX10_init_7 : decode cX10_init 7 = .ok (.newarray .int, 2) := dk_188_10 (dk_at dksX10_init_0 7 rfl rfl)
theorem dX10_init_9 : decode cX10_init 9 = .ok (.putfield 9, 3) := dk_181 0 9 (dk_at dksX10_init_0 9 rfl rfl)
theorem dX10_init_12 : decode cX10_init 12 = .ok (.aload_n 0, 1) := dk_42 (dk_at dksX10_init_0 12 rfl rfl)
theorem dX10_init_13 : decode cX10_init 13 = .ok (.bipush 60, 2) := dk_16 60 (dk_at dksX10_init_0 13 rfl rfl)
theorem dX10_init_15 : decode cX10_init 15 = .ok (.bipush 54, 2) := dk_16 54 (dk_at dksX10_init_0 15 rfl rfl)
theorem dX10_init_17 : decode cX10_init 17 = .ok (.multianewarray 15 2, 4) := by decide +kernel
theorem dX10_init_21 : decode cX10_init 21 = .ok (.putfield 17, 3) := dk_181 0 17 (dk_at dksX10_init_0 21 rfl rfl)
theorem dX10_init_24 : decode cX10_init 24 = .ok (.aload_n 0, 1) := dk_42 (dk_at dksX10_init_1 0 rfl rfl)
theorem dX10_init_25 : decode cX10_init 25 = .ok (.bipush 60, 2) := dk_16 60 (dk_at dksX10_init_1 1 rfl rfl)
theorem dX10_init_27 : decode cX10_init 27 = .ok (.bipush 54, 2) := dk_16 54 (dk_at dksX10_init_1 3 rfl rfl)
theorem dX10_init_29 : decode cX10_init 29 = .ok (.multianewarray 15 2, 4) := by decide +kernel
theorem dX10_init_33 : decode cX10_init 33 = .ok (.putfield 20, 3) := dk_181 0 20 (dk_at dksX10_init_1 9 rfl rfl)
theorem dX10_init_36 : decode cX10_init 36 = .ok (.return_, 1) := dk_177 (dk_at dksX10_init_1 12 rfl rfl)
abbrev cX10_begin : ByteArray := prog_2_method_2_code
def yX10_begin : MethodName := ⟨RX10, "begin", "()V"⟩
def dkwX10_begin_0 : List UInt8 := [42, 3, 181, 0, 23, 42, 3, 181, 0, 27, 42, 3, 181, 0, 31, 177]
abbrev dktX10_begin_0 : List UInt8 := dkwX10_begin_0 ++ []
theorem dksX10_begin_0 : cX10_begin.data.toList.drop 0 = dktX10_begin_0 := by decide +kernel
theorem dX10_begin_0 : decode cX10_begin 0 = .ok (.aload_n 0, 1) := dk_42 (dk_at dksX10_begin_0 0 rfl rfl)
theorem dX10_begin_1 : decode cX10_begin 1 = .ok (.iconst 0, 1) := dk_3 (dk_at dksX10_begin_0 1 rfl rfl)
theorem dX10_begin_2 : decode cX10_begin 2 = .ok (.putfield 23, 3) := dk_181 0 23 (dk_at dksX10_begin_0 2 rfl rfl)
theorem dX10_begin_5 : decode cX10_begin 5 = .ok (.aload_n 0, 1) := dk_42 (dk_at dksX10_begin_0 5 rfl rfl)
theorem dX10_begin_6 : decode cX10_begin 6 = .ok (.iconst 0, 1) := dk_3 (dk_at dksX10_begin_0 6 rfl rfl)
theorem dX10_begin_7 : decode cX10_begin 7 = .ok (.putfield 27, 3) := dk_181 0 27 (dk_at dksX10_begin_0 7 rfl rfl)
theorem dX10_begin_10 : decode cX10_begin 10 = .ok (.aload_n 0, 1) := dk_42 (dk_at dksX10_begin_0 10 rfl rfl)
theorem dX10_begin_11 : decode cX10_begin 11 = .ok (.iconst 0, 1) := dk_3 (dk_at dksX10_begin_0 11 rfl rfl)
theorem dX10_begin_12 : decode cX10_begin 12 = .ok (.putfield 31, 3) := dk_181 0 31 (dk_at dksX10_begin_0 12 rfl rfl)
theorem dX10_begin_15 : decode cX10_begin 15 = .ok (.return_, 1) := dk_177 (dk_at dksX10_begin_0 15 rfl rfl)
abbrev cX10_put : ByteArray := prog_2_method_4_code
def yX10_put : MethodName := ⟨RX10, "put", "(I[BI)V"⟩
def dkwX10_put_4 : List UInt8 := [184, 0, 38, 42, 89, 180, 0, 23, 4, 96, 181, 0, 23, 177]
abbrev dktX10_put_4 : List UInt8 := dkwX10_put_4 ++ []
def dkwX10_put_3 : List UInt8 := [167, 255, 195, 42, 180, 0, 9, 21, 4, 27, 79, 44, 3, 42, 180, 0, 17, 21, 4, 50, 3, 29]
abbrev dktX10_put_3 : List UInt8 := dkwX10_put_3 ++ dktX10_put_4
def dkwX10_put_2 : List UInt8 := [21, 4, 4, 100, 50, 3, 42, 180, 0, 17, 21, 4, 50, 3, 16, 54, 184, 0, 38, 132, 4, 255]
abbrev dktX10_put_2 : List UInt8 := dkwX10_put_2 ++ dktX10_put_3
def dkwX10_put_1 : List UInt8 := [153, 0, 48, 42, 180, 0, 9, 21, 4, 42, 180, 0, 9, 21, 4, 4, 100, 46, 79, 42, 180, 0, 17]
abbrev dktX10_put_1 : List UInt8 := dkwX10_put_1 ++ dktX10_put_2
def dkwX10_put_0 : List UInt8 := [42, 180, 0, 23, 54, 4, 21, 4, 158, 0, 62, 42, 21, 4, 4, 100, 27, 44, 29, 182, 0, 34]
abbrev dktX10_put_0 : List UInt8 := dkwX10_put_0 ++ dktX10_put_1
theorem dksX10_put_0 : cX10_put.data.toList.drop 0 = dktX10_put_0 := by decide +kernel
theorem dksX10_put_1 : cX10_put.data.toList.drop 22 = dktX10_put_1 := dk_seg dksX10_put_0 22 rfl rfl
theorem dksX10_put_2 : cX10_put.data.toList.drop 45 = dktX10_put_2 := dk_seg dksX10_put_1 23 rfl rfl
theorem dksX10_put_3 : cX10_put.data.toList.drop 67 = dktX10_put_3 := dk_seg dksX10_put_2 22 rfl rfl
theorem dksX10_put_4 : cX10_put.data.toList.drop 89 = dktX10_put_4 := dk_seg dksX10_put_3 22 rfl rfl
theorem dX10_put_0 : decode cX10_put 0 = .ok (.aload_n 0, 1) := dk_42 (dk_at dksX10_put_0 0 rfl rfl)
theorem dX10_put_1 : decode cX10_put 1 = .ok (.getfield 23, 3) := dk_180 0 23 (dk_at dksX10_put_0 1 rfl rfl)
theorem dX10_put_4 : decode cX10_put 4 = .ok (.istore 4, 2) := dk_54 4 (dk_at dksX10_put_0 4 rfl rfl)
theorem dX10_put_6 : decode cX10_put 6 = .ok (.iload 4, 2) := dk_21 4 (dk_at dksX10_put_0 6 rfl rfl)
theorem dX10_put_8 : decode cX10_put 8 = .ok (.ifCond .le 62, 3) := dk_158 0 62 (dk_at dksX10_put_0 8 rfl rfl)
theorem dX10_put_11 : decode cX10_put 11 = .ok (.aload_n 0, 1) := dk_42 (dk_at dksX10_put_0 11 rfl rfl)
theorem dX10_put_12 : decode cX10_put 12 = .ok (.iload 4, 2) := dk_21 4 (dk_at dksX10_put_0 12 rfl rfl)
theorem dX10_put_14 : decode cX10_put 14 = .ok (.iconst 1, 1) := dk_4 (dk_at dksX10_put_0 14 rfl rfl)
theorem dX10_put_15 : decode cX10_put 15 = .ok (.isub, 1) := dk_100 (dk_at dksX10_put_0 15 rfl rfl)
theorem dX10_put_16 : decode cX10_put 16 = .ok (.iload_n 1, 1) := dk_27 (dk_at dksX10_put_0 16 rfl rfl)
theorem dX10_put_17 : decode cX10_put 17 = .ok (.aload_n 2, 1) := dk_44 (dk_at dksX10_put_0 17 rfl rfl)
theorem dX10_put_18 : decode cX10_put 18 = .ok (.iload_n 3, 1) := dk_29 (dk_at dksX10_put_0 18 rfl rfl)
theorem dX10_put_19 : decode cX10_put 19 = .ok (.invokevirtual 34, 3) := dk_182 0 34 (dk_at dksX10_put_0 19 rfl rfl)
theorem dX10_put_22 : decode cX10_put 22 = .ok (.ifCond .eq 48, 3) := dk_153 0 48 (dk_at dksX10_put_1 0 rfl rfl)
theorem dX10_put_25 : decode cX10_put 25 = .ok (.aload_n 0, 1) := dk_42 (dk_at dksX10_put_1 3 rfl rfl)
theorem dX10_put_26 : decode cX10_put 26 = .ok (.getfield 9, 3) := dk_180 0 9 (dk_at dksX10_put_1 4 rfl rfl)
theorem dX10_put_29 : decode cX10_put 29 = .ok (.iload 4, 2) := dk_21 4 (dk_at dksX10_put_1 7 rfl rfl)
theorem dX10_put_31 : decode cX10_put 31 = .ok (.aload_n 0, 1) := dk_42 (dk_at dksX10_put_1 9 rfl rfl)
theorem dX10_put_32 : decode cX10_put 32 = .ok (.getfield 9, 3) := dk_180 0 9 (dk_at dksX10_put_1 10 rfl rfl)
theorem dX10_put_35 : decode cX10_put 35 = .ok (.iload 4, 2) := dk_21 4 (dk_at dksX10_put_1 13 rfl rfl)
theorem dX10_put_37 : decode cX10_put 37 = .ok (.iconst 1, 1) := dk_4 (dk_at dksX10_put_1 15 rfl rfl)
theorem dX10_put_38 : decode cX10_put 38 = .ok (.isub, 1) := dk_100 (dk_at dksX10_put_1 16 rfl rfl)
theorem dX10_put_39 : decode cX10_put 39 = .ok (.iaload, 1) := dk_46 (dk_at dksX10_put_1 17 rfl rfl)
theorem dX10_put_40 : decode cX10_put 40 = .ok (.iastore, 1) := dk_79 (dk_at dksX10_put_1 18 rfl rfl)
theorem dX10_put_41 : decode cX10_put 41 = .ok (.aload_n 0, 1) := dk_42 (dk_at dksX10_put_1 19 rfl rfl)
theorem dX10_put_42 : decode cX10_put 42 = .ok (.getfield 17, 3) := dk_180 0 17 (dk_at dksX10_put_1 20 rfl rfl)
theorem dX10_put_45 : decode cX10_put 45 = .ok (.iload 4, 2) := dk_21 4 (dk_at dksX10_put_2 0 rfl rfl)
theorem dX10_put_47 : decode cX10_put 47 = .ok (.iconst 1, 1) := dk_4 (dk_at dksX10_put_2 2 rfl rfl)
theorem dX10_put_48 : decode cX10_put 48 = .ok (.isub, 1) := dk_100 (dk_at dksX10_put_2 3 rfl rfl)
theorem dX10_put_49 : decode cX10_put 49 = .ok (.aaload, 1) := dk_50 (dk_at dksX10_put_2 4 rfl rfl)
theorem dX10_put_50 : decode cX10_put 50 = .ok (.iconst 0, 1) := dk_3 (dk_at dksX10_put_2 5 rfl rfl)
theorem dX10_put_51 : decode cX10_put 51 = .ok (.aload_n 0, 1) := dk_42 (dk_at dksX10_put_2 6 rfl rfl)
theorem dX10_put_52 : decode cX10_put 52 = .ok (.getfield 17, 3) := dk_180 0 17 (dk_at dksX10_put_2 7 rfl rfl)
theorem dX10_put_55 : decode cX10_put 55 = .ok (.iload 4, 2) := dk_21 4 (dk_at dksX10_put_2 10 rfl rfl)
theorem dX10_put_57 : decode cX10_put 57 = .ok (.aaload, 1) := dk_50 (dk_at dksX10_put_2 12 rfl rfl)
theorem dX10_put_58 : decode cX10_put 58 = .ok (.iconst 0, 1) := dk_3 (dk_at dksX10_put_2 13 rfl rfl)
theorem dX10_put_59 : decode cX10_put 59 = .ok (.bipush 54, 2) := dk_16 54 (dk_at dksX10_put_2 14 rfl rfl)
theorem dX10_put_61 : decode cX10_put 61 = .ok (.invokestatic 38, 3) := dk_184 0 38 (dk_at dksX10_put_2 16 rfl rfl)
theorem dX10_put_64 : decode cX10_put 64 = .ok (.iinc 4 (-1), 3) := dk_132 4 255 (dk_at dksX10_put_2 19 rfl rfl)
theorem dX10_put_67 : decode cX10_put 67 = .ok (.goto (-61), 3) := dk_167 255 195 (dk_at dksX10_put_3 0 rfl rfl)
theorem dX10_put_70 : decode cX10_put 70 = .ok (.aload_n 0, 1) := dk_42 (dk_at dksX10_put_3 3 rfl rfl)
theorem dX10_put_71 : decode cX10_put 71 = .ok (.getfield 9, 3) := dk_180 0 9 (dk_at dksX10_put_3 4 rfl rfl)
theorem dX10_put_74 : decode cX10_put 74 = .ok (.iload 4, 2) := dk_21 4 (dk_at dksX10_put_3 7 rfl rfl)
theorem dX10_put_76 : decode cX10_put 76 = .ok (.iload_n 1, 1) := dk_27 (dk_at dksX10_put_3 9 rfl rfl)
theorem dX10_put_77 : decode cX10_put 77 = .ok (.iastore, 1) := dk_79 (dk_at dksX10_put_3 10 rfl rfl)
theorem dX10_put_78 : decode cX10_put 78 = .ok (.aload_n 2, 1) := dk_44 (dk_at dksX10_put_3 11 rfl rfl)
theorem dX10_put_79 : decode cX10_put 79 = .ok (.iconst 0, 1) := dk_3 (dk_at dksX10_put_3 12 rfl rfl)
theorem dX10_put_80 : decode cX10_put 80 = .ok (.aload_n 0, 1) := dk_42 (dk_at dksX10_put_3 13 rfl rfl)
theorem dX10_put_81 : decode cX10_put 81 = .ok (.getfield 17, 3) := dk_180 0 17 (dk_at dksX10_put_3 14 rfl rfl)
theorem dX10_put_84 : decode cX10_put 84 = .ok (.iload 4, 2) := dk_21 4 (dk_at dksX10_put_3 17 rfl rfl)
theorem dX10_put_86 : decode cX10_put 86 = .ok (.aaload, 1) := dk_50 (dk_at dksX10_put_3 19 rfl rfl)
theorem dX10_put_87 : decode cX10_put 87 = .ok (.iconst 0, 1) := dk_3 (dk_at dksX10_put_3 20 rfl rfl)
theorem dX10_put_88 : decode cX10_put 88 = .ok (.iload_n 3, 1) := dk_29 (dk_at dksX10_put_3 21 rfl rfl)
theorem dX10_put_89 : decode cX10_put 89 = .ok (.invokestatic 38, 3) := dk_184 0 38 (dk_at dksX10_put_4 0 rfl rfl)
theorem dX10_put_92 : decode cX10_put 92 = .ok (.aload_n 0, 1) := dk_42 (dk_at dksX10_put_4 3 rfl rfl)
theorem dX10_put_93 : decode cX10_put 93 = .ok (.dup, 1) := dk_89 (dk_at dksX10_put_4 4 rfl rfl)
theorem dX10_put_94 : decode cX10_put 94 = .ok (.getfield 23, 3) := dk_180 0 23 (dk_at dksX10_put_4 5 rfl rfl)
theorem dX10_put_97 : decode cX10_put 97 = .ok (.iconst 1, 1) := dk_4 (dk_at dksX10_put_4 8 rfl rfl)
theorem dX10_put_98 : decode cX10_put 98 = .ok (.iadd, 1) := dk_96 (dk_at dksX10_put_4 9 rfl rfl)
theorem dX10_put_99 : decode cX10_put 99 = .ok (.putfield 23, 3) := dk_181 0 23 (dk_at dksX10_put_4 10 rfl rfl)
theorem dX10_put_102 : decode cX10_put 102 = .ok (.return_, 1) := dk_177 (dk_at dksX10_put_4 13 rfl rfl)
abbrev cX10_isBehind : ByteArray := prog_2_method_3_code
def yX10_isBehind : MethodName := ⟨RX10, "isBehind", "(II[BI)Z"⟩
def dkwX10_isBehind_3 : List UInt8 := [3, 172, 132, 5, 1, 167, 255, 208, 3, 172]
abbrev dktX10_isBehind_3 : List UInt8 := dkwX10_isBehind_3 ++ []
def dkwX10_isBehind_2 : List UInt8 := [51, 159, 0, 25, 42, 180, 0, 17, 27, 50, 21, 5, 51, 45, 21, 5, 51, 164, 0, 7, 4, 167, 0, 4]
abbrev dktX10_isBehind_2 : List UInt8 := dkwX10_isBehind_2 ++ dktX10_isBehind_3
def dkwX10_isBehind_1 : List UInt8 := [3, 172, 3, 54, 5, 21, 5, 21, 4, 162, 0, 47, 42, 180, 0, 17, 27, 50, 21, 5, 51, 45, 21, 5]
abbrev dktX10_isBehind_1 : List UInt8 := dkwX10_isBehind_1 ++ dktX10_isBehind_2
def dkwX10_isBehind_0 : List UInt8 := [42, 180, 0, 9, 27, 46, 28, 159, 0, 19, 42, 180, 0, 9, 27, 46, 28, 164, 0, 7, 4, 167, 0, 4]
abbrev dktX10_isBehind_0 : List UInt8 := dkwX10_isBehind_0 ++ dktX10_isBehind_1
theorem dksX10_isBehind_0 : cX10_isBehind.data.toList.drop 0 = dktX10_isBehind_0 := by decide +kernel
theorem dksX10_isBehind_1 : cX10_isBehind.data.toList.drop 24 = dktX10_isBehind_1 := dk_seg dksX10_isBehind_0 24 rfl rfl
theorem dksX10_isBehind_2 : cX10_isBehind.data.toList.drop 48 = dktX10_isBehind_2 := dk_seg dksX10_isBehind_1 24 rfl rfl
theorem dksX10_isBehind_3 : cX10_isBehind.data.toList.drop 72 = dktX10_isBehind_3 := dk_seg dksX10_isBehind_2 24 rfl rfl
theorem dX10_isBehind_0 : decode cX10_isBehind 0 = .ok (.aload_n 0, 1) := dk_42 (dk_at dksX10_isBehind_0 0 rfl rfl)
theorem dX10_isBehind_1 : decode cX10_isBehind 1 = .ok (.getfield 9, 3) := dk_180 0 9 (dk_at dksX10_isBehind_0 1 rfl rfl)
theorem dX10_isBehind_4 : decode cX10_isBehind 4 = .ok (.iload_n 1, 1) := dk_27 (dk_at dksX10_isBehind_0 4 rfl rfl)
theorem dX10_isBehind_5 : decode cX10_isBehind 5 = .ok (.iaload, 1) := dk_46 (dk_at dksX10_isBehind_0 5 rfl rfl)
theorem dX10_isBehind_6 : decode cX10_isBehind 6 = .ok (.iload_n 2, 1) := dk_28 (dk_at dksX10_isBehind_0 6 rfl rfl)
theorem dX10_isBehind_7 : decode cX10_isBehind 7 = .ok (.if_icmp .eq 19, 3) := dk_159 0 19 (dk_at dksX10_isBehind_0 7 rfl rfl)
theorem dX10_isBehind_10 : decode cX10_isBehind 10 = .ok (.aload_n 0, 1) := dk_42 (dk_at dksX10_isBehind_0 10 rfl rfl)
theorem dX10_isBehind_11 : decode cX10_isBehind 11 = .ok (.getfield 9, 3) := dk_180 0 9 (dk_at dksX10_isBehind_0 11 rfl rfl)
theorem dX10_isBehind_14 : decode cX10_isBehind 14 = .ok (.iload_n 1, 1) := dk_27 (dk_at dksX10_isBehind_0 14 rfl rfl)
theorem dX10_isBehind_15 : decode cX10_isBehind 15 = .ok (.iaload, 1) := dk_46 (dk_at dksX10_isBehind_0 15 rfl rfl)
theorem dX10_isBehind_16 : decode cX10_isBehind 16 = .ok (.iload_n 2, 1) := dk_28 (dk_at dksX10_isBehind_0 16 rfl rfl)
theorem dX10_isBehind_17 : decode cX10_isBehind 17 = .ok (.if_icmp .le 7, 3) := dk_164 0 7 (dk_at dksX10_isBehind_0 17 rfl rfl)
theorem dX10_isBehind_20 : decode cX10_isBehind 20 = .ok (.iconst 1, 1) := dk_4 (dk_at dksX10_isBehind_0 20 rfl rfl)
theorem dX10_isBehind_21 : decode cX10_isBehind 21 = .ok (.goto 4, 3) := dk_167 0 4 (dk_at dksX10_isBehind_0 21 rfl rfl)
theorem dX10_isBehind_24 : decode cX10_isBehind 24 = .ok (.iconst 0, 1) := dk_3 (dk_at dksX10_isBehind_1 0 rfl rfl)
theorem dX10_isBehind_25 : decode cX10_isBehind 25 = .ok (.ireturn, 1) := dk_172 (dk_at dksX10_isBehind_1 1 rfl rfl)
theorem dX10_isBehind_26 : decode cX10_isBehind 26 = .ok (.iconst 0, 1) := dk_3 (dk_at dksX10_isBehind_1 2 rfl rfl)
theorem dX10_isBehind_27 : decode cX10_isBehind 27 = .ok (.istore 5, 2) := dk_54 5 (dk_at dksX10_isBehind_1 3 rfl rfl)
theorem dX10_isBehind_29 : decode cX10_isBehind 29 = .ok (.iload 5, 2) := dk_21 5 (dk_at dksX10_isBehind_1 5 rfl rfl)
theorem dX10_isBehind_31 : decode cX10_isBehind 31 = .ok (.iload 4, 2) := dk_21 4 (dk_at dksX10_isBehind_1 7 rfl rfl)
theorem dX10_isBehind_33 : decode cX10_isBehind 33 = .ok (.if_icmp .ge 47, 3) := dk_162 0 47 (dk_at dksX10_isBehind_1 9 rfl rfl)
theorem dX10_isBehind_36 : decode cX10_isBehind 36 = .ok (.aload_n 0, 1) := dk_42 (dk_at dksX10_isBehind_1 12 rfl rfl)
theorem dX10_isBehind_37 : decode cX10_isBehind 37 = .ok (.getfield 17, 3) := dk_180 0 17 (dk_at dksX10_isBehind_1 13 rfl rfl)
theorem dX10_isBehind_40 : decode cX10_isBehind 40 = .ok (.iload_n 1, 1) := dk_27 (dk_at dksX10_isBehind_1 16 rfl rfl)
theorem dX10_isBehind_41 : decode cX10_isBehind 41 = .ok (.aaload, 1) := dk_50 (dk_at dksX10_isBehind_1 17 rfl rfl)
theorem dX10_isBehind_42 : decode cX10_isBehind 42 = .ok (.iload 5, 2) := dk_21 5 (dk_at dksX10_isBehind_1 18 rfl rfl)
theorem dX10_isBehind_44 : decode cX10_isBehind 44 = .ok (.baload, 1) := dk_51 (dk_at dksX10_isBehind_1 20 rfl rfl)
theorem dX10_isBehind_45 : decode cX10_isBehind 45 = .ok (.aload_n 3, 1) := dk_45 (dk_at dksX10_isBehind_1 21 rfl rfl)
theorem dX10_isBehind_46 : decode cX10_isBehind 46 = .ok (.iload 5, 2) := dk_21 5 (dk_at dksX10_isBehind_1 22 rfl rfl)
theorem dX10_isBehind_48 : decode cX10_isBehind 48 = .ok (.baload, 1) := dk_51 (dk_at dksX10_isBehind_2 0 rfl rfl)
theorem dX10_isBehind_49 : decode cX10_isBehind 49 = .ok (.if_icmp .eq 25, 3) := dk_159 0 25 (dk_at dksX10_isBehind_2 1 rfl rfl)
theorem dX10_isBehind_52 : decode cX10_isBehind 52 = .ok (.aload_n 0, 1) := dk_42 (dk_at dksX10_isBehind_2 4 rfl rfl)
theorem dX10_isBehind_53 : decode cX10_isBehind 53 = .ok (.getfield 17, 3) := dk_180 0 17 (dk_at dksX10_isBehind_2 5 rfl rfl)
theorem dX10_isBehind_56 : decode cX10_isBehind 56 = .ok (.iload_n 1, 1) := dk_27 (dk_at dksX10_isBehind_2 8 rfl rfl)
theorem dX10_isBehind_57 : decode cX10_isBehind 57 = .ok (.aaload, 1) := dk_50 (dk_at dksX10_isBehind_2 9 rfl rfl)
theorem dX10_isBehind_58 : decode cX10_isBehind 58 = .ok (.iload 5, 2) := dk_21 5 (dk_at dksX10_isBehind_2 10 rfl rfl)
theorem dX10_isBehind_60 : decode cX10_isBehind 60 = .ok (.baload, 1) := dk_51 (dk_at dksX10_isBehind_2 12 rfl rfl)
theorem dX10_isBehind_61 : decode cX10_isBehind 61 = .ok (.aload_n 3, 1) := dk_45 (dk_at dksX10_isBehind_2 13 rfl rfl)
theorem dX10_isBehind_62 : decode cX10_isBehind 62 = .ok (.iload 5, 2) := dk_21 5 (dk_at dksX10_isBehind_2 14 rfl rfl)
theorem dX10_isBehind_64 : decode cX10_isBehind 64 = .ok (.baload, 1) := dk_51 (dk_at dksX10_isBehind_2 16 rfl rfl)
theorem dX10_isBehind_65 : decode cX10_isBehind 65 = .ok (.if_icmp .le 7, 3) := dk_164 0 7 (dk_at dksX10_isBehind_2 17 rfl rfl)
theorem dX10_isBehind_68 : decode cX10_isBehind 68 = .ok (.iconst 1, 1) := dk_4 (dk_at dksX10_isBehind_2 20 rfl rfl)
theorem dX10_isBehind_69 : decode cX10_isBehind 69 = .ok (.goto 4, 3) := dk_167 0 4 (dk_at dksX10_isBehind_2 21 rfl rfl)
theorem dX10_isBehind_72 : decode cX10_isBehind 72 = .ok (.iconst 0, 1) := dk_3 (dk_at dksX10_isBehind_3 0 rfl rfl)
theorem dX10_isBehind_73 : decode cX10_isBehind 73 = .ok (.ireturn, 1) := dk_172 (dk_at dksX10_isBehind_3 1 rfl rfl)
theorem dX10_isBehind_74 : decode cX10_isBehind 74 = .ok (.iinc 5 1, 3) := dk_132 5 1 (dk_at dksX10_isBehind_3 2 rfl rfl)
theorem dX10_isBehind_77 : decode cX10_isBehind 77 = .ok (.goto (-48), 3) := dk_167 255 208 (dk_at dksX10_isBehind_3 5 rfl rfl)
theorem dX10_isBehind_80 : decode cX10_isBehind 80 = .ok (.iconst 0, 1) := dk_3 (dk_at dksX10_isBehind_3 8 rfl rfl)
theorem dX10_isBehind_81 : decode cX10_isBehind 81 = .ok (.ireturn, 1) := dk_172 (dk_at dksX10_isBehind_3 9 rfl rfl)
abbrev cX10_close : ByteArray := prog_2_method_5_code
def yX10_close : MethodName := ⟨RX10, "close", "()V"⟩
def dkwX10_close_1 : List UInt8 := [180, 0, 20, 27, 50, 3, 16, 54, 184, 0, 38, 132, 1, 1, 167, 255, 226, 177]
abbrev dktX10_close_1 : List UInt8 := dkwX10_close_1 ++ []
def dkwX10_close_0 : List UInt8 := [42, 4, 181, 0, 27, 3, 60, 27, 42, 180, 0, 23, 162, 0, 28, 42, 180, 0, 17, 27, 50, 3, 42]
abbrev dktX10_close_0 : List UInt8 := dkwX10_close_0 ++ dktX10_close_1
theorem dksX10_close_0 : cX10_close.data.toList.drop 0 = dktX10_close_0 := by decide +kernel
theorem dksX10_close_1 : cX10_close.data.toList.drop 23 = dktX10_close_1 := dk_seg dksX10_close_0 23 rfl rfl
theorem dX10_close_0 : decode cX10_close 0 = .ok (.aload_n 0, 1) := dk_42 (dk_at dksX10_close_0 0 rfl rfl)
theorem dX10_close_1 : decode cX10_close 1 = .ok (.iconst 1, 1) := dk_4 (dk_at dksX10_close_0 1 rfl rfl)
theorem dX10_close_2 : decode cX10_close 2 = .ok (.putfield 27, 3) := dk_181 0 27 (dk_at dksX10_close_0 2 rfl rfl)
theorem dX10_close_5 : decode cX10_close 5 = .ok (.iconst 0, 1) := dk_3 (dk_at dksX10_close_0 5 rfl rfl)
theorem dX10_close_6 : decode cX10_close 6 = .ok (.istore_n 1, 1) := dk_60 (dk_at dksX10_close_0 6 rfl rfl)
theorem dX10_close_7 : decode cX10_close 7 = .ok (.iload_n 1, 1) := dk_27 (dk_at dksX10_close_0 7 rfl rfl)
theorem dX10_close_8 : decode cX10_close 8 = .ok (.aload_n 0, 1) := dk_42 (dk_at dksX10_close_0 8 rfl rfl)
theorem dX10_close_9 : decode cX10_close 9 = .ok (.getfield 23, 3) := dk_180 0 23 (dk_at dksX10_close_0 9 rfl rfl)
theorem dX10_close_12 : decode cX10_close 12 = .ok (.if_icmp .ge 28, 3) := dk_162 0 28 (dk_at dksX10_close_0 12 rfl rfl)
theorem dX10_close_15 : decode cX10_close 15 = .ok (.aload_n 0, 1) := dk_42 (dk_at dksX10_close_0 15 rfl rfl)
theorem dX10_close_16 : decode cX10_close 16 = .ok (.getfield 17, 3) := dk_180 0 17 (dk_at dksX10_close_0 16 rfl rfl)
theorem dX10_close_19 : decode cX10_close 19 = .ok (.iload_n 1, 1) := dk_27 (dk_at dksX10_close_0 19 rfl rfl)
theorem dX10_close_20 : decode cX10_close 20 = .ok (.aaload, 1) := dk_50 (dk_at dksX10_close_0 20 rfl rfl)
theorem dX10_close_21 : decode cX10_close 21 = .ok (.iconst 0, 1) := dk_3 (dk_at dksX10_close_0 21 rfl rfl)
theorem dX10_close_22 : decode cX10_close 22 = .ok (.aload_n 0, 1) := dk_42 (dk_at dksX10_close_0 22 rfl rfl)
theorem dX10_close_23 : decode cX10_close 23 = .ok (.getfield 20, 3) := dk_180 0 20 (dk_at dksX10_close_1 0 rfl rfl)
theorem dX10_close_26 : decode cX10_close 26 = .ok (.iload_n 1, 1) := dk_27 (dk_at dksX10_close_1 3 rfl rfl)
theorem dX10_close_27 : decode cX10_close 27 = .ok (.aaload, 1) := dk_50 (dk_at dksX10_close_1 4 rfl rfl)
theorem dX10_close_28 : decode cX10_close 28 = .ok (.iconst 0, 1) := dk_3 (dk_at dksX10_close_1 5 rfl rfl)
theorem dX10_close_29 : decode cX10_close 29 = .ok (.bipush 54, 2) := dk_16 54 (dk_at dksX10_close_1 6 rfl rfl)
theorem dX10_close_31 : decode cX10_close 31 = .ok (.invokestatic 38, 3) := dk_184 0 38 (dk_at dksX10_close_1 8 rfl rfl)
theorem dX10_close_34 : decode cX10_close 34 = .ok (.iinc 1 1, 3) := dk_132 1 1 (dk_at dksX10_close_1 11 rfl rfl)
theorem dX10_close_37 : decode cX10_close 37 = .ok (.goto (-30), 3) := dk_167 255 226 (dk_at dksX10_close_1 14 rfl rfl)
theorem dX10_close_40 : decode cX10_close 40 = .ok (.return_, 1) := dk_177 (dk_at dksX10_close_1 17 rfl rfl)
theorem q295 : (Jvm.Cond.initialized "ElectionHouse$Box") ∈ lw_all := lw_g (lw_at lw_m1 14 rfl) rfl
theorem q951 : (Jvm.Cond.instantiable "ElectionHouse$Box" (6 : Nat)) ∈ lw_all := lw_g (lw_at lw_m3 190 rfl) rfl
theorem q953 : (Jvm.Cond.instanceMethod ({ cls := "ElectionHouse$Box", name := "<init>", desc := "()V" } : Jvm.MethodName)) ∈ lw_all := lw_g (lw_at lw_m3 192 rfl) rfl
theorem q954 : (Jvm.Cond.code ({ cls := "ElectionHouse$Box", name := "<init>", desc := "()V" } : Jvm.MethodName) prog_2_method_1_code (1 : Nat) (Option.none : Option Jvm.ClassFile.FieldType)) ∈ lw_all := lw_g (lw_at lw_m3 193 rfl) rfl
theorem q955 : (Jvm.Cond.methodLink "ElectionHouse$Box" (3 : Nat) ({ cls := "java/lang/Object", name := "<init>", desc := "()V" } : Jvm.MethodName)) ∈ lw_all := lw_g (lw_at lw_m3 194 rfl) rfl
theorem q956 : (Jvm.Cond.classLink "ElectionHouse$Box" (15 : Nat) "[[B") ∈ lw_all := lw_g (lw_at lw_m3 195 rfl) rfl
theorem q957 : (Jvm.Cond.fieldLink "ElectionHouse$Box" (9 : Nat) "ElectionHouse$Box" "sheets" "[I") ∈ lw_all := lw_g (lw_at lw_m3 196 rfl) rfl
theorem q959 : (Jvm.Cond.fieldLink "ElectionHouse$Box" (17 : Nat) "ElectionHouse$Box" "papers" "[[B") ∈ lw_all := lw_g (lw_at lw_m3 198 rfl) rfl
theorem q961 : (Jvm.Cond.fieldLink "ElectionHouse$Box" (20 : Nat) "ElectionHouse$Box" "records" "[[B") ∈ lw_all := lw_g (lw_at lw_m3 200 rfl) rfl
theorem q963 : (Jvm.Cond.fieldLink "ElectionHouse$Box" (23 : Nat) "ElectionHouse$Box" "many" "I") ∈ lw_all := lw_g (lw_at lw_m3 202 rfl) rfl
theorem q965 : (Jvm.Cond.fieldLink "ElectionHouse$Box" (27 : Nat) "ElectionHouse$Box" "isClosed" "Z") ∈ lw_all := lw_g (lw_at lw_m3 204 rfl) rfl
theorem q967 : (Jvm.Cond.fieldLink "ElectionHouse$Box" (31 : Nat) "ElectionHouse$Box" "isStruck" "Z") ∈ lw_all := lw_g (lw_at lw_m3 206 rfl) rfl
theorem q969 : (Jvm.Cond.laysFinal "ElectionHouse$Box" "ElectionHouse$Box" "sheets" "[I") ∈ lw_all := lw_g (lw_at lw_m3 208 rfl) rfl
theorem q970 : (Jvm.Cond.soleField "ElectionHouse$Box" "sheets") ∈ lw_all := lw_g (lw_at lw_m3 209 rfl) rfl
theorem q971 : (Jvm.Cond.laysFinal "ElectionHouse$Box" "ElectionHouse$Box" "papers" "[[B") ∈ lw_all := lw_g (lw_at lw_m3 210 rfl) rfl
theorem q972 : (Jvm.Cond.soleField "ElectionHouse$Box" "papers") ∈ lw_all := lw_g (lw_at lw_m3 211 rfl) rfl
theorem q973 : (Jvm.Cond.laysFinal "ElectionHouse$Box" "ElectionHouse$Box" "records" "[[B") ∈ lw_all := lw_g (lw_at lw_m3 212 rfl) rfl
theorem q974 : (Jvm.Cond.soleField "ElectionHouse$Box" "records") ∈ lw_all := lw_g (lw_at lw_m3 213 rfl) rfl
theorem q975 : (Jvm.Cond.lays "ElectionHouse$Box" "ElectionHouse$Box" "many" "I") ∈ lw_all := lw_g (lw_at lw_m3 214 rfl) rfl
theorem q976 : (Jvm.Cond.soleField "ElectionHouse$Box" "many") ∈ lw_all := lw_g (lw_at lw_m3 215 rfl) rfl
theorem q977 : (Jvm.Cond.lays "ElectionHouse$Box" "ElectionHouse$Box" "isClosed" "Z") ∈ lw_all := lw_g (lw_at lw_m3 216 rfl) rfl
theorem q978 : (Jvm.Cond.soleField "ElectionHouse$Box" "isClosed") ∈ lw_all := lw_g (lw_at lw_m3 217 rfl) rfl
theorem q979 : (Jvm.Cond.lays "ElectionHouse$Box" "ElectionHouse$Box" "isStruck" "Z") ∈ lw_all := lw_g (lw_at lw_m3 218 rfl) rfl
theorem q980 : (Jvm.Cond.soleField "ElectionHouse$Box" "isStruck") ∈ lw_all := lw_g (lw_at lw_m3 219 rfl) rfl
theorem q981 : (Jvm.Cond.superclass "ElectionHouse$Box" "java/lang/Object") ∈ lw_all := lw_g (lw_at lw_m3 220 rfl) rfl
theorem q1580 : (Jvm.Cond.instanceMethod ({ cls := "ElectionHouse$Box", name := "begin", desc := "()V" } : Jvm.MethodName)) ∈ lw_all := lw_g (lw_at lw_m6 99 rfl) rfl
theorem q1581 : (Jvm.Cond.selects "ElectionHouse$Box" ({ cls := "ElectionHouse$Box", name := "begin", desc := "()V" } : Jvm.MethodName) ({ cls := "ElectionHouse$Box", name := "begin", desc := "()V" } : Jvm.MethodName)) ∈ lw_all := lw_g (lw_at lw_m6 100 rfl) rfl
theorem q1582 : (Jvm.Cond.code ({ cls := "ElectionHouse$Box", name := "begin", desc := "()V" } : Jvm.MethodName) prog_2_method_2_code (1 : Nat) (Option.none : Option Jvm.ClassFile.FieldType)) ∈ lw_all := lw_g (lw_at lw_m6 101 rfl) rfl
theorem q1826 : (Jvm.Cond.instanceMethod ({ cls := "ElectionHouse$Box", name := "put", desc := "(I[BI)V" } : Jvm.MethodName)) ∈ lw_all := lw_g (lw_at lw_m7 105 rfl) rfl
theorem q1827 : (Jvm.Cond.selects "ElectionHouse$Box" ({ cls := "ElectionHouse$Box", name := "put", desc := "(I[BI)V" } : Jvm.MethodName) ({ cls := "ElectionHouse$Box", name := "put", desc := "(I[BI)V" } : Jvm.MethodName)) ∈ lw_all := lw_g (lw_at lw_m7 106 rfl) rfl
theorem q1828 : (Jvm.Cond.code ({ cls := "ElectionHouse$Box", name := "put", desc := "(I[BI)V" } : Jvm.MethodName) prog_2_method_4_code (5 : Nat) (Option.none : Option Jvm.ClassFile.FieldType)) ∈ lw_all := lw_g (lw_at lw_m7 107 rfl) rfl
theorem q1829 : (Jvm.Cond.methodLink "ElectionHouse$Box" (34 : Nat) ({ cls := "ElectionHouse$Box", name := "isBehind", desc := "(II[BI)Z" } : Jvm.MethodName)) ∈ lw_all := lw_g (lw_at lw_m7 108 rfl) rfl
theorem q1830 : (Jvm.Cond.privateMethod ({ cls := "ElectionHouse$Box", name := "isBehind", desc := "(II[BI)Z" } : Jvm.MethodName)) ∈ lw_tbl := lw_at lw_m7 109 rfl
theorem q1831 : (Jvm.Cond.instanceMethod ({ cls := "ElectionHouse$Box", name := "isBehind", desc := "(II[BI)Z" } : Jvm.MethodName)) ∈ lw_all := lw_g (lw_at lw_m7 110 rfl) rfl
theorem q1832 : (Jvm.Cond.code ({ cls := "ElectionHouse$Box", name := "isBehind", desc := "(II[BI)Z" } : Jvm.MethodName) prog_2_method_3_code (6 : Nat) (Option.some Jvm.ClassFile.FieldType.boolean)) ∈ lw_all := lw_g (lw_at lw_m7 111 rfl) rfl
theorem q1833 : (Jvm.Cond.methodLink "ElectionHouse$Box" (38 : Nat) ({ cls := "java/lang/System", name := "arraycopy", desc := "(Ljava/lang/Object;ILjava/lang/Object;II)V" } : Jvm.MethodName)) ∈ lw_all := lw_g (lw_at lw_m7 112 rfl) rfl
theorem q1937 : (Jvm.Cond.instanceMethod ({ cls := "ElectionHouse$Box", name := "close", desc := "()V" } : Jvm.MethodName)) ∈ lw_all := lw_g (lw_at lw_m7 216 rfl) rfl
theorem q1938 : (Jvm.Cond.selects "ElectionHouse$Box" ({ cls := "ElectionHouse$Box", name := "close", desc := "()V" } : Jvm.MethodName) ({ cls := "ElectionHouse$Box", name := "close", desc := "()V" } : Jvm.MethodName)) ∈ lw_all := lw_g (lw_at lw_m7 217 rfl) rfl
theorem q1939 : (Jvm.Cond.code ({ cls := "ElectionHouse$Box", name := "close", desc := "()V" } : Jvm.MethodName) prog_2_method_5_code (2 : Nat) (Option.none : Option Jvm.ClassFile.FieldType)) ∈ lw_all := lw_g (lw_at lw_m7 218 rfl) rfl
theorem in_X10 : ∀ w ∈ wsX100, w ∈ lw_all := lw_in wsX100 [969, 971, 973, 975, 977, 979] (by decide +kernel) (by decide +kernel)

set_option maxRecDepth 100000
abbrev cX13_init : ByteArray := prog_13_method_1_code
def yX13_init : MethodName := ⟨RX13, "<init>", "(III)V"⟩
def dkwX13_init_3 : List UInt8 := [181, 0, 43, 42, 27, 28, 29, 184, 0, 46, 181, 0, 50, 177]
abbrev dktX13_init_3 : List UInt8 := dkwX13_init_3 ++ []
def dkwX13_init_2 : List UInt8 := [181, 0, 31, 42, 16, 12, 188, 10, 181, 0, 34, 42, 27, 181, 0, 37, 42, 28, 181, 0, 40, 42, 29]
abbrev dktX13_init_2 : List UInt8 := dkwX13_init_2 ++ dktX13_init_3
def dkwX13_init_1 : List UInt8 := [181, 0, 22, 42, 16, 12, 188, 10, 181, 0, 25, 42, 16, 12, 188, 10, 181, 0, 28, 42, 16, 12, 188, 10]
abbrev dktX13_init_1 : List UInt8 := dkwX13_init_1 ++ dktX13_init_2
def dkwX13_init_0 : List UInt8 := [42, 183, 0, 3, 42, 18, 11, 181, 0, 12, 42, 16, 10, 188, 10, 181, 0, 18, 42, 16, 10, 188, 10]
abbrev dktX13_init_0 : List UInt8 := dkwX13_init_0 ++ dktX13_init_1
theorem dksX13_init_0 : cX13_init.data.toList.drop 0 = dktX13_init_0 := by decide +kernel
theorem dksX13_init_1 : cX13_init.data.toList.drop 23 = dktX13_init_1 := dk_seg dksX13_init_0 23 rfl rfl
theorem dksX13_init_2 : cX13_init.data.toList.drop 47 = dktX13_init_2 := dk_seg dksX13_init_1 24 rfl rfl
theorem dksX13_init_3 : cX13_init.data.toList.drop 70 = dktX13_init_3 := dk_seg dksX13_init_2 23 rfl rfl
theorem dX13_init_0 : decode cX13_init 0 = .ok (.aload_n 0, 1) := dk_42 (dk_at dksX13_init_0 0 rfl rfl)
theorem dX13_init_1 : decode cX13_init 1 = .ok (.invokespecial 3, 3) := dk_183 0 3 (dk_at dksX13_init_0 1 rfl rfl)
theorem dX13_init_4 : decode cX13_init 4 = .ok (.aload_n 0, 1) := dk_42 (dk_at dksX13_init_0 4 rfl rfl)
theorem dX13_init_5 : decode cX13_init 5 = .ok (.ldc 11, 2) := dk_18 11 (dk_at dksX13_init_0 5 rfl rfl)
theorem dX13_init_7 : decode cX13_init 7 = .ok (.putfield 12, 3) := dk_181 0 12 (dk_at dksX13_init_0 7 rfl rfl)
theorem dX13_init_10 : decode cX13_init 10 = .ok (.aload_n 0, 1) := dk_42 (dk_at dksX13_init_0 10 rfl rfl)
theorem dX13_init_11 : decode cX13_init 11 = .ok (.bipush 10, 2) := dk_16 10 (dk_at dksX13_init_0 11 rfl rfl)
theorem dX13_init_13 : decode cX13_init 13 = .ok (.newarray .int, 2) := dk_188_10 (dk_at dksX13_init_0 13 rfl rfl)
theorem dX13_init_15 : decode cX13_init 15 = .ok (.putfield 18, 3) := dk_181 0 18 (dk_at dksX13_init_0 15 rfl rfl)
theorem dX13_init_18 : decode cX13_init 18 = .ok (.aload_n 0, 1) := dk_42 (dk_at dksX13_init_0 18 rfl rfl)
theorem dX13_init_19 : decode cX13_init 19 = .ok (.bipush 10, 2) := dk_16 10 (dk_at dksX13_init_0 19 rfl rfl)
theorem dX13_init_21 : decode cX13_init 21 = .ok (.newarray .int, 2) := dk_188_10 (dk_at dksX13_init_0 21 rfl rfl)
theorem dX13_init_23 : decode cX13_init 23 = .ok (.putfield 22, 3) := dk_181 0 22 (dk_at dksX13_init_1 0 rfl rfl)
theorem dX13_init_26 : decode cX13_init 26 = .ok (.aload_n 0, 1) := dk_42 (dk_at dksX13_init_1 3 rfl rfl)
theorem dX13_init_27 : decode cX13_init 27 = .ok (.bipush 12, 2) := dk_16 12 (dk_at dksX13_init_1 4 rfl rfl)
theorem dX13_init_29 : decode cX13_init 29 = .ok (.newarray .int, 2) := dk_188_10 (dk_at dksX13_init_1 6 rfl rfl)
theorem dX13_init_31 : decode cX13_init 31 = .ok (.putfield 25, 3) := dk_181 0 25 (dk_at dksX13_init_1 8 rfl rfl)
theorem dX13_init_34 : decode cX13_init 34 = .ok (.aload_n 0, 1) := dk_42 (dk_at dksX13_init_1 11 rfl rfl)
theorem dX13_init_35 : decode cX13_init 35 = .ok (.bipush 12, 2) := dk_16 12 (dk_at dksX13_init_1 12 rfl rfl)
theorem dX13_init_37 : decode cX13_init 37 = .ok (.newarray .int, 2) := dk_188_10 (dk_at dksX13_init_1 14 rfl rfl)
theorem dX13_init_39 : decode cX13_init 39 = .ok (.putfield 28, 3) := dk_181 0 28 (dk_at dksX13_init_1 16 rfl rfl)
theorem dX13_init_42 : decode cX13_init 42 = .ok (.aload_n 0, 1) := dk_42 (dk_at dksX13_init_1 19 rfl rfl)
theorem dX13_init_43 : decode cX13_init 43 = .ok (.bipush 12, 2) := dk_16 12 (dk_at dksX13_init_1 20 rfl rfl)
theorem dX13_init_45 : decode cX13_init 45 = .ok (.newarray .int, 2) := dk_188_10 (dk_at dksX13_init_1 22 rfl rfl)
theorem dX13_init_47 : decode cX13_init 47 = .ok (.putfield 31, 3) := dk_181 0 31 (dk_at dksX13_init_2 0 rfl rfl)
theorem dX13_init_50 : decode cX13_init 50 = .ok (.aload_n 0, 1) := dk_42 (dk_at dksX13_init_2 3 rfl rfl)
theorem dX13_init_51 : decode cX13_init 51 = .ok (.bipush 12, 2) := dk_16 12 (dk_at dksX13_init_2 4 rfl rfl)
theorem dX13_init_53 : decode cX13_init 53 = .ok (.newarray .int, 2) := dk_188_10 (dk_at dksX13_init_2 6 rfl rfl)
theorem dX13_init_55 : decode cX13_init 55 = .ok (.putfield 34, 3) := dk_181 0 34 (dk_at dksX13_init_2 8 rfl rfl)
theorem dX13_init_58 : decode cX13_init 58 = .ok (.aload_n 0, 1) := dk_42 (dk_at dksX13_init_2 11 rfl rfl)
theorem dX13_init_59 : decode cX13_init 59 = .ok (.iload_n 1, 1) := dk_27 (dk_at dksX13_init_2 12 rfl rfl)
theorem dX13_init_60 : decode cX13_init 60 = .ok (.putfield 37, 3) := dk_181 0 37 (dk_at dksX13_init_2 13 rfl rfl)
theorem dX13_init_63 : decode cX13_init 63 = .ok (.aload_n 0, 1) := dk_42 (dk_at dksX13_init_2 16 rfl rfl)
theorem dX13_init_64 : decode cX13_init 64 = .ok (.iload_n 2, 1) := dk_28 (dk_at dksX13_init_2 17 rfl rfl)
theorem dX13_init_65 : decode cX13_init 65 = .ok (.putfield 40, 3) := dk_181 0 40 (dk_at dksX13_init_2 18 rfl rfl)
theorem dX13_init_68 : decode cX13_init 68 = .ok (.aload_n 0, 1) := dk_42 (dk_at dksX13_init_2 21 rfl rfl)
theorem dX13_init_69 : decode cX13_init 69 = .ok (.iload_n 3, 1) := dk_29 (dk_at dksX13_init_2 22 rfl rfl)
theorem dX13_init_70 : decode cX13_init 70 = .ok (.putfield 43, 3) := dk_181 0 43 (dk_at dksX13_init_3 0 rfl rfl)
theorem dX13_init_73 : decode cX13_init 73 = .ok (.aload_n 0, 1) := dk_42 (dk_at dksX13_init_3 3 rfl rfl)
theorem dX13_init_74 : decode cX13_init 74 = .ok (.iload_n 1, 1) := dk_27 (dk_at dksX13_init_3 4 rfl rfl)
theorem dX13_init_75 : decode cX13_init 75 = .ok (.iload_n 2, 1) := dk_28 (dk_at dksX13_init_3 5 rfl rfl)
theorem dX13_init_76 : decode cX13_init 76 = .ok (.iload_n 3, 1) := dk_29 (dk_at dksX13_init_3 6 rfl rfl)
theorem dX13_init_77 : decode cX13_init 77 = .ok (.invokestatic 46, 3) := dk_184 0 46 (dk_at dksX13_init_3 7 rfl rfl)
theorem dX13_init_80 : decode cX13_init 80 = .ok (.putfield 50, 3) := dk_181 0 50 (dk_at dksX13_init_3 10 rfl rfl)
theorem dX13_init_83 : decode cX13_init 83 = .ok (.return_, 1) := dk_177 (dk_at dksX13_init_3 13 rfl rfl)
abbrev cX13_move : ByteArray := prog_13_method_6_code
def yX13_move : MethodName := ⟨RX13, "move", "(II)I"⟩
def dkwX13_move_3 : List UInt8 := [89, 180, 0, 65, 4, 96, 181, 0, 65, 42, 180, 0, 65, 172]
abbrev dktX13_move_3 : List UInt8 := dkwX13_move_3 ++ []
def dkwX13_move_2 : List UInt8 := [100, 46, 79, 132, 3, 255, 167, 255, 209, 42, 180, 0, 18, 29, 27, 79, 42, 180, 0, 22, 29, 28, 79, 42]
abbrev dktX13_move_2 : List UInt8 := dkwX13_move_2 ++ dktX13_move_3
def dkwX13_move_1 : List UInt8 := [180, 0, 18, 29, 42, 180, 0, 18, 29, 4, 100, 46, 79, 42, 180, 0, 22, 29, 42, 180, 0, 22, 29, 4]
abbrev dktX13_move_1 : List UInt8 := dkwX13_move_1 ++ dktX13_move_2
def dkwX13_move_0 : List UInt8 := [42, 180, 0, 65, 62, 29, 158, 0, 49, 42, 180, 0, 18, 29, 4, 100, 46, 27, 164, 0, 37, 42]
abbrev dktX13_move_0 : List UInt8 := dkwX13_move_0 ++ dktX13_move_1
theorem dksX13_move_0 : cX13_move.data.toList.drop 0 = dktX13_move_0 := by decide +kernel
theorem dksX13_move_1 : cX13_move.data.toList.drop 22 = dktX13_move_1 := dk_seg dksX13_move_0 22 rfl rfl
theorem dksX13_move_2 : cX13_move.data.toList.drop 46 = dktX13_move_2 := dk_seg dksX13_move_1 24 rfl rfl
theorem dksX13_move_3 : cX13_move.data.toList.drop 70 = dktX13_move_3 := dk_seg dksX13_move_2 24 rfl rfl
theorem dX13_move_0 : decode cX13_move 0 = .ok (.aload_n 0, 1) := dk_42 (dk_at dksX13_move_0 0 rfl rfl)
theorem dX13_move_1 : decode cX13_move 1 = .ok (.getfield 65, 3) := dk_180 0 65 (dk_at dksX13_move_0 1 rfl rfl)
theorem dX13_move_4 : decode cX13_move 4 = .ok (.istore_n 3, 1) := dk_62 (dk_at dksX13_move_0 4 rfl rfl)
theorem dX13_move_5 : decode cX13_move 5 = .ok (.iload_n 3, 1) := dk_29 (dk_at dksX13_move_0 5 rfl rfl)
theorem dX13_move_6 : decode cX13_move 6 = .ok (.ifCond .le 49, 3) := dk_158 0 49 (dk_at dksX13_move_0 6 rfl rfl)
theorem dX13_move_9 : decode cX13_move 9 = .ok (.aload_n 0, 1) := dk_42 (dk_at dksX13_move_0 9 rfl rfl)
theorem dX13_move_10 : decode cX13_move 10 = .ok (.getfield 18, 3) := dk_180 0 18 (dk_at dksX13_move_0 10 rfl rfl)
theorem dX13_move_13 : decode cX13_move 13 = .ok (.iload_n 3, 1) := dk_29 (dk_at dksX13_move_0 13 rfl rfl)
theorem dX13_move_14 : decode cX13_move 14 = .ok (.iconst 1, 1) := dk_4 (dk_at dksX13_move_0 14 rfl rfl)
theorem dX13_move_15 : decode cX13_move 15 = .ok (.isub, 1) := dk_100 (dk_at dksX13_move_0 15 rfl rfl)
theorem dX13_move_16 : decode cX13_move 16 = .ok (.iaload, 1) := dk_46 (dk_at dksX13_move_0 16 rfl rfl)
theorem dX13_move_17 : decode cX13_move 17 = .ok (.iload_n 1, 1) := dk_27 (dk_at dksX13_move_0 17 rfl rfl)
theorem dX13_move_18 : decode cX13_move 18 = .ok (.if_icmp .le 37, 3) := dk_164 0 37 (dk_at dksX13_move_0 18 rfl rfl)
theorem dX13_move_21 : decode cX13_move 21 = .ok (.aload_n 0, 1) := dk_42 (dk_at dksX13_move_0 21 rfl rfl)
theorem dX13_move_22 : decode cX13_move 22 = .ok (.getfield 18, 3) := dk_180 0 18 (dk_at dksX13_move_1 0 rfl rfl)
theorem dX13_move_25 : decode cX13_move 25 = .ok (.iload_n 3, 1) := dk_29 (dk_at dksX13_move_1 3 rfl rfl)
theorem dX13_move_26 : decode cX13_move 26 = .ok (.aload_n 0, 1) := dk_42 (dk_at dksX13_move_1 4 rfl rfl)
theorem dX13_move_27 : decode cX13_move 27 = .ok (.getfield 18, 3) := dk_180 0 18 (dk_at dksX13_move_1 5 rfl rfl)
theorem dX13_move_30 : decode cX13_move 30 = .ok (.iload_n 3, 1) := dk_29 (dk_at dksX13_move_1 8 rfl rfl)
theorem dX13_move_31 : decode cX13_move 31 = .ok (.iconst 1, 1) := dk_4 (dk_at dksX13_move_1 9 rfl rfl)
theorem dX13_move_32 : decode cX13_move 32 = .ok (.isub, 1) := dk_100 (dk_at dksX13_move_1 10 rfl rfl)
theorem dX13_move_33 : decode cX13_move 33 = .ok (.iaload, 1) := dk_46 (dk_at dksX13_move_1 11 rfl rfl)
theorem dX13_move_34 : decode cX13_move 34 = .ok (.iastore, 1) := dk_79 (dk_at dksX13_move_1 12 rfl rfl)
theorem dX13_move_35 : decode cX13_move 35 = .ok (.aload_n 0, 1) := dk_42 (dk_at dksX13_move_1 13 rfl rfl)
theorem dX13_move_36 : decode cX13_move 36 = .ok (.getfield 22, 3) := dk_180 0 22 (dk_at dksX13_move_1 14 rfl rfl)
theorem dX13_move_39 : decode cX13_move 39 = .ok (.iload_n 3, 1) := dk_29 (dk_at dksX13_move_1 17 rfl rfl)
theorem dX13_move_40 : decode cX13_move 40 = .ok (.aload_n 0, 1) := dk_42 (dk_at dksX13_move_1 18 rfl rfl)
theorem dX13_move_41 : decode cX13_move 41 = .ok (.getfield 22, 3) := dk_180 0 22 (dk_at dksX13_move_1 19 rfl rfl)
theorem dX13_move_44 : decode cX13_move 44 = .ok (.iload_n 3, 1) := dk_29 (dk_at dksX13_move_1 22 rfl rfl)
theorem dX13_move_45 : decode cX13_move 45 = .ok (.iconst 1, 1) := dk_4 (dk_at dksX13_move_1 23 rfl rfl)
theorem dX13_move_46 : decode cX13_move 46 = .ok (.isub, 1) := dk_100 (dk_at dksX13_move_2 0 rfl rfl)
theorem dX13_move_47 : decode cX13_move 47 = .ok (.iaload, 1) := dk_46 (dk_at dksX13_move_2 1 rfl rfl)
theorem dX13_move_48 : decode cX13_move 48 = .ok (.iastore, 1) := dk_79 (dk_at dksX13_move_2 2 rfl rfl)
theorem dX13_move_49 : decode cX13_move 49 = .ok (.iinc 3 (-1), 3) := dk_132 3 255 (dk_at dksX13_move_2 3 rfl rfl)
theorem dX13_move_52 : decode cX13_move 52 = .ok (.goto (-47), 3) := dk_167 255 209 (dk_at dksX13_move_2 6 rfl rfl)
theorem dX13_move_55 : decode cX13_move 55 = .ok (.aload_n 0, 1) := dk_42 (dk_at dksX13_move_2 9 rfl rfl)
theorem dX13_move_56 : decode cX13_move 56 = .ok (.getfield 18, 3) := dk_180 0 18 (dk_at dksX13_move_2 10 rfl rfl)
theorem dX13_move_59 : decode cX13_move 59 = .ok (.iload_n 3, 1) := dk_29 (dk_at dksX13_move_2 13 rfl rfl)
theorem dX13_move_60 : decode cX13_move 60 = .ok (.iload_n 1, 1) := dk_27 (dk_at dksX13_move_2 14 rfl rfl)
theorem dX13_move_61 : decode cX13_move 61 = .ok (.iastore, 1) := dk_79 (dk_at dksX13_move_2 15 rfl rfl)
theorem dX13_move_62 : decode cX13_move 62 = .ok (.aload_n 0, 1) := dk_42 (dk_at dksX13_move_2 16 rfl rfl)
theorem dX13_move_63 : decode cX13_move 63 = .ok (.getfield 22, 3) := dk_180 0 22 (dk_at dksX13_move_2 17 rfl rfl)
theorem dX13_move_66 : decode cX13_move 66 = .ok (.iload_n 3, 1) := dk_29 (dk_at dksX13_move_2 20 rfl rfl)
theorem dX13_move_67 : decode cX13_move 67 = .ok (.iload_n 2, 1) := dk_28 (dk_at dksX13_move_2 21 rfl rfl)
theorem dX13_move_68 : decode cX13_move 68 = .ok (.iastore, 1) := dk_79 (dk_at dksX13_move_2 22 rfl rfl)
theorem dX13_move_69 : decode cX13_move 69 = .ok (.aload_n 0, 1) := dk_42 (dk_at dksX13_move_2 23 rfl rfl)
theorem dX13_move_70 : decode cX13_move 70 = .ok (.dup, 1) := dk_89 (dk_at dksX13_move_3 0 rfl rfl)
theorem dX13_move_71 : decode cX13_move 71 = .ok (.getfield 65, 3) := dk_180 0 65 (dk_at dksX13_move_3 1 rfl rfl)
theorem dX13_move_74 : decode cX13_move 74 = .ok (.iconst 1, 1) := dk_4 (dk_at dksX13_move_3 4 rfl rfl)
theorem dX13_move_75 : decode cX13_move 75 = .ok (.iadd, 1) := dk_96 (dk_at dksX13_move_3 5 rfl rfl)
theorem dX13_move_76 : decode cX13_move 76 = .ok (.putfield 65, 3) := dk_181 0 65 (dk_at dksX13_move_3 6 rfl rfl)
theorem dX13_move_79 : decode cX13_move 79 = .ok (.aload_n 0, 1) := dk_42 (dk_at dksX13_move_3 9 rfl rfl)
theorem dX13_move_80 : decode cX13_move 80 = .ok (.getfield 65, 3) := dk_180 0 65 (dk_at dksX13_move_3 10 rfl rfl)
theorem dX13_move_83 : decode cX13_move 83 = .ok (.ireturn, 1) := dk_172 (dk_at dksX13_move_3 13 rfl rfl)
abbrev cX13_fact : ByteArray := prog_13_method_9_code
def yX13_fact : MethodName := ⟨RX13, "fact", "(IIII)I"⟩
def dkwX13_fact_2 : List UInt8 := [181, 0, 76, 42, 180, 0, 76, 172]
abbrev dktX13_fact_2 : List UInt8 := dkwX13_fact_2 ++ []
def dkwX13_fact_1 : List UInt8 := [42, 180, 0, 76, 29, 79, 42, 180, 0, 34, 42, 180, 0, 76, 21, 4, 79, 42, 89, 180, 0, 76, 4, 96]
abbrev dktX13_fact_1 : List UInt8 := dkwX13_fact_1 ++ dktX13_fact_2
def dkwX13_fact_0 : List UInt8 := [42, 180, 0, 25, 42, 180, 0, 76, 27, 79, 42, 180, 0, 28, 42, 180, 0, 76, 28, 79, 42, 180, 0, 31]
abbrev dktX13_fact_0 : List UInt8 := dkwX13_fact_0 ++ dktX13_fact_1
theorem dksX13_fact_0 : cX13_fact.data.toList.drop 0 = dktX13_fact_0 := by decide +kernel
theorem dksX13_fact_1 : cX13_fact.data.toList.drop 24 = dktX13_fact_1 := dk_seg dksX13_fact_0 24 rfl rfl
theorem dksX13_fact_2 : cX13_fact.data.toList.drop 48 = dktX13_fact_2 := dk_seg dksX13_fact_1 24 rfl rfl
theorem dX13_fact_0 : decode cX13_fact 0 = .ok (.aload_n 0, 1) := dk_42 (dk_at dksX13_fact_0 0 rfl rfl)
theorem dX13_fact_1 : decode cX13_fact 1 = .ok (.getfield 25, 3) := dk_180 0 25 (dk_at dksX13_fact_0 1 rfl rfl)
theorem dX13_fact_4 : decode cX13_fact 4 = .ok (.aload_n 0, 1) := dk_42 (dk_at dksX13_fact_0 4 rfl rfl)
theorem dX13_fact_5 : decode cX13_fact 5 = .ok (.getfield 76, 3) := dk_180 0 76 (dk_at dksX13_fact_0 5 rfl rfl)
theorem dX13_fact_8 : decode cX13_fact 8 = .ok (.iload_n 1, 1) := dk_27 (dk_at dksX13_fact_0 8 rfl rfl)
theorem dX13_fact_9 : decode cX13_fact 9 = .ok (.iastore, 1) := dk_79 (dk_at dksX13_fact_0 9 rfl rfl)
theorem dX13_fact_10 : decode cX13_fact 10 = .ok (.aload_n 0, 1) := dk_42 (dk_at dksX13_fact_0 10 rfl rfl)
theorem dX13_fact_11 : decode cX13_fact 11 = .ok (.getfield 28, 3) := dk_180 0 28 (dk_at dksX13_fact_0 11 rfl rfl)
theorem dX13_fact_14 : decode cX13_fact 14 = .ok (.aload_n 0, 1) := dk_42 (dk_at dksX13_fact_0 14 rfl rfl)
theorem dX13_fact_15 : decode cX13_fact 15 = .ok (.getfield 76, 3) := dk_180 0 76 (dk_at dksX13_fact_0 15 rfl rfl)
theorem dX13_fact_18 : decode cX13_fact 18 = .ok (.iload_n 2, 1) := dk_28 (dk_at dksX13_fact_0 18 rfl rfl)
theorem dX13_fact_19 : decode cX13_fact 19 = .ok (.iastore, 1) := dk_79 (dk_at dksX13_fact_0 19 rfl rfl)
theorem dX13_fact_20 : decode cX13_fact 20 = .ok (.aload_n 0, 1) := dk_42 (dk_at dksX13_fact_0 20 rfl rfl)
theorem dX13_fact_21 : decode cX13_fact 21 = .ok (.getfield 31, 3) := dk_180 0 31 (dk_at dksX13_fact_0 21 rfl rfl)
theorem dX13_fact_24 : decode cX13_fact 24 = .ok (.aload_n 0, 1) := dk_42 (dk_at dksX13_fact_1 0 rfl rfl)
theorem dX13_fact_25 : decode cX13_fact 25 = .ok (.getfield 76, 3) := dk_180 0 76 (dk_at dksX13_fact_1 1 rfl rfl)
theorem dX13_fact_28 : decode cX13_fact 28 = .ok (.iload_n 3, 1) := dk_29 (dk_at dksX13_fact_1 4 rfl rfl)
theorem dX13_fact_29 : decode cX13_fact 29 = .ok (.iastore, 1) := dk_79 (dk_at dksX13_fact_1 5 rfl rfl)
theorem dX13_fact_30 : decode cX13_fact 30 = .ok (.aload_n 0, 1) := dk_42 (dk_at dksX13_fact_1 6 rfl rfl)
theorem dX13_fact_31 : decode cX13_fact 31 = .ok (.getfield 34, 3) := dk_180 0 34 (dk_at dksX13_fact_1 7 rfl rfl)
theorem dX13_fact_34 : decode cX13_fact 34 = .ok (.aload_n 0, 1) := dk_42 (dk_at dksX13_fact_1 10 rfl rfl)
theorem dX13_fact_35 : decode cX13_fact 35 = .ok (.getfield 76, 3) := dk_180 0 76 (dk_at dksX13_fact_1 11 rfl rfl)
theorem dX13_fact_38 : decode cX13_fact 38 = .ok (.iload 4, 2) := dk_21 4 (dk_at dksX13_fact_1 14 rfl rfl)
theorem dX13_fact_40 : decode cX13_fact 40 = .ok (.iastore, 1) := dk_79 (dk_at dksX13_fact_1 16 rfl rfl)
theorem dX13_fact_41 : decode cX13_fact 41 = .ok (.aload_n 0, 1) := dk_42 (dk_at dksX13_fact_1 17 rfl rfl)
theorem dX13_fact_42 : decode cX13_fact 42 = .ok (.dup, 1) := dk_89 (dk_at dksX13_fact_1 18 rfl rfl)
theorem dX13_fact_43 : decode cX13_fact 43 = .ok (.getfield 76, 3) := dk_180 0 76 (dk_at dksX13_fact_1 19 rfl rfl)
theorem dX13_fact_46 : decode cX13_fact 46 = .ok (.iconst 1, 1) := dk_4 (dk_at dksX13_fact_1 22 rfl rfl)
theorem dX13_fact_47 : decode cX13_fact 47 = .ok (.iadd, 1) := dk_96 (dk_at dksX13_fact_1 23 rfl rfl)
theorem dX13_fact_48 : decode cX13_fact 48 = .ok (.putfield 76, 3) := dk_181 0 76 (dk_at dksX13_fact_2 0 rfl rfl)
theorem dX13_fact_51 : decode cX13_fact 51 = .ok (.aload_n 0, 1) := dk_42 (dk_at dksX13_fact_2 3 rfl rfl)
theorem dX13_fact_52 : decode cX13_fact 52 = .ok (.getfield 76, 3) := dk_180 0 76 (dk_at dksX13_fact_2 4 rfl rfl)
theorem dX13_fact_55 : decode cX13_fact 55 = .ok (.ireturn, 1) := dk_172 (dk_at dksX13_fact_2 7 rfl rfl)
abbrev cX13_die : ByteArray := prog_13_method_2_code
def yX13_die : MethodName := ⟨RX13, "die", "(I)V"⟩
def dkwX13_die_0 : List UInt8 := [42, 27, 181, 0, 12, 42, 4, 181, 0, 53, 177]
abbrev dktX13_die_0 : List UInt8 := dkwX13_die_0 ++ []
theorem dksX13_die_0 : cX13_die.data.toList.drop 0 = dktX13_die_0 := by decide +kernel
theorem dX13_die_0 : decode cX13_die 0 = .ok (.aload_n 0, 1) := dk_42 (dk_at dksX13_die_0 0 rfl rfl)
theorem dX13_die_1 : decode cX13_die 1 = .ok (.iload_n 1, 1) := dk_27 (dk_at dksX13_die_0 1 rfl rfl)
theorem dX13_die_2 : decode cX13_die 2 = .ok (.putfield 12, 3) := dk_181 0 12 (dk_at dksX13_die_0 2 rfl rfl)
theorem dX13_die_5 : decode cX13_die 5 = .ok (.aload_n 0, 1) := dk_42 (dk_at dksX13_die_0 5 rfl rfl)
theorem dX13_die_6 : decode cX13_die 6 = .ok (.iconst 1, 1) := dk_4 (dk_at dksX13_die_0 6 rfl rfl)
theorem dX13_die_7 : decode cX13_die 7 = .ok (.putfield 53, 3) := dk_181 0 53 (dk_at dksX13_die_0 7 rfl rfl)
theorem dX13_die_10 : decode cX13_die 10 = .ok (.return_, 1) := dk_177 (dk_at dksX13_die_0 10 rfl rfl)
abbrev cX13_age : ByteArray := prog_13_method_5_code
def yX13_age : MethodName := ⟨RX13, "age", "(IZ)I"⟩
def dkwX13_age_2 : List UInt8 := [167, 255, 222, 29, 172]
abbrev dktX13_age_2 : List UInt8 := dkwX13_age_2 ++ []
def dkwX13_age_1 : List UInt8 := [163, 0, 26, 42, 42, 180, 0, 37, 29, 96, 4, 96, 28, 182, 0, 61, 27, 163, 0, 9, 132, 3, 1]
abbrev dktX13_age_1 : List UInt8 := dkwX13_age_1 ++ dktX13_age_2
def dkwX13_age_0 : List UInt8 := [27, 42, 180, 0, 50, 162, 0, 5, 2, 172, 3, 62, 42, 180, 0, 37, 29, 96, 4, 96, 17, 8, 51]
abbrev dktX13_age_0 : List UInt8 := dkwX13_age_0 ++ dktX13_age_1
theorem dksX13_age_0 : cX13_age.data.toList.drop 0 = dktX13_age_0 := by decide +kernel
theorem dksX13_age_1 : cX13_age.data.toList.drop 23 = dktX13_age_1 := dk_seg dksX13_age_0 23 rfl rfl
theorem dksX13_age_2 : cX13_age.data.toList.drop 46 = dktX13_age_2 := dk_seg dksX13_age_1 23 rfl rfl
theorem dX13_age_0 : decode cX13_age 0 = .ok (.iload_n 1, 1) := dk_27 (dk_at dksX13_age_0 0 rfl rfl)
theorem dX13_age_1 : decode cX13_age 1 = .ok (.aload_n 0, 1) := dk_42 (dk_at dksX13_age_0 1 rfl rfl)
theorem dX13_age_2 : decode cX13_age 2 = .ok (.getfield 50, 3) := dk_180 0 50 (dk_at dksX13_age_0 2 rfl rfl)
theorem dX13_age_5 : decode cX13_age 5 = .ok (.if_icmp .ge 5, 3) := dk_162 0 5 (dk_at dksX13_age_0 5 rfl rfl)
theorem dX13_age_8 : decode cX13_age 8 = .ok (.iconst (-1), 1) := dk_2 (dk_at dksX13_age_0 8 rfl rfl)
theorem dX13_age_9 : decode cX13_age 9 = .ok (.ireturn, 1) := dk_172 (dk_at dksX13_age_0 9 rfl rfl)
theorem dX13_age_10 : decode cX13_age 10 = .ok (.iconst 0, 1) := dk_3 (dk_at dksX13_age_0 10 rfl rfl)
theorem dX13_age_11 : decode cX13_age 11 = .ok (.istore_n 3, 1) := dk_62 (dk_at dksX13_age_0 11 rfl rfl)
theorem dX13_age_12 : decode cX13_age 12 = .ok (.aload_n 0, 1) := dk_42 (dk_at dksX13_age_0 12 rfl rfl)
theorem dX13_age_13 : decode cX13_age 13 = .ok (.getfield 37, 3) := dk_180 0 37 (dk_at dksX13_age_0 13 rfl rfl)
theorem dX13_age_16 : decode cX13_age 16 = .ok (.iload_n 3, 1) := dk_29 (dk_at dksX13_age_0 16 rfl rfl)
theorem dX13_age_17 : decode cX13_age 17 = .ok (.iadd, 1) := dk_96 (dk_at dksX13_age_0 17 rfl rfl)
theorem dX13_age_18 : decode cX13_age 18 = .ok (.iconst 1, 1) := dk_4 (dk_at dksX13_age_0 18 rfl rfl)
theorem dX13_age_19 : decode cX13_age 19 = .ok (.iadd, 1) := dk_96 (dk_at dksX13_age_0 19 rfl rfl)
theorem dX13_age_20 : decode cX13_age 20 = .ok (.sipush 2099, 3) := dk_17 8 51 (dk_at dksX13_age_0 20 rfl rfl)
theorem dX13_age_23 : decode cX13_age 23 = .ok (.if_icmp .gt 26, 3) := dk_163 0 26 (dk_at dksX13_age_1 0 rfl rfl)
theorem dX13_age_26 : decode cX13_age 26 = .ok (.aload_n 0, 1) := dk_42 (dk_at dksX13_age_1 3 rfl rfl)
theorem dX13_age_27 : decode cX13_age 27 = .ok (.aload_n 0, 1) := dk_42 (dk_at dksX13_age_1 4 rfl rfl)
theorem dX13_age_28 : decode cX13_age 28 = .ok (.getfield 37, 3) := dk_180 0 37 (dk_at dksX13_age_1 5 rfl rfl)
theorem dX13_age_31 : decode cX13_age 31 = .ok (.iload_n 3, 1) := dk_29 (dk_at dksX13_age_1 8 rfl rfl)
theorem dX13_age_32 : decode cX13_age 32 = .ok (.iadd, 1) := dk_96 (dk_at dksX13_age_1 9 rfl rfl)
theorem dX13_age_33 : decode cX13_age 33 = .ok (.iconst 1, 1) := dk_4 (dk_at dksX13_age_1 10 rfl rfl)
theorem dX13_age_34 : decode cX13_age 34 = .ok (.iadd, 1) := dk_96 (dk_at dksX13_age_1 11 rfl rfl)
theorem dX13_age_35 : decode cX13_age 35 = .ok (.iload_n 2, 1) := dk_28 (dk_at dksX13_age_1 12 rfl rfl)
theorem dX13_age_36 : decode cX13_age 36 = .ok (.invokevirtual 61, 3) := dk_182 0 61 (dk_at dksX13_age_1 13 rfl rfl)
theorem dX13_age_39 : decode cX13_age 39 = .ok (.iload_n 1, 1) := dk_27 (dk_at dksX13_age_1 16 rfl rfl)
theorem dX13_age_40 : decode cX13_age 40 = .ok (.if_icmp .gt 9, 3) := dk_163 0 9 (dk_at dksX13_age_1 17 rfl rfl)
theorem dX13_age_43 : decode cX13_age 43 = .ok (.iinc 3 1, 3) := dk_132 3 1 (dk_at dksX13_age_1 20 rfl rfl)
theorem dX13_age_46 : decode cX13_age 46 = .ok (.goto (-34), 3) := dk_167 255 222 (dk_at dksX13_age_2 0 rfl rfl)
theorem dX13_age_49 : decode cX13_age 49 = .ok (.iload_n 3, 1) := dk_29 (dk_at dksX13_age_2 3 rfl rfl)
theorem dX13_age_50 : decode cX13_age 50 = .ok (.ireturn, 1) := dk_172 (dk_at dksX13_age_2 4 rfl rfl)
abbrev cX13_birthday : ByteArray := prog_13_method_4_code
def yX13_birthday : MethodName := ⟨RX13, "birthday", "(IZ)I"⟩
def dkwX13_birthday_2 : List UInt8 := [5, 16, 28, 184, 0, 46, 167, 0, 9, 27, 6, 4, 184, 0, 46, 172]
abbrev dktX13_birthday_2 : List UInt8 := dkwX13_birthday_2 ++ []
def dkwX13_birthday_1 : List UInt8 := [29, 154, 0, 18, 27, 42, 180, 0, 40, 42, 180, 0, 43, 184, 0, 46, 167, 0, 23, 28, 153, 0, 13, 27]
abbrev dktX13_birthday_1 : List UInt8 := dkwX13_birthday_1 ++ dktX13_birthday_2
def dkwX13_birthday_0 : List UInt8 := [27, 42, 180, 0, 40, 42, 180, 0, 43, 17, 7, 108, 184, 0, 57, 154, 0, 7, 4, 167, 0, 4, 3, 62]
abbrev dktX13_birthday_0 : List UInt8 := dkwX13_birthday_0 ++ dktX13_birthday_1
theorem dksX13_birthday_0 : cX13_birthday.data.toList.drop 0 = dktX13_birthday_0 := by decide +kernel
theorem dksX13_birthday_1 : cX13_birthday.data.toList.drop 24 = dktX13_birthday_1 := dk_seg dksX13_birthday_0 24 rfl rfl
theorem dksX13_birthday_2 : cX13_birthday.data.toList.drop 48 = dktX13_birthday_2 := dk_seg dksX13_birthday_1 24 rfl rfl
theorem dX13_birthday_0 : decode cX13_birthday 0 = .ok (.iload_n 1, 1) := dk_27 (dk_at dksX13_birthday_0 0 rfl rfl)
theorem dX13_birthday_1 : decode cX13_birthday 1 = .ok (.aload_n 0, 1) := dk_42 (dk_at dksX13_birthday_0 1 rfl rfl)
theorem dX13_birthday_2 : decode cX13_birthday 2 = .ok (.getfield 40, 3) := dk_180 0 40 (dk_at dksX13_birthday_0 2 rfl rfl)
theorem dX13_birthday_5 : decode cX13_birthday 5 = .ok (.aload_n 0, 1) := dk_42 (dk_at dksX13_birthday_0 5 rfl rfl)
theorem dX13_birthday_6 : decode cX13_birthday 6 = .ok (.getfield 43, 3) := dk_180 0 43 (dk_at dksX13_birthday_0 6 rfl rfl)
theorem dX13_birthday_9 : decode cX13_birthday 9 = .ok (.sipush 1900, 3) := dk_17 7 108 (dk_at dksX13_birthday_0 9 rfl rfl)
theorem dX13_birthday_12 : decode cX13_birthday 12 = .ok (.invokestatic 57, 3) := dk_184 0 57 (dk_at dksX13_birthday_0 12 rfl rfl)
theorem dX13_birthday_15 : decode cX13_birthday 15 = .ok (.ifCond .ne 7, 3) := dk_154 0 7 (dk_at dksX13_birthday_0 15 rfl rfl)
theorem dX13_birthday_18 : decode cX13_birthday 18 = .ok (.iconst 1, 1) := dk_4 (dk_at dksX13_birthday_0 18 rfl rfl)
theorem dX13_birthday_19 : decode cX13_birthday 19 = .ok (.goto 4, 3) := dk_167 0 4 (dk_at dksX13_birthday_0 19 rfl rfl)
theorem dX13_birthday_22 : decode cX13_birthday 22 = .ok (.iconst 0, 1) := dk_3 (dk_at dksX13_birthday_0 22 rfl rfl)
theorem dX13_birthday_23 : decode cX13_birthday 23 = .ok (.istore_n 3, 1) := dk_62 (dk_at dksX13_birthday_0 23 rfl rfl)
theorem dX13_birthday_24 : decode cX13_birthday 24 = .ok (.iload_n 3, 1) := dk_29 (dk_at dksX13_birthday_1 0 rfl rfl)
theorem dX13_birthday_25 : decode cX13_birthday 25 = .ok (.ifCond .ne 18, 3) := dk_154 0 18 (dk_at dksX13_birthday_1 1 rfl rfl)
theorem dX13_birthday_28 : decode cX13_birthday 28 = .ok (.iload_n 1, 1) := dk_27 (dk_at dksX13_birthday_1 4 rfl rfl)
theorem dX13_birthday_29 : decode cX13_birthday 29 = .ok (.aload_n 0, 1) := dk_42 (dk_at dksX13_birthday_1 5 rfl rfl)
theorem dX13_birthday_30 : decode cX13_birthday 30 = .ok (.getfield 40, 3) := dk_180 0 40 (dk_at dksX13_birthday_1 6 rfl rfl)
theorem dX13_birthday_33 : decode cX13_birthday 33 = .ok (.aload_n 0, 1) := dk_42 (dk_at dksX13_birthday_1 9 rfl rfl)
theorem dX13_birthday_34 : decode cX13_birthday 34 = .ok (.getfield 43, 3) := dk_180 0 43 (dk_at dksX13_birthday_1 10 rfl rfl)
theorem dX13_birthday_37 : decode cX13_birthday 37 = .ok (.invokestatic 46, 3) := dk_184 0 46 (dk_at dksX13_birthday_1 13 rfl rfl)
theorem dX13_birthday_40 : decode cX13_birthday 40 = .ok (.goto 23, 3) := dk_167 0 23 (dk_at dksX13_birthday_1 16 rfl rfl)
theorem dX13_birthday_43 : decode cX13_birthday 43 = .ok (.iload_n 2, 1) := dk_28 (dk_at dksX13_birthday_1 19 rfl rfl)
theorem dX13_birthday_44 : decode cX13_birthday 44 = .ok (.ifCond .eq 13, 3) := dk_153 0 13 (dk_at dksX13_birthday_1 20 rfl rfl)
theorem dX13_birthday_47 : decode cX13_birthday 47 = .ok (.iload_n 1, 1) := dk_27 (dk_at dksX13_birthday_1 23 rfl rfl)
theorem dX13_birthday_48 : decode cX13_birthday 48 = .ok (.iconst 2, 1) := dk_5 (dk_at dksX13_birthday_2 0 rfl rfl)
theorem dX13_birthday_49 : decode cX13_birthday 49 = .ok (.bipush 28, 2) := dk_16 28 (dk_at dksX13_birthday_2 1 rfl rfl)
theorem dX13_birthday_51 : decode cX13_birthday 51 = .ok (.invokestatic 46, 3) := dk_184 0 46 (dk_at dksX13_birthday_2 3 rfl rfl)
theorem dX13_birthday_54 : decode cX13_birthday 54 = .ok (.goto 9, 3) := dk_167 0 9 (dk_at dksX13_birthday_2 6 rfl rfl)
theorem dX13_birthday_57 : decode cX13_birthday 57 = .ok (.iload_n 1, 1) := dk_27 (dk_at dksX13_birthday_2 9 rfl rfl)
theorem dX13_birthday_58 : decode cX13_birthday 58 = .ok (.iconst 3, 1) := dk_6 (dk_at dksX13_birthday_2 10 rfl rfl)
theorem dX13_birthday_59 : decode cX13_birthday 59 = .ok (.iconst 1, 1) := dk_4 (dk_at dksX13_birthday_2 11 rfl rfl)
theorem dX13_birthday_60 : decode cX13_birthday 60 = .ok (.invokestatic 46, 3) := dk_184 0 46 (dk_at dksX13_birthday_2 12 rfl rfl)
theorem dX13_birthday_63 : decode cX13_birthday 63 = .ok (.ireturn, 1) := dk_172 (dk_at dksX13_birthday_2 15 rfl rfl)
abbrev cX13_address : ByteArray := prog_13_method_7_code
def yX13_address : MethodName := ⟨RX13, "address", "(I)I"⟩
def dkwX13_address_1 : List UInt8 := [167, 255, 239, 28, 156, 0, 7, 2, 167, 0, 9, 42, 180, 0, 22, 28, 46, 172]
abbrev dktX13_address_1 : List UInt8 := dkwX13_address_1 ++ []
def dkwX13_address_0 : List UInt8 := [42, 180, 0, 65, 4, 100, 61, 28, 155, 0, 19, 42, 180, 0, 18, 28, 46, 27, 164, 0, 9, 132, 2, 255]
abbrev dktX13_address_0 : List UInt8 := dkwX13_address_0 ++ dktX13_address_1
theorem dksX13_address_0 : cX13_address.data.toList.drop 0 = dktX13_address_0 := by decide +kernel
theorem dksX13_address_1 : cX13_address.data.toList.drop 24 = dktX13_address_1 := dk_seg dksX13_address_0 24 rfl rfl
theorem dX13_address_0 : decode cX13_address 0 = .ok (.aload_n 0, 1) := dk_42 (dk_at dksX13_address_0 0 rfl rfl)
theorem dX13_address_1 : decode cX13_address 1 = .ok (.getfield 65, 3) := dk_180 0 65 (dk_at dksX13_address_0 1 rfl rfl)
theorem dX13_address_4 : decode cX13_address 4 = .ok (.iconst 1, 1) := dk_4 (dk_at dksX13_address_0 4 rfl rfl)
theorem dX13_address_5 : decode cX13_address 5 = .ok (.isub, 1) := dk_100 (dk_at dksX13_address_0 5 rfl rfl)
theorem dX13_address_6 : decode cX13_address 6 = .ok (.istore_n 2, 1) := dk_61 (dk_at dksX13_address_0 6 rfl rfl)
theorem dX13_address_7 : decode cX13_address 7 = .ok (.iload_n 2, 1) := dk_28 (dk_at dksX13_address_0 7 rfl rfl)
theorem dX13_address_8 : decode cX13_address 8 = .ok (.ifCond .lt 19, 3) := dk_155 0 19 (dk_at dksX13_address_0 8 rfl rfl)
theorem dX13_address_11 : decode cX13_address 11 = .ok (.aload_n 0, 1) := dk_42 (dk_at dksX13_address_0 11 rfl rfl)
theorem dX13_address_12 : decode cX13_address 12 = .ok (.getfield 18, 3) := dk_180 0 18 (dk_at dksX13_address_0 12 rfl rfl)
theorem dX13_address_15 : decode cX13_address 15 = .ok (.iload_n 2, 1) := dk_28 (dk_at dksX13_address_0 15 rfl rfl)
theorem dX13_address_16 : decode cX13_address 16 = .ok (.iaload, 1) := dk_46 (dk_at dksX13_address_0 16 rfl rfl)
theorem dX13_address_17 : decode cX13_address 17 = .ok (.iload_n 1, 1) := dk_27 (dk_at dksX13_address_0 17 rfl rfl)
theorem dX13_address_18 : decode cX13_address 18 = .ok (.if_icmp .le 9, 3) := dk_164 0 9 (dk_at dksX13_address_0 18 rfl rfl)
theorem dX13_address_21 : decode cX13_address 21 = .ok (.iinc 2 (-1), 3) := dk_132 2 255 (dk_at dksX13_address_0 21 rfl rfl)
theorem dX13_address_24 : decode cX13_address 24 = .ok (.goto (-17), 3) := dk_167 255 239 (dk_at dksX13_address_1 0 rfl rfl)
theorem dX13_address_27 : decode cX13_address 27 = .ok (.iload_n 2, 1) := dk_28 (dk_at dksX13_address_1 3 rfl rfl)
theorem dX13_address_28 : decode cX13_address 28 = .ok (.ifCond .ge 7, 3) := dk_156 0 7 (dk_at dksX13_address_1 4 rfl rfl)
theorem dX13_address_31 : decode cX13_address 31 = .ok (.iconst (-1), 1) := dk_2 (dk_at dksX13_address_1 7 rfl rfl)
theorem dX13_address_32 : decode cX13_address 32 = .ok (.goto 9, 3) := dk_167 0 9 (dk_at dksX13_address_1 8 rfl rfl)
theorem dX13_address_35 : decode cX13_address 35 = .ok (.aload_n 0, 1) := dk_42 (dk_at dksX13_address_1 11 rfl rfl)
theorem dX13_address_36 : decode cX13_address 36 = .ok (.getfield 22, 3) := dk_180 0 22 (dk_at dksX13_address_1 12 rfl rfl)
theorem dX13_address_39 : decode cX13_address 39 = .ok (.iload_n 2, 1) := dk_28 (dk_at dksX13_address_1 15 rfl rfl)
theorem dX13_address_40 : decode cX13_address 40 = .ok (.iaload, 1) := dk_46 (dk_at dksX13_address_1 16 rfl rfl)
theorem dX13_address_41 : decode cX13_address 41 = .ok (.ireturn, 1) := dk_172 (dk_at dksX13_address_1 17 rfl rfl)
abbrev cX13_is : ByteArray := prog_13_method_10_code
def yX13_is : MethodName := ⟨RX13, "is", "(II)I"⟩
def dkwX13_is_2 : List UInt8 := [42, 180, 0, 28, 21, 4, 46, 167, 0, 4, 29, 62, 132, 4, 1, 167, 255, 200, 29, 172]
abbrev dktX13_is_2 : List UInt8 := dkwX13_is_2 ++ []
def dkwX13_is_1 : List UInt8 := [160, 0, 34, 28, 42, 180, 0, 31, 21, 4, 46, 42, 180, 0, 34, 21, 4, 46, 184, 0, 72, 153, 0, 13]
abbrev dktX13_is_1 : List UInt8 := dkwX13_is_1 ++ dktX13_is_2
def dkwX13_is_0 : List UInt8 := [3, 62, 3, 54, 4, 21, 4, 42, 180, 0, 76, 162, 0, 53, 42, 180, 0, 25, 21, 4, 46, 27]
abbrev dktX13_is_0 : List UInt8 := dkwX13_is_0 ++ dktX13_is_1
theorem dksX13_is_0 : cX13_is.data.toList.drop 0 = dktX13_is_0 := by decide +kernel
theorem dksX13_is_1 : cX13_is.data.toList.drop 22 = dktX13_is_1 := dk_seg dksX13_is_0 22 rfl rfl
theorem dksX13_is_2 : cX13_is.data.toList.drop 46 = dktX13_is_2 := dk_seg dksX13_is_1 24 rfl rfl
theorem dX13_is_0 : decode cX13_is 0 = .ok (.iconst 0, 1) := dk_3 (dk_at dksX13_is_0 0 rfl rfl)
theorem dX13_is_1 : decode cX13_is 1 = .ok (.istore_n 3, 1) := dk_62 (dk_at dksX13_is_0 1 rfl rfl)
theorem dX13_is_2 : decode cX13_is 2 = .ok (.iconst 0, 1) := dk_3 (dk_at dksX13_is_0 2 rfl rfl)
theorem dX13_is_3 : decode cX13_is 3 = .ok (.istore 4, 2) := dk_54 4 (dk_at dksX13_is_0 3 rfl rfl)
theorem dX13_is_5 : decode cX13_is 5 = .ok (.iload 4, 2) := dk_21 4 (dk_at dksX13_is_0 5 rfl rfl)
theorem dX13_is_7 : decode cX13_is 7 = .ok (.aload_n 0, 1) := dk_42 (dk_at dksX13_is_0 7 rfl rfl)
theorem dX13_is_8 : decode cX13_is 8 = .ok (.getfield 76, 3) := dk_180 0 76 (dk_at dksX13_is_0 8 rfl rfl)
theorem dX13_is_11 : decode cX13_is 11 = .ok (.if_icmp .ge 53, 3) := dk_162 0 53 (dk_at dksX13_is_0 11 rfl rfl)
theorem dX13_is_14 : decode cX13_is 14 = .ok (.aload_n 0, 1) := dk_42 (dk_at dksX13_is_0 14 rfl rfl)
theorem dX13_is_15 : decode cX13_is 15 = .ok (.getfield 25, 3) := dk_180 0 25 (dk_at dksX13_is_0 15 rfl rfl)
theorem dX13_is_18 : decode cX13_is 18 = .ok (.iload 4, 2) := dk_21 4 (dk_at dksX13_is_0 18 rfl rfl)
theorem dX13_is_20 : decode cX13_is 20 = .ok (.iaload, 1) := dk_46 (dk_at dksX13_is_0 20 rfl rfl)
theorem dX13_is_21 : decode cX13_is 21 = .ok (.iload_n 1, 1) := dk_27 (dk_at dksX13_is_0 21 rfl rfl)
theorem dX13_is_22 : decode cX13_is 22 = .ok (.if_icmp .ne 34, 3) := dk_160 0 34 (dk_at dksX13_is_1 0 rfl rfl)
theorem dX13_is_25 : decode cX13_is 25 = .ok (.iload_n 2, 1) := dk_28 (dk_at dksX13_is_1 3 rfl rfl)
theorem dX13_is_26 : decode cX13_is 26 = .ok (.aload_n 0, 1) := dk_42 (dk_at dksX13_is_1 4 rfl rfl)
theorem dX13_is_27 : decode cX13_is 27 = .ok (.getfield 31, 3) := dk_180 0 31 (dk_at dksX13_is_1 5 rfl rfl)
theorem dX13_is_30 : decode cX13_is 30 = .ok (.iload 4, 2) := dk_21 4 (dk_at dksX13_is_1 8 rfl rfl)
theorem dX13_is_32 : decode cX13_is 32 = .ok (.iaload, 1) := dk_46 (dk_at dksX13_is_1 10 rfl rfl)
theorem dX13_is_33 : decode cX13_is 33 = .ok (.aload_n 0, 1) := dk_42 (dk_at dksX13_is_1 11 rfl rfl)
theorem dX13_is_34 : decode cX13_is 34 = .ok (.getfield 34, 3) := dk_180 0 34 (dk_at dksX13_is_1 12 rfl rfl)
theorem dX13_is_37 : decode cX13_is 37 = .ok (.iload 4, 2) := dk_21 4 (dk_at dksX13_is_1 15 rfl rfl)
theorem dX13_is_39 : decode cX13_is 39 = .ok (.iaload, 1) := dk_46 (dk_at dksX13_is_1 17 rfl rfl)
theorem dX13_is_40 : decode cX13_is 40 = .ok (.invokestatic 72, 3) := dk_184 0 72 (dk_at dksX13_is_1 18 rfl rfl)
theorem dX13_is_43 : decode cX13_is 43 = .ok (.ifCond .eq 13, 3) := dk_153 0 13 (dk_at dksX13_is_1 21 rfl rfl)
theorem dX13_is_46 : decode cX13_is 46 = .ok (.aload_n 0, 1) := dk_42 (dk_at dksX13_is_2 0 rfl rfl)
theorem dX13_is_47 : decode cX13_is 47 = .ok (.getfield 28, 3) := dk_180 0 28 (dk_at dksX13_is_2 1 rfl rfl)
theorem dX13_is_50 : decode cX13_is 50 = .ok (.iload 4, 2) := dk_21 4 (dk_at dksX13_is_2 4 rfl rfl)
theorem dX13_is_52 : decode cX13_is 52 = .ok (.iaload, 1) := dk_46 (dk_at dksX13_is_2 6 rfl rfl)
theorem dX13_is_53 : decode cX13_is 53 = .ok (.goto 4, 3) := dk_167 0 4 (dk_at dksX13_is_2 7 rfl rfl)
theorem dX13_is_56 : decode cX13_is 56 = .ok (.iload_n 3, 1) := dk_29 (dk_at dksX13_is_2 10 rfl rfl)
theorem dX13_is_57 : decode cX13_is 57 = .ok (.istore_n 3, 1) := dk_62 (dk_at dksX13_is_2 11 rfl rfl)
theorem dX13_is_58 : decode cX13_is 58 = .ok (.iinc 4 1, 3) := dk_132 4 1 (dk_at dksX13_is_2 12 rfl rfl)
theorem dX13_is_61 : decode cX13_is 61 = .ok (.goto (-56), 3) := dk_167 255 200 (dk_at dksX13_is_2 15 rfl rfl)
theorem dX13_is_64 : decode cX13_is 64 = .ok (.iload_n 3, 1) := dk_29 (dk_at dksX13_is_2 18 rfl rfl)
theorem dX13_is_65 : decode cX13_is 65 = .ok (.ireturn, 1) := dk_172 (dk_at dksX13_is_2 19 rfl rfl)
abbrev cX13_lived : ByteArray := prog_13_method_8_code
def yX13_lived : MethodName := ⟨RX13, "lived", "(II)Z"⟩
def dkwX13_lived_3 : List UInt8 := [167, 0, 4, 3, 62, 132, 4, 1, 167, 255, 200, 29, 172]
abbrev dktX13_lived_3 : List UInt8 := dkwX13_lived_3 ++ []
def dkwX13_lived_2 : List UInt8 := [184, 0, 72, 153, 0, 18, 42, 42, 180, 0, 18, 21, 4, 46, 182, 0, 68, 2, 159, 0, 7, 4]
abbrev dktX13_lived_2 : List UInt8 := dkwX13_lived_2 ++ dktX13_lived_3
def dkwX13_lived_1 : List UInt8 := [42, 180, 0, 65, 162, 0, 53, 29, 153, 0, 49, 42, 180, 0, 18, 21, 4, 46, 28, 27, 100, 5, 96, 28]
abbrev dktX13_lived_1 : List UInt8 := dkwX13_lived_1 ++ dktX13_lived_2
def dkwX13_lived_0 : List UInt8 := [42, 28, 27, 100, 4, 96, 182, 0, 68, 2, 159, 0, 7, 4, 167, 0, 4, 3, 62, 3, 54, 4, 21, 4]
abbrev dktX13_lived_0 : List UInt8 := dkwX13_lived_0 ++ dktX13_lived_1
theorem dksX13_lived_0 : cX13_lived.data.toList.drop 0 = dktX13_lived_0 := by decide +kernel
theorem dksX13_lived_1 : cX13_lived.data.toList.drop 24 = dktX13_lived_1 := dk_seg dksX13_lived_0 24 rfl rfl
theorem dksX13_lived_2 : cX13_lived.data.toList.drop 48 = dktX13_lived_2 := dk_seg dksX13_lived_1 24 rfl rfl
theorem dksX13_lived_3 : cX13_lived.data.toList.drop 70 = dktX13_lived_3 := dk_seg dksX13_lived_2 22 rfl rfl
theorem dX13_lived_0 : decode cX13_lived 0 = .ok (.aload_n 0, 1) := dk_42 (dk_at dksX13_lived_0 0 rfl rfl)
theorem dX13_lived_1 : decode cX13_lived 1 = .ok (.iload_n 2, 1) := dk_28 (dk_at dksX13_lived_0 1 rfl rfl)
theorem dX13_lived_2 : decode cX13_lived 2 = .ok (.iload_n 1, 1) := dk_27 (dk_at dksX13_lived_0 2 rfl rfl)
theorem dX13_lived_3 : decode cX13_lived 3 = .ok (.isub, 1) := dk_100 (dk_at dksX13_lived_0 3 rfl rfl)
theorem dX13_lived_4 : decode cX13_lived 4 = .ok (.iconst 1, 1) := dk_4 (dk_at dksX13_lived_0 4 rfl rfl)
theorem dX13_lived_5 : decode cX13_lived 5 = .ok (.iadd, 1) := dk_96 (dk_at dksX13_lived_0 5 rfl rfl)
theorem dX13_lived_6 : decode cX13_lived 6 = .ok (.invokevirtual 68, 3) := dk_182 0 68 (dk_at dksX13_lived_0 6 rfl rfl)
theorem dX13_lived_9 : decode cX13_lived 9 = .ok (.iconst (-1), 1) := dk_2 (dk_at dksX13_lived_0 9 rfl rfl)
theorem dX13_lived_10 : decode cX13_lived 10 = .ok (.if_icmp .eq 7, 3) := dk_159 0 7 (dk_at dksX13_lived_0 10 rfl rfl)
theorem dX13_lived_13 : decode cX13_lived 13 = .ok (.iconst 1, 1) := dk_4 (dk_at dksX13_lived_0 13 rfl rfl)
theorem dX13_lived_14 : decode cX13_lived 14 = .ok (.goto 4, 3) := dk_167 0 4 (dk_at dksX13_lived_0 14 rfl rfl)
theorem dX13_lived_17 : decode cX13_lived 17 = .ok (.iconst 0, 1) := dk_3 (dk_at dksX13_lived_0 17 rfl rfl)
theorem dX13_lived_18 : decode cX13_lived 18 = .ok (.istore_n 3, 1) := dk_62 (dk_at dksX13_lived_0 18 rfl rfl)
theorem dX13_lived_19 : decode cX13_lived 19 = .ok (.iconst 0, 1) := dk_3 (dk_at dksX13_lived_0 19 rfl rfl)
theorem dX13_lived_20 : decode cX13_lived 20 = .ok (.istore 4, 2) := dk_54 4 (dk_at dksX13_lived_0 20 rfl rfl)
theorem dX13_lived_22 : decode cX13_lived 22 = .ok (.iload 4, 2) := dk_21 4 (dk_at dksX13_lived_0 22 rfl rfl)
theorem dX13_lived_24 : decode cX13_lived 24 = .ok (.aload_n 0, 1) := dk_42 (dk_at dksX13_lived_1 0 rfl rfl)
theorem dX13_lived_25 : decode cX13_lived 25 = .ok (.getfield 65, 3) := dk_180 0 65 (dk_at dksX13_lived_1 1 rfl rfl)
theorem dX13_lived_28 : decode cX13_lived 28 = .ok (.if_icmp .ge 53, 3) := dk_162 0 53 (dk_at dksX13_lived_1 4 rfl rfl)
theorem dX13_lived_31 : decode cX13_lived 31 = .ok (.iload_n 3, 1) := dk_29 (dk_at dksX13_lived_1 7 rfl rfl)
theorem dX13_lived_32 : decode cX13_lived 32 = .ok (.ifCond .eq 49, 3) := dk_153 0 49 (dk_at dksX13_lived_1 8 rfl rfl)
theorem dX13_lived_35 : decode cX13_lived 35 = .ok (.aload_n 0, 1) := dk_42 (dk_at dksX13_lived_1 11 rfl rfl)
theorem dX13_lived_36 : decode cX13_lived 36 = .ok (.getfield 18, 3) := dk_180 0 18 (dk_at dksX13_lived_1 12 rfl rfl)
theorem dX13_lived_39 : decode cX13_lived 39 = .ok (.iload 4, 2) := dk_21 4 (dk_at dksX13_lived_1 15 rfl rfl)
theorem dX13_lived_41 : decode cX13_lived 41 = .ok (.iaload, 1) := dk_46 (dk_at dksX13_lived_1 17 rfl rfl)
theorem dX13_lived_42 : decode cX13_lived 42 = .ok (.iload_n 2, 1) := dk_28 (dk_at dksX13_lived_1 18 rfl rfl)
theorem dX13_lived_43 : decode cX13_lived 43 = .ok (.iload_n 1, 1) := dk_27 (dk_at dksX13_lived_1 19 rfl rfl)
theorem dX13_lived_44 : decode cX13_lived 44 = .ok (.isub, 1) := dk_100 (dk_at dksX13_lived_1 20 rfl rfl)
theorem dX13_lived_45 : decode cX13_lived 45 = .ok (.iconst 2, 1) := dk_5 (dk_at dksX13_lived_1 21 rfl rfl)
theorem dX13_lived_46 : decode cX13_lived 46 = .ok (.iadd, 1) := dk_96 (dk_at dksX13_lived_1 22 rfl rfl)
theorem dX13_lived_47 : decode cX13_lived 47 = .ok (.iload_n 2, 1) := dk_28 (dk_at dksX13_lived_1 23 rfl rfl)
theorem dX13_lived_48 : decode cX13_lived 48 = .ok (.invokestatic 72, 3) := dk_184 0 72 (dk_at dksX13_lived_2 0 rfl rfl)
theorem dX13_lived_51 : decode cX13_lived 51 = .ok (.ifCond .eq 18, 3) := dk_153 0 18 (dk_at dksX13_lived_2 3 rfl rfl)
theorem dX13_lived_54 : decode cX13_lived 54 = .ok (.aload_n 0, 1) := dk_42 (dk_at dksX13_lived_2 6 rfl rfl)
theorem dX13_lived_55 : decode cX13_lived 55 = .ok (.aload_n 0, 1) := dk_42 (dk_at dksX13_lived_2 7 rfl rfl)
theorem dX13_lived_56 : decode cX13_lived 56 = .ok (.getfield 18, 3) := dk_180 0 18 (dk_at dksX13_lived_2 8 rfl rfl)
theorem dX13_lived_59 : decode cX13_lived 59 = .ok (.iload 4, 2) := dk_21 4 (dk_at dksX13_lived_2 11 rfl rfl)
theorem dX13_lived_61 : decode cX13_lived 61 = .ok (.iaload, 1) := dk_46 (dk_at dksX13_lived_2 13 rfl rfl)
theorem dX13_lived_62 : decode cX13_lived 62 = .ok (.invokevirtual 68, 3) := dk_182 0 68 (dk_at dksX13_lived_2 14 rfl rfl)
theorem dX13_lived_65 : decode cX13_lived 65 = .ok (.iconst (-1), 1) := dk_2 (dk_at dksX13_lived_2 17 rfl rfl)
theorem dX13_lived_66 : decode cX13_lived 66 = .ok (.if_icmp .eq 7, 3) := dk_159 0 7 (dk_at dksX13_lived_2 18 rfl rfl)
theorem dX13_lived_69 : decode cX13_lived 69 = .ok (.iconst 1, 1) := dk_4 (dk_at dksX13_lived_2 21 rfl rfl)
theorem dX13_lived_70 : decode cX13_lived 70 = .ok (.goto 4, 3) := dk_167 0 4 (dk_at dksX13_lived_3 0 rfl rfl)
theorem dX13_lived_73 : decode cX13_lived 73 = .ok (.iconst 0, 1) := dk_3 (dk_at dksX13_lived_3 3 rfl rfl)
theorem dX13_lived_74 : decode cX13_lived 74 = .ok (.istore_n 3, 1) := dk_62 (dk_at dksX13_lived_3 4 rfl rfl)
theorem dX13_lived_75 : decode cX13_lived 75 = .ok (.iinc 4 1, 3) := dk_132 4 1 (dk_at dksX13_lived_3 5 rfl rfl)
theorem dX13_lived_78 : decode cX13_lived 78 = .ok (.goto (-56), 3) := dk_167 255 200 (dk_at dksX13_lived_3 8 rfl rfl)
theorem dX13_lived_81 : decode cX13_lived 81 = .ok (.iload_n 3, 1) := dk_29 (dk_at dksX13_lived_3 11 rfl rfl)
theorem dX13_lived_82 : decode cX13_lived 82 = .ok (.ireturn, 1) := dk_172 (dk_at dksX13_lived_3 12 rfl rfl)
abbrev cX13_isAlive : ByteArray := prog_13_method_3_code
def yX13_isAlive : MethodName := ⟨RX13, "isAlive", "(I)Z"⟩
def dkwX13_isAlive_0 : List UInt8 := [42, 180, 0, 50, 27, 163, 0, 15, 42, 180, 0, 12, 27, 164, 0, 7, 4, 167, 0, 4, 3, 172]
abbrev dktX13_isAlive_0 : List UInt8 := dkwX13_isAlive_0 ++ []
theorem dksX13_isAlive_0 : cX13_isAlive.data.toList.drop 0 = dktX13_isAlive_0 := by decide +kernel
theorem dX13_isAlive_0 : decode cX13_isAlive 0 = .ok (.aload_n 0, 1) := dk_42 (dk_at dksX13_isAlive_0 0 rfl rfl)
theorem dX13_isAlive_1 : decode cX13_isAlive 1 = .ok (.getfield 50, 3) := dk_180 0 50 (dk_at dksX13_isAlive_0 1 rfl rfl)
theorem dX13_isAlive_4 : decode cX13_isAlive 4 = .ok (.iload_n 1, 1) := dk_27 (dk_at dksX13_isAlive_0 4 rfl rfl)
theorem dX13_isAlive_5 : decode cX13_isAlive 5 = .ok (.if_icmp .gt 15, 3) := dk_163 0 15 (dk_at dksX13_isAlive_0 5 rfl rfl)
theorem dX13_isAlive_8 : decode cX13_isAlive 8 = .ok (.aload_n 0, 1) := dk_42 (dk_at dksX13_isAlive_0 8 rfl rfl)
theorem dX13_isAlive_9 : decode cX13_isAlive 9 = .ok (.getfield 12, 3) := dk_180 0 12 (dk_at dksX13_isAlive_0 9 rfl rfl)
theorem dX13_isAlive_12 : decode cX13_isAlive 12 = .ok (.iload_n 1, 1) := dk_27 (dk_at dksX13_isAlive_0 12 rfl rfl)
theorem dX13_isAlive_13 : decode cX13_isAlive 13 = .ok (.if_icmp .le 7, 3) := dk_164 0 7 (dk_at dksX13_isAlive_0 13 rfl rfl)
theorem dX13_isAlive_16 : decode cX13_isAlive 16 = .ok (.iconst 1, 1) := dk_4 (dk_at dksX13_isAlive_0 16 rfl rfl)
theorem dX13_isAlive_17 : decode cX13_isAlive 17 = .ok (.goto 4, 3) := dk_167 0 4 (dk_at dksX13_isAlive_0 17 rfl rfl)
theorem dX13_isAlive_20 : decode cX13_isAlive 20 = .ok (.iconst 0, 1) := dk_3 (dk_at dksX13_isAlive_0 20 rfl rfl)
theorem dX13_isAlive_21 : decode cX13_isAlive 21 = .ok (.ireturn, 1) := dk_172 (dk_at dksX13_isAlive_0 21 rfl rfl)
theorem q300 : (Jvm.Cond.initialized "ElectionHouse$Person") ∈ lw_all := lw_g (lw_at lw_m1 19 rfl) rfl
theorem q1217 : (Jvm.Cond.instantiable "ElectionHouse$Person" (14 : Nat)) ∈ lw_all := lw_g (lw_at lw_m4 216 rfl) rfl
theorem q1219 : (Jvm.Cond.instanceMethod ({ cls := "ElectionHouse$Person", name := "<init>", desc := "(III)V" } : Jvm.MethodName)) ∈ lw_all := lw_g (lw_at lw_m4 218 rfl) rfl
theorem q1220 : (Jvm.Cond.code ({ cls := "ElectionHouse$Person", name := "<init>", desc := "(III)V" } : Jvm.MethodName) prog_13_method_1_code (4 : Nat) (Option.none : Option Jvm.ClassFile.FieldType)) ∈ lw_all := lw_g (lw_at lw_m4 219 rfl) rfl
theorem q1221 : (Jvm.Cond.methodLink "ElectionHouse$Person" (3 : Nat) ({ cls := "java/lang/Object", name := "<init>", desc := "()V" } : Jvm.MethodName)) ∈ lw_all := lw_g (lw_at lw_m4 220 rfl) rfl
theorem q1222 : (Jvm.Cond.constant "ElectionHouse$Person" (11 : Nat) (36525 : Int32)) ∈ lw_all := lw_g (lw_at lw_m4 221 rfl) rfl
theorem q1223 : (Jvm.Cond.methodLink "ElectionHouse$Person" (46 : Nat) ({ cls := "ElectionHouse$Days", name := "of", desc := "(III)I" } : Jvm.MethodName)) ∈ lw_all := lw_g (lw_at lw_m4 222 rfl) rfl
theorem q1226 : (Jvm.Cond.fieldLink "ElectionHouse$Person" (37 : Nat) "ElectionHouse$Person" "year" "I") ∈ lw_all := lw_g (lw_at lw_m4 225 rfl) rfl
theorem q1227 : (Jvm.Cond.fieldLink "ElectionHouse$Person" (40 : Nat) "ElectionHouse$Person" "month" "I") ∈ lw_all := lw_g (lw_at lw_m4 226 rfl) rfl
theorem q1228 : (Jvm.Cond.fieldLink "ElectionHouse$Person" (43 : Nat) "ElectionHouse$Person" "date" "I") ∈ lw_all := lw_g (lw_at lw_m4 227 rfl) rfl
theorem q1229 : (Jvm.Cond.fieldLink "ElectionHouse$Person" (50 : Nat) "ElectionHouse$Person" "born" "I") ∈ lw_all := lw_g (lw_at lw_m4 228 rfl) rfl
theorem q1231 : (Jvm.Cond.fieldLink "ElectionHouse$Person" (12 : Nat) "ElectionHouse$Person" "death" "I") ∈ lw_all := lw_g (lw_at lw_m4 230 rfl) rfl
theorem q1232 : (Jvm.Cond.fieldLink "ElectionHouse$Person" (53 : Nat) "ElectionHouse$Person" "isDead" "Z") ∈ lw_all := lw_g (lw_at lw_m4 231 rfl) rfl
theorem q1234 : (Jvm.Cond.fieldLink "ElectionHouse$Person" (18 : Nat) "ElectionHouse$Person" "movedOn" "[I") ∈ lw_all := lw_g (lw_at lw_m4 233 rfl) rfl
theorem q1235 : (Jvm.Cond.fieldLink "ElectionHouse$Person" (22 : Nat) "ElectionHouse$Person" "movedTo" "[I") ∈ lw_all := lw_g (lw_at lw_m4 234 rfl) rfl
theorem q1236 : (Jvm.Cond.fieldLink "ElectionHouse$Person" (65 : Nat) "ElectionHouse$Person" "moves" "I") ∈ lw_all := lw_g (lw_at lw_m4 235 rfl) rfl
theorem q1238 : (Jvm.Cond.fieldLink "ElectionHouse$Person" (25 : Nat) "ElectionHouse$Person" "kinds" "[I") ∈ lw_all := lw_g (lw_at lw_m4 237 rfl) rfl
theorem q1239 : (Jvm.Cond.fieldLink "ElectionHouse$Person" (28 : Nat) "ElectionHouse$Person" "yes" "[I") ∈ lw_all := lw_g (lw_at lw_m4 238 rfl) rfl
theorem q1240 : (Jvm.Cond.fieldLink "ElectionHouse$Person" (31 : Nat) "ElectionHouse$Person" "from" "[I") ∈ lw_all := lw_g (lw_at lw_m4 239 rfl) rfl
theorem q1241 : (Jvm.Cond.fieldLink "ElectionHouse$Person" (34 : Nat) "ElectionHouse$Person" "to" "[I") ∈ lw_all := lw_g (lw_at lw_m5 0 rfl) rfl
theorem q1242 : (Jvm.Cond.fieldLink "ElectionHouse$Person" (76 : Nat) "ElectionHouse$Person" "facts" "I") ∈ lw_all := lw_g (lw_at lw_m5 1 rfl) rfl
theorem q1244 : (Jvm.Cond.laysFinal "ElectionHouse$Person" "ElectionHouse$Person" "year" "I") ∈ lw_all := lw_g (lw_at lw_m5 3 rfl) rfl
theorem q1245 : (Jvm.Cond.soleField "ElectionHouse$Person" "year") ∈ lw_all := lw_g (lw_at lw_m5 4 rfl) rfl
theorem q1246 : (Jvm.Cond.laysFinal "ElectionHouse$Person" "ElectionHouse$Person" "month" "I") ∈ lw_all := lw_g (lw_at lw_m5 5 rfl) rfl
theorem q1247 : (Jvm.Cond.soleField "ElectionHouse$Person" "month") ∈ lw_all := lw_g (lw_at lw_m5 6 rfl) rfl
theorem q1248 : (Jvm.Cond.laysFinal "ElectionHouse$Person" "ElectionHouse$Person" "date" "I") ∈ lw_all := lw_g (lw_at lw_m5 7 rfl) rfl
theorem q1249 : (Jvm.Cond.soleField "ElectionHouse$Person" "date") ∈ lw_all := lw_g (lw_at lw_m5 8 rfl) rfl
theorem q1250 : (Jvm.Cond.laysFinal "ElectionHouse$Person" "ElectionHouse$Person" "born" "I") ∈ lw_all := lw_g (lw_at lw_m5 9 rfl) rfl
theorem q1251 : (Jvm.Cond.soleField "ElectionHouse$Person" "born") ∈ lw_all := lw_g (lw_at lw_m5 10 rfl) rfl
theorem q1252 : (Jvm.Cond.lays "ElectionHouse$Person" "ElectionHouse$Person" "death" "I") ∈ lw_all := lw_g (lw_at lw_m5 11 rfl) rfl
theorem q1253 : (Jvm.Cond.soleField "ElectionHouse$Person" "death") ∈ lw_all := lw_g (lw_at lw_m5 12 rfl) rfl
theorem q1254 : (Jvm.Cond.lays "ElectionHouse$Person" "ElectionHouse$Person" "isDead" "Z") ∈ lw_all := lw_g (lw_at lw_m5 13 rfl) rfl
theorem q1255 : (Jvm.Cond.soleField "ElectionHouse$Person" "isDead") ∈ lw_all := lw_g (lw_at lw_m5 14 rfl) rfl
theorem q1256 : (Jvm.Cond.laysFinal "ElectionHouse$Person" "ElectionHouse$Person" "movedOn" "[I") ∈ lw_all := lw_g (lw_at lw_m5 15 rfl) rfl
theorem q1257 : (Jvm.Cond.soleField "ElectionHouse$Person" "movedOn") ∈ lw_all := lw_g (lw_at lw_m5 16 rfl) rfl
theorem q1258 : (Jvm.Cond.laysFinal "ElectionHouse$Person" "ElectionHouse$Person" "movedTo" "[I") ∈ lw_all := lw_g (lw_at lw_m5 17 rfl) rfl
theorem q1259 : (Jvm.Cond.soleField "ElectionHouse$Person" "movedTo") ∈ lw_all := lw_g (lw_at lw_m5 18 rfl) rfl
theorem q1260 : (Jvm.Cond.lays "ElectionHouse$Person" "ElectionHouse$Person" "moves" "I") ∈ lw_all := lw_g (lw_at lw_m5 19 rfl) rfl
theorem q1261 : (Jvm.Cond.soleField "ElectionHouse$Person" "moves") ∈ lw_all := lw_g (lw_at lw_m5 20 rfl) rfl
theorem q1262 : (Jvm.Cond.laysFinal "ElectionHouse$Person" "ElectionHouse$Person" "kinds" "[I") ∈ lw_all := lw_g (lw_at lw_m5 21 rfl) rfl
theorem q1263 : (Jvm.Cond.soleField "ElectionHouse$Person" "kinds") ∈ lw_all := lw_g (lw_at lw_m5 22 rfl) rfl
theorem q1264 : (Jvm.Cond.laysFinal "ElectionHouse$Person" "ElectionHouse$Person" "yes" "[I") ∈ lw_all := lw_g (lw_at lw_m5 23 rfl) rfl
theorem q1265 : (Jvm.Cond.soleField "ElectionHouse$Person" "yes") ∈ lw_all := lw_g (lw_at lw_m5 24 rfl) rfl
theorem q1266 : (Jvm.Cond.laysFinal "ElectionHouse$Person" "ElectionHouse$Person" "from" "[I") ∈ lw_all := lw_g (lw_at lw_m5 25 rfl) rfl
theorem q1267 : (Jvm.Cond.soleField "ElectionHouse$Person" "from") ∈ lw_all := lw_g (lw_at lw_m5 26 rfl) rfl
theorem q1268 : (Jvm.Cond.laysFinal "ElectionHouse$Person" "ElectionHouse$Person" "to" "[I") ∈ lw_all := lw_g (lw_at lw_m5 27 rfl) rfl
theorem q1269 : (Jvm.Cond.soleField "ElectionHouse$Person" "to") ∈ lw_all := lw_g (lw_at lw_m5 28 rfl) rfl
theorem q1270 : (Jvm.Cond.lays "ElectionHouse$Person" "ElectionHouse$Person" "facts" "I") ∈ lw_all := lw_g (lw_at lw_m5 29 rfl) rfl
theorem q1271 : (Jvm.Cond.soleField "ElectionHouse$Person" "facts") ∈ lw_all := lw_g (lw_at lw_m5 30 rfl) rfl
theorem q1272 : (Jvm.Cond.superclass "ElectionHouse$Person" "java/lang/Object") ∈ lw_all := lw_g (lw_at lw_m5 31 rfl) rfl
theorem q1282 : (Jvm.Cond.instanceMethod ({ cls := "ElectionHouse$Person", name := "move", desc := "(II)I" } : Jvm.MethodName)) ∈ lw_all := lw_g (lw_at lw_m5 41 rfl) rfl
theorem q1283 : (Jvm.Cond.selects "ElectionHouse$Person" ({ cls := "ElectionHouse$Person", name := "move", desc := "(II)I" } : Jvm.MethodName) ({ cls := "ElectionHouse$Person", name := "move", desc := "(II)I" } : Jvm.MethodName)) ∈ lw_all := lw_g (lw_at lw_m5 42 rfl) rfl
theorem q1284 : (Jvm.Cond.code ({ cls := "ElectionHouse$Person", name := "move", desc := "(II)I" } : Jvm.MethodName) prog_13_method_6_code (4 : Nat) (Option.some Jvm.ClassFile.FieldType.int)) ∈ lw_all := lw_g (lw_at lw_m5 43 rfl) rfl
theorem q1290 : (Jvm.Cond.instanceMethod ({ cls := "ElectionHouse$Person", name := "fact", desc := "(IIII)I" } : Jvm.MethodName)) ∈ lw_all := lw_g (lw_at lw_m5 49 rfl) rfl
theorem q1291 : (Jvm.Cond.selects "ElectionHouse$Person" ({ cls := "ElectionHouse$Person", name := "fact", desc := "(IIII)I" } : Jvm.MethodName) ({ cls := "ElectionHouse$Person", name := "fact", desc := "(IIII)I" } : Jvm.MethodName)) ∈ lw_all := lw_g (lw_at lw_m5 50 rfl) rfl
theorem q1292 : (Jvm.Cond.code ({ cls := "ElectionHouse$Person", name := "fact", desc := "(IIII)I" } : Jvm.MethodName) prog_13_method_9_code (5 : Nat) (Option.some Jvm.ClassFile.FieldType.int)) ∈ lw_all := lw_g (lw_at lw_m5 51 rfl) rfl
theorem q1298 : (Jvm.Cond.instanceMethod ({ cls := "ElectionHouse$Person", name := "die", desc := "(I)V" } : Jvm.MethodName)) ∈ lw_all := lw_g (lw_at lw_m5 57 rfl) rfl
theorem q1299 : (Jvm.Cond.selects "ElectionHouse$Person" ({ cls := "ElectionHouse$Person", name := "die", desc := "(I)V" } : Jvm.MethodName) ({ cls := "ElectionHouse$Person", name := "die", desc := "(I)V" } : Jvm.MethodName)) ∈ lw_all := lw_g (lw_at lw_m5 58 rfl) rfl
theorem q1300 : (Jvm.Cond.code ({ cls := "ElectionHouse$Person", name := "die", desc := "(I)V" } : Jvm.MethodName) prog_13_method_2_code (2 : Nat) (Option.none : Option Jvm.ClassFile.FieldType)) ∈ lw_all := lw_g (lw_at lw_m5 59 rfl) rfl
theorem q1306 : (Jvm.Cond.instanceMethod ({ cls := "ElectionHouse$Person", name := "age", desc := "(IZ)I" } : Jvm.MethodName)) ∈ lw_all := lw_g (lw_at lw_m5 65 rfl) rfl
theorem q1307 : (Jvm.Cond.selects "ElectionHouse$Person" ({ cls := "ElectionHouse$Person", name := "age", desc := "(IZ)I" } : Jvm.MethodName) ({ cls := "ElectionHouse$Person", name := "age", desc := "(IZ)I" } : Jvm.MethodName)) ∈ lw_all := lw_g (lw_at lw_m5 66 rfl) rfl
theorem q1308 : (Jvm.Cond.code ({ cls := "ElectionHouse$Person", name := "age", desc := "(IZ)I" } : Jvm.MethodName) prog_13_method_5_code (4 : Nat) (Option.some Jvm.ClassFile.FieldType.int)) ∈ lw_all := lw_g (lw_at lw_m5 67 rfl) rfl
theorem q1309 : (Jvm.Cond.methodLink "ElectionHouse$Person" (61 : Nat) ({ cls := "ElectionHouse$Person", name := "birthday", desc := "(IZ)I" } : Jvm.MethodName)) ∈ lw_all := lw_g (lw_at lw_m5 68 rfl) rfl
theorem q1310 : (Jvm.Cond.privateMethod ({ cls := "ElectionHouse$Person", name := "birthday", desc := "(IZ)I" } : Jvm.MethodName)) ∈ lw_tbl := lw_at lw_m5 69 rfl
theorem q1311 : (Jvm.Cond.instanceMethod ({ cls := "ElectionHouse$Person", name := "birthday", desc := "(IZ)I" } : Jvm.MethodName)) ∈ lw_all := lw_g (lw_at lw_m5 70 rfl) rfl
theorem q1312 : (Jvm.Cond.code ({ cls := "ElectionHouse$Person", name := "birthday", desc := "(IZ)I" } : Jvm.MethodName) prog_13_method_4_code (4 : Nat) (Option.some Jvm.ClassFile.FieldType.int)) ∈ lw_all := lw_g (lw_at lw_m5 71 rfl) rfl
theorem q1313 : (Jvm.Cond.methodLink "ElectionHouse$Person" (57 : Nat) ({ cls := "ElectionHouse$Days", name := "is", desc := "(IIII)Z" } : Jvm.MethodName)) ∈ lw_all := lw_g (lw_at lw_m5 72 rfl) rfl
theorem q1319 : (Jvm.Cond.instanceMethod ({ cls := "ElectionHouse$Person", name := "address", desc := "(I)I" } : Jvm.MethodName)) ∈ lw_all := lw_g (lw_at lw_m5 78 rfl) rfl
theorem q1320 : (Jvm.Cond.selects "ElectionHouse$Person" ({ cls := "ElectionHouse$Person", name := "address", desc := "(I)I" } : Jvm.MethodName) ({ cls := "ElectionHouse$Person", name := "address", desc := "(I)I" } : Jvm.MethodName)) ∈ lw_all := lw_g (lw_at lw_m5 79 rfl) rfl
theorem q1321 : (Jvm.Cond.code ({ cls := "ElectionHouse$Person", name := "address", desc := "(I)I" } : Jvm.MethodName) prog_13_method_7_code (3 : Nat) (Option.some Jvm.ClassFile.FieldType.int)) ∈ lw_all := lw_g (lw_at lw_m5 80 rfl) rfl
theorem q1327 : (Jvm.Cond.instanceMethod ({ cls := "ElectionHouse$Person", name := "is", desc := "(II)I" } : Jvm.MethodName)) ∈ lw_all := lw_g (lw_at lw_m5 86 rfl) rfl
theorem q1328 : (Jvm.Cond.selects "ElectionHouse$Person" ({ cls := "ElectionHouse$Person", name := "is", desc := "(II)I" } : Jvm.MethodName) ({ cls := "ElectionHouse$Person", name := "is", desc := "(II)I" } : Jvm.MethodName)) ∈ lw_all := lw_g (lw_at lw_m5 87 rfl) rfl
theorem q1329 : (Jvm.Cond.code ({ cls := "ElectionHouse$Person", name := "is", desc := "(II)I" } : Jvm.MethodName) prog_13_method_10_code (5 : Nat) (Option.some Jvm.ClassFile.FieldType.int)) ∈ lw_all := lw_g (lw_at lw_m5 88 rfl) rfl
theorem q1330 : (Jvm.Cond.methodLinkNest "ElectionHouse$Person" (72 : Nat) ({ cls := "ElectionHouse", name := "within", desc := "(III)Z" } : Jvm.MethodName) "ElectionHouse") ∈ lw_tbl := lw_at lw_m5 89 rfl
theorem q1613 : (Jvm.Cond.instanceMethod ({ cls := "ElectionHouse$Person", name := "lived", desc := "(II)Z" } : Jvm.MethodName)) ∈ lw_all := lw_g (lw_at lw_m6 132 rfl) rfl
theorem q1614 : (Jvm.Cond.selects "ElectionHouse$Person" ({ cls := "ElectionHouse$Person", name := "lived", desc := "(II)Z" } : Jvm.MethodName) ({ cls := "ElectionHouse$Person", name := "lived", desc := "(II)Z" } : Jvm.MethodName)) ∈ lw_all := lw_g (lw_at lw_m6 133 rfl) rfl
theorem q1615 : (Jvm.Cond.code ({ cls := "ElectionHouse$Person", name := "lived", desc := "(II)Z" } : Jvm.MethodName) prog_13_method_8_code (5 : Nat) (Option.some Jvm.ClassFile.FieldType.boolean)) ∈ lw_all := lw_g (lw_at lw_m6 134 rfl) rfl
theorem q1616 : (Jvm.Cond.methodLink "ElectionHouse$Person" (68 : Nat) ({ cls := "ElectionHouse$Person", name := "address", desc := "(I)I" } : Jvm.MethodName)) ∈ lw_all := lw_g (lw_at lw_m6 135 rfl) rfl
theorem q1637 : (Jvm.Cond.instanceMethod ({ cls := "ElectionHouse$Person", name := "isAlive", desc := "(I)Z" } : Jvm.MethodName)) ∈ lw_all := lw_g (lw_at lw_m6 156 rfl) rfl
theorem q1638 : (Jvm.Cond.selects "ElectionHouse$Person" ({ cls := "ElectionHouse$Person", name := "isAlive", desc := "(I)Z" } : Jvm.MethodName) ({ cls := "ElectionHouse$Person", name := "isAlive", desc := "(I)Z" } : Jvm.MethodName)) ∈ lw_all := lw_g (lw_at lw_m6 157 rfl) rfl
theorem q1639 : (Jvm.Cond.code ({ cls := "ElectionHouse$Person", name := "isAlive", desc := "(I)Z" } : Jvm.MethodName) prog_13_method_3_code (2 : Nat) (Option.some Jvm.ClassFile.FieldType.boolean)) ∈ lw_all := lw_g (lw_at lw_m6 158 rfl) rfl
theorem in_X13 : ∀ w ∈ wsX130, w ∈ lw_all := lw_in wsX130 [1244, 1246, 1248, 1250, 1252, 1254, 1256, 1258, 1260, 1262, 1264, 1266, 1268, 1270] (by decide +kernel) (by decide +kernel)

set_option maxRecDepth 100000
abbrev cX14_init : ByteArray := prog_12_method_1_code
def yX14_init : MethodName := ⟨RX14, "<init>", "(III)V"⟩
def dkwX14_init_1 : List UInt8 := [177]
abbrev dktX14_init_1 : List UInt8 := dkwX14_init_1 ++ []
def dkwX14_init_0 : List UInt8 := [42, 183, 0, 3, 42, 2, 181, 0, 9, 42, 27, 181, 0, 15, 42, 28, 181, 0, 18, 42, 29, 181, 0, 21]
abbrev dktX14_init_0 : List UInt8 := dkwX14_init_0 ++ dktX14_init_1
theorem dksX14_init_0 : cX14_init.data.toList.drop 0 = dktX14_init_0 := by decide +kernel
theorem dksX14_init_1 : cX14_init.data.toList.drop 24 = dktX14_init_1 := dk_seg dksX14_init_0 24 rfl rfl
theorem dX14_init_0 : decode cX14_init 0 = .ok (.aload_n 0, 1) := dk_42 (dk_at dksX14_init_0 0 rfl rfl)
theorem dX14_init_1 : decode cX14_init 1 = .ok (.invokespecial 3, 3) := dk_183 0 3 (dk_at dksX14_init_0 1 rfl rfl)
theorem dX14_init_4 : decode cX14_init 4 = .ok (.aload_n 0, 1) := dk_42 (dk_at dksX14_init_0 4 rfl rfl)
theorem dX14_init_5 : decode cX14_init 5 = .ok (.iconst (-1), 1) := dk_2 (dk_at dksX14_init_0 5 rfl rfl)
theorem dX14_init_6 : decode cX14_init 6 = .ok (.putfield 9, 3) := dk_181 0 9 (dk_at dksX14_init_0 6 rfl rfl)
theorem dX14_init_9 : decode cX14_init 9 = .ok (.aload_n 0, 1) := dk_42 (dk_at dksX14_init_0 9 rfl rfl)
theorem dX14_init_10 : decode cX14_init 10 = .ok (.iload_n 1, 1) := dk_27 (dk_at dksX14_init_0 10 rfl rfl)
theorem dX14_init_11 : decode cX14_init 11 = .ok (.putfield 15, 3) := dk_181 0 15 (dk_at dksX14_init_0 11 rfl rfl)
theorem dX14_init_14 : decode cX14_init 14 = .ok (.aload_n 0, 1) := dk_42 (dk_at dksX14_init_0 14 rfl rfl)
theorem dX14_init_15 : decode cX14_init 15 = .ok (.iload_n 2, 1) := dk_28 (dk_at dksX14_init_0 15 rfl rfl)
theorem dX14_init_16 : decode cX14_init 16 = .ok (.putfield 18, 3) := dk_181 0 18 (dk_at dksX14_init_0 16 rfl rfl)
theorem dX14_init_19 : decode cX14_init 19 = .ok (.aload_n 0, 1) := dk_42 (dk_at dksX14_init_0 19 rfl rfl)
theorem dX14_init_20 : decode cX14_init 20 = .ok (.iload_n 3, 1) := dk_29 (dk_at dksX14_init_0 20 rfl rfl)
theorem dX14_init_21 : decode cX14_init 21 = .ok (.putfield 21, 3) := dk_181 0 21 (dk_at dksX14_init_0 21 rfl rfl)
theorem dX14_init_24 : decode cX14_init 24 = .ok (.return_, 1) := dk_177 (dk_at dksX14_init_1 0 rfl rfl)
theorem q307 : (Jvm.Cond.initialized "ElectionHouse$Nomination") ∈ lw_all := lw_g (lw_at lw_m1 26 rfl) rfl
theorem q1644 : (Jvm.Cond.instantiable "ElectionHouse$Nomination" (8 : Nat)) ∈ lw_all := lw_g (lw_at lw_m6 163 rfl) rfl
theorem q1646 : (Jvm.Cond.instanceMethod ({ cls := "ElectionHouse$Nomination", name := "<init>", desc := "(III)V" } : Jvm.MethodName)) ∈ lw_all := lw_g (lw_at lw_m6 165 rfl) rfl
theorem q1647 : (Jvm.Cond.code ({ cls := "ElectionHouse$Nomination", name := "<init>", desc := "(III)V" } : Jvm.MethodName) prog_12_method_1_code (4 : Nat) (Option.none : Option Jvm.ClassFile.FieldType)) ∈ lw_all := lw_g (lw_at lw_m6 166 rfl) rfl
theorem q1648 : (Jvm.Cond.methodLink "ElectionHouse$Nomination" (3 : Nat) ({ cls := "java/lang/Object", name := "<init>", desc := "()V" } : Jvm.MethodName)) ∈ lw_all := lw_g (lw_at lw_m6 167 rfl) rfl
theorem q1649 : (Jvm.Cond.fieldLink "ElectionHouse$Nomination" (15 : Nat) "ElectionHouse$Nomination" "contest" "I") ∈ lw_all := lw_g (lw_at lw_m6 168 rfl) rfl
theorem q1651 : (Jvm.Cond.fieldLink "ElectionHouse$Nomination" (18 : Nat) "ElectionHouse$Nomination" "person" "I") ∈ lw_all := lw_g (lw_at lw_m6 170 rfl) rfl
theorem q1654 : (Jvm.Cond.fieldLink "ElectionHouse$Nomination" (21 : Nat) "ElectionHouse$Nomination" "party" "I") ∈ lw_all := lw_g (lw_at lw_m6 173 rfl) rfl
theorem q1661 : (Jvm.Cond.fieldLink "ElectionHouse$Nomination" (9 : Nat) "ElectionHouse$Nomination" "candidate" "I") ∈ lw_all := lw_g (lw_at lw_m6 180 rfl) rfl
theorem q1664 : (Jvm.Cond.laysFinal "ElectionHouse$Nomination" "ElectionHouse$Nomination" "contest" "I") ∈ lw_all := lw_g (lw_at lw_m6 183 rfl) rfl
theorem q1665 : (Jvm.Cond.soleField "ElectionHouse$Nomination" "contest") ∈ lw_all := lw_g (lw_at lw_m6 184 rfl) rfl
theorem q1666 : (Jvm.Cond.laysFinal "ElectionHouse$Nomination" "ElectionHouse$Nomination" "person" "I") ∈ lw_all := lw_g (lw_at lw_m6 185 rfl) rfl
theorem q1667 : (Jvm.Cond.soleField "ElectionHouse$Nomination" "person") ∈ lw_all := lw_g (lw_at lw_m6 186 rfl) rfl
theorem q1668 : (Jvm.Cond.laysFinal "ElectionHouse$Nomination" "ElectionHouse$Nomination" "party" "I") ∈ lw_all := lw_g (lw_at lw_m6 187 rfl) rfl
theorem q1669 : (Jvm.Cond.soleField "ElectionHouse$Nomination" "party") ∈ lw_all := lw_g (lw_at lw_m6 188 rfl) rfl
theorem q1670 : (Jvm.Cond.lays "ElectionHouse$Nomination" "ElectionHouse$Nomination" "signers" "J") ∈ lw_all := lw_g (lw_at lw_m6 189 rfl) rfl
theorem q1671 : (Jvm.Cond.soleField "ElectionHouse$Nomination" "signers") ∈ lw_all := lw_g (lw_at lw_m6 190 rfl) rfl
theorem q1672 : (Jvm.Cond.lays "ElectionHouse$Nomination" "ElectionHouse$Nomination" "signatures" "I") ∈ lw_all := lw_g (lw_at lw_m6 191 rfl) rfl
theorem q1673 : (Jvm.Cond.soleField "ElectionHouse$Nomination" "signatures") ∈ lw_all := lw_g (lw_at lw_m6 192 rfl) rfl
theorem q1674 : (Jvm.Cond.lays "ElectionHouse$Nomination" "ElectionHouse$Nomination" "isWithdrawn" "Z") ∈ lw_all := lw_g (lw_at lw_m6 193 rfl) rfl
theorem q1675 : (Jvm.Cond.soleField "ElectionHouse$Nomination" "isWithdrawn") ∈ lw_all := lw_g (lw_at lw_m6 194 rfl) rfl
theorem q1676 : (Jvm.Cond.lays "ElectionHouse$Nomination" "ElectionHouse$Nomination" "state" "I") ∈ lw_all := lw_g (lw_at lw_m6 195 rfl) rfl
theorem q1677 : (Jvm.Cond.soleField "ElectionHouse$Nomination" "state") ∈ lw_all := lw_g (lw_at lw_m6 196 rfl) rfl
theorem q1678 : (Jvm.Cond.lays "ElectionHouse$Nomination" "ElectionHouse$Nomination" "candidate" "I") ∈ lw_all := lw_g (lw_at lw_m6 197 rfl) rfl
theorem q1679 : (Jvm.Cond.soleField "ElectionHouse$Nomination" "candidate") ∈ lw_all := lw_g (lw_at lw_m6 198 rfl) rfl
theorem q1680 : (Jvm.Cond.superclass "ElectionHouse$Nomination" "java/lang/Object") ∈ lw_all := lw_g (lw_at lw_m6 199 rfl) rfl
theorem in_X14 : ∀ w ∈ wsX140, w ∈ lw_all := lw_in wsX140 [1664, 1666, 1668, 1670, 1672, 1674, 1676, 1678] (by decide +kernel) (by decide +kernel)

set_option maxRecDepth 100000
abbrev cX15_isBefore : ByteArray := prog_9_method_4_code
def yX15_isBefore : MethodName := ⟨RX15, "isBefore", "(LElectionHouse$Issue;)Z"⟩
def dkwX15_isBefore_3 : List UInt8 := [167, 0, 4, 3, 172]
abbrev dktX15_isBefore_3 : List UInt8 := dkwX15_isBefore_3 ++ []
def dkwX15_isBefore_2 : List UInt8 := [162, 0, 7, 4, 167, 0, 23, 3, 167, 0, 19, 42, 180, 0, 15, 43, 180, 0, 15, 162, 0, 7, 4]
abbrev dktX15_isBefore_2 : List UInt8 := dkwX15_isBefore_2 ++ dktX15_isBefore_3
def dkwX15_isBefore_1 : List UInt8 := [167, 0, 4, 3, 172, 42, 180, 0, 22, 43, 180, 0, 22, 159, 0, 22, 42, 180, 0, 22, 43, 180, 0, 22]
abbrev dktX15_isBefore_1 : List UInt8 := dkwX15_isBefore_1 ++ dktX15_isBefore_2
def dkwX15_isBefore_0 : List UInt8 := [42, 180, 0, 28, 43, 180, 0, 28, 159, 0, 20, 42, 180, 0, 28, 43, 180, 0, 28, 162, 0, 7, 4]
abbrev dktX15_isBefore_0 : List UInt8 := dkwX15_isBefore_0 ++ dktX15_isBefore_1
theorem dksX15_isBefore_0 : cX15_isBefore.data.toList.drop 0 = dktX15_isBefore_0 := by decide +kernel
theorem dksX15_isBefore_1 : cX15_isBefore.data.toList.drop 23 = dktX15_isBefore_1 := dk_seg dksX15_isBefore_0 23 rfl rfl
theorem dksX15_isBefore_2 : cX15_isBefore.data.toList.drop 47 = dktX15_isBefore_2 := dk_seg dksX15_isBefore_1 24 rfl rfl
theorem dksX15_isBefore_3 : cX15_isBefore.data.toList.drop 70 = dktX15_isBefore_3 := dk_seg dksX15_isBefore_2 23 rfl rfl
theorem dX15_isBefore_0 : decode cX15_isBefore 0 = .ok (.aload_n 0, 1) := dk_42 (dk_at dksX15_isBefore_0 0 rfl rfl)
theorem dX15_isBefore_1 : decode cX15_isBefore 1 = .ok (.getfield 28, 3) := dk_180 0 28 (dk_at dksX15_isBefore_0 1 rfl rfl)
theorem dX15_isBefore_4 : decode cX15_isBefore 4 = .ok (.aload_n 1, 1) := dk_43 (dk_at dksX15_isBefore_0 4 rfl rfl)
theorem dX15_isBefore_5 : decode cX15_isBefore 5 = .ok (.getfield 28, 3) := dk_180 0 28 (dk_at dksX15_isBefore_0 5 rfl rfl)
theorem dX15_isBefore_8 : decode cX15_isBefore 8 = .ok (.if_icmp .eq 20, 3) := dk_159 0 20 (dk_at dksX15_isBefore_0 8 rfl rfl)
theorem dX15_isBefore_11 : decode cX15_isBefore 11 = .ok (.aload_n 0, 1) := dk_42 (dk_at dksX15_isBefore_0 11 rfl rfl)
theorem dX15_isBefore_12 : decode cX15_isBefore 12 = .ok (.getfield 28, 3) := dk_180 0 28 (dk_at dksX15_isBefore_0 12 rfl rfl)
theorem dX15_isBefore_15 : decode cX15_isBefore 15 = .ok (.aload_n 1, 1) := dk_43 (dk_at dksX15_isBefore_0 15 rfl rfl)
theorem dX15_isBefore_16 : decode cX15_isBefore 16 = .ok (.getfield 28, 3) := dk_180 0 28 (dk_at dksX15_isBefore_0 16 rfl rfl)
theorem dX15_isBefore_19 : decode cX15_isBefore 19 = .ok (.if_icmp .ge 7, 3) := dk_162 0 7 (dk_at dksX15_isBefore_0 19 rfl rfl)
theorem dX15_isBefore_22 : decode cX15_isBefore 22 = .ok (.iconst 1, 1) := dk_4 (dk_at dksX15_isBefore_0 22 rfl rfl)
theorem dX15_isBefore_23 : decode cX15_isBefore 23 = .ok (.goto 4, 3) := dk_167 0 4 (dk_at dksX15_isBefore_1 0 rfl rfl)
theorem dX15_isBefore_26 : decode cX15_isBefore 26 = .ok (.iconst 0, 1) := dk_3 (dk_at dksX15_isBefore_1 3 rfl rfl)
theorem dX15_isBefore_27 : decode cX15_isBefore 27 = .ok (.ireturn, 1) := dk_172 (dk_at dksX15_isBefore_1 4 rfl rfl)
theorem dX15_isBefore_28 : decode cX15_isBefore 28 = .ok (.aload_n 0, 1) := dk_42 (dk_at dksX15_isBefore_1 5 rfl rfl)
theorem dX15_isBefore_29 : decode cX15_isBefore 29 = .ok (.getfield 22, 3) := dk_180 0 22 (dk_at dksX15_isBefore_1 6 rfl rfl)
theorem dX15_isBefore_32 : decode cX15_isBefore 32 = .ok (.aload_n 1, 1) := dk_43 (dk_at dksX15_isBefore_1 9 rfl rfl)
theorem dX15_isBefore_33 : decode cX15_isBefore 33 = .ok (.getfield 22, 3) := dk_180 0 22 (dk_at dksX15_isBefore_1 10 rfl rfl)
theorem dX15_isBefore_36 : decode cX15_isBefore 36 = .ok (.if_icmp .eq 22, 3) := dk_159 0 22 (dk_at dksX15_isBefore_1 13 rfl rfl)
theorem dX15_isBefore_39 : decode cX15_isBefore 39 = .ok (.aload_n 0, 1) := dk_42 (dk_at dksX15_isBefore_1 16 rfl rfl)
theorem dX15_isBefore_40 : decode cX15_isBefore 40 = .ok (.getfield 22, 3) := dk_180 0 22 (dk_at dksX15_isBefore_1 17 rfl rfl)
theorem dX15_isBefore_43 : decode cX15_isBefore 43 = .ok (.aload_n 1, 1) := dk_43 (dk_at dksX15_isBefore_1 20 rfl rfl)
theorem dX15_isBefore_44 : decode cX15_isBefore 44 = .ok (.getfield 22, 3) := dk_180 0 22 (dk_at dksX15_isBefore_1 21 rfl rfl)
theorem dX15_isBefore_47 : decode cX15_isBefore 47 = .ok (.if_icmp .ge 7, 3) := dk_162 0 7 (dk_at dksX15_isBefore_2 0 rfl rfl)
theorem dX15_isBefore_50 : decode cX15_isBefore 50 = .ok (.iconst 1, 1) := dk_4 (dk_at dksX15_isBefore_2 3 rfl rfl)
theorem dX15_isBefore_51 : decode cX15_isBefore 51 = .ok (.goto 23, 3) := dk_167 0 23 (dk_at dksX15_isBefore_2 4 rfl rfl)
theorem dX15_isBefore_54 : decode cX15_isBefore 54 = .ok (.iconst 0, 1) := dk_3 (dk_at dksX15_isBefore_2 7 rfl rfl)
theorem dX15_isBefore_55 : decode cX15_isBefore 55 = .ok (.goto 19, 3) := dk_167 0 19 (dk_at dksX15_isBefore_2 8 rfl rfl)
theorem dX15_isBefore_58 : decode cX15_isBefore 58 = .ok (.aload_n 0, 1) := dk_42 (dk_at dksX15_isBefore_2 11 rfl rfl)
theorem dX15_isBefore_59 : decode cX15_isBefore 59 = .ok (.getfield 15, 3) := dk_180 0 15 (dk_at dksX15_isBefore_2 12 rfl rfl)
theorem dX15_isBefore_62 : decode cX15_isBefore 62 = .ok (.aload_n 1, 1) := dk_43 (dk_at dksX15_isBefore_2 15 rfl rfl)
theorem dX15_isBefore_63 : decode cX15_isBefore 63 = .ok (.getfield 15, 3) := dk_180 0 15 (dk_at dksX15_isBefore_2 16 rfl rfl)
theorem dX15_isBefore_66 : decode cX15_isBefore 66 = .ok (.if_icmp .ge 7, 3) := dk_162 0 7 (dk_at dksX15_isBefore_2 19 rfl rfl)
theorem dX15_isBefore_69 : decode cX15_isBefore 69 = .ok (.iconst 1, 1) := dk_4 (dk_at dksX15_isBefore_2 22 rfl rfl)
theorem dX15_isBefore_70 : decode cX15_isBefore 70 = .ok (.goto 4, 3) := dk_167 0 4 (dk_at dksX15_isBefore_3 0 rfl rfl)
theorem dX15_isBefore_73 : decode cX15_isBefore 73 = .ok (.iconst 0, 1) := dk_3 (dk_at dksX15_isBefore_3 3 rfl rfl)
theorem dX15_isBefore_74 : decode cX15_isBefore 74 = .ok (.ireturn, 1) := dk_172 (dk_at dksX15_isBefore_3 4 rfl rfl)
abbrev cX15_lives : ByteArray := prog_9_method_3_code
def yX15_lives : MethodName := ⟨RX15, "lives", "()Z"⟩
def dkwX15_lives_0 : List UInt8 := [42, 180, 0, 31, 184, 0, 34, 172]
abbrev dktX15_lives_0 : List UInt8 := dkwX15_lives_0 ++ []
theorem dksX15_lives_0 : cX15_lives.data.toList.drop 0 = dktX15_lives_0 := by decide +kernel
theorem dX15_lives_0 : decode cX15_lives 0 = .ok (.aload_n 0, 1) := dk_42 (dk_at dksX15_lives_0 0 rfl rfl)
theorem dX15_lives_1 : decode cX15_lives 1 = .ok (.getfield 31, 3) := dk_180 0 31 (dk_at dksX15_lives_0 1 rfl rfl)
theorem dX15_lives_4 : decode cX15_lives 4 = .ok (.invokestatic 34, 3) := dk_184 0 34 (dk_at dksX15_lives_0 4 rfl rfl)
theorem dX15_lives_7 : decode cX15_lives 7 = .ok (.ireturn, 1) := dk_172 (dk_at dksX15_lives_0 7 rfl rfl)
abbrev cX15_lives_2 : ByteArray := prog_9_method_2_code
def yX15_lives_2 : MethodName := ⟨RX15, "lives", "(I)Z"⟩
def dkwX15_lives_2_0 : List UInt8 := [26, 153, 0, 13, 26, 5, 159, 0, 8, 26, 6, 160, 0, 7, 4, 167, 0, 4, 3, 172]
abbrev dktX15_lives_2_0 : List UInt8 := dkwX15_lives_2_0 ++ []
theorem dksX15_lives_2_0 : cX15_lives_2.data.toList.drop 0 = dktX15_lives_2_0 := by decide +kernel
theorem dX15_lives_2_0 : decode cX15_lives_2 0 = .ok (.iload_n 0, 1) := dk_26 (dk_at dksX15_lives_2_0 0 rfl rfl)
theorem dX15_lives_2_1 : decode cX15_lives_2 1 = .ok (.ifCond .eq 13, 3) := dk_153 0 13 (dk_at dksX15_lives_2_0 1 rfl rfl)
theorem dX15_lives_2_4 : decode cX15_lives_2 4 = .ok (.iload_n 0, 1) := dk_26 (dk_at dksX15_lives_2_0 4 rfl rfl)
theorem dX15_lives_2_5 : decode cX15_lives_2 5 = .ok (.iconst 2, 1) := dk_5 (dk_at dksX15_lives_2_0 5 rfl rfl)
theorem dX15_lives_2_6 : decode cX15_lives_2 6 = .ok (.if_icmp .eq 8, 3) := dk_159 0 8 (dk_at dksX15_lives_2_0 6 rfl rfl)
theorem dX15_lives_2_9 : decode cX15_lives_2 9 = .ok (.iload_n 0, 1) := dk_26 (dk_at dksX15_lives_2_0 9 rfl rfl)
theorem dX15_lives_2_10 : decode cX15_lives_2 10 = .ok (.iconst 3, 1) := dk_6 (dk_at dksX15_lives_2_0 10 rfl rfl)
theorem dX15_lives_2_11 : decode cX15_lives_2 11 = .ok (.if_icmp .ne 7, 3) := dk_160 0 7 (dk_at dksX15_lives_2_0 11 rfl rfl)
theorem dX15_lives_2_14 : decode cX15_lives_2 14 = .ok (.iconst 1, 1) := dk_4 (dk_at dksX15_lives_2_0 14 rfl rfl)
theorem dX15_lives_2_15 : decode cX15_lives_2 15 = .ok (.goto 4, 3) := dk_167 0 4 (dk_at dksX15_lives_2_0 15 rfl rfl)
theorem dX15_lives_2_18 : decode cX15_lives_2 18 = .ok (.iconst 0, 1) := dk_3 (dk_at dksX15_lives_2_0 18 rfl rfl)
theorem dX15_lives_2_19 : decode cX15_lives_2 19 = .ok (.ireturn, 1) := dk_172 (dk_at dksX15_lives_2_0 19 rfl rfl)
abbrev cX15_init : ByteArray := prog_9_method_1_code
def yX15_init : MethodName := ⟨RX15, "<init>", "(IIIII)V"⟩
def dkwX15_init_1 : List UInt8 := [181, 0, 22, 42, 21, 5, 181, 0, 25, 42, 27, 21, 4, 96, 181, 0, 28, 177]
abbrev dktX15_init_1 : List UInt8 := dkwX15_init_1 ++ []
def dkwX15_init_0 : List UInt8 := [42, 183, 0, 3, 42, 16, 54, 188, 8, 181, 0, 9, 42, 27, 181, 0, 15, 42, 28, 181, 0, 19, 42, 29]
abbrev dktX15_init_0 : List UInt8 := dkwX15_init_0 ++ dktX15_init_1
theorem dksX15_init_0 : cX15_init.data.toList.drop 0 = dktX15_init_0 := by decide +kernel
theorem dksX15_init_1 : cX15_init.data.toList.drop 24 = dktX15_init_1 := dk_seg dksX15_init_0 24 rfl rfl
theorem dX15_init_0 : decode cX15_init 0 = .ok (.aload_n 0, 1) := dk_42 (dk_at dksX15_init_0 0 rfl rfl)
theorem dX15_init_1 : decode cX15_init 1 = .ok (.invokespecial 3, 3) := dk_183 0 3 (dk_at dksX15_init_0 1 rfl rfl)
theorem dX15_init_4 : decode cX15_init 4 = .ok (.aload_n 0, 1) := dk_42 (dk_at dksX15_init_0 4 rfl rfl)
theorem dX15_init_5 : decode cX15_init 5 = .ok (.bipush 54, 2) := dk_16 54 (dk_at dksX15_init_0 5 rfl rfl)
theorem dX15_init_7 : decode cX15_init 7 = .ok (.newarray .byte, 2) := dk_188_8 (dk_at dksX15_init_0 7 rfl rfl)
theorem dX15_init_9 : decode cX15_init 9 = .ok (.putfield 9, 3) := dk_181 0 9 (dk_at dksX15_init_0 9 rfl rfl)
theorem dX15_init_12 : decode cX15_init 12 = .ok (.aload_n 0, 1) := dk_42 (dk_at dksX15_init_0 12 rfl rfl)
theorem dX15_init_13 : decode cX15_init 13 = .ok (.iload_n 1, 1) := dk_27 (dk_at dksX15_init_0 13 rfl rfl)
theorem dX15_init_14 : decode cX15_init 14 = .ok (.putfield 15, 3) := dk_181 0 15 (dk_at dksX15_init_0 14 rfl rfl)
theorem dX15_init_17 : decode cX15_init 17 = .ok (.aload_n 0, 1) := dk_42 (dk_at dksX15_init_0 17 rfl rfl)
theorem dX15_init_18 : decode cX15_init 18 = .ok (.iload_n 2, 1) := dk_28 (dk_at dksX15_init_0 18 rfl rfl)
theorem dX15_init_19 : decode cX15_init 19 = .ok (.putfield 19, 3) := dk_181 0 19 (dk_at dksX15_init_0 19 rfl rfl)
theorem dX15_init_22 : decode cX15_init 22 = .ok (.aload_n 0, 1) := dk_42 (dk_at dksX15_init_0 22 rfl rfl)
theorem dX15_init_23 : decode cX15_init 23 = .ok (.iload_n 3, 1) := dk_29 (dk_at dksX15_init_0 23 rfl rfl)
theorem dX15_init_24 : decode cX15_init 24 = .ok (.putfield 22, 3) := dk_181 0 22 (dk_at dksX15_init_1 0 rfl rfl)
theorem dX15_init_27 : decode cX15_init 27 = .ok (.aload_n 0, 1) := dk_42 (dk_at dksX15_init_1 3 rfl rfl)
theorem dX15_init_28 : decode cX15_init 28 = .ok (.iload 5, 2) := dk_21 5 (dk_at dksX15_init_1 4 rfl rfl)
theorem dX15_init_30 : decode cX15_init 30 = .ok (.putfield 25, 3) := dk_181 0 25 (dk_at dksX15_init_1 6 rfl rfl)
theorem dX15_init_33 : decode cX15_init 33 = .ok (.aload_n 0, 1) := dk_42 (dk_at dksX15_init_1 9 rfl rfl)
theorem dX15_init_34 : decode cX15_init 34 = .ok (.iload_n 1, 1) := dk_27 (dk_at dksX15_init_1 10 rfl rfl)
theorem dX15_init_35 : decode cX15_init 35 = .ok (.iload 4, 2) := dk_21 4 (dk_at dksX15_init_1 11 rfl rfl)
theorem dX15_init_37 : decode cX15_init 37 = .ok (.iadd, 1) := dk_96 (dk_at dksX15_init_1 13 rfl rfl)
theorem dX15_init_38 : decode cX15_init 38 = .ok (.putfield 28, 3) := dk_181 0 28 (dk_at dksX15_init_1 14 rfl rfl)
theorem dX15_init_41 : decode cX15_init 41 = .ok (.return_, 1) := dk_177 (dk_at dksX15_init_1 17 rfl rfl)
theorem q308 : (Jvm.Cond.initialized "ElectionHouse$Issue") ∈ lw_all := lw_g (lw_at lw_m1 27 rfl) rfl
theorem q1799 : (Jvm.Cond.instanceMethod ({ cls := "ElectionHouse$Issue", name := "isBefore", desc := "(LElectionHouse$Issue;)Z" } : Jvm.MethodName)) ∈ lw_all := lw_g (lw_at lw_m7 78 rfl) rfl
theorem q1800 : (Jvm.Cond.selects "ElectionHouse$Issue" ({ cls := "ElectionHouse$Issue", name := "isBefore", desc := "(LElectionHouse$Issue;)Z" } : Jvm.MethodName) ({ cls := "ElectionHouse$Issue", name := "isBefore", desc := "(LElectionHouse$Issue;)Z" } : Jvm.MethodName)) ∈ lw_all := lw_g (lw_at lw_m7 79 rfl) rfl
theorem q1801 : (Jvm.Cond.code ({ cls := "ElectionHouse$Issue", name := "isBefore", desc := "(LElectionHouse$Issue;)Z" } : Jvm.MethodName) prog_9_method_4_code (2 : Nat) (Option.some Jvm.ClassFile.FieldType.boolean)) ∈ lw_all := lw_g (lw_at lw_m7 80 rfl) rfl
theorem q1803 : (Jvm.Cond.instanceMethod ({ cls := "ElectionHouse$Issue", name := "lives", desc := "()Z" } : Jvm.MethodName)) ∈ lw_all := lw_g (lw_at lw_m7 82 rfl) rfl
theorem q1804 : (Jvm.Cond.selects "ElectionHouse$Issue" ({ cls := "ElectionHouse$Issue", name := "lives", desc := "()Z" } : Jvm.MethodName) ({ cls := "ElectionHouse$Issue", name := "lives", desc := "()Z" } : Jvm.MethodName)) ∈ lw_all := lw_g (lw_at lw_m7 83 rfl) rfl
theorem q1805 : (Jvm.Cond.code ({ cls := "ElectionHouse$Issue", name := "lives", desc := "()Z" } : Jvm.MethodName) prog_9_method_3_code (1 : Nat) (Option.some Jvm.ClassFile.FieldType.boolean)) ∈ lw_all := lw_g (lw_at lw_m7 84 rfl) rfl
theorem q1806 : (Jvm.Cond.methodLink "ElectionHouse$Issue" (34 : Nat) ({ cls := "ElectionHouse$Issue", name := "lives", desc := "(I)Z" } : Jvm.MethodName)) ∈ lw_all := lw_g (lw_at lw_m7 85 rfl) rfl
theorem q1807 : (Jvm.Cond.static ({ cls := "ElectionHouse$Issue", name := "lives", desc := "(I)Z" } : Jvm.MethodName)) ∈ lw_all := lw_g (lw_at lw_m7 86 rfl) rfl
theorem q1808 : (Jvm.Cond.code ({ cls := "ElectionHouse$Issue", name := "lives", desc := "(I)Z" } : Jvm.MethodName) prog_9_method_2_code (1 : Nat) (Option.some Jvm.ClassFile.FieldType.boolean)) ∈ lw_all := lw_g (lw_at lw_m7 87 rfl) rfl
theorem q1855 : (Jvm.Cond.instantiable "ElectionHouse$Issue" (8 : Nat)) ∈ lw_all := lw_g (lw_at lw_m7 134 rfl) rfl
theorem q1857 : (Jvm.Cond.instanceMethod ({ cls := "ElectionHouse$Issue", name := "<init>", desc := "(IIIII)V" } : Jvm.MethodName)) ∈ lw_all := lw_g (lw_at lw_m7 136 rfl) rfl
theorem q1858 : (Jvm.Cond.code ({ cls := "ElectionHouse$Issue", name := "<init>", desc := "(IIIII)V" } : Jvm.MethodName) prog_9_method_1_code (6 : Nat) (Option.none : Option Jvm.ClassFile.FieldType)) ∈ lw_all := lw_g (lw_at lw_m7 137 rfl) rfl
theorem q1859 : (Jvm.Cond.methodLink "ElectionHouse$Issue" (3 : Nat) ({ cls := "java/lang/Object", name := "<init>", desc := "()V" } : Jvm.MethodName)) ∈ lw_all := lw_g (lw_at lw_m7 138 rfl) rfl
theorem q1860 : (Jvm.Cond.fieldLink "ElectionHouse$Issue" (15 : Nat) "ElectionHouse$Issue" "number" "I") ∈ lw_all := lw_g (lw_at lw_m7 139 rfl) rfl
theorem q1861 : (Jvm.Cond.fieldLink "ElectionHouse$Issue" (19 : Nat) "ElectionHouse$Issue" "person" "I") ∈ lw_all := lw_g (lw_at lw_m7 140 rfl) rfl
theorem q1863 : (Jvm.Cond.fieldLink "ElectionHouse$Issue" (22 : Nat) "ElectionHouse$Issue" "station" "I") ∈ lw_all := lw_g (lw_at lw_m7 142 rfl) rfl
theorem q1865 : (Jvm.Cond.fieldLink "ElectionHouse$Issue" (28 : Nat) "ElectionHouse$Issue" "time" "I") ∈ lw_all := lw_g (lw_at lw_m7 144 rfl) rfl
theorem q1867 : (Jvm.Cond.fieldLink "ElectionHouse$Issue" (25 : Nat) "ElectionHouse$Issue" "sheet" "I") ∈ lw_all := lw_g (lw_at lw_m7 146 rfl) rfl
theorem q1870 : (Jvm.Cond.fieldLink "ElectionHouse$Issue" (31 : Nat) "ElectionHouse$Issue" "state" "I") ∈ lw_all := lw_g (lw_at lw_m7 149 rfl) rfl
theorem q1872 : (Jvm.Cond.fieldLink "ElectionHouse$Issue" (9 : Nat) "ElectionHouse$Issue" "marks" "[B") ∈ lw_all := lw_g (lw_at lw_m7 151 rfl) rfl
theorem q1874 : (Jvm.Cond.laysFinal "ElectionHouse$Issue" "ElectionHouse$Issue" "number" "I") ∈ lw_all := lw_g (lw_at lw_m7 153 rfl) rfl
theorem q1875 : (Jvm.Cond.soleField "ElectionHouse$Issue" "number") ∈ lw_all := lw_g (lw_at lw_m7 154 rfl) rfl
theorem q1876 : (Jvm.Cond.laysFinal "ElectionHouse$Issue" "ElectionHouse$Issue" "person" "I") ∈ lw_all := lw_g (lw_at lw_m7 155 rfl) rfl
theorem q1877 : (Jvm.Cond.soleField "ElectionHouse$Issue" "person") ∈ lw_all := lw_g (lw_at lw_m7 156 rfl) rfl
theorem q1878 : (Jvm.Cond.laysFinal "ElectionHouse$Issue" "ElectionHouse$Issue" "station" "I") ∈ lw_all := lw_g (lw_at lw_m7 157 rfl) rfl
theorem q1879 : (Jvm.Cond.soleField "ElectionHouse$Issue" "station") ∈ lw_all := lw_g (lw_at lw_m7 158 rfl) rfl
theorem q1880 : (Jvm.Cond.laysFinal "ElectionHouse$Issue" "ElectionHouse$Issue" "time" "I") ∈ lw_all := lw_g (lw_at lw_m7 159 rfl) rfl
theorem q1881 : (Jvm.Cond.soleField "ElectionHouse$Issue" "time") ∈ lw_all := lw_g (lw_at lw_m7 160 rfl) rfl
theorem q1882 : (Jvm.Cond.laysFinal "ElectionHouse$Issue" "ElectionHouse$Issue" "sheet" "I") ∈ lw_all := lw_g (lw_at lw_m7 161 rfl) rfl
theorem q1883 : (Jvm.Cond.soleField "ElectionHouse$Issue" "sheet") ∈ lw_all := lw_g (lw_at lw_m7 162 rfl) rfl
theorem q1884 : (Jvm.Cond.lays "ElectionHouse$Issue" "ElectionHouse$Issue" "isJoined" "Z") ∈ lw_all := lw_g (lw_at lw_m7 163 rfl) rfl
theorem q1885 : (Jvm.Cond.soleField "ElectionHouse$Issue" "isJoined") ∈ lw_all := lw_g (lw_at lw_m7 164 rfl) rfl
theorem q1886 : (Jvm.Cond.lays "ElectionHouse$Issue" "ElectionHouse$Issue" "state" "I") ∈ lw_all := lw_g (lw_at lw_m7 165 rfl) rfl
theorem q1887 : (Jvm.Cond.soleField "ElectionHouse$Issue" "state") ∈ lw_all := lw_g (lw_at lw_m7 166 rfl) rfl
theorem q1888 : (Jvm.Cond.laysFinal "ElectionHouse$Issue" "ElectionHouse$Issue" "marks" "[B") ∈ lw_all := lw_g (lw_at lw_m7 167 rfl) rfl
theorem q1889 : (Jvm.Cond.soleField "ElectionHouse$Issue" "marks") ∈ lw_all := lw_g (lw_at lw_m7 168 rfl) rfl
theorem q1890 : (Jvm.Cond.superclass "ElectionHouse$Issue" "java/lang/Object") ∈ lw_all := lw_g (lw_at lw_m7 169 rfl) rfl
theorem in_X15 : ∀ w ∈ wsX150, w ∈ lw_all := lw_in wsX150 [1874, 1876, 1878, 1880, 1882, 1884, 1886, 1888] (by decide +kernel) (by decide +kernel)

/-! ElectionHouse$Days -/
set_option maxRecDepth 100000
def RX12 : String := "ElectionHouse$Days"
abbrev cX12_isDay : ByteArray := prog_6_method_10_code
def yX12_isDay : MethodName := ⟨RX12, "isDay", "(I)Z"⟩
def dkwX12_isDay_0 : List UInt8 := [26, 18, 23, 18, 41, 184, 0, 15, 172]
abbrev dktX12_isDay_0 : List UInt8 := dkwX12_isDay_0 ++ []
theorem dksX12_isDay_0 : cX12_isDay.data.toList.drop 0 = dktX12_isDay_0 := by decide +kernel
theorem dX12_isDay_0 : decode cX12_isDay 0 = .ok (.iload_n 0, 1) := dk_26 (dk_at dksX12_isDay_0 0 rfl rfl)
theorem dX12_isDay_1 : decode cX12_isDay 1 = .ok (.ldc 23, 2) := dk_18 23 (dk_at dksX12_isDay_0 1 rfl rfl)
theorem dX12_isDay_3 : decode cX12_isDay 3 = .ok (.ldc 41, 2) := dk_18 41 (dk_at dksX12_isDay_0 3 rfl rfl)
theorem dX12_isDay_5 : decode cX12_isDay 5 = .ok (.invokestatic 15, 3) := dk_184 0 15 (dk_at dksX12_isDay_0 5 rfl rfl)
theorem dX12_isDay_8 : decode cX12_isDay 8 = .ok (.ireturn, 1) := dk_172 (dk_at dksX12_isDay_0 8 rfl rfl)
abbrev cX12_is : ByteArray := prog_6_method_4_code
def yX12_is : MethodName := ⟨RX12, "is", "(IIII)Z"⟩
def dkwX12_is_1 : List UInt8 := [27, 184, 0, 19, 184, 0, 15, 153, 0, 7, 4, 167, 0, 4, 3, 172]
abbrev dktX12_is_1 : List UInt8 := dkwX12_is_1 ++ []
def dkwX12_is_0 : List UInt8 := [26, 29, 17, 8, 51, 184, 0, 15, 153, 0, 30, 27, 4, 16, 12, 184, 0, 15, 153, 0, 20, 28, 4, 26]
abbrev dktX12_is_0 : List UInt8 := dkwX12_is_0 ++ dktX12_is_1
theorem dksX12_is_0 : cX12_is.data.toList.drop 0 = dktX12_is_0 := by decide +kernel
theorem dksX12_is_1 : cX12_is.data.toList.drop 24 = dktX12_is_1 := dk_seg dksX12_is_0 24 rfl rfl
theorem dX12_is_0 : decode cX12_is 0 = .ok (.iload_n 0, 1) := dk_26 (dk_at dksX12_is_0 0 rfl rfl)
theorem dX12_is_1 : decode cX12_is 1 = .ok (.iload_n 3, 1) := dk_29 (dk_at dksX12_is_0 1 rfl rfl)
theorem dX12_is_2 : decode cX12_is 2 = .ok (.sipush 2099, 3) := dk_17 8 51 (dk_at dksX12_is_0 2 rfl rfl)
theorem dX12_is_5 : decode cX12_is 5 = .ok (.invokestatic 15, 3) := dk_184 0 15 (dk_at dksX12_is_0 5 rfl rfl)
theorem dX12_is_8 : decode cX12_is 8 = .ok (.ifCond .eq 30, 3) := dk_153 0 30 (dk_at dksX12_is_0 8 rfl rfl)
theorem dX12_is_11 : decode cX12_is 11 = .ok (.iload_n 1, 1) := dk_27 (dk_at dksX12_is_0 11 rfl rfl)
theorem dX12_is_12 : decode cX12_is 12 = .ok (.iconst 1, 1) := dk_4 (dk_at dksX12_is_0 12 rfl rfl)
theorem dX12_is_13 : decode cX12_is 13 = .ok (.bipush 12, 2) := dk_16 12 (dk_at dksX12_is_0 13 rfl rfl)
theorem dX12_is_15 : decode cX12_is 15 = .ok (.invokestatic 15, 3) := dk_184 0 15 (dk_at dksX12_is_0 15 rfl rfl)
theorem dX12_is_18 : decode cX12_is 18 = .ok (.ifCond .eq 20, 3) := dk_153 0 20 (dk_at dksX12_is_0 18 rfl rfl)
theorem dX12_is_21 : decode cX12_is 21 = .ok (.iload_n 2, 1) := dk_28 (dk_at dksX12_is_0 21 rfl rfl)
theorem dX12_is_22 : decode cX12_is 22 = .ok (.iconst 1, 1) := dk_4 (dk_at dksX12_is_0 22 rfl rfl)
theorem dX12_is_23 : decode cX12_is 23 = .ok (.iload_n 0, 1) := dk_26 (dk_at dksX12_is_0 23 rfl rfl)
theorem dX12_is_24 : decode cX12_is 24 = .ok (.iload_n 1, 1) := dk_27 (dk_at dksX12_is_1 0 rfl rfl)
theorem dX12_is_25 : decode cX12_is 25 = .ok (.invokestatic 19, 3) := dk_184 0 19 (dk_at dksX12_is_1 1 rfl rfl)
theorem dX12_is_28 : decode cX12_is 28 = .ok (.invokestatic 15, 3) := dk_184 0 15 (dk_at dksX12_is_1 4 rfl rfl)
theorem dX12_is_31 : decode cX12_is 31 = .ok (.ifCond .eq 7, 3) := dk_153 0 7 (dk_at dksX12_is_1 7 rfl rfl)
theorem dX12_is_34 : decode cX12_is 34 = .ok (.iconst 1, 1) := dk_4 (dk_at dksX12_is_1 10 rfl rfl)
theorem dX12_is_35 : decode cX12_is 35 = .ok (.goto 4, 3) := dk_167 0 4 (dk_at dksX12_is_1 11 rfl rfl)
theorem dX12_is_38 : decode cX12_is 38 = .ok (.iconst 0, 1) := dk_3 (dk_at dksX12_is_1 14 rfl rfl)
theorem dX12_is_39 : decode cX12_is 39 = .ok (.ireturn, 1) := dk_172 (dk_at dksX12_is_1 15 rfl rfl)
abbrev cX12_lengthOf : ByteArray := prog_6_method_3_code
def yX12_lengthOf : MethodName := ⟨RX12, "lengthOf", "(II)I"⟩
def dkwX12_lengthOf_2 : List UInt8 := [167, 0, 5, 16, 31, 172]
abbrev dktX12_lengthOf_2 : List UInt8 := dkwX12_lengthOf_2 ++ []
def dkwX12_lengthOf_1 : List UInt8 := [159, 0, 21, 27, 16, 6, 159, 0, 15, 27, 16, 9, 159, 0, 9, 27, 16, 11, 160, 0, 8, 16, 30]
abbrev dktX12_lengthOf_1 : List UInt8 := dkwX12_lengthOf_1 ++ dktX12_lengthOf_2
def dkwX12_lengthOf_0 : List UInt8 := [27, 5, 160, 0, 20, 26, 184, 0, 9, 153, 0, 8, 16, 29, 167, 0, 38, 16, 28, 167, 0, 33, 27, 7]
abbrev dktX12_lengthOf_0 : List UInt8 := dkwX12_lengthOf_0 ++ dktX12_lengthOf_1
theorem dksX12_lengthOf_0 : cX12_lengthOf.data.toList.drop 0 = dktX12_lengthOf_0 := by decide +kernel
theorem dksX12_lengthOf_1 : cX12_lengthOf.data.toList.drop 24 = dktX12_lengthOf_1 := dk_seg dksX12_lengthOf_0 24 rfl rfl
theorem dksX12_lengthOf_2 : cX12_lengthOf.data.toList.drop 47 = dktX12_lengthOf_2 := dk_seg dksX12_lengthOf_1 23 rfl rfl
theorem dX12_lengthOf_0 : decode cX12_lengthOf 0 = .ok (.iload_n 1, 1) := dk_27 (dk_at dksX12_lengthOf_0 0 rfl rfl)
theorem dX12_lengthOf_1 : decode cX12_lengthOf 1 = .ok (.iconst 2, 1) := dk_5 (dk_at dksX12_lengthOf_0 1 rfl rfl)
theorem dX12_lengthOf_2 : decode cX12_lengthOf 2 = .ok (.if_icmp .ne 20, 3) := dk_160 0 20 (dk_at dksX12_lengthOf_0 2 rfl rfl)
theorem dX12_lengthOf_5 : decode cX12_lengthOf 5 = .ok (.iload_n 0, 1) := dk_26 (dk_at dksX12_lengthOf_0 5 rfl rfl)
theorem dX12_lengthOf_6 : decode cX12_lengthOf 6 = .ok (.invokestatic 9, 3) := dk_184 0 9 (dk_at dksX12_lengthOf_0 6 rfl rfl)
theorem dX12_lengthOf_9 : decode cX12_lengthOf 9 = .ok (.ifCond .eq 8, 3) := dk_153 0 8 (dk_at dksX12_lengthOf_0 9 rfl rfl)
theorem dX12_lengthOf_12 : decode cX12_lengthOf 12 = .ok (.bipush 29, 2) := dk_16 29 (dk_at dksX12_lengthOf_0 12 rfl rfl)
theorem dX12_lengthOf_14 : decode cX12_lengthOf 14 = .ok (.goto 38, 3) := dk_167 0 38 (dk_at dksX12_lengthOf_0 14 rfl rfl)
theorem dX12_lengthOf_17 : decode cX12_lengthOf 17 = .ok (.bipush 28, 2) := dk_16 28 (dk_at dksX12_lengthOf_0 17 rfl rfl)
theorem dX12_lengthOf_19 : decode cX12_lengthOf 19 = .ok (.goto 33, 3) := dk_167 0 33 (dk_at dksX12_lengthOf_0 19 rfl rfl)
theorem dX12_lengthOf_22 : decode cX12_lengthOf 22 = .ok (.iload_n 1, 1) := dk_27 (dk_at dksX12_lengthOf_0 22 rfl rfl)
theorem dX12_lengthOf_23 : decode cX12_lengthOf 23 = .ok (.iconst 4, 1) := dk_7 (dk_at dksX12_lengthOf_0 23 rfl rfl)
theorem dX12_lengthOf_24 : decode cX12_lengthOf 24 = .ok (.if_icmp .eq 21, 3) := dk_159 0 21 (dk_at dksX12_lengthOf_1 0 rfl rfl)
theorem dX12_lengthOf_27 : decode cX12_lengthOf 27 = .ok (.iload_n 1, 1) := dk_27 (dk_at dksX12_lengthOf_1 3 rfl rfl)
theorem dX12_lengthOf_28 : decode cX12_lengthOf 28 = .ok (.bipush 6, 2) := dk_16 6 (dk_at dksX12_lengthOf_1 4 rfl rfl)
theorem dX12_lengthOf_30 : decode cX12_lengthOf 30 = .ok (.if_icmp .eq 15, 3) := dk_159 0 15 (dk_at dksX12_lengthOf_1 6 rfl rfl)
theorem dX12_lengthOf_33 : decode cX12_lengthOf 33 = .ok (.iload_n 1, 1) := dk_27 (dk_at dksX12_lengthOf_1 9 rfl rfl)
theorem dX12_lengthOf_34 : decode cX12_lengthOf 34 = .ok (.bipush 9, 2) := dk_16 9 (dk_at dksX12_lengthOf_1 10 rfl rfl)
theorem dX12_lengthOf_36 : decode cX12_lengthOf 36 = .ok (.if_icmp .eq 9, 3) := dk_159 0 9 (dk_at dksX12_lengthOf_1 12 rfl rfl)
theorem dX12_lengthOf_39 : decode cX12_lengthOf 39 = .ok (.iload_n 1, 1) := dk_27 (dk_at dksX12_lengthOf_1 15 rfl rfl)
theorem dX12_lengthOf_40 : decode cX12_lengthOf 40 = .ok (.bipush 11, 2) := dk_16 11 (dk_at dksX12_lengthOf_1 16 rfl rfl)
theorem dX12_lengthOf_42 : decode cX12_lengthOf 42 = .ok (.if_icmp .ne 8, 3) := dk_160 0 8 (dk_at dksX12_lengthOf_1 18 rfl rfl)
theorem dX12_lengthOf_45 : decode cX12_lengthOf 45 = .ok (.bipush 30, 2) := dk_16 30 (dk_at dksX12_lengthOf_1 21 rfl rfl)
theorem dX12_lengthOf_47 : decode cX12_lengthOf 47 = .ok (.goto 5, 3) := dk_167 0 5 (dk_at dksX12_lengthOf_2 0 rfl rfl)
theorem dX12_lengthOf_50 : decode cX12_lengthOf 50 = .ok (.bipush 31, 2) := dk_16 31 (dk_at dksX12_lengthOf_2 3 rfl rfl)
theorem dX12_lengthOf_52 : decode cX12_lengthOf 52 = .ok (.ireturn, 1) := dk_172 (dk_at dksX12_lengthOf_2 5 rfl rfl)
abbrev cX12_isLong : ByteArray := prog_6_method_2_code
def yX12_isLong : MethodName := ⟨RX12, "isLong", "(I)Z"⟩
def dkwX12_isLong_0 : List UInt8 := [26, 7, 112, 154, 0, 14, 26, 17, 7, 108, 159, 0, 7, 4, 167, 0, 4, 3, 172]
abbrev dktX12_isLong_0 : List UInt8 := dkwX12_isLong_0 ++ []
theorem dksX12_isLong_0 : cX12_isLong.data.toList.drop 0 = dktX12_isLong_0 := by decide +kernel
theorem dX12_isLong_0 : decode cX12_isLong 0 = .ok (.iload_n 0, 1) := dk_26 (dk_at dksX12_isLong_0 0 rfl rfl)
theorem dX12_isLong_1 : decode cX12_isLong 1 = .ok (.iconst 4, 1) := dk_7 (dk_at dksX12_isLong_0 1 rfl rfl)
theorem dX12_isLong_2 : decode cX12_isLong 2 = .ok (.irem, 1) := dk_112 (dk_at dksX12_isLong_0 2 rfl rfl)
theorem dX12_isLong_3 : decode cX12_isLong 3 = .ok (.ifCond .ne 14, 3) := dk_154 0 14 (dk_at dksX12_isLong_0 3 rfl rfl)
theorem dX12_isLong_6 : decode cX12_isLong 6 = .ok (.iload_n 0, 1) := dk_26 (dk_at dksX12_isLong_0 6 rfl rfl)
theorem dX12_isLong_7 : decode cX12_isLong 7 = .ok (.sipush 1900, 3) := dk_17 7 108 (dk_at dksX12_isLong_0 7 rfl rfl)
theorem dX12_isLong_10 : decode cX12_isLong 10 = .ok (.if_icmp .eq 7, 3) := dk_159 0 7 (dk_at dksX12_isLong_0 10 rfl rfl)
theorem dX12_isLong_13 : decode cX12_isLong 13 = .ok (.iconst 1, 1) := dk_4 (dk_at dksX12_isLong_0 13 rfl rfl)
theorem dX12_isLong_14 : decode cX12_isLong 14 = .ok (.goto 4, 3) := dk_167 0 4 (dk_at dksX12_isLong_0 14 rfl rfl)
theorem dX12_isLong_17 : decode cX12_isLong 17 = .ok (.iconst 0, 1) := dk_3 (dk_at dksX12_isLong_0 17 rfl rfl)
theorem dX12_isLong_18 : decode cX12_isLong 18 = .ok (.ireturn, 1) := dk_172 (dk_at dksX12_isLong_0 18 rfl rfl)
abbrev cX12_of : ByteArray := prog_6_method_5_code
def yX12_of : MethodName := ⟨RX12, "of", "(III)I"⟩
def dkwX12_of_2 : List UInt8 := [26, 17, 7, 109, 100, 7, 108, 167, 0, 4, 3, 96, 18, 23, 96, 172]
abbrev dktX12_of_2 : List UInt8 := dkwX12_of_2 ++ []
def dkwX12_of_1 : List UInt8 := [132, 4, 1, 167, 255, 238, 29, 17, 1, 109, 26, 17, 7, 108, 100, 104, 96, 26, 17, 7, 108, 164, 0, 13]
abbrev dktX12_of_1 : List UInt8 := dkwX12_of_1 ++ dktX12_of_2
def dkwX12_of_0 : List UInt8 := [28, 4, 100, 62, 4, 54, 4, 21, 4, 27, 162, 0, 18, 29, 26, 21, 4, 184, 0, 19, 96, 62]
abbrev dktX12_of_0 : List UInt8 := dkwX12_of_0 ++ dktX12_of_1
theorem dksX12_of_0 : cX12_of.data.toList.drop 0 = dktX12_of_0 := by decide +kernel
theorem dksX12_of_1 : cX12_of.data.toList.drop 22 = dktX12_of_1 := dk_seg dksX12_of_0 22 rfl rfl
theorem dksX12_of_2 : cX12_of.data.toList.drop 46 = dktX12_of_2 := dk_seg dksX12_of_1 24 rfl rfl
theorem dX12_of_0 : decode cX12_of 0 = .ok (.iload_n 2, 1) := dk_28 (dk_at dksX12_of_0 0 rfl rfl)
theorem dX12_of_1 : decode cX12_of 1 = .ok (.iconst 1, 1) := dk_4 (dk_at dksX12_of_0 1 rfl rfl)
theorem dX12_of_2 : decode cX12_of 2 = .ok (.isub, 1) := dk_100 (dk_at dksX12_of_0 2 rfl rfl)
theorem dX12_of_3 : decode cX12_of 3 = .ok (.istore_n 3, 1) := dk_62 (dk_at dksX12_of_0 3 rfl rfl)
theorem dX12_of_4 : decode cX12_of 4 = .ok (.iconst 1, 1) := dk_4 (dk_at dksX12_of_0 4 rfl rfl)
theorem dX12_of_5 : decode cX12_of 5 = .ok (.istore 4, 2) := dk_54 4 (dk_at dksX12_of_0 5 rfl rfl)
theorem dX12_of_7 : decode cX12_of 7 = .ok (.iload 4, 2) := dk_21 4 (dk_at dksX12_of_0 7 rfl rfl)
theorem dX12_of_9 : decode cX12_of 9 = .ok (.iload_n 1, 1) := dk_27 (dk_at dksX12_of_0 9 rfl rfl)
theorem dX12_of_10 : decode cX12_of 10 = .ok (.if_icmp .ge 18, 3) := dk_162 0 18 (dk_at dksX12_of_0 10 rfl rfl)
theorem dX12_of_13 : decode cX12_of 13 = .ok (.iload_n 3, 1) := dk_29 (dk_at dksX12_of_0 13 rfl rfl)
theorem dX12_of_14 : decode cX12_of 14 = .ok (.iload_n 0, 1) := dk_26 (dk_at dksX12_of_0 14 rfl rfl)
theorem dX12_of_15 : decode cX12_of 15 = .ok (.iload 4, 2) := dk_21 4 (dk_at dksX12_of_0 15 rfl rfl)
theorem dX12_of_17 : decode cX12_of 17 = .ok (.invokestatic 19, 3) := dk_184 0 19 (dk_at dksX12_of_0 17 rfl rfl)
theorem dX12_of_20 : decode cX12_of 20 = .ok (.iadd, 1) := dk_96 (dk_at dksX12_of_0 20 rfl rfl)
theorem dX12_of_21 : decode cX12_of 21 = .ok (.istore_n 3, 1) := dk_62 (dk_at dksX12_of_0 21 rfl rfl)
theorem dX12_of_22 : decode cX12_of 22 = .ok (.iinc 4 1, 3) := dk_132 4 1 (dk_at dksX12_of_1 0 rfl rfl)
theorem dX12_of_25 : decode cX12_of 25 = .ok (.goto (-18), 3) := dk_167 255 238 (dk_at dksX12_of_1 3 rfl rfl)
theorem dX12_of_28 : decode cX12_of 28 = .ok (.iload_n 3, 1) := dk_29 (dk_at dksX12_of_1 6 rfl rfl)
theorem dX12_of_29 : decode cX12_of 29 = .ok (.sipush 365, 3) := dk_17 1 109 (dk_at dksX12_of_1 7 rfl rfl)
theorem dX12_of_32 : decode cX12_of 32 = .ok (.iload_n 0, 1) := dk_26 (dk_at dksX12_of_1 10 rfl rfl)
theorem dX12_of_33 : decode cX12_of 33 = .ok (.sipush 1900, 3) := dk_17 7 108 (dk_at dksX12_of_1 11 rfl rfl)
theorem dX12_of_36 : decode cX12_of 36 = .ok (.isub, 1) := dk_100 (dk_at dksX12_of_1 14 rfl rfl)
theorem dX12_of_37 : decode cX12_of 37 = .ok (.imul, 1) := dk_104 (dk_at dksX12_of_1 15 rfl rfl)
theorem dX12_of_38 : decode cX12_of 38 = .ok (.iadd, 1) := dk_96 (dk_at dksX12_of_1 16 rfl rfl)
theorem dX12_of_39 : decode cX12_of 39 = .ok (.iload_n 0, 1) := dk_26 (dk_at dksX12_of_1 17 rfl rfl)
theorem dX12_of_40 : decode cX12_of 40 = .ok (.sipush 1900, 3) := dk_17 7 108 (dk_at dksX12_of_1 18 rfl rfl)
theorem dX12_of_43 : decode cX12_of 43 = .ok (.if_icmp .le 13, 3) := dk_164 0 13 (dk_at dksX12_of_1 21 rfl rfl)
theorem dX12_of_46 : decode cX12_of 46 = .ok (.iload_n 0, 1) := dk_26 (dk_at dksX12_of_2 0 rfl rfl)
theorem dX12_of_47 : decode cX12_of 47 = .ok (.sipush 1901, 3) := dk_17 7 109 (dk_at dksX12_of_2 1 rfl rfl)
theorem dX12_of_50 : decode cX12_of 50 = .ok (.isub, 1) := dk_100 (dk_at dksX12_of_2 4 rfl rfl)
theorem dX12_of_51 : decode cX12_of 51 = .ok (.iconst 4, 1) := dk_7 (dk_at dksX12_of_2 5 rfl rfl)
theorem dX12_of_52 : decode cX12_of 52 = .ok (.idiv, 1) := dk_108 (dk_at dksX12_of_2 6 rfl rfl)
theorem dX12_of_53 : decode cX12_of 53 = .ok (.goto 4, 3) := dk_167 0 4 (dk_at dksX12_of_2 7 rfl rfl)
theorem dX12_of_56 : decode cX12_of 56 = .ok (.iconst 0, 1) := dk_3 (dk_at dksX12_of_2 10 rfl rfl)
theorem dX12_of_57 : decode cX12_of 57 = .ok (.iadd, 1) := dk_96 (dk_at dksX12_of_2 11 rfl rfl)
theorem dX12_of_58 : decode cX12_of 58 = .ok (.ldc 23, 2) := dk_18 23 (dk_at dksX12_of_2 12 rfl rfl)
theorem dX12_of_60 : decode cX12_of 60 = .ok (.iadd, 1) := dk_96 (dk_at dksX12_of_2 14 rfl rfl)
theorem dX12_of_61 : decode cX12_of 61 = .ok (.ireturn, 1) := dk_172 (dk_at dksX12_of_2 15 rfl rfl)
abbrev cX12_last : ByteArray := prog_6_method_8_code
def yX12_last : MethodName := ⟨RX12, "last", "(III)I"⟩
def dkwX12_last_1 : List UInt8 := [62, 29, 29, 184, 0, 37, 26, 100, 16, 7, 184, 0, 24, 100, 172]
abbrev dktX12_last_1 : List UInt8 := dkwX12_last_1 ++ []
def dkwX12_last_0 : List UInt8 := [28, 27, 4, 17, 7, 208, 184, 0, 29, 154, 0, 5, 2, 172, 28, 27, 28, 27, 184, 0, 19, 184, 0, 33]
abbrev dktX12_last_0 : List UInt8 := dkwX12_last_0 ++ dktX12_last_1
theorem dksX12_last_0 : cX12_last.data.toList.drop 0 = dktX12_last_0 := by decide +kernel
theorem dksX12_last_1 : cX12_last.data.toList.drop 24 = dktX12_last_1 := dk_seg dksX12_last_0 24 rfl rfl
theorem dX12_last_0 : decode cX12_last 0 = .ok (.iload_n 2, 1) := dk_28 (dk_at dksX12_last_0 0 rfl rfl)
theorem dX12_last_1 : decode cX12_last 1 = .ok (.iload_n 1, 1) := dk_27 (dk_at dksX12_last_0 1 rfl rfl)
theorem dX12_last_2 : decode cX12_last 2 = .ok (.iconst 1, 1) := dk_4 (dk_at dksX12_last_0 2 rfl rfl)
theorem dX12_last_3 : decode cX12_last 3 = .ok (.sipush 2000, 3) := dk_17 7 208 (dk_at dksX12_last_0 3 rfl rfl)
theorem dX12_last_6 : decode cX12_last 6 = .ok (.invokestatic 29, 3) := dk_184 0 29 (dk_at dksX12_last_0 6 rfl rfl)
theorem dX12_last_9 : decode cX12_last 9 = .ok (.ifCond .ne 5, 3) := dk_154 0 5 (dk_at dksX12_last_0 9 rfl rfl)
theorem dX12_last_12 : decode cX12_last 12 = .ok (.iconst (-1), 1) := dk_2 (dk_at dksX12_last_0 12 rfl rfl)
theorem dX12_last_13 : decode cX12_last 13 = .ok (.ireturn, 1) := dk_172 (dk_at dksX12_last_0 13 rfl rfl)
theorem dX12_last_14 : decode cX12_last 14 = .ok (.iload_n 2, 1) := dk_28 (dk_at dksX12_last_0 14 rfl rfl)
theorem dX12_last_15 : decode cX12_last 15 = .ok (.iload_n 1, 1) := dk_27 (dk_at dksX12_last_0 15 rfl rfl)
theorem dX12_last_16 : decode cX12_last 16 = .ok (.iload_n 2, 1) := dk_28 (dk_at dksX12_last_0 16 rfl rfl)
theorem dX12_last_17 : decode cX12_last 17 = .ok (.iload_n 1, 1) := dk_27 (dk_at dksX12_last_0 17 rfl rfl)
theorem dX12_last_18 : decode cX12_last 18 = .ok (.invokestatic 19, 3) := dk_184 0 19 (dk_at dksX12_last_0 18 rfl rfl)
theorem dX12_last_21 : decode cX12_last 21 = .ok (.invokestatic 33, 3) := dk_184 0 33 (dk_at dksX12_last_0 21 rfl rfl)
theorem dX12_last_24 : decode cX12_last 24 = .ok (.istore_n 3, 1) := dk_62 (dk_at dksX12_last_1 0 rfl rfl)
theorem dX12_last_25 : decode cX12_last 25 = .ok (.iload_n 3, 1) := dk_29 (dk_at dksX12_last_1 1 rfl rfl)
theorem dX12_last_26 : decode cX12_last 26 = .ok (.iload_n 3, 1) := dk_29 (dk_at dksX12_last_1 2 rfl rfl)
theorem dX12_last_27 : decode cX12_last 27 = .ok (.invokestatic 37, 3) := dk_184 0 37 (dk_at dksX12_last_1 3 rfl rfl)
theorem dX12_last_30 : decode cX12_last 30 = .ok (.iload_n 0, 1) := dk_26 (dk_at dksX12_last_1 6 rfl rfl)
theorem dX12_last_31 : decode cX12_last 31 = .ok (.isub, 1) := dk_100 (dk_at dksX12_last_1 7 rfl rfl)
theorem dX12_last_32 : decode cX12_last 32 = .ok (.bipush 7, 2) := dk_16 7 (dk_at dksX12_last_1 8 rfl rfl)
theorem dX12_last_34 : decode cX12_last 34 = .ok (.invokestatic 24, 3) := dk_184 0 24 (dk_at dksX12_last_1 10 rfl rfl)
theorem dX12_last_37 : decode cX12_last 37 = .ok (.isub, 1) := dk_100 (dk_at dksX12_last_1 13 rfl rfl)
theorem dX12_last_38 : decode cX12_last 38 = .ok (.ireturn, 1) := dk_172 (dk_at dksX12_last_1 14 rfl rfl)
abbrev cX12_weekday : ByteArray := prog_6_method_6_code
def yX12_weekday : MethodName := ⟨RX12, "weekday", "(I)I"⟩
def dkwX12_weekday_0 : List UInt8 := [26, 8, 96, 16, 7, 184, 0, 24, 172]
abbrev dktX12_weekday_0 : List UInt8 := dkwX12_weekday_0 ++ []
theorem dksX12_weekday_0 : cX12_weekday.data.toList.drop 0 = dktX12_weekday_0 := by decide +kernel
theorem dX12_weekday_0 : decode cX12_weekday 0 = .ok (.iload_n 0, 1) := dk_26 (dk_at dksX12_weekday_0 0 rfl rfl)
theorem dX12_weekday_1 : decode cX12_weekday 1 = .ok (.iconst 5, 1) := dk_8 (dk_at dksX12_weekday_0 1 rfl rfl)
theorem dX12_weekday_2 : decode cX12_weekday 2 = .ok (.iadd, 1) := dk_96 (dk_at dksX12_weekday_0 2 rfl rfl)
theorem dX12_weekday_3 : decode cX12_weekday 3 = .ok (.bipush 7, 2) := dk_16 7 (dk_at dksX12_weekday_0 3 rfl rfl)
theorem dX12_weekday_5 : decode cX12_weekday 5 = .ok (.invokestatic 24, 3) := dk_184 0 24 (dk_at dksX12_weekday_0 5 rfl rfl)
theorem dX12_weekday_8 : decode cX12_weekday 8 = .ok (.ireturn, 1) := dk_172 (dk_at dksX12_weekday_0 8 rfl rfl)
abbrev cX12_easter : ByteArray := prog_6_method_9_code
def yX12_easter : MethodName := ⟨RX12, "easter", "(I)I"⟩
def dkwX12_easter_5 : List UInt8 := [16, 114, 96, 54, 7, 26, 21, 7, 16, 31, 108, 21, 7, 16, 31, 112, 4, 96, 184, 0, 33, 172]
abbrev dktX12_easter_5 : List UInt8 := dkwX12_easter_5 ++ []
def dkwX12_easter_4 : List UInt8 := [16, 22, 21, 5, 104, 96, 17, 1, 195, 108, 54, 6, 21, 4, 21, 5, 96, 16, 7, 21, 6, 104, 100]
abbrev dktX12_easter_4 : List UInt8 := dkwX12_easter_4 ++ dktX12_easter_5
def dkwX12_easter_3 : List UInt8 := [7, 108, 104, 96, 21, 4, 100, 29, 7, 112, 100, 16, 7, 112, 54, 5, 27, 16, 11, 21, 4, 104, 96]
abbrev dktX12_easter_3 : List UInt8 := dkwX12_easter_3 ++ dktX12_easter_4
def dkwX12_easter_2 : List UInt8 := [100, 4, 96, 6, 108, 100, 16, 15, 96, 16, 30, 112, 54, 4, 16, 32, 5, 28, 7, 112, 104, 96, 5, 29]
abbrev dktX12_easter_2 : List UInt8 := dkwX12_easter_2 ++ dktX12_easter_3
def dkwX12_easter_1 : List UInt8 := [61, 26, 16, 100, 112, 62, 16, 19, 27, 104, 28, 96, 28, 7, 108, 100, 28, 28, 16, 8, 96, 16, 25, 108]
abbrev dktX12_easter_1 : List UInt8 := dkwX12_easter_1 ++ dktX12_easter_2
def dkwX12_easter_0 : List UInt8 := [26, 17, 7, 208, 17, 8, 51, 184, 0, 15, 154, 0, 5, 2, 172, 26, 16, 19, 112, 60, 26, 16, 100, 108]
abbrev dktX12_easter_0 : List UInt8 := dkwX12_easter_0 ++ dktX12_easter_1
theorem dksX12_easter_0 : cX12_easter.data.toList.drop 0 = dktX12_easter_0 := by decide +kernel
theorem dksX12_easter_1 : cX12_easter.data.toList.drop 24 = dktX12_easter_1 := dk_seg dksX12_easter_0 24 rfl rfl
theorem dksX12_easter_2 : cX12_easter.data.toList.drop 48 = dktX12_easter_2 := dk_seg dksX12_easter_1 24 rfl rfl
theorem dksX12_easter_3 : cX12_easter.data.toList.drop 72 = dktX12_easter_3 := dk_seg dksX12_easter_2 24 rfl rfl
theorem dksX12_easter_4 : cX12_easter.data.toList.drop 95 = dktX12_easter_4 := dk_seg dksX12_easter_3 23 rfl rfl
theorem dksX12_easter_5 : cX12_easter.data.toList.drop 118 = dktX12_easter_5 := dk_seg dksX12_easter_4 23 rfl rfl
theorem dX12_easter_0 : decode cX12_easter 0 = .ok (.iload_n 0, 1) := dk_26 (dk_at dksX12_easter_0 0 rfl rfl)
theorem dX12_easter_1 : decode cX12_easter 1 = .ok (.sipush 2000, 3) := dk_17 7 208 (dk_at dksX12_easter_0 1 rfl rfl)
theorem dX12_easter_4 : decode cX12_easter 4 = .ok (.sipush 2099, 3) := dk_17 8 51 (dk_at dksX12_easter_0 4 rfl rfl)
theorem dX12_easter_7 : decode cX12_easter 7 = .ok (.invokestatic 15, 3) := dk_184 0 15 (dk_at dksX12_easter_0 7 rfl rfl)
theorem dX12_easter_10 : decode cX12_easter 10 = .ok (.ifCond .ne 5, 3) := dk_154 0 5 (dk_at dksX12_easter_0 10 rfl rfl)
theorem dX12_easter_13 : decode cX12_easter 13 = .ok (.iconst (-1), 1) := dk_2 (dk_at dksX12_easter_0 13 rfl rfl)
theorem dX12_easter_14 : decode cX12_easter 14 = .ok (.ireturn, 1) := dk_172 (dk_at dksX12_easter_0 14 rfl rfl)
theorem dX12_easter_15 : decode cX12_easter 15 = .ok (.iload_n 0, 1) := dk_26 (dk_at dksX12_easter_0 15 rfl rfl)
theorem dX12_easter_16 : decode cX12_easter 16 = .ok (.bipush 19, 2) := dk_16 19 (dk_at dksX12_easter_0 16 rfl rfl)
theorem dX12_easter_18 : decode cX12_easter 18 = .ok (.irem, 1) := dk_112 (dk_at dksX12_easter_0 18 rfl rfl)
theorem dX12_easter_19 : decode cX12_easter 19 = .ok (.istore_n 1, 1) := dk_60 (dk_at dksX12_easter_0 19 rfl rfl)
theorem dX12_easter_20 : decode cX12_easter 20 = .ok (.iload_n 0, 1) := dk_26 (dk_at dksX12_easter_0 20 rfl rfl)
theorem dX12_easter_21 : decode cX12_easter 21 = .ok (.bipush 100, 2) := dk_16 100 (dk_at dksX12_easter_0 21 rfl rfl)
theorem dX12_easter_23 : decode cX12_easter 23 = .ok (.idiv, 1) := dk_108 (dk_at dksX12_easter_0 23 rfl rfl)
theorem dX12_easter_24 : decode cX12_easter 24 = .ok (.istore_n 2, 1) := dk_61 (dk_at dksX12_easter_1 0 rfl rfl)
theorem dX12_easter_25 : decode cX12_easter 25 = .ok (.iload_n 0, 1) := dk_26 (dk_at dksX12_easter_1 1 rfl rfl)
theorem dX12_easter_26 : decode cX12_easter 26 = .ok (.bipush 100, 2) := dk_16 100 (dk_at dksX12_easter_1 2 rfl rfl)
theorem dX12_easter_28 : decode cX12_easter 28 = .ok (.irem, 1) := dk_112 (dk_at dksX12_easter_1 4 rfl rfl)
theorem dX12_easter_29 : decode cX12_easter 29 = .ok (.istore_n 3, 1) := dk_62 (dk_at dksX12_easter_1 5 rfl rfl)
theorem dX12_easter_30 : decode cX12_easter 30 = .ok (.bipush 19, 2) := dk_16 19 (dk_at dksX12_easter_1 6 rfl rfl)
theorem dX12_easter_32 : decode cX12_easter 32 = .ok (.iload_n 1, 1) := dk_27 (dk_at dksX12_easter_1 8 rfl rfl)
theorem dX12_easter_33 : decode cX12_easter 33 = .ok (.imul, 1) := dk_104 (dk_at dksX12_easter_1 9 rfl rfl)
theorem dX12_easter_34 : decode cX12_easter 34 = .ok (.iload_n 2, 1) := dk_28 (dk_at dksX12_easter_1 10 rfl rfl)
theorem dX12_easter_35 : decode cX12_easter 35 = .ok (.iadd, 1) := dk_96 (dk_at dksX12_easter_1 11 rfl rfl)
theorem dX12_easter_36 : decode cX12_easter 36 = .ok (.iload_n 2, 1) := dk_28 (dk_at dksX12_easter_1 12 rfl rfl)
theorem dX12_easter_37 : decode cX12_easter 37 = .ok (.iconst 4, 1) := dk_7 (dk_at dksX12_easter_1 13 rfl rfl)
theorem dX12_easter_38 : decode cX12_easter 38 = .ok (.idiv, 1) := dk_108 (dk_at dksX12_easter_1 14 rfl rfl)
theorem dX12_easter_39 : decode cX12_easter 39 = .ok (.isub, 1) := dk_100 (dk_at dksX12_easter_1 15 rfl rfl)
theorem dX12_easter_40 : decode cX12_easter 40 = .ok (.iload_n 2, 1) := dk_28 (dk_at dksX12_easter_1 16 rfl rfl)
theorem dX12_easter_41 : decode cX12_easter 41 = .ok (.iload_n 2, 1) := dk_28 (dk_at dksX12_easter_1 17 rfl rfl)
theorem dX12_easter_42 : decode cX12_easter 42 = .ok (.bipush 8, 2) := dk_16 8 (dk_at dksX12_easter_1 18 rfl rfl)
theorem dX12_easter_44 : decode cX12_easter 44 = .ok (.iadd, 1) := dk_96 (dk_at dksX12_easter_1 20 rfl rfl)
theorem dX12_easter_45 : decode cX12_easter 45 = .ok (.bipush 25, 2) := dk_16 25 (dk_at dksX12_easter_1 21 rfl rfl)
theorem dX12_easter_47 : decode cX12_easter 47 = .ok (.idiv, 1) := dk_108 (dk_at dksX12_easter_1 23 rfl rfl)
theorem dX12_easter_48 : decode cX12_easter 48 = .ok (.isub, 1) := dk_100 (dk_at dksX12_easter_2 0 rfl rfl)
theorem dX12_easter_49 : decode cX12_easter 49 = .ok (.iconst 1, 1) := dk_4 (dk_at dksX12_easter_2 1 rfl rfl)
theorem dX12_easter_50 : decode cX12_easter 50 = .ok (.iadd, 1) := dk_96 (dk_at dksX12_easter_2 2 rfl rfl)
theorem dX12_easter_51 : decode cX12_easter 51 = .ok (.iconst 3, 1) := dk_6 (dk_at dksX12_easter_2 3 rfl rfl)
theorem dX12_easter_52 : decode cX12_easter 52 = .ok (.idiv, 1) := dk_108 (dk_at dksX12_easter_2 4 rfl rfl)
theorem dX12_easter_53 : decode cX12_easter 53 = .ok (.isub, 1) := dk_100 (dk_at dksX12_easter_2 5 rfl rfl)
theorem dX12_easter_54 : decode cX12_easter 54 = .ok (.bipush 15, 2) := dk_16 15 (dk_at dksX12_easter_2 6 rfl rfl)
theorem dX12_easter_56 : decode cX12_easter 56 = .ok (.iadd, 1) := dk_96 (dk_at dksX12_easter_2 8 rfl rfl)
theorem dX12_easter_57 : decode cX12_easter 57 = .ok (.bipush 30, 2) := dk_16 30 (dk_at dksX12_easter_2 9 rfl rfl)
theorem dX12_easter_59 : decode cX12_easter 59 = .ok (.irem, 1) := dk_112 (dk_at dksX12_easter_2 11 rfl rfl)
theorem dX12_easter_60 : decode cX12_easter 60 = .ok (.istore 4, 2) := dk_54 4 (dk_at dksX12_easter_2 12 rfl rfl)
theorem dX12_easter_62 : decode cX12_easter 62 = .ok (.bipush 32, 2) := dk_16 32 (dk_at dksX12_easter_2 14 rfl rfl)
theorem dX12_easter_64 : decode cX12_easter 64 = .ok (.iconst 2, 1) := dk_5 (dk_at dksX12_easter_2 16 rfl rfl)
theorem dX12_easter_65 : decode cX12_easter 65 = .ok (.iload_n 2, 1) := dk_28 (dk_at dksX12_easter_2 17 rfl rfl)
theorem dX12_easter_66 : decode cX12_easter 66 = .ok (.iconst 4, 1) := dk_7 (dk_at dksX12_easter_2 18 rfl rfl)
theorem dX12_easter_67 : decode cX12_easter 67 = .ok (.irem, 1) := dk_112 (dk_at dksX12_easter_2 19 rfl rfl)
theorem dX12_easter_68 : decode cX12_easter 68 = .ok (.imul, 1) := dk_104 (dk_at dksX12_easter_2 20 rfl rfl)
theorem dX12_easter_69 : decode cX12_easter 69 = .ok (.iadd, 1) := dk_96 (dk_at dksX12_easter_2 21 rfl rfl)
theorem dX12_easter_70 : decode cX12_easter 70 = .ok (.iconst 2, 1) := dk_5 (dk_at dksX12_easter_2 22 rfl rfl)
theorem dX12_easter_71 : decode cX12_easter 71 = .ok (.iload_n 3, 1) := dk_29 (dk_at dksX12_easter_2 23 rfl rfl)
theorem dX12_easter_72 : decode cX12_easter 72 = .ok (.iconst 4, 1) := dk_7 (dk_at dksX12_easter_3 0 rfl rfl)
theorem dX12_easter_73 : decode cX12_easter 73 = .ok (.idiv, 1) := dk_108 (dk_at dksX12_easter_3 1 rfl rfl)
theorem dX12_easter_74 : decode cX12_easter 74 = .ok (.imul, 1) := dk_104 (dk_at dksX12_easter_3 2 rfl rfl)
theorem dX12_easter_75 : decode cX12_easter 75 = .ok (.iadd, 1) := dk_96 (dk_at dksX12_easter_3 3 rfl rfl)
theorem dX12_easter_76 : decode cX12_easter 76 = .ok (.iload 4, 2) := dk_21 4 (dk_at dksX12_easter_3 4 rfl rfl)
theorem dX12_easter_78 : decode cX12_easter 78 = .ok (.isub, 1) := dk_100 (dk_at dksX12_easter_3 6 rfl rfl)
theorem dX12_easter_79 : decode cX12_easter 79 = .ok (.iload_n 3, 1) := dk_29 (dk_at dksX12_easter_3 7 rfl rfl)
theorem dX12_easter_80 : decode cX12_easter 80 = .ok (.iconst 4, 1) := dk_7 (dk_at dksX12_easter_3 8 rfl rfl)
theorem dX12_easter_81 : decode cX12_easter 81 = .ok (.irem, 1) := dk_112 (dk_at dksX12_easter_3 9 rfl rfl)
theorem dX12_easter_82 : decode cX12_easter 82 = .ok (.isub, 1) := dk_100 (dk_at dksX12_easter_3 10 rfl rfl)
theorem dX12_easter_83 : decode cX12_easter 83 = .ok (.bipush 7, 2) := dk_16 7 (dk_at dksX12_easter_3 11 rfl rfl)
theorem dX12_easter_85 : decode cX12_easter 85 = .ok (.irem, 1) := dk_112 (dk_at dksX12_easter_3 13 rfl rfl)
theorem dX12_easter_86 : decode cX12_easter 86 = .ok (.istore 5, 2) := dk_54 5 (dk_at dksX12_easter_3 14 rfl rfl)
theorem dX12_easter_88 : decode cX12_easter 88 = .ok (.iload_n 1, 1) := dk_27 (dk_at dksX12_easter_3 16 rfl rfl)
theorem dX12_easter_89 : decode cX12_easter 89 = .ok (.bipush 11, 2) := dk_16 11 (dk_at dksX12_easter_3 17 rfl rfl)
theorem dX12_easter_91 : decode cX12_easter 91 = .ok (.iload 4, 2) := dk_21 4 (dk_at dksX12_easter_3 19 rfl rfl)
theorem dX12_easter_93 : decode cX12_easter 93 = .ok (.imul, 1) := dk_104 (dk_at dksX12_easter_3 21 rfl rfl)
theorem dX12_easter_94 : decode cX12_easter 94 = .ok (.iadd, 1) := dk_96 (dk_at dksX12_easter_3 22 rfl rfl)
theorem dX12_easter_95 : decode cX12_easter 95 = .ok (.bipush 22, 2) := dk_16 22 (dk_at dksX12_easter_4 0 rfl rfl)
theorem dX12_easter_97 : decode cX12_easter 97 = .ok (.iload 5, 2) := dk_21 5 (dk_at dksX12_easter_4 2 rfl rfl)
theorem dX12_easter_99 : decode cX12_easter 99 = .ok (.imul, 1) := dk_104 (dk_at dksX12_easter_4 4 rfl rfl)
theorem dX12_easter_100 : decode cX12_easter 100 = .ok (.iadd, 1) := dk_96 (dk_at dksX12_easter_4 5 rfl rfl)
theorem dX12_easter_101 : decode cX12_easter 101 = .ok (.sipush 451, 3) := dk_17 1 195 (dk_at dksX12_easter_4 6 rfl rfl)
theorem dX12_easter_104 : decode cX12_easter 104 = .ok (.idiv, 1) := dk_108 (dk_at dksX12_easter_4 9 rfl rfl)
theorem dX12_easter_105 : decode cX12_easter 105 = .ok (.istore 6, 2) := dk_54 6 (dk_at dksX12_easter_4 10 rfl rfl)
theorem dX12_easter_107 : decode cX12_easter 107 = .ok (.iload 4, 2) := dk_21 4 (dk_at dksX12_easter_4 12 rfl rfl)
theorem dX12_easter_109 : decode cX12_easter 109 = .ok (.iload 5, 2) := dk_21 5 (dk_at dksX12_easter_4 14 rfl rfl)
theorem dX12_easter_111 : decode cX12_easter 111 = .ok (.iadd, 1) := dk_96 (dk_at dksX12_easter_4 16 rfl rfl)
theorem dX12_easter_112 : decode cX12_easter 112 = .ok (.bipush 7, 2) := dk_16 7 (dk_at dksX12_easter_4 17 rfl rfl)
theorem dX12_easter_114 : decode cX12_easter 114 = .ok (.iload 6, 2) := dk_21 6 (dk_at dksX12_easter_4 19 rfl rfl)
theorem dX12_easter_116 : decode cX12_easter 116 = .ok (.imul, 1) := dk_104 (dk_at dksX12_easter_4 21 rfl rfl)
theorem dX12_easter_117 : decode cX12_easter 117 = .ok (.isub, 1) := dk_100 (dk_at dksX12_easter_4 22 rfl rfl)
theorem dX12_easter_118 : decode cX12_easter 118 = .ok (.bipush 114, 2) := dk_16 114 (dk_at dksX12_easter_5 0 rfl rfl)
theorem dX12_easter_120 : decode cX12_easter 120 = .ok (.iadd, 1) := dk_96 (dk_at dksX12_easter_5 2 rfl rfl)
theorem dX12_easter_121 : decode cX12_easter 121 = .ok (.istore 7, 2) := dk_54 7 (dk_at dksX12_easter_5 3 rfl rfl)
theorem dX12_easter_123 : decode cX12_easter 123 = .ok (.iload_n 0, 1) := dk_26 (dk_at dksX12_easter_5 5 rfl rfl)
theorem dX12_easter_124 : decode cX12_easter 124 = .ok (.iload 7, 2) := dk_21 7 (dk_at dksX12_easter_5 6 rfl rfl)
theorem dX12_easter_126 : decode cX12_easter 126 = .ok (.bipush 31, 2) := dk_16 31 (dk_at dksX12_easter_5 8 rfl rfl)
theorem dX12_easter_128 : decode cX12_easter 128 = .ok (.idiv, 1) := dk_108 (dk_at dksX12_easter_5 10 rfl rfl)
theorem dX12_easter_129 : decode cX12_easter 129 = .ok (.iload 7, 2) := dk_21 7 (dk_at dksX12_easter_5 11 rfl rfl)
theorem dX12_easter_131 : decode cX12_easter 131 = .ok (.bipush 31, 2) := dk_16 31 (dk_at dksX12_easter_5 13 rfl rfl)
theorem dX12_easter_133 : decode cX12_easter 133 = .ok (.irem, 1) := dk_112 (dk_at dksX12_easter_5 15 rfl rfl)
theorem dX12_easter_134 : decode cX12_easter 134 = .ok (.iconst 1, 1) := dk_4 (dk_at dksX12_easter_5 16 rfl rfl)
theorem dX12_easter_135 : decode cX12_easter 135 = .ok (.iadd, 1) := dk_96 (dk_at dksX12_easter_5 17 rfl rfl)
theorem dX12_easter_136 : decode cX12_easter 136 = .ok (.invokestatic 33, 3) := dk_184 0 33 (dk_at dksX12_easter_5 18 rfl rfl)
theorem dX12_easter_139 : decode cX12_easter 139 = .ok (.ireturn, 1) := dk_172 (dk_at dksX12_easter_5 21 rfl rfl)
abbrev cX12_nth : ByteArray := prog_6_method_7_code
def yX12_nth : MethodName := ⟨RX12, "nth", "(IIII)I"⟩
def dkwX12_nth_2 : List UInt8 := [104, 96, 54, 5, 21, 5, 29, 28, 184, 0, 19, 162, 0, 11, 21, 4, 21, 5, 96, 167, 0, 4, 2, 172]
abbrev dktX12_nth_2 : List UInt8 := dkwX12_nth_2 ++ []
def dkwX12_nth_1 : List UInt8 := [28, 4, 184, 0, 33, 54, 4, 27, 21, 4, 184, 0, 37, 100, 16, 7, 184, 0, 24, 16, 7, 26, 4, 100]
abbrev dktX12_nth_1 : List UInt8 := dkwX12_nth_1 ++ dktX12_nth_2
def dkwX12_nth_0 : List UInt8 := [29, 28, 4, 17, 7, 208, 184, 0, 29, 153, 0, 12, 26, 4, 8, 184, 0, 15, 154, 0, 5, 2, 172, 29]
abbrev dktX12_nth_0 : List UInt8 := dkwX12_nth_0 ++ dktX12_nth_1
theorem dksX12_nth_0 : cX12_nth.data.toList.drop 0 = dktX12_nth_0 := by decide +kernel
theorem dksX12_nth_1 : cX12_nth.data.toList.drop 24 = dktX12_nth_1 := dk_seg dksX12_nth_0 24 rfl rfl
theorem dksX12_nth_2 : cX12_nth.data.toList.drop 48 = dktX12_nth_2 := dk_seg dksX12_nth_1 24 rfl rfl
theorem dX12_nth_0 : decode cX12_nth 0 = .ok (.iload_n 3, 1) := dk_29 (dk_at dksX12_nth_0 0 rfl rfl)
theorem dX12_nth_1 : decode cX12_nth 1 = .ok (.iload_n 2, 1) := dk_28 (dk_at dksX12_nth_0 1 rfl rfl)
theorem dX12_nth_2 : decode cX12_nth 2 = .ok (.iconst 1, 1) := dk_4 (dk_at dksX12_nth_0 2 rfl rfl)
theorem dX12_nth_3 : decode cX12_nth 3 = .ok (.sipush 2000, 3) := dk_17 7 208 (dk_at dksX12_nth_0 3 rfl rfl)
theorem dX12_nth_6 : decode cX12_nth 6 = .ok (.invokestatic 29, 3) := dk_184 0 29 (dk_at dksX12_nth_0 6 rfl rfl)
theorem dX12_nth_9 : decode cX12_nth 9 = .ok (.ifCond .eq 12, 3) := dk_153 0 12 (dk_at dksX12_nth_0 9 rfl rfl)
theorem dX12_nth_12 : decode cX12_nth 12 = .ok (.iload_n 0, 1) := dk_26 (dk_at dksX12_nth_0 12 rfl rfl)
theorem dX12_nth_13 : decode cX12_nth 13 = .ok (.iconst 1, 1) := dk_4 (dk_at dksX12_nth_0 13 rfl rfl)
theorem dX12_nth_14 : decode cX12_nth 14 = .ok (.iconst 5, 1) := dk_8 (dk_at dksX12_nth_0 14 rfl rfl)
theorem dX12_nth_15 : decode cX12_nth 15 = .ok (.invokestatic 15, 3) := dk_184 0 15 (dk_at dksX12_nth_0 15 rfl rfl)
theorem dX12_nth_18 : decode cX12_nth 18 = .ok (.ifCond .ne 5, 3) := dk_154 0 5 (dk_at dksX12_nth_0 18 rfl rfl)
theorem dX12_nth_21 : decode cX12_nth 21 = .ok (.iconst (-1), 1) := dk_2 (dk_at dksX12_nth_0 21 rfl rfl)
theorem dX12_nth_22 : decode cX12_nth 22 = .ok (.ireturn, 1) := dk_172 (dk_at dksX12_nth_0 22 rfl rfl)
theorem dX12_nth_23 : decode cX12_nth 23 = .ok (.iload_n 3, 1) := dk_29 (dk_at dksX12_nth_0 23 rfl rfl)
theorem dX12_nth_24 : decode cX12_nth 24 = .ok (.iload_n 2, 1) := dk_28 (dk_at dksX12_nth_1 0 rfl rfl)
theorem dX12_nth_25 : decode cX12_nth 25 = .ok (.iconst 1, 1) := dk_4 (dk_at dksX12_nth_1 1 rfl rfl)
theorem dX12_nth_26 : decode cX12_nth 26 = .ok (.invokestatic 33, 3) := dk_184 0 33 (dk_at dksX12_nth_1 2 rfl rfl)
theorem dX12_nth_29 : decode cX12_nth 29 = .ok (.istore 4, 2) := dk_54 4 (dk_at dksX12_nth_1 5 rfl rfl)
theorem dX12_nth_31 : decode cX12_nth 31 = .ok (.iload_n 1, 1) := dk_27 (dk_at dksX12_nth_1 7 rfl rfl)
theorem dX12_nth_32 : decode cX12_nth 32 = .ok (.iload 4, 2) := dk_21 4 (dk_at dksX12_nth_1 8 rfl rfl)
theorem dX12_nth_34 : decode cX12_nth 34 = .ok (.invokestatic 37, 3) := dk_184 0 37 (dk_at dksX12_nth_1 10 rfl rfl)
theorem dX12_nth_37 : decode cX12_nth 37 = .ok (.isub, 1) := dk_100 (dk_at dksX12_nth_1 13 rfl rfl)
theorem dX12_nth_38 : decode cX12_nth 38 = .ok (.bipush 7, 2) := dk_16 7 (dk_at dksX12_nth_1 14 rfl rfl)
theorem dX12_nth_40 : decode cX12_nth 40 = .ok (.invokestatic 24, 3) := dk_184 0 24 (dk_at dksX12_nth_1 16 rfl rfl)
theorem dX12_nth_43 : decode cX12_nth 43 = .ok (.bipush 7, 2) := dk_16 7 (dk_at dksX12_nth_1 19 rfl rfl)
theorem dX12_nth_45 : decode cX12_nth 45 = .ok (.iload_n 0, 1) := dk_26 (dk_at dksX12_nth_1 21 rfl rfl)
theorem dX12_nth_46 : decode cX12_nth 46 = .ok (.iconst 1, 1) := dk_4 (dk_at dksX12_nth_1 22 rfl rfl)
theorem dX12_nth_47 : decode cX12_nth 47 = .ok (.isub, 1) := dk_100 (dk_at dksX12_nth_1 23 rfl rfl)
theorem dX12_nth_48 : decode cX12_nth 48 = .ok (.imul, 1) := dk_104 (dk_at dksX12_nth_2 0 rfl rfl)
theorem dX12_nth_49 : decode cX12_nth 49 = .ok (.iadd, 1) := dk_96 (dk_at dksX12_nth_2 1 rfl rfl)
theorem dX12_nth_50 : decode cX12_nth 50 = .ok (.istore 5, 2) := dk_54 5 (dk_at dksX12_nth_2 2 rfl rfl)
theorem dX12_nth_52 : decode cX12_nth 52 = .ok (.iload 5, 2) := dk_21 5 (dk_at dksX12_nth_2 4 rfl rfl)
theorem dX12_nth_54 : decode cX12_nth 54 = .ok (.iload_n 3, 1) := dk_29 (dk_at dksX12_nth_2 6 rfl rfl)
theorem dX12_nth_55 : decode cX12_nth 55 = .ok (.iload_n 2, 1) := dk_28 (dk_at dksX12_nth_2 7 rfl rfl)
theorem dX12_nth_56 : decode cX12_nth 56 = .ok (.invokestatic 19, 3) := dk_184 0 19 (dk_at dksX12_nth_2 8 rfl rfl)
theorem dX12_nth_59 : decode cX12_nth 59 = .ok (.if_icmp .ge 11, 3) := dk_162 0 11 (dk_at dksX12_nth_2 11 rfl rfl)
theorem dX12_nth_62 : decode cX12_nth 62 = .ok (.iload 4, 2) := dk_21 4 (dk_at dksX12_nth_2 14 rfl rfl)
theorem dX12_nth_64 : decode cX12_nth 64 = .ok (.iload 5, 2) := dk_21 5 (dk_at dksX12_nth_2 16 rfl rfl)
theorem dX12_nth_66 : decode cX12_nth 66 = .ok (.iadd, 1) := dk_96 (dk_at dksX12_nth_2 18 rfl rfl)
theorem dX12_nth_67 : decode cX12_nth 67 = .ok (.goto 4, 3) := dk_167 0 4 (dk_at dksX12_nth_2 19 rfl rfl)
theorem dX12_nth_70 : decode cX12_nth 70 = .ok (.iconst (-1), 1) := dk_2 (dk_at dksX12_nth_2 22 rfl rfl)
theorem dX12_nth_71 : decode cX12_nth 71 = .ok (.ireturn, 1) := dk_172 (dk_at dksX12_nth_2 23 rfl rfl)
theorem q299 : (Jvm.Cond.initialized "ElectionHouse$Days") ∈ lw_all := lw_g (lw_at lw_m1 18 rfl) rfl
theorem q1187 : (Jvm.Cond.static ({ cls := "ElectionHouse$Days", name := "isDay", desc := "(I)Z" } : Jvm.MethodName)) ∈ lw_all := lw_g (lw_at lw_m4 186 rfl) rfl
theorem q1188 : (Jvm.Cond.code ({ cls := "ElectionHouse$Days", name := "isDay", desc := "(I)Z" } : Jvm.MethodName) prog_6_method_10_code (1 : Nat) (Option.some Jvm.ClassFile.FieldType.boolean)) ∈ lw_all := lw_g (lw_at lw_m4 187 rfl) rfl
theorem q1189 : (Jvm.Cond.constant "ElectionHouse$Days" (23 : Nat) (-36524 : Int32)) ∈ lw_all := lw_g (lw_at lw_m4 188 rfl) rfl
theorem q1190 : (Jvm.Cond.constant "ElectionHouse$Days" (41 : Nat) (36524 : Int32)) ∈ lw_all := lw_g (lw_at lw_m4 189 rfl) rfl
theorem q1191 : (Jvm.Cond.methodLinkNest "ElectionHouse$Days" (15 : Nat) ({ cls := "ElectionHouse", name := "within", desc := "(III)Z" } : Jvm.MethodName) "ElectionHouse") ∈ lw_tbl := lw_at lw_m4 190 rfl
theorem q1209 : (Jvm.Cond.static ({ cls := "ElectionHouse$Days", name := "is", desc := "(IIII)Z" } : Jvm.MethodName)) ∈ lw_all := lw_g (lw_at lw_m4 208 rfl) rfl
theorem q1210 : (Jvm.Cond.code ({ cls := "ElectionHouse$Days", name := "is", desc := "(IIII)Z" } : Jvm.MethodName) prog_6_method_4_code (4 : Nat) (Option.some Jvm.ClassFile.FieldType.boolean)) ∈ lw_all := lw_g (lw_at lw_m4 209 rfl) rfl
theorem q1211 : (Jvm.Cond.methodLink "ElectionHouse$Days" (19 : Nat) ({ cls := "ElectionHouse$Days", name := "lengthOf", desc := "(II)I" } : Jvm.MethodName)) ∈ lw_all := lw_g (lw_at lw_m4 210 rfl) rfl
theorem q1212 : (Jvm.Cond.static ({ cls := "ElectionHouse$Days", name := "lengthOf", desc := "(II)I" } : Jvm.MethodName)) ∈ lw_all := lw_g (lw_at lw_m4 211 rfl) rfl
theorem q1213 : (Jvm.Cond.code ({ cls := "ElectionHouse$Days", name := "lengthOf", desc := "(II)I" } : Jvm.MethodName) prog_6_method_3_code (2 : Nat) (Option.some Jvm.ClassFile.FieldType.int)) ∈ lw_all := lw_g (lw_at lw_m4 212 rfl) rfl
theorem q1214 : (Jvm.Cond.methodLink "ElectionHouse$Days" (9 : Nat) ({ cls := "ElectionHouse$Days", name := "isLong", desc := "(I)Z" } : Jvm.MethodName)) ∈ lw_all := lw_g (lw_at lw_m4 213 rfl) rfl
theorem q1215 : (Jvm.Cond.static ({ cls := "ElectionHouse$Days", name := "isLong", desc := "(I)Z" } : Jvm.MethodName)) ∈ lw_all := lw_g (lw_at lw_m4 214 rfl) rfl
theorem q1216 : (Jvm.Cond.code ({ cls := "ElectionHouse$Days", name := "isLong", desc := "(I)Z" } : Jvm.MethodName) prog_6_method_2_code (1 : Nat) (Option.some Jvm.ClassFile.FieldType.boolean)) ∈ lw_all := lw_g (lw_at lw_m4 215 rfl) rfl
theorem q1224 : (Jvm.Cond.static ({ cls := "ElectionHouse$Days", name := "of", desc := "(III)I" } : Jvm.MethodName)) ∈ lw_all := lw_g (lw_at lw_m4 223 rfl) rfl
theorem q1225 : (Jvm.Cond.code ({ cls := "ElectionHouse$Days", name := "of", desc := "(III)I" } : Jvm.MethodName) prog_6_method_5_code (5 : Nat) (Option.some Jvm.ClassFile.FieldType.int)) ∈ lw_all := lw_g (lw_at lw_m4 224 rfl) rfl
theorem q1497 : (Jvm.Cond.static ({ cls := "ElectionHouse$Days", name := "last", desc := "(III)I" } : Jvm.MethodName)) ∈ lw_all := lw_g (lw_at lw_m6 16 rfl) rfl
theorem q1498 : (Jvm.Cond.code ({ cls := "ElectionHouse$Days", name := "last", desc := "(III)I" } : Jvm.MethodName) prog_6_method_8_code (4 : Nat) (Option.some Jvm.ClassFile.FieldType.int)) ∈ lw_all := lw_g (lw_at lw_m6 17 rfl) rfl
theorem q1499 : (Jvm.Cond.methodLink "ElectionHouse$Days" (29 : Nat) ({ cls := "ElectionHouse$Days", name := "is", desc := "(IIII)Z" } : Jvm.MethodName)) ∈ lw_all := lw_g (lw_at lw_m6 18 rfl) rfl
theorem q1500 : (Jvm.Cond.methodLink "ElectionHouse$Days" (33 : Nat) ({ cls := "ElectionHouse$Days", name := "of", desc := "(III)I" } : Jvm.MethodName)) ∈ lw_all := lw_g (lw_at lw_m6 19 rfl) rfl
theorem q1501 : (Jvm.Cond.methodLink "ElectionHouse$Days" (37 : Nat) ({ cls := "ElectionHouse$Days", name := "weekday", desc := "(I)I" } : Jvm.MethodName)) ∈ lw_all := lw_g (lw_at lw_m6 20 rfl) rfl
theorem q1502 : (Jvm.Cond.static ({ cls := "ElectionHouse$Days", name := "weekday", desc := "(I)I" } : Jvm.MethodName)) ∈ lw_all := lw_g (lw_at lw_m6 21 rfl) rfl
theorem q1503 : (Jvm.Cond.code ({ cls := "ElectionHouse$Days", name := "weekday", desc := "(I)I" } : Jvm.MethodName) prog_6_method_6_code (1 : Nat) (Option.some Jvm.ClassFile.FieldType.int)) ∈ lw_all := lw_g (lw_at lw_m6 22 rfl) rfl
theorem q1504 : (Jvm.Cond.methodLink "ElectionHouse$Days" (24 : Nat) ({ cls := "java/lang/Math", name := "floorMod", desc := "(II)I" } : Jvm.MethodName)) ∈ lw_all := lw_g (lw_at lw_m6 23 rfl) rfl
theorem q1508 : (Jvm.Cond.static ({ cls := "ElectionHouse$Days", name := "easter", desc := "(I)I" } : Jvm.MethodName)) ∈ lw_all := lw_g (lw_at lw_m6 27 rfl) rfl
theorem q1509 : (Jvm.Cond.code ({ cls := "ElectionHouse$Days", name := "easter", desc := "(I)I" } : Jvm.MethodName) prog_6_method_9_code (8 : Nat) (Option.some Jvm.ClassFile.FieldType.int)) ∈ lw_all := lw_g (lw_at lw_m6 28 rfl) rfl
theorem q1517 : (Jvm.Cond.static ({ cls := "ElectionHouse$Days", name := "nth", desc := "(IIII)I" } : Jvm.MethodName)) ∈ lw_all := lw_g (lw_at lw_m6 36 rfl) rfl
theorem q1518 : (Jvm.Cond.code ({ cls := "ElectionHouse$Days", name := "nth", desc := "(IIII)I" } : Jvm.MethodName) prog_6_method_7_code (6 : Nat) (Option.some Jvm.ClassFile.FieldType.int)) ∈ lw_all := lw_g (lw_at lw_m6 37 rfl) rfl
