set_option maxRecDepth 100000
abbrev cX0_isSheet : ByteArray := prog_1_method_65_code
def yX0_isSheet : MethodName := ⟨RX0, "isSheet", "(II)Z"⟩
def dkwX0_isSheet_2 : List UInt8 := [29, 172]
abbrev dktX0_isSheet_2 : List UInt8 := dkwX0_isSheet_2 ++ []
def dkwX0_isSheet_1 : List UInt8 := [29, 153, 0, 23, 42, 180, 0, 13, 21, 4, 51, 3, 16, 9, 184, 0, 163, 62, 132, 4, 1, 167, 255, 229]
abbrev dktX0_isSheet_1 : List UInt8 := dkwX0_isSheet_1 ++ dktX0_isSheet_2
def dkwX0_isSheet_0 : List UInt8 := [27, 42, 28, 182, 1, 212, 160, 0, 7, 4, 167, 0, 4, 3, 62, 3, 54, 4, 21, 4, 27, 162, 0, 27]
abbrev dktX0_isSheet_0 : List UInt8 := dkwX0_isSheet_0 ++ dktX0_isSheet_1
theorem dksX0_isSheet_0 : cX0_isSheet.data.toList.drop 0 = dktX0_isSheet_0 := by decide +kernel
theorem dksX0_isSheet_1 : cX0_isSheet.data.toList.drop 24 = dktX0_isSheet_1 := dk_seg dksX0_isSheet_0 24 rfl rfl
theorem dksX0_isSheet_2 : cX0_isSheet.data.toList.drop 48 = dktX0_isSheet_2 := dk_seg dksX0_isSheet_1 24 rfl rfl
theorem dX0_isSheet_0 : decode cX0_isSheet 0 = .ok (.iload_n 1, 1) := dk_27 (dk_at dksX0_isSheet_0 0 rfl rfl)
theorem dX0_isSheet_1 : decode cX0_isSheet 1 = .ok (.aload_n 0, 1) := dk_42 (dk_at dksX0_isSheet_0 1 rfl rfl)
theorem dX0_isSheet_2 : decode cX0_isSheet 2 = .ok (.iload_n 2, 1) := dk_28 (dk_at dksX0_isSheet_0 2 rfl rfl)
theorem dX0_isSheet_3 : decode cX0_isSheet 3 = .ok (.invokevirtual 468, 3) := dk_182 1 212 (dk_at dksX0_isSheet_0 3 rfl rfl)
theorem dX0_isSheet_6 : decode cX0_isSheet 6 = .ok (.if_icmp .ne 7, 3) := dk_160 0 7 (dk_at dksX0_isSheet_0 6 rfl rfl)
theorem dX0_isSheet_9 : decode cX0_isSheet 9 = .ok (.iconst 1, 1) := dk_4 (dk_at dksX0_isSheet_0 9 rfl rfl)
theorem dX0_isSheet_10 : decode cX0_isSheet 10 = .ok (.goto 4, 3) := dk_167 0 4 (dk_at dksX0_isSheet_0 10 rfl rfl)
theorem dX0_isSheet_13 : decode cX0_isSheet 13 = .ok (.iconst 0, 1) := dk_3 (dk_at dksX0_isSheet_0 13 rfl rfl)
theorem dX0_isSheet_14 : decode cX0_isSheet 14 = .ok (.istore_n 3, 1) := dk_62 (dk_at dksX0_isSheet_0 14 rfl rfl)
theorem dX0_isSheet_15 : decode cX0_isSheet 15 = .ok (.iconst 0, 1) := dk_3 (dk_at dksX0_isSheet_0 15 rfl rfl)
theorem dX0_isSheet_16 : decode cX0_isSheet 16 = .ok (.istore 4, 2) := dk_54 4 (dk_at dksX0_isSheet_0 16 rfl rfl)
theorem dX0_isSheet_18 : decode cX0_isSheet 18 = .ok (.iload 4, 2) := dk_21 4 (dk_at dksX0_isSheet_0 18 rfl rfl)
theorem dX0_isSheet_20 : decode cX0_isSheet 20 = .ok (.iload_n 1, 1) := dk_27 (dk_at dksX0_isSheet_0 20 rfl rfl)
theorem dX0_isSheet_21 : decode cX0_isSheet 21 = .ok (.if_icmp .ge 27, 3) := dk_162 0 27 (dk_at dksX0_isSheet_0 21 rfl rfl)
theorem dX0_isSheet_24 : decode cX0_isSheet 24 = .ok (.iload_n 3, 1) := dk_29 (dk_at dksX0_isSheet_1 0 rfl rfl)
theorem dX0_isSheet_25 : decode cX0_isSheet 25 = .ok (.ifCond .eq 23, 3) := dk_153 0 23 (dk_at dksX0_isSheet_1 1 rfl rfl)
theorem dX0_isSheet_28 : decode cX0_isSheet 28 = .ok (.aload_n 0, 1) := dk_42 (dk_at dksX0_isSheet_1 4 rfl rfl)
theorem dX0_isSheet_29 : decode cX0_isSheet 29 = .ok (.getfield 13, 3) := dk_180 0 13 (dk_at dksX0_isSheet_1 5 rfl rfl)
theorem dX0_isSheet_32 : decode cX0_isSheet 32 = .ok (.iload 4, 2) := dk_21 4 (dk_at dksX0_isSheet_1 8 rfl rfl)
theorem dX0_isSheet_34 : decode cX0_isSheet 34 = .ok (.baload, 1) := dk_51 (dk_at dksX0_isSheet_1 10 rfl rfl)
theorem dX0_isSheet_35 : decode cX0_isSheet 35 = .ok (.iconst 0, 1) := dk_3 (dk_at dksX0_isSheet_1 11 rfl rfl)
theorem dX0_isSheet_36 : decode cX0_isSheet 36 = .ok (.bipush 9, 2) := dk_16 9 (dk_at dksX0_isSheet_1 12 rfl rfl)
theorem dX0_isSheet_38 : decode cX0_isSheet 38 = .ok (.invokestatic 163, 3) := dk_184 0 163 (dk_at dksX0_isSheet_1 14 rfl rfl)
theorem dX0_isSheet_41 : decode cX0_isSheet 41 = .ok (.istore_n 3, 1) := dk_62 (dk_at dksX0_isSheet_1 17 rfl rfl)
theorem dX0_isSheet_42 : decode cX0_isSheet 42 = .ok (.iinc 4 1, 3) := dk_132 4 1 (dk_at dksX0_isSheet_1 18 rfl rfl)
theorem dX0_isSheet_45 : decode cX0_isSheet 45 = .ok (.goto (-27), 3) := dk_167 255 229 (dk_at dksX0_isSheet_1 21 rfl rfl)
theorem dX0_isSheet_48 : decode cX0_isSheet 48 = .ok (.iload_n 3, 1) := dk_29 (dk_at dksX0_isSheet_2 0 rfl rfl)
theorem dX0_isSheet_49 : decode cX0_isSheet 49 = .ok (.ireturn, 1) := dk_172 (dk_at dksX0_isSheet_2 1 rfl rfl)
abbrev cX0_ask : ByteArray := prog_1_method_68_code
def yX0_ask : MethodName := ⟨RX0, "ask", "(I)I"⟩
def dkwX0_ask_3 : List UInt8 := [16, 6, 3, 4, 182, 1, 242, 172]
abbrev dktX0_ask_3 : List UInt8 := dkwX0_ask_3 ++ []
def dkwX0_ask_2 : List UInt8 := [180, 1, 21, 17, 0, 200, 160, 0, 6, 16, 251, 172, 42, 16, 22, 27, 3, 3, 3, 182, 0, 173, 42, 27]
abbrev dktX0_ask_2 : List UInt8 := dkwX0_ask_2 ++ dktX0_ask_3
def dkwX0_ask_1 : List UInt8 := [16, 253, 172, 42, 27, 182, 1, 236, 153, 0, 11, 42, 27, 182, 2, 8, 153, 0, 6, 16, 252, 172, 42]
abbrev dktX0_ask_1 : List UInt8 := dkwX0_ask_1 ++ dktX0_ask_2
def dkwX0_ask_0 : List UInt8 := [42, 27, 182, 0, 210, 154, 0, 5, 2, 172, 42, 180, 0, 237, 153, 0, 10, 42, 182, 2, 5, 154, 0, 6]
abbrev dktX0_ask_0 : List UInt8 := dkwX0_ask_0 ++ dktX0_ask_1
theorem dksX0_ask_0 : cX0_ask.data.toList.drop 0 = dktX0_ask_0 := by decide +kernel
theorem dksX0_ask_1 : cX0_ask.data.toList.drop 24 = dktX0_ask_1 := dk_seg dksX0_ask_0 24 rfl rfl
theorem dksX0_ask_2 : cX0_ask.data.toList.drop 47 = dktX0_ask_2 := dk_seg dksX0_ask_1 23 rfl rfl
theorem dksX0_ask_3 : cX0_ask.data.toList.drop 71 = dktX0_ask_3 := dk_seg dksX0_ask_2 24 rfl rfl
theorem dX0_ask_0 : decode cX0_ask 0 = .ok (.aload_n 0, 1) := dk_42 (dk_at dksX0_ask_0 0 rfl rfl)
theorem dX0_ask_1 : decode cX0_ask 1 = .ok (.iload_n 1, 1) := dk_27 (dk_at dksX0_ask_0 1 rfl rfl)
theorem dX0_ask_2 : decode cX0_ask 2 = .ok (.invokevirtual 210, 3) := dk_182 0 210 (dk_at dksX0_ask_0 2 rfl rfl)
theorem dX0_ask_5 : decode cX0_ask 5 = .ok (.ifCond .ne 5, 3) := dk_154 0 5 (dk_at dksX0_ask_0 5 rfl rfl)
theorem dX0_ask_8 : decode cX0_ask 8 = .ok (.iconst (-1), 1) := dk_2 (dk_at dksX0_ask_0 8 rfl rfl)
theorem dX0_ask_9 : decode cX0_ask 9 = .ok (.ireturn, 1) := dk_172 (dk_at dksX0_ask_0 9 rfl rfl)
theorem dX0_ask_10 : decode cX0_ask 10 = .ok (.aload_n 0, 1) := dk_42 (dk_at dksX0_ask_0 10 rfl rfl)
theorem dX0_ask_11 : decode cX0_ask 11 = .ok (.getfield 237, 3) := dk_180 0 237 (dk_at dksX0_ask_0 11 rfl rfl)
theorem dX0_ask_14 : decode cX0_ask 14 = .ok (.ifCond .eq 10, 3) := dk_153 0 10 (dk_at dksX0_ask_0 14 rfl rfl)
theorem dX0_ask_17 : decode cX0_ask 17 = .ok (.aload_n 0, 1) := dk_42 (dk_at dksX0_ask_0 17 rfl rfl)
theorem dX0_ask_18 : decode cX0_ask 18 = .ok (.invokevirtual 517, 3) := dk_182 2 5 (dk_at dksX0_ask_0 18 rfl rfl)
theorem dX0_ask_21 : decode cX0_ask 21 = .ok (.ifCond .ne 6, 3) := dk_154 0 6 (dk_at dksX0_ask_0 21 rfl rfl)
theorem dX0_ask_24 : decode cX0_ask 24 = .ok (.bipush (-3), 2) := dk_16 253 (dk_at dksX0_ask_1 0 rfl rfl)
theorem dX0_ask_26 : decode cX0_ask 26 = .ok (.ireturn, 1) := dk_172 (dk_at dksX0_ask_1 2 rfl rfl)
theorem dX0_ask_27 : decode cX0_ask 27 = .ok (.aload_n 0, 1) := dk_42 (dk_at dksX0_ask_1 3 rfl rfl)
theorem dX0_ask_28 : decode cX0_ask 28 = .ok (.iload_n 1, 1) := dk_27 (dk_at dksX0_ask_1 4 rfl rfl)
theorem dX0_ask_29 : decode cX0_ask 29 = .ok (.invokevirtual 492, 3) := dk_182 1 236 (dk_at dksX0_ask_1 5 rfl rfl)
theorem dX0_ask_32 : decode cX0_ask 32 = .ok (.ifCond .eq 11, 3) := dk_153 0 11 (dk_at dksX0_ask_1 8 rfl rfl)
theorem dX0_ask_35 : decode cX0_ask 35 = .ok (.aload_n 0, 1) := dk_42 (dk_at dksX0_ask_1 11 rfl rfl)
theorem dX0_ask_36 : decode cX0_ask 36 = .ok (.iload_n 1, 1) := dk_27 (dk_at dksX0_ask_1 12 rfl rfl)
theorem dX0_ask_37 : decode cX0_ask 37 = .ok (.invokevirtual 520, 3) := dk_182 2 8 (dk_at dksX0_ask_1 13 rfl rfl)
theorem dX0_ask_40 : decode cX0_ask 40 = .ok (.ifCond .eq 6, 3) := dk_153 0 6 (dk_at dksX0_ask_1 16 rfl rfl)
theorem dX0_ask_43 : decode cX0_ask 43 = .ok (.bipush (-4), 2) := dk_16 252 (dk_at dksX0_ask_1 19 rfl rfl)
theorem dX0_ask_45 : decode cX0_ask 45 = .ok (.ireturn, 1) := dk_172 (dk_at dksX0_ask_1 21 rfl rfl)
theorem dX0_ask_46 : decode cX0_ask 46 = .ok (.aload_n 0, 1) := dk_42 (dk_at dksX0_ask_1 22 rfl rfl)
theorem dX0_ask_47 : decode cX0_ask 47 = .ok (.getfield 277, 3) := dk_180 1 21 (dk_at dksX0_ask_2 0 rfl rfl)
theorem dX0_ask_50 : decode cX0_ask 50 = .ok (.sipush 200, 3) := dk_17 0 200 (dk_at dksX0_ask_2 3 rfl rfl)
theorem dX0_ask_53 : decode cX0_ask 53 = .ok (.if_icmp .ne 6, 3) := dk_160 0 6 (dk_at dksX0_ask_2 6 rfl rfl)
theorem dX0_ask_56 : decode cX0_ask 56 = .ok (.bipush (-5), 2) := dk_16 251 (dk_at dksX0_ask_2 9 rfl rfl)
theorem dX0_ask_58 : decode cX0_ask 58 = .ok (.ireturn, 1) := dk_172 (dk_at dksX0_ask_2 11 rfl rfl)
theorem dX0_ask_59 : decode cX0_ask 59 = .ok (.aload_n 0, 1) := dk_42 (dk_at dksX0_ask_2 12 rfl rfl)
theorem dX0_ask_60 : decode cX0_ask 60 = .ok (.bipush 22, 2) := dk_16 22 (dk_at dksX0_ask_2 13 rfl rfl)
theorem dX0_ask_62 : decode cX0_ask 62 = .ok (.iload_n 1, 1) := dk_27 (dk_at dksX0_ask_2 15 rfl rfl)
theorem dX0_ask_63 : decode cX0_ask 63 = .ok (.iconst 0, 1) := dk_3 (dk_at dksX0_ask_2 16 rfl rfl)
theorem dX0_ask_64 : decode cX0_ask 64 = .ok (.iconst 0, 1) := dk_3 (dk_at dksX0_ask_2 17 rfl rfl)
theorem dX0_ask_65 : decode cX0_ask 65 = .ok (.iconst 0, 1) := dk_3 (dk_at dksX0_ask_2 18 rfl rfl)
theorem dX0_ask_66 : decode cX0_ask 66 = .ok (.invokevirtual 173, 3) := dk_182 0 173 (dk_at dksX0_ask_2 19 rfl rfl)
theorem dX0_ask_69 : decode cX0_ask 69 = .ok (.aload_n 0, 1) := dk_42 (dk_at dksX0_ask_2 22 rfl rfl)
theorem dX0_ask_70 : decode cX0_ask 70 = .ok (.iload_n 1, 1) := dk_27 (dk_at dksX0_ask_2 23 rfl rfl)
theorem dX0_ask_71 : decode cX0_ask 71 = .ok (.bipush 6, 2) := dk_16 6 (dk_at dksX0_ask_3 0 rfl rfl)
theorem dX0_ask_73 : decode cX0_ask 73 = .ok (.iconst 0, 1) := dk_3 (dk_at dksX0_ask_3 2 rfl rfl)
theorem dX0_ask_74 : decode cX0_ask 74 = .ok (.iconst 1, 1) := dk_4 (dk_at dksX0_ask_3 3 rfl rfl)
theorem dX0_ask_75 : decode cX0_ask 75 = .ok (.invokevirtual 498, 3) := dk_182 1 242 (dk_at dksX0_ask_3 4 rfl rfl)
theorem dX0_ask_78 : decode cX0_ask 78 = .ok (.ireturn, 1) := dk_172 (dk_at dksX0_ask_3 7 rfl rfl)
abbrev cX0_isMailing : ByteArray := prog_1_method_67_code
def yX0_isMailing : MethodName := ⟨RX0, "isMailing", "()Z"⟩
def dkwX0_isMailing_2 : List UInt8 := [4, 167, 0, 4, 3, 172]
abbrev dktX0_isMailing_2 : List UInt8 := dkwX0_isMailing_2 ++ []
def dkwX0_isMailing_1 : List UInt8 := [180, 0, 42, 180, 1, 37, 6, 46, 163, 0, 20, 42, 180, 0, 120, 16, 6, 50, 180, 1, 180, 154, 0, 7]
abbrev dktX0_isMailing_1 : List UInt8 := dkwX0_isMailing_1 ++ dktX0_isMailing_2
def dkwX0_isMailing_0 : List UInt8 := [42, 180, 0, 42, 180, 1, 177, 153, 0, 43, 42, 180, 1, 9, 153, 0, 36, 42, 180, 0, 167, 42]
abbrev dktX0_isMailing_0 : List UInt8 := dkwX0_isMailing_0 ++ dktX0_isMailing_1
theorem dksX0_isMailing_0 : cX0_isMailing.data.toList.drop 0 = dktX0_isMailing_0 := by decide +kernel
theorem dksX0_isMailing_1 : cX0_isMailing.data.toList.drop 22 = dktX0_isMailing_1 := dk_seg dksX0_isMailing_0 22 rfl rfl
theorem dksX0_isMailing_2 : cX0_isMailing.data.toList.drop 46 = dktX0_isMailing_2 := dk_seg dksX0_isMailing_1 24 rfl rfl
theorem dX0_isMailing_0 : decode cX0_isMailing 0 = .ok (.aload_n 0, 1) := dk_42 (dk_at dksX0_isMailing_0 0 rfl rfl)
theorem dX0_isMailing_1 : decode cX0_isMailing 1 = .ok (.getfield 42, 3) := dk_180 0 42 (dk_at dksX0_isMailing_0 1 rfl rfl)
theorem dX0_isMailing_4 : decode cX0_isMailing 4 = .ok (.getfield 433, 3) := dk_180 1 177 (dk_at dksX0_isMailing_0 4 rfl rfl)
theorem dX0_isMailing_7 : decode cX0_isMailing 7 = .ok (.ifCond .eq 43, 3) := dk_153 0 43 (dk_at dksX0_isMailing_0 7 rfl rfl)
theorem dX0_isMailing_10 : decode cX0_isMailing 10 = .ok (.aload_n 0, 1) := dk_42 (dk_at dksX0_isMailing_0 10 rfl rfl)
theorem dX0_isMailing_11 : decode cX0_isMailing 11 = .ok (.getfield 265, 3) := dk_180 1 9 (dk_at dksX0_isMailing_0 11 rfl rfl)
theorem dX0_isMailing_14 : decode cX0_isMailing 14 = .ok (.ifCond .eq 36, 3) := dk_153 0 36 (dk_at dksX0_isMailing_0 14 rfl rfl)
theorem dX0_isMailing_17 : decode cX0_isMailing 17 = .ok (.aload_n 0, 1) := dk_42 (dk_at dksX0_isMailing_0 17 rfl rfl)
theorem dX0_isMailing_18 : decode cX0_isMailing 18 = .ok (.getfield 167, 3) := dk_180 0 167 (dk_at dksX0_isMailing_0 18 rfl rfl)
theorem dX0_isMailing_21 : decode cX0_isMailing 21 = .ok (.aload_n 0, 1) := dk_42 (dk_at dksX0_isMailing_0 21 rfl rfl)
theorem dX0_isMailing_22 : decode cX0_isMailing 22 = .ok (.getfield 42, 3) := dk_180 0 42 (dk_at dksX0_isMailing_1 0 rfl rfl)
theorem dX0_isMailing_25 : decode cX0_isMailing 25 = .ok (.getfield 293, 3) := dk_180 1 37 (dk_at dksX0_isMailing_1 3 rfl rfl)
theorem dX0_isMailing_28 : decode cX0_isMailing 28 = .ok (.iconst 3, 1) := dk_6 (dk_at dksX0_isMailing_1 6 rfl rfl)
theorem dX0_isMailing_29 : decode cX0_isMailing 29 = .ok (.iaload, 1) := dk_46 (dk_at dksX0_isMailing_1 7 rfl rfl)
theorem dX0_isMailing_30 : decode cX0_isMailing 30 = .ok (.if_icmp .gt 20, 3) := dk_163 0 20 (dk_at dksX0_isMailing_1 8 rfl rfl)
theorem dX0_isMailing_33 : decode cX0_isMailing 33 = .ok (.aload_n 0, 1) := dk_42 (dk_at dksX0_isMailing_1 11 rfl rfl)
theorem dX0_isMailing_34 : decode cX0_isMailing 34 = .ok (.getfield 120, 3) := dk_180 0 120 (dk_at dksX0_isMailing_1 12 rfl rfl)
theorem dX0_isMailing_37 : decode cX0_isMailing 37 = .ok (.bipush 6, 2) := dk_16 6 (dk_at dksX0_isMailing_1 15 rfl rfl)
theorem dX0_isMailing_39 : decode cX0_isMailing 39 = .ok (.aaload, 1) := dk_50 (dk_at dksX0_isMailing_1 17 rfl rfl)
theorem dX0_isMailing_40 : decode cX0_isMailing 40 = .ok (.getfield 436, 3) := dk_180 1 180 (dk_at dksX0_isMailing_1 18 rfl rfl)
theorem dX0_isMailing_43 : decode cX0_isMailing 43 = .ok (.ifCond .ne 7, 3) := dk_154 0 7 (dk_at dksX0_isMailing_1 21 rfl rfl)
theorem dX0_isMailing_46 : decode cX0_isMailing 46 = .ok (.iconst 1, 1) := dk_4 (dk_at dksX0_isMailing_2 0 rfl rfl)
theorem dX0_isMailing_47 : decode cX0_isMailing 47 = .ok (.goto 4, 3) := dk_167 0 4 (dk_at dksX0_isMailing_2 1 rfl rfl)
theorem dX0_isMailing_50 : decode cX0_isMailing 50 = .ok (.iconst 0, 1) := dk_3 (dk_at dksX0_isMailing_2 4 rfl rfl)
theorem dX0_isMailing_51 : decode cX0_isMailing 51 = .ok (.ireturn, 1) := dk_172 (dk_at dksX0_isMailing_2 5 rfl rfl)
abbrev cX0_hasJoined : ByteArray := prog_1_method_69_code
def yX0_hasJoined : MethodName := ⟨RX0, "hasJoined", "(I)Z"⟩
def dkwX0_hasJoined_2 : List UInt8 := [153, 0, 7, 4, 167, 0, 4, 3, 128, 61, 132, 3, 1, 167, 255, 200, 28, 172]
abbrev dktX0_hasJoined_2 : List UInt8 := dkwX0_hasJoined_2 ++ []
def dkwX0_hasJoined_1 : List UInt8 := [160, 0, 31, 42, 180, 0, 111, 29, 50, 180, 1, 190, 153, 0, 19, 42, 180, 0, 111, 29, 50, 182, 1, 194]
abbrev dktX0_hasJoined_1 : List UInt8 := dkwX0_hasJoined_1 ++ dktX0_hasJoined_2
def dkwX0_hasJoined_0 : List UInt8 := [3, 61, 3, 62, 29, 42, 180, 1, 21, 162, 0, 54, 28, 42, 180, 0, 111, 29, 50, 180, 1, 193, 27]
abbrev dktX0_hasJoined_0 : List UInt8 := dkwX0_hasJoined_0 ++ dktX0_hasJoined_1
theorem dksX0_hasJoined_0 : cX0_hasJoined.data.toList.drop 0 = dktX0_hasJoined_0 := by decide +kernel
theorem dksX0_hasJoined_1 : cX0_hasJoined.data.toList.drop 23 = dktX0_hasJoined_1 := dk_seg dksX0_hasJoined_0 23 rfl rfl
theorem dksX0_hasJoined_2 : cX0_hasJoined.data.toList.drop 47 = dktX0_hasJoined_2 := dk_seg dksX0_hasJoined_1 24 rfl rfl
theorem dX0_hasJoined_0 : decode cX0_hasJoined 0 = .ok (.iconst 0, 1) := dk_3 (dk_at dksX0_hasJoined_0 0 rfl rfl)
theorem dX0_hasJoined_1 : decode cX0_hasJoined 1 = .ok (.istore_n 2, 1) := dk_61 (dk_at dksX0_hasJoined_0 1 rfl rfl)
theorem dX0_hasJoined_2 : decode cX0_hasJoined 2 = .ok (.iconst 0, 1) := dk_3 (dk_at dksX0_hasJoined_0 2 rfl rfl)
theorem dX0_hasJoined_3 : decode cX0_hasJoined 3 = .ok (.istore_n 3, 1) := dk_62 (dk_at dksX0_hasJoined_0 3 rfl rfl)
theorem dX0_hasJoined_4 : decode cX0_hasJoined 4 = .ok (.iload_n 3, 1) := dk_29 (dk_at dksX0_hasJoined_0 4 rfl rfl)
theorem dX0_hasJoined_5 : decode cX0_hasJoined 5 = .ok (.aload_n 0, 1) := dk_42 (dk_at dksX0_hasJoined_0 5 rfl rfl)
theorem dX0_hasJoined_6 : decode cX0_hasJoined 6 = .ok (.getfield 277, 3) := dk_180 1 21 (dk_at dksX0_hasJoined_0 6 rfl rfl)
theorem dX0_hasJoined_9 : decode cX0_hasJoined 9 = .ok (.if_icmp .ge 54, 3) := dk_162 0 54 (dk_at dksX0_hasJoined_0 9 rfl rfl)
theorem dX0_hasJoined_12 : decode cX0_hasJoined 12 = .ok (.iload_n 2, 1) := dk_28 (dk_at dksX0_hasJoined_0 12 rfl rfl)
theorem dX0_hasJoined_13 : decode cX0_hasJoined 13 = .ok (.aload_n 0, 1) := dk_42 (dk_at dksX0_hasJoined_0 13 rfl rfl)
theorem dX0_hasJoined_14 : decode cX0_hasJoined 14 = .ok (.getfield 111, 3) := dk_180 0 111 (dk_at dksX0_hasJoined_0 14 rfl rfl)
theorem dX0_hasJoined_17 : decode cX0_hasJoined 17 = .ok (.iload_n 3, 1) := dk_29 (dk_at dksX0_hasJoined_0 17 rfl rfl)
theorem dX0_hasJoined_18 : decode cX0_hasJoined 18 = .ok (.aaload, 1) := dk_50 (dk_at dksX0_hasJoined_0 18 rfl rfl)
theorem dX0_hasJoined_19 : decode cX0_hasJoined 19 = .ok (.getfield 449, 3) := dk_180 1 193 (dk_at dksX0_hasJoined_0 19 rfl rfl)
theorem dX0_hasJoined_22 : decode cX0_hasJoined 22 = .ok (.iload_n 1, 1) := dk_27 (dk_at dksX0_hasJoined_0 22 rfl rfl)
theorem dX0_hasJoined_23 : decode cX0_hasJoined 23 = .ok (.if_icmp .ne 31, 3) := dk_160 0 31 (dk_at dksX0_hasJoined_1 0 rfl rfl)
theorem dX0_hasJoined_26 : decode cX0_hasJoined 26 = .ok (.aload_n 0, 1) := dk_42 (dk_at dksX0_hasJoined_1 3 rfl rfl)
theorem dX0_hasJoined_27 : decode cX0_hasJoined 27 = .ok (.getfield 111, 3) := dk_180 0 111 (dk_at dksX0_hasJoined_1 4 rfl rfl)
theorem dX0_hasJoined_30 : decode cX0_hasJoined 30 = .ok (.iload_n 3, 1) := dk_29 (dk_at dksX0_hasJoined_1 7 rfl rfl)
theorem dX0_hasJoined_31 : decode cX0_hasJoined 31 = .ok (.aaload, 1) := dk_50 (dk_at dksX0_hasJoined_1 8 rfl rfl)
theorem dX0_hasJoined_32 : decode cX0_hasJoined 32 = .ok (.getfield 446, 3) := dk_180 1 190 (dk_at dksX0_hasJoined_1 9 rfl rfl)
theorem dX0_hasJoined_35 : decode cX0_hasJoined 35 = .ok (.ifCond .eq 19, 3) := dk_153 0 19 (dk_at dksX0_hasJoined_1 12 rfl rfl)
theorem dX0_hasJoined_38 : decode cX0_hasJoined 38 = .ok (.aload_n 0, 1) := dk_42 (dk_at dksX0_hasJoined_1 15 rfl rfl)
theorem dX0_hasJoined_39 : decode cX0_hasJoined 39 = .ok (.getfield 111, 3) := dk_180 0 111 (dk_at dksX0_hasJoined_1 16 rfl rfl)
theorem dX0_hasJoined_42 : decode cX0_hasJoined 42 = .ok (.iload_n 3, 1) := dk_29 (dk_at dksX0_hasJoined_1 19 rfl rfl)
theorem dX0_hasJoined_43 : decode cX0_hasJoined 43 = .ok (.aaload, 1) := dk_50 (dk_at dksX0_hasJoined_1 20 rfl rfl)
theorem dX0_hasJoined_44 : decode cX0_hasJoined 44 = .ok (.invokevirtual 450, 3) := dk_182 1 194 (dk_at dksX0_hasJoined_1 21 rfl rfl)
theorem dX0_hasJoined_47 : decode cX0_hasJoined 47 = .ok (.ifCond .eq 7, 3) := dk_153 0 7 (dk_at dksX0_hasJoined_2 0 rfl rfl)
theorem dX0_hasJoined_50 : decode cX0_hasJoined 50 = .ok (.iconst 1, 1) := dk_4 (dk_at dksX0_hasJoined_2 3 rfl rfl)
theorem dX0_hasJoined_51 : decode cX0_hasJoined 51 = .ok (.goto 4, 3) := dk_167 0 4 (dk_at dksX0_hasJoined_2 4 rfl rfl)
theorem dX0_hasJoined_54 : decode cX0_hasJoined 54 = .ok (.iconst 0, 1) := dk_3 (dk_at dksX0_hasJoined_2 7 rfl rfl)
theorem dX0_hasJoined_55 : decode cX0_hasJoined 55 = .ok (.ior, 1) := dk_128 (dk_at dksX0_hasJoined_2 8 rfl rfl)
theorem dX0_hasJoined_56 : decode cX0_hasJoined 56 = .ok (.istore_n 2, 1) := dk_61 (dk_at dksX0_hasJoined_2 9 rfl rfl)
theorem dX0_hasJoined_57 : decode cX0_hasJoined 57 = .ok (.iinc 3 1, 3) := dk_132 3 1 (dk_at dksX0_hasJoined_2 10 rfl rfl)
theorem dX0_hasJoined_60 : decode cX0_hasJoined 60 = .ok (.goto (-56), 3) := dk_167 255 200 (dk_at dksX0_hasJoined_2 13 rfl rfl)
theorem dX0_hasJoined_63 : decode cX0_hasJoined 63 = .ok (.iload_n 2, 1) := dk_28 (dk_at dksX0_hasJoined_2 16 rfl rfl)
theorem dX0_hasJoined_64 : decode cX0_hasJoined 64 = .ok (.ireturn, 1) := dk_172 (dk_at dksX0_hasJoined_2 17 rfl rfl)
abbrev cX0_arrive : ByteArray := prog_1_method_70_code
def yX0_arrive : MethodName := ⟨RX0, "arrive", "(II)I"⟩
def dkwX0_arrive_5 : List UInt8 := [3, 182, 0, 173, 25, 4, 180, 1, 189, 172]
abbrev dktX0_arrive_5 : List UInt8 := dkwX0_arrive_5 ++ []
def dkwX0_arrive_4 : List UInt8 := [184, 1, 255, 25, 4, 28, 4, 160, 0, 7, 5, 167, 0, 4, 7, 181, 1, 189, 42, 16, 23, 28, 3, 3]
abbrev dktX0_arrive_4 : List UInt8 := dkwX0_arrive_4 ++ dktX0_arrive_5
def dkwX0_arrive_3 : List UInt8 := [180, 1, 206, 182, 1, 252, 154, 0, 6, 16, 254, 172, 42, 180, 0, 13, 3, 25, 4, 180, 1, 209, 3, 29]
abbrev dktX0_arrive_3 : List UInt8 := dkwX0_arrive_3 ++ dktX0_arrive_4
def dkwX0_arrive_2 : List UInt8 := [25, 4, 180, 1, 189, 153, 0, 6, 16, 252, 172, 28, 3, 4, 184, 0, 163, 153, 0, 16, 42, 29, 25, 4]
abbrev dktX0_arrive_2 : List UInt8 := dkwX0_arrive_2 ++ dktX0_arrive_3
def dkwX0_arrive_1 : List UInt8 := [154, 0, 6, 16, 253, 172, 42, 180, 0, 111, 27, 50, 58, 4, 25, 4, 180, 1, 186, 16, 6, 160, 0, 11]
abbrev dktX0_arrive_1 : List UInt8 := dkwX0_arrive_1 ++ dktX0_arrive_2
def dkwX0_arrive_0 : List UInt8 := [42, 180, 0, 160, 62, 42, 3, 181, 0, 160, 42, 27, 182, 1, 246, 154, 0, 5, 2, 172, 42, 182, 2, 5]
abbrev dktX0_arrive_0 : List UInt8 := dkwX0_arrive_0 ++ dktX0_arrive_1
theorem dksX0_arrive_0 : cX0_arrive.data.toList.drop 0 = dktX0_arrive_0 := by decide +kernel
theorem dksX0_arrive_1 : cX0_arrive.data.toList.drop 24 = dktX0_arrive_1 := dk_seg dksX0_arrive_0 24 rfl rfl
theorem dksX0_arrive_2 : cX0_arrive.data.toList.drop 48 = dktX0_arrive_2 := dk_seg dksX0_arrive_1 24 rfl rfl
theorem dksX0_arrive_3 : cX0_arrive.data.toList.drop 72 = dktX0_arrive_3 := dk_seg dksX0_arrive_2 24 rfl rfl
theorem dksX0_arrive_4 : cX0_arrive.data.toList.drop 96 = dktX0_arrive_4 := dk_seg dksX0_arrive_3 24 rfl rfl
theorem dksX0_arrive_5 : cX0_arrive.data.toList.drop 120 = dktX0_arrive_5 := dk_seg dksX0_arrive_4 24 rfl rfl
theorem dX0_arrive_0 : decode cX0_arrive 0 = .ok (.aload_n 0, 1) := dk_42 (dk_at dksX0_arrive_0 0 rfl rfl)
theorem dX0_arrive_1 : decode cX0_arrive 1 = .ok (.getfield 160, 3) := dk_180 0 160 (dk_at dksX0_arrive_0 1 rfl rfl)
theorem dX0_arrive_4 : decode cX0_arrive 4 = .ok (.istore_n 3, 1) := dk_62 (dk_at dksX0_arrive_0 4 rfl rfl)
theorem dX0_arrive_5 : decode cX0_arrive 5 = .ok (.aload_n 0, 1) := dk_42 (dk_at dksX0_arrive_0 5 rfl rfl)
theorem dX0_arrive_6 : decode cX0_arrive 6 = .ok (.iconst 0, 1) := dk_3 (dk_at dksX0_arrive_0 6 rfl rfl)
theorem dX0_arrive_7 : decode cX0_arrive 7 = .ok (.putfield 160, 3) := dk_181 0 160 (dk_at dksX0_arrive_0 7 rfl rfl)
theorem dX0_arrive_10 : decode cX0_arrive 10 = .ok (.aload_n 0, 1) := dk_42 (dk_at dksX0_arrive_0 10 rfl rfl)
theorem dX0_arrive_11 : decode cX0_arrive 11 = .ok (.iload_n 1, 1) := dk_27 (dk_at dksX0_arrive_0 11 rfl rfl)
theorem dX0_arrive_12 : decode cX0_arrive 12 = .ok (.invokevirtual 502, 3) := dk_182 1 246 (dk_at dksX0_arrive_0 12 rfl rfl)
theorem dX0_arrive_15 : decode cX0_arrive 15 = .ok (.ifCond .ne 5, 3) := dk_154 0 5 (dk_at dksX0_arrive_0 15 rfl rfl)
theorem dX0_arrive_18 : decode cX0_arrive 18 = .ok (.iconst (-1), 1) := dk_2 (dk_at dksX0_arrive_0 18 rfl rfl)
theorem dX0_arrive_19 : decode cX0_arrive 19 = .ok (.ireturn, 1) := dk_172 (dk_at dksX0_arrive_0 19 rfl rfl)
theorem dX0_arrive_20 : decode cX0_arrive 20 = .ok (.aload_n 0, 1) := dk_42 (dk_at dksX0_arrive_0 20 rfl rfl)
theorem dX0_arrive_21 : decode cX0_arrive 21 = .ok (.invokevirtual 517, 3) := dk_182 2 5 (dk_at dksX0_arrive_0 21 rfl rfl)
theorem dX0_arrive_24 : decode cX0_arrive 24 = .ok (.ifCond .ne 6, 3) := dk_154 0 6 (dk_at dksX0_arrive_1 0 rfl rfl)
theorem dX0_arrive_27 : decode cX0_arrive 27 = .ok (.bipush (-3), 2) := dk_16 253 (dk_at dksX0_arrive_1 3 rfl rfl)
theorem dX0_arrive_29 : decode cX0_arrive 29 = .ok (.ireturn, 1) := dk_172 (dk_at dksX0_arrive_1 5 rfl rfl)
theorem dX0_arrive_30 : decode cX0_arrive 30 = .ok (.aload_n 0, 1) := dk_42 (dk_at dksX0_arrive_1 6 rfl rfl)
theorem dX0_arrive_31 : decode cX0_arrive 31 = .ok (.getfield 111, 3) := dk_180 0 111 (dk_at dksX0_arrive_1 7 rfl rfl)
theorem dX0_arrive_34 : decode cX0_arrive 34 = .ok (.iload_n 1, 1) := dk_27 (dk_at dksX0_arrive_1 10 rfl rfl)
theorem dX0_arrive_35 : decode cX0_arrive 35 = .ok (.aaload, 1) := dk_50 (dk_at dksX0_arrive_1 11 rfl rfl)
theorem dX0_arrive_36 : decode cX0_arrive 36 = .ok (.astore 4, 2) := dk_58 4 (dk_at dksX0_arrive_1 12 rfl rfl)
theorem dX0_arrive_38 : decode cX0_arrive 38 = .ok (.aload 4, 2) := dk_25 4 (dk_at dksX0_arrive_1 14 rfl rfl)
theorem dX0_arrive_40 : decode cX0_arrive 40 = .ok (.getfield 442, 3) := dk_180 1 186 (dk_at dksX0_arrive_1 16 rfl rfl)
theorem dX0_arrive_43 : decode cX0_arrive 43 = .ok (.bipush 6, 2) := dk_16 6 (dk_at dksX0_arrive_1 19 rfl rfl)
theorem dX0_arrive_45 : decode cX0_arrive 45 = .ok (.if_icmp .ne 11, 3) := dk_160 0 11 (dk_at dksX0_arrive_1 21 rfl rfl)
theorem dX0_arrive_48 : decode cX0_arrive 48 = .ok (.aload 4, 2) := dk_25 4 (dk_at dksX0_arrive_2 0 rfl rfl)
theorem dX0_arrive_50 : decode cX0_arrive 50 = .ok (.getfield 445, 3) := dk_180 1 189 (dk_at dksX0_arrive_2 2 rfl rfl)
theorem dX0_arrive_53 : decode cX0_arrive 53 = .ok (.ifCond .eq 6, 3) := dk_153 0 6 (dk_at dksX0_arrive_2 5 rfl rfl)
theorem dX0_arrive_56 : decode cX0_arrive 56 = .ok (.bipush (-4), 2) := dk_16 252 (dk_at dksX0_arrive_2 8 rfl rfl)
theorem dX0_arrive_58 : decode cX0_arrive 58 = .ok (.ireturn, 1) := dk_172 (dk_at dksX0_arrive_2 10 rfl rfl)
theorem dX0_arrive_59 : decode cX0_arrive 59 = .ok (.iload_n 2, 1) := dk_28 (dk_at dksX0_arrive_2 11 rfl rfl)
theorem dX0_arrive_60 : decode cX0_arrive 60 = .ok (.iconst 0, 1) := dk_3 (dk_at dksX0_arrive_2 12 rfl rfl)
theorem dX0_arrive_61 : decode cX0_arrive 61 = .ok (.iconst 1, 1) := dk_4 (dk_at dksX0_arrive_2 13 rfl rfl)
theorem dX0_arrive_62 : decode cX0_arrive 62 = .ok (.invokestatic 163, 3) := dk_184 0 163 (dk_at dksX0_arrive_2 14 rfl rfl)
theorem dX0_arrive_65 : decode cX0_arrive 65 = .ok (.ifCond .eq 16, 3) := dk_153 0 16 (dk_at dksX0_arrive_2 17 rfl rfl)
theorem dX0_arrive_68 : decode cX0_arrive 68 = .ok (.aload_n 0, 1) := dk_42 (dk_at dksX0_arrive_2 20 rfl rfl)
theorem dX0_arrive_69 : decode cX0_arrive 69 = .ok (.iload_n 3, 1) := dk_29 (dk_at dksX0_arrive_2 21 rfl rfl)
theorem dX0_arrive_70 : decode cX0_arrive 70 = .ok (.aload 4, 2) := dk_25 4 (dk_at dksX0_arrive_2 22 rfl rfl)
theorem dX0_arrive_72 : decode cX0_arrive 72 = .ok (.getfield 462, 3) := dk_180 1 206 (dk_at dksX0_arrive_3 0 rfl rfl)
theorem dX0_arrive_75 : decode cX0_arrive 75 = .ok (.invokevirtual 508, 3) := dk_182 1 252 (dk_at dksX0_arrive_3 3 rfl rfl)
theorem dX0_arrive_78 : decode cX0_arrive 78 = .ok (.ifCond .ne 6, 3) := dk_154 0 6 (dk_at dksX0_arrive_3 6 rfl rfl)
theorem dX0_arrive_81 : decode cX0_arrive 81 = .ok (.bipush (-2), 2) := dk_16 254 (dk_at dksX0_arrive_3 9 rfl rfl)
theorem dX0_arrive_83 : decode cX0_arrive 83 = .ok (.ireturn, 1) := dk_172 (dk_at dksX0_arrive_3 11 rfl rfl)
theorem dX0_arrive_84 : decode cX0_arrive 84 = .ok (.aload_n 0, 1) := dk_42 (dk_at dksX0_arrive_3 12 rfl rfl)
theorem dX0_arrive_85 : decode cX0_arrive 85 = .ok (.getfield 13, 3) := dk_180 0 13 (dk_at dksX0_arrive_3 13 rfl rfl)
theorem dX0_arrive_88 : decode cX0_arrive 88 = .ok (.iconst 0, 1) := dk_3 (dk_at dksX0_arrive_3 16 rfl rfl)
theorem dX0_arrive_89 : decode cX0_arrive 89 = .ok (.aload 4, 2) := dk_25 4 (dk_at dksX0_arrive_3 17 rfl rfl)
theorem dX0_arrive_91 : decode cX0_arrive 91 = .ok (.getfield 465, 3) := dk_180 1 209 (dk_at dksX0_arrive_3 19 rfl rfl)
theorem dX0_arrive_94 : decode cX0_arrive 94 = .ok (.iconst 0, 1) := dk_3 (dk_at dksX0_arrive_3 22 rfl rfl)
theorem dX0_arrive_95 : decode cX0_arrive 95 = .ok (.iload_n 3, 1) := dk_29 (dk_at dksX0_arrive_3 23 rfl rfl)
theorem dX0_arrive_96 : decode cX0_arrive 96 = .ok (.invokestatic 511, 3) := dk_184 1 255 (dk_at dksX0_arrive_4 0 rfl rfl)
theorem dX0_arrive_99 : decode cX0_arrive 99 = .ok (.aload 4, 2) := dk_25 4 (dk_at dksX0_arrive_4 3 rfl rfl)
theorem dX0_arrive_101 : decode cX0_arrive 101 = .ok (.iload_n 2, 1) := dk_28 (dk_at dksX0_arrive_4 5 rfl rfl)
theorem dX0_arrive_102 : decode cX0_arrive 102 = .ok (.iconst 1, 1) := dk_4 (dk_at dksX0_arrive_4 6 rfl rfl)
theorem dX0_arrive_103 : decode cX0_arrive 103 = .ok (.if_icmp .ne 7, 3) := dk_160 0 7 (dk_at dksX0_arrive_4 7 rfl rfl)
theorem dX0_arrive_106 : decode cX0_arrive 106 = .ok (.iconst 2, 1) := dk_5 (dk_at dksX0_arrive_4 10 rfl rfl)
theorem dX0_arrive_107 : decode cX0_arrive 107 = .ok (.goto 4, 3) := dk_167 0 4 (dk_at dksX0_arrive_4 11 rfl rfl)
theorem dX0_arrive_110 : decode cX0_arrive 110 = .ok (.iconst 4, 1) := dk_7 (dk_at dksX0_arrive_4 14 rfl rfl)
theorem dX0_arrive_111 : decode cX0_arrive 111 = .ok (.putfield 445, 3) := dk_181 1 189 (dk_at dksX0_arrive_4 15 rfl rfl)
theorem dX0_arrive_114 : decode cX0_arrive 114 = .ok (.aload_n 0, 1) := dk_42 (dk_at dksX0_arrive_4 18 rfl rfl)
theorem dX0_arrive_115 : decode cX0_arrive 115 = .ok (.bipush 23, 2) := dk_16 23 (dk_at dksX0_arrive_4 19 rfl rfl)
theorem dX0_arrive_117 : decode cX0_arrive 117 = .ok (.iload_n 2, 1) := dk_28 (dk_at dksX0_arrive_4 21 rfl rfl)
theorem dX0_arrive_118 : decode cX0_arrive 118 = .ok (.iconst 0, 1) := dk_3 (dk_at dksX0_arrive_4 22 rfl rfl)
theorem dX0_arrive_119 : decode cX0_arrive 119 = .ok (.iconst 0, 1) := dk_3 (dk_at dksX0_arrive_4 23 rfl rfl)
theorem dX0_arrive_120 : decode cX0_arrive 120 = .ok (.iconst 0, 1) := dk_3 (dk_at dksX0_arrive_5 0 rfl rfl)
theorem dX0_arrive_121 : decode cX0_arrive 121 = .ok (.invokevirtual 173, 3) := dk_182 0 173 (dk_at dksX0_arrive_5 1 rfl rfl)
theorem dX0_arrive_124 : decode cX0_arrive 124 = .ok (.aload 4, 2) := dk_25 4 (dk_at dksX0_arrive_5 4 rfl rfl)
theorem dX0_arrive_126 : decode cX0_arrive 126 = .ok (.getfield 445, 3) := dk_180 1 189 (dk_at dksX0_arrive_5 6 rfl rfl)
theorem dX0_arrive_129 : decode cX0_arrive 129 = .ok (.ireturn, 1) := dk_172 (dk_at dksX0_arrive_5 9 rfl rfl)
abbrev cX0_open : ByteArray := prog_1_method_71_code
def yX0_open : MethodName := ⟨RX0, "open", "()I"⟩
def dkwX0_open_7 : List UInt8 := [3, 3, 182, 0, 173, 27, 172]
abbrev dktX0_open_7 : List UInt8 := dkwX0_open_7 ++ []
def dkwX0_open_6 : List UInt8 := [160, 0, 13, 42, 42, 180, 0, 111, 28, 50, 182, 1, 226, 132, 2, 1, 167, 255, 208, 42, 16, 24, 3, 3]
abbrev dktX0_open_6 : List UInt8 := dkwX0_open_6 ++ dktX0_open_7
def dkwX0_open_5 : List UInt8 := [180, 0, 111, 28, 50, 180, 1, 186, 16, 6, 160, 0, 26, 42, 180, 0, 111, 28, 50, 180, 1, 189, 5]
abbrev dktX0_open_5 : List UInt8 := dkwX0_open_5 ++ dktX0_open_6
def dkwX0_open_4 : List UInt8 := [167, 255, 210, 27, 5, 162, 0, 6, 16, 252, 172, 3, 61, 28, 42, 180, 1, 21, 162, 0, 46, 42]
abbrev dktX0_open_4 : List UInt8 := dkwX0_open_4 ++ dktX0_open_5
def dkwX0_open_3 : List UInt8 := [180, 0, 111, 28, 50, 180, 1, 189, 5, 160, 0, 7, 4, 167, 0, 4, 3, 96, 60, 132, 2, 1]
abbrev dktX0_open_3 : List UInt8 := dkwX0_open_3 ++ dktX0_open_4
def dkwX0_open_2 : List UInt8 := [42, 180, 1, 21, 162, 0, 44, 27, 42, 180, 0, 111, 28, 50, 180, 1, 186, 16, 6, 160, 0, 20, 42]
abbrev dktX0_open_2 : List UInt8 := dkwX0_open_2 ++ dktX0_open_3
def dkwX0_open_1 : List UInt8 := [161, 0, 16, 42, 180, 0, 120, 16, 6, 50, 180, 1, 180, 153, 0, 6, 16, 253, 172, 3, 60, 3, 61, 28]
abbrev dktX0_open_1 : List UInt8 := dkwX0_open_1 ++ dktX0_open_2
def dkwX0_open_0 : List UInt8 := [42, 180, 0, 237, 154, 0, 5, 2, 172, 42, 180, 0, 167, 42, 180, 0, 42, 180, 1, 37, 6, 46]
abbrev dktX0_open_0 : List UInt8 := dkwX0_open_0 ++ dktX0_open_1
theorem dksX0_open_0 : cX0_open.data.toList.drop 0 = dktX0_open_0 := by decide +kernel
theorem dksX0_open_1 : cX0_open.data.toList.drop 22 = dktX0_open_1 := dk_seg dksX0_open_0 22 rfl rfl
theorem dksX0_open_2 : cX0_open.data.toList.drop 46 = dktX0_open_2 := dk_seg dksX0_open_1 24 rfl rfl
theorem dksX0_open_3 : cX0_open.data.toList.drop 69 = dktX0_open_3 := dk_seg dksX0_open_2 23 rfl rfl
theorem dksX0_open_4 : cX0_open.data.toList.drop 91 = dktX0_open_4 := dk_seg dksX0_open_3 22 rfl rfl
theorem dksX0_open_5 : cX0_open.data.toList.drop 113 = dktX0_open_5 := dk_seg dksX0_open_4 22 rfl rfl
theorem dksX0_open_6 : cX0_open.data.toList.drop 136 = dktX0_open_6 := dk_seg dksX0_open_5 23 rfl rfl
theorem dksX0_open_7 : cX0_open.data.toList.drop 160 = dktX0_open_7 := dk_seg dksX0_open_6 24 rfl rfl
theorem dX0_open_0 : decode cX0_open 0 = .ok (.aload_n 0, 1) := dk_42 (dk_at dksX0_open_0 0 rfl rfl)
theorem dX0_open_1 : decode cX0_open 1 = .ok (.getfield 237, 3) := dk_180 0 237 (dk_at dksX0_open_0 1 rfl rfl)
theorem dX0_open_4 : decode cX0_open 4 = .ok (.ifCond .ne 5, 3) := dk_154 0 5 (dk_at dksX0_open_0 4 rfl rfl)
theorem dX0_open_7 : decode cX0_open 7 = .ok (.iconst (-1), 1) := dk_2 (dk_at dksX0_open_0 7 rfl rfl)
theorem dX0_open_8 : decode cX0_open 8 = .ok (.ireturn, 1) := dk_172 (dk_at dksX0_open_0 8 rfl rfl)
theorem dX0_open_9 : decode cX0_open 9 = .ok (.aload_n 0, 1) := dk_42 (dk_at dksX0_open_0 9 rfl rfl)
theorem dX0_open_10 : decode cX0_open 10 = .ok (.getfield 167, 3) := dk_180 0 167 (dk_at dksX0_open_0 10 rfl rfl)
theorem dX0_open_13 : decode cX0_open 13 = .ok (.aload_n 0, 1) := dk_42 (dk_at dksX0_open_0 13 rfl rfl)
theorem dX0_open_14 : decode cX0_open 14 = .ok (.getfield 42, 3) := dk_180 0 42 (dk_at dksX0_open_0 14 rfl rfl)
theorem dX0_open_17 : decode cX0_open 17 = .ok (.getfield 293, 3) := dk_180 1 37 (dk_at dksX0_open_0 17 rfl rfl)
theorem dX0_open_20 : decode cX0_open 20 = .ok (.iconst 3, 1) := dk_6 (dk_at dksX0_open_0 20 rfl rfl)
theorem dX0_open_21 : decode cX0_open 21 = .ok (.iaload, 1) := dk_46 (dk_at dksX0_open_0 21 rfl rfl)
theorem dX0_open_22 : decode cX0_open 22 = .ok (.if_icmp .lt 16, 3) := dk_161 0 16 (dk_at dksX0_open_1 0 rfl rfl)
theorem dX0_open_25 : decode cX0_open 25 = .ok (.aload_n 0, 1) := dk_42 (dk_at dksX0_open_1 3 rfl rfl)
theorem dX0_open_26 : decode cX0_open 26 = .ok (.getfield 120, 3) := dk_180 0 120 (dk_at dksX0_open_1 4 rfl rfl)
theorem dX0_open_29 : decode cX0_open 29 = .ok (.bipush 6, 2) := dk_16 6 (dk_at dksX0_open_1 7 rfl rfl)
theorem dX0_open_31 : decode cX0_open 31 = .ok (.aaload, 1) := dk_50 (dk_at dksX0_open_1 9 rfl rfl)
theorem dX0_open_32 : decode cX0_open 32 = .ok (.getfield 436, 3) := dk_180 1 180 (dk_at dksX0_open_1 10 rfl rfl)
theorem dX0_open_35 : decode cX0_open 35 = .ok (.ifCond .eq 6, 3) := dk_153 0 6 (dk_at dksX0_open_1 13 rfl rfl)
theorem dX0_open_38 : decode cX0_open 38 = .ok (.bipush (-3), 2) := dk_16 253 (dk_at dksX0_open_1 16 rfl rfl)
theorem dX0_open_40 : decode cX0_open 40 = .ok (.ireturn, 1) := dk_172 (dk_at dksX0_open_1 18 rfl rfl)
theorem dX0_open_41 : decode cX0_open 41 = .ok (.iconst 0, 1) := dk_3 (dk_at dksX0_open_1 19 rfl rfl)
theorem dX0_open_42 : decode cX0_open 42 = .ok (.istore_n 1, 1) := dk_60 (dk_at dksX0_open_1 20 rfl rfl)
theorem dX0_open_43 : decode cX0_open 43 = .ok (.iconst 0, 1) := dk_3 (dk_at dksX0_open_1 21 rfl rfl)
theorem dX0_open_44 : decode cX0_open 44 = .ok (.istore_n 2, 1) := dk_61 (dk_at dksX0_open_1 22 rfl rfl)
theorem dX0_open_45 : decode cX0_open 45 = .ok (.iload_n 2, 1) := dk_28 (dk_at dksX0_open_1 23 rfl rfl)
theorem dX0_open_46 : decode cX0_open 46 = .ok (.aload_n 0, 1) := dk_42 (dk_at dksX0_open_2 0 rfl rfl)
theorem dX0_open_47 : decode cX0_open 47 = .ok (.getfield 277, 3) := dk_180 1 21 (dk_at dksX0_open_2 1 rfl rfl)
theorem dX0_open_50 : decode cX0_open 50 = .ok (.if_icmp .ge 44, 3) := dk_162 0 44 (dk_at dksX0_open_2 4 rfl rfl)
theorem dX0_open_53 : decode cX0_open 53 = .ok (.iload_n 1, 1) := dk_27 (dk_at dksX0_open_2 7 rfl rfl)
theorem dX0_open_54 : decode cX0_open 54 = .ok (.aload_n 0, 1) := dk_42 (dk_at dksX0_open_2 8 rfl rfl)
theorem dX0_open_55 : decode cX0_open 55 = .ok (.getfield 111, 3) := dk_180 0 111 (dk_at dksX0_open_2 9 rfl rfl)
theorem dX0_open_58 : decode cX0_open 58 = .ok (.iload_n 2, 1) := dk_28 (dk_at dksX0_open_2 12 rfl rfl)
theorem dX0_open_59 : decode cX0_open 59 = .ok (.aaload, 1) := dk_50 (dk_at dksX0_open_2 13 rfl rfl)
theorem dX0_open_60 : decode cX0_open 60 = .ok (.getfield 442, 3) := dk_180 1 186 (dk_at dksX0_open_2 14 rfl rfl)
theorem dX0_open_63 : decode cX0_open 63 = .ok (.bipush 6, 2) := dk_16 6 (dk_at dksX0_open_2 17 rfl rfl)
theorem dX0_open_65 : decode cX0_open 65 = .ok (.if_icmp .ne 20, 3) := dk_160 0 20 (dk_at dksX0_open_2 19 rfl rfl)
theorem dX0_open_68 : decode cX0_open 68 = .ok (.aload_n 0, 1) := dk_42 (dk_at dksX0_open_2 22 rfl rfl)
theorem dX0_open_69 : decode cX0_open 69 = .ok (.getfield 111, 3) := dk_180 0 111 (dk_at dksX0_open_3 0 rfl rfl)
theorem dX0_open_72 : decode cX0_open 72 = .ok (.iload_n 2, 1) := dk_28 (dk_at dksX0_open_3 3 rfl rfl)
theorem dX0_open_73 : decode cX0_open 73 = .ok (.aaload, 1) := dk_50 (dk_at dksX0_open_3 4 rfl rfl)
theorem dX0_open_74 : decode cX0_open 74 = .ok (.getfield 445, 3) := dk_180 1 189 (dk_at dksX0_open_3 5 rfl rfl)
theorem dX0_open_77 : decode cX0_open 77 = .ok (.iconst 2, 1) := dk_5 (dk_at dksX0_open_3 8 rfl rfl)
theorem dX0_open_78 : decode cX0_open 78 = .ok (.if_icmp .ne 7, 3) := dk_160 0 7 (dk_at dksX0_open_3 9 rfl rfl)
theorem dX0_open_81 : decode cX0_open 81 = .ok (.iconst 1, 1) := dk_4 (dk_at dksX0_open_3 12 rfl rfl)
theorem dX0_open_82 : decode cX0_open 82 = .ok (.goto 4, 3) := dk_167 0 4 (dk_at dksX0_open_3 13 rfl rfl)
theorem dX0_open_85 : decode cX0_open 85 = .ok (.iconst 0, 1) := dk_3 (dk_at dksX0_open_3 16 rfl rfl)
theorem dX0_open_86 : decode cX0_open 86 = .ok (.iadd, 1) := dk_96 (dk_at dksX0_open_3 17 rfl rfl)
theorem dX0_open_87 : decode cX0_open 87 = .ok (.istore_n 1, 1) := dk_60 (dk_at dksX0_open_3 18 rfl rfl)
theorem dX0_open_88 : decode cX0_open 88 = .ok (.iinc 2 1, 3) := dk_132 2 1 (dk_at dksX0_open_3 19 rfl rfl)
theorem dX0_open_91 : decode cX0_open 91 = .ok (.goto (-46), 3) := dk_167 255 210 (dk_at dksX0_open_4 0 rfl rfl)
theorem dX0_open_94 : decode cX0_open 94 = .ok (.iload_n 1, 1) := dk_27 (dk_at dksX0_open_4 3 rfl rfl)
theorem dX0_open_95 : decode cX0_open 95 = .ok (.iconst 2, 1) := dk_5 (dk_at dksX0_open_4 4 rfl rfl)
theorem dX0_open_96 : decode cX0_open 96 = .ok (.if_icmp .ge 6, 3) := dk_162 0 6 (dk_at dksX0_open_4 5 rfl rfl)
theorem dX0_open_99 : decode cX0_open 99 = .ok (.bipush (-4), 2) := dk_16 252 (dk_at dksX0_open_4 8 rfl rfl)
theorem dX0_open_101 : decode cX0_open 101 = .ok (.ireturn, 1) := dk_172 (dk_at dksX0_open_4 10 rfl rfl)
theorem dX0_open_102 : decode cX0_open 102 = .ok (.iconst 0, 1) := dk_3 (dk_at dksX0_open_4 11 rfl rfl)
theorem dX0_open_103 : decode cX0_open 103 = .ok (.istore_n 2, 1) := dk_61 (dk_at dksX0_open_4 12 rfl rfl)
theorem dX0_open_104 : decode cX0_open 104 = .ok (.iload_n 2, 1) := dk_28 (dk_at dksX0_open_4 13 rfl rfl)
theorem dX0_open_105 : decode cX0_open 105 = .ok (.aload_n 0, 1) := dk_42 (dk_at dksX0_open_4 14 rfl rfl)
theorem dX0_open_106 : decode cX0_open 106 = .ok (.getfield 277, 3) := dk_180 1 21 (dk_at dksX0_open_4 15 rfl rfl)
theorem dX0_open_109 : decode cX0_open 109 = .ok (.if_icmp .ge 46, 3) := dk_162 0 46 (dk_at dksX0_open_4 18 rfl rfl)
theorem dX0_open_112 : decode cX0_open 112 = .ok (.aload_n 0, 1) := dk_42 (dk_at dksX0_open_4 21 rfl rfl)
theorem dX0_open_113 : decode cX0_open 113 = .ok (.getfield 111, 3) := dk_180 0 111 (dk_at dksX0_open_5 0 rfl rfl)
theorem dX0_open_116 : decode cX0_open 116 = .ok (.iload_n 2, 1) := dk_28 (dk_at dksX0_open_5 3 rfl rfl)
theorem dX0_open_117 : decode cX0_open 117 = .ok (.aaload, 1) := dk_50 (dk_at dksX0_open_5 4 rfl rfl)
theorem dX0_open_118 : decode cX0_open 118 = .ok (.getfield 442, 3) := dk_180 1 186 (dk_at dksX0_open_5 5 rfl rfl)
theorem dX0_open_121 : decode cX0_open 121 = .ok (.bipush 6, 2) := dk_16 6 (dk_at dksX0_open_5 8 rfl rfl)
theorem dX0_open_123 : decode cX0_open 123 = .ok (.if_icmp .ne 26, 3) := dk_160 0 26 (dk_at dksX0_open_5 10 rfl rfl)
theorem dX0_open_126 : decode cX0_open 126 = .ok (.aload_n 0, 1) := dk_42 (dk_at dksX0_open_5 13 rfl rfl)
theorem dX0_open_127 : decode cX0_open 127 = .ok (.getfield 111, 3) := dk_180 0 111 (dk_at dksX0_open_5 14 rfl rfl)
theorem dX0_open_130 : decode cX0_open 130 = .ok (.iload_n 2, 1) := dk_28 (dk_at dksX0_open_5 17 rfl rfl)
theorem dX0_open_131 : decode cX0_open 131 = .ok (.aaload, 1) := dk_50 (dk_at dksX0_open_5 18 rfl rfl)
theorem dX0_open_132 : decode cX0_open 132 = .ok (.getfield 445, 3) := dk_180 1 189 (dk_at dksX0_open_5 19 rfl rfl)
theorem dX0_open_135 : decode cX0_open 135 = .ok (.iconst 2, 1) := dk_5 (dk_at dksX0_open_5 22 rfl rfl)
theorem dX0_open_136 : decode cX0_open 136 = .ok (.if_icmp .ne 13, 3) := dk_160 0 13 (dk_at dksX0_open_6 0 rfl rfl)
theorem dX0_open_139 : decode cX0_open 139 = .ok (.aload_n 0, 1) := dk_42 (dk_at dksX0_open_6 3 rfl rfl)
theorem dX0_open_140 : decode cX0_open 140 = .ok (.aload_n 0, 1) := dk_42 (dk_at dksX0_open_6 4 rfl rfl)
theorem dX0_open_141 : decode cX0_open 141 = .ok (.getfield 111, 3) := dk_180 0 111 (dk_at dksX0_open_6 5 rfl rfl)
theorem dX0_open_144 : decode cX0_open 144 = .ok (.iload_n 2, 1) := dk_28 (dk_at dksX0_open_6 8 rfl rfl)
theorem dX0_open_145 : decode cX0_open 145 = .ok (.aaload, 1) := dk_50 (dk_at dksX0_open_6 9 rfl rfl)
theorem dX0_open_146 : decode cX0_open 146 = .ok (.invokevirtual 482, 3) := dk_182 1 226 (dk_at dksX0_open_6 10 rfl rfl)
theorem dX0_open_149 : decode cX0_open 149 = .ok (.iinc 2 1, 3) := dk_132 2 1 (dk_at dksX0_open_6 13 rfl rfl)
theorem dX0_open_152 : decode cX0_open 152 = .ok (.goto (-48), 3) := dk_167 255 208 (dk_at dksX0_open_6 16 rfl rfl)
theorem dX0_open_155 : decode cX0_open 155 = .ok (.aload_n 0, 1) := dk_42 (dk_at dksX0_open_6 19 rfl rfl)
theorem dX0_open_156 : decode cX0_open 156 = .ok (.bipush 24, 2) := dk_16 24 (dk_at dksX0_open_6 20 rfl rfl)
theorem dX0_open_158 : decode cX0_open 158 = .ok (.iconst 0, 1) := dk_3 (dk_at dksX0_open_6 22 rfl rfl)
theorem dX0_open_159 : decode cX0_open 159 = .ok (.iconst 0, 1) := dk_3 (dk_at dksX0_open_6 23 rfl rfl)
theorem dX0_open_160 : decode cX0_open 160 = .ok (.iconst 0, 1) := dk_3 (dk_at dksX0_open_7 0 rfl rfl)
theorem dX0_open_161 : decode cX0_open 161 = .ok (.iconst 0, 1) := dk_3 (dk_at dksX0_open_7 1 rfl rfl)
theorem dX0_open_162 : decode cX0_open 162 = .ok (.invokevirtual 173, 3) := dk_182 0 173 (dk_at dksX0_open_7 2 rfl rfl)
theorem dX0_open_165 : decode cX0_open 165 = .ok (.iload_n 1, 1) := dk_27 (dk_at dksX0_open_7 5 rfl rfl)
theorem dX0_open_166 : decode cX0_open 166 = .ok (.ireturn, 1) := dk_172 (dk_at dksX0_open_7 6 rfl rfl)
abbrev cX0_close : ByteArray := prog_1_method_72_code
def yX0_close : MethodName := ⟨RX0, "close", "(I)I"⟩
def dkwX0_close_6 : List UInt8 := [182, 0, 173, 28, 172]
abbrev dktX0_close_6 : List UInt8 := dkwX0_close_6 ++ []
def dkwX0_close_5 : List UInt8 := [132, 3, 1, 167, 255, 202, 42, 180, 0, 120, 27, 50, 182, 2, 14, 42, 16, 25, 27, 3, 3, 3]
abbrev dktX0_close_5 : List UInt8 := dkwX0_close_5 ++ dktX0_close_6
def dkwX0_close_4 : List UInt8 := [182, 1, 194, 153, 0, 21, 25, 4, 180, 1, 189, 6, 159, 0, 12, 25, 4, 7, 181, 1, 189, 132, 2, 1]
abbrev dktX0_close_4 : List UInt8 := dkwX0_close_4 ++ dktX0_close_5
def dkwX0_close_3 : List UInt8 := [162, 0, 52, 42, 180, 0, 111, 29, 50, 58, 4, 25, 4, 180, 1, 186, 27, 160, 0, 29, 25, 4]
abbrev dktX0_close_3 : List UInt8 := dkwX0_close_3 ++ dktX0_close_4
def dkwX0_close_2 : List UInt8 := [180, 0, 120, 27, 50, 180, 1, 180, 153, 0, 6, 16, 252, 172, 3, 61, 3, 62, 29, 42, 180, 1, 21]
abbrev dktX0_close_2 : List UInt8 := dkwX0_close_2 ++ dktX0_close_3
def dkwX0_close_1 : List UInt8 := [161, 0, 18, 27, 16, 6, 159, 0, 15, 42, 180, 0, 101, 27, 51, 153, 0, 6, 16, 253, 172, 42]
abbrev dktX0_close_1 : List UInt8 := dkwX0_close_1 ++ dktX0_close_2
def dkwX0_close_0 : List UInt8 := [42, 27, 182, 2, 11, 154, 0, 5, 2, 172, 42, 180, 0, 167, 42, 180, 0, 42, 180, 1, 37, 6, 46]
abbrev dktX0_close_0 : List UInt8 := dkwX0_close_0 ++ dktX0_close_1
theorem dksX0_close_0 : cX0_close.data.toList.drop 0 = dktX0_close_0 := by decide +kernel
theorem dksX0_close_1 : cX0_close.data.toList.drop 23 = dktX0_close_1 := dk_seg dksX0_close_0 23 rfl rfl
theorem dksX0_close_2 : cX0_close.data.toList.drop 45 = dktX0_close_2 := dk_seg dksX0_close_1 22 rfl rfl
theorem dksX0_close_3 : cX0_close.data.toList.drop 68 = dktX0_close_3 := dk_seg dksX0_close_2 23 rfl rfl
theorem dksX0_close_4 : cX0_close.data.toList.drop 90 = dktX0_close_4 := dk_seg dksX0_close_3 22 rfl rfl
theorem dksX0_close_5 : cX0_close.data.toList.drop 114 = dktX0_close_5 := dk_seg dksX0_close_4 24 rfl rfl
theorem dksX0_close_6 : cX0_close.data.toList.drop 136 = dktX0_close_6 := dk_seg dksX0_close_5 22 rfl rfl
theorem dX0_close_0 : decode cX0_close 0 = .ok (.aload_n 0, 1) := dk_42 (dk_at dksX0_close_0 0 rfl rfl)
theorem dX0_close_1 : decode cX0_close 1 = .ok (.iload_n 1, 1) := dk_27 (dk_at dksX0_close_0 1 rfl rfl)
theorem dX0_close_2 : decode cX0_close 2 = .ok (.invokevirtual 523, 3) := dk_182 2 11 (dk_at dksX0_close_0 2 rfl rfl)
theorem dX0_close_5 : decode cX0_close 5 = .ok (.ifCond .ne 5, 3) := dk_154 0 5 (dk_at dksX0_close_0 5 rfl rfl)
theorem dX0_close_8 : decode cX0_close 8 = .ok (.iconst (-1), 1) := dk_2 (dk_at dksX0_close_0 8 rfl rfl)
theorem dX0_close_9 : decode cX0_close 9 = .ok (.ireturn, 1) := dk_172 (dk_at dksX0_close_0 9 rfl rfl)
theorem dX0_close_10 : decode cX0_close 10 = .ok (.aload_n 0, 1) := dk_42 (dk_at dksX0_close_0 10 rfl rfl)
theorem dX0_close_11 : decode cX0_close 11 = .ok (.getfield 167, 3) := dk_180 0 167 (dk_at dksX0_close_0 11 rfl rfl)
theorem dX0_close_14 : decode cX0_close 14 = .ok (.aload_n 0, 1) := dk_42 (dk_at dksX0_close_0 14 rfl rfl)
theorem dX0_close_15 : decode cX0_close 15 = .ok (.getfield 42, 3) := dk_180 0 42 (dk_at dksX0_close_0 15 rfl rfl)
theorem dX0_close_18 : decode cX0_close 18 = .ok (.getfield 293, 3) := dk_180 1 37 (dk_at dksX0_close_0 18 rfl rfl)
theorem dX0_close_21 : decode cX0_close 21 = .ok (.iconst 3, 1) := dk_6 (dk_at dksX0_close_0 21 rfl rfl)
theorem dX0_close_22 : decode cX0_close 22 = .ok (.iaload, 1) := dk_46 (dk_at dksX0_close_0 22 rfl rfl)
theorem dX0_close_23 : decode cX0_close 23 = .ok (.if_icmp .lt 18, 3) := dk_161 0 18 (dk_at dksX0_close_1 0 rfl rfl)
theorem dX0_close_26 : decode cX0_close 26 = .ok (.iload_n 1, 1) := dk_27 (dk_at dksX0_close_1 3 rfl rfl)
theorem dX0_close_27 : decode cX0_close 27 = .ok (.bipush 6, 2) := dk_16 6 (dk_at dksX0_close_1 4 rfl rfl)
theorem dX0_close_29 : decode cX0_close 29 = .ok (.if_icmp .eq 15, 3) := dk_159 0 15 (dk_at dksX0_close_1 6 rfl rfl)
theorem dX0_close_32 : decode cX0_close 32 = .ok (.aload_n 0, 1) := dk_42 (dk_at dksX0_close_1 9 rfl rfl)
theorem dX0_close_33 : decode cX0_close 33 = .ok (.getfield 101, 3) := dk_180 0 101 (dk_at dksX0_close_1 10 rfl rfl)
theorem dX0_close_36 : decode cX0_close 36 = .ok (.iload_n 1, 1) := dk_27 (dk_at dksX0_close_1 13 rfl rfl)
theorem dX0_close_37 : decode cX0_close 37 = .ok (.baload, 1) := dk_51 (dk_at dksX0_close_1 14 rfl rfl)
theorem dX0_close_38 : decode cX0_close 38 = .ok (.ifCond .eq 6, 3) := dk_153 0 6 (dk_at dksX0_close_1 15 rfl rfl)
theorem dX0_close_41 : decode cX0_close 41 = .ok (.bipush (-3), 2) := dk_16 253 (dk_at dksX0_close_1 18 rfl rfl)
theorem dX0_close_43 : decode cX0_close 43 = .ok (.ireturn, 1) := dk_172 (dk_at dksX0_close_1 20 rfl rfl)
theorem dX0_close_44 : decode cX0_close 44 = .ok (.aload_n 0, 1) := dk_42 (dk_at dksX0_close_1 21 rfl rfl)
theorem dX0_close_45 : decode cX0_close 45 = .ok (.getfield 120, 3) := dk_180 0 120 (dk_at dksX0_close_2 0 rfl rfl)
theorem dX0_close_48 : decode cX0_close 48 = .ok (.iload_n 1, 1) := dk_27 (dk_at dksX0_close_2 3 rfl rfl)
theorem dX0_close_49 : decode cX0_close 49 = .ok (.aaload, 1) := dk_50 (dk_at dksX0_close_2 4 rfl rfl)
theorem dX0_close_50 : decode cX0_close 50 = .ok (.getfield 436, 3) := dk_180 1 180 (dk_at dksX0_close_2 5 rfl rfl)
theorem dX0_close_53 : decode cX0_close 53 = .ok (.ifCond .eq 6, 3) := dk_153 0 6 (dk_at dksX0_close_2 8 rfl rfl)
theorem dX0_close_56 : decode cX0_close 56 = .ok (.bipush (-4), 2) := dk_16 252 (dk_at dksX0_close_2 11 rfl rfl)
theorem dX0_close_58 : decode cX0_close 58 = .ok (.ireturn, 1) := dk_172 (dk_at dksX0_close_2 13 rfl rfl)
theorem dX0_close_59 : decode cX0_close 59 = .ok (.iconst 0, 1) := dk_3 (dk_at dksX0_close_2 14 rfl rfl)
theorem dX0_close_60 : decode cX0_close 60 = .ok (.istore_n 2, 1) := dk_61 (dk_at dksX0_close_2 15 rfl rfl)
theorem dX0_close_61 : decode cX0_close 61 = .ok (.iconst 0, 1) := dk_3 (dk_at dksX0_close_2 16 rfl rfl)
theorem dX0_close_62 : decode cX0_close 62 = .ok (.istore_n 3, 1) := dk_62 (dk_at dksX0_close_2 17 rfl rfl)
theorem dX0_close_63 : decode cX0_close 63 = .ok (.iload_n 3, 1) := dk_29 (dk_at dksX0_close_2 18 rfl rfl)
theorem dX0_close_64 : decode cX0_close 64 = .ok (.aload_n 0, 1) := dk_42 (dk_at dksX0_close_2 19 rfl rfl)
theorem dX0_close_65 : decode cX0_close 65 = .ok (.getfield 277, 3) := dk_180 1 21 (dk_at dksX0_close_2 20 rfl rfl)
theorem dX0_close_68 : decode cX0_close 68 = .ok (.if_icmp .ge 52, 3) := dk_162 0 52 (dk_at dksX0_close_3 0 rfl rfl)
theorem dX0_close_71 : decode cX0_close 71 = .ok (.aload_n 0, 1) := dk_42 (dk_at dksX0_close_3 3 rfl rfl)
theorem dX0_close_72 : decode cX0_close 72 = .ok (.getfield 111, 3) := dk_180 0 111 (dk_at dksX0_close_3 4 rfl rfl)
theorem dX0_close_75 : decode cX0_close 75 = .ok (.iload_n 3, 1) := dk_29 (dk_at dksX0_close_3 7 rfl rfl)
theorem dX0_close_76 : decode cX0_close 76 = .ok (.aaload, 1) := dk_50 (dk_at dksX0_close_3 8 rfl rfl)
theorem dX0_close_77 : decode cX0_close 77 = .ok (.astore 4, 2) := dk_58 4 (dk_at dksX0_close_3 9 rfl rfl)
theorem dX0_close_79 : decode cX0_close 79 = .ok (.aload 4, 2) := dk_25 4 (dk_at dksX0_close_3 11 rfl rfl)
theorem dX0_close_81 : decode cX0_close 81 = .ok (.getfield 442, 3) := dk_180 1 186 (dk_at dksX0_close_3 13 rfl rfl)
theorem dX0_close_84 : decode cX0_close 84 = .ok (.iload_n 1, 1) := dk_27 (dk_at dksX0_close_3 16 rfl rfl)
theorem dX0_close_85 : decode cX0_close 85 = .ok (.if_icmp .ne 29, 3) := dk_160 0 29 (dk_at dksX0_close_3 17 rfl rfl)
theorem dX0_close_88 : decode cX0_close 88 = .ok (.aload 4, 2) := dk_25 4 (dk_at dksX0_close_3 20 rfl rfl)
theorem dX0_close_90 : decode cX0_close 90 = .ok (.invokevirtual 450, 3) := dk_182 1 194 (dk_at dksX0_close_4 0 rfl rfl)
theorem dX0_close_93 : decode cX0_close 93 = .ok (.ifCond .eq 21, 3) := dk_153 0 21 (dk_at dksX0_close_4 3 rfl rfl)
theorem dX0_close_96 : decode cX0_close 96 = .ok (.aload 4, 2) := dk_25 4 (dk_at dksX0_close_4 6 rfl rfl)
theorem dX0_close_98 : decode cX0_close 98 = .ok (.getfield 445, 3) := dk_180 1 189 (dk_at dksX0_close_4 8 rfl rfl)
theorem dX0_close_101 : decode cX0_close 101 = .ok (.iconst 3, 1) := dk_6 (dk_at dksX0_close_4 11 rfl rfl)
theorem dX0_close_102 : decode cX0_close 102 = .ok (.if_icmp .eq 12, 3) := dk_159 0 12 (dk_at dksX0_close_4 12 rfl rfl)
theorem dX0_close_105 : decode cX0_close 105 = .ok (.aload 4, 2) := dk_25 4 (dk_at dksX0_close_4 15 rfl rfl)
theorem dX0_close_107 : decode cX0_close 107 = .ok (.iconst 4, 1) := dk_7 (dk_at dksX0_close_4 17 rfl rfl)
theorem dX0_close_108 : decode cX0_close 108 = .ok (.putfield 445, 3) := dk_181 1 189 (dk_at dksX0_close_4 18 rfl rfl)
theorem dX0_close_111 : decode cX0_close 111 = .ok (.iinc 2 1, 3) := dk_132 2 1 (dk_at dksX0_close_4 21 rfl rfl)
theorem dX0_close_114 : decode cX0_close 114 = .ok (.iinc 3 1, 3) := dk_132 3 1 (dk_at dksX0_close_5 0 rfl rfl)
theorem dX0_close_117 : decode cX0_close 117 = .ok (.goto (-54), 3) := dk_167 255 202 (dk_at dksX0_close_5 3 rfl rfl)
theorem dX0_close_120 : decode cX0_close 120 = .ok (.aload_n 0, 1) := dk_42 (dk_at dksX0_close_5 6 rfl rfl)
theorem dX0_close_121 : decode cX0_close 121 = .ok (.getfield 120, 3) := dk_180 0 120 (dk_at dksX0_close_5 7 rfl rfl)
theorem dX0_close_124 : decode cX0_close 124 = .ok (.iload_n 1, 1) := dk_27 (dk_at dksX0_close_5 10 rfl rfl)
theorem dX0_close_125 : decode cX0_close 125 = .ok (.aaload, 1) := dk_50 (dk_at dksX0_close_5 11 rfl rfl)
theorem dX0_close_126 : decode cX0_close 126 = .ok (.invokevirtual 526, 3) := dk_182 2 14 (dk_at dksX0_close_5 12 rfl rfl)
theorem dX0_close_129 : decode cX0_close 129 = .ok (.aload_n 0, 1) := dk_42 (dk_at dksX0_close_5 15 rfl rfl)
theorem dX0_close_130 : decode cX0_close 130 = .ok (.bipush 25, 2) := dk_16 25 (dk_at dksX0_close_5 16 rfl rfl)
theorem dX0_close_132 : decode cX0_close 132 = .ok (.iload_n 1, 1) := dk_27 (dk_at dksX0_close_5 18 rfl rfl)
theorem dX0_close_133 : decode cX0_close 133 = .ok (.iconst 0, 1) := dk_3 (dk_at dksX0_close_5 19 rfl rfl)
theorem dX0_close_134 : decode cX0_close 134 = .ok (.iconst 0, 1) := dk_3 (dk_at dksX0_close_5 20 rfl rfl)
theorem dX0_close_135 : decode cX0_close 135 = .ok (.iconst 0, 1) := dk_3 (dk_at dksX0_close_5 21 rfl rfl)
theorem dX0_close_136 : decode cX0_close 136 = .ok (.invokevirtual 173, 3) := dk_182 0 173 (dk_at dksX0_close_6 0 rfl rfl)
theorem dX0_close_139 : decode cX0_close 139 = .ok (.iload_n 2, 1) := dk_28 (dk_at dksX0_close_6 3 rfl rfl)
theorem dX0_close_140 : decode cX0_close 140 = .ok (.ireturn, 1) := dk_172 (dk_at dksX0_close_6 4 rfl rfl)
abbrev cX0_isBox : ByteArray := prog_1_method_49_code
def yX0_isBox : MethodName := ⟨RX0, "isBox", "(I)Z"⟩
def dkwX0_isBox_1 : List UInt8 := [180, 0, 42, 180, 1, 177, 153, 0, 7, 4, 167, 0, 4, 3, 172]
abbrev dktX0_isBox_1 : List UInt8 := dkwX0_isBox_1 ++ []
def dkwX0_isBox_0 : List UInt8 := [42, 27, 182, 1, 174, 154, 0, 26, 27, 16, 6, 160, 0, 24, 42, 180, 0, 237, 153, 0, 17, 42]
abbrev dktX0_isBox_0 : List UInt8 := dkwX0_isBox_0 ++ dktX0_isBox_1
theorem dksX0_isBox_0 : cX0_isBox.data.toList.drop 0 = dktX0_isBox_0 := by decide +kernel
theorem dksX0_isBox_1 : cX0_isBox.data.toList.drop 22 = dktX0_isBox_1 := dk_seg dksX0_isBox_0 22 rfl rfl
theorem dX0_isBox_0 : decode cX0_isBox 0 = .ok (.aload_n 0, 1) := dk_42 (dk_at dksX0_isBox_0 0 rfl rfl)
theorem dX0_isBox_1 : decode cX0_isBox 1 = .ok (.iload_n 1, 1) := dk_27 (dk_at dksX0_isBox_0 1 rfl rfl)
theorem dX0_isBox_2 : decode cX0_isBox 2 = .ok (.invokevirtual 430, 3) := dk_182 1 174 (dk_at dksX0_isBox_0 2 rfl rfl)
theorem dX0_isBox_5 : decode cX0_isBox 5 = .ok (.ifCond .ne 26, 3) := dk_154 0 26 (dk_at dksX0_isBox_0 5 rfl rfl)
theorem dX0_isBox_8 : decode cX0_isBox 8 = .ok (.iload_n 1, 1) := dk_27 (dk_at dksX0_isBox_0 8 rfl rfl)
theorem dX0_isBox_9 : decode cX0_isBox 9 = .ok (.bipush 6, 2) := dk_16 6 (dk_at dksX0_isBox_0 9 rfl rfl)
theorem dX0_isBox_11 : decode cX0_isBox 11 = .ok (.if_icmp .ne 24, 3) := dk_160 0 24 (dk_at dksX0_isBox_0 11 rfl rfl)
theorem dX0_isBox_14 : decode cX0_isBox 14 = .ok (.aload_n 0, 1) := dk_42 (dk_at dksX0_isBox_0 14 rfl rfl)
theorem dX0_isBox_15 : decode cX0_isBox 15 = .ok (.getfield 237, 3) := dk_180 0 237 (dk_at dksX0_isBox_0 15 rfl rfl)
theorem dX0_isBox_18 : decode cX0_isBox 18 = .ok (.ifCond .eq 17, 3) := dk_153 0 17 (dk_at dksX0_isBox_0 18 rfl rfl)
theorem dX0_isBox_21 : decode cX0_isBox 21 = .ok (.aload_n 0, 1) := dk_42 (dk_at dksX0_isBox_0 21 rfl rfl)
theorem dX0_isBox_22 : decode cX0_isBox 22 = .ok (.getfield 42, 3) := dk_180 0 42 (dk_at dksX0_isBox_1 0 rfl rfl)
theorem dX0_isBox_25 : decode cX0_isBox 25 = .ok (.getfield 433, 3) := dk_180 1 177 (dk_at dksX0_isBox_1 3 rfl rfl)
theorem dX0_isBox_28 : decode cX0_isBox 28 = .ok (.ifCond .eq 7, 3) := dk_153 0 7 (dk_at dksX0_isBox_1 6 rfl rfl)
theorem dX0_isBox_31 : decode cX0_isBox 31 = .ok (.iconst 1, 1) := dk_4 (dk_at dksX0_isBox_1 9 rfl rfl)
theorem dX0_isBox_32 : decode cX0_isBox 32 = .ok (.goto 4, 3) := dk_167 0 4 (dk_at dksX0_isBox_1 10 rfl rfl)
theorem dX0_isBox_35 : decode cX0_isBox 35 = .ok (.iconst 0, 1) := dk_3 (dk_at dksX0_isBox_1 13 rfl rfl)
theorem dX0_isBox_36 : decode cX0_isBox 36 = .ok (.ireturn, 1) := dk_172 (dk_at dksX0_isBox_1 14 rfl rfl)
abbrev cX0_issue : ByteArray := prog_1_method_73_code
def yX0_issue : MethodName := ⟨RX0, "issue", "(II)I"⟩
def dkwX0_issue_3 : List UInt8 := [153, 0, 7, 4, 167, 0, 4, 3, 172, 45, 180, 1, 206, 172, 16, 254, 172]
abbrev dktX0_issue_3 : List UInt8 := dkwX0_issue_3 ++ []
def dkwX0_issue_2 : List UInt8 := [45, 180, 1, 193, 172, 45, 180, 1, 186, 172, 45, 180, 1, 189, 172, 45, 180, 2, 17, 172, 45, 180, 1, 190]
abbrev dktX0_issue_2 : List UInt8 := dkwX0_issue_2 ++ dktX0_issue_3
def dkwX0_issue_1 : List UInt8 := [170, 0, 0, 0, 0, 76, 0, 0, 0, 0, 0, 0, 0, 5, 0, 0, 0, 38, 0, 0, 0, 43, 0, 0, 0, 48, 0, 0, 0, 53, 0, 0, 0, 58, 0, 0, 0, 71]
abbrev dktX0_issue_1 : List UInt8 := dkwX0_issue_1 ++ dktX0_issue_2
def dkwX0_issue_0 : List UInt8 := [42, 27, 182, 1, 246, 154, 0, 5, 2, 172, 42, 180, 0, 111, 27, 50, 78, 28]
abbrev dktX0_issue_0 : List UInt8 := dkwX0_issue_0 ++ dktX0_issue_1
theorem dksX0_issue_0 : cX0_issue.data.toList.drop 0 = dktX0_issue_0 := by decide +kernel
theorem dksX0_issue_1 : cX0_issue.data.toList.drop 18 = dktX0_issue_1 := dk_seg dksX0_issue_0 18 rfl rfl
theorem dksX0_issue_2 : cX0_issue.data.toList.drop 56 = dktX0_issue_2 := dk_seg dksX0_issue_1 38 rfl rfl
theorem dksX0_issue_3 : cX0_issue.data.toList.drop 80 = dktX0_issue_3 := dk_seg dksX0_issue_2 24 rfl rfl
theorem dX0_issue_0 : decode cX0_issue 0 = .ok (.aload_n 0, 1) := dk_42 (dk_at dksX0_issue_0 0 rfl rfl)
theorem dX0_issue_1 : decode cX0_issue 1 = .ok (.iload_n 1, 1) := dk_27 (dk_at dksX0_issue_0 1 rfl rfl)
theorem dX0_issue_2 : decode cX0_issue 2 = .ok (.invokevirtual 502, 3) := dk_182 1 246 (dk_at dksX0_issue_0 2 rfl rfl)
theorem dX0_issue_5 : decode cX0_issue 5 = .ok (.ifCond .ne 5, 3) := dk_154 0 5 (dk_at dksX0_issue_0 5 rfl rfl)
theorem dX0_issue_8 : decode cX0_issue 8 = .ok (.iconst (-1), 1) := dk_2 (dk_at dksX0_issue_0 8 rfl rfl)
theorem dX0_issue_9 : decode cX0_issue 9 = .ok (.ireturn, 1) := dk_172 (dk_at dksX0_issue_0 9 rfl rfl)
theorem dX0_issue_10 : decode cX0_issue 10 = .ok (.aload_n 0, 1) := dk_42 (dk_at dksX0_issue_0 10 rfl rfl)
theorem dX0_issue_11 : decode cX0_issue 11 = .ok (.getfield 111, 3) := dk_180 0 111 (dk_at dksX0_issue_0 11 rfl rfl)
theorem dX0_issue_14 : decode cX0_issue 14 = .ok (.iload_n 1, 1) := dk_27 (dk_at dksX0_issue_0 14 rfl rfl)
theorem dX0_issue_15 : decode cX0_issue 15 = .ok (.aaload, 1) := dk_50 (dk_at dksX0_issue_0 15 rfl rfl)
theorem dX0_issue_16 : decode cX0_issue 16 = .ok (.astore_n 3, 1) := dk_78 (dk_at dksX0_issue_0 16 rfl rfl)
theorem dX0_issue_17 : decode cX0_issue 17 = .ok (.iload_n 2, 1) := dk_28 (dk_at dksX0_issue_0 17 rfl rfl)
theorem dX0_issue_18 : decode cX0_issue 18 = .ok (.tableswitch 76 0 5 #[38, 43, 48, 53, 58, 71], 38) := by decide +kernel
theorem dX0_issue_56 : decode cX0_issue 56 = .ok (.aload_n 3, 1) := dk_45 (dk_at dksX0_issue_2 0 rfl rfl)
theorem dX0_issue_57 : decode cX0_issue 57 = .ok (.getfield 449, 3) := dk_180 1 193 (dk_at dksX0_issue_2 1 rfl rfl)
theorem dX0_issue_60 : decode cX0_issue 60 = .ok (.ireturn, 1) := dk_172 (dk_at dksX0_issue_2 4 rfl rfl)
theorem dX0_issue_61 : decode cX0_issue 61 = .ok (.aload_n 3, 1) := dk_45 (dk_at dksX0_issue_2 5 rfl rfl)
theorem dX0_issue_62 : decode cX0_issue 62 = .ok (.getfield 442, 3) := dk_180 1 186 (dk_at dksX0_issue_2 6 rfl rfl)
theorem dX0_issue_65 : decode cX0_issue 65 = .ok (.ireturn, 1) := dk_172 (dk_at dksX0_issue_2 9 rfl rfl)
theorem dX0_issue_66 : decode cX0_issue 66 = .ok (.aload_n 3, 1) := dk_45 (dk_at dksX0_issue_2 10 rfl rfl)
theorem dX0_issue_67 : decode cX0_issue 67 = .ok (.getfield 445, 3) := dk_180 1 189 (dk_at dksX0_issue_2 11 rfl rfl)
theorem dX0_issue_70 : decode cX0_issue 70 = .ok (.ireturn, 1) := dk_172 (dk_at dksX0_issue_2 14 rfl rfl)
theorem dX0_issue_71 : decode cX0_issue 71 = .ok (.aload_n 3, 1) := dk_45 (dk_at dksX0_issue_2 15 rfl rfl)
theorem dX0_issue_72 : decode cX0_issue 72 = .ok (.getfield 529, 3) := dk_180 2 17 (dk_at dksX0_issue_2 16 rfl rfl)
theorem dX0_issue_75 : decode cX0_issue 75 = .ok (.ireturn, 1) := dk_172 (dk_at dksX0_issue_2 19 rfl rfl)
theorem dX0_issue_76 : decode cX0_issue 76 = .ok (.aload_n 3, 1) := dk_45 (dk_at dksX0_issue_2 20 rfl rfl)
theorem dX0_issue_77 : decode cX0_issue 77 = .ok (.getfield 446, 3) := dk_180 1 190 (dk_at dksX0_issue_2 21 rfl rfl)
theorem dX0_issue_80 : decode cX0_issue 80 = .ok (.ifCond .eq 7, 3) := dk_153 0 7 (dk_at dksX0_issue_3 0 rfl rfl)
theorem dX0_issue_83 : decode cX0_issue 83 = .ok (.iconst 1, 1) := dk_4 (dk_at dksX0_issue_3 3 rfl rfl)
theorem dX0_issue_84 : decode cX0_issue 84 = .ok (.goto 4, 3) := dk_167 0 4 (dk_at dksX0_issue_3 4 rfl rfl)
theorem dX0_issue_87 : decode cX0_issue 87 = .ok (.iconst 0, 1) := dk_3 (dk_at dksX0_issue_3 7 rfl rfl)
theorem dX0_issue_88 : decode cX0_issue 88 = .ok (.ireturn, 1) := dk_172 (dk_at dksX0_issue_3 8 rfl rfl)
theorem dX0_issue_89 : decode cX0_issue 89 = .ok (.aload_n 3, 1) := dk_45 (dk_at dksX0_issue_3 9 rfl rfl)
theorem dX0_issue_90 : decode cX0_issue 90 = .ok (.getfield 462, 3) := dk_180 1 206 (dk_at dksX0_issue_3 10 rfl rfl)
theorem dX0_issue_93 : decode cX0_issue 93 = .ok (.ireturn, 1) := dk_172 (dk_at dksX0_issue_3 13 rfl rfl)
theorem dX0_issue_94 : decode cX0_issue 94 = .ok (.bipush (-2), 2) := dk_16 254 (dk_at dksX0_issue_3 14 rfl rfl)
theorem dX0_issue_96 : decode cX0_issue 96 = .ok (.ireturn, 1) := dk_172 (dk_at dksX0_issue_3 16 rfl rfl)
abbrev cX0_knows : ByteArray := prog_1_method_74_code
def yX0_knows : MethodName := ⟨RX0, "knows", "(II)I"⟩
def dkwX0_knows_1 : List UInt8 := [167, 0, 4, 2, 172]
abbrev dktX0_knows_1 : List UInt8 := dkwX0_knows_1 ++ []
def dkwX0_knows_0 : List UInt8 := [42, 27, 182, 1, 174, 153, 0, 20, 42, 28, 182, 1, 246, 153, 0, 12, 42, 27, 28, 182, 1, 183]
abbrev dktX0_knows_0 : List UInt8 := dkwX0_knows_0 ++ dktX0_knows_1
theorem dksX0_knows_0 : cX0_knows.data.toList.drop 0 = dktX0_knows_0 := by decide +kernel
theorem dksX0_knows_1 : cX0_knows.data.toList.drop 22 = dktX0_knows_1 := dk_seg dksX0_knows_0 22 rfl rfl
theorem dX0_knows_0 : decode cX0_knows 0 = .ok (.aload_n 0, 1) := dk_42 (dk_at dksX0_knows_0 0 rfl rfl)
theorem dX0_knows_1 : decode cX0_knows 1 = .ok (.iload_n 1, 1) := dk_27 (dk_at dksX0_knows_0 1 rfl rfl)
theorem dX0_knows_2 : decode cX0_knows 2 = .ok (.invokevirtual 430, 3) := dk_182 1 174 (dk_at dksX0_knows_0 2 rfl rfl)
theorem dX0_knows_5 : decode cX0_knows 5 = .ok (.ifCond .eq 20, 3) := dk_153 0 20 (dk_at dksX0_knows_0 5 rfl rfl)
theorem dX0_knows_8 : decode cX0_knows 8 = .ok (.aload_n 0, 1) := dk_42 (dk_at dksX0_knows_0 8 rfl rfl)
theorem dX0_knows_9 : decode cX0_knows 9 = .ok (.iload_n 2, 1) := dk_28 (dk_at dksX0_knows_0 9 rfl rfl)
theorem dX0_knows_10 : decode cX0_knows 10 = .ok (.invokevirtual 502, 3) := dk_182 1 246 (dk_at dksX0_knows_0 10 rfl rfl)
theorem dX0_knows_13 : decode cX0_knows 13 = .ok (.ifCond .eq 12, 3) := dk_153 0 12 (dk_at dksX0_knows_0 13 rfl rfl)
theorem dX0_knows_16 : decode cX0_knows 16 = .ok (.aload_n 0, 1) := dk_42 (dk_at dksX0_knows_0 16 rfl rfl)
theorem dX0_knows_17 : decode cX0_knows 17 = .ok (.iload_n 1, 1) := dk_27 (dk_at dksX0_knows_0 17 rfl rfl)
theorem dX0_knows_18 : decode cX0_knows 18 = .ok (.iload_n 2, 1) := dk_28 (dk_at dksX0_knows_0 18 rfl rfl)
theorem dX0_knows_19 : decode cX0_knows 19 = .ok (.invokevirtual 439, 3) := dk_182 1 183 (dk_at dksX0_knows_0 19 rfl rfl)
theorem dX0_knows_22 : decode cX0_knows 22 = .ok (.goto 4, 3) := dk_167 0 4 (dk_at dksX0_knows_1 0 rfl rfl)
theorem dX0_knows_25 : decode cX0_knows 25 = .ok (.iconst (-1), 1) := dk_2 (dk_at dksX0_knows_1 3 rfl rfl)
theorem dX0_knows_26 : decode cX0_knows 26 = .ok (.ireturn, 1) := dk_172 (dk_at dksX0_knows_1 4 rfl rfl)
abbrev cX0_box : ByteArray := prog_1_method_75_code
def yX0_box : MethodName := ⟨RX0, "box", "(II)I"⟩
def dkwX0_box_4 : List UInt8 := [16, 6, 159, 0, 16, 42, 180, 0, 101, 27, 51, 153, 0, 7, 4, 167, 0, 4, 3, 172, 16, 254, 172]
abbrev dktX0_box_4 : List UInt8 := dkwX0_box_4 ++ []
def dkwX0_box_3 : List UInt8 := [167, 0, 4, 3, 172, 42, 180, 0, 120, 27, 50, 180, 2, 23, 153, 0, 7, 4, 167, 0, 4, 3, 172, 27]
abbrev dktX0_box_3 : List UInt8 := dkwX0_box_3 ++ dktX0_box_4
def dkwX0_box_2 : List UInt8 := [42, 180, 0, 120, 27, 50, 180, 2, 20, 172, 42, 180, 0, 120, 27, 50, 180, 1, 180, 153, 0, 7, 4]
abbrev dktX0_box_2 : List UInt8 := dkwX0_box_2 ++ dktX0_box_3
def dkwX0_box_1 : List UInt8 := [170, 0, 0, 0, 96, 0, 0, 0, 0, 0, 0, 0, 3, 0, 0, 0, 29, 0, 0, 0, 39, 0, 0, 0, 57, 0, 0, 0, 75]
abbrev dktX0_box_1 : List UInt8 := dkwX0_box_1 ++ dktX0_box_2
def dkwX0_box_0 : List UInt8 := [42, 27, 182, 2, 11, 154, 0, 5, 2, 172, 28]
abbrev dktX0_box_0 : List UInt8 := dkwX0_box_0 ++ dktX0_box_1
theorem dksX0_box_0 : cX0_box.data.toList.drop 0 = dktX0_box_0 := by decide +kernel
theorem dksX0_box_1 : cX0_box.data.toList.drop 11 = dktX0_box_1 := dk_seg dksX0_box_0 11 rfl rfl
theorem dksX0_box_2 : cX0_box.data.toList.drop 40 = dktX0_box_2 := dk_seg dksX0_box_1 29 rfl rfl
theorem dksX0_box_3 : cX0_box.data.toList.drop 63 = dktX0_box_3 := dk_seg dksX0_box_2 23 rfl rfl
theorem dksX0_box_4 : cX0_box.data.toList.drop 87 = dktX0_box_4 := dk_seg dksX0_box_3 24 rfl rfl
theorem dX0_box_0 : decode cX0_box 0 = .ok (.aload_n 0, 1) := dk_42 (dk_at dksX0_box_0 0 rfl rfl)
theorem dX0_box_1 : decode cX0_box 1 = .ok (.iload_n 1, 1) := dk_27 (dk_at dksX0_box_0 1 rfl rfl)
theorem dX0_box_2 : decode cX0_box 2 = .ok (.invokevirtual 523, 3) := dk_182 2 11 (dk_at dksX0_box_0 2 rfl rfl)
theorem dX0_box_5 : decode cX0_box 5 = .ok (.ifCond .ne 5, 3) := dk_154 0 5 (dk_at dksX0_box_0 5 rfl rfl)
theorem dX0_box_8 : decode cX0_box 8 = .ok (.iconst (-1), 1) := dk_2 (dk_at dksX0_box_0 8 rfl rfl)
theorem dX0_box_9 : decode cX0_box 9 = .ok (.ireturn, 1) := dk_172 (dk_at dksX0_box_0 9 rfl rfl)
theorem dX0_box_10 : decode cX0_box 10 = .ok (.iload_n 2, 1) := dk_28 (dk_at dksX0_box_0 10 rfl rfl)
theorem dX0_box_11 : decode cX0_box 11 = .ok (.tableswitch 96 0 3 #[29, 39, 57, 75], 29) := by decide +kernel
theorem dX0_box_40 : decode cX0_box 40 = .ok (.aload_n 0, 1) := dk_42 (dk_at dksX0_box_2 0 rfl rfl)
theorem dX0_box_41 : decode cX0_box 41 = .ok (.getfield 120, 3) := dk_180 0 120 (dk_at dksX0_box_2 1 rfl rfl)
theorem dX0_box_44 : decode cX0_box 44 = .ok (.iload_n 1, 1) := dk_27 (dk_at dksX0_box_2 4 rfl rfl)
theorem dX0_box_45 : decode cX0_box 45 = .ok (.aaload, 1) := dk_50 (dk_at dksX0_box_2 5 rfl rfl)
theorem dX0_box_46 : decode cX0_box 46 = .ok (.getfield 532, 3) := dk_180 2 20 (dk_at dksX0_box_2 6 rfl rfl)
theorem dX0_box_49 : decode cX0_box 49 = .ok (.ireturn, 1) := dk_172 (dk_at dksX0_box_2 9 rfl rfl)
theorem dX0_box_50 : decode cX0_box 50 = .ok (.aload_n 0, 1) := dk_42 (dk_at dksX0_box_2 10 rfl rfl)
theorem dX0_box_51 : decode cX0_box 51 = .ok (.getfield 120, 3) := dk_180 0 120 (dk_at dksX0_box_2 11 rfl rfl)
theorem dX0_box_54 : decode cX0_box 54 = .ok (.iload_n 1, 1) := dk_27 (dk_at dksX0_box_2 14 rfl rfl)
theorem dX0_box_55 : decode cX0_box 55 = .ok (.aaload, 1) := dk_50 (dk_at dksX0_box_2 15 rfl rfl)
theorem dX0_box_56 : decode cX0_box 56 = .ok (.getfield 436, 3) := dk_180 1 180 (dk_at dksX0_box_2 16 rfl rfl)
theorem dX0_box_59 : decode cX0_box 59 = .ok (.ifCond .eq 7, 3) := dk_153 0 7 (dk_at dksX0_box_2 19 rfl rfl)
theorem dX0_box_62 : decode cX0_box 62 = .ok (.iconst 1, 1) := dk_4 (dk_at dksX0_box_2 22 rfl rfl)
theorem dX0_box_63 : decode cX0_box 63 = .ok (.goto 4, 3) := dk_167 0 4 (dk_at dksX0_box_3 0 rfl rfl)
theorem dX0_box_66 : decode cX0_box 66 = .ok (.iconst 0, 1) := dk_3 (dk_at dksX0_box_3 3 rfl rfl)
theorem dX0_box_67 : decode cX0_box 67 = .ok (.ireturn, 1) := dk_172 (dk_at dksX0_box_3 4 rfl rfl)
theorem dX0_box_68 : decode cX0_box 68 = .ok (.aload_n 0, 1) := dk_42 (dk_at dksX0_box_3 5 rfl rfl)
theorem dX0_box_69 : decode cX0_box 69 = .ok (.getfield 120, 3) := dk_180 0 120 (dk_at dksX0_box_3 6 rfl rfl)
theorem dX0_box_72 : decode cX0_box 72 = .ok (.iload_n 1, 1) := dk_27 (dk_at dksX0_box_3 9 rfl rfl)
theorem dX0_box_73 : decode cX0_box 73 = .ok (.aaload, 1) := dk_50 (dk_at dksX0_box_3 10 rfl rfl)
theorem dX0_box_74 : decode cX0_box 74 = .ok (.getfield 535, 3) := dk_180 2 23 (dk_at dksX0_box_3 11 rfl rfl)
theorem dX0_box_77 : decode cX0_box 77 = .ok (.ifCond .eq 7, 3) := dk_153 0 7 (dk_at dksX0_box_3 14 rfl rfl)
theorem dX0_box_80 : decode cX0_box 80 = .ok (.iconst 1, 1) := dk_4 (dk_at dksX0_box_3 17 rfl rfl)
theorem dX0_box_81 : decode cX0_box 81 = .ok (.goto 4, 3) := dk_167 0 4 (dk_at dksX0_box_3 18 rfl rfl)
theorem dX0_box_84 : decode cX0_box 84 = .ok (.iconst 0, 1) := dk_3 (dk_at dksX0_box_3 21 rfl rfl)
theorem dX0_box_85 : decode cX0_box 85 = .ok (.ireturn, 1) := dk_172 (dk_at dksX0_box_3 22 rfl rfl)
theorem dX0_box_86 : decode cX0_box 86 = .ok (.iload_n 1, 1) := dk_27 (dk_at dksX0_box_3 23 rfl rfl)
theorem dX0_box_87 : decode cX0_box 87 = .ok (.bipush 6, 2) := dk_16 6 (dk_at dksX0_box_4 0 rfl rfl)
theorem dX0_box_89 : decode cX0_box 89 = .ok (.if_icmp .eq 16, 3) := dk_159 0 16 (dk_at dksX0_box_4 2 rfl rfl)
theorem dX0_box_92 : decode cX0_box 92 = .ok (.aload_n 0, 1) := dk_42 (dk_at dksX0_box_4 5 rfl rfl)
theorem dX0_box_93 : decode cX0_box 93 = .ok (.getfield 101, 3) := dk_180 0 101 (dk_at dksX0_box_4 6 rfl rfl)
theorem dX0_box_96 : decode cX0_box 96 = .ok (.iload_n 1, 1) := dk_27 (dk_at dksX0_box_4 9 rfl rfl)
theorem dX0_box_97 : decode cX0_box 97 = .ok (.baload, 1) := dk_51 (dk_at dksX0_box_4 10 rfl rfl)
theorem dX0_box_98 : decode cX0_box 98 = .ok (.ifCond .eq 7, 3) := dk_153 0 7 (dk_at dksX0_box_4 11 rfl rfl)
theorem dX0_box_101 : decode cX0_box 101 = .ok (.iconst 1, 1) := dk_4 (dk_at dksX0_box_4 14 rfl rfl)
theorem dX0_box_102 : decode cX0_box 102 = .ok (.goto 4, 3) := dk_167 0 4 (dk_at dksX0_box_4 15 rfl rfl)
theorem dX0_box_105 : decode cX0_box 105 = .ok (.iconst 0, 1) := dk_3 (dk_at dksX0_box_4 18 rfl rfl)
theorem dX0_box_106 : decode cX0_box 106 = .ok (.ireturn, 1) := dk_172 (dk_at dksX0_box_4 19 rfl rfl)
theorem dX0_box_107 : decode cX0_box 107 = .ok (.bipush (-2), 2) := dk_16 254 (dk_at dksX0_box_4 20 rfl rfl)
theorem dX0_box_109 : decode cX0_box 109 = .ok (.ireturn, 1) := dk_172 (dk_at dksX0_box_4 22 rfl rfl)
abbrev cX0_paper : ByteArray := prog_1_method_77_code
def yX0_paper : MethodName := ⟨RX0, "paper", "(III)I"⟩
def dkwX0_paper_4 : List UInt8 := [180, 0, 120, 27, 50, 180, 2, 31, 28, 50, 29, 51, 172]
abbrev dktX0_paper_4 : List UInt8 := dkwX0_paper_4 ++ []
def dkwX0_paper_3 : List UInt8 := [167, 0, 35, 21, 4, 153, 0, 17, 42, 180, 0, 120, 27, 50, 180, 2, 25, 28, 46, 167, 0, 16, 42]
abbrev dktX0_paper_3 : List UInt8 := dkwX0_paper_3 ++ dktX0_paper_4
def dkwX0_paper_2 : List UInt8 := [182, 2, 28, 154, 0, 5, 2, 172, 42, 180, 0, 120, 27, 50, 180, 1, 180, 154, 0, 8, 16, 253]
abbrev dktX0_paper_2 : List UInt8 := dkwX0_paper_2 ++ dktX0_paper_3
def dkwX0_paper_1 : List UInt8 := [4, 100, 184, 0, 163, 153, 0, 7, 4, 167, 0, 4, 3, 54, 4, 21, 4, 154, 0, 15, 42, 27, 28, 29]
abbrev dktX0_paper_1 : List UInt8 := dkwX0_paper_1 ++ dktX0_paper_2
def dkwX0_paper_0 : List UInt8 := [29, 2, 160, 0, 34, 42, 27, 182, 2, 11, 153, 0, 26, 28, 3, 42, 180, 0, 120, 27, 50, 180, 2, 20]
abbrev dktX0_paper_0 : List UInt8 := dkwX0_paper_0 ++ dktX0_paper_1
theorem dksX0_paper_0 : cX0_paper.data.toList.drop 0 = dktX0_paper_0 := by decide +kernel
theorem dksX0_paper_1 : cX0_paper.data.toList.drop 24 = dktX0_paper_1 := dk_seg dksX0_paper_0 24 rfl rfl
theorem dksX0_paper_2 : cX0_paper.data.toList.drop 48 = dktX0_paper_2 := dk_seg dksX0_paper_1 24 rfl rfl
theorem dksX0_paper_3 : cX0_paper.data.toList.drop 70 = dktX0_paper_3 := dk_seg dksX0_paper_2 22 rfl rfl
theorem dksX0_paper_4 : cX0_paper.data.toList.drop 93 = dktX0_paper_4 := dk_seg dksX0_paper_3 23 rfl rfl
theorem dX0_paper_0 : decode cX0_paper 0 = .ok (.iload_n 3, 1) := dk_29 (dk_at dksX0_paper_0 0 rfl rfl)
theorem dX0_paper_1 : decode cX0_paper 1 = .ok (.iconst (-1), 1) := dk_2 (dk_at dksX0_paper_0 1 rfl rfl)
theorem dX0_paper_2 : decode cX0_paper 2 = .ok (.if_icmp .ne 34, 3) := dk_160 0 34 (dk_at dksX0_paper_0 2 rfl rfl)
theorem dX0_paper_5 : decode cX0_paper 5 = .ok (.aload_n 0, 1) := dk_42 (dk_at dksX0_paper_0 5 rfl rfl)
theorem dX0_paper_6 : decode cX0_paper 6 = .ok (.iload_n 1, 1) := dk_27 (dk_at dksX0_paper_0 6 rfl rfl)
theorem dX0_paper_7 : decode cX0_paper 7 = .ok (.invokevirtual 523, 3) := dk_182 2 11 (dk_at dksX0_paper_0 7 rfl rfl)
theorem dX0_paper_10 : decode cX0_paper 10 = .ok (.ifCond .eq 26, 3) := dk_153 0 26 (dk_at dksX0_paper_0 10 rfl rfl)
theorem dX0_paper_13 : decode cX0_paper 13 = .ok (.iload_n 2, 1) := dk_28 (dk_at dksX0_paper_0 13 rfl rfl)
theorem dX0_paper_14 : decode cX0_paper 14 = .ok (.iconst 0, 1) := dk_3 (dk_at dksX0_paper_0 14 rfl rfl)
theorem dX0_paper_15 : decode cX0_paper 15 = .ok (.aload_n 0, 1) := dk_42 (dk_at dksX0_paper_0 15 rfl rfl)
theorem dX0_paper_16 : decode cX0_paper 16 = .ok (.getfield 120, 3) := dk_180 0 120 (dk_at dksX0_paper_0 16 rfl rfl)
theorem dX0_paper_19 : decode cX0_paper 19 = .ok (.iload_n 1, 1) := dk_27 (dk_at dksX0_paper_0 19 rfl rfl)
theorem dX0_paper_20 : decode cX0_paper 20 = .ok (.aaload, 1) := dk_50 (dk_at dksX0_paper_0 20 rfl rfl)
theorem dX0_paper_21 : decode cX0_paper 21 = .ok (.getfield 532, 3) := dk_180 2 20 (dk_at dksX0_paper_0 21 rfl rfl)
theorem dX0_paper_24 : decode cX0_paper 24 = .ok (.iconst 1, 1) := dk_4 (dk_at dksX0_paper_1 0 rfl rfl)
theorem dX0_paper_25 : decode cX0_paper 25 = .ok (.isub, 1) := dk_100 (dk_at dksX0_paper_1 1 rfl rfl)
theorem dX0_paper_26 : decode cX0_paper 26 = .ok (.invokestatic 163, 3) := dk_184 0 163 (dk_at dksX0_paper_1 2 rfl rfl)
theorem dX0_paper_29 : decode cX0_paper 29 = .ok (.ifCond .eq 7, 3) := dk_153 0 7 (dk_at dksX0_paper_1 5 rfl rfl)
theorem dX0_paper_32 : decode cX0_paper 32 = .ok (.iconst 1, 1) := dk_4 (dk_at dksX0_paper_1 8 rfl rfl)
theorem dX0_paper_33 : decode cX0_paper 33 = .ok (.goto 4, 3) := dk_167 0 4 (dk_at dksX0_paper_1 9 rfl rfl)
theorem dX0_paper_36 : decode cX0_paper 36 = .ok (.iconst 0, 1) := dk_3 (dk_at dksX0_paper_1 12 rfl rfl)
theorem dX0_paper_37 : decode cX0_paper 37 = .ok (.istore 4, 2) := dk_54 4 (dk_at dksX0_paper_1 13 rfl rfl)
theorem dX0_paper_39 : decode cX0_paper 39 = .ok (.iload 4, 2) := dk_21 4 (dk_at dksX0_paper_1 15 rfl rfl)
theorem dX0_paper_41 : decode cX0_paper 41 = .ok (.ifCond .ne 15, 3) := dk_154 0 15 (dk_at dksX0_paper_1 17 rfl rfl)
theorem dX0_paper_44 : decode cX0_paper 44 = .ok (.aload_n 0, 1) := dk_42 (dk_at dksX0_paper_1 20 rfl rfl)
theorem dX0_paper_45 : decode cX0_paper 45 = .ok (.iload_n 1, 1) := dk_27 (dk_at dksX0_paper_1 21 rfl rfl)
theorem dX0_paper_46 : decode cX0_paper 46 = .ok (.iload_n 2, 1) := dk_28 (dk_at dksX0_paper_1 22 rfl rfl)
theorem dX0_paper_47 : decode cX0_paper 47 = .ok (.iload_n 3, 1) := dk_29 (dk_at dksX0_paper_1 23 rfl rfl)
theorem dX0_paper_48 : decode cX0_paper 48 = .ok (.invokevirtual 540, 3) := dk_182 2 28 (dk_at dksX0_paper_2 0 rfl rfl)
theorem dX0_paper_51 : decode cX0_paper 51 = .ok (.ifCond .ne 5, 3) := dk_154 0 5 (dk_at dksX0_paper_2 3 rfl rfl)
theorem dX0_paper_54 : decode cX0_paper 54 = .ok (.iconst (-1), 1) := dk_2 (dk_at dksX0_paper_2 6 rfl rfl)
theorem dX0_paper_55 : decode cX0_paper 55 = .ok (.ireturn, 1) := dk_172 (dk_at dksX0_paper_2 7 rfl rfl)
theorem dX0_paper_56 : decode cX0_paper 56 = .ok (.aload_n 0, 1) := dk_42 (dk_at dksX0_paper_2 8 rfl rfl)
theorem dX0_paper_57 : decode cX0_paper 57 = .ok (.getfield 120, 3) := dk_180 0 120 (dk_at dksX0_paper_2 9 rfl rfl)
theorem dX0_paper_60 : decode cX0_paper 60 = .ok (.iload_n 1, 1) := dk_27 (dk_at dksX0_paper_2 12 rfl rfl)
theorem dX0_paper_61 : decode cX0_paper 61 = .ok (.aaload, 1) := dk_50 (dk_at dksX0_paper_2 13 rfl rfl)
theorem dX0_paper_62 : decode cX0_paper 62 = .ok (.getfield 436, 3) := dk_180 1 180 (dk_at dksX0_paper_2 14 rfl rfl)
theorem dX0_paper_65 : decode cX0_paper 65 = .ok (.ifCond .ne 8, 3) := dk_154 0 8 (dk_at dksX0_paper_2 17 rfl rfl)
theorem dX0_paper_68 : decode cX0_paper 68 = .ok (.bipush (-3), 2) := dk_16 253 (dk_at dksX0_paper_2 20 rfl rfl)
theorem dX0_paper_70 : decode cX0_paper 70 = .ok (.goto 35, 3) := dk_167 0 35 (dk_at dksX0_paper_3 0 rfl rfl)
theorem dX0_paper_73 : decode cX0_paper 73 = .ok (.iload 4, 2) := dk_21 4 (dk_at dksX0_paper_3 3 rfl rfl)
theorem dX0_paper_75 : decode cX0_paper 75 = .ok (.ifCond .eq 17, 3) := dk_153 0 17 (dk_at dksX0_paper_3 5 rfl rfl)
theorem dX0_paper_78 : decode cX0_paper 78 = .ok (.aload_n 0, 1) := dk_42 (dk_at dksX0_paper_3 8 rfl rfl)
theorem dX0_paper_79 : decode cX0_paper 79 = .ok (.getfield 120, 3) := dk_180 0 120 (dk_at dksX0_paper_3 9 rfl rfl)
theorem dX0_paper_82 : decode cX0_paper 82 = .ok (.iload_n 1, 1) := dk_27 (dk_at dksX0_paper_3 12 rfl rfl)
theorem dX0_paper_83 : decode cX0_paper 83 = .ok (.aaload, 1) := dk_50 (dk_at dksX0_paper_3 13 rfl rfl)
theorem dX0_paper_84 : decode cX0_paper 84 = .ok (.getfield 537, 3) := dk_180 2 25 (dk_at dksX0_paper_3 14 rfl rfl)
theorem dX0_paper_87 : decode cX0_paper 87 = .ok (.iload_n 2, 1) := dk_28 (dk_at dksX0_paper_3 17 rfl rfl)
theorem dX0_paper_88 : decode cX0_paper 88 = .ok (.iaload, 1) := dk_46 (dk_at dksX0_paper_3 18 rfl rfl)
theorem dX0_paper_89 : decode cX0_paper 89 = .ok (.goto 16, 3) := dk_167 0 16 (dk_at dksX0_paper_3 19 rfl rfl)
theorem dX0_paper_92 : decode cX0_paper 92 = .ok (.aload_n 0, 1) := dk_42 (dk_at dksX0_paper_3 22 rfl rfl)
theorem dX0_paper_93 : decode cX0_paper 93 = .ok (.getfield 120, 3) := dk_180 0 120 (dk_at dksX0_paper_4 0 rfl rfl)
theorem dX0_paper_96 : decode cX0_paper 96 = .ok (.iload_n 1, 1) := dk_27 (dk_at dksX0_paper_4 3 rfl rfl)
theorem dX0_paper_97 : decode cX0_paper 97 = .ok (.aaload, 1) := dk_50 (dk_at dksX0_paper_4 4 rfl rfl)
theorem dX0_paper_98 : decode cX0_paper 98 = .ok (.getfield 543, 3) := dk_180 2 31 (dk_at dksX0_paper_4 5 rfl rfl)
theorem dX0_paper_101 : decode cX0_paper 101 = .ok (.iload_n 2, 1) := dk_28 (dk_at dksX0_paper_4 8 rfl rfl)
theorem dX0_paper_102 : decode cX0_paper 102 = .ok (.aaload, 1) := dk_50 (dk_at dksX0_paper_4 9 rfl rfl)
theorem dX0_paper_103 : decode cX0_paper 103 = .ok (.iload_n 3, 1) := dk_29 (dk_at dksX0_paper_4 10 rfl rfl)
theorem dX0_paper_104 : decode cX0_paper 104 = .ok (.baload, 1) := dk_51 (dk_at dksX0_paper_4 11 rfl rfl)
theorem dX0_paper_105 : decode cX0_paper 105 = .ok (.ireturn, 1) := dk_172 (dk_at dksX0_paper_4 12 rfl rfl)
abbrev cX0_isField : ByteArray := prog_1_method_76_code
def yX0_isField : MethodName := ⟨RX0, "isField", "(III)Z"⟩
def dkwX0_isField_2 : List UInt8 := [184, 0, 163, 153, 0, 7, 4, 167, 0, 4, 3, 172]
abbrev dktX0_isField_2 : List UInt8 := dkwX0_isField_2 ++ []
def dkwX0_isField_1 : List UInt8 := [153, 0, 32, 29, 3, 42, 42, 180, 0, 120, 27, 50, 180, 2, 25, 28, 46, 182, 1, 212, 4, 100]
abbrev dktX0_isField_1 : List UInt8 := dkwX0_isField_1 ++ dktX0_isField_2
def dkwX0_isField_0 : List UInt8 := [42, 27, 182, 2, 11, 153, 0, 51, 28, 3, 42, 180, 0, 120, 27, 50, 180, 2, 20, 4, 100, 184, 0, 163]
abbrev dktX0_isField_0 : List UInt8 := dkwX0_isField_0 ++ dktX0_isField_1
theorem dksX0_isField_0 : cX0_isField.data.toList.drop 0 = dktX0_isField_0 := by decide +kernel
theorem dksX0_isField_1 : cX0_isField.data.toList.drop 24 = dktX0_isField_1 := dk_seg dksX0_isField_0 24 rfl rfl
theorem dksX0_isField_2 : cX0_isField.data.toList.drop 46 = dktX0_isField_2 := dk_seg dksX0_isField_1 22 rfl rfl
theorem dX0_isField_0 : decode cX0_isField 0 = .ok (.aload_n 0, 1) := dk_42 (dk_at dksX0_isField_0 0 rfl rfl)
theorem dX0_isField_1 : decode cX0_isField 1 = .ok (.iload_n 1, 1) := dk_27 (dk_at dksX0_isField_0 1 rfl rfl)
theorem dX0_isField_2 : decode cX0_isField 2 = .ok (.invokevirtual 523, 3) := dk_182 2 11 (dk_at dksX0_isField_0 2 rfl rfl)
theorem dX0_isField_5 : decode cX0_isField 5 = .ok (.ifCond .eq 51, 3) := dk_153 0 51 (dk_at dksX0_isField_0 5 rfl rfl)
theorem dX0_isField_8 : decode cX0_isField 8 = .ok (.iload_n 2, 1) := dk_28 (dk_at dksX0_isField_0 8 rfl rfl)
theorem dX0_isField_9 : decode cX0_isField 9 = .ok (.iconst 0, 1) := dk_3 (dk_at dksX0_isField_0 9 rfl rfl)
theorem dX0_isField_10 : decode cX0_isField 10 = .ok (.aload_n 0, 1) := dk_42 (dk_at dksX0_isField_0 10 rfl rfl)
theorem dX0_isField_11 : decode cX0_isField 11 = .ok (.getfield 120, 3) := dk_180 0 120 (dk_at dksX0_isField_0 11 rfl rfl)
theorem dX0_isField_14 : decode cX0_isField 14 = .ok (.iload_n 1, 1) := dk_27 (dk_at dksX0_isField_0 14 rfl rfl)
theorem dX0_isField_15 : decode cX0_isField 15 = .ok (.aaload, 1) := dk_50 (dk_at dksX0_isField_0 15 rfl rfl)
theorem dX0_isField_16 : decode cX0_isField 16 = .ok (.getfield 532, 3) := dk_180 2 20 (dk_at dksX0_isField_0 16 rfl rfl)
theorem dX0_isField_19 : decode cX0_isField 19 = .ok (.iconst 1, 1) := dk_4 (dk_at dksX0_isField_0 19 rfl rfl)
theorem dX0_isField_20 : decode cX0_isField 20 = .ok (.isub, 1) := dk_100 (dk_at dksX0_isField_0 20 rfl rfl)
theorem dX0_isField_21 : decode cX0_isField 21 = .ok (.invokestatic 163, 3) := dk_184 0 163 (dk_at dksX0_isField_0 21 rfl rfl)
theorem dX0_isField_24 : decode cX0_isField 24 = .ok (.ifCond .eq 32, 3) := dk_153 0 32 (dk_at dksX0_isField_1 0 rfl rfl)
theorem dX0_isField_27 : decode cX0_isField 27 = .ok (.iload_n 3, 1) := dk_29 (dk_at dksX0_isField_1 3 rfl rfl)
theorem dX0_isField_28 : decode cX0_isField 28 = .ok (.iconst 0, 1) := dk_3 (dk_at dksX0_isField_1 4 rfl rfl)
theorem dX0_isField_29 : decode cX0_isField 29 = .ok (.aload_n 0, 1) := dk_42 (dk_at dksX0_isField_1 5 rfl rfl)
theorem dX0_isField_30 : decode cX0_isField 30 = .ok (.aload_n 0, 1) := dk_42 (dk_at dksX0_isField_1 6 rfl rfl)
theorem dX0_isField_31 : decode cX0_isField 31 = .ok (.getfield 120, 3) := dk_180 0 120 (dk_at dksX0_isField_1 7 rfl rfl)
theorem dX0_isField_34 : decode cX0_isField 34 = .ok (.iload_n 1, 1) := dk_27 (dk_at dksX0_isField_1 10 rfl rfl)
theorem dX0_isField_35 : decode cX0_isField 35 = .ok (.aaload, 1) := dk_50 (dk_at dksX0_isField_1 11 rfl rfl)
theorem dX0_isField_36 : decode cX0_isField 36 = .ok (.getfield 537, 3) := dk_180 2 25 (dk_at dksX0_isField_1 12 rfl rfl)
theorem dX0_isField_39 : decode cX0_isField 39 = .ok (.iload_n 2, 1) := dk_28 (dk_at dksX0_isField_1 15 rfl rfl)
theorem dX0_isField_40 : decode cX0_isField 40 = .ok (.iaload, 1) := dk_46 (dk_at dksX0_isField_1 16 rfl rfl)
theorem dX0_isField_41 : decode cX0_isField 41 = .ok (.invokevirtual 468, 3) := dk_182 1 212 (dk_at dksX0_isField_1 17 rfl rfl)
theorem dX0_isField_44 : decode cX0_isField 44 = .ok (.iconst 1, 1) := dk_4 (dk_at dksX0_isField_1 20 rfl rfl)
theorem dX0_isField_45 : decode cX0_isField 45 = .ok (.isub, 1) := dk_100 (dk_at dksX0_isField_1 21 rfl rfl)
theorem dX0_isField_46 : decode cX0_isField 46 = .ok (.invokestatic 163, 3) := dk_184 0 163 (dk_at dksX0_isField_2 0 rfl rfl)
theorem dX0_isField_49 : decode cX0_isField 49 = .ok (.ifCond .eq 7, 3) := dk_153 0 7 (dk_at dksX0_isField_2 3 rfl rfl)
theorem dX0_isField_52 : decode cX0_isField 52 = .ok (.iconst 1, 1) := dk_4 (dk_at dksX0_isField_2 6 rfl rfl)
theorem dX0_isField_53 : decode cX0_isField 53 = .ok (.goto 4, 3) := dk_167 0 4 (dk_at dksX0_isField_2 7 rfl rfl)
theorem dX0_isField_56 : decode cX0_isField 56 = .ok (.iconst 0, 1) := dk_3 (dk_at dksX0_isField_2 10 rfl rfl)
theorem dX0_isField_57 : decode cX0_isField 57 = .ok (.ireturn, 1) := dk_172 (dk_at dksX0_isField_2 11 rfl rfl)
abbrev cX0_record : ByteArray := prog_1_method_78_code
def yX0_record : MethodName := ⟨RX0, "record", "(III)I"⟩
def dkwX0_record_1 : List UInt8 := [154, 0, 8, 16, 253, 167, 0, 16, 42, 180, 0, 120, 27, 50, 180, 2, 34, 28, 50, 29, 51, 172]
abbrev dktX0_record_1 : List UInt8 := dkwX0_record_1 ++ []
def dkwX0_record_0 : List UInt8 := [42, 27, 28, 29, 182, 2, 28, 154, 0, 7, 2, 167, 0, 33, 42, 180, 0, 120, 27, 50, 180, 1, 180]
abbrev dktX0_record_0 : List UInt8 := dkwX0_record_0 ++ dktX0_record_1
theorem dksX0_record_0 : cX0_record.data.toList.drop 0 = dktX0_record_0 := by decide +kernel
theorem dksX0_record_1 : cX0_record.data.toList.drop 23 = dktX0_record_1 := dk_seg dksX0_record_0 23 rfl rfl
theorem dX0_record_0 : decode cX0_record 0 = .ok (.aload_n 0, 1) := dk_42 (dk_at dksX0_record_0 0 rfl rfl)
theorem dX0_record_1 : decode cX0_record 1 = .ok (.iload_n 1, 1) := dk_27 (dk_at dksX0_record_0 1 rfl rfl)
theorem dX0_record_2 : decode cX0_record 2 = .ok (.iload_n 2, 1) := dk_28 (dk_at dksX0_record_0 2 rfl rfl)
theorem dX0_record_3 : decode cX0_record 3 = .ok (.iload_n 3, 1) := dk_29 (dk_at dksX0_record_0 3 rfl rfl)
theorem dX0_record_4 : decode cX0_record 4 = .ok (.invokevirtual 540, 3) := dk_182 2 28 (dk_at dksX0_record_0 4 rfl rfl)
theorem dX0_record_7 : decode cX0_record 7 = .ok (.ifCond .ne 7, 3) := dk_154 0 7 (dk_at dksX0_record_0 7 rfl rfl)
theorem dX0_record_10 : decode cX0_record 10 = .ok (.iconst (-1), 1) := dk_2 (dk_at dksX0_record_0 10 rfl rfl)
theorem dX0_record_11 : decode cX0_record 11 = .ok (.goto 33, 3) := dk_167 0 33 (dk_at dksX0_record_0 11 rfl rfl)
theorem dX0_record_14 : decode cX0_record 14 = .ok (.aload_n 0, 1) := dk_42 (dk_at dksX0_record_0 14 rfl rfl)
theorem dX0_record_15 : decode cX0_record 15 = .ok (.getfield 120, 3) := dk_180 0 120 (dk_at dksX0_record_0 15 rfl rfl)
theorem dX0_record_18 : decode cX0_record 18 = .ok (.iload_n 1, 1) := dk_27 (dk_at dksX0_record_0 18 rfl rfl)
theorem dX0_record_19 : decode cX0_record 19 = .ok (.aaload, 1) := dk_50 (dk_at dksX0_record_0 19 rfl rfl)
theorem dX0_record_20 : decode cX0_record 20 = .ok (.getfield 436, 3) := dk_180 1 180 (dk_at dksX0_record_0 20 rfl rfl)
theorem dX0_record_23 : decode cX0_record 23 = .ok (.ifCond .ne 8, 3) := dk_154 0 8 (dk_at dksX0_record_1 0 rfl rfl)
theorem dX0_record_26 : decode cX0_record 26 = .ok (.bipush (-3), 2) := dk_16 253 (dk_at dksX0_record_1 3 rfl rfl)
theorem dX0_record_28 : decode cX0_record 28 = .ok (.goto 16, 3) := dk_167 0 16 (dk_at dksX0_record_1 5 rfl rfl)
theorem dX0_record_31 : decode cX0_record 31 = .ok (.aload_n 0, 1) := dk_42 (dk_at dksX0_record_1 8 rfl rfl)
theorem dX0_record_32 : decode cX0_record 32 = .ok (.getfield 120, 3) := dk_180 0 120 (dk_at dksX0_record_1 9 rfl rfl)
theorem dX0_record_35 : decode cX0_record 35 = .ok (.iload_n 1, 1) := dk_27 (dk_at dksX0_record_1 12 rfl rfl)
theorem dX0_record_36 : decode cX0_record 36 = .ok (.aaload, 1) := dk_50 (dk_at dksX0_record_1 13 rfl rfl)
theorem dX0_record_37 : decode cX0_record 37 = .ok (.getfield 546, 3) := dk_180 2 34 (dk_at dksX0_record_1 14 rfl rfl)
theorem dX0_record_40 : decode cX0_record 40 = .ok (.iload_n 2, 1) := dk_28 (dk_at dksX0_record_1 17 rfl rfl)
theorem dX0_record_41 : decode cX0_record 41 = .ok (.aaload, 1) := dk_50 (dk_at dksX0_record_1 18 rfl rfl)
theorem dX0_record_42 : decode cX0_record 42 = .ok (.iload_n 3, 1) := dk_29 (dk_at dksX0_record_1 19 rfl rfl)
theorem dX0_record_43 : decode cX0_record 43 = .ok (.baload, 1) := dk_51 (dk_at dksX0_record_1 20 rfl rfl)
theorem dX0_record_44 : decode cX0_record 44 = .ok (.ireturn, 1) := dk_172 (dk_at dksX0_record_1 21 rfl rfl)
abbrev cX0_misread : ByteArray := prog_1_method_79_code
def yX0_misread : MethodName := ⟨RX0, "misread", "(IIII)I"⟩
def dkwX0_misread_3 : List UInt8 := [84, 21, 5, 172]
abbrev dktX0_misread_3 : List UInt8 := dkwX0_misread_3 ++ []
def dkwX0_misread_2 : List UInt8 := [180, 2, 34, 28, 50, 29, 51, 54, 5, 42, 180, 0, 120, 27, 50, 180, 2, 34, 28, 50, 29, 21, 4, 145]
abbrev dktX0_misread_2 : List UInt8 := dkwX0_misread_2 ++ dktX0_misread_3
def dkwX0_misread_1 : List UInt8 := [16, 253, 172, 21, 4, 3, 16, 9, 184, 0, 163, 154, 0, 6, 16, 254, 172, 42, 180, 0, 120, 27, 50]
abbrev dktX0_misread_1 : List UInt8 := dkwX0_misread_1 ++ dktX0_misread_2
def dkwX0_misread_0 : List UInt8 := [42, 27, 28, 29, 182, 2, 28, 154, 0, 5, 2, 172, 42, 180, 0, 120, 27, 50, 180, 1, 180, 154, 0, 6]
abbrev dktX0_misread_0 : List UInt8 := dkwX0_misread_0 ++ dktX0_misread_1
theorem dksX0_misread_0 : cX0_misread.data.toList.drop 0 = dktX0_misread_0 := by decide +kernel
theorem dksX0_misread_1 : cX0_misread.data.toList.drop 24 = dktX0_misread_1 := dk_seg dksX0_misread_0 24 rfl rfl
theorem dksX0_misread_2 : cX0_misread.data.toList.drop 47 = dktX0_misread_2 := dk_seg dksX0_misread_1 23 rfl rfl
theorem dksX0_misread_3 : cX0_misread.data.toList.drop 71 = dktX0_misread_3 := dk_seg dksX0_misread_2 24 rfl rfl
theorem dX0_misread_0 : decode cX0_misread 0 = .ok (.aload_n 0, 1) := dk_42 (dk_at dksX0_misread_0 0 rfl rfl)
theorem dX0_misread_1 : decode cX0_misread 1 = .ok (.iload_n 1, 1) := dk_27 (dk_at dksX0_misread_0 1 rfl rfl)
theorem dX0_misread_2 : decode cX0_misread 2 = .ok (.iload_n 2, 1) := dk_28 (dk_at dksX0_misread_0 2 rfl rfl)
theorem dX0_misread_3 : decode cX0_misread 3 = .ok (.iload_n 3, 1) := dk_29 (dk_at dksX0_misread_0 3 rfl rfl)
theorem dX0_misread_4 : decode cX0_misread 4 = .ok (.invokevirtual 540, 3) := dk_182 2 28 (dk_at dksX0_misread_0 4 rfl rfl)
theorem dX0_misread_7 : decode cX0_misread 7 = .ok (.ifCond .ne 5, 3) := dk_154 0 5 (dk_at dksX0_misread_0 7 rfl rfl)
theorem dX0_misread_10 : decode cX0_misread 10 = .ok (.iconst (-1), 1) := dk_2 (dk_at dksX0_misread_0 10 rfl rfl)
theorem dX0_misread_11 : decode cX0_misread 11 = .ok (.ireturn, 1) := dk_172 (dk_at dksX0_misread_0 11 rfl rfl)
theorem dX0_misread_12 : decode cX0_misread 12 = .ok (.aload_n 0, 1) := dk_42 (dk_at dksX0_misread_0 12 rfl rfl)
theorem dX0_misread_13 : decode cX0_misread 13 = .ok (.getfield 120, 3) := dk_180 0 120 (dk_at dksX0_misread_0 13 rfl rfl)
theorem dX0_misread_16 : decode cX0_misread 16 = .ok (.iload_n 1, 1) := dk_27 (dk_at dksX0_misread_0 16 rfl rfl)
theorem dX0_misread_17 : decode cX0_misread 17 = .ok (.aaload, 1) := dk_50 (dk_at dksX0_misread_0 17 rfl rfl)
theorem dX0_misread_18 : decode cX0_misread 18 = .ok (.getfield 436, 3) := dk_180 1 180 (dk_at dksX0_misread_0 18 rfl rfl)
theorem dX0_misread_21 : decode cX0_misread 21 = .ok (.ifCond .ne 6, 3) := dk_154 0 6 (dk_at dksX0_misread_0 21 rfl rfl)
theorem dX0_misread_24 : decode cX0_misread 24 = .ok (.bipush (-3), 2) := dk_16 253 (dk_at dksX0_misread_1 0 rfl rfl)
theorem dX0_misread_26 : decode cX0_misread 26 = .ok (.ireturn, 1) := dk_172 (dk_at dksX0_misread_1 2 rfl rfl)
theorem dX0_misread_27 : decode cX0_misread 27 = .ok (.iload 4, 2) := dk_21 4 (dk_at dksX0_misread_1 3 rfl rfl)
theorem dX0_misread_29 : decode cX0_misread 29 = .ok (.iconst 0, 1) := dk_3 (dk_at dksX0_misread_1 5 rfl rfl)
theorem dX0_misread_30 : decode cX0_misread 30 = .ok (.bipush 9, 2) := dk_16 9 (dk_at dksX0_misread_1 6 rfl rfl)
theorem dX0_misread_32 : decode cX0_misread 32 = .ok (.invokestatic 163, 3) := dk_184 0 163 (dk_at dksX0_misread_1 8 rfl rfl)
theorem dX0_misread_35 : decode cX0_misread 35 = .ok (.ifCond .ne 6, 3) := dk_154 0 6 (dk_at dksX0_misread_1 11 rfl rfl)
theorem dX0_misread_38 : decode cX0_misread 38 = .ok (.bipush (-2), 2) := dk_16 254 (dk_at dksX0_misread_1 14 rfl rfl)
theorem dX0_misread_40 : decode cX0_misread 40 = .ok (.ireturn, 1) := dk_172 (dk_at dksX0_misread_1 16 rfl rfl)
theorem dX0_misread_41 : decode cX0_misread 41 = .ok (.aload_n 0, 1) := dk_42 (dk_at dksX0_misread_1 17 rfl rfl)
theorem dX0_misread_42 : decode cX0_misread 42 = .ok (.getfield 120, 3) := dk_180 0 120 (dk_at dksX0_misread_1 18 rfl rfl)
theorem dX0_misread_45 : decode cX0_misread 45 = .ok (.iload_n 1, 1) := dk_27 (dk_at dksX0_misread_1 21 rfl rfl)
theorem dX0_misread_46 : decode cX0_misread 46 = .ok (.aaload, 1) := dk_50 (dk_at dksX0_misread_1 22 rfl rfl)
theorem dX0_misread_47 : decode cX0_misread 47 = .ok (.getfield 546, 3) := dk_180 2 34 (dk_at dksX0_misread_2 0 rfl rfl)
theorem dX0_misread_50 : decode cX0_misread 50 = .ok (.iload_n 2, 1) := dk_28 (dk_at dksX0_misread_2 3 rfl rfl)
theorem dX0_misread_51 : decode cX0_misread 51 = .ok (.aaload, 1) := dk_50 (dk_at dksX0_misread_2 4 rfl rfl)
theorem dX0_misread_52 : decode cX0_misread 52 = .ok (.iload_n 3, 1) := dk_29 (dk_at dksX0_misread_2 5 rfl rfl)
theorem dX0_misread_53 : decode cX0_misread 53 = .ok (.baload, 1) := dk_51 (dk_at dksX0_misread_2 6 rfl rfl)
theorem dX0_misread_54 : decode cX0_misread 54 = .ok (.istore 5, 2) := dk_54 5 (dk_at dksX0_misread_2 7 rfl rfl)
theorem dX0_misread_56 : decode cX0_misread 56 = .ok (.aload_n 0, 1) := dk_42 (dk_at dksX0_misread_2 9 rfl rfl)
theorem dX0_misread_57 : decode cX0_misread 57 = .ok (.getfield 120, 3) := dk_180 0 120 (dk_at dksX0_misread_2 10 rfl rfl)
theorem dX0_misread_60 : decode cX0_misread 60 = .ok (.iload_n 1, 1) := dk_27 (dk_at dksX0_misread_2 13 rfl rfl)
theorem dX0_misread_61 : decode cX0_misread 61 = .ok (.aaload, 1) := dk_50 (dk_at dksX0_misread_2 14 rfl rfl)
theorem dX0_misread_62 : decode cX0_misread 62 = .ok (.getfield 546, 3) := dk_180 2 34 (dk_at dksX0_misread_2 15 rfl rfl)
theorem dX0_misread_65 : decode cX0_misread 65 = .ok (.iload_n 2, 1) := dk_28 (dk_at dksX0_misread_2 18 rfl rfl)
theorem dX0_misread_66 : decode cX0_misread 66 = .ok (.aaload, 1) := dk_50 (dk_at dksX0_misread_2 19 rfl rfl)
theorem dX0_misread_67 : decode cX0_misread 67 = .ok (.iload_n 3, 1) := dk_29 (dk_at dksX0_misread_2 20 rfl rfl)
theorem dX0_misread_68 : decode cX0_misread 68 = .ok (.iload 4, 2) := dk_21 4 (dk_at dksX0_misread_2 21 rfl rfl)
theorem dX0_misread_70 : decode cX0_misread 70 = .ok (.i2b, 1) := dk_145 (dk_at dksX0_misread_2 23 rfl rfl)
theorem dX0_misread_71 : decode cX0_misread 71 = .ok (.bastore, 1) := dk_84 (dk_at dksX0_misread_3 0 rfl rfl)
theorem dX0_misread_72 : decode cX0_misread 72 = .ok (.iload 5, 2) := dk_21 5 (dk_at dksX0_misread_3 1 rfl rfl)
theorem dX0_misread_74 : decode cX0_misread 74 = .ok (.ireturn, 1) := dk_172 (dk_at dksX0_misread_3 3 rfl rfl)
abbrev cX0_strike : ByteArray := prog_1_method_80_code
def yX0_strike : MethodName := ⟨RX0, "strike", "(III)I"⟩
def dkwX0_strike_2 : List UInt8 := [28, 29, 3, 182, 0, 173, 42, 180, 0, 62, 27, 50, 182, 1, 64, 172]
abbrev dktX0_strike_2 : List UInt8 := dkwX0_strike_2 ++ []
def dkwX0_strike_1 : List UInt8 := [180, 0, 62, 27, 50, 180, 1, 162, 28, 29, 4, 160, 0, 7, 4, 167, 0, 4, 3, 84, 42, 16, 26, 27]
abbrev dktX0_strike_1 : List UInt8 := dkwX0_strike_1 ++ dktX0_strike_2
def dkwX0_strike_0 : List UInt8 := [42, 27, 28, 182, 1, 150, 154, 0, 5, 2, 172, 29, 3, 4, 184, 0, 163, 154, 0, 6, 16, 254, 172, 42]
abbrev dktX0_strike_0 : List UInt8 := dkwX0_strike_0 ++ dktX0_strike_1
theorem dksX0_strike_0 : cX0_strike.data.toList.drop 0 = dktX0_strike_0 := by decide +kernel
theorem dksX0_strike_1 : cX0_strike.data.toList.drop 24 = dktX0_strike_1 := dk_seg dksX0_strike_0 24 rfl rfl
theorem dksX0_strike_2 : cX0_strike.data.toList.drop 48 = dktX0_strike_2 := dk_seg dksX0_strike_1 24 rfl rfl
theorem dX0_strike_0 : decode cX0_strike 0 = .ok (.aload_n 0, 1) := dk_42 (dk_at dksX0_strike_0 0 rfl rfl)
theorem dX0_strike_1 : decode cX0_strike 1 = .ok (.iload_n 1, 1) := dk_27 (dk_at dksX0_strike_0 1 rfl rfl)
theorem dX0_strike_2 : decode cX0_strike 2 = .ok (.iload_n 2, 1) := dk_28 (dk_at dksX0_strike_0 2 rfl rfl)
theorem dX0_strike_3 : decode cX0_strike 3 = .ok (.invokevirtual 406, 3) := dk_182 1 150 (dk_at dksX0_strike_0 3 rfl rfl)
theorem dX0_strike_6 : decode cX0_strike 6 = .ok (.ifCond .ne 5, 3) := dk_154 0 5 (dk_at dksX0_strike_0 6 rfl rfl)
theorem dX0_strike_9 : decode cX0_strike 9 = .ok (.iconst (-1), 1) := dk_2 (dk_at dksX0_strike_0 9 rfl rfl)
theorem dX0_strike_10 : decode cX0_strike 10 = .ok (.ireturn, 1) := dk_172 (dk_at dksX0_strike_0 10 rfl rfl)
theorem dX0_strike_11 : decode cX0_strike 11 = .ok (.iload_n 3, 1) := dk_29 (dk_at dksX0_strike_0 11 rfl rfl)
theorem dX0_strike_12 : decode cX0_strike 12 = .ok (.iconst 0, 1) := dk_3 (dk_at dksX0_strike_0 12 rfl rfl)
theorem dX0_strike_13 : decode cX0_strike 13 = .ok (.iconst 1, 1) := dk_4 (dk_at dksX0_strike_0 13 rfl rfl)
theorem dX0_strike_14 : decode cX0_strike 14 = .ok (.invokestatic 163, 3) := dk_184 0 163 (dk_at dksX0_strike_0 14 rfl rfl)
theorem dX0_strike_17 : decode cX0_strike 17 = .ok (.ifCond .ne 6, 3) := dk_154 0 6 (dk_at dksX0_strike_0 17 rfl rfl)
theorem dX0_strike_20 : decode cX0_strike 20 = .ok (.bipush (-2), 2) := dk_16 254 (dk_at dksX0_strike_0 20 rfl rfl)
theorem dX0_strike_22 : decode cX0_strike 22 = .ok (.ireturn, 1) := dk_172 (dk_at dksX0_strike_0 22 rfl rfl)
theorem dX0_strike_23 : decode cX0_strike 23 = .ok (.aload_n 0, 1) := dk_42 (dk_at dksX0_strike_0 23 rfl rfl)
theorem dX0_strike_24 : decode cX0_strike 24 = .ok (.getfield 62, 3) := dk_180 0 62 (dk_at dksX0_strike_1 0 rfl rfl)
theorem dX0_strike_27 : decode cX0_strike 27 = .ok (.iload_n 1, 1) := dk_27 (dk_at dksX0_strike_1 3 rfl rfl)
theorem dX0_strike_28 : decode cX0_strike 28 = .ok (.aaload, 1) := dk_50 (dk_at dksX0_strike_1 4 rfl rfl)
theorem dX0_strike_29 : decode cX0_strike 29 = .ok (.getfield 418, 3) := dk_180 1 162 (dk_at dksX0_strike_1 5 rfl rfl)
theorem dX0_strike_32 : decode cX0_strike 32 = .ok (.iload_n 2, 1) := dk_28 (dk_at dksX0_strike_1 8 rfl rfl)
theorem dX0_strike_33 : decode cX0_strike 33 = .ok (.iload_n 3, 1) := dk_29 (dk_at dksX0_strike_1 9 rfl rfl)
theorem dX0_strike_34 : decode cX0_strike 34 = .ok (.iconst 1, 1) := dk_4 (dk_at dksX0_strike_1 10 rfl rfl)
theorem dX0_strike_35 : decode cX0_strike 35 = .ok (.if_icmp .ne 7, 3) := dk_160 0 7 (dk_at dksX0_strike_1 11 rfl rfl)
theorem dX0_strike_38 : decode cX0_strike 38 = .ok (.iconst 1, 1) := dk_4 (dk_at dksX0_strike_1 14 rfl rfl)
theorem dX0_strike_39 : decode cX0_strike 39 = .ok (.goto 4, 3) := dk_167 0 4 (dk_at dksX0_strike_1 15 rfl rfl)
theorem dX0_strike_42 : decode cX0_strike 42 = .ok (.iconst 0, 1) := dk_3 (dk_at dksX0_strike_1 18 rfl rfl)
theorem dX0_strike_43 : decode cX0_strike 43 = .ok (.bastore, 1) := dk_84 (dk_at dksX0_strike_1 19 rfl rfl)
theorem dX0_strike_44 : decode cX0_strike 44 = .ok (.aload_n 0, 1) := dk_42 (dk_at dksX0_strike_1 20 rfl rfl)
theorem dX0_strike_45 : decode cX0_strike 45 = .ok (.bipush 26, 2) := dk_16 26 (dk_at dksX0_strike_1 21 rfl rfl)
theorem dX0_strike_47 : decode cX0_strike 47 = .ok (.iload_n 1, 1) := dk_27 (dk_at dksX0_strike_1 23 rfl rfl)
theorem dX0_strike_48 : decode cX0_strike 48 = .ok (.iload_n 2, 1) := dk_28 (dk_at dksX0_strike_2 0 rfl rfl)
theorem dX0_strike_49 : decode cX0_strike 49 = .ok (.iload_n 3, 1) := dk_29 (dk_at dksX0_strike_2 1 rfl rfl)
theorem dX0_strike_50 : decode cX0_strike 50 = .ok (.iconst 0, 1) := dk_3 (dk_at dksX0_strike_2 2 rfl rfl)
theorem dX0_strike_51 : decode cX0_strike 51 = .ok (.invokevirtual 173, 3) := dk_182 0 173 (dk_at dksX0_strike_2 3 rfl rfl)
theorem dX0_strike_54 : decode cX0_strike 54 = .ok (.aload_n 0, 1) := dk_42 (dk_at dksX0_strike_2 6 rfl rfl)
theorem dX0_strike_55 : decode cX0_strike 55 = .ok (.getfield 62, 3) := dk_180 0 62 (dk_at dksX0_strike_2 7 rfl rfl)
theorem dX0_strike_58 : decode cX0_strike 58 = .ok (.iload_n 1, 1) := dk_27 (dk_at dksX0_strike_2 10 rfl rfl)
theorem dX0_strike_59 : decode cX0_strike 59 = .ok (.aaload, 1) := dk_50 (dk_at dksX0_strike_2 11 rfl rfl)
theorem dX0_strike_60 : decode cX0_strike 60 = .ok (.invokevirtual 320, 3) := dk_182 1 64 (dk_at dksX0_strike_2 12 rfl rfl)
theorem dX0_strike_63 : decode cX0_strike 63 = .ok (.ireturn, 1) := dk_172 (dk_at dksX0_strike_2 15 rfl rfl)
abbrev cX0_voidBox : ByteArray := prog_1_method_81_code
def yX0_voidBox : MethodName := ⟨RX0, "voidBox", "(II)I"⟩
def dkwX0_voidBox_4 : List UInt8 := [132, 4, 1, 167, 255, 216, 29, 172]
abbrev dktX0_voidBox_4 : List UInt8 := dkwX0_voidBox_4 ++ []
def dkwX0_voidBox_3 : List UInt8 := [153, 0, 20, 42, 180, 0, 120, 21, 4, 50, 180, 2, 23, 153, 0, 7, 4, 167, 0, 4, 3, 96, 62]
abbrev dktX0_voidBox_3 : List UInt8 := dkwX0_voidBox_3 ++ dktX0_voidBox_4
def dkwX0_voidBox_2 : List UInt8 := [3, 182, 0, 173, 3, 62, 3, 54, 4, 21, 4, 16, 6, 163, 0, 39, 29, 42, 21, 4, 182, 2, 11]
abbrev dktX0_voidBox_2 : List UInt8 := dkwX0_voidBox_2 ++ dktX0_voidBox_3
def dkwX0_voidBox_1 : List UInt8 := [180, 0, 120, 27, 50, 28, 4, 160, 0, 7, 4, 167, 0, 4, 3, 181, 2, 23, 42, 16, 27, 27, 28, 3]
abbrev dktX0_voidBox_1 : List UInt8 := dkwX0_voidBox_1 ++ dktX0_voidBox_2
def dkwX0_voidBox_0 : List UInt8 := [42, 27, 182, 2, 11, 154, 0, 5, 2, 172, 28, 3, 4, 184, 0, 163, 154, 0, 6, 16, 254, 172, 42]
abbrev dktX0_voidBox_0 : List UInt8 := dkwX0_voidBox_0 ++ dktX0_voidBox_1
theorem dksX0_voidBox_0 : cX0_voidBox.data.toList.drop 0 = dktX0_voidBox_0 := by decide +kernel
theorem dksX0_voidBox_1 : cX0_voidBox.data.toList.drop 23 = dktX0_voidBox_1 := dk_seg dksX0_voidBox_0 23 rfl rfl
theorem dksX0_voidBox_2 : cX0_voidBox.data.toList.drop 47 = dktX0_voidBox_2 := dk_seg dksX0_voidBox_1 24 rfl rfl
theorem dksX0_voidBox_3 : cX0_voidBox.data.toList.drop 70 = dktX0_voidBox_3 := dk_seg dksX0_voidBox_2 23 rfl rfl
theorem dksX0_voidBox_4 : cX0_voidBox.data.toList.drop 93 = dktX0_voidBox_4 := dk_seg dksX0_voidBox_3 23 rfl rfl
theorem dX0_voidBox_0 : decode cX0_voidBox 0 = .ok (.aload_n 0, 1) := dk_42 (dk_at dksX0_voidBox_0 0 rfl rfl)
theorem dX0_voidBox_1 : decode cX0_voidBox 1 = .ok (.iload_n 1, 1) := dk_27 (dk_at dksX0_voidBox_0 1 rfl rfl)
theorem dX0_voidBox_2 : decode cX0_voidBox 2 = .ok (.invokevirtual 523, 3) := dk_182 2 11 (dk_at dksX0_voidBox_0 2 rfl rfl)
theorem dX0_voidBox_5 : decode cX0_voidBox 5 = .ok (.ifCond .ne 5, 3) := dk_154 0 5 (dk_at dksX0_voidBox_0 5 rfl rfl)
theorem dX0_voidBox_8 : decode cX0_voidBox 8 = .ok (.iconst (-1), 1) := dk_2 (dk_at dksX0_voidBox_0 8 rfl rfl)
theorem dX0_voidBox_9 : decode cX0_voidBox 9 = .ok (.ireturn, 1) := dk_172 (dk_at dksX0_voidBox_0 9 rfl rfl)
theorem dX0_voidBox_10 : decode cX0_voidBox 10 = .ok (.iload_n 2, 1) := dk_28 (dk_at dksX0_voidBox_0 10 rfl rfl)
theorem dX0_voidBox_11 : decode cX0_voidBox 11 = .ok (.iconst 0, 1) := dk_3 (dk_at dksX0_voidBox_0 11 rfl rfl)
theorem dX0_voidBox_12 : decode cX0_voidBox 12 = .ok (.iconst 1, 1) := dk_4 (dk_at dksX0_voidBox_0 12 rfl rfl)
theorem dX0_voidBox_13 : decode cX0_voidBox 13 = .ok (.invokestatic 163, 3) := dk_184 0 163 (dk_at dksX0_voidBox_0 13 rfl rfl)
theorem dX0_voidBox_16 : decode cX0_voidBox 16 = .ok (.ifCond .ne 6, 3) := dk_154 0 6 (dk_at dksX0_voidBox_0 16 rfl rfl)
theorem dX0_voidBox_19 : decode cX0_voidBox 19 = .ok (.bipush (-2), 2) := dk_16 254 (dk_at dksX0_voidBox_0 19 rfl rfl)
theorem dX0_voidBox_21 : decode cX0_voidBox 21 = .ok (.ireturn, 1) := dk_172 (dk_at dksX0_voidBox_0 21 rfl rfl)
theorem dX0_voidBox_22 : decode cX0_voidBox 22 = .ok (.aload_n 0, 1) := dk_42 (dk_at dksX0_voidBox_0 22 rfl rfl)
theorem dX0_voidBox_23 : decode cX0_voidBox 23 = .ok (.getfield 120, 3) := dk_180 0 120 (dk_at dksX0_voidBox_1 0 rfl rfl)
theorem dX0_voidBox_26 : decode cX0_voidBox 26 = .ok (.iload_n 1, 1) := dk_27 (dk_at dksX0_voidBox_1 3 rfl rfl)
theorem dX0_voidBox_27 : decode cX0_voidBox 27 = .ok (.aaload, 1) := dk_50 (dk_at dksX0_voidBox_1 4 rfl rfl)
theorem dX0_voidBox_28 : decode cX0_voidBox 28 = .ok (.iload_n 2, 1) := dk_28 (dk_at dksX0_voidBox_1 5 rfl rfl)
theorem dX0_voidBox_29 : decode cX0_voidBox 29 = .ok (.iconst 1, 1) := dk_4 (dk_at dksX0_voidBox_1 6 rfl rfl)
theorem dX0_voidBox_30 : decode cX0_voidBox 30 = .ok (.if_icmp .ne 7, 3) := dk_160 0 7 (dk_at dksX0_voidBox_1 7 rfl rfl)
theorem dX0_voidBox_33 : decode cX0_voidBox 33 = .ok (.iconst 1, 1) := dk_4 (dk_at dksX0_voidBox_1 10 rfl rfl)
theorem dX0_voidBox_34 : decode cX0_voidBox 34 = .ok (.goto 4, 3) := dk_167 0 4 (dk_at dksX0_voidBox_1 11 rfl rfl)
theorem dX0_voidBox_37 : decode cX0_voidBox 37 = .ok (.iconst 0, 1) := dk_3 (dk_at dksX0_voidBox_1 14 rfl rfl)
theorem dX0_voidBox_38 : decode cX0_voidBox 38 = .ok (.putfield 535, 3) := dk_181 2 23 (dk_at dksX0_voidBox_1 15 rfl rfl)
theorem dX0_voidBox_41 : decode cX0_voidBox 41 = .ok (.aload_n 0, 1) := dk_42 (dk_at dksX0_voidBox_1 18 rfl rfl)
theorem dX0_voidBox_42 : decode cX0_voidBox 42 = .ok (.bipush 27, 2) := dk_16 27 (dk_at dksX0_voidBox_1 19 rfl rfl)
theorem dX0_voidBox_44 : decode cX0_voidBox 44 = .ok (.iload_n 1, 1) := dk_27 (dk_at dksX0_voidBox_1 21 rfl rfl)
theorem dX0_voidBox_45 : decode cX0_voidBox 45 = .ok (.iload_n 2, 1) := dk_28 (dk_at dksX0_voidBox_1 22 rfl rfl)
theorem dX0_voidBox_46 : decode cX0_voidBox 46 = .ok (.iconst 0, 1) := dk_3 (dk_at dksX0_voidBox_1 23 rfl rfl)
theorem dX0_voidBox_47 : decode cX0_voidBox 47 = .ok (.iconst 0, 1) := dk_3 (dk_at dksX0_voidBox_2 0 rfl rfl)
theorem dX0_voidBox_48 : decode cX0_voidBox 48 = .ok (.invokevirtual 173, 3) := dk_182 0 173 (dk_at dksX0_voidBox_2 1 rfl rfl)
theorem dX0_voidBox_51 : decode cX0_voidBox 51 = .ok (.iconst 0, 1) := dk_3 (dk_at dksX0_voidBox_2 4 rfl rfl)
theorem dX0_voidBox_52 : decode cX0_voidBox 52 = .ok (.istore_n 3, 1) := dk_62 (dk_at dksX0_voidBox_2 5 rfl rfl)
theorem dX0_voidBox_53 : decode cX0_voidBox 53 = .ok (.iconst 0, 1) := dk_3 (dk_at dksX0_voidBox_2 6 rfl rfl)
theorem dX0_voidBox_54 : decode cX0_voidBox 54 = .ok (.istore 4, 2) := dk_54 4 (dk_at dksX0_voidBox_2 7 rfl rfl)
theorem dX0_voidBox_56 : decode cX0_voidBox 56 = .ok (.iload 4, 2) := dk_21 4 (dk_at dksX0_voidBox_2 9 rfl rfl)
theorem dX0_voidBox_58 : decode cX0_voidBox 58 = .ok (.bipush 6, 2) := dk_16 6 (dk_at dksX0_voidBox_2 11 rfl rfl)
theorem dX0_voidBox_60 : decode cX0_voidBox 60 = .ok (.if_icmp .gt 39, 3) := dk_163 0 39 (dk_at dksX0_voidBox_2 13 rfl rfl)
theorem dX0_voidBox_63 : decode cX0_voidBox 63 = .ok (.iload_n 3, 1) := dk_29 (dk_at dksX0_voidBox_2 16 rfl rfl)
theorem dX0_voidBox_64 : decode cX0_voidBox 64 = .ok (.aload_n 0, 1) := dk_42 (dk_at dksX0_voidBox_2 17 rfl rfl)
theorem dX0_voidBox_65 : decode cX0_voidBox 65 = .ok (.iload 4, 2) := dk_21 4 (dk_at dksX0_voidBox_2 18 rfl rfl)
theorem dX0_voidBox_67 : decode cX0_voidBox 67 = .ok (.invokevirtual 523, 3) := dk_182 2 11 (dk_at dksX0_voidBox_2 20 rfl rfl)
theorem dX0_voidBox_70 : decode cX0_voidBox 70 = .ok (.ifCond .eq 20, 3) := dk_153 0 20 (dk_at dksX0_voidBox_3 0 rfl rfl)
theorem dX0_voidBox_73 : decode cX0_voidBox 73 = .ok (.aload_n 0, 1) := dk_42 (dk_at dksX0_voidBox_3 3 rfl rfl)
theorem dX0_voidBox_74 : decode cX0_voidBox 74 = .ok (.getfield 120, 3) := dk_180 0 120 (dk_at dksX0_voidBox_3 4 rfl rfl)
theorem dX0_voidBox_77 : decode cX0_voidBox 77 = .ok (.iload 4, 2) := dk_21 4 (dk_at dksX0_voidBox_3 7 rfl rfl)
theorem dX0_voidBox_79 : decode cX0_voidBox 79 = .ok (.aaload, 1) := dk_50 (dk_at dksX0_voidBox_3 9 rfl rfl)
theorem dX0_voidBox_80 : decode cX0_voidBox 80 = .ok (.getfield 535, 3) := dk_180 2 23 (dk_at dksX0_voidBox_3 10 rfl rfl)
theorem dX0_voidBox_83 : decode cX0_voidBox 83 = .ok (.ifCond .eq 7, 3) := dk_153 0 7 (dk_at dksX0_voidBox_3 13 rfl rfl)
theorem dX0_voidBox_86 : decode cX0_voidBox 86 = .ok (.iconst 1, 1) := dk_4 (dk_at dksX0_voidBox_3 16 rfl rfl)
theorem dX0_voidBox_87 : decode cX0_voidBox 87 = .ok (.goto 4, 3) := dk_167 0 4 (dk_at dksX0_voidBox_3 17 rfl rfl)
theorem dX0_voidBox_90 : decode cX0_voidBox 90 = .ok (.iconst 0, 1) := dk_3 (dk_at dksX0_voidBox_3 20 rfl rfl)
theorem dX0_voidBox_91 : decode cX0_voidBox 91 = .ok (.iadd, 1) := dk_96 (dk_at dksX0_voidBox_3 21 rfl rfl)
theorem dX0_voidBox_92 : decode cX0_voidBox 92 = .ok (.istore_n 3, 1) := dk_62 (dk_at dksX0_voidBox_3 22 rfl rfl)
theorem dX0_voidBox_93 : decode cX0_voidBox 93 = .ok (.iinc 4 1, 3) := dk_132 4 1 (dk_at dksX0_voidBox_4 0 rfl rfl)
theorem dX0_voidBox_96 : decode cX0_voidBox 96 = .ok (.goto (-40), 3) := dk_167 255 216 (dk_at dksX0_voidBox_4 3 rfl rfl)
theorem dX0_voidBox_99 : decode cX0_voidBox 99 = .ok (.iload_n 3, 1) := dk_29 (dk_at dksX0_voidBox_4 6 rfl rfl)
theorem dX0_voidBox_100 : decode cX0_voidBox 100 = .ok (.ireturn, 1) := dk_172 (dk_at dksX0_voidBox_4 7 rfl rfl)
abbrev cX0_count : ByteArray := prog_1_method_86_code
def yX0_count : MethodName := ⟨RX0, "count", "(II)I"⟩
def dkwX0_count_3 : List UInt8 := [160, 0, 7, 4, 167, 0, 4, 3, 182, 2, 52, 42, 4, 181, 1, 31, 42, 180, 0, 127, 180, 2, 56, 172]
abbrev dktX0_count_3 : List UInt8 := dkwX0_count_3 ++ []
def dkwX0_count_2 : List UInt8 := [42, 28, 4, 160, 0, 7, 4, 167, 0, 4, 3, 182, 2, 71, 42, 42, 180, 0, 127, 27, 28, 4]
abbrev dktX0_count_2 : List UInt8 := dkwX0_count_2 ++ dktX0_count_3
def dkwX0_count_1 : List UInt8 := [182, 2, 65, 154, 0, 6, 16, 253, 172, 42, 180, 0, 42, 180, 1, 43, 27, 50, 180, 2, 68, 153, 0, 17]
abbrev dktX0_count_1 : List UInt8 := dkwX0_count_1 ++ dktX0_count_2
def dkwX0_count_0 : List UInt8 := [42, 27, 182, 1, 40, 154, 0, 5, 2, 172, 28, 3, 4, 184, 0, 163, 154, 0, 6, 16, 254, 172, 42]
abbrev dktX0_count_0 : List UInt8 := dkwX0_count_0 ++ dktX0_count_1
theorem dksX0_count_0 : cX0_count.data.toList.drop 0 = dktX0_count_0 := by decide +kernel
theorem dksX0_count_1 : cX0_count.data.toList.drop 23 = dktX0_count_1 := dk_seg dksX0_count_0 23 rfl rfl
theorem dksX0_count_2 : cX0_count.data.toList.drop 47 = dktX0_count_2 := dk_seg dksX0_count_1 24 rfl rfl
theorem dksX0_count_3 : cX0_count.data.toList.drop 69 = dktX0_count_3 := dk_seg dksX0_count_2 22 rfl rfl
theorem dX0_count_0 : decode cX0_count 0 = .ok (.aload_n 0, 1) := dk_42 (dk_at dksX0_count_0 0 rfl rfl)
theorem dX0_count_1 : decode cX0_count 1 = .ok (.iload_n 1, 1) := dk_27 (dk_at dksX0_count_0 1 rfl rfl)
theorem dX0_count_2 : decode cX0_count 2 = .ok (.invokevirtual 296, 3) := dk_182 1 40 (dk_at dksX0_count_0 2 rfl rfl)
theorem dX0_count_5 : decode cX0_count 5 = .ok (.ifCond .ne 5, 3) := dk_154 0 5 (dk_at dksX0_count_0 5 rfl rfl)
theorem dX0_count_8 : decode cX0_count 8 = .ok (.iconst (-1), 1) := dk_2 (dk_at dksX0_count_0 8 rfl rfl)
theorem dX0_count_9 : decode cX0_count 9 = .ok (.ireturn, 1) := dk_172 (dk_at dksX0_count_0 9 rfl rfl)
theorem dX0_count_10 : decode cX0_count 10 = .ok (.iload_n 2, 1) := dk_28 (dk_at dksX0_count_0 10 rfl rfl)
theorem dX0_count_11 : decode cX0_count 11 = .ok (.iconst 0, 1) := dk_3 (dk_at dksX0_count_0 11 rfl rfl)
theorem dX0_count_12 : decode cX0_count 12 = .ok (.iconst 1, 1) := dk_4 (dk_at dksX0_count_0 12 rfl rfl)
theorem dX0_count_13 : decode cX0_count 13 = .ok (.invokestatic 163, 3) := dk_184 0 163 (dk_at dksX0_count_0 13 rfl rfl)
theorem dX0_count_16 : decode cX0_count 16 = .ok (.ifCond .ne 6, 3) := dk_154 0 6 (dk_at dksX0_count_0 16 rfl rfl)
theorem dX0_count_19 : decode cX0_count 19 = .ok (.bipush (-2), 2) := dk_16 254 (dk_at dksX0_count_0 19 rfl rfl)
theorem dX0_count_21 : decode cX0_count 21 = .ok (.ireturn, 1) := dk_172 (dk_at dksX0_count_0 21 rfl rfl)
theorem dX0_count_22 : decode cX0_count 22 = .ok (.aload_n 0, 1) := dk_42 (dk_at dksX0_count_0 22 rfl rfl)
theorem dX0_count_23 : decode cX0_count 23 = .ok (.invokevirtual 577, 3) := dk_182 2 65 (dk_at dksX0_count_1 0 rfl rfl)
theorem dX0_count_26 : decode cX0_count 26 = .ok (.ifCond .ne 6, 3) := dk_154 0 6 (dk_at dksX0_count_1 3 rfl rfl)
theorem dX0_count_29 : decode cX0_count 29 = .ok (.bipush (-3), 2) := dk_16 253 (dk_at dksX0_count_1 6 rfl rfl)
theorem dX0_count_31 : decode cX0_count 31 = .ok (.ireturn, 1) := dk_172 (dk_at dksX0_count_1 8 rfl rfl)
theorem dX0_count_32 : decode cX0_count 32 = .ok (.aload_n 0, 1) := dk_42 (dk_at dksX0_count_1 9 rfl rfl)
theorem dX0_count_33 : decode cX0_count 33 = .ok (.getfield 42, 3) := dk_180 0 42 (dk_at dksX0_count_1 10 rfl rfl)
theorem dX0_count_36 : decode cX0_count 36 = .ok (.getfield 299, 3) := dk_180 1 43 (dk_at dksX0_count_1 13 rfl rfl)
theorem dX0_count_39 : decode cX0_count 39 = .ok (.iload_n 1, 1) := dk_27 (dk_at dksX0_count_1 16 rfl rfl)
theorem dX0_count_40 : decode cX0_count 40 = .ok (.aaload, 1) := dk_50 (dk_at dksX0_count_1 17 rfl rfl)
theorem dX0_count_41 : decode cX0_count 41 = .ok (.getfield 580, 3) := dk_180 2 68 (dk_at dksX0_count_1 18 rfl rfl)
theorem dX0_count_44 : decode cX0_count 44 = .ok (.ifCond .eq 17, 3) := dk_153 0 17 (dk_at dksX0_count_1 21 rfl rfl)
theorem dX0_count_47 : decode cX0_count 47 = .ok (.aload_n 0, 1) := dk_42 (dk_at dksX0_count_2 0 rfl rfl)
theorem dX0_count_48 : decode cX0_count 48 = .ok (.iload_n 2, 1) := dk_28 (dk_at dksX0_count_2 1 rfl rfl)
theorem dX0_count_49 : decode cX0_count 49 = .ok (.iconst 1, 1) := dk_4 (dk_at dksX0_count_2 2 rfl rfl)
theorem dX0_count_50 : decode cX0_count 50 = .ok (.if_icmp .ne 7, 3) := dk_160 0 7 (dk_at dksX0_count_2 3 rfl rfl)
theorem dX0_count_53 : decode cX0_count 53 = .ok (.iconst 1, 1) := dk_4 (dk_at dksX0_count_2 6 rfl rfl)
theorem dX0_count_54 : decode cX0_count 54 = .ok (.goto 4, 3) := dk_167 0 4 (dk_at dksX0_count_2 7 rfl rfl)
theorem dX0_count_57 : decode cX0_count 57 = .ok (.iconst 0, 1) := dk_3 (dk_at dksX0_count_2 10 rfl rfl)
theorem dX0_count_58 : decode cX0_count 58 = .ok (.invokevirtual 583, 3) := dk_182 2 71 (dk_at dksX0_count_2 11 rfl rfl)
theorem dX0_count_61 : decode cX0_count 61 = .ok (.aload_n 0, 1) := dk_42 (dk_at dksX0_count_2 14 rfl rfl)
theorem dX0_count_62 : decode cX0_count 62 = .ok (.aload_n 0, 1) := dk_42 (dk_at dksX0_count_2 15 rfl rfl)
theorem dX0_count_63 : decode cX0_count 63 = .ok (.getfield 127, 3) := dk_180 0 127 (dk_at dksX0_count_2 16 rfl rfl)
theorem dX0_count_66 : decode cX0_count 66 = .ok (.iload_n 1, 1) := dk_27 (dk_at dksX0_count_2 19 rfl rfl)
theorem dX0_count_67 : decode cX0_count 67 = .ok (.iload_n 2, 1) := dk_28 (dk_at dksX0_count_2 20 rfl rfl)
theorem dX0_count_68 : decode cX0_count 68 = .ok (.iconst 1, 1) := dk_4 (dk_at dksX0_count_2 21 rfl rfl)
theorem dX0_count_69 : decode cX0_count 69 = .ok (.if_icmp .ne 7, 3) := dk_160 0 7 (dk_at dksX0_count_3 0 rfl rfl)
theorem dX0_count_72 : decode cX0_count 72 = .ok (.iconst 1, 1) := dk_4 (dk_at dksX0_count_3 3 rfl rfl)
theorem dX0_count_73 : decode cX0_count 73 = .ok (.goto 4, 3) := dk_167 0 4 (dk_at dksX0_count_3 4 rfl rfl)
theorem dX0_count_76 : decode cX0_count 76 = .ok (.iconst 0, 1) := dk_3 (dk_at dksX0_count_3 7 rfl rfl)
theorem dX0_count_77 : decode cX0_count 77 = .ok (.invokevirtual 564, 3) := dk_182 2 52 (dk_at dksX0_count_3 8 rfl rfl)
theorem dX0_count_80 : decode cX0_count 80 = .ok (.aload_n 0, 1) := dk_42 (dk_at dksX0_count_3 11 rfl rfl)
theorem dX0_count_81 : decode cX0_count 81 = .ok (.iconst 1, 1) := dk_4 (dk_at dksX0_count_3 12 rfl rfl)
theorem dX0_count_82 : decode cX0_count 82 = .ok (.putfield 287, 3) := dk_181 1 31 (dk_at dksX0_count_3 13 rfl rfl)
theorem dX0_count_85 : decode cX0_count 85 = .ok (.aload_n 0, 1) := dk_42 (dk_at dksX0_count_3 16 rfl rfl)
theorem dX0_count_86 : decode cX0_count 86 = .ok (.getfield 127, 3) := dk_180 0 127 (dk_at dksX0_count_3 17 rfl rfl)
theorem dX0_count_89 : decode cX0_count 89 = .ok (.getfield 568, 3) := dk_180 2 56 (dk_at dksX0_count_3 20 rfl rfl)
theorem dX0_count_92 : decode cX0_count 92 = .ok (.ireturn, 1) := dk_172 (dk_at dksX0_count_3 23 rfl rfl)
abbrev cX0_isReady : ByteArray := prog_1_method_82_code
def yX0_isReady : MethodName := ⟨RX0, "isReady", "()Z"⟩
def dkwX0_isReady_2 : List UInt8 := [27, 172]
abbrev dktX0_isReady_2 : List UInt8 := dkwX0_isReady_2 ++ []
def dkwX0_isReady_1 : List UInt8 := [180, 0, 120, 28, 50, 180, 1, 180, 153, 0, 7, 4, 167, 0, 4, 3, 126, 60, 132, 2, 1, 167, 255, 219]
abbrev dktX0_isReady_1 : List UInt8 := dkwX0_isReady_1 ++ dktX0_isReady_2
def dkwX0_isReady_0 : List UInt8 := [42, 180, 1, 9, 60, 3, 61, 28, 16, 6, 163, 0, 37, 27, 42, 28, 182, 2, 11, 153, 0, 15, 42]
abbrev dktX0_isReady_0 : List UInt8 := dkwX0_isReady_0 ++ dktX0_isReady_1
theorem dksX0_isReady_0 : cX0_isReady.data.toList.drop 0 = dktX0_isReady_0 := by decide +kernel
theorem dksX0_isReady_1 : cX0_isReady.data.toList.drop 23 = dktX0_isReady_1 := dk_seg dksX0_isReady_0 23 rfl rfl
theorem dksX0_isReady_2 : cX0_isReady.data.toList.drop 47 = dktX0_isReady_2 := dk_seg dksX0_isReady_1 24 rfl rfl
theorem dX0_isReady_0 : decode cX0_isReady 0 = .ok (.aload_n 0, 1) := dk_42 (dk_at dksX0_isReady_0 0 rfl rfl)
theorem dX0_isReady_1 : decode cX0_isReady 1 = .ok (.getfield 265, 3) := dk_180 1 9 (dk_at dksX0_isReady_0 1 rfl rfl)
theorem dX0_isReady_4 : decode cX0_isReady 4 = .ok (.istore_n 1, 1) := dk_60 (dk_at dksX0_isReady_0 4 rfl rfl)
theorem dX0_isReady_5 : decode cX0_isReady 5 = .ok (.iconst 0, 1) := dk_3 (dk_at dksX0_isReady_0 5 rfl rfl)
theorem dX0_isReady_6 : decode cX0_isReady 6 = .ok (.istore_n 2, 1) := dk_61 (dk_at dksX0_isReady_0 6 rfl rfl)
theorem dX0_isReady_7 : decode cX0_isReady 7 = .ok (.iload_n 2, 1) := dk_28 (dk_at dksX0_isReady_0 7 rfl rfl)
theorem dX0_isReady_8 : decode cX0_isReady 8 = .ok (.bipush 6, 2) := dk_16 6 (dk_at dksX0_isReady_0 8 rfl rfl)
theorem dX0_isReady_10 : decode cX0_isReady 10 = .ok (.if_icmp .gt 37, 3) := dk_163 0 37 (dk_at dksX0_isReady_0 10 rfl rfl)
theorem dX0_isReady_13 : decode cX0_isReady 13 = .ok (.iload_n 1, 1) := dk_27 (dk_at dksX0_isReady_0 13 rfl rfl)
theorem dX0_isReady_14 : decode cX0_isReady 14 = .ok (.aload_n 0, 1) := dk_42 (dk_at dksX0_isReady_0 14 rfl rfl)
theorem dX0_isReady_15 : decode cX0_isReady 15 = .ok (.iload_n 2, 1) := dk_28 (dk_at dksX0_isReady_0 15 rfl rfl)
theorem dX0_isReady_16 : decode cX0_isReady 16 = .ok (.invokevirtual 523, 3) := dk_182 2 11 (dk_at dksX0_isReady_0 16 rfl rfl)
theorem dX0_isReady_19 : decode cX0_isReady 19 = .ok (.ifCond .eq 15, 3) := dk_153 0 15 (dk_at dksX0_isReady_0 19 rfl rfl)
theorem dX0_isReady_22 : decode cX0_isReady 22 = .ok (.aload_n 0, 1) := dk_42 (dk_at dksX0_isReady_0 22 rfl rfl)
theorem dX0_isReady_23 : decode cX0_isReady 23 = .ok (.getfield 120, 3) := dk_180 0 120 (dk_at dksX0_isReady_1 0 rfl rfl)
theorem dX0_isReady_26 : decode cX0_isReady 26 = .ok (.iload_n 2, 1) := dk_28 (dk_at dksX0_isReady_1 3 rfl rfl)
theorem dX0_isReady_27 : decode cX0_isReady 27 = .ok (.aaload, 1) := dk_50 (dk_at dksX0_isReady_1 4 rfl rfl)
theorem dX0_isReady_28 : decode cX0_isReady 28 = .ok (.getfield 436, 3) := dk_180 1 180 (dk_at dksX0_isReady_1 5 rfl rfl)
theorem dX0_isReady_31 : decode cX0_isReady 31 = .ok (.ifCond .eq 7, 3) := dk_153 0 7 (dk_at dksX0_isReady_1 8 rfl rfl)
theorem dX0_isReady_34 : decode cX0_isReady 34 = .ok (.iconst 1, 1) := dk_4 (dk_at dksX0_isReady_1 11 rfl rfl)
theorem dX0_isReady_35 : decode cX0_isReady 35 = .ok (.goto 4, 3) := dk_167 0 4 (dk_at dksX0_isReady_1 12 rfl rfl)
theorem dX0_isReady_38 : decode cX0_isReady 38 = .ok (.iconst 0, 1) := dk_3 (dk_at dksX0_isReady_1 15 rfl rfl)
theorem dX0_isReady_39 : decode cX0_isReady 39 = .ok (.iand, 1) := dk_126 (dk_at dksX0_isReady_1 16 rfl rfl)
theorem dX0_isReady_40 : decode cX0_isReady 40 = .ok (.istore_n 1, 1) := dk_60 (dk_at dksX0_isReady_1 17 rfl rfl)
theorem dX0_isReady_41 : decode cX0_isReady 41 = .ok (.iinc 2 1, 3) := dk_132 2 1 (dk_at dksX0_isReady_1 18 rfl rfl)
theorem dX0_isReady_44 : decode cX0_isReady 44 = .ok (.goto (-37), 3) := dk_167 255 219 (dk_at dksX0_isReady_1 21 rfl rfl)
theorem dX0_isReady_47 : decode cX0_isReady 47 = .ok (.iload_n 1, 1) := dk_27 (dk_at dksX0_isReady_2 0 rfl rfl)
theorem dX0_isReady_48 : decode cX0_isReady 48 = .ok (.ireturn, 1) := dk_172 (dk_at dksX0_isReady_2 1 rfl rfl)
abbrev cX0_countFirsts : ByteArray := prog_1_method_85_code
def yX0_countFirsts : MethodName := ⟨RX0, "countFirsts", "(Z)V"⟩
def dkwX0_countFirsts_4 : List UInt8 := [21, 4, 46, 182, 2, 62, 132, 3, 1, 167, 255, 200, 132, 2, 1, 167, 255, 156, 177]
abbrev dktX0_countFirsts_4 : List UInt8 := dkwX0_countFirsts_4 ++ []
def dkwX0_countFirsts_3 : List UInt8 := [180, 0, 127, 42, 180, 0, 62, 28, 50, 180, 1, 154, 21, 4, 46, 42, 180, 0, 62, 28, 50, 180, 1, 156]
abbrev dktX0_countFirsts_3 : List UInt8 := dkwX0_countFirsts_3 ++ dktX0_countFirsts_4
def dkwX0_countFirsts_2 : List UInt8 := [42, 180, 0, 131, 180, 2, 56, 162, 0, 51, 42, 180, 0, 131, 180, 2, 59, 29, 46, 54, 4, 42]
abbrev dktX0_countFirsts_2 : List UInt8 := dkwX0_countFirsts_2 ++ dktX0_countFirsts_3
def dkwX0_countFirsts_1 : List UInt8 := [180, 1, 43, 28, 50, 180, 1, 55, 154, 0, 74, 42, 42, 180, 0, 131, 28, 27, 182, 2, 52, 3, 62, 29]
abbrev dktX0_countFirsts_1 : List UInt8 := dkwX0_countFirsts_1 ++ dktX0_countFirsts_2
def dkwX0_countFirsts_0 : List UInt8 := [42, 180, 0, 127, 182, 2, 49, 3, 61, 28, 42, 180, 0, 42, 180, 1, 3, 162, 0, 95, 42, 180, 0, 42]
abbrev dktX0_countFirsts_0 : List UInt8 := dkwX0_countFirsts_0 ++ dktX0_countFirsts_1
theorem dksX0_countFirsts_0 : cX0_countFirsts.data.toList.drop 0 = dktX0_countFirsts_0 := by decide +kernel
theorem dksX0_countFirsts_1 : cX0_countFirsts.data.toList.drop 24 = dktX0_countFirsts_1 := dk_seg dksX0_countFirsts_0 24 rfl rfl
theorem dksX0_countFirsts_2 : cX0_countFirsts.data.toList.drop 48 = dktX0_countFirsts_2 := dk_seg dksX0_countFirsts_1 24 rfl rfl
theorem dksX0_countFirsts_3 : cX0_countFirsts.data.toList.drop 70 = dktX0_countFirsts_3 := dk_seg dksX0_countFirsts_2 22 rfl rfl
theorem dksX0_countFirsts_4 : cX0_countFirsts.data.toList.drop 94 = dktX0_countFirsts_4 := dk_seg dksX0_countFirsts_3 24 rfl rfl
theorem dX0_countFirsts_0 : decode cX0_countFirsts 0 = .ok (.aload_n 0, 1) := dk_42 (dk_at dksX0_countFirsts_0 0 rfl rfl)
theorem dX0_countFirsts_1 : decode cX0_countFirsts 1 = .ok (.getfield 127, 3) := dk_180 0 127 (dk_at dksX0_countFirsts_0 1 rfl rfl)
theorem dX0_countFirsts_4 : decode cX0_countFirsts 4 = .ok (.invokevirtual 561, 3) := dk_182 2 49 (dk_at dksX0_countFirsts_0 4 rfl rfl)
theorem dX0_countFirsts_7 : decode cX0_countFirsts 7 = .ok (.iconst 0, 1) := dk_3 (dk_at dksX0_countFirsts_0 7 rfl rfl)
theorem dX0_countFirsts_8 : decode cX0_countFirsts 8 = .ok (.istore_n 2, 1) := dk_61 (dk_at dksX0_countFirsts_0 8 rfl rfl)
theorem dX0_countFirsts_9 : decode cX0_countFirsts 9 = .ok (.iload_n 2, 1) := dk_28 (dk_at dksX0_countFirsts_0 9 rfl rfl)
theorem dX0_countFirsts_10 : decode cX0_countFirsts 10 = .ok (.aload_n 0, 1) := dk_42 (dk_at dksX0_countFirsts_0 10 rfl rfl)
theorem dX0_countFirsts_11 : decode cX0_countFirsts 11 = .ok (.getfield 42, 3) := dk_180 0 42 (dk_at dksX0_countFirsts_0 11 rfl rfl)
theorem dX0_countFirsts_14 : decode cX0_countFirsts 14 = .ok (.getfield 259, 3) := dk_180 1 3 (dk_at dksX0_countFirsts_0 14 rfl rfl)
theorem dX0_countFirsts_17 : decode cX0_countFirsts 17 = .ok (.if_icmp .ge 95, 3) := dk_162 0 95 (dk_at dksX0_countFirsts_0 17 rfl rfl)
theorem dX0_countFirsts_20 : decode cX0_countFirsts 20 = .ok (.aload_n 0, 1) := dk_42 (dk_at dksX0_countFirsts_0 20 rfl rfl)
theorem dX0_countFirsts_21 : decode cX0_countFirsts 21 = .ok (.getfield 42, 3) := dk_180 0 42 (dk_at dksX0_countFirsts_0 21 rfl rfl)
theorem dX0_countFirsts_24 : decode cX0_countFirsts 24 = .ok (.getfield 299, 3) := dk_180 1 43 (dk_at dksX0_countFirsts_1 0 rfl rfl)
theorem dX0_countFirsts_27 : decode cX0_countFirsts 27 = .ok (.iload_n 2, 1) := dk_28 (dk_at dksX0_countFirsts_1 3 rfl rfl)
theorem dX0_countFirsts_28 : decode cX0_countFirsts 28 = .ok (.aaload, 1) := dk_50 (dk_at dksX0_countFirsts_1 4 rfl rfl)
theorem dX0_countFirsts_29 : decode cX0_countFirsts 29 = .ok (.getfield 311, 3) := dk_180 1 55 (dk_at dksX0_countFirsts_1 5 rfl rfl)
theorem dX0_countFirsts_32 : decode cX0_countFirsts 32 = .ok (.ifCond .ne 74, 3) := dk_154 0 74 (dk_at dksX0_countFirsts_1 8 rfl rfl)
theorem dX0_countFirsts_35 : decode cX0_countFirsts 35 = .ok (.aload_n 0, 1) := dk_42 (dk_at dksX0_countFirsts_1 11 rfl rfl)
theorem dX0_countFirsts_36 : decode cX0_countFirsts 36 = .ok (.aload_n 0, 1) := dk_42 (dk_at dksX0_countFirsts_1 12 rfl rfl)
theorem dX0_countFirsts_37 : decode cX0_countFirsts 37 = .ok (.getfield 131, 3) := dk_180 0 131 (dk_at dksX0_countFirsts_1 13 rfl rfl)
theorem dX0_countFirsts_40 : decode cX0_countFirsts 40 = .ok (.iload_n 2, 1) := dk_28 (dk_at dksX0_countFirsts_1 16 rfl rfl)
theorem dX0_countFirsts_41 : decode cX0_countFirsts 41 = .ok (.iload_n 1, 1) := dk_27 (dk_at dksX0_countFirsts_1 17 rfl rfl)
theorem dX0_countFirsts_42 : decode cX0_countFirsts 42 = .ok (.invokevirtual 564, 3) := dk_182 2 52 (dk_at dksX0_countFirsts_1 18 rfl rfl)
theorem dX0_countFirsts_45 : decode cX0_countFirsts 45 = .ok (.iconst 0, 1) := dk_3 (dk_at dksX0_countFirsts_1 21 rfl rfl)
theorem dX0_countFirsts_46 : decode cX0_countFirsts 46 = .ok (.istore_n 3, 1) := dk_62 (dk_at dksX0_countFirsts_1 22 rfl rfl)
theorem dX0_countFirsts_47 : decode cX0_countFirsts 47 = .ok (.iload_n 3, 1) := dk_29 (dk_at dksX0_countFirsts_1 23 rfl rfl)
theorem dX0_countFirsts_48 : decode cX0_countFirsts 48 = .ok (.aload_n 0, 1) := dk_42 (dk_at dksX0_countFirsts_2 0 rfl rfl)
theorem dX0_countFirsts_49 : decode cX0_countFirsts 49 = .ok (.getfield 131, 3) := dk_180 0 131 (dk_at dksX0_countFirsts_2 1 rfl rfl)
theorem dX0_countFirsts_52 : decode cX0_countFirsts 52 = .ok (.getfield 568, 3) := dk_180 2 56 (dk_at dksX0_countFirsts_2 4 rfl rfl)
theorem dX0_countFirsts_55 : decode cX0_countFirsts 55 = .ok (.if_icmp .ge 51, 3) := dk_162 0 51 (dk_at dksX0_countFirsts_2 7 rfl rfl)
theorem dX0_countFirsts_58 : decode cX0_countFirsts 58 = .ok (.aload_n 0, 1) := dk_42 (dk_at dksX0_countFirsts_2 10 rfl rfl)
theorem dX0_countFirsts_59 : decode cX0_countFirsts 59 = .ok (.getfield 131, 3) := dk_180 0 131 (dk_at dksX0_countFirsts_2 11 rfl rfl)
theorem dX0_countFirsts_62 : decode cX0_countFirsts 62 = .ok (.getfield 571, 3) := dk_180 2 59 (dk_at dksX0_countFirsts_2 14 rfl rfl)
theorem dX0_countFirsts_65 : decode cX0_countFirsts 65 = .ok (.iload_n 3, 1) := dk_29 (dk_at dksX0_countFirsts_2 17 rfl rfl)
theorem dX0_countFirsts_66 : decode cX0_countFirsts 66 = .ok (.iaload, 1) := dk_46 (dk_at dksX0_countFirsts_2 18 rfl rfl)
theorem dX0_countFirsts_67 : decode cX0_countFirsts 67 = .ok (.istore 4, 2) := dk_54 4 (dk_at dksX0_countFirsts_2 19 rfl rfl)
theorem dX0_countFirsts_69 : decode cX0_countFirsts 69 = .ok (.aload_n 0, 1) := dk_42 (dk_at dksX0_countFirsts_2 21 rfl rfl)
theorem dX0_countFirsts_70 : decode cX0_countFirsts 70 = .ok (.getfield 127, 3) := dk_180 0 127 (dk_at dksX0_countFirsts_3 0 rfl rfl)
theorem dX0_countFirsts_73 : decode cX0_countFirsts 73 = .ok (.aload_n 0, 1) := dk_42 (dk_at dksX0_countFirsts_3 3 rfl rfl)
theorem dX0_countFirsts_74 : decode cX0_countFirsts 74 = .ok (.getfield 62, 3) := dk_180 0 62 (dk_at dksX0_countFirsts_3 4 rfl rfl)
theorem dX0_countFirsts_77 : decode cX0_countFirsts 77 = .ok (.iload_n 2, 1) := dk_28 (dk_at dksX0_countFirsts_3 7 rfl rfl)
theorem dX0_countFirsts_78 : decode cX0_countFirsts 78 = .ok (.aaload, 1) := dk_50 (dk_at dksX0_countFirsts_3 8 rfl rfl)
theorem dX0_countFirsts_79 : decode cX0_countFirsts 79 = .ok (.getfield 410, 3) := dk_180 1 154 (dk_at dksX0_countFirsts_3 9 rfl rfl)
theorem dX0_countFirsts_82 : decode cX0_countFirsts 82 = .ok (.iload 4, 2) := dk_21 4 (dk_at dksX0_countFirsts_3 12 rfl rfl)
theorem dX0_countFirsts_84 : decode cX0_countFirsts 84 = .ok (.iaload, 1) := dk_46 (dk_at dksX0_countFirsts_3 14 rfl rfl)
theorem dX0_countFirsts_85 : decode cX0_countFirsts 85 = .ok (.aload_n 0, 1) := dk_42 (dk_at dksX0_countFirsts_3 15 rfl rfl)
theorem dX0_countFirsts_86 : decode cX0_countFirsts 86 = .ok (.getfield 62, 3) := dk_180 0 62 (dk_at dksX0_countFirsts_3 16 rfl rfl)
theorem dX0_countFirsts_89 : decode cX0_countFirsts 89 = .ok (.iload_n 2, 1) := dk_28 (dk_at dksX0_countFirsts_3 19 rfl rfl)
theorem dX0_countFirsts_90 : decode cX0_countFirsts 90 = .ok (.aaload, 1) := dk_50 (dk_at dksX0_countFirsts_3 20 rfl rfl)
theorem dX0_countFirsts_91 : decode cX0_countFirsts 91 = .ok (.getfield 412, 3) := dk_180 1 156 (dk_at dksX0_countFirsts_3 21 rfl rfl)
theorem dX0_countFirsts_94 : decode cX0_countFirsts 94 = .ok (.iload 4, 2) := dk_21 4 (dk_at dksX0_countFirsts_4 0 rfl rfl)
theorem dX0_countFirsts_96 : decode cX0_countFirsts 96 = .ok (.iaload, 1) := dk_46 (dk_at dksX0_countFirsts_4 2 rfl rfl)
theorem dX0_countFirsts_97 : decode cX0_countFirsts 97 = .ok (.invokevirtual 574, 3) := dk_182 2 62 (dk_at dksX0_countFirsts_4 3 rfl rfl)
theorem dX0_countFirsts_100 : decode cX0_countFirsts 100 = .ok (.iinc 3 1, 3) := dk_132 3 1 (dk_at dksX0_countFirsts_4 6 rfl rfl)
theorem dX0_countFirsts_103 : decode cX0_countFirsts 103 = .ok (.goto (-56), 3) := dk_167 255 200 (dk_at dksX0_countFirsts_4 9 rfl rfl)
theorem dX0_countFirsts_106 : decode cX0_countFirsts 106 = .ok (.iinc 2 1, 3) := dk_132 2 1 (dk_at dksX0_countFirsts_4 12 rfl rfl)
theorem dX0_countFirsts_109 : decode cX0_countFirsts 109 = .ok (.goto (-100), 3) := dk_167 255 156 (dk_at dksX0_countFirsts_4 15 rfl rfl)
theorem dX0_countFirsts_112 : decode cX0_countFirsts 112 = .ok (.return_, 1) := dk_177 (dk_at dksX0_countFirsts_4 18 rfl rfl)
abbrev cX0_countOne : ByteArray := prog_1_method_84_code
def yX0_countOne : MethodName := ⟨RX0, "countOne", "(LElectionHouse$Count;IZ)V"⟩
def dkwX0_countOne_5 : List UInt8 := [132, 6, 1, 167, 255, 179, 132, 4, 1, 167, 255, 154, 43, 182, 2, 46, 177]
abbrev dktX0_countOne_5 : List UInt8 := dkwX0_countOne_5 ++ []
def dkwX0_countOne_4 : List UInt8 := [180, 2, 34, 21, 6, 50, 42, 28, 25, 5, 180, 2, 25, 21, 6, 46, 182, 2, 40, 182, 2, 43]
abbrev dktX0_countOne_4 : List UInt8 := dkwX0_countOne_4 ++ dktX0_countOne_5
def dkwX0_countOne_3 : List UInt8 := [4, 126, 4, 160, 0, 43, 43, 29, 153, 0, 14, 25, 5, 180, 2, 31, 21, 6, 50, 167, 0, 11, 25, 5]
abbrev dktX0_countOne_3 : List UInt8 := dkwX0_countOne_3 ++ dktX0_countOne_4
def dkwX0_countOne_2 : List UInt8 := [180, 2, 20, 162, 0, 73, 25, 5, 180, 2, 23, 154, 0, 65, 25, 5, 180, 2, 25, 21, 6, 46, 28, 122]
abbrev dktX0_countOne_2 : List UInt8 := dkwX0_countOne_2 ++ dktX0_countOne_3
def dkwX0_countOne_1 : List UInt8 := [21, 4, 16, 6, 163, 0, 101, 42, 180, 0, 120, 21, 4, 50, 58, 5, 3, 54, 6, 21, 6, 25, 5]
abbrev dktX0_countOne_1 : List UInt8 := dkwX0_countOne_1 ++ dktX0_countOne_2
def dkwX0_countOne_0 : List UInt8 := [43, 42, 180, 0, 42, 180, 1, 43, 28, 50, 42, 180, 0, 62, 28, 50, 28, 182, 2, 37, 3, 54, 4]
abbrev dktX0_countOne_0 : List UInt8 := dkwX0_countOne_0 ++ dktX0_countOne_1
theorem dksX0_countOne_0 : cX0_countOne.data.toList.drop 0 = dktX0_countOne_0 := by decide +kernel
theorem dksX0_countOne_1 : cX0_countOne.data.toList.drop 23 = dktX0_countOne_1 := dk_seg dksX0_countOne_0 23 rfl rfl
theorem dksX0_countOne_2 : cX0_countOne.data.toList.drop 46 = dktX0_countOne_2 := dk_seg dksX0_countOne_1 23 rfl rfl
theorem dksX0_countOne_3 : cX0_countOne.data.toList.drop 70 = dktX0_countOne_3 := dk_seg dksX0_countOne_2 24 rfl rfl
theorem dksX0_countOne_4 : cX0_countOne.data.toList.drop 94 = dktX0_countOne_4 := dk_seg dksX0_countOne_3 24 rfl rfl
theorem dksX0_countOne_5 : cX0_countOne.data.toList.drop 116 = dktX0_countOne_5 := dk_seg dksX0_countOne_4 22 rfl rfl
theorem dX0_countOne_0 : decode cX0_countOne 0 = .ok (.aload_n 1, 1) := dk_43 (dk_at dksX0_countOne_0 0 rfl rfl)
theorem dX0_countOne_1 : decode cX0_countOne 1 = .ok (.aload_n 0, 1) := dk_42 (dk_at dksX0_countOne_0 1 rfl rfl)
theorem dX0_countOne_2 : decode cX0_countOne 2 = .ok (.getfield 42, 3) := dk_180 0 42 (dk_at dksX0_countOne_0 2 rfl rfl)
theorem dX0_countOne_5 : decode cX0_countOne 5 = .ok (.getfield 299, 3) := dk_180 1 43 (dk_at dksX0_countOne_0 5 rfl rfl)
theorem dX0_countOne_8 : decode cX0_countOne 8 = .ok (.iload_n 2, 1) := dk_28 (dk_at dksX0_countOne_0 8 rfl rfl)
theorem dX0_countOne_9 : decode cX0_countOne 9 = .ok (.aaload, 1) := dk_50 (dk_at dksX0_countOne_0 9 rfl rfl)
theorem dX0_countOne_10 : decode cX0_countOne 10 = .ok (.aload_n 0, 1) := dk_42 (dk_at dksX0_countOne_0 10 rfl rfl)
theorem dX0_countOne_11 : decode cX0_countOne 11 = .ok (.getfield 62, 3) := dk_180 0 62 (dk_at dksX0_countOne_0 11 rfl rfl)
theorem dX0_countOne_14 : decode cX0_countOne 14 = .ok (.iload_n 2, 1) := dk_28 (dk_at dksX0_countOne_0 14 rfl rfl)
theorem dX0_countOne_15 : decode cX0_countOne 15 = .ok (.aaload, 1) := dk_50 (dk_at dksX0_countOne_0 15 rfl rfl)
theorem dX0_countOne_16 : decode cX0_countOne 16 = .ok (.iload_n 2, 1) := dk_28 (dk_at dksX0_countOne_0 16 rfl rfl)
theorem dX0_countOne_17 : decode cX0_countOne 17 = .ok (.invokevirtual 549, 3) := dk_182 2 37 (dk_at dksX0_countOne_0 17 rfl rfl)
theorem dX0_countOne_20 : decode cX0_countOne 20 = .ok (.iconst 0, 1) := dk_3 (dk_at dksX0_countOne_0 20 rfl rfl)
theorem dX0_countOne_21 : decode cX0_countOne 21 = .ok (.istore 4, 2) := dk_54 4 (dk_at dksX0_countOne_0 21 rfl rfl)
theorem dX0_countOne_23 : decode cX0_countOne 23 = .ok (.iload 4, 2) := dk_21 4 (dk_at dksX0_countOne_1 0 rfl rfl)
theorem dX0_countOne_25 : decode cX0_countOne 25 = .ok (.bipush 6, 2) := dk_16 6 (dk_at dksX0_countOne_1 2 rfl rfl)
theorem dX0_countOne_27 : decode cX0_countOne 27 = .ok (.if_icmp .gt 101, 3) := dk_163 0 101 (dk_at dksX0_countOne_1 4 rfl rfl)
theorem dX0_countOne_30 : decode cX0_countOne 30 = .ok (.aload_n 0, 1) := dk_42 (dk_at dksX0_countOne_1 7 rfl rfl)
theorem dX0_countOne_31 : decode cX0_countOne 31 = .ok (.getfield 120, 3) := dk_180 0 120 (dk_at dksX0_countOne_1 8 rfl rfl)
theorem dX0_countOne_34 : decode cX0_countOne 34 = .ok (.iload 4, 2) := dk_21 4 (dk_at dksX0_countOne_1 11 rfl rfl)
theorem dX0_countOne_36 : decode cX0_countOne 36 = .ok (.aaload, 1) := dk_50 (dk_at dksX0_countOne_1 13 rfl rfl)
theorem dX0_countOne_37 : decode cX0_countOne 37 = .ok (.astore 5, 2) := dk_58 5 (dk_at dksX0_countOne_1 14 rfl rfl)
theorem dX0_countOne_39 : decode cX0_countOne 39 = .ok (.iconst 0, 1) := dk_3 (dk_at dksX0_countOne_1 16 rfl rfl)
theorem dX0_countOne_40 : decode cX0_countOne 40 = .ok (.istore 6, 2) := dk_54 6 (dk_at dksX0_countOne_1 17 rfl rfl)
theorem dX0_countOne_42 : decode cX0_countOne 42 = .ok (.iload 6, 2) := dk_21 6 (dk_at dksX0_countOne_1 19 rfl rfl)
theorem dX0_countOne_44 : decode cX0_countOne 44 = .ok (.aload 5, 2) := dk_25 5 (dk_at dksX0_countOne_1 21 rfl rfl)
theorem dX0_countOne_46 : decode cX0_countOne 46 = .ok (.getfield 532, 3) := dk_180 2 20 (dk_at dksX0_countOne_2 0 rfl rfl)
theorem dX0_countOne_49 : decode cX0_countOne 49 = .ok (.if_icmp .ge 73, 3) := dk_162 0 73 (dk_at dksX0_countOne_2 3 rfl rfl)
theorem dX0_countOne_52 : decode cX0_countOne 52 = .ok (.aload 5, 2) := dk_25 5 (dk_at dksX0_countOne_2 6 rfl rfl)
theorem dX0_countOne_54 : decode cX0_countOne 54 = .ok (.getfield 535, 3) := dk_180 2 23 (dk_at dksX0_countOne_2 8 rfl rfl)
theorem dX0_countOne_57 : decode cX0_countOne 57 = .ok (.ifCond .ne 65, 3) := dk_154 0 65 (dk_at dksX0_countOne_2 11 rfl rfl)
theorem dX0_countOne_60 : decode cX0_countOne 60 = .ok (.aload 5, 2) := dk_25 5 (dk_at dksX0_countOne_2 14 rfl rfl)
theorem dX0_countOne_62 : decode cX0_countOne 62 = .ok (.getfield 537, 3) := dk_180 2 25 (dk_at dksX0_countOne_2 16 rfl rfl)
theorem dX0_countOne_65 : decode cX0_countOne 65 = .ok (.iload 6, 2) := dk_21 6 (dk_at dksX0_countOne_2 19 rfl rfl)
theorem dX0_countOne_67 : decode cX0_countOne 67 = .ok (.iaload, 1) := dk_46 (dk_at dksX0_countOne_2 21 rfl rfl)
theorem dX0_countOne_68 : decode cX0_countOne 68 = .ok (.iload_n 2, 1) := dk_28 (dk_at dksX0_countOne_2 22 rfl rfl)
theorem dX0_countOne_69 : decode cX0_countOne 69 = .ok (.ishr, 1) := dk_122 (dk_at dksX0_countOne_2 23 rfl rfl)
theorem dX0_countOne_70 : decode cX0_countOne 70 = .ok (.iconst 1, 1) := dk_4 (dk_at dksX0_countOne_3 0 rfl rfl)
theorem dX0_countOne_71 : decode cX0_countOne 71 = .ok (.iand, 1) := dk_126 (dk_at dksX0_countOne_3 1 rfl rfl)
theorem dX0_countOne_72 : decode cX0_countOne 72 = .ok (.iconst 1, 1) := dk_4 (dk_at dksX0_countOne_3 2 rfl rfl)
theorem dX0_countOne_73 : decode cX0_countOne 73 = .ok (.if_icmp .ne 43, 3) := dk_160 0 43 (dk_at dksX0_countOne_3 3 rfl rfl)
theorem dX0_countOne_76 : decode cX0_countOne 76 = .ok (.aload_n 1, 1) := dk_43 (dk_at dksX0_countOne_3 6 rfl rfl)
theorem dX0_countOne_77 : decode cX0_countOne 77 = .ok (.iload_n 3, 1) := dk_29 (dk_at dksX0_countOne_3 7 rfl rfl)
theorem dX0_countOne_78 : decode cX0_countOne 78 = .ok (.ifCond .eq 14, 3) := dk_153 0 14 (dk_at dksX0_countOne_3 8 rfl rfl)
theorem dX0_countOne_81 : decode cX0_countOne 81 = .ok (.aload 5, 2) := dk_25 5 (dk_at dksX0_countOne_3 11 rfl rfl)
theorem dX0_countOne_83 : decode cX0_countOne 83 = .ok (.getfield 543, 3) := dk_180 2 31 (dk_at dksX0_countOne_3 13 rfl rfl)
theorem dX0_countOne_86 : decode cX0_countOne 86 = .ok (.iload 6, 2) := dk_21 6 (dk_at dksX0_countOne_3 16 rfl rfl)
theorem dX0_countOne_88 : decode cX0_countOne 88 = .ok (.aaload, 1) := dk_50 (dk_at dksX0_countOne_3 18 rfl rfl)
theorem dX0_countOne_89 : decode cX0_countOne 89 = .ok (.goto 11, 3) := dk_167 0 11 (dk_at dksX0_countOne_3 19 rfl rfl)
theorem dX0_countOne_92 : decode cX0_countOne 92 = .ok (.aload 5, 2) := dk_25 5 (dk_at dksX0_countOne_3 22 rfl rfl)
theorem dX0_countOne_94 : decode cX0_countOne 94 = .ok (.getfield 546, 3) := dk_180 2 34 (dk_at dksX0_countOne_4 0 rfl rfl)
theorem dX0_countOne_97 : decode cX0_countOne 97 = .ok (.iload 6, 2) := dk_21 6 (dk_at dksX0_countOne_4 3 rfl rfl)
theorem dX0_countOne_99 : decode cX0_countOne 99 = .ok (.aaload, 1) := dk_50 (dk_at dksX0_countOne_4 5 rfl rfl)
theorem dX0_countOne_100 : decode cX0_countOne 100 = .ok (.aload_n 0, 1) := dk_42 (dk_at dksX0_countOne_4 6 rfl rfl)
theorem dX0_countOne_101 : decode cX0_countOne 101 = .ok (.iload_n 2, 1) := dk_28 (dk_at dksX0_countOne_4 7 rfl rfl)
theorem dX0_countOne_102 : decode cX0_countOne 102 = .ok (.aload 5, 2) := dk_25 5 (dk_at dksX0_countOne_4 8 rfl rfl)
theorem dX0_countOne_104 : decode cX0_countOne 104 = .ok (.getfield 537, 3) := dk_180 2 25 (dk_at dksX0_countOne_4 10 rfl rfl)
theorem dX0_countOne_107 : decode cX0_countOne 107 = .ok (.iload 6, 2) := dk_21 6 (dk_at dksX0_countOne_4 13 rfl rfl)
theorem dX0_countOne_109 : decode cX0_countOne 109 = .ok (.iaload, 1) := dk_46 (dk_at dksX0_countOne_4 15 rfl rfl)
theorem dX0_countOne_110 : decode cX0_countOne 110 = .ok (.invokevirtual 552, 3) := dk_182 2 40 (dk_at dksX0_countOne_4 16 rfl rfl)
theorem dX0_countOne_113 : decode cX0_countOne 113 = .ok (.invokevirtual 555, 3) := dk_182 2 43 (dk_at dksX0_countOne_4 19 rfl rfl)
theorem dX0_countOne_116 : decode cX0_countOne 116 = .ok (.iinc 6 1, 3) := dk_132 6 1 (dk_at dksX0_countOne_5 0 rfl rfl)
theorem dX0_countOne_119 : decode cX0_countOne 119 = .ok (.goto (-77), 3) := dk_167 255 179 (dk_at dksX0_countOne_5 3 rfl rfl)
theorem dX0_countOne_122 : decode cX0_countOne 122 = .ok (.iinc 4 1, 3) := dk_132 4 1 (dk_at dksX0_countOne_5 6 rfl rfl)
theorem dX0_countOne_125 : decode cX0_countOne 125 = .ok (.goto (-102), 3) := dk_167 255 154 (dk_at dksX0_countOne_5 9 rfl rfl)
theorem dX0_countOne_128 : decode cX0_countOne 128 = .ok (.aload_n 1, 1) := dk_43 (dk_at dksX0_countOne_5 12 rfl rfl)
theorem dX0_countOne_129 : decode cX0_countOne 129 = .ok (.invokevirtual 558, 3) := dk_182 2 46 (dk_at dksX0_countOne_5 13 rfl rfl)
theorem dX0_countOne_132 : decode cX0_countOne 132 = .ok (.return_, 1) := dk_177 (dk_at dksX0_countOne_5 16 rfl rfl)
abbrev cX0_fieldOf : ByteArray := prog_1_method_83_code
def yX0_fieldOf : MethodName := ⟨RX0, "fieldOf", "(II)I"⟩
def dkwX0_fieldOf_0 : List UInt8 := [42, 28, 4, 27, 120, 4, 100, 126, 182, 1, 212, 172]
abbrev dktX0_fieldOf_0 : List UInt8 := dkwX0_fieldOf_0 ++ []
theorem dksX0_fieldOf_0 : cX0_fieldOf.data.toList.drop 0 = dktX0_fieldOf_0 := by decide +kernel
theorem dX0_fieldOf_0 : decode cX0_fieldOf 0 = .ok (.aload_n 0, 1) := dk_42 (dk_at dksX0_fieldOf_0 0 rfl rfl)
theorem dX0_fieldOf_1 : decode cX0_fieldOf 1 = .ok (.iload_n 2, 1) := dk_28 (dk_at dksX0_fieldOf_0 1 rfl rfl)
theorem dX0_fieldOf_2 : decode cX0_fieldOf 2 = .ok (.iconst 1, 1) := dk_4 (dk_at dksX0_fieldOf_0 2 rfl rfl)
theorem dX0_fieldOf_3 : decode cX0_fieldOf 3 = .ok (.iload_n 1, 1) := dk_27 (dk_at dksX0_fieldOf_0 3 rfl rfl)
theorem dX0_fieldOf_4 : decode cX0_fieldOf 4 = .ok (.ishl, 1) := dk_120 (dk_at dksX0_fieldOf_0 4 rfl rfl)
theorem dX0_fieldOf_5 : decode cX0_fieldOf 5 = .ok (.iconst 1, 1) := dk_4 (dk_at dksX0_fieldOf_0 5 rfl rfl)
theorem dX0_fieldOf_6 : decode cX0_fieldOf 6 = .ok (.isub, 1) := dk_100 (dk_at dksX0_fieldOf_0 6 rfl rfl)
theorem dX0_fieldOf_7 : decode cX0_fieldOf 7 = .ok (.iand, 1) := dk_126 (dk_at dksX0_fieldOf_0 7 rfl rfl)
theorem dX0_fieldOf_8 : decode cX0_fieldOf 8 = .ok (.invokevirtual 468, 3) := dk_182 1 212 (dk_at dksX0_fieldOf_0 8 rfl rfl)
theorem dX0_fieldOf_11 : decode cX0_fieldOf 11 = .ok (.ireturn, 1) := dk_172 (dk_at dksX0_fieldOf_0 11 rfl rfl)
abbrev cX0_elected : ByteArray := prog_1_method_87_code
def yX0_elected : MethodName := ⟨RX0, "elected", "(I)I"⟩
def dkwX0_elected_1 : List UInt8 := [42, 180, 0, 127, 180, 2, 59, 27, 46, 167, 0, 4, 2, 172]
abbrev dktX0_elected_1 : List UInt8 := dkwX0_elected_1 ++ []
def dkwX0_elected_0 : List UInt8 := [42, 180, 1, 31, 153, 0, 32, 27, 3, 42, 180, 0, 127, 180, 2, 56, 4, 100, 184, 0, 163, 153, 0, 15]
abbrev dktX0_elected_0 : List UInt8 := dkwX0_elected_0 ++ dktX0_elected_1
theorem dksX0_elected_0 : cX0_elected.data.toList.drop 0 = dktX0_elected_0 := by decide +kernel
theorem dksX0_elected_1 : cX0_elected.data.toList.drop 24 = dktX0_elected_1 := dk_seg dksX0_elected_0 24 rfl rfl
theorem dX0_elected_0 : decode cX0_elected 0 = .ok (.aload_n 0, 1) := dk_42 (dk_at dksX0_elected_0 0 rfl rfl)
theorem dX0_elected_1 : decode cX0_elected 1 = .ok (.getfield 287, 3) := dk_180 1 31 (dk_at dksX0_elected_0 1 rfl rfl)
theorem dX0_elected_4 : decode cX0_elected 4 = .ok (.ifCond .eq 32, 3) := dk_153 0 32 (dk_at dksX0_elected_0 4 rfl rfl)
theorem dX0_elected_7 : decode cX0_elected 7 = .ok (.iload_n 1, 1) := dk_27 (dk_at dksX0_elected_0 7 rfl rfl)
theorem dX0_elected_8 : decode cX0_elected 8 = .ok (.iconst 0, 1) := dk_3 (dk_at dksX0_elected_0 8 rfl rfl)
theorem dX0_elected_9 : decode cX0_elected 9 = .ok (.aload_n 0, 1) := dk_42 (dk_at dksX0_elected_0 9 rfl rfl)
theorem dX0_elected_10 : decode cX0_elected 10 = .ok (.getfield 127, 3) := dk_180 0 127 (dk_at dksX0_elected_0 10 rfl rfl)
theorem dX0_elected_13 : decode cX0_elected 13 = .ok (.getfield 568, 3) := dk_180 2 56 (dk_at dksX0_elected_0 13 rfl rfl)
theorem dX0_elected_16 : decode cX0_elected 16 = .ok (.iconst 1, 1) := dk_4 (dk_at dksX0_elected_0 16 rfl rfl)
theorem dX0_elected_17 : decode cX0_elected 17 = .ok (.isub, 1) := dk_100 (dk_at dksX0_elected_0 17 rfl rfl)
theorem dX0_elected_18 : decode cX0_elected 18 = .ok (.invokestatic 163, 3) := dk_184 0 163 (dk_at dksX0_elected_0 18 rfl rfl)
theorem dX0_elected_21 : decode cX0_elected 21 = .ok (.ifCond .eq 15, 3) := dk_153 0 15 (dk_at dksX0_elected_0 21 rfl rfl)
theorem dX0_elected_24 : decode cX0_elected 24 = .ok (.aload_n 0, 1) := dk_42 (dk_at dksX0_elected_1 0 rfl rfl)
theorem dX0_elected_25 : decode cX0_elected 25 = .ok (.getfield 127, 3) := dk_180 0 127 (dk_at dksX0_elected_1 1 rfl rfl)
theorem dX0_elected_28 : decode cX0_elected 28 = .ok (.getfield 571, 3) := dk_180 2 59 (dk_at dksX0_elected_1 4 rfl rfl)
theorem dX0_elected_31 : decode cX0_elected 31 = .ok (.iload_n 1, 1) := dk_27 (dk_at dksX0_elected_1 7 rfl rfl)
theorem dX0_elected_32 : decode cX0_elected 32 = .ok (.iaload, 1) := dk_46 (dk_at dksX0_elected_1 8 rfl rfl)
theorem dX0_elected_33 : decode cX0_elected 33 = .ok (.goto 4, 3) := dk_167 0 4 (dk_at dksX0_elected_1 9 rfl rfl)
theorem dX0_elected_36 : decode cX0_elected 36 = .ok (.iconst (-1), 1) := dk_2 (dk_at dksX0_elected_1 12 rfl rfl)
theorem dX0_elected_37 : decode cX0_elected 37 = .ok (.ireturn, 1) := dk_172 (dk_at dksX0_elected_1 13 rfl rfl)
abbrev cX0_round : ByteArray := prog_1_method_89_code
def yX0_round : MethodName := ⟨RX0, "round", "(II)J"⟩
def dkwX0_round_1 : List UInt8 := [153, 0, 17, 42, 180, 0, 127, 180, 2, 82, 27, 50, 28, 47, 167, 0, 6, 20, 2, 85, 173]
abbrev dktX0_round_1 : List UInt8 := dkwX0_round_1 ++ []
def dkwX0_round_0 : List UInt8 := [42, 27, 182, 2, 78, 153, 0, 34, 28, 3, 42, 180, 0, 127, 180, 2, 81, 4, 100, 184, 0, 163]
abbrev dktX0_round_0 : List UInt8 := dkwX0_round_0 ++ dktX0_round_1
theorem dksX0_round_0 : cX0_round.data.toList.drop 0 = dktX0_round_0 := by decide +kernel
theorem dksX0_round_1 : cX0_round.data.toList.drop 22 = dktX0_round_1 := dk_seg dksX0_round_0 22 rfl rfl
theorem dX0_round_0 : decode cX0_round 0 = .ok (.aload_n 0, 1) := dk_42 (dk_at dksX0_round_0 0 rfl rfl)
theorem dX0_round_1 : decode cX0_round 1 = .ok (.iload_n 1, 1) := dk_27 (dk_at dksX0_round_0 1 rfl rfl)
theorem dX0_round_2 : decode cX0_round 2 = .ok (.invokevirtual 590, 3) := dk_182 2 78 (dk_at dksX0_round_0 2 rfl rfl)
theorem dX0_round_5 : decode cX0_round 5 = .ok (.ifCond .eq 34, 3) := dk_153 0 34 (dk_at dksX0_round_0 5 rfl rfl)
theorem dX0_round_8 : decode cX0_round 8 = .ok (.iload_n 2, 1) := dk_28 (dk_at dksX0_round_0 8 rfl rfl)
theorem dX0_round_9 : decode cX0_round 9 = .ok (.iconst 0, 1) := dk_3 (dk_at dksX0_round_0 9 rfl rfl)
theorem dX0_round_10 : decode cX0_round 10 = .ok (.aload_n 0, 1) := dk_42 (dk_at dksX0_round_0 10 rfl rfl)
theorem dX0_round_11 : decode cX0_round 11 = .ok (.getfield 127, 3) := dk_180 0 127 (dk_at dksX0_round_0 11 rfl rfl)
theorem dX0_round_14 : decode cX0_round 14 = .ok (.getfield 593, 3) := dk_180 2 81 (dk_at dksX0_round_0 14 rfl rfl)
theorem dX0_round_17 : decode cX0_round 17 = .ok (.iconst 1, 1) := dk_4 (dk_at dksX0_round_0 17 rfl rfl)
theorem dX0_round_18 : decode cX0_round 18 = .ok (.isub, 1) := dk_100 (dk_at dksX0_round_0 18 rfl rfl)
theorem dX0_round_19 : decode cX0_round 19 = .ok (.invokestatic 163, 3) := dk_184 0 163 (dk_at dksX0_round_0 19 rfl rfl)
theorem dX0_round_22 : decode cX0_round 22 = .ok (.ifCond .eq 17, 3) := dk_153 0 17 (dk_at dksX0_round_1 0 rfl rfl)
theorem dX0_round_25 : decode cX0_round 25 = .ok (.aload_n 0, 1) := dk_42 (dk_at dksX0_round_1 3 rfl rfl)
theorem dX0_round_26 : decode cX0_round 26 = .ok (.getfield 127, 3) := dk_180 0 127 (dk_at dksX0_round_1 4 rfl rfl)
theorem dX0_round_29 : decode cX0_round 29 = .ok (.getfield 594, 3) := dk_180 2 82 (dk_at dksX0_round_1 7 rfl rfl)
theorem dX0_round_32 : decode cX0_round 32 = .ok (.iload_n 1, 1) := dk_27 (dk_at dksX0_round_1 10 rfl rfl)
theorem dX0_round_33 : decode cX0_round 33 = .ok (.aaload, 1) := dk_50 (dk_at dksX0_round_1 11 rfl rfl)
theorem dX0_round_34 : decode cX0_round 34 = .ok (.iload_n 2, 1) := dk_28 (dk_at dksX0_round_1 12 rfl rfl)
theorem dX0_round_35 : decode cX0_round 35 = .ok (.laload, 1) := dk_47 (dk_at dksX0_round_1 13 rfl rfl)
theorem dX0_round_36 : decode cX0_round 36 = .ok (.goto 6, 3) := dk_167 0 6 (dk_at dksX0_round_1 14 rfl rfl)
theorem dX0_round_39 : decode cX0_round 39 = .ok (.ldc2_w 597, 3) := dk_20 2 85 (dk_at dksX0_round_1 17 rfl rfl)
theorem dX0_round_42 : decode cX0_round 42 = .ok (.lreturn, 1) := dk_173 (dk_at dksX0_round_1 20 rfl rfl)
abbrev cX0_isRound : ByteArray := prog_1_method_88_code
def yX0_isRound : MethodName := ⟨RX0, "isRound", "(I)Z"⟩
def dkwX0_isRound_1 : List UInt8 := [4, 167, 0, 4, 3, 172]
abbrev dktX0_isRound_1 : List UInt8 := dkwX0_isRound_1 ++ []
def dkwX0_isRound_0 : List UInt8 := [42, 180, 1, 31, 153, 0, 24, 27, 3, 42, 180, 0, 127, 180, 2, 75, 4, 100, 184, 0, 163, 153, 0, 7]
abbrev dktX0_isRound_0 : List UInt8 := dkwX0_isRound_0 ++ dktX0_isRound_1
theorem dksX0_isRound_0 : cX0_isRound.data.toList.drop 0 = dktX0_isRound_0 := by decide +kernel
theorem dksX0_isRound_1 : cX0_isRound.data.toList.drop 24 = dktX0_isRound_1 := dk_seg dksX0_isRound_0 24 rfl rfl
theorem dX0_isRound_0 : decode cX0_isRound 0 = .ok (.aload_n 0, 1) := dk_42 (dk_at dksX0_isRound_0 0 rfl rfl)
theorem dX0_isRound_1 : decode cX0_isRound 1 = .ok (.getfield 287, 3) := dk_180 1 31 (dk_at dksX0_isRound_0 1 rfl rfl)
theorem dX0_isRound_4 : decode cX0_isRound 4 = .ok (.ifCond .eq 24, 3) := dk_153 0 24 (dk_at dksX0_isRound_0 4 rfl rfl)
theorem dX0_isRound_7 : decode cX0_isRound 7 = .ok (.iload_n 1, 1) := dk_27 (dk_at dksX0_isRound_0 7 rfl rfl)
theorem dX0_isRound_8 : decode cX0_isRound 8 = .ok (.iconst 0, 1) := dk_3 (dk_at dksX0_isRound_0 8 rfl rfl)
theorem dX0_isRound_9 : decode cX0_isRound 9 = .ok (.aload_n 0, 1) := dk_42 (dk_at dksX0_isRound_0 9 rfl rfl)
theorem dX0_isRound_10 : decode cX0_isRound 10 = .ok (.getfield 127, 3) := dk_180 0 127 (dk_at dksX0_isRound_0 10 rfl rfl)
theorem dX0_isRound_13 : decode cX0_isRound 13 = .ok (.getfield 587, 3) := dk_180 2 75 (dk_at dksX0_isRound_0 13 rfl rfl)
theorem dX0_isRound_16 : decode cX0_isRound 16 = .ok (.iconst 1, 1) := dk_4 (dk_at dksX0_isRound_0 16 rfl rfl)
theorem dX0_isRound_17 : decode cX0_isRound 17 = .ok (.isub, 1) := dk_100 (dk_at dksX0_isRound_0 17 rfl rfl)
theorem dX0_isRound_18 : decode cX0_isRound 18 = .ok (.invokestatic 163, 3) := dk_184 0 163 (dk_at dksX0_isRound_0 18 rfl rfl)
theorem dX0_isRound_21 : decode cX0_isRound 21 = .ok (.ifCond .eq 7, 3) := dk_153 0 7 (dk_at dksX0_isRound_0 21 rfl rfl)
theorem dX0_isRound_24 : decode cX0_isRound 24 = .ok (.iconst 1, 1) := dk_4 (dk_at dksX0_isRound_1 0 rfl rfl)
theorem dX0_isRound_25 : decode cX0_isRound 25 = .ok (.goto 4, 3) := dk_167 0 4 (dk_at dksX0_isRound_1 1 rfl rfl)
theorem dX0_isRound_28 : decode cX0_isRound 28 = .ok (.iconst 0, 1) := dk_3 (dk_at dksX0_isRound_1 4 rfl rfl)
theorem dX0_isRound_29 : decode cX0_isRound 29 = .ok (.ireturn, 1) := dk_172 (dk_at dksX0_isRound_1 5 rfl rfl)
abbrev cX0_act : ByteArray := prog_1_method_90_code
def yX0_act : MethodName := ⟨RX0, "act", "(II)I"⟩
def dkwX0_act_1 : List UInt8 := [46, 167, 0, 22, 28, 4, 160, 0, 15, 42, 180, 0, 127, 180, 2, 90, 27, 46, 167, 0, 5, 16, 254, 172]
abbrev dktX0_act_1 : List UInt8 := dkwX0_act_1 ++ []
def dkwX0_act_0 : List UInt8 := [42, 27, 182, 2, 78, 154, 0, 7, 2, 167, 0, 38, 28, 154, 0, 15, 42, 180, 0, 127, 180, 2, 87, 27]
abbrev dktX0_act_0 : List UInt8 := dkwX0_act_0 ++ dktX0_act_1
theorem dksX0_act_0 : cX0_act.data.toList.drop 0 = dktX0_act_0 := by decide +kernel
theorem dksX0_act_1 : cX0_act.data.toList.drop 24 = dktX0_act_1 := dk_seg dksX0_act_0 24 rfl rfl
theorem dX0_act_0 : decode cX0_act 0 = .ok (.aload_n 0, 1) := dk_42 (dk_at dksX0_act_0 0 rfl rfl)
theorem dX0_act_1 : decode cX0_act 1 = .ok (.iload_n 1, 1) := dk_27 (dk_at dksX0_act_0 1 rfl rfl)
theorem dX0_act_2 : decode cX0_act 2 = .ok (.invokevirtual 590, 3) := dk_182 2 78 (dk_at dksX0_act_0 2 rfl rfl)
theorem dX0_act_5 : decode cX0_act 5 = .ok (.ifCond .ne 7, 3) := dk_154 0 7 (dk_at dksX0_act_0 5 rfl rfl)
theorem dX0_act_8 : decode cX0_act 8 = .ok (.iconst (-1), 1) := dk_2 (dk_at dksX0_act_0 8 rfl rfl)
theorem dX0_act_9 : decode cX0_act 9 = .ok (.goto 38, 3) := dk_167 0 38 (dk_at dksX0_act_0 9 rfl rfl)
theorem dX0_act_12 : decode cX0_act 12 = .ok (.iload_n 2, 1) := dk_28 (dk_at dksX0_act_0 12 rfl rfl)
theorem dX0_act_13 : decode cX0_act 13 = .ok (.ifCond .ne 15, 3) := dk_154 0 15 (dk_at dksX0_act_0 13 rfl rfl)
theorem dX0_act_16 : decode cX0_act 16 = .ok (.aload_n 0, 1) := dk_42 (dk_at dksX0_act_0 16 rfl rfl)
theorem dX0_act_17 : decode cX0_act 17 = .ok (.getfield 127, 3) := dk_180 0 127 (dk_at dksX0_act_0 17 rfl rfl)
theorem dX0_act_20 : decode cX0_act 20 = .ok (.getfield 599, 3) := dk_180 2 87 (dk_at dksX0_act_0 20 rfl rfl)
theorem dX0_act_23 : decode cX0_act 23 = .ok (.iload_n 1, 1) := dk_27 (dk_at dksX0_act_0 23 rfl rfl)
theorem dX0_act_24 : decode cX0_act 24 = .ok (.iaload, 1) := dk_46 (dk_at dksX0_act_1 0 rfl rfl)
theorem dX0_act_25 : decode cX0_act 25 = .ok (.goto 22, 3) := dk_167 0 22 (dk_at dksX0_act_1 1 rfl rfl)
theorem dX0_act_28 : decode cX0_act 28 = .ok (.iload_n 2, 1) := dk_28 (dk_at dksX0_act_1 4 rfl rfl)
theorem dX0_act_29 : decode cX0_act 29 = .ok (.iconst 1, 1) := dk_4 (dk_at dksX0_act_1 5 rfl rfl)
theorem dX0_act_30 : decode cX0_act 30 = .ok (.if_icmp .ne 15, 3) := dk_160 0 15 (dk_at dksX0_act_1 6 rfl rfl)
theorem dX0_act_33 : decode cX0_act 33 = .ok (.aload_n 0, 1) := dk_42 (dk_at dksX0_act_1 9 rfl rfl)
theorem dX0_act_34 : decode cX0_act 34 = .ok (.getfield 127, 3) := dk_180 0 127 (dk_at dksX0_act_1 10 rfl rfl)
theorem dX0_act_37 : decode cX0_act 37 = .ok (.getfield 602, 3) := dk_180 2 90 (dk_at dksX0_act_1 13 rfl rfl)
theorem dX0_act_40 : decode cX0_act 40 = .ok (.iload_n 1, 1) := dk_27 (dk_at dksX0_act_1 16 rfl rfl)
theorem dX0_act_41 : decode cX0_act 41 = .ok (.iaload, 1) := dk_46 (dk_at dksX0_act_1 17 rfl rfl)
theorem dX0_act_42 : decode cX0_act 42 = .ok (.goto 5, 3) := dk_167 0 5 (dk_at dksX0_act_1 18 rfl rfl)
theorem dX0_act_45 : decode cX0_act 45 = .ok (.bipush (-2), 2) := dk_16 254 (dk_at dksX0_act_1 21 rfl rfl)
theorem dX0_act_47 : decode cX0_act 47 = .ok (.ireturn, 1) := dk_172 (dk_at dksX0_act_1 23 rfl rfl)
abbrev cX0_sample : ByteArray := prog_1_method_97_code
def yX0_sample : MethodName := ⟨RX0, "sample", "(IIJ)I"⟩
def dkwX0_sample_8 : List UInt8 := [172]
abbrev dktX0_sample_8 : List UInt8 := dkwX0_sample_8 ++ []
def dkwX0_sample_7 : List UInt8 := [42, 28, 21, 7, 182, 2, 154, 42, 16, 28, 27, 28, 33, 16, 32, 123, 136, 33, 136, 182, 0, 173, 21, 7]
abbrev dktX0_sample_7 : List UInt8 := dkwX0_sample_7 ++ dktX0_sample_8
def dkwX0_sample_6 : List UInt8 := [42, 180, 0, 140, 21, 8, 51, 153, 0, 7, 4, 167, 0, 4, 3, 96, 54, 7, 132, 8, 1, 167, 255, 224]
abbrev dktX0_sample_6 : List UInt8 := dkwX0_sample_6 ++ dktX0_sample_7
def dkwX0_sample_5 : List UInt8 := [42, 27, 28, 33, 182, 2, 150, 3, 54, 7, 3, 54, 8, 21, 8, 42, 180, 1, 34, 162, 0, 29, 21, 7]
abbrev dktX0_sample_5 : List UInt8 := dkwX0_sample_5 ++ dktX0_sample_6
def dkwX0_sample_4 : List UInt8 := [181, 2, 115, 42, 42, 27, 182, 2, 144, 181, 2, 147, 42, 42, 180, 2, 147, 4, 96, 5, 108, 181, 2, 129]
abbrev dktX0_sample_4 : List UInt8 := dkwX0_sample_4 ++ dktX0_sample_5
def dkwX0_sample_3 : List UInt8 := [42, 27, 182, 2, 141, 54, 6, 28, 4, 21, 6, 184, 0, 163, 154, 0, 6, 16, 254, 172, 42, 21, 6]
abbrev dktX0_sample_3 : List UInt8 := dkwX0_sample_3 ++ dktX0_sample_4
def dkwX0_sample_2 : List UInt8 := [180, 1, 61, 42, 180, 0, 62, 27, 50, 182, 1, 64, 100, 25, 5, 180, 1, 52, 163, 0, 6, 16, 252, 172]
abbrev dktX0_sample_2 : List UInt8 := dkwX0_sample_2 ++ dktX0_sample_3
def dkwX0_sample_1 : List UInt8 := [180, 1, 43, 27, 50, 58, 5, 25, 5, 180, 1, 55, 5, 163, 0, 30, 42, 180, 0, 62, 27, 50]
abbrev dktX0_sample_1 : List UInt8 := dkwX0_sample_1 ++ dktX0_sample_2
def dkwX0_sample_0 : List UInt8 := [42, 27, 182, 1, 40, 154, 0, 5, 2, 172, 42, 182, 2, 65, 154, 0, 6, 16, 253, 172, 42, 180, 0, 42]
abbrev dktX0_sample_0 : List UInt8 := dkwX0_sample_0 ++ dktX0_sample_1
theorem dksX0_sample_0 : cX0_sample.data.toList.drop 0 = dktX0_sample_0 := by decide +kernel
theorem dksX0_sample_1 : cX0_sample.data.toList.drop 24 = dktX0_sample_1 := dk_seg dksX0_sample_0 24 rfl rfl
theorem dksX0_sample_2 : cX0_sample.data.toList.drop 46 = dktX0_sample_2 := dk_seg dksX0_sample_1 22 rfl rfl
theorem dksX0_sample_3 : cX0_sample.data.toList.drop 70 = dktX0_sample_3 := dk_seg dksX0_sample_2 24 rfl rfl
theorem dksX0_sample_4 : cX0_sample.data.toList.drop 93 = dktX0_sample_4 := dk_seg dksX0_sample_3 23 rfl rfl
theorem dksX0_sample_5 : cX0_sample.data.toList.drop 117 = dktX0_sample_5 := dk_seg dksX0_sample_4 24 rfl rfl
theorem dksX0_sample_6 : cX0_sample.data.toList.drop 141 = dktX0_sample_6 := dk_seg dksX0_sample_5 24 rfl rfl
theorem dksX0_sample_7 : cX0_sample.data.toList.drop 165 = dktX0_sample_7 := dk_seg dksX0_sample_6 24 rfl rfl
theorem dksX0_sample_8 : cX0_sample.data.toList.drop 189 = dktX0_sample_8 := dk_seg dksX0_sample_7 24 rfl rfl
theorem dX0_sample_0 : decode cX0_sample 0 = .ok (.aload_n 0, 1) := dk_42 (dk_at dksX0_sample_0 0 rfl rfl)
theorem dX0_sample_1 : decode cX0_sample 1 = .ok (.iload_n 1, 1) := dk_27 (dk_at dksX0_sample_0 1 rfl rfl)
theorem dX0_sample_2 : decode cX0_sample 2 = .ok (.invokevirtual 296, 3) := dk_182 1 40 (dk_at dksX0_sample_0 2 rfl rfl)
theorem dX0_sample_5 : decode cX0_sample 5 = .ok (.ifCond .ne 5, 3) := dk_154 0 5 (dk_at dksX0_sample_0 5 rfl rfl)
theorem dX0_sample_8 : decode cX0_sample 8 = .ok (.iconst (-1), 1) := dk_2 (dk_at dksX0_sample_0 8 rfl rfl)
theorem dX0_sample_9 : decode cX0_sample 9 = .ok (.ireturn, 1) := dk_172 (dk_at dksX0_sample_0 9 rfl rfl)
theorem dX0_sample_10 : decode cX0_sample 10 = .ok (.aload_n 0, 1) := dk_42 (dk_at dksX0_sample_0 10 rfl rfl)
theorem dX0_sample_11 : decode cX0_sample 11 = .ok (.invokevirtual 577, 3) := dk_182 2 65 (dk_at dksX0_sample_0 11 rfl rfl)
theorem dX0_sample_14 : decode cX0_sample 14 = .ok (.ifCond .ne 6, 3) := dk_154 0 6 (dk_at dksX0_sample_0 14 rfl rfl)
theorem dX0_sample_17 : decode cX0_sample 17 = .ok (.bipush (-3), 2) := dk_16 253 (dk_at dksX0_sample_0 17 rfl rfl)
theorem dX0_sample_19 : decode cX0_sample 19 = .ok (.ireturn, 1) := dk_172 (dk_at dksX0_sample_0 19 rfl rfl)
theorem dX0_sample_20 : decode cX0_sample 20 = .ok (.aload_n 0, 1) := dk_42 (dk_at dksX0_sample_0 20 rfl rfl)
theorem dX0_sample_21 : decode cX0_sample 21 = .ok (.getfield 42, 3) := dk_180 0 42 (dk_at dksX0_sample_0 21 rfl rfl)
theorem dX0_sample_24 : decode cX0_sample 24 = .ok (.getfield 299, 3) := dk_180 1 43 (dk_at dksX0_sample_1 0 rfl rfl)
theorem dX0_sample_27 : decode cX0_sample 27 = .ok (.iload_n 1, 1) := dk_27 (dk_at dksX0_sample_1 3 rfl rfl)
theorem dX0_sample_28 : decode cX0_sample 28 = .ok (.aaload, 1) := dk_50 (dk_at dksX0_sample_1 4 rfl rfl)
theorem dX0_sample_29 : decode cX0_sample 29 = .ok (.astore 5, 2) := dk_58 5 (dk_at dksX0_sample_1 5 rfl rfl)
theorem dX0_sample_31 : decode cX0_sample 31 = .ok (.aload 5, 2) := dk_25 5 (dk_at dksX0_sample_1 7 rfl rfl)
theorem dX0_sample_33 : decode cX0_sample 33 = .ok (.getfield 311, 3) := dk_180 1 55 (dk_at dksX0_sample_1 9 rfl rfl)
theorem dX0_sample_36 : decode cX0_sample 36 = .ok (.iconst 2, 1) := dk_5 (dk_at dksX0_sample_1 12 rfl rfl)
theorem dX0_sample_37 : decode cX0_sample 37 = .ok (.if_icmp .gt 30, 3) := dk_163 0 30 (dk_at dksX0_sample_1 13 rfl rfl)
theorem dX0_sample_40 : decode cX0_sample 40 = .ok (.aload_n 0, 1) := dk_42 (dk_at dksX0_sample_1 16 rfl rfl)
theorem dX0_sample_41 : decode cX0_sample 41 = .ok (.getfield 62, 3) := dk_180 0 62 (dk_at dksX0_sample_1 17 rfl rfl)
theorem dX0_sample_44 : decode cX0_sample 44 = .ok (.iload_n 1, 1) := dk_27 (dk_at dksX0_sample_1 20 rfl rfl)
theorem dX0_sample_45 : decode cX0_sample 45 = .ok (.aaload, 1) := dk_50 (dk_at dksX0_sample_1 21 rfl rfl)
theorem dX0_sample_46 : decode cX0_sample 46 = .ok (.getfield 317, 3) := dk_180 1 61 (dk_at dksX0_sample_2 0 rfl rfl)
theorem dX0_sample_49 : decode cX0_sample 49 = .ok (.aload_n 0, 1) := dk_42 (dk_at dksX0_sample_2 3 rfl rfl)
theorem dX0_sample_50 : decode cX0_sample 50 = .ok (.getfield 62, 3) := dk_180 0 62 (dk_at dksX0_sample_2 4 rfl rfl)
theorem dX0_sample_53 : decode cX0_sample 53 = .ok (.iload_n 1, 1) := dk_27 (dk_at dksX0_sample_2 7 rfl rfl)
theorem dX0_sample_54 : decode cX0_sample 54 = .ok (.aaload, 1) := dk_50 (dk_at dksX0_sample_2 8 rfl rfl)
theorem dX0_sample_55 : decode cX0_sample 55 = .ok (.invokevirtual 320, 3) := dk_182 1 64 (dk_at dksX0_sample_2 9 rfl rfl)
theorem dX0_sample_58 : decode cX0_sample 58 = .ok (.isub, 1) := dk_100 (dk_at dksX0_sample_2 12 rfl rfl)
theorem dX0_sample_59 : decode cX0_sample 59 = .ok (.aload 5, 2) := dk_25 5 (dk_at dksX0_sample_2 13 rfl rfl)
theorem dX0_sample_61 : decode cX0_sample 61 = .ok (.getfield 308, 3) := dk_180 1 52 (dk_at dksX0_sample_2 15 rfl rfl)
theorem dX0_sample_64 : decode cX0_sample 64 = .ok (.if_icmp .gt 6, 3) := dk_163 0 6 (dk_at dksX0_sample_2 18 rfl rfl)
theorem dX0_sample_67 : decode cX0_sample 67 = .ok (.bipush (-4), 2) := dk_16 252 (dk_at dksX0_sample_2 21 rfl rfl)
theorem dX0_sample_69 : decode cX0_sample 69 = .ok (.ireturn, 1) := dk_172 (dk_at dksX0_sample_2 23 rfl rfl)
theorem dX0_sample_70 : decode cX0_sample 70 = .ok (.aload_n 0, 1) := dk_42 (dk_at dksX0_sample_3 0 rfl rfl)
theorem dX0_sample_71 : decode cX0_sample 71 = .ok (.iload_n 1, 1) := dk_27 (dk_at dksX0_sample_3 1 rfl rfl)
theorem dX0_sample_72 : decode cX0_sample 72 = .ok (.invokevirtual 653, 3) := dk_182 2 141 (dk_at dksX0_sample_3 2 rfl rfl)
theorem dX0_sample_75 : decode cX0_sample 75 = .ok (.istore 6, 2) := dk_54 6 (dk_at dksX0_sample_3 5 rfl rfl)
theorem dX0_sample_77 : decode cX0_sample 77 = .ok (.iload_n 2, 1) := dk_28 (dk_at dksX0_sample_3 7 rfl rfl)
theorem dX0_sample_78 : decode cX0_sample 78 = .ok (.iconst 1, 1) := dk_4 (dk_at dksX0_sample_3 8 rfl rfl)
theorem dX0_sample_79 : decode cX0_sample 79 = .ok (.iload 6, 2) := dk_21 6 (dk_at dksX0_sample_3 9 rfl rfl)
theorem dX0_sample_81 : decode cX0_sample 81 = .ok (.invokestatic 163, 3) := dk_184 0 163 (dk_at dksX0_sample_3 11 rfl rfl)
theorem dX0_sample_84 : decode cX0_sample 84 = .ok (.ifCond .ne 6, 3) := dk_154 0 6 (dk_at dksX0_sample_3 14 rfl rfl)
theorem dX0_sample_87 : decode cX0_sample 87 = .ok (.bipush (-2), 2) := dk_16 254 (dk_at dksX0_sample_3 17 rfl rfl)
theorem dX0_sample_89 : decode cX0_sample 89 = .ok (.ireturn, 1) := dk_172 (dk_at dksX0_sample_3 19 rfl rfl)
theorem dX0_sample_90 : decode cX0_sample 90 = .ok (.aload_n 0, 1) := dk_42 (dk_at dksX0_sample_3 20 rfl rfl)
theorem dX0_sample_91 : decode cX0_sample 91 = .ok (.iload 6, 2) := dk_21 6 (dk_at dksX0_sample_3 21 rfl rfl)
theorem dX0_sample_93 : decode cX0_sample 93 = .ok (.putfield 627, 3) := dk_181 2 115 (dk_at dksX0_sample_4 0 rfl rfl)
theorem dX0_sample_96 : decode cX0_sample 96 = .ok (.aload_n 0, 1) := dk_42 (dk_at dksX0_sample_4 3 rfl rfl)
theorem dX0_sample_97 : decode cX0_sample 97 = .ok (.aload_n 0, 1) := dk_42 (dk_at dksX0_sample_4 4 rfl rfl)
theorem dX0_sample_98 : decode cX0_sample 98 = .ok (.iload_n 1, 1) := dk_27 (dk_at dksX0_sample_4 5 rfl rfl)
theorem dX0_sample_99 : decode cX0_sample 99 = .ok (.invokevirtual 656, 3) := dk_182 2 144 (dk_at dksX0_sample_4 6 rfl rfl)
theorem dX0_sample_102 : decode cX0_sample 102 = .ok (.putfield 659, 3) := dk_181 2 147 (dk_at dksX0_sample_4 9 rfl rfl)
theorem dX0_sample_105 : decode cX0_sample 105 = .ok (.aload_n 0, 1) := dk_42 (dk_at dksX0_sample_4 12 rfl rfl)
theorem dX0_sample_106 : decode cX0_sample 106 = .ok (.aload_n 0, 1) := dk_42 (dk_at dksX0_sample_4 13 rfl rfl)
theorem dX0_sample_107 : decode cX0_sample 107 = .ok (.getfield 659, 3) := dk_180 2 147 (dk_at dksX0_sample_4 14 rfl rfl)
theorem dX0_sample_110 : decode cX0_sample 110 = .ok (.iconst 1, 1) := dk_4 (dk_at dksX0_sample_4 17 rfl rfl)
theorem dX0_sample_111 : decode cX0_sample 111 = .ok (.iadd, 1) := dk_96 (dk_at dksX0_sample_4 18 rfl rfl)
theorem dX0_sample_112 : decode cX0_sample 112 = .ok (.iconst 2, 1) := dk_5 (dk_at dksX0_sample_4 19 rfl rfl)
theorem dX0_sample_113 : decode cX0_sample 113 = .ok (.idiv, 1) := dk_108 (dk_at dksX0_sample_4 20 rfl rfl)
theorem dX0_sample_114 : decode cX0_sample 114 = .ok (.putfield 641, 3) := dk_181 2 129 (dk_at dksX0_sample_4 21 rfl rfl)
theorem dX0_sample_117 : decode cX0_sample 117 = .ok (.aload_n 0, 1) := dk_42 (dk_at dksX0_sample_5 0 rfl rfl)
theorem dX0_sample_118 : decode cX0_sample 118 = .ok (.iload_n 1, 1) := dk_27 (dk_at dksX0_sample_5 1 rfl rfl)
theorem dX0_sample_119 : decode cX0_sample 119 = .ok (.iload_n 2, 1) := dk_28 (dk_at dksX0_sample_5 2 rfl rfl)
theorem dX0_sample_120 : decode cX0_sample 120 = .ok (.lload_n 3, 1) := dk_33 (dk_at dksX0_sample_5 3 rfl rfl)
theorem dX0_sample_121 : decode cX0_sample 121 = .ok (.invokevirtual 662, 3) := dk_182 2 150 (dk_at dksX0_sample_5 4 rfl rfl)
theorem dX0_sample_124 : decode cX0_sample 124 = .ok (.iconst 0, 1) := dk_3 (dk_at dksX0_sample_5 7 rfl rfl)
theorem dX0_sample_125 : decode cX0_sample 125 = .ok (.istore 7, 2) := dk_54 7 (dk_at dksX0_sample_5 8 rfl rfl)
theorem dX0_sample_127 : decode cX0_sample 127 = .ok (.iconst 0, 1) := dk_3 (dk_at dksX0_sample_5 10 rfl rfl)
theorem dX0_sample_128 : decode cX0_sample 128 = .ok (.istore 8, 2) := dk_54 8 (dk_at dksX0_sample_5 11 rfl rfl)
theorem dX0_sample_130 : decode cX0_sample 130 = .ok (.iload 8, 2) := dk_21 8 (dk_at dksX0_sample_5 13 rfl rfl)
theorem dX0_sample_132 : decode cX0_sample 132 = .ok (.aload_n 0, 1) := dk_42 (dk_at dksX0_sample_5 15 rfl rfl)
theorem dX0_sample_133 : decode cX0_sample 133 = .ok (.getfield 290, 3) := dk_180 1 34 (dk_at dksX0_sample_5 16 rfl rfl)
theorem dX0_sample_136 : decode cX0_sample 136 = .ok (.if_icmp .ge 29, 3) := dk_162 0 29 (dk_at dksX0_sample_5 19 rfl rfl)
theorem dX0_sample_139 : decode cX0_sample 139 = .ok (.iload 7, 2) := dk_21 7 (dk_at dksX0_sample_5 22 rfl rfl)
theorem dX0_sample_141 : decode cX0_sample 141 = .ok (.aload_n 0, 1) := dk_42 (dk_at dksX0_sample_6 0 rfl rfl)
theorem dX0_sample_142 : decode cX0_sample 142 = .ok (.getfield 140, 3) := dk_180 0 140 (dk_at dksX0_sample_6 1 rfl rfl)
theorem dX0_sample_145 : decode cX0_sample 145 = .ok (.iload 8, 2) := dk_21 8 (dk_at dksX0_sample_6 4 rfl rfl)
theorem dX0_sample_147 : decode cX0_sample 147 = .ok (.baload, 1) := dk_51 (dk_at dksX0_sample_6 6 rfl rfl)
theorem dX0_sample_148 : decode cX0_sample 148 = .ok (.ifCond .eq 7, 3) := dk_153 0 7 (dk_at dksX0_sample_6 7 rfl rfl)
theorem dX0_sample_151 : decode cX0_sample 151 = .ok (.iconst 1, 1) := dk_4 (dk_at dksX0_sample_6 10 rfl rfl)
theorem dX0_sample_152 : decode cX0_sample 152 = .ok (.goto 4, 3) := dk_167 0 4 (dk_at dksX0_sample_6 11 rfl rfl)
theorem dX0_sample_155 : decode cX0_sample 155 = .ok (.iconst 0, 1) := dk_3 (dk_at dksX0_sample_6 14 rfl rfl)
theorem dX0_sample_156 : decode cX0_sample 156 = .ok (.iadd, 1) := dk_96 (dk_at dksX0_sample_6 15 rfl rfl)
theorem dX0_sample_157 : decode cX0_sample 157 = .ok (.istore 7, 2) := dk_54 7 (dk_at dksX0_sample_6 16 rfl rfl)
theorem dX0_sample_159 : decode cX0_sample 159 = .ok (.iinc 8 1, 3) := dk_132 8 1 (dk_at dksX0_sample_6 18 rfl rfl)
theorem dX0_sample_162 : decode cX0_sample 162 = .ok (.goto (-32), 3) := dk_167 255 224 (dk_at dksX0_sample_6 21 rfl rfl)
theorem dX0_sample_165 : decode cX0_sample 165 = .ok (.aload_n 0, 1) := dk_42 (dk_at dksX0_sample_7 0 rfl rfl)
theorem dX0_sample_166 : decode cX0_sample 166 = .ok (.iload_n 2, 1) := dk_28 (dk_at dksX0_sample_7 1 rfl rfl)
theorem dX0_sample_167 : decode cX0_sample 167 = .ok (.iload 7, 2) := dk_21 7 (dk_at dksX0_sample_7 2 rfl rfl)
theorem dX0_sample_169 : decode cX0_sample 169 = .ok (.invokevirtual 666, 3) := dk_182 2 154 (dk_at dksX0_sample_7 4 rfl rfl)
theorem dX0_sample_172 : decode cX0_sample 172 = .ok (.aload_n 0, 1) := dk_42 (dk_at dksX0_sample_7 7 rfl rfl)
theorem dX0_sample_173 : decode cX0_sample 173 = .ok (.bipush 28, 2) := dk_16 28 (dk_at dksX0_sample_7 8 rfl rfl)
theorem dX0_sample_175 : decode cX0_sample 175 = .ok (.iload_n 1, 1) := dk_27 (dk_at dksX0_sample_7 10 rfl rfl)
theorem dX0_sample_176 : decode cX0_sample 176 = .ok (.iload_n 2, 1) := dk_28 (dk_at dksX0_sample_7 11 rfl rfl)
theorem dX0_sample_177 : decode cX0_sample 177 = .ok (.lload_n 3, 1) := dk_33 (dk_at dksX0_sample_7 12 rfl rfl)
theorem dX0_sample_178 : decode cX0_sample 178 = .ok (.bipush 32, 2) := dk_16 32 (dk_at dksX0_sample_7 13 rfl rfl)
theorem dX0_sample_180 : decode cX0_sample 180 = .ok (.lshr, 1) := dk_123 (dk_at dksX0_sample_7 15 rfl rfl)
theorem dX0_sample_181 : decode cX0_sample 181 = .ok (.l2i, 1) := dk_136 (dk_at dksX0_sample_7 16 rfl rfl)
theorem dX0_sample_182 : decode cX0_sample 182 = .ok (.lload_n 3, 1) := dk_33 (dk_at dksX0_sample_7 17 rfl rfl)
theorem dX0_sample_183 : decode cX0_sample 183 = .ok (.l2i, 1) := dk_136 (dk_at dksX0_sample_7 18 rfl rfl)
theorem dX0_sample_184 : decode cX0_sample 184 = .ok (.invokevirtual 173, 3) := dk_182 0 173 (dk_at dksX0_sample_7 19 rfl rfl)
theorem dX0_sample_187 : decode cX0_sample 187 = .ok (.iload 7, 2) := dk_21 7 (dk_at dksX0_sample_7 22 rfl rfl)
theorem dX0_sample_189 : decode cX0_sample 189 = .ok (.ireturn, 1) := dk_172 (dk_at dksX0_sample_8 0 rfl rfl)
abbrev cX0_gather : ByteArray := prog_1_method_91_code
def yX0_gather : MethodName := ⟨RX0, "gather", "(I)I"⟩
def dkwX0_gather_2 : List UInt8 := [46, 27, 122, 4, 126, 96, 61, 132, 5, 1, 167, 255, 220, 132, 3, 1, 167, 255, 197, 28, 172]
abbrev dktX0_gather_2 : List UInt8 := dkwX0_gather_2 ++ []
def dkwX0_gather_1 : List UInt8 := [25, 4, 180, 2, 20, 162, 0, 32, 25, 4, 180, 2, 23, 154, 0, 24, 28, 25, 4, 180, 2, 25, 21, 5]
abbrev dktX0_gather_1 : List UInt8 := dkwX0_gather_1 ++ dktX0_gather_2
def dkwX0_gather_0 : List UInt8 := [3, 61, 3, 62, 29, 16, 6, 163, 0, 59, 42, 180, 0, 120, 29, 50, 58, 4, 3, 54, 5, 21, 5]
abbrev dktX0_gather_0 : List UInt8 := dkwX0_gather_0 ++ dktX0_gather_1
theorem dksX0_gather_0 : cX0_gather.data.toList.drop 0 = dktX0_gather_0 := by decide +kernel
theorem dksX0_gather_1 : cX0_gather.data.toList.drop 23 = dktX0_gather_1 := dk_seg dksX0_gather_0 23 rfl rfl
theorem dksX0_gather_2 : cX0_gather.data.toList.drop 47 = dktX0_gather_2 := dk_seg dksX0_gather_1 24 rfl rfl
theorem dX0_gather_0 : decode cX0_gather 0 = .ok (.iconst 0, 1) := dk_3 (dk_at dksX0_gather_0 0 rfl rfl)
theorem dX0_gather_1 : decode cX0_gather 1 = .ok (.istore_n 2, 1) := dk_61 (dk_at dksX0_gather_0 1 rfl rfl)
theorem dX0_gather_2 : decode cX0_gather 2 = .ok (.iconst 0, 1) := dk_3 (dk_at dksX0_gather_0 2 rfl rfl)
theorem dX0_gather_3 : decode cX0_gather 3 = .ok (.istore_n 3, 1) := dk_62 (dk_at dksX0_gather_0 3 rfl rfl)
theorem dX0_gather_4 : decode cX0_gather 4 = .ok (.iload_n 3, 1) := dk_29 (dk_at dksX0_gather_0 4 rfl rfl)
theorem dX0_gather_5 : decode cX0_gather 5 = .ok (.bipush 6, 2) := dk_16 6 (dk_at dksX0_gather_0 5 rfl rfl)
theorem dX0_gather_7 : decode cX0_gather 7 = .ok (.if_icmp .gt 59, 3) := dk_163 0 59 (dk_at dksX0_gather_0 7 rfl rfl)
theorem dX0_gather_10 : decode cX0_gather 10 = .ok (.aload_n 0, 1) := dk_42 (dk_at dksX0_gather_0 10 rfl rfl)
theorem dX0_gather_11 : decode cX0_gather 11 = .ok (.getfield 120, 3) := dk_180 0 120 (dk_at dksX0_gather_0 11 rfl rfl)
theorem dX0_gather_14 : decode cX0_gather 14 = .ok (.iload_n 3, 1) := dk_29 (dk_at dksX0_gather_0 14 rfl rfl)
theorem dX0_gather_15 : decode cX0_gather 15 = .ok (.aaload, 1) := dk_50 (dk_at dksX0_gather_0 15 rfl rfl)
theorem dX0_gather_16 : decode cX0_gather 16 = .ok (.astore 4, 2) := dk_58 4 (dk_at dksX0_gather_0 16 rfl rfl)
theorem dX0_gather_18 : decode cX0_gather 18 = .ok (.iconst 0, 1) := dk_3 (dk_at dksX0_gather_0 18 rfl rfl)
theorem dX0_gather_19 : decode cX0_gather 19 = .ok (.istore 5, 2) := dk_54 5 (dk_at dksX0_gather_0 19 rfl rfl)
theorem dX0_gather_21 : decode cX0_gather 21 = .ok (.iload 5, 2) := dk_21 5 (dk_at dksX0_gather_0 21 rfl rfl)
theorem dX0_gather_23 : decode cX0_gather 23 = .ok (.aload 4, 2) := dk_25 4 (dk_at dksX0_gather_1 0 rfl rfl)
theorem dX0_gather_25 : decode cX0_gather 25 = .ok (.getfield 532, 3) := dk_180 2 20 (dk_at dksX0_gather_1 2 rfl rfl)
theorem dX0_gather_28 : decode cX0_gather 28 = .ok (.if_icmp .ge 32, 3) := dk_162 0 32 (dk_at dksX0_gather_1 5 rfl rfl)
theorem dX0_gather_31 : decode cX0_gather 31 = .ok (.aload 4, 2) := dk_25 4 (dk_at dksX0_gather_1 8 rfl rfl)
theorem dX0_gather_33 : decode cX0_gather 33 = .ok (.getfield 535, 3) := dk_180 2 23 (dk_at dksX0_gather_1 10 rfl rfl)
theorem dX0_gather_36 : decode cX0_gather 36 = .ok (.ifCond .ne 24, 3) := dk_154 0 24 (dk_at dksX0_gather_1 13 rfl rfl)
theorem dX0_gather_39 : decode cX0_gather 39 = .ok (.iload_n 2, 1) := dk_28 (dk_at dksX0_gather_1 16 rfl rfl)
theorem dX0_gather_40 : decode cX0_gather 40 = .ok (.aload 4, 2) := dk_25 4 (dk_at dksX0_gather_1 17 rfl rfl)
theorem dX0_gather_42 : decode cX0_gather 42 = .ok (.getfield 537, 3) := dk_180 2 25 (dk_at dksX0_gather_1 19 rfl rfl)
theorem dX0_gather_45 : decode cX0_gather 45 = .ok (.iload 5, 2) := dk_21 5 (dk_at dksX0_gather_1 22 rfl rfl)
theorem dX0_gather_47 : decode cX0_gather 47 = .ok (.iaload, 1) := dk_46 (dk_at dksX0_gather_2 0 rfl rfl)
theorem dX0_gather_48 : decode cX0_gather 48 = .ok (.iload_n 1, 1) := dk_27 (dk_at dksX0_gather_2 1 rfl rfl)
theorem dX0_gather_49 : decode cX0_gather 49 = .ok (.ishr, 1) := dk_122 (dk_at dksX0_gather_2 2 rfl rfl)
theorem dX0_gather_50 : decode cX0_gather 50 = .ok (.iconst 1, 1) := dk_4 (dk_at dksX0_gather_2 3 rfl rfl)
theorem dX0_gather_51 : decode cX0_gather 51 = .ok (.iand, 1) := dk_126 (dk_at dksX0_gather_2 4 rfl rfl)
theorem dX0_gather_52 : decode cX0_gather 52 = .ok (.iadd, 1) := dk_96 (dk_at dksX0_gather_2 5 rfl rfl)
theorem dX0_gather_53 : decode cX0_gather 53 = .ok (.istore_n 2, 1) := dk_61 (dk_at dksX0_gather_2 6 rfl rfl)
theorem dX0_gather_54 : decode cX0_gather 54 = .ok (.iinc 5 1, 3) := dk_132 5 1 (dk_at dksX0_gather_2 7 rfl rfl)
theorem dX0_gather_57 : decode cX0_gather 57 = .ok (.goto (-36), 3) := dk_167 255 220 (dk_at dksX0_gather_2 10 rfl rfl)
theorem dX0_gather_60 : decode cX0_gather 60 = .ok (.iinc 3 1, 3) := dk_132 3 1 (dk_at dksX0_gather_2 13 rfl rfl)
theorem dX0_gather_63 : decode cX0_gather 63 = .ok (.goto (-59), 3) := dk_167 255 197 (dk_at dksX0_gather_2 16 rfl rfl)
theorem dX0_gather_66 : decode cX0_gather 66 = .ok (.iload_n 2, 1) := dk_28 (dk_at dksX0_gather_2 19 rfl rfl)
theorem dX0_gather_67 : decode cX0_gather 67 = .ok (.ireturn, 1) := dk_172 (dk_at dksX0_gather_2 20 rfl rfl)
abbrev cX0_margin : ByteArray := prog_1_method_94_code
def yX0_margin : MethodName := ⟨RX0, "margin", "(I)I"⟩
def dkwX0_margin_4 : List UInt8 := [180, 0, 131, 180, 2, 56, 4, 100, 46, 47, 32, 101, 136, 172]
abbrev dktX0_margin_4 : List UInt8 := dkwX0_margin_4 ++ []
def dkwX0_margin_3 : List UInt8 := [65, 132, 4, 1, 167, 255, 196, 42, 180, 0, 131, 180, 2, 102, 42, 180, 0, 131, 180, 2, 59, 42]
abbrev dktX0_margin_3 : List UInt8 := dkwX0_margin_3 ++ dktX0_margin_4
def dkwX0_margin_2 : List UInt8 := [21, 4, 51, 154, 0, 20, 32, 42, 180, 0, 131, 180, 2, 102, 21, 4, 47, 184, 2, 106, 167, 0, 4, 32]
abbrev dktX0_margin_2 : List UInt8 := dkwX0_margin_2 ++ dktX0_margin_3
def dkwX0_margin_1 : List UInt8 := [162, 0, 54, 42, 180, 0, 131, 180, 2, 97, 21, 4, 51, 153, 0, 33, 42, 180, 0, 131, 180, 2, 99]
abbrev dktX0_margin_1 : List UInt8 := dkwX0_margin_1 ++ dktX0_margin_2
def dkwX0_margin_0 : List UInt8 := [42, 42, 180, 0, 131, 27, 3, 182, 2, 52, 9, 65, 3, 54, 4, 21, 4, 42, 180, 0, 131, 180, 2, 81]
abbrev dktX0_margin_0 : List UInt8 := dkwX0_margin_0 ++ dktX0_margin_1
theorem dksX0_margin_0 : cX0_margin.data.toList.drop 0 = dktX0_margin_0 := by decide +kernel
theorem dksX0_margin_1 : cX0_margin.data.toList.drop 24 = dktX0_margin_1 := dk_seg dksX0_margin_0 24 rfl rfl
theorem dksX0_margin_2 : cX0_margin.data.toList.drop 47 = dktX0_margin_2 := dk_seg dksX0_margin_1 23 rfl rfl
theorem dksX0_margin_3 : cX0_margin.data.toList.drop 71 = dktX0_margin_3 := dk_seg dksX0_margin_2 24 rfl rfl
theorem dksX0_margin_4 : cX0_margin.data.toList.drop 93 = dktX0_margin_4 := dk_seg dksX0_margin_3 22 rfl rfl
theorem dX0_margin_0 : decode cX0_margin 0 = .ok (.aload_n 0, 1) := dk_42 (dk_at dksX0_margin_0 0 rfl rfl)
theorem dX0_margin_1 : decode cX0_margin 1 = .ok (.aload_n 0, 1) := dk_42 (dk_at dksX0_margin_0 1 rfl rfl)
theorem dX0_margin_2 : decode cX0_margin 2 = .ok (.getfield 131, 3) := dk_180 0 131 (dk_at dksX0_margin_0 2 rfl rfl)
theorem dX0_margin_5 : decode cX0_margin 5 = .ok (.iload_n 1, 1) := dk_27 (dk_at dksX0_margin_0 5 rfl rfl)
theorem dX0_margin_6 : decode cX0_margin 6 = .ok (.iconst 0, 1) := dk_3 (dk_at dksX0_margin_0 6 rfl rfl)
theorem dX0_margin_7 : decode cX0_margin 7 = .ok (.invokevirtual 564, 3) := dk_182 2 52 (dk_at dksX0_margin_0 7 rfl rfl)
theorem dX0_margin_10 : decode cX0_margin 10 = .ok (.lconst 0, 1) := dk_9 (dk_at dksX0_margin_0 10 rfl rfl)
theorem dX0_margin_11 : decode cX0_margin 11 = .ok (.lstore_n 2, 1) := dk_65 (dk_at dksX0_margin_0 11 rfl rfl)
theorem dX0_margin_12 : decode cX0_margin 12 = .ok (.iconst 0, 1) := dk_3 (dk_at dksX0_margin_0 12 rfl rfl)
theorem dX0_margin_13 : decode cX0_margin 13 = .ok (.istore 4, 2) := dk_54 4 (dk_at dksX0_margin_0 13 rfl rfl)
theorem dX0_margin_15 : decode cX0_margin 15 = .ok (.iload 4, 2) := dk_21 4 (dk_at dksX0_margin_0 15 rfl rfl)
theorem dX0_margin_17 : decode cX0_margin 17 = .ok (.aload_n 0, 1) := dk_42 (dk_at dksX0_margin_0 17 rfl rfl)
theorem dX0_margin_18 : decode cX0_margin 18 = .ok (.getfield 131, 3) := dk_180 0 131 (dk_at dksX0_margin_0 18 rfl rfl)
theorem dX0_margin_21 : decode cX0_margin 21 = .ok (.getfield 593, 3) := dk_180 2 81 (dk_at dksX0_margin_0 21 rfl rfl)
theorem dX0_margin_24 : decode cX0_margin 24 = .ok (.if_icmp .ge 54, 3) := dk_162 0 54 (dk_at dksX0_margin_1 0 rfl rfl)
theorem dX0_margin_27 : decode cX0_margin 27 = .ok (.aload_n 0, 1) := dk_42 (dk_at dksX0_margin_1 3 rfl rfl)
theorem dX0_margin_28 : decode cX0_margin 28 = .ok (.getfield 131, 3) := dk_180 0 131 (dk_at dksX0_margin_1 4 rfl rfl)
theorem dX0_margin_31 : decode cX0_margin 31 = .ok (.getfield 609, 3) := dk_180 2 97 (dk_at dksX0_margin_1 7 rfl rfl)
theorem dX0_margin_34 : decode cX0_margin 34 = .ok (.iload 4, 2) := dk_21 4 (dk_at dksX0_margin_1 10 rfl rfl)
theorem dX0_margin_36 : decode cX0_margin 36 = .ok (.baload, 1) := dk_51 (dk_at dksX0_margin_1 12 rfl rfl)
theorem dX0_margin_37 : decode cX0_margin 37 = .ok (.ifCond .eq 33, 3) := dk_153 0 33 (dk_at dksX0_margin_1 13 rfl rfl)
theorem dX0_margin_40 : decode cX0_margin 40 = .ok (.aload_n 0, 1) := dk_42 (dk_at dksX0_margin_1 16 rfl rfl)
theorem dX0_margin_41 : decode cX0_margin 41 = .ok (.getfield 131, 3) := dk_180 0 131 (dk_at dksX0_margin_1 17 rfl rfl)
theorem dX0_margin_44 : decode cX0_margin 44 = .ok (.getfield 611, 3) := dk_180 2 99 (dk_at dksX0_margin_1 20 rfl rfl)
theorem dX0_margin_47 : decode cX0_margin 47 = .ok (.iload 4, 2) := dk_21 4 (dk_at dksX0_margin_2 0 rfl rfl)
theorem dX0_margin_49 : decode cX0_margin 49 = .ok (.baload, 1) := dk_51 (dk_at dksX0_margin_2 2 rfl rfl)
theorem dX0_margin_50 : decode cX0_margin 50 = .ok (.ifCond .ne 20, 3) := dk_154 0 20 (dk_at dksX0_margin_2 3 rfl rfl)
theorem dX0_margin_53 : decode cX0_margin 53 = .ok (.lload_n 2, 1) := dk_32 (dk_at dksX0_margin_2 6 rfl rfl)
theorem dX0_margin_54 : decode cX0_margin 54 = .ok (.aload_n 0, 1) := dk_42 (dk_at dksX0_margin_2 7 rfl rfl)
theorem dX0_margin_55 : decode cX0_margin 55 = .ok (.getfield 131, 3) := dk_180 0 131 (dk_at dksX0_margin_2 8 rfl rfl)
theorem dX0_margin_58 : decode cX0_margin 58 = .ok (.getfield 614, 3) := dk_180 2 102 (dk_at dksX0_margin_2 11 rfl rfl)
theorem dX0_margin_61 : decode cX0_margin 61 = .ok (.iload 4, 2) := dk_21 4 (dk_at dksX0_margin_2 14 rfl rfl)
theorem dX0_margin_63 : decode cX0_margin 63 = .ok (.laload, 1) := dk_47 (dk_at dksX0_margin_2 16 rfl rfl)
theorem dX0_margin_64 : decode cX0_margin 64 = .ok (.invokestatic 618, 3) := dk_184 2 106 (dk_at dksX0_margin_2 17 rfl rfl)
theorem dX0_margin_67 : decode cX0_margin 67 = .ok (.goto 4, 3) := dk_167 0 4 (dk_at dksX0_margin_2 20 rfl rfl)
theorem dX0_margin_70 : decode cX0_margin 70 = .ok (.lload_n 2, 1) := dk_32 (dk_at dksX0_margin_2 23 rfl rfl)
theorem dX0_margin_71 : decode cX0_margin 71 = .ok (.lstore_n 2, 1) := dk_65 (dk_at dksX0_margin_3 0 rfl rfl)
theorem dX0_margin_72 : decode cX0_margin 72 = .ok (.iinc 4 1, 3) := dk_132 4 1 (dk_at dksX0_margin_3 1 rfl rfl)
theorem dX0_margin_75 : decode cX0_margin 75 = .ok (.goto (-60), 3) := dk_167 255 196 (dk_at dksX0_margin_3 4 rfl rfl)
theorem dX0_margin_78 : decode cX0_margin 78 = .ok (.aload_n 0, 1) := dk_42 (dk_at dksX0_margin_3 7 rfl rfl)
theorem dX0_margin_79 : decode cX0_margin 79 = .ok (.getfield 131, 3) := dk_180 0 131 (dk_at dksX0_margin_3 8 rfl rfl)
theorem dX0_margin_82 : decode cX0_margin 82 = .ok (.getfield 614, 3) := dk_180 2 102 (dk_at dksX0_margin_3 11 rfl rfl)
theorem dX0_margin_85 : decode cX0_margin 85 = .ok (.aload_n 0, 1) := dk_42 (dk_at dksX0_margin_3 14 rfl rfl)
theorem dX0_margin_86 : decode cX0_margin 86 = .ok (.getfield 131, 3) := dk_180 0 131 (dk_at dksX0_margin_3 15 rfl rfl)
theorem dX0_margin_89 : decode cX0_margin 89 = .ok (.getfield 571, 3) := dk_180 2 59 (dk_at dksX0_margin_3 18 rfl rfl)
theorem dX0_margin_92 : decode cX0_margin 92 = .ok (.aload_n 0, 1) := dk_42 (dk_at dksX0_margin_3 21 rfl rfl)
theorem dX0_margin_93 : decode cX0_margin 93 = .ok (.getfield 131, 3) := dk_180 0 131 (dk_at dksX0_margin_4 0 rfl rfl)
theorem dX0_margin_96 : decode cX0_margin 96 = .ok (.getfield 568, 3) := dk_180 2 56 (dk_at dksX0_margin_4 3 rfl rfl)
theorem dX0_margin_99 : decode cX0_margin 99 = .ok (.iconst 1, 1) := dk_4 (dk_at dksX0_margin_4 6 rfl rfl)
theorem dX0_margin_100 : decode cX0_margin 100 = .ok (.isub, 1) := dk_100 (dk_at dksX0_margin_4 7 rfl rfl)
theorem dX0_margin_101 : decode cX0_margin 101 = .ok (.iaload, 1) := dk_46 (dk_at dksX0_margin_4 8 rfl rfl)
theorem dX0_margin_102 : decode cX0_margin 102 = .ok (.laload, 1) := dk_47 (dk_at dksX0_margin_4 9 rfl rfl)
theorem dX0_margin_103 : decode cX0_margin 103 = .ok (.lload_n 2, 1) := dk_32 (dk_at dksX0_margin_4 10 rfl rfl)
theorem dX0_margin_104 : decode cX0_margin 104 = .ok (.lsub, 1) := dk_101 (dk_at dksX0_margin_4 11 rfl rfl)
theorem dX0_margin_105 : decode cX0_margin 105 = .ok (.l2i, 1) := dk_136 (dk_at dksX0_margin_4 12 rfl rfl)
theorem dX0_margin_106 : decode cX0_margin 106 = .ok (.ireturn, 1) := dk_172 (dk_at dksX0_margin_4 13 rfl rfl)
abbrev cX0_drawAll : ByteArray := prog_1_method_95_code
def yX0_drawAll : MethodName := ⟨RX0, "drawAll", "(IIJ)V"⟩
def dkwX0_drawAll_4 : List UInt8 := [180, 0, 143, 21, 9, 4, 84, 42, 27, 21, 9, 182, 2, 126, 132, 7, 255, 167, 255, 167, 177]
abbrev dktX0_drawAll_4 : List UInt8 := dkwX0_drawAll_4 ++ []
def dkwX0_drawAll_3 : List UInt8 := [180, 0, 143, 21, 9, 51, 153, 0, 7, 3, 167, 0, 4, 4, 100, 54, 8, 132, 9, 1, 167, 255, 218, 42]
abbrev dktX0_drawAll_3 : List UInt8 := dkwX0_drawAll_3 ++ dktX0_drawAll_4
def dkwX0_drawAll_2 : List UInt8 := [54, 8, 3, 54, 9, 42, 180, 0, 143, 21, 9, 51, 154, 0, 8, 21, 8, 158, 0, 29, 21, 8, 42]
abbrev dktX0_drawAll_2 : List UInt8 := dkwX0_drawAll_2 ++ dktX0_drawAll_3
def dkwX0_drawAll_1 : List UInt8 := [42, 180, 2, 115, 28, 100, 164, 0, 84, 22, 5, 184, 2, 118, 55, 5, 22, 5, 21, 7, 184, 2, 122]
abbrev dktX0_drawAll_1 : List UInt8 := dkwX0_drawAll_1 ++ dktX0_drawAll_2
def dkwX0_drawAll_0 : List UInt8 := [42, 180, 0, 143, 3, 184, 2, 112, 42, 3, 181, 1, 34, 33, 55, 5, 42, 180, 2, 115, 54, 7, 21, 7]
abbrev dktX0_drawAll_0 : List UInt8 := dkwX0_drawAll_0 ++ dktX0_drawAll_1
theorem dksX0_drawAll_0 : cX0_drawAll.data.toList.drop 0 = dktX0_drawAll_0 := by decide +kernel
theorem dksX0_drawAll_1 : cX0_drawAll.data.toList.drop 24 = dktX0_drawAll_1 := dk_seg dksX0_drawAll_0 24 rfl rfl
theorem dksX0_drawAll_2 : cX0_drawAll.data.toList.drop 47 = dktX0_drawAll_2 := dk_seg dksX0_drawAll_1 23 rfl rfl
theorem dksX0_drawAll_3 : cX0_drawAll.data.toList.drop 70 = dktX0_drawAll_3 := dk_seg dksX0_drawAll_2 23 rfl rfl
theorem dksX0_drawAll_4 : cX0_drawAll.data.toList.drop 94 = dktX0_drawAll_4 := dk_seg dksX0_drawAll_3 24 rfl rfl
theorem dX0_drawAll_0 : decode cX0_drawAll 0 = .ok (.aload_n 0, 1) := dk_42 (dk_at dksX0_drawAll_0 0 rfl rfl)
theorem dX0_drawAll_1 : decode cX0_drawAll 1 = .ok (.getfield 143, 3) := dk_180 0 143 (dk_at dksX0_drawAll_0 1 rfl rfl)
theorem dX0_drawAll_4 : decode cX0_drawAll 4 = .ok (.iconst 0, 1) := dk_3 (dk_at dksX0_drawAll_0 4 rfl rfl)
theorem dX0_drawAll_5 : decode cX0_drawAll 5 = .ok (.invokestatic 624, 3) := dk_184 2 112 (dk_at dksX0_drawAll_0 5 rfl rfl)
theorem dX0_drawAll_8 : decode cX0_drawAll 8 = .ok (.aload_n 0, 1) := dk_42 (dk_at dksX0_drawAll_0 8 rfl rfl)
theorem dX0_drawAll_9 : decode cX0_drawAll 9 = .ok (.iconst 0, 1) := dk_3 (dk_at dksX0_drawAll_0 9 rfl rfl)
theorem dX0_drawAll_10 : decode cX0_drawAll 10 = .ok (.putfield 290, 3) := dk_181 1 34 (dk_at dksX0_drawAll_0 10 rfl rfl)
theorem dX0_drawAll_13 : decode cX0_drawAll 13 = .ok (.lload_n 3, 1) := dk_33 (dk_at dksX0_drawAll_0 13 rfl rfl)
theorem dX0_drawAll_14 : decode cX0_drawAll 14 = .ok (.lstore 5, 2) := dk_55 5 (dk_at dksX0_drawAll_0 14 rfl rfl)
theorem dX0_drawAll_16 : decode cX0_drawAll 16 = .ok (.aload_n 0, 1) := dk_42 (dk_at dksX0_drawAll_0 16 rfl rfl)
theorem dX0_drawAll_17 : decode cX0_drawAll 17 = .ok (.getfield 627, 3) := dk_180 2 115 (dk_at dksX0_drawAll_0 17 rfl rfl)
theorem dX0_drawAll_20 : decode cX0_drawAll 20 = .ok (.istore 7, 2) := dk_54 7 (dk_at dksX0_drawAll_0 20 rfl rfl)
theorem dX0_drawAll_22 : decode cX0_drawAll 22 = .ok (.iload 7, 2) := dk_21 7 (dk_at dksX0_drawAll_0 22 rfl rfl)
theorem dX0_drawAll_24 : decode cX0_drawAll 24 = .ok (.aload_n 0, 1) := dk_42 (dk_at dksX0_drawAll_1 0 rfl rfl)
theorem dX0_drawAll_25 : decode cX0_drawAll 25 = .ok (.getfield 627, 3) := dk_180 2 115 (dk_at dksX0_drawAll_1 1 rfl rfl)
theorem dX0_drawAll_28 : decode cX0_drawAll 28 = .ok (.iload_n 2, 1) := dk_28 (dk_at dksX0_drawAll_1 4 rfl rfl)
theorem dX0_drawAll_29 : decode cX0_drawAll 29 = .ok (.isub, 1) := dk_100 (dk_at dksX0_drawAll_1 5 rfl rfl)
theorem dX0_drawAll_30 : decode cX0_drawAll 30 = .ok (.if_icmp .le 84, 3) := dk_164 0 84 (dk_at dksX0_drawAll_1 6 rfl rfl)
theorem dX0_drawAll_33 : decode cX0_drawAll 33 = .ok (.lload 5, 2) := dk_22 5 (dk_at dksX0_drawAll_1 9 rfl rfl)
theorem dX0_drawAll_35 : decode cX0_drawAll 35 = .ok (.invokestatic 630, 3) := dk_184 2 118 (dk_at dksX0_drawAll_1 11 rfl rfl)
theorem dX0_drawAll_38 : decode cX0_drawAll 38 = .ok (.lstore 5, 2) := dk_55 5 (dk_at dksX0_drawAll_1 14 rfl rfl)
theorem dX0_drawAll_40 : decode cX0_drawAll 40 = .ok (.lload 5, 2) := dk_22 5 (dk_at dksX0_drawAll_1 16 rfl rfl)
theorem dX0_drawAll_42 : decode cX0_drawAll 42 = .ok (.iload 7, 2) := dk_21 7 (dk_at dksX0_drawAll_1 18 rfl rfl)
theorem dX0_drawAll_44 : decode cX0_drawAll 44 = .ok (.invokestatic 634, 3) := dk_184 2 122 (dk_at dksX0_drawAll_1 20 rfl rfl)
theorem dX0_drawAll_47 : decode cX0_drawAll 47 = .ok (.istore 8, 2) := dk_54 8 (dk_at dksX0_drawAll_2 0 rfl rfl)
theorem dX0_drawAll_49 : decode cX0_drawAll 49 = .ok (.iconst 0, 1) := dk_3 (dk_at dksX0_drawAll_2 2 rfl rfl)
theorem dX0_drawAll_50 : decode cX0_drawAll 50 = .ok (.istore 9, 2) := dk_54 9 (dk_at dksX0_drawAll_2 3 rfl rfl)
theorem dX0_drawAll_52 : decode cX0_drawAll 52 = .ok (.aload_n 0, 1) := dk_42 (dk_at dksX0_drawAll_2 5 rfl rfl)
theorem dX0_drawAll_53 : decode cX0_drawAll 53 = .ok (.getfield 143, 3) := dk_180 0 143 (dk_at dksX0_drawAll_2 6 rfl rfl)
theorem dX0_drawAll_56 : decode cX0_drawAll 56 = .ok (.iload 9, 2) := dk_21 9 (dk_at dksX0_drawAll_2 9 rfl rfl)
theorem dX0_drawAll_58 : decode cX0_drawAll 58 = .ok (.baload, 1) := dk_51 (dk_at dksX0_drawAll_2 11 rfl rfl)
theorem dX0_drawAll_59 : decode cX0_drawAll 59 = .ok (.ifCond .ne 8, 3) := dk_154 0 8 (dk_at dksX0_drawAll_2 12 rfl rfl)
theorem dX0_drawAll_62 : decode cX0_drawAll 62 = .ok (.iload 8, 2) := dk_21 8 (dk_at dksX0_drawAll_2 15 rfl rfl)
theorem dX0_drawAll_64 : decode cX0_drawAll 64 = .ok (.ifCond .le 29, 3) := dk_158 0 29 (dk_at dksX0_drawAll_2 17 rfl rfl)
theorem dX0_drawAll_67 : decode cX0_drawAll 67 = .ok (.iload 8, 2) := dk_21 8 (dk_at dksX0_drawAll_2 20 rfl rfl)
theorem dX0_drawAll_69 : decode cX0_drawAll 69 = .ok (.aload_n 0, 1) := dk_42 (dk_at dksX0_drawAll_2 22 rfl rfl)
theorem dX0_drawAll_70 : decode cX0_drawAll 70 = .ok (.getfield 143, 3) := dk_180 0 143 (dk_at dksX0_drawAll_3 0 rfl rfl)
theorem dX0_drawAll_73 : decode cX0_drawAll 73 = .ok (.iload 9, 2) := dk_21 9 (dk_at dksX0_drawAll_3 3 rfl rfl)
theorem dX0_drawAll_75 : decode cX0_drawAll 75 = .ok (.baload, 1) := dk_51 (dk_at dksX0_drawAll_3 5 rfl rfl)
theorem dX0_drawAll_76 : decode cX0_drawAll 76 = .ok (.ifCond .eq 7, 3) := dk_153 0 7 (dk_at dksX0_drawAll_3 6 rfl rfl)
theorem dX0_drawAll_79 : decode cX0_drawAll 79 = .ok (.iconst 0, 1) := dk_3 (dk_at dksX0_drawAll_3 9 rfl rfl)
theorem dX0_drawAll_80 : decode cX0_drawAll 80 = .ok (.goto 4, 3) := dk_167 0 4 (dk_at dksX0_drawAll_3 10 rfl rfl)
theorem dX0_drawAll_83 : decode cX0_drawAll 83 = .ok (.iconst 1, 1) := dk_4 (dk_at dksX0_drawAll_3 13 rfl rfl)
theorem dX0_drawAll_84 : decode cX0_drawAll 84 = .ok (.isub, 1) := dk_100 (dk_at dksX0_drawAll_3 14 rfl rfl)
theorem dX0_drawAll_85 : decode cX0_drawAll 85 = .ok (.istore 8, 2) := dk_54 8 (dk_at dksX0_drawAll_3 15 rfl rfl)
theorem dX0_drawAll_87 : decode cX0_drawAll 87 = .ok (.iinc 9 1, 3) := dk_132 9 1 (dk_at dksX0_drawAll_3 17 rfl rfl)
theorem dX0_drawAll_90 : decode cX0_drawAll 90 = .ok (.goto (-38), 3) := dk_167 255 218 (dk_at dksX0_drawAll_3 20 rfl rfl)
theorem dX0_drawAll_93 : decode cX0_drawAll 93 = .ok (.aload_n 0, 1) := dk_42 (dk_at dksX0_drawAll_3 23 rfl rfl)
theorem dX0_drawAll_94 : decode cX0_drawAll 94 = .ok (.getfield 143, 3) := dk_180 0 143 (dk_at dksX0_drawAll_4 0 rfl rfl)
theorem dX0_drawAll_97 : decode cX0_drawAll 97 = .ok (.iload 9, 2) := dk_21 9 (dk_at dksX0_drawAll_4 3 rfl rfl)
theorem dX0_drawAll_99 : decode cX0_drawAll 99 = .ok (.iconst 1, 1) := dk_4 (dk_at dksX0_drawAll_4 5 rfl rfl)
theorem dX0_drawAll_100 : decode cX0_drawAll 100 = .ok (.bastore, 1) := dk_84 (dk_at dksX0_drawAll_4 6 rfl rfl)
theorem dX0_drawAll_101 : decode cX0_drawAll 101 = .ok (.aload_n 0, 1) := dk_42 (dk_at dksX0_drawAll_4 7 rfl rfl)
theorem dX0_drawAll_102 : decode cX0_drawAll 102 = .ok (.iload_n 1, 1) := dk_27 (dk_at dksX0_drawAll_4 8 rfl rfl)
theorem dX0_drawAll_103 : decode cX0_drawAll 103 = .ok (.iload 9, 2) := dk_21 9 (dk_at dksX0_drawAll_4 9 rfl rfl)
theorem dX0_drawAll_105 : decode cX0_drawAll 105 = .ok (.invokevirtual 638, 3) := dk_182 2 126 (dk_at dksX0_drawAll_4 11 rfl rfl)
theorem dX0_drawAll_108 : decode cX0_drawAll 108 = .ok (.iinc 7 (-1), 3) := dk_132 7 255 (dk_at dksX0_drawAll_4 14 rfl rfl)
theorem dX0_drawAll_111 : decode cX0_drawAll 111 = .ok (.goto (-89), 3) := dk_167 255 167 (dk_at dksX0_drawAll_4 17 rfl rfl)
theorem dX0_drawAll_114 : decode cX0_drawAll 114 = .ok (.return_, 1) := dk_177 (dk_at dksX0_drawAll_4 20 rfl rfl)
abbrev cX0_pick : ByteArray := prog_1_method_92_code
def yX0_pick : MethodName := ⟨RX0, "pick", "(II)V"⟩
def dkwX0_pick_6 : List UInt8 := [180, 1, 34, 4, 96, 181, 1, 34, 177]
abbrev dktX0_pick_6 : List UInt8 := dkwX0_pick_6 ++ []
def dkwX0_pick_5 : List UInt8 := [153, 0, 7, 4, 167, 0, 4, 3, 100, 62, 132, 6, 1, 167, 255, 150, 132, 4, 1, 167, 255, 125, 42, 89]
abbrev dktX0_pick_5 : List UInt8 := dkwX0_pick_5 ++ dktX0_pick_6
def dkwX0_pick_4 : List UInt8 := [79, 42, 180, 0, 140, 42, 180, 1, 34, 42, 25, 5, 21, 6, 27, 182, 2, 93, 84, 29, 21, 7]
abbrev dktX0_pick_4 : List UInt8 := dkwX0_pick_4 ++ dktX0_pick_5
def dkwX0_pick_3 : List UInt8 := [154, 0, 43, 42, 180, 0, 134, 42, 180, 1, 34, 21, 4, 79, 42, 180, 0, 137, 42, 180, 1, 34, 21, 6]
abbrev dktX0_pick_3 : List UInt8 := dkwX0_pick_3 ++ dktX0_pick_4
def dkwX0_pick_2 : List UInt8 := [21, 6, 46, 27, 122, 4, 126, 4, 160, 0, 7, 4, 167, 0, 4, 3, 54, 7, 21, 7, 153, 0, 47, 29]
abbrev dktX0_pick_2 : List UInt8 := dkwX0_pick_2 ++ dktX0_pick_3
def dkwX0_pick_1 : List UInt8 := [21, 6, 25, 5, 180, 2, 20, 162, 0, 102, 25, 5, 180, 2, 23, 154, 0, 94, 25, 5, 180, 2, 25]
abbrev dktX0_pick_1 : List UInt8 := dkwX0_pick_1 ++ dktX0_pick_2
def dkwX0_pick_0 : List UInt8 := [28, 62, 3, 54, 4, 21, 4, 16, 6, 163, 0, 130, 42, 180, 0, 120, 21, 4, 50, 58, 5, 3, 54, 6]
abbrev dktX0_pick_0 : List UInt8 := dkwX0_pick_0 ++ dktX0_pick_1
theorem dksX0_pick_0 : cX0_pick.data.toList.drop 0 = dktX0_pick_0 := by decide +kernel
theorem dksX0_pick_1 : cX0_pick.data.toList.drop 24 = dktX0_pick_1 := dk_seg dksX0_pick_0 24 rfl rfl
theorem dksX0_pick_2 : cX0_pick.data.toList.drop 47 = dktX0_pick_2 := dk_seg dksX0_pick_1 23 rfl rfl
theorem dksX0_pick_3 : cX0_pick.data.toList.drop 71 = dktX0_pick_3 := dk_seg dksX0_pick_2 24 rfl rfl
theorem dksX0_pick_4 : cX0_pick.data.toList.drop 95 = dktX0_pick_4 := dk_seg dksX0_pick_3 24 rfl rfl
theorem dksX0_pick_5 : cX0_pick.data.toList.drop 117 = dktX0_pick_5 := dk_seg dksX0_pick_4 22 rfl rfl
theorem dksX0_pick_6 : cX0_pick.data.toList.drop 141 = dktX0_pick_6 := dk_seg dksX0_pick_5 24 rfl rfl
theorem dX0_pick_0 : decode cX0_pick 0 = .ok (.iload_n 2, 1) := dk_28 (dk_at dksX0_pick_0 0 rfl rfl)
theorem dX0_pick_1 : decode cX0_pick 1 = .ok (.istore_n 3, 1) := dk_62 (dk_at dksX0_pick_0 1 rfl rfl)
theorem dX0_pick_2 : decode cX0_pick 2 = .ok (.iconst 0, 1) := dk_3 (dk_at dksX0_pick_0 2 rfl rfl)
theorem dX0_pick_3 : decode cX0_pick 3 = .ok (.istore 4, 2) := dk_54 4 (dk_at dksX0_pick_0 3 rfl rfl)
theorem dX0_pick_5 : decode cX0_pick 5 = .ok (.iload 4, 2) := dk_21 4 (dk_at dksX0_pick_0 5 rfl rfl)
theorem dX0_pick_7 : decode cX0_pick 7 = .ok (.bipush 6, 2) := dk_16 6 (dk_at dksX0_pick_0 7 rfl rfl)
theorem dX0_pick_9 : decode cX0_pick 9 = .ok (.if_icmp .gt 130, 3) := dk_163 0 130 (dk_at dksX0_pick_0 9 rfl rfl)
theorem dX0_pick_12 : decode cX0_pick 12 = .ok (.aload_n 0, 1) := dk_42 (dk_at dksX0_pick_0 12 rfl rfl)
theorem dX0_pick_13 : decode cX0_pick 13 = .ok (.getfield 120, 3) := dk_180 0 120 (dk_at dksX0_pick_0 13 rfl rfl)
theorem dX0_pick_16 : decode cX0_pick 16 = .ok (.iload 4, 2) := dk_21 4 (dk_at dksX0_pick_0 16 rfl rfl)
theorem dX0_pick_18 : decode cX0_pick 18 = .ok (.aaload, 1) := dk_50 (dk_at dksX0_pick_0 18 rfl rfl)
theorem dX0_pick_19 : decode cX0_pick 19 = .ok (.astore 5, 2) := dk_58 5 (dk_at dksX0_pick_0 19 rfl rfl)
theorem dX0_pick_21 : decode cX0_pick 21 = .ok (.iconst 0, 1) := dk_3 (dk_at dksX0_pick_0 21 rfl rfl)
theorem dX0_pick_22 : decode cX0_pick 22 = .ok (.istore 6, 2) := dk_54 6 (dk_at dksX0_pick_0 22 rfl rfl)
theorem dX0_pick_24 : decode cX0_pick 24 = .ok (.iload 6, 2) := dk_21 6 (dk_at dksX0_pick_1 0 rfl rfl)
theorem dX0_pick_26 : decode cX0_pick 26 = .ok (.aload 5, 2) := dk_25 5 (dk_at dksX0_pick_1 2 rfl rfl)
theorem dX0_pick_28 : decode cX0_pick 28 = .ok (.getfield 532, 3) := dk_180 2 20 (dk_at dksX0_pick_1 4 rfl rfl)
theorem dX0_pick_31 : decode cX0_pick 31 = .ok (.if_icmp .ge 102, 3) := dk_162 0 102 (dk_at dksX0_pick_1 7 rfl rfl)
theorem dX0_pick_34 : decode cX0_pick 34 = .ok (.aload 5, 2) := dk_25 5 (dk_at dksX0_pick_1 10 rfl rfl)
theorem dX0_pick_36 : decode cX0_pick 36 = .ok (.getfield 535, 3) := dk_180 2 23 (dk_at dksX0_pick_1 12 rfl rfl)
theorem dX0_pick_39 : decode cX0_pick 39 = .ok (.ifCond .ne 94, 3) := dk_154 0 94 (dk_at dksX0_pick_1 15 rfl rfl)
theorem dX0_pick_42 : decode cX0_pick 42 = .ok (.aload 5, 2) := dk_25 5 (dk_at dksX0_pick_1 18 rfl rfl)
theorem dX0_pick_44 : decode cX0_pick 44 = .ok (.getfield 537, 3) := dk_180 2 25 (dk_at dksX0_pick_1 20 rfl rfl)
theorem dX0_pick_47 : decode cX0_pick 47 = .ok (.iload 6, 2) := dk_21 6 (dk_at dksX0_pick_2 0 rfl rfl)
theorem dX0_pick_49 : decode cX0_pick 49 = .ok (.iaload, 1) := dk_46 (dk_at dksX0_pick_2 2 rfl rfl)
theorem dX0_pick_50 : decode cX0_pick 50 = .ok (.iload_n 1, 1) := dk_27 (dk_at dksX0_pick_2 3 rfl rfl)
theorem dX0_pick_51 : decode cX0_pick 51 = .ok (.ishr, 1) := dk_122 (dk_at dksX0_pick_2 4 rfl rfl)
theorem dX0_pick_52 : decode cX0_pick 52 = .ok (.iconst 1, 1) := dk_4 (dk_at dksX0_pick_2 5 rfl rfl)
theorem dX0_pick_53 : decode cX0_pick 53 = .ok (.iand, 1) := dk_126 (dk_at dksX0_pick_2 6 rfl rfl)
theorem dX0_pick_54 : decode cX0_pick 54 = .ok (.iconst 1, 1) := dk_4 (dk_at dksX0_pick_2 7 rfl rfl)
theorem dX0_pick_55 : decode cX0_pick 55 = .ok (.if_icmp .ne 7, 3) := dk_160 0 7 (dk_at dksX0_pick_2 8 rfl rfl)
theorem dX0_pick_58 : decode cX0_pick 58 = .ok (.iconst 1, 1) := dk_4 (dk_at dksX0_pick_2 11 rfl rfl)
theorem dX0_pick_59 : decode cX0_pick 59 = .ok (.goto 4, 3) := dk_167 0 4 (dk_at dksX0_pick_2 12 rfl rfl)
theorem dX0_pick_62 : decode cX0_pick 62 = .ok (.iconst 0, 1) := dk_3 (dk_at dksX0_pick_2 15 rfl rfl)
theorem dX0_pick_63 : decode cX0_pick 63 = .ok (.istore 7, 2) := dk_54 7 (dk_at dksX0_pick_2 16 rfl rfl)
theorem dX0_pick_65 : decode cX0_pick 65 = .ok (.iload 7, 2) := dk_21 7 (dk_at dksX0_pick_2 18 rfl rfl)
theorem dX0_pick_67 : decode cX0_pick 67 = .ok (.ifCond .eq 47, 3) := dk_153 0 47 (dk_at dksX0_pick_2 20 rfl rfl)
theorem dX0_pick_70 : decode cX0_pick 70 = .ok (.iload_n 3, 1) := dk_29 (dk_at dksX0_pick_2 23 rfl rfl)
theorem dX0_pick_71 : decode cX0_pick 71 = .ok (.ifCond .ne 43, 3) := dk_154 0 43 (dk_at dksX0_pick_3 0 rfl rfl)
theorem dX0_pick_74 : decode cX0_pick 74 = .ok (.aload_n 0, 1) := dk_42 (dk_at dksX0_pick_3 3 rfl rfl)
theorem dX0_pick_75 : decode cX0_pick 75 = .ok (.getfield 134, 3) := dk_180 0 134 (dk_at dksX0_pick_3 4 rfl rfl)
theorem dX0_pick_78 : decode cX0_pick 78 = .ok (.aload_n 0, 1) := dk_42 (dk_at dksX0_pick_3 7 rfl rfl)
theorem dX0_pick_79 : decode cX0_pick 79 = .ok (.getfield 290, 3) := dk_180 1 34 (dk_at dksX0_pick_3 8 rfl rfl)
theorem dX0_pick_82 : decode cX0_pick 82 = .ok (.iload 4, 2) := dk_21 4 (dk_at dksX0_pick_3 11 rfl rfl)
theorem dX0_pick_84 : decode cX0_pick 84 = .ok (.iastore, 1) := dk_79 (dk_at dksX0_pick_3 13 rfl rfl)
theorem dX0_pick_85 : decode cX0_pick 85 = .ok (.aload_n 0, 1) := dk_42 (dk_at dksX0_pick_3 14 rfl rfl)
theorem dX0_pick_86 : decode cX0_pick 86 = .ok (.getfield 137, 3) := dk_180 0 137 (dk_at dksX0_pick_3 15 rfl rfl)
theorem dX0_pick_89 : decode cX0_pick 89 = .ok (.aload_n 0, 1) := dk_42 (dk_at dksX0_pick_3 18 rfl rfl)
theorem dX0_pick_90 : decode cX0_pick 90 = .ok (.getfield 290, 3) := dk_180 1 34 (dk_at dksX0_pick_3 19 rfl rfl)
theorem dX0_pick_93 : decode cX0_pick 93 = .ok (.iload 6, 2) := dk_21 6 (dk_at dksX0_pick_3 22 rfl rfl)
theorem dX0_pick_95 : decode cX0_pick 95 = .ok (.iastore, 1) := dk_79 (dk_at dksX0_pick_4 0 rfl rfl)
theorem dX0_pick_96 : decode cX0_pick 96 = .ok (.aload_n 0, 1) := dk_42 (dk_at dksX0_pick_4 1 rfl rfl)
theorem dX0_pick_97 : decode cX0_pick 97 = .ok (.getfield 140, 3) := dk_180 0 140 (dk_at dksX0_pick_4 2 rfl rfl)
theorem dX0_pick_100 : decode cX0_pick 100 = .ok (.aload_n 0, 1) := dk_42 (dk_at dksX0_pick_4 5 rfl rfl)
theorem dX0_pick_101 : decode cX0_pick 101 = .ok (.getfield 290, 3) := dk_180 1 34 (dk_at dksX0_pick_4 6 rfl rfl)
theorem dX0_pick_104 : decode cX0_pick 104 = .ok (.aload_n 0, 1) := dk_42 (dk_at dksX0_pick_4 9 rfl rfl)
theorem dX0_pick_105 : decode cX0_pick 105 = .ok (.aload 5, 2) := dk_25 5 (dk_at dksX0_pick_4 10 rfl rfl)
theorem dX0_pick_107 : decode cX0_pick 107 = .ok (.iload 6, 2) := dk_21 6 (dk_at dksX0_pick_4 12 rfl rfl)
theorem dX0_pick_109 : decode cX0_pick 109 = .ok (.iload_n 1, 1) := dk_27 (dk_at dksX0_pick_4 14 rfl rfl)
theorem dX0_pick_110 : decode cX0_pick 110 = .ok (.invokevirtual 605, 3) := dk_182 2 93 (dk_at dksX0_pick_4 15 rfl rfl)
theorem dX0_pick_113 : decode cX0_pick 113 = .ok (.bastore, 1) := dk_84 (dk_at dksX0_pick_4 18 rfl rfl)
theorem dX0_pick_114 : decode cX0_pick 114 = .ok (.iload_n 3, 1) := dk_29 (dk_at dksX0_pick_4 19 rfl rfl)
theorem dX0_pick_115 : decode cX0_pick 115 = .ok (.iload 7, 2) := dk_21 7 (dk_at dksX0_pick_4 20 rfl rfl)
theorem dX0_pick_117 : decode cX0_pick 117 = .ok (.ifCond .eq 7, 3) := dk_153 0 7 (dk_at dksX0_pick_5 0 rfl rfl)
theorem dX0_pick_120 : decode cX0_pick 120 = .ok (.iconst 1, 1) := dk_4 (dk_at dksX0_pick_5 3 rfl rfl)
theorem dX0_pick_121 : decode cX0_pick 121 = .ok (.goto 4, 3) := dk_167 0 4 (dk_at dksX0_pick_5 4 rfl rfl)
theorem dX0_pick_124 : decode cX0_pick 124 = .ok (.iconst 0, 1) := dk_3 (dk_at dksX0_pick_5 7 rfl rfl)
theorem dX0_pick_125 : decode cX0_pick 125 = .ok (.isub, 1) := dk_100 (dk_at dksX0_pick_5 8 rfl rfl)
theorem dX0_pick_126 : decode cX0_pick 126 = .ok (.istore_n 3, 1) := dk_62 (dk_at dksX0_pick_5 9 rfl rfl)
theorem dX0_pick_127 : decode cX0_pick 127 = .ok (.iinc 6 1, 3) := dk_132 6 1 (dk_at dksX0_pick_5 10 rfl rfl)
theorem dX0_pick_130 : decode cX0_pick 130 = .ok (.goto (-106), 3) := dk_167 255 150 (dk_at dksX0_pick_5 13 rfl rfl)
theorem dX0_pick_133 : decode cX0_pick 133 = .ok (.iinc 4 1, 3) := dk_132 4 1 (dk_at dksX0_pick_5 16 rfl rfl)
theorem dX0_pick_136 : decode cX0_pick 136 = .ok (.goto (-131), 3) := dk_167 255 125 (dk_at dksX0_pick_5 19 rfl rfl)
theorem dX0_pick_139 : decode cX0_pick 139 = .ok (.aload_n 0, 1) := dk_42 (dk_at dksX0_pick_5 22 rfl rfl)
theorem dX0_pick_140 : decode cX0_pick 140 = .ok (.dup, 1) := dk_89 (dk_at dksX0_pick_5 23 rfl rfl)
theorem dX0_pick_141 : decode cX0_pick 141 = .ok (.getfield 290, 3) := dk_180 1 34 (dk_at dksX0_pick_6 0 rfl rfl)
theorem dX0_pick_144 : decode cX0_pick 144 = .ok (.iconst 1, 1) := dk_4 (dk_at dksX0_pick_6 3 rfl rfl)
theorem dX0_pick_145 : decode cX0_pick 145 = .ok (.iadd, 1) := dk_96 (dk_at dksX0_pick_6 4 rfl rfl)
theorem dX0_pick_146 : decode cX0_pick 146 = .ok (.putfield 290, 3) := dk_181 1 34 (dk_at dksX0_pick_6 5 rfl rfl)
theorem dX0_pick_149 : decode cX0_pick 149 = .ok (.return_, 1) := dk_177 (dk_at dksX0_pick_6 8 rfl rfl)
abbrev cX0_isOther : ByteArray := prog_1_method_93_code
def yX0_isOther : MethodName := ⟨RX0, "isOther", "(LElectionHouse$Box;II)Z"⟩
def dkwX0_isOther_3 : List UInt8 := [167, 255, 205, 21, 5, 172]
abbrev dktX0_isOther_3 : List UInt8 := dkwX0_isOther_3 ++ []
def dkwX0_isOther_2 : List UInt8 := [43, 180, 2, 31, 28, 50, 21, 6, 51, 159, 0, 7, 4, 167, 0, 4, 3, 128, 54, 5, 132, 6, 1]
abbrev dktX0_isOther_2 : List UInt8 := dkwX0_isOther_2 ++ dktX0_isOther_3
def dkwX0_isOther_1 : List UInt8 := [42, 180, 0, 62, 29, 50, 180, 1, 61, 96, 162, 0, 40, 21, 5, 43, 180, 2, 34, 28, 50, 21, 6, 51]
abbrev dktX0_isOther_1 : List UInt8 := dkwX0_isOther_1 ++ dktX0_isOther_2
def dkwX0_isOther_0 : List UInt8 := [42, 29, 43, 180, 2, 25, 28, 46, 182, 2, 40, 54, 4, 3, 54, 5, 21, 4, 54, 6, 21, 6, 21, 4]
abbrev dktX0_isOther_0 : List UInt8 := dkwX0_isOther_0 ++ dktX0_isOther_1
theorem dksX0_isOther_0 : cX0_isOther.data.toList.drop 0 = dktX0_isOther_0 := by decide +kernel
theorem dksX0_isOther_1 : cX0_isOther.data.toList.drop 24 = dktX0_isOther_1 := dk_seg dksX0_isOther_0 24 rfl rfl
theorem dksX0_isOther_2 : cX0_isOther.data.toList.drop 48 = dktX0_isOther_2 := dk_seg dksX0_isOther_1 24 rfl rfl
theorem dksX0_isOther_3 : cX0_isOther.data.toList.drop 71 = dktX0_isOther_3 := dk_seg dksX0_isOther_2 23 rfl rfl
theorem dX0_isOther_0 : decode cX0_isOther 0 = .ok (.aload_n 0, 1) := dk_42 (dk_at dksX0_isOther_0 0 rfl rfl)
theorem dX0_isOther_1 : decode cX0_isOther 1 = .ok (.iload_n 3, 1) := dk_29 (dk_at dksX0_isOther_0 1 rfl rfl)
theorem dX0_isOther_2 : decode cX0_isOther 2 = .ok (.aload_n 1, 1) := dk_43 (dk_at dksX0_isOther_0 2 rfl rfl)
theorem dX0_isOther_3 : decode cX0_isOther 3 = .ok (.getfield 537, 3) := dk_180 2 25 (dk_at dksX0_isOther_0 3 rfl rfl)
theorem dX0_isOther_6 : decode cX0_isOther 6 = .ok (.iload_n 2, 1) := dk_28 (dk_at dksX0_isOther_0 6 rfl rfl)
theorem dX0_isOther_7 : decode cX0_isOther 7 = .ok (.iaload, 1) := dk_46 (dk_at dksX0_isOther_0 7 rfl rfl)
theorem dX0_isOther_8 : decode cX0_isOther 8 = .ok (.invokevirtual 552, 3) := dk_182 2 40 (dk_at dksX0_isOther_0 8 rfl rfl)
theorem dX0_isOther_11 : decode cX0_isOther 11 = .ok (.istore 4, 2) := dk_54 4 (dk_at dksX0_isOther_0 11 rfl rfl)
theorem dX0_isOther_13 : decode cX0_isOther 13 = .ok (.iconst 0, 1) := dk_3 (dk_at dksX0_isOther_0 13 rfl rfl)
theorem dX0_isOther_14 : decode cX0_isOther 14 = .ok (.istore 5, 2) := dk_54 5 (dk_at dksX0_isOther_0 14 rfl rfl)
theorem dX0_isOther_16 : decode cX0_isOther 16 = .ok (.iload 4, 2) := dk_21 4 (dk_at dksX0_isOther_0 16 rfl rfl)
theorem dX0_isOther_18 : decode cX0_isOther 18 = .ok (.istore 6, 2) := dk_54 6 (dk_at dksX0_isOther_0 18 rfl rfl)
theorem dX0_isOther_20 : decode cX0_isOther 20 = .ok (.iload 6, 2) := dk_21 6 (dk_at dksX0_isOther_0 20 rfl rfl)
theorem dX0_isOther_22 : decode cX0_isOther 22 = .ok (.iload 4, 2) := dk_21 4 (dk_at dksX0_isOther_0 22 rfl rfl)
theorem dX0_isOther_24 : decode cX0_isOther 24 = .ok (.aload_n 0, 1) := dk_42 (dk_at dksX0_isOther_1 0 rfl rfl)
theorem dX0_isOther_25 : decode cX0_isOther 25 = .ok (.getfield 62, 3) := dk_180 0 62 (dk_at dksX0_isOther_1 1 rfl rfl)
theorem dX0_isOther_28 : decode cX0_isOther 28 = .ok (.iload_n 3, 1) := dk_29 (dk_at dksX0_isOther_1 4 rfl rfl)
theorem dX0_isOther_29 : decode cX0_isOther 29 = .ok (.aaload, 1) := dk_50 (dk_at dksX0_isOther_1 5 rfl rfl)
theorem dX0_isOther_30 : decode cX0_isOther 30 = .ok (.getfield 317, 3) := dk_180 1 61 (dk_at dksX0_isOther_1 6 rfl rfl)
theorem dX0_isOther_33 : decode cX0_isOther 33 = .ok (.iadd, 1) := dk_96 (dk_at dksX0_isOther_1 9 rfl rfl)
theorem dX0_isOther_34 : decode cX0_isOther 34 = .ok (.if_icmp .ge 40, 3) := dk_162 0 40 (dk_at dksX0_isOther_1 10 rfl rfl)
theorem dX0_isOther_37 : decode cX0_isOther 37 = .ok (.iload 5, 2) := dk_21 5 (dk_at dksX0_isOther_1 13 rfl rfl)
theorem dX0_isOther_39 : decode cX0_isOther 39 = .ok (.aload_n 1, 1) := dk_43 (dk_at dksX0_isOther_1 15 rfl rfl)
theorem dX0_isOther_40 : decode cX0_isOther 40 = .ok (.getfield 546, 3) := dk_180 2 34 (dk_at dksX0_isOther_1 16 rfl rfl)
theorem dX0_isOther_43 : decode cX0_isOther 43 = .ok (.iload_n 2, 1) := dk_28 (dk_at dksX0_isOther_1 19 rfl rfl)
theorem dX0_isOther_44 : decode cX0_isOther 44 = .ok (.aaload, 1) := dk_50 (dk_at dksX0_isOther_1 20 rfl rfl)
theorem dX0_isOther_45 : decode cX0_isOther 45 = .ok (.iload 6, 2) := dk_21 6 (dk_at dksX0_isOther_1 21 rfl rfl)
theorem dX0_isOther_47 : decode cX0_isOther 47 = .ok (.baload, 1) := dk_51 (dk_at dksX0_isOther_1 23 rfl rfl)
theorem dX0_isOther_48 : decode cX0_isOther 48 = .ok (.aload_n 1, 1) := dk_43 (dk_at dksX0_isOther_2 0 rfl rfl)
theorem dX0_isOther_49 : decode cX0_isOther 49 = .ok (.getfield 543, 3) := dk_180 2 31 (dk_at dksX0_isOther_2 1 rfl rfl)
theorem dX0_isOther_52 : decode cX0_isOther 52 = .ok (.iload_n 2, 1) := dk_28 (dk_at dksX0_isOther_2 4 rfl rfl)
theorem dX0_isOther_53 : decode cX0_isOther 53 = .ok (.aaload, 1) := dk_50 (dk_at dksX0_isOther_2 5 rfl rfl)
theorem dX0_isOther_54 : decode cX0_isOther 54 = .ok (.iload 6, 2) := dk_21 6 (dk_at dksX0_isOther_2 6 rfl rfl)
theorem dX0_isOther_56 : decode cX0_isOther 56 = .ok (.baload, 1) := dk_51 (dk_at dksX0_isOther_2 8 rfl rfl)
theorem dX0_isOther_57 : decode cX0_isOther 57 = .ok (.if_icmp .eq 7, 3) := dk_159 0 7 (dk_at dksX0_isOther_2 9 rfl rfl)
theorem dX0_isOther_60 : decode cX0_isOther 60 = .ok (.iconst 1, 1) := dk_4 (dk_at dksX0_isOther_2 12 rfl rfl)
theorem dX0_isOther_61 : decode cX0_isOther 61 = .ok (.goto 4, 3) := dk_167 0 4 (dk_at dksX0_isOther_2 13 rfl rfl)
theorem dX0_isOther_64 : decode cX0_isOther 64 = .ok (.iconst 0, 1) := dk_3 (dk_at dksX0_isOther_2 16 rfl rfl)
theorem dX0_isOther_65 : decode cX0_isOther 65 = .ok (.ior, 1) := dk_128 (dk_at dksX0_isOther_2 17 rfl rfl)
theorem dX0_isOther_66 : decode cX0_isOther 66 = .ok (.istore 5, 2) := dk_54 5 (dk_at dksX0_isOther_2 18 rfl rfl)
theorem dX0_isOther_68 : decode cX0_isOther 68 = .ok (.iinc 6 1, 3) := dk_132 6 1 (dk_at dksX0_isOther_2 20 rfl rfl)
theorem dX0_isOther_71 : decode cX0_isOther 71 = .ok (.goto (-51), 3) := dk_167 255 205 (dk_at dksX0_isOther_3 0 rfl rfl)
theorem dX0_isOther_74 : decode cX0_isOther 74 = .ok (.iload 5, 2) := dk_21 5 (dk_at dksX0_isOther_3 3 rfl rfl)
theorem dX0_isOther_76 : decode cX0_isOther 76 = .ok (.ireturn, 1) := dk_172 (dk_at dksX0_isOther_3 5 rfl rfl)
abbrev cX0_weigh : ByteArray := prog_1_method_96_code
def yX0_weigh : MethodName := ⟨RX0, "weigh", "(II)V"⟩
def dkwX0_weigh_6 : List UInt8 := [167, 255, 234, 42, 33, 22, 7, 109, 181, 2, 135, 42, 22, 5, 22, 7, 109, 181, 2, 138, 177]
abbrev dktX0_weigh_6 : List UInt8 := dkwX0_weigh_6 ++ []
def dkwX0_weigh_5 : List UInt8 := [22, 9, 9, 148, 153, 0, 21, 22, 7, 22, 9, 113, 55, 11, 22, 9, 55, 7, 22, 11, 55, 9]
abbrev dktX0_weigh_5 : List UInt8 := dkwX0_weigh_5 ++ dktX0_weigh_6
def dkwX0_weigh_4 : List UInt8 := [167, 255, 167, 42, 180, 0, 148, 42, 180, 2, 115, 50, 27, 47, 55, 5, 33, 55, 7, 22, 5, 55, 9]
abbrev dktX0_weigh_4 : List UInt8 := dkwX0_weigh_4 ++ dktX0_weigh_5
def dkwX0_weigh_3 : List UInt8 := [180, 2, 115, 42, 180, 2, 129, 100, 50, 27, 21, 5, 100, 47, 105, 167, 0, 4, 9, 97, 66, 132, 5, 1]
abbrev dktX0_weigh_3 : List UInt8 := dkwX0_weigh_3 ++ dktX0_weigh_4
def dkwX0_weigh_2 : List UInt8 := [21, 6, 153, 0, 38, 42, 180, 0, 148, 42, 180, 2, 129, 50, 21, 5, 47, 42, 180, 0, 148, 42]
abbrev dktX0_weigh_2 : List UInt8 := dkwX0_weigh_2 ++ dktX0_weigh_3
def dkwX0_weigh_1 : List UInt8 := [27, 21, 5, 100, 42, 180, 2, 115, 42, 180, 2, 129, 100, 163, 0, 7, 4, 167, 0, 4, 3, 54, 6, 33]
abbrev dktX0_weigh_1 : List UInt8 := dkwX0_weigh_1 ++ dktX0_weigh_2
def dkwX0_weigh_0 : List UInt8 := [9, 66, 3, 54, 5, 21, 5, 28, 42, 180, 2, 129, 184, 2, 132, 163, 0, 82, 21, 5, 27, 163, 0, 23]
abbrev dktX0_weigh_0 : List UInt8 := dkwX0_weigh_0 ++ dktX0_weigh_1
theorem dksX0_weigh_0 : cX0_weigh.data.toList.drop 0 = dktX0_weigh_0 := by decide +kernel
theorem dksX0_weigh_1 : cX0_weigh.data.toList.drop 24 = dktX0_weigh_1 := dk_seg dksX0_weigh_0 24 rfl rfl
theorem dksX0_weigh_2 : cX0_weigh.data.toList.drop 48 = dktX0_weigh_2 := dk_seg dksX0_weigh_1 24 rfl rfl
theorem dksX0_weigh_3 : cX0_weigh.data.toList.drop 70 = dktX0_weigh_3 := dk_seg dksX0_weigh_2 22 rfl rfl
theorem dksX0_weigh_4 : cX0_weigh.data.toList.drop 94 = dktX0_weigh_4 := dk_seg dksX0_weigh_3 24 rfl rfl
theorem dksX0_weigh_5 : cX0_weigh.data.toList.drop 117 = dktX0_weigh_5 := dk_seg dksX0_weigh_4 23 rfl rfl
theorem dksX0_weigh_6 : cX0_weigh.data.toList.drop 139 = dktX0_weigh_6 := dk_seg dksX0_weigh_5 22 rfl rfl
theorem dX0_weigh_0 : decode cX0_weigh 0 = .ok (.lconst 0, 1) := dk_9 (dk_at dksX0_weigh_0 0 rfl rfl)
theorem dX0_weigh_1 : decode cX0_weigh 1 = .ok (.lstore_n 3, 1) := dk_66 (dk_at dksX0_weigh_0 1 rfl rfl)
theorem dX0_weigh_2 : decode cX0_weigh 2 = .ok (.iconst 0, 1) := dk_3 (dk_at dksX0_weigh_0 2 rfl rfl)
theorem dX0_weigh_3 : decode cX0_weigh 3 = .ok (.istore 5, 2) := dk_54 5 (dk_at dksX0_weigh_0 3 rfl rfl)
theorem dX0_weigh_5 : decode cX0_weigh 5 = .ok (.iload 5, 2) := dk_21 5 (dk_at dksX0_weigh_0 5 rfl rfl)
theorem dX0_weigh_7 : decode cX0_weigh 7 = .ok (.iload_n 2, 1) := dk_28 (dk_at dksX0_weigh_0 7 rfl rfl)
theorem dX0_weigh_8 : decode cX0_weigh 8 = .ok (.aload_n 0, 1) := dk_42 (dk_at dksX0_weigh_0 8 rfl rfl)
theorem dX0_weigh_9 : decode cX0_weigh 9 = .ok (.getfield 641, 3) := dk_180 2 129 (dk_at dksX0_weigh_0 9 rfl rfl)
theorem dX0_weigh_12 : decode cX0_weigh 12 = .ok (.invokestatic 644, 3) := dk_184 2 132 (dk_at dksX0_weigh_0 12 rfl rfl)
theorem dX0_weigh_15 : decode cX0_weigh 15 = .ok (.if_icmp .gt 82, 3) := dk_163 0 82 (dk_at dksX0_weigh_0 15 rfl rfl)
theorem dX0_weigh_18 : decode cX0_weigh 18 = .ok (.iload 5, 2) := dk_21 5 (dk_at dksX0_weigh_0 18 rfl rfl)
theorem dX0_weigh_20 : decode cX0_weigh 20 = .ok (.iload_n 1, 1) := dk_27 (dk_at dksX0_weigh_0 20 rfl rfl)
theorem dX0_weigh_21 : decode cX0_weigh 21 = .ok (.if_icmp .gt 23, 3) := dk_163 0 23 (dk_at dksX0_weigh_0 21 rfl rfl)
theorem dX0_weigh_24 : decode cX0_weigh 24 = .ok (.iload_n 1, 1) := dk_27 (dk_at dksX0_weigh_1 0 rfl rfl)
theorem dX0_weigh_25 : decode cX0_weigh 25 = .ok (.iload 5, 2) := dk_21 5 (dk_at dksX0_weigh_1 1 rfl rfl)
theorem dX0_weigh_27 : decode cX0_weigh 27 = .ok (.isub, 1) := dk_100 (dk_at dksX0_weigh_1 3 rfl rfl)
theorem dX0_weigh_28 : decode cX0_weigh 28 = .ok (.aload_n 0, 1) := dk_42 (dk_at dksX0_weigh_1 4 rfl rfl)
theorem dX0_weigh_29 : decode cX0_weigh 29 = .ok (.getfield 627, 3) := dk_180 2 115 (dk_at dksX0_weigh_1 5 rfl rfl)
theorem dX0_weigh_32 : decode cX0_weigh 32 = .ok (.aload_n 0, 1) := dk_42 (dk_at dksX0_weigh_1 8 rfl rfl)
theorem dX0_weigh_33 : decode cX0_weigh 33 = .ok (.getfield 641, 3) := dk_180 2 129 (dk_at dksX0_weigh_1 9 rfl rfl)
theorem dX0_weigh_36 : decode cX0_weigh 36 = .ok (.isub, 1) := dk_100 (dk_at dksX0_weigh_1 12 rfl rfl)
theorem dX0_weigh_37 : decode cX0_weigh 37 = .ok (.if_icmp .gt 7, 3) := dk_163 0 7 (dk_at dksX0_weigh_1 13 rfl rfl)
theorem dX0_weigh_40 : decode cX0_weigh 40 = .ok (.iconst 1, 1) := dk_4 (dk_at dksX0_weigh_1 16 rfl rfl)
theorem dX0_weigh_41 : decode cX0_weigh 41 = .ok (.goto 4, 3) := dk_167 0 4 (dk_at dksX0_weigh_1 17 rfl rfl)
theorem dX0_weigh_44 : decode cX0_weigh 44 = .ok (.iconst 0, 1) := dk_3 (dk_at dksX0_weigh_1 20 rfl rfl)
theorem dX0_weigh_45 : decode cX0_weigh 45 = .ok (.istore 6, 2) := dk_54 6 (dk_at dksX0_weigh_1 21 rfl rfl)
theorem dX0_weigh_47 : decode cX0_weigh 47 = .ok (.lload_n 3, 1) := dk_33 (dk_at dksX0_weigh_1 23 rfl rfl)
theorem dX0_weigh_48 : decode cX0_weigh 48 = .ok (.iload 6, 2) := dk_21 6 (dk_at dksX0_weigh_2 0 rfl rfl)
theorem dX0_weigh_50 : decode cX0_weigh 50 = .ok (.ifCond .eq 38, 3) := dk_153 0 38 (dk_at dksX0_weigh_2 2 rfl rfl)
theorem dX0_weigh_53 : decode cX0_weigh 53 = .ok (.aload_n 0, 1) := dk_42 (dk_at dksX0_weigh_2 5 rfl rfl)
theorem dX0_weigh_54 : decode cX0_weigh 54 = .ok (.getfield 148, 3) := dk_180 0 148 (dk_at dksX0_weigh_2 6 rfl rfl)
theorem dX0_weigh_57 : decode cX0_weigh 57 = .ok (.aload_n 0, 1) := dk_42 (dk_at dksX0_weigh_2 9 rfl rfl)
theorem dX0_weigh_58 : decode cX0_weigh 58 = .ok (.getfield 641, 3) := dk_180 2 129 (dk_at dksX0_weigh_2 10 rfl rfl)
theorem dX0_weigh_61 : decode cX0_weigh 61 = .ok (.aaload, 1) := dk_50 (dk_at dksX0_weigh_2 13 rfl rfl)
theorem dX0_weigh_62 : decode cX0_weigh 62 = .ok (.iload 5, 2) := dk_21 5 (dk_at dksX0_weigh_2 14 rfl rfl)
theorem dX0_weigh_64 : decode cX0_weigh 64 = .ok (.laload, 1) := dk_47 (dk_at dksX0_weigh_2 16 rfl rfl)
theorem dX0_weigh_65 : decode cX0_weigh 65 = .ok (.aload_n 0, 1) := dk_42 (dk_at dksX0_weigh_2 17 rfl rfl)
theorem dX0_weigh_66 : decode cX0_weigh 66 = .ok (.getfield 148, 3) := dk_180 0 148 (dk_at dksX0_weigh_2 18 rfl rfl)
theorem dX0_weigh_69 : decode cX0_weigh 69 = .ok (.aload_n 0, 1) := dk_42 (dk_at dksX0_weigh_2 21 rfl rfl)
theorem dX0_weigh_70 : decode cX0_weigh 70 = .ok (.getfield 627, 3) := dk_180 2 115 (dk_at dksX0_weigh_3 0 rfl rfl)
theorem dX0_weigh_73 : decode cX0_weigh 73 = .ok (.aload_n 0, 1) := dk_42 (dk_at dksX0_weigh_3 3 rfl rfl)
theorem dX0_weigh_74 : decode cX0_weigh 74 = .ok (.getfield 641, 3) := dk_180 2 129 (dk_at dksX0_weigh_3 4 rfl rfl)
theorem dX0_weigh_77 : decode cX0_weigh 77 = .ok (.isub, 1) := dk_100 (dk_at dksX0_weigh_3 7 rfl rfl)
theorem dX0_weigh_78 : decode cX0_weigh 78 = .ok (.aaload, 1) := dk_50 (dk_at dksX0_weigh_3 8 rfl rfl)
theorem dX0_weigh_79 : decode cX0_weigh 79 = .ok (.iload_n 1, 1) := dk_27 (dk_at dksX0_weigh_3 9 rfl rfl)
theorem dX0_weigh_80 : decode cX0_weigh 80 = .ok (.iload 5, 2) := dk_21 5 (dk_at dksX0_weigh_3 10 rfl rfl)
theorem dX0_weigh_82 : decode cX0_weigh 82 = .ok (.isub, 1) := dk_100 (dk_at dksX0_weigh_3 12 rfl rfl)
theorem dX0_weigh_83 : decode cX0_weigh 83 = .ok (.laload, 1) := dk_47 (dk_at dksX0_weigh_3 13 rfl rfl)
theorem dX0_weigh_84 : decode cX0_weigh 84 = .ok (.lmul, 1) := dk_105 (dk_at dksX0_weigh_3 14 rfl rfl)
theorem dX0_weigh_85 : decode cX0_weigh 85 = .ok (.goto 4, 3) := dk_167 0 4 (dk_at dksX0_weigh_3 15 rfl rfl)
theorem dX0_weigh_88 : decode cX0_weigh 88 = .ok (.lconst 0, 1) := dk_9 (dk_at dksX0_weigh_3 18 rfl rfl)
theorem dX0_weigh_89 : decode cX0_weigh 89 = .ok (.ladd, 1) := dk_97 (dk_at dksX0_weigh_3 19 rfl rfl)
theorem dX0_weigh_90 : decode cX0_weigh 90 = .ok (.lstore_n 3, 1) := dk_66 (dk_at dksX0_weigh_3 20 rfl rfl)
theorem dX0_weigh_91 : decode cX0_weigh 91 = .ok (.iinc 5 1, 3) := dk_132 5 1 (dk_at dksX0_weigh_3 21 rfl rfl)
theorem dX0_weigh_94 : decode cX0_weigh 94 = .ok (.goto (-89), 3) := dk_167 255 167 (dk_at dksX0_weigh_4 0 rfl rfl)
theorem dX0_weigh_97 : decode cX0_weigh 97 = .ok (.aload_n 0, 1) := dk_42 (dk_at dksX0_weigh_4 3 rfl rfl)
theorem dX0_weigh_98 : decode cX0_weigh 98 = .ok (.getfield 148, 3) := dk_180 0 148 (dk_at dksX0_weigh_4 4 rfl rfl)
theorem dX0_weigh_101 : decode cX0_weigh 101 = .ok (.aload_n 0, 1) := dk_42 (dk_at dksX0_weigh_4 7 rfl rfl)
theorem dX0_weigh_102 : decode cX0_weigh 102 = .ok (.getfield 627, 3) := dk_180 2 115 (dk_at dksX0_weigh_4 8 rfl rfl)
theorem dX0_weigh_105 : decode cX0_weigh 105 = .ok (.aaload, 1) := dk_50 (dk_at dksX0_weigh_4 11 rfl rfl)
theorem dX0_weigh_106 : decode cX0_weigh 106 = .ok (.iload_n 1, 1) := dk_27 (dk_at dksX0_weigh_4 12 rfl rfl)
theorem dX0_weigh_107 : decode cX0_weigh 107 = .ok (.laload, 1) := dk_47 (dk_at dksX0_weigh_4 13 rfl rfl)
theorem dX0_weigh_108 : decode cX0_weigh 108 = .ok (.lstore 5, 2) := dk_55 5 (dk_at dksX0_weigh_4 14 rfl rfl)
theorem dX0_weigh_110 : decode cX0_weigh 110 = .ok (.lload_n 3, 1) := dk_33 (dk_at dksX0_weigh_4 16 rfl rfl)
theorem dX0_weigh_111 : decode cX0_weigh 111 = .ok (.lstore 7, 2) := dk_55 7 (dk_at dksX0_weigh_4 17 rfl rfl)
theorem dX0_weigh_113 : decode cX0_weigh 113 = .ok (.lload 5, 2) := dk_22 5 (dk_at dksX0_weigh_4 19 rfl rfl)
theorem dX0_weigh_115 : decode cX0_weigh 115 = .ok (.lstore 9, 2) := dk_55 9 (dk_at dksX0_weigh_4 21 rfl rfl)
theorem dX0_weigh_117 : decode cX0_weigh 117 = .ok (.lload 9, 2) := dk_22 9 (dk_at dksX0_weigh_5 0 rfl rfl)
theorem dX0_weigh_119 : decode cX0_weigh 119 = .ok (.lconst 0, 1) := dk_9 (dk_at dksX0_weigh_5 2 rfl rfl)
theorem dX0_weigh_120 : decode cX0_weigh 120 = .ok (.lcmp, 1) := dk_148 (dk_at dksX0_weigh_5 3 rfl rfl)
theorem dX0_weigh_121 : decode cX0_weigh 121 = .ok (.ifCond .eq 21, 3) := dk_153 0 21 (dk_at dksX0_weigh_5 4 rfl rfl)
theorem dX0_weigh_124 : decode cX0_weigh 124 = .ok (.lload 7, 2) := dk_22 7 (dk_at dksX0_weigh_5 7 rfl rfl)
theorem dX0_weigh_126 : decode cX0_weigh 126 = .ok (.lload 9, 2) := dk_22 9 (dk_at dksX0_weigh_5 9 rfl rfl)
theorem dX0_weigh_128 : decode cX0_weigh 128 = .ok (.lrem, 1) := dk_113 (dk_at dksX0_weigh_5 11 rfl rfl)
theorem dX0_weigh_129 : decode cX0_weigh 129 = .ok (.lstore 11, 2) := dk_55 11 (dk_at dksX0_weigh_5 12 rfl rfl)
theorem dX0_weigh_131 : decode cX0_weigh 131 = .ok (.lload 9, 2) := dk_22 9 (dk_at dksX0_weigh_5 14 rfl rfl)
theorem dX0_weigh_133 : decode cX0_weigh 133 = .ok (.lstore 7, 2) := dk_55 7 (dk_at dksX0_weigh_5 16 rfl rfl)
theorem dX0_weigh_135 : decode cX0_weigh 135 = .ok (.lload 11, 2) := dk_22 11 (dk_at dksX0_weigh_5 18 rfl rfl)
theorem dX0_weigh_137 : decode cX0_weigh 137 = .ok (.lstore 9, 2) := dk_55 9 (dk_at dksX0_weigh_5 20 rfl rfl)
theorem dX0_weigh_139 : decode cX0_weigh 139 = .ok (.goto (-22), 3) := dk_167 255 234 (dk_at dksX0_weigh_6 0 rfl rfl)
theorem dX0_weigh_142 : decode cX0_weigh 142 = .ok (.aload_n 0, 1) := dk_42 (dk_at dksX0_weigh_6 3 rfl rfl)
theorem dX0_weigh_143 : decode cX0_weigh 143 = .ok (.lload_n 3, 1) := dk_33 (dk_at dksX0_weigh_6 4 rfl rfl)
theorem dX0_weigh_144 : decode cX0_weigh 144 = .ok (.lload 7, 2) := dk_22 7 (dk_at dksX0_weigh_6 5 rfl rfl)
theorem dX0_weigh_146 : decode cX0_weigh 146 = .ok (.ldiv, 1) := dk_109 (dk_at dksX0_weigh_6 7 rfl rfl)
theorem dX0_weigh_147 : decode cX0_weigh 147 = .ok (.putfield 647, 3) := dk_181 2 135 (dk_at dksX0_weigh_6 8 rfl rfl)
theorem dX0_weigh_150 : decode cX0_weigh 150 = .ok (.aload_n 0, 1) := dk_42 (dk_at dksX0_weigh_6 11 rfl rfl)
theorem dX0_weigh_151 : decode cX0_weigh 151 = .ok (.lload 5, 2) := dk_22 5 (dk_at dksX0_weigh_6 12 rfl rfl)
theorem dX0_weigh_153 : decode cX0_weigh 153 = .ok (.lload 7, 2) := dk_22 7 (dk_at dksX0_weigh_6 14 rfl rfl)
theorem dX0_weigh_155 : decode cX0_weigh 155 = .ok (.ldiv, 1) := dk_109 (dk_at dksX0_weigh_6 16 rfl rfl)
theorem dX0_weigh_156 : decode cX0_weigh 156 = .ok (.putfield 650, 3) := dk_181 2 138 (dk_at dksX0_weigh_6 17 rfl rfl)
theorem dX0_weigh_159 : decode cX0_weigh 159 = .ok (.return_, 1) := dk_177 (dk_at dksX0_weigh_6 20 rfl rfl)
abbrev cX0_drawn : ByteArray := prog_1_method_98_code
def yX0_drawn : MethodName := ⟨RX0, "drawn", "(II)I"⟩
def dkwX0_drawn_2 : List UInt8 := [42, 180, 0, 140, 27, 51, 153, 0, 7, 4, 167, 0, 9, 3, 167, 0, 5, 16, 254, 172]
abbrev dktX0_drawn_2 : List UInt8 := dkwX0_drawn_2 ++ []
def dkwX0_drawn_1 : List UInt8 := [27, 46, 167, 0, 41, 28, 4, 160, 0, 12, 42, 180, 0, 137, 27, 46, 167, 0, 27, 28, 5, 160, 0, 20]
abbrev dktX0_drawn_1 : List UInt8 := dkwX0_drawn_1 ++ dktX0_drawn_2
def dkwX0_drawn_0 : List UInt8 := [27, 3, 42, 180, 1, 34, 4, 100, 184, 0, 163, 154, 0, 5, 2, 172, 28, 154, 0, 12, 42, 180, 0, 134]
abbrev dktX0_drawn_0 : List UInt8 := dkwX0_drawn_0 ++ dktX0_drawn_1
theorem dksX0_drawn_0 : cX0_drawn.data.toList.drop 0 = dktX0_drawn_0 := by decide +kernel
theorem dksX0_drawn_1 : cX0_drawn.data.toList.drop 24 = dktX0_drawn_1 := dk_seg dksX0_drawn_0 24 rfl rfl
theorem dksX0_drawn_2 : cX0_drawn.data.toList.drop 48 = dktX0_drawn_2 := dk_seg dksX0_drawn_1 24 rfl rfl
theorem dX0_drawn_0 : decode cX0_drawn 0 = .ok (.iload_n 1, 1) := dk_27 (dk_at dksX0_drawn_0 0 rfl rfl)
theorem dX0_drawn_1 : decode cX0_drawn 1 = .ok (.iconst 0, 1) := dk_3 (dk_at dksX0_drawn_0 1 rfl rfl)
theorem dX0_drawn_2 : decode cX0_drawn 2 = .ok (.aload_n 0, 1) := dk_42 (dk_at dksX0_drawn_0 2 rfl rfl)
theorem dX0_drawn_3 : decode cX0_drawn 3 = .ok (.getfield 290, 3) := dk_180 1 34 (dk_at dksX0_drawn_0 3 rfl rfl)
theorem dX0_drawn_6 : decode cX0_drawn 6 = .ok (.iconst 1, 1) := dk_4 (dk_at dksX0_drawn_0 6 rfl rfl)
theorem dX0_drawn_7 : decode cX0_drawn 7 = .ok (.isub, 1) := dk_100 (dk_at dksX0_drawn_0 7 rfl rfl)
theorem dX0_drawn_8 : decode cX0_drawn 8 = .ok (.invokestatic 163, 3) := dk_184 0 163 (dk_at dksX0_drawn_0 8 rfl rfl)
theorem dX0_drawn_11 : decode cX0_drawn 11 = .ok (.ifCond .ne 5, 3) := dk_154 0 5 (dk_at dksX0_drawn_0 11 rfl rfl)
theorem dX0_drawn_14 : decode cX0_drawn 14 = .ok (.iconst (-1), 1) := dk_2 (dk_at dksX0_drawn_0 14 rfl rfl)
theorem dX0_drawn_15 : decode cX0_drawn 15 = .ok (.ireturn, 1) := dk_172 (dk_at dksX0_drawn_0 15 rfl rfl)
theorem dX0_drawn_16 : decode cX0_drawn 16 = .ok (.iload_n 2, 1) := dk_28 (dk_at dksX0_drawn_0 16 rfl rfl)
theorem dX0_drawn_17 : decode cX0_drawn 17 = .ok (.ifCond .ne 12, 3) := dk_154 0 12 (dk_at dksX0_drawn_0 17 rfl rfl)
theorem dX0_drawn_20 : decode cX0_drawn 20 = .ok (.aload_n 0, 1) := dk_42 (dk_at dksX0_drawn_0 20 rfl rfl)
theorem dX0_drawn_21 : decode cX0_drawn 21 = .ok (.getfield 134, 3) := dk_180 0 134 (dk_at dksX0_drawn_0 21 rfl rfl)
theorem dX0_drawn_24 : decode cX0_drawn 24 = .ok (.iload_n 1, 1) := dk_27 (dk_at dksX0_drawn_1 0 rfl rfl)
theorem dX0_drawn_25 : decode cX0_drawn 25 = .ok (.iaload, 1) := dk_46 (dk_at dksX0_drawn_1 1 rfl rfl)
theorem dX0_drawn_26 : decode cX0_drawn 26 = .ok (.goto 41, 3) := dk_167 0 41 (dk_at dksX0_drawn_1 2 rfl rfl)
theorem dX0_drawn_29 : decode cX0_drawn 29 = .ok (.iload_n 2, 1) := dk_28 (dk_at dksX0_drawn_1 5 rfl rfl)
theorem dX0_drawn_30 : decode cX0_drawn 30 = .ok (.iconst 1, 1) := dk_4 (dk_at dksX0_drawn_1 6 rfl rfl)
theorem dX0_drawn_31 : decode cX0_drawn 31 = .ok (.if_icmp .ne 12, 3) := dk_160 0 12 (dk_at dksX0_drawn_1 7 rfl rfl)
theorem dX0_drawn_34 : decode cX0_drawn 34 = .ok (.aload_n 0, 1) := dk_42 (dk_at dksX0_drawn_1 10 rfl rfl)
theorem dX0_drawn_35 : decode cX0_drawn 35 = .ok (.getfield 137, 3) := dk_180 0 137 (dk_at dksX0_drawn_1 11 rfl rfl)
theorem dX0_drawn_38 : decode cX0_drawn 38 = .ok (.iload_n 1, 1) := dk_27 (dk_at dksX0_drawn_1 14 rfl rfl)
theorem dX0_drawn_39 : decode cX0_drawn 39 = .ok (.iaload, 1) := dk_46 (dk_at dksX0_drawn_1 15 rfl rfl)
theorem dX0_drawn_40 : decode cX0_drawn 40 = .ok (.goto 27, 3) := dk_167 0 27 (dk_at dksX0_drawn_1 16 rfl rfl)
theorem dX0_drawn_43 : decode cX0_drawn 43 = .ok (.iload_n 2, 1) := dk_28 (dk_at dksX0_drawn_1 19 rfl rfl)
theorem dX0_drawn_44 : decode cX0_drawn 44 = .ok (.iconst 2, 1) := dk_5 (dk_at dksX0_drawn_1 20 rfl rfl)
theorem dX0_drawn_45 : decode cX0_drawn 45 = .ok (.if_icmp .ne 20, 3) := dk_160 0 20 (dk_at dksX0_drawn_1 21 rfl rfl)
theorem dX0_drawn_48 : decode cX0_drawn 48 = .ok (.aload_n 0, 1) := dk_42 (dk_at dksX0_drawn_2 0 rfl rfl)
theorem dX0_drawn_49 : decode cX0_drawn 49 = .ok (.getfield 140, 3) := dk_180 0 140 (dk_at dksX0_drawn_2 1 rfl rfl)
theorem dX0_drawn_52 : decode cX0_drawn 52 = .ok (.iload_n 1, 1) := dk_27 (dk_at dksX0_drawn_2 4 rfl rfl)
theorem dX0_drawn_53 : decode cX0_drawn 53 = .ok (.baload, 1) := dk_51 (dk_at dksX0_drawn_2 5 rfl rfl)
theorem dX0_drawn_54 : decode cX0_drawn 54 = .ok (.ifCond .eq 7, 3) := dk_153 0 7 (dk_at dksX0_drawn_2 6 rfl rfl)
theorem dX0_drawn_57 : decode cX0_drawn 57 = .ok (.iconst 1, 1) := dk_4 (dk_at dksX0_drawn_2 9 rfl rfl)
theorem dX0_drawn_58 : decode cX0_drawn 58 = .ok (.goto 9, 3) := dk_167 0 9 (dk_at dksX0_drawn_2 10 rfl rfl)
theorem dX0_drawn_61 : decode cX0_drawn 61 = .ok (.iconst 0, 1) := dk_3 (dk_at dksX0_drawn_2 13 rfl rfl)
theorem dX0_drawn_62 : decode cX0_drawn 62 = .ok (.goto 5, 3) := dk_167 0 5 (dk_at dksX0_drawn_2 14 rfl rfl)
theorem dX0_drawn_65 : decode cX0_drawn 65 = .ok (.bipush (-2), 2) := dk_16 254 (dk_at dksX0_drawn_2 17 rfl rfl)
theorem dX0_drawn_67 : decode cX0_drawn 67 = .ok (.ireturn, 1) := dk_172 (dk_at dksX0_drawn_2 19 rfl rfl)
abbrev cX0_risk : ByteArray := prog_1_method_99_code
def yX0_risk : MethodName := ⟨RX0, "risk", "(I)J"⟩
def dkwX0_risk_1 : List UInt8 := [27, 4, 160, 0, 10, 42, 180, 2, 138, 167, 0, 6, 20, 2, 157, 173]
abbrev dktX0_risk_1 : List UInt8 := dkwX0_risk_1 ++ []
def dkwX0_risk_0 : List UInt8 := [42, 180, 1, 34, 154, 0, 9, 20, 2, 85, 167, 0, 29, 27, 154, 0, 10, 42, 180, 2, 135, 167, 0, 18]
abbrev dktX0_risk_0 : List UInt8 := dkwX0_risk_0 ++ dktX0_risk_1
theorem dksX0_risk_0 : cX0_risk.data.toList.drop 0 = dktX0_risk_0 := by decide +kernel
theorem dksX0_risk_1 : cX0_risk.data.toList.drop 24 = dktX0_risk_1 := dk_seg dksX0_risk_0 24 rfl rfl
theorem dX0_risk_0 : decode cX0_risk 0 = .ok (.aload_n 0, 1) := dk_42 (dk_at dksX0_risk_0 0 rfl rfl)
theorem dX0_risk_1 : decode cX0_risk 1 = .ok (.getfield 290, 3) := dk_180 1 34 (dk_at dksX0_risk_0 1 rfl rfl)
theorem dX0_risk_4 : decode cX0_risk 4 = .ok (.ifCond .ne 9, 3) := dk_154 0 9 (dk_at dksX0_risk_0 4 rfl rfl)
theorem dX0_risk_7 : decode cX0_risk 7 = .ok (.ldc2_w 597, 3) := dk_20 2 85 (dk_at dksX0_risk_0 7 rfl rfl)
theorem dX0_risk_10 : decode cX0_risk 10 = .ok (.goto 29, 3) := dk_167 0 29 (dk_at dksX0_risk_0 10 rfl rfl)
theorem dX0_risk_13 : decode cX0_risk 13 = .ok (.iload_n 1, 1) := dk_27 (dk_at dksX0_risk_0 13 rfl rfl)
theorem dX0_risk_14 : decode cX0_risk 14 = .ok (.ifCond .ne 10, 3) := dk_154 0 10 (dk_at dksX0_risk_0 14 rfl rfl)
theorem dX0_risk_17 : decode cX0_risk 17 = .ok (.aload_n 0, 1) := dk_42 (dk_at dksX0_risk_0 17 rfl rfl)
theorem dX0_risk_18 : decode cX0_risk 18 = .ok (.getfield 647, 3) := dk_180 2 135 (dk_at dksX0_risk_0 18 rfl rfl)
theorem dX0_risk_21 : decode cX0_risk 21 = .ok (.goto 18, 3) := dk_167 0 18 (dk_at dksX0_risk_0 21 rfl rfl)
theorem dX0_risk_24 : decode cX0_risk 24 = .ok (.iload_n 1, 1) := dk_27 (dk_at dksX0_risk_1 0 rfl rfl)
theorem dX0_risk_25 : decode cX0_risk 25 = .ok (.iconst 1, 1) := dk_4 (dk_at dksX0_risk_1 1 rfl rfl)
theorem dX0_risk_26 : decode cX0_risk 26 = .ok (.if_icmp .ne 10, 3) := dk_160 0 10 (dk_at dksX0_risk_1 2 rfl rfl)
theorem dX0_risk_29 : decode cX0_risk 29 = .ok (.aload_n 0, 1) := dk_42 (dk_at dksX0_risk_1 5 rfl rfl)
theorem dX0_risk_30 : decode cX0_risk 30 = .ok (.getfield 650, 3) := dk_180 2 138 (dk_at dksX0_risk_1 6 rfl rfl)
theorem dX0_risk_33 : decode cX0_risk 33 = .ok (.goto 6, 3) := dk_167 0 6 (dk_at dksX0_risk_1 9 rfl rfl)
theorem dX0_risk_36 : decode cX0_risk 36 = .ok (.ldc2_w 669, 3) := dk_20 2 157 (dk_at dksX0_risk_1 12 rfl rfl)
theorem dX0_risk_39 : decode cX0_risk 39 = .ok (.lreturn, 1) := dk_173 (dk_at dksX0_risk_1 15 rfl rfl)
abbrev cX0_stops : ByteArray := prog_1_method_100_code
def yX0_stops : MethodName := ⟨RX0, "stops", "(II)I"⟩
def dkwX0_stops_2 : List UInt8 := [157, 0, 7, 4, 167, 0, 4, 3, 172]
abbrev dktX0_stops_2 : List UInt8 := dkwX0_stops_2 ++ []
def dkwX0_stops_1 : List UInt8 := [184, 0, 163, 154, 0, 6, 16, 254, 172, 42, 180, 2, 135, 28, 133, 105, 42, 180, 2, 138, 27, 133, 105, 148]
abbrev dktX0_stops_1 : List UInt8 := dkwX0_stops_1 ++ dktX0_stops_2
def dkwX0_stops_0 : List UInt8 := [42, 180, 1, 34, 154, 0, 5, 2, 172, 28, 4, 16, 50, 184, 0, 163, 153, 0, 12, 27, 3, 28]
abbrev dktX0_stops_0 : List UInt8 := dkwX0_stops_0 ++ dktX0_stops_1
theorem dksX0_stops_0 : cX0_stops.data.toList.drop 0 = dktX0_stops_0 := by decide +kernel
theorem dksX0_stops_1 : cX0_stops.data.toList.drop 22 = dktX0_stops_1 := dk_seg dksX0_stops_0 22 rfl rfl
theorem dksX0_stops_2 : cX0_stops.data.toList.drop 46 = dktX0_stops_2 := dk_seg dksX0_stops_1 24 rfl rfl
theorem dX0_stops_0 : decode cX0_stops 0 = .ok (.aload_n 0, 1) := dk_42 (dk_at dksX0_stops_0 0 rfl rfl)
theorem dX0_stops_1 : decode cX0_stops 1 = .ok (.getfield 290, 3) := dk_180 1 34 (dk_at dksX0_stops_0 1 rfl rfl)
theorem dX0_stops_4 : decode cX0_stops 4 = .ok (.ifCond .ne 5, 3) := dk_154 0 5 (dk_at dksX0_stops_0 4 rfl rfl)
theorem dX0_stops_7 : decode cX0_stops 7 = .ok (.iconst (-1), 1) := dk_2 (dk_at dksX0_stops_0 7 rfl rfl)
theorem dX0_stops_8 : decode cX0_stops 8 = .ok (.ireturn, 1) := dk_172 (dk_at dksX0_stops_0 8 rfl rfl)
theorem dX0_stops_9 : decode cX0_stops 9 = .ok (.iload_n 2, 1) := dk_28 (dk_at dksX0_stops_0 9 rfl rfl)
theorem dX0_stops_10 : decode cX0_stops 10 = .ok (.iconst 1, 1) := dk_4 (dk_at dksX0_stops_0 10 rfl rfl)
theorem dX0_stops_11 : decode cX0_stops 11 = .ok (.bipush 50, 2) := dk_16 50 (dk_at dksX0_stops_0 11 rfl rfl)
theorem dX0_stops_13 : decode cX0_stops 13 = .ok (.invokestatic 163, 3) := dk_184 0 163 (dk_at dksX0_stops_0 13 rfl rfl)
theorem dX0_stops_16 : decode cX0_stops 16 = .ok (.ifCond .eq 12, 3) := dk_153 0 12 (dk_at dksX0_stops_0 16 rfl rfl)
theorem dX0_stops_19 : decode cX0_stops 19 = .ok (.iload_n 1, 1) := dk_27 (dk_at dksX0_stops_0 19 rfl rfl)
theorem dX0_stops_20 : decode cX0_stops 20 = .ok (.iconst 0, 1) := dk_3 (dk_at dksX0_stops_0 20 rfl rfl)
theorem dX0_stops_21 : decode cX0_stops 21 = .ok (.iload_n 2, 1) := dk_28 (dk_at dksX0_stops_0 21 rfl rfl)
theorem dX0_stops_22 : decode cX0_stops 22 = .ok (.invokestatic 163, 3) := dk_184 0 163 (dk_at dksX0_stops_1 0 rfl rfl)
theorem dX0_stops_25 : decode cX0_stops 25 = .ok (.ifCond .ne 6, 3) := dk_154 0 6 (dk_at dksX0_stops_1 3 rfl rfl)
theorem dX0_stops_28 : decode cX0_stops 28 = .ok (.bipush (-2), 2) := dk_16 254 (dk_at dksX0_stops_1 6 rfl rfl)
theorem dX0_stops_30 : decode cX0_stops 30 = .ok (.ireturn, 1) := dk_172 (dk_at dksX0_stops_1 8 rfl rfl)
theorem dX0_stops_31 : decode cX0_stops 31 = .ok (.aload_n 0, 1) := dk_42 (dk_at dksX0_stops_1 9 rfl rfl)
theorem dX0_stops_32 : decode cX0_stops 32 = .ok (.getfield 647, 3) := dk_180 2 135 (dk_at dksX0_stops_1 10 rfl rfl)
theorem dX0_stops_35 : decode cX0_stops 35 = .ok (.iload_n 2, 1) := dk_28 (dk_at dksX0_stops_1 13 rfl rfl)
theorem dX0_stops_36 : decode cX0_stops 36 = .ok (.i2l, 1) := dk_133 (dk_at dksX0_stops_1 14 rfl rfl)
theorem dX0_stops_37 : decode cX0_stops 37 = .ok (.lmul, 1) := dk_105 (dk_at dksX0_stops_1 15 rfl rfl)
theorem dX0_stops_38 : decode cX0_stops 38 = .ok (.aload_n 0, 1) := dk_42 (dk_at dksX0_stops_1 16 rfl rfl)
theorem dX0_stops_39 : decode cX0_stops 39 = .ok (.getfield 650, 3) := dk_180 2 138 (dk_at dksX0_stops_1 17 rfl rfl)
theorem dX0_stops_42 : decode cX0_stops 42 = .ok (.iload_n 1, 1) := dk_27 (dk_at dksX0_stops_1 20 rfl rfl)
theorem dX0_stops_43 : decode cX0_stops 43 = .ok (.i2l, 1) := dk_133 (dk_at dksX0_stops_1 21 rfl rfl)
theorem dX0_stops_44 : decode cX0_stops 44 = .ok (.lmul, 1) := dk_105 (dk_at dksX0_stops_1 22 rfl rfl)
theorem dX0_stops_45 : decode cX0_stops 45 = .ok (.lcmp, 1) := dk_148 (dk_at dksX0_stops_1 23 rfl rfl)
theorem dX0_stops_46 : decode cX0_stops 46 = .ok (.ifCond .gt 7, 3) := dk_157 0 7 (dk_at dksX0_stops_2 0 rfl rfl)
theorem dX0_stops_49 : decode cX0_stops 49 = .ok (.iconst 1, 1) := dk_4 (dk_at dksX0_stops_2 3 rfl rfl)
theorem dX0_stops_50 : decode cX0_stops 50 = .ok (.goto 4, 3) := dk_167 0 4 (dk_at dksX0_stops_2 4 rfl rfl)
theorem dX0_stops_53 : decode cX0_stops 53 = .ok (.iconst 0, 1) := dk_3 (dk_at dksX0_stops_2 7 rfl rfl)
theorem dX0_stops_54 : decode cX0_stops 54 = .ok (.ireturn, 1) := dk_172 (dk_at dksX0_stops_2 8 rfl rfl)
abbrev cX0_head : ByteArray := prog_1_method_101_code
def yX0_head : MethodName := ⟨RX0, "head", "(I)I"⟩
def dkwX0_head_0 : List UInt8 := [27, 3, 16, 31, 184, 0, 163, 153, 0, 14, 42, 180, 0, 56, 27, 182, 2, 159, 167, 0, 4, 2, 172]
abbrev dktX0_head_0 : List UInt8 := dkwX0_head_0 ++ []
theorem dksX0_head_0 : cX0_head.data.toList.drop 0 = dktX0_head_0 := by decide +kernel
theorem dX0_head_0 : decode cX0_head 0 = .ok (.iload_n 1, 1) := dk_27 (dk_at dksX0_head_0 0 rfl rfl)
theorem dX0_head_1 : decode cX0_head 1 = .ok (.iconst 0, 1) := dk_3 (dk_at dksX0_head_0 1 rfl rfl)
theorem dX0_head_2 : decode cX0_head 2 = .ok (.bipush 31, 2) := dk_16 31 (dk_at dksX0_head_0 2 rfl rfl)
theorem dX0_head_4 : decode cX0_head 4 = .ok (.invokestatic 163, 3) := dk_184 0 163 (dk_at dksX0_head_0 4 rfl rfl)
theorem dX0_head_7 : decode cX0_head 7 = .ok (.ifCond .eq 14, 3) := dk_153 0 14 (dk_at dksX0_head_0 7 rfl rfl)
theorem dX0_head_10 : decode cX0_head 10 = .ok (.aload_n 0, 1) := dk_42 (dk_at dksX0_head_0 10 rfl rfl)
theorem dX0_head_11 : decode cX0_head 11 = .ok (.getfield 56, 3) := dk_180 0 56 (dk_at dksX0_head_0 11 rfl rfl)
theorem dX0_head_14 : decode cX0_head 14 = .ok (.iload_n 1, 1) := dk_27 (dk_at dksX0_head_0 14 rfl rfl)
theorem dX0_head_15 : decode cX0_head 15 = .ok (.invokevirtual 671, 3) := dk_182 2 159 (dk_at dksX0_head_0 15 rfl rfl)
theorem dX0_head_18 : decode cX0_head 18 = .ok (.goto 4, 3) := dk_167 0 4 (dk_at dksX0_head_0 18 rfl rfl)
theorem dX0_head_21 : decode cX0_head 21 = .ok (.iconst (-1), 1) := dk_2 (dk_at dksX0_head_0 21 rfl rfl)
theorem dX0_head_22 : decode cX0_head 22 = .ok (.ireturn, 1) := dk_172 (dk_at dksX0_head_0 22 rfl rfl)
abbrev cX0_told : ByteArray := prog_1_method_102_code
def yX0_told : MethodName := ⟨RX0, "told", "(I)I"⟩
def dkwX0_told_6 : List UInt8 := [27, 182, 2, 162, 172]
abbrev dktX0_told_6 : List UInt8 := dkwX0_told_6 ++ []
def dkwX0_told_5 : List UInt8 := [42, 180, 1, 21, 172, 42, 180, 0, 160, 172, 42, 180, 1, 9, 153, 0, 7, 4, 167, 0, 4, 3, 172, 42]
abbrev dktX0_told_5 : List UInt8 := dkwX0_told_5 ++ dktX0_told_6
def dkwX0_told_4 : List UInt8 := [180, 1, 6, 172, 42, 180, 1, 12, 172, 42, 182, 1, 144, 172, 42, 180, 1, 15, 172, 42, 180, 1, 18, 172]
abbrev dktX0_told_4 : List UInt8 := dkwX0_told_4 ++ dktX0_told_5
def dkwX0_told_3 : List UInt8 := [180, 0, 200, 172, 42, 180, 0, 237, 153, 0, 13, 42, 180, 0, 42, 180, 1, 3, 167, 0, 4, 3, 172, 42]
abbrev dktX0_told_3 : List UInt8 := dkwX0_told_3 ++ dktX0_told_4
def dkwX0_told_2 : List UInt8 := [42, 180, 0, 167, 172, 42, 180, 0, 20, 180, 0, 176, 172, 42, 180, 0, 20, 180, 0, 189, 172, 42]
abbrev dktX0_told_2 : List UInt8 := dkwX0_told_2 ++ dktX0_told_3
def dkwX0_told_1 : List UInt8 := [170, 0, 0, 0, 0, 0, 160, 0, 0, 0, 0, 0, 0, 0, 12, 0, 0, 0, 67, 0, 0, 0, 72, 0, 0, 0, 80, 0, 0, 0, 88, 0, 0, 0, 93, 0, 0, 0, 112, 0, 0, 0, 117, 0, 0, 0, 122, 0, 0, 0, 127, 0, 0, 0, 132, 0, 0, 0, 137, 0, 0, 0, 142, 0, 0, 0, 147]
abbrev dktX0_told_1 : List UInt8 := dkwX0_told_1 ++ dktX0_told_2
def dkwX0_told_0 : List UInt8 := [27]
abbrev dktX0_told_0 : List UInt8 := dkwX0_told_0 ++ dktX0_told_1
theorem dksX0_told_0 : cX0_told.data.toList.drop 0 = dktX0_told_0 := by decide +kernel
theorem dksX0_told_1 : cX0_told.data.toList.drop 1 = dktX0_told_1 := dk_seg dksX0_told_0 1 rfl rfl
theorem dksX0_told_2 : cX0_told.data.toList.drop 68 = dktX0_told_2 := dk_seg dksX0_told_1 67 rfl rfl
theorem dksX0_told_3 : cX0_told.data.toList.drop 90 = dktX0_told_3 := dk_seg dksX0_told_2 22 rfl rfl
theorem dksX0_told_4 : cX0_told.data.toList.drop 114 = dktX0_told_4 := dk_seg dksX0_told_3 24 rfl rfl
theorem dksX0_told_5 : cX0_told.data.toList.drop 138 = dktX0_told_5 := dk_seg dksX0_told_4 24 rfl rfl
theorem dksX0_told_6 : cX0_told.data.toList.drop 162 = dktX0_told_6 := dk_seg dksX0_told_5 24 rfl rfl
theorem dX0_told_0 : decode cX0_told 0 = .ok (.iload_n 1, 1) := dk_27 (dk_at dksX0_told_0 0 rfl rfl)
theorem dX0_told_1 : decode cX0_told 1 = .ok (.tableswitch 160 0 12 #[67, 72, 80, 88, 93, 112, 117, 122, 127, 132, 137, 142, 147], 67) := by decide +kernel
theorem dX0_told_68 : decode cX0_told 68 = .ok (.aload_n 0, 1) := dk_42 (dk_at dksX0_told_2 0 rfl rfl)
theorem dX0_told_69 : decode cX0_told 69 = .ok (.getfield 167, 3) := dk_180 0 167 (dk_at dksX0_told_2 1 rfl rfl)
theorem dX0_told_72 : decode cX0_told 72 = .ok (.ireturn, 1) := dk_172 (dk_at dksX0_told_2 4 rfl rfl)
theorem dX0_told_73 : decode cX0_told 73 = .ok (.aload_n 0, 1) := dk_42 (dk_at dksX0_told_2 5 rfl rfl)
theorem dX0_told_74 : decode cX0_told 74 = .ok (.getfield 20, 3) := dk_180 0 20 (dk_at dksX0_told_2 6 rfl rfl)
theorem dX0_told_77 : decode cX0_told 77 = .ok (.getfield 176, 3) := dk_180 0 176 (dk_at dksX0_told_2 9 rfl rfl)
theorem dX0_told_80 : decode cX0_told 80 = .ok (.ireturn, 1) := dk_172 (dk_at dksX0_told_2 12 rfl rfl)
theorem dX0_told_81 : decode cX0_told 81 = .ok (.aload_n 0, 1) := dk_42 (dk_at dksX0_told_2 13 rfl rfl)
theorem dX0_told_82 : decode cX0_told 82 = .ok (.getfield 20, 3) := dk_180 0 20 (dk_at dksX0_told_2 14 rfl rfl)
theorem dX0_told_85 : decode cX0_told 85 = .ok (.getfield 189, 3) := dk_180 0 189 (dk_at dksX0_told_2 17 rfl rfl)
theorem dX0_told_88 : decode cX0_told 88 = .ok (.ireturn, 1) := dk_172 (dk_at dksX0_told_2 20 rfl rfl)
theorem dX0_told_89 : decode cX0_told 89 = .ok (.aload_n 0, 1) := dk_42 (dk_at dksX0_told_2 21 rfl rfl)
theorem dX0_told_90 : decode cX0_told 90 = .ok (.getfield 200, 3) := dk_180 0 200 (dk_at dksX0_told_3 0 rfl rfl)
theorem dX0_told_93 : decode cX0_told 93 = .ok (.ireturn, 1) := dk_172 (dk_at dksX0_told_3 3 rfl rfl)
theorem dX0_told_94 : decode cX0_told 94 = .ok (.aload_n 0, 1) := dk_42 (dk_at dksX0_told_3 4 rfl rfl)
theorem dX0_told_95 : decode cX0_told 95 = .ok (.getfield 237, 3) := dk_180 0 237 (dk_at dksX0_told_3 5 rfl rfl)
theorem dX0_told_98 : decode cX0_told 98 = .ok (.ifCond .eq 13, 3) := dk_153 0 13 (dk_at dksX0_told_3 8 rfl rfl)
theorem dX0_told_101 : decode cX0_told 101 = .ok (.aload_n 0, 1) := dk_42 (dk_at dksX0_told_3 11 rfl rfl)
theorem dX0_told_102 : decode cX0_told 102 = .ok (.getfield 42, 3) := dk_180 0 42 (dk_at dksX0_told_3 12 rfl rfl)
theorem dX0_told_105 : decode cX0_told 105 = .ok (.getfield 259, 3) := dk_180 1 3 (dk_at dksX0_told_3 15 rfl rfl)
theorem dX0_told_108 : decode cX0_told 108 = .ok (.goto 4, 3) := dk_167 0 4 (dk_at dksX0_told_3 18 rfl rfl)
theorem dX0_told_111 : decode cX0_told 111 = .ok (.iconst 0, 1) := dk_3 (dk_at dksX0_told_3 21 rfl rfl)
theorem dX0_told_112 : decode cX0_told 112 = .ok (.ireturn, 1) := dk_172 (dk_at dksX0_told_3 22 rfl rfl)
theorem dX0_told_113 : decode cX0_told 113 = .ok (.aload_n 0, 1) := dk_42 (dk_at dksX0_told_3 23 rfl rfl)
theorem dX0_told_114 : decode cX0_told 114 = .ok (.getfield 262, 3) := dk_180 1 6 (dk_at dksX0_told_4 0 rfl rfl)
theorem dX0_told_117 : decode cX0_told 117 = .ok (.ireturn, 1) := dk_172 (dk_at dksX0_told_4 3 rfl rfl)
theorem dX0_told_118 : decode cX0_told 118 = .ok (.aload_n 0, 1) := dk_42 (dk_at dksX0_told_4 4 rfl rfl)
theorem dX0_told_119 : decode cX0_told 119 = .ok (.getfield 268, 3) := dk_180 1 12 (dk_at dksX0_told_4 5 rfl rfl)
theorem dX0_told_122 : decode cX0_told 122 = .ok (.ireturn, 1) := dk_172 (dk_at dksX0_told_4 8 rfl rfl)
theorem dX0_told_123 : decode cX0_told 123 = .ok (.aload_n 0, 1) := dk_42 (dk_at dksX0_told_4 9 rfl rfl)
theorem dX0_told_124 : decode cX0_told 124 = .ok (.invokevirtual 400, 3) := dk_182 1 144 (dk_at dksX0_told_4 10 rfl rfl)
theorem dX0_told_127 : decode cX0_told 127 = .ok (.ireturn, 1) := dk_172 (dk_at dksX0_told_4 13 rfl rfl)
theorem dX0_told_128 : decode cX0_told 128 = .ok (.aload_n 0, 1) := dk_42 (dk_at dksX0_told_4 14 rfl rfl)
theorem dX0_told_129 : decode cX0_told 129 = .ok (.getfield 271, 3) := dk_180 1 15 (dk_at dksX0_told_4 15 rfl rfl)
theorem dX0_told_132 : decode cX0_told 132 = .ok (.ireturn, 1) := dk_172 (dk_at dksX0_told_4 18 rfl rfl)
theorem dX0_told_133 : decode cX0_told 133 = .ok (.aload_n 0, 1) := dk_42 (dk_at dksX0_told_4 19 rfl rfl)
theorem dX0_told_134 : decode cX0_told 134 = .ok (.getfield 274, 3) := dk_180 1 18 (dk_at dksX0_told_4 20 rfl rfl)
theorem dX0_told_137 : decode cX0_told 137 = .ok (.ireturn, 1) := dk_172 (dk_at dksX0_told_4 23 rfl rfl)
theorem dX0_told_138 : decode cX0_told 138 = .ok (.aload_n 0, 1) := dk_42 (dk_at dksX0_told_5 0 rfl rfl)
theorem dX0_told_139 : decode cX0_told 139 = .ok (.getfield 277, 3) := dk_180 1 21 (dk_at dksX0_told_5 1 rfl rfl)
theorem dX0_told_142 : decode cX0_told 142 = .ok (.ireturn, 1) := dk_172 (dk_at dksX0_told_5 4 rfl rfl)
theorem dX0_told_143 : decode cX0_told 143 = .ok (.aload_n 0, 1) := dk_42 (dk_at dksX0_told_5 5 rfl rfl)
theorem dX0_told_144 : decode cX0_told 144 = .ok (.getfield 160, 3) := dk_180 0 160 (dk_at dksX0_told_5 6 rfl rfl)
theorem dX0_told_147 : decode cX0_told 147 = .ok (.ireturn, 1) := dk_172 (dk_at dksX0_told_5 9 rfl rfl)
theorem dX0_told_148 : decode cX0_told 148 = .ok (.aload_n 0, 1) := dk_42 (dk_at dksX0_told_5 10 rfl rfl)
theorem dX0_told_149 : decode cX0_told 149 = .ok (.getfield 265, 3) := dk_180 1 9 (dk_at dksX0_told_5 11 rfl rfl)
theorem dX0_told_152 : decode cX0_told 152 = .ok (.ifCond .eq 7, 3) := dk_153 0 7 (dk_at dksX0_told_5 14 rfl rfl)
theorem dX0_told_155 : decode cX0_told 155 = .ok (.iconst 1, 1) := dk_4 (dk_at dksX0_told_5 17 rfl rfl)
theorem dX0_told_156 : decode cX0_told 156 = .ok (.goto 4, 3) := dk_167 0 4 (dk_at dksX0_told_5 18 rfl rfl)
theorem dX0_told_159 : decode cX0_told 159 = .ok (.iconst 0, 1) := dk_3 (dk_at dksX0_told_5 21 rfl rfl)
theorem dX0_told_160 : decode cX0_told 160 = .ok (.ireturn, 1) := dk_172 (dk_at dksX0_told_5 22 rfl rfl)
theorem dX0_told_161 : decode cX0_told 161 = .ok (.aload_n 0, 1) := dk_42 (dk_at dksX0_told_5 23 rfl rfl)
theorem dX0_told_162 : decode cX0_told 162 = .ok (.iload_n 1, 1) := dk_27 (dk_at dksX0_told_6 0 rfl rfl)
theorem dX0_told_163 : decode cX0_told 163 = .ok (.invokevirtual 674, 3) := dk_182 2 162 (dk_at dksX0_told_6 1 rfl rfl)
theorem dX0_told_166 : decode cX0_told 166 = .ok (.ireturn, 1) := dk_172 (dk_at dksX0_told_6 4 rfl rfl)
abbrev cX0_more : ByteArray := prog_1_method_103_code
def yX0_more : MethodName := ⟨RX0, "more", "(I)I"⟩
def dkwX0_more_8 : List UInt8 := [180, 2, 129, 167, 0, 4, 3, 172, 16, 254, 172]
abbrev dktX0_more_8 : List UInt8 := dkwX0_more_8 ++ []
def dkwX0_more_7 : List UInt8 := [167, 0, 4, 3, 172, 28, 153, 0, 10, 42, 180, 2, 147, 167, 0, 4, 3, 172, 28, 153, 0, 10, 42]
abbrev dktX0_more_7 : List UInt8 := dkwX0_more_7 ++ dktX0_more_8
def dkwX0_more_6 : List UInt8 := [167, 0, 4, 3, 172, 42, 180, 1, 34, 172, 42, 180, 0, 157, 172, 28, 153, 0, 10, 42, 180, 2, 115]
abbrev dktX0_more_6 : List UInt8 := dkwX0_more_6 ++ dktX0_more_7
def dkwX0_more_5 : List UInt8 := [180, 2, 75, 167, 0, 4, 3, 172, 42, 180, 1, 31, 153, 0, 13, 42, 180, 0, 127, 180, 2, 174]
abbrev dktX0_more_5 : List UInt8 := dkwX0_more_5 ++ dktX0_more_6
def dkwX0_more_4 : List UInt8 := [180, 0, 127, 180, 2, 171, 167, 0, 4, 3, 172, 42, 180, 1, 31, 153, 0, 13, 42, 180, 0, 127]
abbrev dktX0_more_4 : List UInt8 := dkwX0_more_4 ++ dktX0_more_5
def dkwX0_more_3 : List UInt8 := [153, 0, 13, 42, 180, 0, 127, 180, 2, 168, 167, 0, 4, 3, 172, 42, 180, 1, 31, 153, 0, 13, 42]
abbrev dktX0_more_3 : List UInt8 := dkwX0_more_3 ++ dktX0_more_4
def dkwX0_more_2 : List UInt8 := [42, 180, 1, 31, 153, 0, 13, 42, 180, 0, 127, 180, 2, 165, 167, 0, 4, 3, 172, 42, 180, 1, 31]
abbrev dktX0_more_2 : List UInt8 := dkwX0_more_2 ++ dktX0_more_3
def dkwX0_more_1 : List UInt8 := [170, 0, 0, 0, 0, 198, 0, 0, 0, 13, 0, 0, 0, 22, 0, 0, 0, 54, 0, 0, 0, 73, 0, 0, 0, 92, 0, 0, 0, 111, 0, 0, 0, 130, 0, 0, 0, 149, 0, 0, 0, 154, 0, 0, 0, 159, 0, 0, 0, 172, 0, 0, 0, 185]
abbrev dktX0_more_1 : List UInt8 := dkwX0_more_1 ++ dktX0_more_2
def dkwX0_more_0 : List UInt8 := [42, 180, 1, 34, 158, 0, 7, 4, 167, 0, 4, 3, 61, 27]
abbrev dktX0_more_0 : List UInt8 := dkwX0_more_0 ++ dktX0_more_1
theorem dksX0_more_0 : cX0_more.data.toList.drop 0 = dktX0_more_0 := by decide +kernel
theorem dksX0_more_1 : cX0_more.data.toList.drop 14 = dktX0_more_1 := dk_seg dksX0_more_0 14 rfl rfl
theorem dksX0_more_2 : cX0_more.data.toList.drop 68 = dktX0_more_2 := dk_seg dksX0_more_1 54 rfl rfl
theorem dksX0_more_3 : cX0_more.data.toList.drop 91 = dktX0_more_3 := dk_seg dksX0_more_2 23 rfl rfl
theorem dksX0_more_4 : cX0_more.data.toList.drop 114 = dktX0_more_4 := dk_seg dksX0_more_3 23 rfl rfl
theorem dksX0_more_5 : cX0_more.data.toList.drop 136 = dktX0_more_5 := dk_seg dksX0_more_4 22 rfl rfl
theorem dksX0_more_6 : cX0_more.data.toList.drop 158 = dktX0_more_6 := dk_seg dksX0_more_5 22 rfl rfl
theorem dksX0_more_7 : cX0_more.data.toList.drop 181 = dktX0_more_7 := dk_seg dksX0_more_6 23 rfl rfl
theorem dksX0_more_8 : cX0_more.data.toList.drop 204 = dktX0_more_8 := dk_seg dksX0_more_7 23 rfl rfl
theorem dX0_more_0 : decode cX0_more 0 = .ok (.aload_n 0, 1) := dk_42 (dk_at dksX0_more_0 0 rfl rfl)
theorem dX0_more_1 : decode cX0_more 1 = .ok (.getfield 290, 3) := dk_180 1 34 (dk_at dksX0_more_0 1 rfl rfl)
theorem dX0_more_4 : decode cX0_more 4 = .ok (.ifCond .le 7, 3) := dk_158 0 7 (dk_at dksX0_more_0 4 rfl rfl)
theorem dX0_more_7 : decode cX0_more 7 = .ok (.iconst 1, 1) := dk_4 (dk_at dksX0_more_0 7 rfl rfl)
theorem dX0_more_8 : decode cX0_more 8 = .ok (.goto 4, 3) := dk_167 0 4 (dk_at dksX0_more_0 8 rfl rfl)
theorem dX0_more_11 : decode cX0_more 11 = .ok (.iconst 0, 1) := dk_3 (dk_at dksX0_more_0 11 rfl rfl)
theorem dX0_more_12 : decode cX0_more 12 = .ok (.istore_n 2, 1) := dk_61 (dk_at dksX0_more_0 12 rfl rfl)
theorem dX0_more_13 : decode cX0_more 13 = .ok (.iload_n 1, 1) := dk_27 (dk_at dksX0_more_0 13 rfl rfl)
theorem dX0_more_14 : decode cX0_more 14 = .ok (.tableswitch 198 13 22 #[54, 73, 92, 111, 130, 149, 154, 159, 172, 185], 54) := by decide +kernel
theorem dX0_more_68 : decode cX0_more 68 = .ok (.aload_n 0, 1) := dk_42 (dk_at dksX0_more_2 0 rfl rfl)
theorem dX0_more_69 : decode cX0_more 69 = .ok (.getfield 287, 3) := dk_180 1 31 (dk_at dksX0_more_2 1 rfl rfl)
theorem dX0_more_72 : decode cX0_more 72 = .ok (.ifCond .eq 13, 3) := dk_153 0 13 (dk_at dksX0_more_2 4 rfl rfl)
theorem dX0_more_75 : decode cX0_more 75 = .ok (.aload_n 0, 1) := dk_42 (dk_at dksX0_more_2 7 rfl rfl)
theorem dX0_more_76 : decode cX0_more 76 = .ok (.getfield 127, 3) := dk_180 0 127 (dk_at dksX0_more_2 8 rfl rfl)
theorem dX0_more_79 : decode cX0_more 79 = .ok (.getfield 677, 3) := dk_180 2 165 (dk_at dksX0_more_2 11 rfl rfl)
theorem dX0_more_82 : decode cX0_more 82 = .ok (.goto 4, 3) := dk_167 0 4 (dk_at dksX0_more_2 14 rfl rfl)
theorem dX0_more_85 : decode cX0_more 85 = .ok (.iconst 0, 1) := dk_3 (dk_at dksX0_more_2 17 rfl rfl)
theorem dX0_more_86 : decode cX0_more 86 = .ok (.ireturn, 1) := dk_172 (dk_at dksX0_more_2 18 rfl rfl)
theorem dX0_more_87 : decode cX0_more 87 = .ok (.aload_n 0, 1) := dk_42 (dk_at dksX0_more_2 19 rfl rfl)
theorem dX0_more_88 : decode cX0_more 88 = .ok (.getfield 287, 3) := dk_180 1 31 (dk_at dksX0_more_2 20 rfl rfl)
theorem dX0_more_91 : decode cX0_more 91 = .ok (.ifCond .eq 13, 3) := dk_153 0 13 (dk_at dksX0_more_3 0 rfl rfl)
theorem dX0_more_94 : decode cX0_more 94 = .ok (.aload_n 0, 1) := dk_42 (dk_at dksX0_more_3 3 rfl rfl)
theorem dX0_more_95 : decode cX0_more 95 = .ok (.getfield 127, 3) := dk_180 0 127 (dk_at dksX0_more_3 4 rfl rfl)
theorem dX0_more_98 : decode cX0_more 98 = .ok (.getfield 680, 3) := dk_180 2 168 (dk_at dksX0_more_3 7 rfl rfl)
theorem dX0_more_101 : decode cX0_more 101 = .ok (.goto 4, 3) := dk_167 0 4 (dk_at dksX0_more_3 10 rfl rfl)
theorem dX0_more_104 : decode cX0_more 104 = .ok (.iconst 0, 1) := dk_3 (dk_at dksX0_more_3 13 rfl rfl)
theorem dX0_more_105 : decode cX0_more 105 = .ok (.ireturn, 1) := dk_172 (dk_at dksX0_more_3 14 rfl rfl)
theorem dX0_more_106 : decode cX0_more 106 = .ok (.aload_n 0, 1) := dk_42 (dk_at dksX0_more_3 15 rfl rfl)
theorem dX0_more_107 : decode cX0_more 107 = .ok (.getfield 287, 3) := dk_180 1 31 (dk_at dksX0_more_3 16 rfl rfl)
theorem dX0_more_110 : decode cX0_more 110 = .ok (.ifCond .eq 13, 3) := dk_153 0 13 (dk_at dksX0_more_3 19 rfl rfl)
theorem dX0_more_113 : decode cX0_more 113 = .ok (.aload_n 0, 1) := dk_42 (dk_at dksX0_more_3 22 rfl rfl)
theorem dX0_more_114 : decode cX0_more 114 = .ok (.getfield 127, 3) := dk_180 0 127 (dk_at dksX0_more_4 0 rfl rfl)
theorem dX0_more_117 : decode cX0_more 117 = .ok (.getfield 683, 3) := dk_180 2 171 (dk_at dksX0_more_4 3 rfl rfl)
theorem dX0_more_120 : decode cX0_more 120 = .ok (.goto 4, 3) := dk_167 0 4 (dk_at dksX0_more_4 6 rfl rfl)
theorem dX0_more_123 : decode cX0_more 123 = .ok (.iconst 0, 1) := dk_3 (dk_at dksX0_more_4 9 rfl rfl)
theorem dX0_more_124 : decode cX0_more 124 = .ok (.ireturn, 1) := dk_172 (dk_at dksX0_more_4 10 rfl rfl)
theorem dX0_more_125 : decode cX0_more 125 = .ok (.aload_n 0, 1) := dk_42 (dk_at dksX0_more_4 11 rfl rfl)
theorem dX0_more_126 : decode cX0_more 126 = .ok (.getfield 287, 3) := dk_180 1 31 (dk_at dksX0_more_4 12 rfl rfl)
theorem dX0_more_129 : decode cX0_more 129 = .ok (.ifCond .eq 13, 3) := dk_153 0 13 (dk_at dksX0_more_4 15 rfl rfl)
theorem dX0_more_132 : decode cX0_more 132 = .ok (.aload_n 0, 1) := dk_42 (dk_at dksX0_more_4 18 rfl rfl)
theorem dX0_more_133 : decode cX0_more 133 = .ok (.getfield 127, 3) := dk_180 0 127 (dk_at dksX0_more_4 19 rfl rfl)
theorem dX0_more_136 : decode cX0_more 136 = .ok (.getfield 587, 3) := dk_180 2 75 (dk_at dksX0_more_5 0 rfl rfl)
theorem dX0_more_139 : decode cX0_more 139 = .ok (.goto 4, 3) := dk_167 0 4 (dk_at dksX0_more_5 3 rfl rfl)
theorem dX0_more_142 : decode cX0_more 142 = .ok (.iconst 0, 1) := dk_3 (dk_at dksX0_more_5 6 rfl rfl)
theorem dX0_more_143 : decode cX0_more 143 = .ok (.ireturn, 1) := dk_172 (dk_at dksX0_more_5 7 rfl rfl)
theorem dX0_more_144 : decode cX0_more 144 = .ok (.aload_n 0, 1) := dk_42 (dk_at dksX0_more_5 8 rfl rfl)
theorem dX0_more_145 : decode cX0_more 145 = .ok (.getfield 287, 3) := dk_180 1 31 (dk_at dksX0_more_5 9 rfl rfl)
theorem dX0_more_148 : decode cX0_more 148 = .ok (.ifCond .eq 13, 3) := dk_153 0 13 (dk_at dksX0_more_5 12 rfl rfl)
theorem dX0_more_151 : decode cX0_more 151 = .ok (.aload_n 0, 1) := dk_42 (dk_at dksX0_more_5 15 rfl rfl)
theorem dX0_more_152 : decode cX0_more 152 = .ok (.getfield 127, 3) := dk_180 0 127 (dk_at dksX0_more_5 16 rfl rfl)
theorem dX0_more_155 : decode cX0_more 155 = .ok (.getfield 686, 3) := dk_180 2 174 (dk_at dksX0_more_5 19 rfl rfl)
theorem dX0_more_158 : decode cX0_more 158 = .ok (.goto 4, 3) := dk_167 0 4 (dk_at dksX0_more_6 0 rfl rfl)
theorem dX0_more_161 : decode cX0_more 161 = .ok (.iconst 0, 1) := dk_3 (dk_at dksX0_more_6 3 rfl rfl)
theorem dX0_more_162 : decode cX0_more 162 = .ok (.ireturn, 1) := dk_172 (dk_at dksX0_more_6 4 rfl rfl)
theorem dX0_more_163 : decode cX0_more 163 = .ok (.aload_n 0, 1) := dk_42 (dk_at dksX0_more_6 5 rfl rfl)
theorem dX0_more_164 : decode cX0_more 164 = .ok (.getfield 290, 3) := dk_180 1 34 (dk_at dksX0_more_6 6 rfl rfl)
theorem dX0_more_167 : decode cX0_more 167 = .ok (.ireturn, 1) := dk_172 (dk_at dksX0_more_6 9 rfl rfl)
theorem dX0_more_168 : decode cX0_more 168 = .ok (.aload_n 0, 1) := dk_42 (dk_at dksX0_more_6 10 rfl rfl)
theorem dX0_more_169 : decode cX0_more 169 = .ok (.getfield 157, 3) := dk_180 0 157 (dk_at dksX0_more_6 11 rfl rfl)
theorem dX0_more_172 : decode cX0_more 172 = .ok (.ireturn, 1) := dk_172 (dk_at dksX0_more_6 14 rfl rfl)
theorem dX0_more_173 : decode cX0_more 173 = .ok (.iload_n 2, 1) := dk_28 (dk_at dksX0_more_6 15 rfl rfl)
theorem dX0_more_174 : decode cX0_more 174 = .ok (.ifCond .eq 10, 3) := dk_153 0 10 (dk_at dksX0_more_6 16 rfl rfl)
theorem dX0_more_177 : decode cX0_more 177 = .ok (.aload_n 0, 1) := dk_42 (dk_at dksX0_more_6 19 rfl rfl)
theorem dX0_more_178 : decode cX0_more 178 = .ok (.getfield 627, 3) := dk_180 2 115 (dk_at dksX0_more_6 20 rfl rfl)
theorem dX0_more_181 : decode cX0_more 181 = .ok (.goto 4, 3) := dk_167 0 4 (dk_at dksX0_more_7 0 rfl rfl)
theorem dX0_more_184 : decode cX0_more 184 = .ok (.iconst 0, 1) := dk_3 (dk_at dksX0_more_7 3 rfl rfl)
theorem dX0_more_185 : decode cX0_more 185 = .ok (.ireturn, 1) := dk_172 (dk_at dksX0_more_7 4 rfl rfl)
theorem dX0_more_186 : decode cX0_more 186 = .ok (.iload_n 2, 1) := dk_28 (dk_at dksX0_more_7 5 rfl rfl)
theorem dX0_more_187 : decode cX0_more 187 = .ok (.ifCond .eq 10, 3) := dk_153 0 10 (dk_at dksX0_more_7 6 rfl rfl)
theorem dX0_more_190 : decode cX0_more 190 = .ok (.aload_n 0, 1) := dk_42 (dk_at dksX0_more_7 9 rfl rfl)
theorem dX0_more_191 : decode cX0_more 191 = .ok (.getfield 659, 3) := dk_180 2 147 (dk_at dksX0_more_7 10 rfl rfl)
theorem dX0_more_194 : decode cX0_more 194 = .ok (.goto 4, 3) := dk_167 0 4 (dk_at dksX0_more_7 13 rfl rfl)
theorem dX0_more_197 : decode cX0_more 197 = .ok (.iconst 0, 1) := dk_3 (dk_at dksX0_more_7 16 rfl rfl)
theorem dX0_more_198 : decode cX0_more 198 = .ok (.ireturn, 1) := dk_172 (dk_at dksX0_more_7 17 rfl rfl)
theorem dX0_more_199 : decode cX0_more 199 = .ok (.iload_n 2, 1) := dk_28 (dk_at dksX0_more_7 18 rfl rfl)
theorem dX0_more_200 : decode cX0_more 200 = .ok (.ifCond .eq 10, 3) := dk_153 0 10 (dk_at dksX0_more_7 19 rfl rfl)
theorem dX0_more_203 : decode cX0_more 203 = .ok (.aload_n 0, 1) := dk_42 (dk_at dksX0_more_7 22 rfl rfl)
theorem dX0_more_204 : decode cX0_more 204 = .ok (.getfield 641, 3) := dk_180 2 129 (dk_at dksX0_more_8 0 rfl rfl)
theorem dX0_more_207 : decode cX0_more 207 = .ok (.goto 4, 3) := dk_167 0 4 (dk_at dksX0_more_8 3 rfl rfl)
theorem dX0_more_210 : decode cX0_more 210 = .ok (.iconst 0, 1) := dk_3 (dk_at dksX0_more_8 6 rfl rfl)
theorem dX0_more_211 : decode cX0_more 211 = .ok (.ireturn, 1) := dk_172 (dk_at dksX0_more_8 7 rfl rfl)
theorem dX0_more_212 : decode cX0_more 212 = .ok (.bipush (-2), 2) := dk_16 254 (dk_at dksX0_more_8 8 rfl rfl)
theorem dX0_more_214 : decode cX0_more 214 = .ok (.ireturn, 1) := dk_172 (dk_at dksX0_more_8 10 rfl rfl)
theorem q282 : (Jvm.Cond.initialized "ElectionHouse") ∈ lw_all := lw_g (lw_at lw_m1 1 rfl) rfl
theorem q310 : (Jvm.Cond.instantiable "ElectionHouse" (49 : Nat)) ∈ lw_all := lw_g (lw_at lw_m1 29 rfl) rfl
theorem q312 : (Jvm.Cond.instanceMethod ({ cls := "ElectionHouse", name := "<init>", desc := "()V" } : Jvm.MethodName)) ∈ lw_all := lw_g (lw_at lw_m1 31 rfl) rfl
theorem q313 : (Jvm.Cond.code ({ cls := "ElectionHouse", name := "<init>", desc := "()V" } : Jvm.MethodName) prog_1_method_4_code (3 : Nat) (Option.none : Option Jvm.ClassFile.FieldType)) ∈ lw_all := lw_g (lw_at lw_m1 32 rfl) rfl
theorem q314 : (Jvm.Cond.methodLink "ElectionHouse" (7 : Nat) ({ cls := "java/lang/Object", name := "<init>", desc := "()V" } : Jvm.MethodName)) ∈ lw_all := lw_g (lw_at lw_m1 33 rfl) rfl
theorem q317 : (Jvm.Cond.classLink "ElectionHouse" (17 : Nat) "ElectionHouse$Land") ∈ lw_all := lw_g (lw_at lw_m1 36 rfl) rfl
theorem q319 : (Jvm.Cond.methodLinkNest "ElectionHouse" (19 : Nat) ({ cls := "ElectionHouse$Land", name := "<init>", desc := "()V" } : Jvm.MethodName) "ElectionHouse") ∈ lw_tbl := lw_at lw_m1 38 rfl
theorem q325 : (Jvm.Cond.fieldLinkNest "ElectionHouse" (176 : Nat) "ElectionHouse$Land" "areas" "I" "ElectionHouse") ∈ lw_tbl := lw_at lw_m1 44 rfl
theorem q331 : (Jvm.Cond.fieldLinkNest "ElectionHouse" (189 : Nat) "ElectionHouse$Land" "borders" "I" "ElectionHouse") ∈ lw_tbl := lw_at lw_m1 50 rfl
theorem q349 : (Jvm.Cond.classLink "ElectionHouse" (24 : Nat) "ElectionHouse$Person") ∈ lw_all := lw_g (lw_at lw_m1 68 rfl) rfl
theorem q351 : (Jvm.Cond.classLink "ElectionHouse" (30 : Nat) "ElectionHouse$Reader") ∈ lw_all := lw_g (lw_at lw_m1 70 rfl) rfl
theorem q353 : (Jvm.Cond.methodLink "ElectionHouse" (32 : Nat) ({ cls := "ElectionHouse$Reader", name := "<init>", desc := "([BLElectionHouse$Land;)V" } : Jvm.MethodName)) ∈ lw_all := lw_g (lw_at lw_m1 72 rfl) rfl
theorem q534 : (Jvm.Cond.classLink "ElectionHouse" (39 : Nat) "ElectionHouse$Law") ∈ lw_all := lw_g (lw_at lw_m2 13 rfl) rfl
theorem q536 : (Jvm.Cond.methodLink "ElectionHouse" (41 : Nat) ({ cls := "ElectionHouse$Law", name := "<init>", desc := "()V" } : Jvm.MethodName)) ∈ lw_all := lw_g (lw_at lw_m2 15 rfl) rfl
theorem q571 : (Jvm.Cond.fieldLinkNest "ElectionHouse" (303 : Nat) "ElectionHouse$Way" "area" "I" "ElectionHouse") ∈ lw_tbl := lw_at lw_m2 50 rfl
theorem q574 : (Jvm.Cond.fieldLinkNest "ElectionHouse" (308 : Nat) "ElectionHouse$Way" "seats" "I" "ElectionHouse") ∈ lw_tbl := lw_at lw_m2 53 rfl
theorem q577 : (Jvm.Cond.fieldLinkNest "ElectionHouse" (311 : Nat) "ElectionHouse$Way" "rule" "I" "ElectionHouse") ∈ lw_tbl := lw_at lw_m2 56 rfl
theorem q579 : (Jvm.Cond.fieldLinkNest "ElectionHouse" (314 : Nat) "ElectionHouse$Way" "option" "I" "ElectionHouse") ∈ lw_tbl := lw_at lw_m2 58 rfl
theorem q590 : (Jvm.Cond.fieldLinkNest "ElectionHouse" (580 : Nat) "ElectionHouse$Way" "isLevel" "Z" "ElectionHouse") ∈ lw_tbl := lw_at lw_m2 69 rfl
theorem q610 : (Jvm.Cond.fieldLinkNest "ElectionHouse" (293 : Nat) "ElectionHouse$Law" "days" "[I" "ElectionHouse") ∈ lw_tbl := lw_at lw_m2 89 rfl
theorem q612 : (Jvm.Cond.fieldLinkNest "ElectionHouse" (240 : Nat) "ElectionHouse$Law" "eve" "Z" "ElectionHouse") ∈ lw_tbl := lw_at lw_m2 91 rfl
theorem q616 : (Jvm.Cond.fieldLinkNest "ElectionHouse" (433 : Nat) "ElectionHouse$Law" "mail" "Z" "ElectionHouse") ∈ lw_tbl := lw_at lw_m2 95 rfl
theorem q619 : (Jvm.Cond.fieldLinkNest "ElectionHouse" (386 : Nat) "ElectionHouse$Law" "signatures" "I" "ElectionHouse") ∈ lw_tbl := lw_at lw_m2 98 rfl
theorem q621 : (Jvm.Cond.fieldLinkNest "ElectionHouse" (368 : Nat) "ElectionHouse$Law" "each" "I" "ElectionHouse") ∈ lw_tbl := lw_at lw_m2 100 rfl
theorem q625 : (Jvm.Cond.fieldLinkNest "ElectionHouse" (505 : Nat) "ElectionHouse$Law" "spoil" "I" "ElectionHouse") ∈ lw_tbl := lw_at lw_m2 104 rfl
theorem q627 : (Jvm.Cond.fieldLinkNest "ElectionHouse" (324 : Nat) "ElectionHouse$Law" "vote" "LElectionHouse$Clause;" "ElectionHouse") ∈ lw_tbl := lw_at lw_m2 106 rfl
theorem q630 : (Jvm.Cond.fieldLinkNest "ElectionHouse" (332 : Nat) "ElectionHouse$Law" "stand" "LElectionHouse$Clause;" "ElectionHouse") ∈ lw_tbl := lw_at lw_m2 109 rfl
theorem q643 : (Jvm.Cond.fieldLinkNest "ElectionHouse" (299 : Nat) "ElectionHouse$Law" "ways" "[LElectionHouse$Way;" "ElectionHouse") ∈ lw_tbl := lw_at lw_m2 122 rfl
theorem q646 : (Jvm.Cond.fieldLinkNest "ElectionHouse" (259 : Nat) "ElectionHouse$Law" "contests" "I" "ElectionHouse") ∈ lw_tbl := lw_at lw_m2 125 rfl
theorem q682 : (Jvm.Cond.classLink "ElectionHouse" (53 : Nat) "ElectionHouse$Digests") ∈ lw_all := lw_g (lw_at lw_m2 161 rfl) rfl
theorem q684 : (Jvm.Cond.methodLinkNest "ElectionHouse" (55 : Nat) ({ cls := "ElectionHouse$Digests", name := "<init>", desc := "()V" } : Jvm.MethodName) "ElectionHouse") ∈ lw_tbl := lw_at lw_m2 163 rfl
theorem q698 : (Jvm.Cond.classLink "ElectionHouse" (60 : Nat) "ElectionHouse$Contest") ∈ lw_all := lw_g (lw_at lw_m2 177 rfl) rfl
theorem q700 : (Jvm.Cond.classLink "ElectionHouse" (66 : Nat) "ElectionHouse$Nomination") ∈ lw_all := lw_g (lw_at lw_m2 179 rfl) rfl
theorem q702 : (Jvm.Cond.classLink "ElectionHouse" (104 : Nat) "[[B") ∈ lw_all := lw_g (lw_at lw_m2 181 rfl) rfl
theorem q704 : (Jvm.Cond.classLink "ElectionHouse" (109 : Nat) "ElectionHouse$Issue") ∈ lw_all := lw_g (lw_at lw_m2 183 rfl) rfl
theorem q706 : (Jvm.Cond.classLink "ElectionHouse" (118 : Nat) "ElectionHouse$Box") ∈ lw_all := lw_g (lw_at lw_m2 185 rfl) rfl
theorem q708 : (Jvm.Cond.classLink "ElectionHouse" (124 : Nat) "ElectionHouse$Count") ∈ lw_all := lw_g (lw_at lw_m2 187 rfl) rfl
theorem q710 : (Jvm.Cond.methodLinkNest "ElectionHouse" (126 : Nat) ({ cls := "ElectionHouse$Count", name := "<init>", desc := "()V" } : Jvm.MethodName) "ElectionHouse") ∈ lw_tbl := lw_at lw_m2 189 rfl
theorem q725 : (Jvm.Cond.fieldLinkNest "ElectionHouse" (593 : Nat) "ElectionHouse$Count" "candidates" "I" "ElectionHouse") ∈ lw_tbl := lw_at lw_m2 204 rfl
theorem q727 : (Jvm.Cond.fieldLinkNest "ElectionHouse" (609 : Nat) "ElectionHouse$Count" "is" "[Z" "ElectionHouse") ∈ lw_tbl := lw_at lw_m2 206 rfl
theorem q732 : (Jvm.Cond.fieldLinkNest "ElectionHouse" (677 : Nat) "ElectionHouse$Count" "valid" "I" "ElectionHouse") ∈ lw_tbl := lw_at lw_m2 211 rfl
theorem q734 : (Jvm.Cond.fieldLinkNest "ElectionHouse" (680 : Nat) "ElectionHouse$Count" "blank" "I" "ElectionHouse") ∈ lw_tbl := lw_at lw_m2 213 rfl
theorem q736 : (Jvm.Cond.fieldLinkNest "ElectionHouse" (683 : Nat) "ElectionHouse$Count" "spoiled" "I" "ElectionHouse") ∈ lw_tbl := lw_at lw_m2 215 rfl
theorem q740 : (Jvm.Cond.fieldLinkNest "ElectionHouse" (614 : Nat) "ElectionHouse$Count" "votes" "[J" "ElectionHouse") ∈ lw_tbl := lw_at lw_m2 219 rfl
theorem q742 : (Jvm.Cond.fieldLinkNest "ElectionHouse" (594 : Nat) "ElectionHouse$Count" "rounds" "[[J" "ElectionHouse") ∈ lw_tbl := lw_at lw_m2 221 rfl
theorem q744 : (Jvm.Cond.fieldLinkNest "ElectionHouse" (599 : Nat) "ElectionHouse$Count" "acts" "[I" "ElectionHouse") ∈ lw_tbl := lw_at lw_m2 223 rfl
theorem q746 : (Jvm.Cond.fieldLinkNest "ElectionHouse" (602 : Nat) "ElectionHouse$Count" "whose" "[I" "ElectionHouse") ∈ lw_tbl := lw_at lw_m2 225 rfl
theorem q748 : (Jvm.Cond.fieldLinkNest "ElectionHouse" (587 : Nat) "ElectionHouse$Count" "roundMany" "I" "ElectionHouse") ∈ lw_tbl := lw_at lw_m2 227 rfl
theorem q750 : (Jvm.Cond.fieldLinkNest "ElectionHouse" (571 : Nat) "ElectionHouse$Count" "elected" "[I" "ElectionHouse") ∈ lw_tbl := lw_at lw_m2 229 rfl
theorem q752 : (Jvm.Cond.fieldLinkNest "ElectionHouse" (568 : Nat) "ElectionHouse$Count" "electedMany" "I" "ElectionHouse") ∈ lw_tbl := lw_at lw_m2 231 rfl
theorem q754 : (Jvm.Cond.fieldLinkNest "ElectionHouse" (611 : Nat) "ElectionHouse$Count" "isElected" "[Z" "ElectionHouse") ∈ lw_tbl := lw_at lw_m2 233 rfl
theorem q757 : (Jvm.Cond.fieldLinkNest "ElectionHouse" (686 : Nat) "ElectionHouse$Count" "house" "I" "ElectionHouse") ∈ lw_tbl := lw_at lw_m2 236 rfl
theorem q899 : (Jvm.Cond.classLink "ElectionHouse" (146 : Nat) "[[J") ∈ lw_all := lw_g (lw_at lw_m3 138 rfl) rfl
theorem q901 : (Jvm.Cond.methodLinkNest "ElectionHouse" (151 : Nat) ({ cls := "ElectionHouse$Contest", name := "<init>", desc := "()V" } : Jvm.MethodName) "ElectionHouse") ∈ lw_tbl := lw_at lw_m3 140 rfl
theorem q906 : (Jvm.Cond.fieldLinkNest "ElectionHouse" (345 : Nat) "ElectionHouse$Contest" "nominated" "I" "ElectionHouse") ∈ lw_tbl := lw_at lw_m3 145 rfl
theorem q908 : (Jvm.Cond.fieldLinkNest "ElectionHouse" (346 : Nat) "ElectionHouse$Contest" "people" "[I" "ElectionHouse") ∈ lw_tbl := lw_at lw_m3 147 rfl
theorem q910 : (Jvm.Cond.fieldLinkNest "ElectionHouse" (410 : Nat) "ElectionHouse$Contest" "persons" "[I" "ElectionHouse") ∈ lw_tbl := lw_at lw_m3 149 rfl
theorem q913 : (Jvm.Cond.fieldLinkNest "ElectionHouse" (412 : Nat) "ElectionHouse$Contest" "parties" "[I" "ElectionHouse") ∈ lw_tbl := lw_at lw_m3 152 rfl
theorem q916 : (Jvm.Cond.fieldLinkNest "ElectionHouse" (421 : Nat) "ElectionHouse$Contest" "nominations" "[I" "ElectionHouse") ∈ lw_tbl := lw_at lw_m3 155 rfl
theorem q919 : (Jvm.Cond.fieldLinkNest "ElectionHouse" (418 : Nat) "ElectionHouse$Contest" "isStruck" "[Z" "ElectionHouse") ∈ lw_tbl := lw_at lw_m3 158 rfl
theorem q922 : (Jvm.Cond.fieldLinkNest "ElectionHouse" (317 : Nat) "ElectionHouse$Contest" "candidates" "I" "ElectionHouse") ∈ lw_tbl := lw_at lw_m3 161 rfl
theorem q926 : (Jvm.Cond.fieldLinkNest "ElectionHouse" (415 : Nat) "ElectionHouse$Contest" "places" "[I" "ElectionHouse") ∈ lw_tbl := lw_at lw_m3 165 rfl
theorem q929 : (Jvm.Cond.fieldLinkNest "ElectionHouse" (423 : Nat) "ElectionHouse$Contest" "isDrawn" "Z" "ElectionHouse") ∈ lw_tbl := lw_at lw_m3 168 rfl
theorem q952 : (Jvm.Cond.methodLinkNest "ElectionHouse" (152 : Nat) ({ cls := "ElectionHouse$Box", name := "<init>", desc := "()V" } : Jvm.MethodName) "ElectionHouse") ∈ lw_tbl := lw_at lw_m3 191 rfl
theorem q958 : (Jvm.Cond.fieldLinkNest "ElectionHouse" (537 : Nat) "ElectionHouse$Box" "sheets" "[I" "ElectionHouse") ∈ lw_tbl := lw_at lw_m3 197 rfl
theorem q960 : (Jvm.Cond.fieldLinkNest "ElectionHouse" (543 : Nat) "ElectionHouse$Box" "papers" "[[B" "ElectionHouse") ∈ lw_tbl := lw_at lw_m3 199 rfl
theorem q962 : (Jvm.Cond.fieldLinkNest "ElectionHouse" (546 : Nat) "ElectionHouse$Box" "records" "[[B" "ElectionHouse") ∈ lw_tbl := lw_at lw_m3 201 rfl
theorem q964 : (Jvm.Cond.fieldLinkNest "ElectionHouse" (532 : Nat) "ElectionHouse$Box" "many" "I" "ElectionHouse") ∈ lw_tbl := lw_at lw_m3 203 rfl
theorem q966 : (Jvm.Cond.fieldLinkNest "ElectionHouse" (436 : Nat) "ElectionHouse$Box" "isClosed" "Z" "ElectionHouse") ∈ lw_tbl := lw_at lw_m3 205 rfl
theorem q968 : (Jvm.Cond.fieldLinkNest "ElectionHouse" (535 : Nat) "ElectionHouse$Box" "isStruck" "Z" "ElectionHouse") ∈ lw_tbl := lw_at lw_m3 207 rfl
theorem q982 : (Jvm.Cond.fieldLink "ElectionHouse" (13 : Nat) "ElectionHouse" "tape" "[B") ∈ lw_all := lw_g (lw_at lw_m3 221 rfl) rfl
theorem q983 : (Jvm.Cond.fieldLink "ElectionHouse" (160 : Nat) "ElectionHouse" "taped" "I") ∈ lw_all := lw_g (lw_at lw_m3 222 rfl) rfl
theorem q984 : (Jvm.Cond.fieldLink "ElectionHouse" (167 : Nat) "ElectionHouse" "today" "I") ∈ lw_all := lw_g (lw_at lw_m3 223 rfl) rfl
theorem q985 : (Jvm.Cond.fieldLink "ElectionHouse" (20 : Nat) "ElectionHouse" "land" "LElectionHouse$Land;") ∈ lw_all := lw_g (lw_at lw_m3 224 rfl) rfl
theorem q986 : (Jvm.Cond.fieldLink "ElectionHouse" (26 : Nat) "ElectionHouse" "people" "[LElectionHouse$Person;") ∈ lw_all := lw_g (lw_at lw_m3 225 rfl) rfl
theorem q987 : (Jvm.Cond.fieldLink "ElectionHouse" (200 : Nat) "ElectionHouse" "persons" "I") ∈ lw_all := lw_g (lw_at lw_m3 226 rfl) rfl
theorem q988 : (Jvm.Cond.fieldLink "ElectionHouse" (35 : Nat) "ElectionHouse" "reader" "LElectionHouse$Reader;") ∈ lw_all := lw_g (lw_at lw_m3 227 rfl) rfl
theorem q989 : (Jvm.Cond.fieldLink "ElectionHouse" (42 : Nat) "ElectionHouse" "law" "LElectionHouse$Law;") ∈ lw_all := lw_g (lw_at lw_m3 228 rfl) rfl
theorem q990 : (Jvm.Cond.fieldLink "ElectionHouse" (46 : Nat) "ElectionHouse" "draft" "LElectionHouse$Law;") ∈ lw_all := lw_g (lw_at lw_m3 229 rfl) rfl
theorem q991 : (Jvm.Cond.fieldLink "ElectionHouse" (237 : Nat) "ElectionHouse" "hasLaw" "Z") ∈ lw_all := lw_g (lw_at lw_m3 230 rfl) rfl
theorem q992 : (Jvm.Cond.fieldLink "ElectionHouse" (49 : Nat) "ElectionHouse" "failed" "I") ∈ lw_all := lw_g (lw_at lw_m3 231 rfl) rfl
theorem q993 : (Jvm.Cond.fieldLink "ElectionHouse" (56 : Nat) "ElectionHouse" "book" "LElectionHouse$Digests;") ∈ lw_all := lw_g (lw_at lw_m3 232 rfl) rfl
theorem q994 : (Jvm.Cond.fieldLink "ElectionHouse" (157 : Nat) "ElectionHouse" "rows" "I") ∈ lw_all := lw_g (lw_at lw_m3 233 rfl) rfl
theorem q995 : (Jvm.Cond.fieldLink "ElectionHouse" (62 : Nat) "ElectionHouse" "contests" "[LElectionHouse$Contest;") ∈ lw_all := lw_g (lw_at lw_m3 234 rfl) rfl
theorem q996 : (Jvm.Cond.fieldLink "ElectionHouse" (68 : Nat) "ElectionHouse" "nominations" "[LElectionHouse$Nomination;") ∈ lw_all := lw_g (lw_at lw_m3 235 rfl) rfl
theorem q997 : (Jvm.Cond.fieldLink "ElectionHouse" (262 : Nat) "ElectionHouse" "nominated" "I") ∈ lw_all := lw_g (lw_at lw_m3 236 rfl) rfl
theorem q998 : (Jvm.Cond.fieldLink "ElectionHouse" (72 : Nat) "ElectionHouse" "signed" "[I") ∈ lw_all := lw_g (lw_at lw_m3 237 rfl) rfl
theorem q999 : (Jvm.Cond.fieldLink "ElectionHouse" (265 : Nat) "ElectionHouse" "isFrozen" "Z") ∈ lw_all := lw_g (lw_at lw_m3 238 rfl) rfl
theorem q1000 : (Jvm.Cond.fieldLink "ElectionHouse" (76 : Nat) "ElectionHouse" "rowPerson" "[I") ∈ lw_all := lw_g (lw_at lw_m3 239 rfl) rfl
theorem q1001 : (Jvm.Cond.fieldLink "ElectionHouse" (79 : Nat) "ElectionHouse" "rowSheet" "[I") ∈ lw_all := lw_g (lw_at lw_m4 0 rfl) rfl
theorem q1002 : (Jvm.Cond.fieldLink "ElectionHouse" (82 : Nat) "ElectionHouse" "rowOn" "[Z") ∈ lw_all := lw_g (lw_at lw_m4 1 rfl) rfl
theorem q1003 : (Jvm.Cond.fieldLink "ElectionHouse" (268 : Nat) "ElectionHouse" "rolled" "I") ∈ lw_all := lw_g (lw_at lw_m4 2 rfl) rfl
theorem q1004 : (Jvm.Cond.fieldLink "ElectionHouse" (86 : Nat) "ElectionHouse" "rowOf" "[I") ∈ lw_all := lw_g (lw_at lw_m4 3 rfl) rfl
theorem q1005 : (Jvm.Cond.fieldLink "ElectionHouse" (89 : Nat) "ElectionHouse" "appealOf" "[I") ∈ lw_all := lw_g (lw_at lw_m4 4 rfl) rfl
theorem q1006 : (Jvm.Cond.fieldLink "ElectionHouse" (92 : Nat) "ElectionHouse" "appealKind" "[I") ∈ lw_all := lw_g (lw_at lw_m4 5 rfl) rfl
theorem q1007 : (Jvm.Cond.fieldLink "ElectionHouse" (95 : Nat) "ElectionHouse" "appealDone" "[Z") ∈ lw_all := lw_g (lw_at lw_m4 6 rfl) rfl
theorem q1008 : (Jvm.Cond.fieldLink "ElectionHouse" (271 : Nat) "ElectionHouse" "appeals" "I") ∈ lw_all := lw_g (lw_at lw_m4 7 rfl) rfl
theorem q1009 : (Jvm.Cond.fieldLink "ElectionHouse" (98 : Nat) "ElectionHouse" "clocks" "[I") ∈ lw_all := lw_g (lw_at lw_m4 8 rfl) rfl
theorem q1010 : (Jvm.Cond.fieldLink "ElectionHouse" (101 : Nat) "ElectionHouse" "isCut" "[Z") ∈ lw_all := lw_g (lw_at lw_m4 9 rfl) rfl
theorem q1011 : (Jvm.Cond.fieldLink "ElectionHouse" (106 : Nat) "ElectionHouse" "known" "[[B") ∈ lw_all := lw_g (lw_at lw_m4 10 rfl) rfl
theorem q1012 : (Jvm.Cond.fieldLink "ElectionHouse" (274 : Nat) "ElectionHouse" "stations" "I") ∈ lw_all := lw_g (lw_at lw_m4 11 rfl) rfl
theorem q1013 : (Jvm.Cond.fieldLink "ElectionHouse" (111 : Nat) "ElectionHouse" "issues" "[LElectionHouse$Issue;") ∈ lw_all := lw_g (lw_at lw_m4 12 rfl) rfl
theorem q1014 : (Jvm.Cond.fieldLink "ElectionHouse" (277 : Nat) "ElectionHouse" "issued" "I") ∈ lw_all := lw_g (lw_at lw_m4 13 rfl) rfl
theorem q1015 : (Jvm.Cond.fieldLink "ElectionHouse" (115 : Nat) "ElectionHouse" "order" "[LElectionHouse$Issue;") ∈ lw_all := lw_g (lw_at lw_m4 14 rfl) rfl
theorem q1016 : (Jvm.Cond.fieldLink "ElectionHouse" (120 : Nat) "ElectionHouse" "boxes" "[LElectionHouse$Box;") ∈ lw_all := lw_g (lw_at lw_m4 15 rfl) rfl
theorem q1017 : (Jvm.Cond.fieldLink "ElectionHouse" (127 : Nat) "ElectionHouse" "count" "LElectionHouse$Count;") ∈ lw_all := lw_g (lw_at lw_m4 16 rfl) rfl
theorem q1018 : (Jvm.Cond.fieldLink "ElectionHouse" (131 : Nat) "ElectionHouse" "helper" "LElectionHouse$Count;") ∈ lw_all := lw_g (lw_at lw_m4 17 rfl) rfl
theorem q1019 : (Jvm.Cond.fieldLink "ElectionHouse" (287 : Nat) "ElectionHouse" "isCounted" "Z") ∈ lw_all := lw_g (lw_at lw_m4 18 rfl) rfl
theorem q1020 : (Jvm.Cond.fieldLink "ElectionHouse" (134 : Nat) "ElectionHouse" "pickBox" "[I") ∈ lw_all := lw_g (lw_at lw_m4 19 rfl) rfl
theorem q1021 : (Jvm.Cond.fieldLink "ElectionHouse" (137 : Nat) "ElectionHouse" "pickPlace" "[I") ∈ lw_all := lw_g (lw_at lw_m4 20 rfl) rfl
theorem q1022 : (Jvm.Cond.fieldLink "ElectionHouse" (140 : Nat) "ElectionHouse" "pickOther" "[Z") ∈ lw_all := lw_g (lw_at lw_m4 21 rfl) rfl
theorem q1023 : (Jvm.Cond.fieldLink "ElectionHouse" (143 : Nat) "ElectionHouse" "isPicked" "[Z") ∈ lw_all := lw_g (lw_at lw_m4 22 rfl) rfl
theorem q1024 : (Jvm.Cond.fieldLink "ElectionHouse" (290 : Nat) "ElectionHouse" "picks" "I") ∈ lw_all := lw_g (lw_at lw_m4 23 rfl) rfl
theorem q1025 : (Jvm.Cond.fieldLink "ElectionHouse" (627 : Nat) "ElectionHouse" "sampleOf" "I") ∈ lw_all := lw_g (lw_at lw_m4 24 rfl) rfl
theorem q1026 : (Jvm.Cond.fieldLink "ElectionHouse" (659 : Nat) "ElectionHouse" "sampleMargin" "I") ∈ lw_all := lw_g (lw_at lw_m4 25 rfl) rfl
theorem q1027 : (Jvm.Cond.fieldLink "ElectionHouse" (641 : Nat) "ElectionHouse" "sampleBad" "I") ∈ lw_all := lw_g (lw_at lw_m4 26 rfl) rfl
theorem q1028 : (Jvm.Cond.fieldLink "ElectionHouse" (647 : Nat) "ElectionHouse" "riskAbove" "J") ∈ lw_all := lw_g (lw_at lw_m4 27 rfl) rfl
theorem q1029 : (Jvm.Cond.fieldLink "ElectionHouse" (650 : Nat) "ElectionHouse" "riskBelow" "J") ∈ lw_all := lw_g (lw_at lw_m4 28 rfl) rfl
theorem q1030 : (Jvm.Cond.fieldLink "ElectionHouse" (148 : Nat) "ElectionHouse" "choices" "[[J") ∈ lw_all := lw_g (lw_at lw_m4 29 rfl) rfl
theorem q1031 : (Jvm.Cond.laysFinal "ElectionHouse" "ElectionHouse" "tape" "[B") ∈ lw_all := lw_g (lw_at lw_m4 30 rfl) rfl
theorem q1032 : (Jvm.Cond.soleField "ElectionHouse" "tape") ∈ lw_all := lw_g (lw_at lw_m4 31 rfl) rfl
theorem q1033 : (Jvm.Cond.lays "ElectionHouse" "ElectionHouse" "taped" "I") ∈ lw_all := lw_g (lw_at lw_m4 32 rfl) rfl
theorem q1034 : (Jvm.Cond.soleField "ElectionHouse" "taped") ∈ lw_all := lw_g (lw_at lw_m4 33 rfl) rfl
theorem q1035 : (Jvm.Cond.lays "ElectionHouse" "ElectionHouse" "today" "I") ∈ lw_all := lw_g (lw_at lw_m4 34 rfl) rfl
theorem q1036 : (Jvm.Cond.soleField "ElectionHouse" "today") ∈ lw_all := lw_g (lw_at lw_m4 35 rfl) rfl
theorem q1037 : (Jvm.Cond.laysFinal "ElectionHouse" "ElectionHouse" "land" "LElectionHouse$Land;") ∈ lw_all := lw_g (lw_at lw_m4 36 rfl) rfl
theorem q1038 : (Jvm.Cond.soleField "ElectionHouse" "land") ∈ lw_all := lw_g (lw_at lw_m4 37 rfl) rfl
theorem q1039 : (Jvm.Cond.laysFinal "ElectionHouse" "ElectionHouse" "people" "[LElectionHouse$Person;") ∈ lw_all := lw_g (lw_at lw_m4 38 rfl) rfl
theorem q1040 : (Jvm.Cond.soleField "ElectionHouse" "people") ∈ lw_all := lw_g (lw_at lw_m4 39 rfl) rfl
theorem q1041 : (Jvm.Cond.lays "ElectionHouse" "ElectionHouse" "persons" "I") ∈ lw_all := lw_g (lw_at lw_m4 40 rfl) rfl
theorem q1042 : (Jvm.Cond.soleField "ElectionHouse" "persons") ∈ lw_all := lw_g (lw_at lw_m4 41 rfl) rfl
theorem q1043 : (Jvm.Cond.laysFinal "ElectionHouse" "ElectionHouse" "reader" "LElectionHouse$Reader;") ∈ lw_all := lw_g (lw_at lw_m4 42 rfl) rfl
theorem q1044 : (Jvm.Cond.soleField "ElectionHouse" "reader") ∈ lw_all := lw_g (lw_at lw_m4 43 rfl) rfl
theorem q1045 : (Jvm.Cond.lays "ElectionHouse" "ElectionHouse" "law" "LElectionHouse$Law;") ∈ lw_all := lw_g (lw_at lw_m4 44 rfl) rfl
theorem q1046 : (Jvm.Cond.soleField "ElectionHouse" "law") ∈ lw_all := lw_g (lw_at lw_m4 45 rfl) rfl
theorem q1047 : (Jvm.Cond.lays "ElectionHouse" "ElectionHouse" "draft" "LElectionHouse$Law;") ∈ lw_all := lw_g (lw_at lw_m4 46 rfl) rfl
theorem q1048 : (Jvm.Cond.soleField "ElectionHouse" "draft") ∈ lw_all := lw_g (lw_at lw_m4 47 rfl) rfl
theorem q1049 : (Jvm.Cond.lays "ElectionHouse" "ElectionHouse" "hasLaw" "Z") ∈ lw_all := lw_g (lw_at lw_m4 48 rfl) rfl
theorem q1050 : (Jvm.Cond.soleField "ElectionHouse" "hasLaw") ∈ lw_all := lw_g (lw_at lw_m4 49 rfl) rfl
theorem q1051 : (Jvm.Cond.lays "ElectionHouse" "ElectionHouse" "failed" "I") ∈ lw_all := lw_g (lw_at lw_m4 50 rfl) rfl
theorem q1052 : (Jvm.Cond.soleField "ElectionHouse" "failed") ∈ lw_all := lw_g (lw_at lw_m4 51 rfl) rfl
theorem q1053 : (Jvm.Cond.laysFinal "ElectionHouse" "ElectionHouse" "book" "LElectionHouse$Digests;") ∈ lw_all := lw_g (lw_at lw_m4 52 rfl) rfl
theorem q1054 : (Jvm.Cond.soleField "ElectionHouse" "book") ∈ lw_all := lw_g (lw_at lw_m4 53 rfl) rfl
theorem q1055 : (Jvm.Cond.lays "ElectionHouse" "ElectionHouse" "rows" "I") ∈ lw_all := lw_g (lw_at lw_m4 54 rfl) rfl
theorem q1056 : (Jvm.Cond.soleField "ElectionHouse" "rows") ∈ lw_all := lw_g (lw_at lw_m4 55 rfl) rfl
theorem q1057 : (Jvm.Cond.laysFinal "ElectionHouse" "ElectionHouse" "contests" "[LElectionHouse$Contest;") ∈ lw_all := lw_g (lw_at lw_m4 56 rfl) rfl
theorem q1058 : (Jvm.Cond.soleField "ElectionHouse" "contests") ∈ lw_all := lw_g (lw_at lw_m4 57 rfl) rfl
theorem q1059 : (Jvm.Cond.laysFinal "ElectionHouse" "ElectionHouse" "nominations" "[LElectionHouse$Nomination;") ∈ lw_all := lw_g (lw_at lw_m4 58 rfl) rfl
theorem q1060 : (Jvm.Cond.soleField "ElectionHouse" "nominations") ∈ lw_all := lw_g (lw_at lw_m4 59 rfl) rfl
theorem q1061 : (Jvm.Cond.lays "ElectionHouse" "ElectionHouse" "nominated" "I") ∈ lw_all := lw_g (lw_at lw_m4 60 rfl) rfl
theorem q1062 : (Jvm.Cond.soleField "ElectionHouse" "nominated") ∈ lw_all := lw_g (lw_at lw_m4 61 rfl) rfl
theorem q1063 : (Jvm.Cond.laysFinal "ElectionHouse" "ElectionHouse" "signed" "[I") ∈ lw_all := lw_g (lw_at lw_m4 62 rfl) rfl
theorem q1064 : (Jvm.Cond.soleField "ElectionHouse" "signed") ∈ lw_all := lw_g (lw_at lw_m4 63 rfl) rfl
theorem q1065 : (Jvm.Cond.lays "ElectionHouse" "ElectionHouse" "isFrozen" "Z") ∈ lw_all := lw_g (lw_at lw_m4 64 rfl) rfl
theorem q1066 : (Jvm.Cond.soleField "ElectionHouse" "isFrozen") ∈ lw_all := lw_g (lw_at lw_m4 65 rfl) rfl
theorem q1067 : (Jvm.Cond.laysFinal "ElectionHouse" "ElectionHouse" "rowPerson" "[I") ∈ lw_all := lw_g (lw_at lw_m4 66 rfl) rfl
theorem q1068 : (Jvm.Cond.soleField "ElectionHouse" "rowPerson") ∈ lw_all := lw_g (lw_at lw_m4 67 rfl) rfl
theorem q1069 : (Jvm.Cond.laysFinal "ElectionHouse" "ElectionHouse" "rowSheet" "[I") ∈ lw_all := lw_g (lw_at lw_m4 68 rfl) rfl
theorem q1070 : (Jvm.Cond.soleField "ElectionHouse" "rowSheet") ∈ lw_all := lw_g (lw_at lw_m4 69 rfl) rfl
theorem q1071 : (Jvm.Cond.laysFinal "ElectionHouse" "ElectionHouse" "rowOn" "[Z") ∈ lw_all := lw_g (lw_at lw_m4 70 rfl) rfl
theorem q1072 : (Jvm.Cond.soleField "ElectionHouse" "rowOn") ∈ lw_all := lw_g (lw_at lw_m4 71 rfl) rfl
theorem q1073 : (Jvm.Cond.lays "ElectionHouse" "ElectionHouse" "rolled" "I") ∈ lw_all := lw_g (lw_at lw_m4 72 rfl) rfl
theorem q1074 : (Jvm.Cond.soleField "ElectionHouse" "rolled") ∈ lw_all := lw_g (lw_at lw_m4 73 rfl) rfl
theorem q1075 : (Jvm.Cond.laysFinal "ElectionHouse" "ElectionHouse" "rowOf" "[I") ∈ lw_all := lw_g (lw_at lw_m4 74 rfl) rfl
theorem q1076 : (Jvm.Cond.soleField "ElectionHouse" "rowOf") ∈ lw_all := lw_g (lw_at lw_m4 75 rfl) rfl
theorem q1077 : (Jvm.Cond.laysFinal "ElectionHouse" "ElectionHouse" "appealOf" "[I") ∈ lw_all := lw_g (lw_at lw_m4 76 rfl) rfl
theorem q1078 : (Jvm.Cond.soleField "ElectionHouse" "appealOf") ∈ lw_all := lw_g (lw_at lw_m4 77 rfl) rfl
theorem q1079 : (Jvm.Cond.laysFinal "ElectionHouse" "ElectionHouse" "appealKind" "[I") ∈ lw_all := lw_g (lw_at lw_m4 78 rfl) rfl
theorem q1080 : (Jvm.Cond.soleField "ElectionHouse" "appealKind") ∈ lw_all := lw_g (lw_at lw_m4 79 rfl) rfl
theorem q1081 : (Jvm.Cond.laysFinal "ElectionHouse" "ElectionHouse" "appealDone" "[Z") ∈ lw_all := lw_g (lw_at lw_m4 80 rfl) rfl
theorem q1082 : (Jvm.Cond.soleField "ElectionHouse" "appealDone") ∈ lw_all := lw_g (lw_at lw_m4 81 rfl) rfl
theorem q1083 : (Jvm.Cond.lays "ElectionHouse" "ElectionHouse" "appeals" "I") ∈ lw_all := lw_g (lw_at lw_m4 82 rfl) rfl
theorem q1084 : (Jvm.Cond.soleField "ElectionHouse" "appeals") ∈ lw_all := lw_g (lw_at lw_m4 83 rfl) rfl
theorem q1085 : (Jvm.Cond.laysFinal "ElectionHouse" "ElectionHouse" "clocks" "[I") ∈ lw_all := lw_g (lw_at lw_m4 84 rfl) rfl
theorem q1086 : (Jvm.Cond.soleField "ElectionHouse" "clocks") ∈ lw_all := lw_g (lw_at lw_m4 85 rfl) rfl
theorem q1087 : (Jvm.Cond.laysFinal "ElectionHouse" "ElectionHouse" "isCut" "[Z") ∈ lw_all := lw_g (lw_at lw_m4 86 rfl) rfl
theorem q1088 : (Jvm.Cond.soleField "ElectionHouse" "isCut") ∈ lw_all := lw_g (lw_at lw_m4 87 rfl) rfl
theorem q1089 : (Jvm.Cond.laysFinal "ElectionHouse" "ElectionHouse" "known" "[[B") ∈ lw_all := lw_g (lw_at lw_m4 88 rfl) rfl
theorem q1090 : (Jvm.Cond.soleField "ElectionHouse" "known") ∈ lw_all := lw_g (lw_at lw_m4 89 rfl) rfl
theorem q1091 : (Jvm.Cond.lays "ElectionHouse" "ElectionHouse" "stations" "I") ∈ lw_all := lw_g (lw_at lw_m4 90 rfl) rfl
theorem q1092 : (Jvm.Cond.soleField "ElectionHouse" "stations") ∈ lw_all := lw_g (lw_at lw_m4 91 rfl) rfl
theorem q1093 : (Jvm.Cond.laysFinal "ElectionHouse" "ElectionHouse" "issues" "[LElectionHouse$Issue;") ∈ lw_all := lw_g (lw_at lw_m4 92 rfl) rfl
theorem q1094 : (Jvm.Cond.soleField "ElectionHouse" "issues") ∈ lw_all := lw_g (lw_at lw_m4 93 rfl) rfl
theorem q1095 : (Jvm.Cond.lays "ElectionHouse" "ElectionHouse" "issued" "I") ∈ lw_all := lw_g (lw_at lw_m4 94 rfl) rfl
theorem q1096 : (Jvm.Cond.soleField "ElectionHouse" "issued") ∈ lw_all := lw_g (lw_at lw_m4 95 rfl) rfl
theorem q1097 : (Jvm.Cond.laysFinal "ElectionHouse" "ElectionHouse" "order" "[LElectionHouse$Issue;") ∈ lw_all := lw_g (lw_at lw_m4 96 rfl) rfl
theorem q1098 : (Jvm.Cond.soleField "ElectionHouse" "order") ∈ lw_all := lw_g (lw_at lw_m4 97 rfl) rfl
theorem q1099 : (Jvm.Cond.laysFinal "ElectionHouse" "ElectionHouse" "boxes" "[LElectionHouse$Box;") ∈ lw_all := lw_g (lw_at lw_m4 98 rfl) rfl
theorem q1100 : (Jvm.Cond.soleField "ElectionHouse" "boxes") ∈ lw_all := lw_g (lw_at lw_m4 99 rfl) rfl
theorem q1101 : (Jvm.Cond.laysFinal "ElectionHouse" "ElectionHouse" "count" "LElectionHouse$Count;") ∈ lw_all := lw_g (lw_at lw_m4 100 rfl) rfl
theorem q1102 : (Jvm.Cond.soleField "ElectionHouse" "count") ∈ lw_all := lw_g (lw_at lw_m4 101 rfl) rfl
theorem q1103 : (Jvm.Cond.laysFinal "ElectionHouse" "ElectionHouse" "helper" "LElectionHouse$Count;") ∈ lw_all := lw_g (lw_at lw_m4 102 rfl) rfl
theorem q1104 : (Jvm.Cond.soleField "ElectionHouse" "helper") ∈ lw_all := lw_g (lw_at lw_m4 103 rfl) rfl
theorem q1105 : (Jvm.Cond.lays "ElectionHouse" "ElectionHouse" "isCounted" "Z") ∈ lw_all := lw_g (lw_at lw_m4 104 rfl) rfl
theorem q1106 : (Jvm.Cond.soleField "ElectionHouse" "isCounted") ∈ lw_all := lw_g (lw_at lw_m4 105 rfl) rfl
theorem q1107 : (Jvm.Cond.laysFinal "ElectionHouse" "ElectionHouse" "pickBox" "[I") ∈ lw_all := lw_g (lw_at lw_m4 106 rfl) rfl
theorem q1108 : (Jvm.Cond.soleField "ElectionHouse" "pickBox") ∈ lw_all := lw_g (lw_at lw_m4 107 rfl) rfl
theorem q1109 : (Jvm.Cond.laysFinal "ElectionHouse" "ElectionHouse" "pickPlace" "[I") ∈ lw_all := lw_g (lw_at lw_m4 108 rfl) rfl
theorem q1110 : (Jvm.Cond.soleField "ElectionHouse" "pickPlace") ∈ lw_all := lw_g (lw_at lw_m4 109 rfl) rfl
theorem q1111 : (Jvm.Cond.laysFinal "ElectionHouse" "ElectionHouse" "pickOther" "[Z") ∈ lw_all := lw_g (lw_at lw_m4 110 rfl) rfl
theorem q1112 : (Jvm.Cond.soleField "ElectionHouse" "pickOther") ∈ lw_all := lw_g (lw_at lw_m4 111 rfl) rfl
theorem q1113 : (Jvm.Cond.laysFinal "ElectionHouse" "ElectionHouse" "isPicked" "[Z") ∈ lw_all := lw_g (lw_at lw_m4 112 rfl) rfl
theorem q1114 : (Jvm.Cond.soleField "ElectionHouse" "isPicked") ∈ lw_all := lw_g (lw_at lw_m4 113 rfl) rfl
theorem q1115 : (Jvm.Cond.lays "ElectionHouse" "ElectionHouse" "picks" "I") ∈ lw_all := lw_g (lw_at lw_m4 114 rfl) rfl
theorem q1116 : (Jvm.Cond.soleField "ElectionHouse" "picks") ∈ lw_all := lw_g (lw_at lw_m4 115 rfl) rfl
theorem q1117 : (Jvm.Cond.lays "ElectionHouse" "ElectionHouse" "sampleOf" "I") ∈ lw_all := lw_g (lw_at lw_m4 116 rfl) rfl
theorem q1118 : (Jvm.Cond.soleField "ElectionHouse" "sampleOf") ∈ lw_all := lw_g (lw_at lw_m4 117 rfl) rfl
theorem q1119 : (Jvm.Cond.lays "ElectionHouse" "ElectionHouse" "sampleMargin" "I") ∈ lw_all := lw_g (lw_at lw_m4 118 rfl) rfl
theorem q1120 : (Jvm.Cond.soleField "ElectionHouse" "sampleMargin") ∈ lw_all := lw_g (lw_at lw_m4 119 rfl) rfl
theorem q1121 : (Jvm.Cond.lays "ElectionHouse" "ElectionHouse" "sampleBad" "I") ∈ lw_all := lw_g (lw_at lw_m4 120 rfl) rfl
theorem q1122 : (Jvm.Cond.soleField "ElectionHouse" "sampleBad") ∈ lw_all := lw_g (lw_at lw_m4 121 rfl) rfl
theorem q1123 : (Jvm.Cond.lays "ElectionHouse" "ElectionHouse" "riskAbove" "J") ∈ lw_all := lw_g (lw_at lw_m4 122 rfl) rfl
theorem q1124 : (Jvm.Cond.soleField "ElectionHouse" "riskAbove") ∈ lw_all := lw_g (lw_at lw_m4 123 rfl) rfl
theorem q1125 : (Jvm.Cond.lays "ElectionHouse" "ElectionHouse" "riskBelow" "J") ∈ lw_all := lw_g (lw_at lw_m4 124 rfl) rfl
theorem q1126 : (Jvm.Cond.soleField "ElectionHouse" "riskBelow") ∈ lw_all := lw_g (lw_at lw_m4 125 rfl) rfl
theorem q1127 : (Jvm.Cond.laysFinal "ElectionHouse" "ElectionHouse" "choices" "[[J") ∈ lw_all := lw_g (lw_at lw_m4 126 rfl) rfl
theorem q1128 : (Jvm.Cond.soleField "ElectionHouse" "choices") ∈ lw_all := lw_g (lw_at lw_m4 127 rfl) rfl
theorem q1129 : (Jvm.Cond.superclass "ElectionHouse" "java/lang/Object") ∈ lw_all := lw_g (lw_at lw_m4 128 rfl) rfl
theorem q1131 : (Jvm.Cond.instanceMethod ({ cls := "ElectionHouse", name := "feed", desc := "(IIIII)I" } : Jvm.MethodName)) ∈ lw_all := lw_g (lw_at lw_m4 130 rfl) rfl
theorem q1132 : (Jvm.Cond.selects "ElectionHouse" ({ cls := "ElectionHouse", name := "feed", desc := "(IIIII)I" } : Jvm.MethodName) ({ cls := "ElectionHouse", name := "feed", desc := "(IIIII)I" } : Jvm.MethodName)) ∈ lw_all := lw_g (lw_at lw_m4 131 rfl) rfl
theorem q1133 : (Jvm.Cond.code ({ cls := "ElectionHouse", name := "feed", desc := "(IIIII)I" } : Jvm.MethodName) prog_1_method_6_code (8 : Nat) (Option.some Jvm.ClassFile.FieldType.int)) ∈ lw_all := lw_g (lw_at lw_m4 132 rfl) rfl
theorem q1135 : (Jvm.Cond.instanceMethod ({ cls := "ElectionHouse", name := "cut", desc := "(I)I" } : Jvm.MethodName)) ∈ lw_all := lw_g (lw_at lw_m4 134 rfl) rfl
theorem q1136 : (Jvm.Cond.selects "ElectionHouse" ({ cls := "ElectionHouse", name := "cut", desc := "(I)I" } : Jvm.MethodName) ({ cls := "ElectionHouse", name := "cut", desc := "(I)I" } : Jvm.MethodName)) ∈ lw_all := lw_g (lw_at lw_m4 135 rfl) rfl
theorem q1137 : (Jvm.Cond.code ({ cls := "ElectionHouse", name := "cut", desc := "(I)I" } : Jvm.MethodName) prog_1_method_7_code (2 : Nat) (Option.some Jvm.ClassFile.FieldType.int)) ∈ lw_all := lw_g (lw_at lw_m4 136 rfl) rfl
theorem q1138 : (Jvm.Cond.methodLink "ElectionHouse" (163 : Nat) ({ cls := "ElectionHouse", name := "within", desc := "(III)Z" } : Jvm.MethodName)) ∈ lw_all := lw_g (lw_at lw_m4 137 rfl) rfl
theorem q1139 : (Jvm.Cond.static ({ cls := "ElectionHouse", name := "within", desc := "(III)Z" } : Jvm.MethodName)) ∈ lw_all := lw_g (lw_at lw_m4 138 rfl) rfl
theorem q1140 : (Jvm.Cond.code ({ cls := "ElectionHouse", name := "within", desc := "(III)Z" } : Jvm.MethodName) prog_1_method_1_code (3 : Nat) (Option.some Jvm.ClassFile.FieldType.boolean)) ∈ lw_all := lw_g (lw_at lw_m4 139 rfl) rfl
theorem q1142 : (Jvm.Cond.instanceMethod ({ cls := "ElectionHouse", name := "day", desc := "(I)I" } : Jvm.MethodName)) ∈ lw_all := lw_g (lw_at lw_m4 141 rfl) rfl
theorem q1143 : (Jvm.Cond.selects "ElectionHouse" ({ cls := "ElectionHouse", name := "day", desc := "(I)I" } : Jvm.MethodName) ({ cls := "ElectionHouse", name := "day", desc := "(I)I" } : Jvm.MethodName)) ∈ lw_all := lw_g (lw_at lw_m4 142 rfl) rfl
theorem q1144 : (Jvm.Cond.code ({ cls := "ElectionHouse", name := "day", desc := "(I)I" } : Jvm.MethodName) prog_1_method_8_code (2 : Nat) (Option.some Jvm.ClassFile.FieldType.int)) ∈ lw_all := lw_g (lw_at lw_m4 143 rfl) rfl
theorem q1145 : (Jvm.Cond.constant "ElectionHouse" (172 : Nat) (36524 : Int32)) ∈ lw_all := lw_g (lw_at lw_m4 144 rfl) rfl
theorem q1146 : (Jvm.Cond.methodLink "ElectionHouse" (173 : Nat) ({ cls := "ElectionHouse", name := "write", desc := "(IIIII)V" } : Jvm.MethodName)) ∈ lw_all := lw_g (lw_at lw_m4 145 rfl) rfl
theorem q1147 : (Jvm.Cond.privateMethod ({ cls := "ElectionHouse", name := "write", desc := "(IIIII)V" } : Jvm.MethodName)) ∈ lw_tbl := lw_at lw_m4 146 rfl
theorem q1148 : (Jvm.Cond.instanceMethod ({ cls := "ElectionHouse", name := "write", desc := "(IIIII)V" } : Jvm.MethodName)) ∈ lw_all := lw_g (lw_at lw_m4 147 rfl) rfl
theorem q1149 : (Jvm.Cond.code ({ cls := "ElectionHouse", name := "write", desc := "(IIIII)V" } : Jvm.MethodName) prog_1_method_5_code (6 : Nat) (Option.none : Option Jvm.ClassFile.FieldType)) ∈ lw_all := lw_g (lw_at lw_m4 148 rfl) rfl
theorem q1150 : (Jvm.Cond.methodLink "ElectionHouse" (153 : Nat) ({ cls := "ElectionHouse$Digests", name := "add", desc := "(IIIII)V" } : Jvm.MethodName)) ∈ lw_all := lw_g (lw_at lw_m4 149 rfl) rfl
theorem q1170 : (Jvm.Cond.instanceMethod ({ cls := "ElectionHouse", name := "area", desc := "(I)I" } : Jvm.MethodName)) ∈ lw_all := lw_g (lw_at lw_m4 169 rfl) rfl
theorem q1171 : (Jvm.Cond.selects "ElectionHouse" ({ cls := "ElectionHouse", name := "area", desc := "(I)I" } : Jvm.MethodName) ({ cls := "ElectionHouse", name := "area", desc := "(I)I" } : Jvm.MethodName)) ∈ lw_all := lw_g (lw_at lw_m4 170 rfl) rfl
theorem q1172 : (Jvm.Cond.code ({ cls := "ElectionHouse", name := "area", desc := "(I)I" } : Jvm.MethodName) prog_1_method_9_code (2 : Nat) (Option.some Jvm.ClassFile.FieldType.int)) ∈ lw_all := lw_g (lw_at lw_m4 171 rfl) rfl
theorem q1173 : (Jvm.Cond.methodLink "ElectionHouse" (179 : Nat) ({ cls := "ElectionHouse$Land", name := "add", desc := "(I)I" } : Jvm.MethodName)) ∈ lw_all := lw_g (lw_at lw_m4 172 rfl) rfl
theorem q1178 : (Jvm.Cond.instanceMethod ({ cls := "ElectionHouse", name := "border", desc := "(IIII)I" } : Jvm.MethodName)) ∈ lw_all := lw_g (lw_at lw_m4 177 rfl) rfl
theorem q1179 : (Jvm.Cond.selects "ElectionHouse" ({ cls := "ElectionHouse", name := "border", desc := "(IIII)I" } : Jvm.MethodName) ({ cls := "ElectionHouse", name := "border", desc := "(IIII)I" } : Jvm.MethodName)) ∈ lw_all := lw_g (lw_at lw_m4 178 rfl) rfl
theorem q1180 : (Jvm.Cond.code ({ cls := "ElectionHouse", name := "border", desc := "(IIII)I" } : Jvm.MethodName) prog_1_method_10_code (5 : Nat) (Option.some Jvm.ClassFile.FieldType.int)) ∈ lw_all := lw_g (lw_at lw_m4 179 rfl) rfl
theorem q1181 : (Jvm.Cond.methodLink "ElectionHouse" (182 : Nat) ({ cls := "ElectionHouse$Land", name := "has", desc := "(I)Z" } : Jvm.MethodName)) ∈ lw_all := lw_g (lw_at lw_m4 180 rfl) rfl
theorem q1186 : (Jvm.Cond.methodLink "ElectionHouse" (186 : Nat) ({ cls := "ElectionHouse$Days", name := "isDay", desc := "(I)Z" } : Jvm.MethodName)) ∈ lw_all := lw_g (lw_at lw_m4 185 rfl) rfl
theorem q1192 : (Jvm.Cond.methodLink "ElectionHouse" (192 : Nat) ({ cls := "ElectionHouse$Land", name := "border", desc := "(IIII)I" } : Jvm.MethodName)) ∈ lw_all := lw_g (lw_at lw_m4 191 rfl) rfl
theorem q1197 : (Jvm.Cond.instanceMethod ({ cls := "ElectionHouse", name := "areaOf", desc := "(III)I" } : Jvm.MethodName)) ∈ lw_all := lw_g (lw_at lw_m4 196 rfl) rfl
theorem q1198 : (Jvm.Cond.selects "ElectionHouse" ({ cls := "ElectionHouse", name := "areaOf", desc := "(III)I" } : Jvm.MethodName) ({ cls := "ElectionHouse", name := "areaOf", desc := "(III)I" } : Jvm.MethodName)) ∈ lw_all := lw_g (lw_at lw_m4 197 rfl) rfl
theorem q1199 : (Jvm.Cond.code ({ cls := "ElectionHouse", name := "areaOf", desc := "(III)I" } : Jvm.MethodName) prog_1_method_11_code (4 : Nat) (Option.some Jvm.ClassFile.FieldType.int)) ∈ lw_all := lw_g (lw_at lw_m4 198 rfl) rfl
theorem q1200 : (Jvm.Cond.methodLink "ElectionHouse" (196 : Nat) ({ cls := "ElectionHouse$Land", name := "areaOf", desc := "(III)I" } : Jvm.MethodName)) ∈ lw_all := lw_g (lw_at lw_m4 199 rfl) rfl
theorem q1205 : (Jvm.Cond.instanceMethod ({ cls := "ElectionHouse", name := "person", desc := "(III)I" } : Jvm.MethodName)) ∈ lw_all := lw_g (lw_at lw_m4 204 rfl) rfl
theorem q1206 : (Jvm.Cond.selects "ElectionHouse" ({ cls := "ElectionHouse", name := "person", desc := "(III)I" } : Jvm.MethodName) ({ cls := "ElectionHouse", name := "person", desc := "(III)I" } : Jvm.MethodName)) ∈ lw_all := lw_g (lw_at lw_m4 205 rfl) rfl
theorem q1207 : (Jvm.Cond.code ({ cls := "ElectionHouse", name := "person", desc := "(III)I" } : Jvm.MethodName) prog_1_method_13_code (4 : Nat) (Option.some Jvm.ClassFile.FieldType.int)) ∈ lw_all := lw_g (lw_at lw_m4 206 rfl) rfl
theorem q1208 : (Jvm.Cond.methodLink "ElectionHouse" (203 : Nat) ({ cls := "ElectionHouse$Days", name := "is", desc := "(IIII)Z" } : Jvm.MethodName)) ∈ lw_all := lw_g (lw_at lw_m4 207 rfl) rfl
theorem q1218 : (Jvm.Cond.methodLink "ElectionHouse" (207 : Nat) ({ cls := "ElectionHouse$Person", name := "<init>", desc := "(III)V" } : Jvm.MethodName)) ∈ lw_all := lw_g (lw_at lw_m4 217 rfl) rfl
theorem q1230 : (Jvm.Cond.fieldLinkNest "ElectionHouse" (226 : Nat) "ElectionHouse$Person" "born" "I" "ElectionHouse") ∈ lw_tbl := lw_at lw_m4 229 rfl
theorem q1233 : (Jvm.Cond.fieldLinkNest "ElectionHouse" (229 : Nat) "ElectionHouse$Person" "isDead" "Z" "ElectionHouse") ∈ lw_tbl := lw_at lw_m4 232 rfl
theorem q1237 : (Jvm.Cond.fieldLinkNest "ElectionHouse" (213 : Nat) "ElectionHouse$Person" "moves" "I" "ElectionHouse") ∈ lw_tbl := lw_at lw_m4 236 rfl
theorem q1243 : (Jvm.Cond.fieldLinkNest "ElectionHouse" (220 : Nat) "ElectionHouse$Person" "facts" "I" "ElectionHouse") ∈ lw_tbl := lw_at lw_m5 2 rfl
theorem q1274 : (Jvm.Cond.instanceMethod ({ cls := "ElectionHouse", name := "move", desc := "(III)I" } : Jvm.MethodName)) ∈ lw_all := lw_g (lw_at lw_m5 33 rfl) rfl
theorem q1275 : (Jvm.Cond.selects "ElectionHouse" ({ cls := "ElectionHouse", name := "move", desc := "(III)I" } : Jvm.MethodName) ({ cls := "ElectionHouse", name := "move", desc := "(III)I" } : Jvm.MethodName)) ∈ lw_all := lw_g (lw_at lw_m5 34 rfl) rfl
theorem q1276 : (Jvm.Cond.code ({ cls := "ElectionHouse", name := "move", desc := "(III)I" } : Jvm.MethodName) prog_1_method_14_code (4 : Nat) (Option.some Jvm.ClassFile.FieldType.int)) ∈ lw_all := lw_g (lw_at lw_m5 35 rfl) rfl
theorem q1277 : (Jvm.Cond.methodLink "ElectionHouse" (210 : Nat) ({ cls := "ElectionHouse", name := "isPerson", desc := "(I)Z" } : Jvm.MethodName)) ∈ lw_all := lw_g (lw_at lw_m5 36 rfl) rfl
theorem q1278 : (Jvm.Cond.privateMethod ({ cls := "ElectionHouse", name := "isPerson", desc := "(I)Z" } : Jvm.MethodName)) ∈ lw_tbl := lw_at lw_m5 37 rfl
theorem q1279 : (Jvm.Cond.instanceMethod ({ cls := "ElectionHouse", name := "isPerson", desc := "(I)Z" } : Jvm.MethodName)) ∈ lw_all := lw_g (lw_at lw_m5 38 rfl) rfl
theorem q1280 : (Jvm.Cond.code ({ cls := "ElectionHouse", name := "isPerson", desc := "(I)Z" } : Jvm.MethodName) prog_1_method_12_code (2 : Nat) (Option.some Jvm.ClassFile.FieldType.boolean)) ∈ lw_all := lw_g (lw_at lw_m5 39 rfl) rfl
theorem q1281 : (Jvm.Cond.methodLink "ElectionHouse" (216 : Nat) ({ cls := "ElectionHouse$Person", name := "move", desc := "(II)I" } : Jvm.MethodName)) ∈ lw_all := lw_g (lw_at lw_m5 40 rfl) rfl
theorem q1286 : (Jvm.Cond.instanceMethod ({ cls := "ElectionHouse", name := "fact", desc := "(IIIII)I" } : Jvm.MethodName)) ∈ lw_all := lw_g (lw_at lw_m5 45 rfl) rfl
theorem q1287 : (Jvm.Cond.selects "ElectionHouse" ({ cls := "ElectionHouse", name := "fact", desc := "(IIIII)I" } : Jvm.MethodName) ({ cls := "ElectionHouse", name := "fact", desc := "(IIIII)I" } : Jvm.MethodName)) ∈ lw_all := lw_g (lw_at lw_m5 46 rfl) rfl
theorem q1288 : (Jvm.Cond.code ({ cls := "ElectionHouse", name := "fact", desc := "(IIIII)I" } : Jvm.MethodName) prog_1_method_15_code (6 : Nat) (Option.some Jvm.ClassFile.FieldType.int)) ∈ lw_all := lw_g (lw_at lw_m5 47 rfl) rfl
theorem q1289 : (Jvm.Cond.methodLink "ElectionHouse" (223 : Nat) ({ cls := "ElectionHouse$Person", name := "fact", desc := "(IIII)I" } : Jvm.MethodName)) ∈ lw_all := lw_g (lw_at lw_m5 48 rfl) rfl
theorem q1294 : (Jvm.Cond.instanceMethod ({ cls := "ElectionHouse", name := "die", desc := "(II)I" } : Jvm.MethodName)) ∈ lw_all := lw_g (lw_at lw_m5 53 rfl) rfl
theorem q1295 : (Jvm.Cond.selects "ElectionHouse" ({ cls := "ElectionHouse", name := "die", desc := "(II)I" } : Jvm.MethodName) ({ cls := "ElectionHouse", name := "die", desc := "(II)I" } : Jvm.MethodName)) ∈ lw_all := lw_g (lw_at lw_m5 54 rfl) rfl
theorem q1296 : (Jvm.Cond.code ({ cls := "ElectionHouse", name := "die", desc := "(II)I" } : Jvm.MethodName) prog_1_method_16_code (3 : Nat) (Option.some Jvm.ClassFile.FieldType.int)) ∈ lw_all := lw_g (lw_at lw_m5 55 rfl) rfl
theorem q1297 : (Jvm.Cond.methodLink "ElectionHouse" (233 : Nat) ({ cls := "ElectionHouse$Person", name := "die", desc := "(I)V" } : Jvm.MethodName)) ∈ lw_all := lw_g (lw_at lw_m5 56 rfl) rfl
theorem q1302 : (Jvm.Cond.instanceMethod ({ cls := "ElectionHouse", name := "age", desc := "(II)I" } : Jvm.MethodName)) ∈ lw_all := lw_g (lw_at lw_m5 61 rfl) rfl
theorem q1303 : (Jvm.Cond.selects "ElectionHouse" ({ cls := "ElectionHouse", name := "age", desc := "(II)I" } : Jvm.MethodName) ({ cls := "ElectionHouse", name := "age", desc := "(II)I" } : Jvm.MethodName)) ∈ lw_all := lw_g (lw_at lw_m5 62 rfl) rfl
theorem q1304 : (Jvm.Cond.code ({ cls := "ElectionHouse", name := "age", desc := "(II)I" } : Jvm.MethodName) prog_1_method_17_code (3 : Nat) (Option.some Jvm.ClassFile.FieldType.int)) ∈ lw_all := lw_g (lw_at lw_m5 63 rfl) rfl
theorem q1305 : (Jvm.Cond.methodLink "ElectionHouse" (243 : Nat) ({ cls := "ElectionHouse$Person", name := "age", desc := "(IZ)I" } : Jvm.MethodName)) ∈ lw_all := lw_g (lw_at lw_m5 64 rfl) rfl
theorem q1315 : (Jvm.Cond.instanceMethod ({ cls := "ElectionHouse", name := "addressOf", desc := "(II)I" } : Jvm.MethodName)) ∈ lw_all := lw_g (lw_at lw_m5 74 rfl) rfl
theorem q1316 : (Jvm.Cond.selects "ElectionHouse" ({ cls := "ElectionHouse", name := "addressOf", desc := "(II)I" } : Jvm.MethodName) ({ cls := "ElectionHouse", name := "addressOf", desc := "(II)I" } : Jvm.MethodName)) ∈ lw_all := lw_g (lw_at lw_m5 75 rfl) rfl
theorem q1317 : (Jvm.Cond.code ({ cls := "ElectionHouse", name := "addressOf", desc := "(II)I" } : Jvm.MethodName) prog_1_method_18_code (3 : Nat) (Option.some Jvm.ClassFile.FieldType.int)) ∈ lw_all := lw_g (lw_at lw_m5 76 rfl) rfl
theorem q1318 : (Jvm.Cond.methodLink "ElectionHouse" (247 : Nat) ({ cls := "ElectionHouse$Person", name := "address", desc := "(I)I" } : Jvm.MethodName)) ∈ lw_all := lw_g (lw_at lw_m5 77 rfl) rfl
theorem q1323 : (Jvm.Cond.instanceMethod ({ cls := "ElectionHouse", name := "is", desc := "(III)I" } : Jvm.MethodName)) ∈ lw_all := lw_g (lw_at lw_m5 82 rfl) rfl
theorem q1324 : (Jvm.Cond.selects "ElectionHouse" ({ cls := "ElectionHouse", name := "is", desc := "(III)I" } : Jvm.MethodName) ({ cls := "ElectionHouse", name := "is", desc := "(III)I" } : Jvm.MethodName)) ∈ lw_all := lw_g (lw_at lw_m5 83 rfl) rfl
theorem q1325 : (Jvm.Cond.code ({ cls := "ElectionHouse", name := "is", desc := "(III)I" } : Jvm.MethodName) prog_1_method_19_code (4 : Nat) (Option.some Jvm.ClassFile.FieldType.int)) ∈ lw_all := lw_g (lw_at lw_m5 84 rfl) rfl
theorem q1326 : (Jvm.Cond.methodLink "ElectionHouse" (250 : Nat) ({ cls := "ElectionHouse$Person", name := "is", desc := "(II)I" } : Jvm.MethodName)) ∈ lw_all := lw_g (lw_at lw_m5 85 rfl) rfl
theorem q1332 : (Jvm.Cond.instanceMethod ({ cls := "ElectionHouse", name := "law", desc := "()I" } : Jvm.MethodName)) ∈ lw_all := lw_g (lw_at lw_m5 91 rfl) rfl
theorem q1333 : (Jvm.Cond.selects "ElectionHouse" ({ cls := "ElectionHouse", name := "law", desc := "()I" } : Jvm.MethodName) ({ cls := "ElectionHouse", name := "law", desc := "()I" } : Jvm.MethodName)) ∈ lw_all := lw_g (lw_at lw_m5 92 rfl) rfl
theorem q1334 : (Jvm.Cond.code ({ cls := "ElectionHouse", name := "law", desc := "()I" } : Jvm.MethodName) prog_1_method_20_code (4 : Nat) (Option.some Jvm.ClassFile.FieldType.int)) ∈ lw_all := lw_g (lw_at lw_m5 93 rfl) rfl
theorem q1335 : (Jvm.Cond.methodLink "ElectionHouse" (252 : Nat) ({ cls := "ElectionHouse$Reader", name := "read", desc := "(LElectionHouse$Law;I)I" } : Jvm.MethodName)) ∈ lw_all := lw_g (lw_at lw_m5 94 rfl) rfl
theorem q1568 : (Jvm.Cond.methodLink "ElectionHouse" (256 : Nat) ({ cls := "ElectionHouse", name := "begin", desc := "()V" } : Jvm.MethodName)) ∈ lw_all := lw_g (lw_at lw_m6 87 rfl) rfl
theorem q1569 : (Jvm.Cond.privateMethod ({ cls := "ElectionHouse", name := "begin", desc := "()V" } : Jvm.MethodName)) ∈ lw_tbl := lw_at lw_m6 88 rfl
theorem q1570 : (Jvm.Cond.instanceMethod ({ cls := "ElectionHouse", name := "begin", desc := "()V" } : Jvm.MethodName)) ∈ lw_all := lw_g (lw_at lw_m6 89 rfl) rfl
theorem q1571 : (Jvm.Cond.code ({ cls := "ElectionHouse", name := "begin", desc := "()V" } : Jvm.MethodName) prog_1_method_21_code (2 : Nat) (Option.none : Option Jvm.ClassFile.FieldType)) ∈ lw_all := lw_g (lw_at lw_m6 90 rfl) rfl
theorem q1572 : (Jvm.Cond.methodLink "ElectionHouse" (261 : Nat) ({ cls := "ElectionHouse$Contest", name := "begin", desc := "()V" } : Jvm.MethodName)) ∈ lw_all := lw_g (lw_at lw_m6 91 rfl) rfl
theorem q1576 : (Jvm.Cond.methodLink "ElectionHouse" (280 : Nat) ({ cls := "java/util/Arrays", name := "fill", desc := "([II)V" } : Jvm.MethodName)) ∈ lw_all := lw_g (lw_at lw_m6 95 rfl) rfl
theorem q1579 : (Jvm.Cond.methodLink "ElectionHouse" (286 : Nat) ({ cls := "ElectionHouse$Box", name := "begin", desc := "()V" } : Jvm.MethodName)) ∈ lw_all := lw_g (lw_at lw_m6 98 rfl) rfl
theorem q1584 : (Jvm.Cond.instanceMethod ({ cls := "ElectionHouse", name := "days", desc := "(I)I" } : Jvm.MethodName)) ∈ lw_all := lw_g (lw_at lw_m6 103 rfl) rfl
theorem q1585 : (Jvm.Cond.selects "ElectionHouse" ({ cls := "ElectionHouse", name := "days", desc := "(I)I" } : Jvm.MethodName) ({ cls := "ElectionHouse", name := "days", desc := "(I)I" } : Jvm.MethodName)) ∈ lw_all := lw_g (lw_at lw_m6 104 rfl) rfl
theorem q1586 : (Jvm.Cond.code ({ cls := "ElectionHouse", name := "days", desc := "(I)I" } : Jvm.MethodName) prog_1_method_22_code (2 : Nat) (Option.some Jvm.ClassFile.FieldType.int)) ∈ lw_all := lw_g (lw_at lw_m6 105 rfl) rfl
theorem q1588 : (Jvm.Cond.instanceMethod ({ cls := "ElectionHouse", name := "contest", desc := "(II)I" } : Jvm.MethodName)) ∈ lw_all := lw_g (lw_at lw_m6 107 rfl) rfl
theorem q1589 : (Jvm.Cond.selects "ElectionHouse" ({ cls := "ElectionHouse", name := "contest", desc := "(II)I" } : Jvm.MethodName) ({ cls := "ElectionHouse", name := "contest", desc := "(II)I" } : Jvm.MethodName)) ∈ lw_all := lw_g (lw_at lw_m6 108 rfl) rfl
theorem q1590 : (Jvm.Cond.code ({ cls := "ElectionHouse", name := "contest", desc := "(II)I" } : Jvm.MethodName) prog_1_method_24_code (4 : Nat) (Option.some Jvm.ClassFile.FieldType.int)) ∈ lw_all := lw_g (lw_at lw_m6 109 rfl) rfl
theorem q1591 : (Jvm.Cond.methodLink "ElectionHouse" (296 : Nat) ({ cls := "ElectionHouse", name := "isContest", desc := "(I)Z" } : Jvm.MethodName)) ∈ lw_all := lw_g (lw_at lw_m6 110 rfl) rfl
theorem q1592 : (Jvm.Cond.privateMethod ({ cls := "ElectionHouse", name := "isContest", desc := "(I)Z" } : Jvm.MethodName)) ∈ lw_tbl := lw_at lw_m6 111 rfl
theorem q1593 : (Jvm.Cond.instanceMethod ({ cls := "ElectionHouse", name := "isContest", desc := "(I)Z" } : Jvm.MethodName)) ∈ lw_all := lw_g (lw_at lw_m6 112 rfl) rfl
theorem q1594 : (Jvm.Cond.code ({ cls := "ElectionHouse", name := "isContest", desc := "(I)Z" } : Jvm.MethodName) prog_1_method_23_code (2 : Nat) (Option.some Jvm.ClassFile.FieldType.boolean)) ∈ lw_all := lw_g (lw_at lw_m6 113 rfl) rfl
theorem q1595 : (Jvm.Cond.methodLink "ElectionHouse" (320 : Nat) ({ cls := "ElectionHouse$Contest", name := "struck", desc := "()I" } : Jvm.MethodName)) ∈ lw_all := lw_g (lw_at lw_m6 114 rfl) rfl
theorem q1600 : (Jvm.Cond.instanceMethod ({ cls := "ElectionHouse", name := "may", desc := "(II)I" } : Jvm.MethodName)) ∈ lw_all := lw_g (lw_at lw_m6 119 rfl) rfl
theorem q1601 : (Jvm.Cond.selects "ElectionHouse" ({ cls := "ElectionHouse", name := "may", desc := "(II)I" } : Jvm.MethodName) ({ cls := "ElectionHouse", name := "may", desc := "(II)I" } : Jvm.MethodName)) ∈ lw_all := lw_g (lw_at lw_m6 120 rfl) rfl
theorem q1602 : (Jvm.Cond.code ({ cls := "ElectionHouse", name := "may", desc := "(II)I" } : Jvm.MethodName) prog_1_method_26_code (4 : Nat) (Option.some Jvm.ClassFile.FieldType.int)) ∈ lw_all := lw_g (lw_at lw_m6 121 rfl) rfl
theorem q1603 : (Jvm.Cond.methodLink "ElectionHouse" (328 : Nat) ({ cls := "ElectionHouse$Law", name := "may", desc := "(LElectionHouse$Clause;LElectionHouse$Person;LElectionHouse$Land;)Z" } : Jvm.MethodName)) ∈ lw_all := lw_g (lw_at lw_m6 122 rfl) rfl
theorem q1624 : (Jvm.Cond.methodLink "ElectionHouse" (335 : Nat) ({ cls := "ElectionHouse$Law", name := "fails", desc := "(LElectionHouse$Clause;LElectionHouse$Person;LElectionHouse$Land;)I" } : Jvm.MethodName)) ∈ lw_all := lw_g (lw_at lw_m6 143 rfl) rfl
theorem q1629 : (Jvm.Cond.instanceMethod ({ cls := "ElectionHouse", name := "place", desc := "()I" } : Jvm.MethodName)) ∈ lw_all := lw_g (lw_at lw_m6 148 rfl) rfl
theorem q1630 : (Jvm.Cond.selects "ElectionHouse" ({ cls := "ElectionHouse", name := "place", desc := "()I" } : Jvm.MethodName) ({ cls := "ElectionHouse", name := "place", desc := "()I" } : Jvm.MethodName)) ∈ lw_all := lw_g (lw_at lw_m6 149 rfl) rfl
theorem q1631 : (Jvm.Cond.code ({ cls := "ElectionHouse", name := "place", desc := "()I" } : Jvm.MethodName) prog_1_method_27_code (1 : Nat) (Option.some Jvm.ClassFile.FieldType.int)) ∈ lw_all := lw_g (lw_at lw_m6 150 rfl) rfl
theorem q1633 : (Jvm.Cond.instanceMethod ({ cls := "ElectionHouse", name := "stand", desc := "(III)I" } : Jvm.MethodName)) ∈ lw_all := lw_g (lw_at lw_m6 152 rfl) rfl
theorem q1634 : (Jvm.Cond.selects "ElectionHouse" ({ cls := "ElectionHouse", name := "stand", desc := "(III)I" } : Jvm.MethodName) ({ cls := "ElectionHouse", name := "stand", desc := "(III)I" } : Jvm.MethodName)) ∈ lw_all := lw_g (lw_at lw_m6 153 rfl) rfl
theorem q1635 : (Jvm.Cond.code ({ cls := "ElectionHouse", name := "stand", desc := "(III)I" } : Jvm.MethodName) prog_1_method_28_code (5 : Nat) (Option.some Jvm.ClassFile.FieldType.int)) ∈ lw_all := lw_g (lw_at lw_m6 154 rfl) rfl
theorem q1636 : (Jvm.Cond.methodLink "ElectionHouse" (339 : Nat) ({ cls := "ElectionHouse$Person", name := "isAlive", desc := "(I)Z" } : Jvm.MethodName)) ∈ lw_all := lw_g (lw_at lw_m6 155 rfl) rfl
theorem q1640 : (Jvm.Cond.methodLink "ElectionHouse" (342 : Nat) ({ cls := "ElectionHouse$Contest", name := "hasPerson", desc := "(I)Z" } : Jvm.MethodName)) ∈ lw_all := lw_g (lw_at lw_m6 159 rfl) rfl
theorem q1645 : (Jvm.Cond.methodLink "ElectionHouse" (348 : Nat) ({ cls := "ElectionHouse$Nomination", name := "<init>", desc := "(III)V" } : Jvm.MethodName)) ∈ lw_all := lw_g (lw_at lw_m6 164 rfl) rfl
theorem q1650 : (Jvm.Cond.fieldLinkNest "ElectionHouse" (358 : Nat) "ElectionHouse$Nomination" "contest" "I" "ElectionHouse") ∈ lw_tbl := lw_at lw_m6 169 rfl
theorem q1653 : (Jvm.Cond.fieldLinkNest "ElectionHouse" (377 : Nat) "ElectionHouse$Nomination" "person" "I" "ElectionHouse") ∈ lw_tbl := lw_at lw_m6 172 rfl
theorem q1656 : (Jvm.Cond.fieldLinkNest "ElectionHouse" (380 : Nat) "ElectionHouse$Nomination" "party" "I" "ElectionHouse") ∈ lw_tbl := lw_at lw_m6 175 rfl
theorem q1657 : (Jvm.Cond.fieldLinkNest "ElectionHouse" (364 : Nat) "ElectionHouse$Nomination" "signers" "J" "ElectionHouse") ∈ lw_tbl := lw_at lw_m6 176 rfl
theorem q1658 : (Jvm.Cond.fieldLinkNest "ElectionHouse" (371 : Nat) "ElectionHouse$Nomination" "signatures" "I" "ElectionHouse") ∈ lw_tbl := lw_at lw_m6 177 rfl
theorem q1659 : (Jvm.Cond.fieldLinkNest "ElectionHouse" (352 : Nat) "ElectionHouse$Nomination" "isWithdrawn" "Z" "ElectionHouse") ∈ lw_tbl := lw_at lw_m6 178 rfl
theorem q1660 : (Jvm.Cond.fieldLinkNest "ElectionHouse" (374 : Nat) "ElectionHouse$Nomination" "state" "I" "ElectionHouse") ∈ lw_tbl := lw_at lw_m6 179 rfl
theorem q1663 : (Jvm.Cond.fieldLinkNest "ElectionHouse" (383 : Nat) "ElectionHouse$Nomination" "candidate" "I" "ElectionHouse") ∈ lw_tbl := lw_at lw_m6 182 rfl
theorem q1682 : (Jvm.Cond.instanceMethod ({ cls := "ElectionHouse", name := "sign", desc := "(II)I" } : Jvm.MethodName)) ∈ lw_all := lw_g (lw_at lw_m6 201 rfl) rfl
theorem q1683 : (Jvm.Cond.selects "ElectionHouse" ({ cls := "ElectionHouse", name := "sign", desc := "(II)I" } : Jvm.MethodName) ({ cls := "ElectionHouse", name := "sign", desc := "(II)I" } : Jvm.MethodName)) ∈ lw_all := lw_g (lw_at lw_m6 202 rfl) rfl
theorem q1684 : (Jvm.Cond.code ({ cls := "ElectionHouse", name := "sign", desc := "(II)I" } : Jvm.MethodName) prog_1_method_30_code (6 : Nat) (Option.some Jvm.ClassFile.FieldType.int)) ∈ lw_all := lw_g (lw_at lw_m6 203 rfl) rfl
theorem q1685 : (Jvm.Cond.methodLink "ElectionHouse" (349 : Nat) ({ cls := "ElectionHouse", name := "isNomination", desc := "(I)Z" } : Jvm.MethodName)) ∈ lw_all := lw_g (lw_at lw_m6 204 rfl) rfl
theorem q1686 : (Jvm.Cond.privateMethod ({ cls := "ElectionHouse", name := "isNomination", desc := "(I)Z" } : Jvm.MethodName)) ∈ lw_tbl := lw_at lw_m6 205 rfl
theorem q1687 : (Jvm.Cond.instanceMethod ({ cls := "ElectionHouse", name := "isNomination", desc := "(I)Z" } : Jvm.MethodName)) ∈ lw_all := lw_g (lw_at lw_m6 206 rfl) rfl
theorem q1688 : (Jvm.Cond.code ({ cls := "ElectionHouse", name := "isNomination", desc := "(I)Z" } : Jvm.MethodName) prog_1_method_29_code (2 : Nat) (Option.some Jvm.ClassFile.FieldType.boolean)) ∈ lw_all := lw_g (lw_at lw_m6 207 rfl) rfl
theorem q1689 : (Jvm.Cond.methodLink "ElectionHouse" (355 : Nat) ({ cls := "ElectionHouse", name := "mayVote", desc := "(I)Z" } : Jvm.MethodName)) ∈ lw_all := lw_g (lw_at lw_m6 208 rfl) rfl
theorem q1690 : (Jvm.Cond.privateMethod ({ cls := "ElectionHouse", name := "mayVote", desc := "(I)Z" } : Jvm.MethodName)) ∈ lw_tbl := lw_at lw_m6 209 rfl
theorem q1691 : (Jvm.Cond.instanceMethod ({ cls := "ElectionHouse", name := "mayVote", desc := "(I)Z" } : Jvm.MethodName)) ∈ lw_all := lw_g (lw_at lw_m6 210 rfl) rfl
theorem q1692 : (Jvm.Cond.code ({ cls := "ElectionHouse", name := "mayVote", desc := "(I)Z" } : Jvm.MethodName) prog_1_method_25_code (2 : Nat) (Option.some Jvm.ClassFile.FieldType.boolean)) ∈ lw_all := lw_g (lw_at lw_m6 211 rfl) rfl
theorem q1693 : (Jvm.Cond.methodLink "ElectionHouse" (361 : Nat) ({ cls := "ElectionHouse$Land", name := "isIn", desc := "(III)Z" } : Jvm.MethodName)) ∈ lw_all := lw_g (lw_at lw_m6 212 rfl) rfl
theorem q1695 : (Jvm.Cond.instanceMethod ({ cls := "ElectionHouse", name := "withdraw", desc := "(I)I" } : Jvm.MethodName)) ∈ lw_all := lw_g (lw_at lw_m6 214 rfl) rfl
theorem q1696 : (Jvm.Cond.selects "ElectionHouse" ({ cls := "ElectionHouse", name := "withdraw", desc := "(I)I" } : Jvm.MethodName) ({ cls := "ElectionHouse", name := "withdraw", desc := "(I)I" } : Jvm.MethodName)) ∈ lw_all := lw_g (lw_at lw_m6 215 rfl) rfl
theorem q1697 : (Jvm.Cond.code ({ cls := "ElectionHouse", name := "withdraw", desc := "(I)I" } : Jvm.MethodName) prog_1_method_31_code (2 : Nat) (Option.some Jvm.ClassFile.FieldType.int)) ∈ lw_all := lw_g (lw_at lw_m6 216 rfl) rfl
theorem q1699 : (Jvm.Cond.instanceMethod ({ cls := "ElectionHouse", name := "nomination", desc := "(II)I" } : Jvm.MethodName)) ∈ lw_all := lw_g (lw_at lw_m6 218 rfl) rfl
theorem q1700 : (Jvm.Cond.selects "ElectionHouse" ({ cls := "ElectionHouse", name := "nomination", desc := "(II)I" } : Jvm.MethodName) ({ cls := "ElectionHouse", name := "nomination", desc := "(II)I" } : Jvm.MethodName)) ∈ lw_all := lw_g (lw_at lw_m6 219 rfl) rfl
theorem q1701 : (Jvm.Cond.code ({ cls := "ElectionHouse", name := "nomination", desc := "(II)I" } : Jvm.MethodName) prog_1_method_32_code (4 : Nat) (Option.some Jvm.ClassFile.FieldType.int)) ∈ lw_all := lw_g (lw_at lw_m6 220 rfl) rfl
theorem q1703 : (Jvm.Cond.instanceMethod ({ cls := "ElectionHouse", name := "freeze", desc := "()I" } : Jvm.MethodName)) ∈ lw_all := lw_g (lw_at lw_m6 222 rfl) rfl
theorem q1704 : (Jvm.Cond.selects "ElectionHouse" ({ cls := "ElectionHouse", name := "freeze", desc := "()I" } : Jvm.MethodName) ({ cls := "ElectionHouse", name := "freeze", desc := "()I" } : Jvm.MethodName)) ∈ lw_all := lw_g (lw_at lw_m6 223 rfl) rfl
theorem q1705 : (Jvm.Cond.code ({ cls := "ElectionHouse", name := "freeze", desc := "()I" } : Jvm.MethodName) prog_1_method_36_code (3 : Nat) (Option.some Jvm.ClassFile.FieldType.int)) ∈ lw_all := lw_g (lw_at lw_m6 224 rfl) rfl
theorem q1706 : (Jvm.Cond.methodLink "ElectionHouse" (390 : Nat) ({ cls := "ElectionHouse", name := "nominate", desc := "()V" } : Jvm.MethodName)) ∈ lw_all := lw_g (lw_at lw_m6 225 rfl) rfl
theorem q1707 : (Jvm.Cond.privateMethod ({ cls := "ElectionHouse", name := "nominate", desc := "()V" } : Jvm.MethodName)) ∈ lw_tbl := lw_at lw_m6 226 rfl
theorem q1708 : (Jvm.Cond.instanceMethod ({ cls := "ElectionHouse", name := "nominate", desc := "()V" } : Jvm.MethodName)) ∈ lw_all := lw_g (lw_at lw_m6 227 rfl) rfl
theorem q1709 : (Jvm.Cond.code ({ cls := "ElectionHouse", name := "nominate", desc := "()V" } : Jvm.MethodName) prog_1_method_35_code (3 : Nat) (Option.none : Option Jvm.ClassFile.FieldType)) ∈ lw_all := lw_g (lw_at lw_m6 228 rfl) rfl
theorem q1710 : (Jvm.Cond.methodLink "ElectionHouse" (387 : Nat) ({ cls := "ElectionHouse$Contest", name := "add", desc := "(LElectionHouse$Nomination;I)V" } : Jvm.MethodName)) ∈ lw_all := lw_g (lw_at lw_m6 229 rfl) rfl
theorem q1714 : (Jvm.Cond.methodLink "ElectionHouse" (393 : Nat) ({ cls := "ElectionHouse", name := "sheetOf", desc := "(I)I" } : Jvm.MethodName)) ∈ lw_all := lw_g (lw_at lw_m6 233 rfl) rfl
theorem q1715 : (Jvm.Cond.privateMethod ({ cls := "ElectionHouse", name := "sheetOf", desc := "(I)I" } : Jvm.MethodName)) ∈ lw_tbl := lw_at lw_m6 234 rfl
theorem q1716 : (Jvm.Cond.instanceMethod ({ cls := "ElectionHouse", name := "sheetOf", desc := "(I)I" } : Jvm.MethodName)) ∈ lw_all := lw_g (lw_at lw_m6 235 rfl) rfl
theorem q1717 : (Jvm.Cond.code ({ cls := "ElectionHouse", name := "sheetOf", desc := "(I)I" } : Jvm.MethodName) prog_1_method_33_code (6 : Nat) (Option.some Jvm.ClassFile.FieldType.int)) ∈ lw_all := lw_g (lw_at lw_m6 236 rfl) rfl
theorem q1718 : (Jvm.Cond.methodLink "ElectionHouse" (396 : Nat) ({ cls := "ElectionHouse", name := "enroll", desc := "(II)V" } : Jvm.MethodName)) ∈ lw_all := lw_g (lw_at lw_m6 237 rfl) rfl
theorem q1719 : (Jvm.Cond.privateMethod ({ cls := "ElectionHouse", name := "enroll", desc := "(II)V" } : Jvm.MethodName)) ∈ lw_tbl := lw_at lw_m6 238 rfl
theorem q1720 : (Jvm.Cond.instanceMethod ({ cls := "ElectionHouse", name := "enroll", desc := "(II)V" } : Jvm.MethodName)) ∈ lw_all := lw_g (lw_at lw_m6 239 rfl) rfl
theorem q1721 : (Jvm.Cond.code ({ cls := "ElectionHouse", name := "enroll", desc := "(II)V" } : Jvm.MethodName) prog_1_method_34_code (3 : Nat) (Option.none : Option Jvm.ClassFile.FieldType)) ∈ lw_all := lw_g (lw_at lw_m7 0 rfl) rfl
theorem q1723 : (Jvm.Cond.instanceMethod ({ cls := "ElectionHouse", name := "roll", desc := "(II)I" } : Jvm.MethodName)) ∈ lw_all := lw_g (lw_at lw_m7 2 rfl) rfl
theorem q1724 : (Jvm.Cond.selects "ElectionHouse" ({ cls := "ElectionHouse", name := "roll", desc := "(II)I" } : Jvm.MethodName) ({ cls := "ElectionHouse", name := "roll", desc := "(II)I" } : Jvm.MethodName)) ∈ lw_all := lw_g (lw_at lw_m7 3 rfl) rfl
theorem q1725 : (Jvm.Cond.code ({ cls := "ElectionHouse", name := "roll", desc := "(II)I" } : Jvm.MethodName) prog_1_method_37_code (3 : Nat) (Option.some Jvm.ClassFile.FieldType.int)) ∈ lw_all := lw_g (lw_at lw_m7 4 rfl) rfl
theorem q1727 : (Jvm.Cond.instanceMethod ({ cls := "ElectionHouse", name := "appeal", desc := "(II)I" } : Jvm.MethodName)) ∈ lw_all := lw_g (lw_at lw_m7 6 rfl) rfl
theorem q1728 : (Jvm.Cond.selects "ElectionHouse" ({ cls := "ElectionHouse", name := "appeal", desc := "(II)I" } : Jvm.MethodName) ({ cls := "ElectionHouse", name := "appeal", desc := "(II)I" } : Jvm.MethodName)) ∈ lw_all := lw_g (lw_at lw_m7 7 rfl) rfl
theorem q1729 : (Jvm.Cond.code ({ cls := "ElectionHouse", name := "appeal", desc := "(II)I" } : Jvm.MethodName) prog_1_method_40_code (3 : Nat) (Option.some Jvm.ClassFile.FieldType.int)) ∈ lw_all := lw_g (lw_at lw_m7 8 rfl) rfl
theorem q1731 : (Jvm.Cond.instanceMethod ({ cls := "ElectionHouse", name := "decide", desc := "(II)I" } : Jvm.MethodName)) ∈ lw_all := lw_g (lw_at lw_m7 10 rfl) rfl
theorem q1732 : (Jvm.Cond.selects "ElectionHouse" ({ cls := "ElectionHouse", name := "decide", desc := "(II)I" } : Jvm.MethodName) ({ cls := "ElectionHouse", name := "decide", desc := "(II)I" } : Jvm.MethodName)) ∈ lw_all := lw_g (lw_at lw_m7 11 rfl) rfl
theorem q1733 : (Jvm.Cond.code ({ cls := "ElectionHouse", name := "decide", desc := "(II)I" } : Jvm.MethodName) prog_1_method_41_code (7 : Nat) (Option.some Jvm.ClassFile.FieldType.int)) ∈ lw_all := lw_g (lw_at lw_m7 12 rfl) rfl
theorem q1734 : (Jvm.Cond.methodLink "ElectionHouse" (400 : Nat) ({ cls := "ElectionHouse", name := "onRoll", desc := "()I" } : Jvm.MethodName)) ∈ lw_all := lw_g (lw_at lw_m7 13 rfl) rfl
theorem q1735 : (Jvm.Cond.privateMethod ({ cls := "ElectionHouse", name := "onRoll", desc := "()I" } : Jvm.MethodName)) ∈ lw_tbl := lw_at lw_m7 14 rfl
theorem q1736 : (Jvm.Cond.instanceMethod ({ cls := "ElectionHouse", name := "onRoll", desc := "()I" } : Jvm.MethodName)) ∈ lw_all := lw_g (lw_at lw_m7 15 rfl) rfl
theorem q1737 : (Jvm.Cond.code ({ cls := "ElectionHouse", name := "onRoll", desc := "()I" } : Jvm.MethodName) prog_1_method_39_code (3 : Nat) (Option.some Jvm.ClassFile.FieldType.int)) ∈ lw_all := lw_g (lw_at lw_m7 16 rfl) rfl
theorem q1739 : (Jvm.Cond.instanceMethod ({ cls := "ElectionHouse", name := "sheets", desc := "(II)I" } : Jvm.MethodName)) ∈ lw_all := lw_g (lw_at lw_m7 18 rfl) rfl
theorem q1740 : (Jvm.Cond.selects "ElectionHouse" ({ cls := "ElectionHouse", name := "sheets", desc := "(II)I" } : Jvm.MethodName) ({ cls := "ElectionHouse", name := "sheets", desc := "(II)I" } : Jvm.MethodName)) ∈ lw_all := lw_g (lw_at lw_m7 19 rfl) rfl
theorem q1741 : (Jvm.Cond.code ({ cls := "ElectionHouse", name := "sheets", desc := "(II)I" } : Jvm.MethodName) prog_1_method_43_code (6 : Nat) (Option.some Jvm.ClassFile.FieldType.int)) ∈ lw_all := lw_g (lw_at lw_m7 20 rfl) rfl
theorem q1742 : (Jvm.Cond.methodLink "ElectionHouse" (403 : Nat) ({ cls := "ElectionHouse", name := "nextSheet", desc := "(I)I" } : Jvm.MethodName)) ∈ lw_all := lw_g (lw_at lw_m7 21 rfl) rfl
theorem q1743 : (Jvm.Cond.privateMethod ({ cls := "ElectionHouse", name := "nextSheet", desc := "(I)I" } : Jvm.MethodName)) ∈ lw_tbl := lw_at lw_m7 22 rfl
theorem q1744 : (Jvm.Cond.instanceMethod ({ cls := "ElectionHouse", name := "nextSheet", desc := "(I)I" } : Jvm.MethodName)) ∈ lw_all := lw_g (lw_at lw_m7 23 rfl) rfl
theorem q1745 : (Jvm.Cond.code ({ cls := "ElectionHouse", name := "nextSheet", desc := "(I)I" } : Jvm.MethodName) prog_1_method_42_code (5 : Nat) (Option.some Jvm.ClassFile.FieldType.int)) ∈ lw_all := lw_g (lw_at lw_m7 24 rfl) rfl
theorem q1747 : (Jvm.Cond.instanceMethod ({ cls := "ElectionHouse", name := "candidate", desc := "(III)I" } : Jvm.MethodName)) ∈ lw_all := lw_g (lw_at lw_m7 26 rfl) rfl
theorem q1748 : (Jvm.Cond.selects "ElectionHouse" ({ cls := "ElectionHouse", name := "candidate", desc := "(III)I" } : Jvm.MethodName) ({ cls := "ElectionHouse", name := "candidate", desc := "(III)I" } : Jvm.MethodName)) ∈ lw_all := lw_g (lw_at lw_m7 27 rfl) rfl
theorem q1749 : (Jvm.Cond.code ({ cls := "ElectionHouse", name := "candidate", desc := "(III)I" } : Jvm.MethodName) prog_1_method_45_code (5 : Nat) (Option.some Jvm.ClassFile.FieldType.int)) ∈ lw_all := lw_g (lw_at lw_m7 28 rfl) rfl
theorem q1750 : (Jvm.Cond.methodLink "ElectionHouse" (406 : Nat) ({ cls := "ElectionHouse", name := "isCandidate", desc := "(II)Z" } : Jvm.MethodName)) ∈ lw_all := lw_g (lw_at lw_m7 29 rfl) rfl
theorem q1751 : (Jvm.Cond.privateMethod ({ cls := "ElectionHouse", name := "isCandidate", desc := "(II)Z" } : Jvm.MethodName)) ∈ lw_tbl := lw_at lw_m7 30 rfl
theorem q1752 : (Jvm.Cond.instanceMethod ({ cls := "ElectionHouse", name := "isCandidate", desc := "(II)Z" } : Jvm.MethodName)) ∈ lw_all := lw_g (lw_at lw_m7 31 rfl) rfl
theorem q1753 : (Jvm.Cond.code ({ cls := "ElectionHouse", name := "isCandidate", desc := "(II)Z" } : Jvm.MethodName) prog_1_method_44_code (3 : Nat) (Option.some Jvm.ClassFile.FieldType.boolean)) ∈ lw_all := lw_g (lw_at lw_m7 32 rfl) rfl
theorem q1755 : (Jvm.Cond.instanceMethod ({ cls := "ElectionHouse", name := "lots", desc := "(IJ)I" } : Jvm.MethodName)) ∈ lw_all := lw_g (lw_at lw_m7 34 rfl) rfl
theorem q1756 : (Jvm.Cond.selects "ElectionHouse" ({ cls := "ElectionHouse", name := "lots", desc := "(IJ)I" } : Jvm.MethodName) ({ cls := "ElectionHouse", name := "lots", desc := "(IJ)I" } : Jvm.MethodName)) ∈ lw_all := lw_g (lw_at lw_m7 35 rfl) rfl
theorem q1757 : (Jvm.Cond.code ({ cls := "ElectionHouse", name := "lots", desc := "(IJ)I" } : Jvm.MethodName) prog_1_method_46_code (4 : Nat) (Option.some Jvm.ClassFile.FieldType.int)) ∈ lw_all := lw_g (lw_at lw_m7 36 rfl) rfl
theorem q1758 : (Jvm.Cond.methodLink "ElectionHouse" (426 : Nat) ({ cls := "ElectionHouse$Contest", name := "draw", desc := "(J)V" } : Jvm.MethodName)) ∈ lw_all := lw_g (lw_at lw_m7 37 rfl) rfl
theorem q1763 : (Jvm.Cond.static ({ cls := "ElectionHouse", name := "stepped", desc := "(J)J" } : Jvm.MethodName)) ∈ lw_all := lw_g (lw_at lw_m7 42 rfl) rfl
theorem q1764 : (Jvm.Cond.code ({ cls := "ElectionHouse", name := "stepped", desc := "(J)J" } : Jvm.MethodName) prog_1_method_2_code (2 : Nat) (Option.some Jvm.ClassFile.FieldType.long)) ∈ lw_all := lw_g (lw_at lw_m7 43 rfl) rfl
theorem q1765 : (Jvm.Cond.constantLong "ElectionHouse" (3 : Nat) (6364136223846793005 : Int64)) ∈ lw_all := lw_g (lw_at lw_m7 44 rfl) rfl
theorem q1766 : (Jvm.Cond.constantLong "ElectionHouse" (5 : Nat) (1442695040888963407 : Int64)) ∈ lw_all := lw_g (lw_at lw_m7 45 rfl) rfl
theorem q1768 : (Jvm.Cond.static ({ cls := "ElectionHouse", name := "placeOf", desc := "(JI)I" } : Jvm.MethodName)) ∈ lw_all := lw_g (lw_at lw_m7 47 rfl) rfl
theorem q1769 : (Jvm.Cond.code ({ cls := "ElectionHouse", name := "placeOf", desc := "(JI)I" } : Jvm.MethodName) prog_1_method_3_code (3 : Nat) (Option.some Jvm.ClassFile.FieldType.int)) ∈ lw_all := lw_g (lw_at lw_m7 48 rfl) rfl
theorem q1771 : (Jvm.Cond.instanceMethod ({ cls := "ElectionHouse", name := "station", desc := "()I" } : Jvm.MethodName)) ∈ lw_all := lw_g (lw_at lw_m7 50 rfl) rfl
theorem q1772 : (Jvm.Cond.selects "ElectionHouse" ({ cls := "ElectionHouse", name := "station", desc := "()I" } : Jvm.MethodName) ({ cls := "ElectionHouse", name := "station", desc := "()I" } : Jvm.MethodName)) ∈ lw_all := lw_g (lw_at lw_m7 51 rfl) rfl
theorem q1773 : (Jvm.Cond.code ({ cls := "ElectionHouse", name := "station", desc := "()I" } : Jvm.MethodName) prog_1_method_47_code (1 : Nat) (Option.some Jvm.ClassFile.FieldType.int)) ∈ lw_all := lw_g (lw_at lw_m7 52 rfl) rfl
theorem q1775 : (Jvm.Cond.instanceMethod ({ cls := "ElectionHouse", name := "clock", desc := "(II)I" } : Jvm.MethodName)) ∈ lw_all := lw_g (lw_at lw_m7 54 rfl) rfl
theorem q1776 : (Jvm.Cond.selects "ElectionHouse" ({ cls := "ElectionHouse", name := "clock", desc := "(II)I" } : Jvm.MethodName) ({ cls := "ElectionHouse", name := "clock", desc := "(II)I" } : Jvm.MethodName)) ∈ lw_all := lw_g (lw_at lw_m7 55 rfl) rfl
theorem q1777 : (Jvm.Cond.code ({ cls := "ElectionHouse", name := "clock", desc := "(II)I" } : Jvm.MethodName) prog_1_method_51_code (4 : Nat) (Option.some Jvm.ClassFile.FieldType.int)) ∈ lw_all := lw_g (lw_at lw_m7 56 rfl) rfl
theorem q1778 : (Jvm.Cond.methodLink "ElectionHouse" (430 : Nat) ({ cls := "ElectionHouse", name := "isStation", desc := "(I)Z" } : Jvm.MethodName)) ∈ lw_all := lw_g (lw_at lw_m7 57 rfl) rfl
theorem q1779 : (Jvm.Cond.privateMethod ({ cls := "ElectionHouse", name := "isStation", desc := "(I)Z" } : Jvm.MethodName)) ∈ lw_tbl := lw_at lw_m7 58 rfl
theorem q1780 : (Jvm.Cond.instanceMethod ({ cls := "ElectionHouse", name := "isStation", desc := "(I)Z" } : Jvm.MethodName)) ∈ lw_all := lw_g (lw_at lw_m7 59 rfl) rfl
theorem q1781 : (Jvm.Cond.code ({ cls := "ElectionHouse", name := "isStation", desc := "(I)Z" } : Jvm.MethodName) prog_1_method_48_code (2 : Nat) (Option.some Jvm.ClassFile.FieldType.boolean)) ∈ lw_all := lw_g (lw_at lw_m7 60 rfl) rfl
theorem q1783 : (Jvm.Cond.instanceMethod ({ cls := "ElectionHouse", name := "cutLine", desc := "(I)I" } : Jvm.MethodName)) ∈ lw_all := lw_g (lw_at lw_m7 62 rfl) rfl
theorem q1784 : (Jvm.Cond.selects "ElectionHouse" ({ cls := "ElectionHouse", name := "cutLine", desc := "(I)I" } : Jvm.MethodName) ({ cls := "ElectionHouse", name := "cutLine", desc := "(I)I" } : Jvm.MethodName)) ∈ lw_all := lw_g (lw_at lw_m7 63 rfl) rfl
theorem q1785 : (Jvm.Cond.code ({ cls := "ElectionHouse", name := "cutLine", desc := "(I)I" } : Jvm.MethodName) prog_1_method_52_code (3 : Nat) (Option.some Jvm.ClassFile.FieldType.int)) ∈ lw_all := lw_g (lw_at lw_m7 64 rfl) rfl
theorem q1786 : (Jvm.Cond.methodLink "ElectionHouse" (439 : Nat) ({ cls := "ElectionHouse", name := "knownTo", desc := "(II)I" } : Jvm.MethodName)) ∈ lw_all := lw_g (lw_at lw_m7 65 rfl) rfl
theorem q1787 : (Jvm.Cond.privateMethod ({ cls := "ElectionHouse", name := "knownTo", desc := "(II)I" } : Jvm.MethodName)) ∈ lw_tbl := lw_at lw_m7 66 rfl
theorem q1788 : (Jvm.Cond.instanceMethod ({ cls := "ElectionHouse", name := "knownTo", desc := "(II)I" } : Jvm.MethodName)) ∈ lw_all := lw_g (lw_at lw_m7 67 rfl) rfl
theorem q1789 : (Jvm.Cond.code ({ cls := "ElectionHouse", name := "knownTo", desc := "(II)I" } : Jvm.MethodName) prog_1_method_53_code (4 : Nat) (Option.some Jvm.ClassFile.FieldType.int)) ∈ lw_all := lw_g (lw_at lw_m7 68 rfl) rfl
theorem q1791 : (Jvm.Cond.instanceMethod ({ cls := "ElectionHouse", name := "mend", desc := "(I)I" } : Jvm.MethodName)) ∈ lw_all := lw_g (lw_at lw_m7 70 rfl) rfl
theorem q1792 : (Jvm.Cond.selects "ElectionHouse" ({ cls := "ElectionHouse", name := "mend", desc := "(I)I" } : Jvm.MethodName) ({ cls := "ElectionHouse", name := "mend", desc := "(I)I" } : Jvm.MethodName)) ∈ lw_all := lw_g (lw_at lw_m7 71 rfl) rfl
theorem q1793 : (Jvm.Cond.code ({ cls := "ElectionHouse", name := "mend", desc := "(I)I" } : Jvm.MethodName) prog_1_method_58_code (7 : Nat) (Option.some Jvm.ClassFile.FieldType.int)) ∈ lw_all := lw_g (lw_at lw_m7 72 rfl) rfl
theorem q1794 : (Jvm.Cond.methodLink "ElectionHouse" (475 : Nat) ({ cls := "ElectionHouse", name := "sortIssues", desc := "(I)I" } : Jvm.MethodName)) ∈ lw_all := lw_g (lw_at lw_m7 73 rfl) rfl
theorem q1795 : (Jvm.Cond.privateMethod ({ cls := "ElectionHouse", name := "sortIssues", desc := "(I)I" } : Jvm.MethodName)) ∈ lw_tbl := lw_at lw_m7 74 rfl
theorem q1796 : (Jvm.Cond.instanceMethod ({ cls := "ElectionHouse", name := "sortIssues", desc := "(I)I" } : Jvm.MethodName)) ∈ lw_all := lw_g (lw_at lw_m7 75 rfl) rfl
theorem q1797 : (Jvm.Cond.code ({ cls := "ElectionHouse", name := "sortIssues", desc := "(I)I" } : Jvm.MethodName) prog_1_method_57_code (6 : Nat) (Option.some Jvm.ClassFile.FieldType.int)) ∈ lw_all := lw_g (lw_at lw_m7 76 rfl) rfl
theorem q1798 : (Jvm.Cond.methodLink "ElectionHouse" (458 : Nat) ({ cls := "ElectionHouse$Issue", name := "isBefore", desc := "(LElectionHouse$Issue;)Z" } : Jvm.MethodName)) ∈ lw_all := lw_g (lw_at lw_m7 77 rfl) rfl
theorem q1802 : (Jvm.Cond.methodLink "ElectionHouse" (450 : Nat) ({ cls := "ElectionHouse$Issue", name := "lives", desc := "()Z" } : Jvm.MethodName)) ∈ lw_all := lw_g (lw_at lw_m7 81 rfl) rfl
theorem q1809 : (Jvm.Cond.methodLink "ElectionHouse" (478 : Nat) ({ cls := "ElectionHouse", name := "settle", desc := "(LElectionHouse$Issue;)V" } : Jvm.MethodName)) ∈ lw_all := lw_g (lw_at lw_m7 88 rfl) rfl
theorem q1810 : (Jvm.Cond.privateMethod ({ cls := "ElectionHouse", name := "settle", desc := "(LElectionHouse$Issue;)V" } : Jvm.MethodName)) ∈ lw_tbl := lw_at lw_m7 89 rfl
theorem q1811 : (Jvm.Cond.instanceMethod ({ cls := "ElectionHouse", name := "settle", desc := "(LElectionHouse$Issue;)V" } : Jvm.MethodName)) ∈ lw_all := lw_g (lw_at lw_m7 90 rfl) rfl
theorem q1812 : (Jvm.Cond.code ({ cls := "ElectionHouse", name := "settle", desc := "(LElectionHouse$Issue;)V" } : Jvm.MethodName) prog_1_method_55_code (4 : Nat) (Option.none : Option Jvm.ClassFile.FieldType)) ∈ lw_all := lw_g (lw_at lw_m7 91 rfl) rfl
theorem q1813 : (Jvm.Cond.methodLink "ElectionHouse" (454 : Nat) ({ cls := "ElectionHouse", name := "rivalOf", desc := "(LElectionHouse$Issue;)LElectionHouse$Issue;" } : Jvm.MethodName)) ∈ lw_all := lw_g (lw_at lw_m7 92 rfl) rfl
theorem q1814 : (Jvm.Cond.privateMethod ({ cls := "ElectionHouse", name := "rivalOf", desc := "(LElectionHouse$Issue;)LElectionHouse$Issue;" } : Jvm.MethodName)) ∈ lw_tbl := lw_at lw_m7 93 rfl
theorem q1815 : (Jvm.Cond.instanceMethod ({ cls := "ElectionHouse", name := "rivalOf", desc := "(LElectionHouse$Issue;)LElectionHouse$Issue;" } : Jvm.MethodName)) ∈ lw_all := lw_g (lw_at lw_m7 94 rfl) rfl
theorem q1816 : (Jvm.Cond.code ({ cls := "ElectionHouse", name := "rivalOf", desc := "(LElectionHouse$Issue;)LElectionHouse$Issue;" } : Jvm.MethodName) prog_1_method_54_code (4 : Nat) (Option.some (Jvm.ClassFile.FieldType.object "ElectionHouse$Issue"))) ∈ lw_all := lw_g (lw_at lw_m7 95 rfl) rfl
theorem q1817 : (Jvm.Cond.methodLink "ElectionHouse" (482 : Nat) ({ cls := "ElectionHouse", name := "intoBox", desc := "(LElectionHouse$Issue;)V" } : Jvm.MethodName)) ∈ lw_all := lw_g (lw_at lw_m7 96 rfl) rfl
theorem q1818 : (Jvm.Cond.privateMethod ({ cls := "ElectionHouse", name := "intoBox", desc := "(LElectionHouse$Issue;)V" } : Jvm.MethodName)) ∈ lw_tbl := lw_at lw_m7 97 rfl
theorem q1819 : (Jvm.Cond.instanceMethod ({ cls := "ElectionHouse", name := "intoBox", desc := "(LElectionHouse$Issue;)V" } : Jvm.MethodName)) ∈ lw_all := lw_g (lw_at lw_m7 98 rfl) rfl
theorem q1820 : (Jvm.Cond.code ({ cls := "ElectionHouse", name := "intoBox", desc := "(LElectionHouse$Issue;)V" } : Jvm.MethodName) prog_1_method_56_code (2 : Nat) (Option.none : Option Jvm.ClassFile.FieldType)) ∈ lw_all := lw_g (lw_at lw_m7 99 rfl) rfl
theorem q1821 : (Jvm.Cond.methodLink "ElectionHouse" (468 : Nat) ({ cls := "ElectionHouse", name := "fieldsOf", desc := "(I)I" } : Jvm.MethodName)) ∈ lw_all := lw_g (lw_at lw_m7 100 rfl) rfl
theorem q1822 : (Jvm.Cond.privateMethod ({ cls := "ElectionHouse", name := "fieldsOf", desc := "(I)I" } : Jvm.MethodName)) ∈ lw_tbl := lw_at lw_m7 101 rfl
theorem q1823 : (Jvm.Cond.instanceMethod ({ cls := "ElectionHouse", name := "fieldsOf", desc := "(I)I" } : Jvm.MethodName)) ∈ lw_all := lw_g (lw_at lw_m7 102 rfl) rfl
theorem q1824 : (Jvm.Cond.code ({ cls := "ElectionHouse", name := "fieldsOf", desc := "(I)I" } : Jvm.MethodName) prog_1_method_64_code (4 : Nat) (Option.some Jvm.ClassFile.FieldType.int)) ∈ lw_all := lw_g (lw_at lw_m7 103 rfl) rfl
theorem q1825 : (Jvm.Cond.methodLink "ElectionHouse" (471 : Nat) ({ cls := "ElectionHouse$Box", name := "put", desc := "(I[BI)V" } : Jvm.MethodName)) ∈ lw_all := lw_g (lw_at lw_m7 104 rfl) rfl
theorem q1835 : (Jvm.Cond.instanceMethod ({ cls := "ElectionHouse", name := "checkIn", desc := "(II)I" } : Jvm.MethodName)) ∈ lw_all := lw_g (lw_at lw_m7 114 rfl) rfl
theorem q1836 : (Jvm.Cond.selects "ElectionHouse" ({ cls := "ElectionHouse", name := "checkIn", desc := "(II)I" } : Jvm.MethodName) ({ cls := "ElectionHouse", name := "checkIn", desc := "(II)I" } : Jvm.MethodName)) ∈ lw_all := lw_g (lw_at lw_m7 115 rfl) rfl
theorem q1837 : (Jvm.Cond.code ({ cls := "ElectionHouse", name := "checkIn", desc := "(II)I" } : Jvm.MethodName) prog_1_method_61_code (5 : Nat) (Option.some Jvm.ClassFile.FieldType.int)) ∈ lw_all := lw_g (lw_at lw_m7 116 rfl) rfl
theorem q1838 : (Jvm.Cond.methodLink "ElectionHouse" (489 : Nat) ({ cls := "ElectionHouse", name := "isVoting", desc := "()Z" } : Jvm.MethodName)) ∈ lw_all := lw_g (lw_at lw_m7 117 rfl) rfl
theorem q1839 : (Jvm.Cond.privateMethod ({ cls := "ElectionHouse", name := "isVoting", desc := "()Z" } : Jvm.MethodName)) ∈ lw_tbl := lw_at lw_m7 118 rfl
theorem q1840 : (Jvm.Cond.instanceMethod ({ cls := "ElectionHouse", name := "isVoting", desc := "()Z" } : Jvm.MethodName)) ∈ lw_all := lw_g (lw_at lw_m7 119 rfl) rfl
theorem q1841 : (Jvm.Cond.code ({ cls := "ElectionHouse", name := "isVoting", desc := "()Z" } : Jvm.MethodName) prog_1_method_50_code (1 : Nat) (Option.some Jvm.ClassFile.FieldType.boolean)) ∈ lw_all := lw_g (lw_at lw_m7 120 rfl) rfl
theorem q1842 : (Jvm.Cond.methodLink "ElectionHouse" (492 : Nat) ({ cls := "ElectionHouse", name := "isOnRoll", desc := "(I)Z" } : Jvm.MethodName)) ∈ lw_all := lw_g (lw_at lw_m7 121 rfl) rfl
theorem q1843 : (Jvm.Cond.privateMethod ({ cls := "ElectionHouse", name := "isOnRoll", desc := "(I)Z" } : Jvm.MethodName)) ∈ lw_tbl := lw_at lw_m7 122 rfl
theorem q1844 : (Jvm.Cond.instanceMethod ({ cls := "ElectionHouse", name := "isOnRoll", desc := "(I)Z" } : Jvm.MethodName)) ∈ lw_all := lw_g (lw_at lw_m7 123 rfl) rfl
theorem q1845 : (Jvm.Cond.code ({ cls := "ElectionHouse", name := "isOnRoll", desc := "(I)Z" } : Jvm.MethodName) prog_1_method_38_code (2 : Nat) (Option.some Jvm.ClassFile.FieldType.boolean)) ∈ lw_all := lw_g (lw_at lw_m7 124 rfl) rfl
theorem q1846 : (Jvm.Cond.methodLink "ElectionHouse" (495 : Nat) ({ cls := "ElectionHouse", name := "hasIssue", desc := "(II)Z" } : Jvm.MethodName)) ∈ lw_all := lw_g (lw_at lw_m7 125 rfl) rfl
theorem q1847 : (Jvm.Cond.privateMethod ({ cls := "ElectionHouse", name := "hasIssue", desc := "(II)Z" } : Jvm.MethodName)) ∈ lw_tbl := lw_at lw_m7 126 rfl
theorem q1848 : (Jvm.Cond.instanceMethod ({ cls := "ElectionHouse", name := "hasIssue", desc := "(II)Z" } : Jvm.MethodName)) ∈ lw_all := lw_g (lw_at lw_m7 127 rfl) rfl
theorem q1849 : (Jvm.Cond.code ({ cls := "ElectionHouse", name := "hasIssue", desc := "(II)Z" } : Jvm.MethodName) prog_1_method_59_code (7 : Nat) (Option.some Jvm.ClassFile.FieldType.boolean)) ∈ lw_all := lw_g (lw_at lw_m7 128 rfl) rfl
theorem q1850 : (Jvm.Cond.methodLink "ElectionHouse" (485 : Nat) ({ cls := "ElectionHouse$Issue", name := "lives", desc := "(I)Z" } : Jvm.MethodName)) ∈ lw_all := lw_g (lw_at lw_m7 129 rfl) rfl
theorem q1851 : (Jvm.Cond.methodLink "ElectionHouse" (498 : Nat) ({ cls := "ElectionHouse", name := "give", desc := "(IIIZ)I" } : Jvm.MethodName)) ∈ lw_all := lw_g (lw_at lw_m7 130 rfl) rfl
theorem q1852 : (Jvm.Cond.privateMethod ({ cls := "ElectionHouse", name := "give", desc := "(IIIZ)I" } : Jvm.MethodName)) ∈ lw_tbl := lw_at lw_m7 131 rfl
theorem q1853 : (Jvm.Cond.instanceMethod ({ cls := "ElectionHouse", name := "give", desc := "(IIIZ)I" } : Jvm.MethodName)) ∈ lw_all := lw_g (lw_at lw_m7 132 rfl) rfl
theorem q1854 : (Jvm.Cond.code ({ cls := "ElectionHouse", name := "give", desc := "(IIIZ)I" } : Jvm.MethodName) prog_1_method_60_code (6 : Nat) (Option.some Jvm.ClassFile.FieldType.int)) ∈ lw_all := lw_g (lw_at lw_m7 133 rfl) rfl
theorem q1856 : (Jvm.Cond.methodLink "ElectionHouse" (487 : Nat) ({ cls := "ElectionHouse$Issue", name := "<init>", desc := "(IIIII)V" } : Jvm.MethodName)) ∈ lw_all := lw_g (lw_at lw_m7 135 rfl) rfl
theorem q1862 : (Jvm.Cond.fieldLinkNest "ElectionHouse" (449 : Nat) "ElectionHouse$Issue" "person" "I" "ElectionHouse") ∈ lw_tbl := lw_at lw_m7 141 rfl
theorem q1864 : (Jvm.Cond.fieldLinkNest "ElectionHouse" (442 : Nat) "ElectionHouse$Issue" "station" "I" "ElectionHouse") ∈ lw_tbl := lw_at lw_m7 143 rfl
theorem q1866 : (Jvm.Cond.fieldLinkNest "ElectionHouse" (529 : Nat) "ElectionHouse$Issue" "time" "I" "ElectionHouse") ∈ lw_tbl := lw_at lw_m7 145 rfl
theorem q1868 : (Jvm.Cond.fieldLinkNest "ElectionHouse" (462 : Nat) "ElectionHouse$Issue" "sheet" "I" "ElectionHouse") ∈ lw_tbl := lw_at lw_m7 147 rfl
theorem q1869 : (Jvm.Cond.fieldLinkNest "ElectionHouse" (446 : Nat) "ElectionHouse$Issue" "isJoined" "Z" "ElectionHouse") ∈ lw_tbl := lw_at lw_m7 148 rfl
theorem q1871 : (Jvm.Cond.fieldLinkNest "ElectionHouse" (445 : Nat) "ElectionHouse$Issue" "state" "I" "ElectionHouse") ∈ lw_tbl := lw_at lw_m7 150 rfl
theorem q1873 : (Jvm.Cond.fieldLinkNest "ElectionHouse" (465 : Nat) "ElectionHouse$Issue" "marks" "[B" "ElectionHouse") ∈ lw_tbl := lw_at lw_m7 152 rfl
theorem q1892 : (Jvm.Cond.instanceMethod ({ cls := "ElectionHouse", name := "spoil", desc := "(I)I" } : Jvm.MethodName)) ∈ lw_all := lw_g (lw_at lw_m7 171 rfl) rfl
theorem q1893 : (Jvm.Cond.selects "ElectionHouse" ({ cls := "ElectionHouse", name := "spoil", desc := "(I)I" } : Jvm.MethodName) ({ cls := "ElectionHouse", name := "spoil", desc := "(I)I" } : Jvm.MethodName)) ∈ lw_all := lw_g (lw_at lw_m7 172 rfl) rfl
theorem q1894 : (Jvm.Cond.code ({ cls := "ElectionHouse", name := "spoil", desc := "(I)I" } : Jvm.MethodName) prog_1_method_63_code (5 : Nat) (Option.some Jvm.ClassFile.FieldType.int)) ∈ lw_all := lw_g (lw_at lw_m7 173 rfl) rfl
theorem q1895 : (Jvm.Cond.methodLink "ElectionHouse" (502 : Nat) ({ cls := "ElectionHouse", name := "isIssue", desc := "(I)Z" } : Jvm.MethodName)) ∈ lw_all := lw_g (lw_at lw_m7 174 rfl) rfl
theorem q1896 : (Jvm.Cond.privateMethod ({ cls := "ElectionHouse", name := "isIssue", desc := "(I)Z" } : Jvm.MethodName)) ∈ lw_tbl := lw_at lw_m7 175 rfl
theorem q1897 : (Jvm.Cond.instanceMethod ({ cls := "ElectionHouse", name := "isIssue", desc := "(I)Z" } : Jvm.MethodName)) ∈ lw_all := lw_g (lw_at lw_m7 176 rfl) rfl
theorem q1898 : (Jvm.Cond.code ({ cls := "ElectionHouse", name := "isIssue", desc := "(I)Z" } : Jvm.MethodName) prog_1_method_62_code (2 : Nat) (Option.some Jvm.ClassFile.FieldType.boolean)) ∈ lw_all := lw_g (lw_at lw_m7 177 rfl) rfl
theorem q1900 : (Jvm.Cond.instanceMethod ({ cls := "ElectionHouse", name := "put", desc := "(I)I" } : Jvm.MethodName)) ∈ lw_all := lw_g (lw_at lw_m7 179 rfl) rfl
theorem q1901 : (Jvm.Cond.selects "ElectionHouse" ({ cls := "ElectionHouse", name := "put", desc := "(I)I" } : Jvm.MethodName) ({ cls := "ElectionHouse", name := "put", desc := "(I)I" } : Jvm.MethodName)) ∈ lw_all := lw_g (lw_at lw_m7 180 rfl) rfl
theorem q1902 : (Jvm.Cond.code ({ cls := "ElectionHouse", name := "put", desc := "(I)I" } : Jvm.MethodName) prog_1_method_66_code (4 : Nat) (Option.some Jvm.ClassFile.FieldType.int)) ∈ lw_all := lw_g (lw_at lw_m7 181 rfl) rfl
theorem q1903 : (Jvm.Cond.methodLink "ElectionHouse" (508 : Nat) ({ cls := "ElectionHouse", name := "isSheet", desc := "(II)Z" } : Jvm.MethodName)) ∈ lw_all := lw_g (lw_at lw_m7 182 rfl) rfl
theorem q1904 : (Jvm.Cond.privateMethod ({ cls := "ElectionHouse", name := "isSheet", desc := "(II)Z" } : Jvm.MethodName)) ∈ lw_tbl := lw_at lw_m7 183 rfl
theorem q1905 : (Jvm.Cond.instanceMethod ({ cls := "ElectionHouse", name := "isSheet", desc := "(II)Z" } : Jvm.MethodName)) ∈ lw_all := lw_g (lw_at lw_m7 184 rfl) rfl
theorem q1906 : (Jvm.Cond.code ({ cls := "ElectionHouse", name := "isSheet", desc := "(II)Z" } : Jvm.MethodName) prog_1_method_65_code (5 : Nat) (Option.some Jvm.ClassFile.FieldType.boolean)) ∈ lw_all := lw_g (lw_at lw_m7 185 rfl) rfl
theorem q1907 : (Jvm.Cond.methodLink "ElectionHouse" (511 : Nat) ({ cls := "java/lang/System", name := "arraycopy", desc := "(Ljava/lang/Object;ILjava/lang/Object;II)V" } : Jvm.MethodName)) ∈ lw_all := lw_g (lw_at lw_m7 186 rfl) rfl
theorem q1909 : (Jvm.Cond.instanceMethod ({ cls := "ElectionHouse", name := "ask", desc := "(I)I" } : Jvm.MethodName)) ∈ lw_all := lw_g (lw_at lw_m7 188 rfl) rfl
theorem q1910 : (Jvm.Cond.selects "ElectionHouse" ({ cls := "ElectionHouse", name := "ask", desc := "(I)I" } : Jvm.MethodName) ({ cls := "ElectionHouse", name := "ask", desc := "(I)I" } : Jvm.MethodName)) ∈ lw_all := lw_g (lw_at lw_m7 189 rfl) rfl
theorem q1911 : (Jvm.Cond.code ({ cls := "ElectionHouse", name := "ask", desc := "(I)I" } : Jvm.MethodName) prog_1_method_68_code (2 : Nat) (Option.some Jvm.ClassFile.FieldType.int)) ∈ lw_all := lw_g (lw_at lw_m7 190 rfl) rfl
theorem q1912 : (Jvm.Cond.methodLink "ElectionHouse" (517 : Nat) ({ cls := "ElectionHouse", name := "isMailing", desc := "()Z" } : Jvm.MethodName)) ∈ lw_all := lw_g (lw_at lw_m7 191 rfl) rfl
theorem q1913 : (Jvm.Cond.privateMethod ({ cls := "ElectionHouse", name := "isMailing", desc := "()Z" } : Jvm.MethodName)) ∈ lw_tbl := lw_at lw_m7 192 rfl
theorem q1914 : (Jvm.Cond.instanceMethod ({ cls := "ElectionHouse", name := "isMailing", desc := "()Z" } : Jvm.MethodName)) ∈ lw_all := lw_g (lw_at lw_m7 193 rfl) rfl
theorem q1915 : (Jvm.Cond.code ({ cls := "ElectionHouse", name := "isMailing", desc := "()Z" } : Jvm.MethodName) prog_1_method_67_code (1 : Nat) (Option.some Jvm.ClassFile.FieldType.boolean)) ∈ lw_all := lw_g (lw_at lw_m7 194 rfl) rfl
theorem q1916 : (Jvm.Cond.methodLink "ElectionHouse" (520 : Nat) ({ cls := "ElectionHouse", name := "hasJoined", desc := "(I)Z" } : Jvm.MethodName)) ∈ lw_all := lw_g (lw_at lw_m7 195 rfl) rfl
theorem q1917 : (Jvm.Cond.privateMethod ({ cls := "ElectionHouse", name := "hasJoined", desc := "(I)Z" } : Jvm.MethodName)) ∈ lw_tbl := lw_at lw_m7 196 rfl
theorem q1918 : (Jvm.Cond.instanceMethod ({ cls := "ElectionHouse", name := "hasJoined", desc := "(I)Z" } : Jvm.MethodName)) ∈ lw_all := lw_g (lw_at lw_m7 197 rfl) rfl
theorem q1919 : (Jvm.Cond.code ({ cls := "ElectionHouse", name := "hasJoined", desc := "(I)Z" } : Jvm.MethodName) prog_1_method_69_code (4 : Nat) (Option.some Jvm.ClassFile.FieldType.boolean)) ∈ lw_all := lw_g (lw_at lw_m7 198 rfl) rfl
theorem q1921 : (Jvm.Cond.instanceMethod ({ cls := "ElectionHouse", name := "arrive", desc := "(II)I" } : Jvm.MethodName)) ∈ lw_all := lw_g (lw_at lw_m7 200 rfl) rfl
theorem q1922 : (Jvm.Cond.selects "ElectionHouse" ({ cls := "ElectionHouse", name := "arrive", desc := "(II)I" } : Jvm.MethodName) ({ cls := "ElectionHouse", name := "arrive", desc := "(II)I" } : Jvm.MethodName)) ∈ lw_all := lw_g (lw_at lw_m7 201 rfl) rfl
theorem q1923 : (Jvm.Cond.code ({ cls := "ElectionHouse", name := "arrive", desc := "(II)I" } : Jvm.MethodName) prog_1_method_70_code (5 : Nat) (Option.some Jvm.ClassFile.FieldType.int)) ∈ lw_all := lw_g (lw_at lw_m7 202 rfl) rfl
theorem q1925 : (Jvm.Cond.instanceMethod ({ cls := "ElectionHouse", name := "open", desc := "()I" } : Jvm.MethodName)) ∈ lw_all := lw_g (lw_at lw_m7 204 rfl) rfl
theorem q1926 : (Jvm.Cond.selects "ElectionHouse" ({ cls := "ElectionHouse", name := "open", desc := "()I" } : Jvm.MethodName) ({ cls := "ElectionHouse", name := "open", desc := "()I" } : Jvm.MethodName)) ∈ lw_all := lw_g (lw_at lw_m7 205 rfl) rfl
theorem q1927 : (Jvm.Cond.code ({ cls := "ElectionHouse", name := "open", desc := "()I" } : Jvm.MethodName) prog_1_method_71_code (3 : Nat) (Option.some Jvm.ClassFile.FieldType.int)) ∈ lw_all := lw_g (lw_at lw_m7 206 rfl) rfl
theorem q1929 : (Jvm.Cond.instanceMethod ({ cls := "ElectionHouse", name := "close", desc := "(I)I" } : Jvm.MethodName)) ∈ lw_all := lw_g (lw_at lw_m7 208 rfl) rfl
theorem q1930 : (Jvm.Cond.selects "ElectionHouse" ({ cls := "ElectionHouse", name := "close", desc := "(I)I" } : Jvm.MethodName) ({ cls := "ElectionHouse", name := "close", desc := "(I)I" } : Jvm.MethodName)) ∈ lw_all := lw_g (lw_at lw_m7 209 rfl) rfl
theorem q1931 : (Jvm.Cond.code ({ cls := "ElectionHouse", name := "close", desc := "(I)I" } : Jvm.MethodName) prog_1_method_72_code (5 : Nat) (Option.some Jvm.ClassFile.FieldType.int)) ∈ lw_all := lw_g (lw_at lw_m7 210 rfl) rfl
theorem q1932 : (Jvm.Cond.methodLink "ElectionHouse" (523 : Nat) ({ cls := "ElectionHouse", name := "isBox", desc := "(I)Z" } : Jvm.MethodName)) ∈ lw_all := lw_g (lw_at lw_m7 211 rfl) rfl
theorem q1933 : (Jvm.Cond.privateMethod ({ cls := "ElectionHouse", name := "isBox", desc := "(I)Z" } : Jvm.MethodName)) ∈ lw_tbl := lw_at lw_m7 212 rfl
theorem q1934 : (Jvm.Cond.instanceMethod ({ cls := "ElectionHouse", name := "isBox", desc := "(I)Z" } : Jvm.MethodName)) ∈ lw_all := lw_g (lw_at lw_m7 213 rfl) rfl
theorem q1935 : (Jvm.Cond.code ({ cls := "ElectionHouse", name := "isBox", desc := "(I)Z" } : Jvm.MethodName) prog_1_method_49_code (2 : Nat) (Option.some Jvm.ClassFile.FieldType.boolean)) ∈ lw_all := lw_g (lw_at lw_m7 214 rfl) rfl
theorem q1936 : (Jvm.Cond.methodLink "ElectionHouse" (526 : Nat) ({ cls := "ElectionHouse$Box", name := "close", desc := "()V" } : Jvm.MethodName)) ∈ lw_all := lw_g (lw_at lw_m7 215 rfl) rfl
theorem q1941 : (Jvm.Cond.instanceMethod ({ cls := "ElectionHouse", name := "issue", desc := "(II)I" } : Jvm.MethodName)) ∈ lw_all := lw_g (lw_at lw_m7 220 rfl) rfl
theorem q1942 : (Jvm.Cond.selects "ElectionHouse" ({ cls := "ElectionHouse", name := "issue", desc := "(II)I" } : Jvm.MethodName) ({ cls := "ElectionHouse", name := "issue", desc := "(II)I" } : Jvm.MethodName)) ∈ lw_all := lw_g (lw_at lw_m7 221 rfl) rfl
theorem q1943 : (Jvm.Cond.code ({ cls := "ElectionHouse", name := "issue", desc := "(II)I" } : Jvm.MethodName) prog_1_method_73_code (4 : Nat) (Option.some Jvm.ClassFile.FieldType.int)) ∈ lw_all := lw_g (lw_at lw_m7 222 rfl) rfl
theorem q1945 : (Jvm.Cond.instanceMethod ({ cls := "ElectionHouse", name := "knows", desc := "(II)I" } : Jvm.MethodName)) ∈ lw_all := lw_g (lw_at lw_m7 224 rfl) rfl
theorem q1946 : (Jvm.Cond.selects "ElectionHouse" ({ cls := "ElectionHouse", name := "knows", desc := "(II)I" } : Jvm.MethodName) ({ cls := "ElectionHouse", name := "knows", desc := "(II)I" } : Jvm.MethodName)) ∈ lw_all := lw_g (lw_at lw_m7 225 rfl) rfl
theorem q1947 : (Jvm.Cond.code ({ cls := "ElectionHouse", name := "knows", desc := "(II)I" } : Jvm.MethodName) prog_1_method_74_code (3 : Nat) (Option.some Jvm.ClassFile.FieldType.int)) ∈ lw_all := lw_g (lw_at lw_m7 226 rfl) rfl
theorem q1949 : (Jvm.Cond.instanceMethod ({ cls := "ElectionHouse", name := "box", desc := "(II)I" } : Jvm.MethodName)) ∈ lw_all := lw_g (lw_at lw_m7 228 rfl) rfl
theorem q1950 : (Jvm.Cond.selects "ElectionHouse" ({ cls := "ElectionHouse", name := "box", desc := "(II)I" } : Jvm.MethodName) ({ cls := "ElectionHouse", name := "box", desc := "(II)I" } : Jvm.MethodName)) ∈ lw_all := lw_g (lw_at lw_m7 229 rfl) rfl
theorem q1951 : (Jvm.Cond.code ({ cls := "ElectionHouse", name := "box", desc := "(II)I" } : Jvm.MethodName) prog_1_method_75_code (3 : Nat) (Option.some Jvm.ClassFile.FieldType.int)) ∈ lw_all := lw_g (lw_at lw_m7 230 rfl) rfl
theorem q1953 : (Jvm.Cond.instanceMethod ({ cls := "ElectionHouse", name := "paper", desc := "(III)I" } : Jvm.MethodName)) ∈ lw_all := lw_g (lw_at lw_m7 232 rfl) rfl
theorem q1954 : (Jvm.Cond.selects "ElectionHouse" ({ cls := "ElectionHouse", name := "paper", desc := "(III)I" } : Jvm.MethodName) ({ cls := "ElectionHouse", name := "paper", desc := "(III)I" } : Jvm.MethodName)) ∈ lw_all := lw_g (lw_at lw_m7 233 rfl) rfl
theorem q1955 : (Jvm.Cond.code ({ cls := "ElectionHouse", name := "paper", desc := "(III)I" } : Jvm.MethodName) prog_1_method_77_code (5 : Nat) (Option.some Jvm.ClassFile.FieldType.int)) ∈ lw_all := lw_g (lw_at lw_m7 234 rfl) rfl
theorem q1956 : (Jvm.Cond.methodLink "ElectionHouse" (540 : Nat) ({ cls := "ElectionHouse", name := "isField", desc := "(III)Z" } : Jvm.MethodName)) ∈ lw_all := lw_g (lw_at lw_m7 235 rfl) rfl
theorem q1957 : (Jvm.Cond.privateMethod ({ cls := "ElectionHouse", name := "isField", desc := "(III)Z" } : Jvm.MethodName)) ∈ lw_tbl := lw_at lw_m7 236 rfl
theorem q1958 : (Jvm.Cond.instanceMethod ({ cls := "ElectionHouse", name := "isField", desc := "(III)Z" } : Jvm.MethodName)) ∈ lw_all := lw_g (lw_at lw_m7 237 rfl) rfl
theorem q1959 : (Jvm.Cond.code ({ cls := "ElectionHouse", name := "isField", desc := "(III)Z" } : Jvm.MethodName) prog_1_method_76_code (4 : Nat) (Option.some Jvm.ClassFile.FieldType.boolean)) ∈ lw_all := lw_g (lw_at lw_m7 238 rfl) rfl
theorem q1961 : (Jvm.Cond.instanceMethod ({ cls := "ElectionHouse", name := "record", desc := "(III)I" } : Jvm.MethodName)) ∈ lw_all := lw_g (lw_at lw_m8 0 rfl) rfl
theorem q1962 : (Jvm.Cond.selects "ElectionHouse" ({ cls := "ElectionHouse", name := "record", desc := "(III)I" } : Jvm.MethodName) ({ cls := "ElectionHouse", name := "record", desc := "(III)I" } : Jvm.MethodName)) ∈ lw_all := lw_g (lw_at lw_m8 1 rfl) rfl
theorem q1963 : (Jvm.Cond.code ({ cls := "ElectionHouse", name := "record", desc := "(III)I" } : Jvm.MethodName) prog_1_method_78_code (4 : Nat) (Option.some Jvm.ClassFile.FieldType.int)) ∈ lw_all := lw_g (lw_at lw_m8 2 rfl) rfl
theorem q1965 : (Jvm.Cond.instanceMethod ({ cls := "ElectionHouse", name := "misread", desc := "(IIII)I" } : Jvm.MethodName)) ∈ lw_all := lw_g (lw_at lw_m8 4 rfl) rfl
theorem q1966 : (Jvm.Cond.selects "ElectionHouse" ({ cls := "ElectionHouse", name := "misread", desc := "(IIII)I" } : Jvm.MethodName) ({ cls := "ElectionHouse", name := "misread", desc := "(IIII)I" } : Jvm.MethodName)) ∈ lw_all := lw_g (lw_at lw_m8 5 rfl) rfl
theorem q1967 : (Jvm.Cond.code ({ cls := "ElectionHouse", name := "misread", desc := "(IIII)I" } : Jvm.MethodName) prog_1_method_79_code (6 : Nat) (Option.some Jvm.ClassFile.FieldType.int)) ∈ lw_all := lw_g (lw_at lw_m8 6 rfl) rfl
theorem q1969 : (Jvm.Cond.instanceMethod ({ cls := "ElectionHouse", name := "strike", desc := "(III)I" } : Jvm.MethodName)) ∈ lw_all := lw_g (lw_at lw_m8 8 rfl) rfl
theorem q1970 : (Jvm.Cond.selects "ElectionHouse" ({ cls := "ElectionHouse", name := "strike", desc := "(III)I" } : Jvm.MethodName) ({ cls := "ElectionHouse", name := "strike", desc := "(III)I" } : Jvm.MethodName)) ∈ lw_all := lw_g (lw_at lw_m8 9 rfl) rfl
theorem q1971 : (Jvm.Cond.code ({ cls := "ElectionHouse", name := "strike", desc := "(III)I" } : Jvm.MethodName) prog_1_method_80_code (4 : Nat) (Option.some Jvm.ClassFile.FieldType.int)) ∈ lw_all := lw_g (lw_at lw_m8 10 rfl) rfl
theorem q1973 : (Jvm.Cond.instanceMethod ({ cls := "ElectionHouse", name := "voidBox", desc := "(II)I" } : Jvm.MethodName)) ∈ lw_all := lw_g (lw_at lw_m8 12 rfl) rfl
theorem q1974 : (Jvm.Cond.selects "ElectionHouse" ({ cls := "ElectionHouse", name := "voidBox", desc := "(II)I" } : Jvm.MethodName) ({ cls := "ElectionHouse", name := "voidBox", desc := "(II)I" } : Jvm.MethodName)) ∈ lw_all := lw_g (lw_at lw_m8 13 rfl) rfl
theorem q1975 : (Jvm.Cond.code ({ cls := "ElectionHouse", name := "voidBox", desc := "(II)I" } : Jvm.MethodName) prog_1_method_81_code (5 : Nat) (Option.some Jvm.ClassFile.FieldType.int)) ∈ lw_all := lw_g (lw_at lw_m8 14 rfl) rfl
theorem q1977 : (Jvm.Cond.instanceMethod ({ cls := "ElectionHouse", name := "count", desc := "(II)I" } : Jvm.MethodName)) ∈ lw_all := lw_g (lw_at lw_m8 16 rfl) rfl
theorem q1978 : (Jvm.Cond.selects "ElectionHouse" ({ cls := "ElectionHouse", name := "count", desc := "(II)I" } : Jvm.MethodName) ({ cls := "ElectionHouse", name := "count", desc := "(II)I" } : Jvm.MethodName)) ∈ lw_all := lw_g (lw_at lw_m8 17 rfl) rfl
theorem q1979 : (Jvm.Cond.code ({ cls := "ElectionHouse", name := "count", desc := "(II)I" } : Jvm.MethodName) prog_1_method_86_code (3 : Nat) (Option.some Jvm.ClassFile.FieldType.int)) ∈ lw_all := lw_g (lw_at lw_m8 18 rfl) rfl
theorem q1980 : (Jvm.Cond.methodLink "ElectionHouse" (577 : Nat) ({ cls := "ElectionHouse", name := "isReady", desc := "()Z" } : Jvm.MethodName)) ∈ lw_all := lw_g (lw_at lw_m8 19 rfl) rfl
theorem q1981 : (Jvm.Cond.privateMethod ({ cls := "ElectionHouse", name := "isReady", desc := "()Z" } : Jvm.MethodName)) ∈ lw_tbl := lw_at lw_m8 20 rfl
theorem q1982 : (Jvm.Cond.instanceMethod ({ cls := "ElectionHouse", name := "isReady", desc := "()Z" } : Jvm.MethodName)) ∈ lw_all := lw_g (lw_at lw_m8 21 rfl) rfl
theorem q1983 : (Jvm.Cond.code ({ cls := "ElectionHouse", name := "isReady", desc := "()Z" } : Jvm.MethodName) prog_1_method_82_code (3 : Nat) (Option.some Jvm.ClassFile.FieldType.boolean)) ∈ lw_all := lw_g (lw_at lw_m8 22 rfl) rfl
theorem q1984 : (Jvm.Cond.methodLink "ElectionHouse" (583 : Nat) ({ cls := "ElectionHouse", name := "countFirsts", desc := "(Z)V" } : Jvm.MethodName)) ∈ lw_all := lw_g (lw_at lw_m8 23 rfl) rfl
theorem q1985 : (Jvm.Cond.privateMethod ({ cls := "ElectionHouse", name := "countFirsts", desc := "(Z)V" } : Jvm.MethodName)) ∈ lw_tbl := lw_at lw_m8 24 rfl
theorem q1986 : (Jvm.Cond.instanceMethod ({ cls := "ElectionHouse", name := "countFirsts", desc := "(Z)V" } : Jvm.MethodName)) ∈ lw_all := lw_g (lw_at lw_m8 25 rfl) rfl
theorem q1987 : (Jvm.Cond.code ({ cls := "ElectionHouse", name := "countFirsts", desc := "(Z)V" } : Jvm.MethodName) prog_1_method_85_code (5 : Nat) (Option.none : Option Jvm.ClassFile.FieldType)) ∈ lw_all := lw_g (lw_at lw_m8 26 rfl) rfl
theorem q1988 : (Jvm.Cond.methodLink "ElectionHouse" (561 : Nat) ({ cls := "ElectionHouse$Count", name := "beginFirsts", desc := "()V" } : Jvm.MethodName)) ∈ lw_all := lw_g (lw_at lw_m8 27 rfl) rfl
theorem q1994 : (Jvm.Cond.methodLink "ElectionHouse" (564 : Nat) ({ cls := "ElectionHouse", name := "countOne", desc := "(LElectionHouse$Count;IZ)V" } : Jvm.MethodName)) ∈ lw_all := lw_g (lw_at lw_m8 33 rfl) rfl
theorem q1995 : (Jvm.Cond.privateMethod ({ cls := "ElectionHouse", name := "countOne", desc := "(LElectionHouse$Count;IZ)V" } : Jvm.MethodName)) ∈ lw_tbl := lw_at lw_m8 34 rfl
theorem q1996 : (Jvm.Cond.instanceMethod ({ cls := "ElectionHouse", name := "countOne", desc := "(LElectionHouse$Count;IZ)V" } : Jvm.MethodName)) ∈ lw_all := lw_g (lw_at lw_m8 35 rfl) rfl
theorem q1997 : (Jvm.Cond.code ({ cls := "ElectionHouse", name := "countOne", desc := "(LElectionHouse$Count;IZ)V" } : Jvm.MethodName) prog_1_method_84_code (7 : Nat) (Option.none : Option Jvm.ClassFile.FieldType)) ∈ lw_all := lw_g (lw_at lw_m8 36 rfl) rfl
theorem q1998 : (Jvm.Cond.methodLink "ElectionHouse" (549 : Nat) ({ cls := "ElectionHouse$Count", name := "begin", desc := "(LElectionHouse$Way;LElectionHouse$Contest;I)V" } : Jvm.MethodName)) ∈ lw_all := lw_g (lw_at lw_m8 37 rfl) rfl
theorem q2002 : (Jvm.Cond.methodLink "ElectionHouse" (552 : Nat) ({ cls := "ElectionHouse", name := "fieldOf", desc := "(II)I" } : Jvm.MethodName)) ∈ lw_all := lw_g (lw_at lw_m8 41 rfl) rfl
theorem q2003 : (Jvm.Cond.privateMethod ({ cls := "ElectionHouse", name := "fieldOf", desc := "(II)I" } : Jvm.MethodName)) ∈ lw_tbl := lw_at lw_m8 42 rfl
theorem q2004 : (Jvm.Cond.instanceMethod ({ cls := "ElectionHouse", name := "fieldOf", desc := "(II)I" } : Jvm.MethodName)) ∈ lw_all := lw_g (lw_at lw_m8 43 rfl) rfl
theorem q2005 : (Jvm.Cond.code ({ cls := "ElectionHouse", name := "fieldOf", desc := "(II)I" } : Jvm.MethodName) prog_1_method_83_code (3 : Nat) (Option.some Jvm.ClassFile.FieldType.int)) ∈ lw_all := lw_g (lw_at lw_m8 44 rfl) rfl
theorem q2006 : (Jvm.Cond.methodLink "ElectionHouse" (555 : Nat) ({ cls := "ElectionHouse$Count", name := "add", desc := "([BI)V" } : Jvm.MethodName)) ∈ lw_all := lw_g (lw_at lw_m8 45 rfl) rfl
theorem q2035 : (Jvm.Cond.methodLink "ElectionHouse" (558 : Nat) ({ cls := "ElectionHouse$Count", name := "run", desc := "()V" } : Jvm.MethodName)) ∈ lw_all := lw_g (lw_at lw_m8 74 rfl) rfl
theorem q2330 : (Jvm.Cond.methodLink "ElectionHouse" (574 : Nat) ({ cls := "ElectionHouse$Count", name := "addFirst", desc := "(II)V" } : Jvm.MethodName)) ∈ lw_all := lw_g (lw_at lw_m9 129 rfl) rfl
theorem q2335 : (Jvm.Cond.instanceMethod ({ cls := "ElectionHouse", name := "elected", desc := "(I)I" } : Jvm.MethodName)) ∈ lw_all := lw_g (lw_at lw_m9 134 rfl) rfl
theorem q2336 : (Jvm.Cond.selects "ElectionHouse" ({ cls := "ElectionHouse", name := "elected", desc := "(I)I" } : Jvm.MethodName) ({ cls := "ElectionHouse", name := "elected", desc := "(I)I" } : Jvm.MethodName)) ∈ lw_all := lw_g (lw_at lw_m9 135 rfl) rfl
theorem q2337 : (Jvm.Cond.code ({ cls := "ElectionHouse", name := "elected", desc := "(I)I" } : Jvm.MethodName) prog_1_method_87_code (2 : Nat) (Option.some Jvm.ClassFile.FieldType.int)) ∈ lw_all := lw_g (lw_at lw_m9 136 rfl) rfl
theorem q2339 : (Jvm.Cond.instanceMethod ({ cls := "ElectionHouse", name := "round", desc := "(II)J" } : Jvm.MethodName)) ∈ lw_all := lw_g (lw_at lw_m9 138 rfl) rfl
theorem q2340 : (Jvm.Cond.selects "ElectionHouse" ({ cls := "ElectionHouse", name := "round", desc := "(II)J" } : Jvm.MethodName) ({ cls := "ElectionHouse", name := "round", desc := "(II)J" } : Jvm.MethodName)) ∈ lw_all := lw_g (lw_at lw_m9 139 rfl) rfl
theorem q2341 : (Jvm.Cond.code ({ cls := "ElectionHouse", name := "round", desc := "(II)J" } : Jvm.MethodName) prog_1_method_89_code (3 : Nat) (Option.some Jvm.ClassFile.FieldType.long)) ∈ lw_all := lw_g (lw_at lw_m9 140 rfl) rfl
theorem q2342 : (Jvm.Cond.methodLink "ElectionHouse" (590 : Nat) ({ cls := "ElectionHouse", name := "isRound", desc := "(I)Z" } : Jvm.MethodName)) ∈ lw_all := lw_g (lw_at lw_m9 141 rfl) rfl
theorem q2343 : (Jvm.Cond.privateMethod ({ cls := "ElectionHouse", name := "isRound", desc := "(I)Z" } : Jvm.MethodName)) ∈ lw_tbl := lw_at lw_m9 142 rfl
theorem q2344 : (Jvm.Cond.instanceMethod ({ cls := "ElectionHouse", name := "isRound", desc := "(I)Z" } : Jvm.MethodName)) ∈ lw_all := lw_g (lw_at lw_m9 143 rfl) rfl
theorem q2345 : (Jvm.Cond.code ({ cls := "ElectionHouse", name := "isRound", desc := "(I)Z" } : Jvm.MethodName) prog_1_method_88_code (2 : Nat) (Option.some Jvm.ClassFile.FieldType.boolean)) ∈ lw_all := lw_g (lw_at lw_m9 144 rfl) rfl
theorem q2346 : (Jvm.Cond.constantLong "ElectionHouse" (597 : Nat) (-1 : Int64)) ∈ lw_all := lw_g (lw_at lw_m9 145 rfl) rfl
theorem q2348 : (Jvm.Cond.instanceMethod ({ cls := "ElectionHouse", name := "act", desc := "(II)I" } : Jvm.MethodName)) ∈ lw_all := lw_g (lw_at lw_m9 147 rfl) rfl
theorem q2349 : (Jvm.Cond.selects "ElectionHouse" ({ cls := "ElectionHouse", name := "act", desc := "(II)I" } : Jvm.MethodName) ({ cls := "ElectionHouse", name := "act", desc := "(II)I" } : Jvm.MethodName)) ∈ lw_all := lw_g (lw_at lw_m9 148 rfl) rfl
theorem q2350 : (Jvm.Cond.code ({ cls := "ElectionHouse", name := "act", desc := "(II)I" } : Jvm.MethodName) prog_1_method_90_code (3 : Nat) (Option.some Jvm.ClassFile.FieldType.int)) ∈ lw_all := lw_g (lw_at lw_m9 149 rfl) rfl
theorem q2352 : (Jvm.Cond.instanceMethod ({ cls := "ElectionHouse", name := "sample", desc := "(IIJ)I" } : Jvm.MethodName)) ∈ lw_all := lw_g (lw_at lw_m9 151 rfl) rfl
theorem q2353 : (Jvm.Cond.selects "ElectionHouse" ({ cls := "ElectionHouse", name := "sample", desc := "(IIJ)I" } : Jvm.MethodName) ({ cls := "ElectionHouse", name := "sample", desc := "(IIJ)I" } : Jvm.MethodName)) ∈ lw_all := lw_g (lw_at lw_m9 152 rfl) rfl
theorem q2354 : (Jvm.Cond.code ({ cls := "ElectionHouse", name := "sample", desc := "(IIJ)I" } : Jvm.MethodName) prog_1_method_97_code (9 : Nat) (Option.some Jvm.ClassFile.FieldType.int)) ∈ lw_all := lw_g (lw_at lw_m9 153 rfl) rfl
theorem q2355 : (Jvm.Cond.methodLink "ElectionHouse" (653 : Nat) ({ cls := "ElectionHouse", name := "gather", desc := "(I)I" } : Jvm.MethodName)) ∈ lw_all := lw_g (lw_at lw_m9 154 rfl) rfl
theorem q2356 : (Jvm.Cond.privateMethod ({ cls := "ElectionHouse", name := "gather", desc := "(I)I" } : Jvm.MethodName)) ∈ lw_tbl := lw_at lw_m9 155 rfl
theorem q2357 : (Jvm.Cond.instanceMethod ({ cls := "ElectionHouse", name := "gather", desc := "(I)I" } : Jvm.MethodName)) ∈ lw_all := lw_g (lw_at lw_m9 156 rfl) rfl
theorem q2358 : (Jvm.Cond.code ({ cls := "ElectionHouse", name := "gather", desc := "(I)I" } : Jvm.MethodName) prog_1_method_91_code (6 : Nat) (Option.some Jvm.ClassFile.FieldType.int)) ∈ lw_all := lw_g (lw_at lw_m9 157 rfl) rfl
theorem q2359 : (Jvm.Cond.methodLink "ElectionHouse" (656 : Nat) ({ cls := "ElectionHouse", name := "margin", desc := "(I)I" } : Jvm.MethodName)) ∈ lw_all := lw_g (lw_at lw_m9 158 rfl) rfl
theorem q2360 : (Jvm.Cond.privateMethod ({ cls := "ElectionHouse", name := "margin", desc := "(I)I" } : Jvm.MethodName)) ∈ lw_tbl := lw_at lw_m9 159 rfl
theorem q2361 : (Jvm.Cond.instanceMethod ({ cls := "ElectionHouse", name := "margin", desc := "(I)I" } : Jvm.MethodName)) ∈ lw_all := lw_g (lw_at lw_m9 160 rfl) rfl
theorem q2362 : (Jvm.Cond.code ({ cls := "ElectionHouse", name := "margin", desc := "(I)I" } : Jvm.MethodName) prog_1_method_94_code (5 : Nat) (Option.some Jvm.ClassFile.FieldType.int)) ∈ lw_all := lw_g (lw_at lw_m9 161 rfl) rfl
theorem q2363 : (Jvm.Cond.methodLink "ElectionHouse" (618 : Nat) ({ cls := "java/lang/Math", name := "max", desc := "(JJ)J" } : Jvm.MethodName)) ∈ lw_all := lw_g (lw_at lw_m9 162 rfl) rfl
theorem q2364 : (Jvm.Cond.methodLink "ElectionHouse" (662 : Nat) ({ cls := "ElectionHouse", name := "drawAll", desc := "(IIJ)V" } : Jvm.MethodName)) ∈ lw_all := lw_g (lw_at lw_m9 163 rfl) rfl
theorem q2365 : (Jvm.Cond.privateMethod ({ cls := "ElectionHouse", name := "drawAll", desc := "(IIJ)V" } : Jvm.MethodName)) ∈ lw_tbl := lw_at lw_m9 164 rfl
theorem q2366 : (Jvm.Cond.instanceMethod ({ cls := "ElectionHouse", name := "drawAll", desc := "(IIJ)V" } : Jvm.MethodName)) ∈ lw_all := lw_g (lw_at lw_m9 165 rfl) rfl
theorem q2367 : (Jvm.Cond.code ({ cls := "ElectionHouse", name := "drawAll", desc := "(IIJ)V" } : Jvm.MethodName) prog_1_method_95_code (10 : Nat) (Option.none : Option Jvm.ClassFile.FieldType)) ∈ lw_all := lw_g (lw_at lw_m9 166 rfl) rfl
theorem q2368 : (Jvm.Cond.methodLink "ElectionHouse" (624 : Nat) ({ cls := "java/util/Arrays", name := "fill", desc := "([ZZ)V" } : Jvm.MethodName)) ∈ lw_all := lw_g (lw_at lw_m9 167 rfl) rfl
theorem q2369 : (Jvm.Cond.methodLink "ElectionHouse" (630 : Nat) ({ cls := "ElectionHouse", name := "stepped", desc := "(J)J" } : Jvm.MethodName)) ∈ lw_all := lw_g (lw_at lw_m9 168 rfl) rfl
theorem q2370 : (Jvm.Cond.methodLink "ElectionHouse" (634 : Nat) ({ cls := "ElectionHouse", name := "placeOf", desc := "(JI)I" } : Jvm.MethodName)) ∈ lw_all := lw_g (lw_at lw_m9 169 rfl) rfl
theorem q2371 : (Jvm.Cond.methodLink "ElectionHouse" (638 : Nat) ({ cls := "ElectionHouse", name := "pick", desc := "(II)V" } : Jvm.MethodName)) ∈ lw_all := lw_g (lw_at lw_m9 170 rfl) rfl
theorem q2372 : (Jvm.Cond.privateMethod ({ cls := "ElectionHouse", name := "pick", desc := "(II)V" } : Jvm.MethodName)) ∈ lw_tbl := lw_at lw_m9 171 rfl
theorem q2373 : (Jvm.Cond.instanceMethod ({ cls := "ElectionHouse", name := "pick", desc := "(II)V" } : Jvm.MethodName)) ∈ lw_all := lw_g (lw_at lw_m9 172 rfl) rfl
theorem q2374 : (Jvm.Cond.code ({ cls := "ElectionHouse", name := "pick", desc := "(II)V" } : Jvm.MethodName) prog_1_method_92_code (8 : Nat) (Option.none : Option Jvm.ClassFile.FieldType)) ∈ lw_all := lw_g (lw_at lw_m9 173 rfl) rfl
theorem q2375 : (Jvm.Cond.methodLink "ElectionHouse" (605 : Nat) ({ cls := "ElectionHouse", name := "isOther", desc := "(LElectionHouse$Box;II)Z" } : Jvm.MethodName)) ∈ lw_all := lw_g (lw_at lw_m9 174 rfl) rfl
theorem q2376 : (Jvm.Cond.privateMethod ({ cls := "ElectionHouse", name := "isOther", desc := "(LElectionHouse$Box;II)Z" } : Jvm.MethodName)) ∈ lw_tbl := lw_at lw_m9 175 rfl
theorem q2377 : (Jvm.Cond.instanceMethod ({ cls := "ElectionHouse", name := "isOther", desc := "(LElectionHouse$Box;II)Z" } : Jvm.MethodName)) ∈ lw_all := lw_g (lw_at lw_m9 176 rfl) rfl
theorem q2378 : (Jvm.Cond.code ({ cls := "ElectionHouse", name := "isOther", desc := "(LElectionHouse$Box;II)Z" } : Jvm.MethodName) prog_1_method_93_code (7 : Nat) (Option.some Jvm.ClassFile.FieldType.boolean)) ∈ lw_all := lw_g (lw_at lw_m9 177 rfl) rfl
theorem q2379 : (Jvm.Cond.methodLink "ElectionHouse" (666 : Nat) ({ cls := "ElectionHouse", name := "weigh", desc := "(II)V" } : Jvm.MethodName)) ∈ lw_all := lw_g (lw_at lw_m9 178 rfl) rfl
theorem q2380 : (Jvm.Cond.privateMethod ({ cls := "ElectionHouse", name := "weigh", desc := "(II)V" } : Jvm.MethodName)) ∈ lw_tbl := lw_at lw_m9 179 rfl
theorem q2381 : (Jvm.Cond.instanceMethod ({ cls := "ElectionHouse", name := "weigh", desc := "(II)V" } : Jvm.MethodName)) ∈ lw_all := lw_g (lw_at lw_m9 180 rfl) rfl
theorem q2382 : (Jvm.Cond.code ({ cls := "ElectionHouse", name := "weigh", desc := "(II)V" } : Jvm.MethodName) prog_1_method_96_code (13 : Nat) (Option.none : Option Jvm.ClassFile.FieldType)) ∈ lw_all := lw_g (lw_at lw_m9 181 rfl) rfl
theorem q2383 : (Jvm.Cond.methodLink "ElectionHouse" (644 : Nat) ({ cls := "java/lang/Math", name := "min", desc := "(II)I" } : Jvm.MethodName)) ∈ lw_all := lw_g (lw_at lw_m9 182 rfl) rfl
theorem q2385 : (Jvm.Cond.instanceMethod ({ cls := "ElectionHouse", name := "drawn", desc := "(II)I" } : Jvm.MethodName)) ∈ lw_all := lw_g (lw_at lw_m9 184 rfl) rfl
theorem q2386 : (Jvm.Cond.selects "ElectionHouse" ({ cls := "ElectionHouse", name := "drawn", desc := "(II)I" } : Jvm.MethodName) ({ cls := "ElectionHouse", name := "drawn", desc := "(II)I" } : Jvm.MethodName)) ∈ lw_all := lw_g (lw_at lw_m9 185 rfl) rfl
theorem q2387 : (Jvm.Cond.code ({ cls := "ElectionHouse", name := "drawn", desc := "(II)I" } : Jvm.MethodName) prog_1_method_98_code (3 : Nat) (Option.some Jvm.ClassFile.FieldType.int)) ∈ lw_all := lw_g (lw_at lw_m9 186 rfl) rfl
theorem q2389 : (Jvm.Cond.instanceMethod ({ cls := "ElectionHouse", name := "risk", desc := "(I)J" } : Jvm.MethodName)) ∈ lw_all := lw_g (lw_at lw_m9 188 rfl) rfl
theorem q2390 : (Jvm.Cond.selects "ElectionHouse" ({ cls := "ElectionHouse", name := "risk", desc := "(I)J" } : Jvm.MethodName) ({ cls := "ElectionHouse", name := "risk", desc := "(I)J" } : Jvm.MethodName)) ∈ lw_all := lw_g (lw_at lw_m9 189 rfl) rfl
theorem q2391 : (Jvm.Cond.code ({ cls := "ElectionHouse", name := "risk", desc := "(I)J" } : Jvm.MethodName) prog_1_method_99_code (2 : Nat) (Option.some Jvm.ClassFile.FieldType.long)) ∈ lw_all := lw_g (lw_at lw_m9 190 rfl) rfl
theorem q2392 : (Jvm.Cond.constantLong "ElectionHouse" (669 : Nat) (-2 : Int64)) ∈ lw_all := lw_g (lw_at lw_m9 191 rfl) rfl
theorem q2394 : (Jvm.Cond.instanceMethod ({ cls := "ElectionHouse", name := "stops", desc := "(II)I" } : Jvm.MethodName)) ∈ lw_all := lw_g (lw_at lw_m9 193 rfl) rfl
theorem q2395 : (Jvm.Cond.selects "ElectionHouse" ({ cls := "ElectionHouse", name := "stops", desc := "(II)I" } : Jvm.MethodName) ({ cls := "ElectionHouse", name := "stops", desc := "(II)I" } : Jvm.MethodName)) ∈ lw_all := lw_g (lw_at lw_m9 194 rfl) rfl
theorem q2396 : (Jvm.Cond.code ({ cls := "ElectionHouse", name := "stops", desc := "(II)I" } : Jvm.MethodName) prog_1_method_100_code (3 : Nat) (Option.some Jvm.ClassFile.FieldType.int)) ∈ lw_all := lw_g (lw_at lw_m9 195 rfl) rfl
theorem q2398 : (Jvm.Cond.instanceMethod ({ cls := "ElectionHouse", name := "head", desc := "(I)I" } : Jvm.MethodName)) ∈ lw_all := lw_g (lw_at lw_m9 197 rfl) rfl
theorem q2399 : (Jvm.Cond.selects "ElectionHouse" ({ cls := "ElectionHouse", name := "head", desc := "(I)I" } : Jvm.MethodName) ({ cls := "ElectionHouse", name := "head", desc := "(I)I" } : Jvm.MethodName)) ∈ lw_all := lw_g (lw_at lw_m9 198 rfl) rfl
theorem q2400 : (Jvm.Cond.code ({ cls := "ElectionHouse", name := "head", desc := "(I)I" } : Jvm.MethodName) prog_1_method_101_code (2 : Nat) (Option.some Jvm.ClassFile.FieldType.int)) ∈ lw_all := lw_g (lw_at lw_m9 199 rfl) rfl
theorem q2401 : (Jvm.Cond.methodLink "ElectionHouse" (671 : Nat) ({ cls := "ElectionHouse$Digests", name := "at", desc := "(I)I" } : Jvm.MethodName)) ∈ lw_all := lw_g (lw_at lw_m9 200 rfl) rfl
theorem q2406 : (Jvm.Cond.instanceMethod ({ cls := "ElectionHouse", name := "told", desc := "(I)I" } : Jvm.MethodName)) ∈ lw_all := lw_g (lw_at lw_m9 205 rfl) rfl
theorem q2407 : (Jvm.Cond.selects "ElectionHouse" ({ cls := "ElectionHouse", name := "told", desc := "(I)I" } : Jvm.MethodName) ({ cls := "ElectionHouse", name := "told", desc := "(I)I" } : Jvm.MethodName)) ∈ lw_all := lw_g (lw_at lw_m9 206 rfl) rfl
theorem q2408 : (Jvm.Cond.code ({ cls := "ElectionHouse", name := "told", desc := "(I)I" } : Jvm.MethodName) prog_1_method_102_code (2 : Nat) (Option.some Jvm.ClassFile.FieldType.int)) ∈ lw_all := lw_g (lw_at lw_m9 207 rfl) rfl
theorem q2409 : (Jvm.Cond.methodLink "ElectionHouse" (674 : Nat) ({ cls := "ElectionHouse", name := "more", desc := "(I)I" } : Jvm.MethodName)) ∈ lw_all := lw_g (lw_at lw_m9 208 rfl) rfl
theorem q2410 : (Jvm.Cond.privateMethod ({ cls := "ElectionHouse", name := "more", desc := "(I)I" } : Jvm.MethodName)) ∈ lw_tbl := lw_at lw_m9 209 rfl
theorem q2411 : (Jvm.Cond.instanceMethod ({ cls := "ElectionHouse", name := "more", desc := "(I)I" } : Jvm.MethodName)) ∈ lw_all := lw_g (lw_at lw_m9 210 rfl) rfl
theorem q2412 : (Jvm.Cond.code ({ cls := "ElectionHouse", name := "more", desc := "(I)I" } : Jvm.MethodName) prog_1_method_103_code (3 : Nat) (Option.some Jvm.ClassFile.FieldType.int)) ∈ lw_all := lw_g (lw_at lw_m9 211 rfl) rfl
theorem in_X0 : ∀ w ∈ wsX00, w ∈ lw_all := lw_in wsX00 [1031, 1033, 1035, 1037, 1039, 1041, 1043, 1045, 1047, 1049, 1051, 1053, 1055, 1057, 1059, 1061, 1063, 1065, 1067, 1069, 1071, 1073, 1075, 1077, 1079, 1081, 1083, 1085, 1087, 1089, 1091, 1093, 1095, 1097, 1099, 1101, 1103, 1105, 1107, 1109, 1111, 1113, 1115, 1117, 1119, 1121, 1123, 1125, 1127] (by decide +kernel) (by decide +kernel)

