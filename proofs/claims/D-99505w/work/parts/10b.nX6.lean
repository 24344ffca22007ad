set_option maxRecDepth 100000
abbrev cX6_isLineWord : ByteArray := prog_22_method_46_code
def yX6_isLineWord : MethodName := ⟨RX6, "isLineWord", "()Z"⟩
def dkwX6_isLineWord_1 : List UInt8 := [167, 0, 4, 3, 172]
abbrev dktX6_isLineWord_1 : List UInt8 := dkwX6_isLineWord_1 ++ []
def dkwX6_isLineWord_0 : List UInt8 := [42, 180, 0, 180, 5, 160, 0, 20, 42, 42, 180, 0, 183, 3, 5, 182, 0, 145, 153, 0, 7, 4]
abbrev dktX6_isLineWord_0 : List UInt8 := dkwX6_isLineWord_0 ++ dktX6_isLineWord_1
theorem dksX6_isLineWord_0 : cX6_isLineWord.data.toList.drop 0 = dktX6_isLineWord_0 := by decide +kernel
theorem dksX6_isLineWord_1 : cX6_isLineWord.data.toList.drop 22 = dktX6_isLineWord_1 := dk_seg dksX6_isLineWord_0 22 rfl rfl
theorem dX6_isLineWord_0 : decode cX6_isLineWord 0 = .ok (.aload_n 0, 1) := dk_42 (dk_at dksX6_isLineWord_0 0 rfl rfl)
theorem dX6_isLineWord_1 : decode cX6_isLineWord 1 = .ok (.getfield 180, 3) := dk_180 0 180 (dk_at dksX6_isLineWord_0 1 rfl rfl)
theorem dX6_isLineWord_4 : decode cX6_isLineWord 4 = .ok (.iconst 2, 1) := dk_5 (dk_at dksX6_isLineWord_0 4 rfl rfl)
theorem dX6_isLineWord_5 : decode cX6_isLineWord 5 = .ok (.if_icmp .ne 20, 3) := dk_160 0 20 (dk_at dksX6_isLineWord_0 5 rfl rfl)
theorem dX6_isLineWord_8 : decode cX6_isLineWord 8 = .ok (.aload_n 0, 1) := dk_42 (dk_at dksX6_isLineWord_0 8 rfl rfl)
theorem dX6_isLineWord_9 : decode cX6_isLineWord 9 = .ok (.aload_n 0, 1) := dk_42 (dk_at dksX6_isLineWord_0 9 rfl rfl)
theorem dX6_isLineWord_10 : decode cX6_isLineWord 10 = .ok (.getfield 183, 3) := dk_180 0 183 (dk_at dksX6_isLineWord_0 10 rfl rfl)
theorem dX6_isLineWord_13 : decode cX6_isLineWord 13 = .ok (.iconst 0, 1) := dk_3 (dk_at dksX6_isLineWord_0 13 rfl rfl)
theorem dX6_isLineWord_14 : decode cX6_isLineWord 14 = .ok (.iconst 2, 1) := dk_5 (dk_at dksX6_isLineWord_0 14 rfl rfl)
theorem dX6_isLineWord_15 : decode cX6_isLineWord 15 = .ok (.invokevirtual 145, 3) := dk_182 0 145 (dk_at dksX6_isLineWord_0 15 rfl rfl)
theorem dX6_isLineWord_18 : decode cX6_isLineWord 18 = .ok (.ifCond .eq 7, 3) := dk_153 0 7 (dk_at dksX6_isLineWord_0 18 rfl rfl)
theorem dX6_isLineWord_21 : decode cX6_isLineWord 21 = .ok (.iconst 1, 1) := dk_4 (dk_at dksX6_isLineWord_0 21 rfl rfl)
theorem dX6_isLineWord_22 : decode cX6_isLineWord 22 = .ok (.goto 4, 3) := dk_167 0 4 (dk_at dksX6_isLineWord_1 0 rfl rfl)
theorem dX6_isLineWord_25 : decode cX6_isLineWord 25 = .ok (.iconst 0, 1) := dk_3 (dk_at dksX6_isLineWord_1 3 rfl rfl)
theorem dX6_isLineWord_26 : decode cX6_isLineWord 26 = .ok (.ireturn, 1) := dk_172 (dk_at dksX6_isLineWord_1 4 rfl rfl)
abbrev cX6_readSum : ByteArray := prog_22_method_41_code
def yX6_readSum : MethodName := ⟨RX6, "readSum", "()I"⟩
def dkwX6_readSum_2 : List UInt8 := [182, 0, 218, 42, 182, 0, 228, 2, 160, 0, 5, 2, 172, 42, 27, 3, 182, 0, 214, 167, 255, 203, 3, 172]
abbrev dktX6_readSum_2 : List UInt8 := dkwX6_readSum_2 ++ []
def dkwX6_readSum_1 : List UInt8 := [182, 0, 225, 153, 0, 41, 42, 180, 0, 183, 16, 43, 160, 0, 7, 5, 167, 0, 4, 6, 60, 42]
abbrev dktX6_readSum_1 : List UInt8 := dkwX6_readSum_1 ++ dktX6_readSum_2
def dkwX6_readSum_0 : List UInt8 := [42, 182, 0, 228, 2, 160, 0, 5, 2, 172, 42, 16, 43, 182, 0, 225, 154, 0, 12, 42, 16, 45]
abbrev dktX6_readSum_0 : List UInt8 := dkwX6_readSum_0 ++ dktX6_readSum_1
theorem dksX6_readSum_0 : cX6_readSum.data.toList.drop 0 = dktX6_readSum_0 := by decide +kernel
theorem dksX6_readSum_1 : cX6_readSum.data.toList.drop 22 = dktX6_readSum_1 := dk_seg dksX6_readSum_0 22 rfl rfl
theorem dksX6_readSum_2 : cX6_readSum.data.toList.drop 44 = dktX6_readSum_2 := dk_seg dksX6_readSum_1 22 rfl rfl
theorem dX6_readSum_0 : decode cX6_readSum 0 = .ok (.aload_n 0, 1) := dk_42 (dk_at dksX6_readSum_0 0 rfl rfl)
theorem dX6_readSum_1 : decode cX6_readSum 1 = .ok (.invokevirtual 228, 3) := dk_182 0 228 (dk_at dksX6_readSum_0 1 rfl rfl)
theorem dX6_readSum_4 : decode cX6_readSum 4 = .ok (.iconst (-1), 1) := dk_2 (dk_at dksX6_readSum_0 4 rfl rfl)
theorem dX6_readSum_5 : decode cX6_readSum 5 = .ok (.if_icmp .ne 5, 3) := dk_160 0 5 (dk_at dksX6_readSum_0 5 rfl rfl)
theorem dX6_readSum_8 : decode cX6_readSum 8 = .ok (.iconst (-1), 1) := dk_2 (dk_at dksX6_readSum_0 8 rfl rfl)
theorem dX6_readSum_9 : decode cX6_readSum 9 = .ok (.ireturn, 1) := dk_172 (dk_at dksX6_readSum_0 9 rfl rfl)
theorem dX6_readSum_10 : decode cX6_readSum 10 = .ok (.aload_n 0, 1) := dk_42 (dk_at dksX6_readSum_0 10 rfl rfl)
theorem dX6_readSum_11 : decode cX6_readSum 11 = .ok (.bipush 43, 2) := dk_16 43 (dk_at dksX6_readSum_0 11 rfl rfl)
theorem dX6_readSum_13 : decode cX6_readSum 13 = .ok (.invokevirtual 225, 3) := dk_182 0 225 (dk_at dksX6_readSum_0 13 rfl rfl)
theorem dX6_readSum_16 : decode cX6_readSum 16 = .ok (.ifCond .ne 12, 3) := dk_154 0 12 (dk_at dksX6_readSum_0 16 rfl rfl)
theorem dX6_readSum_19 : decode cX6_readSum 19 = .ok (.aload_n 0, 1) := dk_42 (dk_at dksX6_readSum_0 19 rfl rfl)
theorem dX6_readSum_20 : decode cX6_readSum 20 = .ok (.bipush 45, 2) := dk_16 45 (dk_at dksX6_readSum_0 20 rfl rfl)
theorem dX6_readSum_22 : decode cX6_readSum 22 = .ok (.invokevirtual 225, 3) := dk_182 0 225 (dk_at dksX6_readSum_1 0 rfl rfl)
theorem dX6_readSum_25 : decode cX6_readSum 25 = .ok (.ifCond .eq 41, 3) := dk_153 0 41 (dk_at dksX6_readSum_1 3 rfl rfl)
theorem dX6_readSum_28 : decode cX6_readSum 28 = .ok (.aload_n 0, 1) := dk_42 (dk_at dksX6_readSum_1 6 rfl rfl)
theorem dX6_readSum_29 : decode cX6_readSum 29 = .ok (.getfield 183, 3) := dk_180 0 183 (dk_at dksX6_readSum_1 7 rfl rfl)
theorem dX6_readSum_32 : decode cX6_readSum 32 = .ok (.bipush 43, 2) := dk_16 43 (dk_at dksX6_readSum_1 10 rfl rfl)
theorem dX6_readSum_34 : decode cX6_readSum 34 = .ok (.if_icmp .ne 7, 3) := dk_160 0 7 (dk_at dksX6_readSum_1 12 rfl rfl)
theorem dX6_readSum_37 : decode cX6_readSum 37 = .ok (.iconst 2, 1) := dk_5 (dk_at dksX6_readSum_1 15 rfl rfl)
theorem dX6_readSum_38 : decode cX6_readSum 38 = .ok (.goto 4, 3) := dk_167 0 4 (dk_at dksX6_readSum_1 16 rfl rfl)
theorem dX6_readSum_41 : decode cX6_readSum 41 = .ok (.iconst 3, 1) := dk_6 (dk_at dksX6_readSum_1 19 rfl rfl)
theorem dX6_readSum_42 : decode cX6_readSum 42 = .ok (.istore_n 1, 1) := dk_60 (dk_at dksX6_readSum_1 20 rfl rfl)
theorem dX6_readSum_43 : decode cX6_readSum 43 = .ok (.aload_n 0, 1) := dk_42 (dk_at dksX6_readSum_1 21 rfl rfl)
theorem dX6_readSum_44 : decode cX6_readSum 44 = .ok (.invokevirtual 218, 3) := dk_182 0 218 (dk_at dksX6_readSum_2 0 rfl rfl)
theorem dX6_readSum_47 : decode cX6_readSum 47 = .ok (.aload_n 0, 1) := dk_42 (dk_at dksX6_readSum_2 3 rfl rfl)
theorem dX6_readSum_48 : decode cX6_readSum 48 = .ok (.invokevirtual 228, 3) := dk_182 0 228 (dk_at dksX6_readSum_2 4 rfl rfl)
theorem dX6_readSum_51 : decode cX6_readSum 51 = .ok (.iconst (-1), 1) := dk_2 (dk_at dksX6_readSum_2 7 rfl rfl)
theorem dX6_readSum_52 : decode cX6_readSum 52 = .ok (.if_icmp .ne 5, 3) := dk_160 0 5 (dk_at dksX6_readSum_2 8 rfl rfl)
theorem dX6_readSum_55 : decode cX6_readSum 55 = .ok (.iconst (-1), 1) := dk_2 (dk_at dksX6_readSum_2 11 rfl rfl)
theorem dX6_readSum_56 : decode cX6_readSum 56 = .ok (.ireturn, 1) := dk_172 (dk_at dksX6_readSum_2 12 rfl rfl)
theorem dX6_readSum_57 : decode cX6_readSum 57 = .ok (.aload_n 0, 1) := dk_42 (dk_at dksX6_readSum_2 13 rfl rfl)
theorem dX6_readSum_58 : decode cX6_readSum 58 = .ok (.iload_n 1, 1) := dk_27 (dk_at dksX6_readSum_2 14 rfl rfl)
theorem dX6_readSum_59 : decode cX6_readSum 59 = .ok (.iconst 0, 1) := dk_3 (dk_at dksX6_readSum_2 15 rfl rfl)
theorem dX6_readSum_60 : decode cX6_readSum 60 = .ok (.invokevirtual 214, 3) := dk_182 0 214 (dk_at dksX6_readSum_2 16 rfl rfl)
theorem dX6_readSum_63 : decode cX6_readSum 63 = .ok (.goto (-53), 3) := dk_167 255 203 (dk_at dksX6_readSum_2 19 rfl rfl)
theorem dX6_readSum_66 : decode cX6_readSum 66 = .ok (.iconst 0, 1) := dk_3 (dk_at dksX6_readSum_2 22 rfl rfl)
theorem dX6_readSum_67 : decode cX6_readSum 67 = .ok (.ireturn, 1) := dk_172 (dk_at dksX6_readSum_2 23 rfl rfl)
abbrev cX6_readProduct : ByteArray := prog_22_method_40_code
def yX6_readProduct : MethodName := ⟨RX6, "readProduct", "()I"⟩
def dkwX6_readProduct_4 : List UInt8 := [167, 0, 4, 8, 3, 182, 0, 214, 167, 255, 168, 3, 172]
abbrev dktX6_readProduct_4 : List UInt8 := dkwX6_readProduct_4 ++ []
def dkwX6_readProduct_3 : List UInt8 := [42, 5, 182, 0, 211, 172, 42, 182, 0, 221, 2, 160, 0, 5, 2, 172, 42, 27, 153, 0, 7, 7]
abbrev dktX6_readProduct_3 : List UInt8 := dkwX6_readProduct_3 ++ dktX6_readProduct_4
def dkwX6_readProduct_2 : List UInt8 := [180, 0, 180, 6, 159, 0, 9, 42, 4, 182, 0, 211, 172, 27, 154, 0, 16, 42, 180, 0, 183, 154, 0, 9]
abbrev dktX6_readProduct_2 : List UInt8 := dkwX6_readProduct_2 ++ dktX6_readProduct_3
def dkwX6_readProduct_1 : List UInt8 := [182, 0, 225, 153, 0, 76, 42, 16, 42, 182, 0, 225, 60, 42, 182, 0, 218, 27, 154, 0, 17, 42]
abbrev dktX6_readProduct_1 : List UInt8 := dkwX6_readProduct_1 ++ dktX6_readProduct_2
def dkwX6_readProduct_0 : List UInt8 := [42, 182, 0, 221, 2, 160, 0, 5, 2, 172, 42, 16, 42, 182, 0, 225, 154, 0, 12, 42, 16, 47]
abbrev dktX6_readProduct_0 : List UInt8 := dkwX6_readProduct_0 ++ dktX6_readProduct_1
theorem dksX6_readProduct_0 : cX6_readProduct.data.toList.drop 0 = dktX6_readProduct_0 := by decide +kernel
theorem dksX6_readProduct_1 : cX6_readProduct.data.toList.drop 22 = dktX6_readProduct_1 := dk_seg dksX6_readProduct_0 22 rfl rfl
theorem dksX6_readProduct_2 : cX6_readProduct.data.toList.drop 44 = dktX6_readProduct_2 := dk_seg dksX6_readProduct_1 22 rfl rfl
theorem dksX6_readProduct_3 : cX6_readProduct.data.toList.drop 68 = dktX6_readProduct_3 := dk_seg dksX6_readProduct_2 24 rfl rfl
theorem dksX6_readProduct_4 : cX6_readProduct.data.toList.drop 90 = dktX6_readProduct_4 := dk_seg dksX6_readProduct_3 22 rfl rfl
theorem dX6_readProduct_0 : decode cX6_readProduct 0 = .ok (.aload_n 0, 1) := dk_42 (dk_at dksX6_readProduct_0 0 rfl rfl)
theorem dX6_readProduct_1 : decode cX6_readProduct 1 = .ok (.invokevirtual 221, 3) := dk_182 0 221 (dk_at dksX6_readProduct_0 1 rfl rfl)
theorem dX6_readProduct_4 : decode cX6_readProduct 4 = .ok (.iconst (-1), 1) := dk_2 (dk_at dksX6_readProduct_0 4 rfl rfl)
theorem dX6_readProduct_5 : decode cX6_readProduct 5 = .ok (.if_icmp .ne 5, 3) := dk_160 0 5 (dk_at dksX6_readProduct_0 5 rfl rfl)
theorem dX6_readProduct_8 : decode cX6_readProduct 8 = .ok (.iconst (-1), 1) := dk_2 (dk_at dksX6_readProduct_0 8 rfl rfl)
theorem dX6_readProduct_9 : decode cX6_readProduct 9 = .ok (.ireturn, 1) := dk_172 (dk_at dksX6_readProduct_0 9 rfl rfl)
theorem dX6_readProduct_10 : decode cX6_readProduct 10 = .ok (.aload_n 0, 1) := dk_42 (dk_at dksX6_readProduct_0 10 rfl rfl)
theorem dX6_readProduct_11 : decode cX6_readProduct 11 = .ok (.bipush 42, 2) := dk_16 42 (dk_at dksX6_readProduct_0 11 rfl rfl)
theorem dX6_readProduct_13 : decode cX6_readProduct 13 = .ok (.invokevirtual 225, 3) := dk_182 0 225 (dk_at dksX6_readProduct_0 13 rfl rfl)
theorem dX6_readProduct_16 : decode cX6_readProduct 16 = .ok (.ifCond .ne 12, 3) := dk_154 0 12 (dk_at dksX6_readProduct_0 16 rfl rfl)
theorem dX6_readProduct_19 : decode cX6_readProduct 19 = .ok (.aload_n 0, 1) := dk_42 (dk_at dksX6_readProduct_0 19 rfl rfl)
theorem dX6_readProduct_20 : decode cX6_readProduct 20 = .ok (.bipush 47, 2) := dk_16 47 (dk_at dksX6_readProduct_0 20 rfl rfl)
theorem dX6_readProduct_22 : decode cX6_readProduct 22 = .ok (.invokevirtual 225, 3) := dk_182 0 225 (dk_at dksX6_readProduct_1 0 rfl rfl)
theorem dX6_readProduct_25 : decode cX6_readProduct 25 = .ok (.ifCond .eq 76, 3) := dk_153 0 76 (dk_at dksX6_readProduct_1 3 rfl rfl)
theorem dX6_readProduct_28 : decode cX6_readProduct 28 = .ok (.aload_n 0, 1) := dk_42 (dk_at dksX6_readProduct_1 6 rfl rfl)
theorem dX6_readProduct_29 : decode cX6_readProduct 29 = .ok (.bipush 42, 2) := dk_16 42 (dk_at dksX6_readProduct_1 7 rfl rfl)
theorem dX6_readProduct_31 : decode cX6_readProduct 31 = .ok (.invokevirtual 225, 3) := dk_182 0 225 (dk_at dksX6_readProduct_1 9 rfl rfl)
theorem dX6_readProduct_34 : decode cX6_readProduct 34 = .ok (.istore_n 1, 1) := dk_60 (dk_at dksX6_readProduct_1 12 rfl rfl)
theorem dX6_readProduct_35 : decode cX6_readProduct 35 = .ok (.aload_n 0, 1) := dk_42 (dk_at dksX6_readProduct_1 13 rfl rfl)
theorem dX6_readProduct_36 : decode cX6_readProduct 36 = .ok (.invokevirtual 218, 3) := dk_182 0 218 (dk_at dksX6_readProduct_1 14 rfl rfl)
theorem dX6_readProduct_39 : decode cX6_readProduct 39 = .ok (.iload_n 1, 1) := dk_27 (dk_at dksX6_readProduct_1 17 rfl rfl)
theorem dX6_readProduct_40 : decode cX6_readProduct 40 = .ok (.ifCond .ne 17, 3) := dk_154 0 17 (dk_at dksX6_readProduct_1 18 rfl rfl)
theorem dX6_readProduct_43 : decode cX6_readProduct 43 = .ok (.aload_n 0, 1) := dk_42 (dk_at dksX6_readProduct_1 21 rfl rfl)
theorem dX6_readProduct_44 : decode cX6_readProduct 44 = .ok (.getfield 180, 3) := dk_180 0 180 (dk_at dksX6_readProduct_2 0 rfl rfl)
theorem dX6_readProduct_47 : decode cX6_readProduct 47 = .ok (.iconst 3, 1) := dk_6 (dk_at dksX6_readProduct_2 3 rfl rfl)
theorem dX6_readProduct_48 : decode cX6_readProduct 48 = .ok (.if_icmp .eq 9, 3) := dk_159 0 9 (dk_at dksX6_readProduct_2 4 rfl rfl)
theorem dX6_readProduct_51 : decode cX6_readProduct 51 = .ok (.aload_n 0, 1) := dk_42 (dk_at dksX6_readProduct_2 7 rfl rfl)
theorem dX6_readProduct_52 : decode cX6_readProduct 52 = .ok (.iconst 1, 1) := dk_4 (dk_at dksX6_readProduct_2 8 rfl rfl)
theorem dX6_readProduct_53 : decode cX6_readProduct 53 = .ok (.invokevirtual 211, 3) := dk_182 0 211 (dk_at dksX6_readProduct_2 9 rfl rfl)
theorem dX6_readProduct_56 : decode cX6_readProduct 56 = .ok (.ireturn, 1) := dk_172 (dk_at dksX6_readProduct_2 12 rfl rfl)
theorem dX6_readProduct_57 : decode cX6_readProduct 57 = .ok (.iload_n 1, 1) := dk_27 (dk_at dksX6_readProduct_2 13 rfl rfl)
theorem dX6_readProduct_58 : decode cX6_readProduct 58 = .ok (.ifCond .ne 16, 3) := dk_154 0 16 (dk_at dksX6_readProduct_2 14 rfl rfl)
theorem dX6_readProduct_61 : decode cX6_readProduct 61 = .ok (.aload_n 0, 1) := dk_42 (dk_at dksX6_readProduct_2 17 rfl rfl)
theorem dX6_readProduct_62 : decode cX6_readProduct 62 = .ok (.getfield 183, 3) := dk_180 0 183 (dk_at dksX6_readProduct_2 18 rfl rfl)
theorem dX6_readProduct_65 : decode cX6_readProduct 65 = .ok (.ifCond .ne 9, 3) := dk_154 0 9 (dk_at dksX6_readProduct_2 21 rfl rfl)
theorem dX6_readProduct_68 : decode cX6_readProduct 68 = .ok (.aload_n 0, 1) := dk_42 (dk_at dksX6_readProduct_3 0 rfl rfl)
theorem dX6_readProduct_69 : decode cX6_readProduct 69 = .ok (.iconst 2, 1) := dk_5 (dk_at dksX6_readProduct_3 1 rfl rfl)
theorem dX6_readProduct_70 : decode cX6_readProduct 70 = .ok (.invokevirtual 211, 3) := dk_182 0 211 (dk_at dksX6_readProduct_3 2 rfl rfl)
theorem dX6_readProduct_73 : decode cX6_readProduct 73 = .ok (.ireturn, 1) := dk_172 (dk_at dksX6_readProduct_3 5 rfl rfl)
theorem dX6_readProduct_74 : decode cX6_readProduct 74 = .ok (.aload_n 0, 1) := dk_42 (dk_at dksX6_readProduct_3 6 rfl rfl)
theorem dX6_readProduct_75 : decode cX6_readProduct 75 = .ok (.invokevirtual 221, 3) := dk_182 0 221 (dk_at dksX6_readProduct_3 7 rfl rfl)
theorem dX6_readProduct_78 : decode cX6_readProduct 78 = .ok (.iconst (-1), 1) := dk_2 (dk_at dksX6_readProduct_3 10 rfl rfl)
theorem dX6_readProduct_79 : decode cX6_readProduct 79 = .ok (.if_icmp .ne 5, 3) := dk_160 0 5 (dk_at dksX6_readProduct_3 11 rfl rfl)
theorem dX6_readProduct_82 : decode cX6_readProduct 82 = .ok (.iconst (-1), 1) := dk_2 (dk_at dksX6_readProduct_3 14 rfl rfl)
theorem dX6_readProduct_83 : decode cX6_readProduct 83 = .ok (.ireturn, 1) := dk_172 (dk_at dksX6_readProduct_3 15 rfl rfl)
theorem dX6_readProduct_84 : decode cX6_readProduct 84 = .ok (.aload_n 0, 1) := dk_42 (dk_at dksX6_readProduct_3 16 rfl rfl)
theorem dX6_readProduct_85 : decode cX6_readProduct 85 = .ok (.iload_n 1, 1) := dk_27 (dk_at dksX6_readProduct_3 17 rfl rfl)
theorem dX6_readProduct_86 : decode cX6_readProduct 86 = .ok (.ifCond .eq 7, 3) := dk_153 0 7 (dk_at dksX6_readProduct_3 18 rfl rfl)
theorem dX6_readProduct_89 : decode cX6_readProduct 89 = .ok (.iconst 4, 1) := dk_7 (dk_at dksX6_readProduct_3 21 rfl rfl)
theorem dX6_readProduct_90 : decode cX6_readProduct 90 = .ok (.goto 4, 3) := dk_167 0 4 (dk_at dksX6_readProduct_4 0 rfl rfl)
theorem dX6_readProduct_93 : decode cX6_readProduct 93 = .ok (.iconst 5, 1) := dk_8 (dk_at dksX6_readProduct_4 3 rfl rfl)
theorem dX6_readProduct_94 : decode cX6_readProduct 94 = .ok (.iconst 0, 1) := dk_3 (dk_at dksX6_readProduct_4 4 rfl rfl)
theorem dX6_readProduct_95 : decode cX6_readProduct 95 = .ok (.invokevirtual 214, 3) := dk_182 0 214 (dk_at dksX6_readProduct_4 5 rfl rfl)
theorem dX6_readProduct_98 : decode cX6_readProduct 98 = .ok (.goto (-88), 3) := dk_167 255 168 (dk_at dksX6_readProduct_4 8 rfl rfl)
theorem dX6_readProduct_101 : decode cX6_readProduct 101 = .ok (.iconst 0, 1) := dk_3 (dk_at dksX6_readProduct_4 11 rfl rfl)
theorem dX6_readProduct_102 : decode cX6_readProduct 102 = .ok (.ireturn, 1) := dk_172 (dk_at dksX6_readProduct_4 12 rfl rfl)
abbrev cX6_readUnit : ByteArray := prog_22_method_39_code
def yX6_readUnit : MethodName := ⟨RX6, "readUnit", "()I"⟩
def dkwX6_readUnit_3 : List UInt8 := [182, 0, 214, 42, 182, 0, 218, 3, 172]
abbrev dktX6_readUnit_3 : List UInt8 := dkwX6_readUnit_3 ++ []
def dkwX6_readUnit_2 : List UInt8 := [4, 167, 0, 4, 3, 27, 153, 0, 13, 42, 180, 0, 183, 16, 7, 100, 167, 0, 7, 42, 180, 0, 183]
abbrev dktX6_readUnit_2 : List UInt8 := dkwX6_readUnit_2 ++ dktX6_readUnit_3
def dkwX6_readUnit_1 : List UInt8 := [60, 27, 154, 0, 17, 42, 180, 0, 180, 6, 159, 0, 9, 42, 4, 182, 0, 211, 172, 42, 27, 153, 0, 7]
abbrev dktX6_readUnit_1 : List UInt8 := dkwX6_readUnit_1 ++ dktX6_readUnit_2
def dkwX6_readUnit_0 : List UInt8 := [42, 180, 0, 180, 5, 160, 0, 18, 42, 42, 180, 0, 183, 182, 0, 208, 153, 0, 7, 4, 167, 0, 4, 3]
abbrev dktX6_readUnit_0 : List UInt8 := dkwX6_readUnit_0 ++ dktX6_readUnit_1
theorem dksX6_readUnit_0 : cX6_readUnit.data.toList.drop 0 = dktX6_readUnit_0 := by decide +kernel
theorem dksX6_readUnit_1 : cX6_readUnit.data.toList.drop 24 = dktX6_readUnit_1 := dk_seg dksX6_readUnit_0 24 rfl rfl
theorem dksX6_readUnit_2 : cX6_readUnit.data.toList.drop 48 = dktX6_readUnit_2 := dk_seg dksX6_readUnit_1 24 rfl rfl
theorem dksX6_readUnit_3 : cX6_readUnit.data.toList.drop 71 = dktX6_readUnit_3 := dk_seg dksX6_readUnit_2 23 rfl rfl
theorem dX6_readUnit_0 : decode cX6_readUnit 0 = .ok (.aload_n 0, 1) := dk_42 (dk_at dksX6_readUnit_0 0 rfl rfl)
theorem dX6_readUnit_1 : decode cX6_readUnit 1 = .ok (.getfield 180, 3) := dk_180 0 180 (dk_at dksX6_readUnit_0 1 rfl rfl)
theorem dX6_readUnit_4 : decode cX6_readUnit 4 = .ok (.iconst 2, 1) := dk_5 (dk_at dksX6_readUnit_0 4 rfl rfl)
theorem dX6_readUnit_5 : decode cX6_readUnit 5 = .ok (.if_icmp .ne 18, 3) := dk_160 0 18 (dk_at dksX6_readUnit_0 5 rfl rfl)
theorem dX6_readUnit_8 : decode cX6_readUnit 8 = .ok (.aload_n 0, 1) := dk_42 (dk_at dksX6_readUnit_0 8 rfl rfl)
theorem dX6_readUnit_9 : decode cX6_readUnit 9 = .ok (.aload_n 0, 1) := dk_42 (dk_at dksX6_readUnit_0 9 rfl rfl)
theorem dX6_readUnit_10 : decode cX6_readUnit 10 = .ok (.getfield 183, 3) := dk_180 0 183 (dk_at dksX6_readUnit_0 10 rfl rfl)
theorem dX6_readUnit_13 : decode cX6_readUnit 13 = .ok (.invokevirtual 208, 3) := dk_182 0 208 (dk_at dksX6_readUnit_0 13 rfl rfl)
theorem dX6_readUnit_16 : decode cX6_readUnit 16 = .ok (.ifCond .eq 7, 3) := dk_153 0 7 (dk_at dksX6_readUnit_0 16 rfl rfl)
theorem dX6_readUnit_19 : decode cX6_readUnit 19 = .ok (.iconst 1, 1) := dk_4 (dk_at dksX6_readUnit_0 19 rfl rfl)
theorem dX6_readUnit_20 : decode cX6_readUnit 20 = .ok (.goto 4, 3) := dk_167 0 4 (dk_at dksX6_readUnit_0 20 rfl rfl)
theorem dX6_readUnit_23 : decode cX6_readUnit 23 = .ok (.iconst 0, 1) := dk_3 (dk_at dksX6_readUnit_0 23 rfl rfl)
theorem dX6_readUnit_24 : decode cX6_readUnit 24 = .ok (.istore_n 1, 1) := dk_60 (dk_at dksX6_readUnit_1 0 rfl rfl)
theorem dX6_readUnit_25 : decode cX6_readUnit 25 = .ok (.iload_n 1, 1) := dk_27 (dk_at dksX6_readUnit_1 1 rfl rfl)
theorem dX6_readUnit_26 : decode cX6_readUnit 26 = .ok (.ifCond .ne 17, 3) := dk_154 0 17 (dk_at dksX6_readUnit_1 2 rfl rfl)
theorem dX6_readUnit_29 : decode cX6_readUnit 29 = .ok (.aload_n 0, 1) := dk_42 (dk_at dksX6_readUnit_1 5 rfl rfl)
theorem dX6_readUnit_30 : decode cX6_readUnit 30 = .ok (.getfield 180, 3) := dk_180 0 180 (dk_at dksX6_readUnit_1 6 rfl rfl)
theorem dX6_readUnit_33 : decode cX6_readUnit 33 = .ok (.iconst 3, 1) := dk_6 (dk_at dksX6_readUnit_1 9 rfl rfl)
theorem dX6_readUnit_34 : decode cX6_readUnit 34 = .ok (.if_icmp .eq 9, 3) := dk_159 0 9 (dk_at dksX6_readUnit_1 10 rfl rfl)
theorem dX6_readUnit_37 : decode cX6_readUnit 37 = .ok (.aload_n 0, 1) := dk_42 (dk_at dksX6_readUnit_1 13 rfl rfl)
theorem dX6_readUnit_38 : decode cX6_readUnit 38 = .ok (.iconst 1, 1) := dk_4 (dk_at dksX6_readUnit_1 14 rfl rfl)
theorem dX6_readUnit_39 : decode cX6_readUnit 39 = .ok (.invokevirtual 211, 3) := dk_182 0 211 (dk_at dksX6_readUnit_1 15 rfl rfl)
theorem dX6_readUnit_42 : decode cX6_readUnit 42 = .ok (.ireturn, 1) := dk_172 (dk_at dksX6_readUnit_1 18 rfl rfl)
theorem dX6_readUnit_43 : decode cX6_readUnit 43 = .ok (.aload_n 0, 1) := dk_42 (dk_at dksX6_readUnit_1 19 rfl rfl)
theorem dX6_readUnit_44 : decode cX6_readUnit 44 = .ok (.iload_n 1, 1) := dk_27 (dk_at dksX6_readUnit_1 20 rfl rfl)
theorem dX6_readUnit_45 : decode cX6_readUnit 45 = .ok (.ifCond .eq 7, 3) := dk_153 0 7 (dk_at dksX6_readUnit_1 21 rfl rfl)
theorem dX6_readUnit_48 : decode cX6_readUnit 48 = .ok (.iconst 1, 1) := dk_4 (dk_at dksX6_readUnit_2 0 rfl rfl)
theorem dX6_readUnit_49 : decode cX6_readUnit 49 = .ok (.goto 4, 3) := dk_167 0 4 (dk_at dksX6_readUnit_2 1 rfl rfl)
theorem dX6_readUnit_52 : decode cX6_readUnit 52 = .ok (.iconst 0, 1) := dk_3 (dk_at dksX6_readUnit_2 4 rfl rfl)
theorem dX6_readUnit_53 : decode cX6_readUnit 53 = .ok (.iload_n 1, 1) := dk_27 (dk_at dksX6_readUnit_2 5 rfl rfl)
theorem dX6_readUnit_54 : decode cX6_readUnit 54 = .ok (.ifCond .eq 13, 3) := dk_153 0 13 (dk_at dksX6_readUnit_2 6 rfl rfl)
theorem dX6_readUnit_57 : decode cX6_readUnit 57 = .ok (.aload_n 0, 1) := dk_42 (dk_at dksX6_readUnit_2 9 rfl rfl)
theorem dX6_readUnit_58 : decode cX6_readUnit 58 = .ok (.getfield 183, 3) := dk_180 0 183 (dk_at dksX6_readUnit_2 10 rfl rfl)
theorem dX6_readUnit_61 : decode cX6_readUnit 61 = .ok (.bipush 7, 2) := dk_16 7 (dk_at dksX6_readUnit_2 13 rfl rfl)
theorem dX6_readUnit_63 : decode cX6_readUnit 63 = .ok (.isub, 1) := dk_100 (dk_at dksX6_readUnit_2 15 rfl rfl)
theorem dX6_readUnit_64 : decode cX6_readUnit 64 = .ok (.goto 7, 3) := dk_167 0 7 (dk_at dksX6_readUnit_2 16 rfl rfl)
theorem dX6_readUnit_67 : decode cX6_readUnit 67 = .ok (.aload_n 0, 1) := dk_42 (dk_at dksX6_readUnit_2 19 rfl rfl)
theorem dX6_readUnit_68 : decode cX6_readUnit 68 = .ok (.getfield 183, 3) := dk_180 0 183 (dk_at dksX6_readUnit_2 20 rfl rfl)
theorem dX6_readUnit_71 : decode cX6_readUnit 71 = .ok (.invokevirtual 214, 3) := dk_182 0 214 (dk_at dksX6_readUnit_3 0 rfl rfl)
theorem dX6_readUnit_74 : decode cX6_readUnit 74 = .ok (.aload_n 0, 1) := dk_42 (dk_at dksX6_readUnit_3 3 rfl rfl)
theorem dX6_readUnit_75 : decode cX6_readUnit 75 = .ok (.invokevirtual 218, 3) := dk_182 0 218 (dk_at dksX6_readUnit_3 4 rfl rfl)
theorem dX6_readUnit_78 : decode cX6_readUnit 78 = .ok (.iconst 0, 1) := dk_3 (dk_at dksX6_readUnit_3 7 rfl rfl)
theorem dX6_readUnit_79 : decode cX6_readUnit 79 = .ok (.ireturn, 1) := dk_172 (dk_at dksX6_readUnit_3 8 rfl rfl)
abbrev cX6_canAsk : ByteArray := prog_22_method_38_code
def yX6_canAsk : MethodName := ⟨RX6, "canAsk", "(I)Z"⟩
def dkwX6_canAsk_0 : List UInt8 := [42, 27, 16, 7, 16, 17, 182, 0, 145, 172]
abbrev dktX6_canAsk_0 : List UInt8 := dkwX6_canAsk_0 ++ []
theorem dksX6_canAsk_0 : cX6_canAsk.data.toList.drop 0 = dktX6_canAsk_0 := by decide +kernel
theorem dX6_canAsk_0 : decode cX6_canAsk 0 = .ok (.aload_n 0, 1) := dk_42 (dk_at dksX6_canAsk_0 0 rfl rfl)
theorem dX6_canAsk_1 : decode cX6_canAsk 1 = .ok (.iload_n 1, 1) := dk_27 (dk_at dksX6_canAsk_0 1 rfl rfl)
theorem dX6_canAsk_2 : decode cX6_canAsk 2 = .ok (.bipush 7, 2) := dk_16 7 (dk_at dksX6_canAsk_0 2 rfl rfl)
theorem dX6_canAsk_4 : decode cX6_canAsk 4 = .ok (.bipush 17, 2) := dk_16 17 (dk_at dksX6_canAsk_0 4 rfl rfl)
theorem dX6_canAsk_6 : decode cX6_canAsk 6 = .ok (.invokevirtual 145, 3) := dk_182 0 145 (dk_at dksX6_canAsk_0 6 rfl rfl)
theorem dX6_canAsk_9 : decode cX6_canAsk 9 = .ok (.ireturn, 1) := dk_172 (dk_at dksX6_canAsk_0 9 rfl rfl)
abbrev cX6_emits : ByteArray := prog_22_method_37_code
def yX6_emits : MethodName := ⟨RX6, "emits", "(II)V"⟩
def dkwX6_emits_1 : List UInt8 := [180, 0, 205, 96, 28, 79, 42, 42, 180, 0, 205, 4, 96, 181, 0, 205, 177]
abbrev dktX6_emits_1 : List UInt8 := dkwX6_emits_1 ++ []
def dkwX6_emits_0 : List UInt8 := [42, 180, 0, 49, 17, 3, 32, 42, 180, 0, 205, 96, 27, 79, 42, 180, 0, 52, 17, 3, 32, 42]
abbrev dktX6_emits_0 : List UInt8 := dkwX6_emits_0 ++ dktX6_emits_1
theorem dksX6_emits_0 : cX6_emits.data.toList.drop 0 = dktX6_emits_0 := by decide +kernel
theorem dksX6_emits_1 : cX6_emits.data.toList.drop 22 = dktX6_emits_1 := dk_seg dksX6_emits_0 22 rfl rfl
theorem dX6_emits_0 : decode cX6_emits 0 = .ok (.aload_n 0, 1) := dk_42 (dk_at dksX6_emits_0 0 rfl rfl)
theorem dX6_emits_1 : decode cX6_emits 1 = .ok (.getfield 49, 3) := dk_180 0 49 (dk_at dksX6_emits_0 1 rfl rfl)
theorem dX6_emits_4 : decode cX6_emits 4 = .ok (.sipush 800, 3) := dk_17 3 32 (dk_at dksX6_emits_0 4 rfl rfl)
theorem dX6_emits_7 : decode cX6_emits 7 = .ok (.aload_n 0, 1) := dk_42 (dk_at dksX6_emits_0 7 rfl rfl)
theorem dX6_emits_8 : decode cX6_emits 8 = .ok (.getfield 205, 3) := dk_180 0 205 (dk_at dksX6_emits_0 8 rfl rfl)
theorem dX6_emits_11 : decode cX6_emits 11 = .ok (.iadd, 1) := dk_96 (dk_at dksX6_emits_0 11 rfl rfl)
theorem dX6_emits_12 : decode cX6_emits 12 = .ok (.iload_n 1, 1) := dk_27 (dk_at dksX6_emits_0 12 rfl rfl)
theorem dX6_emits_13 : decode cX6_emits 13 = .ok (.iastore, 1) := dk_79 (dk_at dksX6_emits_0 13 rfl rfl)
theorem dX6_emits_14 : decode cX6_emits 14 = .ok (.aload_n 0, 1) := dk_42 (dk_at dksX6_emits_0 14 rfl rfl)
theorem dX6_emits_15 : decode cX6_emits 15 = .ok (.getfield 52, 3) := dk_180 0 52 (dk_at dksX6_emits_0 15 rfl rfl)
theorem dX6_emits_18 : decode cX6_emits 18 = .ok (.sipush 800, 3) := dk_17 3 32 (dk_at dksX6_emits_0 18 rfl rfl)
theorem dX6_emits_21 : decode cX6_emits 21 = .ok (.aload_n 0, 1) := dk_42 (dk_at dksX6_emits_0 21 rfl rfl)
theorem dX6_emits_22 : decode cX6_emits 22 = .ok (.getfield 205, 3) := dk_180 0 205 (dk_at dksX6_emits_1 0 rfl rfl)
theorem dX6_emits_25 : decode cX6_emits 25 = .ok (.iadd, 1) := dk_96 (dk_at dksX6_emits_1 3 rfl rfl)
theorem dX6_emits_26 : decode cX6_emits 26 = .ok (.iload_n 2, 1) := dk_28 (dk_at dksX6_emits_1 4 rfl rfl)
theorem dX6_emits_27 : decode cX6_emits 27 = .ok (.iastore, 1) := dk_79 (dk_at dksX6_emits_1 5 rfl rfl)
theorem dX6_emits_28 : decode cX6_emits 28 = .ok (.aload_n 0, 1) := dk_42 (dk_at dksX6_emits_1 6 rfl rfl)
theorem dX6_emits_29 : decode cX6_emits 29 = .ok (.aload_n 0, 1) := dk_42 (dk_at dksX6_emits_1 7 rfl rfl)
theorem dX6_emits_30 : decode cX6_emits 30 = .ok (.getfield 205, 3) := dk_180 0 205 (dk_at dksX6_emits_1 8 rfl rfl)
theorem dX6_emits_33 : decode cX6_emits 33 = .ok (.iconst 1, 1) := dk_4 (dk_at dksX6_emits_1 11 rfl rfl)
theorem dX6_emits_34 : decode cX6_emits 34 = .ok (.iadd, 1) := dk_96 (dk_at dksX6_emits_1 12 rfl rfl)
theorem dX6_emits_35 : decode cX6_emits 35 = .ok (.putfield 205, 3) := dk_181 0 205 (dk_at dksX6_emits_1 13 rfl rfl)
theorem dX6_emits_38 : decode cX6_emits 38 = .ok (.return_, 1) := dk_177 (dk_at dksX6_emits_1 16 rfl rfl)
abbrev cX6_readAny : ByteArray := prog_22_method_45_code
def yX6_readAny : MethodName := ⟨RX6, "readAny", "()I"⟩
def dkwX6_readAny_10 : List UInt8 := [16, 9, 182, 0, 249, 42, 182, 0, 218, 167, 255, 25]
abbrev dktX6_readAny_10 : List UInt8 := dkwX6_readAny_10 ++ []
def dkwX6_readAny_9 : List UInt8 := [180, 0, 234, 4, 100, 181, 0, 234, 27, 4, 100, 60, 42, 42, 180, 0, 237, 4, 100, 181, 0, 237, 42]
abbrev dktX6_readAny_9 : List UInt8 := dkwX6_readAny_9 ++ dktX6_readAny_10
def dkwX6_readAny_8 : List UInt8 := [154, 0, 5, 3, 172, 42, 16, 41, 182, 0, 225, 154, 0, 9, 42, 4, 182, 0, 211, 172, 42, 42]
abbrev dktX6_readAny_8 : List UInt8 := dkwX6_readAny_8 ++ dktX6_readAny_9
def dkwX6_readAny_7 : List UInt8 := [42, 182, 0, 218, 4, 61, 167, 255, 95, 42, 16, 10, 182, 0, 249, 42, 16, 11, 182, 0, 249, 27]
abbrev dktX6_readAny_7 : List UInt8 := dkwX6_readAny_7 ++ dktX6_readAny_8
def dkwX6_readAny_6 : List UInt8 := [182, 0, 240, 153, 0, 30, 42, 16, 10, 182, 0, 249, 42, 16, 11, 182, 0, 249, 42, 16, 11, 182, 0, 243]
abbrev dktX6_readAny_6 : List UInt8 := dkwX6_readAny_6 ++ dktX6_readAny_7
def dkwX6_readAny_5 : List UInt8 := [42, 16, 10, 182, 0, 249, 42, 16, 10, 182, 0, 243, 42, 182, 0, 218, 4, 61, 167, 255, 130, 42, 7]
abbrev dktX6_readAny_5 : List UInt8 := dkwX6_readAny_5 ++ dktX6_readAny_6
def dkwX6_readAny_4 : List UInt8 := [160, 0, 5, 2, 172, 42, 16, 9, 182, 0, 249, 3, 61, 167, 255, 159, 42, 8, 182, 0, 240, 153, 0, 24]
abbrev dktX6_readAny_4 : List UInt8 := dkwX6_readAny_4 ++ dktX6_readAny_5
def dkwX6_readAny_3 : List UInt8 := [16, 9, 167, 0, 5, 16, 12, 182, 0, 243, 42, 182, 0, 218, 167, 255, 180, 42, 182, 0, 246, 2]
abbrev dktX6_readAny_3 : List UInt8 := dkwX6_readAny_3 ++ dktX6_readAny_4
def dkwX6_readAny_2 : List UInt8 := [42, 42, 180, 0, 237, 4, 96, 181, 0, 237, 29, 154, 0, 7, 27, 4, 96, 60, 42, 29, 153, 0, 8]
abbrev dktX6_readAny_2 : List UInt8 := dkwX6_readAny_2 ++ dktX6_readAny_3
def dkwX6_readAny_1 : List UInt8 := [42, 16, 40, 182, 0, 225, 153, 0, 58, 42, 180, 0, 237, 16, 8, 160, 0, 9, 42, 6, 182, 0, 211, 172]
abbrev dktX6_readAny_1 : List UInt8 := dkwX6_readAny_1 ++ dktX6_readAny_2
def dkwX6_readAny_0 : List UInt8 := [3, 60, 42, 3, 181, 0, 234, 4, 61, 28, 153, 0, 99, 42, 16, 6, 182, 0, 240, 62, 29, 154, 0, 12]
abbrev dktX6_readAny_0 : List UInt8 := dkwX6_readAny_0 ++ dktX6_readAny_1
theorem dksX6_readAny_0 : cX6_readAny.data.toList.drop 0 = dktX6_readAny_0 := by decide +kernel
theorem dksX6_readAny_1 : cX6_readAny.data.toList.drop 24 = dktX6_readAny_1 := dk_seg dksX6_readAny_0 24 rfl rfl
theorem dksX6_readAny_2 : cX6_readAny.data.toList.drop 48 = dktX6_readAny_2 := dk_seg dksX6_readAny_1 24 rfl rfl
theorem dksX6_readAny_3 : cX6_readAny.data.toList.drop 71 = dktX6_readAny_3 := dk_seg dksX6_readAny_2 23 rfl rfl
theorem dksX6_readAny_4 : cX6_readAny.data.toList.drop 93 = dktX6_readAny_4 := dk_seg dksX6_readAny_3 22 rfl rfl
theorem dksX6_readAny_5 : cX6_readAny.data.toList.drop 117 = dktX6_readAny_5 := dk_seg dksX6_readAny_4 24 rfl rfl
theorem dksX6_readAny_6 : cX6_readAny.data.toList.drop 140 = dktX6_readAny_6 := dk_seg dksX6_readAny_5 23 rfl rfl
theorem dksX6_readAny_7 : cX6_readAny.data.toList.drop 164 = dktX6_readAny_7 := dk_seg dksX6_readAny_6 24 rfl rfl
theorem dksX6_readAny_8 : cX6_readAny.data.toList.drop 186 = dktX6_readAny_8 := dk_seg dksX6_readAny_7 22 rfl rfl
theorem dksX6_readAny_9 : cX6_readAny.data.toList.drop 208 = dktX6_readAny_9 := dk_seg dksX6_readAny_8 22 rfl rfl
theorem dksX6_readAny_10 : cX6_readAny.data.toList.drop 231 = dktX6_readAny_10 := dk_seg dksX6_readAny_9 23 rfl rfl
theorem dX6_readAny_0 : decode cX6_readAny 0 = .ok (.iconst 0, 1) := dk_3 (dk_at dksX6_readAny_0 0 rfl rfl)
theorem dX6_readAny_1 : decode cX6_readAny 1 = .ok (.istore_n 1, 1) := dk_60 (dk_at dksX6_readAny_0 1 rfl rfl)
theorem dX6_readAny_2 : decode cX6_readAny 2 = .ok (.aload_n 0, 1) := dk_42 (dk_at dksX6_readAny_0 2 rfl rfl)
theorem dX6_readAny_3 : decode cX6_readAny 3 = .ok (.iconst 0, 1) := dk_3 (dk_at dksX6_readAny_0 3 rfl rfl)
theorem dX6_readAny_4 : decode cX6_readAny 4 = .ok (.putfield 234, 3) := dk_181 0 234 (dk_at dksX6_readAny_0 4 rfl rfl)
theorem dX6_readAny_7 : decode cX6_readAny 7 = .ok (.iconst 1, 1) := dk_4 (dk_at dksX6_readAny_0 7 rfl rfl)
theorem dX6_readAny_8 : decode cX6_readAny 8 = .ok (.istore_n 2, 1) := dk_61 (dk_at dksX6_readAny_0 8 rfl rfl)
theorem dX6_readAny_9 : decode cX6_readAny 9 = .ok (.iload_n 2, 1) := dk_28 (dk_at dksX6_readAny_0 9 rfl rfl)
theorem dX6_readAny_10 : decode cX6_readAny 10 = .ok (.ifCond .eq 99, 3) := dk_153 0 99 (dk_at dksX6_readAny_0 10 rfl rfl)
theorem dX6_readAny_13 : decode cX6_readAny 13 = .ok (.aload_n 0, 1) := dk_42 (dk_at dksX6_readAny_0 13 rfl rfl)
theorem dX6_readAny_14 : decode cX6_readAny 14 = .ok (.bipush 6, 2) := dk_16 6 (dk_at dksX6_readAny_0 14 rfl rfl)
theorem dX6_readAny_16 : decode cX6_readAny 16 = .ok (.invokevirtual 240, 3) := dk_182 0 240 (dk_at dksX6_readAny_0 16 rfl rfl)
theorem dX6_readAny_19 : decode cX6_readAny 19 = .ok (.istore_n 3, 1) := dk_62 (dk_at dksX6_readAny_0 19 rfl rfl)
theorem dX6_readAny_20 : decode cX6_readAny 20 = .ok (.iload_n 3, 1) := dk_29 (dk_at dksX6_readAny_0 20 rfl rfl)
theorem dX6_readAny_21 : decode cX6_readAny 21 = .ok (.ifCond .ne 12, 3) := dk_154 0 12 (dk_at dksX6_readAny_0 21 rfl rfl)
theorem dX6_readAny_24 : decode cX6_readAny 24 = .ok (.aload_n 0, 1) := dk_42 (dk_at dksX6_readAny_1 0 rfl rfl)
theorem dX6_readAny_25 : decode cX6_readAny 25 = .ok (.bipush 40, 2) := dk_16 40 (dk_at dksX6_readAny_1 1 rfl rfl)
theorem dX6_readAny_27 : decode cX6_readAny 27 = .ok (.invokevirtual 225, 3) := dk_182 0 225 (dk_at dksX6_readAny_1 3 rfl rfl)
theorem dX6_readAny_30 : decode cX6_readAny 30 = .ok (.ifCond .eq 58, 3) := dk_153 0 58 (dk_at dksX6_readAny_1 6 rfl rfl)
theorem dX6_readAny_33 : decode cX6_readAny 33 = .ok (.aload_n 0, 1) := dk_42 (dk_at dksX6_readAny_1 9 rfl rfl)
theorem dX6_readAny_34 : decode cX6_readAny 34 = .ok (.getfield 237, 3) := dk_180 0 237 (dk_at dksX6_readAny_1 10 rfl rfl)
theorem dX6_readAny_37 : decode cX6_readAny 37 = .ok (.bipush 8, 2) := dk_16 8 (dk_at dksX6_readAny_1 13 rfl rfl)
theorem dX6_readAny_39 : decode cX6_readAny 39 = .ok (.if_icmp .ne 9, 3) := dk_160 0 9 (dk_at dksX6_readAny_1 15 rfl rfl)
theorem dX6_readAny_42 : decode cX6_readAny 42 = .ok (.aload_n 0, 1) := dk_42 (dk_at dksX6_readAny_1 18 rfl rfl)
theorem dX6_readAny_43 : decode cX6_readAny 43 = .ok (.iconst 3, 1) := dk_6 (dk_at dksX6_readAny_1 19 rfl rfl)
theorem dX6_readAny_44 : decode cX6_readAny 44 = .ok (.invokevirtual 211, 3) := dk_182 0 211 (dk_at dksX6_readAny_1 20 rfl rfl)
theorem dX6_readAny_47 : decode cX6_readAny 47 = .ok (.ireturn, 1) := dk_172 (dk_at dksX6_readAny_1 23 rfl rfl)
theorem dX6_readAny_48 : decode cX6_readAny 48 = .ok (.aload_n 0, 1) := dk_42 (dk_at dksX6_readAny_2 0 rfl rfl)
theorem dX6_readAny_49 : decode cX6_readAny 49 = .ok (.aload_n 0, 1) := dk_42 (dk_at dksX6_readAny_2 1 rfl rfl)
theorem dX6_readAny_50 : decode cX6_readAny 50 = .ok (.getfield 237, 3) := dk_180 0 237 (dk_at dksX6_readAny_2 2 rfl rfl)
theorem dX6_readAny_53 : decode cX6_readAny 53 = .ok (.iconst 1, 1) := dk_4 (dk_at dksX6_readAny_2 5 rfl rfl)
theorem dX6_readAny_54 : decode cX6_readAny 54 = .ok (.iadd, 1) := dk_96 (dk_at dksX6_readAny_2 6 rfl rfl)
theorem dX6_readAny_55 : decode cX6_readAny 55 = .ok (.putfield 237, 3) := dk_181 0 237 (dk_at dksX6_readAny_2 7 rfl rfl)
theorem dX6_readAny_58 : decode cX6_readAny 58 = .ok (.iload_n 3, 1) := dk_29 (dk_at dksX6_readAny_2 10 rfl rfl)
theorem dX6_readAny_59 : decode cX6_readAny 59 = .ok (.ifCond .ne 7, 3) := dk_154 0 7 (dk_at dksX6_readAny_2 11 rfl rfl)
theorem dX6_readAny_62 : decode cX6_readAny 62 = .ok (.iload_n 1, 1) := dk_27 (dk_at dksX6_readAny_2 14 rfl rfl)
theorem dX6_readAny_63 : decode cX6_readAny 63 = .ok (.iconst 1, 1) := dk_4 (dk_at dksX6_readAny_2 15 rfl rfl)
theorem dX6_readAny_64 : decode cX6_readAny 64 = .ok (.iadd, 1) := dk_96 (dk_at dksX6_readAny_2 16 rfl rfl)
theorem dX6_readAny_65 : decode cX6_readAny 65 = .ok (.istore_n 1, 1) := dk_60 (dk_at dksX6_readAny_2 17 rfl rfl)
theorem dX6_readAny_66 : decode cX6_readAny 66 = .ok (.aload_n 0, 1) := dk_42 (dk_at dksX6_readAny_2 18 rfl rfl)
theorem dX6_readAny_67 : decode cX6_readAny 67 = .ok (.iload_n 3, 1) := dk_29 (dk_at dksX6_readAny_2 19 rfl rfl)
theorem dX6_readAny_68 : decode cX6_readAny 68 = .ok (.ifCond .eq 8, 3) := dk_153 0 8 (dk_at dksX6_readAny_2 20 rfl rfl)
theorem dX6_readAny_71 : decode cX6_readAny 71 = .ok (.bipush 9, 2) := dk_16 9 (dk_at dksX6_readAny_3 0 rfl rfl)
theorem dX6_readAny_73 : decode cX6_readAny 73 = .ok (.goto 5, 3) := dk_167 0 5 (dk_at dksX6_readAny_3 2 rfl rfl)
theorem dX6_readAny_76 : decode cX6_readAny 76 = .ok (.bipush 12, 2) := dk_16 12 (dk_at dksX6_readAny_3 5 rfl rfl)
theorem dX6_readAny_78 : decode cX6_readAny 78 = .ok (.invokevirtual 243, 3) := dk_182 0 243 (dk_at dksX6_readAny_3 7 rfl rfl)
theorem dX6_readAny_81 : decode cX6_readAny 81 = .ok (.aload_n 0, 1) := dk_42 (dk_at dksX6_readAny_3 10 rfl rfl)
theorem dX6_readAny_82 : decode cX6_readAny 82 = .ok (.invokevirtual 218, 3) := dk_182 0 218 (dk_at dksX6_readAny_3 11 rfl rfl)
theorem dX6_readAny_85 : decode cX6_readAny 85 = .ok (.goto (-76), 3) := dk_167 255 180 (dk_at dksX6_readAny_3 14 rfl rfl)
theorem dX6_readAny_88 : decode cX6_readAny 88 = .ok (.aload_n 0, 1) := dk_42 (dk_at dksX6_readAny_3 17 rfl rfl)
theorem dX6_readAny_89 : decode cX6_readAny 89 = .ok (.invokevirtual 246, 3) := dk_182 0 246 (dk_at dksX6_readAny_3 18 rfl rfl)
theorem dX6_readAny_92 : decode cX6_readAny 92 = .ok (.iconst (-1), 1) := dk_2 (dk_at dksX6_readAny_3 21 rfl rfl)
theorem dX6_readAny_93 : decode cX6_readAny 93 = .ok (.if_icmp .ne 5, 3) := dk_160 0 5 (dk_at dksX6_readAny_4 0 rfl rfl)
theorem dX6_readAny_96 : decode cX6_readAny 96 = .ok (.iconst (-1), 1) := dk_2 (dk_at dksX6_readAny_4 3 rfl rfl)
theorem dX6_readAny_97 : decode cX6_readAny 97 = .ok (.ireturn, 1) := dk_172 (dk_at dksX6_readAny_4 4 rfl rfl)
theorem dX6_readAny_98 : decode cX6_readAny 98 = .ok (.aload_n 0, 1) := dk_42 (dk_at dksX6_readAny_4 5 rfl rfl)
theorem dX6_readAny_99 : decode cX6_readAny 99 = .ok (.bipush 9, 2) := dk_16 9 (dk_at dksX6_readAny_4 6 rfl rfl)
theorem dX6_readAny_101 : decode cX6_readAny 101 = .ok (.invokevirtual 249, 3) := dk_182 0 249 (dk_at dksX6_readAny_4 8 rfl rfl)
theorem dX6_readAny_104 : decode cX6_readAny 104 = .ok (.iconst 0, 1) := dk_3 (dk_at dksX6_readAny_4 11 rfl rfl)
theorem dX6_readAny_105 : decode cX6_readAny 105 = .ok (.istore_n 2, 1) := dk_61 (dk_at dksX6_readAny_4 12 rfl rfl)
theorem dX6_readAny_106 : decode cX6_readAny 106 = .ok (.goto (-97), 3) := dk_167 255 159 (dk_at dksX6_readAny_4 13 rfl rfl)
theorem dX6_readAny_109 : decode cX6_readAny 109 = .ok (.aload_n 0, 1) := dk_42 (dk_at dksX6_readAny_4 16 rfl rfl)
theorem dX6_readAny_110 : decode cX6_readAny 110 = .ok (.iconst 5, 1) := dk_8 (dk_at dksX6_readAny_4 17 rfl rfl)
theorem dX6_readAny_111 : decode cX6_readAny 111 = .ok (.invokevirtual 240, 3) := dk_182 0 240 (dk_at dksX6_readAny_4 18 rfl rfl)
theorem dX6_readAny_114 : decode cX6_readAny 114 = .ok (.ifCond .eq 24, 3) := dk_153 0 24 (dk_at dksX6_readAny_4 21 rfl rfl)
theorem dX6_readAny_117 : decode cX6_readAny 117 = .ok (.aload_n 0, 1) := dk_42 (dk_at dksX6_readAny_5 0 rfl rfl)
theorem dX6_readAny_118 : decode cX6_readAny 118 = .ok (.bipush 10, 2) := dk_16 10 (dk_at dksX6_readAny_5 1 rfl rfl)
theorem dX6_readAny_120 : decode cX6_readAny 120 = .ok (.invokevirtual 249, 3) := dk_182 0 249 (dk_at dksX6_readAny_5 3 rfl rfl)
theorem dX6_readAny_123 : decode cX6_readAny 123 = .ok (.aload_n 0, 1) := dk_42 (dk_at dksX6_readAny_5 6 rfl rfl)
theorem dX6_readAny_124 : decode cX6_readAny 124 = .ok (.bipush 10, 2) := dk_16 10 (dk_at dksX6_readAny_5 7 rfl rfl)
theorem dX6_readAny_126 : decode cX6_readAny 126 = .ok (.invokevirtual 243, 3) := dk_182 0 243 (dk_at dksX6_readAny_5 9 rfl rfl)
theorem dX6_readAny_129 : decode cX6_readAny 129 = .ok (.aload_n 0, 1) := dk_42 (dk_at dksX6_readAny_5 12 rfl rfl)
theorem dX6_readAny_130 : decode cX6_readAny 130 = .ok (.invokevirtual 218, 3) := dk_182 0 218 (dk_at dksX6_readAny_5 13 rfl rfl)
theorem dX6_readAny_133 : decode cX6_readAny 133 = .ok (.iconst 1, 1) := dk_4 (dk_at dksX6_readAny_5 16 rfl rfl)
theorem dX6_readAny_134 : decode cX6_readAny 134 = .ok (.istore_n 2, 1) := dk_61 (dk_at dksX6_readAny_5 17 rfl rfl)
theorem dX6_readAny_135 : decode cX6_readAny 135 = .ok (.goto (-126), 3) := dk_167 255 130 (dk_at dksX6_readAny_5 18 rfl rfl)
theorem dX6_readAny_138 : decode cX6_readAny 138 = .ok (.aload_n 0, 1) := dk_42 (dk_at dksX6_readAny_5 21 rfl rfl)
theorem dX6_readAny_139 : decode cX6_readAny 139 = .ok (.iconst 4, 1) := dk_7 (dk_at dksX6_readAny_5 22 rfl rfl)
theorem dX6_readAny_140 : decode cX6_readAny 140 = .ok (.invokevirtual 240, 3) := dk_182 0 240 (dk_at dksX6_readAny_6 0 rfl rfl)
theorem dX6_readAny_143 : decode cX6_readAny 143 = .ok (.ifCond .eq 30, 3) := dk_153 0 30 (dk_at dksX6_readAny_6 3 rfl rfl)
theorem dX6_readAny_146 : decode cX6_readAny 146 = .ok (.aload_n 0, 1) := dk_42 (dk_at dksX6_readAny_6 6 rfl rfl)
theorem dX6_readAny_147 : decode cX6_readAny 147 = .ok (.bipush 10, 2) := dk_16 10 (dk_at dksX6_readAny_6 7 rfl rfl)
theorem dX6_readAny_149 : decode cX6_readAny 149 = .ok (.invokevirtual 249, 3) := dk_182 0 249 (dk_at dksX6_readAny_6 9 rfl rfl)
theorem dX6_readAny_152 : decode cX6_readAny 152 = .ok (.aload_n 0, 1) := dk_42 (dk_at dksX6_readAny_6 12 rfl rfl)
theorem dX6_readAny_153 : decode cX6_readAny 153 = .ok (.bipush 11, 2) := dk_16 11 (dk_at dksX6_readAny_6 13 rfl rfl)
theorem dX6_readAny_155 : decode cX6_readAny 155 = .ok (.invokevirtual 249, 3) := dk_182 0 249 (dk_at dksX6_readAny_6 15 rfl rfl)
theorem dX6_readAny_158 : decode cX6_readAny 158 = .ok (.aload_n 0, 1) := dk_42 (dk_at dksX6_readAny_6 18 rfl rfl)
theorem dX6_readAny_159 : decode cX6_readAny 159 = .ok (.bipush 11, 2) := dk_16 11 (dk_at dksX6_readAny_6 19 rfl rfl)
theorem dX6_readAny_161 : decode cX6_readAny 161 = .ok (.invokevirtual 243, 3) := dk_182 0 243 (dk_at dksX6_readAny_6 21 rfl rfl)
theorem dX6_readAny_164 : decode cX6_readAny 164 = .ok (.aload_n 0, 1) := dk_42 (dk_at dksX6_readAny_7 0 rfl rfl)
theorem dX6_readAny_165 : decode cX6_readAny 165 = .ok (.invokevirtual 218, 3) := dk_182 0 218 (dk_at dksX6_readAny_7 1 rfl rfl)
theorem dX6_readAny_168 : decode cX6_readAny 168 = .ok (.iconst 1, 1) := dk_4 (dk_at dksX6_readAny_7 4 rfl rfl)
theorem dX6_readAny_169 : decode cX6_readAny 169 = .ok (.istore_n 2, 1) := dk_61 (dk_at dksX6_readAny_7 5 rfl rfl)
theorem dX6_readAny_170 : decode cX6_readAny 170 = .ok (.goto (-161), 3) := dk_167 255 95 (dk_at dksX6_readAny_7 6 rfl rfl)
theorem dX6_readAny_173 : decode cX6_readAny 173 = .ok (.aload_n 0, 1) := dk_42 (dk_at dksX6_readAny_7 9 rfl rfl)
theorem dX6_readAny_174 : decode cX6_readAny 174 = .ok (.bipush 10, 2) := dk_16 10 (dk_at dksX6_readAny_7 10 rfl rfl)
theorem dX6_readAny_176 : decode cX6_readAny 176 = .ok (.invokevirtual 249, 3) := dk_182 0 249 (dk_at dksX6_readAny_7 12 rfl rfl)
theorem dX6_readAny_179 : decode cX6_readAny 179 = .ok (.aload_n 0, 1) := dk_42 (dk_at dksX6_readAny_7 15 rfl rfl)
theorem dX6_readAny_180 : decode cX6_readAny 180 = .ok (.bipush 11, 2) := dk_16 11 (dk_at dksX6_readAny_7 16 rfl rfl)
theorem dX6_readAny_182 : decode cX6_readAny 182 = .ok (.invokevirtual 249, 3) := dk_182 0 249 (dk_at dksX6_readAny_7 18 rfl rfl)
theorem dX6_readAny_185 : decode cX6_readAny 185 = .ok (.iload_n 1, 1) := dk_27 (dk_at dksX6_readAny_7 21 rfl rfl)
theorem dX6_readAny_186 : decode cX6_readAny 186 = .ok (.ifCond .ne 5, 3) := dk_154 0 5 (dk_at dksX6_readAny_8 0 rfl rfl)
theorem dX6_readAny_189 : decode cX6_readAny 189 = .ok (.iconst 0, 1) := dk_3 (dk_at dksX6_readAny_8 3 rfl rfl)
theorem dX6_readAny_190 : decode cX6_readAny 190 = .ok (.ireturn, 1) := dk_172 (dk_at dksX6_readAny_8 4 rfl rfl)
theorem dX6_readAny_191 : decode cX6_readAny 191 = .ok (.aload_n 0, 1) := dk_42 (dk_at dksX6_readAny_8 5 rfl rfl)
theorem dX6_readAny_192 : decode cX6_readAny 192 = .ok (.bipush 41, 2) := dk_16 41 (dk_at dksX6_readAny_8 6 rfl rfl)
theorem dX6_readAny_194 : decode cX6_readAny 194 = .ok (.invokevirtual 225, 3) := dk_182 0 225 (dk_at dksX6_readAny_8 8 rfl rfl)
theorem dX6_readAny_197 : decode cX6_readAny 197 = .ok (.ifCond .ne 9, 3) := dk_154 0 9 (dk_at dksX6_readAny_8 11 rfl rfl)
theorem dX6_readAny_200 : decode cX6_readAny 200 = .ok (.aload_n 0, 1) := dk_42 (dk_at dksX6_readAny_8 14 rfl rfl)
theorem dX6_readAny_201 : decode cX6_readAny 201 = .ok (.iconst 1, 1) := dk_4 (dk_at dksX6_readAny_8 15 rfl rfl)
theorem dX6_readAny_202 : decode cX6_readAny 202 = .ok (.invokevirtual 211, 3) := dk_182 0 211 (dk_at dksX6_readAny_8 16 rfl rfl)
theorem dX6_readAny_205 : decode cX6_readAny 205 = .ok (.ireturn, 1) := dk_172 (dk_at dksX6_readAny_8 19 rfl rfl)
theorem dX6_readAny_206 : decode cX6_readAny 206 = .ok (.aload_n 0, 1) := dk_42 (dk_at dksX6_readAny_8 20 rfl rfl)
theorem dX6_readAny_207 : decode cX6_readAny 207 = .ok (.aload_n 0, 1) := dk_42 (dk_at dksX6_readAny_8 21 rfl rfl)
theorem dX6_readAny_208 : decode cX6_readAny 208 = .ok (.getfield 234, 3) := dk_180 0 234 (dk_at dksX6_readAny_9 0 rfl rfl)
theorem dX6_readAny_211 : decode cX6_readAny 211 = .ok (.iconst 1, 1) := dk_4 (dk_at dksX6_readAny_9 3 rfl rfl)
theorem dX6_readAny_212 : decode cX6_readAny 212 = .ok (.isub, 1) := dk_100 (dk_at dksX6_readAny_9 4 rfl rfl)
theorem dX6_readAny_213 : decode cX6_readAny 213 = .ok (.putfield 234, 3) := dk_181 0 234 (dk_at dksX6_readAny_9 5 rfl rfl)
theorem dX6_readAny_216 : decode cX6_readAny 216 = .ok (.iload_n 1, 1) := dk_27 (dk_at dksX6_readAny_9 8 rfl rfl)
theorem dX6_readAny_217 : decode cX6_readAny 217 = .ok (.iconst 1, 1) := dk_4 (dk_at dksX6_readAny_9 9 rfl rfl)
theorem dX6_readAny_218 : decode cX6_readAny 218 = .ok (.isub, 1) := dk_100 (dk_at dksX6_readAny_9 10 rfl rfl)
theorem dX6_readAny_219 : decode cX6_readAny 219 = .ok (.istore_n 1, 1) := dk_60 (dk_at dksX6_readAny_9 11 rfl rfl)
theorem dX6_readAny_220 : decode cX6_readAny 220 = .ok (.aload_n 0, 1) := dk_42 (dk_at dksX6_readAny_9 12 rfl rfl)
theorem dX6_readAny_221 : decode cX6_readAny 221 = .ok (.aload_n 0, 1) := dk_42 (dk_at dksX6_readAny_9 13 rfl rfl)
theorem dX6_readAny_222 : decode cX6_readAny 222 = .ok (.getfield 237, 3) := dk_180 0 237 (dk_at dksX6_readAny_9 14 rfl rfl)
theorem dX6_readAny_225 : decode cX6_readAny 225 = .ok (.iconst 1, 1) := dk_4 (dk_at dksX6_readAny_9 17 rfl rfl)
theorem dX6_readAny_226 : decode cX6_readAny 226 = .ok (.isub, 1) := dk_100 (dk_at dksX6_readAny_9 18 rfl rfl)
theorem dX6_readAny_227 : decode cX6_readAny 227 = .ok (.putfield 237, 3) := dk_181 0 237 (dk_at dksX6_readAny_9 19 rfl rfl)
theorem dX6_readAny_230 : decode cX6_readAny 230 = .ok (.aload_n 0, 1) := dk_42 (dk_at dksX6_readAny_9 22 rfl rfl)
theorem dX6_readAny_231 : decode cX6_readAny 231 = .ok (.bipush 9, 2) := dk_16 9 (dk_at dksX6_readAny_10 0 rfl rfl)
theorem dX6_readAny_233 : decode cX6_readAny 233 = .ok (.invokevirtual 249, 3) := dk_182 0 249 (dk_at dksX6_readAny_10 2 rfl rfl)
theorem dX6_readAny_236 : decode cX6_readAny 236 = .ok (.aload_n 0, 1) := dk_42 (dk_at dksX6_readAny_10 5 rfl rfl)
theorem dX6_readAny_237 : decode cX6_readAny 237 = .ok (.invokevirtual 218, 3) := dk_182 0 218 (dk_at dksX6_readAny_10 6 rfl rfl)
theorem dX6_readAny_240 : decode cX6_readAny 240 = .ok (.goto (-231), 3) := dk_167 255 25 (dk_at dksX6_readAny_10 9 rfl rfl)
abbrev cX6_waits : ByteArray := prog_22_method_43_code
def yX6_waits : MethodName := ⟨RX6, "waits", "(I)V"⟩
def dkwX6_waits_0 : List UInt8 := [42, 180, 0, 55, 42, 180, 0, 234, 27, 79, 42, 42, 180, 0, 234, 4, 96, 181, 0, 234, 177]
abbrev dktX6_waits_0 : List UInt8 := dkwX6_waits_0 ++ []
theorem dksX6_waits_0 : cX6_waits.data.toList.drop 0 = dktX6_waits_0 := by decide +kernel
theorem dX6_waits_0 : decode cX6_waits 0 = .ok (.aload_n 0, 1) := dk_42 (dk_at dksX6_waits_0 0 rfl rfl)
theorem dX6_waits_1 : decode cX6_waits 1 = .ok (.getfield 55, 3) := dk_180 0 55 (dk_at dksX6_waits_0 1 rfl rfl)
theorem dX6_waits_4 : decode cX6_waits 4 = .ok (.aload_n 0, 1) := dk_42 (dk_at dksX6_waits_0 4 rfl rfl)
theorem dX6_waits_5 : decode cX6_waits 5 = .ok (.getfield 234, 3) := dk_180 0 234 (dk_at dksX6_waits_0 5 rfl rfl)
theorem dX6_waits_8 : decode cX6_waits 8 = .ok (.iload_n 1, 1) := dk_27 (dk_at dksX6_waits_0 8 rfl rfl)
theorem dX6_waits_9 : decode cX6_waits 9 = .ok (.iastore, 1) := dk_79 (dk_at dksX6_waits_0 9 rfl rfl)
theorem dX6_waits_10 : decode cX6_waits 10 = .ok (.aload_n 0, 1) := dk_42 (dk_at dksX6_waits_0 10 rfl rfl)
theorem dX6_waits_11 : decode cX6_waits 11 = .ok (.aload_n 0, 1) := dk_42 (dk_at dksX6_waits_0 11 rfl rfl)
theorem dX6_waits_12 : decode cX6_waits 12 = .ok (.getfield 234, 3) := dk_180 0 234 (dk_at dksX6_waits_0 12 rfl rfl)
theorem dX6_waits_15 : decode cX6_waits 15 = .ok (.iconst 1, 1) := dk_4 (dk_at dksX6_waits_0 15 rfl rfl)
theorem dX6_waits_16 : decode cX6_waits 16 = .ok (.iadd, 1) := dk_96 (dk_at dksX6_waits_0 16 rfl rfl)
theorem dX6_waits_17 : decode cX6_waits 17 = .ok (.putfield 234, 3) := dk_181 0 234 (dk_at dksX6_waits_0 17 rfl rfl)
theorem dX6_waits_20 : decode cX6_waits 20 = .ok (.return_, 1) := dk_177 (dk_at dksX6_waits_0 20 rfl rfl)
abbrev cX6_readCompared : ByteArray := prog_22_method_42_code
def yX6_readCompared : MethodName := ⟨RX6, "readCompared", "()I"⟩
def dkwX6_readCompared_4 : List UInt8 := [182, 0, 214, 3, 172]
abbrev dktX6_readCompared_4 : List UInt8 := dkwX6_readCompared_4 ++ []
def dkwX6_readCompared_3 : List UInt8 := [167, 0, 5, 16, 8, 60, 42, 182, 0, 218, 42, 182, 0, 231, 2, 160, 0, 5, 2, 172, 42, 27, 3]
abbrev dktX6_readCompared_3 : List UInt8 := dkwX6_readCompared_3 ++ dktX6_readCompared_4
def dkwX6_readCompared_2 : List UInt8 := [180, 0, 183, 16, 60, 160, 0, 8, 16, 6, 167, 0, 19, 42, 180, 0, 183, 16, 61, 160, 0, 8, 16, 7]
abbrev dktX6_readCompared_2 : List UInt8 := dkwX6_readCompared_2 ++ dktX6_readCompared_3
def dkwX6_readCompared_1 : List UInt8 := [182, 0, 225, 154, 0, 18, 42, 16, 62, 182, 0, 225, 154, 0, 9, 42, 4, 182, 0, 211, 172, 42]
abbrev dktX6_readCompared_1 : List UInt8 := dkwX6_readCompared_1 ++ dktX6_readCompared_2
def dkwX6_readCompared_0 : List UInt8 := [42, 182, 0, 231, 2, 160, 0, 5, 2, 172, 42, 16, 60, 182, 0, 225, 154, 0, 27, 42, 16, 61]
abbrev dktX6_readCompared_0 : List UInt8 := dkwX6_readCompared_0 ++ dktX6_readCompared_1
theorem dksX6_readCompared_0 : cX6_readCompared.data.toList.drop 0 = dktX6_readCompared_0 := by decide +kernel
theorem dksX6_readCompared_1 : cX6_readCompared.data.toList.drop 22 = dktX6_readCompared_1 := dk_seg dksX6_readCompared_0 22 rfl rfl
theorem dksX6_readCompared_2 : cX6_readCompared.data.toList.drop 44 = dktX6_readCompared_2 := dk_seg dksX6_readCompared_1 22 rfl rfl
theorem dksX6_readCompared_3 : cX6_readCompared.data.toList.drop 68 = dktX6_readCompared_3 := dk_seg dksX6_readCompared_2 24 rfl rfl
theorem dksX6_readCompared_4 : cX6_readCompared.data.toList.drop 91 = dktX6_readCompared_4 := dk_seg dksX6_readCompared_3 23 rfl rfl
theorem dX6_readCompared_0 : decode cX6_readCompared 0 = .ok (.aload_n 0, 1) := dk_42 (dk_at dksX6_readCompared_0 0 rfl rfl)
theorem dX6_readCompared_1 : decode cX6_readCompared 1 = .ok (.invokevirtual 231, 3) := dk_182 0 231 (dk_at dksX6_readCompared_0 1 rfl rfl)
theorem dX6_readCompared_4 : decode cX6_readCompared 4 = .ok (.iconst (-1), 1) := dk_2 (dk_at dksX6_readCompared_0 4 rfl rfl)
theorem dX6_readCompared_5 : decode cX6_readCompared 5 = .ok (.if_icmp .ne 5, 3) := dk_160 0 5 (dk_at dksX6_readCompared_0 5 rfl rfl)
theorem dX6_readCompared_8 : decode cX6_readCompared 8 = .ok (.iconst (-1), 1) := dk_2 (dk_at dksX6_readCompared_0 8 rfl rfl)
theorem dX6_readCompared_9 : decode cX6_readCompared 9 = .ok (.ireturn, 1) := dk_172 (dk_at dksX6_readCompared_0 9 rfl rfl)
theorem dX6_readCompared_10 : decode cX6_readCompared 10 = .ok (.aload_n 0, 1) := dk_42 (dk_at dksX6_readCompared_0 10 rfl rfl)
theorem dX6_readCompared_11 : decode cX6_readCompared 11 = .ok (.bipush 60, 2) := dk_16 60 (dk_at dksX6_readCompared_0 11 rfl rfl)
theorem dX6_readCompared_13 : decode cX6_readCompared 13 = .ok (.invokevirtual 225, 3) := dk_182 0 225 (dk_at dksX6_readCompared_0 13 rfl rfl)
theorem dX6_readCompared_16 : decode cX6_readCompared 16 = .ok (.ifCond .ne 27, 3) := dk_154 0 27 (dk_at dksX6_readCompared_0 16 rfl rfl)
theorem dX6_readCompared_19 : decode cX6_readCompared 19 = .ok (.aload_n 0, 1) := dk_42 (dk_at dksX6_readCompared_0 19 rfl rfl)
theorem dX6_readCompared_20 : decode cX6_readCompared 20 = .ok (.bipush 61, 2) := dk_16 61 (dk_at dksX6_readCompared_0 20 rfl rfl)
theorem dX6_readCompared_22 : decode cX6_readCompared 22 = .ok (.invokevirtual 225, 3) := dk_182 0 225 (dk_at dksX6_readCompared_1 0 rfl rfl)
theorem dX6_readCompared_25 : decode cX6_readCompared 25 = .ok (.ifCond .ne 18, 3) := dk_154 0 18 (dk_at dksX6_readCompared_1 3 rfl rfl)
theorem dX6_readCompared_28 : decode cX6_readCompared 28 = .ok (.aload_n 0, 1) := dk_42 (dk_at dksX6_readCompared_1 6 rfl rfl)
theorem dX6_readCompared_29 : decode cX6_readCompared 29 = .ok (.bipush 62, 2) := dk_16 62 (dk_at dksX6_readCompared_1 7 rfl rfl)
theorem dX6_readCompared_31 : decode cX6_readCompared 31 = .ok (.invokevirtual 225, 3) := dk_182 0 225 (dk_at dksX6_readCompared_1 9 rfl rfl)
theorem dX6_readCompared_34 : decode cX6_readCompared 34 = .ok (.ifCond .ne 9, 3) := dk_154 0 9 (dk_at dksX6_readCompared_1 12 rfl rfl)
theorem dX6_readCompared_37 : decode cX6_readCompared 37 = .ok (.aload_n 0, 1) := dk_42 (dk_at dksX6_readCompared_1 15 rfl rfl)
theorem dX6_readCompared_38 : decode cX6_readCompared 38 = .ok (.iconst 1, 1) := dk_4 (dk_at dksX6_readCompared_1 16 rfl rfl)
theorem dX6_readCompared_39 : decode cX6_readCompared 39 = .ok (.invokevirtual 211, 3) := dk_182 0 211 (dk_at dksX6_readCompared_1 17 rfl rfl)
theorem dX6_readCompared_42 : decode cX6_readCompared 42 = .ok (.ireturn, 1) := dk_172 (dk_at dksX6_readCompared_1 20 rfl rfl)
theorem dX6_readCompared_43 : decode cX6_readCompared 43 = .ok (.aload_n 0, 1) := dk_42 (dk_at dksX6_readCompared_1 21 rfl rfl)
theorem dX6_readCompared_44 : decode cX6_readCompared 44 = .ok (.getfield 183, 3) := dk_180 0 183 (dk_at dksX6_readCompared_2 0 rfl rfl)
theorem dX6_readCompared_47 : decode cX6_readCompared 47 = .ok (.bipush 60, 2) := dk_16 60 (dk_at dksX6_readCompared_2 3 rfl rfl)
theorem dX6_readCompared_49 : decode cX6_readCompared 49 = .ok (.if_icmp .ne 8, 3) := dk_160 0 8 (dk_at dksX6_readCompared_2 5 rfl rfl)
theorem dX6_readCompared_52 : decode cX6_readCompared 52 = .ok (.bipush 6, 2) := dk_16 6 (dk_at dksX6_readCompared_2 8 rfl rfl)
theorem dX6_readCompared_54 : decode cX6_readCompared 54 = .ok (.goto 19, 3) := dk_167 0 19 (dk_at dksX6_readCompared_2 10 rfl rfl)
theorem dX6_readCompared_57 : decode cX6_readCompared 57 = .ok (.aload_n 0, 1) := dk_42 (dk_at dksX6_readCompared_2 13 rfl rfl)
theorem dX6_readCompared_58 : decode cX6_readCompared 58 = .ok (.getfield 183, 3) := dk_180 0 183 (dk_at dksX6_readCompared_2 14 rfl rfl)
theorem dX6_readCompared_61 : decode cX6_readCompared 61 = .ok (.bipush 61, 2) := dk_16 61 (dk_at dksX6_readCompared_2 17 rfl rfl)
theorem dX6_readCompared_63 : decode cX6_readCompared 63 = .ok (.if_icmp .ne 8, 3) := dk_160 0 8 (dk_at dksX6_readCompared_2 19 rfl rfl)
theorem dX6_readCompared_66 : decode cX6_readCompared 66 = .ok (.bipush 7, 2) := dk_16 7 (dk_at dksX6_readCompared_2 22 rfl rfl)
theorem dX6_readCompared_68 : decode cX6_readCompared 68 = .ok (.goto 5, 3) := dk_167 0 5 (dk_at dksX6_readCompared_3 0 rfl rfl)
theorem dX6_readCompared_71 : decode cX6_readCompared 71 = .ok (.bipush 8, 2) := dk_16 8 (dk_at dksX6_readCompared_3 3 rfl rfl)
theorem dX6_readCompared_73 : decode cX6_readCompared 73 = .ok (.istore_n 1, 1) := dk_60 (dk_at dksX6_readCompared_3 5 rfl rfl)
theorem dX6_readCompared_74 : decode cX6_readCompared 74 = .ok (.aload_n 0, 1) := dk_42 (dk_at dksX6_readCompared_3 6 rfl rfl)
theorem dX6_readCompared_75 : decode cX6_readCompared 75 = .ok (.invokevirtual 218, 3) := dk_182 0 218 (dk_at dksX6_readCompared_3 7 rfl rfl)
theorem dX6_readCompared_78 : decode cX6_readCompared 78 = .ok (.aload_n 0, 1) := dk_42 (dk_at dksX6_readCompared_3 10 rfl rfl)
theorem dX6_readCompared_79 : decode cX6_readCompared 79 = .ok (.invokevirtual 231, 3) := dk_182 0 231 (dk_at dksX6_readCompared_3 11 rfl rfl)
theorem dX6_readCompared_82 : decode cX6_readCompared 82 = .ok (.iconst (-1), 1) := dk_2 (dk_at dksX6_readCompared_3 14 rfl rfl)
theorem dX6_readCompared_83 : decode cX6_readCompared 83 = .ok (.if_icmp .ne 5, 3) := dk_160 0 5 (dk_at dksX6_readCompared_3 15 rfl rfl)
theorem dX6_readCompared_86 : decode cX6_readCompared 86 = .ok (.iconst (-1), 1) := dk_2 (dk_at dksX6_readCompared_3 18 rfl rfl)
theorem dX6_readCompared_87 : decode cX6_readCompared 87 = .ok (.ireturn, 1) := dk_172 (dk_at dksX6_readCompared_3 19 rfl rfl)
theorem dX6_readCompared_88 : decode cX6_readCompared 88 = .ok (.aload_n 0, 1) := dk_42 (dk_at dksX6_readCompared_3 20 rfl rfl)
theorem dX6_readCompared_89 : decode cX6_readCompared 89 = .ok (.iload_n 1, 1) := dk_27 (dk_at dksX6_readCompared_3 21 rfl rfl)
theorem dX6_readCompared_90 : decode cX6_readCompared 90 = .ok (.iconst 0, 1) := dk_3 (dk_at dksX6_readCompared_3 22 rfl rfl)
theorem dX6_readCompared_91 : decode cX6_readCompared 91 = .ok (.invokevirtual 214, 3) := dk_182 0 214 (dk_at dksX6_readCompared_4 0 rfl rfl)
theorem dX6_readCompared_94 : decode cX6_readCompared 94 = .ok (.iconst 0, 1) := dk_3 (dk_at dksX6_readCompared_4 3 rfl rfl)
theorem dX6_readCompared_95 : decode cX6_readCompared 95 = .ok (.ireturn, 1) := dk_172 (dk_at dksX6_readCompared_4 4 rfl rfl)
abbrev cX6_settles : ByteArray := prog_22_method_44_code
def yX6_settles : MethodName := ⟨RX6, "settles", "(I)V"⟩
def dkwX6_settles_2 : List UInt8 := [180, 0, 237, 4, 100, 181, 0, 237, 167, 255, 202, 177]
abbrev dktX6_settles_2 : List UInt8 := dkwX6_settles_2 ++ []
def dkwX6_settles_1 : List UInt8 := [180, 0, 234, 4, 100, 181, 0, 234, 42, 27, 3, 182, 0, 214, 27, 16, 9, 160, 255, 215, 42, 42]
abbrev dktX6_settles_1 : List UInt8 := dkwX6_settles_1 ++ dktX6_settles_2
def dkwX6_settles_0 : List UInt8 := [42, 180, 0, 234, 158, 0, 53, 42, 180, 0, 55, 42, 180, 0, 234, 4, 100, 46, 27, 160, 0, 38, 42, 42]
abbrev dktX6_settles_0 : List UInt8 := dkwX6_settles_0 ++ dktX6_settles_1
theorem dksX6_settles_0 : cX6_settles.data.toList.drop 0 = dktX6_settles_0 := by decide +kernel
theorem dksX6_settles_1 : cX6_settles.data.toList.drop 24 = dktX6_settles_1 := dk_seg dksX6_settles_0 24 rfl rfl
theorem dksX6_settles_2 : cX6_settles.data.toList.drop 46 = dktX6_settles_2 := dk_seg dksX6_settles_1 22 rfl rfl
theorem dX6_settles_0 : decode cX6_settles 0 = .ok (.aload_n 0, 1) := dk_42 (dk_at dksX6_settles_0 0 rfl rfl)
theorem dX6_settles_1 : decode cX6_settles 1 = .ok (.getfield 234, 3) := dk_180 0 234 (dk_at dksX6_settles_0 1 rfl rfl)
theorem dX6_settles_4 : decode cX6_settles 4 = .ok (.ifCond .le 53, 3) := dk_158 0 53 (dk_at dksX6_settles_0 4 rfl rfl)
theorem dX6_settles_7 : decode cX6_settles 7 = .ok (.aload_n 0, 1) := dk_42 (dk_at dksX6_settles_0 7 rfl rfl)
theorem dX6_settles_8 : decode cX6_settles 8 = .ok (.getfield 55, 3) := dk_180 0 55 (dk_at dksX6_settles_0 8 rfl rfl)
theorem dX6_settles_11 : decode cX6_settles 11 = .ok (.aload_n 0, 1) := dk_42 (dk_at dksX6_settles_0 11 rfl rfl)
theorem dX6_settles_12 : decode cX6_settles 12 = .ok (.getfield 234, 3) := dk_180 0 234 (dk_at dksX6_settles_0 12 rfl rfl)
theorem dX6_settles_15 : decode cX6_settles 15 = .ok (.iconst 1, 1) := dk_4 (dk_at dksX6_settles_0 15 rfl rfl)
theorem dX6_settles_16 : decode cX6_settles 16 = .ok (.isub, 1) := dk_100 (dk_at dksX6_settles_0 16 rfl rfl)
theorem dX6_settles_17 : decode cX6_settles 17 = .ok (.iaload, 1) := dk_46 (dk_at dksX6_settles_0 17 rfl rfl)
theorem dX6_settles_18 : decode cX6_settles 18 = .ok (.iload_n 1, 1) := dk_27 (dk_at dksX6_settles_0 18 rfl rfl)
theorem dX6_settles_19 : decode cX6_settles 19 = .ok (.if_icmp .ne 38, 3) := dk_160 0 38 (dk_at dksX6_settles_0 19 rfl rfl)
theorem dX6_settles_22 : decode cX6_settles 22 = .ok (.aload_n 0, 1) := dk_42 (dk_at dksX6_settles_0 22 rfl rfl)
theorem dX6_settles_23 : decode cX6_settles 23 = .ok (.aload_n 0, 1) := dk_42 (dk_at dksX6_settles_0 23 rfl rfl)
theorem dX6_settles_24 : decode cX6_settles 24 = .ok (.getfield 234, 3) := dk_180 0 234 (dk_at dksX6_settles_1 0 rfl rfl)
theorem dX6_settles_27 : decode cX6_settles 27 = .ok (.iconst 1, 1) := dk_4 (dk_at dksX6_settles_1 3 rfl rfl)
theorem dX6_settles_28 : decode cX6_settles 28 = .ok (.isub, 1) := dk_100 (dk_at dksX6_settles_1 4 rfl rfl)
theorem dX6_settles_29 : decode cX6_settles 29 = .ok (.putfield 234, 3) := dk_181 0 234 (dk_at dksX6_settles_1 5 rfl rfl)
theorem dX6_settles_32 : decode cX6_settles 32 = .ok (.aload_n 0, 1) := dk_42 (dk_at dksX6_settles_1 8 rfl rfl)
theorem dX6_settles_33 : decode cX6_settles 33 = .ok (.iload_n 1, 1) := dk_27 (dk_at dksX6_settles_1 9 rfl rfl)
theorem dX6_settles_34 : decode cX6_settles 34 = .ok (.iconst 0, 1) := dk_3 (dk_at dksX6_settles_1 10 rfl rfl)
theorem dX6_settles_35 : decode cX6_settles 35 = .ok (.invokevirtual 214, 3) := dk_182 0 214 (dk_at dksX6_settles_1 11 rfl rfl)
theorem dX6_settles_38 : decode cX6_settles 38 = .ok (.iload_n 1, 1) := dk_27 (dk_at dksX6_settles_1 14 rfl rfl)
theorem dX6_settles_39 : decode cX6_settles 39 = .ok (.bipush 9, 2) := dk_16 9 (dk_at dksX6_settles_1 15 rfl rfl)
theorem dX6_settles_41 : decode cX6_settles 41 = .ok (.if_icmp .ne (-41), 3) := dk_160 255 215 (dk_at dksX6_settles_1 17 rfl rfl)
theorem dX6_settles_44 : decode cX6_settles 44 = .ok (.aload_n 0, 1) := dk_42 (dk_at dksX6_settles_1 20 rfl rfl)
theorem dX6_settles_45 : decode cX6_settles 45 = .ok (.aload_n 0, 1) := dk_42 (dk_at dksX6_settles_1 21 rfl rfl)
theorem dX6_settles_46 : decode cX6_settles 46 = .ok (.getfield 237, 3) := dk_180 0 237 (dk_at dksX6_settles_2 0 rfl rfl)
theorem dX6_settles_49 : decode cX6_settles 49 = .ok (.iconst 1, 1) := dk_4 (dk_at dksX6_settles_2 3 rfl rfl)
theorem dX6_settles_50 : decode cX6_settles 50 = .ok (.isub, 1) := dk_100 (dk_at dksX6_settles_2 4 rfl rfl)
theorem dX6_settles_51 : decode cX6_settles 51 = .ok (.putfield 237, 3) := dk_181 0 237 (dk_at dksX6_settles_2 5 rfl rfl)
theorem dX6_settles_54 : decode cX6_settles 54 = .ok (.goto (-54), 3) := dk_167 255 202 (dk_at dksX6_settles_2 8 rfl rfl)
theorem dX6_settles_57 : decode cX6_settles 57 = .ok (.return_, 1) := dk_177 (dk_at dksX6_settles_2 11 rfl rfl)
abbrev cX6_takesLaw : ByteArray := prog_22_method_48_code
def yX6_takesLaw : MethodName := ⟨RX6, "takesLaw", "(I)V"⟩
def dkwX6_takesLaw_7 : List UInt8 := [79, 132, 2, 1, 167, 255, 195, 42, 180, 0, 34, 42, 180, 1, 3, 27, 79, 177]
abbrev dktX6_takesLaw_7 : List UInt8 := dkwX6_takesLaw_7 ++ []
def dkwX6_takesLaw_6 : List UInt8 := [42, 180, 0, 52, 17, 1, 144, 42, 180, 1, 3, 104, 28, 96, 42, 180, 0, 52, 17, 3, 32, 28, 96, 46]
abbrev dktX6_takesLaw_6 : List UInt8 := dkwX6_takesLaw_6 ++ dktX6_takesLaw_7
def dkwX6_takesLaw_5 : List UInt8 := [180, 0, 49, 17, 1, 144, 42, 180, 1, 3, 104, 28, 96, 42, 180, 0, 49, 17, 3, 32, 28, 96, 46, 79]
abbrev dktX6_takesLaw_5 : List UInt8 := dkwX6_takesLaw_5 ++ dktX6_takesLaw_6
def dkwX6_takesLaw_4 : List UInt8 := [16, 32, 28, 96, 46, 79, 132, 2, 1, 167, 255, 156, 3, 61, 28, 42, 180, 0, 205, 162, 0, 59, 42]
abbrev dktX6_takesLaw_4 : List UInt8 := dkwX6_takesLaw_4 ++ dktX6_takesLaw_5
def dkwX6_takesLaw_3 : List UInt8 := [16, 32, 28, 96, 46, 79, 42, 180, 0, 46, 16, 16, 42, 180, 1, 3, 104, 28, 96, 42, 180, 0, 46]
abbrev dktX6_takesLaw_3 : List UInt8 := dkwX6_takesLaw_3 ++ dktX6_takesLaw_4
def dkwX6_takesLaw_2 : List UInt8 := [16, 32, 28, 96, 46, 79, 42, 180, 0, 43, 16, 16, 42, 180, 1, 3, 104, 28, 96, 42, 180, 0, 43]
abbrev dktX6_takesLaw_2 : List UInt8 := dkwX6_takesLaw_2 ++ dktX6_takesLaw_3
def dkwX6_takesLaw_1 : List UInt8 := [16, 32, 28, 96, 46, 79, 42, 180, 0, 40, 16, 16, 42, 180, 1, 3, 104, 28, 96, 42, 180, 0, 40]
abbrev dktX6_takesLaw_1 : List UInt8 := dkwX6_takesLaw_1 ++ dktX6_takesLaw_2
def dkwX6_takesLaw_0 : List UInt8 := [3, 61, 28, 27, 162, 0, 101, 42, 180, 0, 37, 16, 16, 42, 180, 1, 3, 104, 28, 96, 42, 180, 0, 37]
abbrev dktX6_takesLaw_0 : List UInt8 := dkwX6_takesLaw_0 ++ dktX6_takesLaw_1
theorem dksX6_takesLaw_0 : cX6_takesLaw.data.toList.drop 0 = dktX6_takesLaw_0 := by decide +kernel
theorem dksX6_takesLaw_1 : cX6_takesLaw.data.toList.drop 24 = dktX6_takesLaw_1 := dk_seg dksX6_takesLaw_0 24 rfl rfl
theorem dksX6_takesLaw_2 : cX6_takesLaw.data.toList.drop 47 = dktX6_takesLaw_2 := dk_seg dksX6_takesLaw_1 23 rfl rfl
theorem dksX6_takesLaw_3 : cX6_takesLaw.data.toList.drop 70 = dktX6_takesLaw_3 := dk_seg dksX6_takesLaw_2 23 rfl rfl
theorem dksX6_takesLaw_4 : cX6_takesLaw.data.toList.drop 93 = dktX6_takesLaw_4 := dk_seg dksX6_takesLaw_3 23 rfl rfl
theorem dksX6_takesLaw_5 : cX6_takesLaw.data.toList.drop 116 = dktX6_takesLaw_5 := dk_seg dksX6_takesLaw_4 23 rfl rfl
theorem dksX6_takesLaw_6 : cX6_takesLaw.data.toList.drop 140 = dktX6_takesLaw_6 := dk_seg dksX6_takesLaw_5 24 rfl rfl
theorem dksX6_takesLaw_7 : cX6_takesLaw.data.toList.drop 164 = dktX6_takesLaw_7 := dk_seg dksX6_takesLaw_6 24 rfl rfl
theorem dX6_takesLaw_0 : decode cX6_takesLaw 0 = .ok (.iconst 0, 1) := dk_3 (dk_at dksX6_takesLaw_0 0 rfl rfl)
theorem dX6_takesLaw_1 : decode cX6_takesLaw 1 = .ok (.istore_n 2, 1) := dk_61 (dk_at dksX6_takesLaw_0 1 rfl rfl)
theorem dX6_takesLaw_2 : decode cX6_takesLaw 2 = .ok (.iload_n 2, 1) := dk_28 (dk_at dksX6_takesLaw_0 2 rfl rfl)
theorem dX6_takesLaw_3 : decode cX6_takesLaw 3 = .ok (.iload_n 1, 1) := dk_27 (dk_at dksX6_takesLaw_0 3 rfl rfl)
theorem dX6_takesLaw_4 : decode cX6_takesLaw 4 = .ok (.if_icmp .ge 101, 3) := dk_162 0 101 (dk_at dksX6_takesLaw_0 4 rfl rfl)
theorem dX6_takesLaw_7 : decode cX6_takesLaw 7 = .ok (.aload_n 0, 1) := dk_42 (dk_at dksX6_takesLaw_0 7 rfl rfl)
theorem dX6_takesLaw_8 : decode cX6_takesLaw 8 = .ok (.getfield 37, 3) := dk_180 0 37 (dk_at dksX6_takesLaw_0 8 rfl rfl)
theorem dX6_takesLaw_11 : decode cX6_takesLaw 11 = .ok (.bipush 16, 2) := dk_16 16 (dk_at dksX6_takesLaw_0 11 rfl rfl)
theorem dX6_takesLaw_13 : decode cX6_takesLaw 13 = .ok (.aload_n 0, 1) := dk_42 (dk_at dksX6_takesLaw_0 13 rfl rfl)
theorem dX6_takesLaw_14 : decode cX6_takesLaw 14 = .ok (.getfield 259, 3) := dk_180 1 3 (dk_at dksX6_takesLaw_0 14 rfl rfl)
theorem dX6_takesLaw_17 : decode cX6_takesLaw 17 = .ok (.imul, 1) := dk_104 (dk_at dksX6_takesLaw_0 17 rfl rfl)
theorem dX6_takesLaw_18 : decode cX6_takesLaw 18 = .ok (.iload_n 2, 1) := dk_28 (dk_at dksX6_takesLaw_0 18 rfl rfl)
theorem dX6_takesLaw_19 : decode cX6_takesLaw 19 = .ok (.iadd, 1) := dk_96 (dk_at dksX6_takesLaw_0 19 rfl rfl)
theorem dX6_takesLaw_20 : decode cX6_takesLaw 20 = .ok (.aload_n 0, 1) := dk_42 (dk_at dksX6_takesLaw_0 20 rfl rfl)
theorem dX6_takesLaw_21 : decode cX6_takesLaw 21 = .ok (.getfield 37, 3) := dk_180 0 37 (dk_at dksX6_takesLaw_0 21 rfl rfl)
theorem dX6_takesLaw_24 : decode cX6_takesLaw 24 = .ok (.bipush 32, 2) := dk_16 32 (dk_at dksX6_takesLaw_1 0 rfl rfl)
theorem dX6_takesLaw_26 : decode cX6_takesLaw 26 = .ok (.iload_n 2, 1) := dk_28 (dk_at dksX6_takesLaw_1 2 rfl rfl)
theorem dX6_takesLaw_27 : decode cX6_takesLaw 27 = .ok (.iadd, 1) := dk_96 (dk_at dksX6_takesLaw_1 3 rfl rfl)
theorem dX6_takesLaw_28 : decode cX6_takesLaw 28 = .ok (.iaload, 1) := dk_46 (dk_at dksX6_takesLaw_1 4 rfl rfl)
theorem dX6_takesLaw_29 : decode cX6_takesLaw 29 = .ok (.iastore, 1) := dk_79 (dk_at dksX6_takesLaw_1 5 rfl rfl)
theorem dX6_takesLaw_30 : decode cX6_takesLaw 30 = .ok (.aload_n 0, 1) := dk_42 (dk_at dksX6_takesLaw_1 6 rfl rfl)
theorem dX6_takesLaw_31 : decode cX6_takesLaw 31 = .ok (.getfield 40, 3) := dk_180 0 40 (dk_at dksX6_takesLaw_1 7 rfl rfl)
theorem dX6_takesLaw_34 : decode cX6_takesLaw 34 = .ok (.bipush 16, 2) := dk_16 16 (dk_at dksX6_takesLaw_1 10 rfl rfl)
theorem dX6_takesLaw_36 : decode cX6_takesLaw 36 = .ok (.aload_n 0, 1) := dk_42 (dk_at dksX6_takesLaw_1 12 rfl rfl)
theorem dX6_takesLaw_37 : decode cX6_takesLaw 37 = .ok (.getfield 259, 3) := dk_180 1 3 (dk_at dksX6_takesLaw_1 13 rfl rfl)
theorem dX6_takesLaw_40 : decode cX6_takesLaw 40 = .ok (.imul, 1) := dk_104 (dk_at dksX6_takesLaw_1 16 rfl rfl)
theorem dX6_takesLaw_41 : decode cX6_takesLaw 41 = .ok (.iload_n 2, 1) := dk_28 (dk_at dksX6_takesLaw_1 17 rfl rfl)
theorem dX6_takesLaw_42 : decode cX6_takesLaw 42 = .ok (.iadd, 1) := dk_96 (dk_at dksX6_takesLaw_1 18 rfl rfl)
theorem dX6_takesLaw_43 : decode cX6_takesLaw 43 = .ok (.aload_n 0, 1) := dk_42 (dk_at dksX6_takesLaw_1 19 rfl rfl)
theorem dX6_takesLaw_44 : decode cX6_takesLaw 44 = .ok (.getfield 40, 3) := dk_180 0 40 (dk_at dksX6_takesLaw_1 20 rfl rfl)
theorem dX6_takesLaw_47 : decode cX6_takesLaw 47 = .ok (.bipush 32, 2) := dk_16 32 (dk_at dksX6_takesLaw_2 0 rfl rfl)
theorem dX6_takesLaw_49 : decode cX6_takesLaw 49 = .ok (.iload_n 2, 1) := dk_28 (dk_at dksX6_takesLaw_2 2 rfl rfl)
theorem dX6_takesLaw_50 : decode cX6_takesLaw 50 = .ok (.iadd, 1) := dk_96 (dk_at dksX6_takesLaw_2 3 rfl rfl)
theorem dX6_takesLaw_51 : decode cX6_takesLaw 51 = .ok (.iaload, 1) := dk_46 (dk_at dksX6_takesLaw_2 4 rfl rfl)
theorem dX6_takesLaw_52 : decode cX6_takesLaw 52 = .ok (.iastore, 1) := dk_79 (dk_at dksX6_takesLaw_2 5 rfl rfl)
theorem dX6_takesLaw_53 : decode cX6_takesLaw 53 = .ok (.aload_n 0, 1) := dk_42 (dk_at dksX6_takesLaw_2 6 rfl rfl)
theorem dX6_takesLaw_54 : decode cX6_takesLaw 54 = .ok (.getfield 43, 3) := dk_180 0 43 (dk_at dksX6_takesLaw_2 7 rfl rfl)
theorem dX6_takesLaw_57 : decode cX6_takesLaw 57 = .ok (.bipush 16, 2) := dk_16 16 (dk_at dksX6_takesLaw_2 10 rfl rfl)
theorem dX6_takesLaw_59 : decode cX6_takesLaw 59 = .ok (.aload_n 0, 1) := dk_42 (dk_at dksX6_takesLaw_2 12 rfl rfl)
theorem dX6_takesLaw_60 : decode cX6_takesLaw 60 = .ok (.getfield 259, 3) := dk_180 1 3 (dk_at dksX6_takesLaw_2 13 rfl rfl)
theorem dX6_takesLaw_63 : decode cX6_takesLaw 63 = .ok (.imul, 1) := dk_104 (dk_at dksX6_takesLaw_2 16 rfl rfl)
theorem dX6_takesLaw_64 : decode cX6_takesLaw 64 = .ok (.iload_n 2, 1) := dk_28 (dk_at dksX6_takesLaw_2 17 rfl rfl)
theorem dX6_takesLaw_65 : decode cX6_takesLaw 65 = .ok (.iadd, 1) := dk_96 (dk_at dksX6_takesLaw_2 18 rfl rfl)
theorem dX6_takesLaw_66 : decode cX6_takesLaw 66 = .ok (.aload_n 0, 1) := dk_42 (dk_at dksX6_takesLaw_2 19 rfl rfl)
theorem dX6_takesLaw_67 : decode cX6_takesLaw 67 = .ok (.getfield 43, 3) := dk_180 0 43 (dk_at dksX6_takesLaw_2 20 rfl rfl)
theorem dX6_takesLaw_70 : decode cX6_takesLaw 70 = .ok (.bipush 32, 2) := dk_16 32 (dk_at dksX6_takesLaw_3 0 rfl rfl)
theorem dX6_takesLaw_72 : decode cX6_takesLaw 72 = .ok (.iload_n 2, 1) := dk_28 (dk_at dksX6_takesLaw_3 2 rfl rfl)
theorem dX6_takesLaw_73 : decode cX6_takesLaw 73 = .ok (.iadd, 1) := dk_96 (dk_at dksX6_takesLaw_3 3 rfl rfl)
theorem dX6_takesLaw_74 : decode cX6_takesLaw 74 = .ok (.iaload, 1) := dk_46 (dk_at dksX6_takesLaw_3 4 rfl rfl)
theorem dX6_takesLaw_75 : decode cX6_takesLaw 75 = .ok (.iastore, 1) := dk_79 (dk_at dksX6_takesLaw_3 5 rfl rfl)
theorem dX6_takesLaw_76 : decode cX6_takesLaw 76 = .ok (.aload_n 0, 1) := dk_42 (dk_at dksX6_takesLaw_3 6 rfl rfl)
theorem dX6_takesLaw_77 : decode cX6_takesLaw 77 = .ok (.getfield 46, 3) := dk_180 0 46 (dk_at dksX6_takesLaw_3 7 rfl rfl)
theorem dX6_takesLaw_80 : decode cX6_takesLaw 80 = .ok (.bipush 16, 2) := dk_16 16 (dk_at dksX6_takesLaw_3 10 rfl rfl)
theorem dX6_takesLaw_82 : decode cX6_takesLaw 82 = .ok (.aload_n 0, 1) := dk_42 (dk_at dksX6_takesLaw_3 12 rfl rfl)
theorem dX6_takesLaw_83 : decode cX6_takesLaw 83 = .ok (.getfield 259, 3) := dk_180 1 3 (dk_at dksX6_takesLaw_3 13 rfl rfl)
theorem dX6_takesLaw_86 : decode cX6_takesLaw 86 = .ok (.imul, 1) := dk_104 (dk_at dksX6_takesLaw_3 16 rfl rfl)
theorem dX6_takesLaw_87 : decode cX6_takesLaw 87 = .ok (.iload_n 2, 1) := dk_28 (dk_at dksX6_takesLaw_3 17 rfl rfl)
theorem dX6_takesLaw_88 : decode cX6_takesLaw 88 = .ok (.iadd, 1) := dk_96 (dk_at dksX6_takesLaw_3 18 rfl rfl)
theorem dX6_takesLaw_89 : decode cX6_takesLaw 89 = .ok (.aload_n 0, 1) := dk_42 (dk_at dksX6_takesLaw_3 19 rfl rfl)
theorem dX6_takesLaw_90 : decode cX6_takesLaw 90 = .ok (.getfield 46, 3) := dk_180 0 46 (dk_at dksX6_takesLaw_3 20 rfl rfl)
theorem dX6_takesLaw_93 : decode cX6_takesLaw 93 = .ok (.bipush 32, 2) := dk_16 32 (dk_at dksX6_takesLaw_4 0 rfl rfl)
theorem dX6_takesLaw_95 : decode cX6_takesLaw 95 = .ok (.iload_n 2, 1) := dk_28 (dk_at dksX6_takesLaw_4 2 rfl rfl)
theorem dX6_takesLaw_96 : decode cX6_takesLaw 96 = .ok (.iadd, 1) := dk_96 (dk_at dksX6_takesLaw_4 3 rfl rfl)
theorem dX6_takesLaw_97 : decode cX6_takesLaw 97 = .ok (.iaload, 1) := dk_46 (dk_at dksX6_takesLaw_4 4 rfl rfl)
theorem dX6_takesLaw_98 : decode cX6_takesLaw 98 = .ok (.iastore, 1) := dk_79 (dk_at dksX6_takesLaw_4 5 rfl rfl)
theorem dX6_takesLaw_99 : decode cX6_takesLaw 99 = .ok (.iinc 2 1, 3) := dk_132 2 1 (dk_at dksX6_takesLaw_4 6 rfl rfl)
theorem dX6_takesLaw_102 : decode cX6_takesLaw 102 = .ok (.goto (-100), 3) := dk_167 255 156 (dk_at dksX6_takesLaw_4 9 rfl rfl)
theorem dX6_takesLaw_105 : decode cX6_takesLaw 105 = .ok (.iconst 0, 1) := dk_3 (dk_at dksX6_takesLaw_4 12 rfl rfl)
theorem dX6_takesLaw_106 : decode cX6_takesLaw 106 = .ok (.istore_n 2, 1) := dk_61 (dk_at dksX6_takesLaw_4 13 rfl rfl)
theorem dX6_takesLaw_107 : decode cX6_takesLaw 107 = .ok (.iload_n 2, 1) := dk_28 (dk_at dksX6_takesLaw_4 14 rfl rfl)
theorem dX6_takesLaw_108 : decode cX6_takesLaw 108 = .ok (.aload_n 0, 1) := dk_42 (dk_at dksX6_takesLaw_4 15 rfl rfl)
theorem dX6_takesLaw_109 : decode cX6_takesLaw 109 = .ok (.getfield 205, 3) := dk_180 0 205 (dk_at dksX6_takesLaw_4 16 rfl rfl)
theorem dX6_takesLaw_112 : decode cX6_takesLaw 112 = .ok (.if_icmp .ge 59, 3) := dk_162 0 59 (dk_at dksX6_takesLaw_4 19 rfl rfl)
theorem dX6_takesLaw_115 : decode cX6_takesLaw 115 = .ok (.aload_n 0, 1) := dk_42 (dk_at dksX6_takesLaw_4 22 rfl rfl)
theorem dX6_takesLaw_116 : decode cX6_takesLaw 116 = .ok (.getfield 49, 3) := dk_180 0 49 (dk_at dksX6_takesLaw_5 0 rfl rfl)
theorem dX6_takesLaw_119 : decode cX6_takesLaw 119 = .ok (.sipush 400, 3) := dk_17 1 144 (dk_at dksX6_takesLaw_5 3 rfl rfl)
theorem dX6_takesLaw_122 : decode cX6_takesLaw 122 = .ok (.aload_n 0, 1) := dk_42 (dk_at dksX6_takesLaw_5 6 rfl rfl)
theorem dX6_takesLaw_123 : decode cX6_takesLaw 123 = .ok (.getfield 259, 3) := dk_180 1 3 (dk_at dksX6_takesLaw_5 7 rfl rfl)
theorem dX6_takesLaw_126 : decode cX6_takesLaw 126 = .ok (.imul, 1) := dk_104 (dk_at dksX6_takesLaw_5 10 rfl rfl)
theorem dX6_takesLaw_127 : decode cX6_takesLaw 127 = .ok (.iload_n 2, 1) := dk_28 (dk_at dksX6_takesLaw_5 11 rfl rfl)
theorem dX6_takesLaw_128 : decode cX6_takesLaw 128 = .ok (.iadd, 1) := dk_96 (dk_at dksX6_takesLaw_5 12 rfl rfl)
theorem dX6_takesLaw_129 : decode cX6_takesLaw 129 = .ok (.aload_n 0, 1) := dk_42 (dk_at dksX6_takesLaw_5 13 rfl rfl)
theorem dX6_takesLaw_130 : decode cX6_takesLaw 130 = .ok (.getfield 49, 3) := dk_180 0 49 (dk_at dksX6_takesLaw_5 14 rfl rfl)
theorem dX6_takesLaw_133 : decode cX6_takesLaw 133 = .ok (.sipush 800, 3) := dk_17 3 32 (dk_at dksX6_takesLaw_5 17 rfl rfl)
theorem dX6_takesLaw_136 : decode cX6_takesLaw 136 = .ok (.iload_n 2, 1) := dk_28 (dk_at dksX6_takesLaw_5 20 rfl rfl)
theorem dX6_takesLaw_137 : decode cX6_takesLaw 137 = .ok (.iadd, 1) := dk_96 (dk_at dksX6_takesLaw_5 21 rfl rfl)
theorem dX6_takesLaw_138 : decode cX6_takesLaw 138 = .ok (.iaload, 1) := dk_46 (dk_at dksX6_takesLaw_5 22 rfl rfl)
theorem dX6_takesLaw_139 : decode cX6_takesLaw 139 = .ok (.iastore, 1) := dk_79 (dk_at dksX6_takesLaw_5 23 rfl rfl)
theorem dX6_takesLaw_140 : decode cX6_takesLaw 140 = .ok (.aload_n 0, 1) := dk_42 (dk_at dksX6_takesLaw_6 0 rfl rfl)
theorem dX6_takesLaw_141 : decode cX6_takesLaw 141 = .ok (.getfield 52, 3) := dk_180 0 52 (dk_at dksX6_takesLaw_6 1 rfl rfl)
theorem dX6_takesLaw_144 : decode cX6_takesLaw 144 = .ok (.sipush 400, 3) := dk_17 1 144 (dk_at dksX6_takesLaw_6 4 rfl rfl)
theorem dX6_takesLaw_147 : decode cX6_takesLaw 147 = .ok (.aload_n 0, 1) := dk_42 (dk_at dksX6_takesLaw_6 7 rfl rfl)
theorem dX6_takesLaw_148 : decode cX6_takesLaw 148 = .ok (.getfield 259, 3) := dk_180 1 3 (dk_at dksX6_takesLaw_6 8 rfl rfl)
theorem dX6_takesLaw_151 : decode cX6_takesLaw 151 = .ok (.imul, 1) := dk_104 (dk_at dksX6_takesLaw_6 11 rfl rfl)
theorem dX6_takesLaw_152 : decode cX6_takesLaw 152 = .ok (.iload_n 2, 1) := dk_28 (dk_at dksX6_takesLaw_6 12 rfl rfl)
theorem dX6_takesLaw_153 : decode cX6_takesLaw 153 = .ok (.iadd, 1) := dk_96 (dk_at dksX6_takesLaw_6 13 rfl rfl)
theorem dX6_takesLaw_154 : decode cX6_takesLaw 154 = .ok (.aload_n 0, 1) := dk_42 (dk_at dksX6_takesLaw_6 14 rfl rfl)
theorem dX6_takesLaw_155 : decode cX6_takesLaw 155 = .ok (.getfield 52, 3) := dk_180 0 52 (dk_at dksX6_takesLaw_6 15 rfl rfl)
theorem dX6_takesLaw_158 : decode cX6_takesLaw 158 = .ok (.sipush 800, 3) := dk_17 3 32 (dk_at dksX6_takesLaw_6 18 rfl rfl)
theorem dX6_takesLaw_161 : decode cX6_takesLaw 161 = .ok (.iload_n 2, 1) := dk_28 (dk_at dksX6_takesLaw_6 21 rfl rfl)
theorem dX6_takesLaw_162 : decode cX6_takesLaw 162 = .ok (.iadd, 1) := dk_96 (dk_at dksX6_takesLaw_6 22 rfl rfl)
theorem dX6_takesLaw_163 : decode cX6_takesLaw 163 = .ok (.iaload, 1) := dk_46 (dk_at dksX6_takesLaw_6 23 rfl rfl)
theorem dX6_takesLaw_164 : decode cX6_takesLaw 164 = .ok (.iastore, 1) := dk_79 (dk_at dksX6_takesLaw_7 0 rfl rfl)
theorem dX6_takesLaw_165 : decode cX6_takesLaw 165 = .ok (.iinc 2 1, 3) := dk_132 2 1 (dk_at dksX6_takesLaw_7 1 rfl rfl)
theorem dX6_takesLaw_168 : decode cX6_takesLaw 168 = .ok (.goto (-61), 3) := dk_167 255 195 (dk_at dksX6_takesLaw_7 4 rfl rfl)
theorem dX6_takesLaw_171 : decode cX6_takesLaw 171 = .ok (.aload_n 0, 1) := dk_42 (dk_at dksX6_takesLaw_7 7 rfl rfl)
theorem dX6_takesLaw_172 : decode cX6_takesLaw 172 = .ok (.getfield 34, 3) := dk_180 0 34 (dk_at dksX6_takesLaw_7 8 rfl rfl)
theorem dX6_takesLaw_175 : decode cX6_takesLaw 175 = .ok (.aload_n 0, 1) := dk_42 (dk_at dksX6_takesLaw_7 11 rfl rfl)
theorem dX6_takesLaw_176 : decode cX6_takesLaw 176 = .ok (.getfield 259, 3) := dk_180 1 3 (dk_at dksX6_takesLaw_7 12 rfl rfl)
theorem dX6_takesLaw_179 : decode cX6_takesLaw 179 = .ok (.iload_n 1, 1) := dk_27 (dk_at dksX6_takesLaw_7 15 rfl rfl)
theorem dX6_takesLaw_180 : decode cX6_takesLaw 180 = .ok (.iastore, 1) := dk_79 (dk_at dksX6_takesLaw_7 16 rfl rfl)
theorem dX6_takesLaw_181 : decode cX6_takesLaw 181 = .ok (.return_, 1) := dk_177 (dk_at dksX6_takesLaw_7 17 rfl rfl)
abbrev cX6_takesOther : ByteArray := prog_22_method_59_code
def yX6_takesOther : MethodName := ⟨RX6, "takesOther", "(II)V"⟩
def dkwX6_takesOther_5 : List UInt8 := [181, 0, 126, 177]
abbrev dktX6_takesOther_5 : List UInt8 := dkwX6_takesOther_5 ++ []
def dkwX6_takesOther_4 : List UInt8 := [29, 42, 180, 0, 65, 16, 80, 29, 96, 46, 79, 132, 3, 1, 167, 255, 231, 42, 28, 181, 1, 42, 42, 3]
abbrev dktX6_takesOther_4 : List UInt8 := dkwX6_takesOther_4 ++ dktX6_takesOther_5
def dkwX6_takesOther_3 : List UInt8 := [167, 255, 231, 42, 28, 181, 1, 39, 167, 0, 38, 3, 62, 29, 8, 28, 104, 162, 0, 24, 42, 180, 0, 65]
abbrev dktX6_takesOther_3 : List UInt8 := dkwX6_takesOther_3 ++ dktX6_takesOther_4
def dkwX6_takesOther_2 : List UInt8 := [8, 28, 104, 162, 0, 24, 42, 180, 0, 62, 29, 42, 180, 0, 62, 16, 80, 29, 96, 46, 79, 132, 3, 1]
abbrev dktX6_takesOther_2 : List UInt8 := dkwX6_takesOther_2 ++ dktX6_takesOther_3
def dkwX6_takesOther_1 : List UInt8 := [29, 96, 46, 79, 132, 3, 1, 167, 255, 232, 42, 28, 181, 1, 36, 177, 27, 4, 160, 0, 41, 3, 62, 29]
abbrev dktX6_takesOther_1 : List UInt8 := dkwX6_takesOther_1 ++ dktX6_takesOther_2
def dkwX6_takesOther_0 : List UInt8 := [27, 6, 160, 0, 38, 3, 62, 29, 16, 12, 162, 0, 24, 42, 180, 0, 68, 29, 42, 180, 0, 68, 16, 12]
abbrev dktX6_takesOther_0 : List UInt8 := dkwX6_takesOther_0 ++ dktX6_takesOther_1
theorem dksX6_takesOther_0 : cX6_takesOther.data.toList.drop 0 = dktX6_takesOther_0 := by decide +kernel
theorem dksX6_takesOther_1 : cX6_takesOther.data.toList.drop 24 = dktX6_takesOther_1 := dk_seg dksX6_takesOther_0 24 rfl rfl
theorem dksX6_takesOther_2 : cX6_takesOther.data.toList.drop 48 = dktX6_takesOther_2 := dk_seg dksX6_takesOther_1 24 rfl rfl
theorem dksX6_takesOther_3 : cX6_takesOther.data.toList.drop 72 = dktX6_takesOther_3 := dk_seg dksX6_takesOther_2 24 rfl rfl
theorem dksX6_takesOther_4 : cX6_takesOther.data.toList.drop 96 = dktX6_takesOther_4 := dk_seg dksX6_takesOther_3 24 rfl rfl
theorem dksX6_takesOther_5 : cX6_takesOther.data.toList.drop 120 = dktX6_takesOther_5 := dk_seg dksX6_takesOther_4 24 rfl rfl
theorem dX6_takesOther_0 : decode cX6_takesOther 0 = .ok (.iload_n 1, 1) := dk_27 (dk_at dksX6_takesOther_0 0 rfl rfl)
theorem dX6_takesOther_1 : decode cX6_takesOther 1 = .ok (.iconst 3, 1) := dk_6 (dk_at dksX6_takesOther_0 1 rfl rfl)
theorem dX6_takesOther_2 : decode cX6_takesOther 2 = .ok (.if_icmp .ne 38, 3) := dk_160 0 38 (dk_at dksX6_takesOther_0 2 rfl rfl)
theorem dX6_takesOther_5 : decode cX6_takesOther 5 = .ok (.iconst 0, 1) := dk_3 (dk_at dksX6_takesOther_0 5 rfl rfl)
theorem dX6_takesOther_6 : decode cX6_takesOther 6 = .ok (.istore_n 3, 1) := dk_62 (dk_at dksX6_takesOther_0 6 rfl rfl)
theorem dX6_takesOther_7 : decode cX6_takesOther 7 = .ok (.iload_n 3, 1) := dk_29 (dk_at dksX6_takesOther_0 7 rfl rfl)
theorem dX6_takesOther_8 : decode cX6_takesOther 8 = .ok (.bipush 12, 2) := dk_16 12 (dk_at dksX6_takesOther_0 8 rfl rfl)
theorem dX6_takesOther_10 : decode cX6_takesOther 10 = .ok (.if_icmp .ge 24, 3) := dk_162 0 24 (dk_at dksX6_takesOther_0 10 rfl rfl)
theorem dX6_takesOther_13 : decode cX6_takesOther 13 = .ok (.aload_n 0, 1) := dk_42 (dk_at dksX6_takesOther_0 13 rfl rfl)
theorem dX6_takesOther_14 : decode cX6_takesOther 14 = .ok (.getfield 68, 3) := dk_180 0 68 (dk_at dksX6_takesOther_0 14 rfl rfl)
theorem dX6_takesOther_17 : decode cX6_takesOther 17 = .ok (.iload_n 3, 1) := dk_29 (dk_at dksX6_takesOther_0 17 rfl rfl)
theorem dX6_takesOther_18 : decode cX6_takesOther 18 = .ok (.aload_n 0, 1) := dk_42 (dk_at dksX6_takesOther_0 18 rfl rfl)
theorem dX6_takesOther_19 : decode cX6_takesOther 19 = .ok (.getfield 68, 3) := dk_180 0 68 (dk_at dksX6_takesOther_0 19 rfl rfl)
theorem dX6_takesOther_22 : decode cX6_takesOther 22 = .ok (.bipush 12, 2) := dk_16 12 (dk_at dksX6_takesOther_0 22 rfl rfl)
theorem dX6_takesOther_24 : decode cX6_takesOther 24 = .ok (.iload_n 3, 1) := dk_29 (dk_at dksX6_takesOther_1 0 rfl rfl)
theorem dX6_takesOther_25 : decode cX6_takesOther 25 = .ok (.iadd, 1) := dk_96 (dk_at dksX6_takesOther_1 1 rfl rfl)
theorem dX6_takesOther_26 : decode cX6_takesOther 26 = .ok (.iaload, 1) := dk_46 (dk_at dksX6_takesOther_1 2 rfl rfl)
theorem dX6_takesOther_27 : decode cX6_takesOther 27 = .ok (.iastore, 1) := dk_79 (dk_at dksX6_takesOther_1 3 rfl rfl)
theorem dX6_takesOther_28 : decode cX6_takesOther 28 = .ok (.iinc 3 1, 3) := dk_132 3 1 (dk_at dksX6_takesOther_1 4 rfl rfl)
theorem dX6_takesOther_31 : decode cX6_takesOther 31 = .ok (.goto (-24), 3) := dk_167 255 232 (dk_at dksX6_takesOther_1 7 rfl rfl)
theorem dX6_takesOther_34 : decode cX6_takesOther 34 = .ok (.aload_n 0, 1) := dk_42 (dk_at dksX6_takesOther_1 10 rfl rfl)
theorem dX6_takesOther_35 : decode cX6_takesOther 35 = .ok (.iload_n 2, 1) := dk_28 (dk_at dksX6_takesOther_1 11 rfl rfl)
theorem dX6_takesOther_36 : decode cX6_takesOther 36 = .ok (.putfield 292, 3) := dk_181 1 36 (dk_at dksX6_takesOther_1 12 rfl rfl)
theorem dX6_takesOther_39 : decode cX6_takesOther 39 = .ok (.return_, 1) := dk_177 (dk_at dksX6_takesOther_1 15 rfl rfl)
theorem dX6_takesOther_40 : decode cX6_takesOther 40 = .ok (.iload_n 1, 1) := dk_27 (dk_at dksX6_takesOther_1 16 rfl rfl)
theorem dX6_takesOther_41 : decode cX6_takesOther 41 = .ok (.iconst 1, 1) := dk_4 (dk_at dksX6_takesOther_1 17 rfl rfl)
theorem dX6_takesOther_42 : decode cX6_takesOther 42 = .ok (.if_icmp .ne 41, 3) := dk_160 0 41 (dk_at dksX6_takesOther_1 18 rfl rfl)
theorem dX6_takesOther_45 : decode cX6_takesOther 45 = .ok (.iconst 0, 1) := dk_3 (dk_at dksX6_takesOther_1 21 rfl rfl)
theorem dX6_takesOther_46 : decode cX6_takesOther 46 = .ok (.istore_n 3, 1) := dk_62 (dk_at dksX6_takesOther_1 22 rfl rfl)
theorem dX6_takesOther_47 : decode cX6_takesOther 47 = .ok (.iload_n 3, 1) := dk_29 (dk_at dksX6_takesOther_1 23 rfl rfl)
theorem dX6_takesOther_48 : decode cX6_takesOther 48 = .ok (.iconst 5, 1) := dk_8 (dk_at dksX6_takesOther_2 0 rfl rfl)
theorem dX6_takesOther_49 : decode cX6_takesOther 49 = .ok (.iload_n 2, 1) := dk_28 (dk_at dksX6_takesOther_2 1 rfl rfl)
theorem dX6_takesOther_50 : decode cX6_takesOther 50 = .ok (.imul, 1) := dk_104 (dk_at dksX6_takesOther_2 2 rfl rfl)
theorem dX6_takesOther_51 : decode cX6_takesOther 51 = .ok (.if_icmp .ge 24, 3) := dk_162 0 24 (dk_at dksX6_takesOther_2 3 rfl rfl)
theorem dX6_takesOther_54 : decode cX6_takesOther 54 = .ok (.aload_n 0, 1) := dk_42 (dk_at dksX6_takesOther_2 6 rfl rfl)
theorem dX6_takesOther_55 : decode cX6_takesOther 55 = .ok (.getfield 62, 3) := dk_180 0 62 (dk_at dksX6_takesOther_2 7 rfl rfl)
theorem dX6_takesOther_58 : decode cX6_takesOther 58 = .ok (.iload_n 3, 1) := dk_29 (dk_at dksX6_takesOther_2 10 rfl rfl)
theorem dX6_takesOther_59 : decode cX6_takesOther 59 = .ok (.aload_n 0, 1) := dk_42 (dk_at dksX6_takesOther_2 11 rfl rfl)
theorem dX6_takesOther_60 : decode cX6_takesOther 60 = .ok (.getfield 62, 3) := dk_180 0 62 (dk_at dksX6_takesOther_2 12 rfl rfl)
theorem dX6_takesOther_63 : decode cX6_takesOther 63 = .ok (.bipush 80, 2) := dk_16 80 (dk_at dksX6_takesOther_2 15 rfl rfl)
theorem dX6_takesOther_65 : decode cX6_takesOther 65 = .ok (.iload_n 3, 1) := dk_29 (dk_at dksX6_takesOther_2 17 rfl rfl)
theorem dX6_takesOther_66 : decode cX6_takesOther 66 = .ok (.iadd, 1) := dk_96 (dk_at dksX6_takesOther_2 18 rfl rfl)
theorem dX6_takesOther_67 : decode cX6_takesOther 67 = .ok (.iaload, 1) := dk_46 (dk_at dksX6_takesOther_2 19 rfl rfl)
theorem dX6_takesOther_68 : decode cX6_takesOther 68 = .ok (.iastore, 1) := dk_79 (dk_at dksX6_takesOther_2 20 rfl rfl)
theorem dX6_takesOther_69 : decode cX6_takesOther 69 = .ok (.iinc 3 1, 3) := dk_132 3 1 (dk_at dksX6_takesOther_2 21 rfl rfl)
theorem dX6_takesOther_72 : decode cX6_takesOther 72 = .ok (.goto (-25), 3) := dk_167 255 231 (dk_at dksX6_takesOther_3 0 rfl rfl)
theorem dX6_takesOther_75 : decode cX6_takesOther 75 = .ok (.aload_n 0, 1) := dk_42 (dk_at dksX6_takesOther_3 3 rfl rfl)
theorem dX6_takesOther_76 : decode cX6_takesOther 76 = .ok (.iload_n 2, 1) := dk_28 (dk_at dksX6_takesOther_3 4 rfl rfl)
theorem dX6_takesOther_77 : decode cX6_takesOther 77 = .ok (.putfield 295, 3) := dk_181 1 39 (dk_at dksX6_takesOther_3 5 rfl rfl)
theorem dX6_takesOther_80 : decode cX6_takesOther 80 = .ok (.goto 38, 3) := dk_167 0 38 (dk_at dksX6_takesOther_3 8 rfl rfl)
theorem dX6_takesOther_83 : decode cX6_takesOther 83 = .ok (.iconst 0, 1) := dk_3 (dk_at dksX6_takesOther_3 11 rfl rfl)
theorem dX6_takesOther_84 : decode cX6_takesOther 84 = .ok (.istore_n 3, 1) := dk_62 (dk_at dksX6_takesOther_3 12 rfl rfl)
theorem dX6_takesOther_85 : decode cX6_takesOther 85 = .ok (.iload_n 3, 1) := dk_29 (dk_at dksX6_takesOther_3 13 rfl rfl)
theorem dX6_takesOther_86 : decode cX6_takesOther 86 = .ok (.iconst 5, 1) := dk_8 (dk_at dksX6_takesOther_3 14 rfl rfl)
theorem dX6_takesOther_87 : decode cX6_takesOther 87 = .ok (.iload_n 2, 1) := dk_28 (dk_at dksX6_takesOther_3 15 rfl rfl)
theorem dX6_takesOther_88 : decode cX6_takesOther 88 = .ok (.imul, 1) := dk_104 (dk_at dksX6_takesOther_3 16 rfl rfl)
theorem dX6_takesOther_89 : decode cX6_takesOther 89 = .ok (.if_icmp .ge 24, 3) := dk_162 0 24 (dk_at dksX6_takesOther_3 17 rfl rfl)
theorem dX6_takesOther_92 : decode cX6_takesOther 92 = .ok (.aload_n 0, 1) := dk_42 (dk_at dksX6_takesOther_3 20 rfl rfl)
theorem dX6_takesOther_93 : decode cX6_takesOther 93 = .ok (.getfield 65, 3) := dk_180 0 65 (dk_at dksX6_takesOther_3 21 rfl rfl)
theorem dX6_takesOther_96 : decode cX6_takesOther 96 = .ok (.iload_n 3, 1) := dk_29 (dk_at dksX6_takesOther_4 0 rfl rfl)
theorem dX6_takesOther_97 : decode cX6_takesOther 97 = .ok (.aload_n 0, 1) := dk_42 (dk_at dksX6_takesOther_4 1 rfl rfl)
theorem dX6_takesOther_98 : decode cX6_takesOther 98 = .ok (.getfield 65, 3) := dk_180 0 65 (dk_at dksX6_takesOther_4 2 rfl rfl)
theorem dX6_takesOther_101 : decode cX6_takesOther 101 = .ok (.bipush 80, 2) := dk_16 80 (dk_at dksX6_takesOther_4 5 rfl rfl)
theorem dX6_takesOther_103 : decode cX6_takesOther 103 = .ok (.iload_n 3, 1) := dk_29 (dk_at dksX6_takesOther_4 7 rfl rfl)
theorem dX6_takesOther_104 : decode cX6_takesOther 104 = .ok (.iadd, 1) := dk_96 (dk_at dksX6_takesOther_4 8 rfl rfl)
theorem dX6_takesOther_105 : decode cX6_takesOther 105 = .ok (.iaload, 1) := dk_46 (dk_at dksX6_takesOther_4 9 rfl rfl)
theorem dX6_takesOther_106 : decode cX6_takesOther 106 = .ok (.iastore, 1) := dk_79 (dk_at dksX6_takesOther_4 10 rfl rfl)
theorem dX6_takesOther_107 : decode cX6_takesOther 107 = .ok (.iinc 3 1, 3) := dk_132 3 1 (dk_at dksX6_takesOther_4 11 rfl rfl)
theorem dX6_takesOther_110 : decode cX6_takesOther 110 = .ok (.goto (-25), 3) := dk_167 255 231 (dk_at dksX6_takesOther_4 14 rfl rfl)
theorem dX6_takesOther_113 : decode cX6_takesOther 113 = .ok (.aload_n 0, 1) := dk_42 (dk_at dksX6_takesOther_4 17 rfl rfl)
theorem dX6_takesOther_114 : decode cX6_takesOther 114 = .ok (.iload_n 2, 1) := dk_28 (dk_at dksX6_takesOther_4 18 rfl rfl)
theorem dX6_takesOther_115 : decode cX6_takesOther 115 = .ok (.putfield 298, 3) := dk_181 1 42 (dk_at dksX6_takesOther_4 19 rfl rfl)
theorem dX6_takesOther_118 : decode cX6_takesOther 118 = .ok (.aload_n 0, 1) := dk_42 (dk_at dksX6_takesOther_4 22 rfl rfl)
theorem dX6_takesOther_119 : decode cX6_takesOther 119 = .ok (.iconst 0, 1) := dk_3 (dk_at dksX6_takesOther_4 23 rfl rfl)
theorem dX6_takesOther_120 : decode cX6_takesOther 120 = .ok (.putfield 126, 3) := dk_181 0 126 (dk_at dksX6_takesOther_5 0 rfl rfl)
theorem dX6_takesOther_123 : decode cX6_takesOther 123 = .ok (.return_, 1) := dk_177 (dk_at dksX6_takesOther_5 3 rfl rfl)
abbrev cX6_fault : ByteArray := prog_22_method_61_code
def yX6_fault : MethodName := ⟨RX6, "fault", "(I)I"⟩
def dkwX6_fault_1 : List UInt8 := [180, 0, 58, 167, 0, 4, 2, 172]
abbrev dktX6_fault_1 : List UInt8 := dkwX6_fault_1 ++ []
def dkwX6_fault_0 : List UInt8 := [42, 3, 181, 0, 122, 27, 154, 0, 10, 42, 180, 1, 45, 167, 0, 16, 27, 4, 160, 0, 10, 42]
abbrev dktX6_fault_0 : List UInt8 := dkwX6_fault_0 ++ dktX6_fault_1
theorem dksX6_fault_0 : cX6_fault.data.toList.drop 0 = dktX6_fault_0 := by decide +kernel
theorem dksX6_fault_1 : cX6_fault.data.toList.drop 22 = dktX6_fault_1 := dk_seg dksX6_fault_0 22 rfl rfl
theorem dX6_fault_0 : decode cX6_fault 0 = .ok (.aload_n 0, 1) := dk_42 (dk_at dksX6_fault_0 0 rfl rfl)
theorem dX6_fault_1 : decode cX6_fault 1 = .ok (.iconst 0, 1) := dk_3 (dk_at dksX6_fault_0 1 rfl rfl)
theorem dX6_fault_2 : decode cX6_fault 2 = .ok (.putfield 122, 3) := dk_181 0 122 (dk_at dksX6_fault_0 2 rfl rfl)
theorem dX6_fault_5 : decode cX6_fault 5 = .ok (.iload_n 1, 1) := dk_27 (dk_at dksX6_fault_0 5 rfl rfl)
theorem dX6_fault_6 : decode cX6_fault 6 = .ok (.ifCond .ne 10, 3) := dk_154 0 10 (dk_at dksX6_fault_0 6 rfl rfl)
theorem dX6_fault_9 : decode cX6_fault 9 = .ok (.aload_n 0, 1) := dk_42 (dk_at dksX6_fault_0 9 rfl rfl)
theorem dX6_fault_10 : decode cX6_fault 10 = .ok (.getfield 301, 3) := dk_180 1 45 (dk_at dksX6_fault_0 10 rfl rfl)
theorem dX6_fault_13 : decode cX6_fault 13 = .ok (.goto 16, 3) := dk_167 0 16 (dk_at dksX6_fault_0 13 rfl rfl)
theorem dX6_fault_16 : decode cX6_fault 16 = .ok (.iload_n 1, 1) := dk_27 (dk_at dksX6_fault_0 16 rfl rfl)
theorem dX6_fault_17 : decode cX6_fault 17 = .ok (.iconst 1, 1) := dk_4 (dk_at dksX6_fault_0 17 rfl rfl)
theorem dX6_fault_18 : decode cX6_fault 18 = .ok (.if_icmp .ne 10, 3) := dk_160 0 10 (dk_at dksX6_fault_0 18 rfl rfl)
theorem dX6_fault_21 : decode cX6_fault 21 = .ok (.aload_n 0, 1) := dk_42 (dk_at dksX6_fault_0 21 rfl rfl)
theorem dX6_fault_22 : decode cX6_fault 22 = .ok (.getfield 58, 3) := dk_180 0 58 (dk_at dksX6_fault_1 0 rfl rfl)
theorem dX6_fault_25 : decode cX6_fault 25 = .ok (.goto 4, 3) := dk_167 0 4 (dk_at dksX6_fault_1 3 rfl rfl)
theorem dX6_fault_28 : decode cX6_fault 28 = .ok (.iconst (-1), 1) := dk_2 (dk_at dksX6_fault_1 6 rfl rfl)
theorem dX6_fault_29 : decode cX6_fault 29 = .ok (.ireturn, 1) := dk_172 (dk_at dksX6_fault_1 7 rfl rfl)
abbrev cX6_buys : ByteArray := prog_22_method_81_code
def yX6_buys : MethodName := ⟨RX6, "buys", "(IIII)I"⟩
def dkwX6_buys_1 : List UInt8 := [27, 28, 29, 21, 4, 182, 1, 141, 172]
abbrev dktX6_buys_1 : List UInt8 := dkwX6_buys_1 ++ []
def dkwX6_buys_0 : List UInt8 := [42, 3, 181, 0, 122, 42, 27, 28, 29, 21, 4, 182, 1, 134, 154, 0, 5, 2, 172, 42, 182, 1, 138, 42]
abbrev dktX6_buys_0 : List UInt8 := dkwX6_buys_0 ++ dktX6_buys_1
theorem dksX6_buys_0 : cX6_buys.data.toList.drop 0 = dktX6_buys_0 := by decide +kernel
theorem dksX6_buys_1 : cX6_buys.data.toList.drop 24 = dktX6_buys_1 := dk_seg dksX6_buys_0 24 rfl rfl
theorem dX6_buys_0 : decode cX6_buys 0 = .ok (.aload_n 0, 1) := dk_42 (dk_at dksX6_buys_0 0 rfl rfl)
theorem dX6_buys_1 : decode cX6_buys 1 = .ok (.iconst 0, 1) := dk_3 (dk_at dksX6_buys_0 1 rfl rfl)
theorem dX6_buys_2 : decode cX6_buys 2 = .ok (.putfield 122, 3) := dk_181 0 122 (dk_at dksX6_buys_0 2 rfl rfl)
theorem dX6_buys_5 : decode cX6_buys 5 = .ok (.aload_n 0, 1) := dk_42 (dk_at dksX6_buys_0 5 rfl rfl)
theorem dX6_buys_6 : decode cX6_buys 6 = .ok (.iload_n 1, 1) := dk_27 (dk_at dksX6_buys_0 6 rfl rfl)
theorem dX6_buys_7 : decode cX6_buys 7 = .ok (.iload_n 2, 1) := dk_28 (dk_at dksX6_buys_0 7 rfl rfl)
theorem dX6_buys_8 : decode cX6_buys 8 = .ok (.iload_n 3, 1) := dk_29 (dk_at dksX6_buys_0 8 rfl rfl)
theorem dX6_buys_9 : decode cX6_buys 9 = .ok (.iload 4, 2) := dk_21 4 (dk_at dksX6_buys_0 9 rfl rfl)
theorem dX6_buys_11 : decode cX6_buys 11 = .ok (.invokevirtual 390, 3) := dk_182 1 134 (dk_at dksX6_buys_0 11 rfl rfl)
theorem dX6_buys_14 : decode cX6_buys 14 = .ok (.ifCond .ne 5, 3) := dk_154 0 5 (dk_at dksX6_buys_0 14 rfl rfl)
theorem dX6_buys_17 : decode cX6_buys 17 = .ok (.iconst (-1), 1) := dk_2 (dk_at dksX6_buys_0 17 rfl rfl)
theorem dX6_buys_18 : decode cX6_buys 18 = .ok (.ireturn, 1) := dk_172 (dk_at dksX6_buys_0 18 rfl rfl)
theorem dX6_buys_19 : decode cX6_buys 19 = .ok (.aload_n 0, 1) := dk_42 (dk_at dksX6_buys_0 19 rfl rfl)
theorem dX6_buys_20 : decode cX6_buys 20 = .ok (.invokevirtual 394, 3) := dk_182 1 138 (dk_at dksX6_buys_0 20 rfl rfl)
theorem dX6_buys_23 : decode cX6_buys 23 = .ok (.aload_n 0, 1) := dk_42 (dk_at dksX6_buys_0 23 rfl rfl)
theorem dX6_buys_24 : decode cX6_buys 24 = .ok (.iload_n 1, 1) := dk_27 (dk_at dksX6_buys_1 0 rfl rfl)
theorem dX6_buys_25 : decode cX6_buys 25 = .ok (.iload_n 2, 1) := dk_28 (dk_at dksX6_buys_1 1 rfl rfl)
theorem dX6_buys_26 : decode cX6_buys 26 = .ok (.iload_n 3, 1) := dk_29 (dk_at dksX6_buys_1 2 rfl rfl)
theorem dX6_buys_27 : decode cX6_buys 27 = .ok (.iload 4, 2) := dk_21 4 (dk_at dksX6_buys_1 3 rfl rfl)
theorem dX6_buys_29 : decode cX6_buys 29 = .ok (.invokevirtual 397, 3) := dk_182 1 141 (dk_at dksX6_buys_1 5 rfl rfl)
theorem dX6_buys_32 : decode cX6_buys 32 = .ok (.ireturn, 1) := dk_172 (dk_at dksX6_buys_1 8 rfl rfl)
abbrev cX6_canBuy : ByteArray := prog_22_method_79_code
def yX6_canBuy : MethodName := ⟨RX6, "canBuy", "(IIII)Z"⟩
def dkwX6_canBuy_3 : List UInt8 := [21, 4, 29, 28, 182, 1, 122, 29, 42, 21, 5, 27, 182, 1, 125, 161, 0, 7, 4, 167, 0, 4, 3, 172]
abbrev dktX6_canBuy_3 : List UInt8 := dkwX6_canBuy_3 ++ []
def dkwX6_canBuy_2 : List UInt8 := [27, 182, 1, 119, 153, 0, 16, 29, 42, 180, 0, 7, 16, 65, 27, 96, 46, 164, 0, 5, 3, 172, 42]
abbrev dktX6_canBuy_2 : List UInt8 := dkwX6_canBuy_2 ++ dktX6_canBuy_3
def dkwX6_canBuy_1 : List UInt8 := [16, 9, 182, 0, 145, 154, 0, 5, 3, 172, 42, 180, 0, 7, 16, 101, 28, 96, 46, 54, 5, 42, 21, 5]
abbrev dktX6_canBuy_1 : List UInt8 := dkwX6_canBuy_1 ++ dktX6_canBuy_2
def dkwX6_canBuy_0 : List UInt8 := [42, 28, 182, 0, 157, 153, 0, 27, 42, 29, 3, 17, 39, 15, 182, 0, 145, 153, 0, 15, 42, 21, 4, 4]
abbrev dktX6_canBuy_0 : List UInt8 := dkwX6_canBuy_0 ++ dktX6_canBuy_1
theorem dksX6_canBuy_0 : cX6_canBuy.data.toList.drop 0 = dktX6_canBuy_0 := by decide +kernel
theorem dksX6_canBuy_1 : cX6_canBuy.data.toList.drop 24 = dktX6_canBuy_1 := dk_seg dksX6_canBuy_0 24 rfl rfl
theorem dksX6_canBuy_2 : cX6_canBuy.data.toList.drop 48 = dktX6_canBuy_2 := dk_seg dksX6_canBuy_1 24 rfl rfl
theorem dksX6_canBuy_3 : cX6_canBuy.data.toList.drop 71 = dktX6_canBuy_3 := dk_seg dksX6_canBuy_2 23 rfl rfl
theorem dX6_canBuy_0 : decode cX6_canBuy 0 = .ok (.aload_n 0, 1) := dk_42 (dk_at dksX6_canBuy_0 0 rfl rfl)
theorem dX6_canBuy_1 : decode cX6_canBuy 1 = .ok (.iload_n 2, 1) := dk_28 (dk_at dksX6_canBuy_0 1 rfl rfl)
theorem dX6_canBuy_2 : decode cX6_canBuy 2 = .ok (.invokevirtual 157, 3) := dk_182 0 157 (dk_at dksX6_canBuy_0 2 rfl rfl)
theorem dX6_canBuy_5 : decode cX6_canBuy 5 = .ok (.ifCond .eq 27, 3) := dk_153 0 27 (dk_at dksX6_canBuy_0 5 rfl rfl)
theorem dX6_canBuy_8 : decode cX6_canBuy 8 = .ok (.aload_n 0, 1) := dk_42 (dk_at dksX6_canBuy_0 8 rfl rfl)
theorem dX6_canBuy_9 : decode cX6_canBuy 9 = .ok (.iload_n 3, 1) := dk_29 (dk_at dksX6_canBuy_0 9 rfl rfl)
theorem dX6_canBuy_10 : decode cX6_canBuy 10 = .ok (.iconst 0, 1) := dk_3 (dk_at dksX6_canBuy_0 10 rfl rfl)
theorem dX6_canBuy_11 : decode cX6_canBuy 11 = .ok (.sipush 9999, 3) := dk_17 39 15 (dk_at dksX6_canBuy_0 11 rfl rfl)
theorem dX6_canBuy_14 : decode cX6_canBuy 14 = .ok (.invokevirtual 145, 3) := dk_182 0 145 (dk_at dksX6_canBuy_0 14 rfl rfl)
theorem dX6_canBuy_17 : decode cX6_canBuy 17 = .ok (.ifCond .eq 15, 3) := dk_153 0 15 (dk_at dksX6_canBuy_0 17 rfl rfl)
theorem dX6_canBuy_20 : decode cX6_canBuy 20 = .ok (.aload_n 0, 1) := dk_42 (dk_at dksX6_canBuy_0 20 rfl rfl)
theorem dX6_canBuy_21 : decode cX6_canBuy 21 = .ok (.iload 4, 2) := dk_21 4 (dk_at dksX6_canBuy_0 21 rfl rfl)
theorem dX6_canBuy_23 : decode cX6_canBuy 23 = .ok (.iconst 1, 1) := dk_4 (dk_at dksX6_canBuy_0 23 rfl rfl)
theorem dX6_canBuy_24 : decode cX6_canBuy 24 = .ok (.bipush 9, 2) := dk_16 9 (dk_at dksX6_canBuy_1 0 rfl rfl)
theorem dX6_canBuy_26 : decode cX6_canBuy 26 = .ok (.invokevirtual 145, 3) := dk_182 0 145 (dk_at dksX6_canBuy_1 2 rfl rfl)
theorem dX6_canBuy_29 : decode cX6_canBuy 29 = .ok (.ifCond .ne 5, 3) := dk_154 0 5 (dk_at dksX6_canBuy_1 5 rfl rfl)
theorem dX6_canBuy_32 : decode cX6_canBuy 32 = .ok (.iconst 0, 1) := dk_3 (dk_at dksX6_canBuy_1 8 rfl rfl)
theorem dX6_canBuy_33 : decode cX6_canBuy 33 = .ok (.ireturn, 1) := dk_172 (dk_at dksX6_canBuy_1 9 rfl rfl)
theorem dX6_canBuy_34 : decode cX6_canBuy 34 = .ok (.aload_n 0, 1) := dk_42 (dk_at dksX6_canBuy_1 10 rfl rfl)
theorem dX6_canBuy_35 : decode cX6_canBuy 35 = .ok (.getfield 7, 3) := dk_180 0 7 (dk_at dksX6_canBuy_1 11 rfl rfl)
theorem dX6_canBuy_38 : decode cX6_canBuy 38 = .ok (.bipush 101, 2) := dk_16 101 (dk_at dksX6_canBuy_1 14 rfl rfl)
theorem dX6_canBuy_40 : decode cX6_canBuy 40 = .ok (.iload_n 2, 1) := dk_28 (dk_at dksX6_canBuy_1 16 rfl rfl)
theorem dX6_canBuy_41 : decode cX6_canBuy 41 = .ok (.iadd, 1) := dk_96 (dk_at dksX6_canBuy_1 17 rfl rfl)
theorem dX6_canBuy_42 : decode cX6_canBuy 42 = .ok (.iaload, 1) := dk_46 (dk_at dksX6_canBuy_1 18 rfl rfl)
theorem dX6_canBuy_43 : decode cX6_canBuy 43 = .ok (.istore 5, 2) := dk_54 5 (dk_at dksX6_canBuy_1 19 rfl rfl)
theorem dX6_canBuy_45 : decode cX6_canBuy 45 = .ok (.aload_n 0, 1) := dk_42 (dk_at dksX6_canBuy_1 21 rfl rfl)
theorem dX6_canBuy_46 : decode cX6_canBuy 46 = .ok (.iload 5, 2) := dk_21 5 (dk_at dksX6_canBuy_1 22 rfl rfl)
theorem dX6_canBuy_48 : decode cX6_canBuy 48 = .ok (.iload_n 1, 1) := dk_27 (dk_at dksX6_canBuy_2 0 rfl rfl)
theorem dX6_canBuy_49 : decode cX6_canBuy 49 = .ok (.invokevirtual 375, 3) := dk_182 1 119 (dk_at dksX6_canBuy_2 1 rfl rfl)
theorem dX6_canBuy_52 : decode cX6_canBuy 52 = .ok (.ifCond .eq 16, 3) := dk_153 0 16 (dk_at dksX6_canBuy_2 4 rfl rfl)
theorem dX6_canBuy_55 : decode cX6_canBuy 55 = .ok (.iload_n 3, 1) := dk_29 (dk_at dksX6_canBuy_2 7 rfl rfl)
theorem dX6_canBuy_56 : decode cX6_canBuy 56 = .ok (.aload_n 0, 1) := dk_42 (dk_at dksX6_canBuy_2 8 rfl rfl)
theorem dX6_canBuy_57 : decode cX6_canBuy 57 = .ok (.getfield 7, 3) := dk_180 0 7 (dk_at dksX6_canBuy_2 9 rfl rfl)
theorem dX6_canBuy_60 : decode cX6_canBuy 60 = .ok (.bipush 65, 2) := dk_16 65 (dk_at dksX6_canBuy_2 12 rfl rfl)
theorem dX6_canBuy_62 : decode cX6_canBuy 62 = .ok (.iload_n 1, 1) := dk_27 (dk_at dksX6_canBuy_2 14 rfl rfl)
theorem dX6_canBuy_63 : decode cX6_canBuy 63 = .ok (.iadd, 1) := dk_96 (dk_at dksX6_canBuy_2 15 rfl rfl)
theorem dX6_canBuy_64 : decode cX6_canBuy 64 = .ok (.iaload, 1) := dk_46 (dk_at dksX6_canBuy_2 16 rfl rfl)
theorem dX6_canBuy_65 : decode cX6_canBuy 65 = .ok (.if_icmp .le 5, 3) := dk_164 0 5 (dk_at dksX6_canBuy_2 17 rfl rfl)
theorem dX6_canBuy_68 : decode cX6_canBuy 68 = .ok (.iconst 0, 1) := dk_3 (dk_at dksX6_canBuy_2 20 rfl rfl)
theorem dX6_canBuy_69 : decode cX6_canBuy 69 = .ok (.ireturn, 1) := dk_172 (dk_at dksX6_canBuy_2 21 rfl rfl)
theorem dX6_canBuy_70 : decode cX6_canBuy 70 = .ok (.aload_n 0, 1) := dk_42 (dk_at dksX6_canBuy_2 22 rfl rfl)
theorem dX6_canBuy_71 : decode cX6_canBuy 71 = .ok (.iload 4, 2) := dk_21 4 (dk_at dksX6_canBuy_3 0 rfl rfl)
theorem dX6_canBuy_73 : decode cX6_canBuy 73 = .ok (.iload_n 3, 1) := dk_29 (dk_at dksX6_canBuy_3 2 rfl rfl)
theorem dX6_canBuy_74 : decode cX6_canBuy 74 = .ok (.iload_n 2, 1) := dk_28 (dk_at dksX6_canBuy_3 3 rfl rfl)
theorem dX6_canBuy_75 : decode cX6_canBuy 75 = .ok (.invokevirtual 378, 3) := dk_182 1 122 (dk_at dksX6_canBuy_3 4 rfl rfl)
theorem dX6_canBuy_78 : decode cX6_canBuy 78 = .ok (.iload_n 3, 1) := dk_29 (dk_at dksX6_canBuy_3 7 rfl rfl)
theorem dX6_canBuy_79 : decode cX6_canBuy 79 = .ok (.aload_n 0, 1) := dk_42 (dk_at dksX6_canBuy_3 8 rfl rfl)
theorem dX6_canBuy_80 : decode cX6_canBuy 80 = .ok (.iload 5, 2) := dk_21 5 (dk_at dksX6_canBuy_3 9 rfl rfl)
theorem dX6_canBuy_82 : decode cX6_canBuy 82 = .ok (.iload_n 1, 1) := dk_27 (dk_at dksX6_canBuy_3 11 rfl rfl)
theorem dX6_canBuy_83 : decode cX6_canBuy 83 = .ok (.invokevirtual 381, 3) := dk_182 1 125 (dk_at dksX6_canBuy_3 12 rfl rfl)
theorem dX6_canBuy_86 : decode cX6_canBuy 86 = .ok (.if_icmp .lt 7, 3) := dk_161 0 7 (dk_at dksX6_canBuy_3 15 rfl rfl)
theorem dX6_canBuy_89 : decode cX6_canBuy 89 = .ok (.iconst 1, 1) := dk_4 (dk_at dksX6_canBuy_3 18 rfl rfl)
theorem dX6_canBuy_90 : decode cX6_canBuy 90 = .ok (.goto 4, 3) := dk_167 0 4 (dk_at dksX6_canBuy_3 19 rfl rfl)
theorem dX6_canBuy_93 : decode cX6_canBuy 93 = .ok (.iconst 0, 1) := dk_3 (dk_at dksX6_canBuy_3 22 rfl rfl)
theorem dX6_canBuy_94 : decode cX6_canBuy 94 = .ok (.ireturn, 1) := dk_172 (dk_at dksX6_canBuy_3 23 rfl rfl)
abbrev cX6_canShake : ByteArray := prog_22_method_78_code
def yX6_canShake : MethodName := ⟨RX6, "canShake", "(II)Z"⟩
def dkwX6_canShake_2 : List UInt8 := [159, 0, 7, 4, 167, 0, 4, 3, 172]
abbrev dktX6_canShake_2 : List UInt8 := dkwX6_canShake_2 ++ []
def dkwX6_canShake_1 : List UInt8 := [180, 0, 7, 16, 77, 27, 96, 46, 5, 159, 0, 20, 42, 180, 0, 7, 16, 77, 28, 96, 46, 5]
abbrev dktX6_canShake_1 : List UInt8 := dkwX6_canShake_1 ++ dktX6_canShake_2
def dkwX6_canShake_0 : List UInt8 := [42, 27, 182, 0, 153, 153, 0, 46, 42, 28, 182, 0, 153, 153, 0, 38, 27, 28, 159, 0, 33, 42]
abbrev dktX6_canShake_0 : List UInt8 := dkwX6_canShake_0 ++ dktX6_canShake_1
theorem dksX6_canShake_0 : cX6_canShake.data.toList.drop 0 = dktX6_canShake_0 := by decide +kernel
theorem dksX6_canShake_1 : cX6_canShake.data.toList.drop 22 = dktX6_canShake_1 := dk_seg dksX6_canShake_0 22 rfl rfl
theorem dksX6_canShake_2 : cX6_canShake.data.toList.drop 44 = dktX6_canShake_2 := dk_seg dksX6_canShake_1 22 rfl rfl
theorem dX6_canShake_0 : decode cX6_canShake 0 = .ok (.aload_n 0, 1) := dk_42 (dk_at dksX6_canShake_0 0 rfl rfl)
theorem dX6_canShake_1 : decode cX6_canShake 1 = .ok (.iload_n 1, 1) := dk_27 (dk_at dksX6_canShake_0 1 rfl rfl)
theorem dX6_canShake_2 : decode cX6_canShake 2 = .ok (.invokevirtual 153, 3) := dk_182 0 153 (dk_at dksX6_canShake_0 2 rfl rfl)
theorem dX6_canShake_5 : decode cX6_canShake 5 = .ok (.ifCond .eq 46, 3) := dk_153 0 46 (dk_at dksX6_canShake_0 5 rfl rfl)
theorem dX6_canShake_8 : decode cX6_canShake 8 = .ok (.aload_n 0, 1) := dk_42 (dk_at dksX6_canShake_0 8 rfl rfl)
theorem dX6_canShake_9 : decode cX6_canShake 9 = .ok (.iload_n 2, 1) := dk_28 (dk_at dksX6_canShake_0 9 rfl rfl)
theorem dX6_canShake_10 : decode cX6_canShake 10 = .ok (.invokevirtual 153, 3) := dk_182 0 153 (dk_at dksX6_canShake_0 10 rfl rfl)
theorem dX6_canShake_13 : decode cX6_canShake 13 = .ok (.ifCond .eq 38, 3) := dk_153 0 38 (dk_at dksX6_canShake_0 13 rfl rfl)
theorem dX6_canShake_16 : decode cX6_canShake 16 = .ok (.iload_n 1, 1) := dk_27 (dk_at dksX6_canShake_0 16 rfl rfl)
theorem dX6_canShake_17 : decode cX6_canShake 17 = .ok (.iload_n 2, 1) := dk_28 (dk_at dksX6_canShake_0 17 rfl rfl)
theorem dX6_canShake_18 : decode cX6_canShake 18 = .ok (.if_icmp .eq 33, 3) := dk_159 0 33 (dk_at dksX6_canShake_0 18 rfl rfl)
theorem dX6_canShake_21 : decode cX6_canShake 21 = .ok (.aload_n 0, 1) := dk_42 (dk_at dksX6_canShake_0 21 rfl rfl)
theorem dX6_canShake_22 : decode cX6_canShake 22 = .ok (.getfield 7, 3) := dk_180 0 7 (dk_at dksX6_canShake_1 0 rfl rfl)
theorem dX6_canShake_25 : decode cX6_canShake 25 = .ok (.bipush 77, 2) := dk_16 77 (dk_at dksX6_canShake_1 3 rfl rfl)
theorem dX6_canShake_27 : decode cX6_canShake 27 = .ok (.iload_n 1, 1) := dk_27 (dk_at dksX6_canShake_1 5 rfl rfl)
theorem dX6_canShake_28 : decode cX6_canShake 28 = .ok (.iadd, 1) := dk_96 (dk_at dksX6_canShake_1 6 rfl rfl)
theorem dX6_canShake_29 : decode cX6_canShake 29 = .ok (.iaload, 1) := dk_46 (dk_at dksX6_canShake_1 7 rfl rfl)
theorem dX6_canShake_30 : decode cX6_canShake 30 = .ok (.iconst 2, 1) := dk_5 (dk_at dksX6_canShake_1 8 rfl rfl)
theorem dX6_canShake_31 : decode cX6_canShake 31 = .ok (.if_icmp .eq 20, 3) := dk_159 0 20 (dk_at dksX6_canShake_1 9 rfl rfl)
theorem dX6_canShake_34 : decode cX6_canShake 34 = .ok (.aload_n 0, 1) := dk_42 (dk_at dksX6_canShake_1 12 rfl rfl)
theorem dX6_canShake_35 : decode cX6_canShake 35 = .ok (.getfield 7, 3) := dk_180 0 7 (dk_at dksX6_canShake_1 13 rfl rfl)
theorem dX6_canShake_38 : decode cX6_canShake 38 = .ok (.bipush 77, 2) := dk_16 77 (dk_at dksX6_canShake_1 16 rfl rfl)
theorem dX6_canShake_40 : decode cX6_canShake 40 = .ok (.iload_n 2, 1) := dk_28 (dk_at dksX6_canShake_1 18 rfl rfl)
theorem dX6_canShake_41 : decode cX6_canShake 41 = .ok (.iadd, 1) := dk_96 (dk_at dksX6_canShake_1 19 rfl rfl)
theorem dX6_canShake_42 : decode cX6_canShake 42 = .ok (.iaload, 1) := dk_46 (dk_at dksX6_canShake_1 20 rfl rfl)
theorem dX6_canShake_43 : decode cX6_canShake 43 = .ok (.iconst 2, 1) := dk_5 (dk_at dksX6_canShake_1 21 rfl rfl)
theorem dX6_canShake_44 : decode cX6_canShake 44 = .ok (.if_icmp .eq 7, 3) := dk_159 0 7 (dk_at dksX6_canShake_2 0 rfl rfl)
theorem dX6_canShake_47 : decode cX6_canShake 47 = .ok (.iconst 1, 1) := dk_4 (dk_at dksX6_canShake_2 3 rfl rfl)
theorem dX6_canShake_48 : decode cX6_canShake 48 = .ok (.goto 4, 3) := dk_167 0 4 (dk_at dksX6_canShake_2 4 rfl rfl)
theorem dX6_canShake_51 : decode cX6_canShake 51 = .ok (.iconst 0, 1) := dk_3 (dk_at dksX6_canShake_2 7 rfl rfl)
theorem dX6_canShake_52 : decode cX6_canShake 52 = .ok (.ireturn, 1) := dk_172 (dk_at dksX6_canShake_2 8 rfl rfl)
abbrev cX6_isBy : ByteArray := prog_22_method_70_code
def yX6_isBy : MethodName := ⟨RX6, "isBy", "(III)V"⟩
def dkwX6_isBy_0 : List UInt8 := [42, 27, 181, 1, 66, 42, 28, 181, 1, 69, 42, 29, 181, 1, 72, 177]
abbrev dktX6_isBy_0 : List UInt8 := dkwX6_isBy_0 ++ []
theorem dksX6_isBy_0 : cX6_isBy.data.toList.drop 0 = dktX6_isBy_0 := by decide +kernel
theorem dX6_isBy_0 : decode cX6_isBy 0 = .ok (.aload_n 0, 1) := dk_42 (dk_at dksX6_isBy_0 0 rfl rfl)
theorem dX6_isBy_1 : decode cX6_isBy 1 = .ok (.iload_n 1, 1) := dk_27 (dk_at dksX6_isBy_0 1 rfl rfl)
theorem dX6_isBy_2 : decode cX6_isBy 2 = .ok (.putfield 322, 3) := dk_181 1 66 (dk_at dksX6_isBy_0 2 rfl rfl)
theorem dX6_isBy_5 : decode cX6_isBy 5 = .ok (.aload_n 0, 1) := dk_42 (dk_at dksX6_isBy_0 5 rfl rfl)
theorem dX6_isBy_6 : decode cX6_isBy 6 = .ok (.iload_n 2, 1) := dk_28 (dk_at dksX6_isBy_0 6 rfl rfl)
theorem dX6_isBy_7 : decode cX6_isBy 7 = .ok (.putfield 325, 3) := dk_181 1 69 (dk_at dksX6_isBy_0 7 rfl rfl)
theorem dX6_isBy_10 : decode cX6_isBy 10 = .ok (.aload_n 0, 1) := dk_42 (dk_at dksX6_isBy_0 10 rfl rfl)
theorem dX6_isBy_11 : decode cX6_isBy 11 = .ok (.iload_n 3, 1) := dk_29 (dk_at dksX6_isBy_0 11 rfl rfl)
theorem dX6_isBy_12 : decode cX6_isBy 12 = .ok (.putfield 328, 3) := dk_181 1 72 (dk_at dksX6_isBy_0 12 rfl rfl)
theorem dX6_isBy_15 : decode cX6_isBy 15 = .ok (.return_, 1) := dk_177 (dk_at dksX6_isBy_0 15 rfl rfl)
abbrev cX6_asksOf : ByteArray := prog_22_method_69_code
def yX6_asksOf : MethodName := ⟨RX6, "asksOf", "(II)I"⟩
def dkwX6_asksOf_1 : List UInt8 := [17, 39, 15, 182, 1, 86, 172]
abbrev dktX6_asksOf_1 : List UInt8 := dkwX6_asksOf_1 ++ []
def dkwX6_asksOf_0 : List UInt8 := [42, 27, 28, 3, 3, 182, 1, 82, 42, 5, 42, 180, 0, 71, 8, 46, 16, 10, 42, 180, 1, 66, 104, 100]
abbrev dktX6_asksOf_0 : List UInt8 := dkwX6_asksOf_0 ++ dktX6_asksOf_1
theorem dksX6_asksOf_0 : cX6_asksOf.data.toList.drop 0 = dktX6_asksOf_0 := by decide +kernel
theorem dksX6_asksOf_1 : cX6_asksOf.data.toList.drop 24 = dktX6_asksOf_1 := dk_seg dksX6_asksOf_0 24 rfl rfl
theorem dX6_asksOf_0 : decode cX6_asksOf 0 = .ok (.aload_n 0, 1) := dk_42 (dk_at dksX6_asksOf_0 0 rfl rfl)
theorem dX6_asksOf_1 : decode cX6_asksOf 1 = .ok (.iload_n 1, 1) := dk_27 (dk_at dksX6_asksOf_0 1 rfl rfl)
theorem dX6_asksOf_2 : decode cX6_asksOf 2 = .ok (.iload_n 2, 1) := dk_28 (dk_at dksX6_asksOf_0 2 rfl rfl)
theorem dX6_asksOf_3 : decode cX6_asksOf 3 = .ok (.iconst 0, 1) := dk_3 (dk_at dksX6_asksOf_0 3 rfl rfl)
theorem dX6_asksOf_4 : decode cX6_asksOf 4 = .ok (.iconst 0, 1) := dk_3 (dk_at dksX6_asksOf_0 4 rfl rfl)
theorem dX6_asksOf_5 : decode cX6_asksOf 5 = .ok (.invokevirtual 338, 3) := dk_182 1 82 (dk_at dksX6_asksOf_0 5 rfl rfl)
theorem dX6_asksOf_8 : decode cX6_asksOf 8 = .ok (.aload_n 0, 1) := dk_42 (dk_at dksX6_asksOf_0 8 rfl rfl)
theorem dX6_asksOf_9 : decode cX6_asksOf 9 = .ok (.iconst 2, 1) := dk_5 (dk_at dksX6_asksOf_0 9 rfl rfl)
theorem dX6_asksOf_10 : decode cX6_asksOf 10 = .ok (.aload_n 0, 1) := dk_42 (dk_at dksX6_asksOf_0 10 rfl rfl)
theorem dX6_asksOf_11 : decode cX6_asksOf 11 = .ok (.getfield 71, 3) := dk_180 0 71 (dk_at dksX6_asksOf_0 11 rfl rfl)
theorem dX6_asksOf_14 : decode cX6_asksOf 14 = .ok (.iconst 5, 1) := dk_8 (dk_at dksX6_asksOf_0 14 rfl rfl)
theorem dX6_asksOf_15 : decode cX6_asksOf 15 = .ok (.iaload, 1) := dk_46 (dk_at dksX6_asksOf_0 15 rfl rfl)
theorem dX6_asksOf_16 : decode cX6_asksOf 16 = .ok (.bipush 10, 2) := dk_16 10 (dk_at dksX6_asksOf_0 16 rfl rfl)
theorem dX6_asksOf_18 : decode cX6_asksOf 18 = .ok (.aload_n 0, 1) := dk_42 (dk_at dksX6_asksOf_0 18 rfl rfl)
theorem dX6_asksOf_19 : decode cX6_asksOf 19 = .ok (.getfield 322, 3) := dk_180 1 66 (dk_at dksX6_asksOf_0 19 rfl rfl)
theorem dX6_asksOf_22 : decode cX6_asksOf 22 = .ok (.imul, 1) := dk_104 (dk_at dksX6_asksOf_0 22 rfl rfl)
theorem dX6_asksOf_23 : decode cX6_asksOf 23 = .ok (.isub, 1) := dk_100 (dk_at dksX6_asksOf_0 23 rfl rfl)
theorem dX6_asksOf_24 : decode cX6_asksOf 24 = .ok (.sipush 9999, 3) := dk_17 39 15 (dk_at dksX6_asksOf_1 0 rfl rfl)
theorem dX6_asksOf_27 : decode cX6_asksOf 27 = .ok (.invokevirtual 342, 3) := dk_182 1 86 (dk_at dksX6_asksOf_1 3 rfl rfl)
theorem dX6_asksOf_30 : decode cX6_asksOf 30 = .ok (.ireturn, 1) := dk_172 (dk_at dksX6_asksOf_1 6 rfl rfl)
abbrev cX6_looks : ByteArray := prog_22_method_65_code
def yX6_looks : MethodName := ⟨RX6, "looks", "(IIIZ)V"⟩
def dkwX6_looks_8 : List UInt8 := [42, 180, 0, 7, 3, 46, 79, 177]
abbrev dktX6_looks_8 : List UInt8 := dkwX6_looks_8 ++ []
def dkwX6_looks_7 : List UInt8 := [180, 0, 68, 27, 46, 28, 182, 1, 75, 153, 0, 7, 4, 167, 0, 4, 3, 79, 42, 180, 0, 71, 16, 10]
abbrev dktX6_looks_7 : List UInt8 := dkwX6_looks_7 ++ dktX6_looks_8
def dkwX6_looks_6 : List UInt8 := [180, 0, 71, 16, 8, 42, 180, 0, 7, 16, 65, 27, 96, 46, 79, 42, 180, 0, 71, 16, 9, 42, 42]
abbrev dktX6_looks_6 : List UInt8 := dkwX6_looks_6 ++ dktX6_looks_7
def dkwX6_looks_5 : List UInt8 := [42, 180, 1, 72, 46, 79, 42, 180, 0, 71, 16, 7, 42, 180, 0, 7, 16, 89, 27, 96, 46, 79, 42]
abbrev dktX6_looks_5 : List UInt8 := dkwX6_looks_5 ++ dktX6_looks_6
def dkwX6_looks_4 : List UInt8 := [46, 79, 42, 180, 0, 71, 16, 6, 42, 180, 1, 72, 2, 160, 0, 7, 3, 167, 0, 12, 42, 180, 0, 22]
abbrev dktX6_looks_4 : List UInt8 := dkwX6_looks_4 ++ dktX6_looks_5
def dkwX6_looks_3 : List UInt8 := [180, 0, 71, 8, 42, 180, 1, 72, 2, 160, 0, 7, 3, 167, 0, 12, 42, 180, 0, 19, 42, 180, 1, 72]
abbrev dktX6_looks_3 : List UInt8 := dkwX6_looks_3 ++ dktX6_looks_4
def dkwX6_looks_2 : List UInt8 := [3, 79, 42, 180, 0, 71, 6, 42, 180, 1, 66, 79, 42, 180, 0, 71, 7, 42, 180, 1, 69, 79, 42]
abbrev dktX6_looks_2 : List UInt8 := dkwX6_looks_2 ++ dktX6_looks_3
def dkwX6_looks_1 : List UInt8 := [167, 0, 4, 3, 79, 42, 180, 0, 71, 5, 21, 4, 153, 0, 12, 42, 28, 29, 182, 1, 63, 167, 0, 4]
abbrev dktX6_looks_1 : List UInt8 := dkwX6_looks_1 ++ dktX6_looks_2
def dkwX6_looks_0 : List UInt8 := [42, 180, 0, 71, 3, 29, 79, 42, 180, 0, 71, 4, 21, 4, 153, 0, 12, 42, 27, 29, 182, 1, 63]
abbrev dktX6_looks_0 : List UInt8 := dkwX6_looks_0 ++ dktX6_looks_1
theorem dksX6_looks_0 : cX6_looks.data.toList.drop 0 = dktX6_looks_0 := by decide +kernel
theorem dksX6_looks_1 : cX6_looks.data.toList.drop 23 = dktX6_looks_1 := dk_seg dksX6_looks_0 23 rfl rfl
theorem dksX6_looks_2 : cX6_looks.data.toList.drop 47 = dktX6_looks_2 := dk_seg dksX6_looks_1 24 rfl rfl
theorem dksX6_looks_3 : cX6_looks.data.toList.drop 70 = dktX6_looks_3 := dk_seg dksX6_looks_2 23 rfl rfl
theorem dksX6_looks_4 : cX6_looks.data.toList.drop 94 = dktX6_looks_4 := dk_seg dksX6_looks_3 24 rfl rfl
theorem dksX6_looks_5 : cX6_looks.data.toList.drop 118 = dktX6_looks_5 := dk_seg dksX6_looks_4 24 rfl rfl
theorem dksX6_looks_6 : cX6_looks.data.toList.drop 141 = dktX6_looks_6 := dk_seg dksX6_looks_5 23 rfl rfl
theorem dksX6_looks_7 : cX6_looks.data.toList.drop 164 = dktX6_looks_7 := dk_seg dksX6_looks_6 23 rfl rfl
theorem dksX6_looks_8 : cX6_looks.data.toList.drop 188 = dktX6_looks_8 := dk_seg dksX6_looks_7 24 rfl rfl
theorem dX6_looks_0 : decode cX6_looks 0 = .ok (.aload_n 0, 1) := dk_42 (dk_at dksX6_looks_0 0 rfl rfl)
theorem dX6_looks_1 : decode cX6_looks 1 = .ok (.getfield 71, 3) := dk_180 0 71 (dk_at dksX6_looks_0 1 rfl rfl)
theorem dX6_looks_4 : decode cX6_looks 4 = .ok (.iconst 0, 1) := dk_3 (dk_at dksX6_looks_0 4 rfl rfl)
theorem dX6_looks_5 : decode cX6_looks 5 = .ok (.iload_n 3, 1) := dk_29 (dk_at dksX6_looks_0 5 rfl rfl)
theorem dX6_looks_6 : decode cX6_looks 6 = .ok (.iastore, 1) := dk_79 (dk_at dksX6_looks_0 6 rfl rfl)
theorem dX6_looks_7 : decode cX6_looks 7 = .ok (.aload_n 0, 1) := dk_42 (dk_at dksX6_looks_0 7 rfl rfl)
theorem dX6_looks_8 : decode cX6_looks 8 = .ok (.getfield 71, 3) := dk_180 0 71 (dk_at dksX6_looks_0 8 rfl rfl)
theorem dX6_looks_11 : decode cX6_looks 11 = .ok (.iconst 1, 1) := dk_4 (dk_at dksX6_looks_0 11 rfl rfl)
theorem dX6_looks_12 : decode cX6_looks 12 = .ok (.iload 4, 2) := dk_21 4 (dk_at dksX6_looks_0 12 rfl rfl)
theorem dX6_looks_14 : decode cX6_looks 14 = .ok (.ifCond .eq 12, 3) := dk_153 0 12 (dk_at dksX6_looks_0 14 rfl rfl)
theorem dX6_looks_17 : decode cX6_looks 17 = .ok (.aload_n 0, 1) := dk_42 (dk_at dksX6_looks_0 17 rfl rfl)
theorem dX6_looks_18 : decode cX6_looks 18 = .ok (.iload_n 1, 1) := dk_27 (dk_at dksX6_looks_0 18 rfl rfl)
theorem dX6_looks_19 : decode cX6_looks 19 = .ok (.iload_n 3, 1) := dk_29 (dk_at dksX6_looks_0 19 rfl rfl)
theorem dX6_looks_20 : decode cX6_looks 20 = .ok (.invokevirtual 319, 3) := dk_182 1 63 (dk_at dksX6_looks_0 20 rfl rfl)
theorem dX6_looks_23 : decode cX6_looks 23 = .ok (.goto 4, 3) := dk_167 0 4 (dk_at dksX6_looks_1 0 rfl rfl)
theorem dX6_looks_26 : decode cX6_looks 26 = .ok (.iconst 0, 1) := dk_3 (dk_at dksX6_looks_1 3 rfl rfl)
theorem dX6_looks_27 : decode cX6_looks 27 = .ok (.iastore, 1) := dk_79 (dk_at dksX6_looks_1 4 rfl rfl)
theorem dX6_looks_28 : decode cX6_looks 28 = .ok (.aload_n 0, 1) := dk_42 (dk_at dksX6_looks_1 5 rfl rfl)
theorem dX6_looks_29 : decode cX6_looks 29 = .ok (.getfield 71, 3) := dk_180 0 71 (dk_at dksX6_looks_1 6 rfl rfl)
theorem dX6_looks_32 : decode cX6_looks 32 = .ok (.iconst 2, 1) := dk_5 (dk_at dksX6_looks_1 9 rfl rfl)
theorem dX6_looks_33 : decode cX6_looks 33 = .ok (.iload 4, 2) := dk_21 4 (dk_at dksX6_looks_1 10 rfl rfl)
theorem dX6_looks_35 : decode cX6_looks 35 = .ok (.ifCond .eq 12, 3) := dk_153 0 12 (dk_at dksX6_looks_1 12 rfl rfl)
theorem dX6_looks_38 : decode cX6_looks 38 = .ok (.aload_n 0, 1) := dk_42 (dk_at dksX6_looks_1 15 rfl rfl)
theorem dX6_looks_39 : decode cX6_looks 39 = .ok (.iload_n 2, 1) := dk_28 (dk_at dksX6_looks_1 16 rfl rfl)
theorem dX6_looks_40 : decode cX6_looks 40 = .ok (.iload_n 3, 1) := dk_29 (dk_at dksX6_looks_1 17 rfl rfl)
theorem dX6_looks_41 : decode cX6_looks 41 = .ok (.invokevirtual 319, 3) := dk_182 1 63 (dk_at dksX6_looks_1 18 rfl rfl)
theorem dX6_looks_44 : decode cX6_looks 44 = .ok (.goto 4, 3) := dk_167 0 4 (dk_at dksX6_looks_1 21 rfl rfl)
theorem dX6_looks_47 : decode cX6_looks 47 = .ok (.iconst 0, 1) := dk_3 (dk_at dksX6_looks_2 0 rfl rfl)
theorem dX6_looks_48 : decode cX6_looks 48 = .ok (.iastore, 1) := dk_79 (dk_at dksX6_looks_2 1 rfl rfl)
theorem dX6_looks_49 : decode cX6_looks 49 = .ok (.aload_n 0, 1) := dk_42 (dk_at dksX6_looks_2 2 rfl rfl)
theorem dX6_looks_50 : decode cX6_looks 50 = .ok (.getfield 71, 3) := dk_180 0 71 (dk_at dksX6_looks_2 3 rfl rfl)
theorem dX6_looks_53 : decode cX6_looks 53 = .ok (.iconst 3, 1) := dk_6 (dk_at dksX6_looks_2 6 rfl rfl)
theorem dX6_looks_54 : decode cX6_looks 54 = .ok (.aload_n 0, 1) := dk_42 (dk_at dksX6_looks_2 7 rfl rfl)
theorem dX6_looks_55 : decode cX6_looks 55 = .ok (.getfield 322, 3) := dk_180 1 66 (dk_at dksX6_looks_2 8 rfl rfl)
theorem dX6_looks_58 : decode cX6_looks 58 = .ok (.iastore, 1) := dk_79 (dk_at dksX6_looks_2 11 rfl rfl)
theorem dX6_looks_59 : decode cX6_looks 59 = .ok (.aload_n 0, 1) := dk_42 (dk_at dksX6_looks_2 12 rfl rfl)
theorem dX6_looks_60 : decode cX6_looks 60 = .ok (.getfield 71, 3) := dk_180 0 71 (dk_at dksX6_looks_2 13 rfl rfl)
theorem dX6_looks_63 : decode cX6_looks 63 = .ok (.iconst 4, 1) := dk_7 (dk_at dksX6_looks_2 16 rfl rfl)
theorem dX6_looks_64 : decode cX6_looks 64 = .ok (.aload_n 0, 1) := dk_42 (dk_at dksX6_looks_2 17 rfl rfl)
theorem dX6_looks_65 : decode cX6_looks 65 = .ok (.getfield 325, 3) := dk_180 1 69 (dk_at dksX6_looks_2 18 rfl rfl)
theorem dX6_looks_68 : decode cX6_looks 68 = .ok (.iastore, 1) := dk_79 (dk_at dksX6_looks_2 21 rfl rfl)
theorem dX6_looks_69 : decode cX6_looks 69 = .ok (.aload_n 0, 1) := dk_42 (dk_at dksX6_looks_2 22 rfl rfl)
theorem dX6_looks_70 : decode cX6_looks 70 = .ok (.getfield 71, 3) := dk_180 0 71 (dk_at dksX6_looks_3 0 rfl rfl)
theorem dX6_looks_73 : decode cX6_looks 73 = .ok (.iconst 5, 1) := dk_8 (dk_at dksX6_looks_3 3 rfl rfl)
theorem dX6_looks_74 : decode cX6_looks 74 = .ok (.aload_n 0, 1) := dk_42 (dk_at dksX6_looks_3 4 rfl rfl)
theorem dX6_looks_75 : decode cX6_looks 75 = .ok (.getfield 328, 3) := dk_180 1 72 (dk_at dksX6_looks_3 5 rfl rfl)
theorem dX6_looks_78 : decode cX6_looks 78 = .ok (.iconst (-1), 1) := dk_2 (dk_at dksX6_looks_3 8 rfl rfl)
theorem dX6_looks_79 : decode cX6_looks 79 = .ok (.if_icmp .ne 7, 3) := dk_160 0 7 (dk_at dksX6_looks_3 9 rfl rfl)
theorem dX6_looks_82 : decode cX6_looks 82 = .ok (.iconst 0, 1) := dk_3 (dk_at dksX6_looks_3 12 rfl rfl)
theorem dX6_looks_83 : decode cX6_looks 83 = .ok (.goto 12, 3) := dk_167 0 12 (dk_at dksX6_looks_3 13 rfl rfl)
theorem dX6_looks_86 : decode cX6_looks 86 = .ok (.aload_n 0, 1) := dk_42 (dk_at dksX6_looks_3 16 rfl rfl)
theorem dX6_looks_87 : decode cX6_looks 87 = .ok (.getfield 19, 3) := dk_180 0 19 (dk_at dksX6_looks_3 17 rfl rfl)
theorem dX6_looks_90 : decode cX6_looks 90 = .ok (.aload_n 0, 1) := dk_42 (dk_at dksX6_looks_3 20 rfl rfl)
theorem dX6_looks_91 : decode cX6_looks 91 = .ok (.getfield 328, 3) := dk_180 1 72 (dk_at dksX6_looks_3 21 rfl rfl)
theorem dX6_looks_94 : decode cX6_looks 94 = .ok (.iaload, 1) := dk_46 (dk_at dksX6_looks_4 0 rfl rfl)
theorem dX6_looks_95 : decode cX6_looks 95 = .ok (.iastore, 1) := dk_79 (dk_at dksX6_looks_4 1 rfl rfl)
theorem dX6_looks_96 : decode cX6_looks 96 = .ok (.aload_n 0, 1) := dk_42 (dk_at dksX6_looks_4 2 rfl rfl)
theorem dX6_looks_97 : decode cX6_looks 97 = .ok (.getfield 71, 3) := dk_180 0 71 (dk_at dksX6_looks_4 3 rfl rfl)
theorem dX6_looks_100 : decode cX6_looks 100 = .ok (.bipush 6, 2) := dk_16 6 (dk_at dksX6_looks_4 6 rfl rfl)
theorem dX6_looks_102 : decode cX6_looks 102 = .ok (.aload_n 0, 1) := dk_42 (dk_at dksX6_looks_4 8 rfl rfl)
theorem dX6_looks_103 : decode cX6_looks 103 = .ok (.getfield 328, 3) := dk_180 1 72 (dk_at dksX6_looks_4 9 rfl rfl)
theorem dX6_looks_106 : decode cX6_looks 106 = .ok (.iconst (-1), 1) := dk_2 (dk_at dksX6_looks_4 12 rfl rfl)
theorem dX6_looks_107 : decode cX6_looks 107 = .ok (.if_icmp .ne 7, 3) := dk_160 0 7 (dk_at dksX6_looks_4 13 rfl rfl)
theorem dX6_looks_110 : decode cX6_looks 110 = .ok (.iconst 0, 1) := dk_3 (dk_at dksX6_looks_4 16 rfl rfl)
theorem dX6_looks_111 : decode cX6_looks 111 = .ok (.goto 12, 3) := dk_167 0 12 (dk_at dksX6_looks_4 17 rfl rfl)
theorem dX6_looks_114 : decode cX6_looks 114 = .ok (.aload_n 0, 1) := dk_42 (dk_at dksX6_looks_4 20 rfl rfl)
theorem dX6_looks_115 : decode cX6_looks 115 = .ok (.getfield 22, 3) := dk_180 0 22 (dk_at dksX6_looks_4 21 rfl rfl)
theorem dX6_looks_118 : decode cX6_looks 118 = .ok (.aload_n 0, 1) := dk_42 (dk_at dksX6_looks_5 0 rfl rfl)
theorem dX6_looks_119 : decode cX6_looks 119 = .ok (.getfield 328, 3) := dk_180 1 72 (dk_at dksX6_looks_5 1 rfl rfl)
theorem dX6_looks_122 : decode cX6_looks 122 = .ok (.iaload, 1) := dk_46 (dk_at dksX6_looks_5 4 rfl rfl)
theorem dX6_looks_123 : decode cX6_looks 123 = .ok (.iastore, 1) := dk_79 (dk_at dksX6_looks_5 5 rfl rfl)
theorem dX6_looks_124 : decode cX6_looks 124 = .ok (.aload_n 0, 1) := dk_42 (dk_at dksX6_looks_5 6 rfl rfl)
theorem dX6_looks_125 : decode cX6_looks 125 = .ok (.getfield 71, 3) := dk_180 0 71 (dk_at dksX6_looks_5 7 rfl rfl)
theorem dX6_looks_128 : decode cX6_looks 128 = .ok (.bipush 7, 2) := dk_16 7 (dk_at dksX6_looks_5 10 rfl rfl)
theorem dX6_looks_130 : decode cX6_looks 130 = .ok (.aload_n 0, 1) := dk_42 (dk_at dksX6_looks_5 12 rfl rfl)
theorem dX6_looks_131 : decode cX6_looks 131 = .ok (.getfield 7, 3) := dk_180 0 7 (dk_at dksX6_looks_5 13 rfl rfl)
theorem dX6_looks_134 : decode cX6_looks 134 = .ok (.bipush 89, 2) := dk_16 89 (dk_at dksX6_looks_5 16 rfl rfl)
theorem dX6_looks_136 : decode cX6_looks 136 = .ok (.iload_n 1, 1) := dk_27 (dk_at dksX6_looks_5 18 rfl rfl)
theorem dX6_looks_137 : decode cX6_looks 137 = .ok (.iadd, 1) := dk_96 (dk_at dksX6_looks_5 19 rfl rfl)
theorem dX6_looks_138 : decode cX6_looks 138 = .ok (.iaload, 1) := dk_46 (dk_at dksX6_looks_5 20 rfl rfl)
theorem dX6_looks_139 : decode cX6_looks 139 = .ok (.iastore, 1) := dk_79 (dk_at dksX6_looks_5 21 rfl rfl)
theorem dX6_looks_140 : decode cX6_looks 140 = .ok (.aload_n 0, 1) := dk_42 (dk_at dksX6_looks_5 22 rfl rfl)
theorem dX6_looks_141 : decode cX6_looks 141 = .ok (.getfield 71, 3) := dk_180 0 71 (dk_at dksX6_looks_6 0 rfl rfl)
theorem dX6_looks_144 : decode cX6_looks 144 = .ok (.bipush 8, 2) := dk_16 8 (dk_at dksX6_looks_6 3 rfl rfl)
theorem dX6_looks_146 : decode cX6_looks 146 = .ok (.aload_n 0, 1) := dk_42 (dk_at dksX6_looks_6 5 rfl rfl)
theorem dX6_looks_147 : decode cX6_looks 147 = .ok (.getfield 7, 3) := dk_180 0 7 (dk_at dksX6_looks_6 6 rfl rfl)
theorem dX6_looks_150 : decode cX6_looks 150 = .ok (.bipush 65, 2) := dk_16 65 (dk_at dksX6_looks_6 9 rfl rfl)
theorem dX6_looks_152 : decode cX6_looks 152 = .ok (.iload_n 1, 1) := dk_27 (dk_at dksX6_looks_6 11 rfl rfl)
theorem dX6_looks_153 : decode cX6_looks 153 = .ok (.iadd, 1) := dk_96 (dk_at dksX6_looks_6 12 rfl rfl)
theorem dX6_looks_154 : decode cX6_looks 154 = .ok (.iaload, 1) := dk_46 (dk_at dksX6_looks_6 13 rfl rfl)
theorem dX6_looks_155 : decode cX6_looks 155 = .ok (.iastore, 1) := dk_79 (dk_at dksX6_looks_6 14 rfl rfl)
theorem dX6_looks_156 : decode cX6_looks 156 = .ok (.aload_n 0, 1) := dk_42 (dk_at dksX6_looks_6 15 rfl rfl)
theorem dX6_looks_157 : decode cX6_looks 157 = .ok (.getfield 71, 3) := dk_180 0 71 (dk_at dksX6_looks_6 16 rfl rfl)
theorem dX6_looks_160 : decode cX6_looks 160 = .ok (.bipush 9, 2) := dk_16 9 (dk_at dksX6_looks_6 19 rfl rfl)
theorem dX6_looks_162 : decode cX6_looks 162 = .ok (.aload_n 0, 1) := dk_42 (dk_at dksX6_looks_6 21 rfl rfl)
theorem dX6_looks_163 : decode cX6_looks 163 = .ok (.aload_n 0, 1) := dk_42 (dk_at dksX6_looks_6 22 rfl rfl)
theorem dX6_looks_164 : decode cX6_looks 164 = .ok (.getfield 68, 3) := dk_180 0 68 (dk_at dksX6_looks_7 0 rfl rfl)
theorem dX6_looks_167 : decode cX6_looks 167 = .ok (.iload_n 1, 1) := dk_27 (dk_at dksX6_looks_7 3 rfl rfl)
theorem dX6_looks_168 : decode cX6_looks 168 = .ok (.iaload, 1) := dk_46 (dk_at dksX6_looks_7 4 rfl rfl)
theorem dX6_looks_169 : decode cX6_looks 169 = .ok (.iload_n 2, 1) := dk_28 (dk_at dksX6_looks_7 5 rfl rfl)
theorem dX6_looks_170 : decode cX6_looks 170 = .ok (.invokevirtual 331, 3) := dk_182 1 75 (dk_at dksX6_looks_7 6 rfl rfl)
theorem dX6_looks_173 : decode cX6_looks 173 = .ok (.ifCond .eq 7, 3) := dk_153 0 7 (dk_at dksX6_looks_7 9 rfl rfl)
theorem dX6_looks_176 : decode cX6_looks 176 = .ok (.iconst 1, 1) := dk_4 (dk_at dksX6_looks_7 12 rfl rfl)
theorem dX6_looks_177 : decode cX6_looks 177 = .ok (.goto 4, 3) := dk_167 0 4 (dk_at dksX6_looks_7 13 rfl rfl)
theorem dX6_looks_180 : decode cX6_looks 180 = .ok (.iconst 0, 1) := dk_3 (dk_at dksX6_looks_7 16 rfl rfl)
theorem dX6_looks_181 : decode cX6_looks 181 = .ok (.iastore, 1) := dk_79 (dk_at dksX6_looks_7 17 rfl rfl)
theorem dX6_looks_182 : decode cX6_looks 182 = .ok (.aload_n 0, 1) := dk_42 (dk_at dksX6_looks_7 18 rfl rfl)
theorem dX6_looks_183 : decode cX6_looks 183 = .ok (.getfield 71, 3) := dk_180 0 71 (dk_at dksX6_looks_7 19 rfl rfl)
theorem dX6_looks_186 : decode cX6_looks 186 = .ok (.bipush 10, 2) := dk_16 10 (dk_at dksX6_looks_7 22 rfl rfl)
theorem dX6_looks_188 : decode cX6_looks 188 = .ok (.aload_n 0, 1) := dk_42 (dk_at dksX6_looks_8 0 rfl rfl)
theorem dX6_looks_189 : decode cX6_looks 189 = .ok (.getfield 7, 3) := dk_180 0 7 (dk_at dksX6_looks_8 1 rfl rfl)
theorem dX6_looks_192 : decode cX6_looks 192 = .ok (.iconst 0, 1) := dk_3 (dk_at dksX6_looks_8 4 rfl rfl)
theorem dX6_looks_193 : decode cX6_looks 193 = .ok (.iaload, 1) := dk_46 (dk_at dksX6_looks_8 5 rfl rfl)
theorem dX6_looks_194 : decode cX6_looks 194 = .ok (.iastore, 1) := dk_79 (dk_at dksX6_looks_8 6 rfl rfl)
theorem dX6_looks_195 : decode cX6_looks 195 = .ok (.return_, 1) := dk_177 (dk_at dksX6_looks_8 7 rfl rfl)
abbrev cX6_traitOf : ByteArray := prog_22_method_19_code
def yX6_traitOf : MethodName := ⟨RX6, "traitOf", "(II)I"⟩
def dkwX6_traitOf_0 : List UInt8 := [42, 180, 0, 7, 8, 8, 27, 104, 96, 28, 96, 46, 172]
abbrev dktX6_traitOf_0 : List UInt8 := dkwX6_traitOf_0 ++ []
theorem dksX6_traitOf_0 : cX6_traitOf.data.toList.drop 0 = dktX6_traitOf_0 := by decide +kernel
theorem dX6_traitOf_0 : decode cX6_traitOf 0 = .ok (.aload_n 0, 1) := dk_42 (dk_at dksX6_traitOf_0 0 rfl rfl)
theorem dX6_traitOf_1 : decode cX6_traitOf 1 = .ok (.getfield 7, 3) := dk_180 0 7 (dk_at dksX6_traitOf_0 1 rfl rfl)
theorem dX6_traitOf_4 : decode cX6_traitOf 4 = .ok (.iconst 5, 1) := dk_8 (dk_at dksX6_traitOf_0 4 rfl rfl)
theorem dX6_traitOf_5 : decode cX6_traitOf 5 = .ok (.iconst 5, 1) := dk_8 (dk_at dksX6_traitOf_0 5 rfl rfl)
theorem dX6_traitOf_6 : decode cX6_traitOf 6 = .ok (.iload_n 1, 1) := dk_27 (dk_at dksX6_traitOf_0 6 rfl rfl)
theorem dX6_traitOf_7 : decode cX6_traitOf 7 = .ok (.imul, 1) := dk_104 (dk_at dksX6_traitOf_0 7 rfl rfl)
theorem dX6_traitOf_8 : decode cX6_traitOf 8 = .ok (.iadd, 1) := dk_96 (dk_at dksX6_traitOf_0 8 rfl rfl)
theorem dX6_traitOf_9 : decode cX6_traitOf 9 = .ok (.iload_n 2, 1) := dk_28 (dk_at dksX6_traitOf_0 9 rfl rfl)
theorem dX6_traitOf_10 : decode cX6_traitOf 10 = .ok (.iadd, 1) := dk_96 (dk_at dksX6_traitOf_0 10 rfl rfl)
theorem dX6_traitOf_11 : decode cX6_traitOf 11 = .ok (.iaload, 1) := dk_46 (dk_at dksX6_traitOf_0 11 rfl rfl)
theorem dX6_traitOf_12 : decode cX6_traitOf 12 = .ok (.ireturn, 1) := dk_172 (dk_at dksX6_traitOf_0 12 rfl rfl)
abbrev cX6_has : ByteArray := prog_22_method_10_code
def yX6_has : MethodName := ⟨RX6, "has", "(II)Z"⟩
def dkwX6_has_0 : List UInt8 := [27, 28, 122, 4, 126, 4, 160, 0, 7, 4, 167, 0, 4, 3, 172]
abbrev dktX6_has_0 : List UInt8 := dkwX6_has_0 ++ []
theorem dksX6_has_0 : cX6_has.data.toList.drop 0 = dktX6_has_0 := by decide +kernel
theorem dX6_has_0 : decode cX6_has 0 = .ok (.iload_n 1, 1) := dk_27 (dk_at dksX6_has_0 0 rfl rfl)
theorem dX6_has_1 : decode cX6_has 1 = .ok (.iload_n 2, 1) := dk_28 (dk_at dksX6_has_0 1 rfl rfl)
theorem dX6_has_2 : decode cX6_has 2 = .ok (.ishr, 1) := dk_122 (dk_at dksX6_has_0 2 rfl rfl)
theorem dX6_has_3 : decode cX6_has 3 = .ok (.iconst 1, 1) := dk_4 (dk_at dksX6_has_0 3 rfl rfl)
theorem dX6_has_4 : decode cX6_has 4 = .ok (.iand, 1) := dk_126 (dk_at dksX6_has_0 4 rfl rfl)
theorem dX6_has_5 : decode cX6_has 5 = .ok (.iconst 1, 1) := dk_4 (dk_at dksX6_has_0 5 rfl rfl)
theorem dX6_has_6 : decode cX6_has 6 = .ok (.if_icmp .ne 7, 3) := dk_160 0 7 (dk_at dksX6_has_0 6 rfl rfl)
theorem dX6_has_9 : decode cX6_has 9 = .ok (.iconst 1, 1) := dk_4 (dk_at dksX6_has_0 9 rfl rfl)
theorem dX6_has_10 : decode cX6_has 10 = .ok (.goto 4, 3) := dk_167 0 4 (dk_at dksX6_has_0 10 rfl rfl)
theorem dX6_has_13 : decode cX6_has 13 = .ok (.iconst 0, 1) := dk_3 (dk_at dksX6_has_0 13 rfl rfl)
theorem dX6_has_14 : decode cX6_has 14 = .ok (.ireturn, 1) := dk_172 (dk_at dksX6_has_0 14 rfl rfl)
abbrev cX6_lawTells : ByteArray := prog_22_method_66_code
def yX6_lawTells : MethodName := ⟨RX6, "lawTells", "(III)I"⟩
def dkwX6_lawTells_1 : List UInt8 := [21, 4, 46, 42, 180, 0, 43, 21, 4, 46, 182, 1, 60, 3, 29, 182, 0, 141, 172]
abbrev dktX6_lawTells_1 : List UInt8 := dkwX6_lawTells_1 ++ []
def dkwX6_lawTells_0 : List UInt8 := [42, 27, 182, 1, 79, 54, 4, 42, 21, 4, 2, 160, 0, 7, 28, 167, 0, 22, 42, 3, 42, 180, 0, 40]
abbrev dktX6_lawTells_0 : List UInt8 := dkwX6_lawTells_0 ++ dktX6_lawTells_1
theorem dksX6_lawTells_0 : cX6_lawTells.data.toList.drop 0 = dktX6_lawTells_0 := by decide +kernel
theorem dksX6_lawTells_1 : cX6_lawTells.data.toList.drop 24 = dktX6_lawTells_1 := dk_seg dksX6_lawTells_0 24 rfl rfl
theorem dX6_lawTells_0 : decode cX6_lawTells 0 = .ok (.aload_n 0, 1) := dk_42 (dk_at dksX6_lawTells_0 0 rfl rfl)
theorem dX6_lawTells_1 : decode cX6_lawTells 1 = .ok (.iload_n 1, 1) := dk_27 (dk_at dksX6_lawTells_0 1 rfl rfl)
theorem dX6_lawTells_2 : decode cX6_lawTells 2 = .ok (.invokevirtual 335, 3) := dk_182 1 79 (dk_at dksX6_lawTells_0 2 rfl rfl)
theorem dX6_lawTells_5 : decode cX6_lawTells 5 = .ok (.istore 4, 2) := dk_54 4 (dk_at dksX6_lawTells_0 5 rfl rfl)
theorem dX6_lawTells_7 : decode cX6_lawTells 7 = .ok (.aload_n 0, 1) := dk_42 (dk_at dksX6_lawTells_0 7 rfl rfl)
theorem dX6_lawTells_8 : decode cX6_lawTells 8 = .ok (.iload 4, 2) := dk_21 4 (dk_at dksX6_lawTells_0 8 rfl rfl)
theorem dX6_lawTells_10 : decode cX6_lawTells 10 = .ok (.iconst (-1), 1) := dk_2 (dk_at dksX6_lawTells_0 10 rfl rfl)
theorem dX6_lawTells_11 : decode cX6_lawTells 11 = .ok (.if_icmp .ne 7, 3) := dk_160 0 7 (dk_at dksX6_lawTells_0 11 rfl rfl)
theorem dX6_lawTells_14 : decode cX6_lawTells 14 = .ok (.iload_n 2, 1) := dk_28 (dk_at dksX6_lawTells_0 14 rfl rfl)
theorem dX6_lawTells_15 : decode cX6_lawTells 15 = .ok (.goto 22, 3) := dk_167 0 22 (dk_at dksX6_lawTells_0 15 rfl rfl)
theorem dX6_lawTells_18 : decode cX6_lawTells 18 = .ok (.aload_n 0, 1) := dk_42 (dk_at dksX6_lawTells_0 18 rfl rfl)
theorem dX6_lawTells_19 : decode cX6_lawTells 19 = .ok (.iconst 0, 1) := dk_3 (dk_at dksX6_lawTells_0 19 rfl rfl)
theorem dX6_lawTells_20 : decode cX6_lawTells 20 = .ok (.aload_n 0, 1) := dk_42 (dk_at dksX6_lawTells_0 20 rfl rfl)
theorem dX6_lawTells_21 : decode cX6_lawTells 21 = .ok (.getfield 40, 3) := dk_180 0 40 (dk_at dksX6_lawTells_0 21 rfl rfl)
theorem dX6_lawTells_24 : decode cX6_lawTells 24 = .ok (.iload 4, 2) := dk_21 4 (dk_at dksX6_lawTells_1 0 rfl rfl)
theorem dX6_lawTells_26 : decode cX6_lawTells 26 = .ok (.iaload, 1) := dk_46 (dk_at dksX6_lawTells_1 2 rfl rfl)
theorem dX6_lawTells_27 : decode cX6_lawTells 27 = .ok (.aload_n 0, 1) := dk_42 (dk_at dksX6_lawTells_1 3 rfl rfl)
theorem dX6_lawTells_28 : decode cX6_lawTells 28 = .ok (.getfield 43, 3) := dk_180 0 43 (dk_at dksX6_lawTells_1 4 rfl rfl)
theorem dX6_lawTells_31 : decode cX6_lawTells 31 = .ok (.iload 4, 2) := dk_21 4 (dk_at dksX6_lawTells_1 7 rfl rfl)
theorem dX6_lawTells_33 : decode cX6_lawTells 33 = .ok (.iaload, 1) := dk_46 (dk_at dksX6_lawTells_1 9 rfl rfl)
theorem dX6_lawTells_34 : decode cX6_lawTells 34 = .ok (.invokevirtual 316, 3) := dk_182 1 60 (dk_at dksX6_lawTells_1 10 rfl rfl)
theorem dX6_lawTells_37 : decode cX6_lawTells 37 = .ok (.iconst 0, 1) := dk_3 (dk_at dksX6_lawTells_1 13 rfl rfl)
theorem dX6_lawTells_38 : decode cX6_lawTells 38 = .ok (.iload_n 3, 1) := dk_29 (dk_at dksX6_lawTells_1 14 rfl rfl)
theorem dX6_lawTells_39 : decode cX6_lawTells 39 = .ok (.invokevirtual 141, 3) := dk_182 0 141 (dk_at dksX6_lawTells_1 15 rfl rfl)
theorem dX6_lawTells_42 : decode cX6_lawTells 42 = .ok (.ireturn, 1) := dk_172 (dk_at dksX6_lawTells_1 18 rfl rfl)
abbrev cX6_lineOf : ByteArray := prog_22_method_64_code
def yX6_lineOf : MethodName := ⟨RX6, "lineOf", "(I)I"⟩
def dkwX6_lineOf_2 : List UInt8 := [180, 0, 46, 28, 46, 182, 1, 60, 153, 0, 5, 28, 172, 132, 2, 1, 167, 255, 196, 2, 172]
abbrev dktX6_lineOf_2 : List UInt8 := dkwX6_lineOf_2 ++ []
def dkwX6_lineOf_1 : List UInt8 := [180, 0, 43, 28, 46, 42, 180, 0, 46, 28, 46, 159, 0, 23, 42, 3, 42, 180, 0, 43, 28, 46, 42]
abbrev dktX6_lineOf_1 : List UInt8 := dkwX6_lineOf_1 ++ dktX6_lineOf_2
def dkwX6_lineOf_0 : List UInt8 := [3, 61, 28, 42, 180, 0, 34, 3, 46, 162, 0, 56, 42, 180, 0, 37, 28, 46, 27, 160, 0, 40, 42]
abbrev dktX6_lineOf_0 : List UInt8 := dkwX6_lineOf_0 ++ dktX6_lineOf_1
theorem dksX6_lineOf_0 : cX6_lineOf.data.toList.drop 0 = dktX6_lineOf_0 := by decide +kernel
theorem dksX6_lineOf_1 : cX6_lineOf.data.toList.drop 23 = dktX6_lineOf_1 := dk_seg dksX6_lineOf_0 23 rfl rfl
theorem dksX6_lineOf_2 : cX6_lineOf.data.toList.drop 46 = dktX6_lineOf_2 := dk_seg dksX6_lineOf_1 23 rfl rfl
theorem dX6_lineOf_0 : decode cX6_lineOf 0 = .ok (.iconst 0, 1) := dk_3 (dk_at dksX6_lineOf_0 0 rfl rfl)
theorem dX6_lineOf_1 : decode cX6_lineOf 1 = .ok (.istore_n 2, 1) := dk_61 (dk_at dksX6_lineOf_0 1 rfl rfl)
theorem dX6_lineOf_2 : decode cX6_lineOf 2 = .ok (.iload_n 2, 1) := dk_28 (dk_at dksX6_lineOf_0 2 rfl rfl)
theorem dX6_lineOf_3 : decode cX6_lineOf 3 = .ok (.aload_n 0, 1) := dk_42 (dk_at dksX6_lineOf_0 3 rfl rfl)
theorem dX6_lineOf_4 : decode cX6_lineOf 4 = .ok (.getfield 34, 3) := dk_180 0 34 (dk_at dksX6_lineOf_0 4 rfl rfl)
theorem dX6_lineOf_7 : decode cX6_lineOf 7 = .ok (.iconst 0, 1) := dk_3 (dk_at dksX6_lineOf_0 7 rfl rfl)
theorem dX6_lineOf_8 : decode cX6_lineOf 8 = .ok (.iaload, 1) := dk_46 (dk_at dksX6_lineOf_0 8 rfl rfl)
theorem dX6_lineOf_9 : decode cX6_lineOf 9 = .ok (.if_icmp .ge 56, 3) := dk_162 0 56 (dk_at dksX6_lineOf_0 9 rfl rfl)
theorem dX6_lineOf_12 : decode cX6_lineOf 12 = .ok (.aload_n 0, 1) := dk_42 (dk_at dksX6_lineOf_0 12 rfl rfl)
theorem dX6_lineOf_13 : decode cX6_lineOf 13 = .ok (.getfield 37, 3) := dk_180 0 37 (dk_at dksX6_lineOf_0 13 rfl rfl)
theorem dX6_lineOf_16 : decode cX6_lineOf 16 = .ok (.iload_n 2, 1) := dk_28 (dk_at dksX6_lineOf_0 16 rfl rfl)
theorem dX6_lineOf_17 : decode cX6_lineOf 17 = .ok (.iaload, 1) := dk_46 (dk_at dksX6_lineOf_0 17 rfl rfl)
theorem dX6_lineOf_18 : decode cX6_lineOf 18 = .ok (.iload_n 1, 1) := dk_27 (dk_at dksX6_lineOf_0 18 rfl rfl)
theorem dX6_lineOf_19 : decode cX6_lineOf 19 = .ok (.if_icmp .ne 40, 3) := dk_160 0 40 (dk_at dksX6_lineOf_0 19 rfl rfl)
theorem dX6_lineOf_22 : decode cX6_lineOf 22 = .ok (.aload_n 0, 1) := dk_42 (dk_at dksX6_lineOf_0 22 rfl rfl)
theorem dX6_lineOf_23 : decode cX6_lineOf 23 = .ok (.getfield 43, 3) := dk_180 0 43 (dk_at dksX6_lineOf_1 0 rfl rfl)
theorem dX6_lineOf_26 : decode cX6_lineOf 26 = .ok (.iload_n 2, 1) := dk_28 (dk_at dksX6_lineOf_1 3 rfl rfl)
theorem dX6_lineOf_27 : decode cX6_lineOf 27 = .ok (.iaload, 1) := dk_46 (dk_at dksX6_lineOf_1 4 rfl rfl)
theorem dX6_lineOf_28 : decode cX6_lineOf 28 = .ok (.aload_n 0, 1) := dk_42 (dk_at dksX6_lineOf_1 5 rfl rfl)
theorem dX6_lineOf_29 : decode cX6_lineOf 29 = .ok (.getfield 46, 3) := dk_180 0 46 (dk_at dksX6_lineOf_1 6 rfl rfl)
theorem dX6_lineOf_32 : decode cX6_lineOf 32 = .ok (.iload_n 2, 1) := dk_28 (dk_at dksX6_lineOf_1 9 rfl rfl)
theorem dX6_lineOf_33 : decode cX6_lineOf 33 = .ok (.iaload, 1) := dk_46 (dk_at dksX6_lineOf_1 10 rfl rfl)
theorem dX6_lineOf_34 : decode cX6_lineOf 34 = .ok (.if_icmp .eq 23, 3) := dk_159 0 23 (dk_at dksX6_lineOf_1 11 rfl rfl)
theorem dX6_lineOf_37 : decode cX6_lineOf 37 = .ok (.aload_n 0, 1) := dk_42 (dk_at dksX6_lineOf_1 14 rfl rfl)
theorem dX6_lineOf_38 : decode cX6_lineOf 38 = .ok (.iconst 0, 1) := dk_3 (dk_at dksX6_lineOf_1 15 rfl rfl)
theorem dX6_lineOf_39 : decode cX6_lineOf 39 = .ok (.aload_n 0, 1) := dk_42 (dk_at dksX6_lineOf_1 16 rfl rfl)
theorem dX6_lineOf_40 : decode cX6_lineOf 40 = .ok (.getfield 43, 3) := dk_180 0 43 (dk_at dksX6_lineOf_1 17 rfl rfl)
theorem dX6_lineOf_43 : decode cX6_lineOf 43 = .ok (.iload_n 2, 1) := dk_28 (dk_at dksX6_lineOf_1 20 rfl rfl)
theorem dX6_lineOf_44 : decode cX6_lineOf 44 = .ok (.iaload, 1) := dk_46 (dk_at dksX6_lineOf_1 21 rfl rfl)
theorem dX6_lineOf_45 : decode cX6_lineOf 45 = .ok (.aload_n 0, 1) := dk_42 (dk_at dksX6_lineOf_1 22 rfl rfl)
theorem dX6_lineOf_46 : decode cX6_lineOf 46 = .ok (.getfield 46, 3) := dk_180 0 46 (dk_at dksX6_lineOf_2 0 rfl rfl)
theorem dX6_lineOf_49 : decode cX6_lineOf 49 = .ok (.iload_n 2, 1) := dk_28 (dk_at dksX6_lineOf_2 3 rfl rfl)
theorem dX6_lineOf_50 : decode cX6_lineOf 50 = .ok (.iaload, 1) := dk_46 (dk_at dksX6_lineOf_2 4 rfl rfl)
theorem dX6_lineOf_51 : decode cX6_lineOf 51 = .ok (.invokevirtual 316, 3) := dk_182 1 60 (dk_at dksX6_lineOf_2 5 rfl rfl)
theorem dX6_lineOf_54 : decode cX6_lineOf 54 = .ok (.ifCond .eq 5, 3) := dk_153 0 5 (dk_at dksX6_lineOf_2 8 rfl rfl)
theorem dX6_lineOf_57 : decode cX6_lineOf 57 = .ok (.iload_n 2, 1) := dk_28 (dk_at dksX6_lineOf_2 11 rfl rfl)
theorem dX6_lineOf_58 : decode cX6_lineOf 58 = .ok (.ireturn, 1) := dk_172 (dk_at dksX6_lineOf_2 12 rfl rfl)
theorem dX6_lineOf_59 : decode cX6_lineOf 59 = .ok (.iinc 2 1, 3) := dk_132 2 1 (dk_at dksX6_lineOf_2 13 rfl rfl)
theorem dX6_lineOf_62 : decode cX6_lineOf 62 = .ok (.goto (-60), 3) := dk_167 255 196 (dk_at dksX6_lineOf_2 16 rfl rfl)
theorem dX6_lineOf_65 : decode cX6_lineOf 65 = .ok (.iconst (-1), 1) := dk_2 (dk_at dksX6_lineOf_2 19 rfl rfl)
theorem dX6_lineOf_66 : decode cX6_lineOf 66 = .ok (.ireturn, 1) := dk_172 (dk_at dksX6_lineOf_2 20 rfl rfl)
abbrev cX6_runs : ByteArray := prog_22_method_63_code
def yX6_runs : MethodName := ⟨RX6, "runs", "(III)I"⟩
def dkwX6_runs_7 : List UInt8 := [180, 0, 74, 21, 4, 46, 182, 1, 57, 79, 132, 5, 1, 167, 255, 95, 42, 180, 0, 74, 3, 46, 172]
abbrev dktX6_runs_7 : List UInt8 := dkwX6_runs_7 ++ []
def dkwX6_runs_6 : List UInt8 := [21, 4, 4, 100, 42, 42, 180, 0, 49, 21, 5, 46, 42, 180, 0, 74, 21, 4, 4, 100, 46, 42]
abbrev dktX6_runs_6 : List UInt8 := dkwX6_runs_6 ++ dktX6_runs_7
def dkwX6_runs_5 : List UInt8 := [42, 180, 0, 74, 21, 4, 4, 100, 46, 100, 79, 167, 0, 45, 21, 4, 4, 100, 54, 4, 42, 180, 0, 74]
abbrev dktX6_runs_5 : List UInt8 := dkwX6_runs_5 ++ dktX6_runs_6
def dkwX6_runs_4 : List UInt8 := [167, 0, 80, 42, 180, 0, 49, 21, 5, 46, 16, 9, 160, 0, 26, 42, 180, 0, 74, 21, 4, 4, 100, 4]
abbrev dktX6_runs_4 : List UInt8 := dkwX6_runs_4 ++ dktX6_runs_5
def dkwX6_runs_3 : List UInt8 := [167, 0, 15, 42, 180, 0, 71, 42, 180, 0, 52, 21, 5, 46, 46, 79, 21, 4, 4, 96, 54, 4]
abbrev dktX6_runs_3 : List UInt8 := dkwX6_runs_3 ++ dktX6_runs_4
def dkwX6_runs_2 : List UInt8 := [180, 0, 74, 21, 4, 42, 180, 0, 49, 21, 5, 46, 154, 0, 13, 42, 180, 0, 52, 21, 5, 46]
abbrev dktX6_runs_2 : List UInt8 := dkwX6_runs_2 ++ dktX6_runs_3
def dkwX6_runs_1 : List UInt8 := [42, 180, 0, 49, 21, 5, 46, 153, 0, 14, 42, 180, 0, 49, 21, 5, 46, 4, 160, 0, 51, 42]
abbrev dktX6_runs_1 : List UInt8 := dkwX6_runs_1 ++ dktX6_runs_2
def dkwX6_runs_0 : List UInt8 := [3, 54, 4, 17, 1, 144, 27, 104, 28, 96, 54, 5, 21, 5, 17, 1, 144, 27, 104, 29, 96, 162, 0, 155]
abbrev dktX6_runs_0 : List UInt8 := dkwX6_runs_0 ++ dktX6_runs_1
theorem dksX6_runs_0 : cX6_runs.data.toList.drop 0 = dktX6_runs_0 := by decide +kernel
theorem dksX6_runs_1 : cX6_runs.data.toList.drop 24 = dktX6_runs_1 := dk_seg dksX6_runs_0 24 rfl rfl
theorem dksX6_runs_2 : cX6_runs.data.toList.drop 46 = dktX6_runs_2 := dk_seg dksX6_runs_1 22 rfl rfl
theorem dksX6_runs_3 : cX6_runs.data.toList.drop 68 = dktX6_runs_3 := dk_seg dksX6_runs_2 22 rfl rfl
theorem dksX6_runs_4 : cX6_runs.data.toList.drop 90 = dktX6_runs_4 := dk_seg dksX6_runs_3 22 rfl rfl
theorem dksX6_runs_5 : cX6_runs.data.toList.drop 114 = dktX6_runs_5 := dk_seg dksX6_runs_4 24 rfl rfl
theorem dksX6_runs_6 : cX6_runs.data.toList.drop 138 = dktX6_runs_6 := dk_seg dksX6_runs_5 24 rfl rfl
theorem dksX6_runs_7 : cX6_runs.data.toList.drop 160 = dktX6_runs_7 := dk_seg dksX6_runs_6 22 rfl rfl
theorem dX6_runs_0 : decode cX6_runs 0 = .ok (.iconst 0, 1) := dk_3 (dk_at dksX6_runs_0 0 rfl rfl)
theorem dX6_runs_1 : decode cX6_runs 1 = .ok (.istore 4, 2) := dk_54 4 (dk_at dksX6_runs_0 1 rfl rfl)
theorem dX6_runs_3 : decode cX6_runs 3 = .ok (.sipush 400, 3) := dk_17 1 144 (dk_at dksX6_runs_0 3 rfl rfl)
theorem dX6_runs_6 : decode cX6_runs 6 = .ok (.iload_n 1, 1) := dk_27 (dk_at dksX6_runs_0 6 rfl rfl)
theorem dX6_runs_7 : decode cX6_runs 7 = .ok (.imul, 1) := dk_104 (dk_at dksX6_runs_0 7 rfl rfl)
theorem dX6_runs_8 : decode cX6_runs 8 = .ok (.iload_n 2, 1) := dk_28 (dk_at dksX6_runs_0 8 rfl rfl)
theorem dX6_runs_9 : decode cX6_runs 9 = .ok (.iadd, 1) := dk_96 (dk_at dksX6_runs_0 9 rfl rfl)
theorem dX6_runs_10 : decode cX6_runs 10 = .ok (.istore 5, 2) := dk_54 5 (dk_at dksX6_runs_0 10 rfl rfl)
theorem dX6_runs_12 : decode cX6_runs 12 = .ok (.iload 5, 2) := dk_21 5 (dk_at dksX6_runs_0 12 rfl rfl)
theorem dX6_runs_14 : decode cX6_runs 14 = .ok (.sipush 400, 3) := dk_17 1 144 (dk_at dksX6_runs_0 14 rfl rfl)
theorem dX6_runs_17 : decode cX6_runs 17 = .ok (.iload_n 1, 1) := dk_27 (dk_at dksX6_runs_0 17 rfl rfl)
theorem dX6_runs_18 : decode cX6_runs 18 = .ok (.imul, 1) := dk_104 (dk_at dksX6_runs_0 18 rfl rfl)
theorem dX6_runs_19 : decode cX6_runs 19 = .ok (.iload_n 3, 1) := dk_29 (dk_at dksX6_runs_0 19 rfl rfl)
theorem dX6_runs_20 : decode cX6_runs 20 = .ok (.iadd, 1) := dk_96 (dk_at dksX6_runs_0 20 rfl rfl)
theorem dX6_runs_21 : decode cX6_runs 21 = .ok (.if_icmp .ge 155, 3) := dk_162 0 155 (dk_at dksX6_runs_0 21 rfl rfl)
theorem dX6_runs_24 : decode cX6_runs 24 = .ok (.aload_n 0, 1) := dk_42 (dk_at dksX6_runs_1 0 rfl rfl)
theorem dX6_runs_25 : decode cX6_runs 25 = .ok (.getfield 49, 3) := dk_180 0 49 (dk_at dksX6_runs_1 1 rfl rfl)
theorem dX6_runs_28 : decode cX6_runs 28 = .ok (.iload 5, 2) := dk_21 5 (dk_at dksX6_runs_1 4 rfl rfl)
theorem dX6_runs_30 : decode cX6_runs 30 = .ok (.iaload, 1) := dk_46 (dk_at dksX6_runs_1 6 rfl rfl)
theorem dX6_runs_31 : decode cX6_runs 31 = .ok (.ifCond .eq 14, 3) := dk_153 0 14 (dk_at dksX6_runs_1 7 rfl rfl)
theorem dX6_runs_34 : decode cX6_runs 34 = .ok (.aload_n 0, 1) := dk_42 (dk_at dksX6_runs_1 10 rfl rfl)
theorem dX6_runs_35 : decode cX6_runs 35 = .ok (.getfield 49, 3) := dk_180 0 49 (dk_at dksX6_runs_1 11 rfl rfl)
theorem dX6_runs_38 : decode cX6_runs 38 = .ok (.iload 5, 2) := dk_21 5 (dk_at dksX6_runs_1 14 rfl rfl)
theorem dX6_runs_40 : decode cX6_runs 40 = .ok (.iaload, 1) := dk_46 (dk_at dksX6_runs_1 16 rfl rfl)
theorem dX6_runs_41 : decode cX6_runs 41 = .ok (.iconst 1, 1) := dk_4 (dk_at dksX6_runs_1 17 rfl rfl)
theorem dX6_runs_42 : decode cX6_runs 42 = .ok (.if_icmp .ne 51, 3) := dk_160 0 51 (dk_at dksX6_runs_1 18 rfl rfl)
theorem dX6_runs_45 : decode cX6_runs 45 = .ok (.aload_n 0, 1) := dk_42 (dk_at dksX6_runs_1 21 rfl rfl)
theorem dX6_runs_46 : decode cX6_runs 46 = .ok (.getfield 74, 3) := dk_180 0 74 (dk_at dksX6_runs_2 0 rfl rfl)
theorem dX6_runs_49 : decode cX6_runs 49 = .ok (.iload 4, 2) := dk_21 4 (dk_at dksX6_runs_2 3 rfl rfl)
theorem dX6_runs_51 : decode cX6_runs 51 = .ok (.aload_n 0, 1) := dk_42 (dk_at dksX6_runs_2 5 rfl rfl)
theorem dX6_runs_52 : decode cX6_runs 52 = .ok (.getfield 49, 3) := dk_180 0 49 (dk_at dksX6_runs_2 6 rfl rfl)
theorem dX6_runs_55 : decode cX6_runs 55 = .ok (.iload 5, 2) := dk_21 5 (dk_at dksX6_runs_2 9 rfl rfl)
theorem dX6_runs_57 : decode cX6_runs 57 = .ok (.iaload, 1) := dk_46 (dk_at dksX6_runs_2 11 rfl rfl)
theorem dX6_runs_58 : decode cX6_runs 58 = .ok (.ifCond .ne 13, 3) := dk_154 0 13 (dk_at dksX6_runs_2 12 rfl rfl)
theorem dX6_runs_61 : decode cX6_runs 61 = .ok (.aload_n 0, 1) := dk_42 (dk_at dksX6_runs_2 15 rfl rfl)
theorem dX6_runs_62 : decode cX6_runs 62 = .ok (.getfield 52, 3) := dk_180 0 52 (dk_at dksX6_runs_2 16 rfl rfl)
theorem dX6_runs_65 : decode cX6_runs 65 = .ok (.iload 5, 2) := dk_21 5 (dk_at dksX6_runs_2 19 rfl rfl)
theorem dX6_runs_67 : decode cX6_runs 67 = .ok (.iaload, 1) := dk_46 (dk_at dksX6_runs_2 21 rfl rfl)
theorem dX6_runs_68 : decode cX6_runs 68 = .ok (.goto 15, 3) := dk_167 0 15 (dk_at dksX6_runs_3 0 rfl rfl)
theorem dX6_runs_71 : decode cX6_runs 71 = .ok (.aload_n 0, 1) := dk_42 (dk_at dksX6_runs_3 3 rfl rfl)
theorem dX6_runs_72 : decode cX6_runs 72 = .ok (.getfield 71, 3) := dk_180 0 71 (dk_at dksX6_runs_3 4 rfl rfl)
theorem dX6_runs_75 : decode cX6_runs 75 = .ok (.aload_n 0, 1) := dk_42 (dk_at dksX6_runs_3 7 rfl rfl)
theorem dX6_runs_76 : decode cX6_runs 76 = .ok (.getfield 52, 3) := dk_180 0 52 (dk_at dksX6_runs_3 8 rfl rfl)
theorem dX6_runs_79 : decode cX6_runs 79 = .ok (.iload 5, 2) := dk_21 5 (dk_at dksX6_runs_3 11 rfl rfl)
theorem dX6_runs_81 : decode cX6_runs 81 = .ok (.iaload, 1) := dk_46 (dk_at dksX6_runs_3 13 rfl rfl)
theorem dX6_runs_82 : decode cX6_runs 82 = .ok (.iaload, 1) := dk_46 (dk_at dksX6_runs_3 14 rfl rfl)
theorem dX6_runs_83 : decode cX6_runs 83 = .ok (.iastore, 1) := dk_79 (dk_at dksX6_runs_3 15 rfl rfl)
theorem dX6_runs_84 : decode cX6_runs 84 = .ok (.iload 4, 2) := dk_21 4 (dk_at dksX6_runs_3 16 rfl rfl)
theorem dX6_runs_86 : decode cX6_runs 86 = .ok (.iconst 1, 1) := dk_4 (dk_at dksX6_runs_3 18 rfl rfl)
theorem dX6_runs_87 : decode cX6_runs 87 = .ok (.iadd, 1) := dk_96 (dk_at dksX6_runs_3 19 rfl rfl)
theorem dX6_runs_88 : decode cX6_runs 88 = .ok (.istore 4, 2) := dk_54 4 (dk_at dksX6_runs_3 20 rfl rfl)
theorem dX6_runs_90 : decode cX6_runs 90 = .ok (.goto 80, 3) := dk_167 0 80 (dk_at dksX6_runs_4 0 rfl rfl)
theorem dX6_runs_93 : decode cX6_runs 93 = .ok (.aload_n 0, 1) := dk_42 (dk_at dksX6_runs_4 3 rfl rfl)
theorem dX6_runs_94 : decode cX6_runs 94 = .ok (.getfield 49, 3) := dk_180 0 49 (dk_at dksX6_runs_4 4 rfl rfl)
theorem dX6_runs_97 : decode cX6_runs 97 = .ok (.iload 5, 2) := dk_21 5 (dk_at dksX6_runs_4 7 rfl rfl)
theorem dX6_runs_99 : decode cX6_runs 99 = .ok (.iaload, 1) := dk_46 (dk_at dksX6_runs_4 9 rfl rfl)
theorem dX6_runs_100 : decode cX6_runs 100 = .ok (.bipush 9, 2) := dk_16 9 (dk_at dksX6_runs_4 10 rfl rfl)
theorem dX6_runs_102 : decode cX6_runs 102 = .ok (.if_icmp .ne 26, 3) := dk_160 0 26 (dk_at dksX6_runs_4 12 rfl rfl)
theorem dX6_runs_105 : decode cX6_runs 105 = .ok (.aload_n 0, 1) := dk_42 (dk_at dksX6_runs_4 15 rfl rfl)
theorem dX6_runs_106 : decode cX6_runs 106 = .ok (.getfield 74, 3) := dk_180 0 74 (dk_at dksX6_runs_4 16 rfl rfl)
theorem dX6_runs_109 : decode cX6_runs 109 = .ok (.iload 4, 2) := dk_21 4 (dk_at dksX6_runs_4 19 rfl rfl)
theorem dX6_runs_111 : decode cX6_runs 111 = .ok (.iconst 1, 1) := dk_4 (dk_at dksX6_runs_4 21 rfl rfl)
theorem dX6_runs_112 : decode cX6_runs 112 = .ok (.isub, 1) := dk_100 (dk_at dksX6_runs_4 22 rfl rfl)
theorem dX6_runs_113 : decode cX6_runs 113 = .ok (.iconst 1, 1) := dk_4 (dk_at dksX6_runs_4 23 rfl rfl)
theorem dX6_runs_114 : decode cX6_runs 114 = .ok (.aload_n 0, 1) := dk_42 (dk_at dksX6_runs_5 0 rfl rfl)
theorem dX6_runs_115 : decode cX6_runs 115 = .ok (.getfield 74, 3) := dk_180 0 74 (dk_at dksX6_runs_5 1 rfl rfl)
theorem dX6_runs_118 : decode cX6_runs 118 = .ok (.iload 4, 2) := dk_21 4 (dk_at dksX6_runs_5 4 rfl rfl)
theorem dX6_runs_120 : decode cX6_runs 120 = .ok (.iconst 1, 1) := dk_4 (dk_at dksX6_runs_5 6 rfl rfl)
theorem dX6_runs_121 : decode cX6_runs 121 = .ok (.isub, 1) := dk_100 (dk_at dksX6_runs_5 7 rfl rfl)
theorem dX6_runs_122 : decode cX6_runs 122 = .ok (.iaload, 1) := dk_46 (dk_at dksX6_runs_5 8 rfl rfl)
theorem dX6_runs_123 : decode cX6_runs 123 = .ok (.isub, 1) := dk_100 (dk_at dksX6_runs_5 9 rfl rfl)
theorem dX6_runs_124 : decode cX6_runs 124 = .ok (.iastore, 1) := dk_79 (dk_at dksX6_runs_5 10 rfl rfl)
theorem dX6_runs_125 : decode cX6_runs 125 = .ok (.goto 45, 3) := dk_167 0 45 (dk_at dksX6_runs_5 11 rfl rfl)
theorem dX6_runs_128 : decode cX6_runs 128 = .ok (.iload 4, 2) := dk_21 4 (dk_at dksX6_runs_5 14 rfl rfl)
theorem dX6_runs_130 : decode cX6_runs 130 = .ok (.iconst 1, 1) := dk_4 (dk_at dksX6_runs_5 16 rfl rfl)
theorem dX6_runs_131 : decode cX6_runs 131 = .ok (.isub, 1) := dk_100 (dk_at dksX6_runs_5 17 rfl rfl)
theorem dX6_runs_132 : decode cX6_runs 132 = .ok (.istore 4, 2) := dk_54 4 (dk_at dksX6_runs_5 18 rfl rfl)
theorem dX6_runs_134 : decode cX6_runs 134 = .ok (.aload_n 0, 1) := dk_42 (dk_at dksX6_runs_5 20 rfl rfl)
theorem dX6_runs_135 : decode cX6_runs 135 = .ok (.getfield 74, 3) := dk_180 0 74 (dk_at dksX6_runs_5 21 rfl rfl)
theorem dX6_runs_138 : decode cX6_runs 138 = .ok (.iload 4, 2) := dk_21 4 (dk_at dksX6_runs_6 0 rfl rfl)
theorem dX6_runs_140 : decode cX6_runs 140 = .ok (.iconst 1, 1) := dk_4 (dk_at dksX6_runs_6 2 rfl rfl)
theorem dX6_runs_141 : decode cX6_runs 141 = .ok (.isub, 1) := dk_100 (dk_at dksX6_runs_6 3 rfl rfl)
theorem dX6_runs_142 : decode cX6_runs 142 = .ok (.aload_n 0, 1) := dk_42 (dk_at dksX6_runs_6 4 rfl rfl)
theorem dX6_runs_143 : decode cX6_runs 143 = .ok (.aload_n 0, 1) := dk_42 (dk_at dksX6_runs_6 5 rfl rfl)
theorem dX6_runs_144 : decode cX6_runs 144 = .ok (.getfield 49, 3) := dk_180 0 49 (dk_at dksX6_runs_6 6 rfl rfl)
theorem dX6_runs_147 : decode cX6_runs 147 = .ok (.iload 5, 2) := dk_21 5 (dk_at dksX6_runs_6 9 rfl rfl)
theorem dX6_runs_149 : decode cX6_runs 149 = .ok (.iaload, 1) := dk_46 (dk_at dksX6_runs_6 11 rfl rfl)
theorem dX6_runs_150 : decode cX6_runs 150 = .ok (.aload_n 0, 1) := dk_42 (dk_at dksX6_runs_6 12 rfl rfl)
theorem dX6_runs_151 : decode cX6_runs 151 = .ok (.getfield 74, 3) := dk_180 0 74 (dk_at dksX6_runs_6 13 rfl rfl)
theorem dX6_runs_154 : decode cX6_runs 154 = .ok (.iload 4, 2) := dk_21 4 (dk_at dksX6_runs_6 16 rfl rfl)
theorem dX6_runs_156 : decode cX6_runs 156 = .ok (.iconst 1, 1) := dk_4 (dk_at dksX6_runs_6 18 rfl rfl)
theorem dX6_runs_157 : decode cX6_runs 157 = .ok (.isub, 1) := dk_100 (dk_at dksX6_runs_6 19 rfl rfl)
theorem dX6_runs_158 : decode cX6_runs 158 = .ok (.iaload, 1) := dk_46 (dk_at dksX6_runs_6 20 rfl rfl)
theorem dX6_runs_159 : decode cX6_runs 159 = .ok (.aload_n 0, 1) := dk_42 (dk_at dksX6_runs_6 21 rfl rfl)
theorem dX6_runs_160 : decode cX6_runs 160 = .ok (.getfield 74, 3) := dk_180 0 74 (dk_at dksX6_runs_7 0 rfl rfl)
theorem dX6_runs_163 : decode cX6_runs 163 = .ok (.iload 4, 2) := dk_21 4 (dk_at dksX6_runs_7 3 rfl rfl)
theorem dX6_runs_165 : decode cX6_runs 165 = .ok (.iaload, 1) := dk_46 (dk_at dksX6_runs_7 5 rfl rfl)
theorem dX6_runs_166 : decode cX6_runs 166 = .ok (.invokevirtual 313, 3) := dk_182 1 57 (dk_at dksX6_runs_7 6 rfl rfl)
theorem dX6_runs_169 : decode cX6_runs 169 = .ok (.iastore, 1) := dk_79 (dk_at dksX6_runs_7 9 rfl rfl)
theorem dX6_runs_170 : decode cX6_runs 170 = .ok (.iinc 5 1, 3) := dk_132 5 1 (dk_at dksX6_runs_7 10 rfl rfl)
theorem dX6_runs_173 : decode cX6_runs 173 = .ok (.goto (-161), 3) := dk_167 255 95 (dk_at dksX6_runs_7 13 rfl rfl)
theorem dX6_runs_176 : decode cX6_runs 176 = .ok (.aload_n 0, 1) := dk_42 (dk_at dksX6_runs_7 16 rfl rfl)
theorem dX6_runs_177 : decode cX6_runs 177 = .ok (.getfield 74, 3) := dk_180 0 74 (dk_at dksX6_runs_7 17 rfl rfl)
theorem dX6_runs_180 : decode cX6_runs 180 = .ok (.iconst 0, 1) := dk_3 (dk_at dksX6_runs_7 20 rfl rfl)
theorem dX6_runs_181 : decode cX6_runs 181 = .ok (.iaload, 1) := dk_46 (dk_at dksX6_runs_7 21 rfl rfl)
theorem dX6_runs_182 : decode cX6_runs 182 = .ok (.ireturn, 1) := dk_172 (dk_at dksX6_runs_7 22 rfl rfl)
abbrev cX6_twoOf : ByteArray := prog_22_method_62_code
def yX6_twoOf : MethodName := ⟨RX6, "twoOf", "(III)I"⟩
def dkwX6_twoOf_4 : List UInt8 := [104, 167, 0, 14, 28, 29, 96, 158, 0, 7, 4, 167, 0, 4, 3, 172]
abbrev dktX6_twoOf_4 : List UInt8 := dkwX6_twoOf_4 ++ []
def dkwX6_twoOf_3 : List UInt8 := [16, 8, 160, 0, 14, 28, 29, 164, 0, 7, 4, 167, 0, 4, 3, 172, 27, 16, 10, 160, 0, 9, 28, 29]
abbrev dktX6_twoOf_3 : List UInt8 := dkwX6_twoOf_3 ++ dktX6_twoOf_4
def dkwX6_twoOf_2 : List UInt8 := [167, 0, 4, 3, 172, 27, 16, 7, 160, 0, 14, 28, 29, 160, 0, 7, 4, 167, 0, 4, 3, 172, 27]
abbrev dktX6_twoOf_2 : List UInt8 := dkwX6_twoOf_2 ++ dktX6_twoOf_3
def dkwX6_twoOf_1 : List UInt8 := [29, 104, 172, 27, 8, 160, 0, 7, 28, 29, 108, 172, 27, 16, 6, 160, 0, 14, 28, 29, 162, 0, 7, 4]
abbrev dktX6_twoOf_1 : List UInt8 := dkwX6_twoOf_1 ++ dktX6_twoOf_2
def dkwX6_twoOf_0 : List UInt8 := [27, 5, 160, 0, 7, 28, 29, 96, 172, 27, 6, 160, 0, 7, 28, 29, 100, 172, 27, 7, 160, 0, 7, 28]
abbrev dktX6_twoOf_0 : List UInt8 := dkwX6_twoOf_0 ++ dktX6_twoOf_1
theorem dksX6_twoOf_0 : cX6_twoOf.data.toList.drop 0 = dktX6_twoOf_0 := by decide +kernel
theorem dksX6_twoOf_1 : cX6_twoOf.data.toList.drop 24 = dktX6_twoOf_1 := dk_seg dksX6_twoOf_0 24 rfl rfl
theorem dksX6_twoOf_2 : cX6_twoOf.data.toList.drop 48 = dktX6_twoOf_2 := dk_seg dksX6_twoOf_1 24 rfl rfl
theorem dksX6_twoOf_3 : cX6_twoOf.data.toList.drop 71 = dktX6_twoOf_3 := dk_seg dksX6_twoOf_2 23 rfl rfl
theorem dksX6_twoOf_4 : cX6_twoOf.data.toList.drop 95 = dktX6_twoOf_4 := dk_seg dksX6_twoOf_3 24 rfl rfl
theorem dX6_twoOf_0 : decode cX6_twoOf 0 = .ok (.iload_n 1, 1) := dk_27 (dk_at dksX6_twoOf_0 0 rfl rfl)
theorem dX6_twoOf_1 : decode cX6_twoOf 1 = .ok (.iconst 2, 1) := dk_5 (dk_at dksX6_twoOf_0 1 rfl rfl)
theorem dX6_twoOf_2 : decode cX6_twoOf 2 = .ok (.if_icmp .ne 7, 3) := dk_160 0 7 (dk_at dksX6_twoOf_0 2 rfl rfl)
theorem dX6_twoOf_5 : decode cX6_twoOf 5 = .ok (.iload_n 2, 1) := dk_28 (dk_at dksX6_twoOf_0 5 rfl rfl)
theorem dX6_twoOf_6 : decode cX6_twoOf 6 = .ok (.iload_n 3, 1) := dk_29 (dk_at dksX6_twoOf_0 6 rfl rfl)
theorem dX6_twoOf_7 : decode cX6_twoOf 7 = .ok (.iadd, 1) := dk_96 (dk_at dksX6_twoOf_0 7 rfl rfl)
theorem dX6_twoOf_8 : decode cX6_twoOf 8 = .ok (.ireturn, 1) := dk_172 (dk_at dksX6_twoOf_0 8 rfl rfl)
theorem dX6_twoOf_9 : decode cX6_twoOf 9 = .ok (.iload_n 1, 1) := dk_27 (dk_at dksX6_twoOf_0 9 rfl rfl)
theorem dX6_twoOf_10 : decode cX6_twoOf 10 = .ok (.iconst 3, 1) := dk_6 (dk_at dksX6_twoOf_0 10 rfl rfl)
theorem dX6_twoOf_11 : decode cX6_twoOf 11 = .ok (.if_icmp .ne 7, 3) := dk_160 0 7 (dk_at dksX6_twoOf_0 11 rfl rfl)
theorem dX6_twoOf_14 : decode cX6_twoOf 14 = .ok (.iload_n 2, 1) := dk_28 (dk_at dksX6_twoOf_0 14 rfl rfl)
theorem dX6_twoOf_15 : decode cX6_twoOf 15 = .ok (.iload_n 3, 1) := dk_29 (dk_at dksX6_twoOf_0 15 rfl rfl)
theorem dX6_twoOf_16 : decode cX6_twoOf 16 = .ok (.isub, 1) := dk_100 (dk_at dksX6_twoOf_0 16 rfl rfl)
theorem dX6_twoOf_17 : decode cX6_twoOf 17 = .ok (.ireturn, 1) := dk_172 (dk_at dksX6_twoOf_0 17 rfl rfl)
theorem dX6_twoOf_18 : decode cX6_twoOf 18 = .ok (.iload_n 1, 1) := dk_27 (dk_at dksX6_twoOf_0 18 rfl rfl)
theorem dX6_twoOf_19 : decode cX6_twoOf 19 = .ok (.iconst 4, 1) := dk_7 (dk_at dksX6_twoOf_0 19 rfl rfl)
theorem dX6_twoOf_20 : decode cX6_twoOf 20 = .ok (.if_icmp .ne 7, 3) := dk_160 0 7 (dk_at dksX6_twoOf_0 20 rfl rfl)
theorem dX6_twoOf_23 : decode cX6_twoOf 23 = .ok (.iload_n 2, 1) := dk_28 (dk_at dksX6_twoOf_0 23 rfl rfl)
theorem dX6_twoOf_24 : decode cX6_twoOf 24 = .ok (.iload_n 3, 1) := dk_29 (dk_at dksX6_twoOf_1 0 rfl rfl)
theorem dX6_twoOf_25 : decode cX6_twoOf 25 = .ok (.imul, 1) := dk_104 (dk_at dksX6_twoOf_1 1 rfl rfl)
theorem dX6_twoOf_26 : decode cX6_twoOf 26 = .ok (.ireturn, 1) := dk_172 (dk_at dksX6_twoOf_1 2 rfl rfl)
theorem dX6_twoOf_27 : decode cX6_twoOf 27 = .ok (.iload_n 1, 1) := dk_27 (dk_at dksX6_twoOf_1 3 rfl rfl)
theorem dX6_twoOf_28 : decode cX6_twoOf 28 = .ok (.iconst 5, 1) := dk_8 (dk_at dksX6_twoOf_1 4 rfl rfl)
theorem dX6_twoOf_29 : decode cX6_twoOf 29 = .ok (.if_icmp .ne 7, 3) := dk_160 0 7 (dk_at dksX6_twoOf_1 5 rfl rfl)
theorem dX6_twoOf_32 : decode cX6_twoOf 32 = .ok (.iload_n 2, 1) := dk_28 (dk_at dksX6_twoOf_1 8 rfl rfl)
theorem dX6_twoOf_33 : decode cX6_twoOf 33 = .ok (.iload_n 3, 1) := dk_29 (dk_at dksX6_twoOf_1 9 rfl rfl)
theorem dX6_twoOf_34 : decode cX6_twoOf 34 = .ok (.idiv, 1) := dk_108 (dk_at dksX6_twoOf_1 10 rfl rfl)
theorem dX6_twoOf_35 : decode cX6_twoOf 35 = .ok (.ireturn, 1) := dk_172 (dk_at dksX6_twoOf_1 11 rfl rfl)
theorem dX6_twoOf_36 : decode cX6_twoOf 36 = .ok (.iload_n 1, 1) := dk_27 (dk_at dksX6_twoOf_1 12 rfl rfl)
theorem dX6_twoOf_37 : decode cX6_twoOf 37 = .ok (.bipush 6, 2) := dk_16 6 (dk_at dksX6_twoOf_1 13 rfl rfl)
theorem dX6_twoOf_39 : decode cX6_twoOf 39 = .ok (.if_icmp .ne 14, 3) := dk_160 0 14 (dk_at dksX6_twoOf_1 15 rfl rfl)
theorem dX6_twoOf_42 : decode cX6_twoOf 42 = .ok (.iload_n 2, 1) := dk_28 (dk_at dksX6_twoOf_1 18 rfl rfl)
theorem dX6_twoOf_43 : decode cX6_twoOf 43 = .ok (.iload_n 3, 1) := dk_29 (dk_at dksX6_twoOf_1 19 rfl rfl)
theorem dX6_twoOf_44 : decode cX6_twoOf 44 = .ok (.if_icmp .ge 7, 3) := dk_162 0 7 (dk_at dksX6_twoOf_1 20 rfl rfl)
theorem dX6_twoOf_47 : decode cX6_twoOf 47 = .ok (.iconst 1, 1) := dk_4 (dk_at dksX6_twoOf_1 23 rfl rfl)
theorem dX6_twoOf_48 : decode cX6_twoOf 48 = .ok (.goto 4, 3) := dk_167 0 4 (dk_at dksX6_twoOf_2 0 rfl rfl)
theorem dX6_twoOf_51 : decode cX6_twoOf 51 = .ok (.iconst 0, 1) := dk_3 (dk_at dksX6_twoOf_2 3 rfl rfl)
theorem dX6_twoOf_52 : decode cX6_twoOf 52 = .ok (.ireturn, 1) := dk_172 (dk_at dksX6_twoOf_2 4 rfl rfl)
theorem dX6_twoOf_53 : decode cX6_twoOf 53 = .ok (.iload_n 1, 1) := dk_27 (dk_at dksX6_twoOf_2 5 rfl rfl)
theorem dX6_twoOf_54 : decode cX6_twoOf 54 = .ok (.bipush 7, 2) := dk_16 7 (dk_at dksX6_twoOf_2 6 rfl rfl)
theorem dX6_twoOf_56 : decode cX6_twoOf 56 = .ok (.if_icmp .ne 14, 3) := dk_160 0 14 (dk_at dksX6_twoOf_2 8 rfl rfl)
theorem dX6_twoOf_59 : decode cX6_twoOf 59 = .ok (.iload_n 2, 1) := dk_28 (dk_at dksX6_twoOf_2 11 rfl rfl)
theorem dX6_twoOf_60 : decode cX6_twoOf 60 = .ok (.iload_n 3, 1) := dk_29 (dk_at dksX6_twoOf_2 12 rfl rfl)
theorem dX6_twoOf_61 : decode cX6_twoOf 61 = .ok (.if_icmp .ne 7, 3) := dk_160 0 7 (dk_at dksX6_twoOf_2 13 rfl rfl)
theorem dX6_twoOf_64 : decode cX6_twoOf 64 = .ok (.iconst 1, 1) := dk_4 (dk_at dksX6_twoOf_2 16 rfl rfl)
theorem dX6_twoOf_65 : decode cX6_twoOf 65 = .ok (.goto 4, 3) := dk_167 0 4 (dk_at dksX6_twoOf_2 17 rfl rfl)
theorem dX6_twoOf_68 : decode cX6_twoOf 68 = .ok (.iconst 0, 1) := dk_3 (dk_at dksX6_twoOf_2 20 rfl rfl)
theorem dX6_twoOf_69 : decode cX6_twoOf 69 = .ok (.ireturn, 1) := dk_172 (dk_at dksX6_twoOf_2 21 rfl rfl)
theorem dX6_twoOf_70 : decode cX6_twoOf 70 = .ok (.iload_n 1, 1) := dk_27 (dk_at dksX6_twoOf_2 22 rfl rfl)
theorem dX6_twoOf_71 : decode cX6_twoOf 71 = .ok (.bipush 8, 2) := dk_16 8 (dk_at dksX6_twoOf_3 0 rfl rfl)
theorem dX6_twoOf_73 : decode cX6_twoOf 73 = .ok (.if_icmp .ne 14, 3) := dk_160 0 14 (dk_at dksX6_twoOf_3 2 rfl rfl)
theorem dX6_twoOf_76 : decode cX6_twoOf 76 = .ok (.iload_n 2, 1) := dk_28 (dk_at dksX6_twoOf_3 5 rfl rfl)
theorem dX6_twoOf_77 : decode cX6_twoOf 77 = .ok (.iload_n 3, 1) := dk_29 (dk_at dksX6_twoOf_3 6 rfl rfl)
theorem dX6_twoOf_78 : decode cX6_twoOf 78 = .ok (.if_icmp .le 7, 3) := dk_164 0 7 (dk_at dksX6_twoOf_3 7 rfl rfl)
theorem dX6_twoOf_81 : decode cX6_twoOf 81 = .ok (.iconst 1, 1) := dk_4 (dk_at dksX6_twoOf_3 10 rfl rfl)
theorem dX6_twoOf_82 : decode cX6_twoOf 82 = .ok (.goto 4, 3) := dk_167 0 4 (dk_at dksX6_twoOf_3 11 rfl rfl)
theorem dX6_twoOf_85 : decode cX6_twoOf 85 = .ok (.iconst 0, 1) := dk_3 (dk_at dksX6_twoOf_3 14 rfl rfl)
theorem dX6_twoOf_86 : decode cX6_twoOf 86 = .ok (.ireturn, 1) := dk_172 (dk_at dksX6_twoOf_3 15 rfl rfl)
theorem dX6_twoOf_87 : decode cX6_twoOf 87 = .ok (.iload_n 1, 1) := dk_27 (dk_at dksX6_twoOf_3 16 rfl rfl)
theorem dX6_twoOf_88 : decode cX6_twoOf 88 = .ok (.bipush 10, 2) := dk_16 10 (dk_at dksX6_twoOf_3 17 rfl rfl)
theorem dX6_twoOf_90 : decode cX6_twoOf 90 = .ok (.if_icmp .ne 9, 3) := dk_160 0 9 (dk_at dksX6_twoOf_3 19 rfl rfl)
theorem dX6_twoOf_93 : decode cX6_twoOf 93 = .ok (.iload_n 2, 1) := dk_28 (dk_at dksX6_twoOf_3 22 rfl rfl)
theorem dX6_twoOf_94 : decode cX6_twoOf 94 = .ok (.iload_n 3, 1) := dk_29 (dk_at dksX6_twoOf_3 23 rfl rfl)
theorem dX6_twoOf_95 : decode cX6_twoOf 95 = .ok (.imul, 1) := dk_104 (dk_at dksX6_twoOf_4 0 rfl rfl)
theorem dX6_twoOf_96 : decode cX6_twoOf 96 = .ok (.goto 14, 3) := dk_167 0 14 (dk_at dksX6_twoOf_4 1 rfl rfl)
theorem dX6_twoOf_99 : decode cX6_twoOf 99 = .ok (.iload_n 2, 1) := dk_28 (dk_at dksX6_twoOf_4 4 rfl rfl)
theorem dX6_twoOf_100 : decode cX6_twoOf 100 = .ok (.iload_n 3, 1) := dk_29 (dk_at dksX6_twoOf_4 5 rfl rfl)
theorem dX6_twoOf_101 : decode cX6_twoOf 101 = .ok (.iadd, 1) := dk_96 (dk_at dksX6_twoOf_4 6 rfl rfl)
theorem dX6_twoOf_102 : decode cX6_twoOf 102 = .ok (.ifCond .le 7, 3) := dk_158 0 7 (dk_at dksX6_twoOf_4 7 rfl rfl)
theorem dX6_twoOf_105 : decode cX6_twoOf 105 = .ok (.iconst 1, 1) := dk_4 (dk_at dksX6_twoOf_4 10 rfl rfl)
theorem dX6_twoOf_106 : decode cX6_twoOf 106 = .ok (.goto 4, 3) := dk_167 0 4 (dk_at dksX6_twoOf_4 11 rfl rfl)
theorem dX6_twoOf_109 : decode cX6_twoOf 109 = .ok (.iconst 0, 1) := dk_3 (dk_at dksX6_twoOf_4 14 rfl rfl)
theorem dX6_twoOf_110 : decode cX6_twoOf 110 = .ok (.ireturn, 1) := dk_172 (dk_at dksX6_twoOf_4 15 rfl rfl)
abbrev cX6_keepsAhead : ByteArray := prog_22_method_11_code
def yX6_keepsAhead : MethodName := ⟨RX6, "keepsAhead", "()V"⟩
def dkwX6_keepsAhead_4 : List UInt8 := [181, 0, 126, 177]
abbrev dktX6_keepsAhead_4 : List UInt8 := dkwX6_keepsAhead_4 ++ []
def dkwX6_keepsAhead_3 : List UInt8 := [104, 27, 96, 42, 180, 0, 7, 27, 46, 79, 132, 1, 1, 167, 255, 227, 42, 42, 180, 0, 126, 4, 96]
abbrev dktX6_keepsAhead_3 : List UInt8 := dkwX6_keepsAhead_3 ++ dktX6_keepsAhead_4
def dkwX6_keepsAhead_2 : List UInt8 := [132, 1, 1, 167, 255, 227, 3, 60, 27, 16, 121, 162, 0, 29, 42, 180, 0, 13, 16, 121, 42, 180, 0, 126]
abbrev dktX6_keepsAhead_2 : List UInt8 := dkwX6_keepsAhead_2 ++ dktX6_keepsAhead_3
def dkwX6_keepsAhead_1 : List UInt8 := [42, 180, 0, 126, 104, 162, 0, 24, 42, 180, 0, 13, 27, 42, 180, 0, 13, 27, 16, 121, 96, 46, 79]
abbrev dktX6_keepsAhead_1 : List UInt8 := dkwX6_keepsAhead_1 ++ dktX6_keepsAhead_2
def dkwX6_keepsAhead_0 : List UInt8 := [42, 180, 0, 126, 16, 6, 160, 0, 47, 42, 42, 180, 0, 126, 4, 100, 181, 0, 126, 3, 60, 27, 16, 121]
abbrev dktX6_keepsAhead_0 : List UInt8 := dkwX6_keepsAhead_0 ++ dktX6_keepsAhead_1
theorem dksX6_keepsAhead_0 : cX6_keepsAhead.data.toList.drop 0 = dktX6_keepsAhead_0 := by decide +kernel
theorem dksX6_keepsAhead_1 : cX6_keepsAhead.data.toList.drop 24 = dktX6_keepsAhead_1 := dk_seg dksX6_keepsAhead_0 24 rfl rfl
theorem dksX6_keepsAhead_2 : cX6_keepsAhead.data.toList.drop 47 = dktX6_keepsAhead_2 := dk_seg dksX6_keepsAhead_1 23 rfl rfl
theorem dksX6_keepsAhead_3 : cX6_keepsAhead.data.toList.drop 71 = dktX6_keepsAhead_3 := dk_seg dksX6_keepsAhead_2 24 rfl rfl
theorem dksX6_keepsAhead_4 : cX6_keepsAhead.data.toList.drop 94 = dktX6_keepsAhead_4 := dk_seg dksX6_keepsAhead_3 23 rfl rfl
theorem dX6_keepsAhead_0 : decode cX6_keepsAhead 0 = .ok (.aload_n 0, 1) := dk_42 (dk_at dksX6_keepsAhead_0 0 rfl rfl)
theorem dX6_keepsAhead_1 : decode cX6_keepsAhead 1 = .ok (.getfield 126, 3) := dk_180 0 126 (dk_at dksX6_keepsAhead_0 1 rfl rfl)
theorem dX6_keepsAhead_4 : decode cX6_keepsAhead 4 = .ok (.bipush 6, 2) := dk_16 6 (dk_at dksX6_keepsAhead_0 4 rfl rfl)
theorem dX6_keepsAhead_6 : decode cX6_keepsAhead 6 = .ok (.if_icmp .ne 47, 3) := dk_160 0 47 (dk_at dksX6_keepsAhead_0 6 rfl rfl)
theorem dX6_keepsAhead_9 : decode cX6_keepsAhead 9 = .ok (.aload_n 0, 1) := dk_42 (dk_at dksX6_keepsAhead_0 9 rfl rfl)
theorem dX6_keepsAhead_10 : decode cX6_keepsAhead 10 = .ok (.aload_n 0, 1) := dk_42 (dk_at dksX6_keepsAhead_0 10 rfl rfl)
theorem dX6_keepsAhead_11 : decode cX6_keepsAhead 11 = .ok (.getfield 126, 3) := dk_180 0 126 (dk_at dksX6_keepsAhead_0 11 rfl rfl)
theorem dX6_keepsAhead_14 : decode cX6_keepsAhead 14 = .ok (.iconst 1, 1) := dk_4 (dk_at dksX6_keepsAhead_0 14 rfl rfl)
theorem dX6_keepsAhead_15 : decode cX6_keepsAhead 15 = .ok (.isub, 1) := dk_100 (dk_at dksX6_keepsAhead_0 15 rfl rfl)
theorem dX6_keepsAhead_16 : decode cX6_keepsAhead 16 = .ok (.putfield 126, 3) := dk_181 0 126 (dk_at dksX6_keepsAhead_0 16 rfl rfl)
theorem dX6_keepsAhead_19 : decode cX6_keepsAhead 19 = .ok (.iconst 0, 1) := dk_3 (dk_at dksX6_keepsAhead_0 19 rfl rfl)
theorem dX6_keepsAhead_20 : decode cX6_keepsAhead 20 = .ok (.istore_n 1, 1) := dk_60 (dk_at dksX6_keepsAhead_0 20 rfl rfl)
theorem dX6_keepsAhead_21 : decode cX6_keepsAhead 21 = .ok (.iload_n 1, 1) := dk_27 (dk_at dksX6_keepsAhead_0 21 rfl rfl)
theorem dX6_keepsAhead_22 : decode cX6_keepsAhead 22 = .ok (.bipush 121, 2) := dk_16 121 (dk_at dksX6_keepsAhead_0 22 rfl rfl)
theorem dX6_keepsAhead_24 : decode cX6_keepsAhead 24 = .ok (.aload_n 0, 1) := dk_42 (dk_at dksX6_keepsAhead_1 0 rfl rfl)
theorem dX6_keepsAhead_25 : decode cX6_keepsAhead 25 = .ok (.getfield 126, 3) := dk_180 0 126 (dk_at dksX6_keepsAhead_1 1 rfl rfl)
theorem dX6_keepsAhead_28 : decode cX6_keepsAhead 28 = .ok (.imul, 1) := dk_104 (dk_at dksX6_keepsAhead_1 4 rfl rfl)
theorem dX6_keepsAhead_29 : decode cX6_keepsAhead 29 = .ok (.if_icmp .ge 24, 3) := dk_162 0 24 (dk_at dksX6_keepsAhead_1 5 rfl rfl)
theorem dX6_keepsAhead_32 : decode cX6_keepsAhead 32 = .ok (.aload_n 0, 1) := dk_42 (dk_at dksX6_keepsAhead_1 8 rfl rfl)
theorem dX6_keepsAhead_33 : decode cX6_keepsAhead 33 = .ok (.getfield 13, 3) := dk_180 0 13 (dk_at dksX6_keepsAhead_1 9 rfl rfl)
theorem dX6_keepsAhead_36 : decode cX6_keepsAhead 36 = .ok (.iload_n 1, 1) := dk_27 (dk_at dksX6_keepsAhead_1 12 rfl rfl)
theorem dX6_keepsAhead_37 : decode cX6_keepsAhead 37 = .ok (.aload_n 0, 1) := dk_42 (dk_at dksX6_keepsAhead_1 13 rfl rfl)
theorem dX6_keepsAhead_38 : decode cX6_keepsAhead 38 = .ok (.getfield 13, 3) := dk_180 0 13 (dk_at dksX6_keepsAhead_1 14 rfl rfl)
theorem dX6_keepsAhead_41 : decode cX6_keepsAhead 41 = .ok (.iload_n 1, 1) := dk_27 (dk_at dksX6_keepsAhead_1 17 rfl rfl)
theorem dX6_keepsAhead_42 : decode cX6_keepsAhead 42 = .ok (.bipush 121, 2) := dk_16 121 (dk_at dksX6_keepsAhead_1 18 rfl rfl)
theorem dX6_keepsAhead_44 : decode cX6_keepsAhead 44 = .ok (.iadd, 1) := dk_96 (dk_at dksX6_keepsAhead_1 20 rfl rfl)
theorem dX6_keepsAhead_45 : decode cX6_keepsAhead 45 = .ok (.iaload, 1) := dk_46 (dk_at dksX6_keepsAhead_1 21 rfl rfl)
theorem dX6_keepsAhead_46 : decode cX6_keepsAhead 46 = .ok (.iastore, 1) := dk_79 (dk_at dksX6_keepsAhead_1 22 rfl rfl)
theorem dX6_keepsAhead_47 : decode cX6_keepsAhead 47 = .ok (.iinc 1 1, 3) := dk_132 1 1 (dk_at dksX6_keepsAhead_2 0 rfl rfl)
theorem dX6_keepsAhead_50 : decode cX6_keepsAhead 50 = .ok (.goto (-29), 3) := dk_167 255 227 (dk_at dksX6_keepsAhead_2 3 rfl rfl)
theorem dX6_keepsAhead_53 : decode cX6_keepsAhead 53 = .ok (.iconst 0, 1) := dk_3 (dk_at dksX6_keepsAhead_2 6 rfl rfl)
theorem dX6_keepsAhead_54 : decode cX6_keepsAhead 54 = .ok (.istore_n 1, 1) := dk_60 (dk_at dksX6_keepsAhead_2 7 rfl rfl)
theorem dX6_keepsAhead_55 : decode cX6_keepsAhead 55 = .ok (.iload_n 1, 1) := dk_27 (dk_at dksX6_keepsAhead_2 8 rfl rfl)
theorem dX6_keepsAhead_56 : decode cX6_keepsAhead 56 = .ok (.bipush 121, 2) := dk_16 121 (dk_at dksX6_keepsAhead_2 9 rfl rfl)
theorem dX6_keepsAhead_58 : decode cX6_keepsAhead 58 = .ok (.if_icmp .ge 29, 3) := dk_162 0 29 (dk_at dksX6_keepsAhead_2 11 rfl rfl)
theorem dX6_keepsAhead_61 : decode cX6_keepsAhead 61 = .ok (.aload_n 0, 1) := dk_42 (dk_at dksX6_keepsAhead_2 14 rfl rfl)
theorem dX6_keepsAhead_62 : decode cX6_keepsAhead 62 = .ok (.getfield 13, 3) := dk_180 0 13 (dk_at dksX6_keepsAhead_2 15 rfl rfl)
theorem dX6_keepsAhead_65 : decode cX6_keepsAhead 65 = .ok (.bipush 121, 2) := dk_16 121 (dk_at dksX6_keepsAhead_2 18 rfl rfl)
theorem dX6_keepsAhead_67 : decode cX6_keepsAhead 67 = .ok (.aload_n 0, 1) := dk_42 (dk_at dksX6_keepsAhead_2 20 rfl rfl)
theorem dX6_keepsAhead_68 : decode cX6_keepsAhead 68 = .ok (.getfield 126, 3) := dk_180 0 126 (dk_at dksX6_keepsAhead_2 21 rfl rfl)
theorem dX6_keepsAhead_71 : decode cX6_keepsAhead 71 = .ok (.imul, 1) := dk_104 (dk_at dksX6_keepsAhead_3 0 rfl rfl)
theorem dX6_keepsAhead_72 : decode cX6_keepsAhead 72 = .ok (.iload_n 1, 1) := dk_27 (dk_at dksX6_keepsAhead_3 1 rfl rfl)
theorem dX6_keepsAhead_73 : decode cX6_keepsAhead 73 = .ok (.iadd, 1) := dk_96 (dk_at dksX6_keepsAhead_3 2 rfl rfl)
theorem dX6_keepsAhead_74 : decode cX6_keepsAhead 74 = .ok (.aload_n 0, 1) := dk_42 (dk_at dksX6_keepsAhead_3 3 rfl rfl)
theorem dX6_keepsAhead_75 : decode cX6_keepsAhead 75 = .ok (.getfield 7, 3) := dk_180 0 7 (dk_at dksX6_keepsAhead_3 4 rfl rfl)
theorem dX6_keepsAhead_78 : decode cX6_keepsAhead 78 = .ok (.iload_n 1, 1) := dk_27 (dk_at dksX6_keepsAhead_3 7 rfl rfl)
theorem dX6_keepsAhead_79 : decode cX6_keepsAhead 79 = .ok (.iaload, 1) := dk_46 (dk_at dksX6_keepsAhead_3 8 rfl rfl)
theorem dX6_keepsAhead_80 : decode cX6_keepsAhead 80 = .ok (.iastore, 1) := dk_79 (dk_at dksX6_keepsAhead_3 9 rfl rfl)
theorem dX6_keepsAhead_81 : decode cX6_keepsAhead 81 = .ok (.iinc 1 1, 3) := dk_132 1 1 (dk_at dksX6_keepsAhead_3 10 rfl rfl)
theorem dX6_keepsAhead_84 : decode cX6_keepsAhead 84 = .ok (.goto (-29), 3) := dk_167 255 227 (dk_at dksX6_keepsAhead_3 13 rfl rfl)
theorem dX6_keepsAhead_87 : decode cX6_keepsAhead 87 = .ok (.aload_n 0, 1) := dk_42 (dk_at dksX6_keepsAhead_3 16 rfl rfl)
theorem dX6_keepsAhead_88 : decode cX6_keepsAhead 88 = .ok (.aload_n 0, 1) := dk_42 (dk_at dksX6_keepsAhead_3 17 rfl rfl)
theorem dX6_keepsAhead_89 : decode cX6_keepsAhead 89 = .ok (.getfield 126, 3) := dk_180 0 126 (dk_at dksX6_keepsAhead_3 18 rfl rfl)
theorem dX6_keepsAhead_92 : decode cX6_keepsAhead 92 = .ok (.iconst 1, 1) := dk_4 (dk_at dksX6_keepsAhead_3 21 rfl rfl)
theorem dX6_keepsAhead_93 : decode cX6_keepsAhead 93 = .ok (.iadd, 1) := dk_96 (dk_at dksX6_keepsAhead_3 22 rfl rfl)
theorem dX6_keepsAhead_94 : decode cX6_keepsAhead 94 = .ok (.putfield 126, 3) := dk_181 0 126 (dk_at dksX6_keepsAhead_4 0 rfl rfl)
theorem dX6_keepsAhead_97 : decode cX6_keepsAhead 97 = .ok (.return_, 1) := dk_177 (dk_at dksX6_keepsAhead_4 3 rfl rfl)
abbrev cX6_bargains : ByteArray := prog_22_method_80_code
def yX6_bargains : MethodName := ⟨RX6, "bargains", "(IIII)I"⟩
def dkwX6_bargains_8 : List UInt8 := [21, 6, 100, 79, 3, 172]
abbrev dktX6_bargains_8 : List UInt8 := dkwX6_bargains_8 ++ []
def dkwX6_bargains_7 : List UInt8 := [21, 6, 96, 79, 42, 180, 0, 7, 16, 65, 21, 5, 96, 42, 180, 0, 7, 16, 65, 21, 5, 96, 46]
abbrev dktX6_bargains_7 : List UInt8 := dkwX6_bargains_7 ++ dktX6_bargains_8
def dkwX6_bargains_6 : List UInt8 := [154, 0, 6, 21, 7, 172, 42, 180, 0, 7, 16, 65, 27, 96, 42, 180, 0, 7, 16, 65, 27, 96, 46]
abbrev dktX6_bargains_6 : List UInt8 := dkwX6_bargains_6 ++ dktX6_bargains_7
def dkwX6_bargains_5 : List UInt8 := [96, 79, 42, 3, 27, 29, 182, 1, 95, 42, 21, 5, 27, 182, 1, 131, 54, 7, 42, 180, 1, 104]
abbrev dktX6_bargains_5 : List UInt8 := dkwX6_bargains_5 ++ dktX6_bargains_6
def dkwX6_bargains_4 : List UInt8 := [16, 101, 28, 96, 27, 79, 42, 180, 0, 7, 16, 111, 28, 96, 42, 180, 0, 7, 16, 111, 28, 96, 46, 4]
abbrev dktX6_bargains_4 : List UInt8 := dkwX6_bargains_4 ++ dktX6_bargains_5
def dkwX6_bargains_3 : List UInt8 := [16, 65, 21, 5, 96, 42, 180, 0, 7, 16, 65, 21, 5, 96, 46, 21, 6, 96, 79, 42, 180, 0, 7]
abbrev dktX6_bargains_3 : List UInt8 := dkwX6_bargains_3 ++ dktX6_bargains_4
def dkwX6_bargains_2 : List UInt8 := [42, 180, 0, 7, 16, 65, 27, 96, 42, 180, 0, 7, 16, 65, 27, 96, 46, 29, 100, 79, 42, 180, 0, 7]
abbrev dktX6_bargains_2 : List UInt8 := dkwX6_bargains_2 ++ dktX6_bargains_3
def dkwX6_bargains_1 : List UInt8 := [182, 1, 128, 42, 29, 17, 39, 15, 42, 180, 0, 7, 16, 65, 21, 5, 96, 46, 100, 182, 1, 92, 54, 6]
abbrev dktX6_bargains_1 : List UInt8 := dkwX6_bargains_1 ++ dktX6_bargains_2
def dkwX6_bargains_0 : List UInt8 := [42, 180, 0, 7, 16, 101, 28, 96, 46, 54, 5, 42, 21, 4, 29, 28, 182, 1, 122, 42, 21, 5, 27]
abbrev dktX6_bargains_0 : List UInt8 := dkwX6_bargains_0 ++ dktX6_bargains_1
theorem dksX6_bargains_0 : cX6_bargains.data.toList.drop 0 = dktX6_bargains_0 := by decide +kernel
theorem dksX6_bargains_1 : cX6_bargains.data.toList.drop 23 = dktX6_bargains_1 := dk_seg dksX6_bargains_0 23 rfl rfl
theorem dksX6_bargains_2 : cX6_bargains.data.toList.drop 47 = dktX6_bargains_2 := dk_seg dksX6_bargains_1 24 rfl rfl
theorem dksX6_bargains_3 : cX6_bargains.data.toList.drop 71 = dktX6_bargains_3 := dk_seg dksX6_bargains_2 24 rfl rfl
theorem dksX6_bargains_4 : cX6_bargains.data.toList.drop 94 = dktX6_bargains_4 := dk_seg dksX6_bargains_3 23 rfl rfl
theorem dksX6_bargains_5 : cX6_bargains.data.toList.drop 118 = dktX6_bargains_5 := dk_seg dksX6_bargains_4 24 rfl rfl
theorem dksX6_bargains_6 : cX6_bargains.data.toList.drop 140 = dktX6_bargains_6 := dk_seg dksX6_bargains_5 22 rfl rfl
theorem dksX6_bargains_7 : cX6_bargains.data.toList.drop 163 = dktX6_bargains_7 := dk_seg dksX6_bargains_6 23 rfl rfl
theorem dksX6_bargains_8 : cX6_bargains.data.toList.drop 186 = dktX6_bargains_8 := dk_seg dksX6_bargains_7 23 rfl rfl
theorem dX6_bargains_0 : decode cX6_bargains 0 = .ok (.aload_n 0, 1) := dk_42 (dk_at dksX6_bargains_0 0 rfl rfl)
theorem dX6_bargains_1 : decode cX6_bargains 1 = .ok (.getfield 7, 3) := dk_180 0 7 (dk_at dksX6_bargains_0 1 rfl rfl)
theorem dX6_bargains_4 : decode cX6_bargains 4 = .ok (.bipush 101, 2) := dk_16 101 (dk_at dksX6_bargains_0 4 rfl rfl)
theorem dX6_bargains_6 : decode cX6_bargains 6 = .ok (.iload_n 2, 1) := dk_28 (dk_at dksX6_bargains_0 6 rfl rfl)
theorem dX6_bargains_7 : decode cX6_bargains 7 = .ok (.iadd, 1) := dk_96 (dk_at dksX6_bargains_0 7 rfl rfl)
theorem dX6_bargains_8 : decode cX6_bargains 8 = .ok (.iaload, 1) := dk_46 (dk_at dksX6_bargains_0 8 rfl rfl)
theorem dX6_bargains_9 : decode cX6_bargains 9 = .ok (.istore 5, 2) := dk_54 5 (dk_at dksX6_bargains_0 9 rfl rfl)
theorem dX6_bargains_11 : decode cX6_bargains 11 = .ok (.aload_n 0, 1) := dk_42 (dk_at dksX6_bargains_0 11 rfl rfl)
theorem dX6_bargains_12 : decode cX6_bargains 12 = .ok (.iload 4, 2) := dk_21 4 (dk_at dksX6_bargains_0 12 rfl rfl)
theorem dX6_bargains_14 : decode cX6_bargains 14 = .ok (.iload_n 3, 1) := dk_29 (dk_at dksX6_bargains_0 14 rfl rfl)
theorem dX6_bargains_15 : decode cX6_bargains 15 = .ok (.iload_n 2, 1) := dk_28 (dk_at dksX6_bargains_0 15 rfl rfl)
theorem dX6_bargains_16 : decode cX6_bargains 16 = .ok (.invokevirtual 378, 3) := dk_182 1 122 (dk_at dksX6_bargains_0 16 rfl rfl)
theorem dX6_bargains_19 : decode cX6_bargains 19 = .ok (.aload_n 0, 1) := dk_42 (dk_at dksX6_bargains_0 19 rfl rfl)
theorem dX6_bargains_20 : decode cX6_bargains 20 = .ok (.iload 5, 2) := dk_21 5 (dk_at dksX6_bargains_0 20 rfl rfl)
theorem dX6_bargains_22 : decode cX6_bargains 22 = .ok (.iload_n 1, 1) := dk_27 (dk_at dksX6_bargains_0 22 rfl rfl)
theorem dX6_bargains_23 : decode cX6_bargains 23 = .ok (.invokevirtual 384, 3) := dk_182 1 128 (dk_at dksX6_bargains_1 0 rfl rfl)
theorem dX6_bargains_26 : decode cX6_bargains 26 = .ok (.aload_n 0, 1) := dk_42 (dk_at dksX6_bargains_1 3 rfl rfl)
theorem dX6_bargains_27 : decode cX6_bargains 27 = .ok (.iload_n 3, 1) := dk_29 (dk_at dksX6_bargains_1 4 rfl rfl)
theorem dX6_bargains_28 : decode cX6_bargains 28 = .ok (.sipush 9999, 3) := dk_17 39 15 (dk_at dksX6_bargains_1 5 rfl rfl)
theorem dX6_bargains_31 : decode cX6_bargains 31 = .ok (.aload_n 0, 1) := dk_42 (dk_at dksX6_bargains_1 8 rfl rfl)
theorem dX6_bargains_32 : decode cX6_bargains 32 = .ok (.getfield 7, 3) := dk_180 0 7 (dk_at dksX6_bargains_1 9 rfl rfl)
theorem dX6_bargains_35 : decode cX6_bargains 35 = .ok (.bipush 65, 2) := dk_16 65 (dk_at dksX6_bargains_1 12 rfl rfl)
theorem dX6_bargains_37 : decode cX6_bargains 37 = .ok (.iload 5, 2) := dk_21 5 (dk_at dksX6_bargains_1 14 rfl rfl)
theorem dX6_bargains_39 : decode cX6_bargains 39 = .ok (.iadd, 1) := dk_96 (dk_at dksX6_bargains_1 16 rfl rfl)
theorem dX6_bargains_40 : decode cX6_bargains 40 = .ok (.iaload, 1) := dk_46 (dk_at dksX6_bargains_1 17 rfl rfl)
theorem dX6_bargains_41 : decode cX6_bargains 41 = .ok (.isub, 1) := dk_100 (dk_at dksX6_bargains_1 18 rfl rfl)
theorem dX6_bargains_42 : decode cX6_bargains 42 = .ok (.invokevirtual 348, 3) := dk_182 1 92 (dk_at dksX6_bargains_1 19 rfl rfl)
theorem dX6_bargains_45 : decode cX6_bargains 45 = .ok (.istore 6, 2) := dk_54 6 (dk_at dksX6_bargains_1 22 rfl rfl)
theorem dX6_bargains_47 : decode cX6_bargains 47 = .ok (.aload_n 0, 1) := dk_42 (dk_at dksX6_bargains_2 0 rfl rfl)
theorem dX6_bargains_48 : decode cX6_bargains 48 = .ok (.getfield 7, 3) := dk_180 0 7 (dk_at dksX6_bargains_2 1 rfl rfl)
theorem dX6_bargains_51 : decode cX6_bargains 51 = .ok (.bipush 65, 2) := dk_16 65 (dk_at dksX6_bargains_2 4 rfl rfl)
theorem dX6_bargains_53 : decode cX6_bargains 53 = .ok (.iload_n 1, 1) := dk_27 (dk_at dksX6_bargains_2 6 rfl rfl)
theorem dX6_bargains_54 : decode cX6_bargains 54 = .ok (.iadd, 1) := dk_96 (dk_at dksX6_bargains_2 7 rfl rfl)
theorem dX6_bargains_55 : decode cX6_bargains 55 = .ok (.aload_n 0, 1) := dk_42 (dk_at dksX6_bargains_2 8 rfl rfl)
theorem dX6_bargains_56 : decode cX6_bargains 56 = .ok (.getfield 7, 3) := dk_180 0 7 (dk_at dksX6_bargains_2 9 rfl rfl)
theorem dX6_bargains_59 : decode cX6_bargains 59 = .ok (.bipush 65, 2) := dk_16 65 (dk_at dksX6_bargains_2 12 rfl rfl)
theorem dX6_bargains_61 : decode cX6_bargains 61 = .ok (.iload_n 1, 1) := dk_27 (dk_at dksX6_bargains_2 14 rfl rfl)
theorem dX6_bargains_62 : decode cX6_bargains 62 = .ok (.iadd, 1) := dk_96 (dk_at dksX6_bargains_2 15 rfl rfl)
theorem dX6_bargains_63 : decode cX6_bargains 63 = .ok (.iaload, 1) := dk_46 (dk_at dksX6_bargains_2 16 rfl rfl)
theorem dX6_bargains_64 : decode cX6_bargains 64 = .ok (.iload_n 3, 1) := dk_29 (dk_at dksX6_bargains_2 17 rfl rfl)
theorem dX6_bargains_65 : decode cX6_bargains 65 = .ok (.isub, 1) := dk_100 (dk_at dksX6_bargains_2 18 rfl rfl)
theorem dX6_bargains_66 : decode cX6_bargains 66 = .ok (.iastore, 1) := dk_79 (dk_at dksX6_bargains_2 19 rfl rfl)
theorem dX6_bargains_67 : decode cX6_bargains 67 = .ok (.aload_n 0, 1) := dk_42 (dk_at dksX6_bargains_2 20 rfl rfl)
theorem dX6_bargains_68 : decode cX6_bargains 68 = .ok (.getfield 7, 3) := dk_180 0 7 (dk_at dksX6_bargains_2 21 rfl rfl)
theorem dX6_bargains_71 : decode cX6_bargains 71 = .ok (.bipush 65, 2) := dk_16 65 (dk_at dksX6_bargains_3 0 rfl rfl)
theorem dX6_bargains_73 : decode cX6_bargains 73 = .ok (.iload 5, 2) := dk_21 5 (dk_at dksX6_bargains_3 2 rfl rfl)
theorem dX6_bargains_75 : decode cX6_bargains 75 = .ok (.iadd, 1) := dk_96 (dk_at dksX6_bargains_3 4 rfl rfl)
theorem dX6_bargains_76 : decode cX6_bargains 76 = .ok (.aload_n 0, 1) := dk_42 (dk_at dksX6_bargains_3 5 rfl rfl)
theorem dX6_bargains_77 : decode cX6_bargains 77 = .ok (.getfield 7, 3) := dk_180 0 7 (dk_at dksX6_bargains_3 6 rfl rfl)
theorem dX6_bargains_80 : decode cX6_bargains 80 = .ok (.bipush 65, 2) := dk_16 65 (dk_at dksX6_bargains_3 9 rfl rfl)
theorem dX6_bargains_82 : decode cX6_bargains 82 = .ok (.iload 5, 2) := dk_21 5 (dk_at dksX6_bargains_3 11 rfl rfl)
theorem dX6_bargains_84 : decode cX6_bargains 84 = .ok (.iadd, 1) := dk_96 (dk_at dksX6_bargains_3 13 rfl rfl)
theorem dX6_bargains_85 : decode cX6_bargains 85 = .ok (.iaload, 1) := dk_46 (dk_at dksX6_bargains_3 14 rfl rfl)
theorem dX6_bargains_86 : decode cX6_bargains 86 = .ok (.iload 6, 2) := dk_21 6 (dk_at dksX6_bargains_3 15 rfl rfl)
theorem dX6_bargains_88 : decode cX6_bargains 88 = .ok (.iadd, 1) := dk_96 (dk_at dksX6_bargains_3 17 rfl rfl)
theorem dX6_bargains_89 : decode cX6_bargains 89 = .ok (.iastore, 1) := dk_79 (dk_at dksX6_bargains_3 18 rfl rfl)
theorem dX6_bargains_90 : decode cX6_bargains 90 = .ok (.aload_n 0, 1) := dk_42 (dk_at dksX6_bargains_3 19 rfl rfl)
theorem dX6_bargains_91 : decode cX6_bargains 91 = .ok (.getfield 7, 3) := dk_180 0 7 (dk_at dksX6_bargains_3 20 rfl rfl)
theorem dX6_bargains_94 : decode cX6_bargains 94 = .ok (.bipush 101, 2) := dk_16 101 (dk_at dksX6_bargains_4 0 rfl rfl)
theorem dX6_bargains_96 : decode cX6_bargains 96 = .ok (.iload_n 2, 1) := dk_28 (dk_at dksX6_bargains_4 2 rfl rfl)
theorem dX6_bargains_97 : decode cX6_bargains 97 = .ok (.iadd, 1) := dk_96 (dk_at dksX6_bargains_4 3 rfl rfl)
theorem dX6_bargains_98 : decode cX6_bargains 98 = .ok (.iload_n 1, 1) := dk_27 (dk_at dksX6_bargains_4 4 rfl rfl)
theorem dX6_bargains_99 : decode cX6_bargains 99 = .ok (.iastore, 1) := dk_79 (dk_at dksX6_bargains_4 5 rfl rfl)
theorem dX6_bargains_100 : decode cX6_bargains 100 = .ok (.aload_n 0, 1) := dk_42 (dk_at dksX6_bargains_4 6 rfl rfl)
theorem dX6_bargains_101 : decode cX6_bargains 101 = .ok (.getfield 7, 3) := dk_180 0 7 (dk_at dksX6_bargains_4 7 rfl rfl)
theorem dX6_bargains_104 : decode cX6_bargains 104 = .ok (.bipush 111, 2) := dk_16 111 (dk_at dksX6_bargains_4 10 rfl rfl)
theorem dX6_bargains_106 : decode cX6_bargains 106 = .ok (.iload_n 2, 1) := dk_28 (dk_at dksX6_bargains_4 12 rfl rfl)
theorem dX6_bargains_107 : decode cX6_bargains 107 = .ok (.iadd, 1) := dk_96 (dk_at dksX6_bargains_4 13 rfl rfl)
theorem dX6_bargains_108 : decode cX6_bargains 108 = .ok (.aload_n 0, 1) := dk_42 (dk_at dksX6_bargains_4 14 rfl rfl)
theorem dX6_bargains_109 : decode cX6_bargains 109 = .ok (.getfield 7, 3) := dk_180 0 7 (dk_at dksX6_bargains_4 15 rfl rfl)
theorem dX6_bargains_112 : decode cX6_bargains 112 = .ok (.bipush 111, 2) := dk_16 111 (dk_at dksX6_bargains_4 18 rfl rfl)
theorem dX6_bargains_114 : decode cX6_bargains 114 = .ok (.iload_n 2, 1) := dk_28 (dk_at dksX6_bargains_4 20 rfl rfl)
theorem dX6_bargains_115 : decode cX6_bargains 115 = .ok (.iadd, 1) := dk_96 (dk_at dksX6_bargains_4 21 rfl rfl)
theorem dX6_bargains_116 : decode cX6_bargains 116 = .ok (.iaload, 1) := dk_46 (dk_at dksX6_bargains_4 22 rfl rfl)
theorem dX6_bargains_117 : decode cX6_bargains 117 = .ok (.iconst 1, 1) := dk_4 (dk_at dksX6_bargains_4 23 rfl rfl)
theorem dX6_bargains_118 : decode cX6_bargains 118 = .ok (.iadd, 1) := dk_96 (dk_at dksX6_bargains_5 0 rfl rfl)
theorem dX6_bargains_119 : decode cX6_bargains 119 = .ok (.iastore, 1) := dk_79 (dk_at dksX6_bargains_5 1 rfl rfl)
theorem dX6_bargains_120 : decode cX6_bargains 120 = .ok (.aload_n 0, 1) := dk_42 (dk_at dksX6_bargains_5 2 rfl rfl)
theorem dX6_bargains_121 : decode cX6_bargains 121 = .ok (.iconst 0, 1) := dk_3 (dk_at dksX6_bargains_5 3 rfl rfl)
theorem dX6_bargains_122 : decode cX6_bargains 122 = .ok (.iload_n 1, 1) := dk_27 (dk_at dksX6_bargains_5 4 rfl rfl)
theorem dX6_bargains_123 : decode cX6_bargains 123 = .ok (.iload_n 3, 1) := dk_29 (dk_at dksX6_bargains_5 5 rfl rfl)
theorem dX6_bargains_124 : decode cX6_bargains 124 = .ok (.invokevirtual 351, 3) := dk_182 1 95 (dk_at dksX6_bargains_5 6 rfl rfl)
theorem dX6_bargains_127 : decode cX6_bargains 127 = .ok (.aload_n 0, 1) := dk_42 (dk_at dksX6_bargains_5 9 rfl rfl)
theorem dX6_bargains_128 : decode cX6_bargains 128 = .ok (.iload 5, 2) := dk_21 5 (dk_at dksX6_bargains_5 10 rfl rfl)
theorem dX6_bargains_130 : decode cX6_bargains 130 = .ok (.iload_n 1, 1) := dk_27 (dk_at dksX6_bargains_5 12 rfl rfl)
theorem dX6_bargains_131 : decode cX6_bargains 131 = .ok (.invokevirtual 387, 3) := dk_182 1 131 (dk_at dksX6_bargains_5 13 rfl rfl)
theorem dX6_bargains_134 : decode cX6_bargains 134 = .ok (.istore 7, 2) := dk_54 7 (dk_at dksX6_bargains_5 16 rfl rfl)
theorem dX6_bargains_136 : decode cX6_bargains 136 = .ok (.aload_n 0, 1) := dk_42 (dk_at dksX6_bargains_5 18 rfl rfl)
theorem dX6_bargains_137 : decode cX6_bargains 137 = .ok (.getfield 360, 3) := dk_180 1 104 (dk_at dksX6_bargains_5 19 rfl rfl)
theorem dX6_bargains_140 : decode cX6_bargains 140 = .ok (.ifCond .ne 6, 3) := dk_154 0 6 (dk_at dksX6_bargains_6 0 rfl rfl)
theorem dX6_bargains_143 : decode cX6_bargains 143 = .ok (.iload 7, 2) := dk_21 7 (dk_at dksX6_bargains_6 3 rfl rfl)
theorem dX6_bargains_145 : decode cX6_bargains 145 = .ok (.ireturn, 1) := dk_172 (dk_at dksX6_bargains_6 5 rfl rfl)
theorem dX6_bargains_146 : decode cX6_bargains 146 = .ok (.aload_n 0, 1) := dk_42 (dk_at dksX6_bargains_6 6 rfl rfl)
theorem dX6_bargains_147 : decode cX6_bargains 147 = .ok (.getfield 7, 3) := dk_180 0 7 (dk_at dksX6_bargains_6 7 rfl rfl)
theorem dX6_bargains_150 : decode cX6_bargains 150 = .ok (.bipush 65, 2) := dk_16 65 (dk_at dksX6_bargains_6 10 rfl rfl)
theorem dX6_bargains_152 : decode cX6_bargains 152 = .ok (.iload_n 1, 1) := dk_27 (dk_at dksX6_bargains_6 12 rfl rfl)
theorem dX6_bargains_153 : decode cX6_bargains 153 = .ok (.iadd, 1) := dk_96 (dk_at dksX6_bargains_6 13 rfl rfl)
theorem dX6_bargains_154 : decode cX6_bargains 154 = .ok (.aload_n 0, 1) := dk_42 (dk_at dksX6_bargains_6 14 rfl rfl)
theorem dX6_bargains_155 : decode cX6_bargains 155 = .ok (.getfield 7, 3) := dk_180 0 7 (dk_at dksX6_bargains_6 15 rfl rfl)
theorem dX6_bargains_158 : decode cX6_bargains 158 = .ok (.bipush 65, 2) := dk_16 65 (dk_at dksX6_bargains_6 18 rfl rfl)
theorem dX6_bargains_160 : decode cX6_bargains 160 = .ok (.iload_n 1, 1) := dk_27 (dk_at dksX6_bargains_6 20 rfl rfl)
theorem dX6_bargains_161 : decode cX6_bargains 161 = .ok (.iadd, 1) := dk_96 (dk_at dksX6_bargains_6 21 rfl rfl)
theorem dX6_bargains_162 : decode cX6_bargains 162 = .ok (.iaload, 1) := dk_46 (dk_at dksX6_bargains_6 22 rfl rfl)
theorem dX6_bargains_163 : decode cX6_bargains 163 = .ok (.iload 6, 2) := dk_21 6 (dk_at dksX6_bargains_7 0 rfl rfl)
theorem dX6_bargains_165 : decode cX6_bargains 165 = .ok (.iadd, 1) := dk_96 (dk_at dksX6_bargains_7 2 rfl rfl)
theorem dX6_bargains_166 : decode cX6_bargains 166 = .ok (.iastore, 1) := dk_79 (dk_at dksX6_bargains_7 3 rfl rfl)
theorem dX6_bargains_167 : decode cX6_bargains 167 = .ok (.aload_n 0, 1) := dk_42 (dk_at dksX6_bargains_7 4 rfl rfl)
theorem dX6_bargains_168 : decode cX6_bargains 168 = .ok (.getfield 7, 3) := dk_180 0 7 (dk_at dksX6_bargains_7 5 rfl rfl)
theorem dX6_bargains_171 : decode cX6_bargains 171 = .ok (.bipush 65, 2) := dk_16 65 (dk_at dksX6_bargains_7 8 rfl rfl)
theorem dX6_bargains_173 : decode cX6_bargains 173 = .ok (.iload 5, 2) := dk_21 5 (dk_at dksX6_bargains_7 10 rfl rfl)
theorem dX6_bargains_175 : decode cX6_bargains 175 = .ok (.iadd, 1) := dk_96 (dk_at dksX6_bargains_7 12 rfl rfl)
theorem dX6_bargains_176 : decode cX6_bargains 176 = .ok (.aload_n 0, 1) := dk_42 (dk_at dksX6_bargains_7 13 rfl rfl)
theorem dX6_bargains_177 : decode cX6_bargains 177 = .ok (.getfield 7, 3) := dk_180 0 7 (dk_at dksX6_bargains_7 14 rfl rfl)
theorem dX6_bargains_180 : decode cX6_bargains 180 = .ok (.bipush 65, 2) := dk_16 65 (dk_at dksX6_bargains_7 17 rfl rfl)
theorem dX6_bargains_182 : decode cX6_bargains 182 = .ok (.iload 5, 2) := dk_21 5 (dk_at dksX6_bargains_7 19 rfl rfl)
theorem dX6_bargains_184 : decode cX6_bargains 184 = .ok (.iadd, 1) := dk_96 (dk_at dksX6_bargains_7 21 rfl rfl)
theorem dX6_bargains_185 : decode cX6_bargains 185 = .ok (.iaload, 1) := dk_46 (dk_at dksX6_bargains_7 22 rfl rfl)
theorem dX6_bargains_186 : decode cX6_bargains 186 = .ok (.iload 6, 2) := dk_21 6 (dk_at dksX6_bargains_8 0 rfl rfl)
theorem dX6_bargains_188 : decode cX6_bargains 188 = .ok (.isub, 1) := dk_100 (dk_at dksX6_bargains_8 2 rfl rfl)
theorem dX6_bargains_189 : decode cX6_bargains 189 = .ok (.iastore, 1) := dk_79 (dk_at dksX6_bargains_8 3 rfl rfl)
theorem dX6_bargains_190 : decode cX6_bargains 190 = .ok (.iconst 0, 1) := dk_3 (dk_at dksX6_bargains_8 4 rfl rfl)
theorem dX6_bargains_191 : decode cX6_bargains 191 = .ok (.ireturn, 1) := dk_172 (dk_at dksX6_bargains_8 5 rfl rfl)
abbrev cX6_shake : ByteArray := prog_22_method_77_code
def yX6_shake : MethodName := ⟨RX6, "shake", "(II)V"⟩
def dkwX6_shake_1 : List UInt8 := [16, 89, 28, 96, 42, 180, 0, 7, 16, 89, 28, 96, 46, 4, 96, 79, 177]
abbrev dktX6_shake_1 : List UInt8 := dkwX6_shake_1 ++ []
def dkwX6_shake_0 : List UInt8 := [42, 180, 0, 7, 16, 89, 27, 96, 42, 180, 0, 7, 16, 89, 27, 96, 46, 4, 96, 79, 42, 180, 0, 7]
abbrev dktX6_shake_0 : List UInt8 := dkwX6_shake_0 ++ dktX6_shake_1
theorem dksX6_shake_0 : cX6_shake.data.toList.drop 0 = dktX6_shake_0 := by decide +kernel
theorem dksX6_shake_1 : cX6_shake.data.toList.drop 24 = dktX6_shake_1 := dk_seg dksX6_shake_0 24 rfl rfl
theorem dX6_shake_0 : decode cX6_shake 0 = .ok (.aload_n 0, 1) := dk_42 (dk_at dksX6_shake_0 0 rfl rfl)
theorem dX6_shake_1 : decode cX6_shake 1 = .ok (.getfield 7, 3) := dk_180 0 7 (dk_at dksX6_shake_0 1 rfl rfl)
theorem dX6_shake_4 : decode cX6_shake 4 = .ok (.bipush 89, 2) := dk_16 89 (dk_at dksX6_shake_0 4 rfl rfl)
theorem dX6_shake_6 : decode cX6_shake 6 = .ok (.iload_n 1, 1) := dk_27 (dk_at dksX6_shake_0 6 rfl rfl)
theorem dX6_shake_7 : decode cX6_shake 7 = .ok (.iadd, 1) := dk_96 (dk_at dksX6_shake_0 7 rfl rfl)
theorem dX6_shake_8 : decode cX6_shake 8 = .ok (.aload_n 0, 1) := dk_42 (dk_at dksX6_shake_0 8 rfl rfl)
theorem dX6_shake_9 : decode cX6_shake 9 = .ok (.getfield 7, 3) := dk_180 0 7 (dk_at dksX6_shake_0 9 rfl rfl)
theorem dX6_shake_12 : decode cX6_shake 12 = .ok (.bipush 89, 2) := dk_16 89 (dk_at dksX6_shake_0 12 rfl rfl)
theorem dX6_shake_14 : decode cX6_shake 14 = .ok (.iload_n 1, 1) := dk_27 (dk_at dksX6_shake_0 14 rfl rfl)
theorem dX6_shake_15 : decode cX6_shake 15 = .ok (.iadd, 1) := dk_96 (dk_at dksX6_shake_0 15 rfl rfl)
theorem dX6_shake_16 : decode cX6_shake 16 = .ok (.iaload, 1) := dk_46 (dk_at dksX6_shake_0 16 rfl rfl)
theorem dX6_shake_17 : decode cX6_shake 17 = .ok (.iconst 1, 1) := dk_4 (dk_at dksX6_shake_0 17 rfl rfl)
theorem dX6_shake_18 : decode cX6_shake 18 = .ok (.iadd, 1) := dk_96 (dk_at dksX6_shake_0 18 rfl rfl)
theorem dX6_shake_19 : decode cX6_shake 19 = .ok (.iastore, 1) := dk_79 (dk_at dksX6_shake_0 19 rfl rfl)
theorem dX6_shake_20 : decode cX6_shake 20 = .ok (.aload_n 0, 1) := dk_42 (dk_at dksX6_shake_0 20 rfl rfl)
theorem dX6_shake_21 : decode cX6_shake 21 = .ok (.getfield 7, 3) := dk_180 0 7 (dk_at dksX6_shake_0 21 rfl rfl)
theorem dX6_shake_24 : decode cX6_shake 24 = .ok (.bipush 89, 2) := dk_16 89 (dk_at dksX6_shake_1 0 rfl rfl)
theorem dX6_shake_26 : decode cX6_shake 26 = .ok (.iload_n 2, 1) := dk_28 (dk_at dksX6_shake_1 2 rfl rfl)
theorem dX6_shake_27 : decode cX6_shake 27 = .ok (.iadd, 1) := dk_96 (dk_at dksX6_shake_1 3 rfl rfl)
theorem dX6_shake_28 : decode cX6_shake 28 = .ok (.aload_n 0, 1) := dk_42 (dk_at dksX6_shake_1 4 rfl rfl)
theorem dX6_shake_29 : decode cX6_shake 29 = .ok (.getfield 7, 3) := dk_180 0 7 (dk_at dksX6_shake_1 5 rfl rfl)
theorem dX6_shake_32 : decode cX6_shake 32 = .ok (.bipush 89, 2) := dk_16 89 (dk_at dksX6_shake_1 8 rfl rfl)
theorem dX6_shake_34 : decode cX6_shake 34 = .ok (.iload_n 2, 1) := dk_28 (dk_at dksX6_shake_1 10 rfl rfl)
theorem dX6_shake_35 : decode cX6_shake 35 = .ok (.iadd, 1) := dk_96 (dk_at dksX6_shake_1 11 rfl rfl)
theorem dX6_shake_36 : decode cX6_shake 36 = .ok (.iaload, 1) := dk_46 (dk_at dksX6_shake_1 12 rfl rfl)
theorem dX6_shake_37 : decode cX6_shake 37 = .ok (.iconst 1, 1) := dk_4 (dk_at dksX6_shake_1 13 rfl rfl)
theorem dX6_shake_38 : decode cX6_shake 38 = .ok (.iadd, 1) := dk_96 (dk_at dksX6_shake_1 14 rfl rfl)
theorem dX6_shake_39 : decode cX6_shake 39 = .ok (.iastore, 1) := dk_79 (dk_at dksX6_shake_1 15 rfl rfl)
theorem dX6_shake_40 : decode cX6_shake 40 = .ok (.return_, 1) := dk_177 (dk_at dksX6_shake_1 16 rfl rfl)
abbrev cX6_lesser : ByteArray := prog_22_method_6_code
def yX6_lesser : MethodName := ⟨RX6, "lesser", "(II)I"⟩
def dkwX6_lesser_0 : List UInt8 := [27, 28, 162, 0, 7, 27, 167, 0, 4, 28, 172]
abbrev dktX6_lesser_0 : List UInt8 := dkwX6_lesser_0 ++ []
theorem dksX6_lesser_0 : cX6_lesser.data.toList.drop 0 = dktX6_lesser_0 := by decide +kernel
theorem dX6_lesser_0 : decode cX6_lesser 0 = .ok (.iload_n 1, 1) := dk_27 (dk_at dksX6_lesser_0 0 rfl rfl)
theorem dX6_lesser_1 : decode cX6_lesser 1 = .ok (.iload_n 2, 1) := dk_28 (dk_at dksX6_lesser_0 1 rfl rfl)
theorem dX6_lesser_2 : decode cX6_lesser 2 = .ok (.if_icmp .ge 7, 3) := dk_162 0 7 (dk_at dksX6_lesser_0 2 rfl rfl)
theorem dX6_lesser_5 : decode cX6_lesser 5 = .ok (.iload_n 1, 1) := dk_27 (dk_at dksX6_lesser_0 5 rfl rfl)
theorem dX6_lesser_6 : decode cX6_lesser 6 = .ok (.goto 4, 3) := dk_167 0 4 (dk_at dksX6_lesser_0 6 rfl rfl)
theorem dX6_lesser_9 : decode cX6_lesser 9 = .ok (.iload_n 2, 1) := dk_28 (dk_at dksX6_lesser_0 9 rfl rfl)
theorem dX6_lesser_10 : decode cX6_lesser 10 = .ok (.ireturn, 1) := dk_172 (dk_at dksX6_lesser_0 10 rfl rfl)
abbrev cX6_notes : ByteArray := prog_22_method_71_code
def yX6_notes : MethodName := ⟨RX6, "notes", "(III)V"⟩
def dkwX6_notes_3 : List UInt8 := [21, 4, 6, 96, 29, 79, 42, 180, 0, 7, 5, 42, 180, 0, 7, 5, 46, 4, 96, 79, 177]
abbrev dktX6_notes_3 : List UInt8 := dkwX6_notes_3 ++ []
def dkwX6_notes_2 : List UInt8 := [180, 0, 25, 21, 4, 4, 96, 27, 79, 42, 180, 0, 25, 21, 4, 5, 96, 28, 79, 42, 180, 0, 25]
abbrev dktX6_notes_2 : List UInt8 := dkwX6_notes_2 ++ dktX6_notes_3
def dkwX6_notes_1 : List UInt8 := [180, 0, 7, 5, 46, 104, 54, 4, 42, 180, 0, 25, 21, 4, 42, 180, 0, 7, 3, 46, 79, 42]
abbrev dktX6_notes_1 : List UInt8 := dkwX6_notes_1 ++ dktX6_notes_2
def dkwX6_notes_0 : List UInt8 := [42, 180, 0, 129, 154, 0, 15, 42, 180, 0, 7, 5, 46, 17, 0, 150, 160, 0, 4, 177, 7, 42]
abbrev dktX6_notes_0 : List UInt8 := dkwX6_notes_0 ++ dktX6_notes_1
theorem dksX6_notes_0 : cX6_notes.data.toList.drop 0 = dktX6_notes_0 := by decide +kernel
theorem dksX6_notes_1 : cX6_notes.data.toList.drop 22 = dktX6_notes_1 := dk_seg dksX6_notes_0 22 rfl rfl
theorem dksX6_notes_2 : cX6_notes.data.toList.drop 44 = dktX6_notes_2 := dk_seg dksX6_notes_1 22 rfl rfl
theorem dksX6_notes_3 : cX6_notes.data.toList.drop 67 = dktX6_notes_3 := dk_seg dksX6_notes_2 23 rfl rfl
theorem dX6_notes_0 : decode cX6_notes 0 = .ok (.aload_n 0, 1) := dk_42 (dk_at dksX6_notes_0 0 rfl rfl)
theorem dX6_notes_1 : decode cX6_notes 1 = .ok (.getfield 129, 3) := dk_180 0 129 (dk_at dksX6_notes_0 1 rfl rfl)
theorem dX6_notes_4 : decode cX6_notes 4 = .ok (.ifCond .ne 15, 3) := dk_154 0 15 (dk_at dksX6_notes_0 4 rfl rfl)
theorem dX6_notes_7 : decode cX6_notes 7 = .ok (.aload_n 0, 1) := dk_42 (dk_at dksX6_notes_0 7 rfl rfl)
theorem dX6_notes_8 : decode cX6_notes 8 = .ok (.getfield 7, 3) := dk_180 0 7 (dk_at dksX6_notes_0 8 rfl rfl)
theorem dX6_notes_11 : decode cX6_notes 11 = .ok (.iconst 2, 1) := dk_5 (dk_at dksX6_notes_0 11 rfl rfl)
theorem dX6_notes_12 : decode cX6_notes 12 = .ok (.iaload, 1) := dk_46 (dk_at dksX6_notes_0 12 rfl rfl)
theorem dX6_notes_13 : decode cX6_notes 13 = .ok (.sipush 150, 3) := dk_17 0 150 (dk_at dksX6_notes_0 13 rfl rfl)
theorem dX6_notes_16 : decode cX6_notes 16 = .ok (.if_icmp .ne 4, 3) := dk_160 0 4 (dk_at dksX6_notes_0 16 rfl rfl)
theorem dX6_notes_19 : decode cX6_notes 19 = .ok (.return_, 1) := dk_177 (dk_at dksX6_notes_0 19 rfl rfl)
theorem dX6_notes_20 : decode cX6_notes 20 = .ok (.iconst 4, 1) := dk_7 (dk_at dksX6_notes_0 20 rfl rfl)
theorem dX6_notes_21 : decode cX6_notes 21 = .ok (.aload_n 0, 1) := dk_42 (dk_at dksX6_notes_0 21 rfl rfl)
theorem dX6_notes_22 : decode cX6_notes 22 = .ok (.getfield 7, 3) := dk_180 0 7 (dk_at dksX6_notes_1 0 rfl rfl)
theorem dX6_notes_25 : decode cX6_notes 25 = .ok (.iconst 2, 1) := dk_5 (dk_at dksX6_notes_1 3 rfl rfl)
theorem dX6_notes_26 : decode cX6_notes 26 = .ok (.iaload, 1) := dk_46 (dk_at dksX6_notes_1 4 rfl rfl)
theorem dX6_notes_27 : decode cX6_notes 27 = .ok (.imul, 1) := dk_104 (dk_at dksX6_notes_1 5 rfl rfl)
theorem dX6_notes_28 : decode cX6_notes 28 = .ok (.istore 4, 2) := dk_54 4 (dk_at dksX6_notes_1 6 rfl rfl)
theorem dX6_notes_30 : decode cX6_notes 30 = .ok (.aload_n 0, 1) := dk_42 (dk_at dksX6_notes_1 8 rfl rfl)
theorem dX6_notes_31 : decode cX6_notes 31 = .ok (.getfield 25, 3) := dk_180 0 25 (dk_at dksX6_notes_1 9 rfl rfl)
theorem dX6_notes_34 : decode cX6_notes 34 = .ok (.iload 4, 2) := dk_21 4 (dk_at dksX6_notes_1 12 rfl rfl)
theorem dX6_notes_36 : decode cX6_notes 36 = .ok (.aload_n 0, 1) := dk_42 (dk_at dksX6_notes_1 14 rfl rfl)
theorem dX6_notes_37 : decode cX6_notes 37 = .ok (.getfield 7, 3) := dk_180 0 7 (dk_at dksX6_notes_1 15 rfl rfl)
theorem dX6_notes_40 : decode cX6_notes 40 = .ok (.iconst 0, 1) := dk_3 (dk_at dksX6_notes_1 18 rfl rfl)
theorem dX6_notes_41 : decode cX6_notes 41 = .ok (.iaload, 1) := dk_46 (dk_at dksX6_notes_1 19 rfl rfl)
theorem dX6_notes_42 : decode cX6_notes 42 = .ok (.iastore, 1) := dk_79 (dk_at dksX6_notes_1 20 rfl rfl)
theorem dX6_notes_43 : decode cX6_notes 43 = .ok (.aload_n 0, 1) := dk_42 (dk_at dksX6_notes_1 21 rfl rfl)
theorem dX6_notes_44 : decode cX6_notes 44 = .ok (.getfield 25, 3) := dk_180 0 25 (dk_at dksX6_notes_2 0 rfl rfl)
theorem dX6_notes_47 : decode cX6_notes 47 = .ok (.iload 4, 2) := dk_21 4 (dk_at dksX6_notes_2 3 rfl rfl)
theorem dX6_notes_49 : decode cX6_notes 49 = .ok (.iconst 1, 1) := dk_4 (dk_at dksX6_notes_2 5 rfl rfl)
theorem dX6_notes_50 : decode cX6_notes 50 = .ok (.iadd, 1) := dk_96 (dk_at dksX6_notes_2 6 rfl rfl)
theorem dX6_notes_51 : decode cX6_notes 51 = .ok (.iload_n 1, 1) := dk_27 (dk_at dksX6_notes_2 7 rfl rfl)
theorem dX6_notes_52 : decode cX6_notes 52 = .ok (.iastore, 1) := dk_79 (dk_at dksX6_notes_2 8 rfl rfl)
theorem dX6_notes_53 : decode cX6_notes 53 = .ok (.aload_n 0, 1) := dk_42 (dk_at dksX6_notes_2 9 rfl rfl)
theorem dX6_notes_54 : decode cX6_notes 54 = .ok (.getfield 25, 3) := dk_180 0 25 (dk_at dksX6_notes_2 10 rfl rfl)
theorem dX6_notes_57 : decode cX6_notes 57 = .ok (.iload 4, 2) := dk_21 4 (dk_at dksX6_notes_2 13 rfl rfl)
theorem dX6_notes_59 : decode cX6_notes 59 = .ok (.iconst 2, 1) := dk_5 (dk_at dksX6_notes_2 15 rfl rfl)
theorem dX6_notes_60 : decode cX6_notes 60 = .ok (.iadd, 1) := dk_96 (dk_at dksX6_notes_2 16 rfl rfl)
theorem dX6_notes_61 : decode cX6_notes 61 = .ok (.iload_n 2, 1) := dk_28 (dk_at dksX6_notes_2 17 rfl rfl)
theorem dX6_notes_62 : decode cX6_notes 62 = .ok (.iastore, 1) := dk_79 (dk_at dksX6_notes_2 18 rfl rfl)
theorem dX6_notes_63 : decode cX6_notes 63 = .ok (.aload_n 0, 1) := dk_42 (dk_at dksX6_notes_2 19 rfl rfl)
theorem dX6_notes_64 : decode cX6_notes 64 = .ok (.getfield 25, 3) := dk_180 0 25 (dk_at dksX6_notes_2 20 rfl rfl)
theorem dX6_notes_67 : decode cX6_notes 67 = .ok (.iload 4, 2) := dk_21 4 (dk_at dksX6_notes_3 0 rfl rfl)
theorem dX6_notes_69 : decode cX6_notes 69 = .ok (.iconst 3, 1) := dk_6 (dk_at dksX6_notes_3 2 rfl rfl)
theorem dX6_notes_70 : decode cX6_notes 70 = .ok (.iadd, 1) := dk_96 (dk_at dksX6_notes_3 3 rfl rfl)
theorem dX6_notes_71 : decode cX6_notes 71 = .ok (.iload_n 3, 1) := dk_29 (dk_at dksX6_notes_3 4 rfl rfl)
theorem dX6_notes_72 : decode cX6_notes 72 = .ok (.iastore, 1) := dk_79 (dk_at dksX6_notes_3 5 rfl rfl)
theorem dX6_notes_73 : decode cX6_notes 73 = .ok (.aload_n 0, 1) := dk_42 (dk_at dksX6_notes_3 6 rfl rfl)
theorem dX6_notes_74 : decode cX6_notes 74 = .ok (.getfield 7, 3) := dk_180 0 7 (dk_at dksX6_notes_3 7 rfl rfl)
theorem dX6_notes_77 : decode cX6_notes 77 = .ok (.iconst 2, 1) := dk_5 (dk_at dksX6_notes_3 10 rfl rfl)
theorem dX6_notes_78 : decode cX6_notes 78 = .ok (.aload_n 0, 1) := dk_42 (dk_at dksX6_notes_3 11 rfl rfl)
theorem dX6_notes_79 : decode cX6_notes 79 = .ok (.getfield 7, 3) := dk_180 0 7 (dk_at dksX6_notes_3 12 rfl rfl)
theorem dX6_notes_82 : decode cX6_notes 82 = .ok (.iconst 2, 1) := dk_5 (dk_at dksX6_notes_3 15 rfl rfl)
theorem dX6_notes_83 : decode cX6_notes 83 = .ok (.iaload, 1) := dk_46 (dk_at dksX6_notes_3 16 rfl rfl)
theorem dX6_notes_84 : decode cX6_notes 84 = .ok (.iconst 1, 1) := dk_4 (dk_at dksX6_notes_3 17 rfl rfl)
theorem dX6_notes_85 : decode cX6_notes 85 = .ok (.iadd, 1) := dk_96 (dk_at dksX6_notes_3 18 rfl rfl)
theorem dX6_notes_86 : decode cX6_notes 86 = .ok (.iastore, 1) := dk_79 (dk_at dksX6_notes_3 19 rfl rfl)
theorem dX6_notes_87 : decode cX6_notes 87 = .ok (.return_, 1) := dk_177 (dk_at dksX6_notes_3 20 rfl rfl)
abbrev cX6_clasps : ByteArray := prog_22_method_76_code
def yX6_clasps : MethodName := ⟨RX6, "clasps", "(II)I"⟩
def dkwX6_clasps_2 : List UInt8 := [180, 0, 7, 7, 42, 180, 0, 7, 7, 46, 4, 96, 79, 42, 6, 28, 27, 182, 1, 95, 3, 172]
abbrev dktX6_clasps_2 : List UInt8 := dkwX6_clasps_2 ++ []
def dkwX6_clasps_1 : List UInt8 := [27, 28, 182, 1, 113, 154, 0, 5, 29, 172, 42, 4, 181, 1, 104, 42, 27, 28, 29, 182, 1, 116, 42]
abbrev dktX6_clasps_1 : List UInt8 := dkwX6_clasps_1 ++ dktX6_clasps_2
def dkwX6_clasps_0 : List UInt8 := [42, 3, 181, 1, 104, 42, 27, 28, 182, 1, 107, 154, 0, 5, 3, 172, 42, 27, 28, 182, 1, 110, 62, 42]
abbrev dktX6_clasps_0 : List UInt8 := dkwX6_clasps_0 ++ dktX6_clasps_1
theorem dksX6_clasps_0 : cX6_clasps.data.toList.drop 0 = dktX6_clasps_0 := by decide +kernel
theorem dksX6_clasps_1 : cX6_clasps.data.toList.drop 24 = dktX6_clasps_1 := dk_seg dksX6_clasps_0 24 rfl rfl
theorem dksX6_clasps_2 : cX6_clasps.data.toList.drop 47 = dktX6_clasps_2 := dk_seg dksX6_clasps_1 23 rfl rfl
theorem dX6_clasps_0 : decode cX6_clasps 0 = .ok (.aload_n 0, 1) := dk_42 (dk_at dksX6_clasps_0 0 rfl rfl)
theorem dX6_clasps_1 : decode cX6_clasps 1 = .ok (.iconst 0, 1) := dk_3 (dk_at dksX6_clasps_0 1 rfl rfl)
theorem dX6_clasps_2 : decode cX6_clasps 2 = .ok (.putfield 360, 3) := dk_181 1 104 (dk_at dksX6_clasps_0 2 rfl rfl)
theorem dX6_clasps_5 : decode cX6_clasps 5 = .ok (.aload_n 0, 1) := dk_42 (dk_at dksX6_clasps_0 5 rfl rfl)
theorem dX6_clasps_6 : decode cX6_clasps 6 = .ok (.iload_n 1, 1) := dk_27 (dk_at dksX6_clasps_0 6 rfl rfl)
theorem dX6_clasps_7 : decode cX6_clasps 7 = .ok (.iload_n 2, 1) := dk_28 (dk_at dksX6_clasps_0 7 rfl rfl)
theorem dX6_clasps_8 : decode cX6_clasps 8 = .ok (.invokevirtual 363, 3) := dk_182 1 107 (dk_at dksX6_clasps_0 8 rfl rfl)
theorem dX6_clasps_11 : decode cX6_clasps 11 = .ok (.ifCond .ne 5, 3) := dk_154 0 5 (dk_at dksX6_clasps_0 11 rfl rfl)
theorem dX6_clasps_14 : decode cX6_clasps 14 = .ok (.iconst 0, 1) := dk_3 (dk_at dksX6_clasps_0 14 rfl rfl)
theorem dX6_clasps_15 : decode cX6_clasps 15 = .ok (.ireturn, 1) := dk_172 (dk_at dksX6_clasps_0 15 rfl rfl)
theorem dX6_clasps_16 : decode cX6_clasps 16 = .ok (.aload_n 0, 1) := dk_42 (dk_at dksX6_clasps_0 16 rfl rfl)
theorem dX6_clasps_17 : decode cX6_clasps 17 = .ok (.iload_n 1, 1) := dk_27 (dk_at dksX6_clasps_0 17 rfl rfl)
theorem dX6_clasps_18 : decode cX6_clasps 18 = .ok (.iload_n 2, 1) := dk_28 (dk_at dksX6_clasps_0 18 rfl rfl)
theorem dX6_clasps_19 : decode cX6_clasps 19 = .ok (.invokevirtual 366, 3) := dk_182 1 110 (dk_at dksX6_clasps_0 19 rfl rfl)
theorem dX6_clasps_22 : decode cX6_clasps 22 = .ok (.istore_n 3, 1) := dk_62 (dk_at dksX6_clasps_0 22 rfl rfl)
theorem dX6_clasps_23 : decode cX6_clasps 23 = .ok (.aload_n 0, 1) := dk_42 (dk_at dksX6_clasps_0 23 rfl rfl)
theorem dX6_clasps_24 : decode cX6_clasps 24 = .ok (.iload_n 1, 1) := dk_27 (dk_at dksX6_clasps_1 0 rfl rfl)
theorem dX6_clasps_25 : decode cX6_clasps 25 = .ok (.iload_n 2, 1) := dk_28 (dk_at dksX6_clasps_1 1 rfl rfl)
theorem dX6_clasps_26 : decode cX6_clasps 26 = .ok (.invokevirtual 369, 3) := dk_182 1 113 (dk_at dksX6_clasps_1 2 rfl rfl)
theorem dX6_clasps_29 : decode cX6_clasps 29 = .ok (.ifCond .ne 5, 3) := dk_154 0 5 (dk_at dksX6_clasps_1 5 rfl rfl)
theorem dX6_clasps_32 : decode cX6_clasps 32 = .ok (.iload_n 3, 1) := dk_29 (dk_at dksX6_clasps_1 8 rfl rfl)
theorem dX6_clasps_33 : decode cX6_clasps 33 = .ok (.ireturn, 1) := dk_172 (dk_at dksX6_clasps_1 9 rfl rfl)
theorem dX6_clasps_34 : decode cX6_clasps 34 = .ok (.aload_n 0, 1) := dk_42 (dk_at dksX6_clasps_1 10 rfl rfl)
theorem dX6_clasps_35 : decode cX6_clasps 35 = .ok (.iconst 1, 1) := dk_4 (dk_at dksX6_clasps_1 11 rfl rfl)
theorem dX6_clasps_36 : decode cX6_clasps 36 = .ok (.putfield 360, 3) := dk_181 1 104 (dk_at dksX6_clasps_1 12 rfl rfl)
theorem dX6_clasps_39 : decode cX6_clasps 39 = .ok (.aload_n 0, 1) := dk_42 (dk_at dksX6_clasps_1 15 rfl rfl)
theorem dX6_clasps_40 : decode cX6_clasps 40 = .ok (.iload_n 1, 1) := dk_27 (dk_at dksX6_clasps_1 16 rfl rfl)
theorem dX6_clasps_41 : decode cX6_clasps 41 = .ok (.iload_n 2, 1) := dk_28 (dk_at dksX6_clasps_1 17 rfl rfl)
theorem dX6_clasps_42 : decode cX6_clasps 42 = .ok (.iload_n 3, 1) := dk_29 (dk_at dksX6_clasps_1 18 rfl rfl)
theorem dX6_clasps_43 : decode cX6_clasps 43 = .ok (.invokevirtual 372, 3) := dk_182 1 116 (dk_at dksX6_clasps_1 19 rfl rfl)
theorem dX6_clasps_46 : decode cX6_clasps 46 = .ok (.aload_n 0, 1) := dk_42 (dk_at dksX6_clasps_1 22 rfl rfl)
theorem dX6_clasps_47 : decode cX6_clasps 47 = .ok (.getfield 7, 3) := dk_180 0 7 (dk_at dksX6_clasps_2 0 rfl rfl)
theorem dX6_clasps_50 : decode cX6_clasps 50 = .ok (.iconst 4, 1) := dk_7 (dk_at dksX6_clasps_2 3 rfl rfl)
theorem dX6_clasps_51 : decode cX6_clasps 51 = .ok (.aload_n 0, 1) := dk_42 (dk_at dksX6_clasps_2 4 rfl rfl)
theorem dX6_clasps_52 : decode cX6_clasps 52 = .ok (.getfield 7, 3) := dk_180 0 7 (dk_at dksX6_clasps_2 5 rfl rfl)
theorem dX6_clasps_55 : decode cX6_clasps 55 = .ok (.iconst 4, 1) := dk_7 (dk_at dksX6_clasps_2 8 rfl rfl)
theorem dX6_clasps_56 : decode cX6_clasps 56 = .ok (.iaload, 1) := dk_46 (dk_at dksX6_clasps_2 9 rfl rfl)
theorem dX6_clasps_57 : decode cX6_clasps 57 = .ok (.iconst 1, 1) := dk_4 (dk_at dksX6_clasps_2 10 rfl rfl)
theorem dX6_clasps_58 : decode cX6_clasps 58 = .ok (.iadd, 1) := dk_96 (dk_at dksX6_clasps_2 11 rfl rfl)
theorem dX6_clasps_59 : decode cX6_clasps 59 = .ok (.iastore, 1) := dk_79 (dk_at dksX6_clasps_2 12 rfl rfl)
theorem dX6_clasps_60 : decode cX6_clasps 60 = .ok (.aload_n 0, 1) := dk_42 (dk_at dksX6_clasps_2 13 rfl rfl)
theorem dX6_clasps_61 : decode cX6_clasps 61 = .ok (.iconst 3, 1) := dk_6 (dk_at dksX6_clasps_2 14 rfl rfl)
theorem dX6_clasps_62 : decode cX6_clasps 62 = .ok (.iload_n 2, 1) := dk_28 (dk_at dksX6_clasps_2 15 rfl rfl)
theorem dX6_clasps_63 : decode cX6_clasps 63 = .ok (.iload_n 1, 1) := dk_27 (dk_at dksX6_clasps_2 16 rfl rfl)
theorem dX6_clasps_64 : decode cX6_clasps 64 = .ok (.invokevirtual 351, 3) := dk_182 1 95 (dk_at dksX6_clasps_2 17 rfl rfl)
theorem dX6_clasps_67 : decode cX6_clasps 67 = .ok (.iconst 0, 1) := dk_3 (dk_at dksX6_clasps_2 20 rfl rfl)
theorem dX6_clasps_68 : decode cX6_clasps 68 = .ok (.ireturn, 1) := dk_172 (dk_at dksX6_clasps_2 21 rfl rfl)
abbrev cX6_areBare : ByteArray := prog_22_method_72_code
def yX6_areBare : MethodName := ⟨RX6, "areBare", "(II)Z"⟩
def dkwX6_areBare_1 : List UInt8 := [159, 0, 7, 4, 167, 0, 4, 3, 172]
abbrev dktX6_areBare_1 : List UInt8 := dkwX6_areBare_1 ++ []
def dkwX6_areBare_0 : List UInt8 := [42, 180, 0, 7, 16, 77, 27, 96, 46, 4, 159, 0, 20, 42, 180, 0, 7, 16, 77, 28, 96, 46, 4]
abbrev dktX6_areBare_0 : List UInt8 := dkwX6_areBare_0 ++ dktX6_areBare_1
theorem dksX6_areBare_0 : cX6_areBare.data.toList.drop 0 = dktX6_areBare_0 := by decide +kernel
theorem dksX6_areBare_1 : cX6_areBare.data.toList.drop 23 = dktX6_areBare_1 := dk_seg dksX6_areBare_0 23 rfl rfl
theorem dX6_areBare_0 : decode cX6_areBare 0 = .ok (.aload_n 0, 1) := dk_42 (dk_at dksX6_areBare_0 0 rfl rfl)
theorem dX6_areBare_1 : decode cX6_areBare 1 = .ok (.getfield 7, 3) := dk_180 0 7 (dk_at dksX6_areBare_0 1 rfl rfl)
theorem dX6_areBare_4 : decode cX6_areBare 4 = .ok (.bipush 77, 2) := dk_16 77 (dk_at dksX6_areBare_0 4 rfl rfl)
theorem dX6_areBare_6 : decode cX6_areBare 6 = .ok (.iload_n 1, 1) := dk_27 (dk_at dksX6_areBare_0 6 rfl rfl)
theorem dX6_areBare_7 : decode cX6_areBare 7 = .ok (.iadd, 1) := dk_96 (dk_at dksX6_areBare_0 7 rfl rfl)
theorem dX6_areBare_8 : decode cX6_areBare 8 = .ok (.iaload, 1) := dk_46 (dk_at dksX6_areBare_0 8 rfl rfl)
theorem dX6_areBare_9 : decode cX6_areBare 9 = .ok (.iconst 1, 1) := dk_4 (dk_at dksX6_areBare_0 9 rfl rfl)
theorem dX6_areBare_10 : decode cX6_areBare 10 = .ok (.if_icmp .eq 20, 3) := dk_159 0 20 (dk_at dksX6_areBare_0 10 rfl rfl)
theorem dX6_areBare_13 : decode cX6_areBare 13 = .ok (.aload_n 0, 1) := dk_42 (dk_at dksX6_areBare_0 13 rfl rfl)
theorem dX6_areBare_14 : decode cX6_areBare 14 = .ok (.getfield 7, 3) := dk_180 0 7 (dk_at dksX6_areBare_0 14 rfl rfl)
theorem dX6_areBare_17 : decode cX6_areBare 17 = .ok (.bipush 77, 2) := dk_16 77 (dk_at dksX6_areBare_0 17 rfl rfl)
theorem dX6_areBare_19 : decode cX6_areBare 19 = .ok (.iload_n 2, 1) := dk_28 (dk_at dksX6_areBare_0 19 rfl rfl)
theorem dX6_areBare_20 : decode cX6_areBare 20 = .ok (.iadd, 1) := dk_96 (dk_at dksX6_areBare_0 20 rfl rfl)
theorem dX6_areBare_21 : decode cX6_areBare 21 = .ok (.iaload, 1) := dk_46 (dk_at dksX6_areBare_0 21 rfl rfl)
theorem dX6_areBare_22 : decode cX6_areBare 22 = .ok (.iconst 1, 1) := dk_4 (dk_at dksX6_areBare_0 22 rfl rfl)
theorem dX6_areBare_23 : decode cX6_areBare 23 = .ok (.if_icmp .eq 7, 3) := dk_159 0 7 (dk_at dksX6_areBare_1 0 rfl rfl)
theorem dX6_areBare_26 : decode cX6_areBare 26 = .ok (.iconst 1, 1) := dk_4 (dk_at dksX6_areBare_1 3 rfl rfl)
theorem dX6_areBare_27 : decode cX6_areBare 27 = .ok (.goto 4, 3) := dk_167 0 4 (dk_at dksX6_areBare_1 4 rfl rfl)
theorem dX6_areBare_30 : decode cX6_areBare 30 = .ok (.iconst 0, 1) := dk_3 (dk_at dksX6_areBare_1 7 rfl rfl)
theorem dX6_areBare_31 : decode cX6_areBare 31 = .ok (.ireturn, 1) := dk_172 (dk_at dksX6_areBare_1 8 rfl rfl)
abbrev cX6_passAll : ByteArray := prog_22_method_73_code
def yX6_passAll : MethodName := ⟨RX6, "passAll", "(II)I"⟩
def dkwX6_passAll_8 : List UInt8 := [42, 180, 0, 7, 6, 46, 29, 96, 79, 29, 158, 0, 10, 42, 5, 27, 29, 182, 1, 95, 29, 172]
abbrev dktX6_passAll_8 : List UInt8 := dkwX6_passAll_8 ++ []
def dkwX6_passAll_7 : List UInt8 := [21, 4, 46, 96, 42, 180, 0, 80, 21, 4, 46, 96, 62, 132, 4, 1, 167, 255, 83, 42, 180, 0, 7, 6]
abbrev dktX6_passAll_7 : List UInt8 := dkwX6_passAll_7 ++ dktX6_passAll_8
def dkwX6_passAll_6 : List UInt8 := [180, 0, 80, 21, 4, 46, 100, 42, 180, 0, 77, 21, 4, 46, 96, 182, 0, 149, 29, 42, 180, 0, 77]
abbrev dktX6_passAll_6 : List UInt8 := dkwX6_passAll_6 ++ dktX6_passAll_7
def dkwX6_passAll_5 : List UInt8 := [21, 4, 46, 100, 42, 180, 0, 80, 21, 4, 46, 96, 182, 0, 149, 42, 28, 21, 4, 21, 6, 42]
abbrev dktX6_passAll_5 : List UInt8 := dkwX6_passAll_5 ++ dktX6_passAll_6
def dkwX6_passAll_4 : List UInt8 := [17, 3, 231, 21, 5, 100, 21, 7, 96, 182, 1, 92, 79, 42, 27, 21, 4, 21, 5, 42, 180, 0, 77]
abbrev dktX6_passAll_4 : List UInt8 := dkwX6_passAll_4 ++ dktX6_passAll_5
def dkwX6_passAll_3 : List UInt8 := [17, 3, 231, 21, 6, 100, 21, 8, 96, 182, 1, 92, 79, 42, 180, 0, 80, 21, 4, 42, 21, 8]
abbrev dktX6_passAll_3 : List UInt8 := dkwX6_passAll_3 ++ dktX6_passAll_4
def dkwX6_passAll_2 : List UInt8 := [42, 28, 27, 21, 4, 182, 1, 89, 104, 17, 3, 232, 108, 54, 8, 42, 180, 0, 77, 21, 4, 42, 21, 7]
abbrev dktX6_passAll_2 : List UInt8 := dkwX6_passAll_2 ++ dktX6_passAll_3
def dkwX6_passAll_1 : List UInt8 := [182, 1, 63, 54, 6, 21, 5, 42, 27, 28, 21, 4, 182, 1, 89, 104, 17, 3, 232, 108, 54, 7, 21, 6]
abbrev dktX6_passAll_1 : List UInt8 := dkwX6_passAll_1 ++ dktX6_passAll_2
def dkwX6_passAll_0 : List UInt8 := [3, 62, 3, 54, 4, 21, 4, 8, 162, 0, 173, 42, 27, 21, 4, 182, 1, 63, 54, 5, 42, 28, 21, 4]
abbrev dktX6_passAll_0 : List UInt8 := dkwX6_passAll_0 ++ dktX6_passAll_1
theorem dksX6_passAll_0 : cX6_passAll.data.toList.drop 0 = dktX6_passAll_0 := by decide +kernel
theorem dksX6_passAll_1 : cX6_passAll.data.toList.drop 24 = dktX6_passAll_1 := dk_seg dksX6_passAll_0 24 rfl rfl
theorem dksX6_passAll_2 : cX6_passAll.data.toList.drop 48 = dktX6_passAll_2 := dk_seg dksX6_passAll_1 24 rfl rfl
theorem dksX6_passAll_3 : cX6_passAll.data.toList.drop 72 = dktX6_passAll_3 := dk_seg dksX6_passAll_2 24 rfl rfl
theorem dksX6_passAll_4 : cX6_passAll.data.toList.drop 94 = dktX6_passAll_4 := dk_seg dksX6_passAll_3 22 rfl rfl
theorem dksX6_passAll_5 : cX6_passAll.data.toList.drop 117 = dktX6_passAll_5 := dk_seg dksX6_passAll_4 23 rfl rfl
theorem dksX6_passAll_6 : cX6_passAll.data.toList.drop 139 = dktX6_passAll_6 := dk_seg dksX6_passAll_5 22 rfl rfl
theorem dksX6_passAll_7 : cX6_passAll.data.toList.drop 162 = dktX6_passAll_7 := dk_seg dksX6_passAll_6 23 rfl rfl
theorem dksX6_passAll_8 : cX6_passAll.data.toList.drop 186 = dktX6_passAll_8 := dk_seg dksX6_passAll_7 24 rfl rfl
theorem dX6_passAll_0 : decode cX6_passAll 0 = .ok (.iconst 0, 1) := dk_3 (dk_at dksX6_passAll_0 0 rfl rfl)
theorem dX6_passAll_1 : decode cX6_passAll 1 = .ok (.istore_n 3, 1) := dk_62 (dk_at dksX6_passAll_0 1 rfl rfl)
theorem dX6_passAll_2 : decode cX6_passAll 2 = .ok (.iconst 0, 1) := dk_3 (dk_at dksX6_passAll_0 2 rfl rfl)
theorem dX6_passAll_3 : decode cX6_passAll 3 = .ok (.istore 4, 2) := dk_54 4 (dk_at dksX6_passAll_0 3 rfl rfl)
theorem dX6_passAll_5 : decode cX6_passAll 5 = .ok (.iload 4, 2) := dk_21 4 (dk_at dksX6_passAll_0 5 rfl rfl)
theorem dX6_passAll_7 : decode cX6_passAll 7 = .ok (.iconst 5, 1) := dk_8 (dk_at dksX6_passAll_0 7 rfl rfl)
theorem dX6_passAll_8 : decode cX6_passAll 8 = .ok (.if_icmp .ge 173, 3) := dk_162 0 173 (dk_at dksX6_passAll_0 8 rfl rfl)
theorem dX6_passAll_11 : decode cX6_passAll 11 = .ok (.aload_n 0, 1) := dk_42 (dk_at dksX6_passAll_0 11 rfl rfl)
theorem dX6_passAll_12 : decode cX6_passAll 12 = .ok (.iload_n 1, 1) := dk_27 (dk_at dksX6_passAll_0 12 rfl rfl)
theorem dX6_passAll_13 : decode cX6_passAll 13 = .ok (.iload 4, 2) := dk_21 4 (dk_at dksX6_passAll_0 13 rfl rfl)
theorem dX6_passAll_15 : decode cX6_passAll 15 = .ok (.invokevirtual 319, 3) := dk_182 1 63 (dk_at dksX6_passAll_0 15 rfl rfl)
theorem dX6_passAll_18 : decode cX6_passAll 18 = .ok (.istore 5, 2) := dk_54 5 (dk_at dksX6_passAll_0 18 rfl rfl)
theorem dX6_passAll_20 : decode cX6_passAll 20 = .ok (.aload_n 0, 1) := dk_42 (dk_at dksX6_passAll_0 20 rfl rfl)
theorem dX6_passAll_21 : decode cX6_passAll 21 = .ok (.iload_n 2, 1) := dk_28 (dk_at dksX6_passAll_0 21 rfl rfl)
theorem dX6_passAll_22 : decode cX6_passAll 22 = .ok (.iload 4, 2) := dk_21 4 (dk_at dksX6_passAll_0 22 rfl rfl)
theorem dX6_passAll_24 : decode cX6_passAll 24 = .ok (.invokevirtual 319, 3) := dk_182 1 63 (dk_at dksX6_passAll_1 0 rfl rfl)
theorem dX6_passAll_27 : decode cX6_passAll 27 = .ok (.istore 6, 2) := dk_54 6 (dk_at dksX6_passAll_1 3 rfl rfl)
theorem dX6_passAll_29 : decode cX6_passAll 29 = .ok (.iload 5, 2) := dk_21 5 (dk_at dksX6_passAll_1 5 rfl rfl)
theorem dX6_passAll_31 : decode cX6_passAll 31 = .ok (.aload_n 0, 1) := dk_42 (dk_at dksX6_passAll_1 7 rfl rfl)
theorem dX6_passAll_32 : decode cX6_passAll 32 = .ok (.iload_n 1, 1) := dk_27 (dk_at dksX6_passAll_1 8 rfl rfl)
theorem dX6_passAll_33 : decode cX6_passAll 33 = .ok (.iload_n 2, 1) := dk_28 (dk_at dksX6_passAll_1 9 rfl rfl)
theorem dX6_passAll_34 : decode cX6_passAll 34 = .ok (.iload 4, 2) := dk_21 4 (dk_at dksX6_passAll_1 10 rfl rfl)
theorem dX6_passAll_36 : decode cX6_passAll 36 = .ok (.invokevirtual 345, 3) := dk_182 1 89 (dk_at dksX6_passAll_1 12 rfl rfl)
theorem dX6_passAll_39 : decode cX6_passAll 39 = .ok (.imul, 1) := dk_104 (dk_at dksX6_passAll_1 15 rfl rfl)
theorem dX6_passAll_40 : decode cX6_passAll 40 = .ok (.sipush 1000, 3) := dk_17 3 232 (dk_at dksX6_passAll_1 16 rfl rfl)
theorem dX6_passAll_43 : decode cX6_passAll 43 = .ok (.idiv, 1) := dk_108 (dk_at dksX6_passAll_1 19 rfl rfl)
theorem dX6_passAll_44 : decode cX6_passAll 44 = .ok (.istore 7, 2) := dk_54 7 (dk_at dksX6_passAll_1 20 rfl rfl)
theorem dX6_passAll_46 : decode cX6_passAll 46 = .ok (.iload 6, 2) := dk_21 6 (dk_at dksX6_passAll_1 22 rfl rfl)
theorem dX6_passAll_48 : decode cX6_passAll 48 = .ok (.aload_n 0, 1) := dk_42 (dk_at dksX6_passAll_2 0 rfl rfl)
theorem dX6_passAll_49 : decode cX6_passAll 49 = .ok (.iload_n 2, 1) := dk_28 (dk_at dksX6_passAll_2 1 rfl rfl)
theorem dX6_passAll_50 : decode cX6_passAll 50 = .ok (.iload_n 1, 1) := dk_27 (dk_at dksX6_passAll_2 2 rfl rfl)
theorem dX6_passAll_51 : decode cX6_passAll 51 = .ok (.iload 4, 2) := dk_21 4 (dk_at dksX6_passAll_2 3 rfl rfl)
theorem dX6_passAll_53 : decode cX6_passAll 53 = .ok (.invokevirtual 345, 3) := dk_182 1 89 (dk_at dksX6_passAll_2 5 rfl rfl)
theorem dX6_passAll_56 : decode cX6_passAll 56 = .ok (.imul, 1) := dk_104 (dk_at dksX6_passAll_2 8 rfl rfl)
theorem dX6_passAll_57 : decode cX6_passAll 57 = .ok (.sipush 1000, 3) := dk_17 3 232 (dk_at dksX6_passAll_2 9 rfl rfl)
theorem dX6_passAll_60 : decode cX6_passAll 60 = .ok (.idiv, 1) := dk_108 (dk_at dksX6_passAll_2 12 rfl rfl)
theorem dX6_passAll_61 : decode cX6_passAll 61 = .ok (.istore 8, 2) := dk_54 8 (dk_at dksX6_passAll_2 13 rfl rfl)
theorem dX6_passAll_63 : decode cX6_passAll 63 = .ok (.aload_n 0, 1) := dk_42 (dk_at dksX6_passAll_2 15 rfl rfl)
theorem dX6_passAll_64 : decode cX6_passAll 64 = .ok (.getfield 77, 3) := dk_180 0 77 (dk_at dksX6_passAll_2 16 rfl rfl)
theorem dX6_passAll_67 : decode cX6_passAll 67 = .ok (.iload 4, 2) := dk_21 4 (dk_at dksX6_passAll_2 19 rfl rfl)
theorem dX6_passAll_69 : decode cX6_passAll 69 = .ok (.aload_n 0, 1) := dk_42 (dk_at dksX6_passAll_2 21 rfl rfl)
theorem dX6_passAll_70 : decode cX6_passAll 70 = .ok (.iload 7, 2) := dk_21 7 (dk_at dksX6_passAll_2 22 rfl rfl)
theorem dX6_passAll_72 : decode cX6_passAll 72 = .ok (.sipush 999, 3) := dk_17 3 231 (dk_at dksX6_passAll_3 0 rfl rfl)
theorem dX6_passAll_75 : decode cX6_passAll 75 = .ok (.iload 6, 2) := dk_21 6 (dk_at dksX6_passAll_3 3 rfl rfl)
theorem dX6_passAll_77 : decode cX6_passAll 77 = .ok (.isub, 1) := dk_100 (dk_at dksX6_passAll_3 5 rfl rfl)
theorem dX6_passAll_78 : decode cX6_passAll 78 = .ok (.iload 8, 2) := dk_21 8 (dk_at dksX6_passAll_3 6 rfl rfl)
theorem dX6_passAll_80 : decode cX6_passAll 80 = .ok (.iadd, 1) := dk_96 (dk_at dksX6_passAll_3 8 rfl rfl)
theorem dX6_passAll_81 : decode cX6_passAll 81 = .ok (.invokevirtual 348, 3) := dk_182 1 92 (dk_at dksX6_passAll_3 9 rfl rfl)
theorem dX6_passAll_84 : decode cX6_passAll 84 = .ok (.iastore, 1) := dk_79 (dk_at dksX6_passAll_3 12 rfl rfl)
theorem dX6_passAll_85 : decode cX6_passAll 85 = .ok (.aload_n 0, 1) := dk_42 (dk_at dksX6_passAll_3 13 rfl rfl)
theorem dX6_passAll_86 : decode cX6_passAll 86 = .ok (.getfield 80, 3) := dk_180 0 80 (dk_at dksX6_passAll_3 14 rfl rfl)
theorem dX6_passAll_89 : decode cX6_passAll 89 = .ok (.iload 4, 2) := dk_21 4 (dk_at dksX6_passAll_3 17 rfl rfl)
theorem dX6_passAll_91 : decode cX6_passAll 91 = .ok (.aload_n 0, 1) := dk_42 (dk_at dksX6_passAll_3 19 rfl rfl)
theorem dX6_passAll_92 : decode cX6_passAll 92 = .ok (.iload 8, 2) := dk_21 8 (dk_at dksX6_passAll_3 20 rfl rfl)
theorem dX6_passAll_94 : decode cX6_passAll 94 = .ok (.sipush 999, 3) := dk_17 3 231 (dk_at dksX6_passAll_4 0 rfl rfl)
theorem dX6_passAll_97 : decode cX6_passAll 97 = .ok (.iload 5, 2) := dk_21 5 (dk_at dksX6_passAll_4 3 rfl rfl)
theorem dX6_passAll_99 : decode cX6_passAll 99 = .ok (.isub, 1) := dk_100 (dk_at dksX6_passAll_4 5 rfl rfl)
theorem dX6_passAll_100 : decode cX6_passAll 100 = .ok (.iload 7, 2) := dk_21 7 (dk_at dksX6_passAll_4 6 rfl rfl)
theorem dX6_passAll_102 : decode cX6_passAll 102 = .ok (.iadd, 1) := dk_96 (dk_at dksX6_passAll_4 8 rfl rfl)
theorem dX6_passAll_103 : decode cX6_passAll 103 = .ok (.invokevirtual 348, 3) := dk_182 1 92 (dk_at dksX6_passAll_4 9 rfl rfl)
theorem dX6_passAll_106 : decode cX6_passAll 106 = .ok (.iastore, 1) := dk_79 (dk_at dksX6_passAll_4 12 rfl rfl)
theorem dX6_passAll_107 : decode cX6_passAll 107 = .ok (.aload_n 0, 1) := dk_42 (dk_at dksX6_passAll_4 13 rfl rfl)
theorem dX6_passAll_108 : decode cX6_passAll 108 = .ok (.iload_n 1, 1) := dk_27 (dk_at dksX6_passAll_4 14 rfl rfl)
theorem dX6_passAll_109 : decode cX6_passAll 109 = .ok (.iload 4, 2) := dk_21 4 (dk_at dksX6_passAll_4 15 rfl rfl)
theorem dX6_passAll_111 : decode cX6_passAll 111 = .ok (.iload 5, 2) := dk_21 5 (dk_at dksX6_passAll_4 17 rfl rfl)
theorem dX6_passAll_113 : decode cX6_passAll 113 = .ok (.aload_n 0, 1) := dk_42 (dk_at dksX6_passAll_4 19 rfl rfl)
theorem dX6_passAll_114 : decode cX6_passAll 114 = .ok (.getfield 77, 3) := dk_180 0 77 (dk_at dksX6_passAll_4 20 rfl rfl)
theorem dX6_passAll_117 : decode cX6_passAll 117 = .ok (.iload 4, 2) := dk_21 4 (dk_at dksX6_passAll_5 0 rfl rfl)
theorem dX6_passAll_119 : decode cX6_passAll 119 = .ok (.iaload, 1) := dk_46 (dk_at dksX6_passAll_5 2 rfl rfl)
theorem dX6_passAll_120 : decode cX6_passAll 120 = .ok (.isub, 1) := dk_100 (dk_at dksX6_passAll_5 3 rfl rfl)
theorem dX6_passAll_121 : decode cX6_passAll 121 = .ok (.aload_n 0, 1) := dk_42 (dk_at dksX6_passAll_5 4 rfl rfl)
theorem dX6_passAll_122 : decode cX6_passAll 122 = .ok (.getfield 80, 3) := dk_180 0 80 (dk_at dksX6_passAll_5 5 rfl rfl)
theorem dX6_passAll_125 : decode cX6_passAll 125 = .ok (.iload 4, 2) := dk_21 4 (dk_at dksX6_passAll_5 8 rfl rfl)
theorem dX6_passAll_127 : decode cX6_passAll 127 = .ok (.iaload, 1) := dk_46 (dk_at dksX6_passAll_5 10 rfl rfl)
theorem dX6_passAll_128 : decode cX6_passAll 128 = .ok (.iadd, 1) := dk_96 (dk_at dksX6_passAll_5 11 rfl rfl)
theorem dX6_passAll_129 : decode cX6_passAll 129 = .ok (.invokevirtual 149, 3) := dk_182 0 149 (dk_at dksX6_passAll_5 12 rfl rfl)
theorem dX6_passAll_132 : decode cX6_passAll 132 = .ok (.aload_n 0, 1) := dk_42 (dk_at dksX6_passAll_5 15 rfl rfl)
theorem dX6_passAll_133 : decode cX6_passAll 133 = .ok (.iload_n 2, 1) := dk_28 (dk_at dksX6_passAll_5 16 rfl rfl)
theorem dX6_passAll_134 : decode cX6_passAll 134 = .ok (.iload 4, 2) := dk_21 4 (dk_at dksX6_passAll_5 17 rfl rfl)
theorem dX6_passAll_136 : decode cX6_passAll 136 = .ok (.iload 6, 2) := dk_21 6 (dk_at dksX6_passAll_5 19 rfl rfl)
theorem dX6_passAll_138 : decode cX6_passAll 138 = .ok (.aload_n 0, 1) := dk_42 (dk_at dksX6_passAll_5 21 rfl rfl)
theorem dX6_passAll_139 : decode cX6_passAll 139 = .ok (.getfield 80, 3) := dk_180 0 80 (dk_at dksX6_passAll_6 0 rfl rfl)
theorem dX6_passAll_142 : decode cX6_passAll 142 = .ok (.iload 4, 2) := dk_21 4 (dk_at dksX6_passAll_6 3 rfl rfl)
theorem dX6_passAll_144 : decode cX6_passAll 144 = .ok (.iaload, 1) := dk_46 (dk_at dksX6_passAll_6 5 rfl rfl)
theorem dX6_passAll_145 : decode cX6_passAll 145 = .ok (.isub, 1) := dk_100 (dk_at dksX6_passAll_6 6 rfl rfl)
theorem dX6_passAll_146 : decode cX6_passAll 146 = .ok (.aload_n 0, 1) := dk_42 (dk_at dksX6_passAll_6 7 rfl rfl)
theorem dX6_passAll_147 : decode cX6_passAll 147 = .ok (.getfield 77, 3) := dk_180 0 77 (dk_at dksX6_passAll_6 8 rfl rfl)
theorem dX6_passAll_150 : decode cX6_passAll 150 = .ok (.iload 4, 2) := dk_21 4 (dk_at dksX6_passAll_6 11 rfl rfl)
theorem dX6_passAll_152 : decode cX6_passAll 152 = .ok (.iaload, 1) := dk_46 (dk_at dksX6_passAll_6 13 rfl rfl)
theorem dX6_passAll_153 : decode cX6_passAll 153 = .ok (.iadd, 1) := dk_96 (dk_at dksX6_passAll_6 14 rfl rfl)
theorem dX6_passAll_154 : decode cX6_passAll 154 = .ok (.invokevirtual 149, 3) := dk_182 0 149 (dk_at dksX6_passAll_6 15 rfl rfl)
theorem dX6_passAll_157 : decode cX6_passAll 157 = .ok (.iload_n 3, 1) := dk_29 (dk_at dksX6_passAll_6 18 rfl rfl)
theorem dX6_passAll_158 : decode cX6_passAll 158 = .ok (.aload_n 0, 1) := dk_42 (dk_at dksX6_passAll_6 19 rfl rfl)
theorem dX6_passAll_159 : decode cX6_passAll 159 = .ok (.getfield 77, 3) := dk_180 0 77 (dk_at dksX6_passAll_6 20 rfl rfl)
theorem dX6_passAll_162 : decode cX6_passAll 162 = .ok (.iload 4, 2) := dk_21 4 (dk_at dksX6_passAll_7 0 rfl rfl)
theorem dX6_passAll_164 : decode cX6_passAll 164 = .ok (.iaload, 1) := dk_46 (dk_at dksX6_passAll_7 2 rfl rfl)
theorem dX6_passAll_165 : decode cX6_passAll 165 = .ok (.iadd, 1) := dk_96 (dk_at dksX6_passAll_7 3 rfl rfl)
theorem dX6_passAll_166 : decode cX6_passAll 166 = .ok (.aload_n 0, 1) := dk_42 (dk_at dksX6_passAll_7 4 rfl rfl)
theorem dX6_passAll_167 : decode cX6_passAll 167 = .ok (.getfield 80, 3) := dk_180 0 80 (dk_at dksX6_passAll_7 5 rfl rfl)
theorem dX6_passAll_170 : decode cX6_passAll 170 = .ok (.iload 4, 2) := dk_21 4 (dk_at dksX6_passAll_7 8 rfl rfl)
theorem dX6_passAll_172 : decode cX6_passAll 172 = .ok (.iaload, 1) := dk_46 (dk_at dksX6_passAll_7 10 rfl rfl)
theorem dX6_passAll_173 : decode cX6_passAll 173 = .ok (.iadd, 1) := dk_96 (dk_at dksX6_passAll_7 11 rfl rfl)
theorem dX6_passAll_174 : decode cX6_passAll 174 = .ok (.istore_n 3, 1) := dk_62 (dk_at dksX6_passAll_7 12 rfl rfl)
theorem dX6_passAll_175 : decode cX6_passAll 175 = .ok (.iinc 4 1, 3) := dk_132 4 1 (dk_at dksX6_passAll_7 13 rfl rfl)
theorem dX6_passAll_178 : decode cX6_passAll 178 = .ok (.goto (-173), 3) := dk_167 255 83 (dk_at dksX6_passAll_7 16 rfl rfl)
theorem dX6_passAll_181 : decode cX6_passAll 181 = .ok (.aload_n 0, 1) := dk_42 (dk_at dksX6_passAll_7 19 rfl rfl)
theorem dX6_passAll_182 : decode cX6_passAll 182 = .ok (.getfield 7, 3) := dk_180 0 7 (dk_at dksX6_passAll_7 20 rfl rfl)
theorem dX6_passAll_185 : decode cX6_passAll 185 = .ok (.iconst 3, 1) := dk_6 (dk_at dksX6_passAll_7 23 rfl rfl)
theorem dX6_passAll_186 : decode cX6_passAll 186 = .ok (.aload_n 0, 1) := dk_42 (dk_at dksX6_passAll_8 0 rfl rfl)
theorem dX6_passAll_187 : decode cX6_passAll 187 = .ok (.getfield 7, 3) := dk_180 0 7 (dk_at dksX6_passAll_8 1 rfl rfl)
theorem dX6_passAll_190 : decode cX6_passAll 190 = .ok (.iconst 3, 1) := dk_6 (dk_at dksX6_passAll_8 4 rfl rfl)
theorem dX6_passAll_191 : decode cX6_passAll 191 = .ok (.iaload, 1) := dk_46 (dk_at dksX6_passAll_8 5 rfl rfl)
theorem dX6_passAll_192 : decode cX6_passAll 192 = .ok (.iload_n 3, 1) := dk_29 (dk_at dksX6_passAll_8 6 rfl rfl)
theorem dX6_passAll_193 : decode cX6_passAll 193 = .ok (.iadd, 1) := dk_96 (dk_at dksX6_passAll_8 7 rfl rfl)
theorem dX6_passAll_194 : decode cX6_passAll 194 = .ok (.iastore, 1) := dk_79 (dk_at dksX6_passAll_8 8 rfl rfl)
theorem dX6_passAll_195 : decode cX6_passAll 195 = .ok (.iload_n 3, 1) := dk_29 (dk_at dksX6_passAll_8 9 rfl rfl)
theorem dX6_passAll_196 : decode cX6_passAll 196 = .ok (.ifCond .le 10, 3) := dk_158 0 10 (dk_at dksX6_passAll_8 10 rfl rfl)
theorem dX6_passAll_199 : decode cX6_passAll 199 = .ok (.aload_n 0, 1) := dk_42 (dk_at dksX6_passAll_8 13 rfl rfl)
theorem dX6_passAll_200 : decode cX6_passAll 200 = .ok (.iconst 2, 1) := dk_5 (dk_at dksX6_passAll_8 14 rfl rfl)
theorem dX6_passAll_201 : decode cX6_passAll 201 = .ok (.iload_n 1, 1) := dk_27 (dk_at dksX6_passAll_8 15 rfl rfl)
theorem dX6_passAll_202 : decode cX6_passAll 202 = .ok (.iload_n 3, 1) := dk_29 (dk_at dksX6_passAll_8 16 rfl rfl)
theorem dX6_passAll_203 : decode cX6_passAll 203 = .ok (.invokevirtual 351, 3) := dk_182 1 95 (dk_at dksX6_passAll_8 17 rfl rfl)
theorem dX6_passAll_206 : decode cX6_passAll 206 = .ok (.iload_n 3, 1) := dk_29 (dk_at dksX6_passAll_8 20 rfl rfl)
theorem dX6_passAll_207 : decode cX6_passAll 207 = .ok (.ireturn, 1) := dk_172 (dk_at dksX6_passAll_8 21 rfl rfl)
abbrev cX6_passesOf : ByteArray := prog_22_method_67_code
def yX6_passesOf : MethodName := ⟨RX6, "passesOf", "(III)I"⟩
def dkwX6_passesOf_0 : List UInt8 := [42, 27, 28, 29, 4, 182, 1, 82, 42, 3, 16, 20, 42, 180, 1, 66, 104, 17, 3, 232, 182, 1, 86, 172]
abbrev dktX6_passesOf_0 : List UInt8 := dkwX6_passesOf_0 ++ []
theorem dksX6_passesOf_0 : cX6_passesOf.data.toList.drop 0 = dktX6_passesOf_0 := by decide +kernel
theorem dX6_passesOf_0 : decode cX6_passesOf 0 = .ok (.aload_n 0, 1) := dk_42 (dk_at dksX6_passesOf_0 0 rfl rfl)
theorem dX6_passesOf_1 : decode cX6_passesOf 1 = .ok (.iload_n 1, 1) := dk_27 (dk_at dksX6_passesOf_0 1 rfl rfl)
theorem dX6_passesOf_2 : decode cX6_passesOf 2 = .ok (.iload_n 2, 1) := dk_28 (dk_at dksX6_passesOf_0 2 rfl rfl)
theorem dX6_passesOf_3 : decode cX6_passesOf 3 = .ok (.iload_n 3, 1) := dk_29 (dk_at dksX6_passesOf_0 3 rfl rfl)
theorem dX6_passesOf_4 : decode cX6_passesOf 4 = .ok (.iconst 1, 1) := dk_4 (dk_at dksX6_passesOf_0 4 rfl rfl)
theorem dX6_passesOf_5 : decode cX6_passesOf 5 = .ok (.invokevirtual 338, 3) := dk_182 1 82 (dk_at dksX6_passesOf_0 5 rfl rfl)
theorem dX6_passesOf_8 : decode cX6_passesOf 8 = .ok (.aload_n 0, 1) := dk_42 (dk_at dksX6_passesOf_0 8 rfl rfl)
theorem dX6_passesOf_9 : decode cX6_passesOf 9 = .ok (.iconst 0, 1) := dk_3 (dk_at dksX6_passesOf_0 9 rfl rfl)
theorem dX6_passesOf_10 : decode cX6_passesOf 10 = .ok (.bipush 20, 2) := dk_16 20 (dk_at dksX6_passesOf_0 10 rfl rfl)
theorem dX6_passesOf_12 : decode cX6_passesOf 12 = .ok (.aload_n 0, 1) := dk_42 (dk_at dksX6_passesOf_0 12 rfl rfl)
theorem dX6_passesOf_13 : decode cX6_passesOf 13 = .ok (.getfield 322, 3) := dk_180 1 66 (dk_at dksX6_passesOf_0 13 rfl rfl)
theorem dX6_passesOf_16 : decode cX6_passesOf 16 = .ok (.imul, 1) := dk_104 (dk_at dksX6_passesOf_0 16 rfl rfl)
theorem dX6_passesOf_17 : decode cX6_passesOf 17 = .ok (.sipush 1000, 3) := dk_17 3 232 (dk_at dksX6_passesOf_0 17 rfl rfl)
theorem dX6_passesOf_20 : decode cX6_passesOf 20 = .ok (.invokevirtual 342, 3) := dk_182 1 86 (dk_at dksX6_passesOf_0 20 rfl rfl)
theorem dX6_passesOf_23 : decode cX6_passesOf 23 = .ok (.ireturn, 1) := dk_172 (dk_at dksX6_passesOf_0 23 rfl rfl)
abbrev cX6_doesHold : ByteArray := prog_22_method_75_code
def yX6_doesHold : MethodName := ⟨RX6, "doesHold", "(II)Z"⟩
def dkwX6_doesHold_2 : List UInt8 := [167, 0, 4, 3, 172]
abbrev dktX6_doesHold_2 : List UInt8 := dkwX6_doesHold_2 ++ []
def dkwX6_doesHold_1 : List UInt8 := [167, 0, 27, 3, 167, 0, 23, 29, 158, 0, 18, 42, 17, 3, 232, 182, 1, 101, 29, 162, 0, 7, 4]
abbrev dktX6_doesHold_1 : List UInt8 := dkwX6_doesHold_1 ++ dktX6_doesHold_2
def dkwX6_doesHold_0 : List UInt8 := [42, 28, 27, 182, 1, 98, 62, 42, 180, 0, 129, 153, 0, 20, 5, 29, 104, 17, 3, 232, 161, 0, 7, 4]
abbrev dktX6_doesHold_0 : List UInt8 := dkwX6_doesHold_0 ++ dktX6_doesHold_1
theorem dksX6_doesHold_0 : cX6_doesHold.data.toList.drop 0 = dktX6_doesHold_0 := by decide +kernel
theorem dksX6_doesHold_1 : cX6_doesHold.data.toList.drop 24 = dktX6_doesHold_1 := dk_seg dksX6_doesHold_0 24 rfl rfl
theorem dksX6_doesHold_2 : cX6_doesHold.data.toList.drop 47 = dktX6_doesHold_2 := dk_seg dksX6_doesHold_1 23 rfl rfl
theorem dX6_doesHold_0 : decode cX6_doesHold 0 = .ok (.aload_n 0, 1) := dk_42 (dk_at dksX6_doesHold_0 0 rfl rfl)
theorem dX6_doesHold_1 : decode cX6_doesHold 1 = .ok (.iload_n 2, 1) := dk_28 (dk_at dksX6_doesHold_0 1 rfl rfl)
theorem dX6_doesHold_2 : decode cX6_doesHold 2 = .ok (.iload_n 1, 1) := dk_27 (dk_at dksX6_doesHold_0 2 rfl rfl)
theorem dX6_doesHold_3 : decode cX6_doesHold 3 = .ok (.invokevirtual 354, 3) := dk_182 1 98 (dk_at dksX6_doesHold_0 3 rfl rfl)
theorem dX6_doesHold_6 : decode cX6_doesHold 6 = .ok (.istore_n 3, 1) := dk_62 (dk_at dksX6_doesHold_0 6 rfl rfl)
theorem dX6_doesHold_7 : decode cX6_doesHold 7 = .ok (.aload_n 0, 1) := dk_42 (dk_at dksX6_doesHold_0 7 rfl rfl)
theorem dX6_doesHold_8 : decode cX6_doesHold 8 = .ok (.getfield 129, 3) := dk_180 0 129 (dk_at dksX6_doesHold_0 8 rfl rfl)
theorem dX6_doesHold_11 : decode cX6_doesHold 11 = .ok (.ifCond .eq 20, 3) := dk_153 0 20 (dk_at dksX6_doesHold_0 11 rfl rfl)
theorem dX6_doesHold_14 : decode cX6_doesHold 14 = .ok (.iconst 2, 1) := dk_5 (dk_at dksX6_doesHold_0 14 rfl rfl)
theorem dX6_doesHold_15 : decode cX6_doesHold 15 = .ok (.iload_n 3, 1) := dk_29 (dk_at dksX6_doesHold_0 15 rfl rfl)
theorem dX6_doesHold_16 : decode cX6_doesHold 16 = .ok (.imul, 1) := dk_104 (dk_at dksX6_doesHold_0 16 rfl rfl)
theorem dX6_doesHold_17 : decode cX6_doesHold 17 = .ok (.sipush 1000, 3) := dk_17 3 232 (dk_at dksX6_doesHold_0 17 rfl rfl)
theorem dX6_doesHold_20 : decode cX6_doesHold 20 = .ok (.if_icmp .lt 7, 3) := dk_161 0 7 (dk_at dksX6_doesHold_0 20 rfl rfl)
theorem dX6_doesHold_23 : decode cX6_doesHold 23 = .ok (.iconst 1, 1) := dk_4 (dk_at dksX6_doesHold_0 23 rfl rfl)
theorem dX6_doesHold_24 : decode cX6_doesHold 24 = .ok (.goto 27, 3) := dk_167 0 27 (dk_at dksX6_doesHold_1 0 rfl rfl)
theorem dX6_doesHold_27 : decode cX6_doesHold 27 = .ok (.iconst 0, 1) := dk_3 (dk_at dksX6_doesHold_1 3 rfl rfl)
theorem dX6_doesHold_28 : decode cX6_doesHold 28 = .ok (.goto 23, 3) := dk_167 0 23 (dk_at dksX6_doesHold_1 4 rfl rfl)
theorem dX6_doesHold_31 : decode cX6_doesHold 31 = .ok (.iload_n 3, 1) := dk_29 (dk_at dksX6_doesHold_1 7 rfl rfl)
theorem dX6_doesHold_32 : decode cX6_doesHold 32 = .ok (.ifCond .le 18, 3) := dk_158 0 18 (dk_at dksX6_doesHold_1 8 rfl rfl)
theorem dX6_doesHold_35 : decode cX6_doesHold 35 = .ok (.aload_n 0, 1) := dk_42 (dk_at dksX6_doesHold_1 11 rfl rfl)
theorem dX6_doesHold_36 : decode cX6_doesHold 36 = .ok (.sipush 1000, 3) := dk_17 3 232 (dk_at dksX6_doesHold_1 12 rfl rfl)
theorem dX6_doesHold_39 : decode cX6_doesHold 39 = .ok (.invokevirtual 357, 3) := dk_182 1 101 (dk_at dksX6_doesHold_1 15 rfl rfl)
theorem dX6_doesHold_42 : decode cX6_doesHold 42 = .ok (.iload_n 3, 1) := dk_29 (dk_at dksX6_doesHold_1 18 rfl rfl)
theorem dX6_doesHold_43 : decode cX6_doesHold 43 = .ok (.if_icmp .ge 7, 3) := dk_162 0 7 (dk_at dksX6_doesHold_1 19 rfl rfl)
theorem dX6_doesHold_46 : decode cX6_doesHold 46 = .ok (.iconst 1, 1) := dk_4 (dk_at dksX6_doesHold_1 22 rfl rfl)
theorem dX6_doesHold_47 : decode cX6_doesHold 47 = .ok (.goto 4, 3) := dk_167 0 4 (dk_at dksX6_doesHold_2 0 rfl rfl)
theorem dX6_doesHold_50 : decode cX6_doesHold 50 = .ok (.iconst 0, 1) := dk_3 (dk_at dksX6_doesHold_2 3 rfl rfl)
theorem dX6_doesHold_51 : decode cX6_doesHold 51 = .ok (.ireturn, 1) := dk_172 (dk_at dksX6_doesHold_2 4 rfl rfl)
abbrev cX6_holdsOf : ByteArray := prog_22_method_68_code
def yX6_holdsOf : MethodName := ⟨RX6, "holdsOf", "(II)I"⟩
def dkwX6_holdsOf_1 : List UInt8 := [100, 17, 3, 232, 182, 1, 86, 172]
abbrev dktX6_holdsOf_1 : List UInt8 := dkwX6_holdsOf_1 ++ []
def dkwX6_holdsOf_0 : List UInt8 := [42, 27, 28, 3, 4, 182, 1, 82, 42, 4, 16, 100, 16, 10, 42, 180, 0, 7, 16, 89, 27, 96, 46, 104]
abbrev dktX6_holdsOf_0 : List UInt8 := dkwX6_holdsOf_0 ++ dktX6_holdsOf_1
theorem dksX6_holdsOf_0 : cX6_holdsOf.data.toList.drop 0 = dktX6_holdsOf_0 := by decide +kernel
theorem dksX6_holdsOf_1 : cX6_holdsOf.data.toList.drop 24 = dktX6_holdsOf_1 := dk_seg dksX6_holdsOf_0 24 rfl rfl
theorem dX6_holdsOf_0 : decode cX6_holdsOf 0 = .ok (.aload_n 0, 1) := dk_42 (dk_at dksX6_holdsOf_0 0 rfl rfl)
theorem dX6_holdsOf_1 : decode cX6_holdsOf 1 = .ok (.iload_n 1, 1) := dk_27 (dk_at dksX6_holdsOf_0 1 rfl rfl)
theorem dX6_holdsOf_2 : decode cX6_holdsOf 2 = .ok (.iload_n 2, 1) := dk_28 (dk_at dksX6_holdsOf_0 2 rfl rfl)
theorem dX6_holdsOf_3 : decode cX6_holdsOf 3 = .ok (.iconst 0, 1) := dk_3 (dk_at dksX6_holdsOf_0 3 rfl rfl)
theorem dX6_holdsOf_4 : decode cX6_holdsOf 4 = .ok (.iconst 1, 1) := dk_4 (dk_at dksX6_holdsOf_0 4 rfl rfl)
theorem dX6_holdsOf_5 : decode cX6_holdsOf 5 = .ok (.invokevirtual 338, 3) := dk_182 1 82 (dk_at dksX6_holdsOf_0 5 rfl rfl)
theorem dX6_holdsOf_8 : decode cX6_holdsOf 8 = .ok (.aload_n 0, 1) := dk_42 (dk_at dksX6_holdsOf_0 8 rfl rfl)
theorem dX6_holdsOf_9 : decode cX6_holdsOf 9 = .ok (.iconst 1, 1) := dk_4 (dk_at dksX6_holdsOf_0 9 rfl rfl)
theorem dX6_holdsOf_10 : decode cX6_holdsOf 10 = .ok (.bipush 100, 2) := dk_16 100 (dk_at dksX6_holdsOf_0 10 rfl rfl)
theorem dX6_holdsOf_12 : decode cX6_holdsOf 12 = .ok (.bipush 10, 2) := dk_16 10 (dk_at dksX6_holdsOf_0 12 rfl rfl)
theorem dX6_holdsOf_14 : decode cX6_holdsOf 14 = .ok (.aload_n 0, 1) := dk_42 (dk_at dksX6_holdsOf_0 14 rfl rfl)
theorem dX6_holdsOf_15 : decode cX6_holdsOf 15 = .ok (.getfield 7, 3) := dk_180 0 7 (dk_at dksX6_holdsOf_0 15 rfl rfl)
theorem dX6_holdsOf_18 : decode cX6_holdsOf 18 = .ok (.bipush 89, 2) := dk_16 89 (dk_at dksX6_holdsOf_0 18 rfl rfl)
theorem dX6_holdsOf_20 : decode cX6_holdsOf 20 = .ok (.iload_n 1, 1) := dk_27 (dk_at dksX6_holdsOf_0 20 rfl rfl)
theorem dX6_holdsOf_21 : decode cX6_holdsOf 21 = .ok (.iadd, 1) := dk_96 (dk_at dksX6_holdsOf_0 21 rfl rfl)
theorem dX6_holdsOf_22 : decode cX6_holdsOf 22 = .ok (.iaload, 1) := dk_46 (dk_at dksX6_holdsOf_0 22 rfl rfl)
theorem dX6_holdsOf_23 : decode cX6_holdsOf 23 = .ok (.imul, 1) := dk_104 (dk_at dksX6_holdsOf_0 23 rfl rfl)
theorem dX6_holdsOf_24 : decode cX6_holdsOf 24 = .ok (.isub, 1) := dk_100 (dk_at dksX6_holdsOf_1 0 rfl rfl)
theorem dX6_holdsOf_25 : decode cX6_holdsOf 25 = .ok (.sipush 1000, 3) := dk_17 3 232 (dk_at dksX6_holdsOf_1 1 rfl rfl)
theorem dX6_holdsOf_28 : decode cX6_holdsOf 28 = .ok (.invokevirtual 342, 3) := dk_182 1 86 (dk_at dksX6_holdsOf_1 4 rfl rfl)
theorem dX6_holdsOf_31 : decode cX6_holdsOf 31 = .ok (.ireturn, 1) := dk_172 (dk_at dksX6_holdsOf_1 7 rfl rfl)
abbrev cX6_draw : ByteArray := prog_22_method_16_code
def yX6_draw : MethodName := ⟨RX6, "draw", "(I)I"⟩
def dkwX6_draw_1 : List UInt8 := [16, 8, 124, 27, 112, 172]
abbrev dktX6_draw_1 : List UInt8 := dkwX6_draw_1 ++ []
def dkwX6_draw_0 : List UInt8 := [42, 180, 0, 7, 4, 18, 133, 42, 180, 0, 7, 4, 46, 104, 18, 134, 96, 79, 42, 180, 0, 7, 4, 46]
abbrev dktX6_draw_0 : List UInt8 := dkwX6_draw_0 ++ dktX6_draw_1
theorem dksX6_draw_0 : cX6_draw.data.toList.drop 0 = dktX6_draw_0 := by decide +kernel
theorem dksX6_draw_1 : cX6_draw.data.toList.drop 24 = dktX6_draw_1 := dk_seg dksX6_draw_0 24 rfl rfl
theorem dX6_draw_0 : decode cX6_draw 0 = .ok (.aload_n 0, 1) := dk_42 (dk_at dksX6_draw_0 0 rfl rfl)
theorem dX6_draw_1 : decode cX6_draw 1 = .ok (.getfield 7, 3) := dk_180 0 7 (dk_at dksX6_draw_0 1 rfl rfl)
theorem dX6_draw_4 : decode cX6_draw 4 = .ok (.iconst 1, 1) := dk_4 (dk_at dksX6_draw_0 4 rfl rfl)
theorem dX6_draw_5 : decode cX6_draw 5 = .ok (.ldc 133, 2) := dk_18 133 (dk_at dksX6_draw_0 5 rfl rfl)
theorem dX6_draw_7 : decode cX6_draw 7 = .ok (.aload_n 0, 1) := dk_42 (dk_at dksX6_draw_0 7 rfl rfl)
theorem dX6_draw_8 : decode cX6_draw 8 = .ok (.getfield 7, 3) := dk_180 0 7 (dk_at dksX6_draw_0 8 rfl rfl)
theorem dX6_draw_11 : decode cX6_draw 11 = .ok (.iconst 1, 1) := dk_4 (dk_at dksX6_draw_0 11 rfl rfl)
theorem dX6_draw_12 : decode cX6_draw 12 = .ok (.iaload, 1) := dk_46 (dk_at dksX6_draw_0 12 rfl rfl)
theorem dX6_draw_13 : decode cX6_draw 13 = .ok (.imul, 1) := dk_104 (dk_at dksX6_draw_0 13 rfl rfl)
theorem dX6_draw_14 : decode cX6_draw 14 = .ok (.ldc 134, 2) := dk_18 134 (dk_at dksX6_draw_0 14 rfl rfl)
theorem dX6_draw_16 : decode cX6_draw 16 = .ok (.iadd, 1) := dk_96 (dk_at dksX6_draw_0 16 rfl rfl)
theorem dX6_draw_17 : decode cX6_draw 17 = .ok (.iastore, 1) := dk_79 (dk_at dksX6_draw_0 17 rfl rfl)
theorem dX6_draw_18 : decode cX6_draw 18 = .ok (.aload_n 0, 1) := dk_42 (dk_at dksX6_draw_0 18 rfl rfl)
theorem dX6_draw_19 : decode cX6_draw 19 = .ok (.getfield 7, 3) := dk_180 0 7 (dk_at dksX6_draw_0 19 rfl rfl)
theorem dX6_draw_22 : decode cX6_draw 22 = .ok (.iconst 1, 1) := dk_4 (dk_at dksX6_draw_0 22 rfl rfl)
theorem dX6_draw_23 : decode cX6_draw 23 = .ok (.iaload, 1) := dk_46 (dk_at dksX6_draw_0 23 rfl rfl)
theorem dX6_draw_24 : decode cX6_draw 24 = .ok (.bipush 8, 2) := dk_16 8 (dk_at dksX6_draw_1 0 rfl rfl)
theorem dX6_draw_26 : decode cX6_draw 26 = .ok (.iushr, 1) := dk_124 (dk_at dksX6_draw_1 2 rfl rfl)
theorem dX6_draw_27 : decode cX6_draw 27 = .ok (.iload_n 1, 1) := dk_27 (dk_at dksX6_draw_1 3 rfl rfl)
theorem dX6_draw_28 : decode cX6_draw 28 = .ok (.irem, 1) := dk_112 (dk_at dksX6_draw_1 4 rfl rfl)
theorem dX6_draw_29 : decode cX6_draw 29 = .ok (.ireturn, 1) := dk_172 (dk_at dksX6_draw_1 5 rfl rfl)
abbrev cX6_putBack : ByteArray := prog_22_method_74_code
def yX6_putBack : MethodName := ⟨RX6, "putBack", "(III)V"⟩
def dkwX6_putBack_3 : List UInt8 := [132, 4, 1, 167, 255, 187, 42, 180, 0, 7, 6, 42, 180, 0, 7, 6, 46, 29, 100, 79, 177]
abbrev dktX6_putBack_3 : List UInt8 := dkwX6_putBack_3 ++ []
def dkwX6_putBack_2 : List UInt8 := [182, 1, 63, 42, 180, 0, 80, 21, 4, 46, 96, 42, 180, 0, 77, 21, 4, 46, 100, 182, 0, 149]
abbrev dktX6_putBack_2 : List UInt8 := dkwX6_putBack_2 ++ dktX6_putBack_3
def dkwX6_putBack_1 : List UInt8 := [21, 4, 46, 96, 42, 180, 0, 80, 21, 4, 46, 100, 182, 0, 149, 42, 28, 21, 4, 42, 28, 21, 4]
abbrev dktX6_putBack_1 : List UInt8 := dkwX6_putBack_1 ++ dktX6_putBack_2
def dkwX6_putBack_0 : List UInt8 := [3, 54, 4, 21, 4, 8, 162, 0, 69, 42, 27, 21, 4, 42, 27, 21, 4, 182, 1, 63, 42, 180, 0, 77]
abbrev dktX6_putBack_0 : List UInt8 := dkwX6_putBack_0 ++ dktX6_putBack_1
theorem dksX6_putBack_0 : cX6_putBack.data.toList.drop 0 = dktX6_putBack_0 := by decide +kernel
theorem dksX6_putBack_1 : cX6_putBack.data.toList.drop 24 = dktX6_putBack_1 := dk_seg dksX6_putBack_0 24 rfl rfl
theorem dksX6_putBack_2 : cX6_putBack.data.toList.drop 47 = dktX6_putBack_2 := dk_seg dksX6_putBack_1 23 rfl rfl
theorem dksX6_putBack_3 : cX6_putBack.data.toList.drop 69 = dktX6_putBack_3 := dk_seg dksX6_putBack_2 22 rfl rfl
theorem dX6_putBack_0 : decode cX6_putBack 0 = .ok (.iconst 0, 1) := dk_3 (dk_at dksX6_putBack_0 0 rfl rfl)
theorem dX6_putBack_1 : decode cX6_putBack 1 = .ok (.istore 4, 2) := dk_54 4 (dk_at dksX6_putBack_0 1 rfl rfl)
theorem dX6_putBack_3 : decode cX6_putBack 3 = .ok (.iload 4, 2) := dk_21 4 (dk_at dksX6_putBack_0 3 rfl rfl)
theorem dX6_putBack_5 : decode cX6_putBack 5 = .ok (.iconst 5, 1) := dk_8 (dk_at dksX6_putBack_0 5 rfl rfl)
theorem dX6_putBack_6 : decode cX6_putBack 6 = .ok (.if_icmp .ge 69, 3) := dk_162 0 69 (dk_at dksX6_putBack_0 6 rfl rfl)
theorem dX6_putBack_9 : decode cX6_putBack 9 = .ok (.aload_n 0, 1) := dk_42 (dk_at dksX6_putBack_0 9 rfl rfl)
theorem dX6_putBack_10 : decode cX6_putBack 10 = .ok (.iload_n 1, 1) := dk_27 (dk_at dksX6_putBack_0 10 rfl rfl)
theorem dX6_putBack_11 : decode cX6_putBack 11 = .ok (.iload 4, 2) := dk_21 4 (dk_at dksX6_putBack_0 11 rfl rfl)
theorem dX6_putBack_13 : decode cX6_putBack 13 = .ok (.aload_n 0, 1) := dk_42 (dk_at dksX6_putBack_0 13 rfl rfl)
theorem dX6_putBack_14 : decode cX6_putBack 14 = .ok (.iload_n 1, 1) := dk_27 (dk_at dksX6_putBack_0 14 rfl rfl)
theorem dX6_putBack_15 : decode cX6_putBack 15 = .ok (.iload 4, 2) := dk_21 4 (dk_at dksX6_putBack_0 15 rfl rfl)
theorem dX6_putBack_17 : decode cX6_putBack 17 = .ok (.invokevirtual 319, 3) := dk_182 1 63 (dk_at dksX6_putBack_0 17 rfl rfl)
theorem dX6_putBack_20 : decode cX6_putBack 20 = .ok (.aload_n 0, 1) := dk_42 (dk_at dksX6_putBack_0 20 rfl rfl)
theorem dX6_putBack_21 : decode cX6_putBack 21 = .ok (.getfield 77, 3) := dk_180 0 77 (dk_at dksX6_putBack_0 21 rfl rfl)
theorem dX6_putBack_24 : decode cX6_putBack 24 = .ok (.iload 4, 2) := dk_21 4 (dk_at dksX6_putBack_1 0 rfl rfl)
theorem dX6_putBack_26 : decode cX6_putBack 26 = .ok (.iaload, 1) := dk_46 (dk_at dksX6_putBack_1 2 rfl rfl)
theorem dX6_putBack_27 : decode cX6_putBack 27 = .ok (.iadd, 1) := dk_96 (dk_at dksX6_putBack_1 3 rfl rfl)
theorem dX6_putBack_28 : decode cX6_putBack 28 = .ok (.aload_n 0, 1) := dk_42 (dk_at dksX6_putBack_1 4 rfl rfl)
theorem dX6_putBack_29 : decode cX6_putBack 29 = .ok (.getfield 80, 3) := dk_180 0 80 (dk_at dksX6_putBack_1 5 rfl rfl)
theorem dX6_putBack_32 : decode cX6_putBack 32 = .ok (.iload 4, 2) := dk_21 4 (dk_at dksX6_putBack_1 8 rfl rfl)
theorem dX6_putBack_34 : decode cX6_putBack 34 = .ok (.iaload, 1) := dk_46 (dk_at dksX6_putBack_1 10 rfl rfl)
theorem dX6_putBack_35 : decode cX6_putBack 35 = .ok (.isub, 1) := dk_100 (dk_at dksX6_putBack_1 11 rfl rfl)
theorem dX6_putBack_36 : decode cX6_putBack 36 = .ok (.invokevirtual 149, 3) := dk_182 0 149 (dk_at dksX6_putBack_1 12 rfl rfl)
theorem dX6_putBack_39 : decode cX6_putBack 39 = .ok (.aload_n 0, 1) := dk_42 (dk_at dksX6_putBack_1 15 rfl rfl)
theorem dX6_putBack_40 : decode cX6_putBack 40 = .ok (.iload_n 2, 1) := dk_28 (dk_at dksX6_putBack_1 16 rfl rfl)
theorem dX6_putBack_41 : decode cX6_putBack 41 = .ok (.iload 4, 2) := dk_21 4 (dk_at dksX6_putBack_1 17 rfl rfl)
theorem dX6_putBack_43 : decode cX6_putBack 43 = .ok (.aload_n 0, 1) := dk_42 (dk_at dksX6_putBack_1 19 rfl rfl)
theorem dX6_putBack_44 : decode cX6_putBack 44 = .ok (.iload_n 2, 1) := dk_28 (dk_at dksX6_putBack_1 20 rfl rfl)
theorem dX6_putBack_45 : decode cX6_putBack 45 = .ok (.iload 4, 2) := dk_21 4 (dk_at dksX6_putBack_1 21 rfl rfl)
theorem dX6_putBack_47 : decode cX6_putBack 47 = .ok (.invokevirtual 319, 3) := dk_182 1 63 (dk_at dksX6_putBack_2 0 rfl rfl)
theorem dX6_putBack_50 : decode cX6_putBack 50 = .ok (.aload_n 0, 1) := dk_42 (dk_at dksX6_putBack_2 3 rfl rfl)
theorem dX6_putBack_51 : decode cX6_putBack 51 = .ok (.getfield 80, 3) := dk_180 0 80 (dk_at dksX6_putBack_2 4 rfl rfl)
theorem dX6_putBack_54 : decode cX6_putBack 54 = .ok (.iload 4, 2) := dk_21 4 (dk_at dksX6_putBack_2 7 rfl rfl)
theorem dX6_putBack_56 : decode cX6_putBack 56 = .ok (.iaload, 1) := dk_46 (dk_at dksX6_putBack_2 9 rfl rfl)
theorem dX6_putBack_57 : decode cX6_putBack 57 = .ok (.iadd, 1) := dk_96 (dk_at dksX6_putBack_2 10 rfl rfl)
theorem dX6_putBack_58 : decode cX6_putBack 58 = .ok (.aload_n 0, 1) := dk_42 (dk_at dksX6_putBack_2 11 rfl rfl)
theorem dX6_putBack_59 : decode cX6_putBack 59 = .ok (.getfield 77, 3) := dk_180 0 77 (dk_at dksX6_putBack_2 12 rfl rfl)
theorem dX6_putBack_62 : decode cX6_putBack 62 = .ok (.iload 4, 2) := dk_21 4 (dk_at dksX6_putBack_2 15 rfl rfl)
theorem dX6_putBack_64 : decode cX6_putBack 64 = .ok (.iaload, 1) := dk_46 (dk_at dksX6_putBack_2 17 rfl rfl)
theorem dX6_putBack_65 : decode cX6_putBack 65 = .ok (.isub, 1) := dk_100 (dk_at dksX6_putBack_2 18 rfl rfl)
theorem dX6_putBack_66 : decode cX6_putBack 66 = .ok (.invokevirtual 149, 3) := dk_182 0 149 (dk_at dksX6_putBack_2 19 rfl rfl)
theorem dX6_putBack_69 : decode cX6_putBack 69 = .ok (.iinc 4 1, 3) := dk_132 4 1 (dk_at dksX6_putBack_3 0 rfl rfl)
theorem dX6_putBack_72 : decode cX6_putBack 72 = .ok (.goto (-69), 3) := dk_167 255 187 (dk_at dksX6_putBack_3 3 rfl rfl)
theorem dX6_putBack_75 : decode cX6_putBack 75 = .ok (.aload_n 0, 1) := dk_42 (dk_at dksX6_putBack_3 6 rfl rfl)
theorem dX6_putBack_76 : decode cX6_putBack 76 = .ok (.getfield 7, 3) := dk_180 0 7 (dk_at dksX6_putBack_3 7 rfl rfl)
theorem dX6_putBack_79 : decode cX6_putBack 79 = .ok (.iconst 3, 1) := dk_6 (dk_at dksX6_putBack_3 10 rfl rfl)
theorem dX6_putBack_80 : decode cX6_putBack 80 = .ok (.aload_n 0, 1) := dk_42 (dk_at dksX6_putBack_3 11 rfl rfl)
theorem dX6_putBack_81 : decode cX6_putBack 81 = .ok (.getfield 7, 3) := dk_180 0 7 (dk_at dksX6_putBack_3 12 rfl rfl)
theorem dX6_putBack_84 : decode cX6_putBack 84 = .ok (.iconst 3, 1) := dk_6 (dk_at dksX6_putBack_3 15 rfl rfl)
theorem dX6_putBack_85 : decode cX6_putBack 85 = .ok (.iaload, 1) := dk_46 (dk_at dksX6_putBack_3 16 rfl rfl)
theorem dX6_putBack_86 : decode cX6_putBack 86 = .ok (.iload_n 3, 1) := dk_29 (dk_at dksX6_putBack_3 17 rfl rfl)
theorem dX6_putBack_87 : decode cX6_putBack 87 = .ok (.isub, 1) := dk_100 (dk_at dksX6_putBack_3 18 rfl rfl)
theorem dX6_putBack_88 : decode cX6_putBack 88 = .ok (.iastore, 1) := dk_79 (dk_at dksX6_putBack_3 19 rfl rfl)
theorem dX6_putBack_89 : decode cX6_putBack 89 = .ok (.return_, 1) := dk_177 (dk_at dksX6_putBack_3 20 rfl rfl)
abbrev cX6_clasp : ByteArray := prog_22_method_82_code
def yX6_clasp : MethodName := ⟨RX6, "clasp", "(III)I"⟩
def dkwX6_clasp_2 : List UInt8 := [27, 28, 182, 1, 95, 42, 27, 28, 182, 1, 131, 172]
abbrev dktX6_clasp_2 : List UInt8 := dkwX6_clasp_2 ++ []
def dkwX6_clasp_1 : List UInt8 := [154, 0, 5, 2, 172, 42, 182, 1, 138, 42, 29, 3, 2, 182, 1, 122, 42, 27, 28, 182, 1, 128, 42, 4]
abbrev dktX6_clasp_1 : List UInt8 := dkwX6_clasp_1 ++ dktX6_clasp_2
def dkwX6_clasp_0 : List UInt8 := [42, 3, 181, 0, 122, 42, 29, 4, 16, 9, 182, 0, 145, 153, 0, 12, 42, 27, 28, 182, 1, 119]
abbrev dktX6_clasp_0 : List UInt8 := dkwX6_clasp_0 ++ dktX6_clasp_1
theorem dksX6_clasp_0 : cX6_clasp.data.toList.drop 0 = dktX6_clasp_0 := by decide +kernel
theorem dksX6_clasp_1 : cX6_clasp.data.toList.drop 22 = dktX6_clasp_1 := dk_seg dksX6_clasp_0 22 rfl rfl
theorem dksX6_clasp_2 : cX6_clasp.data.toList.drop 46 = dktX6_clasp_2 := dk_seg dksX6_clasp_1 24 rfl rfl
theorem dX6_clasp_0 : decode cX6_clasp 0 = .ok (.aload_n 0, 1) := dk_42 (dk_at dksX6_clasp_0 0 rfl rfl)
theorem dX6_clasp_1 : decode cX6_clasp 1 = .ok (.iconst 0, 1) := dk_3 (dk_at dksX6_clasp_0 1 rfl rfl)
theorem dX6_clasp_2 : decode cX6_clasp 2 = .ok (.putfield 122, 3) := dk_181 0 122 (dk_at dksX6_clasp_0 2 rfl rfl)
theorem dX6_clasp_5 : decode cX6_clasp 5 = .ok (.aload_n 0, 1) := dk_42 (dk_at dksX6_clasp_0 5 rfl rfl)
theorem dX6_clasp_6 : decode cX6_clasp 6 = .ok (.iload_n 3, 1) := dk_29 (dk_at dksX6_clasp_0 6 rfl rfl)
theorem dX6_clasp_7 : decode cX6_clasp 7 = .ok (.iconst 1, 1) := dk_4 (dk_at dksX6_clasp_0 7 rfl rfl)
theorem dX6_clasp_8 : decode cX6_clasp 8 = .ok (.bipush 9, 2) := dk_16 9 (dk_at dksX6_clasp_0 8 rfl rfl)
theorem dX6_clasp_10 : decode cX6_clasp 10 = .ok (.invokevirtual 145, 3) := dk_182 0 145 (dk_at dksX6_clasp_0 10 rfl rfl)
theorem dX6_clasp_13 : decode cX6_clasp 13 = .ok (.ifCond .eq 12, 3) := dk_153 0 12 (dk_at dksX6_clasp_0 13 rfl rfl)
theorem dX6_clasp_16 : decode cX6_clasp 16 = .ok (.aload_n 0, 1) := dk_42 (dk_at dksX6_clasp_0 16 rfl rfl)
theorem dX6_clasp_17 : decode cX6_clasp 17 = .ok (.iload_n 1, 1) := dk_27 (dk_at dksX6_clasp_0 17 rfl rfl)
theorem dX6_clasp_18 : decode cX6_clasp 18 = .ok (.iload_n 2, 1) := dk_28 (dk_at dksX6_clasp_0 18 rfl rfl)
theorem dX6_clasp_19 : decode cX6_clasp 19 = .ok (.invokevirtual 375, 3) := dk_182 1 119 (dk_at dksX6_clasp_0 19 rfl rfl)
theorem dX6_clasp_22 : decode cX6_clasp 22 = .ok (.ifCond .ne 5, 3) := dk_154 0 5 (dk_at dksX6_clasp_1 0 rfl rfl)
theorem dX6_clasp_25 : decode cX6_clasp 25 = .ok (.iconst (-1), 1) := dk_2 (dk_at dksX6_clasp_1 3 rfl rfl)
theorem dX6_clasp_26 : decode cX6_clasp 26 = .ok (.ireturn, 1) := dk_172 (dk_at dksX6_clasp_1 4 rfl rfl)
theorem dX6_clasp_27 : decode cX6_clasp 27 = .ok (.aload_n 0, 1) := dk_42 (dk_at dksX6_clasp_1 5 rfl rfl)
theorem dX6_clasp_28 : decode cX6_clasp 28 = .ok (.invokevirtual 394, 3) := dk_182 1 138 (dk_at dksX6_clasp_1 6 rfl rfl)
theorem dX6_clasp_31 : decode cX6_clasp 31 = .ok (.aload_n 0, 1) := dk_42 (dk_at dksX6_clasp_1 9 rfl rfl)
theorem dX6_clasp_32 : decode cX6_clasp 32 = .ok (.iload_n 3, 1) := dk_29 (dk_at dksX6_clasp_1 10 rfl rfl)
theorem dX6_clasp_33 : decode cX6_clasp 33 = .ok (.iconst 0, 1) := dk_3 (dk_at dksX6_clasp_1 11 rfl rfl)
theorem dX6_clasp_34 : decode cX6_clasp 34 = .ok (.iconst (-1), 1) := dk_2 (dk_at dksX6_clasp_1 12 rfl rfl)
theorem dX6_clasp_35 : decode cX6_clasp 35 = .ok (.invokevirtual 378, 3) := dk_182 1 122 (dk_at dksX6_clasp_1 13 rfl rfl)
theorem dX6_clasp_38 : decode cX6_clasp 38 = .ok (.aload_n 0, 1) := dk_42 (dk_at dksX6_clasp_1 16 rfl rfl)
theorem dX6_clasp_39 : decode cX6_clasp 39 = .ok (.iload_n 1, 1) := dk_27 (dk_at dksX6_clasp_1 17 rfl rfl)
theorem dX6_clasp_40 : decode cX6_clasp 40 = .ok (.iload_n 2, 1) := dk_28 (dk_at dksX6_clasp_1 18 rfl rfl)
theorem dX6_clasp_41 : decode cX6_clasp 41 = .ok (.invokevirtual 384, 3) := dk_182 1 128 (dk_at dksX6_clasp_1 19 rfl rfl)
theorem dX6_clasp_44 : decode cX6_clasp 44 = .ok (.aload_n 0, 1) := dk_42 (dk_at dksX6_clasp_1 22 rfl rfl)
theorem dX6_clasp_45 : decode cX6_clasp 45 = .ok (.iconst 1, 1) := dk_4 (dk_at dksX6_clasp_1 23 rfl rfl)
theorem dX6_clasp_46 : decode cX6_clasp 46 = .ok (.iload_n 1, 1) := dk_27 (dk_at dksX6_clasp_2 0 rfl rfl)
theorem dX6_clasp_47 : decode cX6_clasp 47 = .ok (.iload_n 2, 1) := dk_28 (dk_at dksX6_clasp_2 1 rfl rfl)
theorem dX6_clasp_48 : decode cX6_clasp 48 = .ok (.invokevirtual 351, 3) := dk_182 1 95 (dk_at dksX6_clasp_2 2 rfl rfl)
theorem dX6_clasp_51 : decode cX6_clasp 51 = .ok (.aload_n 0, 1) := dk_42 (dk_at dksX6_clasp_2 5 rfl rfl)
theorem dX6_clasp_52 : decode cX6_clasp 52 = .ok (.iload_n 1, 1) := dk_27 (dk_at dksX6_clasp_2 6 rfl rfl)
theorem dX6_clasp_53 : decode cX6_clasp 53 = .ok (.iload_n 2, 1) := dk_28 (dk_at dksX6_clasp_2 7 rfl rfl)
theorem dX6_clasp_54 : decode cX6_clasp 54 = .ok (.invokevirtual 387, 3) := dk_182 1 131 (dk_at dksX6_clasp_2 8 rfl rfl)
theorem dX6_clasp_57 : decode cX6_clasp 57 = .ok (.ireturn, 1) := dk_172 (dk_at dksX6_clasp_2 11 rfl rfl)
abbrev cX6_hand : ByteArray := prog_22_method_83_code
def yX6_hand : MethodName := ⟨RX6, "hand", "(II)Z"⟩
def dkwX6_hand_2 : List UInt8 := [27, 96, 28, 79, 4, 172]
abbrev dktX6_hand_2 : List UInt8 := dkwX6_hand_2 ++ []
def dkwX6_hand_1 : List UInt8 := [180, 0, 7, 16, 77, 27, 96, 46, 28, 160, 0, 5, 3, 172, 42, 182, 1, 138, 42, 180, 0, 7, 16, 77]
abbrev dktX6_hand_1 : List UInt8 := dkwX6_hand_1 ++ dktX6_hand_2
def dkwX6_hand_0 : List UInt8 := [42, 3, 181, 0, 122, 42, 27, 182, 0, 153, 153, 0, 26, 42, 28, 3, 5, 182, 0, 145, 153, 0, 16, 42]
abbrev dktX6_hand_0 : List UInt8 := dkwX6_hand_0 ++ dktX6_hand_1
theorem dksX6_hand_0 : cX6_hand.data.toList.drop 0 = dktX6_hand_0 := by decide +kernel
theorem dksX6_hand_1 : cX6_hand.data.toList.drop 24 = dktX6_hand_1 := dk_seg dksX6_hand_0 24 rfl rfl
theorem dksX6_hand_2 : cX6_hand.data.toList.drop 48 = dktX6_hand_2 := dk_seg dksX6_hand_1 24 rfl rfl
theorem dX6_hand_0 : decode cX6_hand 0 = .ok (.aload_n 0, 1) := dk_42 (dk_at dksX6_hand_0 0 rfl rfl)
theorem dX6_hand_1 : decode cX6_hand 1 = .ok (.iconst 0, 1) := dk_3 (dk_at dksX6_hand_0 1 rfl rfl)
theorem dX6_hand_2 : decode cX6_hand 2 = .ok (.putfield 122, 3) := dk_181 0 122 (dk_at dksX6_hand_0 2 rfl rfl)
theorem dX6_hand_5 : decode cX6_hand 5 = .ok (.aload_n 0, 1) := dk_42 (dk_at dksX6_hand_0 5 rfl rfl)
theorem dX6_hand_6 : decode cX6_hand 6 = .ok (.iload_n 1, 1) := dk_27 (dk_at dksX6_hand_0 6 rfl rfl)
theorem dX6_hand_7 : decode cX6_hand 7 = .ok (.invokevirtual 153, 3) := dk_182 0 153 (dk_at dksX6_hand_0 7 rfl rfl)
theorem dX6_hand_10 : decode cX6_hand 10 = .ok (.ifCond .eq 26, 3) := dk_153 0 26 (dk_at dksX6_hand_0 10 rfl rfl)
theorem dX6_hand_13 : decode cX6_hand 13 = .ok (.aload_n 0, 1) := dk_42 (dk_at dksX6_hand_0 13 rfl rfl)
theorem dX6_hand_14 : decode cX6_hand 14 = .ok (.iload_n 2, 1) := dk_28 (dk_at dksX6_hand_0 14 rfl rfl)
theorem dX6_hand_15 : decode cX6_hand 15 = .ok (.iconst 0, 1) := dk_3 (dk_at dksX6_hand_0 15 rfl rfl)
theorem dX6_hand_16 : decode cX6_hand 16 = .ok (.iconst 2, 1) := dk_5 (dk_at dksX6_hand_0 16 rfl rfl)
theorem dX6_hand_17 : decode cX6_hand 17 = .ok (.invokevirtual 145, 3) := dk_182 0 145 (dk_at dksX6_hand_0 17 rfl rfl)
theorem dX6_hand_20 : decode cX6_hand 20 = .ok (.ifCond .eq 16, 3) := dk_153 0 16 (dk_at dksX6_hand_0 20 rfl rfl)
theorem dX6_hand_23 : decode cX6_hand 23 = .ok (.aload_n 0, 1) := dk_42 (dk_at dksX6_hand_0 23 rfl rfl)
theorem dX6_hand_24 : decode cX6_hand 24 = .ok (.getfield 7, 3) := dk_180 0 7 (dk_at dksX6_hand_1 0 rfl rfl)
theorem dX6_hand_27 : decode cX6_hand 27 = .ok (.bipush 77, 2) := dk_16 77 (dk_at dksX6_hand_1 3 rfl rfl)
theorem dX6_hand_29 : decode cX6_hand 29 = .ok (.iload_n 1, 1) := dk_27 (dk_at dksX6_hand_1 5 rfl rfl)
theorem dX6_hand_30 : decode cX6_hand 30 = .ok (.iadd, 1) := dk_96 (dk_at dksX6_hand_1 6 rfl rfl)
theorem dX6_hand_31 : decode cX6_hand 31 = .ok (.iaload, 1) := dk_46 (dk_at dksX6_hand_1 7 rfl rfl)
theorem dX6_hand_32 : decode cX6_hand 32 = .ok (.iload_n 2, 1) := dk_28 (dk_at dksX6_hand_1 8 rfl rfl)
theorem dX6_hand_33 : decode cX6_hand 33 = .ok (.if_icmp .ne 5, 3) := dk_160 0 5 (dk_at dksX6_hand_1 9 rfl rfl)
theorem dX6_hand_36 : decode cX6_hand 36 = .ok (.iconst 0, 1) := dk_3 (dk_at dksX6_hand_1 12 rfl rfl)
theorem dX6_hand_37 : decode cX6_hand 37 = .ok (.ireturn, 1) := dk_172 (dk_at dksX6_hand_1 13 rfl rfl)
theorem dX6_hand_38 : decode cX6_hand 38 = .ok (.aload_n 0, 1) := dk_42 (dk_at dksX6_hand_1 14 rfl rfl)
theorem dX6_hand_39 : decode cX6_hand 39 = .ok (.invokevirtual 394, 3) := dk_182 1 138 (dk_at dksX6_hand_1 15 rfl rfl)
theorem dX6_hand_42 : decode cX6_hand 42 = .ok (.aload_n 0, 1) := dk_42 (dk_at dksX6_hand_1 18 rfl rfl)
theorem dX6_hand_43 : decode cX6_hand 43 = .ok (.getfield 7, 3) := dk_180 0 7 (dk_at dksX6_hand_1 19 rfl rfl)
theorem dX6_hand_46 : decode cX6_hand 46 = .ok (.bipush 77, 2) := dk_16 77 (dk_at dksX6_hand_1 22 rfl rfl)
theorem dX6_hand_48 : decode cX6_hand 48 = .ok (.iload_n 1, 1) := dk_27 (dk_at dksX6_hand_2 0 rfl rfl)
theorem dX6_hand_49 : decode cX6_hand 49 = .ok (.iadd, 1) := dk_96 (dk_at dksX6_hand_2 1 rfl rfl)
theorem dX6_hand_50 : decode cX6_hand 50 = .ok (.iload_n 2, 1) := dk_28 (dk_at dksX6_hand_2 2 rfl rfl)
theorem dX6_hand_51 : decode cX6_hand 51 = .ok (.iastore, 1) := dk_79 (dk_at dksX6_hand_2 3 rfl rfl)
theorem dX6_hand_52 : decode cX6_hand 52 = .ok (.iconst 1, 1) := dk_4 (dk_at dksX6_hand_2 4 rfl rfl)
theorem dX6_hand_53 : decode cX6_hand 53 = .ok (.ireturn, 1) := dk_172 (dk_at dksX6_hand_2 5 rfl rfl)
abbrev cX6_days : ByteArray := prog_22_method_86_code
def yX6_days : MethodName := ⟨RX6, "days", "(I)I"⟩
def dkwX6_days_2 : List UInt8 := [182, 1, 148, 96, 61, 132, 3, 1, 167, 255, 237, 28, 172]
abbrev dktX6_days_2 : List UInt8 := dkwX6_days_2 ++ []
def dkwX6_days_1 : List UInt8 := [17, 39, 15, 164, 0, 5, 2, 172, 3, 61, 3, 62, 29, 27, 162, 0, 20, 42, 182, 1, 138, 28, 42]
abbrev dktX6_days_1 : List UInt8 := dkwX6_days_1 ++ dktX6_days_2
def dkwX6_days_0 : List UInt8 := [42, 3, 181, 0, 122, 42, 27, 4, 16, 60, 182, 0, 145, 153, 0, 17, 42, 180, 0, 7, 3, 46, 27, 96]
abbrev dktX6_days_0 : List UInt8 := dkwX6_days_0 ++ dktX6_days_1
theorem dksX6_days_0 : cX6_days.data.toList.drop 0 = dktX6_days_0 := by decide +kernel
theorem dksX6_days_1 : cX6_days.data.toList.drop 24 = dktX6_days_1 := dk_seg dksX6_days_0 24 rfl rfl
theorem dksX6_days_2 : cX6_days.data.toList.drop 47 = dktX6_days_2 := dk_seg dksX6_days_1 23 rfl rfl
theorem dX6_days_0 : decode cX6_days 0 = .ok (.aload_n 0, 1) := dk_42 (dk_at dksX6_days_0 0 rfl rfl)
theorem dX6_days_1 : decode cX6_days 1 = .ok (.iconst 0, 1) := dk_3 (dk_at dksX6_days_0 1 rfl rfl)
theorem dX6_days_2 : decode cX6_days 2 = .ok (.putfield 122, 3) := dk_181 0 122 (dk_at dksX6_days_0 2 rfl rfl)
theorem dX6_days_5 : decode cX6_days 5 = .ok (.aload_n 0, 1) := dk_42 (dk_at dksX6_days_0 5 rfl rfl)
theorem dX6_days_6 : decode cX6_days 6 = .ok (.iload_n 1, 1) := dk_27 (dk_at dksX6_days_0 6 rfl rfl)
theorem dX6_days_7 : decode cX6_days 7 = .ok (.iconst 1, 1) := dk_4 (dk_at dksX6_days_0 7 rfl rfl)
theorem dX6_days_8 : decode cX6_days 8 = .ok (.bipush 60, 2) := dk_16 60 (dk_at dksX6_days_0 8 rfl rfl)
theorem dX6_days_10 : decode cX6_days 10 = .ok (.invokevirtual 145, 3) := dk_182 0 145 (dk_at dksX6_days_0 10 rfl rfl)
theorem dX6_days_13 : decode cX6_days 13 = .ok (.ifCond .eq 17, 3) := dk_153 0 17 (dk_at dksX6_days_0 13 rfl rfl)
theorem dX6_days_16 : decode cX6_days 16 = .ok (.aload_n 0, 1) := dk_42 (dk_at dksX6_days_0 16 rfl rfl)
theorem dX6_days_17 : decode cX6_days 17 = .ok (.getfield 7, 3) := dk_180 0 7 (dk_at dksX6_days_0 17 rfl rfl)
theorem dX6_days_20 : decode cX6_days 20 = .ok (.iconst 0, 1) := dk_3 (dk_at dksX6_days_0 20 rfl rfl)
theorem dX6_days_21 : decode cX6_days 21 = .ok (.iaload, 1) := dk_46 (dk_at dksX6_days_0 21 rfl rfl)
theorem dX6_days_22 : decode cX6_days 22 = .ok (.iload_n 1, 1) := dk_27 (dk_at dksX6_days_0 22 rfl rfl)
theorem dX6_days_23 : decode cX6_days 23 = .ok (.iadd, 1) := dk_96 (dk_at dksX6_days_0 23 rfl rfl)
theorem dX6_days_24 : decode cX6_days 24 = .ok (.sipush 9999, 3) := dk_17 39 15 (dk_at dksX6_days_1 0 rfl rfl)
theorem dX6_days_27 : decode cX6_days 27 = .ok (.if_icmp .le 5, 3) := dk_164 0 5 (dk_at dksX6_days_1 3 rfl rfl)
theorem dX6_days_30 : decode cX6_days 30 = .ok (.iconst (-1), 1) := dk_2 (dk_at dksX6_days_1 6 rfl rfl)
theorem dX6_days_31 : decode cX6_days 31 = .ok (.ireturn, 1) := dk_172 (dk_at dksX6_days_1 7 rfl rfl)
theorem dX6_days_32 : decode cX6_days 32 = .ok (.iconst 0, 1) := dk_3 (dk_at dksX6_days_1 8 rfl rfl)
theorem dX6_days_33 : decode cX6_days 33 = .ok (.istore_n 2, 1) := dk_61 (dk_at dksX6_days_1 9 rfl rfl)
theorem dX6_days_34 : decode cX6_days 34 = .ok (.iconst 0, 1) := dk_3 (dk_at dksX6_days_1 10 rfl rfl)
theorem dX6_days_35 : decode cX6_days 35 = .ok (.istore_n 3, 1) := dk_62 (dk_at dksX6_days_1 11 rfl rfl)
theorem dX6_days_36 : decode cX6_days 36 = .ok (.iload_n 3, 1) := dk_29 (dk_at dksX6_days_1 12 rfl rfl)
theorem dX6_days_37 : decode cX6_days 37 = .ok (.iload_n 1, 1) := dk_27 (dk_at dksX6_days_1 13 rfl rfl)
theorem dX6_days_38 : decode cX6_days 38 = .ok (.if_icmp .ge 20, 3) := dk_162 0 20 (dk_at dksX6_days_1 14 rfl rfl)
theorem dX6_days_41 : decode cX6_days 41 = .ok (.aload_n 0, 1) := dk_42 (dk_at dksX6_days_1 17 rfl rfl)
theorem dX6_days_42 : decode cX6_days 42 = .ok (.invokevirtual 394, 3) := dk_182 1 138 (dk_at dksX6_days_1 18 rfl rfl)
theorem dX6_days_45 : decode cX6_days 45 = .ok (.iload_n 2, 1) := dk_28 (dk_at dksX6_days_1 21 rfl rfl)
theorem dX6_days_46 : decode cX6_days 46 = .ok (.aload_n 0, 1) := dk_42 (dk_at dksX6_days_1 22 rfl rfl)
theorem dX6_days_47 : decode cX6_days 47 = .ok (.invokevirtual 404, 3) := dk_182 1 148 (dk_at dksX6_days_2 0 rfl rfl)
theorem dX6_days_50 : decode cX6_days 50 = .ok (.iadd, 1) := dk_96 (dk_at dksX6_days_2 3 rfl rfl)
theorem dX6_days_51 : decode cX6_days 51 = .ok (.istore_n 2, 1) := dk_61 (dk_at dksX6_days_2 4 rfl rfl)
theorem dX6_days_52 : decode cX6_days 52 = .ok (.iinc 3 1, 3) := dk_132 3 1 (dk_at dksX6_days_2 5 rfl rfl)
theorem dX6_days_55 : decode cX6_days 55 = .ok (.goto (-19), 3) := dk_167 255 237 (dk_at dksX6_days_2 8 rfl rfl)
theorem dX6_days_58 : decode cX6_days 58 = .ok (.iload_n 2, 1) := dk_28 (dk_at dksX6_days_2 11 rfl rfl)
theorem dX6_days_59 : decode cX6_days 59 = .ok (.ireturn, 1) := dk_172 (dk_at dksX6_days_2 12 rfl rfl)
abbrev cX6_goesBy : ByteArray := prog_22_method_85_code
def yX6_goesBy : MethodName := ⟨RX6, "goesBy", "()I"⟩
def dkwX6_goesBy_7 : List UInt8 := [180, 0, 7, 3, 46, 4, 96, 79, 27, 172]
abbrev dktX6_goesBy_7 : List UInt8 := dkwX6_goesBy_7 ++ []
def dkwX6_goesBy_6 : List UInt8 := [46, 182, 1, 141, 87, 27, 4, 96, 60, 28, 8, 96, 61, 167, 255, 144, 42, 180, 0, 7, 3, 42]
abbrev dktX6_goesBy_6 : List UInt8 := dkwX6_goesBy_6 ++ dktX6_goesBy_7
def dkwX6_goesBy_5 : List UInt8 := [46, 42, 180, 0, 62, 28, 5, 96, 46, 42, 180, 0, 62, 28, 6, 96, 46, 42, 180, 0, 62, 28, 7, 96]
abbrev dktX6_goesBy_5 : List UInt8 := dkwX6_goesBy_5 ++ dktX6_goesBy_6
def dkwX6_goesBy_4 : List UInt8 := [180, 0, 62, 28, 7, 96, 46, 182, 1, 134, 154, 0, 6, 167, 0, 44, 42, 42, 180, 0, 62, 28, 4, 96]
abbrev dktX6_goesBy_4 : List UInt8 := dkwX6_goesBy_4 ++ dktX6_goesBy_5
def dkwX6_goesBy_3 : List UInt8 := [180, 0, 62, 28, 4, 96, 46, 42, 180, 0, 62, 28, 5, 96, 46, 42, 180, 0, 62, 28, 6, 96, 46, 42]
abbrev dktX6_goesBy_3 : List UInt8 := dkwX6_goesBy_3 ++ dktX6_goesBy_4
def dkwX6_goesBy_2 : List UInt8 := [180, 1, 39, 104, 162, 0, 108, 42, 180, 0, 62, 28, 46, 42, 180, 0, 7, 3, 46, 160, 0, 86, 42, 42]
abbrev dktX6_goesBy_2 : List UInt8 := dkwX6_goesBy_2 ++ dktX6_goesBy_3
def dkwX6_goesBy_1 : List UInt8 := [160, 0, 8, 42, 27, 182, 1, 145, 27, 8, 96, 60, 167, 255, 222, 3, 60, 3, 61, 28, 8, 42]
abbrev dktX6_goesBy_1 : List UInt8 := dkwX6_goesBy_1 ++ dktX6_goesBy_2
def dkwX6_goesBy_0 : List UInt8 := [3, 60, 27, 8, 42, 180, 1, 42, 104, 162, 0, 30, 42, 180, 0, 65, 27, 46, 42, 180, 0, 7, 3, 46]
abbrev dktX6_goesBy_0 : List UInt8 := dkwX6_goesBy_0 ++ dktX6_goesBy_1
theorem dksX6_goesBy_0 : cX6_goesBy.data.toList.drop 0 = dktX6_goesBy_0 := by decide +kernel
theorem dksX6_goesBy_1 : cX6_goesBy.data.toList.drop 24 = dktX6_goesBy_1 := dk_seg dksX6_goesBy_0 24 rfl rfl
theorem dksX6_goesBy_2 : cX6_goesBy.data.toList.drop 46 = dktX6_goesBy_2 := dk_seg dksX6_goesBy_1 22 rfl rfl
theorem dksX6_goesBy_3 : cX6_goesBy.data.toList.drop 70 = dktX6_goesBy_3 := dk_seg dksX6_goesBy_2 24 rfl rfl
theorem dksX6_goesBy_4 : cX6_goesBy.data.toList.drop 94 = dktX6_goesBy_4 := dk_seg dksX6_goesBy_3 24 rfl rfl
theorem dksX6_goesBy_5 : cX6_goesBy.data.toList.drop 118 = dktX6_goesBy_5 := dk_seg dksX6_goesBy_4 24 rfl rfl
theorem dksX6_goesBy_6 : cX6_goesBy.data.toList.drop 142 = dktX6_goesBy_6 := dk_seg dksX6_goesBy_5 24 rfl rfl
theorem dksX6_goesBy_7 : cX6_goesBy.data.toList.drop 164 = dktX6_goesBy_7 := dk_seg dksX6_goesBy_6 22 rfl rfl
theorem dX6_goesBy_0 : decode cX6_goesBy 0 = .ok (.iconst 0, 1) := dk_3 (dk_at dksX6_goesBy_0 0 rfl rfl)
theorem dX6_goesBy_1 : decode cX6_goesBy 1 = .ok (.istore_n 1, 1) := dk_60 (dk_at dksX6_goesBy_0 1 rfl rfl)
theorem dX6_goesBy_2 : decode cX6_goesBy 2 = .ok (.iload_n 1, 1) := dk_27 (dk_at dksX6_goesBy_0 2 rfl rfl)
theorem dX6_goesBy_3 : decode cX6_goesBy 3 = .ok (.iconst 5, 1) := dk_8 (dk_at dksX6_goesBy_0 3 rfl rfl)
theorem dX6_goesBy_4 : decode cX6_goesBy 4 = .ok (.aload_n 0, 1) := dk_42 (dk_at dksX6_goesBy_0 4 rfl rfl)
theorem dX6_goesBy_5 : decode cX6_goesBy 5 = .ok (.getfield 298, 3) := dk_180 1 42 (dk_at dksX6_goesBy_0 5 rfl rfl)
theorem dX6_goesBy_8 : decode cX6_goesBy 8 = .ok (.imul, 1) := dk_104 (dk_at dksX6_goesBy_0 8 rfl rfl)
theorem dX6_goesBy_9 : decode cX6_goesBy 9 = .ok (.if_icmp .ge 30, 3) := dk_162 0 30 (dk_at dksX6_goesBy_0 9 rfl rfl)
theorem dX6_goesBy_12 : decode cX6_goesBy 12 = .ok (.aload_n 0, 1) := dk_42 (dk_at dksX6_goesBy_0 12 rfl rfl)
theorem dX6_goesBy_13 : decode cX6_goesBy 13 = .ok (.getfield 65, 3) := dk_180 0 65 (dk_at dksX6_goesBy_0 13 rfl rfl)
theorem dX6_goesBy_16 : decode cX6_goesBy 16 = .ok (.iload_n 1, 1) := dk_27 (dk_at dksX6_goesBy_0 16 rfl rfl)
theorem dX6_goesBy_17 : decode cX6_goesBy 17 = .ok (.iaload, 1) := dk_46 (dk_at dksX6_goesBy_0 17 rfl rfl)
theorem dX6_goesBy_18 : decode cX6_goesBy 18 = .ok (.aload_n 0, 1) := dk_42 (dk_at dksX6_goesBy_0 18 rfl rfl)
theorem dX6_goesBy_19 : decode cX6_goesBy 19 = .ok (.getfield 7, 3) := dk_180 0 7 (dk_at dksX6_goesBy_0 19 rfl rfl)
theorem dX6_goesBy_22 : decode cX6_goesBy 22 = .ok (.iconst 0, 1) := dk_3 (dk_at dksX6_goesBy_0 22 rfl rfl)
theorem dX6_goesBy_23 : decode cX6_goesBy 23 = .ok (.iaload, 1) := dk_46 (dk_at dksX6_goesBy_0 23 rfl rfl)
theorem dX6_goesBy_24 : decode cX6_goesBy 24 = .ok (.if_icmp .ne 8, 3) := dk_160 0 8 (dk_at dksX6_goesBy_1 0 rfl rfl)
theorem dX6_goesBy_27 : decode cX6_goesBy 27 = .ok (.aload_n 0, 1) := dk_42 (dk_at dksX6_goesBy_1 3 rfl rfl)
theorem dX6_goesBy_28 : decode cX6_goesBy 28 = .ok (.iload_n 1, 1) := dk_27 (dk_at dksX6_goesBy_1 4 rfl rfl)
theorem dX6_goesBy_29 : decode cX6_goesBy 29 = .ok (.invokevirtual 401, 3) := dk_182 1 145 (dk_at dksX6_goesBy_1 5 rfl rfl)
theorem dX6_goesBy_32 : decode cX6_goesBy 32 = .ok (.iload_n 1, 1) := dk_27 (dk_at dksX6_goesBy_1 8 rfl rfl)
theorem dX6_goesBy_33 : decode cX6_goesBy 33 = .ok (.iconst 5, 1) := dk_8 (dk_at dksX6_goesBy_1 9 rfl rfl)
theorem dX6_goesBy_34 : decode cX6_goesBy 34 = .ok (.iadd, 1) := dk_96 (dk_at dksX6_goesBy_1 10 rfl rfl)
theorem dX6_goesBy_35 : decode cX6_goesBy 35 = .ok (.istore_n 1, 1) := dk_60 (dk_at dksX6_goesBy_1 11 rfl rfl)
theorem dX6_goesBy_36 : decode cX6_goesBy 36 = .ok (.goto (-34), 3) := dk_167 255 222 (dk_at dksX6_goesBy_1 12 rfl rfl)
theorem dX6_goesBy_39 : decode cX6_goesBy 39 = .ok (.iconst 0, 1) := dk_3 (dk_at dksX6_goesBy_1 15 rfl rfl)
theorem dX6_goesBy_40 : decode cX6_goesBy 40 = .ok (.istore_n 1, 1) := dk_60 (dk_at dksX6_goesBy_1 16 rfl rfl)
theorem dX6_goesBy_41 : decode cX6_goesBy 41 = .ok (.iconst 0, 1) := dk_3 (dk_at dksX6_goesBy_1 17 rfl rfl)
theorem dX6_goesBy_42 : decode cX6_goesBy 42 = .ok (.istore_n 2, 1) := dk_61 (dk_at dksX6_goesBy_1 18 rfl rfl)
theorem dX6_goesBy_43 : decode cX6_goesBy 43 = .ok (.iload_n 2, 1) := dk_28 (dk_at dksX6_goesBy_1 19 rfl rfl)
theorem dX6_goesBy_44 : decode cX6_goesBy 44 = .ok (.iconst 5, 1) := dk_8 (dk_at dksX6_goesBy_1 20 rfl rfl)
theorem dX6_goesBy_45 : decode cX6_goesBy 45 = .ok (.aload_n 0, 1) := dk_42 (dk_at dksX6_goesBy_1 21 rfl rfl)
theorem dX6_goesBy_46 : decode cX6_goesBy 46 = .ok (.getfield 295, 3) := dk_180 1 39 (dk_at dksX6_goesBy_2 0 rfl rfl)
theorem dX6_goesBy_49 : decode cX6_goesBy 49 = .ok (.imul, 1) := dk_104 (dk_at dksX6_goesBy_2 3 rfl rfl)
theorem dX6_goesBy_50 : decode cX6_goesBy 50 = .ok (.if_icmp .ge 108, 3) := dk_162 0 108 (dk_at dksX6_goesBy_2 4 rfl rfl)
theorem dX6_goesBy_53 : decode cX6_goesBy 53 = .ok (.aload_n 0, 1) := dk_42 (dk_at dksX6_goesBy_2 7 rfl rfl)
theorem dX6_goesBy_54 : decode cX6_goesBy 54 = .ok (.getfield 62, 3) := dk_180 0 62 (dk_at dksX6_goesBy_2 8 rfl rfl)
theorem dX6_goesBy_57 : decode cX6_goesBy 57 = .ok (.iload_n 2, 1) := dk_28 (dk_at dksX6_goesBy_2 11 rfl rfl)
theorem dX6_goesBy_58 : decode cX6_goesBy 58 = .ok (.iaload, 1) := dk_46 (dk_at dksX6_goesBy_2 12 rfl rfl)
theorem dX6_goesBy_59 : decode cX6_goesBy 59 = .ok (.aload_n 0, 1) := dk_42 (dk_at dksX6_goesBy_2 13 rfl rfl)
theorem dX6_goesBy_60 : decode cX6_goesBy 60 = .ok (.getfield 7, 3) := dk_180 0 7 (dk_at dksX6_goesBy_2 14 rfl rfl)
theorem dX6_goesBy_63 : decode cX6_goesBy 63 = .ok (.iconst 0, 1) := dk_3 (dk_at dksX6_goesBy_2 17 rfl rfl)
theorem dX6_goesBy_64 : decode cX6_goesBy 64 = .ok (.iaload, 1) := dk_46 (dk_at dksX6_goesBy_2 18 rfl rfl)
theorem dX6_goesBy_65 : decode cX6_goesBy 65 = .ok (.if_icmp .ne 86, 3) := dk_160 0 86 (dk_at dksX6_goesBy_2 19 rfl rfl)
theorem dX6_goesBy_68 : decode cX6_goesBy 68 = .ok (.aload_n 0, 1) := dk_42 (dk_at dksX6_goesBy_2 22 rfl rfl)
theorem dX6_goesBy_69 : decode cX6_goesBy 69 = .ok (.aload_n 0, 1) := dk_42 (dk_at dksX6_goesBy_2 23 rfl rfl)
theorem dX6_goesBy_70 : decode cX6_goesBy 70 = .ok (.getfield 62, 3) := dk_180 0 62 (dk_at dksX6_goesBy_3 0 rfl rfl)
theorem dX6_goesBy_73 : decode cX6_goesBy 73 = .ok (.iload_n 2, 1) := dk_28 (dk_at dksX6_goesBy_3 3 rfl rfl)
theorem dX6_goesBy_74 : decode cX6_goesBy 74 = .ok (.iconst 1, 1) := dk_4 (dk_at dksX6_goesBy_3 4 rfl rfl)
theorem dX6_goesBy_75 : decode cX6_goesBy 75 = .ok (.iadd, 1) := dk_96 (dk_at dksX6_goesBy_3 5 rfl rfl)
theorem dX6_goesBy_76 : decode cX6_goesBy 76 = .ok (.iaload, 1) := dk_46 (dk_at dksX6_goesBy_3 6 rfl rfl)
theorem dX6_goesBy_77 : decode cX6_goesBy 77 = .ok (.aload_n 0, 1) := dk_42 (dk_at dksX6_goesBy_3 7 rfl rfl)
theorem dX6_goesBy_78 : decode cX6_goesBy 78 = .ok (.getfield 62, 3) := dk_180 0 62 (dk_at dksX6_goesBy_3 8 rfl rfl)
theorem dX6_goesBy_81 : decode cX6_goesBy 81 = .ok (.iload_n 2, 1) := dk_28 (dk_at dksX6_goesBy_3 11 rfl rfl)
theorem dX6_goesBy_82 : decode cX6_goesBy 82 = .ok (.iconst 2, 1) := dk_5 (dk_at dksX6_goesBy_3 12 rfl rfl)
theorem dX6_goesBy_83 : decode cX6_goesBy 83 = .ok (.iadd, 1) := dk_96 (dk_at dksX6_goesBy_3 13 rfl rfl)
theorem dX6_goesBy_84 : decode cX6_goesBy 84 = .ok (.iaload, 1) := dk_46 (dk_at dksX6_goesBy_3 14 rfl rfl)
theorem dX6_goesBy_85 : decode cX6_goesBy 85 = .ok (.aload_n 0, 1) := dk_42 (dk_at dksX6_goesBy_3 15 rfl rfl)
theorem dX6_goesBy_86 : decode cX6_goesBy 86 = .ok (.getfield 62, 3) := dk_180 0 62 (dk_at dksX6_goesBy_3 16 rfl rfl)
theorem dX6_goesBy_89 : decode cX6_goesBy 89 = .ok (.iload_n 2, 1) := dk_28 (dk_at dksX6_goesBy_3 19 rfl rfl)
theorem dX6_goesBy_90 : decode cX6_goesBy 90 = .ok (.iconst 3, 1) := dk_6 (dk_at dksX6_goesBy_3 20 rfl rfl)
theorem dX6_goesBy_91 : decode cX6_goesBy 91 = .ok (.iadd, 1) := dk_96 (dk_at dksX6_goesBy_3 21 rfl rfl)
theorem dX6_goesBy_92 : decode cX6_goesBy 92 = .ok (.iaload, 1) := dk_46 (dk_at dksX6_goesBy_3 22 rfl rfl)
theorem dX6_goesBy_93 : decode cX6_goesBy 93 = .ok (.aload_n 0, 1) := dk_42 (dk_at dksX6_goesBy_3 23 rfl rfl)
theorem dX6_goesBy_94 : decode cX6_goesBy 94 = .ok (.getfield 62, 3) := dk_180 0 62 (dk_at dksX6_goesBy_4 0 rfl rfl)
theorem dX6_goesBy_97 : decode cX6_goesBy 97 = .ok (.iload_n 2, 1) := dk_28 (dk_at dksX6_goesBy_4 3 rfl rfl)
theorem dX6_goesBy_98 : decode cX6_goesBy 98 = .ok (.iconst 4, 1) := dk_7 (dk_at dksX6_goesBy_4 4 rfl rfl)
theorem dX6_goesBy_99 : decode cX6_goesBy 99 = .ok (.iadd, 1) := dk_96 (dk_at dksX6_goesBy_4 5 rfl rfl)
theorem dX6_goesBy_100 : decode cX6_goesBy 100 = .ok (.iaload, 1) := dk_46 (dk_at dksX6_goesBy_4 6 rfl rfl)
theorem dX6_goesBy_101 : decode cX6_goesBy 101 = .ok (.invokevirtual 390, 3) := dk_182 1 134 (dk_at dksX6_goesBy_4 7 rfl rfl)
theorem dX6_goesBy_104 : decode cX6_goesBy 104 = .ok (.ifCond .ne 6, 3) := dk_154 0 6 (dk_at dksX6_goesBy_4 10 rfl rfl)
theorem dX6_goesBy_107 : decode cX6_goesBy 107 = .ok (.goto 44, 3) := dk_167 0 44 (dk_at dksX6_goesBy_4 13 rfl rfl)
theorem dX6_goesBy_110 : decode cX6_goesBy 110 = .ok (.aload_n 0, 1) := dk_42 (dk_at dksX6_goesBy_4 16 rfl rfl)
theorem dX6_goesBy_111 : decode cX6_goesBy 111 = .ok (.aload_n 0, 1) := dk_42 (dk_at dksX6_goesBy_4 17 rfl rfl)
theorem dX6_goesBy_112 : decode cX6_goesBy 112 = .ok (.getfield 62, 3) := dk_180 0 62 (dk_at dksX6_goesBy_4 18 rfl rfl)
theorem dX6_goesBy_115 : decode cX6_goesBy 115 = .ok (.iload_n 2, 1) := dk_28 (dk_at dksX6_goesBy_4 21 rfl rfl)
theorem dX6_goesBy_116 : decode cX6_goesBy 116 = .ok (.iconst 1, 1) := dk_4 (dk_at dksX6_goesBy_4 22 rfl rfl)
theorem dX6_goesBy_117 : decode cX6_goesBy 117 = .ok (.iadd, 1) := dk_96 (dk_at dksX6_goesBy_4 23 rfl rfl)
theorem dX6_goesBy_118 : decode cX6_goesBy 118 = .ok (.iaload, 1) := dk_46 (dk_at dksX6_goesBy_5 0 rfl rfl)
theorem dX6_goesBy_119 : decode cX6_goesBy 119 = .ok (.aload_n 0, 1) := dk_42 (dk_at dksX6_goesBy_5 1 rfl rfl)
theorem dX6_goesBy_120 : decode cX6_goesBy 120 = .ok (.getfield 62, 3) := dk_180 0 62 (dk_at dksX6_goesBy_5 2 rfl rfl)
theorem dX6_goesBy_123 : decode cX6_goesBy 123 = .ok (.iload_n 2, 1) := dk_28 (dk_at dksX6_goesBy_5 5 rfl rfl)
theorem dX6_goesBy_124 : decode cX6_goesBy 124 = .ok (.iconst 2, 1) := dk_5 (dk_at dksX6_goesBy_5 6 rfl rfl)
theorem dX6_goesBy_125 : decode cX6_goesBy 125 = .ok (.iadd, 1) := dk_96 (dk_at dksX6_goesBy_5 7 rfl rfl)
theorem dX6_goesBy_126 : decode cX6_goesBy 126 = .ok (.iaload, 1) := dk_46 (dk_at dksX6_goesBy_5 8 rfl rfl)
theorem dX6_goesBy_127 : decode cX6_goesBy 127 = .ok (.aload_n 0, 1) := dk_42 (dk_at dksX6_goesBy_5 9 rfl rfl)
theorem dX6_goesBy_128 : decode cX6_goesBy 128 = .ok (.getfield 62, 3) := dk_180 0 62 (dk_at dksX6_goesBy_5 10 rfl rfl)
theorem dX6_goesBy_131 : decode cX6_goesBy 131 = .ok (.iload_n 2, 1) := dk_28 (dk_at dksX6_goesBy_5 13 rfl rfl)
theorem dX6_goesBy_132 : decode cX6_goesBy 132 = .ok (.iconst 3, 1) := dk_6 (dk_at dksX6_goesBy_5 14 rfl rfl)
theorem dX6_goesBy_133 : decode cX6_goesBy 133 = .ok (.iadd, 1) := dk_96 (dk_at dksX6_goesBy_5 15 rfl rfl)
theorem dX6_goesBy_134 : decode cX6_goesBy 134 = .ok (.iaload, 1) := dk_46 (dk_at dksX6_goesBy_5 16 rfl rfl)
theorem dX6_goesBy_135 : decode cX6_goesBy 135 = .ok (.aload_n 0, 1) := dk_42 (dk_at dksX6_goesBy_5 17 rfl rfl)
theorem dX6_goesBy_136 : decode cX6_goesBy 136 = .ok (.getfield 62, 3) := dk_180 0 62 (dk_at dksX6_goesBy_5 18 rfl rfl)
theorem dX6_goesBy_139 : decode cX6_goesBy 139 = .ok (.iload_n 2, 1) := dk_28 (dk_at dksX6_goesBy_5 21 rfl rfl)
theorem dX6_goesBy_140 : decode cX6_goesBy 140 = .ok (.iconst 4, 1) := dk_7 (dk_at dksX6_goesBy_5 22 rfl rfl)
theorem dX6_goesBy_141 : decode cX6_goesBy 141 = .ok (.iadd, 1) := dk_96 (dk_at dksX6_goesBy_5 23 rfl rfl)
theorem dX6_goesBy_142 : decode cX6_goesBy 142 = .ok (.iaload, 1) := dk_46 (dk_at dksX6_goesBy_6 0 rfl rfl)
theorem dX6_goesBy_143 : decode cX6_goesBy 143 = .ok (.invokevirtual 397, 3) := dk_182 1 141 (dk_at dksX6_goesBy_6 1 rfl rfl)
theorem dX6_goesBy_146 : decode cX6_goesBy 146 = .ok (.pop, 1) := dk_87 (dk_at dksX6_goesBy_6 4 rfl rfl)
theorem dX6_goesBy_147 : decode cX6_goesBy 147 = .ok (.iload_n 1, 1) := dk_27 (dk_at dksX6_goesBy_6 5 rfl rfl)
theorem dX6_goesBy_148 : decode cX6_goesBy 148 = .ok (.iconst 1, 1) := dk_4 (dk_at dksX6_goesBy_6 6 rfl rfl)
theorem dX6_goesBy_149 : decode cX6_goesBy 149 = .ok (.iadd, 1) := dk_96 (dk_at dksX6_goesBy_6 7 rfl rfl)
theorem dX6_goesBy_150 : decode cX6_goesBy 150 = .ok (.istore_n 1, 1) := dk_60 (dk_at dksX6_goesBy_6 8 rfl rfl)
theorem dX6_goesBy_151 : decode cX6_goesBy 151 = .ok (.iload_n 2, 1) := dk_28 (dk_at dksX6_goesBy_6 9 rfl rfl)
theorem dX6_goesBy_152 : decode cX6_goesBy 152 = .ok (.iconst 5, 1) := dk_8 (dk_at dksX6_goesBy_6 10 rfl rfl)
theorem dX6_goesBy_153 : decode cX6_goesBy 153 = .ok (.iadd, 1) := dk_96 (dk_at dksX6_goesBy_6 11 rfl rfl)
theorem dX6_goesBy_154 : decode cX6_goesBy 154 = .ok (.istore_n 2, 1) := dk_61 (dk_at dksX6_goesBy_6 12 rfl rfl)
theorem dX6_goesBy_155 : decode cX6_goesBy 155 = .ok (.goto (-112), 3) := dk_167 255 144 (dk_at dksX6_goesBy_6 13 rfl rfl)
theorem dX6_goesBy_158 : decode cX6_goesBy 158 = .ok (.aload_n 0, 1) := dk_42 (dk_at dksX6_goesBy_6 16 rfl rfl)
theorem dX6_goesBy_159 : decode cX6_goesBy 159 = .ok (.getfield 7, 3) := dk_180 0 7 (dk_at dksX6_goesBy_6 17 rfl rfl)
theorem dX6_goesBy_162 : decode cX6_goesBy 162 = .ok (.iconst 0, 1) := dk_3 (dk_at dksX6_goesBy_6 20 rfl rfl)
theorem dX6_goesBy_163 : decode cX6_goesBy 163 = .ok (.aload_n 0, 1) := dk_42 (dk_at dksX6_goesBy_6 21 rfl rfl)
theorem dX6_goesBy_164 : decode cX6_goesBy 164 = .ok (.getfield 7, 3) := dk_180 0 7 (dk_at dksX6_goesBy_7 0 rfl rfl)
theorem dX6_goesBy_167 : decode cX6_goesBy 167 = .ok (.iconst 0, 1) := dk_3 (dk_at dksX6_goesBy_7 3 rfl rfl)
theorem dX6_goesBy_168 : decode cX6_goesBy 168 = .ok (.iaload, 1) := dk_46 (dk_at dksX6_goesBy_7 4 rfl rfl)
theorem dX6_goesBy_169 : decode cX6_goesBy 169 = .ok (.iconst 1, 1) := dk_4 (dk_at dksX6_goesBy_7 5 rfl rfl)
theorem dX6_goesBy_170 : decode cX6_goesBy 170 = .ok (.iadd, 1) := dk_96 (dk_at dksX6_goesBy_7 6 rfl rfl)
theorem dX6_goesBy_171 : decode cX6_goesBy 171 = .ok (.iastore, 1) := dk_79 (dk_at dksX6_goesBy_7 7 rfl rfl)
theorem dX6_goesBy_172 : decode cX6_goesBy 172 = .ok (.iload_n 1, 1) := dk_27 (dk_at dksX6_goesBy_7 8 rfl rfl)
theorem dX6_goesBy_173 : decode cX6_goesBy 173 = .ok (.ireturn, 1) := dk_172 (dk_at dksX6_goesBy_7 9 rfl rfl)
abbrev cX6_does : ByteArray := prog_22_method_84_code
def yX6_does : MethodName := ⟨RX6, "does", "(I)V"⟩
def dkwX6_does_5 : List UInt8 := [180, 0, 65, 27, 6, 96, 46, 182, 1, 63, 42, 180, 0, 65, 27, 7, 96, 46, 100, 182, 0, 149, 177]
abbrev dktX6_does_5 : List UInt8 := dkwX6_does_5 ++ []
def dkwX6_does_4 : List UInt8 := [46, 96, 182, 1, 92, 79, 28, 7, 160, 0, 38, 42, 29, 42, 180, 0, 65, 27, 6, 96, 46, 42, 29, 42]
abbrev dktX6_does_4 : List UInt8 := dkwX6_does_4 ++ dktX6_does_5
def dkwX6_does_3 : List UInt8 := [16, 65, 29, 96, 42, 17, 39, 15, 42, 180, 0, 7, 16, 65, 29, 96, 46, 42, 180, 0, 65, 27, 7, 96]
abbrev dktX6_does_3 : List UInt8 := dkwX6_does_3 ++ dktX6_does_4
def dkwX6_does_2 : List UInt8 := [28, 5, 160, 0, 13, 42, 180, 0, 7, 16, 77, 29, 96, 5, 79, 28, 6, 160, 0, 37, 42, 180, 0, 7]
abbrev dktX6_does_2 : List UInt8 := dkwX6_does_2 ++ dktX6_does_3
def dkwX6_does_1 : List UInt8 := [180, 0, 7, 16, 77, 29, 96, 4, 79, 28, 4, 160, 0, 13, 42, 180, 0, 7, 16, 77, 29, 96, 3, 79]
abbrev dktX6_does_1 : List UInt8 := dkwX6_does_1 ++ dktX6_does_2
def dkwX6_does_0 : List UInt8 := [42, 180, 0, 65, 27, 4, 96, 46, 61, 42, 180, 0, 65, 27, 5, 96, 46, 62, 28, 154, 0, 13, 42]
abbrev dktX6_does_0 : List UInt8 := dkwX6_does_0 ++ dktX6_does_1
theorem dksX6_does_0 : cX6_does.data.toList.drop 0 = dktX6_does_0 := by decide +kernel
theorem dksX6_does_1 : cX6_does.data.toList.drop 23 = dktX6_does_1 := dk_seg dksX6_does_0 23 rfl rfl
theorem dksX6_does_2 : cX6_does.data.toList.drop 47 = dktX6_does_2 := dk_seg dksX6_does_1 24 rfl rfl
theorem dksX6_does_3 : cX6_does.data.toList.drop 71 = dktX6_does_3 := dk_seg dksX6_does_2 24 rfl rfl
theorem dksX6_does_4 : cX6_does.data.toList.drop 95 = dktX6_does_4 := dk_seg dksX6_does_3 24 rfl rfl
theorem dksX6_does_5 : cX6_does.data.toList.drop 119 = dktX6_does_5 := dk_seg dksX6_does_4 24 rfl rfl
theorem dX6_does_0 : decode cX6_does 0 = .ok (.aload_n 0, 1) := dk_42 (dk_at dksX6_does_0 0 rfl rfl)
theorem dX6_does_1 : decode cX6_does 1 = .ok (.getfield 65, 3) := dk_180 0 65 (dk_at dksX6_does_0 1 rfl rfl)
theorem dX6_does_4 : decode cX6_does 4 = .ok (.iload_n 1, 1) := dk_27 (dk_at dksX6_does_0 4 rfl rfl)
theorem dX6_does_5 : decode cX6_does 5 = .ok (.iconst 1, 1) := dk_4 (dk_at dksX6_does_0 5 rfl rfl)
theorem dX6_does_6 : decode cX6_does 6 = .ok (.iadd, 1) := dk_96 (dk_at dksX6_does_0 6 rfl rfl)
theorem dX6_does_7 : decode cX6_does 7 = .ok (.iaload, 1) := dk_46 (dk_at dksX6_does_0 7 rfl rfl)
theorem dX6_does_8 : decode cX6_does 8 = .ok (.istore_n 2, 1) := dk_61 (dk_at dksX6_does_0 8 rfl rfl)
theorem dX6_does_9 : decode cX6_does 9 = .ok (.aload_n 0, 1) := dk_42 (dk_at dksX6_does_0 9 rfl rfl)
theorem dX6_does_10 : decode cX6_does 10 = .ok (.getfield 65, 3) := dk_180 0 65 (dk_at dksX6_does_0 10 rfl rfl)
theorem dX6_does_13 : decode cX6_does 13 = .ok (.iload_n 1, 1) := dk_27 (dk_at dksX6_does_0 13 rfl rfl)
theorem dX6_does_14 : decode cX6_does 14 = .ok (.iconst 2, 1) := dk_5 (dk_at dksX6_does_0 14 rfl rfl)
theorem dX6_does_15 : decode cX6_does 15 = .ok (.iadd, 1) := dk_96 (dk_at dksX6_does_0 15 rfl rfl)
theorem dX6_does_16 : decode cX6_does 16 = .ok (.iaload, 1) := dk_46 (dk_at dksX6_does_0 16 rfl rfl)
theorem dX6_does_17 : decode cX6_does 17 = .ok (.istore_n 3, 1) := dk_62 (dk_at dksX6_does_0 17 rfl rfl)
theorem dX6_does_18 : decode cX6_does 18 = .ok (.iload_n 2, 1) := dk_28 (dk_at dksX6_does_0 18 rfl rfl)
theorem dX6_does_19 : decode cX6_does 19 = .ok (.ifCond .ne 13, 3) := dk_154 0 13 (dk_at dksX6_does_0 19 rfl rfl)
theorem dX6_does_22 : decode cX6_does 22 = .ok (.aload_n 0, 1) := dk_42 (dk_at dksX6_does_0 22 rfl rfl)
theorem dX6_does_23 : decode cX6_does 23 = .ok (.getfield 7, 3) := dk_180 0 7 (dk_at dksX6_does_1 0 rfl rfl)
theorem dX6_does_26 : decode cX6_does 26 = .ok (.bipush 77, 2) := dk_16 77 (dk_at dksX6_does_1 3 rfl rfl)
theorem dX6_does_28 : decode cX6_does 28 = .ok (.iload_n 3, 1) := dk_29 (dk_at dksX6_does_1 5 rfl rfl)
theorem dX6_does_29 : decode cX6_does 29 = .ok (.iadd, 1) := dk_96 (dk_at dksX6_does_1 6 rfl rfl)
theorem dX6_does_30 : decode cX6_does 30 = .ok (.iconst 1, 1) := dk_4 (dk_at dksX6_does_1 7 rfl rfl)
theorem dX6_does_31 : decode cX6_does 31 = .ok (.iastore, 1) := dk_79 (dk_at dksX6_does_1 8 rfl rfl)
theorem dX6_does_32 : decode cX6_does 32 = .ok (.iload_n 2, 1) := dk_28 (dk_at dksX6_does_1 9 rfl rfl)
theorem dX6_does_33 : decode cX6_does 33 = .ok (.iconst 1, 1) := dk_4 (dk_at dksX6_does_1 10 rfl rfl)
theorem dX6_does_34 : decode cX6_does 34 = .ok (.if_icmp .ne 13, 3) := dk_160 0 13 (dk_at dksX6_does_1 11 rfl rfl)
theorem dX6_does_37 : decode cX6_does 37 = .ok (.aload_n 0, 1) := dk_42 (dk_at dksX6_does_1 14 rfl rfl)
theorem dX6_does_38 : decode cX6_does 38 = .ok (.getfield 7, 3) := dk_180 0 7 (dk_at dksX6_does_1 15 rfl rfl)
theorem dX6_does_41 : decode cX6_does 41 = .ok (.bipush 77, 2) := dk_16 77 (dk_at dksX6_does_1 18 rfl rfl)
theorem dX6_does_43 : decode cX6_does 43 = .ok (.iload_n 3, 1) := dk_29 (dk_at dksX6_does_1 20 rfl rfl)
theorem dX6_does_44 : decode cX6_does 44 = .ok (.iadd, 1) := dk_96 (dk_at dksX6_does_1 21 rfl rfl)
theorem dX6_does_45 : decode cX6_does 45 = .ok (.iconst 0, 1) := dk_3 (dk_at dksX6_does_1 22 rfl rfl)
theorem dX6_does_46 : decode cX6_does 46 = .ok (.iastore, 1) := dk_79 (dk_at dksX6_does_1 23 rfl rfl)
theorem dX6_does_47 : decode cX6_does 47 = .ok (.iload_n 2, 1) := dk_28 (dk_at dksX6_does_2 0 rfl rfl)
theorem dX6_does_48 : decode cX6_does 48 = .ok (.iconst 2, 1) := dk_5 (dk_at dksX6_does_2 1 rfl rfl)
theorem dX6_does_49 : decode cX6_does 49 = .ok (.if_icmp .ne 13, 3) := dk_160 0 13 (dk_at dksX6_does_2 2 rfl rfl)
theorem dX6_does_52 : decode cX6_does 52 = .ok (.aload_n 0, 1) := dk_42 (dk_at dksX6_does_2 5 rfl rfl)
theorem dX6_does_53 : decode cX6_does 53 = .ok (.getfield 7, 3) := dk_180 0 7 (dk_at dksX6_does_2 6 rfl rfl)
theorem dX6_does_56 : decode cX6_does 56 = .ok (.bipush 77, 2) := dk_16 77 (dk_at dksX6_does_2 9 rfl rfl)
theorem dX6_does_58 : decode cX6_does 58 = .ok (.iload_n 3, 1) := dk_29 (dk_at dksX6_does_2 11 rfl rfl)
theorem dX6_does_59 : decode cX6_does 59 = .ok (.iadd, 1) := dk_96 (dk_at dksX6_does_2 12 rfl rfl)
theorem dX6_does_60 : decode cX6_does 60 = .ok (.iconst 2, 1) := dk_5 (dk_at dksX6_does_2 13 rfl rfl)
theorem dX6_does_61 : decode cX6_does 61 = .ok (.iastore, 1) := dk_79 (dk_at dksX6_does_2 14 rfl rfl)
theorem dX6_does_62 : decode cX6_does 62 = .ok (.iload_n 2, 1) := dk_28 (dk_at dksX6_does_2 15 rfl rfl)
theorem dX6_does_63 : decode cX6_does 63 = .ok (.iconst 3, 1) := dk_6 (dk_at dksX6_does_2 16 rfl rfl)
theorem dX6_does_64 : decode cX6_does 64 = .ok (.if_icmp .ne 37, 3) := dk_160 0 37 (dk_at dksX6_does_2 17 rfl rfl)
theorem dX6_does_67 : decode cX6_does 67 = .ok (.aload_n 0, 1) := dk_42 (dk_at dksX6_does_2 20 rfl rfl)
theorem dX6_does_68 : decode cX6_does 68 = .ok (.getfield 7, 3) := dk_180 0 7 (dk_at dksX6_does_2 21 rfl rfl)
theorem dX6_does_71 : decode cX6_does 71 = .ok (.bipush 65, 2) := dk_16 65 (dk_at dksX6_does_3 0 rfl rfl)
theorem dX6_does_73 : decode cX6_does 73 = .ok (.iload_n 3, 1) := dk_29 (dk_at dksX6_does_3 2 rfl rfl)
theorem dX6_does_74 : decode cX6_does 74 = .ok (.iadd, 1) := dk_96 (dk_at dksX6_does_3 3 rfl rfl)
theorem dX6_does_75 : decode cX6_does 75 = .ok (.aload_n 0, 1) := dk_42 (dk_at dksX6_does_3 4 rfl rfl)
theorem dX6_does_76 : decode cX6_does 76 = .ok (.sipush 9999, 3) := dk_17 39 15 (dk_at dksX6_does_3 5 rfl rfl)
theorem dX6_does_79 : decode cX6_does 79 = .ok (.aload_n 0, 1) := dk_42 (dk_at dksX6_does_3 8 rfl rfl)
theorem dX6_does_80 : decode cX6_does 80 = .ok (.getfield 7, 3) := dk_180 0 7 (dk_at dksX6_does_3 9 rfl rfl)
theorem dX6_does_83 : decode cX6_does 83 = .ok (.bipush 65, 2) := dk_16 65 (dk_at dksX6_does_3 12 rfl rfl)
theorem dX6_does_85 : decode cX6_does 85 = .ok (.iload_n 3, 1) := dk_29 (dk_at dksX6_does_3 14 rfl rfl)
theorem dX6_does_86 : decode cX6_does 86 = .ok (.iadd, 1) := dk_96 (dk_at dksX6_does_3 15 rfl rfl)
theorem dX6_does_87 : decode cX6_does 87 = .ok (.iaload, 1) := dk_46 (dk_at dksX6_does_3 16 rfl rfl)
theorem dX6_does_88 : decode cX6_does 88 = .ok (.aload_n 0, 1) := dk_42 (dk_at dksX6_does_3 17 rfl rfl)
theorem dX6_does_89 : decode cX6_does 89 = .ok (.getfield 65, 3) := dk_180 0 65 (dk_at dksX6_does_3 18 rfl rfl)
theorem dX6_does_92 : decode cX6_does 92 = .ok (.iload_n 1, 1) := dk_27 (dk_at dksX6_does_3 21 rfl rfl)
theorem dX6_does_93 : decode cX6_does 93 = .ok (.iconst 4, 1) := dk_7 (dk_at dksX6_does_3 22 rfl rfl)
theorem dX6_does_94 : decode cX6_does 94 = .ok (.iadd, 1) := dk_96 (dk_at dksX6_does_3 23 rfl rfl)
theorem dX6_does_95 : decode cX6_does 95 = .ok (.iaload, 1) := dk_46 (dk_at dksX6_does_4 0 rfl rfl)
theorem dX6_does_96 : decode cX6_does 96 = .ok (.iadd, 1) := dk_96 (dk_at dksX6_does_4 1 rfl rfl)
theorem dX6_does_97 : decode cX6_does 97 = .ok (.invokevirtual 348, 3) := dk_182 1 92 (dk_at dksX6_does_4 2 rfl rfl)
theorem dX6_does_100 : decode cX6_does 100 = .ok (.iastore, 1) := dk_79 (dk_at dksX6_does_4 5 rfl rfl)
theorem dX6_does_101 : decode cX6_does 101 = .ok (.iload_n 2, 1) := dk_28 (dk_at dksX6_does_4 6 rfl rfl)
theorem dX6_does_102 : decode cX6_does 102 = .ok (.iconst 4, 1) := dk_7 (dk_at dksX6_does_4 7 rfl rfl)
theorem dX6_does_103 : decode cX6_does 103 = .ok (.if_icmp .ne 38, 3) := dk_160 0 38 (dk_at dksX6_does_4 8 rfl rfl)
theorem dX6_does_106 : decode cX6_does 106 = .ok (.aload_n 0, 1) := dk_42 (dk_at dksX6_does_4 11 rfl rfl)
theorem dX6_does_107 : decode cX6_does 107 = .ok (.iload_n 3, 1) := dk_29 (dk_at dksX6_does_4 12 rfl rfl)
theorem dX6_does_108 : decode cX6_does 108 = .ok (.aload_n 0, 1) := dk_42 (dk_at dksX6_does_4 13 rfl rfl)
theorem dX6_does_109 : decode cX6_does 109 = .ok (.getfield 65, 3) := dk_180 0 65 (dk_at dksX6_does_4 14 rfl rfl)
theorem dX6_does_112 : decode cX6_does 112 = .ok (.iload_n 1, 1) := dk_27 (dk_at dksX6_does_4 17 rfl rfl)
theorem dX6_does_113 : decode cX6_does 113 = .ok (.iconst 3, 1) := dk_6 (dk_at dksX6_does_4 18 rfl rfl)
theorem dX6_does_114 : decode cX6_does 114 = .ok (.iadd, 1) := dk_96 (dk_at dksX6_does_4 19 rfl rfl)
theorem dX6_does_115 : decode cX6_does 115 = .ok (.iaload, 1) := dk_46 (dk_at dksX6_does_4 20 rfl rfl)
theorem dX6_does_116 : decode cX6_does 116 = .ok (.aload_n 0, 1) := dk_42 (dk_at dksX6_does_4 21 rfl rfl)
theorem dX6_does_117 : decode cX6_does 117 = .ok (.iload_n 3, 1) := dk_29 (dk_at dksX6_does_4 22 rfl rfl)
theorem dX6_does_118 : decode cX6_does 118 = .ok (.aload_n 0, 1) := dk_42 (dk_at dksX6_does_4 23 rfl rfl)
theorem dX6_does_119 : decode cX6_does 119 = .ok (.getfield 65, 3) := dk_180 0 65 (dk_at dksX6_does_5 0 rfl rfl)
theorem dX6_does_122 : decode cX6_does 122 = .ok (.iload_n 1, 1) := dk_27 (dk_at dksX6_does_5 3 rfl rfl)
theorem dX6_does_123 : decode cX6_does 123 = .ok (.iconst 3, 1) := dk_6 (dk_at dksX6_does_5 4 rfl rfl)
theorem dX6_does_124 : decode cX6_does 124 = .ok (.iadd, 1) := dk_96 (dk_at dksX6_does_5 5 rfl rfl)
theorem dX6_does_125 : decode cX6_does 125 = .ok (.iaload, 1) := dk_46 (dk_at dksX6_does_5 6 rfl rfl)
theorem dX6_does_126 : decode cX6_does 126 = .ok (.invokevirtual 319, 3) := dk_182 1 63 (dk_at dksX6_does_5 7 rfl rfl)
theorem dX6_does_129 : decode cX6_does 129 = .ok (.aload_n 0, 1) := dk_42 (dk_at dksX6_does_5 10 rfl rfl)
theorem dX6_does_130 : decode cX6_does 130 = .ok (.getfield 65, 3) := dk_180 0 65 (dk_at dksX6_does_5 11 rfl rfl)
theorem dX6_does_133 : decode cX6_does 133 = .ok (.iload_n 1, 1) := dk_27 (dk_at dksX6_does_5 14 rfl rfl)
theorem dX6_does_134 : decode cX6_does 134 = .ok (.iconst 4, 1) := dk_7 (dk_at dksX6_does_5 15 rfl rfl)
theorem dX6_does_135 : decode cX6_does 135 = .ok (.iadd, 1) := dk_96 (dk_at dksX6_does_5 16 rfl rfl)
theorem dX6_does_136 : decode cX6_does 136 = .ok (.iaload, 1) := dk_46 (dk_at dksX6_does_5 17 rfl rfl)
theorem dX6_does_137 : decode cX6_does 137 = .ok (.isub, 1) := dk_100 (dk_at dksX6_does_5 18 rfl rfl)
theorem dX6_does_138 : decode cX6_does 138 = .ok (.invokevirtual 149, 3) := dk_182 0 149 (dk_at dksX6_does_5 19 rfl rfl)
theorem dX6_does_141 : decode cX6_does 141 = .ok (.return_, 1) := dk_177 (dk_at dksX6_does_5 22 rfl rfl)
