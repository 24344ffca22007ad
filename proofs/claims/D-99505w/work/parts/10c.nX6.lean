set_option maxRecDepth 100000
abbrev cX6_of : ByteArray := prog_22_method_87_code
def yX6_of : MethodName := ⟨RX6, "of", "(II)I"⟩
def dkwX6_of_4 : List UInt8 := [167, 0, 4, 2, 172]
abbrev dktX6_of_4 : List UInt8 := dkwX6_of_4 ++ []
def dkwX6_of_3 : List UInt8 := [180, 0, 7, 16, 89, 27, 96, 46, 167, 0, 19, 28, 16, 8, 160, 0, 12, 42, 180, 0, 68, 27, 46]
abbrev dktX6_of_3 : List UInt8 := dkwX6_of_3 ++ dktX6_of_4
def dkwX6_of_2 : List UInt8 := [172, 28, 16, 6, 160, 0, 13, 42, 180, 0, 7, 16, 77, 27, 96, 46, 172, 28, 16, 7, 160, 0, 15, 42]
abbrev dktX6_of_2 : List UInt8 := dkwX6_of_2 ++ dktX6_of_3
def dkwX6_of_1 : List UInt8 := [153, 0, 10, 42, 27, 28, 182, 1, 63, 172, 28, 8, 160, 0, 13, 42, 180, 0, 7, 16, 65, 27, 96, 46]
abbrev dktX6_of_1 : List UInt8 := dkwX6_of_1 ++ dktX6_of_2
def dkwX6_of_0 : List UInt8 := [42, 3, 181, 0, 122, 42, 27, 182, 0, 153, 154, 0, 5, 2, 172, 42, 28, 3, 7, 182, 0, 145]
abbrev dktX6_of_0 : List UInt8 := dkwX6_of_0 ++ dktX6_of_1
theorem dksX6_of_0 : cX6_of.data.toList.drop 0 = dktX6_of_0 := by decide +kernel
theorem dksX6_of_1 : cX6_of.data.toList.drop 22 = dktX6_of_1 := dk_seg dksX6_of_0 22 rfl rfl
theorem dksX6_of_2 : cX6_of.data.toList.drop 46 = dktX6_of_2 := dk_seg dksX6_of_1 24 rfl rfl
theorem dksX6_of_3 : cX6_of.data.toList.drop 70 = dktX6_of_3 := dk_seg dksX6_of_2 24 rfl rfl
theorem dksX6_of_4 : cX6_of.data.toList.drop 93 = dktX6_of_4 := dk_seg dksX6_of_3 23 rfl rfl
theorem dX6_of_0 : decode cX6_of 0 = .ok (.aload_n 0, 1) := dk_42 (dk_at dksX6_of_0 0 rfl rfl)
theorem dX6_of_1 : decode cX6_of 1 = .ok (.iconst 0, 1) := dk_3 (dk_at dksX6_of_0 1 rfl rfl)
theorem dX6_of_2 : decode cX6_of 2 = .ok (.putfield 122, 3) := dk_181 0 122 (dk_at dksX6_of_0 2 rfl rfl)
theorem dX6_of_5 : decode cX6_of 5 = .ok (.aload_n 0, 1) := dk_42 (dk_at dksX6_of_0 5 rfl rfl)
theorem dX6_of_6 : decode cX6_of 6 = .ok (.iload_n 1, 1) := dk_27 (dk_at dksX6_of_0 6 rfl rfl)
theorem dX6_of_7 : decode cX6_of 7 = .ok (.invokevirtual 153, 3) := dk_182 0 153 (dk_at dksX6_of_0 7 rfl rfl)
theorem dX6_of_10 : decode cX6_of 10 = .ok (.ifCond .ne 5, 3) := dk_154 0 5 (dk_at dksX6_of_0 10 rfl rfl)
theorem dX6_of_13 : decode cX6_of 13 = .ok (.iconst (-1), 1) := dk_2 (dk_at dksX6_of_0 13 rfl rfl)
theorem dX6_of_14 : decode cX6_of 14 = .ok (.ireturn, 1) := dk_172 (dk_at dksX6_of_0 14 rfl rfl)
theorem dX6_of_15 : decode cX6_of 15 = .ok (.aload_n 0, 1) := dk_42 (dk_at dksX6_of_0 15 rfl rfl)
theorem dX6_of_16 : decode cX6_of 16 = .ok (.iload_n 2, 1) := dk_28 (dk_at dksX6_of_0 16 rfl rfl)
theorem dX6_of_17 : decode cX6_of 17 = .ok (.iconst 0, 1) := dk_3 (dk_at dksX6_of_0 17 rfl rfl)
theorem dX6_of_18 : decode cX6_of 18 = .ok (.iconst 4, 1) := dk_7 (dk_at dksX6_of_0 18 rfl rfl)
theorem dX6_of_19 : decode cX6_of 19 = .ok (.invokevirtual 145, 3) := dk_182 0 145 (dk_at dksX6_of_0 19 rfl rfl)
theorem dX6_of_22 : decode cX6_of 22 = .ok (.ifCond .eq 10, 3) := dk_153 0 10 (dk_at dksX6_of_1 0 rfl rfl)
theorem dX6_of_25 : decode cX6_of 25 = .ok (.aload_n 0, 1) := dk_42 (dk_at dksX6_of_1 3 rfl rfl)
theorem dX6_of_26 : decode cX6_of 26 = .ok (.iload_n 1, 1) := dk_27 (dk_at dksX6_of_1 4 rfl rfl)
theorem dX6_of_27 : decode cX6_of 27 = .ok (.iload_n 2, 1) := dk_28 (dk_at dksX6_of_1 5 rfl rfl)
theorem dX6_of_28 : decode cX6_of 28 = .ok (.invokevirtual 319, 3) := dk_182 1 63 (dk_at dksX6_of_1 6 rfl rfl)
theorem dX6_of_31 : decode cX6_of 31 = .ok (.ireturn, 1) := dk_172 (dk_at dksX6_of_1 9 rfl rfl)
theorem dX6_of_32 : decode cX6_of 32 = .ok (.iload_n 2, 1) := dk_28 (dk_at dksX6_of_1 10 rfl rfl)
theorem dX6_of_33 : decode cX6_of 33 = .ok (.iconst 5, 1) := dk_8 (dk_at dksX6_of_1 11 rfl rfl)
theorem dX6_of_34 : decode cX6_of 34 = .ok (.if_icmp .ne 13, 3) := dk_160 0 13 (dk_at dksX6_of_1 12 rfl rfl)
theorem dX6_of_37 : decode cX6_of 37 = .ok (.aload_n 0, 1) := dk_42 (dk_at dksX6_of_1 15 rfl rfl)
theorem dX6_of_38 : decode cX6_of 38 = .ok (.getfield 7, 3) := dk_180 0 7 (dk_at dksX6_of_1 16 rfl rfl)
theorem dX6_of_41 : decode cX6_of 41 = .ok (.bipush 65, 2) := dk_16 65 (dk_at dksX6_of_1 19 rfl rfl)
theorem dX6_of_43 : decode cX6_of 43 = .ok (.iload_n 1, 1) := dk_27 (dk_at dksX6_of_1 21 rfl rfl)
theorem dX6_of_44 : decode cX6_of 44 = .ok (.iadd, 1) := dk_96 (dk_at dksX6_of_1 22 rfl rfl)
theorem dX6_of_45 : decode cX6_of 45 = .ok (.iaload, 1) := dk_46 (dk_at dksX6_of_1 23 rfl rfl)
theorem dX6_of_46 : decode cX6_of 46 = .ok (.ireturn, 1) := dk_172 (dk_at dksX6_of_2 0 rfl rfl)
theorem dX6_of_47 : decode cX6_of 47 = .ok (.iload_n 2, 1) := dk_28 (dk_at dksX6_of_2 1 rfl rfl)
theorem dX6_of_48 : decode cX6_of 48 = .ok (.bipush 6, 2) := dk_16 6 (dk_at dksX6_of_2 2 rfl rfl)
theorem dX6_of_50 : decode cX6_of 50 = .ok (.if_icmp .ne 13, 3) := dk_160 0 13 (dk_at dksX6_of_2 4 rfl rfl)
theorem dX6_of_53 : decode cX6_of 53 = .ok (.aload_n 0, 1) := dk_42 (dk_at dksX6_of_2 7 rfl rfl)
theorem dX6_of_54 : decode cX6_of 54 = .ok (.getfield 7, 3) := dk_180 0 7 (dk_at dksX6_of_2 8 rfl rfl)
theorem dX6_of_57 : decode cX6_of 57 = .ok (.bipush 77, 2) := dk_16 77 (dk_at dksX6_of_2 11 rfl rfl)
theorem dX6_of_59 : decode cX6_of 59 = .ok (.iload_n 1, 1) := dk_27 (dk_at dksX6_of_2 13 rfl rfl)
theorem dX6_of_60 : decode cX6_of 60 = .ok (.iadd, 1) := dk_96 (dk_at dksX6_of_2 14 rfl rfl)
theorem dX6_of_61 : decode cX6_of 61 = .ok (.iaload, 1) := dk_46 (dk_at dksX6_of_2 15 rfl rfl)
theorem dX6_of_62 : decode cX6_of 62 = .ok (.ireturn, 1) := dk_172 (dk_at dksX6_of_2 16 rfl rfl)
theorem dX6_of_63 : decode cX6_of 63 = .ok (.iload_n 2, 1) := dk_28 (dk_at dksX6_of_2 17 rfl rfl)
theorem dX6_of_64 : decode cX6_of 64 = .ok (.bipush 7, 2) := dk_16 7 (dk_at dksX6_of_2 18 rfl rfl)
theorem dX6_of_66 : decode cX6_of 66 = .ok (.if_icmp .ne 15, 3) := dk_160 0 15 (dk_at dksX6_of_2 20 rfl rfl)
theorem dX6_of_69 : decode cX6_of 69 = .ok (.aload_n 0, 1) := dk_42 (dk_at dksX6_of_2 23 rfl rfl)
theorem dX6_of_70 : decode cX6_of 70 = .ok (.getfield 7, 3) := dk_180 0 7 (dk_at dksX6_of_3 0 rfl rfl)
theorem dX6_of_73 : decode cX6_of 73 = .ok (.bipush 89, 2) := dk_16 89 (dk_at dksX6_of_3 3 rfl rfl)
theorem dX6_of_75 : decode cX6_of 75 = .ok (.iload_n 1, 1) := dk_27 (dk_at dksX6_of_3 5 rfl rfl)
theorem dX6_of_76 : decode cX6_of 76 = .ok (.iadd, 1) := dk_96 (dk_at dksX6_of_3 6 rfl rfl)
theorem dX6_of_77 : decode cX6_of 77 = .ok (.iaload, 1) := dk_46 (dk_at dksX6_of_3 7 rfl rfl)
theorem dX6_of_78 : decode cX6_of 78 = .ok (.goto 19, 3) := dk_167 0 19 (dk_at dksX6_of_3 8 rfl rfl)
theorem dX6_of_81 : decode cX6_of 81 = .ok (.iload_n 2, 1) := dk_28 (dk_at dksX6_of_3 11 rfl rfl)
theorem dX6_of_82 : decode cX6_of 82 = .ok (.bipush 8, 2) := dk_16 8 (dk_at dksX6_of_3 12 rfl rfl)
theorem dX6_of_84 : decode cX6_of 84 = .ok (.if_icmp .ne 12, 3) := dk_160 0 12 (dk_at dksX6_of_3 14 rfl rfl)
theorem dX6_of_87 : decode cX6_of 87 = .ok (.aload_n 0, 1) := dk_42 (dk_at dksX6_of_3 17 rfl rfl)
theorem dX6_of_88 : decode cX6_of 88 = .ok (.getfield 68, 3) := dk_180 0 68 (dk_at dksX6_of_3 18 rfl rfl)
theorem dX6_of_91 : decode cX6_of 91 = .ok (.iload_n 1, 1) := dk_27 (dk_at dksX6_of_3 21 rfl rfl)
theorem dX6_of_92 : decode cX6_of 92 = .ok (.iaload, 1) := dk_46 (dk_at dksX6_of_3 22 rfl rfl)
theorem dX6_of_93 : decode cX6_of 93 = .ok (.goto 4, 3) := dk_167 0 4 (dk_at dksX6_of_4 0 rfl rfl)
theorem dX6_of_96 : decode cX6_of 96 = .ok (.iconst (-1), 1) := dk_2 (dk_at dksX6_of_4 3 rfl rfl)
theorem dX6_of_97 : decode cX6_of 97 = .ok (.ireturn, 1) := dk_172 (dk_at dksX6_of_4 4 rfl rfl)
abbrev cX6_horseOf : ByteArray := prog_22_method_88_code
def yX6_horseOf : MethodName := ⟨RX6, "horseOf", "(II)I"⟩
def dkwX6_horseOf_3 : List UInt8 := [96, 46, 167, 0, 4, 2, 172]
abbrev dktX6_horseOf_3 : List UInt8 := dkwX6_horseOf_3 ++ []
def dkwX6_horseOf_2 : List UInt8 := [160, 0, 12, 42, 180, 0, 22, 27, 46, 167, 0, 21, 28, 6, 160, 0, 15, 42, 180, 0, 7, 16, 111, 27]
abbrev dktX6_horseOf_2 : List UInt8 := dkwX6_horseOf_2 ++ dktX6_horseOf_3
def dkwX6_horseOf_1 : List UInt8 := [16, 101, 27, 96, 46, 172, 28, 4, 160, 0, 12, 42, 180, 0, 19, 27, 46, 167, 0, 35, 28, 5]
abbrev dktX6_horseOf_1 : List UInt8 := dkwX6_horseOf_1 ++ dktX6_horseOf_2
def dkwX6_horseOf_0 : List UInt8 := [42, 3, 181, 0, 122, 42, 27, 182, 0, 157, 154, 0, 5, 2, 172, 28, 154, 0, 13, 42, 180, 0, 7]
abbrev dktX6_horseOf_0 : List UInt8 := dkwX6_horseOf_0 ++ dktX6_horseOf_1
theorem dksX6_horseOf_0 : cX6_horseOf.data.toList.drop 0 = dktX6_horseOf_0 := by decide +kernel
theorem dksX6_horseOf_1 : cX6_horseOf.data.toList.drop 23 = dktX6_horseOf_1 := dk_seg dksX6_horseOf_0 23 rfl rfl
theorem dksX6_horseOf_2 : cX6_horseOf.data.toList.drop 45 = dktX6_horseOf_2 := dk_seg dksX6_horseOf_1 22 rfl rfl
theorem dksX6_horseOf_3 : cX6_horseOf.data.toList.drop 69 = dktX6_horseOf_3 := dk_seg dksX6_horseOf_2 24 rfl rfl
theorem dX6_horseOf_0 : decode cX6_horseOf 0 = .ok (.aload_n 0, 1) := dk_42 (dk_at dksX6_horseOf_0 0 rfl rfl)
theorem dX6_horseOf_1 : decode cX6_horseOf 1 = .ok (.iconst 0, 1) := dk_3 (dk_at dksX6_horseOf_0 1 rfl rfl)
theorem dX6_horseOf_2 : decode cX6_horseOf 2 = .ok (.putfield 122, 3) := dk_181 0 122 (dk_at dksX6_horseOf_0 2 rfl rfl)
theorem dX6_horseOf_5 : decode cX6_horseOf 5 = .ok (.aload_n 0, 1) := dk_42 (dk_at dksX6_horseOf_0 5 rfl rfl)
theorem dX6_horseOf_6 : decode cX6_horseOf 6 = .ok (.iload_n 1, 1) := dk_27 (dk_at dksX6_horseOf_0 6 rfl rfl)
theorem dX6_horseOf_7 : decode cX6_horseOf 7 = .ok (.invokevirtual 157, 3) := dk_182 0 157 (dk_at dksX6_horseOf_0 7 rfl rfl)
theorem dX6_horseOf_10 : decode cX6_horseOf 10 = .ok (.ifCond .ne 5, 3) := dk_154 0 5 (dk_at dksX6_horseOf_0 10 rfl rfl)
theorem dX6_horseOf_13 : decode cX6_horseOf 13 = .ok (.iconst (-1), 1) := dk_2 (dk_at dksX6_horseOf_0 13 rfl rfl)
theorem dX6_horseOf_14 : decode cX6_horseOf 14 = .ok (.ireturn, 1) := dk_172 (dk_at dksX6_horseOf_0 14 rfl rfl)
theorem dX6_horseOf_15 : decode cX6_horseOf 15 = .ok (.iload_n 2, 1) := dk_28 (dk_at dksX6_horseOf_0 15 rfl rfl)
theorem dX6_horseOf_16 : decode cX6_horseOf 16 = .ok (.ifCond .ne 13, 3) := dk_154 0 13 (dk_at dksX6_horseOf_0 16 rfl rfl)
theorem dX6_horseOf_19 : decode cX6_horseOf 19 = .ok (.aload_n 0, 1) := dk_42 (dk_at dksX6_horseOf_0 19 rfl rfl)
theorem dX6_horseOf_20 : decode cX6_horseOf 20 = .ok (.getfield 7, 3) := dk_180 0 7 (dk_at dksX6_horseOf_0 20 rfl rfl)
theorem dX6_horseOf_23 : decode cX6_horseOf 23 = .ok (.bipush 101, 2) := dk_16 101 (dk_at dksX6_horseOf_1 0 rfl rfl)
theorem dX6_horseOf_25 : decode cX6_horseOf 25 = .ok (.iload_n 1, 1) := dk_27 (dk_at dksX6_horseOf_1 2 rfl rfl)
theorem dX6_horseOf_26 : decode cX6_horseOf 26 = .ok (.iadd, 1) := dk_96 (dk_at dksX6_horseOf_1 3 rfl rfl)
theorem dX6_horseOf_27 : decode cX6_horseOf 27 = .ok (.iaload, 1) := dk_46 (dk_at dksX6_horseOf_1 4 rfl rfl)
theorem dX6_horseOf_28 : decode cX6_horseOf 28 = .ok (.ireturn, 1) := dk_172 (dk_at dksX6_horseOf_1 5 rfl rfl)
theorem dX6_horseOf_29 : decode cX6_horseOf 29 = .ok (.iload_n 2, 1) := dk_28 (dk_at dksX6_horseOf_1 6 rfl rfl)
theorem dX6_horseOf_30 : decode cX6_horseOf 30 = .ok (.iconst 1, 1) := dk_4 (dk_at dksX6_horseOf_1 7 rfl rfl)
theorem dX6_horseOf_31 : decode cX6_horseOf 31 = .ok (.if_icmp .ne 12, 3) := dk_160 0 12 (dk_at dksX6_horseOf_1 8 rfl rfl)
theorem dX6_horseOf_34 : decode cX6_horseOf 34 = .ok (.aload_n 0, 1) := dk_42 (dk_at dksX6_horseOf_1 11 rfl rfl)
theorem dX6_horseOf_35 : decode cX6_horseOf 35 = .ok (.getfield 19, 3) := dk_180 0 19 (dk_at dksX6_horseOf_1 12 rfl rfl)
theorem dX6_horseOf_38 : decode cX6_horseOf 38 = .ok (.iload_n 1, 1) := dk_27 (dk_at dksX6_horseOf_1 15 rfl rfl)
theorem dX6_horseOf_39 : decode cX6_horseOf 39 = .ok (.iaload, 1) := dk_46 (dk_at dksX6_horseOf_1 16 rfl rfl)
theorem dX6_horseOf_40 : decode cX6_horseOf 40 = .ok (.goto 35, 3) := dk_167 0 35 (dk_at dksX6_horseOf_1 17 rfl rfl)
theorem dX6_horseOf_43 : decode cX6_horseOf 43 = .ok (.iload_n 2, 1) := dk_28 (dk_at dksX6_horseOf_1 20 rfl rfl)
theorem dX6_horseOf_44 : decode cX6_horseOf 44 = .ok (.iconst 2, 1) := dk_5 (dk_at dksX6_horseOf_1 21 rfl rfl)
theorem dX6_horseOf_45 : decode cX6_horseOf 45 = .ok (.if_icmp .ne 12, 3) := dk_160 0 12 (dk_at dksX6_horseOf_2 0 rfl rfl)
theorem dX6_horseOf_48 : decode cX6_horseOf 48 = .ok (.aload_n 0, 1) := dk_42 (dk_at dksX6_horseOf_2 3 rfl rfl)
theorem dX6_horseOf_49 : decode cX6_horseOf 49 = .ok (.getfield 22, 3) := dk_180 0 22 (dk_at dksX6_horseOf_2 4 rfl rfl)
theorem dX6_horseOf_52 : decode cX6_horseOf 52 = .ok (.iload_n 1, 1) := dk_27 (dk_at dksX6_horseOf_2 7 rfl rfl)
theorem dX6_horseOf_53 : decode cX6_horseOf 53 = .ok (.iaload, 1) := dk_46 (dk_at dksX6_horseOf_2 8 rfl rfl)
theorem dX6_horseOf_54 : decode cX6_horseOf 54 = .ok (.goto 21, 3) := dk_167 0 21 (dk_at dksX6_horseOf_2 9 rfl rfl)
theorem dX6_horseOf_57 : decode cX6_horseOf 57 = .ok (.iload_n 2, 1) := dk_28 (dk_at dksX6_horseOf_2 12 rfl rfl)
theorem dX6_horseOf_58 : decode cX6_horseOf 58 = .ok (.iconst 3, 1) := dk_6 (dk_at dksX6_horseOf_2 13 rfl rfl)
theorem dX6_horseOf_59 : decode cX6_horseOf 59 = .ok (.if_icmp .ne 15, 3) := dk_160 0 15 (dk_at dksX6_horseOf_2 14 rfl rfl)
theorem dX6_horseOf_62 : decode cX6_horseOf 62 = .ok (.aload_n 0, 1) := dk_42 (dk_at dksX6_horseOf_2 17 rfl rfl)
theorem dX6_horseOf_63 : decode cX6_horseOf 63 = .ok (.getfield 7, 3) := dk_180 0 7 (dk_at dksX6_horseOf_2 18 rfl rfl)
theorem dX6_horseOf_66 : decode cX6_horseOf 66 = .ok (.bipush 111, 2) := dk_16 111 (dk_at dksX6_horseOf_2 21 rfl rfl)
theorem dX6_horseOf_68 : decode cX6_horseOf 68 = .ok (.iload_n 1, 1) := dk_27 (dk_at dksX6_horseOf_2 23 rfl rfl)
theorem dX6_horseOf_69 : decode cX6_horseOf 69 = .ok (.iadd, 1) := dk_96 (dk_at dksX6_horseOf_3 0 rfl rfl)
theorem dX6_horseOf_70 : decode cX6_horseOf 70 = .ok (.iaload, 1) := dk_46 (dk_at dksX6_horseOf_3 1 rfl rfl)
theorem dX6_horseOf_71 : decode cX6_horseOf 71 = .ok (.goto 4, 3) := dk_167 0 4 (dk_at dksX6_horseOf_3 2 rfl rfl)
theorem dX6_horseOf_74 : decode cX6_horseOf 74 = .ok (.iconst (-1), 1) := dk_2 (dk_at dksX6_horseOf_3 5 rfl rfl)
theorem dX6_horseOf_75 : decode cX6_horseOf 75 = .ok (.ireturn, 1) := dk_172 (dk_at dksX6_horseOf_3 6 rfl rfl)
abbrev cX6_passes : ByteArray := prog_22_method_90_code
def yX6_passes : MethodName := ⟨RX6, "passes", "(IIII)I"⟩
def dkwX6_passes_1 : List UInt8 := [154, 0, 5, 2, 172, 42, 29, 3, 2, 182, 1, 122, 42, 27, 28, 21, 4, 182, 1, 89, 172]
abbrev dktX6_passes_1 : List UInt8 := dkwX6_passes_1 ++ []
def dkwX6_passes_0 : List UInt8 := [42, 3, 181, 0, 122, 42, 27, 28, 29, 182, 1, 151, 153, 0, 14, 42, 21, 4, 3, 7, 182, 0, 145]
abbrev dktX6_passes_0 : List UInt8 := dkwX6_passes_0 ++ dktX6_passes_1
theorem dksX6_passes_0 : cX6_passes.data.toList.drop 0 = dktX6_passes_0 := by decide +kernel
theorem dksX6_passes_1 : cX6_passes.data.toList.drop 23 = dktX6_passes_1 := dk_seg dksX6_passes_0 23 rfl rfl
theorem dX6_passes_0 : decode cX6_passes 0 = .ok (.aload_n 0, 1) := dk_42 (dk_at dksX6_passes_0 0 rfl rfl)
theorem dX6_passes_1 : decode cX6_passes 1 = .ok (.iconst 0, 1) := dk_3 (dk_at dksX6_passes_0 1 rfl rfl)
theorem dX6_passes_2 : decode cX6_passes 2 = .ok (.putfield 122, 3) := dk_181 0 122 (dk_at dksX6_passes_0 2 rfl rfl)
theorem dX6_passes_5 : decode cX6_passes 5 = .ok (.aload_n 0, 1) := dk_42 (dk_at dksX6_passes_0 5 rfl rfl)
theorem dX6_passes_6 : decode cX6_passes 6 = .ok (.iload_n 1, 1) := dk_27 (dk_at dksX6_passes_0 6 rfl rfl)
theorem dX6_passes_7 : decode cX6_passes 7 = .ok (.iload_n 2, 1) := dk_28 (dk_at dksX6_passes_0 7 rfl rfl)
theorem dX6_passes_8 : decode cX6_passes 8 = .ok (.iload_n 3, 1) := dk_29 (dk_at dksX6_passes_0 8 rfl rfl)
theorem dX6_passes_9 : decode cX6_passes 9 = .ok (.invokevirtual 407, 3) := dk_182 1 151 (dk_at dksX6_passes_0 9 rfl rfl)
theorem dX6_passes_12 : decode cX6_passes 12 = .ok (.ifCond .eq 14, 3) := dk_153 0 14 (dk_at dksX6_passes_0 12 rfl rfl)
theorem dX6_passes_15 : decode cX6_passes 15 = .ok (.aload_n 0, 1) := dk_42 (dk_at dksX6_passes_0 15 rfl rfl)
theorem dX6_passes_16 : decode cX6_passes 16 = .ok (.iload 4, 2) := dk_21 4 (dk_at dksX6_passes_0 16 rfl rfl)
theorem dX6_passes_18 : decode cX6_passes 18 = .ok (.iconst 0, 1) := dk_3 (dk_at dksX6_passes_0 18 rfl rfl)
theorem dX6_passes_19 : decode cX6_passes 19 = .ok (.iconst 4, 1) := dk_7 (dk_at dksX6_passes_0 19 rfl rfl)
theorem dX6_passes_20 : decode cX6_passes 20 = .ok (.invokevirtual 145, 3) := dk_182 0 145 (dk_at dksX6_passes_0 20 rfl rfl)
theorem dX6_passes_23 : decode cX6_passes 23 = .ok (.ifCond .ne 5, 3) := dk_154 0 5 (dk_at dksX6_passes_1 0 rfl rfl)
theorem dX6_passes_26 : decode cX6_passes 26 = .ok (.iconst (-1), 1) := dk_2 (dk_at dksX6_passes_1 3 rfl rfl)
theorem dX6_passes_27 : decode cX6_passes 27 = .ok (.ireturn, 1) := dk_172 (dk_at dksX6_passes_1 4 rfl rfl)
theorem dX6_passes_28 : decode cX6_passes 28 = .ok (.aload_n 0, 1) := dk_42 (dk_at dksX6_passes_1 5 rfl rfl)
theorem dX6_passes_29 : decode cX6_passes 29 = .ok (.iload_n 3, 1) := dk_29 (dk_at dksX6_passes_1 6 rfl rfl)
theorem dX6_passes_30 : decode cX6_passes 30 = .ok (.iconst 0, 1) := dk_3 (dk_at dksX6_passes_1 7 rfl rfl)
theorem dX6_passes_31 : decode cX6_passes 31 = .ok (.iconst (-1), 1) := dk_2 (dk_at dksX6_passes_1 8 rfl rfl)
theorem dX6_passes_32 : decode cX6_passes 32 = .ok (.invokevirtual 378, 3) := dk_182 1 122 (dk_at dksX6_passes_1 9 rfl rfl)
theorem dX6_passes_35 : decode cX6_passes 35 = .ok (.aload_n 0, 1) := dk_42 (dk_at dksX6_passes_1 12 rfl rfl)
theorem dX6_passes_36 : decode cX6_passes 36 = .ok (.iload_n 1, 1) := dk_27 (dk_at dksX6_passes_1 13 rfl rfl)
theorem dX6_passes_37 : decode cX6_passes 37 = .ok (.iload_n 2, 1) := dk_28 (dk_at dksX6_passes_1 14 rfl rfl)
theorem dX6_passes_38 : decode cX6_passes 38 = .ok (.iload 4, 2) := dk_21 4 (dk_at dksX6_passes_1 15 rfl rfl)
theorem dX6_passes_40 : decode cX6_passes 40 = .ok (.invokevirtual 345, 3) := dk_182 1 89 (dk_at dksX6_passes_1 17 rfl rfl)
theorem dX6_passes_43 : decode cX6_passes 43 = .ok (.ireturn, 1) := dk_172 (dk_at dksX6_passes_1 20 rfl rfl)
abbrev cX6_areTwo : ByteArray := prog_22_method_89_code
def yX6_areTwo : MethodName := ⟨RX6, "areTwo", "(III)Z"⟩
def dkwX6_areTwo_1 : List UInt8 := [16, 9, 182, 0, 145, 153, 0, 7, 4, 167, 0, 4, 3, 172]
abbrev dktX6_areTwo_1 : List UInt8 := dkwX6_areTwo_1 ++ []
def dkwX6_areTwo_0 : List UInt8 := [42, 27, 182, 0, 153, 153, 0, 31, 42, 28, 182, 0, 153, 153, 0, 23, 27, 28, 159, 0, 18, 42, 29, 4]
abbrev dktX6_areTwo_0 : List UInt8 := dkwX6_areTwo_0 ++ dktX6_areTwo_1
theorem dksX6_areTwo_0 : cX6_areTwo.data.toList.drop 0 = dktX6_areTwo_0 := by decide +kernel
theorem dksX6_areTwo_1 : cX6_areTwo.data.toList.drop 24 = dktX6_areTwo_1 := dk_seg dksX6_areTwo_0 24 rfl rfl
theorem dX6_areTwo_0 : decode cX6_areTwo 0 = .ok (.aload_n 0, 1) := dk_42 (dk_at dksX6_areTwo_0 0 rfl rfl)
theorem dX6_areTwo_1 : decode cX6_areTwo 1 = .ok (.iload_n 1, 1) := dk_27 (dk_at dksX6_areTwo_0 1 rfl rfl)
theorem dX6_areTwo_2 : decode cX6_areTwo 2 = .ok (.invokevirtual 153, 3) := dk_182 0 153 (dk_at dksX6_areTwo_0 2 rfl rfl)
theorem dX6_areTwo_5 : decode cX6_areTwo 5 = .ok (.ifCond .eq 31, 3) := dk_153 0 31 (dk_at dksX6_areTwo_0 5 rfl rfl)
theorem dX6_areTwo_8 : decode cX6_areTwo 8 = .ok (.aload_n 0, 1) := dk_42 (dk_at dksX6_areTwo_0 8 rfl rfl)
theorem dX6_areTwo_9 : decode cX6_areTwo 9 = .ok (.iload_n 2, 1) := dk_28 (dk_at dksX6_areTwo_0 9 rfl rfl)
theorem dX6_areTwo_10 : decode cX6_areTwo 10 = .ok (.invokevirtual 153, 3) := dk_182 0 153 (dk_at dksX6_areTwo_0 10 rfl rfl)
theorem dX6_areTwo_13 : decode cX6_areTwo 13 = .ok (.ifCond .eq 23, 3) := dk_153 0 23 (dk_at dksX6_areTwo_0 13 rfl rfl)
theorem dX6_areTwo_16 : decode cX6_areTwo 16 = .ok (.iload_n 1, 1) := dk_27 (dk_at dksX6_areTwo_0 16 rfl rfl)
theorem dX6_areTwo_17 : decode cX6_areTwo 17 = .ok (.iload_n 2, 1) := dk_28 (dk_at dksX6_areTwo_0 17 rfl rfl)
theorem dX6_areTwo_18 : decode cX6_areTwo 18 = .ok (.if_icmp .eq 18, 3) := dk_159 0 18 (dk_at dksX6_areTwo_0 18 rfl rfl)
theorem dX6_areTwo_21 : decode cX6_areTwo 21 = .ok (.aload_n 0, 1) := dk_42 (dk_at dksX6_areTwo_0 21 rfl rfl)
theorem dX6_areTwo_22 : decode cX6_areTwo 22 = .ok (.iload_n 3, 1) := dk_29 (dk_at dksX6_areTwo_0 22 rfl rfl)
theorem dX6_areTwo_23 : decode cX6_areTwo 23 = .ok (.iconst 1, 1) := dk_4 (dk_at dksX6_areTwo_0 23 rfl rfl)
theorem dX6_areTwo_24 : decode cX6_areTwo 24 = .ok (.bipush 9, 2) := dk_16 9 (dk_at dksX6_areTwo_1 0 rfl rfl)
theorem dX6_areTwo_26 : decode cX6_areTwo 26 = .ok (.invokevirtual 145, 3) := dk_182 0 145 (dk_at dksX6_areTwo_1 2 rfl rfl)
theorem dX6_areTwo_29 : decode cX6_areTwo 29 = .ok (.ifCond .eq 7, 3) := dk_153 0 7 (dk_at dksX6_areTwo_1 5 rfl rfl)
theorem dX6_areTwo_32 : decode cX6_areTwo 32 = .ok (.iconst 1, 1) := dk_4 (dk_at dksX6_areTwo_1 8 rfl rfl)
theorem dX6_areTwo_33 : decode cX6_areTwo 33 = .ok (.goto 4, 3) := dk_167 0 4 (dk_at dksX6_areTwo_1 9 rfl rfl)
theorem dX6_areTwo_36 : decode cX6_areTwo 36 = .ok (.iconst 0, 1) := dk_3 (dk_at dksX6_areTwo_1 12 rfl rfl)
theorem dX6_areTwo_37 : decode cX6_areTwo 37 = .ok (.ireturn, 1) := dk_172 (dk_at dksX6_areTwo_1 13 rfl rfl)
abbrev cX6_holds : ByteArray := prog_22_method_91_code
def yX6_holds : MethodName := ⟨RX6, "holds", "(III)I"⟩
def dkwX6_holds_1 : List UInt8 := [42, 28, 27, 182, 1, 98, 172]
abbrev dktX6_holds_1 : List UInt8 := dkwX6_holds_1 ++ []
def dkwX6_holds_0 : List UInt8 := [42, 3, 181, 0, 122, 42, 27, 28, 29, 182, 1, 151, 154, 0, 5, 2, 172, 42, 29, 3, 2, 182, 1, 122]
abbrev dktX6_holds_0 : List UInt8 := dkwX6_holds_0 ++ dktX6_holds_1
theorem dksX6_holds_0 : cX6_holds.data.toList.drop 0 = dktX6_holds_0 := by decide +kernel
theorem dksX6_holds_1 : cX6_holds.data.toList.drop 24 = dktX6_holds_1 := dk_seg dksX6_holds_0 24 rfl rfl
theorem dX6_holds_0 : decode cX6_holds 0 = .ok (.aload_n 0, 1) := dk_42 (dk_at dksX6_holds_0 0 rfl rfl)
theorem dX6_holds_1 : decode cX6_holds 1 = .ok (.iconst 0, 1) := dk_3 (dk_at dksX6_holds_0 1 rfl rfl)
theorem dX6_holds_2 : decode cX6_holds 2 = .ok (.putfield 122, 3) := dk_181 0 122 (dk_at dksX6_holds_0 2 rfl rfl)
theorem dX6_holds_5 : decode cX6_holds 5 = .ok (.aload_n 0, 1) := dk_42 (dk_at dksX6_holds_0 5 rfl rfl)
theorem dX6_holds_6 : decode cX6_holds 6 = .ok (.iload_n 1, 1) := dk_27 (dk_at dksX6_holds_0 6 rfl rfl)
theorem dX6_holds_7 : decode cX6_holds 7 = .ok (.iload_n 2, 1) := dk_28 (dk_at dksX6_holds_0 7 rfl rfl)
theorem dX6_holds_8 : decode cX6_holds 8 = .ok (.iload_n 3, 1) := dk_29 (dk_at dksX6_holds_0 8 rfl rfl)
theorem dX6_holds_9 : decode cX6_holds 9 = .ok (.invokevirtual 407, 3) := dk_182 1 151 (dk_at dksX6_holds_0 9 rfl rfl)
theorem dX6_holds_12 : decode cX6_holds 12 = .ok (.ifCond .ne 5, 3) := dk_154 0 5 (dk_at dksX6_holds_0 12 rfl rfl)
theorem dX6_holds_15 : decode cX6_holds 15 = .ok (.iconst (-1), 1) := dk_2 (dk_at dksX6_holds_0 15 rfl rfl)
theorem dX6_holds_16 : decode cX6_holds 16 = .ok (.ireturn, 1) := dk_172 (dk_at dksX6_holds_0 16 rfl rfl)
theorem dX6_holds_17 : decode cX6_holds 17 = .ok (.aload_n 0, 1) := dk_42 (dk_at dksX6_holds_0 17 rfl rfl)
theorem dX6_holds_18 : decode cX6_holds 18 = .ok (.iload_n 3, 1) := dk_29 (dk_at dksX6_holds_0 18 rfl rfl)
theorem dX6_holds_19 : decode cX6_holds 19 = .ok (.iconst 0, 1) := dk_3 (dk_at dksX6_holds_0 19 rfl rfl)
theorem dX6_holds_20 : decode cX6_holds 20 = .ok (.iconst (-1), 1) := dk_2 (dk_at dksX6_holds_0 20 rfl rfl)
theorem dX6_holds_21 : decode cX6_holds 21 = .ok (.invokevirtual 378, 3) := dk_182 1 122 (dk_at dksX6_holds_0 21 rfl rfl)
theorem dX6_holds_24 : decode cX6_holds 24 = .ok (.aload_n 0, 1) := dk_42 (dk_at dksX6_holds_1 0 rfl rfl)
theorem dX6_holds_25 : decode cX6_holds 25 = .ok (.iload_n 2, 1) := dk_28 (dk_at dksX6_holds_1 1 rfl rfl)
theorem dX6_holds_26 : decode cX6_holds 26 = .ok (.iload_n 1, 1) := dk_27 (dk_at dksX6_holds_1 2 rfl rfl)
theorem dX6_holds_27 : decode cX6_holds 27 = .ok (.invokevirtual 354, 3) := dk_182 1 98 (dk_at dksX6_holds_1 3 rfl rfl)
theorem dX6_holds_30 : decode cX6_holds 30 = .ok (.ireturn, 1) := dk_172 (dk_at dksX6_holds_1 6 rfl rfl)
abbrev cX6_asks : ByteArray := prog_22_method_92_code
def yX6_asks : MethodName := ⟨RX6, "asks", "(III)I"⟩
def dkwX6_asks_2 : List UInt8 := [96, 46, 27, 182, 1, 125, 172]
abbrev dktX6_asks_2 : List UInt8 := dkwX6_asks_2 ++ []
def dkwX6_asks_1 : List UInt8 := [29, 182, 1, 151, 154, 0, 5, 2, 172, 42, 29, 3, 28, 182, 1, 122, 42, 42, 180, 0, 7, 16, 101, 28]
abbrev dktX6_asks_1 : List UInt8 := dkwX6_asks_1 ++ dktX6_asks_2
def dkwX6_asks_0 : List UInt8 := [42, 3, 181, 0, 122, 42, 28, 182, 0, 157, 153, 0, 21, 42, 42, 180, 0, 7, 16, 101, 28, 96, 46, 27]
abbrev dktX6_asks_0 : List UInt8 := dkwX6_asks_0 ++ dktX6_asks_1
theorem dksX6_asks_0 : cX6_asks.data.toList.drop 0 = dktX6_asks_0 := by decide +kernel
theorem dksX6_asks_1 : cX6_asks.data.toList.drop 24 = dktX6_asks_1 := dk_seg dksX6_asks_0 24 rfl rfl
theorem dksX6_asks_2 : cX6_asks.data.toList.drop 48 = dktX6_asks_2 := dk_seg dksX6_asks_1 24 rfl rfl
theorem dX6_asks_0 : decode cX6_asks 0 = .ok (.aload_n 0, 1) := dk_42 (dk_at dksX6_asks_0 0 rfl rfl)
theorem dX6_asks_1 : decode cX6_asks 1 = .ok (.iconst 0, 1) := dk_3 (dk_at dksX6_asks_0 1 rfl rfl)
theorem dX6_asks_2 : decode cX6_asks 2 = .ok (.putfield 122, 3) := dk_181 0 122 (dk_at dksX6_asks_0 2 rfl rfl)
theorem dX6_asks_5 : decode cX6_asks 5 = .ok (.aload_n 0, 1) := dk_42 (dk_at dksX6_asks_0 5 rfl rfl)
theorem dX6_asks_6 : decode cX6_asks 6 = .ok (.iload_n 2, 1) := dk_28 (dk_at dksX6_asks_0 6 rfl rfl)
theorem dX6_asks_7 : decode cX6_asks 7 = .ok (.invokevirtual 157, 3) := dk_182 0 157 (dk_at dksX6_asks_0 7 rfl rfl)
theorem dX6_asks_10 : decode cX6_asks 10 = .ok (.ifCond .eq 21, 3) := dk_153 0 21 (dk_at dksX6_asks_0 10 rfl rfl)
theorem dX6_asks_13 : decode cX6_asks 13 = .ok (.aload_n 0, 1) := dk_42 (dk_at dksX6_asks_0 13 rfl rfl)
theorem dX6_asks_14 : decode cX6_asks 14 = .ok (.aload_n 0, 1) := dk_42 (dk_at dksX6_asks_0 14 rfl rfl)
theorem dX6_asks_15 : decode cX6_asks 15 = .ok (.getfield 7, 3) := dk_180 0 7 (dk_at dksX6_asks_0 15 rfl rfl)
theorem dX6_asks_18 : decode cX6_asks 18 = .ok (.bipush 101, 2) := dk_16 101 (dk_at dksX6_asks_0 18 rfl rfl)
theorem dX6_asks_20 : decode cX6_asks 20 = .ok (.iload_n 2, 1) := dk_28 (dk_at dksX6_asks_0 20 rfl rfl)
theorem dX6_asks_21 : decode cX6_asks 21 = .ok (.iadd, 1) := dk_96 (dk_at dksX6_asks_0 21 rfl rfl)
theorem dX6_asks_22 : decode cX6_asks 22 = .ok (.iaload, 1) := dk_46 (dk_at dksX6_asks_0 22 rfl rfl)
theorem dX6_asks_23 : decode cX6_asks 23 = .ok (.iload_n 1, 1) := dk_27 (dk_at dksX6_asks_0 23 rfl rfl)
theorem dX6_asks_24 : decode cX6_asks 24 = .ok (.iload_n 3, 1) := dk_29 (dk_at dksX6_asks_1 0 rfl rfl)
theorem dX6_asks_25 : decode cX6_asks 25 = .ok (.invokevirtual 407, 3) := dk_182 1 151 (dk_at dksX6_asks_1 1 rfl rfl)
theorem dX6_asks_28 : decode cX6_asks 28 = .ok (.ifCond .ne 5, 3) := dk_154 0 5 (dk_at dksX6_asks_1 4 rfl rfl)
theorem dX6_asks_31 : decode cX6_asks 31 = .ok (.iconst (-1), 1) := dk_2 (dk_at dksX6_asks_1 7 rfl rfl)
theorem dX6_asks_32 : decode cX6_asks 32 = .ok (.ireturn, 1) := dk_172 (dk_at dksX6_asks_1 8 rfl rfl)
theorem dX6_asks_33 : decode cX6_asks 33 = .ok (.aload_n 0, 1) := dk_42 (dk_at dksX6_asks_1 9 rfl rfl)
theorem dX6_asks_34 : decode cX6_asks 34 = .ok (.iload_n 3, 1) := dk_29 (dk_at dksX6_asks_1 10 rfl rfl)
theorem dX6_asks_35 : decode cX6_asks 35 = .ok (.iconst 0, 1) := dk_3 (dk_at dksX6_asks_1 11 rfl rfl)
theorem dX6_asks_36 : decode cX6_asks 36 = .ok (.iload_n 2, 1) := dk_28 (dk_at dksX6_asks_1 12 rfl rfl)
theorem dX6_asks_37 : decode cX6_asks 37 = .ok (.invokevirtual 378, 3) := dk_182 1 122 (dk_at dksX6_asks_1 13 rfl rfl)
theorem dX6_asks_40 : decode cX6_asks 40 = .ok (.aload_n 0, 1) := dk_42 (dk_at dksX6_asks_1 16 rfl rfl)
theorem dX6_asks_41 : decode cX6_asks 41 = .ok (.aload_n 0, 1) := dk_42 (dk_at dksX6_asks_1 17 rfl rfl)
theorem dX6_asks_42 : decode cX6_asks 42 = .ok (.getfield 7, 3) := dk_180 0 7 (dk_at dksX6_asks_1 18 rfl rfl)
theorem dX6_asks_45 : decode cX6_asks 45 = .ok (.bipush 101, 2) := dk_16 101 (dk_at dksX6_asks_1 21 rfl rfl)
theorem dX6_asks_47 : decode cX6_asks 47 = .ok (.iload_n 2, 1) := dk_28 (dk_at dksX6_asks_1 23 rfl rfl)
theorem dX6_asks_48 : decode cX6_asks 48 = .ok (.iadd, 1) := dk_96 (dk_at dksX6_asks_2 0 rfl rfl)
theorem dX6_asks_49 : decode cX6_asks 49 = .ok (.iaload, 1) := dk_46 (dk_at dksX6_asks_2 1 rfl rfl)
theorem dX6_asks_50 : decode cX6_asks 50 = .ok (.iload_n 1, 1) := dk_27 (dk_at dksX6_asks_2 2 rfl rfl)
theorem dX6_asks_51 : decode cX6_asks 51 = .ok (.invokevirtual 381, 3) := dk_182 1 125 (dk_at dksX6_asks_2 3 rfl rfl)
theorem dX6_asks_54 : decode cX6_asks 54 = .ok (.ireturn, 1) := dk_172 (dk_at dksX6_asks_2 6 rfl rfl)
abbrev cX6_book : ByteArray := prog_22_method_93_code
def yX6_book : MethodName := ⟨RX6, "book", "(II)I"⟩
def dkwX6_book_1 : List UInt8 := [3, 6, 182, 0, 145, 153, 0, 16, 42, 180, 0, 25, 7, 27, 104, 28, 96, 46, 167, 0, 4, 2, 172]
abbrev dktX6_book_1 : List UInt8 := dkwX6_book_1 ++ []
def dkwX6_book_0 : List UInt8 := [42, 3, 181, 0, 122, 42, 27, 3, 42, 180, 0, 7, 5, 46, 4, 100, 182, 0, 145, 153, 0, 26, 42, 28]
abbrev dktX6_book_0 : List UInt8 := dkwX6_book_0 ++ dktX6_book_1
theorem dksX6_book_0 : cX6_book.data.toList.drop 0 = dktX6_book_0 := by decide +kernel
theorem dksX6_book_1 : cX6_book.data.toList.drop 24 = dktX6_book_1 := dk_seg dksX6_book_0 24 rfl rfl
theorem dX6_book_0 : decode cX6_book 0 = .ok (.aload_n 0, 1) := dk_42 (dk_at dksX6_book_0 0 rfl rfl)
theorem dX6_book_1 : decode cX6_book 1 = .ok (.iconst 0, 1) := dk_3 (dk_at dksX6_book_0 1 rfl rfl)
theorem dX6_book_2 : decode cX6_book 2 = .ok (.putfield 122, 3) := dk_181 0 122 (dk_at dksX6_book_0 2 rfl rfl)
theorem dX6_book_5 : decode cX6_book 5 = .ok (.aload_n 0, 1) := dk_42 (dk_at dksX6_book_0 5 rfl rfl)
theorem dX6_book_6 : decode cX6_book 6 = .ok (.iload_n 1, 1) := dk_27 (dk_at dksX6_book_0 6 rfl rfl)
theorem dX6_book_7 : decode cX6_book 7 = .ok (.iconst 0, 1) := dk_3 (dk_at dksX6_book_0 7 rfl rfl)
theorem dX6_book_8 : decode cX6_book 8 = .ok (.aload_n 0, 1) := dk_42 (dk_at dksX6_book_0 8 rfl rfl)
theorem dX6_book_9 : decode cX6_book 9 = .ok (.getfield 7, 3) := dk_180 0 7 (dk_at dksX6_book_0 9 rfl rfl)
theorem dX6_book_12 : decode cX6_book 12 = .ok (.iconst 2, 1) := dk_5 (dk_at dksX6_book_0 12 rfl rfl)
theorem dX6_book_13 : decode cX6_book 13 = .ok (.iaload, 1) := dk_46 (dk_at dksX6_book_0 13 rfl rfl)
theorem dX6_book_14 : decode cX6_book 14 = .ok (.iconst 1, 1) := dk_4 (dk_at dksX6_book_0 14 rfl rfl)
theorem dX6_book_15 : decode cX6_book 15 = .ok (.isub, 1) := dk_100 (dk_at dksX6_book_0 15 rfl rfl)
theorem dX6_book_16 : decode cX6_book 16 = .ok (.invokevirtual 145, 3) := dk_182 0 145 (dk_at dksX6_book_0 16 rfl rfl)
theorem dX6_book_19 : decode cX6_book 19 = .ok (.ifCond .eq 26, 3) := dk_153 0 26 (dk_at dksX6_book_0 19 rfl rfl)
theorem dX6_book_22 : decode cX6_book 22 = .ok (.aload_n 0, 1) := dk_42 (dk_at dksX6_book_0 22 rfl rfl)
theorem dX6_book_23 : decode cX6_book 23 = .ok (.iload_n 2, 1) := dk_28 (dk_at dksX6_book_0 23 rfl rfl)
theorem dX6_book_24 : decode cX6_book 24 = .ok (.iconst 0, 1) := dk_3 (dk_at dksX6_book_1 0 rfl rfl)
theorem dX6_book_25 : decode cX6_book 25 = .ok (.iconst 3, 1) := dk_6 (dk_at dksX6_book_1 1 rfl rfl)
theorem dX6_book_26 : decode cX6_book 26 = .ok (.invokevirtual 145, 3) := dk_182 0 145 (dk_at dksX6_book_1 2 rfl rfl)
theorem dX6_book_29 : decode cX6_book 29 = .ok (.ifCond .eq 16, 3) := dk_153 0 16 (dk_at dksX6_book_1 5 rfl rfl)
theorem dX6_book_32 : decode cX6_book 32 = .ok (.aload_n 0, 1) := dk_42 (dk_at dksX6_book_1 8 rfl rfl)
theorem dX6_book_33 : decode cX6_book 33 = .ok (.getfield 25, 3) := dk_180 0 25 (dk_at dksX6_book_1 9 rfl rfl)
theorem dX6_book_36 : decode cX6_book 36 = .ok (.iconst 4, 1) := dk_7 (dk_at dksX6_book_1 12 rfl rfl)
theorem dX6_book_37 : decode cX6_book 37 = .ok (.iload_n 1, 1) := dk_27 (dk_at dksX6_book_1 13 rfl rfl)
theorem dX6_book_38 : decode cX6_book 38 = .ok (.imul, 1) := dk_104 (dk_at dksX6_book_1 14 rfl rfl)
theorem dX6_book_39 : decode cX6_book 39 = .ok (.iload_n 2, 1) := dk_28 (dk_at dksX6_book_1 15 rfl rfl)
theorem dX6_book_40 : decode cX6_book 40 = .ok (.iadd, 1) := dk_96 (dk_at dksX6_book_1 16 rfl rfl)
theorem dX6_book_41 : decode cX6_book 41 = .ok (.iaload, 1) := dk_46 (dk_at dksX6_book_1 17 rfl rfl)
theorem dX6_book_42 : decode cX6_book 42 = .ok (.goto 4, 3) := dk_167 0 4 (dk_at dksX6_book_1 18 rfl rfl)
theorem dX6_book_45 : decode cX6_book 45 = .ok (.iconst (-1), 1) := dk_2 (dk_at dksX6_book_1 21 rfl rfl)
theorem dX6_book_46 : decode cX6_book 46 = .ok (.ireturn, 1) := dk_172 (dk_at dksX6_book_1 22 rfl rfl)
abbrev cX6_goes : ByteArray := prog_22_method_95_code
def yX6_goes : MethodName := ⟨RX6, "goes", "(II)I"⟩
def dkwX6_goes_4 : List UInt8 := [167, 0, 13, 42, 16, 111, 42, 180, 0, 138, 182, 1, 157, 62, 42, 182, 1, 160, 29, 172]
abbrev dktX6_goes_4 : List UInt8 := dkwX6_goes_4 ++ []
def dkwX6_goes_3 : List UInt8 := [180, 0, 7, 7, 46, 167, 0, 31, 28, 5, 160, 0, 16, 42, 16, 65, 42, 180, 0, 135, 182, 1, 157]
abbrev dktX6_goes_3 : List UInt8 := dkwX6_goes_3 ++ dktX6_goes_4
def dkwX6_goes_2 : List UInt8 := [167, 255, 243, 28, 154, 0, 12, 42, 180, 0, 7, 6, 46, 167, 0, 45, 28, 4, 160, 0, 12, 42]
abbrev dktX6_goes_2 : List UInt8 := dkwX6_goes_2 ++ dktX6_goes_3
def dkwX6_goes_1 : List UInt8 := [154, 0, 5, 2, 172, 42, 182, 1, 154, 3, 62, 29, 27, 162, 0, 14, 42, 182, 1, 148, 87, 132, 3, 1]
abbrev dktX6_goes_1 : List UInt8 := dkwX6_goes_1 ++ dktX6_goes_2
def dkwX6_goes_0 : List UInt8 := [42, 3, 181, 0, 122, 42, 27, 4, 16, 60, 182, 0, 145, 153, 0, 13, 42, 28, 3, 6, 182, 0, 145]
abbrev dktX6_goes_0 : List UInt8 := dkwX6_goes_0 ++ dktX6_goes_1
theorem dksX6_goes_0 : cX6_goes.data.toList.drop 0 = dktX6_goes_0 := by decide +kernel
theorem dksX6_goes_1 : cX6_goes.data.toList.drop 23 = dktX6_goes_1 := dk_seg dksX6_goes_0 23 rfl rfl
theorem dksX6_goes_2 : cX6_goes.data.toList.drop 47 = dktX6_goes_2 := dk_seg dksX6_goes_1 24 rfl rfl
theorem dksX6_goes_3 : cX6_goes.data.toList.drop 69 = dktX6_goes_3 := dk_seg dksX6_goes_2 22 rfl rfl
theorem dksX6_goes_4 : cX6_goes.data.toList.drop 92 = dktX6_goes_4 := dk_seg dksX6_goes_3 23 rfl rfl
theorem dX6_goes_0 : decode cX6_goes 0 = .ok (.aload_n 0, 1) := dk_42 (dk_at dksX6_goes_0 0 rfl rfl)
theorem dX6_goes_1 : decode cX6_goes 1 = .ok (.iconst 0, 1) := dk_3 (dk_at dksX6_goes_0 1 rfl rfl)
theorem dX6_goes_2 : decode cX6_goes 2 = .ok (.putfield 122, 3) := dk_181 0 122 (dk_at dksX6_goes_0 2 rfl rfl)
theorem dX6_goes_5 : decode cX6_goes 5 = .ok (.aload_n 0, 1) := dk_42 (dk_at dksX6_goes_0 5 rfl rfl)
theorem dX6_goes_6 : decode cX6_goes 6 = .ok (.iload_n 1, 1) := dk_27 (dk_at dksX6_goes_0 6 rfl rfl)
theorem dX6_goes_7 : decode cX6_goes 7 = .ok (.iconst 1, 1) := dk_4 (dk_at dksX6_goes_0 7 rfl rfl)
theorem dX6_goes_8 : decode cX6_goes 8 = .ok (.bipush 60, 2) := dk_16 60 (dk_at dksX6_goes_0 8 rfl rfl)
theorem dX6_goes_10 : decode cX6_goes 10 = .ok (.invokevirtual 145, 3) := dk_182 0 145 (dk_at dksX6_goes_0 10 rfl rfl)
theorem dX6_goes_13 : decode cX6_goes 13 = .ok (.ifCond .eq 13, 3) := dk_153 0 13 (dk_at dksX6_goes_0 13 rfl rfl)
theorem dX6_goes_16 : decode cX6_goes 16 = .ok (.aload_n 0, 1) := dk_42 (dk_at dksX6_goes_0 16 rfl rfl)
theorem dX6_goes_17 : decode cX6_goes 17 = .ok (.iload_n 2, 1) := dk_28 (dk_at dksX6_goes_0 17 rfl rfl)
theorem dX6_goes_18 : decode cX6_goes 18 = .ok (.iconst 0, 1) := dk_3 (dk_at dksX6_goes_0 18 rfl rfl)
theorem dX6_goes_19 : decode cX6_goes 19 = .ok (.iconst 3, 1) := dk_6 (dk_at dksX6_goes_0 19 rfl rfl)
theorem dX6_goes_20 : decode cX6_goes 20 = .ok (.invokevirtual 145, 3) := dk_182 0 145 (dk_at dksX6_goes_0 20 rfl rfl)
theorem dX6_goes_23 : decode cX6_goes 23 = .ok (.ifCond .ne 5, 3) := dk_154 0 5 (dk_at dksX6_goes_1 0 rfl rfl)
theorem dX6_goes_26 : decode cX6_goes 26 = .ok (.iconst (-1), 1) := dk_2 (dk_at dksX6_goes_1 3 rfl rfl)
theorem dX6_goes_27 : decode cX6_goes 27 = .ok (.ireturn, 1) := dk_172 (dk_at dksX6_goes_1 4 rfl rfl)
theorem dX6_goes_28 : decode cX6_goes 28 = .ok (.aload_n 0, 1) := dk_42 (dk_at dksX6_goes_1 5 rfl rfl)
theorem dX6_goes_29 : decode cX6_goes 29 = .ok (.invokevirtual 410, 3) := dk_182 1 154 (dk_at dksX6_goes_1 6 rfl rfl)
theorem dX6_goes_32 : decode cX6_goes 32 = .ok (.iconst 0, 1) := dk_3 (dk_at dksX6_goes_1 9 rfl rfl)
theorem dX6_goes_33 : decode cX6_goes 33 = .ok (.istore_n 3, 1) := dk_62 (dk_at dksX6_goes_1 10 rfl rfl)
theorem dX6_goes_34 : decode cX6_goes 34 = .ok (.iload_n 3, 1) := dk_29 (dk_at dksX6_goes_1 11 rfl rfl)
theorem dX6_goes_35 : decode cX6_goes 35 = .ok (.iload_n 1, 1) := dk_27 (dk_at dksX6_goes_1 12 rfl rfl)
theorem dX6_goes_36 : decode cX6_goes 36 = .ok (.if_icmp .ge 14, 3) := dk_162 0 14 (dk_at dksX6_goes_1 13 rfl rfl)
theorem dX6_goes_39 : decode cX6_goes 39 = .ok (.aload_n 0, 1) := dk_42 (dk_at dksX6_goes_1 16 rfl rfl)
theorem dX6_goes_40 : decode cX6_goes 40 = .ok (.invokevirtual 404, 3) := dk_182 1 148 (dk_at dksX6_goes_1 17 rfl rfl)
theorem dX6_goes_43 : decode cX6_goes 43 = .ok (.pop, 1) := dk_87 (dk_at dksX6_goes_1 20 rfl rfl)
theorem dX6_goes_44 : decode cX6_goes 44 = .ok (.iinc 3 1, 3) := dk_132 3 1 (dk_at dksX6_goes_1 21 rfl rfl)
theorem dX6_goes_47 : decode cX6_goes 47 = .ok (.goto (-13), 3) := dk_167 255 243 (dk_at dksX6_goes_2 0 rfl rfl)
theorem dX6_goes_50 : decode cX6_goes 50 = .ok (.iload_n 2, 1) := dk_28 (dk_at dksX6_goes_2 3 rfl rfl)
theorem dX6_goes_51 : decode cX6_goes 51 = .ok (.ifCond .ne 12, 3) := dk_154 0 12 (dk_at dksX6_goes_2 4 rfl rfl)
theorem dX6_goes_54 : decode cX6_goes 54 = .ok (.aload_n 0, 1) := dk_42 (dk_at dksX6_goes_2 7 rfl rfl)
theorem dX6_goes_55 : decode cX6_goes 55 = .ok (.getfield 7, 3) := dk_180 0 7 (dk_at dksX6_goes_2 8 rfl rfl)
theorem dX6_goes_58 : decode cX6_goes 58 = .ok (.iconst 3, 1) := dk_6 (dk_at dksX6_goes_2 11 rfl rfl)
theorem dX6_goes_59 : decode cX6_goes 59 = .ok (.iaload, 1) := dk_46 (dk_at dksX6_goes_2 12 rfl rfl)
theorem dX6_goes_60 : decode cX6_goes 60 = .ok (.goto 45, 3) := dk_167 0 45 (dk_at dksX6_goes_2 13 rfl rfl)
theorem dX6_goes_63 : decode cX6_goes 63 = .ok (.iload_n 2, 1) := dk_28 (dk_at dksX6_goes_2 16 rfl rfl)
theorem dX6_goes_64 : decode cX6_goes 64 = .ok (.iconst 1, 1) := dk_4 (dk_at dksX6_goes_2 17 rfl rfl)
theorem dX6_goes_65 : decode cX6_goes 65 = .ok (.if_icmp .ne 12, 3) := dk_160 0 12 (dk_at dksX6_goes_2 18 rfl rfl)
theorem dX6_goes_68 : decode cX6_goes 68 = .ok (.aload_n 0, 1) := dk_42 (dk_at dksX6_goes_2 21 rfl rfl)
theorem dX6_goes_69 : decode cX6_goes 69 = .ok (.getfield 7, 3) := dk_180 0 7 (dk_at dksX6_goes_3 0 rfl rfl)
theorem dX6_goes_72 : decode cX6_goes 72 = .ok (.iconst 4, 1) := dk_7 (dk_at dksX6_goes_3 3 rfl rfl)
theorem dX6_goes_73 : decode cX6_goes 73 = .ok (.iaload, 1) := dk_46 (dk_at dksX6_goes_3 4 rfl rfl)
theorem dX6_goes_74 : decode cX6_goes 74 = .ok (.goto 31, 3) := dk_167 0 31 (dk_at dksX6_goes_3 5 rfl rfl)
theorem dX6_goes_77 : decode cX6_goes 77 = .ok (.iload_n 2, 1) := dk_28 (dk_at dksX6_goes_3 8 rfl rfl)
theorem dX6_goes_78 : decode cX6_goes 78 = .ok (.iconst 2, 1) := dk_5 (dk_at dksX6_goes_3 9 rfl rfl)
theorem dX6_goes_79 : decode cX6_goes 79 = .ok (.if_icmp .ne 16, 3) := dk_160 0 16 (dk_at dksX6_goes_3 10 rfl rfl)
theorem dX6_goes_82 : decode cX6_goes 82 = .ok (.aload_n 0, 1) := dk_42 (dk_at dksX6_goes_3 13 rfl rfl)
theorem dX6_goes_83 : decode cX6_goes 83 = .ok (.bipush 65, 2) := dk_16 65 (dk_at dksX6_goes_3 14 rfl rfl)
theorem dX6_goes_85 : decode cX6_goes 85 = .ok (.aload_n 0, 1) := dk_42 (dk_at dksX6_goes_3 16 rfl rfl)
theorem dX6_goes_86 : decode cX6_goes 86 = .ok (.getfield 135, 3) := dk_180 0 135 (dk_at dksX6_goes_3 17 rfl rfl)
theorem dX6_goes_89 : decode cX6_goes 89 = .ok (.invokevirtual 413, 3) := dk_182 1 157 (dk_at dksX6_goes_3 20 rfl rfl)
theorem dX6_goes_92 : decode cX6_goes 92 = .ok (.goto 13, 3) := dk_167 0 13 (dk_at dksX6_goes_4 0 rfl rfl)
theorem dX6_goes_95 : decode cX6_goes 95 = .ok (.aload_n 0, 1) := dk_42 (dk_at dksX6_goes_4 3 rfl rfl)
theorem dX6_goes_96 : decode cX6_goes 96 = .ok (.bipush 111, 2) := dk_16 111 (dk_at dksX6_goes_4 4 rfl rfl)
theorem dX6_goes_98 : decode cX6_goes 98 = .ok (.aload_n 0, 1) := dk_42 (dk_at dksX6_goes_4 6 rfl rfl)
theorem dX6_goes_99 : decode cX6_goes 99 = .ok (.getfield 138, 3) := dk_180 0 138 (dk_at dksX6_goes_4 7 rfl rfl)
theorem dX6_goes_102 : decode cX6_goes 102 = .ok (.invokevirtual 413, 3) := dk_182 1 157 (dk_at dksX6_goes_4 10 rfl rfl)
theorem dX6_goes_105 : decode cX6_goes 105 = .ok (.istore_n 3, 1) := dk_62 (dk_at dksX6_goes_4 13 rfl rfl)
theorem dX6_goes_106 : decode cX6_goes 106 = .ok (.aload_n 0, 1) := dk_42 (dk_at dksX6_goes_4 14 rfl rfl)
theorem dX6_goes_107 : decode cX6_goes 107 = .ok (.invokevirtual 416, 3) := dk_182 1 160 (dk_at dksX6_goes_4 15 rfl rfl)
theorem dX6_goes_110 : decode cX6_goes 110 = .ok (.iload_n 3, 1) := dk_29 (dk_at dksX6_goes_4 18 rfl rfl)
theorem dX6_goes_111 : decode cX6_goes 111 = .ok (.ireturn, 1) := dk_172 (dk_at dksX6_goes_4 19 rfl rfl)
abbrev cX6_thinks : ByteArray := prog_22_method_13_code
def yX6_thinks : MethodName := ⟨RX6, "thinks", "()V"⟩
def dkwX6_thinks_1 : List UInt8 := [167, 255, 235, 42, 4, 181, 0, 129, 177]
abbrev dktX6_thinks_1 : List UInt8 := dkwX6_thinks_1 ++ []
def dkwX6_thinks_0 : List UInt8 := [3, 60, 27, 16, 121, 162, 0, 21, 42, 180, 0, 16, 27, 42, 180, 0, 7, 27, 46, 79, 132, 1, 1]
abbrev dktX6_thinks_0 : List UInt8 := dkwX6_thinks_0 ++ dktX6_thinks_1
theorem dksX6_thinks_0 : cX6_thinks.data.toList.drop 0 = dktX6_thinks_0 := by decide +kernel
theorem dksX6_thinks_1 : cX6_thinks.data.toList.drop 23 = dktX6_thinks_1 := dk_seg dksX6_thinks_0 23 rfl rfl
theorem dX6_thinks_0 : decode cX6_thinks 0 = .ok (.iconst 0, 1) := dk_3 (dk_at dksX6_thinks_0 0 rfl rfl)
theorem dX6_thinks_1 : decode cX6_thinks 1 = .ok (.istore_n 1, 1) := dk_60 (dk_at dksX6_thinks_0 1 rfl rfl)
theorem dX6_thinks_2 : decode cX6_thinks 2 = .ok (.iload_n 1, 1) := dk_27 (dk_at dksX6_thinks_0 2 rfl rfl)
theorem dX6_thinks_3 : decode cX6_thinks 3 = .ok (.bipush 121, 2) := dk_16 121 (dk_at dksX6_thinks_0 3 rfl rfl)
theorem dX6_thinks_5 : decode cX6_thinks 5 = .ok (.if_icmp .ge 21, 3) := dk_162 0 21 (dk_at dksX6_thinks_0 5 rfl rfl)
theorem dX6_thinks_8 : decode cX6_thinks 8 = .ok (.aload_n 0, 1) := dk_42 (dk_at dksX6_thinks_0 8 rfl rfl)
theorem dX6_thinks_9 : decode cX6_thinks 9 = .ok (.getfield 16, 3) := dk_180 0 16 (dk_at dksX6_thinks_0 9 rfl rfl)
theorem dX6_thinks_12 : decode cX6_thinks 12 = .ok (.iload_n 1, 1) := dk_27 (dk_at dksX6_thinks_0 12 rfl rfl)
theorem dX6_thinks_13 : decode cX6_thinks 13 = .ok (.aload_n 0, 1) := dk_42 (dk_at dksX6_thinks_0 13 rfl rfl)
theorem dX6_thinks_14 : decode cX6_thinks 14 = .ok (.getfield 7, 3) := dk_180 0 7 (dk_at dksX6_thinks_0 14 rfl rfl)
theorem dX6_thinks_17 : decode cX6_thinks 17 = .ok (.iload_n 1, 1) := dk_27 (dk_at dksX6_thinks_0 17 rfl rfl)
theorem dX6_thinks_18 : decode cX6_thinks 18 = .ok (.iaload, 1) := dk_46 (dk_at dksX6_thinks_0 18 rfl rfl)
theorem dX6_thinks_19 : decode cX6_thinks 19 = .ok (.iastore, 1) := dk_79 (dk_at dksX6_thinks_0 19 rfl rfl)
theorem dX6_thinks_20 : decode cX6_thinks 20 = .ok (.iinc 1 1, 3) := dk_132 1 1 (dk_at dksX6_thinks_0 20 rfl rfl)
theorem dX6_thinks_23 : decode cX6_thinks 23 = .ok (.goto (-21), 3) := dk_167 255 235 (dk_at dksX6_thinks_1 0 rfl rfl)
theorem dX6_thinks_26 : decode cX6_thinks 26 = .ok (.aload_n 0, 1) := dk_42 (dk_at dksX6_thinks_1 3 rfl rfl)
theorem dX6_thinks_27 : decode cX6_thinks 27 = .ok (.iconst 1, 1) := dk_4 (dk_at dksX6_thinks_1 4 rfl rfl)
theorem dX6_thinks_28 : decode cX6_thinks 28 = .ok (.putfield 129, 3) := dk_181 0 129 (dk_at dksX6_thinks_1 5 rfl rfl)
theorem dX6_thinks_31 : decode cX6_thinks 31 = .ok (.return_, 1) := dk_177 (dk_at dksX6_thinks_1 8 rfl rfl)
abbrev cX6_sumOf : ByteArray := prog_22_method_94_code
def yX6_sumOf : MethodName := ⟨RX6, "sumOf", "(II)I"⟩
def dkwX6_sumOf_1 : List UInt8 := [132, 4, 1, 167, 255, 235, 29, 172]
abbrev dktX6_sumOf_1 : List UInt8 := dkwX6_sumOf_1 ++ []
def dkwX6_sumOf_0 : List UInt8 := [3, 62, 3, 54, 4, 21, 4, 28, 162, 0, 21, 29, 42, 180, 0, 7, 27, 21, 4, 96, 46, 96, 62]
abbrev dktX6_sumOf_0 : List UInt8 := dkwX6_sumOf_0 ++ dktX6_sumOf_1
theorem dksX6_sumOf_0 : cX6_sumOf.data.toList.drop 0 = dktX6_sumOf_0 := by decide +kernel
theorem dksX6_sumOf_1 : cX6_sumOf.data.toList.drop 23 = dktX6_sumOf_1 := dk_seg dksX6_sumOf_0 23 rfl rfl
theorem dX6_sumOf_0 : decode cX6_sumOf 0 = .ok (.iconst 0, 1) := dk_3 (dk_at dksX6_sumOf_0 0 rfl rfl)
theorem dX6_sumOf_1 : decode cX6_sumOf 1 = .ok (.istore_n 3, 1) := dk_62 (dk_at dksX6_sumOf_0 1 rfl rfl)
theorem dX6_sumOf_2 : decode cX6_sumOf 2 = .ok (.iconst 0, 1) := dk_3 (dk_at dksX6_sumOf_0 2 rfl rfl)
theorem dX6_sumOf_3 : decode cX6_sumOf 3 = .ok (.istore 4, 2) := dk_54 4 (dk_at dksX6_sumOf_0 3 rfl rfl)
theorem dX6_sumOf_5 : decode cX6_sumOf 5 = .ok (.iload 4, 2) := dk_21 4 (dk_at dksX6_sumOf_0 5 rfl rfl)
theorem dX6_sumOf_7 : decode cX6_sumOf 7 = .ok (.iload_n 2, 1) := dk_28 (dk_at dksX6_sumOf_0 7 rfl rfl)
theorem dX6_sumOf_8 : decode cX6_sumOf 8 = .ok (.if_icmp .ge 21, 3) := dk_162 0 21 (dk_at dksX6_sumOf_0 8 rfl rfl)
theorem dX6_sumOf_11 : decode cX6_sumOf 11 = .ok (.iload_n 3, 1) := dk_29 (dk_at dksX6_sumOf_0 11 rfl rfl)
theorem dX6_sumOf_12 : decode cX6_sumOf 12 = .ok (.aload_n 0, 1) := dk_42 (dk_at dksX6_sumOf_0 12 rfl rfl)
theorem dX6_sumOf_13 : decode cX6_sumOf 13 = .ok (.getfield 7, 3) := dk_180 0 7 (dk_at dksX6_sumOf_0 13 rfl rfl)
theorem dX6_sumOf_16 : decode cX6_sumOf 16 = .ok (.iload_n 1, 1) := dk_27 (dk_at dksX6_sumOf_0 16 rfl rfl)
theorem dX6_sumOf_17 : decode cX6_sumOf 17 = .ok (.iload 4, 2) := dk_21 4 (dk_at dksX6_sumOf_0 17 rfl rfl)
theorem dX6_sumOf_19 : decode cX6_sumOf 19 = .ok (.iadd, 1) := dk_96 (dk_at dksX6_sumOf_0 19 rfl rfl)
theorem dX6_sumOf_20 : decode cX6_sumOf 20 = .ok (.iaload, 1) := dk_46 (dk_at dksX6_sumOf_0 20 rfl rfl)
theorem dX6_sumOf_21 : decode cX6_sumOf 21 = .ok (.iadd, 1) := dk_96 (dk_at dksX6_sumOf_0 21 rfl rfl)
theorem dX6_sumOf_22 : decode cX6_sumOf 22 = .ok (.istore_n 3, 1) := dk_62 (dk_at dksX6_sumOf_0 22 rfl rfl)
theorem dX6_sumOf_23 : decode cX6_sumOf 23 = .ok (.iinc 4 1, 3) := dk_132 4 1 (dk_at dksX6_sumOf_1 0 rfl rfl)
theorem dX6_sumOf_26 : decode cX6_sumOf 26 = .ok (.goto (-21), 3) := dk_167 255 235 (dk_at dksX6_sumOf_1 3 rfl rfl)
theorem dX6_sumOf_29 : decode cX6_sumOf 29 = .ok (.iload_n 3, 1) := dk_29 (dk_at dksX6_sumOf_1 6 rfl rfl)
theorem dX6_sumOf_30 : decode cX6_sumOf 30 = .ok (.ireturn, 1) := dk_172 (dk_at dksX6_sumOf_1 7 rfl rfl)
abbrev cX6_endsThought : ByteArray := prog_22_method_14_code
def yX6_endsThought : MethodName := ⟨RX6, "endsThought", "()V"⟩
def dkwX6_endsThought_1 : List UInt8 := [167, 255, 235, 42, 3, 181, 0, 129, 177]
abbrev dktX6_endsThought_1 : List UInt8 := dkwX6_endsThought_1 ++ []
def dkwX6_endsThought_0 : List UInt8 := [3, 60, 27, 16, 121, 162, 0, 21, 42, 180, 0, 7, 27, 42, 180, 0, 16, 27, 46, 79, 132, 1, 1]
abbrev dktX6_endsThought_0 : List UInt8 := dkwX6_endsThought_0 ++ dktX6_endsThought_1
theorem dksX6_endsThought_0 : cX6_endsThought.data.toList.drop 0 = dktX6_endsThought_0 := by decide +kernel
theorem dksX6_endsThought_1 : cX6_endsThought.data.toList.drop 23 = dktX6_endsThought_1 := dk_seg dksX6_endsThought_0 23 rfl rfl
theorem dX6_endsThought_0 : decode cX6_endsThought 0 = .ok (.iconst 0, 1) := dk_3 (dk_at dksX6_endsThought_0 0 rfl rfl)
theorem dX6_endsThought_1 : decode cX6_endsThought 1 = .ok (.istore_n 1, 1) := dk_60 (dk_at dksX6_endsThought_0 1 rfl rfl)
theorem dX6_endsThought_2 : decode cX6_endsThought 2 = .ok (.iload_n 1, 1) := dk_27 (dk_at dksX6_endsThought_0 2 rfl rfl)
theorem dX6_endsThought_3 : decode cX6_endsThought 3 = .ok (.bipush 121, 2) := dk_16 121 (dk_at dksX6_endsThought_0 3 rfl rfl)
theorem dX6_endsThought_5 : decode cX6_endsThought 5 = .ok (.if_icmp .ge 21, 3) := dk_162 0 21 (dk_at dksX6_endsThought_0 5 rfl rfl)
theorem dX6_endsThought_8 : decode cX6_endsThought 8 = .ok (.aload_n 0, 1) := dk_42 (dk_at dksX6_endsThought_0 8 rfl rfl)
theorem dX6_endsThought_9 : decode cX6_endsThought 9 = .ok (.getfield 7, 3) := dk_180 0 7 (dk_at dksX6_endsThought_0 9 rfl rfl)
theorem dX6_endsThought_12 : decode cX6_endsThought 12 = .ok (.iload_n 1, 1) := dk_27 (dk_at dksX6_endsThought_0 12 rfl rfl)
theorem dX6_endsThought_13 : decode cX6_endsThought 13 = .ok (.aload_n 0, 1) := dk_42 (dk_at dksX6_endsThought_0 13 rfl rfl)
theorem dX6_endsThought_14 : decode cX6_endsThought 14 = .ok (.getfield 16, 3) := dk_180 0 16 (dk_at dksX6_endsThought_0 14 rfl rfl)
theorem dX6_endsThought_17 : decode cX6_endsThought 17 = .ok (.iload_n 1, 1) := dk_27 (dk_at dksX6_endsThought_0 17 rfl rfl)
theorem dX6_endsThought_18 : decode cX6_endsThought 18 = .ok (.iaload, 1) := dk_46 (dk_at dksX6_endsThought_0 18 rfl rfl)
theorem dX6_endsThought_19 : decode cX6_endsThought 19 = .ok (.iastore, 1) := dk_79 (dk_at dksX6_endsThought_0 19 rfl rfl)
theorem dX6_endsThought_20 : decode cX6_endsThought 20 = .ok (.iinc 1 1, 3) := dk_132 1 1 (dk_at dksX6_endsThought_0 20 rfl rfl)
theorem dX6_endsThought_23 : decode cX6_endsThought 23 = .ok (.goto (-21), 3) := dk_167 255 235 (dk_at dksX6_endsThought_1 0 rfl rfl)
theorem dX6_endsThought_26 : decode cX6_endsThought 26 = .ok (.aload_n 0, 1) := dk_42 (dk_at dksX6_endsThought_1 3 rfl rfl)
theorem dX6_endsThought_27 : decode cX6_endsThought 27 = .ok (.iconst 0, 1) := dk_3 (dk_at dksX6_endsThought_1 4 rfl rfl)
theorem dX6_endsThought_28 : decode cX6_endsThought 28 = .ok (.putfield 129, 3) := dk_181 0 129 (dk_at dksX6_endsThought_1 5 rfl rfl)
theorem dX6_endsThought_31 : decode cX6_endsThought 31 = .ok (.return_, 1) := dk_177 (dk_at dksX6_endsThought_1 8 rfl rfl)
abbrev cX6_would : ByteArray := prog_22_method_96_code
def yX6_would : MethodName := ⟨RX6, "would", "(IIII)I"⟩
def dkwX6_would_2 : List UInt8 := [182, 1, 63, 21, 5, 100, 54, 6, 42, 182, 1, 160, 21, 6, 172]
abbrev dktX6_would_2 : List UInt8 := dkwX6_would_2 ++ []
def dkwX6_would_1 : List UInt8 := [182, 1, 63, 54, 5, 42, 182, 1, 154, 42, 27, 28, 29, 21, 4, 182, 1, 141, 87, 42, 27, 3]
abbrev dktX6_would_1 : List UInt8 := dkwX6_would_1 ++ dktX6_would_2
def dkwX6_would_0 : List UInt8 := [42, 3, 181, 0, 122, 42, 27, 28, 29, 21, 4, 182, 1, 134, 154, 0, 7, 17, 252, 24, 172, 42, 27, 3]
abbrev dktX6_would_0 : List UInt8 := dkwX6_would_0 ++ dktX6_would_1
theorem dksX6_would_0 : cX6_would.data.toList.drop 0 = dktX6_would_0 := by decide +kernel
theorem dksX6_would_1 : cX6_would.data.toList.drop 24 = dktX6_would_1 := dk_seg dksX6_would_0 24 rfl rfl
theorem dksX6_would_2 : cX6_would.data.toList.drop 46 = dktX6_would_2 := dk_seg dksX6_would_1 22 rfl rfl
theorem dX6_would_0 : decode cX6_would 0 = .ok (.aload_n 0, 1) := dk_42 (dk_at dksX6_would_0 0 rfl rfl)
theorem dX6_would_1 : decode cX6_would 1 = .ok (.iconst 0, 1) := dk_3 (dk_at dksX6_would_0 1 rfl rfl)
theorem dX6_would_2 : decode cX6_would 2 = .ok (.putfield 122, 3) := dk_181 0 122 (dk_at dksX6_would_0 2 rfl rfl)
theorem dX6_would_5 : decode cX6_would 5 = .ok (.aload_n 0, 1) := dk_42 (dk_at dksX6_would_0 5 rfl rfl)
theorem dX6_would_6 : decode cX6_would 6 = .ok (.iload_n 1, 1) := dk_27 (dk_at dksX6_would_0 6 rfl rfl)
theorem dX6_would_7 : decode cX6_would 7 = .ok (.iload_n 2, 1) := dk_28 (dk_at dksX6_would_0 7 rfl rfl)
theorem dX6_would_8 : decode cX6_would 8 = .ok (.iload_n 3, 1) := dk_29 (dk_at dksX6_would_0 8 rfl rfl)
theorem dX6_would_9 : decode cX6_would 9 = .ok (.iload 4, 2) := dk_21 4 (dk_at dksX6_would_0 9 rfl rfl)
theorem dX6_would_11 : decode cX6_would 11 = .ok (.invokevirtual 390, 3) := dk_182 1 134 (dk_at dksX6_would_0 11 rfl rfl)
theorem dX6_would_14 : decode cX6_would 14 = .ok (.ifCond .ne 7, 3) := dk_154 0 7 (dk_at dksX6_would_0 14 rfl rfl)
theorem dX6_would_17 : decode cX6_would 17 = .ok (.sipush (-1000), 3) := dk_17 252 24 (dk_at dksX6_would_0 17 rfl rfl)
theorem dX6_would_20 : decode cX6_would 20 = .ok (.ireturn, 1) := dk_172 (dk_at dksX6_would_0 20 rfl rfl)
theorem dX6_would_21 : decode cX6_would 21 = .ok (.aload_n 0, 1) := dk_42 (dk_at dksX6_would_0 21 rfl rfl)
theorem dX6_would_22 : decode cX6_would 22 = .ok (.iload_n 1, 1) := dk_27 (dk_at dksX6_would_0 22 rfl rfl)
theorem dX6_would_23 : decode cX6_would 23 = .ok (.iconst 0, 1) := dk_3 (dk_at dksX6_would_0 23 rfl rfl)
theorem dX6_would_24 : decode cX6_would 24 = .ok (.invokevirtual 319, 3) := dk_182 1 63 (dk_at dksX6_would_1 0 rfl rfl)
theorem dX6_would_27 : decode cX6_would 27 = .ok (.istore 5, 2) := dk_54 5 (dk_at dksX6_would_1 3 rfl rfl)
theorem dX6_would_29 : decode cX6_would 29 = .ok (.aload_n 0, 1) := dk_42 (dk_at dksX6_would_1 5 rfl rfl)
theorem dX6_would_30 : decode cX6_would 30 = .ok (.invokevirtual 410, 3) := dk_182 1 154 (dk_at dksX6_would_1 6 rfl rfl)
theorem dX6_would_33 : decode cX6_would 33 = .ok (.aload_n 0, 1) := dk_42 (dk_at dksX6_would_1 9 rfl rfl)
theorem dX6_would_34 : decode cX6_would 34 = .ok (.iload_n 1, 1) := dk_27 (dk_at dksX6_would_1 10 rfl rfl)
theorem dX6_would_35 : decode cX6_would 35 = .ok (.iload_n 2, 1) := dk_28 (dk_at dksX6_would_1 11 rfl rfl)
theorem dX6_would_36 : decode cX6_would 36 = .ok (.iload_n 3, 1) := dk_29 (dk_at dksX6_would_1 12 rfl rfl)
theorem dX6_would_37 : decode cX6_would 37 = .ok (.iload 4, 2) := dk_21 4 (dk_at dksX6_would_1 13 rfl rfl)
theorem dX6_would_39 : decode cX6_would 39 = .ok (.invokevirtual 397, 3) := dk_182 1 141 (dk_at dksX6_would_1 15 rfl rfl)
theorem dX6_would_42 : decode cX6_would 42 = .ok (.pop, 1) := dk_87 (dk_at dksX6_would_1 18 rfl rfl)
theorem dX6_would_43 : decode cX6_would 43 = .ok (.aload_n 0, 1) := dk_42 (dk_at dksX6_would_1 19 rfl rfl)
theorem dX6_would_44 : decode cX6_would 44 = .ok (.iload_n 1, 1) := dk_27 (dk_at dksX6_would_1 20 rfl rfl)
theorem dX6_would_45 : decode cX6_would 45 = .ok (.iconst 0, 1) := dk_3 (dk_at dksX6_would_1 21 rfl rfl)
theorem dX6_would_46 : decode cX6_would 46 = .ok (.invokevirtual 319, 3) := dk_182 1 63 (dk_at dksX6_would_2 0 rfl rfl)
theorem dX6_would_49 : decode cX6_would 49 = .ok (.iload 5, 2) := dk_21 5 (dk_at dksX6_would_2 3 rfl rfl)
theorem dX6_would_51 : decode cX6_would 51 = .ok (.isub, 1) := dk_100 (dk_at dksX6_would_2 5 rfl rfl)
theorem dX6_would_52 : decode cX6_would 52 = .ok (.istore 6, 2) := dk_54 6 (dk_at dksX6_would_2 6 rfl rfl)
theorem dX6_would_54 : decode cX6_would 54 = .ok (.aload_n 0, 1) := dk_42 (dk_at dksX6_would_2 8 rfl rfl)
theorem dX6_would_55 : decode cX6_would 55 = .ok (.invokevirtual 416, 3) := dk_182 1 160 (dk_at dksX6_would_2 9 rfl rfl)
theorem dX6_would_58 : decode cX6_would 58 = .ok (.iload 6, 2) := dk_21 6 (dk_at dksX6_would_2 12 rfl rfl)
theorem dX6_would_60 : decode cX6_would 60 = .ok (.ireturn, 1) := dk_172 (dk_at dksX6_would_2 14 rfl rfl)
abbrev cX6_told : ByteArray := prog_22_method_97_code
def yX6_told : MethodName := ⟨RX6, "told", "(II)I"⟩
def dkwX6_told_3 : List UInt8 := [42, 180, 1, 163, 28, 79, 42, 42, 180, 1, 163, 4, 96, 181, 1, 163, 42, 180, 1, 163, 172]
abbrev dktX6_told_3 : List UInt8 := dkwX6_told_3 ++ []
def dkwX6_told_2 : List UInt8 := [180, 1, 163, 16, 16, 160, 0, 5, 2, 172, 42, 180, 0, 83, 42, 180, 1, 163, 27, 79, 42, 180, 0, 86]
abbrev dktX6_told_2 : List UInt8 := dkwX6_told_2 ++ dktX6_told_3
def dkwX6_told_1 : List UInt8 := [182, 0, 145, 153, 0, 28, 42, 28, 3, 16, 11, 182, 0, 145, 153, 0, 17, 27, 28, 159, 0, 12, 42]
abbrev dktX6_told_1 : List UInt8 := dkwX6_told_1 ++ dktX6_told_2
def dkwX6_told_0 : List UInt8 := [42, 3, 181, 0, 122, 27, 2, 160, 0, 10, 42, 3, 181, 1, 163, 3, 172, 42, 27, 3, 16, 11]
abbrev dktX6_told_0 : List UInt8 := dkwX6_told_0 ++ dktX6_told_1
theorem dksX6_told_0 : cX6_told.data.toList.drop 0 = dktX6_told_0 := by decide +kernel
theorem dksX6_told_1 : cX6_told.data.toList.drop 22 = dktX6_told_1 := dk_seg dksX6_told_0 22 rfl rfl
theorem dksX6_told_2 : cX6_told.data.toList.drop 45 = dktX6_told_2 := dk_seg dksX6_told_1 23 rfl rfl
theorem dksX6_told_3 : cX6_told.data.toList.drop 69 = dktX6_told_3 := dk_seg dksX6_told_2 24 rfl rfl
theorem dX6_told_0 : decode cX6_told 0 = .ok (.aload_n 0, 1) := dk_42 (dk_at dksX6_told_0 0 rfl rfl)
theorem dX6_told_1 : decode cX6_told 1 = .ok (.iconst 0, 1) := dk_3 (dk_at dksX6_told_0 1 rfl rfl)
theorem dX6_told_2 : decode cX6_told 2 = .ok (.putfield 122, 3) := dk_181 0 122 (dk_at dksX6_told_0 2 rfl rfl)
theorem dX6_told_5 : decode cX6_told 5 = .ok (.iload_n 1, 1) := dk_27 (dk_at dksX6_told_0 5 rfl rfl)
theorem dX6_told_6 : decode cX6_told 6 = .ok (.iconst (-1), 1) := dk_2 (dk_at dksX6_told_0 6 rfl rfl)
theorem dX6_told_7 : decode cX6_told 7 = .ok (.if_icmp .ne 10, 3) := dk_160 0 10 (dk_at dksX6_told_0 7 rfl rfl)
theorem dX6_told_10 : decode cX6_told 10 = .ok (.aload_n 0, 1) := dk_42 (dk_at dksX6_told_0 10 rfl rfl)
theorem dX6_told_11 : decode cX6_told 11 = .ok (.iconst 0, 1) := dk_3 (dk_at dksX6_told_0 11 rfl rfl)
theorem dX6_told_12 : decode cX6_told 12 = .ok (.putfield 419, 3) := dk_181 1 163 (dk_at dksX6_told_0 12 rfl rfl)
theorem dX6_told_15 : decode cX6_told 15 = .ok (.iconst 0, 1) := dk_3 (dk_at dksX6_told_0 15 rfl rfl)
theorem dX6_told_16 : decode cX6_told 16 = .ok (.ireturn, 1) := dk_172 (dk_at dksX6_told_0 16 rfl rfl)
theorem dX6_told_17 : decode cX6_told 17 = .ok (.aload_n 0, 1) := dk_42 (dk_at dksX6_told_0 17 rfl rfl)
theorem dX6_told_18 : decode cX6_told 18 = .ok (.iload_n 1, 1) := dk_27 (dk_at dksX6_told_0 18 rfl rfl)
theorem dX6_told_19 : decode cX6_told 19 = .ok (.iconst 0, 1) := dk_3 (dk_at dksX6_told_0 19 rfl rfl)
theorem dX6_told_20 : decode cX6_told 20 = .ok (.bipush 11, 2) := dk_16 11 (dk_at dksX6_told_0 20 rfl rfl)
theorem dX6_told_22 : decode cX6_told 22 = .ok (.invokevirtual 145, 3) := dk_182 0 145 (dk_at dksX6_told_1 0 rfl rfl)
theorem dX6_told_25 : decode cX6_told 25 = .ok (.ifCond .eq 28, 3) := dk_153 0 28 (dk_at dksX6_told_1 3 rfl rfl)
theorem dX6_told_28 : decode cX6_told 28 = .ok (.aload_n 0, 1) := dk_42 (dk_at dksX6_told_1 6 rfl rfl)
theorem dX6_told_29 : decode cX6_told 29 = .ok (.iload_n 2, 1) := dk_28 (dk_at dksX6_told_1 7 rfl rfl)
theorem dX6_told_30 : decode cX6_told 30 = .ok (.iconst 0, 1) := dk_3 (dk_at dksX6_told_1 8 rfl rfl)
theorem dX6_told_31 : decode cX6_told 31 = .ok (.bipush 11, 2) := dk_16 11 (dk_at dksX6_told_1 9 rfl rfl)
theorem dX6_told_33 : decode cX6_told 33 = .ok (.invokevirtual 145, 3) := dk_182 0 145 (dk_at dksX6_told_1 11 rfl rfl)
theorem dX6_told_36 : decode cX6_told 36 = .ok (.ifCond .eq 17, 3) := dk_153 0 17 (dk_at dksX6_told_1 14 rfl rfl)
theorem dX6_told_39 : decode cX6_told 39 = .ok (.iload_n 1, 1) := dk_27 (dk_at dksX6_told_1 17 rfl rfl)
theorem dX6_told_40 : decode cX6_told 40 = .ok (.iload_n 2, 1) := dk_28 (dk_at dksX6_told_1 18 rfl rfl)
theorem dX6_told_41 : decode cX6_told 41 = .ok (.if_icmp .eq 12, 3) := dk_159 0 12 (dk_at dksX6_told_1 19 rfl rfl)
theorem dX6_told_44 : decode cX6_told 44 = .ok (.aload_n 0, 1) := dk_42 (dk_at dksX6_told_1 22 rfl rfl)
theorem dX6_told_45 : decode cX6_told 45 = .ok (.getfield 419, 3) := dk_180 1 163 (dk_at dksX6_told_2 0 rfl rfl)
theorem dX6_told_48 : decode cX6_told 48 = .ok (.bipush 16, 2) := dk_16 16 (dk_at dksX6_told_2 3 rfl rfl)
theorem dX6_told_50 : decode cX6_told 50 = .ok (.if_icmp .ne 5, 3) := dk_160 0 5 (dk_at dksX6_told_2 5 rfl rfl)
theorem dX6_told_53 : decode cX6_told 53 = .ok (.iconst (-1), 1) := dk_2 (dk_at dksX6_told_2 8 rfl rfl)
theorem dX6_told_54 : decode cX6_told 54 = .ok (.ireturn, 1) := dk_172 (dk_at dksX6_told_2 9 rfl rfl)
theorem dX6_told_55 : decode cX6_told 55 = .ok (.aload_n 0, 1) := dk_42 (dk_at dksX6_told_2 10 rfl rfl)
theorem dX6_told_56 : decode cX6_told 56 = .ok (.getfield 83, 3) := dk_180 0 83 (dk_at dksX6_told_2 11 rfl rfl)
theorem dX6_told_59 : decode cX6_told 59 = .ok (.aload_n 0, 1) := dk_42 (dk_at dksX6_told_2 14 rfl rfl)
theorem dX6_told_60 : decode cX6_told 60 = .ok (.getfield 419, 3) := dk_180 1 163 (dk_at dksX6_told_2 15 rfl rfl)
theorem dX6_told_63 : decode cX6_told 63 = .ok (.iload_n 1, 1) := dk_27 (dk_at dksX6_told_2 18 rfl rfl)
theorem dX6_told_64 : decode cX6_told 64 = .ok (.iastore, 1) := dk_79 (dk_at dksX6_told_2 19 rfl rfl)
theorem dX6_told_65 : decode cX6_told 65 = .ok (.aload_n 0, 1) := dk_42 (dk_at dksX6_told_2 20 rfl rfl)
theorem dX6_told_66 : decode cX6_told 66 = .ok (.getfield 86, 3) := dk_180 0 86 (dk_at dksX6_told_2 21 rfl rfl)
theorem dX6_told_69 : decode cX6_told 69 = .ok (.aload_n 0, 1) := dk_42 (dk_at dksX6_told_3 0 rfl rfl)
theorem dX6_told_70 : decode cX6_told 70 = .ok (.getfield 419, 3) := dk_180 1 163 (dk_at dksX6_told_3 1 rfl rfl)
theorem dX6_told_73 : decode cX6_told 73 = .ok (.iload_n 2, 1) := dk_28 (dk_at dksX6_told_3 4 rfl rfl)
theorem dX6_told_74 : decode cX6_told 74 = .ok (.iastore, 1) := dk_79 (dk_at dksX6_told_3 5 rfl rfl)
theorem dX6_told_75 : decode cX6_told 75 = .ok (.aload_n 0, 1) := dk_42 (dk_at dksX6_told_3 6 rfl rfl)
theorem dX6_told_76 : decode cX6_told 76 = .ok (.aload_n 0, 1) := dk_42 (dk_at dksX6_told_3 7 rfl rfl)
theorem dX6_told_77 : decode cX6_told 77 = .ok (.getfield 419, 3) := dk_180 1 163 (dk_at dksX6_told_3 8 rfl rfl)
theorem dX6_told_80 : decode cX6_told 80 = .ok (.iconst 1, 1) := dk_4 (dk_at dksX6_told_3 11 rfl rfl)
theorem dX6_told_81 : decode cX6_told 81 = .ok (.iadd, 1) := dk_96 (dk_at dksX6_told_3 12 rfl rfl)
theorem dX6_told_82 : decode cX6_told 82 = .ok (.putfield 419, 3) := dk_181 1 163 (dk_at dksX6_told_3 13 rfl rfl)
theorem dX6_told_85 : decode cX6_told 85 = .ok (.aload_n 0, 1) := dk_42 (dk_at dksX6_told_3 16 rfl rfl)
theorem dX6_told_86 : decode cX6_told 86 = .ok (.getfield 419, 3) := dk_180 1 163 (dk_at dksX6_told_3 17 rfl rfl)
theorem dX6_told_89 : decode cX6_told 89 = .ok (.ireturn, 1) := dk_172 (dk_at dksX6_told_3 20 rfl rfl)
abbrev cX6_came : ByteArray := prog_22_method_100_code
def yX6_came : MethodName := ⟨RX6, "came", "(II)I"⟩
def dkwX6_came_3 : List UInt8 := [27, 29, 4, 96, 182, 1, 169, 28, 182, 1, 75, 153, 0, 5, 29, 172, 132, 3, 1, 167, 255, 222, 2, 172]
abbrev dktX6_came_3 : List UInt8 := dkwX6_came_3 ++ []
def dkwX6_came_2 : List UInt8 := [180, 1, 163, 182, 1, 169, 172, 3, 62, 29, 42, 180, 1, 163, 162, 0, 32, 27, 28, 159, 0, 21, 42, 42]
abbrev dktX6_came_2 : List UInt8 := dkwX6_came_2 ++ dktX6_came_3
def dkwX6_came_1 : List UInt8 := [153, 0, 14, 42, 28, 2, 16, 11, 182, 0, 145, 154, 0, 5, 2, 172, 28, 2, 160, 0, 13, 42, 27, 42]
abbrev dktX6_came_1 : List UInt8 := dkwX6_came_1 ++ dktX6_came_2
def dkwX6_came_0 : List UInt8 := [42, 3, 181, 0, 122, 27, 2, 160, 0, 8, 42, 182, 1, 166, 172, 42, 27, 3, 16, 11, 182, 0, 145]
abbrev dktX6_came_0 : List UInt8 := dkwX6_came_0 ++ dktX6_came_1
theorem dksX6_came_0 : cX6_came.data.toList.drop 0 = dktX6_came_0 := by decide +kernel
theorem dksX6_came_1 : cX6_came.data.toList.drop 23 = dktX6_came_1 := dk_seg dksX6_came_0 23 rfl rfl
theorem dksX6_came_2 : cX6_came.data.toList.drop 47 = dktX6_came_2 := dk_seg dksX6_came_1 24 rfl rfl
theorem dksX6_came_3 : cX6_came.data.toList.drop 71 = dktX6_came_3 := dk_seg dksX6_came_2 24 rfl rfl
theorem dX6_came_0 : decode cX6_came 0 = .ok (.aload_n 0, 1) := dk_42 (dk_at dksX6_came_0 0 rfl rfl)
theorem dX6_came_1 : decode cX6_came 1 = .ok (.iconst 0, 1) := dk_3 (dk_at dksX6_came_0 1 rfl rfl)
theorem dX6_came_2 : decode cX6_came 2 = .ok (.putfield 122, 3) := dk_181 0 122 (dk_at dksX6_came_0 2 rfl rfl)
theorem dX6_came_5 : decode cX6_came 5 = .ok (.iload_n 1, 1) := dk_27 (dk_at dksX6_came_0 5 rfl rfl)
theorem dX6_came_6 : decode cX6_came 6 = .ok (.iconst (-1), 1) := dk_2 (dk_at dksX6_came_0 6 rfl rfl)
theorem dX6_came_7 : decode cX6_came 7 = .ok (.if_icmp .ne 8, 3) := dk_160 0 8 (dk_at dksX6_came_0 7 rfl rfl)
theorem dX6_came_10 : decode cX6_came 10 = .ok (.aload_n 0, 1) := dk_42 (dk_at dksX6_came_0 10 rfl rfl)
theorem dX6_came_11 : decode cX6_came 11 = .ok (.invokevirtual 422, 3) := dk_182 1 166 (dk_at dksX6_came_0 11 rfl rfl)
theorem dX6_came_14 : decode cX6_came 14 = .ok (.ireturn, 1) := dk_172 (dk_at dksX6_came_0 14 rfl rfl)
theorem dX6_came_15 : decode cX6_came 15 = .ok (.aload_n 0, 1) := dk_42 (dk_at dksX6_came_0 15 rfl rfl)
theorem dX6_came_16 : decode cX6_came 16 = .ok (.iload_n 1, 1) := dk_27 (dk_at dksX6_came_0 16 rfl rfl)
theorem dX6_came_17 : decode cX6_came 17 = .ok (.iconst 0, 1) := dk_3 (dk_at dksX6_came_0 17 rfl rfl)
theorem dX6_came_18 : decode cX6_came 18 = .ok (.bipush 11, 2) := dk_16 11 (dk_at dksX6_came_0 18 rfl rfl)
theorem dX6_came_20 : decode cX6_came 20 = .ok (.invokevirtual 145, 3) := dk_182 0 145 (dk_at dksX6_came_0 20 rfl rfl)
theorem dX6_came_23 : decode cX6_came 23 = .ok (.ifCond .eq 14, 3) := dk_153 0 14 (dk_at dksX6_came_1 0 rfl rfl)
theorem dX6_came_26 : decode cX6_came 26 = .ok (.aload_n 0, 1) := dk_42 (dk_at dksX6_came_1 3 rfl rfl)
theorem dX6_came_27 : decode cX6_came 27 = .ok (.iload_n 2, 1) := dk_28 (dk_at dksX6_came_1 4 rfl rfl)
theorem dX6_came_28 : decode cX6_came 28 = .ok (.iconst (-1), 1) := dk_2 (dk_at dksX6_came_1 5 rfl rfl)
theorem dX6_came_29 : decode cX6_came 29 = .ok (.bipush 11, 2) := dk_16 11 (dk_at dksX6_came_1 6 rfl rfl)
theorem dX6_came_31 : decode cX6_came 31 = .ok (.invokevirtual 145, 3) := dk_182 0 145 (dk_at dksX6_came_1 8 rfl rfl)
theorem dX6_came_34 : decode cX6_came 34 = .ok (.ifCond .ne 5, 3) := dk_154 0 5 (dk_at dksX6_came_1 11 rfl rfl)
theorem dX6_came_37 : decode cX6_came 37 = .ok (.iconst (-1), 1) := dk_2 (dk_at dksX6_came_1 14 rfl rfl)
theorem dX6_came_38 : decode cX6_came 38 = .ok (.ireturn, 1) := dk_172 (dk_at dksX6_came_1 15 rfl rfl)
theorem dX6_came_39 : decode cX6_came 39 = .ok (.iload_n 2, 1) := dk_28 (dk_at dksX6_came_1 16 rfl rfl)
theorem dX6_came_40 : decode cX6_came 40 = .ok (.iconst (-1), 1) := dk_2 (dk_at dksX6_came_1 17 rfl rfl)
theorem dX6_came_41 : decode cX6_came 41 = .ok (.if_icmp .ne 13, 3) := dk_160 0 13 (dk_at dksX6_came_1 18 rfl rfl)
theorem dX6_came_44 : decode cX6_came 44 = .ok (.aload_n 0, 1) := dk_42 (dk_at dksX6_came_1 21 rfl rfl)
theorem dX6_came_45 : decode cX6_came 45 = .ok (.iload_n 1, 1) := dk_27 (dk_at dksX6_came_1 22 rfl rfl)
theorem dX6_came_46 : decode cX6_came 46 = .ok (.aload_n 0, 1) := dk_42 (dk_at dksX6_came_1 23 rfl rfl)
theorem dX6_came_47 : decode cX6_came 47 = .ok (.getfield 419, 3) := dk_180 1 163 (dk_at dksX6_came_2 0 rfl rfl)
theorem dX6_came_50 : decode cX6_came 50 = .ok (.invokevirtual 425, 3) := dk_182 1 169 (dk_at dksX6_came_2 3 rfl rfl)
theorem dX6_came_53 : decode cX6_came 53 = .ok (.ireturn, 1) := dk_172 (dk_at dksX6_came_2 6 rfl rfl)
theorem dX6_came_54 : decode cX6_came 54 = .ok (.iconst 0, 1) := dk_3 (dk_at dksX6_came_2 7 rfl rfl)
theorem dX6_came_55 : decode cX6_came 55 = .ok (.istore_n 3, 1) := dk_62 (dk_at dksX6_came_2 8 rfl rfl)
theorem dX6_came_56 : decode cX6_came 56 = .ok (.iload_n 3, 1) := dk_29 (dk_at dksX6_came_2 9 rfl rfl)
theorem dX6_came_57 : decode cX6_came 57 = .ok (.aload_n 0, 1) := dk_42 (dk_at dksX6_came_2 10 rfl rfl)
theorem dX6_came_58 : decode cX6_came 58 = .ok (.getfield 419, 3) := dk_180 1 163 (dk_at dksX6_came_2 11 rfl rfl)
theorem dX6_came_61 : decode cX6_came 61 = .ok (.if_icmp .ge 32, 3) := dk_162 0 32 (dk_at dksX6_came_2 14 rfl rfl)
theorem dX6_came_64 : decode cX6_came 64 = .ok (.iload_n 1, 1) := dk_27 (dk_at dksX6_came_2 17 rfl rfl)
theorem dX6_came_65 : decode cX6_came 65 = .ok (.iload_n 2, 1) := dk_28 (dk_at dksX6_came_2 18 rfl rfl)
theorem dX6_came_66 : decode cX6_came 66 = .ok (.if_icmp .eq 21, 3) := dk_159 0 21 (dk_at dksX6_came_2 19 rfl rfl)
theorem dX6_came_69 : decode cX6_came 69 = .ok (.aload_n 0, 1) := dk_42 (dk_at dksX6_came_2 22 rfl rfl)
theorem dX6_came_70 : decode cX6_came 70 = .ok (.aload_n 0, 1) := dk_42 (dk_at dksX6_came_2 23 rfl rfl)
theorem dX6_came_71 : decode cX6_came 71 = .ok (.iload_n 1, 1) := dk_27 (dk_at dksX6_came_3 0 rfl rfl)
theorem dX6_came_72 : decode cX6_came 72 = .ok (.iload_n 3, 1) := dk_29 (dk_at dksX6_came_3 1 rfl rfl)
theorem dX6_came_73 : decode cX6_came 73 = .ok (.iconst 1, 1) := dk_4 (dk_at dksX6_came_3 2 rfl rfl)
theorem dX6_came_74 : decode cX6_came 74 = .ok (.iadd, 1) := dk_96 (dk_at dksX6_came_3 3 rfl rfl)
theorem dX6_came_75 : decode cX6_came 75 = .ok (.invokevirtual 425, 3) := dk_182 1 169 (dk_at dksX6_came_3 4 rfl rfl)
theorem dX6_came_78 : decode cX6_came 78 = .ok (.iload_n 2, 1) := dk_28 (dk_at dksX6_came_3 7 rfl rfl)
theorem dX6_came_79 : decode cX6_came 79 = .ok (.invokevirtual 331, 3) := dk_182 1 75 (dk_at dksX6_came_3 8 rfl rfl)
theorem dX6_came_82 : decode cX6_came 82 = .ok (.ifCond .eq 5, 3) := dk_153 0 5 (dk_at dksX6_came_3 11 rfl rfl)
theorem dX6_came_85 : decode cX6_came 85 = .ok (.iload_n 3, 1) := dk_29 (dk_at dksX6_came_3 14 rfl rfl)
theorem dX6_came_86 : decode cX6_came 86 = .ok (.ireturn, 1) := dk_172 (dk_at dksX6_came_3 15 rfl rfl)
theorem dX6_came_87 : decode cX6_came 87 = .ok (.iinc 3 1, 3) := dk_132 3 1 (dk_at dksX6_came_3 16 rfl rfl)
theorem dX6_came_90 : decode cX6_came 90 = .ok (.goto (-34), 3) := dk_167 255 222 (dk_at dksX6_came_3 19 rfl rfl)
theorem dX6_came_93 : decode cX6_came 93 = .ok (.iconst (-1), 1) := dk_2 (dk_at dksX6_came_3 22 rfl rfl)
theorem dX6_came_94 : decode cX6_came 94 = .ok (.ireturn, 1) := dk_172 (dk_at dksX6_came_3 23 rfl rfl)
abbrev cX6_oddSet : ByteArray := prog_22_method_99_code
def yX6_oddSet : MethodName := ⟨RX6, "oddSet", "()I"⟩
def dkwX6_oddSet_1 : List UInt8 := [180, 0, 86, 28, 46, 120, 130, 60, 132, 2, 1, 167, 255, 225, 27, 172]
abbrev dktX6_oddSet_1 : List UInt8 := dkwX6_oddSet_1 ++ []
def dkwX6_oddSet_0 : List UInt8 := [3, 60, 3, 61, 28, 42, 180, 1, 163, 162, 0, 29, 27, 4, 42, 180, 0, 83, 28, 46, 120, 130, 4, 42]
abbrev dktX6_oddSet_0 : List UInt8 := dkwX6_oddSet_0 ++ dktX6_oddSet_1
theorem dksX6_oddSet_0 : cX6_oddSet.data.toList.drop 0 = dktX6_oddSet_0 := by decide +kernel
theorem dksX6_oddSet_1 : cX6_oddSet.data.toList.drop 24 = dktX6_oddSet_1 := dk_seg dksX6_oddSet_0 24 rfl rfl
theorem dX6_oddSet_0 : decode cX6_oddSet 0 = .ok (.iconst 0, 1) := dk_3 (dk_at dksX6_oddSet_0 0 rfl rfl)
theorem dX6_oddSet_1 : decode cX6_oddSet 1 = .ok (.istore_n 1, 1) := dk_60 (dk_at dksX6_oddSet_0 1 rfl rfl)
theorem dX6_oddSet_2 : decode cX6_oddSet 2 = .ok (.iconst 0, 1) := dk_3 (dk_at dksX6_oddSet_0 2 rfl rfl)
theorem dX6_oddSet_3 : decode cX6_oddSet 3 = .ok (.istore_n 2, 1) := dk_61 (dk_at dksX6_oddSet_0 3 rfl rfl)
theorem dX6_oddSet_4 : decode cX6_oddSet 4 = .ok (.iload_n 2, 1) := dk_28 (dk_at dksX6_oddSet_0 4 rfl rfl)
theorem dX6_oddSet_5 : decode cX6_oddSet 5 = .ok (.aload_n 0, 1) := dk_42 (dk_at dksX6_oddSet_0 5 rfl rfl)
theorem dX6_oddSet_6 : decode cX6_oddSet 6 = .ok (.getfield 419, 3) := dk_180 1 163 (dk_at dksX6_oddSet_0 6 rfl rfl)
theorem dX6_oddSet_9 : decode cX6_oddSet 9 = .ok (.if_icmp .ge 29, 3) := dk_162 0 29 (dk_at dksX6_oddSet_0 9 rfl rfl)
theorem dX6_oddSet_12 : decode cX6_oddSet 12 = .ok (.iload_n 1, 1) := dk_27 (dk_at dksX6_oddSet_0 12 rfl rfl)
theorem dX6_oddSet_13 : decode cX6_oddSet 13 = .ok (.iconst 1, 1) := dk_4 (dk_at dksX6_oddSet_0 13 rfl rfl)
theorem dX6_oddSet_14 : decode cX6_oddSet 14 = .ok (.aload_n 0, 1) := dk_42 (dk_at dksX6_oddSet_0 14 rfl rfl)
theorem dX6_oddSet_15 : decode cX6_oddSet 15 = .ok (.getfield 83, 3) := dk_180 0 83 (dk_at dksX6_oddSet_0 15 rfl rfl)
theorem dX6_oddSet_18 : decode cX6_oddSet 18 = .ok (.iload_n 2, 1) := dk_28 (dk_at dksX6_oddSet_0 18 rfl rfl)
theorem dX6_oddSet_19 : decode cX6_oddSet 19 = .ok (.iaload, 1) := dk_46 (dk_at dksX6_oddSet_0 19 rfl rfl)
theorem dX6_oddSet_20 : decode cX6_oddSet 20 = .ok (.ishl, 1) := dk_120 (dk_at dksX6_oddSet_0 20 rfl rfl)
theorem dX6_oddSet_21 : decode cX6_oddSet 21 = .ok (.ixor, 1) := dk_130 (dk_at dksX6_oddSet_0 21 rfl rfl)
theorem dX6_oddSet_22 : decode cX6_oddSet 22 = .ok (.iconst 1, 1) := dk_4 (dk_at dksX6_oddSet_0 22 rfl rfl)
theorem dX6_oddSet_23 : decode cX6_oddSet 23 = .ok (.aload_n 0, 1) := dk_42 (dk_at dksX6_oddSet_0 23 rfl rfl)
theorem dX6_oddSet_24 : decode cX6_oddSet 24 = .ok (.getfield 86, 3) := dk_180 0 86 (dk_at dksX6_oddSet_1 0 rfl rfl)
theorem dX6_oddSet_27 : decode cX6_oddSet 27 = .ok (.iload_n 2, 1) := dk_28 (dk_at dksX6_oddSet_1 3 rfl rfl)
theorem dX6_oddSet_28 : decode cX6_oddSet 28 = .ok (.iaload, 1) := dk_46 (dk_at dksX6_oddSet_1 4 rfl rfl)
theorem dX6_oddSet_29 : decode cX6_oddSet 29 = .ok (.ishl, 1) := dk_120 (dk_at dksX6_oddSet_1 5 rfl rfl)
theorem dX6_oddSet_30 : decode cX6_oddSet 30 = .ok (.ixor, 1) := dk_130 (dk_at dksX6_oddSet_1 6 rfl rfl)
theorem dX6_oddSet_31 : decode cX6_oddSet 31 = .ok (.istore_n 1, 1) := dk_60 (dk_at dksX6_oddSet_1 7 rfl rfl)
theorem dX6_oddSet_32 : decode cX6_oddSet 32 = .ok (.iinc 2 1, 3) := dk_132 2 1 (dk_at dksX6_oddSet_1 8 rfl rfl)
theorem dX6_oddSet_35 : decode cX6_oddSet 35 = .ok (.goto (-31), 3) := dk_167 255 225 (dk_at dksX6_oddSet_1 11 rfl rfl)
theorem dX6_oddSet_38 : decode cX6_oddSet 38 = .ok (.iload_n 1, 1) := dk_27 (dk_at dksX6_oddSet_1 14 rfl rfl)
theorem dX6_oddSet_39 : decode cX6_oddSet 39 = .ok (.ireturn, 1) := dk_172 (dk_at dksX6_oddSet_1 15 rfl rfl)
abbrev cX6_reachedBy : ByteArray := prog_22_method_98_code
def yX6_reachedBy : MethodName := ⟨RX6, "reachedBy", "(II)I"⟩
def dkwX6_reachedBy_3 : List UInt8 := [167, 255, 195, 29, 172]
abbrev dktX6_reachedBy_3 : List UInt8 := dkwX6_reachedBy_3 ++ []
def dkwX6_reachedBy_2 : List UInt8 := [180, 0, 83, 21, 4, 46, 120, 128, 4, 42, 180, 0, 86, 21, 4, 46, 120, 128, 62, 132, 4, 1]
abbrev dktX6_reachedBy_2 : List UInt8 := dkwX6_reachedBy_2 ++ dktX6_reachedBy_3
def dkwX6_reachedBy_1 : List UInt8 := [182, 1, 75, 154, 0, 18, 42, 29, 42, 180, 0, 86, 21, 4, 46, 182, 1, 75, 153, 0, 25, 29, 4, 42]
abbrev dktX6_reachedBy_1 : List UInt8 := dkwX6_reachedBy_1 ++ dktX6_reachedBy_2
def dkwX6_reachedBy_0 : List UInt8 := [4, 27, 120, 62, 3, 54, 4, 21, 4, 28, 162, 0, 61, 42, 29, 42, 180, 0, 83, 21, 4, 46]
abbrev dktX6_reachedBy_0 : List UInt8 := dkwX6_reachedBy_0 ++ dktX6_reachedBy_1
theorem dksX6_reachedBy_0 : cX6_reachedBy.data.toList.drop 0 = dktX6_reachedBy_0 := by decide +kernel
theorem dksX6_reachedBy_1 : cX6_reachedBy.data.toList.drop 22 = dktX6_reachedBy_1 := dk_seg dksX6_reachedBy_0 22 rfl rfl
theorem dksX6_reachedBy_2 : cX6_reachedBy.data.toList.drop 46 = dktX6_reachedBy_2 := dk_seg dksX6_reachedBy_1 24 rfl rfl
theorem dksX6_reachedBy_3 : cX6_reachedBy.data.toList.drop 68 = dktX6_reachedBy_3 := dk_seg dksX6_reachedBy_2 22 rfl rfl
theorem dX6_reachedBy_0 : decode cX6_reachedBy 0 = .ok (.iconst 1, 1) := dk_4 (dk_at dksX6_reachedBy_0 0 rfl rfl)
theorem dX6_reachedBy_1 : decode cX6_reachedBy 1 = .ok (.iload_n 1, 1) := dk_27 (dk_at dksX6_reachedBy_0 1 rfl rfl)
theorem dX6_reachedBy_2 : decode cX6_reachedBy 2 = .ok (.ishl, 1) := dk_120 (dk_at dksX6_reachedBy_0 2 rfl rfl)
theorem dX6_reachedBy_3 : decode cX6_reachedBy 3 = .ok (.istore_n 3, 1) := dk_62 (dk_at dksX6_reachedBy_0 3 rfl rfl)
theorem dX6_reachedBy_4 : decode cX6_reachedBy 4 = .ok (.iconst 0, 1) := dk_3 (dk_at dksX6_reachedBy_0 4 rfl rfl)
theorem dX6_reachedBy_5 : decode cX6_reachedBy 5 = .ok (.istore 4, 2) := dk_54 4 (dk_at dksX6_reachedBy_0 5 rfl rfl)
theorem dX6_reachedBy_7 : decode cX6_reachedBy 7 = .ok (.iload 4, 2) := dk_21 4 (dk_at dksX6_reachedBy_0 7 rfl rfl)
theorem dX6_reachedBy_9 : decode cX6_reachedBy 9 = .ok (.iload_n 2, 1) := dk_28 (dk_at dksX6_reachedBy_0 9 rfl rfl)
theorem dX6_reachedBy_10 : decode cX6_reachedBy 10 = .ok (.if_icmp .ge 61, 3) := dk_162 0 61 (dk_at dksX6_reachedBy_0 10 rfl rfl)
theorem dX6_reachedBy_13 : decode cX6_reachedBy 13 = .ok (.aload_n 0, 1) := dk_42 (dk_at dksX6_reachedBy_0 13 rfl rfl)
theorem dX6_reachedBy_14 : decode cX6_reachedBy 14 = .ok (.iload_n 3, 1) := dk_29 (dk_at dksX6_reachedBy_0 14 rfl rfl)
theorem dX6_reachedBy_15 : decode cX6_reachedBy 15 = .ok (.aload_n 0, 1) := dk_42 (dk_at dksX6_reachedBy_0 15 rfl rfl)
theorem dX6_reachedBy_16 : decode cX6_reachedBy 16 = .ok (.getfield 83, 3) := dk_180 0 83 (dk_at dksX6_reachedBy_0 16 rfl rfl)
theorem dX6_reachedBy_19 : decode cX6_reachedBy 19 = .ok (.iload 4, 2) := dk_21 4 (dk_at dksX6_reachedBy_0 19 rfl rfl)
theorem dX6_reachedBy_21 : decode cX6_reachedBy 21 = .ok (.iaload, 1) := dk_46 (dk_at dksX6_reachedBy_0 21 rfl rfl)
theorem dX6_reachedBy_22 : decode cX6_reachedBy 22 = .ok (.invokevirtual 331, 3) := dk_182 1 75 (dk_at dksX6_reachedBy_1 0 rfl rfl)
theorem dX6_reachedBy_25 : decode cX6_reachedBy 25 = .ok (.ifCond .ne 18, 3) := dk_154 0 18 (dk_at dksX6_reachedBy_1 3 rfl rfl)
theorem dX6_reachedBy_28 : decode cX6_reachedBy 28 = .ok (.aload_n 0, 1) := dk_42 (dk_at dksX6_reachedBy_1 6 rfl rfl)
theorem dX6_reachedBy_29 : decode cX6_reachedBy 29 = .ok (.iload_n 3, 1) := dk_29 (dk_at dksX6_reachedBy_1 7 rfl rfl)
theorem dX6_reachedBy_30 : decode cX6_reachedBy 30 = .ok (.aload_n 0, 1) := dk_42 (dk_at dksX6_reachedBy_1 8 rfl rfl)
theorem dX6_reachedBy_31 : decode cX6_reachedBy 31 = .ok (.getfield 86, 3) := dk_180 0 86 (dk_at dksX6_reachedBy_1 9 rfl rfl)
theorem dX6_reachedBy_34 : decode cX6_reachedBy 34 = .ok (.iload 4, 2) := dk_21 4 (dk_at dksX6_reachedBy_1 12 rfl rfl)
theorem dX6_reachedBy_36 : decode cX6_reachedBy 36 = .ok (.iaload, 1) := dk_46 (dk_at dksX6_reachedBy_1 14 rfl rfl)
theorem dX6_reachedBy_37 : decode cX6_reachedBy 37 = .ok (.invokevirtual 331, 3) := dk_182 1 75 (dk_at dksX6_reachedBy_1 15 rfl rfl)
theorem dX6_reachedBy_40 : decode cX6_reachedBy 40 = .ok (.ifCond .eq 25, 3) := dk_153 0 25 (dk_at dksX6_reachedBy_1 18 rfl rfl)
theorem dX6_reachedBy_43 : decode cX6_reachedBy 43 = .ok (.iload_n 3, 1) := dk_29 (dk_at dksX6_reachedBy_1 21 rfl rfl)
theorem dX6_reachedBy_44 : decode cX6_reachedBy 44 = .ok (.iconst 1, 1) := dk_4 (dk_at dksX6_reachedBy_1 22 rfl rfl)
theorem dX6_reachedBy_45 : decode cX6_reachedBy 45 = .ok (.aload_n 0, 1) := dk_42 (dk_at dksX6_reachedBy_1 23 rfl rfl)
theorem dX6_reachedBy_46 : decode cX6_reachedBy 46 = .ok (.getfield 83, 3) := dk_180 0 83 (dk_at dksX6_reachedBy_2 0 rfl rfl)
theorem dX6_reachedBy_49 : decode cX6_reachedBy 49 = .ok (.iload 4, 2) := dk_21 4 (dk_at dksX6_reachedBy_2 3 rfl rfl)
theorem dX6_reachedBy_51 : decode cX6_reachedBy 51 = .ok (.iaload, 1) := dk_46 (dk_at dksX6_reachedBy_2 5 rfl rfl)
theorem dX6_reachedBy_52 : decode cX6_reachedBy 52 = .ok (.ishl, 1) := dk_120 (dk_at dksX6_reachedBy_2 6 rfl rfl)
theorem dX6_reachedBy_53 : decode cX6_reachedBy 53 = .ok (.ior, 1) := dk_128 (dk_at dksX6_reachedBy_2 7 rfl rfl)
theorem dX6_reachedBy_54 : decode cX6_reachedBy 54 = .ok (.iconst 1, 1) := dk_4 (dk_at dksX6_reachedBy_2 8 rfl rfl)
theorem dX6_reachedBy_55 : decode cX6_reachedBy 55 = .ok (.aload_n 0, 1) := dk_42 (dk_at dksX6_reachedBy_2 9 rfl rfl)
theorem dX6_reachedBy_56 : decode cX6_reachedBy 56 = .ok (.getfield 86, 3) := dk_180 0 86 (dk_at dksX6_reachedBy_2 10 rfl rfl)
theorem dX6_reachedBy_59 : decode cX6_reachedBy 59 = .ok (.iload 4, 2) := dk_21 4 (dk_at dksX6_reachedBy_2 13 rfl rfl)
theorem dX6_reachedBy_61 : decode cX6_reachedBy 61 = .ok (.iaload, 1) := dk_46 (dk_at dksX6_reachedBy_2 15 rfl rfl)
theorem dX6_reachedBy_62 : decode cX6_reachedBy 62 = .ok (.ishl, 1) := dk_120 (dk_at dksX6_reachedBy_2 16 rfl rfl)
theorem dX6_reachedBy_63 : decode cX6_reachedBy 63 = .ok (.ior, 1) := dk_128 (dk_at dksX6_reachedBy_2 17 rfl rfl)
theorem dX6_reachedBy_64 : decode cX6_reachedBy 64 = .ok (.istore_n 3, 1) := dk_62 (dk_at dksX6_reachedBy_2 18 rfl rfl)
theorem dX6_reachedBy_65 : decode cX6_reachedBy 65 = .ok (.iinc 4 1, 3) := dk_132 4 1 (dk_at dksX6_reachedBy_2 19 rfl rfl)
theorem dX6_reachedBy_68 : decode cX6_reachedBy 68 = .ok (.goto (-61), 3) := dk_167 255 195 (dk_at dksX6_reachedBy_3 0 rfl rfl)
theorem dX6_reachedBy_71 : decode cX6_reachedBy 71 = .ok (.iload_n 3, 1) := dk_29 (dk_at dksX6_reachedBy_3 3 rfl rfl)
theorem dX6_reachedBy_72 : decode cX6_reachedBy 72 = .ok (.ireturn, 1) := dk_172 (dk_at dksX6_reachedBy_3 4 rfl rfl)
abbrev cX6_number : ByteArray := prog_22_method_101_code
def yX6_number : MethodName := ⟨RX6, "number", "(I)I"⟩
def dkwX6_number_2 : List UInt8 := [180, 1, 172, 27, 79, 42, 42, 180, 1, 172, 4, 96, 181, 1, 172, 42, 180, 1, 172, 172]
abbrev dktX6_number_2 : List UInt8 := dkwX6_number_2 ++ []
def dkwX6_number_1 : List UInt8 := [182, 0, 145, 153, 0, 12, 42, 180, 1, 172, 16, 9, 160, 0, 5, 2, 172, 42, 180, 0, 89, 42]
abbrev dktX6_number_1 : List UInt8 := dkwX6_number_1 ++ dktX6_number_2
def dkwX6_number_0 : List UInt8 := [42, 3, 181, 0, 122, 27, 2, 160, 0, 10, 42, 3, 181, 1, 172, 3, 172, 42, 27, 3, 16, 8]
abbrev dktX6_number_0 : List UInt8 := dkwX6_number_0 ++ dktX6_number_1
theorem dksX6_number_0 : cX6_number.data.toList.drop 0 = dktX6_number_0 := by decide +kernel
theorem dksX6_number_1 : cX6_number.data.toList.drop 22 = dktX6_number_1 := dk_seg dksX6_number_0 22 rfl rfl
theorem dksX6_number_2 : cX6_number.data.toList.drop 44 = dktX6_number_2 := dk_seg dksX6_number_1 22 rfl rfl
theorem dX6_number_0 : decode cX6_number 0 = .ok (.aload_n 0, 1) := dk_42 (dk_at dksX6_number_0 0 rfl rfl)
theorem dX6_number_1 : decode cX6_number 1 = .ok (.iconst 0, 1) := dk_3 (dk_at dksX6_number_0 1 rfl rfl)
theorem dX6_number_2 : decode cX6_number 2 = .ok (.putfield 122, 3) := dk_181 0 122 (dk_at dksX6_number_0 2 rfl rfl)
theorem dX6_number_5 : decode cX6_number 5 = .ok (.iload_n 1, 1) := dk_27 (dk_at dksX6_number_0 5 rfl rfl)
theorem dX6_number_6 : decode cX6_number 6 = .ok (.iconst (-1), 1) := dk_2 (dk_at dksX6_number_0 6 rfl rfl)
theorem dX6_number_7 : decode cX6_number 7 = .ok (.if_icmp .ne 10, 3) := dk_160 0 10 (dk_at dksX6_number_0 7 rfl rfl)
theorem dX6_number_10 : decode cX6_number 10 = .ok (.aload_n 0, 1) := dk_42 (dk_at dksX6_number_0 10 rfl rfl)
theorem dX6_number_11 : decode cX6_number 11 = .ok (.iconst 0, 1) := dk_3 (dk_at dksX6_number_0 11 rfl rfl)
theorem dX6_number_12 : decode cX6_number 12 = .ok (.putfield 428, 3) := dk_181 1 172 (dk_at dksX6_number_0 12 rfl rfl)
theorem dX6_number_15 : decode cX6_number 15 = .ok (.iconst 0, 1) := dk_3 (dk_at dksX6_number_0 15 rfl rfl)
theorem dX6_number_16 : decode cX6_number 16 = .ok (.ireturn, 1) := dk_172 (dk_at dksX6_number_0 16 rfl rfl)
theorem dX6_number_17 : decode cX6_number 17 = .ok (.aload_n 0, 1) := dk_42 (dk_at dksX6_number_0 17 rfl rfl)
theorem dX6_number_18 : decode cX6_number 18 = .ok (.iload_n 1, 1) := dk_27 (dk_at dksX6_number_0 18 rfl rfl)
theorem dX6_number_19 : decode cX6_number 19 = .ok (.iconst 0, 1) := dk_3 (dk_at dksX6_number_0 19 rfl rfl)
theorem dX6_number_20 : decode cX6_number 20 = .ok (.bipush 8, 2) := dk_16 8 (dk_at dksX6_number_0 20 rfl rfl)
theorem dX6_number_22 : decode cX6_number 22 = .ok (.invokevirtual 145, 3) := dk_182 0 145 (dk_at dksX6_number_1 0 rfl rfl)
theorem dX6_number_25 : decode cX6_number 25 = .ok (.ifCond .eq 12, 3) := dk_153 0 12 (dk_at dksX6_number_1 3 rfl rfl)
theorem dX6_number_28 : decode cX6_number 28 = .ok (.aload_n 0, 1) := dk_42 (dk_at dksX6_number_1 6 rfl rfl)
theorem dX6_number_29 : decode cX6_number 29 = .ok (.getfield 428, 3) := dk_180 1 172 (dk_at dksX6_number_1 7 rfl rfl)
theorem dX6_number_32 : decode cX6_number 32 = .ok (.bipush 9, 2) := dk_16 9 (dk_at dksX6_number_1 10 rfl rfl)
theorem dX6_number_34 : decode cX6_number 34 = .ok (.if_icmp .ne 5, 3) := dk_160 0 5 (dk_at dksX6_number_1 12 rfl rfl)
theorem dX6_number_37 : decode cX6_number 37 = .ok (.iconst (-1), 1) := dk_2 (dk_at dksX6_number_1 15 rfl rfl)
theorem dX6_number_38 : decode cX6_number 38 = .ok (.ireturn, 1) := dk_172 (dk_at dksX6_number_1 16 rfl rfl)
theorem dX6_number_39 : decode cX6_number 39 = .ok (.aload_n 0, 1) := dk_42 (dk_at dksX6_number_1 17 rfl rfl)
theorem dX6_number_40 : decode cX6_number 40 = .ok (.getfield 89, 3) := dk_180 0 89 (dk_at dksX6_number_1 18 rfl rfl)
theorem dX6_number_43 : decode cX6_number 43 = .ok (.aload_n 0, 1) := dk_42 (dk_at dksX6_number_1 21 rfl rfl)
theorem dX6_number_44 : decode cX6_number 44 = .ok (.getfield 428, 3) := dk_180 1 172 (dk_at dksX6_number_2 0 rfl rfl)
theorem dX6_number_47 : decode cX6_number 47 = .ok (.iload_n 1, 1) := dk_27 (dk_at dksX6_number_2 3 rfl rfl)
theorem dX6_number_48 : decode cX6_number 48 = .ok (.iastore, 1) := dk_79 (dk_at dksX6_number_2 4 rfl rfl)
theorem dX6_number_49 : decode cX6_number 49 = .ok (.aload_n 0, 1) := dk_42 (dk_at dksX6_number_2 5 rfl rfl)
theorem dX6_number_50 : decode cX6_number 50 = .ok (.aload_n 0, 1) := dk_42 (dk_at dksX6_number_2 6 rfl rfl)
theorem dX6_number_51 : decode cX6_number 51 = .ok (.getfield 428, 3) := dk_180 1 172 (dk_at dksX6_number_2 7 rfl rfl)
theorem dX6_number_54 : decode cX6_number 54 = .ok (.iconst 1, 1) := dk_4 (dk_at dksX6_number_2 10 rfl rfl)
theorem dX6_number_55 : decode cX6_number 55 = .ok (.iadd, 1) := dk_96 (dk_at dksX6_number_2 11 rfl rfl)
theorem dX6_number_56 : decode cX6_number 56 = .ok (.putfield 428, 3) := dk_181 1 172 (dk_at dksX6_number_2 12 rfl rfl)
theorem dX6_number_59 : decode cX6_number 59 = .ok (.aload_n 0, 1) := dk_42 (dk_at dksX6_number_2 15 rfl rfl)
theorem dX6_number_60 : decode cX6_number 60 = .ok (.getfield 428, 3) := dk_180 1 172 (dk_at dksX6_number_2 16 rfl rfl)
theorem dX6_number_63 : decode cX6_number 63 = .ok (.ireturn, 1) := dk_172 (dk_at dksX6_number_2 19 rfl rfl)
abbrev cX6_could : ByteArray := prog_22_method_103_code
def yX6_could : MethodName := ⟨RX6, "could", "()I"⟩
def dkwX6_could_5 : List UInt8 := [21, 6, 120, 128, 54, 4, 132, 5, 255, 167, 255, 197, 132, 2, 1, 167, 255, 160, 4, 172]
abbrev dktX6_could_5 : List UInt8 := dkwX6_could_5 ++ []
def dkwX6_could_4 : List UInt8 := [154, 0, 5, 3, 172, 42, 180, 0, 92, 21, 6, 42, 180, 0, 92, 21, 6, 46, 4, 100, 79, 21, 4, 4]
abbrev dktX6_could_4 : List UInt8 := dkwX6_could_4 ++ dktX6_could_5
def dkwX6_could_3 : List UInt8 := [158, 0, 60, 42, 21, 4, 182, 1, 175, 54, 6, 21, 6, 2, 159, 0, 13, 42, 180, 0, 92, 21, 6, 46]
abbrev dktX6_could_3 : List UInt8 := dkwX6_could_3 ++ dktX6_could_4
def dkwX6_could_2 : List UInt8 := [182, 1, 175, 62, 27, 4, 29, 120, 128, 60, 27, 54, 4, 42, 180, 0, 92, 29, 46, 54, 5, 21, 5]
abbrev dktX6_could_2 : List UInt8 := dkwX6_could_2 ++ dktX6_could_3
def dkwX6_could_1 : List UInt8 := [27, 46, 79, 132, 1, 1, 167, 255, 233, 3, 60, 3, 61, 28, 42, 180, 1, 172, 162, 0, 94, 42, 27]
abbrev dktX6_could_1 : List UInt8 := dkwX6_could_1 ++ dktX6_could_2
def dkwX6_could_0 : List UInt8 := [42, 3, 181, 0, 122, 3, 60, 27, 42, 180, 1, 172, 162, 0, 21, 42, 180, 0, 92, 27, 42, 180, 0, 89]
abbrev dktX6_could_0 : List UInt8 := dkwX6_could_0 ++ dktX6_could_1
theorem dksX6_could_0 : cX6_could.data.toList.drop 0 = dktX6_could_0 := by decide +kernel
theorem dksX6_could_1 : cX6_could.data.toList.drop 24 = dktX6_could_1 := dk_seg dksX6_could_0 24 rfl rfl
theorem dksX6_could_2 : cX6_could.data.toList.drop 47 = dktX6_could_2 := dk_seg dksX6_could_1 23 rfl rfl
theorem dksX6_could_3 : cX6_could.data.toList.drop 70 = dktX6_could_3 := dk_seg dksX6_could_2 23 rfl rfl
theorem dksX6_could_4 : cX6_could.data.toList.drop 94 = dktX6_could_4 := dk_seg dksX6_could_3 24 rfl rfl
theorem dksX6_could_5 : cX6_could.data.toList.drop 118 = dktX6_could_5 := dk_seg dksX6_could_4 24 rfl rfl
theorem dX6_could_0 : decode cX6_could 0 = .ok (.aload_n 0, 1) := dk_42 (dk_at dksX6_could_0 0 rfl rfl)
theorem dX6_could_1 : decode cX6_could 1 = .ok (.iconst 0, 1) := dk_3 (dk_at dksX6_could_0 1 rfl rfl)
theorem dX6_could_2 : decode cX6_could 2 = .ok (.putfield 122, 3) := dk_181 0 122 (dk_at dksX6_could_0 2 rfl rfl)
theorem dX6_could_5 : decode cX6_could 5 = .ok (.iconst 0, 1) := dk_3 (dk_at dksX6_could_0 5 rfl rfl)
theorem dX6_could_6 : decode cX6_could 6 = .ok (.istore_n 1, 1) := dk_60 (dk_at dksX6_could_0 6 rfl rfl)
theorem dX6_could_7 : decode cX6_could 7 = .ok (.iload_n 1, 1) := dk_27 (dk_at dksX6_could_0 7 rfl rfl)
theorem dX6_could_8 : decode cX6_could 8 = .ok (.aload_n 0, 1) := dk_42 (dk_at dksX6_could_0 8 rfl rfl)
theorem dX6_could_9 : decode cX6_could 9 = .ok (.getfield 428, 3) := dk_180 1 172 (dk_at dksX6_could_0 9 rfl rfl)
theorem dX6_could_12 : decode cX6_could 12 = .ok (.if_icmp .ge 21, 3) := dk_162 0 21 (dk_at dksX6_could_0 12 rfl rfl)
theorem dX6_could_15 : decode cX6_could 15 = .ok (.aload_n 0, 1) := dk_42 (dk_at dksX6_could_0 15 rfl rfl)
theorem dX6_could_16 : decode cX6_could 16 = .ok (.getfield 92, 3) := dk_180 0 92 (dk_at dksX6_could_0 16 rfl rfl)
theorem dX6_could_19 : decode cX6_could 19 = .ok (.iload_n 1, 1) := dk_27 (dk_at dksX6_could_0 19 rfl rfl)
theorem dX6_could_20 : decode cX6_could 20 = .ok (.aload_n 0, 1) := dk_42 (dk_at dksX6_could_0 20 rfl rfl)
theorem dX6_could_21 : decode cX6_could 21 = .ok (.getfield 89, 3) := dk_180 0 89 (dk_at dksX6_could_0 21 rfl rfl)
theorem dX6_could_24 : decode cX6_could 24 = .ok (.iload_n 1, 1) := dk_27 (dk_at dksX6_could_1 0 rfl rfl)
theorem dX6_could_25 : decode cX6_could 25 = .ok (.iaload, 1) := dk_46 (dk_at dksX6_could_1 1 rfl rfl)
theorem dX6_could_26 : decode cX6_could 26 = .ok (.iastore, 1) := dk_79 (dk_at dksX6_could_1 2 rfl rfl)
theorem dX6_could_27 : decode cX6_could 27 = .ok (.iinc 1 1, 3) := dk_132 1 1 (dk_at dksX6_could_1 3 rfl rfl)
theorem dX6_could_30 : decode cX6_could 30 = .ok (.goto (-23), 3) := dk_167 255 233 (dk_at dksX6_could_1 6 rfl rfl)
theorem dX6_could_33 : decode cX6_could 33 = .ok (.iconst 0, 1) := dk_3 (dk_at dksX6_could_1 9 rfl rfl)
theorem dX6_could_34 : decode cX6_could 34 = .ok (.istore_n 1, 1) := dk_60 (dk_at dksX6_could_1 10 rfl rfl)
theorem dX6_could_35 : decode cX6_could 35 = .ok (.iconst 0, 1) := dk_3 (dk_at dksX6_could_1 11 rfl rfl)
theorem dX6_could_36 : decode cX6_could 36 = .ok (.istore_n 2, 1) := dk_61 (dk_at dksX6_could_1 12 rfl rfl)
theorem dX6_could_37 : decode cX6_could 37 = .ok (.iload_n 2, 1) := dk_28 (dk_at dksX6_could_1 13 rfl rfl)
theorem dX6_could_38 : decode cX6_could 38 = .ok (.aload_n 0, 1) := dk_42 (dk_at dksX6_could_1 14 rfl rfl)
theorem dX6_could_39 : decode cX6_could 39 = .ok (.getfield 428, 3) := dk_180 1 172 (dk_at dksX6_could_1 15 rfl rfl)
theorem dX6_could_42 : decode cX6_could 42 = .ok (.if_icmp .ge 94, 3) := dk_162 0 94 (dk_at dksX6_could_1 18 rfl rfl)
theorem dX6_could_45 : decode cX6_could 45 = .ok (.aload_n 0, 1) := dk_42 (dk_at dksX6_could_1 21 rfl rfl)
theorem dX6_could_46 : decode cX6_could 46 = .ok (.iload_n 1, 1) := dk_27 (dk_at dksX6_could_1 22 rfl rfl)
theorem dX6_could_47 : decode cX6_could 47 = .ok (.invokevirtual 431, 3) := dk_182 1 175 (dk_at dksX6_could_2 0 rfl rfl)
theorem dX6_could_50 : decode cX6_could 50 = .ok (.istore_n 3, 1) := dk_62 (dk_at dksX6_could_2 3 rfl rfl)
theorem dX6_could_51 : decode cX6_could 51 = .ok (.iload_n 1, 1) := dk_27 (dk_at dksX6_could_2 4 rfl rfl)
theorem dX6_could_52 : decode cX6_could 52 = .ok (.iconst 1, 1) := dk_4 (dk_at dksX6_could_2 5 rfl rfl)
theorem dX6_could_53 : decode cX6_could 53 = .ok (.iload_n 3, 1) := dk_29 (dk_at dksX6_could_2 6 rfl rfl)
theorem dX6_could_54 : decode cX6_could 54 = .ok (.ishl, 1) := dk_120 (dk_at dksX6_could_2 7 rfl rfl)
theorem dX6_could_55 : decode cX6_could 55 = .ok (.ior, 1) := dk_128 (dk_at dksX6_could_2 8 rfl rfl)
theorem dX6_could_56 : decode cX6_could 56 = .ok (.istore_n 1, 1) := dk_60 (dk_at dksX6_could_2 9 rfl rfl)
theorem dX6_could_57 : decode cX6_could 57 = .ok (.iload_n 1, 1) := dk_27 (dk_at dksX6_could_2 10 rfl rfl)
theorem dX6_could_58 : decode cX6_could 58 = .ok (.istore 4, 2) := dk_54 4 (dk_at dksX6_could_2 11 rfl rfl)
theorem dX6_could_60 : decode cX6_could 60 = .ok (.aload_n 0, 1) := dk_42 (dk_at dksX6_could_2 13 rfl rfl)
theorem dX6_could_61 : decode cX6_could 61 = .ok (.getfield 92, 3) := dk_180 0 92 (dk_at dksX6_could_2 14 rfl rfl)
theorem dX6_could_64 : decode cX6_could 64 = .ok (.iload_n 3, 1) := dk_29 (dk_at dksX6_could_2 17 rfl rfl)
theorem dX6_could_65 : decode cX6_could 65 = .ok (.iaload, 1) := dk_46 (dk_at dksX6_could_2 18 rfl rfl)
theorem dX6_could_66 : decode cX6_could 66 = .ok (.istore 5, 2) := dk_54 5 (dk_at dksX6_could_2 19 rfl rfl)
theorem dX6_could_68 : decode cX6_could 68 = .ok (.iload 5, 2) := dk_21 5 (dk_at dksX6_could_2 21 rfl rfl)
theorem dX6_could_70 : decode cX6_could 70 = .ok (.ifCond .le 60, 3) := dk_158 0 60 (dk_at dksX6_could_3 0 rfl rfl)
theorem dX6_could_73 : decode cX6_could 73 = .ok (.aload_n 0, 1) := dk_42 (dk_at dksX6_could_3 3 rfl rfl)
theorem dX6_could_74 : decode cX6_could 74 = .ok (.iload 4, 2) := dk_21 4 (dk_at dksX6_could_3 4 rfl rfl)
theorem dX6_could_76 : decode cX6_could 76 = .ok (.invokevirtual 431, 3) := dk_182 1 175 (dk_at dksX6_could_3 6 rfl rfl)
theorem dX6_could_79 : decode cX6_could 79 = .ok (.istore 6, 2) := dk_54 6 (dk_at dksX6_could_3 9 rfl rfl)
theorem dX6_could_81 : decode cX6_could 81 = .ok (.iload 6, 2) := dk_21 6 (dk_at dksX6_could_3 11 rfl rfl)
theorem dX6_could_83 : decode cX6_could 83 = .ok (.iconst (-1), 1) := dk_2 (dk_at dksX6_could_3 13 rfl rfl)
theorem dX6_could_84 : decode cX6_could 84 = .ok (.if_icmp .eq 13, 3) := dk_159 0 13 (dk_at dksX6_could_3 14 rfl rfl)
theorem dX6_could_87 : decode cX6_could 87 = .ok (.aload_n 0, 1) := dk_42 (dk_at dksX6_could_3 17 rfl rfl)
theorem dX6_could_88 : decode cX6_could 88 = .ok (.getfield 92, 3) := dk_180 0 92 (dk_at dksX6_could_3 18 rfl rfl)
theorem dX6_could_91 : decode cX6_could 91 = .ok (.iload 6, 2) := dk_21 6 (dk_at dksX6_could_3 21 rfl rfl)
theorem dX6_could_93 : decode cX6_could 93 = .ok (.iaload, 1) := dk_46 (dk_at dksX6_could_3 23 rfl rfl)
theorem dX6_could_94 : decode cX6_could 94 = .ok (.ifCond .ne 5, 3) := dk_154 0 5 (dk_at dksX6_could_4 0 rfl rfl)
theorem dX6_could_97 : decode cX6_could 97 = .ok (.iconst 0, 1) := dk_3 (dk_at dksX6_could_4 3 rfl rfl)
theorem dX6_could_98 : decode cX6_could 98 = .ok (.ireturn, 1) := dk_172 (dk_at dksX6_could_4 4 rfl rfl)
theorem dX6_could_99 : decode cX6_could 99 = .ok (.aload_n 0, 1) := dk_42 (dk_at dksX6_could_4 5 rfl rfl)
theorem dX6_could_100 : decode cX6_could 100 = .ok (.getfield 92, 3) := dk_180 0 92 (dk_at dksX6_could_4 6 rfl rfl)
theorem dX6_could_103 : decode cX6_could 103 = .ok (.iload 6, 2) := dk_21 6 (dk_at dksX6_could_4 9 rfl rfl)
theorem dX6_could_105 : decode cX6_could 105 = .ok (.aload_n 0, 1) := dk_42 (dk_at dksX6_could_4 11 rfl rfl)
theorem dX6_could_106 : decode cX6_could 106 = .ok (.getfield 92, 3) := dk_180 0 92 (dk_at dksX6_could_4 12 rfl rfl)
theorem dX6_could_109 : decode cX6_could 109 = .ok (.iload 6, 2) := dk_21 6 (dk_at dksX6_could_4 15 rfl rfl)
theorem dX6_could_111 : decode cX6_could 111 = .ok (.iaload, 1) := dk_46 (dk_at dksX6_could_4 17 rfl rfl)
theorem dX6_could_112 : decode cX6_could 112 = .ok (.iconst 1, 1) := dk_4 (dk_at dksX6_could_4 18 rfl rfl)
theorem dX6_could_113 : decode cX6_could 113 = .ok (.isub, 1) := dk_100 (dk_at dksX6_could_4 19 rfl rfl)
theorem dX6_could_114 : decode cX6_could 114 = .ok (.iastore, 1) := dk_79 (dk_at dksX6_could_4 20 rfl rfl)
theorem dX6_could_115 : decode cX6_could 115 = .ok (.iload 4, 2) := dk_21 4 (dk_at dksX6_could_4 21 rfl rfl)
theorem dX6_could_117 : decode cX6_could 117 = .ok (.iconst 1, 1) := dk_4 (dk_at dksX6_could_4 23 rfl rfl)
theorem dX6_could_118 : decode cX6_could 118 = .ok (.iload 6, 2) := dk_21 6 (dk_at dksX6_could_5 0 rfl rfl)
theorem dX6_could_120 : decode cX6_could 120 = .ok (.ishl, 1) := dk_120 (dk_at dksX6_could_5 2 rfl rfl)
theorem dX6_could_121 : decode cX6_could 121 = .ok (.ior, 1) := dk_128 (dk_at dksX6_could_5 3 rfl rfl)
theorem dX6_could_122 : decode cX6_could 122 = .ok (.istore 4, 2) := dk_54 4 (dk_at dksX6_could_5 4 rfl rfl)
theorem dX6_could_124 : decode cX6_could 124 = .ok (.iinc 5 (-1), 3) := dk_132 5 255 (dk_at dksX6_could_5 6 rfl rfl)
theorem dX6_could_127 : decode cX6_could 127 = .ok (.goto (-59), 3) := dk_167 255 197 (dk_at dksX6_could_5 9 rfl rfl)
theorem dX6_could_130 : decode cX6_could 130 = .ok (.iinc 2 1, 3) := dk_132 2 1 (dk_at dksX6_could_5 12 rfl rfl)
theorem dX6_could_133 : decode cX6_could 133 = .ok (.goto (-96), 3) := dk_167 255 160 (dk_at dksX6_could_5 15 rfl rfl)
theorem dX6_could_136 : decode cX6_could 136 = .ok (.iconst 1, 1) := dk_4 (dk_at dksX6_could_5 18 rfl rfl)
theorem dX6_could_137 : decode cX6_could 137 = .ok (.ireturn, 1) := dk_172 (dk_at dksX6_could_5 19 rfl rfl)
abbrev cX6_greatestBut : ByteArray := prog_22_method_102_code
def yX6_greatestBut : MethodName := ⟨RX6, "greatestBut", "(I)I"⟩
def dkwX6_greatestBut_2 : List UInt8 := [167, 255, 214, 28, 172]
abbrev dktX6_greatestBut_2 : List UInt8 := dkwX6_greatestBut_2 ++ []
def dkwX6_greatestBut_1 : List UInt8 := [159, 0, 18, 42, 180, 0, 92, 29, 46, 42, 180, 0, 92, 28, 46, 164, 0, 5, 29, 61, 132, 3, 1]
abbrev dktX6_greatestBut_1 : List UInt8 := dkwX6_greatestBut_1 ++ dktX6_greatestBut_2
def dkwX6_greatestBut_0 : List UInt8 := [2, 61, 3, 62, 29, 42, 180, 1, 172, 162, 0, 40, 42, 27, 29, 182, 1, 75, 154, 0, 25, 28, 2]
abbrev dktX6_greatestBut_0 : List UInt8 := dkwX6_greatestBut_0 ++ dktX6_greatestBut_1
theorem dksX6_greatestBut_0 : cX6_greatestBut.data.toList.drop 0 = dktX6_greatestBut_0 := by decide +kernel
theorem dksX6_greatestBut_1 : cX6_greatestBut.data.toList.drop 23 = dktX6_greatestBut_1 := dk_seg dksX6_greatestBut_0 23 rfl rfl
theorem dksX6_greatestBut_2 : cX6_greatestBut.data.toList.drop 46 = dktX6_greatestBut_2 := dk_seg dksX6_greatestBut_1 23 rfl rfl
theorem dX6_greatestBut_0 : decode cX6_greatestBut 0 = .ok (.iconst (-1), 1) := dk_2 (dk_at dksX6_greatestBut_0 0 rfl rfl)
theorem dX6_greatestBut_1 : decode cX6_greatestBut 1 = .ok (.istore_n 2, 1) := dk_61 (dk_at dksX6_greatestBut_0 1 rfl rfl)
theorem dX6_greatestBut_2 : decode cX6_greatestBut 2 = .ok (.iconst 0, 1) := dk_3 (dk_at dksX6_greatestBut_0 2 rfl rfl)
theorem dX6_greatestBut_3 : decode cX6_greatestBut 3 = .ok (.istore_n 3, 1) := dk_62 (dk_at dksX6_greatestBut_0 3 rfl rfl)
theorem dX6_greatestBut_4 : decode cX6_greatestBut 4 = .ok (.iload_n 3, 1) := dk_29 (dk_at dksX6_greatestBut_0 4 rfl rfl)
theorem dX6_greatestBut_5 : decode cX6_greatestBut 5 = .ok (.aload_n 0, 1) := dk_42 (dk_at dksX6_greatestBut_0 5 rfl rfl)
theorem dX6_greatestBut_6 : decode cX6_greatestBut 6 = .ok (.getfield 428, 3) := dk_180 1 172 (dk_at dksX6_greatestBut_0 6 rfl rfl)
theorem dX6_greatestBut_9 : decode cX6_greatestBut 9 = .ok (.if_icmp .ge 40, 3) := dk_162 0 40 (dk_at dksX6_greatestBut_0 9 rfl rfl)
theorem dX6_greatestBut_12 : decode cX6_greatestBut 12 = .ok (.aload_n 0, 1) := dk_42 (dk_at dksX6_greatestBut_0 12 rfl rfl)
theorem dX6_greatestBut_13 : decode cX6_greatestBut 13 = .ok (.iload_n 1, 1) := dk_27 (dk_at dksX6_greatestBut_0 13 rfl rfl)
theorem dX6_greatestBut_14 : decode cX6_greatestBut 14 = .ok (.iload_n 3, 1) := dk_29 (dk_at dksX6_greatestBut_0 14 rfl rfl)
theorem dX6_greatestBut_15 : decode cX6_greatestBut 15 = .ok (.invokevirtual 331, 3) := dk_182 1 75 (dk_at dksX6_greatestBut_0 15 rfl rfl)
theorem dX6_greatestBut_18 : decode cX6_greatestBut 18 = .ok (.ifCond .ne 25, 3) := dk_154 0 25 (dk_at dksX6_greatestBut_0 18 rfl rfl)
theorem dX6_greatestBut_21 : decode cX6_greatestBut 21 = .ok (.iload_n 2, 1) := dk_28 (dk_at dksX6_greatestBut_0 21 rfl rfl)
theorem dX6_greatestBut_22 : decode cX6_greatestBut 22 = .ok (.iconst (-1), 1) := dk_2 (dk_at dksX6_greatestBut_0 22 rfl rfl)
theorem dX6_greatestBut_23 : decode cX6_greatestBut 23 = .ok (.if_icmp .eq 18, 3) := dk_159 0 18 (dk_at dksX6_greatestBut_1 0 rfl rfl)
theorem dX6_greatestBut_26 : decode cX6_greatestBut 26 = .ok (.aload_n 0, 1) := dk_42 (dk_at dksX6_greatestBut_1 3 rfl rfl)
theorem dX6_greatestBut_27 : decode cX6_greatestBut 27 = .ok (.getfield 92, 3) := dk_180 0 92 (dk_at dksX6_greatestBut_1 4 rfl rfl)
theorem dX6_greatestBut_30 : decode cX6_greatestBut 30 = .ok (.iload_n 3, 1) := dk_29 (dk_at dksX6_greatestBut_1 7 rfl rfl)
theorem dX6_greatestBut_31 : decode cX6_greatestBut 31 = .ok (.iaload, 1) := dk_46 (dk_at dksX6_greatestBut_1 8 rfl rfl)
theorem dX6_greatestBut_32 : decode cX6_greatestBut 32 = .ok (.aload_n 0, 1) := dk_42 (dk_at dksX6_greatestBut_1 9 rfl rfl)
theorem dX6_greatestBut_33 : decode cX6_greatestBut 33 = .ok (.getfield 92, 3) := dk_180 0 92 (dk_at dksX6_greatestBut_1 10 rfl rfl)
theorem dX6_greatestBut_36 : decode cX6_greatestBut 36 = .ok (.iload_n 2, 1) := dk_28 (dk_at dksX6_greatestBut_1 13 rfl rfl)
theorem dX6_greatestBut_37 : decode cX6_greatestBut 37 = .ok (.iaload, 1) := dk_46 (dk_at dksX6_greatestBut_1 14 rfl rfl)
theorem dX6_greatestBut_38 : decode cX6_greatestBut 38 = .ok (.if_icmp .le 5, 3) := dk_164 0 5 (dk_at dksX6_greatestBut_1 15 rfl rfl)
theorem dX6_greatestBut_41 : decode cX6_greatestBut 41 = .ok (.iload_n 3, 1) := dk_29 (dk_at dksX6_greatestBut_1 18 rfl rfl)
theorem dX6_greatestBut_42 : decode cX6_greatestBut 42 = .ok (.istore_n 2, 1) := dk_61 (dk_at dksX6_greatestBut_1 19 rfl rfl)
theorem dX6_greatestBut_43 : decode cX6_greatestBut 43 = .ok (.iinc 3 1, 3) := dk_132 3 1 (dk_at dksX6_greatestBut_1 20 rfl rfl)
theorem dX6_greatestBut_46 : decode cX6_greatestBut 46 = .ok (.goto (-42), 3) := dk_167 255 214 (dk_at dksX6_greatestBut_2 0 rfl rfl)
theorem dX6_greatestBut_49 : decode cX6_greatestBut 49 = .ok (.iload_n 2, 1) := dk_28 (dk_at dksX6_greatestBut_2 3 rfl rfl)
theorem dX6_greatestBut_50 : decode cX6_greatestBut 50 = .ok (.ireturn, 1) := dk_172 (dk_at dksX6_greatestBut_2 4 rfl rfl)
abbrev cX6_ring : ByteArray := prog_22_method_105_code
def yX6_ring : MethodName := ⟨RX6, "ring", "(I)I"⟩
def dkwX6_ring_4 : List UInt8 := [132, 3, 1, 167, 255, 212, 132, 2, 1, 167, 255, 182, 42, 180, 0, 95, 27, 5, 108, 46, 172]
abbrev dktX6_ring_4 : List UInt8 := dkwX6_ring_4 ++ []
def dkwX6_ring_3 : List UInt8 := [42, 42, 180, 0, 95, 29, 46, 42, 180, 0, 95, 28, 4, 100, 29, 100, 46, 182, 1, 181, 182, 1, 178, 79]
abbrev dktX6_ring_3 : List UInt8 := dkwX6_ring_3 ++ dktX6_ring_4
def dkwX6_ring_2 : List UInt8 := [167, 0, 4, 3, 79, 3, 62, 29, 28, 162, 0, 45, 42, 180, 0, 95, 28, 42, 42, 180, 0, 95, 28, 46]
abbrev dktX6_ring_2 : List UInt8 := dkwX6_ring_2 ++ dktX6_ring_3
def dkwX6_ring_1 : List UInt8 := [160, 0, 5, 3, 172, 3, 61, 28, 27, 5, 108, 163, 0, 73, 42, 180, 0, 95, 28, 28, 154, 0, 7, 4]
abbrev dktX6_ring_1 : List UInt8 := dkwX6_ring_1 ++ dktX6_ring_2
def dkwX6_ring_0 : List UInt8 := [42, 3, 181, 0, 122, 42, 27, 3, 16, 24, 182, 0, 145, 154, 0, 5, 2, 172, 27, 5, 112, 4]
abbrev dktX6_ring_0 : List UInt8 := dkwX6_ring_0 ++ dktX6_ring_1
theorem dksX6_ring_0 : cX6_ring.data.toList.drop 0 = dktX6_ring_0 := by decide +kernel
theorem dksX6_ring_1 : cX6_ring.data.toList.drop 22 = dktX6_ring_1 := dk_seg dksX6_ring_0 22 rfl rfl
theorem dksX6_ring_2 : cX6_ring.data.toList.drop 46 = dktX6_ring_2 := dk_seg dksX6_ring_1 24 rfl rfl
theorem dksX6_ring_3 : cX6_ring.data.toList.drop 70 = dktX6_ring_3 := dk_seg dksX6_ring_2 24 rfl rfl
theorem dksX6_ring_4 : cX6_ring.data.toList.drop 94 = dktX6_ring_4 := dk_seg dksX6_ring_3 24 rfl rfl
theorem dX6_ring_0 : decode cX6_ring 0 = .ok (.aload_n 0, 1) := dk_42 (dk_at dksX6_ring_0 0 rfl rfl)
theorem dX6_ring_1 : decode cX6_ring 1 = .ok (.iconst 0, 1) := dk_3 (dk_at dksX6_ring_0 1 rfl rfl)
theorem dX6_ring_2 : decode cX6_ring 2 = .ok (.putfield 122, 3) := dk_181 0 122 (dk_at dksX6_ring_0 2 rfl rfl)
theorem dX6_ring_5 : decode cX6_ring 5 = .ok (.aload_n 0, 1) := dk_42 (dk_at dksX6_ring_0 5 rfl rfl)
theorem dX6_ring_6 : decode cX6_ring 6 = .ok (.iload_n 1, 1) := dk_27 (dk_at dksX6_ring_0 6 rfl rfl)
theorem dX6_ring_7 : decode cX6_ring 7 = .ok (.iconst 0, 1) := dk_3 (dk_at dksX6_ring_0 7 rfl rfl)
theorem dX6_ring_8 : decode cX6_ring 8 = .ok (.bipush 24, 2) := dk_16 24 (dk_at dksX6_ring_0 8 rfl rfl)
theorem dX6_ring_10 : decode cX6_ring 10 = .ok (.invokevirtual 145, 3) := dk_182 0 145 (dk_at dksX6_ring_0 10 rfl rfl)
theorem dX6_ring_13 : decode cX6_ring 13 = .ok (.ifCond .ne 5, 3) := dk_154 0 5 (dk_at dksX6_ring_0 13 rfl rfl)
theorem dX6_ring_16 : decode cX6_ring 16 = .ok (.iconst (-1), 1) := dk_2 (dk_at dksX6_ring_0 16 rfl rfl)
theorem dX6_ring_17 : decode cX6_ring 17 = .ok (.ireturn, 1) := dk_172 (dk_at dksX6_ring_0 17 rfl rfl)
theorem dX6_ring_18 : decode cX6_ring 18 = .ok (.iload_n 1, 1) := dk_27 (dk_at dksX6_ring_0 18 rfl rfl)
theorem dX6_ring_19 : decode cX6_ring 19 = .ok (.iconst 2, 1) := dk_5 (dk_at dksX6_ring_0 19 rfl rfl)
theorem dX6_ring_20 : decode cX6_ring 20 = .ok (.irem, 1) := dk_112 (dk_at dksX6_ring_0 20 rfl rfl)
theorem dX6_ring_21 : decode cX6_ring 21 = .ok (.iconst 1, 1) := dk_4 (dk_at dksX6_ring_0 21 rfl rfl)
theorem dX6_ring_22 : decode cX6_ring 22 = .ok (.if_icmp .ne 5, 3) := dk_160 0 5 (dk_at dksX6_ring_1 0 rfl rfl)
theorem dX6_ring_25 : decode cX6_ring 25 = .ok (.iconst 0, 1) := dk_3 (dk_at dksX6_ring_1 3 rfl rfl)
theorem dX6_ring_26 : decode cX6_ring 26 = .ok (.ireturn, 1) := dk_172 (dk_at dksX6_ring_1 4 rfl rfl)
theorem dX6_ring_27 : decode cX6_ring 27 = .ok (.iconst 0, 1) := dk_3 (dk_at dksX6_ring_1 5 rfl rfl)
theorem dX6_ring_28 : decode cX6_ring 28 = .ok (.istore_n 2, 1) := dk_61 (dk_at dksX6_ring_1 6 rfl rfl)
theorem dX6_ring_29 : decode cX6_ring 29 = .ok (.iload_n 2, 1) := dk_28 (dk_at dksX6_ring_1 7 rfl rfl)
theorem dX6_ring_30 : decode cX6_ring 30 = .ok (.iload_n 1, 1) := dk_27 (dk_at dksX6_ring_1 8 rfl rfl)
theorem dX6_ring_31 : decode cX6_ring 31 = .ok (.iconst 2, 1) := dk_5 (dk_at dksX6_ring_1 9 rfl rfl)
theorem dX6_ring_32 : decode cX6_ring 32 = .ok (.idiv, 1) := dk_108 (dk_at dksX6_ring_1 10 rfl rfl)
theorem dX6_ring_33 : decode cX6_ring 33 = .ok (.if_icmp .gt 73, 3) := dk_163 0 73 (dk_at dksX6_ring_1 11 rfl rfl)
theorem dX6_ring_36 : decode cX6_ring 36 = .ok (.aload_n 0, 1) := dk_42 (dk_at dksX6_ring_1 14 rfl rfl)
theorem dX6_ring_37 : decode cX6_ring 37 = .ok (.getfield 95, 3) := dk_180 0 95 (dk_at dksX6_ring_1 15 rfl rfl)
theorem dX6_ring_40 : decode cX6_ring 40 = .ok (.iload_n 2, 1) := dk_28 (dk_at dksX6_ring_1 18 rfl rfl)
theorem dX6_ring_41 : decode cX6_ring 41 = .ok (.iload_n 2, 1) := dk_28 (dk_at dksX6_ring_1 19 rfl rfl)
theorem dX6_ring_42 : decode cX6_ring 42 = .ok (.ifCond .ne 7, 3) := dk_154 0 7 (dk_at dksX6_ring_1 20 rfl rfl)
theorem dX6_ring_45 : decode cX6_ring 45 = .ok (.iconst 1, 1) := dk_4 (dk_at dksX6_ring_1 23 rfl rfl)
theorem dX6_ring_46 : decode cX6_ring 46 = .ok (.goto 4, 3) := dk_167 0 4 (dk_at dksX6_ring_2 0 rfl rfl)
theorem dX6_ring_49 : decode cX6_ring 49 = .ok (.iconst 0, 1) := dk_3 (dk_at dksX6_ring_2 3 rfl rfl)
theorem dX6_ring_50 : decode cX6_ring 50 = .ok (.iastore, 1) := dk_79 (dk_at dksX6_ring_2 4 rfl rfl)
theorem dX6_ring_51 : decode cX6_ring 51 = .ok (.iconst 0, 1) := dk_3 (dk_at dksX6_ring_2 5 rfl rfl)
theorem dX6_ring_52 : decode cX6_ring 52 = .ok (.istore_n 3, 1) := dk_62 (dk_at dksX6_ring_2 6 rfl rfl)
theorem dX6_ring_53 : decode cX6_ring 53 = .ok (.iload_n 3, 1) := dk_29 (dk_at dksX6_ring_2 7 rfl rfl)
theorem dX6_ring_54 : decode cX6_ring 54 = .ok (.iload_n 2, 1) := dk_28 (dk_at dksX6_ring_2 8 rfl rfl)
theorem dX6_ring_55 : decode cX6_ring 55 = .ok (.if_icmp .ge 45, 3) := dk_162 0 45 (dk_at dksX6_ring_2 9 rfl rfl)
theorem dX6_ring_58 : decode cX6_ring 58 = .ok (.aload_n 0, 1) := dk_42 (dk_at dksX6_ring_2 12 rfl rfl)
theorem dX6_ring_59 : decode cX6_ring 59 = .ok (.getfield 95, 3) := dk_180 0 95 (dk_at dksX6_ring_2 13 rfl rfl)
theorem dX6_ring_62 : decode cX6_ring 62 = .ok (.iload_n 2, 1) := dk_28 (dk_at dksX6_ring_2 16 rfl rfl)
theorem dX6_ring_63 : decode cX6_ring 63 = .ok (.aload_n 0, 1) := dk_42 (dk_at dksX6_ring_2 17 rfl rfl)
theorem dX6_ring_64 : decode cX6_ring 64 = .ok (.aload_n 0, 1) := dk_42 (dk_at dksX6_ring_2 18 rfl rfl)
theorem dX6_ring_65 : decode cX6_ring 65 = .ok (.getfield 95, 3) := dk_180 0 95 (dk_at dksX6_ring_2 19 rfl rfl)
theorem dX6_ring_68 : decode cX6_ring 68 = .ok (.iload_n 2, 1) := dk_28 (dk_at dksX6_ring_2 22 rfl rfl)
theorem dX6_ring_69 : decode cX6_ring 69 = .ok (.iaload, 1) := dk_46 (dk_at dksX6_ring_2 23 rfl rfl)
theorem dX6_ring_70 : decode cX6_ring 70 = .ok (.aload_n 0, 1) := dk_42 (dk_at dksX6_ring_3 0 rfl rfl)
theorem dX6_ring_71 : decode cX6_ring 71 = .ok (.aload_n 0, 1) := dk_42 (dk_at dksX6_ring_3 1 rfl rfl)
theorem dX6_ring_72 : decode cX6_ring 72 = .ok (.getfield 95, 3) := dk_180 0 95 (dk_at dksX6_ring_3 2 rfl rfl)
theorem dX6_ring_75 : decode cX6_ring 75 = .ok (.iload_n 3, 1) := dk_29 (dk_at dksX6_ring_3 5 rfl rfl)
theorem dX6_ring_76 : decode cX6_ring 76 = .ok (.iaload, 1) := dk_46 (dk_at dksX6_ring_3 6 rfl rfl)
theorem dX6_ring_77 : decode cX6_ring 77 = .ok (.aload_n 0, 1) := dk_42 (dk_at dksX6_ring_3 7 rfl rfl)
theorem dX6_ring_78 : decode cX6_ring 78 = .ok (.getfield 95, 3) := dk_180 0 95 (dk_at dksX6_ring_3 8 rfl rfl)
theorem dX6_ring_81 : decode cX6_ring 81 = .ok (.iload_n 2, 1) := dk_28 (dk_at dksX6_ring_3 11 rfl rfl)
theorem dX6_ring_82 : decode cX6_ring 82 = .ok (.iconst 1, 1) := dk_4 (dk_at dksX6_ring_3 12 rfl rfl)
theorem dX6_ring_83 : decode cX6_ring 83 = .ok (.isub, 1) := dk_100 (dk_at dksX6_ring_3 13 rfl rfl)
theorem dX6_ring_84 : decode cX6_ring 84 = .ok (.iload_n 3, 1) := dk_29 (dk_at dksX6_ring_3 14 rfl rfl)
theorem dX6_ring_85 : decode cX6_ring 85 = .ok (.isub, 1) := dk_100 (dk_at dksX6_ring_3 15 rfl rfl)
theorem dX6_ring_86 : decode cX6_ring 86 = .ok (.iaload, 1) := dk_46 (dk_at dksX6_ring_3 16 rfl rfl)
theorem dX6_ring_87 : decode cX6_ring 87 = .ok (.invokevirtual 437, 3) := dk_182 1 181 (dk_at dksX6_ring_3 17 rfl rfl)
theorem dX6_ring_90 : decode cX6_ring 90 = .ok (.invokevirtual 434, 3) := dk_182 1 178 (dk_at dksX6_ring_3 20 rfl rfl)
theorem dX6_ring_93 : decode cX6_ring 93 = .ok (.iastore, 1) := dk_79 (dk_at dksX6_ring_3 23 rfl rfl)
theorem dX6_ring_94 : decode cX6_ring 94 = .ok (.iinc 3 1, 3) := dk_132 3 1 (dk_at dksX6_ring_4 0 rfl rfl)
theorem dX6_ring_97 : decode cX6_ring 97 = .ok (.goto (-44), 3) := dk_167 255 212 (dk_at dksX6_ring_4 3 rfl rfl)
theorem dX6_ring_100 : decode cX6_ring 100 = .ok (.iinc 2 1, 3) := dk_132 2 1 (dk_at dksX6_ring_4 6 rfl rfl)
theorem dX6_ring_103 : decode cX6_ring 103 = .ok (.goto (-74), 3) := dk_167 255 182 (dk_at dksX6_ring_4 9 rfl rfl)
theorem dX6_ring_106 : decode cX6_ring 106 = .ok (.aload_n 0, 1) := dk_42 (dk_at dksX6_ring_4 12 rfl rfl)
theorem dX6_ring_107 : decode cX6_ring 107 = .ok (.getfield 95, 3) := dk_180 0 95 (dk_at dksX6_ring_4 13 rfl rfl)
theorem dX6_ring_110 : decode cX6_ring 110 = .ok (.iload_n 1, 1) := dk_27 (dk_at dksX6_ring_4 16 rfl rfl)
theorem dX6_ring_111 : decode cX6_ring 111 = .ok (.iconst 2, 1) := dk_5 (dk_at dksX6_ring_4 17 rfl rfl)
theorem dX6_ring_112 : decode cX6_ring 112 = .ok (.idiv, 1) := dk_108 (dk_at dksX6_ring_4 18 rfl rfl)
theorem dX6_ring_113 : decode cX6_ring 113 = .ok (.iaload, 1) := dk_46 (dk_at dksX6_ring_4 19 rfl rfl)
theorem dX6_ring_114 : decode cX6_ring 114 = .ok (.ireturn, 1) := dk_172 (dk_at dksX6_ring_4 20 rfl rfl)
abbrev cX6_times : ByteArray := prog_22_method_104_code
def yX6_times : MethodName := ⟨RX6, "times", "(II)I"⟩
def dkwX6_times_2 : List UInt8 := [167, 255, 219, 29, 172]
abbrev dktX6_times_2 : List UInt8 := dkwX6_times_2 ++ []
def dkwX6_times_1 : List UInt8 := [21, 4, 182, 1, 178, 62, 42, 21, 4, 21, 4, 182, 1, 178, 54, 4, 21, 5, 5, 108, 54, 5]
abbrev dktX6_times_1 : List UInt8 := dkwX6_times_1 ++ dktX6_times_2
def dkwX6_times_0 : List UInt8 := [3, 62, 27, 54, 4, 28, 54, 5, 21, 5, 158, 0, 38, 21, 5, 5, 112, 4, 160, 0, 11, 42, 29]
abbrev dktX6_times_0 : List UInt8 := dkwX6_times_0 ++ dktX6_times_1
theorem dksX6_times_0 : cX6_times.data.toList.drop 0 = dktX6_times_0 := by decide +kernel
theorem dksX6_times_1 : cX6_times.data.toList.drop 23 = dktX6_times_1 := dk_seg dksX6_times_0 23 rfl rfl
theorem dksX6_times_2 : cX6_times.data.toList.drop 45 = dktX6_times_2 := dk_seg dksX6_times_1 22 rfl rfl
theorem dX6_times_0 : decode cX6_times 0 = .ok (.iconst 0, 1) := dk_3 (dk_at dksX6_times_0 0 rfl rfl)
theorem dX6_times_1 : decode cX6_times 1 = .ok (.istore_n 3, 1) := dk_62 (dk_at dksX6_times_0 1 rfl rfl)
theorem dX6_times_2 : decode cX6_times 2 = .ok (.iload_n 1, 1) := dk_27 (dk_at dksX6_times_0 2 rfl rfl)
theorem dX6_times_3 : decode cX6_times 3 = .ok (.istore 4, 2) := dk_54 4 (dk_at dksX6_times_0 3 rfl rfl)
theorem dX6_times_5 : decode cX6_times 5 = .ok (.iload_n 2, 1) := dk_28 (dk_at dksX6_times_0 5 rfl rfl)
theorem dX6_times_6 : decode cX6_times 6 = .ok (.istore 5, 2) := dk_54 5 (dk_at dksX6_times_0 6 rfl rfl)
theorem dX6_times_8 : decode cX6_times 8 = .ok (.iload 5, 2) := dk_21 5 (dk_at dksX6_times_0 8 rfl rfl)
theorem dX6_times_10 : decode cX6_times 10 = .ok (.ifCond .le 38, 3) := dk_158 0 38 (dk_at dksX6_times_0 10 rfl rfl)
theorem dX6_times_13 : decode cX6_times 13 = .ok (.iload 5, 2) := dk_21 5 (dk_at dksX6_times_0 13 rfl rfl)
theorem dX6_times_15 : decode cX6_times 15 = .ok (.iconst 2, 1) := dk_5 (dk_at dksX6_times_0 15 rfl rfl)
theorem dX6_times_16 : decode cX6_times 16 = .ok (.irem, 1) := dk_112 (dk_at dksX6_times_0 16 rfl rfl)
theorem dX6_times_17 : decode cX6_times 17 = .ok (.iconst 1, 1) := dk_4 (dk_at dksX6_times_0 17 rfl rfl)
theorem dX6_times_18 : decode cX6_times 18 = .ok (.if_icmp .ne 11, 3) := dk_160 0 11 (dk_at dksX6_times_0 18 rfl rfl)
theorem dX6_times_21 : decode cX6_times 21 = .ok (.aload_n 0, 1) := dk_42 (dk_at dksX6_times_0 21 rfl rfl)
theorem dX6_times_22 : decode cX6_times 22 = .ok (.iload_n 3, 1) := dk_29 (dk_at dksX6_times_0 22 rfl rfl)
theorem dX6_times_23 : decode cX6_times 23 = .ok (.iload 4, 2) := dk_21 4 (dk_at dksX6_times_1 0 rfl rfl)
theorem dX6_times_25 : decode cX6_times 25 = .ok (.invokevirtual 434, 3) := dk_182 1 178 (dk_at dksX6_times_1 2 rfl rfl)
theorem dX6_times_28 : decode cX6_times 28 = .ok (.istore_n 3, 1) := dk_62 (dk_at dksX6_times_1 5 rfl rfl)
theorem dX6_times_29 : decode cX6_times 29 = .ok (.aload_n 0, 1) := dk_42 (dk_at dksX6_times_1 6 rfl rfl)
theorem dX6_times_30 : decode cX6_times 30 = .ok (.iload 4, 2) := dk_21 4 (dk_at dksX6_times_1 7 rfl rfl)
theorem dX6_times_32 : decode cX6_times 32 = .ok (.iload 4, 2) := dk_21 4 (dk_at dksX6_times_1 9 rfl rfl)
theorem dX6_times_34 : decode cX6_times 34 = .ok (.invokevirtual 434, 3) := dk_182 1 178 (dk_at dksX6_times_1 11 rfl rfl)
theorem dX6_times_37 : decode cX6_times 37 = .ok (.istore 4, 2) := dk_54 4 (dk_at dksX6_times_1 14 rfl rfl)
theorem dX6_times_39 : decode cX6_times 39 = .ok (.iload 5, 2) := dk_21 5 (dk_at dksX6_times_1 16 rfl rfl)
theorem dX6_times_41 : decode cX6_times 41 = .ok (.iconst 2, 1) := dk_5 (dk_at dksX6_times_1 18 rfl rfl)
theorem dX6_times_42 : decode cX6_times 42 = .ok (.idiv, 1) := dk_108 (dk_at dksX6_times_1 19 rfl rfl)
theorem dX6_times_43 : decode cX6_times 43 = .ok (.istore 5, 2) := dk_54 5 (dk_at dksX6_times_1 20 rfl rfl)
theorem dX6_times_45 : decode cX6_times 45 = .ok (.goto (-37), 3) := dk_167 255 219 (dk_at dksX6_times_2 0 rfl rfl)
theorem dX6_times_48 : decode cX6_times 48 = .ok (.iload_n 3, 1) := dk_29 (dk_at dksX6_times_2 3 rfl rfl)
theorem dX6_times_49 : decode cX6_times 49 = .ok (.ireturn, 1) := dk_172 (dk_at dksX6_times_2 4 rfl rfl)
abbrev cX6_added : ByteArray := prog_22_method_8_code
def yX6_added : MethodName := ⟨RX6, "added", "(II)I"⟩
def dkwX6_added_0 : List UInt8 := [27, 18, 125, 28, 100, 161, 0, 12, 27, 18, 125, 28, 100, 100, 167, 0, 6, 27, 28, 96, 172]
abbrev dktX6_added_0 : List UInt8 := dkwX6_added_0 ++ []
theorem dksX6_added_0 : cX6_added.data.toList.drop 0 = dktX6_added_0 := by decide +kernel
theorem dX6_added_0 : decode cX6_added 0 = .ok (.iload_n 1, 1) := dk_27 (dk_at dksX6_added_0 0 rfl rfl)
theorem dX6_added_1 : decode cX6_added 1 = .ok (.ldc 125, 2) := dk_18 125 (dk_at dksX6_added_0 1 rfl rfl)
theorem dX6_added_3 : decode cX6_added 3 = .ok (.iload_n 2, 1) := dk_28 (dk_at dksX6_added_0 3 rfl rfl)
theorem dX6_added_4 : decode cX6_added 4 = .ok (.isub, 1) := dk_100 (dk_at dksX6_added_0 4 rfl rfl)
theorem dX6_added_5 : decode cX6_added 5 = .ok (.if_icmp .lt 12, 3) := dk_161 0 12 (dk_at dksX6_added_0 5 rfl rfl)
theorem dX6_added_8 : decode cX6_added 8 = .ok (.iload_n 1, 1) := dk_27 (dk_at dksX6_added_0 8 rfl rfl)
theorem dX6_added_9 : decode cX6_added 9 = .ok (.ldc 125, 2) := dk_18 125 (dk_at dksX6_added_0 9 rfl rfl)
theorem dX6_added_11 : decode cX6_added 11 = .ok (.iload_n 2, 1) := dk_28 (dk_at dksX6_added_0 11 rfl rfl)
theorem dX6_added_12 : decode cX6_added 12 = .ok (.isub, 1) := dk_100 (dk_at dksX6_added_0 12 rfl rfl)
theorem dX6_added_13 : decode cX6_added 13 = .ok (.isub, 1) := dk_100 (dk_at dksX6_added_0 13 rfl rfl)
theorem dX6_added_14 : decode cX6_added 14 = .ok (.goto 6, 3) := dk_167 0 6 (dk_at dksX6_added_0 14 rfl rfl)
theorem dX6_added_17 : decode cX6_added 17 = .ok (.iload_n 1, 1) := dk_27 (dk_at dksX6_added_0 17 rfl rfl)
theorem dX6_added_18 : decode cX6_added 18 = .ok (.iload_n 2, 1) := dk_28 (dk_at dksX6_added_0 18 rfl rfl)
theorem dX6_added_19 : decode cX6_added 19 = .ok (.iadd, 1) := dk_96 (dk_at dksX6_added_0 19 rfl rfl)
theorem dX6_added_20 : decode cX6_added 20 = .ok (.ireturn, 1) := dk_172 (dk_at dksX6_added_0 20 rfl rfl)
abbrev cX6_pairs : ByteArray := prog_22_method_108_code
def yX6_pairs : MethodName := ⟨RX6, "pairs", "(I)I"⟩
def dkwX6_pairs_2 : List UInt8 := [100, 46, 167, 0, 11, 42, 27, 16, 10, 100, 182, 1, 190, 172]
abbrev dktX6_pairs_2 : List UInt8 := dkwX6_pairs_2 ++ []
def dkwX6_pairs_1 : List UInt8 := [154, 0, 5, 2, 172, 42, 182, 1, 187, 27, 154, 0, 19, 42, 180, 0, 98, 4, 42, 180, 0, 135, 120, 4]
abbrev dktX6_pairs_1 : List UInt8 := dkwX6_pairs_1 ++ dktX6_pairs_2
def dkwX6_pairs_0 : List UInt8 := [42, 3, 181, 0, 122, 27, 153, 0, 22, 42, 27, 16, 10, 16, 9, 42, 180, 0, 135, 96, 182, 0, 145]
abbrev dktX6_pairs_0 : List UInt8 := dkwX6_pairs_0 ++ dktX6_pairs_1
theorem dksX6_pairs_0 : cX6_pairs.data.toList.drop 0 = dktX6_pairs_0 := by decide +kernel
theorem dksX6_pairs_1 : cX6_pairs.data.toList.drop 23 = dktX6_pairs_1 := dk_seg dksX6_pairs_0 23 rfl rfl
theorem dksX6_pairs_2 : cX6_pairs.data.toList.drop 47 = dktX6_pairs_2 := dk_seg dksX6_pairs_1 24 rfl rfl
theorem dX6_pairs_0 : decode cX6_pairs 0 = .ok (.aload_n 0, 1) := dk_42 (dk_at dksX6_pairs_0 0 rfl rfl)
theorem dX6_pairs_1 : decode cX6_pairs 1 = .ok (.iconst 0, 1) := dk_3 (dk_at dksX6_pairs_0 1 rfl rfl)
theorem dX6_pairs_2 : decode cX6_pairs 2 = .ok (.putfield 122, 3) := dk_181 0 122 (dk_at dksX6_pairs_0 2 rfl rfl)
theorem dX6_pairs_5 : decode cX6_pairs 5 = .ok (.iload_n 1, 1) := dk_27 (dk_at dksX6_pairs_0 5 rfl rfl)
theorem dX6_pairs_6 : decode cX6_pairs 6 = .ok (.ifCond .eq 22, 3) := dk_153 0 22 (dk_at dksX6_pairs_0 6 rfl rfl)
theorem dX6_pairs_9 : decode cX6_pairs 9 = .ok (.aload_n 0, 1) := dk_42 (dk_at dksX6_pairs_0 9 rfl rfl)
theorem dX6_pairs_10 : decode cX6_pairs 10 = .ok (.iload_n 1, 1) := dk_27 (dk_at dksX6_pairs_0 10 rfl rfl)
theorem dX6_pairs_11 : decode cX6_pairs 11 = .ok (.bipush 10, 2) := dk_16 10 (dk_at dksX6_pairs_0 11 rfl rfl)
theorem dX6_pairs_13 : decode cX6_pairs 13 = .ok (.bipush 9, 2) := dk_16 9 (dk_at dksX6_pairs_0 13 rfl rfl)
theorem dX6_pairs_15 : decode cX6_pairs 15 = .ok (.aload_n 0, 1) := dk_42 (dk_at dksX6_pairs_0 15 rfl rfl)
theorem dX6_pairs_16 : decode cX6_pairs 16 = .ok (.getfield 135, 3) := dk_180 0 135 (dk_at dksX6_pairs_0 16 rfl rfl)
theorem dX6_pairs_19 : decode cX6_pairs 19 = .ok (.iadd, 1) := dk_96 (dk_at dksX6_pairs_0 19 rfl rfl)
theorem dX6_pairs_20 : decode cX6_pairs 20 = .ok (.invokevirtual 145, 3) := dk_182 0 145 (dk_at dksX6_pairs_0 20 rfl rfl)
theorem dX6_pairs_23 : decode cX6_pairs 23 = .ok (.ifCond .ne 5, 3) := dk_154 0 5 (dk_at dksX6_pairs_1 0 rfl rfl)
theorem dX6_pairs_26 : decode cX6_pairs 26 = .ok (.iconst (-1), 1) := dk_2 (dk_at dksX6_pairs_1 3 rfl rfl)
theorem dX6_pairs_27 : decode cX6_pairs 27 = .ok (.ireturn, 1) := dk_172 (dk_at dksX6_pairs_1 4 rfl rfl)
theorem dX6_pairs_28 : decode cX6_pairs 28 = .ok (.aload_n 0, 1) := dk_42 (dk_at dksX6_pairs_1 5 rfl rfl)
theorem dX6_pairs_29 : decode cX6_pairs 29 = .ok (.invokevirtual 443, 3) := dk_182 1 187 (dk_at dksX6_pairs_1 6 rfl rfl)
theorem dX6_pairs_32 : decode cX6_pairs 32 = .ok (.iload_n 1, 1) := dk_27 (dk_at dksX6_pairs_1 9 rfl rfl)
theorem dX6_pairs_33 : decode cX6_pairs 33 = .ok (.ifCond .ne 19, 3) := dk_154 0 19 (dk_at dksX6_pairs_1 10 rfl rfl)
theorem dX6_pairs_36 : decode cX6_pairs 36 = .ok (.aload_n 0, 1) := dk_42 (dk_at dksX6_pairs_1 13 rfl rfl)
theorem dX6_pairs_37 : decode cX6_pairs 37 = .ok (.getfield 98, 3) := dk_180 0 98 (dk_at dksX6_pairs_1 14 rfl rfl)
theorem dX6_pairs_40 : decode cX6_pairs 40 = .ok (.iconst 1, 1) := dk_4 (dk_at dksX6_pairs_1 17 rfl rfl)
theorem dX6_pairs_41 : decode cX6_pairs 41 = .ok (.aload_n 0, 1) := dk_42 (dk_at dksX6_pairs_1 18 rfl rfl)
theorem dX6_pairs_42 : decode cX6_pairs 42 = .ok (.getfield 135, 3) := dk_180 0 135 (dk_at dksX6_pairs_1 19 rfl rfl)
theorem dX6_pairs_45 : decode cX6_pairs 45 = .ok (.ishl, 1) := dk_120 (dk_at dksX6_pairs_1 22 rfl rfl)
theorem dX6_pairs_46 : decode cX6_pairs 46 = .ok (.iconst 1, 1) := dk_4 (dk_at dksX6_pairs_1 23 rfl rfl)
theorem dX6_pairs_47 : decode cX6_pairs 47 = .ok (.isub, 1) := dk_100 (dk_at dksX6_pairs_2 0 rfl rfl)
theorem dX6_pairs_48 : decode cX6_pairs 48 = .ok (.iaload, 1) := dk_46 (dk_at dksX6_pairs_2 1 rfl rfl)
theorem dX6_pairs_49 : decode cX6_pairs 49 = .ok (.goto 11, 3) := dk_167 0 11 (dk_at dksX6_pairs_2 2 rfl rfl)
theorem dX6_pairs_52 : decode cX6_pairs 52 = .ok (.aload_n 0, 1) := dk_42 (dk_at dksX6_pairs_2 5 rfl rfl)
theorem dX6_pairs_53 : decode cX6_pairs 53 = .ok (.iload_n 1, 1) := dk_27 (dk_at dksX6_pairs_2 6 rfl rfl)
theorem dX6_pairs_54 : decode cX6_pairs 54 = .ok (.bipush 10, 2) := dk_16 10 (dk_at dksX6_pairs_2 7 rfl rfl)
theorem dX6_pairs_56 : decode cX6_pairs 56 = .ok (.isub, 1) := dk_100 (dk_at dksX6_pairs_2 9 rfl rfl)
theorem dX6_pairs_57 : decode cX6_pairs 57 = .ok (.invokevirtual 446, 3) := dk_182 1 190 (dk_at dksX6_pairs_2 10 rfl rfl)
theorem dX6_pairs_60 : decode cX6_pairs 60 = .ok (.ireturn, 1) := dk_172 (dk_at dksX6_pairs_2 13 rfl rfl)
abbrev cX6_findsPairs : ByteArray := prog_22_method_106_code
def yX6_findsPairs : MethodName := ⟨RX6, "findsPairs", "()V"⟩
def dkwX6_findsPairs_6 : List UInt8 := [28, 79, 132, 1, 1, 167, 255, 111, 177]
abbrev dktX6_findsPairs_6 : List UInt8 := dkwX6_findsPairs_6 ++ []
def dkwX6_findsPairs_5 : List UInt8 := [182, 1, 184, 61, 132, 5, 1, 167, 255, 196, 167, 0, 9, 132, 3, 1, 167, 255, 138, 42, 180, 0, 98, 27]
abbrev dktX6_findsPairs_5 : List UInt8 := dkwX6_findsPairs_5 ++ dktX6_findsPairs_6
def dkwX6_findsPairs_4 : List UInt8 := [182, 1, 75, 154, 0, 25, 42, 28, 4, 42, 180, 0, 98, 21, 4, 4, 21, 5, 120, 2, 130, 126, 46, 96]
abbrev dktX6_findsPairs_4 : List UInt8 := dkwX6_findsPairs_4 ++ dktX6_findsPairs_5
def dkwX6_findsPairs_3 : List UInt8 := [162, 0, 57, 42, 21, 4, 21, 5, 182, 1, 75, 153, 0, 40, 42, 42, 180, 0, 68, 29, 46, 21, 5]
abbrev dktX6_findsPairs_3 : List UInt8 := dkwX6_findsPairs_3 ++ dktX6_findsPairs_4
def dkwX6_findsPairs_2 : List UInt8 := [54, 4, 42, 28, 42, 180, 0, 98, 21, 4, 46, 182, 1, 184, 61, 3, 54, 5, 21, 5, 42, 180, 0, 135]
abbrev dktX6_findsPairs_2 : List UInt8 := dkwX6_findsPairs_2 ++ dktX6_findsPairs_3
def dkwX6_findsPairs_1 : List UInt8 := [27, 158, 0, 112, 42, 27, 29, 182, 1, 75, 154, 0, 6, 167, 0, 94, 27, 4, 29, 120, 2, 130, 126]
abbrev dktX6_findsPairs_1 : List UInt8 := dkwX6_findsPairs_1 ++ dktX6_findsPairs_2
def dkwX6_findsPairs_0 : List UInt8 := [3, 60, 27, 4, 42, 180, 0, 135, 120, 162, 0, 141, 3, 61, 3, 62, 29, 42, 180, 0, 135, 162, 0, 116]
abbrev dktX6_findsPairs_0 : List UInt8 := dkwX6_findsPairs_0 ++ dktX6_findsPairs_1
theorem dksX6_findsPairs_0 : cX6_findsPairs.data.toList.drop 0 = dktX6_findsPairs_0 := by decide +kernel
theorem dksX6_findsPairs_1 : cX6_findsPairs.data.toList.drop 24 = dktX6_findsPairs_1 := dk_seg dksX6_findsPairs_0 24 rfl rfl
theorem dksX6_findsPairs_2 : cX6_findsPairs.data.toList.drop 47 = dktX6_findsPairs_2 := dk_seg dksX6_findsPairs_1 23 rfl rfl
theorem dksX6_findsPairs_3 : cX6_findsPairs.data.toList.drop 71 = dktX6_findsPairs_3 := dk_seg dksX6_findsPairs_2 24 rfl rfl
theorem dksX6_findsPairs_4 : cX6_findsPairs.data.toList.drop 94 = dktX6_findsPairs_4 := dk_seg dksX6_findsPairs_3 23 rfl rfl
theorem dksX6_findsPairs_5 : cX6_findsPairs.data.toList.drop 118 = dktX6_findsPairs_5 := dk_seg dksX6_findsPairs_4 24 rfl rfl
theorem dksX6_findsPairs_6 : cX6_findsPairs.data.toList.drop 142 = dktX6_findsPairs_6 := dk_seg dksX6_findsPairs_5 24 rfl rfl
theorem dX6_findsPairs_0 : decode cX6_findsPairs 0 = .ok (.iconst 0, 1) := dk_3 (dk_at dksX6_findsPairs_0 0 rfl rfl)
theorem dX6_findsPairs_1 : decode cX6_findsPairs 1 = .ok (.istore_n 1, 1) := dk_60 (dk_at dksX6_findsPairs_0 1 rfl rfl)
theorem dX6_findsPairs_2 : decode cX6_findsPairs 2 = .ok (.iload_n 1, 1) := dk_27 (dk_at dksX6_findsPairs_0 2 rfl rfl)
theorem dX6_findsPairs_3 : decode cX6_findsPairs 3 = .ok (.iconst 1, 1) := dk_4 (dk_at dksX6_findsPairs_0 3 rfl rfl)
theorem dX6_findsPairs_4 : decode cX6_findsPairs 4 = .ok (.aload_n 0, 1) := dk_42 (dk_at dksX6_findsPairs_0 4 rfl rfl)
theorem dX6_findsPairs_5 : decode cX6_findsPairs 5 = .ok (.getfield 135, 3) := dk_180 0 135 (dk_at dksX6_findsPairs_0 5 rfl rfl)
theorem dX6_findsPairs_8 : decode cX6_findsPairs 8 = .ok (.ishl, 1) := dk_120 (dk_at dksX6_findsPairs_0 8 rfl rfl)
theorem dX6_findsPairs_9 : decode cX6_findsPairs 9 = .ok (.if_icmp .ge 141, 3) := dk_162 0 141 (dk_at dksX6_findsPairs_0 9 rfl rfl)
theorem dX6_findsPairs_12 : decode cX6_findsPairs 12 = .ok (.iconst 0, 1) := dk_3 (dk_at dksX6_findsPairs_0 12 rfl rfl)
theorem dX6_findsPairs_13 : decode cX6_findsPairs 13 = .ok (.istore_n 2, 1) := dk_61 (dk_at dksX6_findsPairs_0 13 rfl rfl)
theorem dX6_findsPairs_14 : decode cX6_findsPairs 14 = .ok (.iconst 0, 1) := dk_3 (dk_at dksX6_findsPairs_0 14 rfl rfl)
theorem dX6_findsPairs_15 : decode cX6_findsPairs 15 = .ok (.istore_n 3, 1) := dk_62 (dk_at dksX6_findsPairs_0 15 rfl rfl)
theorem dX6_findsPairs_16 : decode cX6_findsPairs 16 = .ok (.iload_n 3, 1) := dk_29 (dk_at dksX6_findsPairs_0 16 rfl rfl)
theorem dX6_findsPairs_17 : decode cX6_findsPairs 17 = .ok (.aload_n 0, 1) := dk_42 (dk_at dksX6_findsPairs_0 17 rfl rfl)
theorem dX6_findsPairs_18 : decode cX6_findsPairs 18 = .ok (.getfield 135, 3) := dk_180 0 135 (dk_at dksX6_findsPairs_0 18 rfl rfl)
theorem dX6_findsPairs_21 : decode cX6_findsPairs 21 = .ok (.if_icmp .ge 116, 3) := dk_162 0 116 (dk_at dksX6_findsPairs_0 21 rfl rfl)
theorem dX6_findsPairs_24 : decode cX6_findsPairs 24 = .ok (.iload_n 1, 1) := dk_27 (dk_at dksX6_findsPairs_1 0 rfl rfl)
theorem dX6_findsPairs_25 : decode cX6_findsPairs 25 = .ok (.ifCond .le 112, 3) := dk_158 0 112 (dk_at dksX6_findsPairs_1 1 rfl rfl)
theorem dX6_findsPairs_28 : decode cX6_findsPairs 28 = .ok (.aload_n 0, 1) := dk_42 (dk_at dksX6_findsPairs_1 4 rfl rfl)
theorem dX6_findsPairs_29 : decode cX6_findsPairs 29 = .ok (.iload_n 1, 1) := dk_27 (dk_at dksX6_findsPairs_1 5 rfl rfl)
theorem dX6_findsPairs_30 : decode cX6_findsPairs 30 = .ok (.iload_n 3, 1) := dk_29 (dk_at dksX6_findsPairs_1 6 rfl rfl)
theorem dX6_findsPairs_31 : decode cX6_findsPairs 31 = .ok (.invokevirtual 331, 3) := dk_182 1 75 (dk_at dksX6_findsPairs_1 7 rfl rfl)
theorem dX6_findsPairs_34 : decode cX6_findsPairs 34 = .ok (.ifCond .ne 6, 3) := dk_154 0 6 (dk_at dksX6_findsPairs_1 10 rfl rfl)
theorem dX6_findsPairs_37 : decode cX6_findsPairs 37 = .ok (.goto 94, 3) := dk_167 0 94 (dk_at dksX6_findsPairs_1 13 rfl rfl)
theorem dX6_findsPairs_40 : decode cX6_findsPairs 40 = .ok (.iload_n 1, 1) := dk_27 (dk_at dksX6_findsPairs_1 16 rfl rfl)
theorem dX6_findsPairs_41 : decode cX6_findsPairs 41 = .ok (.iconst 1, 1) := dk_4 (dk_at dksX6_findsPairs_1 17 rfl rfl)
theorem dX6_findsPairs_42 : decode cX6_findsPairs 42 = .ok (.iload_n 3, 1) := dk_29 (dk_at dksX6_findsPairs_1 18 rfl rfl)
theorem dX6_findsPairs_43 : decode cX6_findsPairs 43 = .ok (.ishl, 1) := dk_120 (dk_at dksX6_findsPairs_1 19 rfl rfl)
theorem dX6_findsPairs_44 : decode cX6_findsPairs 44 = .ok (.iconst (-1), 1) := dk_2 (dk_at dksX6_findsPairs_1 20 rfl rfl)
theorem dX6_findsPairs_45 : decode cX6_findsPairs 45 = .ok (.ixor, 1) := dk_130 (dk_at dksX6_findsPairs_1 21 rfl rfl)
theorem dX6_findsPairs_46 : decode cX6_findsPairs 46 = .ok (.iand, 1) := dk_126 (dk_at dksX6_findsPairs_1 22 rfl rfl)
theorem dX6_findsPairs_47 : decode cX6_findsPairs 47 = .ok (.istore 4, 2) := dk_54 4 (dk_at dksX6_findsPairs_2 0 rfl rfl)
theorem dX6_findsPairs_49 : decode cX6_findsPairs 49 = .ok (.aload_n 0, 1) := dk_42 (dk_at dksX6_findsPairs_2 2 rfl rfl)
theorem dX6_findsPairs_50 : decode cX6_findsPairs 50 = .ok (.iload_n 2, 1) := dk_28 (dk_at dksX6_findsPairs_2 3 rfl rfl)
theorem dX6_findsPairs_51 : decode cX6_findsPairs 51 = .ok (.aload_n 0, 1) := dk_42 (dk_at dksX6_findsPairs_2 4 rfl rfl)
theorem dX6_findsPairs_52 : decode cX6_findsPairs 52 = .ok (.getfield 98, 3) := dk_180 0 98 (dk_at dksX6_findsPairs_2 5 rfl rfl)
theorem dX6_findsPairs_55 : decode cX6_findsPairs 55 = .ok (.iload 4, 2) := dk_21 4 (dk_at dksX6_findsPairs_2 8 rfl rfl)
theorem dX6_findsPairs_57 : decode cX6_findsPairs 57 = .ok (.iaload, 1) := dk_46 (dk_at dksX6_findsPairs_2 10 rfl rfl)
theorem dX6_findsPairs_58 : decode cX6_findsPairs 58 = .ok (.invokevirtual 440, 3) := dk_182 1 184 (dk_at dksX6_findsPairs_2 11 rfl rfl)
theorem dX6_findsPairs_61 : decode cX6_findsPairs 61 = .ok (.istore_n 2, 1) := dk_61 (dk_at dksX6_findsPairs_2 14 rfl rfl)
theorem dX6_findsPairs_62 : decode cX6_findsPairs 62 = .ok (.iconst 0, 1) := dk_3 (dk_at dksX6_findsPairs_2 15 rfl rfl)
theorem dX6_findsPairs_63 : decode cX6_findsPairs 63 = .ok (.istore 5, 2) := dk_54 5 (dk_at dksX6_findsPairs_2 16 rfl rfl)
theorem dX6_findsPairs_65 : decode cX6_findsPairs 65 = .ok (.iload 5, 2) := dk_21 5 (dk_at dksX6_findsPairs_2 18 rfl rfl)
theorem dX6_findsPairs_67 : decode cX6_findsPairs 67 = .ok (.aload_n 0, 1) := dk_42 (dk_at dksX6_findsPairs_2 20 rfl rfl)
theorem dX6_findsPairs_68 : decode cX6_findsPairs 68 = .ok (.getfield 135, 3) := dk_180 0 135 (dk_at dksX6_findsPairs_2 21 rfl rfl)
theorem dX6_findsPairs_71 : decode cX6_findsPairs 71 = .ok (.if_icmp .ge 57, 3) := dk_162 0 57 (dk_at dksX6_findsPairs_3 0 rfl rfl)
theorem dX6_findsPairs_74 : decode cX6_findsPairs 74 = .ok (.aload_n 0, 1) := dk_42 (dk_at dksX6_findsPairs_3 3 rfl rfl)
theorem dX6_findsPairs_75 : decode cX6_findsPairs 75 = .ok (.iload 4, 2) := dk_21 4 (dk_at dksX6_findsPairs_3 4 rfl rfl)
theorem dX6_findsPairs_77 : decode cX6_findsPairs 77 = .ok (.iload 5, 2) := dk_21 5 (dk_at dksX6_findsPairs_3 6 rfl rfl)
theorem dX6_findsPairs_79 : decode cX6_findsPairs 79 = .ok (.invokevirtual 331, 3) := dk_182 1 75 (dk_at dksX6_findsPairs_3 8 rfl rfl)
theorem dX6_findsPairs_82 : decode cX6_findsPairs 82 = .ok (.ifCond .eq 40, 3) := dk_153 0 40 (dk_at dksX6_findsPairs_3 11 rfl rfl)
theorem dX6_findsPairs_85 : decode cX6_findsPairs 85 = .ok (.aload_n 0, 1) := dk_42 (dk_at dksX6_findsPairs_3 14 rfl rfl)
theorem dX6_findsPairs_86 : decode cX6_findsPairs 86 = .ok (.aload_n 0, 1) := dk_42 (dk_at dksX6_findsPairs_3 15 rfl rfl)
theorem dX6_findsPairs_87 : decode cX6_findsPairs 87 = .ok (.getfield 68, 3) := dk_180 0 68 (dk_at dksX6_findsPairs_3 16 rfl rfl)
theorem dX6_findsPairs_90 : decode cX6_findsPairs 90 = .ok (.iload_n 3, 1) := dk_29 (dk_at dksX6_findsPairs_3 19 rfl rfl)
theorem dX6_findsPairs_91 : decode cX6_findsPairs 91 = .ok (.iaload, 1) := dk_46 (dk_at dksX6_findsPairs_3 20 rfl rfl)
theorem dX6_findsPairs_92 : decode cX6_findsPairs 92 = .ok (.iload 5, 2) := dk_21 5 (dk_at dksX6_findsPairs_3 21 rfl rfl)
theorem dX6_findsPairs_94 : decode cX6_findsPairs 94 = .ok (.invokevirtual 331, 3) := dk_182 1 75 (dk_at dksX6_findsPairs_4 0 rfl rfl)
theorem dX6_findsPairs_97 : decode cX6_findsPairs 97 = .ok (.ifCond .ne 25, 3) := dk_154 0 25 (dk_at dksX6_findsPairs_4 3 rfl rfl)
theorem dX6_findsPairs_100 : decode cX6_findsPairs 100 = .ok (.aload_n 0, 1) := dk_42 (dk_at dksX6_findsPairs_4 6 rfl rfl)
theorem dX6_findsPairs_101 : decode cX6_findsPairs 101 = .ok (.iload_n 2, 1) := dk_28 (dk_at dksX6_findsPairs_4 7 rfl rfl)
theorem dX6_findsPairs_102 : decode cX6_findsPairs 102 = .ok (.iconst 1, 1) := dk_4 (dk_at dksX6_findsPairs_4 8 rfl rfl)
theorem dX6_findsPairs_103 : decode cX6_findsPairs 103 = .ok (.aload_n 0, 1) := dk_42 (dk_at dksX6_findsPairs_4 9 rfl rfl)
theorem dX6_findsPairs_104 : decode cX6_findsPairs 104 = .ok (.getfield 98, 3) := dk_180 0 98 (dk_at dksX6_findsPairs_4 10 rfl rfl)
theorem dX6_findsPairs_107 : decode cX6_findsPairs 107 = .ok (.iload 4, 2) := dk_21 4 (dk_at dksX6_findsPairs_4 13 rfl rfl)
theorem dX6_findsPairs_109 : decode cX6_findsPairs 109 = .ok (.iconst 1, 1) := dk_4 (dk_at dksX6_findsPairs_4 15 rfl rfl)
theorem dX6_findsPairs_110 : decode cX6_findsPairs 110 = .ok (.iload 5, 2) := dk_21 5 (dk_at dksX6_findsPairs_4 16 rfl rfl)
theorem dX6_findsPairs_112 : decode cX6_findsPairs 112 = .ok (.ishl, 1) := dk_120 (dk_at dksX6_findsPairs_4 18 rfl rfl)
theorem dX6_findsPairs_113 : decode cX6_findsPairs 113 = .ok (.iconst (-1), 1) := dk_2 (dk_at dksX6_findsPairs_4 19 rfl rfl)
theorem dX6_findsPairs_114 : decode cX6_findsPairs 114 = .ok (.ixor, 1) := dk_130 (dk_at dksX6_findsPairs_4 20 rfl rfl)
theorem dX6_findsPairs_115 : decode cX6_findsPairs 115 = .ok (.iand, 1) := dk_126 (dk_at dksX6_findsPairs_4 21 rfl rfl)
theorem dX6_findsPairs_116 : decode cX6_findsPairs 116 = .ok (.iaload, 1) := dk_46 (dk_at dksX6_findsPairs_4 22 rfl rfl)
theorem dX6_findsPairs_117 : decode cX6_findsPairs 117 = .ok (.iadd, 1) := dk_96 (dk_at dksX6_findsPairs_4 23 rfl rfl)
theorem dX6_findsPairs_118 : decode cX6_findsPairs 118 = .ok (.invokevirtual 440, 3) := dk_182 1 184 (dk_at dksX6_findsPairs_5 0 rfl rfl)
theorem dX6_findsPairs_121 : decode cX6_findsPairs 121 = .ok (.istore_n 2, 1) := dk_61 (dk_at dksX6_findsPairs_5 3 rfl rfl)
theorem dX6_findsPairs_122 : decode cX6_findsPairs 122 = .ok (.iinc 5 1, 3) := dk_132 5 1 (dk_at dksX6_findsPairs_5 4 rfl rfl)
theorem dX6_findsPairs_125 : decode cX6_findsPairs 125 = .ok (.goto (-60), 3) := dk_167 255 196 (dk_at dksX6_findsPairs_5 7 rfl rfl)
theorem dX6_findsPairs_128 : decode cX6_findsPairs 128 = .ok (.goto 9, 3) := dk_167 0 9 (dk_at dksX6_findsPairs_5 10 rfl rfl)
theorem dX6_findsPairs_131 : decode cX6_findsPairs 131 = .ok (.iinc 3 1, 3) := dk_132 3 1 (dk_at dksX6_findsPairs_5 13 rfl rfl)
theorem dX6_findsPairs_134 : decode cX6_findsPairs 134 = .ok (.goto (-118), 3) := dk_167 255 138 (dk_at dksX6_findsPairs_5 16 rfl rfl)
theorem dX6_findsPairs_137 : decode cX6_findsPairs 137 = .ok (.aload_n 0, 1) := dk_42 (dk_at dksX6_findsPairs_5 19 rfl rfl)
theorem dX6_findsPairs_138 : decode cX6_findsPairs 138 = .ok (.getfield 98, 3) := dk_180 0 98 (dk_at dksX6_findsPairs_5 20 rfl rfl)
theorem dX6_findsPairs_141 : decode cX6_findsPairs 141 = .ok (.iload_n 1, 1) := dk_27 (dk_at dksX6_findsPairs_5 23 rfl rfl)
theorem dX6_findsPairs_142 : decode cX6_findsPairs 142 = .ok (.iload_n 2, 1) := dk_28 (dk_at dksX6_findsPairs_6 0 rfl rfl)
theorem dX6_findsPairs_143 : decode cX6_findsPairs 143 = .ok (.iastore, 1) := dk_79 (dk_at dksX6_findsPairs_6 1 rfl rfl)
theorem dX6_findsPairs_144 : decode cX6_findsPairs 144 = .ok (.iinc 1 1, 3) := dk_132 1 1 (dk_at dksX6_findsPairs_6 2 rfl rfl)
theorem dX6_findsPairs_147 : decode cX6_findsPairs 147 = .ok (.goto (-145), 3) := dk_167 255 111 (dk_at dksX6_findsPairs_6 5 rfl rfl)
theorem dX6_findsPairs_150 : decode cX6_findsPairs 150 = .ok (.return_, 1) := dk_177 (dk_at dksX6_findsPairs_6 8 rfl rfl)
abbrev cX6_greater : ByteArray := prog_22_method_5_code
def yX6_greater : MethodName := ⟨RX6, "greater", "(II)I"⟩
def dkwX6_greater_0 : List UInt8 := [27, 28, 164, 0, 7, 27, 167, 0, 4, 28, 172]
abbrev dktX6_greater_0 : List UInt8 := dkwX6_greater_0 ++ []
theorem dksX6_greater_0 : cX6_greater.data.toList.drop 0 = dktX6_greater_0 := by decide +kernel
theorem dX6_greater_0 : decode cX6_greater 0 = .ok (.iload_n 1, 1) := dk_27 (dk_at dksX6_greater_0 0 rfl rfl)
theorem dX6_greater_1 : decode cX6_greater 1 = .ok (.iload_n 2, 1) := dk_28 (dk_at dksX6_greater_0 1 rfl rfl)
theorem dX6_greater_2 : decode cX6_greater 2 = .ok (.if_icmp .le 7, 3) := dk_164 0 7 (dk_at dksX6_greater_0 2 rfl rfl)
theorem dX6_greater_5 : decode cX6_greater 5 = .ok (.iload_n 1, 1) := dk_27 (dk_at dksX6_greater_0 5 rfl rfl)
theorem dX6_greater_6 : decode cX6_greater 6 = .ok (.goto 4, 3) := dk_167 0 4 (dk_at dksX6_greater_0 6 rfl rfl)
theorem dX6_greater_9 : decode cX6_greater 9 = .ok (.iload_n 2, 1) := dk_28 (dk_at dksX6_greater_0 9 rfl rfl)
theorem dX6_greater_10 : decode cX6_greater 10 = .ok (.ireturn, 1) := dk_172 (dk_at dksX6_greater_0 10 rfl rfl)
abbrev cX6_partnerOf : ByteArray := prog_22_method_107_code
def yX6_partnerOf : MethodName := ⟨RX6, "partnerOf", "(I)I"⟩
def dkwX6_partnerOf_7 : List UInt8 := [21, 5, 120, 2, 130, 126, 61, 132, 3, 1, 167, 255, 96, 2, 172]
abbrev dktX6_partnerOf_7 : List UInt8 := dkwX6_partnerOf_7 ++ []
def dkwX6_partnerOf_6 : List UInt8 := [160, 0, 8, 21, 5, 167, 0, 4, 29, 172, 21, 5, 2, 160, 0, 8, 21, 4, 167, 0, 12, 21, 4, 4]
abbrev dktX6_partnerOf_6 : List UInt8 := dkwX6_partnerOf_6 ++ dktX6_partnerOf_7
def dkwX6_partnerOf_5 : List UInt8 := [167, 255, 192, 29, 27, 159, 0, 15, 21, 5, 27, 160, 0, 21, 21, 5, 2, 159, 0, 15, 29, 27]
abbrev dktX6_partnerOf_5 : List UInt8 := dkwX6_partnerOf_5 ++ dktX6_partnerOf_6
def dkwX6_partnerOf_4 : List UInt8 := [21, 6, 120, 2, 130, 126, 46, 96, 42, 180, 0, 98, 28, 46, 160, 0, 7, 21, 6, 54, 5, 132, 6, 255]
abbrev dktX6_partnerOf_4 : List UInt8 := dkwX6_partnerOf_4 ++ dktX6_partnerOf_5
def dkwX6_partnerOf_3 : List UInt8 := [42, 42, 180, 0, 68, 29, 46, 21, 6, 182, 1, 75, 154, 0, 32, 4, 42, 180, 0, 98, 21, 4, 4]
abbrev dktX6_partnerOf_3 : List UInt8 := dkwX6_partnerOf_3 ++ dktX6_partnerOf_4
def dkwX6_partnerOf_2 : List UInt8 := [180, 0, 135, 4, 100, 54, 6, 21, 6, 29, 164, 0, 64, 42, 21, 4, 21, 6, 182, 1, 75, 153, 0, 47]
abbrev dktX6_partnerOf_2 : List UInt8 := dkwX6_partnerOf_2 ++ dktX6_partnerOf_3
def dkwX6_partnerOf_1 : List UInt8 := [182, 1, 75, 154, 0, 6, 167, 0, 140, 28, 4, 29, 120, 2, 130, 126, 54, 4, 2, 54, 5, 42]
abbrev dktX6_partnerOf_1 : List UInt8 := dkwX6_partnerOf_1 ++ dktX6_partnerOf_2
def dkwX6_partnerOf_0 : List UInt8 := [4, 42, 180, 0, 135, 120, 4, 100, 61, 3, 62, 29, 42, 180, 0, 135, 162, 0, 158, 42, 28, 29]
abbrev dktX6_partnerOf_0 : List UInt8 := dkwX6_partnerOf_0 ++ dktX6_partnerOf_1
theorem dksX6_partnerOf_0 : cX6_partnerOf.data.toList.drop 0 = dktX6_partnerOf_0 := by decide +kernel
theorem dksX6_partnerOf_1 : cX6_partnerOf.data.toList.drop 22 = dktX6_partnerOf_1 := dk_seg dksX6_partnerOf_0 22 rfl rfl
theorem dksX6_partnerOf_2 : cX6_partnerOf.data.toList.drop 44 = dktX6_partnerOf_2 := dk_seg dksX6_partnerOf_1 22 rfl rfl
theorem dksX6_partnerOf_3 : cX6_partnerOf.data.toList.drop 68 = dktX6_partnerOf_3 := dk_seg dksX6_partnerOf_2 24 rfl rfl
theorem dksX6_partnerOf_4 : cX6_partnerOf.data.toList.drop 91 = dktX6_partnerOf_4 := dk_seg dksX6_partnerOf_3 23 rfl rfl
theorem dksX6_partnerOf_5 : cX6_partnerOf.data.toList.drop 115 = dktX6_partnerOf_5 := dk_seg dksX6_partnerOf_4 24 rfl rfl
theorem dksX6_partnerOf_6 : cX6_partnerOf.data.toList.drop 137 = dktX6_partnerOf_6 := dk_seg dksX6_partnerOf_5 22 rfl rfl
theorem dksX6_partnerOf_7 : cX6_partnerOf.data.toList.drop 161 = dktX6_partnerOf_7 := dk_seg dksX6_partnerOf_6 24 rfl rfl
theorem dX6_partnerOf_0 : decode cX6_partnerOf 0 = .ok (.iconst 1, 1) := dk_4 (dk_at dksX6_partnerOf_0 0 rfl rfl)
theorem dX6_partnerOf_1 : decode cX6_partnerOf 1 = .ok (.aload_n 0, 1) := dk_42 (dk_at dksX6_partnerOf_0 1 rfl rfl)
theorem dX6_partnerOf_2 : decode cX6_partnerOf 2 = .ok (.getfield 135, 3) := dk_180 0 135 (dk_at dksX6_partnerOf_0 2 rfl rfl)
theorem dX6_partnerOf_5 : decode cX6_partnerOf 5 = .ok (.ishl, 1) := dk_120 (dk_at dksX6_partnerOf_0 5 rfl rfl)
theorem dX6_partnerOf_6 : decode cX6_partnerOf 6 = .ok (.iconst 1, 1) := dk_4 (dk_at dksX6_partnerOf_0 6 rfl rfl)
theorem dX6_partnerOf_7 : decode cX6_partnerOf 7 = .ok (.isub, 1) := dk_100 (dk_at dksX6_partnerOf_0 7 rfl rfl)
theorem dX6_partnerOf_8 : decode cX6_partnerOf 8 = .ok (.istore_n 2, 1) := dk_61 (dk_at dksX6_partnerOf_0 8 rfl rfl)
theorem dX6_partnerOf_9 : decode cX6_partnerOf 9 = .ok (.iconst 0, 1) := dk_3 (dk_at dksX6_partnerOf_0 9 rfl rfl)
theorem dX6_partnerOf_10 : decode cX6_partnerOf 10 = .ok (.istore_n 3, 1) := dk_62 (dk_at dksX6_partnerOf_0 10 rfl rfl)
theorem dX6_partnerOf_11 : decode cX6_partnerOf 11 = .ok (.iload_n 3, 1) := dk_29 (dk_at dksX6_partnerOf_0 11 rfl rfl)
theorem dX6_partnerOf_12 : decode cX6_partnerOf 12 = .ok (.aload_n 0, 1) := dk_42 (dk_at dksX6_partnerOf_0 12 rfl rfl)
theorem dX6_partnerOf_13 : decode cX6_partnerOf 13 = .ok (.getfield 135, 3) := dk_180 0 135 (dk_at dksX6_partnerOf_0 13 rfl rfl)
theorem dX6_partnerOf_16 : decode cX6_partnerOf 16 = .ok (.if_icmp .ge 158, 3) := dk_162 0 158 (dk_at dksX6_partnerOf_0 16 rfl rfl)
theorem dX6_partnerOf_19 : decode cX6_partnerOf 19 = .ok (.aload_n 0, 1) := dk_42 (dk_at dksX6_partnerOf_0 19 rfl rfl)
theorem dX6_partnerOf_20 : decode cX6_partnerOf 20 = .ok (.iload_n 2, 1) := dk_28 (dk_at dksX6_partnerOf_0 20 rfl rfl)
theorem dX6_partnerOf_21 : decode cX6_partnerOf 21 = .ok (.iload_n 3, 1) := dk_29 (dk_at dksX6_partnerOf_0 21 rfl rfl)
theorem dX6_partnerOf_22 : decode cX6_partnerOf 22 = .ok (.invokevirtual 331, 3) := dk_182 1 75 (dk_at dksX6_partnerOf_1 0 rfl rfl)
theorem dX6_partnerOf_25 : decode cX6_partnerOf 25 = .ok (.ifCond .ne 6, 3) := dk_154 0 6 (dk_at dksX6_partnerOf_1 3 rfl rfl)
theorem dX6_partnerOf_28 : decode cX6_partnerOf 28 = .ok (.goto 140, 3) := dk_167 0 140 (dk_at dksX6_partnerOf_1 6 rfl rfl)
theorem dX6_partnerOf_31 : decode cX6_partnerOf 31 = .ok (.iload_n 2, 1) := dk_28 (dk_at dksX6_partnerOf_1 9 rfl rfl)
theorem dX6_partnerOf_32 : decode cX6_partnerOf 32 = .ok (.iconst 1, 1) := dk_4 (dk_at dksX6_partnerOf_1 10 rfl rfl)
theorem dX6_partnerOf_33 : decode cX6_partnerOf 33 = .ok (.iload_n 3, 1) := dk_29 (dk_at dksX6_partnerOf_1 11 rfl rfl)
theorem dX6_partnerOf_34 : decode cX6_partnerOf 34 = .ok (.ishl, 1) := dk_120 (dk_at dksX6_partnerOf_1 12 rfl rfl)
theorem dX6_partnerOf_35 : decode cX6_partnerOf 35 = .ok (.iconst (-1), 1) := dk_2 (dk_at dksX6_partnerOf_1 13 rfl rfl)
theorem dX6_partnerOf_36 : decode cX6_partnerOf 36 = .ok (.ixor, 1) := dk_130 (dk_at dksX6_partnerOf_1 14 rfl rfl)
theorem dX6_partnerOf_37 : decode cX6_partnerOf 37 = .ok (.iand, 1) := dk_126 (dk_at dksX6_partnerOf_1 15 rfl rfl)
theorem dX6_partnerOf_38 : decode cX6_partnerOf 38 = .ok (.istore 4, 2) := dk_54 4 (dk_at dksX6_partnerOf_1 16 rfl rfl)
theorem dX6_partnerOf_40 : decode cX6_partnerOf 40 = .ok (.iconst (-1), 1) := dk_2 (dk_at dksX6_partnerOf_1 18 rfl rfl)
theorem dX6_partnerOf_41 : decode cX6_partnerOf 41 = .ok (.istore 5, 2) := dk_54 5 (dk_at dksX6_partnerOf_1 19 rfl rfl)
theorem dX6_partnerOf_43 : decode cX6_partnerOf 43 = .ok (.aload_n 0, 1) := dk_42 (dk_at dksX6_partnerOf_1 21 rfl rfl)
theorem dX6_partnerOf_44 : decode cX6_partnerOf 44 = .ok (.getfield 135, 3) := dk_180 0 135 (dk_at dksX6_partnerOf_2 0 rfl rfl)
theorem dX6_partnerOf_47 : decode cX6_partnerOf 47 = .ok (.iconst 1, 1) := dk_4 (dk_at dksX6_partnerOf_2 3 rfl rfl)
theorem dX6_partnerOf_48 : decode cX6_partnerOf 48 = .ok (.isub, 1) := dk_100 (dk_at dksX6_partnerOf_2 4 rfl rfl)
theorem dX6_partnerOf_49 : decode cX6_partnerOf 49 = .ok (.istore 6, 2) := dk_54 6 (dk_at dksX6_partnerOf_2 5 rfl rfl)
theorem dX6_partnerOf_51 : decode cX6_partnerOf 51 = .ok (.iload 6, 2) := dk_21 6 (dk_at dksX6_partnerOf_2 7 rfl rfl)
theorem dX6_partnerOf_53 : decode cX6_partnerOf 53 = .ok (.iload_n 3, 1) := dk_29 (dk_at dksX6_partnerOf_2 9 rfl rfl)
theorem dX6_partnerOf_54 : decode cX6_partnerOf 54 = .ok (.if_icmp .le 64, 3) := dk_164 0 64 (dk_at dksX6_partnerOf_2 10 rfl rfl)
theorem dX6_partnerOf_57 : decode cX6_partnerOf 57 = .ok (.aload_n 0, 1) := dk_42 (dk_at dksX6_partnerOf_2 13 rfl rfl)
theorem dX6_partnerOf_58 : decode cX6_partnerOf 58 = .ok (.iload 4, 2) := dk_21 4 (dk_at dksX6_partnerOf_2 14 rfl rfl)
theorem dX6_partnerOf_60 : decode cX6_partnerOf 60 = .ok (.iload 6, 2) := dk_21 6 (dk_at dksX6_partnerOf_2 16 rfl rfl)
theorem dX6_partnerOf_62 : decode cX6_partnerOf 62 = .ok (.invokevirtual 331, 3) := dk_182 1 75 (dk_at dksX6_partnerOf_2 18 rfl rfl)
theorem dX6_partnerOf_65 : decode cX6_partnerOf 65 = .ok (.ifCond .eq 47, 3) := dk_153 0 47 (dk_at dksX6_partnerOf_2 21 rfl rfl)
theorem dX6_partnerOf_68 : decode cX6_partnerOf 68 = .ok (.aload_n 0, 1) := dk_42 (dk_at dksX6_partnerOf_3 0 rfl rfl)
theorem dX6_partnerOf_69 : decode cX6_partnerOf 69 = .ok (.aload_n 0, 1) := dk_42 (dk_at dksX6_partnerOf_3 1 rfl rfl)
theorem dX6_partnerOf_70 : decode cX6_partnerOf 70 = .ok (.getfield 68, 3) := dk_180 0 68 (dk_at dksX6_partnerOf_3 2 rfl rfl)
theorem dX6_partnerOf_73 : decode cX6_partnerOf 73 = .ok (.iload_n 3, 1) := dk_29 (dk_at dksX6_partnerOf_3 5 rfl rfl)
theorem dX6_partnerOf_74 : decode cX6_partnerOf 74 = .ok (.iaload, 1) := dk_46 (dk_at dksX6_partnerOf_3 6 rfl rfl)
theorem dX6_partnerOf_75 : decode cX6_partnerOf 75 = .ok (.iload 6, 2) := dk_21 6 (dk_at dksX6_partnerOf_3 7 rfl rfl)
theorem dX6_partnerOf_77 : decode cX6_partnerOf 77 = .ok (.invokevirtual 331, 3) := dk_182 1 75 (dk_at dksX6_partnerOf_3 9 rfl rfl)
theorem dX6_partnerOf_80 : decode cX6_partnerOf 80 = .ok (.ifCond .ne 32, 3) := dk_154 0 32 (dk_at dksX6_partnerOf_3 12 rfl rfl)
theorem dX6_partnerOf_83 : decode cX6_partnerOf 83 = .ok (.iconst 1, 1) := dk_4 (dk_at dksX6_partnerOf_3 15 rfl rfl)
theorem dX6_partnerOf_84 : decode cX6_partnerOf 84 = .ok (.aload_n 0, 1) := dk_42 (dk_at dksX6_partnerOf_3 16 rfl rfl)
theorem dX6_partnerOf_85 : decode cX6_partnerOf 85 = .ok (.getfield 98, 3) := dk_180 0 98 (dk_at dksX6_partnerOf_3 17 rfl rfl)
theorem dX6_partnerOf_88 : decode cX6_partnerOf 88 = .ok (.iload 4, 2) := dk_21 4 (dk_at dksX6_partnerOf_3 20 rfl rfl)
theorem dX6_partnerOf_90 : decode cX6_partnerOf 90 = .ok (.iconst 1, 1) := dk_4 (dk_at dksX6_partnerOf_3 22 rfl rfl)
theorem dX6_partnerOf_91 : decode cX6_partnerOf 91 = .ok (.iload 6, 2) := dk_21 6 (dk_at dksX6_partnerOf_4 0 rfl rfl)
theorem dX6_partnerOf_93 : decode cX6_partnerOf 93 = .ok (.ishl, 1) := dk_120 (dk_at dksX6_partnerOf_4 2 rfl rfl)
theorem dX6_partnerOf_94 : decode cX6_partnerOf 94 = .ok (.iconst (-1), 1) := dk_2 (dk_at dksX6_partnerOf_4 3 rfl rfl)
theorem dX6_partnerOf_95 : decode cX6_partnerOf 95 = .ok (.ixor, 1) := dk_130 (dk_at dksX6_partnerOf_4 4 rfl rfl)
theorem dX6_partnerOf_96 : decode cX6_partnerOf 96 = .ok (.iand, 1) := dk_126 (dk_at dksX6_partnerOf_4 5 rfl rfl)
theorem dX6_partnerOf_97 : decode cX6_partnerOf 97 = .ok (.iaload, 1) := dk_46 (dk_at dksX6_partnerOf_4 6 rfl rfl)
theorem dX6_partnerOf_98 : decode cX6_partnerOf 98 = .ok (.iadd, 1) := dk_96 (dk_at dksX6_partnerOf_4 7 rfl rfl)
theorem dX6_partnerOf_99 : decode cX6_partnerOf 99 = .ok (.aload_n 0, 1) := dk_42 (dk_at dksX6_partnerOf_4 8 rfl rfl)
theorem dX6_partnerOf_100 : decode cX6_partnerOf 100 = .ok (.getfield 98, 3) := dk_180 0 98 (dk_at dksX6_partnerOf_4 9 rfl rfl)
theorem dX6_partnerOf_103 : decode cX6_partnerOf 103 = .ok (.iload_n 2, 1) := dk_28 (dk_at dksX6_partnerOf_4 12 rfl rfl)
theorem dX6_partnerOf_104 : decode cX6_partnerOf 104 = .ok (.iaload, 1) := dk_46 (dk_at dksX6_partnerOf_4 13 rfl rfl)
theorem dX6_partnerOf_105 : decode cX6_partnerOf 105 = .ok (.if_icmp .ne 7, 3) := dk_160 0 7 (dk_at dksX6_partnerOf_4 14 rfl rfl)
theorem dX6_partnerOf_108 : decode cX6_partnerOf 108 = .ok (.iload 6, 2) := dk_21 6 (dk_at dksX6_partnerOf_4 17 rfl rfl)
theorem dX6_partnerOf_110 : decode cX6_partnerOf 110 = .ok (.istore 5, 2) := dk_54 5 (dk_at dksX6_partnerOf_4 19 rfl rfl)
theorem dX6_partnerOf_112 : decode cX6_partnerOf 112 = .ok (.iinc 6 (-1), 3) := dk_132 6 255 (dk_at dksX6_partnerOf_4 21 rfl rfl)
theorem dX6_partnerOf_115 : decode cX6_partnerOf 115 = .ok (.goto (-64), 3) := dk_167 255 192 (dk_at dksX6_partnerOf_5 0 rfl rfl)
theorem dX6_partnerOf_118 : decode cX6_partnerOf 118 = .ok (.iload_n 3, 1) := dk_29 (dk_at dksX6_partnerOf_5 3 rfl rfl)
theorem dX6_partnerOf_119 : decode cX6_partnerOf 119 = .ok (.iload_n 1, 1) := dk_27 (dk_at dksX6_partnerOf_5 4 rfl rfl)
theorem dX6_partnerOf_120 : decode cX6_partnerOf 120 = .ok (.if_icmp .eq 15, 3) := dk_159 0 15 (dk_at dksX6_partnerOf_5 5 rfl rfl)
theorem dX6_partnerOf_123 : decode cX6_partnerOf 123 = .ok (.iload 5, 2) := dk_21 5 (dk_at dksX6_partnerOf_5 8 rfl rfl)
theorem dX6_partnerOf_125 : decode cX6_partnerOf 125 = .ok (.iload_n 1, 1) := dk_27 (dk_at dksX6_partnerOf_5 10 rfl rfl)
theorem dX6_partnerOf_126 : decode cX6_partnerOf 126 = .ok (.if_icmp .ne 21, 3) := dk_160 0 21 (dk_at dksX6_partnerOf_5 11 rfl rfl)
theorem dX6_partnerOf_129 : decode cX6_partnerOf 129 = .ok (.iload 5, 2) := dk_21 5 (dk_at dksX6_partnerOf_5 14 rfl rfl)
theorem dX6_partnerOf_131 : decode cX6_partnerOf 131 = .ok (.iconst (-1), 1) := dk_2 (dk_at dksX6_partnerOf_5 16 rfl rfl)
theorem dX6_partnerOf_132 : decode cX6_partnerOf 132 = .ok (.if_icmp .eq 15, 3) := dk_159 0 15 (dk_at dksX6_partnerOf_5 17 rfl rfl)
theorem dX6_partnerOf_135 : decode cX6_partnerOf 135 = .ok (.iload_n 3, 1) := dk_29 (dk_at dksX6_partnerOf_5 20 rfl rfl)
theorem dX6_partnerOf_136 : decode cX6_partnerOf 136 = .ok (.iload_n 1, 1) := dk_27 (dk_at dksX6_partnerOf_5 21 rfl rfl)
theorem dX6_partnerOf_137 : decode cX6_partnerOf 137 = .ok (.if_icmp .ne 8, 3) := dk_160 0 8 (dk_at dksX6_partnerOf_6 0 rfl rfl)
theorem dX6_partnerOf_140 : decode cX6_partnerOf 140 = .ok (.iload 5, 2) := dk_21 5 (dk_at dksX6_partnerOf_6 3 rfl rfl)
theorem dX6_partnerOf_142 : decode cX6_partnerOf 142 = .ok (.goto 4, 3) := dk_167 0 4 (dk_at dksX6_partnerOf_6 5 rfl rfl)
theorem dX6_partnerOf_145 : decode cX6_partnerOf 145 = .ok (.iload_n 3, 1) := dk_29 (dk_at dksX6_partnerOf_6 8 rfl rfl)
theorem dX6_partnerOf_146 : decode cX6_partnerOf 146 = .ok (.ireturn, 1) := dk_172 (dk_at dksX6_partnerOf_6 9 rfl rfl)
theorem dX6_partnerOf_147 : decode cX6_partnerOf 147 = .ok (.iload 5, 2) := dk_21 5 (dk_at dksX6_partnerOf_6 10 rfl rfl)
theorem dX6_partnerOf_149 : decode cX6_partnerOf 149 = .ok (.iconst (-1), 1) := dk_2 (dk_at dksX6_partnerOf_6 12 rfl rfl)
theorem dX6_partnerOf_150 : decode cX6_partnerOf 150 = .ok (.if_icmp .ne 8, 3) := dk_160 0 8 (dk_at dksX6_partnerOf_6 13 rfl rfl)
theorem dX6_partnerOf_153 : decode cX6_partnerOf 153 = .ok (.iload 4, 2) := dk_21 4 (dk_at dksX6_partnerOf_6 16 rfl rfl)
theorem dX6_partnerOf_155 : decode cX6_partnerOf 155 = .ok (.goto 12, 3) := dk_167 0 12 (dk_at dksX6_partnerOf_6 18 rfl rfl)
theorem dX6_partnerOf_158 : decode cX6_partnerOf 158 = .ok (.iload 4, 2) := dk_21 4 (dk_at dksX6_partnerOf_6 21 rfl rfl)
theorem dX6_partnerOf_160 : decode cX6_partnerOf 160 = .ok (.iconst 1, 1) := dk_4 (dk_at dksX6_partnerOf_6 23 rfl rfl)
theorem dX6_partnerOf_161 : decode cX6_partnerOf 161 = .ok (.iload 5, 2) := dk_21 5 (dk_at dksX6_partnerOf_7 0 rfl rfl)
theorem dX6_partnerOf_163 : decode cX6_partnerOf 163 = .ok (.ishl, 1) := dk_120 (dk_at dksX6_partnerOf_7 2 rfl rfl)
theorem dX6_partnerOf_164 : decode cX6_partnerOf 164 = .ok (.iconst (-1), 1) := dk_2 (dk_at dksX6_partnerOf_7 3 rfl rfl)
theorem dX6_partnerOf_165 : decode cX6_partnerOf 165 = .ok (.ixor, 1) := dk_130 (dk_at dksX6_partnerOf_7 4 rfl rfl)
theorem dX6_partnerOf_166 : decode cX6_partnerOf 166 = .ok (.iand, 1) := dk_126 (dk_at dksX6_partnerOf_7 5 rfl rfl)
theorem dX6_partnerOf_167 : decode cX6_partnerOf 167 = .ok (.istore_n 2, 1) := dk_61 (dk_at dksX6_partnerOf_7 6 rfl rfl)
theorem dX6_partnerOf_168 : decode cX6_partnerOf 168 = .ok (.iinc 3 1, 3) := dk_132 3 1 (dk_at dksX6_partnerOf_7 7 rfl rfl)
theorem dX6_partnerOf_171 : decode cX6_partnerOf 171 = .ok (.goto (-160), 3) := dk_167 255 96 (dk_at dksX6_partnerOf_7 10 rfl rfl)
theorem dX6_partnerOf_174 : decode cX6_partnerOf 174 = .ok (.iconst (-1), 1) := dk_2 (dk_at dksX6_partnerOf_7 13 rfl rfl)
theorem dX6_partnerOf_175 : decode cX6_partnerOf 175 = .ok (.ireturn, 1) := dk_172 (dk_at dksX6_partnerOf_7 14 rfl rfl)
abbrev cX6_walk : ByteArray := prog_22_method_110_code
def yX6_walk : MethodName := ⟨RX6, "walk", "(I)I"⟩
def dkwX6_walk_8 : List UInt8 := [21, 4, 4, 96, 54, 4, 167, 255, 236, 21, 4, 172]
abbrev dktX6_walk_8 : List UInt8 := dkwX6_walk_8 ++ []
def dkwX6_walk_7 : List UInt8 := [4, 172, 21, 5, 154, 0, 5, 2, 172, 29, 153, 0, 22, 42, 29, 21, 4, 182, 1, 75, 154, 0, 12]
abbrev dktX6_walk_7 : List UInt8 := dkwX6_walk_7 ++ dktX6_walk_8
def dkwX6_walk_6 : List UInt8 := [3, 54, 5, 27, 154, 0, 22, 21, 5, 154, 0, 7, 3, 167, 0, 12, 29, 154, 0, 7, 5, 167, 0, 4]
abbrev dktX6_walk_6 : List UInt8 := dkwX6_walk_6 ++ dktX6_walk_7
def dkwX6_walk_5 : List UInt8 := [21, 4, 182, 1, 196, 28, 126, 28, 160, 0, 16, 42, 29, 182, 1, 193, 6, 162, 0, 7, 4, 167, 0, 4]
abbrev dktX6_walk_5 : List UInt8 := dkwX6_walk_5 ++ dktX6_walk_6
def dkwX6_walk_4 : List UInt8 := [28, 21, 4, 182, 1, 75, 154, 0, 12, 21, 4, 4, 96, 54, 4, 167, 255, 231, 28, 153, 0, 28, 42]
abbrev dktX6_walk_4 : List UInt8 := dkwX6_walk_4 ++ dktX6_walk_5
def dkwX6_walk_3 : List UInt8 := [21, 4, 120, 128, 62, 132, 4, 255, 167, 255, 207, 3, 54, 4, 21, 4, 42, 180, 0, 135, 162, 0, 22, 42]
abbrev dktX6_walk_3 : List UInt8 := dkwX6_walk_3 ++ dktX6_walk_4
def dkwX6_walk_2 : List UInt8 := [21, 4, 120, 128, 61, 42, 42, 180, 0, 68, 21, 4, 46, 182, 1, 193, 5, 112, 4, 160, 0, 10, 29, 4]
abbrev dktX6_walk_2 : List UInt8 := dkwX6_walk_2 ++ dktX6_walk_3
def dkwX6_walk_1 : List UInt8 := [180, 0, 135, 4, 100, 54, 4, 21, 4, 155, 0, 50, 42, 180, 0, 68, 21, 4, 46, 153, 0, 10, 28, 4]
abbrev dktX6_walk_1 : List UInt8 := dkwX6_walk_1 ++ dktX6_walk_2
def dkwX6_walk_0 : List UInt8 := [42, 3, 181, 0, 122, 42, 27, 3, 4, 182, 0, 145, 154, 0, 5, 2, 172, 3, 61, 3, 62, 42]
abbrev dktX6_walk_0 : List UInt8 := dkwX6_walk_0 ++ dktX6_walk_1
theorem dksX6_walk_0 : cX6_walk.data.toList.drop 0 = dktX6_walk_0 := by decide +kernel
theorem dksX6_walk_1 : cX6_walk.data.toList.drop 22 = dktX6_walk_1 := dk_seg dksX6_walk_0 22 rfl rfl
theorem dksX6_walk_2 : cX6_walk.data.toList.drop 46 = dktX6_walk_2 := dk_seg dksX6_walk_1 24 rfl rfl
theorem dksX6_walk_3 : cX6_walk.data.toList.drop 70 = dktX6_walk_3 := dk_seg dksX6_walk_2 24 rfl rfl
theorem dksX6_walk_4 : cX6_walk.data.toList.drop 94 = dktX6_walk_4 := dk_seg dksX6_walk_3 24 rfl rfl
theorem dksX6_walk_5 : cX6_walk.data.toList.drop 117 = dktX6_walk_5 := dk_seg dksX6_walk_4 23 rfl rfl
theorem dksX6_walk_6 : cX6_walk.data.toList.drop 141 = dktX6_walk_6 := dk_seg dksX6_walk_5 24 rfl rfl
theorem dksX6_walk_7 : cX6_walk.data.toList.drop 165 = dktX6_walk_7 := dk_seg dksX6_walk_6 24 rfl rfl
theorem dksX6_walk_8 : cX6_walk.data.toList.drop 188 = dktX6_walk_8 := dk_seg dksX6_walk_7 23 rfl rfl
theorem dX6_walk_0 : decode cX6_walk 0 = .ok (.aload_n 0, 1) := dk_42 (dk_at dksX6_walk_0 0 rfl rfl)
theorem dX6_walk_1 : decode cX6_walk 1 = .ok (.iconst 0, 1) := dk_3 (dk_at dksX6_walk_0 1 rfl rfl)
theorem dX6_walk_2 : decode cX6_walk 2 = .ok (.putfield 122, 3) := dk_181 0 122 (dk_at dksX6_walk_0 2 rfl rfl)
theorem dX6_walk_5 : decode cX6_walk 5 = .ok (.aload_n 0, 1) := dk_42 (dk_at dksX6_walk_0 5 rfl rfl)
theorem dX6_walk_6 : decode cX6_walk 6 = .ok (.iload_n 1, 1) := dk_27 (dk_at dksX6_walk_0 6 rfl rfl)
theorem dX6_walk_7 : decode cX6_walk 7 = .ok (.iconst 0, 1) := dk_3 (dk_at dksX6_walk_0 7 rfl rfl)
theorem dX6_walk_8 : decode cX6_walk 8 = .ok (.iconst 1, 1) := dk_4 (dk_at dksX6_walk_0 8 rfl rfl)
theorem dX6_walk_9 : decode cX6_walk 9 = .ok (.invokevirtual 145, 3) := dk_182 0 145 (dk_at dksX6_walk_0 9 rfl rfl)
theorem dX6_walk_12 : decode cX6_walk 12 = .ok (.ifCond .ne 5, 3) := dk_154 0 5 (dk_at dksX6_walk_0 12 rfl rfl)
theorem dX6_walk_15 : decode cX6_walk 15 = .ok (.iconst (-1), 1) := dk_2 (dk_at dksX6_walk_0 15 rfl rfl)
theorem dX6_walk_16 : decode cX6_walk 16 = .ok (.ireturn, 1) := dk_172 (dk_at dksX6_walk_0 16 rfl rfl)
theorem dX6_walk_17 : decode cX6_walk 17 = .ok (.iconst 0, 1) := dk_3 (dk_at dksX6_walk_0 17 rfl rfl)
theorem dX6_walk_18 : decode cX6_walk 18 = .ok (.istore_n 2, 1) := dk_61 (dk_at dksX6_walk_0 18 rfl rfl)
theorem dX6_walk_19 : decode cX6_walk 19 = .ok (.iconst 0, 1) := dk_3 (dk_at dksX6_walk_0 19 rfl rfl)
theorem dX6_walk_20 : decode cX6_walk 20 = .ok (.istore_n 3, 1) := dk_62 (dk_at dksX6_walk_0 20 rfl rfl)
theorem dX6_walk_21 : decode cX6_walk 21 = .ok (.aload_n 0, 1) := dk_42 (dk_at dksX6_walk_0 21 rfl rfl)
theorem dX6_walk_22 : decode cX6_walk 22 = .ok (.getfield 135, 3) := dk_180 0 135 (dk_at dksX6_walk_1 0 rfl rfl)
theorem dX6_walk_25 : decode cX6_walk 25 = .ok (.iconst 1, 1) := dk_4 (dk_at dksX6_walk_1 3 rfl rfl)
theorem dX6_walk_26 : decode cX6_walk 26 = .ok (.isub, 1) := dk_100 (dk_at dksX6_walk_1 4 rfl rfl)
theorem dX6_walk_27 : decode cX6_walk 27 = .ok (.istore 4, 2) := dk_54 4 (dk_at dksX6_walk_1 5 rfl rfl)
theorem dX6_walk_29 : decode cX6_walk 29 = .ok (.iload 4, 2) := dk_21 4 (dk_at dksX6_walk_1 7 rfl rfl)
theorem dX6_walk_31 : decode cX6_walk 31 = .ok (.ifCond .lt 50, 3) := dk_155 0 50 (dk_at dksX6_walk_1 9 rfl rfl)
theorem dX6_walk_34 : decode cX6_walk 34 = .ok (.aload_n 0, 1) := dk_42 (dk_at dksX6_walk_1 12 rfl rfl)
theorem dX6_walk_35 : decode cX6_walk 35 = .ok (.getfield 68, 3) := dk_180 0 68 (dk_at dksX6_walk_1 13 rfl rfl)
theorem dX6_walk_38 : decode cX6_walk 38 = .ok (.iload 4, 2) := dk_21 4 (dk_at dksX6_walk_1 16 rfl rfl)
theorem dX6_walk_40 : decode cX6_walk 40 = .ok (.iaload, 1) := dk_46 (dk_at dksX6_walk_1 18 rfl rfl)
theorem dX6_walk_41 : decode cX6_walk 41 = .ok (.ifCond .eq 10, 3) := dk_153 0 10 (dk_at dksX6_walk_1 19 rfl rfl)
theorem dX6_walk_44 : decode cX6_walk 44 = .ok (.iload_n 2, 1) := dk_28 (dk_at dksX6_walk_1 22 rfl rfl)
theorem dX6_walk_45 : decode cX6_walk 45 = .ok (.iconst 1, 1) := dk_4 (dk_at dksX6_walk_1 23 rfl rfl)
theorem dX6_walk_46 : decode cX6_walk 46 = .ok (.iload 4, 2) := dk_21 4 (dk_at dksX6_walk_2 0 rfl rfl)
theorem dX6_walk_48 : decode cX6_walk 48 = .ok (.ishl, 1) := dk_120 (dk_at dksX6_walk_2 2 rfl rfl)
theorem dX6_walk_49 : decode cX6_walk 49 = .ok (.ior, 1) := dk_128 (dk_at dksX6_walk_2 3 rfl rfl)
theorem dX6_walk_50 : decode cX6_walk 50 = .ok (.istore_n 2, 1) := dk_61 (dk_at dksX6_walk_2 4 rfl rfl)
theorem dX6_walk_51 : decode cX6_walk 51 = .ok (.aload_n 0, 1) := dk_42 (dk_at dksX6_walk_2 5 rfl rfl)
theorem dX6_walk_52 : decode cX6_walk 52 = .ok (.aload_n 0, 1) := dk_42 (dk_at dksX6_walk_2 6 rfl rfl)
theorem dX6_walk_53 : decode cX6_walk 53 = .ok (.getfield 68, 3) := dk_180 0 68 (dk_at dksX6_walk_2 7 rfl rfl)
theorem dX6_walk_56 : decode cX6_walk 56 = .ok (.iload 4, 2) := dk_21 4 (dk_at dksX6_walk_2 10 rfl rfl)
theorem dX6_walk_58 : decode cX6_walk 58 = .ok (.iaload, 1) := dk_46 (dk_at dksX6_walk_2 12 rfl rfl)
theorem dX6_walk_59 : decode cX6_walk 59 = .ok (.invokevirtual 449, 3) := dk_182 1 193 (dk_at dksX6_walk_2 13 rfl rfl)
theorem dX6_walk_62 : decode cX6_walk 62 = .ok (.iconst 2, 1) := dk_5 (dk_at dksX6_walk_2 16 rfl rfl)
theorem dX6_walk_63 : decode cX6_walk 63 = .ok (.irem, 1) := dk_112 (dk_at dksX6_walk_2 17 rfl rfl)
theorem dX6_walk_64 : decode cX6_walk 64 = .ok (.iconst 1, 1) := dk_4 (dk_at dksX6_walk_2 18 rfl rfl)
theorem dX6_walk_65 : decode cX6_walk 65 = .ok (.if_icmp .ne 10, 3) := dk_160 0 10 (dk_at dksX6_walk_2 19 rfl rfl)
theorem dX6_walk_68 : decode cX6_walk 68 = .ok (.iload_n 3, 1) := dk_29 (dk_at dksX6_walk_2 22 rfl rfl)
theorem dX6_walk_69 : decode cX6_walk 69 = .ok (.iconst 1, 1) := dk_4 (dk_at dksX6_walk_2 23 rfl rfl)
theorem dX6_walk_70 : decode cX6_walk 70 = .ok (.iload 4, 2) := dk_21 4 (dk_at dksX6_walk_3 0 rfl rfl)
theorem dX6_walk_72 : decode cX6_walk 72 = .ok (.ishl, 1) := dk_120 (dk_at dksX6_walk_3 2 rfl rfl)
theorem dX6_walk_73 : decode cX6_walk 73 = .ok (.ior, 1) := dk_128 (dk_at dksX6_walk_3 3 rfl rfl)
theorem dX6_walk_74 : decode cX6_walk 74 = .ok (.istore_n 3, 1) := dk_62 (dk_at dksX6_walk_3 4 rfl rfl)
theorem dX6_walk_75 : decode cX6_walk 75 = .ok (.iinc 4 (-1), 3) := dk_132 4 255 (dk_at dksX6_walk_3 5 rfl rfl)
theorem dX6_walk_78 : decode cX6_walk 78 = .ok (.goto (-49), 3) := dk_167 255 207 (dk_at dksX6_walk_3 8 rfl rfl)
theorem dX6_walk_81 : decode cX6_walk 81 = .ok (.iconst 0, 1) := dk_3 (dk_at dksX6_walk_3 11 rfl rfl)
theorem dX6_walk_82 : decode cX6_walk 82 = .ok (.istore 4, 2) := dk_54 4 (dk_at dksX6_walk_3 12 rfl rfl)
theorem dX6_walk_84 : decode cX6_walk 84 = .ok (.iload 4, 2) := dk_21 4 (dk_at dksX6_walk_3 14 rfl rfl)
theorem dX6_walk_86 : decode cX6_walk 86 = .ok (.aload_n 0, 1) := dk_42 (dk_at dksX6_walk_3 16 rfl rfl)
theorem dX6_walk_87 : decode cX6_walk 87 = .ok (.getfield 135, 3) := dk_180 0 135 (dk_at dksX6_walk_3 17 rfl rfl)
theorem dX6_walk_90 : decode cX6_walk 90 = .ok (.if_icmp .ge 22, 3) := dk_162 0 22 (dk_at dksX6_walk_3 20 rfl rfl)
theorem dX6_walk_93 : decode cX6_walk 93 = .ok (.aload_n 0, 1) := dk_42 (dk_at dksX6_walk_3 23 rfl rfl)
theorem dX6_walk_94 : decode cX6_walk 94 = .ok (.iload_n 2, 1) := dk_28 (dk_at dksX6_walk_4 0 rfl rfl)
theorem dX6_walk_95 : decode cX6_walk 95 = .ok (.iload 4, 2) := dk_21 4 (dk_at dksX6_walk_4 1 rfl rfl)
theorem dX6_walk_97 : decode cX6_walk 97 = .ok (.invokevirtual 331, 3) := dk_182 1 75 (dk_at dksX6_walk_4 3 rfl rfl)
theorem dX6_walk_100 : decode cX6_walk 100 = .ok (.ifCond .ne 12, 3) := dk_154 0 12 (dk_at dksX6_walk_4 6 rfl rfl)
theorem dX6_walk_103 : decode cX6_walk 103 = .ok (.iload 4, 2) := dk_21 4 (dk_at dksX6_walk_4 9 rfl rfl)
theorem dX6_walk_105 : decode cX6_walk 105 = .ok (.iconst 1, 1) := dk_4 (dk_at dksX6_walk_4 11 rfl rfl)
theorem dX6_walk_106 : decode cX6_walk 106 = .ok (.iadd, 1) := dk_96 (dk_at dksX6_walk_4 12 rfl rfl)
theorem dX6_walk_107 : decode cX6_walk 107 = .ok (.istore 4, 2) := dk_54 4 (dk_at dksX6_walk_4 13 rfl rfl)
theorem dX6_walk_109 : decode cX6_walk 109 = .ok (.goto (-25), 3) := dk_167 255 231 (dk_at dksX6_walk_4 15 rfl rfl)
theorem dX6_walk_112 : decode cX6_walk 112 = .ok (.iload_n 2, 1) := dk_28 (dk_at dksX6_walk_4 18 rfl rfl)
theorem dX6_walk_113 : decode cX6_walk 113 = .ok (.ifCond .eq 28, 3) := dk_153 0 28 (dk_at dksX6_walk_4 19 rfl rfl)
theorem dX6_walk_116 : decode cX6_walk 116 = .ok (.aload_n 0, 1) := dk_42 (dk_at dksX6_walk_4 22 rfl rfl)
theorem dX6_walk_117 : decode cX6_walk 117 = .ok (.iload 4, 2) := dk_21 4 (dk_at dksX6_walk_5 0 rfl rfl)
theorem dX6_walk_119 : decode cX6_walk 119 = .ok (.invokevirtual 452, 3) := dk_182 1 196 (dk_at dksX6_walk_5 2 rfl rfl)
theorem dX6_walk_122 : decode cX6_walk 122 = .ok (.iload_n 2, 1) := dk_28 (dk_at dksX6_walk_5 5 rfl rfl)
theorem dX6_walk_123 : decode cX6_walk 123 = .ok (.iand, 1) := dk_126 (dk_at dksX6_walk_5 6 rfl rfl)
theorem dX6_walk_124 : decode cX6_walk 124 = .ok (.iload_n 2, 1) := dk_28 (dk_at dksX6_walk_5 7 rfl rfl)
theorem dX6_walk_125 : decode cX6_walk 125 = .ok (.if_icmp .ne 16, 3) := dk_160 0 16 (dk_at dksX6_walk_5 8 rfl rfl)
theorem dX6_walk_128 : decode cX6_walk 128 = .ok (.aload_n 0, 1) := dk_42 (dk_at dksX6_walk_5 11 rfl rfl)
theorem dX6_walk_129 : decode cX6_walk 129 = .ok (.iload_n 3, 1) := dk_29 (dk_at dksX6_walk_5 12 rfl rfl)
theorem dX6_walk_130 : decode cX6_walk 130 = .ok (.invokevirtual 449, 3) := dk_182 1 193 (dk_at dksX6_walk_5 13 rfl rfl)
theorem dX6_walk_133 : decode cX6_walk 133 = .ok (.iconst 3, 1) := dk_6 (dk_at dksX6_walk_5 16 rfl rfl)
theorem dX6_walk_134 : decode cX6_walk 134 = .ok (.if_icmp .ge 7, 3) := dk_162 0 7 (dk_at dksX6_walk_5 17 rfl rfl)
theorem dX6_walk_137 : decode cX6_walk 137 = .ok (.iconst 1, 1) := dk_4 (dk_at dksX6_walk_5 20 rfl rfl)
theorem dX6_walk_138 : decode cX6_walk 138 = .ok (.goto 4, 3) := dk_167 0 4 (dk_at dksX6_walk_5 21 rfl rfl)
theorem dX6_walk_141 : decode cX6_walk 141 = .ok (.iconst 0, 1) := dk_3 (dk_at dksX6_walk_6 0 rfl rfl)
theorem dX6_walk_142 : decode cX6_walk 142 = .ok (.istore 5, 2) := dk_54 5 (dk_at dksX6_walk_6 1 rfl rfl)
theorem dX6_walk_144 : decode cX6_walk 144 = .ok (.iload_n 1, 1) := dk_27 (dk_at dksX6_walk_6 3 rfl rfl)
theorem dX6_walk_145 : decode cX6_walk 145 = .ok (.ifCond .ne 22, 3) := dk_154 0 22 (dk_at dksX6_walk_6 4 rfl rfl)
theorem dX6_walk_148 : decode cX6_walk 148 = .ok (.iload 5, 2) := dk_21 5 (dk_at dksX6_walk_6 7 rfl rfl)
theorem dX6_walk_150 : decode cX6_walk 150 = .ok (.ifCond .ne 7, 3) := dk_154 0 7 (dk_at dksX6_walk_6 9 rfl rfl)
theorem dX6_walk_153 : decode cX6_walk 153 = .ok (.iconst 0, 1) := dk_3 (dk_at dksX6_walk_6 12 rfl rfl)
theorem dX6_walk_154 : decode cX6_walk 154 = .ok (.goto 12, 3) := dk_167 0 12 (dk_at dksX6_walk_6 13 rfl rfl)
theorem dX6_walk_157 : decode cX6_walk 157 = .ok (.iload_n 3, 1) := dk_29 (dk_at dksX6_walk_6 16 rfl rfl)
theorem dX6_walk_158 : decode cX6_walk 158 = .ok (.ifCond .ne 7, 3) := dk_154 0 7 (dk_at dksX6_walk_6 17 rfl rfl)
theorem dX6_walk_161 : decode cX6_walk 161 = .ok (.iconst 2, 1) := dk_5 (dk_at dksX6_walk_6 20 rfl rfl)
theorem dX6_walk_162 : decode cX6_walk 162 = .ok (.goto 4, 3) := dk_167 0 4 (dk_at dksX6_walk_6 21 rfl rfl)
theorem dX6_walk_165 : decode cX6_walk 165 = .ok (.iconst 1, 1) := dk_4 (dk_at dksX6_walk_7 0 rfl rfl)
theorem dX6_walk_166 : decode cX6_walk 166 = .ok (.ireturn, 1) := dk_172 (dk_at dksX6_walk_7 1 rfl rfl)
theorem dX6_walk_167 : decode cX6_walk 167 = .ok (.iload 5, 2) := dk_21 5 (dk_at dksX6_walk_7 2 rfl rfl)
theorem dX6_walk_169 : decode cX6_walk 169 = .ok (.ifCond .ne 5, 3) := dk_154 0 5 (dk_at dksX6_walk_7 4 rfl rfl)
theorem dX6_walk_172 : decode cX6_walk 172 = .ok (.iconst (-1), 1) := dk_2 (dk_at dksX6_walk_7 7 rfl rfl)
theorem dX6_walk_173 : decode cX6_walk 173 = .ok (.ireturn, 1) := dk_172 (dk_at dksX6_walk_7 8 rfl rfl)
theorem dX6_walk_174 : decode cX6_walk 174 = .ok (.iload_n 3, 1) := dk_29 (dk_at dksX6_walk_7 9 rfl rfl)
theorem dX6_walk_175 : decode cX6_walk 175 = .ok (.ifCond .eq 22, 3) := dk_153 0 22 (dk_at dksX6_walk_7 10 rfl rfl)
theorem dX6_walk_178 : decode cX6_walk 178 = .ok (.aload_n 0, 1) := dk_42 (dk_at dksX6_walk_7 13 rfl rfl)
theorem dX6_walk_179 : decode cX6_walk 179 = .ok (.iload_n 3, 1) := dk_29 (dk_at dksX6_walk_7 14 rfl rfl)
theorem dX6_walk_180 : decode cX6_walk 180 = .ok (.iload 4, 2) := dk_21 4 (dk_at dksX6_walk_7 15 rfl rfl)
theorem dX6_walk_182 : decode cX6_walk 182 = .ok (.invokevirtual 331, 3) := dk_182 1 75 (dk_at dksX6_walk_7 17 rfl rfl)
theorem dX6_walk_185 : decode cX6_walk 185 = .ok (.ifCond .ne 12, 3) := dk_154 0 12 (dk_at dksX6_walk_7 20 rfl rfl)
theorem dX6_walk_188 : decode cX6_walk 188 = .ok (.iload 4, 2) := dk_21 4 (dk_at dksX6_walk_8 0 rfl rfl)
theorem dX6_walk_190 : decode cX6_walk 190 = .ok (.iconst 1, 1) := dk_4 (dk_at dksX6_walk_8 2 rfl rfl)
theorem dX6_walk_191 : decode cX6_walk 191 = .ok (.iadd, 1) := dk_96 (dk_at dksX6_walk_8 3 rfl rfl)
theorem dX6_walk_192 : decode cX6_walk 192 = .ok (.istore 4, 2) := dk_54 4 (dk_at dksX6_walk_8 4 rfl rfl)
theorem dX6_walk_194 : decode cX6_walk 194 = .ok (.goto (-20), 3) := dk_167 255 236 (dk_at dksX6_walk_8 6 rfl rfl)
theorem dX6_walk_197 : decode cX6_walk 197 = .ok (.iload 4, 2) := dk_21 4 (dk_at dksX6_walk_8 9 rfl rfl)
theorem dX6_walk_199 : decode cX6_walk 199 = .ok (.ireturn, 1) := dk_172 (dk_at dksX6_walk_8 11 rfl rfl)
abbrev cX6_onesOf : ByteArray := prog_22_method_9_code
def yX6_onesOf : MethodName := ⟨RX6, "onesOf", "(I)I"⟩
def dkwX6_onesOf_0 : List UInt8 := [3, 61, 27, 62, 29, 153, 0, 16, 28, 4, 96, 61, 29, 29, 4, 100, 126, 62, 167, 255, 242, 28, 172]
abbrev dktX6_onesOf_0 : List UInt8 := dkwX6_onesOf_0 ++ []
theorem dksX6_onesOf_0 : cX6_onesOf.data.toList.drop 0 = dktX6_onesOf_0 := by decide +kernel
theorem dX6_onesOf_0 : decode cX6_onesOf 0 = .ok (.iconst 0, 1) := dk_3 (dk_at dksX6_onesOf_0 0 rfl rfl)
theorem dX6_onesOf_1 : decode cX6_onesOf 1 = .ok (.istore_n 2, 1) := dk_61 (dk_at dksX6_onesOf_0 1 rfl rfl)
theorem dX6_onesOf_2 : decode cX6_onesOf 2 = .ok (.iload_n 1, 1) := dk_27 (dk_at dksX6_onesOf_0 2 rfl rfl)
theorem dX6_onesOf_3 : decode cX6_onesOf 3 = .ok (.istore_n 3, 1) := dk_62 (dk_at dksX6_onesOf_0 3 rfl rfl)
theorem dX6_onesOf_4 : decode cX6_onesOf 4 = .ok (.iload_n 3, 1) := dk_29 (dk_at dksX6_onesOf_0 4 rfl rfl)
theorem dX6_onesOf_5 : decode cX6_onesOf 5 = .ok (.ifCond .eq 16, 3) := dk_153 0 16 (dk_at dksX6_onesOf_0 5 rfl rfl)
theorem dX6_onesOf_8 : decode cX6_onesOf 8 = .ok (.iload_n 2, 1) := dk_28 (dk_at dksX6_onesOf_0 8 rfl rfl)
theorem dX6_onesOf_9 : decode cX6_onesOf 9 = .ok (.iconst 1, 1) := dk_4 (dk_at dksX6_onesOf_0 9 rfl rfl)
theorem dX6_onesOf_10 : decode cX6_onesOf 10 = .ok (.iadd, 1) := dk_96 (dk_at dksX6_onesOf_0 10 rfl rfl)
theorem dX6_onesOf_11 : decode cX6_onesOf 11 = .ok (.istore_n 2, 1) := dk_61 (dk_at dksX6_onesOf_0 11 rfl rfl)
theorem dX6_onesOf_12 : decode cX6_onesOf 12 = .ok (.iload_n 3, 1) := dk_29 (dk_at dksX6_onesOf_0 12 rfl rfl)
theorem dX6_onesOf_13 : decode cX6_onesOf 13 = .ok (.iload_n 3, 1) := dk_29 (dk_at dksX6_onesOf_0 13 rfl rfl)
theorem dX6_onesOf_14 : decode cX6_onesOf 14 = .ok (.iconst 1, 1) := dk_4 (dk_at dksX6_onesOf_0 14 rfl rfl)
theorem dX6_onesOf_15 : decode cX6_onesOf 15 = .ok (.isub, 1) := dk_100 (dk_at dksX6_onesOf_0 15 rfl rfl)
theorem dX6_onesOf_16 : decode cX6_onesOf 16 = .ok (.iand, 1) := dk_126 (dk_at dksX6_onesOf_0 16 rfl rfl)
theorem dX6_onesOf_17 : decode cX6_onesOf 17 = .ok (.istore_n 3, 1) := dk_62 (dk_at dksX6_onesOf_0 17 rfl rfl)
theorem dX6_onesOf_18 : decode cX6_onesOf 18 = .ok (.goto (-14), 3) := dk_167 255 242 (dk_at dksX6_onesOf_0 18 rfl rfl)
theorem dX6_onesOf_21 : decode cX6_onesOf 21 = .ok (.iload_n 2, 1) := dk_28 (dk_at dksX6_onesOf_0 21 rfl rfl)
theorem dX6_onesOf_22 : decode cX6_onesOf 22 = .ok (.ireturn, 1) := dk_172 (dk_at dksX6_onesOf_0 22 rfl rfl)
abbrev cX6_kinOfKin : ByteArray := prog_22_method_109_code
def yX6_kinOfKin : MethodName := ⟨RX6, "kinOfKin", "(I)I"⟩
def dkwX6_kinOfKin_2 : List UInt8 := [167, 255, 224, 132, 3, 1, 167, 255, 209, 28, 172]
abbrev dktX6_kinOfKin_2 : List UInt8 := dkwX6_kinOfKin_2 ++ []
def dkwX6_kinOfKin_1 : List UInt8 := [42, 28, 21, 4, 182, 1, 75, 153, 0, 13, 28, 42, 180, 0, 68, 21, 4, 46, 128, 61, 132, 4, 1]
abbrev dktX6_kinOfKin_1 : List UInt8 := dkwX6_kinOfKin_1 ++ dktX6_kinOfKin_2
def dkwX6_kinOfKin_0 : List UInt8 := [4, 27, 120, 61, 3, 62, 29, 16, 12, 162, 0, 47, 3, 54, 4, 21, 4, 42, 180, 0, 135, 162, 0, 29]
abbrev dktX6_kinOfKin_0 : List UInt8 := dkwX6_kinOfKin_0 ++ dktX6_kinOfKin_1
theorem dksX6_kinOfKin_0 : cX6_kinOfKin.data.toList.drop 0 = dktX6_kinOfKin_0 := by decide +kernel
theorem dksX6_kinOfKin_1 : cX6_kinOfKin.data.toList.drop 24 = dktX6_kinOfKin_1 := dk_seg dksX6_kinOfKin_0 24 rfl rfl
theorem dksX6_kinOfKin_2 : cX6_kinOfKin.data.toList.drop 47 = dktX6_kinOfKin_2 := dk_seg dksX6_kinOfKin_1 23 rfl rfl
theorem dX6_kinOfKin_0 : decode cX6_kinOfKin 0 = .ok (.iconst 1, 1) := dk_4 (dk_at dksX6_kinOfKin_0 0 rfl rfl)
theorem dX6_kinOfKin_1 : decode cX6_kinOfKin 1 = .ok (.iload_n 1, 1) := dk_27 (dk_at dksX6_kinOfKin_0 1 rfl rfl)
theorem dX6_kinOfKin_2 : decode cX6_kinOfKin 2 = .ok (.ishl, 1) := dk_120 (dk_at dksX6_kinOfKin_0 2 rfl rfl)
theorem dX6_kinOfKin_3 : decode cX6_kinOfKin 3 = .ok (.istore_n 2, 1) := dk_61 (dk_at dksX6_kinOfKin_0 3 rfl rfl)
theorem dX6_kinOfKin_4 : decode cX6_kinOfKin 4 = .ok (.iconst 0, 1) := dk_3 (dk_at dksX6_kinOfKin_0 4 rfl rfl)
theorem dX6_kinOfKin_5 : decode cX6_kinOfKin 5 = .ok (.istore_n 3, 1) := dk_62 (dk_at dksX6_kinOfKin_0 5 rfl rfl)
theorem dX6_kinOfKin_6 : decode cX6_kinOfKin 6 = .ok (.iload_n 3, 1) := dk_29 (dk_at dksX6_kinOfKin_0 6 rfl rfl)
theorem dX6_kinOfKin_7 : decode cX6_kinOfKin 7 = .ok (.bipush 12, 2) := dk_16 12 (dk_at dksX6_kinOfKin_0 7 rfl rfl)
theorem dX6_kinOfKin_9 : decode cX6_kinOfKin 9 = .ok (.if_icmp .ge 47, 3) := dk_162 0 47 (dk_at dksX6_kinOfKin_0 9 rfl rfl)
theorem dX6_kinOfKin_12 : decode cX6_kinOfKin 12 = .ok (.iconst 0, 1) := dk_3 (dk_at dksX6_kinOfKin_0 12 rfl rfl)
theorem dX6_kinOfKin_13 : decode cX6_kinOfKin 13 = .ok (.istore 4, 2) := dk_54 4 (dk_at dksX6_kinOfKin_0 13 rfl rfl)
theorem dX6_kinOfKin_15 : decode cX6_kinOfKin 15 = .ok (.iload 4, 2) := dk_21 4 (dk_at dksX6_kinOfKin_0 15 rfl rfl)
theorem dX6_kinOfKin_17 : decode cX6_kinOfKin 17 = .ok (.aload_n 0, 1) := dk_42 (dk_at dksX6_kinOfKin_0 17 rfl rfl)
theorem dX6_kinOfKin_18 : decode cX6_kinOfKin 18 = .ok (.getfield 135, 3) := dk_180 0 135 (dk_at dksX6_kinOfKin_0 18 rfl rfl)
theorem dX6_kinOfKin_21 : decode cX6_kinOfKin 21 = .ok (.if_icmp .ge 29, 3) := dk_162 0 29 (dk_at dksX6_kinOfKin_0 21 rfl rfl)
theorem dX6_kinOfKin_24 : decode cX6_kinOfKin 24 = .ok (.aload_n 0, 1) := dk_42 (dk_at dksX6_kinOfKin_1 0 rfl rfl)
theorem dX6_kinOfKin_25 : decode cX6_kinOfKin 25 = .ok (.iload_n 2, 1) := dk_28 (dk_at dksX6_kinOfKin_1 1 rfl rfl)
theorem dX6_kinOfKin_26 : decode cX6_kinOfKin 26 = .ok (.iload 4, 2) := dk_21 4 (dk_at dksX6_kinOfKin_1 2 rfl rfl)
theorem dX6_kinOfKin_28 : decode cX6_kinOfKin 28 = .ok (.invokevirtual 331, 3) := dk_182 1 75 (dk_at dksX6_kinOfKin_1 4 rfl rfl)
theorem dX6_kinOfKin_31 : decode cX6_kinOfKin 31 = .ok (.ifCond .eq 13, 3) := dk_153 0 13 (dk_at dksX6_kinOfKin_1 7 rfl rfl)
theorem dX6_kinOfKin_34 : decode cX6_kinOfKin 34 = .ok (.iload_n 2, 1) := dk_28 (dk_at dksX6_kinOfKin_1 10 rfl rfl)
theorem dX6_kinOfKin_35 : decode cX6_kinOfKin 35 = .ok (.aload_n 0, 1) := dk_42 (dk_at dksX6_kinOfKin_1 11 rfl rfl)
theorem dX6_kinOfKin_36 : decode cX6_kinOfKin 36 = .ok (.getfield 68, 3) := dk_180 0 68 (dk_at dksX6_kinOfKin_1 12 rfl rfl)
theorem dX6_kinOfKin_39 : decode cX6_kinOfKin 39 = .ok (.iload 4, 2) := dk_21 4 (dk_at dksX6_kinOfKin_1 15 rfl rfl)
theorem dX6_kinOfKin_41 : decode cX6_kinOfKin 41 = .ok (.iaload, 1) := dk_46 (dk_at dksX6_kinOfKin_1 17 rfl rfl)
theorem dX6_kinOfKin_42 : decode cX6_kinOfKin 42 = .ok (.ior, 1) := dk_128 (dk_at dksX6_kinOfKin_1 18 rfl rfl)
theorem dX6_kinOfKin_43 : decode cX6_kinOfKin 43 = .ok (.istore_n 2, 1) := dk_61 (dk_at dksX6_kinOfKin_1 19 rfl rfl)
theorem dX6_kinOfKin_44 : decode cX6_kinOfKin 44 = .ok (.iinc 4 1, 3) := dk_132 4 1 (dk_at dksX6_kinOfKin_1 20 rfl rfl)
theorem dX6_kinOfKin_47 : decode cX6_kinOfKin 47 = .ok (.goto (-32), 3) := dk_167 255 224 (dk_at dksX6_kinOfKin_2 0 rfl rfl)
theorem dX6_kinOfKin_50 : decode cX6_kinOfKin 50 = .ok (.iinc 3 1, 3) := dk_132 3 1 (dk_at dksX6_kinOfKin_2 3 rfl rfl)
theorem dX6_kinOfKin_53 : decode cX6_kinOfKin 53 = .ok (.goto (-47), 3) := dk_167 255 209 (dk_at dksX6_kinOfKin_2 6 rfl rfl)
theorem dX6_kinOfKin_56 : decode cX6_kinOfKin 56 = .ok (.iload_n 2, 1) := dk_28 (dk_at dksX6_kinOfKin_2 9 rfl rfl)
theorem dX6_kinOfKin_57 : decode cX6_kinOfKin 57 = .ok (.ireturn, 1) := dk_172 (dk_at dksX6_kinOfKin_2 10 rfl rfl)
abbrev cX6_prices : ByteArray := prog_22_method_111_code
def yX6_prices : MethodName := ⟨RX6, "prices", "(III)I"⟩
def dkwX6_prices_7 : List UInt8 := [132, 6, 1, 167, 255, 166, 29, 154, 0, 8, 21, 5, 167, 0, 5, 21, 4, 172]
abbrev dktX6_prices_7 : List UInt8 := dkwX6_prices_7 ++ []
def dkwX6_prices_6 : List UInt8 := [180, 0, 101, 21, 6, 46, 4, 160, 0, 6, 167, 0, 13, 21, 4, 4, 96, 54, 4, 21, 6, 54, 5]
abbrev dktX6_prices_6 : List UInt8 := dkwX6_prices_6 ++ dktX6_prices_7
def dkwX6_prices_5 : List UInt8 := [28, 161, 0, 20, 42, 180, 0, 101, 21, 6, 28, 100, 46, 4, 160, 0, 7, 4, 167, 0, 4, 3, 79, 42]
abbrev dktX6_prices_5 : List UInt8 := dkwX6_prices_5 ++ dktX6_prices_6
def dkwX6_prices_4 : List UInt8 := [153, 0, 41, 21, 6, 27, 161, 0, 16, 42, 180, 0, 101, 21, 6, 27, 100, 46, 4, 159, 0, 22, 21, 6]
abbrev dktX6_prices_4 : List UInt8 := dkwX6_prices_4 ++ dktX6_prices_5
def dkwX6_prices_3 : List UInt8 := [54, 4, 2, 54, 5, 3, 54, 6, 21, 6, 27, 28, 104, 162, 0, 88, 42, 180, 0, 101, 21, 6, 21, 6]
abbrev dktX6_prices_3 : List UInt8 := dkwX6_prices_3 ++ dktX6_prices_4
def dkwX6_prices_2 : List UInt8 := [27, 21, 4, 112, 154, 0, 12, 28, 21, 4, 112, 154, 0, 5, 2, 172, 132, 4, 1, 167, 255, 231, 3]
abbrev dktX6_prices_2 : List UInt8 := dkwX6_prices_2 ++ dktX6_prices_3
def dkwX6_prices_1 : List UInt8 := [153, 0, 13, 42, 29, 3, 4, 182, 0, 145, 154, 0, 5, 2, 172, 5, 54, 4, 21, 4, 27, 163, 0, 25]
abbrev dktX6_prices_1 : List UInt8 := dkwX6_prices_1 ++ dktX6_prices_2
def dkwX6_prices_0 : List UInt8 := [42, 3, 181, 0, 122, 42, 27, 5, 16, 60, 182, 0, 145, 153, 0, 24, 42, 28, 5, 16, 60, 182, 0, 145]
abbrev dktX6_prices_0 : List UInt8 := dkwX6_prices_0 ++ dktX6_prices_1
theorem dksX6_prices_0 : cX6_prices.data.toList.drop 0 = dktX6_prices_0 := by decide +kernel
theorem dksX6_prices_1 : cX6_prices.data.toList.drop 24 = dktX6_prices_1 := dk_seg dksX6_prices_0 24 rfl rfl
theorem dksX6_prices_2 : cX6_prices.data.toList.drop 48 = dktX6_prices_2 := dk_seg dksX6_prices_1 24 rfl rfl
theorem dksX6_prices_3 : cX6_prices.data.toList.drop 71 = dktX6_prices_3 := dk_seg dksX6_prices_2 23 rfl rfl
theorem dksX6_prices_4 : cX6_prices.data.toList.drop 95 = dktX6_prices_4 := dk_seg dksX6_prices_3 24 rfl rfl
theorem dksX6_prices_5 : cX6_prices.data.toList.drop 119 = dktX6_prices_5 := dk_seg dksX6_prices_4 24 rfl rfl
theorem dksX6_prices_6 : cX6_prices.data.toList.drop 143 = dktX6_prices_6 := dk_seg dksX6_prices_5 24 rfl rfl
theorem dksX6_prices_7 : cX6_prices.data.toList.drop 166 = dktX6_prices_7 := dk_seg dksX6_prices_6 23 rfl rfl
theorem dX6_prices_0 : decode cX6_prices 0 = .ok (.aload_n 0, 1) := dk_42 (dk_at dksX6_prices_0 0 rfl rfl)
theorem dX6_prices_1 : decode cX6_prices 1 = .ok (.iconst 0, 1) := dk_3 (dk_at dksX6_prices_0 1 rfl rfl)
theorem dX6_prices_2 : decode cX6_prices 2 = .ok (.putfield 122, 3) := dk_181 0 122 (dk_at dksX6_prices_0 2 rfl rfl)
theorem dX6_prices_5 : decode cX6_prices 5 = .ok (.aload_n 0, 1) := dk_42 (dk_at dksX6_prices_0 5 rfl rfl)
theorem dX6_prices_6 : decode cX6_prices 6 = .ok (.iload_n 1, 1) := dk_27 (dk_at dksX6_prices_0 6 rfl rfl)
theorem dX6_prices_7 : decode cX6_prices 7 = .ok (.iconst 2, 1) := dk_5 (dk_at dksX6_prices_0 7 rfl rfl)
theorem dX6_prices_8 : decode cX6_prices 8 = .ok (.bipush 60, 2) := dk_16 60 (dk_at dksX6_prices_0 8 rfl rfl)
theorem dX6_prices_10 : decode cX6_prices 10 = .ok (.invokevirtual 145, 3) := dk_182 0 145 (dk_at dksX6_prices_0 10 rfl rfl)
theorem dX6_prices_13 : decode cX6_prices 13 = .ok (.ifCond .eq 24, 3) := dk_153 0 24 (dk_at dksX6_prices_0 13 rfl rfl)
theorem dX6_prices_16 : decode cX6_prices 16 = .ok (.aload_n 0, 1) := dk_42 (dk_at dksX6_prices_0 16 rfl rfl)
theorem dX6_prices_17 : decode cX6_prices 17 = .ok (.iload_n 2, 1) := dk_28 (dk_at dksX6_prices_0 17 rfl rfl)
theorem dX6_prices_18 : decode cX6_prices 18 = .ok (.iconst 2, 1) := dk_5 (dk_at dksX6_prices_0 18 rfl rfl)
theorem dX6_prices_19 : decode cX6_prices 19 = .ok (.bipush 60, 2) := dk_16 60 (dk_at dksX6_prices_0 19 rfl rfl)
theorem dX6_prices_21 : decode cX6_prices 21 = .ok (.invokevirtual 145, 3) := dk_182 0 145 (dk_at dksX6_prices_0 21 rfl rfl)
theorem dX6_prices_24 : decode cX6_prices 24 = .ok (.ifCond .eq 13, 3) := dk_153 0 13 (dk_at dksX6_prices_1 0 rfl rfl)
theorem dX6_prices_27 : decode cX6_prices 27 = .ok (.aload_n 0, 1) := dk_42 (dk_at dksX6_prices_1 3 rfl rfl)
theorem dX6_prices_28 : decode cX6_prices 28 = .ok (.iload_n 3, 1) := dk_29 (dk_at dksX6_prices_1 4 rfl rfl)
theorem dX6_prices_29 : decode cX6_prices 29 = .ok (.iconst 0, 1) := dk_3 (dk_at dksX6_prices_1 5 rfl rfl)
theorem dX6_prices_30 : decode cX6_prices 30 = .ok (.iconst 1, 1) := dk_4 (dk_at dksX6_prices_1 6 rfl rfl)
theorem dX6_prices_31 : decode cX6_prices 31 = .ok (.invokevirtual 145, 3) := dk_182 0 145 (dk_at dksX6_prices_1 7 rfl rfl)
theorem dX6_prices_34 : decode cX6_prices 34 = .ok (.ifCond .ne 5, 3) := dk_154 0 5 (dk_at dksX6_prices_1 10 rfl rfl)
theorem dX6_prices_37 : decode cX6_prices 37 = .ok (.iconst (-1), 1) := dk_2 (dk_at dksX6_prices_1 13 rfl rfl)
theorem dX6_prices_38 : decode cX6_prices 38 = .ok (.ireturn, 1) := dk_172 (dk_at dksX6_prices_1 14 rfl rfl)
theorem dX6_prices_39 : decode cX6_prices 39 = .ok (.iconst 2, 1) := dk_5 (dk_at dksX6_prices_1 15 rfl rfl)
theorem dX6_prices_40 : decode cX6_prices 40 = .ok (.istore 4, 2) := dk_54 4 (dk_at dksX6_prices_1 16 rfl rfl)
theorem dX6_prices_42 : decode cX6_prices 42 = .ok (.iload 4, 2) := dk_21 4 (dk_at dksX6_prices_1 18 rfl rfl)
theorem dX6_prices_44 : decode cX6_prices 44 = .ok (.iload_n 1, 1) := dk_27 (dk_at dksX6_prices_1 20 rfl rfl)
theorem dX6_prices_45 : decode cX6_prices 45 = .ok (.if_icmp .gt 25, 3) := dk_163 0 25 (dk_at dksX6_prices_1 21 rfl rfl)
theorem dX6_prices_48 : decode cX6_prices 48 = .ok (.iload_n 1, 1) := dk_27 (dk_at dksX6_prices_2 0 rfl rfl)
theorem dX6_prices_49 : decode cX6_prices 49 = .ok (.iload 4, 2) := dk_21 4 (dk_at dksX6_prices_2 1 rfl rfl)
theorem dX6_prices_51 : decode cX6_prices 51 = .ok (.irem, 1) := dk_112 (dk_at dksX6_prices_2 3 rfl rfl)
theorem dX6_prices_52 : decode cX6_prices 52 = .ok (.ifCond .ne 12, 3) := dk_154 0 12 (dk_at dksX6_prices_2 4 rfl rfl)
theorem dX6_prices_55 : decode cX6_prices 55 = .ok (.iload_n 2, 1) := dk_28 (dk_at dksX6_prices_2 7 rfl rfl)
theorem dX6_prices_56 : decode cX6_prices 56 = .ok (.iload 4, 2) := dk_21 4 (dk_at dksX6_prices_2 8 rfl rfl)
theorem dX6_prices_58 : decode cX6_prices 58 = .ok (.irem, 1) := dk_112 (dk_at dksX6_prices_2 10 rfl rfl)
theorem dX6_prices_59 : decode cX6_prices 59 = .ok (.ifCond .ne 5, 3) := dk_154 0 5 (dk_at dksX6_prices_2 11 rfl rfl)
theorem dX6_prices_62 : decode cX6_prices 62 = .ok (.iconst (-1), 1) := dk_2 (dk_at dksX6_prices_2 14 rfl rfl)
theorem dX6_prices_63 : decode cX6_prices 63 = .ok (.ireturn, 1) := dk_172 (dk_at dksX6_prices_2 15 rfl rfl)
theorem dX6_prices_64 : decode cX6_prices 64 = .ok (.iinc 4 1, 3) := dk_132 4 1 (dk_at dksX6_prices_2 16 rfl rfl)
theorem dX6_prices_67 : decode cX6_prices 67 = .ok (.goto (-25), 3) := dk_167 255 231 (dk_at dksX6_prices_2 19 rfl rfl)
theorem dX6_prices_70 : decode cX6_prices 70 = .ok (.iconst 0, 1) := dk_3 (dk_at dksX6_prices_2 22 rfl rfl)
theorem dX6_prices_71 : decode cX6_prices 71 = .ok (.istore 4, 2) := dk_54 4 (dk_at dksX6_prices_3 0 rfl rfl)
theorem dX6_prices_73 : decode cX6_prices 73 = .ok (.iconst (-1), 1) := dk_2 (dk_at dksX6_prices_3 2 rfl rfl)
theorem dX6_prices_74 : decode cX6_prices 74 = .ok (.istore 5, 2) := dk_54 5 (dk_at dksX6_prices_3 3 rfl rfl)
theorem dX6_prices_76 : decode cX6_prices 76 = .ok (.iconst 0, 1) := dk_3 (dk_at dksX6_prices_3 5 rfl rfl)
theorem dX6_prices_77 : decode cX6_prices 77 = .ok (.istore 6, 2) := dk_54 6 (dk_at dksX6_prices_3 6 rfl rfl)
theorem dX6_prices_79 : decode cX6_prices 79 = .ok (.iload 6, 2) := dk_21 6 (dk_at dksX6_prices_3 8 rfl rfl)
theorem dX6_prices_81 : decode cX6_prices 81 = .ok (.iload_n 1, 1) := dk_27 (dk_at dksX6_prices_3 10 rfl rfl)
theorem dX6_prices_82 : decode cX6_prices 82 = .ok (.iload_n 2, 1) := dk_28 (dk_at dksX6_prices_3 11 rfl rfl)
theorem dX6_prices_83 : decode cX6_prices 83 = .ok (.imul, 1) := dk_104 (dk_at dksX6_prices_3 12 rfl rfl)
theorem dX6_prices_84 : decode cX6_prices 84 = .ok (.if_icmp .ge 88, 3) := dk_162 0 88 (dk_at dksX6_prices_3 13 rfl rfl)
theorem dX6_prices_87 : decode cX6_prices 87 = .ok (.aload_n 0, 1) := dk_42 (dk_at dksX6_prices_3 16 rfl rfl)
theorem dX6_prices_88 : decode cX6_prices 88 = .ok (.getfield 101, 3) := dk_180 0 101 (dk_at dksX6_prices_3 17 rfl rfl)
theorem dX6_prices_91 : decode cX6_prices 91 = .ok (.iload 6, 2) := dk_21 6 (dk_at dksX6_prices_3 20 rfl rfl)
theorem dX6_prices_93 : decode cX6_prices 93 = .ok (.iload 6, 2) := dk_21 6 (dk_at dksX6_prices_3 22 rfl rfl)
theorem dX6_prices_95 : decode cX6_prices 95 = .ok (.ifCond .eq 41, 3) := dk_153 0 41 (dk_at dksX6_prices_4 0 rfl rfl)
theorem dX6_prices_98 : decode cX6_prices 98 = .ok (.iload 6, 2) := dk_21 6 (dk_at dksX6_prices_4 3 rfl rfl)
theorem dX6_prices_100 : decode cX6_prices 100 = .ok (.iload_n 1, 1) := dk_27 (dk_at dksX6_prices_4 5 rfl rfl)
theorem dX6_prices_101 : decode cX6_prices 101 = .ok (.if_icmp .lt 16, 3) := dk_161 0 16 (dk_at dksX6_prices_4 6 rfl rfl)
theorem dX6_prices_104 : decode cX6_prices 104 = .ok (.aload_n 0, 1) := dk_42 (dk_at dksX6_prices_4 9 rfl rfl)
theorem dX6_prices_105 : decode cX6_prices 105 = .ok (.getfield 101, 3) := dk_180 0 101 (dk_at dksX6_prices_4 10 rfl rfl)
theorem dX6_prices_108 : decode cX6_prices 108 = .ok (.iload 6, 2) := dk_21 6 (dk_at dksX6_prices_4 13 rfl rfl)
theorem dX6_prices_110 : decode cX6_prices 110 = .ok (.iload_n 1, 1) := dk_27 (dk_at dksX6_prices_4 15 rfl rfl)
theorem dX6_prices_111 : decode cX6_prices 111 = .ok (.isub, 1) := dk_100 (dk_at dksX6_prices_4 16 rfl rfl)
theorem dX6_prices_112 : decode cX6_prices 112 = .ok (.iaload, 1) := dk_46 (dk_at dksX6_prices_4 17 rfl rfl)
theorem dX6_prices_113 : decode cX6_prices 113 = .ok (.iconst 1, 1) := dk_4 (dk_at dksX6_prices_4 18 rfl rfl)
theorem dX6_prices_114 : decode cX6_prices 114 = .ok (.if_icmp .eq 22, 3) := dk_159 0 22 (dk_at dksX6_prices_4 19 rfl rfl)
theorem dX6_prices_117 : decode cX6_prices 117 = .ok (.iload 6, 2) := dk_21 6 (dk_at dksX6_prices_4 22 rfl rfl)
theorem dX6_prices_119 : decode cX6_prices 119 = .ok (.iload_n 2, 1) := dk_28 (dk_at dksX6_prices_5 0 rfl rfl)
theorem dX6_prices_120 : decode cX6_prices 120 = .ok (.if_icmp .lt 20, 3) := dk_161 0 20 (dk_at dksX6_prices_5 1 rfl rfl)
theorem dX6_prices_123 : decode cX6_prices 123 = .ok (.aload_n 0, 1) := dk_42 (dk_at dksX6_prices_5 4 rfl rfl)
theorem dX6_prices_124 : decode cX6_prices 124 = .ok (.getfield 101, 3) := dk_180 0 101 (dk_at dksX6_prices_5 5 rfl rfl)
theorem dX6_prices_127 : decode cX6_prices 127 = .ok (.iload 6, 2) := dk_21 6 (dk_at dksX6_prices_5 8 rfl rfl)
theorem dX6_prices_129 : decode cX6_prices 129 = .ok (.iload_n 2, 1) := dk_28 (dk_at dksX6_prices_5 10 rfl rfl)
theorem dX6_prices_130 : decode cX6_prices 130 = .ok (.isub, 1) := dk_100 (dk_at dksX6_prices_5 11 rfl rfl)
theorem dX6_prices_131 : decode cX6_prices 131 = .ok (.iaload, 1) := dk_46 (dk_at dksX6_prices_5 12 rfl rfl)
theorem dX6_prices_132 : decode cX6_prices 132 = .ok (.iconst 1, 1) := dk_4 (dk_at dksX6_prices_5 13 rfl rfl)
theorem dX6_prices_133 : decode cX6_prices 133 = .ok (.if_icmp .ne 7, 3) := dk_160 0 7 (dk_at dksX6_prices_5 14 rfl rfl)
theorem dX6_prices_136 : decode cX6_prices 136 = .ok (.iconst 1, 1) := dk_4 (dk_at dksX6_prices_5 17 rfl rfl)
theorem dX6_prices_137 : decode cX6_prices 137 = .ok (.goto 4, 3) := dk_167 0 4 (dk_at dksX6_prices_5 18 rfl rfl)
theorem dX6_prices_140 : decode cX6_prices 140 = .ok (.iconst 0, 1) := dk_3 (dk_at dksX6_prices_5 21 rfl rfl)
theorem dX6_prices_141 : decode cX6_prices 141 = .ok (.iastore, 1) := dk_79 (dk_at dksX6_prices_5 22 rfl rfl)
theorem dX6_prices_142 : decode cX6_prices 142 = .ok (.aload_n 0, 1) := dk_42 (dk_at dksX6_prices_5 23 rfl rfl)
theorem dX6_prices_143 : decode cX6_prices 143 = .ok (.getfield 101, 3) := dk_180 0 101 (dk_at dksX6_prices_6 0 rfl rfl)
theorem dX6_prices_146 : decode cX6_prices 146 = .ok (.iload 6, 2) := dk_21 6 (dk_at dksX6_prices_6 3 rfl rfl)
theorem dX6_prices_148 : decode cX6_prices 148 = .ok (.iaload, 1) := dk_46 (dk_at dksX6_prices_6 5 rfl rfl)
theorem dX6_prices_149 : decode cX6_prices 149 = .ok (.iconst 1, 1) := dk_4 (dk_at dksX6_prices_6 6 rfl rfl)
theorem dX6_prices_150 : decode cX6_prices 150 = .ok (.if_icmp .ne 6, 3) := dk_160 0 6 (dk_at dksX6_prices_6 7 rfl rfl)
theorem dX6_prices_153 : decode cX6_prices 153 = .ok (.goto 13, 3) := dk_167 0 13 (dk_at dksX6_prices_6 10 rfl rfl)
theorem dX6_prices_156 : decode cX6_prices 156 = .ok (.iload 4, 2) := dk_21 4 (dk_at dksX6_prices_6 13 rfl rfl)
theorem dX6_prices_158 : decode cX6_prices 158 = .ok (.iconst 1, 1) := dk_4 (dk_at dksX6_prices_6 15 rfl rfl)
theorem dX6_prices_159 : decode cX6_prices 159 = .ok (.iadd, 1) := dk_96 (dk_at dksX6_prices_6 16 rfl rfl)
theorem dX6_prices_160 : decode cX6_prices 160 = .ok (.istore 4, 2) := dk_54 4 (dk_at dksX6_prices_6 17 rfl rfl)
theorem dX6_prices_162 : decode cX6_prices 162 = .ok (.iload 6, 2) := dk_21 6 (dk_at dksX6_prices_6 19 rfl rfl)
theorem dX6_prices_164 : decode cX6_prices 164 = .ok (.istore 5, 2) := dk_54 5 (dk_at dksX6_prices_6 21 rfl rfl)
theorem dX6_prices_166 : decode cX6_prices 166 = .ok (.iinc 6 1, 3) := dk_132 6 1 (dk_at dksX6_prices_7 0 rfl rfl)
theorem dX6_prices_169 : decode cX6_prices 169 = .ok (.goto (-90), 3) := dk_167 255 166 (dk_at dksX6_prices_7 3 rfl rfl)
theorem dX6_prices_172 : decode cX6_prices 172 = .ok (.iload_n 3, 1) := dk_29 (dk_at dksX6_prices_7 6 rfl rfl)
theorem dX6_prices_173 : decode cX6_prices 173 = .ok (.ifCond .ne 8, 3) := dk_154 0 8 (dk_at dksX6_prices_7 7 rfl rfl)
theorem dX6_prices_176 : decode cX6_prices 176 = .ok (.iload 5, 2) := dk_21 5 (dk_at dksX6_prices_7 10 rfl rfl)
theorem dX6_prices_178 : decode cX6_prices 178 = .ok (.goto 5, 3) := dk_167 0 5 (dk_at dksX6_prices_7 12 rfl rfl)
theorem dX6_prices_181 : decode cX6_prices 181 = .ok (.iload 4, 2) := dk_21 4 (dk_at dksX6_prices_7 15 rfl rfl)
theorem dX6_prices_183 : decode cX6_prices 183 = .ok (.ireturn, 1) := dk_172 (dk_at dksX6_prices_7 17 rfl rfl)
abbrev cX6_weight : ByteArray := prog_22_method_112_code
def yX6_weight : MethodName := ⟨RX6, "weight", "(I)I"⟩
def dkwX6_weight_2 : List UInt8 := [27, 79, 42, 42, 180, 1, 199, 4, 96, 181, 1, 199, 42, 180, 1, 199, 172]
abbrev dktX6_weight_2 : List UInt8 := dkwX6_weight_2 ++ []
def dkwX6_weight_1 : List UInt8 := [182, 0, 145, 153, 0, 11, 42, 180, 1, 199, 8, 160, 0, 5, 2, 172, 42, 180, 0, 104, 42, 180, 1, 199]
abbrev dktX6_weight_1 : List UInt8 := dkwX6_weight_1 ++ dktX6_weight_2
def dkwX6_weight_0 : List UInt8 := [42, 3, 181, 0, 122, 27, 2, 160, 0, 10, 42, 3, 181, 1, 199, 3, 172, 42, 27, 4, 17, 0, 200]
abbrev dktX6_weight_0 : List UInt8 := dkwX6_weight_0 ++ dktX6_weight_1
theorem dksX6_weight_0 : cX6_weight.data.toList.drop 0 = dktX6_weight_0 := by decide +kernel
theorem dksX6_weight_1 : cX6_weight.data.toList.drop 23 = dktX6_weight_1 := dk_seg dksX6_weight_0 23 rfl rfl
theorem dksX6_weight_2 : cX6_weight.data.toList.drop 47 = dktX6_weight_2 := dk_seg dksX6_weight_1 24 rfl rfl
theorem dX6_weight_0 : decode cX6_weight 0 = .ok (.aload_n 0, 1) := dk_42 (dk_at dksX6_weight_0 0 rfl rfl)
theorem dX6_weight_1 : decode cX6_weight 1 = .ok (.iconst 0, 1) := dk_3 (dk_at dksX6_weight_0 1 rfl rfl)
theorem dX6_weight_2 : decode cX6_weight 2 = .ok (.putfield 122, 3) := dk_181 0 122 (dk_at dksX6_weight_0 2 rfl rfl)
theorem dX6_weight_5 : decode cX6_weight 5 = .ok (.iload_n 1, 1) := dk_27 (dk_at dksX6_weight_0 5 rfl rfl)
theorem dX6_weight_6 : decode cX6_weight 6 = .ok (.iconst (-1), 1) := dk_2 (dk_at dksX6_weight_0 6 rfl rfl)
theorem dX6_weight_7 : decode cX6_weight 7 = .ok (.if_icmp .ne 10, 3) := dk_160 0 10 (dk_at dksX6_weight_0 7 rfl rfl)
theorem dX6_weight_10 : decode cX6_weight 10 = .ok (.aload_n 0, 1) := dk_42 (dk_at dksX6_weight_0 10 rfl rfl)
theorem dX6_weight_11 : decode cX6_weight 11 = .ok (.iconst 0, 1) := dk_3 (dk_at dksX6_weight_0 11 rfl rfl)
theorem dX6_weight_12 : decode cX6_weight 12 = .ok (.putfield 455, 3) := dk_181 1 199 (dk_at dksX6_weight_0 12 rfl rfl)
theorem dX6_weight_15 : decode cX6_weight 15 = .ok (.iconst 0, 1) := dk_3 (dk_at dksX6_weight_0 15 rfl rfl)
theorem dX6_weight_16 : decode cX6_weight 16 = .ok (.ireturn, 1) := dk_172 (dk_at dksX6_weight_0 16 rfl rfl)
theorem dX6_weight_17 : decode cX6_weight 17 = .ok (.aload_n 0, 1) := dk_42 (dk_at dksX6_weight_0 17 rfl rfl)
theorem dX6_weight_18 : decode cX6_weight 18 = .ok (.iload_n 1, 1) := dk_27 (dk_at dksX6_weight_0 18 rfl rfl)
theorem dX6_weight_19 : decode cX6_weight 19 = .ok (.iconst 1, 1) := dk_4 (dk_at dksX6_weight_0 19 rfl rfl)
theorem dX6_weight_20 : decode cX6_weight 20 = .ok (.sipush 200, 3) := dk_17 0 200 (dk_at dksX6_weight_0 20 rfl rfl)
theorem dX6_weight_23 : decode cX6_weight 23 = .ok (.invokevirtual 145, 3) := dk_182 0 145 (dk_at dksX6_weight_1 0 rfl rfl)
theorem dX6_weight_26 : decode cX6_weight 26 = .ok (.ifCond .eq 11, 3) := dk_153 0 11 (dk_at dksX6_weight_1 3 rfl rfl)
theorem dX6_weight_29 : decode cX6_weight 29 = .ok (.aload_n 0, 1) := dk_42 (dk_at dksX6_weight_1 6 rfl rfl)
theorem dX6_weight_30 : decode cX6_weight 30 = .ok (.getfield 455, 3) := dk_180 1 199 (dk_at dksX6_weight_1 7 rfl rfl)
theorem dX6_weight_33 : decode cX6_weight 33 = .ok (.iconst 5, 1) := dk_8 (dk_at dksX6_weight_1 10 rfl rfl)
theorem dX6_weight_34 : decode cX6_weight 34 = .ok (.if_icmp .ne 5, 3) := dk_160 0 5 (dk_at dksX6_weight_1 11 rfl rfl)
theorem dX6_weight_37 : decode cX6_weight 37 = .ok (.iconst (-1), 1) := dk_2 (dk_at dksX6_weight_1 14 rfl rfl)
theorem dX6_weight_38 : decode cX6_weight 38 = .ok (.ireturn, 1) := dk_172 (dk_at dksX6_weight_1 15 rfl rfl)
theorem dX6_weight_39 : decode cX6_weight 39 = .ok (.aload_n 0, 1) := dk_42 (dk_at dksX6_weight_1 16 rfl rfl)
theorem dX6_weight_40 : decode cX6_weight 40 = .ok (.getfield 104, 3) := dk_180 0 104 (dk_at dksX6_weight_1 17 rfl rfl)
theorem dX6_weight_43 : decode cX6_weight 43 = .ok (.aload_n 0, 1) := dk_42 (dk_at dksX6_weight_1 20 rfl rfl)
theorem dX6_weight_44 : decode cX6_weight 44 = .ok (.getfield 455, 3) := dk_180 1 199 (dk_at dksX6_weight_1 21 rfl rfl)
theorem dX6_weight_47 : decode cX6_weight 47 = .ok (.iload_n 1, 1) := dk_27 (dk_at dksX6_weight_2 0 rfl rfl)
theorem dX6_weight_48 : decode cX6_weight 48 = .ok (.iastore, 1) := dk_79 (dk_at dksX6_weight_2 1 rfl rfl)
theorem dX6_weight_49 : decode cX6_weight 49 = .ok (.aload_n 0, 1) := dk_42 (dk_at dksX6_weight_2 2 rfl rfl)
theorem dX6_weight_50 : decode cX6_weight 50 = .ok (.aload_n 0, 1) := dk_42 (dk_at dksX6_weight_2 3 rfl rfl)
theorem dX6_weight_51 : decode cX6_weight 51 = .ok (.getfield 455, 3) := dk_180 1 199 (dk_at dksX6_weight_2 4 rfl rfl)
theorem dX6_weight_54 : decode cX6_weight 54 = .ok (.iconst 1, 1) := dk_4 (dk_at dksX6_weight_2 7 rfl rfl)
theorem dX6_weight_55 : decode cX6_weight 55 = .ok (.iadd, 1) := dk_96 (dk_at dksX6_weight_2 8 rfl rfl)
theorem dX6_weight_56 : decode cX6_weight 56 = .ok (.putfield 455, 3) := dk_181 1 199 (dk_at dksX6_weight_2 9 rfl rfl)
theorem dX6_weight_59 : decode cX6_weight 59 = .ok (.aload_n 0, 1) := dk_42 (dk_at dksX6_weight_2 12 rfl rfl)
theorem dX6_weight_60 : decode cX6_weight 60 = .ok (.getfield 455, 3) := dk_180 1 199 (dk_at dksX6_weight_2 13 rfl rfl)
theorem dX6_weight_63 : decode cX6_weight 63 = .ok (.ireturn, 1) := dk_172 (dk_at dksX6_weight_2 16 rfl rfl)
abbrev cX6_balance : ByteArray := prog_22_method_114_code
def yX6_balance : MethodName := ⟨RX6, "balance", "(II)I"⟩
def dkwX6_balance_3 : List UInt8 := [153, 0, 7, 4, 167, 0, 4, 3, 172]
abbrev dktX6_balance_3 : List UInt8 := dkwX6_balance_3 ++ []
def dkwX6_balance_2 : List UInt8 := [182, 0, 145, 154, 0, 5, 2, 172, 42, 27, 28, 154, 0, 7, 4, 167, 0, 4, 3, 182, 1, 203]
abbrev dktX6_balance_2 : List UInt8 := dkwX6_balance_2 ++ dktX6_balance_3
def dkwX6_balance_1 : List UInt8 := [4, 96, 62, 167, 255, 241, 29, 172, 42, 27, 3, 17, 3, 232, 182, 0, 145, 153, 0, 13, 42, 28, 3, 4]
abbrev dktX6_balance_1 : List UInt8 := dkwX6_balance_1 ++ dktX6_balance_2
def dkwX6_balance_0 : List UInt8 := [42, 3, 181, 0, 122, 28, 5, 160, 0, 25, 3, 62, 42, 29, 4, 96, 4, 182, 1, 203, 153, 0, 10, 29]
abbrev dktX6_balance_0 : List UInt8 := dkwX6_balance_0 ++ dktX6_balance_1
theorem dksX6_balance_0 : cX6_balance.data.toList.drop 0 = dktX6_balance_0 := by decide +kernel
theorem dksX6_balance_1 : cX6_balance.data.toList.drop 24 = dktX6_balance_1 := dk_seg dksX6_balance_0 24 rfl rfl
theorem dksX6_balance_2 : cX6_balance.data.toList.drop 48 = dktX6_balance_2 := dk_seg dksX6_balance_1 24 rfl rfl
theorem dksX6_balance_3 : cX6_balance.data.toList.drop 70 = dktX6_balance_3 := dk_seg dksX6_balance_2 22 rfl rfl
theorem dX6_balance_0 : decode cX6_balance 0 = .ok (.aload_n 0, 1) := dk_42 (dk_at dksX6_balance_0 0 rfl rfl)
theorem dX6_balance_1 : decode cX6_balance 1 = .ok (.iconst 0, 1) := dk_3 (dk_at dksX6_balance_0 1 rfl rfl)
theorem dX6_balance_2 : decode cX6_balance 2 = .ok (.putfield 122, 3) := dk_181 0 122 (dk_at dksX6_balance_0 2 rfl rfl)
theorem dX6_balance_5 : decode cX6_balance 5 = .ok (.iload_n 2, 1) := dk_28 (dk_at dksX6_balance_0 5 rfl rfl)
theorem dX6_balance_6 : decode cX6_balance 6 = .ok (.iconst 2, 1) := dk_5 (dk_at dksX6_balance_0 6 rfl rfl)
theorem dX6_balance_7 : decode cX6_balance 7 = .ok (.if_icmp .ne 25, 3) := dk_160 0 25 (dk_at dksX6_balance_0 7 rfl rfl)
theorem dX6_balance_10 : decode cX6_balance 10 = .ok (.iconst 0, 1) := dk_3 (dk_at dksX6_balance_0 10 rfl rfl)
theorem dX6_balance_11 : decode cX6_balance 11 = .ok (.istore_n 3, 1) := dk_62 (dk_at dksX6_balance_0 11 rfl rfl)
theorem dX6_balance_12 : decode cX6_balance 12 = .ok (.aload_n 0, 1) := dk_42 (dk_at dksX6_balance_0 12 rfl rfl)
theorem dX6_balance_13 : decode cX6_balance 13 = .ok (.iload_n 3, 1) := dk_29 (dk_at dksX6_balance_0 13 rfl rfl)
theorem dX6_balance_14 : decode cX6_balance 14 = .ok (.iconst 1, 1) := dk_4 (dk_at dksX6_balance_0 14 rfl rfl)
theorem dX6_balance_15 : decode cX6_balance 15 = .ok (.iadd, 1) := dk_96 (dk_at dksX6_balance_0 15 rfl rfl)
theorem dX6_balance_16 : decode cX6_balance 16 = .ok (.iconst 1, 1) := dk_4 (dk_at dksX6_balance_0 16 rfl rfl)
theorem dX6_balance_17 : decode cX6_balance 17 = .ok (.invokevirtual 459, 3) := dk_182 1 203 (dk_at dksX6_balance_0 17 rfl rfl)
theorem dX6_balance_20 : decode cX6_balance 20 = .ok (.ifCond .eq 10, 3) := dk_153 0 10 (dk_at dksX6_balance_0 20 rfl rfl)
theorem dX6_balance_23 : decode cX6_balance 23 = .ok (.iload_n 3, 1) := dk_29 (dk_at dksX6_balance_0 23 rfl rfl)
theorem dX6_balance_24 : decode cX6_balance 24 = .ok (.iconst 1, 1) := dk_4 (dk_at dksX6_balance_1 0 rfl rfl)
theorem dX6_balance_25 : decode cX6_balance 25 = .ok (.iadd, 1) := dk_96 (dk_at dksX6_balance_1 1 rfl rfl)
theorem dX6_balance_26 : decode cX6_balance 26 = .ok (.istore_n 3, 1) := dk_62 (dk_at dksX6_balance_1 2 rfl rfl)
theorem dX6_balance_27 : decode cX6_balance 27 = .ok (.goto (-15), 3) := dk_167 255 241 (dk_at dksX6_balance_1 3 rfl rfl)
theorem dX6_balance_30 : decode cX6_balance 30 = .ok (.iload_n 3, 1) := dk_29 (dk_at dksX6_balance_1 6 rfl rfl)
theorem dX6_balance_31 : decode cX6_balance 31 = .ok (.ireturn, 1) := dk_172 (dk_at dksX6_balance_1 7 rfl rfl)
theorem dX6_balance_32 : decode cX6_balance 32 = .ok (.aload_n 0, 1) := dk_42 (dk_at dksX6_balance_1 8 rfl rfl)
theorem dX6_balance_33 : decode cX6_balance 33 = .ok (.iload_n 1, 1) := dk_27 (dk_at dksX6_balance_1 9 rfl rfl)
theorem dX6_balance_34 : decode cX6_balance 34 = .ok (.iconst 0, 1) := dk_3 (dk_at dksX6_balance_1 10 rfl rfl)
theorem dX6_balance_35 : decode cX6_balance 35 = .ok (.sipush 1000, 3) := dk_17 3 232 (dk_at dksX6_balance_1 11 rfl rfl)
theorem dX6_balance_38 : decode cX6_balance 38 = .ok (.invokevirtual 145, 3) := dk_182 0 145 (dk_at dksX6_balance_1 14 rfl rfl)
theorem dX6_balance_41 : decode cX6_balance 41 = .ok (.ifCond .eq 13, 3) := dk_153 0 13 (dk_at dksX6_balance_1 17 rfl rfl)
theorem dX6_balance_44 : decode cX6_balance 44 = .ok (.aload_n 0, 1) := dk_42 (dk_at dksX6_balance_1 20 rfl rfl)
theorem dX6_balance_45 : decode cX6_balance 45 = .ok (.iload_n 2, 1) := dk_28 (dk_at dksX6_balance_1 21 rfl rfl)
theorem dX6_balance_46 : decode cX6_balance 46 = .ok (.iconst 0, 1) := dk_3 (dk_at dksX6_balance_1 22 rfl rfl)
theorem dX6_balance_47 : decode cX6_balance 47 = .ok (.iconst 1, 1) := dk_4 (dk_at dksX6_balance_1 23 rfl rfl)
theorem dX6_balance_48 : decode cX6_balance 48 = .ok (.invokevirtual 145, 3) := dk_182 0 145 (dk_at dksX6_balance_2 0 rfl rfl)
theorem dX6_balance_51 : decode cX6_balance 51 = .ok (.ifCond .ne 5, 3) := dk_154 0 5 (dk_at dksX6_balance_2 3 rfl rfl)
theorem dX6_balance_54 : decode cX6_balance 54 = .ok (.iconst (-1), 1) := dk_2 (dk_at dksX6_balance_2 6 rfl rfl)
theorem dX6_balance_55 : decode cX6_balance 55 = .ok (.ireturn, 1) := dk_172 (dk_at dksX6_balance_2 7 rfl rfl)
theorem dX6_balance_56 : decode cX6_balance 56 = .ok (.aload_n 0, 1) := dk_42 (dk_at dksX6_balance_2 8 rfl rfl)
theorem dX6_balance_57 : decode cX6_balance 57 = .ok (.iload_n 1, 1) := dk_27 (dk_at dksX6_balance_2 9 rfl rfl)
theorem dX6_balance_58 : decode cX6_balance 58 = .ok (.iload_n 2, 1) := dk_28 (dk_at dksX6_balance_2 10 rfl rfl)
theorem dX6_balance_59 : decode cX6_balance 59 = .ok (.ifCond .ne 7, 3) := dk_154 0 7 (dk_at dksX6_balance_2 11 rfl rfl)
theorem dX6_balance_62 : decode cX6_balance 62 = .ok (.iconst 1, 1) := dk_4 (dk_at dksX6_balance_2 14 rfl rfl)
theorem dX6_balance_63 : decode cX6_balance 63 = .ok (.goto 4, 3) := dk_167 0 4 (dk_at dksX6_balance_2 15 rfl rfl)
theorem dX6_balance_66 : decode cX6_balance 66 = .ok (.iconst 0, 1) := dk_3 (dk_at dksX6_balance_2 18 rfl rfl)
theorem dX6_balance_67 : decode cX6_balance 67 = .ok (.invokevirtual 459, 3) := dk_182 1 203 (dk_at dksX6_balance_2 19 rfl rfl)
theorem dX6_balance_70 : decode cX6_balance 70 = .ok (.ifCond .eq 7, 3) := dk_153 0 7 (dk_at dksX6_balance_3 0 rfl rfl)
theorem dX6_balance_73 : decode cX6_balance 73 = .ok (.iconst 1, 1) := dk_4 (dk_at dksX6_balance_3 3 rfl rfl)
theorem dX6_balance_74 : decode cX6_balance 74 = .ok (.goto 4, 3) := dk_167 0 4 (dk_at dksX6_balance_3 4 rfl rfl)
theorem dX6_balance_77 : decode cX6_balance 77 = .ok (.iconst 0, 1) := dk_3 (dk_at dksX6_balance_3 7 rfl rfl)
theorem dX6_balance_78 : decode cX6_balance 78 = .ok (.ireturn, 1) := dk_172 (dk_at dksX6_balance_3 8 rfl rfl)
abbrev cX6_canWeigh : ByteArray := prog_22_method_113_code
def yX6_canWeigh : MethodName := ⟨RX6, "canWeigh", "(IZ)Z"⟩
def dkwX6_canWeigh_5 : List UInt8 := [160, 0, 5, 4, 172, 132, 4, 1, 167, 255, 158, 3, 172]
abbrev dktX6_canWeigh_5 : List UInt8 := dkwX6_canWeigh_5 ++ []
def dkwX6_canWeigh_4 : List UInt8 := [167, 0, 6, 19, 1, 202, 54, 5, 21, 6, 6, 108, 54, 6, 132, 7, 1, 167, 255, 188, 21, 5, 27]
abbrev dktX6_canWeigh_4 : List UInt8 := dkwX6_canWeigh_4 ++ dktX6_canWeigh_5
def dkwX6_canWeigh_3 : List UInt8 := [54, 5, 21, 6, 6, 112, 5, 160, 0, 25, 28, 153, 0, 16, 21, 5, 42, 180, 0, 104, 21, 7, 46, 100]
abbrev dktX6_canWeigh_3 : List UInt8 := dkwX6_canWeigh_3 ++ dktX6_canWeigh_4
def dkwX6_canWeigh_2 : List UInt8 := [180, 1, 199, 162, 0, 65, 21, 6, 6, 112, 4, 160, 0, 15, 21, 5, 42, 180, 0, 104, 21, 7, 46, 96]
abbrev dktX6_canWeigh_2 : List UInt8 := dkwX6_canWeigh_2 ++ dktX6_canWeigh_3
def dkwX6_canWeigh_1 : List UInt8 := [3, 54, 4, 21, 4, 29, 162, 0, 98, 3, 54, 5, 21, 4, 54, 6, 3, 54, 7, 21, 7, 42]
abbrev dktX6_canWeigh_1 : List UInt8 := dkwX6_canWeigh_1 ++ dktX6_canWeigh_2
def dkwX6_canWeigh_0 : List UInt8 := [4, 62, 3, 54, 4, 21, 4, 42, 180, 1, 199, 162, 0, 13, 29, 6, 104, 62, 132, 4, 1, 167, 255, 240]
abbrev dktX6_canWeigh_0 : List UInt8 := dkwX6_canWeigh_0 ++ dktX6_canWeigh_1
theorem dksX6_canWeigh_0 : cX6_canWeigh.data.toList.drop 0 = dktX6_canWeigh_0 := by decide +kernel
theorem dksX6_canWeigh_1 : cX6_canWeigh.data.toList.drop 24 = dktX6_canWeigh_1 := dk_seg dksX6_canWeigh_0 24 rfl rfl
theorem dksX6_canWeigh_2 : cX6_canWeigh.data.toList.drop 46 = dktX6_canWeigh_2 := dk_seg dksX6_canWeigh_1 22 rfl rfl
theorem dksX6_canWeigh_3 : cX6_canWeigh.data.toList.drop 70 = dktX6_canWeigh_3 := dk_seg dksX6_canWeigh_2 24 rfl rfl
theorem dksX6_canWeigh_4 : cX6_canWeigh.data.toList.drop 94 = dktX6_canWeigh_4 := dk_seg dksX6_canWeigh_3 24 rfl rfl
theorem dksX6_canWeigh_5 : cX6_canWeigh.data.toList.drop 117 = dktX6_canWeigh_5 := dk_seg dksX6_canWeigh_4 23 rfl rfl
theorem dX6_canWeigh_0 : decode cX6_canWeigh 0 = .ok (.iconst 1, 1) := dk_4 (dk_at dksX6_canWeigh_0 0 rfl rfl)
theorem dX6_canWeigh_1 : decode cX6_canWeigh 1 = .ok (.istore_n 3, 1) := dk_62 (dk_at dksX6_canWeigh_0 1 rfl rfl)
theorem dX6_canWeigh_2 : decode cX6_canWeigh 2 = .ok (.iconst 0, 1) := dk_3 (dk_at dksX6_canWeigh_0 2 rfl rfl)
theorem dX6_canWeigh_3 : decode cX6_canWeigh 3 = .ok (.istore 4, 2) := dk_54 4 (dk_at dksX6_canWeigh_0 3 rfl rfl)
theorem dX6_canWeigh_5 : decode cX6_canWeigh 5 = .ok (.iload 4, 2) := dk_21 4 (dk_at dksX6_canWeigh_0 5 rfl rfl)
theorem dX6_canWeigh_7 : decode cX6_canWeigh 7 = .ok (.aload_n 0, 1) := dk_42 (dk_at dksX6_canWeigh_0 7 rfl rfl)
theorem dX6_canWeigh_8 : decode cX6_canWeigh 8 = .ok (.getfield 455, 3) := dk_180 1 199 (dk_at dksX6_canWeigh_0 8 rfl rfl)
theorem dX6_canWeigh_11 : decode cX6_canWeigh 11 = .ok (.if_icmp .ge 13, 3) := dk_162 0 13 (dk_at dksX6_canWeigh_0 11 rfl rfl)
theorem dX6_canWeigh_14 : decode cX6_canWeigh 14 = .ok (.iload_n 3, 1) := dk_29 (dk_at dksX6_canWeigh_0 14 rfl rfl)
theorem dX6_canWeigh_15 : decode cX6_canWeigh 15 = .ok (.iconst 3, 1) := dk_6 (dk_at dksX6_canWeigh_0 15 rfl rfl)
theorem dX6_canWeigh_16 : decode cX6_canWeigh 16 = .ok (.imul, 1) := dk_104 (dk_at dksX6_canWeigh_0 16 rfl rfl)
theorem dX6_canWeigh_17 : decode cX6_canWeigh 17 = .ok (.istore_n 3, 1) := dk_62 (dk_at dksX6_canWeigh_0 17 rfl rfl)
theorem dX6_canWeigh_18 : decode cX6_canWeigh 18 = .ok (.iinc 4 1, 3) := dk_132 4 1 (dk_at dksX6_canWeigh_0 18 rfl rfl)
theorem dX6_canWeigh_21 : decode cX6_canWeigh 21 = .ok (.goto (-16), 3) := dk_167 255 240 (dk_at dksX6_canWeigh_0 21 rfl rfl)
theorem dX6_canWeigh_24 : decode cX6_canWeigh 24 = .ok (.iconst 0, 1) := dk_3 (dk_at dksX6_canWeigh_1 0 rfl rfl)
theorem dX6_canWeigh_25 : decode cX6_canWeigh 25 = .ok (.istore 4, 2) := dk_54 4 (dk_at dksX6_canWeigh_1 1 rfl rfl)
theorem dX6_canWeigh_27 : decode cX6_canWeigh 27 = .ok (.iload 4, 2) := dk_21 4 (dk_at dksX6_canWeigh_1 3 rfl rfl)
theorem dX6_canWeigh_29 : decode cX6_canWeigh 29 = .ok (.iload_n 3, 1) := dk_29 (dk_at dksX6_canWeigh_1 5 rfl rfl)
theorem dX6_canWeigh_30 : decode cX6_canWeigh 30 = .ok (.if_icmp .ge 98, 3) := dk_162 0 98 (dk_at dksX6_canWeigh_1 6 rfl rfl)
theorem dX6_canWeigh_33 : decode cX6_canWeigh 33 = .ok (.iconst 0, 1) := dk_3 (dk_at dksX6_canWeigh_1 9 rfl rfl)
theorem dX6_canWeigh_34 : decode cX6_canWeigh 34 = .ok (.istore 5, 2) := dk_54 5 (dk_at dksX6_canWeigh_1 10 rfl rfl)
theorem dX6_canWeigh_36 : decode cX6_canWeigh 36 = .ok (.iload 4, 2) := dk_21 4 (dk_at dksX6_canWeigh_1 12 rfl rfl)
theorem dX6_canWeigh_38 : decode cX6_canWeigh 38 = .ok (.istore 6, 2) := dk_54 6 (dk_at dksX6_canWeigh_1 14 rfl rfl)
theorem dX6_canWeigh_40 : decode cX6_canWeigh 40 = .ok (.iconst 0, 1) := dk_3 (dk_at dksX6_canWeigh_1 16 rfl rfl)
theorem dX6_canWeigh_41 : decode cX6_canWeigh 41 = .ok (.istore 7, 2) := dk_54 7 (dk_at dksX6_canWeigh_1 17 rfl rfl)
theorem dX6_canWeigh_43 : decode cX6_canWeigh 43 = .ok (.iload 7, 2) := dk_21 7 (dk_at dksX6_canWeigh_1 19 rfl rfl)
theorem dX6_canWeigh_45 : decode cX6_canWeigh 45 = .ok (.aload_n 0, 1) := dk_42 (dk_at dksX6_canWeigh_1 21 rfl rfl)
theorem dX6_canWeigh_46 : decode cX6_canWeigh 46 = .ok (.getfield 455, 3) := dk_180 1 199 (dk_at dksX6_canWeigh_2 0 rfl rfl)
theorem dX6_canWeigh_49 : decode cX6_canWeigh 49 = .ok (.if_icmp .ge 65, 3) := dk_162 0 65 (dk_at dksX6_canWeigh_2 3 rfl rfl)
theorem dX6_canWeigh_52 : decode cX6_canWeigh 52 = .ok (.iload 6, 2) := dk_21 6 (dk_at dksX6_canWeigh_2 6 rfl rfl)
theorem dX6_canWeigh_54 : decode cX6_canWeigh 54 = .ok (.iconst 3, 1) := dk_6 (dk_at dksX6_canWeigh_2 8 rfl rfl)
theorem dX6_canWeigh_55 : decode cX6_canWeigh 55 = .ok (.irem, 1) := dk_112 (dk_at dksX6_canWeigh_2 9 rfl rfl)
theorem dX6_canWeigh_56 : decode cX6_canWeigh 56 = .ok (.iconst 1, 1) := dk_4 (dk_at dksX6_canWeigh_2 10 rfl rfl)
theorem dX6_canWeigh_57 : decode cX6_canWeigh 57 = .ok (.if_icmp .ne 15, 3) := dk_160 0 15 (dk_at dksX6_canWeigh_2 11 rfl rfl)
theorem dX6_canWeigh_60 : decode cX6_canWeigh 60 = .ok (.iload 5, 2) := dk_21 5 (dk_at dksX6_canWeigh_2 14 rfl rfl)
theorem dX6_canWeigh_62 : decode cX6_canWeigh 62 = .ok (.aload_n 0, 1) := dk_42 (dk_at dksX6_canWeigh_2 16 rfl rfl)
theorem dX6_canWeigh_63 : decode cX6_canWeigh 63 = .ok (.getfield 104, 3) := dk_180 0 104 (dk_at dksX6_canWeigh_2 17 rfl rfl)
theorem dX6_canWeigh_66 : decode cX6_canWeigh 66 = .ok (.iload 7, 2) := dk_21 7 (dk_at dksX6_canWeigh_2 20 rfl rfl)
theorem dX6_canWeigh_68 : decode cX6_canWeigh 68 = .ok (.iaload, 1) := dk_46 (dk_at dksX6_canWeigh_2 22 rfl rfl)
theorem dX6_canWeigh_69 : decode cX6_canWeigh 69 = .ok (.iadd, 1) := dk_96 (dk_at dksX6_canWeigh_2 23 rfl rfl)
theorem dX6_canWeigh_70 : decode cX6_canWeigh 70 = .ok (.istore 5, 2) := dk_54 5 (dk_at dksX6_canWeigh_3 0 rfl rfl)
theorem dX6_canWeigh_72 : decode cX6_canWeigh 72 = .ok (.iload 6, 2) := dk_21 6 (dk_at dksX6_canWeigh_3 2 rfl rfl)
theorem dX6_canWeigh_74 : decode cX6_canWeigh 74 = .ok (.iconst 3, 1) := dk_6 (dk_at dksX6_canWeigh_3 4 rfl rfl)
theorem dX6_canWeigh_75 : decode cX6_canWeigh 75 = .ok (.irem, 1) := dk_112 (dk_at dksX6_canWeigh_3 5 rfl rfl)
theorem dX6_canWeigh_76 : decode cX6_canWeigh 76 = .ok (.iconst 2, 1) := dk_5 (dk_at dksX6_canWeigh_3 6 rfl rfl)
theorem dX6_canWeigh_77 : decode cX6_canWeigh 77 = .ok (.if_icmp .ne 25, 3) := dk_160 0 25 (dk_at dksX6_canWeigh_3 7 rfl rfl)
theorem dX6_canWeigh_80 : decode cX6_canWeigh 80 = .ok (.iload_n 2, 1) := dk_28 (dk_at dksX6_canWeigh_3 10 rfl rfl)
theorem dX6_canWeigh_81 : decode cX6_canWeigh 81 = .ok (.ifCond .eq 16, 3) := dk_153 0 16 (dk_at dksX6_canWeigh_3 11 rfl rfl)
theorem dX6_canWeigh_84 : decode cX6_canWeigh 84 = .ok (.iload 5, 2) := dk_21 5 (dk_at dksX6_canWeigh_3 14 rfl rfl)
theorem dX6_canWeigh_86 : decode cX6_canWeigh 86 = .ok (.aload_n 0, 1) := dk_42 (dk_at dksX6_canWeigh_3 16 rfl rfl)
theorem dX6_canWeigh_87 : decode cX6_canWeigh 87 = .ok (.getfield 104, 3) := dk_180 0 104 (dk_at dksX6_canWeigh_3 17 rfl rfl)
theorem dX6_canWeigh_90 : decode cX6_canWeigh 90 = .ok (.iload 7, 2) := dk_21 7 (dk_at dksX6_canWeigh_3 20 rfl rfl)
theorem dX6_canWeigh_92 : decode cX6_canWeigh 92 = .ok (.iaload, 1) := dk_46 (dk_at dksX6_canWeigh_3 22 rfl rfl)
theorem dX6_canWeigh_93 : decode cX6_canWeigh 93 = .ok (.isub, 1) := dk_100 (dk_at dksX6_canWeigh_3 23 rfl rfl)
theorem dX6_canWeigh_94 : decode cX6_canWeigh 94 = .ok (.goto 6, 3) := dk_167 0 6 (dk_at dksX6_canWeigh_4 0 rfl rfl)
theorem dX6_canWeigh_97 : decode cX6_canWeigh 97 = .ok (.ldc_w 458, 3) := dk_19 1 202 (dk_at dksX6_canWeigh_4 3 rfl rfl)
theorem dX6_canWeigh_100 : decode cX6_canWeigh 100 = .ok (.istore 5, 2) := dk_54 5 (dk_at dksX6_canWeigh_4 6 rfl rfl)
theorem dX6_canWeigh_102 : decode cX6_canWeigh 102 = .ok (.iload 6, 2) := dk_21 6 (dk_at dksX6_canWeigh_4 8 rfl rfl)
theorem dX6_canWeigh_104 : decode cX6_canWeigh 104 = .ok (.iconst 3, 1) := dk_6 (dk_at dksX6_canWeigh_4 10 rfl rfl)
theorem dX6_canWeigh_105 : decode cX6_canWeigh 105 = .ok (.idiv, 1) := dk_108 (dk_at dksX6_canWeigh_4 11 rfl rfl)
theorem dX6_canWeigh_106 : decode cX6_canWeigh 106 = .ok (.istore 6, 2) := dk_54 6 (dk_at dksX6_canWeigh_4 12 rfl rfl)
theorem dX6_canWeigh_108 : decode cX6_canWeigh 108 = .ok (.iinc 7 1, 3) := dk_132 7 1 (dk_at dksX6_canWeigh_4 14 rfl rfl)
theorem dX6_canWeigh_111 : decode cX6_canWeigh 111 = .ok (.goto (-68), 3) := dk_167 255 188 (dk_at dksX6_canWeigh_4 17 rfl rfl)
theorem dX6_canWeigh_114 : decode cX6_canWeigh 114 = .ok (.iload 5, 2) := dk_21 5 (dk_at dksX6_canWeigh_4 20 rfl rfl)
theorem dX6_canWeigh_116 : decode cX6_canWeigh 116 = .ok (.iload_n 1, 1) := dk_27 (dk_at dksX6_canWeigh_4 22 rfl rfl)
theorem dX6_canWeigh_117 : decode cX6_canWeigh 117 = .ok (.if_icmp .ne 5, 3) := dk_160 0 5 (dk_at dksX6_canWeigh_5 0 rfl rfl)
theorem dX6_canWeigh_120 : decode cX6_canWeigh 120 = .ok (.iconst 1, 1) := dk_4 (dk_at dksX6_canWeigh_5 3 rfl rfl)
theorem dX6_canWeigh_121 : decode cX6_canWeigh 121 = .ok (.ireturn, 1) := dk_172 (dk_at dksX6_canWeigh_5 4 rfl rfl)
theorem dX6_canWeigh_122 : decode cX6_canWeigh 122 = .ok (.iinc 4 1, 3) := dk_132 4 1 (dk_at dksX6_canWeigh_5 5 rfl rfl)
theorem dX6_canWeigh_125 : decode cX6_canWeigh 125 = .ok (.goto (-98), 3) := dk_167 255 158 (dk_at dksX6_canWeigh_5 8 rfl rfl)
theorem dX6_canWeigh_128 : decode cX6_canWeigh 128 = .ok (.iconst 0, 1) := dk_3 (dk_at dksX6_canWeigh_5 11 rfl rfl)
theorem dX6_canWeigh_129 : decode cX6_canWeigh 129 = .ok (.ireturn, 1) := dk_172 (dk_at dksX6_canWeigh_5 12 rfl rfl)
abbrev cX6_cold : ByteArray := prog_22_method_116_code
def yX6_cold : MethodName := ⟨RX6, "cold", "(II)I"⟩
def dkwX6_cold_3 : List UInt8 := [167, 0, 8, 42, 29, 182, 1, 193, 172]
abbrev dktX6_cold_3 : List UInt8 := dkwX6_cold_3 ++ []
def dkwX6_cold_2 : List UInt8 := [42, 29, 182, 1, 207, 62, 21, 4, 4, 96, 54, 4, 167, 255, 229, 28, 2, 160, 0, 8, 21, 4]
abbrev dktX6_cold_2 : List UInt8 := dkwX6_cold_2 ++ dktX6_cold_3
def dkwX6_cold_1 : List UInt8 := [2, 172, 4, 27, 120, 62, 3, 54, 4, 21, 4, 28, 159, 0, 27, 42, 29, 182, 1, 207, 29, 159, 0, 18]
abbrev dktX6_cold_1 : List UInt8 := dkwX6_cold_1 ++ dktX6_cold_2
def dkwX6_cold_0 : List UInt8 := [42, 3, 181, 0, 122, 42, 27, 182, 0, 153, 153, 0, 14, 42, 28, 2, 16, 20, 182, 0, 145, 154, 0, 5]
abbrev dktX6_cold_0 : List UInt8 := dkwX6_cold_0 ++ dktX6_cold_1
theorem dksX6_cold_0 : cX6_cold.data.toList.drop 0 = dktX6_cold_0 := by decide +kernel
theorem dksX6_cold_1 : cX6_cold.data.toList.drop 24 = dktX6_cold_1 := dk_seg dksX6_cold_0 24 rfl rfl
theorem dksX6_cold_2 : cX6_cold.data.toList.drop 48 = dktX6_cold_2 := dk_seg dksX6_cold_1 24 rfl rfl
theorem dksX6_cold_3 : cX6_cold.data.toList.drop 70 = dktX6_cold_3 := dk_seg dksX6_cold_2 22 rfl rfl
theorem dX6_cold_0 : decode cX6_cold 0 = .ok (.aload_n 0, 1) := dk_42 (dk_at dksX6_cold_0 0 rfl rfl)
theorem dX6_cold_1 : decode cX6_cold 1 = .ok (.iconst 0, 1) := dk_3 (dk_at dksX6_cold_0 1 rfl rfl)
theorem dX6_cold_2 : decode cX6_cold 2 = .ok (.putfield 122, 3) := dk_181 0 122 (dk_at dksX6_cold_0 2 rfl rfl)
theorem dX6_cold_5 : decode cX6_cold 5 = .ok (.aload_n 0, 1) := dk_42 (dk_at dksX6_cold_0 5 rfl rfl)
theorem dX6_cold_6 : decode cX6_cold 6 = .ok (.iload_n 1, 1) := dk_27 (dk_at dksX6_cold_0 6 rfl rfl)
theorem dX6_cold_7 : decode cX6_cold 7 = .ok (.invokevirtual 153, 3) := dk_182 0 153 (dk_at dksX6_cold_0 7 rfl rfl)
theorem dX6_cold_10 : decode cX6_cold 10 = .ok (.ifCond .eq 14, 3) := dk_153 0 14 (dk_at dksX6_cold_0 10 rfl rfl)
theorem dX6_cold_13 : decode cX6_cold 13 = .ok (.aload_n 0, 1) := dk_42 (dk_at dksX6_cold_0 13 rfl rfl)
theorem dX6_cold_14 : decode cX6_cold 14 = .ok (.iload_n 2, 1) := dk_28 (dk_at dksX6_cold_0 14 rfl rfl)
theorem dX6_cold_15 : decode cX6_cold 15 = .ok (.iconst (-1), 1) := dk_2 (dk_at dksX6_cold_0 15 rfl rfl)
theorem dX6_cold_16 : decode cX6_cold 16 = .ok (.bipush 20, 2) := dk_16 20 (dk_at dksX6_cold_0 16 rfl rfl)
theorem dX6_cold_18 : decode cX6_cold 18 = .ok (.invokevirtual 145, 3) := dk_182 0 145 (dk_at dksX6_cold_0 18 rfl rfl)
theorem dX6_cold_21 : decode cX6_cold 21 = .ok (.ifCond .ne 5, 3) := dk_154 0 5 (dk_at dksX6_cold_0 21 rfl rfl)
theorem dX6_cold_24 : decode cX6_cold 24 = .ok (.iconst (-1), 1) := dk_2 (dk_at dksX6_cold_1 0 rfl rfl)
theorem dX6_cold_25 : decode cX6_cold 25 = .ok (.ireturn, 1) := dk_172 (dk_at dksX6_cold_1 1 rfl rfl)
theorem dX6_cold_26 : decode cX6_cold 26 = .ok (.iconst 1, 1) := dk_4 (dk_at dksX6_cold_1 2 rfl rfl)
theorem dX6_cold_27 : decode cX6_cold 27 = .ok (.iload_n 1, 1) := dk_27 (dk_at dksX6_cold_1 3 rfl rfl)
theorem dX6_cold_28 : decode cX6_cold 28 = .ok (.ishl, 1) := dk_120 (dk_at dksX6_cold_1 4 rfl rfl)
theorem dX6_cold_29 : decode cX6_cold 29 = .ok (.istore_n 3, 1) := dk_62 (dk_at dksX6_cold_1 5 rfl rfl)
theorem dX6_cold_30 : decode cX6_cold 30 = .ok (.iconst 0, 1) := dk_3 (dk_at dksX6_cold_1 6 rfl rfl)
theorem dX6_cold_31 : decode cX6_cold 31 = .ok (.istore 4, 2) := dk_54 4 (dk_at dksX6_cold_1 7 rfl rfl)
theorem dX6_cold_33 : decode cX6_cold 33 = .ok (.iload 4, 2) := dk_21 4 (dk_at dksX6_cold_1 9 rfl rfl)
theorem dX6_cold_35 : decode cX6_cold 35 = .ok (.iload_n 2, 1) := dk_28 (dk_at dksX6_cold_1 11 rfl rfl)
theorem dX6_cold_36 : decode cX6_cold 36 = .ok (.if_icmp .eq 27, 3) := dk_159 0 27 (dk_at dksX6_cold_1 12 rfl rfl)
theorem dX6_cold_39 : decode cX6_cold 39 = .ok (.aload_n 0, 1) := dk_42 (dk_at dksX6_cold_1 15 rfl rfl)
theorem dX6_cold_40 : decode cX6_cold 40 = .ok (.iload_n 3, 1) := dk_29 (dk_at dksX6_cold_1 16 rfl rfl)
theorem dX6_cold_41 : decode cX6_cold 41 = .ok (.invokevirtual 463, 3) := dk_182 1 207 (dk_at dksX6_cold_1 17 rfl rfl)
theorem dX6_cold_44 : decode cX6_cold 44 = .ok (.iload_n 3, 1) := dk_29 (dk_at dksX6_cold_1 20 rfl rfl)
theorem dX6_cold_45 : decode cX6_cold 45 = .ok (.if_icmp .eq 18, 3) := dk_159 0 18 (dk_at dksX6_cold_1 21 rfl rfl)
theorem dX6_cold_48 : decode cX6_cold 48 = .ok (.aload_n 0, 1) := dk_42 (dk_at dksX6_cold_2 0 rfl rfl)
theorem dX6_cold_49 : decode cX6_cold 49 = .ok (.iload_n 3, 1) := dk_29 (dk_at dksX6_cold_2 1 rfl rfl)
theorem dX6_cold_50 : decode cX6_cold 50 = .ok (.invokevirtual 463, 3) := dk_182 1 207 (dk_at dksX6_cold_2 2 rfl rfl)
theorem dX6_cold_53 : decode cX6_cold 53 = .ok (.istore_n 3, 1) := dk_62 (dk_at dksX6_cold_2 5 rfl rfl)
theorem dX6_cold_54 : decode cX6_cold 54 = .ok (.iload 4, 2) := dk_21 4 (dk_at dksX6_cold_2 6 rfl rfl)
theorem dX6_cold_56 : decode cX6_cold 56 = .ok (.iconst 1, 1) := dk_4 (dk_at dksX6_cold_2 8 rfl rfl)
theorem dX6_cold_57 : decode cX6_cold 57 = .ok (.iadd, 1) := dk_96 (dk_at dksX6_cold_2 9 rfl rfl)
theorem dX6_cold_58 : decode cX6_cold 58 = .ok (.istore 4, 2) := dk_54 4 (dk_at dksX6_cold_2 10 rfl rfl)
theorem dX6_cold_60 : decode cX6_cold 60 = .ok (.goto (-27), 3) := dk_167 255 229 (dk_at dksX6_cold_2 12 rfl rfl)
theorem dX6_cold_63 : decode cX6_cold 63 = .ok (.iload_n 2, 1) := dk_28 (dk_at dksX6_cold_2 15 rfl rfl)
theorem dX6_cold_64 : decode cX6_cold 64 = .ok (.iconst (-1), 1) := dk_2 (dk_at dksX6_cold_2 16 rfl rfl)
theorem dX6_cold_65 : decode cX6_cold 65 = .ok (.if_icmp .ne 8, 3) := dk_160 0 8 (dk_at dksX6_cold_2 17 rfl rfl)
theorem dX6_cold_68 : decode cX6_cold 68 = .ok (.iload 4, 2) := dk_21 4 (dk_at dksX6_cold_2 20 rfl rfl)
theorem dX6_cold_70 : decode cX6_cold 70 = .ok (.goto 8, 3) := dk_167 0 8 (dk_at dksX6_cold_3 0 rfl rfl)
theorem dX6_cold_73 : decode cX6_cold 73 = .ok (.aload_n 0, 1) := dk_42 (dk_at dksX6_cold_3 3 rfl rfl)
theorem dX6_cold_74 : decode cX6_cold 74 = .ok (.iload_n 3, 1) := dk_29 (dk_at dksX6_cold_3 4 rfl rfl)
theorem dX6_cold_75 : decode cX6_cold 75 = .ok (.invokevirtual 449, 3) := dk_182 1 193 (dk_at dksX6_cold_3 5 rfl rfl)
theorem dX6_cold_78 : decode cX6_cold 78 = .ok (.ireturn, 1) := dk_172 (dk_at dksX6_cold_3 8 rfl rfl)
abbrev cX6_caughtFrom : ByteArray := prog_22_method_115_code
def yX6_caughtFrom : MethodName := ⟨RX6, "caughtFrom", "(I)I"⟩
def dkwX6_caughtFrom_1 : List UInt8 := [180, 0, 68, 29, 46, 128, 61, 132, 3, 1, 167, 255, 227, 28, 172]
abbrev dktX6_caughtFrom_1 : List UInt8 := dkwX6_caughtFrom_1 ++ []
def dkwX6_caughtFrom_0 : List UInt8 := [27, 61, 3, 62, 29, 42, 180, 0, 135, 162, 0, 27, 42, 27, 29, 182, 1, 75, 153, 0, 12, 28, 42]
abbrev dktX6_caughtFrom_0 : List UInt8 := dkwX6_caughtFrom_0 ++ dktX6_caughtFrom_1
theorem dksX6_caughtFrom_0 : cX6_caughtFrom.data.toList.drop 0 = dktX6_caughtFrom_0 := by decide +kernel
theorem dksX6_caughtFrom_1 : cX6_caughtFrom.data.toList.drop 23 = dktX6_caughtFrom_1 := dk_seg dksX6_caughtFrom_0 23 rfl rfl
theorem dX6_caughtFrom_0 : decode cX6_caughtFrom 0 = .ok (.iload_n 1, 1) := dk_27 (dk_at dksX6_caughtFrom_0 0 rfl rfl)
theorem dX6_caughtFrom_1 : decode cX6_caughtFrom 1 = .ok (.istore_n 2, 1) := dk_61 (dk_at dksX6_caughtFrom_0 1 rfl rfl)
theorem dX6_caughtFrom_2 : decode cX6_caughtFrom 2 = .ok (.iconst 0, 1) := dk_3 (dk_at dksX6_caughtFrom_0 2 rfl rfl)
theorem dX6_caughtFrom_3 : decode cX6_caughtFrom 3 = .ok (.istore_n 3, 1) := dk_62 (dk_at dksX6_caughtFrom_0 3 rfl rfl)
theorem dX6_caughtFrom_4 : decode cX6_caughtFrom 4 = .ok (.iload_n 3, 1) := dk_29 (dk_at dksX6_caughtFrom_0 4 rfl rfl)
theorem dX6_caughtFrom_5 : decode cX6_caughtFrom 5 = .ok (.aload_n 0, 1) := dk_42 (dk_at dksX6_caughtFrom_0 5 rfl rfl)
theorem dX6_caughtFrom_6 : decode cX6_caughtFrom 6 = .ok (.getfield 135, 3) := dk_180 0 135 (dk_at dksX6_caughtFrom_0 6 rfl rfl)
theorem dX6_caughtFrom_9 : decode cX6_caughtFrom 9 = .ok (.if_icmp .ge 27, 3) := dk_162 0 27 (dk_at dksX6_caughtFrom_0 9 rfl rfl)
theorem dX6_caughtFrom_12 : decode cX6_caughtFrom 12 = .ok (.aload_n 0, 1) := dk_42 (dk_at dksX6_caughtFrom_0 12 rfl rfl)
theorem dX6_caughtFrom_13 : decode cX6_caughtFrom 13 = .ok (.iload_n 1, 1) := dk_27 (dk_at dksX6_caughtFrom_0 13 rfl rfl)
theorem dX6_caughtFrom_14 : decode cX6_caughtFrom 14 = .ok (.iload_n 3, 1) := dk_29 (dk_at dksX6_caughtFrom_0 14 rfl rfl)
theorem dX6_caughtFrom_15 : decode cX6_caughtFrom 15 = .ok (.invokevirtual 331, 3) := dk_182 1 75 (dk_at dksX6_caughtFrom_0 15 rfl rfl)
theorem dX6_caughtFrom_18 : decode cX6_caughtFrom 18 = .ok (.ifCond .eq 12, 3) := dk_153 0 12 (dk_at dksX6_caughtFrom_0 18 rfl rfl)
theorem dX6_caughtFrom_21 : decode cX6_caughtFrom 21 = .ok (.iload_n 2, 1) := dk_28 (dk_at dksX6_caughtFrom_0 21 rfl rfl)
theorem dX6_caughtFrom_22 : decode cX6_caughtFrom 22 = .ok (.aload_n 0, 1) := dk_42 (dk_at dksX6_caughtFrom_0 22 rfl rfl)
theorem dX6_caughtFrom_23 : decode cX6_caughtFrom 23 = .ok (.getfield 68, 3) := dk_180 0 68 (dk_at dksX6_caughtFrom_1 0 rfl rfl)
theorem dX6_caughtFrom_26 : decode cX6_caughtFrom 26 = .ok (.iload_n 3, 1) := dk_29 (dk_at dksX6_caughtFrom_1 3 rfl rfl)
theorem dX6_caughtFrom_27 : decode cX6_caughtFrom 27 = .ok (.iaload, 1) := dk_46 (dk_at dksX6_caughtFrom_1 4 rfl rfl)
theorem dX6_caughtFrom_28 : decode cX6_caughtFrom 28 = .ok (.ior, 1) := dk_128 (dk_at dksX6_caughtFrom_1 5 rfl rfl)
theorem dX6_caughtFrom_29 : decode cX6_caughtFrom 29 = .ok (.istore_n 2, 1) := dk_61 (dk_at dksX6_caughtFrom_1 6 rfl rfl)
theorem dX6_caughtFrom_30 : decode cX6_caughtFrom 30 = .ok (.iinc 3 1, 3) := dk_132 3 1 (dk_at dksX6_caughtFrom_1 7 rfl rfl)
theorem dX6_caughtFrom_33 : decode cX6_caughtFrom 33 = .ok (.goto (-29), 3) := dk_167 255 227 (dk_at dksX6_caughtFrom_1 10 rfl rfl)
theorem dX6_caughtFrom_36 : decode cX6_caughtFrom 36 = .ok (.iload_n 2, 1) := dk_28 (dk_at dksX6_caughtFrom_1 13 rfl rfl)
theorem dX6_caughtFrom_37 : decode cX6_caughtFrom 37 = .ok (.ireturn, 1) := dk_172 (dk_at dksX6_caughtFrom_1 14 rfl rfl)
abbrev cX6_alike : ByteArray := prog_22_method_118_code
def yX6_alike : MethodName := ⟨RX6, "alike", "(II)I"⟩
def dkwX6_alike_3 : List UInt8 := [182, 1, 213, 42, 27, 29, 182, 1, 213, 162, 0, 6, 21, 4, 62, 132, 4, 1, 167, 255, 214, 29, 172]
abbrev dktX6_alike_3 : List UInt8 := dkwX6_alike_3 ++ []
def dkwX6_alike_2 : List UInt8 := [42, 180, 0, 135, 162, 0, 39, 21, 4, 27, 159, 0, 27, 29, 2, 159, 0, 19, 42, 27, 21, 4]
abbrev dktX6_alike_2 : List UInt8 := dkwX6_alike_2 ++ dktX6_alike_3
def dkwX6_alike_1 : List UInt8 := [154, 0, 5, 2, 172, 28, 2, 159, 0, 10, 42, 27, 28, 182, 1, 213, 172, 2, 62, 3, 54, 4, 21, 4]
abbrev dktX6_alike_1 : List UInt8 := dkwX6_alike_1 ++ dktX6_alike_2
def dkwX6_alike_0 : List UInt8 := [42, 3, 181, 0, 122, 42, 27, 182, 0, 153, 153, 0, 16, 28, 2, 159, 0, 13, 42, 28, 182, 0, 153]
abbrev dktX6_alike_0 : List UInt8 := dkwX6_alike_0 ++ dktX6_alike_1
theorem dksX6_alike_0 : cX6_alike.data.toList.drop 0 = dktX6_alike_0 := by decide +kernel
theorem dksX6_alike_1 : cX6_alike.data.toList.drop 23 = dktX6_alike_1 := dk_seg dksX6_alike_0 23 rfl rfl
theorem dksX6_alike_2 : cX6_alike.data.toList.drop 47 = dktX6_alike_2 := dk_seg dksX6_alike_1 24 rfl rfl
theorem dksX6_alike_3 : cX6_alike.data.toList.drop 69 = dktX6_alike_3 := dk_seg dksX6_alike_2 22 rfl rfl
theorem dX6_alike_0 : decode cX6_alike 0 = .ok (.aload_n 0, 1) := dk_42 (dk_at dksX6_alike_0 0 rfl rfl)
theorem dX6_alike_1 : decode cX6_alike 1 = .ok (.iconst 0, 1) := dk_3 (dk_at dksX6_alike_0 1 rfl rfl)
theorem dX6_alike_2 : decode cX6_alike 2 = .ok (.putfield 122, 3) := dk_181 0 122 (dk_at dksX6_alike_0 2 rfl rfl)
theorem dX6_alike_5 : decode cX6_alike 5 = .ok (.aload_n 0, 1) := dk_42 (dk_at dksX6_alike_0 5 rfl rfl)
theorem dX6_alike_6 : decode cX6_alike 6 = .ok (.iload_n 1, 1) := dk_27 (dk_at dksX6_alike_0 6 rfl rfl)
theorem dX6_alike_7 : decode cX6_alike 7 = .ok (.invokevirtual 153, 3) := dk_182 0 153 (dk_at dksX6_alike_0 7 rfl rfl)
theorem dX6_alike_10 : decode cX6_alike 10 = .ok (.ifCond .eq 16, 3) := dk_153 0 16 (dk_at dksX6_alike_0 10 rfl rfl)
theorem dX6_alike_13 : decode cX6_alike 13 = .ok (.iload_n 2, 1) := dk_28 (dk_at dksX6_alike_0 13 rfl rfl)
theorem dX6_alike_14 : decode cX6_alike 14 = .ok (.iconst (-1), 1) := dk_2 (dk_at dksX6_alike_0 14 rfl rfl)
theorem dX6_alike_15 : decode cX6_alike 15 = .ok (.if_icmp .eq 13, 3) := dk_159 0 13 (dk_at dksX6_alike_0 15 rfl rfl)
theorem dX6_alike_18 : decode cX6_alike 18 = .ok (.aload_n 0, 1) := dk_42 (dk_at dksX6_alike_0 18 rfl rfl)
theorem dX6_alike_19 : decode cX6_alike 19 = .ok (.iload_n 2, 1) := dk_28 (dk_at dksX6_alike_0 19 rfl rfl)
theorem dX6_alike_20 : decode cX6_alike 20 = .ok (.invokevirtual 153, 3) := dk_182 0 153 (dk_at dksX6_alike_0 20 rfl rfl)
theorem dX6_alike_23 : decode cX6_alike 23 = .ok (.ifCond .ne 5, 3) := dk_154 0 5 (dk_at dksX6_alike_1 0 rfl rfl)
theorem dX6_alike_26 : decode cX6_alike 26 = .ok (.iconst (-1), 1) := dk_2 (dk_at dksX6_alike_1 3 rfl rfl)
theorem dX6_alike_27 : decode cX6_alike 27 = .ok (.ireturn, 1) := dk_172 (dk_at dksX6_alike_1 4 rfl rfl)
theorem dX6_alike_28 : decode cX6_alike 28 = .ok (.iload_n 2, 1) := dk_28 (dk_at dksX6_alike_1 5 rfl rfl)
theorem dX6_alike_29 : decode cX6_alike 29 = .ok (.iconst (-1), 1) := dk_2 (dk_at dksX6_alike_1 6 rfl rfl)
theorem dX6_alike_30 : decode cX6_alike 30 = .ok (.if_icmp .eq 10, 3) := dk_159 0 10 (dk_at dksX6_alike_1 7 rfl rfl)
theorem dX6_alike_33 : decode cX6_alike 33 = .ok (.aload_n 0, 1) := dk_42 (dk_at dksX6_alike_1 10 rfl rfl)
theorem dX6_alike_34 : decode cX6_alike 34 = .ok (.iload_n 1, 1) := dk_27 (dk_at dksX6_alike_1 11 rfl rfl)
theorem dX6_alike_35 : decode cX6_alike 35 = .ok (.iload_n 2, 1) := dk_28 (dk_at dksX6_alike_1 12 rfl rfl)
theorem dX6_alike_36 : decode cX6_alike 36 = .ok (.invokevirtual 469, 3) := dk_182 1 213 (dk_at dksX6_alike_1 13 rfl rfl)
theorem dX6_alike_39 : decode cX6_alike 39 = .ok (.ireturn, 1) := dk_172 (dk_at dksX6_alike_1 16 rfl rfl)
theorem dX6_alike_40 : decode cX6_alike 40 = .ok (.iconst (-1), 1) := dk_2 (dk_at dksX6_alike_1 17 rfl rfl)
theorem dX6_alike_41 : decode cX6_alike 41 = .ok (.istore_n 3, 1) := dk_62 (dk_at dksX6_alike_1 18 rfl rfl)
theorem dX6_alike_42 : decode cX6_alike 42 = .ok (.iconst 0, 1) := dk_3 (dk_at dksX6_alike_1 19 rfl rfl)
theorem dX6_alike_43 : decode cX6_alike 43 = .ok (.istore 4, 2) := dk_54 4 (dk_at dksX6_alike_1 20 rfl rfl)
theorem dX6_alike_45 : decode cX6_alike 45 = .ok (.iload 4, 2) := dk_21 4 (dk_at dksX6_alike_1 22 rfl rfl)
theorem dX6_alike_47 : decode cX6_alike 47 = .ok (.aload_n 0, 1) := dk_42 (dk_at dksX6_alike_2 0 rfl rfl)
theorem dX6_alike_48 : decode cX6_alike 48 = .ok (.getfield 135, 3) := dk_180 0 135 (dk_at dksX6_alike_2 1 rfl rfl)
theorem dX6_alike_51 : decode cX6_alike 51 = .ok (.if_icmp .ge 39, 3) := dk_162 0 39 (dk_at dksX6_alike_2 4 rfl rfl)
theorem dX6_alike_54 : decode cX6_alike 54 = .ok (.iload 4, 2) := dk_21 4 (dk_at dksX6_alike_2 7 rfl rfl)
theorem dX6_alike_56 : decode cX6_alike 56 = .ok (.iload_n 1, 1) := dk_27 (dk_at dksX6_alike_2 9 rfl rfl)
theorem dX6_alike_57 : decode cX6_alike 57 = .ok (.if_icmp .eq 27, 3) := dk_159 0 27 (dk_at dksX6_alike_2 10 rfl rfl)
theorem dX6_alike_60 : decode cX6_alike 60 = .ok (.iload_n 3, 1) := dk_29 (dk_at dksX6_alike_2 13 rfl rfl)
theorem dX6_alike_61 : decode cX6_alike 61 = .ok (.iconst (-1), 1) := dk_2 (dk_at dksX6_alike_2 14 rfl rfl)
theorem dX6_alike_62 : decode cX6_alike 62 = .ok (.if_icmp .eq 19, 3) := dk_159 0 19 (dk_at dksX6_alike_2 15 rfl rfl)
theorem dX6_alike_65 : decode cX6_alike 65 = .ok (.aload_n 0, 1) := dk_42 (dk_at dksX6_alike_2 18 rfl rfl)
theorem dX6_alike_66 : decode cX6_alike 66 = .ok (.iload_n 1, 1) := dk_27 (dk_at dksX6_alike_2 19 rfl rfl)
theorem dX6_alike_67 : decode cX6_alike 67 = .ok (.iload 4, 2) := dk_21 4 (dk_at dksX6_alike_2 20 rfl rfl)
theorem dX6_alike_69 : decode cX6_alike 69 = .ok (.invokevirtual 469, 3) := dk_182 1 213 (dk_at dksX6_alike_3 0 rfl rfl)
theorem dX6_alike_72 : decode cX6_alike 72 = .ok (.aload_n 0, 1) := dk_42 (dk_at dksX6_alike_3 3 rfl rfl)
theorem dX6_alike_73 : decode cX6_alike 73 = .ok (.iload_n 1, 1) := dk_27 (dk_at dksX6_alike_3 4 rfl rfl)
theorem dX6_alike_74 : decode cX6_alike 74 = .ok (.iload_n 3, 1) := dk_29 (dk_at dksX6_alike_3 5 rfl rfl)
theorem dX6_alike_75 : decode cX6_alike 75 = .ok (.invokevirtual 469, 3) := dk_182 1 213 (dk_at dksX6_alike_3 6 rfl rfl)
theorem dX6_alike_78 : decode cX6_alike 78 = .ok (.if_icmp .ge 6, 3) := dk_162 0 6 (dk_at dksX6_alike_3 9 rfl rfl)
theorem dX6_alike_81 : decode cX6_alike 81 = .ok (.iload 4, 2) := dk_21 4 (dk_at dksX6_alike_3 12 rfl rfl)
theorem dX6_alike_83 : decode cX6_alike 83 = .ok (.istore_n 3, 1) := dk_62 (dk_at dksX6_alike_3 14 rfl rfl)
theorem dX6_alike_84 : decode cX6_alike 84 = .ok (.iinc 4 1, 3) := dk_132 4 1 (dk_at dksX6_alike_3 15 rfl rfl)
theorem dX6_alike_87 : decode cX6_alike 87 = .ok (.goto (-42), 3) := dk_167 255 214 (dk_at dksX6_alike_3 18 rfl rfl)
theorem dX6_alike_90 : decode cX6_alike 90 = .ok (.iload_n 3, 1) := dk_29 (dk_at dksX6_alike_3 21 rfl rfl)
theorem dX6_alike_91 : decode cX6_alike 91 = .ok (.ireturn, 1) := dk_172 (dk_at dksX6_alike_3 22 rfl rfl)
abbrev cX6_unlike : ByteArray := prog_22_method_117_code
def yX6_unlike : MethodName := ⟨RX6, "unlike", "(II)I"⟩
def dkwX6_unlike_1 : List UInt8 := [182, 1, 63, 182, 1, 210, 96, 62, 132, 4, 1, 167, 255, 226, 29, 172]
abbrev dktX6_unlike_1 : List UInt8 := dkwX6_unlike_1 ++ []
def dkwX6_unlike_0 : List UInt8 := [3, 62, 3, 54, 4, 21, 4, 8, 162, 0, 30, 29, 42, 42, 27, 21, 4, 182, 1, 63, 42, 28, 21, 4]
abbrev dktX6_unlike_0 : List UInt8 := dkwX6_unlike_0 ++ dktX6_unlike_1
theorem dksX6_unlike_0 : cX6_unlike.data.toList.drop 0 = dktX6_unlike_0 := by decide +kernel
theorem dksX6_unlike_1 : cX6_unlike.data.toList.drop 24 = dktX6_unlike_1 := dk_seg dksX6_unlike_0 24 rfl rfl
theorem dX6_unlike_0 : decode cX6_unlike 0 = .ok (.iconst 0, 1) := dk_3 (dk_at dksX6_unlike_0 0 rfl rfl)
theorem dX6_unlike_1 : decode cX6_unlike 1 = .ok (.istore_n 3, 1) := dk_62 (dk_at dksX6_unlike_0 1 rfl rfl)
theorem dX6_unlike_2 : decode cX6_unlike 2 = .ok (.iconst 0, 1) := dk_3 (dk_at dksX6_unlike_0 2 rfl rfl)
theorem dX6_unlike_3 : decode cX6_unlike 3 = .ok (.istore 4, 2) := dk_54 4 (dk_at dksX6_unlike_0 3 rfl rfl)
theorem dX6_unlike_5 : decode cX6_unlike 5 = .ok (.iload 4, 2) := dk_21 4 (dk_at dksX6_unlike_0 5 rfl rfl)
theorem dX6_unlike_7 : decode cX6_unlike 7 = .ok (.iconst 5, 1) := dk_8 (dk_at dksX6_unlike_0 7 rfl rfl)
theorem dX6_unlike_8 : decode cX6_unlike 8 = .ok (.if_icmp .ge 30, 3) := dk_162 0 30 (dk_at dksX6_unlike_0 8 rfl rfl)
theorem dX6_unlike_11 : decode cX6_unlike 11 = .ok (.iload_n 3, 1) := dk_29 (dk_at dksX6_unlike_0 11 rfl rfl)
theorem dX6_unlike_12 : decode cX6_unlike 12 = .ok (.aload_n 0, 1) := dk_42 (dk_at dksX6_unlike_0 12 rfl rfl)
theorem dX6_unlike_13 : decode cX6_unlike 13 = .ok (.aload_n 0, 1) := dk_42 (dk_at dksX6_unlike_0 13 rfl rfl)
theorem dX6_unlike_14 : decode cX6_unlike 14 = .ok (.iload_n 1, 1) := dk_27 (dk_at dksX6_unlike_0 14 rfl rfl)
theorem dX6_unlike_15 : decode cX6_unlike 15 = .ok (.iload 4, 2) := dk_21 4 (dk_at dksX6_unlike_0 15 rfl rfl)
theorem dX6_unlike_17 : decode cX6_unlike 17 = .ok (.invokevirtual 319, 3) := dk_182 1 63 (dk_at dksX6_unlike_0 17 rfl rfl)
theorem dX6_unlike_20 : decode cX6_unlike 20 = .ok (.aload_n 0, 1) := dk_42 (dk_at dksX6_unlike_0 20 rfl rfl)
theorem dX6_unlike_21 : decode cX6_unlike 21 = .ok (.iload_n 2, 1) := dk_28 (dk_at dksX6_unlike_0 21 rfl rfl)
theorem dX6_unlike_22 : decode cX6_unlike 22 = .ok (.iload 4, 2) := dk_21 4 (dk_at dksX6_unlike_0 22 rfl rfl)
theorem dX6_unlike_24 : decode cX6_unlike 24 = .ok (.invokevirtual 319, 3) := dk_182 1 63 (dk_at dksX6_unlike_1 0 rfl rfl)
theorem dX6_unlike_27 : decode cX6_unlike 27 = .ok (.invokevirtual 466, 3) := dk_182 1 210 (dk_at dksX6_unlike_1 3 rfl rfl)
theorem dX6_unlike_30 : decode cX6_unlike 30 = .ok (.iadd, 1) := dk_96 (dk_at dksX6_unlike_1 6 rfl rfl)
theorem dX6_unlike_31 : decode cX6_unlike 31 = .ok (.istore_n 3, 1) := dk_62 (dk_at dksX6_unlike_1 7 rfl rfl)
theorem dX6_unlike_32 : decode cX6_unlike 32 = .ok (.iinc 4 1, 3) := dk_132 4 1 (dk_at dksX6_unlike_1 8 rfl rfl)
theorem dX6_unlike_35 : decode cX6_unlike 35 = .ok (.goto (-30), 3) := dk_167 255 226 (dk_at dksX6_unlike_1 11 rfl rfl)
theorem dX6_unlike_38 : decode cX6_unlike 38 = .ok (.iload_n 3, 1) := dk_29 (dk_at dksX6_unlike_1 14 rfl rfl)
theorem dX6_unlike_39 : decode cX6_unlike 39 = .ok (.ireturn, 1) := dk_172 (dk_at dksX6_unlike_1 15 rfl rfl)
abbrev cX6_apart : ByteArray := prog_22_method_7_code
def yX6_apart : MethodName := ⟨RX6, "apart", "(II)I"⟩
def dkwX6_apart_0 : List UInt8 := [27, 28, 164, 0, 9, 27, 28, 100, 167, 0, 6, 28, 27, 100, 172]
abbrev dktX6_apart_0 : List UInt8 := dkwX6_apart_0 ++ []
theorem dksX6_apart_0 : cX6_apart.data.toList.drop 0 = dktX6_apart_0 := by decide +kernel
theorem dX6_apart_0 : decode cX6_apart 0 = .ok (.iload_n 1, 1) := dk_27 (dk_at dksX6_apart_0 0 rfl rfl)
theorem dX6_apart_1 : decode cX6_apart 1 = .ok (.iload_n 2, 1) := dk_28 (dk_at dksX6_apart_0 1 rfl rfl)
theorem dX6_apart_2 : decode cX6_apart 2 = .ok (.if_icmp .le 9, 3) := dk_164 0 9 (dk_at dksX6_apart_0 2 rfl rfl)
theorem dX6_apart_5 : decode cX6_apart 5 = .ok (.iload_n 1, 1) := dk_27 (dk_at dksX6_apart_0 5 rfl rfl)
theorem dX6_apart_6 : decode cX6_apart 6 = .ok (.iload_n 2, 1) := dk_28 (dk_at dksX6_apart_0 6 rfl rfl)
theorem dX6_apart_7 : decode cX6_apart 7 = .ok (.isub, 1) := dk_100 (dk_at dksX6_apart_0 7 rfl rfl)
theorem dX6_apart_8 : decode cX6_apart 8 = .ok (.goto 6, 3) := dk_167 0 6 (dk_at dksX6_apart_0 8 rfl rfl)
theorem dX6_apart_11 : decode cX6_apart 11 = .ok (.iload_n 2, 1) := dk_28 (dk_at dksX6_apart_0 11 rfl rfl)
theorem dX6_apart_12 : decode cX6_apart 12 = .ok (.iload_n 1, 1) := dk_27 (dk_at dksX6_apart_0 12 rfl rfl)
theorem dX6_apart_13 : decode cX6_apart 13 = .ok (.isub, 1) := dk_100 (dk_at dksX6_apart_0 13 rfl rfl)
theorem dX6_apart_14 : decode cX6_apart 14 = .ok (.ireturn, 1) := dk_172 (dk_at dksX6_apart_0 14 rfl rfl)
abbrev cX6_herd : ByteArray := prog_22_method_119_code
def yX6_herd : MethodName := ⟨RX6, "herd", "(I)I"⟩
def dkwX6_herd_2 : List UInt8 := [180, 1, 216, 27, 79, 42, 42, 180, 1, 216, 4, 96, 181, 1, 216, 42, 180, 1, 216, 172]
abbrev dktX6_herd_2 : List UInt8 := dkwX6_herd_2 ++ []
def dkwX6_herd_1 : List UInt8 := [182, 0, 145, 153, 0, 12, 42, 180, 1, 216, 16, 7, 160, 0, 5, 2, 172, 42, 180, 0, 107, 42]
abbrev dktX6_herd_1 : List UInt8 := dkwX6_herd_1 ++ dktX6_herd_2
def dkwX6_herd_0 : List UInt8 := [42, 3, 181, 0, 122, 27, 2, 160, 0, 10, 42, 3, 181, 1, 216, 3, 172, 42, 27, 4, 16, 30]
abbrev dktX6_herd_0 : List UInt8 := dkwX6_herd_0 ++ dktX6_herd_1
theorem dksX6_herd_0 : cX6_herd.data.toList.drop 0 = dktX6_herd_0 := by decide +kernel
theorem dksX6_herd_1 : cX6_herd.data.toList.drop 22 = dktX6_herd_1 := dk_seg dksX6_herd_0 22 rfl rfl
theorem dksX6_herd_2 : cX6_herd.data.toList.drop 44 = dktX6_herd_2 := dk_seg dksX6_herd_1 22 rfl rfl
theorem dX6_herd_0 : decode cX6_herd 0 = .ok (.aload_n 0, 1) := dk_42 (dk_at dksX6_herd_0 0 rfl rfl)
theorem dX6_herd_1 : decode cX6_herd 1 = .ok (.iconst 0, 1) := dk_3 (dk_at dksX6_herd_0 1 rfl rfl)
theorem dX6_herd_2 : decode cX6_herd 2 = .ok (.putfield 122, 3) := dk_181 0 122 (dk_at dksX6_herd_0 2 rfl rfl)
theorem dX6_herd_5 : decode cX6_herd 5 = .ok (.iload_n 1, 1) := dk_27 (dk_at dksX6_herd_0 5 rfl rfl)
theorem dX6_herd_6 : decode cX6_herd 6 = .ok (.iconst (-1), 1) := dk_2 (dk_at dksX6_herd_0 6 rfl rfl)
theorem dX6_herd_7 : decode cX6_herd 7 = .ok (.if_icmp .ne 10, 3) := dk_160 0 10 (dk_at dksX6_herd_0 7 rfl rfl)
theorem dX6_herd_10 : decode cX6_herd 10 = .ok (.aload_n 0, 1) := dk_42 (dk_at dksX6_herd_0 10 rfl rfl)
theorem dX6_herd_11 : decode cX6_herd 11 = .ok (.iconst 0, 1) := dk_3 (dk_at dksX6_herd_0 11 rfl rfl)
theorem dX6_herd_12 : decode cX6_herd 12 = .ok (.putfield 472, 3) := dk_181 1 216 (dk_at dksX6_herd_0 12 rfl rfl)
theorem dX6_herd_15 : decode cX6_herd 15 = .ok (.iconst 0, 1) := dk_3 (dk_at dksX6_herd_0 15 rfl rfl)
theorem dX6_herd_16 : decode cX6_herd 16 = .ok (.ireturn, 1) := dk_172 (dk_at dksX6_herd_0 16 rfl rfl)
theorem dX6_herd_17 : decode cX6_herd 17 = .ok (.aload_n 0, 1) := dk_42 (dk_at dksX6_herd_0 17 rfl rfl)
theorem dX6_herd_18 : decode cX6_herd 18 = .ok (.iload_n 1, 1) := dk_27 (dk_at dksX6_herd_0 18 rfl rfl)
theorem dX6_herd_19 : decode cX6_herd 19 = .ok (.iconst 1, 1) := dk_4 (dk_at dksX6_herd_0 19 rfl rfl)
theorem dX6_herd_20 : decode cX6_herd 20 = .ok (.bipush 30, 2) := dk_16 30 (dk_at dksX6_herd_0 20 rfl rfl)
theorem dX6_herd_22 : decode cX6_herd 22 = .ok (.invokevirtual 145, 3) := dk_182 0 145 (dk_at dksX6_herd_1 0 rfl rfl)
theorem dX6_herd_25 : decode cX6_herd 25 = .ok (.ifCond .eq 12, 3) := dk_153 0 12 (dk_at dksX6_herd_1 3 rfl rfl)
theorem dX6_herd_28 : decode cX6_herd 28 = .ok (.aload_n 0, 1) := dk_42 (dk_at dksX6_herd_1 6 rfl rfl)
theorem dX6_herd_29 : decode cX6_herd 29 = .ok (.getfield 472, 3) := dk_180 1 216 (dk_at dksX6_herd_1 7 rfl rfl)
theorem dX6_herd_32 : decode cX6_herd 32 = .ok (.bipush 7, 2) := dk_16 7 (dk_at dksX6_herd_1 10 rfl rfl)
theorem dX6_herd_34 : decode cX6_herd 34 = .ok (.if_icmp .ne 5, 3) := dk_160 0 5 (dk_at dksX6_herd_1 12 rfl rfl)
theorem dX6_herd_37 : decode cX6_herd 37 = .ok (.iconst (-1), 1) := dk_2 (dk_at dksX6_herd_1 15 rfl rfl)
theorem dX6_herd_38 : decode cX6_herd 38 = .ok (.ireturn, 1) := dk_172 (dk_at dksX6_herd_1 16 rfl rfl)
theorem dX6_herd_39 : decode cX6_herd 39 = .ok (.aload_n 0, 1) := dk_42 (dk_at dksX6_herd_1 17 rfl rfl)
theorem dX6_herd_40 : decode cX6_herd 40 = .ok (.getfield 107, 3) := dk_180 0 107 (dk_at dksX6_herd_1 18 rfl rfl)
theorem dX6_herd_43 : decode cX6_herd 43 = .ok (.aload_n 0, 1) := dk_42 (dk_at dksX6_herd_1 21 rfl rfl)
theorem dX6_herd_44 : decode cX6_herd 44 = .ok (.getfield 472, 3) := dk_180 1 216 (dk_at dksX6_herd_2 0 rfl rfl)
theorem dX6_herd_47 : decode cX6_herd 47 = .ok (.iload_n 1, 1) := dk_27 (dk_at dksX6_herd_2 3 rfl rfl)
theorem dX6_herd_48 : decode cX6_herd 48 = .ok (.iastore, 1) := dk_79 (dk_at dksX6_herd_2 4 rfl rfl)
theorem dX6_herd_49 : decode cX6_herd 49 = .ok (.aload_n 0, 1) := dk_42 (dk_at dksX6_herd_2 5 rfl rfl)
theorem dX6_herd_50 : decode cX6_herd 50 = .ok (.aload_n 0, 1) := dk_42 (dk_at dksX6_herd_2 6 rfl rfl)
theorem dX6_herd_51 : decode cX6_herd 51 = .ok (.getfield 472, 3) := dk_180 1 216 (dk_at dksX6_herd_2 7 rfl rfl)
theorem dX6_herd_54 : decode cX6_herd 54 = .ok (.iconst 1, 1) := dk_4 (dk_at dksX6_herd_2 10 rfl rfl)
theorem dX6_herd_55 : decode cX6_herd 55 = .ok (.iadd, 1) := dk_96 (dk_at dksX6_herd_2 11 rfl rfl)
theorem dX6_herd_56 : decode cX6_herd 56 = .ok (.putfield 472, 3) := dk_181 1 216 (dk_at dksX6_herd_2 12 rfl rfl)
theorem dX6_herd_59 : decode cX6_herd 59 = .ok (.aload_n 0, 1) := dk_42 (dk_at dksX6_herd_2 15 rfl rfl)
theorem dX6_herd_60 : decode cX6_herd 60 = .ok (.getfield 472, 3) := dk_180 1 216 (dk_at dksX6_herd_2 16 rfl rfl)
theorem dX6_herd_63 : decode cX6_herd 63 = .ok (.ireturn, 1) := dk_172 (dk_at dksX6_herd_2 19 rfl rfl)
abbrev cX6_pens : ByteArray := prog_22_method_121_code
def yX6_pens : MethodName := ⟨RX6, "pens", "(II)I"⟩
def dkwX6_pens_4 : List UInt8 := [17, 3, 232, 108, 167, 0, 9, 21, 4, 17, 3, 232, 112, 172]
abbrev dktX6_pens_4 : List UInt8 := dkwX6_pens_4 ++ []
def dkwX6_pens_3 : List UInt8 := [21, 5, 27, 182, 1, 219, 182, 1, 92, 54, 4, 132, 5, 1, 167, 255, 232, 28, 154, 0, 12, 21, 4]
abbrev dktX6_pens_3 : List UInt8 := dkwX6_pens_3 ++ dktX6_pens_4
def dkwX6_pens_2 : List UInt8 := [132, 4, 1, 167, 255, 240, 19, 1, 202, 54, 4, 3, 54, 5, 21, 5, 29, 162, 0, 24, 42, 21, 4, 42]
abbrev dktX6_pens_2 : List UInt8 := dkwX6_pens_2 ++ dktX6_pens_3
def dkwX6_pens_1 : List UInt8 := [154, 0, 5, 2, 172, 4, 62, 3, 54, 4, 21, 4, 42, 180, 1, 216, 162, 0, 13, 29, 27, 104, 62]
abbrev dktX6_pens_1 : List UInt8 := dkwX6_pens_1 ++ dktX6_pens_2
def dkwX6_pens_0 : List UInt8 := [42, 3, 181, 0, 122, 42, 27, 4, 7, 182, 0, 145, 153, 0, 13, 42, 28, 3, 4, 182, 0, 145]
abbrev dktX6_pens_0 : List UInt8 := dkwX6_pens_0 ++ dktX6_pens_1
theorem dksX6_pens_0 : cX6_pens.data.toList.drop 0 = dktX6_pens_0 := by decide +kernel
theorem dksX6_pens_1 : cX6_pens.data.toList.drop 22 = dktX6_pens_1 := dk_seg dksX6_pens_0 22 rfl rfl
theorem dksX6_pens_2 : cX6_pens.data.toList.drop 45 = dktX6_pens_2 := dk_seg dksX6_pens_1 23 rfl rfl
theorem dksX6_pens_3 : cX6_pens.data.toList.drop 69 = dktX6_pens_3 := dk_seg dksX6_pens_2 24 rfl rfl
theorem dksX6_pens_4 : cX6_pens.data.toList.drop 92 = dktX6_pens_4 := dk_seg dksX6_pens_3 23 rfl rfl
theorem dX6_pens_0 : decode cX6_pens 0 = .ok (.aload_n 0, 1) := dk_42 (dk_at dksX6_pens_0 0 rfl rfl)
theorem dX6_pens_1 : decode cX6_pens 1 = .ok (.iconst 0, 1) := dk_3 (dk_at dksX6_pens_0 1 rfl rfl)
theorem dX6_pens_2 : decode cX6_pens 2 = .ok (.putfield 122, 3) := dk_181 0 122 (dk_at dksX6_pens_0 2 rfl rfl)
theorem dX6_pens_5 : decode cX6_pens 5 = .ok (.aload_n 0, 1) := dk_42 (dk_at dksX6_pens_0 5 rfl rfl)
theorem dX6_pens_6 : decode cX6_pens 6 = .ok (.iload_n 1, 1) := dk_27 (dk_at dksX6_pens_0 6 rfl rfl)
theorem dX6_pens_7 : decode cX6_pens 7 = .ok (.iconst 1, 1) := dk_4 (dk_at dksX6_pens_0 7 rfl rfl)
theorem dX6_pens_8 : decode cX6_pens 8 = .ok (.iconst 4, 1) := dk_7 (dk_at dksX6_pens_0 8 rfl rfl)
theorem dX6_pens_9 : decode cX6_pens 9 = .ok (.invokevirtual 145, 3) := dk_182 0 145 (dk_at dksX6_pens_0 9 rfl rfl)
theorem dX6_pens_12 : decode cX6_pens 12 = .ok (.ifCond .eq 13, 3) := dk_153 0 13 (dk_at dksX6_pens_0 12 rfl rfl)
theorem dX6_pens_15 : decode cX6_pens 15 = .ok (.aload_n 0, 1) := dk_42 (dk_at dksX6_pens_0 15 rfl rfl)
theorem dX6_pens_16 : decode cX6_pens 16 = .ok (.iload_n 2, 1) := dk_28 (dk_at dksX6_pens_0 16 rfl rfl)
theorem dX6_pens_17 : decode cX6_pens 17 = .ok (.iconst 0, 1) := dk_3 (dk_at dksX6_pens_0 17 rfl rfl)
theorem dX6_pens_18 : decode cX6_pens 18 = .ok (.iconst 1, 1) := dk_4 (dk_at dksX6_pens_0 18 rfl rfl)
theorem dX6_pens_19 : decode cX6_pens 19 = .ok (.invokevirtual 145, 3) := dk_182 0 145 (dk_at dksX6_pens_0 19 rfl rfl)
theorem dX6_pens_22 : decode cX6_pens 22 = .ok (.ifCond .ne 5, 3) := dk_154 0 5 (dk_at dksX6_pens_1 0 rfl rfl)
theorem dX6_pens_25 : decode cX6_pens 25 = .ok (.iconst (-1), 1) := dk_2 (dk_at dksX6_pens_1 3 rfl rfl)
theorem dX6_pens_26 : decode cX6_pens 26 = .ok (.ireturn, 1) := dk_172 (dk_at dksX6_pens_1 4 rfl rfl)
theorem dX6_pens_27 : decode cX6_pens 27 = .ok (.iconst 1, 1) := dk_4 (dk_at dksX6_pens_1 5 rfl rfl)
theorem dX6_pens_28 : decode cX6_pens 28 = .ok (.istore_n 3, 1) := dk_62 (dk_at dksX6_pens_1 6 rfl rfl)
theorem dX6_pens_29 : decode cX6_pens 29 = .ok (.iconst 0, 1) := dk_3 (dk_at dksX6_pens_1 7 rfl rfl)
theorem dX6_pens_30 : decode cX6_pens 30 = .ok (.istore 4, 2) := dk_54 4 (dk_at dksX6_pens_1 8 rfl rfl)
theorem dX6_pens_32 : decode cX6_pens 32 = .ok (.iload 4, 2) := dk_21 4 (dk_at dksX6_pens_1 10 rfl rfl)
theorem dX6_pens_34 : decode cX6_pens 34 = .ok (.aload_n 0, 1) := dk_42 (dk_at dksX6_pens_1 12 rfl rfl)
theorem dX6_pens_35 : decode cX6_pens 35 = .ok (.getfield 472, 3) := dk_180 1 216 (dk_at dksX6_pens_1 13 rfl rfl)
theorem dX6_pens_38 : decode cX6_pens 38 = .ok (.if_icmp .ge 13, 3) := dk_162 0 13 (dk_at dksX6_pens_1 16 rfl rfl)
theorem dX6_pens_41 : decode cX6_pens 41 = .ok (.iload_n 3, 1) := dk_29 (dk_at dksX6_pens_1 19 rfl rfl)
theorem dX6_pens_42 : decode cX6_pens 42 = .ok (.iload_n 1, 1) := dk_27 (dk_at dksX6_pens_1 20 rfl rfl)
theorem dX6_pens_43 : decode cX6_pens 43 = .ok (.imul, 1) := dk_104 (dk_at dksX6_pens_1 21 rfl rfl)
theorem dX6_pens_44 : decode cX6_pens 44 = .ok (.istore_n 3, 1) := dk_62 (dk_at dksX6_pens_1 22 rfl rfl)
theorem dX6_pens_45 : decode cX6_pens 45 = .ok (.iinc 4 1, 3) := dk_132 4 1 (dk_at dksX6_pens_2 0 rfl rfl)
theorem dX6_pens_48 : decode cX6_pens 48 = .ok (.goto (-16), 3) := dk_167 255 240 (dk_at dksX6_pens_2 3 rfl rfl)
theorem dX6_pens_51 : decode cX6_pens 51 = .ok (.ldc_w 458, 3) := dk_19 1 202 (dk_at dksX6_pens_2 6 rfl rfl)
theorem dX6_pens_54 : decode cX6_pens 54 = .ok (.istore 4, 2) := dk_54 4 (dk_at dksX6_pens_2 9 rfl rfl)
theorem dX6_pens_56 : decode cX6_pens 56 = .ok (.iconst 0, 1) := dk_3 (dk_at dksX6_pens_2 11 rfl rfl)
theorem dX6_pens_57 : decode cX6_pens 57 = .ok (.istore 5, 2) := dk_54 5 (dk_at dksX6_pens_2 12 rfl rfl)
theorem dX6_pens_59 : decode cX6_pens 59 = .ok (.iload 5, 2) := dk_21 5 (dk_at dksX6_pens_2 14 rfl rfl)
theorem dX6_pens_61 : decode cX6_pens 61 = .ok (.iload_n 3, 1) := dk_29 (dk_at dksX6_pens_2 16 rfl rfl)
theorem dX6_pens_62 : decode cX6_pens 62 = .ok (.if_icmp .ge 24, 3) := dk_162 0 24 (dk_at dksX6_pens_2 17 rfl rfl)
theorem dX6_pens_65 : decode cX6_pens 65 = .ok (.aload_n 0, 1) := dk_42 (dk_at dksX6_pens_2 20 rfl rfl)
theorem dX6_pens_66 : decode cX6_pens 66 = .ok (.iload 4, 2) := dk_21 4 (dk_at dksX6_pens_2 21 rfl rfl)
theorem dX6_pens_68 : decode cX6_pens 68 = .ok (.aload_n 0, 1) := dk_42 (dk_at dksX6_pens_2 23 rfl rfl)
theorem dX6_pens_69 : decode cX6_pens 69 = .ok (.iload 5, 2) := dk_21 5 (dk_at dksX6_pens_3 0 rfl rfl)
theorem dX6_pens_71 : decode cX6_pens 71 = .ok (.iload_n 1, 1) := dk_27 (dk_at dksX6_pens_3 2 rfl rfl)
theorem dX6_pens_72 : decode cX6_pens 72 = .ok (.invokevirtual 475, 3) := dk_182 1 219 (dk_at dksX6_pens_3 3 rfl rfl)
theorem dX6_pens_75 : decode cX6_pens 75 = .ok (.invokevirtual 348, 3) := dk_182 1 92 (dk_at dksX6_pens_3 6 rfl rfl)
theorem dX6_pens_78 : decode cX6_pens 78 = .ok (.istore 4, 2) := dk_54 4 (dk_at dksX6_pens_3 9 rfl rfl)
theorem dX6_pens_80 : decode cX6_pens 80 = .ok (.iinc 5 1, 3) := dk_132 5 1 (dk_at dksX6_pens_3 11 rfl rfl)
theorem dX6_pens_83 : decode cX6_pens 83 = .ok (.goto (-24), 3) := dk_167 255 232 (dk_at dksX6_pens_3 14 rfl rfl)
theorem dX6_pens_86 : decode cX6_pens 86 = .ok (.iload_n 2, 1) := dk_28 (dk_at dksX6_pens_3 17 rfl rfl)
theorem dX6_pens_87 : decode cX6_pens 87 = .ok (.ifCond .ne 12, 3) := dk_154 0 12 (dk_at dksX6_pens_3 18 rfl rfl)
theorem dX6_pens_90 : decode cX6_pens 90 = .ok (.iload 4, 2) := dk_21 4 (dk_at dksX6_pens_3 21 rfl rfl)
theorem dX6_pens_92 : decode cX6_pens 92 = .ok (.sipush 1000, 3) := dk_17 3 232 (dk_at dksX6_pens_4 0 rfl rfl)
theorem dX6_pens_95 : decode cX6_pens 95 = .ok (.idiv, 1) := dk_108 (dk_at dksX6_pens_4 3 rfl rfl)
theorem dX6_pens_96 : decode cX6_pens 96 = .ok (.goto 9, 3) := dk_167 0 9 (dk_at dksX6_pens_4 4 rfl rfl)
theorem dX6_pens_99 : decode cX6_pens 99 = .ok (.iload 4, 2) := dk_21 4 (dk_at dksX6_pens_4 7 rfl rfl)
theorem dX6_pens_101 : decode cX6_pens 101 = .ok (.sipush 1000, 3) := dk_17 3 232 (dk_at dksX6_pens_4 9 rfl rfl)
theorem dX6_pens_104 : decode cX6_pens 104 = .ok (.irem, 1) := dk_112 (dk_at dksX6_pens_4 12 rfl rfl)
theorem dX6_pens_105 : decode cX6_pens 105 = .ok (.ireturn, 1) := dk_172 (dk_at dksX6_pens_4 13 rfl rfl)
abbrev cX6_sharingOf : ByteArray := prog_22_method_120_code
def yX6_sharingOf : MethodName := ⟨RX6, "sharingOf", "(II)I"⟩
def dkwX6_sharingOf_5 : List UInt8 := [167, 255, 217, 17, 3, 232, 21, 4, 104, 21, 4, 96, 21, 5, 100, 172]
abbrev dktX6_sharingOf_5 : List UInt8 := dkwX6_sharingOf_5 ++ []
def dkwX6_sharingOf_4 : List UInt8 := [182, 1, 184, 54, 4, 42, 21, 5, 42, 180, 0, 110, 21, 6, 46, 182, 1, 92, 54, 5, 132, 6, 1]
abbrev dktX6_sharingOf_4 : List UInt8 := dkwX6_sharingOf_4 ++ dktX6_sharingOf_5
def dkwX6_sharingOf_3 : List UInt8 := [19, 1, 202, 54, 5, 3, 54, 6, 21, 6, 28, 162, 0, 39, 42, 21, 4, 42, 180, 0, 110, 21, 6, 46]
abbrev dktX6_sharingOf_3 : List UInt8 := dkwX6_sharingOf_3 ++ dktX6_sharingOf_4
def dkwX6_sharingOf_2 : List UInt8 := [112, 46, 42, 180, 0, 107, 21, 4, 46, 96, 79, 29, 28, 108, 62, 132, 4, 1, 167, 255, 216, 3, 54, 4]
abbrev dktX6_sharingOf_2 : List UInt8 := dkwX6_sharingOf_2 ++ dktX6_sharingOf_3
def dkwX6_sharingOf_1 : List UInt8 := [54, 4, 21, 4, 42, 180, 1, 216, 162, 0, 37, 42, 180, 0, 110, 29, 28, 112, 42, 180, 0, 110, 29, 28]
abbrev dktX6_sharingOf_1 : List UInt8 := dkwX6_sharingOf_1 ++ dktX6_sharingOf_2
def dkwX6_sharingOf_0 : List UInt8 := [3, 62, 29, 28, 162, 0, 16, 42, 180, 0, 110, 29, 3, 79, 132, 3, 1, 167, 255, 241, 27, 62, 3]
abbrev dktX6_sharingOf_0 : List UInt8 := dkwX6_sharingOf_0 ++ dktX6_sharingOf_1
theorem dksX6_sharingOf_0 : cX6_sharingOf.data.toList.drop 0 = dktX6_sharingOf_0 := by decide +kernel
theorem dksX6_sharingOf_1 : cX6_sharingOf.data.toList.drop 23 = dktX6_sharingOf_1 := dk_seg dksX6_sharingOf_0 23 rfl rfl
theorem dksX6_sharingOf_2 : cX6_sharingOf.data.toList.drop 47 = dktX6_sharingOf_2 := dk_seg dksX6_sharingOf_1 24 rfl rfl
theorem dksX6_sharingOf_3 : cX6_sharingOf.data.toList.drop 71 = dktX6_sharingOf_3 := dk_seg dksX6_sharingOf_2 24 rfl rfl
theorem dksX6_sharingOf_4 : cX6_sharingOf.data.toList.drop 95 = dktX6_sharingOf_4 := dk_seg dksX6_sharingOf_3 24 rfl rfl
theorem dksX6_sharingOf_5 : cX6_sharingOf.data.toList.drop 118 = dktX6_sharingOf_5 := dk_seg dksX6_sharingOf_4 23 rfl rfl
theorem dX6_sharingOf_0 : decode cX6_sharingOf 0 = .ok (.iconst 0, 1) := dk_3 (dk_at dksX6_sharingOf_0 0 rfl rfl)
theorem dX6_sharingOf_1 : decode cX6_sharingOf 1 = .ok (.istore_n 3, 1) := dk_62 (dk_at dksX6_sharingOf_0 1 rfl rfl)
theorem dX6_sharingOf_2 : decode cX6_sharingOf 2 = .ok (.iload_n 3, 1) := dk_29 (dk_at dksX6_sharingOf_0 2 rfl rfl)
theorem dX6_sharingOf_3 : decode cX6_sharingOf 3 = .ok (.iload_n 2, 1) := dk_28 (dk_at dksX6_sharingOf_0 3 rfl rfl)
theorem dX6_sharingOf_4 : decode cX6_sharingOf 4 = .ok (.if_icmp .ge 16, 3) := dk_162 0 16 (dk_at dksX6_sharingOf_0 4 rfl rfl)
theorem dX6_sharingOf_7 : decode cX6_sharingOf 7 = .ok (.aload_n 0, 1) := dk_42 (dk_at dksX6_sharingOf_0 7 rfl rfl)
theorem dX6_sharingOf_8 : decode cX6_sharingOf 8 = .ok (.getfield 110, 3) := dk_180 0 110 (dk_at dksX6_sharingOf_0 8 rfl rfl)
theorem dX6_sharingOf_11 : decode cX6_sharingOf 11 = .ok (.iload_n 3, 1) := dk_29 (dk_at dksX6_sharingOf_0 11 rfl rfl)
theorem dX6_sharingOf_12 : decode cX6_sharingOf 12 = .ok (.iconst 0, 1) := dk_3 (dk_at dksX6_sharingOf_0 12 rfl rfl)
theorem dX6_sharingOf_13 : decode cX6_sharingOf 13 = .ok (.iastore, 1) := dk_79 (dk_at dksX6_sharingOf_0 13 rfl rfl)
theorem dX6_sharingOf_14 : decode cX6_sharingOf 14 = .ok (.iinc 3 1, 3) := dk_132 3 1 (dk_at dksX6_sharingOf_0 14 rfl rfl)
theorem dX6_sharingOf_17 : decode cX6_sharingOf 17 = .ok (.goto (-15), 3) := dk_167 255 241 (dk_at dksX6_sharingOf_0 17 rfl rfl)
theorem dX6_sharingOf_20 : decode cX6_sharingOf 20 = .ok (.iload_n 1, 1) := dk_27 (dk_at dksX6_sharingOf_0 20 rfl rfl)
theorem dX6_sharingOf_21 : decode cX6_sharingOf 21 = .ok (.istore_n 3, 1) := dk_62 (dk_at dksX6_sharingOf_0 21 rfl rfl)
theorem dX6_sharingOf_22 : decode cX6_sharingOf 22 = .ok (.iconst 0, 1) := dk_3 (dk_at dksX6_sharingOf_0 22 rfl rfl)
theorem dX6_sharingOf_23 : decode cX6_sharingOf 23 = .ok (.istore 4, 2) := dk_54 4 (dk_at dksX6_sharingOf_1 0 rfl rfl)
theorem dX6_sharingOf_25 : decode cX6_sharingOf 25 = .ok (.iload 4, 2) := dk_21 4 (dk_at dksX6_sharingOf_1 2 rfl rfl)
theorem dX6_sharingOf_27 : decode cX6_sharingOf 27 = .ok (.aload_n 0, 1) := dk_42 (dk_at dksX6_sharingOf_1 4 rfl rfl)
theorem dX6_sharingOf_28 : decode cX6_sharingOf 28 = .ok (.getfield 472, 3) := dk_180 1 216 (dk_at dksX6_sharingOf_1 5 rfl rfl)
theorem dX6_sharingOf_31 : decode cX6_sharingOf 31 = .ok (.if_icmp .ge 37, 3) := dk_162 0 37 (dk_at dksX6_sharingOf_1 8 rfl rfl)
theorem dX6_sharingOf_34 : decode cX6_sharingOf 34 = .ok (.aload_n 0, 1) := dk_42 (dk_at dksX6_sharingOf_1 11 rfl rfl)
theorem dX6_sharingOf_35 : decode cX6_sharingOf 35 = .ok (.getfield 110, 3) := dk_180 0 110 (dk_at dksX6_sharingOf_1 12 rfl rfl)
theorem dX6_sharingOf_38 : decode cX6_sharingOf 38 = .ok (.iload_n 3, 1) := dk_29 (dk_at dksX6_sharingOf_1 15 rfl rfl)
theorem dX6_sharingOf_39 : decode cX6_sharingOf 39 = .ok (.iload_n 2, 1) := dk_28 (dk_at dksX6_sharingOf_1 16 rfl rfl)
theorem dX6_sharingOf_40 : decode cX6_sharingOf 40 = .ok (.irem, 1) := dk_112 (dk_at dksX6_sharingOf_1 17 rfl rfl)
theorem dX6_sharingOf_41 : decode cX6_sharingOf 41 = .ok (.aload_n 0, 1) := dk_42 (dk_at dksX6_sharingOf_1 18 rfl rfl)
theorem dX6_sharingOf_42 : decode cX6_sharingOf 42 = .ok (.getfield 110, 3) := dk_180 0 110 (dk_at dksX6_sharingOf_1 19 rfl rfl)
theorem dX6_sharingOf_45 : decode cX6_sharingOf 45 = .ok (.iload_n 3, 1) := dk_29 (dk_at dksX6_sharingOf_1 22 rfl rfl)
theorem dX6_sharingOf_46 : decode cX6_sharingOf 46 = .ok (.iload_n 2, 1) := dk_28 (dk_at dksX6_sharingOf_1 23 rfl rfl)
theorem dX6_sharingOf_47 : decode cX6_sharingOf 47 = .ok (.irem, 1) := dk_112 (dk_at dksX6_sharingOf_2 0 rfl rfl)
theorem dX6_sharingOf_48 : decode cX6_sharingOf 48 = .ok (.iaload, 1) := dk_46 (dk_at dksX6_sharingOf_2 1 rfl rfl)
theorem dX6_sharingOf_49 : decode cX6_sharingOf 49 = .ok (.aload_n 0, 1) := dk_42 (dk_at dksX6_sharingOf_2 2 rfl rfl)
theorem dX6_sharingOf_50 : decode cX6_sharingOf 50 = .ok (.getfield 107, 3) := dk_180 0 107 (dk_at dksX6_sharingOf_2 3 rfl rfl)
theorem dX6_sharingOf_53 : decode cX6_sharingOf 53 = .ok (.iload 4, 2) := dk_21 4 (dk_at dksX6_sharingOf_2 6 rfl rfl)
theorem dX6_sharingOf_55 : decode cX6_sharingOf 55 = .ok (.iaload, 1) := dk_46 (dk_at dksX6_sharingOf_2 8 rfl rfl)
theorem dX6_sharingOf_56 : decode cX6_sharingOf 56 = .ok (.iadd, 1) := dk_96 (dk_at dksX6_sharingOf_2 9 rfl rfl)
theorem dX6_sharingOf_57 : decode cX6_sharingOf 57 = .ok (.iastore, 1) := dk_79 (dk_at dksX6_sharingOf_2 10 rfl rfl)
theorem dX6_sharingOf_58 : decode cX6_sharingOf 58 = .ok (.iload_n 3, 1) := dk_29 (dk_at dksX6_sharingOf_2 11 rfl rfl)
theorem dX6_sharingOf_59 : decode cX6_sharingOf 59 = .ok (.iload_n 2, 1) := dk_28 (dk_at dksX6_sharingOf_2 12 rfl rfl)
theorem dX6_sharingOf_60 : decode cX6_sharingOf 60 = .ok (.idiv, 1) := dk_108 (dk_at dksX6_sharingOf_2 13 rfl rfl)
theorem dX6_sharingOf_61 : decode cX6_sharingOf 61 = .ok (.istore_n 3, 1) := dk_62 (dk_at dksX6_sharingOf_2 14 rfl rfl)
theorem dX6_sharingOf_62 : decode cX6_sharingOf 62 = .ok (.iinc 4 1, 3) := dk_132 4 1 (dk_at dksX6_sharingOf_2 15 rfl rfl)
theorem dX6_sharingOf_65 : decode cX6_sharingOf 65 = .ok (.goto (-40), 3) := dk_167 255 216 (dk_at dksX6_sharingOf_2 18 rfl rfl)
theorem dX6_sharingOf_68 : decode cX6_sharingOf 68 = .ok (.iconst 0, 1) := dk_3 (dk_at dksX6_sharingOf_2 21 rfl rfl)
theorem dX6_sharingOf_69 : decode cX6_sharingOf 69 = .ok (.istore 4, 2) := dk_54 4 (dk_at dksX6_sharingOf_2 22 rfl rfl)
theorem dX6_sharingOf_71 : decode cX6_sharingOf 71 = .ok (.ldc_w 458, 3) := dk_19 1 202 (dk_at dksX6_sharingOf_3 0 rfl rfl)
theorem dX6_sharingOf_74 : decode cX6_sharingOf 74 = .ok (.istore 5, 2) := dk_54 5 (dk_at dksX6_sharingOf_3 3 rfl rfl)
theorem dX6_sharingOf_76 : decode cX6_sharingOf 76 = .ok (.iconst 0, 1) := dk_3 (dk_at dksX6_sharingOf_3 5 rfl rfl)
theorem dX6_sharingOf_77 : decode cX6_sharingOf 77 = .ok (.istore 6, 2) := dk_54 6 (dk_at dksX6_sharingOf_3 6 rfl rfl)
theorem dX6_sharingOf_79 : decode cX6_sharingOf 79 = .ok (.iload 6, 2) := dk_21 6 (dk_at dksX6_sharingOf_3 8 rfl rfl)
theorem dX6_sharingOf_81 : decode cX6_sharingOf 81 = .ok (.iload_n 2, 1) := dk_28 (dk_at dksX6_sharingOf_3 10 rfl rfl)
theorem dX6_sharingOf_82 : decode cX6_sharingOf 82 = .ok (.if_icmp .ge 39, 3) := dk_162 0 39 (dk_at dksX6_sharingOf_3 11 rfl rfl)
theorem dX6_sharingOf_85 : decode cX6_sharingOf 85 = .ok (.aload_n 0, 1) := dk_42 (dk_at dksX6_sharingOf_3 14 rfl rfl)
theorem dX6_sharingOf_86 : decode cX6_sharingOf 86 = .ok (.iload 4, 2) := dk_21 4 (dk_at dksX6_sharingOf_3 15 rfl rfl)
theorem dX6_sharingOf_88 : decode cX6_sharingOf 88 = .ok (.aload_n 0, 1) := dk_42 (dk_at dksX6_sharingOf_3 17 rfl rfl)
theorem dX6_sharingOf_89 : decode cX6_sharingOf 89 = .ok (.getfield 110, 3) := dk_180 0 110 (dk_at dksX6_sharingOf_3 18 rfl rfl)
theorem dX6_sharingOf_92 : decode cX6_sharingOf 92 = .ok (.iload 6, 2) := dk_21 6 (dk_at dksX6_sharingOf_3 21 rfl rfl)
theorem dX6_sharingOf_94 : decode cX6_sharingOf 94 = .ok (.iaload, 1) := dk_46 (dk_at dksX6_sharingOf_3 23 rfl rfl)
theorem dX6_sharingOf_95 : decode cX6_sharingOf 95 = .ok (.invokevirtual 440, 3) := dk_182 1 184 (dk_at dksX6_sharingOf_4 0 rfl rfl)
theorem dX6_sharingOf_98 : decode cX6_sharingOf 98 = .ok (.istore 4, 2) := dk_54 4 (dk_at dksX6_sharingOf_4 3 rfl rfl)
theorem dX6_sharingOf_100 : decode cX6_sharingOf 100 = .ok (.aload_n 0, 1) := dk_42 (dk_at dksX6_sharingOf_4 5 rfl rfl)
theorem dX6_sharingOf_101 : decode cX6_sharingOf 101 = .ok (.iload 5, 2) := dk_21 5 (dk_at dksX6_sharingOf_4 6 rfl rfl)
theorem dX6_sharingOf_103 : decode cX6_sharingOf 103 = .ok (.aload_n 0, 1) := dk_42 (dk_at dksX6_sharingOf_4 8 rfl rfl)
theorem dX6_sharingOf_104 : decode cX6_sharingOf 104 = .ok (.getfield 110, 3) := dk_180 0 110 (dk_at dksX6_sharingOf_4 9 rfl rfl)
theorem dX6_sharingOf_107 : decode cX6_sharingOf 107 = .ok (.iload 6, 2) := dk_21 6 (dk_at dksX6_sharingOf_4 12 rfl rfl)
theorem dX6_sharingOf_109 : decode cX6_sharingOf 109 = .ok (.iaload, 1) := dk_46 (dk_at dksX6_sharingOf_4 14 rfl rfl)
theorem dX6_sharingOf_110 : decode cX6_sharingOf 110 = .ok (.invokevirtual 348, 3) := dk_182 1 92 (dk_at dksX6_sharingOf_4 15 rfl rfl)
theorem dX6_sharingOf_113 : decode cX6_sharingOf 113 = .ok (.istore 5, 2) := dk_54 5 (dk_at dksX6_sharingOf_4 18 rfl rfl)
theorem dX6_sharingOf_115 : decode cX6_sharingOf 115 = .ok (.iinc 6 1, 3) := dk_132 6 1 (dk_at dksX6_sharingOf_4 20 rfl rfl)
theorem dX6_sharingOf_118 : decode cX6_sharingOf 118 = .ok (.goto (-39), 3) := dk_167 255 217 (dk_at dksX6_sharingOf_5 0 rfl rfl)
theorem dX6_sharingOf_121 : decode cX6_sharingOf 121 = .ok (.sipush 1000, 3) := dk_17 3 232 (dk_at dksX6_sharingOf_5 3 rfl rfl)
theorem dX6_sharingOf_124 : decode cX6_sharingOf 124 = .ok (.iload 4, 2) := dk_21 4 (dk_at dksX6_sharingOf_5 6 rfl rfl)
theorem dX6_sharingOf_126 : decode cX6_sharingOf 126 = .ok (.imul, 1) := dk_104 (dk_at dksX6_sharingOf_5 8 rfl rfl)
theorem dX6_sharingOf_127 : decode cX6_sharingOf 127 = .ok (.iload 4, 2) := dk_21 4 (dk_at dksX6_sharingOf_5 9 rfl rfl)
theorem dX6_sharingOf_129 : decode cX6_sharingOf 129 = .ok (.iadd, 1) := dk_96 (dk_at dksX6_sharingOf_5 11 rfl rfl)
theorem dX6_sharingOf_130 : decode cX6_sharingOf 130 = .ok (.iload 5, 2) := dk_21 5 (dk_at dksX6_sharingOf_5 12 rfl rfl)
theorem dX6_sharingOf_132 : decode cX6_sharingOf 132 = .ok (.isub, 1) := dk_100 (dk_at dksX6_sharingOf_5 14 rfl rfl)
theorem dX6_sharingOf_133 : decode cX6_sharingOf 133 = .ok (.ireturn, 1) := dk_172 (dk_at dksX6_sharingOf_5 15 rfl rfl)
abbrev cX6_left : ByteArray := prog_22_method_123_code
def yX6_left : MethodName := ⟨RX6, "left", "(II)I"⟩
def dkwX6_left_3 : List UInt8 := [54, 4, 132, 5, 1, 167, 255, 212, 28, 154, 0, 7, 29, 167, 0, 5, 21, 4, 172]
abbrev dktX6_left_3 : List UInt8 := dkwX6_left_3 ++ []
def dkwX6_left_2 : List UInt8 := [29, 182, 1, 63, 164, 0, 6, 21, 5, 62, 42, 27, 21, 5, 182, 1, 222, 153, 0, 9, 21, 4, 4, 96]
abbrev dktX6_left_2 : List UInt8 := dkwX6_left_2 ++ dktX6_left_3
def dkwX6_left_1 : List UInt8 := [172, 3, 62, 3, 54, 4, 3, 54, 5, 21, 5, 8, 162, 0, 44, 42, 27, 21, 5, 182, 1, 63, 42, 27]
abbrev dktX6_left_1 : List UInt8 := dkwX6_left_1 ++ dktX6_left_2
def dkwX6_left_0 : List UInt8 := [42, 3, 181, 0, 122, 42, 27, 182, 0, 153, 153, 0, 13, 42, 28, 3, 4, 182, 0, 145, 154, 0, 5, 2]
abbrev dktX6_left_0 : List UInt8 := dkwX6_left_0 ++ dktX6_left_1
theorem dksX6_left_0 : cX6_left.data.toList.drop 0 = dktX6_left_0 := by decide +kernel
theorem dksX6_left_1 : cX6_left.data.toList.drop 24 = dktX6_left_1 := dk_seg dksX6_left_0 24 rfl rfl
theorem dksX6_left_2 : cX6_left.data.toList.drop 48 = dktX6_left_2 := dk_seg dksX6_left_1 24 rfl rfl
theorem dksX6_left_3 : cX6_left.data.toList.drop 72 = dktX6_left_3 := dk_seg dksX6_left_2 24 rfl rfl
theorem dX6_left_0 : decode cX6_left 0 = .ok (.aload_n 0, 1) := dk_42 (dk_at dksX6_left_0 0 rfl rfl)
theorem dX6_left_1 : decode cX6_left 1 = .ok (.iconst 0, 1) := dk_3 (dk_at dksX6_left_0 1 rfl rfl)
theorem dX6_left_2 : decode cX6_left 2 = .ok (.putfield 122, 3) := dk_181 0 122 (dk_at dksX6_left_0 2 rfl rfl)
theorem dX6_left_5 : decode cX6_left 5 = .ok (.aload_n 0, 1) := dk_42 (dk_at dksX6_left_0 5 rfl rfl)
theorem dX6_left_6 : decode cX6_left 6 = .ok (.iload_n 1, 1) := dk_27 (dk_at dksX6_left_0 6 rfl rfl)
theorem dX6_left_7 : decode cX6_left 7 = .ok (.invokevirtual 153, 3) := dk_182 0 153 (dk_at dksX6_left_0 7 rfl rfl)
theorem dX6_left_10 : decode cX6_left 10 = .ok (.ifCond .eq 13, 3) := dk_153 0 13 (dk_at dksX6_left_0 10 rfl rfl)
theorem dX6_left_13 : decode cX6_left 13 = .ok (.aload_n 0, 1) := dk_42 (dk_at dksX6_left_0 13 rfl rfl)
theorem dX6_left_14 : decode cX6_left 14 = .ok (.iload_n 2, 1) := dk_28 (dk_at dksX6_left_0 14 rfl rfl)
theorem dX6_left_15 : decode cX6_left 15 = .ok (.iconst 0, 1) := dk_3 (dk_at dksX6_left_0 15 rfl rfl)
theorem dX6_left_16 : decode cX6_left 16 = .ok (.iconst 1, 1) := dk_4 (dk_at dksX6_left_0 16 rfl rfl)
theorem dX6_left_17 : decode cX6_left 17 = .ok (.invokevirtual 145, 3) := dk_182 0 145 (dk_at dksX6_left_0 17 rfl rfl)
theorem dX6_left_20 : decode cX6_left 20 = .ok (.ifCond .ne 5, 3) := dk_154 0 5 (dk_at dksX6_left_0 20 rfl rfl)
theorem dX6_left_23 : decode cX6_left 23 = .ok (.iconst (-1), 1) := dk_2 (dk_at dksX6_left_0 23 rfl rfl)
theorem dX6_left_24 : decode cX6_left 24 = .ok (.ireturn, 1) := dk_172 (dk_at dksX6_left_1 0 rfl rfl)
theorem dX6_left_25 : decode cX6_left 25 = .ok (.iconst 0, 1) := dk_3 (dk_at dksX6_left_1 1 rfl rfl)
theorem dX6_left_26 : decode cX6_left 26 = .ok (.istore_n 3, 1) := dk_62 (dk_at dksX6_left_1 2 rfl rfl)
theorem dX6_left_27 : decode cX6_left 27 = .ok (.iconst 0, 1) := dk_3 (dk_at dksX6_left_1 3 rfl rfl)
theorem dX6_left_28 : decode cX6_left 28 = .ok (.istore 4, 2) := dk_54 4 (dk_at dksX6_left_1 4 rfl rfl)
theorem dX6_left_30 : decode cX6_left 30 = .ok (.iconst 0, 1) := dk_3 (dk_at dksX6_left_1 6 rfl rfl)
theorem dX6_left_31 : decode cX6_left 31 = .ok (.istore 5, 2) := dk_54 5 (dk_at dksX6_left_1 7 rfl rfl)
theorem dX6_left_33 : decode cX6_left 33 = .ok (.iload 5, 2) := dk_21 5 (dk_at dksX6_left_1 9 rfl rfl)
theorem dX6_left_35 : decode cX6_left 35 = .ok (.iconst 5, 1) := dk_8 (dk_at dksX6_left_1 11 rfl rfl)
theorem dX6_left_36 : decode cX6_left 36 = .ok (.if_icmp .ge 44, 3) := dk_162 0 44 (dk_at dksX6_left_1 12 rfl rfl)
theorem dX6_left_39 : decode cX6_left 39 = .ok (.aload_n 0, 1) := dk_42 (dk_at dksX6_left_1 15 rfl rfl)
theorem dX6_left_40 : decode cX6_left 40 = .ok (.iload_n 1, 1) := dk_27 (dk_at dksX6_left_1 16 rfl rfl)
theorem dX6_left_41 : decode cX6_left 41 = .ok (.iload 5, 2) := dk_21 5 (dk_at dksX6_left_1 17 rfl rfl)
theorem dX6_left_43 : decode cX6_left 43 = .ok (.invokevirtual 319, 3) := dk_182 1 63 (dk_at dksX6_left_1 19 rfl rfl)
theorem dX6_left_46 : decode cX6_left 46 = .ok (.aload_n 0, 1) := dk_42 (dk_at dksX6_left_1 22 rfl rfl)
theorem dX6_left_47 : decode cX6_left 47 = .ok (.iload_n 1, 1) := dk_27 (dk_at dksX6_left_1 23 rfl rfl)
theorem dX6_left_48 : decode cX6_left 48 = .ok (.iload_n 3, 1) := dk_29 (dk_at dksX6_left_2 0 rfl rfl)
theorem dX6_left_49 : decode cX6_left 49 = .ok (.invokevirtual 319, 3) := dk_182 1 63 (dk_at dksX6_left_2 1 rfl rfl)
theorem dX6_left_52 : decode cX6_left 52 = .ok (.if_icmp .le 6, 3) := dk_164 0 6 (dk_at dksX6_left_2 4 rfl rfl)
theorem dX6_left_55 : decode cX6_left 55 = .ok (.iload 5, 2) := dk_21 5 (dk_at dksX6_left_2 7 rfl rfl)
theorem dX6_left_57 : decode cX6_left 57 = .ok (.istore_n 3, 1) := dk_62 (dk_at dksX6_left_2 9 rfl rfl)
theorem dX6_left_58 : decode cX6_left 58 = .ok (.aload_n 0, 1) := dk_42 (dk_at dksX6_left_2 10 rfl rfl)
theorem dX6_left_59 : decode cX6_left 59 = .ok (.iload_n 1, 1) := dk_27 (dk_at dksX6_left_2 11 rfl rfl)
theorem dX6_left_60 : decode cX6_left 60 = .ok (.iload 5, 2) := dk_21 5 (dk_at dksX6_left_2 12 rfl rfl)
theorem dX6_left_62 : decode cX6_left 62 = .ok (.invokevirtual 478, 3) := dk_182 1 222 (dk_at dksX6_left_2 14 rfl rfl)
theorem dX6_left_65 : decode cX6_left 65 = .ok (.ifCond .eq 9, 3) := dk_153 0 9 (dk_at dksX6_left_2 17 rfl rfl)
theorem dX6_left_68 : decode cX6_left 68 = .ok (.iload 4, 2) := dk_21 4 (dk_at dksX6_left_2 20 rfl rfl)
theorem dX6_left_70 : decode cX6_left 70 = .ok (.iconst 1, 1) := dk_4 (dk_at dksX6_left_2 22 rfl rfl)
theorem dX6_left_71 : decode cX6_left 71 = .ok (.iadd, 1) := dk_96 (dk_at dksX6_left_2 23 rfl rfl)
theorem dX6_left_72 : decode cX6_left 72 = .ok (.istore 4, 2) := dk_54 4 (dk_at dksX6_left_3 0 rfl rfl)
theorem dX6_left_74 : decode cX6_left 74 = .ok (.iinc 5 1, 3) := dk_132 5 1 (dk_at dksX6_left_3 2 rfl rfl)
theorem dX6_left_77 : decode cX6_left 77 = .ok (.goto (-44), 3) := dk_167 255 212 (dk_at dksX6_left_3 5 rfl rfl)
theorem dX6_left_80 : decode cX6_left 80 = .ok (.iload_n 2, 1) := dk_28 (dk_at dksX6_left_3 8 rfl rfl)
theorem dX6_left_81 : decode cX6_left 81 = .ok (.ifCond .ne 7, 3) := dk_154 0 7 (dk_at dksX6_left_3 9 rfl rfl)
theorem dX6_left_84 : decode cX6_left 84 = .ok (.iload_n 3, 1) := dk_29 (dk_at dksX6_left_3 12 rfl rfl)
theorem dX6_left_85 : decode cX6_left 85 = .ok (.goto 5, 3) := dk_167 0 5 (dk_at dksX6_left_3 13 rfl rfl)
theorem dX6_left_88 : decode cX6_left 88 = .ok (.iload 4, 2) := dk_21 4 (dk_at dksX6_left_3 16 rfl rfl)
theorem dX6_left_90 : decode cX6_left 90 = .ok (.ireturn, 1) := dk_172 (dk_at dksX6_left_3 18 rfl rfl)
abbrev cX6_hasMost : ByteArray := prog_22_method_122_code
def yX6_hasMost : MethodName := ⟨RX6, "hasMost", "(II)Z"⟩
def dkwX6_hasMost_1 : List UInt8 := [182, 1, 63, 161, 0, 5, 3, 172, 132, 3, 1, 167, 255, 223, 4, 172]
abbrev dktX6_hasMost_1 : List UInt8 := dkwX6_hasMost_1 ++ []
def dkwX6_hasMost_0 : List UInt8 := [3, 62, 29, 42, 180, 0, 135, 162, 0, 31, 29, 27, 159, 0, 20, 42, 29, 28, 182, 1, 63, 42, 27, 28]
abbrev dktX6_hasMost_0 : List UInt8 := dkwX6_hasMost_0 ++ dktX6_hasMost_1
theorem dksX6_hasMost_0 : cX6_hasMost.data.toList.drop 0 = dktX6_hasMost_0 := by decide +kernel
theorem dksX6_hasMost_1 : cX6_hasMost.data.toList.drop 24 = dktX6_hasMost_1 := dk_seg dksX6_hasMost_0 24 rfl rfl
theorem dX6_hasMost_0 : decode cX6_hasMost 0 = .ok (.iconst 0, 1) := dk_3 (dk_at dksX6_hasMost_0 0 rfl rfl)
theorem dX6_hasMost_1 : decode cX6_hasMost 1 = .ok (.istore_n 3, 1) := dk_62 (dk_at dksX6_hasMost_0 1 rfl rfl)
theorem dX6_hasMost_2 : decode cX6_hasMost 2 = .ok (.iload_n 3, 1) := dk_29 (dk_at dksX6_hasMost_0 2 rfl rfl)
theorem dX6_hasMost_3 : decode cX6_hasMost 3 = .ok (.aload_n 0, 1) := dk_42 (dk_at dksX6_hasMost_0 3 rfl rfl)
theorem dX6_hasMost_4 : decode cX6_hasMost 4 = .ok (.getfield 135, 3) := dk_180 0 135 (dk_at dksX6_hasMost_0 4 rfl rfl)
theorem dX6_hasMost_7 : decode cX6_hasMost 7 = .ok (.if_icmp .ge 31, 3) := dk_162 0 31 (dk_at dksX6_hasMost_0 7 rfl rfl)
theorem dX6_hasMost_10 : decode cX6_hasMost 10 = .ok (.iload_n 3, 1) := dk_29 (dk_at dksX6_hasMost_0 10 rfl rfl)
theorem dX6_hasMost_11 : decode cX6_hasMost 11 = .ok (.iload_n 1, 1) := dk_27 (dk_at dksX6_hasMost_0 11 rfl rfl)
theorem dX6_hasMost_12 : decode cX6_hasMost 12 = .ok (.if_icmp .eq 20, 3) := dk_159 0 20 (dk_at dksX6_hasMost_0 12 rfl rfl)
theorem dX6_hasMost_15 : decode cX6_hasMost 15 = .ok (.aload_n 0, 1) := dk_42 (dk_at dksX6_hasMost_0 15 rfl rfl)
theorem dX6_hasMost_16 : decode cX6_hasMost 16 = .ok (.iload_n 3, 1) := dk_29 (dk_at dksX6_hasMost_0 16 rfl rfl)
theorem dX6_hasMost_17 : decode cX6_hasMost 17 = .ok (.iload_n 2, 1) := dk_28 (dk_at dksX6_hasMost_0 17 rfl rfl)
theorem dX6_hasMost_18 : decode cX6_hasMost 18 = .ok (.invokevirtual 319, 3) := dk_182 1 63 (dk_at dksX6_hasMost_0 18 rfl rfl)
theorem dX6_hasMost_21 : decode cX6_hasMost 21 = .ok (.aload_n 0, 1) := dk_42 (dk_at dksX6_hasMost_0 21 rfl rfl)
theorem dX6_hasMost_22 : decode cX6_hasMost 22 = .ok (.iload_n 1, 1) := dk_27 (dk_at dksX6_hasMost_0 22 rfl rfl)
theorem dX6_hasMost_23 : decode cX6_hasMost 23 = .ok (.iload_n 2, 1) := dk_28 (dk_at dksX6_hasMost_0 23 rfl rfl)
theorem dX6_hasMost_24 : decode cX6_hasMost 24 = .ok (.invokevirtual 319, 3) := dk_182 1 63 (dk_at dksX6_hasMost_1 0 rfl rfl)
theorem dX6_hasMost_27 : decode cX6_hasMost 27 = .ok (.if_icmp .lt 5, 3) := dk_161 0 5 (dk_at dksX6_hasMost_1 3 rfl rfl)
theorem dX6_hasMost_30 : decode cX6_hasMost 30 = .ok (.iconst 0, 1) := dk_3 (dk_at dksX6_hasMost_1 6 rfl rfl)
theorem dX6_hasMost_31 : decode cX6_hasMost 31 = .ok (.ireturn, 1) := dk_172 (dk_at dksX6_hasMost_1 7 rfl rfl)
theorem dX6_hasMost_32 : decode cX6_hasMost 32 = .ok (.iinc 3 1, 3) := dk_132 3 1 (dk_at dksX6_hasMost_1 8 rfl rfl)
theorem dX6_hasMost_35 : decode cX6_hasMost 35 = .ok (.goto (-33), 3) := dk_167 255 223 (dk_at dksX6_hasMost_1 11 rfl rfl)
theorem dX6_hasMost_38 : decode cX6_hasMost 38 = .ok (.iconst 1, 1) := dk_4 (dk_at dksX6_hasMost_1 14 rfl rfl)
theorem dX6_hasMost_39 : decode cX6_hasMost 39 = .ok (.ireturn, 1) := dk_172 (dk_at dksX6_hasMost_1 15 rfl rfl)
abbrev cX6_signs : ByteArray := prog_22_method_124_code
def yX6_signs : MethodName := ⟨RX6, "signs", "(I)I"⟩
def dkwX6_signs_2 : List UInt8 := [21, 6, 54, 4, 132, 5, 1, 167, 255, 230, 28, 21, 4, 96, 172]
abbrev dktX6_signs_2 : List UInt8 := dkwX6_signs_2 ++ []
def dkwX6_signs_1 : List UInt8 := [54, 4, 3, 54, 5, 21, 5, 27, 162, 0, 26, 29, 21, 4, 96, 54, 6, 28, 62, 28, 21, 4, 96, 61]
abbrev dktX6_signs_1 : List UInt8 := dkwX6_signs_1 ++ dktX6_signs_2
def dkwX6_signs_0 : List UInt8 := [42, 3, 181, 0, 122, 42, 27, 4, 16, 20, 182, 0, 145, 154, 0, 5, 2, 172, 4, 61, 3, 62, 3]
abbrev dktX6_signs_0 : List UInt8 := dkwX6_signs_0 ++ dktX6_signs_1
theorem dksX6_signs_0 : cX6_signs.data.toList.drop 0 = dktX6_signs_0 := by decide +kernel
theorem dksX6_signs_1 : cX6_signs.data.toList.drop 23 = dktX6_signs_1 := dk_seg dksX6_signs_0 23 rfl rfl
theorem dksX6_signs_2 : cX6_signs.data.toList.drop 47 = dktX6_signs_2 := dk_seg dksX6_signs_1 24 rfl rfl
theorem dX6_signs_0 : decode cX6_signs 0 = .ok (.aload_n 0, 1) := dk_42 (dk_at dksX6_signs_0 0 rfl rfl)
theorem dX6_signs_1 : decode cX6_signs 1 = .ok (.iconst 0, 1) := dk_3 (dk_at dksX6_signs_0 1 rfl rfl)
theorem dX6_signs_2 : decode cX6_signs 2 = .ok (.putfield 122, 3) := dk_181 0 122 (dk_at dksX6_signs_0 2 rfl rfl)
theorem dX6_signs_5 : decode cX6_signs 5 = .ok (.aload_n 0, 1) := dk_42 (dk_at dksX6_signs_0 5 rfl rfl)
theorem dX6_signs_6 : decode cX6_signs 6 = .ok (.iload_n 1, 1) := dk_27 (dk_at dksX6_signs_0 6 rfl rfl)
theorem dX6_signs_7 : decode cX6_signs 7 = .ok (.iconst 1, 1) := dk_4 (dk_at dksX6_signs_0 7 rfl rfl)
theorem dX6_signs_8 : decode cX6_signs 8 = .ok (.bipush 20, 2) := dk_16 20 (dk_at dksX6_signs_0 8 rfl rfl)
theorem dX6_signs_10 : decode cX6_signs 10 = .ok (.invokevirtual 145, 3) := dk_182 0 145 (dk_at dksX6_signs_0 10 rfl rfl)
theorem dX6_signs_13 : decode cX6_signs 13 = .ok (.ifCond .ne 5, 3) := dk_154 0 5 (dk_at dksX6_signs_0 13 rfl rfl)
theorem dX6_signs_16 : decode cX6_signs 16 = .ok (.iconst (-1), 1) := dk_2 (dk_at dksX6_signs_0 16 rfl rfl)
theorem dX6_signs_17 : decode cX6_signs 17 = .ok (.ireturn, 1) := dk_172 (dk_at dksX6_signs_0 17 rfl rfl)
theorem dX6_signs_18 : decode cX6_signs 18 = .ok (.iconst 1, 1) := dk_4 (dk_at dksX6_signs_0 18 rfl rfl)
theorem dX6_signs_19 : decode cX6_signs 19 = .ok (.istore_n 2, 1) := dk_61 (dk_at dksX6_signs_0 19 rfl rfl)
theorem dX6_signs_20 : decode cX6_signs 20 = .ok (.iconst 0, 1) := dk_3 (dk_at dksX6_signs_0 20 rfl rfl)
theorem dX6_signs_21 : decode cX6_signs 21 = .ok (.istore_n 3, 1) := dk_62 (dk_at dksX6_signs_0 21 rfl rfl)
theorem dX6_signs_22 : decode cX6_signs 22 = .ok (.iconst 0, 1) := dk_3 (dk_at dksX6_signs_0 22 rfl rfl)
theorem dX6_signs_23 : decode cX6_signs 23 = .ok (.istore 4, 2) := dk_54 4 (dk_at dksX6_signs_1 0 rfl rfl)
theorem dX6_signs_25 : decode cX6_signs 25 = .ok (.iconst 0, 1) := dk_3 (dk_at dksX6_signs_1 2 rfl rfl)
theorem dX6_signs_26 : decode cX6_signs 26 = .ok (.istore 5, 2) := dk_54 5 (dk_at dksX6_signs_1 3 rfl rfl)
theorem dX6_signs_28 : decode cX6_signs 28 = .ok (.iload 5, 2) := dk_21 5 (dk_at dksX6_signs_1 5 rfl rfl)
theorem dX6_signs_30 : decode cX6_signs 30 = .ok (.iload_n 1, 1) := dk_27 (dk_at dksX6_signs_1 7 rfl rfl)
theorem dX6_signs_31 : decode cX6_signs 31 = .ok (.if_icmp .ge 26, 3) := dk_162 0 26 (dk_at dksX6_signs_1 8 rfl rfl)
theorem dX6_signs_34 : decode cX6_signs 34 = .ok (.iload_n 3, 1) := dk_29 (dk_at dksX6_signs_1 11 rfl rfl)
theorem dX6_signs_35 : decode cX6_signs 35 = .ok (.iload 4, 2) := dk_21 4 (dk_at dksX6_signs_1 12 rfl rfl)
theorem dX6_signs_37 : decode cX6_signs 37 = .ok (.iadd, 1) := dk_96 (dk_at dksX6_signs_1 14 rfl rfl)
theorem dX6_signs_38 : decode cX6_signs 38 = .ok (.istore 6, 2) := dk_54 6 (dk_at dksX6_signs_1 15 rfl rfl)
theorem dX6_signs_40 : decode cX6_signs 40 = .ok (.iload_n 2, 1) := dk_28 (dk_at dksX6_signs_1 17 rfl rfl)
theorem dX6_signs_41 : decode cX6_signs 41 = .ok (.istore_n 3, 1) := dk_62 (dk_at dksX6_signs_1 18 rfl rfl)
theorem dX6_signs_42 : decode cX6_signs 42 = .ok (.iload_n 2, 1) := dk_28 (dk_at dksX6_signs_1 19 rfl rfl)
theorem dX6_signs_43 : decode cX6_signs 43 = .ok (.iload 4, 2) := dk_21 4 (dk_at dksX6_signs_1 20 rfl rfl)
theorem dX6_signs_45 : decode cX6_signs 45 = .ok (.iadd, 1) := dk_96 (dk_at dksX6_signs_1 22 rfl rfl)
theorem dX6_signs_46 : decode cX6_signs 46 = .ok (.istore_n 2, 1) := dk_61 (dk_at dksX6_signs_1 23 rfl rfl)
theorem dX6_signs_47 : decode cX6_signs 47 = .ok (.iload 6, 2) := dk_21 6 (dk_at dksX6_signs_2 0 rfl rfl)
theorem dX6_signs_49 : decode cX6_signs 49 = .ok (.istore 4, 2) := dk_54 4 (dk_at dksX6_signs_2 2 rfl rfl)
theorem dX6_signs_51 : decode cX6_signs 51 = .ok (.iinc 5 1, 3) := dk_132 5 1 (dk_at dksX6_signs_2 4 rfl rfl)
theorem dX6_signs_54 : decode cX6_signs 54 = .ok (.goto (-26), 3) := dk_167 255 230 (dk_at dksX6_signs_2 7 rfl rfl)
theorem dX6_signs_57 : decode cX6_signs 57 = .ok (.iload_n 2, 1) := dk_28 (dk_at dksX6_signs_2 10 rfl rfl)
theorem dX6_signs_58 : decode cX6_signs 58 = .ok (.iload 4, 2) := dk_21 4 (dk_at dksX6_signs_2 11 rfl rfl)
theorem dX6_signs_60 : decode cX6_signs 60 = .ok (.iadd, 1) := dk_96 (dk_at dksX6_signs_2 13 rfl rfl)
theorem dX6_signs_61 : decode cX6_signs 61 = .ok (.ireturn, 1) := dk_172 (dk_at dksX6_signs_2 14 rfl rfl)
abbrev cX6_row : ByteArray := prog_22_method_125_code
def yX6_row : MethodName := ⟨RX6, "row", "(I)I"⟩
def dkwX6_row_2 : List UInt8 := [180, 1, 225, 27, 79, 42, 42, 180, 1, 225, 4, 96, 181, 1, 225, 42, 180, 1, 225, 172]
abbrev dktX6_row_2 : List UInt8 := dkwX6_row_2 ++ []
def dkwX6_row_1 : List UInt8 := [182, 0, 145, 153, 0, 12, 42, 180, 1, 225, 16, 6, 160, 0, 5, 2, 172, 42, 180, 0, 113, 42]
abbrev dktX6_row_1 : List UInt8 := dkwX6_row_1 ++ dktX6_row_2
def dkwX6_row_0 : List UInt8 := [42, 3, 181, 0, 122, 27, 2, 160, 0, 10, 42, 3, 181, 1, 225, 3, 172, 42, 27, 4, 16, 20]
abbrev dktX6_row_0 : List UInt8 := dkwX6_row_0 ++ dktX6_row_1
theorem dksX6_row_0 : cX6_row.data.toList.drop 0 = dktX6_row_0 := by decide +kernel
theorem dksX6_row_1 : cX6_row.data.toList.drop 22 = dktX6_row_1 := dk_seg dksX6_row_0 22 rfl rfl
theorem dksX6_row_2 : cX6_row.data.toList.drop 44 = dktX6_row_2 := dk_seg dksX6_row_1 22 rfl rfl
theorem dX6_row_0 : decode cX6_row 0 = .ok (.aload_n 0, 1) := dk_42 (dk_at dksX6_row_0 0 rfl rfl)
theorem dX6_row_1 : decode cX6_row 1 = .ok (.iconst 0, 1) := dk_3 (dk_at dksX6_row_0 1 rfl rfl)
theorem dX6_row_2 : decode cX6_row 2 = .ok (.putfield 122, 3) := dk_181 0 122 (dk_at dksX6_row_0 2 rfl rfl)
theorem dX6_row_5 : decode cX6_row 5 = .ok (.iload_n 1, 1) := dk_27 (dk_at dksX6_row_0 5 rfl rfl)
theorem dX6_row_6 : decode cX6_row 6 = .ok (.iconst (-1), 1) := dk_2 (dk_at dksX6_row_0 6 rfl rfl)
theorem dX6_row_7 : decode cX6_row 7 = .ok (.if_icmp .ne 10, 3) := dk_160 0 10 (dk_at dksX6_row_0 7 rfl rfl)
theorem dX6_row_10 : decode cX6_row 10 = .ok (.aload_n 0, 1) := dk_42 (dk_at dksX6_row_0 10 rfl rfl)
theorem dX6_row_11 : decode cX6_row 11 = .ok (.iconst 0, 1) := dk_3 (dk_at dksX6_row_0 11 rfl rfl)
theorem dX6_row_12 : decode cX6_row 12 = .ok (.putfield 481, 3) := dk_181 1 225 (dk_at dksX6_row_0 12 rfl rfl)
theorem dX6_row_15 : decode cX6_row 15 = .ok (.iconst 0, 1) := dk_3 (dk_at dksX6_row_0 15 rfl rfl)
theorem dX6_row_16 : decode cX6_row 16 = .ok (.ireturn, 1) := dk_172 (dk_at dksX6_row_0 16 rfl rfl)
theorem dX6_row_17 : decode cX6_row 17 = .ok (.aload_n 0, 1) := dk_42 (dk_at dksX6_row_0 17 rfl rfl)
theorem dX6_row_18 : decode cX6_row 18 = .ok (.iload_n 1, 1) := dk_27 (dk_at dksX6_row_0 18 rfl rfl)
theorem dX6_row_19 : decode cX6_row 19 = .ok (.iconst 1, 1) := dk_4 (dk_at dksX6_row_0 19 rfl rfl)
theorem dX6_row_20 : decode cX6_row 20 = .ok (.bipush 20, 2) := dk_16 20 (dk_at dksX6_row_0 20 rfl rfl)
theorem dX6_row_22 : decode cX6_row 22 = .ok (.invokevirtual 145, 3) := dk_182 0 145 (dk_at dksX6_row_1 0 rfl rfl)
theorem dX6_row_25 : decode cX6_row 25 = .ok (.ifCond .eq 12, 3) := dk_153 0 12 (dk_at dksX6_row_1 3 rfl rfl)
theorem dX6_row_28 : decode cX6_row 28 = .ok (.aload_n 0, 1) := dk_42 (dk_at dksX6_row_1 6 rfl rfl)
theorem dX6_row_29 : decode cX6_row 29 = .ok (.getfield 481, 3) := dk_180 1 225 (dk_at dksX6_row_1 7 rfl rfl)
theorem dX6_row_32 : decode cX6_row 32 = .ok (.bipush 6, 2) := dk_16 6 (dk_at dksX6_row_1 10 rfl rfl)
theorem dX6_row_34 : decode cX6_row 34 = .ok (.if_icmp .ne 5, 3) := dk_160 0 5 (dk_at dksX6_row_1 12 rfl rfl)
theorem dX6_row_37 : decode cX6_row 37 = .ok (.iconst (-1), 1) := dk_2 (dk_at dksX6_row_1 15 rfl rfl)
theorem dX6_row_38 : decode cX6_row 38 = .ok (.ireturn, 1) := dk_172 (dk_at dksX6_row_1 16 rfl rfl)
theorem dX6_row_39 : decode cX6_row 39 = .ok (.aload_n 0, 1) := dk_42 (dk_at dksX6_row_1 17 rfl rfl)
theorem dX6_row_40 : decode cX6_row 40 = .ok (.getfield 113, 3) := dk_180 0 113 (dk_at dksX6_row_1 18 rfl rfl)
theorem dX6_row_43 : decode cX6_row 43 = .ok (.aload_n 0, 1) := dk_42 (dk_at dksX6_row_1 21 rfl rfl)
theorem dX6_row_44 : decode cX6_row 44 = .ok (.getfield 481, 3) := dk_180 1 225 (dk_at dksX6_row_2 0 rfl rfl)
theorem dX6_row_47 : decode cX6_row 47 = .ok (.iload_n 1, 1) := dk_27 (dk_at dksX6_row_2 3 rfl rfl)
theorem dX6_row_48 : decode cX6_row 48 = .ok (.iastore, 1) := dk_79 (dk_at dksX6_row_2 4 rfl rfl)
theorem dX6_row_49 : decode cX6_row 49 = .ok (.aload_n 0, 1) := dk_42 (dk_at dksX6_row_2 5 rfl rfl)
theorem dX6_row_50 : decode cX6_row 50 = .ok (.aload_n 0, 1) := dk_42 (dk_at dksX6_row_2 6 rfl rfl)
theorem dX6_row_51 : decode cX6_row 51 = .ok (.getfield 481, 3) := dk_180 1 225 (dk_at dksX6_row_2 7 rfl rfl)
theorem dX6_row_54 : decode cX6_row 54 = .ok (.iconst 1, 1) := dk_4 (dk_at dksX6_row_2 10 rfl rfl)
theorem dX6_row_55 : decode cX6_row 55 = .ok (.iadd, 1) := dk_96 (dk_at dksX6_row_2 11 rfl rfl)
theorem dX6_row_56 : decode cX6_row 56 = .ok (.putfield 481, 3) := dk_181 1 225 (dk_at dksX6_row_2 12 rfl rfl)
theorem dX6_row_59 : decode cX6_row 59 = .ok (.aload_n 0, 1) := dk_42 (dk_at dksX6_row_2 15 rfl rfl)
theorem dX6_row_60 : decode cX6_row 60 = .ok (.getfield 481, 3) := dk_180 1 225 (dk_at dksX6_row_2 16 rfl rfl)
theorem dX6_row_63 : decode cX6_row 63 = .ok (.ireturn, 1) := dk_172 (dk_at dksX6_row_2 19 rfl rfl)
abbrev cX6_game : ByteArray := prog_22_method_127_code
def yX6_game : MethodName := ⟨RX6, "game", "(I)I"⟩
def dkwX6_game_7 : List UInt8 := [132, 6, 1, 167, 255, 174, 132, 3, 1, 167, 255, 138, 2, 172]
abbrev dktX6_game_7 : List UInt8 := dkwX6_game_7 ++ []
def dkwX6_game_6 : List UInt8 := [167, 0, 15, 27, 4, 160, 0, 8, 21, 6, 167, 0, 5, 21, 7, 172, 132, 7, 1, 167, 255, 190]
abbrev dktX6_game_6 : List UInt8 := dkwX6_game_6 ++ dktX6_game_7
def dkwX6_game_5 : List UInt8 := [180, 0, 116, 21, 4, 21, 6, 100, 21, 7, 100, 46, 130, 21, 5, 160, 0, 24, 27, 154, 0, 7, 29]
abbrev dktX6_game_5 : List UInt8 := dkwX6_game_5 ++ dktX6_game_6
def dkwX6_game_4 : List UInt8 := [21, 7, 6, 162, 0, 66, 21, 6, 21, 7, 96, 21, 4, 163, 0, 56, 42, 180, 0, 116, 21, 6, 46, 42]
abbrev dktX6_game_4 : List UInt8 := dkwX6_game_4 ++ dktX6_game_5
def dkwX6_game_3 : List UInt8 := [28, 42, 180, 0, 116, 21, 4, 46, 130, 54, 5, 3, 54, 6, 21, 6, 21, 4, 162, 0, 81, 4, 54, 7]
abbrev dktX6_game_3 : List UInt8 := dkwX6_game_3 ++ dktX6_game_4
def dkwX6_game_2 : List UInt8 := [132, 3, 1, 167, 255, 231, 3, 62, 29, 42, 180, 1, 225, 162, 0, 116, 42, 180, 0, 113, 29, 46, 54, 4]
abbrev dktX6_game_2 : List UInt8 := dkwX6_game_2 ++ dktX6_game_3
def dkwX6_game_1 : List UInt8 := [62, 29, 42, 180, 1, 225, 162, 0, 23, 28, 42, 180, 0, 116, 42, 180, 0, 113, 29, 46, 46, 130, 61]
abbrev dktX6_game_1 : List UInt8 := dkwX6_game_1 ++ dktX6_game_2
def dkwX6_game_0 : List UInt8 := [42, 3, 181, 0, 122, 42, 27, 3, 5, 182, 0, 145, 154, 0, 5, 2, 172, 42, 182, 1, 228, 3, 61, 3]
abbrev dktX6_game_0 : List UInt8 := dkwX6_game_0 ++ dktX6_game_1
theorem dksX6_game_0 : cX6_game.data.toList.drop 0 = dktX6_game_0 := by decide +kernel
theorem dksX6_game_1 : cX6_game.data.toList.drop 24 = dktX6_game_1 := dk_seg dksX6_game_0 24 rfl rfl
theorem dksX6_game_2 : cX6_game.data.toList.drop 47 = dktX6_game_2 := dk_seg dksX6_game_1 23 rfl rfl
theorem dksX6_game_3 : cX6_game.data.toList.drop 71 = dktX6_game_3 := dk_seg dksX6_game_2 24 rfl rfl
theorem dksX6_game_4 : cX6_game.data.toList.drop 95 = dktX6_game_4 := dk_seg dksX6_game_3 24 rfl rfl
theorem dksX6_game_5 : cX6_game.data.toList.drop 119 = dktX6_game_5 := dk_seg dksX6_game_4 24 rfl rfl
theorem dksX6_game_6 : cX6_game.data.toList.drop 142 = dktX6_game_6 := dk_seg dksX6_game_5 23 rfl rfl
theorem dksX6_game_7 : cX6_game.data.toList.drop 164 = dktX6_game_7 := dk_seg dksX6_game_6 22 rfl rfl
theorem dX6_game_0 : decode cX6_game 0 = .ok (.aload_n 0, 1) := dk_42 (dk_at dksX6_game_0 0 rfl rfl)
theorem dX6_game_1 : decode cX6_game 1 = .ok (.iconst 0, 1) := dk_3 (dk_at dksX6_game_0 1 rfl rfl)
theorem dX6_game_2 : decode cX6_game 2 = .ok (.putfield 122, 3) := dk_181 0 122 (dk_at dksX6_game_0 2 rfl rfl)
theorem dX6_game_5 : decode cX6_game 5 = .ok (.aload_n 0, 1) := dk_42 (dk_at dksX6_game_0 5 rfl rfl)
theorem dX6_game_6 : decode cX6_game 6 = .ok (.iload_n 1, 1) := dk_27 (dk_at dksX6_game_0 6 rfl rfl)
theorem dX6_game_7 : decode cX6_game 7 = .ok (.iconst 0, 1) := dk_3 (dk_at dksX6_game_0 7 rfl rfl)
theorem dX6_game_8 : decode cX6_game 8 = .ok (.iconst 2, 1) := dk_5 (dk_at dksX6_game_0 8 rfl rfl)
theorem dX6_game_9 : decode cX6_game 9 = .ok (.invokevirtual 145, 3) := dk_182 0 145 (dk_at dksX6_game_0 9 rfl rfl)
theorem dX6_game_12 : decode cX6_game 12 = .ok (.ifCond .ne 5, 3) := dk_154 0 5 (dk_at dksX6_game_0 12 rfl rfl)
theorem dX6_game_15 : decode cX6_game 15 = .ok (.iconst (-1), 1) := dk_2 (dk_at dksX6_game_0 15 rfl rfl)
theorem dX6_game_16 : decode cX6_game 16 = .ok (.ireturn, 1) := dk_172 (dk_at dksX6_game_0 16 rfl rfl)
theorem dX6_game_17 : decode cX6_game 17 = .ok (.aload_n 0, 1) := dk_42 (dk_at dksX6_game_0 17 rfl rfl)
theorem dX6_game_18 : decode cX6_game 18 = .ok (.invokevirtual 484, 3) := dk_182 1 228 (dk_at dksX6_game_0 18 rfl rfl)
theorem dX6_game_21 : decode cX6_game 21 = .ok (.iconst 0, 1) := dk_3 (dk_at dksX6_game_0 21 rfl rfl)
theorem dX6_game_22 : decode cX6_game 22 = .ok (.istore_n 2, 1) := dk_61 (dk_at dksX6_game_0 22 rfl rfl)
theorem dX6_game_23 : decode cX6_game 23 = .ok (.iconst 0, 1) := dk_3 (dk_at dksX6_game_0 23 rfl rfl)
theorem dX6_game_24 : decode cX6_game 24 = .ok (.istore_n 3, 1) := dk_62 (dk_at dksX6_game_1 0 rfl rfl)
theorem dX6_game_25 : decode cX6_game 25 = .ok (.iload_n 3, 1) := dk_29 (dk_at dksX6_game_1 1 rfl rfl)
theorem dX6_game_26 : decode cX6_game 26 = .ok (.aload_n 0, 1) := dk_42 (dk_at dksX6_game_1 2 rfl rfl)
theorem dX6_game_27 : decode cX6_game 27 = .ok (.getfield 481, 3) := dk_180 1 225 (dk_at dksX6_game_1 3 rfl rfl)
theorem dX6_game_30 : decode cX6_game 30 = .ok (.if_icmp .ge 23, 3) := dk_162 0 23 (dk_at dksX6_game_1 6 rfl rfl)
theorem dX6_game_33 : decode cX6_game 33 = .ok (.iload_n 2, 1) := dk_28 (dk_at dksX6_game_1 9 rfl rfl)
theorem dX6_game_34 : decode cX6_game 34 = .ok (.aload_n 0, 1) := dk_42 (dk_at dksX6_game_1 10 rfl rfl)
theorem dX6_game_35 : decode cX6_game 35 = .ok (.getfield 116, 3) := dk_180 0 116 (dk_at dksX6_game_1 11 rfl rfl)
theorem dX6_game_38 : decode cX6_game 38 = .ok (.aload_n 0, 1) := dk_42 (dk_at dksX6_game_1 14 rfl rfl)
theorem dX6_game_39 : decode cX6_game 39 = .ok (.getfield 113, 3) := dk_180 0 113 (dk_at dksX6_game_1 15 rfl rfl)
theorem dX6_game_42 : decode cX6_game 42 = .ok (.iload_n 3, 1) := dk_29 (dk_at dksX6_game_1 18 rfl rfl)
theorem dX6_game_43 : decode cX6_game 43 = .ok (.iaload, 1) := dk_46 (dk_at dksX6_game_1 19 rfl rfl)
theorem dX6_game_44 : decode cX6_game 44 = .ok (.iaload, 1) := dk_46 (dk_at dksX6_game_1 20 rfl rfl)
theorem dX6_game_45 : decode cX6_game 45 = .ok (.ixor, 1) := dk_130 (dk_at dksX6_game_1 21 rfl rfl)
theorem dX6_game_46 : decode cX6_game 46 = .ok (.istore_n 2, 1) := dk_61 (dk_at dksX6_game_1 22 rfl rfl)
theorem dX6_game_47 : decode cX6_game 47 = .ok (.iinc 3 1, 3) := dk_132 3 1 (dk_at dksX6_game_2 0 rfl rfl)
theorem dX6_game_50 : decode cX6_game 50 = .ok (.goto (-25), 3) := dk_167 255 231 (dk_at dksX6_game_2 3 rfl rfl)
theorem dX6_game_53 : decode cX6_game 53 = .ok (.iconst 0, 1) := dk_3 (dk_at dksX6_game_2 6 rfl rfl)
theorem dX6_game_54 : decode cX6_game 54 = .ok (.istore_n 3, 1) := dk_62 (dk_at dksX6_game_2 7 rfl rfl)
theorem dX6_game_55 : decode cX6_game 55 = .ok (.iload_n 3, 1) := dk_29 (dk_at dksX6_game_2 8 rfl rfl)
theorem dX6_game_56 : decode cX6_game 56 = .ok (.aload_n 0, 1) := dk_42 (dk_at dksX6_game_2 9 rfl rfl)
theorem dX6_game_57 : decode cX6_game 57 = .ok (.getfield 481, 3) := dk_180 1 225 (dk_at dksX6_game_2 10 rfl rfl)
theorem dX6_game_60 : decode cX6_game 60 = .ok (.if_icmp .ge 116, 3) := dk_162 0 116 (dk_at dksX6_game_2 13 rfl rfl)
theorem dX6_game_63 : decode cX6_game 63 = .ok (.aload_n 0, 1) := dk_42 (dk_at dksX6_game_2 16 rfl rfl)
theorem dX6_game_64 : decode cX6_game 64 = .ok (.getfield 113, 3) := dk_180 0 113 (dk_at dksX6_game_2 17 rfl rfl)
theorem dX6_game_67 : decode cX6_game 67 = .ok (.iload_n 3, 1) := dk_29 (dk_at dksX6_game_2 20 rfl rfl)
theorem dX6_game_68 : decode cX6_game 68 = .ok (.iaload, 1) := dk_46 (dk_at dksX6_game_2 21 rfl rfl)
theorem dX6_game_69 : decode cX6_game 69 = .ok (.istore 4, 2) := dk_54 4 (dk_at dksX6_game_2 22 rfl rfl)
theorem dX6_game_71 : decode cX6_game 71 = .ok (.iload_n 2, 1) := dk_28 (dk_at dksX6_game_3 0 rfl rfl)
theorem dX6_game_72 : decode cX6_game 72 = .ok (.aload_n 0, 1) := dk_42 (dk_at dksX6_game_3 1 rfl rfl)
theorem dX6_game_73 : decode cX6_game 73 = .ok (.getfield 116, 3) := dk_180 0 116 (dk_at dksX6_game_3 2 rfl rfl)
theorem dX6_game_76 : decode cX6_game 76 = .ok (.iload 4, 2) := dk_21 4 (dk_at dksX6_game_3 5 rfl rfl)
theorem dX6_game_78 : decode cX6_game 78 = .ok (.iaload, 1) := dk_46 (dk_at dksX6_game_3 7 rfl rfl)
theorem dX6_game_79 : decode cX6_game 79 = .ok (.ixor, 1) := dk_130 (dk_at dksX6_game_3 8 rfl rfl)
theorem dX6_game_80 : decode cX6_game 80 = .ok (.istore 5, 2) := dk_54 5 (dk_at dksX6_game_3 9 rfl rfl)
theorem dX6_game_82 : decode cX6_game 82 = .ok (.iconst 0, 1) := dk_3 (dk_at dksX6_game_3 11 rfl rfl)
theorem dX6_game_83 : decode cX6_game 83 = .ok (.istore 6, 2) := dk_54 6 (dk_at dksX6_game_3 12 rfl rfl)
theorem dX6_game_85 : decode cX6_game 85 = .ok (.iload 6, 2) := dk_21 6 (dk_at dksX6_game_3 14 rfl rfl)
theorem dX6_game_87 : decode cX6_game 87 = .ok (.iload 4, 2) := dk_21 4 (dk_at dksX6_game_3 16 rfl rfl)
theorem dX6_game_89 : decode cX6_game 89 = .ok (.if_icmp .ge 81, 3) := dk_162 0 81 (dk_at dksX6_game_3 18 rfl rfl)
theorem dX6_game_92 : decode cX6_game 92 = .ok (.iconst 1, 1) := dk_4 (dk_at dksX6_game_3 21 rfl rfl)
theorem dX6_game_93 : decode cX6_game 93 = .ok (.istore 7, 2) := dk_54 7 (dk_at dksX6_game_3 22 rfl rfl)
theorem dX6_game_95 : decode cX6_game 95 = .ok (.iload 7, 2) := dk_21 7 (dk_at dksX6_game_4 0 rfl rfl)
theorem dX6_game_97 : decode cX6_game 97 = .ok (.iconst 3, 1) := dk_6 (dk_at dksX6_game_4 2 rfl rfl)
theorem dX6_game_98 : decode cX6_game 98 = .ok (.if_icmp .ge 66, 3) := dk_162 0 66 (dk_at dksX6_game_4 3 rfl rfl)
theorem dX6_game_101 : decode cX6_game 101 = .ok (.iload 6, 2) := dk_21 6 (dk_at dksX6_game_4 6 rfl rfl)
theorem dX6_game_103 : decode cX6_game 103 = .ok (.iload 7, 2) := dk_21 7 (dk_at dksX6_game_4 8 rfl rfl)
theorem dX6_game_105 : decode cX6_game 105 = .ok (.iadd, 1) := dk_96 (dk_at dksX6_game_4 10 rfl rfl)
theorem dX6_game_106 : decode cX6_game 106 = .ok (.iload 4, 2) := dk_21 4 (dk_at dksX6_game_4 11 rfl rfl)
theorem dX6_game_108 : decode cX6_game 108 = .ok (.if_icmp .gt 56, 3) := dk_163 0 56 (dk_at dksX6_game_4 13 rfl rfl)
theorem dX6_game_111 : decode cX6_game 111 = .ok (.aload_n 0, 1) := dk_42 (dk_at dksX6_game_4 16 rfl rfl)
theorem dX6_game_112 : decode cX6_game 112 = .ok (.getfield 116, 3) := dk_180 0 116 (dk_at dksX6_game_4 17 rfl rfl)
theorem dX6_game_115 : decode cX6_game 115 = .ok (.iload 6, 2) := dk_21 6 (dk_at dksX6_game_4 20 rfl rfl)
theorem dX6_game_117 : decode cX6_game 117 = .ok (.iaload, 1) := dk_46 (dk_at dksX6_game_4 22 rfl rfl)
theorem dX6_game_118 : decode cX6_game 118 = .ok (.aload_n 0, 1) := dk_42 (dk_at dksX6_game_4 23 rfl rfl)
theorem dX6_game_119 : decode cX6_game 119 = .ok (.getfield 116, 3) := dk_180 0 116 (dk_at dksX6_game_5 0 rfl rfl)
theorem dX6_game_122 : decode cX6_game 122 = .ok (.iload 4, 2) := dk_21 4 (dk_at dksX6_game_5 3 rfl rfl)
theorem dX6_game_124 : decode cX6_game 124 = .ok (.iload 6, 2) := dk_21 6 (dk_at dksX6_game_5 5 rfl rfl)
theorem dX6_game_126 : decode cX6_game 126 = .ok (.isub, 1) := dk_100 (dk_at dksX6_game_5 7 rfl rfl)
theorem dX6_game_127 : decode cX6_game 127 = .ok (.iload 7, 2) := dk_21 7 (dk_at dksX6_game_5 8 rfl rfl)
theorem dX6_game_129 : decode cX6_game 129 = .ok (.isub, 1) := dk_100 (dk_at dksX6_game_5 10 rfl rfl)
theorem dX6_game_130 : decode cX6_game 130 = .ok (.iaload, 1) := dk_46 (dk_at dksX6_game_5 11 rfl rfl)
theorem dX6_game_131 : decode cX6_game 131 = .ok (.ixor, 1) := dk_130 (dk_at dksX6_game_5 12 rfl rfl)
theorem dX6_game_132 : decode cX6_game 132 = .ok (.iload 5, 2) := dk_21 5 (dk_at dksX6_game_5 13 rfl rfl)
theorem dX6_game_134 : decode cX6_game 134 = .ok (.if_icmp .ne 24, 3) := dk_160 0 24 (dk_at dksX6_game_5 15 rfl rfl)
theorem dX6_game_137 : decode cX6_game 137 = .ok (.iload_n 1, 1) := dk_27 (dk_at dksX6_game_5 18 rfl rfl)
theorem dX6_game_138 : decode cX6_game 138 = .ok (.ifCond .ne 7, 3) := dk_154 0 7 (dk_at dksX6_game_5 19 rfl rfl)
theorem dX6_game_141 : decode cX6_game 141 = .ok (.iload_n 3, 1) := dk_29 (dk_at dksX6_game_5 22 rfl rfl)
theorem dX6_game_142 : decode cX6_game 142 = .ok (.goto 15, 3) := dk_167 0 15 (dk_at dksX6_game_6 0 rfl rfl)
theorem dX6_game_145 : decode cX6_game 145 = .ok (.iload_n 1, 1) := dk_27 (dk_at dksX6_game_6 3 rfl rfl)
theorem dX6_game_146 : decode cX6_game 146 = .ok (.iconst 1, 1) := dk_4 (dk_at dksX6_game_6 4 rfl rfl)
theorem dX6_game_147 : decode cX6_game 147 = .ok (.if_icmp .ne 8, 3) := dk_160 0 8 (dk_at dksX6_game_6 5 rfl rfl)
theorem dX6_game_150 : decode cX6_game 150 = .ok (.iload 6, 2) := dk_21 6 (dk_at dksX6_game_6 8 rfl rfl)
theorem dX6_game_152 : decode cX6_game 152 = .ok (.goto 5, 3) := dk_167 0 5 (dk_at dksX6_game_6 10 rfl rfl)
theorem dX6_game_155 : decode cX6_game 155 = .ok (.iload 7, 2) := dk_21 7 (dk_at dksX6_game_6 13 rfl rfl)
theorem dX6_game_157 : decode cX6_game 157 = .ok (.ireturn, 1) := dk_172 (dk_at dksX6_game_6 15 rfl rfl)
theorem dX6_game_158 : decode cX6_game 158 = .ok (.iinc 7 1, 3) := dk_132 7 1 (dk_at dksX6_game_6 16 rfl rfl)
theorem dX6_game_161 : decode cX6_game 161 = .ok (.goto (-66), 3) := dk_167 255 190 (dk_at dksX6_game_6 19 rfl rfl)
theorem dX6_game_164 : decode cX6_game 164 = .ok (.iinc 6 1, 3) := dk_132 6 1 (dk_at dksX6_game_7 0 rfl rfl)
theorem dX6_game_167 : decode cX6_game 167 = .ok (.goto (-82), 3) := dk_167 255 174 (dk_at dksX6_game_7 3 rfl rfl)
theorem dX6_game_170 : decode cX6_game 170 = .ok (.iinc 3 1, 3) := dk_132 3 1 (dk_at dksX6_game_7 6 rfl rfl)
theorem dX6_game_173 : decode cX6_game 173 = .ok (.goto (-118), 3) := dk_167 255 138 (dk_at dksX6_game_7 9 rfl rfl)
theorem dX6_game_176 : decode cX6_game 176 = .ok (.iconst (-1), 1) := dk_2 (dk_at dksX6_game_7 12 rfl rfl)
theorem dX6_game_177 : decode cX6_game 177 = .ok (.ireturn, 1) := dk_172 (dk_at dksX6_game_7 13 rfl rfl)
