set_option maxRecDepth 100000
abbrev cX7_init : ByteArray := prog_16_method_1_code
def yX7_init : MethodName := ⟨RX7, "<init>", "(LClaspedFair;I)V"⟩
def dkwX7_init_0 : List UInt8 := [42, 43, 181, 0, 3, 42, 183, 0, 9, 42, 16, 12, 188, 10, 181, 0, 15, 42, 28, 181, 0, 19, 177]
abbrev dktX7_init_0 : List UInt8 := dkwX7_init_0 ++ []
theorem dksX7_init_0 : cX7_init.data.toList.drop 0 = dktX7_init_0 := by decide +kernel
theorem dX7_init_0 : decode cX7_init 0 = .ok (.aload_n 0, 1) := dk_42 (dk_at dksX7_init_0 0 rfl rfl)
theorem dX7_init_1 : decode cX7_init 1 = .ok (.aload_n 1, 1) := dk_43 (dk_at dksX7_init_0 1 rfl rfl)
theorem dX7_init_2 : decode cX7_init 2 = .ok (.putfield 3, 3) := dk_181 0 3 (dk_at dksX7_init_0 2 rfl rfl)
theorem dX7_init_5 : decode cX7_init 5 = .ok (.aload_n 0, 1) := dk_42 (dk_at dksX7_init_0 5 rfl rfl)
theorem dX7_init_6 : decode cX7_init 6 = .ok (.invokespecial 9, 3) := dk_183 0 9 (dk_at dksX7_init_0 6 rfl rfl)
theorem dX7_init_9 : decode cX7_init 9 = .ok (.aload_n 0, 1) := dk_42 (dk_at dksX7_init_0 9 rfl rfl)
theorem dX7_init_10 : decode cX7_init 10 = .ok (.bipush 12, 2) := dk_16 12 (dk_at dksX7_init_0 10 rfl rfl)
theorem dX7_init_12 : decode cX7_init 12 = .ok (.newarray .int, 2) := dk_188_10 (dk_at dksX7_init_0 12 rfl rfl)
theorem dX7_init_14 : decode cX7_init 14 = .ok (.putfield 15, 3) := dk_181 0 15 (dk_at dksX7_init_0 14 rfl rfl)
theorem dX7_init_17 : decode cX7_init 17 = .ok (.aload_n 0, 1) := dk_42 (dk_at dksX7_init_0 17 rfl rfl)
theorem dX7_init_18 : decode cX7_init 18 = .ok (.iload_n 2, 1) := dk_28 (dk_at dksX7_init_0 18 rfl rfl)
theorem dX7_init_19 : decode cX7_init 19 = .ok (.putfield 19, 3) := dk_181 0 19 (dk_at dksX7_init_0 19 rfl rfl)
theorem dX7_init_22 : decode cX7_init 22 = .ok (.return_, 1) := dk_177 (dk_at dksX7_init_0 22 rfl rfl)
abbrev cX7_law : ByteArray := prog_16_method_24_code
def yX7_law : MethodName := ⟨RX7, "law", "()Ljava/util/ArrayList;"⟩
def dkwX7_law_5 : List UInt8 := [187, 0, 214, 89, 28, 45, 25, 4, 183, 0, 216, 182, 0, 219, 87, 167, 255, 138, 43, 176]
abbrev dktX7_law_5 : List UInt8 := dkwX7_law_5 ++ []
def dkwX7_law_4 : List UInt8 := [180, 0, 121, 6, 160, 0, 13, 42, 182, 0, 132, 42, 182, 0, 202, 58, 4, 42, 16, 59, 182, 0, 135, 43]
abbrev dktX7_law_4 : List UInt8 := dkwX7_law_4 ++ dktX7_law_5
def dkwX7_law_3 : List UInt8 := [180, 0, 121, 61, 42, 3, 181, 0, 166, 42, 182, 0, 132, 42, 182, 0, 205, 78, 1, 58, 4, 42]
abbrev dktX7_law_3 : List UInt8 := dkwX7_law_3 ++ dktX7_law_4
def dkwX7_law_2 : List UInt8 := [182, 0, 211, 16, 16, 160, 0, 16, 187, 0, 124, 89, 6, 42, 180, 0, 41, 183, 0, 126, 191, 42]
abbrev dktX7_law_2 : List UInt8 := dkwX7_law_2 ++ dktX7_law_3
def dkwX7_law_1 : List UInt8 := [16, 7, 16, 9, 184, 0, 37, 154, 0, 16, 187, 0, 124, 89, 4, 42, 180, 0, 41, 183, 0, 126, 191, 43]
abbrev dktX7_law_1 : List UInt8 := dkwX7_law_1 ++ dktX7_law_2
def dkwX7_law_0 : List UInt8 := [187, 0, 208, 89, 183, 0, 210, 76, 42, 182, 0, 132, 42, 180, 0, 121, 153, 0, 117, 42, 180, 0, 121]
abbrev dktX7_law_0 : List UInt8 := dkwX7_law_0 ++ dktX7_law_1
theorem dksX7_law_0 : cX7_law.data.toList.drop 0 = dktX7_law_0 := by decide +kernel
theorem dksX7_law_1 : cX7_law.data.toList.drop 23 = dktX7_law_1 := dk_seg dksX7_law_0 23 rfl rfl
theorem dksX7_law_2 : cX7_law.data.toList.drop 47 = dktX7_law_2 := dk_seg dksX7_law_1 24 rfl rfl
theorem dksX7_law_3 : cX7_law.data.toList.drop 69 = dktX7_law_3 := dk_seg dksX7_law_2 22 rfl rfl
theorem dksX7_law_4 : cX7_law.data.toList.drop 91 = dktX7_law_4 := dk_seg dksX7_law_3 22 rfl rfl
theorem dksX7_law_5 : cX7_law.data.toList.drop 115 = dktX7_law_5 := dk_seg dksX7_law_4 24 rfl rfl
theorem dX7_law_0 : decode cX7_law 0 = .ok (.new 208, 3) := dk_187 0 208 (dk_at dksX7_law_0 0 rfl rfl)
theorem dX7_law_3 : decode cX7_law 3 = .ok (.dup, 1) := dk_89 (dk_at dksX7_law_0 3 rfl rfl)
theorem dX7_law_4 : decode cX7_law 4 = .ok (.invokespecial 210, 3) := dk_183 0 210 (dk_at dksX7_law_0 4 rfl rfl)
theorem dX7_law_7 : decode cX7_law 7 = .ok (.astore_n 1, 1) := dk_76 (dk_at dksX7_law_0 7 rfl rfl)
theorem dX7_law_8 : decode cX7_law 8 = .ok (.aload_n 0, 1) := dk_42 (dk_at dksX7_law_0 8 rfl rfl)
theorem dX7_law_9 : decode cX7_law 9 = .ok (.invokevirtual 132, 3) := dk_182 0 132 (dk_at dksX7_law_0 9 rfl rfl)
theorem dX7_law_12 : decode cX7_law 12 = .ok (.aload_n 0, 1) := dk_42 (dk_at dksX7_law_0 12 rfl rfl)
theorem dX7_law_13 : decode cX7_law 13 = .ok (.getfield 121, 3) := dk_180 0 121 (dk_at dksX7_law_0 13 rfl rfl)
theorem dX7_law_16 : decode cX7_law 16 = .ok (.ifCond .eq 117, 3) := dk_153 0 117 (dk_at dksX7_law_0 16 rfl rfl)
theorem dX7_law_19 : decode cX7_law 19 = .ok (.aload_n 0, 1) := dk_42 (dk_at dksX7_law_0 19 rfl rfl)
theorem dX7_law_20 : decode cX7_law 20 = .ok (.getfield 121, 3) := dk_180 0 121 (dk_at dksX7_law_0 20 rfl rfl)
theorem dX7_law_23 : decode cX7_law 23 = .ok (.bipush 7, 2) := dk_16 7 (dk_at dksX7_law_1 0 rfl rfl)
theorem dX7_law_25 : decode cX7_law 25 = .ok (.bipush 9, 2) := dk_16 9 (dk_at dksX7_law_1 2 rfl rfl)
theorem dX7_law_27 : decode cX7_law 27 = .ok (.invokestatic 37, 3) := dk_184 0 37 (dk_at dksX7_law_1 4 rfl rfl)
theorem dX7_law_30 : decode cX7_law 30 = .ok (.ifCond .ne 16, 3) := dk_154 0 16 (dk_at dksX7_law_1 7 rfl rfl)
theorem dX7_law_33 : decode cX7_law 33 = .ok (.new 124, 3) := dk_187 0 124 (dk_at dksX7_law_1 10 rfl rfl)
theorem dX7_law_36 : decode cX7_law 36 = .ok (.dup, 1) := dk_89 (dk_at dksX7_law_1 13 rfl rfl)
theorem dX7_law_37 : decode cX7_law 37 = .ok (.iconst 1, 1) := dk_4 (dk_at dksX7_law_1 14 rfl rfl)
theorem dX7_law_38 : decode cX7_law 38 = .ok (.aload_n 0, 1) := dk_42 (dk_at dksX7_law_1 15 rfl rfl)
theorem dX7_law_39 : decode cX7_law 39 = .ok (.getfield 41, 3) := dk_180 0 41 (dk_at dksX7_law_1 16 rfl rfl)
theorem dX7_law_42 : decode cX7_law 42 = .ok (.invokespecial 126, 3) := dk_183 0 126 (dk_at dksX7_law_1 19 rfl rfl)
theorem dX7_law_45 : decode cX7_law 45 = .ok (.athrow, 1) := dk_191 (dk_at dksX7_law_1 22 rfl rfl)
theorem dX7_law_46 : decode cX7_law 46 = .ok (.aload_n 1, 1) := dk_43 (dk_at dksX7_law_1 23 rfl rfl)
theorem dX7_law_47 : decode cX7_law 47 = .ok (.invokevirtual 211, 3) := dk_182 0 211 (dk_at dksX7_law_2 0 rfl rfl)
theorem dX7_law_50 : decode cX7_law 50 = .ok (.bipush 16, 2) := dk_16 16 (dk_at dksX7_law_2 3 rfl rfl)
theorem dX7_law_52 : decode cX7_law 52 = .ok (.if_icmp .ne 16, 3) := dk_160 0 16 (dk_at dksX7_law_2 5 rfl rfl)
theorem dX7_law_55 : decode cX7_law 55 = .ok (.new 124, 3) := dk_187 0 124 (dk_at dksX7_law_2 8 rfl rfl)
theorem dX7_law_58 : decode cX7_law 58 = .ok (.dup, 1) := dk_89 (dk_at dksX7_law_2 11 rfl rfl)
theorem dX7_law_59 : decode cX7_law 59 = .ok (.iconst 3, 1) := dk_6 (dk_at dksX7_law_2 12 rfl rfl)
theorem dX7_law_60 : decode cX7_law 60 = .ok (.aload_n 0, 1) := dk_42 (dk_at dksX7_law_2 13 rfl rfl)
theorem dX7_law_61 : decode cX7_law 61 = .ok (.getfield 41, 3) := dk_180 0 41 (dk_at dksX7_law_2 14 rfl rfl)
theorem dX7_law_64 : decode cX7_law 64 = .ok (.invokespecial 126, 3) := dk_183 0 126 (dk_at dksX7_law_2 17 rfl rfl)
theorem dX7_law_67 : decode cX7_law 67 = .ok (.athrow, 1) := dk_191 (dk_at dksX7_law_2 20 rfl rfl)
theorem dX7_law_68 : decode cX7_law 68 = .ok (.aload_n 0, 1) := dk_42 (dk_at dksX7_law_2 21 rfl rfl)
theorem dX7_law_69 : decode cX7_law 69 = .ok (.getfield 121, 3) := dk_180 0 121 (dk_at dksX7_law_3 0 rfl rfl)
theorem dX7_law_72 : decode cX7_law 72 = .ok (.istore_n 2, 1) := dk_61 (dk_at dksX7_law_3 3 rfl rfl)
theorem dX7_law_73 : decode cX7_law 73 = .ok (.aload_n 0, 1) := dk_42 (dk_at dksX7_law_3 4 rfl rfl)
theorem dX7_law_74 : decode cX7_law 74 = .ok (.iconst 0, 1) := dk_3 (dk_at dksX7_law_3 5 rfl rfl)
theorem dX7_law_75 : decode cX7_law 75 = .ok (.putfield 166, 3) := dk_181 0 166 (dk_at dksX7_law_3 6 rfl rfl)
theorem dX7_law_78 : decode cX7_law 78 = .ok (.aload_n 0, 1) := dk_42 (dk_at dksX7_law_3 9 rfl rfl)
theorem dX7_law_79 : decode cX7_law 79 = .ok (.invokevirtual 132, 3) := dk_182 0 132 (dk_at dksX7_law_3 10 rfl rfl)
theorem dX7_law_82 : decode cX7_law 82 = .ok (.aload_n 0, 1) := dk_42 (dk_at dksX7_law_3 13 rfl rfl)
theorem dX7_law_83 : decode cX7_law 83 = .ok (.invokevirtual 205, 3) := dk_182 0 205 (dk_at dksX7_law_3 14 rfl rfl)
theorem dX7_law_86 : decode cX7_law 86 = .ok (.astore_n 3, 1) := dk_78 (dk_at dksX7_law_3 17 rfl rfl)
theorem dX7_law_87 : decode cX7_law 87 = .ok (.aconst_null, 1) := dk_1 (dk_at dksX7_law_3 18 rfl rfl)
theorem dX7_law_88 : decode cX7_law 88 = .ok (.astore 4, 2) := dk_58 4 (dk_at dksX7_law_3 19 rfl rfl)
theorem dX7_law_90 : decode cX7_law 90 = .ok (.aload_n 0, 1) := dk_42 (dk_at dksX7_law_3 21 rfl rfl)
theorem dX7_law_91 : decode cX7_law 91 = .ok (.getfield 121, 3) := dk_180 0 121 (dk_at dksX7_law_4 0 rfl rfl)
theorem dX7_law_94 : decode cX7_law 94 = .ok (.iconst 3, 1) := dk_6 (dk_at dksX7_law_4 3 rfl rfl)
theorem dX7_law_95 : decode cX7_law 95 = .ok (.if_icmp .ne 13, 3) := dk_160 0 13 (dk_at dksX7_law_4 4 rfl rfl)
theorem dX7_law_98 : decode cX7_law 98 = .ok (.aload_n 0, 1) := dk_42 (dk_at dksX7_law_4 7 rfl rfl)
theorem dX7_law_99 : decode cX7_law 99 = .ok (.invokevirtual 132, 3) := dk_182 0 132 (dk_at dksX7_law_4 8 rfl rfl)
theorem dX7_law_102 : decode cX7_law 102 = .ok (.aload_n 0, 1) := dk_42 (dk_at dksX7_law_4 11 rfl rfl)
theorem dX7_law_103 : decode cX7_law 103 = .ok (.invokevirtual 202, 3) := dk_182 0 202 (dk_at dksX7_law_4 12 rfl rfl)
theorem dX7_law_106 : decode cX7_law 106 = .ok (.astore 4, 2) := dk_58 4 (dk_at dksX7_law_4 15 rfl rfl)
theorem dX7_law_108 : decode cX7_law 108 = .ok (.aload_n 0, 1) := dk_42 (dk_at dksX7_law_4 17 rfl rfl)
theorem dX7_law_109 : decode cX7_law 109 = .ok (.bipush 59, 2) := dk_16 59 (dk_at dksX7_law_4 18 rfl rfl)
theorem dX7_law_111 : decode cX7_law 111 = .ok (.invokevirtual 135, 3) := dk_182 0 135 (dk_at dksX7_law_4 20 rfl rfl)
theorem dX7_law_114 : decode cX7_law 114 = .ok (.aload_n 1, 1) := dk_43 (dk_at dksX7_law_4 23 rfl rfl)
theorem dX7_law_115 : decode cX7_law 115 = .ok (.new 214, 3) := dk_187 0 214 (dk_at dksX7_law_5 0 rfl rfl)
theorem dX7_law_118 : decode cX7_law 118 = .ok (.dup, 1) := dk_89 (dk_at dksX7_law_5 3 rfl rfl)
theorem dX7_law_119 : decode cX7_law 119 = .ok (.iload_n 2, 1) := dk_28 (dk_at dksX7_law_5 4 rfl rfl)
theorem dX7_law_120 : decode cX7_law 120 = .ok (.aload_n 3, 1) := dk_45 (dk_at dksX7_law_5 5 rfl rfl)
theorem dX7_law_121 : decode cX7_law 121 = .ok (.aload 4, 2) := dk_25 4 (dk_at dksX7_law_5 6 rfl rfl)
theorem dX7_law_123 : decode cX7_law 123 = .ok (.invokespecial 216, 3) := dk_183 0 216 (dk_at dksX7_law_5 8 rfl rfl)
theorem dX7_law_126 : decode cX7_law 126 = .ok (.invokevirtual 219, 3) := dk_182 0 219 (dk_at dksX7_law_5 11 rfl rfl)
theorem dX7_law_129 : decode cX7_law 129 = .ok (.pop, 1) := dk_87 (dk_at dksX7_law_5 14 rfl rfl)
theorem dX7_law_130 : decode cX7_law 130 = .ok (.goto (-118), 3) := dk_167 255 138 (dk_at dksX7_law_5 15 rfl rfl)
theorem dX7_law_133 : decode cX7_law 133 = .ok (.aload_n 1, 1) := dk_43 (dk_at dksX7_law_5 18 rfl rfl)
theorem dX7_law_134 : decode cX7_law 134 = .ok (.areturn, 1) := dk_176 (dk_at dksX7_law_5 19 rfl rfl)
abbrev cX7_next : ByteArray := prog_16_method_15_code
def yX7_next : MethodName := ⟨RX7, "next", "()V"⟩
def dkwX7_next_9 : List UInt8 := [180, 0, 23, 4, 96, 181, 0, 23, 177]
abbrev dktX7_next_9 : List UInt8 := dkwX7_next_9 ++ []
def dkwX7_next_8 : List UInt8 := [182, 0, 33, 182, 0, 162, 153, 0, 10, 42, 182, 0, 33, 167, 0, 4, 4, 181, 0, 121, 42, 89]
abbrev dktX7_next_8 : List UInt8 := dkwX7_next_8 ++ dktX7_next_9
def dkwX7_next_7 : List UInt8 := [180, 0, 41, 100, 8, 162, 0, 7, 5, 167, 0, 4, 4, 181, 0, 121, 167, 0, 36, 42, 42, 42]
abbrev dktX7_next_7 : List UInt8 := dkwX7_next_7 ++ dktX7_next_8
def dkwX7_next_6 : List UInt8 := [181, 0, 129, 42, 89, 180, 0, 23, 4, 96, 181, 0, 23, 167, 255, 207, 42, 42, 180, 0, 23, 42]
abbrev dktX7_next_6 : List UInt8 := dkwX7_next_6 ++ dktX7_next_7
def dkwX7_next_5 : List UInt8 := [180, 0, 41, 7, 96, 162, 0, 22, 42, 16, 10, 42, 180, 0, 129, 104, 42, 182, 0, 33, 96, 16, 48, 100]
abbrev dktX7_next_5 : List UInt8 := dkwX7_next_5 ++ dktX7_next_6
def dkwX7_next_4 : List UInt8 := [182, 0, 159, 153, 0, 85, 42, 3, 181, 0, 129, 42, 182, 0, 159, 153, 0, 48, 42, 180, 0, 23, 42]
abbrev dktX7_next_4 : List UInt8 := dkwX7_next_4 ++ dktX7_next_5
def dkwX7_next_3 : List UInt8 := [180, 0, 23, 4, 96, 181, 0, 23, 167, 255, 239, 42, 42, 182, 0, 156, 181, 0, 121, 167, 0, 125, 42]
abbrev dktX7_next_3 : List UInt8 := dkwX7_next_3 ++ dktX7_next_4
def dkwX7_next_2 : List UInt8 := [3, 181, 0, 121, 167, 0, 163, 42, 182, 0, 152, 153, 0, 34, 42, 182, 0, 152, 153, 0, 16, 42, 89]
abbrev dktX7_next_2 : List UInt8 := dkwX7_next_2 ++ dktX7_next_3
def dkwX7_next_1 : List UInt8 := [96, 181, 0, 23, 167, 255, 228, 42, 42, 180, 0, 23, 181, 0, 41, 42, 182, 0, 33, 2, 160, 0, 11, 42]
abbrev dktX7_next_1 : List UInt8 := dkwX7_next_1 ++ dktX7_next_2
def dkwX7_next_0 : List UInt8 := [42, 182, 0, 33, 16, 32, 159, 0, 12, 42, 182, 0, 33, 16, 10, 160, 0, 16, 42, 89, 180, 0, 23, 4]
abbrev dktX7_next_0 : List UInt8 := dkwX7_next_0 ++ dktX7_next_1
theorem dksX7_next_0 : cX7_next.data.toList.drop 0 = dktX7_next_0 := by decide +kernel
theorem dksX7_next_1 : cX7_next.data.toList.drop 24 = dktX7_next_1 := dk_seg dksX7_next_0 24 rfl rfl
theorem dksX7_next_2 : cX7_next.data.toList.drop 48 = dktX7_next_2 := dk_seg dksX7_next_1 24 rfl rfl
theorem dksX7_next_3 : cX7_next.data.toList.drop 71 = dktX7_next_3 := dk_seg dksX7_next_2 23 rfl rfl
theorem dksX7_next_4 : cX7_next.data.toList.drop 94 = dktX7_next_4 := dk_seg dksX7_next_3 23 rfl rfl
theorem dksX7_next_5 : cX7_next.data.toList.drop 117 = dktX7_next_5 := dk_seg dksX7_next_4 23 rfl rfl
theorem dksX7_next_6 : cX7_next.data.toList.drop 141 = dktX7_next_6 := dk_seg dksX7_next_5 24 rfl rfl
theorem dksX7_next_7 : cX7_next.data.toList.drop 163 = dktX7_next_7 := dk_seg dksX7_next_6 22 rfl rfl
theorem dksX7_next_8 : cX7_next.data.toList.drop 185 = dktX7_next_8 := dk_seg dksX7_next_7 22 rfl rfl
theorem dksX7_next_9 : cX7_next.data.toList.drop 207 = dktX7_next_9 := dk_seg dksX7_next_8 22 rfl rfl
theorem dX7_next_0 : decode cX7_next 0 = .ok (.aload_n 0, 1) := dk_42 (dk_at dksX7_next_0 0 rfl rfl)
theorem dX7_next_1 : decode cX7_next 1 = .ok (.invokevirtual 33, 3) := dk_182 0 33 (dk_at dksX7_next_0 1 rfl rfl)
theorem dX7_next_4 : decode cX7_next 4 = .ok (.bipush 32, 2) := dk_16 32 (dk_at dksX7_next_0 4 rfl rfl)
theorem dX7_next_6 : decode cX7_next 6 = .ok (.if_icmp .eq 12, 3) := dk_159 0 12 (dk_at dksX7_next_0 6 rfl rfl)
theorem dX7_next_9 : decode cX7_next 9 = .ok (.aload_n 0, 1) := dk_42 (dk_at dksX7_next_0 9 rfl rfl)
theorem dX7_next_10 : decode cX7_next 10 = .ok (.invokevirtual 33, 3) := dk_182 0 33 (dk_at dksX7_next_0 10 rfl rfl)
theorem dX7_next_13 : decode cX7_next 13 = .ok (.bipush 10, 2) := dk_16 10 (dk_at dksX7_next_0 13 rfl rfl)
theorem dX7_next_15 : decode cX7_next 15 = .ok (.if_icmp .ne 16, 3) := dk_160 0 16 (dk_at dksX7_next_0 15 rfl rfl)
theorem dX7_next_18 : decode cX7_next 18 = .ok (.aload_n 0, 1) := dk_42 (dk_at dksX7_next_0 18 rfl rfl)
theorem dX7_next_19 : decode cX7_next 19 = .ok (.dup, 1) := dk_89 (dk_at dksX7_next_0 19 rfl rfl)
theorem dX7_next_20 : decode cX7_next 20 = .ok (.getfield 23, 3) := dk_180 0 23 (dk_at dksX7_next_0 20 rfl rfl)
theorem dX7_next_23 : decode cX7_next 23 = .ok (.iconst 1, 1) := dk_4 (dk_at dksX7_next_0 23 rfl rfl)
theorem dX7_next_24 : decode cX7_next 24 = .ok (.iadd, 1) := dk_96 (dk_at dksX7_next_1 0 rfl rfl)
theorem dX7_next_25 : decode cX7_next 25 = .ok (.putfield 23, 3) := dk_181 0 23 (dk_at dksX7_next_1 1 rfl rfl)
theorem dX7_next_28 : decode cX7_next 28 = .ok (.goto (-28), 3) := dk_167 255 228 (dk_at dksX7_next_1 4 rfl rfl)
theorem dX7_next_31 : decode cX7_next 31 = .ok (.aload_n 0, 1) := dk_42 (dk_at dksX7_next_1 7 rfl rfl)
theorem dX7_next_32 : decode cX7_next 32 = .ok (.aload_n 0, 1) := dk_42 (dk_at dksX7_next_1 8 rfl rfl)
theorem dX7_next_33 : decode cX7_next 33 = .ok (.getfield 23, 3) := dk_180 0 23 (dk_at dksX7_next_1 9 rfl rfl)
theorem dX7_next_36 : decode cX7_next 36 = .ok (.putfield 41, 3) := dk_181 0 41 (dk_at dksX7_next_1 12 rfl rfl)
theorem dX7_next_39 : decode cX7_next 39 = .ok (.aload_n 0, 1) := dk_42 (dk_at dksX7_next_1 15 rfl rfl)
theorem dX7_next_40 : decode cX7_next 40 = .ok (.invokevirtual 33, 3) := dk_182 0 33 (dk_at dksX7_next_1 16 rfl rfl)
theorem dX7_next_43 : decode cX7_next 43 = .ok (.iconst (-1), 1) := dk_2 (dk_at dksX7_next_1 19 rfl rfl)
theorem dX7_next_44 : decode cX7_next 44 = .ok (.if_icmp .ne 11, 3) := dk_160 0 11 (dk_at dksX7_next_1 20 rfl rfl)
theorem dX7_next_47 : decode cX7_next 47 = .ok (.aload_n 0, 1) := dk_42 (dk_at dksX7_next_1 23 rfl rfl)
theorem dX7_next_48 : decode cX7_next 48 = .ok (.iconst 0, 1) := dk_3 (dk_at dksX7_next_2 0 rfl rfl)
theorem dX7_next_49 : decode cX7_next 49 = .ok (.putfield 121, 3) := dk_181 0 121 (dk_at dksX7_next_2 1 rfl rfl)
theorem dX7_next_52 : decode cX7_next 52 = .ok (.goto 163, 3) := dk_167 0 163 (dk_at dksX7_next_2 4 rfl rfl)
theorem dX7_next_55 : decode cX7_next 55 = .ok (.aload_n 0, 1) := dk_42 (dk_at dksX7_next_2 7 rfl rfl)
theorem dX7_next_56 : decode cX7_next 56 = .ok (.invokevirtual 152, 3) := dk_182 0 152 (dk_at dksX7_next_2 8 rfl rfl)
theorem dX7_next_59 : decode cX7_next 59 = .ok (.ifCond .eq 34, 3) := dk_153 0 34 (dk_at dksX7_next_2 11 rfl rfl)
theorem dX7_next_62 : decode cX7_next 62 = .ok (.aload_n 0, 1) := dk_42 (dk_at dksX7_next_2 14 rfl rfl)
theorem dX7_next_63 : decode cX7_next 63 = .ok (.invokevirtual 152, 3) := dk_182 0 152 (dk_at dksX7_next_2 15 rfl rfl)
theorem dX7_next_66 : decode cX7_next 66 = .ok (.ifCond .eq 16, 3) := dk_153 0 16 (dk_at dksX7_next_2 18 rfl rfl)
theorem dX7_next_69 : decode cX7_next 69 = .ok (.aload_n 0, 1) := dk_42 (dk_at dksX7_next_2 21 rfl rfl)
theorem dX7_next_70 : decode cX7_next 70 = .ok (.dup, 1) := dk_89 (dk_at dksX7_next_2 22 rfl rfl)
theorem dX7_next_71 : decode cX7_next 71 = .ok (.getfield 23, 3) := dk_180 0 23 (dk_at dksX7_next_3 0 rfl rfl)
theorem dX7_next_74 : decode cX7_next 74 = .ok (.iconst 1, 1) := dk_4 (dk_at dksX7_next_3 3 rfl rfl)
theorem dX7_next_75 : decode cX7_next 75 = .ok (.iadd, 1) := dk_96 (dk_at dksX7_next_3 4 rfl rfl)
theorem dX7_next_76 : decode cX7_next 76 = .ok (.putfield 23, 3) := dk_181 0 23 (dk_at dksX7_next_3 5 rfl rfl)
theorem dX7_next_79 : decode cX7_next 79 = .ok (.goto (-17), 3) := dk_167 255 239 (dk_at dksX7_next_3 8 rfl rfl)
theorem dX7_next_82 : decode cX7_next 82 = .ok (.aload_n 0, 1) := dk_42 (dk_at dksX7_next_3 11 rfl rfl)
theorem dX7_next_83 : decode cX7_next 83 = .ok (.aload_n 0, 1) := dk_42 (dk_at dksX7_next_3 12 rfl rfl)
theorem dX7_next_84 : decode cX7_next 84 = .ok (.invokevirtual 156, 3) := dk_182 0 156 (dk_at dksX7_next_3 13 rfl rfl)
theorem dX7_next_87 : decode cX7_next 87 = .ok (.putfield 121, 3) := dk_181 0 121 (dk_at dksX7_next_3 16 rfl rfl)
theorem dX7_next_90 : decode cX7_next 90 = .ok (.goto 125, 3) := dk_167 0 125 (dk_at dksX7_next_3 19 rfl rfl)
theorem dX7_next_93 : decode cX7_next 93 = .ok (.aload_n 0, 1) := dk_42 (dk_at dksX7_next_3 22 rfl rfl)
theorem dX7_next_94 : decode cX7_next 94 = .ok (.invokevirtual 159, 3) := dk_182 0 159 (dk_at dksX7_next_4 0 rfl rfl)
theorem dX7_next_97 : decode cX7_next 97 = .ok (.ifCond .eq 85, 3) := dk_153 0 85 (dk_at dksX7_next_4 3 rfl rfl)
theorem dX7_next_100 : decode cX7_next 100 = .ok (.aload_n 0, 1) := dk_42 (dk_at dksX7_next_4 6 rfl rfl)
theorem dX7_next_101 : decode cX7_next 101 = .ok (.iconst 0, 1) := dk_3 (dk_at dksX7_next_4 7 rfl rfl)
theorem dX7_next_102 : decode cX7_next 102 = .ok (.putfield 129, 3) := dk_181 0 129 (dk_at dksX7_next_4 8 rfl rfl)
theorem dX7_next_105 : decode cX7_next 105 = .ok (.aload_n 0, 1) := dk_42 (dk_at dksX7_next_4 11 rfl rfl)
theorem dX7_next_106 : decode cX7_next 106 = .ok (.invokevirtual 159, 3) := dk_182 0 159 (dk_at dksX7_next_4 12 rfl rfl)
theorem dX7_next_109 : decode cX7_next 109 = .ok (.ifCond .eq 48, 3) := dk_153 0 48 (dk_at dksX7_next_4 15 rfl rfl)
theorem dX7_next_112 : decode cX7_next 112 = .ok (.aload_n 0, 1) := dk_42 (dk_at dksX7_next_4 18 rfl rfl)
theorem dX7_next_113 : decode cX7_next 113 = .ok (.getfield 23, 3) := dk_180 0 23 (dk_at dksX7_next_4 19 rfl rfl)
theorem dX7_next_116 : decode cX7_next 116 = .ok (.aload_n 0, 1) := dk_42 (dk_at dksX7_next_4 22 rfl rfl)
theorem dX7_next_117 : decode cX7_next 117 = .ok (.getfield 41, 3) := dk_180 0 41 (dk_at dksX7_next_5 0 rfl rfl)
theorem dX7_next_120 : decode cX7_next 120 = .ok (.iconst 4, 1) := dk_7 (dk_at dksX7_next_5 3 rfl rfl)
theorem dX7_next_121 : decode cX7_next 121 = .ok (.iadd, 1) := dk_96 (dk_at dksX7_next_5 4 rfl rfl)
theorem dX7_next_122 : decode cX7_next 122 = .ok (.if_icmp .ge 22, 3) := dk_162 0 22 (dk_at dksX7_next_5 5 rfl rfl)
theorem dX7_next_125 : decode cX7_next 125 = .ok (.aload_n 0, 1) := dk_42 (dk_at dksX7_next_5 8 rfl rfl)
theorem dX7_next_126 : decode cX7_next 126 = .ok (.bipush 10, 2) := dk_16 10 (dk_at dksX7_next_5 9 rfl rfl)
theorem dX7_next_128 : decode cX7_next 128 = .ok (.aload_n 0, 1) := dk_42 (dk_at dksX7_next_5 11 rfl rfl)
theorem dX7_next_129 : decode cX7_next 129 = .ok (.getfield 129, 3) := dk_180 0 129 (dk_at dksX7_next_5 12 rfl rfl)
theorem dX7_next_132 : decode cX7_next 132 = .ok (.imul, 1) := dk_104 (dk_at dksX7_next_5 15 rfl rfl)
theorem dX7_next_133 : decode cX7_next 133 = .ok (.aload_n 0, 1) := dk_42 (dk_at dksX7_next_5 16 rfl rfl)
theorem dX7_next_134 : decode cX7_next 134 = .ok (.invokevirtual 33, 3) := dk_182 0 33 (dk_at dksX7_next_5 17 rfl rfl)
theorem dX7_next_137 : decode cX7_next 137 = .ok (.iadd, 1) := dk_96 (dk_at dksX7_next_5 20 rfl rfl)
theorem dX7_next_138 : decode cX7_next 138 = .ok (.bipush 48, 2) := dk_16 48 (dk_at dksX7_next_5 21 rfl rfl)
theorem dX7_next_140 : decode cX7_next 140 = .ok (.isub, 1) := dk_100 (dk_at dksX7_next_5 23 rfl rfl)
theorem dX7_next_141 : decode cX7_next 141 = .ok (.putfield 129, 3) := dk_181 0 129 (dk_at dksX7_next_6 0 rfl rfl)
theorem dX7_next_144 : decode cX7_next 144 = .ok (.aload_n 0, 1) := dk_42 (dk_at dksX7_next_6 3 rfl rfl)
theorem dX7_next_145 : decode cX7_next 145 = .ok (.dup, 1) := dk_89 (dk_at dksX7_next_6 4 rfl rfl)
theorem dX7_next_146 : decode cX7_next 146 = .ok (.getfield 23, 3) := dk_180 0 23 (dk_at dksX7_next_6 5 rfl rfl)
theorem dX7_next_149 : decode cX7_next 149 = .ok (.iconst 1, 1) := dk_4 (dk_at dksX7_next_6 8 rfl rfl)
theorem dX7_next_150 : decode cX7_next 150 = .ok (.iadd, 1) := dk_96 (dk_at dksX7_next_6 9 rfl rfl)
theorem dX7_next_151 : decode cX7_next 151 = .ok (.putfield 23, 3) := dk_181 0 23 (dk_at dksX7_next_6 10 rfl rfl)
theorem dX7_next_154 : decode cX7_next 154 = .ok (.goto (-49), 3) := dk_167 255 207 (dk_at dksX7_next_6 13 rfl rfl)
theorem dX7_next_157 : decode cX7_next 157 = .ok (.aload_n 0, 1) := dk_42 (dk_at dksX7_next_6 16 rfl rfl)
theorem dX7_next_158 : decode cX7_next 158 = .ok (.aload_n 0, 1) := dk_42 (dk_at dksX7_next_6 17 rfl rfl)
theorem dX7_next_159 : decode cX7_next 159 = .ok (.getfield 23, 3) := dk_180 0 23 (dk_at dksX7_next_6 18 rfl rfl)
theorem dX7_next_162 : decode cX7_next 162 = .ok (.aload_n 0, 1) := dk_42 (dk_at dksX7_next_6 21 rfl rfl)
theorem dX7_next_163 : decode cX7_next 163 = .ok (.getfield 41, 3) := dk_180 0 41 (dk_at dksX7_next_7 0 rfl rfl)
theorem dX7_next_166 : decode cX7_next 166 = .ok (.isub, 1) := dk_100 (dk_at dksX7_next_7 3 rfl rfl)
theorem dX7_next_167 : decode cX7_next 167 = .ok (.iconst 5, 1) := dk_8 (dk_at dksX7_next_7 4 rfl rfl)
theorem dX7_next_168 : decode cX7_next 168 = .ok (.if_icmp .ge 7, 3) := dk_162 0 7 (dk_at dksX7_next_7 5 rfl rfl)
theorem dX7_next_171 : decode cX7_next 171 = .ok (.iconst 2, 1) := dk_5 (dk_at dksX7_next_7 8 rfl rfl)
theorem dX7_next_172 : decode cX7_next 172 = .ok (.goto 4, 3) := dk_167 0 4 (dk_at dksX7_next_7 9 rfl rfl)
theorem dX7_next_175 : decode cX7_next 175 = .ok (.iconst 1, 1) := dk_4 (dk_at dksX7_next_7 12 rfl rfl)
theorem dX7_next_176 : decode cX7_next 176 = .ok (.putfield 121, 3) := dk_181 0 121 (dk_at dksX7_next_7 13 rfl rfl)
theorem dX7_next_179 : decode cX7_next 179 = .ok (.goto 36, 3) := dk_167 0 36 (dk_at dksX7_next_7 16 rfl rfl)
theorem dX7_next_182 : decode cX7_next 182 = .ok (.aload_n 0, 1) := dk_42 (dk_at dksX7_next_7 19 rfl rfl)
theorem dX7_next_183 : decode cX7_next 183 = .ok (.aload_n 0, 1) := dk_42 (dk_at dksX7_next_7 20 rfl rfl)
theorem dX7_next_184 : decode cX7_next 184 = .ok (.aload_n 0, 1) := dk_42 (dk_at dksX7_next_7 21 rfl rfl)
theorem dX7_next_185 : decode cX7_next 185 = .ok (.invokevirtual 33, 3) := dk_182 0 33 (dk_at dksX7_next_8 0 rfl rfl)
theorem dX7_next_188 : decode cX7_next 188 = .ok (.invokevirtual 162, 3) := dk_182 0 162 (dk_at dksX7_next_8 3 rfl rfl)
theorem dX7_next_191 : decode cX7_next 191 = .ok (.ifCond .eq 10, 3) := dk_153 0 10 (dk_at dksX7_next_8 6 rfl rfl)
theorem dX7_next_194 : decode cX7_next 194 = .ok (.aload_n 0, 1) := dk_42 (dk_at dksX7_next_8 9 rfl rfl)
theorem dX7_next_195 : decode cX7_next 195 = .ok (.invokevirtual 33, 3) := dk_182 0 33 (dk_at dksX7_next_8 10 rfl rfl)
theorem dX7_next_198 : decode cX7_next 198 = .ok (.goto 4, 3) := dk_167 0 4 (dk_at dksX7_next_8 13 rfl rfl)
theorem dX7_next_201 : decode cX7_next 201 = .ok (.iconst 1, 1) := dk_4 (dk_at dksX7_next_8 16 rfl rfl)
theorem dX7_next_202 : decode cX7_next 202 = .ok (.putfield 121, 3) := dk_181 0 121 (dk_at dksX7_next_8 17 rfl rfl)
theorem dX7_next_205 : decode cX7_next 205 = .ok (.aload_n 0, 1) := dk_42 (dk_at dksX7_next_8 20 rfl rfl)
theorem dX7_next_206 : decode cX7_next 206 = .ok (.dup, 1) := dk_89 (dk_at dksX7_next_8 21 rfl rfl)
theorem dX7_next_207 : decode cX7_next 207 = .ok (.getfield 23, 3) := dk_180 0 23 (dk_at dksX7_next_9 0 rfl rfl)
theorem dX7_next_210 : decode cX7_next 210 = .ok (.iconst 1, 1) := dk_4 (dk_at dksX7_next_9 3 rfl rfl)
theorem dX7_next_211 : decode cX7_next 211 = .ok (.iadd, 1) := dk_96 (dk_at dksX7_next_9 4 rfl rfl)
theorem dX7_next_212 : decode cX7_next 212 = .ok (.putfield 23, 3) := dk_181 0 23 (dk_at dksX7_next_9 5 rfl rfl)
theorem dX7_next_215 : decode cX7_next 215 = .ok (.return_, 1) := dk_177 (dk_at dksX7_next_9 8 rfl rfl)
abbrev cX7_see : ByteArray := prog_16_method_2_code
def yX7_see : MethodName := ⟨RX7, "see", "()I"⟩
def dkwX7_see_1 : List UInt8 := [180, 0, 23, 51, 17, 0, 255, 126, 167, 0, 4, 2, 172]
abbrev dktX7_see_1 : List UInt8 := dkwX7_see_1 ++ []
def dkwX7_see_0 : List UInt8 := [42, 180, 0, 23, 42, 180, 0, 3, 180, 0, 26, 162, 0, 22, 42, 180, 0, 3, 180, 0, 29, 42]
abbrev dktX7_see_0 : List UInt8 := dkwX7_see_0 ++ dktX7_see_1
theorem dksX7_see_0 : cX7_see.data.toList.drop 0 = dktX7_see_0 := by decide +kernel
theorem dksX7_see_1 : cX7_see.data.toList.drop 22 = dktX7_see_1 := dk_seg dksX7_see_0 22 rfl rfl
theorem dX7_see_0 : decode cX7_see 0 = .ok (.aload_n 0, 1) := dk_42 (dk_at dksX7_see_0 0 rfl rfl)
theorem dX7_see_1 : decode cX7_see 1 = .ok (.getfield 23, 3) := dk_180 0 23 (dk_at dksX7_see_0 1 rfl rfl)
theorem dX7_see_4 : decode cX7_see 4 = .ok (.aload_n 0, 1) := dk_42 (dk_at dksX7_see_0 4 rfl rfl)
theorem dX7_see_5 : decode cX7_see 5 = .ok (.getfield 3, 3) := dk_180 0 3 (dk_at dksX7_see_0 5 rfl rfl)
theorem dX7_see_8 : decode cX7_see 8 = .ok (.getfield 26, 3) := dk_180 0 26 (dk_at dksX7_see_0 8 rfl rfl)
theorem dX7_see_11 : decode cX7_see 11 = .ok (.if_icmp .ge 22, 3) := dk_162 0 22 (dk_at dksX7_see_0 11 rfl rfl)
theorem dX7_see_14 : decode cX7_see 14 = .ok (.aload_n 0, 1) := dk_42 (dk_at dksX7_see_0 14 rfl rfl)
theorem dX7_see_15 : decode cX7_see 15 = .ok (.getfield 3, 3) := dk_180 0 3 (dk_at dksX7_see_0 15 rfl rfl)
theorem dX7_see_18 : decode cX7_see 18 = .ok (.getfield 29, 3) := dk_180 0 29 (dk_at dksX7_see_0 18 rfl rfl)
theorem dX7_see_21 : decode cX7_see 21 = .ok (.aload_n 0, 1) := dk_42 (dk_at dksX7_see_0 21 rfl rfl)
theorem dX7_see_22 : decode cX7_see 22 = .ok (.getfield 23, 3) := dk_180 0 23 (dk_at dksX7_see_1 0 rfl rfl)
theorem dX7_see_25 : decode cX7_see 25 = .ok (.baload, 1) := dk_51 (dk_at dksX7_see_1 3 rfl rfl)
theorem dX7_see_26 : decode cX7_see 26 = .ok (.sipush 255, 3) := dk_17 0 255 (dk_at dksX7_see_1 4 rfl rfl)
theorem dX7_see_29 : decode cX7_see 29 = .ok (.iand, 1) := dk_126 (dk_at dksX7_see_1 7 rfl rfl)
theorem dX7_see_30 : decode cX7_see 30 = .ok (.goto 4, 3) := dk_167 0 4 (dk_at dksX7_see_1 8 rfl rfl)
theorem dX7_see_33 : decode cX7_see 33 = .ok (.iconst (-1), 1) := dk_2 (dk_at dksX7_see_1 11 rfl rfl)
theorem dX7_see_34 : decode cX7_see 34 = .ok (.ireturn, 1) := dk_172 (dk_at dksX7_see_1 12 rfl rfl)
abbrev cX7_isLetter : ByteArray := prog_16_method_3_code
def yX7_isLetter : MethodName := ⟨RX7, "isLetter", "()Z"⟩
def dkwX7_isLetter_1 : List UInt8 := [184, 0, 37, 153, 0, 7, 4, 167, 0, 4, 3, 172]
abbrev dktX7_isLetter_1 : List UInt8 := dkwX7_isLetter_1 ++ []
def dkwX7_isLetter_0 : List UInt8 := [42, 182, 0, 33, 16, 97, 16, 122, 184, 0, 37, 154, 0, 17, 42, 182, 0, 33, 16, 65, 16, 90]
abbrev dktX7_isLetter_0 : List UInt8 := dkwX7_isLetter_0 ++ dktX7_isLetter_1
theorem dksX7_isLetter_0 : cX7_isLetter.data.toList.drop 0 = dktX7_isLetter_0 := by decide +kernel
theorem dksX7_isLetter_1 : cX7_isLetter.data.toList.drop 22 = dktX7_isLetter_1 := dk_seg dksX7_isLetter_0 22 rfl rfl
theorem dX7_isLetter_0 : decode cX7_isLetter 0 = .ok (.aload_n 0, 1) := dk_42 (dk_at dksX7_isLetter_0 0 rfl rfl)
theorem dX7_isLetter_1 : decode cX7_isLetter 1 = .ok (.invokevirtual 33, 3) := dk_182 0 33 (dk_at dksX7_isLetter_0 1 rfl rfl)
theorem dX7_isLetter_4 : decode cX7_isLetter 4 = .ok (.bipush 97, 2) := dk_16 97 (dk_at dksX7_isLetter_0 4 rfl rfl)
theorem dX7_isLetter_6 : decode cX7_isLetter 6 = .ok (.bipush 122, 2) := dk_16 122 (dk_at dksX7_isLetter_0 6 rfl rfl)
theorem dX7_isLetter_8 : decode cX7_isLetter 8 = .ok (.invokestatic 37, 3) := dk_184 0 37 (dk_at dksX7_isLetter_0 8 rfl rfl)
theorem dX7_isLetter_11 : decode cX7_isLetter 11 = .ok (.ifCond .ne 17, 3) := dk_154 0 17 (dk_at dksX7_isLetter_0 11 rfl rfl)
theorem dX7_isLetter_14 : decode cX7_isLetter 14 = .ok (.aload_n 0, 1) := dk_42 (dk_at dksX7_isLetter_0 14 rfl rfl)
theorem dX7_isLetter_15 : decode cX7_isLetter 15 = .ok (.invokevirtual 33, 3) := dk_182 0 33 (dk_at dksX7_isLetter_0 15 rfl rfl)
theorem dX7_isLetter_18 : decode cX7_isLetter 18 = .ok (.bipush 65, 2) := dk_16 65 (dk_at dksX7_isLetter_0 18 rfl rfl)
theorem dX7_isLetter_20 : decode cX7_isLetter 20 = .ok (.bipush 90, 2) := dk_16 90 (dk_at dksX7_isLetter_0 20 rfl rfl)
theorem dX7_isLetter_22 : decode cX7_isLetter 22 = .ok (.invokestatic 37, 3) := dk_184 0 37 (dk_at dksX7_isLetter_1 0 rfl rfl)
theorem dX7_isLetter_25 : decode cX7_isLetter 25 = .ok (.ifCond .eq 7, 3) := dk_153 0 7 (dk_at dksX7_isLetter_1 3 rfl rfl)
theorem dX7_isLetter_28 : decode cX7_isLetter 28 = .ok (.iconst 1, 1) := dk_4 (dk_at dksX7_isLetter_1 6 rfl rfl)
theorem dX7_isLetter_29 : decode cX7_isLetter 29 = .ok (.goto 4, 3) := dk_167 0 4 (dk_at dksX7_isLetter_1 7 rfl rfl)
theorem dX7_isLetter_32 : decode cX7_isLetter 32 = .ok (.iconst 0, 1) := dk_3 (dk_at dksX7_isLetter_1 10 rfl rfl)
theorem dX7_isLetter_33 : decode cX7_isLetter 33 = .ok (.ireturn, 1) := dk_172 (dk_at dksX7_isLetter_1 11 rfl rfl)
abbrev cX7_keyword : ByteArray := prog_16_method_10_code
def yX7_keyword : MethodName := ⟨RX7, "keyword", "()I"⟩
def dkwX7_keyword_3 : List UInt8 := [16, 11, 167, 0, 18, 42, 18, 75, 182, 0, 55, 153, 0, 8, 16, 20, 167, 0, 4, 4, 172]
abbrev dktX7_keyword_3 : List UInt8 := dkwX7_keyword_3 ++ []
def dkwX7_keyword_2 : List UInt8 := [42, 182, 0, 112, 172, 42, 182, 0, 115, 172, 42, 182, 0, 118, 172, 42, 18, 97, 182, 0, 55, 153, 0, 8]
abbrev dktX7_keyword_2 : List UInt8 := dkwX7_keyword_2 ++ dktX7_keyword_3
def dkwX7_keyword_1 : List UInt8 := [170, 0, 0, 0, 0, 0, 0, 43, 0, 0, 0, 0, 0, 0, 0, 2, 0, 0, 0, 28, 0, 0, 0, 33, 0, 0, 0, 38]
abbrev dktX7_keyword_1 : List UInt8 := dkwX7_keyword_1 ++ dktX7_keyword_2
def dkwX7_keyword_0 : List UInt8 := [42, 180, 0, 19]
abbrev dktX7_keyword_0 : List UInt8 := dkwX7_keyword_0 ++ dktX7_keyword_1
theorem dksX7_keyword_0 : cX7_keyword.data.toList.drop 0 = dktX7_keyword_0 := by decide +kernel
theorem dksX7_keyword_1 : cX7_keyword.data.toList.drop 4 = dktX7_keyword_1 := dk_seg dksX7_keyword_0 4 rfl rfl
theorem dksX7_keyword_2 : cX7_keyword.data.toList.drop 32 = dktX7_keyword_2 := dk_seg dksX7_keyword_1 28 rfl rfl
theorem dksX7_keyword_3 : cX7_keyword.data.toList.drop 56 = dktX7_keyword_3 := dk_seg dksX7_keyword_2 24 rfl rfl
theorem dX7_keyword_0 : decode cX7_keyword 0 = .ok (.aload_n 0, 1) := dk_42 (dk_at dksX7_keyword_0 0 rfl rfl)
theorem dX7_keyword_1 : decode cX7_keyword 1 = .ok (.getfield 19, 3) := dk_180 0 19 (dk_at dksX7_keyword_0 1 rfl rfl)
theorem dX7_keyword_4 : decode cX7_keyword 4 = .ok (.tableswitch 43 0 2 #[28, 33, 38], 28) := by decide +kernel
theorem dX7_keyword_32 : decode cX7_keyword 32 = .ok (.aload_n 0, 1) := dk_42 (dk_at dksX7_keyword_2 0 rfl rfl)
theorem dX7_keyword_33 : decode cX7_keyword 33 = .ok (.invokevirtual 112, 3) := dk_182 0 112 (dk_at dksX7_keyword_2 1 rfl rfl)
theorem dX7_keyword_36 : decode cX7_keyword 36 = .ok (.ireturn, 1) := dk_172 (dk_at dksX7_keyword_2 4 rfl rfl)
theorem dX7_keyword_37 : decode cX7_keyword 37 = .ok (.aload_n 0, 1) := dk_42 (dk_at dksX7_keyword_2 5 rfl rfl)
theorem dX7_keyword_38 : decode cX7_keyword 38 = .ok (.invokevirtual 115, 3) := dk_182 0 115 (dk_at dksX7_keyword_2 6 rfl rfl)
theorem dX7_keyword_41 : decode cX7_keyword 41 = .ok (.ireturn, 1) := dk_172 (dk_at dksX7_keyword_2 9 rfl rfl)
theorem dX7_keyword_42 : decode cX7_keyword 42 = .ok (.aload_n 0, 1) := dk_42 (dk_at dksX7_keyword_2 10 rfl rfl)
theorem dX7_keyword_43 : decode cX7_keyword 43 = .ok (.invokevirtual 118, 3) := dk_182 0 118 (dk_at dksX7_keyword_2 11 rfl rfl)
theorem dX7_keyword_46 : decode cX7_keyword 46 = .ok (.ireturn, 1) := dk_172 (dk_at dksX7_keyword_2 14 rfl rfl)
theorem dX7_keyword_47 : decode cX7_keyword 47 = .ok (.aload_n 0, 1) := dk_42 (dk_at dksX7_keyword_2 15 rfl rfl)
theorem dX7_keyword_48 : decode cX7_keyword 48 = .ok (.ldc 97, 2) := dk_18 97 (dk_at dksX7_keyword_2 16 rfl rfl)
theorem dX7_keyword_50 : decode cX7_keyword 50 = .ok (.invokevirtual 55, 3) := dk_182 0 55 (dk_at dksX7_keyword_2 18 rfl rfl)
theorem dX7_keyword_53 : decode cX7_keyword 53 = .ok (.ifCond .eq 8, 3) := dk_153 0 8 (dk_at dksX7_keyword_2 21 rfl rfl)
theorem dX7_keyword_56 : decode cX7_keyword 56 = .ok (.bipush 11, 2) := dk_16 11 (dk_at dksX7_keyword_3 0 rfl rfl)
theorem dX7_keyword_58 : decode cX7_keyword 58 = .ok (.goto 18, 3) := dk_167 0 18 (dk_at dksX7_keyword_3 2 rfl rfl)
theorem dX7_keyword_61 : decode cX7_keyword 61 = .ok (.aload_n 0, 1) := dk_42 (dk_at dksX7_keyword_3 5 rfl rfl)
theorem dX7_keyword_62 : decode cX7_keyword 62 = .ok (.ldc 75, 2) := dk_18 75 (dk_at dksX7_keyword_3 6 rfl rfl)
theorem dX7_keyword_64 : decode cX7_keyword 64 = .ok (.invokevirtual 55, 3) := dk_182 0 55 (dk_at dksX7_keyword_3 8 rfl rfl)
theorem dX7_keyword_67 : decode cX7_keyword 67 = .ok (.ifCond .eq 8, 3) := dk_153 0 8 (dk_at dksX7_keyword_3 11 rfl rfl)
theorem dX7_keyword_70 : decode cX7_keyword 70 = .ok (.bipush 20, 2) := dk_16 20 (dk_at dksX7_keyword_3 14 rfl rfl)
theorem dX7_keyword_72 : decode cX7_keyword 72 = .ok (.goto 4, 3) := dk_167 0 4 (dk_at dksX7_keyword_3 16 rfl rfl)
theorem dX7_keyword_75 : decode cX7_keyword 75 = .ok (.iconst 1, 1) := dk_4 (dk_at dksX7_keyword_3 19 rfl rfl)
theorem dX7_keyword_76 : decode cX7_keyword 76 = .ok (.ireturn, 1) := dk_172 (dk_at dksX7_keyword_3 20 rfl rfl)
abbrev cX7_lawWord : ByteArray := prog_16_method_7_code
def yX7_lawWord : MethodName := ⟨RX7, "lawWord", "()I"⟩
def dkwX7_lawWord_3 : List UInt8 := [18, 90, 182, 0, 55, 153, 0, 8, 16, 9, 167, 0, 7, 42, 182, 0, 92, 172]
abbrev dktX7_lawWord_3 : List UInt8 := dkwX7_lawWord_3 ++ []
def dkwX7_lawWord_2 : List UInt8 := [18, 86, 182, 0, 55, 153, 0, 6, 16, 7, 172, 42, 18, 88, 182, 0, 55, 153, 0, 6, 16, 8, 172, 42]
abbrev dktX7_lawWord_2 : List UInt8 := dkwX7_lawWord_2 ++ dktX7_lawWord_3
def dkwX7_lawWord_1 : List UInt8 := [18, 82, 182, 0, 55, 153, 0, 5, 8, 172, 42, 18, 84, 182, 0, 55, 153, 0, 6, 16, 6, 172, 42]
abbrev dktX7_lawWord_1 : List UInt8 := dkwX7_lawWord_1 ++ dktX7_lawWord_2
def dkwX7_lawWord_0 : List UInt8 := [42, 18, 78, 182, 0, 55, 153, 0, 5, 6, 172, 42, 18, 80, 182, 0, 55, 153, 0, 5, 7, 172, 42]
abbrev dktX7_lawWord_0 : List UInt8 := dkwX7_lawWord_0 ++ dktX7_lawWord_1
theorem dksX7_lawWord_0 : cX7_lawWord.data.toList.drop 0 = dktX7_lawWord_0 := by decide +kernel
theorem dksX7_lawWord_1 : cX7_lawWord.data.toList.drop 23 = dktX7_lawWord_1 := dk_seg dksX7_lawWord_0 23 rfl rfl
theorem dksX7_lawWord_2 : cX7_lawWord.data.toList.drop 46 = dktX7_lawWord_2 := dk_seg dksX7_lawWord_1 23 rfl rfl
theorem dksX7_lawWord_3 : cX7_lawWord.data.toList.drop 70 = dktX7_lawWord_3 := dk_seg dksX7_lawWord_2 24 rfl rfl
theorem dX7_lawWord_0 : decode cX7_lawWord 0 = .ok (.aload_n 0, 1) := dk_42 (dk_at dksX7_lawWord_0 0 rfl rfl)
theorem dX7_lawWord_1 : decode cX7_lawWord 1 = .ok (.ldc 78, 2) := dk_18 78 (dk_at dksX7_lawWord_0 1 rfl rfl)
theorem dX7_lawWord_3 : decode cX7_lawWord 3 = .ok (.invokevirtual 55, 3) := dk_182 0 55 (dk_at dksX7_lawWord_0 3 rfl rfl)
theorem dX7_lawWord_6 : decode cX7_lawWord 6 = .ok (.ifCond .eq 5, 3) := dk_153 0 5 (dk_at dksX7_lawWord_0 6 rfl rfl)
theorem dX7_lawWord_9 : decode cX7_lawWord 9 = .ok (.iconst 3, 1) := dk_6 (dk_at dksX7_lawWord_0 9 rfl rfl)
theorem dX7_lawWord_10 : decode cX7_lawWord 10 = .ok (.ireturn, 1) := dk_172 (dk_at dksX7_lawWord_0 10 rfl rfl)
theorem dX7_lawWord_11 : decode cX7_lawWord 11 = .ok (.aload_n 0, 1) := dk_42 (dk_at dksX7_lawWord_0 11 rfl rfl)
theorem dX7_lawWord_12 : decode cX7_lawWord 12 = .ok (.ldc 80, 2) := dk_18 80 (dk_at dksX7_lawWord_0 12 rfl rfl)
theorem dX7_lawWord_14 : decode cX7_lawWord 14 = .ok (.invokevirtual 55, 3) := dk_182 0 55 (dk_at dksX7_lawWord_0 14 rfl rfl)
theorem dX7_lawWord_17 : decode cX7_lawWord 17 = .ok (.ifCond .eq 5, 3) := dk_153 0 5 (dk_at dksX7_lawWord_0 17 rfl rfl)
theorem dX7_lawWord_20 : decode cX7_lawWord 20 = .ok (.iconst 4, 1) := dk_7 (dk_at dksX7_lawWord_0 20 rfl rfl)
theorem dX7_lawWord_21 : decode cX7_lawWord 21 = .ok (.ireturn, 1) := dk_172 (dk_at dksX7_lawWord_0 21 rfl rfl)
theorem dX7_lawWord_22 : decode cX7_lawWord 22 = .ok (.aload_n 0, 1) := dk_42 (dk_at dksX7_lawWord_0 22 rfl rfl)
theorem dX7_lawWord_23 : decode cX7_lawWord 23 = .ok (.ldc 82, 2) := dk_18 82 (dk_at dksX7_lawWord_1 0 rfl rfl)
theorem dX7_lawWord_25 : decode cX7_lawWord 25 = .ok (.invokevirtual 55, 3) := dk_182 0 55 (dk_at dksX7_lawWord_1 2 rfl rfl)
theorem dX7_lawWord_28 : decode cX7_lawWord 28 = .ok (.ifCond .eq 5, 3) := dk_153 0 5 (dk_at dksX7_lawWord_1 5 rfl rfl)
theorem dX7_lawWord_31 : decode cX7_lawWord 31 = .ok (.iconst 5, 1) := dk_8 (dk_at dksX7_lawWord_1 8 rfl rfl)
theorem dX7_lawWord_32 : decode cX7_lawWord 32 = .ok (.ireturn, 1) := dk_172 (dk_at dksX7_lawWord_1 9 rfl rfl)
theorem dX7_lawWord_33 : decode cX7_lawWord 33 = .ok (.aload_n 0, 1) := dk_42 (dk_at dksX7_lawWord_1 10 rfl rfl)
theorem dX7_lawWord_34 : decode cX7_lawWord 34 = .ok (.ldc 84, 2) := dk_18 84 (dk_at dksX7_lawWord_1 11 rfl rfl)
theorem dX7_lawWord_36 : decode cX7_lawWord 36 = .ok (.invokevirtual 55, 3) := dk_182 0 55 (dk_at dksX7_lawWord_1 13 rfl rfl)
theorem dX7_lawWord_39 : decode cX7_lawWord 39 = .ok (.ifCond .eq 6, 3) := dk_153 0 6 (dk_at dksX7_lawWord_1 16 rfl rfl)
theorem dX7_lawWord_42 : decode cX7_lawWord 42 = .ok (.bipush 6, 2) := dk_16 6 (dk_at dksX7_lawWord_1 19 rfl rfl)
theorem dX7_lawWord_44 : decode cX7_lawWord 44 = .ok (.ireturn, 1) := dk_172 (dk_at dksX7_lawWord_1 21 rfl rfl)
theorem dX7_lawWord_45 : decode cX7_lawWord 45 = .ok (.aload_n 0, 1) := dk_42 (dk_at dksX7_lawWord_1 22 rfl rfl)
theorem dX7_lawWord_46 : decode cX7_lawWord 46 = .ok (.ldc 86, 2) := dk_18 86 (dk_at dksX7_lawWord_2 0 rfl rfl)
theorem dX7_lawWord_48 : decode cX7_lawWord 48 = .ok (.invokevirtual 55, 3) := dk_182 0 55 (dk_at dksX7_lawWord_2 2 rfl rfl)
theorem dX7_lawWord_51 : decode cX7_lawWord 51 = .ok (.ifCond .eq 6, 3) := dk_153 0 6 (dk_at dksX7_lawWord_2 5 rfl rfl)
theorem dX7_lawWord_54 : decode cX7_lawWord 54 = .ok (.bipush 7, 2) := dk_16 7 (dk_at dksX7_lawWord_2 8 rfl rfl)
theorem dX7_lawWord_56 : decode cX7_lawWord 56 = .ok (.ireturn, 1) := dk_172 (dk_at dksX7_lawWord_2 10 rfl rfl)
theorem dX7_lawWord_57 : decode cX7_lawWord 57 = .ok (.aload_n 0, 1) := dk_42 (dk_at dksX7_lawWord_2 11 rfl rfl)
theorem dX7_lawWord_58 : decode cX7_lawWord 58 = .ok (.ldc 88, 2) := dk_18 88 (dk_at dksX7_lawWord_2 12 rfl rfl)
theorem dX7_lawWord_60 : decode cX7_lawWord 60 = .ok (.invokevirtual 55, 3) := dk_182 0 55 (dk_at dksX7_lawWord_2 14 rfl rfl)
theorem dX7_lawWord_63 : decode cX7_lawWord 63 = .ok (.ifCond .eq 6, 3) := dk_153 0 6 (dk_at dksX7_lawWord_2 17 rfl rfl)
theorem dX7_lawWord_66 : decode cX7_lawWord 66 = .ok (.bipush 8, 2) := dk_16 8 (dk_at dksX7_lawWord_2 20 rfl rfl)
theorem dX7_lawWord_68 : decode cX7_lawWord 68 = .ok (.ireturn, 1) := dk_172 (dk_at dksX7_lawWord_2 22 rfl rfl)
theorem dX7_lawWord_69 : decode cX7_lawWord 69 = .ok (.aload_n 0, 1) := dk_42 (dk_at dksX7_lawWord_2 23 rfl rfl)
theorem dX7_lawWord_70 : decode cX7_lawWord 70 = .ok (.ldc 90, 2) := dk_18 90 (dk_at dksX7_lawWord_3 0 rfl rfl)
theorem dX7_lawWord_72 : decode cX7_lawWord 72 = .ok (.invokevirtual 55, 3) := dk_182 0 55 (dk_at dksX7_lawWord_3 2 rfl rfl)
theorem dX7_lawWord_75 : decode cX7_lawWord 75 = .ok (.ifCond .eq 8, 3) := dk_153 0 8 (dk_at dksX7_lawWord_3 5 rfl rfl)
theorem dX7_lawWord_78 : decode cX7_lawWord 78 = .ok (.bipush 9, 2) := dk_16 9 (dk_at dksX7_lawWord_3 8 rfl rfl)
theorem dX7_lawWord_80 : decode cX7_lawWord 80 = .ok (.goto 7, 3) := dk_167 0 7 (dk_at dksX7_lawWord_3 10 rfl rfl)
theorem dX7_lawWord_83 : decode cX7_lawWord 83 = .ok (.aload_n 0, 1) := dk_42 (dk_at dksX7_lawWord_3 13 rfl rfl)
theorem dX7_lawWord_84 : decode cX7_lawWord 84 = .ok (.invokevirtual 92, 3) := dk_182 0 92 (dk_at dksX7_lawWord_3 14 rfl rfl)
theorem dX7_lawWord_87 : decode cX7_lawWord 87 = .ok (.ireturn, 1) := dk_172 (dk_at dksX7_lawWord_3 17 rfl rfl)
abbrev cX7_is : ByteArray := prog_16_method_5_code
def yX7_is : MethodName := ⟨RX7, "is", "(Ljava/lang/String;)Z"⟩
def dkwX7_is_2 : List UInt8 := [96, 51, 43, 29, 182, 0, 49, 160, 0, 7, 4, 167, 0, 4, 3, 61, 132, 3, 1, 167, 255, 213, 28, 172]
abbrev dktX7_is_2 : List UInt8 := dkwX7_is_2 ++ []
def dkwX7_is_1 : List UInt8 := [29, 43, 182, 0, 44, 162, 0, 41, 28, 153, 0, 37, 42, 180, 0, 3, 180, 0, 29, 42, 180, 0, 41, 29]
abbrev dktX7_is_1 : List UInt8 := dkwX7_is_1 ++ dktX7_is_2
def dkwX7_is_0 : List UInt8 := [42, 180, 0, 23, 42, 180, 0, 41, 100, 43, 182, 0, 44, 160, 0, 7, 4, 167, 0, 4, 3, 61, 3, 62]
abbrev dktX7_is_0 : List UInt8 := dkwX7_is_0 ++ dktX7_is_1
theorem dksX7_is_0 : cX7_is.data.toList.drop 0 = dktX7_is_0 := by decide +kernel
theorem dksX7_is_1 : cX7_is.data.toList.drop 24 = dktX7_is_1 := dk_seg dksX7_is_0 24 rfl rfl
theorem dksX7_is_2 : cX7_is.data.toList.drop 48 = dktX7_is_2 := dk_seg dksX7_is_1 24 rfl rfl
theorem dX7_is_0 : decode cX7_is 0 = .ok (.aload_n 0, 1) := dk_42 (dk_at dksX7_is_0 0 rfl rfl)
theorem dX7_is_1 : decode cX7_is 1 = .ok (.getfield 23, 3) := dk_180 0 23 (dk_at dksX7_is_0 1 rfl rfl)
theorem dX7_is_4 : decode cX7_is 4 = .ok (.aload_n 0, 1) := dk_42 (dk_at dksX7_is_0 4 rfl rfl)
theorem dX7_is_5 : decode cX7_is 5 = .ok (.getfield 41, 3) := dk_180 0 41 (dk_at dksX7_is_0 5 rfl rfl)
theorem dX7_is_8 : decode cX7_is 8 = .ok (.isub, 1) := dk_100 (dk_at dksX7_is_0 8 rfl rfl)
theorem dX7_is_9 : decode cX7_is 9 = .ok (.aload_n 1, 1) := dk_43 (dk_at dksX7_is_0 9 rfl rfl)
theorem dX7_is_10 : decode cX7_is 10 = .ok (.invokevirtual 44, 3) := dk_182 0 44 (dk_at dksX7_is_0 10 rfl rfl)
theorem dX7_is_13 : decode cX7_is 13 = .ok (.if_icmp .ne 7, 3) := dk_160 0 7 (dk_at dksX7_is_0 13 rfl rfl)
theorem dX7_is_16 : decode cX7_is 16 = .ok (.iconst 1, 1) := dk_4 (dk_at dksX7_is_0 16 rfl rfl)
theorem dX7_is_17 : decode cX7_is 17 = .ok (.goto 4, 3) := dk_167 0 4 (dk_at dksX7_is_0 17 rfl rfl)
theorem dX7_is_20 : decode cX7_is 20 = .ok (.iconst 0, 1) := dk_3 (dk_at dksX7_is_0 20 rfl rfl)
theorem dX7_is_21 : decode cX7_is 21 = .ok (.istore_n 2, 1) := dk_61 (dk_at dksX7_is_0 21 rfl rfl)
theorem dX7_is_22 : decode cX7_is 22 = .ok (.iconst 0, 1) := dk_3 (dk_at dksX7_is_0 22 rfl rfl)
theorem dX7_is_23 : decode cX7_is 23 = .ok (.istore_n 3, 1) := dk_62 (dk_at dksX7_is_0 23 rfl rfl)
theorem dX7_is_24 : decode cX7_is 24 = .ok (.iload_n 3, 1) := dk_29 (dk_at dksX7_is_1 0 rfl rfl)
theorem dX7_is_25 : decode cX7_is 25 = .ok (.aload_n 1, 1) := dk_43 (dk_at dksX7_is_1 1 rfl rfl)
theorem dX7_is_26 : decode cX7_is 26 = .ok (.invokevirtual 44, 3) := dk_182 0 44 (dk_at dksX7_is_1 2 rfl rfl)
theorem dX7_is_29 : decode cX7_is 29 = .ok (.if_icmp .ge 41, 3) := dk_162 0 41 (dk_at dksX7_is_1 5 rfl rfl)
theorem dX7_is_32 : decode cX7_is 32 = .ok (.iload_n 2, 1) := dk_28 (dk_at dksX7_is_1 8 rfl rfl)
theorem dX7_is_33 : decode cX7_is 33 = .ok (.ifCond .eq 37, 3) := dk_153 0 37 (dk_at dksX7_is_1 9 rfl rfl)
theorem dX7_is_36 : decode cX7_is 36 = .ok (.aload_n 0, 1) := dk_42 (dk_at dksX7_is_1 12 rfl rfl)
theorem dX7_is_37 : decode cX7_is 37 = .ok (.getfield 3, 3) := dk_180 0 3 (dk_at dksX7_is_1 13 rfl rfl)
theorem dX7_is_40 : decode cX7_is 40 = .ok (.getfield 29, 3) := dk_180 0 29 (dk_at dksX7_is_1 16 rfl rfl)
theorem dX7_is_43 : decode cX7_is 43 = .ok (.aload_n 0, 1) := dk_42 (dk_at dksX7_is_1 19 rfl rfl)
theorem dX7_is_44 : decode cX7_is 44 = .ok (.getfield 41, 3) := dk_180 0 41 (dk_at dksX7_is_1 20 rfl rfl)
theorem dX7_is_47 : decode cX7_is 47 = .ok (.iload_n 3, 1) := dk_29 (dk_at dksX7_is_1 23 rfl rfl)
theorem dX7_is_48 : decode cX7_is 48 = .ok (.iadd, 1) := dk_96 (dk_at dksX7_is_2 0 rfl rfl)
theorem dX7_is_49 : decode cX7_is 49 = .ok (.baload, 1) := dk_51 (dk_at dksX7_is_2 1 rfl rfl)
theorem dX7_is_50 : decode cX7_is 50 = .ok (.aload_n 1, 1) := dk_43 (dk_at dksX7_is_2 2 rfl rfl)
theorem dX7_is_51 : decode cX7_is 51 = .ok (.iload_n 3, 1) := dk_29 (dk_at dksX7_is_2 3 rfl rfl)
theorem dX7_is_52 : decode cX7_is 52 = .ok (.invokevirtual 49, 3) := dk_182 0 49 (dk_at dksX7_is_2 4 rfl rfl)
theorem dX7_is_55 : decode cX7_is 55 = .ok (.if_icmp .ne 7, 3) := dk_160 0 7 (dk_at dksX7_is_2 7 rfl rfl)
theorem dX7_is_58 : decode cX7_is 58 = .ok (.iconst 1, 1) := dk_4 (dk_at dksX7_is_2 10 rfl rfl)
theorem dX7_is_59 : decode cX7_is 59 = .ok (.goto 4, 3) := dk_167 0 4 (dk_at dksX7_is_2 11 rfl rfl)
theorem dX7_is_62 : decode cX7_is 62 = .ok (.iconst 0, 1) := dk_3 (dk_at dksX7_is_2 14 rfl rfl)
theorem dX7_is_63 : decode cX7_is 63 = .ok (.istore_n 2, 1) := dk_61 (dk_at dksX7_is_2 15 rfl rfl)
theorem dX7_is_64 : decode cX7_is 64 = .ok (.iinc 3 1, 3) := dk_132 3 1 (dk_at dksX7_is_2 16 rfl rfl)
theorem dX7_is_67 : decode cX7_is 67 = .ok (.goto (-43), 3) := dk_167 255 213 (dk_at dksX7_is_2 19 rfl rfl)
theorem dX7_is_70 : decode cX7_is 70 = .ok (.iload_n 2, 1) := dk_28 (dk_at dksX7_is_2 22 rfl rfl)
theorem dX7_is_71 : decode cX7_is 71 = .ok (.ireturn, 1) := dk_172 (dk_at dksX7_is_2 23 rfl rfl)
abbrev cX7_asked : ByteArray := prog_16_method_6_code
def yX7_asked : MethodName := ⟨RX7, "asked", "()I"⟩
def dkwX7_asked_6 : List UInt8 := [17, 0, 190, 167, 0, 4, 4, 172]
abbrev dktX7_asked_6 : List UInt8 := dkwX7_asked_6 ++ []
def dkwX7_asked_5 : List UInt8 := [172, 42, 18, 75, 182, 0, 55, 153, 0, 7, 17, 0, 189, 172, 42, 18, 76, 182, 0, 55, 153, 0, 9]
abbrev dktX7_asked_5 : List UInt8 := dkwX7_asked_5 ++ dktX7_asked_6
def dkwX7_asked_4 : List UInt8 := [18, 71, 182, 0, 55, 153, 0, 7, 17, 0, 187, 172, 42, 18, 73, 182, 0, 55, 153, 0, 7, 17, 0, 188]
abbrev dktX7_asked_4 : List UInt8 := dkwX7_asked_4 ++ dktX7_asked_5
def dkwX7_asked_3 : List UInt8 := [182, 0, 55, 153, 0, 7, 17, 0, 185, 172, 42, 18, 69, 182, 0, 55, 153, 0, 7, 17, 0, 186, 172, 42]
abbrev dktX7_asked_3 : List UInt8 := dkwX7_asked_3 ++ dktX7_asked_4
def dkwX7_asked_2 : List UInt8 := [153, 0, 7, 17, 0, 183, 172, 42, 18, 65, 182, 0, 55, 153, 0, 7, 17, 0, 184, 172, 42, 18, 67]
abbrev dktX7_asked_2 : List UInt8 := dkwX7_asked_2 ++ dktX7_asked_3
def dkwX7_asked_1 : List UInt8 := [17, 0, 181, 172, 42, 18, 61, 182, 0, 55, 153, 0, 7, 17, 0, 182, 172, 42, 18, 63, 182, 0, 55]
abbrev dktX7_asked_1 : List UInt8 := dkwX7_asked_1 ++ dktX7_asked_2
def dkwX7_asked_0 : List UInt8 := [42, 18, 53, 182, 0, 55, 153, 0, 7, 17, 0, 180, 172, 42, 18, 59, 182, 0, 55, 153, 0, 7]
abbrev dktX7_asked_0 : List UInt8 := dkwX7_asked_0 ++ dktX7_asked_1
theorem dksX7_asked_0 : cX7_asked.data.toList.drop 0 = dktX7_asked_0 := by decide +kernel
theorem dksX7_asked_1 : cX7_asked.data.toList.drop 22 = dktX7_asked_1 := dk_seg dksX7_asked_0 22 rfl rfl
theorem dksX7_asked_2 : cX7_asked.data.toList.drop 45 = dktX7_asked_2 := dk_seg dksX7_asked_1 23 rfl rfl
theorem dksX7_asked_3 : cX7_asked.data.toList.drop 68 = dktX7_asked_3 := dk_seg dksX7_asked_2 23 rfl rfl
theorem dksX7_asked_4 : cX7_asked.data.toList.drop 92 = dktX7_asked_4 := dk_seg dksX7_asked_3 24 rfl rfl
theorem dksX7_asked_5 : cX7_asked.data.toList.drop 116 = dktX7_asked_5 := dk_seg dksX7_asked_4 24 rfl rfl
theorem dksX7_asked_6 : cX7_asked.data.toList.drop 139 = dktX7_asked_6 := dk_seg dksX7_asked_5 23 rfl rfl
theorem dX7_asked_0 : decode cX7_asked 0 = .ok (.aload_n 0, 1) := dk_42 (dk_at dksX7_asked_0 0 rfl rfl)
theorem dX7_asked_1 : decode cX7_asked 1 = .ok (.ldc 53, 2) := dk_18 53 (dk_at dksX7_asked_0 1 rfl rfl)
theorem dX7_asked_3 : decode cX7_asked 3 = .ok (.invokevirtual 55, 3) := dk_182 0 55 (dk_at dksX7_asked_0 3 rfl rfl)
theorem dX7_asked_6 : decode cX7_asked 6 = .ok (.ifCond .eq 7, 3) := dk_153 0 7 (dk_at dksX7_asked_0 6 rfl rfl)
theorem dX7_asked_9 : decode cX7_asked 9 = .ok (.sipush 180, 3) := dk_17 0 180 (dk_at dksX7_asked_0 9 rfl rfl)
theorem dX7_asked_12 : decode cX7_asked 12 = .ok (.ireturn, 1) := dk_172 (dk_at dksX7_asked_0 12 rfl rfl)
theorem dX7_asked_13 : decode cX7_asked 13 = .ok (.aload_n 0, 1) := dk_42 (dk_at dksX7_asked_0 13 rfl rfl)
theorem dX7_asked_14 : decode cX7_asked 14 = .ok (.ldc 59, 2) := dk_18 59 (dk_at dksX7_asked_0 14 rfl rfl)
theorem dX7_asked_16 : decode cX7_asked 16 = .ok (.invokevirtual 55, 3) := dk_182 0 55 (dk_at dksX7_asked_0 16 rfl rfl)
theorem dX7_asked_19 : decode cX7_asked 19 = .ok (.ifCond .eq 7, 3) := dk_153 0 7 (dk_at dksX7_asked_0 19 rfl rfl)
theorem dX7_asked_22 : decode cX7_asked 22 = .ok (.sipush 181, 3) := dk_17 0 181 (dk_at dksX7_asked_1 0 rfl rfl)
theorem dX7_asked_25 : decode cX7_asked 25 = .ok (.ireturn, 1) := dk_172 (dk_at dksX7_asked_1 3 rfl rfl)
theorem dX7_asked_26 : decode cX7_asked 26 = .ok (.aload_n 0, 1) := dk_42 (dk_at dksX7_asked_1 4 rfl rfl)
theorem dX7_asked_27 : decode cX7_asked 27 = .ok (.ldc 61, 2) := dk_18 61 (dk_at dksX7_asked_1 5 rfl rfl)
theorem dX7_asked_29 : decode cX7_asked 29 = .ok (.invokevirtual 55, 3) := dk_182 0 55 (dk_at dksX7_asked_1 7 rfl rfl)
theorem dX7_asked_32 : decode cX7_asked 32 = .ok (.ifCond .eq 7, 3) := dk_153 0 7 (dk_at dksX7_asked_1 10 rfl rfl)
theorem dX7_asked_35 : decode cX7_asked 35 = .ok (.sipush 182, 3) := dk_17 0 182 (dk_at dksX7_asked_1 13 rfl rfl)
theorem dX7_asked_38 : decode cX7_asked 38 = .ok (.ireturn, 1) := dk_172 (dk_at dksX7_asked_1 16 rfl rfl)
theorem dX7_asked_39 : decode cX7_asked 39 = .ok (.aload_n 0, 1) := dk_42 (dk_at dksX7_asked_1 17 rfl rfl)
theorem dX7_asked_40 : decode cX7_asked 40 = .ok (.ldc 63, 2) := dk_18 63 (dk_at dksX7_asked_1 18 rfl rfl)
theorem dX7_asked_42 : decode cX7_asked 42 = .ok (.invokevirtual 55, 3) := dk_182 0 55 (dk_at dksX7_asked_1 20 rfl rfl)
theorem dX7_asked_45 : decode cX7_asked 45 = .ok (.ifCond .eq 7, 3) := dk_153 0 7 (dk_at dksX7_asked_2 0 rfl rfl)
theorem dX7_asked_48 : decode cX7_asked 48 = .ok (.sipush 183, 3) := dk_17 0 183 (dk_at dksX7_asked_2 3 rfl rfl)
theorem dX7_asked_51 : decode cX7_asked 51 = .ok (.ireturn, 1) := dk_172 (dk_at dksX7_asked_2 6 rfl rfl)
theorem dX7_asked_52 : decode cX7_asked 52 = .ok (.aload_n 0, 1) := dk_42 (dk_at dksX7_asked_2 7 rfl rfl)
theorem dX7_asked_53 : decode cX7_asked 53 = .ok (.ldc 65, 2) := dk_18 65 (dk_at dksX7_asked_2 8 rfl rfl)
theorem dX7_asked_55 : decode cX7_asked 55 = .ok (.invokevirtual 55, 3) := dk_182 0 55 (dk_at dksX7_asked_2 10 rfl rfl)
theorem dX7_asked_58 : decode cX7_asked 58 = .ok (.ifCond .eq 7, 3) := dk_153 0 7 (dk_at dksX7_asked_2 13 rfl rfl)
theorem dX7_asked_61 : decode cX7_asked 61 = .ok (.sipush 184, 3) := dk_17 0 184 (dk_at dksX7_asked_2 16 rfl rfl)
theorem dX7_asked_64 : decode cX7_asked 64 = .ok (.ireturn, 1) := dk_172 (dk_at dksX7_asked_2 19 rfl rfl)
theorem dX7_asked_65 : decode cX7_asked 65 = .ok (.aload_n 0, 1) := dk_42 (dk_at dksX7_asked_2 20 rfl rfl)
theorem dX7_asked_66 : decode cX7_asked 66 = .ok (.ldc 67, 2) := dk_18 67 (dk_at dksX7_asked_2 21 rfl rfl)
theorem dX7_asked_68 : decode cX7_asked 68 = .ok (.invokevirtual 55, 3) := dk_182 0 55 (dk_at dksX7_asked_3 0 rfl rfl)
theorem dX7_asked_71 : decode cX7_asked 71 = .ok (.ifCond .eq 7, 3) := dk_153 0 7 (dk_at dksX7_asked_3 3 rfl rfl)
theorem dX7_asked_74 : decode cX7_asked 74 = .ok (.sipush 185, 3) := dk_17 0 185 (dk_at dksX7_asked_3 6 rfl rfl)
theorem dX7_asked_77 : decode cX7_asked 77 = .ok (.ireturn, 1) := dk_172 (dk_at dksX7_asked_3 9 rfl rfl)
theorem dX7_asked_78 : decode cX7_asked 78 = .ok (.aload_n 0, 1) := dk_42 (dk_at dksX7_asked_3 10 rfl rfl)
theorem dX7_asked_79 : decode cX7_asked 79 = .ok (.ldc 69, 2) := dk_18 69 (dk_at dksX7_asked_3 11 rfl rfl)
theorem dX7_asked_81 : decode cX7_asked 81 = .ok (.invokevirtual 55, 3) := dk_182 0 55 (dk_at dksX7_asked_3 13 rfl rfl)
theorem dX7_asked_84 : decode cX7_asked 84 = .ok (.ifCond .eq 7, 3) := dk_153 0 7 (dk_at dksX7_asked_3 16 rfl rfl)
theorem dX7_asked_87 : decode cX7_asked 87 = .ok (.sipush 186, 3) := dk_17 0 186 (dk_at dksX7_asked_3 19 rfl rfl)
theorem dX7_asked_90 : decode cX7_asked 90 = .ok (.ireturn, 1) := dk_172 (dk_at dksX7_asked_3 22 rfl rfl)
theorem dX7_asked_91 : decode cX7_asked 91 = .ok (.aload_n 0, 1) := dk_42 (dk_at dksX7_asked_3 23 rfl rfl)
theorem dX7_asked_92 : decode cX7_asked 92 = .ok (.ldc 71, 2) := dk_18 71 (dk_at dksX7_asked_4 0 rfl rfl)
theorem dX7_asked_94 : decode cX7_asked 94 = .ok (.invokevirtual 55, 3) := dk_182 0 55 (dk_at dksX7_asked_4 2 rfl rfl)
theorem dX7_asked_97 : decode cX7_asked 97 = .ok (.ifCond .eq 7, 3) := dk_153 0 7 (dk_at dksX7_asked_4 5 rfl rfl)
theorem dX7_asked_100 : decode cX7_asked 100 = .ok (.sipush 187, 3) := dk_17 0 187 (dk_at dksX7_asked_4 8 rfl rfl)
theorem dX7_asked_103 : decode cX7_asked 103 = .ok (.ireturn, 1) := dk_172 (dk_at dksX7_asked_4 11 rfl rfl)
theorem dX7_asked_104 : decode cX7_asked 104 = .ok (.aload_n 0, 1) := dk_42 (dk_at dksX7_asked_4 12 rfl rfl)
theorem dX7_asked_105 : decode cX7_asked 105 = .ok (.ldc 73, 2) := dk_18 73 (dk_at dksX7_asked_4 13 rfl rfl)
theorem dX7_asked_107 : decode cX7_asked 107 = .ok (.invokevirtual 55, 3) := dk_182 0 55 (dk_at dksX7_asked_4 15 rfl rfl)
theorem dX7_asked_110 : decode cX7_asked 110 = .ok (.ifCond .eq 7, 3) := dk_153 0 7 (dk_at dksX7_asked_4 18 rfl rfl)
theorem dX7_asked_113 : decode cX7_asked 113 = .ok (.sipush 188, 3) := dk_17 0 188 (dk_at dksX7_asked_4 21 rfl rfl)
theorem dX7_asked_116 : decode cX7_asked 116 = .ok (.ireturn, 1) := dk_172 (dk_at dksX7_asked_5 0 rfl rfl)
theorem dX7_asked_117 : decode cX7_asked 117 = .ok (.aload_n 0, 1) := dk_42 (dk_at dksX7_asked_5 1 rfl rfl)
theorem dX7_asked_118 : decode cX7_asked 118 = .ok (.ldc 75, 2) := dk_18 75 (dk_at dksX7_asked_5 2 rfl rfl)
theorem dX7_asked_120 : decode cX7_asked 120 = .ok (.invokevirtual 55, 3) := dk_182 0 55 (dk_at dksX7_asked_5 4 rfl rfl)
theorem dX7_asked_123 : decode cX7_asked 123 = .ok (.ifCond .eq 7, 3) := dk_153 0 7 (dk_at dksX7_asked_5 7 rfl rfl)
theorem dX7_asked_126 : decode cX7_asked 126 = .ok (.sipush 189, 3) := dk_17 0 189 (dk_at dksX7_asked_5 10 rfl rfl)
theorem dX7_asked_129 : decode cX7_asked 129 = .ok (.ireturn, 1) := dk_172 (dk_at dksX7_asked_5 13 rfl rfl)
theorem dX7_asked_130 : decode cX7_asked 130 = .ok (.aload_n 0, 1) := dk_42 (dk_at dksX7_asked_5 14 rfl rfl)
theorem dX7_asked_131 : decode cX7_asked 131 = .ok (.ldc 76, 2) := dk_18 76 (dk_at dksX7_asked_5 15 rfl rfl)
theorem dX7_asked_133 : decode cX7_asked 133 = .ok (.invokevirtual 55, 3) := dk_182 0 55 (dk_at dksX7_asked_5 17 rfl rfl)
theorem dX7_asked_136 : decode cX7_asked 136 = .ok (.ifCond .eq 9, 3) := dk_153 0 9 (dk_at dksX7_asked_5 20 rfl rfl)
theorem dX7_asked_139 : decode cX7_asked 139 = .ok (.sipush 190, 3) := dk_17 0 190 (dk_at dksX7_asked_6 0 rfl rfl)
theorem dX7_asked_142 : decode cX7_asked 142 = .ok (.goto 4, 3) := dk_167 0 4 (dk_at dksX7_asked_6 3 rfl rfl)
theorem dX7_asked_145 : decode cX7_asked 145 = .ok (.iconst 1, 1) := dk_4 (dk_at dksX7_asked_6 6 rfl rfl)
theorem dX7_asked_146 : decode cX7_asked 146 = .ok (.ireturn, 1) := dk_172 (dk_at dksX7_asked_6 7 rfl rfl)
abbrev cX7_fairWord : ByteArray := prog_16_method_8_code
def yX7_fairWord : MethodName := ⟨RX7, "fairWord", "()I"⟩
def dkwX7_fairWord_2 : List UInt8 := [42, 18, 63, 182, 0, 55, 153, 0, 8, 16, 14, 167, 0, 4, 4, 172]
abbrev dktX7_fairWord_2 : List UInt8 := dkwX7_fairWord_2 ++ []
def dkwX7_fairWord_1 : List UInt8 := [42, 18, 99, 182, 0, 55, 153, 0, 6, 16, 12, 172, 42, 18, 101, 182, 0, 55, 153, 0, 6, 16, 13, 172]
abbrev dktX7_fairWord_1 : List UInt8 := dkwX7_fairWord_1 ++ dktX7_fairWord_2
def dkwX7_fairWord_0 : List UInt8 := [42, 18, 95, 182, 0, 55, 153, 0, 6, 16, 10, 172, 42, 18, 97, 182, 0, 55, 153, 0, 6, 16, 11, 172]
abbrev dktX7_fairWord_0 : List UInt8 := dkwX7_fairWord_0 ++ dktX7_fairWord_1
theorem dksX7_fairWord_0 : cX7_fairWord.data.toList.drop 0 = dktX7_fairWord_0 := by decide +kernel
theorem dksX7_fairWord_1 : cX7_fairWord.data.toList.drop 24 = dktX7_fairWord_1 := dk_seg dksX7_fairWord_0 24 rfl rfl
theorem dksX7_fairWord_2 : cX7_fairWord.data.toList.drop 48 = dktX7_fairWord_2 := dk_seg dksX7_fairWord_1 24 rfl rfl
theorem dX7_fairWord_0 : decode cX7_fairWord 0 = .ok (.aload_n 0, 1) := dk_42 (dk_at dksX7_fairWord_0 0 rfl rfl)
theorem dX7_fairWord_1 : decode cX7_fairWord 1 = .ok (.ldc 95, 2) := dk_18 95 (dk_at dksX7_fairWord_0 1 rfl rfl)
theorem dX7_fairWord_3 : decode cX7_fairWord 3 = .ok (.invokevirtual 55, 3) := dk_182 0 55 (dk_at dksX7_fairWord_0 3 rfl rfl)
theorem dX7_fairWord_6 : decode cX7_fairWord 6 = .ok (.ifCond .eq 6, 3) := dk_153 0 6 (dk_at dksX7_fairWord_0 6 rfl rfl)
theorem dX7_fairWord_9 : decode cX7_fairWord 9 = .ok (.bipush 10, 2) := dk_16 10 (dk_at dksX7_fairWord_0 9 rfl rfl)
theorem dX7_fairWord_11 : decode cX7_fairWord 11 = .ok (.ireturn, 1) := dk_172 (dk_at dksX7_fairWord_0 11 rfl rfl)
theorem dX7_fairWord_12 : decode cX7_fairWord 12 = .ok (.aload_n 0, 1) := dk_42 (dk_at dksX7_fairWord_0 12 rfl rfl)
theorem dX7_fairWord_13 : decode cX7_fairWord 13 = .ok (.ldc 97, 2) := dk_18 97 (dk_at dksX7_fairWord_0 13 rfl rfl)
theorem dX7_fairWord_15 : decode cX7_fairWord 15 = .ok (.invokevirtual 55, 3) := dk_182 0 55 (dk_at dksX7_fairWord_0 15 rfl rfl)
theorem dX7_fairWord_18 : decode cX7_fairWord 18 = .ok (.ifCond .eq 6, 3) := dk_153 0 6 (dk_at dksX7_fairWord_0 18 rfl rfl)
theorem dX7_fairWord_21 : decode cX7_fairWord 21 = .ok (.bipush 11, 2) := dk_16 11 (dk_at dksX7_fairWord_0 21 rfl rfl)
theorem dX7_fairWord_23 : decode cX7_fairWord 23 = .ok (.ireturn, 1) := dk_172 (dk_at dksX7_fairWord_0 23 rfl rfl)
theorem dX7_fairWord_24 : decode cX7_fairWord 24 = .ok (.aload_n 0, 1) := dk_42 (dk_at dksX7_fairWord_1 0 rfl rfl)
theorem dX7_fairWord_25 : decode cX7_fairWord 25 = .ok (.ldc 99, 2) := dk_18 99 (dk_at dksX7_fairWord_1 1 rfl rfl)
theorem dX7_fairWord_27 : decode cX7_fairWord 27 = .ok (.invokevirtual 55, 3) := dk_182 0 55 (dk_at dksX7_fairWord_1 3 rfl rfl)
theorem dX7_fairWord_30 : decode cX7_fairWord 30 = .ok (.ifCond .eq 6, 3) := dk_153 0 6 (dk_at dksX7_fairWord_1 6 rfl rfl)
theorem dX7_fairWord_33 : decode cX7_fairWord 33 = .ok (.bipush 12, 2) := dk_16 12 (dk_at dksX7_fairWord_1 9 rfl rfl)
theorem dX7_fairWord_35 : decode cX7_fairWord 35 = .ok (.ireturn, 1) := dk_172 (dk_at dksX7_fairWord_1 11 rfl rfl)
theorem dX7_fairWord_36 : decode cX7_fairWord 36 = .ok (.aload_n 0, 1) := dk_42 (dk_at dksX7_fairWord_1 12 rfl rfl)
theorem dX7_fairWord_37 : decode cX7_fairWord 37 = .ok (.ldc 101, 2) := dk_18 101 (dk_at dksX7_fairWord_1 13 rfl rfl)
theorem dX7_fairWord_39 : decode cX7_fairWord 39 = .ok (.invokevirtual 55, 3) := dk_182 0 55 (dk_at dksX7_fairWord_1 15 rfl rfl)
theorem dX7_fairWord_42 : decode cX7_fairWord 42 = .ok (.ifCond .eq 6, 3) := dk_153 0 6 (dk_at dksX7_fairWord_1 18 rfl rfl)
theorem dX7_fairWord_45 : decode cX7_fairWord 45 = .ok (.bipush 13, 2) := dk_16 13 (dk_at dksX7_fairWord_1 21 rfl rfl)
theorem dX7_fairWord_47 : decode cX7_fairWord 47 = .ok (.ireturn, 1) := dk_172 (dk_at dksX7_fairWord_1 23 rfl rfl)
theorem dX7_fairWord_48 : decode cX7_fairWord 48 = .ok (.aload_n 0, 1) := dk_42 (dk_at dksX7_fairWord_2 0 rfl rfl)
theorem dX7_fairWord_49 : decode cX7_fairWord 49 = .ok (.ldc 63, 2) := dk_18 63 (dk_at dksX7_fairWord_2 1 rfl rfl)
theorem dX7_fairWord_51 : decode cX7_fairWord 51 = .ok (.invokevirtual 55, 3) := dk_182 0 55 (dk_at dksX7_fairWord_2 3 rfl rfl)
theorem dX7_fairWord_54 : decode cX7_fairWord 54 = .ok (.ifCond .eq 8, 3) := dk_153 0 8 (dk_at dksX7_fairWord_2 6 rfl rfl)
theorem dX7_fairWord_57 : decode cX7_fairWord 57 = .ok (.bipush 14, 2) := dk_16 14 (dk_at dksX7_fairWord_2 9 rfl rfl)
theorem dX7_fairWord_59 : decode cX7_fairWord 59 = .ok (.goto 4, 3) := dk_167 0 4 (dk_at dksX7_fairWord_2 11 rfl rfl)
theorem dX7_fairWord_62 : decode cX7_fairWord 62 = .ok (.iconst 1, 1) := dk_4 (dk_at dksX7_fairWord_2 14 rfl rfl)
theorem dX7_fairWord_63 : decode cX7_fairWord 63 = .ok (.ireturn, 1) := dk_172 (dk_at dksX7_fairWord_2 15 rfl rfl)
abbrev cX7_habitWord : ByteArray := prog_16_method_9_code
def yX7_habitWord : MethodName := ⟨RX7, "habitWord", "()I"⟩
def dkwX7_habitWord_3 : List UInt8 := [167, 0, 4, 4, 172]
abbrev dktX7_habitWord_3 : List UInt8 := dkwX7_habitWord_3 ++ []
def dkwX7_habitWord_2 : List UInt8 := [42, 18, 108, 182, 0, 55, 153, 0, 6, 16, 18, 172, 42, 18, 110, 182, 0, 55, 153, 0, 8, 16, 19]
abbrev dktX7_habitWord_2 : List UInt8 := dkwX7_habitWord_2 ++ dktX7_habitWord_3
def dkwX7_habitWord_1 : List UInt8 := [42, 18, 104, 182, 0, 55, 153, 0, 6, 16, 16, 172, 42, 18, 106, 182, 0, 55, 153, 0, 6, 16, 17, 172]
abbrev dktX7_habitWord_1 : List UInt8 := dkwX7_habitWord_1 ++ dktX7_habitWord_2
def dkwX7_habitWord_0 : List UInt8 := [42, 18, 95, 182, 0, 55, 153, 0, 6, 16, 10, 172, 42, 18, 102, 182, 0, 55, 153, 0, 6, 16, 15, 172]
abbrev dktX7_habitWord_0 : List UInt8 := dkwX7_habitWord_0 ++ dktX7_habitWord_1
theorem dksX7_habitWord_0 : cX7_habitWord.data.toList.drop 0 = dktX7_habitWord_0 := by decide +kernel
theorem dksX7_habitWord_1 : cX7_habitWord.data.toList.drop 24 = dktX7_habitWord_1 := dk_seg dksX7_habitWord_0 24 rfl rfl
theorem dksX7_habitWord_2 : cX7_habitWord.data.toList.drop 48 = dktX7_habitWord_2 := dk_seg dksX7_habitWord_1 24 rfl rfl
theorem dksX7_habitWord_3 : cX7_habitWord.data.toList.drop 71 = dktX7_habitWord_3 := dk_seg dksX7_habitWord_2 23 rfl rfl
theorem dX7_habitWord_0 : decode cX7_habitWord 0 = .ok (.aload_n 0, 1) := dk_42 (dk_at dksX7_habitWord_0 0 rfl rfl)
theorem dX7_habitWord_1 : decode cX7_habitWord 1 = .ok (.ldc 95, 2) := dk_18 95 (dk_at dksX7_habitWord_0 1 rfl rfl)
theorem dX7_habitWord_3 : decode cX7_habitWord 3 = .ok (.invokevirtual 55, 3) := dk_182 0 55 (dk_at dksX7_habitWord_0 3 rfl rfl)
theorem dX7_habitWord_6 : decode cX7_habitWord 6 = .ok (.ifCond .eq 6, 3) := dk_153 0 6 (dk_at dksX7_habitWord_0 6 rfl rfl)
theorem dX7_habitWord_9 : decode cX7_habitWord 9 = .ok (.bipush 10, 2) := dk_16 10 (dk_at dksX7_habitWord_0 9 rfl rfl)
theorem dX7_habitWord_11 : decode cX7_habitWord 11 = .ok (.ireturn, 1) := dk_172 (dk_at dksX7_habitWord_0 11 rfl rfl)
theorem dX7_habitWord_12 : decode cX7_habitWord 12 = .ok (.aload_n 0, 1) := dk_42 (dk_at dksX7_habitWord_0 12 rfl rfl)
theorem dX7_habitWord_13 : decode cX7_habitWord 13 = .ok (.ldc 102, 2) := dk_18 102 (dk_at dksX7_habitWord_0 13 rfl rfl)
theorem dX7_habitWord_15 : decode cX7_habitWord 15 = .ok (.invokevirtual 55, 3) := dk_182 0 55 (dk_at dksX7_habitWord_0 15 rfl rfl)
theorem dX7_habitWord_18 : decode cX7_habitWord 18 = .ok (.ifCond .eq 6, 3) := dk_153 0 6 (dk_at dksX7_habitWord_0 18 rfl rfl)
theorem dX7_habitWord_21 : decode cX7_habitWord 21 = .ok (.bipush 15, 2) := dk_16 15 (dk_at dksX7_habitWord_0 21 rfl rfl)
theorem dX7_habitWord_23 : decode cX7_habitWord 23 = .ok (.ireturn, 1) := dk_172 (dk_at dksX7_habitWord_0 23 rfl rfl)
theorem dX7_habitWord_24 : decode cX7_habitWord 24 = .ok (.aload_n 0, 1) := dk_42 (dk_at dksX7_habitWord_1 0 rfl rfl)
theorem dX7_habitWord_25 : decode cX7_habitWord 25 = .ok (.ldc 104, 2) := dk_18 104 (dk_at dksX7_habitWord_1 1 rfl rfl)
theorem dX7_habitWord_27 : decode cX7_habitWord 27 = .ok (.invokevirtual 55, 3) := dk_182 0 55 (dk_at dksX7_habitWord_1 3 rfl rfl)
theorem dX7_habitWord_30 : decode cX7_habitWord 30 = .ok (.ifCond .eq 6, 3) := dk_153 0 6 (dk_at dksX7_habitWord_1 6 rfl rfl)
theorem dX7_habitWord_33 : decode cX7_habitWord 33 = .ok (.bipush 16, 2) := dk_16 16 (dk_at dksX7_habitWord_1 9 rfl rfl)
theorem dX7_habitWord_35 : decode cX7_habitWord 35 = .ok (.ireturn, 1) := dk_172 (dk_at dksX7_habitWord_1 11 rfl rfl)
theorem dX7_habitWord_36 : decode cX7_habitWord 36 = .ok (.aload_n 0, 1) := dk_42 (dk_at dksX7_habitWord_1 12 rfl rfl)
theorem dX7_habitWord_37 : decode cX7_habitWord 37 = .ok (.ldc 106, 2) := dk_18 106 (dk_at dksX7_habitWord_1 13 rfl rfl)
theorem dX7_habitWord_39 : decode cX7_habitWord 39 = .ok (.invokevirtual 55, 3) := dk_182 0 55 (dk_at dksX7_habitWord_1 15 rfl rfl)
theorem dX7_habitWord_42 : decode cX7_habitWord 42 = .ok (.ifCond .eq 6, 3) := dk_153 0 6 (dk_at dksX7_habitWord_1 18 rfl rfl)
theorem dX7_habitWord_45 : decode cX7_habitWord 45 = .ok (.bipush 17, 2) := dk_16 17 (dk_at dksX7_habitWord_1 21 rfl rfl)
theorem dX7_habitWord_47 : decode cX7_habitWord 47 = .ok (.ireturn, 1) := dk_172 (dk_at dksX7_habitWord_1 23 rfl rfl)
theorem dX7_habitWord_48 : decode cX7_habitWord 48 = .ok (.aload_n 0, 1) := dk_42 (dk_at dksX7_habitWord_2 0 rfl rfl)
theorem dX7_habitWord_49 : decode cX7_habitWord 49 = .ok (.ldc 108, 2) := dk_18 108 (dk_at dksX7_habitWord_2 1 rfl rfl)
theorem dX7_habitWord_51 : decode cX7_habitWord 51 = .ok (.invokevirtual 55, 3) := dk_182 0 55 (dk_at dksX7_habitWord_2 3 rfl rfl)
theorem dX7_habitWord_54 : decode cX7_habitWord 54 = .ok (.ifCond .eq 6, 3) := dk_153 0 6 (dk_at dksX7_habitWord_2 6 rfl rfl)
theorem dX7_habitWord_57 : decode cX7_habitWord 57 = .ok (.bipush 18, 2) := dk_16 18 (dk_at dksX7_habitWord_2 9 rfl rfl)
theorem dX7_habitWord_59 : decode cX7_habitWord 59 = .ok (.ireturn, 1) := dk_172 (dk_at dksX7_habitWord_2 11 rfl rfl)
theorem dX7_habitWord_60 : decode cX7_habitWord 60 = .ok (.aload_n 0, 1) := dk_42 (dk_at dksX7_habitWord_2 12 rfl rfl)
theorem dX7_habitWord_61 : decode cX7_habitWord 61 = .ok (.ldc 110, 2) := dk_18 110 (dk_at dksX7_habitWord_2 13 rfl rfl)
theorem dX7_habitWord_63 : decode cX7_habitWord 63 = .ok (.invokevirtual 55, 3) := dk_182 0 55 (dk_at dksX7_habitWord_2 15 rfl rfl)
theorem dX7_habitWord_66 : decode cX7_habitWord 66 = .ok (.ifCond .eq 8, 3) := dk_153 0 8 (dk_at dksX7_habitWord_2 18 rfl rfl)
theorem dX7_habitWord_69 : decode cX7_habitWord 69 = .ok (.bipush 19, 2) := dk_16 19 (dk_at dksX7_habitWord_2 21 rfl rfl)
theorem dX7_habitWord_71 : decode cX7_habitWord 71 = .ok (.goto 4, 3) := dk_167 0 4 (dk_at dksX7_habitWord_3 0 rfl rfl)
theorem dX7_habitWord_74 : decode cX7_habitWord 74 = .ok (.iconst 1, 1) := dk_4 (dk_at dksX7_habitWord_3 3 rfl rfl)
theorem dX7_habitWord_75 : decode cX7_habitWord 75 = .ok (.ireturn, 1) := dk_172 (dk_at dksX7_habitWord_3 4 rfl rfl)
abbrev cX7_isDigit : ByteArray := prog_16_method_4_code
def yX7_isDigit : MethodName := ⟨RX7, "isDigit", "()Z"⟩
def dkwX7_isDigit_0 : List UInt8 := [42, 182, 0, 33, 16, 48, 16, 57, 184, 0, 37, 172]
abbrev dktX7_isDigit_0 : List UInt8 := dkwX7_isDigit_0 ++ []
theorem dksX7_isDigit_0 : cX7_isDigit.data.toList.drop 0 = dktX7_isDigit_0 := by decide +kernel
theorem dX7_isDigit_0 : decode cX7_isDigit 0 = .ok (.aload_n 0, 1) := dk_42 (dk_at dksX7_isDigit_0 0 rfl rfl)
theorem dX7_isDigit_1 : decode cX7_isDigit 1 = .ok (.invokevirtual 33, 3) := dk_182 0 33 (dk_at dksX7_isDigit_0 1 rfl rfl)
theorem dX7_isDigit_4 : decode cX7_isDigit 4 = .ok (.bipush 48, 2) := dk_16 48 (dk_at dksX7_isDigit_0 4 rfl rfl)
theorem dX7_isDigit_6 : decode cX7_isDigit 6 = .ok (.bipush 57, 2) := dk_16 57 (dk_at dksX7_isDigit_0 6 rfl rfl)
theorem dX7_isDigit_8 : decode cX7_isDigit 8 = .ok (.invokestatic 37, 3) := dk_184 0 37 (dk_at dksX7_isDigit_0 8 rfl rfl)
theorem dX7_isDigit_11 : decode cX7_isDigit 11 = .ok (.ireturn, 1) := dk_172 (dk_at dksX7_isDigit_0 11 rfl rfl)
abbrev cX7_isMark : ByteArray := prog_16_method_14_code
def yX7_isMark : MethodName := ⟨RX7, "isMark", "(I)Z"⟩
def dkwX7_isMark_2 : List UInt8 := [27, 16, 61, 159, 0, 9, 27, 16, 62, 160, 0, 7, 4, 167, 0, 4, 3, 172]
abbrev dktX7_isMark_2 : List UInt8 := dkwX7_isMark_2 ++ []
def dkwX7_isMark_1 : List UInt8 := [27, 16, 47, 159, 0, 33, 27, 16, 40, 159, 0, 27, 27, 16, 41, 159, 0, 21, 27, 16, 60, 159, 0, 15]
abbrev dktX7_isMark_1 : List UInt8 := dkwX7_isMark_1 ++ dktX7_isMark_2
def dkwX7_isMark_0 : List UInt8 := [27, 16, 59, 159, 0, 57, 27, 16, 43, 159, 0, 51, 27, 16, 45, 159, 0, 45, 27, 16, 42, 159, 0, 39]
abbrev dktX7_isMark_0 : List UInt8 := dkwX7_isMark_0 ++ dktX7_isMark_1
theorem dksX7_isMark_0 : cX7_isMark.data.toList.drop 0 = dktX7_isMark_0 := by decide +kernel
theorem dksX7_isMark_1 : cX7_isMark.data.toList.drop 24 = dktX7_isMark_1 := dk_seg dksX7_isMark_0 24 rfl rfl
theorem dksX7_isMark_2 : cX7_isMark.data.toList.drop 48 = dktX7_isMark_2 := dk_seg dksX7_isMark_1 24 rfl rfl
theorem dX7_isMark_0 : decode cX7_isMark 0 = .ok (.iload_n 1, 1) := dk_27 (dk_at dksX7_isMark_0 0 rfl rfl)
theorem dX7_isMark_1 : decode cX7_isMark 1 = .ok (.bipush 59, 2) := dk_16 59 (dk_at dksX7_isMark_0 1 rfl rfl)
theorem dX7_isMark_3 : decode cX7_isMark 3 = .ok (.if_icmp .eq 57, 3) := dk_159 0 57 (dk_at dksX7_isMark_0 3 rfl rfl)
theorem dX7_isMark_6 : decode cX7_isMark 6 = .ok (.iload_n 1, 1) := dk_27 (dk_at dksX7_isMark_0 6 rfl rfl)
theorem dX7_isMark_7 : decode cX7_isMark 7 = .ok (.bipush 43, 2) := dk_16 43 (dk_at dksX7_isMark_0 7 rfl rfl)
theorem dX7_isMark_9 : decode cX7_isMark 9 = .ok (.if_icmp .eq 51, 3) := dk_159 0 51 (dk_at dksX7_isMark_0 9 rfl rfl)
theorem dX7_isMark_12 : decode cX7_isMark 12 = .ok (.iload_n 1, 1) := dk_27 (dk_at dksX7_isMark_0 12 rfl rfl)
theorem dX7_isMark_13 : decode cX7_isMark 13 = .ok (.bipush 45, 2) := dk_16 45 (dk_at dksX7_isMark_0 13 rfl rfl)
theorem dX7_isMark_15 : decode cX7_isMark 15 = .ok (.if_icmp .eq 45, 3) := dk_159 0 45 (dk_at dksX7_isMark_0 15 rfl rfl)
theorem dX7_isMark_18 : decode cX7_isMark 18 = .ok (.iload_n 1, 1) := dk_27 (dk_at dksX7_isMark_0 18 rfl rfl)
theorem dX7_isMark_19 : decode cX7_isMark 19 = .ok (.bipush 42, 2) := dk_16 42 (dk_at dksX7_isMark_0 19 rfl rfl)
theorem dX7_isMark_21 : decode cX7_isMark 21 = .ok (.if_icmp .eq 39, 3) := dk_159 0 39 (dk_at dksX7_isMark_0 21 rfl rfl)
theorem dX7_isMark_24 : decode cX7_isMark 24 = .ok (.iload_n 1, 1) := dk_27 (dk_at dksX7_isMark_1 0 rfl rfl)
theorem dX7_isMark_25 : decode cX7_isMark 25 = .ok (.bipush 47, 2) := dk_16 47 (dk_at dksX7_isMark_1 1 rfl rfl)
theorem dX7_isMark_27 : decode cX7_isMark 27 = .ok (.if_icmp .eq 33, 3) := dk_159 0 33 (dk_at dksX7_isMark_1 3 rfl rfl)
theorem dX7_isMark_30 : decode cX7_isMark 30 = .ok (.iload_n 1, 1) := dk_27 (dk_at dksX7_isMark_1 6 rfl rfl)
theorem dX7_isMark_31 : decode cX7_isMark 31 = .ok (.bipush 40, 2) := dk_16 40 (dk_at dksX7_isMark_1 7 rfl rfl)
theorem dX7_isMark_33 : decode cX7_isMark 33 = .ok (.if_icmp .eq 27, 3) := dk_159 0 27 (dk_at dksX7_isMark_1 9 rfl rfl)
theorem dX7_isMark_36 : decode cX7_isMark 36 = .ok (.iload_n 1, 1) := dk_27 (dk_at dksX7_isMark_1 12 rfl rfl)
theorem dX7_isMark_37 : decode cX7_isMark 37 = .ok (.bipush 41, 2) := dk_16 41 (dk_at dksX7_isMark_1 13 rfl rfl)
theorem dX7_isMark_39 : decode cX7_isMark 39 = .ok (.if_icmp .eq 21, 3) := dk_159 0 21 (dk_at dksX7_isMark_1 15 rfl rfl)
theorem dX7_isMark_42 : decode cX7_isMark 42 = .ok (.iload_n 1, 1) := dk_27 (dk_at dksX7_isMark_1 18 rfl rfl)
theorem dX7_isMark_43 : decode cX7_isMark 43 = .ok (.bipush 60, 2) := dk_16 60 (dk_at dksX7_isMark_1 19 rfl rfl)
theorem dX7_isMark_45 : decode cX7_isMark 45 = .ok (.if_icmp .eq 15, 3) := dk_159 0 15 (dk_at dksX7_isMark_1 21 rfl rfl)
theorem dX7_isMark_48 : decode cX7_isMark 48 = .ok (.iload_n 1, 1) := dk_27 (dk_at dksX7_isMark_2 0 rfl rfl)
theorem dX7_isMark_49 : decode cX7_isMark 49 = .ok (.bipush 61, 2) := dk_16 61 (dk_at dksX7_isMark_2 1 rfl rfl)
theorem dX7_isMark_51 : decode cX7_isMark 51 = .ok (.if_icmp .eq 9, 3) := dk_159 0 9 (dk_at dksX7_isMark_2 3 rfl rfl)
theorem dX7_isMark_54 : decode cX7_isMark 54 = .ok (.iload_n 1, 1) := dk_27 (dk_at dksX7_isMark_2 6 rfl rfl)
theorem dX7_isMark_55 : decode cX7_isMark 55 = .ok (.bipush 62, 2) := dk_16 62 (dk_at dksX7_isMark_2 7 rfl rfl)
theorem dX7_isMark_57 : decode cX7_isMark 57 = .ok (.if_icmp .ne 7, 3) := dk_160 0 7 (dk_at dksX7_isMark_2 9 rfl rfl)
theorem dX7_isMark_60 : decode cX7_isMark 60 = .ok (.iconst 1, 1) := dk_4 (dk_at dksX7_isMark_2 12 rfl rfl)
theorem dX7_isMark_61 : decode cX7_isMark 61 = .ok (.goto 4, 3) := dk_167 0 4 (dk_at dksX7_isMark_2 13 rfl rfl)
theorem dX7_isMark_64 : decode cX7_isMark 64 = .ok (.iconst 0, 1) := dk_3 (dk_at dksX7_isMark_2 16 rfl rfl)
theorem dX7_isMark_65 : decode cX7_isMark 65 = .ok (.ireturn, 1) := dk_172 (dk_at dksX7_isMark_2 17 rfl rfl)
abbrev cX7_sum : ByteArray := prog_16_method_18_code
def yX7_sum : MethodName := ⟨RX7, "sum", "()LClaspedFair$Term;"⟩
def dkwX7_sum_2 : List UInt8 := [167, 255, 215, 43, 176]
abbrev dktX7_sum_2 : List UInt8 := dkwX7_sum_2 ++ []
def dkwX7_sum_1 : List UInt8 := [180, 0, 121, 61, 42, 182, 0, 132, 187, 0, 173, 89, 43, 28, 42, 182, 0, 169, 183, 0, 175, 76]
abbrev dktX7_sum_1 : List UInt8 := dkwX7_sum_1 ++ dktX7_sum_2
def dkwX7_sum_0 : List UInt8 := [42, 182, 0, 169, 76, 42, 180, 0, 121, 16, 43, 159, 0, 12, 42, 180, 0, 121, 16, 45, 160, 0, 29, 42]
abbrev dktX7_sum_0 : List UInt8 := dkwX7_sum_0 ++ dktX7_sum_1
theorem dksX7_sum_0 : cX7_sum.data.toList.drop 0 = dktX7_sum_0 := by decide +kernel
theorem dksX7_sum_1 : cX7_sum.data.toList.drop 24 = dktX7_sum_1 := dk_seg dksX7_sum_0 24 rfl rfl
theorem dksX7_sum_2 : cX7_sum.data.toList.drop 46 = dktX7_sum_2 := dk_seg dksX7_sum_1 22 rfl rfl
theorem dX7_sum_0 : decode cX7_sum 0 = .ok (.aload_n 0, 1) := dk_42 (dk_at dksX7_sum_0 0 rfl rfl)
theorem dX7_sum_1 : decode cX7_sum 1 = .ok (.invokevirtual 169, 3) := dk_182 0 169 (dk_at dksX7_sum_0 1 rfl rfl)
theorem dX7_sum_4 : decode cX7_sum 4 = .ok (.astore_n 1, 1) := dk_76 (dk_at dksX7_sum_0 4 rfl rfl)
theorem dX7_sum_5 : decode cX7_sum 5 = .ok (.aload_n 0, 1) := dk_42 (dk_at dksX7_sum_0 5 rfl rfl)
theorem dX7_sum_6 : decode cX7_sum 6 = .ok (.getfield 121, 3) := dk_180 0 121 (dk_at dksX7_sum_0 6 rfl rfl)
theorem dX7_sum_9 : decode cX7_sum 9 = .ok (.bipush 43, 2) := dk_16 43 (dk_at dksX7_sum_0 9 rfl rfl)
theorem dX7_sum_11 : decode cX7_sum 11 = .ok (.if_icmp .eq 12, 3) := dk_159 0 12 (dk_at dksX7_sum_0 11 rfl rfl)
theorem dX7_sum_14 : decode cX7_sum 14 = .ok (.aload_n 0, 1) := dk_42 (dk_at dksX7_sum_0 14 rfl rfl)
theorem dX7_sum_15 : decode cX7_sum 15 = .ok (.getfield 121, 3) := dk_180 0 121 (dk_at dksX7_sum_0 15 rfl rfl)
theorem dX7_sum_18 : decode cX7_sum 18 = .ok (.bipush 45, 2) := dk_16 45 (dk_at dksX7_sum_0 18 rfl rfl)
theorem dX7_sum_20 : decode cX7_sum 20 = .ok (.if_icmp .ne 29, 3) := dk_160 0 29 (dk_at dksX7_sum_0 20 rfl rfl)
theorem dX7_sum_23 : decode cX7_sum 23 = .ok (.aload_n 0, 1) := dk_42 (dk_at dksX7_sum_0 23 rfl rfl)
theorem dX7_sum_24 : decode cX7_sum 24 = .ok (.getfield 121, 3) := dk_180 0 121 (dk_at dksX7_sum_1 0 rfl rfl)
theorem dX7_sum_27 : decode cX7_sum 27 = .ok (.istore_n 2, 1) := dk_61 (dk_at dksX7_sum_1 3 rfl rfl)
theorem dX7_sum_28 : decode cX7_sum 28 = .ok (.aload_n 0, 1) := dk_42 (dk_at dksX7_sum_1 4 rfl rfl)
theorem dX7_sum_29 : decode cX7_sum 29 = .ok (.invokevirtual 132, 3) := dk_182 0 132 (dk_at dksX7_sum_1 5 rfl rfl)
theorem dX7_sum_32 : decode cX7_sum 32 = .ok (.new 173, 3) := dk_187 0 173 (dk_at dksX7_sum_1 8 rfl rfl)
theorem dX7_sum_35 : decode cX7_sum 35 = .ok (.dup, 1) := dk_89 (dk_at dksX7_sum_1 11 rfl rfl)
theorem dX7_sum_36 : decode cX7_sum 36 = .ok (.aload_n 1, 1) := dk_43 (dk_at dksX7_sum_1 12 rfl rfl)
theorem dX7_sum_37 : decode cX7_sum 37 = .ok (.iload_n 2, 1) := dk_28 (dk_at dksX7_sum_1 13 rfl rfl)
theorem dX7_sum_38 : decode cX7_sum 38 = .ok (.aload_n 0, 1) := dk_42 (dk_at dksX7_sum_1 14 rfl rfl)
theorem dX7_sum_39 : decode cX7_sum 39 = .ok (.invokevirtual 169, 3) := dk_182 0 169 (dk_at dksX7_sum_1 15 rfl rfl)
theorem dX7_sum_42 : decode cX7_sum 42 = .ok (.invokespecial 175, 3) := dk_183 0 175 (dk_at dksX7_sum_1 18 rfl rfl)
theorem dX7_sum_45 : decode cX7_sum 45 = .ok (.astore_n 1, 1) := dk_76 (dk_at dksX7_sum_1 21 rfl rfl)
theorem dX7_sum_46 : decode cX7_sum 46 = .ok (.goto (-41), 3) := dk_167 255 215 (dk_at dksX7_sum_2 0 rfl rfl)
theorem dX7_sum_49 : decode cX7_sum 49 = .ok (.aload_n 1, 1) := dk_43 (dk_at dksX7_sum_2 3 rfl rfl)
theorem dX7_sum_50 : decode cX7_sum 50 = .ok (.areturn, 1) := dk_176 (dk_at dksX7_sum_2 4 rfl rfl)
abbrev cX7_product : ByteArray := prog_16_method_19_code
def yX7_product : MethodName := ⟨RX7, "product", "()LClaspedFair$Term;"⟩
def dkwX7_product_3 : List UInt8 := [167, 255, 191, 43, 176]
abbrev dktX7_product_3 : List UInt8 := dkwX7_product_3 ++ []
def dkwX7_product_2 : List UInt8 := [42, 4, 17, 39, 15, 182, 0, 139, 183, 0, 183, 167, 0, 7, 42, 182, 0, 178, 183, 0, 175, 76]
abbrev dktX7_product_2 : List UInt8 := dkwX7_product_2 ++ dktX7_product_3
def dkwX7_product_1 : List UInt8 := [180, 0, 121, 61, 42, 182, 0, 132, 187, 0, 173, 89, 43, 28, 28, 16, 47, 160, 0, 21, 187, 0, 181, 89]
abbrev dktX7_product_1 : List UInt8 := dkwX7_product_1 ++ dktX7_product_2
def dkwX7_product_0 : List UInt8 := [42, 182, 0, 178, 76, 42, 180, 0, 121, 16, 42, 159, 0, 12, 42, 180, 0, 121, 16, 47, 160, 0, 53, 42]
abbrev dktX7_product_0 : List UInt8 := dkwX7_product_0 ++ dktX7_product_1
theorem dksX7_product_0 : cX7_product.data.toList.drop 0 = dktX7_product_0 := by decide +kernel
theorem dksX7_product_1 : cX7_product.data.toList.drop 24 = dktX7_product_1 := dk_seg dksX7_product_0 24 rfl rfl
theorem dksX7_product_2 : cX7_product.data.toList.drop 48 = dktX7_product_2 := dk_seg dksX7_product_1 24 rfl rfl
theorem dksX7_product_3 : cX7_product.data.toList.drop 70 = dktX7_product_3 := dk_seg dksX7_product_2 22 rfl rfl
theorem dX7_product_0 : decode cX7_product 0 = .ok (.aload_n 0, 1) := dk_42 (dk_at dksX7_product_0 0 rfl rfl)
theorem dX7_product_1 : decode cX7_product 1 = .ok (.invokevirtual 178, 3) := dk_182 0 178 (dk_at dksX7_product_0 1 rfl rfl)
theorem dX7_product_4 : decode cX7_product 4 = .ok (.astore_n 1, 1) := dk_76 (dk_at dksX7_product_0 4 rfl rfl)
theorem dX7_product_5 : decode cX7_product 5 = .ok (.aload_n 0, 1) := dk_42 (dk_at dksX7_product_0 5 rfl rfl)
theorem dX7_product_6 : decode cX7_product 6 = .ok (.getfield 121, 3) := dk_180 0 121 (dk_at dksX7_product_0 6 rfl rfl)
theorem dX7_product_9 : decode cX7_product 9 = .ok (.bipush 42, 2) := dk_16 42 (dk_at dksX7_product_0 9 rfl rfl)
theorem dX7_product_11 : decode cX7_product 11 = .ok (.if_icmp .eq 12, 3) := dk_159 0 12 (dk_at dksX7_product_0 11 rfl rfl)
theorem dX7_product_14 : decode cX7_product 14 = .ok (.aload_n 0, 1) := dk_42 (dk_at dksX7_product_0 14 rfl rfl)
theorem dX7_product_15 : decode cX7_product 15 = .ok (.getfield 121, 3) := dk_180 0 121 (dk_at dksX7_product_0 15 rfl rfl)
theorem dX7_product_18 : decode cX7_product 18 = .ok (.bipush 47, 2) := dk_16 47 (dk_at dksX7_product_0 18 rfl rfl)
theorem dX7_product_20 : decode cX7_product 20 = .ok (.if_icmp .ne 53, 3) := dk_160 0 53 (dk_at dksX7_product_0 20 rfl rfl)
theorem dX7_product_23 : decode cX7_product 23 = .ok (.aload_n 0, 1) := dk_42 (dk_at dksX7_product_0 23 rfl rfl)
theorem dX7_product_24 : decode cX7_product 24 = .ok (.getfield 121, 3) := dk_180 0 121 (dk_at dksX7_product_1 0 rfl rfl)
theorem dX7_product_27 : decode cX7_product 27 = .ok (.istore_n 2, 1) := dk_61 (dk_at dksX7_product_1 3 rfl rfl)
theorem dX7_product_28 : decode cX7_product 28 = .ok (.aload_n 0, 1) := dk_42 (dk_at dksX7_product_1 4 rfl rfl)
theorem dX7_product_29 : decode cX7_product 29 = .ok (.invokevirtual 132, 3) := dk_182 0 132 (dk_at dksX7_product_1 5 rfl rfl)
theorem dX7_product_32 : decode cX7_product 32 = .ok (.new 173, 3) := dk_187 0 173 (dk_at dksX7_product_1 8 rfl rfl)
theorem dX7_product_35 : decode cX7_product 35 = .ok (.dup, 1) := dk_89 (dk_at dksX7_product_1 11 rfl rfl)
theorem dX7_product_36 : decode cX7_product 36 = .ok (.aload_n 1, 1) := dk_43 (dk_at dksX7_product_1 12 rfl rfl)
theorem dX7_product_37 : decode cX7_product 37 = .ok (.iload_n 2, 1) := dk_28 (dk_at dksX7_product_1 13 rfl rfl)
theorem dX7_product_38 : decode cX7_product 38 = .ok (.iload_n 2, 1) := dk_28 (dk_at dksX7_product_1 14 rfl rfl)
theorem dX7_product_39 : decode cX7_product 39 = .ok (.bipush 47, 2) := dk_16 47 (dk_at dksX7_product_1 15 rfl rfl)
theorem dX7_product_41 : decode cX7_product 41 = .ok (.if_icmp .ne 21, 3) := dk_160 0 21 (dk_at dksX7_product_1 17 rfl rfl)
theorem dX7_product_44 : decode cX7_product 44 = .ok (.new 181, 3) := dk_187 0 181 (dk_at dksX7_product_1 20 rfl rfl)
theorem dX7_product_47 : decode cX7_product 47 = .ok (.dup, 1) := dk_89 (dk_at dksX7_product_1 23 rfl rfl)
theorem dX7_product_48 : decode cX7_product 48 = .ok (.aload_n 0, 1) := dk_42 (dk_at dksX7_product_2 0 rfl rfl)
theorem dX7_product_49 : decode cX7_product 49 = .ok (.iconst 1, 1) := dk_4 (dk_at dksX7_product_2 1 rfl rfl)
theorem dX7_product_50 : decode cX7_product 50 = .ok (.sipush 9999, 3) := dk_17 39 15 (dk_at dksX7_product_2 2 rfl rfl)
theorem dX7_product_53 : decode cX7_product 53 = .ok (.invokevirtual 139, 3) := dk_182 0 139 (dk_at dksX7_product_2 5 rfl rfl)
theorem dX7_product_56 : decode cX7_product 56 = .ok (.invokespecial 183, 3) := dk_183 0 183 (dk_at dksX7_product_2 8 rfl rfl)
theorem dX7_product_59 : decode cX7_product 59 = .ok (.goto 7, 3) := dk_167 0 7 (dk_at dksX7_product_2 11 rfl rfl)
theorem dX7_product_62 : decode cX7_product 62 = .ok (.aload_n 0, 1) := dk_42 (dk_at dksX7_product_2 14 rfl rfl)
theorem dX7_product_63 : decode cX7_product 63 = .ok (.invokevirtual 178, 3) := dk_182 0 178 (dk_at dksX7_product_2 15 rfl rfl)
theorem dX7_product_66 : decode cX7_product 66 = .ok (.invokespecial 175, 3) := dk_183 0 175 (dk_at dksX7_product_2 18 rfl rfl)
theorem dX7_product_69 : decode cX7_product 69 = .ok (.astore_n 1, 1) := dk_76 (dk_at dksX7_product_2 21 rfl rfl)
theorem dX7_product_70 : decode cX7_product 70 = .ok (.goto (-65), 3) := dk_167 255 191 (dk_at dksX7_product_3 0 rfl rfl)
theorem dX7_product_73 : decode cX7_product 73 = .ok (.aload_n 1, 1) := dk_43 (dk_at dksX7_product_3 3 rfl rfl)
theorem dX7_product_74 : decode cX7_product 74 = .ok (.areturn, 1) := dk_176 (dk_at dksX7_product_3 4 rfl rfl)
abbrev cX7_unit : ByteArray := prog_16_method_20_code
def yX7_unit : MethodName := ⟨RX7, "unit", "()LClaspedFair$Term;"⟩
def dkwX7_unit_3 : List UInt8 := [27, 183, 0, 187, 176]
abbrev dktX7_unit_3 : List UInt8 := dkwX7_unit_3 ++ []
def dkwX7_unit_2 : List UInt8 := [180, 0, 41, 183, 0, 126, 191, 42, 180, 0, 121, 17, 0, 180, 100, 60, 42, 182, 0, 132, 187, 0, 185, 89]
abbrev dktX7_unit_2 : List UInt8 := dkwX7_unit_2 ++ dktX7_unit_3
def dkwX7_unit_1 : List UInt8 := [42, 180, 0, 121, 17, 0, 180, 17, 0, 190, 184, 0, 37, 154, 0, 16, 187, 0, 124, 89, 4, 42]
abbrev dktX7_unit_1 : List UInt8 := dkwX7_unit_1 ++ dktX7_unit_2
def dkwX7_unit_0 : List UInt8 := [42, 180, 0, 121, 5, 160, 0, 19, 187, 0, 181, 89, 42, 3, 17, 39, 15, 182, 0, 139, 183, 0, 183, 176]
abbrev dktX7_unit_0 : List UInt8 := dkwX7_unit_0 ++ dktX7_unit_1
theorem dksX7_unit_0 : cX7_unit.data.toList.drop 0 = dktX7_unit_0 := by decide +kernel
theorem dksX7_unit_1 : cX7_unit.data.toList.drop 24 = dktX7_unit_1 := dk_seg dksX7_unit_0 24 rfl rfl
theorem dksX7_unit_2 : cX7_unit.data.toList.drop 46 = dktX7_unit_2 := dk_seg dksX7_unit_1 22 rfl rfl
theorem dksX7_unit_3 : cX7_unit.data.toList.drop 70 = dktX7_unit_3 := dk_seg dksX7_unit_2 24 rfl rfl
theorem dX7_unit_0 : decode cX7_unit 0 = .ok (.aload_n 0, 1) := dk_42 (dk_at dksX7_unit_0 0 rfl rfl)
theorem dX7_unit_1 : decode cX7_unit 1 = .ok (.getfield 121, 3) := dk_180 0 121 (dk_at dksX7_unit_0 1 rfl rfl)
theorem dX7_unit_4 : decode cX7_unit 4 = .ok (.iconst 2, 1) := dk_5 (dk_at dksX7_unit_0 4 rfl rfl)
theorem dX7_unit_5 : decode cX7_unit 5 = .ok (.if_icmp .ne 19, 3) := dk_160 0 19 (dk_at dksX7_unit_0 5 rfl rfl)
theorem dX7_unit_8 : decode cX7_unit 8 = .ok (.new 181, 3) := dk_187 0 181 (dk_at dksX7_unit_0 8 rfl rfl)
theorem dX7_unit_11 : decode cX7_unit 11 = .ok (.dup, 1) := dk_89 (dk_at dksX7_unit_0 11 rfl rfl)
theorem dX7_unit_12 : decode cX7_unit 12 = .ok (.aload_n 0, 1) := dk_42 (dk_at dksX7_unit_0 12 rfl rfl)
theorem dX7_unit_13 : decode cX7_unit 13 = .ok (.iconst 0, 1) := dk_3 (dk_at dksX7_unit_0 13 rfl rfl)
theorem dX7_unit_14 : decode cX7_unit 14 = .ok (.sipush 9999, 3) := dk_17 39 15 (dk_at dksX7_unit_0 14 rfl rfl)
theorem dX7_unit_17 : decode cX7_unit 17 = .ok (.invokevirtual 139, 3) := dk_182 0 139 (dk_at dksX7_unit_0 17 rfl rfl)
theorem dX7_unit_20 : decode cX7_unit 20 = .ok (.invokespecial 183, 3) := dk_183 0 183 (dk_at dksX7_unit_0 20 rfl rfl)
theorem dX7_unit_23 : decode cX7_unit 23 = .ok (.areturn, 1) := dk_176 (dk_at dksX7_unit_0 23 rfl rfl)
theorem dX7_unit_24 : decode cX7_unit 24 = .ok (.aload_n 0, 1) := dk_42 (dk_at dksX7_unit_1 0 rfl rfl)
theorem dX7_unit_25 : decode cX7_unit 25 = .ok (.getfield 121, 3) := dk_180 0 121 (dk_at dksX7_unit_1 1 rfl rfl)
theorem dX7_unit_28 : decode cX7_unit 28 = .ok (.sipush 180, 3) := dk_17 0 180 (dk_at dksX7_unit_1 4 rfl rfl)
theorem dX7_unit_31 : decode cX7_unit 31 = .ok (.sipush 190, 3) := dk_17 0 190 (dk_at dksX7_unit_1 7 rfl rfl)
theorem dX7_unit_34 : decode cX7_unit 34 = .ok (.invokestatic 37, 3) := dk_184 0 37 (dk_at dksX7_unit_1 10 rfl rfl)
theorem dX7_unit_37 : decode cX7_unit 37 = .ok (.ifCond .ne 16, 3) := dk_154 0 16 (dk_at dksX7_unit_1 13 rfl rfl)
theorem dX7_unit_40 : decode cX7_unit 40 = .ok (.new 124, 3) := dk_187 0 124 (dk_at dksX7_unit_1 16 rfl rfl)
theorem dX7_unit_43 : decode cX7_unit 43 = .ok (.dup, 1) := dk_89 (dk_at dksX7_unit_1 19 rfl rfl)
theorem dX7_unit_44 : decode cX7_unit 44 = .ok (.iconst 1, 1) := dk_4 (dk_at dksX7_unit_1 20 rfl rfl)
theorem dX7_unit_45 : decode cX7_unit 45 = .ok (.aload_n 0, 1) := dk_42 (dk_at dksX7_unit_1 21 rfl rfl)
theorem dX7_unit_46 : decode cX7_unit 46 = .ok (.getfield 41, 3) := dk_180 0 41 (dk_at dksX7_unit_2 0 rfl rfl)
theorem dX7_unit_49 : decode cX7_unit 49 = .ok (.invokespecial 126, 3) := dk_183 0 126 (dk_at dksX7_unit_2 3 rfl rfl)
theorem dX7_unit_52 : decode cX7_unit 52 = .ok (.athrow, 1) := dk_191 (dk_at dksX7_unit_2 6 rfl rfl)
theorem dX7_unit_53 : decode cX7_unit 53 = .ok (.aload_n 0, 1) := dk_42 (dk_at dksX7_unit_2 7 rfl rfl)
theorem dX7_unit_54 : decode cX7_unit 54 = .ok (.getfield 121, 3) := dk_180 0 121 (dk_at dksX7_unit_2 8 rfl rfl)
theorem dX7_unit_57 : decode cX7_unit 57 = .ok (.sipush 180, 3) := dk_17 0 180 (dk_at dksX7_unit_2 11 rfl rfl)
theorem dX7_unit_60 : decode cX7_unit 60 = .ok (.isub, 1) := dk_100 (dk_at dksX7_unit_2 14 rfl rfl)
theorem dX7_unit_61 : decode cX7_unit 61 = .ok (.istore_n 1, 1) := dk_60 (dk_at dksX7_unit_2 15 rfl rfl)
theorem dX7_unit_62 : decode cX7_unit 62 = .ok (.aload_n 0, 1) := dk_42 (dk_at dksX7_unit_2 16 rfl rfl)
theorem dX7_unit_63 : decode cX7_unit 63 = .ok (.invokevirtual 132, 3) := dk_182 0 132 (dk_at dksX7_unit_2 17 rfl rfl)
theorem dX7_unit_66 : decode cX7_unit 66 = .ok (.new 185, 3) := dk_187 0 185 (dk_at dksX7_unit_2 20 rfl rfl)
theorem dX7_unit_69 : decode cX7_unit 69 = .ok (.dup, 1) := dk_89 (dk_at dksX7_unit_2 23 rfl rfl)
theorem dX7_unit_70 : decode cX7_unit 70 = .ok (.iload_n 1, 1) := dk_27 (dk_at dksX7_unit_3 0 rfl rfl)
theorem dX7_unit_71 : decode cX7_unit 71 = .ok (.invokespecial 187, 3) := dk_183 0 187 (dk_at dksX7_unit_3 1 rfl rfl)
theorem dX7_unit_74 : decode cX7_unit 74 = .ok (.areturn, 1) := dk_176 (dk_at dksX7_unit_3 4 rfl rfl)
abbrev cX7_number : ByteArray := prog_16_method_11_code
def yX7_number : MethodName := ⟨RX7, "number", "(II)I"⟩
def dkwX7_number_2 : List UInt8 := [42, 180, 0, 129, 62, 42, 182, 0, 132, 29, 172]
abbrev dktX7_number_2 : List UInt8 := dkwX7_number_2 ++ []
def dkwX7_number_1 : List UInt8 := [180, 0, 129, 27, 28, 184, 0, 37, 154, 0, 16, 187, 0, 124, 89, 5, 42, 180, 0, 41, 183, 0, 126, 191]
abbrev dktX7_number_1 : List UInt8 := dkwX7_number_1 ++ dktX7_number_2
def dkwX7_number_0 : List UInt8 := [42, 180, 0, 121, 5, 159, 0, 16, 187, 0, 124, 89, 4, 42, 180, 0, 41, 183, 0, 126, 191, 42]
abbrev dktX7_number_0 : List UInt8 := dkwX7_number_0 ++ dktX7_number_1
theorem dksX7_number_0 : cX7_number.data.toList.drop 0 = dktX7_number_0 := by decide +kernel
theorem dksX7_number_1 : cX7_number.data.toList.drop 22 = dktX7_number_1 := dk_seg dksX7_number_0 22 rfl rfl
theorem dksX7_number_2 : cX7_number.data.toList.drop 46 = dktX7_number_2 := dk_seg dksX7_number_1 24 rfl rfl
theorem dX7_number_0 : decode cX7_number 0 = .ok (.aload_n 0, 1) := dk_42 (dk_at dksX7_number_0 0 rfl rfl)
theorem dX7_number_1 : decode cX7_number 1 = .ok (.getfield 121, 3) := dk_180 0 121 (dk_at dksX7_number_0 1 rfl rfl)
theorem dX7_number_4 : decode cX7_number 4 = .ok (.iconst 2, 1) := dk_5 (dk_at dksX7_number_0 4 rfl rfl)
theorem dX7_number_5 : decode cX7_number 5 = .ok (.if_icmp .eq 16, 3) := dk_159 0 16 (dk_at dksX7_number_0 5 rfl rfl)
theorem dX7_number_8 : decode cX7_number 8 = .ok (.new 124, 3) := dk_187 0 124 (dk_at dksX7_number_0 8 rfl rfl)
theorem dX7_number_11 : decode cX7_number 11 = .ok (.dup, 1) := dk_89 (dk_at dksX7_number_0 11 rfl rfl)
theorem dX7_number_12 : decode cX7_number 12 = .ok (.iconst 1, 1) := dk_4 (dk_at dksX7_number_0 12 rfl rfl)
theorem dX7_number_13 : decode cX7_number 13 = .ok (.aload_n 0, 1) := dk_42 (dk_at dksX7_number_0 13 rfl rfl)
theorem dX7_number_14 : decode cX7_number 14 = .ok (.getfield 41, 3) := dk_180 0 41 (dk_at dksX7_number_0 14 rfl rfl)
theorem dX7_number_17 : decode cX7_number 17 = .ok (.invokespecial 126, 3) := dk_183 0 126 (dk_at dksX7_number_0 17 rfl rfl)
theorem dX7_number_20 : decode cX7_number 20 = .ok (.athrow, 1) := dk_191 (dk_at dksX7_number_0 20 rfl rfl)
theorem dX7_number_21 : decode cX7_number 21 = .ok (.aload_n 0, 1) := dk_42 (dk_at dksX7_number_0 21 rfl rfl)
theorem dX7_number_22 : decode cX7_number 22 = .ok (.getfield 129, 3) := dk_180 0 129 (dk_at dksX7_number_1 0 rfl rfl)
theorem dX7_number_25 : decode cX7_number 25 = .ok (.iload_n 1, 1) := dk_27 (dk_at dksX7_number_1 3 rfl rfl)
theorem dX7_number_26 : decode cX7_number 26 = .ok (.iload_n 2, 1) := dk_28 (dk_at dksX7_number_1 4 rfl rfl)
theorem dX7_number_27 : decode cX7_number 27 = .ok (.invokestatic 37, 3) := dk_184 0 37 (dk_at dksX7_number_1 5 rfl rfl)
theorem dX7_number_30 : decode cX7_number 30 = .ok (.ifCond .ne 16, 3) := dk_154 0 16 (dk_at dksX7_number_1 8 rfl rfl)
theorem dX7_number_33 : decode cX7_number 33 = .ok (.new 124, 3) := dk_187 0 124 (dk_at dksX7_number_1 11 rfl rfl)
theorem dX7_number_36 : decode cX7_number 36 = .ok (.dup, 1) := dk_89 (dk_at dksX7_number_1 14 rfl rfl)
theorem dX7_number_37 : decode cX7_number 37 = .ok (.iconst 2, 1) := dk_5 (dk_at dksX7_number_1 15 rfl rfl)
theorem dX7_number_38 : decode cX7_number 38 = .ok (.aload_n 0, 1) := dk_42 (dk_at dksX7_number_1 16 rfl rfl)
theorem dX7_number_39 : decode cX7_number 39 = .ok (.getfield 41, 3) := dk_180 0 41 (dk_at dksX7_number_1 17 rfl rfl)
theorem dX7_number_42 : decode cX7_number 42 = .ok (.invokespecial 126, 3) := dk_183 0 126 (dk_at dksX7_number_1 20 rfl rfl)
theorem dX7_number_45 : decode cX7_number 45 = .ok (.athrow, 1) := dk_191 (dk_at dksX7_number_1 23 rfl rfl)
theorem dX7_number_46 : decode cX7_number 46 = .ok (.aload_n 0, 1) := dk_42 (dk_at dksX7_number_2 0 rfl rfl)
theorem dX7_number_47 : decode cX7_number 47 = .ok (.getfield 129, 3) := dk_180 0 129 (dk_at dksX7_number_2 1 rfl rfl)
theorem dX7_number_50 : decode cX7_number 50 = .ok (.istore_n 3, 1) := dk_62 (dk_at dksX7_number_2 4 rfl rfl)
theorem dX7_number_51 : decode cX7_number 51 = .ok (.aload_n 0, 1) := dk_42 (dk_at dksX7_number_2 5 rfl rfl)
theorem dX7_number_52 : decode cX7_number 52 = .ok (.invokevirtual 132, 3) := dk_182 0 132 (dk_at dksX7_number_2 6 rfl rfl)
theorem dX7_number_55 : decode cX7_number 55 = .ok (.iload_n 3, 1) := dk_29 (dk_at dksX7_number_2 9 rfl rfl)
theorem dX7_number_56 : decode cX7_number 56 = .ok (.ireturn, 1) := dk_172 (dk_at dksX7_number_2 10 rfl rfl)
abbrev cX7_any : ByteArray := prog_16_method_21_code
def yX7_any : MethodName := ⟨RX7, "any", "()LClaspedFair$Term;"⟩
def dkwX7_any_1 : List UInt8 := [182, 0, 188, 183, 0, 175, 76, 167, 255, 230, 43, 176]
abbrev dktX7_any_1 : List UInt8 := dkwX7_any_1 ++ []
def dkwX7_any_0 : List UInt8 := [42, 182, 0, 188, 76, 42, 180, 0, 121, 7, 160, 0, 24, 42, 182, 0, 132, 187, 0, 173, 89, 43, 7, 42]
abbrev dktX7_any_0 : List UInt8 := dkwX7_any_0 ++ dktX7_any_1
theorem dksX7_any_0 : cX7_any.data.toList.drop 0 = dktX7_any_0 := by decide +kernel
theorem dksX7_any_1 : cX7_any.data.toList.drop 24 = dktX7_any_1 := dk_seg dksX7_any_0 24 rfl rfl
theorem dX7_any_0 : decode cX7_any 0 = .ok (.aload_n 0, 1) := dk_42 (dk_at dksX7_any_0 0 rfl rfl)
theorem dX7_any_1 : decode cX7_any 1 = .ok (.invokevirtual 188, 3) := dk_182 0 188 (dk_at dksX7_any_0 1 rfl rfl)
theorem dX7_any_4 : decode cX7_any 4 = .ok (.astore_n 1, 1) := dk_76 (dk_at dksX7_any_0 4 rfl rfl)
theorem dX7_any_5 : decode cX7_any 5 = .ok (.aload_n 0, 1) := dk_42 (dk_at dksX7_any_0 5 rfl rfl)
theorem dX7_any_6 : decode cX7_any 6 = .ok (.getfield 121, 3) := dk_180 0 121 (dk_at dksX7_any_0 6 rfl rfl)
theorem dX7_any_9 : decode cX7_any 9 = .ok (.iconst 4, 1) := dk_7 (dk_at dksX7_any_0 9 rfl rfl)
theorem dX7_any_10 : decode cX7_any 10 = .ok (.if_icmp .ne 24, 3) := dk_160 0 24 (dk_at dksX7_any_0 10 rfl rfl)
theorem dX7_any_13 : decode cX7_any 13 = .ok (.aload_n 0, 1) := dk_42 (dk_at dksX7_any_0 13 rfl rfl)
theorem dX7_any_14 : decode cX7_any 14 = .ok (.invokevirtual 132, 3) := dk_182 0 132 (dk_at dksX7_any_0 14 rfl rfl)
theorem dX7_any_17 : decode cX7_any 17 = .ok (.new 173, 3) := dk_187 0 173 (dk_at dksX7_any_0 17 rfl rfl)
theorem dX7_any_20 : decode cX7_any 20 = .ok (.dup, 1) := dk_89 (dk_at dksX7_any_0 20 rfl rfl)
theorem dX7_any_21 : decode cX7_any 21 = .ok (.aload_n 1, 1) := dk_43 (dk_at dksX7_any_0 21 rfl rfl)
theorem dX7_any_22 : decode cX7_any 22 = .ok (.iconst 4, 1) := dk_7 (dk_at dksX7_any_0 22 rfl rfl)
theorem dX7_any_23 : decode cX7_any 23 = .ok (.aload_n 0, 1) := dk_42 (dk_at dksX7_any_0 23 rfl rfl)
theorem dX7_any_24 : decode cX7_any 24 = .ok (.invokevirtual 188, 3) := dk_182 0 188 (dk_at dksX7_any_1 0 rfl rfl)
theorem dX7_any_27 : decode cX7_any 27 = .ok (.invokespecial 175, 3) := dk_183 0 175 (dk_at dksX7_any_1 3 rfl rfl)
theorem dX7_any_30 : decode cX7_any 30 = .ok (.astore_n 1, 1) := dk_76 (dk_at dksX7_any_1 6 rfl rfl)
theorem dX7_any_31 : decode cX7_any 31 = .ok (.goto (-26), 3) := dk_167 255 230 (dk_at dksX7_any_1 7 rfl rfl)
theorem dX7_any_34 : decode cX7_any 34 = .ok (.aload_n 1, 1) := dk_43 (dk_at dksX7_any_1 10 rfl rfl)
theorem dX7_any_35 : decode cX7_any 35 = .ok (.areturn, 1) := dk_176 (dk_at dksX7_any_1 11 rfl rfl)
abbrev cX7_all : ByteArray := prog_16_method_22_code
def yX7_all : MethodName := ⟨RX7, "all", "()LClaspedFair$Term;"⟩
def dkwX7_all_1 : List UInt8 := [182, 0, 191, 183, 0, 175, 76, 167, 255, 230, 43, 176]
abbrev dktX7_all_1 : List UInt8 := dkwX7_all_1 ++ []
def dkwX7_all_0 : List UInt8 := [42, 182, 0, 191, 76, 42, 180, 0, 121, 8, 160, 0, 24, 42, 182, 0, 132, 187, 0, 173, 89, 43, 8, 42]
abbrev dktX7_all_0 : List UInt8 := dkwX7_all_0 ++ dktX7_all_1
theorem dksX7_all_0 : cX7_all.data.toList.drop 0 = dktX7_all_0 := by decide +kernel
theorem dksX7_all_1 : cX7_all.data.toList.drop 24 = dktX7_all_1 := dk_seg dksX7_all_0 24 rfl rfl
theorem dX7_all_0 : decode cX7_all 0 = .ok (.aload_n 0, 1) := dk_42 (dk_at dksX7_all_0 0 rfl rfl)
theorem dX7_all_1 : decode cX7_all 1 = .ok (.invokevirtual 191, 3) := dk_182 0 191 (dk_at dksX7_all_0 1 rfl rfl)
theorem dX7_all_4 : decode cX7_all 4 = .ok (.astore_n 1, 1) := dk_76 (dk_at dksX7_all_0 4 rfl rfl)
theorem dX7_all_5 : decode cX7_all 5 = .ok (.aload_n 0, 1) := dk_42 (dk_at dksX7_all_0 5 rfl rfl)
theorem dX7_all_6 : decode cX7_all 6 = .ok (.getfield 121, 3) := dk_180 0 121 (dk_at dksX7_all_0 6 rfl rfl)
theorem dX7_all_9 : decode cX7_all 9 = .ok (.iconst 5, 1) := dk_8 (dk_at dksX7_all_0 9 rfl rfl)
theorem dX7_all_10 : decode cX7_all 10 = .ok (.if_icmp .ne 24, 3) := dk_160 0 24 (dk_at dksX7_all_0 10 rfl rfl)
theorem dX7_all_13 : decode cX7_all 13 = .ok (.aload_n 0, 1) := dk_42 (dk_at dksX7_all_0 13 rfl rfl)
theorem dX7_all_14 : decode cX7_all 14 = .ok (.invokevirtual 132, 3) := dk_182 0 132 (dk_at dksX7_all_0 14 rfl rfl)
theorem dX7_all_17 : decode cX7_all 17 = .ok (.new 173, 3) := dk_187 0 173 (dk_at dksX7_all_0 17 rfl rfl)
theorem dX7_all_20 : decode cX7_all 20 = .ok (.dup, 1) := dk_89 (dk_at dksX7_all_0 20 rfl rfl)
theorem dX7_all_21 : decode cX7_all 21 = .ok (.aload_n 1, 1) := dk_43 (dk_at dksX7_all_0 21 rfl rfl)
theorem dX7_all_22 : decode cX7_all 22 = .ok (.iconst 5, 1) := dk_8 (dk_at dksX7_all_0 22 rfl rfl)
theorem dX7_all_23 : decode cX7_all 23 = .ok (.aload_n 0, 1) := dk_42 (dk_at dksX7_all_0 23 rfl rfl)
theorem dX7_all_24 : decode cX7_all 24 = .ok (.invokevirtual 191, 3) := dk_182 0 191 (dk_at dksX7_all_1 0 rfl rfl)
theorem dX7_all_27 : decode cX7_all 27 = .ok (.invokespecial 175, 3) := dk_183 0 175 (dk_at dksX7_all_1 3 rfl rfl)
theorem dX7_all_30 : decode cX7_all 30 = .ok (.astore_n 1, 1) := dk_76 (dk_at dksX7_all_1 6 rfl rfl)
theorem dX7_all_31 : decode cX7_all 31 = .ok (.goto (-26), 3) := dk_167 255 230 (dk_at dksX7_all_1 7 rfl rfl)
theorem dX7_all_34 : decode cX7_all 34 = .ok (.aload_n 1, 1) := dk_43 (dk_at dksX7_all_1 10 rfl rfl)
theorem dX7_all_35 : decode cX7_all 35 = .ok (.areturn, 1) := dk_176 (dk_at dksX7_all_1 11 rfl rfl)
abbrev cX7_one : ByteArray := prog_16_method_23_code
def yX7_one : MethodName := ⟨RX7, "one", "()LClaspedFair$Term;"⟩
def dkwX7_one_6 : List UInt8 := [176]
abbrev dktX7_one_6 : List UInt8 := dkwX7_one_6 ++ []
def dkwX7_one_5 : List UInt8 := [180, 0, 41, 183, 0, 126, 191, 42, 182, 0, 132, 187, 0, 173, 89, 43, 28, 42, 182, 0, 205, 183, 0, 175]
abbrev dktX7_one_5 : List UInt8 := dkwX7_one_5 ++ dktX7_one_6
def dkwX7_one_4 : List UInt8 := [16, 60, 159, 0, 28, 28, 16, 61, 159, 0, 22, 28, 16, 62, 159, 0, 16, 187, 0, 124, 89, 4, 42]
abbrev dktX7_one_4 : List UInt8 := dkwX7_one_4 ++ dktX7_one_5
def dkwX7_one_3 : List UInt8 := [42, 89, 180, 0, 166, 4, 100, 181, 0, 166, 44, 176, 42, 182, 0, 205, 76, 42, 180, 0, 121, 61, 28]
abbrev dktX7_one_3 : List UInt8 := dkwX7_one_3 ++ dktX7_one_4
def dkwX7_one_2 : List UInt8 := [182, 0, 191, 183, 0, 199, 167, 0, 7, 42, 182, 0, 202, 77, 27, 154, 0, 9, 42, 16, 41, 182, 0, 135]
abbrev dktX7_one_2 : List UInt8 := dkwX7_one_2 ++ dktX7_one_3
def dkwX7_one_1 : List UInt8 := [160, 0, 7, 4, 167, 0, 4, 3, 60, 42, 182, 0, 194, 27, 153, 0, 17, 187, 0, 197, 89, 42]
abbrev dktX7_one_1 : List UInt8 := dkwX7_one_1 ++ dktX7_one_2
def dkwX7_one_0 : List UInt8 := [42, 180, 0, 121, 16, 6, 159, 0, 12, 42, 180, 0, 121, 16, 40, 160, 0, 67, 42, 180, 0, 121, 16, 6]
abbrev dktX7_one_0 : List UInt8 := dkwX7_one_0 ++ dktX7_one_1
theorem dksX7_one_0 : cX7_one.data.toList.drop 0 = dktX7_one_0 := by decide +kernel
theorem dksX7_one_1 : cX7_one.data.toList.drop 24 = dktX7_one_1 := dk_seg dksX7_one_0 24 rfl rfl
theorem dksX7_one_2 : cX7_one.data.toList.drop 46 = dktX7_one_2 := dk_seg dksX7_one_1 22 rfl rfl
theorem dksX7_one_3 : cX7_one.data.toList.drop 70 = dktX7_one_3 := dk_seg dksX7_one_2 24 rfl rfl
theorem dksX7_one_4 : cX7_one.data.toList.drop 93 = dktX7_one_4 := dk_seg dksX7_one_3 23 rfl rfl
theorem dksX7_one_5 : cX7_one.data.toList.drop 116 = dktX7_one_5 := dk_seg dksX7_one_4 23 rfl rfl
theorem dksX7_one_6 : cX7_one.data.toList.drop 140 = dktX7_one_6 := dk_seg dksX7_one_5 24 rfl rfl
theorem dX7_one_0 : decode cX7_one 0 = .ok (.aload_n 0, 1) := dk_42 (dk_at dksX7_one_0 0 rfl rfl)
theorem dX7_one_1 : decode cX7_one 1 = .ok (.getfield 121, 3) := dk_180 0 121 (dk_at dksX7_one_0 1 rfl rfl)
theorem dX7_one_4 : decode cX7_one 4 = .ok (.bipush 6, 2) := dk_16 6 (dk_at dksX7_one_0 4 rfl rfl)
theorem dX7_one_6 : decode cX7_one 6 = .ok (.if_icmp .eq 12, 3) := dk_159 0 12 (dk_at dksX7_one_0 6 rfl rfl)
theorem dX7_one_9 : decode cX7_one 9 = .ok (.aload_n 0, 1) := dk_42 (dk_at dksX7_one_0 9 rfl rfl)
theorem dX7_one_10 : decode cX7_one 10 = .ok (.getfield 121, 3) := dk_180 0 121 (dk_at dksX7_one_0 10 rfl rfl)
theorem dX7_one_13 : decode cX7_one 13 = .ok (.bipush 40, 2) := dk_16 40 (dk_at dksX7_one_0 13 rfl rfl)
theorem dX7_one_15 : decode cX7_one 15 = .ok (.if_icmp .ne 67, 3) := dk_160 0 67 (dk_at dksX7_one_0 15 rfl rfl)
theorem dX7_one_18 : decode cX7_one 18 = .ok (.aload_n 0, 1) := dk_42 (dk_at dksX7_one_0 18 rfl rfl)
theorem dX7_one_19 : decode cX7_one 19 = .ok (.getfield 121, 3) := dk_180 0 121 (dk_at dksX7_one_0 19 rfl rfl)
theorem dX7_one_22 : decode cX7_one 22 = .ok (.bipush 6, 2) := dk_16 6 (dk_at dksX7_one_0 22 rfl rfl)
theorem dX7_one_24 : decode cX7_one 24 = .ok (.if_icmp .ne 7, 3) := dk_160 0 7 (dk_at dksX7_one_1 0 rfl rfl)
theorem dX7_one_27 : decode cX7_one 27 = .ok (.iconst 1, 1) := dk_4 (dk_at dksX7_one_1 3 rfl rfl)
theorem dX7_one_28 : decode cX7_one 28 = .ok (.goto 4, 3) := dk_167 0 4 (dk_at dksX7_one_1 4 rfl rfl)
theorem dX7_one_31 : decode cX7_one 31 = .ok (.iconst 0, 1) := dk_3 (dk_at dksX7_one_1 7 rfl rfl)
theorem dX7_one_32 : decode cX7_one 32 = .ok (.istore_n 1, 1) := dk_60 (dk_at dksX7_one_1 8 rfl rfl)
theorem dX7_one_33 : decode cX7_one 33 = .ok (.aload_n 0, 1) := dk_42 (dk_at dksX7_one_1 9 rfl rfl)
theorem dX7_one_34 : decode cX7_one 34 = .ok (.invokevirtual 194, 3) := dk_182 0 194 (dk_at dksX7_one_1 10 rfl rfl)
theorem dX7_one_37 : decode cX7_one 37 = .ok (.iload_n 1, 1) := dk_27 (dk_at dksX7_one_1 13 rfl rfl)
theorem dX7_one_38 : decode cX7_one 38 = .ok (.ifCond .eq 17, 3) := dk_153 0 17 (dk_at dksX7_one_1 14 rfl rfl)
theorem dX7_one_41 : decode cX7_one 41 = .ok (.new 197, 3) := dk_187 0 197 (dk_at dksX7_one_1 17 rfl rfl)
theorem dX7_one_44 : decode cX7_one 44 = .ok (.dup, 1) := dk_89 (dk_at dksX7_one_1 20 rfl rfl)
theorem dX7_one_45 : decode cX7_one 45 = .ok (.aload_n 0, 1) := dk_42 (dk_at dksX7_one_1 21 rfl rfl)
theorem dX7_one_46 : decode cX7_one 46 = .ok (.invokevirtual 191, 3) := dk_182 0 191 (dk_at dksX7_one_2 0 rfl rfl)
theorem dX7_one_49 : decode cX7_one 49 = .ok (.invokespecial 199, 3) := dk_183 0 199 (dk_at dksX7_one_2 3 rfl rfl)
theorem dX7_one_52 : decode cX7_one 52 = .ok (.goto 7, 3) := dk_167 0 7 (dk_at dksX7_one_2 6 rfl rfl)
theorem dX7_one_55 : decode cX7_one 55 = .ok (.aload_n 0, 1) := dk_42 (dk_at dksX7_one_2 9 rfl rfl)
theorem dX7_one_56 : decode cX7_one 56 = .ok (.invokevirtual 202, 3) := dk_182 0 202 (dk_at dksX7_one_2 10 rfl rfl)
theorem dX7_one_59 : decode cX7_one 59 = .ok (.astore_n 2, 1) := dk_77 (dk_at dksX7_one_2 13 rfl rfl)
theorem dX7_one_60 : decode cX7_one 60 = .ok (.iload_n 1, 1) := dk_27 (dk_at dksX7_one_2 14 rfl rfl)
theorem dX7_one_61 : decode cX7_one 61 = .ok (.ifCond .ne 9, 3) := dk_154 0 9 (dk_at dksX7_one_2 15 rfl rfl)
theorem dX7_one_64 : decode cX7_one 64 = .ok (.aload_n 0, 1) := dk_42 (dk_at dksX7_one_2 18 rfl rfl)
theorem dX7_one_65 : decode cX7_one 65 = .ok (.bipush 41, 2) := dk_16 41 (dk_at dksX7_one_2 19 rfl rfl)
theorem dX7_one_67 : decode cX7_one 67 = .ok (.invokevirtual 135, 3) := dk_182 0 135 (dk_at dksX7_one_2 21 rfl rfl)
theorem dX7_one_70 : decode cX7_one 70 = .ok (.aload_n 0, 1) := dk_42 (dk_at dksX7_one_3 0 rfl rfl)
theorem dX7_one_71 : decode cX7_one 71 = .ok (.dup, 1) := dk_89 (dk_at dksX7_one_3 1 rfl rfl)
theorem dX7_one_72 : decode cX7_one 72 = .ok (.getfield 166, 3) := dk_180 0 166 (dk_at dksX7_one_3 2 rfl rfl)
theorem dX7_one_75 : decode cX7_one 75 = .ok (.iconst 1, 1) := dk_4 (dk_at dksX7_one_3 5 rfl rfl)
theorem dX7_one_76 : decode cX7_one 76 = .ok (.isub, 1) := dk_100 (dk_at dksX7_one_3 6 rfl rfl)
theorem dX7_one_77 : decode cX7_one 77 = .ok (.putfield 166, 3) := dk_181 0 166 (dk_at dksX7_one_3 7 rfl rfl)
theorem dX7_one_80 : decode cX7_one 80 = .ok (.aload_n 2, 1) := dk_44 (dk_at dksX7_one_3 10 rfl rfl)
theorem dX7_one_81 : decode cX7_one 81 = .ok (.areturn, 1) := dk_176 (dk_at dksX7_one_3 11 rfl rfl)
theorem dX7_one_82 : decode cX7_one 82 = .ok (.aload_n 0, 1) := dk_42 (dk_at dksX7_one_3 12 rfl rfl)
theorem dX7_one_83 : decode cX7_one 83 = .ok (.invokevirtual 205, 3) := dk_182 0 205 (dk_at dksX7_one_3 13 rfl rfl)
theorem dX7_one_86 : decode cX7_one 86 = .ok (.astore_n 1, 1) := dk_76 (dk_at dksX7_one_3 16 rfl rfl)
theorem dX7_one_87 : decode cX7_one 87 = .ok (.aload_n 0, 1) := dk_42 (dk_at dksX7_one_3 17 rfl rfl)
theorem dX7_one_88 : decode cX7_one 88 = .ok (.getfield 121, 3) := dk_180 0 121 (dk_at dksX7_one_3 18 rfl rfl)
theorem dX7_one_91 : decode cX7_one 91 = .ok (.istore_n 2, 1) := dk_61 (dk_at dksX7_one_3 21 rfl rfl)
theorem dX7_one_92 : decode cX7_one 92 = .ok (.iload_n 2, 1) := dk_28 (dk_at dksX7_one_3 22 rfl rfl)
theorem dX7_one_93 : decode cX7_one 93 = .ok (.bipush 60, 2) := dk_16 60 (dk_at dksX7_one_4 0 rfl rfl)
theorem dX7_one_95 : decode cX7_one 95 = .ok (.if_icmp .eq 28, 3) := dk_159 0 28 (dk_at dksX7_one_4 2 rfl rfl)
theorem dX7_one_98 : decode cX7_one 98 = .ok (.iload_n 2, 1) := dk_28 (dk_at dksX7_one_4 5 rfl rfl)
theorem dX7_one_99 : decode cX7_one 99 = .ok (.bipush 61, 2) := dk_16 61 (dk_at dksX7_one_4 6 rfl rfl)
theorem dX7_one_101 : decode cX7_one 101 = .ok (.if_icmp .eq 22, 3) := dk_159 0 22 (dk_at dksX7_one_4 8 rfl rfl)
theorem dX7_one_104 : decode cX7_one 104 = .ok (.iload_n 2, 1) := dk_28 (dk_at dksX7_one_4 11 rfl rfl)
theorem dX7_one_105 : decode cX7_one 105 = .ok (.bipush 62, 2) := dk_16 62 (dk_at dksX7_one_4 12 rfl rfl)
theorem dX7_one_107 : decode cX7_one 107 = .ok (.if_icmp .eq 16, 3) := dk_159 0 16 (dk_at dksX7_one_4 14 rfl rfl)
theorem dX7_one_110 : decode cX7_one 110 = .ok (.new 124, 3) := dk_187 0 124 (dk_at dksX7_one_4 17 rfl rfl)
theorem dX7_one_113 : decode cX7_one 113 = .ok (.dup, 1) := dk_89 (dk_at dksX7_one_4 20 rfl rfl)
theorem dX7_one_114 : decode cX7_one 114 = .ok (.iconst 1, 1) := dk_4 (dk_at dksX7_one_4 21 rfl rfl)
theorem dX7_one_115 : decode cX7_one 115 = .ok (.aload_n 0, 1) := dk_42 (dk_at dksX7_one_4 22 rfl rfl)
theorem dX7_one_116 : decode cX7_one 116 = .ok (.getfield 41, 3) := dk_180 0 41 (dk_at dksX7_one_5 0 rfl rfl)
theorem dX7_one_119 : decode cX7_one 119 = .ok (.invokespecial 126, 3) := dk_183 0 126 (dk_at dksX7_one_5 3 rfl rfl)
theorem dX7_one_122 : decode cX7_one 122 = .ok (.athrow, 1) := dk_191 (dk_at dksX7_one_5 6 rfl rfl)
theorem dX7_one_123 : decode cX7_one 123 = .ok (.aload_n 0, 1) := dk_42 (dk_at dksX7_one_5 7 rfl rfl)
theorem dX7_one_124 : decode cX7_one 124 = .ok (.invokevirtual 132, 3) := dk_182 0 132 (dk_at dksX7_one_5 8 rfl rfl)
theorem dX7_one_127 : decode cX7_one 127 = .ok (.new 173, 3) := dk_187 0 173 (dk_at dksX7_one_5 11 rfl rfl)
theorem dX7_one_130 : decode cX7_one 130 = .ok (.dup, 1) := dk_89 (dk_at dksX7_one_5 14 rfl rfl)
theorem dX7_one_131 : decode cX7_one 131 = .ok (.aload_n 1, 1) := dk_43 (dk_at dksX7_one_5 15 rfl rfl)
theorem dX7_one_132 : decode cX7_one 132 = .ok (.iload_n 2, 1) := dk_28 (dk_at dksX7_one_5 16 rfl rfl)
theorem dX7_one_133 : decode cX7_one 133 = .ok (.aload_n 0, 1) := dk_42 (dk_at dksX7_one_5 17 rfl rfl)
theorem dX7_one_134 : decode cX7_one 134 = .ok (.invokevirtual 205, 3) := dk_182 0 205 (dk_at dksX7_one_5 18 rfl rfl)
theorem dX7_one_137 : decode cX7_one 137 = .ok (.invokespecial 175, 3) := dk_183 0 175 (dk_at dksX7_one_5 21 rfl rfl)
theorem dX7_one_140 : decode cX7_one 140 = .ok (.areturn, 1) := dk_176 (dk_at dksX7_one_6 0 rfl rfl)
abbrev cX7_opens : ByteArray := prog_16_method_17_code
def yX7_opens : MethodName := ⟨RX7, "opens", "()V"⟩
def dkwX7_opens_1 : List UInt8 := [180, 0, 166, 4, 96, 181, 0, 166, 42, 182, 0, 132, 177]
abbrev dktX7_opens_1 : List UInt8 := dkwX7_opens_1 ++ []
def dkwX7_opens_0 : List UInt8 := [42, 180, 0, 166, 16, 8, 160, 0, 16, 187, 0, 124, 89, 6, 42, 180, 0, 41, 183, 0, 126, 191, 42, 89]
abbrev dktX7_opens_0 : List UInt8 := dkwX7_opens_0 ++ dktX7_opens_1
theorem dksX7_opens_0 : cX7_opens.data.toList.drop 0 = dktX7_opens_0 := by decide +kernel
theorem dksX7_opens_1 : cX7_opens.data.toList.drop 24 = dktX7_opens_1 := dk_seg dksX7_opens_0 24 rfl rfl
theorem dX7_opens_0 : decode cX7_opens 0 = .ok (.aload_n 0, 1) := dk_42 (dk_at dksX7_opens_0 0 rfl rfl)
theorem dX7_opens_1 : decode cX7_opens 1 = .ok (.getfield 166, 3) := dk_180 0 166 (dk_at dksX7_opens_0 1 rfl rfl)
theorem dX7_opens_4 : decode cX7_opens 4 = .ok (.bipush 8, 2) := dk_16 8 (dk_at dksX7_opens_0 4 rfl rfl)
theorem dX7_opens_6 : decode cX7_opens 6 = .ok (.if_icmp .ne 16, 3) := dk_160 0 16 (dk_at dksX7_opens_0 6 rfl rfl)
theorem dX7_opens_9 : decode cX7_opens 9 = .ok (.new 124, 3) := dk_187 0 124 (dk_at dksX7_opens_0 9 rfl rfl)
theorem dX7_opens_12 : decode cX7_opens 12 = .ok (.dup, 1) := dk_89 (dk_at dksX7_opens_0 12 rfl rfl)
theorem dX7_opens_13 : decode cX7_opens 13 = .ok (.iconst 3, 1) := dk_6 (dk_at dksX7_opens_0 13 rfl rfl)
theorem dX7_opens_14 : decode cX7_opens 14 = .ok (.aload_n 0, 1) := dk_42 (dk_at dksX7_opens_0 14 rfl rfl)
theorem dX7_opens_15 : decode cX7_opens 15 = .ok (.getfield 41, 3) := dk_180 0 41 (dk_at dksX7_opens_0 15 rfl rfl)
theorem dX7_opens_18 : decode cX7_opens 18 = .ok (.invokespecial 126, 3) := dk_183 0 126 (dk_at dksX7_opens_0 18 rfl rfl)
theorem dX7_opens_21 : decode cX7_opens 21 = .ok (.athrow, 1) := dk_191 (dk_at dksX7_opens_0 21 rfl rfl)
theorem dX7_opens_22 : decode cX7_opens 22 = .ok (.aload_n 0, 1) := dk_42 (dk_at dksX7_opens_0 22 rfl rfl)
theorem dX7_opens_23 : decode cX7_opens 23 = .ok (.dup, 1) := dk_89 (dk_at dksX7_opens_0 23 rfl rfl)
theorem dX7_opens_24 : decode cX7_opens 24 = .ok (.getfield 166, 3) := dk_180 0 166 (dk_at dksX7_opens_1 0 rfl rfl)
theorem dX7_opens_27 : decode cX7_opens 27 = .ok (.iconst 1, 1) := dk_4 (dk_at dksX7_opens_1 3 rfl rfl)
theorem dX7_opens_28 : decode cX7_opens 28 = .ok (.iadd, 1) := dk_96 (dk_at dksX7_opens_1 4 rfl rfl)
theorem dX7_opens_29 : decode cX7_opens 29 = .ok (.putfield 166, 3) := dk_181 0 166 (dk_at dksX7_opens_1 5 rfl rfl)
theorem dX7_opens_32 : decode cX7_opens 32 = .ok (.aload_n 0, 1) := dk_42 (dk_at dksX7_opens_1 8 rfl rfl)
theorem dX7_opens_33 : decode cX7_opens 33 = .ok (.invokevirtual 132, 3) := dk_182 0 132 (dk_at dksX7_opens_1 9 rfl rfl)
theorem dX7_opens_36 : decode cX7_opens 36 = .ok (.return_, 1) := dk_177 (dk_at dksX7_opens_1 12 rfl rfl)
abbrev cX7_must : ByteArray := prog_16_method_16_code
def yX7_must : MethodName := ⟨RX7, "must", "(I)V"⟩
def dkwX7_must_1 : List UInt8 := [182, 0, 132, 177]
abbrev dktX7_must_1 : List UInt8 := dkwX7_must_1 ++ []
def dkwX7_must_0 : List UInt8 := [42, 180, 0, 121, 27, 159, 0, 16, 187, 0, 124, 89, 4, 42, 180, 0, 41, 183, 0, 126, 191, 42]
abbrev dktX7_must_0 : List UInt8 := dkwX7_must_0 ++ dktX7_must_1
theorem dksX7_must_0 : cX7_must.data.toList.drop 0 = dktX7_must_0 := by decide +kernel
theorem dksX7_must_1 : cX7_must.data.toList.drop 22 = dktX7_must_1 := dk_seg dksX7_must_0 22 rfl rfl
theorem dX7_must_0 : decode cX7_must 0 = .ok (.aload_n 0, 1) := dk_42 (dk_at dksX7_must_0 0 rfl rfl)
theorem dX7_must_1 : decode cX7_must 1 = .ok (.getfield 121, 3) := dk_180 0 121 (dk_at dksX7_must_0 1 rfl rfl)
theorem dX7_must_4 : decode cX7_must 4 = .ok (.iload_n 1, 1) := dk_27 (dk_at dksX7_must_0 4 rfl rfl)
theorem dX7_must_5 : decode cX7_must 5 = .ok (.if_icmp .eq 16, 3) := dk_159 0 16 (dk_at dksX7_must_0 5 rfl rfl)
theorem dX7_must_8 : decode cX7_must 8 = .ok (.new 124, 3) := dk_187 0 124 (dk_at dksX7_must_0 8 rfl rfl)
theorem dX7_must_11 : decode cX7_must 11 = .ok (.dup, 1) := dk_89 (dk_at dksX7_must_0 11 rfl rfl)
theorem dX7_must_12 : decode cX7_must 12 = .ok (.iconst 1, 1) := dk_4 (dk_at dksX7_must_0 12 rfl rfl)
theorem dX7_must_13 : decode cX7_must 13 = .ok (.aload_n 0, 1) := dk_42 (dk_at dksX7_must_0 13 rfl rfl)
theorem dX7_must_14 : decode cX7_must 14 = .ok (.getfield 41, 3) := dk_180 0 41 (dk_at dksX7_must_0 14 rfl rfl)
theorem dX7_must_17 : decode cX7_must 17 = .ok (.invokespecial 126, 3) := dk_183 0 126 (dk_at dksX7_must_0 17 rfl rfl)
theorem dX7_must_20 : decode cX7_must 20 = .ok (.athrow, 1) := dk_191 (dk_at dksX7_must_0 20 rfl rfl)
theorem dX7_must_21 : decode cX7_must 21 = .ok (.aload_n 0, 1) := dk_42 (dk_at dksX7_must_0 21 rfl rfl)
theorem dX7_must_22 : decode cX7_must 22 = .ok (.invokevirtual 132, 3) := dk_182 0 132 (dk_at dksX7_must_1 0 rfl rfl)
theorem dX7_must_25 : decode cX7_must 25 = .ok (.return_, 1) := dk_177 (dk_at dksX7_must_1 3 rfl rfl)
abbrev cX7_fair : ByteArray := prog_16_method_25_code
def yX7_fair : MethodName := ⟨RX7, "fair", "()Ljava/util/ArrayList;"⟩
def dkwX7_fair_7 : List UInt8 := [167, 255, 106, 43, 176]
abbrev dktX7_fair_7 : List UInt8 := dkwX7_fair_7 ++ []
def dkwX7_fair_6 : List UInt8 := [21, 5, 42, 16, 14, 4, 16, 9, 182, 0, 223, 183, 0, 232, 182, 0, 219, 87, 42, 16, 59, 182, 0, 135]
abbrev dktX7_fair_6 : List UInt8 := dkwX7_fair_6 ++ dktX7_fair_7
def dkwX7_fair_5 : List UInt8 := [54, 4, 42, 16, 13, 3, 17, 39, 15, 182, 0, 223, 54, 5, 43, 187, 0, 230, 89, 28, 29, 21, 4]
abbrev dktX7_fair_5 : List UInt8 := dkwX7_fair_5 ++ dktX7_fair_6
def dkwX7_fair_4 : List UInt8 := [182, 0, 223, 62, 42, 16, 12, 3, 42, 180, 0, 3, 180, 0, 143, 180, 0, 227, 4, 100, 182, 0, 223]
abbrev dktX7_fair_4 : List UInt8 := dkwX7_fair_4 ++ dktX7_fair_5
def dkwX7_fair_3 : List UInt8 := [17, 3, 231, 182, 0, 139, 61, 42, 16, 11, 3, 42, 180, 0, 3, 180, 0, 143, 180, 0, 147, 4, 100]
abbrev dktX7_fair_3 : List UInt8 := dkwX7_fair_3 ++ dktX7_fair_4
def dkwX7_fair_2 : List UInt8 := [160, 0, 16, 187, 0, 124, 89, 6, 42, 180, 0, 41, 183, 0, 126, 191, 42, 182, 0, 132, 42, 3]
abbrev dktX7_fair_2 : List UInt8 := dkwX7_fair_2 ++ dktX7_fair_3
def dkwX7_fair_1 : List UInt8 := [16, 10, 159, 0, 16, 187, 0, 124, 89, 4, 42, 180, 0, 41, 183, 0, 126, 191, 43, 182, 0, 211, 16, 16]
abbrev dktX7_fair_1 : List UInt8 := dkwX7_fair_1 ++ dktX7_fair_2
def dkwX7_fair_0 : List UInt8 := [187, 0, 208, 89, 183, 0, 210, 76, 42, 182, 0, 132, 42, 180, 0, 121, 153, 0, 149, 42, 180, 0, 121]
abbrev dktX7_fair_0 : List UInt8 := dkwX7_fair_0 ++ dktX7_fair_1
theorem dksX7_fair_0 : cX7_fair.data.toList.drop 0 = dktX7_fair_0 := by decide +kernel
theorem dksX7_fair_1 : cX7_fair.data.toList.drop 23 = dktX7_fair_1 := dk_seg dksX7_fair_0 23 rfl rfl
theorem dksX7_fair_2 : cX7_fair.data.toList.drop 47 = dktX7_fair_2 := dk_seg dksX7_fair_1 24 rfl rfl
theorem dksX7_fair_3 : cX7_fair.data.toList.drop 69 = dktX7_fair_3 := dk_seg dksX7_fair_2 22 rfl rfl
theorem dksX7_fair_4 : cX7_fair.data.toList.drop 92 = dktX7_fair_4 := dk_seg dksX7_fair_3 23 rfl rfl
theorem dksX7_fair_5 : cX7_fair.data.toList.drop 115 = dktX7_fair_5 := dk_seg dksX7_fair_4 23 rfl rfl
theorem dksX7_fair_6 : cX7_fair.data.toList.drop 138 = dktX7_fair_6 := dk_seg dksX7_fair_5 23 rfl rfl
theorem dksX7_fair_7 : cX7_fair.data.toList.drop 162 = dktX7_fair_7 := dk_seg dksX7_fair_6 24 rfl rfl
theorem dX7_fair_0 : decode cX7_fair 0 = .ok (.new 208, 3) := dk_187 0 208 (dk_at dksX7_fair_0 0 rfl rfl)
theorem dX7_fair_3 : decode cX7_fair 3 = .ok (.dup, 1) := dk_89 (dk_at dksX7_fair_0 3 rfl rfl)
theorem dX7_fair_4 : decode cX7_fair 4 = .ok (.invokespecial 210, 3) := dk_183 0 210 (dk_at dksX7_fair_0 4 rfl rfl)
theorem dX7_fair_7 : decode cX7_fair 7 = .ok (.astore_n 1, 1) := dk_76 (dk_at dksX7_fair_0 7 rfl rfl)
theorem dX7_fair_8 : decode cX7_fair 8 = .ok (.aload_n 0, 1) := dk_42 (dk_at dksX7_fair_0 8 rfl rfl)
theorem dX7_fair_9 : decode cX7_fair 9 = .ok (.invokevirtual 132, 3) := dk_182 0 132 (dk_at dksX7_fair_0 9 rfl rfl)
theorem dX7_fair_12 : decode cX7_fair 12 = .ok (.aload_n 0, 1) := dk_42 (dk_at dksX7_fair_0 12 rfl rfl)
theorem dX7_fair_13 : decode cX7_fair 13 = .ok (.getfield 121, 3) := dk_180 0 121 (dk_at dksX7_fair_0 13 rfl rfl)
theorem dX7_fair_16 : decode cX7_fair 16 = .ok (.ifCond .eq 149, 3) := dk_153 0 149 (dk_at dksX7_fair_0 16 rfl rfl)
theorem dX7_fair_19 : decode cX7_fair 19 = .ok (.aload_n 0, 1) := dk_42 (dk_at dksX7_fair_0 19 rfl rfl)
theorem dX7_fair_20 : decode cX7_fair 20 = .ok (.getfield 121, 3) := dk_180 0 121 (dk_at dksX7_fair_0 20 rfl rfl)
theorem dX7_fair_23 : decode cX7_fair 23 = .ok (.bipush 10, 2) := dk_16 10 (dk_at dksX7_fair_1 0 rfl rfl)
theorem dX7_fair_25 : decode cX7_fair 25 = .ok (.if_icmp .eq 16, 3) := dk_159 0 16 (dk_at dksX7_fair_1 2 rfl rfl)
theorem dX7_fair_28 : decode cX7_fair 28 = .ok (.new 124, 3) := dk_187 0 124 (dk_at dksX7_fair_1 5 rfl rfl)
theorem dX7_fair_31 : decode cX7_fair 31 = .ok (.dup, 1) := dk_89 (dk_at dksX7_fair_1 8 rfl rfl)
theorem dX7_fair_32 : decode cX7_fair 32 = .ok (.iconst 1, 1) := dk_4 (dk_at dksX7_fair_1 9 rfl rfl)
theorem dX7_fair_33 : decode cX7_fair 33 = .ok (.aload_n 0, 1) := dk_42 (dk_at dksX7_fair_1 10 rfl rfl)
theorem dX7_fair_34 : decode cX7_fair 34 = .ok (.getfield 41, 3) := dk_180 0 41 (dk_at dksX7_fair_1 11 rfl rfl)
theorem dX7_fair_37 : decode cX7_fair 37 = .ok (.invokespecial 126, 3) := dk_183 0 126 (dk_at dksX7_fair_1 14 rfl rfl)
theorem dX7_fair_40 : decode cX7_fair 40 = .ok (.athrow, 1) := dk_191 (dk_at dksX7_fair_1 17 rfl rfl)
theorem dX7_fair_41 : decode cX7_fair 41 = .ok (.aload_n 1, 1) := dk_43 (dk_at dksX7_fair_1 18 rfl rfl)
theorem dX7_fair_42 : decode cX7_fair 42 = .ok (.invokevirtual 211, 3) := dk_182 0 211 (dk_at dksX7_fair_1 19 rfl rfl)
theorem dX7_fair_45 : decode cX7_fair 45 = .ok (.bipush 16, 2) := dk_16 16 (dk_at dksX7_fair_1 22 rfl rfl)
theorem dX7_fair_47 : decode cX7_fair 47 = .ok (.if_icmp .ne 16, 3) := dk_160 0 16 (dk_at dksX7_fair_2 0 rfl rfl)
theorem dX7_fair_50 : decode cX7_fair 50 = .ok (.new 124, 3) := dk_187 0 124 (dk_at dksX7_fair_2 3 rfl rfl)
theorem dX7_fair_53 : decode cX7_fair 53 = .ok (.dup, 1) := dk_89 (dk_at dksX7_fair_2 6 rfl rfl)
theorem dX7_fair_54 : decode cX7_fair 54 = .ok (.iconst 3, 1) := dk_6 (dk_at dksX7_fair_2 7 rfl rfl)
theorem dX7_fair_55 : decode cX7_fair 55 = .ok (.aload_n 0, 1) := dk_42 (dk_at dksX7_fair_2 8 rfl rfl)
theorem dX7_fair_56 : decode cX7_fair 56 = .ok (.getfield 41, 3) := dk_180 0 41 (dk_at dksX7_fair_2 9 rfl rfl)
theorem dX7_fair_59 : decode cX7_fair 59 = .ok (.invokespecial 126, 3) := dk_183 0 126 (dk_at dksX7_fair_2 12 rfl rfl)
theorem dX7_fair_62 : decode cX7_fair 62 = .ok (.athrow, 1) := dk_191 (dk_at dksX7_fair_2 15 rfl rfl)
theorem dX7_fair_63 : decode cX7_fair 63 = .ok (.aload_n 0, 1) := dk_42 (dk_at dksX7_fair_2 16 rfl rfl)
theorem dX7_fair_64 : decode cX7_fair 64 = .ok (.invokevirtual 132, 3) := dk_182 0 132 (dk_at dksX7_fair_2 17 rfl rfl)
theorem dX7_fair_67 : decode cX7_fair 67 = .ok (.aload_n 0, 1) := dk_42 (dk_at dksX7_fair_2 20 rfl rfl)
theorem dX7_fair_68 : decode cX7_fair 68 = .ok (.iconst 0, 1) := dk_3 (dk_at dksX7_fair_2 21 rfl rfl)
theorem dX7_fair_69 : decode cX7_fair 69 = .ok (.sipush 999, 3) := dk_17 3 231 (dk_at dksX7_fair_3 0 rfl rfl)
theorem dX7_fair_72 : decode cX7_fair 72 = .ok (.invokevirtual 139, 3) := dk_182 0 139 (dk_at dksX7_fair_3 3 rfl rfl)
theorem dX7_fair_75 : decode cX7_fair 75 = .ok (.istore_n 2, 1) := dk_61 (dk_at dksX7_fair_3 6 rfl rfl)
theorem dX7_fair_76 : decode cX7_fair 76 = .ok (.aload_n 0, 1) := dk_42 (dk_at dksX7_fair_3 7 rfl rfl)
theorem dX7_fair_77 : decode cX7_fair 77 = .ok (.bipush 11, 2) := dk_16 11 (dk_at dksX7_fair_3 8 rfl rfl)
theorem dX7_fair_79 : decode cX7_fair 79 = .ok (.iconst 0, 1) := dk_3 (dk_at dksX7_fair_3 10 rfl rfl)
theorem dX7_fair_80 : decode cX7_fair 80 = .ok (.aload_n 0, 1) := dk_42 (dk_at dksX7_fair_3 11 rfl rfl)
theorem dX7_fair_81 : decode cX7_fair 81 = .ok (.getfield 3, 3) := dk_180 0 3 (dk_at dksX7_fair_3 12 rfl rfl)
theorem dX7_fair_84 : decode cX7_fair 84 = .ok (.getfield 143, 3) := dk_180 0 143 (dk_at dksX7_fair_3 15 rfl rfl)
theorem dX7_fair_87 : decode cX7_fair 87 = .ok (.getfield 147, 3) := dk_180 0 147 (dk_at dksX7_fair_3 18 rfl rfl)
theorem dX7_fair_90 : decode cX7_fair 90 = .ok (.iconst 1, 1) := dk_4 (dk_at dksX7_fair_3 21 rfl rfl)
theorem dX7_fair_91 : decode cX7_fair 91 = .ok (.isub, 1) := dk_100 (dk_at dksX7_fair_3 22 rfl rfl)
theorem dX7_fair_92 : decode cX7_fair 92 = .ok (.invokevirtual 223, 3) := dk_182 0 223 (dk_at dksX7_fair_4 0 rfl rfl)
theorem dX7_fair_95 : decode cX7_fair 95 = .ok (.istore_n 3, 1) := dk_62 (dk_at dksX7_fair_4 3 rfl rfl)
theorem dX7_fair_96 : decode cX7_fair 96 = .ok (.aload_n 0, 1) := dk_42 (dk_at dksX7_fair_4 4 rfl rfl)
theorem dX7_fair_97 : decode cX7_fair 97 = .ok (.bipush 12, 2) := dk_16 12 (dk_at dksX7_fair_4 5 rfl rfl)
theorem dX7_fair_99 : decode cX7_fair 99 = .ok (.iconst 0, 1) := dk_3 (dk_at dksX7_fair_4 7 rfl rfl)
theorem dX7_fair_100 : decode cX7_fair 100 = .ok (.aload_n 0, 1) := dk_42 (dk_at dksX7_fair_4 8 rfl rfl)
theorem dX7_fair_101 : decode cX7_fair 101 = .ok (.getfield 3, 3) := dk_180 0 3 (dk_at dksX7_fair_4 9 rfl rfl)
theorem dX7_fair_104 : decode cX7_fair 104 = .ok (.getfield 143, 3) := dk_180 0 143 (dk_at dksX7_fair_4 12 rfl rfl)
theorem dX7_fair_107 : decode cX7_fair 107 = .ok (.getfield 227, 3) := dk_180 0 227 (dk_at dksX7_fair_4 15 rfl rfl)
theorem dX7_fair_110 : decode cX7_fair 110 = .ok (.iconst 1, 1) := dk_4 (dk_at dksX7_fair_4 18 rfl rfl)
theorem dX7_fair_111 : decode cX7_fair 111 = .ok (.isub, 1) := dk_100 (dk_at dksX7_fair_4 19 rfl rfl)
theorem dX7_fair_112 : decode cX7_fair 112 = .ok (.invokevirtual 223, 3) := dk_182 0 223 (dk_at dksX7_fair_4 20 rfl rfl)
theorem dX7_fair_115 : decode cX7_fair 115 = .ok (.istore 4, 2) := dk_54 4 (dk_at dksX7_fair_5 0 rfl rfl)
theorem dX7_fair_117 : decode cX7_fair 117 = .ok (.aload_n 0, 1) := dk_42 (dk_at dksX7_fair_5 2 rfl rfl)
theorem dX7_fair_118 : decode cX7_fair 118 = .ok (.bipush 13, 2) := dk_16 13 (dk_at dksX7_fair_5 3 rfl rfl)
theorem dX7_fair_120 : decode cX7_fair 120 = .ok (.iconst 0, 1) := dk_3 (dk_at dksX7_fair_5 5 rfl rfl)
theorem dX7_fair_121 : decode cX7_fair 121 = .ok (.sipush 9999, 3) := dk_17 39 15 (dk_at dksX7_fair_5 6 rfl rfl)
theorem dX7_fair_124 : decode cX7_fair 124 = .ok (.invokevirtual 223, 3) := dk_182 0 223 (dk_at dksX7_fair_5 9 rfl rfl)
theorem dX7_fair_127 : decode cX7_fair 127 = .ok (.istore 5, 2) := dk_54 5 (dk_at dksX7_fair_5 12 rfl rfl)
theorem dX7_fair_129 : decode cX7_fair 129 = .ok (.aload_n 1, 1) := dk_43 (dk_at dksX7_fair_5 14 rfl rfl)
theorem dX7_fair_130 : decode cX7_fair 130 = .ok (.new 230, 3) := dk_187 0 230 (dk_at dksX7_fair_5 15 rfl rfl)
theorem dX7_fair_133 : decode cX7_fair 133 = .ok (.dup, 1) := dk_89 (dk_at dksX7_fair_5 18 rfl rfl)
theorem dX7_fair_134 : decode cX7_fair 134 = .ok (.iload_n 2, 1) := dk_28 (dk_at dksX7_fair_5 19 rfl rfl)
theorem dX7_fair_135 : decode cX7_fair 135 = .ok (.iload_n 3, 1) := dk_29 (dk_at dksX7_fair_5 20 rfl rfl)
theorem dX7_fair_136 : decode cX7_fair 136 = .ok (.iload 4, 2) := dk_21 4 (dk_at dksX7_fair_5 21 rfl rfl)
theorem dX7_fair_138 : decode cX7_fair 138 = .ok (.iload 5, 2) := dk_21 5 (dk_at dksX7_fair_6 0 rfl rfl)
theorem dX7_fair_140 : decode cX7_fair 140 = .ok (.aload_n 0, 1) := dk_42 (dk_at dksX7_fair_6 2 rfl rfl)
theorem dX7_fair_141 : decode cX7_fair 141 = .ok (.bipush 14, 2) := dk_16 14 (dk_at dksX7_fair_6 3 rfl rfl)
theorem dX7_fair_143 : decode cX7_fair 143 = .ok (.iconst 1, 1) := dk_4 (dk_at dksX7_fair_6 5 rfl rfl)
theorem dX7_fair_144 : decode cX7_fair 144 = .ok (.bipush 9, 2) := dk_16 9 (dk_at dksX7_fair_6 6 rfl rfl)
theorem dX7_fair_146 : decode cX7_fair 146 = .ok (.invokevirtual 223, 3) := dk_182 0 223 (dk_at dksX7_fair_6 8 rfl rfl)
theorem dX7_fair_149 : decode cX7_fair 149 = .ok (.invokespecial 232, 3) := dk_183 0 232 (dk_at dksX7_fair_6 11 rfl rfl)
theorem dX7_fair_152 : decode cX7_fair 152 = .ok (.invokevirtual 219, 3) := dk_182 0 219 (dk_at dksX7_fair_6 14 rfl rfl)
theorem dX7_fair_155 : decode cX7_fair 155 = .ok (.pop, 1) := dk_87 (dk_at dksX7_fair_6 17 rfl rfl)
theorem dX7_fair_156 : decode cX7_fair 156 = .ok (.aload_n 0, 1) := dk_42 (dk_at dksX7_fair_6 18 rfl rfl)
theorem dX7_fair_157 : decode cX7_fair 157 = .ok (.bipush 59, 2) := dk_16 59 (dk_at dksX7_fair_6 19 rfl rfl)
theorem dX7_fair_159 : decode cX7_fair 159 = .ok (.invokevirtual 135, 3) := dk_182 0 135 (dk_at dksX7_fair_6 21 rfl rfl)
theorem dX7_fair_162 : decode cX7_fair 162 = .ok (.goto (-150), 3) := dk_167 255 106 (dk_at dksX7_fair_7 0 rfl rfl)
theorem dX7_fair_165 : decode cX7_fair 165 = .ok (.aload_n 1, 1) := dk_43 (dk_at dksX7_fair_7 3 rfl rfl)
theorem dX7_fair_166 : decode cX7_fair 166 = .ok (.areturn, 1) := dk_176 (dk_at dksX7_fair_7 4 rfl rfl)
abbrev cX7_behind : ByteArray := prog_16_method_12_code
def yX7_behind : MethodName := ⟨RX7, "behind", "(III)I"⟩
def dkwX7_behind_0 : List UInt8 := [42, 27, 182, 0, 135, 42, 28, 29, 182, 0, 139, 172]
abbrev dktX7_behind_0 : List UInt8 := dkwX7_behind_0 ++ []
theorem dksX7_behind_0 : cX7_behind.data.toList.drop 0 = dktX7_behind_0 := by decide +kernel
theorem dX7_behind_0 : decode cX7_behind 0 = .ok (.aload_n 0, 1) := dk_42 (dk_at dksX7_behind_0 0 rfl rfl)
theorem dX7_behind_1 : decode cX7_behind 1 = .ok (.iload_n 1, 1) := dk_27 (dk_at dksX7_behind_0 1 rfl rfl)
theorem dX7_behind_2 : decode cX7_behind 2 = .ok (.invokevirtual 135, 3) := dk_182 0 135 (dk_at dksX7_behind_0 2 rfl rfl)
theorem dX7_behind_5 : decode cX7_behind 5 = .ok (.aload_n 0, 1) := dk_42 (dk_at dksX7_behind_0 5 rfl rfl)
theorem dX7_behind_6 : decode cX7_behind 6 = .ok (.iload_n 2, 1) := dk_28 (dk_at dksX7_behind_0 6 rfl rfl)
theorem dX7_behind_7 : decode cX7_behind 7 = .ok (.iload_n 3, 1) := dk_29 (dk_at dksX7_behind_0 7 rfl rfl)
theorem dX7_behind_8 : decode cX7_behind 8 = .ok (.invokevirtual 139, 3) := dk_182 0 139 (dk_at dksX7_behind_0 8 rfl rfl)
theorem dX7_behind_11 : decode cX7_behind 11 = .ok (.ireturn, 1) := dk_172 (dk_at dksX7_behind_0 11 rfl rfl)
abbrev cX7_habits : ByteArray := prog_16_method_27_code
def yX7_habits : MethodName := ⟨RX7, "habits", "()Ljava/util/ArrayList;"⟩
def dkwX7_habits_3 : List UInt8 := [17, 3, 231, 182, 0, 139, 182, 0, 250, 182, 0, 219, 87, 42, 16, 59, 182, 0, 135, 167, 255, 178, 43, 176]
abbrev dktX7_habits_3 : List UInt8 := dkwX7_habits_3 ++ []
def dkwX7_habits_2 : List UInt8 := [160, 0, 16, 187, 0, 124, 89, 6, 42, 180, 0, 41, 183, 0, 126, 191, 42, 182, 0, 132, 43, 42, 42, 3]
abbrev dktX7_habits_2 : List UInt8 := dkwX7_habits_2 ++ dktX7_habits_3
def dkwX7_habits_1 : List UInt8 := [16, 10, 159, 0, 16, 187, 0, 124, 89, 4, 42, 180, 0, 41, 183, 0, 126, 191, 43, 182, 0, 211, 16, 16]
abbrev dktX7_habits_1 : List UInt8 := dkwX7_habits_1 ++ dktX7_habits_2
def dkwX7_habits_0 : List UInt8 := [187, 0, 208, 89, 183, 0, 210, 76, 42, 182, 0, 132, 42, 180, 0, 121, 153, 0, 77, 42, 180, 0, 121]
abbrev dktX7_habits_0 : List UInt8 := dkwX7_habits_0 ++ dktX7_habits_1
theorem dksX7_habits_0 : cX7_habits.data.toList.drop 0 = dktX7_habits_0 := by decide +kernel
theorem dksX7_habits_1 : cX7_habits.data.toList.drop 23 = dktX7_habits_1 := dk_seg dksX7_habits_0 23 rfl rfl
theorem dksX7_habits_2 : cX7_habits.data.toList.drop 47 = dktX7_habits_2 := dk_seg dksX7_habits_1 24 rfl rfl
theorem dksX7_habits_3 : cX7_habits.data.toList.drop 71 = dktX7_habits_3 := dk_seg dksX7_habits_2 24 rfl rfl
theorem dX7_habits_0 : decode cX7_habits 0 = .ok (.new 208, 3) := dk_187 0 208 (dk_at dksX7_habits_0 0 rfl rfl)
theorem dX7_habits_3 : decode cX7_habits 3 = .ok (.dup, 1) := dk_89 (dk_at dksX7_habits_0 3 rfl rfl)
theorem dX7_habits_4 : decode cX7_habits 4 = .ok (.invokespecial 210, 3) := dk_183 0 210 (dk_at dksX7_habits_0 4 rfl rfl)
theorem dX7_habits_7 : decode cX7_habits 7 = .ok (.astore_n 1, 1) := dk_76 (dk_at dksX7_habits_0 7 rfl rfl)
theorem dX7_habits_8 : decode cX7_habits 8 = .ok (.aload_n 0, 1) := dk_42 (dk_at dksX7_habits_0 8 rfl rfl)
theorem dX7_habits_9 : decode cX7_habits 9 = .ok (.invokevirtual 132, 3) := dk_182 0 132 (dk_at dksX7_habits_0 9 rfl rfl)
theorem dX7_habits_12 : decode cX7_habits 12 = .ok (.aload_n 0, 1) := dk_42 (dk_at dksX7_habits_0 12 rfl rfl)
theorem dX7_habits_13 : decode cX7_habits 13 = .ok (.getfield 121, 3) := dk_180 0 121 (dk_at dksX7_habits_0 13 rfl rfl)
theorem dX7_habits_16 : decode cX7_habits 16 = .ok (.ifCond .eq 77, 3) := dk_153 0 77 (dk_at dksX7_habits_0 16 rfl rfl)
theorem dX7_habits_19 : decode cX7_habits 19 = .ok (.aload_n 0, 1) := dk_42 (dk_at dksX7_habits_0 19 rfl rfl)
theorem dX7_habits_20 : decode cX7_habits 20 = .ok (.getfield 121, 3) := dk_180 0 121 (dk_at dksX7_habits_0 20 rfl rfl)
theorem dX7_habits_23 : decode cX7_habits 23 = .ok (.bipush 10, 2) := dk_16 10 (dk_at dksX7_habits_1 0 rfl rfl)
theorem dX7_habits_25 : decode cX7_habits 25 = .ok (.if_icmp .eq 16, 3) := dk_159 0 16 (dk_at dksX7_habits_1 2 rfl rfl)
theorem dX7_habits_28 : decode cX7_habits 28 = .ok (.new 124, 3) := dk_187 0 124 (dk_at dksX7_habits_1 5 rfl rfl)
theorem dX7_habits_31 : decode cX7_habits 31 = .ok (.dup, 1) := dk_89 (dk_at dksX7_habits_1 8 rfl rfl)
theorem dX7_habits_32 : decode cX7_habits 32 = .ok (.iconst 1, 1) := dk_4 (dk_at dksX7_habits_1 9 rfl rfl)
theorem dX7_habits_33 : decode cX7_habits 33 = .ok (.aload_n 0, 1) := dk_42 (dk_at dksX7_habits_1 10 rfl rfl)
theorem dX7_habits_34 : decode cX7_habits 34 = .ok (.getfield 41, 3) := dk_180 0 41 (dk_at dksX7_habits_1 11 rfl rfl)
theorem dX7_habits_37 : decode cX7_habits 37 = .ok (.invokespecial 126, 3) := dk_183 0 126 (dk_at dksX7_habits_1 14 rfl rfl)
theorem dX7_habits_40 : decode cX7_habits 40 = .ok (.athrow, 1) := dk_191 (dk_at dksX7_habits_1 17 rfl rfl)
theorem dX7_habits_41 : decode cX7_habits 41 = .ok (.aload_n 1, 1) := dk_43 (dk_at dksX7_habits_1 18 rfl rfl)
theorem dX7_habits_42 : decode cX7_habits 42 = .ok (.invokevirtual 211, 3) := dk_182 0 211 (dk_at dksX7_habits_1 19 rfl rfl)
theorem dX7_habits_45 : decode cX7_habits 45 = .ok (.bipush 16, 2) := dk_16 16 (dk_at dksX7_habits_1 22 rfl rfl)
theorem dX7_habits_47 : decode cX7_habits 47 = .ok (.if_icmp .ne 16, 3) := dk_160 0 16 (dk_at dksX7_habits_2 0 rfl rfl)
theorem dX7_habits_50 : decode cX7_habits 50 = .ok (.new 124, 3) := dk_187 0 124 (dk_at dksX7_habits_2 3 rfl rfl)
theorem dX7_habits_53 : decode cX7_habits 53 = .ok (.dup, 1) := dk_89 (dk_at dksX7_habits_2 6 rfl rfl)
theorem dX7_habits_54 : decode cX7_habits 54 = .ok (.iconst 3, 1) := dk_6 (dk_at dksX7_habits_2 7 rfl rfl)
theorem dX7_habits_55 : decode cX7_habits 55 = .ok (.aload_n 0, 1) := dk_42 (dk_at dksX7_habits_2 8 rfl rfl)
theorem dX7_habits_56 : decode cX7_habits 56 = .ok (.getfield 41, 3) := dk_180 0 41 (dk_at dksX7_habits_2 9 rfl rfl)
theorem dX7_habits_59 : decode cX7_habits 59 = .ok (.invokespecial 126, 3) := dk_183 0 126 (dk_at dksX7_habits_2 12 rfl rfl)
theorem dX7_habits_62 : decode cX7_habits 62 = .ok (.athrow, 1) := dk_191 (dk_at dksX7_habits_2 15 rfl rfl)
theorem dX7_habits_63 : decode cX7_habits 63 = .ok (.aload_n 0, 1) := dk_42 (dk_at dksX7_habits_2 16 rfl rfl)
theorem dX7_habits_64 : decode cX7_habits 64 = .ok (.invokevirtual 132, 3) := dk_182 0 132 (dk_at dksX7_habits_2 17 rfl rfl)
theorem dX7_habits_67 : decode cX7_habits 67 = .ok (.aload_n 1, 1) := dk_43 (dk_at dksX7_habits_2 20 rfl rfl)
theorem dX7_habits_68 : decode cX7_habits 68 = .ok (.aload_n 0, 1) := dk_42 (dk_at dksX7_habits_2 21 rfl rfl)
theorem dX7_habits_69 : decode cX7_habits 69 = .ok (.aload_n 0, 1) := dk_42 (dk_at dksX7_habits_2 22 rfl rfl)
theorem dX7_habits_70 : decode cX7_habits 70 = .ok (.iconst 0, 1) := dk_3 (dk_at dksX7_habits_2 23 rfl rfl)
theorem dX7_habits_71 : decode cX7_habits 71 = .ok (.sipush 999, 3) := dk_17 3 231 (dk_at dksX7_habits_3 0 rfl rfl)
theorem dX7_habits_74 : decode cX7_habits 74 = .ok (.invokevirtual 139, 3) := dk_182 0 139 (dk_at dksX7_habits_3 3 rfl rfl)
theorem dX7_habits_77 : decode cX7_habits 77 = .ok (.invokevirtual 250, 3) := dk_182 0 250 (dk_at dksX7_habits_3 6 rfl rfl)
theorem dX7_habits_80 : decode cX7_habits 80 = .ok (.invokevirtual 219, 3) := dk_182 0 219 (dk_at dksX7_habits_3 9 rfl rfl)
theorem dX7_habits_83 : decode cX7_habits 83 = .ok (.pop, 1) := dk_87 (dk_at dksX7_habits_3 12 rfl rfl)
theorem dX7_habits_84 : decode cX7_habits 84 = .ok (.aload_n 0, 1) := dk_42 (dk_at dksX7_habits_3 13 rfl rfl)
theorem dX7_habits_85 : decode cX7_habits 85 = .ok (.bipush 59, 2) := dk_16 59 (dk_at dksX7_habits_3 14 rfl rfl)
theorem dX7_habits_87 : decode cX7_habits 87 = .ok (.invokevirtual 135, 3) := dk_182 0 135 (dk_at dksX7_habits_3 16 rfl rfl)
theorem dX7_habits_90 : decode cX7_habits 90 = .ok (.goto (-78), 3) := dk_167 255 178 (dk_at dksX7_habits_3 19 rfl rfl)
theorem dX7_habits_93 : decode cX7_habits 93 = .ok (.aload_n 1, 1) := dk_43 (dk_at dksX7_habits_3 22 rfl rfl)
theorem dX7_habits_94 : decode cX7_habits 94 = .ok (.areturn, 1) := dk_176 (dk_at dksX7_habits_3 23 rfl rfl)
abbrev cX7_habit : ByteArray := prog_16_method_26_code
def yX7_habit : MethodName := ⟨RX7, "habit", "(I)LClaspedFair$Habit;"⟩
def dkwX7_habit_6 : List UInt8 := [183, 0, 249, 176]
abbrev dktX7_habit_6 : List UInt8 := dkwX7_habit_6 ++ []
def dkwX7_habit_5 : List UInt8 := [89, 27, 29, 28, 16, 15, 160, 0, 7, 4, 167, 0, 14, 28, 16, 17, 160, 0, 7, 5, 167, 0, 4, 3]
abbrev dktX7_habit_5 : List UInt8 := dkwX7_habit_5 ++ dktX7_habit_6
def dkwX7_habit_4 : List UInt8 := [54, 4, 187, 0, 242, 89, 27, 29, 21, 4, 42, 4, 16, 99, 182, 0, 139, 183, 0, 244, 176, 187, 0, 247]
abbrev dktX7_habit_4 : List UInt8 := dkwX7_habit_4 ++ dktX7_habit_5
def dkwX7_habit_3 : List UInt8 := [187, 0, 237, 89, 27, 29, 42, 4, 17, 3, 231, 182, 0, 139, 183, 0, 239, 176, 42, 3, 7, 182, 0, 139]
abbrev dktX7_habit_3 : List UInt8 := dkwX7_habit_3 ++ dktX7_habit_4
def dkwX7_habit_2 : List UInt8 := [171, 0, 0, 0, 70, 0, 0, 0, 2, 0, 0, 0, 18, 0, 0, 0, 25, 0, 0, 0, 19, 0, 0, 0, 43]
abbrev dktX7_habit_2 : List UInt8 := dkwX7_habit_2 ++ dktX7_habit_3
def dkwX7_habit_1 : List UInt8 := [180, 0, 41, 183, 0, 126, 191, 42, 182, 0, 132, 42, 182, 0, 235, 62, 28]
abbrev dktX7_habit_1 : List UInt8 := dkwX7_habit_1 ++ dktX7_habit_2
def dkwX7_habit_0 : List UInt8 := [42, 180, 0, 121, 61, 28, 16, 15, 16, 19, 184, 0, 37, 154, 0, 16, 187, 0, 124, 89, 4, 42]
abbrev dktX7_habit_0 : List UInt8 := dkwX7_habit_0 ++ dktX7_habit_1
theorem dksX7_habit_0 : cX7_habit.data.toList.drop 0 = dktX7_habit_0 := by decide +kernel
theorem dksX7_habit_1 : cX7_habit.data.toList.drop 22 = dktX7_habit_1 := dk_seg dksX7_habit_0 22 rfl rfl
theorem dksX7_habit_2 : cX7_habit.data.toList.drop 39 = dktX7_habit_2 := dk_seg dksX7_habit_1 17 rfl rfl
theorem dksX7_habit_3 : cX7_habit.data.toList.drop 64 = dktX7_habit_3 := dk_seg dksX7_habit_2 25 rfl rfl
theorem dksX7_habit_4 : cX7_habit.data.toList.drop 88 = dktX7_habit_4 := dk_seg dksX7_habit_3 24 rfl rfl
theorem dksX7_habit_5 : cX7_habit.data.toList.drop 112 = dktX7_habit_5 := dk_seg dksX7_habit_4 24 rfl rfl
theorem dksX7_habit_6 : cX7_habit.data.toList.drop 136 = dktX7_habit_6 := dk_seg dksX7_habit_5 24 rfl rfl
theorem dX7_habit_0 : decode cX7_habit 0 = .ok (.aload_n 0, 1) := dk_42 (dk_at dksX7_habit_0 0 rfl rfl)
theorem dX7_habit_1 : decode cX7_habit 1 = .ok (.getfield 121, 3) := dk_180 0 121 (dk_at dksX7_habit_0 1 rfl rfl)
theorem dX7_habit_4 : decode cX7_habit 4 = .ok (.istore_n 2, 1) := dk_61 (dk_at dksX7_habit_0 4 rfl rfl)
theorem dX7_habit_5 : decode cX7_habit 5 = .ok (.iload_n 2, 1) := dk_28 (dk_at dksX7_habit_0 5 rfl rfl)
theorem dX7_habit_6 : decode cX7_habit 6 = .ok (.bipush 15, 2) := dk_16 15 (dk_at dksX7_habit_0 6 rfl rfl)
theorem dX7_habit_8 : decode cX7_habit 8 = .ok (.bipush 19, 2) := dk_16 19 (dk_at dksX7_habit_0 8 rfl rfl)
theorem dX7_habit_10 : decode cX7_habit 10 = .ok (.invokestatic 37, 3) := dk_184 0 37 (dk_at dksX7_habit_0 10 rfl rfl)
theorem dX7_habit_13 : decode cX7_habit 13 = .ok (.ifCond .ne 16, 3) := dk_154 0 16 (dk_at dksX7_habit_0 13 rfl rfl)
theorem dX7_habit_16 : decode cX7_habit 16 = .ok (.new 124, 3) := dk_187 0 124 (dk_at dksX7_habit_0 16 rfl rfl)
theorem dX7_habit_19 : decode cX7_habit 19 = .ok (.dup, 1) := dk_89 (dk_at dksX7_habit_0 19 rfl rfl)
theorem dX7_habit_20 : decode cX7_habit 20 = .ok (.iconst 1, 1) := dk_4 (dk_at dksX7_habit_0 20 rfl rfl)
theorem dX7_habit_21 : decode cX7_habit 21 = .ok (.aload_n 0, 1) := dk_42 (dk_at dksX7_habit_0 21 rfl rfl)
theorem dX7_habit_22 : decode cX7_habit 22 = .ok (.getfield 41, 3) := dk_180 0 41 (dk_at dksX7_habit_1 0 rfl rfl)
theorem dX7_habit_25 : decode cX7_habit 25 = .ok (.invokespecial 126, 3) := dk_183 0 126 (dk_at dksX7_habit_1 3 rfl rfl)
theorem dX7_habit_28 : decode cX7_habit 28 = .ok (.athrow, 1) := dk_191 (dk_at dksX7_habit_1 6 rfl rfl)
theorem dX7_habit_29 : decode cX7_habit 29 = .ok (.aload_n 0, 1) := dk_42 (dk_at dksX7_habit_1 7 rfl rfl)
theorem dX7_habit_30 : decode cX7_habit 30 = .ok (.invokevirtual 132, 3) := dk_182 0 132 (dk_at dksX7_habit_1 8 rfl rfl)
theorem dX7_habit_33 : decode cX7_habit 33 = .ok (.aload_n 0, 1) := dk_42 (dk_at dksX7_habit_1 11 rfl rfl)
theorem dX7_habit_34 : decode cX7_habit 34 = .ok (.invokevirtual 235, 3) := dk_182 0 235 (dk_at dksX7_habit_1 12 rfl rfl)
theorem dX7_habit_37 : decode cX7_habit 37 = .ok (.istore_n 3, 1) := dk_62 (dk_at dksX7_habit_1 15 rfl rfl)
theorem dX7_habit_38 : decode cX7_habit 38 = .ok (.iload_n 2, 1) := dk_28 (dk_at dksX7_habit_1 16 rfl rfl)
theorem dX7_habit_39 : decode cX7_habit 39 = .ok (.lookupswitch 70 #[(18, 25), (19, 43)], 25) := by decide +kernel
theorem dX7_habit_64 : decode cX7_habit 64 = .ok (.new 237, 3) := dk_187 0 237 (dk_at dksX7_habit_3 0 rfl rfl)
theorem dX7_habit_67 : decode cX7_habit 67 = .ok (.dup, 1) := dk_89 (dk_at dksX7_habit_3 3 rfl rfl)
theorem dX7_habit_68 : decode cX7_habit 68 = .ok (.iload_n 1, 1) := dk_27 (dk_at dksX7_habit_3 4 rfl rfl)
theorem dX7_habit_69 : decode cX7_habit 69 = .ok (.iload_n 3, 1) := dk_29 (dk_at dksX7_habit_3 5 rfl rfl)
theorem dX7_habit_70 : decode cX7_habit 70 = .ok (.aload_n 0, 1) := dk_42 (dk_at dksX7_habit_3 6 rfl rfl)
theorem dX7_habit_71 : decode cX7_habit 71 = .ok (.iconst 1, 1) := dk_4 (dk_at dksX7_habit_3 7 rfl rfl)
theorem dX7_habit_72 : decode cX7_habit 72 = .ok (.sipush 999, 3) := dk_17 3 231 (dk_at dksX7_habit_3 8 rfl rfl)
theorem dX7_habit_75 : decode cX7_habit 75 = .ok (.invokevirtual 139, 3) := dk_182 0 139 (dk_at dksX7_habit_3 11 rfl rfl)
theorem dX7_habit_78 : decode cX7_habit 78 = .ok (.invokespecial 239, 3) := dk_183 0 239 (dk_at dksX7_habit_3 14 rfl rfl)
theorem dX7_habit_81 : decode cX7_habit 81 = .ok (.areturn, 1) := dk_176 (dk_at dksX7_habit_3 17 rfl rfl)
theorem dX7_habit_82 : decode cX7_habit 82 = .ok (.aload_n 0, 1) := dk_42 (dk_at dksX7_habit_3 18 rfl rfl)
theorem dX7_habit_83 : decode cX7_habit 83 = .ok (.iconst 0, 1) := dk_3 (dk_at dksX7_habit_3 19 rfl rfl)
theorem dX7_habit_84 : decode cX7_habit 84 = .ok (.iconst 4, 1) := dk_7 (dk_at dksX7_habit_3 20 rfl rfl)
theorem dX7_habit_85 : decode cX7_habit 85 = .ok (.invokevirtual 139, 3) := dk_182 0 139 (dk_at dksX7_habit_3 21 rfl rfl)
theorem dX7_habit_88 : decode cX7_habit 88 = .ok (.istore 4, 2) := dk_54 4 (dk_at dksX7_habit_4 0 rfl rfl)
theorem dX7_habit_90 : decode cX7_habit 90 = .ok (.new 242, 3) := dk_187 0 242 (dk_at dksX7_habit_4 2 rfl rfl)
theorem dX7_habit_93 : decode cX7_habit 93 = .ok (.dup, 1) := dk_89 (dk_at dksX7_habit_4 5 rfl rfl)
theorem dX7_habit_94 : decode cX7_habit 94 = .ok (.iload_n 1, 1) := dk_27 (dk_at dksX7_habit_4 6 rfl rfl)
theorem dX7_habit_95 : decode cX7_habit 95 = .ok (.iload_n 3, 1) := dk_29 (dk_at dksX7_habit_4 7 rfl rfl)
theorem dX7_habit_96 : decode cX7_habit 96 = .ok (.iload 4, 2) := dk_21 4 (dk_at dksX7_habit_4 8 rfl rfl)
theorem dX7_habit_98 : decode cX7_habit 98 = .ok (.aload_n 0, 1) := dk_42 (dk_at dksX7_habit_4 10 rfl rfl)
theorem dX7_habit_99 : decode cX7_habit 99 = .ok (.iconst 1, 1) := dk_4 (dk_at dksX7_habit_4 11 rfl rfl)
theorem dX7_habit_100 : decode cX7_habit 100 = .ok (.bipush 99, 2) := dk_16 99 (dk_at dksX7_habit_4 12 rfl rfl)
theorem dX7_habit_102 : decode cX7_habit 102 = .ok (.invokevirtual 139, 3) := dk_182 0 139 (dk_at dksX7_habit_4 14 rfl rfl)
theorem dX7_habit_105 : decode cX7_habit 105 = .ok (.invokespecial 244, 3) := dk_183 0 244 (dk_at dksX7_habit_4 17 rfl rfl)
theorem dX7_habit_108 : decode cX7_habit 108 = .ok (.areturn, 1) := dk_176 (dk_at dksX7_habit_4 20 rfl rfl)
theorem dX7_habit_109 : decode cX7_habit 109 = .ok (.new 247, 3) := dk_187 0 247 (dk_at dksX7_habit_4 21 rfl rfl)
theorem dX7_habit_112 : decode cX7_habit 112 = .ok (.dup, 1) := dk_89 (dk_at dksX7_habit_5 0 rfl rfl)
theorem dX7_habit_113 : decode cX7_habit 113 = .ok (.iload_n 1, 1) := dk_27 (dk_at dksX7_habit_5 1 rfl rfl)
theorem dX7_habit_114 : decode cX7_habit 114 = .ok (.iload_n 3, 1) := dk_29 (dk_at dksX7_habit_5 2 rfl rfl)
theorem dX7_habit_115 : decode cX7_habit 115 = .ok (.iload_n 2, 1) := dk_28 (dk_at dksX7_habit_5 3 rfl rfl)
theorem dX7_habit_116 : decode cX7_habit 116 = .ok (.bipush 15, 2) := dk_16 15 (dk_at dksX7_habit_5 4 rfl rfl)
theorem dX7_habit_118 : decode cX7_habit 118 = .ok (.if_icmp .ne 7, 3) := dk_160 0 7 (dk_at dksX7_habit_5 6 rfl rfl)
theorem dX7_habit_121 : decode cX7_habit 121 = .ok (.iconst 1, 1) := dk_4 (dk_at dksX7_habit_5 9 rfl rfl)
theorem dX7_habit_122 : decode cX7_habit 122 = .ok (.goto 14, 3) := dk_167 0 14 (dk_at dksX7_habit_5 10 rfl rfl)
theorem dX7_habit_125 : decode cX7_habit 125 = .ok (.iload_n 2, 1) := dk_28 (dk_at dksX7_habit_5 13 rfl rfl)
theorem dX7_habit_126 : decode cX7_habit 126 = .ok (.bipush 17, 2) := dk_16 17 (dk_at dksX7_habit_5 14 rfl rfl)
theorem dX7_habit_128 : decode cX7_habit 128 = .ok (.if_icmp .ne 7, 3) := dk_160 0 7 (dk_at dksX7_habit_5 16 rfl rfl)
theorem dX7_habit_131 : decode cX7_habit 131 = .ok (.iconst 2, 1) := dk_5 (dk_at dksX7_habit_5 19 rfl rfl)
theorem dX7_habit_132 : decode cX7_habit 132 = .ok (.goto 4, 3) := dk_167 0 4 (dk_at dksX7_habit_5 20 rfl rfl)
theorem dX7_habit_135 : decode cX7_habit 135 = .ok (.iconst 0, 1) := dk_3 (dk_at dksX7_habit_5 23 rfl rfl)
theorem dX7_habit_136 : decode cX7_habit 136 = .ok (.invokespecial 249, 3) := dk_183 0 249 (dk_at dksX7_habit_6 0 rfl rfl)
theorem dX7_habit_139 : decode cX7_habit 139 = .ok (.areturn, 1) := dk_176 (dk_at dksX7_habit_6 3 rfl rfl)
abbrev cX7_person : ByteArray := prog_16_method_13_code
def yX7_person : MethodName := ⟨RX7, "person", "()I"⟩
def dkwX7_person_0 : List UInt8 := [42, 3, 42, 180, 0, 3, 180, 0, 143, 180, 0, 147, 4, 100, 182, 0, 139, 172]
abbrev dktX7_person_0 : List UInt8 := dkwX7_person_0 ++ []
theorem dksX7_person_0 : cX7_person.data.toList.drop 0 = dktX7_person_0 := by decide +kernel
theorem dX7_person_0 : decode cX7_person 0 = .ok (.aload_n 0, 1) := dk_42 (dk_at dksX7_person_0 0 rfl rfl)
theorem dX7_person_1 : decode cX7_person 1 = .ok (.iconst 0, 1) := dk_3 (dk_at dksX7_person_0 1 rfl rfl)
theorem dX7_person_2 : decode cX7_person 2 = .ok (.aload_n 0, 1) := dk_42 (dk_at dksX7_person_0 2 rfl rfl)
theorem dX7_person_3 : decode cX7_person 3 = .ok (.getfield 3, 3) := dk_180 0 3 (dk_at dksX7_person_0 3 rfl rfl)
theorem dX7_person_6 : decode cX7_person 6 = .ok (.getfield 143, 3) := dk_180 0 143 (dk_at dksX7_person_0 6 rfl rfl)
theorem dX7_person_9 : decode cX7_person 9 = .ok (.getfield 147, 3) := dk_180 0 147 (dk_at dksX7_person_0 9 rfl rfl)
theorem dX7_person_12 : decode cX7_person 12 = .ok (.iconst 1, 1) := dk_4 (dk_at dksX7_person_0 12 rfl rfl)
theorem dX7_person_13 : decode cX7_person 13 = .ok (.isub, 1) := dk_100 (dk_at dksX7_person_0 13 rfl rfl)
theorem dX7_person_14 : decode cX7_person 14 = .ok (.invokevirtual 139, 3) := dk_182 0 139 (dk_at dksX7_person_0 14 rfl rfl)
theorem dX7_person_17 : decode cX7_person 17 = .ok (.ireturn, 1) := dk_172 (dk_at dksX7_person_0 17 rfl rfl)
abbrev cX7_kin : ByteArray := prog_16_method_28_code
def yX7_kin : MethodName := ⟨RX7, "kin", "()[I"⟩
def dkwX7_kin_6 : List UInt8 := [181, 0, 254, 167, 255, 116, 42, 180, 0, 15, 176]
abbrev dktX7_kin_6 : List UInt8 := dkwX7_kin_6 ++ []
def dkwX7_kin_5 : List UInt8 := [120, 128, 79, 42, 180, 0, 15, 28, 92, 46, 4, 27, 120, 128, 79, 42, 89, 180, 0, 254, 4, 96]
abbrev dktX7_kin_5 : List UInt8 := dkwX7_kin_5 ++ dktX7_kin_6
def dkwX7_kin_4 : List UInt8 := [183, 0, 126, 191, 42, 182, 0, 235, 61, 42, 16, 59, 182, 0, 135, 42, 180, 0, 15, 27, 92, 46, 4, 28]
abbrev dktX7_kin_4 : List UInt8 := dkwX7_kin_4 ++ dktX7_kin_5
def dkwX7_kin_3 : List UInt8 := [180, 0, 121, 5, 160, 0, 24, 42, 180, 0, 129, 27, 160, 0, 16, 187, 0, 124, 89, 5, 42, 180, 0, 41]
abbrev dktX7_kin_3 : List UInt8 := dkwX7_kin_3 ++ dktX7_kin_4
def dkwX7_kin_2 : List UInt8 := [180, 0, 41, 183, 0, 126, 191, 42, 182, 0, 132, 42, 182, 0, 235, 60, 42, 16, 20, 182, 0, 135, 42]
abbrev dktX7_kin_2 : List UInt8 := dkwX7_kin_2 ++ dktX7_kin_3
def dkwX7_kin_1 : List UInt8 := [4, 42, 180, 0, 41, 183, 0, 126, 191, 42, 180, 0, 254, 16, 16, 160, 0, 16, 187, 0, 124, 89, 6, 42]
abbrev dktX7_kin_1 : List UInt8 := dkwX7_kin_1 ++ dktX7_kin_2
def dkwX7_kin_0 : List UInt8 := [42, 182, 0, 132, 42, 180, 0, 121, 153, 0, 139, 42, 180, 0, 121, 16, 11, 159, 0, 16, 187, 0, 124, 89]
abbrev dktX7_kin_0 : List UInt8 := dkwX7_kin_0 ++ dktX7_kin_1
theorem dksX7_kin_0 : cX7_kin.data.toList.drop 0 = dktX7_kin_0 := by decide +kernel
theorem dksX7_kin_1 : cX7_kin.data.toList.drop 24 = dktX7_kin_1 := dk_seg dksX7_kin_0 24 rfl rfl
theorem dksX7_kin_2 : cX7_kin.data.toList.drop 48 = dktX7_kin_2 := dk_seg dksX7_kin_1 24 rfl rfl
theorem dksX7_kin_3 : cX7_kin.data.toList.drop 71 = dktX7_kin_3 := dk_seg dksX7_kin_2 23 rfl rfl
theorem dksX7_kin_4 : cX7_kin.data.toList.drop 95 = dktX7_kin_4 := dk_seg dksX7_kin_3 24 rfl rfl
theorem dksX7_kin_5 : cX7_kin.data.toList.drop 119 = dktX7_kin_5 := dk_seg dksX7_kin_4 24 rfl rfl
theorem dksX7_kin_6 : cX7_kin.data.toList.drop 141 = dktX7_kin_6 := dk_seg dksX7_kin_5 22 rfl rfl
theorem dX7_kin_0 : decode cX7_kin 0 = .ok (.aload_n 0, 1) := dk_42 (dk_at dksX7_kin_0 0 rfl rfl)
theorem dX7_kin_1 : decode cX7_kin 1 = .ok (.invokevirtual 132, 3) := dk_182 0 132 (dk_at dksX7_kin_0 1 rfl rfl)
theorem dX7_kin_4 : decode cX7_kin 4 = .ok (.aload_n 0, 1) := dk_42 (dk_at dksX7_kin_0 4 rfl rfl)
theorem dX7_kin_5 : decode cX7_kin 5 = .ok (.getfield 121, 3) := dk_180 0 121 (dk_at dksX7_kin_0 5 rfl rfl)
theorem dX7_kin_8 : decode cX7_kin 8 = .ok (.ifCond .eq 139, 3) := dk_153 0 139 (dk_at dksX7_kin_0 8 rfl rfl)
theorem dX7_kin_11 : decode cX7_kin 11 = .ok (.aload_n 0, 1) := dk_42 (dk_at dksX7_kin_0 11 rfl rfl)
theorem dX7_kin_12 : decode cX7_kin 12 = .ok (.getfield 121, 3) := dk_180 0 121 (dk_at dksX7_kin_0 12 rfl rfl)
theorem dX7_kin_15 : decode cX7_kin 15 = .ok (.bipush 11, 2) := dk_16 11 (dk_at dksX7_kin_0 15 rfl rfl)
theorem dX7_kin_17 : decode cX7_kin 17 = .ok (.if_icmp .eq 16, 3) := dk_159 0 16 (dk_at dksX7_kin_0 17 rfl rfl)
theorem dX7_kin_20 : decode cX7_kin 20 = .ok (.new 124, 3) := dk_187 0 124 (dk_at dksX7_kin_0 20 rfl rfl)
theorem dX7_kin_23 : decode cX7_kin 23 = .ok (.dup, 1) := dk_89 (dk_at dksX7_kin_0 23 rfl rfl)
theorem dX7_kin_24 : decode cX7_kin 24 = .ok (.iconst 1, 1) := dk_4 (dk_at dksX7_kin_1 0 rfl rfl)
theorem dX7_kin_25 : decode cX7_kin 25 = .ok (.aload_n 0, 1) := dk_42 (dk_at dksX7_kin_1 1 rfl rfl)
theorem dX7_kin_26 : decode cX7_kin 26 = .ok (.getfield 41, 3) := dk_180 0 41 (dk_at dksX7_kin_1 2 rfl rfl)
theorem dX7_kin_29 : decode cX7_kin 29 = .ok (.invokespecial 126, 3) := dk_183 0 126 (dk_at dksX7_kin_1 5 rfl rfl)
theorem dX7_kin_32 : decode cX7_kin 32 = .ok (.athrow, 1) := dk_191 (dk_at dksX7_kin_1 8 rfl rfl)
theorem dX7_kin_33 : decode cX7_kin 33 = .ok (.aload_n 0, 1) := dk_42 (dk_at dksX7_kin_1 9 rfl rfl)
theorem dX7_kin_34 : decode cX7_kin 34 = .ok (.getfield 254, 3) := dk_180 0 254 (dk_at dksX7_kin_1 10 rfl rfl)
theorem dX7_kin_37 : decode cX7_kin 37 = .ok (.bipush 16, 2) := dk_16 16 (dk_at dksX7_kin_1 13 rfl rfl)
theorem dX7_kin_39 : decode cX7_kin 39 = .ok (.if_icmp .ne 16, 3) := dk_160 0 16 (dk_at dksX7_kin_1 15 rfl rfl)
theorem dX7_kin_42 : decode cX7_kin 42 = .ok (.new 124, 3) := dk_187 0 124 (dk_at dksX7_kin_1 18 rfl rfl)
theorem dX7_kin_45 : decode cX7_kin 45 = .ok (.dup, 1) := dk_89 (dk_at dksX7_kin_1 21 rfl rfl)
theorem dX7_kin_46 : decode cX7_kin 46 = .ok (.iconst 3, 1) := dk_6 (dk_at dksX7_kin_1 22 rfl rfl)
theorem dX7_kin_47 : decode cX7_kin 47 = .ok (.aload_n 0, 1) := dk_42 (dk_at dksX7_kin_1 23 rfl rfl)
theorem dX7_kin_48 : decode cX7_kin 48 = .ok (.getfield 41, 3) := dk_180 0 41 (dk_at dksX7_kin_2 0 rfl rfl)
theorem dX7_kin_51 : decode cX7_kin 51 = .ok (.invokespecial 126, 3) := dk_183 0 126 (dk_at dksX7_kin_2 3 rfl rfl)
theorem dX7_kin_54 : decode cX7_kin 54 = .ok (.athrow, 1) := dk_191 (dk_at dksX7_kin_2 6 rfl rfl)
theorem dX7_kin_55 : decode cX7_kin 55 = .ok (.aload_n 0, 1) := dk_42 (dk_at dksX7_kin_2 7 rfl rfl)
theorem dX7_kin_56 : decode cX7_kin 56 = .ok (.invokevirtual 132, 3) := dk_182 0 132 (dk_at dksX7_kin_2 8 rfl rfl)
theorem dX7_kin_59 : decode cX7_kin 59 = .ok (.aload_n 0, 1) := dk_42 (dk_at dksX7_kin_2 11 rfl rfl)
theorem dX7_kin_60 : decode cX7_kin 60 = .ok (.invokevirtual 235, 3) := dk_182 0 235 (dk_at dksX7_kin_2 12 rfl rfl)
theorem dX7_kin_63 : decode cX7_kin 63 = .ok (.istore_n 1, 1) := dk_60 (dk_at dksX7_kin_2 15 rfl rfl)
theorem dX7_kin_64 : decode cX7_kin 64 = .ok (.aload_n 0, 1) := dk_42 (dk_at dksX7_kin_2 16 rfl rfl)
theorem dX7_kin_65 : decode cX7_kin 65 = .ok (.bipush 20, 2) := dk_16 20 (dk_at dksX7_kin_2 17 rfl rfl)
theorem dX7_kin_67 : decode cX7_kin 67 = .ok (.invokevirtual 135, 3) := dk_182 0 135 (dk_at dksX7_kin_2 19 rfl rfl)
theorem dX7_kin_70 : decode cX7_kin 70 = .ok (.aload_n 0, 1) := dk_42 (dk_at dksX7_kin_2 22 rfl rfl)
theorem dX7_kin_71 : decode cX7_kin 71 = .ok (.getfield 121, 3) := dk_180 0 121 (dk_at dksX7_kin_3 0 rfl rfl)
theorem dX7_kin_74 : decode cX7_kin 74 = .ok (.iconst 2, 1) := dk_5 (dk_at dksX7_kin_3 3 rfl rfl)
theorem dX7_kin_75 : decode cX7_kin 75 = .ok (.if_icmp .ne 24, 3) := dk_160 0 24 (dk_at dksX7_kin_3 4 rfl rfl)
theorem dX7_kin_78 : decode cX7_kin 78 = .ok (.aload_n 0, 1) := dk_42 (dk_at dksX7_kin_3 7 rfl rfl)
theorem dX7_kin_79 : decode cX7_kin 79 = .ok (.getfield 129, 3) := dk_180 0 129 (dk_at dksX7_kin_3 8 rfl rfl)
theorem dX7_kin_82 : decode cX7_kin 82 = .ok (.iload_n 1, 1) := dk_27 (dk_at dksX7_kin_3 11 rfl rfl)
theorem dX7_kin_83 : decode cX7_kin 83 = .ok (.if_icmp .ne 16, 3) := dk_160 0 16 (dk_at dksX7_kin_3 12 rfl rfl)
theorem dX7_kin_86 : decode cX7_kin 86 = .ok (.new 124, 3) := dk_187 0 124 (dk_at dksX7_kin_3 15 rfl rfl)
theorem dX7_kin_89 : decode cX7_kin 89 = .ok (.dup, 1) := dk_89 (dk_at dksX7_kin_3 18 rfl rfl)
theorem dX7_kin_90 : decode cX7_kin 90 = .ok (.iconst 2, 1) := dk_5 (dk_at dksX7_kin_3 19 rfl rfl)
theorem dX7_kin_91 : decode cX7_kin 91 = .ok (.aload_n 0, 1) := dk_42 (dk_at dksX7_kin_3 20 rfl rfl)
theorem dX7_kin_92 : decode cX7_kin 92 = .ok (.getfield 41, 3) := dk_180 0 41 (dk_at dksX7_kin_3 21 rfl rfl)
theorem dX7_kin_95 : decode cX7_kin 95 = .ok (.invokespecial 126, 3) := dk_183 0 126 (dk_at dksX7_kin_4 0 rfl rfl)
theorem dX7_kin_98 : decode cX7_kin 98 = .ok (.athrow, 1) := dk_191 (dk_at dksX7_kin_4 3 rfl rfl)
theorem dX7_kin_99 : decode cX7_kin 99 = .ok (.aload_n 0, 1) := dk_42 (dk_at dksX7_kin_4 4 rfl rfl)
theorem dX7_kin_100 : decode cX7_kin 100 = .ok (.invokevirtual 235, 3) := dk_182 0 235 (dk_at dksX7_kin_4 5 rfl rfl)
theorem dX7_kin_103 : decode cX7_kin 103 = .ok (.istore_n 2, 1) := dk_61 (dk_at dksX7_kin_4 8 rfl rfl)
theorem dX7_kin_104 : decode cX7_kin 104 = .ok (.aload_n 0, 1) := dk_42 (dk_at dksX7_kin_4 9 rfl rfl)
theorem dX7_kin_105 : decode cX7_kin 105 = .ok (.bipush 59, 2) := dk_16 59 (dk_at dksX7_kin_4 10 rfl rfl)
theorem dX7_kin_107 : decode cX7_kin 107 = .ok (.invokevirtual 135, 3) := dk_182 0 135 (dk_at dksX7_kin_4 12 rfl rfl)
theorem dX7_kin_110 : decode cX7_kin 110 = .ok (.aload_n 0, 1) := dk_42 (dk_at dksX7_kin_4 15 rfl rfl)
theorem dX7_kin_111 : decode cX7_kin 111 = .ok (.getfield 15, 3) := dk_180 0 15 (dk_at dksX7_kin_4 16 rfl rfl)
theorem dX7_kin_114 : decode cX7_kin 114 = .ok (.iload_n 1, 1) := dk_27 (dk_at dksX7_kin_4 19 rfl rfl)
theorem dX7_kin_115 : decode cX7_kin 115 = .ok (.dup2, 1) := dk_92 (dk_at dksX7_kin_4 20 rfl rfl)
theorem dX7_kin_116 : decode cX7_kin 116 = .ok (.iaload, 1) := dk_46 (dk_at dksX7_kin_4 21 rfl rfl)
theorem dX7_kin_117 : decode cX7_kin 117 = .ok (.iconst 1, 1) := dk_4 (dk_at dksX7_kin_4 22 rfl rfl)
theorem dX7_kin_118 : decode cX7_kin 118 = .ok (.iload_n 2, 1) := dk_28 (dk_at dksX7_kin_4 23 rfl rfl)
theorem dX7_kin_119 : decode cX7_kin 119 = .ok (.ishl, 1) := dk_120 (dk_at dksX7_kin_5 0 rfl rfl)
theorem dX7_kin_120 : decode cX7_kin 120 = .ok (.ior, 1) := dk_128 (dk_at dksX7_kin_5 1 rfl rfl)
theorem dX7_kin_121 : decode cX7_kin 121 = .ok (.iastore, 1) := dk_79 (dk_at dksX7_kin_5 2 rfl rfl)
theorem dX7_kin_122 : decode cX7_kin 122 = .ok (.aload_n 0, 1) := dk_42 (dk_at dksX7_kin_5 3 rfl rfl)
theorem dX7_kin_123 : decode cX7_kin 123 = .ok (.getfield 15, 3) := dk_180 0 15 (dk_at dksX7_kin_5 4 rfl rfl)
theorem dX7_kin_126 : decode cX7_kin 126 = .ok (.iload_n 2, 1) := dk_28 (dk_at dksX7_kin_5 7 rfl rfl)
theorem dX7_kin_127 : decode cX7_kin 127 = .ok (.dup2, 1) := dk_92 (dk_at dksX7_kin_5 8 rfl rfl)
theorem dX7_kin_128 : decode cX7_kin 128 = .ok (.iaload, 1) := dk_46 (dk_at dksX7_kin_5 9 rfl rfl)
theorem dX7_kin_129 : decode cX7_kin 129 = .ok (.iconst 1, 1) := dk_4 (dk_at dksX7_kin_5 10 rfl rfl)
theorem dX7_kin_130 : decode cX7_kin 130 = .ok (.iload_n 1, 1) := dk_27 (dk_at dksX7_kin_5 11 rfl rfl)
theorem dX7_kin_131 : decode cX7_kin 131 = .ok (.ishl, 1) := dk_120 (dk_at dksX7_kin_5 12 rfl rfl)
theorem dX7_kin_132 : decode cX7_kin 132 = .ok (.ior, 1) := dk_128 (dk_at dksX7_kin_5 13 rfl rfl)
theorem dX7_kin_133 : decode cX7_kin 133 = .ok (.iastore, 1) := dk_79 (dk_at dksX7_kin_5 14 rfl rfl)
theorem dX7_kin_134 : decode cX7_kin 134 = .ok (.aload_n 0, 1) := dk_42 (dk_at dksX7_kin_5 15 rfl rfl)
theorem dX7_kin_135 : decode cX7_kin 135 = .ok (.dup, 1) := dk_89 (dk_at dksX7_kin_5 16 rfl rfl)
theorem dX7_kin_136 : decode cX7_kin 136 = .ok (.getfield 254, 3) := dk_180 0 254 (dk_at dksX7_kin_5 17 rfl rfl)
theorem dX7_kin_139 : decode cX7_kin 139 = .ok (.iconst 1, 1) := dk_4 (dk_at dksX7_kin_5 20 rfl rfl)
theorem dX7_kin_140 : decode cX7_kin 140 = .ok (.iadd, 1) := dk_96 (dk_at dksX7_kin_5 21 rfl rfl)
theorem dX7_kin_141 : decode cX7_kin 141 = .ok (.putfield 254, 3) := dk_181 0 254 (dk_at dksX7_kin_6 0 rfl rfl)
theorem dX7_kin_144 : decode cX7_kin 144 = .ok (.goto (-140), 3) := dk_167 255 116 (dk_at dksX7_kin_6 3 rfl rfl)
theorem dX7_kin_147 : decode cX7_kin 147 = .ok (.aload_n 0, 1) := dk_42 (dk_at dksX7_kin_6 6 rfl rfl)
theorem dX7_kin_148 : decode cX7_kin 148 = .ok (.getfield 15, 3) := dk_180 0 15 (dk_at dksX7_kin_6 7 rfl rfl)
theorem dX7_kin_151 : decode cX7_kin 151 = .ok (.areturn, 1) := dk_176 (dk_at dksX7_kin_6 10 rfl rfl)

