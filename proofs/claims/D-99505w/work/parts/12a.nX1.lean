set_option maxRecDepth 100000
abbrev cX1_init : ByteArray := prog_12_method_1_code
def yX1_init : MethodName := ⟨RX1, "<init>", "()V"⟩
def dkwX1_init_8 : List UInt8 := [162, 0, 22, 42, 180, 0, 19, 27, 187, 0, 17, 89, 183, 0, 74, 83, 132, 1, 1, 167, 255, 234, 177]
abbrev dktX1_init_8 : List UInt8 := dkwX1_init_8 ++ []
def dkwX1_init_7 : List UInt8 := [180, 0, 11, 27, 187, 0, 9, 89, 183, 0, 73, 83, 132, 1, 1, 167, 255, 234, 3, 60, 27, 16, 10]
abbrev dktX1_init_7 : List UInt8 := dkwX1_init_7 ++ dktX1_init_8
def dkwX1_init_6 : List UInt8 := [183, 0, 58, 181, 0, 66, 42, 16, 12, 188, 10, 181, 0, 69, 3, 60, 27, 16, 12, 162, 0, 22, 42]
abbrev dktX1_init_6 : List UInt8 := dkwX1_init_6 ++ dktX1_init_7
def dkwX1_init_5 : List UInt8 := [183, 0, 58, 181, 0, 59, 42, 187, 0, 56, 89, 183, 0, 58, 181, 0, 63, 42, 187, 0, 56, 89]
abbrev dktX1_init_5 : List UInt8 := dkwX1_init_5 ++ dktX1_init_6
def dkwX1_init_4 : List UInt8 := [183, 0, 37, 181, 0, 50, 42, 187, 0, 35, 89, 16, 6, 183, 0, 37, 181, 0, 53, 42, 187, 0, 56, 89]
abbrev dktX1_init_4 : List UInt8 := dkwX1_init_4 ++ dktX1_init_5
def dkwX1_init_3 : List UInt8 := [181, 0, 44, 42, 187, 0, 35, 89, 8, 183, 0, 37, 181, 0, 47, 42, 187, 0, 35, 89, 16, 7]
abbrev dktX1_init_3 : List UInt8 := dkwX1_init_3 ++ dktX1_init_4
def dkwX1_init_2 : List UInt8 := [187, 0, 35, 89, 16, 16, 183, 0, 37, 181, 0, 40, 42, 187, 0, 35, 89, 16, 9, 183, 0, 37]
abbrev dktX1_init_2 : List UInt8 := dkwX1_init_2 ++ dktX1_init_3
def dkwX1_init_1 : List UInt8 := [187, 0, 23, 89, 183, 0, 25, 181, 0, 26, 42, 17, 0, 150, 7, 197, 0, 30, 2, 181, 0, 32, 42]
abbrev dktX1_init_1 : List UInt8 := dkwX1_init_1 ++ dktX1_init_2
def dkwX1_init_0 : List UInt8 := [42, 183, 0, 3, 42, 16, 12, 189, 0, 9, 181, 0, 11, 42, 16, 10, 189, 0, 17, 181, 0, 19, 42]
abbrev dktX1_init_0 : List UInt8 := dkwX1_init_0 ++ dktX1_init_1
theorem dksX1_init_0 : cX1_init.data.toList.drop 0 = dktX1_init_0 := by decide +kernel
theorem dksX1_init_1 : cX1_init.data.toList.drop 23 = dktX1_init_1 := dk_seg dksX1_init_0 23 rfl rfl
theorem dksX1_init_2 : cX1_init.data.toList.drop 46 = dktX1_init_2 := dk_seg dksX1_init_1 23 rfl rfl
theorem dksX1_init_3 : cX1_init.data.toList.drop 68 = dktX1_init_3 := dk_seg dksX1_init_2 22 rfl rfl
theorem dksX1_init_4 : cX1_init.data.toList.drop 90 = dktX1_init_4 := dk_seg dksX1_init_3 22 rfl rfl
theorem dksX1_init_5 : cX1_init.data.toList.drop 114 = dktX1_init_5 := dk_seg dksX1_init_4 24 rfl rfl
theorem dksX1_init_6 : cX1_init.data.toList.drop 136 = dktX1_init_6 := dk_seg dksX1_init_5 22 rfl rfl
theorem dksX1_init_7 : cX1_init.data.toList.drop 159 = dktX1_init_7 := dk_seg dksX1_init_6 23 rfl rfl
theorem dksX1_init_8 : cX1_init.data.toList.drop 182 = dktX1_init_8 := dk_seg dksX1_init_7 23 rfl rfl
theorem dX1_init_0 : decode cX1_init 0 = .ok (.aload_n 0, 1) := dk_42 (dk_at dksX1_init_0 0 rfl rfl)
theorem dX1_init_1 : decode cX1_init 1 = .ok (.invokespecial 3, 3) := dk_183 0 3 (dk_at dksX1_init_0 1 rfl rfl)
theorem dX1_init_4 : decode cX1_init 4 = .ok (.aload_n 0, 1) := dk_42 (dk_at dksX1_init_0 4 rfl rfl)
theorem dX1_init_5 : decode cX1_init 5 = .ok (.bipush 12, 2) := dk_16 12 (dk_at dksX1_init_0 5 rfl rfl)
theorem dX1_init_7 : decode cX1_init 7 = .ok (.anewarray 9, 3) := dk_189 0 9 (dk_at dksX1_init_0 7 rfl rfl)
theorem dX1_init_10 : decode cX1_init 10 = .ok (.putfield 11, 3) := dk_181 0 11 (dk_at dksX1_init_0 10 rfl rfl)
theorem dX1_init_13 : decode cX1_init 13 = .ok (.aload_n 0, 1) := dk_42 (dk_at dksX1_init_0 13 rfl rfl)
theorem dX1_init_14 : decode cX1_init 14 = .ok (.bipush 10, 2) := dk_16 10 (dk_at dksX1_init_0 14 rfl rfl)
theorem dX1_init_16 : decode cX1_init 16 = .ok (.anewarray 17, 3) := dk_189 0 17 (dk_at dksX1_init_0 16 rfl rfl)
theorem dX1_init_19 : decode cX1_init 19 = .ok (.putfield 19, 3) := dk_181 0 19 (dk_at dksX1_init_0 19 rfl rfl)
theorem dX1_init_22 : decode cX1_init 22 = .ok (.aload_n 0, 1) := dk_42 (dk_at dksX1_init_0 22 rfl rfl)
theorem dX1_init_23 : decode cX1_init 23 = .ok (.new 23, 3) := dk_187 0 23 (dk_at dksX1_init_1 0 rfl rfl)
theorem dX1_init_26 : decode cX1_init 26 = .ok (.dup, 1) := dk_89 (dk_at dksX1_init_1 3 rfl rfl)
theorem dX1_init_27 : decode cX1_init 27 = .ok (.invokespecial 25, 3) := dk_183 0 25 (dk_at dksX1_init_1 4 rfl rfl)
theorem dX1_init_30 : decode cX1_init 30 = .ok (.putfield 26, 3) := dk_181 0 26 (dk_at dksX1_init_1 7 rfl rfl)
theorem dX1_init_33 : decode cX1_init 33 = .ok (.aload_n 0, 1) := dk_42 (dk_at dksX1_init_1 10 rfl rfl)
theorem dX1_init_34 : decode cX1_init 34 = .ok (.sipush 150, 3) := dk_17 0 150 (dk_at dksX1_init_1 11 rfl rfl)
theorem dX1_init_37 : decode cX1_init 37 = .ok (.iconst 4, 1) := dk_7 (dk_at dksX1_init_1 14 rfl rfl)
theorem dX1_init_38 : decode cX1_init 38 = .ok (.multianewarray 30 2, 4) := by decide +kernel
theorem dX1_init_42 : decode cX1_init 42 = .ok (.putfield 32, 3) := dk_181 0 32 (dk_at dksX1_init_1 19 rfl rfl)
theorem dX1_init_45 : decode cX1_init 45 = .ok (.aload_n 0, 1) := dk_42 (dk_at dksX1_init_1 22 rfl rfl)
theorem dX1_init_46 : decode cX1_init 46 = .ok (.new 35, 3) := dk_187 0 35 (dk_at dksX1_init_2 0 rfl rfl)
theorem dX1_init_49 : decode cX1_init 49 = .ok (.dup, 1) := dk_89 (dk_at dksX1_init_2 3 rfl rfl)
theorem dX1_init_50 : decode cX1_init 50 = .ok (.bipush 16, 2) := dk_16 16 (dk_at dksX1_init_2 4 rfl rfl)
theorem dX1_init_52 : decode cX1_init 52 = .ok (.invokespecial 37, 3) := dk_183 0 37 (dk_at dksX1_init_2 6 rfl rfl)
theorem dX1_init_55 : decode cX1_init 55 = .ok (.putfield 40, 3) := dk_181 0 40 (dk_at dksX1_init_2 9 rfl rfl)
theorem dX1_init_58 : decode cX1_init 58 = .ok (.aload_n 0, 1) := dk_42 (dk_at dksX1_init_2 12 rfl rfl)
theorem dX1_init_59 : decode cX1_init 59 = .ok (.new 35, 3) := dk_187 0 35 (dk_at dksX1_init_2 13 rfl rfl)
theorem dX1_init_62 : decode cX1_init 62 = .ok (.dup, 1) := dk_89 (dk_at dksX1_init_2 16 rfl rfl)
theorem dX1_init_63 : decode cX1_init 63 = .ok (.bipush 9, 2) := dk_16 9 (dk_at dksX1_init_2 17 rfl rfl)
theorem dX1_init_65 : decode cX1_init 65 = .ok (.invokespecial 37, 3) := dk_183 0 37 (dk_at dksX1_init_2 19 rfl rfl)
theorem dX1_init_68 : decode cX1_init 68 = .ok (.putfield 44, 3) := dk_181 0 44 (dk_at dksX1_init_3 0 rfl rfl)
theorem dX1_init_71 : decode cX1_init 71 = .ok (.aload_n 0, 1) := dk_42 (dk_at dksX1_init_3 3 rfl rfl)
theorem dX1_init_72 : decode cX1_init 72 = .ok (.new 35, 3) := dk_187 0 35 (dk_at dksX1_init_3 4 rfl rfl)
theorem dX1_init_75 : decode cX1_init 75 = .ok (.dup, 1) := dk_89 (dk_at dksX1_init_3 7 rfl rfl)
theorem dX1_init_76 : decode cX1_init 76 = .ok (.iconst 5, 1) := dk_8 (dk_at dksX1_init_3 8 rfl rfl)
theorem dX1_init_77 : decode cX1_init 77 = .ok (.invokespecial 37, 3) := dk_183 0 37 (dk_at dksX1_init_3 9 rfl rfl)
theorem dX1_init_80 : decode cX1_init 80 = .ok (.putfield 47, 3) := dk_181 0 47 (dk_at dksX1_init_3 12 rfl rfl)
theorem dX1_init_83 : decode cX1_init 83 = .ok (.aload_n 0, 1) := dk_42 (dk_at dksX1_init_3 15 rfl rfl)
theorem dX1_init_84 : decode cX1_init 84 = .ok (.new 35, 3) := dk_187 0 35 (dk_at dksX1_init_3 16 rfl rfl)
theorem dX1_init_87 : decode cX1_init 87 = .ok (.dup, 1) := dk_89 (dk_at dksX1_init_3 19 rfl rfl)
theorem dX1_init_88 : decode cX1_init 88 = .ok (.bipush 7, 2) := dk_16 7 (dk_at dksX1_init_3 20 rfl rfl)
theorem dX1_init_90 : decode cX1_init 90 = .ok (.invokespecial 37, 3) := dk_183 0 37 (dk_at dksX1_init_4 0 rfl rfl)
theorem dX1_init_93 : decode cX1_init 93 = .ok (.putfield 50, 3) := dk_181 0 50 (dk_at dksX1_init_4 3 rfl rfl)
theorem dX1_init_96 : decode cX1_init 96 = .ok (.aload_n 0, 1) := dk_42 (dk_at dksX1_init_4 6 rfl rfl)
theorem dX1_init_97 : decode cX1_init 97 = .ok (.new 35, 3) := dk_187 0 35 (dk_at dksX1_init_4 7 rfl rfl)
theorem dX1_init_100 : decode cX1_init 100 = .ok (.dup, 1) := dk_89 (dk_at dksX1_init_4 10 rfl rfl)
theorem dX1_init_101 : decode cX1_init 101 = .ok (.bipush 6, 2) := dk_16 6 (dk_at dksX1_init_4 11 rfl rfl)
theorem dX1_init_103 : decode cX1_init 103 = .ok (.invokespecial 37, 3) := dk_183 0 37 (dk_at dksX1_init_4 13 rfl rfl)
theorem dX1_init_106 : decode cX1_init 106 = .ok (.putfield 53, 3) := dk_181 0 53 (dk_at dksX1_init_4 16 rfl rfl)
theorem dX1_init_109 : decode cX1_init 109 = .ok (.aload_n 0, 1) := dk_42 (dk_at dksX1_init_4 19 rfl rfl)
theorem dX1_init_110 : decode cX1_init 110 = .ok (.new 56, 3) := dk_187 0 56 (dk_at dksX1_init_4 20 rfl rfl)
theorem dX1_init_113 : decode cX1_init 113 = .ok (.dup, 1) := dk_89 (dk_at dksX1_init_4 23 rfl rfl)
theorem dX1_init_114 : decode cX1_init 114 = .ok (.invokespecial 58, 3) := dk_183 0 58 (dk_at dksX1_init_5 0 rfl rfl)
theorem dX1_init_117 : decode cX1_init 117 = .ok (.putfield 59, 3) := dk_181 0 59 (dk_at dksX1_init_5 3 rfl rfl)
theorem dX1_init_120 : decode cX1_init 120 = .ok (.aload_n 0, 1) := dk_42 (dk_at dksX1_init_5 6 rfl rfl)
theorem dX1_init_121 : decode cX1_init 121 = .ok (.new 56, 3) := dk_187 0 56 (dk_at dksX1_init_5 7 rfl rfl)
theorem dX1_init_124 : decode cX1_init 124 = .ok (.dup, 1) := dk_89 (dk_at dksX1_init_5 10 rfl rfl)
theorem dX1_init_125 : decode cX1_init 125 = .ok (.invokespecial 58, 3) := dk_183 0 58 (dk_at dksX1_init_5 11 rfl rfl)
theorem dX1_init_128 : decode cX1_init 128 = .ok (.putfield 63, 3) := dk_181 0 63 (dk_at dksX1_init_5 14 rfl rfl)
theorem dX1_init_131 : decode cX1_init 131 = .ok (.aload_n 0, 1) := dk_42 (dk_at dksX1_init_5 17 rfl rfl)
theorem dX1_init_132 : decode cX1_init 132 = .ok (.new 56, 3) := dk_187 0 56 (dk_at dksX1_init_5 18 rfl rfl)
theorem dX1_init_135 : decode cX1_init 135 = .ok (.dup, 1) := dk_89 (dk_at dksX1_init_5 21 rfl rfl)
theorem dX1_init_136 : decode cX1_init 136 = .ok (.invokespecial 58, 3) := dk_183 0 58 (dk_at dksX1_init_6 0 rfl rfl)
theorem dX1_init_139 : decode cX1_init 139 = .ok (.putfield 66, 3) := dk_181 0 66 (dk_at dksX1_init_6 3 rfl rfl)
theorem dX1_init_142 : decode cX1_init 142 = .ok (.aload_n 0, 1) := dk_42 (dk_at dksX1_init_6 6 rfl rfl)
theorem dX1_init_143 : decode cX1_init 143 = .ok (.bipush 12, 2) := dk_16 12 (dk_at dksX1_init_6 7 rfl rfl)
theorem dX1_init_145 : decode cX1_init 145 = .ok (.newarray .int, 2) := dk_188_10 (dk_at dksX1_init_6 9 rfl rfl)
theorem dX1_init_147 : decode cX1_init 147 = .ok (.putfield 69, 3) := dk_181 0 69 (dk_at dksX1_init_6 11 rfl rfl)
theorem dX1_init_150 : decode cX1_init 150 = .ok (.iconst 0, 1) := dk_3 (dk_at dksX1_init_6 14 rfl rfl)
theorem dX1_init_151 : decode cX1_init 151 = .ok (.istore_n 1, 1) := dk_60 (dk_at dksX1_init_6 15 rfl rfl)
theorem dX1_init_152 : decode cX1_init 152 = .ok (.iload_n 1, 1) := dk_27 (dk_at dksX1_init_6 16 rfl rfl)
theorem dX1_init_153 : decode cX1_init 153 = .ok (.bipush 12, 2) := dk_16 12 (dk_at dksX1_init_6 17 rfl rfl)
theorem dX1_init_155 : decode cX1_init 155 = .ok (.if_icmp .ge 22, 3) := dk_162 0 22 (dk_at dksX1_init_6 19 rfl rfl)
theorem dX1_init_158 : decode cX1_init 158 = .ok (.aload_n 0, 1) := dk_42 (dk_at dksX1_init_6 22 rfl rfl)
theorem dX1_init_159 : decode cX1_init 159 = .ok (.getfield 11, 3) := dk_180 0 11 (dk_at dksX1_init_7 0 rfl rfl)
theorem dX1_init_162 : decode cX1_init 162 = .ok (.iload_n 1, 1) := dk_27 (dk_at dksX1_init_7 3 rfl rfl)
theorem dX1_init_163 : decode cX1_init 163 = .ok (.new 9, 3) := dk_187 0 9 (dk_at dksX1_init_7 4 rfl rfl)
theorem dX1_init_166 : decode cX1_init 166 = .ok (.dup, 1) := dk_89 (dk_at dksX1_init_7 7 rfl rfl)
theorem dX1_init_167 : decode cX1_init 167 = .ok (.invokespecial 73, 3) := dk_183 0 73 (dk_at dksX1_init_7 8 rfl rfl)
theorem dX1_init_170 : decode cX1_init 170 = .ok (.aastore, 1) := dk_83 (dk_at dksX1_init_7 11 rfl rfl)
theorem dX1_init_171 : decode cX1_init 171 = .ok (.iinc 1 1, 3) := dk_132 1 1 (dk_at dksX1_init_7 12 rfl rfl)
theorem dX1_init_174 : decode cX1_init 174 = .ok (.goto (-22), 3) := dk_167 255 234 (dk_at dksX1_init_7 15 rfl rfl)
theorem dX1_init_177 : decode cX1_init 177 = .ok (.iconst 0, 1) := dk_3 (dk_at dksX1_init_7 18 rfl rfl)
theorem dX1_init_178 : decode cX1_init 178 = .ok (.istore_n 1, 1) := dk_60 (dk_at dksX1_init_7 19 rfl rfl)
theorem dX1_init_179 : decode cX1_init 179 = .ok (.iload_n 1, 1) := dk_27 (dk_at dksX1_init_7 20 rfl rfl)
theorem dX1_init_180 : decode cX1_init 180 = .ok (.bipush 10, 2) := dk_16 10 (dk_at dksX1_init_7 21 rfl rfl)
theorem dX1_init_182 : decode cX1_init 182 = .ok (.if_icmp .ge 22, 3) := dk_162 0 22 (dk_at dksX1_init_8 0 rfl rfl)
theorem dX1_init_185 : decode cX1_init 185 = .ok (.aload_n 0, 1) := dk_42 (dk_at dksX1_init_8 3 rfl rfl)
theorem dX1_init_186 : decode cX1_init 186 = .ok (.getfield 19, 3) := dk_180 0 19 (dk_at dksX1_init_8 4 rfl rfl)
theorem dX1_init_189 : decode cX1_init 189 = .ok (.iload_n 1, 1) := dk_27 (dk_at dksX1_init_8 7 rfl rfl)
theorem dX1_init_190 : decode cX1_init 190 = .ok (.new 17, 3) := dk_187 0 17 (dk_at dksX1_init_8 8 rfl rfl)
theorem dX1_init_193 : decode cX1_init 193 = .ok (.dup, 1) := dk_89 (dk_at dksX1_init_8 11 rfl rfl)
theorem dX1_init_194 : decode cX1_init 194 = .ok (.invokespecial 74, 3) := dk_183 0 74 (dk_at dksX1_init_8 12 rfl rfl)
theorem dX1_init_197 : decode cX1_init 197 = .ok (.aastore, 1) := dk_83 (dk_at dksX1_init_8 15 rfl rfl)
theorem dX1_init_198 : decode cX1_init 198 = .ok (.iinc 1 1, 3) := dk_132 1 1 (dk_at dksX1_init_8 16 rfl rfl)
theorem dX1_init_201 : decode cX1_init 201 = .ok (.goto (-22), 3) := dk_167 255 234 (dk_at dksX1_init_8 19 rfl rfl)
theorem dX1_init_204 : decode cX1_init 204 = .ok (.return_, 1) := dk_177 (dk_at dksX1_init_8 22 rfl rfl)
abbrev cX1_moves : ByteArray := prog_12_method_2_code
def yX1_moves : MethodName := ⟨RX1, "moves", "(LClaspedFair$Market;)V"⟩
def dkwX1_moves_4 : List UInt8 := [181, 0, 95, 177]
abbrev dktX1_moves_4 : List UInt8 := dkwX1_moves_4 ++ []
def dkwX1_moves_3 : List UInt8 := [181, 0, 86, 42, 43, 180, 0, 89, 181, 0, 89, 42, 43, 180, 0, 92, 181, 0, 92, 42, 43, 180, 0, 95]
abbrev dktX1_moves_3 : List UInt8 := dkwX1_moves_3 ++ dktX1_moves_4
def dkwX1_moves_2 : List UInt8 := [28, 50, 182, 0, 79, 132, 2, 1, 167, 255, 232, 42, 43, 180, 0, 82, 181, 0, 82, 42, 43, 180, 0, 86]
abbrev dktX1_moves_2 : List UInt8 := dkwX1_moves_2 ++ dktX1_moves_3
def dkwX1_moves_1 : List UInt8 := [132, 2, 1, 167, 255, 232, 3, 61, 28, 16, 10, 162, 0, 24, 42, 180, 0, 19, 28, 50, 43, 180, 0, 19]
abbrev dktX1_moves_1 : List UInt8 := dkwX1_moves_1 ++ dktX1_moves_2
def dkwX1_moves_0 : List UInt8 := [3, 61, 28, 16, 12, 162, 0, 24, 42, 180, 0, 11, 28, 50, 43, 180, 0, 11, 28, 50, 182, 0, 75]
abbrev dktX1_moves_0 : List UInt8 := dkwX1_moves_0 ++ dktX1_moves_1
theorem dksX1_moves_0 : cX1_moves.data.toList.drop 0 = dktX1_moves_0 := by decide +kernel
theorem dksX1_moves_1 : cX1_moves.data.toList.drop 23 = dktX1_moves_1 := dk_seg dksX1_moves_0 23 rfl rfl
theorem dksX1_moves_2 : cX1_moves.data.toList.drop 47 = dktX1_moves_2 := dk_seg dksX1_moves_1 24 rfl rfl
theorem dksX1_moves_3 : cX1_moves.data.toList.drop 71 = dktX1_moves_3 := dk_seg dksX1_moves_2 24 rfl rfl
theorem dksX1_moves_4 : cX1_moves.data.toList.drop 95 = dktX1_moves_4 := dk_seg dksX1_moves_3 24 rfl rfl
theorem dX1_moves_0 : decode cX1_moves 0 = .ok (.iconst 0, 1) := dk_3 (dk_at dksX1_moves_0 0 rfl rfl)
theorem dX1_moves_1 : decode cX1_moves 1 = .ok (.istore_n 2, 1) := dk_61 (dk_at dksX1_moves_0 1 rfl rfl)
theorem dX1_moves_2 : decode cX1_moves 2 = .ok (.iload_n 2, 1) := dk_28 (dk_at dksX1_moves_0 2 rfl rfl)
theorem dX1_moves_3 : decode cX1_moves 3 = .ok (.bipush 12, 2) := dk_16 12 (dk_at dksX1_moves_0 3 rfl rfl)
theorem dX1_moves_5 : decode cX1_moves 5 = .ok (.if_icmp .ge 24, 3) := dk_162 0 24 (dk_at dksX1_moves_0 5 rfl rfl)
theorem dX1_moves_8 : decode cX1_moves 8 = .ok (.aload_n 0, 1) := dk_42 (dk_at dksX1_moves_0 8 rfl rfl)
theorem dX1_moves_9 : decode cX1_moves 9 = .ok (.getfield 11, 3) := dk_180 0 11 (dk_at dksX1_moves_0 9 rfl rfl)
theorem dX1_moves_12 : decode cX1_moves 12 = .ok (.iload_n 2, 1) := dk_28 (dk_at dksX1_moves_0 12 rfl rfl)
theorem dX1_moves_13 : decode cX1_moves 13 = .ok (.aaload, 1) := dk_50 (dk_at dksX1_moves_0 13 rfl rfl)
theorem dX1_moves_14 : decode cX1_moves 14 = .ok (.aload_n 1, 1) := dk_43 (dk_at dksX1_moves_0 14 rfl rfl)
theorem dX1_moves_15 : decode cX1_moves 15 = .ok (.getfield 11, 3) := dk_180 0 11 (dk_at dksX1_moves_0 15 rfl rfl)
theorem dX1_moves_18 : decode cX1_moves 18 = .ok (.iload_n 2, 1) := dk_28 (dk_at dksX1_moves_0 18 rfl rfl)
theorem dX1_moves_19 : decode cX1_moves 19 = .ok (.aaload, 1) := dk_50 (dk_at dksX1_moves_0 19 rfl rfl)
theorem dX1_moves_20 : decode cX1_moves 20 = .ok (.invokevirtual 75, 3) := dk_182 0 75 (dk_at dksX1_moves_0 20 rfl rfl)
theorem dX1_moves_23 : decode cX1_moves 23 = .ok (.iinc 2 1, 3) := dk_132 2 1 (dk_at dksX1_moves_1 0 rfl rfl)
theorem dX1_moves_26 : decode cX1_moves 26 = .ok (.goto (-24), 3) := dk_167 255 232 (dk_at dksX1_moves_1 3 rfl rfl)
theorem dX1_moves_29 : decode cX1_moves 29 = .ok (.iconst 0, 1) := dk_3 (dk_at dksX1_moves_1 6 rfl rfl)
theorem dX1_moves_30 : decode cX1_moves 30 = .ok (.istore_n 2, 1) := dk_61 (dk_at dksX1_moves_1 7 rfl rfl)
theorem dX1_moves_31 : decode cX1_moves 31 = .ok (.iload_n 2, 1) := dk_28 (dk_at dksX1_moves_1 8 rfl rfl)
theorem dX1_moves_32 : decode cX1_moves 32 = .ok (.bipush 10, 2) := dk_16 10 (dk_at dksX1_moves_1 9 rfl rfl)
theorem dX1_moves_34 : decode cX1_moves 34 = .ok (.if_icmp .ge 24, 3) := dk_162 0 24 (dk_at dksX1_moves_1 11 rfl rfl)
theorem dX1_moves_37 : decode cX1_moves 37 = .ok (.aload_n 0, 1) := dk_42 (dk_at dksX1_moves_1 14 rfl rfl)
theorem dX1_moves_38 : decode cX1_moves 38 = .ok (.getfield 19, 3) := dk_180 0 19 (dk_at dksX1_moves_1 15 rfl rfl)
theorem dX1_moves_41 : decode cX1_moves 41 = .ok (.iload_n 2, 1) := dk_28 (dk_at dksX1_moves_1 18 rfl rfl)
theorem dX1_moves_42 : decode cX1_moves 42 = .ok (.aaload, 1) := dk_50 (dk_at dksX1_moves_1 19 rfl rfl)
theorem dX1_moves_43 : decode cX1_moves 43 = .ok (.aload_n 1, 1) := dk_43 (dk_at dksX1_moves_1 20 rfl rfl)
theorem dX1_moves_44 : decode cX1_moves 44 = .ok (.getfield 19, 3) := dk_180 0 19 (dk_at dksX1_moves_1 21 rfl rfl)
theorem dX1_moves_47 : decode cX1_moves 47 = .ok (.iload_n 2, 1) := dk_28 (dk_at dksX1_moves_2 0 rfl rfl)
theorem dX1_moves_48 : decode cX1_moves 48 = .ok (.aaload, 1) := dk_50 (dk_at dksX1_moves_2 1 rfl rfl)
theorem dX1_moves_49 : decode cX1_moves 49 = .ok (.invokevirtual 79, 3) := dk_182 0 79 (dk_at dksX1_moves_2 2 rfl rfl)
theorem dX1_moves_52 : decode cX1_moves 52 = .ok (.iinc 2 1, 3) := dk_132 2 1 (dk_at dksX1_moves_2 5 rfl rfl)
theorem dX1_moves_55 : decode cX1_moves 55 = .ok (.goto (-24), 3) := dk_167 255 232 (dk_at dksX1_moves_2 8 rfl rfl)
theorem dX1_moves_58 : decode cX1_moves 58 = .ok (.aload_n 0, 1) := dk_42 (dk_at dksX1_moves_2 11 rfl rfl)
theorem dX1_moves_59 : decode cX1_moves 59 = .ok (.aload_n 1, 1) := dk_43 (dk_at dksX1_moves_2 12 rfl rfl)
theorem dX1_moves_60 : decode cX1_moves 60 = .ok (.getfield 82, 3) := dk_180 0 82 (dk_at dksX1_moves_2 13 rfl rfl)
theorem dX1_moves_63 : decode cX1_moves 63 = .ok (.putfield 82, 3) := dk_181 0 82 (dk_at dksX1_moves_2 16 rfl rfl)
theorem dX1_moves_66 : decode cX1_moves 66 = .ok (.aload_n 0, 1) := dk_42 (dk_at dksX1_moves_2 19 rfl rfl)
theorem dX1_moves_67 : decode cX1_moves 67 = .ok (.aload_n 1, 1) := dk_43 (dk_at dksX1_moves_2 20 rfl rfl)
theorem dX1_moves_68 : decode cX1_moves 68 = .ok (.getfield 86, 3) := dk_180 0 86 (dk_at dksX1_moves_2 21 rfl rfl)
theorem dX1_moves_71 : decode cX1_moves 71 = .ok (.putfield 86, 3) := dk_181 0 86 (dk_at dksX1_moves_3 0 rfl rfl)
theorem dX1_moves_74 : decode cX1_moves 74 = .ok (.aload_n 0, 1) := dk_42 (dk_at dksX1_moves_3 3 rfl rfl)
theorem dX1_moves_75 : decode cX1_moves 75 = .ok (.aload_n 1, 1) := dk_43 (dk_at dksX1_moves_3 4 rfl rfl)
theorem dX1_moves_76 : decode cX1_moves 76 = .ok (.getfield 89, 3) := dk_180 0 89 (dk_at dksX1_moves_3 5 rfl rfl)
theorem dX1_moves_79 : decode cX1_moves 79 = .ok (.putfield 89, 3) := dk_181 0 89 (dk_at dksX1_moves_3 8 rfl rfl)
theorem dX1_moves_82 : decode cX1_moves 82 = .ok (.aload_n 0, 1) := dk_42 (dk_at dksX1_moves_3 11 rfl rfl)
theorem dX1_moves_83 : decode cX1_moves 83 = .ok (.aload_n 1, 1) := dk_43 (dk_at dksX1_moves_3 12 rfl rfl)
theorem dX1_moves_84 : decode cX1_moves 84 = .ok (.getfield 92, 3) := dk_180 0 92 (dk_at dksX1_moves_3 13 rfl rfl)
theorem dX1_moves_87 : decode cX1_moves 87 = .ok (.putfield 92, 3) := dk_181 0 92 (dk_at dksX1_moves_3 16 rfl rfl)
theorem dX1_moves_90 : decode cX1_moves 90 = .ok (.aload_n 0, 1) := dk_42 (dk_at dksX1_moves_3 19 rfl rfl)
theorem dX1_moves_91 : decode cX1_moves 91 = .ok (.aload_n 1, 1) := dk_43 (dk_at dksX1_moves_3 20 rfl rfl)
theorem dX1_moves_92 : decode cX1_moves 92 = .ok (.getfield 95, 3) := dk_180 0 95 (dk_at dksX1_moves_3 21 rfl rfl)
theorem dX1_moves_95 : decode cX1_moves 95 = .ok (.putfield 95, 3) := dk_181 0 95 (dk_at dksX1_moves_4 0 rfl rfl)
theorem dX1_moves_98 : decode cX1_moves 98 = .ok (.return_, 1) := dk_177 (dk_at dksX1_moves_4 3 rfl rfl)
abbrev cX1_canBuy : ByteArray := prog_12_method_13_code
def yX1_canBuy : MethodName := ⟨RX1, "canBuy", "(IIII)Z"⟩
def dkwX1_canBuy_3 : List UInt8 := [27, 182, 0, 207, 161, 0, 7, 4, 167, 0, 4, 3, 172]
abbrev dktX1_canBuy_3 : List UInt8 := dkwX1_canBuy_3 ++ []
def dkwX1_canBuy_2 : List UInt8 := [180, 0, 26, 25, 5, 180, 0, 196, 27, 21, 4, 29, 25, 5, 182, 0, 203, 29, 42, 25, 5, 180, 0, 196]
abbrev dktX1_canBuy_2 : List UInt8 := dkwX1_canBuy_2 ++ dktX1_canBuy_3
def dkwX1_canBuy_1 : List UInt8 := [182, 0, 199, 154, 0, 16, 29, 42, 180, 0, 11, 27, 50, 180, 0, 156, 164, 0, 5, 3, 172, 42]
abbrev dktX1_canBuy_1 : List UInt8 := dkwX1_canBuy_1 ++ dktX1_canBuy_2
def dkwX1_canBuy_0 : List UInt8 := [42, 180, 0, 19, 28, 50, 58, 5, 25, 5, 180, 0, 196, 27, 159, 0, 29, 42, 25, 5, 180, 0, 196, 27]
abbrev dktX1_canBuy_0 : List UInt8 := dkwX1_canBuy_0 ++ dktX1_canBuy_1
theorem dksX1_canBuy_0 : cX1_canBuy.data.toList.drop 0 = dktX1_canBuy_0 := by decide +kernel
theorem dksX1_canBuy_1 : cX1_canBuy.data.toList.drop 24 = dktX1_canBuy_1 := dk_seg dksX1_canBuy_0 24 rfl rfl
theorem dksX1_canBuy_2 : cX1_canBuy.data.toList.drop 46 = dktX1_canBuy_2 := dk_seg dksX1_canBuy_1 22 rfl rfl
theorem dksX1_canBuy_3 : cX1_canBuy.data.toList.drop 70 = dktX1_canBuy_3 := dk_seg dksX1_canBuy_2 24 rfl rfl
theorem dX1_canBuy_0 : decode cX1_canBuy 0 = .ok (.aload_n 0, 1) := dk_42 (dk_at dksX1_canBuy_0 0 rfl rfl)
theorem dX1_canBuy_1 : decode cX1_canBuy 1 = .ok (.getfield 19, 3) := dk_180 0 19 (dk_at dksX1_canBuy_0 1 rfl rfl)
theorem dX1_canBuy_4 : decode cX1_canBuy 4 = .ok (.iload_n 2, 1) := dk_28 (dk_at dksX1_canBuy_0 4 rfl rfl)
theorem dX1_canBuy_5 : decode cX1_canBuy 5 = .ok (.aaload, 1) := dk_50 (dk_at dksX1_canBuy_0 5 rfl rfl)
theorem dX1_canBuy_6 : decode cX1_canBuy 6 = .ok (.astore 5, 2) := dk_58 5 (dk_at dksX1_canBuy_0 6 rfl rfl)
theorem dX1_canBuy_8 : decode cX1_canBuy 8 = .ok (.aload 5, 2) := dk_25 5 (dk_at dksX1_canBuy_0 8 rfl rfl)
theorem dX1_canBuy_10 : decode cX1_canBuy 10 = .ok (.getfield 196, 3) := dk_180 0 196 (dk_at dksX1_canBuy_0 10 rfl rfl)
theorem dX1_canBuy_13 : decode cX1_canBuy 13 = .ok (.iload_n 1, 1) := dk_27 (dk_at dksX1_canBuy_0 13 rfl rfl)
theorem dX1_canBuy_14 : decode cX1_canBuy 14 = .ok (.if_icmp .eq 29, 3) := dk_159 0 29 (dk_at dksX1_canBuy_0 14 rfl rfl)
theorem dX1_canBuy_17 : decode cX1_canBuy 17 = .ok (.aload_n 0, 1) := dk_42 (dk_at dksX1_canBuy_0 17 rfl rfl)
theorem dX1_canBuy_18 : decode cX1_canBuy 18 = .ok (.aload 5, 2) := dk_25 5 (dk_at dksX1_canBuy_0 18 rfl rfl)
theorem dX1_canBuy_20 : decode cX1_canBuy 20 = .ok (.getfield 196, 3) := dk_180 0 196 (dk_at dksX1_canBuy_0 20 rfl rfl)
theorem dX1_canBuy_23 : decode cX1_canBuy 23 = .ok (.iload_n 1, 1) := dk_27 (dk_at dksX1_canBuy_0 23 rfl rfl)
theorem dX1_canBuy_24 : decode cX1_canBuy 24 = .ok (.invokevirtual 199, 3) := dk_182 0 199 (dk_at dksX1_canBuy_1 0 rfl rfl)
theorem dX1_canBuy_27 : decode cX1_canBuy 27 = .ok (.ifCond .ne 16, 3) := dk_154 0 16 (dk_at dksX1_canBuy_1 3 rfl rfl)
theorem dX1_canBuy_30 : decode cX1_canBuy 30 = .ok (.iload_n 3, 1) := dk_29 (dk_at dksX1_canBuy_1 6 rfl rfl)
theorem dX1_canBuy_31 : decode cX1_canBuy 31 = .ok (.aload_n 0, 1) := dk_42 (dk_at dksX1_canBuy_1 7 rfl rfl)
theorem dX1_canBuy_32 : decode cX1_canBuy 32 = .ok (.getfield 11, 3) := dk_180 0 11 (dk_at dksX1_canBuy_1 8 rfl rfl)
theorem dX1_canBuy_35 : decode cX1_canBuy 35 = .ok (.iload_n 1, 1) := dk_27 (dk_at dksX1_canBuy_1 11 rfl rfl)
theorem dX1_canBuy_36 : decode cX1_canBuy 36 = .ok (.aaload, 1) := dk_50 (dk_at dksX1_canBuy_1 12 rfl rfl)
theorem dX1_canBuy_37 : decode cX1_canBuy 37 = .ok (.getfield 156, 3) := dk_180 0 156 (dk_at dksX1_canBuy_1 13 rfl rfl)
theorem dX1_canBuy_40 : decode cX1_canBuy 40 = .ok (.if_icmp .le 5, 3) := dk_164 0 5 (dk_at dksX1_canBuy_1 16 rfl rfl)
theorem dX1_canBuy_43 : decode cX1_canBuy 43 = .ok (.iconst 0, 1) := dk_3 (dk_at dksX1_canBuy_1 19 rfl rfl)
theorem dX1_canBuy_44 : decode cX1_canBuy 44 = .ok (.ireturn, 1) := dk_172 (dk_at dksX1_canBuy_1 20 rfl rfl)
theorem dX1_canBuy_45 : decode cX1_canBuy 45 = .ok (.aload_n 0, 1) := dk_42 (dk_at dksX1_canBuy_1 21 rfl rfl)
theorem dX1_canBuy_46 : decode cX1_canBuy 46 = .ok (.getfield 26, 3) := dk_180 0 26 (dk_at dksX1_canBuy_2 0 rfl rfl)
theorem dX1_canBuy_49 : decode cX1_canBuy 49 = .ok (.aload 5, 2) := dk_25 5 (dk_at dksX1_canBuy_2 3 rfl rfl)
theorem dX1_canBuy_51 : decode cX1_canBuy 51 = .ok (.getfield 196, 3) := dk_180 0 196 (dk_at dksX1_canBuy_2 5 rfl rfl)
theorem dX1_canBuy_54 : decode cX1_canBuy 54 = .ok (.iload_n 1, 1) := dk_27 (dk_at dksX1_canBuy_2 8 rfl rfl)
theorem dX1_canBuy_55 : decode cX1_canBuy 55 = .ok (.iload 4, 2) := dk_21 4 (dk_at dksX1_canBuy_2 9 rfl rfl)
theorem dX1_canBuy_57 : decode cX1_canBuy 57 = .ok (.iload_n 3, 1) := dk_29 (dk_at dksX1_canBuy_2 11 rfl rfl)
theorem dX1_canBuy_58 : decode cX1_canBuy 58 = .ok (.aload 5, 2) := dk_25 5 (dk_at dksX1_canBuy_2 12 rfl rfl)
theorem dX1_canBuy_60 : decode cX1_canBuy 60 = .ok (.invokevirtual 203, 3) := dk_182 0 203 (dk_at dksX1_canBuy_2 14 rfl rfl)
theorem dX1_canBuy_63 : decode cX1_canBuy 63 = .ok (.iload_n 3, 1) := dk_29 (dk_at dksX1_canBuy_2 17 rfl rfl)
theorem dX1_canBuy_64 : decode cX1_canBuy 64 = .ok (.aload_n 0, 1) := dk_42 (dk_at dksX1_canBuy_2 18 rfl rfl)
theorem dX1_canBuy_65 : decode cX1_canBuy 65 = .ok (.aload 5, 2) := dk_25 5 (dk_at dksX1_canBuy_2 19 rfl rfl)
theorem dX1_canBuy_67 : decode cX1_canBuy 67 = .ok (.getfield 196, 3) := dk_180 0 196 (dk_at dksX1_canBuy_2 21 rfl rfl)
theorem dX1_canBuy_70 : decode cX1_canBuy 70 = .ok (.iload_n 1, 1) := dk_27 (dk_at dksX1_canBuy_3 0 rfl rfl)
theorem dX1_canBuy_71 : decode cX1_canBuy 71 = .ok (.invokevirtual 207, 3) := dk_182 0 207 (dk_at dksX1_canBuy_3 1 rfl rfl)
theorem dX1_canBuy_74 : decode cX1_canBuy 74 = .ok (.if_icmp .lt 7, 3) := dk_161 0 7 (dk_at dksX1_canBuy_3 4 rfl rfl)
theorem dX1_canBuy_77 : decode cX1_canBuy 77 = .ok (.iconst 1, 1) := dk_4 (dk_at dksX1_canBuy_3 7 rfl rfl)
theorem dX1_canBuy_78 : decode cX1_canBuy 78 = .ok (.goto 4, 3) := dk_167 0 4 (dk_at dksX1_canBuy_3 8 rfl rfl)
theorem dX1_canBuy_81 : decode cX1_canBuy 81 = .ok (.iconst 0, 1) := dk_3 (dk_at dksX1_canBuy_3 11 rfl rfl)
theorem dX1_canBuy_82 : decode cX1_canBuy 82 = .ok (.ireturn, 1) := dk_172 (dk_at dksX1_canBuy_3 12 rfl rfl)
abbrev cX1_isSlung : ByteArray := prog_12_method_12_code
def yX1_isSlung : MethodName := ⟨RX1, "isSlung", "(II)Z"⟩
def dkwX1_isSlung_1 : List UInt8 := [160, 0, 7, 4, 167, 0, 4, 3, 172]
abbrev dktX1_isSlung_1 : List UInt8 := dkwX1_isSlung_1 ++ []
def dkwX1_isSlung_0 : List UInt8 := [42, 180, 0, 11, 27, 50, 180, 0, 193, 5, 159, 0, 16, 42, 180, 0, 11, 28, 50, 180, 0, 193, 5]
abbrev dktX1_isSlung_0 : List UInt8 := dkwX1_isSlung_0 ++ dktX1_isSlung_1
theorem dksX1_isSlung_0 : cX1_isSlung.data.toList.drop 0 = dktX1_isSlung_0 := by decide +kernel
theorem dksX1_isSlung_1 : cX1_isSlung.data.toList.drop 23 = dktX1_isSlung_1 := dk_seg dksX1_isSlung_0 23 rfl rfl
theorem dX1_isSlung_0 : decode cX1_isSlung 0 = .ok (.aload_n 0, 1) := dk_42 (dk_at dksX1_isSlung_0 0 rfl rfl)
theorem dX1_isSlung_1 : decode cX1_isSlung 1 = .ok (.getfield 11, 3) := dk_180 0 11 (dk_at dksX1_isSlung_0 1 rfl rfl)
theorem dX1_isSlung_4 : decode cX1_isSlung 4 = .ok (.iload_n 1, 1) := dk_27 (dk_at dksX1_isSlung_0 4 rfl rfl)
theorem dX1_isSlung_5 : decode cX1_isSlung 5 = .ok (.aaload, 1) := dk_50 (dk_at dksX1_isSlung_0 5 rfl rfl)
theorem dX1_isSlung_6 : decode cX1_isSlung 6 = .ok (.getfield 193, 3) := dk_180 0 193 (dk_at dksX1_isSlung_0 6 rfl rfl)
theorem dX1_isSlung_9 : decode cX1_isSlung 9 = .ok (.iconst 2, 1) := dk_5 (dk_at dksX1_isSlung_0 9 rfl rfl)
theorem dX1_isSlung_10 : decode cX1_isSlung 10 = .ok (.if_icmp .eq 16, 3) := dk_159 0 16 (dk_at dksX1_isSlung_0 10 rfl rfl)
theorem dX1_isSlung_13 : decode cX1_isSlung 13 = .ok (.aload_n 0, 1) := dk_42 (dk_at dksX1_isSlung_0 13 rfl rfl)
theorem dX1_isSlung_14 : decode cX1_isSlung 14 = .ok (.getfield 11, 3) := dk_180 0 11 (dk_at dksX1_isSlung_0 14 rfl rfl)
theorem dX1_isSlung_17 : decode cX1_isSlung 17 = .ok (.iload_n 2, 1) := dk_28 (dk_at dksX1_isSlung_0 17 rfl rfl)
theorem dX1_isSlung_18 : decode cX1_isSlung 18 = .ok (.aaload, 1) := dk_50 (dk_at dksX1_isSlung_0 18 rfl rfl)
theorem dX1_isSlung_19 : decode cX1_isSlung 19 = .ok (.getfield 193, 3) := dk_180 0 193 (dk_at dksX1_isSlung_0 19 rfl rfl)
theorem dX1_isSlung_22 : decode cX1_isSlung 22 = .ok (.iconst 2, 1) := dk_5 (dk_at dksX1_isSlung_0 22 rfl rfl)
theorem dX1_isSlung_23 : decode cX1_isSlung 23 = .ok (.if_icmp .ne 7, 3) := dk_160 0 7 (dk_at dksX1_isSlung_1 0 rfl rfl)
theorem dX1_isSlung_26 : decode cX1_isSlung 26 = .ok (.iconst 1, 1) := dk_4 (dk_at dksX1_isSlung_1 3 rfl rfl)
theorem dX1_isSlung_27 : decode cX1_isSlung 27 = .ok (.goto 4, 3) := dk_167 0 4 (dk_at dksX1_isSlung_1 4 rfl rfl)
theorem dX1_isSlung_30 : decode cX1_isSlung 30 = .ok (.iconst 0, 1) := dk_3 (dk_at dksX1_isSlung_1 7 rfl rfl)
theorem dX1_isSlung_31 : decode cX1_isSlung 31 = .ok (.ireturn, 1) := dk_172 (dk_at dksX1_isSlung_1 8 rfl rfl)
abbrev cX1_asks : ByteArray := prog_12_method_11_code
def yX1_asks : MethodName := ⟨RX1, "asks", "(II)I"⟩
def dkwX1_asks_1 : List UInt8 := [17, 39, 15, 182, 0, 189, 172]
abbrev dktX1_asks_1 : List UInt8 := dkwX1_asks_1 ++ []
def dkwX1_asks_0 : List UInt8 := [42, 16, 9, 27, 28, 2, 42, 180, 0, 26, 180, 0, 147, 16, 10, 42, 180, 0, 26, 180, 0, 141, 104, 100]
abbrev dktX1_asks_0 : List UInt8 := dkwX1_asks_0 ++ dktX1_asks_1
theorem dksX1_asks_0 : cX1_asks.data.toList.drop 0 = dktX1_asks_0 := by decide +kernel
theorem dksX1_asks_1 : cX1_asks.data.toList.drop 24 = dktX1_asks_1 := dk_seg dksX1_asks_0 24 rfl rfl
theorem dX1_asks_0 : decode cX1_asks 0 = .ok (.aload_n 0, 1) := dk_42 (dk_at dksX1_asks_0 0 rfl rfl)
theorem dX1_asks_1 : decode cX1_asks 1 = .ok (.bipush 9, 2) := dk_16 9 (dk_at dksX1_asks_0 1 rfl rfl)
theorem dX1_asks_3 : decode cX1_asks 3 = .ok (.iload_n 1, 1) := dk_27 (dk_at dksX1_asks_0 3 rfl rfl)
theorem dX1_asks_4 : decode cX1_asks 4 = .ok (.iload_n 2, 1) := dk_28 (dk_at dksX1_asks_0 4 rfl rfl)
theorem dX1_asks_5 : decode cX1_asks 5 = .ok (.iconst (-1), 1) := dk_2 (dk_at dksX1_asks_0 5 rfl rfl)
theorem dX1_asks_6 : decode cX1_asks 6 = .ok (.aload_n 0, 1) := dk_42 (dk_at dksX1_asks_0 6 rfl rfl)
theorem dX1_asks_7 : decode cX1_asks 7 = .ok (.getfield 26, 3) := dk_180 0 26 (dk_at dksX1_asks_0 7 rfl rfl)
theorem dX1_asks_10 : decode cX1_asks 10 = .ok (.getfield 147, 3) := dk_180 0 147 (dk_at dksX1_asks_0 10 rfl rfl)
theorem dX1_asks_13 : decode cX1_asks 13 = .ok (.bipush 10, 2) := dk_16 10 (dk_at dksX1_asks_0 13 rfl rfl)
theorem dX1_asks_15 : decode cX1_asks 15 = .ok (.aload_n 0, 1) := dk_42 (dk_at dksX1_asks_0 15 rfl rfl)
theorem dX1_asks_16 : decode cX1_asks 16 = .ok (.getfield 26, 3) := dk_180 0 26 (dk_at dksX1_asks_0 16 rfl rfl)
theorem dX1_asks_19 : decode cX1_asks 19 = .ok (.getfield 141, 3) := dk_180 0 141 (dk_at dksX1_asks_0 19 rfl rfl)
theorem dX1_asks_22 : decode cX1_asks 22 = .ok (.imul, 1) := dk_104 (dk_at dksX1_asks_0 22 rfl rfl)
theorem dX1_asks_23 : decode cX1_asks 23 = .ok (.isub, 1) := dk_100 (dk_at dksX1_asks_0 23 rfl rfl)
theorem dX1_asks_24 : decode cX1_asks 24 = .ok (.sipush 9999, 3) := dk_17 39 15 (dk_at dksX1_asks_1 0 rfl rfl)
theorem dX1_asks_27 : decode cX1_asks 27 = .ok (.invokevirtual 189, 3) := dk_182 0 189 (dk_at dksX1_asks_1 3 rfl rfl)
theorem dX1_asks_30 : decode cX1_asks 30 = .ok (.ireturn, 1) := dk_172 (dk_at dksX1_asks_1 6 rfl rfl)
abbrev cX1_tells : ByteArray := prog_12_method_8_code
def yX1_tells : MethodName := ⟨RX1, "tells", "(IIIIII)I"⟩
def dkwX1_tells_4 : List UInt8 := [132, 7, 1, 167, 255, 181, 21, 5, 3, 21, 6, 184, 0, 185, 172]
abbrev dktX1_tells_4 : List UInt8 := dkwX1_tells_4 ++ []
def dkwX1_tells_3 : List UInt8 := [182, 0, 176, 4, 160, 0, 19, 25, 8, 180, 0, 182, 42, 182, 0, 176, 3, 21, 6, 184, 0, 185, 172]
abbrev dktX1_tells_3 : List UInt8 := dkwX1_tells_3 ++ dktX1_tells_4
def dkwX1_tells_2 : List UInt8 := [25, 8, 180, 0, 169, 27, 160, 0, 40, 25, 8, 180, 0, 172, 198, 0, 16, 25, 8, 180, 0, 172, 42]
abbrev dktX1_tells_2 : List UInt8 := dkwX1_tells_2 ++ dktX1_tells_3
def dkwX1_tells_1 : List UInt8 := [180, 0, 59, 182, 0, 159, 162, 0, 69, 42, 180, 0, 59, 21, 7, 182, 0, 163, 192, 0, 167, 58, 8]
abbrev dktX1_tells_1 : List UInt8 := dkwX1_tells_1 ++ dktX1_tells_2
def dkwX1_tells_0 : List UInt8 := [42, 28, 181, 0, 123, 42, 29, 181, 0, 138, 42, 21, 4, 181, 0, 126, 3, 54, 7, 21, 7, 42]
abbrev dktX1_tells_0 : List UInt8 := dkwX1_tells_0 ++ dktX1_tells_1
theorem dksX1_tells_0 : cX1_tells.data.toList.drop 0 = dktX1_tells_0 := by decide +kernel
theorem dksX1_tells_1 : cX1_tells.data.toList.drop 22 = dktX1_tells_1 := dk_seg dksX1_tells_0 22 rfl rfl
theorem dksX1_tells_2 : cX1_tells.data.toList.drop 45 = dktX1_tells_2 := dk_seg dksX1_tells_1 23 rfl rfl
theorem dksX1_tells_3 : cX1_tells.data.toList.drop 68 = dktX1_tells_3 := dk_seg dksX1_tells_2 23 rfl rfl
theorem dksX1_tells_4 : cX1_tells.data.toList.drop 91 = dktX1_tells_4 := dk_seg dksX1_tells_3 23 rfl rfl
theorem dX1_tells_0 : decode cX1_tells 0 = .ok (.aload_n 0, 1) := dk_42 (dk_at dksX1_tells_0 0 rfl rfl)
theorem dX1_tells_1 : decode cX1_tells 1 = .ok (.iload_n 2, 1) := dk_28 (dk_at dksX1_tells_0 1 rfl rfl)
theorem dX1_tells_2 : decode cX1_tells 2 = .ok (.putfield 123, 3) := dk_181 0 123 (dk_at dksX1_tells_0 2 rfl rfl)
theorem dX1_tells_5 : decode cX1_tells 5 = .ok (.aload_n 0, 1) := dk_42 (dk_at dksX1_tells_0 5 rfl rfl)
theorem dX1_tells_6 : decode cX1_tells 6 = .ok (.iload_n 3, 1) := dk_29 (dk_at dksX1_tells_0 6 rfl rfl)
theorem dX1_tells_7 : decode cX1_tells 7 = .ok (.putfield 138, 3) := dk_181 0 138 (dk_at dksX1_tells_0 7 rfl rfl)
theorem dX1_tells_10 : decode cX1_tells 10 = .ok (.aload_n 0, 1) := dk_42 (dk_at dksX1_tells_0 10 rfl rfl)
theorem dX1_tells_11 : decode cX1_tells 11 = .ok (.iload 4, 2) := dk_21 4 (dk_at dksX1_tells_0 11 rfl rfl)
theorem dX1_tells_13 : decode cX1_tells 13 = .ok (.putfield 126, 3) := dk_181 0 126 (dk_at dksX1_tells_0 13 rfl rfl)
theorem dX1_tells_16 : decode cX1_tells 16 = .ok (.iconst 0, 1) := dk_3 (dk_at dksX1_tells_0 16 rfl rfl)
theorem dX1_tells_17 : decode cX1_tells 17 = .ok (.istore 7, 2) := dk_54 7 (dk_at dksX1_tells_0 17 rfl rfl)
theorem dX1_tells_19 : decode cX1_tells 19 = .ok (.iload 7, 2) := dk_21 7 (dk_at dksX1_tells_0 19 rfl rfl)
theorem dX1_tells_21 : decode cX1_tells 21 = .ok (.aload_n 0, 1) := dk_42 (dk_at dksX1_tells_0 21 rfl rfl)
theorem dX1_tells_22 : decode cX1_tells 22 = .ok (.getfield 59, 3) := dk_180 0 59 (dk_at dksX1_tells_1 0 rfl rfl)
theorem dX1_tells_25 : decode cX1_tells 25 = .ok (.invokevirtual 159, 3) := dk_182 0 159 (dk_at dksX1_tells_1 3 rfl rfl)
theorem dX1_tells_28 : decode cX1_tells 28 = .ok (.if_icmp .ge 69, 3) := dk_162 0 69 (dk_at dksX1_tells_1 6 rfl rfl)
theorem dX1_tells_31 : decode cX1_tells 31 = .ok (.aload_n 0, 1) := dk_42 (dk_at dksX1_tells_1 9 rfl rfl)
theorem dX1_tells_32 : decode cX1_tells 32 = .ok (.getfield 59, 3) := dk_180 0 59 (dk_at dksX1_tells_1 10 rfl rfl)
theorem dX1_tells_35 : decode cX1_tells 35 = .ok (.iload 7, 2) := dk_21 7 (dk_at dksX1_tells_1 13 rfl rfl)
theorem dX1_tells_37 : decode cX1_tells 37 = .ok (.invokevirtual 163, 3) := dk_182 0 163 (dk_at dksX1_tells_1 15 rfl rfl)
theorem dX1_tells_40 : decode cX1_tells 40 = .ok (.checkcast 167, 3) := dk_192 0 167 (dk_at dksX1_tells_1 18 rfl rfl)
theorem dX1_tells_43 : decode cX1_tells 43 = .ok (.astore 8, 2) := dk_58 8 (dk_at dksX1_tells_1 21 rfl rfl)
theorem dX1_tells_45 : decode cX1_tells 45 = .ok (.aload 8, 2) := dk_25 8 (dk_at dksX1_tells_2 0 rfl rfl)
theorem dX1_tells_47 : decode cX1_tells 47 = .ok (.getfield 169, 3) := dk_180 0 169 (dk_at dksX1_tells_2 2 rfl rfl)
theorem dX1_tells_50 : decode cX1_tells 50 = .ok (.iload_n 1, 1) := dk_27 (dk_at dksX1_tells_2 5 rfl rfl)
theorem dX1_tells_51 : decode cX1_tells 51 = .ok (.if_icmp .ne 40, 3) := dk_160 0 40 (dk_at dksX1_tells_2 6 rfl rfl)
theorem dX1_tells_54 : decode cX1_tells 54 = .ok (.aload 8, 2) := dk_25 8 (dk_at dksX1_tells_2 9 rfl rfl)
theorem dX1_tells_56 : decode cX1_tells 56 = .ok (.getfield 172, 3) := dk_180 0 172 (dk_at dksX1_tells_2 11 rfl rfl)
theorem dX1_tells_59 : decode cX1_tells 59 = .ok (.ifnull 16, 3) := dk_198 0 16 (dk_at dksX1_tells_2 14 rfl rfl)
theorem dX1_tells_62 : decode cX1_tells 62 = .ok (.aload 8, 2) := dk_25 8 (dk_at dksX1_tells_2 17 rfl rfl)
theorem dX1_tells_64 : decode cX1_tells 64 = .ok (.getfield 172, 3) := dk_180 0 172 (dk_at dksX1_tells_2 19 rfl rfl)
theorem dX1_tells_67 : decode cX1_tells 67 = .ok (.aload_n 0, 1) := dk_42 (dk_at dksX1_tells_2 22 rfl rfl)
theorem dX1_tells_68 : decode cX1_tells 68 = .ok (.invokevirtual 176, 3) := dk_182 0 176 (dk_at dksX1_tells_3 0 rfl rfl)
theorem dX1_tells_71 : decode cX1_tells 71 = .ok (.iconst 1, 1) := dk_4 (dk_at dksX1_tells_3 3 rfl rfl)
theorem dX1_tells_72 : decode cX1_tells 72 = .ok (.if_icmp .ne 19, 3) := dk_160 0 19 (dk_at dksX1_tells_3 4 rfl rfl)
theorem dX1_tells_75 : decode cX1_tells 75 = .ok (.aload 8, 2) := dk_25 8 (dk_at dksX1_tells_3 7 rfl rfl)
theorem dX1_tells_77 : decode cX1_tells 77 = .ok (.getfield 182, 3) := dk_180 0 182 (dk_at dksX1_tells_3 9 rfl rfl)
theorem dX1_tells_80 : decode cX1_tells 80 = .ok (.aload_n 0, 1) := dk_42 (dk_at dksX1_tells_3 12 rfl rfl)
theorem dX1_tells_81 : decode cX1_tells 81 = .ok (.invokevirtual 176, 3) := dk_182 0 176 (dk_at dksX1_tells_3 13 rfl rfl)
theorem dX1_tells_84 : decode cX1_tells 84 = .ok (.iconst 0, 1) := dk_3 (dk_at dksX1_tells_3 16 rfl rfl)
theorem dX1_tells_85 : decode cX1_tells 85 = .ok (.iload 6, 2) := dk_21 6 (dk_at dksX1_tells_3 17 rfl rfl)
theorem dX1_tells_87 : decode cX1_tells 87 = .ok (.invokestatic 185, 3) := dk_184 0 185 (dk_at dksX1_tells_3 19 rfl rfl)
theorem dX1_tells_90 : decode cX1_tells 90 = .ok (.ireturn, 1) := dk_172 (dk_at dksX1_tells_3 22 rfl rfl)
theorem dX1_tells_91 : decode cX1_tells 91 = .ok (.iinc 7 1, 3) := dk_132 7 1 (dk_at dksX1_tells_4 0 rfl rfl)
theorem dX1_tells_94 : decode cX1_tells 94 = .ok (.goto (-75), 3) := dk_167 255 181 (dk_at dksX1_tells_4 3 rfl rfl)
theorem dX1_tells_97 : decode cX1_tells 97 = .ok (.iload 5, 2) := dk_21 5 (dk_at dksX1_tells_4 6 rfl rfl)
theorem dX1_tells_99 : decode cX1_tells 99 = .ok (.iconst 0, 1) := dk_3 (dk_at dksX1_tells_4 8 rfl rfl)
theorem dX1_tells_100 : decode cX1_tells 100 = .ok (.iload 6, 2) := dk_21 6 (dk_at dksX1_tells_4 9 rfl rfl)
theorem dX1_tells_102 : decode cX1_tells 102 = .ok (.invokestatic 185, 3) := dk_184 0 185 (dk_at dksX1_tells_4 11 rfl rfl)
theorem dX1_tells_105 : decode cX1_tells 105 = .ok (.ireturn, 1) := dk_172 (dk_at dksX1_tells_4 14 rfl rfl)
abbrev cX1_fact : ByteArray := prog_12_method_7_code
def yX1_fact : MethodName := ⟨RX1, "fact", "(I)I"⟩
def dkwX1_fact_7 : List UInt8 := [122, 4, 126, 172, 42, 180, 0, 89, 172]
abbrev dktX1_fact_7 : List UInt8 := dkwX1_fact_7 ++ []
def dkwX1_fact_6 : List UInt8 := [172, 44, 180, 0, 153, 172, 44, 180, 0, 156, 172, 42, 180, 0, 69, 42, 180, 0, 123, 46, 42, 180, 0, 138]
abbrev dktX1_fact_6 : List UInt8 := dkwX1_fact_6 ++ dktX1_fact_7
def dkwX1_fact_5 : List UInt8 := [172, 42, 180, 0, 26, 180, 0, 144, 172, 42, 180, 0, 26, 180, 0, 147, 172, 42, 180, 0, 26, 180, 0, 150]
abbrev dktX1_fact_5 : List UInt8 := dkwX1_fact_5 ++ dktX1_fact_6
def dkwX1_fact_4 : List UInt8 := [180, 0, 11, 42, 180, 0, 138, 50, 180, 0, 135, 42, 180, 0, 126, 46, 172, 42, 180, 0, 26, 180, 0, 141]
abbrev dktX1_fact_4 : List UInt8 := dkwX1_fact_4 ++ dktX1_fact_5
def dkwX1_fact_3 : List UInt8 := [180, 0, 135, 42, 180, 0, 126, 46, 172, 42, 180, 0, 126, 2, 160, 0, 7, 3, 167, 0, 20, 42]
abbrev dktX1_fact_3 : List UInt8 := dkwX1_fact_3 ++ dktX1_fact_4
def dkwX1_fact_2 : List UInt8 := [3, 42, 180, 0, 126, 184, 0, 129, 172, 42, 180, 0, 126, 2, 160, 0, 7, 3, 167, 0, 12, 44]
abbrev dktX1_fact_2 : List UInt8 := dkwX1_fact_2 ++ dktX1_fact_3
def dkwX1_fact_1 : List UInt8 := [170, 0, 0, 0, 173, 0, 0, 0, 0, 0, 0, 0, 9, 0, 0, 0, 53, 0, 0, 0, 62, 0, 0, 0, 84, 0, 0, 0, 114, 0, 0, 0, 122, 0, 0, 0, 130, 0, 0, 0, 138, 0, 0, 0, 146, 0, 0, 0, 151, 0, 0, 0, 156]
abbrev dktX1_fact_1 : List UInt8 := dkwX1_fact_1 ++ dktX1_fact_2
def dkwX1_fact_0 : List UInt8 := [42, 180, 0, 11, 42, 180, 0, 123, 50, 77, 27]
abbrev dktX1_fact_0 : List UInt8 := dkwX1_fact_0 ++ dktX1_fact_1
theorem dksX1_fact_0 : cX1_fact.data.toList.drop 0 = dktX1_fact_0 := by decide +kernel
theorem dksX1_fact_1 : cX1_fact.data.toList.drop 11 = dktX1_fact_1 := dk_seg dksX1_fact_0 11 rfl rfl
theorem dksX1_fact_2 : cX1_fact.data.toList.drop 64 = dktX1_fact_2 := dk_seg dksX1_fact_1 53 rfl rfl
theorem dksX1_fact_3 : cX1_fact.data.toList.drop 86 = dktX1_fact_3 := dk_seg dksX1_fact_2 22 rfl rfl
theorem dksX1_fact_4 : cX1_fact.data.toList.drop 108 = dktX1_fact_4 := dk_seg dksX1_fact_3 22 rfl rfl
theorem dksX1_fact_5 : cX1_fact.data.toList.drop 132 = dktX1_fact_5 := dk_seg dksX1_fact_4 24 rfl rfl
theorem dksX1_fact_6 : cX1_fact.data.toList.drop 156 = dktX1_fact_6 := dk_seg dksX1_fact_5 24 rfl rfl
theorem dksX1_fact_7 : cX1_fact.data.toList.drop 180 = dktX1_fact_7 := dk_seg dksX1_fact_6 24 rfl rfl
theorem dX1_fact_0 : decode cX1_fact 0 = .ok (.aload_n 0, 1) := dk_42 (dk_at dksX1_fact_0 0 rfl rfl)
theorem dX1_fact_1 : decode cX1_fact 1 = .ok (.getfield 11, 3) := dk_180 0 11 (dk_at dksX1_fact_0 1 rfl rfl)
theorem dX1_fact_4 : decode cX1_fact 4 = .ok (.aload_n 0, 1) := dk_42 (dk_at dksX1_fact_0 4 rfl rfl)
theorem dX1_fact_5 : decode cX1_fact 5 = .ok (.getfield 123, 3) := dk_180 0 123 (dk_at dksX1_fact_0 5 rfl rfl)
theorem dX1_fact_8 : decode cX1_fact 8 = .ok (.aaload, 1) := dk_50 (dk_at dksX1_fact_0 8 rfl rfl)
theorem dX1_fact_9 : decode cX1_fact 9 = .ok (.astore_n 2, 1) := dk_77 (dk_at dksX1_fact_0 9 rfl rfl)
theorem dX1_fact_10 : decode cX1_fact 10 = .ok (.iload_n 1, 1) := dk_27 (dk_at dksX1_fact_0 10 rfl rfl)
theorem dX1_fact_11 : decode cX1_fact 11 = .ok (.tableswitch 173 0 9 #[53, 62, 84, 114, 122, 130, 138, 146, 151, 156], 53) := by decide +kernel
theorem dX1_fact_64 : decode cX1_fact 64 = .ok (.iconst 0, 1) := dk_3 (dk_at dksX1_fact_2 0 rfl rfl)
theorem dX1_fact_65 : decode cX1_fact 65 = .ok (.aload_n 0, 1) := dk_42 (dk_at dksX1_fact_2 1 rfl rfl)
theorem dX1_fact_66 : decode cX1_fact 66 = .ok (.getfield 126, 3) := dk_180 0 126 (dk_at dksX1_fact_2 2 rfl rfl)
theorem dX1_fact_69 : decode cX1_fact 69 = .ok (.invokestatic 129, 3) := dk_184 0 129 (dk_at dksX1_fact_2 5 rfl rfl)
theorem dX1_fact_72 : decode cX1_fact 72 = .ok (.ireturn, 1) := dk_172 (dk_at dksX1_fact_2 8 rfl rfl)
theorem dX1_fact_73 : decode cX1_fact 73 = .ok (.aload_n 0, 1) := dk_42 (dk_at dksX1_fact_2 9 rfl rfl)
theorem dX1_fact_74 : decode cX1_fact 74 = .ok (.getfield 126, 3) := dk_180 0 126 (dk_at dksX1_fact_2 10 rfl rfl)
theorem dX1_fact_77 : decode cX1_fact 77 = .ok (.iconst (-1), 1) := dk_2 (dk_at dksX1_fact_2 13 rfl rfl)
theorem dX1_fact_78 : decode cX1_fact 78 = .ok (.if_icmp .ne 7, 3) := dk_160 0 7 (dk_at dksX1_fact_2 14 rfl rfl)
theorem dX1_fact_81 : decode cX1_fact 81 = .ok (.iconst 0, 1) := dk_3 (dk_at dksX1_fact_2 17 rfl rfl)
theorem dX1_fact_82 : decode cX1_fact 82 = .ok (.goto 12, 3) := dk_167 0 12 (dk_at dksX1_fact_2 18 rfl rfl)
theorem dX1_fact_85 : decode cX1_fact 85 = .ok (.aload_n 2, 1) := dk_44 (dk_at dksX1_fact_2 21 rfl rfl)
theorem dX1_fact_86 : decode cX1_fact 86 = .ok (.getfield 135, 3) := dk_180 0 135 (dk_at dksX1_fact_3 0 rfl rfl)
theorem dX1_fact_89 : decode cX1_fact 89 = .ok (.aload_n 0, 1) := dk_42 (dk_at dksX1_fact_3 3 rfl rfl)
theorem dX1_fact_90 : decode cX1_fact 90 = .ok (.getfield 126, 3) := dk_180 0 126 (dk_at dksX1_fact_3 4 rfl rfl)
theorem dX1_fact_93 : decode cX1_fact 93 = .ok (.iaload, 1) := dk_46 (dk_at dksX1_fact_3 7 rfl rfl)
theorem dX1_fact_94 : decode cX1_fact 94 = .ok (.ireturn, 1) := dk_172 (dk_at dksX1_fact_3 8 rfl rfl)
theorem dX1_fact_95 : decode cX1_fact 95 = .ok (.aload_n 0, 1) := dk_42 (dk_at dksX1_fact_3 9 rfl rfl)
theorem dX1_fact_96 : decode cX1_fact 96 = .ok (.getfield 126, 3) := dk_180 0 126 (dk_at dksX1_fact_3 10 rfl rfl)
theorem dX1_fact_99 : decode cX1_fact 99 = .ok (.iconst (-1), 1) := dk_2 (dk_at dksX1_fact_3 13 rfl rfl)
theorem dX1_fact_100 : decode cX1_fact 100 = .ok (.if_icmp .ne 7, 3) := dk_160 0 7 (dk_at dksX1_fact_3 14 rfl rfl)
theorem dX1_fact_103 : decode cX1_fact 103 = .ok (.iconst 0, 1) := dk_3 (dk_at dksX1_fact_3 17 rfl rfl)
theorem dX1_fact_104 : decode cX1_fact 104 = .ok (.goto 20, 3) := dk_167 0 20 (dk_at dksX1_fact_3 18 rfl rfl)
theorem dX1_fact_107 : decode cX1_fact 107 = .ok (.aload_n 0, 1) := dk_42 (dk_at dksX1_fact_3 21 rfl rfl)
theorem dX1_fact_108 : decode cX1_fact 108 = .ok (.getfield 11, 3) := dk_180 0 11 (dk_at dksX1_fact_4 0 rfl rfl)
theorem dX1_fact_111 : decode cX1_fact 111 = .ok (.aload_n 0, 1) := dk_42 (dk_at dksX1_fact_4 3 rfl rfl)
theorem dX1_fact_112 : decode cX1_fact 112 = .ok (.getfield 138, 3) := dk_180 0 138 (dk_at dksX1_fact_4 4 rfl rfl)
theorem dX1_fact_115 : decode cX1_fact 115 = .ok (.aaload, 1) := dk_50 (dk_at dksX1_fact_4 7 rfl rfl)
theorem dX1_fact_116 : decode cX1_fact 116 = .ok (.getfield 135, 3) := dk_180 0 135 (dk_at dksX1_fact_4 8 rfl rfl)
theorem dX1_fact_119 : decode cX1_fact 119 = .ok (.aload_n 0, 1) := dk_42 (dk_at dksX1_fact_4 11 rfl rfl)
theorem dX1_fact_120 : decode cX1_fact 120 = .ok (.getfield 126, 3) := dk_180 0 126 (dk_at dksX1_fact_4 12 rfl rfl)
theorem dX1_fact_123 : decode cX1_fact 123 = .ok (.iaload, 1) := dk_46 (dk_at dksX1_fact_4 15 rfl rfl)
theorem dX1_fact_124 : decode cX1_fact 124 = .ok (.ireturn, 1) := dk_172 (dk_at dksX1_fact_4 16 rfl rfl)
theorem dX1_fact_125 : decode cX1_fact 125 = .ok (.aload_n 0, 1) := dk_42 (dk_at dksX1_fact_4 17 rfl rfl)
theorem dX1_fact_126 : decode cX1_fact 126 = .ok (.getfield 26, 3) := dk_180 0 26 (dk_at dksX1_fact_4 18 rfl rfl)
theorem dX1_fact_129 : decode cX1_fact 129 = .ok (.getfield 141, 3) := dk_180 0 141 (dk_at dksX1_fact_4 21 rfl rfl)
theorem dX1_fact_132 : decode cX1_fact 132 = .ok (.ireturn, 1) := dk_172 (dk_at dksX1_fact_5 0 rfl rfl)
theorem dX1_fact_133 : decode cX1_fact 133 = .ok (.aload_n 0, 1) := dk_42 (dk_at dksX1_fact_5 1 rfl rfl)
theorem dX1_fact_134 : decode cX1_fact 134 = .ok (.getfield 26, 3) := dk_180 0 26 (dk_at dksX1_fact_5 2 rfl rfl)
theorem dX1_fact_137 : decode cX1_fact 137 = .ok (.getfield 144, 3) := dk_180 0 144 (dk_at dksX1_fact_5 5 rfl rfl)
theorem dX1_fact_140 : decode cX1_fact 140 = .ok (.ireturn, 1) := dk_172 (dk_at dksX1_fact_5 8 rfl rfl)
theorem dX1_fact_141 : decode cX1_fact 141 = .ok (.aload_n 0, 1) := dk_42 (dk_at dksX1_fact_5 9 rfl rfl)
theorem dX1_fact_142 : decode cX1_fact 142 = .ok (.getfield 26, 3) := dk_180 0 26 (dk_at dksX1_fact_5 10 rfl rfl)
theorem dX1_fact_145 : decode cX1_fact 145 = .ok (.getfield 147, 3) := dk_180 0 147 (dk_at dksX1_fact_5 13 rfl rfl)
theorem dX1_fact_148 : decode cX1_fact 148 = .ok (.ireturn, 1) := dk_172 (dk_at dksX1_fact_5 16 rfl rfl)
theorem dX1_fact_149 : decode cX1_fact 149 = .ok (.aload_n 0, 1) := dk_42 (dk_at dksX1_fact_5 17 rfl rfl)
theorem dX1_fact_150 : decode cX1_fact 150 = .ok (.getfield 26, 3) := dk_180 0 26 (dk_at dksX1_fact_5 18 rfl rfl)
theorem dX1_fact_153 : decode cX1_fact 153 = .ok (.getfield 150, 3) := dk_180 0 150 (dk_at dksX1_fact_5 21 rfl rfl)
theorem dX1_fact_156 : decode cX1_fact 156 = .ok (.ireturn, 1) := dk_172 (dk_at dksX1_fact_6 0 rfl rfl)
theorem dX1_fact_157 : decode cX1_fact 157 = .ok (.aload_n 2, 1) := dk_44 (dk_at dksX1_fact_6 1 rfl rfl)
theorem dX1_fact_158 : decode cX1_fact 158 = .ok (.getfield 153, 3) := dk_180 0 153 (dk_at dksX1_fact_6 2 rfl rfl)
theorem dX1_fact_161 : decode cX1_fact 161 = .ok (.ireturn, 1) := dk_172 (dk_at dksX1_fact_6 5 rfl rfl)
theorem dX1_fact_162 : decode cX1_fact 162 = .ok (.aload_n 2, 1) := dk_44 (dk_at dksX1_fact_6 6 rfl rfl)
theorem dX1_fact_163 : decode cX1_fact 163 = .ok (.getfield 156, 3) := dk_180 0 156 (dk_at dksX1_fact_6 7 rfl rfl)
theorem dX1_fact_166 : decode cX1_fact 166 = .ok (.ireturn, 1) := dk_172 (dk_at dksX1_fact_6 10 rfl rfl)
theorem dX1_fact_167 : decode cX1_fact 167 = .ok (.aload_n 0, 1) := dk_42 (dk_at dksX1_fact_6 11 rfl rfl)
theorem dX1_fact_168 : decode cX1_fact 168 = .ok (.getfield 69, 3) := dk_180 0 69 (dk_at dksX1_fact_6 12 rfl rfl)
theorem dX1_fact_171 : decode cX1_fact 171 = .ok (.aload_n 0, 1) := dk_42 (dk_at dksX1_fact_6 15 rfl rfl)
theorem dX1_fact_172 : decode cX1_fact 172 = .ok (.getfield 123, 3) := dk_180 0 123 (dk_at dksX1_fact_6 16 rfl rfl)
theorem dX1_fact_175 : decode cX1_fact 175 = .ok (.iaload, 1) := dk_46 (dk_at dksX1_fact_6 19 rfl rfl)
theorem dX1_fact_176 : decode cX1_fact 176 = .ok (.aload_n 0, 1) := dk_42 (dk_at dksX1_fact_6 20 rfl rfl)
theorem dX1_fact_177 : decode cX1_fact 177 = .ok (.getfield 138, 3) := dk_180 0 138 (dk_at dksX1_fact_6 21 rfl rfl)
theorem dX1_fact_180 : decode cX1_fact 180 = .ok (.ishr, 1) := dk_122 (dk_at dksX1_fact_7 0 rfl rfl)
theorem dX1_fact_181 : decode cX1_fact 181 = .ok (.iconst 1, 1) := dk_4 (dk_at dksX1_fact_7 1 rfl rfl)
theorem dX1_fact_182 : decode cX1_fact 182 = .ok (.iand, 1) := dk_126 (dk_at dksX1_fact_7 2 rfl rfl)
theorem dX1_fact_183 : decode cX1_fact 183 = .ok (.ireturn, 1) := dk_172 (dk_at dksX1_fact_7 3 rfl rfl)
theorem dX1_fact_184 : decode cX1_fact 184 = .ok (.aload_n 0, 1) := dk_42 (dk_at dksX1_fact_7 4 rfl rfl)
theorem dX1_fact_185 : decode cX1_fact 185 = .ok (.getfield 89, 3) := dk_180 0 89 (dk_at dksX1_fact_7 5 rfl rfl)
theorem dX1_fact_188 : decode cX1_fact 188 = .ok (.ireturn, 1) := dk_172 (dk_at dksX1_fact_7 8 rfl rfl)
abbrev cX1_buys : ByteArray := prog_12_method_19_code
def yX1_buys : MethodName := ⟨RX1, "buys", "(I)I"⟩
def dkwX1_buys_6 : List UInt8 := [182, 0, 238, 42, 21, 4, 182, 0, 249, 172]
abbrev dktX1_buys_6 : List UInt8 := dkwX1_buys_6 ++ []
def dkwX1_buys_5 : List UInt8 := [180, 0, 252, 4, 96, 181, 0, 252, 42, 3, 42, 180, 0, 26, 180, 0, 213, 42, 180, 0, 26, 180, 0, 144]
abbrev dktX1_buys_5 : List UInt8 := dkwX1_buys_5 ++ dktX1_buys_6
def dkwX1_buys_4 : List UInt8 := [180, 0, 19, 27, 50, 42, 180, 0, 26, 180, 0, 213, 181, 0, 196, 42, 180, 0, 19, 27, 50, 89]
abbrev dktX1_buys_4 : List UInt8 := dkwX1_buys_4 ++ dktX1_buys_5
def dkwX1_buys_3 : List UInt8 := [21, 4, 96, 181, 0, 156, 45, 89, 180, 0, 156, 42, 180, 0, 26, 180, 0, 144, 100, 181, 0, 156, 42]
abbrev dktX1_buys_3 : List UInt8 := dkwX1_buys_3 ++ dktX1_buys_4
def dkwX1_buys_2 : List UInt8 := [180, 0, 26, 180, 0, 144, 17, 39, 15, 44, 180, 0, 156, 100, 184, 0, 222, 54, 4, 44, 89, 180, 0, 156]
abbrev dktX1_buys_2 : List UInt8 := dkwX1_buys_2 ++ dktX1_buys_3
def dkwX1_buys_1 : List UInt8 := [50, 78, 44, 89, 180, 0, 153, 4, 96, 181, 0, 153, 45, 89, 180, 0, 153, 4, 96, 181, 0, 153, 42]
abbrev dktX1_buys_1 : List UInt8 := dkwX1_buys_1 ++ dktX1_buys_2
def dkwX1_buys_0 : List UInt8 := [42, 180, 0, 11, 42, 180, 0, 26, 180, 0, 210, 50, 77, 42, 180, 0, 11, 42, 180, 0, 26, 180, 0, 213]
abbrev dktX1_buys_0 : List UInt8 := dkwX1_buys_0 ++ dktX1_buys_1
theorem dksX1_buys_0 : cX1_buys.data.toList.drop 0 = dktX1_buys_0 := by decide +kernel
theorem dksX1_buys_1 : cX1_buys.data.toList.drop 24 = dktX1_buys_1 := dk_seg dksX1_buys_0 24 rfl rfl
theorem dksX1_buys_2 : cX1_buys.data.toList.drop 47 = dktX1_buys_2 := dk_seg dksX1_buys_1 23 rfl rfl
theorem dksX1_buys_3 : cX1_buys.data.toList.drop 71 = dktX1_buys_3 := dk_seg dksX1_buys_2 24 rfl rfl
theorem dksX1_buys_4 : cX1_buys.data.toList.drop 94 = dktX1_buys_4 := dk_seg dksX1_buys_3 23 rfl rfl
theorem dksX1_buys_5 : cX1_buys.data.toList.drop 116 = dktX1_buys_5 := dk_seg dksX1_buys_4 22 rfl rfl
theorem dksX1_buys_6 : cX1_buys.data.toList.drop 140 = dktX1_buys_6 := dk_seg dksX1_buys_5 24 rfl rfl
theorem dX1_buys_0 : decode cX1_buys 0 = .ok (.aload_n 0, 1) := dk_42 (dk_at dksX1_buys_0 0 rfl rfl)
theorem dX1_buys_1 : decode cX1_buys 1 = .ok (.getfield 11, 3) := dk_180 0 11 (dk_at dksX1_buys_0 1 rfl rfl)
theorem dX1_buys_4 : decode cX1_buys 4 = .ok (.aload_n 0, 1) := dk_42 (dk_at dksX1_buys_0 4 rfl rfl)
theorem dX1_buys_5 : decode cX1_buys 5 = .ok (.getfield 26, 3) := dk_180 0 26 (dk_at dksX1_buys_0 5 rfl rfl)
theorem dX1_buys_8 : decode cX1_buys 8 = .ok (.getfield 210, 3) := dk_180 0 210 (dk_at dksX1_buys_0 8 rfl rfl)
theorem dX1_buys_11 : decode cX1_buys 11 = .ok (.aaload, 1) := dk_50 (dk_at dksX1_buys_0 11 rfl rfl)
theorem dX1_buys_12 : decode cX1_buys 12 = .ok (.astore_n 2, 1) := dk_77 (dk_at dksX1_buys_0 12 rfl rfl)
theorem dX1_buys_13 : decode cX1_buys 13 = .ok (.aload_n 0, 1) := dk_42 (dk_at dksX1_buys_0 13 rfl rfl)
theorem dX1_buys_14 : decode cX1_buys 14 = .ok (.getfield 11, 3) := dk_180 0 11 (dk_at dksX1_buys_0 14 rfl rfl)
theorem dX1_buys_17 : decode cX1_buys 17 = .ok (.aload_n 0, 1) := dk_42 (dk_at dksX1_buys_0 17 rfl rfl)
theorem dX1_buys_18 : decode cX1_buys 18 = .ok (.getfield 26, 3) := dk_180 0 26 (dk_at dksX1_buys_0 18 rfl rfl)
theorem dX1_buys_21 : decode cX1_buys 21 = .ok (.getfield 213, 3) := dk_180 0 213 (dk_at dksX1_buys_0 21 rfl rfl)
theorem dX1_buys_24 : decode cX1_buys 24 = .ok (.aaload, 1) := dk_50 (dk_at dksX1_buys_1 0 rfl rfl)
theorem dX1_buys_25 : decode cX1_buys 25 = .ok (.astore_n 3, 1) := dk_78 (dk_at dksX1_buys_1 1 rfl rfl)
theorem dX1_buys_26 : decode cX1_buys 26 = .ok (.aload_n 2, 1) := dk_44 (dk_at dksX1_buys_1 2 rfl rfl)
theorem dX1_buys_27 : decode cX1_buys 27 = .ok (.dup, 1) := dk_89 (dk_at dksX1_buys_1 3 rfl rfl)
theorem dX1_buys_28 : decode cX1_buys 28 = .ok (.getfield 153, 3) := dk_180 0 153 (dk_at dksX1_buys_1 4 rfl rfl)
theorem dX1_buys_31 : decode cX1_buys 31 = .ok (.iconst 1, 1) := dk_4 (dk_at dksX1_buys_1 7 rfl rfl)
theorem dX1_buys_32 : decode cX1_buys 32 = .ok (.iadd, 1) := dk_96 (dk_at dksX1_buys_1 8 rfl rfl)
theorem dX1_buys_33 : decode cX1_buys 33 = .ok (.putfield 153, 3) := dk_181 0 153 (dk_at dksX1_buys_1 9 rfl rfl)
theorem dX1_buys_36 : decode cX1_buys 36 = .ok (.aload_n 3, 1) := dk_45 (dk_at dksX1_buys_1 12 rfl rfl)
theorem dX1_buys_37 : decode cX1_buys 37 = .ok (.dup, 1) := dk_89 (dk_at dksX1_buys_1 13 rfl rfl)
theorem dX1_buys_38 : decode cX1_buys 38 = .ok (.getfield 153, 3) := dk_180 0 153 (dk_at dksX1_buys_1 14 rfl rfl)
theorem dX1_buys_41 : decode cX1_buys 41 = .ok (.iconst 1, 1) := dk_4 (dk_at dksX1_buys_1 17 rfl rfl)
theorem dX1_buys_42 : decode cX1_buys 42 = .ok (.iadd, 1) := dk_96 (dk_at dksX1_buys_1 18 rfl rfl)
theorem dX1_buys_43 : decode cX1_buys 43 = .ok (.putfield 153, 3) := dk_181 0 153 (dk_at dksX1_buys_1 19 rfl rfl)
theorem dX1_buys_46 : decode cX1_buys 46 = .ok (.aload_n 0, 1) := dk_42 (dk_at dksX1_buys_1 22 rfl rfl)
theorem dX1_buys_47 : decode cX1_buys 47 = .ok (.getfield 26, 3) := dk_180 0 26 (dk_at dksX1_buys_2 0 rfl rfl)
theorem dX1_buys_50 : decode cX1_buys 50 = .ok (.getfield 144, 3) := dk_180 0 144 (dk_at dksX1_buys_2 3 rfl rfl)
theorem dX1_buys_53 : decode cX1_buys 53 = .ok (.sipush 9999, 3) := dk_17 39 15 (dk_at dksX1_buys_2 6 rfl rfl)
theorem dX1_buys_56 : decode cX1_buys 56 = .ok (.aload_n 2, 1) := dk_44 (dk_at dksX1_buys_2 9 rfl rfl)
theorem dX1_buys_57 : decode cX1_buys 57 = .ok (.getfield 156, 3) := dk_180 0 156 (dk_at dksX1_buys_2 10 rfl rfl)
theorem dX1_buys_60 : decode cX1_buys 60 = .ok (.isub, 1) := dk_100 (dk_at dksX1_buys_2 13 rfl rfl)
theorem dX1_buys_61 : decode cX1_buys 61 = .ok (.invokestatic 222, 3) := dk_184 0 222 (dk_at dksX1_buys_2 14 rfl rfl)
theorem dX1_buys_64 : decode cX1_buys 64 = .ok (.istore 4, 2) := dk_54 4 (dk_at dksX1_buys_2 17 rfl rfl)
theorem dX1_buys_66 : decode cX1_buys 66 = .ok (.aload_n 2, 1) := dk_44 (dk_at dksX1_buys_2 19 rfl rfl)
theorem dX1_buys_67 : decode cX1_buys 67 = .ok (.dup, 1) := dk_89 (dk_at dksX1_buys_2 20 rfl rfl)
theorem dX1_buys_68 : decode cX1_buys 68 = .ok (.getfield 156, 3) := dk_180 0 156 (dk_at dksX1_buys_2 21 rfl rfl)
theorem dX1_buys_71 : decode cX1_buys 71 = .ok (.iload 4, 2) := dk_21 4 (dk_at dksX1_buys_3 0 rfl rfl)
theorem dX1_buys_73 : decode cX1_buys 73 = .ok (.iadd, 1) := dk_96 (dk_at dksX1_buys_3 2 rfl rfl)
theorem dX1_buys_74 : decode cX1_buys 74 = .ok (.putfield 156, 3) := dk_181 0 156 (dk_at dksX1_buys_3 3 rfl rfl)
theorem dX1_buys_77 : decode cX1_buys 77 = .ok (.aload_n 3, 1) := dk_45 (dk_at dksX1_buys_3 6 rfl rfl)
theorem dX1_buys_78 : decode cX1_buys 78 = .ok (.dup, 1) := dk_89 (dk_at dksX1_buys_3 7 rfl rfl)
theorem dX1_buys_79 : decode cX1_buys 79 = .ok (.getfield 156, 3) := dk_180 0 156 (dk_at dksX1_buys_3 8 rfl rfl)
theorem dX1_buys_82 : decode cX1_buys 82 = .ok (.aload_n 0, 1) := dk_42 (dk_at dksX1_buys_3 11 rfl rfl)
theorem dX1_buys_83 : decode cX1_buys 83 = .ok (.getfield 26, 3) := dk_180 0 26 (dk_at dksX1_buys_3 12 rfl rfl)
theorem dX1_buys_86 : decode cX1_buys 86 = .ok (.getfield 144, 3) := dk_180 0 144 (dk_at dksX1_buys_3 15 rfl rfl)
theorem dX1_buys_89 : decode cX1_buys 89 = .ok (.isub, 1) := dk_100 (dk_at dksX1_buys_3 18 rfl rfl)
theorem dX1_buys_90 : decode cX1_buys 90 = .ok (.putfield 156, 3) := dk_181 0 156 (dk_at dksX1_buys_3 19 rfl rfl)
theorem dX1_buys_93 : decode cX1_buys 93 = .ok (.aload_n 0, 1) := dk_42 (dk_at dksX1_buys_3 22 rfl rfl)
theorem dX1_buys_94 : decode cX1_buys 94 = .ok (.getfield 19, 3) := dk_180 0 19 (dk_at dksX1_buys_4 0 rfl rfl)
theorem dX1_buys_97 : decode cX1_buys 97 = .ok (.iload_n 1, 1) := dk_27 (dk_at dksX1_buys_4 3 rfl rfl)
theorem dX1_buys_98 : decode cX1_buys 98 = .ok (.aaload, 1) := dk_50 (dk_at dksX1_buys_4 4 rfl rfl)
theorem dX1_buys_99 : decode cX1_buys 99 = .ok (.aload_n 0, 1) := dk_42 (dk_at dksX1_buys_4 5 rfl rfl)
theorem dX1_buys_100 : decode cX1_buys 100 = .ok (.getfield 26, 3) := dk_180 0 26 (dk_at dksX1_buys_4 6 rfl rfl)
theorem dX1_buys_103 : decode cX1_buys 103 = .ok (.getfield 213, 3) := dk_180 0 213 (dk_at dksX1_buys_4 9 rfl rfl)
theorem dX1_buys_106 : decode cX1_buys 106 = .ok (.putfield 196, 3) := dk_181 0 196 (dk_at dksX1_buys_4 12 rfl rfl)
theorem dX1_buys_109 : decode cX1_buys 109 = .ok (.aload_n 0, 1) := dk_42 (dk_at dksX1_buys_4 15 rfl rfl)
theorem dX1_buys_110 : decode cX1_buys 110 = .ok (.getfield 19, 3) := dk_180 0 19 (dk_at dksX1_buys_4 16 rfl rfl)
theorem dX1_buys_113 : decode cX1_buys 113 = .ok (.iload_n 1, 1) := dk_27 (dk_at dksX1_buys_4 19 rfl rfl)
theorem dX1_buys_114 : decode cX1_buys 114 = .ok (.aaload, 1) := dk_50 (dk_at dksX1_buys_4 20 rfl rfl)
theorem dX1_buys_115 : decode cX1_buys 115 = .ok (.dup, 1) := dk_89 (dk_at dksX1_buys_4 21 rfl rfl)
theorem dX1_buys_116 : decode cX1_buys 116 = .ok (.getfield 252, 3) := dk_180 0 252 (dk_at dksX1_buys_5 0 rfl rfl)
theorem dX1_buys_119 : decode cX1_buys 119 = .ok (.iconst 1, 1) := dk_4 (dk_at dksX1_buys_5 3 rfl rfl)
theorem dX1_buys_120 : decode cX1_buys 120 = .ok (.iadd, 1) := dk_96 (dk_at dksX1_buys_5 4 rfl rfl)
theorem dX1_buys_121 : decode cX1_buys 121 = .ok (.putfield 252, 3) := dk_181 0 252 (dk_at dksX1_buys_5 5 rfl rfl)
theorem dX1_buys_124 : decode cX1_buys 124 = .ok (.aload_n 0, 1) := dk_42 (dk_at dksX1_buys_5 8 rfl rfl)
theorem dX1_buys_125 : decode cX1_buys 125 = .ok (.iconst 0, 1) := dk_3 (dk_at dksX1_buys_5 9 rfl rfl)
theorem dX1_buys_126 : decode cX1_buys 126 = .ok (.aload_n 0, 1) := dk_42 (dk_at dksX1_buys_5 10 rfl rfl)
theorem dX1_buys_127 : decode cX1_buys 127 = .ok (.getfield 26, 3) := dk_180 0 26 (dk_at dksX1_buys_5 11 rfl rfl)
theorem dX1_buys_130 : decode cX1_buys 130 = .ok (.getfield 213, 3) := dk_180 0 213 (dk_at dksX1_buys_5 14 rfl rfl)
theorem dX1_buys_133 : decode cX1_buys 133 = .ok (.aload_n 0, 1) := dk_42 (dk_at dksX1_buys_5 17 rfl rfl)
theorem dX1_buys_134 : decode cX1_buys 134 = .ok (.getfield 26, 3) := dk_180 0 26 (dk_at dksX1_buys_5 18 rfl rfl)
theorem dX1_buys_137 : decode cX1_buys 137 = .ok (.getfield 144, 3) := dk_180 0 144 (dk_at dksX1_buys_5 21 rfl rfl)
theorem dX1_buys_140 : decode cX1_buys 140 = .ok (.invokevirtual 238, 3) := dk_182 0 238 (dk_at dksX1_buys_6 0 rfl rfl)
theorem dX1_buys_143 : decode cX1_buys 143 = .ok (.aload_n 0, 1) := dk_42 (dk_at dksX1_buys_6 3 rfl rfl)
theorem dX1_buys_144 : decode cX1_buys 144 = .ok (.iload 4, 2) := dk_21 4 (dk_at dksX1_buys_6 4 rfl rfl)
theorem dX1_buys_146 : decode cX1_buys 146 = .ok (.invokevirtual 249, 3) := dk_182 0 249 (dk_at dksX1_buys_6 6 rfl rfl)
theorem dX1_buys_149 : decode cX1_buys 149 = .ok (.ireturn, 1) := dk_172 (dk_at dksX1_buys_6 9 rfl rfl)
abbrev cX1_notes : ByteArray := prog_12_method_6_code
def yX1_notes : MethodName := ⟨RX1, "notes", "(III)V"⟩
def dkwX1_notes_2 : List UInt8 := [25, 4, 6, 29, 79, 42, 89, 180, 0, 95, 4, 96, 181, 0, 95, 177]
abbrev dktX1_notes_2 : List UInt8 := dkwX1_notes_2 ++ []
def dkwX1_notes_1 : List UInt8 := [180, 0, 95, 50, 58, 4, 25, 4, 3, 42, 180, 0, 89, 79, 25, 4, 4, 27, 79, 25, 4, 5, 28, 79]
abbrev dktX1_notes_1 : List UInt8 := dkwX1_notes_1 ++ dktX1_notes_2
def dkwX1_notes_0 : List UInt8 := [42, 180, 0, 119, 154, 0, 13, 42, 180, 0, 95, 17, 0, 150, 160, 0, 4, 177, 42, 180, 0, 32, 42]
abbrev dktX1_notes_0 : List UInt8 := dkwX1_notes_0 ++ dktX1_notes_1
theorem dksX1_notes_0 : cX1_notes.data.toList.drop 0 = dktX1_notes_0 := by decide +kernel
theorem dksX1_notes_1 : cX1_notes.data.toList.drop 23 = dktX1_notes_1 := dk_seg dksX1_notes_0 23 rfl rfl
theorem dksX1_notes_2 : cX1_notes.data.toList.drop 47 = dktX1_notes_2 := dk_seg dksX1_notes_1 24 rfl rfl
theorem dX1_notes_0 : decode cX1_notes 0 = .ok (.aload_n 0, 1) := dk_42 (dk_at dksX1_notes_0 0 rfl rfl)
theorem dX1_notes_1 : decode cX1_notes 1 = .ok (.getfield 119, 3) := dk_180 0 119 (dk_at dksX1_notes_0 1 rfl rfl)
theorem dX1_notes_4 : decode cX1_notes 4 = .ok (.ifCond .ne 13, 3) := dk_154 0 13 (dk_at dksX1_notes_0 4 rfl rfl)
theorem dX1_notes_7 : decode cX1_notes 7 = .ok (.aload_n 0, 1) := dk_42 (dk_at dksX1_notes_0 7 rfl rfl)
theorem dX1_notes_8 : decode cX1_notes 8 = .ok (.getfield 95, 3) := dk_180 0 95 (dk_at dksX1_notes_0 8 rfl rfl)
theorem dX1_notes_11 : decode cX1_notes 11 = .ok (.sipush 150, 3) := dk_17 0 150 (dk_at dksX1_notes_0 11 rfl rfl)
theorem dX1_notes_14 : decode cX1_notes 14 = .ok (.if_icmp .ne 4, 3) := dk_160 0 4 (dk_at dksX1_notes_0 14 rfl rfl)
theorem dX1_notes_17 : decode cX1_notes 17 = .ok (.return_, 1) := dk_177 (dk_at dksX1_notes_0 17 rfl rfl)
theorem dX1_notes_18 : decode cX1_notes 18 = .ok (.aload_n 0, 1) := dk_42 (dk_at dksX1_notes_0 18 rfl rfl)
theorem dX1_notes_19 : decode cX1_notes 19 = .ok (.getfield 32, 3) := dk_180 0 32 (dk_at dksX1_notes_0 19 rfl rfl)
theorem dX1_notes_22 : decode cX1_notes 22 = .ok (.aload_n 0, 1) := dk_42 (dk_at dksX1_notes_0 22 rfl rfl)
theorem dX1_notes_23 : decode cX1_notes 23 = .ok (.getfield 95, 3) := dk_180 0 95 (dk_at dksX1_notes_1 0 rfl rfl)
theorem dX1_notes_26 : decode cX1_notes 26 = .ok (.aaload, 1) := dk_50 (dk_at dksX1_notes_1 3 rfl rfl)
theorem dX1_notes_27 : decode cX1_notes 27 = .ok (.astore 4, 2) := dk_58 4 (dk_at dksX1_notes_1 4 rfl rfl)
theorem dX1_notes_29 : decode cX1_notes 29 = .ok (.aload 4, 2) := dk_25 4 (dk_at dksX1_notes_1 6 rfl rfl)
theorem dX1_notes_31 : decode cX1_notes 31 = .ok (.iconst 0, 1) := dk_3 (dk_at dksX1_notes_1 8 rfl rfl)
theorem dX1_notes_32 : decode cX1_notes 32 = .ok (.aload_n 0, 1) := dk_42 (dk_at dksX1_notes_1 9 rfl rfl)
theorem dX1_notes_33 : decode cX1_notes 33 = .ok (.getfield 89, 3) := dk_180 0 89 (dk_at dksX1_notes_1 10 rfl rfl)
theorem dX1_notes_36 : decode cX1_notes 36 = .ok (.iastore, 1) := dk_79 (dk_at dksX1_notes_1 13 rfl rfl)
theorem dX1_notes_37 : decode cX1_notes 37 = .ok (.aload 4, 2) := dk_25 4 (dk_at dksX1_notes_1 14 rfl rfl)
theorem dX1_notes_39 : decode cX1_notes 39 = .ok (.iconst 1, 1) := dk_4 (dk_at dksX1_notes_1 16 rfl rfl)
theorem dX1_notes_40 : decode cX1_notes 40 = .ok (.iload_n 1, 1) := dk_27 (dk_at dksX1_notes_1 17 rfl rfl)
theorem dX1_notes_41 : decode cX1_notes 41 = .ok (.iastore, 1) := dk_79 (dk_at dksX1_notes_1 18 rfl rfl)
theorem dX1_notes_42 : decode cX1_notes 42 = .ok (.aload 4, 2) := dk_25 4 (dk_at dksX1_notes_1 19 rfl rfl)
theorem dX1_notes_44 : decode cX1_notes 44 = .ok (.iconst 2, 1) := dk_5 (dk_at dksX1_notes_1 21 rfl rfl)
theorem dX1_notes_45 : decode cX1_notes 45 = .ok (.iload_n 2, 1) := dk_28 (dk_at dksX1_notes_1 22 rfl rfl)
theorem dX1_notes_46 : decode cX1_notes 46 = .ok (.iastore, 1) := dk_79 (dk_at dksX1_notes_1 23 rfl rfl)
theorem dX1_notes_47 : decode cX1_notes 47 = .ok (.aload 4, 2) := dk_25 4 (dk_at dksX1_notes_2 0 rfl rfl)
theorem dX1_notes_49 : decode cX1_notes 49 = .ok (.iconst 3, 1) := dk_6 (dk_at dksX1_notes_2 2 rfl rfl)
theorem dX1_notes_50 : decode cX1_notes 50 = .ok (.iload_n 3, 1) := dk_29 (dk_at dksX1_notes_2 3 rfl rfl)
theorem dX1_notes_51 : decode cX1_notes 51 = .ok (.iastore, 1) := dk_79 (dk_at dksX1_notes_2 4 rfl rfl)
theorem dX1_notes_52 : decode cX1_notes 52 = .ok (.aload_n 0, 1) := dk_42 (dk_at dksX1_notes_2 5 rfl rfl)
theorem dX1_notes_53 : decode cX1_notes 53 = .ok (.dup, 1) := dk_89 (dk_at dksX1_notes_2 6 rfl rfl)
theorem dX1_notes_54 : decode cX1_notes 54 = .ok (.getfield 95, 3) := dk_180 0 95 (dk_at dksX1_notes_2 7 rfl rfl)
theorem dX1_notes_57 : decode cX1_notes 57 = .ok (.iconst 1, 1) := dk_4 (dk_at dksX1_notes_2 10 rfl rfl)
theorem dX1_notes_58 : decode cX1_notes 58 = .ok (.iadd, 1) := dk_96 (dk_at dksX1_notes_2 11 rfl rfl)
theorem dX1_notes_59 : decode cX1_notes 59 = .ok (.putfield 95, 3) := dk_181 0 95 (dk_at dksX1_notes_2 12 rfl rfl)
theorem dX1_notes_62 : decode cX1_notes 62 = .ok (.return_, 1) := dk_177 (dk_at dksX1_notes_2 15 rfl rfl)
abbrev cX1_shakes : ByteArray := prog_12_method_17_code
def yX1_shakes : MethodName := ⟨RX1, "shakes", "(I)I"⟩
def dkwX1_shakes_10 : List UInt8 := [42, 180, 0, 26, 180, 0, 210, 182, 0, 238, 3, 172]
abbrev dktX1_shakes_10 : List UInt8 := dkwX1_shakes_10 ++ []
def dkwX1_shakes_9 : List UInt8 := [27, 96, 181, 0, 156, 42, 89, 180, 0, 86, 4, 96, 181, 0, 86, 42, 6, 42, 180, 0, 26, 180, 0, 213]
abbrev dktX1_shakes_9 : List UInt8 := dkwX1_shakes_9 ++ dktX1_shakes_10
def dkwX1_shakes_8 : List UInt8 := [180, 0, 82, 21, 4, 100, 181, 0, 82, 44, 89, 180, 0, 156, 27, 100, 181, 0, 156, 45, 89, 180, 0, 156]
abbrev dktX1_shakes_8 : List UInt8 := dkwX1_shakes_8 ++ dktX1_shakes_9
def dkwX1_shakes_7 : List UInt8 := [3, 54, 6, 21, 6, 8, 162, 0, 16, 42, 21, 6, 2, 182, 0, 228, 132, 6, 1, 167, 255, 240, 42, 89]
abbrev dktX1_shakes_7 : List UInt8 := dkwX1_shakes_7 ++ dktX1_shakes_8
def dkwX1_shakes_6 : List UInt8 := [17, 1, 244, 162, 0, 21, 167, 0, 15, 42, 17, 3, 232, 182, 0, 245, 21, 5, 161, 0, 6, 21, 4, 172]
abbrev dktX1_shakes_6 : List UInt8 := dkwX1_shakes_6 ++ dktX1_shakes_7
def dkwX1_shakes_5 : List UInt8 := [180, 0, 210, 182, 0, 242, 54, 5, 21, 5, 153, 0, 33, 42, 180, 0, 119, 153, 0, 14, 21, 5]
abbrev dktX1_shakes_5 : List UInt8 := dkwX1_shakes_5 ++ dktX1_shakes_6
def dkwX1_shakes_4 : List UInt8 := [180, 0, 26, 180, 0, 210, 21, 4, 182, 0, 238, 42, 42, 180, 0, 26, 180, 0, 213, 42, 180, 0, 26]
abbrev dktX1_shakes_4 : List UInt8 := dkwX1_shakes_4 ++ dktX1_shakes_5
def dkwX1_shakes_3 : List UInt8 := [182, 0, 235, 54, 4, 42, 89, 180, 0, 82, 21, 4, 96, 181, 0, 82, 21, 4, 158, 0, 17, 42, 5, 42]
abbrev dktX1_shakes_3 : List UInt8 := dkwX1_shakes_3 ++ dktX1_shakes_4
def dkwX1_shakes_2 : List UInt8 := [21, 4, 8, 162, 0, 15, 42, 21, 4, 182, 0, 232, 132, 4, 1, 167, 255, 241, 42, 180, 0, 26]
abbrev dktX1_shakes_2 : List UInt8 := dkwX1_shakes_2 ++ dktX1_shakes_3
def dkwX1_shakes_1 : List UInt8 := [50, 78, 44, 180, 0, 193, 4, 159, 0, 11, 45, 180, 0, 193, 4, 160, 0, 5, 3, 172, 3, 54, 4]
abbrev dktX1_shakes_1 : List UInt8 := dkwX1_shakes_1 ++ dktX1_shakes_2
def dkwX1_shakes_0 : List UInt8 := [42, 180, 0, 11, 42, 180, 0, 26, 180, 0, 210, 50, 77, 42, 180, 0, 11, 42, 180, 0, 26, 180, 0, 213]
abbrev dktX1_shakes_0 : List UInt8 := dkwX1_shakes_0 ++ dktX1_shakes_1
theorem dksX1_shakes_0 : cX1_shakes.data.toList.drop 0 = dktX1_shakes_0 := by decide +kernel
theorem dksX1_shakes_1 : cX1_shakes.data.toList.drop 24 = dktX1_shakes_1 := dk_seg dksX1_shakes_0 24 rfl rfl
theorem dksX1_shakes_2 : cX1_shakes.data.toList.drop 47 = dktX1_shakes_2 := dk_seg dksX1_shakes_1 23 rfl rfl
theorem dksX1_shakes_3 : cX1_shakes.data.toList.drop 69 = dktX1_shakes_3 := dk_seg dksX1_shakes_2 22 rfl rfl
theorem dksX1_shakes_4 : cX1_shakes.data.toList.drop 93 = dktX1_shakes_4 := dk_seg dksX1_shakes_3 24 rfl rfl
theorem dksX1_shakes_5 : cX1_shakes.data.toList.drop 116 = dktX1_shakes_5 := dk_seg dksX1_shakes_4 23 rfl rfl
theorem dksX1_shakes_6 : cX1_shakes.data.toList.drop 138 = dktX1_shakes_6 := dk_seg dksX1_shakes_5 22 rfl rfl
theorem dksX1_shakes_7 : cX1_shakes.data.toList.drop 162 = dktX1_shakes_7 := dk_seg dksX1_shakes_6 24 rfl rfl
theorem dksX1_shakes_8 : cX1_shakes.data.toList.drop 186 = dktX1_shakes_8 := dk_seg dksX1_shakes_7 24 rfl rfl
theorem dksX1_shakes_9 : cX1_shakes.data.toList.drop 210 = dktX1_shakes_9 := dk_seg dksX1_shakes_8 24 rfl rfl
theorem dksX1_shakes_10 : cX1_shakes.data.toList.drop 234 = dktX1_shakes_10 := dk_seg dksX1_shakes_9 24 rfl rfl
theorem dX1_shakes_0 : decode cX1_shakes 0 = .ok (.aload_n 0, 1) := dk_42 (dk_at dksX1_shakes_0 0 rfl rfl)
theorem dX1_shakes_1 : decode cX1_shakes 1 = .ok (.getfield 11, 3) := dk_180 0 11 (dk_at dksX1_shakes_0 1 rfl rfl)
theorem dX1_shakes_4 : decode cX1_shakes 4 = .ok (.aload_n 0, 1) := dk_42 (dk_at dksX1_shakes_0 4 rfl rfl)
theorem dX1_shakes_5 : decode cX1_shakes 5 = .ok (.getfield 26, 3) := dk_180 0 26 (dk_at dksX1_shakes_0 5 rfl rfl)
theorem dX1_shakes_8 : decode cX1_shakes 8 = .ok (.getfield 210, 3) := dk_180 0 210 (dk_at dksX1_shakes_0 8 rfl rfl)
theorem dX1_shakes_11 : decode cX1_shakes 11 = .ok (.aaload, 1) := dk_50 (dk_at dksX1_shakes_0 11 rfl rfl)
theorem dX1_shakes_12 : decode cX1_shakes 12 = .ok (.astore_n 2, 1) := dk_77 (dk_at dksX1_shakes_0 12 rfl rfl)
theorem dX1_shakes_13 : decode cX1_shakes 13 = .ok (.aload_n 0, 1) := dk_42 (dk_at dksX1_shakes_0 13 rfl rfl)
theorem dX1_shakes_14 : decode cX1_shakes 14 = .ok (.getfield 11, 3) := dk_180 0 11 (dk_at dksX1_shakes_0 14 rfl rfl)
theorem dX1_shakes_17 : decode cX1_shakes 17 = .ok (.aload_n 0, 1) := dk_42 (dk_at dksX1_shakes_0 17 rfl rfl)
theorem dX1_shakes_18 : decode cX1_shakes 18 = .ok (.getfield 26, 3) := dk_180 0 26 (dk_at dksX1_shakes_0 18 rfl rfl)
theorem dX1_shakes_21 : decode cX1_shakes 21 = .ok (.getfield 213, 3) := dk_180 0 213 (dk_at dksX1_shakes_0 21 rfl rfl)
theorem dX1_shakes_24 : decode cX1_shakes 24 = .ok (.aaload, 1) := dk_50 (dk_at dksX1_shakes_1 0 rfl rfl)
theorem dX1_shakes_25 : decode cX1_shakes 25 = .ok (.astore_n 3, 1) := dk_78 (dk_at dksX1_shakes_1 1 rfl rfl)
theorem dX1_shakes_26 : decode cX1_shakes 26 = .ok (.aload_n 2, 1) := dk_44 (dk_at dksX1_shakes_1 2 rfl rfl)
theorem dX1_shakes_27 : decode cX1_shakes 27 = .ok (.getfield 193, 3) := dk_180 0 193 (dk_at dksX1_shakes_1 3 rfl rfl)
theorem dX1_shakes_30 : decode cX1_shakes 30 = .ok (.iconst 1, 1) := dk_4 (dk_at dksX1_shakes_1 6 rfl rfl)
theorem dX1_shakes_31 : decode cX1_shakes 31 = .ok (.if_icmp .eq 11, 3) := dk_159 0 11 (dk_at dksX1_shakes_1 7 rfl rfl)
theorem dX1_shakes_34 : decode cX1_shakes 34 = .ok (.aload_n 3, 1) := dk_45 (dk_at dksX1_shakes_1 10 rfl rfl)
theorem dX1_shakes_35 : decode cX1_shakes 35 = .ok (.getfield 193, 3) := dk_180 0 193 (dk_at dksX1_shakes_1 11 rfl rfl)
theorem dX1_shakes_38 : decode cX1_shakes 38 = .ok (.iconst 1, 1) := dk_4 (dk_at dksX1_shakes_1 14 rfl rfl)
theorem dX1_shakes_39 : decode cX1_shakes 39 = .ok (.if_icmp .ne 5, 3) := dk_160 0 5 (dk_at dksX1_shakes_1 15 rfl rfl)
theorem dX1_shakes_42 : decode cX1_shakes 42 = .ok (.iconst 0, 1) := dk_3 (dk_at dksX1_shakes_1 18 rfl rfl)
theorem dX1_shakes_43 : decode cX1_shakes 43 = .ok (.ireturn, 1) := dk_172 (dk_at dksX1_shakes_1 19 rfl rfl)
theorem dX1_shakes_44 : decode cX1_shakes 44 = .ok (.iconst 0, 1) := dk_3 (dk_at dksX1_shakes_1 20 rfl rfl)
theorem dX1_shakes_45 : decode cX1_shakes 45 = .ok (.istore 4, 2) := dk_54 4 (dk_at dksX1_shakes_1 21 rfl rfl)
theorem dX1_shakes_47 : decode cX1_shakes 47 = .ok (.iload 4, 2) := dk_21 4 (dk_at dksX1_shakes_2 0 rfl rfl)
theorem dX1_shakes_49 : decode cX1_shakes 49 = .ok (.iconst 5, 1) := dk_8 (dk_at dksX1_shakes_2 2 rfl rfl)
theorem dX1_shakes_50 : decode cX1_shakes 50 = .ok (.if_icmp .ge 15, 3) := dk_162 0 15 (dk_at dksX1_shakes_2 3 rfl rfl)
theorem dX1_shakes_53 : decode cX1_shakes 53 = .ok (.aload_n 0, 1) := dk_42 (dk_at dksX1_shakes_2 6 rfl rfl)
theorem dX1_shakes_54 : decode cX1_shakes 54 = .ok (.iload 4, 2) := dk_21 4 (dk_at dksX1_shakes_2 7 rfl rfl)
theorem dX1_shakes_56 : decode cX1_shakes 56 = .ok (.invokevirtual 232, 3) := dk_182 0 232 (dk_at dksX1_shakes_2 9 rfl rfl)
theorem dX1_shakes_59 : decode cX1_shakes 59 = .ok (.iinc 4 1, 3) := dk_132 4 1 (dk_at dksX1_shakes_2 12 rfl rfl)
theorem dX1_shakes_62 : decode cX1_shakes 62 = .ok (.goto (-15), 3) := dk_167 255 241 (dk_at dksX1_shakes_2 15 rfl rfl)
theorem dX1_shakes_65 : decode cX1_shakes 65 = .ok (.aload_n 0, 1) := dk_42 (dk_at dksX1_shakes_2 18 rfl rfl)
theorem dX1_shakes_66 : decode cX1_shakes 66 = .ok (.getfield 26, 3) := dk_180 0 26 (dk_at dksX1_shakes_2 19 rfl rfl)
theorem dX1_shakes_69 : decode cX1_shakes 69 = .ok (.invokevirtual 235, 3) := dk_182 0 235 (dk_at dksX1_shakes_3 0 rfl rfl)
theorem dX1_shakes_72 : decode cX1_shakes 72 = .ok (.istore 4, 2) := dk_54 4 (dk_at dksX1_shakes_3 3 rfl rfl)
theorem dX1_shakes_74 : decode cX1_shakes 74 = .ok (.aload_n 0, 1) := dk_42 (dk_at dksX1_shakes_3 5 rfl rfl)
theorem dX1_shakes_75 : decode cX1_shakes 75 = .ok (.dup, 1) := dk_89 (dk_at dksX1_shakes_3 6 rfl rfl)
theorem dX1_shakes_76 : decode cX1_shakes 76 = .ok (.getfield 82, 3) := dk_180 0 82 (dk_at dksX1_shakes_3 7 rfl rfl)
theorem dX1_shakes_79 : decode cX1_shakes 79 = .ok (.iload 4, 2) := dk_21 4 (dk_at dksX1_shakes_3 10 rfl rfl)
theorem dX1_shakes_81 : decode cX1_shakes 81 = .ok (.iadd, 1) := dk_96 (dk_at dksX1_shakes_3 12 rfl rfl)
theorem dX1_shakes_82 : decode cX1_shakes 82 = .ok (.putfield 82, 3) := dk_181 0 82 (dk_at dksX1_shakes_3 13 rfl rfl)
theorem dX1_shakes_85 : decode cX1_shakes 85 = .ok (.iload 4, 2) := dk_21 4 (dk_at dksX1_shakes_3 16 rfl rfl)
theorem dX1_shakes_87 : decode cX1_shakes 87 = .ok (.ifCond .le 17, 3) := dk_158 0 17 (dk_at dksX1_shakes_3 18 rfl rfl)
theorem dX1_shakes_90 : decode cX1_shakes 90 = .ok (.aload_n 0, 1) := dk_42 (dk_at dksX1_shakes_3 21 rfl rfl)
theorem dX1_shakes_91 : decode cX1_shakes 91 = .ok (.iconst 2, 1) := dk_5 (dk_at dksX1_shakes_3 22 rfl rfl)
theorem dX1_shakes_92 : decode cX1_shakes 92 = .ok (.aload_n 0, 1) := dk_42 (dk_at dksX1_shakes_3 23 rfl rfl)
theorem dX1_shakes_93 : decode cX1_shakes 93 = .ok (.getfield 26, 3) := dk_180 0 26 (dk_at dksX1_shakes_4 0 rfl rfl)
theorem dX1_shakes_96 : decode cX1_shakes 96 = .ok (.getfield 210, 3) := dk_180 0 210 (dk_at dksX1_shakes_4 3 rfl rfl)
theorem dX1_shakes_99 : decode cX1_shakes 99 = .ok (.iload 4, 2) := dk_21 4 (dk_at dksX1_shakes_4 6 rfl rfl)
theorem dX1_shakes_101 : decode cX1_shakes 101 = .ok (.invokevirtual 238, 3) := dk_182 0 238 (dk_at dksX1_shakes_4 8 rfl rfl)
theorem dX1_shakes_104 : decode cX1_shakes 104 = .ok (.aload_n 0, 1) := dk_42 (dk_at dksX1_shakes_4 11 rfl rfl)
theorem dX1_shakes_105 : decode cX1_shakes 105 = .ok (.aload_n 0, 1) := dk_42 (dk_at dksX1_shakes_4 12 rfl rfl)
theorem dX1_shakes_106 : decode cX1_shakes 106 = .ok (.getfield 26, 3) := dk_180 0 26 (dk_at dksX1_shakes_4 13 rfl rfl)
theorem dX1_shakes_109 : decode cX1_shakes 109 = .ok (.getfield 213, 3) := dk_180 0 213 (dk_at dksX1_shakes_4 16 rfl rfl)
theorem dX1_shakes_112 : decode cX1_shakes 112 = .ok (.aload_n 0, 1) := dk_42 (dk_at dksX1_shakes_4 19 rfl rfl)
theorem dX1_shakes_113 : decode cX1_shakes 113 = .ok (.getfield 26, 3) := dk_180 0 26 (dk_at dksX1_shakes_4 20 rfl rfl)
theorem dX1_shakes_116 : decode cX1_shakes 116 = .ok (.getfield 210, 3) := dk_180 0 210 (dk_at dksX1_shakes_5 0 rfl rfl)
theorem dX1_shakes_119 : decode cX1_shakes 119 = .ok (.invokevirtual 242, 3) := dk_182 0 242 (dk_at dksX1_shakes_5 3 rfl rfl)
theorem dX1_shakes_122 : decode cX1_shakes 122 = .ok (.istore 5, 2) := dk_54 5 (dk_at dksX1_shakes_5 6 rfl rfl)
theorem dX1_shakes_124 : decode cX1_shakes 124 = .ok (.iload 5, 2) := dk_21 5 (dk_at dksX1_shakes_5 8 rfl rfl)
theorem dX1_shakes_126 : decode cX1_shakes 126 = .ok (.ifCond .eq 33, 3) := dk_153 0 33 (dk_at dksX1_shakes_5 10 rfl rfl)
theorem dX1_shakes_129 : decode cX1_shakes 129 = .ok (.aload_n 0, 1) := dk_42 (dk_at dksX1_shakes_5 13 rfl rfl)
theorem dX1_shakes_130 : decode cX1_shakes 130 = .ok (.getfield 119, 3) := dk_180 0 119 (dk_at dksX1_shakes_5 14 rfl rfl)
theorem dX1_shakes_133 : decode cX1_shakes 133 = .ok (.ifCond .eq 14, 3) := dk_153 0 14 (dk_at dksX1_shakes_5 17 rfl rfl)
theorem dX1_shakes_136 : decode cX1_shakes 136 = .ok (.iload 5, 2) := dk_21 5 (dk_at dksX1_shakes_5 20 rfl rfl)
theorem dX1_shakes_138 : decode cX1_shakes 138 = .ok (.sipush 500, 3) := dk_17 1 244 (dk_at dksX1_shakes_6 0 rfl rfl)
theorem dX1_shakes_141 : decode cX1_shakes 141 = .ok (.if_icmp .ge 21, 3) := dk_162 0 21 (dk_at dksX1_shakes_6 3 rfl rfl)
theorem dX1_shakes_144 : decode cX1_shakes 144 = .ok (.goto 15, 3) := dk_167 0 15 (dk_at dksX1_shakes_6 6 rfl rfl)
theorem dX1_shakes_147 : decode cX1_shakes 147 = .ok (.aload_n 0, 1) := dk_42 (dk_at dksX1_shakes_6 9 rfl rfl)
theorem dX1_shakes_148 : decode cX1_shakes 148 = .ok (.sipush 1000, 3) := dk_17 3 232 (dk_at dksX1_shakes_6 10 rfl rfl)
theorem dX1_shakes_151 : decode cX1_shakes 151 = .ok (.invokevirtual 245, 3) := dk_182 0 245 (dk_at dksX1_shakes_6 13 rfl rfl)
theorem dX1_shakes_154 : decode cX1_shakes 154 = .ok (.iload 5, 2) := dk_21 5 (dk_at dksX1_shakes_6 16 rfl rfl)
theorem dX1_shakes_156 : decode cX1_shakes 156 = .ok (.if_icmp .lt 6, 3) := dk_161 0 6 (dk_at dksX1_shakes_6 18 rfl rfl)
theorem dX1_shakes_159 : decode cX1_shakes 159 = .ok (.iload 4, 2) := dk_21 4 (dk_at dksX1_shakes_6 21 rfl rfl)
theorem dX1_shakes_161 : decode cX1_shakes 161 = .ok (.ireturn, 1) := dk_172 (dk_at dksX1_shakes_6 23 rfl rfl)
theorem dX1_shakes_162 : decode cX1_shakes 162 = .ok (.iconst 0, 1) := dk_3 (dk_at dksX1_shakes_7 0 rfl rfl)
theorem dX1_shakes_163 : decode cX1_shakes 163 = .ok (.istore 6, 2) := dk_54 6 (dk_at dksX1_shakes_7 1 rfl rfl)
theorem dX1_shakes_165 : decode cX1_shakes 165 = .ok (.iload 6, 2) := dk_21 6 (dk_at dksX1_shakes_7 3 rfl rfl)
theorem dX1_shakes_167 : decode cX1_shakes 167 = .ok (.iconst 5, 1) := dk_8 (dk_at dksX1_shakes_7 5 rfl rfl)
theorem dX1_shakes_168 : decode cX1_shakes 168 = .ok (.if_icmp .ge 16, 3) := dk_162 0 16 (dk_at dksX1_shakes_7 6 rfl rfl)
theorem dX1_shakes_171 : decode cX1_shakes 171 = .ok (.aload_n 0, 1) := dk_42 (dk_at dksX1_shakes_7 9 rfl rfl)
theorem dX1_shakes_172 : decode cX1_shakes 172 = .ok (.iload 6, 2) := dk_21 6 (dk_at dksX1_shakes_7 10 rfl rfl)
theorem dX1_shakes_174 : decode cX1_shakes 174 = .ok (.iconst (-1), 1) := dk_2 (dk_at dksX1_shakes_7 12 rfl rfl)
theorem dX1_shakes_175 : decode cX1_shakes 175 = .ok (.invokevirtual 228, 3) := dk_182 0 228 (dk_at dksX1_shakes_7 13 rfl rfl)
theorem dX1_shakes_178 : decode cX1_shakes 178 = .ok (.iinc 6 1, 3) := dk_132 6 1 (dk_at dksX1_shakes_7 16 rfl rfl)
theorem dX1_shakes_181 : decode cX1_shakes 181 = .ok (.goto (-16), 3) := dk_167 255 240 (dk_at dksX1_shakes_7 19 rfl rfl)
theorem dX1_shakes_184 : decode cX1_shakes 184 = .ok (.aload_n 0, 1) := dk_42 (dk_at dksX1_shakes_7 22 rfl rfl)
theorem dX1_shakes_185 : decode cX1_shakes 185 = .ok (.dup, 1) := dk_89 (dk_at dksX1_shakes_7 23 rfl rfl)
theorem dX1_shakes_186 : decode cX1_shakes 186 = .ok (.getfield 82, 3) := dk_180 0 82 (dk_at dksX1_shakes_8 0 rfl rfl)
theorem dX1_shakes_189 : decode cX1_shakes 189 = .ok (.iload 4, 2) := dk_21 4 (dk_at dksX1_shakes_8 3 rfl rfl)
theorem dX1_shakes_191 : decode cX1_shakes 191 = .ok (.isub, 1) := dk_100 (dk_at dksX1_shakes_8 5 rfl rfl)
theorem dX1_shakes_192 : decode cX1_shakes 192 = .ok (.putfield 82, 3) := dk_181 0 82 (dk_at dksX1_shakes_8 6 rfl rfl)
theorem dX1_shakes_195 : decode cX1_shakes 195 = .ok (.aload_n 2, 1) := dk_44 (dk_at dksX1_shakes_8 9 rfl rfl)
theorem dX1_shakes_196 : decode cX1_shakes 196 = .ok (.dup, 1) := dk_89 (dk_at dksX1_shakes_8 10 rfl rfl)
theorem dX1_shakes_197 : decode cX1_shakes 197 = .ok (.getfield 156, 3) := dk_180 0 156 (dk_at dksX1_shakes_8 11 rfl rfl)
theorem dX1_shakes_200 : decode cX1_shakes 200 = .ok (.iload_n 1, 1) := dk_27 (dk_at dksX1_shakes_8 14 rfl rfl)
theorem dX1_shakes_201 : decode cX1_shakes 201 = .ok (.isub, 1) := dk_100 (dk_at dksX1_shakes_8 15 rfl rfl)
theorem dX1_shakes_202 : decode cX1_shakes 202 = .ok (.putfield 156, 3) := dk_181 0 156 (dk_at dksX1_shakes_8 16 rfl rfl)
theorem dX1_shakes_205 : decode cX1_shakes 205 = .ok (.aload_n 3, 1) := dk_45 (dk_at dksX1_shakes_8 19 rfl rfl)
theorem dX1_shakes_206 : decode cX1_shakes 206 = .ok (.dup, 1) := dk_89 (dk_at dksX1_shakes_8 20 rfl rfl)
theorem dX1_shakes_207 : decode cX1_shakes 207 = .ok (.getfield 156, 3) := dk_180 0 156 (dk_at dksX1_shakes_8 21 rfl rfl)
theorem dX1_shakes_210 : decode cX1_shakes 210 = .ok (.iload_n 1, 1) := dk_27 (dk_at dksX1_shakes_9 0 rfl rfl)
theorem dX1_shakes_211 : decode cX1_shakes 211 = .ok (.iadd, 1) := dk_96 (dk_at dksX1_shakes_9 1 rfl rfl)
theorem dX1_shakes_212 : decode cX1_shakes 212 = .ok (.putfield 156, 3) := dk_181 0 156 (dk_at dksX1_shakes_9 2 rfl rfl)
theorem dX1_shakes_215 : decode cX1_shakes 215 = .ok (.aload_n 0, 1) := dk_42 (dk_at dksX1_shakes_9 5 rfl rfl)
theorem dX1_shakes_216 : decode cX1_shakes 216 = .ok (.dup, 1) := dk_89 (dk_at dksX1_shakes_9 6 rfl rfl)
theorem dX1_shakes_217 : decode cX1_shakes 217 = .ok (.getfield 86, 3) := dk_180 0 86 (dk_at dksX1_shakes_9 7 rfl rfl)
theorem dX1_shakes_220 : decode cX1_shakes 220 = .ok (.iconst 1, 1) := dk_4 (dk_at dksX1_shakes_9 10 rfl rfl)
theorem dX1_shakes_221 : decode cX1_shakes 221 = .ok (.iadd, 1) := dk_96 (dk_at dksX1_shakes_9 11 rfl rfl)
theorem dX1_shakes_222 : decode cX1_shakes 222 = .ok (.putfield 86, 3) := dk_181 0 86 (dk_at dksX1_shakes_9 12 rfl rfl)
theorem dX1_shakes_225 : decode cX1_shakes 225 = .ok (.aload_n 0, 1) := dk_42 (dk_at dksX1_shakes_9 15 rfl rfl)
theorem dX1_shakes_226 : decode cX1_shakes 226 = .ok (.iconst 3, 1) := dk_6 (dk_at dksX1_shakes_9 16 rfl rfl)
theorem dX1_shakes_227 : decode cX1_shakes 227 = .ok (.aload_n 0, 1) := dk_42 (dk_at dksX1_shakes_9 17 rfl rfl)
theorem dX1_shakes_228 : decode cX1_shakes 228 = .ok (.getfield 26, 3) := dk_180 0 26 (dk_at dksX1_shakes_9 18 rfl rfl)
theorem dX1_shakes_231 : decode cX1_shakes 231 = .ok (.getfield 213, 3) := dk_180 0 213 (dk_at dksX1_shakes_9 21 rfl rfl)
theorem dX1_shakes_234 : decode cX1_shakes 234 = .ok (.aload_n 0, 1) := dk_42 (dk_at dksX1_shakes_10 0 rfl rfl)
theorem dX1_shakes_235 : decode cX1_shakes 235 = .ok (.getfield 26, 3) := dk_180 0 26 (dk_at dksX1_shakes_10 1 rfl rfl)
theorem dX1_shakes_238 : decode cX1_shakes 238 = .ok (.getfield 210, 3) := dk_180 0 210 (dk_at dksX1_shakes_10 4 rfl rfl)
theorem dX1_shakes_241 : decode cX1_shakes 241 = .ok (.invokevirtual 238, 3) := dk_182 0 238 (dk_at dksX1_shakes_10 7 rfl rfl)
theorem dX1_shakes_244 : decode cX1_shakes 244 = .ok (.iconst 0, 1) := dk_3 (dk_at dksX1_shakes_10 10 rfl rfl)
theorem dX1_shakes_245 : decode cX1_shakes 245 = .ok (.ireturn, 1) := dk_172 (dk_at dksX1_shakes_10 11 rfl rfl)
abbrev cX1_goesOver : ByteArray := prog_12_method_15_code
def yX1_goesOver : MethodName := ⟨RX1, "goesOver", "(I)V"⟩
def dkwX1_goesOver_6 : List UInt8 := [184, 0, 222, 79, 42, 27, 4, 182, 0, 228, 177]
abbrev dktX1_goesOver_6 : List UInt8 := dkwX1_goesOver_6 ++ []
def dkwX1_goesOver_5 : List UInt8 := [180, 0, 26, 180, 0, 225, 27, 21, 5, 17, 3, 231, 44, 180, 0, 135, 27, 46, 100, 21, 4, 96]
abbrev dktX1_goesOver_5 : List UInt8 := dkwX1_goesOver_5 ++ dktX1_goesOver_6
def dkwX1_goesOver_4 : List UInt8 := [180, 0, 219, 27, 21, 4, 17, 3, 231, 45, 180, 0, 135, 27, 46, 100, 21, 5, 96, 184, 0, 222, 79, 42]
abbrev dktX1_goesOver_4 : List UInt8 := dkwX1_goesOver_4 ++ dktX1_goesOver_5
def dkwX1_goesOver_3 : List UInt8 := [42, 180, 0, 26, 180, 0, 210, 27, 182, 0, 216, 104, 17, 3, 232, 108, 54, 5, 42, 180, 0, 26]
abbrev dktX1_goesOver_3 : List UInt8 := dkwX1_goesOver_3 ++ dktX1_goesOver_4
def dkwX1_goesOver_2 : List UInt8 := [182, 0, 216, 104, 17, 3, 232, 108, 54, 4, 45, 180, 0, 135, 27, 46, 42, 42, 180, 0, 26, 180, 0, 213]
abbrev dktX1_goesOver_2 : List UInt8 := dkwX1_goesOver_2 ++ dktX1_goesOver_3
def dkwX1_goesOver_1 : List UInt8 := [50, 78, 44, 180, 0, 135, 27, 46, 42, 42, 180, 0, 26, 180, 0, 210, 42, 180, 0, 26, 180, 0, 213, 27]
abbrev dktX1_goesOver_1 : List UInt8 := dkwX1_goesOver_1 ++ dktX1_goesOver_2
def dkwX1_goesOver_0 : List UInt8 := [42, 180, 0, 11, 42, 180, 0, 26, 180, 0, 210, 50, 77, 42, 180, 0, 11, 42, 180, 0, 26, 180, 0, 213]
abbrev dktX1_goesOver_0 : List UInt8 := dkwX1_goesOver_0 ++ dktX1_goesOver_1
theorem dksX1_goesOver_0 : cX1_goesOver.data.toList.drop 0 = dktX1_goesOver_0 := by decide +kernel
theorem dksX1_goesOver_1 : cX1_goesOver.data.toList.drop 24 = dktX1_goesOver_1 := dk_seg dksX1_goesOver_0 24 rfl rfl
theorem dksX1_goesOver_2 : cX1_goesOver.data.toList.drop 48 = dktX1_goesOver_2 := dk_seg dksX1_goesOver_1 24 rfl rfl
theorem dksX1_goesOver_3 : cX1_goesOver.data.toList.drop 72 = dktX1_goesOver_3 := dk_seg dksX1_goesOver_2 24 rfl rfl
theorem dksX1_goesOver_4 : cX1_goesOver.data.toList.drop 94 = dktX1_goesOver_4 := dk_seg dksX1_goesOver_3 22 rfl rfl
theorem dksX1_goesOver_5 : cX1_goesOver.data.toList.drop 118 = dktX1_goesOver_5 := dk_seg dksX1_goesOver_4 24 rfl rfl
theorem dksX1_goesOver_6 : cX1_goesOver.data.toList.drop 140 = dktX1_goesOver_6 := dk_seg dksX1_goesOver_5 22 rfl rfl
theorem dX1_goesOver_0 : decode cX1_goesOver 0 = .ok (.aload_n 0, 1) := dk_42 (dk_at dksX1_goesOver_0 0 rfl rfl)
theorem dX1_goesOver_1 : decode cX1_goesOver 1 = .ok (.getfield 11, 3) := dk_180 0 11 (dk_at dksX1_goesOver_0 1 rfl rfl)
theorem dX1_goesOver_4 : decode cX1_goesOver 4 = .ok (.aload_n 0, 1) := dk_42 (dk_at dksX1_goesOver_0 4 rfl rfl)
theorem dX1_goesOver_5 : decode cX1_goesOver 5 = .ok (.getfield 26, 3) := dk_180 0 26 (dk_at dksX1_goesOver_0 5 rfl rfl)
theorem dX1_goesOver_8 : decode cX1_goesOver 8 = .ok (.getfield 210, 3) := dk_180 0 210 (dk_at dksX1_goesOver_0 8 rfl rfl)
theorem dX1_goesOver_11 : decode cX1_goesOver 11 = .ok (.aaload, 1) := dk_50 (dk_at dksX1_goesOver_0 11 rfl rfl)
theorem dX1_goesOver_12 : decode cX1_goesOver 12 = .ok (.astore_n 2, 1) := dk_77 (dk_at dksX1_goesOver_0 12 rfl rfl)
theorem dX1_goesOver_13 : decode cX1_goesOver 13 = .ok (.aload_n 0, 1) := dk_42 (dk_at dksX1_goesOver_0 13 rfl rfl)
theorem dX1_goesOver_14 : decode cX1_goesOver 14 = .ok (.getfield 11, 3) := dk_180 0 11 (dk_at dksX1_goesOver_0 14 rfl rfl)
theorem dX1_goesOver_17 : decode cX1_goesOver 17 = .ok (.aload_n 0, 1) := dk_42 (dk_at dksX1_goesOver_0 17 rfl rfl)
theorem dX1_goesOver_18 : decode cX1_goesOver 18 = .ok (.getfield 26, 3) := dk_180 0 26 (dk_at dksX1_goesOver_0 18 rfl rfl)
theorem dX1_goesOver_21 : decode cX1_goesOver 21 = .ok (.getfield 213, 3) := dk_180 0 213 (dk_at dksX1_goesOver_0 21 rfl rfl)
theorem dX1_goesOver_24 : decode cX1_goesOver 24 = .ok (.aaload, 1) := dk_50 (dk_at dksX1_goesOver_1 0 rfl rfl)
theorem dX1_goesOver_25 : decode cX1_goesOver 25 = .ok (.astore_n 3, 1) := dk_78 (dk_at dksX1_goesOver_1 1 rfl rfl)
theorem dX1_goesOver_26 : decode cX1_goesOver 26 = .ok (.aload_n 2, 1) := dk_44 (dk_at dksX1_goesOver_1 2 rfl rfl)
theorem dX1_goesOver_27 : decode cX1_goesOver 27 = .ok (.getfield 135, 3) := dk_180 0 135 (dk_at dksX1_goesOver_1 3 rfl rfl)
theorem dX1_goesOver_30 : decode cX1_goesOver 30 = .ok (.iload_n 1, 1) := dk_27 (dk_at dksX1_goesOver_1 6 rfl rfl)
theorem dX1_goesOver_31 : decode cX1_goesOver 31 = .ok (.iaload, 1) := dk_46 (dk_at dksX1_goesOver_1 7 rfl rfl)
theorem dX1_goesOver_32 : decode cX1_goesOver 32 = .ok (.aload_n 0, 1) := dk_42 (dk_at dksX1_goesOver_1 8 rfl rfl)
theorem dX1_goesOver_33 : decode cX1_goesOver 33 = .ok (.aload_n 0, 1) := dk_42 (dk_at dksX1_goesOver_1 9 rfl rfl)
theorem dX1_goesOver_34 : decode cX1_goesOver 34 = .ok (.getfield 26, 3) := dk_180 0 26 (dk_at dksX1_goesOver_1 10 rfl rfl)
theorem dX1_goesOver_37 : decode cX1_goesOver 37 = .ok (.getfield 210, 3) := dk_180 0 210 (dk_at dksX1_goesOver_1 13 rfl rfl)
theorem dX1_goesOver_40 : decode cX1_goesOver 40 = .ok (.aload_n 0, 1) := dk_42 (dk_at dksX1_goesOver_1 16 rfl rfl)
theorem dX1_goesOver_41 : decode cX1_goesOver 41 = .ok (.getfield 26, 3) := dk_180 0 26 (dk_at dksX1_goesOver_1 17 rfl rfl)
theorem dX1_goesOver_44 : decode cX1_goesOver 44 = .ok (.getfield 213, 3) := dk_180 0 213 (dk_at dksX1_goesOver_1 20 rfl rfl)
theorem dX1_goesOver_47 : decode cX1_goesOver 47 = .ok (.iload_n 1, 1) := dk_27 (dk_at dksX1_goesOver_1 23 rfl rfl)
theorem dX1_goesOver_48 : decode cX1_goesOver 48 = .ok (.invokevirtual 216, 3) := dk_182 0 216 (dk_at dksX1_goesOver_2 0 rfl rfl)
theorem dX1_goesOver_51 : decode cX1_goesOver 51 = .ok (.imul, 1) := dk_104 (dk_at dksX1_goesOver_2 3 rfl rfl)
theorem dX1_goesOver_52 : decode cX1_goesOver 52 = .ok (.sipush 1000, 3) := dk_17 3 232 (dk_at dksX1_goesOver_2 4 rfl rfl)
theorem dX1_goesOver_55 : decode cX1_goesOver 55 = .ok (.idiv, 1) := dk_108 (dk_at dksX1_goesOver_2 7 rfl rfl)
theorem dX1_goesOver_56 : decode cX1_goesOver 56 = .ok (.istore 4, 2) := dk_54 4 (dk_at dksX1_goesOver_2 8 rfl rfl)
theorem dX1_goesOver_58 : decode cX1_goesOver 58 = .ok (.aload_n 3, 1) := dk_45 (dk_at dksX1_goesOver_2 10 rfl rfl)
theorem dX1_goesOver_59 : decode cX1_goesOver 59 = .ok (.getfield 135, 3) := dk_180 0 135 (dk_at dksX1_goesOver_2 11 rfl rfl)
theorem dX1_goesOver_62 : decode cX1_goesOver 62 = .ok (.iload_n 1, 1) := dk_27 (dk_at dksX1_goesOver_2 14 rfl rfl)
theorem dX1_goesOver_63 : decode cX1_goesOver 63 = .ok (.iaload, 1) := dk_46 (dk_at dksX1_goesOver_2 15 rfl rfl)
theorem dX1_goesOver_64 : decode cX1_goesOver 64 = .ok (.aload_n 0, 1) := dk_42 (dk_at dksX1_goesOver_2 16 rfl rfl)
theorem dX1_goesOver_65 : decode cX1_goesOver 65 = .ok (.aload_n 0, 1) := dk_42 (dk_at dksX1_goesOver_2 17 rfl rfl)
theorem dX1_goesOver_66 : decode cX1_goesOver 66 = .ok (.getfield 26, 3) := dk_180 0 26 (dk_at dksX1_goesOver_2 18 rfl rfl)
theorem dX1_goesOver_69 : decode cX1_goesOver 69 = .ok (.getfield 213, 3) := dk_180 0 213 (dk_at dksX1_goesOver_2 21 rfl rfl)
theorem dX1_goesOver_72 : decode cX1_goesOver 72 = .ok (.aload_n 0, 1) := dk_42 (dk_at dksX1_goesOver_3 0 rfl rfl)
theorem dX1_goesOver_73 : decode cX1_goesOver 73 = .ok (.getfield 26, 3) := dk_180 0 26 (dk_at dksX1_goesOver_3 1 rfl rfl)
theorem dX1_goesOver_76 : decode cX1_goesOver 76 = .ok (.getfield 210, 3) := dk_180 0 210 (dk_at dksX1_goesOver_3 4 rfl rfl)
theorem dX1_goesOver_79 : decode cX1_goesOver 79 = .ok (.iload_n 1, 1) := dk_27 (dk_at dksX1_goesOver_3 7 rfl rfl)
theorem dX1_goesOver_80 : decode cX1_goesOver 80 = .ok (.invokevirtual 216, 3) := dk_182 0 216 (dk_at dksX1_goesOver_3 8 rfl rfl)
theorem dX1_goesOver_83 : decode cX1_goesOver 83 = .ok (.imul, 1) := dk_104 (dk_at dksX1_goesOver_3 11 rfl rfl)
theorem dX1_goesOver_84 : decode cX1_goesOver 84 = .ok (.sipush 1000, 3) := dk_17 3 232 (dk_at dksX1_goesOver_3 12 rfl rfl)
theorem dX1_goesOver_87 : decode cX1_goesOver 87 = .ok (.idiv, 1) := dk_108 (dk_at dksX1_goesOver_3 15 rfl rfl)
theorem dX1_goesOver_88 : decode cX1_goesOver 88 = .ok (.istore 5, 2) := dk_54 5 (dk_at dksX1_goesOver_3 16 rfl rfl)
theorem dX1_goesOver_90 : decode cX1_goesOver 90 = .ok (.aload_n 0, 1) := dk_42 (dk_at dksX1_goesOver_3 18 rfl rfl)
theorem dX1_goesOver_91 : decode cX1_goesOver 91 = .ok (.getfield 26, 3) := dk_180 0 26 (dk_at dksX1_goesOver_3 19 rfl rfl)
theorem dX1_goesOver_94 : decode cX1_goesOver 94 = .ok (.getfield 219, 3) := dk_180 0 219 (dk_at dksX1_goesOver_4 0 rfl rfl)
theorem dX1_goesOver_97 : decode cX1_goesOver 97 = .ok (.iload_n 1, 1) := dk_27 (dk_at dksX1_goesOver_4 3 rfl rfl)
theorem dX1_goesOver_98 : decode cX1_goesOver 98 = .ok (.iload 4, 2) := dk_21 4 (dk_at dksX1_goesOver_4 4 rfl rfl)
theorem dX1_goesOver_100 : decode cX1_goesOver 100 = .ok (.sipush 999, 3) := dk_17 3 231 (dk_at dksX1_goesOver_4 6 rfl rfl)
theorem dX1_goesOver_103 : decode cX1_goesOver 103 = .ok (.aload_n 3, 1) := dk_45 (dk_at dksX1_goesOver_4 9 rfl rfl)
theorem dX1_goesOver_104 : decode cX1_goesOver 104 = .ok (.getfield 135, 3) := dk_180 0 135 (dk_at dksX1_goesOver_4 10 rfl rfl)
theorem dX1_goesOver_107 : decode cX1_goesOver 107 = .ok (.iload_n 1, 1) := dk_27 (dk_at dksX1_goesOver_4 13 rfl rfl)
theorem dX1_goesOver_108 : decode cX1_goesOver 108 = .ok (.iaload, 1) := dk_46 (dk_at dksX1_goesOver_4 14 rfl rfl)
theorem dX1_goesOver_109 : decode cX1_goesOver 109 = .ok (.isub, 1) := dk_100 (dk_at dksX1_goesOver_4 15 rfl rfl)
theorem dX1_goesOver_110 : decode cX1_goesOver 110 = .ok (.iload 5, 2) := dk_21 5 (dk_at dksX1_goesOver_4 16 rfl rfl)
theorem dX1_goesOver_112 : decode cX1_goesOver 112 = .ok (.iadd, 1) := dk_96 (dk_at dksX1_goesOver_4 18 rfl rfl)
theorem dX1_goesOver_113 : decode cX1_goesOver 113 = .ok (.invokestatic 222, 3) := dk_184 0 222 (dk_at dksX1_goesOver_4 19 rfl rfl)
theorem dX1_goesOver_116 : decode cX1_goesOver 116 = .ok (.iastore, 1) := dk_79 (dk_at dksX1_goesOver_4 22 rfl rfl)
theorem dX1_goesOver_117 : decode cX1_goesOver 117 = .ok (.aload_n 0, 1) := dk_42 (dk_at dksX1_goesOver_4 23 rfl rfl)
theorem dX1_goesOver_118 : decode cX1_goesOver 118 = .ok (.getfield 26, 3) := dk_180 0 26 (dk_at dksX1_goesOver_5 0 rfl rfl)
theorem dX1_goesOver_121 : decode cX1_goesOver 121 = .ok (.getfield 225, 3) := dk_180 0 225 (dk_at dksX1_goesOver_5 3 rfl rfl)
theorem dX1_goesOver_124 : decode cX1_goesOver 124 = .ok (.iload_n 1, 1) := dk_27 (dk_at dksX1_goesOver_5 6 rfl rfl)
theorem dX1_goesOver_125 : decode cX1_goesOver 125 = .ok (.iload 5, 2) := dk_21 5 (dk_at dksX1_goesOver_5 7 rfl rfl)
theorem dX1_goesOver_127 : decode cX1_goesOver 127 = .ok (.sipush 999, 3) := dk_17 3 231 (dk_at dksX1_goesOver_5 9 rfl rfl)
theorem dX1_goesOver_130 : decode cX1_goesOver 130 = .ok (.aload_n 2, 1) := dk_44 (dk_at dksX1_goesOver_5 12 rfl rfl)
theorem dX1_goesOver_131 : decode cX1_goesOver 131 = .ok (.getfield 135, 3) := dk_180 0 135 (dk_at dksX1_goesOver_5 13 rfl rfl)
theorem dX1_goesOver_134 : decode cX1_goesOver 134 = .ok (.iload_n 1, 1) := dk_27 (dk_at dksX1_goesOver_5 16 rfl rfl)
theorem dX1_goesOver_135 : decode cX1_goesOver 135 = .ok (.iaload, 1) := dk_46 (dk_at dksX1_goesOver_5 17 rfl rfl)
theorem dX1_goesOver_136 : decode cX1_goesOver 136 = .ok (.isub, 1) := dk_100 (dk_at dksX1_goesOver_5 18 rfl rfl)
theorem dX1_goesOver_137 : decode cX1_goesOver 137 = .ok (.iload 4, 2) := dk_21 4 (dk_at dksX1_goesOver_5 19 rfl rfl)
theorem dX1_goesOver_139 : decode cX1_goesOver 139 = .ok (.iadd, 1) := dk_96 (dk_at dksX1_goesOver_5 21 rfl rfl)
theorem dX1_goesOver_140 : decode cX1_goesOver 140 = .ok (.invokestatic 222, 3) := dk_184 0 222 (dk_at dksX1_goesOver_6 0 rfl rfl)
theorem dX1_goesOver_143 : decode cX1_goesOver 143 = .ok (.iastore, 1) := dk_79 (dk_at dksX1_goesOver_6 3 rfl rfl)
theorem dX1_goesOver_144 : decode cX1_goesOver 144 = .ok (.aload_n 0, 1) := dk_42 (dk_at dksX1_goesOver_6 4 rfl rfl)
theorem dX1_goesOver_145 : decode cX1_goesOver 145 = .ok (.iload_n 1, 1) := dk_27 (dk_at dksX1_goesOver_6 5 rfl rfl)
theorem dX1_goesOver_146 : decode cX1_goesOver 146 = .ok (.iconst 1, 1) := dk_4 (dk_at dksX1_goesOver_6 6 rfl rfl)
theorem dX1_goesOver_147 : decode cX1_goesOver 147 = .ok (.invokevirtual 228, 3) := dk_182 0 228 (dk_at dksX1_goesOver_6 7 rfl rfl)
theorem dX1_goesOver_150 : decode cX1_goesOver 150 = .ok (.return_, 1) := dk_177 (dk_at dksX1_goesOver_6 10 rfl rfl)
abbrev cX1_passes : ByteArray := prog_12_method_9_code
def yX1_passes : MethodName := ⟨RX1, "passes", "(III)I"⟩
def dkwX1_passes_0 : List UInt8 := [42, 16, 7, 27, 28, 29, 16, 20, 42, 180, 0, 26, 180, 0, 141, 104, 17, 3, 232, 182, 0, 189, 172]
abbrev dktX1_passes_0 : List UInt8 := dkwX1_passes_0 ++ []
theorem dksX1_passes_0 : cX1_passes.data.toList.drop 0 = dktX1_passes_0 := by decide +kernel
theorem dX1_passes_0 : decode cX1_passes 0 = .ok (.aload_n 0, 1) := dk_42 (dk_at dksX1_passes_0 0 rfl rfl)
theorem dX1_passes_1 : decode cX1_passes 1 = .ok (.bipush 7, 2) := dk_16 7 (dk_at dksX1_passes_0 1 rfl rfl)
theorem dX1_passes_3 : decode cX1_passes 3 = .ok (.iload_n 1, 1) := dk_27 (dk_at dksX1_passes_0 3 rfl rfl)
theorem dX1_passes_4 : decode cX1_passes 4 = .ok (.iload_n 2, 1) := dk_28 (dk_at dksX1_passes_0 4 rfl rfl)
theorem dX1_passes_5 : decode cX1_passes 5 = .ok (.iload_n 3, 1) := dk_29 (dk_at dksX1_passes_0 5 rfl rfl)
theorem dX1_passes_6 : decode cX1_passes 6 = .ok (.bipush 20, 2) := dk_16 20 (dk_at dksX1_passes_0 6 rfl rfl)
theorem dX1_passes_8 : decode cX1_passes 8 = .ok (.aload_n 0, 1) := dk_42 (dk_at dksX1_passes_0 8 rfl rfl)
theorem dX1_passes_9 : decode cX1_passes 9 = .ok (.getfield 26, 3) := dk_180 0 26 (dk_at dksX1_passes_0 9 rfl rfl)
theorem dX1_passes_12 : decode cX1_passes 12 = .ok (.getfield 141, 3) := dk_180 0 141 (dk_at dksX1_passes_0 12 rfl rfl)
theorem dX1_passes_15 : decode cX1_passes 15 = .ok (.imul, 1) := dk_104 (dk_at dksX1_passes_0 15 rfl rfl)
theorem dX1_passes_16 : decode cX1_passes 16 = .ok (.sipush 1000, 3) := dk_17 3 232 (dk_at dksX1_passes_0 16 rfl rfl)
theorem dX1_passes_19 : decode cX1_passes 19 = .ok (.invokevirtual 189, 3) := dk_182 0 189 (dk_at dksX1_passes_0 19 rfl rfl)
theorem dX1_passes_22 : decode cX1_passes 22 = .ok (.ireturn, 1) := dk_172 (dk_at dksX1_passes_0 22 rfl rfl)
abbrev cX1_shifts : ByteArray := prog_12_method_16_code
def yX1_shifts : MethodName := ⟨RX1, "shifts", "(II)V"⟩
def dkwX1_shifts_2 : List UInt8 := [42, 180, 0, 26, 180, 0, 213, 50, 180, 0, 135, 27, 92, 46, 29, 100, 79, 177]
abbrev dktX1_shifts_2 : List UInt8 := dkwX1_shifts_2 ++ []
def dkwX1_shifts_1 : List UInt8 := [180, 0, 11, 42, 180, 0, 26, 180, 0, 210, 50, 180, 0, 135, 27, 92, 46, 29, 96, 79, 42, 180, 0, 11]
abbrev dktX1_shifts_1 : List UInt8 := dkwX1_shifts_1 ++ dktX1_shifts_2
def dkwX1_shifts_0 : List UInt8 := [28, 42, 180, 0, 26, 180, 0, 225, 27, 46, 42, 180, 0, 26, 180, 0, 219, 27, 46, 100, 104, 62, 42]
abbrev dktX1_shifts_0 : List UInt8 := dkwX1_shifts_0 ++ dktX1_shifts_1
theorem dksX1_shifts_0 : cX1_shifts.data.toList.drop 0 = dktX1_shifts_0 := by decide +kernel
theorem dksX1_shifts_1 : cX1_shifts.data.toList.drop 23 = dktX1_shifts_1 := dk_seg dksX1_shifts_0 23 rfl rfl
theorem dksX1_shifts_2 : cX1_shifts.data.toList.drop 47 = dktX1_shifts_2 := dk_seg dksX1_shifts_1 24 rfl rfl
theorem dX1_shifts_0 : decode cX1_shifts 0 = .ok (.iload_n 2, 1) := dk_28 (dk_at dksX1_shifts_0 0 rfl rfl)
theorem dX1_shifts_1 : decode cX1_shifts 1 = .ok (.aload_n 0, 1) := dk_42 (dk_at dksX1_shifts_0 1 rfl rfl)
theorem dX1_shifts_2 : decode cX1_shifts 2 = .ok (.getfield 26, 3) := dk_180 0 26 (dk_at dksX1_shifts_0 2 rfl rfl)
theorem dX1_shifts_5 : decode cX1_shifts 5 = .ok (.getfield 225, 3) := dk_180 0 225 (dk_at dksX1_shifts_0 5 rfl rfl)
theorem dX1_shifts_8 : decode cX1_shifts 8 = .ok (.iload_n 1, 1) := dk_27 (dk_at dksX1_shifts_0 8 rfl rfl)
theorem dX1_shifts_9 : decode cX1_shifts 9 = .ok (.iaload, 1) := dk_46 (dk_at dksX1_shifts_0 9 rfl rfl)
theorem dX1_shifts_10 : decode cX1_shifts 10 = .ok (.aload_n 0, 1) := dk_42 (dk_at dksX1_shifts_0 10 rfl rfl)
theorem dX1_shifts_11 : decode cX1_shifts 11 = .ok (.getfield 26, 3) := dk_180 0 26 (dk_at dksX1_shifts_0 11 rfl rfl)
theorem dX1_shifts_14 : decode cX1_shifts 14 = .ok (.getfield 219, 3) := dk_180 0 219 (dk_at dksX1_shifts_0 14 rfl rfl)
theorem dX1_shifts_17 : decode cX1_shifts 17 = .ok (.iload_n 1, 1) := dk_27 (dk_at dksX1_shifts_0 17 rfl rfl)
theorem dX1_shifts_18 : decode cX1_shifts 18 = .ok (.iaload, 1) := dk_46 (dk_at dksX1_shifts_0 18 rfl rfl)
theorem dX1_shifts_19 : decode cX1_shifts 19 = .ok (.isub, 1) := dk_100 (dk_at dksX1_shifts_0 19 rfl rfl)
theorem dX1_shifts_20 : decode cX1_shifts 20 = .ok (.imul, 1) := dk_104 (dk_at dksX1_shifts_0 20 rfl rfl)
theorem dX1_shifts_21 : decode cX1_shifts 21 = .ok (.istore_n 3, 1) := dk_62 (dk_at dksX1_shifts_0 21 rfl rfl)
theorem dX1_shifts_22 : decode cX1_shifts 22 = .ok (.aload_n 0, 1) := dk_42 (dk_at dksX1_shifts_0 22 rfl rfl)
theorem dX1_shifts_23 : decode cX1_shifts 23 = .ok (.getfield 11, 3) := dk_180 0 11 (dk_at dksX1_shifts_1 0 rfl rfl)
theorem dX1_shifts_26 : decode cX1_shifts 26 = .ok (.aload_n 0, 1) := dk_42 (dk_at dksX1_shifts_1 3 rfl rfl)
theorem dX1_shifts_27 : decode cX1_shifts 27 = .ok (.getfield 26, 3) := dk_180 0 26 (dk_at dksX1_shifts_1 4 rfl rfl)
theorem dX1_shifts_30 : decode cX1_shifts 30 = .ok (.getfield 210, 3) := dk_180 0 210 (dk_at dksX1_shifts_1 7 rfl rfl)
theorem dX1_shifts_33 : decode cX1_shifts 33 = .ok (.aaload, 1) := dk_50 (dk_at dksX1_shifts_1 10 rfl rfl)
theorem dX1_shifts_34 : decode cX1_shifts 34 = .ok (.getfield 135, 3) := dk_180 0 135 (dk_at dksX1_shifts_1 11 rfl rfl)
theorem dX1_shifts_37 : decode cX1_shifts 37 = .ok (.iload_n 1, 1) := dk_27 (dk_at dksX1_shifts_1 14 rfl rfl)
theorem dX1_shifts_38 : decode cX1_shifts 38 = .ok (.dup2, 1) := dk_92 (dk_at dksX1_shifts_1 15 rfl rfl)
theorem dX1_shifts_39 : decode cX1_shifts 39 = .ok (.iaload, 1) := dk_46 (dk_at dksX1_shifts_1 16 rfl rfl)
theorem dX1_shifts_40 : decode cX1_shifts 40 = .ok (.iload_n 3, 1) := dk_29 (dk_at dksX1_shifts_1 17 rfl rfl)
theorem dX1_shifts_41 : decode cX1_shifts 41 = .ok (.iadd, 1) := dk_96 (dk_at dksX1_shifts_1 18 rfl rfl)
theorem dX1_shifts_42 : decode cX1_shifts 42 = .ok (.iastore, 1) := dk_79 (dk_at dksX1_shifts_1 19 rfl rfl)
theorem dX1_shifts_43 : decode cX1_shifts 43 = .ok (.aload_n 0, 1) := dk_42 (dk_at dksX1_shifts_1 20 rfl rfl)
theorem dX1_shifts_44 : decode cX1_shifts 44 = .ok (.getfield 11, 3) := dk_180 0 11 (dk_at dksX1_shifts_1 21 rfl rfl)
theorem dX1_shifts_47 : decode cX1_shifts 47 = .ok (.aload_n 0, 1) := dk_42 (dk_at dksX1_shifts_2 0 rfl rfl)
theorem dX1_shifts_48 : decode cX1_shifts 48 = .ok (.getfield 26, 3) := dk_180 0 26 (dk_at dksX1_shifts_2 1 rfl rfl)
theorem dX1_shifts_51 : decode cX1_shifts 51 = .ok (.getfield 213, 3) := dk_180 0 213 (dk_at dksX1_shifts_2 4 rfl rfl)
theorem dX1_shifts_54 : decode cX1_shifts 54 = .ok (.aaload, 1) := dk_50 (dk_at dksX1_shifts_2 7 rfl rfl)
theorem dX1_shifts_55 : decode cX1_shifts 55 = .ok (.getfield 135, 3) := dk_180 0 135 (dk_at dksX1_shifts_2 8 rfl rfl)
theorem dX1_shifts_58 : decode cX1_shifts 58 = .ok (.iload_n 1, 1) := dk_27 (dk_at dksX1_shifts_2 11 rfl rfl)
theorem dX1_shifts_59 : decode cX1_shifts 59 = .ok (.dup2, 1) := dk_92 (dk_at dksX1_shifts_2 12 rfl rfl)
theorem dX1_shifts_60 : decode cX1_shifts 60 = .ok (.iaload, 1) := dk_46 (dk_at dksX1_shifts_2 13 rfl rfl)
theorem dX1_shifts_61 : decode cX1_shifts 61 = .ok (.iload_n 3, 1) := dk_29 (dk_at dksX1_shifts_2 14 rfl rfl)
theorem dX1_shifts_62 : decode cX1_shifts 62 = .ok (.isub, 1) := dk_100 (dk_at dksX1_shifts_2 15 rfl rfl)
theorem dX1_shifts_63 : decode cX1_shifts 63 = .ok (.iastore, 1) := dk_79 (dk_at dksX1_shifts_2 16 rfl rfl)
theorem dX1_shifts_64 : decode cX1_shifts 64 = .ok (.return_, 1) := dk_177 (dk_at dksX1_shifts_2 17 rfl rfl)
abbrev cX1_holds : ByteArray := prog_12_method_10_code
def yX1_holds : MethodName := ⟨RX1, "holds", "(II)I"⟩
def dkwX1_holds_1 : List UInt8 := [182, 0, 189, 172]
abbrev dktX1_holds_1 : List UInt8 := dkwX1_holds_1 ++ []
def dkwX1_holds_0 : List UInt8 := [42, 16, 8, 27, 28, 3, 16, 100, 16, 10, 42, 180, 0, 11, 27, 50, 180, 0, 153, 104, 100, 17, 3, 232]
abbrev dktX1_holds_0 : List UInt8 := dkwX1_holds_0 ++ dktX1_holds_1
theorem dksX1_holds_0 : cX1_holds.data.toList.drop 0 = dktX1_holds_0 := by decide +kernel
theorem dksX1_holds_1 : cX1_holds.data.toList.drop 24 = dktX1_holds_1 := dk_seg dksX1_holds_0 24 rfl rfl
theorem dX1_holds_0 : decode cX1_holds 0 = .ok (.aload_n 0, 1) := dk_42 (dk_at dksX1_holds_0 0 rfl rfl)
theorem dX1_holds_1 : decode cX1_holds 1 = .ok (.bipush 8, 2) := dk_16 8 (dk_at dksX1_holds_0 1 rfl rfl)
theorem dX1_holds_3 : decode cX1_holds 3 = .ok (.iload_n 1, 1) := dk_27 (dk_at dksX1_holds_0 3 rfl rfl)
theorem dX1_holds_4 : decode cX1_holds 4 = .ok (.iload_n 2, 1) := dk_28 (dk_at dksX1_holds_0 4 rfl rfl)
theorem dX1_holds_5 : decode cX1_holds 5 = .ok (.iconst 0, 1) := dk_3 (dk_at dksX1_holds_0 5 rfl rfl)
theorem dX1_holds_6 : decode cX1_holds 6 = .ok (.bipush 100, 2) := dk_16 100 (dk_at dksX1_holds_0 6 rfl rfl)
theorem dX1_holds_8 : decode cX1_holds 8 = .ok (.bipush 10, 2) := dk_16 10 (dk_at dksX1_holds_0 8 rfl rfl)
theorem dX1_holds_10 : decode cX1_holds 10 = .ok (.aload_n 0, 1) := dk_42 (dk_at dksX1_holds_0 10 rfl rfl)
theorem dX1_holds_11 : decode cX1_holds 11 = .ok (.getfield 11, 3) := dk_180 0 11 (dk_at dksX1_holds_0 11 rfl rfl)
theorem dX1_holds_14 : decode cX1_holds 14 = .ok (.iload_n 1, 1) := dk_27 (dk_at dksX1_holds_0 14 rfl rfl)
theorem dX1_holds_15 : decode cX1_holds 15 = .ok (.aaload, 1) := dk_50 (dk_at dksX1_holds_0 15 rfl rfl)
theorem dX1_holds_16 : decode cX1_holds 16 = .ok (.getfield 153, 3) := dk_180 0 153 (dk_at dksX1_holds_0 16 rfl rfl)
theorem dX1_holds_19 : decode cX1_holds 19 = .ok (.imul, 1) := dk_104 (dk_at dksX1_holds_0 19 rfl rfl)
theorem dX1_holds_20 : decode cX1_holds 20 = .ok (.isub, 1) := dk_100 (dk_at dksX1_holds_0 20 rfl rfl)
theorem dX1_holds_21 : decode cX1_holds 21 = .ok (.sipush 1000, 3) := dk_17 3 232 (dk_at dksX1_holds_0 21 rfl rfl)
theorem dX1_holds_24 : decode cX1_holds 24 = .ok (.invokevirtual 189, 3) := dk_182 0 189 (dk_at dksX1_holds_1 0 rfl rfl)
theorem dX1_holds_27 : decode cX1_holds 27 = .ok (.ireturn, 1) := dk_172 (dk_at dksX1_holds_1 3 rfl rfl)
abbrev cX1_draw : ByteArray := prog_12_method_5_code
def yX1_draw : MethodName := ⟨RX1, "draw", "(I)I"⟩
def dkwX1_draw_0 : List UInt8 := [42, 18, 117, 42, 180, 0, 92, 104, 18, 118, 96, 181, 0, 92, 42, 180, 0, 92, 16, 8, 124, 27, 112, 172]
abbrev dktX1_draw_0 : List UInt8 := dkwX1_draw_0 ++ []
theorem dksX1_draw_0 : cX1_draw.data.toList.drop 0 = dktX1_draw_0 := by decide +kernel
theorem dX1_draw_0 : decode cX1_draw 0 = .ok (.aload_n 0, 1) := dk_42 (dk_at dksX1_draw_0 0 rfl rfl)
theorem dX1_draw_1 : decode cX1_draw 1 = .ok (.ldc 117, 2) := dk_18 117 (dk_at dksX1_draw_0 1 rfl rfl)
theorem dX1_draw_3 : decode cX1_draw 3 = .ok (.aload_n 0, 1) := dk_42 (dk_at dksX1_draw_0 3 rfl rfl)
theorem dX1_draw_4 : decode cX1_draw 4 = .ok (.getfield 92, 3) := dk_180 0 92 (dk_at dksX1_draw_0 4 rfl rfl)
theorem dX1_draw_7 : decode cX1_draw 7 = .ok (.imul, 1) := dk_104 (dk_at dksX1_draw_0 7 rfl rfl)
theorem dX1_draw_8 : decode cX1_draw 8 = .ok (.ldc 118, 2) := dk_18 118 (dk_at dksX1_draw_0 8 rfl rfl)
theorem dX1_draw_10 : decode cX1_draw 10 = .ok (.iadd, 1) := dk_96 (dk_at dksX1_draw_0 10 rfl rfl)
theorem dX1_draw_11 : decode cX1_draw 11 = .ok (.putfield 92, 3) := dk_181 0 92 (dk_at dksX1_draw_0 11 rfl rfl)
theorem dX1_draw_14 : decode cX1_draw 14 = .ok (.aload_n 0, 1) := dk_42 (dk_at dksX1_draw_0 14 rfl rfl)
theorem dX1_draw_15 : decode cX1_draw 15 = .ok (.getfield 92, 3) := dk_180 0 92 (dk_at dksX1_draw_0 15 rfl rfl)
theorem dX1_draw_18 : decode cX1_draw 18 = .ok (.bipush 8, 2) := dk_16 8 (dk_at dksX1_draw_0 18 rfl rfl)
theorem dX1_draw_20 : decode cX1_draw 20 = .ok (.iushr, 1) := dk_124 (dk_at dksX1_draw_0 20 rfl rfl)
theorem dX1_draw_21 : decode cX1_draw 21 = .ok (.iload_n 1, 1) := dk_27 (dk_at dksX1_draw_0 21 rfl rfl)
theorem dX1_draw_22 : decode cX1_draw 22 = .ok (.irem, 1) := dk_112 (dk_at dksX1_draw_0 22 rfl rfl)
theorem dX1_draw_23 : decode cX1_draw 23 = .ok (.ireturn, 1) := dk_172 (dk_at dksX1_draw_0 23 rfl rfl)
abbrev cX1_canClasp : ByteArray := prog_12_method_14_code
def yX1_canClasp : MethodName := ⟨RX1, "canClasp", "(III)Z"⟩
def dkwX1_canClasp_1 : List UInt8 := [1, 182, 0, 203, 4, 172]
abbrev dktX1_canClasp_1 : List UInt8 := dkwX1_canClasp_1 ++ []
def dkwX1_canClasp_0 : List UInt8 := [27, 28, 159, 0, 12, 42, 27, 28, 182, 0, 199, 153, 0, 5, 3, 172, 42, 180, 0, 26, 27, 28, 29, 3]
abbrev dktX1_canClasp_0 : List UInt8 := dkwX1_canClasp_0 ++ dktX1_canClasp_1
theorem dksX1_canClasp_0 : cX1_canClasp.data.toList.drop 0 = dktX1_canClasp_0 := by decide +kernel
theorem dksX1_canClasp_1 : cX1_canClasp.data.toList.drop 24 = dktX1_canClasp_1 := dk_seg dksX1_canClasp_0 24 rfl rfl
theorem dX1_canClasp_0 : decode cX1_canClasp 0 = .ok (.iload_n 1, 1) := dk_27 (dk_at dksX1_canClasp_0 0 rfl rfl)
theorem dX1_canClasp_1 : decode cX1_canClasp 1 = .ok (.iload_n 2, 1) := dk_28 (dk_at dksX1_canClasp_0 1 rfl rfl)
theorem dX1_canClasp_2 : decode cX1_canClasp 2 = .ok (.if_icmp .eq 12, 3) := dk_159 0 12 (dk_at dksX1_canClasp_0 2 rfl rfl)
theorem dX1_canClasp_5 : decode cX1_canClasp 5 = .ok (.aload_n 0, 1) := dk_42 (dk_at dksX1_canClasp_0 5 rfl rfl)
theorem dX1_canClasp_6 : decode cX1_canClasp 6 = .ok (.iload_n 1, 1) := dk_27 (dk_at dksX1_canClasp_0 6 rfl rfl)
theorem dX1_canClasp_7 : decode cX1_canClasp 7 = .ok (.iload_n 2, 1) := dk_28 (dk_at dksX1_canClasp_0 7 rfl rfl)
theorem dX1_canClasp_8 : decode cX1_canClasp 8 = .ok (.invokevirtual 199, 3) := dk_182 0 199 (dk_at dksX1_canClasp_0 8 rfl rfl)
theorem dX1_canClasp_11 : decode cX1_canClasp 11 = .ok (.ifCond .eq 5, 3) := dk_153 0 5 (dk_at dksX1_canClasp_0 11 rfl rfl)
theorem dX1_canClasp_14 : decode cX1_canClasp 14 = .ok (.iconst 0, 1) := dk_3 (dk_at dksX1_canClasp_0 14 rfl rfl)
theorem dX1_canClasp_15 : decode cX1_canClasp 15 = .ok (.ireturn, 1) := dk_172 (dk_at dksX1_canClasp_0 15 rfl rfl)
theorem dX1_canClasp_16 : decode cX1_canClasp 16 = .ok (.aload_n 0, 1) := dk_42 (dk_at dksX1_canClasp_0 16 rfl rfl)
theorem dX1_canClasp_17 : decode cX1_canClasp 17 = .ok (.getfield 26, 3) := dk_180 0 26 (dk_at dksX1_canClasp_0 17 rfl rfl)
theorem dX1_canClasp_20 : decode cX1_canClasp 20 = .ok (.iload_n 1, 1) := dk_27 (dk_at dksX1_canClasp_0 20 rfl rfl)
theorem dX1_canClasp_21 : decode cX1_canClasp 21 = .ok (.iload_n 2, 1) := dk_28 (dk_at dksX1_canClasp_0 21 rfl rfl)
theorem dX1_canClasp_22 : decode cX1_canClasp 22 = .ok (.iload_n 3, 1) := dk_29 (dk_at dksX1_canClasp_0 22 rfl rfl)
theorem dX1_canClasp_23 : decode cX1_canClasp 23 = .ok (.iconst 0, 1) := dk_3 (dk_at dksX1_canClasp_0 23 rfl rfl)
theorem dX1_canClasp_24 : decode cX1_canClasp 24 = .ok (.aconst_null, 1) := dk_1 (dk_at dksX1_canClasp_1 0 rfl rfl)
theorem dX1_canClasp_25 : decode cX1_canClasp 25 = .ok (.invokevirtual 203, 3) := dk_182 0 203 (dk_at dksX1_canClasp_1 1 rfl rfl)
theorem dX1_canClasp_28 : decode cX1_canClasp 28 = .ok (.iconst 1, 1) := dk_4 (dk_at dksX1_canClasp_1 4 rfl rfl)
theorem dX1_canClasp_29 : decode cX1_canClasp 29 = .ok (.ireturn, 1) := dk_172 (dk_at dksX1_canClasp_1 5 rfl rfl)
abbrev cX1_claspsThem : ByteArray := prog_12_method_18_code
def yX1_claspsThem : MethodName := ⟨RX1, "claspsThem", "()I"⟩
def dkwX1_claspsThem_2 : List UInt8 := [180, 0, 26, 180, 0, 210, 42, 180, 0, 26, 180, 0, 213, 182, 0, 238, 42, 3, 182, 0, 249, 172]
abbrev dktX1_claspsThem_2 : List UInt8 := dkwX1_claspsThem_2 ++ []
def dkwX1_claspsThem_1 : List UInt8 := [180, 0, 11, 42, 180, 0, 26, 180, 0, 213, 50, 89, 180, 0, 153, 4, 96, 181, 0, 153, 42, 4, 42]
abbrev dktX1_claspsThem_1 : List UInt8 := dkwX1_claspsThem_1 ++ dktX1_claspsThem_2
def dkwX1_claspsThem_0 : List UInt8 := [42, 180, 0, 11, 42, 180, 0, 26, 180, 0, 210, 50, 89, 180, 0, 153, 4, 96, 181, 0, 153, 42]
abbrev dktX1_claspsThem_0 : List UInt8 := dkwX1_claspsThem_0 ++ dktX1_claspsThem_1
theorem dksX1_claspsThem_0 : cX1_claspsThem.data.toList.drop 0 = dktX1_claspsThem_0 := by decide +kernel
theorem dksX1_claspsThem_1 : cX1_claspsThem.data.toList.drop 22 = dktX1_claspsThem_1 := dk_seg dksX1_claspsThem_0 22 rfl rfl
theorem dksX1_claspsThem_2 : cX1_claspsThem.data.toList.drop 45 = dktX1_claspsThem_2 := dk_seg dksX1_claspsThem_1 23 rfl rfl
theorem dX1_claspsThem_0 : decode cX1_claspsThem 0 = .ok (.aload_n 0, 1) := dk_42 (dk_at dksX1_claspsThem_0 0 rfl rfl)
theorem dX1_claspsThem_1 : decode cX1_claspsThem 1 = .ok (.getfield 11, 3) := dk_180 0 11 (dk_at dksX1_claspsThem_0 1 rfl rfl)
theorem dX1_claspsThem_4 : decode cX1_claspsThem 4 = .ok (.aload_n 0, 1) := dk_42 (dk_at dksX1_claspsThem_0 4 rfl rfl)
theorem dX1_claspsThem_5 : decode cX1_claspsThem 5 = .ok (.getfield 26, 3) := dk_180 0 26 (dk_at dksX1_claspsThem_0 5 rfl rfl)
theorem dX1_claspsThem_8 : decode cX1_claspsThem 8 = .ok (.getfield 210, 3) := dk_180 0 210 (dk_at dksX1_claspsThem_0 8 rfl rfl)
theorem dX1_claspsThem_11 : decode cX1_claspsThem 11 = .ok (.aaload, 1) := dk_50 (dk_at dksX1_claspsThem_0 11 rfl rfl)
theorem dX1_claspsThem_12 : decode cX1_claspsThem 12 = .ok (.dup, 1) := dk_89 (dk_at dksX1_claspsThem_0 12 rfl rfl)
theorem dX1_claspsThem_13 : decode cX1_claspsThem 13 = .ok (.getfield 153, 3) := dk_180 0 153 (dk_at dksX1_claspsThem_0 13 rfl rfl)
theorem dX1_claspsThem_16 : decode cX1_claspsThem 16 = .ok (.iconst 1, 1) := dk_4 (dk_at dksX1_claspsThem_0 16 rfl rfl)
theorem dX1_claspsThem_17 : decode cX1_claspsThem 17 = .ok (.iadd, 1) := dk_96 (dk_at dksX1_claspsThem_0 17 rfl rfl)
theorem dX1_claspsThem_18 : decode cX1_claspsThem 18 = .ok (.putfield 153, 3) := dk_181 0 153 (dk_at dksX1_claspsThem_0 18 rfl rfl)
theorem dX1_claspsThem_21 : decode cX1_claspsThem 21 = .ok (.aload_n 0, 1) := dk_42 (dk_at dksX1_claspsThem_0 21 rfl rfl)
theorem dX1_claspsThem_22 : decode cX1_claspsThem 22 = .ok (.getfield 11, 3) := dk_180 0 11 (dk_at dksX1_claspsThem_1 0 rfl rfl)
theorem dX1_claspsThem_25 : decode cX1_claspsThem 25 = .ok (.aload_n 0, 1) := dk_42 (dk_at dksX1_claspsThem_1 3 rfl rfl)
theorem dX1_claspsThem_26 : decode cX1_claspsThem 26 = .ok (.getfield 26, 3) := dk_180 0 26 (dk_at dksX1_claspsThem_1 4 rfl rfl)
theorem dX1_claspsThem_29 : decode cX1_claspsThem 29 = .ok (.getfield 213, 3) := dk_180 0 213 (dk_at dksX1_claspsThem_1 7 rfl rfl)
theorem dX1_claspsThem_32 : decode cX1_claspsThem 32 = .ok (.aaload, 1) := dk_50 (dk_at dksX1_claspsThem_1 10 rfl rfl)
theorem dX1_claspsThem_33 : decode cX1_claspsThem 33 = .ok (.dup, 1) := dk_89 (dk_at dksX1_claspsThem_1 11 rfl rfl)
theorem dX1_claspsThem_34 : decode cX1_claspsThem 34 = .ok (.getfield 153, 3) := dk_180 0 153 (dk_at dksX1_claspsThem_1 12 rfl rfl)
theorem dX1_claspsThem_37 : decode cX1_claspsThem 37 = .ok (.iconst 1, 1) := dk_4 (dk_at dksX1_claspsThem_1 15 rfl rfl)
theorem dX1_claspsThem_38 : decode cX1_claspsThem 38 = .ok (.iadd, 1) := dk_96 (dk_at dksX1_claspsThem_1 16 rfl rfl)
theorem dX1_claspsThem_39 : decode cX1_claspsThem 39 = .ok (.putfield 153, 3) := dk_181 0 153 (dk_at dksX1_claspsThem_1 17 rfl rfl)
theorem dX1_claspsThem_42 : decode cX1_claspsThem 42 = .ok (.aload_n 0, 1) := dk_42 (dk_at dksX1_claspsThem_1 20 rfl rfl)
theorem dX1_claspsThem_43 : decode cX1_claspsThem 43 = .ok (.iconst 1, 1) := dk_4 (dk_at dksX1_claspsThem_1 21 rfl rfl)
theorem dX1_claspsThem_44 : decode cX1_claspsThem 44 = .ok (.aload_n 0, 1) := dk_42 (dk_at dksX1_claspsThem_1 22 rfl rfl)
theorem dX1_claspsThem_45 : decode cX1_claspsThem 45 = .ok (.getfield 26, 3) := dk_180 0 26 (dk_at dksX1_claspsThem_2 0 rfl rfl)
theorem dX1_claspsThem_48 : decode cX1_claspsThem 48 = .ok (.getfield 210, 3) := dk_180 0 210 (dk_at dksX1_claspsThem_2 3 rfl rfl)
theorem dX1_claspsThem_51 : decode cX1_claspsThem 51 = .ok (.aload_n 0, 1) := dk_42 (dk_at dksX1_claspsThem_2 6 rfl rfl)
theorem dX1_claspsThem_52 : decode cX1_claspsThem 52 = .ok (.getfield 26, 3) := dk_180 0 26 (dk_at dksX1_claspsThem_2 7 rfl rfl)
theorem dX1_claspsThem_55 : decode cX1_claspsThem 55 = .ok (.getfield 213, 3) := dk_180 0 213 (dk_at dksX1_claspsThem_2 10 rfl rfl)
theorem dX1_claspsThem_58 : decode cX1_claspsThem 58 = .ok (.invokevirtual 238, 3) := dk_182 0 238 (dk_at dksX1_claspsThem_2 13 rfl rfl)
theorem dX1_claspsThem_61 : decode cX1_claspsThem 61 = .ok (.aload_n 0, 1) := dk_42 (dk_at dksX1_claspsThem_2 16 rfl rfl)
theorem dX1_claspsThem_62 : decode cX1_claspsThem 62 = .ok (.iconst 0, 1) := dk_3 (dk_at dksX1_claspsThem_2 17 rfl rfl)
theorem dX1_claspsThem_63 : decode cX1_claspsThem 63 = .ok (.invokevirtual 249, 3) := dk_182 0 249 (dk_at dksX1_claspsThem_2 18 rfl rfl)
theorem dX1_claspsThem_66 : decode cX1_claspsThem 66 = .ok (.ireturn, 1) := dk_172 (dk_at dksX1_claspsThem_2 21 rfl rfl)
abbrev cX1_passes_2 : ByteArray := prog_12_method_20_code
def yX1_passes_2 : MethodName := ⟨RX1, "passes", "()I"⟩
def dkwX1_passes_2_7 : List UInt8 := [181, 0, 89, 27, 172]
abbrev dktX1_passes_2_7 : List UInt8 := dkwX1_passes_2_7 ++ []
def dkwX1_passes_2_6 : List UInt8 := [180, 1, 16, 182, 1, 25, 87, 132, 1, 1, 132, 2, 1, 167, 255, 181, 42, 89, 180, 0, 89, 4, 96]
abbrev dktX1_passes_2_6 : List UInt8 := dkwX1_passes_2_6 ++ dktX1_passes_2_7
def dkwX1_passes_2_5 : List UInt8 := [180, 1, 16, 45, 180, 1, 18, 45, 180, 1, 19, 182, 1, 21, 154, 0, 6, 167, 0, 15, 42, 45]
abbrev dktX1_passes_2_5 : List UInt8 := dkwX1_passes_2_5 ++ dktX1_passes_2_6
def dkwX1_passes_2_4 : List UInt8 := [182, 0, 163, 192, 1, 10, 78, 45, 180, 1, 12, 42, 180, 0, 89, 160, 0, 41, 42, 45, 180, 1, 13, 45]
abbrev dktX1_passes_2_4 : List UInt8 := dkwX1_passes_2_4 ++ dktX1_passes_2_5
def dkwX1_passes_2_3 : List UInt8 := [167, 255, 188, 3, 60, 3, 61, 28, 42, 180, 0, 63, 182, 0, 159, 162, 0, 70, 42, 180, 0, 63, 28]
abbrev dktX1_passes_2_3 : List UInt8 := dkwX1_passes_2_3 ++ dktX1_passes_2_4
def dkwX1_passes_2_2 : List UInt8 := [180, 0, 11, 42, 180, 0, 66, 27, 182, 0, 163, 192, 0, 255, 182, 1, 5, 50, 182, 1, 7, 132, 1, 1]
abbrev dktX1_passes_2_2 : List UInt8 := dkwX1_passes_2_2 ++ dktX1_passes_2_3
def dkwX1_passes_2_1 : List UInt8 := [42, 180, 0, 89, 182, 1, 1, 153, 0, 36, 42, 180, 0, 66, 27, 182, 0, 163, 192, 0, 255, 42]
abbrev dktX1_passes_2_1 : List UInt8 := dkwX1_passes_2_1 ++ dktX1_passes_2_2
def dkwX1_passes_2_0 : List UInt8 := [3, 60, 27, 42, 180, 0, 66, 182, 0, 159, 162, 0, 63, 42, 180, 0, 66, 27, 182, 0, 163, 192, 0, 255]
abbrev dktX1_passes_2_0 : List UInt8 := dkwX1_passes_2_0 ++ dktX1_passes_2_1
theorem dksX1_passes_2_0 : cX1_passes_2.data.toList.drop 0 = dktX1_passes_2_0 := by decide +kernel
theorem dksX1_passes_2_1 : cX1_passes_2.data.toList.drop 24 = dktX1_passes_2_1 := dk_seg dksX1_passes_2_0 24 rfl rfl
theorem dksX1_passes_2_2 : cX1_passes_2.data.toList.drop 46 = dktX1_passes_2_2 := dk_seg dksX1_passes_2_1 22 rfl rfl
theorem dksX1_passes_2_3 : cX1_passes_2.data.toList.drop 70 = dktX1_passes_2_3 := dk_seg dksX1_passes_2_2 24 rfl rfl
theorem dksX1_passes_2_4 : cX1_passes_2.data.toList.drop 93 = dktX1_passes_2_4 := dk_seg dksX1_passes_2_3 23 rfl rfl
theorem dksX1_passes_2_5 : cX1_passes_2.data.toList.drop 117 = dktX1_passes_2_5 := dk_seg dksX1_passes_2_4 24 rfl rfl
theorem dksX1_passes_2_6 : cX1_passes_2.data.toList.drop 139 = dktX1_passes_2_6 := dk_seg dksX1_passes_2_5 22 rfl rfl
theorem dksX1_passes_2_7 : cX1_passes_2.data.toList.drop 162 = dktX1_passes_2_7 := dk_seg dksX1_passes_2_6 23 rfl rfl
theorem dX1_passes_2_0 : decode cX1_passes_2 0 = .ok (.iconst 0, 1) := dk_3 (dk_at dksX1_passes_2_0 0 rfl rfl)
theorem dX1_passes_2_1 : decode cX1_passes_2 1 = .ok (.istore_n 1, 1) := dk_60 (dk_at dksX1_passes_2_0 1 rfl rfl)
theorem dX1_passes_2_2 : decode cX1_passes_2 2 = .ok (.iload_n 1, 1) := dk_27 (dk_at dksX1_passes_2_0 2 rfl rfl)
theorem dX1_passes_2_3 : decode cX1_passes_2 3 = .ok (.aload_n 0, 1) := dk_42 (dk_at dksX1_passes_2_0 3 rfl rfl)
theorem dX1_passes_2_4 : decode cX1_passes_2 4 = .ok (.getfield 66, 3) := dk_180 0 66 (dk_at dksX1_passes_2_0 4 rfl rfl)
theorem dX1_passes_2_7 : decode cX1_passes_2 7 = .ok (.invokevirtual 159, 3) := dk_182 0 159 (dk_at dksX1_passes_2_0 7 rfl rfl)
theorem dX1_passes_2_10 : decode cX1_passes_2 10 = .ok (.if_icmp .ge 63, 3) := dk_162 0 63 (dk_at dksX1_passes_2_0 10 rfl rfl)
theorem dX1_passes_2_13 : decode cX1_passes_2 13 = .ok (.aload_n 0, 1) := dk_42 (dk_at dksX1_passes_2_0 13 rfl rfl)
theorem dX1_passes_2_14 : decode cX1_passes_2 14 = .ok (.getfield 66, 3) := dk_180 0 66 (dk_at dksX1_passes_2_0 14 rfl rfl)
theorem dX1_passes_2_17 : decode cX1_passes_2 17 = .ok (.iload_n 1, 1) := dk_27 (dk_at dksX1_passes_2_0 17 rfl rfl)
theorem dX1_passes_2_18 : decode cX1_passes_2 18 = .ok (.invokevirtual 163, 3) := dk_182 0 163 (dk_at dksX1_passes_2_0 18 rfl rfl)
theorem dX1_passes_2_21 : decode cX1_passes_2 21 = .ok (.checkcast 255, 3) := dk_192 0 255 (dk_at dksX1_passes_2_0 21 rfl rfl)
theorem dX1_passes_2_24 : decode cX1_passes_2 24 = .ok (.aload_n 0, 1) := dk_42 (dk_at dksX1_passes_2_1 0 rfl rfl)
theorem dX1_passes_2_25 : decode cX1_passes_2 25 = .ok (.getfield 89, 3) := dk_180 0 89 (dk_at dksX1_passes_2_1 1 rfl rfl)
theorem dX1_passes_2_28 : decode cX1_passes_2 28 = .ok (.invokevirtual 257, 3) := dk_182 1 1 (dk_at dksX1_passes_2_1 4 rfl rfl)
theorem dX1_passes_2_31 : decode cX1_passes_2 31 = .ok (.ifCond .eq 36, 3) := dk_153 0 36 (dk_at dksX1_passes_2_1 7 rfl rfl)
theorem dX1_passes_2_34 : decode cX1_passes_2 34 = .ok (.aload_n 0, 1) := dk_42 (dk_at dksX1_passes_2_1 10 rfl rfl)
theorem dX1_passes_2_35 : decode cX1_passes_2 35 = .ok (.getfield 66, 3) := dk_180 0 66 (dk_at dksX1_passes_2_1 11 rfl rfl)
theorem dX1_passes_2_38 : decode cX1_passes_2 38 = .ok (.iload_n 1, 1) := dk_27 (dk_at dksX1_passes_2_1 14 rfl rfl)
theorem dX1_passes_2_39 : decode cX1_passes_2 39 = .ok (.invokevirtual 163, 3) := dk_182 0 163 (dk_at dksX1_passes_2_1 15 rfl rfl)
theorem dX1_passes_2_42 : decode cX1_passes_2 42 = .ok (.checkcast 255, 3) := dk_192 0 255 (dk_at dksX1_passes_2_1 18 rfl rfl)
theorem dX1_passes_2_45 : decode cX1_passes_2 45 = .ok (.aload_n 0, 1) := dk_42 (dk_at dksX1_passes_2_1 21 rfl rfl)
theorem dX1_passes_2_46 : decode cX1_passes_2 46 = .ok (.getfield 11, 3) := dk_180 0 11 (dk_at dksX1_passes_2_2 0 rfl rfl)
theorem dX1_passes_2_49 : decode cX1_passes_2 49 = .ok (.aload_n 0, 1) := dk_42 (dk_at dksX1_passes_2_2 3 rfl rfl)
theorem dX1_passes_2_50 : decode cX1_passes_2 50 = .ok (.getfield 66, 3) := dk_180 0 66 (dk_at dksX1_passes_2_2 4 rfl rfl)
theorem dX1_passes_2_53 : decode cX1_passes_2 53 = .ok (.iload_n 1, 1) := dk_27 (dk_at dksX1_passes_2_2 7 rfl rfl)
theorem dX1_passes_2_54 : decode cX1_passes_2 54 = .ok (.invokevirtual 163, 3) := dk_182 0 163 (dk_at dksX1_passes_2_2 8 rfl rfl)
theorem dX1_passes_2_57 : decode cX1_passes_2 57 = .ok (.checkcast 255, 3) := dk_192 0 255 (dk_at dksX1_passes_2_2 11 rfl rfl)
theorem dX1_passes_2_60 : decode cX1_passes_2 60 = .ok (.invokevirtual 261, 3) := dk_182 1 5 (dk_at dksX1_passes_2_2 14 rfl rfl)
theorem dX1_passes_2_63 : decode cX1_passes_2 63 = .ok (.aaload, 1) := dk_50 (dk_at dksX1_passes_2_2 17 rfl rfl)
theorem dX1_passes_2_64 : decode cX1_passes_2 64 = .ok (.invokevirtual 263, 3) := dk_182 1 7 (dk_at dksX1_passes_2_2 18 rfl rfl)
theorem dX1_passes_2_67 : decode cX1_passes_2 67 = .ok (.iinc 1 1, 3) := dk_132 1 1 (dk_at dksX1_passes_2_2 21 rfl rfl)
theorem dX1_passes_2_70 : decode cX1_passes_2 70 = .ok (.goto (-68), 3) := dk_167 255 188 (dk_at dksX1_passes_2_3 0 rfl rfl)
theorem dX1_passes_2_73 : decode cX1_passes_2 73 = .ok (.iconst 0, 1) := dk_3 (dk_at dksX1_passes_2_3 3 rfl rfl)
theorem dX1_passes_2_74 : decode cX1_passes_2 74 = .ok (.istore_n 1, 1) := dk_60 (dk_at dksX1_passes_2_3 4 rfl rfl)
theorem dX1_passes_2_75 : decode cX1_passes_2 75 = .ok (.iconst 0, 1) := dk_3 (dk_at dksX1_passes_2_3 5 rfl rfl)
theorem dX1_passes_2_76 : decode cX1_passes_2 76 = .ok (.istore_n 2, 1) := dk_61 (dk_at dksX1_passes_2_3 6 rfl rfl)
theorem dX1_passes_2_77 : decode cX1_passes_2 77 = .ok (.iload_n 2, 1) := dk_28 (dk_at dksX1_passes_2_3 7 rfl rfl)
theorem dX1_passes_2_78 : decode cX1_passes_2 78 = .ok (.aload_n 0, 1) := dk_42 (dk_at dksX1_passes_2_3 8 rfl rfl)
theorem dX1_passes_2_79 : decode cX1_passes_2 79 = .ok (.getfield 63, 3) := dk_180 0 63 (dk_at dksX1_passes_2_3 9 rfl rfl)
theorem dX1_passes_2_82 : decode cX1_passes_2 82 = .ok (.invokevirtual 159, 3) := dk_182 0 159 (dk_at dksX1_passes_2_3 12 rfl rfl)
theorem dX1_passes_2_85 : decode cX1_passes_2 85 = .ok (.if_icmp .ge 70, 3) := dk_162 0 70 (dk_at dksX1_passes_2_3 15 rfl rfl)
theorem dX1_passes_2_88 : decode cX1_passes_2 88 = .ok (.aload_n 0, 1) := dk_42 (dk_at dksX1_passes_2_3 18 rfl rfl)
theorem dX1_passes_2_89 : decode cX1_passes_2 89 = .ok (.getfield 63, 3) := dk_180 0 63 (dk_at dksX1_passes_2_3 19 rfl rfl)
theorem dX1_passes_2_92 : decode cX1_passes_2 92 = .ok (.iload_n 2, 1) := dk_28 (dk_at dksX1_passes_2_3 22 rfl rfl)
theorem dX1_passes_2_93 : decode cX1_passes_2 93 = .ok (.invokevirtual 163, 3) := dk_182 0 163 (dk_at dksX1_passes_2_4 0 rfl rfl)
theorem dX1_passes_2_96 : decode cX1_passes_2 96 = .ok (.checkcast 266, 3) := dk_192 1 10 (dk_at dksX1_passes_2_4 3 rfl rfl)
theorem dX1_passes_2_99 : decode cX1_passes_2 99 = .ok (.astore_n 3, 1) := dk_78 (dk_at dksX1_passes_2_4 6 rfl rfl)
theorem dX1_passes_2_100 : decode cX1_passes_2 100 = .ok (.aload_n 3, 1) := dk_45 (dk_at dksX1_passes_2_4 7 rfl rfl)
theorem dX1_passes_2_101 : decode cX1_passes_2 101 = .ok (.getfield 268, 3) := dk_180 1 12 (dk_at dksX1_passes_2_4 8 rfl rfl)
theorem dX1_passes_2_104 : decode cX1_passes_2 104 = .ok (.aload_n 0, 1) := dk_42 (dk_at dksX1_passes_2_4 11 rfl rfl)
theorem dX1_passes_2_105 : decode cX1_passes_2 105 = .ok (.getfield 89, 3) := dk_180 0 89 (dk_at dksX1_passes_2_4 12 rfl rfl)
theorem dX1_passes_2_108 : decode cX1_passes_2 108 = .ok (.if_icmp .ne 41, 3) := dk_160 0 41 (dk_at dksX1_passes_2_4 15 rfl rfl)
theorem dX1_passes_2_111 : decode cX1_passes_2 111 = .ok (.aload_n 0, 1) := dk_42 (dk_at dksX1_passes_2_4 18 rfl rfl)
theorem dX1_passes_2_112 : decode cX1_passes_2 112 = .ok (.aload_n 3, 1) := dk_45 (dk_at dksX1_passes_2_4 19 rfl rfl)
theorem dX1_passes_2_113 : decode cX1_passes_2 113 = .ok (.getfield 269, 3) := dk_180 1 13 (dk_at dksX1_passes_2_4 20 rfl rfl)
theorem dX1_passes_2_116 : decode cX1_passes_2 116 = .ok (.aload_n 3, 1) := dk_45 (dk_at dksX1_passes_2_4 23 rfl rfl)
theorem dX1_passes_2_117 : decode cX1_passes_2 117 = .ok (.getfield 272, 3) := dk_180 1 16 (dk_at dksX1_passes_2_5 0 rfl rfl)
theorem dX1_passes_2_120 : decode cX1_passes_2 120 = .ok (.aload_n 3, 1) := dk_45 (dk_at dksX1_passes_2_5 3 rfl rfl)
theorem dX1_passes_2_121 : decode cX1_passes_2 121 = .ok (.getfield 274, 3) := dk_180 1 18 (dk_at dksX1_passes_2_5 4 rfl rfl)
theorem dX1_passes_2_124 : decode cX1_passes_2 124 = .ok (.aload_n 3, 1) := dk_45 (dk_at dksX1_passes_2_5 7 rfl rfl)
theorem dX1_passes_2_125 : decode cX1_passes_2 125 = .ok (.getfield 275, 3) := dk_180 1 19 (dk_at dksX1_passes_2_5 8 rfl rfl)
theorem dX1_passes_2_128 : decode cX1_passes_2 128 = .ok (.invokevirtual 277, 3) := dk_182 1 21 (dk_at dksX1_passes_2_5 11 rfl rfl)
theorem dX1_passes_2_131 : decode cX1_passes_2 131 = .ok (.ifCond .ne 6, 3) := dk_154 0 6 (dk_at dksX1_passes_2_5 14 rfl rfl)
theorem dX1_passes_2_134 : decode cX1_passes_2 134 = .ok (.goto 15, 3) := dk_167 0 15 (dk_at dksX1_passes_2_5 17 rfl rfl)
theorem dX1_passes_2_137 : decode cX1_passes_2 137 = .ok (.aload_n 0, 1) := dk_42 (dk_at dksX1_passes_2_5 20 rfl rfl)
theorem dX1_passes_2_138 : decode cX1_passes_2 138 = .ok (.aload_n 3, 1) := dk_45 (dk_at dksX1_passes_2_5 21 rfl rfl)
theorem dX1_passes_2_139 : decode cX1_passes_2 139 = .ok (.getfield 272, 3) := dk_180 1 16 (dk_at dksX1_passes_2_6 0 rfl rfl)
theorem dX1_passes_2_142 : decode cX1_passes_2 142 = .ok (.invokevirtual 281, 3) := dk_182 1 25 (dk_at dksX1_passes_2_6 3 rfl rfl)
theorem dX1_passes_2_145 : decode cX1_passes_2 145 = .ok (.pop, 1) := dk_87 (dk_at dksX1_passes_2_6 6 rfl rfl)
theorem dX1_passes_2_146 : decode cX1_passes_2 146 = .ok (.iinc 1 1, 3) := dk_132 1 1 (dk_at dksX1_passes_2_6 7 rfl rfl)
theorem dX1_passes_2_149 : decode cX1_passes_2 149 = .ok (.iinc 2 1, 3) := dk_132 2 1 (dk_at dksX1_passes_2_6 10 rfl rfl)
theorem dX1_passes_2_152 : decode cX1_passes_2 152 = .ok (.goto (-75), 3) := dk_167 255 181 (dk_at dksX1_passes_2_6 13 rfl rfl)
theorem dX1_passes_2_155 : decode cX1_passes_2 155 = .ok (.aload_n 0, 1) := dk_42 (dk_at dksX1_passes_2_6 16 rfl rfl)
theorem dX1_passes_2_156 : decode cX1_passes_2 156 = .ok (.dup, 1) := dk_89 (dk_at dksX1_passes_2_6 17 rfl rfl)
theorem dX1_passes_2_157 : decode cX1_passes_2 157 = .ok (.getfield 89, 3) := dk_180 0 89 (dk_at dksX1_passes_2_6 18 rfl rfl)
theorem dX1_passes_2_160 : decode cX1_passes_2 160 = .ok (.iconst 1, 1) := dk_4 (dk_at dksX1_passes_2_6 21 rfl rfl)
theorem dX1_passes_2_161 : decode cX1_passes_2 161 = .ok (.iadd, 1) := dk_96 (dk_at dksX1_passes_2_6 22 rfl rfl)
theorem dX1_passes_2_162 : decode cX1_passes_2 162 = .ok (.putfield 89, 3) := dk_181 0 89 (dk_at dksX1_passes_2_7 0 rfl rfl)
theorem dX1_passes_2_165 : decode cX1_passes_2 165 = .ok (.iload_n 1, 1) := dk_27 (dk_at dksX1_passes_2_7 3 rfl rfl)
theorem dX1_passes_2_166 : decode cX1_passes_2 166 = .ok (.ireturn, 1) := dk_172 (dk_at dksX1_passes_2_7 4 rfl rfl)
abbrev cX1_thinks : ByteArray := prog_12_method_3_code
def yX1_thinks : MethodName := ⟨RX1, "thinks", "(LClaspedFair$Market;)V"⟩
def dkwX1_thinks_2 : List UInt8 := [180, 0, 69, 181, 0, 69, 42, 43, 180, 0, 108, 181, 0, 108, 177]
abbrev dktX1_thinks_2 : List UInt8 := dkwX1_thinks_2 ++ []
def dkwX1_thinks_1 : List UInt8 := [180, 0, 59, 181, 0, 59, 42, 43, 180, 0, 63, 181, 0, 63, 42, 43, 180, 0, 66, 181, 0, 66, 42, 43]
abbrev dktX1_thinks_1 : List UInt8 := dkwX1_thinks_1 ++ dktX1_thinks_2
def dkwX1_thinks_0 : List UInt8 := [42, 43, 182, 0, 98, 42, 43, 180, 0, 102, 181, 0, 102, 42, 43, 180, 0, 105, 181, 0, 105, 42, 43]
abbrev dktX1_thinks_0 : List UInt8 := dkwX1_thinks_0 ++ dktX1_thinks_1
theorem dksX1_thinks_0 : cX1_thinks.data.toList.drop 0 = dktX1_thinks_0 := by decide +kernel
theorem dksX1_thinks_1 : cX1_thinks.data.toList.drop 23 = dktX1_thinks_1 := dk_seg dksX1_thinks_0 23 rfl rfl
theorem dksX1_thinks_2 : cX1_thinks.data.toList.drop 47 = dktX1_thinks_2 := dk_seg dksX1_thinks_1 24 rfl rfl
theorem dX1_thinks_0 : decode cX1_thinks 0 = .ok (.aload_n 0, 1) := dk_42 (dk_at dksX1_thinks_0 0 rfl rfl)
theorem dX1_thinks_1 : decode cX1_thinks 1 = .ok (.aload_n 1, 1) := dk_43 (dk_at dksX1_thinks_0 1 rfl rfl)
theorem dX1_thinks_2 : decode cX1_thinks 2 = .ok (.invokevirtual 98, 3) := dk_182 0 98 (dk_at dksX1_thinks_0 2 rfl rfl)
theorem dX1_thinks_5 : decode cX1_thinks 5 = .ok (.aload_n 0, 1) := dk_42 (dk_at dksX1_thinks_0 5 rfl rfl)
theorem dX1_thinks_6 : decode cX1_thinks 6 = .ok (.aload_n 1, 1) := dk_43 (dk_at dksX1_thinks_0 6 rfl rfl)
theorem dX1_thinks_7 : decode cX1_thinks 7 = .ok (.getfield 102, 3) := dk_180 0 102 (dk_at dksX1_thinks_0 7 rfl rfl)
theorem dX1_thinks_10 : decode cX1_thinks 10 = .ok (.putfield 102, 3) := dk_181 0 102 (dk_at dksX1_thinks_0 10 rfl rfl)
theorem dX1_thinks_13 : decode cX1_thinks 13 = .ok (.aload_n 0, 1) := dk_42 (dk_at dksX1_thinks_0 13 rfl rfl)
theorem dX1_thinks_14 : decode cX1_thinks 14 = .ok (.aload_n 1, 1) := dk_43 (dk_at dksX1_thinks_0 14 rfl rfl)
theorem dX1_thinks_15 : decode cX1_thinks 15 = .ok (.getfield 105, 3) := dk_180 0 105 (dk_at dksX1_thinks_0 15 rfl rfl)
theorem dX1_thinks_18 : decode cX1_thinks 18 = .ok (.putfield 105, 3) := dk_181 0 105 (dk_at dksX1_thinks_0 18 rfl rfl)
theorem dX1_thinks_21 : decode cX1_thinks 21 = .ok (.aload_n 0, 1) := dk_42 (dk_at dksX1_thinks_0 21 rfl rfl)
theorem dX1_thinks_22 : decode cX1_thinks 22 = .ok (.aload_n 1, 1) := dk_43 (dk_at dksX1_thinks_0 22 rfl rfl)
theorem dX1_thinks_23 : decode cX1_thinks 23 = .ok (.getfield 59, 3) := dk_180 0 59 (dk_at dksX1_thinks_1 0 rfl rfl)
theorem dX1_thinks_26 : decode cX1_thinks 26 = .ok (.putfield 59, 3) := dk_181 0 59 (dk_at dksX1_thinks_1 3 rfl rfl)
theorem dX1_thinks_29 : decode cX1_thinks 29 = .ok (.aload_n 0, 1) := dk_42 (dk_at dksX1_thinks_1 6 rfl rfl)
theorem dX1_thinks_30 : decode cX1_thinks 30 = .ok (.aload_n 1, 1) := dk_43 (dk_at dksX1_thinks_1 7 rfl rfl)
theorem dX1_thinks_31 : decode cX1_thinks 31 = .ok (.getfield 63, 3) := dk_180 0 63 (dk_at dksX1_thinks_1 8 rfl rfl)
theorem dX1_thinks_34 : decode cX1_thinks 34 = .ok (.putfield 63, 3) := dk_181 0 63 (dk_at dksX1_thinks_1 11 rfl rfl)
theorem dX1_thinks_37 : decode cX1_thinks 37 = .ok (.aload_n 0, 1) := dk_42 (dk_at dksX1_thinks_1 14 rfl rfl)
theorem dX1_thinks_38 : decode cX1_thinks 38 = .ok (.aload_n 1, 1) := dk_43 (dk_at dksX1_thinks_1 15 rfl rfl)
theorem dX1_thinks_39 : decode cX1_thinks 39 = .ok (.getfield 66, 3) := dk_180 0 66 (dk_at dksX1_thinks_1 16 rfl rfl)
theorem dX1_thinks_42 : decode cX1_thinks 42 = .ok (.putfield 66, 3) := dk_181 0 66 (dk_at dksX1_thinks_1 19 rfl rfl)
theorem dX1_thinks_45 : decode cX1_thinks 45 = .ok (.aload_n 0, 1) := dk_42 (dk_at dksX1_thinks_1 22 rfl rfl)
theorem dX1_thinks_46 : decode cX1_thinks 46 = .ok (.aload_n 1, 1) := dk_43 (dk_at dksX1_thinks_1 23 rfl rfl)
theorem dX1_thinks_47 : decode cX1_thinks 47 = .ok (.getfield 69, 3) := dk_180 0 69 (dk_at dksX1_thinks_2 0 rfl rfl)
theorem dX1_thinks_50 : decode cX1_thinks 50 = .ok (.putfield 69, 3) := dk_181 0 69 (dk_at dksX1_thinks_2 3 rfl rfl)
theorem dX1_thinks_53 : decode cX1_thinks 53 = .ok (.aload_n 0, 1) := dk_42 (dk_at dksX1_thinks_2 6 rfl rfl)
theorem dX1_thinks_54 : decode cX1_thinks 54 = .ok (.aload_n 1, 1) := dk_43 (dk_at dksX1_thinks_2 7 rfl rfl)
theorem dX1_thinks_55 : decode cX1_thinks 55 = .ok (.getfield 108, 3) := dk_180 0 108 (dk_at dksX1_thinks_2 8 rfl rfl)
theorem dX1_thinks_58 : decode cX1_thinks 58 = .ok (.putfield 108, 3) := dk_181 0 108 (dk_at dksX1_thinks_2 11 rfl rfl)
theorem dX1_thinks_61 : decode cX1_thinks 61 = .ok (.return_, 1) := dk_177 (dk_at dksX1_thinks_2 14 rfl rfl)
abbrev cX1_takes : ByteArray := prog_12_method_4_code
def yX1_takes : MethodName := ⟨RX1, "takes", "(LClaspedFair$Market;)V"⟩
def dkwX1_takes_4 : List UInt8 := [182, 0, 114, 42, 180, 0, 53, 43, 180, 0, 53, 182, 0, 114, 177]
abbrev dktX1_takes_4 : List UInt8 := dkwX1_takes_4 ++ []
def dkwX1_takes_3 : List UInt8 := [182, 0, 114, 42, 180, 0, 47, 43, 180, 0, 47, 182, 0, 114, 42, 180, 0, 50, 43, 180, 0, 50]
abbrev dktX1_takes_3 : List UInt8 := dkwX1_takes_3 ++ dktX1_takes_4
def dkwX1_takes_2 : List UInt8 := [167, 255, 216, 42, 180, 0, 40, 43, 180, 0, 40, 182, 0, 114, 42, 180, 0, 44, 43, 180, 0, 44]
abbrev dktX1_takes_2 : List UInt8 := dkwX1_takes_2 ++ dktX1_takes_3
def dkwX1_takes_1 : List UInt8 := [180, 0, 32, 28, 50, 29, 43, 180, 0, 32, 28, 50, 29, 46, 79, 132, 3, 1, 167, 255, 232, 132, 2, 1]
abbrev dktX1_takes_1 : List UInt8 := dkwX1_takes_1 ++ dktX1_takes_2
def dkwX1_takes_0 : List UInt8 := [42, 43, 182, 0, 111, 3, 61, 28, 42, 180, 0, 95, 162, 0, 38, 3, 62, 29, 7, 162, 0, 25, 42]
abbrev dktX1_takes_0 : List UInt8 := dkwX1_takes_0 ++ dktX1_takes_1
theorem dksX1_takes_0 : cX1_takes.data.toList.drop 0 = dktX1_takes_0 := by decide +kernel
theorem dksX1_takes_1 : cX1_takes.data.toList.drop 23 = dktX1_takes_1 := dk_seg dksX1_takes_0 23 rfl rfl
theorem dksX1_takes_2 : cX1_takes.data.toList.drop 47 = dktX1_takes_2 := dk_seg dksX1_takes_1 24 rfl rfl
theorem dksX1_takes_3 : cX1_takes.data.toList.drop 69 = dktX1_takes_3 := dk_seg dksX1_takes_2 22 rfl rfl
theorem dksX1_takes_4 : cX1_takes.data.toList.drop 91 = dktX1_takes_4 := dk_seg dksX1_takes_3 22 rfl rfl
theorem dX1_takes_0 : decode cX1_takes 0 = .ok (.aload_n 0, 1) := dk_42 (dk_at dksX1_takes_0 0 rfl rfl)
theorem dX1_takes_1 : decode cX1_takes 1 = .ok (.aload_n 1, 1) := dk_43 (dk_at dksX1_takes_0 1 rfl rfl)
theorem dX1_takes_2 : decode cX1_takes 2 = .ok (.invokevirtual 111, 3) := dk_182 0 111 (dk_at dksX1_takes_0 2 rfl rfl)
theorem dX1_takes_5 : decode cX1_takes 5 = .ok (.iconst 0, 1) := dk_3 (dk_at dksX1_takes_0 5 rfl rfl)
theorem dX1_takes_6 : decode cX1_takes 6 = .ok (.istore_n 2, 1) := dk_61 (dk_at dksX1_takes_0 6 rfl rfl)
theorem dX1_takes_7 : decode cX1_takes 7 = .ok (.iload_n 2, 1) := dk_28 (dk_at dksX1_takes_0 7 rfl rfl)
theorem dX1_takes_8 : decode cX1_takes 8 = .ok (.aload_n 0, 1) := dk_42 (dk_at dksX1_takes_0 8 rfl rfl)
theorem dX1_takes_9 : decode cX1_takes 9 = .ok (.getfield 95, 3) := dk_180 0 95 (dk_at dksX1_takes_0 9 rfl rfl)
theorem dX1_takes_12 : decode cX1_takes 12 = .ok (.if_icmp .ge 38, 3) := dk_162 0 38 (dk_at dksX1_takes_0 12 rfl rfl)
theorem dX1_takes_15 : decode cX1_takes 15 = .ok (.iconst 0, 1) := dk_3 (dk_at dksX1_takes_0 15 rfl rfl)
theorem dX1_takes_16 : decode cX1_takes 16 = .ok (.istore_n 3, 1) := dk_62 (dk_at dksX1_takes_0 16 rfl rfl)
theorem dX1_takes_17 : decode cX1_takes 17 = .ok (.iload_n 3, 1) := dk_29 (dk_at dksX1_takes_0 17 rfl rfl)
theorem dX1_takes_18 : decode cX1_takes 18 = .ok (.iconst 4, 1) := dk_7 (dk_at dksX1_takes_0 18 rfl rfl)
theorem dX1_takes_19 : decode cX1_takes 19 = .ok (.if_icmp .ge 25, 3) := dk_162 0 25 (dk_at dksX1_takes_0 19 rfl rfl)
theorem dX1_takes_22 : decode cX1_takes 22 = .ok (.aload_n 0, 1) := dk_42 (dk_at dksX1_takes_0 22 rfl rfl)
theorem dX1_takes_23 : decode cX1_takes 23 = .ok (.getfield 32, 3) := dk_180 0 32 (dk_at dksX1_takes_1 0 rfl rfl)
theorem dX1_takes_26 : decode cX1_takes 26 = .ok (.iload_n 2, 1) := dk_28 (dk_at dksX1_takes_1 3 rfl rfl)
theorem dX1_takes_27 : decode cX1_takes 27 = .ok (.aaload, 1) := dk_50 (dk_at dksX1_takes_1 4 rfl rfl)
theorem dX1_takes_28 : decode cX1_takes 28 = .ok (.iload_n 3, 1) := dk_29 (dk_at dksX1_takes_1 5 rfl rfl)
theorem dX1_takes_29 : decode cX1_takes 29 = .ok (.aload_n 1, 1) := dk_43 (dk_at dksX1_takes_1 6 rfl rfl)
theorem dX1_takes_30 : decode cX1_takes 30 = .ok (.getfield 32, 3) := dk_180 0 32 (dk_at dksX1_takes_1 7 rfl rfl)
theorem dX1_takes_33 : decode cX1_takes 33 = .ok (.iload_n 2, 1) := dk_28 (dk_at dksX1_takes_1 10 rfl rfl)
theorem dX1_takes_34 : decode cX1_takes 34 = .ok (.aaload, 1) := dk_50 (dk_at dksX1_takes_1 11 rfl rfl)
theorem dX1_takes_35 : decode cX1_takes 35 = .ok (.iload_n 3, 1) := dk_29 (dk_at dksX1_takes_1 12 rfl rfl)
theorem dX1_takes_36 : decode cX1_takes 36 = .ok (.iaload, 1) := dk_46 (dk_at dksX1_takes_1 13 rfl rfl)
theorem dX1_takes_37 : decode cX1_takes 37 = .ok (.iastore, 1) := dk_79 (dk_at dksX1_takes_1 14 rfl rfl)
theorem dX1_takes_38 : decode cX1_takes 38 = .ok (.iinc 3 1, 3) := dk_132 3 1 (dk_at dksX1_takes_1 15 rfl rfl)
theorem dX1_takes_41 : decode cX1_takes 41 = .ok (.goto (-24), 3) := dk_167 255 232 (dk_at dksX1_takes_1 18 rfl rfl)
theorem dX1_takes_44 : decode cX1_takes 44 = .ok (.iinc 2 1, 3) := dk_132 2 1 (dk_at dksX1_takes_1 21 rfl rfl)
theorem dX1_takes_47 : decode cX1_takes 47 = .ok (.goto (-40), 3) := dk_167 255 216 (dk_at dksX1_takes_2 0 rfl rfl)
theorem dX1_takes_50 : decode cX1_takes 50 = .ok (.aload_n 0, 1) := dk_42 (dk_at dksX1_takes_2 3 rfl rfl)
theorem dX1_takes_51 : decode cX1_takes 51 = .ok (.getfield 40, 3) := dk_180 0 40 (dk_at dksX1_takes_2 4 rfl rfl)
theorem dX1_takes_54 : decode cX1_takes 54 = .ok (.aload_n 1, 1) := dk_43 (dk_at dksX1_takes_2 7 rfl rfl)
theorem dX1_takes_55 : decode cX1_takes 55 = .ok (.getfield 40, 3) := dk_180 0 40 (dk_at dksX1_takes_2 8 rfl rfl)
theorem dX1_takes_58 : decode cX1_takes 58 = .ok (.invokevirtual 114, 3) := dk_182 0 114 (dk_at dksX1_takes_2 11 rfl rfl)
theorem dX1_takes_61 : decode cX1_takes 61 = .ok (.aload_n 0, 1) := dk_42 (dk_at dksX1_takes_2 14 rfl rfl)
theorem dX1_takes_62 : decode cX1_takes 62 = .ok (.getfield 44, 3) := dk_180 0 44 (dk_at dksX1_takes_2 15 rfl rfl)
theorem dX1_takes_65 : decode cX1_takes 65 = .ok (.aload_n 1, 1) := dk_43 (dk_at dksX1_takes_2 18 rfl rfl)
theorem dX1_takes_66 : decode cX1_takes 66 = .ok (.getfield 44, 3) := dk_180 0 44 (dk_at dksX1_takes_2 19 rfl rfl)
theorem dX1_takes_69 : decode cX1_takes 69 = .ok (.invokevirtual 114, 3) := dk_182 0 114 (dk_at dksX1_takes_3 0 rfl rfl)
theorem dX1_takes_72 : decode cX1_takes 72 = .ok (.aload_n 0, 1) := dk_42 (dk_at dksX1_takes_3 3 rfl rfl)
theorem dX1_takes_73 : decode cX1_takes 73 = .ok (.getfield 47, 3) := dk_180 0 47 (dk_at dksX1_takes_3 4 rfl rfl)
theorem dX1_takes_76 : decode cX1_takes 76 = .ok (.aload_n 1, 1) := dk_43 (dk_at dksX1_takes_3 7 rfl rfl)
theorem dX1_takes_77 : decode cX1_takes 77 = .ok (.getfield 47, 3) := dk_180 0 47 (dk_at dksX1_takes_3 8 rfl rfl)
theorem dX1_takes_80 : decode cX1_takes 80 = .ok (.invokevirtual 114, 3) := dk_182 0 114 (dk_at dksX1_takes_3 11 rfl rfl)
theorem dX1_takes_83 : decode cX1_takes 83 = .ok (.aload_n 0, 1) := dk_42 (dk_at dksX1_takes_3 14 rfl rfl)
theorem dX1_takes_84 : decode cX1_takes 84 = .ok (.getfield 50, 3) := dk_180 0 50 (dk_at dksX1_takes_3 15 rfl rfl)
theorem dX1_takes_87 : decode cX1_takes 87 = .ok (.aload_n 1, 1) := dk_43 (dk_at dksX1_takes_3 18 rfl rfl)
theorem dX1_takes_88 : decode cX1_takes 88 = .ok (.getfield 50, 3) := dk_180 0 50 (dk_at dksX1_takes_3 19 rfl rfl)
theorem dX1_takes_91 : decode cX1_takes 91 = .ok (.invokevirtual 114, 3) := dk_182 0 114 (dk_at dksX1_takes_4 0 rfl rfl)
theorem dX1_takes_94 : decode cX1_takes 94 = .ok (.aload_n 0, 1) := dk_42 (dk_at dksX1_takes_4 3 rfl rfl)
theorem dX1_takes_95 : decode cX1_takes 95 = .ok (.getfield 53, 3) := dk_180 0 53 (dk_at dksX1_takes_4 4 rfl rfl)
theorem dX1_takes_98 : decode cX1_takes 98 = .ok (.aload_n 1, 1) := dk_43 (dk_at dksX1_takes_4 7 rfl rfl)
theorem dX1_takes_99 : decode cX1_takes 99 = .ok (.getfield 53, 3) := dk_180 0 53 (dk_at dksX1_takes_4 8 rfl rfl)
theorem dX1_takes_102 : decode cX1_takes 102 = .ok (.invokevirtual 114, 3) := dk_182 0 114 (dk_at dksX1_takes_4 11 rfl rfl)
theorem dX1_takes_105 : decode cX1_takes 105 = .ok (.return_, 1) := dk_177 (dk_at dksX1_takes_4 14 rfl rfl)

