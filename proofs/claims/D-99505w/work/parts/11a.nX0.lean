set_option maxRecDepth 100000
abbrev cX0_init : ByteArray := prog_1_method_1_code
def yX0_init : MethodName := ⟨RX0, "<init>", "()V"⟩
def dkwX0_init_5 : List UInt8 := [181, 0, 45, 42, 16, 21, 188, 10, 181, 0, 48, 177]
abbrev dktX0_init_5 : List UInt8 := dkwX0_init_5 ++ []
def dkwX0_init_4 : List UInt8 := [167, 255, 234, 42, 16, 13, 188, 10, 181, 0, 38, 42, 17, 16, 0, 188, 10, 181, 0, 42, 42, 7, 188, 10]
abbrev dktX0_init_4 : List UInt8 := dkwX0_init_4 ++ dktX0_init_5
def dkwX0_init_3 : List UInt8 := [60, 27, 16, 6, 162, 0, 22, 42, 180, 0, 30, 27, 187, 0, 17, 89, 183, 0, 19, 83, 132, 1, 1]
abbrev dktX0_init_3 : List UInt8 := dkwX0_init_3 ++ dktX0_init_4
def dkwX0_init_2 : List UInt8 := [183, 0, 19, 181, 0, 27, 42, 16, 6, 189, 0, 17, 181, 0, 30, 42, 180, 0, 27, 4, 181, 0, 34, 3]
abbrev dktX0_init_2 : List UInt8 := dkwX0_init_2 ++ dktX0_init_3
def dkwX0_init_1 : List UInt8 := [183, 0, 19, 181, 0, 20, 42, 187, 0, 17, 89, 183, 0, 19, 181, 0, 24, 42, 187, 0, 17, 89]
abbrev dktX0_init_1 : List UInt8 := dkwX0_init_1 ++ dktX0_init_2
def dkwX0_init_0 : List UInt8 := [42, 183, 0, 1, 42, 17, 1, 144, 188, 8, 181, 0, 9, 42, 2, 181, 0, 13, 42, 187, 0, 17, 89]
abbrev dktX0_init_0 : List UInt8 := dkwX0_init_0 ++ dktX0_init_1
theorem dksX0_init_0 : cX0_init.data.toList.drop 0 = dktX0_init_0 := by decide +kernel
theorem dksX0_init_1 : cX0_init.data.toList.drop 23 = dktX0_init_1 := dk_seg dksX0_init_0 23 rfl rfl
theorem dksX0_init_2 : cX0_init.data.toList.drop 45 = dktX0_init_2 := dk_seg dksX0_init_1 22 rfl rfl
theorem dksX0_init_3 : cX0_init.data.toList.drop 69 = dktX0_init_3 := dk_seg dksX0_init_2 24 rfl rfl
theorem dksX0_init_4 : cX0_init.data.toList.drop 92 = dktX0_init_4 := dk_seg dksX0_init_3 23 rfl rfl
theorem dksX0_init_5 : cX0_init.data.toList.drop 116 = dktX0_init_5 := dk_seg dksX0_init_4 24 rfl rfl
theorem dX0_init_0 : decode cX0_init 0 = .ok (.aload_n 0, 1) := dk_42 (dk_at dksX0_init_0 0 rfl rfl)
theorem dX0_init_1 : decode cX0_init 1 = .ok (.invokespecial 1, 3) := dk_183 0 1 (dk_at dksX0_init_0 1 rfl rfl)
theorem dX0_init_4 : decode cX0_init 4 = .ok (.aload_n 0, 1) := dk_42 (dk_at dksX0_init_0 4 rfl rfl)
theorem dX0_init_5 : decode cX0_init 5 = .ok (.sipush 400, 3) := dk_17 1 144 (dk_at dksX0_init_0 5 rfl rfl)
theorem dX0_init_8 : decode cX0_init 8 = .ok (.newarray .byte, 2) := dk_188_8 (dk_at dksX0_init_0 8 rfl rfl)
theorem dX0_init_10 : decode cX0_init 10 = .ok (.putfield 9, 3) := dk_181 0 9 (dk_at dksX0_init_0 10 rfl rfl)
theorem dX0_init_13 : decode cX0_init 13 = .ok (.aload_n 0, 1) := dk_42 (dk_at dksX0_init_0 13 rfl rfl)
theorem dX0_init_14 : decode cX0_init 14 = .ok (.iconst (-1), 1) := dk_2 (dk_at dksX0_init_0 14 rfl rfl)
theorem dX0_init_15 : decode cX0_init 15 = .ok (.putfield 13, 3) := dk_181 0 13 (dk_at dksX0_init_0 15 rfl rfl)
theorem dX0_init_18 : decode cX0_init 18 = .ok (.aload_n 0, 1) := dk_42 (dk_at dksX0_init_0 18 rfl rfl)
theorem dX0_init_19 : decode cX0_init 19 = .ok (.new 17, 3) := dk_187 0 17 (dk_at dksX0_init_0 19 rfl rfl)
theorem dX0_init_22 : decode cX0_init 22 = .ok (.dup, 1) := dk_89 (dk_at dksX0_init_0 22 rfl rfl)
theorem dX0_init_23 : decode cX0_init 23 = .ok (.invokespecial 19, 3) := dk_183 0 19 (dk_at dksX0_init_1 0 rfl rfl)
theorem dX0_init_26 : decode cX0_init 26 = .ok (.putfield 20, 3) := dk_181 0 20 (dk_at dksX0_init_1 3 rfl rfl)
theorem dX0_init_29 : decode cX0_init 29 = .ok (.aload_n 0, 1) := dk_42 (dk_at dksX0_init_1 6 rfl rfl)
theorem dX0_init_30 : decode cX0_init 30 = .ok (.new 17, 3) := dk_187 0 17 (dk_at dksX0_init_1 7 rfl rfl)
theorem dX0_init_33 : decode cX0_init 33 = .ok (.dup, 1) := dk_89 (dk_at dksX0_init_1 10 rfl rfl)
theorem dX0_init_34 : decode cX0_init 34 = .ok (.invokespecial 19, 3) := dk_183 0 19 (dk_at dksX0_init_1 11 rfl rfl)
theorem dX0_init_37 : decode cX0_init 37 = .ok (.putfield 24, 3) := dk_181 0 24 (dk_at dksX0_init_1 14 rfl rfl)
theorem dX0_init_40 : decode cX0_init 40 = .ok (.aload_n 0, 1) := dk_42 (dk_at dksX0_init_1 17 rfl rfl)
theorem dX0_init_41 : decode cX0_init 41 = .ok (.new 17, 3) := dk_187 0 17 (dk_at dksX0_init_1 18 rfl rfl)
theorem dX0_init_44 : decode cX0_init 44 = .ok (.dup, 1) := dk_89 (dk_at dksX0_init_1 21 rfl rfl)
theorem dX0_init_45 : decode cX0_init 45 = .ok (.invokespecial 19, 3) := dk_183 0 19 (dk_at dksX0_init_2 0 rfl rfl)
theorem dX0_init_48 : decode cX0_init 48 = .ok (.putfield 27, 3) := dk_181 0 27 (dk_at dksX0_init_2 3 rfl rfl)
theorem dX0_init_51 : decode cX0_init 51 = .ok (.aload_n 0, 1) := dk_42 (dk_at dksX0_init_2 6 rfl rfl)
theorem dX0_init_52 : decode cX0_init 52 = .ok (.bipush 6, 2) := dk_16 6 (dk_at dksX0_init_2 7 rfl rfl)
theorem dX0_init_54 : decode cX0_init 54 = .ok (.anewarray 17, 3) := dk_189 0 17 (dk_at dksX0_init_2 9 rfl rfl)
theorem dX0_init_57 : decode cX0_init 57 = .ok (.putfield 30, 3) := dk_181 0 30 (dk_at dksX0_init_2 12 rfl rfl)
theorem dX0_init_60 : decode cX0_init 60 = .ok (.aload_n 0, 1) := dk_42 (dk_at dksX0_init_2 15 rfl rfl)
theorem dX0_init_61 : decode cX0_init 61 = .ok (.getfield 27, 3) := dk_180 0 27 (dk_at dksX0_init_2 16 rfl rfl)
theorem dX0_init_64 : decode cX0_init 64 = .ok (.iconst 1, 1) := dk_4 (dk_at dksX0_init_2 19 rfl rfl)
theorem dX0_init_65 : decode cX0_init 65 = .ok (.putfield 34, 3) := dk_181 0 34 (dk_at dksX0_init_2 20 rfl rfl)
theorem dX0_init_68 : decode cX0_init 68 = .ok (.iconst 0, 1) := dk_3 (dk_at dksX0_init_2 23 rfl rfl)
theorem dX0_init_69 : decode cX0_init 69 = .ok (.istore_n 1, 1) := dk_60 (dk_at dksX0_init_3 0 rfl rfl)
theorem dX0_init_70 : decode cX0_init 70 = .ok (.iload_n 1, 1) := dk_27 (dk_at dksX0_init_3 1 rfl rfl)
theorem dX0_init_71 : decode cX0_init 71 = .ok (.bipush 6, 2) := dk_16 6 (dk_at dksX0_init_3 2 rfl rfl)
theorem dX0_init_73 : decode cX0_init 73 = .ok (.if_icmp .ge 22, 3) := dk_162 0 22 (dk_at dksX0_init_3 4 rfl rfl)
theorem dX0_init_76 : decode cX0_init 76 = .ok (.aload_n 0, 1) := dk_42 (dk_at dksX0_init_3 7 rfl rfl)
theorem dX0_init_77 : decode cX0_init 77 = .ok (.getfield 30, 3) := dk_180 0 30 (dk_at dksX0_init_3 8 rfl rfl)
theorem dX0_init_80 : decode cX0_init 80 = .ok (.iload_n 1, 1) := dk_27 (dk_at dksX0_init_3 11 rfl rfl)
theorem dX0_init_81 : decode cX0_init 81 = .ok (.new 17, 3) := dk_187 0 17 (dk_at dksX0_init_3 12 rfl rfl)
theorem dX0_init_84 : decode cX0_init 84 = .ok (.dup, 1) := dk_89 (dk_at dksX0_init_3 15 rfl rfl)
theorem dX0_init_85 : decode cX0_init 85 = .ok (.invokespecial 19, 3) := dk_183 0 19 (dk_at dksX0_init_3 16 rfl rfl)
theorem dX0_init_88 : decode cX0_init 88 = .ok (.aastore, 1) := dk_83 (dk_at dksX0_init_3 19 rfl rfl)
theorem dX0_init_89 : decode cX0_init 89 = .ok (.iinc 1 1, 3) := dk_132 1 1 (dk_at dksX0_init_3 20 rfl rfl)
theorem dX0_init_92 : decode cX0_init 92 = .ok (.goto (-22), 3) := dk_167 255 234 (dk_at dksX0_init_4 0 rfl rfl)
theorem dX0_init_95 : decode cX0_init 95 = .ok (.aload_n 0, 1) := dk_42 (dk_at dksX0_init_4 3 rfl rfl)
theorem dX0_init_96 : decode cX0_init 96 = .ok (.bipush 13, 2) := dk_16 13 (dk_at dksX0_init_4 4 rfl rfl)
theorem dX0_init_98 : decode cX0_init 98 = .ok (.newarray .int, 2) := dk_188_10 (dk_at dksX0_init_4 6 rfl rfl)
theorem dX0_init_100 : decode cX0_init 100 = .ok (.putfield 38, 3) := dk_181 0 38 (dk_at dksX0_init_4 8 rfl rfl)
theorem dX0_init_103 : decode cX0_init 103 = .ok (.aload_n 0, 1) := dk_42 (dk_at dksX0_init_4 11 rfl rfl)
theorem dX0_init_104 : decode cX0_init 104 = .ok (.sipush 4096, 3) := dk_17 16 0 (dk_at dksX0_init_4 12 rfl rfl)
theorem dX0_init_107 : decode cX0_init 107 = .ok (.newarray .int, 2) := dk_188_10 (dk_at dksX0_init_4 15 rfl rfl)
theorem dX0_init_109 : decode cX0_init 109 = .ok (.putfield 42, 3) := dk_181 0 42 (dk_at dksX0_init_4 17 rfl rfl)
theorem dX0_init_112 : decode cX0_init 112 = .ok (.aload_n 0, 1) := dk_42 (dk_at dksX0_init_4 20 rfl rfl)
theorem dX0_init_113 : decode cX0_init 113 = .ok (.iconst 4, 1) := dk_7 (dk_at dksX0_init_4 21 rfl rfl)
theorem dX0_init_114 : decode cX0_init 114 = .ok (.newarray .int, 2) := dk_188_10 (dk_at dksX0_init_4 22 rfl rfl)
theorem dX0_init_116 : decode cX0_init 116 = .ok (.putfield 45, 3) := dk_181 0 45 (dk_at dksX0_init_5 0 rfl rfl)
theorem dX0_init_119 : decode cX0_init 119 = .ok (.aload_n 0, 1) := dk_42 (dk_at dksX0_init_5 3 rfl rfl)
theorem dX0_init_120 : decode cX0_init 120 = .ok (.bipush 21, 2) := dk_16 21 (dk_at dksX0_init_5 4 rfl rfl)
theorem dX0_init_122 : decode cX0_init 122 = .ok (.newarray .int, 2) := dk_188_10 (dk_at dksX0_init_5 6 rfl rfl)
theorem dX0_init_124 : decode cX0_init 124 = .ok (.putfield 48, 3) := dk_181 0 48 (dk_at dksX0_init_5 8 rfl rfl)
theorem dX0_init_127 : decode cX0_init 127 = .ok (.return_, 1) := dk_177 (dk_at dksX0_init_5 11 rfl rfl)
abbrev cX0_feed : ByteArray := prog_1_method_4_code
def yX0_feed : MethodName := ⟨RX0, "feed", "(IIIII)I"⟩
def dkwX0_feed_2 : List UInt8 := [172]
abbrev dktX0_feed_2 : List UInt8 := dkwX0_feed_2 ++ []
def dkwX0_feed_1 : List UInt8 := [182, 0, 63, 42, 29, 182, 0, 63, 42, 21, 4, 182, 0, 63, 42, 21, 5, 182, 0, 63, 42, 180, 0, 60]
abbrev dktX0_feed_1 : List UInt8 := dkwX0_feed_1 ++ dktX0_feed_2
def dkwX0_feed_0 : List UInt8 := [42, 180, 0, 60, 16, 20, 96, 17, 1, 144, 164, 0, 5, 2, 172, 42, 27, 182, 0, 63, 42, 28]
abbrev dktX0_feed_0 : List UInt8 := dkwX0_feed_0 ++ dktX0_feed_1
theorem dksX0_feed_0 : cX0_feed.data.toList.drop 0 = dktX0_feed_0 := by decide +kernel
theorem dksX0_feed_1 : cX0_feed.data.toList.drop 22 = dktX0_feed_1 := dk_seg dksX0_feed_0 22 rfl rfl
theorem dksX0_feed_2 : cX0_feed.data.toList.drop 46 = dktX0_feed_2 := dk_seg dksX0_feed_1 24 rfl rfl
theorem dX0_feed_0 : decode cX0_feed 0 = .ok (.aload_n 0, 1) := dk_42 (dk_at dksX0_feed_0 0 rfl rfl)
theorem dX0_feed_1 : decode cX0_feed 1 = .ok (.getfield 60, 3) := dk_180 0 60 (dk_at dksX0_feed_0 1 rfl rfl)
theorem dX0_feed_4 : decode cX0_feed 4 = .ok (.bipush 20, 2) := dk_16 20 (dk_at dksX0_feed_0 4 rfl rfl)
theorem dX0_feed_6 : decode cX0_feed 6 = .ok (.iadd, 1) := dk_96 (dk_at dksX0_feed_0 6 rfl rfl)
theorem dX0_feed_7 : decode cX0_feed 7 = .ok (.sipush 400, 3) := dk_17 1 144 (dk_at dksX0_feed_0 7 rfl rfl)
theorem dX0_feed_10 : decode cX0_feed 10 = .ok (.if_icmp .le 5, 3) := dk_164 0 5 (dk_at dksX0_feed_0 10 rfl rfl)
theorem dX0_feed_13 : decode cX0_feed 13 = .ok (.iconst (-1), 1) := dk_2 (dk_at dksX0_feed_0 13 rfl rfl)
theorem dX0_feed_14 : decode cX0_feed 14 = .ok (.ireturn, 1) := dk_172 (dk_at dksX0_feed_0 14 rfl rfl)
theorem dX0_feed_15 : decode cX0_feed 15 = .ok (.aload_n 0, 1) := dk_42 (dk_at dksX0_feed_0 15 rfl rfl)
theorem dX0_feed_16 : decode cX0_feed 16 = .ok (.iload_n 1, 1) := dk_27 (dk_at dksX0_feed_0 16 rfl rfl)
theorem dX0_feed_17 : decode cX0_feed 17 = .ok (.invokevirtual 63, 3) := dk_182 0 63 (dk_at dksX0_feed_0 17 rfl rfl)
theorem dX0_feed_20 : decode cX0_feed 20 = .ok (.aload_n 0, 1) := dk_42 (dk_at dksX0_feed_0 20 rfl rfl)
theorem dX0_feed_21 : decode cX0_feed 21 = .ok (.iload_n 2, 1) := dk_28 (dk_at dksX0_feed_0 21 rfl rfl)
theorem dX0_feed_22 : decode cX0_feed 22 = .ok (.invokevirtual 63, 3) := dk_182 0 63 (dk_at dksX0_feed_1 0 rfl rfl)
theorem dX0_feed_25 : decode cX0_feed 25 = .ok (.aload_n 0, 1) := dk_42 (dk_at dksX0_feed_1 3 rfl rfl)
theorem dX0_feed_26 : decode cX0_feed 26 = .ok (.iload_n 3, 1) := dk_29 (dk_at dksX0_feed_1 4 rfl rfl)
theorem dX0_feed_27 : decode cX0_feed 27 = .ok (.invokevirtual 63, 3) := dk_182 0 63 (dk_at dksX0_feed_1 5 rfl rfl)
theorem dX0_feed_30 : decode cX0_feed 30 = .ok (.aload_n 0, 1) := dk_42 (dk_at dksX0_feed_1 8 rfl rfl)
theorem dX0_feed_31 : decode cX0_feed 31 = .ok (.iload 4, 2) := dk_21 4 (dk_at dksX0_feed_1 9 rfl rfl)
theorem dX0_feed_33 : decode cX0_feed 33 = .ok (.invokevirtual 63, 3) := dk_182 0 63 (dk_at dksX0_feed_1 11 rfl rfl)
theorem dX0_feed_36 : decode cX0_feed 36 = .ok (.aload_n 0, 1) := dk_42 (dk_at dksX0_feed_1 14 rfl rfl)
theorem dX0_feed_37 : decode cX0_feed 37 = .ok (.iload 5, 2) := dk_21 5 (dk_at dksX0_feed_1 15 rfl rfl)
theorem dX0_feed_39 : decode cX0_feed 39 = .ok (.invokevirtual 63, 3) := dk_182 0 63 (dk_at dksX0_feed_1 17 rfl rfl)
theorem dX0_feed_42 : decode cX0_feed 42 = .ok (.aload_n 0, 1) := dk_42 (dk_at dksX0_feed_1 20 rfl rfl)
theorem dX0_feed_43 : decode cX0_feed 43 = .ok (.getfield 60, 3) := dk_180 0 60 (dk_at dksX0_feed_1 21 rfl rfl)
theorem dX0_feed_46 : decode cX0_feed 46 = .ok (.ireturn, 1) := dk_172 (dk_at dksX0_feed_2 0 rfl rfl)
abbrev cX0_word : ByteArray := prog_1_method_5_code
def yX0_word : MethodName := ⟨RX0, "word", "(I)V"⟩
def dkwX0_word_1 : List UInt8 := [180, 0, 60, 4, 96, 181, 0, 60, 132, 2, 248, 167, 255, 226, 177]
abbrev dktX0_word_1 : List UInt8 := dkwX0_word_1 ++ []
def dkwX0_word_0 : List UInt8 := [16, 24, 61, 28, 155, 0, 32, 42, 180, 0, 9, 42, 180, 0, 60, 27, 28, 122, 145, 84, 42, 89]
abbrev dktX0_word_0 : List UInt8 := dkwX0_word_0 ++ dktX0_word_1
theorem dksX0_word_0 : cX0_word.data.toList.drop 0 = dktX0_word_0 := by decide +kernel
theorem dksX0_word_1 : cX0_word.data.toList.drop 22 = dktX0_word_1 := dk_seg dksX0_word_0 22 rfl rfl
theorem dX0_word_0 : decode cX0_word 0 = .ok (.bipush 24, 2) := dk_16 24 (dk_at dksX0_word_0 0 rfl rfl)
theorem dX0_word_2 : decode cX0_word 2 = .ok (.istore_n 2, 1) := dk_61 (dk_at dksX0_word_0 2 rfl rfl)
theorem dX0_word_3 : decode cX0_word 3 = .ok (.iload_n 2, 1) := dk_28 (dk_at dksX0_word_0 3 rfl rfl)
theorem dX0_word_4 : decode cX0_word 4 = .ok (.ifCond .lt 32, 3) := dk_155 0 32 (dk_at dksX0_word_0 4 rfl rfl)
theorem dX0_word_7 : decode cX0_word 7 = .ok (.aload_n 0, 1) := dk_42 (dk_at dksX0_word_0 7 rfl rfl)
theorem dX0_word_8 : decode cX0_word 8 = .ok (.getfield 9, 3) := dk_180 0 9 (dk_at dksX0_word_0 8 rfl rfl)
theorem dX0_word_11 : decode cX0_word 11 = .ok (.aload_n 0, 1) := dk_42 (dk_at dksX0_word_0 11 rfl rfl)
theorem dX0_word_12 : decode cX0_word 12 = .ok (.getfield 60, 3) := dk_180 0 60 (dk_at dksX0_word_0 12 rfl rfl)
theorem dX0_word_15 : decode cX0_word 15 = .ok (.iload_n 1, 1) := dk_27 (dk_at dksX0_word_0 15 rfl rfl)
theorem dX0_word_16 : decode cX0_word 16 = .ok (.iload_n 2, 1) := dk_28 (dk_at dksX0_word_0 16 rfl rfl)
theorem dX0_word_17 : decode cX0_word 17 = .ok (.ishr, 1) := dk_122 (dk_at dksX0_word_0 17 rfl rfl)
theorem dX0_word_18 : decode cX0_word 18 = .ok (.i2b, 1) := dk_145 (dk_at dksX0_word_0 18 rfl rfl)
theorem dX0_word_19 : decode cX0_word 19 = .ok (.bastore, 1) := dk_84 (dk_at dksX0_word_0 19 rfl rfl)
theorem dX0_word_20 : decode cX0_word 20 = .ok (.aload_n 0, 1) := dk_42 (dk_at dksX0_word_0 20 rfl rfl)
theorem dX0_word_21 : decode cX0_word 21 = .ok (.dup, 1) := dk_89 (dk_at dksX0_word_0 21 rfl rfl)
theorem dX0_word_22 : decode cX0_word 22 = .ok (.getfield 60, 3) := dk_180 0 60 (dk_at dksX0_word_1 0 rfl rfl)
theorem dX0_word_25 : decode cX0_word 25 = .ok (.iconst 1, 1) := dk_4 (dk_at dksX0_word_1 3 rfl rfl)
theorem dX0_word_26 : decode cX0_word 26 = .ok (.iadd, 1) := dk_96 (dk_at dksX0_word_1 4 rfl rfl)
theorem dX0_word_27 : decode cX0_word 27 = .ok (.putfield 60, 3) := dk_181 0 60 (dk_at dksX0_word_1 5 rfl rfl)
theorem dX0_word_30 : decode cX0_word 30 = .ok (.iinc 2 (-8), 3) := dk_132 2 248 (dk_at dksX0_word_1 8 rfl rfl)
theorem dX0_word_33 : decode cX0_word 33 = .ok (.goto (-30), 3) := dk_167 255 226 (dk_at dksX0_word_1 11 rfl rfl)
theorem dX0_word_36 : decode cX0_word 36 = .ok (.return_, 1) := dk_177 (dk_at dksX0_word_1 14 rfl rfl)
abbrev cX0_end : ByteArray := prog_1_method_6_code
def yX0_end : MethodName := ⟨RX0, "end", "(I)Z"⟩
def dkwX0_end_0 : List UInt8 := [27, 3, 42, 180, 0, 60, 184, 0, 67, 154, 0, 5, 3, 172, 42, 27, 181, 0, 60, 4, 172]
abbrev dktX0_end_0 : List UInt8 := dkwX0_end_0 ++ []
theorem dksX0_end_0 : cX0_end.data.toList.drop 0 = dktX0_end_0 := by decide +kernel
theorem dX0_end_0 : decode cX0_end 0 = .ok (.iload_n 1, 1) := dk_27 (dk_at dksX0_end_0 0 rfl rfl)
theorem dX0_end_1 : decode cX0_end 1 = .ok (.iconst 0, 1) := dk_3 (dk_at dksX0_end_0 1 rfl rfl)
theorem dX0_end_2 : decode cX0_end 2 = .ok (.aload_n 0, 1) := dk_42 (dk_at dksX0_end_0 2 rfl rfl)
theorem dX0_end_3 : decode cX0_end 3 = .ok (.getfield 60, 3) := dk_180 0 60 (dk_at dksX0_end_0 3 rfl rfl)
theorem dX0_end_6 : decode cX0_end 6 = .ok (.invokestatic 67, 3) := dk_184 0 67 (dk_at dksX0_end_0 6 rfl rfl)
theorem dX0_end_9 : decode cX0_end 9 = .ok (.ifCond .ne 5, 3) := dk_154 0 5 (dk_at dksX0_end_0 9 rfl rfl)
theorem dX0_end_12 : decode cX0_end 12 = .ok (.iconst 0, 1) := dk_3 (dk_at dksX0_end_0 12 rfl rfl)
theorem dX0_end_13 : decode cX0_end 13 = .ok (.ireturn, 1) := dk_172 (dk_at dksX0_end_0 13 rfl rfl)
theorem dX0_end_14 : decode cX0_end 14 = .ok (.aload_n 0, 1) := dk_42 (dk_at dksX0_end_0 14 rfl rfl)
theorem dX0_end_15 : decode cX0_end 15 = .ok (.iload_n 1, 1) := dk_27 (dk_at dksX0_end_0 15 rfl rfl)
theorem dX0_end_16 : decode cX0_end 16 = .ok (.putfield 60, 3) := dk_181 0 60 (dk_at dksX0_end_0 16 rfl rfl)
theorem dX0_end_19 : decode cX0_end 19 = .ok (.iconst 1, 1) := dk_4 (dk_at dksX0_end_0 19 rfl rfl)
theorem dX0_end_20 : decode cX0_end 20 = .ok (.ireturn, 1) := dk_172 (dk_at dksX0_end_0 20 rfl rfl)
abbrev cX0_isIn : ByteArray := prog_1_method_2_code
def yX0_isIn : MethodName := ⟨RX0, "isIn", "(III)Z"⟩
def dkwX0_isIn_0 : List UInt8 := [26, 27, 161, 0, 12, 26, 28, 163, 0, 7, 4, 167, 0, 4, 3, 172]
abbrev dktX0_isIn_0 : List UInt8 := dkwX0_isIn_0 ++ []
theorem dksX0_isIn_0 : cX0_isIn.data.toList.drop 0 = dktX0_isIn_0 := by decide +kernel
theorem dX0_isIn_0 : decode cX0_isIn 0 = .ok (.iload_n 0, 1) := dk_26 (dk_at dksX0_isIn_0 0 rfl rfl)
theorem dX0_isIn_1 : decode cX0_isIn 1 = .ok (.iload_n 1, 1) := dk_27 (dk_at dksX0_isIn_0 1 rfl rfl)
theorem dX0_isIn_2 : decode cX0_isIn 2 = .ok (.if_icmp .lt 12, 3) := dk_161 0 12 (dk_at dksX0_isIn_0 2 rfl rfl)
theorem dX0_isIn_5 : decode cX0_isIn 5 = .ok (.iload_n 0, 1) := dk_26 (dk_at dksX0_isIn_0 5 rfl rfl)
theorem dX0_isIn_6 : decode cX0_isIn 6 = .ok (.iload_n 2, 1) := dk_28 (dk_at dksX0_isIn_0 6 rfl rfl)
theorem dX0_isIn_7 : decode cX0_isIn 7 = .ok (.if_icmp .gt 7, 3) := dk_163 0 7 (dk_at dksX0_isIn_0 7 rfl rfl)
theorem dX0_isIn_10 : decode cX0_isIn 10 = .ok (.iconst 1, 1) := dk_4 (dk_at dksX0_isIn_0 10 rfl rfl)
theorem dX0_isIn_11 : decode cX0_isIn 11 = .ok (.goto 4, 3) := dk_167 0 4 (dk_at dksX0_isIn_0 11 rfl rfl)
theorem dX0_isIn_14 : decode cX0_isIn 14 = .ok (.iconst 0, 1) := dk_3 (dk_at dksX0_isIn_0 14 rfl rfl)
theorem dX0_isIn_15 : decode cX0_isIn 15 = .ok (.ireturn, 1) := dk_172 (dk_at dksX0_isIn_0 15 rfl rfl)
abbrev cX0_text : ByteArray := prog_1_method_8_code
def yX0_text : MethodName := ⟨RX0, "text", "(I)I"⟩
def dkwX0_text_3 : List UInt8 := [191]
abbrev dktX0_text_3 : List UInt8 := dkwX0_text_3 ++ []
def dkwX0_text_2 : List UInt8 := [180, 0, 127, 181, 0, 13, 2, 62, 42, 3, 181, 0, 60, 29, 172, 58, 4, 42, 3, 181, 0, 60, 25, 4]
abbrev dktX0_text_2 : List UInt8 := dkwX0_text_2 ++ dktX0_text_3
def dkwX0_text_1 : List UInt8 := [167, 0, 4, 2, 61, 42, 3, 181, 0, 60, 28, 172, 77, 42, 44, 180, 0, 124, 181, 0, 115, 42, 44]
abbrev dktX0_text_1 : List UInt8 := dkwX0_text_1 ++ dktX0_text_2
def dkwX0_text_0 : List UInt8 := [42, 3, 181, 0, 115, 42, 2, 181, 0, 13, 27, 3, 6, 184, 0, 67, 153, 0, 11, 42, 27, 182, 0, 118]
abbrev dktX0_text_0 : List UInt8 := dkwX0_text_0 ++ dktX0_text_1
theorem dksX0_text_0 : cX0_text.data.toList.drop 0 = dktX0_text_0 := by decide +kernel
theorem dksX0_text_1 : cX0_text.data.toList.drop 24 = dktX0_text_1 := dk_seg dksX0_text_0 24 rfl rfl
theorem dksX0_text_2 : cX0_text.data.toList.drop 47 = dktX0_text_2 := dk_seg dksX0_text_1 23 rfl rfl
theorem dksX0_text_3 : cX0_text.data.toList.drop 71 = dktX0_text_3 := dk_seg dksX0_text_2 24 rfl rfl
theorem dX0_text_0 : decode cX0_text 0 = .ok (.aload_n 0, 1) := dk_42 (dk_at dksX0_text_0 0 rfl rfl)
theorem dX0_text_1 : decode cX0_text 1 = .ok (.iconst 0, 1) := dk_3 (dk_at dksX0_text_0 1 rfl rfl)
theorem dX0_text_2 : decode cX0_text 2 = .ok (.putfield 115, 3) := dk_181 0 115 (dk_at dksX0_text_0 2 rfl rfl)
theorem dX0_text_5 : decode cX0_text 5 = .ok (.aload_n 0, 1) := dk_42 (dk_at dksX0_text_0 5 rfl rfl)
theorem dX0_text_6 : decode cX0_text 6 = .ok (.iconst (-1), 1) := dk_2 (dk_at dksX0_text_0 6 rfl rfl)
theorem dX0_text_7 : decode cX0_text 7 = .ok (.putfield 13, 3) := dk_181 0 13 (dk_at dksX0_text_0 7 rfl rfl)
theorem dX0_text_10 : decode cX0_text 10 = .ok (.iload_n 1, 1) := dk_27 (dk_at dksX0_text_0 10 rfl rfl)
theorem dX0_text_11 : decode cX0_text 11 = .ok (.iconst 0, 1) := dk_3 (dk_at dksX0_text_0 11 rfl rfl)
theorem dX0_text_12 : decode cX0_text 12 = .ok (.iconst 3, 1) := dk_6 (dk_at dksX0_text_0 12 rfl rfl)
theorem dX0_text_13 : decode cX0_text 13 = .ok (.invokestatic 67, 3) := dk_184 0 67 (dk_at dksX0_text_0 13 rfl rfl)
theorem dX0_text_16 : decode cX0_text 16 = .ok (.ifCond .eq 11, 3) := dk_153 0 11 (dk_at dksX0_text_0 16 rfl rfl)
theorem dX0_text_19 : decode cX0_text 19 = .ok (.aload_n 0, 1) := dk_42 (dk_at dksX0_text_0 19 rfl rfl)
theorem dX0_text_20 : decode cX0_text 20 = .ok (.iload_n 1, 1) := dk_27 (dk_at dksX0_text_0 20 rfl rfl)
theorem dX0_text_21 : decode cX0_text 21 = .ok (.invokevirtual 118, 3) := dk_182 0 118 (dk_at dksX0_text_0 21 rfl rfl)
theorem dX0_text_24 : decode cX0_text 24 = .ok (.goto 4, 3) := dk_167 0 4 (dk_at dksX0_text_1 0 rfl rfl)
theorem dX0_text_27 : decode cX0_text 27 = .ok (.iconst (-1), 1) := dk_2 (dk_at dksX0_text_1 3 rfl rfl)
theorem dX0_text_28 : decode cX0_text 28 = .ok (.istore_n 2, 1) := dk_61 (dk_at dksX0_text_1 4 rfl rfl)
theorem dX0_text_29 : decode cX0_text 29 = .ok (.aload_n 0, 1) := dk_42 (dk_at dksX0_text_1 5 rfl rfl)
theorem dX0_text_30 : decode cX0_text 30 = .ok (.iconst 0, 1) := dk_3 (dk_at dksX0_text_1 6 rfl rfl)
theorem dX0_text_31 : decode cX0_text 31 = .ok (.putfield 60, 3) := dk_181 0 60 (dk_at dksX0_text_1 7 rfl rfl)
theorem dX0_text_34 : decode cX0_text 34 = .ok (.iload_n 2, 1) := dk_28 (dk_at dksX0_text_1 10 rfl rfl)
theorem dX0_text_35 : decode cX0_text 35 = .ok (.ireturn, 1) := dk_172 (dk_at dksX0_text_1 11 rfl rfl)
theorem dX0_text_36 : decode cX0_text 36 = .ok (.astore_n 2, 1) := dk_77 (dk_at dksX0_text_1 12 rfl rfl)
theorem dX0_text_37 : decode cX0_text 37 = .ok (.aload_n 0, 1) := dk_42 (dk_at dksX0_text_1 13 rfl rfl)
theorem dX0_text_38 : decode cX0_text 38 = .ok (.aload_n 2, 1) := dk_44 (dk_at dksX0_text_1 14 rfl rfl)
theorem dX0_text_39 : decode cX0_text 39 = .ok (.getfield 124, 3) := dk_180 0 124 (dk_at dksX0_text_1 15 rfl rfl)
theorem dX0_text_42 : decode cX0_text 42 = .ok (.putfield 115, 3) := dk_181 0 115 (dk_at dksX0_text_1 18 rfl rfl)
theorem dX0_text_45 : decode cX0_text 45 = .ok (.aload_n 0, 1) := dk_42 (dk_at dksX0_text_1 21 rfl rfl)
theorem dX0_text_46 : decode cX0_text 46 = .ok (.aload_n 2, 1) := dk_44 (dk_at dksX0_text_1 22 rfl rfl)
theorem dX0_text_47 : decode cX0_text 47 = .ok (.getfield 127, 3) := dk_180 0 127 (dk_at dksX0_text_2 0 rfl rfl)
theorem dX0_text_50 : decode cX0_text 50 = .ok (.putfield 13, 3) := dk_181 0 13 (dk_at dksX0_text_2 3 rfl rfl)
theorem dX0_text_53 : decode cX0_text 53 = .ok (.iconst (-1), 1) := dk_2 (dk_at dksX0_text_2 6 rfl rfl)
theorem dX0_text_54 : decode cX0_text 54 = .ok (.istore_n 3, 1) := dk_62 (dk_at dksX0_text_2 7 rfl rfl)
theorem dX0_text_55 : decode cX0_text 55 = .ok (.aload_n 0, 1) := dk_42 (dk_at dksX0_text_2 8 rfl rfl)
theorem dX0_text_56 : decode cX0_text 56 = .ok (.iconst 0, 1) := dk_3 (dk_at dksX0_text_2 9 rfl rfl)
theorem dX0_text_57 : decode cX0_text 57 = .ok (.putfield 60, 3) := dk_181 0 60 (dk_at dksX0_text_2 10 rfl rfl)
theorem dX0_text_60 : decode cX0_text 60 = .ok (.iload_n 3, 1) := dk_29 (dk_at dksX0_text_2 13 rfl rfl)
theorem dX0_text_61 : decode cX0_text 61 = .ok (.ireturn, 1) := dk_172 (dk_at dksX0_text_2 14 rfl rfl)
theorem dX0_text_62 : decode cX0_text 62 = .ok (.astore 4, 2) := dk_58 4 (dk_at dksX0_text_2 15 rfl rfl)
theorem dX0_text_64 : decode cX0_text 64 = .ok (.aload_n 0, 1) := dk_42 (dk_at dksX0_text_2 17 rfl rfl)
theorem dX0_text_65 : decode cX0_text 65 = .ok (.iconst 0, 1) := dk_3 (dk_at dksX0_text_2 18 rfl rfl)
theorem dX0_text_66 : decode cX0_text 66 = .ok (.putfield 60, 3) := dk_181 0 60 (dk_at dksX0_text_2 19 rfl rfl)
theorem dX0_text_69 : decode cX0_text 69 = .ok (.aload 4, 2) := dk_25 4 (dk_at dksX0_text_2 22 rfl rfl)
theorem dX0_text_71 : decode cX0_text 71 = .ok (.athrow, 1) := dk_191 (dk_at dksX0_text_3 0 rfl rfl)
abbrev cX0_reads : ByteArray := prog_1_method_7_code
def yX0_reads : MethodName := ⟨RX0, "reads", "(I)I"⟩
def dkwX0_reads_6 : List UInt8 := [180, 0, 109, 181, 0, 112, 44, 180, 0, 109, 172]
abbrev dktX0_reads_6 : List UInt8 := dkwX0_reads_6 ++ []
def dkwX0_reads_5 : List UInt8 := [180, 0, 101, 182, 0, 83, 172, 42, 180, 0, 20, 44, 182, 0, 103, 181, 0, 107, 42, 180, 0, 20, 44]
abbrev dktX0_reads_5 : List UInt8 := dkwX0_reads_5 ++ dktX0_reads_6
def dkwX0_reads_4 : List UInt8 := [182, 0, 83, 172, 42, 180, 0, 20, 44, 182, 0, 98, 181, 0, 101, 42, 182, 0, 94, 87, 42, 180, 0, 20]
abbrev dktX0_reads_4 : List UInt8 := dkwX0_reads_4 ++ dktX0_reads_5
def dkwX0_reads_3 : List UInt8 := [180, 0, 20, 44, 182, 0, 89, 181, 0, 92, 42, 182, 0, 94, 87, 42, 180, 0, 20, 180, 0, 92]
abbrev dktX0_reads_3 : List UInt8 := dkwX0_reads_3 ++ dktX0_reads_4
def dkwX0_reads_2 : List UInt8 := [42, 180, 0, 20, 44, 182, 0, 76, 181, 0, 80, 42, 180, 0, 20, 180, 0, 80, 182, 0, 83, 172, 42]
abbrev dktX0_reads_2 : List UInt8 := dkwX0_reads_2 ++ dktX0_reads_3
def dkwX0_reads_1 : List UInt8 := [170, 0, 0, 0, 101, 0, 0, 0, 0, 0, 0, 0, 2, 0, 0, 0, 25, 0, 0, 0, 47, 0, 0, 0, 74]
abbrev dktX0_reads_1 : List UInt8 := dkwX0_reads_1 ++ dktX0_reads_2
def dkwX0_reads_0 : List UInt8 := [187, 0, 71, 89, 42, 27, 183, 0, 73, 77, 27]
abbrev dktX0_reads_0 : List UInt8 := dkwX0_reads_0 ++ dktX0_reads_1
theorem dksX0_reads_0 : cX0_reads.data.toList.drop 0 = dktX0_reads_0 := by decide +kernel
theorem dksX0_reads_1 : cX0_reads.data.toList.drop 11 = dktX0_reads_1 := dk_seg dksX0_reads_0 11 rfl rfl
theorem dksX0_reads_2 : cX0_reads.data.toList.drop 36 = dktX0_reads_2 := dk_seg dksX0_reads_1 25 rfl rfl
theorem dksX0_reads_3 : cX0_reads.data.toList.drop 59 = dktX0_reads_3 := dk_seg dksX0_reads_2 23 rfl rfl
theorem dksX0_reads_4 : cX0_reads.data.toList.drop 81 = dktX0_reads_4 := dk_seg dksX0_reads_3 22 rfl rfl
theorem dksX0_reads_5 : cX0_reads.data.toList.drop 105 = dktX0_reads_5 := dk_seg dksX0_reads_4 24 rfl rfl
theorem dksX0_reads_6 : cX0_reads.data.toList.drop 128 = dktX0_reads_6 := dk_seg dksX0_reads_5 23 rfl rfl
theorem dX0_reads_0 : decode cX0_reads 0 = .ok (.new 71, 3) := dk_187 0 71 (dk_at dksX0_reads_0 0 rfl rfl)
theorem dX0_reads_3 : decode cX0_reads 3 = .ok (.dup, 1) := dk_89 (dk_at dksX0_reads_0 3 rfl rfl)
theorem dX0_reads_4 : decode cX0_reads 4 = .ok (.aload_n 0, 1) := dk_42 (dk_at dksX0_reads_0 4 rfl rfl)
theorem dX0_reads_5 : decode cX0_reads 5 = .ok (.iload_n 1, 1) := dk_27 (dk_at dksX0_reads_0 5 rfl rfl)
theorem dX0_reads_6 : decode cX0_reads 6 = .ok (.invokespecial 73, 3) := dk_183 0 73 (dk_at dksX0_reads_0 6 rfl rfl)
theorem dX0_reads_9 : decode cX0_reads 9 = .ok (.astore_n 2, 1) := dk_77 (dk_at dksX0_reads_0 9 rfl rfl)
theorem dX0_reads_10 : decode cX0_reads 10 = .ok (.iload_n 1, 1) := dk_27 (dk_at dksX0_reads_0 10 rfl rfl)
theorem dX0_reads_11 : decode cX0_reads 11 = .ok (.tableswitch 101 0 2 #[25, 47, 74], 25) := by decide +kernel
theorem dX0_reads_36 : decode cX0_reads 36 = .ok (.aload_n 0, 1) := dk_42 (dk_at dksX0_reads_2 0 rfl rfl)
theorem dX0_reads_37 : decode cX0_reads 37 = .ok (.getfield 20, 3) := dk_180 0 20 (dk_at dksX0_reads_2 1 rfl rfl)
theorem dX0_reads_40 : decode cX0_reads 40 = .ok (.aload_n 2, 1) := dk_44 (dk_at dksX0_reads_2 4 rfl rfl)
theorem dX0_reads_41 : decode cX0_reads 41 = .ok (.invokevirtual 76, 3) := dk_182 0 76 (dk_at dksX0_reads_2 5 rfl rfl)
theorem dX0_reads_44 : decode cX0_reads 44 = .ok (.putfield 80, 3) := dk_181 0 80 (dk_at dksX0_reads_2 8 rfl rfl)
theorem dX0_reads_47 : decode cX0_reads 47 = .ok (.aload_n 0, 1) := dk_42 (dk_at dksX0_reads_2 11 rfl rfl)
theorem dX0_reads_48 : decode cX0_reads 48 = .ok (.getfield 20, 3) := dk_180 0 20 (dk_at dksX0_reads_2 12 rfl rfl)
theorem dX0_reads_51 : decode cX0_reads 51 = .ok (.getfield 80, 3) := dk_180 0 80 (dk_at dksX0_reads_2 15 rfl rfl)
theorem dX0_reads_54 : decode cX0_reads 54 = .ok (.invokevirtual 83, 3) := dk_182 0 83 (dk_at dksX0_reads_2 18 rfl rfl)
theorem dX0_reads_57 : decode cX0_reads 57 = .ok (.ireturn, 1) := dk_172 (dk_at dksX0_reads_2 21 rfl rfl)
theorem dX0_reads_58 : decode cX0_reads 58 = .ok (.aload_n 0, 1) := dk_42 (dk_at dksX0_reads_2 22 rfl rfl)
theorem dX0_reads_59 : decode cX0_reads 59 = .ok (.getfield 20, 3) := dk_180 0 20 (dk_at dksX0_reads_3 0 rfl rfl)
theorem dX0_reads_62 : decode cX0_reads 62 = .ok (.aload_n 2, 1) := dk_44 (dk_at dksX0_reads_3 3 rfl rfl)
theorem dX0_reads_63 : decode cX0_reads 63 = .ok (.invokevirtual 89, 3) := dk_182 0 89 (dk_at dksX0_reads_3 4 rfl rfl)
theorem dX0_reads_66 : decode cX0_reads 66 = .ok (.putfield 92, 3) := dk_181 0 92 (dk_at dksX0_reads_3 7 rfl rfl)
theorem dX0_reads_69 : decode cX0_reads 69 = .ok (.aload_n 0, 1) := dk_42 (dk_at dksX0_reads_3 10 rfl rfl)
theorem dX0_reads_70 : decode cX0_reads 70 = .ok (.invokevirtual 94, 3) := dk_182 0 94 (dk_at dksX0_reads_3 11 rfl rfl)
theorem dX0_reads_73 : decode cX0_reads 73 = .ok (.pop, 1) := dk_87 (dk_at dksX0_reads_3 14 rfl rfl)
theorem dX0_reads_74 : decode cX0_reads 74 = .ok (.aload_n 0, 1) := dk_42 (dk_at dksX0_reads_3 15 rfl rfl)
theorem dX0_reads_75 : decode cX0_reads 75 = .ok (.getfield 20, 3) := dk_180 0 20 (dk_at dksX0_reads_3 16 rfl rfl)
theorem dX0_reads_78 : decode cX0_reads 78 = .ok (.getfield 92, 3) := dk_180 0 92 (dk_at dksX0_reads_3 19 rfl rfl)
theorem dX0_reads_81 : decode cX0_reads 81 = .ok (.invokevirtual 83, 3) := dk_182 0 83 (dk_at dksX0_reads_4 0 rfl rfl)
theorem dX0_reads_84 : decode cX0_reads 84 = .ok (.ireturn, 1) := dk_172 (dk_at dksX0_reads_4 3 rfl rfl)
theorem dX0_reads_85 : decode cX0_reads 85 = .ok (.aload_n 0, 1) := dk_42 (dk_at dksX0_reads_4 4 rfl rfl)
theorem dX0_reads_86 : decode cX0_reads 86 = .ok (.getfield 20, 3) := dk_180 0 20 (dk_at dksX0_reads_4 5 rfl rfl)
theorem dX0_reads_89 : decode cX0_reads 89 = .ok (.aload_n 2, 1) := dk_44 (dk_at dksX0_reads_4 8 rfl rfl)
theorem dX0_reads_90 : decode cX0_reads 90 = .ok (.invokevirtual 98, 3) := dk_182 0 98 (dk_at dksX0_reads_4 9 rfl rfl)
theorem dX0_reads_93 : decode cX0_reads 93 = .ok (.putfield 101, 3) := dk_181 0 101 (dk_at dksX0_reads_4 12 rfl rfl)
theorem dX0_reads_96 : decode cX0_reads 96 = .ok (.aload_n 0, 1) := dk_42 (dk_at dksX0_reads_4 15 rfl rfl)
theorem dX0_reads_97 : decode cX0_reads 97 = .ok (.invokevirtual 94, 3) := dk_182 0 94 (dk_at dksX0_reads_4 16 rfl rfl)
theorem dX0_reads_100 : decode cX0_reads 100 = .ok (.pop, 1) := dk_87 (dk_at dksX0_reads_4 19 rfl rfl)
theorem dX0_reads_101 : decode cX0_reads 101 = .ok (.aload_n 0, 1) := dk_42 (dk_at dksX0_reads_4 20 rfl rfl)
theorem dX0_reads_102 : decode cX0_reads 102 = .ok (.getfield 20, 3) := dk_180 0 20 (dk_at dksX0_reads_4 21 rfl rfl)
theorem dX0_reads_105 : decode cX0_reads 105 = .ok (.getfield 101, 3) := dk_180 0 101 (dk_at dksX0_reads_5 0 rfl rfl)
theorem dX0_reads_108 : decode cX0_reads 108 = .ok (.invokevirtual 83, 3) := dk_182 0 83 (dk_at dksX0_reads_5 3 rfl rfl)
theorem dX0_reads_111 : decode cX0_reads 111 = .ok (.ireturn, 1) := dk_172 (dk_at dksX0_reads_5 6 rfl rfl)
theorem dX0_reads_112 : decode cX0_reads 112 = .ok (.aload_n 0, 1) := dk_42 (dk_at dksX0_reads_5 7 rfl rfl)
theorem dX0_reads_113 : decode cX0_reads 113 = .ok (.getfield 20, 3) := dk_180 0 20 (dk_at dksX0_reads_5 8 rfl rfl)
theorem dX0_reads_116 : decode cX0_reads 116 = .ok (.aload_n 2, 1) := dk_44 (dk_at dksX0_reads_5 11 rfl rfl)
theorem dX0_reads_117 : decode cX0_reads 117 = .ok (.invokevirtual 103, 3) := dk_182 0 103 (dk_at dksX0_reads_5 12 rfl rfl)
theorem dX0_reads_120 : decode cX0_reads 120 = .ok (.putfield 107, 3) := dk_181 0 107 (dk_at dksX0_reads_5 15 rfl rfl)
theorem dX0_reads_123 : decode cX0_reads 123 = .ok (.aload_n 0, 1) := dk_42 (dk_at dksX0_reads_5 18 rfl rfl)
theorem dX0_reads_124 : decode cX0_reads 124 = .ok (.getfield 20, 3) := dk_180 0 20 (dk_at dksX0_reads_5 19 rfl rfl)
theorem dX0_reads_127 : decode cX0_reads 127 = .ok (.aload_n 2, 1) := dk_44 (dk_at dksX0_reads_5 22 rfl rfl)
theorem dX0_reads_128 : decode cX0_reads 128 = .ok (.getfield 109, 3) := dk_180 0 109 (dk_at dksX0_reads_6 0 rfl rfl)
theorem dX0_reads_131 : decode cX0_reads 131 = .ok (.putfield 112, 3) := dk_181 0 112 (dk_at dksX0_reads_6 3 rfl rfl)
theorem dX0_reads_134 : decode cX0_reads 134 = .ok (.aload_n 2, 1) := dk_44 (dk_at dksX0_reads_6 6 rfl rfl)
theorem dX0_reads_135 : decode cX0_reads 135 = .ok (.getfield 109, 3) := dk_180 0 109 (dk_at dksX0_reads_6 7 rfl rfl)
theorem dX0_reads_138 : decode cX0_reads 138 = .ok (.ireturn, 1) := dk_172 (dk_at dksX0_reads_6 10 rfl rfl)
abbrev cX0_forgets : ByteArray := prog_1_method_10_code
def yX0_forgets : MethodName := ⟨RX0, "forgets", "()Z"⟩
def dkwX0_forgets_0 : List UInt8 := [42, 3, 181, 0, 130, 4, 172]
abbrev dktX0_forgets_0 : List UInt8 := dkwX0_forgets_0 ++ []
theorem dksX0_forgets_0 : cX0_forgets.data.toList.drop 0 = dktX0_forgets_0 := by decide +kernel
theorem dX0_forgets_0 : decode cX0_forgets 0 = .ok (.aload_n 0, 1) := dk_42 (dk_at dksX0_forgets_0 0 rfl rfl)
theorem dX0_forgets_1 : decode cX0_forgets 1 = .ok (.iconst 0, 1) := dk_3 (dk_at dksX0_forgets_0 1 rfl rfl)
theorem dX0_forgets_2 : decode cX0_forgets 2 = .ok (.putfield 130, 3) := dk_181 0 130 (dk_at dksX0_forgets_0 2 rfl rfl)
theorem dX0_forgets_5 : decode cX0_forgets 5 = .ok (.iconst 1, 1) := dk_4 (dk_at dksX0_forgets_0 5 rfl rfl)
theorem dX0_forgets_6 : decode cX0_forgets 6 = .ok (.ireturn, 1) := dk_172 (dk_at dksX0_forgets_0 6 rfl rfl)
abbrev cX0_fault : ByteArray := prog_1_method_9_code
def yX0_fault : MethodName := ⟨RX0, "fault", "(I)I"⟩
def dkwX0_fault_1 : List UInt8 := [172]
abbrev dktX0_fault_1 : List UInt8 := dkwX0_fault_1 ++ []
def dkwX0_fault_0 : List UInt8 := [27, 154, 0, 10, 42, 180, 0, 115, 167, 0, 16, 27, 4, 160, 0, 10, 42, 180, 0, 13, 167, 0, 4, 2]
abbrev dktX0_fault_0 : List UInt8 := dkwX0_fault_0 ++ dktX0_fault_1
theorem dksX0_fault_0 : cX0_fault.data.toList.drop 0 = dktX0_fault_0 := by decide +kernel
theorem dksX0_fault_1 : cX0_fault.data.toList.drop 24 = dktX0_fault_1 := dk_seg dksX0_fault_0 24 rfl rfl
theorem dX0_fault_0 : decode cX0_fault 0 = .ok (.iload_n 1, 1) := dk_27 (dk_at dksX0_fault_0 0 rfl rfl)
theorem dX0_fault_1 : decode cX0_fault 1 = .ok (.ifCond .ne 10, 3) := dk_154 0 10 (dk_at dksX0_fault_0 1 rfl rfl)
theorem dX0_fault_4 : decode cX0_fault 4 = .ok (.aload_n 0, 1) := dk_42 (dk_at dksX0_fault_0 4 rfl rfl)
theorem dX0_fault_5 : decode cX0_fault 5 = .ok (.getfield 115, 3) := dk_180 0 115 (dk_at dksX0_fault_0 5 rfl rfl)
theorem dX0_fault_8 : decode cX0_fault 8 = .ok (.goto 16, 3) := dk_167 0 16 (dk_at dksX0_fault_0 8 rfl rfl)
theorem dX0_fault_11 : decode cX0_fault 11 = .ok (.iload_n 1, 1) := dk_27 (dk_at dksX0_fault_0 11 rfl rfl)
theorem dX0_fault_12 : decode cX0_fault 12 = .ok (.iconst 1, 1) := dk_4 (dk_at dksX0_fault_0 12 rfl rfl)
theorem dX0_fault_13 : decode cX0_fault 13 = .ok (.if_icmp .ne 10, 3) := dk_160 0 10 (dk_at dksX0_fault_0 13 rfl rfl)
theorem dX0_fault_16 : decode cX0_fault 16 = .ok (.aload_n 0, 1) := dk_42 (dk_at dksX0_fault_0 16 rfl rfl)
theorem dX0_fault_17 : decode cX0_fault 17 = .ok (.getfield 13, 3) := dk_180 0 13 (dk_at dksX0_fault_0 17 rfl rfl)
theorem dX0_fault_20 : decode cX0_fault 20 = .ok (.goto 4, 3) := dk_167 0 4 (dk_at dksX0_fault_0 20 rfl rfl)
theorem dX0_fault_23 : decode cX0_fault 23 = .ok (.iconst (-1), 1) := dk_2 (dk_at dksX0_fault_0 23 rfl rfl)
theorem dX0_fault_24 : decode cX0_fault 24 = .ok (.ireturn, 1) := dk_172 (dk_at dksX0_fault_1 0 rfl rfl)
abbrev cX0_undo : ByteArray := prog_1_method_12_code
def yX0_undo : MethodName := ⟨RX0, "undo", "()Z"⟩
def dkwX0_undo_1 : List UInt8 := [180, 0, 30, 42, 180, 0, 130, 50, 182, 0, 133, 4, 172]
abbrev dktX0_undo_1 : List UInt8 := dkwX0_undo_1 ++ []
def dkwX0_undo_0 : List UInt8 := [42, 180, 0, 130, 154, 0, 5, 3, 172, 42, 89, 180, 0, 130, 4, 100, 181, 0, 130, 42, 180, 0, 20, 42]
abbrev dktX0_undo_0 : List UInt8 := dkwX0_undo_0 ++ dktX0_undo_1
theorem dksX0_undo_0 : cX0_undo.data.toList.drop 0 = dktX0_undo_0 := by decide +kernel
theorem dksX0_undo_1 : cX0_undo.data.toList.drop 24 = dktX0_undo_1 := dk_seg dksX0_undo_0 24 rfl rfl
theorem dX0_undo_0 : decode cX0_undo 0 = .ok (.aload_n 0, 1) := dk_42 (dk_at dksX0_undo_0 0 rfl rfl)
theorem dX0_undo_1 : decode cX0_undo 1 = .ok (.getfield 130, 3) := dk_180 0 130 (dk_at dksX0_undo_0 1 rfl rfl)
theorem dX0_undo_4 : decode cX0_undo 4 = .ok (.ifCond .ne 5, 3) := dk_154 0 5 (dk_at dksX0_undo_0 4 rfl rfl)
theorem dX0_undo_7 : decode cX0_undo 7 = .ok (.iconst 0, 1) := dk_3 (dk_at dksX0_undo_0 7 rfl rfl)
theorem dX0_undo_8 : decode cX0_undo 8 = .ok (.ireturn, 1) := dk_172 (dk_at dksX0_undo_0 8 rfl rfl)
theorem dX0_undo_9 : decode cX0_undo 9 = .ok (.aload_n 0, 1) := dk_42 (dk_at dksX0_undo_0 9 rfl rfl)
theorem dX0_undo_10 : decode cX0_undo 10 = .ok (.dup, 1) := dk_89 (dk_at dksX0_undo_0 10 rfl rfl)
theorem dX0_undo_11 : decode cX0_undo 11 = .ok (.getfield 130, 3) := dk_180 0 130 (dk_at dksX0_undo_0 11 rfl rfl)
theorem dX0_undo_14 : decode cX0_undo 14 = .ok (.iconst 1, 1) := dk_4 (dk_at dksX0_undo_0 14 rfl rfl)
theorem dX0_undo_15 : decode cX0_undo 15 = .ok (.isub, 1) := dk_100 (dk_at dksX0_undo_0 15 rfl rfl)
theorem dX0_undo_16 : decode cX0_undo 16 = .ok (.putfield 130, 3) := dk_181 0 130 (dk_at dksX0_undo_0 16 rfl rfl)
theorem dX0_undo_19 : decode cX0_undo 19 = .ok (.aload_n 0, 1) := dk_42 (dk_at dksX0_undo_0 19 rfl rfl)
theorem dX0_undo_20 : decode cX0_undo 20 = .ok (.getfield 20, 3) := dk_180 0 20 (dk_at dksX0_undo_0 20 rfl rfl)
theorem dX0_undo_23 : decode cX0_undo 23 = .ok (.aload_n 0, 1) := dk_42 (dk_at dksX0_undo_0 23 rfl rfl)
theorem dX0_undo_24 : decode cX0_undo 24 = .ok (.getfield 30, 3) := dk_180 0 30 (dk_at dksX0_undo_1 0 rfl rfl)
theorem dX0_undo_27 : decode cX0_undo 27 = .ok (.aload_n 0, 1) := dk_42 (dk_at dksX0_undo_1 3 rfl rfl)
theorem dX0_undo_28 : decode cX0_undo 28 = .ok (.getfield 130, 3) := dk_180 0 130 (dk_at dksX0_undo_1 4 rfl rfl)
theorem dX0_undo_31 : decode cX0_undo 31 = .ok (.aaload, 1) := dk_50 (dk_at dksX0_undo_1 7 rfl rfl)
theorem dX0_undo_32 : decode cX0_undo 32 = .ok (.invokevirtual 133, 3) := dk_182 0 133 (dk_at dksX0_undo_1 8 rfl rfl)
theorem dX0_undo_35 : decode cX0_undo 35 = .ok (.iconst 1, 1) := dk_4 (dk_at dksX0_undo_1 11 rfl rfl)
theorem dX0_undo_36 : decode cX0_undo 36 = .ok (.ireturn, 1) := dk_172 (dk_at dksX0_undo_1 12 rfl rfl)
abbrev cX0_state : ByteArray := prog_1_method_17_code
def yX0_state : MethodName := ⟨RX0, "state", "(I)I"⟩
def dkwX0_state_0 : List UInt8 := [42, 180, 0, 20, 180, 0, 147, 61, 42, 180, 0, 20, 27, 181, 0, 147, 42, 182, 0, 94, 87, 28, 172]
abbrev dktX0_state_0 : List UInt8 := dkwX0_state_0 ++ []
theorem dksX0_state_0 : cX0_state.data.toList.drop 0 = dktX0_state_0 := by decide +kernel
theorem dX0_state_0 : decode cX0_state 0 = .ok (.aload_n 0, 1) := dk_42 (dk_at dksX0_state_0 0 rfl rfl)
theorem dX0_state_1 : decode cX0_state 1 = .ok (.getfield 20, 3) := dk_180 0 20 (dk_at dksX0_state_0 1 rfl rfl)
theorem dX0_state_4 : decode cX0_state 4 = .ok (.getfield 147, 3) := dk_180 0 147 (dk_at dksX0_state_0 4 rfl rfl)
theorem dX0_state_7 : decode cX0_state 7 = .ok (.istore_n 2, 1) := dk_61 (dk_at dksX0_state_0 7 rfl rfl)
theorem dX0_state_8 : decode cX0_state 8 = .ok (.aload_n 0, 1) := dk_42 (dk_at dksX0_state_0 8 rfl rfl)
theorem dX0_state_9 : decode cX0_state 9 = .ok (.getfield 20, 3) := dk_180 0 20 (dk_at dksX0_state_0 9 rfl rfl)
theorem dX0_state_12 : decode cX0_state 12 = .ok (.iload_n 1, 1) := dk_27 (dk_at dksX0_state_0 12 rfl rfl)
theorem dX0_state_13 : decode cX0_state 13 = .ok (.putfield 147, 3) := dk_181 0 147 (dk_at dksX0_state_0 13 rfl rfl)
theorem dX0_state_16 : decode cX0_state 16 = .ok (.aload_n 0, 1) := dk_42 (dk_at dksX0_state_0 16 rfl rfl)
theorem dX0_state_17 : decode cX0_state 17 = .ok (.invokevirtual 94, 3) := dk_182 0 94 (dk_at dksX0_state_0 17 rfl rfl)
theorem dX0_state_20 : decode cX0_state 20 = .ok (.pop, 1) := dk_87 (dk_at dksX0_state_0 20 rfl rfl)
theorem dX0_state_21 : decode cX0_state 21 = .ok (.iload_n 2, 1) := dk_28 (dk_at dksX0_state_0 21 rfl rfl)
theorem dX0_state_22 : decode cX0_state 22 = .ok (.ireturn, 1) := dk_172 (dk_at dksX0_state_0 22 rfl rfl)
abbrev cX0_person : ByteArray := prog_1_method_18_code
def yX0_person : MethodName := ⟨RX0, "person", "(II)I"⟩
def dkwX0_person_3 : List UInt8 := [180, 0, 20, 180, 0, 137, 4, 100, 172]
abbrev dktX0_person_3 : List UInt8 := dkwX0_person_3 ++ []
def dkwX0_person_2 : List UInt8 := [27, 28, 182, 0, 154, 42, 180, 0, 20, 89, 180, 0, 137, 4, 96, 181, 0, 137, 42, 182, 0, 94, 87, 42]
abbrev dktX0_person_2 : List UInt8 := dkwX0_person_2 ++ dktX0_person_3
def dkwX0_person_1 : List UInt8 := [180, 0, 20, 180, 0, 137, 16, 12, 160, 0, 5, 2, 172, 42, 42, 180, 0, 20, 180, 0, 137, 182, 0, 150]
abbrev dktX0_person_1 : List UInt8 := dkwX0_person_1 ++ dktX0_person_2
def dkwX0_person_0 : List UInt8 := [27, 3, 17, 39, 15, 184, 0, 67, 153, 0, 26, 28, 3, 17, 3, 231, 184, 0, 67, 153, 0, 15, 42]
abbrev dktX0_person_0 : List UInt8 := dkwX0_person_0 ++ dktX0_person_1
theorem dksX0_person_0 : cX0_person.data.toList.drop 0 = dktX0_person_0 := by decide +kernel
theorem dksX0_person_1 : cX0_person.data.toList.drop 23 = dktX0_person_1 := dk_seg dksX0_person_0 23 rfl rfl
theorem dksX0_person_2 : cX0_person.data.toList.drop 47 = dktX0_person_2 := dk_seg dksX0_person_1 24 rfl rfl
theorem dksX0_person_3 : cX0_person.data.toList.drop 71 = dktX0_person_3 := dk_seg dksX0_person_2 24 rfl rfl
theorem dX0_person_0 : decode cX0_person 0 = .ok (.iload_n 1, 1) := dk_27 (dk_at dksX0_person_0 0 rfl rfl)
theorem dX0_person_1 : decode cX0_person 1 = .ok (.iconst 0, 1) := dk_3 (dk_at dksX0_person_0 1 rfl rfl)
theorem dX0_person_2 : decode cX0_person 2 = .ok (.sipush 9999, 3) := dk_17 39 15 (dk_at dksX0_person_0 2 rfl rfl)
theorem dX0_person_5 : decode cX0_person 5 = .ok (.invokestatic 67, 3) := dk_184 0 67 (dk_at dksX0_person_0 5 rfl rfl)
theorem dX0_person_8 : decode cX0_person 8 = .ok (.ifCond .eq 26, 3) := dk_153 0 26 (dk_at dksX0_person_0 8 rfl rfl)
theorem dX0_person_11 : decode cX0_person 11 = .ok (.iload_n 2, 1) := dk_28 (dk_at dksX0_person_0 11 rfl rfl)
theorem dX0_person_12 : decode cX0_person 12 = .ok (.iconst 0, 1) := dk_3 (dk_at dksX0_person_0 12 rfl rfl)
theorem dX0_person_13 : decode cX0_person 13 = .ok (.sipush 999, 3) := dk_17 3 231 (dk_at dksX0_person_0 13 rfl rfl)
theorem dX0_person_16 : decode cX0_person 16 = .ok (.invokestatic 67, 3) := dk_184 0 67 (dk_at dksX0_person_0 16 rfl rfl)
theorem dX0_person_19 : decode cX0_person 19 = .ok (.ifCond .eq 15, 3) := dk_153 0 15 (dk_at dksX0_person_0 19 rfl rfl)
theorem dX0_person_22 : decode cX0_person 22 = .ok (.aload_n 0, 1) := dk_42 (dk_at dksX0_person_0 22 rfl rfl)
theorem dX0_person_23 : decode cX0_person 23 = .ok (.getfield 20, 3) := dk_180 0 20 (dk_at dksX0_person_1 0 rfl rfl)
theorem dX0_person_26 : decode cX0_person 26 = .ok (.getfield 137, 3) := dk_180 0 137 (dk_at dksX0_person_1 3 rfl rfl)
theorem dX0_person_29 : decode cX0_person 29 = .ok (.bipush 12, 2) := dk_16 12 (dk_at dksX0_person_1 6 rfl rfl)
theorem dX0_person_31 : decode cX0_person 31 = .ok (.if_icmp .ne 5, 3) := dk_160 0 5 (dk_at dksX0_person_1 8 rfl rfl)
theorem dX0_person_34 : decode cX0_person 34 = .ok (.iconst (-1), 1) := dk_2 (dk_at dksX0_person_1 11 rfl rfl)
theorem dX0_person_35 : decode cX0_person 35 = .ok (.ireturn, 1) := dk_172 (dk_at dksX0_person_1 12 rfl rfl)
theorem dX0_person_36 : decode cX0_person 36 = .ok (.aload_n 0, 1) := dk_42 (dk_at dksX0_person_1 13 rfl rfl)
theorem dX0_person_37 : decode cX0_person 37 = .ok (.aload_n 0, 1) := dk_42 (dk_at dksX0_person_1 14 rfl rfl)
theorem dX0_person_38 : decode cX0_person 38 = .ok (.getfield 20, 3) := dk_180 0 20 (dk_at dksX0_person_1 15 rfl rfl)
theorem dX0_person_41 : decode cX0_person 41 = .ok (.getfield 137, 3) := dk_180 0 137 (dk_at dksX0_person_1 18 rfl rfl)
theorem dX0_person_44 : decode cX0_person 44 = .ok (.invokevirtual 150, 3) := dk_182 0 150 (dk_at dksX0_person_1 21 rfl rfl)
theorem dX0_person_47 : decode cX0_person 47 = .ok (.iload_n 1, 1) := dk_27 (dk_at dksX0_person_2 0 rfl rfl)
theorem dX0_person_48 : decode cX0_person 48 = .ok (.iload_n 2, 1) := dk_28 (dk_at dksX0_person_2 1 rfl rfl)
theorem dX0_person_49 : decode cX0_person 49 = .ok (.invokevirtual 154, 3) := dk_182 0 154 (dk_at dksX0_person_2 2 rfl rfl)
theorem dX0_person_52 : decode cX0_person 52 = .ok (.aload_n 0, 1) := dk_42 (dk_at dksX0_person_2 5 rfl rfl)
theorem dX0_person_53 : decode cX0_person 53 = .ok (.getfield 20, 3) := dk_180 0 20 (dk_at dksX0_person_2 6 rfl rfl)
theorem dX0_person_56 : decode cX0_person 56 = .ok (.dup, 1) := dk_89 (dk_at dksX0_person_2 9 rfl rfl)
theorem dX0_person_57 : decode cX0_person 57 = .ok (.getfield 137, 3) := dk_180 0 137 (dk_at dksX0_person_2 10 rfl rfl)
theorem dX0_person_60 : decode cX0_person 60 = .ok (.iconst 1, 1) := dk_4 (dk_at dksX0_person_2 13 rfl rfl)
theorem dX0_person_61 : decode cX0_person 61 = .ok (.iadd, 1) := dk_96 (dk_at dksX0_person_2 14 rfl rfl)
theorem dX0_person_62 : decode cX0_person 62 = .ok (.putfield 137, 3) := dk_181 0 137 (dk_at dksX0_person_2 15 rfl rfl)
theorem dX0_person_65 : decode cX0_person 65 = .ok (.aload_n 0, 1) := dk_42 (dk_at dksX0_person_2 18 rfl rfl)
theorem dX0_person_66 : decode cX0_person 66 = .ok (.invokevirtual 94, 3) := dk_182 0 94 (dk_at dksX0_person_2 19 rfl rfl)
theorem dX0_person_69 : decode cX0_person 69 = .ok (.pop, 1) := dk_87 (dk_at dksX0_person_2 22 rfl rfl)
theorem dX0_person_70 : decode cX0_person 70 = .ok (.aload_n 0, 1) := dk_42 (dk_at dksX0_person_2 23 rfl rfl)
theorem dX0_person_71 : decode cX0_person 71 = .ok (.getfield 20, 3) := dk_180 0 20 (dk_at dksX0_person_3 0 rfl rfl)
theorem dX0_person_74 : decode cX0_person 74 = .ok (.getfield 137, 3) := dk_180 0 137 (dk_at dksX0_person_3 3 rfl rfl)
theorem dX0_person_77 : decode cX0_person 77 = .ok (.iconst 1, 1) := dk_4 (dk_at dksX0_person_3 6 rfl rfl)
theorem dX0_person_78 : decode cX0_person 78 = .ok (.isub, 1) := dk_100 (dk_at dksX0_person_3 7 rfl rfl)
theorem dX0_person_79 : decode cX0_person 79 = .ok (.ireturn, 1) := dk_172 (dk_at dksX0_person_3 8 rfl rfl)
abbrev cX0_at : ByteArray := prog_1_method_16_code
def yX0_at : MethodName := ⟨RX0, "at", "(I)LClaspedFair$Person;"⟩
def dkwX0_at_0 : List UInt8 := [42, 180, 0, 20, 180, 0, 143, 27, 50, 176]
abbrev dktX0_at_0 : List UInt8 := dkwX0_at_0 ++ []
theorem dksX0_at_0 : cX0_at.data.toList.drop 0 = dktX0_at_0 := by decide +kernel
theorem dX0_at_0 : decode cX0_at 0 = .ok (.aload_n 0, 1) := dk_42 (dk_at dksX0_at_0 0 rfl rfl)
theorem dX0_at_1 : decode cX0_at 1 = .ok (.getfield 20, 3) := dk_180 0 20 (dk_at dksX0_at_0 1 rfl rfl)
theorem dX0_at_4 : decode cX0_at 4 = .ok (.getfield 143, 3) := dk_180 0 143 (dk_at dksX0_at_0 4 rfl rfl)
theorem dX0_at_7 : decode cX0_at 7 = .ok (.iload_n 1, 1) := dk_27 (dk_at dksX0_at_0 7 rfl rfl)
theorem dX0_at_8 : decode cX0_at 8 = .ok (.aaload, 1) := dk_50 (dk_at dksX0_at_0 8 rfl rfl)
theorem dX0_at_9 : decode cX0_at 9 = .ok (.areturn, 1) := dk_176 (dk_at dksX0_at_0 9 rfl rfl)
abbrev cX0_horse : ByteArray := prog_1_method_19_code
def yX0_horse : MethodName := ⟨RX0, "horse", "(III)I"⟩
def dkwX0_horse_3 : List UInt8 := [180, 0, 140, 4, 96, 181, 0, 140, 42, 182, 0, 94, 87, 42, 180, 0, 20, 180, 0, 140, 4, 100, 172]
abbrev dktX0_horse_3 : List UInt8 := dkwX0_horse_3 ++ []
def dkwX0_horse_2 : List UInt8 := [180, 0, 164, 42, 180, 0, 20, 180, 0, 140, 50, 27, 28, 29, 182, 0, 168, 42, 180, 0, 20, 89]
abbrev dktX0_horse_2 : List UInt8 := dkwX0_horse_2 ++ dktX0_horse_3
def dkwX0_horse_1 : List UInt8 := [184, 0, 67, 153, 0, 15, 42, 180, 0, 20, 180, 0, 140, 16, 10, 160, 0, 5, 2, 172, 42, 180, 0, 20]
abbrev dktX0_horse_1 : List UInt8 := dkwX0_horse_1 ++ dktX0_horse_2
def dkwX0_horse_0 : List UInt8 := [42, 27, 182, 0, 160, 153, 0, 36, 28, 3, 17, 3, 231, 184, 0, 67, 153, 0, 25, 29, 3, 16, 9]
abbrev dktX0_horse_0 : List UInt8 := dkwX0_horse_0 ++ dktX0_horse_1
theorem dksX0_horse_0 : cX0_horse.data.toList.drop 0 = dktX0_horse_0 := by decide +kernel
theorem dksX0_horse_1 : cX0_horse.data.toList.drop 23 = dktX0_horse_1 := dk_seg dksX0_horse_0 23 rfl rfl
theorem dksX0_horse_2 : cX0_horse.data.toList.drop 47 = dktX0_horse_2 := dk_seg dksX0_horse_1 24 rfl rfl
theorem dksX0_horse_3 : cX0_horse.data.toList.drop 69 = dktX0_horse_3 := dk_seg dksX0_horse_2 22 rfl rfl
theorem dX0_horse_0 : decode cX0_horse 0 = .ok (.aload_n 0, 1) := dk_42 (dk_at dksX0_horse_0 0 rfl rfl)
theorem dX0_horse_1 : decode cX0_horse 1 = .ok (.iload_n 1, 1) := dk_27 (dk_at dksX0_horse_0 1 rfl rfl)
theorem dX0_horse_2 : decode cX0_horse 2 = .ok (.invokevirtual 160, 3) := dk_182 0 160 (dk_at dksX0_horse_0 2 rfl rfl)
theorem dX0_horse_5 : decode cX0_horse 5 = .ok (.ifCond .eq 36, 3) := dk_153 0 36 (dk_at dksX0_horse_0 5 rfl rfl)
theorem dX0_horse_8 : decode cX0_horse 8 = .ok (.iload_n 2, 1) := dk_28 (dk_at dksX0_horse_0 8 rfl rfl)
theorem dX0_horse_9 : decode cX0_horse 9 = .ok (.iconst 0, 1) := dk_3 (dk_at dksX0_horse_0 9 rfl rfl)
theorem dX0_horse_10 : decode cX0_horse 10 = .ok (.sipush 999, 3) := dk_17 3 231 (dk_at dksX0_horse_0 10 rfl rfl)
theorem dX0_horse_13 : decode cX0_horse 13 = .ok (.invokestatic 67, 3) := dk_184 0 67 (dk_at dksX0_horse_0 13 rfl rfl)
theorem dX0_horse_16 : decode cX0_horse 16 = .ok (.ifCond .eq 25, 3) := dk_153 0 25 (dk_at dksX0_horse_0 16 rfl rfl)
theorem dX0_horse_19 : decode cX0_horse 19 = .ok (.iload_n 3, 1) := dk_29 (dk_at dksX0_horse_0 19 rfl rfl)
theorem dX0_horse_20 : decode cX0_horse 20 = .ok (.iconst 0, 1) := dk_3 (dk_at dksX0_horse_0 20 rfl rfl)
theorem dX0_horse_21 : decode cX0_horse 21 = .ok (.bipush 9, 2) := dk_16 9 (dk_at dksX0_horse_0 21 rfl rfl)
theorem dX0_horse_23 : decode cX0_horse 23 = .ok (.invokestatic 67, 3) := dk_184 0 67 (dk_at dksX0_horse_1 0 rfl rfl)
theorem dX0_horse_26 : decode cX0_horse 26 = .ok (.ifCond .eq 15, 3) := dk_153 0 15 (dk_at dksX0_horse_1 3 rfl rfl)
theorem dX0_horse_29 : decode cX0_horse 29 = .ok (.aload_n 0, 1) := dk_42 (dk_at dksX0_horse_1 6 rfl rfl)
theorem dX0_horse_30 : decode cX0_horse 30 = .ok (.getfield 20, 3) := dk_180 0 20 (dk_at dksX0_horse_1 7 rfl rfl)
theorem dX0_horse_33 : decode cX0_horse 33 = .ok (.getfield 140, 3) := dk_180 0 140 (dk_at dksX0_horse_1 10 rfl rfl)
theorem dX0_horse_36 : decode cX0_horse 36 = .ok (.bipush 10, 2) := dk_16 10 (dk_at dksX0_horse_1 13 rfl rfl)
theorem dX0_horse_38 : decode cX0_horse 38 = .ok (.if_icmp .ne 5, 3) := dk_160 0 5 (dk_at dksX0_horse_1 15 rfl rfl)
theorem dX0_horse_41 : decode cX0_horse 41 = .ok (.iconst (-1), 1) := dk_2 (dk_at dksX0_horse_1 18 rfl rfl)
theorem dX0_horse_42 : decode cX0_horse 42 = .ok (.ireturn, 1) := dk_172 (dk_at dksX0_horse_1 19 rfl rfl)
theorem dX0_horse_43 : decode cX0_horse 43 = .ok (.aload_n 0, 1) := dk_42 (dk_at dksX0_horse_1 20 rfl rfl)
theorem dX0_horse_44 : decode cX0_horse 44 = .ok (.getfield 20, 3) := dk_180 0 20 (dk_at dksX0_horse_1 21 rfl rfl)
theorem dX0_horse_47 : decode cX0_horse 47 = .ok (.getfield 164, 3) := dk_180 0 164 (dk_at dksX0_horse_2 0 rfl rfl)
theorem dX0_horse_50 : decode cX0_horse 50 = .ok (.aload_n 0, 1) := dk_42 (dk_at dksX0_horse_2 3 rfl rfl)
theorem dX0_horse_51 : decode cX0_horse 51 = .ok (.getfield 20, 3) := dk_180 0 20 (dk_at dksX0_horse_2 4 rfl rfl)
theorem dX0_horse_54 : decode cX0_horse 54 = .ok (.getfield 140, 3) := dk_180 0 140 (dk_at dksX0_horse_2 7 rfl rfl)
theorem dX0_horse_57 : decode cX0_horse 57 = .ok (.aaload, 1) := dk_50 (dk_at dksX0_horse_2 10 rfl rfl)
theorem dX0_horse_58 : decode cX0_horse 58 = .ok (.iload_n 1, 1) := dk_27 (dk_at dksX0_horse_2 11 rfl rfl)
theorem dX0_horse_59 : decode cX0_horse 59 = .ok (.iload_n 2, 1) := dk_28 (dk_at dksX0_horse_2 12 rfl rfl)
theorem dX0_horse_60 : decode cX0_horse 60 = .ok (.iload_n 3, 1) := dk_29 (dk_at dksX0_horse_2 13 rfl rfl)
theorem dX0_horse_61 : decode cX0_horse 61 = .ok (.invokevirtual 168, 3) := dk_182 0 168 (dk_at dksX0_horse_2 14 rfl rfl)
theorem dX0_horse_64 : decode cX0_horse 64 = .ok (.aload_n 0, 1) := dk_42 (dk_at dksX0_horse_2 17 rfl rfl)
theorem dX0_horse_65 : decode cX0_horse 65 = .ok (.getfield 20, 3) := dk_180 0 20 (dk_at dksX0_horse_2 18 rfl rfl)
theorem dX0_horse_68 : decode cX0_horse 68 = .ok (.dup, 1) := dk_89 (dk_at dksX0_horse_2 21 rfl rfl)
theorem dX0_horse_69 : decode cX0_horse 69 = .ok (.getfield 140, 3) := dk_180 0 140 (dk_at dksX0_horse_3 0 rfl rfl)
theorem dX0_horse_72 : decode cX0_horse 72 = .ok (.iconst 1, 1) := dk_4 (dk_at dksX0_horse_3 3 rfl rfl)
theorem dX0_horse_73 : decode cX0_horse 73 = .ok (.iadd, 1) := dk_96 (dk_at dksX0_horse_3 4 rfl rfl)
theorem dX0_horse_74 : decode cX0_horse 74 = .ok (.putfield 140, 3) := dk_181 0 140 (dk_at dksX0_horse_3 5 rfl rfl)
theorem dX0_horse_77 : decode cX0_horse 77 = .ok (.aload_n 0, 1) := dk_42 (dk_at dksX0_horse_3 8 rfl rfl)
theorem dX0_horse_78 : decode cX0_horse 78 = .ok (.invokevirtual 94, 3) := dk_182 0 94 (dk_at dksX0_horse_3 9 rfl rfl)
theorem dX0_horse_81 : decode cX0_horse 81 = .ok (.pop, 1) := dk_87 (dk_at dksX0_horse_3 12 rfl rfl)
theorem dX0_horse_82 : decode cX0_horse 82 = .ok (.aload_n 0, 1) := dk_42 (dk_at dksX0_horse_3 13 rfl rfl)
theorem dX0_horse_83 : decode cX0_horse 83 = .ok (.getfield 20, 3) := dk_180 0 20 (dk_at dksX0_horse_3 14 rfl rfl)
theorem dX0_horse_86 : decode cX0_horse 86 = .ok (.getfield 140, 3) := dk_180 0 140 (dk_at dksX0_horse_3 17 rfl rfl)
theorem dX0_horse_89 : decode cX0_horse 89 = .ok (.iconst 1, 1) := dk_4 (dk_at dksX0_horse_3 20 rfl rfl)
theorem dX0_horse_90 : decode cX0_horse 90 = .ok (.isub, 1) := dk_100 (dk_at dksX0_horse_3 21 rfl rfl)
theorem dX0_horse_91 : decode cX0_horse 91 = .ok (.ireturn, 1) := dk_172 (dk_at dksX0_horse_3 22 rfl rfl)
abbrev cX0_isPerson : ByteArray := prog_1_method_13_code
def yX0_isPerson : MethodName := ⟨RX0, "isPerson", "(I)Z"⟩
def dkwX0_isPerson_0 : List UInt8 := [27, 3, 42, 180, 0, 20, 180, 0, 137, 4, 100, 184, 0, 67, 172]
abbrev dktX0_isPerson_0 : List UInt8 := dkwX0_isPerson_0 ++ []
theorem dksX0_isPerson_0 : cX0_isPerson.data.toList.drop 0 = dktX0_isPerson_0 := by decide +kernel
theorem dX0_isPerson_0 : decode cX0_isPerson 0 = .ok (.iload_n 1, 1) := dk_27 (dk_at dksX0_isPerson_0 0 rfl rfl)
theorem dX0_isPerson_1 : decode cX0_isPerson 1 = .ok (.iconst 0, 1) := dk_3 (dk_at dksX0_isPerson_0 1 rfl rfl)
theorem dX0_isPerson_2 : decode cX0_isPerson 2 = .ok (.aload_n 0, 1) := dk_42 (dk_at dksX0_isPerson_0 2 rfl rfl)
theorem dX0_isPerson_3 : decode cX0_isPerson 3 = .ok (.getfield 20, 3) := dk_180 0 20 (dk_at dksX0_isPerson_0 3 rfl rfl)
theorem dX0_isPerson_6 : decode cX0_isPerson 6 = .ok (.getfield 137, 3) := dk_180 0 137 (dk_at dksX0_isPerson_0 6 rfl rfl)
theorem dX0_isPerson_9 : decode cX0_isPerson 9 = .ok (.iconst 1, 1) := dk_4 (dk_at dksX0_isPerson_0 9 rfl rfl)
theorem dX0_isPerson_10 : decode cX0_isPerson 10 = .ok (.isub, 1) := dk_100 (dk_at dksX0_isPerson_0 10 rfl rfl)
theorem dX0_isPerson_11 : decode cX0_isPerson 11 = .ok (.invokestatic 67, 3) := dk_184 0 67 (dk_at dksX0_isPerson_0 11 rfl rfl)
theorem dX0_isPerson_14 : decode cX0_isPerson 14 = .ok (.ireturn, 1) := dk_172 (dk_at dksX0_isPerson_0 14 rfl rfl)
abbrev cX0_set : ByteArray := prog_1_method_21_code
def yX0_set : MethodName := ⟨RX0, "set", "(III)Z"⟩
def dkwX0_set_4 : List UInt8 := [182, 0, 150, 180, 0, 188, 27, 29, 79, 42, 182, 0, 94, 172]
abbrev dktX0_set_4 : List UInt8 := dkwX0_set_4 ++ []
def dkwX0_set_3 : List UInt8 := [181, 0, 182, 167, 0, 30, 42, 180, 0, 20, 180, 0, 164, 28, 50, 29, 181, 0, 185, 167, 0, 14, 42, 28]
abbrev dktX0_set_3 : List UInt8 := dkwX0_set_3 ++ dktX0_set_4
def dkwX0_set_2 : List UInt8 := [42, 28, 182, 0, 150, 29, 181, 0, 179, 167, 0, 46, 42, 180, 0, 20, 180, 0, 164, 28, 50, 29]
abbrev dktX0_set_2 : List UInt8 := dkwX0_set_2 ++ dktX0_set_3
def dkwX0_set_1 : List UInt8 := [170, 0, 0, 0, 0, 0, 71, 0, 0, 0, 5, 0, 0, 0, 7, 0, 0, 0, 27, 0, 0, 0, 39, 0, 0, 0, 55]
abbrev dktX0_set_1 : List UInt8 := dkwX0_set_1 ++ dktX0_set_2
def dkwX0_set_0 : List UInt8 := [42, 27, 28, 29, 182, 0, 176, 154, 0, 5, 3, 172, 27]
abbrev dktX0_set_0 : List UInt8 := dkwX0_set_0 ++ dktX0_set_1
theorem dksX0_set_0 : cX0_set.data.toList.drop 0 = dktX0_set_0 := by decide +kernel
theorem dksX0_set_1 : cX0_set.data.toList.drop 13 = dktX0_set_1 := dk_seg dksX0_set_0 13 rfl rfl
theorem dksX0_set_2 : cX0_set.data.toList.drop 40 = dktX0_set_2 := dk_seg dksX0_set_1 27 rfl rfl
theorem dksX0_set_3 : cX0_set.data.toList.drop 62 = dktX0_set_3 := dk_seg dksX0_set_2 22 rfl rfl
theorem dksX0_set_4 : cX0_set.data.toList.drop 86 = dktX0_set_4 := dk_seg dksX0_set_3 24 rfl rfl
theorem dX0_set_0 : decode cX0_set 0 = .ok (.aload_n 0, 1) := dk_42 (dk_at dksX0_set_0 0 rfl rfl)
theorem dX0_set_1 : decode cX0_set 1 = .ok (.iload_n 1, 1) := dk_27 (dk_at dksX0_set_0 1 rfl rfl)
theorem dX0_set_2 : decode cX0_set 2 = .ok (.iload_n 2, 1) := dk_28 (dk_at dksX0_set_0 2 rfl rfl)
theorem dX0_set_3 : decode cX0_set 3 = .ok (.iload_n 3, 1) := dk_29 (dk_at dksX0_set_0 3 rfl rfl)
theorem dX0_set_4 : decode cX0_set 4 = .ok (.invokevirtual 176, 3) := dk_182 0 176 (dk_at dksX0_set_0 4 rfl rfl)
theorem dX0_set_7 : decode cX0_set 7 = .ok (.ifCond .ne 5, 3) := dk_154 0 5 (dk_at dksX0_set_0 7 rfl rfl)
theorem dX0_set_10 : decode cX0_set 10 = .ok (.iconst 0, 1) := dk_3 (dk_at dksX0_set_0 10 rfl rfl)
theorem dX0_set_11 : decode cX0_set 11 = .ok (.ireturn, 1) := dk_172 (dk_at dksX0_set_0 11 rfl rfl)
theorem dX0_set_12 : decode cX0_set 12 = .ok (.iload_n 1, 1) := dk_27 (dk_at dksX0_set_0 12 rfl rfl)
theorem dX0_set_13 : decode cX0_set 13 = .ok (.tableswitch 71 5 7 #[27, 39, 55], 27) := by decide +kernel
theorem dX0_set_40 : decode cX0_set 40 = .ok (.aload_n 0, 1) := dk_42 (dk_at dksX0_set_2 0 rfl rfl)
theorem dX0_set_41 : decode cX0_set 41 = .ok (.iload_n 2, 1) := dk_28 (dk_at dksX0_set_2 1 rfl rfl)
theorem dX0_set_42 : decode cX0_set 42 = .ok (.invokevirtual 150, 3) := dk_182 0 150 (dk_at dksX0_set_2 2 rfl rfl)
theorem dX0_set_45 : decode cX0_set 45 = .ok (.iload_n 3, 1) := dk_29 (dk_at dksX0_set_2 5 rfl rfl)
theorem dX0_set_46 : decode cX0_set 46 = .ok (.putfield 179, 3) := dk_181 0 179 (dk_at dksX0_set_2 6 rfl rfl)
theorem dX0_set_49 : decode cX0_set 49 = .ok (.goto 46, 3) := dk_167 0 46 (dk_at dksX0_set_2 9 rfl rfl)
theorem dX0_set_52 : decode cX0_set 52 = .ok (.aload_n 0, 1) := dk_42 (dk_at dksX0_set_2 12 rfl rfl)
theorem dX0_set_53 : decode cX0_set 53 = .ok (.getfield 20, 3) := dk_180 0 20 (dk_at dksX0_set_2 13 rfl rfl)
theorem dX0_set_56 : decode cX0_set 56 = .ok (.getfield 164, 3) := dk_180 0 164 (dk_at dksX0_set_2 16 rfl rfl)
theorem dX0_set_59 : decode cX0_set 59 = .ok (.iload_n 2, 1) := dk_28 (dk_at dksX0_set_2 19 rfl rfl)
theorem dX0_set_60 : decode cX0_set 60 = .ok (.aaload, 1) := dk_50 (dk_at dksX0_set_2 20 rfl rfl)
theorem dX0_set_61 : decode cX0_set 61 = .ok (.iload_n 3, 1) := dk_29 (dk_at dksX0_set_2 21 rfl rfl)
theorem dX0_set_62 : decode cX0_set 62 = .ok (.putfield 182, 3) := dk_181 0 182 (dk_at dksX0_set_3 0 rfl rfl)
theorem dX0_set_65 : decode cX0_set 65 = .ok (.goto 30, 3) := dk_167 0 30 (dk_at dksX0_set_3 3 rfl rfl)
theorem dX0_set_68 : decode cX0_set 68 = .ok (.aload_n 0, 1) := dk_42 (dk_at dksX0_set_3 6 rfl rfl)
theorem dX0_set_69 : decode cX0_set 69 = .ok (.getfield 20, 3) := dk_180 0 20 (dk_at dksX0_set_3 7 rfl rfl)
theorem dX0_set_72 : decode cX0_set 72 = .ok (.getfield 164, 3) := dk_180 0 164 (dk_at dksX0_set_3 10 rfl rfl)
theorem dX0_set_75 : decode cX0_set 75 = .ok (.iload_n 2, 1) := dk_28 (dk_at dksX0_set_3 13 rfl rfl)
theorem dX0_set_76 : decode cX0_set 76 = .ok (.aaload, 1) := dk_50 (dk_at dksX0_set_3 14 rfl rfl)
theorem dX0_set_77 : decode cX0_set 77 = .ok (.iload_n 3, 1) := dk_29 (dk_at dksX0_set_3 15 rfl rfl)
theorem dX0_set_78 : decode cX0_set 78 = .ok (.putfield 185, 3) := dk_181 0 185 (dk_at dksX0_set_3 16 rfl rfl)
theorem dX0_set_81 : decode cX0_set 81 = .ok (.goto 14, 3) := dk_167 0 14 (dk_at dksX0_set_3 19 rfl rfl)
theorem dX0_set_84 : decode cX0_set 84 = .ok (.aload_n 0, 1) := dk_42 (dk_at dksX0_set_3 22 rfl rfl)
theorem dX0_set_85 : decode cX0_set 85 = .ok (.iload_n 2, 1) := dk_28 (dk_at dksX0_set_3 23 rfl rfl)
theorem dX0_set_86 : decode cX0_set 86 = .ok (.invokevirtual 150, 3) := dk_182 0 150 (dk_at dksX0_set_4 0 rfl rfl)
theorem dX0_set_89 : decode cX0_set 89 = .ok (.getfield 188, 3) := dk_180 0 188 (dk_at dksX0_set_4 3 rfl rfl)
theorem dX0_set_92 : decode cX0_set 92 = .ok (.iload_n 1, 1) := dk_27 (dk_at dksX0_set_4 6 rfl rfl)
theorem dX0_set_93 : decode cX0_set 93 = .ok (.iload_n 3, 1) := dk_29 (dk_at dksX0_set_4 7 rfl rfl)
theorem dX0_set_94 : decode cX0_set 94 = .ok (.iastore, 1) := dk_79 (dk_at dksX0_set_4 8 rfl rfl)
theorem dX0_set_95 : decode cX0_set 95 = .ok (.aload_n 0, 1) := dk_42 (dk_at dksX0_set_4 9 rfl rfl)
theorem dX0_set_96 : decode cX0_set 96 = .ok (.invokevirtual 94, 3) := dk_182 0 94 (dk_at dksX0_set_4 10 rfl rfl)
theorem dX0_set_99 : decode cX0_set 99 = .ok (.ireturn, 1) := dk_172 (dk_at dksX0_set_4 13 rfl rfl)
abbrev cX0_canSet : ByteArray := prog_1_method_20_code
def yX0_canSet : MethodName := ⟨RX0, "canSet", "(III)Z"⟩
def dkwX0_canSet_3 : List UInt8 := [17, 3, 231, 167, 0, 5, 16, 9, 184, 0, 67, 153, 0, 7, 4, 167, 0, 4, 3, 172]
abbrev dktX0_canSet_3 : List UInt8 := dkwX0_canSet_3 ++ []
def dkwX0_canSet_2 : List UInt8 := [16, 7, 184, 0, 67, 153, 0, 37, 42, 28, 182, 0, 173, 153, 0, 29, 29, 3, 27, 16, 6, 160, 0, 9]
abbrev dktX0_canSet_2 : List UInt8 := dkwX0_canSet_2 ++ dktX0_canSet_3
def dkwX0_canSet_1 : List UInt8 := [17, 39, 15, 167, 0, 6, 17, 3, 231, 184, 0, 67, 153, 0, 7, 4, 167, 0, 4, 3, 172, 27, 16, 6]
abbrev dktX0_canSet_1 : List UInt8 := dkwX0_canSet_1 ++ dktX0_canSet_2
def dkwX0_canSet_0 : List UInt8 := [27, 3, 8, 184, 0, 67, 153, 0, 39, 42, 28, 182, 0, 160, 153, 0, 29, 29, 3, 27, 8, 160, 0, 9]
abbrev dktX0_canSet_0 : List UInt8 := dkwX0_canSet_0 ++ dktX0_canSet_1
theorem dksX0_canSet_0 : cX0_canSet.data.toList.drop 0 = dktX0_canSet_0 := by decide +kernel
theorem dksX0_canSet_1 : cX0_canSet.data.toList.drop 24 = dktX0_canSet_1 := dk_seg dksX0_canSet_0 24 rfl rfl
theorem dksX0_canSet_2 : cX0_canSet.data.toList.drop 48 = dktX0_canSet_2 := dk_seg dksX0_canSet_1 24 rfl rfl
theorem dksX0_canSet_3 : cX0_canSet.data.toList.drop 72 = dktX0_canSet_3 := dk_seg dksX0_canSet_2 24 rfl rfl
theorem dX0_canSet_0 : decode cX0_canSet 0 = .ok (.iload_n 1, 1) := dk_27 (dk_at dksX0_canSet_0 0 rfl rfl)
theorem dX0_canSet_1 : decode cX0_canSet 1 = .ok (.iconst 0, 1) := dk_3 (dk_at dksX0_canSet_0 1 rfl rfl)
theorem dX0_canSet_2 : decode cX0_canSet 2 = .ok (.iconst 5, 1) := dk_8 (dk_at dksX0_canSet_0 2 rfl rfl)
theorem dX0_canSet_3 : decode cX0_canSet 3 = .ok (.invokestatic 67, 3) := dk_184 0 67 (dk_at dksX0_canSet_0 3 rfl rfl)
theorem dX0_canSet_6 : decode cX0_canSet 6 = .ok (.ifCond .eq 39, 3) := dk_153 0 39 (dk_at dksX0_canSet_0 6 rfl rfl)
theorem dX0_canSet_9 : decode cX0_canSet 9 = .ok (.aload_n 0, 1) := dk_42 (dk_at dksX0_canSet_0 9 rfl rfl)
theorem dX0_canSet_10 : decode cX0_canSet 10 = .ok (.iload_n 2, 1) := dk_28 (dk_at dksX0_canSet_0 10 rfl rfl)
theorem dX0_canSet_11 : decode cX0_canSet 11 = .ok (.invokevirtual 160, 3) := dk_182 0 160 (dk_at dksX0_canSet_0 11 rfl rfl)
theorem dX0_canSet_14 : decode cX0_canSet 14 = .ok (.ifCond .eq 29, 3) := dk_153 0 29 (dk_at dksX0_canSet_0 14 rfl rfl)
theorem dX0_canSet_17 : decode cX0_canSet 17 = .ok (.iload_n 3, 1) := dk_29 (dk_at dksX0_canSet_0 17 rfl rfl)
theorem dX0_canSet_18 : decode cX0_canSet 18 = .ok (.iconst 0, 1) := dk_3 (dk_at dksX0_canSet_0 18 rfl rfl)
theorem dX0_canSet_19 : decode cX0_canSet 19 = .ok (.iload_n 1, 1) := dk_27 (dk_at dksX0_canSet_0 19 rfl rfl)
theorem dX0_canSet_20 : decode cX0_canSet 20 = .ok (.iconst 5, 1) := dk_8 (dk_at dksX0_canSet_0 20 rfl rfl)
theorem dX0_canSet_21 : decode cX0_canSet 21 = .ok (.if_icmp .ne 9, 3) := dk_160 0 9 (dk_at dksX0_canSet_0 21 rfl rfl)
theorem dX0_canSet_24 : decode cX0_canSet 24 = .ok (.sipush 9999, 3) := dk_17 39 15 (dk_at dksX0_canSet_1 0 rfl rfl)
theorem dX0_canSet_27 : decode cX0_canSet 27 = .ok (.goto 6, 3) := dk_167 0 6 (dk_at dksX0_canSet_1 3 rfl rfl)
theorem dX0_canSet_30 : decode cX0_canSet 30 = .ok (.sipush 999, 3) := dk_17 3 231 (dk_at dksX0_canSet_1 6 rfl rfl)
theorem dX0_canSet_33 : decode cX0_canSet 33 = .ok (.invokestatic 67, 3) := dk_184 0 67 (dk_at dksX0_canSet_1 9 rfl rfl)
theorem dX0_canSet_36 : decode cX0_canSet 36 = .ok (.ifCond .eq 7, 3) := dk_153 0 7 (dk_at dksX0_canSet_1 12 rfl rfl)
theorem dX0_canSet_39 : decode cX0_canSet 39 = .ok (.iconst 1, 1) := dk_4 (dk_at dksX0_canSet_1 15 rfl rfl)
theorem dX0_canSet_40 : decode cX0_canSet 40 = .ok (.goto 4, 3) := dk_167 0 4 (dk_at dksX0_canSet_1 16 rfl rfl)
theorem dX0_canSet_43 : decode cX0_canSet 43 = .ok (.iconst 0, 1) := dk_3 (dk_at dksX0_canSet_1 19 rfl rfl)
theorem dX0_canSet_44 : decode cX0_canSet 44 = .ok (.ireturn, 1) := dk_172 (dk_at dksX0_canSet_1 20 rfl rfl)
theorem dX0_canSet_45 : decode cX0_canSet 45 = .ok (.iload_n 1, 1) := dk_27 (dk_at dksX0_canSet_1 21 rfl rfl)
theorem dX0_canSet_46 : decode cX0_canSet 46 = .ok (.bipush 6, 2) := dk_16 6 (dk_at dksX0_canSet_1 22 rfl rfl)
theorem dX0_canSet_48 : decode cX0_canSet 48 = .ok (.bipush 7, 2) := dk_16 7 (dk_at dksX0_canSet_2 0 rfl rfl)
theorem dX0_canSet_50 : decode cX0_canSet 50 = .ok (.invokestatic 67, 3) := dk_184 0 67 (dk_at dksX0_canSet_2 2 rfl rfl)
theorem dX0_canSet_53 : decode cX0_canSet 53 = .ok (.ifCond .eq 37, 3) := dk_153 0 37 (dk_at dksX0_canSet_2 5 rfl rfl)
theorem dX0_canSet_56 : decode cX0_canSet 56 = .ok (.aload_n 0, 1) := dk_42 (dk_at dksX0_canSet_2 8 rfl rfl)
theorem dX0_canSet_57 : decode cX0_canSet 57 = .ok (.iload_n 2, 1) := dk_28 (dk_at dksX0_canSet_2 9 rfl rfl)
theorem dX0_canSet_58 : decode cX0_canSet 58 = .ok (.invokevirtual 173, 3) := dk_182 0 173 (dk_at dksX0_canSet_2 10 rfl rfl)
theorem dX0_canSet_61 : decode cX0_canSet 61 = .ok (.ifCond .eq 29, 3) := dk_153 0 29 (dk_at dksX0_canSet_2 13 rfl rfl)
theorem dX0_canSet_64 : decode cX0_canSet 64 = .ok (.iload_n 3, 1) := dk_29 (dk_at dksX0_canSet_2 16 rfl rfl)
theorem dX0_canSet_65 : decode cX0_canSet 65 = .ok (.iconst 0, 1) := dk_3 (dk_at dksX0_canSet_2 17 rfl rfl)
theorem dX0_canSet_66 : decode cX0_canSet 66 = .ok (.iload_n 1, 1) := dk_27 (dk_at dksX0_canSet_2 18 rfl rfl)
theorem dX0_canSet_67 : decode cX0_canSet 67 = .ok (.bipush 6, 2) := dk_16 6 (dk_at dksX0_canSet_2 19 rfl rfl)
theorem dX0_canSet_69 : decode cX0_canSet 69 = .ok (.if_icmp .ne 9, 3) := dk_160 0 9 (dk_at dksX0_canSet_2 21 rfl rfl)
theorem dX0_canSet_72 : decode cX0_canSet 72 = .ok (.sipush 999, 3) := dk_17 3 231 (dk_at dksX0_canSet_3 0 rfl rfl)
theorem dX0_canSet_75 : decode cX0_canSet 75 = .ok (.goto 5, 3) := dk_167 0 5 (dk_at dksX0_canSet_3 3 rfl rfl)
theorem dX0_canSet_78 : decode cX0_canSet 78 = .ok (.bipush 9, 2) := dk_16 9 (dk_at dksX0_canSet_3 6 rfl rfl)
theorem dX0_canSet_80 : decode cX0_canSet 80 = .ok (.invokestatic 67, 3) := dk_184 0 67 (dk_at dksX0_canSet_3 8 rfl rfl)
theorem dX0_canSet_83 : decode cX0_canSet 83 = .ok (.ifCond .eq 7, 3) := dk_153 0 7 (dk_at dksX0_canSet_3 11 rfl rfl)
theorem dX0_canSet_86 : decode cX0_canSet 86 = .ok (.iconst 1, 1) := dk_4 (dk_at dksX0_canSet_3 14 rfl rfl)
theorem dX0_canSet_87 : decode cX0_canSet 87 = .ok (.goto 4, 3) := dk_167 0 4 (dk_at dksX0_canSet_3 15 rfl rfl)
theorem dX0_canSet_90 : decode cX0_canSet 90 = .ok (.iconst 0, 1) := dk_3 (dk_at dksX0_canSet_3 18 rfl rfl)
theorem dX0_canSet_91 : decode cX0_canSet 91 = .ok (.ireturn, 1) := dk_172 (dk_at dksX0_canSet_3 19 rfl rfl)
abbrev cX0_isHorse : ByteArray := prog_1_method_14_code
def yX0_isHorse : MethodName := ⟨RX0, "isHorse", "(I)Z"⟩
def dkwX0_isHorse_0 : List UInt8 := [27, 3, 42, 180, 0, 20, 180, 0, 140, 4, 100, 184, 0, 67, 172]
abbrev dktX0_isHorse_0 : List UInt8 := dkwX0_isHorse_0 ++ []
theorem dksX0_isHorse_0 : cX0_isHorse.data.toList.drop 0 = dktX0_isHorse_0 := by decide +kernel
theorem dX0_isHorse_0 : decode cX0_isHorse 0 = .ok (.iload_n 1, 1) := dk_27 (dk_at dksX0_isHorse_0 0 rfl rfl)
theorem dX0_isHorse_1 : decode cX0_isHorse 1 = .ok (.iconst 0, 1) := dk_3 (dk_at dksX0_isHorse_0 1 rfl rfl)
theorem dX0_isHorse_2 : decode cX0_isHorse 2 = .ok (.aload_n 0, 1) := dk_42 (dk_at dksX0_isHorse_0 2 rfl rfl)
theorem dX0_isHorse_3 : decode cX0_isHorse 3 = .ok (.getfield 20, 3) := dk_180 0 20 (dk_at dksX0_isHorse_0 3 rfl rfl)
theorem dX0_isHorse_6 : decode cX0_isHorse 6 = .ok (.getfield 140, 3) := dk_180 0 140 (dk_at dksX0_isHorse_0 6 rfl rfl)
theorem dX0_isHorse_9 : decode cX0_isHorse 9 = .ok (.iconst 1, 1) := dk_4 (dk_at dksX0_isHorse_0 9 rfl rfl)
theorem dX0_isHorse_10 : decode cX0_isHorse 10 = .ok (.isub, 1) := dk_100 (dk_at dksX0_isHorse_0 10 rfl rfl)
theorem dX0_isHorse_11 : decode cX0_isHorse 11 = .ok (.invokestatic 67, 3) := dk_184 0 67 (dk_at dksX0_isHorse_0 11 rfl rfl)
theorem dX0_isHorse_14 : decode cX0_isHorse 14 = .ok (.ireturn, 1) := dk_172 (dk_at dksX0_isHorse_0 14 rfl rfl)
abbrev cX0_buys : ByteArray := prog_1_method_23_code
def yX0_buys : MethodName := ⟨RX0, "buys", "(IIII)I"⟩
def dkwX0_buys_1 : List UInt8 := [154, 0, 5, 2, 172, 42, 182, 0, 201, 42, 180, 0, 20, 28, 182, 0, 204, 172]
abbrev dktX0_buys_1 : List UInt8 := dkwX0_buys_1 ++ []
def dkwX0_buys_0 : List UInt8 := [42, 27, 28, 29, 21, 4, 182, 0, 194, 153, 0, 18, 42, 180, 0, 20, 27, 28, 29, 21, 4, 182, 0, 198]
abbrev dktX0_buys_0 : List UInt8 := dkwX0_buys_0 ++ dktX0_buys_1
theorem dksX0_buys_0 : cX0_buys.data.toList.drop 0 = dktX0_buys_0 := by decide +kernel
theorem dksX0_buys_1 : cX0_buys.data.toList.drop 24 = dktX0_buys_1 := dk_seg dksX0_buys_0 24 rfl rfl
theorem dX0_buys_0 : decode cX0_buys 0 = .ok (.aload_n 0, 1) := dk_42 (dk_at dksX0_buys_0 0 rfl rfl)
theorem dX0_buys_1 : decode cX0_buys 1 = .ok (.iload_n 1, 1) := dk_27 (dk_at dksX0_buys_0 1 rfl rfl)
theorem dX0_buys_2 : decode cX0_buys 2 = .ok (.iload_n 2, 1) := dk_28 (dk_at dksX0_buys_0 2 rfl rfl)
theorem dX0_buys_3 : decode cX0_buys 3 = .ok (.iload_n 3, 1) := dk_29 (dk_at dksX0_buys_0 3 rfl rfl)
theorem dX0_buys_4 : decode cX0_buys 4 = .ok (.iload 4, 2) := dk_21 4 (dk_at dksX0_buys_0 4 rfl rfl)
theorem dX0_buys_6 : decode cX0_buys 6 = .ok (.invokevirtual 194, 3) := dk_182 0 194 (dk_at dksX0_buys_0 6 rfl rfl)
theorem dX0_buys_9 : decode cX0_buys 9 = .ok (.ifCond .eq 18, 3) := dk_153 0 18 (dk_at dksX0_buys_0 9 rfl rfl)
theorem dX0_buys_12 : decode cX0_buys 12 = .ok (.aload_n 0, 1) := dk_42 (dk_at dksX0_buys_0 12 rfl rfl)
theorem dX0_buys_13 : decode cX0_buys 13 = .ok (.getfield 20, 3) := dk_180 0 20 (dk_at dksX0_buys_0 13 rfl rfl)
theorem dX0_buys_16 : decode cX0_buys 16 = .ok (.iload_n 1, 1) := dk_27 (dk_at dksX0_buys_0 16 rfl rfl)
theorem dX0_buys_17 : decode cX0_buys 17 = .ok (.iload_n 2, 1) := dk_28 (dk_at dksX0_buys_0 17 rfl rfl)
theorem dX0_buys_18 : decode cX0_buys 18 = .ok (.iload_n 3, 1) := dk_29 (dk_at dksX0_buys_0 18 rfl rfl)
theorem dX0_buys_19 : decode cX0_buys 19 = .ok (.iload 4, 2) := dk_21 4 (dk_at dksX0_buys_0 19 rfl rfl)
theorem dX0_buys_21 : decode cX0_buys 21 = .ok (.invokevirtual 198, 3) := dk_182 0 198 (dk_at dksX0_buys_0 21 rfl rfl)
theorem dX0_buys_24 : decode cX0_buys 24 = .ok (.ifCond .ne 5, 3) := dk_154 0 5 (dk_at dksX0_buys_1 0 rfl rfl)
theorem dX0_buys_27 : decode cX0_buys 27 = .ok (.iconst (-1), 1) := dk_2 (dk_at dksX0_buys_1 3 rfl rfl)
theorem dX0_buys_28 : decode cX0_buys 28 = .ok (.ireturn, 1) := dk_172 (dk_at dksX0_buys_1 4 rfl rfl)
theorem dX0_buys_29 : decode cX0_buys 29 = .ok (.aload_n 0, 1) := dk_42 (dk_at dksX0_buys_1 5 rfl rfl)
theorem dX0_buys_30 : decode cX0_buys 30 = .ok (.invokevirtual 201, 3) := dk_182 0 201 (dk_at dksX0_buys_1 6 rfl rfl)
theorem dX0_buys_33 : decode cX0_buys 33 = .ok (.aload_n 0, 1) := dk_42 (dk_at dksX0_buys_1 9 rfl rfl)
theorem dX0_buys_34 : decode cX0_buys 34 = .ok (.getfield 20, 3) := dk_180 0 20 (dk_at dksX0_buys_1 10 rfl rfl)
theorem dX0_buys_37 : decode cX0_buys 37 = .ok (.iload_n 2, 1) := dk_28 (dk_at dksX0_buys_1 13 rfl rfl)
theorem dX0_buys_38 : decode cX0_buys 38 = .ok (.invokevirtual 204, 3) := dk_182 0 204 (dk_at dksX0_buys_1 14 rfl rfl)
theorem dX0_buys_41 : decode cX0_buys 41 = .ok (.ireturn, 1) := dk_172 (dk_at dksX0_buys_1 17 rfl rfl)
abbrev cX0_canTell : ByteArray := prog_1_method_22_code
def yX0_canTell : MethodName := ⟨RX0, "canTell", "(IIII)Z"⟩
def dkwX0_canTell_1 : List UInt8 := [153, 0, 15, 21, 4, 184, 0, 191, 153, 0, 7, 4, 167, 0, 4, 3, 172]
abbrev dktX0_canTell_1 : List UInt8 := dkwX0_canTell_1 ++ []
def dkwX0_canTell_0 : List UInt8 := [42, 27, 182, 0, 160, 153, 0, 34, 42, 28, 182, 0, 173, 153, 0, 26, 29, 3, 17, 39, 15, 184, 0, 67]
abbrev dktX0_canTell_0 : List UInt8 := dkwX0_canTell_0 ++ dktX0_canTell_1
theorem dksX0_canTell_0 : cX0_canTell.data.toList.drop 0 = dktX0_canTell_0 := by decide +kernel
theorem dksX0_canTell_1 : cX0_canTell.data.toList.drop 24 = dktX0_canTell_1 := dk_seg dksX0_canTell_0 24 rfl rfl
theorem dX0_canTell_0 : decode cX0_canTell 0 = .ok (.aload_n 0, 1) := dk_42 (dk_at dksX0_canTell_0 0 rfl rfl)
theorem dX0_canTell_1 : decode cX0_canTell 1 = .ok (.iload_n 1, 1) := dk_27 (dk_at dksX0_canTell_0 1 rfl rfl)
theorem dX0_canTell_2 : decode cX0_canTell 2 = .ok (.invokevirtual 160, 3) := dk_182 0 160 (dk_at dksX0_canTell_0 2 rfl rfl)
theorem dX0_canTell_5 : decode cX0_canTell 5 = .ok (.ifCond .eq 34, 3) := dk_153 0 34 (dk_at dksX0_canTell_0 5 rfl rfl)
theorem dX0_canTell_8 : decode cX0_canTell 8 = .ok (.aload_n 0, 1) := dk_42 (dk_at dksX0_canTell_0 8 rfl rfl)
theorem dX0_canTell_9 : decode cX0_canTell 9 = .ok (.iload_n 2, 1) := dk_28 (dk_at dksX0_canTell_0 9 rfl rfl)
theorem dX0_canTell_10 : decode cX0_canTell 10 = .ok (.invokevirtual 173, 3) := dk_182 0 173 (dk_at dksX0_canTell_0 10 rfl rfl)
theorem dX0_canTell_13 : decode cX0_canTell 13 = .ok (.ifCond .eq 26, 3) := dk_153 0 26 (dk_at dksX0_canTell_0 13 rfl rfl)
theorem dX0_canTell_16 : decode cX0_canTell 16 = .ok (.iload_n 3, 1) := dk_29 (dk_at dksX0_canTell_0 16 rfl rfl)
theorem dX0_canTell_17 : decode cX0_canTell 17 = .ok (.iconst 0, 1) := dk_3 (dk_at dksX0_canTell_0 17 rfl rfl)
theorem dX0_canTell_18 : decode cX0_canTell 18 = .ok (.sipush 9999, 3) := dk_17 39 15 (dk_at dksX0_canTell_0 18 rfl rfl)
theorem dX0_canTell_21 : decode cX0_canTell 21 = .ok (.invokestatic 67, 3) := dk_184 0 67 (dk_at dksX0_canTell_0 21 rfl rfl)
theorem dX0_canTell_24 : decode cX0_canTell 24 = .ok (.ifCond .eq 15, 3) := dk_153 0 15 (dk_at dksX0_canTell_1 0 rfl rfl)
theorem dX0_canTell_27 : decode cX0_canTell 27 = .ok (.iload 4, 2) := dk_21 4 (dk_at dksX0_canTell_1 3 rfl rfl)
theorem dX0_canTell_29 : decode cX0_canTell 29 = .ok (.invokestatic 191, 3) := dk_184 0 191 (dk_at dksX0_canTell_1 5 rfl rfl)
theorem dX0_canTell_32 : decode cX0_canTell 32 = .ok (.ifCond .eq 7, 3) := dk_153 0 7 (dk_at dksX0_canTell_1 8 rfl rfl)
theorem dX0_canTell_35 : decode cX0_canTell 35 = .ok (.iconst 1, 1) := dk_4 (dk_at dksX0_canTell_1 11 rfl rfl)
theorem dX0_canTell_36 : decode cX0_canTell 36 = .ok (.goto 4, 3) := dk_167 0 4 (dk_at dksX0_canTell_1 12 rfl rfl)
theorem dX0_canTell_39 : decode cX0_canTell 39 = .ok (.iconst 0, 1) := dk_3 (dk_at dksX0_canTell_1 15 rfl rfl)
theorem dX0_canTell_40 : decode cX0_canTell 40 = .ok (.ireturn, 1) := dk_172 (dk_at dksX0_canTell_1 16 rfl rfl)
abbrev cX0_isGrip : ByteArray := prog_1_method_15_code
def yX0_isGrip : MethodName := ⟨RX0, "isGrip", "(I)Z"⟩
def dkwX0_isGrip_0 : List UInt8 := [26, 4, 16, 9, 184, 0, 67, 172]
abbrev dktX0_isGrip_0 : List UInt8 := dkwX0_isGrip_0 ++ []
theorem dksX0_isGrip_0 : cX0_isGrip.data.toList.drop 0 = dktX0_isGrip_0 := by decide +kernel
theorem dX0_isGrip_0 : decode cX0_isGrip 0 = .ok (.iload_n 0, 1) := dk_26 (dk_at dksX0_isGrip_0 0 rfl rfl)
theorem dX0_isGrip_1 : decode cX0_isGrip 1 = .ok (.iconst 1, 1) := dk_4 (dk_at dksX0_isGrip_0 1 rfl rfl)
theorem dX0_isGrip_2 : decode cX0_isGrip 2 = .ok (.bipush 9, 2) := dk_16 9 (dk_at dksX0_isGrip_0 2 rfl rfl)
theorem dX0_isGrip_4 : decode cX0_isGrip 4 = .ok (.invokestatic 67, 3) := dk_184 0 67 (dk_at dksX0_isGrip_0 4 rfl rfl)
theorem dX0_isGrip_7 : decode cX0_isGrip 7 = .ok (.ireturn, 1) := dk_172 (dk_at dksX0_isGrip_0 7 rfl rfl)
abbrev cX0_bound : ByteArray := prog_1_method_3_code
def yX0_bound : MethodName := ⟨RX0, "bound", "(III)I"⟩
def dkwX0_bound_0 : List UInt8 := [27, 28, 26, 184, 0, 51, 184, 0, 57, 172]
abbrev dktX0_bound_0 : List UInt8 := dkwX0_bound_0 ++ []
theorem dksX0_bound_0 : cX0_bound.data.toList.drop 0 = dktX0_bound_0 := by decide +kernel
theorem dX0_bound_0 : decode cX0_bound 0 = .ok (.iload_n 1, 1) := dk_27 (dk_at dksX0_bound_0 0 rfl rfl)
theorem dX0_bound_1 : decode cX0_bound 1 = .ok (.iload_n 2, 1) := dk_28 (dk_at dksX0_bound_0 1 rfl rfl)
theorem dX0_bound_2 : decode cX0_bound 2 = .ok (.iload_n 0, 1) := dk_26 (dk_at dksX0_bound_0 2 rfl rfl)
theorem dX0_bound_3 : decode cX0_bound 3 = .ok (.invokestatic 51, 3) := dk_184 0 51 (dk_at dksX0_bound_0 3 rfl rfl)
theorem dX0_bound_6 : decode cX0_bound 6 = .ok (.invokestatic 57, 3) := dk_184 0 57 (dk_at dksX0_bound_0 6 rfl rfl)
theorem dX0_bound_9 : decode cX0_bound 9 = .ok (.ireturn, 1) := dk_172 (dk_at dksX0_bound_0 9 rfl rfl)
abbrev cX0_remembers : ByteArray := prog_1_method_11_code
def yX0_remembers : MethodName := ⟨RX0, "remembers", "()V"⟩
def dkwX0_remembers_3 : List UInt8 := [180, 0, 20, 182, 0, 133, 42, 89, 180, 0, 130, 4, 96, 181, 0, 130, 177]
abbrev dktX0_remembers_3 : List UInt8 := dkwX0_remembers_3 ++ []
def dkwX0_remembers_2 : List UInt8 := [8, 43, 83, 42, 89, 180, 0, 130, 4, 100, 181, 0, 130, 42, 180, 0, 30, 42, 180, 0, 130, 50, 42]
abbrev dktX0_remembers_2 : List UInt8 := dkwX0_remembers_2 ++ dktX0_remembers_3
def dkwX0_remembers_1 : List UInt8 := [42, 180, 0, 30, 28, 4, 100, 42, 180, 0, 30, 28, 50, 83, 132, 2, 1, 167, 255, 233, 42, 180, 0, 30]
abbrev dktX0_remembers_1 : List UInt8 := dkwX0_remembers_1 ++ dktX0_remembers_2
def dkwX0_remembers_0 : List UInt8 := [42, 180, 0, 130, 16, 6, 160, 0, 55, 42, 180, 0, 30, 3, 50, 76, 4, 61, 28, 16, 6, 162, 0, 23]
abbrev dktX0_remembers_0 : List UInt8 := dkwX0_remembers_0 ++ dktX0_remembers_1
theorem dksX0_remembers_0 : cX0_remembers.data.toList.drop 0 = dktX0_remembers_0 := by decide +kernel
theorem dksX0_remembers_1 : cX0_remembers.data.toList.drop 24 = dktX0_remembers_1 := dk_seg dksX0_remembers_0 24 rfl rfl
theorem dksX0_remembers_2 : cX0_remembers.data.toList.drop 48 = dktX0_remembers_2 := dk_seg dksX0_remembers_1 24 rfl rfl
theorem dksX0_remembers_3 : cX0_remembers.data.toList.drop 71 = dktX0_remembers_3 := dk_seg dksX0_remembers_2 23 rfl rfl
theorem dX0_remembers_0 : decode cX0_remembers 0 = .ok (.aload_n 0, 1) := dk_42 (dk_at dksX0_remembers_0 0 rfl rfl)
theorem dX0_remembers_1 : decode cX0_remembers 1 = .ok (.getfield 130, 3) := dk_180 0 130 (dk_at dksX0_remembers_0 1 rfl rfl)
theorem dX0_remembers_4 : decode cX0_remembers 4 = .ok (.bipush 6, 2) := dk_16 6 (dk_at dksX0_remembers_0 4 rfl rfl)
theorem dX0_remembers_6 : decode cX0_remembers 6 = .ok (.if_icmp .ne 55, 3) := dk_160 0 55 (dk_at dksX0_remembers_0 6 rfl rfl)
theorem dX0_remembers_9 : decode cX0_remembers 9 = .ok (.aload_n 0, 1) := dk_42 (dk_at dksX0_remembers_0 9 rfl rfl)
theorem dX0_remembers_10 : decode cX0_remembers 10 = .ok (.getfield 30, 3) := dk_180 0 30 (dk_at dksX0_remembers_0 10 rfl rfl)
theorem dX0_remembers_13 : decode cX0_remembers 13 = .ok (.iconst 0, 1) := dk_3 (dk_at dksX0_remembers_0 13 rfl rfl)
theorem dX0_remembers_14 : decode cX0_remembers 14 = .ok (.aaload, 1) := dk_50 (dk_at dksX0_remembers_0 14 rfl rfl)
theorem dX0_remembers_15 : decode cX0_remembers 15 = .ok (.astore_n 1, 1) := dk_76 (dk_at dksX0_remembers_0 15 rfl rfl)
theorem dX0_remembers_16 : decode cX0_remembers 16 = .ok (.iconst 1, 1) := dk_4 (dk_at dksX0_remembers_0 16 rfl rfl)
theorem dX0_remembers_17 : decode cX0_remembers 17 = .ok (.istore_n 2, 1) := dk_61 (dk_at dksX0_remembers_0 17 rfl rfl)
theorem dX0_remembers_18 : decode cX0_remembers 18 = .ok (.iload_n 2, 1) := dk_28 (dk_at dksX0_remembers_0 18 rfl rfl)
theorem dX0_remembers_19 : decode cX0_remembers 19 = .ok (.bipush 6, 2) := dk_16 6 (dk_at dksX0_remembers_0 19 rfl rfl)
theorem dX0_remembers_21 : decode cX0_remembers 21 = .ok (.if_icmp .ge 23, 3) := dk_162 0 23 (dk_at dksX0_remembers_0 21 rfl rfl)
theorem dX0_remembers_24 : decode cX0_remembers 24 = .ok (.aload_n 0, 1) := dk_42 (dk_at dksX0_remembers_1 0 rfl rfl)
theorem dX0_remembers_25 : decode cX0_remembers 25 = .ok (.getfield 30, 3) := dk_180 0 30 (dk_at dksX0_remembers_1 1 rfl rfl)
theorem dX0_remembers_28 : decode cX0_remembers 28 = .ok (.iload_n 2, 1) := dk_28 (dk_at dksX0_remembers_1 4 rfl rfl)
theorem dX0_remembers_29 : decode cX0_remembers 29 = .ok (.iconst 1, 1) := dk_4 (dk_at dksX0_remembers_1 5 rfl rfl)
theorem dX0_remembers_30 : decode cX0_remembers 30 = .ok (.isub, 1) := dk_100 (dk_at dksX0_remembers_1 6 rfl rfl)
theorem dX0_remembers_31 : decode cX0_remembers 31 = .ok (.aload_n 0, 1) := dk_42 (dk_at dksX0_remembers_1 7 rfl rfl)
theorem dX0_remembers_32 : decode cX0_remembers 32 = .ok (.getfield 30, 3) := dk_180 0 30 (dk_at dksX0_remembers_1 8 rfl rfl)
theorem dX0_remembers_35 : decode cX0_remembers 35 = .ok (.iload_n 2, 1) := dk_28 (dk_at dksX0_remembers_1 11 rfl rfl)
theorem dX0_remembers_36 : decode cX0_remembers 36 = .ok (.aaload, 1) := dk_50 (dk_at dksX0_remembers_1 12 rfl rfl)
theorem dX0_remembers_37 : decode cX0_remembers 37 = .ok (.aastore, 1) := dk_83 (dk_at dksX0_remembers_1 13 rfl rfl)
theorem dX0_remembers_38 : decode cX0_remembers 38 = .ok (.iinc 2 1, 3) := dk_132 2 1 (dk_at dksX0_remembers_1 14 rfl rfl)
theorem dX0_remembers_41 : decode cX0_remembers 41 = .ok (.goto (-23), 3) := dk_167 255 233 (dk_at dksX0_remembers_1 17 rfl rfl)
theorem dX0_remembers_44 : decode cX0_remembers 44 = .ok (.aload_n 0, 1) := dk_42 (dk_at dksX0_remembers_1 20 rfl rfl)
theorem dX0_remembers_45 : decode cX0_remembers 45 = .ok (.getfield 30, 3) := dk_180 0 30 (dk_at dksX0_remembers_1 21 rfl rfl)
theorem dX0_remembers_48 : decode cX0_remembers 48 = .ok (.iconst 5, 1) := dk_8 (dk_at dksX0_remembers_2 0 rfl rfl)
theorem dX0_remembers_49 : decode cX0_remembers 49 = .ok (.aload_n 1, 1) := dk_43 (dk_at dksX0_remembers_2 1 rfl rfl)
theorem dX0_remembers_50 : decode cX0_remembers 50 = .ok (.aastore, 1) := dk_83 (dk_at dksX0_remembers_2 2 rfl rfl)
theorem dX0_remembers_51 : decode cX0_remembers 51 = .ok (.aload_n 0, 1) := dk_42 (dk_at dksX0_remembers_2 3 rfl rfl)
theorem dX0_remembers_52 : decode cX0_remembers 52 = .ok (.dup, 1) := dk_89 (dk_at dksX0_remembers_2 4 rfl rfl)
theorem dX0_remembers_53 : decode cX0_remembers 53 = .ok (.getfield 130, 3) := dk_180 0 130 (dk_at dksX0_remembers_2 5 rfl rfl)
theorem dX0_remembers_56 : decode cX0_remembers 56 = .ok (.iconst 1, 1) := dk_4 (dk_at dksX0_remembers_2 8 rfl rfl)
theorem dX0_remembers_57 : decode cX0_remembers 57 = .ok (.isub, 1) := dk_100 (dk_at dksX0_remembers_2 9 rfl rfl)
theorem dX0_remembers_58 : decode cX0_remembers 58 = .ok (.putfield 130, 3) := dk_181 0 130 (dk_at dksX0_remembers_2 10 rfl rfl)
theorem dX0_remembers_61 : decode cX0_remembers 61 = .ok (.aload_n 0, 1) := dk_42 (dk_at dksX0_remembers_2 13 rfl rfl)
theorem dX0_remembers_62 : decode cX0_remembers 62 = .ok (.getfield 30, 3) := dk_180 0 30 (dk_at dksX0_remembers_2 14 rfl rfl)
theorem dX0_remembers_65 : decode cX0_remembers 65 = .ok (.aload_n 0, 1) := dk_42 (dk_at dksX0_remembers_2 17 rfl rfl)
theorem dX0_remembers_66 : decode cX0_remembers 66 = .ok (.getfield 130, 3) := dk_180 0 130 (dk_at dksX0_remembers_2 18 rfl rfl)
theorem dX0_remembers_69 : decode cX0_remembers 69 = .ok (.aaload, 1) := dk_50 (dk_at dksX0_remembers_2 21 rfl rfl)
theorem dX0_remembers_70 : decode cX0_remembers 70 = .ok (.aload_n 0, 1) := dk_42 (dk_at dksX0_remembers_2 22 rfl rfl)
theorem dX0_remembers_71 : decode cX0_remembers 71 = .ok (.getfield 20, 3) := dk_180 0 20 (dk_at dksX0_remembers_3 0 rfl rfl)
theorem dX0_remembers_74 : decode cX0_remembers 74 = .ok (.invokevirtual 133, 3) := dk_182 0 133 (dk_at dksX0_remembers_3 3 rfl rfl)
theorem dX0_remembers_77 : decode cX0_remembers 77 = .ok (.aload_n 0, 1) := dk_42 (dk_at dksX0_remembers_3 6 rfl rfl)
theorem dX0_remembers_78 : decode cX0_remembers 78 = .ok (.dup, 1) := dk_89 (dk_at dksX0_remembers_3 7 rfl rfl)
theorem dX0_remembers_79 : decode cX0_remembers 79 = .ok (.getfield 130, 3) := dk_180 0 130 (dk_at dksX0_remembers_3 8 rfl rfl)
theorem dX0_remembers_82 : decode cX0_remembers 82 = .ok (.iconst 1, 1) := dk_4 (dk_at dksX0_remembers_3 11 rfl rfl)
theorem dX0_remembers_83 : decode cX0_remembers 83 = .ok (.iadd, 1) := dk_96 (dk_at dksX0_remembers_3 12 rfl rfl)
theorem dX0_remembers_84 : decode cX0_remembers 84 = .ok (.putfield 130, 3) := dk_181 0 130 (dk_at dksX0_remembers_3 13 rfl rfl)
theorem dX0_remembers_87 : decode cX0_remembers 87 = .ok (.return_, 1) := dk_177 (dk_at dksX0_remembers_3 16 rfl rfl)
abbrev cX0_clasp : ByteArray := prog_1_method_24_code
def yX0_clasp : MethodName := ⟨RX0, "clasp", "(III)I"⟩
def dkwX0_clasp_2 : List UInt8 := [182, 0, 210, 172]
abbrev dktX0_clasp_2 : List UInt8 := dkwX0_clasp_2 ++ []
def dkwX0_clasp_1 : List UInt8 := [180, 0, 20, 27, 28, 29, 182, 0, 207, 154, 0, 5, 2, 172, 42, 182, 0, 201, 42, 180, 0, 20]
abbrev dktX0_clasp_1 : List UInt8 := dkwX0_clasp_1 ++ dktX0_clasp_2
def dkwX0_clasp_0 : List UInt8 := [42, 27, 182, 0, 160, 153, 0, 31, 42, 28, 182, 0, 160, 153, 0, 23, 29, 184, 0, 191, 153, 0, 16, 42]
abbrev dktX0_clasp_0 : List UInt8 := dkwX0_clasp_0 ++ dktX0_clasp_1
theorem dksX0_clasp_0 : cX0_clasp.data.toList.drop 0 = dktX0_clasp_0 := by decide +kernel
theorem dksX0_clasp_1 : cX0_clasp.data.toList.drop 24 = dktX0_clasp_1 := dk_seg dksX0_clasp_0 24 rfl rfl
theorem dksX0_clasp_2 : cX0_clasp.data.toList.drop 46 = dktX0_clasp_2 := dk_seg dksX0_clasp_1 22 rfl rfl
theorem dX0_clasp_0 : decode cX0_clasp 0 = .ok (.aload_n 0, 1) := dk_42 (dk_at dksX0_clasp_0 0 rfl rfl)
theorem dX0_clasp_1 : decode cX0_clasp 1 = .ok (.iload_n 1, 1) := dk_27 (dk_at dksX0_clasp_0 1 rfl rfl)
theorem dX0_clasp_2 : decode cX0_clasp 2 = .ok (.invokevirtual 160, 3) := dk_182 0 160 (dk_at dksX0_clasp_0 2 rfl rfl)
theorem dX0_clasp_5 : decode cX0_clasp 5 = .ok (.ifCond .eq 31, 3) := dk_153 0 31 (dk_at dksX0_clasp_0 5 rfl rfl)
theorem dX0_clasp_8 : decode cX0_clasp 8 = .ok (.aload_n 0, 1) := dk_42 (dk_at dksX0_clasp_0 8 rfl rfl)
theorem dX0_clasp_9 : decode cX0_clasp 9 = .ok (.iload_n 2, 1) := dk_28 (dk_at dksX0_clasp_0 9 rfl rfl)
theorem dX0_clasp_10 : decode cX0_clasp 10 = .ok (.invokevirtual 160, 3) := dk_182 0 160 (dk_at dksX0_clasp_0 10 rfl rfl)
theorem dX0_clasp_13 : decode cX0_clasp 13 = .ok (.ifCond .eq 23, 3) := dk_153 0 23 (dk_at dksX0_clasp_0 13 rfl rfl)
theorem dX0_clasp_16 : decode cX0_clasp 16 = .ok (.iload_n 3, 1) := dk_29 (dk_at dksX0_clasp_0 16 rfl rfl)
theorem dX0_clasp_17 : decode cX0_clasp 17 = .ok (.invokestatic 191, 3) := dk_184 0 191 (dk_at dksX0_clasp_0 17 rfl rfl)
theorem dX0_clasp_20 : decode cX0_clasp 20 = .ok (.ifCond .eq 16, 3) := dk_153 0 16 (dk_at dksX0_clasp_0 20 rfl rfl)
theorem dX0_clasp_23 : decode cX0_clasp 23 = .ok (.aload_n 0, 1) := dk_42 (dk_at dksX0_clasp_0 23 rfl rfl)
theorem dX0_clasp_24 : decode cX0_clasp 24 = .ok (.getfield 20, 3) := dk_180 0 20 (dk_at dksX0_clasp_1 0 rfl rfl)
theorem dX0_clasp_27 : decode cX0_clasp 27 = .ok (.iload_n 1, 1) := dk_27 (dk_at dksX0_clasp_1 3 rfl rfl)
theorem dX0_clasp_28 : decode cX0_clasp 28 = .ok (.iload_n 2, 1) := dk_28 (dk_at dksX0_clasp_1 4 rfl rfl)
theorem dX0_clasp_29 : decode cX0_clasp 29 = .ok (.iload_n 3, 1) := dk_29 (dk_at dksX0_clasp_1 5 rfl rfl)
theorem dX0_clasp_30 : decode cX0_clasp 30 = .ok (.invokevirtual 207, 3) := dk_182 0 207 (dk_at dksX0_clasp_1 6 rfl rfl)
theorem dX0_clasp_33 : decode cX0_clasp 33 = .ok (.ifCond .ne 5, 3) := dk_154 0 5 (dk_at dksX0_clasp_1 9 rfl rfl)
theorem dX0_clasp_36 : decode cX0_clasp 36 = .ok (.iconst (-1), 1) := dk_2 (dk_at dksX0_clasp_1 12 rfl rfl)
theorem dX0_clasp_37 : decode cX0_clasp 37 = .ok (.ireturn, 1) := dk_172 (dk_at dksX0_clasp_1 13 rfl rfl)
theorem dX0_clasp_38 : decode cX0_clasp 38 = .ok (.aload_n 0, 1) := dk_42 (dk_at dksX0_clasp_1 14 rfl rfl)
theorem dX0_clasp_39 : decode cX0_clasp 39 = .ok (.invokevirtual 201, 3) := dk_182 0 201 (dk_at dksX0_clasp_1 15 rfl rfl)
theorem dX0_clasp_42 : decode cX0_clasp 42 = .ok (.aload_n 0, 1) := dk_42 (dk_at dksX0_clasp_1 18 rfl rfl)
theorem dX0_clasp_43 : decode cX0_clasp 43 = .ok (.getfield 20, 3) := dk_180 0 20 (dk_at dksX0_clasp_1 19 rfl rfl)
theorem dX0_clasp_46 : decode cX0_clasp 46 = .ok (.invokevirtual 210, 3) := dk_182 0 210 (dk_at dksX0_clasp_2 0 rfl rfl)
theorem dX0_clasp_49 : decode cX0_clasp 49 = .ok (.ireturn, 1) := dk_172 (dk_at dksX0_clasp_2 3 rfl rfl)
abbrev cX0_hand : ByteArray := prog_1_method_25_code
def yX0_hand : MethodName := ⟨RX0, "hand", "(II)Z"⟩
def dkwX0_hand_1 : List UInt8 := [180, 0, 213, 28, 160, 0, 5, 3, 172, 42, 182, 0, 201, 42, 27, 182, 0, 150, 28, 181, 0, 213, 4, 172]
abbrev dktX0_hand_1 : List UInt8 := dkwX0_hand_1 ++ []
def dkwX0_hand_0 : List UInt8 := [42, 27, 182, 0, 160, 153, 0, 24, 28, 3, 5, 184, 0, 67, 153, 0, 15, 42, 27, 182, 0, 150]
abbrev dktX0_hand_0 : List UInt8 := dkwX0_hand_0 ++ dktX0_hand_1
theorem dksX0_hand_0 : cX0_hand.data.toList.drop 0 = dktX0_hand_0 := by decide +kernel
theorem dksX0_hand_1 : cX0_hand.data.toList.drop 22 = dktX0_hand_1 := dk_seg dksX0_hand_0 22 rfl rfl
theorem dX0_hand_0 : decode cX0_hand 0 = .ok (.aload_n 0, 1) := dk_42 (dk_at dksX0_hand_0 0 rfl rfl)
theorem dX0_hand_1 : decode cX0_hand 1 = .ok (.iload_n 1, 1) := dk_27 (dk_at dksX0_hand_0 1 rfl rfl)
theorem dX0_hand_2 : decode cX0_hand 2 = .ok (.invokevirtual 160, 3) := dk_182 0 160 (dk_at dksX0_hand_0 2 rfl rfl)
theorem dX0_hand_5 : decode cX0_hand 5 = .ok (.ifCond .eq 24, 3) := dk_153 0 24 (dk_at dksX0_hand_0 5 rfl rfl)
theorem dX0_hand_8 : decode cX0_hand 8 = .ok (.iload_n 2, 1) := dk_28 (dk_at dksX0_hand_0 8 rfl rfl)
theorem dX0_hand_9 : decode cX0_hand 9 = .ok (.iconst 0, 1) := dk_3 (dk_at dksX0_hand_0 9 rfl rfl)
theorem dX0_hand_10 : decode cX0_hand 10 = .ok (.iconst 2, 1) := dk_5 (dk_at dksX0_hand_0 10 rfl rfl)
theorem dX0_hand_11 : decode cX0_hand 11 = .ok (.invokestatic 67, 3) := dk_184 0 67 (dk_at dksX0_hand_0 11 rfl rfl)
theorem dX0_hand_14 : decode cX0_hand 14 = .ok (.ifCond .eq 15, 3) := dk_153 0 15 (dk_at dksX0_hand_0 14 rfl rfl)
theorem dX0_hand_17 : decode cX0_hand 17 = .ok (.aload_n 0, 1) := dk_42 (dk_at dksX0_hand_0 17 rfl rfl)
theorem dX0_hand_18 : decode cX0_hand 18 = .ok (.iload_n 1, 1) := dk_27 (dk_at dksX0_hand_0 18 rfl rfl)
theorem dX0_hand_19 : decode cX0_hand 19 = .ok (.invokevirtual 150, 3) := dk_182 0 150 (dk_at dksX0_hand_0 19 rfl rfl)
theorem dX0_hand_22 : decode cX0_hand 22 = .ok (.getfield 213, 3) := dk_180 0 213 (dk_at dksX0_hand_1 0 rfl rfl)
theorem dX0_hand_25 : decode cX0_hand 25 = .ok (.iload_n 2, 1) := dk_28 (dk_at dksX0_hand_1 3 rfl rfl)
theorem dX0_hand_26 : decode cX0_hand 26 = .ok (.if_icmp .ne 5, 3) := dk_160 0 5 (dk_at dksX0_hand_1 4 rfl rfl)
theorem dX0_hand_29 : decode cX0_hand 29 = .ok (.iconst 0, 1) := dk_3 (dk_at dksX0_hand_1 7 rfl rfl)
theorem dX0_hand_30 : decode cX0_hand 30 = .ok (.ireturn, 1) := dk_172 (dk_at dksX0_hand_1 8 rfl rfl)
theorem dX0_hand_31 : decode cX0_hand 31 = .ok (.aload_n 0, 1) := dk_42 (dk_at dksX0_hand_1 9 rfl rfl)
theorem dX0_hand_32 : decode cX0_hand 32 = .ok (.invokevirtual 201, 3) := dk_182 0 201 (dk_at dksX0_hand_1 10 rfl rfl)
theorem dX0_hand_35 : decode cX0_hand 35 = .ok (.aload_n 0, 1) := dk_42 (dk_at dksX0_hand_1 13 rfl rfl)
theorem dX0_hand_36 : decode cX0_hand 36 = .ok (.iload_n 1, 1) := dk_27 (dk_at dksX0_hand_1 14 rfl rfl)
theorem dX0_hand_37 : decode cX0_hand 37 = .ok (.invokevirtual 150, 3) := dk_182 0 150 (dk_at dksX0_hand_1 15 rfl rfl)
theorem dX0_hand_40 : decode cX0_hand 40 = .ok (.iload_n 2, 1) := dk_28 (dk_at dksX0_hand_1 18 rfl rfl)
theorem dX0_hand_41 : decode cX0_hand 41 = .ok (.putfield 213, 3) := dk_181 0 213 (dk_at dksX0_hand_1 19 rfl rfl)
theorem dX0_hand_44 : decode cX0_hand 44 = .ok (.iconst 1, 1) := dk_4 (dk_at dksX0_hand_1 22 rfl rfl)
theorem dX0_hand_45 : decode cX0_hand 45 = .ok (.ireturn, 1) := dk_172 (dk_at dksX0_hand_1 23 rfl rfl)
abbrev cX0_days : ByteArray := prog_1_method_26_code
def yX0_days : MethodName := ⟨RX0, "days", "(I)I"⟩
def dkwX0_days_2 : List UInt8 := [182, 0, 219, 96, 61, 132, 3, 1, 167, 255, 234, 28, 172]
abbrev dktX0_days_2 : List UInt8 := dkwX0_days_2 ++ []
def dkwX0_days_1 : List UInt8 := [164, 0, 5, 2, 172, 3, 61, 3, 62, 29, 27, 162, 0, 23, 42, 182, 0, 201, 28, 42, 180, 0, 20]
abbrev dktX0_days_1 : List UInt8 := dkwX0_days_1 ++ dktX0_days_2
def dkwX0_days_0 : List UInt8 := [27, 4, 16, 60, 184, 0, 67, 153, 0, 18, 42, 180, 0, 20, 180, 0, 216, 27, 96, 17, 39, 15]
abbrev dktX0_days_0 : List UInt8 := dkwX0_days_0 ++ dktX0_days_1
theorem dksX0_days_0 : cX0_days.data.toList.drop 0 = dktX0_days_0 := by decide +kernel
theorem dksX0_days_1 : cX0_days.data.toList.drop 22 = dktX0_days_1 := dk_seg dksX0_days_0 22 rfl rfl
theorem dksX0_days_2 : cX0_days.data.toList.drop 45 = dktX0_days_2 := dk_seg dksX0_days_1 23 rfl rfl
theorem dX0_days_0 : decode cX0_days 0 = .ok (.iload_n 1, 1) := dk_27 (dk_at dksX0_days_0 0 rfl rfl)
theorem dX0_days_1 : decode cX0_days 1 = .ok (.iconst 1, 1) := dk_4 (dk_at dksX0_days_0 1 rfl rfl)
theorem dX0_days_2 : decode cX0_days 2 = .ok (.bipush 60, 2) := dk_16 60 (dk_at dksX0_days_0 2 rfl rfl)
theorem dX0_days_4 : decode cX0_days 4 = .ok (.invokestatic 67, 3) := dk_184 0 67 (dk_at dksX0_days_0 4 rfl rfl)
theorem dX0_days_7 : decode cX0_days 7 = .ok (.ifCond .eq 18, 3) := dk_153 0 18 (dk_at dksX0_days_0 7 rfl rfl)
theorem dX0_days_10 : decode cX0_days 10 = .ok (.aload_n 0, 1) := dk_42 (dk_at dksX0_days_0 10 rfl rfl)
theorem dX0_days_11 : decode cX0_days 11 = .ok (.getfield 20, 3) := dk_180 0 20 (dk_at dksX0_days_0 11 rfl rfl)
theorem dX0_days_14 : decode cX0_days 14 = .ok (.getfield 216, 3) := dk_180 0 216 (dk_at dksX0_days_0 14 rfl rfl)
theorem dX0_days_17 : decode cX0_days 17 = .ok (.iload_n 1, 1) := dk_27 (dk_at dksX0_days_0 17 rfl rfl)
theorem dX0_days_18 : decode cX0_days 18 = .ok (.iadd, 1) := dk_96 (dk_at dksX0_days_0 18 rfl rfl)
theorem dX0_days_19 : decode cX0_days 19 = .ok (.sipush 9999, 3) := dk_17 39 15 (dk_at dksX0_days_0 19 rfl rfl)
theorem dX0_days_22 : decode cX0_days 22 = .ok (.if_icmp .le 5, 3) := dk_164 0 5 (dk_at dksX0_days_1 0 rfl rfl)
theorem dX0_days_25 : decode cX0_days 25 = .ok (.iconst (-1), 1) := dk_2 (dk_at dksX0_days_1 3 rfl rfl)
theorem dX0_days_26 : decode cX0_days 26 = .ok (.ireturn, 1) := dk_172 (dk_at dksX0_days_1 4 rfl rfl)
theorem dX0_days_27 : decode cX0_days 27 = .ok (.iconst 0, 1) := dk_3 (dk_at dksX0_days_1 5 rfl rfl)
theorem dX0_days_28 : decode cX0_days 28 = .ok (.istore_n 2, 1) := dk_61 (dk_at dksX0_days_1 6 rfl rfl)
theorem dX0_days_29 : decode cX0_days 29 = .ok (.iconst 0, 1) := dk_3 (dk_at dksX0_days_1 7 rfl rfl)
theorem dX0_days_30 : decode cX0_days 30 = .ok (.istore_n 3, 1) := dk_62 (dk_at dksX0_days_1 8 rfl rfl)
theorem dX0_days_31 : decode cX0_days 31 = .ok (.iload_n 3, 1) := dk_29 (dk_at dksX0_days_1 9 rfl rfl)
theorem dX0_days_32 : decode cX0_days 32 = .ok (.iload_n 1, 1) := dk_27 (dk_at dksX0_days_1 10 rfl rfl)
theorem dX0_days_33 : decode cX0_days 33 = .ok (.if_icmp .ge 23, 3) := dk_162 0 23 (dk_at dksX0_days_1 11 rfl rfl)
theorem dX0_days_36 : decode cX0_days 36 = .ok (.aload_n 0, 1) := dk_42 (dk_at dksX0_days_1 14 rfl rfl)
theorem dX0_days_37 : decode cX0_days 37 = .ok (.invokevirtual 201, 3) := dk_182 0 201 (dk_at dksX0_days_1 15 rfl rfl)
theorem dX0_days_40 : decode cX0_days 40 = .ok (.iload_n 2, 1) := dk_28 (dk_at dksX0_days_1 18 rfl rfl)
theorem dX0_days_41 : decode cX0_days 41 = .ok (.aload_n 0, 1) := dk_42 (dk_at dksX0_days_1 19 rfl rfl)
theorem dX0_days_42 : decode cX0_days 42 = .ok (.getfield 20, 3) := dk_180 0 20 (dk_at dksX0_days_1 20 rfl rfl)
theorem dX0_days_45 : decode cX0_days 45 = .ok (.invokevirtual 219, 3) := dk_182 0 219 (dk_at dksX0_days_2 0 rfl rfl)
theorem dX0_days_48 : decode cX0_days 48 = .ok (.iadd, 1) := dk_96 (dk_at dksX0_days_2 3 rfl rfl)
theorem dX0_days_49 : decode cX0_days 49 = .ok (.istore_n 2, 1) := dk_61 (dk_at dksX0_days_2 4 rfl rfl)
theorem dX0_days_50 : decode cX0_days 50 = .ok (.iinc 3 1, 3) := dk_132 3 1 (dk_at dksX0_days_2 5 rfl rfl)
theorem dX0_days_53 : decode cX0_days 53 = .ok (.goto (-22), 3) := dk_167 255 234 (dk_at dksX0_days_2 8 rfl rfl)
theorem dX0_days_56 : decode cX0_days 56 = .ok (.iload_n 2, 1) := dk_28 (dk_at dksX0_days_2 11 rfl rfl)
theorem dX0_days_57 : decode cX0_days 57 = .ok (.ireturn, 1) := dk_172 (dk_at dksX0_days_2 12 rfl rfl)
abbrev cX0_of : ByteArray := prog_1_method_27_code
def yX0_of : MethodName := ⟨RX0, "of", "(II)I"⟩
def dkwX0_of_3 : List UInt8 := [172, 28, 3, 7, 184, 0, 67, 153, 0, 12, 45, 180, 0, 188, 28, 46, 167, 0, 4, 2, 172]
abbrev dktX0_of_3 : List UInt8 := dkwX0_of_3 ++ []
def dkwX0_of_2 : List UInt8 := [45, 180, 0, 179, 172, 45, 180, 0, 213, 172, 45, 180, 0, 222, 172, 42, 180, 0, 20, 180, 0, 107, 27, 46]
abbrev dktX0_of_2 : List UInt8 := dkwX0_of_2 ++ dktX0_of_3
def dkwX0_of_1 : List UInt8 := [170, 0, 0, 0, 0, 0, 56, 0, 0, 0, 5, 0, 0, 0, 8, 0, 0, 0, 31, 0, 0, 0, 36, 0, 0, 0, 41, 0, 0, 0, 46]
abbrev dktX0_of_1 : List UInt8 := dkwX0_of_1 ++ dktX0_of_2
def dkwX0_of_0 : List UInt8 := [42, 27, 182, 0, 160, 154, 0, 5, 2, 172, 42, 27, 182, 0, 150, 78, 28]
abbrev dktX0_of_0 : List UInt8 := dkwX0_of_0 ++ dktX0_of_1
theorem dksX0_of_0 : cX0_of.data.toList.drop 0 = dktX0_of_0 := by decide +kernel
theorem dksX0_of_1 : cX0_of.data.toList.drop 17 = dktX0_of_1 := dk_seg dksX0_of_0 17 rfl rfl
theorem dksX0_of_2 : cX0_of.data.toList.drop 48 = dktX0_of_2 := dk_seg dksX0_of_1 31 rfl rfl
theorem dksX0_of_3 : cX0_of.data.toList.drop 72 = dktX0_of_3 := dk_seg dksX0_of_2 24 rfl rfl
theorem dX0_of_0 : decode cX0_of 0 = .ok (.aload_n 0, 1) := dk_42 (dk_at dksX0_of_0 0 rfl rfl)
theorem dX0_of_1 : decode cX0_of 1 = .ok (.iload_n 1, 1) := dk_27 (dk_at dksX0_of_0 1 rfl rfl)
theorem dX0_of_2 : decode cX0_of 2 = .ok (.invokevirtual 160, 3) := dk_182 0 160 (dk_at dksX0_of_0 2 rfl rfl)
theorem dX0_of_5 : decode cX0_of 5 = .ok (.ifCond .ne 5, 3) := dk_154 0 5 (dk_at dksX0_of_0 5 rfl rfl)
theorem dX0_of_8 : decode cX0_of 8 = .ok (.iconst (-1), 1) := dk_2 (dk_at dksX0_of_0 8 rfl rfl)
theorem dX0_of_9 : decode cX0_of 9 = .ok (.ireturn, 1) := dk_172 (dk_at dksX0_of_0 9 rfl rfl)
theorem dX0_of_10 : decode cX0_of 10 = .ok (.aload_n 0, 1) := dk_42 (dk_at dksX0_of_0 10 rfl rfl)
theorem dX0_of_11 : decode cX0_of 11 = .ok (.iload_n 1, 1) := dk_27 (dk_at dksX0_of_0 11 rfl rfl)
theorem dX0_of_12 : decode cX0_of 12 = .ok (.invokevirtual 150, 3) := dk_182 0 150 (dk_at dksX0_of_0 12 rfl rfl)
theorem dX0_of_15 : decode cX0_of 15 = .ok (.astore_n 3, 1) := dk_78 (dk_at dksX0_of_0 15 rfl rfl)
theorem dX0_of_16 : decode cX0_of 16 = .ok (.iload_n 2, 1) := dk_28 (dk_at dksX0_of_0 16 rfl rfl)
theorem dX0_of_17 : decode cX0_of 17 = .ok (.tableswitch 56 5 8 #[31, 36, 41, 46], 31) := by decide +kernel
theorem dX0_of_48 : decode cX0_of 48 = .ok (.aload_n 3, 1) := dk_45 (dk_at dksX0_of_2 0 rfl rfl)
theorem dX0_of_49 : decode cX0_of 49 = .ok (.getfield 179, 3) := dk_180 0 179 (dk_at dksX0_of_2 1 rfl rfl)
theorem dX0_of_52 : decode cX0_of 52 = .ok (.ireturn, 1) := dk_172 (dk_at dksX0_of_2 4 rfl rfl)
theorem dX0_of_53 : decode cX0_of 53 = .ok (.aload_n 3, 1) := dk_45 (dk_at dksX0_of_2 5 rfl rfl)
theorem dX0_of_54 : decode cX0_of 54 = .ok (.getfield 213, 3) := dk_180 0 213 (dk_at dksX0_of_2 6 rfl rfl)
theorem dX0_of_57 : decode cX0_of 57 = .ok (.ireturn, 1) := dk_172 (dk_at dksX0_of_2 9 rfl rfl)
theorem dX0_of_58 : decode cX0_of 58 = .ok (.aload_n 3, 1) := dk_45 (dk_at dksX0_of_2 10 rfl rfl)
theorem dX0_of_59 : decode cX0_of 59 = .ok (.getfield 222, 3) := dk_180 0 222 (dk_at dksX0_of_2 11 rfl rfl)
theorem dX0_of_62 : decode cX0_of 62 = .ok (.ireturn, 1) := dk_172 (dk_at dksX0_of_2 14 rfl rfl)
theorem dX0_of_63 : decode cX0_of 63 = .ok (.aload_n 0, 1) := dk_42 (dk_at dksX0_of_2 15 rfl rfl)
theorem dX0_of_64 : decode cX0_of 64 = .ok (.getfield 20, 3) := dk_180 0 20 (dk_at dksX0_of_2 16 rfl rfl)
theorem dX0_of_67 : decode cX0_of 67 = .ok (.getfield 107, 3) := dk_180 0 107 (dk_at dksX0_of_2 19 rfl rfl)
theorem dX0_of_70 : decode cX0_of 70 = .ok (.iload_n 1, 1) := dk_27 (dk_at dksX0_of_2 22 rfl rfl)
theorem dX0_of_71 : decode cX0_of 71 = .ok (.iaload, 1) := dk_46 (dk_at dksX0_of_2 23 rfl rfl)
theorem dX0_of_72 : decode cX0_of 72 = .ok (.ireturn, 1) := dk_172 (dk_at dksX0_of_3 0 rfl rfl)
theorem dX0_of_73 : decode cX0_of 73 = .ok (.iload_n 2, 1) := dk_28 (dk_at dksX0_of_3 1 rfl rfl)
theorem dX0_of_74 : decode cX0_of 74 = .ok (.iconst 0, 1) := dk_3 (dk_at dksX0_of_3 2 rfl rfl)
theorem dX0_of_75 : decode cX0_of 75 = .ok (.iconst 4, 1) := dk_7 (dk_at dksX0_of_3 3 rfl rfl)
theorem dX0_of_76 : decode cX0_of 76 = .ok (.invokestatic 67, 3) := dk_184 0 67 (dk_at dksX0_of_3 4 rfl rfl)
theorem dX0_of_79 : decode cX0_of 79 = .ok (.ifCond .eq 12, 3) := dk_153 0 12 (dk_at dksX0_of_3 7 rfl rfl)
theorem dX0_of_82 : decode cX0_of 82 = .ok (.aload_n 3, 1) := dk_45 (dk_at dksX0_of_3 10 rfl rfl)
theorem dX0_of_83 : decode cX0_of 83 = .ok (.getfield 188, 3) := dk_180 0 188 (dk_at dksX0_of_3 11 rfl rfl)
theorem dX0_of_86 : decode cX0_of 86 = .ok (.iload_n 2, 1) := dk_28 (dk_at dksX0_of_3 14 rfl rfl)
theorem dX0_of_87 : decode cX0_of 87 = .ok (.iaload, 1) := dk_46 (dk_at dksX0_of_3 15 rfl rfl)
theorem dX0_of_88 : decode cX0_of 88 = .ok (.goto 4, 3) := dk_167 0 4 (dk_at dksX0_of_3 16 rfl rfl)
theorem dX0_of_91 : decode cX0_of 91 = .ok (.iconst (-1), 1) := dk_2 (dk_at dksX0_of_3 19 rfl rfl)
theorem dX0_of_92 : decode cX0_of 92 = .ok (.ireturn, 1) := dk_172 (dk_at dksX0_of_3 20 rfl rfl)
abbrev cX0_horseOf : ByteArray := prog_1_method_28_code
def yX0_horseOf : MethodName := ⟨RX0, "horseOf", "(II)I"⟩
def dkwX0_horseOf_2 : List UInt8 := [45, 180, 0, 225, 172, 45, 180, 0, 182, 172, 45, 180, 0, 185, 172, 45, 180, 0, 228, 172, 2, 172]
abbrev dktX0_horseOf_2 : List UInt8 := dkwX0_horseOf_2 ++ []
def dkwX0_horseOf_1 : List UInt8 := [170, 0, 0, 0, 0, 0, 51, 0, 0, 0, 0, 0, 0, 0, 3, 0, 0, 0, 31, 0, 0, 0, 36, 0, 0, 0, 41, 0, 0, 0, 46]
abbrev dktX0_horseOf_1 : List UInt8 := dkwX0_horseOf_1 ++ dktX0_horseOf_2
def dkwX0_horseOf_0 : List UInt8 := [42, 27, 182, 0, 173, 154, 0, 5, 2, 172, 42, 180, 0, 20, 180, 0, 164, 27, 50, 78, 28]
abbrev dktX0_horseOf_0 : List UInt8 := dkwX0_horseOf_0 ++ dktX0_horseOf_1
theorem dksX0_horseOf_0 : cX0_horseOf.data.toList.drop 0 = dktX0_horseOf_0 := by decide +kernel
theorem dksX0_horseOf_1 : cX0_horseOf.data.toList.drop 21 = dktX0_horseOf_1 := dk_seg dksX0_horseOf_0 21 rfl rfl
theorem dksX0_horseOf_2 : cX0_horseOf.data.toList.drop 52 = dktX0_horseOf_2 := dk_seg dksX0_horseOf_1 31 rfl rfl
theorem dX0_horseOf_0 : decode cX0_horseOf 0 = .ok (.aload_n 0, 1) := dk_42 (dk_at dksX0_horseOf_0 0 rfl rfl)
theorem dX0_horseOf_1 : decode cX0_horseOf 1 = .ok (.iload_n 1, 1) := dk_27 (dk_at dksX0_horseOf_0 1 rfl rfl)
theorem dX0_horseOf_2 : decode cX0_horseOf 2 = .ok (.invokevirtual 173, 3) := dk_182 0 173 (dk_at dksX0_horseOf_0 2 rfl rfl)
theorem dX0_horseOf_5 : decode cX0_horseOf 5 = .ok (.ifCond .ne 5, 3) := dk_154 0 5 (dk_at dksX0_horseOf_0 5 rfl rfl)
theorem dX0_horseOf_8 : decode cX0_horseOf 8 = .ok (.iconst (-1), 1) := dk_2 (dk_at dksX0_horseOf_0 8 rfl rfl)
theorem dX0_horseOf_9 : decode cX0_horseOf 9 = .ok (.ireturn, 1) := dk_172 (dk_at dksX0_horseOf_0 9 rfl rfl)
theorem dX0_horseOf_10 : decode cX0_horseOf 10 = .ok (.aload_n 0, 1) := dk_42 (dk_at dksX0_horseOf_0 10 rfl rfl)
theorem dX0_horseOf_11 : decode cX0_horseOf 11 = .ok (.getfield 20, 3) := dk_180 0 20 (dk_at dksX0_horseOf_0 11 rfl rfl)
theorem dX0_horseOf_14 : decode cX0_horseOf 14 = .ok (.getfield 164, 3) := dk_180 0 164 (dk_at dksX0_horseOf_0 14 rfl rfl)
theorem dX0_horseOf_17 : decode cX0_horseOf 17 = .ok (.iload_n 1, 1) := dk_27 (dk_at dksX0_horseOf_0 17 rfl rfl)
theorem dX0_horseOf_18 : decode cX0_horseOf 18 = .ok (.aaload, 1) := dk_50 (dk_at dksX0_horseOf_0 18 rfl rfl)
theorem dX0_horseOf_19 : decode cX0_horseOf 19 = .ok (.astore_n 3, 1) := dk_78 (dk_at dksX0_horseOf_0 19 rfl rfl)
theorem dX0_horseOf_20 : decode cX0_horseOf 20 = .ok (.iload_n 2, 1) := dk_28 (dk_at dksX0_horseOf_0 20 rfl rfl)
theorem dX0_horseOf_21 : decode cX0_horseOf 21 = .ok (.tableswitch 51 0 3 #[31, 36, 41, 46], 31) := by decide +kernel
theorem dX0_horseOf_52 : decode cX0_horseOf 52 = .ok (.aload_n 3, 1) := dk_45 (dk_at dksX0_horseOf_2 0 rfl rfl)
theorem dX0_horseOf_53 : decode cX0_horseOf 53 = .ok (.getfield 225, 3) := dk_180 0 225 (dk_at dksX0_horseOf_2 1 rfl rfl)
theorem dX0_horseOf_56 : decode cX0_horseOf 56 = .ok (.ireturn, 1) := dk_172 (dk_at dksX0_horseOf_2 4 rfl rfl)
theorem dX0_horseOf_57 : decode cX0_horseOf 57 = .ok (.aload_n 3, 1) := dk_45 (dk_at dksX0_horseOf_2 5 rfl rfl)
theorem dX0_horseOf_58 : decode cX0_horseOf 58 = .ok (.getfield 182, 3) := dk_180 0 182 (dk_at dksX0_horseOf_2 6 rfl rfl)
theorem dX0_horseOf_61 : decode cX0_horseOf 61 = .ok (.ireturn, 1) := dk_172 (dk_at dksX0_horseOf_2 9 rfl rfl)
theorem dX0_horseOf_62 : decode cX0_horseOf 62 = .ok (.aload_n 3, 1) := dk_45 (dk_at dksX0_horseOf_2 10 rfl rfl)
theorem dX0_horseOf_63 : decode cX0_horseOf 63 = .ok (.getfield 185, 3) := dk_180 0 185 (dk_at dksX0_horseOf_2 11 rfl rfl)
theorem dX0_horseOf_66 : decode cX0_horseOf 66 = .ok (.ireturn, 1) := dk_172 (dk_at dksX0_horseOf_2 14 rfl rfl)
theorem dX0_horseOf_67 : decode cX0_horseOf 67 = .ok (.aload_n 3, 1) := dk_45 (dk_at dksX0_horseOf_2 15 rfl rfl)
theorem dX0_horseOf_68 : decode cX0_horseOf 68 = .ok (.getfield 228, 3) := dk_180 0 228 (dk_at dksX0_horseOf_2 16 rfl rfl)
theorem dX0_horseOf_71 : decode cX0_horseOf 71 = .ok (.ireturn, 1) := dk_172 (dk_at dksX0_horseOf_2 19 rfl rfl)
theorem dX0_horseOf_72 : decode cX0_horseOf 72 = .ok (.iconst (-1), 1) := dk_2 (dk_at dksX0_horseOf_2 20 rfl rfl)
theorem dX0_horseOf_73 : decode cX0_horseOf 73 = .ok (.ireturn, 1) := dk_172 (dk_at dksX0_horseOf_2 21 rfl rfl)
abbrev cX0_passes : ByteArray := prog_1_method_30_code
def yX0_passes : MethodName := ⟨RX0, "passes", "(IIII)I"⟩
def dkwX0_passes_2 : List UInt8 := [182, 0, 243, 172]
abbrev dktX0_passes_2 : List UInt8 := dkwX0_passes_2 ++ []
def dkwX0_passes_1 : List UInt8 := [180, 0, 20, 180, 0, 234, 27, 28, 29, 3, 1, 182, 0, 238, 42, 180, 0, 20, 27, 28, 21, 4]
abbrev dktX0_passes_1 : List UInt8 := dkwX0_passes_1 ++ dktX0_passes_2
def dkwX0_passes_0 : List UInt8 := [42, 27, 28, 29, 182, 0, 231, 153, 0, 13, 21, 4, 3, 7, 184, 0, 67, 154, 0, 5, 2, 172, 42]
abbrev dktX0_passes_0 : List UInt8 := dkwX0_passes_0 ++ dktX0_passes_1
theorem dksX0_passes_0 : cX0_passes.data.toList.drop 0 = dktX0_passes_0 := by decide +kernel
theorem dksX0_passes_1 : cX0_passes.data.toList.drop 23 = dktX0_passes_1 := dk_seg dksX0_passes_0 23 rfl rfl
theorem dksX0_passes_2 : cX0_passes.data.toList.drop 45 = dktX0_passes_2 := dk_seg dksX0_passes_1 22 rfl rfl
theorem dX0_passes_0 : decode cX0_passes 0 = .ok (.aload_n 0, 1) := dk_42 (dk_at dksX0_passes_0 0 rfl rfl)
theorem dX0_passes_1 : decode cX0_passes 1 = .ok (.iload_n 1, 1) := dk_27 (dk_at dksX0_passes_0 1 rfl rfl)
theorem dX0_passes_2 : decode cX0_passes 2 = .ok (.iload_n 2, 1) := dk_28 (dk_at dksX0_passes_0 2 rfl rfl)
theorem dX0_passes_3 : decode cX0_passes 3 = .ok (.iload_n 3, 1) := dk_29 (dk_at dksX0_passes_0 3 rfl rfl)
theorem dX0_passes_4 : decode cX0_passes 4 = .ok (.invokevirtual 231, 3) := dk_182 0 231 (dk_at dksX0_passes_0 4 rfl rfl)
theorem dX0_passes_7 : decode cX0_passes 7 = .ok (.ifCond .eq 13, 3) := dk_153 0 13 (dk_at dksX0_passes_0 7 rfl rfl)
theorem dX0_passes_10 : decode cX0_passes 10 = .ok (.iload 4, 2) := dk_21 4 (dk_at dksX0_passes_0 10 rfl rfl)
theorem dX0_passes_12 : decode cX0_passes 12 = .ok (.iconst 0, 1) := dk_3 (dk_at dksX0_passes_0 12 rfl rfl)
theorem dX0_passes_13 : decode cX0_passes 13 = .ok (.iconst 4, 1) := dk_7 (dk_at dksX0_passes_0 13 rfl rfl)
theorem dX0_passes_14 : decode cX0_passes 14 = .ok (.invokestatic 67, 3) := dk_184 0 67 (dk_at dksX0_passes_0 14 rfl rfl)
theorem dX0_passes_17 : decode cX0_passes 17 = .ok (.ifCond .ne 5, 3) := dk_154 0 5 (dk_at dksX0_passes_0 17 rfl rfl)
theorem dX0_passes_20 : decode cX0_passes 20 = .ok (.iconst (-1), 1) := dk_2 (dk_at dksX0_passes_0 20 rfl rfl)
theorem dX0_passes_21 : decode cX0_passes 21 = .ok (.ireturn, 1) := dk_172 (dk_at dksX0_passes_0 21 rfl rfl)
theorem dX0_passes_22 : decode cX0_passes 22 = .ok (.aload_n 0, 1) := dk_42 (dk_at dksX0_passes_0 22 rfl rfl)
theorem dX0_passes_23 : decode cX0_passes 23 = .ok (.getfield 20, 3) := dk_180 0 20 (dk_at dksX0_passes_1 0 rfl rfl)
theorem dX0_passes_26 : decode cX0_passes 26 = .ok (.getfield 234, 3) := dk_180 0 234 (dk_at dksX0_passes_1 3 rfl rfl)
theorem dX0_passes_29 : decode cX0_passes 29 = .ok (.iload_n 1, 1) := dk_27 (dk_at dksX0_passes_1 6 rfl rfl)
theorem dX0_passes_30 : decode cX0_passes 30 = .ok (.iload_n 2, 1) := dk_28 (dk_at dksX0_passes_1 7 rfl rfl)
theorem dX0_passes_31 : decode cX0_passes 31 = .ok (.iload_n 3, 1) := dk_29 (dk_at dksX0_passes_1 8 rfl rfl)
theorem dX0_passes_32 : decode cX0_passes 32 = .ok (.iconst 0, 1) := dk_3 (dk_at dksX0_passes_1 9 rfl rfl)
theorem dX0_passes_33 : decode cX0_passes 33 = .ok (.aconst_null, 1) := dk_1 (dk_at dksX0_passes_1 10 rfl rfl)
theorem dX0_passes_34 : decode cX0_passes 34 = .ok (.invokevirtual 238, 3) := dk_182 0 238 (dk_at dksX0_passes_1 11 rfl rfl)
theorem dX0_passes_37 : decode cX0_passes 37 = .ok (.aload_n 0, 1) := dk_42 (dk_at dksX0_passes_1 14 rfl rfl)
theorem dX0_passes_38 : decode cX0_passes 38 = .ok (.getfield 20, 3) := dk_180 0 20 (dk_at dksX0_passes_1 15 rfl rfl)
theorem dX0_passes_41 : decode cX0_passes 41 = .ok (.iload_n 1, 1) := dk_27 (dk_at dksX0_passes_1 18 rfl rfl)
theorem dX0_passes_42 : decode cX0_passes 42 = .ok (.iload_n 2, 1) := dk_28 (dk_at dksX0_passes_1 19 rfl rfl)
theorem dX0_passes_43 : decode cX0_passes 43 = .ok (.iload 4, 2) := dk_21 4 (dk_at dksX0_passes_1 20 rfl rfl)
theorem dX0_passes_45 : decode cX0_passes 45 = .ok (.invokevirtual 243, 3) := dk_182 0 243 (dk_at dksX0_passes_2 0 rfl rfl)
theorem dX0_passes_48 : decode cX0_passes 48 = .ok (.ireturn, 1) := dk_172 (dk_at dksX0_passes_2 3 rfl rfl)
abbrev cX0_areTwo : ByteArray := prog_1_method_29_code
def yX0_areTwo : MethodName := ⟨RX0, "areTwo", "(III)Z"⟩
def dkwX0_areTwo_1 : List UInt8 := [184, 0, 191, 153, 0, 7, 4, 167, 0, 4, 3, 172]
abbrev dktX0_areTwo_1 : List UInt8 := dkwX0_areTwo_1 ++ []
def dkwX0_areTwo_0 : List UInt8 := [42, 27, 182, 0, 160, 153, 0, 27, 42, 28, 182, 0, 160, 153, 0, 19, 27, 28, 159, 0, 14, 29]
abbrev dktX0_areTwo_0 : List UInt8 := dkwX0_areTwo_0 ++ dktX0_areTwo_1
theorem dksX0_areTwo_0 : cX0_areTwo.data.toList.drop 0 = dktX0_areTwo_0 := by decide +kernel
theorem dksX0_areTwo_1 : cX0_areTwo.data.toList.drop 22 = dktX0_areTwo_1 := dk_seg dksX0_areTwo_0 22 rfl rfl
theorem dX0_areTwo_0 : decode cX0_areTwo 0 = .ok (.aload_n 0, 1) := dk_42 (dk_at dksX0_areTwo_0 0 rfl rfl)
theorem dX0_areTwo_1 : decode cX0_areTwo 1 = .ok (.iload_n 1, 1) := dk_27 (dk_at dksX0_areTwo_0 1 rfl rfl)
theorem dX0_areTwo_2 : decode cX0_areTwo 2 = .ok (.invokevirtual 160, 3) := dk_182 0 160 (dk_at dksX0_areTwo_0 2 rfl rfl)
theorem dX0_areTwo_5 : decode cX0_areTwo 5 = .ok (.ifCond .eq 27, 3) := dk_153 0 27 (dk_at dksX0_areTwo_0 5 rfl rfl)
theorem dX0_areTwo_8 : decode cX0_areTwo 8 = .ok (.aload_n 0, 1) := dk_42 (dk_at dksX0_areTwo_0 8 rfl rfl)
theorem dX0_areTwo_9 : decode cX0_areTwo 9 = .ok (.iload_n 2, 1) := dk_28 (dk_at dksX0_areTwo_0 9 rfl rfl)
theorem dX0_areTwo_10 : decode cX0_areTwo 10 = .ok (.invokevirtual 160, 3) := dk_182 0 160 (dk_at dksX0_areTwo_0 10 rfl rfl)
theorem dX0_areTwo_13 : decode cX0_areTwo 13 = .ok (.ifCond .eq 19, 3) := dk_153 0 19 (dk_at dksX0_areTwo_0 13 rfl rfl)
theorem dX0_areTwo_16 : decode cX0_areTwo 16 = .ok (.iload_n 1, 1) := dk_27 (dk_at dksX0_areTwo_0 16 rfl rfl)
theorem dX0_areTwo_17 : decode cX0_areTwo 17 = .ok (.iload_n 2, 1) := dk_28 (dk_at dksX0_areTwo_0 17 rfl rfl)
theorem dX0_areTwo_18 : decode cX0_areTwo 18 = .ok (.if_icmp .eq 14, 3) := dk_159 0 14 (dk_at dksX0_areTwo_0 18 rfl rfl)
theorem dX0_areTwo_21 : decode cX0_areTwo 21 = .ok (.iload_n 3, 1) := dk_29 (dk_at dksX0_areTwo_0 21 rfl rfl)
theorem dX0_areTwo_22 : decode cX0_areTwo 22 = .ok (.invokestatic 191, 3) := dk_184 0 191 (dk_at dksX0_areTwo_1 0 rfl rfl)
theorem dX0_areTwo_25 : decode cX0_areTwo 25 = .ok (.ifCond .eq 7, 3) := dk_153 0 7 (dk_at dksX0_areTwo_1 3 rfl rfl)
theorem dX0_areTwo_28 : decode cX0_areTwo 28 = .ok (.iconst 1, 1) := dk_4 (dk_at dksX0_areTwo_1 6 rfl rfl)
theorem dX0_areTwo_29 : decode cX0_areTwo 29 = .ok (.goto 4, 3) := dk_167 0 4 (dk_at dksX0_areTwo_1 7 rfl rfl)
theorem dX0_areTwo_32 : decode cX0_areTwo 32 = .ok (.iconst 0, 1) := dk_3 (dk_at dksX0_areTwo_1 10 rfl rfl)
theorem dX0_areTwo_33 : decode cX0_areTwo 33 = .ok (.ireturn, 1) := dk_172 (dk_at dksX0_areTwo_1 11 rfl rfl)
abbrev cX0_holds : ByteArray := prog_1_method_31_code
def yX0_holds : MethodName := ⟨RX0, "holds", "(III)I"⟩
def dkwX0_holds_1 : List UInt8 := [182, 0, 238, 42, 180, 0, 20, 28, 27, 182, 0, 246, 172]
abbrev dktX0_holds_1 : List UInt8 := dkwX0_holds_1 ++ []
def dkwX0_holds_0 : List UInt8 := [42, 27, 28, 29, 182, 0, 231, 154, 0, 5, 2, 172, 42, 180, 0, 20, 180, 0, 234, 27, 28, 29, 3, 1]
abbrev dktX0_holds_0 : List UInt8 := dkwX0_holds_0 ++ dktX0_holds_1
theorem dksX0_holds_0 : cX0_holds.data.toList.drop 0 = dktX0_holds_0 := by decide +kernel
theorem dksX0_holds_1 : cX0_holds.data.toList.drop 24 = dktX0_holds_1 := dk_seg dksX0_holds_0 24 rfl rfl
theorem dX0_holds_0 : decode cX0_holds 0 = .ok (.aload_n 0, 1) := dk_42 (dk_at dksX0_holds_0 0 rfl rfl)
theorem dX0_holds_1 : decode cX0_holds 1 = .ok (.iload_n 1, 1) := dk_27 (dk_at dksX0_holds_0 1 rfl rfl)
theorem dX0_holds_2 : decode cX0_holds 2 = .ok (.iload_n 2, 1) := dk_28 (dk_at dksX0_holds_0 2 rfl rfl)
theorem dX0_holds_3 : decode cX0_holds 3 = .ok (.iload_n 3, 1) := dk_29 (dk_at dksX0_holds_0 3 rfl rfl)
theorem dX0_holds_4 : decode cX0_holds 4 = .ok (.invokevirtual 231, 3) := dk_182 0 231 (dk_at dksX0_holds_0 4 rfl rfl)
theorem dX0_holds_7 : decode cX0_holds 7 = .ok (.ifCond .ne 5, 3) := dk_154 0 5 (dk_at dksX0_holds_0 7 rfl rfl)
theorem dX0_holds_10 : decode cX0_holds 10 = .ok (.iconst (-1), 1) := dk_2 (dk_at dksX0_holds_0 10 rfl rfl)
theorem dX0_holds_11 : decode cX0_holds 11 = .ok (.ireturn, 1) := dk_172 (dk_at dksX0_holds_0 11 rfl rfl)
theorem dX0_holds_12 : decode cX0_holds 12 = .ok (.aload_n 0, 1) := dk_42 (dk_at dksX0_holds_0 12 rfl rfl)
theorem dX0_holds_13 : decode cX0_holds 13 = .ok (.getfield 20, 3) := dk_180 0 20 (dk_at dksX0_holds_0 13 rfl rfl)
theorem dX0_holds_16 : decode cX0_holds 16 = .ok (.getfield 234, 3) := dk_180 0 234 (dk_at dksX0_holds_0 16 rfl rfl)
theorem dX0_holds_19 : decode cX0_holds 19 = .ok (.iload_n 1, 1) := dk_27 (dk_at dksX0_holds_0 19 rfl rfl)
theorem dX0_holds_20 : decode cX0_holds 20 = .ok (.iload_n 2, 1) := dk_28 (dk_at dksX0_holds_0 20 rfl rfl)
theorem dX0_holds_21 : decode cX0_holds 21 = .ok (.iload_n 3, 1) := dk_29 (dk_at dksX0_holds_0 21 rfl rfl)
theorem dX0_holds_22 : decode cX0_holds 22 = .ok (.iconst 0, 1) := dk_3 (dk_at dksX0_holds_0 22 rfl rfl)
theorem dX0_holds_23 : decode cX0_holds 23 = .ok (.aconst_null, 1) := dk_1 (dk_at dksX0_holds_0 23 rfl rfl)
theorem dX0_holds_24 : decode cX0_holds 24 = .ok (.invokevirtual 238, 3) := dk_182 0 238 (dk_at dksX0_holds_1 0 rfl rfl)
theorem dX0_holds_27 : decode cX0_holds 27 = .ok (.aload_n 0, 1) := dk_42 (dk_at dksX0_holds_1 3 rfl rfl)
theorem dX0_holds_28 : decode cX0_holds 28 = .ok (.getfield 20, 3) := dk_180 0 20 (dk_at dksX0_holds_1 4 rfl rfl)
theorem dX0_holds_31 : decode cX0_holds 31 = .ok (.iload_n 2, 1) := dk_28 (dk_at dksX0_holds_1 7 rfl rfl)
theorem dX0_holds_32 : decode cX0_holds 32 = .ok (.iload_n 1, 1) := dk_27 (dk_at dksX0_holds_1 8 rfl rfl)
theorem dX0_holds_33 : decode cX0_holds 33 = .ok (.invokevirtual 246, 3) := dk_182 0 246 (dk_at dksX0_holds_1 9 rfl rfl)
theorem dX0_holds_36 : decode cX0_holds 36 = .ok (.ireturn, 1) := dk_172 (dk_at dksX0_holds_1 12 rfl rfl)
abbrev cX0_asks : ByteArray := prog_1_method_32_code
def yX0_asks : MethodName := ⟨RX0, "asks", "(III)I"⟩
def dkwX0_asks_3 : List UInt8 := [21, 4, 27, 182, 0, 249, 172]
abbrev dktX0_asks_3 : List UInt8 := dkwX0_asks_3 ++ []
def dkwX0_asks_2 : List UInt8 := [180, 0, 234, 21, 4, 27, 29, 3, 42, 180, 0, 20, 180, 0, 164, 28, 50, 182, 0, 238, 42, 180, 0, 20]
abbrev dktX0_asks_2 : List UInt8 := dkwX0_asks_2 ++ dktX0_asks_3
def dkwX0_asks_1 : List UInt8 := [160, 0, 5, 2, 172, 42, 180, 0, 20, 180, 0, 164, 28, 50, 180, 0, 225, 54, 4, 42, 180, 0, 20]
abbrev dktX0_asks_1 : List UInt8 := dkwX0_asks_1 ++ dktX0_asks_2
def dkwX0_asks_0 : List UInt8 := [42, 27, 28, 3, 29, 182, 0, 194, 153, 0, 19, 42, 180, 0, 20, 180, 0, 164, 28, 50, 180, 0, 225, 27]
abbrev dktX0_asks_0 : List UInt8 := dkwX0_asks_0 ++ dktX0_asks_1
theorem dksX0_asks_0 : cX0_asks.data.toList.drop 0 = dktX0_asks_0 := by decide +kernel
theorem dksX0_asks_1 : cX0_asks.data.toList.drop 24 = dktX0_asks_1 := dk_seg dksX0_asks_0 24 rfl rfl
theorem dksX0_asks_2 : cX0_asks.data.toList.drop 47 = dktX0_asks_2 := dk_seg dksX0_asks_1 23 rfl rfl
theorem dksX0_asks_3 : cX0_asks.data.toList.drop 71 = dktX0_asks_3 := dk_seg dksX0_asks_2 24 rfl rfl
theorem dX0_asks_0 : decode cX0_asks 0 = .ok (.aload_n 0, 1) := dk_42 (dk_at dksX0_asks_0 0 rfl rfl)
theorem dX0_asks_1 : decode cX0_asks 1 = .ok (.iload_n 1, 1) := dk_27 (dk_at dksX0_asks_0 1 rfl rfl)
theorem dX0_asks_2 : decode cX0_asks 2 = .ok (.iload_n 2, 1) := dk_28 (dk_at dksX0_asks_0 2 rfl rfl)
theorem dX0_asks_3 : decode cX0_asks 3 = .ok (.iconst 0, 1) := dk_3 (dk_at dksX0_asks_0 3 rfl rfl)
theorem dX0_asks_4 : decode cX0_asks 4 = .ok (.iload_n 3, 1) := dk_29 (dk_at dksX0_asks_0 4 rfl rfl)
theorem dX0_asks_5 : decode cX0_asks 5 = .ok (.invokevirtual 194, 3) := dk_182 0 194 (dk_at dksX0_asks_0 5 rfl rfl)
theorem dX0_asks_8 : decode cX0_asks 8 = .ok (.ifCond .eq 19, 3) := dk_153 0 19 (dk_at dksX0_asks_0 8 rfl rfl)
theorem dX0_asks_11 : decode cX0_asks 11 = .ok (.aload_n 0, 1) := dk_42 (dk_at dksX0_asks_0 11 rfl rfl)
theorem dX0_asks_12 : decode cX0_asks 12 = .ok (.getfield 20, 3) := dk_180 0 20 (dk_at dksX0_asks_0 12 rfl rfl)
theorem dX0_asks_15 : decode cX0_asks 15 = .ok (.getfield 164, 3) := dk_180 0 164 (dk_at dksX0_asks_0 15 rfl rfl)
theorem dX0_asks_18 : decode cX0_asks 18 = .ok (.iload_n 2, 1) := dk_28 (dk_at dksX0_asks_0 18 rfl rfl)
theorem dX0_asks_19 : decode cX0_asks 19 = .ok (.aaload, 1) := dk_50 (dk_at dksX0_asks_0 19 rfl rfl)
theorem dX0_asks_20 : decode cX0_asks 20 = .ok (.getfield 225, 3) := dk_180 0 225 (dk_at dksX0_asks_0 20 rfl rfl)
theorem dX0_asks_23 : decode cX0_asks 23 = .ok (.iload_n 1, 1) := dk_27 (dk_at dksX0_asks_0 23 rfl rfl)
theorem dX0_asks_24 : decode cX0_asks 24 = .ok (.if_icmp .ne 5, 3) := dk_160 0 5 (dk_at dksX0_asks_1 0 rfl rfl)
theorem dX0_asks_27 : decode cX0_asks 27 = .ok (.iconst (-1), 1) := dk_2 (dk_at dksX0_asks_1 3 rfl rfl)
theorem dX0_asks_28 : decode cX0_asks 28 = .ok (.ireturn, 1) := dk_172 (dk_at dksX0_asks_1 4 rfl rfl)
theorem dX0_asks_29 : decode cX0_asks 29 = .ok (.aload_n 0, 1) := dk_42 (dk_at dksX0_asks_1 5 rfl rfl)
theorem dX0_asks_30 : decode cX0_asks 30 = .ok (.getfield 20, 3) := dk_180 0 20 (dk_at dksX0_asks_1 6 rfl rfl)
theorem dX0_asks_33 : decode cX0_asks 33 = .ok (.getfield 164, 3) := dk_180 0 164 (dk_at dksX0_asks_1 9 rfl rfl)
theorem dX0_asks_36 : decode cX0_asks 36 = .ok (.iload_n 2, 1) := dk_28 (dk_at dksX0_asks_1 12 rfl rfl)
theorem dX0_asks_37 : decode cX0_asks 37 = .ok (.aaload, 1) := dk_50 (dk_at dksX0_asks_1 13 rfl rfl)
theorem dX0_asks_38 : decode cX0_asks 38 = .ok (.getfield 225, 3) := dk_180 0 225 (dk_at dksX0_asks_1 14 rfl rfl)
theorem dX0_asks_41 : decode cX0_asks 41 = .ok (.istore 4, 2) := dk_54 4 (dk_at dksX0_asks_1 17 rfl rfl)
theorem dX0_asks_43 : decode cX0_asks 43 = .ok (.aload_n 0, 1) := dk_42 (dk_at dksX0_asks_1 19 rfl rfl)
theorem dX0_asks_44 : decode cX0_asks 44 = .ok (.getfield 20, 3) := dk_180 0 20 (dk_at dksX0_asks_1 20 rfl rfl)
theorem dX0_asks_47 : decode cX0_asks 47 = .ok (.getfield 234, 3) := dk_180 0 234 (dk_at dksX0_asks_2 0 rfl rfl)
theorem dX0_asks_50 : decode cX0_asks 50 = .ok (.iload 4, 2) := dk_21 4 (dk_at dksX0_asks_2 3 rfl rfl)
theorem dX0_asks_52 : decode cX0_asks 52 = .ok (.iload_n 1, 1) := dk_27 (dk_at dksX0_asks_2 5 rfl rfl)
theorem dX0_asks_53 : decode cX0_asks 53 = .ok (.iload_n 3, 1) := dk_29 (dk_at dksX0_asks_2 6 rfl rfl)
theorem dX0_asks_54 : decode cX0_asks 54 = .ok (.iconst 0, 1) := dk_3 (dk_at dksX0_asks_2 7 rfl rfl)
theorem dX0_asks_55 : decode cX0_asks 55 = .ok (.aload_n 0, 1) := dk_42 (dk_at dksX0_asks_2 8 rfl rfl)
theorem dX0_asks_56 : decode cX0_asks 56 = .ok (.getfield 20, 3) := dk_180 0 20 (dk_at dksX0_asks_2 9 rfl rfl)
theorem dX0_asks_59 : decode cX0_asks 59 = .ok (.getfield 164, 3) := dk_180 0 164 (dk_at dksX0_asks_2 12 rfl rfl)
theorem dX0_asks_62 : decode cX0_asks 62 = .ok (.iload_n 2, 1) := dk_28 (dk_at dksX0_asks_2 15 rfl rfl)
theorem dX0_asks_63 : decode cX0_asks 63 = .ok (.aaload, 1) := dk_50 (dk_at dksX0_asks_2 16 rfl rfl)
theorem dX0_asks_64 : decode cX0_asks 64 = .ok (.invokevirtual 238, 3) := dk_182 0 238 (dk_at dksX0_asks_2 17 rfl rfl)
theorem dX0_asks_67 : decode cX0_asks 67 = .ok (.aload_n 0, 1) := dk_42 (dk_at dksX0_asks_2 20 rfl rfl)
theorem dX0_asks_68 : decode cX0_asks 68 = .ok (.getfield 20, 3) := dk_180 0 20 (dk_at dksX0_asks_2 21 rfl rfl)
theorem dX0_asks_71 : decode cX0_asks 71 = .ok (.iload 4, 2) := dk_21 4 (dk_at dksX0_asks_3 0 rfl rfl)
theorem dX0_asks_73 : decode cX0_asks 73 = .ok (.iload_n 1, 1) := dk_27 (dk_at dksX0_asks_3 2 rfl rfl)
theorem dX0_asks_74 : decode cX0_asks 74 = .ok (.invokevirtual 249, 3) := dk_182 0 249 (dk_at dksX0_asks_3 3 rfl rfl)
theorem dX0_asks_77 : decode cX0_asks 77 = .ok (.ireturn, 1) := dk_172 (dk_at dksX0_asks_3 6 rfl rfl)
abbrev cX0_book : ByteArray := prog_1_method_33_code
def yX0_book : MethodName := ⟨RX0, "book", "(II)I"⟩
def dkwX0_book_1 : List UInt8 := [153, 0, 17, 42, 180, 0, 20, 180, 0, 255, 27, 50, 28, 46, 167, 0, 4, 2, 172]
abbrev dktX0_book_1 : List UInt8 := dkwX0_book_1 ++ []
def dkwX0_book_0 : List UInt8 := [27, 3, 42, 180, 0, 20, 180, 0, 252, 4, 100, 184, 0, 67, 153, 0, 26, 28, 3, 6, 184, 0, 67]
abbrev dktX0_book_0 : List UInt8 := dkwX0_book_0 ++ dktX0_book_1
theorem dksX0_book_0 : cX0_book.data.toList.drop 0 = dktX0_book_0 := by decide +kernel
theorem dksX0_book_1 : cX0_book.data.toList.drop 23 = dktX0_book_1 := dk_seg dksX0_book_0 23 rfl rfl
theorem dX0_book_0 : decode cX0_book 0 = .ok (.iload_n 1, 1) := dk_27 (dk_at dksX0_book_0 0 rfl rfl)
theorem dX0_book_1 : decode cX0_book 1 = .ok (.iconst 0, 1) := dk_3 (dk_at dksX0_book_0 1 rfl rfl)
theorem dX0_book_2 : decode cX0_book 2 = .ok (.aload_n 0, 1) := dk_42 (dk_at dksX0_book_0 2 rfl rfl)
theorem dX0_book_3 : decode cX0_book 3 = .ok (.getfield 20, 3) := dk_180 0 20 (dk_at dksX0_book_0 3 rfl rfl)
theorem dX0_book_6 : decode cX0_book 6 = .ok (.getfield 252, 3) := dk_180 0 252 (dk_at dksX0_book_0 6 rfl rfl)
theorem dX0_book_9 : decode cX0_book 9 = .ok (.iconst 1, 1) := dk_4 (dk_at dksX0_book_0 9 rfl rfl)
theorem dX0_book_10 : decode cX0_book 10 = .ok (.isub, 1) := dk_100 (dk_at dksX0_book_0 10 rfl rfl)
theorem dX0_book_11 : decode cX0_book 11 = .ok (.invokestatic 67, 3) := dk_184 0 67 (dk_at dksX0_book_0 11 rfl rfl)
theorem dX0_book_14 : decode cX0_book 14 = .ok (.ifCond .eq 26, 3) := dk_153 0 26 (dk_at dksX0_book_0 14 rfl rfl)
theorem dX0_book_17 : decode cX0_book 17 = .ok (.iload_n 2, 1) := dk_28 (dk_at dksX0_book_0 17 rfl rfl)
theorem dX0_book_18 : decode cX0_book 18 = .ok (.iconst 0, 1) := dk_3 (dk_at dksX0_book_0 18 rfl rfl)
theorem dX0_book_19 : decode cX0_book 19 = .ok (.iconst 3, 1) := dk_6 (dk_at dksX0_book_0 19 rfl rfl)
theorem dX0_book_20 : decode cX0_book 20 = .ok (.invokestatic 67, 3) := dk_184 0 67 (dk_at dksX0_book_0 20 rfl rfl)
theorem dX0_book_23 : decode cX0_book 23 = .ok (.ifCond .eq 17, 3) := dk_153 0 17 (dk_at dksX0_book_1 0 rfl rfl)
theorem dX0_book_26 : decode cX0_book 26 = .ok (.aload_n 0, 1) := dk_42 (dk_at dksX0_book_1 3 rfl rfl)
theorem dX0_book_27 : decode cX0_book 27 = .ok (.getfield 20, 3) := dk_180 0 20 (dk_at dksX0_book_1 4 rfl rfl)
theorem dX0_book_30 : decode cX0_book 30 = .ok (.getfield 255, 3) := dk_180 0 255 (dk_at dksX0_book_1 7 rfl rfl)
theorem dX0_book_33 : decode cX0_book 33 = .ok (.iload_n 1, 1) := dk_27 (dk_at dksX0_book_1 10 rfl rfl)
theorem dX0_book_34 : decode cX0_book 34 = .ok (.aaload, 1) := dk_50 (dk_at dksX0_book_1 11 rfl rfl)
theorem dX0_book_35 : decode cX0_book 35 = .ok (.iload_n 2, 1) := dk_28 (dk_at dksX0_book_1 12 rfl rfl)
theorem dX0_book_36 : decode cX0_book 36 = .ok (.iaload, 1) := dk_46 (dk_at dksX0_book_1 13 rfl rfl)
theorem dX0_book_37 : decode cX0_book 37 = .ok (.goto 4, 3) := dk_167 0 4 (dk_at dksX0_book_1 14 rfl rfl)
theorem dX0_book_40 : decode cX0_book 40 = .ok (.iconst (-1), 1) := dk_2 (dk_at dksX0_book_1 17 rfl rfl)
theorem dX0_book_41 : decode cX0_book 41 = .ok (.ireturn, 1) := dk_172 (dk_at dksX0_book_1 18 rfl rfl)
abbrev cX0_goes : ByteArray := prog_1_method_34_code
def yX0_goes : MethodName := ⟨RX0, "goes", "(II)I"⟩
def dkwX0_goes_7 : List UInt8 := [132, 4, 1, 167, 255, 220, 29, 172]
abbrev dktX0_goes_7 : List UInt8 := dkwX0_goes_7 ++ []
def dkwX0_goes_6 : List UInt8 := [162, 0, 30, 28, 6, 160, 0, 25, 29, 42, 180, 0, 27, 180, 0, 164, 21, 4, 50, 180, 0, 228, 96, 62]
abbrev dktX0_goes_6 : List UInt8 := dkwX0_goes_6 ++ dktX0_goes_7
def dkwX0_goes_5 : List UInt8 := [180, 0, 179, 96, 62, 132, 4, 1, 167, 255, 220, 3, 54, 4, 21, 4, 42, 180, 0, 27, 180, 0, 140]
abbrev dktX0_goes_5 : List UInt8 := dkwX0_goes_5 ++ dktX0_goes_6
def dkwX0_goes_4 : List UInt8 := [180, 0, 137, 162, 0, 30, 28, 5, 160, 0, 25, 29, 42, 180, 0, 27, 180, 0, 143, 21, 4, 50]
abbrev dktX0_goes_4 : List UInt8 := dkwX0_goes_4 ++ dktX0_goes_5
def dkwX0_goes_3 : List UInt8 := [167, 0, 10, 42, 180, 0, 27, 180, 1, 9, 172, 3, 62, 3, 54, 4, 21, 4, 42, 180, 0, 27]
abbrev dktX0_goes_3 : List UInt8 := dkwX0_goes_3 ++ dktX0_goes_4
def dkwX0_goes_2 : List UInt8 := [87, 132, 3, 1, 167, 255, 240, 28, 5, 162, 0, 25, 28, 154, 0, 13, 42, 180, 0, 27, 180, 1, 6]
abbrev dktX0_goes_2 : List UInt8 := dkwX0_goes_2 ++ dktX0_goes_3
def dkwX0_goes_1 : List UInt8 := [180, 0, 27, 42, 180, 0, 20, 182, 1, 3, 3, 62, 29, 27, 162, 0, 17, 42, 180, 0, 27, 182, 0, 219]
abbrev dktX0_goes_1 : List UInt8 := dkwX0_goes_1 ++ dktX0_goes_2
def dkwX0_goes_0 : List UInt8 := [27, 4, 16, 60, 184, 0, 67, 153, 0, 12, 28, 3, 6, 184, 0, 67, 154, 0, 5, 2, 172, 42]
abbrev dktX0_goes_0 : List UInt8 := dkwX0_goes_0 ++ dktX0_goes_1
theorem dksX0_goes_0 : cX0_goes.data.toList.drop 0 = dktX0_goes_0 := by decide +kernel
theorem dksX0_goes_1 : cX0_goes.data.toList.drop 22 = dktX0_goes_1 := dk_seg dksX0_goes_0 22 rfl rfl
theorem dksX0_goes_2 : cX0_goes.data.toList.drop 46 = dktX0_goes_2 := dk_seg dksX0_goes_1 24 rfl rfl
theorem dksX0_goes_3 : cX0_goes.data.toList.drop 69 = dktX0_goes_3 := dk_seg dksX0_goes_2 23 rfl rfl
theorem dksX0_goes_4 : cX0_goes.data.toList.drop 91 = dktX0_goes_4 := dk_seg dksX0_goes_3 22 rfl rfl
theorem dksX0_goes_5 : cX0_goes.data.toList.drop 113 = dktX0_goes_5 := dk_seg dksX0_goes_4 22 rfl rfl
theorem dksX0_goes_6 : cX0_goes.data.toList.drop 136 = dktX0_goes_6 := dk_seg dksX0_goes_5 23 rfl rfl
theorem dksX0_goes_7 : cX0_goes.data.toList.drop 160 = dktX0_goes_7 := dk_seg dksX0_goes_6 24 rfl rfl
theorem dX0_goes_0 : decode cX0_goes 0 = .ok (.iload_n 1, 1) := dk_27 (dk_at dksX0_goes_0 0 rfl rfl)
theorem dX0_goes_1 : decode cX0_goes 1 = .ok (.iconst 1, 1) := dk_4 (dk_at dksX0_goes_0 1 rfl rfl)
theorem dX0_goes_2 : decode cX0_goes 2 = .ok (.bipush 60, 2) := dk_16 60 (dk_at dksX0_goes_0 2 rfl rfl)
theorem dX0_goes_4 : decode cX0_goes 4 = .ok (.invokestatic 67, 3) := dk_184 0 67 (dk_at dksX0_goes_0 4 rfl rfl)
theorem dX0_goes_7 : decode cX0_goes 7 = .ok (.ifCond .eq 12, 3) := dk_153 0 12 (dk_at dksX0_goes_0 7 rfl rfl)
theorem dX0_goes_10 : decode cX0_goes 10 = .ok (.iload_n 2, 1) := dk_28 (dk_at dksX0_goes_0 10 rfl rfl)
theorem dX0_goes_11 : decode cX0_goes 11 = .ok (.iconst 0, 1) := dk_3 (dk_at dksX0_goes_0 11 rfl rfl)
theorem dX0_goes_12 : decode cX0_goes 12 = .ok (.iconst 3, 1) := dk_6 (dk_at dksX0_goes_0 12 rfl rfl)
theorem dX0_goes_13 : decode cX0_goes 13 = .ok (.invokestatic 67, 3) := dk_184 0 67 (dk_at dksX0_goes_0 13 rfl rfl)
theorem dX0_goes_16 : decode cX0_goes 16 = .ok (.ifCond .ne 5, 3) := dk_154 0 5 (dk_at dksX0_goes_0 16 rfl rfl)
theorem dX0_goes_19 : decode cX0_goes 19 = .ok (.iconst (-1), 1) := dk_2 (dk_at dksX0_goes_0 19 rfl rfl)
theorem dX0_goes_20 : decode cX0_goes 20 = .ok (.ireturn, 1) := dk_172 (dk_at dksX0_goes_0 20 rfl rfl)
theorem dX0_goes_21 : decode cX0_goes 21 = .ok (.aload_n 0, 1) := dk_42 (dk_at dksX0_goes_0 21 rfl rfl)
theorem dX0_goes_22 : decode cX0_goes 22 = .ok (.getfield 27, 3) := dk_180 0 27 (dk_at dksX0_goes_1 0 rfl rfl)
theorem dX0_goes_25 : decode cX0_goes 25 = .ok (.aload_n 0, 1) := dk_42 (dk_at dksX0_goes_1 3 rfl rfl)
theorem dX0_goes_26 : decode cX0_goes 26 = .ok (.getfield 20, 3) := dk_180 0 20 (dk_at dksX0_goes_1 4 rfl rfl)
theorem dX0_goes_29 : decode cX0_goes 29 = .ok (.invokevirtual 259, 3) := dk_182 1 3 (dk_at dksX0_goes_1 7 rfl rfl)
theorem dX0_goes_32 : decode cX0_goes 32 = .ok (.iconst 0, 1) := dk_3 (dk_at dksX0_goes_1 10 rfl rfl)
theorem dX0_goes_33 : decode cX0_goes 33 = .ok (.istore_n 3, 1) := dk_62 (dk_at dksX0_goes_1 11 rfl rfl)
theorem dX0_goes_34 : decode cX0_goes 34 = .ok (.iload_n 3, 1) := dk_29 (dk_at dksX0_goes_1 12 rfl rfl)
theorem dX0_goes_35 : decode cX0_goes 35 = .ok (.iload_n 1, 1) := dk_27 (dk_at dksX0_goes_1 13 rfl rfl)
theorem dX0_goes_36 : decode cX0_goes 36 = .ok (.if_icmp .ge 17, 3) := dk_162 0 17 (dk_at dksX0_goes_1 14 rfl rfl)
theorem dX0_goes_39 : decode cX0_goes 39 = .ok (.aload_n 0, 1) := dk_42 (dk_at dksX0_goes_1 17 rfl rfl)
theorem dX0_goes_40 : decode cX0_goes 40 = .ok (.getfield 27, 3) := dk_180 0 27 (dk_at dksX0_goes_1 18 rfl rfl)
theorem dX0_goes_43 : decode cX0_goes 43 = .ok (.invokevirtual 219, 3) := dk_182 0 219 (dk_at dksX0_goes_1 21 rfl rfl)
theorem dX0_goes_46 : decode cX0_goes 46 = .ok (.pop, 1) := dk_87 (dk_at dksX0_goes_2 0 rfl rfl)
theorem dX0_goes_47 : decode cX0_goes 47 = .ok (.iinc 3 1, 3) := dk_132 3 1 (dk_at dksX0_goes_2 1 rfl rfl)
theorem dX0_goes_50 : decode cX0_goes 50 = .ok (.goto (-16), 3) := dk_167 255 240 (dk_at dksX0_goes_2 4 rfl rfl)
theorem dX0_goes_53 : decode cX0_goes 53 = .ok (.iload_n 2, 1) := dk_28 (dk_at dksX0_goes_2 7 rfl rfl)
theorem dX0_goes_54 : decode cX0_goes 54 = .ok (.iconst 2, 1) := dk_5 (dk_at dksX0_goes_2 8 rfl rfl)
theorem dX0_goes_55 : decode cX0_goes 55 = .ok (.if_icmp .ge 25, 3) := dk_162 0 25 (dk_at dksX0_goes_2 9 rfl rfl)
theorem dX0_goes_58 : decode cX0_goes 58 = .ok (.iload_n 2, 1) := dk_28 (dk_at dksX0_goes_2 12 rfl rfl)
theorem dX0_goes_59 : decode cX0_goes 59 = .ok (.ifCond .ne 13, 3) := dk_154 0 13 (dk_at dksX0_goes_2 13 rfl rfl)
theorem dX0_goes_62 : decode cX0_goes 62 = .ok (.aload_n 0, 1) := dk_42 (dk_at dksX0_goes_2 16 rfl rfl)
theorem dX0_goes_63 : decode cX0_goes 63 = .ok (.getfield 27, 3) := dk_180 0 27 (dk_at dksX0_goes_2 17 rfl rfl)
theorem dX0_goes_66 : decode cX0_goes 66 = .ok (.getfield 262, 3) := dk_180 1 6 (dk_at dksX0_goes_2 20 rfl rfl)
theorem dX0_goes_69 : decode cX0_goes 69 = .ok (.goto 10, 3) := dk_167 0 10 (dk_at dksX0_goes_3 0 rfl rfl)
theorem dX0_goes_72 : decode cX0_goes 72 = .ok (.aload_n 0, 1) := dk_42 (dk_at dksX0_goes_3 3 rfl rfl)
theorem dX0_goes_73 : decode cX0_goes 73 = .ok (.getfield 27, 3) := dk_180 0 27 (dk_at dksX0_goes_3 4 rfl rfl)
theorem dX0_goes_76 : decode cX0_goes 76 = .ok (.getfield 265, 3) := dk_180 1 9 (dk_at dksX0_goes_3 7 rfl rfl)
theorem dX0_goes_79 : decode cX0_goes 79 = .ok (.ireturn, 1) := dk_172 (dk_at dksX0_goes_3 10 rfl rfl)
theorem dX0_goes_80 : decode cX0_goes 80 = .ok (.iconst 0, 1) := dk_3 (dk_at dksX0_goes_3 11 rfl rfl)
theorem dX0_goes_81 : decode cX0_goes 81 = .ok (.istore_n 3, 1) := dk_62 (dk_at dksX0_goes_3 12 rfl rfl)
theorem dX0_goes_82 : decode cX0_goes 82 = .ok (.iconst 0, 1) := dk_3 (dk_at dksX0_goes_3 13 rfl rfl)
theorem dX0_goes_83 : decode cX0_goes 83 = .ok (.istore 4, 2) := dk_54 4 (dk_at dksX0_goes_3 14 rfl rfl)
theorem dX0_goes_85 : decode cX0_goes 85 = .ok (.iload 4, 2) := dk_21 4 (dk_at dksX0_goes_3 16 rfl rfl)
theorem dX0_goes_87 : decode cX0_goes 87 = .ok (.aload_n 0, 1) := dk_42 (dk_at dksX0_goes_3 18 rfl rfl)
theorem dX0_goes_88 : decode cX0_goes 88 = .ok (.getfield 27, 3) := dk_180 0 27 (dk_at dksX0_goes_3 19 rfl rfl)
theorem dX0_goes_91 : decode cX0_goes 91 = .ok (.getfield 137, 3) := dk_180 0 137 (dk_at dksX0_goes_4 0 rfl rfl)
theorem dX0_goes_94 : decode cX0_goes 94 = .ok (.if_icmp .ge 30, 3) := dk_162 0 30 (dk_at dksX0_goes_4 3 rfl rfl)
theorem dX0_goes_97 : decode cX0_goes 97 = .ok (.iload_n 2, 1) := dk_28 (dk_at dksX0_goes_4 6 rfl rfl)
theorem dX0_goes_98 : decode cX0_goes 98 = .ok (.iconst 2, 1) := dk_5 (dk_at dksX0_goes_4 7 rfl rfl)
theorem dX0_goes_99 : decode cX0_goes 99 = .ok (.if_icmp .ne 25, 3) := dk_160 0 25 (dk_at dksX0_goes_4 8 rfl rfl)
theorem dX0_goes_102 : decode cX0_goes 102 = .ok (.iload_n 3, 1) := dk_29 (dk_at dksX0_goes_4 11 rfl rfl)
theorem dX0_goes_103 : decode cX0_goes 103 = .ok (.aload_n 0, 1) := dk_42 (dk_at dksX0_goes_4 12 rfl rfl)
theorem dX0_goes_104 : decode cX0_goes 104 = .ok (.getfield 27, 3) := dk_180 0 27 (dk_at dksX0_goes_4 13 rfl rfl)
theorem dX0_goes_107 : decode cX0_goes 107 = .ok (.getfield 143, 3) := dk_180 0 143 (dk_at dksX0_goes_4 16 rfl rfl)
theorem dX0_goes_110 : decode cX0_goes 110 = .ok (.iload 4, 2) := dk_21 4 (dk_at dksX0_goes_4 19 rfl rfl)
theorem dX0_goes_112 : decode cX0_goes 112 = .ok (.aaload, 1) := dk_50 (dk_at dksX0_goes_4 21 rfl rfl)
theorem dX0_goes_113 : decode cX0_goes 113 = .ok (.getfield 179, 3) := dk_180 0 179 (dk_at dksX0_goes_5 0 rfl rfl)
theorem dX0_goes_116 : decode cX0_goes 116 = .ok (.iadd, 1) := dk_96 (dk_at dksX0_goes_5 3 rfl rfl)
theorem dX0_goes_117 : decode cX0_goes 117 = .ok (.istore_n 3, 1) := dk_62 (dk_at dksX0_goes_5 4 rfl rfl)
theorem dX0_goes_118 : decode cX0_goes 118 = .ok (.iinc 4 1, 3) := dk_132 4 1 (dk_at dksX0_goes_5 5 rfl rfl)
theorem dX0_goes_121 : decode cX0_goes 121 = .ok (.goto (-36), 3) := dk_167 255 220 (dk_at dksX0_goes_5 8 rfl rfl)
theorem dX0_goes_124 : decode cX0_goes 124 = .ok (.iconst 0, 1) := dk_3 (dk_at dksX0_goes_5 11 rfl rfl)
theorem dX0_goes_125 : decode cX0_goes 125 = .ok (.istore 4, 2) := dk_54 4 (dk_at dksX0_goes_5 12 rfl rfl)
theorem dX0_goes_127 : decode cX0_goes 127 = .ok (.iload 4, 2) := dk_21 4 (dk_at dksX0_goes_5 14 rfl rfl)
theorem dX0_goes_129 : decode cX0_goes 129 = .ok (.aload_n 0, 1) := dk_42 (dk_at dksX0_goes_5 16 rfl rfl)
theorem dX0_goes_130 : decode cX0_goes 130 = .ok (.getfield 27, 3) := dk_180 0 27 (dk_at dksX0_goes_5 17 rfl rfl)
theorem dX0_goes_133 : decode cX0_goes 133 = .ok (.getfield 140, 3) := dk_180 0 140 (dk_at dksX0_goes_5 20 rfl rfl)
theorem dX0_goes_136 : decode cX0_goes 136 = .ok (.if_icmp .ge 30, 3) := dk_162 0 30 (dk_at dksX0_goes_6 0 rfl rfl)
theorem dX0_goes_139 : decode cX0_goes 139 = .ok (.iload_n 2, 1) := dk_28 (dk_at dksX0_goes_6 3 rfl rfl)
theorem dX0_goes_140 : decode cX0_goes 140 = .ok (.iconst 3, 1) := dk_6 (dk_at dksX0_goes_6 4 rfl rfl)
theorem dX0_goes_141 : decode cX0_goes 141 = .ok (.if_icmp .ne 25, 3) := dk_160 0 25 (dk_at dksX0_goes_6 5 rfl rfl)
theorem dX0_goes_144 : decode cX0_goes 144 = .ok (.iload_n 3, 1) := dk_29 (dk_at dksX0_goes_6 8 rfl rfl)
theorem dX0_goes_145 : decode cX0_goes 145 = .ok (.aload_n 0, 1) := dk_42 (dk_at dksX0_goes_6 9 rfl rfl)
theorem dX0_goes_146 : decode cX0_goes 146 = .ok (.getfield 27, 3) := dk_180 0 27 (dk_at dksX0_goes_6 10 rfl rfl)
theorem dX0_goes_149 : decode cX0_goes 149 = .ok (.getfield 164, 3) := dk_180 0 164 (dk_at dksX0_goes_6 13 rfl rfl)
theorem dX0_goes_152 : decode cX0_goes 152 = .ok (.iload 4, 2) := dk_21 4 (dk_at dksX0_goes_6 16 rfl rfl)
theorem dX0_goes_154 : decode cX0_goes 154 = .ok (.aaload, 1) := dk_50 (dk_at dksX0_goes_6 18 rfl rfl)
theorem dX0_goes_155 : decode cX0_goes 155 = .ok (.getfield 228, 3) := dk_180 0 228 (dk_at dksX0_goes_6 19 rfl rfl)
theorem dX0_goes_158 : decode cX0_goes 158 = .ok (.iadd, 1) := dk_96 (dk_at dksX0_goes_6 22 rfl rfl)
theorem dX0_goes_159 : decode cX0_goes 159 = .ok (.istore_n 3, 1) := dk_62 (dk_at dksX0_goes_6 23 rfl rfl)
theorem dX0_goes_160 : decode cX0_goes 160 = .ok (.iinc 4 1, 3) := dk_132 4 1 (dk_at dksX0_goes_7 0 rfl rfl)
theorem dX0_goes_163 : decode cX0_goes 163 = .ok (.goto (-36), 3) := dk_167 255 220 (dk_at dksX0_goes_7 3 rfl rfl)
theorem dX0_goes_166 : decode cX0_goes 166 = .ok (.iload_n 3, 1) := dk_29 (dk_at dksX0_goes_7 6 rfl rfl)
theorem dX0_goes_167 : decode cX0_goes 167 = .ok (.ireturn, 1) := dk_172 (dk_at dksX0_goes_7 7 rfl rfl)
abbrev cX0_would : ByteArray := prog_1_method_35_code
def yX0_would : MethodName := ⟨RX0, "would", "(IIII)I"⟩
def dkwX0_would_3 : List UInt8 := [180, 0, 188, 3, 46, 100, 172]
abbrev dktX0_would_3 : List UInt8 := dkwX0_would_3 ++ []
def dkwX0_would_2 : List UInt8 := [182, 0, 204, 87, 42, 180, 0, 27, 180, 0, 143, 27, 50, 180, 0, 188, 3, 46, 42, 27, 182, 0, 150]
abbrev dktX0_would_2 : List UInt8 := dkwX0_would_2 ++ dktX0_would_3
def dkwX0_would_1 : List UInt8 := [180, 0, 27, 27, 28, 29, 21, 4, 182, 0, 198, 154, 0, 7, 17, 252, 24, 172, 42, 180, 0, 27, 28]
abbrev dktX0_would_1 : List UInt8 := dkwX0_would_1 ++ dktX0_would_2
def dkwX0_would_0 : List UInt8 := [42, 180, 0, 27, 42, 180, 0, 20, 182, 1, 3, 42, 27, 28, 29, 21, 4, 182, 0, 194, 153, 0, 18, 42]
abbrev dktX0_would_0 : List UInt8 := dkwX0_would_0 ++ dktX0_would_1
theorem dksX0_would_0 : cX0_would.data.toList.drop 0 = dktX0_would_0 := by decide +kernel
theorem dksX0_would_1 : cX0_would.data.toList.drop 24 = dktX0_would_1 := dk_seg dksX0_would_0 24 rfl rfl
theorem dksX0_would_2 : cX0_would.data.toList.drop 47 = dktX0_would_2 := dk_seg dksX0_would_1 23 rfl rfl
theorem dksX0_would_3 : cX0_would.data.toList.drop 70 = dktX0_would_3 := dk_seg dksX0_would_2 23 rfl rfl
theorem dX0_would_0 : decode cX0_would 0 = .ok (.aload_n 0, 1) := dk_42 (dk_at dksX0_would_0 0 rfl rfl)
theorem dX0_would_1 : decode cX0_would 1 = .ok (.getfield 27, 3) := dk_180 0 27 (dk_at dksX0_would_0 1 rfl rfl)
theorem dX0_would_4 : decode cX0_would 4 = .ok (.aload_n 0, 1) := dk_42 (dk_at dksX0_would_0 4 rfl rfl)
theorem dX0_would_5 : decode cX0_would 5 = .ok (.getfield 20, 3) := dk_180 0 20 (dk_at dksX0_would_0 5 rfl rfl)
theorem dX0_would_8 : decode cX0_would 8 = .ok (.invokevirtual 259, 3) := dk_182 1 3 (dk_at dksX0_would_0 8 rfl rfl)
theorem dX0_would_11 : decode cX0_would 11 = .ok (.aload_n 0, 1) := dk_42 (dk_at dksX0_would_0 11 rfl rfl)
theorem dX0_would_12 : decode cX0_would 12 = .ok (.iload_n 1, 1) := dk_27 (dk_at dksX0_would_0 12 rfl rfl)
theorem dX0_would_13 : decode cX0_would 13 = .ok (.iload_n 2, 1) := dk_28 (dk_at dksX0_would_0 13 rfl rfl)
theorem dX0_would_14 : decode cX0_would 14 = .ok (.iload_n 3, 1) := dk_29 (dk_at dksX0_would_0 14 rfl rfl)
theorem dX0_would_15 : decode cX0_would 15 = .ok (.iload 4, 2) := dk_21 4 (dk_at dksX0_would_0 15 rfl rfl)
theorem dX0_would_17 : decode cX0_would 17 = .ok (.invokevirtual 194, 3) := dk_182 0 194 (dk_at dksX0_would_0 17 rfl rfl)
theorem dX0_would_20 : decode cX0_would 20 = .ok (.ifCond .eq 18, 3) := dk_153 0 18 (dk_at dksX0_would_0 20 rfl rfl)
theorem dX0_would_23 : decode cX0_would 23 = .ok (.aload_n 0, 1) := dk_42 (dk_at dksX0_would_0 23 rfl rfl)
theorem dX0_would_24 : decode cX0_would 24 = .ok (.getfield 27, 3) := dk_180 0 27 (dk_at dksX0_would_1 0 rfl rfl)
theorem dX0_would_27 : decode cX0_would 27 = .ok (.iload_n 1, 1) := dk_27 (dk_at dksX0_would_1 3 rfl rfl)
theorem dX0_would_28 : decode cX0_would 28 = .ok (.iload_n 2, 1) := dk_28 (dk_at dksX0_would_1 4 rfl rfl)
theorem dX0_would_29 : decode cX0_would 29 = .ok (.iload_n 3, 1) := dk_29 (dk_at dksX0_would_1 5 rfl rfl)
theorem dX0_would_30 : decode cX0_would 30 = .ok (.iload 4, 2) := dk_21 4 (dk_at dksX0_would_1 6 rfl rfl)
theorem dX0_would_32 : decode cX0_would 32 = .ok (.invokevirtual 198, 3) := dk_182 0 198 (dk_at dksX0_would_1 8 rfl rfl)
theorem dX0_would_35 : decode cX0_would 35 = .ok (.ifCond .ne 7, 3) := dk_154 0 7 (dk_at dksX0_would_1 11 rfl rfl)
theorem dX0_would_38 : decode cX0_would 38 = .ok (.sipush (-1000), 3) := dk_17 252 24 (dk_at dksX0_would_1 14 rfl rfl)
theorem dX0_would_41 : decode cX0_would 41 = .ok (.ireturn, 1) := dk_172 (dk_at dksX0_would_1 17 rfl rfl)
theorem dX0_would_42 : decode cX0_would 42 = .ok (.aload_n 0, 1) := dk_42 (dk_at dksX0_would_1 18 rfl rfl)
theorem dX0_would_43 : decode cX0_would 43 = .ok (.getfield 27, 3) := dk_180 0 27 (dk_at dksX0_would_1 19 rfl rfl)
theorem dX0_would_46 : decode cX0_would 46 = .ok (.iload_n 2, 1) := dk_28 (dk_at dksX0_would_1 22 rfl rfl)
theorem dX0_would_47 : decode cX0_would 47 = .ok (.invokevirtual 204, 3) := dk_182 0 204 (dk_at dksX0_would_2 0 rfl rfl)
theorem dX0_would_50 : decode cX0_would 50 = .ok (.pop, 1) := dk_87 (dk_at dksX0_would_2 3 rfl rfl)
theorem dX0_would_51 : decode cX0_would 51 = .ok (.aload_n 0, 1) := dk_42 (dk_at dksX0_would_2 4 rfl rfl)
theorem dX0_would_52 : decode cX0_would 52 = .ok (.getfield 27, 3) := dk_180 0 27 (dk_at dksX0_would_2 5 rfl rfl)
theorem dX0_would_55 : decode cX0_would 55 = .ok (.getfield 143, 3) := dk_180 0 143 (dk_at dksX0_would_2 8 rfl rfl)
theorem dX0_would_58 : decode cX0_would 58 = .ok (.iload_n 1, 1) := dk_27 (dk_at dksX0_would_2 11 rfl rfl)
theorem dX0_would_59 : decode cX0_would 59 = .ok (.aaload, 1) := dk_50 (dk_at dksX0_would_2 12 rfl rfl)
theorem dX0_would_60 : decode cX0_would 60 = .ok (.getfield 188, 3) := dk_180 0 188 (dk_at dksX0_would_2 13 rfl rfl)
theorem dX0_would_63 : decode cX0_would 63 = .ok (.iconst 0, 1) := dk_3 (dk_at dksX0_would_2 16 rfl rfl)
theorem dX0_would_64 : decode cX0_would 64 = .ok (.iaload, 1) := dk_46 (dk_at dksX0_would_2 17 rfl rfl)
theorem dX0_would_65 : decode cX0_would 65 = .ok (.aload_n 0, 1) := dk_42 (dk_at dksX0_would_2 18 rfl rfl)
theorem dX0_would_66 : decode cX0_would 66 = .ok (.iload_n 1, 1) := dk_27 (dk_at dksX0_would_2 19 rfl rfl)
theorem dX0_would_67 : decode cX0_would 67 = .ok (.invokevirtual 150, 3) := dk_182 0 150 (dk_at dksX0_would_2 20 rfl rfl)
theorem dX0_would_70 : decode cX0_would 70 = .ok (.getfield 188, 3) := dk_180 0 188 (dk_at dksX0_would_3 0 rfl rfl)
theorem dX0_would_73 : decode cX0_would 73 = .ok (.iconst 0, 1) := dk_3 (dk_at dksX0_would_3 3 rfl rfl)
theorem dX0_would_74 : decode cX0_would 74 = .ok (.iaload, 1) := dk_46 (dk_at dksX0_would_3 4 rfl rfl)
theorem dX0_would_75 : decode cX0_would 75 = .ok (.isub, 1) := dk_100 (dk_at dksX0_would_3 5 rfl rfl)
theorem dX0_would_76 : decode cX0_would 76 = .ok (.ireturn, 1) := dk_172 (dk_at dksX0_would_3 6 rfl rfl)
abbrev cX0_told : ByteArray := prog_1_method_36_code
def yX0_told : MethodName := ⟨RX0, "told", "(II)I"⟩
def dkwX0_told_2 : List UInt8 := [180, 0, 20, 180, 1, 12, 27, 28, 182, 1, 21, 167, 0, 4, 2, 172]
abbrev dktX0_told_2 : List UInt8 := dkwX0_told_2 ++ []
def dkwX0_told_1 : List UInt8 := [184, 0, 67, 153, 0, 33, 28, 3, 16, 11, 184, 0, 67, 153, 0, 23, 27, 28, 159, 0, 18, 42]
abbrev dktX0_told_1 : List UInt8 := dkwX0_told_1 ++ dktX0_told_2
def dkwX0_told_0 : List UInt8 := [27, 2, 160, 0, 16, 42, 180, 0, 20, 180, 1, 12, 182, 1, 16, 167, 0, 44, 27, 3, 16, 11]
abbrev dktX0_told_0 : List UInt8 := dkwX0_told_0 ++ dktX0_told_1
theorem dksX0_told_0 : cX0_told.data.toList.drop 0 = dktX0_told_0 := by decide +kernel
theorem dksX0_told_1 : cX0_told.data.toList.drop 22 = dktX0_told_1 := dk_seg dksX0_told_0 22 rfl rfl
theorem dksX0_told_2 : cX0_told.data.toList.drop 44 = dktX0_told_2 := dk_seg dksX0_told_1 22 rfl rfl
theorem dX0_told_0 : decode cX0_told 0 = .ok (.iload_n 1, 1) := dk_27 (dk_at dksX0_told_0 0 rfl rfl)
theorem dX0_told_1 : decode cX0_told 1 = .ok (.iconst (-1), 1) := dk_2 (dk_at dksX0_told_0 1 rfl rfl)
theorem dX0_told_2 : decode cX0_told 2 = .ok (.if_icmp .ne 16, 3) := dk_160 0 16 (dk_at dksX0_told_0 2 rfl rfl)
theorem dX0_told_5 : decode cX0_told 5 = .ok (.aload_n 0, 1) := dk_42 (dk_at dksX0_told_0 5 rfl rfl)
theorem dX0_told_6 : decode cX0_told 6 = .ok (.getfield 20, 3) := dk_180 0 20 (dk_at dksX0_told_0 6 rfl rfl)
theorem dX0_told_9 : decode cX0_told 9 = .ok (.getfield 268, 3) := dk_180 1 12 (dk_at dksX0_told_0 9 rfl rfl)
theorem dX0_told_12 : decode cX0_told 12 = .ok (.invokevirtual 272, 3) := dk_182 1 16 (dk_at dksX0_told_0 12 rfl rfl)
theorem dX0_told_15 : decode cX0_told 15 = .ok (.goto 44, 3) := dk_167 0 44 (dk_at dksX0_told_0 15 rfl rfl)
theorem dX0_told_18 : decode cX0_told 18 = .ok (.iload_n 1, 1) := dk_27 (dk_at dksX0_told_0 18 rfl rfl)
theorem dX0_told_19 : decode cX0_told 19 = .ok (.iconst 0, 1) := dk_3 (dk_at dksX0_told_0 19 rfl rfl)
theorem dX0_told_20 : decode cX0_told 20 = .ok (.bipush 11, 2) := dk_16 11 (dk_at dksX0_told_0 20 rfl rfl)
theorem dX0_told_22 : decode cX0_told 22 = .ok (.invokestatic 67, 3) := dk_184 0 67 (dk_at dksX0_told_1 0 rfl rfl)
theorem dX0_told_25 : decode cX0_told 25 = .ok (.ifCond .eq 33, 3) := dk_153 0 33 (dk_at dksX0_told_1 3 rfl rfl)
theorem dX0_told_28 : decode cX0_told 28 = .ok (.iload_n 2, 1) := dk_28 (dk_at dksX0_told_1 6 rfl rfl)
theorem dX0_told_29 : decode cX0_told 29 = .ok (.iconst 0, 1) := dk_3 (dk_at dksX0_told_1 7 rfl rfl)
theorem dX0_told_30 : decode cX0_told 30 = .ok (.bipush 11, 2) := dk_16 11 (dk_at dksX0_told_1 8 rfl rfl)
theorem dX0_told_32 : decode cX0_told 32 = .ok (.invokestatic 67, 3) := dk_184 0 67 (dk_at dksX0_told_1 10 rfl rfl)
theorem dX0_told_35 : decode cX0_told 35 = .ok (.ifCond .eq 23, 3) := dk_153 0 23 (dk_at dksX0_told_1 13 rfl rfl)
theorem dX0_told_38 : decode cX0_told 38 = .ok (.iload_n 1, 1) := dk_27 (dk_at dksX0_told_1 16 rfl rfl)
theorem dX0_told_39 : decode cX0_told 39 = .ok (.iload_n 2, 1) := dk_28 (dk_at dksX0_told_1 17 rfl rfl)
theorem dX0_told_40 : decode cX0_told 40 = .ok (.if_icmp .eq 18, 3) := dk_159 0 18 (dk_at dksX0_told_1 18 rfl rfl)
theorem dX0_told_43 : decode cX0_told 43 = .ok (.aload_n 0, 1) := dk_42 (dk_at dksX0_told_1 21 rfl rfl)
theorem dX0_told_44 : decode cX0_told 44 = .ok (.getfield 20, 3) := dk_180 0 20 (dk_at dksX0_told_2 0 rfl rfl)
theorem dX0_told_47 : decode cX0_told 47 = .ok (.getfield 268, 3) := dk_180 1 12 (dk_at dksX0_told_2 3 rfl rfl)
theorem dX0_told_50 : decode cX0_told 50 = .ok (.iload_n 1, 1) := dk_27 (dk_at dksX0_told_2 6 rfl rfl)
theorem dX0_told_51 : decode cX0_told 51 = .ok (.iload_n 2, 1) := dk_28 (dk_at dksX0_told_2 7 rfl rfl)
theorem dX0_told_52 : decode cX0_told 52 = .ok (.invokevirtual 277, 3) := dk_182 1 21 (dk_at dksX0_told_2 8 rfl rfl)
theorem dX0_told_55 : decode cX0_told 55 = .ok (.goto 4, 3) := dk_167 0 4 (dk_at dksX0_told_2 11 rfl rfl)
theorem dX0_told_58 : decode cX0_told 58 = .ok (.iconst (-1), 1) := dk_2 (dk_at dksX0_told_2 14 rfl rfl)
theorem dX0_told_59 : decode cX0_told 59 = .ok (.ireturn, 1) := dk_172 (dk_at dksX0_told_2 15 rfl rfl)
abbrev cX0_came : ByteArray := prog_1_method_38_code
def yX0_came : MethodName := ⟨RX0, "came", "(II)I"⟩
def dkwX0_came_6 : List UInt8 := [167, 0, 4, 2, 172]
abbrev dktX0_came_6 : List UInt8 := dkwX0_came_6 ++ []
def dkwX0_came_5 : List UInt8 := [28, 122, 4, 126, 4, 160, 0, 6, 21, 4, 172, 132, 4, 1, 167, 255, 168, 28, 2, 160, 0, 7, 29]
abbrev dktX0_came_5 : List UInt8 := dkwX0_came_5 ++ dktX0_came_6
def dkwX0_came_4 : List UInt8 := [54, 5, 29, 29, 21, 5, 126, 153, 0, 8, 21, 5, 167, 0, 4, 3, 128, 62, 28, 2, 159, 0, 15, 29]
abbrev dktX0_came_4 : List UInt8 := dkwX0_came_4 ++ dktX0_came_5
def dkwX0_came_3 : List UInt8 := [21, 4, 50, 3, 46, 120, 4, 42, 180, 0, 20, 180, 1, 12, 180, 1, 27, 21, 4, 50, 4, 46, 120, 128]
abbrev dktX0_came_3 : List UInt8 := dkwX0_came_3 ++ dktX0_came_4
def dkwX0_came_2 : List UInt8 := [180, 0, 20, 180, 1, 12, 180, 1, 24, 162, 0, 79, 4, 42, 180, 0, 20, 180, 1, 12, 180, 1, 27]
abbrev dktX0_came_2 : List UInt8 := dkwX0_came_2 ++ dktX0_came_3
def dkwX0_came_1 : List UInt8 := [184, 0, 67, 153, 0, 8, 27, 28, 160, 0, 5, 2, 172, 4, 27, 120, 62, 3, 54, 4, 21, 4, 42]
abbrev dktX0_came_1 : List UInt8 := dkwX0_came_1 ++ dktX0_came_2
def dkwX0_came_0 : List UInt8 := [27, 2, 160, 0, 8, 42, 182, 1, 30, 172, 27, 3, 16, 11, 184, 0, 67, 153, 0, 18, 28, 2, 16, 11]
abbrev dktX0_came_0 : List UInt8 := dkwX0_came_0 ++ dktX0_came_1
theorem dksX0_came_0 : cX0_came.data.toList.drop 0 = dktX0_came_0 := by decide +kernel
theorem dksX0_came_1 : cX0_came.data.toList.drop 24 = dktX0_came_1 := dk_seg dksX0_came_0 24 rfl rfl
theorem dksX0_came_2 : cX0_came.data.toList.drop 47 = dktX0_came_2 := dk_seg dksX0_came_1 23 rfl rfl
theorem dksX0_came_3 : cX0_came.data.toList.drop 70 = dktX0_came_3 := dk_seg dksX0_came_2 23 rfl rfl
theorem dksX0_came_4 : cX0_came.data.toList.drop 94 = dktX0_came_4 := dk_seg dksX0_came_3 24 rfl rfl
theorem dksX0_came_5 : cX0_came.data.toList.drop 118 = dktX0_came_5 := dk_seg dksX0_came_4 24 rfl rfl
theorem dksX0_came_6 : cX0_came.data.toList.drop 141 = dktX0_came_6 := dk_seg dksX0_came_5 23 rfl rfl
theorem dX0_came_0 : decode cX0_came 0 = .ok (.iload_n 1, 1) := dk_27 (dk_at dksX0_came_0 0 rfl rfl)
theorem dX0_came_1 : decode cX0_came 1 = .ok (.iconst (-1), 1) := dk_2 (dk_at dksX0_came_0 1 rfl rfl)
theorem dX0_came_2 : decode cX0_came 2 = .ok (.if_icmp .ne 8, 3) := dk_160 0 8 (dk_at dksX0_came_0 2 rfl rfl)
theorem dX0_came_5 : decode cX0_came 5 = .ok (.aload_n 0, 1) := dk_42 (dk_at dksX0_came_0 5 rfl rfl)
theorem dX0_came_6 : decode cX0_came 6 = .ok (.invokevirtual 286, 3) := dk_182 1 30 (dk_at dksX0_came_0 6 rfl rfl)
theorem dX0_came_9 : decode cX0_came 9 = .ok (.ireturn, 1) := dk_172 (dk_at dksX0_came_0 9 rfl rfl)
theorem dX0_came_10 : decode cX0_came 10 = .ok (.iload_n 1, 1) := dk_27 (dk_at dksX0_came_0 10 rfl rfl)
theorem dX0_came_11 : decode cX0_came 11 = .ok (.iconst 0, 1) := dk_3 (dk_at dksX0_came_0 11 rfl rfl)
theorem dX0_came_12 : decode cX0_came 12 = .ok (.bipush 11, 2) := dk_16 11 (dk_at dksX0_came_0 12 rfl rfl)
theorem dX0_came_14 : decode cX0_came 14 = .ok (.invokestatic 67, 3) := dk_184 0 67 (dk_at dksX0_came_0 14 rfl rfl)
theorem dX0_came_17 : decode cX0_came 17 = .ok (.ifCond .eq 18, 3) := dk_153 0 18 (dk_at dksX0_came_0 17 rfl rfl)
theorem dX0_came_20 : decode cX0_came 20 = .ok (.iload_n 2, 1) := dk_28 (dk_at dksX0_came_0 20 rfl rfl)
theorem dX0_came_21 : decode cX0_came 21 = .ok (.iconst (-1), 1) := dk_2 (dk_at dksX0_came_0 21 rfl rfl)
theorem dX0_came_22 : decode cX0_came 22 = .ok (.bipush 11, 2) := dk_16 11 (dk_at dksX0_came_0 22 rfl rfl)
theorem dX0_came_24 : decode cX0_came 24 = .ok (.invokestatic 67, 3) := dk_184 0 67 (dk_at dksX0_came_1 0 rfl rfl)
theorem dX0_came_27 : decode cX0_came 27 = .ok (.ifCond .eq 8, 3) := dk_153 0 8 (dk_at dksX0_came_1 3 rfl rfl)
theorem dX0_came_30 : decode cX0_came 30 = .ok (.iload_n 1, 1) := dk_27 (dk_at dksX0_came_1 6 rfl rfl)
theorem dX0_came_31 : decode cX0_came 31 = .ok (.iload_n 2, 1) := dk_28 (dk_at dksX0_came_1 7 rfl rfl)
theorem dX0_came_32 : decode cX0_came 32 = .ok (.if_icmp .ne 5, 3) := dk_160 0 5 (dk_at dksX0_came_1 8 rfl rfl)
theorem dX0_came_35 : decode cX0_came 35 = .ok (.iconst (-1), 1) := dk_2 (dk_at dksX0_came_1 11 rfl rfl)
theorem dX0_came_36 : decode cX0_came 36 = .ok (.ireturn, 1) := dk_172 (dk_at dksX0_came_1 12 rfl rfl)
theorem dX0_came_37 : decode cX0_came 37 = .ok (.iconst 1, 1) := dk_4 (dk_at dksX0_came_1 13 rfl rfl)
theorem dX0_came_38 : decode cX0_came 38 = .ok (.iload_n 1, 1) := dk_27 (dk_at dksX0_came_1 14 rfl rfl)
theorem dX0_came_39 : decode cX0_came 39 = .ok (.ishl, 1) := dk_120 (dk_at dksX0_came_1 15 rfl rfl)
theorem dX0_came_40 : decode cX0_came 40 = .ok (.istore_n 3, 1) := dk_62 (dk_at dksX0_came_1 16 rfl rfl)
theorem dX0_came_41 : decode cX0_came 41 = .ok (.iconst 0, 1) := dk_3 (dk_at dksX0_came_1 17 rfl rfl)
theorem dX0_came_42 : decode cX0_came 42 = .ok (.istore 4, 2) := dk_54 4 (dk_at dksX0_came_1 18 rfl rfl)
theorem dX0_came_44 : decode cX0_came 44 = .ok (.iload 4, 2) := dk_21 4 (dk_at dksX0_came_1 20 rfl rfl)
theorem dX0_came_46 : decode cX0_came 46 = .ok (.aload_n 0, 1) := dk_42 (dk_at dksX0_came_1 22 rfl rfl)
theorem dX0_came_47 : decode cX0_came 47 = .ok (.getfield 20, 3) := dk_180 0 20 (dk_at dksX0_came_2 0 rfl rfl)
theorem dX0_came_50 : decode cX0_came 50 = .ok (.getfield 268, 3) := dk_180 1 12 (dk_at dksX0_came_2 3 rfl rfl)
theorem dX0_came_53 : decode cX0_came 53 = .ok (.getfield 280, 3) := dk_180 1 24 (dk_at dksX0_came_2 6 rfl rfl)
theorem dX0_came_56 : decode cX0_came 56 = .ok (.if_icmp .ge 79, 3) := dk_162 0 79 (dk_at dksX0_came_2 9 rfl rfl)
theorem dX0_came_59 : decode cX0_came 59 = .ok (.iconst 1, 1) := dk_4 (dk_at dksX0_came_2 12 rfl rfl)
theorem dX0_came_60 : decode cX0_came 60 = .ok (.aload_n 0, 1) := dk_42 (dk_at dksX0_came_2 13 rfl rfl)
theorem dX0_came_61 : decode cX0_came 61 = .ok (.getfield 20, 3) := dk_180 0 20 (dk_at dksX0_came_2 14 rfl rfl)
theorem dX0_came_64 : decode cX0_came 64 = .ok (.getfield 268, 3) := dk_180 1 12 (dk_at dksX0_came_2 17 rfl rfl)
theorem dX0_came_67 : decode cX0_came 67 = .ok (.getfield 283, 3) := dk_180 1 27 (dk_at dksX0_came_2 20 rfl rfl)
theorem dX0_came_70 : decode cX0_came 70 = .ok (.iload 4, 2) := dk_21 4 (dk_at dksX0_came_3 0 rfl rfl)
theorem dX0_came_72 : decode cX0_came 72 = .ok (.aaload, 1) := dk_50 (dk_at dksX0_came_3 2 rfl rfl)
theorem dX0_came_73 : decode cX0_came 73 = .ok (.iconst 0, 1) := dk_3 (dk_at dksX0_came_3 3 rfl rfl)
theorem dX0_came_74 : decode cX0_came 74 = .ok (.iaload, 1) := dk_46 (dk_at dksX0_came_3 4 rfl rfl)
theorem dX0_came_75 : decode cX0_came 75 = .ok (.ishl, 1) := dk_120 (dk_at dksX0_came_3 5 rfl rfl)
theorem dX0_came_76 : decode cX0_came 76 = .ok (.iconst 1, 1) := dk_4 (dk_at dksX0_came_3 6 rfl rfl)
theorem dX0_came_77 : decode cX0_came 77 = .ok (.aload_n 0, 1) := dk_42 (dk_at dksX0_came_3 7 rfl rfl)
theorem dX0_came_78 : decode cX0_came 78 = .ok (.getfield 20, 3) := dk_180 0 20 (dk_at dksX0_came_3 8 rfl rfl)
theorem dX0_came_81 : decode cX0_came 81 = .ok (.getfield 268, 3) := dk_180 1 12 (dk_at dksX0_came_3 11 rfl rfl)
theorem dX0_came_84 : decode cX0_came 84 = .ok (.getfield 283, 3) := dk_180 1 27 (dk_at dksX0_came_3 14 rfl rfl)
theorem dX0_came_87 : decode cX0_came 87 = .ok (.iload 4, 2) := dk_21 4 (dk_at dksX0_came_3 17 rfl rfl)
theorem dX0_came_89 : decode cX0_came 89 = .ok (.aaload, 1) := dk_50 (dk_at dksX0_came_3 19 rfl rfl)
theorem dX0_came_90 : decode cX0_came 90 = .ok (.iconst 1, 1) := dk_4 (dk_at dksX0_came_3 20 rfl rfl)
theorem dX0_came_91 : decode cX0_came 91 = .ok (.iaload, 1) := dk_46 (dk_at dksX0_came_3 21 rfl rfl)
theorem dX0_came_92 : decode cX0_came 92 = .ok (.ishl, 1) := dk_120 (dk_at dksX0_came_3 22 rfl rfl)
theorem dX0_came_93 : decode cX0_came 93 = .ok (.ior, 1) := dk_128 (dk_at dksX0_came_3 23 rfl rfl)
theorem dX0_came_94 : decode cX0_came 94 = .ok (.istore 5, 2) := dk_54 5 (dk_at dksX0_came_4 0 rfl rfl)
theorem dX0_came_96 : decode cX0_came 96 = .ok (.iload_n 3, 1) := dk_29 (dk_at dksX0_came_4 2 rfl rfl)
theorem dX0_came_97 : decode cX0_came 97 = .ok (.iload_n 3, 1) := dk_29 (dk_at dksX0_came_4 3 rfl rfl)
theorem dX0_came_98 : decode cX0_came 98 = .ok (.iload 5, 2) := dk_21 5 (dk_at dksX0_came_4 4 rfl rfl)
theorem dX0_came_100 : decode cX0_came 100 = .ok (.iand, 1) := dk_126 (dk_at dksX0_came_4 6 rfl rfl)
theorem dX0_came_101 : decode cX0_came 101 = .ok (.ifCond .eq 8, 3) := dk_153 0 8 (dk_at dksX0_came_4 7 rfl rfl)
theorem dX0_came_104 : decode cX0_came 104 = .ok (.iload 5, 2) := dk_21 5 (dk_at dksX0_came_4 10 rfl rfl)
theorem dX0_came_106 : decode cX0_came 106 = .ok (.goto 4, 3) := dk_167 0 4 (dk_at dksX0_came_4 12 rfl rfl)
theorem dX0_came_109 : decode cX0_came 109 = .ok (.iconst 0, 1) := dk_3 (dk_at dksX0_came_4 15 rfl rfl)
theorem dX0_came_110 : decode cX0_came 110 = .ok (.ior, 1) := dk_128 (dk_at dksX0_came_4 16 rfl rfl)
theorem dX0_came_111 : decode cX0_came 111 = .ok (.istore_n 3, 1) := dk_62 (dk_at dksX0_came_4 17 rfl rfl)
theorem dX0_came_112 : decode cX0_came 112 = .ok (.iload_n 2, 1) := dk_28 (dk_at dksX0_came_4 18 rfl rfl)
theorem dX0_came_113 : decode cX0_came 113 = .ok (.iconst (-1), 1) := dk_2 (dk_at dksX0_came_4 19 rfl rfl)
theorem dX0_came_114 : decode cX0_came 114 = .ok (.if_icmp .eq 15, 3) := dk_159 0 15 (dk_at dksX0_came_4 20 rfl rfl)
theorem dX0_came_117 : decode cX0_came 117 = .ok (.iload_n 3, 1) := dk_29 (dk_at dksX0_came_4 23 rfl rfl)
theorem dX0_came_118 : decode cX0_came 118 = .ok (.iload_n 2, 1) := dk_28 (dk_at dksX0_came_5 0 rfl rfl)
theorem dX0_came_119 : decode cX0_came 119 = .ok (.ishr, 1) := dk_122 (dk_at dksX0_came_5 1 rfl rfl)
theorem dX0_came_120 : decode cX0_came 120 = .ok (.iconst 1, 1) := dk_4 (dk_at dksX0_came_5 2 rfl rfl)
theorem dX0_came_121 : decode cX0_came 121 = .ok (.iand, 1) := dk_126 (dk_at dksX0_came_5 3 rfl rfl)
theorem dX0_came_122 : decode cX0_came 122 = .ok (.iconst 1, 1) := dk_4 (dk_at dksX0_came_5 4 rfl rfl)
theorem dX0_came_123 : decode cX0_came 123 = .ok (.if_icmp .ne 6, 3) := dk_160 0 6 (dk_at dksX0_came_5 5 rfl rfl)
theorem dX0_came_126 : decode cX0_came 126 = .ok (.iload 4, 2) := dk_21 4 (dk_at dksX0_came_5 8 rfl rfl)
theorem dX0_came_128 : decode cX0_came 128 = .ok (.ireturn, 1) := dk_172 (dk_at dksX0_came_5 10 rfl rfl)
theorem dX0_came_129 : decode cX0_came 129 = .ok (.iinc 4 1, 3) := dk_132 4 1 (dk_at dksX0_came_5 11 rfl rfl)
theorem dX0_came_132 : decode cX0_came 132 = .ok (.goto (-88), 3) := dk_167 255 168 (dk_at dksX0_came_5 14 rfl rfl)
theorem dX0_came_135 : decode cX0_came 135 = .ok (.iload_n 2, 1) := dk_28 (dk_at dksX0_came_5 17 rfl rfl)
theorem dX0_came_136 : decode cX0_came 136 = .ok (.iconst (-1), 1) := dk_2 (dk_at dksX0_came_5 18 rfl rfl)
theorem dX0_came_137 : decode cX0_came 137 = .ok (.if_icmp .ne 7, 3) := dk_160 0 7 (dk_at dksX0_came_5 19 rfl rfl)
theorem dX0_came_140 : decode cX0_came 140 = .ok (.iload_n 3, 1) := dk_29 (dk_at dksX0_came_5 22 rfl rfl)
theorem dX0_came_141 : decode cX0_came 141 = .ok (.goto 4, 3) := dk_167 0 4 (dk_at dksX0_came_6 0 rfl rfl)
theorem dX0_came_144 : decode cX0_came 144 = .ok (.iconst (-1), 1) := dk_2 (dk_at dksX0_came_6 3 rfl rfl)
theorem dX0_came_145 : decode cX0_came 145 = .ok (.ireturn, 1) := dk_172 (dk_at dksX0_came_6 4 rfl rfl)
abbrev cX0_odd : ByteArray := prog_1_method_37_code
def yX0_odd : MethodName := ⟨RX0, "odd", "()I"⟩
def dkwX0_odd_2 : List UInt8 := [4, 46, 120, 128, 130, 60, 132, 2, 1, 167, 255, 203, 27, 172]
abbrev dktX0_odd_2 : List UInt8 := dkwX0_odd_2 ++ []
def dkwX0_odd_1 : List UInt8 := [180, 1, 12, 180, 1, 27, 28, 50, 3, 46, 120, 4, 42, 180, 0, 20, 180, 1, 12, 180, 1, 27, 28, 50]
abbrev dktX0_odd_1 : List UInt8 := dkwX0_odd_1 ++ dktX0_odd_2
def dkwX0_odd_0 : List UInt8 := [3, 60, 3, 61, 28, 42, 180, 0, 20, 180, 1, 12, 180, 1, 24, 162, 0, 45, 27, 4, 42, 180, 0, 20]
abbrev dktX0_odd_0 : List UInt8 := dkwX0_odd_0 ++ dktX0_odd_1
theorem dksX0_odd_0 : cX0_odd.data.toList.drop 0 = dktX0_odd_0 := by decide +kernel
theorem dksX0_odd_1 : cX0_odd.data.toList.drop 24 = dktX0_odd_1 := dk_seg dksX0_odd_0 24 rfl rfl
theorem dksX0_odd_2 : cX0_odd.data.toList.drop 48 = dktX0_odd_2 := dk_seg dksX0_odd_1 24 rfl rfl
theorem dX0_odd_0 : decode cX0_odd 0 = .ok (.iconst 0, 1) := dk_3 (dk_at dksX0_odd_0 0 rfl rfl)
theorem dX0_odd_1 : decode cX0_odd 1 = .ok (.istore_n 1, 1) := dk_60 (dk_at dksX0_odd_0 1 rfl rfl)
theorem dX0_odd_2 : decode cX0_odd 2 = .ok (.iconst 0, 1) := dk_3 (dk_at dksX0_odd_0 2 rfl rfl)
theorem dX0_odd_3 : decode cX0_odd 3 = .ok (.istore_n 2, 1) := dk_61 (dk_at dksX0_odd_0 3 rfl rfl)
theorem dX0_odd_4 : decode cX0_odd 4 = .ok (.iload_n 2, 1) := dk_28 (dk_at dksX0_odd_0 4 rfl rfl)
theorem dX0_odd_5 : decode cX0_odd 5 = .ok (.aload_n 0, 1) := dk_42 (dk_at dksX0_odd_0 5 rfl rfl)
theorem dX0_odd_6 : decode cX0_odd 6 = .ok (.getfield 20, 3) := dk_180 0 20 (dk_at dksX0_odd_0 6 rfl rfl)
theorem dX0_odd_9 : decode cX0_odd 9 = .ok (.getfield 268, 3) := dk_180 1 12 (dk_at dksX0_odd_0 9 rfl rfl)
theorem dX0_odd_12 : decode cX0_odd 12 = .ok (.getfield 280, 3) := dk_180 1 24 (dk_at dksX0_odd_0 12 rfl rfl)
theorem dX0_odd_15 : decode cX0_odd 15 = .ok (.if_icmp .ge 45, 3) := dk_162 0 45 (dk_at dksX0_odd_0 15 rfl rfl)
theorem dX0_odd_18 : decode cX0_odd 18 = .ok (.iload_n 1, 1) := dk_27 (dk_at dksX0_odd_0 18 rfl rfl)
theorem dX0_odd_19 : decode cX0_odd 19 = .ok (.iconst 1, 1) := dk_4 (dk_at dksX0_odd_0 19 rfl rfl)
theorem dX0_odd_20 : decode cX0_odd 20 = .ok (.aload_n 0, 1) := dk_42 (dk_at dksX0_odd_0 20 rfl rfl)
theorem dX0_odd_21 : decode cX0_odd 21 = .ok (.getfield 20, 3) := dk_180 0 20 (dk_at dksX0_odd_0 21 rfl rfl)
theorem dX0_odd_24 : decode cX0_odd 24 = .ok (.getfield 268, 3) := dk_180 1 12 (dk_at dksX0_odd_1 0 rfl rfl)
theorem dX0_odd_27 : decode cX0_odd 27 = .ok (.getfield 283, 3) := dk_180 1 27 (dk_at dksX0_odd_1 3 rfl rfl)
theorem dX0_odd_30 : decode cX0_odd 30 = .ok (.iload_n 2, 1) := dk_28 (dk_at dksX0_odd_1 6 rfl rfl)
theorem dX0_odd_31 : decode cX0_odd 31 = .ok (.aaload, 1) := dk_50 (dk_at dksX0_odd_1 7 rfl rfl)
theorem dX0_odd_32 : decode cX0_odd 32 = .ok (.iconst 0, 1) := dk_3 (dk_at dksX0_odd_1 8 rfl rfl)
theorem dX0_odd_33 : decode cX0_odd 33 = .ok (.iaload, 1) := dk_46 (dk_at dksX0_odd_1 9 rfl rfl)
theorem dX0_odd_34 : decode cX0_odd 34 = .ok (.ishl, 1) := dk_120 (dk_at dksX0_odd_1 10 rfl rfl)
theorem dX0_odd_35 : decode cX0_odd 35 = .ok (.iconst 1, 1) := dk_4 (dk_at dksX0_odd_1 11 rfl rfl)
theorem dX0_odd_36 : decode cX0_odd 36 = .ok (.aload_n 0, 1) := dk_42 (dk_at dksX0_odd_1 12 rfl rfl)
theorem dX0_odd_37 : decode cX0_odd 37 = .ok (.getfield 20, 3) := dk_180 0 20 (dk_at dksX0_odd_1 13 rfl rfl)
theorem dX0_odd_40 : decode cX0_odd 40 = .ok (.getfield 268, 3) := dk_180 1 12 (dk_at dksX0_odd_1 16 rfl rfl)
theorem dX0_odd_43 : decode cX0_odd 43 = .ok (.getfield 283, 3) := dk_180 1 27 (dk_at dksX0_odd_1 19 rfl rfl)
theorem dX0_odd_46 : decode cX0_odd 46 = .ok (.iload_n 2, 1) := dk_28 (dk_at dksX0_odd_1 22 rfl rfl)
theorem dX0_odd_47 : decode cX0_odd 47 = .ok (.aaload, 1) := dk_50 (dk_at dksX0_odd_1 23 rfl rfl)
theorem dX0_odd_48 : decode cX0_odd 48 = .ok (.iconst 1, 1) := dk_4 (dk_at dksX0_odd_2 0 rfl rfl)
theorem dX0_odd_49 : decode cX0_odd 49 = .ok (.iaload, 1) := dk_46 (dk_at dksX0_odd_2 1 rfl rfl)
theorem dX0_odd_50 : decode cX0_odd 50 = .ok (.ishl, 1) := dk_120 (dk_at dksX0_odd_2 2 rfl rfl)
theorem dX0_odd_51 : decode cX0_odd 51 = .ok (.ior, 1) := dk_128 (dk_at dksX0_odd_2 3 rfl rfl)
theorem dX0_odd_52 : decode cX0_odd 52 = .ok (.ixor, 1) := dk_130 (dk_at dksX0_odd_2 4 rfl rfl)
theorem dX0_odd_53 : decode cX0_odd 53 = .ok (.istore_n 1, 1) := dk_60 (dk_at dksX0_odd_2 5 rfl rfl)
theorem dX0_odd_54 : decode cX0_odd 54 = .ok (.iinc 2 1, 3) := dk_132 2 1 (dk_at dksX0_odd_2 6 rfl rfl)
theorem dX0_odd_57 : decode cX0_odd 57 = .ok (.goto (-53), 3) := dk_167 255 203 (dk_at dksX0_odd_2 9 rfl rfl)
theorem dX0_odd_60 : decode cX0_odd 60 = .ok (.iload_n 1, 1) := dk_27 (dk_at dksX0_odd_2 12 rfl rfl)
theorem dX0_odd_61 : decode cX0_odd 61 = .ok (.ireturn, 1) := dk_172 (dk_at dksX0_odd_2 13 rfl rfl)
abbrev cX0_number : ByteArray := prog_1_method_39_code
def yX0_number : MethodName := ⟨RX0, "number", "(I)I"⟩
def dkwX0_number_1 : List UInt8 := [184, 0, 67, 153, 0, 18, 42, 180, 0, 20, 180, 1, 33, 27, 3, 182, 1, 21, 167, 0, 4, 2, 172]
abbrev dktX0_number_1 : List UInt8 := dkwX0_number_1 ++ []
def dkwX0_number_0 : List UInt8 := [27, 2, 160, 0, 16, 42, 180, 0, 20, 180, 1, 33, 182, 1, 16, 167, 0, 29, 27, 3, 16, 8]
abbrev dktX0_number_0 : List UInt8 := dkwX0_number_0 ++ dktX0_number_1
theorem dksX0_number_0 : cX0_number.data.toList.drop 0 = dktX0_number_0 := by decide +kernel
theorem dksX0_number_1 : cX0_number.data.toList.drop 22 = dktX0_number_1 := dk_seg dksX0_number_0 22 rfl rfl
theorem dX0_number_0 : decode cX0_number 0 = .ok (.iload_n 1, 1) := dk_27 (dk_at dksX0_number_0 0 rfl rfl)
theorem dX0_number_1 : decode cX0_number 1 = .ok (.iconst (-1), 1) := dk_2 (dk_at dksX0_number_0 1 rfl rfl)
theorem dX0_number_2 : decode cX0_number 2 = .ok (.if_icmp .ne 16, 3) := dk_160 0 16 (dk_at dksX0_number_0 2 rfl rfl)
theorem dX0_number_5 : decode cX0_number 5 = .ok (.aload_n 0, 1) := dk_42 (dk_at dksX0_number_0 5 rfl rfl)
theorem dX0_number_6 : decode cX0_number 6 = .ok (.getfield 20, 3) := dk_180 0 20 (dk_at dksX0_number_0 6 rfl rfl)
theorem dX0_number_9 : decode cX0_number 9 = .ok (.getfield 289, 3) := dk_180 1 33 (dk_at dksX0_number_0 9 rfl rfl)
theorem dX0_number_12 : decode cX0_number 12 = .ok (.invokevirtual 272, 3) := dk_182 1 16 (dk_at dksX0_number_0 12 rfl rfl)
theorem dX0_number_15 : decode cX0_number 15 = .ok (.goto 29, 3) := dk_167 0 29 (dk_at dksX0_number_0 15 rfl rfl)
theorem dX0_number_18 : decode cX0_number 18 = .ok (.iload_n 1, 1) := dk_27 (dk_at dksX0_number_0 18 rfl rfl)
theorem dX0_number_19 : decode cX0_number 19 = .ok (.iconst 0, 1) := dk_3 (dk_at dksX0_number_0 19 rfl rfl)
theorem dX0_number_20 : decode cX0_number 20 = .ok (.bipush 8, 2) := dk_16 8 (dk_at dksX0_number_0 20 rfl rfl)
theorem dX0_number_22 : decode cX0_number 22 = .ok (.invokestatic 67, 3) := dk_184 0 67 (dk_at dksX0_number_1 0 rfl rfl)
theorem dX0_number_25 : decode cX0_number 25 = .ok (.ifCond .eq 18, 3) := dk_153 0 18 (dk_at dksX0_number_1 3 rfl rfl)
theorem dX0_number_28 : decode cX0_number 28 = .ok (.aload_n 0, 1) := dk_42 (dk_at dksX0_number_1 6 rfl rfl)
theorem dX0_number_29 : decode cX0_number 29 = .ok (.getfield 20, 3) := dk_180 0 20 (dk_at dksX0_number_1 7 rfl rfl)
theorem dX0_number_32 : decode cX0_number 32 = .ok (.getfield 289, 3) := dk_180 1 33 (dk_at dksX0_number_1 10 rfl rfl)
theorem dX0_number_35 : decode cX0_number 35 = .ok (.iload_n 1, 1) := dk_27 (dk_at dksX0_number_1 13 rfl rfl)
theorem dX0_number_36 : decode cX0_number 36 = .ok (.iconst 0, 1) := dk_3 (dk_at dksX0_number_1 14 rfl rfl)
theorem dX0_number_37 : decode cX0_number 37 = .ok (.invokevirtual 277, 3) := dk_182 1 21 (dk_at dksX0_number_1 15 rfl rfl)
theorem dX0_number_40 : decode cX0_number 40 = .ok (.goto 4, 3) := dk_167 0 4 (dk_at dksX0_number_1 18 rfl rfl)
theorem dX0_number_43 : decode cX0_number 43 = .ok (.iconst (-1), 1) := dk_2 (dk_at dksX0_number_1 21 rfl rfl)
theorem dX0_number_44 : decode cX0_number 44 = .ok (.ireturn, 1) := dk_172 (dk_at dksX0_number_1 22 rfl rfl)
abbrev cX0_could : ByteArray := prog_1_method_40_code
def yX0_could : MethodName := ⟨RX0, "could", "()I"⟩
def dkwX0_could_8 : List UInt8 := [44, 21, 8, 92, 46, 4, 100, 79, 132, 7, 1, 167, 255, 170, 132, 3, 1, 167, 255, 96, 4, 172]
abbrev dktX0_could_8 : List UInt8 := dkwX0_could_8 ++ []
def dkwX0_could_7 : List UInt8 := [21, 9, 54, 8, 132, 9, 1, 167, 255, 211, 21, 8, 2, 160, 0, 5, 3, 172, 25, 6, 21, 8, 4, 84]
abbrev dktX0_could_7 : List UInt8 := dkwX0_could_7 ++ dktX0_could_8
def dkwX0_could_6 : List UInt8 := [21, 9, 46, 158, 0, 24, 21, 8, 2, 159, 0, 14, 44, 21, 9, 46, 44, 21, 8, 46, 164, 0, 7]
abbrev dktX0_could_6 : List UInt8 := dkwX0_could_6 ++ dktX0_could_7
def dkwX0_could_5 : List UInt8 := [162, 0, 85, 2, 54, 8, 3, 54, 9, 21, 9, 27, 162, 0, 45, 25, 6, 21, 9, 51, 154, 0, 31, 44]
abbrev dktX0_could_5 : List UInt8 := dkwX0_could_5 ++ dktX0_could_6
def dkwX0_could_4 : List UInt8 := [44, 21, 4, 3, 79, 27, 188, 4, 58, 6, 25, 6, 21, 4, 4, 84, 3, 54, 7, 21, 7, 21, 5]
abbrev dktX0_could_4 : List UInt8 := dkwX0_could_4 ++ dktX0_could_5
def dkwX0_could_3 : List UInt8 := [164, 0, 8, 21, 5, 167, 0, 5, 21, 4, 54, 4, 132, 5, 1, 167, 255, 227, 44, 21, 4, 46, 54, 5]
abbrev dktX0_could_3 : List UInt8 := dkwX0_could_3 ++ dktX0_could_4
def dkwX0_could_2 : List UInt8 := [162, 0, 161, 3, 54, 4, 4, 54, 5, 21, 5, 27, 162, 0, 29, 44, 21, 5, 46, 44, 21, 4, 46]
abbrev dktX0_could_2 : List UInt8 := dkwX0_could_2 ++ dktX0_could_3
def dkwX0_could_1 : List UInt8 := [42, 180, 0, 20, 180, 1, 33, 29, 182, 1, 36, 79, 132, 3, 1, 167, 255, 234, 3, 62, 29, 27]
abbrev dktX0_could_1 : List UInt8 := dkwX0_could_1 ++ dktX0_could_2
def dkwX0_could_0 : List UInt8 := [42, 180, 0, 20, 180, 1, 33, 180, 1, 24, 60, 27, 188, 10, 77, 3, 62, 29, 27, 162, 0, 23, 44, 29]
abbrev dktX0_could_0 : List UInt8 := dkwX0_could_0 ++ dktX0_could_1
theorem dksX0_could_0 : cX0_could.data.toList.drop 0 = dktX0_could_0 := by decide +kernel
theorem dksX0_could_1 : cX0_could.data.toList.drop 24 = dktX0_could_1 := dk_seg dksX0_could_0 24 rfl rfl
theorem dksX0_could_2 : cX0_could.data.toList.drop 46 = dktX0_could_2 := dk_seg dksX0_could_1 22 rfl rfl
theorem dksX0_could_3 : cX0_could.data.toList.drop 69 = dktX0_could_3 := dk_seg dksX0_could_2 23 rfl rfl
theorem dksX0_could_4 : cX0_could.data.toList.drop 93 = dktX0_could_4 := dk_seg dksX0_could_3 24 rfl rfl
theorem dksX0_could_5 : cX0_could.data.toList.drop 116 = dktX0_could_5 := dk_seg dksX0_could_4 23 rfl rfl
theorem dksX0_could_6 : cX0_could.data.toList.drop 140 = dktX0_could_6 := dk_seg dksX0_could_5 24 rfl rfl
theorem dksX0_could_7 : cX0_could.data.toList.drop 163 = dktX0_could_7 := dk_seg dksX0_could_6 23 rfl rfl
theorem dksX0_could_8 : cX0_could.data.toList.drop 187 = dktX0_could_8 := dk_seg dksX0_could_7 24 rfl rfl
theorem dX0_could_0 : decode cX0_could 0 = .ok (.aload_n 0, 1) := dk_42 (dk_at dksX0_could_0 0 rfl rfl)
theorem dX0_could_1 : decode cX0_could 1 = .ok (.getfield 20, 3) := dk_180 0 20 (dk_at dksX0_could_0 1 rfl rfl)
theorem dX0_could_4 : decode cX0_could 4 = .ok (.getfield 289, 3) := dk_180 1 33 (dk_at dksX0_could_0 4 rfl rfl)
theorem dX0_could_7 : decode cX0_could 7 = .ok (.getfield 280, 3) := dk_180 1 24 (dk_at dksX0_could_0 7 rfl rfl)
theorem dX0_could_10 : decode cX0_could 10 = .ok (.istore_n 1, 1) := dk_60 (dk_at dksX0_could_0 10 rfl rfl)
theorem dX0_could_11 : decode cX0_could 11 = .ok (.iload_n 1, 1) := dk_27 (dk_at dksX0_could_0 11 rfl rfl)
theorem dX0_could_12 : decode cX0_could 12 = .ok (.newarray .int, 2) := dk_188_10 (dk_at dksX0_could_0 12 rfl rfl)
theorem dX0_could_14 : decode cX0_could 14 = .ok (.astore_n 2, 1) := dk_77 (dk_at dksX0_could_0 14 rfl rfl)
theorem dX0_could_15 : decode cX0_could 15 = .ok (.iconst 0, 1) := dk_3 (dk_at dksX0_could_0 15 rfl rfl)
theorem dX0_could_16 : decode cX0_could 16 = .ok (.istore_n 3, 1) := dk_62 (dk_at dksX0_could_0 16 rfl rfl)
theorem dX0_could_17 : decode cX0_could 17 = .ok (.iload_n 3, 1) := dk_29 (dk_at dksX0_could_0 17 rfl rfl)
theorem dX0_could_18 : decode cX0_could 18 = .ok (.iload_n 1, 1) := dk_27 (dk_at dksX0_could_0 18 rfl rfl)
theorem dX0_could_19 : decode cX0_could 19 = .ok (.if_icmp .ge 23, 3) := dk_162 0 23 (dk_at dksX0_could_0 19 rfl rfl)
theorem dX0_could_22 : decode cX0_could 22 = .ok (.aload_n 2, 1) := dk_44 (dk_at dksX0_could_0 22 rfl rfl)
theorem dX0_could_23 : decode cX0_could 23 = .ok (.iload_n 3, 1) := dk_29 (dk_at dksX0_could_0 23 rfl rfl)
theorem dX0_could_24 : decode cX0_could 24 = .ok (.aload_n 0, 1) := dk_42 (dk_at dksX0_could_1 0 rfl rfl)
theorem dX0_could_25 : decode cX0_could 25 = .ok (.getfield 20, 3) := dk_180 0 20 (dk_at dksX0_could_1 1 rfl rfl)
theorem dX0_could_28 : decode cX0_could 28 = .ok (.getfield 289, 3) := dk_180 1 33 (dk_at dksX0_could_1 4 rfl rfl)
theorem dX0_could_31 : decode cX0_could 31 = .ok (.iload_n 3, 1) := dk_29 (dk_at dksX0_could_1 7 rfl rfl)
theorem dX0_could_32 : decode cX0_could 32 = .ok (.invokevirtual 292, 3) := dk_182 1 36 (dk_at dksX0_could_1 8 rfl rfl)
theorem dX0_could_35 : decode cX0_could 35 = .ok (.iastore, 1) := dk_79 (dk_at dksX0_could_1 11 rfl rfl)
theorem dX0_could_36 : decode cX0_could 36 = .ok (.iinc 3 1, 3) := dk_132 3 1 (dk_at dksX0_could_1 12 rfl rfl)
theorem dX0_could_39 : decode cX0_could 39 = .ok (.goto (-22), 3) := dk_167 255 234 (dk_at dksX0_could_1 15 rfl rfl)
theorem dX0_could_42 : decode cX0_could 42 = .ok (.iconst 0, 1) := dk_3 (dk_at dksX0_could_1 18 rfl rfl)
theorem dX0_could_43 : decode cX0_could 43 = .ok (.istore_n 3, 1) := dk_62 (dk_at dksX0_could_1 19 rfl rfl)
theorem dX0_could_44 : decode cX0_could 44 = .ok (.iload_n 3, 1) := dk_29 (dk_at dksX0_could_1 20 rfl rfl)
theorem dX0_could_45 : decode cX0_could 45 = .ok (.iload_n 1, 1) := dk_27 (dk_at dksX0_could_1 21 rfl rfl)
theorem dX0_could_46 : decode cX0_could 46 = .ok (.if_icmp .ge 161, 3) := dk_162 0 161 (dk_at dksX0_could_2 0 rfl rfl)
theorem dX0_could_49 : decode cX0_could 49 = .ok (.iconst 0, 1) := dk_3 (dk_at dksX0_could_2 3 rfl rfl)
theorem dX0_could_50 : decode cX0_could 50 = .ok (.istore 4, 2) := dk_54 4 (dk_at dksX0_could_2 4 rfl rfl)
theorem dX0_could_52 : decode cX0_could 52 = .ok (.iconst 1, 1) := dk_4 (dk_at dksX0_could_2 6 rfl rfl)
theorem dX0_could_53 : decode cX0_could 53 = .ok (.istore 5, 2) := dk_54 5 (dk_at dksX0_could_2 7 rfl rfl)
theorem dX0_could_55 : decode cX0_could 55 = .ok (.iload 5, 2) := dk_21 5 (dk_at dksX0_could_2 9 rfl rfl)
theorem dX0_could_57 : decode cX0_could 57 = .ok (.iload_n 1, 1) := dk_27 (dk_at dksX0_could_2 11 rfl rfl)
theorem dX0_could_58 : decode cX0_could 58 = .ok (.if_icmp .ge 29, 3) := dk_162 0 29 (dk_at dksX0_could_2 12 rfl rfl)
theorem dX0_could_61 : decode cX0_could 61 = .ok (.aload_n 2, 1) := dk_44 (dk_at dksX0_could_2 15 rfl rfl)
theorem dX0_could_62 : decode cX0_could 62 = .ok (.iload 5, 2) := dk_21 5 (dk_at dksX0_could_2 16 rfl rfl)
theorem dX0_could_64 : decode cX0_could 64 = .ok (.iaload, 1) := dk_46 (dk_at dksX0_could_2 18 rfl rfl)
theorem dX0_could_65 : decode cX0_could 65 = .ok (.aload_n 2, 1) := dk_44 (dk_at dksX0_could_2 19 rfl rfl)
theorem dX0_could_66 : decode cX0_could 66 = .ok (.iload 4, 2) := dk_21 4 (dk_at dksX0_could_2 20 rfl rfl)
theorem dX0_could_68 : decode cX0_could 68 = .ok (.iaload, 1) := dk_46 (dk_at dksX0_could_2 22 rfl rfl)
theorem dX0_could_69 : decode cX0_could 69 = .ok (.if_icmp .le 8, 3) := dk_164 0 8 (dk_at dksX0_could_3 0 rfl rfl)
theorem dX0_could_72 : decode cX0_could 72 = .ok (.iload 5, 2) := dk_21 5 (dk_at dksX0_could_3 3 rfl rfl)
theorem dX0_could_74 : decode cX0_could 74 = .ok (.goto 5, 3) := dk_167 0 5 (dk_at dksX0_could_3 5 rfl rfl)
theorem dX0_could_77 : decode cX0_could 77 = .ok (.iload 4, 2) := dk_21 4 (dk_at dksX0_could_3 8 rfl rfl)
theorem dX0_could_79 : decode cX0_could 79 = .ok (.istore 4, 2) := dk_54 4 (dk_at dksX0_could_3 10 rfl rfl)
theorem dX0_could_81 : decode cX0_could 81 = .ok (.iinc 5 1, 3) := dk_132 5 1 (dk_at dksX0_could_3 12 rfl rfl)
theorem dX0_could_84 : decode cX0_could 84 = .ok (.goto (-29), 3) := dk_167 255 227 (dk_at dksX0_could_3 15 rfl rfl)
theorem dX0_could_87 : decode cX0_could 87 = .ok (.aload_n 2, 1) := dk_44 (dk_at dksX0_could_3 18 rfl rfl)
theorem dX0_could_88 : decode cX0_could 88 = .ok (.iload 4, 2) := dk_21 4 (dk_at dksX0_could_3 19 rfl rfl)
theorem dX0_could_90 : decode cX0_could 90 = .ok (.iaload, 1) := dk_46 (dk_at dksX0_could_3 21 rfl rfl)
theorem dX0_could_91 : decode cX0_could 91 = .ok (.istore 5, 2) := dk_54 5 (dk_at dksX0_could_3 22 rfl rfl)
theorem dX0_could_93 : decode cX0_could 93 = .ok (.aload_n 2, 1) := dk_44 (dk_at dksX0_could_4 0 rfl rfl)
theorem dX0_could_94 : decode cX0_could 94 = .ok (.iload 4, 2) := dk_21 4 (dk_at dksX0_could_4 1 rfl rfl)
theorem dX0_could_96 : decode cX0_could 96 = .ok (.iconst 0, 1) := dk_3 (dk_at dksX0_could_4 3 rfl rfl)
theorem dX0_could_97 : decode cX0_could 97 = .ok (.iastore, 1) := dk_79 (dk_at dksX0_could_4 4 rfl rfl)
theorem dX0_could_98 : decode cX0_could 98 = .ok (.iload_n 1, 1) := dk_27 (dk_at dksX0_could_4 5 rfl rfl)
theorem dX0_could_99 : decode cX0_could 99 = .ok (.newarray .boolean, 2) := dk_188_4 (dk_at dksX0_could_4 6 rfl rfl)
theorem dX0_could_101 : decode cX0_could 101 = .ok (.astore 6, 2) := dk_58 6 (dk_at dksX0_could_4 8 rfl rfl)
theorem dX0_could_103 : decode cX0_could 103 = .ok (.aload 6, 2) := dk_25 6 (dk_at dksX0_could_4 10 rfl rfl)
theorem dX0_could_105 : decode cX0_could 105 = .ok (.iload 4, 2) := dk_21 4 (dk_at dksX0_could_4 12 rfl rfl)
theorem dX0_could_107 : decode cX0_could 107 = .ok (.iconst 1, 1) := dk_4 (dk_at dksX0_could_4 14 rfl rfl)
theorem dX0_could_108 : decode cX0_could 108 = .ok (.bastore, 1) := dk_84 (dk_at dksX0_could_4 15 rfl rfl)
theorem dX0_could_109 : decode cX0_could 109 = .ok (.iconst 0, 1) := dk_3 (dk_at dksX0_could_4 16 rfl rfl)
theorem dX0_could_110 : decode cX0_could 110 = .ok (.istore 7, 2) := dk_54 7 (dk_at dksX0_could_4 17 rfl rfl)
theorem dX0_could_112 : decode cX0_could 112 = .ok (.iload 7, 2) := dk_21 7 (dk_at dksX0_could_4 19 rfl rfl)
theorem dX0_could_114 : decode cX0_could 114 = .ok (.iload 5, 2) := dk_21 5 (dk_at dksX0_could_4 21 rfl rfl)
theorem dX0_could_116 : decode cX0_could 116 = .ok (.if_icmp .ge 85, 3) := dk_162 0 85 (dk_at dksX0_could_5 0 rfl rfl)
theorem dX0_could_119 : decode cX0_could 119 = .ok (.iconst (-1), 1) := dk_2 (dk_at dksX0_could_5 3 rfl rfl)
theorem dX0_could_120 : decode cX0_could 120 = .ok (.istore 8, 2) := dk_54 8 (dk_at dksX0_could_5 4 rfl rfl)
theorem dX0_could_122 : decode cX0_could 122 = .ok (.iconst 0, 1) := dk_3 (dk_at dksX0_could_5 6 rfl rfl)
theorem dX0_could_123 : decode cX0_could 123 = .ok (.istore 9, 2) := dk_54 9 (dk_at dksX0_could_5 7 rfl rfl)
theorem dX0_could_125 : decode cX0_could 125 = .ok (.iload 9, 2) := dk_21 9 (dk_at dksX0_could_5 9 rfl rfl)
theorem dX0_could_127 : decode cX0_could 127 = .ok (.iload_n 1, 1) := dk_27 (dk_at dksX0_could_5 11 rfl rfl)
theorem dX0_could_128 : decode cX0_could 128 = .ok (.if_icmp .ge 45, 3) := dk_162 0 45 (dk_at dksX0_could_5 12 rfl rfl)
theorem dX0_could_131 : decode cX0_could 131 = .ok (.aload 6, 2) := dk_25 6 (dk_at dksX0_could_5 15 rfl rfl)
theorem dX0_could_133 : decode cX0_could 133 = .ok (.iload 9, 2) := dk_21 9 (dk_at dksX0_could_5 17 rfl rfl)
theorem dX0_could_135 : decode cX0_could 135 = .ok (.baload, 1) := dk_51 (dk_at dksX0_could_5 19 rfl rfl)
theorem dX0_could_136 : decode cX0_could 136 = .ok (.ifCond .ne 31, 3) := dk_154 0 31 (dk_at dksX0_could_5 20 rfl rfl)
theorem dX0_could_139 : decode cX0_could 139 = .ok (.aload_n 2, 1) := dk_44 (dk_at dksX0_could_5 23 rfl rfl)
theorem dX0_could_140 : decode cX0_could 140 = .ok (.iload 9, 2) := dk_21 9 (dk_at dksX0_could_6 0 rfl rfl)
theorem dX0_could_142 : decode cX0_could 142 = .ok (.iaload, 1) := dk_46 (dk_at dksX0_could_6 2 rfl rfl)
theorem dX0_could_143 : decode cX0_could 143 = .ok (.ifCond .le 24, 3) := dk_158 0 24 (dk_at dksX0_could_6 3 rfl rfl)
theorem dX0_could_146 : decode cX0_could 146 = .ok (.iload 8, 2) := dk_21 8 (dk_at dksX0_could_6 6 rfl rfl)
theorem dX0_could_148 : decode cX0_could 148 = .ok (.iconst (-1), 1) := dk_2 (dk_at dksX0_could_6 8 rfl rfl)
theorem dX0_could_149 : decode cX0_could 149 = .ok (.if_icmp .eq 14, 3) := dk_159 0 14 (dk_at dksX0_could_6 9 rfl rfl)
theorem dX0_could_152 : decode cX0_could 152 = .ok (.aload_n 2, 1) := dk_44 (dk_at dksX0_could_6 12 rfl rfl)
theorem dX0_could_153 : decode cX0_could 153 = .ok (.iload 9, 2) := dk_21 9 (dk_at dksX0_could_6 13 rfl rfl)
theorem dX0_could_155 : decode cX0_could 155 = .ok (.iaload, 1) := dk_46 (dk_at dksX0_could_6 15 rfl rfl)
theorem dX0_could_156 : decode cX0_could 156 = .ok (.aload_n 2, 1) := dk_44 (dk_at dksX0_could_6 16 rfl rfl)
theorem dX0_could_157 : decode cX0_could 157 = .ok (.iload 8, 2) := dk_21 8 (dk_at dksX0_could_6 17 rfl rfl)
theorem dX0_could_159 : decode cX0_could 159 = .ok (.iaload, 1) := dk_46 (dk_at dksX0_could_6 19 rfl rfl)
theorem dX0_could_160 : decode cX0_could 160 = .ok (.if_icmp .le 7, 3) := dk_164 0 7 (dk_at dksX0_could_6 20 rfl rfl)
theorem dX0_could_163 : decode cX0_could 163 = .ok (.iload 9, 2) := dk_21 9 (dk_at dksX0_could_7 0 rfl rfl)
theorem dX0_could_165 : decode cX0_could 165 = .ok (.istore 8, 2) := dk_54 8 (dk_at dksX0_could_7 2 rfl rfl)
theorem dX0_could_167 : decode cX0_could 167 = .ok (.iinc 9 1, 3) := dk_132 9 1 (dk_at dksX0_could_7 4 rfl rfl)
theorem dX0_could_170 : decode cX0_could 170 = .ok (.goto (-45), 3) := dk_167 255 211 (dk_at dksX0_could_7 7 rfl rfl)
theorem dX0_could_173 : decode cX0_could 173 = .ok (.iload 8, 2) := dk_21 8 (dk_at dksX0_could_7 10 rfl rfl)
theorem dX0_could_175 : decode cX0_could 175 = .ok (.iconst (-1), 1) := dk_2 (dk_at dksX0_could_7 12 rfl rfl)
theorem dX0_could_176 : decode cX0_could 176 = .ok (.if_icmp .ne 5, 3) := dk_160 0 5 (dk_at dksX0_could_7 13 rfl rfl)
theorem dX0_could_179 : decode cX0_could 179 = .ok (.iconst 0, 1) := dk_3 (dk_at dksX0_could_7 16 rfl rfl)
theorem dX0_could_180 : decode cX0_could 180 = .ok (.ireturn, 1) := dk_172 (dk_at dksX0_could_7 17 rfl rfl)
theorem dX0_could_181 : decode cX0_could 181 = .ok (.aload 6, 2) := dk_25 6 (dk_at dksX0_could_7 18 rfl rfl)
theorem dX0_could_183 : decode cX0_could 183 = .ok (.iload 8, 2) := dk_21 8 (dk_at dksX0_could_7 20 rfl rfl)
theorem dX0_could_185 : decode cX0_could 185 = .ok (.iconst 1, 1) := dk_4 (dk_at dksX0_could_7 22 rfl rfl)
theorem dX0_could_186 : decode cX0_could 186 = .ok (.bastore, 1) := dk_84 (dk_at dksX0_could_7 23 rfl rfl)
theorem dX0_could_187 : decode cX0_could 187 = .ok (.aload_n 2, 1) := dk_44 (dk_at dksX0_could_8 0 rfl rfl)
theorem dX0_could_188 : decode cX0_could 188 = .ok (.iload 8, 2) := dk_21 8 (dk_at dksX0_could_8 1 rfl rfl)
theorem dX0_could_190 : decode cX0_could 190 = .ok (.dup2, 1) := dk_92 (dk_at dksX0_could_8 3 rfl rfl)
theorem dX0_could_191 : decode cX0_could 191 = .ok (.iaload, 1) := dk_46 (dk_at dksX0_could_8 4 rfl rfl)
theorem dX0_could_192 : decode cX0_could 192 = .ok (.iconst 1, 1) := dk_4 (dk_at dksX0_could_8 5 rfl rfl)
theorem dX0_could_193 : decode cX0_could 193 = .ok (.isub, 1) := dk_100 (dk_at dksX0_could_8 6 rfl rfl)
theorem dX0_could_194 : decode cX0_could 194 = .ok (.iastore, 1) := dk_79 (dk_at dksX0_could_8 7 rfl rfl)
theorem dX0_could_195 : decode cX0_could 195 = .ok (.iinc 7 1, 3) := dk_132 7 1 (dk_at dksX0_could_8 8 rfl rfl)
theorem dX0_could_198 : decode cX0_could 198 = .ok (.goto (-86), 3) := dk_167 255 170 (dk_at dksX0_could_8 11 rfl rfl)
theorem dX0_could_201 : decode cX0_could 201 = .ok (.iinc 3 1, 3) := dk_132 3 1 (dk_at dksX0_could_8 14 rfl rfl)
theorem dX0_could_204 : decode cX0_could 204 = .ok (.goto (-160), 3) := dk_167 255 96 (dk_at dksX0_could_8 17 rfl rfl)
theorem dX0_could_207 : decode cX0_could 207 = .ok (.iconst 1, 1) := dk_4 (dk_at dksX0_could_8 20 rfl rfl)
theorem dX0_could_208 : decode cX0_could 208 = .ok (.ireturn, 1) := dk_172 (dk_at dksX0_could_8 21 rfl rfl)
abbrev cX0_ring : ByteArray := prog_1_method_41_code
def yX0_ring : MethodName := ⟨RX0, "ring", "(I)I"⟩
def dkwX0_ring_4 : List UInt8 := [167, 255, 180, 27, 5, 112, 4, 160, 0, 7, 3, 167, 0, 11, 42, 180, 0, 38, 27, 5, 108, 46, 172]
abbrev dktX0_ring_4 : List UInt8 := dkwX0_ring_4 ++ []
def dkwX0_ring_3 : List UInt8 := [100, 29, 100, 46, 133, 105, 97, 20, 1, 39, 113, 136, 79, 132, 3, 1, 167, 255, 210, 132, 2, 1]
abbrev dktX0_ring_3 : List UInt8 := dkwX0_ring_3 ++ dktX0_ring_4
def dkwX0_ring_2 : List UInt8 := [180, 0, 38, 28, 42, 180, 0, 38, 28, 46, 133, 42, 180, 0, 38, 29, 46, 133, 42, 180, 0, 38, 28, 4]
abbrev dktX0_ring_2 : List UInt8 := dkwX0_ring_2 ++ dktX0_ring_3
def dkwX0_ring_1 : List UInt8 := [180, 0, 38, 28, 28, 154, 0, 7, 4, 167, 0, 4, 3, 79, 3, 62, 29, 28, 162, 0, 47, 42]
abbrev dktX0_ring_1 : List UInt8 := dkwX0_ring_1 ++ dktX0_ring_2
def dkwX0_ring_0 : List UInt8 := [27, 3, 16, 24, 184, 0, 67, 154, 0, 5, 2, 172, 3, 61, 28, 27, 5, 108, 163, 0, 75, 42]
abbrev dktX0_ring_0 : List UInt8 := dkwX0_ring_0 ++ dktX0_ring_1
theorem dksX0_ring_0 : cX0_ring.data.toList.drop 0 = dktX0_ring_0 := by decide +kernel
theorem dksX0_ring_1 : cX0_ring.data.toList.drop 22 = dktX0_ring_1 := dk_seg dksX0_ring_0 22 rfl rfl
theorem dksX0_ring_2 : cX0_ring.data.toList.drop 44 = dktX0_ring_2 := dk_seg dksX0_ring_1 22 rfl rfl
theorem dksX0_ring_3 : cX0_ring.data.toList.drop 68 = dktX0_ring_3 := dk_seg dksX0_ring_2 24 rfl rfl
theorem dksX0_ring_4 : cX0_ring.data.toList.drop 90 = dktX0_ring_4 := dk_seg dksX0_ring_3 22 rfl rfl
theorem dX0_ring_0 : decode cX0_ring 0 = .ok (.iload_n 1, 1) := dk_27 (dk_at dksX0_ring_0 0 rfl rfl)
theorem dX0_ring_1 : decode cX0_ring 1 = .ok (.iconst 0, 1) := dk_3 (dk_at dksX0_ring_0 1 rfl rfl)
theorem dX0_ring_2 : decode cX0_ring 2 = .ok (.bipush 24, 2) := dk_16 24 (dk_at dksX0_ring_0 2 rfl rfl)
theorem dX0_ring_4 : decode cX0_ring 4 = .ok (.invokestatic 67, 3) := dk_184 0 67 (dk_at dksX0_ring_0 4 rfl rfl)
theorem dX0_ring_7 : decode cX0_ring 7 = .ok (.ifCond .ne 5, 3) := dk_154 0 5 (dk_at dksX0_ring_0 7 rfl rfl)
theorem dX0_ring_10 : decode cX0_ring 10 = .ok (.iconst (-1), 1) := dk_2 (dk_at dksX0_ring_0 10 rfl rfl)
theorem dX0_ring_11 : decode cX0_ring 11 = .ok (.ireturn, 1) := dk_172 (dk_at dksX0_ring_0 11 rfl rfl)
theorem dX0_ring_12 : decode cX0_ring 12 = .ok (.iconst 0, 1) := dk_3 (dk_at dksX0_ring_0 12 rfl rfl)
theorem dX0_ring_13 : decode cX0_ring 13 = .ok (.istore_n 2, 1) := dk_61 (dk_at dksX0_ring_0 13 rfl rfl)
theorem dX0_ring_14 : decode cX0_ring 14 = .ok (.iload_n 2, 1) := dk_28 (dk_at dksX0_ring_0 14 rfl rfl)
theorem dX0_ring_15 : decode cX0_ring 15 = .ok (.iload_n 1, 1) := dk_27 (dk_at dksX0_ring_0 15 rfl rfl)
theorem dX0_ring_16 : decode cX0_ring 16 = .ok (.iconst 2, 1) := dk_5 (dk_at dksX0_ring_0 16 rfl rfl)
theorem dX0_ring_17 : decode cX0_ring 17 = .ok (.idiv, 1) := dk_108 (dk_at dksX0_ring_0 17 rfl rfl)
theorem dX0_ring_18 : decode cX0_ring 18 = .ok (.if_icmp .gt 75, 3) := dk_163 0 75 (dk_at dksX0_ring_0 18 rfl rfl)
theorem dX0_ring_21 : decode cX0_ring 21 = .ok (.aload_n 0, 1) := dk_42 (dk_at dksX0_ring_0 21 rfl rfl)
theorem dX0_ring_22 : decode cX0_ring 22 = .ok (.getfield 38, 3) := dk_180 0 38 (dk_at dksX0_ring_1 0 rfl rfl)
theorem dX0_ring_25 : decode cX0_ring 25 = .ok (.iload_n 2, 1) := dk_28 (dk_at dksX0_ring_1 3 rfl rfl)
theorem dX0_ring_26 : decode cX0_ring 26 = .ok (.iload_n 2, 1) := dk_28 (dk_at dksX0_ring_1 4 rfl rfl)
theorem dX0_ring_27 : decode cX0_ring 27 = .ok (.ifCond .ne 7, 3) := dk_154 0 7 (dk_at dksX0_ring_1 5 rfl rfl)
theorem dX0_ring_30 : decode cX0_ring 30 = .ok (.iconst 1, 1) := dk_4 (dk_at dksX0_ring_1 8 rfl rfl)
theorem dX0_ring_31 : decode cX0_ring 31 = .ok (.goto 4, 3) := dk_167 0 4 (dk_at dksX0_ring_1 9 rfl rfl)
theorem dX0_ring_34 : decode cX0_ring 34 = .ok (.iconst 0, 1) := dk_3 (dk_at dksX0_ring_1 12 rfl rfl)
theorem dX0_ring_35 : decode cX0_ring 35 = .ok (.iastore, 1) := dk_79 (dk_at dksX0_ring_1 13 rfl rfl)
theorem dX0_ring_36 : decode cX0_ring 36 = .ok (.iconst 0, 1) := dk_3 (dk_at dksX0_ring_1 14 rfl rfl)
theorem dX0_ring_37 : decode cX0_ring 37 = .ok (.istore_n 3, 1) := dk_62 (dk_at dksX0_ring_1 15 rfl rfl)
theorem dX0_ring_38 : decode cX0_ring 38 = .ok (.iload_n 3, 1) := dk_29 (dk_at dksX0_ring_1 16 rfl rfl)
theorem dX0_ring_39 : decode cX0_ring 39 = .ok (.iload_n 2, 1) := dk_28 (dk_at dksX0_ring_1 17 rfl rfl)
theorem dX0_ring_40 : decode cX0_ring 40 = .ok (.if_icmp .ge 47, 3) := dk_162 0 47 (dk_at dksX0_ring_1 18 rfl rfl)
theorem dX0_ring_43 : decode cX0_ring 43 = .ok (.aload_n 0, 1) := dk_42 (dk_at dksX0_ring_1 21 rfl rfl)
theorem dX0_ring_44 : decode cX0_ring 44 = .ok (.getfield 38, 3) := dk_180 0 38 (dk_at dksX0_ring_2 0 rfl rfl)
theorem dX0_ring_47 : decode cX0_ring 47 = .ok (.iload_n 2, 1) := dk_28 (dk_at dksX0_ring_2 3 rfl rfl)
theorem dX0_ring_48 : decode cX0_ring 48 = .ok (.aload_n 0, 1) := dk_42 (dk_at dksX0_ring_2 4 rfl rfl)
theorem dX0_ring_49 : decode cX0_ring 49 = .ok (.getfield 38, 3) := dk_180 0 38 (dk_at dksX0_ring_2 5 rfl rfl)
theorem dX0_ring_52 : decode cX0_ring 52 = .ok (.iload_n 2, 1) := dk_28 (dk_at dksX0_ring_2 8 rfl rfl)
theorem dX0_ring_53 : decode cX0_ring 53 = .ok (.iaload, 1) := dk_46 (dk_at dksX0_ring_2 9 rfl rfl)
theorem dX0_ring_54 : decode cX0_ring 54 = .ok (.i2l, 1) := dk_133 (dk_at dksX0_ring_2 10 rfl rfl)
theorem dX0_ring_55 : decode cX0_ring 55 = .ok (.aload_n 0, 1) := dk_42 (dk_at dksX0_ring_2 11 rfl rfl)
theorem dX0_ring_56 : decode cX0_ring 56 = .ok (.getfield 38, 3) := dk_180 0 38 (dk_at dksX0_ring_2 12 rfl rfl)
theorem dX0_ring_59 : decode cX0_ring 59 = .ok (.iload_n 3, 1) := dk_29 (dk_at dksX0_ring_2 15 rfl rfl)
theorem dX0_ring_60 : decode cX0_ring 60 = .ok (.iaload, 1) := dk_46 (dk_at dksX0_ring_2 16 rfl rfl)
theorem dX0_ring_61 : decode cX0_ring 61 = .ok (.i2l, 1) := dk_133 (dk_at dksX0_ring_2 17 rfl rfl)
theorem dX0_ring_62 : decode cX0_ring 62 = .ok (.aload_n 0, 1) := dk_42 (dk_at dksX0_ring_2 18 rfl rfl)
theorem dX0_ring_63 : decode cX0_ring 63 = .ok (.getfield 38, 3) := dk_180 0 38 (dk_at dksX0_ring_2 19 rfl rfl)
theorem dX0_ring_66 : decode cX0_ring 66 = .ok (.iload_n 2, 1) := dk_28 (dk_at dksX0_ring_2 22 rfl rfl)
theorem dX0_ring_67 : decode cX0_ring 67 = .ok (.iconst 1, 1) := dk_4 (dk_at dksX0_ring_2 23 rfl rfl)
theorem dX0_ring_68 : decode cX0_ring 68 = .ok (.isub, 1) := dk_100 (dk_at dksX0_ring_3 0 rfl rfl)
theorem dX0_ring_69 : decode cX0_ring 69 = .ok (.iload_n 3, 1) := dk_29 (dk_at dksX0_ring_3 1 rfl rfl)
theorem dX0_ring_70 : decode cX0_ring 70 = .ok (.isub, 1) := dk_100 (dk_at dksX0_ring_3 2 rfl rfl)
theorem dX0_ring_71 : decode cX0_ring 71 = .ok (.iaload, 1) := dk_46 (dk_at dksX0_ring_3 3 rfl rfl)
theorem dX0_ring_72 : decode cX0_ring 72 = .ok (.i2l, 1) := dk_133 (dk_at dksX0_ring_3 4 rfl rfl)
theorem dX0_ring_73 : decode cX0_ring 73 = .ok (.lmul, 1) := dk_105 (dk_at dksX0_ring_3 5 rfl rfl)
theorem dX0_ring_74 : decode cX0_ring 74 = .ok (.ladd, 1) := dk_97 (dk_at dksX0_ring_3 6 rfl rfl)
theorem dX0_ring_75 : decode cX0_ring 75 = .ok (.ldc2_w 295, 3) := dk_20 1 39 (dk_at dksX0_ring_3 7 rfl rfl)
theorem dX0_ring_78 : decode cX0_ring 78 = .ok (.lrem, 1) := dk_113 (dk_at dksX0_ring_3 10 rfl rfl)
theorem dX0_ring_79 : decode cX0_ring 79 = .ok (.l2i, 1) := dk_136 (dk_at dksX0_ring_3 11 rfl rfl)
theorem dX0_ring_80 : decode cX0_ring 80 = .ok (.iastore, 1) := dk_79 (dk_at dksX0_ring_3 12 rfl rfl)
theorem dX0_ring_81 : decode cX0_ring 81 = .ok (.iinc 3 1, 3) := dk_132 3 1 (dk_at dksX0_ring_3 13 rfl rfl)
theorem dX0_ring_84 : decode cX0_ring 84 = .ok (.goto (-46), 3) := dk_167 255 210 (dk_at dksX0_ring_3 16 rfl rfl)
theorem dX0_ring_87 : decode cX0_ring 87 = .ok (.iinc 2 1, 3) := dk_132 2 1 (dk_at dksX0_ring_3 19 rfl rfl)
theorem dX0_ring_90 : decode cX0_ring 90 = .ok (.goto (-76), 3) := dk_167 255 180 (dk_at dksX0_ring_4 0 rfl rfl)
theorem dX0_ring_93 : decode cX0_ring 93 = .ok (.iload_n 1, 1) := dk_27 (dk_at dksX0_ring_4 3 rfl rfl)
theorem dX0_ring_94 : decode cX0_ring 94 = .ok (.iconst 2, 1) := dk_5 (dk_at dksX0_ring_4 4 rfl rfl)
theorem dX0_ring_95 : decode cX0_ring 95 = .ok (.irem, 1) := dk_112 (dk_at dksX0_ring_4 5 rfl rfl)
theorem dX0_ring_96 : decode cX0_ring 96 = .ok (.iconst 1, 1) := dk_4 (dk_at dksX0_ring_4 6 rfl rfl)
theorem dX0_ring_97 : decode cX0_ring 97 = .ok (.if_icmp .ne 7, 3) := dk_160 0 7 (dk_at dksX0_ring_4 7 rfl rfl)
theorem dX0_ring_100 : decode cX0_ring 100 = .ok (.iconst 0, 1) := dk_3 (dk_at dksX0_ring_4 10 rfl rfl)
theorem dX0_ring_101 : decode cX0_ring 101 = .ok (.goto 11, 3) := dk_167 0 11 (dk_at dksX0_ring_4 11 rfl rfl)
theorem dX0_ring_104 : decode cX0_ring 104 = .ok (.aload_n 0, 1) := dk_42 (dk_at dksX0_ring_4 14 rfl rfl)
theorem dX0_ring_105 : decode cX0_ring 105 = .ok (.getfield 38, 3) := dk_180 0 38 (dk_at dksX0_ring_4 15 rfl rfl)
theorem dX0_ring_108 : decode cX0_ring 108 = .ok (.iload_n 1, 1) := dk_27 (dk_at dksX0_ring_4 18 rfl rfl)
theorem dX0_ring_109 : decode cX0_ring 109 = .ok (.iconst 2, 1) := dk_5 (dk_at dksX0_ring_4 19 rfl rfl)
theorem dX0_ring_110 : decode cX0_ring 110 = .ok (.idiv, 1) := dk_108 (dk_at dksX0_ring_4 20 rfl rfl)
theorem dX0_ring_111 : decode cX0_ring 111 = .ok (.iaload, 1) := dk_46 (dk_at dksX0_ring_4 21 rfl rfl)
theorem dX0_ring_112 : decode cX0_ring 112 = .ok (.ireturn, 1) := dk_172 (dk_at dksX0_ring_4 22 rfl rfl)
abbrev cX0_pairs : ByteArray := prog_1_method_44_code
def yX0_pairs : MethodName := ⟨RX0, "pairs", "(I)I"⟩
def dkwX0_pairs_4 : List UInt8 := [160, 0, 7, 2, 167, 0, 9, 4, 21, 5, 120, 2, 130, 126, 126, 61, 167, 255, 185, 29, 172]
abbrev dktX0_pairs_4 : List UInt8 := dkwX0_pairs_4 ++ []
def dkwX0_pairs_3 : List UInt8 := [21, 5, 27, 16, 10, 100, 160, 0, 6, 21, 4, 172, 28, 4, 21, 4, 120, 2, 130, 21, 5, 2]
abbrev dktX0_pairs_3 : List UInt8 := dkwX0_pairs_3 ++ dktX0_pairs_4
def dkwX0_pairs_2 : List UInt8 := [184, 1, 41, 54, 4, 42, 28, 182, 1, 49, 54, 5, 21, 4, 27, 16, 10, 100, 160, 0, 6, 21, 5, 172]
abbrev dktX0_pairs_2 : List UInt8 := dkwX0_pairs_2 ++ dktX0_pairs_3
def dkwX0_pairs_1 : List UInt8 := [180, 0, 137, 120, 4, 100, 61, 42, 28, 182, 1, 46, 62, 27, 153, 0, 73, 28, 153, 0, 69, 28]
abbrev dktX0_pairs_1 : List UInt8 := dkwX0_pairs_1 ++ dktX0_pairs_2
def dkwX0_pairs_0 : List UInt8 := [27, 153, 0, 16, 42, 27, 16, 10, 100, 182, 0, 160, 154, 0, 5, 2, 172, 4, 42, 180, 0, 20]
abbrev dktX0_pairs_0 : List UInt8 := dkwX0_pairs_0 ++ dktX0_pairs_1
theorem dksX0_pairs_0 : cX0_pairs.data.toList.drop 0 = dktX0_pairs_0 := by decide +kernel
theorem dksX0_pairs_1 : cX0_pairs.data.toList.drop 22 = dktX0_pairs_1 := dk_seg dksX0_pairs_0 22 rfl rfl
theorem dksX0_pairs_2 : cX0_pairs.data.toList.drop 44 = dktX0_pairs_2 := dk_seg dksX0_pairs_1 22 rfl rfl
theorem dksX0_pairs_3 : cX0_pairs.data.toList.drop 68 = dktX0_pairs_3 := dk_seg dksX0_pairs_2 24 rfl rfl
theorem dksX0_pairs_4 : cX0_pairs.data.toList.drop 90 = dktX0_pairs_4 := dk_seg dksX0_pairs_3 22 rfl rfl
theorem dX0_pairs_0 : decode cX0_pairs 0 = .ok (.iload_n 1, 1) := dk_27 (dk_at dksX0_pairs_0 0 rfl rfl)
theorem dX0_pairs_1 : decode cX0_pairs 1 = .ok (.ifCond .eq 16, 3) := dk_153 0 16 (dk_at dksX0_pairs_0 1 rfl rfl)
theorem dX0_pairs_4 : decode cX0_pairs 4 = .ok (.aload_n 0, 1) := dk_42 (dk_at dksX0_pairs_0 4 rfl rfl)
theorem dX0_pairs_5 : decode cX0_pairs 5 = .ok (.iload_n 1, 1) := dk_27 (dk_at dksX0_pairs_0 5 rfl rfl)
theorem dX0_pairs_6 : decode cX0_pairs 6 = .ok (.bipush 10, 2) := dk_16 10 (dk_at dksX0_pairs_0 6 rfl rfl)
theorem dX0_pairs_8 : decode cX0_pairs 8 = .ok (.isub, 1) := dk_100 (dk_at dksX0_pairs_0 8 rfl rfl)
theorem dX0_pairs_9 : decode cX0_pairs 9 = .ok (.invokevirtual 160, 3) := dk_182 0 160 (dk_at dksX0_pairs_0 9 rfl rfl)
theorem dX0_pairs_12 : decode cX0_pairs 12 = .ok (.ifCond .ne 5, 3) := dk_154 0 5 (dk_at dksX0_pairs_0 12 rfl rfl)
theorem dX0_pairs_15 : decode cX0_pairs 15 = .ok (.iconst (-1), 1) := dk_2 (dk_at dksX0_pairs_0 15 rfl rfl)
theorem dX0_pairs_16 : decode cX0_pairs 16 = .ok (.ireturn, 1) := dk_172 (dk_at dksX0_pairs_0 16 rfl rfl)
theorem dX0_pairs_17 : decode cX0_pairs 17 = .ok (.iconst 1, 1) := dk_4 (dk_at dksX0_pairs_0 17 rfl rfl)
theorem dX0_pairs_18 : decode cX0_pairs 18 = .ok (.aload_n 0, 1) := dk_42 (dk_at dksX0_pairs_0 18 rfl rfl)
theorem dX0_pairs_19 : decode cX0_pairs 19 = .ok (.getfield 20, 3) := dk_180 0 20 (dk_at dksX0_pairs_0 19 rfl rfl)
theorem dX0_pairs_22 : decode cX0_pairs 22 = .ok (.getfield 137, 3) := dk_180 0 137 (dk_at dksX0_pairs_1 0 rfl rfl)
theorem dX0_pairs_25 : decode cX0_pairs 25 = .ok (.ishl, 1) := dk_120 (dk_at dksX0_pairs_1 3 rfl rfl)
theorem dX0_pairs_26 : decode cX0_pairs 26 = .ok (.iconst 1, 1) := dk_4 (dk_at dksX0_pairs_1 4 rfl rfl)
theorem dX0_pairs_27 : decode cX0_pairs 27 = .ok (.isub, 1) := dk_100 (dk_at dksX0_pairs_1 5 rfl rfl)
theorem dX0_pairs_28 : decode cX0_pairs 28 = .ok (.istore_n 2, 1) := dk_61 (dk_at dksX0_pairs_1 6 rfl rfl)
theorem dX0_pairs_29 : decode cX0_pairs 29 = .ok (.aload_n 0, 1) := dk_42 (dk_at dksX0_pairs_1 7 rfl rfl)
theorem dX0_pairs_30 : decode cX0_pairs 30 = .ok (.iload_n 2, 1) := dk_28 (dk_at dksX0_pairs_1 8 rfl rfl)
theorem dX0_pairs_31 : decode cX0_pairs 31 = .ok (.invokevirtual 302, 3) := dk_182 1 46 (dk_at dksX0_pairs_1 9 rfl rfl)
theorem dX0_pairs_34 : decode cX0_pairs 34 = .ok (.istore_n 3, 1) := dk_62 (dk_at dksX0_pairs_1 12 rfl rfl)
theorem dX0_pairs_35 : decode cX0_pairs 35 = .ok (.iload_n 1, 1) := dk_27 (dk_at dksX0_pairs_1 13 rfl rfl)
theorem dX0_pairs_36 : decode cX0_pairs 36 = .ok (.ifCond .eq 73, 3) := dk_153 0 73 (dk_at dksX0_pairs_1 14 rfl rfl)
theorem dX0_pairs_39 : decode cX0_pairs 39 = .ok (.iload_n 2, 1) := dk_28 (dk_at dksX0_pairs_1 17 rfl rfl)
theorem dX0_pairs_40 : decode cX0_pairs 40 = .ok (.ifCond .eq 69, 3) := dk_153 0 69 (dk_at dksX0_pairs_1 18 rfl rfl)
theorem dX0_pairs_43 : decode cX0_pairs 43 = .ok (.iload_n 2, 1) := dk_28 (dk_at dksX0_pairs_1 21 rfl rfl)
theorem dX0_pairs_44 : decode cX0_pairs 44 = .ok (.invokestatic 297, 3) := dk_184 1 41 (dk_at dksX0_pairs_2 0 rfl rfl)
theorem dX0_pairs_47 : decode cX0_pairs 47 = .ok (.istore 4, 2) := dk_54 4 (dk_at dksX0_pairs_2 3 rfl rfl)
theorem dX0_pairs_49 : decode cX0_pairs 49 = .ok (.aload_n 0, 1) := dk_42 (dk_at dksX0_pairs_2 5 rfl rfl)
theorem dX0_pairs_50 : decode cX0_pairs 50 = .ok (.iload_n 2, 1) := dk_28 (dk_at dksX0_pairs_2 6 rfl rfl)
theorem dX0_pairs_51 : decode cX0_pairs 51 = .ok (.invokevirtual 305, 3) := dk_182 1 49 (dk_at dksX0_pairs_2 7 rfl rfl)
theorem dX0_pairs_54 : decode cX0_pairs 54 = .ok (.istore 5, 2) := dk_54 5 (dk_at dksX0_pairs_2 10 rfl rfl)
theorem dX0_pairs_56 : decode cX0_pairs 56 = .ok (.iload 4, 2) := dk_21 4 (dk_at dksX0_pairs_2 12 rfl rfl)
theorem dX0_pairs_58 : decode cX0_pairs 58 = .ok (.iload_n 1, 1) := dk_27 (dk_at dksX0_pairs_2 14 rfl rfl)
theorem dX0_pairs_59 : decode cX0_pairs 59 = .ok (.bipush 10, 2) := dk_16 10 (dk_at dksX0_pairs_2 15 rfl rfl)
theorem dX0_pairs_61 : decode cX0_pairs 61 = .ok (.isub, 1) := dk_100 (dk_at dksX0_pairs_2 17 rfl rfl)
theorem dX0_pairs_62 : decode cX0_pairs 62 = .ok (.if_icmp .ne 6, 3) := dk_160 0 6 (dk_at dksX0_pairs_2 18 rfl rfl)
theorem dX0_pairs_65 : decode cX0_pairs 65 = .ok (.iload 5, 2) := dk_21 5 (dk_at dksX0_pairs_2 21 rfl rfl)
theorem dX0_pairs_67 : decode cX0_pairs 67 = .ok (.ireturn, 1) := dk_172 (dk_at dksX0_pairs_2 23 rfl rfl)
theorem dX0_pairs_68 : decode cX0_pairs 68 = .ok (.iload 5, 2) := dk_21 5 (dk_at dksX0_pairs_3 0 rfl rfl)
theorem dX0_pairs_70 : decode cX0_pairs 70 = .ok (.iload_n 1, 1) := dk_27 (dk_at dksX0_pairs_3 2 rfl rfl)
theorem dX0_pairs_71 : decode cX0_pairs 71 = .ok (.bipush 10, 2) := dk_16 10 (dk_at dksX0_pairs_3 3 rfl rfl)
theorem dX0_pairs_73 : decode cX0_pairs 73 = .ok (.isub, 1) := dk_100 (dk_at dksX0_pairs_3 5 rfl rfl)
theorem dX0_pairs_74 : decode cX0_pairs 74 = .ok (.if_icmp .ne 6, 3) := dk_160 0 6 (dk_at dksX0_pairs_3 6 rfl rfl)
theorem dX0_pairs_77 : decode cX0_pairs 77 = .ok (.iload 4, 2) := dk_21 4 (dk_at dksX0_pairs_3 9 rfl rfl)
theorem dX0_pairs_79 : decode cX0_pairs 79 = .ok (.ireturn, 1) := dk_172 (dk_at dksX0_pairs_3 11 rfl rfl)
theorem dX0_pairs_80 : decode cX0_pairs 80 = .ok (.iload_n 2, 1) := dk_28 (dk_at dksX0_pairs_3 12 rfl rfl)
theorem dX0_pairs_81 : decode cX0_pairs 81 = .ok (.iconst 1, 1) := dk_4 (dk_at dksX0_pairs_3 13 rfl rfl)
theorem dX0_pairs_82 : decode cX0_pairs 82 = .ok (.iload 4, 2) := dk_21 4 (dk_at dksX0_pairs_3 14 rfl rfl)
theorem dX0_pairs_84 : decode cX0_pairs 84 = .ok (.ishl, 1) := dk_120 (dk_at dksX0_pairs_3 16 rfl rfl)
theorem dX0_pairs_85 : decode cX0_pairs 85 = .ok (.iconst (-1), 1) := dk_2 (dk_at dksX0_pairs_3 17 rfl rfl)
theorem dX0_pairs_86 : decode cX0_pairs 86 = .ok (.ixor, 1) := dk_130 (dk_at dksX0_pairs_3 18 rfl rfl)
theorem dX0_pairs_87 : decode cX0_pairs 87 = .ok (.iload 5, 2) := dk_21 5 (dk_at dksX0_pairs_3 19 rfl rfl)
theorem dX0_pairs_89 : decode cX0_pairs 89 = .ok (.iconst (-1), 1) := dk_2 (dk_at dksX0_pairs_3 21 rfl rfl)
theorem dX0_pairs_90 : decode cX0_pairs 90 = .ok (.if_icmp .ne 7, 3) := dk_160 0 7 (dk_at dksX0_pairs_4 0 rfl rfl)
theorem dX0_pairs_93 : decode cX0_pairs 93 = .ok (.iconst (-1), 1) := dk_2 (dk_at dksX0_pairs_4 3 rfl rfl)
theorem dX0_pairs_94 : decode cX0_pairs 94 = .ok (.goto 9, 3) := dk_167 0 9 (dk_at dksX0_pairs_4 4 rfl rfl)
theorem dX0_pairs_97 : decode cX0_pairs 97 = .ok (.iconst 1, 1) := dk_4 (dk_at dksX0_pairs_4 7 rfl rfl)
theorem dX0_pairs_98 : decode cX0_pairs 98 = .ok (.iload 5, 2) := dk_21 5 (dk_at dksX0_pairs_4 8 rfl rfl)
theorem dX0_pairs_100 : decode cX0_pairs 100 = .ok (.ishl, 1) := dk_120 (dk_at dksX0_pairs_4 10 rfl rfl)
theorem dX0_pairs_101 : decode cX0_pairs 101 = .ok (.iconst (-1), 1) := dk_2 (dk_at dksX0_pairs_4 11 rfl rfl)
theorem dX0_pairs_102 : decode cX0_pairs 102 = .ok (.ixor, 1) := dk_130 (dk_at dksX0_pairs_4 12 rfl rfl)
theorem dX0_pairs_103 : decode cX0_pairs 103 = .ok (.iand, 1) := dk_126 (dk_at dksX0_pairs_4 13 rfl rfl)
theorem dX0_pairs_104 : decode cX0_pairs 104 = .ok (.iand, 1) := dk_126 (dk_at dksX0_pairs_4 14 rfl rfl)
theorem dX0_pairs_105 : decode cX0_pairs 105 = .ok (.istore_n 2, 1) := dk_61 (dk_at dksX0_pairs_4 15 rfl rfl)
theorem dX0_pairs_106 : decode cX0_pairs 106 = .ok (.goto (-71), 3) := dk_167 255 185 (dk_at dksX0_pairs_4 16 rfl rfl)
theorem dX0_pairs_109 : decode cX0_pairs 109 = .ok (.iload_n 3, 1) := dk_29 (dk_at dksX0_pairs_4 19 rfl rfl)
theorem dX0_pairs_110 : decode cX0_pairs 110 = .ok (.ireturn, 1) := dk_172 (dk_at dksX0_pairs_4 20 rfl rfl)
abbrev cX0_mostPairs : ByteArray := prog_1_method_42_code
def yX0_mostPairs : MethodName := ⟨RX0, "mostPairs", "(I)I"⟩
def dkwX0_mostPairs_6 : List UInt8 := [172]
abbrev dktX0_mostPairs_6 : List UInt8 := dkwX0_mostPairs_6 ++ []
def dkwX0_mostPairs_5 : List UInt8 := [46, 96, 184, 0, 57, 79, 132, 4, 1, 167, 255, 180, 132, 2, 1, 167, 255, 127, 42, 180, 0, 42, 27, 46]
abbrev dktX0_mostPairs_5 : List UInt8 := dkwX0_mostPairs_5 ++ dktX0_mostPairs_6
def dkwX0_mostPairs_4 : List UInt8 := [28, 42, 180, 0, 42, 28, 46, 4, 42, 180, 0, 42, 28, 4, 29, 120, 4, 21, 4, 120, 128, 2, 130, 126]
abbrev dktX0_mostPairs_4 : List UInt8 := dkwX0_mostPairs_4 ++ dktX0_mostPairs_5
def dkwX0_mostPairs_3 : List UInt8 := [160, 0, 54, 42, 180, 0, 20, 180, 0, 107, 29, 46, 21, 4, 122, 4, 126, 154, 0, 37, 42, 180, 0, 42]
abbrev dktX0_mostPairs_3 : List UInt8 := dkwX0_mostPairs_3 ++ dktX0_mostPairs_4
def dkwX0_mostPairs_2 : List UInt8 := [96, 54, 4, 21, 4, 42, 180, 0, 20, 180, 0, 137, 162, 0, 70, 28, 21, 4, 122, 4, 126, 4]
abbrev dktX0_mostPairs_2 : List UInt8 := dkwX0_mostPairs_2 ++ dktX0_mostPairs_3
def dkwX0_mostPairs_1 : List UInt8 := [184, 1, 41, 62, 42, 180, 0, 42, 28, 42, 180, 0, 42, 28, 4, 29, 120, 2, 130, 126, 46, 79, 29, 4]
abbrev dktX0_mostPairs_1 : List UInt8 := dkwX0_mostPairs_1 ++ dktX0_mostPairs_2
def dkwX0_mostPairs_0 : List UInt8 := [3, 61, 28, 27, 163, 0, 130, 42, 180, 0, 42, 28, 3, 79, 28, 154, 0, 6, 167, 0, 110, 28]
abbrev dktX0_mostPairs_0 : List UInt8 := dkwX0_mostPairs_0 ++ dktX0_mostPairs_1
theorem dksX0_mostPairs_0 : cX0_mostPairs.data.toList.drop 0 = dktX0_mostPairs_0 := by decide +kernel
theorem dksX0_mostPairs_1 : cX0_mostPairs.data.toList.drop 22 = dktX0_mostPairs_1 := dk_seg dksX0_mostPairs_0 22 rfl rfl
theorem dksX0_mostPairs_2 : cX0_mostPairs.data.toList.drop 46 = dktX0_mostPairs_2 := dk_seg dksX0_mostPairs_1 24 rfl rfl
theorem dksX0_mostPairs_3 : cX0_mostPairs.data.toList.drop 68 = dktX0_mostPairs_3 := dk_seg dksX0_mostPairs_2 22 rfl rfl
theorem dksX0_mostPairs_4 : cX0_mostPairs.data.toList.drop 92 = dktX0_mostPairs_4 := dk_seg dksX0_mostPairs_3 24 rfl rfl
theorem dksX0_mostPairs_5 : cX0_mostPairs.data.toList.drop 116 = dktX0_mostPairs_5 := dk_seg dksX0_mostPairs_4 24 rfl rfl
theorem dksX0_mostPairs_6 : cX0_mostPairs.data.toList.drop 140 = dktX0_mostPairs_6 := dk_seg dksX0_mostPairs_5 24 rfl rfl
theorem dX0_mostPairs_0 : decode cX0_mostPairs 0 = .ok (.iconst 0, 1) := dk_3 (dk_at dksX0_mostPairs_0 0 rfl rfl)
theorem dX0_mostPairs_1 : decode cX0_mostPairs 1 = .ok (.istore_n 2, 1) := dk_61 (dk_at dksX0_mostPairs_0 1 rfl rfl)
theorem dX0_mostPairs_2 : decode cX0_mostPairs 2 = .ok (.iload_n 2, 1) := dk_28 (dk_at dksX0_mostPairs_0 2 rfl rfl)
theorem dX0_mostPairs_3 : decode cX0_mostPairs 3 = .ok (.iload_n 1, 1) := dk_27 (dk_at dksX0_mostPairs_0 3 rfl rfl)
theorem dX0_mostPairs_4 : decode cX0_mostPairs 4 = .ok (.if_icmp .gt 130, 3) := dk_163 0 130 (dk_at dksX0_mostPairs_0 4 rfl rfl)
theorem dX0_mostPairs_7 : decode cX0_mostPairs 7 = .ok (.aload_n 0, 1) := dk_42 (dk_at dksX0_mostPairs_0 7 rfl rfl)
theorem dX0_mostPairs_8 : decode cX0_mostPairs 8 = .ok (.getfield 42, 3) := dk_180 0 42 (dk_at dksX0_mostPairs_0 8 rfl rfl)
theorem dX0_mostPairs_11 : decode cX0_mostPairs 11 = .ok (.iload_n 2, 1) := dk_28 (dk_at dksX0_mostPairs_0 11 rfl rfl)
theorem dX0_mostPairs_12 : decode cX0_mostPairs 12 = .ok (.iconst 0, 1) := dk_3 (dk_at dksX0_mostPairs_0 12 rfl rfl)
theorem dX0_mostPairs_13 : decode cX0_mostPairs 13 = .ok (.iastore, 1) := dk_79 (dk_at dksX0_mostPairs_0 13 rfl rfl)
theorem dX0_mostPairs_14 : decode cX0_mostPairs 14 = .ok (.iload_n 2, 1) := dk_28 (dk_at dksX0_mostPairs_0 14 rfl rfl)
theorem dX0_mostPairs_15 : decode cX0_mostPairs 15 = .ok (.ifCond .ne 6, 3) := dk_154 0 6 (dk_at dksX0_mostPairs_0 15 rfl rfl)
theorem dX0_mostPairs_18 : decode cX0_mostPairs 18 = .ok (.goto 110, 3) := dk_167 0 110 (dk_at dksX0_mostPairs_0 18 rfl rfl)
theorem dX0_mostPairs_21 : decode cX0_mostPairs 21 = .ok (.iload_n 2, 1) := dk_28 (dk_at dksX0_mostPairs_0 21 rfl rfl)
theorem dX0_mostPairs_22 : decode cX0_mostPairs 22 = .ok (.invokestatic 297, 3) := dk_184 1 41 (dk_at dksX0_mostPairs_1 0 rfl rfl)
theorem dX0_mostPairs_25 : decode cX0_mostPairs 25 = .ok (.istore_n 3, 1) := dk_62 (dk_at dksX0_mostPairs_1 3 rfl rfl)
theorem dX0_mostPairs_26 : decode cX0_mostPairs 26 = .ok (.aload_n 0, 1) := dk_42 (dk_at dksX0_mostPairs_1 4 rfl rfl)
theorem dX0_mostPairs_27 : decode cX0_mostPairs 27 = .ok (.getfield 42, 3) := dk_180 0 42 (dk_at dksX0_mostPairs_1 5 rfl rfl)
theorem dX0_mostPairs_30 : decode cX0_mostPairs 30 = .ok (.iload_n 2, 1) := dk_28 (dk_at dksX0_mostPairs_1 8 rfl rfl)
theorem dX0_mostPairs_31 : decode cX0_mostPairs 31 = .ok (.aload_n 0, 1) := dk_42 (dk_at dksX0_mostPairs_1 9 rfl rfl)
theorem dX0_mostPairs_32 : decode cX0_mostPairs 32 = .ok (.getfield 42, 3) := dk_180 0 42 (dk_at dksX0_mostPairs_1 10 rfl rfl)
theorem dX0_mostPairs_35 : decode cX0_mostPairs 35 = .ok (.iload_n 2, 1) := dk_28 (dk_at dksX0_mostPairs_1 13 rfl rfl)
theorem dX0_mostPairs_36 : decode cX0_mostPairs 36 = .ok (.iconst 1, 1) := dk_4 (dk_at dksX0_mostPairs_1 14 rfl rfl)
theorem dX0_mostPairs_37 : decode cX0_mostPairs 37 = .ok (.iload_n 3, 1) := dk_29 (dk_at dksX0_mostPairs_1 15 rfl rfl)
theorem dX0_mostPairs_38 : decode cX0_mostPairs 38 = .ok (.ishl, 1) := dk_120 (dk_at dksX0_mostPairs_1 16 rfl rfl)
theorem dX0_mostPairs_39 : decode cX0_mostPairs 39 = .ok (.iconst (-1), 1) := dk_2 (dk_at dksX0_mostPairs_1 17 rfl rfl)
theorem dX0_mostPairs_40 : decode cX0_mostPairs 40 = .ok (.ixor, 1) := dk_130 (dk_at dksX0_mostPairs_1 18 rfl rfl)
theorem dX0_mostPairs_41 : decode cX0_mostPairs 41 = .ok (.iand, 1) := dk_126 (dk_at dksX0_mostPairs_1 19 rfl rfl)
theorem dX0_mostPairs_42 : decode cX0_mostPairs 42 = .ok (.iaload, 1) := dk_46 (dk_at dksX0_mostPairs_1 20 rfl rfl)
theorem dX0_mostPairs_43 : decode cX0_mostPairs 43 = .ok (.iastore, 1) := dk_79 (dk_at dksX0_mostPairs_1 21 rfl rfl)
theorem dX0_mostPairs_44 : decode cX0_mostPairs 44 = .ok (.iload_n 3, 1) := dk_29 (dk_at dksX0_mostPairs_1 22 rfl rfl)
theorem dX0_mostPairs_45 : decode cX0_mostPairs 45 = .ok (.iconst 1, 1) := dk_4 (dk_at dksX0_mostPairs_1 23 rfl rfl)
theorem dX0_mostPairs_46 : decode cX0_mostPairs 46 = .ok (.iadd, 1) := dk_96 (dk_at dksX0_mostPairs_2 0 rfl rfl)
theorem dX0_mostPairs_47 : decode cX0_mostPairs 47 = .ok (.istore 4, 2) := dk_54 4 (dk_at dksX0_mostPairs_2 1 rfl rfl)
theorem dX0_mostPairs_49 : decode cX0_mostPairs 49 = .ok (.iload 4, 2) := dk_21 4 (dk_at dksX0_mostPairs_2 3 rfl rfl)
theorem dX0_mostPairs_51 : decode cX0_mostPairs 51 = .ok (.aload_n 0, 1) := dk_42 (dk_at dksX0_mostPairs_2 5 rfl rfl)
theorem dX0_mostPairs_52 : decode cX0_mostPairs 52 = .ok (.getfield 20, 3) := dk_180 0 20 (dk_at dksX0_mostPairs_2 6 rfl rfl)
theorem dX0_mostPairs_55 : decode cX0_mostPairs 55 = .ok (.getfield 137, 3) := dk_180 0 137 (dk_at dksX0_mostPairs_2 9 rfl rfl)
theorem dX0_mostPairs_58 : decode cX0_mostPairs 58 = .ok (.if_icmp .ge 70, 3) := dk_162 0 70 (dk_at dksX0_mostPairs_2 12 rfl rfl)
theorem dX0_mostPairs_61 : decode cX0_mostPairs 61 = .ok (.iload_n 2, 1) := dk_28 (dk_at dksX0_mostPairs_2 15 rfl rfl)
theorem dX0_mostPairs_62 : decode cX0_mostPairs 62 = .ok (.iload 4, 2) := dk_21 4 (dk_at dksX0_mostPairs_2 16 rfl rfl)
theorem dX0_mostPairs_64 : decode cX0_mostPairs 64 = .ok (.ishr, 1) := dk_122 (dk_at dksX0_mostPairs_2 18 rfl rfl)
theorem dX0_mostPairs_65 : decode cX0_mostPairs 65 = .ok (.iconst 1, 1) := dk_4 (dk_at dksX0_mostPairs_2 19 rfl rfl)
theorem dX0_mostPairs_66 : decode cX0_mostPairs 66 = .ok (.iand, 1) := dk_126 (dk_at dksX0_mostPairs_2 20 rfl rfl)
theorem dX0_mostPairs_67 : decode cX0_mostPairs 67 = .ok (.iconst 1, 1) := dk_4 (dk_at dksX0_mostPairs_2 21 rfl rfl)
theorem dX0_mostPairs_68 : decode cX0_mostPairs 68 = .ok (.if_icmp .ne 54, 3) := dk_160 0 54 (dk_at dksX0_mostPairs_3 0 rfl rfl)
theorem dX0_mostPairs_71 : decode cX0_mostPairs 71 = .ok (.aload_n 0, 1) := dk_42 (dk_at dksX0_mostPairs_3 3 rfl rfl)
theorem dX0_mostPairs_72 : decode cX0_mostPairs 72 = .ok (.getfield 20, 3) := dk_180 0 20 (dk_at dksX0_mostPairs_3 4 rfl rfl)
theorem dX0_mostPairs_75 : decode cX0_mostPairs 75 = .ok (.getfield 107, 3) := dk_180 0 107 (dk_at dksX0_mostPairs_3 7 rfl rfl)
theorem dX0_mostPairs_78 : decode cX0_mostPairs 78 = .ok (.iload_n 3, 1) := dk_29 (dk_at dksX0_mostPairs_3 10 rfl rfl)
theorem dX0_mostPairs_79 : decode cX0_mostPairs 79 = .ok (.iaload, 1) := dk_46 (dk_at dksX0_mostPairs_3 11 rfl rfl)
theorem dX0_mostPairs_80 : decode cX0_mostPairs 80 = .ok (.iload 4, 2) := dk_21 4 (dk_at dksX0_mostPairs_3 12 rfl rfl)
theorem dX0_mostPairs_82 : decode cX0_mostPairs 82 = .ok (.ishr, 1) := dk_122 (dk_at dksX0_mostPairs_3 14 rfl rfl)
theorem dX0_mostPairs_83 : decode cX0_mostPairs 83 = .ok (.iconst 1, 1) := dk_4 (dk_at dksX0_mostPairs_3 15 rfl rfl)
theorem dX0_mostPairs_84 : decode cX0_mostPairs 84 = .ok (.iand, 1) := dk_126 (dk_at dksX0_mostPairs_3 16 rfl rfl)
theorem dX0_mostPairs_85 : decode cX0_mostPairs 85 = .ok (.ifCond .ne 37, 3) := dk_154 0 37 (dk_at dksX0_mostPairs_3 17 rfl rfl)
theorem dX0_mostPairs_88 : decode cX0_mostPairs 88 = .ok (.aload_n 0, 1) := dk_42 (dk_at dksX0_mostPairs_3 20 rfl rfl)
theorem dX0_mostPairs_89 : decode cX0_mostPairs 89 = .ok (.getfield 42, 3) := dk_180 0 42 (dk_at dksX0_mostPairs_3 21 rfl rfl)
theorem dX0_mostPairs_92 : decode cX0_mostPairs 92 = .ok (.iload_n 2, 1) := dk_28 (dk_at dksX0_mostPairs_4 0 rfl rfl)
theorem dX0_mostPairs_93 : decode cX0_mostPairs 93 = .ok (.aload_n 0, 1) := dk_42 (dk_at dksX0_mostPairs_4 1 rfl rfl)
theorem dX0_mostPairs_94 : decode cX0_mostPairs 94 = .ok (.getfield 42, 3) := dk_180 0 42 (dk_at dksX0_mostPairs_4 2 rfl rfl)
theorem dX0_mostPairs_97 : decode cX0_mostPairs 97 = .ok (.iload_n 2, 1) := dk_28 (dk_at dksX0_mostPairs_4 5 rfl rfl)
theorem dX0_mostPairs_98 : decode cX0_mostPairs 98 = .ok (.iaload, 1) := dk_46 (dk_at dksX0_mostPairs_4 6 rfl rfl)
theorem dX0_mostPairs_99 : decode cX0_mostPairs 99 = .ok (.iconst 1, 1) := dk_4 (dk_at dksX0_mostPairs_4 7 rfl rfl)
theorem dX0_mostPairs_100 : decode cX0_mostPairs 100 = .ok (.aload_n 0, 1) := dk_42 (dk_at dksX0_mostPairs_4 8 rfl rfl)
theorem dX0_mostPairs_101 : decode cX0_mostPairs 101 = .ok (.getfield 42, 3) := dk_180 0 42 (dk_at dksX0_mostPairs_4 9 rfl rfl)
theorem dX0_mostPairs_104 : decode cX0_mostPairs 104 = .ok (.iload_n 2, 1) := dk_28 (dk_at dksX0_mostPairs_4 12 rfl rfl)
theorem dX0_mostPairs_105 : decode cX0_mostPairs 105 = .ok (.iconst 1, 1) := dk_4 (dk_at dksX0_mostPairs_4 13 rfl rfl)
theorem dX0_mostPairs_106 : decode cX0_mostPairs 106 = .ok (.iload_n 3, 1) := dk_29 (dk_at dksX0_mostPairs_4 14 rfl rfl)
theorem dX0_mostPairs_107 : decode cX0_mostPairs 107 = .ok (.ishl, 1) := dk_120 (dk_at dksX0_mostPairs_4 15 rfl rfl)
theorem dX0_mostPairs_108 : decode cX0_mostPairs 108 = .ok (.iconst 1, 1) := dk_4 (dk_at dksX0_mostPairs_4 16 rfl rfl)
theorem dX0_mostPairs_109 : decode cX0_mostPairs 109 = .ok (.iload 4, 2) := dk_21 4 (dk_at dksX0_mostPairs_4 17 rfl rfl)
theorem dX0_mostPairs_111 : decode cX0_mostPairs 111 = .ok (.ishl, 1) := dk_120 (dk_at dksX0_mostPairs_4 19 rfl rfl)
theorem dX0_mostPairs_112 : decode cX0_mostPairs 112 = .ok (.ior, 1) := dk_128 (dk_at dksX0_mostPairs_4 20 rfl rfl)
theorem dX0_mostPairs_113 : decode cX0_mostPairs 113 = .ok (.iconst (-1), 1) := dk_2 (dk_at dksX0_mostPairs_4 21 rfl rfl)
theorem dX0_mostPairs_114 : decode cX0_mostPairs 114 = .ok (.ixor, 1) := dk_130 (dk_at dksX0_mostPairs_4 22 rfl rfl)
theorem dX0_mostPairs_115 : decode cX0_mostPairs 115 = .ok (.iand, 1) := dk_126 (dk_at dksX0_mostPairs_4 23 rfl rfl)
theorem dX0_mostPairs_116 : decode cX0_mostPairs 116 = .ok (.iaload, 1) := dk_46 (dk_at dksX0_mostPairs_5 0 rfl rfl)
theorem dX0_mostPairs_117 : decode cX0_mostPairs 117 = .ok (.iadd, 1) := dk_96 (dk_at dksX0_mostPairs_5 1 rfl rfl)
theorem dX0_mostPairs_118 : decode cX0_mostPairs 118 = .ok (.invokestatic 57, 3) := dk_184 0 57 (dk_at dksX0_mostPairs_5 2 rfl rfl)
theorem dX0_mostPairs_121 : decode cX0_mostPairs 121 = .ok (.iastore, 1) := dk_79 (dk_at dksX0_mostPairs_5 5 rfl rfl)
theorem dX0_mostPairs_122 : decode cX0_mostPairs 122 = .ok (.iinc 4 1, 3) := dk_132 4 1 (dk_at dksX0_mostPairs_5 6 rfl rfl)
theorem dX0_mostPairs_125 : decode cX0_mostPairs 125 = .ok (.goto (-76), 3) := dk_167 255 180 (dk_at dksX0_mostPairs_5 9 rfl rfl)
theorem dX0_mostPairs_128 : decode cX0_mostPairs 128 = .ok (.iinc 2 1, 3) := dk_132 2 1 (dk_at dksX0_mostPairs_5 12 rfl rfl)
theorem dX0_mostPairs_131 : decode cX0_mostPairs 131 = .ok (.goto (-129), 3) := dk_167 255 127 (dk_at dksX0_mostPairs_5 15 rfl rfl)
theorem dX0_mostPairs_134 : decode cX0_mostPairs 134 = .ok (.aload_n 0, 1) := dk_42 (dk_at dksX0_mostPairs_5 18 rfl rfl)
theorem dX0_mostPairs_135 : decode cX0_mostPairs 135 = .ok (.getfield 42, 3) := dk_180 0 42 (dk_at dksX0_mostPairs_5 19 rfl rfl)
theorem dX0_mostPairs_138 : decode cX0_mostPairs 138 = .ok (.iload_n 1, 1) := dk_27 (dk_at dksX0_mostPairs_5 22 rfl rfl)
theorem dX0_mostPairs_139 : decode cX0_mostPairs 139 = .ok (.iaload, 1) := dk_46 (dk_at dksX0_mostPairs_5 23 rfl rfl)
theorem dX0_mostPairs_140 : decode cX0_mostPairs 140 = .ok (.ireturn, 1) := dk_172 (dk_at dksX0_mostPairs_6 0 rfl rfl)
abbrev cX0_partner : ByteArray := prog_1_method_43_code
def yX0_partner : MethodName := ⟨RX0, "partner", "(I)I"⟩
def dkwX0_partner_3 : List UInt8 := [160, 0, 5, 29, 172, 132, 3, 1, 167, 255, 188, 2, 172]
abbrev dktX0_partner_3 : List UInt8 := dkwX0_partner_3 ++ []
def dkwX0_partner_2 : List UInt8 := [180, 0, 42, 27, 4, 28, 120, 4, 29, 120, 128, 2, 130, 126, 46, 96, 42, 180, 0, 42, 27, 46]
abbrev dktX0_partner_2 : List UInt8 := dkwX0_partner_2 ++ dktX0_partner_3
def dkwX0_partner_1 : List UInt8 := [126, 4, 160, 0, 48, 42, 180, 0, 20, 180, 0, 107, 28, 46, 29, 122, 4, 126, 154, 0, 32, 4, 42]
abbrev dktX0_partner_1 : List UInt8 := dkwX0_partner_1 ++ dktX0_partner_2
def dkwX0_partner_0 : List UInt8 := [27, 184, 1, 41, 61, 28, 4, 96, 62, 29, 42, 180, 0, 20, 180, 0, 137, 162, 0, 63, 27, 29, 122, 4]
abbrev dktX0_partner_0 : List UInt8 := dkwX0_partner_0 ++ dktX0_partner_1
theorem dksX0_partner_0 : cX0_partner.data.toList.drop 0 = dktX0_partner_0 := by decide +kernel
theorem dksX0_partner_1 : cX0_partner.data.toList.drop 24 = dktX0_partner_1 := dk_seg dksX0_partner_0 24 rfl rfl
theorem dksX0_partner_2 : cX0_partner.data.toList.drop 47 = dktX0_partner_2 := dk_seg dksX0_partner_1 23 rfl rfl
theorem dksX0_partner_3 : cX0_partner.data.toList.drop 69 = dktX0_partner_3 := dk_seg dksX0_partner_2 22 rfl rfl
theorem dX0_partner_0 : decode cX0_partner 0 = .ok (.iload_n 1, 1) := dk_27 (dk_at dksX0_partner_0 0 rfl rfl)
theorem dX0_partner_1 : decode cX0_partner 1 = .ok (.invokestatic 297, 3) := dk_184 1 41 (dk_at dksX0_partner_0 1 rfl rfl)
theorem dX0_partner_4 : decode cX0_partner 4 = .ok (.istore_n 2, 1) := dk_61 (dk_at dksX0_partner_0 4 rfl rfl)
theorem dX0_partner_5 : decode cX0_partner 5 = .ok (.iload_n 2, 1) := dk_28 (dk_at dksX0_partner_0 5 rfl rfl)
theorem dX0_partner_6 : decode cX0_partner 6 = .ok (.iconst 1, 1) := dk_4 (dk_at dksX0_partner_0 6 rfl rfl)
theorem dX0_partner_7 : decode cX0_partner 7 = .ok (.iadd, 1) := dk_96 (dk_at dksX0_partner_0 7 rfl rfl)
theorem dX0_partner_8 : decode cX0_partner 8 = .ok (.istore_n 3, 1) := dk_62 (dk_at dksX0_partner_0 8 rfl rfl)
theorem dX0_partner_9 : decode cX0_partner 9 = .ok (.iload_n 3, 1) := dk_29 (dk_at dksX0_partner_0 9 rfl rfl)
theorem dX0_partner_10 : decode cX0_partner 10 = .ok (.aload_n 0, 1) := dk_42 (dk_at dksX0_partner_0 10 rfl rfl)
theorem dX0_partner_11 : decode cX0_partner 11 = .ok (.getfield 20, 3) := dk_180 0 20 (dk_at dksX0_partner_0 11 rfl rfl)
theorem dX0_partner_14 : decode cX0_partner 14 = .ok (.getfield 137, 3) := dk_180 0 137 (dk_at dksX0_partner_0 14 rfl rfl)
theorem dX0_partner_17 : decode cX0_partner 17 = .ok (.if_icmp .ge 63, 3) := dk_162 0 63 (dk_at dksX0_partner_0 17 rfl rfl)
theorem dX0_partner_20 : decode cX0_partner 20 = .ok (.iload_n 1, 1) := dk_27 (dk_at dksX0_partner_0 20 rfl rfl)
theorem dX0_partner_21 : decode cX0_partner 21 = .ok (.iload_n 3, 1) := dk_29 (dk_at dksX0_partner_0 21 rfl rfl)
theorem dX0_partner_22 : decode cX0_partner 22 = .ok (.ishr, 1) := dk_122 (dk_at dksX0_partner_0 22 rfl rfl)
theorem dX0_partner_23 : decode cX0_partner 23 = .ok (.iconst 1, 1) := dk_4 (dk_at dksX0_partner_0 23 rfl rfl)
theorem dX0_partner_24 : decode cX0_partner 24 = .ok (.iand, 1) := dk_126 (dk_at dksX0_partner_1 0 rfl rfl)
theorem dX0_partner_25 : decode cX0_partner 25 = .ok (.iconst 1, 1) := dk_4 (dk_at dksX0_partner_1 1 rfl rfl)
theorem dX0_partner_26 : decode cX0_partner 26 = .ok (.if_icmp .ne 48, 3) := dk_160 0 48 (dk_at dksX0_partner_1 2 rfl rfl)
theorem dX0_partner_29 : decode cX0_partner 29 = .ok (.aload_n 0, 1) := dk_42 (dk_at dksX0_partner_1 5 rfl rfl)
theorem dX0_partner_30 : decode cX0_partner 30 = .ok (.getfield 20, 3) := dk_180 0 20 (dk_at dksX0_partner_1 6 rfl rfl)
theorem dX0_partner_33 : decode cX0_partner 33 = .ok (.getfield 107, 3) := dk_180 0 107 (dk_at dksX0_partner_1 9 rfl rfl)
theorem dX0_partner_36 : decode cX0_partner 36 = .ok (.iload_n 2, 1) := dk_28 (dk_at dksX0_partner_1 12 rfl rfl)
theorem dX0_partner_37 : decode cX0_partner 37 = .ok (.iaload, 1) := dk_46 (dk_at dksX0_partner_1 13 rfl rfl)
theorem dX0_partner_38 : decode cX0_partner 38 = .ok (.iload_n 3, 1) := dk_29 (dk_at dksX0_partner_1 14 rfl rfl)
theorem dX0_partner_39 : decode cX0_partner 39 = .ok (.ishr, 1) := dk_122 (dk_at dksX0_partner_1 15 rfl rfl)
theorem dX0_partner_40 : decode cX0_partner 40 = .ok (.iconst 1, 1) := dk_4 (dk_at dksX0_partner_1 16 rfl rfl)
theorem dX0_partner_41 : decode cX0_partner 41 = .ok (.iand, 1) := dk_126 (dk_at dksX0_partner_1 17 rfl rfl)
theorem dX0_partner_42 : decode cX0_partner 42 = .ok (.ifCond .ne 32, 3) := dk_154 0 32 (dk_at dksX0_partner_1 18 rfl rfl)
theorem dX0_partner_45 : decode cX0_partner 45 = .ok (.iconst 1, 1) := dk_4 (dk_at dksX0_partner_1 21 rfl rfl)
theorem dX0_partner_46 : decode cX0_partner 46 = .ok (.aload_n 0, 1) := dk_42 (dk_at dksX0_partner_1 22 rfl rfl)
theorem dX0_partner_47 : decode cX0_partner 47 = .ok (.getfield 42, 3) := dk_180 0 42 (dk_at dksX0_partner_2 0 rfl rfl)
theorem dX0_partner_50 : decode cX0_partner 50 = .ok (.iload_n 1, 1) := dk_27 (dk_at dksX0_partner_2 3 rfl rfl)
theorem dX0_partner_51 : decode cX0_partner 51 = .ok (.iconst 1, 1) := dk_4 (dk_at dksX0_partner_2 4 rfl rfl)
theorem dX0_partner_52 : decode cX0_partner 52 = .ok (.iload_n 2, 1) := dk_28 (dk_at dksX0_partner_2 5 rfl rfl)
theorem dX0_partner_53 : decode cX0_partner 53 = .ok (.ishl, 1) := dk_120 (dk_at dksX0_partner_2 6 rfl rfl)
theorem dX0_partner_54 : decode cX0_partner 54 = .ok (.iconst 1, 1) := dk_4 (dk_at dksX0_partner_2 7 rfl rfl)
theorem dX0_partner_55 : decode cX0_partner 55 = .ok (.iload_n 3, 1) := dk_29 (dk_at dksX0_partner_2 8 rfl rfl)
theorem dX0_partner_56 : decode cX0_partner 56 = .ok (.ishl, 1) := dk_120 (dk_at dksX0_partner_2 9 rfl rfl)
theorem dX0_partner_57 : decode cX0_partner 57 = .ok (.ior, 1) := dk_128 (dk_at dksX0_partner_2 10 rfl rfl)
theorem dX0_partner_58 : decode cX0_partner 58 = .ok (.iconst (-1), 1) := dk_2 (dk_at dksX0_partner_2 11 rfl rfl)
theorem dX0_partner_59 : decode cX0_partner 59 = .ok (.ixor, 1) := dk_130 (dk_at dksX0_partner_2 12 rfl rfl)
theorem dX0_partner_60 : decode cX0_partner 60 = .ok (.iand, 1) := dk_126 (dk_at dksX0_partner_2 13 rfl rfl)
theorem dX0_partner_61 : decode cX0_partner 61 = .ok (.iaload, 1) := dk_46 (dk_at dksX0_partner_2 14 rfl rfl)
theorem dX0_partner_62 : decode cX0_partner 62 = .ok (.iadd, 1) := dk_96 (dk_at dksX0_partner_2 15 rfl rfl)
theorem dX0_partner_63 : decode cX0_partner 63 = .ok (.aload_n 0, 1) := dk_42 (dk_at dksX0_partner_2 16 rfl rfl)
theorem dX0_partner_64 : decode cX0_partner 64 = .ok (.getfield 42, 3) := dk_180 0 42 (dk_at dksX0_partner_2 17 rfl rfl)
theorem dX0_partner_67 : decode cX0_partner 67 = .ok (.iload_n 1, 1) := dk_27 (dk_at dksX0_partner_2 20 rfl rfl)
theorem dX0_partner_68 : decode cX0_partner 68 = .ok (.iaload, 1) := dk_46 (dk_at dksX0_partner_2 21 rfl rfl)
theorem dX0_partner_69 : decode cX0_partner 69 = .ok (.if_icmp .ne 5, 3) := dk_160 0 5 (dk_at dksX0_partner_3 0 rfl rfl)
theorem dX0_partner_72 : decode cX0_partner 72 = .ok (.iload_n 3, 1) := dk_29 (dk_at dksX0_partner_3 3 rfl rfl)
theorem dX0_partner_73 : decode cX0_partner 73 = .ok (.ireturn, 1) := dk_172 (dk_at dksX0_partner_3 4 rfl rfl)
theorem dX0_partner_74 : decode cX0_partner 74 = .ok (.iinc 3 1, 3) := dk_132 3 1 (dk_at dksX0_partner_3 5 rfl rfl)
theorem dX0_partner_77 : decode cX0_partner 77 = .ok (.goto (-68), 3) := dk_167 255 188 (dk_at dksX0_partner_3 8 rfl rfl)
theorem dX0_partner_80 : decode cX0_partner 80 = .ok (.iconst (-1), 1) := dk_2 (dk_at dksX0_partner_3 11 rfl rfl)
theorem dX0_partner_81 : decode cX0_partner 81 = .ok (.ireturn, 1) := dk_172 (dk_at dksX0_partner_3 12 rfl rfl)
abbrev cX0_walk : ByteArray := prog_1_method_48_code
def yX0_walk : MethodName := ⟨RX0, "walk", "(I)I"⟩
def dkwX0_walk_5 : List UInt8 := [4, 172]
abbrev dktX0_walk_5 : List UInt8 := dkwX0_walk_5 ++ []
def dkwX0_walk_4 : List UInt8 := [154, 0, 7, 28, 167, 0, 5, 21, 4, 184, 1, 41, 167, 0, 13, 21, 4, 154, 0, 7, 5, 167, 0, 4]
abbrev dktX0_walk_4 : List UInt8 := dkwX0_walk_4 ++ dktX0_walk_5
def dkwX0_walk_3 : List UInt8 := [21, 5, 154, 0, 13, 27, 154, 0, 7, 3, 167, 0, 4, 2, 172, 27, 4, 160, 0, 20, 21, 4]
abbrev dktX0_walk_3 : List UInt8 := dkwX0_walk_3 ++ dktX0_walk_4
def dkwX0_walk_2 : List UInt8 := [153, 0, 21, 29, 28, 160, 0, 16, 21, 4, 184, 1, 52, 5, 163, 0, 7, 4, 167, 0, 4, 3, 54, 5]
abbrev dktX0_walk_2 : List UInt8 := dkwX0_walk_2 ++ dktX0_walk_3
def dkwX0_walk_1 : List UInt8 := [182, 1, 58, 29, 159, 0, 12, 42, 29, 182, 1, 58, 62, 167, 255, 241, 42, 182, 1, 61, 54, 4, 28]
abbrev dktX0_walk_1 : List UInt8 := dkwX0_walk_1 ++ dktX0_walk_2
def dkwX0_walk_0 : List UInt8 := [27, 3, 4, 184, 0, 67, 154, 0, 5, 2, 172, 42, 182, 1, 55, 61, 28, 28, 116, 126, 62, 42, 29]
abbrev dktX0_walk_0 : List UInt8 := dkwX0_walk_0 ++ dktX0_walk_1
theorem dksX0_walk_0 : cX0_walk.data.toList.drop 0 = dktX0_walk_0 := by decide +kernel
theorem dksX0_walk_1 : cX0_walk.data.toList.drop 23 = dktX0_walk_1 := dk_seg dksX0_walk_0 23 rfl rfl
theorem dksX0_walk_2 : cX0_walk.data.toList.drop 46 = dktX0_walk_2 := dk_seg dksX0_walk_1 23 rfl rfl
theorem dksX0_walk_3 : cX0_walk.data.toList.drop 70 = dktX0_walk_3 := dk_seg dksX0_walk_2 24 rfl rfl
theorem dksX0_walk_4 : cX0_walk.data.toList.drop 92 = dktX0_walk_4 := dk_seg dksX0_walk_3 22 rfl rfl
theorem dksX0_walk_5 : cX0_walk.data.toList.drop 116 = dktX0_walk_5 := dk_seg dksX0_walk_4 24 rfl rfl
theorem dX0_walk_0 : decode cX0_walk 0 = .ok (.iload_n 1, 1) := dk_27 (dk_at dksX0_walk_0 0 rfl rfl)
theorem dX0_walk_1 : decode cX0_walk 1 = .ok (.iconst 0, 1) := dk_3 (dk_at dksX0_walk_0 1 rfl rfl)
theorem dX0_walk_2 : decode cX0_walk 2 = .ok (.iconst 1, 1) := dk_4 (dk_at dksX0_walk_0 2 rfl rfl)
theorem dX0_walk_3 : decode cX0_walk 3 = .ok (.invokestatic 67, 3) := dk_184 0 67 (dk_at dksX0_walk_0 3 rfl rfl)
theorem dX0_walk_6 : decode cX0_walk 6 = .ok (.ifCond .ne 5, 3) := dk_154 0 5 (dk_at dksX0_walk_0 6 rfl rfl)
theorem dX0_walk_9 : decode cX0_walk 9 = .ok (.iconst (-1), 1) := dk_2 (dk_at dksX0_walk_0 9 rfl rfl)
theorem dX0_walk_10 : decode cX0_walk 10 = .ok (.ireturn, 1) := dk_172 (dk_at dksX0_walk_0 10 rfl rfl)
theorem dX0_walk_11 : decode cX0_walk 11 = .ok (.aload_n 0, 1) := dk_42 (dk_at dksX0_walk_0 11 rfl rfl)
theorem dX0_walk_12 : decode cX0_walk 12 = .ok (.invokevirtual 311, 3) := dk_182 1 55 (dk_at dksX0_walk_0 12 rfl rfl)
theorem dX0_walk_15 : decode cX0_walk 15 = .ok (.istore_n 2, 1) := dk_61 (dk_at dksX0_walk_0 15 rfl rfl)
theorem dX0_walk_16 : decode cX0_walk 16 = .ok (.iload_n 2, 1) := dk_28 (dk_at dksX0_walk_0 16 rfl rfl)
theorem dX0_walk_17 : decode cX0_walk 17 = .ok (.iload_n 2, 1) := dk_28 (dk_at dksX0_walk_0 17 rfl rfl)
theorem dX0_walk_18 : decode cX0_walk 18 = .ok (.ineg, 1) := dk_116 (dk_at dksX0_walk_0 18 rfl rfl)
theorem dX0_walk_19 : decode cX0_walk 19 = .ok (.iand, 1) := dk_126 (dk_at dksX0_walk_0 19 rfl rfl)
theorem dX0_walk_20 : decode cX0_walk 20 = .ok (.istore_n 3, 1) := dk_62 (dk_at dksX0_walk_0 20 rfl rfl)
theorem dX0_walk_21 : decode cX0_walk 21 = .ok (.aload_n 0, 1) := dk_42 (dk_at dksX0_walk_0 21 rfl rfl)
theorem dX0_walk_22 : decode cX0_walk 22 = .ok (.iload_n 3, 1) := dk_29 (dk_at dksX0_walk_0 22 rfl rfl)
theorem dX0_walk_23 : decode cX0_walk 23 = .ok (.invokevirtual 314, 3) := dk_182 1 58 (dk_at dksX0_walk_1 0 rfl rfl)
theorem dX0_walk_26 : decode cX0_walk 26 = .ok (.iload_n 3, 1) := dk_29 (dk_at dksX0_walk_1 3 rfl rfl)
theorem dX0_walk_27 : decode cX0_walk 27 = .ok (.if_icmp .eq 12, 3) := dk_159 0 12 (dk_at dksX0_walk_1 4 rfl rfl)
theorem dX0_walk_30 : decode cX0_walk 30 = .ok (.aload_n 0, 1) := dk_42 (dk_at dksX0_walk_1 7 rfl rfl)
theorem dX0_walk_31 : decode cX0_walk 31 = .ok (.iload_n 3, 1) := dk_29 (dk_at dksX0_walk_1 8 rfl rfl)
theorem dX0_walk_32 : decode cX0_walk 32 = .ok (.invokevirtual 314, 3) := dk_182 1 58 (dk_at dksX0_walk_1 9 rfl rfl)
theorem dX0_walk_35 : decode cX0_walk 35 = .ok (.istore_n 3, 1) := dk_62 (dk_at dksX0_walk_1 12 rfl rfl)
theorem dX0_walk_36 : decode cX0_walk 36 = .ok (.goto (-15), 3) := dk_167 255 241 (dk_at dksX0_walk_1 13 rfl rfl)
theorem dX0_walk_39 : decode cX0_walk 39 = .ok (.aload_n 0, 1) := dk_42 (dk_at dksX0_walk_1 16 rfl rfl)
theorem dX0_walk_40 : decode cX0_walk 40 = .ok (.invokevirtual 317, 3) := dk_182 1 61 (dk_at dksX0_walk_1 17 rfl rfl)
theorem dX0_walk_43 : decode cX0_walk 43 = .ok (.istore 4, 2) := dk_54 4 (dk_at dksX0_walk_1 20 rfl rfl)
theorem dX0_walk_45 : decode cX0_walk 45 = .ok (.iload_n 2, 1) := dk_28 (dk_at dksX0_walk_1 22 rfl rfl)
theorem dX0_walk_46 : decode cX0_walk 46 = .ok (.ifCond .eq 21, 3) := dk_153 0 21 (dk_at dksX0_walk_2 0 rfl rfl)
theorem dX0_walk_49 : decode cX0_walk 49 = .ok (.iload_n 3, 1) := dk_29 (dk_at dksX0_walk_2 3 rfl rfl)
theorem dX0_walk_50 : decode cX0_walk 50 = .ok (.iload_n 2, 1) := dk_28 (dk_at dksX0_walk_2 4 rfl rfl)
theorem dX0_walk_51 : decode cX0_walk 51 = .ok (.if_icmp .ne 16, 3) := dk_160 0 16 (dk_at dksX0_walk_2 5 rfl rfl)
theorem dX0_walk_54 : decode cX0_walk 54 = .ok (.iload 4, 2) := dk_21 4 (dk_at dksX0_walk_2 8 rfl rfl)
theorem dX0_walk_56 : decode cX0_walk 56 = .ok (.invokestatic 308, 3) := dk_184 1 52 (dk_at dksX0_walk_2 10 rfl rfl)
theorem dX0_walk_59 : decode cX0_walk 59 = .ok (.iconst 2, 1) := dk_5 (dk_at dksX0_walk_2 13 rfl rfl)
theorem dX0_walk_60 : decode cX0_walk 60 = .ok (.if_icmp .gt 7, 3) := dk_163 0 7 (dk_at dksX0_walk_2 14 rfl rfl)
theorem dX0_walk_63 : decode cX0_walk 63 = .ok (.iconst 1, 1) := dk_4 (dk_at dksX0_walk_2 17 rfl rfl)
theorem dX0_walk_64 : decode cX0_walk 64 = .ok (.goto 4, 3) := dk_167 0 4 (dk_at dksX0_walk_2 18 rfl rfl)
theorem dX0_walk_67 : decode cX0_walk 67 = .ok (.iconst 0, 1) := dk_3 (dk_at dksX0_walk_2 21 rfl rfl)
theorem dX0_walk_68 : decode cX0_walk 68 = .ok (.istore 5, 2) := dk_54 5 (dk_at dksX0_walk_2 22 rfl rfl)
theorem dX0_walk_70 : decode cX0_walk 70 = .ok (.iload 5, 2) := dk_21 5 (dk_at dksX0_walk_3 0 rfl rfl)
theorem dX0_walk_72 : decode cX0_walk 72 = .ok (.ifCond .ne 13, 3) := dk_154 0 13 (dk_at dksX0_walk_3 2 rfl rfl)
theorem dX0_walk_75 : decode cX0_walk 75 = .ok (.iload_n 1, 1) := dk_27 (dk_at dksX0_walk_3 5 rfl rfl)
theorem dX0_walk_76 : decode cX0_walk 76 = .ok (.ifCond .ne 7, 3) := dk_154 0 7 (dk_at dksX0_walk_3 6 rfl rfl)
theorem dX0_walk_79 : decode cX0_walk 79 = .ok (.iconst 0, 1) := dk_3 (dk_at dksX0_walk_3 9 rfl rfl)
theorem dX0_walk_80 : decode cX0_walk 80 = .ok (.goto 4, 3) := dk_167 0 4 (dk_at dksX0_walk_3 10 rfl rfl)
theorem dX0_walk_83 : decode cX0_walk 83 = .ok (.iconst (-1), 1) := dk_2 (dk_at dksX0_walk_3 13 rfl rfl)
theorem dX0_walk_84 : decode cX0_walk 84 = .ok (.ireturn, 1) := dk_172 (dk_at dksX0_walk_3 14 rfl rfl)
theorem dX0_walk_85 : decode cX0_walk 85 = .ok (.iload_n 1, 1) := dk_27 (dk_at dksX0_walk_3 15 rfl rfl)
theorem dX0_walk_86 : decode cX0_walk 86 = .ok (.iconst 1, 1) := dk_4 (dk_at dksX0_walk_3 16 rfl rfl)
theorem dX0_walk_87 : decode cX0_walk 87 = .ok (.if_icmp .ne 20, 3) := dk_160 0 20 (dk_at dksX0_walk_3 17 rfl rfl)
theorem dX0_walk_90 : decode cX0_walk 90 = .ok (.iload 4, 2) := dk_21 4 (dk_at dksX0_walk_3 20 rfl rfl)
theorem dX0_walk_92 : decode cX0_walk 92 = .ok (.ifCond .ne 7, 3) := dk_154 0 7 (dk_at dksX0_walk_4 0 rfl rfl)
theorem dX0_walk_95 : decode cX0_walk 95 = .ok (.iload_n 2, 1) := dk_28 (dk_at dksX0_walk_4 3 rfl rfl)
theorem dX0_walk_96 : decode cX0_walk 96 = .ok (.goto 5, 3) := dk_167 0 5 (dk_at dksX0_walk_4 4 rfl rfl)
theorem dX0_walk_99 : decode cX0_walk 99 = .ok (.iload 4, 2) := dk_21 4 (dk_at dksX0_walk_4 7 rfl rfl)
theorem dX0_walk_101 : decode cX0_walk 101 = .ok (.invokestatic 297, 3) := dk_184 1 41 (dk_at dksX0_walk_4 9 rfl rfl)
theorem dX0_walk_104 : decode cX0_walk 104 = .ok (.goto 13, 3) := dk_167 0 13 (dk_at dksX0_walk_4 12 rfl rfl)
theorem dX0_walk_107 : decode cX0_walk 107 = .ok (.iload 4, 2) := dk_21 4 (dk_at dksX0_walk_4 15 rfl rfl)
theorem dX0_walk_109 : decode cX0_walk 109 = .ok (.ifCond .ne 7, 3) := dk_154 0 7 (dk_at dksX0_walk_4 17 rfl rfl)
theorem dX0_walk_112 : decode cX0_walk 112 = .ok (.iconst 2, 1) := dk_5 (dk_at dksX0_walk_4 20 rfl rfl)
theorem dX0_walk_113 : decode cX0_walk 113 = .ok (.goto 4, 3) := dk_167 0 4 (dk_at dksX0_walk_4 21 rfl rfl)
theorem dX0_walk_116 : decode cX0_walk 116 = .ok (.iconst 1, 1) := dk_4 (dk_at dksX0_walk_5 0 rfl rfl)
theorem dX0_walk_117 : decode cX0_walk 117 = .ok (.ireturn, 1) := dk_172 (dk_at dksX0_walk_5 1 rfl rfl)
abbrev cX0_withKin : ByteArray := prog_1_method_46_code
def yX0_withKin : MethodName := ⟨RX0, "withKin", "()I"⟩
def dkwX0_withKin_1 : List UInt8 := [46, 153, 0, 9, 4, 28, 120, 167, 0, 4, 3, 128, 60, 132, 2, 1, 167, 255, 220, 27, 172]
abbrev dktX0_withKin_1 : List UInt8 := dkwX0_withKin_1 ++ []
def dkwX0_withKin_0 : List UInt8 := [3, 60, 3, 61, 28, 42, 180, 0, 20, 180, 0, 137, 162, 0, 31, 27, 42, 180, 0, 20, 180, 0, 107, 28]
abbrev dktX0_withKin_0 : List UInt8 := dkwX0_withKin_0 ++ dktX0_withKin_1
theorem dksX0_withKin_0 : cX0_withKin.data.toList.drop 0 = dktX0_withKin_0 := by decide +kernel
theorem dksX0_withKin_1 : cX0_withKin.data.toList.drop 24 = dktX0_withKin_1 := dk_seg dksX0_withKin_0 24 rfl rfl
theorem dX0_withKin_0 : decode cX0_withKin 0 = .ok (.iconst 0, 1) := dk_3 (dk_at dksX0_withKin_0 0 rfl rfl)
theorem dX0_withKin_1 : decode cX0_withKin 1 = .ok (.istore_n 1, 1) := dk_60 (dk_at dksX0_withKin_0 1 rfl rfl)
theorem dX0_withKin_2 : decode cX0_withKin 2 = .ok (.iconst 0, 1) := dk_3 (dk_at dksX0_withKin_0 2 rfl rfl)
theorem dX0_withKin_3 : decode cX0_withKin 3 = .ok (.istore_n 2, 1) := dk_61 (dk_at dksX0_withKin_0 3 rfl rfl)
theorem dX0_withKin_4 : decode cX0_withKin 4 = .ok (.iload_n 2, 1) := dk_28 (dk_at dksX0_withKin_0 4 rfl rfl)
theorem dX0_withKin_5 : decode cX0_withKin 5 = .ok (.aload_n 0, 1) := dk_42 (dk_at dksX0_withKin_0 5 rfl rfl)
theorem dX0_withKin_6 : decode cX0_withKin 6 = .ok (.getfield 20, 3) := dk_180 0 20 (dk_at dksX0_withKin_0 6 rfl rfl)
theorem dX0_withKin_9 : decode cX0_withKin 9 = .ok (.getfield 137, 3) := dk_180 0 137 (dk_at dksX0_withKin_0 9 rfl rfl)
theorem dX0_withKin_12 : decode cX0_withKin 12 = .ok (.if_icmp .ge 31, 3) := dk_162 0 31 (dk_at dksX0_withKin_0 12 rfl rfl)
theorem dX0_withKin_15 : decode cX0_withKin 15 = .ok (.iload_n 1, 1) := dk_27 (dk_at dksX0_withKin_0 15 rfl rfl)
theorem dX0_withKin_16 : decode cX0_withKin 16 = .ok (.aload_n 0, 1) := dk_42 (dk_at dksX0_withKin_0 16 rfl rfl)
theorem dX0_withKin_17 : decode cX0_withKin 17 = .ok (.getfield 20, 3) := dk_180 0 20 (dk_at dksX0_withKin_0 17 rfl rfl)
theorem dX0_withKin_20 : decode cX0_withKin 20 = .ok (.getfield 107, 3) := dk_180 0 107 (dk_at dksX0_withKin_0 20 rfl rfl)
theorem dX0_withKin_23 : decode cX0_withKin 23 = .ok (.iload_n 2, 1) := dk_28 (dk_at dksX0_withKin_0 23 rfl rfl)
theorem dX0_withKin_24 : decode cX0_withKin 24 = .ok (.iaload, 1) := dk_46 (dk_at dksX0_withKin_1 0 rfl rfl)
theorem dX0_withKin_25 : decode cX0_withKin 25 = .ok (.ifCond .eq 9, 3) := dk_153 0 9 (dk_at dksX0_withKin_1 1 rfl rfl)
theorem dX0_withKin_28 : decode cX0_withKin 28 = .ok (.iconst 1, 1) := dk_4 (dk_at dksX0_withKin_1 4 rfl rfl)
theorem dX0_withKin_29 : decode cX0_withKin 29 = .ok (.iload_n 2, 1) := dk_28 (dk_at dksX0_withKin_1 5 rfl rfl)
theorem dX0_withKin_30 : decode cX0_withKin 30 = .ok (.ishl, 1) := dk_120 (dk_at dksX0_withKin_1 6 rfl rfl)
theorem dX0_withKin_31 : decode cX0_withKin 31 = .ok (.goto 4, 3) := dk_167 0 4 (dk_at dksX0_withKin_1 7 rfl rfl)
theorem dX0_withKin_34 : decode cX0_withKin 34 = .ok (.iconst 0, 1) := dk_3 (dk_at dksX0_withKin_1 10 rfl rfl)
theorem dX0_withKin_35 : decode cX0_withKin 35 = .ok (.ior, 1) := dk_128 (dk_at dksX0_withKin_1 11 rfl rfl)
theorem dX0_withKin_36 : decode cX0_withKin 36 = .ok (.istore_n 1, 1) := dk_60 (dk_at dksX0_withKin_1 12 rfl rfl)
theorem dX0_withKin_37 : decode cX0_withKin 37 = .ok (.iinc 2 1, 3) := dk_132 2 1 (dk_at dksX0_withKin_1 13 rfl rfl)
theorem dX0_withKin_40 : decode cX0_withKin 40 = .ok (.goto (-36), 3) := dk_167 255 220 (dk_at dksX0_withKin_1 16 rfl rfl)
theorem dX0_withKin_43 : decode cX0_withKin 43 = .ok (.iload_n 1, 1) := dk_27 (dk_at dksX0_withKin_1 19 rfl rfl)
theorem dX0_withKin_44 : decode cX0_withKin 44 = .ok (.ireturn, 1) := dk_172 (dk_at dksX0_withKin_1 20 rfl rfl)
abbrev cX0_besideKin : ByteArray := prog_1_method_45_code
def yX0_besideKin : MethodName := ⟨RX0, "besideKin", "(I)I"⟩
def dkwX0_besideKin_2 : List UInt8 := [28, 172]
abbrev dktX0_besideKin_2 : List UInt8 := dkwX0_besideKin_2 ++ []
def dkwX0_besideKin_1 : List UInt8 := [160, 0, 15, 42, 180, 0, 20, 180, 0, 107, 29, 46, 167, 0, 4, 3, 128, 61, 132, 3, 1, 167, 255, 217]
abbrev dktX0_besideKin_1 : List UInt8 := dkwX0_besideKin_1 ++ dktX0_besideKin_2
def dkwX0_besideKin_0 : List UInt8 := [27, 61, 3, 62, 29, 42, 180, 0, 20, 180, 0, 137, 162, 0, 34, 28, 27, 29, 122, 4, 126, 4]
abbrev dktX0_besideKin_0 : List UInt8 := dkwX0_besideKin_0 ++ dktX0_besideKin_1
theorem dksX0_besideKin_0 : cX0_besideKin.data.toList.drop 0 = dktX0_besideKin_0 := by decide +kernel
theorem dksX0_besideKin_1 : cX0_besideKin.data.toList.drop 22 = dktX0_besideKin_1 := dk_seg dksX0_besideKin_0 22 rfl rfl
theorem dksX0_besideKin_2 : cX0_besideKin.data.toList.drop 46 = dktX0_besideKin_2 := dk_seg dksX0_besideKin_1 24 rfl rfl
theorem dX0_besideKin_0 : decode cX0_besideKin 0 = .ok (.iload_n 1, 1) := dk_27 (dk_at dksX0_besideKin_0 0 rfl rfl)
theorem dX0_besideKin_1 : decode cX0_besideKin 1 = .ok (.istore_n 2, 1) := dk_61 (dk_at dksX0_besideKin_0 1 rfl rfl)
theorem dX0_besideKin_2 : decode cX0_besideKin 2 = .ok (.iconst 0, 1) := dk_3 (dk_at dksX0_besideKin_0 2 rfl rfl)
theorem dX0_besideKin_3 : decode cX0_besideKin 3 = .ok (.istore_n 3, 1) := dk_62 (dk_at dksX0_besideKin_0 3 rfl rfl)
theorem dX0_besideKin_4 : decode cX0_besideKin 4 = .ok (.iload_n 3, 1) := dk_29 (dk_at dksX0_besideKin_0 4 rfl rfl)
theorem dX0_besideKin_5 : decode cX0_besideKin 5 = .ok (.aload_n 0, 1) := dk_42 (dk_at dksX0_besideKin_0 5 rfl rfl)
theorem dX0_besideKin_6 : decode cX0_besideKin 6 = .ok (.getfield 20, 3) := dk_180 0 20 (dk_at dksX0_besideKin_0 6 rfl rfl)
theorem dX0_besideKin_9 : decode cX0_besideKin 9 = .ok (.getfield 137, 3) := dk_180 0 137 (dk_at dksX0_besideKin_0 9 rfl rfl)
theorem dX0_besideKin_12 : decode cX0_besideKin 12 = .ok (.if_icmp .ge 34, 3) := dk_162 0 34 (dk_at dksX0_besideKin_0 12 rfl rfl)
theorem dX0_besideKin_15 : decode cX0_besideKin 15 = .ok (.iload_n 2, 1) := dk_28 (dk_at dksX0_besideKin_0 15 rfl rfl)
theorem dX0_besideKin_16 : decode cX0_besideKin 16 = .ok (.iload_n 1, 1) := dk_27 (dk_at dksX0_besideKin_0 16 rfl rfl)
theorem dX0_besideKin_17 : decode cX0_besideKin 17 = .ok (.iload_n 3, 1) := dk_29 (dk_at dksX0_besideKin_0 17 rfl rfl)
theorem dX0_besideKin_18 : decode cX0_besideKin 18 = .ok (.ishr, 1) := dk_122 (dk_at dksX0_besideKin_0 18 rfl rfl)
theorem dX0_besideKin_19 : decode cX0_besideKin 19 = .ok (.iconst 1, 1) := dk_4 (dk_at dksX0_besideKin_0 19 rfl rfl)
theorem dX0_besideKin_20 : decode cX0_besideKin 20 = .ok (.iand, 1) := dk_126 (dk_at dksX0_besideKin_0 20 rfl rfl)
theorem dX0_besideKin_21 : decode cX0_besideKin 21 = .ok (.iconst 1, 1) := dk_4 (dk_at dksX0_besideKin_0 21 rfl rfl)
theorem dX0_besideKin_22 : decode cX0_besideKin 22 = .ok (.if_icmp .ne 15, 3) := dk_160 0 15 (dk_at dksX0_besideKin_1 0 rfl rfl)
theorem dX0_besideKin_25 : decode cX0_besideKin 25 = .ok (.aload_n 0, 1) := dk_42 (dk_at dksX0_besideKin_1 3 rfl rfl)
theorem dX0_besideKin_26 : decode cX0_besideKin 26 = .ok (.getfield 20, 3) := dk_180 0 20 (dk_at dksX0_besideKin_1 4 rfl rfl)
theorem dX0_besideKin_29 : decode cX0_besideKin 29 = .ok (.getfield 107, 3) := dk_180 0 107 (dk_at dksX0_besideKin_1 7 rfl rfl)
theorem dX0_besideKin_32 : decode cX0_besideKin 32 = .ok (.iload_n 3, 1) := dk_29 (dk_at dksX0_besideKin_1 10 rfl rfl)
theorem dX0_besideKin_33 : decode cX0_besideKin 33 = .ok (.iaload, 1) := dk_46 (dk_at dksX0_besideKin_1 11 rfl rfl)
theorem dX0_besideKin_34 : decode cX0_besideKin 34 = .ok (.goto 4, 3) := dk_167 0 4 (dk_at dksX0_besideKin_1 12 rfl rfl)
theorem dX0_besideKin_37 : decode cX0_besideKin 37 = .ok (.iconst 0, 1) := dk_3 (dk_at dksX0_besideKin_1 15 rfl rfl)
theorem dX0_besideKin_38 : decode cX0_besideKin 38 = .ok (.ior, 1) := dk_128 (dk_at dksX0_besideKin_1 16 rfl rfl)
theorem dX0_besideKin_39 : decode cX0_besideKin 39 = .ok (.istore_n 2, 1) := dk_61 (dk_at dksX0_besideKin_1 17 rfl rfl)
theorem dX0_besideKin_40 : decode cX0_besideKin 40 = .ok (.iinc 3 1, 3) := dk_132 3 1 (dk_at dksX0_besideKin_1 18 rfl rfl)
theorem dX0_besideKin_43 : decode cX0_besideKin 43 = .ok (.goto (-39), 3) := dk_167 255 217 (dk_at dksX0_besideKin_1 21 rfl rfl)
theorem dX0_besideKin_46 : decode cX0_besideKin 46 = .ok (.iload_n 2, 1) := dk_28 (dk_at dksX0_besideKin_2 0 rfl rfl)
theorem dX0_besideKin_47 : decode cX0_besideKin 47 = .ok (.ireturn, 1) := dk_172 (dk_at dksX0_besideKin_2 1 rfl rfl)
abbrev cX0_oddKin : ByteArray := prog_1_method_47_code
def yX0_oddKin : MethodName := ⟨RX0, "oddKin", "()I"⟩
def dkwX0_oddKin_2 : List UInt8 := [167, 255, 214, 27, 172]
abbrev dktX0_oddKin_2 : List UInt8 := dkwX0_oddKin_2 ++ []
def dkwX0_oddKin_1 : List UInt8 := [46, 184, 1, 52, 5, 112, 4, 160, 0, 9, 4, 28, 120, 167, 0, 4, 3, 128, 60, 132, 2, 1]
abbrev dktX0_oddKin_1 : List UInt8 := dkwX0_oddKin_1 ++ dktX0_oddKin_2
def dkwX0_oddKin_0 : List UInt8 := [3, 60, 3, 61, 28, 42, 180, 0, 20, 180, 0, 137, 162, 0, 37, 27, 42, 180, 0, 20, 180, 0, 107, 28]
abbrev dktX0_oddKin_0 : List UInt8 := dkwX0_oddKin_0 ++ dktX0_oddKin_1
theorem dksX0_oddKin_0 : cX0_oddKin.data.toList.drop 0 = dktX0_oddKin_0 := by decide +kernel
theorem dksX0_oddKin_1 : cX0_oddKin.data.toList.drop 24 = dktX0_oddKin_1 := dk_seg dksX0_oddKin_0 24 rfl rfl
theorem dksX0_oddKin_2 : cX0_oddKin.data.toList.drop 46 = dktX0_oddKin_2 := dk_seg dksX0_oddKin_1 22 rfl rfl
theorem dX0_oddKin_0 : decode cX0_oddKin 0 = .ok (.iconst 0, 1) := dk_3 (dk_at dksX0_oddKin_0 0 rfl rfl)
theorem dX0_oddKin_1 : decode cX0_oddKin 1 = .ok (.istore_n 1, 1) := dk_60 (dk_at dksX0_oddKin_0 1 rfl rfl)
theorem dX0_oddKin_2 : decode cX0_oddKin 2 = .ok (.iconst 0, 1) := dk_3 (dk_at dksX0_oddKin_0 2 rfl rfl)
theorem dX0_oddKin_3 : decode cX0_oddKin 3 = .ok (.istore_n 2, 1) := dk_61 (dk_at dksX0_oddKin_0 3 rfl rfl)
theorem dX0_oddKin_4 : decode cX0_oddKin 4 = .ok (.iload_n 2, 1) := dk_28 (dk_at dksX0_oddKin_0 4 rfl rfl)
theorem dX0_oddKin_5 : decode cX0_oddKin 5 = .ok (.aload_n 0, 1) := dk_42 (dk_at dksX0_oddKin_0 5 rfl rfl)
theorem dX0_oddKin_6 : decode cX0_oddKin 6 = .ok (.getfield 20, 3) := dk_180 0 20 (dk_at dksX0_oddKin_0 6 rfl rfl)
theorem dX0_oddKin_9 : decode cX0_oddKin 9 = .ok (.getfield 137, 3) := dk_180 0 137 (dk_at dksX0_oddKin_0 9 rfl rfl)
theorem dX0_oddKin_12 : decode cX0_oddKin 12 = .ok (.if_icmp .ge 37, 3) := dk_162 0 37 (dk_at dksX0_oddKin_0 12 rfl rfl)
theorem dX0_oddKin_15 : decode cX0_oddKin 15 = .ok (.iload_n 1, 1) := dk_27 (dk_at dksX0_oddKin_0 15 rfl rfl)
theorem dX0_oddKin_16 : decode cX0_oddKin 16 = .ok (.aload_n 0, 1) := dk_42 (dk_at dksX0_oddKin_0 16 rfl rfl)
theorem dX0_oddKin_17 : decode cX0_oddKin 17 = .ok (.getfield 20, 3) := dk_180 0 20 (dk_at dksX0_oddKin_0 17 rfl rfl)
theorem dX0_oddKin_20 : decode cX0_oddKin 20 = .ok (.getfield 107, 3) := dk_180 0 107 (dk_at dksX0_oddKin_0 20 rfl rfl)
theorem dX0_oddKin_23 : decode cX0_oddKin 23 = .ok (.iload_n 2, 1) := dk_28 (dk_at dksX0_oddKin_0 23 rfl rfl)
theorem dX0_oddKin_24 : decode cX0_oddKin 24 = .ok (.iaload, 1) := dk_46 (dk_at dksX0_oddKin_1 0 rfl rfl)
theorem dX0_oddKin_25 : decode cX0_oddKin 25 = .ok (.invokestatic 308, 3) := dk_184 1 52 (dk_at dksX0_oddKin_1 1 rfl rfl)
theorem dX0_oddKin_28 : decode cX0_oddKin 28 = .ok (.iconst 2, 1) := dk_5 (dk_at dksX0_oddKin_1 4 rfl rfl)
theorem dX0_oddKin_29 : decode cX0_oddKin 29 = .ok (.irem, 1) := dk_112 (dk_at dksX0_oddKin_1 5 rfl rfl)
theorem dX0_oddKin_30 : decode cX0_oddKin 30 = .ok (.iconst 1, 1) := dk_4 (dk_at dksX0_oddKin_1 6 rfl rfl)
theorem dX0_oddKin_31 : decode cX0_oddKin 31 = .ok (.if_icmp .ne 9, 3) := dk_160 0 9 (dk_at dksX0_oddKin_1 7 rfl rfl)
theorem dX0_oddKin_34 : decode cX0_oddKin 34 = .ok (.iconst 1, 1) := dk_4 (dk_at dksX0_oddKin_1 10 rfl rfl)
theorem dX0_oddKin_35 : decode cX0_oddKin 35 = .ok (.iload_n 2, 1) := dk_28 (dk_at dksX0_oddKin_1 11 rfl rfl)
theorem dX0_oddKin_36 : decode cX0_oddKin 36 = .ok (.ishl, 1) := dk_120 (dk_at dksX0_oddKin_1 12 rfl rfl)
theorem dX0_oddKin_37 : decode cX0_oddKin 37 = .ok (.goto 4, 3) := dk_167 0 4 (dk_at dksX0_oddKin_1 13 rfl rfl)
theorem dX0_oddKin_40 : decode cX0_oddKin 40 = .ok (.iconst 0, 1) := dk_3 (dk_at dksX0_oddKin_1 16 rfl rfl)
theorem dX0_oddKin_41 : decode cX0_oddKin 41 = .ok (.ior, 1) := dk_128 (dk_at dksX0_oddKin_1 17 rfl rfl)
theorem dX0_oddKin_42 : decode cX0_oddKin 42 = .ok (.istore_n 1, 1) := dk_60 (dk_at dksX0_oddKin_1 18 rfl rfl)
theorem dX0_oddKin_43 : decode cX0_oddKin 43 = .ok (.iinc 2 1, 3) := dk_132 2 1 (dk_at dksX0_oddKin_1 19 rfl rfl)
theorem dX0_oddKin_46 : decode cX0_oddKin 46 = .ok (.goto (-42), 3) := dk_167 255 214 (dk_at dksX0_oddKin_2 0 rfl rfl)
theorem dX0_oddKin_49 : decode cX0_oddKin 49 = .ok (.iload_n 1, 1) := dk_27 (dk_at dksX0_oddKin_2 3 rfl rfl)
theorem dX0_oddKin_50 : decode cX0_oddKin 50 = .ok (.ireturn, 1) := dk_172 (dk_at dksX0_oddKin_2 4 rfl rfl)
abbrev cX0_cold : ByteArray := prog_1_method_49_code
def yX0_cold : MethodName := ⟨RX0, "cold", "(II)I"⟩
def dkwX0_cold_3 : List UInt8 := [184, 1, 52, 172]
abbrev dktX0_cold_3 : List UInt8 := dkwX0_cold_3 ++ []
def dkwX0_cold_2 : List UInt8 := [29, 182, 1, 58, 62, 132, 4, 1, 167, 255, 227, 28, 2, 160, 0, 8, 21, 4, 167, 0, 7, 29]
abbrev dktX0_cold_2 : List UInt8 := dkwX0_cold_2 ++ dktX0_cold_3
def dkwX0_cold_1 : List UInt8 := [3, 54, 4, 28, 2, 159, 0, 9, 21, 4, 28, 162, 0, 24, 42, 29, 182, 1, 58, 29, 159, 0, 15, 42]
abbrev dktX0_cold_1 : List UInt8 := dkwX0_cold_1 ++ dktX0_cold_2
def dkwX0_cold_0 : List UInt8 := [42, 27, 182, 0, 160, 153, 0, 13, 28, 2, 16, 20, 184, 0, 67, 154, 0, 5, 2, 172, 4, 27, 120, 62]
abbrev dktX0_cold_0 : List UInt8 := dkwX0_cold_0 ++ dktX0_cold_1
theorem dksX0_cold_0 : cX0_cold.data.toList.drop 0 = dktX0_cold_0 := by decide +kernel
theorem dksX0_cold_1 : cX0_cold.data.toList.drop 24 = dktX0_cold_1 := dk_seg dksX0_cold_0 24 rfl rfl
theorem dksX0_cold_2 : cX0_cold.data.toList.drop 48 = dktX0_cold_2 := dk_seg dksX0_cold_1 24 rfl rfl
theorem dksX0_cold_3 : cX0_cold.data.toList.drop 70 = dktX0_cold_3 := dk_seg dksX0_cold_2 22 rfl rfl
theorem dX0_cold_0 : decode cX0_cold 0 = .ok (.aload_n 0, 1) := dk_42 (dk_at dksX0_cold_0 0 rfl rfl)
theorem dX0_cold_1 : decode cX0_cold 1 = .ok (.iload_n 1, 1) := dk_27 (dk_at dksX0_cold_0 1 rfl rfl)
theorem dX0_cold_2 : decode cX0_cold 2 = .ok (.invokevirtual 160, 3) := dk_182 0 160 (dk_at dksX0_cold_0 2 rfl rfl)
theorem dX0_cold_5 : decode cX0_cold 5 = .ok (.ifCond .eq 13, 3) := dk_153 0 13 (dk_at dksX0_cold_0 5 rfl rfl)
theorem dX0_cold_8 : decode cX0_cold 8 = .ok (.iload_n 2, 1) := dk_28 (dk_at dksX0_cold_0 8 rfl rfl)
theorem dX0_cold_9 : decode cX0_cold 9 = .ok (.iconst (-1), 1) := dk_2 (dk_at dksX0_cold_0 9 rfl rfl)
theorem dX0_cold_10 : decode cX0_cold 10 = .ok (.bipush 20, 2) := dk_16 20 (dk_at dksX0_cold_0 10 rfl rfl)
theorem dX0_cold_12 : decode cX0_cold 12 = .ok (.invokestatic 67, 3) := dk_184 0 67 (dk_at dksX0_cold_0 12 rfl rfl)
theorem dX0_cold_15 : decode cX0_cold 15 = .ok (.ifCond .ne 5, 3) := dk_154 0 5 (dk_at dksX0_cold_0 15 rfl rfl)
theorem dX0_cold_18 : decode cX0_cold 18 = .ok (.iconst (-1), 1) := dk_2 (dk_at dksX0_cold_0 18 rfl rfl)
theorem dX0_cold_19 : decode cX0_cold 19 = .ok (.ireturn, 1) := dk_172 (dk_at dksX0_cold_0 19 rfl rfl)
theorem dX0_cold_20 : decode cX0_cold 20 = .ok (.iconst 1, 1) := dk_4 (dk_at dksX0_cold_0 20 rfl rfl)
theorem dX0_cold_21 : decode cX0_cold 21 = .ok (.iload_n 1, 1) := dk_27 (dk_at dksX0_cold_0 21 rfl rfl)
theorem dX0_cold_22 : decode cX0_cold 22 = .ok (.ishl, 1) := dk_120 (dk_at dksX0_cold_0 22 rfl rfl)
theorem dX0_cold_23 : decode cX0_cold 23 = .ok (.istore_n 3, 1) := dk_62 (dk_at dksX0_cold_0 23 rfl rfl)
theorem dX0_cold_24 : decode cX0_cold 24 = .ok (.iconst 0, 1) := dk_3 (dk_at dksX0_cold_1 0 rfl rfl)
theorem dX0_cold_25 : decode cX0_cold 25 = .ok (.istore 4, 2) := dk_54 4 (dk_at dksX0_cold_1 1 rfl rfl)
theorem dX0_cold_27 : decode cX0_cold 27 = .ok (.iload_n 2, 1) := dk_28 (dk_at dksX0_cold_1 3 rfl rfl)
theorem dX0_cold_28 : decode cX0_cold 28 = .ok (.iconst (-1), 1) := dk_2 (dk_at dksX0_cold_1 4 rfl rfl)
theorem dX0_cold_29 : decode cX0_cold 29 = .ok (.if_icmp .eq 9, 3) := dk_159 0 9 (dk_at dksX0_cold_1 5 rfl rfl)
theorem dX0_cold_32 : decode cX0_cold 32 = .ok (.iload 4, 2) := dk_21 4 (dk_at dksX0_cold_1 8 rfl rfl)
theorem dX0_cold_34 : decode cX0_cold 34 = .ok (.iload_n 2, 1) := dk_28 (dk_at dksX0_cold_1 10 rfl rfl)
theorem dX0_cold_35 : decode cX0_cold 35 = .ok (.if_icmp .ge 24, 3) := dk_162 0 24 (dk_at dksX0_cold_1 11 rfl rfl)
theorem dX0_cold_38 : decode cX0_cold 38 = .ok (.aload_n 0, 1) := dk_42 (dk_at dksX0_cold_1 14 rfl rfl)
theorem dX0_cold_39 : decode cX0_cold 39 = .ok (.iload_n 3, 1) := dk_29 (dk_at dksX0_cold_1 15 rfl rfl)
theorem dX0_cold_40 : decode cX0_cold 40 = .ok (.invokevirtual 314, 3) := dk_182 1 58 (dk_at dksX0_cold_1 16 rfl rfl)
theorem dX0_cold_43 : decode cX0_cold 43 = .ok (.iload_n 3, 1) := dk_29 (dk_at dksX0_cold_1 19 rfl rfl)
theorem dX0_cold_44 : decode cX0_cold 44 = .ok (.if_icmp .eq 15, 3) := dk_159 0 15 (dk_at dksX0_cold_1 20 rfl rfl)
theorem dX0_cold_47 : decode cX0_cold 47 = .ok (.aload_n 0, 1) := dk_42 (dk_at dksX0_cold_1 23 rfl rfl)
theorem dX0_cold_48 : decode cX0_cold 48 = .ok (.iload_n 3, 1) := dk_29 (dk_at dksX0_cold_2 0 rfl rfl)
theorem dX0_cold_49 : decode cX0_cold 49 = .ok (.invokevirtual 314, 3) := dk_182 1 58 (dk_at dksX0_cold_2 1 rfl rfl)
theorem dX0_cold_52 : decode cX0_cold 52 = .ok (.istore_n 3, 1) := dk_62 (dk_at dksX0_cold_2 4 rfl rfl)
theorem dX0_cold_53 : decode cX0_cold 53 = .ok (.iinc 4 1, 3) := dk_132 4 1 (dk_at dksX0_cold_2 5 rfl rfl)
theorem dX0_cold_56 : decode cX0_cold 56 = .ok (.goto (-29), 3) := dk_167 255 227 (dk_at dksX0_cold_2 8 rfl rfl)
theorem dX0_cold_59 : decode cX0_cold 59 = .ok (.iload_n 2, 1) := dk_28 (dk_at dksX0_cold_2 11 rfl rfl)
theorem dX0_cold_60 : decode cX0_cold 60 = .ok (.iconst (-1), 1) := dk_2 (dk_at dksX0_cold_2 12 rfl rfl)
theorem dX0_cold_61 : decode cX0_cold 61 = .ok (.if_icmp .ne 8, 3) := dk_160 0 8 (dk_at dksX0_cold_2 13 rfl rfl)
theorem dX0_cold_64 : decode cX0_cold 64 = .ok (.iload 4, 2) := dk_21 4 (dk_at dksX0_cold_2 16 rfl rfl)
theorem dX0_cold_66 : decode cX0_cold 66 = .ok (.goto 7, 3) := dk_167 0 7 (dk_at dksX0_cold_2 18 rfl rfl)
theorem dX0_cold_69 : decode cX0_cold 69 = .ok (.iload_n 3, 1) := dk_29 (dk_at dksX0_cold_2 21 rfl rfl)
theorem dX0_cold_70 : decode cX0_cold 70 = .ok (.invokestatic 308, 3) := dk_184 1 52 (dk_at dksX0_cold_3 0 rfl rfl)
theorem dX0_cold_73 : decode cX0_cold 73 = .ok (.ireturn, 1) := dk_172 (dk_at dksX0_cold_3 3 rfl rfl)
abbrev cX0_prices : ByteArray := prog_1_method_51_code
def yX0_prices : MethodName := ⟨RX0, "prices", "(III)I"⟩
def dkwX0_prices_2 : List UInt8 := [27, 100, 28, 100, 167, 0, 12, 27, 4, 100, 28, 4, 100, 104, 5, 108, 172]
abbrev dktX0_prices_2 : List UInt8 := dkwX0_prices_2 ++ []
def dkwX0_prices_1 : List UInt8 := [184, 0, 67, 153, 0, 12, 27, 28, 184, 1, 64, 4, 159, 0, 5, 2, 172, 29, 154, 0, 13, 27, 28, 104]
abbrev dktX0_prices_1 : List UInt8 := dkwX0_prices_1 ++ dktX0_prices_2
def dkwX0_prices_0 : List UInt8 := [27, 5, 16, 60, 184, 0, 67, 153, 0, 31, 28, 5, 16, 60, 184, 0, 67, 153, 0, 21, 29, 3, 4]
abbrev dktX0_prices_0 : List UInt8 := dkwX0_prices_0 ++ dktX0_prices_1
theorem dksX0_prices_0 : cX0_prices.data.toList.drop 0 = dktX0_prices_0 := by decide +kernel
theorem dksX0_prices_1 : cX0_prices.data.toList.drop 23 = dktX0_prices_1 := dk_seg dksX0_prices_0 23 rfl rfl
theorem dksX0_prices_2 : cX0_prices.data.toList.drop 47 = dktX0_prices_2 := dk_seg dksX0_prices_1 24 rfl rfl
theorem dX0_prices_0 : decode cX0_prices 0 = .ok (.iload_n 1, 1) := dk_27 (dk_at dksX0_prices_0 0 rfl rfl)
theorem dX0_prices_1 : decode cX0_prices 1 = .ok (.iconst 2, 1) := dk_5 (dk_at dksX0_prices_0 1 rfl rfl)
theorem dX0_prices_2 : decode cX0_prices 2 = .ok (.bipush 60, 2) := dk_16 60 (dk_at dksX0_prices_0 2 rfl rfl)
theorem dX0_prices_4 : decode cX0_prices 4 = .ok (.invokestatic 67, 3) := dk_184 0 67 (dk_at dksX0_prices_0 4 rfl rfl)
theorem dX0_prices_7 : decode cX0_prices 7 = .ok (.ifCond .eq 31, 3) := dk_153 0 31 (dk_at dksX0_prices_0 7 rfl rfl)
theorem dX0_prices_10 : decode cX0_prices 10 = .ok (.iload_n 2, 1) := dk_28 (dk_at dksX0_prices_0 10 rfl rfl)
theorem dX0_prices_11 : decode cX0_prices 11 = .ok (.iconst 2, 1) := dk_5 (dk_at dksX0_prices_0 11 rfl rfl)
theorem dX0_prices_12 : decode cX0_prices 12 = .ok (.bipush 60, 2) := dk_16 60 (dk_at dksX0_prices_0 12 rfl rfl)
theorem dX0_prices_14 : decode cX0_prices 14 = .ok (.invokestatic 67, 3) := dk_184 0 67 (dk_at dksX0_prices_0 14 rfl rfl)
theorem dX0_prices_17 : decode cX0_prices 17 = .ok (.ifCond .eq 21, 3) := dk_153 0 21 (dk_at dksX0_prices_0 17 rfl rfl)
theorem dX0_prices_20 : decode cX0_prices 20 = .ok (.iload_n 3, 1) := dk_29 (dk_at dksX0_prices_0 20 rfl rfl)
theorem dX0_prices_21 : decode cX0_prices 21 = .ok (.iconst 0, 1) := dk_3 (dk_at dksX0_prices_0 21 rfl rfl)
theorem dX0_prices_22 : decode cX0_prices 22 = .ok (.iconst 1, 1) := dk_4 (dk_at dksX0_prices_0 22 rfl rfl)
theorem dX0_prices_23 : decode cX0_prices 23 = .ok (.invokestatic 67, 3) := dk_184 0 67 (dk_at dksX0_prices_1 0 rfl rfl)
theorem dX0_prices_26 : decode cX0_prices 26 = .ok (.ifCond .eq 12, 3) := dk_153 0 12 (dk_at dksX0_prices_1 3 rfl rfl)
theorem dX0_prices_29 : decode cX0_prices 29 = .ok (.iload_n 1, 1) := dk_27 (dk_at dksX0_prices_1 6 rfl rfl)
theorem dX0_prices_30 : decode cX0_prices 30 = .ok (.iload_n 2, 1) := dk_28 (dk_at dksX0_prices_1 7 rfl rfl)
theorem dX0_prices_31 : decode cX0_prices 31 = .ok (.invokestatic 320, 3) := dk_184 1 64 (dk_at dksX0_prices_1 8 rfl rfl)
theorem dX0_prices_34 : decode cX0_prices 34 = .ok (.iconst 1, 1) := dk_4 (dk_at dksX0_prices_1 11 rfl rfl)
theorem dX0_prices_35 : decode cX0_prices 35 = .ok (.if_icmp .eq 5, 3) := dk_159 0 5 (dk_at dksX0_prices_1 12 rfl rfl)
theorem dX0_prices_38 : decode cX0_prices 38 = .ok (.iconst (-1), 1) := dk_2 (dk_at dksX0_prices_1 15 rfl rfl)
theorem dX0_prices_39 : decode cX0_prices 39 = .ok (.ireturn, 1) := dk_172 (dk_at dksX0_prices_1 16 rfl rfl)
theorem dX0_prices_40 : decode cX0_prices 40 = .ok (.iload_n 3, 1) := dk_29 (dk_at dksX0_prices_1 17 rfl rfl)
theorem dX0_prices_41 : decode cX0_prices 41 = .ok (.ifCond .ne 13, 3) := dk_154 0 13 (dk_at dksX0_prices_1 18 rfl rfl)
theorem dX0_prices_44 : decode cX0_prices 44 = .ok (.iload_n 1, 1) := dk_27 (dk_at dksX0_prices_1 21 rfl rfl)
theorem dX0_prices_45 : decode cX0_prices 45 = .ok (.iload_n 2, 1) := dk_28 (dk_at dksX0_prices_1 22 rfl rfl)
theorem dX0_prices_46 : decode cX0_prices 46 = .ok (.imul, 1) := dk_104 (dk_at dksX0_prices_1 23 rfl rfl)
theorem dX0_prices_47 : decode cX0_prices 47 = .ok (.iload_n 1, 1) := dk_27 (dk_at dksX0_prices_2 0 rfl rfl)
theorem dX0_prices_48 : decode cX0_prices 48 = .ok (.isub, 1) := dk_100 (dk_at dksX0_prices_2 1 rfl rfl)
theorem dX0_prices_49 : decode cX0_prices 49 = .ok (.iload_n 2, 1) := dk_28 (dk_at dksX0_prices_2 2 rfl rfl)
theorem dX0_prices_50 : decode cX0_prices 50 = .ok (.isub, 1) := dk_100 (dk_at dksX0_prices_2 3 rfl rfl)
theorem dX0_prices_51 : decode cX0_prices 51 = .ok (.goto 12, 3) := dk_167 0 12 (dk_at dksX0_prices_2 4 rfl rfl)
theorem dX0_prices_54 : decode cX0_prices 54 = .ok (.iload_n 1, 1) := dk_27 (dk_at dksX0_prices_2 7 rfl rfl)
theorem dX0_prices_55 : decode cX0_prices 55 = .ok (.iconst 1, 1) := dk_4 (dk_at dksX0_prices_2 8 rfl rfl)
theorem dX0_prices_56 : decode cX0_prices 56 = .ok (.isub, 1) := dk_100 (dk_at dksX0_prices_2 9 rfl rfl)
theorem dX0_prices_57 : decode cX0_prices 57 = .ok (.iload_n 2, 1) := dk_28 (dk_at dksX0_prices_2 10 rfl rfl)
theorem dX0_prices_58 : decode cX0_prices 58 = .ok (.iconst 1, 1) := dk_4 (dk_at dksX0_prices_2 11 rfl rfl)
theorem dX0_prices_59 : decode cX0_prices 59 = .ok (.isub, 1) := dk_100 (dk_at dksX0_prices_2 12 rfl rfl)
theorem dX0_prices_60 : decode cX0_prices 60 = .ok (.imul, 1) := dk_104 (dk_at dksX0_prices_2 13 rfl rfl)
theorem dX0_prices_61 : decode cX0_prices 61 = .ok (.iconst 2, 1) := dk_5 (dk_at dksX0_prices_2 14 rfl rfl)
theorem dX0_prices_62 : decode cX0_prices 62 = .ok (.idiv, 1) := dk_108 (dk_at dksX0_prices_2 15 rfl rfl)
theorem dX0_prices_63 : decode cX0_prices 63 = .ok (.ireturn, 1) := dk_172 (dk_at dksX0_prices_2 16 rfl rfl)
abbrev cX0_common : ByteArray := prog_1_method_50_code
def yX0_common : MethodName := ⟨RX0, "common", "(II)I"⟩
def dkwX0_common_0 : List UInt8 := [27, 154, 0, 7, 26, 167, 0, 10, 27, 26, 27, 112, 184, 1, 64, 172]
abbrev dktX0_common_0 : List UInt8 := dkwX0_common_0 ++ []
theorem dksX0_common_0 : cX0_common.data.toList.drop 0 = dktX0_common_0 := by decide +kernel
theorem dX0_common_0 : decode cX0_common 0 = .ok (.iload_n 1, 1) := dk_27 (dk_at dksX0_common_0 0 rfl rfl)
theorem dX0_common_1 : decode cX0_common 1 = .ok (.ifCond .ne 7, 3) := dk_154 0 7 (dk_at dksX0_common_0 1 rfl rfl)
theorem dX0_common_4 : decode cX0_common 4 = .ok (.iload_n 0, 1) := dk_26 (dk_at dksX0_common_0 4 rfl rfl)
theorem dX0_common_5 : decode cX0_common 5 = .ok (.goto 10, 3) := dk_167 0 10 (dk_at dksX0_common_0 5 rfl rfl)
theorem dX0_common_8 : decode cX0_common 8 = .ok (.iload_n 1, 1) := dk_27 (dk_at dksX0_common_0 8 rfl rfl)
theorem dX0_common_9 : decode cX0_common 9 = .ok (.iload_n 0, 1) := dk_26 (dk_at dksX0_common_0 9 rfl rfl)
theorem dX0_common_10 : decode cX0_common 10 = .ok (.iload_n 1, 1) := dk_27 (dk_at dksX0_common_0 10 rfl rfl)
theorem dX0_common_11 : decode cX0_common 11 = .ok (.irem, 1) := dk_112 (dk_at dksX0_common_0 11 rfl rfl)
theorem dX0_common_12 : decode cX0_common 12 = .ok (.invokestatic 320, 3) := dk_184 1 64 (dk_at dksX0_common_0 12 rfl rfl)
theorem dX0_common_15 : decode cX0_common 15 = .ok (.ireturn, 1) := dk_172 (dk_at dksX0_common_0 15 rfl rfl)
abbrev cX0_weight : ByteArray := prog_1_method_52_code
def yX0_weight : MethodName := ⟨RX0, "weight", "(I)I"⟩
def dkwX0_weight_1 : List UInt8 := [184, 0, 67, 153, 0, 18, 42, 180, 0, 20, 180, 1, 67, 27, 3, 182, 1, 21, 167, 0, 4, 2, 172]
abbrev dktX0_weight_1 : List UInt8 := dkwX0_weight_1 ++ []
def dkwX0_weight_0 : List UInt8 := [27, 2, 160, 0, 16, 42, 180, 0, 20, 180, 1, 67, 182, 1, 16, 167, 0, 30, 27, 4, 17, 0, 200]
abbrev dktX0_weight_0 : List UInt8 := dkwX0_weight_0 ++ dktX0_weight_1
theorem dksX0_weight_0 : cX0_weight.data.toList.drop 0 = dktX0_weight_0 := by decide +kernel
theorem dksX0_weight_1 : cX0_weight.data.toList.drop 23 = dktX0_weight_1 := dk_seg dksX0_weight_0 23 rfl rfl
theorem dX0_weight_0 : decode cX0_weight 0 = .ok (.iload_n 1, 1) := dk_27 (dk_at dksX0_weight_0 0 rfl rfl)
theorem dX0_weight_1 : decode cX0_weight 1 = .ok (.iconst (-1), 1) := dk_2 (dk_at dksX0_weight_0 1 rfl rfl)
theorem dX0_weight_2 : decode cX0_weight 2 = .ok (.if_icmp .ne 16, 3) := dk_160 0 16 (dk_at dksX0_weight_0 2 rfl rfl)
theorem dX0_weight_5 : decode cX0_weight 5 = .ok (.aload_n 0, 1) := dk_42 (dk_at dksX0_weight_0 5 rfl rfl)
theorem dX0_weight_6 : decode cX0_weight 6 = .ok (.getfield 20, 3) := dk_180 0 20 (dk_at dksX0_weight_0 6 rfl rfl)
theorem dX0_weight_9 : decode cX0_weight 9 = .ok (.getfield 323, 3) := dk_180 1 67 (dk_at dksX0_weight_0 9 rfl rfl)
theorem dX0_weight_12 : decode cX0_weight 12 = .ok (.invokevirtual 272, 3) := dk_182 1 16 (dk_at dksX0_weight_0 12 rfl rfl)
theorem dX0_weight_15 : decode cX0_weight 15 = .ok (.goto 30, 3) := dk_167 0 30 (dk_at dksX0_weight_0 15 rfl rfl)
theorem dX0_weight_18 : decode cX0_weight 18 = .ok (.iload_n 1, 1) := dk_27 (dk_at dksX0_weight_0 18 rfl rfl)
theorem dX0_weight_19 : decode cX0_weight 19 = .ok (.iconst 1, 1) := dk_4 (dk_at dksX0_weight_0 19 rfl rfl)
theorem dX0_weight_20 : decode cX0_weight 20 = .ok (.sipush 200, 3) := dk_17 0 200 (dk_at dksX0_weight_0 20 rfl rfl)
theorem dX0_weight_23 : decode cX0_weight 23 = .ok (.invokestatic 67, 3) := dk_184 0 67 (dk_at dksX0_weight_1 0 rfl rfl)
theorem dX0_weight_26 : decode cX0_weight 26 = .ok (.ifCond .eq 18, 3) := dk_153 0 18 (dk_at dksX0_weight_1 3 rfl rfl)
theorem dX0_weight_29 : decode cX0_weight 29 = .ok (.aload_n 0, 1) := dk_42 (dk_at dksX0_weight_1 6 rfl rfl)
theorem dX0_weight_30 : decode cX0_weight 30 = .ok (.getfield 20, 3) := dk_180 0 20 (dk_at dksX0_weight_1 7 rfl rfl)
theorem dX0_weight_33 : decode cX0_weight 33 = .ok (.getfield 323, 3) := dk_180 1 67 (dk_at dksX0_weight_1 10 rfl rfl)
theorem dX0_weight_36 : decode cX0_weight 36 = .ok (.iload_n 1, 1) := dk_27 (dk_at dksX0_weight_1 13 rfl rfl)
theorem dX0_weight_37 : decode cX0_weight 37 = .ok (.iconst 0, 1) := dk_3 (dk_at dksX0_weight_1 14 rfl rfl)
theorem dX0_weight_38 : decode cX0_weight 38 = .ok (.invokevirtual 277, 3) := dk_182 1 21 (dk_at dksX0_weight_1 15 rfl rfl)
theorem dX0_weight_41 : decode cX0_weight 41 = .ok (.goto 4, 3) := dk_167 0 4 (dk_at dksX0_weight_1 18 rfl rfl)
theorem dX0_weight_44 : decode cX0_weight 44 = .ok (.iconst (-1), 1) := dk_2 (dk_at dksX0_weight_1 21 rfl rfl)
theorem dX0_weight_45 : decode cX0_weight 45 = .ok (.ireturn, 1) := dk_172 (dk_at dksX0_weight_1 22 rfl rfl)
abbrev cX0_balance : ByteArray := prog_1_method_54_code
def yX0_balance : MethodName := ⟨RX0, "balance", "(II)I"⟩
def dkwX0_balance_3 : List UInt8 := [153, 0, 9, 132, 3, 1, 167, 255, 241, 29, 172]
abbrev dktX0_balance_3 : List UInt8 := dkwX0_balance_3 ++ []
def dkwX0_balance_2 : List UInt8 := [182, 1, 70, 153, 0, 7, 4, 167, 0, 4, 3, 172, 3, 62, 42, 3, 29, 4, 96, 4, 182, 1, 70]
abbrev dktX0_balance_2 : List UInt8 := dkwX0_balance_2 ++ dktX0_balance_3
def dkwX0_balance_1 : List UInt8 := [154, 0, 5, 2, 172, 28, 5, 162, 0, 27, 42, 3, 27, 28, 154, 0, 7, 4, 167, 0, 4, 3]
abbrev dktX0_balance_1 : List UInt8 := dkwX0_balance_1 ++ dktX0_balance_2
def dkwX0_balance_0 : List UInt8 := [28, 3, 5, 184, 0, 67, 153, 0, 19, 28, 5, 162, 0, 16, 27, 3, 17, 3, 232, 184, 0, 67]
abbrev dktX0_balance_0 : List UInt8 := dkwX0_balance_0 ++ dktX0_balance_1
theorem dksX0_balance_0 : cX0_balance.data.toList.drop 0 = dktX0_balance_0 := by decide +kernel
theorem dksX0_balance_1 : cX0_balance.data.toList.drop 22 = dktX0_balance_1 := dk_seg dksX0_balance_0 22 rfl rfl
theorem dksX0_balance_2 : cX0_balance.data.toList.drop 44 = dktX0_balance_2 := dk_seg dksX0_balance_1 22 rfl rfl
theorem dksX0_balance_3 : cX0_balance.data.toList.drop 67 = dktX0_balance_3 := dk_seg dksX0_balance_2 23 rfl rfl
theorem dX0_balance_0 : decode cX0_balance 0 = .ok (.iload_n 2, 1) := dk_28 (dk_at dksX0_balance_0 0 rfl rfl)
theorem dX0_balance_1 : decode cX0_balance 1 = .ok (.iconst 0, 1) := dk_3 (dk_at dksX0_balance_0 1 rfl rfl)
theorem dX0_balance_2 : decode cX0_balance 2 = .ok (.iconst 2, 1) := dk_5 (dk_at dksX0_balance_0 2 rfl rfl)
theorem dX0_balance_3 : decode cX0_balance 3 = .ok (.invokestatic 67, 3) := dk_184 0 67 (dk_at dksX0_balance_0 3 rfl rfl)
theorem dX0_balance_6 : decode cX0_balance 6 = .ok (.ifCond .eq 19, 3) := dk_153 0 19 (dk_at dksX0_balance_0 6 rfl rfl)
theorem dX0_balance_9 : decode cX0_balance 9 = .ok (.iload_n 2, 1) := dk_28 (dk_at dksX0_balance_0 9 rfl rfl)
theorem dX0_balance_10 : decode cX0_balance 10 = .ok (.iconst 2, 1) := dk_5 (dk_at dksX0_balance_0 10 rfl rfl)
theorem dX0_balance_11 : decode cX0_balance 11 = .ok (.if_icmp .ge 16, 3) := dk_162 0 16 (dk_at dksX0_balance_0 11 rfl rfl)
theorem dX0_balance_14 : decode cX0_balance 14 = .ok (.iload_n 1, 1) := dk_27 (dk_at dksX0_balance_0 14 rfl rfl)
theorem dX0_balance_15 : decode cX0_balance 15 = .ok (.iconst 0, 1) := dk_3 (dk_at dksX0_balance_0 15 rfl rfl)
theorem dX0_balance_16 : decode cX0_balance 16 = .ok (.sipush 1000, 3) := dk_17 3 232 (dk_at dksX0_balance_0 16 rfl rfl)
theorem dX0_balance_19 : decode cX0_balance 19 = .ok (.invokestatic 67, 3) := dk_184 0 67 (dk_at dksX0_balance_0 19 rfl rfl)
theorem dX0_balance_22 : decode cX0_balance 22 = .ok (.ifCond .ne 5, 3) := dk_154 0 5 (dk_at dksX0_balance_1 0 rfl rfl)
theorem dX0_balance_25 : decode cX0_balance 25 = .ok (.iconst (-1), 1) := dk_2 (dk_at dksX0_balance_1 3 rfl rfl)
theorem dX0_balance_26 : decode cX0_balance 26 = .ok (.ireturn, 1) := dk_172 (dk_at dksX0_balance_1 4 rfl rfl)
theorem dX0_balance_27 : decode cX0_balance 27 = .ok (.iload_n 2, 1) := dk_28 (dk_at dksX0_balance_1 5 rfl rfl)
theorem dX0_balance_28 : decode cX0_balance 28 = .ok (.iconst 2, 1) := dk_5 (dk_at dksX0_balance_1 6 rfl rfl)
theorem dX0_balance_29 : decode cX0_balance 29 = .ok (.if_icmp .ge 27, 3) := dk_162 0 27 (dk_at dksX0_balance_1 7 rfl rfl)
theorem dX0_balance_32 : decode cX0_balance 32 = .ok (.aload_n 0, 1) := dk_42 (dk_at dksX0_balance_1 10 rfl rfl)
theorem dX0_balance_33 : decode cX0_balance 33 = .ok (.iconst 0, 1) := dk_3 (dk_at dksX0_balance_1 11 rfl rfl)
theorem dX0_balance_34 : decode cX0_balance 34 = .ok (.iload_n 1, 1) := dk_27 (dk_at dksX0_balance_1 12 rfl rfl)
theorem dX0_balance_35 : decode cX0_balance 35 = .ok (.iload_n 2, 1) := dk_28 (dk_at dksX0_balance_1 13 rfl rfl)
theorem dX0_balance_36 : decode cX0_balance 36 = .ok (.ifCond .ne 7, 3) := dk_154 0 7 (dk_at dksX0_balance_1 14 rfl rfl)
theorem dX0_balance_39 : decode cX0_balance 39 = .ok (.iconst 1, 1) := dk_4 (dk_at dksX0_balance_1 17 rfl rfl)
theorem dX0_balance_40 : decode cX0_balance 40 = .ok (.goto 4, 3) := dk_167 0 4 (dk_at dksX0_balance_1 18 rfl rfl)
theorem dX0_balance_43 : decode cX0_balance 43 = .ok (.iconst 0, 1) := dk_3 (dk_at dksX0_balance_1 21 rfl rfl)
theorem dX0_balance_44 : decode cX0_balance 44 = .ok (.invokevirtual 326, 3) := dk_182 1 70 (dk_at dksX0_balance_2 0 rfl rfl)
theorem dX0_balance_47 : decode cX0_balance 47 = .ok (.ifCond .eq 7, 3) := dk_153 0 7 (dk_at dksX0_balance_2 3 rfl rfl)
theorem dX0_balance_50 : decode cX0_balance 50 = .ok (.iconst 1, 1) := dk_4 (dk_at dksX0_balance_2 6 rfl rfl)
theorem dX0_balance_51 : decode cX0_balance 51 = .ok (.goto 4, 3) := dk_167 0 4 (dk_at dksX0_balance_2 7 rfl rfl)
theorem dX0_balance_54 : decode cX0_balance 54 = .ok (.iconst 0, 1) := dk_3 (dk_at dksX0_balance_2 10 rfl rfl)
theorem dX0_balance_55 : decode cX0_balance 55 = .ok (.ireturn, 1) := dk_172 (dk_at dksX0_balance_2 11 rfl rfl)
theorem dX0_balance_56 : decode cX0_balance 56 = .ok (.iconst 0, 1) := dk_3 (dk_at dksX0_balance_2 12 rfl rfl)
theorem dX0_balance_57 : decode cX0_balance 57 = .ok (.istore_n 3, 1) := dk_62 (dk_at dksX0_balance_2 13 rfl rfl)
theorem dX0_balance_58 : decode cX0_balance 58 = .ok (.aload_n 0, 1) := dk_42 (dk_at dksX0_balance_2 14 rfl rfl)
theorem dX0_balance_59 : decode cX0_balance 59 = .ok (.iconst 0, 1) := dk_3 (dk_at dksX0_balance_2 15 rfl rfl)
theorem dX0_balance_60 : decode cX0_balance 60 = .ok (.iload_n 3, 1) := dk_29 (dk_at dksX0_balance_2 16 rfl rfl)
theorem dX0_balance_61 : decode cX0_balance 61 = .ok (.iconst 1, 1) := dk_4 (dk_at dksX0_balance_2 17 rfl rfl)
theorem dX0_balance_62 : decode cX0_balance 62 = .ok (.iadd, 1) := dk_96 (dk_at dksX0_balance_2 18 rfl rfl)
theorem dX0_balance_63 : decode cX0_balance 63 = .ok (.iconst 1, 1) := dk_4 (dk_at dksX0_balance_2 19 rfl rfl)
theorem dX0_balance_64 : decode cX0_balance 64 = .ok (.invokevirtual 326, 3) := dk_182 1 70 (dk_at dksX0_balance_2 20 rfl rfl)
theorem dX0_balance_67 : decode cX0_balance 67 = .ok (.ifCond .eq 9, 3) := dk_153 0 9 (dk_at dksX0_balance_3 0 rfl rfl)
theorem dX0_balance_70 : decode cX0_balance 70 = .ok (.iinc 3 1, 3) := dk_132 3 1 (dk_at dksX0_balance_3 3 rfl rfl)
theorem dX0_balance_73 : decode cX0_balance 73 = .ok (.goto (-15), 3) := dk_167 255 241 (dk_at dksX0_balance_3 6 rfl rfl)
theorem dX0_balance_76 : decode cX0_balance 76 = .ok (.iload_n 3, 1) := dk_29 (dk_at dksX0_balance_3 9 rfl rfl)
theorem dX0_balance_77 : decode cX0_balance 77 = .ok (.ireturn, 1) := dk_172 (dk_at dksX0_balance_3 10 rfl rfl)
abbrev cX0_isWeighed : ByteArray := prog_1_method_53_code
def yX0_isWeighed : MethodName := ⟨RX0, "isWeighed", "(IIZ)Z"⟩
def dkwX0_isWeighed_3 : List UInt8 := [4, 96, 28, 21, 4, 96, 29, 182, 1, 70, 153, 0, 7, 4, 167, 0, 4, 3, 172]
abbrev dktX0_isWeighed_3 : List UInt8 := dkwX0_isWeighed_3 ++ []
def dkwX0_isWeighed_2 : List UInt8 := [154, 0, 37, 42, 27, 4, 96, 28, 21, 4, 100, 29, 182, 1, 70, 154, 0, 22, 29, 153, 0, 22, 42, 27]
abbrev dktX0_isWeighed_2 : List UInt8 := dkwX0_isWeighed_2 ++ dktX0_isWeighed_3
def dkwX0_isWeighed_1 : List UInt8 := [42, 180, 0, 20, 180, 1, 67, 27, 182, 1, 36, 54, 4, 42, 27, 4, 96, 28, 29, 182, 1, 70]
abbrev dktX0_isWeighed_1 : List UInt8 := dkwX0_isWeighed_1 ++ dktX0_isWeighed_2
def dkwX0_isWeighed_0 : List UInt8 := [27, 42, 180, 0, 20, 180, 1, 67, 180, 1, 24, 160, 0, 13, 28, 154, 0, 7, 4, 167, 0, 4, 3, 172]
abbrev dktX0_isWeighed_0 : List UInt8 := dkwX0_isWeighed_0 ++ dktX0_isWeighed_1
theorem dksX0_isWeighed_0 : cX0_isWeighed.data.toList.drop 0 = dktX0_isWeighed_0 := by decide +kernel
theorem dksX0_isWeighed_1 : cX0_isWeighed.data.toList.drop 24 = dktX0_isWeighed_1 := dk_seg dksX0_isWeighed_0 24 rfl rfl
theorem dksX0_isWeighed_2 : cX0_isWeighed.data.toList.drop 46 = dktX0_isWeighed_2 := dk_seg dksX0_isWeighed_1 22 rfl rfl
theorem dksX0_isWeighed_3 : cX0_isWeighed.data.toList.drop 70 = dktX0_isWeighed_3 := dk_seg dksX0_isWeighed_2 24 rfl rfl
theorem dX0_isWeighed_0 : decode cX0_isWeighed 0 = .ok (.iload_n 1, 1) := dk_27 (dk_at dksX0_isWeighed_0 0 rfl rfl)
theorem dX0_isWeighed_1 : decode cX0_isWeighed 1 = .ok (.aload_n 0, 1) := dk_42 (dk_at dksX0_isWeighed_0 1 rfl rfl)
theorem dX0_isWeighed_2 : decode cX0_isWeighed 2 = .ok (.getfield 20, 3) := dk_180 0 20 (dk_at dksX0_isWeighed_0 2 rfl rfl)
theorem dX0_isWeighed_5 : decode cX0_isWeighed 5 = .ok (.getfield 323, 3) := dk_180 1 67 (dk_at dksX0_isWeighed_0 5 rfl rfl)
theorem dX0_isWeighed_8 : decode cX0_isWeighed 8 = .ok (.getfield 280, 3) := dk_180 1 24 (dk_at dksX0_isWeighed_0 8 rfl rfl)
theorem dX0_isWeighed_11 : decode cX0_isWeighed 11 = .ok (.if_icmp .ne 13, 3) := dk_160 0 13 (dk_at dksX0_isWeighed_0 11 rfl rfl)
theorem dX0_isWeighed_14 : decode cX0_isWeighed 14 = .ok (.iload_n 2, 1) := dk_28 (dk_at dksX0_isWeighed_0 14 rfl rfl)
theorem dX0_isWeighed_15 : decode cX0_isWeighed 15 = .ok (.ifCond .ne 7, 3) := dk_154 0 7 (dk_at dksX0_isWeighed_0 15 rfl rfl)
theorem dX0_isWeighed_18 : decode cX0_isWeighed 18 = .ok (.iconst 1, 1) := dk_4 (dk_at dksX0_isWeighed_0 18 rfl rfl)
theorem dX0_isWeighed_19 : decode cX0_isWeighed 19 = .ok (.goto 4, 3) := dk_167 0 4 (dk_at dksX0_isWeighed_0 19 rfl rfl)
theorem dX0_isWeighed_22 : decode cX0_isWeighed 22 = .ok (.iconst 0, 1) := dk_3 (dk_at dksX0_isWeighed_0 22 rfl rfl)
theorem dX0_isWeighed_23 : decode cX0_isWeighed 23 = .ok (.ireturn, 1) := dk_172 (dk_at dksX0_isWeighed_0 23 rfl rfl)
theorem dX0_isWeighed_24 : decode cX0_isWeighed 24 = .ok (.aload_n 0, 1) := dk_42 (dk_at dksX0_isWeighed_1 0 rfl rfl)
theorem dX0_isWeighed_25 : decode cX0_isWeighed 25 = .ok (.getfield 20, 3) := dk_180 0 20 (dk_at dksX0_isWeighed_1 1 rfl rfl)
theorem dX0_isWeighed_28 : decode cX0_isWeighed 28 = .ok (.getfield 323, 3) := dk_180 1 67 (dk_at dksX0_isWeighed_1 4 rfl rfl)
theorem dX0_isWeighed_31 : decode cX0_isWeighed 31 = .ok (.iload_n 1, 1) := dk_27 (dk_at dksX0_isWeighed_1 7 rfl rfl)
theorem dX0_isWeighed_32 : decode cX0_isWeighed 32 = .ok (.invokevirtual 292, 3) := dk_182 1 36 (dk_at dksX0_isWeighed_1 8 rfl rfl)
theorem dX0_isWeighed_35 : decode cX0_isWeighed 35 = .ok (.istore 4, 2) := dk_54 4 (dk_at dksX0_isWeighed_1 11 rfl rfl)
theorem dX0_isWeighed_37 : decode cX0_isWeighed 37 = .ok (.aload_n 0, 1) := dk_42 (dk_at dksX0_isWeighed_1 13 rfl rfl)
theorem dX0_isWeighed_38 : decode cX0_isWeighed 38 = .ok (.iload_n 1, 1) := dk_27 (dk_at dksX0_isWeighed_1 14 rfl rfl)
theorem dX0_isWeighed_39 : decode cX0_isWeighed 39 = .ok (.iconst 1, 1) := dk_4 (dk_at dksX0_isWeighed_1 15 rfl rfl)
theorem dX0_isWeighed_40 : decode cX0_isWeighed 40 = .ok (.iadd, 1) := dk_96 (dk_at dksX0_isWeighed_1 16 rfl rfl)
theorem dX0_isWeighed_41 : decode cX0_isWeighed 41 = .ok (.iload_n 2, 1) := dk_28 (dk_at dksX0_isWeighed_1 17 rfl rfl)
theorem dX0_isWeighed_42 : decode cX0_isWeighed 42 = .ok (.iload_n 3, 1) := dk_29 (dk_at dksX0_isWeighed_1 18 rfl rfl)
theorem dX0_isWeighed_43 : decode cX0_isWeighed 43 = .ok (.invokevirtual 326, 3) := dk_182 1 70 (dk_at dksX0_isWeighed_1 19 rfl rfl)
theorem dX0_isWeighed_46 : decode cX0_isWeighed 46 = .ok (.ifCond .ne 37, 3) := dk_154 0 37 (dk_at dksX0_isWeighed_2 0 rfl rfl)
theorem dX0_isWeighed_49 : decode cX0_isWeighed 49 = .ok (.aload_n 0, 1) := dk_42 (dk_at dksX0_isWeighed_2 3 rfl rfl)
theorem dX0_isWeighed_50 : decode cX0_isWeighed 50 = .ok (.iload_n 1, 1) := dk_27 (dk_at dksX0_isWeighed_2 4 rfl rfl)
theorem dX0_isWeighed_51 : decode cX0_isWeighed 51 = .ok (.iconst 1, 1) := dk_4 (dk_at dksX0_isWeighed_2 5 rfl rfl)
theorem dX0_isWeighed_52 : decode cX0_isWeighed 52 = .ok (.iadd, 1) := dk_96 (dk_at dksX0_isWeighed_2 6 rfl rfl)
theorem dX0_isWeighed_53 : decode cX0_isWeighed 53 = .ok (.iload_n 2, 1) := dk_28 (dk_at dksX0_isWeighed_2 7 rfl rfl)
theorem dX0_isWeighed_54 : decode cX0_isWeighed 54 = .ok (.iload 4, 2) := dk_21 4 (dk_at dksX0_isWeighed_2 8 rfl rfl)
theorem dX0_isWeighed_56 : decode cX0_isWeighed 56 = .ok (.isub, 1) := dk_100 (dk_at dksX0_isWeighed_2 10 rfl rfl)
theorem dX0_isWeighed_57 : decode cX0_isWeighed 57 = .ok (.iload_n 3, 1) := dk_29 (dk_at dksX0_isWeighed_2 11 rfl rfl)
theorem dX0_isWeighed_58 : decode cX0_isWeighed 58 = .ok (.invokevirtual 326, 3) := dk_182 1 70 (dk_at dksX0_isWeighed_2 12 rfl rfl)
theorem dX0_isWeighed_61 : decode cX0_isWeighed 61 = .ok (.ifCond .ne 22, 3) := dk_154 0 22 (dk_at dksX0_isWeighed_2 15 rfl rfl)
theorem dX0_isWeighed_64 : decode cX0_isWeighed 64 = .ok (.iload_n 3, 1) := dk_29 (dk_at dksX0_isWeighed_2 18 rfl rfl)
theorem dX0_isWeighed_65 : decode cX0_isWeighed 65 = .ok (.ifCond .eq 22, 3) := dk_153 0 22 (dk_at dksX0_isWeighed_2 19 rfl rfl)
theorem dX0_isWeighed_68 : decode cX0_isWeighed 68 = .ok (.aload_n 0, 1) := dk_42 (dk_at dksX0_isWeighed_2 22 rfl rfl)
theorem dX0_isWeighed_69 : decode cX0_isWeighed 69 = .ok (.iload_n 1, 1) := dk_27 (dk_at dksX0_isWeighed_2 23 rfl rfl)
theorem dX0_isWeighed_70 : decode cX0_isWeighed 70 = .ok (.iconst 1, 1) := dk_4 (dk_at dksX0_isWeighed_3 0 rfl rfl)
theorem dX0_isWeighed_71 : decode cX0_isWeighed 71 = .ok (.iadd, 1) := dk_96 (dk_at dksX0_isWeighed_3 1 rfl rfl)
theorem dX0_isWeighed_72 : decode cX0_isWeighed 72 = .ok (.iload_n 2, 1) := dk_28 (dk_at dksX0_isWeighed_3 2 rfl rfl)
theorem dX0_isWeighed_73 : decode cX0_isWeighed 73 = .ok (.iload 4, 2) := dk_21 4 (dk_at dksX0_isWeighed_3 3 rfl rfl)
theorem dX0_isWeighed_75 : decode cX0_isWeighed 75 = .ok (.iadd, 1) := dk_96 (dk_at dksX0_isWeighed_3 5 rfl rfl)
theorem dX0_isWeighed_76 : decode cX0_isWeighed 76 = .ok (.iload_n 3, 1) := dk_29 (dk_at dksX0_isWeighed_3 6 rfl rfl)
theorem dX0_isWeighed_77 : decode cX0_isWeighed 77 = .ok (.invokevirtual 326, 3) := dk_182 1 70 (dk_at dksX0_isWeighed_3 7 rfl rfl)
theorem dX0_isWeighed_80 : decode cX0_isWeighed 80 = .ok (.ifCond .eq 7, 3) := dk_153 0 7 (dk_at dksX0_isWeighed_3 10 rfl rfl)
theorem dX0_isWeighed_83 : decode cX0_isWeighed 83 = .ok (.iconst 1, 1) := dk_4 (dk_at dksX0_isWeighed_3 13 rfl rfl)
theorem dX0_isWeighed_84 : decode cX0_isWeighed 84 = .ok (.goto 4, 3) := dk_167 0 4 (dk_at dksX0_isWeighed_3 14 rfl rfl)
theorem dX0_isWeighed_87 : decode cX0_isWeighed 87 = .ok (.iconst 0, 1) := dk_3 (dk_at dksX0_isWeighed_3 17 rfl rfl)
theorem dX0_isWeighed_88 : decode cX0_isWeighed 88 = .ok (.ireturn, 1) := dk_172 (dk_at dksX0_isWeighed_3 18 rfl rfl)
