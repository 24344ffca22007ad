set_option maxRecDepth 100000
abbrev cX6_findsNimbers : ByteArray := prog_22_method_126_code
def yX6_findsNimbers : MethodName := ⟨RX6, "findsNimbers", "()V"⟩
def dkwX6_findsNimbers_3 : List UInt8 := [153, 0, 10, 29, 4, 96, 62, 167, 255, 243, 42, 180, 0, 116, 27, 29, 79, 132, 1, 1, 167, 255, 166, 177]
abbrev dktX6_findsNimbers_3 : List UInt8 := dkwX6_findsNimbers_3 ++ []
def dkwX6_findsNimbers_2 : List UInt8 := [130, 120, 128, 61, 132, 4, 1, 167, 255, 221, 132, 3, 1, 167, 255, 207, 3, 62, 42, 28, 29, 182, 1, 75]
abbrev dktX6_findsNimbers_2 : List UInt8 := dkwX6_findsNimbers_2 ++ dktX6_findsNimbers_3
def dkwX6_findsNimbers_1 : List UInt8 := [27, 163, 0, 33, 28, 4, 42, 180, 0, 116, 21, 4, 46, 42, 180, 0, 116, 27, 21, 4, 100, 29, 100, 46]
abbrev dktX6_findsNimbers_1 : List UInt8 := dkwX6_findsNimbers_1 ++ dktX6_findsNimbers_2
def dkwX6_findsNimbers_0 : List UInt8 := [3, 60, 27, 16, 21, 162, 0, 90, 3, 61, 4, 62, 29, 6, 162, 0, 50, 3, 54, 4, 21, 4, 29, 96]
abbrev dktX6_findsNimbers_0 : List UInt8 := dkwX6_findsNimbers_0 ++ dktX6_findsNimbers_1
theorem dksX6_findsNimbers_0 : cX6_findsNimbers.data.toList.drop 0 = dktX6_findsNimbers_0 := by decide +kernel
theorem dksX6_findsNimbers_1 : cX6_findsNimbers.data.toList.drop 24 = dktX6_findsNimbers_1 := dk_seg dksX6_findsNimbers_0 24 rfl rfl
theorem dksX6_findsNimbers_2 : cX6_findsNimbers.data.toList.drop 48 = dktX6_findsNimbers_2 := dk_seg dksX6_findsNimbers_1 24 rfl rfl
theorem dksX6_findsNimbers_3 : cX6_findsNimbers.data.toList.drop 72 = dktX6_findsNimbers_3 := dk_seg dksX6_findsNimbers_2 24 rfl rfl
theorem dX6_findsNimbers_0 : decode cX6_findsNimbers 0 = .ok (.iconst 0, 1) := dk_3 (dk_at dksX6_findsNimbers_0 0 rfl rfl)
theorem dX6_findsNimbers_1 : decode cX6_findsNimbers 1 = .ok (.istore_n 1, 1) := dk_60 (dk_at dksX6_findsNimbers_0 1 rfl rfl)
theorem dX6_findsNimbers_2 : decode cX6_findsNimbers 2 = .ok (.iload_n 1, 1) := dk_27 (dk_at dksX6_findsNimbers_0 2 rfl rfl)
theorem dX6_findsNimbers_3 : decode cX6_findsNimbers 3 = .ok (.bipush 21, 2) := dk_16 21 (dk_at dksX6_findsNimbers_0 3 rfl rfl)
theorem dX6_findsNimbers_5 : decode cX6_findsNimbers 5 = .ok (.if_icmp .ge 90, 3) := dk_162 0 90 (dk_at dksX6_findsNimbers_0 5 rfl rfl)
theorem dX6_findsNimbers_8 : decode cX6_findsNimbers 8 = .ok (.iconst 0, 1) := dk_3 (dk_at dksX6_findsNimbers_0 8 rfl rfl)
theorem dX6_findsNimbers_9 : decode cX6_findsNimbers 9 = .ok (.istore_n 2, 1) := dk_61 (dk_at dksX6_findsNimbers_0 9 rfl rfl)
theorem dX6_findsNimbers_10 : decode cX6_findsNimbers 10 = .ok (.iconst 1, 1) := dk_4 (dk_at dksX6_findsNimbers_0 10 rfl rfl)
theorem dX6_findsNimbers_11 : decode cX6_findsNimbers 11 = .ok (.istore_n 3, 1) := dk_62 (dk_at dksX6_findsNimbers_0 11 rfl rfl)
theorem dX6_findsNimbers_12 : decode cX6_findsNimbers 12 = .ok (.iload_n 3, 1) := dk_29 (dk_at dksX6_findsNimbers_0 12 rfl rfl)
theorem dX6_findsNimbers_13 : decode cX6_findsNimbers 13 = .ok (.iconst 3, 1) := dk_6 (dk_at dksX6_findsNimbers_0 13 rfl rfl)
theorem dX6_findsNimbers_14 : decode cX6_findsNimbers 14 = .ok (.if_icmp .ge 50, 3) := dk_162 0 50 (dk_at dksX6_findsNimbers_0 14 rfl rfl)
theorem dX6_findsNimbers_17 : decode cX6_findsNimbers 17 = .ok (.iconst 0, 1) := dk_3 (dk_at dksX6_findsNimbers_0 17 rfl rfl)
theorem dX6_findsNimbers_18 : decode cX6_findsNimbers 18 = .ok (.istore 4, 2) := dk_54 4 (dk_at dksX6_findsNimbers_0 18 rfl rfl)
theorem dX6_findsNimbers_20 : decode cX6_findsNimbers 20 = .ok (.iload 4, 2) := dk_21 4 (dk_at dksX6_findsNimbers_0 20 rfl rfl)
theorem dX6_findsNimbers_22 : decode cX6_findsNimbers 22 = .ok (.iload_n 3, 1) := dk_29 (dk_at dksX6_findsNimbers_0 22 rfl rfl)
theorem dX6_findsNimbers_23 : decode cX6_findsNimbers 23 = .ok (.iadd, 1) := dk_96 (dk_at dksX6_findsNimbers_0 23 rfl rfl)
theorem dX6_findsNimbers_24 : decode cX6_findsNimbers 24 = .ok (.iload_n 1, 1) := dk_27 (dk_at dksX6_findsNimbers_1 0 rfl rfl)
theorem dX6_findsNimbers_25 : decode cX6_findsNimbers 25 = .ok (.if_icmp .gt 33, 3) := dk_163 0 33 (dk_at dksX6_findsNimbers_1 1 rfl rfl)
theorem dX6_findsNimbers_28 : decode cX6_findsNimbers 28 = .ok (.iload_n 2, 1) := dk_28 (dk_at dksX6_findsNimbers_1 4 rfl rfl)
theorem dX6_findsNimbers_29 : decode cX6_findsNimbers 29 = .ok (.iconst 1, 1) := dk_4 (dk_at dksX6_findsNimbers_1 5 rfl rfl)
theorem dX6_findsNimbers_30 : decode cX6_findsNimbers 30 = .ok (.aload_n 0, 1) := dk_42 (dk_at dksX6_findsNimbers_1 6 rfl rfl)
theorem dX6_findsNimbers_31 : decode cX6_findsNimbers 31 = .ok (.getfield 116, 3) := dk_180 0 116 (dk_at dksX6_findsNimbers_1 7 rfl rfl)
theorem dX6_findsNimbers_34 : decode cX6_findsNimbers 34 = .ok (.iload 4, 2) := dk_21 4 (dk_at dksX6_findsNimbers_1 10 rfl rfl)
theorem dX6_findsNimbers_36 : decode cX6_findsNimbers 36 = .ok (.iaload, 1) := dk_46 (dk_at dksX6_findsNimbers_1 12 rfl rfl)
theorem dX6_findsNimbers_37 : decode cX6_findsNimbers 37 = .ok (.aload_n 0, 1) := dk_42 (dk_at dksX6_findsNimbers_1 13 rfl rfl)
theorem dX6_findsNimbers_38 : decode cX6_findsNimbers 38 = .ok (.getfield 116, 3) := dk_180 0 116 (dk_at dksX6_findsNimbers_1 14 rfl rfl)
theorem dX6_findsNimbers_41 : decode cX6_findsNimbers 41 = .ok (.iload_n 1, 1) := dk_27 (dk_at dksX6_findsNimbers_1 17 rfl rfl)
theorem dX6_findsNimbers_42 : decode cX6_findsNimbers 42 = .ok (.iload 4, 2) := dk_21 4 (dk_at dksX6_findsNimbers_1 18 rfl rfl)
theorem dX6_findsNimbers_44 : decode cX6_findsNimbers 44 = .ok (.isub, 1) := dk_100 (dk_at dksX6_findsNimbers_1 20 rfl rfl)
theorem dX6_findsNimbers_45 : decode cX6_findsNimbers 45 = .ok (.iload_n 3, 1) := dk_29 (dk_at dksX6_findsNimbers_1 21 rfl rfl)
theorem dX6_findsNimbers_46 : decode cX6_findsNimbers 46 = .ok (.isub, 1) := dk_100 (dk_at dksX6_findsNimbers_1 22 rfl rfl)
theorem dX6_findsNimbers_47 : decode cX6_findsNimbers 47 = .ok (.iaload, 1) := dk_46 (dk_at dksX6_findsNimbers_1 23 rfl rfl)
theorem dX6_findsNimbers_48 : decode cX6_findsNimbers 48 = .ok (.ixor, 1) := dk_130 (dk_at dksX6_findsNimbers_2 0 rfl rfl)
theorem dX6_findsNimbers_49 : decode cX6_findsNimbers 49 = .ok (.ishl, 1) := dk_120 (dk_at dksX6_findsNimbers_2 1 rfl rfl)
theorem dX6_findsNimbers_50 : decode cX6_findsNimbers 50 = .ok (.ior, 1) := dk_128 (dk_at dksX6_findsNimbers_2 2 rfl rfl)
theorem dX6_findsNimbers_51 : decode cX6_findsNimbers 51 = .ok (.istore_n 2, 1) := dk_61 (dk_at dksX6_findsNimbers_2 3 rfl rfl)
theorem dX6_findsNimbers_52 : decode cX6_findsNimbers 52 = .ok (.iinc 4 1, 3) := dk_132 4 1 (dk_at dksX6_findsNimbers_2 4 rfl rfl)
theorem dX6_findsNimbers_55 : decode cX6_findsNimbers 55 = .ok (.goto (-35), 3) := dk_167 255 221 (dk_at dksX6_findsNimbers_2 7 rfl rfl)
theorem dX6_findsNimbers_58 : decode cX6_findsNimbers 58 = .ok (.iinc 3 1, 3) := dk_132 3 1 (dk_at dksX6_findsNimbers_2 10 rfl rfl)
theorem dX6_findsNimbers_61 : decode cX6_findsNimbers 61 = .ok (.goto (-49), 3) := dk_167 255 207 (dk_at dksX6_findsNimbers_2 13 rfl rfl)
theorem dX6_findsNimbers_64 : decode cX6_findsNimbers 64 = .ok (.iconst 0, 1) := dk_3 (dk_at dksX6_findsNimbers_2 16 rfl rfl)
theorem dX6_findsNimbers_65 : decode cX6_findsNimbers 65 = .ok (.istore_n 3, 1) := dk_62 (dk_at dksX6_findsNimbers_2 17 rfl rfl)
theorem dX6_findsNimbers_66 : decode cX6_findsNimbers 66 = .ok (.aload_n 0, 1) := dk_42 (dk_at dksX6_findsNimbers_2 18 rfl rfl)
theorem dX6_findsNimbers_67 : decode cX6_findsNimbers 67 = .ok (.iload_n 2, 1) := dk_28 (dk_at dksX6_findsNimbers_2 19 rfl rfl)
theorem dX6_findsNimbers_68 : decode cX6_findsNimbers 68 = .ok (.iload_n 3, 1) := dk_29 (dk_at dksX6_findsNimbers_2 20 rfl rfl)
theorem dX6_findsNimbers_69 : decode cX6_findsNimbers 69 = .ok (.invokevirtual 331, 3) := dk_182 1 75 (dk_at dksX6_findsNimbers_2 21 rfl rfl)
theorem dX6_findsNimbers_72 : decode cX6_findsNimbers 72 = .ok (.ifCond .eq 10, 3) := dk_153 0 10 (dk_at dksX6_findsNimbers_3 0 rfl rfl)
theorem dX6_findsNimbers_75 : decode cX6_findsNimbers 75 = .ok (.iload_n 3, 1) := dk_29 (dk_at dksX6_findsNimbers_3 3 rfl rfl)
theorem dX6_findsNimbers_76 : decode cX6_findsNimbers 76 = .ok (.iconst 1, 1) := dk_4 (dk_at dksX6_findsNimbers_3 4 rfl rfl)
theorem dX6_findsNimbers_77 : decode cX6_findsNimbers 77 = .ok (.iadd, 1) := dk_96 (dk_at dksX6_findsNimbers_3 5 rfl rfl)
theorem dX6_findsNimbers_78 : decode cX6_findsNimbers 78 = .ok (.istore_n 3, 1) := dk_62 (dk_at dksX6_findsNimbers_3 6 rfl rfl)
theorem dX6_findsNimbers_79 : decode cX6_findsNimbers 79 = .ok (.goto (-13), 3) := dk_167 255 243 (dk_at dksX6_findsNimbers_3 7 rfl rfl)
theorem dX6_findsNimbers_82 : decode cX6_findsNimbers 82 = .ok (.aload_n 0, 1) := dk_42 (dk_at dksX6_findsNimbers_3 10 rfl rfl)
theorem dX6_findsNimbers_83 : decode cX6_findsNimbers 83 = .ok (.getfield 116, 3) := dk_180 0 116 (dk_at dksX6_findsNimbers_3 11 rfl rfl)
theorem dX6_findsNimbers_86 : decode cX6_findsNimbers 86 = .ok (.iload_n 1, 1) := dk_27 (dk_at dksX6_findsNimbers_3 14 rfl rfl)
theorem dX6_findsNimbers_87 : decode cX6_findsNimbers 87 = .ok (.iload_n 3, 1) := dk_29 (dk_at dksX6_findsNimbers_3 15 rfl rfl)
theorem dX6_findsNimbers_88 : decode cX6_findsNimbers 88 = .ok (.iastore, 1) := dk_79 (dk_at dksX6_findsNimbers_3 16 rfl rfl)
theorem dX6_findsNimbers_89 : decode cX6_findsNimbers 89 = .ok (.iinc 1 1, 3) := dk_132 1 1 (dk_at dksX6_findsNimbers_3 17 rfl rfl)
theorem dX6_findsNimbers_92 : decode cX6_findsNimbers 92 = .ok (.goto (-90), 3) := dk_167 255 166 (dk_at dksX6_findsNimbers_3 20 rfl rfl)
theorem dX6_findsNimbers_95 : decode cX6_findsNimbers 95 = .ok (.return_, 1) := dk_177 (dk_at dksX6_findsNimbers_3 23 rfl rfl)
abbrev cX6_image : ByteArray := prog_22_method_132_code
def yX6_image : MethodName := ⟨RX6, "image", "(Z)Z"⟩
def dkwX6_image_4 : List UInt8 := [132, 2, 1, 167, 255, 230, 42, 182, 1, 249, 27, 154, 0, 8, 42, 3, 181, 0, 126, 4, 172]
abbrev dktX6_image_4 : List UInt8 := dkwX6_image_4 ++ []
def dkwX6_image_3 : List UInt8 := [61, 28, 17, 2, 88, 162, 0, 25, 42, 180, 0, 25, 28, 42, 42, 180, 0, 25, 28, 46, 182, 1, 237, 79]
abbrev dktX6_image_3 : List UInt8 := dkwX6_image_3 ++ dktX6_image_4
def dkwX6_image_2 : List UInt8 := [180, 0, 7, 28, 46, 182, 1, 237, 79, 132, 2, 1, 167, 255, 231, 42, 182, 1, 243, 42, 182, 1, 246, 3]
abbrev dktX6_image_2 : List UInt8 := dkwX6_image_2 ++ dktX6_image_3
def dkwX6_image_1 : List UInt8 := [4, 181, 1, 240, 42, 3, 181, 1, 231, 3, 61, 28, 16, 121, 162, 0, 25, 42, 180, 0, 7, 28, 42, 42]
abbrev dktX6_image_1 : List UInt8 := dkwX6_image_1 ++ dktX6_image_2
def dkwX6_image_0 : List UInt8 := [42, 3, 181, 0, 122, 27, 154, 0, 12, 42, 180, 1, 240, 154, 0, 5, 3, 172, 42, 27, 181, 1, 234, 42]
abbrev dktX6_image_0 : List UInt8 := dkwX6_image_0 ++ dktX6_image_1
theorem dksX6_image_0 : cX6_image.data.toList.drop 0 = dktX6_image_0 := by decide +kernel
theorem dksX6_image_1 : cX6_image.data.toList.drop 24 = dktX6_image_1 := dk_seg dksX6_image_0 24 rfl rfl
theorem dksX6_image_2 : cX6_image.data.toList.drop 48 = dktX6_image_2 := dk_seg dksX6_image_1 24 rfl rfl
theorem dksX6_image_3 : cX6_image.data.toList.drop 72 = dktX6_image_3 := dk_seg dksX6_image_2 24 rfl rfl
theorem dksX6_image_4 : cX6_image.data.toList.drop 96 = dktX6_image_4 := dk_seg dksX6_image_3 24 rfl rfl
theorem dX6_image_0 : decode cX6_image 0 = .ok (.aload_n 0, 1) := dk_42 (dk_at dksX6_image_0 0 rfl rfl)
theorem dX6_image_1 : decode cX6_image 1 = .ok (.iconst 0, 1) := dk_3 (dk_at dksX6_image_0 1 rfl rfl)
theorem dX6_image_2 : decode cX6_image 2 = .ok (.putfield 122, 3) := dk_181 0 122 (dk_at dksX6_image_0 2 rfl rfl)
theorem dX6_image_5 : decode cX6_image 5 = .ok (.iload_n 1, 1) := dk_27 (dk_at dksX6_image_0 5 rfl rfl)
theorem dX6_image_6 : decode cX6_image 6 = .ok (.ifCond .ne 12, 3) := dk_154 0 12 (dk_at dksX6_image_0 6 rfl rfl)
theorem dX6_image_9 : decode cX6_image 9 = .ok (.aload_n 0, 1) := dk_42 (dk_at dksX6_image_0 9 rfl rfl)
theorem dX6_image_10 : decode cX6_image 10 = .ok (.getfield 496, 3) := dk_180 1 240 (dk_at dksX6_image_0 10 rfl rfl)
theorem dX6_image_13 : decode cX6_image 13 = .ok (.ifCond .ne 5, 3) := dk_154 0 5 (dk_at dksX6_image_0 13 rfl rfl)
theorem dX6_image_16 : decode cX6_image 16 = .ok (.iconst 0, 1) := dk_3 (dk_at dksX6_image_0 16 rfl rfl)
theorem dX6_image_17 : decode cX6_image 17 = .ok (.ireturn, 1) := dk_172 (dk_at dksX6_image_0 17 rfl rfl)
theorem dX6_image_18 : decode cX6_image 18 = .ok (.aload_n 0, 1) := dk_42 (dk_at dksX6_image_0 18 rfl rfl)
theorem dX6_image_19 : decode cX6_image 19 = .ok (.iload_n 1, 1) := dk_27 (dk_at dksX6_image_0 19 rfl rfl)
theorem dX6_image_20 : decode cX6_image 20 = .ok (.putfield 490, 3) := dk_181 1 234 (dk_at dksX6_image_0 20 rfl rfl)
theorem dX6_image_23 : decode cX6_image 23 = .ok (.aload_n 0, 1) := dk_42 (dk_at dksX6_image_0 23 rfl rfl)
theorem dX6_image_24 : decode cX6_image 24 = .ok (.iconst 1, 1) := dk_4 (dk_at dksX6_image_1 0 rfl rfl)
theorem dX6_image_25 : decode cX6_image 25 = .ok (.putfield 496, 3) := dk_181 1 240 (dk_at dksX6_image_1 1 rfl rfl)
theorem dX6_image_28 : decode cX6_image 28 = .ok (.aload_n 0, 1) := dk_42 (dk_at dksX6_image_1 4 rfl rfl)
theorem dX6_image_29 : decode cX6_image 29 = .ok (.iconst 0, 1) := dk_3 (dk_at dksX6_image_1 5 rfl rfl)
theorem dX6_image_30 : decode cX6_image 30 = .ok (.putfield 487, 3) := dk_181 1 231 (dk_at dksX6_image_1 6 rfl rfl)
theorem dX6_image_33 : decode cX6_image 33 = .ok (.iconst 0, 1) := dk_3 (dk_at dksX6_image_1 9 rfl rfl)
theorem dX6_image_34 : decode cX6_image 34 = .ok (.istore_n 2, 1) := dk_61 (dk_at dksX6_image_1 10 rfl rfl)
theorem dX6_image_35 : decode cX6_image 35 = .ok (.iload_n 2, 1) := dk_28 (dk_at dksX6_image_1 11 rfl rfl)
theorem dX6_image_36 : decode cX6_image 36 = .ok (.bipush 121, 2) := dk_16 121 (dk_at dksX6_image_1 12 rfl rfl)
theorem dX6_image_38 : decode cX6_image 38 = .ok (.if_icmp .ge 25, 3) := dk_162 0 25 (dk_at dksX6_image_1 14 rfl rfl)
theorem dX6_image_41 : decode cX6_image 41 = .ok (.aload_n 0, 1) := dk_42 (dk_at dksX6_image_1 17 rfl rfl)
theorem dX6_image_42 : decode cX6_image 42 = .ok (.getfield 7, 3) := dk_180 0 7 (dk_at dksX6_image_1 18 rfl rfl)
theorem dX6_image_45 : decode cX6_image 45 = .ok (.iload_n 2, 1) := dk_28 (dk_at dksX6_image_1 21 rfl rfl)
theorem dX6_image_46 : decode cX6_image 46 = .ok (.aload_n 0, 1) := dk_42 (dk_at dksX6_image_1 22 rfl rfl)
theorem dX6_image_47 : decode cX6_image 47 = .ok (.aload_n 0, 1) := dk_42 (dk_at dksX6_image_1 23 rfl rfl)
theorem dX6_image_48 : decode cX6_image 48 = .ok (.getfield 7, 3) := dk_180 0 7 (dk_at dksX6_image_2 0 rfl rfl)
theorem dX6_image_51 : decode cX6_image 51 = .ok (.iload_n 2, 1) := dk_28 (dk_at dksX6_image_2 3 rfl rfl)
theorem dX6_image_52 : decode cX6_image 52 = .ok (.iaload, 1) := dk_46 (dk_at dksX6_image_2 4 rfl rfl)
theorem dX6_image_53 : decode cX6_image 53 = .ok (.invokevirtual 493, 3) := dk_182 1 237 (dk_at dksX6_image_2 5 rfl rfl)
theorem dX6_image_56 : decode cX6_image 56 = .ok (.iastore, 1) := dk_79 (dk_at dksX6_image_2 8 rfl rfl)
theorem dX6_image_57 : decode cX6_image 57 = .ok (.iinc 2 1, 3) := dk_132 2 1 (dk_at dksX6_image_2 9 rfl rfl)
theorem dX6_image_60 : decode cX6_image 60 = .ok (.goto (-25), 3) := dk_167 255 231 (dk_at dksX6_image_2 12 rfl rfl)
theorem dX6_image_63 : decode cX6_image 63 = .ok (.aload_n 0, 1) := dk_42 (dk_at dksX6_image_2 15 rfl rfl)
theorem dX6_image_64 : decode cX6_image 64 = .ok (.invokevirtual 499, 3) := dk_182 1 243 (dk_at dksX6_image_2 16 rfl rfl)
theorem dX6_image_67 : decode cX6_image 67 = .ok (.aload_n 0, 1) := dk_42 (dk_at dksX6_image_2 19 rfl rfl)
theorem dX6_image_68 : decode cX6_image 68 = .ok (.invokevirtual 502, 3) := dk_182 1 246 (dk_at dksX6_image_2 20 rfl rfl)
theorem dX6_image_71 : decode cX6_image 71 = .ok (.iconst 0, 1) := dk_3 (dk_at dksX6_image_2 23 rfl rfl)
theorem dX6_image_72 : decode cX6_image 72 = .ok (.istore_n 2, 1) := dk_61 (dk_at dksX6_image_3 0 rfl rfl)
theorem dX6_image_73 : decode cX6_image 73 = .ok (.iload_n 2, 1) := dk_28 (dk_at dksX6_image_3 1 rfl rfl)
theorem dX6_image_74 : decode cX6_image 74 = .ok (.sipush 600, 3) := dk_17 2 88 (dk_at dksX6_image_3 2 rfl rfl)
theorem dX6_image_77 : decode cX6_image 77 = .ok (.if_icmp .ge 25, 3) := dk_162 0 25 (dk_at dksX6_image_3 5 rfl rfl)
theorem dX6_image_80 : decode cX6_image 80 = .ok (.aload_n 0, 1) := dk_42 (dk_at dksX6_image_3 8 rfl rfl)
theorem dX6_image_81 : decode cX6_image 81 = .ok (.getfield 25, 3) := dk_180 0 25 (dk_at dksX6_image_3 9 rfl rfl)
theorem dX6_image_84 : decode cX6_image 84 = .ok (.iload_n 2, 1) := dk_28 (dk_at dksX6_image_3 12 rfl rfl)
theorem dX6_image_85 : decode cX6_image 85 = .ok (.aload_n 0, 1) := dk_42 (dk_at dksX6_image_3 13 rfl rfl)
theorem dX6_image_86 : decode cX6_image 86 = .ok (.aload_n 0, 1) := dk_42 (dk_at dksX6_image_3 14 rfl rfl)
theorem dX6_image_87 : decode cX6_image 87 = .ok (.getfield 25, 3) := dk_180 0 25 (dk_at dksX6_image_3 15 rfl rfl)
theorem dX6_image_90 : decode cX6_image 90 = .ok (.iload_n 2, 1) := dk_28 (dk_at dksX6_image_3 18 rfl rfl)
theorem dX6_image_91 : decode cX6_image 91 = .ok (.iaload, 1) := dk_46 (dk_at dksX6_image_3 19 rfl rfl)
theorem dX6_image_92 : decode cX6_image 92 = .ok (.invokevirtual 493, 3) := dk_182 1 237 (dk_at dksX6_image_3 20 rfl rfl)
theorem dX6_image_95 : decode cX6_image 95 = .ok (.iastore, 1) := dk_79 (dk_at dksX6_image_3 23 rfl rfl)
theorem dX6_image_96 : decode cX6_image 96 = .ok (.iinc 2 1, 3) := dk_132 2 1 (dk_at dksX6_image_4 0 rfl rfl)
theorem dX6_image_99 : decode cX6_image 99 = .ok (.goto (-26), 3) := dk_167 255 230 (dk_at dksX6_image_4 3 rfl rfl)
theorem dX6_image_102 : decode cX6_image 102 = .ok (.aload_n 0, 1) := dk_42 (dk_at dksX6_image_4 6 rfl rfl)
theorem dX6_image_103 : decode cX6_image 103 = .ok (.invokevirtual 505, 3) := dk_182 1 249 (dk_at dksX6_image_4 7 rfl rfl)
theorem dX6_image_106 : decode cX6_image 106 = .ok (.iload_n 1, 1) := dk_27 (dk_at dksX6_image_4 10 rfl rfl)
theorem dX6_image_107 : decode cX6_image 107 = .ok (.ifCond .ne 8, 3) := dk_154 0 8 (dk_at dksX6_image_4 11 rfl rfl)
theorem dX6_image_110 : decode cX6_image 110 = .ok (.aload_n 0, 1) := dk_42 (dk_at dksX6_image_4 14 rfl rfl)
theorem dX6_image_111 : decode cX6_image 111 = .ok (.iconst 0, 1) := dk_3 (dk_at dksX6_image_4 15 rfl rfl)
theorem dX6_image_112 : decode cX6_image 112 = .ok (.putfield 126, 3) := dk_181 0 126 (dk_at dksX6_image_4 16 rfl rfl)
theorem dX6_image_115 : decode cX6_image 115 = .ok (.iconst 1, 1) := dk_4 (dk_at dksX6_image_4 19 rfl rfl)
theorem dX6_image_116 : decode cX6_image 116 = .ok (.ireturn, 1) := dk_172 (dk_at dksX6_image_4 20 rfl rfl)
abbrev cX6_keeps : ByteArray := prog_22_method_128_code
def yX6_keeps : MethodName := ⟨RX6, "keeps", "(I)I"⟩
def dkwX6_keeps_1 : List UInt8 := [180, 1, 231, 4, 100, 46, 172, 42, 180, 0, 119, 42, 180, 1, 231, 4, 100, 27, 79, 27, 172]
abbrev dktX6_keeps_1 : List UInt8 := dkwX6_keeps_1 ++ []
def dkwX6_keeps_0 : List UInt8 := [42, 42, 180, 1, 231, 4, 96, 181, 1, 231, 42, 180, 1, 234, 154, 0, 15, 42, 180, 0, 119, 42]
abbrev dktX6_keeps_0 : List UInt8 := dkwX6_keeps_0 ++ dktX6_keeps_1
theorem dksX6_keeps_0 : cX6_keeps.data.toList.drop 0 = dktX6_keeps_0 := by decide +kernel
theorem dksX6_keeps_1 : cX6_keeps.data.toList.drop 22 = dktX6_keeps_1 := dk_seg dksX6_keeps_0 22 rfl rfl
theorem dX6_keeps_0 : decode cX6_keeps 0 = .ok (.aload_n 0, 1) := dk_42 (dk_at dksX6_keeps_0 0 rfl rfl)
theorem dX6_keeps_1 : decode cX6_keeps 1 = .ok (.aload_n 0, 1) := dk_42 (dk_at dksX6_keeps_0 1 rfl rfl)
theorem dX6_keeps_2 : decode cX6_keeps 2 = .ok (.getfield 487, 3) := dk_180 1 231 (dk_at dksX6_keeps_0 2 rfl rfl)
theorem dX6_keeps_5 : decode cX6_keeps 5 = .ok (.iconst 1, 1) := dk_4 (dk_at dksX6_keeps_0 5 rfl rfl)
theorem dX6_keeps_6 : decode cX6_keeps 6 = .ok (.iadd, 1) := dk_96 (dk_at dksX6_keeps_0 6 rfl rfl)
theorem dX6_keeps_7 : decode cX6_keeps 7 = .ok (.putfield 487, 3) := dk_181 1 231 (dk_at dksX6_keeps_0 7 rfl rfl)
theorem dX6_keeps_10 : decode cX6_keeps 10 = .ok (.aload_n 0, 1) := dk_42 (dk_at dksX6_keeps_0 10 rfl rfl)
theorem dX6_keeps_11 : decode cX6_keeps 11 = .ok (.getfield 490, 3) := dk_180 1 234 (dk_at dksX6_keeps_0 11 rfl rfl)
theorem dX6_keeps_14 : decode cX6_keeps 14 = .ok (.ifCond .ne 15, 3) := dk_154 0 15 (dk_at dksX6_keeps_0 14 rfl rfl)
theorem dX6_keeps_17 : decode cX6_keeps 17 = .ok (.aload_n 0, 1) := dk_42 (dk_at dksX6_keeps_0 17 rfl rfl)
theorem dX6_keeps_18 : decode cX6_keeps 18 = .ok (.getfield 119, 3) := dk_180 0 119 (dk_at dksX6_keeps_0 18 rfl rfl)
theorem dX6_keeps_21 : decode cX6_keeps 21 = .ok (.aload_n 0, 1) := dk_42 (dk_at dksX6_keeps_0 21 rfl rfl)
theorem dX6_keeps_22 : decode cX6_keeps 22 = .ok (.getfield 487, 3) := dk_180 1 231 (dk_at dksX6_keeps_1 0 rfl rfl)
theorem dX6_keeps_25 : decode cX6_keeps 25 = .ok (.iconst 1, 1) := dk_4 (dk_at dksX6_keeps_1 3 rfl rfl)
theorem dX6_keeps_26 : decode cX6_keeps 26 = .ok (.isub, 1) := dk_100 (dk_at dksX6_keeps_1 4 rfl rfl)
theorem dX6_keeps_27 : decode cX6_keeps 27 = .ok (.iaload, 1) := dk_46 (dk_at dksX6_keeps_1 5 rfl rfl)
theorem dX6_keeps_28 : decode cX6_keeps 28 = .ok (.ireturn, 1) := dk_172 (dk_at dksX6_keeps_1 6 rfl rfl)
theorem dX6_keeps_29 : decode cX6_keeps 29 = .ok (.aload_n 0, 1) := dk_42 (dk_at dksX6_keeps_1 7 rfl rfl)
theorem dX6_keeps_30 : decode cX6_keeps 30 = .ok (.getfield 119, 3) := dk_180 0 119 (dk_at dksX6_keeps_1 8 rfl rfl)
theorem dX6_keeps_33 : decode cX6_keeps 33 = .ok (.aload_n 0, 1) := dk_42 (dk_at dksX6_keeps_1 11 rfl rfl)
theorem dX6_keeps_34 : decode cX6_keeps 34 = .ok (.getfield 487, 3) := dk_180 1 231 (dk_at dksX6_keeps_1 12 rfl rfl)
theorem dX6_keeps_37 : decode cX6_keeps 37 = .ok (.iconst 1, 1) := dk_4 (dk_at dksX6_keeps_1 15 rfl rfl)
theorem dX6_keeps_38 : decode cX6_keeps 38 = .ok (.isub, 1) := dk_100 (dk_at dksX6_keeps_1 16 rfl rfl)
theorem dX6_keeps_39 : decode cX6_keeps 39 = .ok (.iload_n 1, 1) := dk_27 (dk_at dksX6_keeps_1 17 rfl rfl)
theorem dX6_keeps_40 : decode cX6_keeps 40 = .ok (.iastore, 1) := dk_79 (dk_at dksX6_keeps_1 18 rfl rfl)
theorem dX6_keeps_41 : decode cX6_keeps 41 = .ok (.iload_n 1, 1) := dk_27 (dk_at dksX6_keeps_1 19 rfl rfl)
theorem dX6_keeps_42 : decode cX6_keeps 42 = .ok (.ireturn, 1) := dk_172 (dk_at dksX6_keeps_1 20 rfl rfl)
abbrev cX6_keepsMany : ByteArray := prog_22_method_130_code
def yX6_keepsMany : MethodName := ⟨RX6, "keepsMany", "()V"⟩
def dkwX6_keepsMany_5 : List UInt8 := [177]
abbrev dktX6_keepsMany_5 : List UInt8 := dkwX6_keepsMany_5 ++ []
def dkwX6_keepsMany_4 : List UInt8 := [42, 42, 42, 180, 1, 216, 182, 1, 237, 181, 1, 216, 42, 42, 42, 180, 1, 225, 182, 1, 237, 181, 1, 225]
abbrev dktX6_keepsMany_4 : List UInt8 := dkwX6_keepsMany_4 ++ dktX6_keepsMany_5
def dkwX6_keepsMany_3 : List UInt8 := [42, 42, 42, 180, 1, 172, 182, 1, 237, 181, 1, 172, 42, 42, 42, 180, 1, 199, 182, 1, 237, 181, 1, 199]
abbrev dktX6_keepsMany_3 : List UInt8 := dkwX6_keepsMany_3 ++ dktX6_keepsMany_4
def dkwX6_keepsMany_2 : List UInt8 := [42, 42, 42, 180, 1, 36, 182, 1, 237, 181, 1, 36, 42, 42, 42, 180, 1, 163, 182, 1, 237, 181, 1, 163]
abbrev dktX6_keepsMany_2 : List UInt8 := dkwX6_keepsMany_2 ++ dktX6_keepsMany_3
def dkwX6_keepsMany_1 : List UInt8 := [42, 42, 42, 180, 1, 39, 182, 1, 237, 181, 1, 39, 42, 42, 42, 180, 1, 42, 182, 1, 237, 181, 1, 42]
abbrev dktX6_keepsMany_1 : List UInt8 := dkwX6_keepsMany_1 ++ dktX6_keepsMany_2
def dkwX6_keepsMany_0 : List UInt8 := [42, 42, 42, 180, 0, 135, 182, 1, 237, 181, 0, 135, 42, 42, 42, 180, 0, 138, 182, 1, 237, 181, 0, 138]
abbrev dktX6_keepsMany_0 : List UInt8 := dkwX6_keepsMany_0 ++ dktX6_keepsMany_1
theorem dksX6_keepsMany_0 : cX6_keepsMany.data.toList.drop 0 = dktX6_keepsMany_0 := by decide +kernel
theorem dksX6_keepsMany_1 : cX6_keepsMany.data.toList.drop 24 = dktX6_keepsMany_1 := dk_seg dksX6_keepsMany_0 24 rfl rfl
theorem dksX6_keepsMany_2 : cX6_keepsMany.data.toList.drop 48 = dktX6_keepsMany_2 := dk_seg dksX6_keepsMany_1 24 rfl rfl
theorem dksX6_keepsMany_3 : cX6_keepsMany.data.toList.drop 72 = dktX6_keepsMany_3 := dk_seg dksX6_keepsMany_2 24 rfl rfl
theorem dksX6_keepsMany_4 : cX6_keepsMany.data.toList.drop 96 = dktX6_keepsMany_4 := dk_seg dksX6_keepsMany_3 24 rfl rfl
theorem dksX6_keepsMany_5 : cX6_keepsMany.data.toList.drop 120 = dktX6_keepsMany_5 := dk_seg dksX6_keepsMany_4 24 rfl rfl
theorem dX6_keepsMany_0 : decode cX6_keepsMany 0 = .ok (.aload_n 0, 1) := dk_42 (dk_at dksX6_keepsMany_0 0 rfl rfl)
theorem dX6_keepsMany_1 : decode cX6_keepsMany 1 = .ok (.aload_n 0, 1) := dk_42 (dk_at dksX6_keepsMany_0 1 rfl rfl)
theorem dX6_keepsMany_2 : decode cX6_keepsMany 2 = .ok (.aload_n 0, 1) := dk_42 (dk_at dksX6_keepsMany_0 2 rfl rfl)
theorem dX6_keepsMany_3 : decode cX6_keepsMany 3 = .ok (.getfield 135, 3) := dk_180 0 135 (dk_at dksX6_keepsMany_0 3 rfl rfl)
theorem dX6_keepsMany_6 : decode cX6_keepsMany 6 = .ok (.invokevirtual 493, 3) := dk_182 1 237 (dk_at dksX6_keepsMany_0 6 rfl rfl)
theorem dX6_keepsMany_9 : decode cX6_keepsMany 9 = .ok (.putfield 135, 3) := dk_181 0 135 (dk_at dksX6_keepsMany_0 9 rfl rfl)
theorem dX6_keepsMany_12 : decode cX6_keepsMany 12 = .ok (.aload_n 0, 1) := dk_42 (dk_at dksX6_keepsMany_0 12 rfl rfl)
theorem dX6_keepsMany_13 : decode cX6_keepsMany 13 = .ok (.aload_n 0, 1) := dk_42 (dk_at dksX6_keepsMany_0 13 rfl rfl)
theorem dX6_keepsMany_14 : decode cX6_keepsMany 14 = .ok (.aload_n 0, 1) := dk_42 (dk_at dksX6_keepsMany_0 14 rfl rfl)
theorem dX6_keepsMany_15 : decode cX6_keepsMany 15 = .ok (.getfield 138, 3) := dk_180 0 138 (dk_at dksX6_keepsMany_0 15 rfl rfl)
theorem dX6_keepsMany_18 : decode cX6_keepsMany 18 = .ok (.invokevirtual 493, 3) := dk_182 1 237 (dk_at dksX6_keepsMany_0 18 rfl rfl)
theorem dX6_keepsMany_21 : decode cX6_keepsMany 21 = .ok (.putfield 138, 3) := dk_181 0 138 (dk_at dksX6_keepsMany_0 21 rfl rfl)
theorem dX6_keepsMany_24 : decode cX6_keepsMany 24 = .ok (.aload_n 0, 1) := dk_42 (dk_at dksX6_keepsMany_1 0 rfl rfl)
theorem dX6_keepsMany_25 : decode cX6_keepsMany 25 = .ok (.aload_n 0, 1) := dk_42 (dk_at dksX6_keepsMany_1 1 rfl rfl)
theorem dX6_keepsMany_26 : decode cX6_keepsMany 26 = .ok (.aload_n 0, 1) := dk_42 (dk_at dksX6_keepsMany_1 2 rfl rfl)
theorem dX6_keepsMany_27 : decode cX6_keepsMany 27 = .ok (.getfield 295, 3) := dk_180 1 39 (dk_at dksX6_keepsMany_1 3 rfl rfl)
theorem dX6_keepsMany_30 : decode cX6_keepsMany 30 = .ok (.invokevirtual 493, 3) := dk_182 1 237 (dk_at dksX6_keepsMany_1 6 rfl rfl)
theorem dX6_keepsMany_33 : decode cX6_keepsMany 33 = .ok (.putfield 295, 3) := dk_181 1 39 (dk_at dksX6_keepsMany_1 9 rfl rfl)
theorem dX6_keepsMany_36 : decode cX6_keepsMany 36 = .ok (.aload_n 0, 1) := dk_42 (dk_at dksX6_keepsMany_1 12 rfl rfl)
theorem dX6_keepsMany_37 : decode cX6_keepsMany 37 = .ok (.aload_n 0, 1) := dk_42 (dk_at dksX6_keepsMany_1 13 rfl rfl)
theorem dX6_keepsMany_38 : decode cX6_keepsMany 38 = .ok (.aload_n 0, 1) := dk_42 (dk_at dksX6_keepsMany_1 14 rfl rfl)
theorem dX6_keepsMany_39 : decode cX6_keepsMany 39 = .ok (.getfield 298, 3) := dk_180 1 42 (dk_at dksX6_keepsMany_1 15 rfl rfl)
theorem dX6_keepsMany_42 : decode cX6_keepsMany 42 = .ok (.invokevirtual 493, 3) := dk_182 1 237 (dk_at dksX6_keepsMany_1 18 rfl rfl)
theorem dX6_keepsMany_45 : decode cX6_keepsMany 45 = .ok (.putfield 298, 3) := dk_181 1 42 (dk_at dksX6_keepsMany_1 21 rfl rfl)
theorem dX6_keepsMany_48 : decode cX6_keepsMany 48 = .ok (.aload_n 0, 1) := dk_42 (dk_at dksX6_keepsMany_2 0 rfl rfl)
theorem dX6_keepsMany_49 : decode cX6_keepsMany 49 = .ok (.aload_n 0, 1) := dk_42 (dk_at dksX6_keepsMany_2 1 rfl rfl)
theorem dX6_keepsMany_50 : decode cX6_keepsMany 50 = .ok (.aload_n 0, 1) := dk_42 (dk_at dksX6_keepsMany_2 2 rfl rfl)
theorem dX6_keepsMany_51 : decode cX6_keepsMany 51 = .ok (.getfield 292, 3) := dk_180 1 36 (dk_at dksX6_keepsMany_2 3 rfl rfl)
theorem dX6_keepsMany_54 : decode cX6_keepsMany 54 = .ok (.invokevirtual 493, 3) := dk_182 1 237 (dk_at dksX6_keepsMany_2 6 rfl rfl)
theorem dX6_keepsMany_57 : decode cX6_keepsMany 57 = .ok (.putfield 292, 3) := dk_181 1 36 (dk_at dksX6_keepsMany_2 9 rfl rfl)
theorem dX6_keepsMany_60 : decode cX6_keepsMany 60 = .ok (.aload_n 0, 1) := dk_42 (dk_at dksX6_keepsMany_2 12 rfl rfl)
theorem dX6_keepsMany_61 : decode cX6_keepsMany 61 = .ok (.aload_n 0, 1) := dk_42 (dk_at dksX6_keepsMany_2 13 rfl rfl)
theorem dX6_keepsMany_62 : decode cX6_keepsMany 62 = .ok (.aload_n 0, 1) := dk_42 (dk_at dksX6_keepsMany_2 14 rfl rfl)
theorem dX6_keepsMany_63 : decode cX6_keepsMany 63 = .ok (.getfield 419, 3) := dk_180 1 163 (dk_at dksX6_keepsMany_2 15 rfl rfl)
theorem dX6_keepsMany_66 : decode cX6_keepsMany 66 = .ok (.invokevirtual 493, 3) := dk_182 1 237 (dk_at dksX6_keepsMany_2 18 rfl rfl)
theorem dX6_keepsMany_69 : decode cX6_keepsMany 69 = .ok (.putfield 419, 3) := dk_181 1 163 (dk_at dksX6_keepsMany_2 21 rfl rfl)
theorem dX6_keepsMany_72 : decode cX6_keepsMany 72 = .ok (.aload_n 0, 1) := dk_42 (dk_at dksX6_keepsMany_3 0 rfl rfl)
theorem dX6_keepsMany_73 : decode cX6_keepsMany 73 = .ok (.aload_n 0, 1) := dk_42 (dk_at dksX6_keepsMany_3 1 rfl rfl)
theorem dX6_keepsMany_74 : decode cX6_keepsMany 74 = .ok (.aload_n 0, 1) := dk_42 (dk_at dksX6_keepsMany_3 2 rfl rfl)
theorem dX6_keepsMany_75 : decode cX6_keepsMany 75 = .ok (.getfield 428, 3) := dk_180 1 172 (dk_at dksX6_keepsMany_3 3 rfl rfl)
theorem dX6_keepsMany_78 : decode cX6_keepsMany 78 = .ok (.invokevirtual 493, 3) := dk_182 1 237 (dk_at dksX6_keepsMany_3 6 rfl rfl)
theorem dX6_keepsMany_81 : decode cX6_keepsMany 81 = .ok (.putfield 428, 3) := dk_181 1 172 (dk_at dksX6_keepsMany_3 9 rfl rfl)
theorem dX6_keepsMany_84 : decode cX6_keepsMany 84 = .ok (.aload_n 0, 1) := dk_42 (dk_at dksX6_keepsMany_3 12 rfl rfl)
theorem dX6_keepsMany_85 : decode cX6_keepsMany 85 = .ok (.aload_n 0, 1) := dk_42 (dk_at dksX6_keepsMany_3 13 rfl rfl)
theorem dX6_keepsMany_86 : decode cX6_keepsMany 86 = .ok (.aload_n 0, 1) := dk_42 (dk_at dksX6_keepsMany_3 14 rfl rfl)
theorem dX6_keepsMany_87 : decode cX6_keepsMany 87 = .ok (.getfield 455, 3) := dk_180 1 199 (dk_at dksX6_keepsMany_3 15 rfl rfl)
theorem dX6_keepsMany_90 : decode cX6_keepsMany 90 = .ok (.invokevirtual 493, 3) := dk_182 1 237 (dk_at dksX6_keepsMany_3 18 rfl rfl)
theorem dX6_keepsMany_93 : decode cX6_keepsMany 93 = .ok (.putfield 455, 3) := dk_181 1 199 (dk_at dksX6_keepsMany_3 21 rfl rfl)
theorem dX6_keepsMany_96 : decode cX6_keepsMany 96 = .ok (.aload_n 0, 1) := dk_42 (dk_at dksX6_keepsMany_4 0 rfl rfl)
theorem dX6_keepsMany_97 : decode cX6_keepsMany 97 = .ok (.aload_n 0, 1) := dk_42 (dk_at dksX6_keepsMany_4 1 rfl rfl)
theorem dX6_keepsMany_98 : decode cX6_keepsMany 98 = .ok (.aload_n 0, 1) := dk_42 (dk_at dksX6_keepsMany_4 2 rfl rfl)
theorem dX6_keepsMany_99 : decode cX6_keepsMany 99 = .ok (.getfield 472, 3) := dk_180 1 216 (dk_at dksX6_keepsMany_4 3 rfl rfl)
theorem dX6_keepsMany_102 : decode cX6_keepsMany 102 = .ok (.invokevirtual 493, 3) := dk_182 1 237 (dk_at dksX6_keepsMany_4 6 rfl rfl)
theorem dX6_keepsMany_105 : decode cX6_keepsMany 105 = .ok (.putfield 472, 3) := dk_181 1 216 (dk_at dksX6_keepsMany_4 9 rfl rfl)
theorem dX6_keepsMany_108 : decode cX6_keepsMany 108 = .ok (.aload_n 0, 1) := dk_42 (dk_at dksX6_keepsMany_4 12 rfl rfl)
theorem dX6_keepsMany_109 : decode cX6_keepsMany 109 = .ok (.aload_n 0, 1) := dk_42 (dk_at dksX6_keepsMany_4 13 rfl rfl)
theorem dX6_keepsMany_110 : decode cX6_keepsMany 110 = .ok (.aload_n 0, 1) := dk_42 (dk_at dksX6_keepsMany_4 14 rfl rfl)
theorem dX6_keepsMany_111 : decode cX6_keepsMany 111 = .ok (.getfield 481, 3) := dk_180 1 225 (dk_at dksX6_keepsMany_4 15 rfl rfl)
theorem dX6_keepsMany_114 : decode cX6_keepsMany 114 = .ok (.invokevirtual 493, 3) := dk_182 1 237 (dk_at dksX6_keepsMany_4 18 rfl rfl)
theorem dX6_keepsMany_117 : decode cX6_keepsMany 117 = .ok (.putfield 481, 3) := dk_181 1 225 (dk_at dksX6_keepsMany_4 21 rfl rfl)
theorem dX6_keepsMany_120 : decode cX6_keepsMany 120 = .ok (.return_, 1) := dk_177 (dk_at dksX6_keepsMany_5 0 rfl rfl)
abbrev cX6_keepsTold : ByteArray := prog_22_method_131_code
def yX6_keepsTold : MethodName := ⟨RX6, "keepsTold", "()V"⟩
def dkwX6_keepsTold_12 : List UInt8 := [42, 180, 0, 65, 27, 42, 42, 180, 0, 65, 27, 46, 182, 1, 237, 79, 132, 1, 1, 167, 255, 231, 177]
abbrev dktX6_keepsTold_12 : List UInt8 := dkwX6_keepsTold_12 ++ []
def dkwX6_keepsTold_11 : List UInt8 := [42, 180, 0, 62, 27, 46, 182, 1, 237, 79, 132, 1, 1, 167, 255, 231, 3, 60, 27, 16, 80, 162, 0, 25]
abbrev dktX6_keepsTold_11 : List UInt8 := dkwX6_keepsTold_11 ++ dktX6_keepsTold_12
def dkwX6_keepsTold_10 : List UInt8 := [182, 1, 237, 79, 132, 1, 1, 167, 255, 231, 3, 60, 27, 16, 80, 162, 0, 25, 42, 180, 0, 62, 27, 42]
abbrev dktX6_keepsTold_10 : List UInt8 := dkwX6_keepsTold_10 ++ dktX6_keepsTold_11
def dkwX6_keepsTold_9 : List UInt8 := [167, 255, 231, 3, 60, 27, 16, 6, 162, 0, 25, 42, 180, 0, 113, 27, 42, 42, 180, 0, 113, 27, 46]
abbrev dktX6_keepsTold_9 : List UInt8 := dkwX6_keepsTold_9 ++ dktX6_keepsTold_10
def dkwX6_keepsTold_8 : List UInt8 := [162, 0, 25, 42, 180, 0, 107, 27, 42, 42, 180, 0, 107, 27, 46, 182, 1, 237, 79, 132, 1, 1]
abbrev dktX6_keepsTold_8 : List UInt8 := dkwX6_keepsTold_8 ++ dktX6_keepsTold_9
def dkwX6_keepsTold_7 : List UInt8 := [42, 42, 180, 0, 104, 27, 46, 182, 1, 237, 79, 132, 1, 1, 167, 255, 232, 3, 60, 27, 16, 7]
abbrev dktX6_keepsTold_7 : List UInt8 := dkwX6_keepsTold_7 ++ dktX6_keepsTold_8
def dkwX6_keepsTold_6 : List UInt8 := [27, 46, 182, 1, 237, 79, 132, 1, 1, 167, 255, 231, 3, 60, 27, 8, 162, 0, 25, 42, 180, 0, 104, 27]
abbrev dktX6_keepsTold_6 : List UInt8 := dkwX6_keepsTold_6 ++ dktX6_keepsTold_7
def dkwX6_keepsTold_5 : List UInt8 := [132, 1, 1, 167, 255, 215, 3, 60, 27, 16, 9, 162, 0, 25, 42, 180, 0, 89, 27, 42, 42, 180, 0, 89]
abbrev dktX6_keepsTold_5 : List UInt8 := dkwX6_keepsTold_5 ++ dktX6_keepsTold_6
def dkwX6_keepsTold_4 : List UInt8 := [27, 46, 182, 1, 237, 79, 42, 180, 0, 86, 27, 42, 42, 180, 0, 86, 27, 46, 182, 1, 237, 79]
abbrev dktX6_keepsTold_4 : List UInt8 := dkwX6_keepsTold_4 ++ dktX6_keepsTold_5
def dkwX6_keepsTold_3 : List UInt8 := [132, 1, 1, 167, 255, 231, 3, 60, 27, 16, 16, 162, 0, 41, 42, 180, 0, 83, 27, 42, 42, 180, 0, 83]
abbrev dktX6_keepsTold_3 : List UInt8 := dkwX6_keepsTold_3 ++ dktX6_keepsTold_4
def dkwX6_keepsTold_2 : List UInt8 := [27, 16, 12, 162, 0, 25, 42, 180, 0, 68, 27, 42, 42, 180, 0, 68, 27, 46, 182, 1, 237, 79]
abbrev dktX6_keepsTold_2 : List UInt8 := dkwX6_keepsTold_2 ++ dktX6_keepsTold_3
def dkwX6_keepsTold_1 : List UInt8 := [42, 180, 0, 22, 27, 42, 42, 180, 0, 22, 27, 46, 182, 1, 237, 79, 132, 1, 1, 167, 255, 215, 3, 60]
abbrev dktX6_keepsTold_1 : List UInt8 := dkwX6_keepsTold_1 ++ dktX6_keepsTold_2
def dkwX6_keepsTold_0 : List UInt8 := [3, 60, 27, 16, 10, 162, 0, 41, 42, 180, 0, 19, 27, 42, 42, 180, 0, 19, 27, 46, 182, 1, 237, 79]
abbrev dktX6_keepsTold_0 : List UInt8 := dkwX6_keepsTold_0 ++ dktX6_keepsTold_1
theorem dksX6_keepsTold_0 : cX6_keepsTold.data.toList.drop 0 = dktX6_keepsTold_0 := by decide +kernel
theorem dksX6_keepsTold_1 : cX6_keepsTold.data.toList.drop 24 = dktX6_keepsTold_1 := dk_seg dksX6_keepsTold_0 24 rfl rfl
theorem dksX6_keepsTold_2 : cX6_keepsTold.data.toList.drop 48 = dktX6_keepsTold_2 := dk_seg dksX6_keepsTold_1 24 rfl rfl
theorem dksX6_keepsTold_3 : cX6_keepsTold.data.toList.drop 70 = dktX6_keepsTold_3 := dk_seg dksX6_keepsTold_2 22 rfl rfl
theorem dksX6_keepsTold_4 : cX6_keepsTold.data.toList.drop 94 = dktX6_keepsTold_4 := dk_seg dksX6_keepsTold_3 24 rfl rfl
theorem dksX6_keepsTold_5 : cX6_keepsTold.data.toList.drop 116 = dktX6_keepsTold_5 := dk_seg dksX6_keepsTold_4 22 rfl rfl
theorem dksX6_keepsTold_6 : cX6_keepsTold.data.toList.drop 140 = dktX6_keepsTold_6 := dk_seg dksX6_keepsTold_5 24 rfl rfl
theorem dksX6_keepsTold_7 : cX6_keepsTold.data.toList.drop 164 = dktX6_keepsTold_7 := dk_seg dksX6_keepsTold_6 24 rfl rfl
theorem dksX6_keepsTold_8 : cX6_keepsTold.data.toList.drop 186 = dktX6_keepsTold_8 := dk_seg dksX6_keepsTold_7 22 rfl rfl
theorem dksX6_keepsTold_9 : cX6_keepsTold.data.toList.drop 208 = dktX6_keepsTold_9 := dk_seg dksX6_keepsTold_8 22 rfl rfl
theorem dksX6_keepsTold_10 : cX6_keepsTold.data.toList.drop 231 = dktX6_keepsTold_10 := dk_seg dksX6_keepsTold_9 23 rfl rfl
theorem dksX6_keepsTold_11 : cX6_keepsTold.data.toList.drop 255 = dktX6_keepsTold_11 := dk_seg dksX6_keepsTold_10 24 rfl rfl
theorem dksX6_keepsTold_12 : cX6_keepsTold.data.toList.drop 279 = dktX6_keepsTold_12 := dk_seg dksX6_keepsTold_11 24 rfl rfl
theorem dX6_keepsTold_0 : decode cX6_keepsTold 0 = .ok (.iconst 0, 1) := dk_3 (dk_at dksX6_keepsTold_0 0 rfl rfl)
theorem dX6_keepsTold_1 : decode cX6_keepsTold 1 = .ok (.istore_n 1, 1) := dk_60 (dk_at dksX6_keepsTold_0 1 rfl rfl)
theorem dX6_keepsTold_2 : decode cX6_keepsTold 2 = .ok (.iload_n 1, 1) := dk_27 (dk_at dksX6_keepsTold_0 2 rfl rfl)
theorem dX6_keepsTold_3 : decode cX6_keepsTold 3 = .ok (.bipush 10, 2) := dk_16 10 (dk_at dksX6_keepsTold_0 3 rfl rfl)
theorem dX6_keepsTold_5 : decode cX6_keepsTold 5 = .ok (.if_icmp .ge 41, 3) := dk_162 0 41 (dk_at dksX6_keepsTold_0 5 rfl rfl)
theorem dX6_keepsTold_8 : decode cX6_keepsTold 8 = .ok (.aload_n 0, 1) := dk_42 (dk_at dksX6_keepsTold_0 8 rfl rfl)
theorem dX6_keepsTold_9 : decode cX6_keepsTold 9 = .ok (.getfield 19, 3) := dk_180 0 19 (dk_at dksX6_keepsTold_0 9 rfl rfl)
theorem dX6_keepsTold_12 : decode cX6_keepsTold 12 = .ok (.iload_n 1, 1) := dk_27 (dk_at dksX6_keepsTold_0 12 rfl rfl)
theorem dX6_keepsTold_13 : decode cX6_keepsTold 13 = .ok (.aload_n 0, 1) := dk_42 (dk_at dksX6_keepsTold_0 13 rfl rfl)
theorem dX6_keepsTold_14 : decode cX6_keepsTold 14 = .ok (.aload_n 0, 1) := dk_42 (dk_at dksX6_keepsTold_0 14 rfl rfl)
theorem dX6_keepsTold_15 : decode cX6_keepsTold 15 = .ok (.getfield 19, 3) := dk_180 0 19 (dk_at dksX6_keepsTold_0 15 rfl rfl)
theorem dX6_keepsTold_18 : decode cX6_keepsTold 18 = .ok (.iload_n 1, 1) := dk_27 (dk_at dksX6_keepsTold_0 18 rfl rfl)
theorem dX6_keepsTold_19 : decode cX6_keepsTold 19 = .ok (.iaload, 1) := dk_46 (dk_at dksX6_keepsTold_0 19 rfl rfl)
theorem dX6_keepsTold_20 : decode cX6_keepsTold 20 = .ok (.invokevirtual 493, 3) := dk_182 1 237 (dk_at dksX6_keepsTold_0 20 rfl rfl)
theorem dX6_keepsTold_23 : decode cX6_keepsTold 23 = .ok (.iastore, 1) := dk_79 (dk_at dksX6_keepsTold_0 23 rfl rfl)
theorem dX6_keepsTold_24 : decode cX6_keepsTold 24 = .ok (.aload_n 0, 1) := dk_42 (dk_at dksX6_keepsTold_1 0 rfl rfl)
theorem dX6_keepsTold_25 : decode cX6_keepsTold 25 = .ok (.getfield 22, 3) := dk_180 0 22 (dk_at dksX6_keepsTold_1 1 rfl rfl)
theorem dX6_keepsTold_28 : decode cX6_keepsTold 28 = .ok (.iload_n 1, 1) := dk_27 (dk_at dksX6_keepsTold_1 4 rfl rfl)
theorem dX6_keepsTold_29 : decode cX6_keepsTold 29 = .ok (.aload_n 0, 1) := dk_42 (dk_at dksX6_keepsTold_1 5 rfl rfl)
theorem dX6_keepsTold_30 : decode cX6_keepsTold 30 = .ok (.aload_n 0, 1) := dk_42 (dk_at dksX6_keepsTold_1 6 rfl rfl)
theorem dX6_keepsTold_31 : decode cX6_keepsTold 31 = .ok (.getfield 22, 3) := dk_180 0 22 (dk_at dksX6_keepsTold_1 7 rfl rfl)
theorem dX6_keepsTold_34 : decode cX6_keepsTold 34 = .ok (.iload_n 1, 1) := dk_27 (dk_at dksX6_keepsTold_1 10 rfl rfl)
theorem dX6_keepsTold_35 : decode cX6_keepsTold 35 = .ok (.iaload, 1) := dk_46 (dk_at dksX6_keepsTold_1 11 rfl rfl)
theorem dX6_keepsTold_36 : decode cX6_keepsTold 36 = .ok (.invokevirtual 493, 3) := dk_182 1 237 (dk_at dksX6_keepsTold_1 12 rfl rfl)
theorem dX6_keepsTold_39 : decode cX6_keepsTold 39 = .ok (.iastore, 1) := dk_79 (dk_at dksX6_keepsTold_1 15 rfl rfl)
theorem dX6_keepsTold_40 : decode cX6_keepsTold 40 = .ok (.iinc 1 1, 3) := dk_132 1 1 (dk_at dksX6_keepsTold_1 16 rfl rfl)
theorem dX6_keepsTold_43 : decode cX6_keepsTold 43 = .ok (.goto (-41), 3) := dk_167 255 215 (dk_at dksX6_keepsTold_1 19 rfl rfl)
theorem dX6_keepsTold_46 : decode cX6_keepsTold 46 = .ok (.iconst 0, 1) := dk_3 (dk_at dksX6_keepsTold_1 22 rfl rfl)
theorem dX6_keepsTold_47 : decode cX6_keepsTold 47 = .ok (.istore_n 1, 1) := dk_60 (dk_at dksX6_keepsTold_1 23 rfl rfl)
theorem dX6_keepsTold_48 : decode cX6_keepsTold 48 = .ok (.iload_n 1, 1) := dk_27 (dk_at dksX6_keepsTold_2 0 rfl rfl)
theorem dX6_keepsTold_49 : decode cX6_keepsTold 49 = .ok (.bipush 12, 2) := dk_16 12 (dk_at dksX6_keepsTold_2 1 rfl rfl)
theorem dX6_keepsTold_51 : decode cX6_keepsTold 51 = .ok (.if_icmp .ge 25, 3) := dk_162 0 25 (dk_at dksX6_keepsTold_2 3 rfl rfl)
theorem dX6_keepsTold_54 : decode cX6_keepsTold 54 = .ok (.aload_n 0, 1) := dk_42 (dk_at dksX6_keepsTold_2 6 rfl rfl)
theorem dX6_keepsTold_55 : decode cX6_keepsTold 55 = .ok (.getfield 68, 3) := dk_180 0 68 (dk_at dksX6_keepsTold_2 7 rfl rfl)
theorem dX6_keepsTold_58 : decode cX6_keepsTold 58 = .ok (.iload_n 1, 1) := dk_27 (dk_at dksX6_keepsTold_2 10 rfl rfl)
theorem dX6_keepsTold_59 : decode cX6_keepsTold 59 = .ok (.aload_n 0, 1) := dk_42 (dk_at dksX6_keepsTold_2 11 rfl rfl)
theorem dX6_keepsTold_60 : decode cX6_keepsTold 60 = .ok (.aload_n 0, 1) := dk_42 (dk_at dksX6_keepsTold_2 12 rfl rfl)
theorem dX6_keepsTold_61 : decode cX6_keepsTold 61 = .ok (.getfield 68, 3) := dk_180 0 68 (dk_at dksX6_keepsTold_2 13 rfl rfl)
theorem dX6_keepsTold_64 : decode cX6_keepsTold 64 = .ok (.iload_n 1, 1) := dk_27 (dk_at dksX6_keepsTold_2 16 rfl rfl)
theorem dX6_keepsTold_65 : decode cX6_keepsTold 65 = .ok (.iaload, 1) := dk_46 (dk_at dksX6_keepsTold_2 17 rfl rfl)
theorem dX6_keepsTold_66 : decode cX6_keepsTold 66 = .ok (.invokevirtual 493, 3) := dk_182 1 237 (dk_at dksX6_keepsTold_2 18 rfl rfl)
theorem dX6_keepsTold_69 : decode cX6_keepsTold 69 = .ok (.iastore, 1) := dk_79 (dk_at dksX6_keepsTold_2 21 rfl rfl)
theorem dX6_keepsTold_70 : decode cX6_keepsTold 70 = .ok (.iinc 1 1, 3) := dk_132 1 1 (dk_at dksX6_keepsTold_3 0 rfl rfl)
theorem dX6_keepsTold_73 : decode cX6_keepsTold 73 = .ok (.goto (-25), 3) := dk_167 255 231 (dk_at dksX6_keepsTold_3 3 rfl rfl)
theorem dX6_keepsTold_76 : decode cX6_keepsTold 76 = .ok (.iconst 0, 1) := dk_3 (dk_at dksX6_keepsTold_3 6 rfl rfl)
theorem dX6_keepsTold_77 : decode cX6_keepsTold 77 = .ok (.istore_n 1, 1) := dk_60 (dk_at dksX6_keepsTold_3 7 rfl rfl)
theorem dX6_keepsTold_78 : decode cX6_keepsTold 78 = .ok (.iload_n 1, 1) := dk_27 (dk_at dksX6_keepsTold_3 8 rfl rfl)
theorem dX6_keepsTold_79 : decode cX6_keepsTold 79 = .ok (.bipush 16, 2) := dk_16 16 (dk_at dksX6_keepsTold_3 9 rfl rfl)
theorem dX6_keepsTold_81 : decode cX6_keepsTold 81 = .ok (.if_icmp .ge 41, 3) := dk_162 0 41 (dk_at dksX6_keepsTold_3 11 rfl rfl)
theorem dX6_keepsTold_84 : decode cX6_keepsTold 84 = .ok (.aload_n 0, 1) := dk_42 (dk_at dksX6_keepsTold_3 14 rfl rfl)
theorem dX6_keepsTold_85 : decode cX6_keepsTold 85 = .ok (.getfield 83, 3) := dk_180 0 83 (dk_at dksX6_keepsTold_3 15 rfl rfl)
theorem dX6_keepsTold_88 : decode cX6_keepsTold 88 = .ok (.iload_n 1, 1) := dk_27 (dk_at dksX6_keepsTold_3 18 rfl rfl)
theorem dX6_keepsTold_89 : decode cX6_keepsTold 89 = .ok (.aload_n 0, 1) := dk_42 (dk_at dksX6_keepsTold_3 19 rfl rfl)
theorem dX6_keepsTold_90 : decode cX6_keepsTold 90 = .ok (.aload_n 0, 1) := dk_42 (dk_at dksX6_keepsTold_3 20 rfl rfl)
theorem dX6_keepsTold_91 : decode cX6_keepsTold 91 = .ok (.getfield 83, 3) := dk_180 0 83 (dk_at dksX6_keepsTold_3 21 rfl rfl)
theorem dX6_keepsTold_94 : decode cX6_keepsTold 94 = .ok (.iload_n 1, 1) := dk_27 (dk_at dksX6_keepsTold_4 0 rfl rfl)
theorem dX6_keepsTold_95 : decode cX6_keepsTold 95 = .ok (.iaload, 1) := dk_46 (dk_at dksX6_keepsTold_4 1 rfl rfl)
theorem dX6_keepsTold_96 : decode cX6_keepsTold 96 = .ok (.invokevirtual 493, 3) := dk_182 1 237 (dk_at dksX6_keepsTold_4 2 rfl rfl)
theorem dX6_keepsTold_99 : decode cX6_keepsTold 99 = .ok (.iastore, 1) := dk_79 (dk_at dksX6_keepsTold_4 5 rfl rfl)
theorem dX6_keepsTold_100 : decode cX6_keepsTold 100 = .ok (.aload_n 0, 1) := dk_42 (dk_at dksX6_keepsTold_4 6 rfl rfl)
theorem dX6_keepsTold_101 : decode cX6_keepsTold 101 = .ok (.getfield 86, 3) := dk_180 0 86 (dk_at dksX6_keepsTold_4 7 rfl rfl)
theorem dX6_keepsTold_104 : decode cX6_keepsTold 104 = .ok (.iload_n 1, 1) := dk_27 (dk_at dksX6_keepsTold_4 10 rfl rfl)
theorem dX6_keepsTold_105 : decode cX6_keepsTold 105 = .ok (.aload_n 0, 1) := dk_42 (dk_at dksX6_keepsTold_4 11 rfl rfl)
theorem dX6_keepsTold_106 : decode cX6_keepsTold 106 = .ok (.aload_n 0, 1) := dk_42 (dk_at dksX6_keepsTold_4 12 rfl rfl)
theorem dX6_keepsTold_107 : decode cX6_keepsTold 107 = .ok (.getfield 86, 3) := dk_180 0 86 (dk_at dksX6_keepsTold_4 13 rfl rfl)
theorem dX6_keepsTold_110 : decode cX6_keepsTold 110 = .ok (.iload_n 1, 1) := dk_27 (dk_at dksX6_keepsTold_4 16 rfl rfl)
theorem dX6_keepsTold_111 : decode cX6_keepsTold 111 = .ok (.iaload, 1) := dk_46 (dk_at dksX6_keepsTold_4 17 rfl rfl)
theorem dX6_keepsTold_112 : decode cX6_keepsTold 112 = .ok (.invokevirtual 493, 3) := dk_182 1 237 (dk_at dksX6_keepsTold_4 18 rfl rfl)
theorem dX6_keepsTold_115 : decode cX6_keepsTold 115 = .ok (.iastore, 1) := dk_79 (dk_at dksX6_keepsTold_4 21 rfl rfl)
theorem dX6_keepsTold_116 : decode cX6_keepsTold 116 = .ok (.iinc 1 1, 3) := dk_132 1 1 (dk_at dksX6_keepsTold_5 0 rfl rfl)
theorem dX6_keepsTold_119 : decode cX6_keepsTold 119 = .ok (.goto (-41), 3) := dk_167 255 215 (dk_at dksX6_keepsTold_5 3 rfl rfl)
theorem dX6_keepsTold_122 : decode cX6_keepsTold 122 = .ok (.iconst 0, 1) := dk_3 (dk_at dksX6_keepsTold_5 6 rfl rfl)
theorem dX6_keepsTold_123 : decode cX6_keepsTold 123 = .ok (.istore_n 1, 1) := dk_60 (dk_at dksX6_keepsTold_5 7 rfl rfl)
theorem dX6_keepsTold_124 : decode cX6_keepsTold 124 = .ok (.iload_n 1, 1) := dk_27 (dk_at dksX6_keepsTold_5 8 rfl rfl)
theorem dX6_keepsTold_125 : decode cX6_keepsTold 125 = .ok (.bipush 9, 2) := dk_16 9 (dk_at dksX6_keepsTold_5 9 rfl rfl)
theorem dX6_keepsTold_127 : decode cX6_keepsTold 127 = .ok (.if_icmp .ge 25, 3) := dk_162 0 25 (dk_at dksX6_keepsTold_5 11 rfl rfl)
theorem dX6_keepsTold_130 : decode cX6_keepsTold 130 = .ok (.aload_n 0, 1) := dk_42 (dk_at dksX6_keepsTold_5 14 rfl rfl)
theorem dX6_keepsTold_131 : decode cX6_keepsTold 131 = .ok (.getfield 89, 3) := dk_180 0 89 (dk_at dksX6_keepsTold_5 15 rfl rfl)
theorem dX6_keepsTold_134 : decode cX6_keepsTold 134 = .ok (.iload_n 1, 1) := dk_27 (dk_at dksX6_keepsTold_5 18 rfl rfl)
theorem dX6_keepsTold_135 : decode cX6_keepsTold 135 = .ok (.aload_n 0, 1) := dk_42 (dk_at dksX6_keepsTold_5 19 rfl rfl)
theorem dX6_keepsTold_136 : decode cX6_keepsTold 136 = .ok (.aload_n 0, 1) := dk_42 (dk_at dksX6_keepsTold_5 20 rfl rfl)
theorem dX6_keepsTold_137 : decode cX6_keepsTold 137 = .ok (.getfield 89, 3) := dk_180 0 89 (dk_at dksX6_keepsTold_5 21 rfl rfl)
theorem dX6_keepsTold_140 : decode cX6_keepsTold 140 = .ok (.iload_n 1, 1) := dk_27 (dk_at dksX6_keepsTold_6 0 rfl rfl)
theorem dX6_keepsTold_141 : decode cX6_keepsTold 141 = .ok (.iaload, 1) := dk_46 (dk_at dksX6_keepsTold_6 1 rfl rfl)
theorem dX6_keepsTold_142 : decode cX6_keepsTold 142 = .ok (.invokevirtual 493, 3) := dk_182 1 237 (dk_at dksX6_keepsTold_6 2 rfl rfl)
theorem dX6_keepsTold_145 : decode cX6_keepsTold 145 = .ok (.iastore, 1) := dk_79 (dk_at dksX6_keepsTold_6 5 rfl rfl)
theorem dX6_keepsTold_146 : decode cX6_keepsTold 146 = .ok (.iinc 1 1, 3) := dk_132 1 1 (dk_at dksX6_keepsTold_6 6 rfl rfl)
theorem dX6_keepsTold_149 : decode cX6_keepsTold 149 = .ok (.goto (-25), 3) := dk_167 255 231 (dk_at dksX6_keepsTold_6 9 rfl rfl)
theorem dX6_keepsTold_152 : decode cX6_keepsTold 152 = .ok (.iconst 0, 1) := dk_3 (dk_at dksX6_keepsTold_6 12 rfl rfl)
theorem dX6_keepsTold_153 : decode cX6_keepsTold 153 = .ok (.istore_n 1, 1) := dk_60 (dk_at dksX6_keepsTold_6 13 rfl rfl)
theorem dX6_keepsTold_154 : decode cX6_keepsTold 154 = .ok (.iload_n 1, 1) := dk_27 (dk_at dksX6_keepsTold_6 14 rfl rfl)
theorem dX6_keepsTold_155 : decode cX6_keepsTold 155 = .ok (.iconst 5, 1) := dk_8 (dk_at dksX6_keepsTold_6 15 rfl rfl)
theorem dX6_keepsTold_156 : decode cX6_keepsTold 156 = .ok (.if_icmp .ge 25, 3) := dk_162 0 25 (dk_at dksX6_keepsTold_6 16 rfl rfl)
theorem dX6_keepsTold_159 : decode cX6_keepsTold 159 = .ok (.aload_n 0, 1) := dk_42 (dk_at dksX6_keepsTold_6 19 rfl rfl)
theorem dX6_keepsTold_160 : decode cX6_keepsTold 160 = .ok (.getfield 104, 3) := dk_180 0 104 (dk_at dksX6_keepsTold_6 20 rfl rfl)
theorem dX6_keepsTold_163 : decode cX6_keepsTold 163 = .ok (.iload_n 1, 1) := dk_27 (dk_at dksX6_keepsTold_6 23 rfl rfl)
theorem dX6_keepsTold_164 : decode cX6_keepsTold 164 = .ok (.aload_n 0, 1) := dk_42 (dk_at dksX6_keepsTold_7 0 rfl rfl)
theorem dX6_keepsTold_165 : decode cX6_keepsTold 165 = .ok (.aload_n 0, 1) := dk_42 (dk_at dksX6_keepsTold_7 1 rfl rfl)
theorem dX6_keepsTold_166 : decode cX6_keepsTold 166 = .ok (.getfield 104, 3) := dk_180 0 104 (dk_at dksX6_keepsTold_7 2 rfl rfl)
theorem dX6_keepsTold_169 : decode cX6_keepsTold 169 = .ok (.iload_n 1, 1) := dk_27 (dk_at dksX6_keepsTold_7 5 rfl rfl)
theorem dX6_keepsTold_170 : decode cX6_keepsTold 170 = .ok (.iaload, 1) := dk_46 (dk_at dksX6_keepsTold_7 6 rfl rfl)
theorem dX6_keepsTold_171 : decode cX6_keepsTold 171 = .ok (.invokevirtual 493, 3) := dk_182 1 237 (dk_at dksX6_keepsTold_7 7 rfl rfl)
theorem dX6_keepsTold_174 : decode cX6_keepsTold 174 = .ok (.iastore, 1) := dk_79 (dk_at dksX6_keepsTold_7 10 rfl rfl)
theorem dX6_keepsTold_175 : decode cX6_keepsTold 175 = .ok (.iinc 1 1, 3) := dk_132 1 1 (dk_at dksX6_keepsTold_7 11 rfl rfl)
theorem dX6_keepsTold_178 : decode cX6_keepsTold 178 = .ok (.goto (-24), 3) := dk_167 255 232 (dk_at dksX6_keepsTold_7 14 rfl rfl)
theorem dX6_keepsTold_181 : decode cX6_keepsTold 181 = .ok (.iconst 0, 1) := dk_3 (dk_at dksX6_keepsTold_7 17 rfl rfl)
theorem dX6_keepsTold_182 : decode cX6_keepsTold 182 = .ok (.istore_n 1, 1) := dk_60 (dk_at dksX6_keepsTold_7 18 rfl rfl)
theorem dX6_keepsTold_183 : decode cX6_keepsTold 183 = .ok (.iload_n 1, 1) := dk_27 (dk_at dksX6_keepsTold_7 19 rfl rfl)
theorem dX6_keepsTold_184 : decode cX6_keepsTold 184 = .ok (.bipush 7, 2) := dk_16 7 (dk_at dksX6_keepsTold_7 20 rfl rfl)
theorem dX6_keepsTold_186 : decode cX6_keepsTold 186 = .ok (.if_icmp .ge 25, 3) := dk_162 0 25 (dk_at dksX6_keepsTold_8 0 rfl rfl)
theorem dX6_keepsTold_189 : decode cX6_keepsTold 189 = .ok (.aload_n 0, 1) := dk_42 (dk_at dksX6_keepsTold_8 3 rfl rfl)
theorem dX6_keepsTold_190 : decode cX6_keepsTold 190 = .ok (.getfield 107, 3) := dk_180 0 107 (dk_at dksX6_keepsTold_8 4 rfl rfl)
theorem dX6_keepsTold_193 : decode cX6_keepsTold 193 = .ok (.iload_n 1, 1) := dk_27 (dk_at dksX6_keepsTold_8 7 rfl rfl)
theorem dX6_keepsTold_194 : decode cX6_keepsTold 194 = .ok (.aload_n 0, 1) := dk_42 (dk_at dksX6_keepsTold_8 8 rfl rfl)
theorem dX6_keepsTold_195 : decode cX6_keepsTold 195 = .ok (.aload_n 0, 1) := dk_42 (dk_at dksX6_keepsTold_8 9 rfl rfl)
theorem dX6_keepsTold_196 : decode cX6_keepsTold 196 = .ok (.getfield 107, 3) := dk_180 0 107 (dk_at dksX6_keepsTold_8 10 rfl rfl)
theorem dX6_keepsTold_199 : decode cX6_keepsTold 199 = .ok (.iload_n 1, 1) := dk_27 (dk_at dksX6_keepsTold_8 13 rfl rfl)
theorem dX6_keepsTold_200 : decode cX6_keepsTold 200 = .ok (.iaload, 1) := dk_46 (dk_at dksX6_keepsTold_8 14 rfl rfl)
theorem dX6_keepsTold_201 : decode cX6_keepsTold 201 = .ok (.invokevirtual 493, 3) := dk_182 1 237 (dk_at dksX6_keepsTold_8 15 rfl rfl)
theorem dX6_keepsTold_204 : decode cX6_keepsTold 204 = .ok (.iastore, 1) := dk_79 (dk_at dksX6_keepsTold_8 18 rfl rfl)
theorem dX6_keepsTold_205 : decode cX6_keepsTold 205 = .ok (.iinc 1 1, 3) := dk_132 1 1 (dk_at dksX6_keepsTold_8 19 rfl rfl)
theorem dX6_keepsTold_208 : decode cX6_keepsTold 208 = .ok (.goto (-25), 3) := dk_167 255 231 (dk_at dksX6_keepsTold_9 0 rfl rfl)
theorem dX6_keepsTold_211 : decode cX6_keepsTold 211 = .ok (.iconst 0, 1) := dk_3 (dk_at dksX6_keepsTold_9 3 rfl rfl)
theorem dX6_keepsTold_212 : decode cX6_keepsTold 212 = .ok (.istore_n 1, 1) := dk_60 (dk_at dksX6_keepsTold_9 4 rfl rfl)
theorem dX6_keepsTold_213 : decode cX6_keepsTold 213 = .ok (.iload_n 1, 1) := dk_27 (dk_at dksX6_keepsTold_9 5 rfl rfl)
theorem dX6_keepsTold_214 : decode cX6_keepsTold 214 = .ok (.bipush 6, 2) := dk_16 6 (dk_at dksX6_keepsTold_9 6 rfl rfl)
theorem dX6_keepsTold_216 : decode cX6_keepsTold 216 = .ok (.if_icmp .ge 25, 3) := dk_162 0 25 (dk_at dksX6_keepsTold_9 8 rfl rfl)
theorem dX6_keepsTold_219 : decode cX6_keepsTold 219 = .ok (.aload_n 0, 1) := dk_42 (dk_at dksX6_keepsTold_9 11 rfl rfl)
theorem dX6_keepsTold_220 : decode cX6_keepsTold 220 = .ok (.getfield 113, 3) := dk_180 0 113 (dk_at dksX6_keepsTold_9 12 rfl rfl)
theorem dX6_keepsTold_223 : decode cX6_keepsTold 223 = .ok (.iload_n 1, 1) := dk_27 (dk_at dksX6_keepsTold_9 15 rfl rfl)
theorem dX6_keepsTold_224 : decode cX6_keepsTold 224 = .ok (.aload_n 0, 1) := dk_42 (dk_at dksX6_keepsTold_9 16 rfl rfl)
theorem dX6_keepsTold_225 : decode cX6_keepsTold 225 = .ok (.aload_n 0, 1) := dk_42 (dk_at dksX6_keepsTold_9 17 rfl rfl)
theorem dX6_keepsTold_226 : decode cX6_keepsTold 226 = .ok (.getfield 113, 3) := dk_180 0 113 (dk_at dksX6_keepsTold_9 18 rfl rfl)
theorem dX6_keepsTold_229 : decode cX6_keepsTold 229 = .ok (.iload_n 1, 1) := dk_27 (dk_at dksX6_keepsTold_9 21 rfl rfl)
theorem dX6_keepsTold_230 : decode cX6_keepsTold 230 = .ok (.iaload, 1) := dk_46 (dk_at dksX6_keepsTold_9 22 rfl rfl)
theorem dX6_keepsTold_231 : decode cX6_keepsTold 231 = .ok (.invokevirtual 493, 3) := dk_182 1 237 (dk_at dksX6_keepsTold_10 0 rfl rfl)
theorem dX6_keepsTold_234 : decode cX6_keepsTold 234 = .ok (.iastore, 1) := dk_79 (dk_at dksX6_keepsTold_10 3 rfl rfl)
theorem dX6_keepsTold_235 : decode cX6_keepsTold 235 = .ok (.iinc 1 1, 3) := dk_132 1 1 (dk_at dksX6_keepsTold_10 4 rfl rfl)
theorem dX6_keepsTold_238 : decode cX6_keepsTold 238 = .ok (.goto (-25), 3) := dk_167 255 231 (dk_at dksX6_keepsTold_10 7 rfl rfl)
theorem dX6_keepsTold_241 : decode cX6_keepsTold 241 = .ok (.iconst 0, 1) := dk_3 (dk_at dksX6_keepsTold_10 10 rfl rfl)
theorem dX6_keepsTold_242 : decode cX6_keepsTold 242 = .ok (.istore_n 1, 1) := dk_60 (dk_at dksX6_keepsTold_10 11 rfl rfl)
theorem dX6_keepsTold_243 : decode cX6_keepsTold 243 = .ok (.iload_n 1, 1) := dk_27 (dk_at dksX6_keepsTold_10 12 rfl rfl)
theorem dX6_keepsTold_244 : decode cX6_keepsTold 244 = .ok (.bipush 80, 2) := dk_16 80 (dk_at dksX6_keepsTold_10 13 rfl rfl)
theorem dX6_keepsTold_246 : decode cX6_keepsTold 246 = .ok (.if_icmp .ge 25, 3) := dk_162 0 25 (dk_at dksX6_keepsTold_10 15 rfl rfl)
theorem dX6_keepsTold_249 : decode cX6_keepsTold 249 = .ok (.aload_n 0, 1) := dk_42 (dk_at dksX6_keepsTold_10 18 rfl rfl)
theorem dX6_keepsTold_250 : decode cX6_keepsTold 250 = .ok (.getfield 62, 3) := dk_180 0 62 (dk_at dksX6_keepsTold_10 19 rfl rfl)
theorem dX6_keepsTold_253 : decode cX6_keepsTold 253 = .ok (.iload_n 1, 1) := dk_27 (dk_at dksX6_keepsTold_10 22 rfl rfl)
theorem dX6_keepsTold_254 : decode cX6_keepsTold 254 = .ok (.aload_n 0, 1) := dk_42 (dk_at dksX6_keepsTold_10 23 rfl rfl)
theorem dX6_keepsTold_255 : decode cX6_keepsTold 255 = .ok (.aload_n 0, 1) := dk_42 (dk_at dksX6_keepsTold_11 0 rfl rfl)
theorem dX6_keepsTold_256 : decode cX6_keepsTold 256 = .ok (.getfield 62, 3) := dk_180 0 62 (dk_at dksX6_keepsTold_11 1 rfl rfl)
theorem dX6_keepsTold_259 : decode cX6_keepsTold 259 = .ok (.iload_n 1, 1) := dk_27 (dk_at dksX6_keepsTold_11 4 rfl rfl)
theorem dX6_keepsTold_260 : decode cX6_keepsTold 260 = .ok (.iaload, 1) := dk_46 (dk_at dksX6_keepsTold_11 5 rfl rfl)
theorem dX6_keepsTold_261 : decode cX6_keepsTold 261 = .ok (.invokevirtual 493, 3) := dk_182 1 237 (dk_at dksX6_keepsTold_11 6 rfl rfl)
theorem dX6_keepsTold_264 : decode cX6_keepsTold 264 = .ok (.iastore, 1) := dk_79 (dk_at dksX6_keepsTold_11 9 rfl rfl)
theorem dX6_keepsTold_265 : decode cX6_keepsTold 265 = .ok (.iinc 1 1, 3) := dk_132 1 1 (dk_at dksX6_keepsTold_11 10 rfl rfl)
theorem dX6_keepsTold_268 : decode cX6_keepsTold 268 = .ok (.goto (-25), 3) := dk_167 255 231 (dk_at dksX6_keepsTold_11 13 rfl rfl)
theorem dX6_keepsTold_271 : decode cX6_keepsTold 271 = .ok (.iconst 0, 1) := dk_3 (dk_at dksX6_keepsTold_11 16 rfl rfl)
theorem dX6_keepsTold_272 : decode cX6_keepsTold 272 = .ok (.istore_n 1, 1) := dk_60 (dk_at dksX6_keepsTold_11 17 rfl rfl)
theorem dX6_keepsTold_273 : decode cX6_keepsTold 273 = .ok (.iload_n 1, 1) := dk_27 (dk_at dksX6_keepsTold_11 18 rfl rfl)
theorem dX6_keepsTold_274 : decode cX6_keepsTold 274 = .ok (.bipush 80, 2) := dk_16 80 (dk_at dksX6_keepsTold_11 19 rfl rfl)
theorem dX6_keepsTold_276 : decode cX6_keepsTold 276 = .ok (.if_icmp .ge 25, 3) := dk_162 0 25 (dk_at dksX6_keepsTold_11 21 rfl rfl)
theorem dX6_keepsTold_279 : decode cX6_keepsTold 279 = .ok (.aload_n 0, 1) := dk_42 (dk_at dksX6_keepsTold_12 0 rfl rfl)
theorem dX6_keepsTold_280 : decode cX6_keepsTold 280 = .ok (.getfield 65, 3) := dk_180 0 65 (dk_at dksX6_keepsTold_12 1 rfl rfl)
theorem dX6_keepsTold_283 : decode cX6_keepsTold 283 = .ok (.iload_n 1, 1) := dk_27 (dk_at dksX6_keepsTold_12 4 rfl rfl)
theorem dX6_keepsTold_284 : decode cX6_keepsTold 284 = .ok (.aload_n 0, 1) := dk_42 (dk_at dksX6_keepsTold_12 5 rfl rfl)
theorem dX6_keepsTold_285 : decode cX6_keepsTold 285 = .ok (.aload_n 0, 1) := dk_42 (dk_at dksX6_keepsTold_12 6 rfl rfl)
theorem dX6_keepsTold_286 : decode cX6_keepsTold 286 = .ok (.getfield 65, 3) := dk_180 0 65 (dk_at dksX6_keepsTold_12 7 rfl rfl)
theorem dX6_keepsTold_289 : decode cX6_keepsTold 289 = .ok (.iload_n 1, 1) := dk_27 (dk_at dksX6_keepsTold_12 10 rfl rfl)
theorem dX6_keepsTold_290 : decode cX6_keepsTold 290 = .ok (.iaload, 1) := dk_46 (dk_at dksX6_keepsTold_12 11 rfl rfl)
theorem dX6_keepsTold_291 : decode cX6_keepsTold 291 = .ok (.invokevirtual 493, 3) := dk_182 1 237 (dk_at dksX6_keepsTold_12 12 rfl rfl)
theorem dX6_keepsTold_294 : decode cX6_keepsTold 294 = .ok (.iastore, 1) := dk_79 (dk_at dksX6_keepsTold_12 15 rfl rfl)
theorem dX6_keepsTold_295 : decode cX6_keepsTold 295 = .ok (.iinc 1 1, 3) := dk_132 1 1 (dk_at dksX6_keepsTold_12 16 rfl rfl)
theorem dX6_keepsTold_298 : decode cX6_keepsTold 298 = .ok (.goto (-25), 3) := dk_167 255 231 (dk_at dksX6_keepsTold_12 19 rfl rfl)
theorem dX6_keepsTold_301 : decode cX6_keepsTold 301 = .ok (.return_, 1) := dk_177 (dk_at dksX6_keepsTold_12 22 rfl rfl)
abbrev cX6_keepsLaw : ByteArray := prog_22_method_129_code
def yX6_keepsLaw : MethodName := ⟨RX6, "keepsLaw", "()V"⟩
def dkwX6_keepsLaw_5 : List UInt8 := [42, 180, 0, 52, 27, 42, 42, 180, 0, 52, 27, 46, 182, 1, 237, 79, 132, 1, 1, 167, 255, 214, 177]
abbrev dktX6_keepsLaw_5 : List UInt8 := dkwX6_keepsLaw_5 ++ []
def dkwX6_keepsLaw_4 : List UInt8 := [60, 27, 17, 1, 144, 162, 0, 41, 42, 180, 0, 49, 27, 42, 42, 180, 0, 49, 27, 46, 182, 1, 237, 79]
abbrev dktX6_keepsLaw_4 : List UInt8 := dkwX6_keepsLaw_4 ++ dktX6_keepsLaw_5
def dkwX6_keepsLaw_3 : List UInt8 := [79, 42, 180, 0, 46, 27, 42, 42, 180, 0, 46, 27, 46, 182, 1, 237, 79, 132, 1, 1, 167, 255, 183, 3]
abbrev dktX6_keepsLaw_3 : List UInt8 := dkwX6_keepsLaw_3 ++ dktX6_keepsLaw_4
def dkwX6_keepsLaw_2 : List UInt8 := [180, 0, 40, 27, 46, 182, 1, 237, 79, 42, 180, 0, 43, 27, 42, 42, 180, 0, 43, 27, 46, 182, 1, 237]
abbrev dktX6_keepsLaw_2 : List UInt8 := dkwX6_keepsLaw_2 ++ dktX6_keepsLaw_3
def dkwX6_keepsLaw_1 : List UInt8 := [42, 180, 0, 37, 27, 42, 42, 180, 0, 37, 27, 46, 182, 1, 237, 79, 42, 180, 0, 40, 27, 42, 42]
abbrev dktX6_keepsLaw_1 : List UInt8 := dkwX6_keepsLaw_1 ++ dktX6_keepsLaw_2
def dkwX6_keepsLaw_0 : List UInt8 := [42, 180, 0, 34, 3, 42, 42, 180, 0, 34, 3, 46, 182, 1, 237, 79, 3, 60, 27, 16, 16, 162, 0, 73]
abbrev dktX6_keepsLaw_0 : List UInt8 := dkwX6_keepsLaw_0 ++ dktX6_keepsLaw_1
theorem dksX6_keepsLaw_0 : cX6_keepsLaw.data.toList.drop 0 = dktX6_keepsLaw_0 := by decide +kernel
theorem dksX6_keepsLaw_1 : cX6_keepsLaw.data.toList.drop 24 = dktX6_keepsLaw_1 := dk_seg dksX6_keepsLaw_0 24 rfl rfl
theorem dksX6_keepsLaw_2 : cX6_keepsLaw.data.toList.drop 47 = dktX6_keepsLaw_2 := dk_seg dksX6_keepsLaw_1 23 rfl rfl
theorem dksX6_keepsLaw_3 : cX6_keepsLaw.data.toList.drop 71 = dktX6_keepsLaw_3 := dk_seg dksX6_keepsLaw_2 24 rfl rfl
theorem dksX6_keepsLaw_4 : cX6_keepsLaw.data.toList.drop 95 = dktX6_keepsLaw_4 := dk_seg dksX6_keepsLaw_3 24 rfl rfl
theorem dksX6_keepsLaw_5 : cX6_keepsLaw.data.toList.drop 119 = dktX6_keepsLaw_5 := dk_seg dksX6_keepsLaw_4 24 rfl rfl
theorem dX6_keepsLaw_0 : decode cX6_keepsLaw 0 = .ok (.aload_n 0, 1) := dk_42 (dk_at dksX6_keepsLaw_0 0 rfl rfl)
theorem dX6_keepsLaw_1 : decode cX6_keepsLaw 1 = .ok (.getfield 34, 3) := dk_180 0 34 (dk_at dksX6_keepsLaw_0 1 rfl rfl)
theorem dX6_keepsLaw_4 : decode cX6_keepsLaw 4 = .ok (.iconst 0, 1) := dk_3 (dk_at dksX6_keepsLaw_0 4 rfl rfl)
theorem dX6_keepsLaw_5 : decode cX6_keepsLaw 5 = .ok (.aload_n 0, 1) := dk_42 (dk_at dksX6_keepsLaw_0 5 rfl rfl)
theorem dX6_keepsLaw_6 : decode cX6_keepsLaw 6 = .ok (.aload_n 0, 1) := dk_42 (dk_at dksX6_keepsLaw_0 6 rfl rfl)
theorem dX6_keepsLaw_7 : decode cX6_keepsLaw 7 = .ok (.getfield 34, 3) := dk_180 0 34 (dk_at dksX6_keepsLaw_0 7 rfl rfl)
theorem dX6_keepsLaw_10 : decode cX6_keepsLaw 10 = .ok (.iconst 0, 1) := dk_3 (dk_at dksX6_keepsLaw_0 10 rfl rfl)
theorem dX6_keepsLaw_11 : decode cX6_keepsLaw 11 = .ok (.iaload, 1) := dk_46 (dk_at dksX6_keepsLaw_0 11 rfl rfl)
theorem dX6_keepsLaw_12 : decode cX6_keepsLaw 12 = .ok (.invokevirtual 493, 3) := dk_182 1 237 (dk_at dksX6_keepsLaw_0 12 rfl rfl)
theorem dX6_keepsLaw_15 : decode cX6_keepsLaw 15 = .ok (.iastore, 1) := dk_79 (dk_at dksX6_keepsLaw_0 15 rfl rfl)
theorem dX6_keepsLaw_16 : decode cX6_keepsLaw 16 = .ok (.iconst 0, 1) := dk_3 (dk_at dksX6_keepsLaw_0 16 rfl rfl)
theorem dX6_keepsLaw_17 : decode cX6_keepsLaw 17 = .ok (.istore_n 1, 1) := dk_60 (dk_at dksX6_keepsLaw_0 17 rfl rfl)
theorem dX6_keepsLaw_18 : decode cX6_keepsLaw 18 = .ok (.iload_n 1, 1) := dk_27 (dk_at dksX6_keepsLaw_0 18 rfl rfl)
theorem dX6_keepsLaw_19 : decode cX6_keepsLaw 19 = .ok (.bipush 16, 2) := dk_16 16 (dk_at dksX6_keepsLaw_0 19 rfl rfl)
theorem dX6_keepsLaw_21 : decode cX6_keepsLaw 21 = .ok (.if_icmp .ge 73, 3) := dk_162 0 73 (dk_at dksX6_keepsLaw_0 21 rfl rfl)
theorem dX6_keepsLaw_24 : decode cX6_keepsLaw 24 = .ok (.aload_n 0, 1) := dk_42 (dk_at dksX6_keepsLaw_1 0 rfl rfl)
theorem dX6_keepsLaw_25 : decode cX6_keepsLaw 25 = .ok (.getfield 37, 3) := dk_180 0 37 (dk_at dksX6_keepsLaw_1 1 rfl rfl)
theorem dX6_keepsLaw_28 : decode cX6_keepsLaw 28 = .ok (.iload_n 1, 1) := dk_27 (dk_at dksX6_keepsLaw_1 4 rfl rfl)
theorem dX6_keepsLaw_29 : decode cX6_keepsLaw 29 = .ok (.aload_n 0, 1) := dk_42 (dk_at dksX6_keepsLaw_1 5 rfl rfl)
theorem dX6_keepsLaw_30 : decode cX6_keepsLaw 30 = .ok (.aload_n 0, 1) := dk_42 (dk_at dksX6_keepsLaw_1 6 rfl rfl)
theorem dX6_keepsLaw_31 : decode cX6_keepsLaw 31 = .ok (.getfield 37, 3) := dk_180 0 37 (dk_at dksX6_keepsLaw_1 7 rfl rfl)
theorem dX6_keepsLaw_34 : decode cX6_keepsLaw 34 = .ok (.iload_n 1, 1) := dk_27 (dk_at dksX6_keepsLaw_1 10 rfl rfl)
theorem dX6_keepsLaw_35 : decode cX6_keepsLaw 35 = .ok (.iaload, 1) := dk_46 (dk_at dksX6_keepsLaw_1 11 rfl rfl)
theorem dX6_keepsLaw_36 : decode cX6_keepsLaw 36 = .ok (.invokevirtual 493, 3) := dk_182 1 237 (dk_at dksX6_keepsLaw_1 12 rfl rfl)
theorem dX6_keepsLaw_39 : decode cX6_keepsLaw 39 = .ok (.iastore, 1) := dk_79 (dk_at dksX6_keepsLaw_1 15 rfl rfl)
theorem dX6_keepsLaw_40 : decode cX6_keepsLaw 40 = .ok (.aload_n 0, 1) := dk_42 (dk_at dksX6_keepsLaw_1 16 rfl rfl)
theorem dX6_keepsLaw_41 : decode cX6_keepsLaw 41 = .ok (.getfield 40, 3) := dk_180 0 40 (dk_at dksX6_keepsLaw_1 17 rfl rfl)
theorem dX6_keepsLaw_44 : decode cX6_keepsLaw 44 = .ok (.iload_n 1, 1) := dk_27 (dk_at dksX6_keepsLaw_1 20 rfl rfl)
theorem dX6_keepsLaw_45 : decode cX6_keepsLaw 45 = .ok (.aload_n 0, 1) := dk_42 (dk_at dksX6_keepsLaw_1 21 rfl rfl)
theorem dX6_keepsLaw_46 : decode cX6_keepsLaw 46 = .ok (.aload_n 0, 1) := dk_42 (dk_at dksX6_keepsLaw_1 22 rfl rfl)
theorem dX6_keepsLaw_47 : decode cX6_keepsLaw 47 = .ok (.getfield 40, 3) := dk_180 0 40 (dk_at dksX6_keepsLaw_2 0 rfl rfl)
theorem dX6_keepsLaw_50 : decode cX6_keepsLaw 50 = .ok (.iload_n 1, 1) := dk_27 (dk_at dksX6_keepsLaw_2 3 rfl rfl)
theorem dX6_keepsLaw_51 : decode cX6_keepsLaw 51 = .ok (.iaload, 1) := dk_46 (dk_at dksX6_keepsLaw_2 4 rfl rfl)
theorem dX6_keepsLaw_52 : decode cX6_keepsLaw 52 = .ok (.invokevirtual 493, 3) := dk_182 1 237 (dk_at dksX6_keepsLaw_2 5 rfl rfl)
theorem dX6_keepsLaw_55 : decode cX6_keepsLaw 55 = .ok (.iastore, 1) := dk_79 (dk_at dksX6_keepsLaw_2 8 rfl rfl)
theorem dX6_keepsLaw_56 : decode cX6_keepsLaw 56 = .ok (.aload_n 0, 1) := dk_42 (dk_at dksX6_keepsLaw_2 9 rfl rfl)
theorem dX6_keepsLaw_57 : decode cX6_keepsLaw 57 = .ok (.getfield 43, 3) := dk_180 0 43 (dk_at dksX6_keepsLaw_2 10 rfl rfl)
theorem dX6_keepsLaw_60 : decode cX6_keepsLaw 60 = .ok (.iload_n 1, 1) := dk_27 (dk_at dksX6_keepsLaw_2 13 rfl rfl)
theorem dX6_keepsLaw_61 : decode cX6_keepsLaw 61 = .ok (.aload_n 0, 1) := dk_42 (dk_at dksX6_keepsLaw_2 14 rfl rfl)
theorem dX6_keepsLaw_62 : decode cX6_keepsLaw 62 = .ok (.aload_n 0, 1) := dk_42 (dk_at dksX6_keepsLaw_2 15 rfl rfl)
theorem dX6_keepsLaw_63 : decode cX6_keepsLaw 63 = .ok (.getfield 43, 3) := dk_180 0 43 (dk_at dksX6_keepsLaw_2 16 rfl rfl)
theorem dX6_keepsLaw_66 : decode cX6_keepsLaw 66 = .ok (.iload_n 1, 1) := dk_27 (dk_at dksX6_keepsLaw_2 19 rfl rfl)
theorem dX6_keepsLaw_67 : decode cX6_keepsLaw 67 = .ok (.iaload, 1) := dk_46 (dk_at dksX6_keepsLaw_2 20 rfl rfl)
theorem dX6_keepsLaw_68 : decode cX6_keepsLaw 68 = .ok (.invokevirtual 493, 3) := dk_182 1 237 (dk_at dksX6_keepsLaw_2 21 rfl rfl)
theorem dX6_keepsLaw_71 : decode cX6_keepsLaw 71 = .ok (.iastore, 1) := dk_79 (dk_at dksX6_keepsLaw_3 0 rfl rfl)
theorem dX6_keepsLaw_72 : decode cX6_keepsLaw 72 = .ok (.aload_n 0, 1) := dk_42 (dk_at dksX6_keepsLaw_3 1 rfl rfl)
theorem dX6_keepsLaw_73 : decode cX6_keepsLaw 73 = .ok (.getfield 46, 3) := dk_180 0 46 (dk_at dksX6_keepsLaw_3 2 rfl rfl)
theorem dX6_keepsLaw_76 : decode cX6_keepsLaw 76 = .ok (.iload_n 1, 1) := dk_27 (dk_at dksX6_keepsLaw_3 5 rfl rfl)
theorem dX6_keepsLaw_77 : decode cX6_keepsLaw 77 = .ok (.aload_n 0, 1) := dk_42 (dk_at dksX6_keepsLaw_3 6 rfl rfl)
theorem dX6_keepsLaw_78 : decode cX6_keepsLaw 78 = .ok (.aload_n 0, 1) := dk_42 (dk_at dksX6_keepsLaw_3 7 rfl rfl)
theorem dX6_keepsLaw_79 : decode cX6_keepsLaw 79 = .ok (.getfield 46, 3) := dk_180 0 46 (dk_at dksX6_keepsLaw_3 8 rfl rfl)
theorem dX6_keepsLaw_82 : decode cX6_keepsLaw 82 = .ok (.iload_n 1, 1) := dk_27 (dk_at dksX6_keepsLaw_3 11 rfl rfl)
theorem dX6_keepsLaw_83 : decode cX6_keepsLaw 83 = .ok (.iaload, 1) := dk_46 (dk_at dksX6_keepsLaw_3 12 rfl rfl)
theorem dX6_keepsLaw_84 : decode cX6_keepsLaw 84 = .ok (.invokevirtual 493, 3) := dk_182 1 237 (dk_at dksX6_keepsLaw_3 13 rfl rfl)
theorem dX6_keepsLaw_87 : decode cX6_keepsLaw 87 = .ok (.iastore, 1) := dk_79 (dk_at dksX6_keepsLaw_3 16 rfl rfl)
theorem dX6_keepsLaw_88 : decode cX6_keepsLaw 88 = .ok (.iinc 1 1, 3) := dk_132 1 1 (dk_at dksX6_keepsLaw_3 17 rfl rfl)
theorem dX6_keepsLaw_91 : decode cX6_keepsLaw 91 = .ok (.goto (-73), 3) := dk_167 255 183 (dk_at dksX6_keepsLaw_3 20 rfl rfl)
theorem dX6_keepsLaw_94 : decode cX6_keepsLaw 94 = .ok (.iconst 0, 1) := dk_3 (dk_at dksX6_keepsLaw_3 23 rfl rfl)
theorem dX6_keepsLaw_95 : decode cX6_keepsLaw 95 = .ok (.istore_n 1, 1) := dk_60 (dk_at dksX6_keepsLaw_4 0 rfl rfl)
theorem dX6_keepsLaw_96 : decode cX6_keepsLaw 96 = .ok (.iload_n 1, 1) := dk_27 (dk_at dksX6_keepsLaw_4 1 rfl rfl)
theorem dX6_keepsLaw_97 : decode cX6_keepsLaw 97 = .ok (.sipush 400, 3) := dk_17 1 144 (dk_at dksX6_keepsLaw_4 2 rfl rfl)
theorem dX6_keepsLaw_100 : decode cX6_keepsLaw 100 = .ok (.if_icmp .ge 41, 3) := dk_162 0 41 (dk_at dksX6_keepsLaw_4 5 rfl rfl)
theorem dX6_keepsLaw_103 : decode cX6_keepsLaw 103 = .ok (.aload_n 0, 1) := dk_42 (dk_at dksX6_keepsLaw_4 8 rfl rfl)
theorem dX6_keepsLaw_104 : decode cX6_keepsLaw 104 = .ok (.getfield 49, 3) := dk_180 0 49 (dk_at dksX6_keepsLaw_4 9 rfl rfl)
theorem dX6_keepsLaw_107 : decode cX6_keepsLaw 107 = .ok (.iload_n 1, 1) := dk_27 (dk_at dksX6_keepsLaw_4 12 rfl rfl)
theorem dX6_keepsLaw_108 : decode cX6_keepsLaw 108 = .ok (.aload_n 0, 1) := dk_42 (dk_at dksX6_keepsLaw_4 13 rfl rfl)
theorem dX6_keepsLaw_109 : decode cX6_keepsLaw 109 = .ok (.aload_n 0, 1) := dk_42 (dk_at dksX6_keepsLaw_4 14 rfl rfl)
theorem dX6_keepsLaw_110 : decode cX6_keepsLaw 110 = .ok (.getfield 49, 3) := dk_180 0 49 (dk_at dksX6_keepsLaw_4 15 rfl rfl)
theorem dX6_keepsLaw_113 : decode cX6_keepsLaw 113 = .ok (.iload_n 1, 1) := dk_27 (dk_at dksX6_keepsLaw_4 18 rfl rfl)
theorem dX6_keepsLaw_114 : decode cX6_keepsLaw 114 = .ok (.iaload, 1) := dk_46 (dk_at dksX6_keepsLaw_4 19 rfl rfl)
theorem dX6_keepsLaw_115 : decode cX6_keepsLaw 115 = .ok (.invokevirtual 493, 3) := dk_182 1 237 (dk_at dksX6_keepsLaw_4 20 rfl rfl)
theorem dX6_keepsLaw_118 : decode cX6_keepsLaw 118 = .ok (.iastore, 1) := dk_79 (dk_at dksX6_keepsLaw_4 23 rfl rfl)
theorem dX6_keepsLaw_119 : decode cX6_keepsLaw 119 = .ok (.aload_n 0, 1) := dk_42 (dk_at dksX6_keepsLaw_5 0 rfl rfl)
theorem dX6_keepsLaw_120 : decode cX6_keepsLaw 120 = .ok (.getfield 52, 3) := dk_180 0 52 (dk_at dksX6_keepsLaw_5 1 rfl rfl)
theorem dX6_keepsLaw_123 : decode cX6_keepsLaw 123 = .ok (.iload_n 1, 1) := dk_27 (dk_at dksX6_keepsLaw_5 4 rfl rfl)
theorem dX6_keepsLaw_124 : decode cX6_keepsLaw 124 = .ok (.aload_n 0, 1) := dk_42 (dk_at dksX6_keepsLaw_5 5 rfl rfl)
theorem dX6_keepsLaw_125 : decode cX6_keepsLaw 125 = .ok (.aload_n 0, 1) := dk_42 (dk_at dksX6_keepsLaw_5 6 rfl rfl)
theorem dX6_keepsLaw_126 : decode cX6_keepsLaw 126 = .ok (.getfield 52, 3) := dk_180 0 52 (dk_at dksX6_keepsLaw_5 7 rfl rfl)
theorem dX6_keepsLaw_129 : decode cX6_keepsLaw 129 = .ok (.iload_n 1, 1) := dk_27 (dk_at dksX6_keepsLaw_5 10 rfl rfl)
theorem dX6_keepsLaw_130 : decode cX6_keepsLaw 130 = .ok (.iaload, 1) := dk_46 (dk_at dksX6_keepsLaw_5 11 rfl rfl)
theorem dX6_keepsLaw_131 : decode cX6_keepsLaw 131 = .ok (.invokevirtual 493, 3) := dk_182 1 237 (dk_at dksX6_keepsLaw_5 12 rfl rfl)
theorem dX6_keepsLaw_134 : decode cX6_keepsLaw 134 = .ok (.iastore, 1) := dk_79 (dk_at dksX6_keepsLaw_5 15 rfl rfl)
theorem dX6_keepsLaw_135 : decode cX6_keepsLaw 135 = .ok (.iinc 1 1, 3) := dk_132 1 1 (dk_at dksX6_keepsLaw_5 16 rfl rfl)
theorem dX6_keepsLaw_138 : decode cX6_keepsLaw 138 = .ok (.goto (-42), 3) := dk_167 255 214 (dk_at dksX6_keepsLaw_5 19 rfl rfl)
theorem dX6_keepsLaw_141 : decode cX6_keepsLaw 141 = .ok (.return_, 1) := dk_177 (dk_at dksX6_keepsLaw_5 22 rfl rfl)
abbrev cX6_look : ByteArray := prog_22_method_133_code
def yX6_look : MethodName := ⟨RX6, "look", "(I)I"⟩
def dkwX6_look_6 : List UInt8 := [2, 172]
abbrev dktX6_look_6 : List UInt8 := dkwX6_look_6 ++ []
def dkwX6_look_5 : List UInt8 := [27, 16, 10, 160, 0, 8, 42, 180, 1, 36, 172, 27, 16, 11, 160, 0, 10, 42, 180, 0, 126, 167, 0, 4]
abbrev dktX6_look_5 : List UInt8 := dkwX6_look_5 ++ dktX6_look_6
def dkwX6_look_4 : List UInt8 := [46, 172, 27, 16, 8, 160, 0, 8, 42, 180, 1, 39, 172, 27, 16, 9, 160, 0, 8, 42, 180, 1, 42, 172]
abbrev dktX6_look_4 : List UInt8 := dkwX6_look_4 ++ dktX6_look_5
def dkwX6_look_3 : List UInt8 := [27, 16, 6, 160, 0, 10, 42, 180, 0, 7, 4, 46, 172, 27, 16, 7, 160, 0, 10, 42, 180, 0, 34, 3]
abbrev dktX6_look_3 : List UInt8 := dkwX6_look_3 ++ dktX6_look_4
def dkwX6_look_2 : List UInt8 := [27, 7, 160, 0, 10, 42, 180, 0, 7, 3, 46, 172, 27, 8, 160, 0, 10, 42, 180, 0, 7, 5, 46, 172]
abbrev dktX6_look_2 : List UInt8 := dkwX6_look_2 ++ dktX6_look_3
def dkwX6_look_1 : List UInt8 := [27, 5, 160, 0, 10, 42, 180, 0, 7, 6, 46, 172, 27, 6, 160, 0, 10, 42, 180, 0, 7, 7, 46, 172]
abbrev dktX6_look_1 : List UInt8 := dkwX6_look_1 ++ dktX6_look_2
def dkwX6_look_0 : List UInt8 := [42, 3, 181, 0, 122, 27, 154, 0, 8, 42, 180, 0, 135, 172, 27, 4, 160, 0, 8, 42, 180, 0, 138, 172]
abbrev dktX6_look_0 : List UInt8 := dkwX6_look_0 ++ dktX6_look_1
theorem dksX6_look_0 : cX6_look.data.toList.drop 0 = dktX6_look_0 := by decide +kernel
theorem dksX6_look_1 : cX6_look.data.toList.drop 24 = dktX6_look_1 := dk_seg dksX6_look_0 24 rfl rfl
theorem dksX6_look_2 : cX6_look.data.toList.drop 48 = dktX6_look_2 := dk_seg dksX6_look_1 24 rfl rfl
theorem dksX6_look_3 : cX6_look.data.toList.drop 72 = dktX6_look_3 := dk_seg dksX6_look_2 24 rfl rfl
theorem dksX6_look_4 : cX6_look.data.toList.drop 96 = dktX6_look_4 := dk_seg dksX6_look_3 24 rfl rfl
theorem dksX6_look_5 : cX6_look.data.toList.drop 120 = dktX6_look_5 := dk_seg dksX6_look_4 24 rfl rfl
theorem dksX6_look_6 : cX6_look.data.toList.drop 144 = dktX6_look_6 := dk_seg dksX6_look_5 24 rfl rfl
theorem dX6_look_0 : decode cX6_look 0 = .ok (.aload_n 0, 1) := dk_42 (dk_at dksX6_look_0 0 rfl rfl)
theorem dX6_look_1 : decode cX6_look 1 = .ok (.iconst 0, 1) := dk_3 (dk_at dksX6_look_0 1 rfl rfl)
theorem dX6_look_2 : decode cX6_look 2 = .ok (.putfield 122, 3) := dk_181 0 122 (dk_at dksX6_look_0 2 rfl rfl)
theorem dX6_look_5 : decode cX6_look 5 = .ok (.iload_n 1, 1) := dk_27 (dk_at dksX6_look_0 5 rfl rfl)
theorem dX6_look_6 : decode cX6_look 6 = .ok (.ifCond .ne 8, 3) := dk_154 0 8 (dk_at dksX6_look_0 6 rfl rfl)
theorem dX6_look_9 : decode cX6_look 9 = .ok (.aload_n 0, 1) := dk_42 (dk_at dksX6_look_0 9 rfl rfl)
theorem dX6_look_10 : decode cX6_look 10 = .ok (.getfield 135, 3) := dk_180 0 135 (dk_at dksX6_look_0 10 rfl rfl)
theorem dX6_look_13 : decode cX6_look 13 = .ok (.ireturn, 1) := dk_172 (dk_at dksX6_look_0 13 rfl rfl)
theorem dX6_look_14 : decode cX6_look 14 = .ok (.iload_n 1, 1) := dk_27 (dk_at dksX6_look_0 14 rfl rfl)
theorem dX6_look_15 : decode cX6_look 15 = .ok (.iconst 1, 1) := dk_4 (dk_at dksX6_look_0 15 rfl rfl)
theorem dX6_look_16 : decode cX6_look 16 = .ok (.if_icmp .ne 8, 3) := dk_160 0 8 (dk_at dksX6_look_0 16 rfl rfl)
theorem dX6_look_19 : decode cX6_look 19 = .ok (.aload_n 0, 1) := dk_42 (dk_at dksX6_look_0 19 rfl rfl)
theorem dX6_look_20 : decode cX6_look 20 = .ok (.getfield 138, 3) := dk_180 0 138 (dk_at dksX6_look_0 20 rfl rfl)
theorem dX6_look_23 : decode cX6_look 23 = .ok (.ireturn, 1) := dk_172 (dk_at dksX6_look_0 23 rfl rfl)
theorem dX6_look_24 : decode cX6_look 24 = .ok (.iload_n 1, 1) := dk_27 (dk_at dksX6_look_1 0 rfl rfl)
theorem dX6_look_25 : decode cX6_look 25 = .ok (.iconst 2, 1) := dk_5 (dk_at dksX6_look_1 1 rfl rfl)
theorem dX6_look_26 : decode cX6_look 26 = .ok (.if_icmp .ne 10, 3) := dk_160 0 10 (dk_at dksX6_look_1 2 rfl rfl)
theorem dX6_look_29 : decode cX6_look 29 = .ok (.aload_n 0, 1) := dk_42 (dk_at dksX6_look_1 5 rfl rfl)
theorem dX6_look_30 : decode cX6_look 30 = .ok (.getfield 7, 3) := dk_180 0 7 (dk_at dksX6_look_1 6 rfl rfl)
theorem dX6_look_33 : decode cX6_look 33 = .ok (.iconst 3, 1) := dk_6 (dk_at dksX6_look_1 9 rfl rfl)
theorem dX6_look_34 : decode cX6_look 34 = .ok (.iaload, 1) := dk_46 (dk_at dksX6_look_1 10 rfl rfl)
theorem dX6_look_35 : decode cX6_look 35 = .ok (.ireturn, 1) := dk_172 (dk_at dksX6_look_1 11 rfl rfl)
theorem dX6_look_36 : decode cX6_look 36 = .ok (.iload_n 1, 1) := dk_27 (dk_at dksX6_look_1 12 rfl rfl)
theorem dX6_look_37 : decode cX6_look 37 = .ok (.iconst 3, 1) := dk_6 (dk_at dksX6_look_1 13 rfl rfl)
theorem dX6_look_38 : decode cX6_look 38 = .ok (.if_icmp .ne 10, 3) := dk_160 0 10 (dk_at dksX6_look_1 14 rfl rfl)
theorem dX6_look_41 : decode cX6_look 41 = .ok (.aload_n 0, 1) := dk_42 (dk_at dksX6_look_1 17 rfl rfl)
theorem dX6_look_42 : decode cX6_look 42 = .ok (.getfield 7, 3) := dk_180 0 7 (dk_at dksX6_look_1 18 rfl rfl)
theorem dX6_look_45 : decode cX6_look 45 = .ok (.iconst 4, 1) := dk_7 (dk_at dksX6_look_1 21 rfl rfl)
theorem dX6_look_46 : decode cX6_look 46 = .ok (.iaload, 1) := dk_46 (dk_at dksX6_look_1 22 rfl rfl)
theorem dX6_look_47 : decode cX6_look 47 = .ok (.ireturn, 1) := dk_172 (dk_at dksX6_look_1 23 rfl rfl)
theorem dX6_look_48 : decode cX6_look 48 = .ok (.iload_n 1, 1) := dk_27 (dk_at dksX6_look_2 0 rfl rfl)
theorem dX6_look_49 : decode cX6_look 49 = .ok (.iconst 4, 1) := dk_7 (dk_at dksX6_look_2 1 rfl rfl)
theorem dX6_look_50 : decode cX6_look 50 = .ok (.if_icmp .ne 10, 3) := dk_160 0 10 (dk_at dksX6_look_2 2 rfl rfl)
theorem dX6_look_53 : decode cX6_look 53 = .ok (.aload_n 0, 1) := dk_42 (dk_at dksX6_look_2 5 rfl rfl)
theorem dX6_look_54 : decode cX6_look 54 = .ok (.getfield 7, 3) := dk_180 0 7 (dk_at dksX6_look_2 6 rfl rfl)
theorem dX6_look_57 : decode cX6_look 57 = .ok (.iconst 0, 1) := dk_3 (dk_at dksX6_look_2 9 rfl rfl)
theorem dX6_look_58 : decode cX6_look 58 = .ok (.iaload, 1) := dk_46 (dk_at dksX6_look_2 10 rfl rfl)
theorem dX6_look_59 : decode cX6_look 59 = .ok (.ireturn, 1) := dk_172 (dk_at dksX6_look_2 11 rfl rfl)
theorem dX6_look_60 : decode cX6_look 60 = .ok (.iload_n 1, 1) := dk_27 (dk_at dksX6_look_2 12 rfl rfl)
theorem dX6_look_61 : decode cX6_look 61 = .ok (.iconst 5, 1) := dk_8 (dk_at dksX6_look_2 13 rfl rfl)
theorem dX6_look_62 : decode cX6_look 62 = .ok (.if_icmp .ne 10, 3) := dk_160 0 10 (dk_at dksX6_look_2 14 rfl rfl)
theorem dX6_look_65 : decode cX6_look 65 = .ok (.aload_n 0, 1) := dk_42 (dk_at dksX6_look_2 17 rfl rfl)
theorem dX6_look_66 : decode cX6_look 66 = .ok (.getfield 7, 3) := dk_180 0 7 (dk_at dksX6_look_2 18 rfl rfl)
theorem dX6_look_69 : decode cX6_look 69 = .ok (.iconst 2, 1) := dk_5 (dk_at dksX6_look_2 21 rfl rfl)
theorem dX6_look_70 : decode cX6_look 70 = .ok (.iaload, 1) := dk_46 (dk_at dksX6_look_2 22 rfl rfl)
theorem dX6_look_71 : decode cX6_look 71 = .ok (.ireturn, 1) := dk_172 (dk_at dksX6_look_2 23 rfl rfl)
theorem dX6_look_72 : decode cX6_look 72 = .ok (.iload_n 1, 1) := dk_27 (dk_at dksX6_look_3 0 rfl rfl)
theorem dX6_look_73 : decode cX6_look 73 = .ok (.bipush 6, 2) := dk_16 6 (dk_at dksX6_look_3 1 rfl rfl)
theorem dX6_look_75 : decode cX6_look 75 = .ok (.if_icmp .ne 10, 3) := dk_160 0 10 (dk_at dksX6_look_3 3 rfl rfl)
theorem dX6_look_78 : decode cX6_look 78 = .ok (.aload_n 0, 1) := dk_42 (dk_at dksX6_look_3 6 rfl rfl)
theorem dX6_look_79 : decode cX6_look 79 = .ok (.getfield 7, 3) := dk_180 0 7 (dk_at dksX6_look_3 7 rfl rfl)
theorem dX6_look_82 : decode cX6_look 82 = .ok (.iconst 1, 1) := dk_4 (dk_at dksX6_look_3 10 rfl rfl)
theorem dX6_look_83 : decode cX6_look 83 = .ok (.iaload, 1) := dk_46 (dk_at dksX6_look_3 11 rfl rfl)
theorem dX6_look_84 : decode cX6_look 84 = .ok (.ireturn, 1) := dk_172 (dk_at dksX6_look_3 12 rfl rfl)
theorem dX6_look_85 : decode cX6_look 85 = .ok (.iload_n 1, 1) := dk_27 (dk_at dksX6_look_3 13 rfl rfl)
theorem dX6_look_86 : decode cX6_look 86 = .ok (.bipush 7, 2) := dk_16 7 (dk_at dksX6_look_3 14 rfl rfl)
theorem dX6_look_88 : decode cX6_look 88 = .ok (.if_icmp .ne 10, 3) := dk_160 0 10 (dk_at dksX6_look_3 16 rfl rfl)
theorem dX6_look_91 : decode cX6_look 91 = .ok (.aload_n 0, 1) := dk_42 (dk_at dksX6_look_3 19 rfl rfl)
theorem dX6_look_92 : decode cX6_look 92 = .ok (.getfield 34, 3) := dk_180 0 34 (dk_at dksX6_look_3 20 rfl rfl)
theorem dX6_look_95 : decode cX6_look 95 = .ok (.iconst 0, 1) := dk_3 (dk_at dksX6_look_3 23 rfl rfl)
theorem dX6_look_96 : decode cX6_look 96 = .ok (.iaload, 1) := dk_46 (dk_at dksX6_look_4 0 rfl rfl)
theorem dX6_look_97 : decode cX6_look 97 = .ok (.ireturn, 1) := dk_172 (dk_at dksX6_look_4 1 rfl rfl)
theorem dX6_look_98 : decode cX6_look 98 = .ok (.iload_n 1, 1) := dk_27 (dk_at dksX6_look_4 2 rfl rfl)
theorem dX6_look_99 : decode cX6_look 99 = .ok (.bipush 8, 2) := dk_16 8 (dk_at dksX6_look_4 3 rfl rfl)
theorem dX6_look_101 : decode cX6_look 101 = .ok (.if_icmp .ne 8, 3) := dk_160 0 8 (dk_at dksX6_look_4 5 rfl rfl)
theorem dX6_look_104 : decode cX6_look 104 = .ok (.aload_n 0, 1) := dk_42 (dk_at dksX6_look_4 8 rfl rfl)
theorem dX6_look_105 : decode cX6_look 105 = .ok (.getfield 295, 3) := dk_180 1 39 (dk_at dksX6_look_4 9 rfl rfl)
theorem dX6_look_108 : decode cX6_look 108 = .ok (.ireturn, 1) := dk_172 (dk_at dksX6_look_4 12 rfl rfl)
theorem dX6_look_109 : decode cX6_look 109 = .ok (.iload_n 1, 1) := dk_27 (dk_at dksX6_look_4 13 rfl rfl)
theorem dX6_look_110 : decode cX6_look 110 = .ok (.bipush 9, 2) := dk_16 9 (dk_at dksX6_look_4 14 rfl rfl)
theorem dX6_look_112 : decode cX6_look 112 = .ok (.if_icmp .ne 8, 3) := dk_160 0 8 (dk_at dksX6_look_4 16 rfl rfl)
theorem dX6_look_115 : decode cX6_look 115 = .ok (.aload_n 0, 1) := dk_42 (dk_at dksX6_look_4 19 rfl rfl)
theorem dX6_look_116 : decode cX6_look 116 = .ok (.getfield 298, 3) := dk_180 1 42 (dk_at dksX6_look_4 20 rfl rfl)
theorem dX6_look_119 : decode cX6_look 119 = .ok (.ireturn, 1) := dk_172 (dk_at dksX6_look_4 23 rfl rfl)
theorem dX6_look_120 : decode cX6_look 120 = .ok (.iload_n 1, 1) := dk_27 (dk_at dksX6_look_5 0 rfl rfl)
theorem dX6_look_121 : decode cX6_look 121 = .ok (.bipush 10, 2) := dk_16 10 (dk_at dksX6_look_5 1 rfl rfl)
theorem dX6_look_123 : decode cX6_look 123 = .ok (.if_icmp .ne 8, 3) := dk_160 0 8 (dk_at dksX6_look_5 3 rfl rfl)
theorem dX6_look_126 : decode cX6_look 126 = .ok (.aload_n 0, 1) := dk_42 (dk_at dksX6_look_5 6 rfl rfl)
theorem dX6_look_127 : decode cX6_look 127 = .ok (.getfield 292, 3) := dk_180 1 36 (dk_at dksX6_look_5 7 rfl rfl)
theorem dX6_look_130 : decode cX6_look 130 = .ok (.ireturn, 1) := dk_172 (dk_at dksX6_look_5 10 rfl rfl)
theorem dX6_look_131 : decode cX6_look 131 = .ok (.iload_n 1, 1) := dk_27 (dk_at dksX6_look_5 11 rfl rfl)
theorem dX6_look_132 : decode cX6_look 132 = .ok (.bipush 11, 2) := dk_16 11 (dk_at dksX6_look_5 12 rfl rfl)
theorem dX6_look_134 : decode cX6_look 134 = .ok (.if_icmp .ne 10, 3) := dk_160 0 10 (dk_at dksX6_look_5 14 rfl rfl)
theorem dX6_look_137 : decode cX6_look 137 = .ok (.aload_n 0, 1) := dk_42 (dk_at dksX6_look_5 17 rfl rfl)
theorem dX6_look_138 : decode cX6_look 138 = .ok (.getfield 126, 3) := dk_180 0 126 (dk_at dksX6_look_5 18 rfl rfl)
theorem dX6_look_141 : decode cX6_look 141 = .ok (.goto 4, 3) := dk_167 0 4 (dk_at dksX6_look_5 21 rfl rfl)
theorem dX6_look_144 : decode cX6_look 144 = .ok (.iconst (-1), 1) := dk_2 (dk_at dksX6_look_6 0 rfl rfl)
theorem dX6_look_145 : decode cX6_look 145 = .ok (.ireturn, 1) := dk_172 (dk_at dksX6_look_6 1 rfl rfl)

