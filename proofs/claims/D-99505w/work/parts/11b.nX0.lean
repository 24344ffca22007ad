set_option maxRecDepth 100000
abbrev cX0_alike : ByteArray := prog_1_method_55_code
def yX0_alike : MethodName := ⟨RX0, "alike", "(II)I"⟩
def dkwX0_alike_4 : List UInt8 := [182, 1, 74, 162, 0, 6, 21, 4, 62, 132, 4, 1, 167, 255, 197, 29, 172]
abbrev dktX0_alike_4 : List UInt8 := dkwX0_alike_4 ++ []
def dkwX0_alike_3 : List UInt8 := [27, 182, 0, 150, 42, 21, 4, 182, 0, 150, 182, 1, 74, 42, 27, 182, 0, 150, 42, 29, 182, 0, 150]
abbrev dktX0_alike_3 : List UInt8 := dkwX0_alike_3 ++ dktX0_alike_4
def dkwX0_alike_2 : List UInt8 := [21, 4, 42, 180, 0, 20, 180, 0, 137, 162, 0, 53, 21, 4, 27, 159, 0, 41, 29, 2, 159, 0, 33, 42]
abbrev dktX0_alike_2 : List UInt8 := dkwX0_alike_2 ++ dktX0_alike_3
def dkwX0_alike_1 : List UInt8 := [2, 159, 0, 17, 42, 27, 182, 0, 150, 42, 28, 182, 0, 150, 182, 1, 74, 172, 2, 62, 3, 54, 4]
abbrev dktX0_alike_1 : List UInt8 := dkwX0_alike_1 ++ dktX0_alike_2
def dkwX0_alike_0 : List UInt8 := [42, 27, 182, 0, 160, 153, 0, 16, 28, 2, 159, 0, 13, 42, 28, 182, 0, 160, 154, 0, 5, 2, 172, 28]
abbrev dktX0_alike_0 : List UInt8 := dkwX0_alike_0 ++ dktX0_alike_1
theorem dksX0_alike_0 : cX0_alike.data.toList.drop 0 = dktX0_alike_0 := by decide +kernel
theorem dksX0_alike_1 : cX0_alike.data.toList.drop 24 = dktX0_alike_1 := dk_seg dksX0_alike_0 24 rfl rfl
theorem dksX0_alike_2 : cX0_alike.data.toList.drop 47 = dktX0_alike_2 := dk_seg dksX0_alike_1 23 rfl rfl
theorem dksX0_alike_3 : cX0_alike.data.toList.drop 71 = dktX0_alike_3 := dk_seg dksX0_alike_2 24 rfl rfl
theorem dksX0_alike_4 : cX0_alike.data.toList.drop 94 = dktX0_alike_4 := dk_seg dksX0_alike_3 23 rfl rfl
theorem dX0_alike_0 : decode cX0_alike 0 = .ok (.aload_n 0, 1) := dk_42 (dk_at dksX0_alike_0 0 rfl rfl)
theorem dX0_alike_1 : decode cX0_alike 1 = .ok (.iload_n 1, 1) := dk_27 (dk_at dksX0_alike_0 1 rfl rfl)
theorem dX0_alike_2 : decode cX0_alike 2 = .ok (.invokevirtual 160, 3) := dk_182 0 160 (dk_at dksX0_alike_0 2 rfl rfl)
theorem dX0_alike_5 : decode cX0_alike 5 = .ok (.ifCond .eq 16, 3) := dk_153 0 16 (dk_at dksX0_alike_0 5 rfl rfl)
theorem dX0_alike_8 : decode cX0_alike 8 = .ok (.iload_n 2, 1) := dk_28 (dk_at dksX0_alike_0 8 rfl rfl)
theorem dX0_alike_9 : decode cX0_alike 9 = .ok (.iconst (-1), 1) := dk_2 (dk_at dksX0_alike_0 9 rfl rfl)
theorem dX0_alike_10 : decode cX0_alike 10 = .ok (.if_icmp .eq 13, 3) := dk_159 0 13 (dk_at dksX0_alike_0 10 rfl rfl)
theorem dX0_alike_13 : decode cX0_alike 13 = .ok (.aload_n 0, 1) := dk_42 (dk_at dksX0_alike_0 13 rfl rfl)
theorem dX0_alike_14 : decode cX0_alike 14 = .ok (.iload_n 2, 1) := dk_28 (dk_at dksX0_alike_0 14 rfl rfl)
theorem dX0_alike_15 : decode cX0_alike 15 = .ok (.invokevirtual 160, 3) := dk_182 0 160 (dk_at dksX0_alike_0 15 rfl rfl)
theorem dX0_alike_18 : decode cX0_alike 18 = .ok (.ifCond .ne 5, 3) := dk_154 0 5 (dk_at dksX0_alike_0 18 rfl rfl)
theorem dX0_alike_21 : decode cX0_alike 21 = .ok (.iconst (-1), 1) := dk_2 (dk_at dksX0_alike_0 21 rfl rfl)
theorem dX0_alike_22 : decode cX0_alike 22 = .ok (.ireturn, 1) := dk_172 (dk_at dksX0_alike_0 22 rfl rfl)
theorem dX0_alike_23 : decode cX0_alike 23 = .ok (.iload_n 2, 1) := dk_28 (dk_at dksX0_alike_0 23 rfl rfl)
theorem dX0_alike_24 : decode cX0_alike 24 = .ok (.iconst (-1), 1) := dk_2 (dk_at dksX0_alike_1 0 rfl rfl)
theorem dX0_alike_25 : decode cX0_alike 25 = .ok (.if_icmp .eq 17, 3) := dk_159 0 17 (dk_at dksX0_alike_1 1 rfl rfl)
theorem dX0_alike_28 : decode cX0_alike 28 = .ok (.aload_n 0, 1) := dk_42 (dk_at dksX0_alike_1 4 rfl rfl)
theorem dX0_alike_29 : decode cX0_alike 29 = .ok (.iload_n 1, 1) := dk_27 (dk_at dksX0_alike_1 5 rfl rfl)
theorem dX0_alike_30 : decode cX0_alike 30 = .ok (.invokevirtual 150, 3) := dk_182 0 150 (dk_at dksX0_alike_1 6 rfl rfl)
theorem dX0_alike_33 : decode cX0_alike 33 = .ok (.aload_n 0, 1) := dk_42 (dk_at dksX0_alike_1 9 rfl rfl)
theorem dX0_alike_34 : decode cX0_alike 34 = .ok (.iload_n 2, 1) := dk_28 (dk_at dksX0_alike_1 10 rfl rfl)
theorem dX0_alike_35 : decode cX0_alike 35 = .ok (.invokevirtual 150, 3) := dk_182 0 150 (dk_at dksX0_alike_1 11 rfl rfl)
theorem dX0_alike_38 : decode cX0_alike 38 = .ok (.invokevirtual 330, 3) := dk_182 1 74 (dk_at dksX0_alike_1 14 rfl rfl)
theorem dX0_alike_41 : decode cX0_alike 41 = .ok (.ireturn, 1) := dk_172 (dk_at dksX0_alike_1 17 rfl rfl)
theorem dX0_alike_42 : decode cX0_alike 42 = .ok (.iconst (-1), 1) := dk_2 (dk_at dksX0_alike_1 18 rfl rfl)
theorem dX0_alike_43 : decode cX0_alike 43 = .ok (.istore_n 3, 1) := dk_62 (dk_at dksX0_alike_1 19 rfl rfl)
theorem dX0_alike_44 : decode cX0_alike 44 = .ok (.iconst 0, 1) := dk_3 (dk_at dksX0_alike_1 20 rfl rfl)
theorem dX0_alike_45 : decode cX0_alike 45 = .ok (.istore 4, 2) := dk_54 4 (dk_at dksX0_alike_1 21 rfl rfl)
theorem dX0_alike_47 : decode cX0_alike 47 = .ok (.iload 4, 2) := dk_21 4 (dk_at dksX0_alike_2 0 rfl rfl)
theorem dX0_alike_49 : decode cX0_alike 49 = .ok (.aload_n 0, 1) := dk_42 (dk_at dksX0_alike_2 2 rfl rfl)
theorem dX0_alike_50 : decode cX0_alike 50 = .ok (.getfield 20, 3) := dk_180 0 20 (dk_at dksX0_alike_2 3 rfl rfl)
theorem dX0_alike_53 : decode cX0_alike 53 = .ok (.getfield 137, 3) := dk_180 0 137 (dk_at dksX0_alike_2 6 rfl rfl)
theorem dX0_alike_56 : decode cX0_alike 56 = .ok (.if_icmp .ge 53, 3) := dk_162 0 53 (dk_at dksX0_alike_2 9 rfl rfl)
theorem dX0_alike_59 : decode cX0_alike 59 = .ok (.iload 4, 2) := dk_21 4 (dk_at dksX0_alike_2 12 rfl rfl)
theorem dX0_alike_61 : decode cX0_alike 61 = .ok (.iload_n 1, 1) := dk_27 (dk_at dksX0_alike_2 14 rfl rfl)
theorem dX0_alike_62 : decode cX0_alike 62 = .ok (.if_icmp .eq 41, 3) := dk_159 0 41 (dk_at dksX0_alike_2 15 rfl rfl)
theorem dX0_alike_65 : decode cX0_alike 65 = .ok (.iload_n 3, 1) := dk_29 (dk_at dksX0_alike_2 18 rfl rfl)
theorem dX0_alike_66 : decode cX0_alike 66 = .ok (.iconst (-1), 1) := dk_2 (dk_at dksX0_alike_2 19 rfl rfl)
theorem dX0_alike_67 : decode cX0_alike 67 = .ok (.if_icmp .eq 33, 3) := dk_159 0 33 (dk_at dksX0_alike_2 20 rfl rfl)
theorem dX0_alike_70 : decode cX0_alike 70 = .ok (.aload_n 0, 1) := dk_42 (dk_at dksX0_alike_2 23 rfl rfl)
theorem dX0_alike_71 : decode cX0_alike 71 = .ok (.iload_n 1, 1) := dk_27 (dk_at dksX0_alike_3 0 rfl rfl)
theorem dX0_alike_72 : decode cX0_alike 72 = .ok (.invokevirtual 150, 3) := dk_182 0 150 (dk_at dksX0_alike_3 1 rfl rfl)
theorem dX0_alike_75 : decode cX0_alike 75 = .ok (.aload_n 0, 1) := dk_42 (dk_at dksX0_alike_3 4 rfl rfl)
theorem dX0_alike_76 : decode cX0_alike 76 = .ok (.iload 4, 2) := dk_21 4 (dk_at dksX0_alike_3 5 rfl rfl)
theorem dX0_alike_78 : decode cX0_alike 78 = .ok (.invokevirtual 150, 3) := dk_182 0 150 (dk_at dksX0_alike_3 7 rfl rfl)
theorem dX0_alike_81 : decode cX0_alike 81 = .ok (.invokevirtual 330, 3) := dk_182 1 74 (dk_at dksX0_alike_3 10 rfl rfl)
theorem dX0_alike_84 : decode cX0_alike 84 = .ok (.aload_n 0, 1) := dk_42 (dk_at dksX0_alike_3 13 rfl rfl)
theorem dX0_alike_85 : decode cX0_alike 85 = .ok (.iload_n 1, 1) := dk_27 (dk_at dksX0_alike_3 14 rfl rfl)
theorem dX0_alike_86 : decode cX0_alike 86 = .ok (.invokevirtual 150, 3) := dk_182 0 150 (dk_at dksX0_alike_3 15 rfl rfl)
theorem dX0_alike_89 : decode cX0_alike 89 = .ok (.aload_n 0, 1) := dk_42 (dk_at dksX0_alike_3 18 rfl rfl)
theorem dX0_alike_90 : decode cX0_alike 90 = .ok (.iload_n 3, 1) := dk_29 (dk_at dksX0_alike_3 19 rfl rfl)
theorem dX0_alike_91 : decode cX0_alike 91 = .ok (.invokevirtual 150, 3) := dk_182 0 150 (dk_at dksX0_alike_3 20 rfl rfl)
theorem dX0_alike_94 : decode cX0_alike 94 = .ok (.invokevirtual 330, 3) := dk_182 1 74 (dk_at dksX0_alike_4 0 rfl rfl)
theorem dX0_alike_97 : decode cX0_alike 97 = .ok (.if_icmp .ge 6, 3) := dk_162 0 6 (dk_at dksX0_alike_4 3 rfl rfl)
theorem dX0_alike_100 : decode cX0_alike 100 = .ok (.iload 4, 2) := dk_21 4 (dk_at dksX0_alike_4 6 rfl rfl)
theorem dX0_alike_102 : decode cX0_alike 102 = .ok (.istore_n 3, 1) := dk_62 (dk_at dksX0_alike_4 8 rfl rfl)
theorem dX0_alike_103 : decode cX0_alike 103 = .ok (.iinc 4 1, 3) := dk_132 4 1 (dk_at dksX0_alike_4 9 rfl rfl)
theorem dX0_alike_106 : decode cX0_alike 106 = .ok (.goto (-59), 3) := dk_167 255 197 (dk_at dksX0_alike_4 12 rfl rfl)
theorem dX0_alike_109 : decode cX0_alike 109 = .ok (.iload_n 3, 1) := dk_29 (dk_at dksX0_alike_4 15 rfl rfl)
theorem dX0_alike_110 : decode cX0_alike 110 = .ok (.ireturn, 1) := dk_172 (dk_at dksX0_alike_4 16 rfl rfl)
abbrev cX0_left : ByteArray := prog_1_method_57_code
def yX0_left : MethodName := ⟨RX0, "left", "(II)I"⟩
def dkwX0_left_2 : List UInt8 := [182, 1, 81, 153, 0, 7, 4, 167, 0, 4, 3, 96, 62, 132, 4, 1, 167, 255, 229, 29, 172]
abbrev dktX0_left_2 : List UInt8 := dkwX0_left_2 ++ []
def dkwX0_left_1 : List UInt8 := [27, 182, 0, 150, 182, 1, 78, 172, 3, 62, 3, 54, 4, 21, 4, 8, 162, 0, 27, 29, 42, 27, 21, 4]
abbrev dktX0_left_1 : List UInt8 := dkwX0_left_1 ++ dktX0_left_2
def dkwX0_left_0 : List UInt8 := [42, 27, 182, 0, 160, 153, 0, 12, 28, 3, 4, 184, 0, 67, 154, 0, 5, 2, 172, 28, 154, 0, 12, 42]
abbrev dktX0_left_0 : List UInt8 := dkwX0_left_0 ++ dktX0_left_1
theorem dksX0_left_0 : cX0_left.data.toList.drop 0 = dktX0_left_0 := by decide +kernel
theorem dksX0_left_1 : cX0_left.data.toList.drop 24 = dktX0_left_1 := dk_seg dksX0_left_0 24 rfl rfl
theorem dksX0_left_2 : cX0_left.data.toList.drop 48 = dktX0_left_2 := dk_seg dksX0_left_1 24 rfl rfl
theorem dX0_left_0 : decode cX0_left 0 = .ok (.aload_n 0, 1) := dk_42 (dk_at dksX0_left_0 0 rfl rfl)
theorem dX0_left_1 : decode cX0_left 1 = .ok (.iload_n 1, 1) := dk_27 (dk_at dksX0_left_0 1 rfl rfl)
theorem dX0_left_2 : decode cX0_left 2 = .ok (.invokevirtual 160, 3) := dk_182 0 160 (dk_at dksX0_left_0 2 rfl rfl)
theorem dX0_left_5 : decode cX0_left 5 = .ok (.ifCond .eq 12, 3) := dk_153 0 12 (dk_at dksX0_left_0 5 rfl rfl)
theorem dX0_left_8 : decode cX0_left 8 = .ok (.iload_n 2, 1) := dk_28 (dk_at dksX0_left_0 8 rfl rfl)
theorem dX0_left_9 : decode cX0_left 9 = .ok (.iconst 0, 1) := dk_3 (dk_at dksX0_left_0 9 rfl rfl)
theorem dX0_left_10 : decode cX0_left 10 = .ok (.iconst 1, 1) := dk_4 (dk_at dksX0_left_0 10 rfl rfl)
theorem dX0_left_11 : decode cX0_left 11 = .ok (.invokestatic 67, 3) := dk_184 0 67 (dk_at dksX0_left_0 11 rfl rfl)
theorem dX0_left_14 : decode cX0_left 14 = .ok (.ifCond .ne 5, 3) := dk_154 0 5 (dk_at dksX0_left_0 14 rfl rfl)
theorem dX0_left_17 : decode cX0_left 17 = .ok (.iconst (-1), 1) := dk_2 (dk_at dksX0_left_0 17 rfl rfl)
theorem dX0_left_18 : decode cX0_left 18 = .ok (.ireturn, 1) := dk_172 (dk_at dksX0_left_0 18 rfl rfl)
theorem dX0_left_19 : decode cX0_left 19 = .ok (.iload_n 2, 1) := dk_28 (dk_at dksX0_left_0 19 rfl rfl)
theorem dX0_left_20 : decode cX0_left 20 = .ok (.ifCond .ne 12, 3) := dk_154 0 12 (dk_at dksX0_left_0 20 rfl rfl)
theorem dX0_left_23 : decode cX0_left 23 = .ok (.aload_n 0, 1) := dk_42 (dk_at dksX0_left_0 23 rfl rfl)
theorem dX0_left_24 : decode cX0_left 24 = .ok (.iload_n 1, 1) := dk_27 (dk_at dksX0_left_1 0 rfl rfl)
theorem dX0_left_25 : decode cX0_left 25 = .ok (.invokevirtual 150, 3) := dk_182 0 150 (dk_at dksX0_left_1 1 rfl rfl)
theorem dX0_left_28 : decode cX0_left 28 = .ok (.invokevirtual 334, 3) := dk_182 1 78 (dk_at dksX0_left_1 4 rfl rfl)
theorem dX0_left_31 : decode cX0_left 31 = .ok (.ireturn, 1) := dk_172 (dk_at dksX0_left_1 7 rfl rfl)
theorem dX0_left_32 : decode cX0_left 32 = .ok (.iconst 0, 1) := dk_3 (dk_at dksX0_left_1 8 rfl rfl)
theorem dX0_left_33 : decode cX0_left 33 = .ok (.istore_n 3, 1) := dk_62 (dk_at dksX0_left_1 9 rfl rfl)
theorem dX0_left_34 : decode cX0_left 34 = .ok (.iconst 0, 1) := dk_3 (dk_at dksX0_left_1 10 rfl rfl)
theorem dX0_left_35 : decode cX0_left 35 = .ok (.istore 4, 2) := dk_54 4 (dk_at dksX0_left_1 11 rfl rfl)
theorem dX0_left_37 : decode cX0_left 37 = .ok (.iload 4, 2) := dk_21 4 (dk_at dksX0_left_1 13 rfl rfl)
theorem dX0_left_39 : decode cX0_left 39 = .ok (.iconst 5, 1) := dk_8 (dk_at dksX0_left_1 15 rfl rfl)
theorem dX0_left_40 : decode cX0_left 40 = .ok (.if_icmp .ge 27, 3) := dk_162 0 27 (dk_at dksX0_left_1 16 rfl rfl)
theorem dX0_left_43 : decode cX0_left 43 = .ok (.iload_n 3, 1) := dk_29 (dk_at dksX0_left_1 19 rfl rfl)
theorem dX0_left_44 : decode cX0_left 44 = .ok (.aload_n 0, 1) := dk_42 (dk_at dksX0_left_1 20 rfl rfl)
theorem dX0_left_45 : decode cX0_left 45 = .ok (.iload_n 1, 1) := dk_27 (dk_at dksX0_left_1 21 rfl rfl)
theorem dX0_left_46 : decode cX0_left 46 = .ok (.iload 4, 2) := dk_21 4 (dk_at dksX0_left_1 22 rfl rfl)
theorem dX0_left_48 : decode cX0_left 48 = .ok (.invokevirtual 337, 3) := dk_182 1 81 (dk_at dksX0_left_2 0 rfl rfl)
theorem dX0_left_51 : decode cX0_left 51 = .ok (.ifCond .eq 7, 3) := dk_153 0 7 (dk_at dksX0_left_2 3 rfl rfl)
theorem dX0_left_54 : decode cX0_left 54 = .ok (.iconst 1, 1) := dk_4 (dk_at dksX0_left_2 6 rfl rfl)
theorem dX0_left_55 : decode cX0_left 55 = .ok (.goto 4, 3) := dk_167 0 4 (dk_at dksX0_left_2 7 rfl rfl)
theorem dX0_left_58 : decode cX0_left 58 = .ok (.iconst 0, 1) := dk_3 (dk_at dksX0_left_2 10 rfl rfl)
theorem dX0_left_59 : decode cX0_left 59 = .ok (.iadd, 1) := dk_96 (dk_at dksX0_left_2 11 rfl rfl)
theorem dX0_left_60 : decode cX0_left 60 = .ok (.istore_n 3, 1) := dk_62 (dk_at dksX0_left_2 12 rfl rfl)
theorem dX0_left_61 : decode cX0_left 61 = .ok (.iinc 4 1, 3) := dk_132 4 1 (dk_at dksX0_left_2 13 rfl rfl)
theorem dX0_left_64 : decode cX0_left 64 = .ok (.goto (-27), 3) := dk_167 255 229 (dk_at dksX0_left_2 16 rfl rfl)
theorem dX0_left_67 : decode cX0_left 67 = .ok (.iload_n 3, 1) := dk_29 (dk_at dksX0_left_2 19 rfl rfl)
theorem dX0_left_68 : decode cX0_left 68 = .ok (.ireturn, 1) := dk_172 (dk_at dksX0_left_2 20 rfl rfl)
abbrev cX0_hasMost : ByteArray := prog_1_method_56_code
def yX0_hasMost : MethodName := ⟨RX0, "hasMost", "(II)Z"⟩
def dkwX0_hasMost_2 : List UInt8 := [167, 255, 212, 4, 172]
abbrev dktX0_hasMost_2 : List UInt8 := dkwX0_hasMost_2 ++ []
def dkwX0_hasMost_1 : List UInt8 := [180, 0, 188, 28, 46, 42, 27, 182, 0, 150, 180, 0, 188, 28, 46, 161, 0, 5, 3, 172, 132, 3, 1]
abbrev dktX0_hasMost_1 : List UInt8 := dkwX0_hasMost_1 ++ dktX0_hasMost_2
def dkwX0_hasMost_0 : List UInt8 := [3, 62, 29, 42, 180, 0, 20, 180, 0, 137, 162, 0, 39, 29, 27, 159, 0, 28, 42, 29, 182, 0, 150]
abbrev dktX0_hasMost_0 : List UInt8 := dkwX0_hasMost_0 ++ dktX0_hasMost_1
theorem dksX0_hasMost_0 : cX0_hasMost.data.toList.drop 0 = dktX0_hasMost_0 := by decide +kernel
theorem dksX0_hasMost_1 : cX0_hasMost.data.toList.drop 23 = dktX0_hasMost_1 := dk_seg dksX0_hasMost_0 23 rfl rfl
theorem dksX0_hasMost_2 : cX0_hasMost.data.toList.drop 46 = dktX0_hasMost_2 := dk_seg dksX0_hasMost_1 23 rfl rfl
theorem dX0_hasMost_0 : decode cX0_hasMost 0 = .ok (.iconst 0, 1) := dk_3 (dk_at dksX0_hasMost_0 0 rfl rfl)
theorem dX0_hasMost_1 : decode cX0_hasMost 1 = .ok (.istore_n 3, 1) := dk_62 (dk_at dksX0_hasMost_0 1 rfl rfl)
theorem dX0_hasMost_2 : decode cX0_hasMost 2 = .ok (.iload_n 3, 1) := dk_29 (dk_at dksX0_hasMost_0 2 rfl rfl)
theorem dX0_hasMost_3 : decode cX0_hasMost 3 = .ok (.aload_n 0, 1) := dk_42 (dk_at dksX0_hasMost_0 3 rfl rfl)
theorem dX0_hasMost_4 : decode cX0_hasMost 4 = .ok (.getfield 20, 3) := dk_180 0 20 (dk_at dksX0_hasMost_0 4 rfl rfl)
theorem dX0_hasMost_7 : decode cX0_hasMost 7 = .ok (.getfield 137, 3) := dk_180 0 137 (dk_at dksX0_hasMost_0 7 rfl rfl)
theorem dX0_hasMost_10 : decode cX0_hasMost 10 = .ok (.if_icmp .ge 39, 3) := dk_162 0 39 (dk_at dksX0_hasMost_0 10 rfl rfl)
theorem dX0_hasMost_13 : decode cX0_hasMost 13 = .ok (.iload_n 3, 1) := dk_29 (dk_at dksX0_hasMost_0 13 rfl rfl)
theorem dX0_hasMost_14 : decode cX0_hasMost 14 = .ok (.iload_n 1, 1) := dk_27 (dk_at dksX0_hasMost_0 14 rfl rfl)
theorem dX0_hasMost_15 : decode cX0_hasMost 15 = .ok (.if_icmp .eq 28, 3) := dk_159 0 28 (dk_at dksX0_hasMost_0 15 rfl rfl)
theorem dX0_hasMost_18 : decode cX0_hasMost 18 = .ok (.aload_n 0, 1) := dk_42 (dk_at dksX0_hasMost_0 18 rfl rfl)
theorem dX0_hasMost_19 : decode cX0_hasMost 19 = .ok (.iload_n 3, 1) := dk_29 (dk_at dksX0_hasMost_0 19 rfl rfl)
theorem dX0_hasMost_20 : decode cX0_hasMost 20 = .ok (.invokevirtual 150, 3) := dk_182 0 150 (dk_at dksX0_hasMost_0 20 rfl rfl)
theorem dX0_hasMost_23 : decode cX0_hasMost 23 = .ok (.getfield 188, 3) := dk_180 0 188 (dk_at dksX0_hasMost_1 0 rfl rfl)
theorem dX0_hasMost_26 : decode cX0_hasMost 26 = .ok (.iload_n 2, 1) := dk_28 (dk_at dksX0_hasMost_1 3 rfl rfl)
theorem dX0_hasMost_27 : decode cX0_hasMost 27 = .ok (.iaload, 1) := dk_46 (dk_at dksX0_hasMost_1 4 rfl rfl)
theorem dX0_hasMost_28 : decode cX0_hasMost 28 = .ok (.aload_n 0, 1) := dk_42 (dk_at dksX0_hasMost_1 5 rfl rfl)
theorem dX0_hasMost_29 : decode cX0_hasMost 29 = .ok (.iload_n 1, 1) := dk_27 (dk_at dksX0_hasMost_1 6 rfl rfl)
theorem dX0_hasMost_30 : decode cX0_hasMost 30 = .ok (.invokevirtual 150, 3) := dk_182 0 150 (dk_at dksX0_hasMost_1 7 rfl rfl)
theorem dX0_hasMost_33 : decode cX0_hasMost 33 = .ok (.getfield 188, 3) := dk_180 0 188 (dk_at dksX0_hasMost_1 10 rfl rfl)
theorem dX0_hasMost_36 : decode cX0_hasMost 36 = .ok (.iload_n 2, 1) := dk_28 (dk_at dksX0_hasMost_1 13 rfl rfl)
theorem dX0_hasMost_37 : decode cX0_hasMost 37 = .ok (.iaload, 1) := dk_46 (dk_at dksX0_hasMost_1 14 rfl rfl)
theorem dX0_hasMost_38 : decode cX0_hasMost 38 = .ok (.if_icmp .lt 5, 3) := dk_161 0 5 (dk_at dksX0_hasMost_1 15 rfl rfl)
theorem dX0_hasMost_41 : decode cX0_hasMost 41 = .ok (.iconst 0, 1) := dk_3 (dk_at dksX0_hasMost_1 18 rfl rfl)
theorem dX0_hasMost_42 : decode cX0_hasMost 42 = .ok (.ireturn, 1) := dk_172 (dk_at dksX0_hasMost_1 19 rfl rfl)
theorem dX0_hasMost_43 : decode cX0_hasMost 43 = .ok (.iinc 3 1, 3) := dk_132 3 1 (dk_at dksX0_hasMost_1 20 rfl rfl)
theorem dX0_hasMost_46 : decode cX0_hasMost 46 = .ok (.goto (-44), 3) := dk_167 255 212 (dk_at dksX0_hasMost_2 0 rfl rfl)
theorem dX0_hasMost_49 : decode cX0_hasMost 49 = .ok (.iconst 1, 1) := dk_4 (dk_at dksX0_hasMost_2 3 rfl rfl)
theorem dX0_hasMost_50 : decode cX0_hasMost 50 = .ok (.ireturn, 1) := dk_172 (dk_at dksX0_hasMost_2 4 rfl rfl)
abbrev cX0_herd : ByteArray := prog_1_method_58_code
def yX0_herd : MethodName := ⟨RX0, "herd", "(I)I"⟩
def dkwX0_herd_1 : List UInt8 := [184, 0, 67, 153, 0, 18, 42, 180, 0, 20, 180, 1, 85, 27, 3, 182, 1, 21, 167, 0, 4, 2, 172]
abbrev dktX0_herd_1 : List UInt8 := dkwX0_herd_1 ++ []
def dkwX0_herd_0 : List UInt8 := [27, 2, 160, 0, 16, 42, 180, 0, 20, 180, 1, 85, 182, 1, 16, 167, 0, 29, 27, 4, 16, 30]
abbrev dktX0_herd_0 : List UInt8 := dkwX0_herd_0 ++ dktX0_herd_1
theorem dksX0_herd_0 : cX0_herd.data.toList.drop 0 = dktX0_herd_0 := by decide +kernel
theorem dksX0_herd_1 : cX0_herd.data.toList.drop 22 = dktX0_herd_1 := dk_seg dksX0_herd_0 22 rfl rfl
theorem dX0_herd_0 : decode cX0_herd 0 = .ok (.iload_n 1, 1) := dk_27 (dk_at dksX0_herd_0 0 rfl rfl)
theorem dX0_herd_1 : decode cX0_herd 1 = .ok (.iconst (-1), 1) := dk_2 (dk_at dksX0_herd_0 1 rfl rfl)
theorem dX0_herd_2 : decode cX0_herd 2 = .ok (.if_icmp .ne 16, 3) := dk_160 0 16 (dk_at dksX0_herd_0 2 rfl rfl)
theorem dX0_herd_5 : decode cX0_herd 5 = .ok (.aload_n 0, 1) := dk_42 (dk_at dksX0_herd_0 5 rfl rfl)
theorem dX0_herd_6 : decode cX0_herd 6 = .ok (.getfield 20, 3) := dk_180 0 20 (dk_at dksX0_herd_0 6 rfl rfl)
theorem dX0_herd_9 : decode cX0_herd 9 = .ok (.getfield 341, 3) := dk_180 1 85 (dk_at dksX0_herd_0 9 rfl rfl)
theorem dX0_herd_12 : decode cX0_herd 12 = .ok (.invokevirtual 272, 3) := dk_182 1 16 (dk_at dksX0_herd_0 12 rfl rfl)
theorem dX0_herd_15 : decode cX0_herd 15 = .ok (.goto 29, 3) := dk_167 0 29 (dk_at dksX0_herd_0 15 rfl rfl)
theorem dX0_herd_18 : decode cX0_herd 18 = .ok (.iload_n 1, 1) := dk_27 (dk_at dksX0_herd_0 18 rfl rfl)
theorem dX0_herd_19 : decode cX0_herd 19 = .ok (.iconst 1, 1) := dk_4 (dk_at dksX0_herd_0 19 rfl rfl)
theorem dX0_herd_20 : decode cX0_herd 20 = .ok (.bipush 30, 2) := dk_16 30 (dk_at dksX0_herd_0 20 rfl rfl)
theorem dX0_herd_22 : decode cX0_herd 22 = .ok (.invokestatic 67, 3) := dk_184 0 67 (dk_at dksX0_herd_1 0 rfl rfl)
theorem dX0_herd_25 : decode cX0_herd 25 = .ok (.ifCond .eq 18, 3) := dk_153 0 18 (dk_at dksX0_herd_1 3 rfl rfl)
theorem dX0_herd_28 : decode cX0_herd 28 = .ok (.aload_n 0, 1) := dk_42 (dk_at dksX0_herd_1 6 rfl rfl)
theorem dX0_herd_29 : decode cX0_herd 29 = .ok (.getfield 20, 3) := dk_180 0 20 (dk_at dksX0_herd_1 7 rfl rfl)
theorem dX0_herd_32 : decode cX0_herd 32 = .ok (.getfield 341, 3) := dk_180 1 85 (dk_at dksX0_herd_1 10 rfl rfl)
theorem dX0_herd_35 : decode cX0_herd 35 = .ok (.iload_n 1, 1) := dk_27 (dk_at dksX0_herd_1 13 rfl rfl)
theorem dX0_herd_36 : decode cX0_herd 36 = .ok (.iconst 0, 1) := dk_3 (dk_at dksX0_herd_1 14 rfl rfl)
theorem dX0_herd_37 : decode cX0_herd 37 = .ok (.invokevirtual 277, 3) := dk_182 1 21 (dk_at dksX0_herd_1 15 rfl rfl)
theorem dX0_herd_40 : decode cX0_herd 40 = .ok (.goto 4, 3) := dk_167 0 4 (dk_at dksX0_herd_1 18 rfl rfl)
theorem dX0_herd_43 : decode cX0_herd 43 = .ok (.iconst (-1), 1) := dk_2 (dk_at dksX0_herd_1 21 rfl rfl)
theorem dX0_herd_44 : decode cX0_herd 44 = .ok (.ireturn, 1) := dk_172 (dk_at dksX0_herd_1 22 rfl rfl)
abbrev cX0_pens : ByteArray := prog_1_method_60_code
def yX0_pens : MethodName := ⟨RX0, "pens", "(II)I"⟩
def dkwX0_pens_2 : List UInt8 := [167, 0, 7, 42, 180, 1, 95, 172]
abbrev dktX0_pens_2 : List UInt8 := dkwX0_pens_2 ++ []
def dkwX0_pens_1 : List UInt8 := [181, 1, 92, 42, 19, 1, 91, 181, 1, 95, 42, 3, 27, 182, 1, 88, 28, 154, 0, 10, 42, 180, 1, 92]
abbrev dktX0_pens_1 : List UInt8 := dkwX0_pens_1 ++ dktX0_pens_2
def dkwX0_pens_0 : List UInt8 := [27, 4, 7, 184, 0, 67, 153, 0, 12, 28, 3, 4, 184, 0, 67, 154, 0, 5, 2, 172, 42, 19, 1, 91]
abbrev dktX0_pens_0 : List UInt8 := dkwX0_pens_0 ++ dktX0_pens_1
theorem dksX0_pens_0 : cX0_pens.data.toList.drop 0 = dktX0_pens_0 := by decide +kernel
theorem dksX0_pens_1 : cX0_pens.data.toList.drop 24 = dktX0_pens_1 := dk_seg dksX0_pens_0 24 rfl rfl
theorem dksX0_pens_2 : cX0_pens.data.toList.drop 48 = dktX0_pens_2 := dk_seg dksX0_pens_1 24 rfl rfl
theorem dX0_pens_0 : decode cX0_pens 0 = .ok (.iload_n 1, 1) := dk_27 (dk_at dksX0_pens_0 0 rfl rfl)
theorem dX0_pens_1 : decode cX0_pens 1 = .ok (.iconst 1, 1) := dk_4 (dk_at dksX0_pens_0 1 rfl rfl)
theorem dX0_pens_2 : decode cX0_pens 2 = .ok (.iconst 4, 1) := dk_7 (dk_at dksX0_pens_0 2 rfl rfl)
theorem dX0_pens_3 : decode cX0_pens 3 = .ok (.invokestatic 67, 3) := dk_184 0 67 (dk_at dksX0_pens_0 3 rfl rfl)
theorem dX0_pens_6 : decode cX0_pens 6 = .ok (.ifCond .eq 12, 3) := dk_153 0 12 (dk_at dksX0_pens_0 6 rfl rfl)
theorem dX0_pens_9 : decode cX0_pens 9 = .ok (.iload_n 2, 1) := dk_28 (dk_at dksX0_pens_0 9 rfl rfl)
theorem dX0_pens_10 : decode cX0_pens 10 = .ok (.iconst 0, 1) := dk_3 (dk_at dksX0_pens_0 10 rfl rfl)
theorem dX0_pens_11 : decode cX0_pens 11 = .ok (.iconst 1, 1) := dk_4 (dk_at dksX0_pens_0 11 rfl rfl)
theorem dX0_pens_12 : decode cX0_pens 12 = .ok (.invokestatic 67, 3) := dk_184 0 67 (dk_at dksX0_pens_0 12 rfl rfl)
theorem dX0_pens_15 : decode cX0_pens 15 = .ok (.ifCond .ne 5, 3) := dk_154 0 5 (dk_at dksX0_pens_0 15 rfl rfl)
theorem dX0_pens_18 : decode cX0_pens 18 = .ok (.iconst (-1), 1) := dk_2 (dk_at dksX0_pens_0 18 rfl rfl)
theorem dX0_pens_19 : decode cX0_pens 19 = .ok (.ireturn, 1) := dk_172 (dk_at dksX0_pens_0 19 rfl rfl)
theorem dX0_pens_20 : decode cX0_pens 20 = .ok (.aload_n 0, 1) := dk_42 (dk_at dksX0_pens_0 20 rfl rfl)
theorem dX0_pens_21 : decode cX0_pens 21 = .ok (.ldc_w 347, 3) := dk_19 1 91 (dk_at dksX0_pens_0 21 rfl rfl)
theorem dX0_pens_24 : decode cX0_pens 24 = .ok (.putfield 348, 3) := dk_181 1 92 (dk_at dksX0_pens_1 0 rfl rfl)
theorem dX0_pens_27 : decode cX0_pens 27 = .ok (.aload_n 0, 1) := dk_42 (dk_at dksX0_pens_1 3 rfl rfl)
theorem dX0_pens_28 : decode cX0_pens 28 = .ok (.ldc_w 347, 3) := dk_19 1 91 (dk_at dksX0_pens_1 4 rfl rfl)
theorem dX0_pens_31 : decode cX0_pens 31 = .ok (.putfield 351, 3) := dk_181 1 95 (dk_at dksX0_pens_1 7 rfl rfl)
theorem dX0_pens_34 : decode cX0_pens 34 = .ok (.aload_n 0, 1) := dk_42 (dk_at dksX0_pens_1 10 rfl rfl)
theorem dX0_pens_35 : decode cX0_pens 35 = .ok (.iconst 0, 1) := dk_3 (dk_at dksX0_pens_1 11 rfl rfl)
theorem dX0_pens_36 : decode cX0_pens 36 = .ok (.iload_n 1, 1) := dk_27 (dk_at dksX0_pens_1 12 rfl rfl)
theorem dX0_pens_37 : decode cX0_pens 37 = .ok (.invokevirtual 344, 3) := dk_182 1 88 (dk_at dksX0_pens_1 13 rfl rfl)
theorem dX0_pens_40 : decode cX0_pens 40 = .ok (.iload_n 2, 1) := dk_28 (dk_at dksX0_pens_1 16 rfl rfl)
theorem dX0_pens_41 : decode cX0_pens 41 = .ok (.ifCond .ne 10, 3) := dk_154 0 10 (dk_at dksX0_pens_1 17 rfl rfl)
theorem dX0_pens_44 : decode cX0_pens 44 = .ok (.aload_n 0, 1) := dk_42 (dk_at dksX0_pens_1 20 rfl rfl)
theorem dX0_pens_45 : decode cX0_pens 45 = .ok (.getfield 348, 3) := dk_180 1 92 (dk_at dksX0_pens_1 21 rfl rfl)
theorem dX0_pens_48 : decode cX0_pens 48 = .ok (.goto 7, 3) := dk_167 0 7 (dk_at dksX0_pens_2 0 rfl rfl)
theorem dX0_pens_51 : decode cX0_pens 51 = .ok (.aload_n 0, 1) := dk_42 (dk_at dksX0_pens_2 3 rfl rfl)
theorem dX0_pens_52 : decode cX0_pens 52 = .ok (.getfield 351, 3) := dk_180 1 95 (dk_at dksX0_pens_2 4 rfl rfl)
theorem dX0_pens_55 : decode cX0_pens 55 = .ok (.ireturn, 1) := dk_172 (dk_at dksX0_pens_2 7 rfl rfl)
abbrev cX0_shares : ByteArray := prog_1_method_59_code
def yX0_shares : MethodName := ⟨RX0, "shares", "(II)V"⟩
def dkwX0_shares_7 : List UInt8 := [181, 1, 95, 177]
abbrev dktX0_shares_7 : List UInt8 := dkwX0_shares_7 ++ []
def dkwX0_shares_6 : List UInt8 := [29, 21, 4, 100, 42, 180, 1, 95, 161, 0, 4, 177, 42, 29, 181, 1, 92, 42, 29, 21, 4, 100]
abbrev dktX0_shares_6 : List UInt8 := dkwX0_shares_6 ++ dktX0_shares_7
def dkwX0_shares_5 : List UInt8 := [54, 4, 132, 5, 1, 167, 255, 221, 29, 42, 180, 1, 92, 163, 0, 22, 29, 42, 180, 1, 92, 160, 0, 15]
abbrev dktX0_shares_5 : List UInt8 := dkwX0_shares_5 ++ dktX0_shares_6
def dkwX0_shares_4 : List UInt8 := [42, 180, 0, 45, 21, 5, 46, 184, 0, 57, 62, 21, 4, 42, 180, 0, 45, 21, 5, 46, 184, 0, 51]
abbrev dktX0_shares_4 : List UInt8 := dkwX0_shares_4 ++ dktX0_shares_5
def dkwX0_shares_3 : List UInt8 := [132, 3, 1, 167, 255, 200, 177, 3, 62, 19, 1, 91, 54, 4, 3, 54, 5, 21, 5, 28, 162, 0, 35, 29]
abbrev dktX0_shares_3 : List UInt8 := dkwX0_shares_3 ++ dktX0_shares_4
def dkwX0_shares_2 : List UInt8 := [182, 1, 88, 42, 180, 0, 45, 29, 92, 46, 42, 180, 0, 20, 180, 1, 85, 27, 182, 1, 36, 100, 79]
abbrev dktX0_shares_2 : List UInt8 := dkwX0_shares_2 ++ dktX0_shares_3
def dkwX0_shares_1 : List UInt8 := [180, 0, 45, 29, 92, 46, 42, 180, 0, 20, 180, 1, 85, 27, 182, 1, 36, 96, 79, 42, 27, 4, 96, 28]
abbrev dktX0_shares_1 : List UInt8 := dkwX0_shares_1 ++ dktX0_shares_2
def dkwX0_shares_0 : List UInt8 := [27, 42, 180, 0, 20, 180, 1, 85, 180, 1, 24, 162, 0, 65, 3, 62, 29, 28, 162, 0, 57, 42]
abbrev dktX0_shares_0 : List UInt8 := dkwX0_shares_0 ++ dktX0_shares_1
theorem dksX0_shares_0 : cX0_shares.data.toList.drop 0 = dktX0_shares_0 := by decide +kernel
theorem dksX0_shares_1 : cX0_shares.data.toList.drop 22 = dktX0_shares_1 := dk_seg dksX0_shares_0 22 rfl rfl
theorem dksX0_shares_2 : cX0_shares.data.toList.drop 46 = dktX0_shares_2 := dk_seg dksX0_shares_1 24 rfl rfl
theorem dksX0_shares_3 : cX0_shares.data.toList.drop 69 = dktX0_shares_3 := dk_seg dksX0_shares_2 23 rfl rfl
theorem dksX0_shares_4 : cX0_shares.data.toList.drop 93 = dktX0_shares_4 := dk_seg dksX0_shares_3 24 rfl rfl
theorem dksX0_shares_5 : cX0_shares.data.toList.drop 116 = dktX0_shares_5 := dk_seg dksX0_shares_4 23 rfl rfl
theorem dksX0_shares_6 : cX0_shares.data.toList.drop 140 = dktX0_shares_6 := dk_seg dksX0_shares_5 24 rfl rfl
theorem dksX0_shares_7 : cX0_shares.data.toList.drop 162 = dktX0_shares_7 := dk_seg dksX0_shares_6 22 rfl rfl
theorem dX0_shares_0 : decode cX0_shares 0 = .ok (.iload_n 1, 1) := dk_27 (dk_at dksX0_shares_0 0 rfl rfl)
theorem dX0_shares_1 : decode cX0_shares 1 = .ok (.aload_n 0, 1) := dk_42 (dk_at dksX0_shares_0 1 rfl rfl)
theorem dX0_shares_2 : decode cX0_shares 2 = .ok (.getfield 20, 3) := dk_180 0 20 (dk_at dksX0_shares_0 2 rfl rfl)
theorem dX0_shares_5 : decode cX0_shares 5 = .ok (.getfield 341, 3) := dk_180 1 85 (dk_at dksX0_shares_0 5 rfl rfl)
theorem dX0_shares_8 : decode cX0_shares 8 = .ok (.getfield 280, 3) := dk_180 1 24 (dk_at dksX0_shares_0 8 rfl rfl)
theorem dX0_shares_11 : decode cX0_shares 11 = .ok (.if_icmp .ge 65, 3) := dk_162 0 65 (dk_at dksX0_shares_0 11 rfl rfl)
theorem dX0_shares_14 : decode cX0_shares 14 = .ok (.iconst 0, 1) := dk_3 (dk_at dksX0_shares_0 14 rfl rfl)
theorem dX0_shares_15 : decode cX0_shares 15 = .ok (.istore_n 3, 1) := dk_62 (dk_at dksX0_shares_0 15 rfl rfl)
theorem dX0_shares_16 : decode cX0_shares 16 = .ok (.iload_n 3, 1) := dk_29 (dk_at dksX0_shares_0 16 rfl rfl)
theorem dX0_shares_17 : decode cX0_shares 17 = .ok (.iload_n 2, 1) := dk_28 (dk_at dksX0_shares_0 17 rfl rfl)
theorem dX0_shares_18 : decode cX0_shares 18 = .ok (.if_icmp .ge 57, 3) := dk_162 0 57 (dk_at dksX0_shares_0 18 rfl rfl)
theorem dX0_shares_21 : decode cX0_shares 21 = .ok (.aload_n 0, 1) := dk_42 (dk_at dksX0_shares_0 21 rfl rfl)
theorem dX0_shares_22 : decode cX0_shares 22 = .ok (.getfield 45, 3) := dk_180 0 45 (dk_at dksX0_shares_1 0 rfl rfl)
theorem dX0_shares_25 : decode cX0_shares 25 = .ok (.iload_n 3, 1) := dk_29 (dk_at dksX0_shares_1 3 rfl rfl)
theorem dX0_shares_26 : decode cX0_shares 26 = .ok (.dup2, 1) := dk_92 (dk_at dksX0_shares_1 4 rfl rfl)
theorem dX0_shares_27 : decode cX0_shares 27 = .ok (.iaload, 1) := dk_46 (dk_at dksX0_shares_1 5 rfl rfl)
theorem dX0_shares_28 : decode cX0_shares 28 = .ok (.aload_n 0, 1) := dk_42 (dk_at dksX0_shares_1 6 rfl rfl)
theorem dX0_shares_29 : decode cX0_shares 29 = .ok (.getfield 20, 3) := dk_180 0 20 (dk_at dksX0_shares_1 7 rfl rfl)
theorem dX0_shares_32 : decode cX0_shares 32 = .ok (.getfield 341, 3) := dk_180 1 85 (dk_at dksX0_shares_1 10 rfl rfl)
theorem dX0_shares_35 : decode cX0_shares 35 = .ok (.iload_n 1, 1) := dk_27 (dk_at dksX0_shares_1 13 rfl rfl)
theorem dX0_shares_36 : decode cX0_shares 36 = .ok (.invokevirtual 292, 3) := dk_182 1 36 (dk_at dksX0_shares_1 14 rfl rfl)
theorem dX0_shares_39 : decode cX0_shares 39 = .ok (.iadd, 1) := dk_96 (dk_at dksX0_shares_1 17 rfl rfl)
theorem dX0_shares_40 : decode cX0_shares 40 = .ok (.iastore, 1) := dk_79 (dk_at dksX0_shares_1 18 rfl rfl)
theorem dX0_shares_41 : decode cX0_shares 41 = .ok (.aload_n 0, 1) := dk_42 (dk_at dksX0_shares_1 19 rfl rfl)
theorem dX0_shares_42 : decode cX0_shares 42 = .ok (.iload_n 1, 1) := dk_27 (dk_at dksX0_shares_1 20 rfl rfl)
theorem dX0_shares_43 : decode cX0_shares 43 = .ok (.iconst 1, 1) := dk_4 (dk_at dksX0_shares_1 21 rfl rfl)
theorem dX0_shares_44 : decode cX0_shares 44 = .ok (.iadd, 1) := dk_96 (dk_at dksX0_shares_1 22 rfl rfl)
theorem dX0_shares_45 : decode cX0_shares 45 = .ok (.iload_n 2, 1) := dk_28 (dk_at dksX0_shares_1 23 rfl rfl)
theorem dX0_shares_46 : decode cX0_shares 46 = .ok (.invokevirtual 344, 3) := dk_182 1 88 (dk_at dksX0_shares_2 0 rfl rfl)
theorem dX0_shares_49 : decode cX0_shares 49 = .ok (.aload_n 0, 1) := dk_42 (dk_at dksX0_shares_2 3 rfl rfl)
theorem dX0_shares_50 : decode cX0_shares 50 = .ok (.getfield 45, 3) := dk_180 0 45 (dk_at dksX0_shares_2 4 rfl rfl)
theorem dX0_shares_53 : decode cX0_shares 53 = .ok (.iload_n 3, 1) := dk_29 (dk_at dksX0_shares_2 7 rfl rfl)
theorem dX0_shares_54 : decode cX0_shares 54 = .ok (.dup2, 1) := dk_92 (dk_at dksX0_shares_2 8 rfl rfl)
theorem dX0_shares_55 : decode cX0_shares 55 = .ok (.iaload, 1) := dk_46 (dk_at dksX0_shares_2 9 rfl rfl)
theorem dX0_shares_56 : decode cX0_shares 56 = .ok (.aload_n 0, 1) := dk_42 (dk_at dksX0_shares_2 10 rfl rfl)
theorem dX0_shares_57 : decode cX0_shares 57 = .ok (.getfield 20, 3) := dk_180 0 20 (dk_at dksX0_shares_2 11 rfl rfl)
theorem dX0_shares_60 : decode cX0_shares 60 = .ok (.getfield 341, 3) := dk_180 1 85 (dk_at dksX0_shares_2 14 rfl rfl)
theorem dX0_shares_63 : decode cX0_shares 63 = .ok (.iload_n 1, 1) := dk_27 (dk_at dksX0_shares_2 17 rfl rfl)
theorem dX0_shares_64 : decode cX0_shares 64 = .ok (.invokevirtual 292, 3) := dk_182 1 36 (dk_at dksX0_shares_2 18 rfl rfl)
theorem dX0_shares_67 : decode cX0_shares 67 = .ok (.isub, 1) := dk_100 (dk_at dksX0_shares_2 21 rfl rfl)
theorem dX0_shares_68 : decode cX0_shares 68 = .ok (.iastore, 1) := dk_79 (dk_at dksX0_shares_2 22 rfl rfl)
theorem dX0_shares_69 : decode cX0_shares 69 = .ok (.iinc 3 1, 3) := dk_132 3 1 (dk_at dksX0_shares_3 0 rfl rfl)
theorem dX0_shares_72 : decode cX0_shares 72 = .ok (.goto (-56), 3) := dk_167 255 200 (dk_at dksX0_shares_3 3 rfl rfl)
theorem dX0_shares_75 : decode cX0_shares 75 = .ok (.return_, 1) := dk_177 (dk_at dksX0_shares_3 6 rfl rfl)
theorem dX0_shares_76 : decode cX0_shares 76 = .ok (.iconst 0, 1) := dk_3 (dk_at dksX0_shares_3 7 rfl rfl)
theorem dX0_shares_77 : decode cX0_shares 77 = .ok (.istore_n 3, 1) := dk_62 (dk_at dksX0_shares_3 8 rfl rfl)
theorem dX0_shares_78 : decode cX0_shares 78 = .ok (.ldc_w 347, 3) := dk_19 1 91 (dk_at dksX0_shares_3 9 rfl rfl)
theorem dX0_shares_81 : decode cX0_shares 81 = .ok (.istore 4, 2) := dk_54 4 (dk_at dksX0_shares_3 12 rfl rfl)
theorem dX0_shares_83 : decode cX0_shares 83 = .ok (.iconst 0, 1) := dk_3 (dk_at dksX0_shares_3 14 rfl rfl)
theorem dX0_shares_84 : decode cX0_shares 84 = .ok (.istore 5, 2) := dk_54 5 (dk_at dksX0_shares_3 15 rfl rfl)
theorem dX0_shares_86 : decode cX0_shares 86 = .ok (.iload 5, 2) := dk_21 5 (dk_at dksX0_shares_3 17 rfl rfl)
theorem dX0_shares_88 : decode cX0_shares 88 = .ok (.iload_n 2, 1) := dk_28 (dk_at dksX0_shares_3 19 rfl rfl)
theorem dX0_shares_89 : decode cX0_shares 89 = .ok (.if_icmp .ge 35, 3) := dk_162 0 35 (dk_at dksX0_shares_3 20 rfl rfl)
theorem dX0_shares_92 : decode cX0_shares 92 = .ok (.iload_n 3, 1) := dk_29 (dk_at dksX0_shares_3 23 rfl rfl)
theorem dX0_shares_93 : decode cX0_shares 93 = .ok (.aload_n 0, 1) := dk_42 (dk_at dksX0_shares_4 0 rfl rfl)
theorem dX0_shares_94 : decode cX0_shares 94 = .ok (.getfield 45, 3) := dk_180 0 45 (dk_at dksX0_shares_4 1 rfl rfl)
theorem dX0_shares_97 : decode cX0_shares 97 = .ok (.iload 5, 2) := dk_21 5 (dk_at dksX0_shares_4 4 rfl rfl)
theorem dX0_shares_99 : decode cX0_shares 99 = .ok (.iaload, 1) := dk_46 (dk_at dksX0_shares_4 6 rfl rfl)
theorem dX0_shares_100 : decode cX0_shares 100 = .ok (.invokestatic 57, 3) := dk_184 0 57 (dk_at dksX0_shares_4 7 rfl rfl)
theorem dX0_shares_103 : decode cX0_shares 103 = .ok (.istore_n 3, 1) := dk_62 (dk_at dksX0_shares_4 10 rfl rfl)
theorem dX0_shares_104 : decode cX0_shares 104 = .ok (.iload 4, 2) := dk_21 4 (dk_at dksX0_shares_4 11 rfl rfl)
theorem dX0_shares_106 : decode cX0_shares 106 = .ok (.aload_n 0, 1) := dk_42 (dk_at dksX0_shares_4 13 rfl rfl)
theorem dX0_shares_107 : decode cX0_shares 107 = .ok (.getfield 45, 3) := dk_180 0 45 (dk_at dksX0_shares_4 14 rfl rfl)
theorem dX0_shares_110 : decode cX0_shares 110 = .ok (.iload 5, 2) := dk_21 5 (dk_at dksX0_shares_4 17 rfl rfl)
theorem dX0_shares_112 : decode cX0_shares 112 = .ok (.iaload, 1) := dk_46 (dk_at dksX0_shares_4 19 rfl rfl)
theorem dX0_shares_113 : decode cX0_shares 113 = .ok (.invokestatic 51, 3) := dk_184 0 51 (dk_at dksX0_shares_4 20 rfl rfl)
theorem dX0_shares_116 : decode cX0_shares 116 = .ok (.istore 4, 2) := dk_54 4 (dk_at dksX0_shares_5 0 rfl rfl)
theorem dX0_shares_118 : decode cX0_shares 118 = .ok (.iinc 5 1, 3) := dk_132 5 1 (dk_at dksX0_shares_5 2 rfl rfl)
theorem dX0_shares_121 : decode cX0_shares 121 = .ok (.goto (-35), 3) := dk_167 255 221 (dk_at dksX0_shares_5 5 rfl rfl)
theorem dX0_shares_124 : decode cX0_shares 124 = .ok (.iload_n 3, 1) := dk_29 (dk_at dksX0_shares_5 8 rfl rfl)
theorem dX0_shares_125 : decode cX0_shares 125 = .ok (.aload_n 0, 1) := dk_42 (dk_at dksX0_shares_5 9 rfl rfl)
theorem dX0_shares_126 : decode cX0_shares 126 = .ok (.getfield 348, 3) := dk_180 1 92 (dk_at dksX0_shares_5 10 rfl rfl)
theorem dX0_shares_129 : decode cX0_shares 129 = .ok (.if_icmp .gt 22, 3) := dk_163 0 22 (dk_at dksX0_shares_5 13 rfl rfl)
theorem dX0_shares_132 : decode cX0_shares 132 = .ok (.iload_n 3, 1) := dk_29 (dk_at dksX0_shares_5 16 rfl rfl)
theorem dX0_shares_133 : decode cX0_shares 133 = .ok (.aload_n 0, 1) := dk_42 (dk_at dksX0_shares_5 17 rfl rfl)
theorem dX0_shares_134 : decode cX0_shares 134 = .ok (.getfield 348, 3) := dk_180 1 92 (dk_at dksX0_shares_5 18 rfl rfl)
theorem dX0_shares_137 : decode cX0_shares 137 = .ok (.if_icmp .ne 15, 3) := dk_160 0 15 (dk_at dksX0_shares_5 21 rfl rfl)
theorem dX0_shares_140 : decode cX0_shares 140 = .ok (.iload_n 3, 1) := dk_29 (dk_at dksX0_shares_6 0 rfl rfl)
theorem dX0_shares_141 : decode cX0_shares 141 = .ok (.iload 4, 2) := dk_21 4 (dk_at dksX0_shares_6 1 rfl rfl)
theorem dX0_shares_143 : decode cX0_shares 143 = .ok (.isub, 1) := dk_100 (dk_at dksX0_shares_6 3 rfl rfl)
theorem dX0_shares_144 : decode cX0_shares 144 = .ok (.aload_n 0, 1) := dk_42 (dk_at dksX0_shares_6 4 rfl rfl)
theorem dX0_shares_145 : decode cX0_shares 145 = .ok (.getfield 351, 3) := dk_180 1 95 (dk_at dksX0_shares_6 5 rfl rfl)
theorem dX0_shares_148 : decode cX0_shares 148 = .ok (.if_icmp .lt 4, 3) := dk_161 0 4 (dk_at dksX0_shares_6 8 rfl rfl)
theorem dX0_shares_151 : decode cX0_shares 151 = .ok (.return_, 1) := dk_177 (dk_at dksX0_shares_6 11 rfl rfl)
theorem dX0_shares_152 : decode cX0_shares 152 = .ok (.aload_n 0, 1) := dk_42 (dk_at dksX0_shares_6 12 rfl rfl)
theorem dX0_shares_153 : decode cX0_shares 153 = .ok (.iload_n 3, 1) := dk_29 (dk_at dksX0_shares_6 13 rfl rfl)
theorem dX0_shares_154 : decode cX0_shares 154 = .ok (.putfield 348, 3) := dk_181 1 92 (dk_at dksX0_shares_6 14 rfl rfl)
theorem dX0_shares_157 : decode cX0_shares 157 = .ok (.aload_n 0, 1) := dk_42 (dk_at dksX0_shares_6 17 rfl rfl)
theorem dX0_shares_158 : decode cX0_shares 158 = .ok (.iload_n 3, 1) := dk_29 (dk_at dksX0_shares_6 18 rfl rfl)
theorem dX0_shares_159 : decode cX0_shares 159 = .ok (.iload 4, 2) := dk_21 4 (dk_at dksX0_shares_6 19 rfl rfl)
theorem dX0_shares_161 : decode cX0_shares 161 = .ok (.isub, 1) := dk_100 (dk_at dksX0_shares_6 21 rfl rfl)
theorem dX0_shares_162 : decode cX0_shares 162 = .ok (.putfield 351, 3) := dk_181 1 95 (dk_at dksX0_shares_7 0 rfl rfl)
theorem dX0_shares_165 : decode cX0_shares 165 = .ok (.return_, 1) := dk_177 (dk_at dksX0_shares_7 3 rfl rfl)
abbrev cX0_signs : ByteArray := prog_1_method_61_code
def yX0_signs : MethodName := ⟨RX0, "signs", "(I)I"⟩
def dkwX0_signs_2 : List UInt8 := [167, 255, 224, 28, 172]
abbrev dktX0_signs_2 : List UInt8 := dkwX0_signs_2 ++ []
def dkwX0_signs_1 : List UInt8 := [29, 29, 4, 120, 29, 4, 122, 128, 2, 130, 126, 154, 0, 7, 4, 167, 0, 4, 3, 96, 61, 132, 3, 1]
abbrev dktX0_signs_1 : List UInt8 := dkwX0_signs_1 ++ dktX0_signs_2
def dkwX0_signs_0 : List UInt8 := [27, 4, 16, 20, 184, 0, 67, 154, 0, 5, 2, 172, 3, 61, 3, 62, 29, 4, 27, 120, 162, 0, 31, 28]
abbrev dktX0_signs_0 : List UInt8 := dkwX0_signs_0 ++ dktX0_signs_1
theorem dksX0_signs_0 : cX0_signs.data.toList.drop 0 = dktX0_signs_0 := by decide +kernel
theorem dksX0_signs_1 : cX0_signs.data.toList.drop 24 = dktX0_signs_1 := dk_seg dksX0_signs_0 24 rfl rfl
theorem dksX0_signs_2 : cX0_signs.data.toList.drop 48 = dktX0_signs_2 := dk_seg dksX0_signs_1 24 rfl rfl
theorem dX0_signs_0 : decode cX0_signs 0 = .ok (.iload_n 1, 1) := dk_27 (dk_at dksX0_signs_0 0 rfl rfl)
theorem dX0_signs_1 : decode cX0_signs 1 = .ok (.iconst 1, 1) := dk_4 (dk_at dksX0_signs_0 1 rfl rfl)
theorem dX0_signs_2 : decode cX0_signs 2 = .ok (.bipush 20, 2) := dk_16 20 (dk_at dksX0_signs_0 2 rfl rfl)
theorem dX0_signs_4 : decode cX0_signs 4 = .ok (.invokestatic 67, 3) := dk_184 0 67 (dk_at dksX0_signs_0 4 rfl rfl)
theorem dX0_signs_7 : decode cX0_signs 7 = .ok (.ifCond .ne 5, 3) := dk_154 0 5 (dk_at dksX0_signs_0 7 rfl rfl)
theorem dX0_signs_10 : decode cX0_signs 10 = .ok (.iconst (-1), 1) := dk_2 (dk_at dksX0_signs_0 10 rfl rfl)
theorem dX0_signs_11 : decode cX0_signs 11 = .ok (.ireturn, 1) := dk_172 (dk_at dksX0_signs_0 11 rfl rfl)
theorem dX0_signs_12 : decode cX0_signs 12 = .ok (.iconst 0, 1) := dk_3 (dk_at dksX0_signs_0 12 rfl rfl)
theorem dX0_signs_13 : decode cX0_signs 13 = .ok (.istore_n 2, 1) := dk_61 (dk_at dksX0_signs_0 13 rfl rfl)
theorem dX0_signs_14 : decode cX0_signs 14 = .ok (.iconst 0, 1) := dk_3 (dk_at dksX0_signs_0 14 rfl rfl)
theorem dX0_signs_15 : decode cX0_signs 15 = .ok (.istore_n 3, 1) := dk_62 (dk_at dksX0_signs_0 15 rfl rfl)
theorem dX0_signs_16 : decode cX0_signs 16 = .ok (.iload_n 3, 1) := dk_29 (dk_at dksX0_signs_0 16 rfl rfl)
theorem dX0_signs_17 : decode cX0_signs 17 = .ok (.iconst 1, 1) := dk_4 (dk_at dksX0_signs_0 17 rfl rfl)
theorem dX0_signs_18 : decode cX0_signs 18 = .ok (.iload_n 1, 1) := dk_27 (dk_at dksX0_signs_0 18 rfl rfl)
theorem dX0_signs_19 : decode cX0_signs 19 = .ok (.ishl, 1) := dk_120 (dk_at dksX0_signs_0 19 rfl rfl)
theorem dX0_signs_20 : decode cX0_signs 20 = .ok (.if_icmp .ge 31, 3) := dk_162 0 31 (dk_at dksX0_signs_0 20 rfl rfl)
theorem dX0_signs_23 : decode cX0_signs 23 = .ok (.iload_n 2, 1) := dk_28 (dk_at dksX0_signs_0 23 rfl rfl)
theorem dX0_signs_24 : decode cX0_signs 24 = .ok (.iload_n 3, 1) := dk_29 (dk_at dksX0_signs_1 0 rfl rfl)
theorem dX0_signs_25 : decode cX0_signs 25 = .ok (.iload_n 3, 1) := dk_29 (dk_at dksX0_signs_1 1 rfl rfl)
theorem dX0_signs_26 : decode cX0_signs 26 = .ok (.iconst 1, 1) := dk_4 (dk_at dksX0_signs_1 2 rfl rfl)
theorem dX0_signs_27 : decode cX0_signs 27 = .ok (.ishl, 1) := dk_120 (dk_at dksX0_signs_1 3 rfl rfl)
theorem dX0_signs_28 : decode cX0_signs 28 = .ok (.iload_n 3, 1) := dk_29 (dk_at dksX0_signs_1 4 rfl rfl)
theorem dX0_signs_29 : decode cX0_signs 29 = .ok (.iconst 1, 1) := dk_4 (dk_at dksX0_signs_1 5 rfl rfl)
theorem dX0_signs_30 : decode cX0_signs 30 = .ok (.ishr, 1) := dk_122 (dk_at dksX0_signs_1 6 rfl rfl)
theorem dX0_signs_31 : decode cX0_signs 31 = .ok (.ior, 1) := dk_128 (dk_at dksX0_signs_1 7 rfl rfl)
theorem dX0_signs_32 : decode cX0_signs 32 = .ok (.iconst (-1), 1) := dk_2 (dk_at dksX0_signs_1 8 rfl rfl)
theorem dX0_signs_33 : decode cX0_signs 33 = .ok (.ixor, 1) := dk_130 (dk_at dksX0_signs_1 9 rfl rfl)
theorem dX0_signs_34 : decode cX0_signs 34 = .ok (.iand, 1) := dk_126 (dk_at dksX0_signs_1 10 rfl rfl)
theorem dX0_signs_35 : decode cX0_signs 35 = .ok (.ifCond .ne 7, 3) := dk_154 0 7 (dk_at dksX0_signs_1 11 rfl rfl)
theorem dX0_signs_38 : decode cX0_signs 38 = .ok (.iconst 1, 1) := dk_4 (dk_at dksX0_signs_1 14 rfl rfl)
theorem dX0_signs_39 : decode cX0_signs 39 = .ok (.goto 4, 3) := dk_167 0 4 (dk_at dksX0_signs_1 15 rfl rfl)
theorem dX0_signs_42 : decode cX0_signs 42 = .ok (.iconst 0, 1) := dk_3 (dk_at dksX0_signs_1 18 rfl rfl)
theorem dX0_signs_43 : decode cX0_signs 43 = .ok (.iadd, 1) := dk_96 (dk_at dksX0_signs_1 19 rfl rfl)
theorem dX0_signs_44 : decode cX0_signs 44 = .ok (.istore_n 2, 1) := dk_61 (dk_at dksX0_signs_1 20 rfl rfl)
theorem dX0_signs_45 : decode cX0_signs 45 = .ok (.iinc 3 1, 3) := dk_132 3 1 (dk_at dksX0_signs_1 21 rfl rfl)
theorem dX0_signs_48 : decode cX0_signs 48 = .ok (.goto (-32), 3) := dk_167 255 224 (dk_at dksX0_signs_2 0 rfl rfl)
theorem dX0_signs_51 : decode cX0_signs 51 = .ok (.iload_n 2, 1) := dk_28 (dk_at dksX0_signs_2 3 rfl rfl)
theorem dX0_signs_52 : decode cX0_signs 52 = .ok (.ireturn, 1) := dk_172 (dk_at dksX0_signs_2 4 rfl rfl)
abbrev cX0_row : ByteArray := prog_1_method_62_code
def yX0_row : MethodName := ⟨RX0, "row", "(I)I"⟩
def dkwX0_row_1 : List UInt8 := [184, 0, 67, 153, 0, 18, 42, 180, 0, 20, 180, 1, 98, 27, 3, 182, 1, 21, 167, 0, 4, 2, 172]
abbrev dktX0_row_1 : List UInt8 := dkwX0_row_1 ++ []
def dkwX0_row_0 : List UInt8 := [27, 2, 160, 0, 16, 42, 180, 0, 20, 180, 1, 98, 182, 1, 16, 167, 0, 29, 27, 4, 16, 20]
abbrev dktX0_row_0 : List UInt8 := dkwX0_row_0 ++ dktX0_row_1
theorem dksX0_row_0 : cX0_row.data.toList.drop 0 = dktX0_row_0 := by decide +kernel
theorem dksX0_row_1 : cX0_row.data.toList.drop 22 = dktX0_row_1 := dk_seg dksX0_row_0 22 rfl rfl
theorem dX0_row_0 : decode cX0_row 0 = .ok (.iload_n 1, 1) := dk_27 (dk_at dksX0_row_0 0 rfl rfl)
theorem dX0_row_1 : decode cX0_row 1 = .ok (.iconst (-1), 1) := dk_2 (dk_at dksX0_row_0 1 rfl rfl)
theorem dX0_row_2 : decode cX0_row 2 = .ok (.if_icmp .ne 16, 3) := dk_160 0 16 (dk_at dksX0_row_0 2 rfl rfl)
theorem dX0_row_5 : decode cX0_row 5 = .ok (.aload_n 0, 1) := dk_42 (dk_at dksX0_row_0 5 rfl rfl)
theorem dX0_row_6 : decode cX0_row 6 = .ok (.getfield 20, 3) := dk_180 0 20 (dk_at dksX0_row_0 6 rfl rfl)
theorem dX0_row_9 : decode cX0_row 9 = .ok (.getfield 354, 3) := dk_180 1 98 (dk_at dksX0_row_0 9 rfl rfl)
theorem dX0_row_12 : decode cX0_row 12 = .ok (.invokevirtual 272, 3) := dk_182 1 16 (dk_at dksX0_row_0 12 rfl rfl)
theorem dX0_row_15 : decode cX0_row 15 = .ok (.goto 29, 3) := dk_167 0 29 (dk_at dksX0_row_0 15 rfl rfl)
theorem dX0_row_18 : decode cX0_row 18 = .ok (.iload_n 1, 1) := dk_27 (dk_at dksX0_row_0 18 rfl rfl)
theorem dX0_row_19 : decode cX0_row 19 = .ok (.iconst 1, 1) := dk_4 (dk_at dksX0_row_0 19 rfl rfl)
theorem dX0_row_20 : decode cX0_row 20 = .ok (.bipush 20, 2) := dk_16 20 (dk_at dksX0_row_0 20 rfl rfl)
theorem dX0_row_22 : decode cX0_row 22 = .ok (.invokestatic 67, 3) := dk_184 0 67 (dk_at dksX0_row_1 0 rfl rfl)
theorem dX0_row_25 : decode cX0_row 25 = .ok (.ifCond .eq 18, 3) := dk_153 0 18 (dk_at dksX0_row_1 3 rfl rfl)
theorem dX0_row_28 : decode cX0_row 28 = .ok (.aload_n 0, 1) := dk_42 (dk_at dksX0_row_1 6 rfl rfl)
theorem dX0_row_29 : decode cX0_row 29 = .ok (.getfield 20, 3) := dk_180 0 20 (dk_at dksX0_row_1 7 rfl rfl)
theorem dX0_row_32 : decode cX0_row 32 = .ok (.getfield 354, 3) := dk_180 1 98 (dk_at dksX0_row_1 10 rfl rfl)
theorem dX0_row_35 : decode cX0_row 35 = .ok (.iload_n 1, 1) := dk_27 (dk_at dksX0_row_1 13 rfl rfl)
theorem dX0_row_36 : decode cX0_row 36 = .ok (.iconst 0, 1) := dk_3 (dk_at dksX0_row_1 14 rfl rfl)
theorem dX0_row_37 : decode cX0_row 37 = .ok (.invokevirtual 277, 3) := dk_182 1 21 (dk_at dksX0_row_1 15 rfl rfl)
theorem dX0_row_40 : decode cX0_row 40 = .ok (.goto 4, 3) := dk_167 0 4 (dk_at dksX0_row_1 18 rfl rfl)
theorem dX0_row_43 : decode cX0_row 43 = .ok (.iconst (-1), 1) := dk_2 (dk_at dksX0_row_1 21 rfl rfl)
theorem dX0_row_44 : decode cX0_row 44 = .ok (.ireturn, 1) := dk_172 (dk_at dksX0_row_1 22 rfl rfl)
abbrev cX0_game : ByteArray := prog_1_method_64_code
def yX0_game : MethodName := ⟨RX0, "game", "(I)I"⟩
def dkwX0_game_8 : List UInt8 := [167, 255, 131, 2, 172]
abbrev dktX0_game_8 : List UInt8 := dkwX0_game_8 ++ []
def dkwX0_game_7 : List UInt8 := [21, 5, 167, 0, 5, 21, 6, 172, 132, 6, 1, 167, 255, 183, 132, 5, 1, 167, 255, 167, 132, 3, 1]
abbrev dktX0_game_7 : List UInt8 := dkwX0_game_7 ++ dktX0_game_8
def dkwX0_game_6 : List UInt8 := [180, 0, 48, 21, 4, 46, 130, 160, 0, 24, 27, 154, 0, 7, 29, 167, 0, 15, 27, 4, 160, 0, 8]
abbrev dktX0_game_6 : List UInt8 := dkwX0_game_6 ++ dktX0_game_7
def dkwX0_game_5 : List UInt8 := [42, 180, 0, 48, 21, 5, 46, 42, 180, 0, 48, 21, 4, 21, 6, 100, 21, 5, 100, 46, 130, 28, 42]
abbrev dktX0_game_5 : List UInt8 := dkwX0_game_5 ++ dktX0_game_6
def dkwX0_game_4 : List UInt8 := [21, 4, 162, 0, 88, 4, 54, 6, 21, 6, 5, 163, 0, 73, 21, 5, 21, 6, 96, 21, 4, 163, 0, 63]
abbrev dktX0_game_4 : List UInt8 := dkwX0_game_4 ++ dktX0_game_5
def dkwX0_game_3 : List UInt8 := [180, 1, 24, 162, 0, 117, 42, 180, 0, 20, 180, 1, 98, 29, 182, 1, 36, 54, 4, 3, 54, 5, 21, 5]
abbrev dktX0_game_3 : List UInt8 := dkwX0_game_3 ++ dktX0_game_4
def dkwX0_game_2 : List UInt8 := [182, 1, 36, 46, 130, 61, 132, 3, 1, 167, 255, 220, 3, 62, 29, 42, 180, 0, 20, 180, 1, 98]
abbrev dktX0_game_2 : List UInt8 := dkwX0_game_2 ++ dktX0_game_3
def dkwX0_game_1 : List UInt8 := [180, 1, 98, 180, 1, 24, 162, 0, 28, 28, 42, 180, 0, 48, 42, 180, 0, 20, 180, 1, 98, 29]
abbrev dktX0_game_1 : List UInt8 := dkwX0_game_1 ++ dktX0_game_2
def dkwX0_game_0 : List UInt8 := [27, 3, 5, 184, 0, 67, 154, 0, 5, 2, 172, 42, 182, 1, 101, 3, 61, 3, 62, 29, 42, 180, 0, 20]
abbrev dktX0_game_0 : List UInt8 := dkwX0_game_0 ++ dktX0_game_1
theorem dksX0_game_0 : cX0_game.data.toList.drop 0 = dktX0_game_0 := by decide +kernel
theorem dksX0_game_1 : cX0_game.data.toList.drop 24 = dktX0_game_1 := dk_seg dksX0_game_0 24 rfl rfl
theorem dksX0_game_2 : cX0_game.data.toList.drop 46 = dktX0_game_2 := dk_seg dksX0_game_1 22 rfl rfl
theorem dksX0_game_3 : cX0_game.data.toList.drop 68 = dktX0_game_3 := dk_seg dksX0_game_2 22 rfl rfl
theorem dksX0_game_4 : cX0_game.data.toList.drop 92 = dktX0_game_4 := dk_seg dksX0_game_3 24 rfl rfl
theorem dksX0_game_5 : cX0_game.data.toList.drop 116 = dktX0_game_5 := dk_seg dksX0_game_4 24 rfl rfl
theorem dksX0_game_6 : cX0_game.data.toList.drop 139 = dktX0_game_6 := dk_seg dksX0_game_5 23 rfl rfl
theorem dksX0_game_7 : cX0_game.data.toList.drop 162 = dktX0_game_7 := dk_seg dksX0_game_6 23 rfl rfl
theorem dksX0_game_8 : cX0_game.data.toList.drop 185 = dktX0_game_8 := dk_seg dksX0_game_7 23 rfl rfl
theorem dX0_game_0 : decode cX0_game 0 = .ok (.iload_n 1, 1) := dk_27 (dk_at dksX0_game_0 0 rfl rfl)
theorem dX0_game_1 : decode cX0_game 1 = .ok (.iconst 0, 1) := dk_3 (dk_at dksX0_game_0 1 rfl rfl)
theorem dX0_game_2 : decode cX0_game 2 = .ok (.iconst 2, 1) := dk_5 (dk_at dksX0_game_0 2 rfl rfl)
theorem dX0_game_3 : decode cX0_game 3 = .ok (.invokestatic 67, 3) := dk_184 0 67 (dk_at dksX0_game_0 3 rfl rfl)
theorem dX0_game_6 : decode cX0_game 6 = .ok (.ifCond .ne 5, 3) := dk_154 0 5 (dk_at dksX0_game_0 6 rfl rfl)
theorem dX0_game_9 : decode cX0_game 9 = .ok (.iconst (-1), 1) := dk_2 (dk_at dksX0_game_0 9 rfl rfl)
theorem dX0_game_10 : decode cX0_game 10 = .ok (.ireturn, 1) := dk_172 (dk_at dksX0_game_0 10 rfl rfl)
theorem dX0_game_11 : decode cX0_game 11 = .ok (.aload_n 0, 1) := dk_42 (dk_at dksX0_game_0 11 rfl rfl)
theorem dX0_game_12 : decode cX0_game 12 = .ok (.invokevirtual 357, 3) := dk_182 1 101 (dk_at dksX0_game_0 12 rfl rfl)
theorem dX0_game_15 : decode cX0_game 15 = .ok (.iconst 0, 1) := dk_3 (dk_at dksX0_game_0 15 rfl rfl)
theorem dX0_game_16 : decode cX0_game 16 = .ok (.istore_n 2, 1) := dk_61 (dk_at dksX0_game_0 16 rfl rfl)
theorem dX0_game_17 : decode cX0_game 17 = .ok (.iconst 0, 1) := dk_3 (dk_at dksX0_game_0 17 rfl rfl)
theorem dX0_game_18 : decode cX0_game 18 = .ok (.istore_n 3, 1) := dk_62 (dk_at dksX0_game_0 18 rfl rfl)
theorem dX0_game_19 : decode cX0_game 19 = .ok (.iload_n 3, 1) := dk_29 (dk_at dksX0_game_0 19 rfl rfl)
theorem dX0_game_20 : decode cX0_game 20 = .ok (.aload_n 0, 1) := dk_42 (dk_at dksX0_game_0 20 rfl rfl)
theorem dX0_game_21 : decode cX0_game 21 = .ok (.getfield 20, 3) := dk_180 0 20 (dk_at dksX0_game_0 21 rfl rfl)
theorem dX0_game_24 : decode cX0_game 24 = .ok (.getfield 354, 3) := dk_180 1 98 (dk_at dksX0_game_1 0 rfl rfl)
theorem dX0_game_27 : decode cX0_game 27 = .ok (.getfield 280, 3) := dk_180 1 24 (dk_at dksX0_game_1 3 rfl rfl)
theorem dX0_game_30 : decode cX0_game 30 = .ok (.if_icmp .ge 28, 3) := dk_162 0 28 (dk_at dksX0_game_1 6 rfl rfl)
theorem dX0_game_33 : decode cX0_game 33 = .ok (.iload_n 2, 1) := dk_28 (dk_at dksX0_game_1 9 rfl rfl)
theorem dX0_game_34 : decode cX0_game 34 = .ok (.aload_n 0, 1) := dk_42 (dk_at dksX0_game_1 10 rfl rfl)
theorem dX0_game_35 : decode cX0_game 35 = .ok (.getfield 48, 3) := dk_180 0 48 (dk_at dksX0_game_1 11 rfl rfl)
theorem dX0_game_38 : decode cX0_game 38 = .ok (.aload_n 0, 1) := dk_42 (dk_at dksX0_game_1 14 rfl rfl)
theorem dX0_game_39 : decode cX0_game 39 = .ok (.getfield 20, 3) := dk_180 0 20 (dk_at dksX0_game_1 15 rfl rfl)
theorem dX0_game_42 : decode cX0_game 42 = .ok (.getfield 354, 3) := dk_180 1 98 (dk_at dksX0_game_1 18 rfl rfl)
theorem dX0_game_45 : decode cX0_game 45 = .ok (.iload_n 3, 1) := dk_29 (dk_at dksX0_game_1 21 rfl rfl)
theorem dX0_game_46 : decode cX0_game 46 = .ok (.invokevirtual 292, 3) := dk_182 1 36 (dk_at dksX0_game_2 0 rfl rfl)
theorem dX0_game_49 : decode cX0_game 49 = .ok (.iaload, 1) := dk_46 (dk_at dksX0_game_2 3 rfl rfl)
theorem dX0_game_50 : decode cX0_game 50 = .ok (.ixor, 1) := dk_130 (dk_at dksX0_game_2 4 rfl rfl)
theorem dX0_game_51 : decode cX0_game 51 = .ok (.istore_n 2, 1) := dk_61 (dk_at dksX0_game_2 5 rfl rfl)
theorem dX0_game_52 : decode cX0_game 52 = .ok (.iinc 3 1, 3) := dk_132 3 1 (dk_at dksX0_game_2 6 rfl rfl)
theorem dX0_game_55 : decode cX0_game 55 = .ok (.goto (-36), 3) := dk_167 255 220 (dk_at dksX0_game_2 9 rfl rfl)
theorem dX0_game_58 : decode cX0_game 58 = .ok (.iconst 0, 1) := dk_3 (dk_at dksX0_game_2 12 rfl rfl)
theorem dX0_game_59 : decode cX0_game 59 = .ok (.istore_n 3, 1) := dk_62 (dk_at dksX0_game_2 13 rfl rfl)
theorem dX0_game_60 : decode cX0_game 60 = .ok (.iload_n 3, 1) := dk_29 (dk_at dksX0_game_2 14 rfl rfl)
theorem dX0_game_61 : decode cX0_game 61 = .ok (.aload_n 0, 1) := dk_42 (dk_at dksX0_game_2 15 rfl rfl)
theorem dX0_game_62 : decode cX0_game 62 = .ok (.getfield 20, 3) := dk_180 0 20 (dk_at dksX0_game_2 16 rfl rfl)
theorem dX0_game_65 : decode cX0_game 65 = .ok (.getfield 354, 3) := dk_180 1 98 (dk_at dksX0_game_2 19 rfl rfl)
theorem dX0_game_68 : decode cX0_game 68 = .ok (.getfield 280, 3) := dk_180 1 24 (dk_at dksX0_game_3 0 rfl rfl)
theorem dX0_game_71 : decode cX0_game 71 = .ok (.if_icmp .ge 117, 3) := dk_162 0 117 (dk_at dksX0_game_3 3 rfl rfl)
theorem dX0_game_74 : decode cX0_game 74 = .ok (.aload_n 0, 1) := dk_42 (dk_at dksX0_game_3 6 rfl rfl)
theorem dX0_game_75 : decode cX0_game 75 = .ok (.getfield 20, 3) := dk_180 0 20 (dk_at dksX0_game_3 7 rfl rfl)
theorem dX0_game_78 : decode cX0_game 78 = .ok (.getfield 354, 3) := dk_180 1 98 (dk_at dksX0_game_3 10 rfl rfl)
theorem dX0_game_81 : decode cX0_game 81 = .ok (.iload_n 3, 1) := dk_29 (dk_at dksX0_game_3 13 rfl rfl)
theorem dX0_game_82 : decode cX0_game 82 = .ok (.invokevirtual 292, 3) := dk_182 1 36 (dk_at dksX0_game_3 14 rfl rfl)
theorem dX0_game_85 : decode cX0_game 85 = .ok (.istore 4, 2) := dk_54 4 (dk_at dksX0_game_3 17 rfl rfl)
theorem dX0_game_87 : decode cX0_game 87 = .ok (.iconst 0, 1) := dk_3 (dk_at dksX0_game_3 19 rfl rfl)
theorem dX0_game_88 : decode cX0_game 88 = .ok (.istore 5, 2) := dk_54 5 (dk_at dksX0_game_3 20 rfl rfl)
theorem dX0_game_90 : decode cX0_game 90 = .ok (.iload 5, 2) := dk_21 5 (dk_at dksX0_game_3 22 rfl rfl)
theorem dX0_game_92 : decode cX0_game 92 = .ok (.iload 4, 2) := dk_21 4 (dk_at dksX0_game_4 0 rfl rfl)
theorem dX0_game_94 : decode cX0_game 94 = .ok (.if_icmp .ge 88, 3) := dk_162 0 88 (dk_at dksX0_game_4 2 rfl rfl)
theorem dX0_game_97 : decode cX0_game 97 = .ok (.iconst 1, 1) := dk_4 (dk_at dksX0_game_4 5 rfl rfl)
theorem dX0_game_98 : decode cX0_game 98 = .ok (.istore 6, 2) := dk_54 6 (dk_at dksX0_game_4 6 rfl rfl)
theorem dX0_game_100 : decode cX0_game 100 = .ok (.iload 6, 2) := dk_21 6 (dk_at dksX0_game_4 8 rfl rfl)
theorem dX0_game_102 : decode cX0_game 102 = .ok (.iconst 2, 1) := dk_5 (dk_at dksX0_game_4 10 rfl rfl)
theorem dX0_game_103 : decode cX0_game 103 = .ok (.if_icmp .gt 73, 3) := dk_163 0 73 (dk_at dksX0_game_4 11 rfl rfl)
theorem dX0_game_106 : decode cX0_game 106 = .ok (.iload 5, 2) := dk_21 5 (dk_at dksX0_game_4 14 rfl rfl)
theorem dX0_game_108 : decode cX0_game 108 = .ok (.iload 6, 2) := dk_21 6 (dk_at dksX0_game_4 16 rfl rfl)
theorem dX0_game_110 : decode cX0_game 110 = .ok (.iadd, 1) := dk_96 (dk_at dksX0_game_4 18 rfl rfl)
theorem dX0_game_111 : decode cX0_game 111 = .ok (.iload 4, 2) := dk_21 4 (dk_at dksX0_game_4 19 rfl rfl)
theorem dX0_game_113 : decode cX0_game 113 = .ok (.if_icmp .gt 63, 3) := dk_163 0 63 (dk_at dksX0_game_4 21 rfl rfl)
theorem dX0_game_116 : decode cX0_game 116 = .ok (.aload_n 0, 1) := dk_42 (dk_at dksX0_game_5 0 rfl rfl)
theorem dX0_game_117 : decode cX0_game 117 = .ok (.getfield 48, 3) := dk_180 0 48 (dk_at dksX0_game_5 1 rfl rfl)
theorem dX0_game_120 : decode cX0_game 120 = .ok (.iload 5, 2) := dk_21 5 (dk_at dksX0_game_5 4 rfl rfl)
theorem dX0_game_122 : decode cX0_game 122 = .ok (.iaload, 1) := dk_46 (dk_at dksX0_game_5 6 rfl rfl)
theorem dX0_game_123 : decode cX0_game 123 = .ok (.aload_n 0, 1) := dk_42 (dk_at dksX0_game_5 7 rfl rfl)
theorem dX0_game_124 : decode cX0_game 124 = .ok (.getfield 48, 3) := dk_180 0 48 (dk_at dksX0_game_5 8 rfl rfl)
theorem dX0_game_127 : decode cX0_game 127 = .ok (.iload 4, 2) := dk_21 4 (dk_at dksX0_game_5 11 rfl rfl)
theorem dX0_game_129 : decode cX0_game 129 = .ok (.iload 6, 2) := dk_21 6 (dk_at dksX0_game_5 13 rfl rfl)
theorem dX0_game_131 : decode cX0_game 131 = .ok (.isub, 1) := dk_100 (dk_at dksX0_game_5 15 rfl rfl)
theorem dX0_game_132 : decode cX0_game 132 = .ok (.iload 5, 2) := dk_21 5 (dk_at dksX0_game_5 16 rfl rfl)
theorem dX0_game_134 : decode cX0_game 134 = .ok (.isub, 1) := dk_100 (dk_at dksX0_game_5 18 rfl rfl)
theorem dX0_game_135 : decode cX0_game 135 = .ok (.iaload, 1) := dk_46 (dk_at dksX0_game_5 19 rfl rfl)
theorem dX0_game_136 : decode cX0_game 136 = .ok (.ixor, 1) := dk_130 (dk_at dksX0_game_5 20 rfl rfl)
theorem dX0_game_137 : decode cX0_game 137 = .ok (.iload_n 2, 1) := dk_28 (dk_at dksX0_game_5 21 rfl rfl)
theorem dX0_game_138 : decode cX0_game 138 = .ok (.aload_n 0, 1) := dk_42 (dk_at dksX0_game_5 22 rfl rfl)
theorem dX0_game_139 : decode cX0_game 139 = .ok (.getfield 48, 3) := dk_180 0 48 (dk_at dksX0_game_6 0 rfl rfl)
theorem dX0_game_142 : decode cX0_game 142 = .ok (.iload 4, 2) := dk_21 4 (dk_at dksX0_game_6 3 rfl rfl)
theorem dX0_game_144 : decode cX0_game 144 = .ok (.iaload, 1) := dk_46 (dk_at dksX0_game_6 5 rfl rfl)
theorem dX0_game_145 : decode cX0_game 145 = .ok (.ixor, 1) := dk_130 (dk_at dksX0_game_6 6 rfl rfl)
theorem dX0_game_146 : decode cX0_game 146 = .ok (.if_icmp .ne 24, 3) := dk_160 0 24 (dk_at dksX0_game_6 7 rfl rfl)
theorem dX0_game_149 : decode cX0_game 149 = .ok (.iload_n 1, 1) := dk_27 (dk_at dksX0_game_6 10 rfl rfl)
theorem dX0_game_150 : decode cX0_game 150 = .ok (.ifCond .ne 7, 3) := dk_154 0 7 (dk_at dksX0_game_6 11 rfl rfl)
theorem dX0_game_153 : decode cX0_game 153 = .ok (.iload_n 3, 1) := dk_29 (dk_at dksX0_game_6 14 rfl rfl)
theorem dX0_game_154 : decode cX0_game 154 = .ok (.goto 15, 3) := dk_167 0 15 (dk_at dksX0_game_6 15 rfl rfl)
theorem dX0_game_157 : decode cX0_game 157 = .ok (.iload_n 1, 1) := dk_27 (dk_at dksX0_game_6 18 rfl rfl)
theorem dX0_game_158 : decode cX0_game 158 = .ok (.iconst 1, 1) := dk_4 (dk_at dksX0_game_6 19 rfl rfl)
theorem dX0_game_159 : decode cX0_game 159 = .ok (.if_icmp .ne 8, 3) := dk_160 0 8 (dk_at dksX0_game_6 20 rfl rfl)
theorem dX0_game_162 : decode cX0_game 162 = .ok (.iload 5, 2) := dk_21 5 (dk_at dksX0_game_7 0 rfl rfl)
theorem dX0_game_164 : decode cX0_game 164 = .ok (.goto 5, 3) := dk_167 0 5 (dk_at dksX0_game_7 2 rfl rfl)
theorem dX0_game_167 : decode cX0_game 167 = .ok (.iload 6, 2) := dk_21 6 (dk_at dksX0_game_7 5 rfl rfl)
theorem dX0_game_169 : decode cX0_game 169 = .ok (.ireturn, 1) := dk_172 (dk_at dksX0_game_7 7 rfl rfl)
theorem dX0_game_170 : decode cX0_game 170 = .ok (.iinc 6 1, 3) := dk_132 6 1 (dk_at dksX0_game_7 8 rfl rfl)
theorem dX0_game_173 : decode cX0_game 173 = .ok (.goto (-73), 3) := dk_167 255 183 (dk_at dksX0_game_7 11 rfl rfl)
theorem dX0_game_176 : decode cX0_game 176 = .ok (.iinc 5 1, 3) := dk_132 5 1 (dk_at dksX0_game_7 14 rfl rfl)
theorem dX0_game_179 : decode cX0_game 179 = .ok (.goto (-89), 3) := dk_167 255 167 (dk_at dksX0_game_7 17 rfl rfl)
theorem dX0_game_182 : decode cX0_game 182 = .ok (.iinc 3 1, 3) := dk_132 3 1 (dk_at dksX0_game_7 20 rfl rfl)
theorem dX0_game_185 : decode cX0_game 185 = .ok (.goto (-125), 3) := dk_167 255 131 (dk_at dksX0_game_8 0 rfl rfl)
theorem dX0_game_188 : decode cX0_game 188 = .ok (.iconst (-1), 1) := dk_2 (dk_at dksX0_game_8 3 rfl rfl)
theorem dX0_game_189 : decode cX0_game 189 = .ok (.ireturn, 1) := dk_172 (dk_at dksX0_game_8 4 rfl rfl)
abbrev cX0_laysNims : ByteArray := prog_1_method_63_code
def yX0_laysNims : MethodName := ⟨RX0, "laysNims", "()V"⟩
def dkwX0_laysNims_3 : List UInt8 := [180, 0, 48, 27, 28, 2, 130, 184, 1, 41, 79, 132, 1, 1, 167, 255, 174, 177]
abbrev dktX0_laysNims_3 : List UInt8 := dkwX0_laysNims_3 ++ []
def dkwX0_laysNims_2 : List UInt8 := [29, 100, 21, 4, 100, 46, 130, 120, 128, 61, 132, 4, 1, 167, 255, 221, 132, 3, 1, 167, 255, 202, 42]
abbrev dktX0_laysNims_2 : List UInt8 := dkwX0_laysNims_2 ++ dktX0_laysNims_3
def dkwX0_laysNims_1 : List UInt8 := [54, 4, 21, 4, 29, 96, 27, 163, 0, 33, 28, 4, 42, 180, 0, 48, 21, 4, 46, 42, 180, 0, 48, 27]
abbrev dktX0_laysNims_1 : List UInt8 := dkwX0_laysNims_1 ++ dktX0_laysNims_2
def dkwX0_laysNims_0 : List UInt8 := [4, 60, 27, 16, 20, 163, 0, 82, 3, 61, 4, 62, 29, 5, 163, 0, 55, 29, 27, 163, 0, 50, 3]
abbrev dktX0_laysNims_0 : List UInt8 := dkwX0_laysNims_0 ++ dktX0_laysNims_1
theorem dksX0_laysNims_0 : cX0_laysNims.data.toList.drop 0 = dktX0_laysNims_0 := by decide +kernel
theorem dksX0_laysNims_1 : cX0_laysNims.data.toList.drop 23 = dktX0_laysNims_1 := dk_seg dksX0_laysNims_0 23 rfl rfl
theorem dksX0_laysNims_2 : cX0_laysNims.data.toList.drop 47 = dktX0_laysNims_2 := dk_seg dksX0_laysNims_1 24 rfl rfl
theorem dksX0_laysNims_3 : cX0_laysNims.data.toList.drop 70 = dktX0_laysNims_3 := dk_seg dksX0_laysNims_2 23 rfl rfl
theorem dX0_laysNims_0 : decode cX0_laysNims 0 = .ok (.iconst 1, 1) := dk_4 (dk_at dksX0_laysNims_0 0 rfl rfl)
theorem dX0_laysNims_1 : decode cX0_laysNims 1 = .ok (.istore_n 1, 1) := dk_60 (dk_at dksX0_laysNims_0 1 rfl rfl)
theorem dX0_laysNims_2 : decode cX0_laysNims 2 = .ok (.iload_n 1, 1) := dk_27 (dk_at dksX0_laysNims_0 2 rfl rfl)
theorem dX0_laysNims_3 : decode cX0_laysNims 3 = .ok (.bipush 20, 2) := dk_16 20 (dk_at dksX0_laysNims_0 3 rfl rfl)
theorem dX0_laysNims_5 : decode cX0_laysNims 5 = .ok (.if_icmp .gt 82, 3) := dk_163 0 82 (dk_at dksX0_laysNims_0 5 rfl rfl)
theorem dX0_laysNims_8 : decode cX0_laysNims 8 = .ok (.iconst 0, 1) := dk_3 (dk_at dksX0_laysNims_0 8 rfl rfl)
theorem dX0_laysNims_9 : decode cX0_laysNims 9 = .ok (.istore_n 2, 1) := dk_61 (dk_at dksX0_laysNims_0 9 rfl rfl)
theorem dX0_laysNims_10 : decode cX0_laysNims 10 = .ok (.iconst 1, 1) := dk_4 (dk_at dksX0_laysNims_0 10 rfl rfl)
theorem dX0_laysNims_11 : decode cX0_laysNims 11 = .ok (.istore_n 3, 1) := dk_62 (dk_at dksX0_laysNims_0 11 rfl rfl)
theorem dX0_laysNims_12 : decode cX0_laysNims 12 = .ok (.iload_n 3, 1) := dk_29 (dk_at dksX0_laysNims_0 12 rfl rfl)
theorem dX0_laysNims_13 : decode cX0_laysNims 13 = .ok (.iconst 2, 1) := dk_5 (dk_at dksX0_laysNims_0 13 rfl rfl)
theorem dX0_laysNims_14 : decode cX0_laysNims 14 = .ok (.if_icmp .gt 55, 3) := dk_163 0 55 (dk_at dksX0_laysNims_0 14 rfl rfl)
theorem dX0_laysNims_17 : decode cX0_laysNims 17 = .ok (.iload_n 3, 1) := dk_29 (dk_at dksX0_laysNims_0 17 rfl rfl)
theorem dX0_laysNims_18 : decode cX0_laysNims 18 = .ok (.iload_n 1, 1) := dk_27 (dk_at dksX0_laysNims_0 18 rfl rfl)
theorem dX0_laysNims_19 : decode cX0_laysNims 19 = .ok (.if_icmp .gt 50, 3) := dk_163 0 50 (dk_at dksX0_laysNims_0 19 rfl rfl)
theorem dX0_laysNims_22 : decode cX0_laysNims 22 = .ok (.iconst 0, 1) := dk_3 (dk_at dksX0_laysNims_0 22 rfl rfl)
theorem dX0_laysNims_23 : decode cX0_laysNims 23 = .ok (.istore 4, 2) := dk_54 4 (dk_at dksX0_laysNims_1 0 rfl rfl)
theorem dX0_laysNims_25 : decode cX0_laysNims 25 = .ok (.iload 4, 2) := dk_21 4 (dk_at dksX0_laysNims_1 2 rfl rfl)
theorem dX0_laysNims_27 : decode cX0_laysNims 27 = .ok (.iload_n 3, 1) := dk_29 (dk_at dksX0_laysNims_1 4 rfl rfl)
theorem dX0_laysNims_28 : decode cX0_laysNims 28 = .ok (.iadd, 1) := dk_96 (dk_at dksX0_laysNims_1 5 rfl rfl)
theorem dX0_laysNims_29 : decode cX0_laysNims 29 = .ok (.iload_n 1, 1) := dk_27 (dk_at dksX0_laysNims_1 6 rfl rfl)
theorem dX0_laysNims_30 : decode cX0_laysNims 30 = .ok (.if_icmp .gt 33, 3) := dk_163 0 33 (dk_at dksX0_laysNims_1 7 rfl rfl)
theorem dX0_laysNims_33 : decode cX0_laysNims 33 = .ok (.iload_n 2, 1) := dk_28 (dk_at dksX0_laysNims_1 10 rfl rfl)
theorem dX0_laysNims_34 : decode cX0_laysNims 34 = .ok (.iconst 1, 1) := dk_4 (dk_at dksX0_laysNims_1 11 rfl rfl)
theorem dX0_laysNims_35 : decode cX0_laysNims 35 = .ok (.aload_n 0, 1) := dk_42 (dk_at dksX0_laysNims_1 12 rfl rfl)
theorem dX0_laysNims_36 : decode cX0_laysNims 36 = .ok (.getfield 48, 3) := dk_180 0 48 (dk_at dksX0_laysNims_1 13 rfl rfl)
theorem dX0_laysNims_39 : decode cX0_laysNims 39 = .ok (.iload 4, 2) := dk_21 4 (dk_at dksX0_laysNims_1 16 rfl rfl)
theorem dX0_laysNims_41 : decode cX0_laysNims 41 = .ok (.iaload, 1) := dk_46 (dk_at dksX0_laysNims_1 18 rfl rfl)
theorem dX0_laysNims_42 : decode cX0_laysNims 42 = .ok (.aload_n 0, 1) := dk_42 (dk_at dksX0_laysNims_1 19 rfl rfl)
theorem dX0_laysNims_43 : decode cX0_laysNims 43 = .ok (.getfield 48, 3) := dk_180 0 48 (dk_at dksX0_laysNims_1 20 rfl rfl)
theorem dX0_laysNims_46 : decode cX0_laysNims 46 = .ok (.iload_n 1, 1) := dk_27 (dk_at dksX0_laysNims_1 23 rfl rfl)
theorem dX0_laysNims_47 : decode cX0_laysNims 47 = .ok (.iload_n 3, 1) := dk_29 (dk_at dksX0_laysNims_2 0 rfl rfl)
theorem dX0_laysNims_48 : decode cX0_laysNims 48 = .ok (.isub, 1) := dk_100 (dk_at dksX0_laysNims_2 1 rfl rfl)
theorem dX0_laysNims_49 : decode cX0_laysNims 49 = .ok (.iload 4, 2) := dk_21 4 (dk_at dksX0_laysNims_2 2 rfl rfl)
theorem dX0_laysNims_51 : decode cX0_laysNims 51 = .ok (.isub, 1) := dk_100 (dk_at dksX0_laysNims_2 4 rfl rfl)
theorem dX0_laysNims_52 : decode cX0_laysNims 52 = .ok (.iaload, 1) := dk_46 (dk_at dksX0_laysNims_2 5 rfl rfl)
theorem dX0_laysNims_53 : decode cX0_laysNims 53 = .ok (.ixor, 1) := dk_130 (dk_at dksX0_laysNims_2 6 rfl rfl)
theorem dX0_laysNims_54 : decode cX0_laysNims 54 = .ok (.ishl, 1) := dk_120 (dk_at dksX0_laysNims_2 7 rfl rfl)
theorem dX0_laysNims_55 : decode cX0_laysNims 55 = .ok (.ior, 1) := dk_128 (dk_at dksX0_laysNims_2 8 rfl rfl)
theorem dX0_laysNims_56 : decode cX0_laysNims 56 = .ok (.istore_n 2, 1) := dk_61 (dk_at dksX0_laysNims_2 9 rfl rfl)
theorem dX0_laysNims_57 : decode cX0_laysNims 57 = .ok (.iinc 4 1, 3) := dk_132 4 1 (dk_at dksX0_laysNims_2 10 rfl rfl)
theorem dX0_laysNims_60 : decode cX0_laysNims 60 = .ok (.goto (-35), 3) := dk_167 255 221 (dk_at dksX0_laysNims_2 13 rfl rfl)
theorem dX0_laysNims_63 : decode cX0_laysNims 63 = .ok (.iinc 3 1, 3) := dk_132 3 1 (dk_at dksX0_laysNims_2 16 rfl rfl)
theorem dX0_laysNims_66 : decode cX0_laysNims 66 = .ok (.goto (-54), 3) := dk_167 255 202 (dk_at dksX0_laysNims_2 19 rfl rfl)
theorem dX0_laysNims_69 : decode cX0_laysNims 69 = .ok (.aload_n 0, 1) := dk_42 (dk_at dksX0_laysNims_2 22 rfl rfl)
theorem dX0_laysNims_70 : decode cX0_laysNims 70 = .ok (.getfield 48, 3) := dk_180 0 48 (dk_at dksX0_laysNims_3 0 rfl rfl)
theorem dX0_laysNims_73 : decode cX0_laysNims 73 = .ok (.iload_n 1, 1) := dk_27 (dk_at dksX0_laysNims_3 3 rfl rfl)
theorem dX0_laysNims_74 : decode cX0_laysNims 74 = .ok (.iload_n 2, 1) := dk_28 (dk_at dksX0_laysNims_3 4 rfl rfl)
theorem dX0_laysNims_75 : decode cX0_laysNims 75 = .ok (.iconst (-1), 1) := dk_2 (dk_at dksX0_laysNims_3 5 rfl rfl)
theorem dX0_laysNims_76 : decode cX0_laysNims 76 = .ok (.ixor, 1) := dk_130 (dk_at dksX0_laysNims_3 6 rfl rfl)
theorem dX0_laysNims_77 : decode cX0_laysNims 77 = .ok (.invokestatic 297, 3) := dk_184 1 41 (dk_at dksX0_laysNims_3 7 rfl rfl)
theorem dX0_laysNims_80 : decode cX0_laysNims 80 = .ok (.iastore, 1) := dk_79 (dk_at dksX0_laysNims_3 10 rfl rfl)
theorem dX0_laysNims_81 : decode cX0_laysNims 81 = .ok (.iinc 1 1, 3) := dk_132 1 1 (dk_at dksX0_laysNims_3 11 rfl rfl)
theorem dX0_laysNims_84 : decode cX0_laysNims 84 = .ok (.goto (-82), 3) := dk_167 255 174 (dk_at dksX0_laysNims_3 14 rfl rfl)
theorem dX0_laysNims_87 : decode cX0_laysNims 87 = .ok (.return_, 1) := dk_177 (dk_at dksX0_laysNims_3 17 rfl rfl)
abbrev cX0_image : ByteArray := prog_1_method_65_code
def yX0_image : MethodName := ⟨RX0, "image", "(Z)Z"⟩
def dkwX0_image_2 : List UInt8 := [42, 182, 0, 94, 87, 42, 4, 181, 1, 104, 4, 172]
abbrev dktX0_image_2 : List UInt8 := dkwX0_image_2 ++ []
def dkwX0_image_1 : List UInt8 := [180, 0, 20, 182, 1, 107, 167, 0, 14, 42, 180, 0, 20, 42, 180, 0, 24, 182, 1, 107, 27, 154, 0, 8]
abbrev dktX0_image_1 : List UInt8 := dkwX0_image_1 ++ dktX0_image_2
def dkwX0_image_0 : List UInt8 := [27, 154, 0, 12, 42, 180, 1, 104, 154, 0, 5, 3, 172, 27, 153, 0, 17, 42, 180, 0, 24, 42]
abbrev dktX0_image_0 : List UInt8 := dkwX0_image_0 ++ dktX0_image_1
theorem dksX0_image_0 : cX0_image.data.toList.drop 0 = dktX0_image_0 := by decide +kernel
theorem dksX0_image_1 : cX0_image.data.toList.drop 22 = dktX0_image_1 := dk_seg dksX0_image_0 22 rfl rfl
theorem dksX0_image_2 : cX0_image.data.toList.drop 46 = dktX0_image_2 := dk_seg dksX0_image_1 24 rfl rfl
theorem dX0_image_0 : decode cX0_image 0 = .ok (.iload_n 1, 1) := dk_27 (dk_at dksX0_image_0 0 rfl rfl)
theorem dX0_image_1 : decode cX0_image 1 = .ok (.ifCond .ne 12, 3) := dk_154 0 12 (dk_at dksX0_image_0 1 rfl rfl)
theorem dX0_image_4 : decode cX0_image 4 = .ok (.aload_n 0, 1) := dk_42 (dk_at dksX0_image_0 4 rfl rfl)
theorem dX0_image_5 : decode cX0_image 5 = .ok (.getfield 360, 3) := dk_180 1 104 (dk_at dksX0_image_0 5 rfl rfl)
theorem dX0_image_8 : decode cX0_image 8 = .ok (.ifCond .ne 5, 3) := dk_154 0 5 (dk_at dksX0_image_0 8 rfl rfl)
theorem dX0_image_11 : decode cX0_image 11 = .ok (.iconst 0, 1) := dk_3 (dk_at dksX0_image_0 11 rfl rfl)
theorem dX0_image_12 : decode cX0_image 12 = .ok (.ireturn, 1) := dk_172 (dk_at dksX0_image_0 12 rfl rfl)
theorem dX0_image_13 : decode cX0_image 13 = .ok (.iload_n 1, 1) := dk_27 (dk_at dksX0_image_0 13 rfl rfl)
theorem dX0_image_14 : decode cX0_image 14 = .ok (.ifCond .eq 17, 3) := dk_153 0 17 (dk_at dksX0_image_0 14 rfl rfl)
theorem dX0_image_17 : decode cX0_image 17 = .ok (.aload_n 0, 1) := dk_42 (dk_at dksX0_image_0 17 rfl rfl)
theorem dX0_image_18 : decode cX0_image 18 = .ok (.getfield 24, 3) := dk_180 0 24 (dk_at dksX0_image_0 18 rfl rfl)
theorem dX0_image_21 : decode cX0_image 21 = .ok (.aload_n 0, 1) := dk_42 (dk_at dksX0_image_0 21 rfl rfl)
theorem dX0_image_22 : decode cX0_image 22 = .ok (.getfield 20, 3) := dk_180 0 20 (dk_at dksX0_image_1 0 rfl rfl)
theorem dX0_image_25 : decode cX0_image 25 = .ok (.invokevirtual 363, 3) := dk_182 1 107 (dk_at dksX0_image_1 3 rfl rfl)
theorem dX0_image_28 : decode cX0_image 28 = .ok (.goto 14, 3) := dk_167 0 14 (dk_at dksX0_image_1 6 rfl rfl)
theorem dX0_image_31 : decode cX0_image 31 = .ok (.aload_n 0, 1) := dk_42 (dk_at dksX0_image_1 9 rfl rfl)
theorem dX0_image_32 : decode cX0_image 32 = .ok (.getfield 20, 3) := dk_180 0 20 (dk_at dksX0_image_1 10 rfl rfl)
theorem dX0_image_35 : decode cX0_image 35 = .ok (.aload_n 0, 1) := dk_42 (dk_at dksX0_image_1 13 rfl rfl)
theorem dX0_image_36 : decode cX0_image 36 = .ok (.getfield 24, 3) := dk_180 0 24 (dk_at dksX0_image_1 14 rfl rfl)
theorem dX0_image_39 : decode cX0_image 39 = .ok (.invokevirtual 363, 3) := dk_182 1 107 (dk_at dksX0_image_1 17 rfl rfl)
theorem dX0_image_42 : decode cX0_image 42 = .ok (.iload_n 1, 1) := dk_27 (dk_at dksX0_image_1 20 rfl rfl)
theorem dX0_image_43 : decode cX0_image 43 = .ok (.ifCond .ne 8, 3) := dk_154 0 8 (dk_at dksX0_image_1 21 rfl rfl)
theorem dX0_image_46 : decode cX0_image 46 = .ok (.aload_n 0, 1) := dk_42 (dk_at dksX0_image_2 0 rfl rfl)
theorem dX0_image_47 : decode cX0_image 47 = .ok (.invokevirtual 94, 3) := dk_182 0 94 (dk_at dksX0_image_2 1 rfl rfl)
theorem dX0_image_50 : decode cX0_image 50 = .ok (.pop, 1) := dk_87 (dk_at dksX0_image_2 4 rfl rfl)
theorem dX0_image_51 : decode cX0_image 51 = .ok (.aload_n 0, 1) := dk_42 (dk_at dksX0_image_2 5 rfl rfl)
theorem dX0_image_52 : decode cX0_image 52 = .ok (.iconst 1, 1) := dk_4 (dk_at dksX0_image_2 6 rfl rfl)
theorem dX0_image_53 : decode cX0_image 53 = .ok (.putfield 360, 3) := dk_181 1 104 (dk_at dksX0_image_2 7 rfl rfl)
theorem dX0_image_56 : decode cX0_image 56 = .ok (.iconst 1, 1) := dk_4 (dk_at dksX0_image_2 10 rfl rfl)
theorem dX0_image_57 : decode cX0_image 57 = .ok (.ireturn, 1) := dk_172 (dk_at dksX0_image_2 11 rfl rfl)
abbrev cX0_look : ByteArray := prog_1_method_66_code
def yX0_look : MethodName := ⟨RX0, "look", "(I)I"⟩
def dkwX0_look_6 : List UInt8 := [180, 0, 112, 172, 42, 180, 0, 130, 172, 2, 172]
abbrev dktX0_look_6 : List UInt8 := dkwX0_look_6 ++ []
def dkwX0_look_5 : List UInt8 := [180, 0, 92, 182, 0, 83, 172, 42, 180, 0, 20, 180, 0, 101, 182, 0, 83, 172, 42, 180, 0, 20]
abbrev dktX0_look_5 : List UInt8 := dkwX0_look_5 ++ dktX0_look_6
def dkwX0_look_4 : List UInt8 := [42, 180, 0, 20, 180, 0, 147, 172, 42, 180, 0, 20, 180, 0, 80, 182, 0, 83, 172, 42, 180, 0, 20]
abbrev dktX0_look_4 : List UInt8 := dkwX0_look_4 ++ dktX0_look_5
def dkwX0_look_3 : List UInt8 := [42, 180, 0, 20, 180, 1, 9, 172, 42, 180, 0, 20, 180, 0, 216, 172, 42, 180, 0, 20, 180, 0, 252, 172]
abbrev dktX0_look_3 : List UInt8 := dkwX0_look_3 ++ dktX0_look_4
def dkwX0_look_2 : List UInt8 := [42, 180, 0, 20, 180, 0, 137, 172, 42, 180, 0, 20, 180, 0, 140, 172, 42, 180, 0, 20, 180, 1, 6, 172]
abbrev dktX0_look_2 : List UInt8 := dkwX0_look_2 ++ dktX0_look_3
def dkwX0_look_1 : List UInt8 := [170, 0, 0, 0, 0, 0, 165, 0, 0, 0, 0, 0, 0, 0, 11, 0, 0, 0, 63, 0, 0, 0, 71, 0, 0, 0, 79, 0, 0, 0, 87, 0, 0, 0, 95, 0, 0, 0, 103, 0, 0, 0, 111, 0, 0, 0, 119, 0, 0, 0, 130, 0, 0, 0, 141, 0, 0, 0, 152, 0, 0, 0, 160]
abbrev dktX0_look_1 : List UInt8 := dkwX0_look_1 ++ dktX0_look_2
def dkwX0_look_0 : List UInt8 := [27]
abbrev dktX0_look_0 : List UInt8 := dkwX0_look_0 ++ dktX0_look_1
theorem dksX0_look_0 : cX0_look.data.toList.drop 0 = dktX0_look_0 := by decide +kernel
theorem dksX0_look_1 : cX0_look.data.toList.drop 1 = dktX0_look_1 := dk_seg dksX0_look_0 1 rfl rfl
theorem dksX0_look_2 : cX0_look.data.toList.drop 64 = dktX0_look_2 := dk_seg dksX0_look_1 63 rfl rfl
theorem dksX0_look_3 : cX0_look.data.toList.drop 88 = dktX0_look_3 := dk_seg dksX0_look_2 24 rfl rfl
theorem dksX0_look_4 : cX0_look.data.toList.drop 112 = dktX0_look_4 := dk_seg dksX0_look_3 24 rfl rfl
theorem dksX0_look_5 : cX0_look.data.toList.drop 135 = dktX0_look_5 := dk_seg dksX0_look_4 23 rfl rfl
theorem dksX0_look_6 : cX0_look.data.toList.drop 157 = dktX0_look_6 := dk_seg dksX0_look_5 22 rfl rfl
theorem dX0_look_0 : decode cX0_look 0 = .ok (.iload_n 1, 1) := dk_27 (dk_at dksX0_look_0 0 rfl rfl)
theorem dX0_look_1 : decode cX0_look 1 = .ok (.tableswitch 165 0 11 #[63, 71, 79, 87, 95, 103, 111, 119, 130, 141, 152, 160], 63) := by decide +kernel
theorem dX0_look_64 : decode cX0_look 64 = .ok (.aload_n 0, 1) := dk_42 (dk_at dksX0_look_2 0 rfl rfl)
theorem dX0_look_65 : decode cX0_look 65 = .ok (.getfield 20, 3) := dk_180 0 20 (dk_at dksX0_look_2 1 rfl rfl)
theorem dX0_look_68 : decode cX0_look 68 = .ok (.getfield 137, 3) := dk_180 0 137 (dk_at dksX0_look_2 4 rfl rfl)
theorem dX0_look_71 : decode cX0_look 71 = .ok (.ireturn, 1) := dk_172 (dk_at dksX0_look_2 7 rfl rfl)
theorem dX0_look_72 : decode cX0_look 72 = .ok (.aload_n 0, 1) := dk_42 (dk_at dksX0_look_2 8 rfl rfl)
theorem dX0_look_73 : decode cX0_look 73 = .ok (.getfield 20, 3) := dk_180 0 20 (dk_at dksX0_look_2 9 rfl rfl)
theorem dX0_look_76 : decode cX0_look 76 = .ok (.getfield 140, 3) := dk_180 0 140 (dk_at dksX0_look_2 12 rfl rfl)
theorem dX0_look_79 : decode cX0_look 79 = .ok (.ireturn, 1) := dk_172 (dk_at dksX0_look_2 15 rfl rfl)
theorem dX0_look_80 : decode cX0_look 80 = .ok (.aload_n 0, 1) := dk_42 (dk_at dksX0_look_2 16 rfl rfl)
theorem dX0_look_81 : decode cX0_look 81 = .ok (.getfield 20, 3) := dk_180 0 20 (dk_at dksX0_look_2 17 rfl rfl)
theorem dX0_look_84 : decode cX0_look 84 = .ok (.getfield 262, 3) := dk_180 1 6 (dk_at dksX0_look_2 20 rfl rfl)
theorem dX0_look_87 : decode cX0_look 87 = .ok (.ireturn, 1) := dk_172 (dk_at dksX0_look_2 23 rfl rfl)
theorem dX0_look_88 : decode cX0_look 88 = .ok (.aload_n 0, 1) := dk_42 (dk_at dksX0_look_3 0 rfl rfl)
theorem dX0_look_89 : decode cX0_look 89 = .ok (.getfield 20, 3) := dk_180 0 20 (dk_at dksX0_look_3 1 rfl rfl)
theorem dX0_look_92 : decode cX0_look 92 = .ok (.getfield 265, 3) := dk_180 1 9 (dk_at dksX0_look_3 4 rfl rfl)
theorem dX0_look_95 : decode cX0_look 95 = .ok (.ireturn, 1) := dk_172 (dk_at dksX0_look_3 7 rfl rfl)
theorem dX0_look_96 : decode cX0_look 96 = .ok (.aload_n 0, 1) := dk_42 (dk_at dksX0_look_3 8 rfl rfl)
theorem dX0_look_97 : decode cX0_look 97 = .ok (.getfield 20, 3) := dk_180 0 20 (dk_at dksX0_look_3 9 rfl rfl)
theorem dX0_look_100 : decode cX0_look 100 = .ok (.getfield 216, 3) := dk_180 0 216 (dk_at dksX0_look_3 12 rfl rfl)
theorem dX0_look_103 : decode cX0_look 103 = .ok (.ireturn, 1) := dk_172 (dk_at dksX0_look_3 15 rfl rfl)
theorem dX0_look_104 : decode cX0_look 104 = .ok (.aload_n 0, 1) := dk_42 (dk_at dksX0_look_3 16 rfl rfl)
theorem dX0_look_105 : decode cX0_look 105 = .ok (.getfield 20, 3) := dk_180 0 20 (dk_at dksX0_look_3 17 rfl rfl)
theorem dX0_look_108 : decode cX0_look 108 = .ok (.getfield 252, 3) := dk_180 0 252 (dk_at dksX0_look_3 20 rfl rfl)
theorem dX0_look_111 : decode cX0_look 111 = .ok (.ireturn, 1) := dk_172 (dk_at dksX0_look_3 23 rfl rfl)
theorem dX0_look_112 : decode cX0_look 112 = .ok (.aload_n 0, 1) := dk_42 (dk_at dksX0_look_4 0 rfl rfl)
theorem dX0_look_113 : decode cX0_look 113 = .ok (.getfield 20, 3) := dk_180 0 20 (dk_at dksX0_look_4 1 rfl rfl)
theorem dX0_look_116 : decode cX0_look 116 = .ok (.getfield 147, 3) := dk_180 0 147 (dk_at dksX0_look_4 4 rfl rfl)
theorem dX0_look_119 : decode cX0_look 119 = .ok (.ireturn, 1) := dk_172 (dk_at dksX0_look_4 7 rfl rfl)
theorem dX0_look_120 : decode cX0_look 120 = .ok (.aload_n 0, 1) := dk_42 (dk_at dksX0_look_4 8 rfl rfl)
theorem dX0_look_121 : decode cX0_look 121 = .ok (.getfield 20, 3) := dk_180 0 20 (dk_at dksX0_look_4 9 rfl rfl)
theorem dX0_look_124 : decode cX0_look 124 = .ok (.getfield 80, 3) := dk_180 0 80 (dk_at dksX0_look_4 12 rfl rfl)
theorem dX0_look_127 : decode cX0_look 127 = .ok (.invokevirtual 83, 3) := dk_182 0 83 (dk_at dksX0_look_4 15 rfl rfl)
theorem dX0_look_130 : decode cX0_look 130 = .ok (.ireturn, 1) := dk_172 (dk_at dksX0_look_4 18 rfl rfl)
theorem dX0_look_131 : decode cX0_look 131 = .ok (.aload_n 0, 1) := dk_42 (dk_at dksX0_look_4 19 rfl rfl)
theorem dX0_look_132 : decode cX0_look 132 = .ok (.getfield 20, 3) := dk_180 0 20 (dk_at dksX0_look_4 20 rfl rfl)
theorem dX0_look_135 : decode cX0_look 135 = .ok (.getfield 92, 3) := dk_180 0 92 (dk_at dksX0_look_5 0 rfl rfl)
theorem dX0_look_138 : decode cX0_look 138 = .ok (.invokevirtual 83, 3) := dk_182 0 83 (dk_at dksX0_look_5 3 rfl rfl)
theorem dX0_look_141 : decode cX0_look 141 = .ok (.ireturn, 1) := dk_172 (dk_at dksX0_look_5 6 rfl rfl)
theorem dX0_look_142 : decode cX0_look 142 = .ok (.aload_n 0, 1) := dk_42 (dk_at dksX0_look_5 7 rfl rfl)
theorem dX0_look_143 : decode cX0_look 143 = .ok (.getfield 20, 3) := dk_180 0 20 (dk_at dksX0_look_5 8 rfl rfl)
theorem dX0_look_146 : decode cX0_look 146 = .ok (.getfield 101, 3) := dk_180 0 101 (dk_at dksX0_look_5 11 rfl rfl)
theorem dX0_look_149 : decode cX0_look 149 = .ok (.invokevirtual 83, 3) := dk_182 0 83 (dk_at dksX0_look_5 14 rfl rfl)
theorem dX0_look_152 : decode cX0_look 152 = .ok (.ireturn, 1) := dk_172 (dk_at dksX0_look_5 17 rfl rfl)
theorem dX0_look_153 : decode cX0_look 153 = .ok (.aload_n 0, 1) := dk_42 (dk_at dksX0_look_5 18 rfl rfl)
theorem dX0_look_154 : decode cX0_look 154 = .ok (.getfield 20, 3) := dk_180 0 20 (dk_at dksX0_look_5 19 rfl rfl)
theorem dX0_look_157 : decode cX0_look 157 = .ok (.getfield 112, 3) := dk_180 0 112 (dk_at dksX0_look_6 0 rfl rfl)
theorem dX0_look_160 : decode cX0_look 160 = .ok (.ireturn, 1) := dk_172 (dk_at dksX0_look_6 3 rfl rfl)
theorem dX0_look_161 : decode cX0_look 161 = .ok (.aload_n 0, 1) := dk_42 (dk_at dksX0_look_6 4 rfl rfl)
theorem dX0_look_162 : decode cX0_look 162 = .ok (.getfield 130, 3) := dk_180 0 130 (dk_at dksX0_look_6 5 rfl rfl)
theorem dX0_look_165 : decode cX0_look 165 = .ok (.ireturn, 1) := dk_172 (dk_at dksX0_look_6 8 rfl rfl)
theorem dX0_look_166 : decode cX0_look 166 = .ok (.iconst (-1), 1) := dk_2 (dk_at dksX0_look_6 9 rfl rfl)
theorem dX0_look_167 : decode cX0_look 167 = .ok (.ireturn, 1) := dk_172 (dk_at dksX0_look_6 10 rfl rfl)

