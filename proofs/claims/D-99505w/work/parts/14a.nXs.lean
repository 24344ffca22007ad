set_option maxRecDepth 100000
abbrev cX2_init : ByteArray := prog_6_method_1_code
def yX2_init : MethodName := ⟨RX2, "<init>", "()V"⟩
def dkwX2_init_0 : List UInt8 := [42, 183, 0, 3, 42, 8, 188, 10, 181, 0, 9, 42, 8, 188, 10, 181, 0, 15, 177]
abbrev dktX2_init_0 : List UInt8 := dkwX2_init_0 ++ []
theorem dksX2_init_0 : cX2_init.data.toList.drop 0 = dktX2_init_0 := by decide +kernel
theorem dX2_init_0 : decode cX2_init 0 = .ok (.aload_n 0, 1) := dk_42 (dk_at dksX2_init_0 0 rfl rfl)
theorem dX2_init_1 : decode cX2_init 1 = .ok (.invokespecial 3, 3) := dk_183 0 3 (dk_at dksX2_init_0 1 rfl rfl)
theorem dX2_init_4 : decode cX2_init 4 = .ok (.aload_n 0, 1) := dk_42 (dk_at dksX2_init_0 4 rfl rfl)
theorem dX2_init_5 : decode cX2_init 5 = .ok (.iconst 5, 1) := dk_8 (dk_at dksX2_init_0 5 rfl rfl)
theorem dX2_init_6 : decode cX2_init 6 = .ok (.newarray .int, 2) := dk_188_10 (dk_at dksX2_init_0 6 rfl rfl)
theorem dX2_init_8 : decode cX2_init 8 = .ok (.putfield 9, 3) := dk_181 0 9 (dk_at dksX2_init_0 8 rfl rfl)
theorem dX2_init_11 : decode cX2_init 11 = .ok (.aload_n 0, 1) := dk_42 (dk_at dksX2_init_0 11 rfl rfl)
theorem dX2_init_12 : decode cX2_init 12 = .ok (.iconst 5, 1) := dk_8 (dk_at dksX2_init_0 12 rfl rfl)
theorem dX2_init_13 : decode cX2_init 13 = .ok (.newarray .int, 2) := dk_188_10 (dk_at dksX2_init_0 13 rfl rfl)
theorem dX2_init_15 : decode cX2_init 15 = .ok (.putfield 15, 3) := dk_181 0 15 (dk_at dksX2_init_0 15 rfl rfl)
theorem dX2_init_18 : decode cX2_init 18 = .ok (.return_, 1) := dk_177 (dk_at dksX2_init_0 18 rfl rfl)
abbrev cX2_begins : ByteArray := prog_6_method_2_code
def yX2_begins : MethodName := ⟨RX2, "begins", "(IIIILClaspedFair$Horse;)V"⟩
def dkwX2_begins_2 : List UInt8 := [167, 0, 8, 25, 5, 180, 0, 37, 181, 0, 40, 177]
abbrev dktX2_begins_2 : List UInt8 := dkwX2_begins_2 ++ []
def dkwX2_begins_1 : List UInt8 := [199, 0, 7, 3, 167, 0, 8, 25, 5, 180, 0, 31, 181, 0, 36, 42, 25, 5, 199, 0, 7, 3]
abbrev dktX2_begins_1 : List UInt8 := dkwX2_begins_1 ++ dktX2_begins_2
def dkwX2_begins_0 : List UInt8 := [42, 27, 181, 0, 18, 42, 28, 181, 0, 22, 42, 29, 181, 0, 25, 42, 21, 4, 181, 0, 28, 42, 25, 5]
abbrev dktX2_begins_0 : List UInt8 := dkwX2_begins_0 ++ dktX2_begins_1
theorem dksX2_begins_0 : cX2_begins.data.toList.drop 0 = dktX2_begins_0 := by decide +kernel
theorem dksX2_begins_1 : cX2_begins.data.toList.drop 24 = dktX2_begins_1 := dk_seg dksX2_begins_0 24 rfl rfl
theorem dksX2_begins_2 : cX2_begins.data.toList.drop 46 = dktX2_begins_2 := dk_seg dksX2_begins_1 22 rfl rfl
theorem dX2_begins_0 : decode cX2_begins 0 = .ok (.aload_n 0, 1) := dk_42 (dk_at dksX2_begins_0 0 rfl rfl)
theorem dX2_begins_1 : decode cX2_begins 1 = .ok (.iload_n 1, 1) := dk_27 (dk_at dksX2_begins_0 1 rfl rfl)
theorem dX2_begins_2 : decode cX2_begins 2 = .ok (.putfield 18, 3) := dk_181 0 18 (dk_at dksX2_begins_0 2 rfl rfl)
theorem dX2_begins_5 : decode cX2_begins 5 = .ok (.aload_n 0, 1) := dk_42 (dk_at dksX2_begins_0 5 rfl rfl)
theorem dX2_begins_6 : decode cX2_begins 6 = .ok (.iload_n 2, 1) := dk_28 (dk_at dksX2_begins_0 6 rfl rfl)
theorem dX2_begins_7 : decode cX2_begins 7 = .ok (.putfield 22, 3) := dk_181 0 22 (dk_at dksX2_begins_0 7 rfl rfl)
theorem dX2_begins_10 : decode cX2_begins 10 = .ok (.aload_n 0, 1) := dk_42 (dk_at dksX2_begins_0 10 rfl rfl)
theorem dX2_begins_11 : decode cX2_begins 11 = .ok (.iload_n 3, 1) := dk_29 (dk_at dksX2_begins_0 11 rfl rfl)
theorem dX2_begins_12 : decode cX2_begins 12 = .ok (.putfield 25, 3) := dk_181 0 25 (dk_at dksX2_begins_0 12 rfl rfl)
theorem dX2_begins_15 : decode cX2_begins 15 = .ok (.aload_n 0, 1) := dk_42 (dk_at dksX2_begins_0 15 rfl rfl)
theorem dX2_begins_16 : decode cX2_begins 16 = .ok (.iload 4, 2) := dk_21 4 (dk_at dksX2_begins_0 16 rfl rfl)
theorem dX2_begins_18 : decode cX2_begins 18 = .ok (.putfield 28, 3) := dk_181 0 28 (dk_at dksX2_begins_0 18 rfl rfl)
theorem dX2_begins_21 : decode cX2_begins 21 = .ok (.aload_n 0, 1) := dk_42 (dk_at dksX2_begins_0 21 rfl rfl)
theorem dX2_begins_22 : decode cX2_begins 22 = .ok (.aload 5, 2) := dk_25 5 (dk_at dksX2_begins_0 22 rfl rfl)
theorem dX2_begins_24 : decode cX2_begins 24 = .ok (.ifnonnull 7, 3) := dk_199 0 7 (dk_at dksX2_begins_1 0 rfl rfl)
theorem dX2_begins_27 : decode cX2_begins 27 = .ok (.iconst 0, 1) := dk_3 (dk_at dksX2_begins_1 3 rfl rfl)
theorem dX2_begins_28 : decode cX2_begins 28 = .ok (.goto 8, 3) := dk_167 0 8 (dk_at dksX2_begins_1 4 rfl rfl)
theorem dX2_begins_31 : decode cX2_begins 31 = .ok (.aload 5, 2) := dk_25 5 (dk_at dksX2_begins_1 7 rfl rfl)
theorem dX2_begins_33 : decode cX2_begins 33 = .ok (.getfield 31, 3) := dk_180 0 31 (dk_at dksX2_begins_1 9 rfl rfl)
theorem dX2_begins_36 : decode cX2_begins 36 = .ok (.putfield 36, 3) := dk_181 0 36 (dk_at dksX2_begins_1 12 rfl rfl)
theorem dX2_begins_39 : decode cX2_begins 39 = .ok (.aload_n 0, 1) := dk_42 (dk_at dksX2_begins_1 15 rfl rfl)
theorem dX2_begins_40 : decode cX2_begins 40 = .ok (.aload 5, 2) := dk_25 5 (dk_at dksX2_begins_1 16 rfl rfl)
theorem dX2_begins_42 : decode cX2_begins 42 = .ok (.ifnonnull 7, 3) := dk_199 0 7 (dk_at dksX2_begins_1 18 rfl rfl)
theorem dX2_begins_45 : decode cX2_begins 45 = .ok (.iconst 0, 1) := dk_3 (dk_at dksX2_begins_1 21 rfl rfl)
theorem dX2_begins_46 : decode cX2_begins 46 = .ok (.goto 8, 3) := dk_167 0 8 (dk_at dksX2_begins_2 0 rfl rfl)
theorem dX2_begins_49 : decode cX2_begins 49 = .ok (.aload 5, 2) := dk_25 5 (dk_at dksX2_begins_2 3 rfl rfl)
theorem dX2_begins_51 : decode cX2_begins 51 = .ok (.getfield 37, 3) := dk_180 0 37 (dk_at dksX2_begins_2 5 rfl rfl)
theorem dX2_begins_54 : decode cX2_begins 54 = .ok (.putfield 40, 3) := dk_181 0 40 (dk_at dksX2_begins_2 8 rfl rfl)
theorem dX2_begins_57 : decode cX2_begins 57 = .ok (.return_, 1) := dk_177 (dk_at dksX2_begins_2 11 rfl rfl)
abbrev cX2_all : ByteArray := prog_6_method_3_code
def yX2_all : MethodName := ⟨RX2, "all", "()I"⟩
def dkwX2_all_1 : List UInt8 := [60, 132, 2, 1, 167, 255, 232, 27, 172]
abbrev dktX2_all_1 : List UInt8 := dkwX2_all_1 ++ []
def dkwX2_all_0 : List UInt8 := [3, 60, 3, 61, 28, 8, 162, 0, 25, 27, 42, 180, 0, 9, 28, 46, 42, 180, 0, 15, 28, 46, 96, 96]
abbrev dktX2_all_0 : List UInt8 := dkwX2_all_0 ++ dktX2_all_1
theorem dksX2_all_0 : cX2_all.data.toList.drop 0 = dktX2_all_0 := by decide +kernel
theorem dksX2_all_1 : cX2_all.data.toList.drop 24 = dktX2_all_1 := dk_seg dksX2_all_0 24 rfl rfl
theorem dX2_all_0 : decode cX2_all 0 = .ok (.iconst 0, 1) := dk_3 (dk_at dksX2_all_0 0 rfl rfl)
theorem dX2_all_1 : decode cX2_all 1 = .ok (.istore_n 1, 1) := dk_60 (dk_at dksX2_all_0 1 rfl rfl)
theorem dX2_all_2 : decode cX2_all 2 = .ok (.iconst 0, 1) := dk_3 (dk_at dksX2_all_0 2 rfl rfl)
theorem dX2_all_3 : decode cX2_all 3 = .ok (.istore_n 2, 1) := dk_61 (dk_at dksX2_all_0 3 rfl rfl)
theorem dX2_all_4 : decode cX2_all 4 = .ok (.iload_n 2, 1) := dk_28 (dk_at dksX2_all_0 4 rfl rfl)
theorem dX2_all_5 : decode cX2_all 5 = .ok (.iconst 5, 1) := dk_8 (dk_at dksX2_all_0 5 rfl rfl)
theorem dX2_all_6 : decode cX2_all 6 = .ok (.if_icmp .ge 25, 3) := dk_162 0 25 (dk_at dksX2_all_0 6 rfl rfl)
theorem dX2_all_9 : decode cX2_all 9 = .ok (.iload_n 1, 1) := dk_27 (dk_at dksX2_all_0 9 rfl rfl)
theorem dX2_all_10 : decode cX2_all 10 = .ok (.aload_n 0, 1) := dk_42 (dk_at dksX2_all_0 10 rfl rfl)
theorem dX2_all_11 : decode cX2_all 11 = .ok (.getfield 9, 3) := dk_180 0 9 (dk_at dksX2_all_0 11 rfl rfl)
theorem dX2_all_14 : decode cX2_all 14 = .ok (.iload_n 2, 1) := dk_28 (dk_at dksX2_all_0 14 rfl rfl)
theorem dX2_all_15 : decode cX2_all 15 = .ok (.iaload, 1) := dk_46 (dk_at dksX2_all_0 15 rfl rfl)
theorem dX2_all_16 : decode cX2_all 16 = .ok (.aload_n 0, 1) := dk_42 (dk_at dksX2_all_0 16 rfl rfl)
theorem dX2_all_17 : decode cX2_all 17 = .ok (.getfield 15, 3) := dk_180 0 15 (dk_at dksX2_all_0 17 rfl rfl)
theorem dX2_all_20 : decode cX2_all 20 = .ok (.iload_n 2, 1) := dk_28 (dk_at dksX2_all_0 20 rfl rfl)
theorem dX2_all_21 : decode cX2_all 21 = .ok (.iaload, 1) := dk_46 (dk_at dksX2_all_0 21 rfl rfl)
theorem dX2_all_22 : decode cX2_all 22 = .ok (.iadd, 1) := dk_96 (dk_at dksX2_all_0 22 rfl rfl)
theorem dX2_all_23 : decode cX2_all 23 = .ok (.iadd, 1) := dk_96 (dk_at dksX2_all_0 23 rfl rfl)
theorem dX2_all_24 : decode cX2_all 24 = .ok (.istore_n 1, 1) := dk_60 (dk_at dksX2_all_1 0 rfl rfl)
theorem dX2_all_25 : decode cX2_all 25 = .ok (.iinc 2 1, 3) := dk_132 2 1 (dk_at dksX2_all_1 1 rfl rfl)
theorem dX2_all_28 : decode cX2_all 28 = .ok (.goto (-24), 3) := dk_167 255 232 (dk_at dksX2_all_1 4 rfl rfl)
theorem dX2_all_31 : decode cX2_all 31 = .ok (.iload_n 1, 1) := dk_27 (dk_at dksX2_all_1 7 rfl rfl)
theorem dX2_all_32 : decode cX2_all 32 = .ok (.ireturn, 1) := dk_172 (dk_at dksX2_all_1 8 rfl rfl)

theorem q146 : (Jvm.Cond.initialized "ClaspedFair$Grip") ∈ lw_all := lw_g (lw_at lw_m1 3 rfl) rfl
theorem q198 : (Jvm.Cond.instantiable "ClaspedFair$Grip" (8 : Nat)) ∈ lw_all := lw_g (lw_at lw_m1 55 rfl) rfl
theorem q200 : (Jvm.Cond.instanceMethod ({ cls := "ClaspedFair$Grip", name := "<init>", desc := "()V" } : Jvm.MethodName)) ∈ lw_all := lw_g (lw_at lw_m1 57 rfl) rfl
theorem q201 : (Jvm.Cond.code ({ cls := "ClaspedFair$Grip", name := "<init>", desc := "()V" } : Jvm.MethodName) prog_6_method_1_code (1 : Nat) (Option.none : Option Jvm.ClassFile.FieldType)) ∈ lw_all := lw_g (lw_at lw_m1 58 rfl) rfl
theorem q202 : (Jvm.Cond.methodLink "ClaspedFair$Grip" (3 : Nat) ({ cls := "java/lang/Object", name := "<init>", desc := "()V" } : Jvm.MethodName)) ∈ lw_all := lw_g (lw_at lw_m1 59 rfl) rfl
theorem q203 : (Jvm.Cond.fieldLink "ClaspedFair$Grip" (9 : Nat) "ClaspedFair$Grip" "over" "[I") ∈ lw_all := lw_g (lw_at lw_m1 60 rfl) rfl
theorem q205 : (Jvm.Cond.fieldLink "ClaspedFair$Grip" (15 : Nat) "ClaspedFair$Grip" "across" "[I") ∈ lw_all := lw_g (lw_at lw_m1 62 rfl) rfl
theorem q207 : (Jvm.Cond.fieldLink "ClaspedFair$Grip" (18 : Nat) "ClaspedFair$Grip" "first" "I") ∈ lw_all := lw_g (lw_at lw_m1 64 rfl) rfl
theorem q209 : (Jvm.Cond.fieldLink "ClaspedFair$Grip" (22 : Nat) "ClaspedFair$Grip" "second" "I") ∈ lw_all := lw_g (lw_at lw_m1 66 rfl) rfl
theorem q211 : (Jvm.Cond.fieldLink "ClaspedFair$Grip" (25 : Nat) "ClaspedFair$Grip" "firmness" "I") ∈ lw_all := lw_g (lw_at lw_m1 68 rfl) rfl
theorem q213 : (Jvm.Cond.fieldLink "ClaspedFair$Grip" (28 : Nat) "ClaspedFair$Grip" "price" "I") ∈ lw_all := lw_g (lw_at lw_m1 70 rfl) rfl
theorem q215 : (Jvm.Cond.fieldLink "ClaspedFair$Grip" (36 : Nat) "ClaspedFair$Grip" "worth" "I") ∈ lw_all := lw_g (lw_at lw_m1 72 rfl) rfl
theorem q217 : (Jvm.Cond.fieldLink "ClaspedFair$Grip" (40 : Nat) "ClaspedFair$Grip" "spirit" "I") ∈ lw_all := lw_g (lw_at lw_m1 74 rfl) rfl
theorem q219 : (Jvm.Cond.laysFinal "ClaspedFair$Grip" "ClaspedFair$Grip" "over" "[I") ∈ lw_all := lw_g (lw_at lw_m1 76 rfl) rfl
theorem q220 : (Jvm.Cond.soleField "ClaspedFair$Grip" "over") ∈ lw_all := lw_g (lw_at lw_m1 77 rfl) rfl
theorem q221 : (Jvm.Cond.laysFinal "ClaspedFair$Grip" "ClaspedFair$Grip" "across" "[I") ∈ lw_all := lw_g (lw_at lw_m1 78 rfl) rfl
theorem q222 : (Jvm.Cond.soleField "ClaspedFair$Grip" "across") ∈ lw_all := lw_g (lw_at lw_m1 79 rfl) rfl
theorem q223 : (Jvm.Cond.lays "ClaspedFair$Grip" "ClaspedFair$Grip" "first" "I") ∈ lw_all := lw_g (lw_at lw_m1 80 rfl) rfl
theorem q224 : (Jvm.Cond.soleField "ClaspedFair$Grip" "first") ∈ lw_all := lw_g (lw_at lw_m1 81 rfl) rfl
theorem q225 : (Jvm.Cond.lays "ClaspedFair$Grip" "ClaspedFair$Grip" "second" "I") ∈ lw_all := lw_g (lw_at lw_m1 82 rfl) rfl
theorem q226 : (Jvm.Cond.soleField "ClaspedFair$Grip" "second") ∈ lw_all := lw_g (lw_at lw_m1 83 rfl) rfl
theorem q227 : (Jvm.Cond.lays "ClaspedFair$Grip" "ClaspedFair$Grip" "firmness" "I") ∈ lw_all := lw_g (lw_at lw_m1 84 rfl) rfl
theorem q228 : (Jvm.Cond.soleField "ClaspedFair$Grip" "firmness") ∈ lw_all := lw_g (lw_at lw_m1 85 rfl) rfl
theorem q229 : (Jvm.Cond.lays "ClaspedFair$Grip" "ClaspedFair$Grip" "price" "I") ∈ lw_all := lw_g (lw_at lw_m1 86 rfl) rfl
theorem q230 : (Jvm.Cond.soleField "ClaspedFair$Grip" "price") ∈ lw_all := lw_g (lw_at lw_m1 87 rfl) rfl
theorem q231 : (Jvm.Cond.lays "ClaspedFair$Grip" "ClaspedFair$Grip" "worth" "I") ∈ lw_all := lw_g (lw_at lw_m1 88 rfl) rfl
theorem q232 : (Jvm.Cond.soleField "ClaspedFair$Grip" "worth") ∈ lw_all := lw_g (lw_at lw_m1 89 rfl) rfl
theorem q233 : (Jvm.Cond.lays "ClaspedFair$Grip" "ClaspedFair$Grip" "spirit" "I") ∈ lw_all := lw_g (lw_at lw_m1 90 rfl) rfl
theorem q234 : (Jvm.Cond.soleField "ClaspedFair$Grip" "spirit") ∈ lw_all := lw_g (lw_at lw_m1 91 rfl) rfl
theorem q235 : (Jvm.Cond.superclass "ClaspedFair$Grip" "java/lang/Object") ∈ lw_all := lw_g (lw_at lw_m1 92 rfl) rfl
theorem q320 : (Jvm.Cond.fieldLinkNest "ClaspedFair$Grip" (31 : Nat) "ClaspedFair$Horse" "worth" "I" "ClaspedFair") ∈ lw_tbl := lw_at lw_m1 177 rfl
theorem q323 : (Jvm.Cond.fieldLinkNest "ClaspedFair$Grip" (37 : Nat) "ClaspedFair$Horse" "spirit" "I" "ClaspedFair") ∈ lw_tbl := lw_at lw_m1 180 rfl
theorem q883 : (Jvm.Cond.selects "ClaspedFair$Grip" ({ cls := "java/lang/Object", name := "getClass", desc := "()Ljava/lang/Class;" } : Jvm.MethodName) ({ cls := "java/lang/Object", name := "getClass", desc := "()Ljava/lang/Class;" } : Jvm.MethodName)) ∈ lw_all := lw_g (lw_at lw_m4 20 rfl) rfl
theorem q1096 : (Jvm.Cond.instanceMethod ({ cls := "ClaspedFair$Grip", name := "begins", desc := "(IIIILClaspedFair$Horse;)V" } : Jvm.MethodName)) ∈ lw_all := lw_g (lw_at lw_m4 233 rfl) rfl
theorem q1097 : (Jvm.Cond.selects "ClaspedFair$Grip" ({ cls := "ClaspedFair$Grip", name := "begins", desc := "(IIIILClaspedFair$Horse;)V" } : Jvm.MethodName) ({ cls := "ClaspedFair$Grip", name := "begins", desc := "(IIIILClaspedFair$Horse;)V" } : Jvm.MethodName)) ∈ lw_all := lw_g (lw_at lw_m4 234 rfl) rfl
theorem q1098 : (Jvm.Cond.code ({ cls := "ClaspedFair$Grip", name := "begins", desc := "(IIIILClaspedFair$Horse;)V" } : Jvm.MethodName) prog_6_method_2_code (6 : Nat) (Option.none : Option Jvm.ClassFile.FieldType)) ∈ lw_all := lw_g (lw_at lw_m4 235 rfl) rfl
theorem q1184 : (Jvm.Cond.instanceMethod ({ cls := "ClaspedFair$Grip", name := "all", desc := "()I" } : Jvm.MethodName)) ∈ lw_all := lw_g (lw_at lw_m5 81 rfl) rfl
theorem q1185 : (Jvm.Cond.selects "ClaspedFair$Grip" ({ cls := "ClaspedFair$Grip", name := "all", desc := "()I" } : Jvm.MethodName) ({ cls := "ClaspedFair$Grip", name := "all", desc := "()I" } : Jvm.MethodName)) ∈ lw_all := lw_g (lw_at lw_m5 82 rfl) rfl
theorem q1186 : (Jvm.Cond.code ({ cls := "ClaspedFair$Grip", name := "all", desc := "()I" } : Jvm.MethodName) prog_6_method_3_code (3 : Nat) (Option.some Jvm.ClassFile.FieldType.int)) ∈ lw_all := lw_g (lw_at lw_m5 83 rfl) rfl
theorem q2216 : (Jvm.Cond.castable "ClaspedFair$Grip" "java/lang/Object") ∈ lw_tbl := lw_at lw_m9 153 rfl
abbrev cX3_init : ByteArray := prog_17_method_1_code
def yX3_init : MethodName := ⟨RX3, "<init>", "(I)V"⟩
def dkwX3_init_0 : List UInt8 := [42, 183, 0, 3, 42, 27, 5, 197, 0, 9, 2, 181, 0, 11, 177]
abbrev dktX3_init_0 : List UInt8 := dkwX3_init_0 ++ []
theorem dksX3_init_0 : cX3_init.data.toList.drop 0 = dktX3_init_0 := by decide +kernel
theorem dX3_init_0 : decode cX3_init 0 = .ok (.aload_n 0, 1) := dk_42 (dk_at dksX3_init_0 0 rfl rfl)
theorem dX3_init_1 : decode cX3_init 1 = .ok (.invokespecial 3, 3) := dk_183 0 3 (dk_at dksX3_init_0 1 rfl rfl)
theorem dX3_init_4 : decode cX3_init 4 = .ok (.aload_n 0, 1) := dk_42 (dk_at dksX3_init_0 4 rfl rfl)
theorem dX3_init_5 : decode cX3_init 5 = .ok (.iload_n 1, 1) := dk_27 (dk_at dksX3_init_0 5 rfl rfl)
theorem dX3_init_6 : decode cX3_init 6 = .ok (.iconst 2, 1) := dk_5 (dk_at dksX3_init_0 6 rfl rfl)
theorem dX3_init_7 : decode cX3_init 7 = .ok (.multianewarray 9 2, 4) := by decide +kernel
theorem dX3_init_11 : decode cX3_init 11 = .ok (.putfield 11, 3) := dk_181 0 11 (dk_at dksX3_init_0 11 rfl rfl)
theorem dX3_init_14 : decode cX3_init 14 = .ok (.return_, 1) := dk_177 (dk_at dksX3_init_0 14 rfl rfl)
abbrev cX3_ends : ByteArray := prog_17_method_3_code
def yX3_ends : MethodName := ⟨RX3, "ends", "()I"⟩
def dkwX3_ends_0 : List UInt8 := [42, 3, 181, 0, 16, 3, 172]
abbrev dktX3_ends_0 : List UInt8 := dkwX3_ends_0 ++ []
theorem dksX3_ends_0 : cX3_ends.data.toList.drop 0 = dktX3_ends_0 := by decide +kernel
theorem dX3_ends_0 : decode cX3_ends 0 = .ok (.aload_n 0, 1) := dk_42 (dk_at dksX3_ends_0 0 rfl rfl)
theorem dX3_ends_1 : decode cX3_ends 1 = .ok (.iconst 0, 1) := dk_3 (dk_at dksX3_ends_0 1 rfl rfl)
theorem dX3_ends_2 : decode cX3_ends 2 = .ok (.putfield 16, 3) := dk_181 0 16 (dk_at dksX3_ends_0 2 rfl rfl)
theorem dX3_ends_5 : decode cX3_ends 5 = .ok (.iconst 0, 1) := dk_3 (dk_at dksX3_ends_0 5 rfl rfl)
theorem dX3_ends_6 : decode cX3_ends 6 = .ok (.ireturn, 1) := dk_172 (dk_at dksX3_ends_0 6 rfl rfl)
abbrev cX3_tells : ByteArray := prog_17_method_2_code
def yX3_tells : MethodName := ⟨RX3, "tells", "(II)I"⟩
def dkwX3_tells_2 : List UInt8 := [42, 180, 0, 16, 172]
abbrev dktX3_tells_2 : List UInt8 := dkwX3_tells_2 ++ []
def dkwX3_tells_1 : List UInt8 := [27, 79, 42, 180, 0, 11, 42, 180, 0, 16, 50, 4, 28, 79, 42, 89, 180, 0, 16, 4, 96, 181, 0, 16]
abbrev dktX3_tells_1 : List UInt8 := dkwX3_tells_1 ++ dktX3_tells_2
def dkwX3_tells_0 : List UInt8 := [42, 180, 0, 16, 42, 180, 0, 11, 190, 160, 0, 5, 2, 172, 42, 180, 0, 11, 42, 180, 0, 16, 50, 3]
abbrev dktX3_tells_0 : List UInt8 := dkwX3_tells_0 ++ dktX3_tells_1
theorem dksX3_tells_0 : cX3_tells.data.toList.drop 0 = dktX3_tells_0 := by decide +kernel
theorem dksX3_tells_1 : cX3_tells.data.toList.drop 24 = dktX3_tells_1 := dk_seg dksX3_tells_0 24 rfl rfl
theorem dksX3_tells_2 : cX3_tells.data.toList.drop 48 = dktX3_tells_2 := dk_seg dksX3_tells_1 24 rfl rfl
theorem dX3_tells_0 : decode cX3_tells 0 = .ok (.aload_n 0, 1) := dk_42 (dk_at dksX3_tells_0 0 rfl rfl)
theorem dX3_tells_1 : decode cX3_tells 1 = .ok (.getfield 16, 3) := dk_180 0 16 (dk_at dksX3_tells_0 1 rfl rfl)
theorem dX3_tells_4 : decode cX3_tells 4 = .ok (.aload_n 0, 1) := dk_42 (dk_at dksX3_tells_0 4 rfl rfl)
theorem dX3_tells_5 : decode cX3_tells 5 = .ok (.getfield 11, 3) := dk_180 0 11 (dk_at dksX3_tells_0 5 rfl rfl)
theorem dX3_tells_8 : decode cX3_tells 8 = .ok (.arraylength, 1) := dk_190 (dk_at dksX3_tells_0 8 rfl rfl)
theorem dX3_tells_9 : decode cX3_tells 9 = .ok (.if_icmp .ne 5, 3) := dk_160 0 5 (dk_at dksX3_tells_0 9 rfl rfl)
theorem dX3_tells_12 : decode cX3_tells 12 = .ok (.iconst (-1), 1) := dk_2 (dk_at dksX3_tells_0 12 rfl rfl)
theorem dX3_tells_13 : decode cX3_tells 13 = .ok (.ireturn, 1) := dk_172 (dk_at dksX3_tells_0 13 rfl rfl)
theorem dX3_tells_14 : decode cX3_tells 14 = .ok (.aload_n 0, 1) := dk_42 (dk_at dksX3_tells_0 14 rfl rfl)
theorem dX3_tells_15 : decode cX3_tells 15 = .ok (.getfield 11, 3) := dk_180 0 11 (dk_at dksX3_tells_0 15 rfl rfl)
theorem dX3_tells_18 : decode cX3_tells 18 = .ok (.aload_n 0, 1) := dk_42 (dk_at dksX3_tells_0 18 rfl rfl)
theorem dX3_tells_19 : decode cX3_tells 19 = .ok (.getfield 16, 3) := dk_180 0 16 (dk_at dksX3_tells_0 19 rfl rfl)
theorem dX3_tells_22 : decode cX3_tells 22 = .ok (.aaload, 1) := dk_50 (dk_at dksX3_tells_0 22 rfl rfl)
theorem dX3_tells_23 : decode cX3_tells 23 = .ok (.iconst 0, 1) := dk_3 (dk_at dksX3_tells_0 23 rfl rfl)
theorem dX3_tells_24 : decode cX3_tells 24 = .ok (.iload_n 1, 1) := dk_27 (dk_at dksX3_tells_1 0 rfl rfl)
theorem dX3_tells_25 : decode cX3_tells 25 = .ok (.iastore, 1) := dk_79 (dk_at dksX3_tells_1 1 rfl rfl)
theorem dX3_tells_26 : decode cX3_tells 26 = .ok (.aload_n 0, 1) := dk_42 (dk_at dksX3_tells_1 2 rfl rfl)
theorem dX3_tells_27 : decode cX3_tells 27 = .ok (.getfield 11, 3) := dk_180 0 11 (dk_at dksX3_tells_1 3 rfl rfl)
theorem dX3_tells_30 : decode cX3_tells 30 = .ok (.aload_n 0, 1) := dk_42 (dk_at dksX3_tells_1 6 rfl rfl)
theorem dX3_tells_31 : decode cX3_tells 31 = .ok (.getfield 16, 3) := dk_180 0 16 (dk_at dksX3_tells_1 7 rfl rfl)
theorem dX3_tells_34 : decode cX3_tells 34 = .ok (.aaload, 1) := dk_50 (dk_at dksX3_tells_1 10 rfl rfl)
theorem dX3_tells_35 : decode cX3_tells 35 = .ok (.iconst 1, 1) := dk_4 (dk_at dksX3_tells_1 11 rfl rfl)
theorem dX3_tells_36 : decode cX3_tells 36 = .ok (.iload_n 2, 1) := dk_28 (dk_at dksX3_tells_1 12 rfl rfl)
theorem dX3_tells_37 : decode cX3_tells 37 = .ok (.iastore, 1) := dk_79 (dk_at dksX3_tells_1 13 rfl rfl)
theorem dX3_tells_38 : decode cX3_tells 38 = .ok (.aload_n 0, 1) := dk_42 (dk_at dksX3_tells_1 14 rfl rfl)
theorem dX3_tells_39 : decode cX3_tells 39 = .ok (.dup, 1) := dk_89 (dk_at dksX3_tells_1 15 rfl rfl)
theorem dX3_tells_40 : decode cX3_tells 40 = .ok (.getfield 16, 3) := dk_180 0 16 (dk_at dksX3_tells_1 16 rfl rfl)
theorem dX3_tells_43 : decode cX3_tells 43 = .ok (.iconst 1, 1) := dk_4 (dk_at dksX3_tells_1 19 rfl rfl)
theorem dX3_tells_44 : decode cX3_tells 44 = .ok (.iadd, 1) := dk_96 (dk_at dksX3_tells_1 20 rfl rfl)
theorem dX3_tells_45 : decode cX3_tells 45 = .ok (.putfield 16, 3) := dk_181 0 16 (dk_at dksX3_tells_1 21 rfl rfl)
theorem dX3_tells_48 : decode cX3_tells 48 = .ok (.aload_n 0, 1) := dk_42 (dk_at dksX3_tells_2 0 rfl rfl)
theorem dX3_tells_49 : decode cX3_tells 49 = .ok (.getfield 16, 3) := dk_180 0 16 (dk_at dksX3_tells_2 1 rfl rfl)
theorem dX3_tells_52 : decode cX3_tells 52 = .ok (.ireturn, 1) := dk_172 (dk_at dksX3_tells_2 4 rfl rfl)
abbrev cX3_first : ByteArray := prog_17_method_4_code
def yX3_first : MethodName := ⟨RX3, "first", "(I)I"⟩
def dkwX3_first_0 : List UInt8 := [42, 180, 0, 11, 27, 50, 3, 46, 172]
abbrev dktX3_first_0 : List UInt8 := dkwX3_first_0 ++ []
theorem dksX3_first_0 : cX3_first.data.toList.drop 0 = dktX3_first_0 := by decide +kernel
theorem dX3_first_0 : decode cX3_first 0 = .ok (.aload_n 0, 1) := dk_42 (dk_at dksX3_first_0 0 rfl rfl)
theorem dX3_first_1 : decode cX3_first 1 = .ok (.getfield 11, 3) := dk_180 0 11 (dk_at dksX3_first_0 1 rfl rfl)
theorem dX3_first_4 : decode cX3_first 4 = .ok (.iload_n 1, 1) := dk_27 (dk_at dksX3_first_0 4 rfl rfl)
theorem dX3_first_5 : decode cX3_first 5 = .ok (.aaload, 1) := dk_50 (dk_at dksX3_first_0 5 rfl rfl)
theorem dX3_first_6 : decode cX3_first 6 = .ok (.iconst 0, 1) := dk_3 (dk_at dksX3_first_0 6 rfl rfl)
theorem dX3_first_7 : decode cX3_first 7 = .ok (.iaload, 1) := dk_46 (dk_at dksX3_first_0 7 rfl rfl)
theorem dX3_first_8 : decode cX3_first 8 = .ok (.ireturn, 1) := dk_172 (dk_at dksX3_first_0 8 rfl rfl)
abbrev cX3_takes : ByteArray := prog_17_method_5_code
def yX3_takes : MethodName := ⟨RX3, "takes", "(LClaspedFair$Rows;)V"⟩
def dkwX3_takes_2 : List UInt8 := [167, 255, 232, 132, 2, 1, 167, 255, 216, 177]
abbrev dktX3_takes_2 : List UInt8 := dkwX3_takes_2 ++ []
def dkwX3_takes_1 : List UInt8 := [162, 0, 25, 42, 180, 0, 11, 28, 50, 29, 43, 180, 0, 11, 28, 50, 29, 46, 79, 132, 3, 1]
abbrev dktX3_takes_1 : List UInt8 := dkwX3_takes_1 ++ dktX3_takes_2
def dkwX3_takes_0 : List UInt8 := [42, 43, 180, 0, 16, 181, 0, 16, 3, 61, 28, 42, 180, 0, 16, 162, 0, 38, 3, 62, 29, 5]
abbrev dktX3_takes_0 : List UInt8 := dkwX3_takes_0 ++ dktX3_takes_1
theorem dksX3_takes_0 : cX3_takes.data.toList.drop 0 = dktX3_takes_0 := by decide +kernel
theorem dksX3_takes_1 : cX3_takes.data.toList.drop 22 = dktX3_takes_1 := dk_seg dksX3_takes_0 22 rfl rfl
theorem dksX3_takes_2 : cX3_takes.data.toList.drop 44 = dktX3_takes_2 := dk_seg dksX3_takes_1 22 rfl rfl
theorem dX3_takes_0 : decode cX3_takes 0 = .ok (.aload_n 0, 1) := dk_42 (dk_at dksX3_takes_0 0 rfl rfl)
theorem dX3_takes_1 : decode cX3_takes 1 = .ok (.aload_n 1, 1) := dk_43 (dk_at dksX3_takes_0 1 rfl rfl)
theorem dX3_takes_2 : decode cX3_takes 2 = .ok (.getfield 16, 3) := dk_180 0 16 (dk_at dksX3_takes_0 2 rfl rfl)
theorem dX3_takes_5 : decode cX3_takes 5 = .ok (.putfield 16, 3) := dk_181 0 16 (dk_at dksX3_takes_0 5 rfl rfl)
theorem dX3_takes_8 : decode cX3_takes 8 = .ok (.iconst 0, 1) := dk_3 (dk_at dksX3_takes_0 8 rfl rfl)
theorem dX3_takes_9 : decode cX3_takes 9 = .ok (.istore_n 2, 1) := dk_61 (dk_at dksX3_takes_0 9 rfl rfl)
theorem dX3_takes_10 : decode cX3_takes 10 = .ok (.iload_n 2, 1) := dk_28 (dk_at dksX3_takes_0 10 rfl rfl)
theorem dX3_takes_11 : decode cX3_takes 11 = .ok (.aload_n 0, 1) := dk_42 (dk_at dksX3_takes_0 11 rfl rfl)
theorem dX3_takes_12 : decode cX3_takes 12 = .ok (.getfield 16, 3) := dk_180 0 16 (dk_at dksX3_takes_0 12 rfl rfl)
theorem dX3_takes_15 : decode cX3_takes 15 = .ok (.if_icmp .ge 38, 3) := dk_162 0 38 (dk_at dksX3_takes_0 15 rfl rfl)
theorem dX3_takes_18 : decode cX3_takes 18 = .ok (.iconst 0, 1) := dk_3 (dk_at dksX3_takes_0 18 rfl rfl)
theorem dX3_takes_19 : decode cX3_takes 19 = .ok (.istore_n 3, 1) := dk_62 (dk_at dksX3_takes_0 19 rfl rfl)
theorem dX3_takes_20 : decode cX3_takes 20 = .ok (.iload_n 3, 1) := dk_29 (dk_at dksX3_takes_0 20 rfl rfl)
theorem dX3_takes_21 : decode cX3_takes 21 = .ok (.iconst 2, 1) := dk_5 (dk_at dksX3_takes_0 21 rfl rfl)
theorem dX3_takes_22 : decode cX3_takes 22 = .ok (.if_icmp .ge 25, 3) := dk_162 0 25 (dk_at dksX3_takes_1 0 rfl rfl)
theorem dX3_takes_25 : decode cX3_takes 25 = .ok (.aload_n 0, 1) := dk_42 (dk_at dksX3_takes_1 3 rfl rfl)
theorem dX3_takes_26 : decode cX3_takes 26 = .ok (.getfield 11, 3) := dk_180 0 11 (dk_at dksX3_takes_1 4 rfl rfl)
theorem dX3_takes_29 : decode cX3_takes 29 = .ok (.iload_n 2, 1) := dk_28 (dk_at dksX3_takes_1 7 rfl rfl)
theorem dX3_takes_30 : decode cX3_takes 30 = .ok (.aaload, 1) := dk_50 (dk_at dksX3_takes_1 8 rfl rfl)
theorem dX3_takes_31 : decode cX3_takes 31 = .ok (.iload_n 3, 1) := dk_29 (dk_at dksX3_takes_1 9 rfl rfl)
theorem dX3_takes_32 : decode cX3_takes 32 = .ok (.aload_n 1, 1) := dk_43 (dk_at dksX3_takes_1 10 rfl rfl)
theorem dX3_takes_33 : decode cX3_takes 33 = .ok (.getfield 11, 3) := dk_180 0 11 (dk_at dksX3_takes_1 11 rfl rfl)
theorem dX3_takes_36 : decode cX3_takes 36 = .ok (.iload_n 2, 1) := dk_28 (dk_at dksX3_takes_1 14 rfl rfl)
theorem dX3_takes_37 : decode cX3_takes 37 = .ok (.aaload, 1) := dk_50 (dk_at dksX3_takes_1 15 rfl rfl)
theorem dX3_takes_38 : decode cX3_takes 38 = .ok (.iload_n 3, 1) := dk_29 (dk_at dksX3_takes_1 16 rfl rfl)
theorem dX3_takes_39 : decode cX3_takes 39 = .ok (.iaload, 1) := dk_46 (dk_at dksX3_takes_1 17 rfl rfl)
theorem dX3_takes_40 : decode cX3_takes 40 = .ok (.iastore, 1) := dk_79 (dk_at dksX3_takes_1 18 rfl rfl)
theorem dX3_takes_41 : decode cX3_takes 41 = .ok (.iinc 3 1, 3) := dk_132 3 1 (dk_at dksX3_takes_1 19 rfl rfl)
theorem dX3_takes_44 : decode cX3_takes 44 = .ok (.goto (-24), 3) := dk_167 255 232 (dk_at dksX3_takes_2 0 rfl rfl)
theorem dX3_takes_47 : decode cX3_takes 47 = .ok (.iinc 2 1, 3) := dk_132 2 1 (dk_at dksX3_takes_2 3 rfl rfl)
theorem dX3_takes_50 : decode cX3_takes 50 = .ok (.goto (-40), 3) := dk_167 255 216 (dk_at dksX3_takes_2 6 rfl rfl)
theorem dX3_takes_53 : decode cX3_takes 53 = .ok (.return_, 1) := dk_177 (dk_at dksX3_takes_2 9 rfl rfl)

theorem q147 : (Jvm.Cond.initialized "ClaspedFair$Rows") ∈ lw_all := lw_g (lw_at lw_m1 4 rfl) rfl
theorem q241 : (Jvm.Cond.instantiable "ClaspedFair$Rows" (2 : Nat)) ∈ lw_all := lw_g (lw_at lw_m1 98 rfl) rfl
theorem q243 : (Jvm.Cond.instanceMethod ({ cls := "ClaspedFair$Rows", name := "<init>", desc := "(I)V" } : Jvm.MethodName)) ∈ lw_all := lw_g (lw_at lw_m1 100 rfl) rfl
theorem q244 : (Jvm.Cond.code ({ cls := "ClaspedFair$Rows", name := "<init>", desc := "(I)V" } : Jvm.MethodName) prog_17_method_1_code (2 : Nat) (Option.none : Option Jvm.ClassFile.FieldType)) ∈ lw_all := lw_g (lw_at lw_m1 101 rfl) rfl
theorem q245 : (Jvm.Cond.methodLink "ClaspedFair$Rows" (3 : Nat) ({ cls := "java/lang/Object", name := "<init>", desc := "()V" } : Jvm.MethodName)) ∈ lw_all := lw_g (lw_at lw_m1 102 rfl) rfl
theorem q246 : (Jvm.Cond.classLink "ClaspedFair$Rows" (9 : Nat) "[[I") ∈ lw_all := lw_g (lw_at lw_m1 103 rfl) rfl
theorem q247 : (Jvm.Cond.fieldLink "ClaspedFair$Rows" (11 : Nat) "ClaspedFair$Rows" "row" "[[I") ∈ lw_all := lw_g (lw_at lw_m1 104 rfl) rfl
theorem q249 : (Jvm.Cond.fieldLink "ClaspedFair$Rows" (16 : Nat) "ClaspedFair$Rows" "many" "I") ∈ lw_all := lw_g (lw_at lw_m1 106 rfl) rfl
theorem q251 : (Jvm.Cond.laysFinal "ClaspedFair$Rows" "ClaspedFair$Rows" "row" "[[I") ∈ lw_all := lw_g (lw_at lw_m1 108 rfl) rfl
theorem q252 : (Jvm.Cond.soleField "ClaspedFair$Rows" "row") ∈ lw_all := lw_g (lw_at lw_m1 109 rfl) rfl
theorem q253 : (Jvm.Cond.lays "ClaspedFair$Rows" "ClaspedFair$Rows" "many" "I") ∈ lw_all := lw_g (lw_at lw_m1 110 rfl) rfl
theorem q254 : (Jvm.Cond.soleField "ClaspedFair$Rows" "many") ∈ lw_all := lw_g (lw_at lw_m1 111 rfl) rfl
theorem q255 : (Jvm.Cond.superclass "ClaspedFair$Rows" "java/lang/Object") ∈ lw_all := lw_g (lw_at lw_m1 112 rfl) rfl
theorem q893 : (Jvm.Cond.selects "ClaspedFair$Rows" ({ cls := "java/lang/Object", name := "getClass", desc := "()Ljava/lang/Class;" } : Jvm.MethodName) ({ cls := "java/lang/Object", name := "getClass", desc := "()Ljava/lang/Class;" } : Jvm.MethodName)) ∈ lw_all := lw_g (lw_at lw_m4 30 rfl) rfl
theorem q1303 : (Jvm.Cond.instanceMethod ({ cls := "ClaspedFair$Rows", name := "ends", desc := "()I" } : Jvm.MethodName)) ∈ lw_all := lw_g (lw_at lw_m5 200 rfl) rfl
theorem q1304 : (Jvm.Cond.selects "ClaspedFair$Rows" ({ cls := "ClaspedFair$Rows", name := "ends", desc := "()I" } : Jvm.MethodName) ({ cls := "ClaspedFair$Rows", name := "ends", desc := "()I" } : Jvm.MethodName)) ∈ lw_all := lw_g (lw_at lw_m5 201 rfl) rfl
theorem q1305 : (Jvm.Cond.code ({ cls := "ClaspedFair$Rows", name := "ends", desc := "()I" } : Jvm.MethodName) prog_17_method_3_code (1 : Nat) (Option.some Jvm.ClassFile.FieldType.int)) ∈ lw_all := lw_g (lw_at lw_m5 202 rfl) rfl
theorem q1307 : (Jvm.Cond.instanceMethod ({ cls := "ClaspedFair$Rows", name := "tells", desc := "(II)I" } : Jvm.MethodName)) ∈ lw_all := lw_g (lw_at lw_m5 204 rfl) rfl
theorem q1308 : (Jvm.Cond.selects "ClaspedFair$Rows" ({ cls := "ClaspedFair$Rows", name := "tells", desc := "(II)I" } : Jvm.MethodName) ({ cls := "ClaspedFair$Rows", name := "tells", desc := "(II)I" } : Jvm.MethodName)) ∈ lw_all := lw_g (lw_at lw_m5 205 rfl) rfl
theorem q1309 : (Jvm.Cond.code ({ cls := "ClaspedFair$Rows", name := "tells", desc := "(II)I" } : Jvm.MethodName) prog_17_method_2_code (3 : Nat) (Option.some Jvm.ClassFile.FieldType.int)) ∈ lw_all := lw_g (lw_at lw_m5 206 rfl) rfl
theorem q1327 : (Jvm.Cond.instanceMethod ({ cls := "ClaspedFair$Rows", name := "first", desc := "(I)I" } : Jvm.MethodName)) ∈ lw_all := lw_g (lw_at lw_m5 224 rfl) rfl
theorem q1328 : (Jvm.Cond.selects "ClaspedFair$Rows" ({ cls := "ClaspedFair$Rows", name := "first", desc := "(I)I" } : Jvm.MethodName) ({ cls := "ClaspedFair$Rows", name := "first", desc := "(I)I" } : Jvm.MethodName)) ∈ lw_all := lw_g (lw_at lw_m5 225 rfl) rfl
theorem q1329 : (Jvm.Cond.code ({ cls := "ClaspedFair$Rows", name := "first", desc := "(I)I" } : Jvm.MethodName) prog_17_method_4_code (2 : Nat) (Option.some Jvm.ClassFile.FieldType.int)) ∈ lw_all := lw_g (lw_at lw_m5 226 rfl) rfl
theorem q1459 : (Jvm.Cond.instanceMethod ({ cls := "ClaspedFair$Rows", name := "takes", desc := "(LClaspedFair$Rows;)V" } : Jvm.MethodName)) ∈ lw_all := lw_g (lw_at lw_m6 116 rfl) rfl
theorem q1460 : (Jvm.Cond.selects "ClaspedFair$Rows" ({ cls := "ClaspedFair$Rows", name := "takes", desc := "(LClaspedFair$Rows;)V" } : Jvm.MethodName) ({ cls := "ClaspedFair$Rows", name := "takes", desc := "(LClaspedFair$Rows;)V" } : Jvm.MethodName)) ∈ lw_all := lw_g (lw_at lw_m6 117 rfl) rfl
theorem q1461 : (Jvm.Cond.code ({ cls := "ClaspedFair$Rows", name := "takes", desc := "(LClaspedFair$Rows;)V" } : Jvm.MethodName) prog_17_method_5_code (4 : Nat) (Option.none : Option Jvm.ClassFile.FieldType)) ∈ lw_all := lw_g (lw_at lw_m6 118 rfl) rfl
theorem q2217 : (Jvm.Cond.castable "ClaspedFair$Rows" "java/lang/Object") ∈ lw_tbl := lw_at lw_m9 154 rfl
abbrev cX4_init : ByteArray := prog_15_method_1_code
def yX4_init : MethodName := ⟨RX4, "<init>", "()V"⟩
def dkwX4_init_0 : List UInt8 := [42, 183, 0, 3, 42, 8, 188, 10, 181, 0, 9, 177]
abbrev dktX4_init_0 : List UInt8 := dkwX4_init_0 ++ []
theorem dksX4_init_0 : cX4_init.data.toList.drop 0 = dktX4_init_0 := by decide +kernel
theorem dX4_init_0 : decode cX4_init 0 = .ok (.aload_n 0, 1) := dk_42 (dk_at dksX4_init_0 0 rfl rfl)
theorem dX4_init_1 : decode cX4_init 1 = .ok (.invokespecial 3, 3) := dk_183 0 3 (dk_at dksX4_init_0 1 rfl rfl)
theorem dX4_init_4 : decode cX4_init 4 = .ok (.aload_n 0, 1) := dk_42 (dk_at dksX4_init_0 4 rfl rfl)
theorem dX4_init_5 : decode cX4_init 5 = .ok (.iconst 5, 1) := dk_8 (dk_at dksX4_init_0 5 rfl rfl)
theorem dX4_init_6 : decode cX4_init 6 = .ok (.newarray .int, 2) := dk_188_10 (dk_at dksX4_init_0 6 rfl rfl)
theorem dX4_init_8 : decode cX4_init 8 = .ok (.putfield 9, 3) := dk_181 0 9 (dk_at dksX4_init_0 8 rfl rfl)
theorem dX4_init_11 : decode cX4_init 11 = .ok (.return_, 1) := dk_177 (dk_at dksX4_init_0 11 rfl rfl)
abbrev cX4_takes : ByteArray := prog_15_method_3_code
def yX4_takes : MethodName := ⟨RX4, "takes", "(LClaspedFair$Person;)V"⟩
def dkwX4_takes_2 : List UInt8 := [181, 0, 22, 177]
abbrev dktX4_takes_2 : List UInt8 := dkwX4_takes_2 ++ []
def dkwX4_takes_1 : List UInt8 := [167, 255, 236, 42, 43, 180, 0, 15, 181, 0, 15, 42, 43, 180, 0, 19, 181, 0, 19, 42, 43, 180, 0, 22]
abbrev dktX4_takes_1 : List UInt8 := dkwX4_takes_1 ++ dktX4_takes_2
def dkwX4_takes_0 : List UInt8 := [3, 61, 28, 8, 162, 0, 21, 42, 180, 0, 9, 28, 43, 180, 0, 9, 28, 46, 79, 132, 2, 1]
abbrev dktX4_takes_0 : List UInt8 := dkwX4_takes_0 ++ dktX4_takes_1
theorem dksX4_takes_0 : cX4_takes.data.toList.drop 0 = dktX4_takes_0 := by decide +kernel
theorem dksX4_takes_1 : cX4_takes.data.toList.drop 22 = dktX4_takes_1 := dk_seg dksX4_takes_0 22 rfl rfl
theorem dksX4_takes_2 : cX4_takes.data.toList.drop 46 = dktX4_takes_2 := dk_seg dksX4_takes_1 24 rfl rfl
theorem dX4_takes_0 : decode cX4_takes 0 = .ok (.iconst 0, 1) := dk_3 (dk_at dksX4_takes_0 0 rfl rfl)
theorem dX4_takes_1 : decode cX4_takes 1 = .ok (.istore_n 2, 1) := dk_61 (dk_at dksX4_takes_0 1 rfl rfl)
theorem dX4_takes_2 : decode cX4_takes 2 = .ok (.iload_n 2, 1) := dk_28 (dk_at dksX4_takes_0 2 rfl rfl)
theorem dX4_takes_3 : decode cX4_takes 3 = .ok (.iconst 5, 1) := dk_8 (dk_at dksX4_takes_0 3 rfl rfl)
theorem dX4_takes_4 : decode cX4_takes 4 = .ok (.if_icmp .ge 21, 3) := dk_162 0 21 (dk_at dksX4_takes_0 4 rfl rfl)
theorem dX4_takes_7 : decode cX4_takes 7 = .ok (.aload_n 0, 1) := dk_42 (dk_at dksX4_takes_0 7 rfl rfl)
theorem dX4_takes_8 : decode cX4_takes 8 = .ok (.getfield 9, 3) := dk_180 0 9 (dk_at dksX4_takes_0 8 rfl rfl)
theorem dX4_takes_11 : decode cX4_takes 11 = .ok (.iload_n 2, 1) := dk_28 (dk_at dksX4_takes_0 11 rfl rfl)
theorem dX4_takes_12 : decode cX4_takes 12 = .ok (.aload_n 1, 1) := dk_43 (dk_at dksX4_takes_0 12 rfl rfl)
theorem dX4_takes_13 : decode cX4_takes 13 = .ok (.getfield 9, 3) := dk_180 0 9 (dk_at dksX4_takes_0 13 rfl rfl)
theorem dX4_takes_16 : decode cX4_takes 16 = .ok (.iload_n 2, 1) := dk_28 (dk_at dksX4_takes_0 16 rfl rfl)
theorem dX4_takes_17 : decode cX4_takes 17 = .ok (.iaload, 1) := dk_46 (dk_at dksX4_takes_0 17 rfl rfl)
theorem dX4_takes_18 : decode cX4_takes 18 = .ok (.iastore, 1) := dk_79 (dk_at dksX4_takes_0 18 rfl rfl)
theorem dX4_takes_19 : decode cX4_takes 19 = .ok (.iinc 2 1, 3) := dk_132 2 1 (dk_at dksX4_takes_0 19 rfl rfl)
theorem dX4_takes_22 : decode cX4_takes 22 = .ok (.goto (-20), 3) := dk_167 255 236 (dk_at dksX4_takes_1 0 rfl rfl)
theorem dX4_takes_25 : decode cX4_takes 25 = .ok (.aload_n 0, 1) := dk_42 (dk_at dksX4_takes_1 3 rfl rfl)
theorem dX4_takes_26 : decode cX4_takes 26 = .ok (.aload_n 1, 1) := dk_43 (dk_at dksX4_takes_1 4 rfl rfl)
theorem dX4_takes_27 : decode cX4_takes 27 = .ok (.getfield 15, 3) := dk_180 0 15 (dk_at dksX4_takes_1 5 rfl rfl)
theorem dX4_takes_30 : decode cX4_takes 30 = .ok (.putfield 15, 3) := dk_181 0 15 (dk_at dksX4_takes_1 8 rfl rfl)
theorem dX4_takes_33 : decode cX4_takes 33 = .ok (.aload_n 0, 1) := dk_42 (dk_at dksX4_takes_1 11 rfl rfl)
theorem dX4_takes_34 : decode cX4_takes 34 = .ok (.aload_n 1, 1) := dk_43 (dk_at dksX4_takes_1 12 rfl rfl)
theorem dX4_takes_35 : decode cX4_takes 35 = .ok (.getfield 19, 3) := dk_180 0 19 (dk_at dksX4_takes_1 13 rfl rfl)
theorem dX4_takes_38 : decode cX4_takes 38 = .ok (.putfield 19, 3) := dk_181 0 19 (dk_at dksX4_takes_1 16 rfl rfl)
theorem dX4_takes_41 : decode cX4_takes 41 = .ok (.aload_n 0, 1) := dk_42 (dk_at dksX4_takes_1 19 rfl rfl)
theorem dX4_takes_42 : decode cX4_takes 42 = .ok (.aload_n 1, 1) := dk_43 (dk_at dksX4_takes_1 20 rfl rfl)
theorem dX4_takes_43 : decode cX4_takes 43 = .ok (.getfield 22, 3) := dk_180 0 22 (dk_at dksX4_takes_1 21 rfl rfl)
theorem dX4_takes_46 : decode cX4_takes 46 = .ok (.putfield 22, 3) := dk_181 0 22 (dk_at dksX4_takes_2 0 rfl rfl)
theorem dX4_takes_49 : decode cX4_takes 49 = .ok (.return_, 1) := dk_177 (dk_at dksX4_takes_2 3 rfl rfl)
abbrev cX4_begins : ByteArray := prog_15_method_2_code
def yX4_begins : MethodName := ⟨RX4, "begins", "(II)V"⟩
def dkwX4_begins_1 : List UInt8 := [181, 0, 15, 42, 3, 181, 0, 19, 42, 3, 181, 0, 22, 177]
abbrev dktX4_begins_1 : List UInt8 := dkwX4_begins_1 ++ []
def dkwX4_begins_0 : List UInt8 := [3, 62, 29, 8, 162, 0, 16, 42, 180, 0, 9, 29, 28, 79, 132, 3, 1, 167, 255, 241, 42, 27]
abbrev dktX4_begins_0 : List UInt8 := dkwX4_begins_0 ++ dktX4_begins_1
theorem dksX4_begins_0 : cX4_begins.data.toList.drop 0 = dktX4_begins_0 := by decide +kernel
theorem dksX4_begins_1 : cX4_begins.data.toList.drop 22 = dktX4_begins_1 := dk_seg dksX4_begins_0 22 rfl rfl
theorem dX4_begins_0 : decode cX4_begins 0 = .ok (.iconst 0, 1) := dk_3 (dk_at dksX4_begins_0 0 rfl rfl)
theorem dX4_begins_1 : decode cX4_begins 1 = .ok (.istore_n 3, 1) := dk_62 (dk_at dksX4_begins_0 1 rfl rfl)
theorem dX4_begins_2 : decode cX4_begins 2 = .ok (.iload_n 3, 1) := dk_29 (dk_at dksX4_begins_0 2 rfl rfl)
theorem dX4_begins_3 : decode cX4_begins 3 = .ok (.iconst 5, 1) := dk_8 (dk_at dksX4_begins_0 3 rfl rfl)
theorem dX4_begins_4 : decode cX4_begins 4 = .ok (.if_icmp .ge 16, 3) := dk_162 0 16 (dk_at dksX4_begins_0 4 rfl rfl)
theorem dX4_begins_7 : decode cX4_begins 7 = .ok (.aload_n 0, 1) := dk_42 (dk_at dksX4_begins_0 7 rfl rfl)
theorem dX4_begins_8 : decode cX4_begins 8 = .ok (.getfield 9, 3) := dk_180 0 9 (dk_at dksX4_begins_0 8 rfl rfl)
theorem dX4_begins_11 : decode cX4_begins 11 = .ok (.iload_n 3, 1) := dk_29 (dk_at dksX4_begins_0 11 rfl rfl)
theorem dX4_begins_12 : decode cX4_begins 12 = .ok (.iload_n 2, 1) := dk_28 (dk_at dksX4_begins_0 12 rfl rfl)
theorem dX4_begins_13 : decode cX4_begins 13 = .ok (.iastore, 1) := dk_79 (dk_at dksX4_begins_0 13 rfl rfl)
theorem dX4_begins_14 : decode cX4_begins 14 = .ok (.iinc 3 1, 3) := dk_132 3 1 (dk_at dksX4_begins_0 14 rfl rfl)
theorem dX4_begins_17 : decode cX4_begins 17 = .ok (.goto (-15), 3) := dk_167 255 241 (dk_at dksX4_begins_0 17 rfl rfl)
theorem dX4_begins_20 : decode cX4_begins 20 = .ok (.aload_n 0, 1) := dk_42 (dk_at dksX4_begins_0 20 rfl rfl)
theorem dX4_begins_21 : decode cX4_begins 21 = .ok (.iload_n 1, 1) := dk_27 (dk_at dksX4_begins_0 21 rfl rfl)
theorem dX4_begins_22 : decode cX4_begins 22 = .ok (.putfield 15, 3) := dk_181 0 15 (dk_at dksX4_begins_1 0 rfl rfl)
theorem dX4_begins_25 : decode cX4_begins 25 = .ok (.aload_n 0, 1) := dk_42 (dk_at dksX4_begins_1 3 rfl rfl)
theorem dX4_begins_26 : decode cX4_begins 26 = .ok (.iconst 0, 1) := dk_3 (dk_at dksX4_begins_1 4 rfl rfl)
theorem dX4_begins_27 : decode cX4_begins 27 = .ok (.putfield 19, 3) := dk_181 0 19 (dk_at dksX4_begins_1 5 rfl rfl)
theorem dX4_begins_30 : decode cX4_begins 30 = .ok (.aload_n 0, 1) := dk_42 (dk_at dksX4_begins_1 8 rfl rfl)
theorem dX4_begins_31 : decode cX4_begins 31 = .ok (.iconst 0, 1) := dk_3 (dk_at dksX4_begins_1 9 rfl rfl)
theorem dX4_begins_32 : decode cX4_begins 32 = .ok (.putfield 22, 3) := dk_181 0 22 (dk_at dksX4_begins_1 10 rfl rfl)
theorem dX4_begins_35 : decode cX4_begins 35 = .ok (.return_, 1) := dk_177 (dk_at dksX4_begins_1 13 rfl rfl)
abbrev cX4_apart : ByteArray := prog_15_method_4_code
def yX4_apart : MethodName := ⟨RX4, "apart", "(LClaspedFair$Person;)I"⟩
def dkwX4_apart_1 : List UInt8 := [184, 0, 25, 96, 61, 132, 3, 1, 167, 255, 229, 28, 172]
abbrev dktX4_apart_1 : List UInt8 := dkwX4_apart_1 ++ []
def dkwX4_apart_0 : List UInt8 := [3, 61, 3, 62, 29, 8, 162, 0, 28, 28, 42, 180, 0, 9, 29, 46, 43, 180, 0, 9, 29, 46, 100]
abbrev dktX4_apart_0 : List UInt8 := dkwX4_apart_0 ++ dktX4_apart_1
theorem dksX4_apart_0 : cX4_apart.data.toList.drop 0 = dktX4_apart_0 := by decide +kernel
theorem dksX4_apart_1 : cX4_apart.data.toList.drop 23 = dktX4_apart_1 := dk_seg dksX4_apart_0 23 rfl rfl
theorem dX4_apart_0 : decode cX4_apart 0 = .ok (.iconst 0, 1) := dk_3 (dk_at dksX4_apart_0 0 rfl rfl)
theorem dX4_apart_1 : decode cX4_apart 1 = .ok (.istore_n 2, 1) := dk_61 (dk_at dksX4_apart_0 1 rfl rfl)
theorem dX4_apart_2 : decode cX4_apart 2 = .ok (.iconst 0, 1) := dk_3 (dk_at dksX4_apart_0 2 rfl rfl)
theorem dX4_apart_3 : decode cX4_apart 3 = .ok (.istore_n 3, 1) := dk_62 (dk_at dksX4_apart_0 3 rfl rfl)
theorem dX4_apart_4 : decode cX4_apart 4 = .ok (.iload_n 3, 1) := dk_29 (dk_at dksX4_apart_0 4 rfl rfl)
theorem dX4_apart_5 : decode cX4_apart 5 = .ok (.iconst 5, 1) := dk_8 (dk_at dksX4_apart_0 5 rfl rfl)
theorem dX4_apart_6 : decode cX4_apart 6 = .ok (.if_icmp .ge 28, 3) := dk_162 0 28 (dk_at dksX4_apart_0 6 rfl rfl)
theorem dX4_apart_9 : decode cX4_apart 9 = .ok (.iload_n 2, 1) := dk_28 (dk_at dksX4_apart_0 9 rfl rfl)
theorem dX4_apart_10 : decode cX4_apart 10 = .ok (.aload_n 0, 1) := dk_42 (dk_at dksX4_apart_0 10 rfl rfl)
theorem dX4_apart_11 : decode cX4_apart 11 = .ok (.getfield 9, 3) := dk_180 0 9 (dk_at dksX4_apart_0 11 rfl rfl)
theorem dX4_apart_14 : decode cX4_apart 14 = .ok (.iload_n 3, 1) := dk_29 (dk_at dksX4_apart_0 14 rfl rfl)
theorem dX4_apart_15 : decode cX4_apart 15 = .ok (.iaload, 1) := dk_46 (dk_at dksX4_apart_0 15 rfl rfl)
theorem dX4_apart_16 : decode cX4_apart 16 = .ok (.aload_n 1, 1) := dk_43 (dk_at dksX4_apart_0 16 rfl rfl)
theorem dX4_apart_17 : decode cX4_apart 17 = .ok (.getfield 9, 3) := dk_180 0 9 (dk_at dksX4_apart_0 17 rfl rfl)
theorem dX4_apart_20 : decode cX4_apart 20 = .ok (.iload_n 3, 1) := dk_29 (dk_at dksX4_apart_0 20 rfl rfl)
theorem dX4_apart_21 : decode cX4_apart 21 = .ok (.iaload, 1) := dk_46 (dk_at dksX4_apart_0 21 rfl rfl)
theorem dX4_apart_22 : decode cX4_apart 22 = .ok (.isub, 1) := dk_100 (dk_at dksX4_apart_0 22 rfl rfl)
theorem dX4_apart_23 : decode cX4_apart 23 = .ok (.invokestatic 25, 3) := dk_184 0 25 (dk_at dksX4_apart_1 0 rfl rfl)
theorem dX4_apart_26 : decode cX4_apart 26 = .ok (.iadd, 1) := dk_96 (dk_at dksX4_apart_1 3 rfl rfl)
theorem dX4_apart_27 : decode cX4_apart 27 = .ok (.istore_n 2, 1) := dk_61 (dk_at dksX4_apart_1 4 rfl rfl)
theorem dX4_apart_28 : decode cX4_apart 28 = .ok (.iinc 3 1, 3) := dk_132 3 1 (dk_at dksX4_apart_1 5 rfl rfl)
theorem dX4_apart_31 : decode cX4_apart 31 = .ok (.goto (-27), 3) := dk_167 255 229 (dk_at dksX4_apart_1 8 rfl rfl)
theorem dX4_apart_34 : decode cX4_apart 34 = .ok (.iload_n 2, 1) := dk_28 (dk_at dksX4_apart_1 11 rfl rfl)
theorem dX4_apart_35 : decode cX4_apart 35 = .ok (.ireturn, 1) := dk_172 (dk_at dksX4_apart_1 12 rfl rfl)
abbrev cX4_most : ByteArray := prog_15_method_5_code
def yX4_most : MethodName := ⟨RX4, "most", "()I"⟩
def dkwX4_most_1 : List UInt8 := [28, 167, 0, 4, 27, 60, 132, 2, 1, 167, 255, 227, 27, 172]
abbrev dktX4_most_1 : List UInt8 := dkwX4_most_1 ++ []
def dkwX4_most_0 : List UInt8 := [3, 60, 4, 61, 28, 8, 162, 0, 30, 42, 180, 0, 9, 28, 46, 42, 180, 0, 9, 27, 46, 164, 0, 7]
abbrev dktX4_most_0 : List UInt8 := dkwX4_most_0 ++ dktX4_most_1
theorem dksX4_most_0 : cX4_most.data.toList.drop 0 = dktX4_most_0 := by decide +kernel
theorem dksX4_most_1 : cX4_most.data.toList.drop 24 = dktX4_most_1 := dk_seg dksX4_most_0 24 rfl rfl
theorem dX4_most_0 : decode cX4_most 0 = .ok (.iconst 0, 1) := dk_3 (dk_at dksX4_most_0 0 rfl rfl)
theorem dX4_most_1 : decode cX4_most 1 = .ok (.istore_n 1, 1) := dk_60 (dk_at dksX4_most_0 1 rfl rfl)
theorem dX4_most_2 : decode cX4_most 2 = .ok (.iconst 1, 1) := dk_4 (dk_at dksX4_most_0 2 rfl rfl)
theorem dX4_most_3 : decode cX4_most 3 = .ok (.istore_n 2, 1) := dk_61 (dk_at dksX4_most_0 3 rfl rfl)
theorem dX4_most_4 : decode cX4_most 4 = .ok (.iload_n 2, 1) := dk_28 (dk_at dksX4_most_0 4 rfl rfl)
theorem dX4_most_5 : decode cX4_most 5 = .ok (.iconst 5, 1) := dk_8 (dk_at dksX4_most_0 5 rfl rfl)
theorem dX4_most_6 : decode cX4_most 6 = .ok (.if_icmp .ge 30, 3) := dk_162 0 30 (dk_at dksX4_most_0 6 rfl rfl)
theorem dX4_most_9 : decode cX4_most 9 = .ok (.aload_n 0, 1) := dk_42 (dk_at dksX4_most_0 9 rfl rfl)
theorem dX4_most_10 : decode cX4_most 10 = .ok (.getfield 9, 3) := dk_180 0 9 (dk_at dksX4_most_0 10 rfl rfl)
theorem dX4_most_13 : decode cX4_most 13 = .ok (.iload_n 2, 1) := dk_28 (dk_at dksX4_most_0 13 rfl rfl)
theorem dX4_most_14 : decode cX4_most 14 = .ok (.iaload, 1) := dk_46 (dk_at dksX4_most_0 14 rfl rfl)
theorem dX4_most_15 : decode cX4_most 15 = .ok (.aload_n 0, 1) := dk_42 (dk_at dksX4_most_0 15 rfl rfl)
theorem dX4_most_16 : decode cX4_most 16 = .ok (.getfield 9, 3) := dk_180 0 9 (dk_at dksX4_most_0 16 rfl rfl)
theorem dX4_most_19 : decode cX4_most 19 = .ok (.iload_n 1, 1) := dk_27 (dk_at dksX4_most_0 19 rfl rfl)
theorem dX4_most_20 : decode cX4_most 20 = .ok (.iaload, 1) := dk_46 (dk_at dksX4_most_0 20 rfl rfl)
theorem dX4_most_21 : decode cX4_most 21 = .ok (.if_icmp .le 7, 3) := dk_164 0 7 (dk_at dksX4_most_0 21 rfl rfl)
theorem dX4_most_24 : decode cX4_most 24 = .ok (.iload_n 2, 1) := dk_28 (dk_at dksX4_most_1 0 rfl rfl)
theorem dX4_most_25 : decode cX4_most 25 = .ok (.goto 4, 3) := dk_167 0 4 (dk_at dksX4_most_1 1 rfl rfl)
theorem dX4_most_28 : decode cX4_most 28 = .ok (.iload_n 1, 1) := dk_27 (dk_at dksX4_most_1 4 rfl rfl)
theorem dX4_most_29 : decode cX4_most 29 = .ok (.istore_n 1, 1) := dk_60 (dk_at dksX4_most_1 5 rfl rfl)
theorem dX4_most_30 : decode cX4_most 30 = .ok (.iinc 2 1, 3) := dk_132 2 1 (dk_at dksX4_most_1 6 rfl rfl)
theorem dX4_most_33 : decode cX4_most 33 = .ok (.goto (-29), 3) := dk_167 255 227 (dk_at dksX4_most_1 9 rfl rfl)
theorem dX4_most_36 : decode cX4_most 36 = .ok (.iload_n 1, 1) := dk_27 (dk_at dksX4_most_1 12 rfl rfl)
theorem dX4_most_37 : decode cX4_most 37 = .ok (.ireturn, 1) := dk_172 (dk_at dksX4_most_1 13 rfl rfl)

theorem q151 : (Jvm.Cond.initialized "ClaspedFair$Person") ∈ lw_all := lw_g (lw_at lw_m1 8 rfl) rfl
theorem q282 : (Jvm.Cond.instantiable "ClaspedFair$Person" (4 : Nat)) ∈ lw_all := lw_g (lw_at lw_m1 139 rfl) rfl
theorem q284 : (Jvm.Cond.instanceMethod ({ cls := "ClaspedFair$Person", name := "<init>", desc := "()V" } : Jvm.MethodName)) ∈ lw_all := lw_g (lw_at lw_m1 141 rfl) rfl
theorem q285 : (Jvm.Cond.code ({ cls := "ClaspedFair$Person", name := "<init>", desc := "()V" } : Jvm.MethodName) prog_15_method_1_code (1 : Nat) (Option.none : Option Jvm.ClassFile.FieldType)) ∈ lw_all := lw_g (lw_at lw_m1 142 rfl) rfl
theorem q286 : (Jvm.Cond.methodLink "ClaspedFair$Person" (3 : Nat) ({ cls := "java/lang/Object", name := "<init>", desc := "()V" } : Jvm.MethodName)) ∈ lw_all := lw_g (lw_at lw_m1 143 rfl) rfl
theorem q287 : (Jvm.Cond.fieldLink "ClaspedFair$Person" (9 : Nat) "ClaspedFair$Person" "trait" "[I") ∈ lw_all := lw_g (lw_at lw_m1 144 rfl) rfl
theorem q292 : (Jvm.Cond.fieldLink "ClaspedFair$Person" (15 : Nat) "ClaspedFair$Person" "purse" "I") ∈ lw_all := lw_g (lw_at lw_m1 149 rfl) rfl
theorem q296 : (Jvm.Cond.fieldLink "ClaspedFair$Person" (19 : Nat) "ClaspedFair$Person" "hand" "I") ∈ lw_all := lw_g (lw_at lw_m1 153 rfl) rfl
theorem q299 : (Jvm.Cond.fieldLink "ClaspedFair$Person" (22 : Nat) "ClaspedFair$Person" "shook" "I") ∈ lw_all := lw_g (lw_at lw_m1 156 rfl) rfl
theorem q302 : (Jvm.Cond.laysFinal "ClaspedFair$Person" "ClaspedFair$Person" "trait" "[I") ∈ lw_all := lw_g (lw_at lw_m1 159 rfl) rfl
theorem q303 : (Jvm.Cond.soleField "ClaspedFair$Person" "trait") ∈ lw_all := lw_g (lw_at lw_m1 160 rfl) rfl
theorem q304 : (Jvm.Cond.lays "ClaspedFair$Person" "ClaspedFair$Person" "purse" "I") ∈ lw_all := lw_g (lw_at lw_m1 161 rfl) rfl
theorem q305 : (Jvm.Cond.soleField "ClaspedFair$Person" "purse") ∈ lw_all := lw_g (lw_at lw_m1 162 rfl) rfl
theorem q306 : (Jvm.Cond.lays "ClaspedFair$Person" "ClaspedFair$Person" "hand" "I") ∈ lw_all := lw_g (lw_at lw_m1 163 rfl) rfl
theorem q307 : (Jvm.Cond.soleField "ClaspedFair$Person" "hand") ∈ lw_all := lw_g (lw_at lw_m1 164 rfl) rfl
theorem q308 : (Jvm.Cond.lays "ClaspedFair$Person" "ClaspedFair$Person" "shook" "I") ∈ lw_all := lw_g (lw_at lw_m1 165 rfl) rfl
theorem q309 : (Jvm.Cond.soleField "ClaspedFair$Person" "shook") ∈ lw_all := lw_g (lw_at lw_m1 166 rfl) rfl
theorem q310 : (Jvm.Cond.superclass "ClaspedFair$Person" "java/lang/Object") ∈ lw_all := lw_g (lw_at lw_m1 167 rfl) rfl
theorem q891 : (Jvm.Cond.selects "ClaspedFair$Person" ({ cls := "java/lang/Object", name := "getClass", desc := "()Ljava/lang/Class;" } : Jvm.MethodName) ({ cls := "java/lang/Object", name := "getClass", desc := "()Ljava/lang/Class;" } : Jvm.MethodName)) ∈ lw_all := lw_g (lw_at lw_m4 28 rfl) rfl
theorem q1028 : (Jvm.Cond.instanceMethod ({ cls := "ClaspedFair$Person", name := "takes", desc := "(LClaspedFair$Person;)V" } : Jvm.MethodName)) ∈ lw_all := lw_g (lw_at lw_m4 165 rfl) rfl
theorem q1029 : (Jvm.Cond.selects "ClaspedFair$Person" ({ cls := "ClaspedFair$Person", name := "takes", desc := "(LClaspedFair$Person;)V" } : Jvm.MethodName) ({ cls := "ClaspedFair$Person", name := "takes", desc := "(LClaspedFair$Person;)V" } : Jvm.MethodName)) ∈ lw_all := lw_g (lw_at lw_m4 166 rfl) rfl
theorem q1030 : (Jvm.Cond.code ({ cls := "ClaspedFair$Person", name := "takes", desc := "(LClaspedFair$Person;)V" } : Jvm.MethodName) prog_15_method_3_code (3 : Nat) (Option.none : Option Jvm.ClassFile.FieldType)) ∈ lw_all := lw_g (lw_at lw_m4 167 rfl) rfl
theorem q1052 : (Jvm.Cond.instanceMethod ({ cls := "ClaspedFair$Person", name := "begins", desc := "(II)V" } : Jvm.MethodName)) ∈ lw_all := lw_g (lw_at lw_m4 189 rfl) rfl
theorem q1053 : (Jvm.Cond.selects "ClaspedFair$Person" ({ cls := "ClaspedFair$Person", name := "begins", desc := "(II)V" } : Jvm.MethodName) ({ cls := "ClaspedFair$Person", name := "begins", desc := "(II)V" } : Jvm.MethodName)) ∈ lw_all := lw_g (lw_at lw_m4 190 rfl) rfl
theorem q1054 : (Jvm.Cond.code ({ cls := "ClaspedFair$Person", name := "begins", desc := "(II)V" } : Jvm.MethodName) prog_15_method_2_code (4 : Nat) (Option.none : Option Jvm.ClassFile.FieldType)) ∈ lw_all := lw_g (lw_at lw_m4 191 rfl) rfl
theorem q1402 : (Jvm.Cond.instanceMethod ({ cls := "ClaspedFair$Person", name := "apart", desc := "(LClaspedFair$Person;)I" } : Jvm.MethodName)) ∈ lw_all := lw_g (lw_at lw_m6 59 rfl) rfl
theorem q1403 : (Jvm.Cond.selects "ClaspedFair$Person" ({ cls := "ClaspedFair$Person", name := "apart", desc := "(LClaspedFair$Person;)I" } : Jvm.MethodName) ({ cls := "ClaspedFair$Person", name := "apart", desc := "(LClaspedFair$Person;)I" } : Jvm.MethodName)) ∈ lw_all := lw_g (lw_at lw_m6 60 rfl) rfl
theorem q1404 : (Jvm.Cond.code ({ cls := "ClaspedFair$Person", name := "apart", desc := "(LClaspedFair$Person;)I" } : Jvm.MethodName) prog_15_method_4_code (4 : Nat) (Option.some Jvm.ClassFile.FieldType.int)) ∈ lw_all := lw_g (lw_at lw_m6 61 rfl) rfl
theorem q1405 : (Jvm.Cond.methodLink "ClaspedFair$Person" (25 : Nat) ({ cls := "java/lang/Math", name := "abs", desc := "(I)I" } : Jvm.MethodName)) ∈ lw_all := lw_g (lw_at lw_m6 62 rfl) rfl
theorem q1413 : (Jvm.Cond.instanceMethod ({ cls := "ClaspedFair$Person", name := "most", desc := "()I" } : Jvm.MethodName)) ∈ lw_all := lw_g (lw_at lw_m6 70 rfl) rfl
theorem q1414 : (Jvm.Cond.selects "ClaspedFair$Person" ({ cls := "ClaspedFair$Person", name := "most", desc := "()I" } : Jvm.MethodName) ({ cls := "ClaspedFair$Person", name := "most", desc := "()I" } : Jvm.MethodName)) ∈ lw_all := lw_g (lw_at lw_m6 71 rfl) rfl
theorem q1415 : (Jvm.Cond.code ({ cls := "ClaspedFair$Person", name := "most", desc := "()I" } : Jvm.MethodName) prog_15_method_5_code (3 : Nat) (Option.some Jvm.ClassFile.FieldType.int)) ∈ lw_all := lw_g (lw_at lw_m6 72 rfl) rfl
theorem q2212 : (Jvm.Cond.castable "ClaspedFair$Person" "java/lang/Object") ∈ lw_tbl := lw_at lw_m9 149 rfl
abbrev cX5_init : ByteArray := prog_8_method_1_code
def yX5_init : MethodName := ⟨RX5, "<init>", "()V"⟩
theorem dX5_init_0 : decode cX5_init 0 = .ok (.aload_n 0, 1) := by decide +kernel
theorem dX5_init_1 : decode cX5_init 1 = .ok (.invokespecial 1, 3) := by decide +kernel
theorem dX5_init_4 : decode cX5_init 4 = .ok (.return_, 1) := by decide +kernel
abbrev cX5_takes : ByteArray := prog_8_method_3_code
def yX5_takes : MethodName := ⟨RX5, "takes", "(LClaspedFair$Horse;)V"⟩
def dkwX5_takes_1 : List UInt8 := [177]
abbrev dktX5_takes_1 : List UInt8 := dkwX5_takes_1 ++ []
def dkwX5_takes_0 : List UInt8 := [42, 43, 180, 0, 7, 43, 180, 0, 13, 43, 180, 0, 16, 182, 0, 22, 42, 43, 180, 0, 19, 181, 0, 19]
abbrev dktX5_takes_0 : List UInt8 := dkwX5_takes_0 ++ dktX5_takes_1
theorem dksX5_takes_0 : cX5_takes.data.toList.drop 0 = dktX5_takes_0 := by decide +kernel
theorem dksX5_takes_1 : cX5_takes.data.toList.drop 24 = dktX5_takes_1 := dk_seg dksX5_takes_0 24 rfl rfl
theorem dX5_takes_0 : decode cX5_takes 0 = .ok (.aload_n 0, 1) := dk_42 (dk_at dksX5_takes_0 0 rfl rfl)
theorem dX5_takes_1 : decode cX5_takes 1 = .ok (.aload_n 1, 1) := dk_43 (dk_at dksX5_takes_0 1 rfl rfl)
theorem dX5_takes_2 : decode cX5_takes 2 = .ok (.getfield 7, 3) := dk_180 0 7 (dk_at dksX5_takes_0 2 rfl rfl)
theorem dX5_takes_5 : decode cX5_takes 5 = .ok (.aload_n 1, 1) := dk_43 (dk_at dksX5_takes_0 5 rfl rfl)
theorem dX5_takes_6 : decode cX5_takes 6 = .ok (.getfield 13, 3) := dk_180 0 13 (dk_at dksX5_takes_0 6 rfl rfl)
theorem dX5_takes_9 : decode cX5_takes 9 = .ok (.aload_n 1, 1) := dk_43 (dk_at dksX5_takes_0 9 rfl rfl)
theorem dX5_takes_10 : decode cX5_takes 10 = .ok (.getfield 16, 3) := dk_180 0 16 (dk_at dksX5_takes_0 10 rfl rfl)
theorem dX5_takes_13 : decode cX5_takes 13 = .ok (.invokevirtual 22, 3) := dk_182 0 22 (dk_at dksX5_takes_0 13 rfl rfl)
theorem dX5_takes_16 : decode cX5_takes 16 = .ok (.aload_n 0, 1) := dk_42 (dk_at dksX5_takes_0 16 rfl rfl)
theorem dX5_takes_17 : decode cX5_takes 17 = .ok (.aload_n 1, 1) := dk_43 (dk_at dksX5_takes_0 17 rfl rfl)
theorem dX5_takes_18 : decode cX5_takes 18 = .ok (.getfield 19, 3) := dk_180 0 19 (dk_at dksX5_takes_0 18 rfl rfl)
theorem dX5_takes_21 : decode cX5_takes 21 = .ok (.putfield 19, 3) := dk_181 0 19 (dk_at dksX5_takes_0 21 rfl rfl)
theorem dX5_takes_24 : decode cX5_takes 24 = .ok (.return_, 1) := dk_177 (dk_at dksX5_takes_1 0 rfl rfl)
abbrev cX5_begins : ByteArray := prog_8_method_2_code
def yX5_begins : MethodName := ⟨RX5, "begins", "(III)V"⟩
def dkwX5_begins_0 : List UInt8 := [42, 27, 181, 0, 7, 42, 28, 181, 0, 13, 42, 29, 181, 0, 16, 42, 3, 181, 0, 19, 177]
abbrev dktX5_begins_0 : List UInt8 := dkwX5_begins_0 ++ []
theorem dksX5_begins_0 : cX5_begins.data.toList.drop 0 = dktX5_begins_0 := by decide +kernel
theorem dX5_begins_0 : decode cX5_begins 0 = .ok (.aload_n 0, 1) := dk_42 (dk_at dksX5_begins_0 0 rfl rfl)
theorem dX5_begins_1 : decode cX5_begins 1 = .ok (.iload_n 1, 1) := dk_27 (dk_at dksX5_begins_0 1 rfl rfl)
theorem dX5_begins_2 : decode cX5_begins 2 = .ok (.putfield 7, 3) := dk_181 0 7 (dk_at dksX5_begins_0 2 rfl rfl)
theorem dX5_begins_5 : decode cX5_begins 5 = .ok (.aload_n 0, 1) := dk_42 (dk_at dksX5_begins_0 5 rfl rfl)
theorem dX5_begins_6 : decode cX5_begins 6 = .ok (.iload_n 2, 1) := dk_28 (dk_at dksX5_begins_0 6 rfl rfl)
theorem dX5_begins_7 : decode cX5_begins 7 = .ok (.putfield 13, 3) := dk_181 0 13 (dk_at dksX5_begins_0 7 rfl rfl)
theorem dX5_begins_10 : decode cX5_begins 10 = .ok (.aload_n 0, 1) := dk_42 (dk_at dksX5_begins_0 10 rfl rfl)
theorem dX5_begins_11 : decode cX5_begins 11 = .ok (.iload_n 3, 1) := dk_29 (dk_at dksX5_begins_0 11 rfl rfl)
theorem dX5_begins_12 : decode cX5_begins 12 = .ok (.putfield 16, 3) := dk_181 0 16 (dk_at dksX5_begins_0 12 rfl rfl)
theorem dX5_begins_15 : decode cX5_begins 15 = .ok (.aload_n 0, 1) := dk_42 (dk_at dksX5_begins_0 15 rfl rfl)
theorem dX5_begins_16 : decode cX5_begins 16 = .ok (.iconst 0, 1) := dk_3 (dk_at dksX5_begins_0 16 rfl rfl)
theorem dX5_begins_17 : decode cX5_begins 17 = .ok (.putfield 19, 3) := dk_181 0 19 (dk_at dksX5_begins_0 17 rfl rfl)
theorem dX5_begins_20 : decode cX5_begins 20 = .ok (.return_, 1) := dk_177 (dk_at dksX5_begins_0 20 rfl rfl)

theorem q152 : (Jvm.Cond.initialized "ClaspedFair$Horse") ∈ lw_all := lw_g (lw_at lw_m1 9 rfl) rfl
theorem q311 : (Jvm.Cond.instantiable "ClaspedFair$Horse" (4 : Nat)) ∈ lw_all := lw_g (lw_at lw_m1 168 rfl) rfl
theorem q313 : (Jvm.Cond.instanceMethod ({ cls := "ClaspedFair$Horse", name := "<init>", desc := "()V" } : Jvm.MethodName)) ∈ lw_all := lw_g (lw_at lw_m1 170 rfl) rfl
theorem q314 : (Jvm.Cond.code ({ cls := "ClaspedFair$Horse", name := "<init>", desc := "()V" } : Jvm.MethodName) prog_8_method_1_code (1 : Nat) (Option.none : Option Jvm.ClassFile.FieldType)) ∈ lw_all := lw_g (lw_at lw_m1 171 rfl) rfl
theorem q315 : (Jvm.Cond.methodLink "ClaspedFair$Horse" (1 : Nat) ({ cls := "java/lang/Object", name := "<init>", desc := "()V" } : Jvm.MethodName)) ∈ lw_all := lw_g (lw_at lw_m1 172 rfl) rfl
theorem q316 : (Jvm.Cond.fieldLink "ClaspedFair$Horse" (7 : Nat) "ClaspedFair$Horse" "owner" "I") ∈ lw_all := lw_g (lw_at lw_m1 173 rfl) rfl
theorem q319 : (Jvm.Cond.fieldLink "ClaspedFair$Horse" (13 : Nat) "ClaspedFair$Horse" "worth" "I") ∈ lw_all := lw_g (lw_at lw_m1 176 rfl) rfl
theorem q322 : (Jvm.Cond.fieldLink "ClaspedFair$Horse" (16 : Nat) "ClaspedFair$Horse" "spirit" "I") ∈ lw_all := lw_g (lw_at lw_m1 179 rfl) rfl
theorem q325 : (Jvm.Cond.fieldLink "ClaspedFair$Horse" (19 : Nat) "ClaspedFair$Horse" "sold" "I") ∈ lw_all := lw_g (lw_at lw_m1 182 rfl) rfl
theorem q328 : (Jvm.Cond.lays "ClaspedFair$Horse" "ClaspedFair$Horse" "owner" "I") ∈ lw_all := lw_g (lw_at lw_m1 185 rfl) rfl
theorem q329 : (Jvm.Cond.soleField "ClaspedFair$Horse" "owner") ∈ lw_all := lw_g (lw_at lw_m1 186 rfl) rfl
theorem q330 : (Jvm.Cond.lays "ClaspedFair$Horse" "ClaspedFair$Horse" "worth" "I") ∈ lw_all := lw_g (lw_at lw_m1 187 rfl) rfl
theorem q331 : (Jvm.Cond.soleField "ClaspedFair$Horse" "worth") ∈ lw_all := lw_g (lw_at lw_m1 188 rfl) rfl
theorem q332 : (Jvm.Cond.lays "ClaspedFair$Horse" "ClaspedFair$Horse" "spirit" "I") ∈ lw_all := lw_g (lw_at lw_m1 189 rfl) rfl
theorem q333 : (Jvm.Cond.soleField "ClaspedFair$Horse" "spirit") ∈ lw_all := lw_g (lw_at lw_m1 190 rfl) rfl
theorem q334 : (Jvm.Cond.lays "ClaspedFair$Horse" "ClaspedFair$Horse" "sold" "I") ∈ lw_all := lw_g (lw_at lw_m1 191 rfl) rfl
theorem q335 : (Jvm.Cond.soleField "ClaspedFair$Horse" "sold") ∈ lw_all := lw_g (lw_at lw_m1 192 rfl) rfl
theorem q336 : (Jvm.Cond.superclass "ClaspedFair$Horse" "java/lang/Object") ∈ lw_all := lw_g (lw_at lw_m1 193 rfl) rfl
theorem q884 : (Jvm.Cond.selects "ClaspedFair$Horse" ({ cls := "java/lang/Object", name := "getClass", desc := "()Ljava/lang/Class;" } : Jvm.MethodName) ({ cls := "java/lang/Object", name := "getClass", desc := "()Ljava/lang/Class;" } : Jvm.MethodName)) ∈ lw_all := lw_g (lw_at lw_m4 21 rfl) rfl
theorem q1032 : (Jvm.Cond.instanceMethod ({ cls := "ClaspedFair$Horse", name := "takes", desc := "(LClaspedFair$Horse;)V" } : Jvm.MethodName)) ∈ lw_all := lw_g (lw_at lw_m4 169 rfl) rfl
theorem q1033 : (Jvm.Cond.selects "ClaspedFair$Horse" ({ cls := "ClaspedFair$Horse", name := "takes", desc := "(LClaspedFair$Horse;)V" } : Jvm.MethodName) ({ cls := "ClaspedFair$Horse", name := "takes", desc := "(LClaspedFair$Horse;)V" } : Jvm.MethodName)) ∈ lw_all := lw_g (lw_at lw_m4 170 rfl) rfl
theorem q1034 : (Jvm.Cond.code ({ cls := "ClaspedFair$Horse", name := "takes", desc := "(LClaspedFair$Horse;)V" } : Jvm.MethodName) prog_8_method_3_code (2 : Nat) (Option.none : Option Jvm.ClassFile.FieldType)) ∈ lw_all := lw_g (lw_at lw_m4 171 rfl) rfl
theorem q1035 : (Jvm.Cond.methodLink "ClaspedFair$Horse" (22 : Nat) ({ cls := "ClaspedFair$Horse", name := "begins", desc := "(III)V" } : Jvm.MethodName)) ∈ lw_all := lw_g (lw_at lw_m4 172 rfl) rfl
theorem q1036 : (Jvm.Cond.instanceMethod ({ cls := "ClaspedFair$Horse", name := "begins", desc := "(III)V" } : Jvm.MethodName)) ∈ lw_all := lw_g (lw_at lw_m4 173 rfl) rfl
theorem q1037 : (Jvm.Cond.selects "ClaspedFair$Horse" ({ cls := "ClaspedFair$Horse", name := "begins", desc := "(III)V" } : Jvm.MethodName) ({ cls := "ClaspedFair$Horse", name := "begins", desc := "(III)V" } : Jvm.MethodName)) ∈ lw_all := lw_g (lw_at lw_m4 174 rfl) rfl
theorem q1038 : (Jvm.Cond.code ({ cls := "ClaspedFair$Horse", name := "begins", desc := "(III)V" } : Jvm.MethodName) prog_8_method_2_code (4 : Nat) (Option.none : Option Jvm.ClassFile.FieldType)) ∈ lw_all := lw_g (lw_at lw_m4 175 rfl) rfl
theorem q2213 : (Jvm.Cond.castable "ClaspedFair$Horse" "java/lang/Object") ∈ lw_tbl := lw_at lw_m9 150 rfl
abbrev cX8_init : ByteArray := prog_4_method_1_code
def yX8_init : MethodName := ⟨RX8, "<init>", "(II)V"⟩
def dkwX8_init_0 : List UInt8 := [42, 183, 0, 1, 42, 27, 181, 0, 7, 42, 28, 181, 0, 13, 177]
abbrev dktX8_init_0 : List UInt8 := dkwX8_init_0 ++ []
theorem dksX8_init_0 : cX8_init.data.toList.drop 0 = dktX8_init_0 := by decide +kernel
theorem dX8_init_0 : decode cX8_init 0 = .ok (.aload_n 0, 1) := dk_42 (dk_at dksX8_init_0 0 rfl rfl)
theorem dX8_init_1 : decode cX8_init 1 = .ok (.invokespecial 1, 3) := dk_183 0 1 (dk_at dksX8_init_0 1 rfl rfl)
theorem dX8_init_4 : decode cX8_init 4 = .ok (.aload_n 0, 1) := dk_42 (dk_at dksX8_init_0 4 rfl rfl)
theorem dX8_init_5 : decode cX8_init 5 = .ok (.iload_n 1, 1) := dk_27 (dk_at dksX8_init_0 5 rfl rfl)
theorem dX8_init_6 : decode cX8_init 6 = .ok (.putfield 7, 3) := dk_181 0 7 (dk_at dksX8_init_0 6 rfl rfl)
theorem dX8_init_9 : decode cX8_init 9 = .ok (.aload_n 0, 1) := dk_42 (dk_at dksX8_init_0 9 rfl rfl)
theorem dX8_init_10 : decode cX8_init 10 = .ok (.iload_n 2, 1) := dk_28 (dk_at dksX8_init_0 10 rfl rfl)
theorem dX8_init_11 : decode cX8_init 11 = .ok (.putfield 13, 3) := dk_181 0 13 (dk_at dksX8_init_0 11 rfl rfl)
theorem dX8_init_14 : decode cX8_init 14 = .ok (.return_, 1) := dk_177 (dk_at dksX8_init_0 14 rfl rfl)

theorem q163 : (Jvm.Cond.initialized "ClaspedFair$Fault") ∈ lw_all := lw_g (lw_at lw_m1 20 rfl) rfl
theorem q676 : (Jvm.Cond.instantiable "ClaspedFair$Fault" (8 : Nat)) ∈ lw_all := lw_g (lw_at lw_m3 53 rfl) rfl
theorem q677 : (Jvm.Cond.castable "ClaspedFair$Fault" "ClaspedFair$Fault") ∈ lw_tbl := lw_at lw_m3 54 rfl
theorem q682 : (Jvm.Cond.selects "ClaspedFair$Fault" ({ cls := "java/lang/Throwable", name := "fillInStackTrace", desc := "(I)Ljava/lang/Throwable;" } : Jvm.MethodName) ({ cls := "java/lang/Throwable", name := "fillInStackTrace", desc := "(I)Ljava/lang/Throwable;" } : Jvm.MethodName)) ∈ lw_all := lw_g (lw_at lw_m3 59 rfl) rfl
theorem q683 : (Jvm.Cond.selects "ClaspedFair$Fault" ({ cls := "java/lang/Throwable", name := "fillInStackTrace", desc := "()Ljava/lang/Throwable;" } : Jvm.MethodName) ({ cls := "java/lang/Throwable", name := "fillInStackTrace", desc := "()Ljava/lang/Throwable;" } : Jvm.MethodName)) ∈ lw_all := lw_g (lw_at lw_m3 60 rfl) rfl
theorem q684 : (Jvm.Cond.lays "ClaspedFair$Fault" "java/lang/Throwable" "cause" "Ljava/lang/Throwable;") ∈ lw_all := lw_g (lw_at lw_m3 61 rfl) rfl
theorem q686 : (Jvm.Cond.lays "ClaspedFair$Fault" "java/lang/Throwable" "stackTrace" "[Ljava/lang/StackTraceElement;") ∈ lw_all := lw_g (lw_at lw_m3 63 rfl) rfl
theorem q688 : (Jvm.Cond.lays "ClaspedFair$Fault" "java/lang/Throwable" "suppressedExceptions" "Ljava/util/List;") ∈ lw_all := lw_g (lw_at lw_m3 65 rfl) rfl
theorem q690 : (Jvm.Cond.lays "ClaspedFair$Fault" "java/lang/Throwable" "detailMessage" "Ljava/lang/String;") ∈ lw_all := lw_g (lw_at lw_m3 67 rfl) rfl
theorem q692 : (Jvm.Cond.lays "ClaspedFair$Fault" "java/lang/Throwable" "backtrace" "Ljava/lang/Object;") ∈ lw_all := lw_g (lw_at lw_m3 69 rfl) rfl
theorem q713 : (Jvm.Cond.instanceMethod ({ cls := "ClaspedFair$Fault", name := "<init>", desc := "(II)V" } : Jvm.MethodName)) ∈ lw_all := lw_g (lw_at lw_m3 90 rfl) rfl
theorem q714 : (Jvm.Cond.code ({ cls := "ClaspedFair$Fault", name := "<init>", desc := "(II)V" } : Jvm.MethodName) prog_4_method_1_code (3 : Nat) (Option.none : Option Jvm.ClassFile.FieldType)) ∈ lw_all := lw_g (lw_at lw_m3 91 rfl) rfl
theorem q715 : (Jvm.Cond.methodLink "ClaspedFair$Fault" (1 : Nat) ({ cls := "java/lang/Exception", name := "<init>", desc := "()V" } : Jvm.MethodName)) ∈ lw_all := lw_g (lw_at lw_m3 92 rfl) rfl
theorem q719 : (Jvm.Cond.fieldLink "ClaspedFair$Fault" (7 : Nat) "ClaspedFair$Fault" "kind" "I") ∈ lw_all := lw_g (lw_at lw_m3 96 rfl) rfl
theorem q721 : (Jvm.Cond.fieldLink "ClaspedFair$Fault" (13 : Nat) "ClaspedFair$Fault" "place" "I") ∈ lw_all := lw_g (lw_at lw_m3 98 rfl) rfl
theorem q727 : (Jvm.Cond.laysFinal "ClaspedFair$Fault" "ClaspedFair$Fault" "kind" "I") ∈ lw_all := lw_g (lw_at lw_m3 104 rfl) rfl
theorem q728 : (Jvm.Cond.soleField "ClaspedFair$Fault" "kind") ∈ lw_all := lw_g (lw_at lw_m3 105 rfl) rfl
theorem q729 : (Jvm.Cond.laysFinal "ClaspedFair$Fault" "ClaspedFair$Fault" "place" "I") ∈ lw_all := lw_g (lw_at lw_m3 106 rfl) rfl
theorem q730 : (Jvm.Cond.soleField "ClaspedFair$Fault" "place") ∈ lw_all := lw_g (lw_at lw_m3 107 rfl) rfl
theorem q735 : (Jvm.Cond.lays "ClaspedFair$Fault" "java/lang/Throwable" "depth" "I") ∈ lw_all := lw_g (lw_at lw_m3 112 rfl) rfl
theorem q738 : (Jvm.Cond.superclass "ClaspedFair$Fault" "java/lang/Exception") ∈ lw_all := lw_g (lw_at lw_m3 115 rfl) rfl
theorem q881 : (Jvm.Cond.selects "ClaspedFair$Fault" ({ cls := "java/lang/Object", name := "getClass", desc := "()Ljava/lang/Class;" } : Jvm.MethodName) ({ cls := "java/lang/Object", name := "getClass", desc := "()Ljava/lang/Class;" } : Jvm.MethodName)) ∈ lw_all := lw_g (lw_at lw_m4 18 rfl) rfl
theorem q2221 : (Jvm.Cond.castable "ClaspedFair$Fault" "java/lang/Object") ∈ lw_tbl := lw_at lw_m9 158 rfl
abbrev cX9_init : ByteArray := prog_19_method_1_code
def yX9_init : MethodName := ⟨RX9, "<init>", "()V"⟩
theorem dX9_init_0 : decode cX9_init 0 = .ok (.aload_n 0, 1) := by decide +kernel
theorem dX9_init_1 : decode cX9_init 1 = .ok (.invokespecial 1, 3) := by decide +kernel
theorem dX9_init_4 : decode cX9_init 4 = .ok (.return_, 1) := by decide +kernel

theorem q164 : (Jvm.Cond.initialized "ClaspedFair$Term") ∈ lw_all := lw_g (lw_at lw_m1 21 rfl) rfl
theorem q765 : (Jvm.Cond.instanceMethod ({ cls := "ClaspedFair$Term", name := "<init>", desc := "()V" } : Jvm.MethodName)) ∈ lw_all := lw_g (lw_at lw_m3 142 rfl) rfl
theorem q766 : (Jvm.Cond.code ({ cls := "ClaspedFair$Term", name := "<init>", desc := "()V" } : Jvm.MethodName) prog_19_method_1_code (1 : Nat) (Option.none : Option Jvm.ClassFile.FieldType)) ∈ lw_all := lw_g (lw_at lw_m3 143 rfl) rfl
theorem q767 : (Jvm.Cond.methodLink "ClaspedFair$Term" (1 : Nat) ({ cls := "java/lang/Object", name := "<init>", desc := "()V" } : Jvm.MethodName)) ∈ lw_all := lw_g (lw_at lw_m3 144 rfl) rfl
theorem q1122 : (Jvm.Cond.declares ({ cls := "ClaspedFair$Term", name := "of", desc := "(LClaspedFair$Asker;)I" } : Jvm.MethodName)) ∈ lw_tbl := lw_at lw_m5 19 rfl
theorem q1123 : (Jvm.Cond.sameMethod "ClaspedFair$Term" "ClaspedFair$Term" "of" "(LClaspedFair$Asker;)I") ∈ lw_all := lw_g (lw_at lw_m5 20 rfl) rfl
abbrev cX10_init : ByteArray := prog_5_method_1_code
def yX10_init : MethodName := ⟨RX10, "<init>", "(I)V"⟩
def dkwX10_init_0 : List UInt8 := [42, 183, 0, 1, 42, 27, 181, 0, 7, 177]
abbrev dktX10_init_0 : List UInt8 := dkwX10_init_0 ++ []
theorem dksX10_init_0 : cX10_init.data.toList.drop 0 = dktX10_init_0 := by decide +kernel
theorem dX10_init_0 : decode cX10_init 0 = .ok (.aload_n 0, 1) := dk_42 (dk_at dksX10_init_0 0 rfl rfl)
theorem dX10_init_1 : decode cX10_init 1 = .ok (.invokespecial 1, 3) := dk_183 0 1 (dk_at dksX10_init_0 1 rfl rfl)
theorem dX10_init_4 : decode cX10_init 4 = .ok (.aload_n 0, 1) := dk_42 (dk_at dksX10_init_0 4 rfl rfl)
theorem dX10_init_5 : decode cX10_init 5 = .ok (.iload_n 1, 1) := dk_27 (dk_at dksX10_init_0 5 rfl rfl)
theorem dX10_init_6 : decode cX10_init 6 = .ok (.putfield 7, 3) := dk_181 0 7 (dk_at dksX10_init_0 6 rfl rfl)
theorem dX10_init_9 : decode cX10_init 9 = .ok (.return_, 1) := dk_177 (dk_at dksX10_init_0 9 rfl rfl)
abbrev cX10_of : ByteArray := prog_5_method_2_code
def yX10_of : MethodName := ⟨RX10, "of", "(LClaspedFair$Asker;)I"⟩
theorem dX10_of_0 : decode cX10_of 0 = .ok (.aload_n 0, 1) := by decide +kernel
theorem dX10_of_1 : decode cX10_of 1 = .ok (.getfield 7, 3) := by decide +kernel
theorem dX10_of_4 : decode cX10_of 4 = .ok (.ireturn, 1) := by decide +kernel

theorem q165 : (Jvm.Cond.initialized "ClaspedFair$Fixed") ∈ lw_all := lw_g (lw_at lw_m1 22 rfl) rfl
theorem q756 : (Jvm.Cond.instantiable "ClaspedFair$Fixed" (1 : Nat)) ∈ lw_all := lw_g (lw_at lw_m3 133 rfl) rfl
theorem q762 : (Jvm.Cond.instanceMethod ({ cls := "ClaspedFair$Fixed", name := "<init>", desc := "(I)V" } : Jvm.MethodName)) ∈ lw_all := lw_g (lw_at lw_m3 139 rfl) rfl
theorem q763 : (Jvm.Cond.code ({ cls := "ClaspedFair$Fixed", name := "<init>", desc := "(I)V" } : Jvm.MethodName) prog_5_method_1_code (2 : Nat) (Option.none : Option Jvm.ClassFile.FieldType)) ∈ lw_all := lw_g (lw_at lw_m3 140 rfl) rfl
theorem q764 : (Jvm.Cond.methodLinkNest "ClaspedFair$Fixed" (1 : Nat) ({ cls := "ClaspedFair$Term", name := "<init>", desc := "()V" } : Jvm.MethodName) "ClaspedFair") ∈ lw_tbl := lw_at lw_m3 141 rfl
theorem q768 : (Jvm.Cond.fieldLink "ClaspedFair$Fixed" (7 : Nat) "ClaspedFair$Fixed" "value" "I") ∈ lw_all := lw_g (lw_at lw_m3 145 rfl) rfl
theorem q769 : (Jvm.Cond.laysFinal "ClaspedFair$Fixed" "ClaspedFair$Fixed" "value" "I") ∈ lw_all := lw_g (lw_at lw_m3 146 rfl) rfl
theorem q770 : (Jvm.Cond.soleField "ClaspedFair$Fixed" "value") ∈ lw_all := lw_g (lw_at lw_m3 147 rfl) rfl
theorem q771 : (Jvm.Cond.superclass "ClaspedFair$Fixed" "ClaspedFair$Term") ∈ lw_all := lw_g (lw_at lw_m3 148 rfl) rfl
theorem q882 : (Jvm.Cond.selects "ClaspedFair$Fixed" ({ cls := "java/lang/Object", name := "getClass", desc := "()Ljava/lang/Class;" } : Jvm.MethodName) ({ cls := "java/lang/Object", name := "getClass", desc := "()Ljava/lang/Class;" } : Jvm.MethodName)) ∈ lw_all := lw_g (lw_at lw_m4 19 rfl) rfl
theorem q1124 : (Jvm.Cond.selects "ClaspedFair$Fixed" ({ cls := "ClaspedFair$Term", name := "of", desc := "(LClaspedFair$Asker;)I" } : Jvm.MethodName) ({ cls := "ClaspedFair$Fixed", name := "of", desc := "(LClaspedFair$Asker;)I" } : Jvm.MethodName)) ∈ lw_all := lw_g (lw_at lw_m5 21 rfl) rfl
theorem q1125 : (Jvm.Cond.instanceMethod ({ cls := "ClaspedFair$Fixed", name := "of", desc := "(LClaspedFair$Asker;)I" } : Jvm.MethodName)) ∈ lw_all := lw_g (lw_at lw_m5 22 rfl) rfl
theorem q1126 : (Jvm.Cond.code ({ cls := "ClaspedFair$Fixed", name := "of", desc := "(LClaspedFair$Asker;)I" } : Jvm.MethodName) prog_5_method_2_code (2 : Nat) (Option.some Jvm.ClassFile.FieldType.int)) ∈ lw_all := lw_g (lw_at lw_m5 23 rfl) rfl
theorem q2222 : (Jvm.Cond.castable "ClaspedFair$Fixed" "java/lang/Object") ∈ lw_tbl := lw_at lw_m9 159 rfl
abbrev cX11_init : ByteArray := prog_10_method_1_code
def yX11_init : MethodName := ⟨RX11, "<init>", "(I)V"⟩
def dkwX11_init_0 : List UInt8 := [42, 183, 0, 1, 42, 27, 181, 0, 7, 177]
abbrev dktX11_init_0 : List UInt8 := dkwX11_init_0 ++ []
theorem dksX11_init_0 : cX11_init.data.toList.drop 0 = dktX11_init_0 := by decide +kernel
theorem dX11_init_0 : decode cX11_init 0 = .ok (.aload_n 0, 1) := dk_42 (dk_at dksX11_init_0 0 rfl rfl)
theorem dX11_init_1 : decode cX11_init 1 = .ok (.invokespecial 1, 3) := dk_183 0 1 (dk_at dksX11_init_0 1 rfl rfl)
theorem dX11_init_4 : decode cX11_init 4 = .ok (.aload_n 0, 1) := dk_42 (dk_at dksX11_init_0 4 rfl rfl)
theorem dX11_init_5 : decode cX11_init 5 = .ok (.iload_n 1, 1) := dk_27 (dk_at dksX11_init_0 5 rfl rfl)
theorem dX11_init_6 : decode cX11_init 6 = .ok (.putfield 7, 3) := dk_181 0 7 (dk_at dksX11_init_0 6 rfl rfl)
theorem dX11_init_9 : decode cX11_init 9 = .ok (.return_, 1) := dk_177 (dk_at dksX11_init_0 9 rfl rfl)
abbrev cX11_of : ByteArray := prog_10_method_2_code
def yX11_of : MethodName := ⟨RX11, "of", "(LClaspedFair$Asker;)I"⟩
def dkwX11_of_0 : List UInt8 := [43, 42, 180, 0, 7, 185, 0, 13, 2, 0, 172]
abbrev dktX11_of_0 : List UInt8 := dkwX11_of_0 ++ []
theorem dksX11_of_0 : cX11_of.data.toList.drop 0 = dktX11_of_0 := by decide +kernel
theorem dX11_of_0 : decode cX11_of 0 = .ok (.aload_n 1, 1) := dk_43 (dk_at dksX11_of_0 0 rfl rfl)
theorem dX11_of_1 : decode cX11_of 1 = .ok (.aload_n 0, 1) := dk_42 (dk_at dksX11_of_0 1 rfl rfl)
theorem dX11_of_2 : decode cX11_of 2 = .ok (.getfield 7, 3) := dk_180 0 7 (dk_at dksX11_of_0 2 rfl rfl)
theorem dX11_of_5 : decode cX11_of 5 = .ok (.invokeinterface 13 2, 5) := by decide +kernel
theorem dX11_of_10 : decode cX11_of 10 = .ok (.ireturn, 1) := dk_172 (dk_at dksX11_of_0 10 rfl rfl)

theorem q166 : (Jvm.Cond.initialized "ClaspedFair$Known") ∈ lw_all := lw_g (lw_at lw_m1 23 rfl) rfl
theorem q773 : (Jvm.Cond.instantiable "ClaspedFair$Known" (1 : Nat)) ∈ lw_all := lw_g (lw_at lw_m3 150 rfl) rfl
theorem q775 : (Jvm.Cond.instanceMethod ({ cls := "ClaspedFair$Known", name := "<init>", desc := "(I)V" } : Jvm.MethodName)) ∈ lw_all := lw_g (lw_at lw_m3 152 rfl) rfl
theorem q776 : (Jvm.Cond.code ({ cls := "ClaspedFair$Known", name := "<init>", desc := "(I)V" } : Jvm.MethodName) prog_10_method_1_code (2 : Nat) (Option.none : Option Jvm.ClassFile.FieldType)) ∈ lw_all := lw_g (lw_at lw_m3 153 rfl) rfl
theorem q777 : (Jvm.Cond.methodLinkNest "ClaspedFair$Known" (1 : Nat) ({ cls := "ClaspedFair$Term", name := "<init>", desc := "()V" } : Jvm.MethodName) "ClaspedFair") ∈ lw_tbl := lw_at lw_m3 154 rfl
theorem q778 : (Jvm.Cond.fieldLink "ClaspedFair$Known" (7 : Nat) "ClaspedFair$Known" "what" "I") ∈ lw_all := lw_g (lw_at lw_m3 155 rfl) rfl
theorem q779 : (Jvm.Cond.laysFinal "ClaspedFair$Known" "ClaspedFair$Known" "what" "I") ∈ lw_all := lw_g (lw_at lw_m3 156 rfl) rfl
theorem q780 : (Jvm.Cond.soleField "ClaspedFair$Known" "what") ∈ lw_all := lw_g (lw_at lw_m3 157 rfl) rfl
theorem q781 : (Jvm.Cond.superclass "ClaspedFair$Known" "ClaspedFair$Term") ∈ lw_all := lw_g (lw_at lw_m3 158 rfl) rfl
theorem q886 : (Jvm.Cond.selects "ClaspedFair$Known" ({ cls := "java/lang/Object", name := "getClass", desc := "()Ljava/lang/Class;" } : Jvm.MethodName) ({ cls := "java/lang/Object", name := "getClass", desc := "()Ljava/lang/Class;" } : Jvm.MethodName)) ∈ lw_all := lw_g (lw_at lw_m4 23 rfl) rfl
theorem q1131 : (Jvm.Cond.instanceMethod ({ cls := "ClaspedFair$Known", name := "of", desc := "(LClaspedFair$Asker;)I" } : Jvm.MethodName)) ∈ lw_all := lw_g (lw_at lw_m5 28 rfl) rfl
theorem q1132 : (Jvm.Cond.code ({ cls := "ClaspedFair$Known", name := "of", desc := "(LClaspedFair$Asker;)I" } : Jvm.MethodName) prog_10_method_2_code (2 : Nat) (Option.some Jvm.ClassFile.FieldType.int)) ∈ lw_all := lw_g (lw_at lw_m5 29 rfl) rfl
theorem q1133 : (Jvm.Cond.interfaceEntry "ClaspedFair$Known" (13 : Nat)) ∈ lw_tbl := lw_at lw_m5 30 rfl
theorem q1134 : (Jvm.Cond.methodLink "ClaspedFair$Known" (13 : Nat) ({ cls := "ClaspedFair$Asker", name := "fact", desc := "(I)I" } : Jvm.MethodName)) ∈ lw_all := lw_g (lw_at lw_m5 31 rfl) rfl
theorem q1147 : (Jvm.Cond.selects "ClaspedFair$Known" ({ cls := "ClaspedFair$Term", name := "of", desc := "(LClaspedFair$Asker;)I" } : Jvm.MethodName) ({ cls := "ClaspedFair$Known", name := "of", desc := "(LClaspedFair$Asker;)I" } : Jvm.MethodName)) ∈ lw_all := lw_g (lw_at lw_m5 44 rfl) rfl
theorem q2223 : (Jvm.Cond.castable "ClaspedFair$Known" "java/lang/Object") ∈ lw_tbl := lw_at lw_m9 160 rfl
abbrev cX12_init : ByteArray := prog_9_method_1_code
def yX12_init : MethodName := ⟨RX12, "<init>", "(LClaspedFair$Term;ILClaspedFair$Term;)V"⟩
def dkwX12_init_0 : List UInt8 := [42, 183, 0, 3, 42, 43, 181, 0, 9, 42, 28, 181, 0, 15, 42, 45, 181, 0, 19, 177]
abbrev dktX12_init_0 : List UInt8 := dkwX12_init_0 ++ []
theorem dksX12_init_0 : cX12_init.data.toList.drop 0 = dktX12_init_0 := by decide +kernel
theorem dX12_init_0 : decode cX12_init 0 = .ok (.aload_n 0, 1) := dk_42 (dk_at dksX12_init_0 0 rfl rfl)
theorem dX12_init_1 : decode cX12_init 1 = .ok (.invokespecial 3, 3) := dk_183 0 3 (dk_at dksX12_init_0 1 rfl rfl)
theorem dX12_init_4 : decode cX12_init 4 = .ok (.aload_n 0, 1) := dk_42 (dk_at dksX12_init_0 4 rfl rfl)
theorem dX12_init_5 : decode cX12_init 5 = .ok (.aload_n 1, 1) := dk_43 (dk_at dksX12_init_0 5 rfl rfl)
theorem dX12_init_6 : decode cX12_init 6 = .ok (.putfield 9, 3) := dk_181 0 9 (dk_at dksX12_init_0 6 rfl rfl)
theorem dX12_init_9 : decode cX12_init 9 = .ok (.aload_n 0, 1) := dk_42 (dk_at dksX12_init_0 9 rfl rfl)
theorem dX12_init_10 : decode cX12_init 10 = .ok (.iload_n 2, 1) := dk_28 (dk_at dksX12_init_0 10 rfl rfl)
theorem dX12_init_11 : decode cX12_init 11 = .ok (.putfield 15, 3) := dk_181 0 15 (dk_at dksX12_init_0 11 rfl rfl)
theorem dX12_init_14 : decode cX12_init 14 = .ok (.aload_n 0, 1) := dk_42 (dk_at dksX12_init_0 14 rfl rfl)
theorem dX12_init_15 : decode cX12_init 15 = .ok (.aload_n 3, 1) := dk_45 (dk_at dksX12_init_0 15 rfl rfl)
theorem dX12_init_16 : decode cX12_init 16 = .ok (.putfield 19, 3) := dk_181 0 19 (dk_at dksX12_init_0 16 rfl rfl)
theorem dX12_init_19 : decode cX12_init 19 = .ok (.return_, 1) := dk_177 (dk_at dksX12_init_0 19 rfl rfl)
abbrev cX12_of : ByteArray := prog_9_method_2_code
def yX12_of : MethodName := ⟨RX12, "of", "(LClaspedFair$Asker;)I"⟩
def dkwX12_of_4 : List UInt8 := [167, 0, 4, 3, 172, 28, 29, 126, 172, 28, 29, 128, 172]
abbrev dktX12_of_4 : List UInt8 := dkwX12_of_4 ++ []
def dkwX12_of_3 : List UInt8 := [167, 0, 4, 3, 172, 28, 29, 160, 0, 7, 4, 167, 0, 4, 3, 172, 28, 29, 164, 0, 7, 4]
abbrev dktX12_of_3 : List UInt8 := dkwX12_of_3 ++ dktX12_of_4
def dkwX12_of_2 : List UInt8 := [28, 29, 96, 172, 28, 29, 100, 172, 28, 29, 104, 172, 28, 29, 108, 172, 28, 29, 162, 0, 7, 4]
abbrev dktX12_of_2 : List UInt8 := dkwX12_of_2 ++ dktX12_of_3
def dkwX12_of_1 : List UInt8 := [171, 0, 0, 0, 0, 127, 0, 0, 0, 8, 0, 0, 0, 5, 0, 0, 0, 123, 0, 0, 0, 42, 0, 0, 0, 82, 0, 0, 0, 43, 0, 0, 0, 74, 0, 0, 0, 45, 0, 0, 0, 78, 0, 0, 0, 47, 0, 0, 0, 86, 0, 0, 0, 60, 0, 0, 0, 90, 0, 0, 0, 61, 0, 0, 0, 101, 0, 0, 0, 62, 0, 0, 0, 112]
abbrev dktX12_of_1 : List UInt8 := dkwX12_of_1 ++ dktX12_of_2
def dkwX12_of_0 : List UInt8 := [42, 180, 0, 9, 43, 182, 0, 22, 61, 42, 180, 0, 19, 43, 182, 0, 22, 62, 42, 180, 0, 15]
abbrev dktX12_of_0 : List UInt8 := dkwX12_of_0 ++ dktX12_of_1
theorem dksX12_of_0 : cX12_of.data.toList.drop 0 = dktX12_of_0 := by decide +kernel
theorem dksX12_of_1 : cX12_of.data.toList.drop 22 = dktX12_of_1 := dk_seg dksX12_of_0 22 rfl rfl
theorem dksX12_of_2 : cX12_of.data.toList.drop 96 = dktX12_of_2 := dk_seg dksX12_of_1 74 rfl rfl
theorem dksX12_of_3 : cX12_of.data.toList.drop 118 = dktX12_of_3 := dk_seg dksX12_of_2 22 rfl rfl
theorem dksX12_of_4 : cX12_of.data.toList.drop 140 = dktX12_of_4 := dk_seg dksX12_of_3 22 rfl rfl
theorem dX12_of_0 : decode cX12_of 0 = .ok (.aload_n 0, 1) := dk_42 (dk_at dksX12_of_0 0 rfl rfl)
theorem dX12_of_1 : decode cX12_of 1 = .ok (.getfield 9, 3) := dk_180 0 9 (dk_at dksX12_of_0 1 rfl rfl)
theorem dX12_of_4 : decode cX12_of 4 = .ok (.aload_n 1, 1) := dk_43 (dk_at dksX12_of_0 4 rfl rfl)
theorem dX12_of_5 : decode cX12_of 5 = .ok (.invokevirtual 22, 3) := dk_182 0 22 (dk_at dksX12_of_0 5 rfl rfl)
theorem dX12_of_8 : decode cX12_of 8 = .ok (.istore_n 2, 1) := dk_61 (dk_at dksX12_of_0 8 rfl rfl)
theorem dX12_of_9 : decode cX12_of 9 = .ok (.aload_n 0, 1) := dk_42 (dk_at dksX12_of_0 9 rfl rfl)
theorem dX12_of_10 : decode cX12_of 10 = .ok (.getfield 19, 3) := dk_180 0 19 (dk_at dksX12_of_0 10 rfl rfl)
theorem dX12_of_13 : decode cX12_of 13 = .ok (.aload_n 1, 1) := dk_43 (dk_at dksX12_of_0 13 rfl rfl)
theorem dX12_of_14 : decode cX12_of 14 = .ok (.invokevirtual 22, 3) := dk_182 0 22 (dk_at dksX12_of_0 14 rfl rfl)
theorem dX12_of_17 : decode cX12_of 17 = .ok (.istore_n 3, 1) := dk_62 (dk_at dksX12_of_0 17 rfl rfl)
theorem dX12_of_18 : decode cX12_of 18 = .ok (.aload_n 0, 1) := dk_42 (dk_at dksX12_of_0 18 rfl rfl)
theorem dX12_of_19 : decode cX12_of 19 = .ok (.getfield 15, 3) := dk_180 0 15 (dk_at dksX12_of_0 19 rfl rfl)
theorem dX12_of_22 : decode cX12_of 22 = .ok (.lookupswitch 127 #[(5, 123), (42, 82), (43, 74), (45, 78), (47, 86), (60, 90), (61, 101), (62, 112)], 74) := by decide +kernel
theorem dX12_of_96 : decode cX12_of 96 = .ok (.iload_n 2, 1) := dk_28 (dk_at dksX12_of_2 0 rfl rfl)
theorem dX12_of_97 : decode cX12_of 97 = .ok (.iload_n 3, 1) := dk_29 (dk_at dksX12_of_2 1 rfl rfl)
theorem dX12_of_98 : decode cX12_of 98 = .ok (.iadd, 1) := dk_96 (dk_at dksX12_of_2 2 rfl rfl)
theorem dX12_of_99 : decode cX12_of 99 = .ok (.ireturn, 1) := dk_172 (dk_at dksX12_of_2 3 rfl rfl)
theorem dX12_of_100 : decode cX12_of 100 = .ok (.iload_n 2, 1) := dk_28 (dk_at dksX12_of_2 4 rfl rfl)
theorem dX12_of_101 : decode cX12_of 101 = .ok (.iload_n 3, 1) := dk_29 (dk_at dksX12_of_2 5 rfl rfl)
theorem dX12_of_102 : decode cX12_of 102 = .ok (.isub, 1) := dk_100 (dk_at dksX12_of_2 6 rfl rfl)
theorem dX12_of_103 : decode cX12_of 103 = .ok (.ireturn, 1) := dk_172 (dk_at dksX12_of_2 7 rfl rfl)
theorem dX12_of_104 : decode cX12_of 104 = .ok (.iload_n 2, 1) := dk_28 (dk_at dksX12_of_2 8 rfl rfl)
theorem dX12_of_105 : decode cX12_of 105 = .ok (.iload_n 3, 1) := dk_29 (dk_at dksX12_of_2 9 rfl rfl)
theorem dX12_of_106 : decode cX12_of 106 = .ok (.imul, 1) := dk_104 (dk_at dksX12_of_2 10 rfl rfl)
theorem dX12_of_107 : decode cX12_of 107 = .ok (.ireturn, 1) := dk_172 (dk_at dksX12_of_2 11 rfl rfl)
theorem dX12_of_108 : decode cX12_of 108 = .ok (.iload_n 2, 1) := dk_28 (dk_at dksX12_of_2 12 rfl rfl)
theorem dX12_of_109 : decode cX12_of 109 = .ok (.iload_n 3, 1) := dk_29 (dk_at dksX12_of_2 13 rfl rfl)
theorem dX12_of_110 : decode cX12_of 110 = .ok (.idiv, 1) := dk_108 (dk_at dksX12_of_2 14 rfl rfl)
theorem dX12_of_111 : decode cX12_of 111 = .ok (.ireturn, 1) := dk_172 (dk_at dksX12_of_2 15 rfl rfl)
theorem dX12_of_112 : decode cX12_of 112 = .ok (.iload_n 2, 1) := dk_28 (dk_at dksX12_of_2 16 rfl rfl)
theorem dX12_of_113 : decode cX12_of 113 = .ok (.iload_n 3, 1) := dk_29 (dk_at dksX12_of_2 17 rfl rfl)
theorem dX12_of_114 : decode cX12_of 114 = .ok (.if_icmp .ge 7, 3) := dk_162 0 7 (dk_at dksX12_of_2 18 rfl rfl)
theorem dX12_of_117 : decode cX12_of 117 = .ok (.iconst 1, 1) := dk_4 (dk_at dksX12_of_2 21 rfl rfl)
theorem dX12_of_118 : decode cX12_of 118 = .ok (.goto 4, 3) := dk_167 0 4 (dk_at dksX12_of_3 0 rfl rfl)
theorem dX12_of_121 : decode cX12_of 121 = .ok (.iconst 0, 1) := dk_3 (dk_at dksX12_of_3 3 rfl rfl)
theorem dX12_of_122 : decode cX12_of 122 = .ok (.ireturn, 1) := dk_172 (dk_at dksX12_of_3 4 rfl rfl)
theorem dX12_of_123 : decode cX12_of 123 = .ok (.iload_n 2, 1) := dk_28 (dk_at dksX12_of_3 5 rfl rfl)
theorem dX12_of_124 : decode cX12_of 124 = .ok (.iload_n 3, 1) := dk_29 (dk_at dksX12_of_3 6 rfl rfl)
theorem dX12_of_125 : decode cX12_of 125 = .ok (.if_icmp .ne 7, 3) := dk_160 0 7 (dk_at dksX12_of_3 7 rfl rfl)
theorem dX12_of_128 : decode cX12_of 128 = .ok (.iconst 1, 1) := dk_4 (dk_at dksX12_of_3 10 rfl rfl)
theorem dX12_of_129 : decode cX12_of 129 = .ok (.goto 4, 3) := dk_167 0 4 (dk_at dksX12_of_3 11 rfl rfl)
theorem dX12_of_132 : decode cX12_of 132 = .ok (.iconst 0, 1) := dk_3 (dk_at dksX12_of_3 14 rfl rfl)
theorem dX12_of_133 : decode cX12_of 133 = .ok (.ireturn, 1) := dk_172 (dk_at dksX12_of_3 15 rfl rfl)
theorem dX12_of_134 : decode cX12_of 134 = .ok (.iload_n 2, 1) := dk_28 (dk_at dksX12_of_3 16 rfl rfl)
theorem dX12_of_135 : decode cX12_of 135 = .ok (.iload_n 3, 1) := dk_29 (dk_at dksX12_of_3 17 rfl rfl)
theorem dX12_of_136 : decode cX12_of 136 = .ok (.if_icmp .le 7, 3) := dk_164 0 7 (dk_at dksX12_of_3 18 rfl rfl)
theorem dX12_of_139 : decode cX12_of 139 = .ok (.iconst 1, 1) := dk_4 (dk_at dksX12_of_3 21 rfl rfl)
theorem dX12_of_140 : decode cX12_of 140 = .ok (.goto 4, 3) := dk_167 0 4 (dk_at dksX12_of_4 0 rfl rfl)
theorem dX12_of_143 : decode cX12_of 143 = .ok (.iconst 0, 1) := dk_3 (dk_at dksX12_of_4 3 rfl rfl)
theorem dX12_of_144 : decode cX12_of 144 = .ok (.ireturn, 1) := dk_172 (dk_at dksX12_of_4 4 rfl rfl)
theorem dX12_of_145 : decode cX12_of 145 = .ok (.iload_n 2, 1) := dk_28 (dk_at dksX12_of_4 5 rfl rfl)
theorem dX12_of_146 : decode cX12_of 146 = .ok (.iload_n 3, 1) := dk_29 (dk_at dksX12_of_4 6 rfl rfl)
theorem dX12_of_147 : decode cX12_of 147 = .ok (.iand, 1) := dk_126 (dk_at dksX12_of_4 7 rfl rfl)
theorem dX12_of_148 : decode cX12_of 148 = .ok (.ireturn, 1) := dk_172 (dk_at dksX12_of_4 8 rfl rfl)
theorem dX12_of_149 : decode cX12_of 149 = .ok (.iload_n 2, 1) := dk_28 (dk_at dksX12_of_4 9 rfl rfl)
theorem dX12_of_150 : decode cX12_of 150 = .ok (.iload_n 3, 1) := dk_29 (dk_at dksX12_of_4 10 rfl rfl)
theorem dX12_of_151 : decode cX12_of 151 = .ok (.ior, 1) := dk_128 (dk_at dksX12_of_4 11 rfl rfl)
theorem dX12_of_152 : decode cX12_of 152 = .ok (.ireturn, 1) := dk_172 (dk_at dksX12_of_4 12 rfl rfl)

theorem q167 : (Jvm.Cond.initialized "ClaspedFair$Joined") ∈ lw_all := lw_g (lw_at lw_m1 24 rfl) rfl
theorem q783 : (Jvm.Cond.instantiable "ClaspedFair$Joined" (3 : Nat)) ∈ lw_all := lw_g (lw_at lw_m3 160 rfl) rfl
theorem q785 : (Jvm.Cond.instanceMethod ({ cls := "ClaspedFair$Joined", name := "<init>", desc := "(LClaspedFair$Term;ILClaspedFair$Term;)V" } : Jvm.MethodName)) ∈ lw_all := lw_g (lw_at lw_m3 162 rfl) rfl
theorem q786 : (Jvm.Cond.code ({ cls := "ClaspedFair$Joined", name := "<init>", desc := "(LClaspedFair$Term;ILClaspedFair$Term;)V" } : Jvm.MethodName) prog_9_method_1_code (4 : Nat) (Option.none : Option Jvm.ClassFile.FieldType)) ∈ lw_all := lw_g (lw_at lw_m3 163 rfl) rfl
theorem q787 : (Jvm.Cond.methodLinkNest "ClaspedFair$Joined" (3 : Nat) ({ cls := "ClaspedFair$Term", name := "<init>", desc := "()V" } : Jvm.MethodName) "ClaspedFair") ∈ lw_tbl := lw_at lw_m3 164 rfl
theorem q788 : (Jvm.Cond.fieldLink "ClaspedFair$Joined" (9 : Nat) "ClaspedFair$Joined" "left" "LClaspedFair$Term;") ∈ lw_all := lw_g (lw_at lw_m3 165 rfl) rfl
theorem q789 : (Jvm.Cond.fieldLink "ClaspedFair$Joined" (19 : Nat) "ClaspedFair$Joined" "right" "LClaspedFair$Term;") ∈ lw_all := lw_g (lw_at lw_m3 166 rfl) rfl
theorem q790 : (Jvm.Cond.fieldLink "ClaspedFair$Joined" (15 : Nat) "ClaspedFair$Joined" "how" "I") ∈ lw_all := lw_g (lw_at lw_m3 167 rfl) rfl
theorem q791 : (Jvm.Cond.laysFinal "ClaspedFair$Joined" "ClaspedFair$Joined" "left" "LClaspedFair$Term;") ∈ lw_all := lw_g (lw_at lw_m3 168 rfl) rfl
theorem q792 : (Jvm.Cond.soleField "ClaspedFair$Joined" "left") ∈ lw_all := lw_g (lw_at lw_m3 169 rfl) rfl
theorem q793 : (Jvm.Cond.laysFinal "ClaspedFair$Joined" "ClaspedFair$Joined" "right" "LClaspedFair$Term;") ∈ lw_all := lw_g (lw_at lw_m3 170 rfl) rfl
theorem q794 : (Jvm.Cond.soleField "ClaspedFair$Joined" "right") ∈ lw_all := lw_g (lw_at lw_m3 171 rfl) rfl
theorem q795 : (Jvm.Cond.laysFinal "ClaspedFair$Joined" "ClaspedFair$Joined" "how" "I") ∈ lw_all := lw_g (lw_at lw_m3 172 rfl) rfl
theorem q796 : (Jvm.Cond.soleField "ClaspedFair$Joined" "how") ∈ lw_all := lw_g (lw_at lw_m3 173 rfl) rfl
theorem q797 : (Jvm.Cond.superclass "ClaspedFair$Joined" "ClaspedFair$Term") ∈ lw_all := lw_g (lw_at lw_m3 174 rfl) rfl
theorem q885 : (Jvm.Cond.selects "ClaspedFair$Joined" ({ cls := "java/lang/Object", name := "getClass", desc := "()Ljava/lang/Class;" } : Jvm.MethodName) ({ cls := "java/lang/Object", name := "getClass", desc := "()Ljava/lang/Class;" } : Jvm.MethodName)) ∈ lw_all := lw_g (lw_at lw_m4 22 rfl) rfl
theorem q1127 : (Jvm.Cond.selects "ClaspedFair$Joined" ({ cls := "ClaspedFair$Term", name := "of", desc := "(LClaspedFair$Asker;)I" } : Jvm.MethodName) ({ cls := "ClaspedFair$Joined", name := "of", desc := "(LClaspedFair$Asker;)I" } : Jvm.MethodName)) ∈ lw_all := lw_g (lw_at lw_m5 24 rfl) rfl
theorem q1128 : (Jvm.Cond.instanceMethod ({ cls := "ClaspedFair$Joined", name := "of", desc := "(LClaspedFair$Asker;)I" } : Jvm.MethodName)) ∈ lw_all := lw_g (lw_at lw_m5 25 rfl) rfl
theorem q1129 : (Jvm.Cond.code ({ cls := "ClaspedFair$Joined", name := "of", desc := "(LClaspedFair$Asker;)I" } : Jvm.MethodName) prog_9_method_2_code (4 : Nat) (Option.some Jvm.ClassFile.FieldType.int)) ∈ lw_all := lw_g (lw_at lw_m5 26 rfl) rfl
theorem q1130 : (Jvm.Cond.methodLink "ClaspedFair$Joined" (22 : Nat) ({ cls := "ClaspedFair$Term", name := "of", desc := "(LClaspedFair$Asker;)I" } : Jvm.MethodName)) ∈ lw_all := lw_g (lw_at lw_m5 27 rfl) rfl
theorem q2224 : (Jvm.Cond.castable "ClaspedFair$Joined" "java/lang/Object") ∈ lw_tbl := lw_at lw_m9 161 rfl
abbrev cX13_init : ByteArray := prog_13_method_1_code
def yX13_init : MethodName := ⟨RX13, "<init>", "(LClaspedFair$Term;)V"⟩
def dkwX13_init_0 : List UInt8 := [42, 183, 0, 1, 42, 43, 181, 0, 7, 177]
abbrev dktX13_init_0 : List UInt8 := dkwX13_init_0 ++ []
theorem dksX13_init_0 : cX13_init.data.toList.drop 0 = dktX13_init_0 := by decide +kernel
theorem dX13_init_0 : decode cX13_init 0 = .ok (.aload_n 0, 1) := dk_42 (dk_at dksX13_init_0 0 rfl rfl)
theorem dX13_init_1 : decode cX13_init 1 = .ok (.invokespecial 1, 3) := dk_183 0 1 (dk_at dksX13_init_0 1 rfl rfl)
theorem dX13_init_4 : decode cX13_init 4 = .ok (.aload_n 0, 1) := dk_42 (dk_at dksX13_init_0 4 rfl rfl)
theorem dX13_init_5 : decode cX13_init 5 = .ok (.aload_n 1, 1) := dk_43 (dk_at dksX13_init_0 5 rfl rfl)
theorem dX13_init_6 : decode cX13_init 6 = .ok (.putfield 7, 3) := dk_181 0 7 (dk_at dksX13_init_0 6 rfl rfl)
theorem dX13_init_9 : decode cX13_init 9 = .ok (.return_, 1) := dk_177 (dk_at dksX13_init_0 9 rfl rfl)
abbrev cX13_of : ByteArray := prog_13_method_2_code
def yX13_of : MethodName := ⟨RX13, "of", "(LClaspedFair$Asker;)I"⟩
def dkwX13_of_0 : List UInt8 := [4, 42, 180, 0, 7, 43, 182, 0, 13, 100, 172]
abbrev dktX13_of_0 : List UInt8 := dkwX13_of_0 ++ []
theorem dksX13_of_0 : cX13_of.data.toList.drop 0 = dktX13_of_0 := by decide +kernel
theorem dX13_of_0 : decode cX13_of 0 = .ok (.iconst 1, 1) := dk_4 (dk_at dksX13_of_0 0 rfl rfl)
theorem dX13_of_1 : decode cX13_of 1 = .ok (.aload_n 0, 1) := dk_42 (dk_at dksX13_of_0 1 rfl rfl)
theorem dX13_of_2 : decode cX13_of 2 = .ok (.getfield 7, 3) := dk_180 0 7 (dk_at dksX13_of_0 2 rfl rfl)
theorem dX13_of_5 : decode cX13_of 5 = .ok (.aload_n 1, 1) := dk_43 (dk_at dksX13_of_0 5 rfl rfl)
theorem dX13_of_6 : decode cX13_of 6 = .ok (.invokevirtual 13, 3) := dk_182 0 13 (dk_at dksX13_of_0 6 rfl rfl)
theorem dX13_of_9 : decode cX13_of 9 = .ok (.isub, 1) := dk_100 (dk_at dksX13_of_0 9 rfl rfl)
theorem dX13_of_10 : decode cX13_of 10 = .ok (.ireturn, 1) := dk_172 (dk_at dksX13_of_0 10 rfl rfl)

theorem q168 : (Jvm.Cond.initialized "ClaspedFair$Not") ∈ lw_all := lw_g (lw_at lw_m1 25 rfl) rfl
theorem q815 : (Jvm.Cond.instantiable "ClaspedFair$Not" (1 : Nat)) ∈ lw_all := lw_g (lw_at lw_m3 192 rfl) rfl
theorem q817 : (Jvm.Cond.instanceMethod ({ cls := "ClaspedFair$Not", name := "<init>", desc := "(LClaspedFair$Term;)V" } : Jvm.MethodName)) ∈ lw_all := lw_g (lw_at lw_m3 194 rfl) rfl
theorem q818 : (Jvm.Cond.code ({ cls := "ClaspedFair$Not", name := "<init>", desc := "(LClaspedFair$Term;)V" } : Jvm.MethodName) prog_13_method_1_code (2 : Nat) (Option.none : Option Jvm.ClassFile.FieldType)) ∈ lw_all := lw_g (lw_at lw_m3 195 rfl) rfl
theorem q819 : (Jvm.Cond.methodLinkNest "ClaspedFair$Not" (1 : Nat) ({ cls := "ClaspedFair$Term", name := "<init>", desc := "()V" } : Jvm.MethodName) "ClaspedFair") ∈ lw_tbl := lw_at lw_m3 196 rfl
theorem q820 : (Jvm.Cond.fieldLink "ClaspedFair$Not" (7 : Nat) "ClaspedFair$Not" "term" "LClaspedFair$Term;") ∈ lw_all := lw_g (lw_at lw_m3 197 rfl) rfl
theorem q821 : (Jvm.Cond.laysFinal "ClaspedFair$Not" "ClaspedFair$Not" "term" "LClaspedFair$Term;") ∈ lw_all := lw_g (lw_at lw_m3 198 rfl) rfl
theorem q822 : (Jvm.Cond.soleField "ClaspedFair$Not" "term") ∈ lw_all := lw_g (lw_at lw_m3 199 rfl) rfl
theorem q823 : (Jvm.Cond.superclass "ClaspedFair$Not" "ClaspedFair$Term") ∈ lw_all := lw_g (lw_at lw_m3 200 rfl) rfl
theorem q889 : (Jvm.Cond.selects "ClaspedFair$Not" ({ cls := "java/lang/Object", name := "getClass", desc := "()Ljava/lang/Class;" } : Jvm.MethodName) ({ cls := "java/lang/Object", name := "getClass", desc := "()Ljava/lang/Class;" } : Jvm.MethodName)) ∈ lw_all := lw_g (lw_at lw_m4 26 rfl) rfl
theorem q1144 : (Jvm.Cond.instanceMethod ({ cls := "ClaspedFair$Not", name := "of", desc := "(LClaspedFair$Asker;)I" } : Jvm.MethodName)) ∈ lw_all := lw_g (lw_at lw_m5 41 rfl) rfl
theorem q1145 : (Jvm.Cond.code ({ cls := "ClaspedFair$Not", name := "of", desc := "(LClaspedFair$Asker;)I" } : Jvm.MethodName) prog_13_method_2_code (2 : Nat) (Option.some Jvm.ClassFile.FieldType.int)) ∈ lw_all := lw_g (lw_at lw_m5 42 rfl) rfl
theorem q1146 : (Jvm.Cond.methodLink "ClaspedFair$Not" (13 : Nat) ({ cls := "ClaspedFair$Term", name := "of", desc := "(LClaspedFair$Asker;)I" } : Jvm.MethodName)) ∈ lw_all := lw_g (lw_at lw_m5 43 rfl) rfl
theorem q1148 : (Jvm.Cond.selects "ClaspedFair$Not" ({ cls := "ClaspedFair$Term", name := "of", desc := "(LClaspedFair$Asker;)I" } : Jvm.MethodName) ({ cls := "ClaspedFair$Not", name := "of", desc := "(LClaspedFair$Asker;)I" } : Jvm.MethodName)) ∈ lw_all := lw_g (lw_at lw_m5 45 rfl) rfl
theorem q2225 : (Jvm.Cond.castable "ClaspedFair$Not" "java/lang/Object") ∈ lw_tbl := lw_at lw_m9 162 rfl
abbrev cX14_init : ByteArray := prog_11_method_1_code
def yX14_init : MethodName := ⟨RX14, "<init>", "(ILClaspedFair$Term;LClaspedFair$Term;)V"⟩
def dkwX14_init_0 : List UInt8 := [42, 183, 0, 1, 42, 27, 181, 0, 7, 42, 44, 181, 0, 13, 42, 45, 181, 0, 17, 177]
abbrev dktX14_init_0 : List UInt8 := dkwX14_init_0 ++ []
theorem dksX14_init_0 : cX14_init.data.toList.drop 0 = dktX14_init_0 := by decide +kernel
theorem dX14_init_0 : decode cX14_init 0 = .ok (.aload_n 0, 1) := dk_42 (dk_at dksX14_init_0 0 rfl rfl)
theorem dX14_init_1 : decode cX14_init 1 = .ok (.invokespecial 1, 3) := dk_183 0 1 (dk_at dksX14_init_0 1 rfl rfl)
theorem dX14_init_4 : decode cX14_init 4 = .ok (.aload_n 0, 1) := dk_42 (dk_at dksX14_init_0 4 rfl rfl)
theorem dX14_init_5 : decode cX14_init 5 = .ok (.iload_n 1, 1) := dk_27 (dk_at dksX14_init_0 5 rfl rfl)
theorem dX14_init_6 : decode cX14_init 6 = .ok (.putfield 7, 3) := dk_181 0 7 (dk_at dksX14_init_0 6 rfl rfl)
theorem dX14_init_9 : decode cX14_init 9 = .ok (.aload_n 0, 1) := dk_42 (dk_at dksX14_init_0 9 rfl rfl)
theorem dX14_init_10 : decode cX14_init 10 = .ok (.aload_n 2, 1) := dk_44 (dk_at dksX14_init_0 10 rfl rfl)
theorem dX14_init_11 : decode cX14_init 11 = .ok (.putfield 13, 3) := dk_181 0 13 (dk_at dksX14_init_0 11 rfl rfl)
theorem dX14_init_14 : decode cX14_init 14 = .ok (.aload_n 0, 1) := dk_42 (dk_at dksX14_init_0 14 rfl rfl)
theorem dX14_init_15 : decode cX14_init 15 = .ok (.aload_n 3, 1) := dk_45 (dk_at dksX14_init_0 15 rfl rfl)
theorem dX14_init_16 : decode cX14_init 16 = .ok (.putfield 17, 3) := dk_181 0 17 (dk_at dksX14_init_0 16 rfl rfl)
theorem dX14_init_19 : decode cX14_init 19 = .ok (.return_, 1) := dk_177 (dk_at dksX14_init_0 19 rfl rfl)

theorem q169 : (Jvm.Cond.initialized "ClaspedFair$Line") ∈ lw_all := lw_g (lw_at lw_m1 26 rfl) rfl
theorem q829 : (Jvm.Cond.instantiable "ClaspedFair$Line" (3 : Nat)) ∈ lw_all := lw_g (lw_at lw_m3 206 rfl) rfl
theorem q831 : (Jvm.Cond.instanceMethod ({ cls := "ClaspedFair$Line", name := "<init>", desc := "(ILClaspedFair$Term;LClaspedFair$Term;)V" } : Jvm.MethodName)) ∈ lw_all := lw_g (lw_at lw_m3 208 rfl) rfl
theorem q832 : (Jvm.Cond.code ({ cls := "ClaspedFair$Line", name := "<init>", desc := "(ILClaspedFair$Term;LClaspedFair$Term;)V" } : Jvm.MethodName) prog_11_method_1_code (4 : Nat) (Option.none : Option Jvm.ClassFile.FieldType)) ∈ lw_all := lw_g (lw_at lw_m3 209 rfl) rfl
theorem q833 : (Jvm.Cond.methodLink "ClaspedFair$Line" (1 : Nat) ({ cls := "java/lang/Object", name := "<init>", desc := "()V" } : Jvm.MethodName)) ∈ lw_all := lw_g (lw_at lw_m3 210 rfl) rfl
theorem q834 : (Jvm.Cond.fieldLink "ClaspedFair$Line" (7 : Nat) "ClaspedFair$Line" "word" "I") ∈ lw_all := lw_g (lw_at lw_m3 211 rfl) rfl
theorem q836 : (Jvm.Cond.fieldLink "ClaspedFair$Line" (13 : Nat) "ClaspedFair$Line" "comesTo" "LClaspedFair$Term;") ∈ lw_all := lw_g (lw_at lw_m3 213 rfl) rfl
theorem q838 : (Jvm.Cond.fieldLink "ClaspedFair$Line" (17 : Nat) "ClaspedFair$Line" "when" "LClaspedFair$Term;") ∈ lw_all := lw_g (lw_at lw_m3 215 rfl) rfl
theorem q840 : (Jvm.Cond.laysFinal "ClaspedFair$Line" "ClaspedFair$Line" "word" "I") ∈ lw_all := lw_g (lw_at lw_m3 217 rfl) rfl
theorem q841 : (Jvm.Cond.soleField "ClaspedFair$Line" "word") ∈ lw_all := lw_g (lw_at lw_m3 218 rfl) rfl
theorem q842 : (Jvm.Cond.laysFinal "ClaspedFair$Line" "ClaspedFair$Line" "comesTo" "LClaspedFair$Term;") ∈ lw_all := lw_g (lw_at lw_m3 219 rfl) rfl
theorem q843 : (Jvm.Cond.soleField "ClaspedFair$Line" "comesTo") ∈ lw_all := lw_g (lw_at lw_m3 220 rfl) rfl
theorem q844 : (Jvm.Cond.laysFinal "ClaspedFair$Line" "ClaspedFair$Line" "when" "LClaspedFair$Term;") ∈ lw_all := lw_g (lw_at lw_m3 221 rfl) rfl
theorem q845 : (Jvm.Cond.soleField "ClaspedFair$Line" "when") ∈ lw_all := lw_g (lw_at lw_m3 222 rfl) rfl
theorem q846 : (Jvm.Cond.superclass "ClaspedFair$Line" "java/lang/Object") ∈ lw_all := lw_g (lw_at lw_m3 223 rfl) rfl
theorem q887 : (Jvm.Cond.selects "ClaspedFair$Line" ({ cls := "java/lang/Object", name := "getClass", desc := "()Ljava/lang/Class;" } : Jvm.MethodName) ({ cls := "java/lang/Object", name := "getClass", desc := "()Ljava/lang/Class;" } : Jvm.MethodName)) ∈ lw_all := lw_g (lw_at lw_m4 24 rfl) rfl
theorem q2226 : (Jvm.Cond.castable "ClaspedFair$Line" "java/lang/Object") ∈ lw_tbl := lw_at lw_m9 163 rfl
abbrev cX15_init : ByteArray := prog_14_method_1_code
def yX15_init : MethodName := ⟨RX15, "<init>", "(IIIII)V"⟩
def dkwX15_init_1 : List UInt8 := [181, 0, 19, 42, 21, 5, 181, 0, 22, 177]
abbrev dktX15_init_1 : List UInt8 := dkwX15_init_1 ++ []
def dkwX15_init_0 : List UInt8 := [42, 183, 0, 1, 42, 27, 181, 0, 7, 42, 28, 181, 0, 13, 42, 29, 181, 0, 16, 42, 21, 4]
abbrev dktX15_init_0 : List UInt8 := dkwX15_init_0 ++ dktX15_init_1
theorem dksX15_init_0 : cX15_init.data.toList.drop 0 = dktX15_init_0 := by decide +kernel
theorem dksX15_init_1 : cX15_init.data.toList.drop 22 = dktX15_init_1 := dk_seg dksX15_init_0 22 rfl rfl
theorem dX15_init_0 : decode cX15_init 0 = .ok (.aload_n 0, 1) := dk_42 (dk_at dksX15_init_0 0 rfl rfl)
theorem dX15_init_1 : decode cX15_init 1 = .ok (.invokespecial 1, 3) := dk_183 0 1 (dk_at dksX15_init_0 1 rfl rfl)
theorem dX15_init_4 : decode cX15_init 4 = .ok (.aload_n 0, 1) := dk_42 (dk_at dksX15_init_0 4 rfl rfl)
theorem dX15_init_5 : decode cX15_init 5 = .ok (.iload_n 1, 1) := dk_27 (dk_at dksX15_init_0 5 rfl rfl)
theorem dX15_init_6 : decode cX15_init 6 = .ok (.putfield 7, 3) := dk_181 0 7 (dk_at dksX15_init_0 6 rfl rfl)
theorem dX15_init_9 : decode cX15_init 9 = .ok (.aload_n 0, 1) := dk_42 (dk_at dksX15_init_0 9 rfl rfl)
theorem dX15_init_10 : decode cX15_init 10 = .ok (.iload_n 2, 1) := dk_28 (dk_at dksX15_init_0 10 rfl rfl)
theorem dX15_init_11 : decode cX15_init 11 = .ok (.putfield 13, 3) := dk_181 0 13 (dk_at dksX15_init_0 11 rfl rfl)
theorem dX15_init_14 : decode cX15_init 14 = .ok (.aload_n 0, 1) := dk_42 (dk_at dksX15_init_0 14 rfl rfl)
theorem dX15_init_15 : decode cX15_init 15 = .ok (.iload_n 3, 1) := dk_29 (dk_at dksX15_init_0 15 rfl rfl)
theorem dX15_init_16 : decode cX15_init 16 = .ok (.putfield 16, 3) := dk_181 0 16 (dk_at dksX15_init_0 16 rfl rfl)
theorem dX15_init_19 : decode cX15_init 19 = .ok (.aload_n 0, 1) := dk_42 (dk_at dksX15_init_0 19 rfl rfl)
theorem dX15_init_20 : decode cX15_init 20 = .ok (.iload 4, 2) := dk_21 4 (dk_at dksX15_init_0 20 rfl rfl)
theorem dX15_init_22 : decode cX15_init 22 = .ok (.putfield 19, 3) := dk_181 0 19 (dk_at dksX15_init_1 0 rfl rfl)
theorem dX15_init_25 : decode cX15_init 25 = .ok (.aload_n 0, 1) := dk_42 (dk_at dksX15_init_1 3 rfl rfl)
theorem dX15_init_26 : decode cX15_init 26 = .ok (.iload 5, 2) := dk_21 5 (dk_at dksX15_init_1 4 rfl rfl)
theorem dX15_init_28 : decode cX15_init 28 = .ok (.putfield 22, 3) := dk_181 0 22 (dk_at dksX15_init_1 6 rfl rfl)
theorem dX15_init_31 : decode cX15_init 31 = .ok (.return_, 1) := dk_177 (dk_at dksX15_init_1 9 rfl rfl)

theorem q173 : (Jvm.Cond.initialized "ClaspedFair$Offer") ∈ lw_all := lw_g (lw_at lw_m1 30 rfl) rfl
theorem q890 : (Jvm.Cond.selects "ClaspedFair$Offer" ({ cls := "java/lang/Object", name := "getClass", desc := "()Ljava/lang/Class;" } : Jvm.MethodName) ({ cls := "java/lang/Object", name := "getClass", desc := "()Ljava/lang/Class;" } : Jvm.MethodName)) ∈ lw_all := lw_g (lw_at lw_m4 27 rfl) rfl
theorem q923 : (Jvm.Cond.instantiable "ClaspedFair$Offer" (5 : Nat)) ∈ lw_all := lw_g (lw_at lw_m4 60 rfl) rfl
theorem q925 : (Jvm.Cond.instanceMethod ({ cls := "ClaspedFair$Offer", name := "<init>", desc := "(IIIII)V" } : Jvm.MethodName)) ∈ lw_all := lw_g (lw_at lw_m4 62 rfl) rfl
theorem q926 : (Jvm.Cond.code ({ cls := "ClaspedFair$Offer", name := "<init>", desc := "(IIIII)V" } : Jvm.MethodName) prog_14_method_1_code (6 : Nat) (Option.none : Option Jvm.ClassFile.FieldType)) ∈ lw_all := lw_g (lw_at lw_m4 63 rfl) rfl
theorem q927 : (Jvm.Cond.methodLink "ClaspedFair$Offer" (1 : Nat) ({ cls := "java/lang/Object", name := "<init>", desc := "()V" } : Jvm.MethodName)) ∈ lw_all := lw_g (lw_at lw_m4 64 rfl) rfl
theorem q928 : (Jvm.Cond.fieldLink "ClaspedFair$Offer" (7 : Nat) "ClaspedFair$Offer" "day" "I") ∈ lw_all := lw_g (lw_at lw_m4 65 rfl) rfl
theorem q930 : (Jvm.Cond.fieldLink "ClaspedFair$Offer" (13 : Nat) "ClaspedFair$Offer" "buyer" "I") ∈ lw_all := lw_g (lw_at lw_m4 67 rfl) rfl
theorem q932 : (Jvm.Cond.fieldLink "ClaspedFair$Offer" (16 : Nat) "ClaspedFair$Offer" "horse" "I") ∈ lw_all := lw_g (lw_at lw_m4 69 rfl) rfl
theorem q934 : (Jvm.Cond.fieldLink "ClaspedFair$Offer" (19 : Nat) "ClaspedFair$Offer" "price" "I") ∈ lw_all := lw_g (lw_at lw_m4 71 rfl) rfl
theorem q936 : (Jvm.Cond.fieldLink "ClaspedFair$Offer" (22 : Nat) "ClaspedFair$Offer" "grip" "I") ∈ lw_all := lw_g (lw_at lw_m4 73 rfl) rfl
theorem q938 : (Jvm.Cond.laysFinal "ClaspedFair$Offer" "ClaspedFair$Offer" "day" "I") ∈ lw_all := lw_g (lw_at lw_m4 75 rfl) rfl
theorem q939 : (Jvm.Cond.soleField "ClaspedFair$Offer" "day") ∈ lw_all := lw_g (lw_at lw_m4 76 rfl) rfl
theorem q940 : (Jvm.Cond.laysFinal "ClaspedFair$Offer" "ClaspedFair$Offer" "buyer" "I") ∈ lw_all := lw_g (lw_at lw_m4 77 rfl) rfl
theorem q941 : (Jvm.Cond.soleField "ClaspedFair$Offer" "buyer") ∈ lw_all := lw_g (lw_at lw_m4 78 rfl) rfl
theorem q942 : (Jvm.Cond.laysFinal "ClaspedFair$Offer" "ClaspedFair$Offer" "horse" "I") ∈ lw_all := lw_g (lw_at lw_m4 79 rfl) rfl
theorem q943 : (Jvm.Cond.soleField "ClaspedFair$Offer" "horse") ∈ lw_all := lw_g (lw_at lw_m4 80 rfl) rfl
theorem q944 : (Jvm.Cond.laysFinal "ClaspedFair$Offer" "ClaspedFair$Offer" "price" "I") ∈ lw_all := lw_g (lw_at lw_m4 81 rfl) rfl
theorem q945 : (Jvm.Cond.soleField "ClaspedFair$Offer" "price") ∈ lw_all := lw_g (lw_at lw_m4 82 rfl) rfl
theorem q946 : (Jvm.Cond.laysFinal "ClaspedFair$Offer" "ClaspedFair$Offer" "grip" "I") ∈ lw_all := lw_g (lw_at lw_m4 83 rfl) rfl
theorem q947 : (Jvm.Cond.soleField "ClaspedFair$Offer" "grip") ∈ lw_all := lw_g (lw_at lw_m4 84 rfl) rfl
theorem q948 : (Jvm.Cond.superclass "ClaspedFair$Offer" "java/lang/Object") ∈ lw_all := lw_g (lw_at lw_m4 85 rfl) rfl
theorem q2227 : (Jvm.Cond.castable "ClaspedFair$Offer" "java/lang/Object") ∈ lw_tbl := lw_at lw_m9 164 rfl
abbrev cX16_init : ByteArray := prog_7_method_1_code
def yX16_init : MethodName := ⟨RX16, "<init>", "(II)V"⟩
def dkwX16_init_0 : List UInt8 := [42, 183, 0, 1, 42, 27, 181, 0, 7, 42, 28, 181, 0, 13, 177]
abbrev dktX16_init_0 : List UInt8 := dkwX16_init_0 ++ []
theorem dksX16_init_0 : cX16_init.data.toList.drop 0 = dktX16_init_0 := by decide +kernel
theorem dX16_init_0 : decode cX16_init 0 = .ok (.aload_n 0, 1) := dk_42 (dk_at dksX16_init_0 0 rfl rfl)
theorem dX16_init_1 : decode cX16_init 1 = .ok (.invokespecial 1, 3) := dk_183 0 1 (dk_at dksX16_init_0 1 rfl rfl)
theorem dX16_init_4 : decode cX16_init 4 = .ok (.aload_n 0, 1) := dk_42 (dk_at dksX16_init_0 4 rfl rfl)
theorem dX16_init_5 : decode cX16_init 5 = .ok (.iload_n 1, 1) := dk_27 (dk_at dksX16_init_0 5 rfl rfl)
theorem dX16_init_6 : decode cX16_init 6 = .ok (.putfield 7, 3) := dk_181 0 7 (dk_at dksX16_init_0 6 rfl rfl)
theorem dX16_init_9 : decode cX16_init 9 = .ok (.aload_n 0, 1) := dk_42 (dk_at dksX16_init_0 9 rfl rfl)
theorem dX16_init_10 : decode cX16_init 10 = .ok (.iload_n 2, 1) := dk_28 (dk_at dksX16_init_0 10 rfl rfl)
theorem dX16_init_11 : decode cX16_init 11 = .ok (.putfield 13, 3) := dk_181 0 13 (dk_at dksX16_init_0 11 rfl rfl)
theorem dX16_init_14 : decode cX16_init 14 = .ok (.return_, 1) := dk_177 (dk_at dksX16_init_0 14 rfl rfl)
abbrev cX16_isOf : ByteArray := prog_7_method_2_code
def yX16_isOf : MethodName := ⟨RX16, "isOf", "(I)Z"⟩
def dkwX16_isOf_0 : List UInt8 := [42, 180, 0, 7, 27, 160, 0, 7, 4, 167, 0, 4, 3, 172]
abbrev dktX16_isOf_0 : List UInt8 := dkwX16_isOf_0 ++ []
theorem dksX16_isOf_0 : cX16_isOf.data.toList.drop 0 = dktX16_isOf_0 := by decide +kernel
theorem dX16_isOf_0 : decode cX16_isOf 0 = .ok (.aload_n 0, 1) := dk_42 (dk_at dksX16_isOf_0 0 rfl rfl)
theorem dX16_isOf_1 : decode cX16_isOf 1 = .ok (.getfield 7, 3) := dk_180 0 7 (dk_at dksX16_isOf_0 1 rfl rfl)
theorem dX16_isOf_4 : decode cX16_isOf 4 = .ok (.iload_n 1, 1) := dk_27 (dk_at dksX16_isOf_0 4 rfl rfl)
theorem dX16_isOf_5 : decode cX16_isOf 5 = .ok (.if_icmp .ne 7, 3) := dk_160 0 7 (dk_at dksX16_isOf_0 5 rfl rfl)
theorem dX16_isOf_8 : decode cX16_isOf 8 = .ok (.iconst 1, 1) := dk_4 (dk_at dksX16_isOf_0 8 rfl rfl)
theorem dX16_isOf_9 : decode cX16_isOf 9 = .ok (.goto 4, 3) := dk_167 0 4 (dk_at dksX16_isOf_0 9 rfl rfl)
theorem dX16_isOf_12 : decode cX16_isOf 12 = .ok (.iconst 0, 1) := dk_3 (dk_at dksX16_isOf_0 12 rfl rfl)
theorem dX16_isOf_13 : decode cX16_isOf 13 = .ok (.ireturn, 1) := dk_172 (dk_at dksX16_isOf_0 13 rfl rfl)
abbrev cX16_person : ByteArray := prog_7_method_3_code
def yX16_person : MethodName := ⟨RX16, "person", "()I"⟩
theorem dX16_person_0 : decode cX16_person 0 = .ok (.aload_n 0, 1) := by decide +kernel
theorem dX16_person_1 : decode cX16_person 1 = .ok (.getfield 13, 3) := by decide +kernel
theorem dX16_person_4 : decode cX16_person 4 = .ok (.ireturn, 1) := by decide +kernel

theorem q174 : (Jvm.Cond.initialized "ClaspedFair$Habit") ∈ lw_all := lw_g (lw_at lw_m1 31 rfl) rfl
theorem q971 : (Jvm.Cond.instanceMethod ({ cls := "ClaspedFair$Habit", name := "<init>", desc := "(II)V" } : Jvm.MethodName)) ∈ lw_all := lw_g (lw_at lw_m4 108 rfl) rfl
theorem q972 : (Jvm.Cond.code ({ cls := "ClaspedFair$Habit", name := "<init>", desc := "(II)V" } : Jvm.MethodName) prog_7_method_1_code (3 : Nat) (Option.none : Option Jvm.ClassFile.FieldType)) ∈ lw_all := lw_g (lw_at lw_m4 109 rfl) rfl
theorem q973 : (Jvm.Cond.methodLink "ClaspedFair$Habit" (1 : Nat) ({ cls := "java/lang/Object", name := "<init>", desc := "()V" } : Jvm.MethodName)) ∈ lw_all := lw_g (lw_at lw_m4 110 rfl) rfl
theorem q975 : (Jvm.Cond.fieldLink "ClaspedFair$Habit" (7 : Nat) "ClaspedFair$Habit" "day" "I") ∈ lw_all := lw_g (lw_at lw_m4 112 rfl) rfl
theorem q976 : (Jvm.Cond.fieldLink "ClaspedFair$Habit" (13 : Nat) "ClaspedFair$Habit" "person" "I") ∈ lw_all := lw_g (lw_at lw_m4 113 rfl) rfl
theorem q980 : (Jvm.Cond.soleField "ClaspedFair$Habit" "day") ∈ lw_all := lw_g (lw_at lw_m4 117 rfl) rfl
theorem q982 : (Jvm.Cond.soleField "ClaspedFair$Habit" "person") ∈ lw_all := lw_g (lw_at lw_m4 119 rfl) rfl
theorem q1223 : (Jvm.Cond.instanceMethod ({ cls := "ClaspedFair$Habit", name := "isOf", desc := "(I)Z" } : Jvm.MethodName)) ∈ lw_all := lw_g (lw_at lw_m5 120 rfl) rfl
theorem q1224 : (Jvm.Cond.sameMethod "ClaspedFair$Habit" "ClaspedFair$Habit" "isOf" "(I)Z") ∈ lw_all := lw_g (lw_at lw_m5 121 rfl) rfl
theorem q1228 : (Jvm.Cond.code ({ cls := "ClaspedFair$Habit", name := "isOf", desc := "(I)Z" } : Jvm.MethodName) prog_7_method_2_code (2 : Nat) (Option.some Jvm.ClassFile.FieldType.boolean)) ∈ lw_all := lw_g (lw_at lw_m5 125 rfl) rfl
theorem q1230 : (Jvm.Cond.instanceMethod ({ cls := "ClaspedFair$Habit", name := "person", desc := "()I" } : Jvm.MethodName)) ∈ lw_all := lw_g (lw_at lw_m5 127 rfl) rfl
theorem q1231 : (Jvm.Cond.sameMethod "ClaspedFair$Habit" "ClaspedFair$Habit" "person" "()I") ∈ lw_all := lw_g (lw_at lw_m5 128 rfl) rfl
theorem q1235 : (Jvm.Cond.code ({ cls := "ClaspedFair$Habit", name := "person", desc := "()I" } : Jvm.MethodName) prog_7_method_3_code (1 : Nat) (Option.some Jvm.ClassFile.FieldType.int)) ∈ lw_all := lw_g (lw_at lw_m5 132 rfl) rfl
theorem q1237 : (Jvm.Cond.declares ({ cls := "ClaspedFair$Habit", name := "does", desc := "(LClaspedFair$Person;)V" } : Jvm.MethodName)) ∈ lw_tbl := lw_at lw_m5 134 rfl
theorem q1238 : (Jvm.Cond.sameMethod "ClaspedFair$Habit" "ClaspedFair$Habit" "does" "(LClaspedFair$Person;)V") ∈ lw_all := lw_g (lw_at lw_m5 135 rfl) rfl
abbrev cX17_init : ByteArray := prog_20_method_1_code
def yX17_init : MethodName := ⟨RX17, "<init>", "(III)V"⟩
def dkwX17_init_0 : List UInt8 := [42, 27, 28, 183, 0, 3, 42, 29, 181, 0, 9, 177]
abbrev dktX17_init_0 : List UInt8 := dkwX17_init_0 ++ []
theorem dksX17_init_0 : cX17_init.data.toList.drop 0 = dktX17_init_0 := by decide +kernel
theorem dX17_init_0 : decode cX17_init 0 = .ok (.aload_n 0, 1) := dk_42 (dk_at dksX17_init_0 0 rfl rfl)
theorem dX17_init_1 : decode cX17_init 1 = .ok (.iload_n 1, 1) := dk_27 (dk_at dksX17_init_0 1 rfl rfl)
theorem dX17_init_2 : decode cX17_init 2 = .ok (.iload_n 2, 1) := dk_28 (dk_at dksX17_init_0 2 rfl rfl)
theorem dX17_init_3 : decode cX17_init 3 = .ok (.invokespecial 3, 3) := dk_183 0 3 (dk_at dksX17_init_0 3 rfl rfl)
theorem dX17_init_6 : decode cX17_init 6 = .ok (.aload_n 0, 1) := dk_42 (dk_at dksX17_init_0 6 rfl rfl)
theorem dX17_init_7 : decode cX17_init 7 = .ok (.iload_n 3, 1) := dk_29 (dk_at dksX17_init_0 7 rfl rfl)
theorem dX17_init_8 : decode cX17_init 8 = .ok (.putfield 9, 3) := dk_181 0 9 (dk_at dksX17_init_0 8 rfl rfl)
theorem dX17_init_11 : decode cX17_init 11 = .ok (.return_, 1) := dk_177 (dk_at dksX17_init_0 11 rfl rfl)
abbrev cX17_does : ByteArray := prog_20_method_2_code
def yX17_does : MethodName := ⟨RX17, "does", "(LClaspedFair$Person;)V"⟩
def dkwX17_does_0 : List UInt8 := [43, 17, 39, 15, 43, 180, 0, 15, 42, 180, 0, 9, 96, 184, 0, 20, 181, 0, 15, 177]
abbrev dktX17_does_0 : List UInt8 := dkwX17_does_0 ++ []
theorem dksX17_does_0 : cX17_does.data.toList.drop 0 = dktX17_does_0 := by decide +kernel
theorem dX17_does_0 : decode cX17_does 0 = .ok (.aload_n 1, 1) := dk_43 (dk_at dksX17_does_0 0 rfl rfl)
theorem dX17_does_1 : decode cX17_does 1 = .ok (.sipush 9999, 3) := dk_17 39 15 (dk_at dksX17_does_0 1 rfl rfl)
theorem dX17_does_4 : decode cX17_does 4 = .ok (.aload_n 1, 1) := dk_43 (dk_at dksX17_does_0 4 rfl rfl)
theorem dX17_does_5 : decode cX17_does 5 = .ok (.getfield 15, 3) := dk_180 0 15 (dk_at dksX17_does_0 5 rfl rfl)
theorem dX17_does_8 : decode cX17_does 8 = .ok (.aload_n 0, 1) := dk_42 (dk_at dksX17_does_0 8 rfl rfl)
theorem dX17_does_9 : decode cX17_does 9 = .ok (.getfield 9, 3) := dk_180 0 9 (dk_at dksX17_does_0 9 rfl rfl)
theorem dX17_does_12 : decode cX17_does 12 = .ok (.iadd, 1) := dk_96 (dk_at dksX17_does_0 12 rfl rfl)
theorem dX17_does_13 : decode cX17_does 13 = .ok (.invokestatic 20, 3) := dk_184 0 20 (dk_at dksX17_does_0 13 rfl rfl)
theorem dX17_does_16 : decode cX17_does 16 = .ok (.putfield 15, 3) := dk_181 0 15 (dk_at dksX17_does_0 16 rfl rfl)
theorem dX17_does_19 : decode cX17_does 19 = .ok (.return_, 1) := dk_177 (dk_at dksX17_does_0 19 rfl rfl)

theorem q175 : (Jvm.Cond.initialized "ClaspedFair$Wage") ∈ lw_all := lw_g (lw_at lw_m1 32 rfl) rfl
theorem q291 : (Jvm.Cond.fieldLinkNest "ClaspedFair$Wage" (15 : Nat) "ClaspedFair$Person" "purse" "I" "ClaspedFair") ∈ lw_tbl := lw_at lw_m1 148 rfl
theorem q895 : (Jvm.Cond.selects "ClaspedFair$Wage" ({ cls := "java/lang/Object", name := "getClass", desc := "()Ljava/lang/Class;" } : Jvm.MethodName) ({ cls := "java/lang/Object", name := "getClass", desc := "()Ljava/lang/Class;" } : Jvm.MethodName)) ∈ lw_all := lw_g (lw_at lw_m4 32 rfl) rfl
theorem q966 : (Jvm.Cond.instantiable "ClaspedFair$Wage" (3 : Nat)) ∈ lw_all := lw_g (lw_at lw_m4 103 rfl) rfl
theorem q968 : (Jvm.Cond.instanceMethod ({ cls := "ClaspedFair$Wage", name := "<init>", desc := "(III)V" } : Jvm.MethodName)) ∈ lw_all := lw_g (lw_at lw_m4 105 rfl) rfl
theorem q969 : (Jvm.Cond.code ({ cls := "ClaspedFair$Wage", name := "<init>", desc := "(III)V" } : Jvm.MethodName) prog_20_method_1_code (4 : Nat) (Option.none : Option Jvm.ClassFile.FieldType)) ∈ lw_all := lw_g (lw_at lw_m4 106 rfl) rfl
theorem q970 : (Jvm.Cond.methodLink "ClaspedFair$Wage" (3 : Nat) ({ cls := "ClaspedFair$Habit", name := "<init>", desc := "(II)V" } : Jvm.MethodName)) ∈ lw_all := lw_g (lw_at lw_m4 107 rfl) rfl
theorem q974 : (Jvm.Cond.fieldLink "ClaspedFair$Wage" (9 : Nat) "ClaspedFair$Wage" "much" "I") ∈ lw_all := lw_g (lw_at lw_m4 111 rfl) rfl
theorem q977 : (Jvm.Cond.laysFinal "ClaspedFair$Wage" "ClaspedFair$Wage" "much" "I") ∈ lw_all := lw_g (lw_at lw_m4 114 rfl) rfl
theorem q978 : (Jvm.Cond.soleField "ClaspedFair$Wage" "much") ∈ lw_all := lw_g (lw_at lw_m4 115 rfl) rfl
theorem q979 : (Jvm.Cond.laysFinal "ClaspedFair$Wage" "ClaspedFair$Habit" "day" "I") ∈ lw_all := lw_g (lw_at lw_m4 116 rfl) rfl
theorem q981 : (Jvm.Cond.laysFinal "ClaspedFair$Wage" "ClaspedFair$Habit" "person" "I") ∈ lw_all := lw_g (lw_at lw_m4 118 rfl) rfl
theorem q983 : (Jvm.Cond.superclass "ClaspedFair$Wage" "ClaspedFair$Habit") ∈ lw_all := lw_g (lw_at lw_m4 120 rfl) rfl
theorem q1227 : (Jvm.Cond.selects "ClaspedFair$Wage" ({ cls := "ClaspedFair$Habit", name := "isOf", desc := "(I)Z" } : Jvm.MethodName) ({ cls := "ClaspedFair$Habit", name := "isOf", desc := "(I)Z" } : Jvm.MethodName)) ∈ lw_all := lw_g (lw_at lw_m5 124 rfl) rfl
theorem q1234 : (Jvm.Cond.selects "ClaspedFair$Wage" ({ cls := "ClaspedFair$Habit", name := "person", desc := "()I" } : Jvm.MethodName) ({ cls := "ClaspedFair$Habit", name := "person", desc := "()I" } : Jvm.MethodName)) ∈ lw_all := lw_g (lw_at lw_m5 131 rfl) rfl
theorem q1246 : (Jvm.Cond.selects "ClaspedFair$Wage" ({ cls := "ClaspedFair$Habit", name := "does", desc := "(LClaspedFair$Person;)V" } : Jvm.MethodName) ({ cls := "ClaspedFair$Wage", name := "does", desc := "(LClaspedFair$Person;)V" } : Jvm.MethodName)) ∈ lw_all := lw_g (lw_at lw_m5 143 rfl) rfl
theorem q1247 : (Jvm.Cond.instanceMethod ({ cls := "ClaspedFair$Wage", name := "does", desc := "(LClaspedFair$Person;)V" } : Jvm.MethodName)) ∈ lw_all := lw_g (lw_at lw_m5 144 rfl) rfl
theorem q1248 : (Jvm.Cond.code ({ cls := "ClaspedFair$Wage", name := "does", desc := "(LClaspedFair$Person;)V" } : Jvm.MethodName) prog_20_method_2_code (2 : Nat) (Option.none : Option Jvm.ClassFile.FieldType)) ∈ lw_all := lw_g (lw_at lw_m5 145 rfl) rfl
theorem q1249 : (Jvm.Cond.methodLink "ClaspedFair$Wage" (20 : Nat) ({ cls := "java/lang/Math", name := "min", desc := "(II)I" } : Jvm.MethodName)) ∈ lw_all := lw_g (lw_at lw_m5 146 rfl) rfl
theorem q2211 : (Jvm.Cond.castable "ClaspedFair$Wage" "ClaspedFair$Habit") ∈ lw_tbl := lw_at lw_m9 148 rfl
theorem q2228 : (Jvm.Cond.castable "ClaspedFair$Wage" "java/lang/Object") ∈ lw_tbl := lw_at lw_m9 165 rfl
abbrev cX18_init : ByteArray := prog_3_method_1_code
def yX18_init : MethodName := ⟨RX18, "<init>", "(IIII)V"⟩
def dkwX18_init_0 : List UInt8 := [42, 27, 28, 183, 0, 1, 42, 29, 181, 0, 7, 42, 21, 4, 181, 0, 13, 177]
abbrev dktX18_init_0 : List UInt8 := dkwX18_init_0 ++ []
theorem dksX18_init_0 : cX18_init.data.toList.drop 0 = dktX18_init_0 := by decide +kernel
theorem dX18_init_0 : decode cX18_init 0 = .ok (.aload_n 0, 1) := dk_42 (dk_at dksX18_init_0 0 rfl rfl)
theorem dX18_init_1 : decode cX18_init 1 = .ok (.iload_n 1, 1) := dk_27 (dk_at dksX18_init_0 1 rfl rfl)
theorem dX18_init_2 : decode cX18_init 2 = .ok (.iload_n 2, 1) := dk_28 (dk_at dksX18_init_0 2 rfl rfl)
theorem dX18_init_3 : decode cX18_init 3 = .ok (.invokespecial 1, 3) := dk_183 0 1 (dk_at dksX18_init_0 3 rfl rfl)
theorem dX18_init_6 : decode cX18_init 6 = .ok (.aload_n 0, 1) := dk_42 (dk_at dksX18_init_0 6 rfl rfl)
theorem dX18_init_7 : decode cX18_init 7 = .ok (.iload_n 3, 1) := dk_29 (dk_at dksX18_init_0 7 rfl rfl)
theorem dX18_init_8 : decode cX18_init 8 = .ok (.putfield 7, 3) := dk_181 0 7 (dk_at dksX18_init_0 8 rfl rfl)
theorem dX18_init_11 : decode cX18_init 11 = .ok (.aload_n 0, 1) := dk_42 (dk_at dksX18_init_0 11 rfl rfl)
theorem dX18_init_12 : decode cX18_init 12 = .ok (.iload 4, 2) := dk_21 4 (dk_at dksX18_init_0 12 rfl rfl)
theorem dX18_init_14 : decode cX18_init 14 = .ok (.putfield 13, 3) := dk_181 0 13 (dk_at dksX18_init_0 14 rfl rfl)
theorem dX18_init_17 : decode cX18_init 17 = .ok (.return_, 1) := dk_177 (dk_at dksX18_init_0 17 rfl rfl)
abbrev cX18_does : ByteArray := prog_3_method_2_code
def yX18_does : MethodName := ⟨RX18, "does", "(LClaspedFair$Person;)V"⟩
def dkwX18_does_1 : List UInt8 := [184, 0, 21, 79, 177]
abbrev dktX18_does_1 : List UInt8 := dkwX18_does_1 ++ []
def dkwX18_does_0 : List UInt8 := [43, 180, 0, 16, 42, 180, 0, 7, 3, 43, 180, 0, 16, 42, 180, 0, 7, 46, 42, 180, 0, 13, 100]
abbrev dktX18_does_0 : List UInt8 := dkwX18_does_0 ++ dktX18_does_1
theorem dksX18_does_0 : cX18_does.data.toList.drop 0 = dktX18_does_0 := by decide +kernel
theorem dksX18_does_1 : cX18_does.data.toList.drop 23 = dktX18_does_1 := dk_seg dksX18_does_0 23 rfl rfl
theorem dX18_does_0 : decode cX18_does 0 = .ok (.aload_n 1, 1) := dk_43 (dk_at dksX18_does_0 0 rfl rfl)
theorem dX18_does_1 : decode cX18_does 1 = .ok (.getfield 16, 3) := dk_180 0 16 (dk_at dksX18_does_0 1 rfl rfl)
theorem dX18_does_4 : decode cX18_does 4 = .ok (.aload_n 0, 1) := dk_42 (dk_at dksX18_does_0 4 rfl rfl)
theorem dX18_does_5 : decode cX18_does 5 = .ok (.getfield 7, 3) := dk_180 0 7 (dk_at dksX18_does_0 5 rfl rfl)
theorem dX18_does_8 : decode cX18_does 8 = .ok (.iconst 0, 1) := dk_3 (dk_at dksX18_does_0 8 rfl rfl)
theorem dX18_does_9 : decode cX18_does 9 = .ok (.aload_n 1, 1) := dk_43 (dk_at dksX18_does_0 9 rfl rfl)
theorem dX18_does_10 : decode cX18_does 10 = .ok (.getfield 16, 3) := dk_180 0 16 (dk_at dksX18_does_0 10 rfl rfl)
theorem dX18_does_13 : decode cX18_does 13 = .ok (.aload_n 0, 1) := dk_42 (dk_at dksX18_does_0 13 rfl rfl)
theorem dX18_does_14 : decode cX18_does 14 = .ok (.getfield 7, 3) := dk_180 0 7 (dk_at dksX18_does_0 14 rfl rfl)
theorem dX18_does_17 : decode cX18_does 17 = .ok (.iaload, 1) := dk_46 (dk_at dksX18_does_0 17 rfl rfl)
theorem dX18_does_18 : decode cX18_does 18 = .ok (.aload_n 0, 1) := dk_42 (dk_at dksX18_does_0 18 rfl rfl)
theorem dX18_does_19 : decode cX18_does 19 = .ok (.getfield 13, 3) := dk_180 0 13 (dk_at dksX18_does_0 19 rfl rfl)
theorem dX18_does_22 : decode cX18_does 22 = .ok (.isub, 1) := dk_100 (dk_at dksX18_does_0 22 rfl rfl)
theorem dX18_does_23 : decode cX18_does 23 = .ok (.invokestatic 21, 3) := dk_184 0 21 (dk_at dksX18_does_1 0 rfl rfl)
theorem dX18_does_26 : decode cX18_does 26 = .ok (.iastore, 1) := dk_79 (dk_at dksX18_does_1 3 rfl rfl)
theorem dX18_does_27 : decode cX18_does 27 = .ok (.return_, 1) := dk_177 (dk_at dksX18_does_1 4 rfl rfl)

theorem q176 : (Jvm.Cond.initialized "ClaspedFair$Cold") ∈ lw_all := lw_g (lw_at lw_m1 33 rfl) rfl
theorem q288 : (Jvm.Cond.fieldLinkNest "ClaspedFair$Cold" (16 : Nat) "ClaspedFair$Person" "trait" "[I" "ClaspedFair") ∈ lw_tbl := lw_at lw_m1 145 rfl
theorem q880 : (Jvm.Cond.selects "ClaspedFair$Cold" ({ cls := "java/lang/Object", name := "getClass", desc := "()Ljava/lang/Class;" } : Jvm.MethodName) ({ cls := "java/lang/Object", name := "getClass", desc := "()Ljava/lang/Class;" } : Jvm.MethodName)) ∈ lw_all := lw_g (lw_at lw_m4 17 rfl) rfl
theorem q985 : (Jvm.Cond.instantiable "ClaspedFair$Cold" (4 : Nat)) ∈ lw_all := lw_g (lw_at lw_m4 122 rfl) rfl
theorem q987 : (Jvm.Cond.instanceMethod ({ cls := "ClaspedFair$Cold", name := "<init>", desc := "(IIII)V" } : Jvm.MethodName)) ∈ lw_all := lw_g (lw_at lw_m4 124 rfl) rfl
theorem q988 : (Jvm.Cond.code ({ cls := "ClaspedFair$Cold", name := "<init>", desc := "(IIII)V" } : Jvm.MethodName) prog_3_method_1_code (5 : Nat) (Option.none : Option Jvm.ClassFile.FieldType)) ∈ lw_all := lw_g (lw_at lw_m4 125 rfl) rfl
theorem q989 : (Jvm.Cond.methodLink "ClaspedFair$Cold" (1 : Nat) ({ cls := "ClaspedFair$Habit", name := "<init>", desc := "(II)V" } : Jvm.MethodName)) ∈ lw_all := lw_g (lw_at lw_m4 126 rfl) rfl
theorem q990 : (Jvm.Cond.fieldLink "ClaspedFair$Cold" (7 : Nat) "ClaspedFair$Cold" "trait" "I") ∈ lw_all := lw_g (lw_at lw_m4 127 rfl) rfl
theorem q991 : (Jvm.Cond.fieldLink "ClaspedFair$Cold" (13 : Nat) "ClaspedFair$Cold" "much" "I") ∈ lw_all := lw_g (lw_at lw_m4 128 rfl) rfl
theorem q992 : (Jvm.Cond.laysFinal "ClaspedFair$Cold" "ClaspedFair$Cold" "trait" "I") ∈ lw_all := lw_g (lw_at lw_m4 129 rfl) rfl
theorem q993 : (Jvm.Cond.soleField "ClaspedFair$Cold" "trait") ∈ lw_all := lw_g (lw_at lw_m4 130 rfl) rfl
theorem q994 : (Jvm.Cond.laysFinal "ClaspedFair$Cold" "ClaspedFair$Cold" "much" "I") ∈ lw_all := lw_g (lw_at lw_m4 131 rfl) rfl
theorem q995 : (Jvm.Cond.soleField "ClaspedFair$Cold" "much") ∈ lw_all := lw_g (lw_at lw_m4 132 rfl) rfl
theorem q996 : (Jvm.Cond.laysFinal "ClaspedFair$Cold" "ClaspedFair$Habit" "day" "I") ∈ lw_all := lw_g (lw_at lw_m4 133 rfl) rfl
theorem q997 : (Jvm.Cond.laysFinal "ClaspedFair$Cold" "ClaspedFair$Habit" "person" "I") ∈ lw_all := lw_g (lw_at lw_m4 134 rfl) rfl
theorem q998 : (Jvm.Cond.superclass "ClaspedFair$Cold" "ClaspedFair$Habit") ∈ lw_all := lw_g (lw_at lw_m4 135 rfl) rfl
theorem q1225 : (Jvm.Cond.selects "ClaspedFair$Cold" ({ cls := "ClaspedFair$Habit", name := "isOf", desc := "(I)Z" } : Jvm.MethodName) ({ cls := "ClaspedFair$Habit", name := "isOf", desc := "(I)Z" } : Jvm.MethodName)) ∈ lw_all := lw_g (lw_at lw_m5 122 rfl) rfl
theorem q1232 : (Jvm.Cond.selects "ClaspedFair$Cold" ({ cls := "ClaspedFair$Habit", name := "person", desc := "()I" } : Jvm.MethodName) ({ cls := "ClaspedFair$Habit", name := "person", desc := "()I" } : Jvm.MethodName)) ∈ lw_all := lw_g (lw_at lw_m5 129 rfl) rfl
theorem q1239 : (Jvm.Cond.selects "ClaspedFair$Cold" ({ cls := "ClaspedFair$Habit", name := "does", desc := "(LClaspedFair$Person;)V" } : Jvm.MethodName) ({ cls := "ClaspedFair$Cold", name := "does", desc := "(LClaspedFair$Person;)V" } : Jvm.MethodName)) ∈ lw_all := lw_g (lw_at lw_m5 136 rfl) rfl
theorem q1240 : (Jvm.Cond.instanceMethod ({ cls := "ClaspedFair$Cold", name := "does", desc := "(LClaspedFair$Person;)V" } : Jvm.MethodName)) ∈ lw_all := lw_g (lw_at lw_m5 137 rfl) rfl
theorem q1241 : (Jvm.Cond.code ({ cls := "ClaspedFair$Cold", name := "does", desc := "(LClaspedFair$Person;)V" } : Jvm.MethodName) prog_3_method_2_code (2 : Nat) (Option.none : Option Jvm.ClassFile.FieldType)) ∈ lw_all := lw_g (lw_at lw_m5 138 rfl) rfl
theorem q1242 : (Jvm.Cond.methodLink "ClaspedFair$Cold" (21 : Nat) ({ cls := "java/lang/Math", name := "max", desc := "(II)I" } : Jvm.MethodName)) ∈ lw_all := lw_g (lw_at lw_m5 139 rfl) rfl
theorem q2209 : (Jvm.Cond.castable "ClaspedFair$Cold" "ClaspedFair$Habit") ∈ lw_tbl := lw_at lw_m9 146 rfl
theorem q2229 : (Jvm.Cond.castable "ClaspedFair$Cold" "java/lang/Object") ∈ lw_tbl := lw_at lw_m9 166 rfl
abbrev cX19_init : ByteArray := prog_18_method_1_code
def yX19_init : MethodName := ⟨RX19, "<init>", "(III)V"⟩
def dkwX19_init_0 : List UInt8 := [42, 27, 28, 183, 0, 1, 42, 29, 181, 0, 7, 177]
abbrev dktX19_init_0 : List UInt8 := dkwX19_init_0 ++ []
theorem dksX19_init_0 : cX19_init.data.toList.drop 0 = dktX19_init_0 := by decide +kernel
theorem dX19_init_0 : decode cX19_init 0 = .ok (.aload_n 0, 1) := dk_42 (dk_at dksX19_init_0 0 rfl rfl)
theorem dX19_init_1 : decode cX19_init 1 = .ok (.iload_n 1, 1) := dk_27 (dk_at dksX19_init_0 1 rfl rfl)
theorem dX19_init_2 : decode cX19_init 2 = .ok (.iload_n 2, 1) := dk_28 (dk_at dksX19_init_0 2 rfl rfl)
theorem dX19_init_3 : decode cX19_init 3 = .ok (.invokespecial 1, 3) := dk_183 0 1 (dk_at dksX19_init_0 3 rfl rfl)
theorem dX19_init_6 : decode cX19_init 6 = .ok (.aload_n 0, 1) := dk_42 (dk_at dksX19_init_0 6 rfl rfl)
theorem dX19_init_7 : decode cX19_init 7 = .ok (.iload_n 3, 1) := dk_29 (dk_at dksX19_init_0 7 rfl rfl)
theorem dX19_init_8 : decode cX19_init 8 = .ok (.putfield 7, 3) := dk_181 0 7 (dk_at dksX19_init_0 8 rfl rfl)
theorem dX19_init_11 : decode cX19_init 11 = .ok (.return_, 1) := dk_177 (dk_at dksX19_init_0 11 rfl rfl)
abbrev cX19_does : ByteArray := prog_18_method_2_code
def yX19_does : MethodName := ⟨RX19, "does", "(LClaspedFair$Person;)V"⟩
def dkwX19_does_0 : List UInt8 := [43, 42, 180, 0, 7, 181, 0, 13, 177]
abbrev dktX19_does_0 : List UInt8 := dkwX19_does_0 ++ []
theorem dksX19_does_0 : cX19_does.data.toList.drop 0 = dktX19_does_0 := by decide +kernel
theorem dX19_does_0 : decode cX19_does 0 = .ok (.aload_n 1, 1) := dk_43 (dk_at dksX19_does_0 0 rfl rfl)
theorem dX19_does_1 : decode cX19_does 1 = .ok (.aload_n 0, 1) := dk_42 (dk_at dksX19_does_0 1 rfl rfl)
theorem dX19_does_2 : decode cX19_does 2 = .ok (.getfield 7, 3) := dk_180 0 7 (dk_at dksX19_does_0 2 rfl rfl)
theorem dX19_does_5 : decode cX19_does 5 = .ok (.putfield 13, 3) := dk_181 0 13 (dk_at dksX19_does_0 5 rfl rfl)
theorem dX19_does_8 : decode cX19_does 8 = .ok (.return_, 1) := dk_177 (dk_at dksX19_does_0 8 rfl rfl)

theorem q177 : (Jvm.Cond.initialized "ClaspedFair$Sleeve") ∈ lw_all := lw_g (lw_at lw_m1 34 rfl) rfl
theorem q295 : (Jvm.Cond.fieldLinkNest "ClaspedFair$Sleeve" (13 : Nat) "ClaspedFair$Person" "hand" "I" "ClaspedFair") ∈ lw_tbl := lw_at lw_m1 152 rfl
theorem q894 : (Jvm.Cond.selects "ClaspedFair$Sleeve" ({ cls := "java/lang/Object", name := "getClass", desc := "()Ljava/lang/Class;" } : Jvm.MethodName) ({ cls := "java/lang/Object", name := "getClass", desc := "()Ljava/lang/Class;" } : Jvm.MethodName)) ∈ lw_all := lw_g (lw_at lw_m4 31 rfl) rfl
theorem q1000 : (Jvm.Cond.instantiable "ClaspedFair$Sleeve" (3 : Nat)) ∈ lw_all := lw_g (lw_at lw_m4 137 rfl) rfl
theorem q1002 : (Jvm.Cond.instanceMethod ({ cls := "ClaspedFair$Sleeve", name := "<init>", desc := "(III)V" } : Jvm.MethodName)) ∈ lw_all := lw_g (lw_at lw_m4 139 rfl) rfl
theorem q1003 : (Jvm.Cond.code ({ cls := "ClaspedFair$Sleeve", name := "<init>", desc := "(III)V" } : Jvm.MethodName) prog_18_method_1_code (4 : Nat) (Option.none : Option Jvm.ClassFile.FieldType)) ∈ lw_all := lw_g (lw_at lw_m4 140 rfl) rfl
theorem q1004 : (Jvm.Cond.methodLink "ClaspedFair$Sleeve" (1 : Nat) ({ cls := "ClaspedFair$Habit", name := "<init>", desc := "(II)V" } : Jvm.MethodName)) ∈ lw_all := lw_g (lw_at lw_m4 141 rfl) rfl
theorem q1005 : (Jvm.Cond.fieldLink "ClaspedFair$Sleeve" (7 : Nat) "ClaspedFair$Sleeve" "hand" "I") ∈ lw_all := lw_g (lw_at lw_m4 142 rfl) rfl
theorem q1006 : (Jvm.Cond.laysFinal "ClaspedFair$Sleeve" "ClaspedFair$Sleeve" "hand" "I") ∈ lw_all := lw_g (lw_at lw_m4 143 rfl) rfl
theorem q1007 : (Jvm.Cond.soleField "ClaspedFair$Sleeve" "hand") ∈ lw_all := lw_g (lw_at lw_m4 144 rfl) rfl
theorem q1008 : (Jvm.Cond.laysFinal "ClaspedFair$Sleeve" "ClaspedFair$Habit" "day" "I") ∈ lw_all := lw_g (lw_at lw_m4 145 rfl) rfl
theorem q1009 : (Jvm.Cond.laysFinal "ClaspedFair$Sleeve" "ClaspedFair$Habit" "person" "I") ∈ lw_all := lw_g (lw_at lw_m4 146 rfl) rfl
theorem q1010 : (Jvm.Cond.superclass "ClaspedFair$Sleeve" "ClaspedFair$Habit") ∈ lw_all := lw_g (lw_at lw_m4 147 rfl) rfl
theorem q1226 : (Jvm.Cond.selects "ClaspedFair$Sleeve" ({ cls := "ClaspedFair$Habit", name := "isOf", desc := "(I)Z" } : Jvm.MethodName) ({ cls := "ClaspedFair$Habit", name := "isOf", desc := "(I)Z" } : Jvm.MethodName)) ∈ lw_all := lw_g (lw_at lw_m5 123 rfl) rfl
theorem q1233 : (Jvm.Cond.selects "ClaspedFair$Sleeve" ({ cls := "ClaspedFair$Habit", name := "person", desc := "()I" } : Jvm.MethodName) ({ cls := "ClaspedFair$Habit", name := "person", desc := "()I" } : Jvm.MethodName)) ∈ lw_all := lw_g (lw_at lw_m5 130 rfl) rfl
theorem q1243 : (Jvm.Cond.selects "ClaspedFair$Sleeve" ({ cls := "ClaspedFair$Habit", name := "does", desc := "(LClaspedFair$Person;)V" } : Jvm.MethodName) ({ cls := "ClaspedFair$Sleeve", name := "does", desc := "(LClaspedFair$Person;)V" } : Jvm.MethodName)) ∈ lw_all := lw_g (lw_at lw_m5 140 rfl) rfl
theorem q1244 : (Jvm.Cond.instanceMethod ({ cls := "ClaspedFair$Sleeve", name := "does", desc := "(LClaspedFair$Person;)V" } : Jvm.MethodName)) ∈ lw_all := lw_g (lw_at lw_m5 141 rfl) rfl
theorem q1245 : (Jvm.Cond.code ({ cls := "ClaspedFair$Sleeve", name := "does", desc := "(LClaspedFair$Person;)V" } : Jvm.MethodName) prog_18_method_2_code (2 : Nat) (Option.none : Option Jvm.ClassFile.FieldType)) ∈ lw_all := lw_g (lw_at lw_m5 142 rfl) rfl
theorem q2210 : (Jvm.Cond.castable "ClaspedFair$Sleeve" "ClaspedFair$Habit") ∈ lw_tbl := lw_at lw_m9 147 rfl
theorem q2230 : (Jvm.Cond.castable "ClaspedFair$Sleeve" "java/lang/Object") ∈ lw_tbl := lw_at lw_m9 167 rfl
