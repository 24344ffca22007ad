set_option maxRecDepth 100000
abbrev cJ0_init : ByteArray := prog_34_method_1_code
def yJ0_init : MethodName := ⟨RJ0, "<init>", "()V"⟩
theorem dJ0_init_0 : decode cJ0_init 0 = .ok (.aload_n 0, 1) := by decide +kernel
theorem dJ0_init_1 : decode cJ0_init 1 = .ok (.invokespecial 1, 3) := by decide +kernel
theorem dJ0_init_4 : decode cJ0_init 4 = .ok (.return_, 1) := by decide +kernel

theorem q148 : (Jvm.Cond.initialized "java/util/AbstractCollection") ∈ lw_all := lw_g (lw_at lw_m1 5 rfl) rfl
theorem q265 : (Jvm.Cond.instanceMethod ({ cls := "java/util/AbstractCollection", name := "<init>", desc := "()V" } : Jvm.MethodName)) ∈ lw_all := lw_g (lw_at lw_m1 122 rfl) rfl
theorem q266 : (Jvm.Cond.code ({ cls := "java/util/AbstractCollection", name := "<init>", desc := "()V" } : Jvm.MethodName) prog_34_method_1_code (1 : Nat) (Option.none : Option Jvm.ClassFile.FieldType)) ∈ lw_all := lw_g (lw_at lw_m1 123 rfl) rfl
theorem q267 : (Jvm.Cond.methodLink "java/util/AbstractCollection" (1 : Nat) ({ cls := "java/lang/Object", name := "<init>", desc := "()V" } : Jvm.MethodName)) ∈ lw_all := lw_g (lw_at lw_m1 124 rfl) rfl
abbrev cJ1_init : ByteArray := prog_35_method_1_code
def yJ1_init : MethodName := ⟨RJ1, "<init>", "()V"⟩
def dkwJ1_init_0 : List UInt8 := [42, 183, 0, 1, 42, 3, 181, 0, 7, 177]
abbrev dktJ1_init_0 : List UInt8 := dkwJ1_init_0 ++ []
theorem dksJ1_init_0 : cJ1_init.data.toList.drop 0 = dktJ1_init_0 := by decide +kernel
theorem dJ1_init_0 : decode cJ1_init 0 = .ok (.aload_n 0, 1) := dk_42 (dk_at dksJ1_init_0 0 rfl rfl)
theorem dJ1_init_1 : decode cJ1_init 1 = .ok (.invokespecial 1, 3) := dk_183 0 1 (dk_at dksJ1_init_0 1 rfl rfl)
theorem dJ1_init_4 : decode cJ1_init 4 = .ok (.aload_n 0, 1) := dk_42 (dk_at dksJ1_init_0 4 rfl rfl)
theorem dJ1_init_5 : decode cJ1_init 5 = .ok (.iconst 0, 1) := dk_3 (dk_at dksJ1_init_0 5 rfl rfl)
theorem dJ1_init_6 : decode cJ1_init 6 = .ok (.putfield 7, 3) := dk_181 0 7 (dk_at dksJ1_init_0 6 rfl rfl)
theorem dJ1_init_9 : decode cJ1_init 9 = .ok (.return_, 1) := dk_177 (dk_at dksJ1_init_0 9 rfl rfl)

theorem q149 : (Jvm.Cond.initialized "java/util/AbstractList") ∈ lw_all := lw_g (lw_at lw_m1 6 rfl) rfl
theorem q262 : (Jvm.Cond.instanceMethod ({ cls := "java/util/AbstractList", name := "<init>", desc := "()V" } : Jvm.MethodName)) ∈ lw_all := lw_g (lw_at lw_m1 119 rfl) rfl
theorem q263 : (Jvm.Cond.code ({ cls := "java/util/AbstractList", name := "<init>", desc := "()V" } : Jvm.MethodName) prog_35_method_1_code (1 : Nat) (Option.none : Option Jvm.ClassFile.FieldType)) ∈ lw_all := lw_g (lw_at lw_m1 120 rfl) rfl
theorem q264 : (Jvm.Cond.methodLink "java/util/AbstractList" (1 : Nat) ({ cls := "java/util/AbstractCollection", name := "<init>", desc := "()V" } : Jvm.MethodName)) ∈ lw_all := lw_g (lw_at lw_m1 121 rfl) rfl
theorem q272 : (Jvm.Cond.fieldLink "java/util/AbstractList" (7 : Nat) "java/util/AbstractList" "modCount" "I") ∈ lw_all := lw_g (lw_at lw_m1 129 rfl) rfl
theorem q280 : (Jvm.Cond.soleField "java/util/AbstractList" "modCount") ∈ lw_all := lw_g (lw_at lw_m1 137 rfl) rfl
abbrev cJ2_init : ByteArray := prog_36_method_2_code
def yJ2_init : MethodName := ⟨RJ2, "<init>", "()V"⟩
def dkwJ2_init_0 : List UInt8 := [42, 183, 0, 1, 42, 178, 0, 39, 181, 0, 9, 177]
abbrev dktJ2_init_0 : List UInt8 := dkwJ2_init_0 ++ []
theorem dksJ2_init_0 : cJ2_init.data.toList.drop 0 = dktJ2_init_0 := by decide +kernel
theorem dJ2_init_0 : decode cJ2_init 0 = .ok (.aload_n 0, 1) := dk_42 (dk_at dksJ2_init_0 0 rfl rfl)
theorem dJ2_init_1 : decode cJ2_init 1 = .ok (.invokespecial 1, 3) := dk_183 0 1 (dk_at dksJ2_init_0 1 rfl rfl)
theorem dJ2_init_4 : decode cJ2_init 4 = .ok (.aload_n 0, 1) := dk_42 (dk_at dksJ2_init_0 4 rfl rfl)
theorem dJ2_init_5 : decode cJ2_init 5 = .ok (.getstatic 39, 3) := dk_178 0 39 (dk_at dksJ2_init_0 5 rfl rfl)
theorem dJ2_init_8 : decode cJ2_init 8 = .ok (.putfield 9, 3) := dk_181 0 9 (dk_at dksJ2_init_0 8 rfl rfl)
theorem dJ2_init_11 : decode cJ2_init 11 = .ok (.return_, 1) := dk_177 (dk_at dksJ2_init_0 11 rfl rfl)
abbrev cJ2_size : ByteArray := prog_36_method_8_code
def yJ2_size : MethodName := ⟨RJ2, "size", "()I"⟩
theorem dJ2_size_0 : decode cJ2_size 0 = .ok (.aload_n 0, 1) := by decide +kernel
theorem dJ2_size_1 : decode cJ2_size 1 = .ok (.getfield 48, 3) := by decide +kernel
theorem dJ2_size_4 : decode cJ2_size 4 = .ok (.ireturn, 1) := by decide +kernel
abbrev cJ2_add : ByteArray := prog_36_method_25_code
def yJ2_add : MethodName := ⟨RJ2, "add", "(Ljava/lang/Object;)Z"⟩
def dkwJ2_add_1 : List UInt8 := [172]
abbrev dktJ2_add_1 : List UInt8 := dkwJ2_add_1 ++ []
def dkwJ2_add_0 : List UInt8 := [42, 89, 180, 0, 63, 4, 96, 181, 0, 63, 42, 43, 42, 180, 0, 9, 42, 180, 0, 48, 182, 0, 131, 4]
abbrev dktJ2_add_0 : List UInt8 := dkwJ2_add_0 ++ dktJ2_add_1
theorem dksJ2_add_0 : cJ2_add.data.toList.drop 0 = dktJ2_add_0 := by decide +kernel
theorem dksJ2_add_1 : cJ2_add.data.toList.drop 24 = dktJ2_add_1 := dk_seg dksJ2_add_0 24 rfl rfl
theorem dJ2_add_0 : decode cJ2_add 0 = .ok (.aload_n 0, 1) := dk_42 (dk_at dksJ2_add_0 0 rfl rfl)
theorem dJ2_add_1 : decode cJ2_add 1 = .ok (.dup, 1) := dk_89 (dk_at dksJ2_add_0 1 rfl rfl)
theorem dJ2_add_2 : decode cJ2_add 2 = .ok (.getfield 63, 3) := dk_180 0 63 (dk_at dksJ2_add_0 2 rfl rfl)
theorem dJ2_add_5 : decode cJ2_add 5 = .ok (.iconst 1, 1) := dk_4 (dk_at dksJ2_add_0 5 rfl rfl)
theorem dJ2_add_6 : decode cJ2_add 6 = .ok (.iadd, 1) := dk_96 (dk_at dksJ2_add_0 6 rfl rfl)
theorem dJ2_add_7 : decode cJ2_add 7 = .ok (.putfield 63, 3) := dk_181 0 63 (dk_at dksJ2_add_0 7 rfl rfl)
theorem dJ2_add_10 : decode cJ2_add 10 = .ok (.aload_n 0, 1) := dk_42 (dk_at dksJ2_add_0 10 rfl rfl)
theorem dJ2_add_11 : decode cJ2_add 11 = .ok (.aload_n 1, 1) := dk_43 (dk_at dksJ2_add_0 11 rfl rfl)
theorem dJ2_add_12 : decode cJ2_add 12 = .ok (.aload_n 0, 1) := dk_42 (dk_at dksJ2_add_0 12 rfl rfl)
theorem dJ2_add_13 : decode cJ2_add 13 = .ok (.getfield 9, 3) := dk_180 0 9 (dk_at dksJ2_add_0 13 rfl rfl)
theorem dJ2_add_16 : decode cJ2_add 16 = .ok (.aload_n 0, 1) := dk_42 (dk_at dksJ2_add_0 16 rfl rfl)
theorem dJ2_add_17 : decode cJ2_add 17 = .ok (.getfield 48, 3) := dk_180 0 48 (dk_at dksJ2_add_0 17 rfl rfl)
theorem dJ2_add_20 : decode cJ2_add 20 = .ok (.invokevirtual 131, 3) := dk_182 0 131 (dk_at dksJ2_add_0 20 rfl rfl)
theorem dJ2_add_23 : decode cJ2_add 23 = .ok (.iconst 1, 1) := dk_4 (dk_at dksJ2_add_0 23 rfl rfl)
theorem dJ2_add_24 : decode cJ2_add 24 = .ok (.ireturn, 1) := dk_172 (dk_at dksJ2_add_1 0 rfl rfl)
abbrev cJ2_add_2 : ByteArray := prog_36_method_24_code
def yJ2_add_2 : MethodName := ⟨RJ2, "add", "(Ljava/lang/Object;[Ljava/lang/Object;I)V"⟩
def dkwJ2_add_2_0 : List UInt8 := [29, 44, 190, 160, 0, 8, 42, 182, 0, 129, 77, 44, 29, 43, 83, 42, 29, 4, 96, 181, 0, 48, 177]
abbrev dktJ2_add_2_0 : List UInt8 := dkwJ2_add_2_0 ++ []
theorem dksJ2_add_2_0 : cJ2_add_2.data.toList.drop 0 = dktJ2_add_2_0 := by decide +kernel
theorem dJ2_add_2_0 : decode cJ2_add_2 0 = .ok (.iload_n 3, 1) := dk_29 (dk_at dksJ2_add_2_0 0 rfl rfl)
theorem dJ2_add_2_1 : decode cJ2_add_2 1 = .ok (.aload_n 2, 1) := dk_44 (dk_at dksJ2_add_2_0 1 rfl rfl)
theorem dJ2_add_2_2 : decode cJ2_add_2 2 = .ok (.arraylength, 1) := dk_190 (dk_at dksJ2_add_2_0 2 rfl rfl)
theorem dJ2_add_2_3 : decode cJ2_add_2 3 = .ok (.if_icmp .ne 8, 3) := dk_160 0 8 (dk_at dksJ2_add_2_0 3 rfl rfl)
theorem dJ2_add_2_6 : decode cJ2_add_2 6 = .ok (.aload_n 0, 1) := dk_42 (dk_at dksJ2_add_2_0 6 rfl rfl)
theorem dJ2_add_2_7 : decode cJ2_add_2 7 = .ok (.invokevirtual 129, 3) := dk_182 0 129 (dk_at dksJ2_add_2_0 7 rfl rfl)
theorem dJ2_add_2_10 : decode cJ2_add_2 10 = .ok (.astore_n 2, 1) := dk_77 (dk_at dksJ2_add_2_0 10 rfl rfl)
theorem dJ2_add_2_11 : decode cJ2_add_2 11 = .ok (.aload_n 2, 1) := dk_44 (dk_at dksJ2_add_2_0 11 rfl rfl)
theorem dJ2_add_2_12 : decode cJ2_add_2 12 = .ok (.iload_n 3, 1) := dk_29 (dk_at dksJ2_add_2_0 12 rfl rfl)
theorem dJ2_add_2_13 : decode cJ2_add_2 13 = .ok (.aload_n 1, 1) := dk_43 (dk_at dksJ2_add_2_0 13 rfl rfl)
theorem dJ2_add_2_14 : decode cJ2_add_2 14 = .ok (.aastore, 1) := dk_83 (dk_at dksJ2_add_2_0 14 rfl rfl)
theorem dJ2_add_2_15 : decode cJ2_add_2 15 = .ok (.aload_n 0, 1) := dk_42 (dk_at dksJ2_add_2_0 15 rfl rfl)
theorem dJ2_add_2_16 : decode cJ2_add_2 16 = .ok (.iload_n 3, 1) := dk_29 (dk_at dksJ2_add_2_0 16 rfl rfl)
theorem dJ2_add_2_17 : decode cJ2_add_2 17 = .ok (.iconst 1, 1) := dk_4 (dk_at dksJ2_add_2_0 17 rfl rfl)
theorem dJ2_add_2_18 : decode cJ2_add_2 18 = .ok (.iadd, 1) := dk_96 (dk_at dksJ2_add_2_0 18 rfl rfl)
theorem dJ2_add_2_19 : decode cJ2_add_2 19 = .ok (.putfield 48, 3) := dk_181 0 48 (dk_at dksJ2_add_2_0 19 rfl rfl)
theorem dJ2_add_2_22 : decode cJ2_add_2 22 = .ok (.return_, 1) := dk_177 (dk_at dksJ2_add_2_0 22 rfl rfl)
abbrev cJ2_grow : ByteArray := prog_36_method_7_code
def yJ2_grow : MethodName := ⟨RJ2, "grow", "()[Ljava/lang/Object;"⟩
def dkwJ2_grow_0 : List UInt8 := [42, 42, 180, 0, 48, 4, 96, 182, 0, 69, 176]
abbrev dktJ2_grow_0 : List UInt8 := dkwJ2_grow_0 ++ []
theorem dksJ2_grow_0 : cJ2_grow.data.toList.drop 0 = dktJ2_grow_0 := by decide +kernel
theorem dJ2_grow_0 : decode cJ2_grow 0 = .ok (.aload_n 0, 1) := dk_42 (dk_at dksJ2_grow_0 0 rfl rfl)
theorem dJ2_grow_1 : decode cJ2_grow 1 = .ok (.aload_n 0, 1) := dk_42 (dk_at dksJ2_grow_0 1 rfl rfl)
theorem dJ2_grow_2 : decode cJ2_grow 2 = .ok (.getfield 48, 3) := dk_180 0 48 (dk_at dksJ2_grow_0 2 rfl rfl)
theorem dJ2_grow_5 : decode cJ2_grow 5 = .ok (.iconst 1, 1) := dk_4 (dk_at dksJ2_grow_0 5 rfl rfl)
theorem dJ2_grow_6 : decode cJ2_grow 6 = .ok (.iadd, 1) := dk_96 (dk_at dksJ2_grow_0 6 rfl rfl)
theorem dJ2_grow_7 : decode cJ2_grow 7 = .ok (.invokevirtual 69, 3) := dk_182 0 69 (dk_at dksJ2_grow_0 7 rfl rfl)
theorem dJ2_grow_10 : decode cJ2_grow 10 = .ok (.areturn, 1) := dk_176 (dk_at dksJ2_grow_0 10 rfl rfl)
abbrev cJ2_grow_2 : ByteArray := prog_36_method_6_code
def yJ2_grow_2 : MethodName := ⟨RJ2, "grow", "(I)[Ljava/lang/Object;"⟩
def dkwJ2_grow_2_2 : List UInt8 := [27, 184, 0, 79, 189, 0, 7, 90, 181, 0, 9, 176]
abbrev dktJ2_grow_2_2 : List UInt8 := dkwJ2_grow_2_2 ++ []
def dkwJ2_grow_2_1 : List UInt8 := [28, 4, 122, 184, 0, 73, 62, 42, 42, 180, 0, 9, 29, 184, 0, 66, 90, 181, 0, 9, 176, 42, 16, 10]
abbrev dktJ2_grow_2_1 : List UInt8 := dkwJ2_grow_2_1 ++ dktJ2_grow_2_2
def dkwJ2_grow_2_0 : List UInt8 := [42, 180, 0, 9, 190, 61, 28, 157, 0, 13, 42, 180, 0, 9, 178, 0, 39, 165, 0, 28, 28, 27, 28, 100]
abbrev dktJ2_grow_2_0 : List UInt8 := dkwJ2_grow_2_0 ++ dktJ2_grow_2_1
theorem dksJ2_grow_2_0 : cJ2_grow_2.data.toList.drop 0 = dktJ2_grow_2_0 := by decide +kernel
theorem dksJ2_grow_2_1 : cJ2_grow_2.data.toList.drop 24 = dktJ2_grow_2_1 := dk_seg dksJ2_grow_2_0 24 rfl rfl
theorem dksJ2_grow_2_2 : cJ2_grow_2.data.toList.drop 48 = dktJ2_grow_2_2 := dk_seg dksJ2_grow_2_1 24 rfl rfl
theorem dJ2_grow_2_0 : decode cJ2_grow_2 0 = .ok (.aload_n 0, 1) := dk_42 (dk_at dksJ2_grow_2_0 0 rfl rfl)
theorem dJ2_grow_2_1 : decode cJ2_grow_2 1 = .ok (.getfield 9, 3) := dk_180 0 9 (dk_at dksJ2_grow_2_0 1 rfl rfl)
theorem dJ2_grow_2_4 : decode cJ2_grow_2 4 = .ok (.arraylength, 1) := dk_190 (dk_at dksJ2_grow_2_0 4 rfl rfl)
theorem dJ2_grow_2_5 : decode cJ2_grow_2 5 = .ok (.istore_n 2, 1) := dk_61 (dk_at dksJ2_grow_2_0 5 rfl rfl)
theorem dJ2_grow_2_6 : decode cJ2_grow_2 6 = .ok (.iload_n 2, 1) := dk_28 (dk_at dksJ2_grow_2_0 6 rfl rfl)
theorem dJ2_grow_2_7 : decode cJ2_grow_2 7 = .ok (.ifCond .gt 13, 3) := dk_157 0 13 (dk_at dksJ2_grow_2_0 7 rfl rfl)
theorem dJ2_grow_2_10 : decode cJ2_grow_2 10 = .ok (.aload_n 0, 1) := dk_42 (dk_at dksJ2_grow_2_0 10 rfl rfl)
theorem dJ2_grow_2_11 : decode cJ2_grow_2 11 = .ok (.getfield 9, 3) := dk_180 0 9 (dk_at dksJ2_grow_2_0 11 rfl rfl)
theorem dJ2_grow_2_14 : decode cJ2_grow_2 14 = .ok (.getstatic 39, 3) := dk_178 0 39 (dk_at dksJ2_grow_2_0 14 rfl rfl)
theorem dJ2_grow_2_17 : decode cJ2_grow_2 17 = .ok (.if_acmp .eq 28, 3) := dk_165 0 28 (dk_at dksJ2_grow_2_0 17 rfl rfl)
theorem dJ2_grow_2_20 : decode cJ2_grow_2 20 = .ok (.iload_n 2, 1) := dk_28 (dk_at dksJ2_grow_2_0 20 rfl rfl)
theorem dJ2_grow_2_21 : decode cJ2_grow_2 21 = .ok (.iload_n 1, 1) := dk_27 (dk_at dksJ2_grow_2_0 21 rfl rfl)
theorem dJ2_grow_2_22 : decode cJ2_grow_2 22 = .ok (.iload_n 2, 1) := dk_28 (dk_at dksJ2_grow_2_0 22 rfl rfl)
theorem dJ2_grow_2_23 : decode cJ2_grow_2 23 = .ok (.isub, 1) := dk_100 (dk_at dksJ2_grow_2_0 23 rfl rfl)
theorem dJ2_grow_2_24 : decode cJ2_grow_2 24 = .ok (.iload_n 2, 1) := dk_28 (dk_at dksJ2_grow_2_1 0 rfl rfl)
theorem dJ2_grow_2_25 : decode cJ2_grow_2 25 = .ok (.iconst 1, 1) := dk_4 (dk_at dksJ2_grow_2_1 1 rfl rfl)
theorem dJ2_grow_2_26 : decode cJ2_grow_2 26 = .ok (.ishr, 1) := dk_122 (dk_at dksJ2_grow_2_1 2 rfl rfl)
theorem dJ2_grow_2_27 : decode cJ2_grow_2 27 = .ok (.invokestatic 73, 3) := dk_184 0 73 (dk_at dksJ2_grow_2_1 3 rfl rfl)
theorem dJ2_grow_2_30 : decode cJ2_grow_2 30 = .ok (.istore_n 3, 1) := dk_62 (dk_at dksJ2_grow_2_1 6 rfl rfl)
theorem dJ2_grow_2_31 : decode cJ2_grow_2 31 = .ok (.aload_n 0, 1) := dk_42 (dk_at dksJ2_grow_2_1 7 rfl rfl)
theorem dJ2_grow_2_32 : decode cJ2_grow_2 32 = .ok (.aload_n 0, 1) := dk_42 (dk_at dksJ2_grow_2_1 8 rfl rfl)
theorem dJ2_grow_2_33 : decode cJ2_grow_2 33 = .ok (.getfield 9, 3) := dk_180 0 9 (dk_at dksJ2_grow_2_1 9 rfl rfl)
theorem dJ2_grow_2_36 : decode cJ2_grow_2 36 = .ok (.iload_n 3, 1) := dk_29 (dk_at dksJ2_grow_2_1 12 rfl rfl)
theorem dJ2_grow_2_37 : decode cJ2_grow_2 37 = .ok (.invokestatic 66, 3) := dk_184 0 66 (dk_at dksJ2_grow_2_1 13 rfl rfl)
theorem dJ2_grow_2_40 : decode cJ2_grow_2 40 = .ok (.dup_x1, 1) := dk_90 (dk_at dksJ2_grow_2_1 16 rfl rfl)
theorem dJ2_grow_2_41 : decode cJ2_grow_2 41 = .ok (.putfield 9, 3) := dk_181 0 9 (dk_at dksJ2_grow_2_1 17 rfl rfl)
theorem dJ2_grow_2_44 : decode cJ2_grow_2 44 = .ok (.areturn, 1) := dk_176 (dk_at dksJ2_grow_2_1 20 rfl rfl)
theorem dJ2_grow_2_45 : decode cJ2_grow_2 45 = .ok (.aload_n 0, 1) := dk_42 (dk_at dksJ2_grow_2_1 21 rfl rfl)
theorem dJ2_grow_2_46 : decode cJ2_grow_2 46 = .ok (.bipush 10, 2) := dk_16 10 (dk_at dksJ2_grow_2_1 22 rfl rfl)
theorem dJ2_grow_2_48 : decode cJ2_grow_2 48 = .ok (.iload_n 1, 1) := dk_27 (dk_at dksJ2_grow_2_2 0 rfl rfl)
theorem dJ2_grow_2_49 : decode cJ2_grow_2 49 = .ok (.invokestatic 79, 3) := dk_184 0 79 (dk_at dksJ2_grow_2_2 1 rfl rfl)
theorem dJ2_grow_2_52 : decode cJ2_grow_2 52 = .ok (.anewarray 7, 3) := dk_189 0 7 (dk_at dksJ2_grow_2_2 4 rfl rfl)
theorem dJ2_grow_2_55 : decode cJ2_grow_2 55 = .ok (.dup_x1, 1) := dk_90 (dk_at dksJ2_grow_2_2 7 rfl rfl)
theorem dJ2_grow_2_56 : decode cJ2_grow_2 56 = .ok (.putfield 9, 3) := dk_181 0 9 (dk_at dksJ2_grow_2_2 8 rfl rfl)
theorem dJ2_grow_2_59 : decode cJ2_grow_2 59 = .ok (.areturn, 1) := dk_176 (dk_at dksJ2_grow_2_2 11 rfl rfl)
abbrev cJ2_get : ByteArray := prog_36_method_20_code
def yJ2_get : MethodName := ⟨RJ2, "get", "(I)Ljava/lang/Object;"⟩
def dkwJ2_get_0 : List UInt8 := [27, 42, 180, 0, 48, 184, 0, 118, 87, 42, 27, 182, 0, 123, 176]
abbrev dktJ2_get_0 : List UInt8 := dkwJ2_get_0 ++ []
theorem dksJ2_get_0 : cJ2_get.data.toList.drop 0 = dktJ2_get_0 := by decide +kernel
theorem dJ2_get_0 : decode cJ2_get 0 = .ok (.iload_n 1, 1) := dk_27 (dk_at dksJ2_get_0 0 rfl rfl)
theorem dJ2_get_1 : decode cJ2_get 1 = .ok (.aload_n 0, 1) := dk_42 (dk_at dksJ2_get_0 1 rfl rfl)
theorem dJ2_get_2 : decode cJ2_get 2 = .ok (.getfield 48, 3) := dk_180 0 48 (dk_at dksJ2_get_0 2 rfl rfl)
theorem dJ2_get_5 : decode cJ2_get 5 = .ok (.invokestatic 118, 3) := dk_184 0 118 (dk_at dksJ2_get_0 5 rfl rfl)
theorem dJ2_get_8 : decode cJ2_get 8 = .ok (.pop, 1) := dk_87 (dk_at dksJ2_get_0 8 rfl rfl)
theorem dJ2_get_9 : decode cJ2_get 9 = .ok (.aload_n 0, 1) := dk_42 (dk_at dksJ2_get_0 9 rfl rfl)
theorem dJ2_get_10 : decode cJ2_get 10 = .ok (.iload_n 1, 1) := dk_27 (dk_at dksJ2_get_0 10 rfl rfl)
theorem dJ2_get_11 : decode cJ2_get 11 = .ok (.invokevirtual 123, 3) := dk_182 0 123 (dk_at dksJ2_get_0 11 rfl rfl)
theorem dJ2_get_14 : decode cJ2_get 14 = .ok (.areturn, 1) := dk_176 (dk_at dksJ2_get_0 14 rfl rfl)
abbrev cJ2_elementData : ByteArray := prog_36_method_18_code
def yJ2_elementData : MethodName := ⟨RJ2, "elementData", "(I)Ljava/lang/Object;"⟩
def dkwJ2_elementData_0 : List UInt8 := [42, 180, 0, 9, 27, 50, 176]
abbrev dktJ2_elementData_0 : List UInt8 := dkwJ2_elementData_0 ++ []
theorem dksJ2_elementData_0 : cJ2_elementData.data.toList.drop 0 = dktJ2_elementData_0 := by decide +kernel
theorem dJ2_elementData_0 : decode cJ2_elementData 0 = .ok (.aload_n 0, 1) := dk_42 (dk_at dksJ2_elementData_0 0 rfl rfl)
theorem dJ2_elementData_1 : decode cJ2_elementData 1 = .ok (.getfield 9, 3) := dk_180 0 9 (dk_at dksJ2_elementData_0 1 rfl rfl)
theorem dJ2_elementData_4 : decode cJ2_elementData 4 = .ok (.iload_n 1, 1) := dk_27 (dk_at dksJ2_elementData_0 4 rfl rfl)
theorem dJ2_elementData_5 : decode cJ2_elementData 5 = .ok (.aaload, 1) := dk_50 (dk_at dksJ2_elementData_0 5 rfl rfl)
theorem dJ2_elementData_6 : decode cJ2_elementData 6 = .ok (.areturn, 1) := dk_176 (dk_at dksJ2_elementData_0 6 rfl rfl)

theorem q150 : (Jvm.Cond.initialized "java/util/ArrayList") ∈ lw_all := lw_g (lw_at lw_m1 7 rfl) rfl
theorem q257 : (Jvm.Cond.instantiable "java/util/ArrayList" (3 : Nat)) ∈ lw_all := lw_g (lw_at lw_m1 114 rfl) rfl
theorem q259 : (Jvm.Cond.instanceMethod ({ cls := "java/util/ArrayList", name := "<init>", desc := "()V" } : Jvm.MethodName)) ∈ lw_all := lw_g (lw_at lw_m1 116 rfl) rfl
theorem q260 : (Jvm.Cond.code ({ cls := "java/util/ArrayList", name := "<init>", desc := "()V" } : Jvm.MethodName) prog_36_method_2_code (1 : Nat) (Option.none : Option Jvm.ClassFile.FieldType)) ∈ lw_all := lw_g (lw_at lw_m1 117 rfl) rfl
theorem q261 : (Jvm.Cond.methodLink "java/util/ArrayList" (1 : Nat) ({ cls := "java/util/AbstractList", name := "<init>", desc := "()V" } : Jvm.MethodName)) ∈ lw_all := lw_g (lw_at lw_m1 118 rfl) rfl
theorem q268 : (Jvm.Cond.fieldLink "java/util/ArrayList" (39 : Nat) "java/util/ArrayList" "DEFAULTCAPACITY_EMPTY_ELEMENTDATA" "[Ljava/lang/Object;") ∈ lw_all := lw_g (lw_at lw_m1 125 rfl) rfl
theorem q269 : (Jvm.Cond.laysStatic "java/util/ArrayList" "DEFAULTCAPACITY_EMPTY_ELEMENTDATA" "[Ljava/lang/Object;") ∈ lw_tbl := lw_at lw_m1 126 rfl
theorem q270 : (Jvm.Cond.fieldLink "java/util/ArrayList" (9 : Nat) "java/util/ArrayList" "elementData" "[Ljava/lang/Object;") ∈ lw_all := lw_g (lw_at lw_m1 127 rfl) rfl
theorem q271 : (Jvm.Cond.fieldLink "java/util/ArrayList" (48 : Nat) "java/util/ArrayList" "size" "I") ∈ lw_all := lw_g (lw_at lw_m1 128 rfl) rfl
theorem q273 : (Jvm.Cond.fieldLink "java/util/ArrayList" (63 : Nat) "java/util/ArrayList" "modCount" "I") ∈ lw_all := lw_g (lw_at lw_m1 130 rfl) rfl
theorem q274 : (Jvm.Cond.sameField "java/util/ArrayList" "java/util/AbstractList" "modCount" "I") ∈ lw_all := lw_g (lw_at lw_m1 131 rfl) rfl
theorem q275 : (Jvm.Cond.lays "java/util/ArrayList" "java/util/ArrayList" "elementData" "[Ljava/lang/Object;") ∈ lw_all := lw_g (lw_at lw_m1 132 rfl) rfl
theorem q276 : (Jvm.Cond.soleField "java/util/ArrayList" "elementData") ∈ lw_all := lw_g (lw_at lw_m1 133 rfl) rfl
theorem q277 : (Jvm.Cond.lays "java/util/ArrayList" "java/util/ArrayList" "size" "I") ∈ lw_all := lw_g (lw_at lw_m1 134 rfl) rfl
theorem q278 : (Jvm.Cond.soleField "java/util/ArrayList" "size") ∈ lw_all := lw_g (lw_at lw_m1 135 rfl) rfl
theorem q279 : (Jvm.Cond.lays "java/util/ArrayList" "java/util/AbstractList" "modCount" "I") ∈ lw_all := lw_g (lw_at lw_m1 136 rfl) rfl
theorem q281 : (Jvm.Cond.superclass "java/util/ArrayList" "java/util/AbstractList") ∈ lw_all := lw_g (lw_at lw_m1 138 rfl) rfl
theorem q740 : (Jvm.Cond.instanceMethod ({ cls := "java/util/ArrayList", name := "size", desc := "()I" } : Jvm.MethodName)) ∈ lw_all := lw_g (lw_at lw_m3 117 rfl) rfl
theorem q741 : (Jvm.Cond.selects "java/util/ArrayList" ({ cls := "java/util/ArrayList", name := "size", desc := "()I" } : Jvm.MethodName) ({ cls := "java/util/ArrayList", name := "size", desc := "()I" } : Jvm.MethodName)) ∈ lw_all := lw_g (lw_at lw_m3 118 rfl) rfl
theorem q742 : (Jvm.Cond.code ({ cls := "java/util/ArrayList", name := "size", desc := "()I" } : Jvm.MethodName) prog_36_method_8_code (1 : Nat) (Option.some Jvm.ClassFile.FieldType.int)) ∈ lw_all := lw_g (lw_at lw_m3 119 rfl) rfl
theorem q848 : (Jvm.Cond.instanceMethod ({ cls := "java/util/ArrayList", name := "add", desc := "(Ljava/lang/Object;)Z" } : Jvm.MethodName)) ∈ lw_all := lw_g (lw_at lw_m3 225 rfl) rfl
theorem q849 : (Jvm.Cond.selects "java/util/ArrayList" ({ cls := "java/util/ArrayList", name := "add", desc := "(Ljava/lang/Object;)Z" } : Jvm.MethodName) ({ cls := "java/util/ArrayList", name := "add", desc := "(Ljava/lang/Object;)Z" } : Jvm.MethodName)) ∈ lw_all := lw_g (lw_at lw_m3 226 rfl) rfl
theorem q850 : (Jvm.Cond.code ({ cls := "java/util/ArrayList", name := "add", desc := "(Ljava/lang/Object;)Z" } : Jvm.MethodName) prog_36_method_25_code (2 : Nat) (Option.some Jvm.ClassFile.FieldType.boolean)) ∈ lw_all := lw_g (lw_at lw_m3 227 rfl) rfl
theorem q851 : (Jvm.Cond.methodLink "java/util/ArrayList" (131 : Nat) ({ cls := "java/util/ArrayList", name := "add", desc := "(Ljava/lang/Object;[Ljava/lang/Object;I)V" } : Jvm.MethodName)) ∈ lw_all := lw_g (lw_at lw_m3 228 rfl) rfl
theorem q852 : (Jvm.Cond.privateMethod ({ cls := "java/util/ArrayList", name := "add", desc := "(Ljava/lang/Object;[Ljava/lang/Object;I)V" } : Jvm.MethodName)) ∈ lw_tbl := lw_at lw_m3 229 rfl
theorem q853 : (Jvm.Cond.instanceMethod ({ cls := "java/util/ArrayList", name := "add", desc := "(Ljava/lang/Object;[Ljava/lang/Object;I)V" } : Jvm.MethodName)) ∈ lw_all := lw_g (lw_at lw_m3 230 rfl) rfl
theorem q854 : (Jvm.Cond.code ({ cls := "java/util/ArrayList", name := "add", desc := "(Ljava/lang/Object;[Ljava/lang/Object;I)V" } : Jvm.MethodName) prog_36_method_24_code (4 : Nat) (Option.none : Option Jvm.ClassFile.FieldType)) ∈ lw_all := lw_g (lw_at lw_m3 231 rfl) rfl
theorem q855 : (Jvm.Cond.methodLink "java/util/ArrayList" (129 : Nat) ({ cls := "java/util/ArrayList", name := "grow", desc := "()[Ljava/lang/Object;" } : Jvm.MethodName)) ∈ lw_all := lw_g (lw_at lw_m3 232 rfl) rfl
theorem q856 : (Jvm.Cond.privateMethod ({ cls := "java/util/ArrayList", name := "grow", desc := "()[Ljava/lang/Object;" } : Jvm.MethodName)) ∈ lw_tbl := lw_at lw_m3 233 rfl
theorem q857 : (Jvm.Cond.instanceMethod ({ cls := "java/util/ArrayList", name := "grow", desc := "()[Ljava/lang/Object;" } : Jvm.MethodName)) ∈ lw_all := lw_g (lw_at lw_m3 234 rfl) rfl
theorem q858 : (Jvm.Cond.code ({ cls := "java/util/ArrayList", name := "grow", desc := "()[Ljava/lang/Object;" } : Jvm.MethodName) prog_36_method_7_code (1 : Nat) (Option.some (Jvm.ClassFile.FieldType.array (Jvm.ClassFile.FieldType.object "java/lang/Object")))) ∈ lw_all := lw_g (lw_at lw_m3 235 rfl) rfl
theorem q859 : (Jvm.Cond.methodLink "java/util/ArrayList" (69 : Nat) ({ cls := "java/util/ArrayList", name := "grow", desc := "(I)[Ljava/lang/Object;" } : Jvm.MethodName)) ∈ lw_all := lw_g (lw_at lw_m3 236 rfl) rfl
theorem q860 : (Jvm.Cond.privateMethod ({ cls := "java/util/ArrayList", name := "grow", desc := "(I)[Ljava/lang/Object;" } : Jvm.MethodName)) ∈ lw_tbl := lw_at lw_m3 237 rfl
theorem q861 : (Jvm.Cond.instanceMethod ({ cls := "java/util/ArrayList", name := "grow", desc := "(I)[Ljava/lang/Object;" } : Jvm.MethodName)) ∈ lw_all := lw_g (lw_at lw_m3 238 rfl) rfl
theorem q862 : (Jvm.Cond.code ({ cls := "java/util/ArrayList", name := "grow", desc := "(I)[Ljava/lang/Object;" } : Jvm.MethodName) prog_36_method_6_code (4 : Nat) (Option.some (Jvm.ClassFile.FieldType.array (Jvm.ClassFile.FieldType.object "java/lang/Object")))) ∈ lw_all := lw_g (lw_at lw_m3 239 rfl) rfl
theorem q863 : (Jvm.Cond.methodLink "java/util/ArrayList" (73 : Nat) ({ cls := "jdk/internal/util/ArraysSupport", name := "newLength", desc := "(III)I" } : Jvm.MethodName)) ∈ lw_all := lw_g (lw_at lw_m4 0 rfl) rfl
theorem q873 : (Jvm.Cond.methodLink "java/util/ArrayList" (66 : Nat) ({ cls := "java/util/Arrays", name := "copyOf", desc := "([Ljava/lang/Object;I)[Ljava/lang/Object;" } : Jvm.MethodName)) ∈ lw_all := lw_g (lw_at lw_m4 10 rfl) rfl
theorem q897 : (Jvm.Cond.selects "java/util/ArrayList" ({ cls := "java/lang/Object", name := "getClass", desc := "()Ljava/lang/Class;" } : Jvm.MethodName) ({ cls := "java/lang/Object", name := "getClass", desc := "()Ljava/lang/Class;" } : Jvm.MethodName)) ∈ lw_all := lw_g (lw_at lw_m4 34 rfl) rfl
theorem q911 : (Jvm.Cond.methodLink "java/util/ArrayList" (79 : Nat) ({ cls := "java/lang/Math", name := "max", desc := "(II)I" } : Jvm.MethodName)) ∈ lw_all := lw_g (lw_at lw_m4 48 rfl) rfl
theorem q912 : (Jvm.Cond.classLink "java/util/ArrayList" (7 : Nat) "java/lang/Object") ∈ lw_all := lw_g (lw_at lw_m4 49 rfl) rfl
theorem q1109 : (Jvm.Cond.instanceMethod ({ cls := "java/util/ArrayList", name := "get", desc := "(I)Ljava/lang/Object;" } : Jvm.MethodName)) ∈ lw_all := lw_g (lw_at lw_m5 6 rfl) rfl
theorem q1110 : (Jvm.Cond.selects "java/util/ArrayList" ({ cls := "java/util/ArrayList", name := "get", desc := "(I)Ljava/lang/Object;" } : Jvm.MethodName) ({ cls := "java/util/ArrayList", name := "get", desc := "(I)Ljava/lang/Object;" } : Jvm.MethodName)) ∈ lw_all := lw_g (lw_at lw_m5 7 rfl) rfl
theorem q1111 : (Jvm.Cond.code ({ cls := "java/util/ArrayList", name := "get", desc := "(I)Ljava/lang/Object;" } : Jvm.MethodName) prog_36_method_20_code (2 : Nat) (Option.some (Jvm.ClassFile.FieldType.object "java/lang/Object"))) ∈ lw_all := lw_g (lw_at lw_m5 8 rfl) rfl
theorem q1112 : (Jvm.Cond.methodLink "java/util/ArrayList" (118 : Nat) ({ cls := "java/util/Objects", name := "checkIndex", desc := "(II)I" } : Jvm.MethodName)) ∈ lw_all := lw_g (lw_at lw_m5 9 rfl) rfl
theorem q1116 : (Jvm.Cond.methodLink "java/util/ArrayList" (123 : Nat) ({ cls := "java/util/ArrayList", name := "elementData", desc := "(I)Ljava/lang/Object;" } : Jvm.MethodName)) ∈ lw_all := lw_g (lw_at lw_m5 13 rfl) rfl
theorem q1117 : (Jvm.Cond.instanceMethod ({ cls := "java/util/ArrayList", name := "elementData", desc := "(I)Ljava/lang/Object;" } : Jvm.MethodName)) ∈ lw_all := lw_g (lw_at lw_m5 14 rfl) rfl
theorem q1118 : (Jvm.Cond.selects "java/util/ArrayList" ({ cls := "java/util/ArrayList", name := "elementData", desc := "(I)Ljava/lang/Object;" } : Jvm.MethodName) ({ cls := "java/util/ArrayList", name := "elementData", desc := "(I)Ljava/lang/Object;" } : Jvm.MethodName)) ∈ lw_all := lw_g (lw_at lw_m5 15 rfl) rfl
theorem q1119 : (Jvm.Cond.code ({ cls := "java/util/ArrayList", name := "elementData", desc := "(I)Ljava/lang/Object;" } : Jvm.MethodName) prog_36_method_18_code (2 : Nat) (Option.some (Jvm.ClassFile.FieldType.object "java/lang/Object"))) ∈ lw_all := lw_g (lw_at lw_m5 16 rfl) rfl
theorem q2218 : (Jvm.Cond.castable "java/util/ArrayList" "java/lang/Object") ∈ lw_tbl := lw_at lw_m9 155 rfl
abbrev cJ3_checkIndex : ByteArray := prog_40_method_17_code
def yJ3_checkIndex : MethodName := ⟨RJ3, "checkIndex", "(II)I"⟩
def dkwJ3_checkIndex_0 : List UInt8 := [26, 27, 1, 184, 0, 105, 172]
abbrev dktJ3_checkIndex_0 : List UInt8 := dkwJ3_checkIndex_0 ++ []
theorem dksJ3_checkIndex_0 : cJ3_checkIndex.data.toList.drop 0 = dktJ3_checkIndex_0 := by decide +kernel
theorem dJ3_checkIndex_0 : decode cJ3_checkIndex 0 = .ok (.iload_n 0, 1) := dk_26 (dk_at dksJ3_checkIndex_0 0 rfl rfl)
theorem dJ3_checkIndex_1 : decode cJ3_checkIndex 1 = .ok (.iload_n 1, 1) := dk_27 (dk_at dksJ3_checkIndex_0 1 rfl rfl)
theorem dJ3_checkIndex_2 : decode cJ3_checkIndex 2 = .ok (.aconst_null, 1) := dk_1 (dk_at dksJ3_checkIndex_0 2 rfl rfl)
theorem dJ3_checkIndex_3 : decode cJ3_checkIndex 3 = .ok (.invokestatic 105, 3) := dk_184 0 105 (dk_at dksJ3_checkIndex_0 3 rfl rfl)
theorem dJ3_checkIndex_6 : decode cJ3_checkIndex 6 = .ok (.ireturn, 1) := dk_172 (dk_at dksJ3_checkIndex_0 6 rfl rfl)

theorem q154 : (Jvm.Cond.initialized "java/util/Objects") ∈ lw_all := lw_g (lw_at lw_m1 11 rfl) rfl
theorem q1113 : (Jvm.Cond.static ({ cls := "java/util/Objects", name := "checkIndex", desc := "(II)I" } : Jvm.MethodName)) ∈ lw_all := lw_g (lw_at lw_m5 10 rfl) rfl
theorem q1114 : (Jvm.Cond.code ({ cls := "java/util/Objects", name := "checkIndex", desc := "(II)I" } : Jvm.MethodName) prog_40_method_17_code (2 : Nat) (Option.some Jvm.ClassFile.FieldType.int)) ∈ lw_all := lw_g (lw_at lw_m5 11 rfl) rfl
theorem q1115 : (Jvm.Cond.methodLink "java/util/Objects" (105 : Nat) ({ cls := "jdk/internal/util/Preconditions", name := "checkIndex", desc := "(IILjava/util/function/BiFunction;)I" } : Jvm.MethodName)) ∈ lw_all := lw_g (lw_at lw_m5 12 rfl) rfl
abbrev cJ4_checkIndex : ByteArray := prog_44_method_11_code
def yJ4_checkIndex : MethodName := ⟨RJ4, "checkIndex", "(IILjava/util/function/BiFunction;)I"⟩
def dkwJ4_checkIndex_0 : List UInt8 := [26, 155, 0, 8, 26, 27, 161, 0, 10, 44, 26, 27, 184, 0, 95, 191, 26, 172]
abbrev dktJ4_checkIndex_0 : List UInt8 := dkwJ4_checkIndex_0 ++ []
theorem dksJ4_checkIndex_0 : cJ4_checkIndex.data.toList.drop 0 = dktJ4_checkIndex_0 := by decide +kernel
theorem dJ4_checkIndex_0 : decode cJ4_checkIndex 0 = .ok (.iload_n 0, 1) := dk_26 (dk_at dksJ4_checkIndex_0 0 rfl rfl)
theorem dJ4_checkIndex_1 : decode cJ4_checkIndex 1 = .ok (.ifCond .lt 8, 3) := dk_155 0 8 (dk_at dksJ4_checkIndex_0 1 rfl rfl)
theorem dJ4_checkIndex_4 : decode cJ4_checkIndex 4 = .ok (.iload_n 0, 1) := dk_26 (dk_at dksJ4_checkIndex_0 4 rfl rfl)
theorem dJ4_checkIndex_5 : decode cJ4_checkIndex 5 = .ok (.iload_n 1, 1) := dk_27 (dk_at dksJ4_checkIndex_0 5 rfl rfl)
theorem dJ4_checkIndex_6 : decode cJ4_checkIndex 6 = .ok (.if_icmp .lt 10, 3) := dk_161 0 10 (dk_at dksJ4_checkIndex_0 6 rfl rfl)
theorem dJ4_checkIndex_9 : decode cJ4_checkIndex 9 = .ok (.aload_n 2, 1) := dk_44 (dk_at dksJ4_checkIndex_0 9 rfl rfl)
theorem dJ4_checkIndex_10 : decode cJ4_checkIndex 10 = .ok (.iload_n 0, 1) := dk_26 (dk_at dksJ4_checkIndex_0 10 rfl rfl)
theorem dJ4_checkIndex_11 : decode cJ4_checkIndex 11 = .ok (.iload_n 1, 1) := dk_27 (dk_at dksJ4_checkIndex_0 11 rfl rfl)
theorem dJ4_checkIndex_12 : decode cJ4_checkIndex 12 = .ok (.invokestatic 95, 3) := dk_184 0 95 (dk_at dksJ4_checkIndex_0 12 rfl rfl)
theorem dJ4_checkIndex_15 : decode cJ4_checkIndex 15 = .ok (.athrow, 1) := dk_191 (dk_at dksJ4_checkIndex_0 15 rfl rfl)
theorem dJ4_checkIndex_16 : decode cJ4_checkIndex 16 = .ok (.iload_n 0, 1) := dk_26 (dk_at dksJ4_checkIndex_0 16 rfl rfl)
theorem dJ4_checkIndex_17 : decode cJ4_checkIndex 17 = .ok (.ireturn, 1) := dk_172 (dk_at dksJ4_checkIndex_0 17 rfl rfl)

theorem q155 : (Jvm.Cond.initialized "jdk/internal/util/Preconditions") ∈ lw_all := lw_g (lw_at lw_m1 12 rfl) rfl
theorem q606 : (Jvm.Cond.laysStatic "jdk/internal/util/Preconditions" "SIOOBE_FORMATTER" "Ljava/util/function/BiFunction;") ∈ lw_tbl := lw_at lw_m2 223 rfl
theorem q608 : (Jvm.Cond.static ({ cls := "jdk/internal/util/Preconditions", name := "checkIndex", desc := "(IILjava/util/function/BiFunction;)I" } : Jvm.MethodName)) ∈ lw_all := lw_g (lw_at lw_m2 225 rfl) rfl
theorem q609 : (Jvm.Cond.code ({ cls := "jdk/internal/util/Preconditions", name := "checkIndex", desc := "(IILjava/util/function/BiFunction;)I" } : Jvm.MethodName) prog_44_method_11_code (3 : Nat) (Option.some Jvm.ClassFile.FieldType.int)) ∈ lw_all := lw_g (lw_at lw_m2 226 rfl) rfl
abbrev cJ5_max : ByteArray := prog_28_method_65_code
def yJ5_max : MethodName := ⟨RJ5, "max", "(II)I"⟩
def dkwJ5_max_0 : List UInt8 := [26, 27, 161, 0, 7, 26, 167, 0, 4, 27, 172]
abbrev dktJ5_max_0 : List UInt8 := dkwJ5_max_0 ++ []
theorem dksJ5_max_0 : cJ5_max.data.toList.drop 0 = dktJ5_max_0 := by decide +kernel
theorem dJ5_max_0 : decode cJ5_max 0 = .ok (.iload_n 0, 1) := dk_26 (dk_at dksJ5_max_0 0 rfl rfl)
theorem dJ5_max_1 : decode cJ5_max 1 = .ok (.iload_n 1, 1) := dk_27 (dk_at dksJ5_max_0 1 rfl rfl)
theorem dJ5_max_2 : decode cJ5_max 2 = .ok (.if_icmp .lt 7, 3) := dk_161 0 7 (dk_at dksJ5_max_0 2 rfl rfl)
theorem dJ5_max_5 : decode cJ5_max 5 = .ok (.iload_n 0, 1) := dk_26 (dk_at dksJ5_max_0 5 rfl rfl)
theorem dJ5_max_6 : decode cJ5_max 6 = .ok (.goto 4, 3) := dk_167 0 4 (dk_at dksJ5_max_0 6 rfl rfl)
theorem dJ5_max_9 : decode cJ5_max 9 = .ok (.iload_n 1, 1) := dk_27 (dk_at dksJ5_max_0 9 rfl rfl)
theorem dJ5_max_10 : decode cJ5_max 10 = .ok (.ireturn, 1) := dk_172 (dk_at dksJ5_max_0 10 rfl rfl)
abbrev cJ5_min : ByteArray := prog_28_method_69_code
def yJ5_min : MethodName := ⟨RJ5, "min", "(II)I"⟩
def dkwJ5_min_0 : List UInt8 := [26, 27, 163, 0, 7, 26, 167, 0, 4, 27, 172]
abbrev dktJ5_min_0 : List UInt8 := dkwJ5_min_0 ++ []
theorem dksJ5_min_0 : cJ5_min.data.toList.drop 0 = dktJ5_min_0 := by decide +kernel
theorem dJ5_min_0 : decode cJ5_min 0 = .ok (.iload_n 0, 1) := dk_26 (dk_at dksJ5_min_0 0 rfl rfl)
theorem dJ5_min_1 : decode cJ5_min 1 = .ok (.iload_n 1, 1) := dk_27 (dk_at dksJ5_min_0 1 rfl rfl)
theorem dJ5_min_2 : decode cJ5_min 2 = .ok (.if_icmp .gt 7, 3) := dk_163 0 7 (dk_at dksJ5_min_0 2 rfl rfl)
theorem dJ5_min_5 : decode cJ5_min 5 = .ok (.iload_n 0, 1) := dk_26 (dk_at dksJ5_min_0 5 rfl rfl)
theorem dJ5_min_6 : decode cJ5_min 6 = .ok (.goto 4, 3) := dk_167 0 4 (dk_at dksJ5_min_0 6 rfl rfl)
theorem dJ5_min_9 : decode cJ5_min 9 = .ok (.iload_n 1, 1) := dk_27 (dk_at dksJ5_min_0 9 rfl rfl)
theorem dJ5_min_10 : decode cJ5_min 10 = .ok (.ireturn, 1) := dk_172 (dk_at dksJ5_min_0 10 rfl rfl)
abbrev cJ5_abs : ByteArray := prog_28_method_59_code
def yJ5_abs : MethodName := ⟨RJ5, "abs", "(I)I"⟩
def dkwJ5_abs_0 : List UInt8 := [26, 156, 0, 8, 26, 116, 167, 0, 4, 26, 172]
abbrev dktJ5_abs_0 : List UInt8 := dkwJ5_abs_0 ++ []
theorem dksJ5_abs_0 : cJ5_abs.data.toList.drop 0 = dktJ5_abs_0 := by decide +kernel
theorem dJ5_abs_0 : decode cJ5_abs 0 = .ok (.iload_n 0, 1) := dk_26 (dk_at dksJ5_abs_0 0 rfl rfl)
theorem dJ5_abs_1 : decode cJ5_abs 1 = .ok (.ifCond .ge 8, 3) := dk_156 0 8 (dk_at dksJ5_abs_0 1 rfl rfl)
theorem dJ5_abs_4 : decode cJ5_abs 4 = .ok (.iload_n 0, 1) := dk_26 (dk_at dksJ5_abs_0 4 rfl rfl)
theorem dJ5_abs_5 : decode cJ5_abs 5 = .ok (.ineg, 1) := dk_116 (dk_at dksJ5_abs_0 5 rfl rfl)
theorem dJ5_abs_6 : decode cJ5_abs 6 = .ok (.goto 4, 3) := dk_167 0 4 (dk_at dksJ5_abs_0 6 rfl rfl)
theorem dJ5_abs_9 : decode cJ5_abs 9 = .ok (.iload_n 0, 1) := dk_26 (dk_at dksJ5_abs_0 9 rfl rfl)
theorem dJ5_abs_10 : decode cJ5_abs 10 = .ok (.ireturn, 1) := dk_172 (dk_at dksJ5_abs_0 10 rfl rfl)

theorem q156 : (Jvm.Cond.initialized "java/lang/Math") ∈ lw_all := lw_g (lw_at lw_m1 13 rfl) rfl
theorem q867 : (Jvm.Cond.static ({ cls := "java/lang/Math", name := "max", desc := "(II)I" } : Jvm.MethodName)) ∈ lw_all := lw_g (lw_at lw_m4 4 rfl) rfl
theorem q868 : (Jvm.Cond.code ({ cls := "java/lang/Math", name := "max", desc := "(II)I" } : Jvm.MethodName) prog_28_method_65_code (2 : Nat) (Option.some Jvm.ClassFile.FieldType.int)) ∈ lw_all := lw_g (lw_at lw_m4 5 rfl) rfl
theorem q906 : (Jvm.Cond.static ({ cls := "java/lang/Math", name := "min", desc := "(II)I" } : Jvm.MethodName)) ∈ lw_all := lw_g (lw_at lw_m4 43 rfl) rfl
theorem q907 : (Jvm.Cond.code ({ cls := "java/lang/Math", name := "min", desc := "(II)I" } : Jvm.MethodName) prog_28_method_69_code (2 : Nat) (Option.some Jvm.ClassFile.FieldType.int)) ∈ lw_all := lw_g (lw_at lw_m4 44 rfl) rfl
theorem q1406 : (Jvm.Cond.static ({ cls := "java/lang/Math", name := "abs", desc := "(I)I" } : Jvm.MethodName)) ∈ lw_all := lw_g (lw_at lw_m6 63 rfl) rfl
theorem q1407 : (Jvm.Cond.code ({ cls := "java/lang/Math", name := "abs", desc := "(I)I" } : Jvm.MethodName) prog_28_method_59_code (1 : Nat) (Option.some Jvm.ClassFile.FieldType.int)) ∈ lw_all := lw_g (lw_at lw_m6 64 rfl) rfl
abbrev cJ6_length : ByteArray := prog_29_method_54_code
def yJ6_length : MethodName := ⟨RJ6, "length", "()I"⟩
def dkwJ6_length_0 : List UInt8 := [42, 180, 0, 9, 190, 42, 182, 1, 79, 122, 172]
abbrev dktJ6_length_0 : List UInt8 := dkwJ6_length_0 ++ []
theorem dksJ6_length_0 : cJ6_length.data.toList.drop 0 = dktJ6_length_0 := by decide +kernel
theorem dJ6_length_0 : decode cJ6_length 0 = .ok (.aload_n 0, 1) := dk_42 (dk_at dksJ6_length_0 0 rfl rfl)
theorem dJ6_length_1 : decode cJ6_length 1 = .ok (.getfield 9, 3) := dk_180 0 9 (dk_at dksJ6_length_0 1 rfl rfl)
theorem dJ6_length_4 : decode cJ6_length 4 = .ok (.arraylength, 1) := dk_190 (dk_at dksJ6_length_0 4 rfl rfl)
theorem dJ6_length_5 : decode cJ6_length 5 = .ok (.aload_n 0, 1) := dk_42 (dk_at dksJ6_length_0 5 rfl rfl)
theorem dJ6_length_6 : decode cJ6_length 6 = .ok (.invokevirtual 335, 3) := dk_182 1 79 (dk_at dksJ6_length_0 6 rfl rfl)
theorem dJ6_length_9 : decode cJ6_length 9 = .ok (.ishr, 1) := dk_122 (dk_at dksJ6_length_0 9 rfl rfl)
theorem dJ6_length_10 : decode cJ6_length 10 = .ok (.ireturn, 1) := dk_172 (dk_at dksJ6_length_0 10 rfl rfl)
abbrev cJ6_coder : ByteArray := prog_29_method_152_code
def yJ6_coder : MethodName := ⟨RJ6, "coder", "()B"⟩
def dkwJ6_coder_0 : List UInt8 := [178, 0, 38, 153, 0, 10, 42, 180, 0, 15, 167, 0, 4, 4, 172]
abbrev dktJ6_coder_0 : List UInt8 := dkwJ6_coder_0 ++ []
theorem dksJ6_coder_0 : cJ6_coder.data.toList.drop 0 = dktJ6_coder_0 := by decide +kernel
theorem dJ6_coder_0 : decode cJ6_coder 0 = .ok (.getstatic 38, 3) := dk_178 0 38 (dk_at dksJ6_coder_0 0 rfl rfl)
theorem dJ6_coder_3 : decode cJ6_coder 3 = .ok (.ifCond .eq 10, 3) := dk_153 0 10 (dk_at dksJ6_coder_0 3 rfl rfl)
theorem dJ6_coder_6 : decode cJ6_coder 6 = .ok (.aload_n 0, 1) := dk_42 (dk_at dksJ6_coder_0 6 rfl rfl)
theorem dJ6_coder_7 : decode cJ6_coder 7 = .ok (.getfield 15, 3) := dk_180 0 15 (dk_at dksJ6_coder_0 7 rfl rfl)
theorem dJ6_coder_10 : decode cJ6_coder 10 = .ok (.goto 4, 3) := dk_167 0 4 (dk_at dksJ6_coder_0 10 rfl rfl)
theorem dJ6_coder_13 : decode cJ6_coder 13 = .ok (.iconst 1, 1) := dk_4 (dk_at dksJ6_coder_0 13 rfl rfl)
theorem dJ6_coder_14 : decode cJ6_coder 14 = .ok (.ireturn, 1) := dk_172 (dk_at dksJ6_coder_0 14 rfl rfl)
abbrev cJ6_charAt : ByteArray := prog_29_method_56_code
def yJ6_charAt : MethodName := ⟨RJ6, "charAt", "(I)C"⟩
def dkwJ6_charAt_1 : List UInt8 := [172]
abbrev dktJ6_charAt_1 : List UInt8 := dkwJ6_charAt_1 ++ []
def dkwJ6_charAt_0 : List UInt8 := [42, 182, 1, 236, 153, 0, 12, 42, 180, 0, 9, 27, 184, 1, 239, 172, 42, 180, 0, 9, 27, 184, 1, 242]
abbrev dktJ6_charAt_0 : List UInt8 := dkwJ6_charAt_0 ++ dktJ6_charAt_1
theorem dksJ6_charAt_0 : cJ6_charAt.data.toList.drop 0 = dktJ6_charAt_0 := by decide +kernel
theorem dksJ6_charAt_1 : cJ6_charAt.data.toList.drop 24 = dktJ6_charAt_1 := dk_seg dksJ6_charAt_0 24 rfl rfl
theorem dJ6_charAt_0 : decode cJ6_charAt 0 = .ok (.aload_n 0, 1) := dk_42 (dk_at dksJ6_charAt_0 0 rfl rfl)
theorem dJ6_charAt_1 : decode cJ6_charAt 1 = .ok (.invokevirtual 492, 3) := dk_182 1 236 (dk_at dksJ6_charAt_0 1 rfl rfl)
theorem dJ6_charAt_4 : decode cJ6_charAt 4 = .ok (.ifCond .eq 12, 3) := dk_153 0 12 (dk_at dksJ6_charAt_0 4 rfl rfl)
theorem dJ6_charAt_7 : decode cJ6_charAt 7 = .ok (.aload_n 0, 1) := dk_42 (dk_at dksJ6_charAt_0 7 rfl rfl)
theorem dJ6_charAt_8 : decode cJ6_charAt 8 = .ok (.getfield 9, 3) := dk_180 0 9 (dk_at dksJ6_charAt_0 8 rfl rfl)
theorem dJ6_charAt_11 : decode cJ6_charAt 11 = .ok (.iload_n 1, 1) := dk_27 (dk_at dksJ6_charAt_0 11 rfl rfl)
theorem dJ6_charAt_12 : decode cJ6_charAt 12 = .ok (.invokestatic 495, 3) := dk_184 1 239 (dk_at dksJ6_charAt_0 12 rfl rfl)
theorem dJ6_charAt_15 : decode cJ6_charAt 15 = .ok (.ireturn, 1) := dk_172 (dk_at dksJ6_charAt_0 15 rfl rfl)
theorem dJ6_charAt_16 : decode cJ6_charAt 16 = .ok (.aload_n 0, 1) := dk_42 (dk_at dksJ6_charAt_0 16 rfl rfl)
theorem dJ6_charAt_17 : decode cJ6_charAt 17 = .ok (.getfield 9, 3) := dk_180 0 9 (dk_at dksJ6_charAt_0 17 rfl rfl)
theorem dJ6_charAt_20 : decode cJ6_charAt 20 = .ok (.iload_n 1, 1) := dk_27 (dk_at dksJ6_charAt_0 20 rfl rfl)
theorem dJ6_charAt_21 : decode cJ6_charAt 21 = .ok (.invokestatic 498, 3) := dk_184 1 242 (dk_at dksJ6_charAt_0 21 rfl rfl)
theorem dJ6_charAt_24 : decode cJ6_charAt 24 = .ok (.ireturn, 1) := dk_172 (dk_at dksJ6_charAt_1 0 rfl rfl)
abbrev cJ6_isLatin1 : ByteArray := prog_29_method_154_code
def yJ6_isLatin1 : MethodName := ⟨RJ6, "isLatin1", "()Z"⟩
def dkwJ6_isLatin1_0 : List UInt8 := [178, 0, 38, 153, 0, 14, 42, 180, 0, 15, 154, 0, 7, 4, 167, 0, 4, 3, 172]
abbrev dktJ6_isLatin1_0 : List UInt8 := dkwJ6_isLatin1_0 ++ []
theorem dksJ6_isLatin1_0 : cJ6_isLatin1.data.toList.drop 0 = dktJ6_isLatin1_0 := by decide +kernel
theorem dJ6_isLatin1_0 : decode cJ6_isLatin1 0 = .ok (.getstatic 38, 3) := dk_178 0 38 (dk_at dksJ6_isLatin1_0 0 rfl rfl)
theorem dJ6_isLatin1_3 : decode cJ6_isLatin1 3 = .ok (.ifCond .eq 14, 3) := dk_153 0 14 (dk_at dksJ6_isLatin1_0 3 rfl rfl)
theorem dJ6_isLatin1_6 : decode cJ6_isLatin1 6 = .ok (.aload_n 0, 1) := dk_42 (dk_at dksJ6_isLatin1_0 6 rfl rfl)
theorem dJ6_isLatin1_7 : decode cJ6_isLatin1 7 = .ok (.getfield 15, 3) := dk_180 0 15 (dk_at dksJ6_isLatin1_0 7 rfl rfl)
theorem dJ6_isLatin1_10 : decode cJ6_isLatin1 10 = .ok (.ifCond .ne 7, 3) := dk_154 0 7 (dk_at dksJ6_isLatin1_0 10 rfl rfl)
theorem dJ6_isLatin1_13 : decode cJ6_isLatin1 13 = .ok (.iconst 1, 1) := dk_4 (dk_at dksJ6_isLatin1_0 13 rfl rfl)
theorem dJ6_isLatin1_14 : decode cJ6_isLatin1 14 = .ok (.goto 4, 3) := dk_167 0 4 (dk_at dksJ6_isLatin1_0 14 rfl rfl)
theorem dJ6_isLatin1_17 : decode cJ6_isLatin1 17 = .ok (.iconst 0, 1) := dk_3 (dk_at dksJ6_isLatin1_0 17 rfl rfl)
theorem dJ6_isLatin1_18 : decode cJ6_isLatin1 18 = .ok (.ireturn, 1) := dk_172 (dk_at dksJ6_isLatin1_0 18 rfl rfl)
abbrev cJ6_checkIndex : ByteArray := prog_29_method_155_code
def yJ6_checkIndex : MethodName := ⟨RJ6, "checkIndex", "(II)V"⟩
def dkwJ6_checkIndex_0 : List UInt8 := [26, 27, 178, 4, 29, 184, 4, 35, 87, 177]
abbrev dktJ6_checkIndex_0 : List UInt8 := dkwJ6_checkIndex_0 ++ []
theorem dksJ6_checkIndex_0 : cJ6_checkIndex.data.toList.drop 0 = dktJ6_checkIndex_0 := by decide +kernel
theorem dJ6_checkIndex_0 : decode cJ6_checkIndex 0 = .ok (.iload_n 0, 1) := dk_26 (dk_at dksJ6_checkIndex_0 0 rfl rfl)
theorem dJ6_checkIndex_1 : decode cJ6_checkIndex 1 = .ok (.iload_n 1, 1) := dk_27 (dk_at dksJ6_checkIndex_0 1 rfl rfl)
theorem dJ6_checkIndex_2 : decode cJ6_checkIndex 2 = .ok (.getstatic 1053, 3) := dk_178 4 29 (dk_at dksJ6_checkIndex_0 2 rfl rfl)
theorem dJ6_checkIndex_5 : decode cJ6_checkIndex 5 = .ok (.invokestatic 1059, 3) := dk_184 4 35 (dk_at dksJ6_checkIndex_0 5 rfl rfl)
theorem dJ6_checkIndex_8 : decode cJ6_checkIndex 8 = .ok (.pop, 1) := dk_87 (dk_at dksJ6_checkIndex_0 8 rfl rfl)
theorem dJ6_checkIndex_9 : decode cJ6_checkIndex 9 = .ok (.return_, 1) := dk_177 (dk_at dksJ6_checkIndex_0 9 rfl rfl)

theorem q158 : (Jvm.Cond.initialized "java/lang/String") ∈ lw_all := lw_g (lw_at lw_m1 15 rfl) rfl
theorem q582 : (Jvm.Cond.instanceMethod ({ cls := "java/lang/String", name := "length", desc := "()I" } : Jvm.MethodName)) ∈ lw_all := lw_g (lw_at lw_m2 199 rfl) rfl
theorem q583 : (Jvm.Cond.selects "java/lang/String" ({ cls := "java/lang/String", name := "length", desc := "()I" } : Jvm.MethodName) ({ cls := "java/lang/String", name := "length", desc := "()I" } : Jvm.MethodName)) ∈ lw_all := lw_g (lw_at lw_m2 200 rfl) rfl
theorem q584 : (Jvm.Cond.code ({ cls := "java/lang/String", name := "length", desc := "()I" } : Jvm.MethodName) prog_29_method_54_code (1 : Nat) (Option.some Jvm.ClassFile.FieldType.int)) ∈ lw_all := lw_g (lw_at lw_m2 201 rfl) rfl
theorem q585 : (Jvm.Cond.methodLink "java/lang/String" (335 : Nat) ({ cls := "java/lang/String", name := "coder", desc := "()B" } : Jvm.MethodName)) ∈ lw_all := lw_g (lw_at lw_m2 202 rfl) rfl
theorem q586 : (Jvm.Cond.instanceMethod ({ cls := "java/lang/String", name := "coder", desc := "()B" } : Jvm.MethodName)) ∈ lw_all := lw_g (lw_at lw_m2 203 rfl) rfl
theorem q587 : (Jvm.Cond.selects "java/lang/String" ({ cls := "java/lang/String", name := "coder", desc := "()B" } : Jvm.MethodName) ({ cls := "java/lang/String", name := "coder", desc := "()B" } : Jvm.MethodName)) ∈ lw_all := lw_g (lw_at lw_m2 204 rfl) rfl
theorem q588 : (Jvm.Cond.code ({ cls := "java/lang/String", name := "coder", desc := "()B" } : Jvm.MethodName) prog_29_method_152_code (1 : Nat) (Option.some Jvm.ClassFile.FieldType.byte)) ∈ lw_all := lw_g (lw_at lw_m2 205 rfl) rfl
theorem q589 : (Jvm.Cond.fieldLink "java/lang/String" (38 : Nat) "java/lang/String" "COMPACT_STRINGS" "Z") ∈ lw_all := lw_g (lw_at lw_m2 206 rfl) rfl
theorem q590 : (Jvm.Cond.laysStatic "java/lang/String" "COMPACT_STRINGS" "Z") ∈ lw_tbl := lw_at lw_m2 207 rfl
theorem q592 : (Jvm.Cond.instanceMethod ({ cls := "java/lang/String", name := "charAt", desc := "(I)C" } : Jvm.MethodName)) ∈ lw_all := lw_g (lw_at lw_m2 209 rfl) rfl
theorem q593 : (Jvm.Cond.selects "java/lang/String" ({ cls := "java/lang/String", name := "charAt", desc := "(I)C" } : Jvm.MethodName) ({ cls := "java/lang/String", name := "charAt", desc := "(I)C" } : Jvm.MethodName)) ∈ lw_all := lw_g (lw_at lw_m2 210 rfl) rfl
theorem q594 : (Jvm.Cond.code ({ cls := "java/lang/String", name := "charAt", desc := "(I)C" } : Jvm.MethodName) prog_29_method_56_code (2 : Nat) (Option.some Jvm.ClassFile.FieldType.char)) ∈ lw_all := lw_g (lw_at lw_m2 211 rfl) rfl
theorem q595 : (Jvm.Cond.methodLink "java/lang/String" (492 : Nat) ({ cls := "java/lang/String", name := "isLatin1", desc := "()Z" } : Jvm.MethodName)) ∈ lw_all := lw_g (lw_at lw_m2 212 rfl) rfl
theorem q596 : (Jvm.Cond.instanceMethod ({ cls := "java/lang/String", name := "isLatin1", desc := "()Z" } : Jvm.MethodName)) ∈ lw_all := lw_g (lw_at lw_m2 213 rfl) rfl
theorem q597 : (Jvm.Cond.selects "java/lang/String" ({ cls := "java/lang/String", name := "isLatin1", desc := "()Z" } : Jvm.MethodName) ({ cls := "java/lang/String", name := "isLatin1", desc := "()Z" } : Jvm.MethodName)) ∈ lw_all := lw_g (lw_at lw_m2 214 rfl) rfl
theorem q598 : (Jvm.Cond.code ({ cls := "java/lang/String", name := "isLatin1", desc := "()Z" } : Jvm.MethodName) prog_29_method_154_code (1 : Nat) (Option.some Jvm.ClassFile.FieldType.boolean)) ∈ lw_all := lw_g (lw_at lw_m2 215 rfl) rfl
theorem q599 : (Jvm.Cond.methodLink "java/lang/String" (495 : Nat) ({ cls := "java/lang/StringLatin1", name := "charAt", desc := "([BI)C" } : Jvm.MethodName)) ∈ lw_all := lw_g (lw_at lw_m2 216 rfl) rfl
theorem q603 : (Jvm.Cond.static ({ cls := "java/lang/String", name := "checkIndex", desc := "(II)V" } : Jvm.MethodName)) ∈ lw_all := lw_g (lw_at lw_m2 220 rfl) rfl
theorem q604 : (Jvm.Cond.code ({ cls := "java/lang/String", name := "checkIndex", desc := "(II)V" } : Jvm.MethodName) prog_29_method_155_code (2 : Nat) (Option.none : Option Jvm.ClassFile.FieldType)) ∈ lw_all := lw_g (lw_at lw_m2 221 rfl) rfl
theorem q605 : (Jvm.Cond.fieldLink "java/lang/String" (1053 : Nat) "jdk/internal/util/Preconditions" "SIOOBE_FORMATTER" "Ljava/util/function/BiFunction;") ∈ lw_all := lw_g (lw_at lw_m2 222 rfl) rfl
theorem q607 : (Jvm.Cond.methodLink "java/lang/String" (1059 : Nat) ({ cls := "jdk/internal/util/Preconditions", name := "checkIndex", desc := "(IILjava/util/function/BiFunction;)I" } : Jvm.MethodName)) ∈ lw_all := lw_g (lw_at lw_m2 224 rfl) rfl
theorem q610 : (Jvm.Cond.methodLink "java/lang/String" (498 : Nat) ({ cls := "java/lang/StringUTF16", name := "charAt", desc := "([BI)C" } : Jvm.MethodName)) ∈ lw_all := lw_g (lw_at lw_m2 227 rfl) rfl
theorem q2232 : (Jvm.Cond.castable "java/lang/String" "java/lang/Object") ∈ lw_tbl := lw_at lw_m9 169 rfl
theorem q2244 : (Jvm.Cond.fieldLink "java/lang/String" (9 : Nat) "java/lang/String" "value" "[B") ∈ lw_all := lw_g (lw_at lw_m9 181 rfl) rfl
theorem q2245 : (Jvm.Cond.fieldLink "java/lang/String" (15 : Nat) "java/lang/String" "coder" "B") ∈ lw_all := lw_g (lw_at lw_m9 182 rfl) rfl
abbrev cJ7_charAt : ByteArray := prog_30_method_2_code
def yJ7_charAt : MethodName := ⟨RJ7, "charAt", "([BI)C"⟩
def dkwJ7_charAt_0 : List UInt8 := [27, 42, 190, 184, 0, 9, 42, 27, 51, 17, 0, 255, 126, 146, 172]
abbrev dktJ7_charAt_0 : List UInt8 := dkwJ7_charAt_0 ++ []
theorem dksJ7_charAt_0 : cJ7_charAt.data.toList.drop 0 = dktJ7_charAt_0 := by decide +kernel
theorem dJ7_charAt_0 : decode cJ7_charAt 0 = .ok (.iload_n 1, 1) := dk_27 (dk_at dksJ7_charAt_0 0 rfl rfl)
theorem dJ7_charAt_1 : decode cJ7_charAt 1 = .ok (.aload_n 0, 1) := dk_42 (dk_at dksJ7_charAt_0 1 rfl rfl)
theorem dJ7_charAt_2 : decode cJ7_charAt 2 = .ok (.arraylength, 1) := dk_190 (dk_at dksJ7_charAt_0 2 rfl rfl)
theorem dJ7_charAt_3 : decode cJ7_charAt 3 = .ok (.invokestatic 9, 3) := dk_184 0 9 (dk_at dksJ7_charAt_0 3 rfl rfl)
theorem dJ7_charAt_6 : decode cJ7_charAt 6 = .ok (.aload_n 0, 1) := dk_42 (dk_at dksJ7_charAt_0 6 rfl rfl)
theorem dJ7_charAt_7 : decode cJ7_charAt 7 = .ok (.iload_n 1, 1) := dk_27 (dk_at dksJ7_charAt_0 7 rfl rfl)
theorem dJ7_charAt_8 : decode cJ7_charAt 8 = .ok (.baload, 1) := dk_51 (dk_at dksJ7_charAt_0 8 rfl rfl)
theorem dJ7_charAt_9 : decode cJ7_charAt 9 = .ok (.sipush 255, 3) := dk_17 0 255 (dk_at dksJ7_charAt_0 9 rfl rfl)
theorem dJ7_charAt_12 : decode cJ7_charAt 12 = .ok (.iand, 1) := dk_126 (dk_at dksJ7_charAt_0 12 rfl rfl)
theorem dJ7_charAt_13 : decode cJ7_charAt 13 = .ok (.i2c, 1) := dk_146 (dk_at dksJ7_charAt_0 13 rfl rfl)
theorem dJ7_charAt_14 : decode cJ7_charAt 14 = .ok (.ireturn, 1) := dk_172 (dk_at dksJ7_charAt_0 14 rfl rfl)

theorem q159 : (Jvm.Cond.initialized "java/lang/StringLatin1") ∈ lw_all := lw_g (lw_at lw_m1 16 rfl) rfl
theorem q600 : (Jvm.Cond.static ({ cls := "java/lang/StringLatin1", name := "charAt", desc := "([BI)C" } : Jvm.MethodName)) ∈ lw_all := lw_g (lw_at lw_m2 217 rfl) rfl
theorem q601 : (Jvm.Cond.code ({ cls := "java/lang/StringLatin1", name := "charAt", desc := "([BI)C" } : Jvm.MethodName) prog_30_method_2_code (2 : Nat) (Option.some Jvm.ClassFile.FieldType.char)) ∈ lw_all := lw_g (lw_at lw_m2 218 rfl) rfl
theorem q602 : (Jvm.Cond.methodLink "java/lang/StringLatin1" (9 : Nat) ({ cls := "java/lang/String", name := "checkIndex", desc := "(II)V" } : Jvm.MethodName)) ∈ lw_all := lw_g (lw_at lw_m2 219 rfl) rfl
abbrev cJ8_charAt : ByteArray := prog_31_method_83_code
def yJ8_charAt : MethodName := ⟨RJ8, "charAt", "([BI)C"⟩
def dkwJ8_charAt_0 : List UInt8 := [27, 42, 184, 0, 67, 42, 27, 184, 0, 71, 172]
abbrev dktJ8_charAt_0 : List UInt8 := dkwJ8_charAt_0 ++ []
theorem dksJ8_charAt_0 : cJ8_charAt.data.toList.drop 0 = dktJ8_charAt_0 := by decide +kernel
theorem dJ8_charAt_0 : decode cJ8_charAt 0 = .ok (.iload_n 1, 1) := dk_27 (dk_at dksJ8_charAt_0 0 rfl rfl)
theorem dJ8_charAt_1 : decode cJ8_charAt 1 = .ok (.aload_n 0, 1) := dk_42 (dk_at dksJ8_charAt_0 1 rfl rfl)
theorem dJ8_charAt_2 : decode cJ8_charAt 2 = .ok (.invokestatic 67, 3) := dk_184 0 67 (dk_at dksJ8_charAt_0 2 rfl rfl)
theorem dJ8_charAt_5 : decode cJ8_charAt 5 = .ok (.aload_n 0, 1) := dk_42 (dk_at dksJ8_charAt_0 5 rfl rfl)
theorem dJ8_charAt_6 : decode cJ8_charAt 6 = .ok (.iload_n 1, 1) := dk_27 (dk_at dksJ8_charAt_0 6 rfl rfl)
theorem dJ8_charAt_7 : decode cJ8_charAt 7 = .ok (.invokestatic 71, 3) := dk_184 0 71 (dk_at dksJ8_charAt_0 7 rfl rfl)
theorem dJ8_charAt_10 : decode cJ8_charAt 10 = .ok (.ireturn, 1) := dk_172 (dk_at dksJ8_charAt_0 10 rfl rfl)
abbrev cJ8_checkIndex : ByteArray := prog_31_method_91_code
def yJ8_checkIndex : MethodName := ⟨RJ8, "checkIndex", "(I[B)V"⟩
def dkwJ8_checkIndex_0 : List UInt8 := [26, 43, 184, 0, 48, 184, 1, 158, 177]
abbrev dktJ8_checkIndex_0 : List UInt8 := dkwJ8_checkIndex_0 ++ []
theorem dksJ8_checkIndex_0 : cJ8_checkIndex.data.toList.drop 0 = dktJ8_checkIndex_0 := by decide +kernel
theorem dJ8_checkIndex_0 : decode cJ8_checkIndex 0 = .ok (.iload_n 0, 1) := dk_26 (dk_at dksJ8_checkIndex_0 0 rfl rfl)
theorem dJ8_checkIndex_1 : decode cJ8_checkIndex 1 = .ok (.aload_n 1, 1) := dk_43 (dk_at dksJ8_checkIndex_0 1 rfl rfl)
theorem dJ8_checkIndex_2 : decode cJ8_checkIndex 2 = .ok (.invokestatic 48, 3) := dk_184 0 48 (dk_at dksJ8_checkIndex_0 2 rfl rfl)
theorem dJ8_checkIndex_5 : decode cJ8_checkIndex 5 = .ok (.invokestatic 414, 3) := dk_184 1 158 (dk_at dksJ8_checkIndex_0 5 rfl rfl)
theorem dJ8_checkIndex_8 : decode cJ8_checkIndex 8 = .ok (.return_, 1) := dk_177 (dk_at dksJ8_checkIndex_0 8 rfl rfl)
abbrev cJ8_length : ByteArray := prog_31_method_6_code
def yJ8_length : MethodName := ⟨RJ8, "length", "([B)I"⟩
def dkwJ8_length_0 : List UInt8 := [42, 190, 4, 122, 172]
abbrev dktJ8_length_0 : List UInt8 := dkwJ8_length_0 ++ []
theorem dksJ8_length_0 : cJ8_length.data.toList.drop 0 = dktJ8_length_0 := by decide +kernel
theorem dJ8_length_0 : decode cJ8_length 0 = .ok (.aload_n 0, 1) := dk_42 (dk_at dksJ8_length_0 0 rfl rfl)
theorem dJ8_length_1 : decode cJ8_length 1 = .ok (.arraylength, 1) := dk_190 (dk_at dksJ8_length_0 1 rfl rfl)
theorem dJ8_length_2 : decode cJ8_length 2 = .ok (.iconst 1, 1) := dk_4 (dk_at dksJ8_length_0 2 rfl rfl)
theorem dJ8_length_3 : decode cJ8_length 3 = .ok (.ishr, 1) := dk_122 (dk_at dksJ8_length_0 3 rfl rfl)
theorem dJ8_length_4 : decode cJ8_length 4 = .ok (.ireturn, 1) := dk_172 (dk_at dksJ8_length_0 4 rfl rfl)
abbrev cJ8_getChar : ByteArray := prog_31_method_5_code
def yJ8_getChar : MethodName := ⟨RJ8, "getChar", "([BI)C"⟩
def dkwJ8_getChar_2 : List UInt8 := [51, 17, 0, 255, 126, 178, 0, 63, 120, 128, 146, 172]
abbrev dktJ8_getChar_2 : List UInt8 := dkwJ8_getChar_2 ++ []
def dkwJ8_getChar_1 : List UInt8 := [183, 0, 56, 191, 27, 4, 120, 60, 42, 27, 132, 1, 1, 51, 17, 0, 255, 126, 178, 0, 59, 120, 42, 27]
abbrev dktJ8_getChar_1 : List UInt8 := dkwJ8_getChar_1 ++ dktJ8_getChar_2
def dkwJ8_getChar_0 : List UInt8 := [178, 0, 44, 154, 0, 25, 27, 155, 0, 11, 27, 42, 184, 0, 48, 161, 0, 13, 187, 0, 52, 89, 18, 54]
abbrev dktJ8_getChar_0 : List UInt8 := dkwJ8_getChar_0 ++ dktJ8_getChar_1
theorem dksJ8_getChar_0 : cJ8_getChar.data.toList.drop 0 = dktJ8_getChar_0 := by decide +kernel
theorem dksJ8_getChar_1 : cJ8_getChar.data.toList.drop 24 = dktJ8_getChar_1 := dk_seg dksJ8_getChar_0 24 rfl rfl
theorem dksJ8_getChar_2 : cJ8_getChar.data.toList.drop 48 = dktJ8_getChar_2 := dk_seg dksJ8_getChar_1 24 rfl rfl
theorem dJ8_getChar_0 : decode cJ8_getChar 0 = .ok (.getstatic 44, 3) := dk_178 0 44 (dk_at dksJ8_getChar_0 0 rfl rfl)
theorem dJ8_getChar_3 : decode cJ8_getChar 3 = .ok (.ifCond .ne 25, 3) := dk_154 0 25 (dk_at dksJ8_getChar_0 3 rfl rfl)
theorem dJ8_getChar_6 : decode cJ8_getChar 6 = .ok (.iload_n 1, 1) := dk_27 (dk_at dksJ8_getChar_0 6 rfl rfl)
theorem dJ8_getChar_7 : decode cJ8_getChar 7 = .ok (.ifCond .lt 11, 3) := dk_155 0 11 (dk_at dksJ8_getChar_0 7 rfl rfl)
theorem dJ8_getChar_10 : decode cJ8_getChar 10 = .ok (.iload_n 1, 1) := dk_27 (dk_at dksJ8_getChar_0 10 rfl rfl)
theorem dJ8_getChar_11 : decode cJ8_getChar 11 = .ok (.aload_n 0, 1) := dk_42 (dk_at dksJ8_getChar_0 11 rfl rfl)
theorem dJ8_getChar_12 : decode cJ8_getChar 12 = .ok (.invokestatic 48, 3) := dk_184 0 48 (dk_at dksJ8_getChar_0 12 rfl rfl)
theorem dJ8_getChar_15 : decode cJ8_getChar 15 = .ok (.if_icmp .lt 13, 3) := dk_161 0 13 (dk_at dksJ8_getChar_0 15 rfl rfl)
theorem dJ8_getChar_18 : decode cJ8_getChar 18 = .ok (.new 52, 3) := dk_187 0 52 (dk_at dksJ8_getChar_0 18 rfl rfl)
theorem dJ8_getChar_21 : decode cJ8_getChar 21 = .ok (.dup, 1) := dk_89 (dk_at dksJ8_getChar_0 21 rfl rfl)
theorem dJ8_getChar_22 : decode cJ8_getChar 22 = .ok (.ldc 54, 2) := dk_18 54 (dk_at dksJ8_getChar_0 22 rfl rfl)
theorem dJ8_getChar_24 : decode cJ8_getChar 24 = .ok (.invokespecial 56, 3) := dk_183 0 56 (dk_at dksJ8_getChar_1 0 rfl rfl)
theorem dJ8_getChar_27 : decode cJ8_getChar 27 = .ok (.athrow, 1) := dk_191 (dk_at dksJ8_getChar_1 3 rfl rfl)
theorem dJ8_getChar_28 : decode cJ8_getChar 28 = .ok (.iload_n 1, 1) := dk_27 (dk_at dksJ8_getChar_1 4 rfl rfl)
theorem dJ8_getChar_29 : decode cJ8_getChar 29 = .ok (.iconst 1, 1) := dk_4 (dk_at dksJ8_getChar_1 5 rfl rfl)
theorem dJ8_getChar_30 : decode cJ8_getChar 30 = .ok (.ishl, 1) := dk_120 (dk_at dksJ8_getChar_1 6 rfl rfl)
theorem dJ8_getChar_31 : decode cJ8_getChar 31 = .ok (.istore_n 1, 1) := dk_60 (dk_at dksJ8_getChar_1 7 rfl rfl)
theorem dJ8_getChar_32 : decode cJ8_getChar 32 = .ok (.aload_n 0, 1) := dk_42 (dk_at dksJ8_getChar_1 8 rfl rfl)
theorem dJ8_getChar_33 : decode cJ8_getChar 33 = .ok (.iload_n 1, 1) := dk_27 (dk_at dksJ8_getChar_1 9 rfl rfl)
theorem dJ8_getChar_34 : decode cJ8_getChar 34 = .ok (.iinc 1 1, 3) := dk_132 1 1 (dk_at dksJ8_getChar_1 10 rfl rfl)
theorem dJ8_getChar_37 : decode cJ8_getChar 37 = .ok (.baload, 1) := dk_51 (dk_at dksJ8_getChar_1 13 rfl rfl)
theorem dJ8_getChar_38 : decode cJ8_getChar 38 = .ok (.sipush 255, 3) := dk_17 0 255 (dk_at dksJ8_getChar_1 14 rfl rfl)
theorem dJ8_getChar_41 : decode cJ8_getChar 41 = .ok (.iand, 1) := dk_126 (dk_at dksJ8_getChar_1 17 rfl rfl)
theorem dJ8_getChar_42 : decode cJ8_getChar 42 = .ok (.getstatic 59, 3) := dk_178 0 59 (dk_at dksJ8_getChar_1 18 rfl rfl)
theorem dJ8_getChar_45 : decode cJ8_getChar 45 = .ok (.ishl, 1) := dk_120 (dk_at dksJ8_getChar_1 21 rfl rfl)
theorem dJ8_getChar_46 : decode cJ8_getChar 46 = .ok (.aload_n 0, 1) := dk_42 (dk_at dksJ8_getChar_1 22 rfl rfl)
theorem dJ8_getChar_47 : decode cJ8_getChar 47 = .ok (.iload_n 1, 1) := dk_27 (dk_at dksJ8_getChar_1 23 rfl rfl)
theorem dJ8_getChar_48 : decode cJ8_getChar 48 = .ok (.baload, 1) := dk_51 (dk_at dksJ8_getChar_2 0 rfl rfl)
theorem dJ8_getChar_49 : decode cJ8_getChar 49 = .ok (.sipush 255, 3) := dk_17 0 255 (dk_at dksJ8_getChar_2 1 rfl rfl)
theorem dJ8_getChar_52 : decode cJ8_getChar 52 = .ok (.iand, 1) := dk_126 (dk_at dksJ8_getChar_2 4 rfl rfl)
theorem dJ8_getChar_53 : decode cJ8_getChar 53 = .ok (.getstatic 63, 3) := dk_178 0 63 (dk_at dksJ8_getChar_2 5 rfl rfl)
theorem dJ8_getChar_56 : decode cJ8_getChar 56 = .ok (.ishl, 1) := dk_120 (dk_at dksJ8_getChar_2 8 rfl rfl)
theorem dJ8_getChar_57 : decode cJ8_getChar 57 = .ok (.ior, 1) := dk_128 (dk_at dksJ8_getChar_2 9 rfl rfl)
theorem dJ8_getChar_58 : decode cJ8_getChar 58 = .ok (.i2c, 1) := dk_146 (dk_at dksJ8_getChar_2 10 rfl rfl)
theorem dJ8_getChar_59 : decode cJ8_getChar 59 = .ok (.ireturn, 1) := dk_172 (dk_at dksJ8_getChar_2 11 rfl rfl)

theorem q160 : (Jvm.Cond.initialized "java/lang/StringUTF16") ∈ lw_all := lw_g (lw_at lw_m1 17 rfl) rfl
theorem q611 : (Jvm.Cond.static ({ cls := "java/lang/StringUTF16", name := "charAt", desc := "([BI)C" } : Jvm.MethodName)) ∈ lw_all := lw_g (lw_at lw_m2 228 rfl) rfl
theorem q612 : (Jvm.Cond.code ({ cls := "java/lang/StringUTF16", name := "charAt", desc := "([BI)C" } : Jvm.MethodName) prog_31_method_83_code (2 : Nat) (Option.some Jvm.ClassFile.FieldType.char)) ∈ lw_all := lw_g (lw_at lw_m2 229 rfl) rfl
theorem q613 : (Jvm.Cond.methodLink "java/lang/StringUTF16" (67 : Nat) ({ cls := "java/lang/StringUTF16", name := "checkIndex", desc := "(I[B)V" } : Jvm.MethodName)) ∈ lw_all := lw_g (lw_at lw_m2 230 rfl) rfl
theorem q614 : (Jvm.Cond.static ({ cls := "java/lang/StringUTF16", name := "checkIndex", desc := "(I[B)V" } : Jvm.MethodName)) ∈ lw_all := lw_g (lw_at lw_m2 231 rfl) rfl
theorem q615 : (Jvm.Cond.code ({ cls := "java/lang/StringUTF16", name := "checkIndex", desc := "(I[B)V" } : Jvm.MethodName) prog_31_method_91_code (2 : Nat) (Option.none : Option Jvm.ClassFile.FieldType)) ∈ lw_all := lw_g (lw_at lw_m2 232 rfl) rfl
theorem q616 : (Jvm.Cond.methodLink "java/lang/StringUTF16" (48 : Nat) ({ cls := "java/lang/StringUTF16", name := "length", desc := "([B)I" } : Jvm.MethodName)) ∈ lw_all := lw_g (lw_at lw_m2 233 rfl) rfl
theorem q617 : (Jvm.Cond.static ({ cls := "java/lang/StringUTF16", name := "length", desc := "([B)I" } : Jvm.MethodName)) ∈ lw_all := lw_g (lw_at lw_m2 234 rfl) rfl
theorem q618 : (Jvm.Cond.code ({ cls := "java/lang/StringUTF16", name := "length", desc := "([B)I" } : Jvm.MethodName) prog_31_method_6_code (1 : Nat) (Option.some Jvm.ClassFile.FieldType.int)) ∈ lw_all := lw_g (lw_at lw_m2 235 rfl) rfl
theorem q619 : (Jvm.Cond.methodLink "java/lang/StringUTF16" (414 : Nat) ({ cls := "java/lang/String", name := "checkIndex", desc := "(II)V" } : Jvm.MethodName)) ∈ lw_all := lw_g (lw_at lw_m2 236 rfl) rfl
theorem q620 : (Jvm.Cond.methodLink "java/lang/StringUTF16" (71 : Nat) ({ cls := "java/lang/StringUTF16", name := "getChar", desc := "([BI)C" } : Jvm.MethodName)) ∈ lw_all := lw_g (lw_at lw_m2 237 rfl) rfl
theorem q621 : (Jvm.Cond.static ({ cls := "java/lang/StringUTF16", name := "getChar", desc := "([BI)C" } : Jvm.MethodName)) ∈ lw_all := lw_g (lw_at lw_m2 238 rfl) rfl
theorem q622 : (Jvm.Cond.code ({ cls := "java/lang/StringUTF16", name := "getChar", desc := "([BI)C" } : Jvm.MethodName) prog_31_method_5_code (2 : Nat) (Option.some Jvm.ClassFile.FieldType.char)) ∈ lw_all := lw_g (lw_at lw_m2 239 rfl) rfl
theorem q623 : (Jvm.Cond.fieldLink "java/lang/StringUTF16" (44 : Nat) "java/lang/StringUTF16" "$assertionsDisabled" "Z") ∈ lw_all := lw_g (lw_at lw_m3 0 rfl) rfl
theorem q624 : (Jvm.Cond.laysStatic "java/lang/StringUTF16" "$assertionsDisabled" "Z") ∈ lw_tbl := lw_at lw_m3 1 rfl
theorem q625 : (Jvm.Cond.fieldLink "java/lang/StringUTF16" (59 : Nat) "java/lang/StringUTF16" "HI_BYTE_SHIFT" "I") ∈ lw_all := lw_g (lw_at lw_m3 2 rfl) rfl
theorem q626 : (Jvm.Cond.laysStatic "java/lang/StringUTF16" "HI_BYTE_SHIFT" "I") ∈ lw_tbl := lw_at lw_m3 3 rfl
theorem q627 : (Jvm.Cond.fieldLink "java/lang/StringUTF16" (63 : Nat) "java/lang/StringUTF16" "LO_BYTE_SHIFT" "I") ∈ lw_all := lw_g (lw_at lw_m3 4 rfl) rfl
theorem q628 : (Jvm.Cond.laysStatic "java/lang/StringUTF16" "LO_BYTE_SHIFT" "I") ∈ lw_tbl := lw_at lw_m3 5 rfl
abbrev cJ9_init : ByteArray := prog_33_method_1_code
def yJ9_init : MethodName := ⟨RJ9, "<init>", "()V"⟩
def dkwJ9_init_1 : List UInt8 := [182, 0, 27, 87, 177]
abbrev dktJ9_init_1 : List UInt8 := dkwJ9_init_1 ++ []
def dkwJ9_init_0 : List UInt8 := [42, 183, 0, 1, 42, 42, 181, 0, 7, 42, 178, 0, 13, 181, 0, 17, 42, 178, 0, 20, 181, 0, 24, 42]
abbrev dktJ9_init_0 : List UInt8 := dkwJ9_init_0 ++ dktJ9_init_1
theorem dksJ9_init_0 : cJ9_init.data.toList.drop 0 = dktJ9_init_0 := by decide +kernel
theorem dksJ9_init_1 : cJ9_init.data.toList.drop 24 = dktJ9_init_1 := dk_seg dksJ9_init_0 24 rfl rfl
theorem dJ9_init_0 : decode cJ9_init 0 = .ok (.aload_n 0, 1) := dk_42 (dk_at dksJ9_init_0 0 rfl rfl)
theorem dJ9_init_1 : decode cJ9_init 1 = .ok (.invokespecial 1, 3) := dk_183 0 1 (dk_at dksJ9_init_0 1 rfl rfl)
theorem dJ9_init_4 : decode cJ9_init 4 = .ok (.aload_n 0, 1) := dk_42 (dk_at dksJ9_init_0 4 rfl rfl)
theorem dJ9_init_5 : decode cJ9_init 5 = .ok (.aload_n 0, 1) := dk_42 (dk_at dksJ9_init_0 5 rfl rfl)
theorem dJ9_init_6 : decode cJ9_init 6 = .ok (.putfield 7, 3) := dk_181 0 7 (dk_at dksJ9_init_0 6 rfl rfl)
theorem dJ9_init_9 : decode cJ9_init 9 = .ok (.aload_n 0, 1) := dk_42 (dk_at dksJ9_init_0 9 rfl rfl)
theorem dJ9_init_10 : decode cJ9_init 10 = .ok (.getstatic 13, 3) := dk_178 0 13 (dk_at dksJ9_init_0 10 rfl rfl)
theorem dJ9_init_13 : decode cJ9_init 13 = .ok (.putfield 17, 3) := dk_181 0 17 (dk_at dksJ9_init_0 13 rfl rfl)
theorem dJ9_init_16 : decode cJ9_init 16 = .ok (.aload_n 0, 1) := dk_42 (dk_at dksJ9_init_0 16 rfl rfl)
theorem dJ9_init_17 : decode cJ9_init 17 = .ok (.getstatic 20, 3) := dk_178 0 20 (dk_at dksJ9_init_0 17 rfl rfl)
theorem dJ9_init_20 : decode cJ9_init 20 = .ok (.putfield 24, 3) := dk_181 0 24 (dk_at dksJ9_init_0 20 rfl rfl)
theorem dJ9_init_23 : decode cJ9_init 23 = .ok (.aload_n 0, 1) := dk_42 (dk_at dksJ9_init_0 23 rfl rfl)
theorem dJ9_init_24 : decode cJ9_init 24 = .ok (.invokevirtual 27, 3) := dk_182 0 27 (dk_at dksJ9_init_1 0 rfl rfl)
theorem dJ9_init_27 : decode cJ9_init 27 = .ok (.pop, 1) := dk_87 (dk_at dksJ9_init_1 3 rfl rfl)
theorem dJ9_init_28 : decode cJ9_init 28 = .ok (.return_, 1) := dk_177 (dk_at dksJ9_init_1 4 rfl rfl)

theorem q161 : (Jvm.Cond.initialized "java/lang/Throwable") ∈ lw_all := lw_g (lw_at lw_m1 18 rfl) rfl
theorem q680 : (Jvm.Cond.declares ({ cls := "java/lang/Throwable", name := "<init>", desc := "()V" } : Jvm.MethodName)) ∈ lw_tbl := lw_at lw_m3 57 rfl
theorem q681 : (Jvm.Cond.declares ({ cls := "java/lang/Throwable", name := "<init>", desc := "(Ljava/lang/String;)V" } : Jvm.MethodName)) ∈ lw_tbl := lw_at lw_m3 58 rfl
theorem q685 : (Jvm.Cond.lays "java/lang/Throwable" "java/lang/Throwable" "cause" "Ljava/lang/Throwable;") ∈ lw_all := lw_g (lw_at lw_m3 62 rfl) rfl
theorem q687 : (Jvm.Cond.lays "java/lang/Throwable" "java/lang/Throwable" "stackTrace" "[Ljava/lang/StackTraceElement;") ∈ lw_all := lw_g (lw_at lw_m3 64 rfl) rfl
theorem q689 : (Jvm.Cond.lays "java/lang/Throwable" "java/lang/Throwable" "suppressedExceptions" "Ljava/util/List;") ∈ lw_all := lw_g (lw_at lw_m3 66 rfl) rfl
theorem q691 : (Jvm.Cond.lays "java/lang/Throwable" "java/lang/Throwable" "detailMessage" "Ljava/lang/String;") ∈ lw_all := lw_g (lw_at lw_m3 68 rfl) rfl
theorem q693 : (Jvm.Cond.lays "java/lang/Throwable" "java/lang/Throwable" "backtrace" "Ljava/lang/Object;") ∈ lw_all := lw_g (lw_at lw_m3 70 rfl) rfl
theorem q694 : (Jvm.Cond.fieldLink "java/lang/Throwable" (198 : Nat) "java/lang/Throwable" "backtrace" "Ljava/lang/Object;") ∈ lw_all := lw_g (lw_at lw_m3 71 rfl) rfl
theorem q695 : (Jvm.Cond.superclass "java/lang/Throwable" "java/lang/Object") ∈ lw_all := lw_g (lw_at lw_m3 72 rfl) rfl
theorem q696 : (Jvm.Cond.instanceMethod ({ cls := "java/lang/Throwable", name := "<init>", desc := "()V" } : Jvm.MethodName)) ∈ lw_all := lw_g (lw_at lw_m3 73 rfl) rfl
theorem q697 : (Jvm.Cond.code ({ cls := "java/lang/Throwable", name := "<init>", desc := "()V" } : Jvm.MethodName) prog_33_method_1_code (1 : Nat) (Option.none : Option Jvm.ClassFile.FieldType)) ∈ lw_all := lw_g (lw_at lw_m3 74 rfl) rfl
theorem q698 : (Jvm.Cond.methodLink "java/lang/Throwable" (1 : Nat) ({ cls := "java/lang/Object", name := "<init>", desc := "()V" } : Jvm.MethodName)) ∈ lw_all := lw_g (lw_at lw_m3 75 rfl) rfl
theorem q699 : (Jvm.Cond.fieldLink "java/lang/Throwable" (13 : Nat) "java/lang/Throwable" "UNASSIGNED_STACK" "[Ljava/lang/StackTraceElement;") ∈ lw_all := lw_g (lw_at lw_m3 76 rfl) rfl
theorem q700 : (Jvm.Cond.laysStatic "java/lang/Throwable" "UNASSIGNED_STACK" "[Ljava/lang/StackTraceElement;") ∈ lw_tbl := lw_at lw_m3 77 rfl
theorem q701 : (Jvm.Cond.fieldLink "java/lang/Throwable" (20 : Nat) "java/lang/Throwable" "SUPPRESSED_SENTINEL" "Ljava/util/List;") ∈ lw_all := lw_g (lw_at lw_m3 78 rfl) rfl
theorem q702 : (Jvm.Cond.laysStatic "java/lang/Throwable" "SUPPRESSED_SENTINEL" "Ljava/util/List;") ∈ lw_tbl := lw_at lw_m3 79 rfl
theorem q703 : (Jvm.Cond.methodLink "java/lang/Throwable" (27 : Nat) ({ cls := "java/lang/Throwable", name := "fillInStackTrace", desc := "()Ljava/lang/Throwable;" } : Jvm.MethodName)) ∈ lw_all := lw_g (lw_at lw_m3 80 rfl) rfl
theorem q704 : (Jvm.Cond.instanceMethod ({ cls := "java/lang/Throwable", name := "fillInStackTrace", desc := "()Ljava/lang/Throwable;" } : Jvm.MethodName)) ∈ lw_all := lw_g (lw_at lw_m3 81 rfl) rfl
theorem q705 : (Jvm.Cond.sameMethod "java/lang/Throwable" "java/lang/Throwable" "fillInStackTrace" "()Ljava/lang/Throwable;") ∈ lw_all := lw_g (lw_at lw_m3 82 rfl) rfl
theorem q706 : (Jvm.Cond.codeSync ({ cls := "java/lang/Throwable", name := "fillInStackTrace", desc := "()Ljava/lang/Throwable;" } : Jvm.MethodName) prog_33_method_18_code (1 : Nat) (Option.some (Jvm.ClassFile.FieldType.object "java/lang/Throwable"))) ∈ lw_all := lw_g (lw_at lw_m3 83 rfl) rfl
theorem q707 : (Jvm.Cond.methodLink "java/lang/Throwable" (202 : Nat) ({ cls := "java/lang/Throwable", name := "fillInStackTrace", desc := "(I)Ljava/lang/Throwable;" } : Jvm.MethodName)) ∈ lw_all := lw_g (lw_at lw_m3 84 rfl) rfl
theorem q708 : (Jvm.Cond.privateMethod ({ cls := "java/lang/Throwable", name := "fillInStackTrace", desc := "(I)Ljava/lang/Throwable;" } : Jvm.MethodName)) ∈ lw_tbl := lw_at lw_m3 85 rfl
theorem q709 : (Jvm.Cond.instanceMethod ({ cls := "java/lang/Throwable", name := "fillInStackTrace", desc := "(I)Ljava/lang/Throwable;" } : Jvm.MethodName)) ∈ lw_all := lw_g (lw_at lw_m3 86 rfl) rfl
theorem q710 : (Jvm.Cond.instantiable "java/lang/Throwable" (6 : Nat)) ∈ lw_all := lw_g (lw_at lw_m3 87 rfl) rfl
theorem q711 : (Jvm.Cond.native ({ cls := "java/lang/Throwable", name := "fillInStackTrace", desc := "(I)Ljava/lang/Throwable;" } : Jvm.MethodName)) ∈ lw_all := lw_g (lw_at lw_m3 88 rfl) rfl
theorem q723 : (Jvm.Cond.fieldLink "java/lang/Throwable" (198 : Nat) "java/lang/Throwable" "backtrace" "Ljava/lang/Object;") ∈ lw_all := lw_g (lw_at lw_m3 100 rfl) rfl
theorem q724 : (Jvm.Cond.fieldLink "java/lang/Throwable" (7 : Nat) "java/lang/Throwable" "cause" "Ljava/lang/Throwable;") ∈ lw_all := lw_g (lw_at lw_m3 101 rfl) rfl
theorem q725 : (Jvm.Cond.fieldLink "java/lang/Throwable" (17 : Nat) "java/lang/Throwable" "stackTrace" "[Ljava/lang/StackTraceElement;") ∈ lw_all := lw_g (lw_at lw_m3 102 rfl) rfl
theorem q726 : (Jvm.Cond.fieldLink "java/lang/Throwable" (24 : Nat) "java/lang/Throwable" "suppressedExceptions" "Ljava/util/List;") ∈ lw_all := lw_g (lw_at lw_m3 103 rfl) rfl
theorem q731 : (Jvm.Cond.soleField "java/lang/Throwable" "backtrace") ∈ lw_all := lw_g (lw_at lw_m3 108 rfl) rfl
theorem q732 : (Jvm.Cond.soleField "java/lang/Throwable" "detailMessage") ∈ lw_all := lw_g (lw_at lw_m3 109 rfl) rfl
theorem q733 : (Jvm.Cond.soleField "java/lang/Throwable" "cause") ∈ lw_all := lw_g (lw_at lw_m3 110 rfl) rfl
theorem q734 : (Jvm.Cond.soleField "java/lang/Throwable" "stackTrace") ∈ lw_all := lw_g (lw_at lw_m3 111 rfl) rfl
theorem q736 : (Jvm.Cond.soleField "java/lang/Throwable" "depth") ∈ lw_all := lw_g (lw_at lw_m3 113 rfl) rfl
theorem q737 : (Jvm.Cond.soleField "java/lang/Throwable" "suppressedExceptions") ∈ lw_all := lw_g (lw_at lw_m3 114 rfl) rfl
theorem q2208 : (Jvm.Cond.sameMethod "java/lang/Throwable" "java/lang/Throwable" "fillInStackTrace" "(I)Ljava/lang/Throwable;") ∈ lw_all := lw_g (lw_at lw_m9 145 rfl) rfl
theorem q2231 : (Jvm.Cond.castable "java/lang/Throwable" "java/lang/Object") ∈ lw_tbl := lw_at lw_m9 168 rfl
abbrev cJ10_init : ByteArray := prog_25_method_1_code
def yJ10_init : MethodName := ⟨RJ10, "<init>", "()V"⟩
theorem dJ10_init_0 : decode cJ10_init 0 = .ok (.aload_n 0, 1) := by decide +kernel
theorem dJ10_init_1 : decode cJ10_init 1 = .ok (.invokespecial 1, 3) := by decide +kernel
theorem dJ10_init_4 : decode cJ10_init 4 = .ok (.return_, 1) := by decide +kernel

theorem q162 : (Jvm.Cond.initialized "java/lang/Exception") ∈ lw_all := lw_g (lw_at lw_m1 19 rfl) rfl
theorem q678 : (Jvm.Cond.declares ({ cls := "java/lang/Exception", name := "<init>", desc := "()V" } : Jvm.MethodName)) ∈ lw_tbl := lw_at lw_m3 55 rfl
theorem q679 : (Jvm.Cond.declares ({ cls := "java/lang/Exception", name := "<init>", desc := "(Ljava/lang/String;)V" } : Jvm.MethodName)) ∈ lw_tbl := lw_at lw_m3 56 rfl
theorem q716 : (Jvm.Cond.instanceMethod ({ cls := "java/lang/Exception", name := "<init>", desc := "()V" } : Jvm.MethodName)) ∈ lw_all := lw_g (lw_at lw_m3 93 rfl) rfl
theorem q717 : (Jvm.Cond.code ({ cls := "java/lang/Exception", name := "<init>", desc := "()V" } : Jvm.MethodName) prog_25_method_1_code (1 : Nat) (Option.none : Option Jvm.ClassFile.FieldType)) ∈ lw_all := lw_g (lw_at lw_m3 94 rfl) rfl
theorem q718 : (Jvm.Cond.methodLink "java/lang/Exception" (1 : Nat) ({ cls := "java/lang/Throwable", name := "<init>", desc := "()V" } : Jvm.MethodName)) ∈ lw_all := lw_g (lw_at lw_m3 95 rfl) rfl
abbrev cJ11_newLength : ByteArray := prog_43_method_27_code
def yJ11_newLength : MethodName := ⟨RJ11, "newLength", "(III)I"⟩
def dkwJ11_newLength_1 : List UInt8 := [184, 0, 201, 172]
abbrev dktJ11_newLength_1 : List UInt8 := dkwJ11_newLength_1 ++ []
def dkwJ11_newLength_0 : List UInt8 := [26, 27, 28, 184, 0, 194, 96, 62, 3, 29, 162, 0, 11, 29, 18, 200, 163, 0, 5, 29, 172, 26, 27]
abbrev dktJ11_newLength_0 : List UInt8 := dkwJ11_newLength_0 ++ dktJ11_newLength_1
theorem dksJ11_newLength_0 : cJ11_newLength.data.toList.drop 0 = dktJ11_newLength_0 := by decide +kernel
theorem dksJ11_newLength_1 : cJ11_newLength.data.toList.drop 23 = dktJ11_newLength_1 := dk_seg dksJ11_newLength_0 23 rfl rfl
theorem dJ11_newLength_0 : decode cJ11_newLength 0 = .ok (.iload_n 0, 1) := dk_26 (dk_at dksJ11_newLength_0 0 rfl rfl)
theorem dJ11_newLength_1 : decode cJ11_newLength 1 = .ok (.iload_n 1, 1) := dk_27 (dk_at dksJ11_newLength_0 1 rfl rfl)
theorem dJ11_newLength_2 : decode cJ11_newLength 2 = .ok (.iload_n 2, 1) := dk_28 (dk_at dksJ11_newLength_0 2 rfl rfl)
theorem dJ11_newLength_3 : decode cJ11_newLength 3 = .ok (.invokestatic 194, 3) := dk_184 0 194 (dk_at dksJ11_newLength_0 3 rfl rfl)
theorem dJ11_newLength_6 : decode cJ11_newLength 6 = .ok (.iadd, 1) := dk_96 (dk_at dksJ11_newLength_0 6 rfl rfl)
theorem dJ11_newLength_7 : decode cJ11_newLength 7 = .ok (.istore_n 3, 1) := dk_62 (dk_at dksJ11_newLength_0 7 rfl rfl)
theorem dJ11_newLength_8 : decode cJ11_newLength 8 = .ok (.iconst 0, 1) := dk_3 (dk_at dksJ11_newLength_0 8 rfl rfl)
theorem dJ11_newLength_9 : decode cJ11_newLength 9 = .ok (.iload_n 3, 1) := dk_29 (dk_at dksJ11_newLength_0 9 rfl rfl)
theorem dJ11_newLength_10 : decode cJ11_newLength 10 = .ok (.if_icmp .ge 11, 3) := dk_162 0 11 (dk_at dksJ11_newLength_0 10 rfl rfl)
theorem dJ11_newLength_13 : decode cJ11_newLength 13 = .ok (.iload_n 3, 1) := dk_29 (dk_at dksJ11_newLength_0 13 rfl rfl)
theorem dJ11_newLength_14 : decode cJ11_newLength 14 = .ok (.ldc 200, 2) := dk_18 200 (dk_at dksJ11_newLength_0 14 rfl rfl)
theorem dJ11_newLength_16 : decode cJ11_newLength 16 = .ok (.if_icmp .gt 5, 3) := dk_163 0 5 (dk_at dksJ11_newLength_0 16 rfl rfl)
theorem dJ11_newLength_19 : decode cJ11_newLength 19 = .ok (.iload_n 3, 1) := dk_29 (dk_at dksJ11_newLength_0 19 rfl rfl)
theorem dJ11_newLength_20 : decode cJ11_newLength 20 = .ok (.ireturn, 1) := dk_172 (dk_at dksJ11_newLength_0 20 rfl rfl)
theorem dJ11_newLength_21 : decode cJ11_newLength 21 = .ok (.iload_n 0, 1) := dk_26 (dk_at dksJ11_newLength_0 21 rfl rfl)
theorem dJ11_newLength_22 : decode cJ11_newLength 22 = .ok (.iload_n 1, 1) := dk_27 (dk_at dksJ11_newLength_0 22 rfl rfl)
theorem dJ11_newLength_23 : decode cJ11_newLength 23 = .ok (.invokestatic 201, 3) := dk_184 0 201 (dk_at dksJ11_newLength_1 0 rfl rfl)
theorem dJ11_newLength_26 : decode cJ11_newLength 26 = .ok (.ireturn, 1) := dk_172 (dk_at dksJ11_newLength_1 3 rfl rfl)
abbrev cJ11_hugeLength : ByteArray := prog_43_method_28_code
def yJ11_hugeLength : MethodName := ⟨RJ11, "hugeLength", "(II)I"⟩
def dkwJ11_hugeLength_2 : List UInt8 := [191, 28, 18, 200, 163, 0, 6, 18, 200, 172, 28, 172]
abbrev dktJ11_hugeLength_2 : List UInt8 := dkwJ11_hugeLength_2 ++ []
def dkwJ11_hugeLength_1 : List UInt8 := [26, 182, 0, 98, 18, 208, 182, 0, 94, 27, 182, 0, 98, 18, 210, 182, 0, 94, 182, 0, 101, 183, 0, 212]
abbrev dktJ11_hugeLength_1 : List UInt8 := dkwJ11_hugeLength_1 ++ dktJ11_hugeLength_2
def dkwJ11_hugeLength_0 : List UInt8 := [26, 27, 96, 61, 28, 156, 0, 44, 187, 0, 204, 89, 187, 0, 89, 89, 183, 0, 91, 18, 206, 182, 0, 94]
abbrev dktJ11_hugeLength_0 : List UInt8 := dkwJ11_hugeLength_0 ++ dktJ11_hugeLength_1
theorem dksJ11_hugeLength_0 : cJ11_hugeLength.data.toList.drop 0 = dktJ11_hugeLength_0 := by decide +kernel
theorem dksJ11_hugeLength_1 : cJ11_hugeLength.data.toList.drop 24 = dktJ11_hugeLength_1 := dk_seg dksJ11_hugeLength_0 24 rfl rfl
theorem dksJ11_hugeLength_2 : cJ11_hugeLength.data.toList.drop 48 = dktJ11_hugeLength_2 := dk_seg dksJ11_hugeLength_1 24 rfl rfl
theorem dJ11_hugeLength_0 : decode cJ11_hugeLength 0 = .ok (.iload_n 0, 1) := dk_26 (dk_at dksJ11_hugeLength_0 0 rfl rfl)
theorem dJ11_hugeLength_1 : decode cJ11_hugeLength 1 = .ok (.iload_n 1, 1) := dk_27 (dk_at dksJ11_hugeLength_0 1 rfl rfl)
theorem dJ11_hugeLength_2 : decode cJ11_hugeLength 2 = .ok (.iadd, 1) := dk_96 (dk_at dksJ11_hugeLength_0 2 rfl rfl)
theorem dJ11_hugeLength_3 : decode cJ11_hugeLength 3 = .ok (.istore_n 2, 1) := dk_61 (dk_at dksJ11_hugeLength_0 3 rfl rfl)
theorem dJ11_hugeLength_4 : decode cJ11_hugeLength 4 = .ok (.iload_n 2, 1) := dk_28 (dk_at dksJ11_hugeLength_0 4 rfl rfl)
theorem dJ11_hugeLength_5 : decode cJ11_hugeLength 5 = .ok (.ifCond .ge 44, 3) := dk_156 0 44 (dk_at dksJ11_hugeLength_0 5 rfl rfl)
theorem dJ11_hugeLength_8 : decode cJ11_hugeLength 8 = .ok (.new 204, 3) := dk_187 0 204 (dk_at dksJ11_hugeLength_0 8 rfl rfl)
theorem dJ11_hugeLength_11 : decode cJ11_hugeLength 11 = .ok (.dup, 1) := dk_89 (dk_at dksJ11_hugeLength_0 11 rfl rfl)
theorem dJ11_hugeLength_12 : decode cJ11_hugeLength 12 = .ok (.new 89, 3) := dk_187 0 89 (dk_at dksJ11_hugeLength_0 12 rfl rfl)
theorem dJ11_hugeLength_15 : decode cJ11_hugeLength 15 = .ok (.dup, 1) := dk_89 (dk_at dksJ11_hugeLength_0 15 rfl rfl)
theorem dJ11_hugeLength_16 : decode cJ11_hugeLength 16 = .ok (.invokespecial 91, 3) := dk_183 0 91 (dk_at dksJ11_hugeLength_0 16 rfl rfl)
theorem dJ11_hugeLength_19 : decode cJ11_hugeLength 19 = .ok (.ldc 206, 2) := dk_18 206 (dk_at dksJ11_hugeLength_0 19 rfl rfl)
theorem dJ11_hugeLength_21 : decode cJ11_hugeLength 21 = .ok (.invokevirtual 94, 3) := dk_182 0 94 (dk_at dksJ11_hugeLength_0 21 rfl rfl)
theorem dJ11_hugeLength_24 : decode cJ11_hugeLength 24 = .ok (.iload_n 0, 1) := dk_26 (dk_at dksJ11_hugeLength_1 0 rfl rfl)
theorem dJ11_hugeLength_25 : decode cJ11_hugeLength 25 = .ok (.invokevirtual 98, 3) := dk_182 0 98 (dk_at dksJ11_hugeLength_1 1 rfl rfl)
theorem dJ11_hugeLength_28 : decode cJ11_hugeLength 28 = .ok (.ldc 208, 2) := dk_18 208 (dk_at dksJ11_hugeLength_1 4 rfl rfl)
theorem dJ11_hugeLength_30 : decode cJ11_hugeLength 30 = .ok (.invokevirtual 94, 3) := dk_182 0 94 (dk_at dksJ11_hugeLength_1 6 rfl rfl)
theorem dJ11_hugeLength_33 : decode cJ11_hugeLength 33 = .ok (.iload_n 1, 1) := dk_27 (dk_at dksJ11_hugeLength_1 9 rfl rfl)
theorem dJ11_hugeLength_34 : decode cJ11_hugeLength 34 = .ok (.invokevirtual 98, 3) := dk_182 0 98 (dk_at dksJ11_hugeLength_1 10 rfl rfl)
theorem dJ11_hugeLength_37 : decode cJ11_hugeLength 37 = .ok (.ldc 210, 2) := dk_18 210 (dk_at dksJ11_hugeLength_1 13 rfl rfl)
theorem dJ11_hugeLength_39 : decode cJ11_hugeLength 39 = .ok (.invokevirtual 94, 3) := dk_182 0 94 (dk_at dksJ11_hugeLength_1 15 rfl rfl)
theorem dJ11_hugeLength_42 : decode cJ11_hugeLength 42 = .ok (.invokevirtual 101, 3) := dk_182 0 101 (dk_at dksJ11_hugeLength_1 18 rfl rfl)
theorem dJ11_hugeLength_45 : decode cJ11_hugeLength 45 = .ok (.invokespecial 212, 3) := dk_183 0 212 (dk_at dksJ11_hugeLength_1 21 rfl rfl)
theorem dJ11_hugeLength_48 : decode cJ11_hugeLength 48 = .ok (.athrow, 1) := dk_191 (dk_at dksJ11_hugeLength_2 0 rfl rfl)
theorem dJ11_hugeLength_49 : decode cJ11_hugeLength 49 = .ok (.iload_n 2, 1) := dk_28 (dk_at dksJ11_hugeLength_2 1 rfl rfl)
theorem dJ11_hugeLength_50 : decode cJ11_hugeLength 50 = .ok (.ldc 200, 2) := dk_18 200 (dk_at dksJ11_hugeLength_2 2 rfl rfl)
theorem dJ11_hugeLength_52 : decode cJ11_hugeLength 52 = .ok (.if_icmp .gt 6, 3) := dk_163 0 6 (dk_at dksJ11_hugeLength_2 4 rfl rfl)
theorem dJ11_hugeLength_55 : decode cJ11_hugeLength 55 = .ok (.ldc 200, 2) := dk_18 200 (dk_at dksJ11_hugeLength_2 7 rfl rfl)
theorem dJ11_hugeLength_57 : decode cJ11_hugeLength 57 = .ok (.ireturn, 1) := dk_172 (dk_at dksJ11_hugeLength_2 9 rfl rfl)
theorem dJ11_hugeLength_58 : decode cJ11_hugeLength 58 = .ok (.iload_n 2, 1) := dk_28 (dk_at dksJ11_hugeLength_2 10 rfl rfl)
theorem dJ11_hugeLength_59 : decode cJ11_hugeLength 59 = .ok (.ireturn, 1) := dk_172 (dk_at dksJ11_hugeLength_2 11 rfl rfl)

theorem q170 : (Jvm.Cond.initialized "jdk/internal/util/ArraysSupport") ∈ lw_all := lw_g (lw_at lw_m1 27 rfl) rfl
theorem q864 : (Jvm.Cond.static ({ cls := "jdk/internal/util/ArraysSupport", name := "newLength", desc := "(III)I" } : Jvm.MethodName)) ∈ lw_all := lw_g (lw_at lw_m4 1 rfl) rfl
theorem q865 : (Jvm.Cond.code ({ cls := "jdk/internal/util/ArraysSupport", name := "newLength", desc := "(III)I" } : Jvm.MethodName) prog_43_method_27_code (4 : Nat) (Option.some Jvm.ClassFile.FieldType.int)) ∈ lw_all := lw_g (lw_at lw_m4 2 rfl) rfl
theorem q866 : (Jvm.Cond.methodLink "jdk/internal/util/ArraysSupport" (194 : Nat) ({ cls := "java/lang/Math", name := "max", desc := "(II)I" } : Jvm.MethodName)) ∈ lw_all := lw_g (lw_at lw_m4 3 rfl) rfl
theorem q869 : (Jvm.Cond.constant "jdk/internal/util/ArraysSupport" (200 : Nat) (2147483639 : Int32)) ∈ lw_all := lw_g (lw_at lw_m4 6 rfl) rfl
theorem q870 : (Jvm.Cond.methodLink "jdk/internal/util/ArraysSupport" (201 : Nat) ({ cls := "jdk/internal/util/ArraysSupport", name := "hugeLength", desc := "(II)I" } : Jvm.MethodName)) ∈ lw_all := lw_g (lw_at lw_m4 7 rfl) rfl
theorem q871 : (Jvm.Cond.static ({ cls := "jdk/internal/util/ArraysSupport", name := "hugeLength", desc := "(II)I" } : Jvm.MethodName)) ∈ lw_all := lw_g (lw_at lw_m4 8 rfl) rfl
theorem q872 : (Jvm.Cond.code ({ cls := "jdk/internal/util/ArraysSupport", name := "hugeLength", desc := "(II)I" } : Jvm.MethodName) prog_43_method_28_code (3 : Nat) (Option.some Jvm.ClassFile.FieldType.int)) ∈ lw_all := lw_g (lw_at lw_m4 9 rfl) rfl
abbrev cJ12_copyOf : ByteArray := prog_37_method_119_code
def yJ12_copyOf : MethodName := ⟨RJ12, "copyOf", "([Ljava/lang/Object;I)[Ljava/lang/Object;"⟩
def dkwJ12_copyOf_0 : List UInt8 := [42, 27, 42, 182, 0, 86, 184, 1, 44, 176]
abbrev dktJ12_copyOf_0 : List UInt8 := dkwJ12_copyOf_0 ++ []
theorem dksJ12_copyOf_0 : cJ12_copyOf.data.toList.drop 0 = dktJ12_copyOf_0 := by decide +kernel
theorem dJ12_copyOf_0 : decode cJ12_copyOf 0 = .ok (.aload_n 0, 1) := dk_42 (dk_at dksJ12_copyOf_0 0 rfl rfl)
theorem dJ12_copyOf_1 : decode cJ12_copyOf 1 = .ok (.iload_n 1, 1) := dk_27 (dk_at dksJ12_copyOf_0 1 rfl rfl)
theorem dJ12_copyOf_2 : decode cJ12_copyOf 2 = .ok (.aload_n 0, 1) := dk_42 (dk_at dksJ12_copyOf_0 2 rfl rfl)
theorem dJ12_copyOf_3 : decode cJ12_copyOf 3 = .ok (.invokevirtual 86, 3) := dk_182 0 86 (dk_at dksJ12_copyOf_0 3 rfl rfl)
theorem dJ12_copyOf_6 : decode cJ12_copyOf 6 = .ok (.invokestatic 300, 3) := dk_184 1 44 (dk_at dksJ12_copyOf_0 6 rfl rfl)
theorem dJ12_copyOf_9 : decode cJ12_copyOf 9 = .ok (.areturn, 1) := dk_176 (dk_at dksJ12_copyOf_0 9 rfl rfl)
abbrev cJ12_copyOf_2 : ByteArray := prog_37_method_120_code
def yJ12_copyOf_2 : MethodName := ⟨RJ12, "copyOf", "([Ljava/lang/Object;ILjava/lang/Class;)[Ljava/lang/Object;"⟩
def dkwJ12_copyOf_2_1 : List UInt8 := [78, 42, 3, 45, 3, 42, 190, 27, 184, 1, 48, 184, 0, 150, 45, 176]
abbrev dktJ12_copyOf_2_1 : List UInt8 := dkwJ12_copyOf_2_1 ++ []
def dkwJ12_copyOf_2_0 : List UInt8 := [44, 18, 110, 166, 0, 10, 27, 189, 0, 2, 167, 0, 14, 44, 182, 0, 90, 27, 184, 0, 95, 192, 0, 110]
abbrev dktJ12_copyOf_2_0 : List UInt8 := dkwJ12_copyOf_2_0 ++ dktJ12_copyOf_2_1
theorem dksJ12_copyOf_2_0 : cJ12_copyOf_2.data.toList.drop 0 = dktJ12_copyOf_2_0 := by decide +kernel
theorem dksJ12_copyOf_2_1 : cJ12_copyOf_2.data.toList.drop 24 = dktJ12_copyOf_2_1 := dk_seg dksJ12_copyOf_2_0 24 rfl rfl
theorem dJ12_copyOf_2_0 : decode cJ12_copyOf_2 0 = .ok (.aload_n 2, 1) := dk_44 (dk_at dksJ12_copyOf_2_0 0 rfl rfl)
theorem dJ12_copyOf_2_1 : decode cJ12_copyOf_2 1 = .ok (.ldc 110, 2) := dk_18 110 (dk_at dksJ12_copyOf_2_0 1 rfl rfl)
theorem dJ12_copyOf_2_3 : decode cJ12_copyOf_2 3 = .ok (.if_acmp .ne 10, 3) := dk_166 0 10 (dk_at dksJ12_copyOf_2_0 3 rfl rfl)
theorem dJ12_copyOf_2_6 : decode cJ12_copyOf_2 6 = .ok (.iload_n 1, 1) := dk_27 (dk_at dksJ12_copyOf_2_0 6 rfl rfl)
theorem dJ12_copyOf_2_7 : decode cJ12_copyOf_2 7 = .ok (.anewarray 2, 3) := dk_189 0 2 (dk_at dksJ12_copyOf_2_0 7 rfl rfl)
theorem dJ12_copyOf_2_10 : decode cJ12_copyOf_2 10 = .ok (.goto 14, 3) := dk_167 0 14 (dk_at dksJ12_copyOf_2_0 10 rfl rfl)
theorem dJ12_copyOf_2_13 : decode cJ12_copyOf_2 13 = .ok (.aload_n 2, 1) := dk_44 (dk_at dksJ12_copyOf_2_0 13 rfl rfl)
theorem dJ12_copyOf_2_14 : decode cJ12_copyOf_2 14 = .ok (.invokevirtual 90, 3) := dk_182 0 90 (dk_at dksJ12_copyOf_2_0 14 rfl rfl)
theorem dJ12_copyOf_2_17 : decode cJ12_copyOf_2 17 = .ok (.iload_n 1, 1) := dk_27 (dk_at dksJ12_copyOf_2_0 17 rfl rfl)
theorem dJ12_copyOf_2_18 : decode cJ12_copyOf_2 18 = .ok (.invokestatic 95, 3) := dk_184 0 95 (dk_at dksJ12_copyOf_2_0 18 rfl rfl)
theorem dJ12_copyOf_2_21 : decode cJ12_copyOf_2 21 = .ok (.checkcast 110, 3) := dk_192 0 110 (dk_at dksJ12_copyOf_2_0 21 rfl rfl)
theorem dJ12_copyOf_2_24 : decode cJ12_copyOf_2 24 = .ok (.astore_n 3, 1) := dk_78 (dk_at dksJ12_copyOf_2_1 0 rfl rfl)
theorem dJ12_copyOf_2_25 : decode cJ12_copyOf_2 25 = .ok (.aload_n 0, 1) := dk_42 (dk_at dksJ12_copyOf_2_1 1 rfl rfl)
theorem dJ12_copyOf_2_26 : decode cJ12_copyOf_2 26 = .ok (.iconst 0, 1) := dk_3 (dk_at dksJ12_copyOf_2_1 2 rfl rfl)
theorem dJ12_copyOf_2_27 : decode cJ12_copyOf_2 27 = .ok (.aload_n 3, 1) := dk_45 (dk_at dksJ12_copyOf_2_1 3 rfl rfl)
theorem dJ12_copyOf_2_28 : decode cJ12_copyOf_2 28 = .ok (.iconst 0, 1) := dk_3 (dk_at dksJ12_copyOf_2_1 4 rfl rfl)
theorem dJ12_copyOf_2_29 : decode cJ12_copyOf_2 29 = .ok (.aload_n 0, 1) := dk_42 (dk_at dksJ12_copyOf_2_1 5 rfl rfl)
theorem dJ12_copyOf_2_30 : decode cJ12_copyOf_2 30 = .ok (.arraylength, 1) := dk_190 (dk_at dksJ12_copyOf_2_1 6 rfl rfl)
theorem dJ12_copyOf_2_31 : decode cJ12_copyOf_2 31 = .ok (.iload_n 1, 1) := dk_27 (dk_at dksJ12_copyOf_2_1 7 rfl rfl)
theorem dJ12_copyOf_2_32 : decode cJ12_copyOf_2 32 = .ok (.invokestatic 304, 3) := dk_184 1 48 (dk_at dksJ12_copyOf_2_1 8 rfl rfl)
theorem dJ12_copyOf_2_35 : decode cJ12_copyOf_2 35 = .ok (.invokestatic 150, 3) := dk_184 0 150 (dk_at dksJ12_copyOf_2_1 11 rfl rfl)
theorem dJ12_copyOf_2_38 : decode cJ12_copyOf_2 38 = .ok (.aload_n 3, 1) := dk_45 (dk_at dksJ12_copyOf_2_1 14 rfl rfl)
theorem dJ12_copyOf_2_39 : decode cJ12_copyOf_2 39 = .ok (.areturn, 1) := dk_176 (dk_at dksJ12_copyOf_2_1 15 rfl rfl)

theorem q171 : (Jvm.Cond.initialized "java/util/Arrays") ∈ lw_all := lw_g (lw_at lw_m1 28 rfl) rfl
theorem q874 : (Jvm.Cond.static ({ cls := "java/util/Arrays", name := "copyOf", desc := "([Ljava/lang/Object;I)[Ljava/lang/Object;" } : Jvm.MethodName)) ∈ lw_all := lw_g (lw_at lw_m4 11 rfl) rfl
theorem q875 : (Jvm.Cond.code ({ cls := "java/util/Arrays", name := "copyOf", desc := "([Ljava/lang/Object;I)[Ljava/lang/Object;" } : Jvm.MethodName) prog_37_method_119_code (2 : Nat) (Option.some (Jvm.ClassFile.FieldType.array (Jvm.ClassFile.FieldType.object "java/lang/Object")))) ∈ lw_all := lw_g (lw_at lw_m4 12 rfl) rfl
theorem q876 : (Jvm.Cond.methodLink "java/util/Arrays" (86 : Nat) ({ cls := "java/lang/Object", name := "getClass", desc := "()Ljava/lang/Class;" } : Jvm.MethodName)) ∈ lw_all := lw_g (lw_at lw_m4 13 rfl) rfl
theorem q899 : (Jvm.Cond.methodLink "java/util/Arrays" (300 : Nat) ({ cls := "java/util/Arrays", name := "copyOf", desc := "([Ljava/lang/Object;ILjava/lang/Class;)[Ljava/lang/Object;" } : Jvm.MethodName)) ∈ lw_all := lw_g (lw_at lw_m4 36 rfl) rfl
theorem q900 : (Jvm.Cond.static ({ cls := "java/util/Arrays", name := "copyOf", desc := "([Ljava/lang/Object;ILjava/lang/Class;)[Ljava/lang/Object;" } : Jvm.MethodName)) ∈ lw_all := lw_g (lw_at lw_m4 37 rfl) rfl
theorem q901 : (Jvm.Cond.code ({ cls := "java/util/Arrays", name := "copyOf", desc := "([Ljava/lang/Object;ILjava/lang/Class;)[Ljava/lang/Object;" } : Jvm.MethodName) prog_37_method_120_code (4 : Nat) (Option.some (Jvm.ClassFile.FieldType.array (Jvm.ClassFile.FieldType.object "java/lang/Object")))) ∈ lw_all := lw_g (lw_at lw_m4 38 rfl) rfl
theorem q902 : (Jvm.Cond.classLink "java/util/Arrays" (110 : Nat) "[Ljava/lang/Object;") ∈ lw_all := lw_g (lw_at lw_m4 39 rfl) rfl
theorem q904 : (Jvm.Cond.classLink "java/util/Arrays" (2 : Nat) "java/lang/Object") ∈ lw_all := lw_g (lw_at lw_m4 41 rfl) rfl
theorem q905 : (Jvm.Cond.methodLink "java/util/Arrays" (304 : Nat) ({ cls := "java/lang/Math", name := "min", desc := "(II)I" } : Jvm.MethodName)) ∈ lw_all := lw_g (lw_at lw_m4 42 rfl) rfl
theorem q908 : (Jvm.Cond.methodLink "java/util/Arrays" (150 : Nat) ({ cls := "java/lang/System", name := "arraycopy", desc := "(Ljava/lang/Object;ILjava/lang/Object;II)V" } : Jvm.MethodName)) ∈ lw_all := lw_g (lw_at lw_m4 45 rfl) rfl
abbrev cJ13_numberOfTrailingZeros : ByteArray := prog_26_method_48_code
def yJ13_numberOfTrailingZeros : MethodName := ⟨RJ13, "numberOfTrailingZeros", "(I)I"⟩
def dkwJ13_numberOfTrailingZeros_3 : List UInt8 := [5, 124, 59, 27, 26, 4, 124, 96, 172]
abbrev dktJ13_numberOfTrailingZeros_3 : List UInt8 := dkwJ13_numberOfTrailingZeros_3 ++ []
def dkwJ13_numberOfTrailingZeros_2 : List UInt8 := [124, 59, 26, 16, 16, 164, 0, 10, 132, 1, 4, 26, 7, 124, 59, 26, 7, 164, 0, 10, 132, 1, 2, 26]
abbrev dktJ13_numberOfTrailingZeros_2 : List UInt8 := dkwJ13_numberOfTrailingZeros_2 ++ dktJ13_numberOfTrailingZeros_3
def dkwJ13_numberOfTrailingZeros_1 : List UInt8 := [164, 0, 11, 132, 1, 16, 26, 16, 16, 124, 59, 26, 17, 1, 0, 164, 0, 11, 132, 1, 8, 26, 16, 8]
abbrev dktJ13_numberOfTrailingZeros_1 : List UInt8 := dkwJ13_numberOfTrailingZeros_1 ++ dktJ13_numberOfTrailingZeros_2
def dkwJ13_numberOfTrailingZeros_0 : List UInt8 := [26, 2, 130, 26, 4, 100, 126, 59, 26, 157, 0, 8, 26, 16, 32, 126, 172, 4, 60, 26, 19, 1, 8]
abbrev dktJ13_numberOfTrailingZeros_0 : List UInt8 := dkwJ13_numberOfTrailingZeros_0 ++ dktJ13_numberOfTrailingZeros_1
theorem dksJ13_numberOfTrailingZeros_0 : cJ13_numberOfTrailingZeros.data.toList.drop 0 = dktJ13_numberOfTrailingZeros_0 := by decide +kernel
theorem dksJ13_numberOfTrailingZeros_1 : cJ13_numberOfTrailingZeros.data.toList.drop 23 = dktJ13_numberOfTrailingZeros_1 := dk_seg dksJ13_numberOfTrailingZeros_0 23 rfl rfl
theorem dksJ13_numberOfTrailingZeros_2 : cJ13_numberOfTrailingZeros.data.toList.drop 47 = dktJ13_numberOfTrailingZeros_2 := dk_seg dksJ13_numberOfTrailingZeros_1 24 rfl rfl
theorem dksJ13_numberOfTrailingZeros_3 : cJ13_numberOfTrailingZeros.data.toList.drop 71 = dktJ13_numberOfTrailingZeros_3 := dk_seg dksJ13_numberOfTrailingZeros_2 24 rfl rfl
theorem dJ13_numberOfTrailingZeros_0 : decode cJ13_numberOfTrailingZeros 0 = .ok (.iload_n 0, 1) := dk_26 (dk_at dksJ13_numberOfTrailingZeros_0 0 rfl rfl)
theorem dJ13_numberOfTrailingZeros_1 : decode cJ13_numberOfTrailingZeros 1 = .ok (.iconst (-1), 1) := dk_2 (dk_at dksJ13_numberOfTrailingZeros_0 1 rfl rfl)
theorem dJ13_numberOfTrailingZeros_2 : decode cJ13_numberOfTrailingZeros 2 = .ok (.ixor, 1) := dk_130 (dk_at dksJ13_numberOfTrailingZeros_0 2 rfl rfl)
theorem dJ13_numberOfTrailingZeros_3 : decode cJ13_numberOfTrailingZeros 3 = .ok (.iload_n 0, 1) := dk_26 (dk_at dksJ13_numberOfTrailingZeros_0 3 rfl rfl)
theorem dJ13_numberOfTrailingZeros_4 : decode cJ13_numberOfTrailingZeros 4 = .ok (.iconst 1, 1) := dk_4 (dk_at dksJ13_numberOfTrailingZeros_0 4 rfl rfl)
theorem dJ13_numberOfTrailingZeros_5 : decode cJ13_numberOfTrailingZeros 5 = .ok (.isub, 1) := dk_100 (dk_at dksJ13_numberOfTrailingZeros_0 5 rfl rfl)
theorem dJ13_numberOfTrailingZeros_6 : decode cJ13_numberOfTrailingZeros 6 = .ok (.iand, 1) := dk_126 (dk_at dksJ13_numberOfTrailingZeros_0 6 rfl rfl)
theorem dJ13_numberOfTrailingZeros_7 : decode cJ13_numberOfTrailingZeros 7 = .ok (.istore_n 0, 1) := dk_59 (dk_at dksJ13_numberOfTrailingZeros_0 7 rfl rfl)
theorem dJ13_numberOfTrailingZeros_8 : decode cJ13_numberOfTrailingZeros 8 = .ok (.iload_n 0, 1) := dk_26 (dk_at dksJ13_numberOfTrailingZeros_0 8 rfl rfl)
theorem dJ13_numberOfTrailingZeros_9 : decode cJ13_numberOfTrailingZeros 9 = .ok (.ifCond .gt 8, 3) := dk_157 0 8 (dk_at dksJ13_numberOfTrailingZeros_0 9 rfl rfl)
theorem dJ13_numberOfTrailingZeros_12 : decode cJ13_numberOfTrailingZeros 12 = .ok (.iload_n 0, 1) := dk_26 (dk_at dksJ13_numberOfTrailingZeros_0 12 rfl rfl)
theorem dJ13_numberOfTrailingZeros_13 : decode cJ13_numberOfTrailingZeros 13 = .ok (.bipush 32, 2) := dk_16 32 (dk_at dksJ13_numberOfTrailingZeros_0 13 rfl rfl)
theorem dJ13_numberOfTrailingZeros_15 : decode cJ13_numberOfTrailingZeros 15 = .ok (.iand, 1) := dk_126 (dk_at dksJ13_numberOfTrailingZeros_0 15 rfl rfl)
theorem dJ13_numberOfTrailingZeros_16 : decode cJ13_numberOfTrailingZeros 16 = .ok (.ireturn, 1) := dk_172 (dk_at dksJ13_numberOfTrailingZeros_0 16 rfl rfl)
theorem dJ13_numberOfTrailingZeros_17 : decode cJ13_numberOfTrailingZeros 17 = .ok (.iconst 1, 1) := dk_4 (dk_at dksJ13_numberOfTrailingZeros_0 17 rfl rfl)
theorem dJ13_numberOfTrailingZeros_18 : decode cJ13_numberOfTrailingZeros 18 = .ok (.istore_n 1, 1) := dk_60 (dk_at dksJ13_numberOfTrailingZeros_0 18 rfl rfl)
theorem dJ13_numberOfTrailingZeros_19 : decode cJ13_numberOfTrailingZeros 19 = .ok (.iload_n 0, 1) := dk_26 (dk_at dksJ13_numberOfTrailingZeros_0 19 rfl rfl)
theorem dJ13_numberOfTrailingZeros_20 : decode cJ13_numberOfTrailingZeros 20 = .ok (.ldc_w 264, 3) := dk_19 1 8 (dk_at dksJ13_numberOfTrailingZeros_0 20 rfl rfl)
theorem dJ13_numberOfTrailingZeros_23 : decode cJ13_numberOfTrailingZeros 23 = .ok (.if_icmp .le 11, 3) := dk_164 0 11 (dk_at dksJ13_numberOfTrailingZeros_1 0 rfl rfl)
theorem dJ13_numberOfTrailingZeros_26 : decode cJ13_numberOfTrailingZeros 26 = .ok (.iinc 1 16, 3) := dk_132 1 16 (dk_at dksJ13_numberOfTrailingZeros_1 3 rfl rfl)
theorem dJ13_numberOfTrailingZeros_29 : decode cJ13_numberOfTrailingZeros 29 = .ok (.iload_n 0, 1) := dk_26 (dk_at dksJ13_numberOfTrailingZeros_1 6 rfl rfl)
theorem dJ13_numberOfTrailingZeros_30 : decode cJ13_numberOfTrailingZeros 30 = .ok (.bipush 16, 2) := dk_16 16 (dk_at dksJ13_numberOfTrailingZeros_1 7 rfl rfl)
theorem dJ13_numberOfTrailingZeros_32 : decode cJ13_numberOfTrailingZeros 32 = .ok (.iushr, 1) := dk_124 (dk_at dksJ13_numberOfTrailingZeros_1 9 rfl rfl)
theorem dJ13_numberOfTrailingZeros_33 : decode cJ13_numberOfTrailingZeros 33 = .ok (.istore_n 0, 1) := dk_59 (dk_at dksJ13_numberOfTrailingZeros_1 10 rfl rfl)
theorem dJ13_numberOfTrailingZeros_34 : decode cJ13_numberOfTrailingZeros 34 = .ok (.iload_n 0, 1) := dk_26 (dk_at dksJ13_numberOfTrailingZeros_1 11 rfl rfl)
theorem dJ13_numberOfTrailingZeros_35 : decode cJ13_numberOfTrailingZeros 35 = .ok (.sipush 256, 3) := dk_17 1 0 (dk_at dksJ13_numberOfTrailingZeros_1 12 rfl rfl)
theorem dJ13_numberOfTrailingZeros_38 : decode cJ13_numberOfTrailingZeros 38 = .ok (.if_icmp .le 11, 3) := dk_164 0 11 (dk_at dksJ13_numberOfTrailingZeros_1 15 rfl rfl)
theorem dJ13_numberOfTrailingZeros_41 : decode cJ13_numberOfTrailingZeros 41 = .ok (.iinc 1 8, 3) := dk_132 1 8 (dk_at dksJ13_numberOfTrailingZeros_1 18 rfl rfl)
theorem dJ13_numberOfTrailingZeros_44 : decode cJ13_numberOfTrailingZeros 44 = .ok (.iload_n 0, 1) := dk_26 (dk_at dksJ13_numberOfTrailingZeros_1 21 rfl rfl)
theorem dJ13_numberOfTrailingZeros_45 : decode cJ13_numberOfTrailingZeros 45 = .ok (.bipush 8, 2) := dk_16 8 (dk_at dksJ13_numberOfTrailingZeros_1 22 rfl rfl)
theorem dJ13_numberOfTrailingZeros_47 : decode cJ13_numberOfTrailingZeros 47 = .ok (.iushr, 1) := dk_124 (dk_at dksJ13_numberOfTrailingZeros_2 0 rfl rfl)
theorem dJ13_numberOfTrailingZeros_48 : decode cJ13_numberOfTrailingZeros 48 = .ok (.istore_n 0, 1) := dk_59 (dk_at dksJ13_numberOfTrailingZeros_2 1 rfl rfl)
theorem dJ13_numberOfTrailingZeros_49 : decode cJ13_numberOfTrailingZeros 49 = .ok (.iload_n 0, 1) := dk_26 (dk_at dksJ13_numberOfTrailingZeros_2 2 rfl rfl)
theorem dJ13_numberOfTrailingZeros_50 : decode cJ13_numberOfTrailingZeros 50 = .ok (.bipush 16, 2) := dk_16 16 (dk_at dksJ13_numberOfTrailingZeros_2 3 rfl rfl)
theorem dJ13_numberOfTrailingZeros_52 : decode cJ13_numberOfTrailingZeros 52 = .ok (.if_icmp .le 10, 3) := dk_164 0 10 (dk_at dksJ13_numberOfTrailingZeros_2 5 rfl rfl)
theorem dJ13_numberOfTrailingZeros_55 : decode cJ13_numberOfTrailingZeros 55 = .ok (.iinc 1 4, 3) := dk_132 1 4 (dk_at dksJ13_numberOfTrailingZeros_2 8 rfl rfl)
theorem dJ13_numberOfTrailingZeros_58 : decode cJ13_numberOfTrailingZeros 58 = .ok (.iload_n 0, 1) := dk_26 (dk_at dksJ13_numberOfTrailingZeros_2 11 rfl rfl)
theorem dJ13_numberOfTrailingZeros_59 : decode cJ13_numberOfTrailingZeros 59 = .ok (.iconst 4, 1) := dk_7 (dk_at dksJ13_numberOfTrailingZeros_2 12 rfl rfl)
theorem dJ13_numberOfTrailingZeros_60 : decode cJ13_numberOfTrailingZeros 60 = .ok (.iushr, 1) := dk_124 (dk_at dksJ13_numberOfTrailingZeros_2 13 rfl rfl)
theorem dJ13_numberOfTrailingZeros_61 : decode cJ13_numberOfTrailingZeros 61 = .ok (.istore_n 0, 1) := dk_59 (dk_at dksJ13_numberOfTrailingZeros_2 14 rfl rfl)
theorem dJ13_numberOfTrailingZeros_62 : decode cJ13_numberOfTrailingZeros 62 = .ok (.iload_n 0, 1) := dk_26 (dk_at dksJ13_numberOfTrailingZeros_2 15 rfl rfl)
theorem dJ13_numberOfTrailingZeros_63 : decode cJ13_numberOfTrailingZeros 63 = .ok (.iconst 4, 1) := dk_7 (dk_at dksJ13_numberOfTrailingZeros_2 16 rfl rfl)
theorem dJ13_numberOfTrailingZeros_64 : decode cJ13_numberOfTrailingZeros 64 = .ok (.if_icmp .le 10, 3) := dk_164 0 10 (dk_at dksJ13_numberOfTrailingZeros_2 17 rfl rfl)
theorem dJ13_numberOfTrailingZeros_67 : decode cJ13_numberOfTrailingZeros 67 = .ok (.iinc 1 2, 3) := dk_132 1 2 (dk_at dksJ13_numberOfTrailingZeros_2 20 rfl rfl)
theorem dJ13_numberOfTrailingZeros_70 : decode cJ13_numberOfTrailingZeros 70 = .ok (.iload_n 0, 1) := dk_26 (dk_at dksJ13_numberOfTrailingZeros_2 23 rfl rfl)
theorem dJ13_numberOfTrailingZeros_71 : decode cJ13_numberOfTrailingZeros 71 = .ok (.iconst 2, 1) := dk_5 (dk_at dksJ13_numberOfTrailingZeros_3 0 rfl rfl)
theorem dJ13_numberOfTrailingZeros_72 : decode cJ13_numberOfTrailingZeros 72 = .ok (.iushr, 1) := dk_124 (dk_at dksJ13_numberOfTrailingZeros_3 1 rfl rfl)
theorem dJ13_numberOfTrailingZeros_73 : decode cJ13_numberOfTrailingZeros 73 = .ok (.istore_n 0, 1) := dk_59 (dk_at dksJ13_numberOfTrailingZeros_3 2 rfl rfl)
theorem dJ13_numberOfTrailingZeros_74 : decode cJ13_numberOfTrailingZeros 74 = .ok (.iload_n 1, 1) := dk_27 (dk_at dksJ13_numberOfTrailingZeros_3 3 rfl rfl)
theorem dJ13_numberOfTrailingZeros_75 : decode cJ13_numberOfTrailingZeros 75 = .ok (.iload_n 0, 1) := dk_26 (dk_at dksJ13_numberOfTrailingZeros_3 4 rfl rfl)
theorem dJ13_numberOfTrailingZeros_76 : decode cJ13_numberOfTrailingZeros 76 = .ok (.iconst 1, 1) := dk_4 (dk_at dksJ13_numberOfTrailingZeros_3 5 rfl rfl)
theorem dJ13_numberOfTrailingZeros_77 : decode cJ13_numberOfTrailingZeros 77 = .ok (.iushr, 1) := dk_124 (dk_at dksJ13_numberOfTrailingZeros_3 6 rfl rfl)
theorem dJ13_numberOfTrailingZeros_78 : decode cJ13_numberOfTrailingZeros 78 = .ok (.iadd, 1) := dk_96 (dk_at dksJ13_numberOfTrailingZeros_3 7 rfl rfl)
theorem dJ13_numberOfTrailingZeros_79 : decode cJ13_numberOfTrailingZeros 79 = .ok (.ireturn, 1) := dk_172 (dk_at dksJ13_numberOfTrailingZeros_3 8 rfl rfl)
abbrev cJ13_bitCount : ByteArray := prog_26_method_49_code
def yJ13_bitCount : MethodName := ⟨RJ13, "bitCount", "(I)I"⟩
def dkwJ13_bitCount_2 : List UInt8 := [26, 16, 63, 126, 172]
abbrev dktJ13_bitCount_2 : List UInt8 := dkwJ13_bitCount_2 ++ []
def dkwJ13_bitCount_1 : List UInt8 := [26, 26, 7, 124, 96, 19, 1, 11, 126, 59, 26, 26, 16, 8, 124, 96, 59, 26, 26, 16, 16, 124, 96, 59]
abbrev dktJ13_bitCount_1 : List UInt8 := dkwJ13_bitCount_1 ++ dktJ13_bitCount_2
def dkwJ13_bitCount_0 : List UInt8 := [26, 26, 4, 124, 19, 1, 9, 126, 100, 59, 26, 19, 1, 10, 126, 26, 5, 124, 19, 1, 10, 126, 96, 59]
abbrev dktJ13_bitCount_0 : List UInt8 := dkwJ13_bitCount_0 ++ dktJ13_bitCount_1
theorem dksJ13_bitCount_0 : cJ13_bitCount.data.toList.drop 0 = dktJ13_bitCount_0 := by decide +kernel
theorem dksJ13_bitCount_1 : cJ13_bitCount.data.toList.drop 24 = dktJ13_bitCount_1 := dk_seg dksJ13_bitCount_0 24 rfl rfl
theorem dksJ13_bitCount_2 : cJ13_bitCount.data.toList.drop 48 = dktJ13_bitCount_2 := dk_seg dksJ13_bitCount_1 24 rfl rfl
theorem dJ13_bitCount_0 : decode cJ13_bitCount 0 = .ok (.iload_n 0, 1) := dk_26 (dk_at dksJ13_bitCount_0 0 rfl rfl)
theorem dJ13_bitCount_1 : decode cJ13_bitCount 1 = .ok (.iload_n 0, 1) := dk_26 (dk_at dksJ13_bitCount_0 1 rfl rfl)
theorem dJ13_bitCount_2 : decode cJ13_bitCount 2 = .ok (.iconst 1, 1) := dk_4 (dk_at dksJ13_bitCount_0 2 rfl rfl)
theorem dJ13_bitCount_3 : decode cJ13_bitCount 3 = .ok (.iushr, 1) := dk_124 (dk_at dksJ13_bitCount_0 3 rfl rfl)
theorem dJ13_bitCount_4 : decode cJ13_bitCount 4 = .ok (.ldc_w 265, 3) := dk_19 1 9 (dk_at dksJ13_bitCount_0 4 rfl rfl)
theorem dJ13_bitCount_7 : decode cJ13_bitCount 7 = .ok (.iand, 1) := dk_126 (dk_at dksJ13_bitCount_0 7 rfl rfl)
theorem dJ13_bitCount_8 : decode cJ13_bitCount 8 = .ok (.isub, 1) := dk_100 (dk_at dksJ13_bitCount_0 8 rfl rfl)
theorem dJ13_bitCount_9 : decode cJ13_bitCount 9 = .ok (.istore_n 0, 1) := dk_59 (dk_at dksJ13_bitCount_0 9 rfl rfl)
theorem dJ13_bitCount_10 : decode cJ13_bitCount 10 = .ok (.iload_n 0, 1) := dk_26 (dk_at dksJ13_bitCount_0 10 rfl rfl)
theorem dJ13_bitCount_11 : decode cJ13_bitCount 11 = .ok (.ldc_w 266, 3) := dk_19 1 10 (dk_at dksJ13_bitCount_0 11 rfl rfl)
theorem dJ13_bitCount_14 : decode cJ13_bitCount 14 = .ok (.iand, 1) := dk_126 (dk_at dksJ13_bitCount_0 14 rfl rfl)
theorem dJ13_bitCount_15 : decode cJ13_bitCount 15 = .ok (.iload_n 0, 1) := dk_26 (dk_at dksJ13_bitCount_0 15 rfl rfl)
theorem dJ13_bitCount_16 : decode cJ13_bitCount 16 = .ok (.iconst 2, 1) := dk_5 (dk_at dksJ13_bitCount_0 16 rfl rfl)
theorem dJ13_bitCount_17 : decode cJ13_bitCount 17 = .ok (.iushr, 1) := dk_124 (dk_at dksJ13_bitCount_0 17 rfl rfl)
theorem dJ13_bitCount_18 : decode cJ13_bitCount 18 = .ok (.ldc_w 266, 3) := dk_19 1 10 (dk_at dksJ13_bitCount_0 18 rfl rfl)
theorem dJ13_bitCount_21 : decode cJ13_bitCount 21 = .ok (.iand, 1) := dk_126 (dk_at dksJ13_bitCount_0 21 rfl rfl)
theorem dJ13_bitCount_22 : decode cJ13_bitCount 22 = .ok (.iadd, 1) := dk_96 (dk_at dksJ13_bitCount_0 22 rfl rfl)
theorem dJ13_bitCount_23 : decode cJ13_bitCount 23 = .ok (.istore_n 0, 1) := dk_59 (dk_at dksJ13_bitCount_0 23 rfl rfl)
theorem dJ13_bitCount_24 : decode cJ13_bitCount 24 = .ok (.iload_n 0, 1) := dk_26 (dk_at dksJ13_bitCount_1 0 rfl rfl)
theorem dJ13_bitCount_25 : decode cJ13_bitCount 25 = .ok (.iload_n 0, 1) := dk_26 (dk_at dksJ13_bitCount_1 1 rfl rfl)
theorem dJ13_bitCount_26 : decode cJ13_bitCount 26 = .ok (.iconst 4, 1) := dk_7 (dk_at dksJ13_bitCount_1 2 rfl rfl)
theorem dJ13_bitCount_27 : decode cJ13_bitCount 27 = .ok (.iushr, 1) := dk_124 (dk_at dksJ13_bitCount_1 3 rfl rfl)
theorem dJ13_bitCount_28 : decode cJ13_bitCount 28 = .ok (.iadd, 1) := dk_96 (dk_at dksJ13_bitCount_1 4 rfl rfl)
theorem dJ13_bitCount_29 : decode cJ13_bitCount 29 = .ok (.ldc_w 267, 3) := dk_19 1 11 (dk_at dksJ13_bitCount_1 5 rfl rfl)
theorem dJ13_bitCount_32 : decode cJ13_bitCount 32 = .ok (.iand, 1) := dk_126 (dk_at dksJ13_bitCount_1 8 rfl rfl)
theorem dJ13_bitCount_33 : decode cJ13_bitCount 33 = .ok (.istore_n 0, 1) := dk_59 (dk_at dksJ13_bitCount_1 9 rfl rfl)
theorem dJ13_bitCount_34 : decode cJ13_bitCount 34 = .ok (.iload_n 0, 1) := dk_26 (dk_at dksJ13_bitCount_1 10 rfl rfl)
theorem dJ13_bitCount_35 : decode cJ13_bitCount 35 = .ok (.iload_n 0, 1) := dk_26 (dk_at dksJ13_bitCount_1 11 rfl rfl)
theorem dJ13_bitCount_36 : decode cJ13_bitCount 36 = .ok (.bipush 8, 2) := dk_16 8 (dk_at dksJ13_bitCount_1 12 rfl rfl)
theorem dJ13_bitCount_38 : decode cJ13_bitCount 38 = .ok (.iushr, 1) := dk_124 (dk_at dksJ13_bitCount_1 14 rfl rfl)
theorem dJ13_bitCount_39 : decode cJ13_bitCount 39 = .ok (.iadd, 1) := dk_96 (dk_at dksJ13_bitCount_1 15 rfl rfl)
theorem dJ13_bitCount_40 : decode cJ13_bitCount 40 = .ok (.istore_n 0, 1) := dk_59 (dk_at dksJ13_bitCount_1 16 rfl rfl)
theorem dJ13_bitCount_41 : decode cJ13_bitCount 41 = .ok (.iload_n 0, 1) := dk_26 (dk_at dksJ13_bitCount_1 17 rfl rfl)
theorem dJ13_bitCount_42 : decode cJ13_bitCount 42 = .ok (.iload_n 0, 1) := dk_26 (dk_at dksJ13_bitCount_1 18 rfl rfl)
theorem dJ13_bitCount_43 : decode cJ13_bitCount 43 = .ok (.bipush 16, 2) := dk_16 16 (dk_at dksJ13_bitCount_1 19 rfl rfl)
theorem dJ13_bitCount_45 : decode cJ13_bitCount 45 = .ok (.iushr, 1) := dk_124 (dk_at dksJ13_bitCount_1 21 rfl rfl)
theorem dJ13_bitCount_46 : decode cJ13_bitCount 46 = .ok (.iadd, 1) := dk_96 (dk_at dksJ13_bitCount_1 22 rfl rfl)
theorem dJ13_bitCount_47 : decode cJ13_bitCount 47 = .ok (.istore_n 0, 1) := dk_59 (dk_at dksJ13_bitCount_1 23 rfl rfl)
theorem dJ13_bitCount_48 : decode cJ13_bitCount 48 = .ok (.iload_n 0, 1) := dk_26 (dk_at dksJ13_bitCount_2 0 rfl rfl)
theorem dJ13_bitCount_49 : decode cJ13_bitCount 49 = .ok (.bipush 63, 2) := dk_16 63 (dk_at dksJ13_bitCount_2 1 rfl rfl)
theorem dJ13_bitCount_51 : decode cJ13_bitCount 51 = .ok (.iand, 1) := dk_126 (dk_at dksJ13_bitCount_2 3 rfl rfl)
theorem dJ13_bitCount_52 : decode cJ13_bitCount 52 = .ok (.ireturn, 1) := dk_172 (dk_at dksJ13_bitCount_2 4 rfl rfl)

theorem q178 : (Jvm.Cond.initialized "java/lang/Integer") ∈ lw_all := lw_g (lw_at lw_m1 35 rfl) rfl
theorem q1345 : (Jvm.Cond.static ({ cls := "java/lang/Integer", name := "numberOfTrailingZeros", desc := "(I)I" } : Jvm.MethodName)) ∈ lw_all := lw_g (lw_at lw_m6 2 rfl) rfl
theorem q1346 : (Jvm.Cond.code ({ cls := "java/lang/Integer", name := "numberOfTrailingZeros", desc := "(I)I" } : Jvm.MethodName) prog_26_method_48_code (2 : Nat) (Option.some Jvm.ClassFile.FieldType.int)) ∈ lw_all := lw_g (lw_at lw_m6 3 rfl) rfl
theorem q1347 : (Jvm.Cond.constant "java/lang/Integer" (264 : Nat) (65536 : Int32)) ∈ lw_all := lw_g (lw_at lw_m6 4 rfl) rfl
theorem q1369 : (Jvm.Cond.static ({ cls := "java/lang/Integer", name := "bitCount", desc := "(I)I" } : Jvm.MethodName)) ∈ lw_all := lw_g (lw_at lw_m6 26 rfl) rfl
theorem q1370 : (Jvm.Cond.code ({ cls := "java/lang/Integer", name := "bitCount", desc := "(I)I" } : Jvm.MethodName) prog_26_method_49_code (1 : Nat) (Option.some Jvm.ClassFile.FieldType.int)) ∈ lw_all := lw_g (lw_at lw_m6 27 rfl) rfl
theorem q1371 : (Jvm.Cond.constant "java/lang/Integer" (265 : Nat) (1431655765 : Int32)) ∈ lw_all := lw_g (lw_at lw_m6 28 rfl) rfl
theorem q1372 : (Jvm.Cond.constant "java/lang/Integer" (266 : Nat) (858993459 : Int32)) ∈ lw_all := lw_g (lw_at lw_m6 29 rfl) rfl
theorem q1373 : (Jvm.Cond.constant "java/lang/Integer" (267 : Nat) (252645135 : Int32)) ∈ lw_all := lw_g (lw_at lw_m6 30 rfl) rfl
abbrev cJ14_init : ByteArray := object_method_1_code
def yJ14_init : MethodName := ⟨RJ14, "<init>", "()V"⟩
theorem dJ14_init_0 : decode cJ14_init 0 = .ok (.return_, 1) := by decide +kernel

theorem q185 : (Jvm.Cond.instanceMethod ({ cls := "java/lang/Object", name := "<init>", desc := "()V" } : Jvm.MethodName)) ∈ lw_all := lw_g (lw_at lw_m1 42 rfl) rfl
theorem q186 : (Jvm.Cond.code ({ cls := "java/lang/Object", name := "<init>", desc := "()V" } : Jvm.MethodName) object_method_1_code (1 : Nat) (Option.none : Option Jvm.ClassFile.FieldType)) ∈ lw_all := lw_g (lw_at lw_m1 43 rfl) rfl
theorem q877 : (Jvm.Cond.instanceMethod ({ cls := "java/lang/Object", name := "getClass", desc := "()Ljava/lang/Class;" } : Jvm.MethodName)) ∈ lw_all := lw_g (lw_at lw_m4 14 rfl) rfl
theorem q878 : (Jvm.Cond.sameMethod "java/lang/Object" "java/lang/Object" "getClass" "()Ljava/lang/Class;") ∈ lw_all := lw_g (lw_at lw_m4 15 rfl) rfl
theorem q898 : (Jvm.Cond.native ({ cls := "java/lang/Object", name := "getClass", desc := "()Ljava/lang/Class;" } : Jvm.MethodName)) ∈ lw_all := lw_g (lw_at lw_m4 35 rfl) rfl
theorem q2235 : (Jvm.Cond.declares ({ cls := "java/lang/Object", name := "getClass", desc := "()Ljava/lang/Class;" } : Jvm.MethodName)) ∈ lw_tbl := lw_at lw_m9 172 rfl
theorem q143 : (Jvm.Cond.initialized "ClaspedFairLaw") ∈ lw_all := lw_g (lw_at lw_m1 0 rfl) rfl
theorem q179 : (Jvm.Cond.classLink "ClaspedFairLaw" (7 : Nat) "ClaspedFair") ∈ lw_all := lw_g (lw_at lw_m1 36 rfl) rfl
theorem q181 : (Jvm.Cond.methodLink "ClaspedFairLaw" (9 : Nat) ({ cls := "ClaspedFair", name := "<init>", desc := "()V" } : Jvm.MethodName)) ∈ lw_all := lw_g (lw_at lw_m1 38 rfl) rfl
theorem q490 : (Jvm.Cond.methodLink "ClaspedFairLaw" (51 : Nat) ({ cls := "ClaspedFair", name := "feed", desc := "(IIIII)I" } : Jvm.MethodName)) ∈ lw_all := lw_g (lw_at lw_m2 107 rfl) rfl
theorem q498 : (Jvm.Cond.methodLink "ClaspedFairLaw" (56 : Nat) ({ cls := "ClaspedFair", name := "end", desc := "(I)Z" } : Jvm.MethodName)) ∈ lw_all := lw_g (lw_at lw_m2 115 rfl) rfl
theorem q505 : (Jvm.Cond.methodLink "ClaspedFairLaw" (61 : Nat) ({ cls := "ClaspedFair", name := "text", desc := "(I)I" } : Jvm.MethodName)) ∈ lw_all := lw_g (lw_at lw_m2 122 rfl) rfl
theorem q1015 : (Jvm.Cond.methodLink "ClaspedFairLaw" (65 : Nat) ({ cls := "ClaspedFair", name := "fault", desc := "(I)I" } : Jvm.MethodName)) ∈ lw_all := lw_g (lw_at lw_m4 152 rfl) rfl
theorem q1019 : (Jvm.Cond.methodLink "ClaspedFairLaw" (174 : Nat) ({ cls := "ClaspedFair", name := "undo", desc := "()Z" } : Jvm.MethodName)) ∈ lw_all := lw_g (lw_at lw_m4 156 rfl) rfl
theorem q1039 : (Jvm.Cond.methodLink "ClaspedFairLaw" (13 : Nat) ({ cls := "ClaspedFair", name := "state", desc := "(I)I" } : Jvm.MethodName)) ∈ lw_all := lw_g (lw_at lw_m4 176 rfl) rfl
theorem q1043 : (Jvm.Cond.methodLink "ClaspedFairLaw" (18 : Nat) ({ cls := "ClaspedFair", name := "person", desc := "(II)I" } : Jvm.MethodName)) ∈ lw_all := lw_g (lw_at lw_m4 180 rfl) rfl
theorem q1055 : (Jvm.Cond.methodLink "ClaspedFairLaw" (23 : Nat) ({ cls := "ClaspedFair", name := "horse", desc := "(III)I" } : Jvm.MethodName)) ∈ lw_all := lw_g (lw_at lw_m4 192 rfl) rfl
theorem q1064 : (Jvm.Cond.methodLink "ClaspedFairLaw" (28 : Nat) ({ cls := "ClaspedFair", name := "set", desc := "(III)Z" } : Jvm.MethodName)) ∈ lw_all := lw_g (lw_at lw_m4 201 rfl) rfl
theorem q1076 : (Jvm.Cond.methodLink "ClaspedFairLaw" (33 : Nat) ({ cls := "ClaspedFair", name := "buys", desc := "(IIII)I" } : Jvm.MethodName)) ∈ lw_all := lw_g (lw_at lw_m4 213 rfl) rfl
theorem q1197 : (Jvm.Cond.methodLink "ClaspedFairLaw" (38 : Nat) ({ cls := "ClaspedFair", name := "clasp", desc := "(III)I" } : Jvm.MethodName)) ∈ lw_all := lw_g (lw_at lw_m5 94 rfl) rfl
theorem q1209 : (Jvm.Cond.methodLink "ClaspedFairLaw" (42 : Nat) ({ cls := "ClaspedFair", name := "hand", desc := "(II)Z" } : Jvm.MethodName)) ∈ lw_all := lw_g (lw_at lw_m5 106 rfl) rfl
theorem q1213 : (Jvm.Cond.methodLink "ClaspedFairLaw" (47 : Nat) ({ cls := "ClaspedFair", name := "days", desc := "(I)I" } : Jvm.MethodName)) ∈ lw_all := lw_g (lw_at lw_m5 110 rfl) rfl
theorem q1253 : (Jvm.Cond.methodLink "ClaspedFairLaw" (69 : Nat) ({ cls := "ClaspedFair", name := "of", desc := "(II)I" } : Jvm.MethodName)) ∈ lw_all := lw_g (lw_at lw_m5 150 rfl) rfl
theorem q1257 : (Jvm.Cond.methodLink "ClaspedFairLaw" (73 : Nat) ({ cls := "ClaspedFair", name := "horseOf", desc := "(II)I" } : Jvm.MethodName)) ∈ lw_all := lw_g (lw_at lw_m5 154 rfl) rfl
theorem q1261 : (Jvm.Cond.methodLink "ClaspedFairLaw" (77 : Nat) ({ cls := "ClaspedFair", name := "passes", desc := "(IIII)I" } : Jvm.MethodName)) ∈ lw_all := lw_g (lw_at lw_m5 158 rfl) rfl
theorem q1271 : (Jvm.Cond.methodLink "ClaspedFairLaw" (81 : Nat) ({ cls := "ClaspedFair", name := "holds", desc := "(III)I" } : Jvm.MethodName)) ∈ lw_all := lw_g (lw_at lw_m5 168 rfl) rfl
theorem q1276 : (Jvm.Cond.methodLink "ClaspedFairLaw" (85 : Nat) ({ cls := "ClaspedFair", name := "asks", desc := "(III)I" } : Jvm.MethodName)) ∈ lw_all := lw_g (lw_at lw_m5 173 rfl) rfl
theorem q1281 : (Jvm.Cond.methodLink "ClaspedFairLaw" (89 : Nat) ({ cls := "ClaspedFair", name := "book", desc := "(II)I" } : Jvm.MethodName)) ∈ lw_all := lw_g (lw_at lw_m5 178 rfl) rfl
theorem q1285 : (Jvm.Cond.methodLink "ClaspedFairLaw" (93 : Nat) ({ cls := "ClaspedFair", name := "goes", desc := "(II)I" } : Jvm.MethodName)) ∈ lw_all := lw_g (lw_at lw_m5 182 rfl) rfl
theorem q1294 : (Jvm.Cond.methodLink "ClaspedFairLaw" (97 : Nat) ({ cls := "ClaspedFair", name := "would", desc := "(IIII)I" } : Jvm.MethodName)) ∈ lw_all := lw_g (lw_at lw_m5 191 rfl) rfl
theorem q1298 : (Jvm.Cond.methodLink "ClaspedFairLaw" (101 : Nat) ({ cls := "ClaspedFair", name := "told", desc := "(II)I" } : Jvm.MethodName)) ∈ lw_all := lw_g (lw_at lw_m5 195 rfl) rfl
theorem q1310 : (Jvm.Cond.methodLink "ClaspedFairLaw" (105 : Nat) ({ cls := "ClaspedFair", name := "came", desc := "(II)I" } : Jvm.MethodName)) ∈ lw_all := lw_g (lw_at lw_m5 207 rfl) rfl
theorem q1318 : (Jvm.Cond.methodLink "ClaspedFairLaw" (109 : Nat) ({ cls := "ClaspedFair", name := "number", desc := "(I)I" } : Jvm.MethodName)) ∈ lw_all := lw_g (lw_at lw_m5 215 rfl) rfl
theorem q1322 : (Jvm.Cond.methodLink "ClaspedFairLaw" (113 : Nat) ({ cls := "ClaspedFair", name := "could", desc := "()I" } : Jvm.MethodName)) ∈ lw_all := lw_g (lw_at lw_m5 219 rfl) rfl
theorem q1331 : (Jvm.Cond.methodLink "ClaspedFairLaw" (118 : Nat) ({ cls := "ClaspedFair", name := "ring", desc := "(I)I" } : Jvm.MethodName)) ∈ lw_all := lw_g (lw_at lw_m5 228 rfl) rfl
theorem q1336 : (Jvm.Cond.methodLink "ClaspedFairLaw" (122 : Nat) ({ cls := "ClaspedFair", name := "pairs", desc := "(I)I" } : Jvm.MethodName)) ∈ lw_all := lw_g (lw_at lw_m5 233 rfl) rfl
theorem q1352 : (Jvm.Cond.methodLink "ClaspedFairLaw" (126 : Nat) ({ cls := "ClaspedFair", name := "walk", desc := "(I)I" } : Jvm.MethodName)) ∈ lw_all := lw_g (lw_at lw_m6 9 rfl) rfl
theorem q1374 : (Jvm.Cond.methodLink "ClaspedFairLaw" (142 : Nat) ({ cls := "ClaspedFair", name := "cold", desc := "(II)I" } : Jvm.MethodName)) ∈ lw_all := lw_g (lw_at lw_m6 31 rfl) rfl
theorem q1378 : (Jvm.Cond.methodLink "ClaspedFairLaw" (130 : Nat) ({ cls := "ClaspedFair", name := "prices", desc := "(III)I" } : Jvm.MethodName)) ∈ lw_all := lw_g (lw_at lw_m6 35 rfl) rfl
theorem q1385 : (Jvm.Cond.methodLink "ClaspedFairLaw" (134 : Nat) ({ cls := "ClaspedFair", name := "weight", desc := "(I)I" } : Jvm.MethodName)) ∈ lw_all := lw_g (lw_at lw_m6 42 rfl) rfl
theorem q1389 : (Jvm.Cond.methodLink "ClaspedFairLaw" (138 : Nat) ({ cls := "ClaspedFair", name := "balance", desc := "(II)I" } : Jvm.MethodName)) ∈ lw_all := lw_g (lw_at lw_m6 46 rfl) rfl
theorem q1397 : (Jvm.Cond.methodLink "ClaspedFairLaw" (146 : Nat) ({ cls := "ClaspedFair", name := "alike", desc := "(II)I" } : Jvm.MethodName)) ∈ lw_all := lw_g (lw_at lw_m6 54 rfl) rfl
theorem q1408 : (Jvm.Cond.methodLink "ClaspedFairLaw" (158 : Nat) ({ cls := "ClaspedFair", name := "left", desc := "(II)I" } : Jvm.MethodName)) ∈ lw_all := lw_g (lw_at lw_m6 65 rfl) rfl
theorem q1420 : (Jvm.Cond.methodLink "ClaspedFairLaw" (150 : Nat) ({ cls := "ClaspedFair", name := "herd", desc := "(I)I" } : Jvm.MethodName)) ∈ lw_all := lw_g (lw_at lw_m6 77 rfl) rfl
theorem q1424 : (Jvm.Cond.methodLink "ClaspedFairLaw" (154 : Nat) ({ cls := "ClaspedFair", name := "pens", desc := "(II)I" } : Jvm.MethodName)) ∈ lw_all := lw_g (lw_at lw_m6 81 rfl) rfl
theorem q1433 : (Jvm.Cond.methodLink "ClaspedFairLaw" (162 : Nat) ({ cls := "ClaspedFair", name := "signs", desc := "(I)I" } : Jvm.MethodName)) ∈ lw_all := lw_g (lw_at lw_m6 90 rfl) rfl
theorem q1437 : (Jvm.Cond.methodLink "ClaspedFairLaw" (166 : Nat) ({ cls := "ClaspedFair", name := "row", desc := "(I)I" } : Jvm.MethodName)) ∈ lw_all := lw_g (lw_at lw_m6 94 rfl) rfl
theorem q1441 : (Jvm.Cond.methodLink "ClaspedFairLaw" (170 : Nat) ({ cls := "ClaspedFair", name := "game", desc := "(I)I" } : Jvm.MethodName)) ∈ lw_all := lw_g (lw_at lw_m6 98 rfl) rfl
theorem q1449 : (Jvm.Cond.methodLink "ClaspedFairLaw" (179 : Nat) ({ cls := "ClaspedFair", name := "image", desc := "(Z)Z" } : Jvm.MethodName)) ∈ lw_all := lw_g (lw_at lw_m6 106 rfl) rfl
theorem q1462 : (Jvm.Cond.methodLink "ClaspedFairLaw" (184 : Nat) ({ cls := "ClaspedFair", name := "look", desc := "(I)I" } : Jvm.MethodName)) ∈ lw_all := lw_g (lw_at lw_m6 119 rfl) rfl
theorem q1466 : (Jvm.Cond.classLink "ClaspedFairLaw" (10 : Nat) "ClaspedFairModel") ∈ lw_all := lw_g (lw_at lw_m6 123 rfl) rfl
theorem q1468 : (Jvm.Cond.methodLink "ClaspedFairLaw" (12 : Nat) ({ cls := "ClaspedFairModel", name := "<init>", desc := "()V" } : Jvm.MethodName)) ∈ lw_all := lw_g (lw_at lw_m6 125 rfl) rfl
theorem q1680 : (Jvm.Cond.methodLink "ClaspedFairLaw" (178 : Nat) ({ cls := "ClaspedFairModel", name := "undo", desc := "()Z" } : Jvm.MethodName)) ∈ lw_all := lw_g (lw_at lw_m7 97 rfl) rfl
theorem q1684 : (Jvm.Cond.methodLink "ClaspedFairLaw" (17 : Nat) ({ cls := "ClaspedFairModel", name := "state", desc := "(I)I" } : Jvm.MethodName)) ∈ lw_all := lw_g (lw_at lw_m7 101 rfl) rfl
theorem q1688 : (Jvm.Cond.methodLink "ClaspedFairLaw" (22 : Nat) ({ cls := "ClaspedFairModel", name := "person", desc := "(II)I" } : Jvm.MethodName)) ∈ lw_all := lw_g (lw_at lw_m7 105 rfl) rfl
theorem q1704 : (Jvm.Cond.methodLink "ClaspedFairLaw" (27 : Nat) ({ cls := "ClaspedFairModel", name := "horse", desc := "(III)I" } : Jvm.MethodName)) ∈ lw_all := lw_g (lw_at lw_m7 121 rfl) rfl
theorem q1712 : (Jvm.Cond.methodLink "ClaspedFairLaw" (32 : Nat) ({ cls := "ClaspedFairModel", name := "set", desc := "(III)Z" } : Jvm.MethodName)) ∈ lw_all := lw_g (lw_at lw_m7 129 rfl) rfl
theorem q1724 : (Jvm.Cond.methodLink "ClaspedFairLaw" (55 : Nat) ({ cls := "ClaspedFairModel", name := "feed", desc := "(IIIII)I" } : Jvm.MethodName)) ∈ lw_all := lw_g (lw_at lw_m7 141 rfl) rfl
theorem q1732 : (Jvm.Cond.methodLink "ClaspedFairLaw" (60 : Nat) ({ cls := "ClaspedFairModel", name := "end", desc := "(I)Z" } : Jvm.MethodName)) ∈ lw_all := lw_g (lw_at lw_m7 149 rfl) rfl
theorem q1736 : (Jvm.Cond.methodLink "ClaspedFairLaw" (64 : Nat) ({ cls := "ClaspedFairModel", name := "text", desc := "(I)I" } : Jvm.MethodName)) ∈ lw_all := lw_g (lw_at lw_m7 153 rfl) rfl
theorem q1868 : (Jvm.Cond.methodLink "ClaspedFairLaw" (68 : Nat) ({ cls := "ClaspedFairModel", name := "fault", desc := "(I)I" } : Jvm.MethodName)) ∈ lw_all := lw_g (lw_at lw_m8 45 rfl) rfl
theorem q1872 : (Jvm.Cond.methodLink "ClaspedFairLaw" (37 : Nat) ({ cls := "ClaspedFairModel", name := "buys", desc := "(IIII)I" } : Jvm.MethodName)) ∈ lw_all := lw_g (lw_at lw_m8 49 rfl) rfl
theorem q1974 : (Jvm.Cond.methodLink "ClaspedFairLaw" (41 : Nat) ({ cls := "ClaspedFairModel", name := "clasp", desc := "(III)I" } : Jvm.MethodName)) ∈ lw_all := lw_g (lw_at lw_m8 151 rfl) rfl
theorem q1978 : (Jvm.Cond.methodLink "ClaspedFairLaw" (46 : Nat) ({ cls := "ClaspedFairModel", name := "hand", desc := "(II)Z" } : Jvm.MethodName)) ∈ lw_all := lw_g (lw_at lw_m8 155 rfl) rfl
theorem q1982 : (Jvm.Cond.methodLink "ClaspedFairLaw" (50 : Nat) ({ cls := "ClaspedFairModel", name := "days", desc := "(I)I" } : Jvm.MethodName)) ∈ lw_all := lw_g (lw_at lw_m8 159 rfl) rfl
theorem q1994 : (Jvm.Cond.methodLink "ClaspedFairLaw" (72 : Nat) ({ cls := "ClaspedFairModel", name := "of", desc := "(II)I" } : Jvm.MethodName)) ∈ lw_all := lw_g (lw_at lw_m8 171 rfl) rfl
theorem q1998 : (Jvm.Cond.methodLink "ClaspedFairLaw" (76 : Nat) ({ cls := "ClaspedFairModel", name := "horseOf", desc := "(II)I" } : Jvm.MethodName)) ∈ lw_all := lw_g (lw_at lw_m8 175 rfl) rfl
theorem q2002 : (Jvm.Cond.methodLink "ClaspedFairLaw" (80 : Nat) ({ cls := "ClaspedFairModel", name := "passes", desc := "(IIII)I" } : Jvm.MethodName)) ∈ lw_all := lw_g (lw_at lw_m8 179 rfl) rfl
theorem q2010 : (Jvm.Cond.methodLink "ClaspedFairLaw" (84 : Nat) ({ cls := "ClaspedFairModel", name := "holds", desc := "(III)I" } : Jvm.MethodName)) ∈ lw_all := lw_g (lw_at lw_m8 187 rfl) rfl
theorem q2014 : (Jvm.Cond.methodLink "ClaspedFairLaw" (88 : Nat) ({ cls := "ClaspedFairModel", name := "asks", desc := "(III)I" } : Jvm.MethodName)) ∈ lw_all := lw_g (lw_at lw_m8 191 rfl) rfl
theorem q2018 : (Jvm.Cond.methodLink "ClaspedFairLaw" (92 : Nat) ({ cls := "ClaspedFairModel", name := "book", desc := "(II)I" } : Jvm.MethodName)) ∈ lw_all := lw_g (lw_at lw_m8 195 rfl) rfl
theorem q2022 : (Jvm.Cond.methodLink "ClaspedFairLaw" (96 : Nat) ({ cls := "ClaspedFairModel", name := "goes", desc := "(II)I" } : Jvm.MethodName)) ∈ lw_all := lw_g (lw_at lw_m8 199 rfl) rfl
theorem q2038 : (Jvm.Cond.methodLink "ClaspedFairLaw" (100 : Nat) ({ cls := "ClaspedFairModel", name := "would", desc := "(IIII)I" } : Jvm.MethodName)) ∈ lw_all := lw_g (lw_at lw_m8 215 rfl) rfl
theorem q2042 : (Jvm.Cond.methodLink "ClaspedFairLaw" (104 : Nat) ({ cls := "ClaspedFairModel", name := "told", desc := "(II)I" } : Jvm.MethodName)) ∈ lw_all := lw_g (lw_at lw_m8 219 rfl) rfl
theorem q2046 : (Jvm.Cond.methodLink "ClaspedFairLaw" (108 : Nat) ({ cls := "ClaspedFairModel", name := "came", desc := "(II)I" } : Jvm.MethodName)) ∈ lw_all := lw_g (lw_at lw_m8 223 rfl) rfl
theorem q2058 : (Jvm.Cond.methodLink "ClaspedFairLaw" (112 : Nat) ({ cls := "ClaspedFairModel", name := "number", desc := "(I)I" } : Jvm.MethodName)) ∈ lw_all := lw_g (lw_at lw_m8 235 rfl) rfl
theorem q2062 : (Jvm.Cond.methodLink "ClaspedFairLaw" (117 : Nat) ({ cls := "ClaspedFairModel", name := "could", desc := "()I" } : Jvm.MethodName)) ∈ lw_all := lw_g (lw_at lw_m8 239 rfl) rfl
theorem q2070 : (Jvm.Cond.methodLink "ClaspedFairLaw" (121 : Nat) ({ cls := "ClaspedFairModel", name := "ring", desc := "(I)I" } : Jvm.MethodName)) ∈ lw_all := lw_g (lw_at lw_m9 7 rfl) rfl
theorem q2083 : (Jvm.Cond.methodLink "ClaspedFairLaw" (125 : Nat) ({ cls := "ClaspedFairModel", name := "pairs", desc := "(I)I" } : Jvm.MethodName)) ∈ lw_all := lw_g (lw_at lw_m9 20 rfl) rfl
theorem q2099 : (Jvm.Cond.methodLink "ClaspedFairLaw" (129 : Nat) ({ cls := "ClaspedFairModel", name := "walk", desc := "(I)I" } : Jvm.MethodName)) ∈ lw_all := lw_g (lw_at lw_m9 36 rfl) rfl
theorem q2111 : (Jvm.Cond.methodLink "ClaspedFairLaw" (133 : Nat) ({ cls := "ClaspedFairModel", name := "prices", desc := "(III)I" } : Jvm.MethodName)) ∈ lw_all := lw_g (lw_at lw_m9 48 rfl) rfl
theorem q2115 : (Jvm.Cond.methodLink "ClaspedFairLaw" (137 : Nat) ({ cls := "ClaspedFairModel", name := "weight", desc := "(I)I" } : Jvm.MethodName)) ∈ lw_all := lw_g (lw_at lw_m9 52 rfl) rfl
theorem q2119 : (Jvm.Cond.methodLink "ClaspedFairLaw" (141 : Nat) ({ cls := "ClaspedFairModel", name := "balance", desc := "(II)I" } : Jvm.MethodName)) ∈ lw_all := lw_g (lw_at lw_m9 56 rfl) rfl
theorem q2128 : (Jvm.Cond.methodLink "ClaspedFairLaw" (145 : Nat) ({ cls := "ClaspedFairModel", name := "cold", desc := "(II)I" } : Jvm.MethodName)) ∈ lw_all := lw_g (lw_at lw_m9 65 rfl) rfl
theorem q2136 : (Jvm.Cond.methodLink "ClaspedFairLaw" (149 : Nat) ({ cls := "ClaspedFairModel", name := "alike", desc := "(II)I" } : Jvm.MethodName)) ∈ lw_all := lw_g (lw_at lw_m9 73 rfl) rfl
theorem q2148 : (Jvm.Cond.methodLink "ClaspedFairLaw" (153 : Nat) ({ cls := "ClaspedFairModel", name := "herd", desc := "(I)I" } : Jvm.MethodName)) ∈ lw_all := lw_g (lw_at lw_m9 85 rfl) rfl
theorem q2152 : (Jvm.Cond.methodLink "ClaspedFairLaw" (157 : Nat) ({ cls := "ClaspedFairModel", name := "pens", desc := "(II)I" } : Jvm.MethodName)) ∈ lw_all := lw_g (lw_at lw_m9 89 rfl) rfl
theorem q2160 : (Jvm.Cond.methodLink "ClaspedFairLaw" (161 : Nat) ({ cls := "ClaspedFairModel", name := "left", desc := "(II)I" } : Jvm.MethodName)) ∈ lw_all := lw_g (lw_at lw_m9 97 rfl) rfl
theorem q2168 : (Jvm.Cond.methodLink "ClaspedFairLaw" (165 : Nat) ({ cls := "ClaspedFairModel", name := "signs", desc := "(I)I" } : Jvm.MethodName)) ∈ lw_all := lw_g (lw_at lw_m9 105 rfl) rfl
theorem q2172 : (Jvm.Cond.methodLink "ClaspedFairLaw" (169 : Nat) ({ cls := "ClaspedFairModel", name := "row", desc := "(I)I" } : Jvm.MethodName)) ∈ lw_all := lw_g (lw_at lw_m9 109 rfl) rfl
theorem q2176 : (Jvm.Cond.methodLink "ClaspedFairLaw" (173 : Nat) ({ cls := "ClaspedFairModel", name := "game", desc := "(I)I" } : Jvm.MethodName)) ∈ lw_all := lw_g (lw_at lw_m9 113 rfl) rfl
theorem q2184 : (Jvm.Cond.methodLink "ClaspedFairLaw" (183 : Nat) ({ cls := "ClaspedFairModel", name := "image", desc := "(Z)Z" } : Jvm.MethodName)) ∈ lw_all := lw_g (lw_at lw_m9 121 rfl) rfl
theorem q2204 : (Jvm.Cond.methodLink "ClaspedFairLaw" (187 : Nat) ({ cls := "ClaspedFairModel", name := "look", desc := "(I)I" } : Jvm.MethodName)) ∈ lw_all := lw_g (lw_at lw_m9 141 rfl) rfl
theorem q1135 : (Jvm.Cond.interfaceMethod "ClaspedFair$Asker" "ClaspedFair$Asker" "fact" "(I)I") ∈ lw_tbl := lw_at lw_m5 32 rfl
theorem q1136 : (Jvm.Cond.declares ({ cls := "ClaspedFair$Asker", name := "fact", desc := "(I)I" } : Jvm.MethodName)) ∈ lw_tbl := lw_at lw_m5 33 rfl
theorem q2238 : (Jvm.Cond.castable "[B" "java/lang/Object") ∈ lw_tbl := lw_at lw_m9 175 rfl
theorem q2239 : (Jvm.Cond.castable "[I" "java/lang/Object") ∈ lw_tbl := lw_at lw_m9 176 rfl
theorem q2237 : (Jvm.Cond.castable "[LClaspedFair$Horse;" "java/lang/Object") ∈ lw_tbl := lw_at lw_m9 174 rfl
theorem q2241 : (Jvm.Cond.castable "[LClaspedFair$Market;" "java/lang/Object") ∈ lw_tbl := lw_at lw_m9 178 rfl
theorem q2236 : (Jvm.Cond.castable "[LClaspedFair$Person;" "java/lang/Object") ∈ lw_tbl := lw_at lw_m9 173 rfl
theorem q2233 : (Jvm.Cond.sameMethod "[Ljava/lang/Object;" "java/lang/Object" "getClass" "()Ljava/lang/Class;") ∈ lw_all := lw_g (lw_at lw_m9 170 rfl) rfl
theorem q2234 : (Jvm.Cond.selects "[Ljava/lang/Object;" ({ cls := "java/lang/Object", name := "getClass", desc := "()Ljava/lang/Class;" } : Jvm.MethodName) ({ cls := "java/lang/Object", name := "getClass", desc := "()Ljava/lang/Class;" } : Jvm.MethodName)) ∈ lw_all := lw_g (lw_at lw_m9 171 rfl) rfl
theorem q2242 : (Jvm.Cond.castable "[Ljava/lang/Object;" "java/lang/Object") ∈ lw_tbl := lw_at lw_m9 179 rfl
theorem q2243 : (Jvm.Cond.castable "[Z" "java/lang/Object") ∈ lw_tbl := lw_at lw_m9 180 rfl
theorem q2240 : (Jvm.Cond.castable "[[I" "java/lang/Object") ∈ lw_tbl := lw_at lw_m9 177 rfl
theorem q172 : (Jvm.Cond.initialized "java/lang/System") ∈ lw_all := lw_g (lw_at lw_m1 29 rfl) rfl
theorem q909 : (Jvm.Cond.static ({ cls := "java/lang/System", name := "arraycopy", desc := "(Ljava/lang/Object;ILjava/lang/Object;II)V" } : Jvm.MethodName)) ∈ lw_all := lw_g (lw_at lw_m4 46 rfl) rfl
theorem q910 : (Jvm.Cond.native ({ cls := "java/lang/System", name := "arraycopy", desc := "(Ljava/lang/Object;ILjava/lang/Object;II)V" } : Jvm.MethodName)) ∈ lw_all := lw_g (lw_at lw_m4 47 rfl) rfl
theorem q194 : (Jvm.Cond.arrayOver (Jvm.ClassFile.FieldType.object "ClaspedFair$Person")) ∈ lw_tbl := lw_at lw_m1 51 rfl
theorem q196 : (Jvm.Cond.arrayOver (Jvm.ClassFile.FieldType.object "ClaspedFair$Horse")) ∈ lw_tbl := lw_at lw_m1 53 rfl
theorem q236 : (Jvm.Cond.arrayClass Jvm.ClassFile.FieldType.byte) ∈ lw_all := lw_g (lw_at lw_m1 93 rfl) rfl
theorem q237 : (Jvm.Cond.arrayClass Jvm.ClassFile.FieldType.int) ∈ lw_all := lw_g (lw_at lw_m1 94 rfl) rfl
theorem q239 : (Jvm.Cond.arrayOver (Jvm.ClassFile.FieldType.array Jvm.ClassFile.FieldType.int)) ∈ lw_tbl := lw_at lw_m1 96 rfl
theorem q437 : (Jvm.Cond.arrayOver (Jvm.ClassFile.FieldType.object "ClaspedFair$Market")) ∈ lw_tbl := lw_at lw_m2 54 rfl
theorem q903 : (Jvm.Cond.arrayOver (Jvm.ClassFile.FieldType.object "java/lang/Object")) ∈ lw_tbl := lw_at lw_m4 40 rfl
theorem q1330 : (Jvm.Cond.arrayClass Jvm.ClassFile.FieldType.boolean) ∈ lw_all := lw_g (lw_at lw_m5 227 rfl) rfl
