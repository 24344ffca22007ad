set_option maxRecDepth 100000
theorem q157 : (Jvm.Cond.initialized "ClaspedFair$Reader") ∈ lw_all := lw_g (lw_at lw_m1 14 rfl) rfl
theorem q365 : (Jvm.Cond.fieldLinkNest "ClaspedFair$Reader" (147 : Nat) "ClaspedFair$Market" "people" "I" "ClaspedFair") ∈ lw_tbl := lw_at lw_m1 222 rfl
theorem q368 : (Jvm.Cond.fieldLinkNest "ClaspedFair$Reader" (227 : Nat) "ClaspedFair$Market" "horses" "I" "ClaspedFair") ∈ lw_tbl := lw_at lw_m1 225 rfl
theorem q439 : (Jvm.Cond.fieldLinkNest "ClaspedFair$Reader" (29 : Nat) "ClaspedFair" "tape" "[B" "ClaspedFair") ∈ lw_tbl := lw_at lw_m2 56 rfl
theorem q440 : (Jvm.Cond.fieldLinkNest "ClaspedFair$Reader" (26 : Nat) "ClaspedFair" "taped" "I" "ClaspedFair") ∈ lw_tbl := lw_at lw_m2 57 rfl
theorem q445 : (Jvm.Cond.fieldLinkNest "ClaspedFair$Reader" (143 : Nat) "ClaspedFair" "market" "LClaspedFair$Market;" "ClaspedFair") ∈ lw_tbl := lw_at lw_m2 62 rfl
theorem q515 : (Jvm.Cond.instantiable "ClaspedFair$Reader" (9 : Nat)) ∈ lw_all := lw_g (lw_at lw_m2 132 rfl) rfl
theorem q517 : (Jvm.Cond.instanceMethod ({ cls := "ClaspedFair$Reader", name := "<init>", desc := "(LClaspedFair;I)V" } : Jvm.MethodName)) ∈ lw_all := lw_g (lw_at lw_m2 134 rfl) rfl
theorem q518 : (Jvm.Cond.code ({ cls := "ClaspedFair$Reader", name := "<init>", desc := "(LClaspedFair;I)V" } : Jvm.MethodName) prog_16_method_1_code (3 : Nat) (Option.none : Option Jvm.ClassFile.FieldType)) ∈ lw_all := lw_g (lw_at lw_m2 135 rfl) rfl
theorem q519 : (Jvm.Cond.methodLink "ClaspedFair$Reader" (9 : Nat) ({ cls := "java/lang/Object", name := "<init>", desc := "()V" } : Jvm.MethodName)) ∈ lw_all := lw_g (lw_at lw_m2 136 rfl) rfl
theorem q520 : (Jvm.Cond.fieldLink "ClaspedFair$Reader" (19 : Nat) "ClaspedFair$Reader" "which" "I") ∈ lw_all := lw_g (lw_at lw_m2 137 rfl) rfl
theorem q521 : (Jvm.Cond.fieldLink "ClaspedFair$Reader" (15 : Nat) "ClaspedFair$Reader" "kin" "[I") ∈ lw_all := lw_g (lw_at lw_m2 138 rfl) rfl
theorem q522 : (Jvm.Cond.fieldLink "ClaspedFair$Reader" (23 : Nat) "ClaspedFair$Reader" "at" "I") ∈ lw_all := lw_g (lw_at lw_m2 139 rfl) rfl
theorem q523 : (Jvm.Cond.fieldLink "ClaspedFair$Reader" (41 : Nat) "ClaspedFair$Reader" "start" "I") ∈ lw_all := lw_g (lw_at lw_m2 140 rfl) rfl
theorem q524 : (Jvm.Cond.fieldLink "ClaspedFair$Reader" (121 : Nat) "ClaspedFair$Reader" "token" "I") ∈ lw_all := lw_g (lw_at lw_m2 141 rfl) rfl
theorem q525 : (Jvm.Cond.fieldLink "ClaspedFair$Reader" (129 : Nat) "ClaspedFair$Reader" "value" "I") ∈ lw_all := lw_g (lw_at lw_m2 142 rfl) rfl
theorem q526 : (Jvm.Cond.fieldLink "ClaspedFair$Reader" (166 : Nat) "ClaspedFair$Reader" "open" "I") ∈ lw_all := lw_g (lw_at lw_m2 143 rfl) rfl
theorem q528 : (Jvm.Cond.fieldLink "ClaspedFair$Reader" (254 : Nat) "ClaspedFair$Reader" "told" "I") ∈ lw_all := lw_g (lw_at lw_m2 145 rfl) rfl
theorem q529 : (Jvm.Cond.fieldLink "ClaspedFair$Reader" (3 : Nat) "ClaspedFair$Reader" "this$0" "LClaspedFair;") ∈ lw_all := lw_g (lw_at lw_m2 146 rfl) rfl
theorem q530 : (Jvm.Cond.laysFinal "ClaspedFair$Reader" "ClaspedFair$Reader" "which" "I") ∈ lw_all := lw_g (lw_at lw_m2 147 rfl) rfl
theorem q531 : (Jvm.Cond.soleField "ClaspedFair$Reader" "which") ∈ lw_all := lw_g (lw_at lw_m2 148 rfl) rfl
theorem q532 : (Jvm.Cond.laysFinal "ClaspedFair$Reader" "ClaspedFair$Reader" "kin" "[I") ∈ lw_all := lw_g (lw_at lw_m2 149 rfl) rfl
theorem q533 : (Jvm.Cond.soleField "ClaspedFair$Reader" "kin") ∈ lw_all := lw_g (lw_at lw_m2 150 rfl) rfl
theorem q534 : (Jvm.Cond.lays "ClaspedFair$Reader" "ClaspedFair$Reader" "at" "I") ∈ lw_all := lw_g (lw_at lw_m2 151 rfl) rfl
theorem q535 : (Jvm.Cond.soleField "ClaspedFair$Reader" "at") ∈ lw_all := lw_g (lw_at lw_m2 152 rfl) rfl
theorem q536 : (Jvm.Cond.lays "ClaspedFair$Reader" "ClaspedFair$Reader" "start" "I") ∈ lw_all := lw_g (lw_at lw_m2 153 rfl) rfl
theorem q537 : (Jvm.Cond.soleField "ClaspedFair$Reader" "start") ∈ lw_all := lw_g (lw_at lw_m2 154 rfl) rfl
theorem q538 : (Jvm.Cond.lays "ClaspedFair$Reader" "ClaspedFair$Reader" "token" "I") ∈ lw_all := lw_g (lw_at lw_m2 155 rfl) rfl
theorem q539 : (Jvm.Cond.soleField "ClaspedFair$Reader" "token") ∈ lw_all := lw_g (lw_at lw_m2 156 rfl) rfl
theorem q540 : (Jvm.Cond.lays "ClaspedFair$Reader" "ClaspedFair$Reader" "value" "I") ∈ lw_all := lw_g (lw_at lw_m2 157 rfl) rfl
theorem q541 : (Jvm.Cond.soleField "ClaspedFair$Reader" "value") ∈ lw_all := lw_g (lw_at lw_m2 158 rfl) rfl
theorem q542 : (Jvm.Cond.lays "ClaspedFair$Reader" "ClaspedFair$Reader" "open" "I") ∈ lw_all := lw_g (lw_at lw_m2 159 rfl) rfl
theorem q543 : (Jvm.Cond.soleField "ClaspedFair$Reader" "open") ∈ lw_all := lw_g (lw_at lw_m2 160 rfl) rfl
theorem q544 : (Jvm.Cond.lays "ClaspedFair$Reader" "ClaspedFair$Reader" "told" "I") ∈ lw_all := lw_g (lw_at lw_m2 161 rfl) rfl
theorem q545 : (Jvm.Cond.soleField "ClaspedFair$Reader" "told") ∈ lw_all := lw_g (lw_at lw_m2 162 rfl) rfl
theorem q546 : (Jvm.Cond.laysFinal "ClaspedFair$Reader" "ClaspedFair$Reader" "this$0" "LClaspedFair;") ∈ lw_all := lw_g (lw_at lw_m2 163 rfl) rfl
theorem q547 : (Jvm.Cond.soleField "ClaspedFair$Reader" "this$0") ∈ lw_all := lw_g (lw_at lw_m2 164 rfl) rfl
theorem q548 : (Jvm.Cond.superclass "ClaspedFair$Reader" "java/lang/Object") ∈ lw_all := lw_g (lw_at lw_m2 165 rfl) rfl
theorem q550 : (Jvm.Cond.instanceMethod ({ cls := "ClaspedFair$Reader", name := "law", desc := "()Ljava/util/ArrayList;" } : Jvm.MethodName)) ∈ lw_all := lw_g (lw_at lw_m2 167 rfl) rfl
theorem q551 : (Jvm.Cond.selects "ClaspedFair$Reader" ({ cls := "ClaspedFair$Reader", name := "law", desc := "()Ljava/util/ArrayList;" } : Jvm.MethodName) ({ cls := "ClaspedFair$Reader", name := "law", desc := "()Ljava/util/ArrayList;" } : Jvm.MethodName)) ∈ lw_all := lw_g (lw_at lw_m2 168 rfl) rfl
theorem q552 : (Jvm.Cond.code ({ cls := "ClaspedFair$Reader", name := "law", desc := "()Ljava/util/ArrayList;" } : Jvm.MethodName) prog_16_method_24_code (5 : Nat) (Option.some (Jvm.ClassFile.FieldType.object "java/util/ArrayList"))) ∈ lw_all := lw_g (lw_at lw_m2 169 rfl) rfl
theorem q553 : (Jvm.Cond.classLink "ClaspedFair$Reader" (208 : Nat) "java/util/ArrayList") ∈ lw_all := lw_g (lw_at lw_m2 170 rfl) rfl
theorem q554 : (Jvm.Cond.methodLink "ClaspedFair$Reader" (210 : Nat) ({ cls := "java/util/ArrayList", name := "<init>", desc := "()V" } : Jvm.MethodName)) ∈ lw_all := lw_g (lw_at lw_m2 171 rfl) rfl
theorem q555 : (Jvm.Cond.methodLink "ClaspedFair$Reader" (132 : Nat) ({ cls := "ClaspedFair$Reader", name := "next", desc := "()V" } : Jvm.MethodName)) ∈ lw_all := lw_g (lw_at lw_m2 172 rfl) rfl
theorem q556 : (Jvm.Cond.privateMethod ({ cls := "ClaspedFair$Reader", name := "next", desc := "()V" } : Jvm.MethodName)) ∈ lw_tbl := lw_at lw_m2 173 rfl
theorem q557 : (Jvm.Cond.instanceMethod ({ cls := "ClaspedFair$Reader", name := "next", desc := "()V" } : Jvm.MethodName)) ∈ lw_all := lw_g (lw_at lw_m2 174 rfl) rfl
theorem q558 : (Jvm.Cond.code ({ cls := "ClaspedFair$Reader", name := "next", desc := "()V" } : Jvm.MethodName) prog_16_method_15_code (1 : Nat) (Option.none : Option Jvm.ClassFile.FieldType)) ∈ lw_all := lw_g (lw_at lw_m2 175 rfl) rfl
theorem q559 : (Jvm.Cond.methodLink "ClaspedFair$Reader" (33 : Nat) ({ cls := "ClaspedFair$Reader", name := "see", desc := "()I" } : Jvm.MethodName)) ∈ lw_all := lw_g (lw_at lw_m2 176 rfl) rfl
theorem q560 : (Jvm.Cond.privateMethod ({ cls := "ClaspedFair$Reader", name := "see", desc := "()I" } : Jvm.MethodName)) ∈ lw_tbl := lw_at lw_m2 177 rfl
theorem q561 : (Jvm.Cond.instanceMethod ({ cls := "ClaspedFair$Reader", name := "see", desc := "()I" } : Jvm.MethodName)) ∈ lw_all := lw_g (lw_at lw_m2 178 rfl) rfl
theorem q562 : (Jvm.Cond.code ({ cls := "ClaspedFair$Reader", name := "see", desc := "()I" } : Jvm.MethodName) prog_16_method_2_code (1 : Nat) (Option.some Jvm.ClassFile.FieldType.int)) ∈ lw_all := lw_g (lw_at lw_m2 179 rfl) rfl
theorem q563 : (Jvm.Cond.methodLink "ClaspedFair$Reader" (152 : Nat) ({ cls := "ClaspedFair$Reader", name := "isLetter", desc := "()Z" } : Jvm.MethodName)) ∈ lw_all := lw_g (lw_at lw_m2 180 rfl) rfl
theorem q564 : (Jvm.Cond.privateMethod ({ cls := "ClaspedFair$Reader", name := "isLetter", desc := "()Z" } : Jvm.MethodName)) ∈ lw_tbl := lw_at lw_m2 181 rfl
theorem q565 : (Jvm.Cond.instanceMethod ({ cls := "ClaspedFair$Reader", name := "isLetter", desc := "()Z" } : Jvm.MethodName)) ∈ lw_all := lw_g (lw_at lw_m2 182 rfl) rfl
theorem q566 : (Jvm.Cond.code ({ cls := "ClaspedFair$Reader", name := "isLetter", desc := "()Z" } : Jvm.MethodName) prog_16_method_3_code (1 : Nat) (Option.some Jvm.ClassFile.FieldType.boolean)) ∈ lw_all := lw_g (lw_at lw_m2 183 rfl) rfl
theorem q567 : (Jvm.Cond.methodLinkNest "ClaspedFair$Reader" (37 : Nat) ({ cls := "ClaspedFair", name := "isIn", desc := "(III)Z" } : Jvm.MethodName) "ClaspedFair") ∈ lw_tbl := lw_at lw_m2 184 rfl
theorem q568 : (Jvm.Cond.methodLink "ClaspedFair$Reader" (156 : Nat) ({ cls := "ClaspedFair$Reader", name := "keyword", desc := "()I" } : Jvm.MethodName)) ∈ lw_all := lw_g (lw_at lw_m2 185 rfl) rfl
theorem q569 : (Jvm.Cond.privateMethod ({ cls := "ClaspedFair$Reader", name := "keyword", desc := "()I" } : Jvm.MethodName)) ∈ lw_tbl := lw_at lw_m2 186 rfl
theorem q570 : (Jvm.Cond.instanceMethod ({ cls := "ClaspedFair$Reader", name := "keyword", desc := "()I" } : Jvm.MethodName)) ∈ lw_all := lw_g (lw_at lw_m2 187 rfl) rfl
theorem q571 : (Jvm.Cond.code ({ cls := "ClaspedFair$Reader", name := "keyword", desc := "()I" } : Jvm.MethodName) prog_16_method_10_code (1 : Nat) (Option.some Jvm.ClassFile.FieldType.int)) ∈ lw_all := lw_g (lw_at lw_m2 188 rfl) rfl
theorem q572 : (Jvm.Cond.methodLink "ClaspedFair$Reader" (112 : Nat) ({ cls := "ClaspedFair$Reader", name := "lawWord", desc := "()I" } : Jvm.MethodName)) ∈ lw_all := lw_g (lw_at lw_m2 189 rfl) rfl
theorem q573 : (Jvm.Cond.privateMethod ({ cls := "ClaspedFair$Reader", name := "lawWord", desc := "()I" } : Jvm.MethodName)) ∈ lw_tbl := lw_at lw_m2 190 rfl
theorem q574 : (Jvm.Cond.instanceMethod ({ cls := "ClaspedFair$Reader", name := "lawWord", desc := "()I" } : Jvm.MethodName)) ∈ lw_all := lw_g (lw_at lw_m2 191 rfl) rfl
theorem q575 : (Jvm.Cond.code ({ cls := "ClaspedFair$Reader", name := "lawWord", desc := "()I" } : Jvm.MethodName) prog_16_method_7_code (1 : Nat) (Option.some Jvm.ClassFile.FieldType.int)) ∈ lw_all := lw_g (lw_at lw_m2 192 rfl) rfl
theorem q576 : (Jvm.Cond.stringRef "ClaspedFair$Reader" (78 : Nat) "when") ∈ lw_tbl := lw_at lw_m2 193 rfl
theorem q577 : (Jvm.Cond.methodLink "ClaspedFair$Reader" (55 : Nat) ({ cls := "ClaspedFair$Reader", name := "is", desc := "(Ljava/lang/String;)Z" } : Jvm.MethodName)) ∈ lw_all := lw_g (lw_at lw_m2 194 rfl) rfl
theorem q578 : (Jvm.Cond.privateMethod ({ cls := "ClaspedFair$Reader", name := "is", desc := "(Ljava/lang/String;)Z" } : Jvm.MethodName)) ∈ lw_tbl := lw_at lw_m2 195 rfl
theorem q579 : (Jvm.Cond.instanceMethod ({ cls := "ClaspedFair$Reader", name := "is", desc := "(Ljava/lang/String;)Z" } : Jvm.MethodName)) ∈ lw_all := lw_g (lw_at lw_m2 196 rfl) rfl
theorem q580 : (Jvm.Cond.code ({ cls := "ClaspedFair$Reader", name := "is", desc := "(Ljava/lang/String;)Z" } : Jvm.MethodName) prog_16_method_5_code (4 : Nat) (Option.some Jvm.ClassFile.FieldType.boolean)) ∈ lw_all := lw_g (lw_at lw_m2 197 rfl) rfl
theorem q581 : (Jvm.Cond.methodLink "ClaspedFair$Reader" (44 : Nat) ({ cls := "java/lang/String", name := "length", desc := "()I" } : Jvm.MethodName)) ∈ lw_all := lw_g (lw_at lw_m2 198 rfl) rfl
theorem q591 : (Jvm.Cond.methodLink "ClaspedFair$Reader" (49 : Nat) ({ cls := "java/lang/String", name := "charAt", desc := "(I)C" } : Jvm.MethodName)) ∈ lw_all := lw_g (lw_at lw_m2 208 rfl) rfl
theorem q629 : (Jvm.Cond.stringRef "ClaspedFair$Reader" (80 : Nat) "or") ∈ lw_tbl := lw_at lw_m3 6 rfl
theorem q630 : (Jvm.Cond.stringRef "ClaspedFair$Reader" (82 : Nat) "and") ∈ lw_tbl := lw_at lw_m3 7 rfl
theorem q631 : (Jvm.Cond.stringRef "ClaspedFair$Reader" (84 : Nat) "not") ∈ lw_tbl := lw_at lw_m3 8 rfl
theorem q632 : (Jvm.Cond.stringRef "ClaspedFair$Reader" (86 : Nat) "passes") ∈ lw_tbl := lw_at lw_m3 9 rfl
theorem q633 : (Jvm.Cond.stringRef "ClaspedFair$Reader" (88 : Nat) "holds") ∈ lw_tbl := lw_at lw_m3 10 rfl
theorem q634 : (Jvm.Cond.stringRef "ClaspedFair$Reader" (90 : Nat) "asks") ∈ lw_tbl := lw_at lw_m3 11 rfl
theorem q635 : (Jvm.Cond.methodLink "ClaspedFair$Reader" (92 : Nat) ({ cls := "ClaspedFair$Reader", name := "asked", desc := "()I" } : Jvm.MethodName)) ∈ lw_all := lw_g (lw_at lw_m3 12 rfl) rfl
theorem q636 : (Jvm.Cond.privateMethod ({ cls := "ClaspedFair$Reader", name := "asked", desc := "()I" } : Jvm.MethodName)) ∈ lw_tbl := lw_at lw_m3 13 rfl
theorem q637 : (Jvm.Cond.instanceMethod ({ cls := "ClaspedFair$Reader", name := "asked", desc := "()I" } : Jvm.MethodName)) ∈ lw_all := lw_g (lw_at lw_m3 14 rfl) rfl
theorem q638 : (Jvm.Cond.code ({ cls := "ClaspedFair$Reader", name := "asked", desc := "()I" } : Jvm.MethodName) prog_16_method_6_code (1 : Nat) (Option.some Jvm.ClassFile.FieldType.int)) ∈ lw_all := lw_g (lw_at lw_m3 15 rfl) rfl
theorem q639 : (Jvm.Cond.stringRef "ClaspedFair$Reader" (53 : Nat) "trait") ∈ lw_tbl := lw_at lw_m3 16 rfl
theorem q640 : (Jvm.Cond.stringRef "ClaspedFair$Reader" (59 : Nat) "own") ∈ lw_tbl := lw_at lw_m3 17 rfl
theorem q641 : (Jvm.Cond.stringRef "ClaspedFair$Reader" (61 : Nat) "other") ∈ lw_tbl := lw_at lw_m3 18 rfl
theorem q642 : (Jvm.Cond.stringRef "ClaspedFair$Reader" (63 : Nat) "grip") ∈ lw_tbl := lw_at lw_m3 19 rfl
theorem q643 : (Jvm.Cond.stringRef "ClaspedFair$Reader" (65 : Nat) "price") ∈ lw_tbl := lw_at lw_m3 20 rfl
theorem q644 : (Jvm.Cond.stringRef "ClaspedFair$Reader" (67 : Nat) "worth") ∈ lw_tbl := lw_at lw_m3 21 rfl
theorem q645 : (Jvm.Cond.stringRef "ClaspedFair$Reader" (69 : Nat) "spirit") ∈ lw_tbl := lw_at lw_m3 22 rfl
theorem q646 : (Jvm.Cond.stringRef "ClaspedFair$Reader" (71 : Nat) "shook") ∈ lw_tbl := lw_at lw_m3 23 rfl
theorem q647 : (Jvm.Cond.stringRef "ClaspedFair$Reader" (73 : Nat) "purse") ∈ lw_tbl := lw_at lw_m3 24 rfl
theorem q648 : (Jvm.Cond.stringRef "ClaspedFair$Reader" (75 : Nat) "kin") ∈ lw_tbl := lw_at lw_m3 25 rfl
theorem q649 : (Jvm.Cond.stringRef "ClaspedFair$Reader" (76 : Nat) "day") ∈ lw_tbl := lw_at lw_m3 26 rfl
theorem q650 : (Jvm.Cond.methodLink "ClaspedFair$Reader" (115 : Nat) ({ cls := "ClaspedFair$Reader", name := "fairWord", desc := "()I" } : Jvm.MethodName)) ∈ lw_all := lw_g (lw_at lw_m3 27 rfl) rfl
theorem q651 : (Jvm.Cond.privateMethod ({ cls := "ClaspedFair$Reader", name := "fairWord", desc := "()I" } : Jvm.MethodName)) ∈ lw_tbl := lw_at lw_m3 28 rfl
theorem q652 : (Jvm.Cond.instanceMethod ({ cls := "ClaspedFair$Reader", name := "fairWord", desc := "()I" } : Jvm.MethodName)) ∈ lw_all := lw_g (lw_at lw_m3 29 rfl) rfl
theorem q653 : (Jvm.Cond.code ({ cls := "ClaspedFair$Reader", name := "fairWord", desc := "()I" } : Jvm.MethodName) prog_16_method_8_code (1 : Nat) (Option.some Jvm.ClassFile.FieldType.int)) ∈ lw_all := lw_g (lw_at lw_m3 30 rfl) rfl
theorem q654 : (Jvm.Cond.stringRef "ClaspedFair$Reader" (95 : Nat) "on") ∈ lw_tbl := lw_at lw_m3 31 rfl
theorem q655 : (Jvm.Cond.stringRef "ClaspedFair$Reader" (97 : Nat) "person") ∈ lw_tbl := lw_at lw_m3 32 rfl
theorem q656 : (Jvm.Cond.stringRef "ClaspedFair$Reader" (99 : Nat) "horse") ∈ lw_tbl := lw_at lw_m3 33 rfl
theorem q657 : (Jvm.Cond.stringRef "ClaspedFair$Reader" (101 : Nat) "at") ∈ lw_tbl := lw_at lw_m3 34 rfl
theorem q658 : (Jvm.Cond.methodLink "ClaspedFair$Reader" (118 : Nat) ({ cls := "ClaspedFair$Reader", name := "habitWord", desc := "()I" } : Jvm.MethodName)) ∈ lw_all := lw_g (lw_at lw_m3 35 rfl) rfl
theorem q659 : (Jvm.Cond.privateMethod ({ cls := "ClaspedFair$Reader", name := "habitWord", desc := "()I" } : Jvm.MethodName)) ∈ lw_tbl := lw_at lw_m3 36 rfl
theorem q660 : (Jvm.Cond.instanceMethod ({ cls := "ClaspedFair$Reader", name := "habitWord", desc := "()I" } : Jvm.MethodName)) ∈ lw_all := lw_g (lw_at lw_m3 37 rfl) rfl
theorem q661 : (Jvm.Cond.code ({ cls := "ClaspedFair$Reader", name := "habitWord", desc := "()I" } : Jvm.MethodName) prog_16_method_9_code (1 : Nat) (Option.some Jvm.ClassFile.FieldType.int)) ∈ lw_all := lw_g (lw_at lw_m3 38 rfl) rfl
theorem q662 : (Jvm.Cond.stringRef "ClaspedFair$Reader" (102 : Nat) "glove") ∈ lw_tbl := lw_at lw_m3 39 rfl
theorem q663 : (Jvm.Cond.stringRef "ClaspedFair$Reader" (104 : Nat) "bare") ∈ lw_tbl := lw_at lw_m3 40 rfl
theorem q664 : (Jvm.Cond.stringRef "ClaspedFair$Reader" (106 : Nat) "sling") ∈ lw_tbl := lw_at lw_m3 41 rfl
theorem q665 : (Jvm.Cond.stringRef "ClaspedFair$Reader" (108 : Nat) "pay") ∈ lw_tbl := lw_at lw_m3 42 rfl
theorem q666 : (Jvm.Cond.stringRef "ClaspedFair$Reader" (110 : Nat) "cold") ∈ lw_tbl := lw_at lw_m3 43 rfl
theorem q667 : (Jvm.Cond.methodLink "ClaspedFair$Reader" (159 : Nat) ({ cls := "ClaspedFair$Reader", name := "isDigit", desc := "()Z" } : Jvm.MethodName)) ∈ lw_all := lw_g (lw_at lw_m3 44 rfl) rfl
theorem q668 : (Jvm.Cond.privateMethod ({ cls := "ClaspedFair$Reader", name := "isDigit", desc := "()Z" } : Jvm.MethodName)) ∈ lw_tbl := lw_at lw_m3 45 rfl
theorem q669 : (Jvm.Cond.instanceMethod ({ cls := "ClaspedFair$Reader", name := "isDigit", desc := "()Z" } : Jvm.MethodName)) ∈ lw_all := lw_g (lw_at lw_m3 46 rfl) rfl
theorem q670 : (Jvm.Cond.code ({ cls := "ClaspedFair$Reader", name := "isDigit", desc := "()Z" } : Jvm.MethodName) prog_16_method_4_code (1 : Nat) (Option.some Jvm.ClassFile.FieldType.boolean)) ∈ lw_all := lw_g (lw_at lw_m3 47 rfl) rfl
theorem q671 : (Jvm.Cond.methodLink "ClaspedFair$Reader" (162 : Nat) ({ cls := "ClaspedFair$Reader", name := "isMark", desc := "(I)Z" } : Jvm.MethodName)) ∈ lw_all := lw_g (lw_at lw_m3 48 rfl) rfl
theorem q672 : (Jvm.Cond.privateMethod ({ cls := "ClaspedFair$Reader", name := "isMark", desc := "(I)Z" } : Jvm.MethodName)) ∈ lw_tbl := lw_at lw_m3 49 rfl
theorem q673 : (Jvm.Cond.instanceMethod ({ cls := "ClaspedFair$Reader", name := "isMark", desc := "(I)Z" } : Jvm.MethodName)) ∈ lw_all := lw_g (lw_at lw_m3 50 rfl) rfl
theorem q674 : (Jvm.Cond.code ({ cls := "ClaspedFair$Reader", name := "isMark", desc := "(I)Z" } : Jvm.MethodName) prog_16_method_14_code (2 : Nat) (Option.some Jvm.ClassFile.FieldType.boolean)) ∈ lw_all := lw_g (lw_at lw_m3 51 rfl) rfl
theorem q675 : (Jvm.Cond.classLink "ClaspedFair$Reader" (124 : Nat) "ClaspedFair$Fault") ∈ lw_all := lw_g (lw_at lw_m3 52 rfl) rfl
theorem q712 : (Jvm.Cond.methodLink "ClaspedFair$Reader" (126 : Nat) ({ cls := "ClaspedFair$Fault", name := "<init>", desc := "(II)V" } : Jvm.MethodName)) ∈ lw_all := lw_g (lw_at lw_m3 89 rfl) rfl
theorem q739 : (Jvm.Cond.methodLink "ClaspedFair$Reader" (211 : Nat) ({ cls := "java/util/ArrayList", name := "size", desc := "()I" } : Jvm.MethodName)) ∈ lw_all := lw_g (lw_at lw_m3 116 rfl) rfl
theorem q743 : (Jvm.Cond.methodLink "ClaspedFair$Reader" (205 : Nat) ({ cls := "ClaspedFair$Reader", name := "sum", desc := "()LClaspedFair$Term;" } : Jvm.MethodName)) ∈ lw_all := lw_g (lw_at lw_m3 120 rfl) rfl
theorem q744 : (Jvm.Cond.privateMethod ({ cls := "ClaspedFair$Reader", name := "sum", desc := "()LClaspedFair$Term;" } : Jvm.MethodName)) ∈ lw_tbl := lw_at lw_m3 121 rfl
theorem q745 : (Jvm.Cond.instanceMethod ({ cls := "ClaspedFair$Reader", name := "sum", desc := "()LClaspedFair$Term;" } : Jvm.MethodName)) ∈ lw_all := lw_g (lw_at lw_m3 122 rfl) rfl
theorem q746 : (Jvm.Cond.code ({ cls := "ClaspedFair$Reader", name := "sum", desc := "()LClaspedFair$Term;" } : Jvm.MethodName) prog_16_method_18_code (3 : Nat) (Option.some (Jvm.ClassFile.FieldType.object "ClaspedFair$Term"))) ∈ lw_all := lw_g (lw_at lw_m3 123 rfl) rfl
theorem q747 : (Jvm.Cond.methodLink "ClaspedFair$Reader" (169 : Nat) ({ cls := "ClaspedFair$Reader", name := "product", desc := "()LClaspedFair$Term;" } : Jvm.MethodName)) ∈ lw_all := lw_g (lw_at lw_m3 124 rfl) rfl
theorem q748 : (Jvm.Cond.privateMethod ({ cls := "ClaspedFair$Reader", name := "product", desc := "()LClaspedFair$Term;" } : Jvm.MethodName)) ∈ lw_tbl := lw_at lw_m3 125 rfl
theorem q749 : (Jvm.Cond.instanceMethod ({ cls := "ClaspedFair$Reader", name := "product", desc := "()LClaspedFair$Term;" } : Jvm.MethodName)) ∈ lw_all := lw_g (lw_at lw_m3 126 rfl) rfl
theorem q750 : (Jvm.Cond.code ({ cls := "ClaspedFair$Reader", name := "product", desc := "()LClaspedFair$Term;" } : Jvm.MethodName) prog_16_method_19_code (3 : Nat) (Option.some (Jvm.ClassFile.FieldType.object "ClaspedFair$Term"))) ∈ lw_all := lw_g (lw_at lw_m3 127 rfl) rfl
theorem q751 : (Jvm.Cond.methodLink "ClaspedFair$Reader" (178 : Nat) ({ cls := "ClaspedFair$Reader", name := "unit", desc := "()LClaspedFair$Term;" } : Jvm.MethodName)) ∈ lw_all := lw_g (lw_at lw_m3 128 rfl) rfl
theorem q752 : (Jvm.Cond.privateMethod ({ cls := "ClaspedFair$Reader", name := "unit", desc := "()LClaspedFair$Term;" } : Jvm.MethodName)) ∈ lw_tbl := lw_at lw_m3 129 rfl
theorem q753 : (Jvm.Cond.instanceMethod ({ cls := "ClaspedFair$Reader", name := "unit", desc := "()LClaspedFair$Term;" } : Jvm.MethodName)) ∈ lw_all := lw_g (lw_at lw_m3 130 rfl) rfl
theorem q754 : (Jvm.Cond.code ({ cls := "ClaspedFair$Reader", name := "unit", desc := "()LClaspedFair$Term;" } : Jvm.MethodName) prog_16_method_20_code (2 : Nat) (Option.some (Jvm.ClassFile.FieldType.object "ClaspedFair$Term"))) ∈ lw_all := lw_g (lw_at lw_m3 131 rfl) rfl
theorem q755 : (Jvm.Cond.classLink "ClaspedFair$Reader" (181 : Nat) "ClaspedFair$Fixed") ∈ lw_all := lw_g (lw_at lw_m3 132 rfl) rfl
theorem q757 : (Jvm.Cond.methodLink "ClaspedFair$Reader" (139 : Nat) ({ cls := "ClaspedFair$Reader", name := "number", desc := "(II)I" } : Jvm.MethodName)) ∈ lw_all := lw_g (lw_at lw_m3 134 rfl) rfl
theorem q758 : (Jvm.Cond.privateMethod ({ cls := "ClaspedFair$Reader", name := "number", desc := "(II)I" } : Jvm.MethodName)) ∈ lw_tbl := lw_at lw_m3 135 rfl
theorem q759 : (Jvm.Cond.instanceMethod ({ cls := "ClaspedFair$Reader", name := "number", desc := "(II)I" } : Jvm.MethodName)) ∈ lw_all := lw_g (lw_at lw_m3 136 rfl) rfl
theorem q760 : (Jvm.Cond.code ({ cls := "ClaspedFair$Reader", name := "number", desc := "(II)I" } : Jvm.MethodName) prog_16_method_11_code (4 : Nat) (Option.some Jvm.ClassFile.FieldType.int)) ∈ lw_all := lw_g (lw_at lw_m3 137 rfl) rfl
theorem q761 : (Jvm.Cond.methodLink "ClaspedFair$Reader" (183 : Nat) ({ cls := "ClaspedFair$Fixed", name := "<init>", desc := "(I)V" } : Jvm.MethodName)) ∈ lw_all := lw_g (lw_at lw_m3 138 rfl) rfl
theorem q772 : (Jvm.Cond.classLink "ClaspedFair$Reader" (185 : Nat) "ClaspedFair$Known") ∈ lw_all := lw_g (lw_at lw_m3 149 rfl) rfl
theorem q774 : (Jvm.Cond.methodLink "ClaspedFair$Reader" (187 : Nat) ({ cls := "ClaspedFair$Known", name := "<init>", desc := "(I)V" } : Jvm.MethodName)) ∈ lw_all := lw_g (lw_at lw_m3 151 rfl) rfl
theorem q782 : (Jvm.Cond.classLink "ClaspedFair$Reader" (173 : Nat) "ClaspedFair$Joined") ∈ lw_all := lw_g (lw_at lw_m3 159 rfl) rfl
theorem q784 : (Jvm.Cond.methodLink "ClaspedFair$Reader" (175 : Nat) ({ cls := "ClaspedFair$Joined", name := "<init>", desc := "(LClaspedFair$Term;ILClaspedFair$Term;)V" } : Jvm.MethodName)) ∈ lw_all := lw_g (lw_at lw_m3 161 rfl) rfl
theorem q798 : (Jvm.Cond.methodLink "ClaspedFair$Reader" (202 : Nat) ({ cls := "ClaspedFair$Reader", name := "any", desc := "()LClaspedFair$Term;" } : Jvm.MethodName)) ∈ lw_all := lw_g (lw_at lw_m3 175 rfl) rfl
theorem q799 : (Jvm.Cond.privateMethod ({ cls := "ClaspedFair$Reader", name := "any", desc := "()LClaspedFair$Term;" } : Jvm.MethodName)) ∈ lw_tbl := lw_at lw_m3 176 rfl
theorem q800 : (Jvm.Cond.instanceMethod ({ cls := "ClaspedFair$Reader", name := "any", desc := "()LClaspedFair$Term;" } : Jvm.MethodName)) ∈ lw_all := lw_g (lw_at lw_m3 177 rfl) rfl
theorem q801 : (Jvm.Cond.code ({ cls := "ClaspedFair$Reader", name := "any", desc := "()LClaspedFair$Term;" } : Jvm.MethodName) prog_16_method_21_code (2 : Nat) (Option.some (Jvm.ClassFile.FieldType.object "ClaspedFair$Term"))) ∈ lw_all := lw_g (lw_at lw_m3 178 rfl) rfl
theorem q802 : (Jvm.Cond.methodLink "ClaspedFair$Reader" (188 : Nat) ({ cls := "ClaspedFair$Reader", name := "all", desc := "()LClaspedFair$Term;" } : Jvm.MethodName)) ∈ lw_all := lw_g (lw_at lw_m3 179 rfl) rfl
theorem q803 : (Jvm.Cond.privateMethod ({ cls := "ClaspedFair$Reader", name := "all", desc := "()LClaspedFair$Term;" } : Jvm.MethodName)) ∈ lw_tbl := lw_at lw_m3 180 rfl
theorem q804 : (Jvm.Cond.instanceMethod ({ cls := "ClaspedFair$Reader", name := "all", desc := "()LClaspedFair$Term;" } : Jvm.MethodName)) ∈ lw_all := lw_g (lw_at lw_m3 181 rfl) rfl
theorem q805 : (Jvm.Cond.code ({ cls := "ClaspedFair$Reader", name := "all", desc := "()LClaspedFair$Term;" } : Jvm.MethodName) prog_16_method_22_code (2 : Nat) (Option.some (Jvm.ClassFile.FieldType.object "ClaspedFair$Term"))) ∈ lw_all := lw_g (lw_at lw_m3 182 rfl) rfl
theorem q806 : (Jvm.Cond.methodLink "ClaspedFair$Reader" (191 : Nat) ({ cls := "ClaspedFair$Reader", name := "one", desc := "()LClaspedFair$Term;" } : Jvm.MethodName)) ∈ lw_all := lw_g (lw_at lw_m3 183 rfl) rfl
theorem q807 : (Jvm.Cond.privateMethod ({ cls := "ClaspedFair$Reader", name := "one", desc := "()LClaspedFair$Term;" } : Jvm.MethodName)) ∈ lw_tbl := lw_at lw_m3 184 rfl
theorem q808 : (Jvm.Cond.instanceMethod ({ cls := "ClaspedFair$Reader", name := "one", desc := "()LClaspedFair$Term;" } : Jvm.MethodName)) ∈ lw_all := lw_g (lw_at lw_m3 185 rfl) rfl
theorem q809 : (Jvm.Cond.code ({ cls := "ClaspedFair$Reader", name := "one", desc := "()LClaspedFair$Term;" } : Jvm.MethodName) prog_16_method_23_code (3 : Nat) (Option.some (Jvm.ClassFile.FieldType.object "ClaspedFair$Term"))) ∈ lw_all := lw_g (lw_at lw_m3 186 rfl) rfl
theorem q810 : (Jvm.Cond.methodLink "ClaspedFair$Reader" (194 : Nat) ({ cls := "ClaspedFair$Reader", name := "opens", desc := "()V" } : Jvm.MethodName)) ∈ lw_all := lw_g (lw_at lw_m3 187 rfl) rfl
theorem q811 : (Jvm.Cond.privateMethod ({ cls := "ClaspedFair$Reader", name := "opens", desc := "()V" } : Jvm.MethodName)) ∈ lw_tbl := lw_at lw_m3 188 rfl
theorem q812 : (Jvm.Cond.instanceMethod ({ cls := "ClaspedFair$Reader", name := "opens", desc := "()V" } : Jvm.MethodName)) ∈ lw_all := lw_g (lw_at lw_m3 189 rfl) rfl
theorem q813 : (Jvm.Cond.code ({ cls := "ClaspedFair$Reader", name := "opens", desc := "()V" } : Jvm.MethodName) prog_16_method_17_code (1 : Nat) (Option.none : Option Jvm.ClassFile.FieldType)) ∈ lw_all := lw_g (lw_at lw_m3 190 rfl) rfl
theorem q814 : (Jvm.Cond.classLink "ClaspedFair$Reader" (197 : Nat) "ClaspedFair$Not") ∈ lw_all := lw_g (lw_at lw_m3 191 rfl) rfl
theorem q816 : (Jvm.Cond.methodLink "ClaspedFair$Reader" (199 : Nat) ({ cls := "ClaspedFair$Not", name := "<init>", desc := "(LClaspedFair$Term;)V" } : Jvm.MethodName)) ∈ lw_all := lw_g (lw_at lw_m3 193 rfl) rfl
theorem q824 : (Jvm.Cond.methodLink "ClaspedFair$Reader" (135 : Nat) ({ cls := "ClaspedFair$Reader", name := "must", desc := "(I)V" } : Jvm.MethodName)) ∈ lw_all := lw_g (lw_at lw_m3 201 rfl) rfl
theorem q825 : (Jvm.Cond.privateMethod ({ cls := "ClaspedFair$Reader", name := "must", desc := "(I)V" } : Jvm.MethodName)) ∈ lw_tbl := lw_at lw_m3 202 rfl
theorem q826 : (Jvm.Cond.instanceMethod ({ cls := "ClaspedFair$Reader", name := "must", desc := "(I)V" } : Jvm.MethodName)) ∈ lw_all := lw_g (lw_at lw_m3 203 rfl) rfl
theorem q827 : (Jvm.Cond.code ({ cls := "ClaspedFair$Reader", name := "must", desc := "(I)V" } : Jvm.MethodName) prog_16_method_16_code (2 : Nat) (Option.none : Option Jvm.ClassFile.FieldType)) ∈ lw_all := lw_g (lw_at lw_m3 204 rfl) rfl
theorem q828 : (Jvm.Cond.classLink "ClaspedFair$Reader" (214 : Nat) "ClaspedFair$Line") ∈ lw_all := lw_g (lw_at lw_m3 205 rfl) rfl
theorem q830 : (Jvm.Cond.methodLink "ClaspedFair$Reader" (216 : Nat) ({ cls := "ClaspedFair$Line", name := "<init>", desc := "(ILClaspedFair$Term;LClaspedFair$Term;)V" } : Jvm.MethodName)) ∈ lw_all := lw_g (lw_at lw_m3 207 rfl) rfl
theorem q847 : (Jvm.Cond.methodLink "ClaspedFair$Reader" (219 : Nat) ({ cls := "java/util/ArrayList", name := "add", desc := "(Ljava/lang/Object;)Z" } : Jvm.MethodName)) ∈ lw_all := lw_g (lw_at lw_m3 224 rfl) rfl
theorem q892 : (Jvm.Cond.selects "ClaspedFair$Reader" ({ cls := "java/lang/Object", name := "getClass", desc := "()Ljava/lang/Class;" } : Jvm.MethodName) ({ cls := "java/lang/Object", name := "getClass", desc := "()Ljava/lang/Class;" } : Jvm.MethodName)) ∈ lw_all := lw_g (lw_at lw_m4 29 rfl) rfl
theorem q915 : (Jvm.Cond.instanceMethod ({ cls := "ClaspedFair$Reader", name := "fair", desc := "()Ljava/util/ArrayList;" } : Jvm.MethodName)) ∈ lw_all := lw_g (lw_at lw_m4 52 rfl) rfl
theorem q916 : (Jvm.Cond.selects "ClaspedFair$Reader" ({ cls := "ClaspedFair$Reader", name := "fair", desc := "()Ljava/util/ArrayList;" } : Jvm.MethodName) ({ cls := "ClaspedFair$Reader", name := "fair", desc := "()Ljava/util/ArrayList;" } : Jvm.MethodName)) ∈ lw_all := lw_g (lw_at lw_m4 53 rfl) rfl
theorem q917 : (Jvm.Cond.code ({ cls := "ClaspedFair$Reader", name := "fair", desc := "()Ljava/util/ArrayList;" } : Jvm.MethodName) prog_16_method_25_code (6 : Nat) (Option.some (Jvm.ClassFile.FieldType.object "java/util/ArrayList"))) ∈ lw_all := lw_g (lw_at lw_m4 54 rfl) rfl
theorem q918 : (Jvm.Cond.methodLink "ClaspedFair$Reader" (223 : Nat) ({ cls := "ClaspedFair$Reader", name := "behind", desc := "(III)I" } : Jvm.MethodName)) ∈ lw_all := lw_g (lw_at lw_m4 55 rfl) rfl
theorem q919 : (Jvm.Cond.privateMethod ({ cls := "ClaspedFair$Reader", name := "behind", desc := "(III)I" } : Jvm.MethodName)) ∈ lw_tbl := lw_at lw_m4 56 rfl
theorem q920 : (Jvm.Cond.instanceMethod ({ cls := "ClaspedFair$Reader", name := "behind", desc := "(III)I" } : Jvm.MethodName)) ∈ lw_all := lw_g (lw_at lw_m4 57 rfl) rfl
theorem q921 : (Jvm.Cond.code ({ cls := "ClaspedFair$Reader", name := "behind", desc := "(III)I" } : Jvm.MethodName) prog_16_method_12_code (4 : Nat) (Option.some Jvm.ClassFile.FieldType.int)) ∈ lw_all := lw_g (lw_at lw_m4 58 rfl) rfl
theorem q922 : (Jvm.Cond.classLink "ClaspedFair$Reader" (230 : Nat) "ClaspedFair$Offer") ∈ lw_all := lw_g (lw_at lw_m4 59 rfl) rfl
theorem q924 : (Jvm.Cond.methodLink "ClaspedFair$Reader" (232 : Nat) ({ cls := "ClaspedFair$Offer", name := "<init>", desc := "(IIIII)V" } : Jvm.MethodName)) ∈ lw_all := lw_g (lw_at lw_m4 61 rfl) rfl
theorem q954 : (Jvm.Cond.instanceMethod ({ cls := "ClaspedFair$Reader", name := "habits", desc := "()Ljava/util/ArrayList;" } : Jvm.MethodName)) ∈ lw_all := lw_g (lw_at lw_m4 91 rfl) rfl
theorem q955 : (Jvm.Cond.selects "ClaspedFair$Reader" ({ cls := "ClaspedFair$Reader", name := "habits", desc := "()Ljava/util/ArrayList;" } : Jvm.MethodName) ({ cls := "ClaspedFair$Reader", name := "habits", desc := "()Ljava/util/ArrayList;" } : Jvm.MethodName)) ∈ lw_all := lw_g (lw_at lw_m4 92 rfl) rfl
theorem q956 : (Jvm.Cond.code ({ cls := "ClaspedFair$Reader", name := "habits", desc := "()Ljava/util/ArrayList;" } : Jvm.MethodName) prog_16_method_27_code (2 : Nat) (Option.some (Jvm.ClassFile.FieldType.object "java/util/ArrayList"))) ∈ lw_all := lw_g (lw_at lw_m4 93 rfl) rfl
theorem q957 : (Jvm.Cond.methodLink "ClaspedFair$Reader" (250 : Nat) ({ cls := "ClaspedFair$Reader", name := "habit", desc := "(I)LClaspedFair$Habit;" } : Jvm.MethodName)) ∈ lw_all := lw_g (lw_at lw_m4 94 rfl) rfl
theorem q958 : (Jvm.Cond.privateMethod ({ cls := "ClaspedFair$Reader", name := "habit", desc := "(I)LClaspedFair$Habit;" } : Jvm.MethodName)) ∈ lw_tbl := lw_at lw_m4 95 rfl
theorem q959 : (Jvm.Cond.instanceMethod ({ cls := "ClaspedFair$Reader", name := "habit", desc := "(I)LClaspedFair$Habit;" } : Jvm.MethodName)) ∈ lw_all := lw_g (lw_at lw_m4 96 rfl) rfl
theorem q960 : (Jvm.Cond.code ({ cls := "ClaspedFair$Reader", name := "habit", desc := "(I)LClaspedFair$Habit;" } : Jvm.MethodName) prog_16_method_26_code (5 : Nat) (Option.some (Jvm.ClassFile.FieldType.object "ClaspedFair$Habit"))) ∈ lw_all := lw_g (lw_at lw_m4 97 rfl) rfl
theorem q961 : (Jvm.Cond.methodLink "ClaspedFair$Reader" (235 : Nat) ({ cls := "ClaspedFair$Reader", name := "person", desc := "()I" } : Jvm.MethodName)) ∈ lw_all := lw_g (lw_at lw_m4 98 rfl) rfl
theorem q962 : (Jvm.Cond.privateMethod ({ cls := "ClaspedFair$Reader", name := "person", desc := "()I" } : Jvm.MethodName)) ∈ lw_tbl := lw_at lw_m4 99 rfl
theorem q963 : (Jvm.Cond.instanceMethod ({ cls := "ClaspedFair$Reader", name := "person", desc := "()I" } : Jvm.MethodName)) ∈ lw_all := lw_g (lw_at lw_m4 100 rfl) rfl
theorem q964 : (Jvm.Cond.code ({ cls := "ClaspedFair$Reader", name := "person", desc := "()I" } : Jvm.MethodName) prog_16_method_13_code (1 : Nat) (Option.some Jvm.ClassFile.FieldType.int)) ∈ lw_all := lw_g (lw_at lw_m4 101 rfl) rfl
theorem q965 : (Jvm.Cond.classLink "ClaspedFair$Reader" (237 : Nat) "ClaspedFair$Wage") ∈ lw_all := lw_g (lw_at lw_m4 102 rfl) rfl
theorem q967 : (Jvm.Cond.methodLink "ClaspedFair$Reader" (239 : Nat) ({ cls := "ClaspedFair$Wage", name := "<init>", desc := "(III)V" } : Jvm.MethodName)) ∈ lw_all := lw_g (lw_at lw_m4 104 rfl) rfl
theorem q984 : (Jvm.Cond.classLink "ClaspedFair$Reader" (242 : Nat) "ClaspedFair$Cold") ∈ lw_all := lw_g (lw_at lw_m4 121 rfl) rfl
theorem q986 : (Jvm.Cond.methodLink "ClaspedFair$Reader" (244 : Nat) ({ cls := "ClaspedFair$Cold", name := "<init>", desc := "(IIII)V" } : Jvm.MethodName)) ∈ lw_all := lw_g (lw_at lw_m4 123 rfl) rfl
theorem q999 : (Jvm.Cond.classLink "ClaspedFair$Reader" (247 : Nat) "ClaspedFair$Sleeve") ∈ lw_all := lw_g (lw_at lw_m4 136 rfl) rfl
theorem q1001 : (Jvm.Cond.methodLink "ClaspedFair$Reader" (249 : Nat) ({ cls := "ClaspedFair$Sleeve", name := "<init>", desc := "(III)V" } : Jvm.MethodName)) ∈ lw_all := lw_g (lw_at lw_m4 138 rfl) rfl
theorem q1012 : (Jvm.Cond.instanceMethod ({ cls := "ClaspedFair$Reader", name := "kin", desc := "()[I" } : Jvm.MethodName)) ∈ lw_all := lw_g (lw_at lw_m4 149 rfl) rfl
theorem q1013 : (Jvm.Cond.selects "ClaspedFair$Reader" ({ cls := "ClaspedFair$Reader", name := "kin", desc := "()[I" } : Jvm.MethodName) ({ cls := "ClaspedFair$Reader", name := "kin", desc := "()[I" } : Jvm.MethodName)) ∈ lw_all := lw_g (lw_at lw_m4 150 rfl) rfl
theorem q1014 : (Jvm.Cond.code ({ cls := "ClaspedFair$Reader", name := "kin", desc := "()[I" } : Jvm.MethodName) prog_16_method_28_code (3 : Nat) (Option.some (Jvm.ClassFile.FieldType.array Jvm.ClassFile.FieldType.int))) ∈ lw_all := lw_g (lw_at lw_m4 151 rfl) rfl
theorem q2220 : (Jvm.Cond.castable "ClaspedFair$Reader" "java/lang/Object") ∈ lw_tbl := lw_at lw_m9 157 rfl
