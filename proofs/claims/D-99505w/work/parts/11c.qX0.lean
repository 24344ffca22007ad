set_option maxRecDepth 100000
theorem q144 : (Jvm.Cond.initialized "ClaspedFair") ∈ lw_all := lw_g (lw_at lw_m1 1 rfl) rfl
theorem q180 : (Jvm.Cond.instantiable "ClaspedFair" (16 : Nat)) ∈ lw_all := lw_g (lw_at lw_m1 37 rfl) rfl
theorem q182 : (Jvm.Cond.instanceMethod ({ cls := "ClaspedFair", name := "<init>", desc := "()V" } : Jvm.MethodName)) ∈ lw_all := lw_g (lw_at lw_m1 39 rfl) rfl
theorem q183 : (Jvm.Cond.code ({ cls := "ClaspedFair", name := "<init>", desc := "()V" } : Jvm.MethodName) prog_1_method_1_code (2 : Nat) (Option.none : Option Jvm.ClassFile.FieldType)) ∈ lw_all := lw_g (lw_at lw_m1 40 rfl) rfl
theorem q184 : (Jvm.Cond.methodLink "ClaspedFair" (1 : Nat) ({ cls := "java/lang/Object", name := "<init>", desc := "()V" } : Jvm.MethodName)) ∈ lw_all := lw_g (lw_at lw_m1 41 rfl) rfl
theorem q187 : (Jvm.Cond.classLink "ClaspedFair" (17 : Nat) "ClaspedFair$Market") ∈ lw_all := lw_g (lw_at lw_m1 44 rfl) rfl
theorem q189 : (Jvm.Cond.methodLink "ClaspedFair" (19 : Nat) ({ cls := "ClaspedFair$Market", name := "<init>", desc := "()V" } : Jvm.MethodName)) ∈ lw_all := lw_g (lw_at lw_m1 46 rfl) rfl
theorem q248 : (Jvm.Cond.fieldLinkNest "ClaspedFair" (283 : Nat) "ClaspedFair$Rows" "row" "[[I" "ClaspedFair") ∈ lw_tbl := lw_at lw_m1 105 rfl
theorem q250 : (Jvm.Cond.fieldLinkNest "ClaspedFair" (280 : Nat) "ClaspedFair$Rows" "many" "I" "ClaspedFair") ∈ lw_tbl := lw_at lw_m1 107 rfl
theorem q290 : (Jvm.Cond.fieldLinkNest "ClaspedFair" (188 : Nat) "ClaspedFair$Person" "trait" "[I" "ClaspedFair") ∈ lw_tbl := lw_at lw_m1 147 rfl
theorem q294 : (Jvm.Cond.fieldLinkNest "ClaspedFair" (179 : Nat) "ClaspedFair$Person" "purse" "I" "ClaspedFair") ∈ lw_tbl := lw_at lw_m1 151 rfl
theorem q298 : (Jvm.Cond.fieldLinkNest "ClaspedFair" (213 : Nat) "ClaspedFair$Person" "hand" "I" "ClaspedFair") ∈ lw_tbl := lw_at lw_m1 155 rfl
theorem q301 : (Jvm.Cond.fieldLinkNest "ClaspedFair" (222 : Nat) "ClaspedFair$Person" "shook" "I" "ClaspedFair") ∈ lw_tbl := lw_at lw_m1 158 rfl
theorem q318 : (Jvm.Cond.fieldLinkNest "ClaspedFair" (225 : Nat) "ClaspedFair$Horse" "owner" "I" "ClaspedFair") ∈ lw_tbl := lw_at lw_m1 175 rfl
theorem q321 : (Jvm.Cond.fieldLinkNest "ClaspedFair" (182 : Nat) "ClaspedFair$Horse" "worth" "I" "ClaspedFair") ∈ lw_tbl := lw_at lw_m1 178 rfl
theorem q324 : (Jvm.Cond.fieldLinkNest "ClaspedFair" (185 : Nat) "ClaspedFair$Horse" "spirit" "I" "ClaspedFair") ∈ lw_tbl := lw_at lw_m1 181 rfl
theorem q327 : (Jvm.Cond.fieldLinkNest "ClaspedFair" (228 : Nat) "ClaspedFair$Horse" "sold" "I" "ClaspedFair") ∈ lw_tbl := lw_at lw_m1 184 rfl
theorem q338 : (Jvm.Cond.fieldLinkNest "ClaspedFair" (143 : Nat) "ClaspedFair$Market" "person" "[LClaspedFair$Person;" "ClaspedFair") ∈ lw_tbl := lw_at lw_m1 195 rfl
theorem q340 : (Jvm.Cond.fieldLinkNest "ClaspedFair" (164 : Nat) "ClaspedFair$Market" "horse" "[LClaspedFair$Horse;" "ClaspedFair") ∈ lw_tbl := lw_at lw_m1 197 rfl
theorem q342 : (Jvm.Cond.fieldLinkNest "ClaspedFair" (234 : Nat) "ClaspedFair$Market" "grip" "LClaspedFair$Grip;" "ClaspedFair") ∈ lw_tbl := lw_at lw_m1 199 rfl
theorem q344 : (Jvm.Cond.fieldLinkNest "ClaspedFair" (255 : Nat) "ClaspedFair$Market" "book" "[[I" "ClaspedFair") ∈ lw_tbl := lw_at lw_m1 201 rfl
theorem q346 : (Jvm.Cond.fieldLinkNest "ClaspedFair" (268 : Nat) "ClaspedFair$Market" "clasps" "LClaspedFair$Rows;" "ClaspedFair") ∈ lw_tbl := lw_at lw_m1 203 rfl
theorem q348 : (Jvm.Cond.fieldLinkNest "ClaspedFair" (289 : Nat) "ClaspedFair$Market" "numbers" "LClaspedFair$Rows;" "ClaspedFair") ∈ lw_tbl := lw_at lw_m1 205 rfl
theorem q350 : (Jvm.Cond.fieldLinkNest "ClaspedFair" (323 : Nat) "ClaspedFair$Market" "weights" "LClaspedFair$Rows;" "ClaspedFair") ∈ lw_tbl := lw_at lw_m1 207 rfl
theorem q352 : (Jvm.Cond.fieldLinkNest "ClaspedFair" (341 : Nat) "ClaspedFair$Market" "herds" "LClaspedFair$Rows;" "ClaspedFair") ∈ lw_tbl := lw_at lw_m1 209 rfl
theorem q354 : (Jvm.Cond.fieldLinkNest "ClaspedFair" (354 : Nat) "ClaspedFair$Market" "hands" "LClaspedFair$Rows;" "ClaspedFair") ∈ lw_tbl := lw_at lw_m1 211 rfl
theorem q356 : (Jvm.Cond.fieldLinkNest "ClaspedFair" (80 : Nat) "ClaspedFair$Market" "law" "Ljava/util/ArrayList;" "ClaspedFair") ∈ lw_tbl := lw_at lw_m1 213 rfl
theorem q358 : (Jvm.Cond.fieldLinkNest "ClaspedFair" (92 : Nat) "ClaspedFair$Market" "fair" "Ljava/util/ArrayList;" "ClaspedFair") ∈ lw_tbl := lw_at lw_m1 215 rfl
theorem q360 : (Jvm.Cond.fieldLinkNest "ClaspedFair" (101 : Nat) "ClaspedFair$Market" "habits" "Ljava/util/ArrayList;" "ClaspedFair") ∈ lw_tbl := lw_at lw_m1 217 rfl
theorem q362 : (Jvm.Cond.fieldLinkNest "ClaspedFair" (107 : Nat) "ClaspedFair$Market" "kin" "[I" "ClaspedFair") ∈ lw_tbl := lw_at lw_m1 219 rfl
theorem q364 : (Jvm.Cond.fieldLinkNest "ClaspedFair" (137 : Nat) "ClaspedFair$Market" "people" "I" "ClaspedFair") ∈ lw_tbl := lw_at lw_m1 221 rfl
theorem q367 : (Jvm.Cond.fieldLinkNest "ClaspedFair" (140 : Nat) "ClaspedFair$Market" "horses" "I" "ClaspedFair") ∈ lw_tbl := lw_at lw_m1 224 rfl
theorem q370 : (Jvm.Cond.fieldLinkNest "ClaspedFair" (262 : Nat) "ClaspedFair$Market" "passed" "I" "ClaspedFair") ∈ lw_tbl := lw_at lw_m1 227 rfl
theorem q372 : (Jvm.Cond.fieldLinkNest "ClaspedFair" (265 : Nat) "ClaspedFair$Market" "held" "I" "ClaspedFair") ∈ lw_tbl := lw_at lw_m1 229 rfl
theorem q374 : (Jvm.Cond.fieldLinkNest "ClaspedFair" (216 : Nat) "ClaspedFair$Market" "day" "I" "ClaspedFair") ∈ lw_tbl := lw_at lw_m1 231 rfl
theorem q376 : (Jvm.Cond.fieldLinkNest "ClaspedFair" (147 : Nat) "ClaspedFair$Market" "state" "I" "ClaspedFair") ∈ lw_tbl := lw_at lw_m1 233 rfl
theorem q378 : (Jvm.Cond.fieldLinkNest "ClaspedFair" (252 : Nat) "ClaspedFair$Market" "lines" "I" "ClaspedFair") ∈ lw_tbl := lw_at lw_m1 235 rfl
theorem q380 : (Jvm.Cond.fieldLinkNest "ClaspedFair" (112 : Nat) "ClaspedFair$Market" "kinLines" "I" "ClaspedFair") ∈ lw_tbl := lw_at lw_m1 237 rfl
theorem q381 : (Jvm.Cond.fieldLinkNest "ClaspedFair" (34 : Nat) "ClaspedFair$Market" "isThought" "Z" "ClaspedFair") ∈ lw_tbl := lw_at lw_m1 238 rfl
theorem q438 : (Jvm.Cond.fieldLink "ClaspedFair" (9 : Nat) "ClaspedFair" "tape" "[B") ∈ lw_all := lw_g (lw_at lw_m2 55 rfl) rfl
theorem q441 : (Jvm.Cond.fieldLink "ClaspedFair" (60 : Nat) "ClaspedFair" "taped" "I") ∈ lw_all := lw_g (lw_at lw_m2 58 rfl) rfl
theorem q442 : (Jvm.Cond.fieldLink "ClaspedFair" (115 : Nat) "ClaspedFair" "faultKind" "I") ∈ lw_all := lw_g (lw_at lw_m2 59 rfl) rfl
theorem q443 : (Jvm.Cond.fieldLink "ClaspedFair" (13 : Nat) "ClaspedFair" "faultPlace" "I") ∈ lw_all := lw_g (lw_at lw_m2 60 rfl) rfl
theorem q444 : (Jvm.Cond.fieldLink "ClaspedFair" (20 : Nat) "ClaspedFair" "market" "LClaspedFair$Market;") ∈ lw_all := lw_g (lw_at lw_m2 61 rfl) rfl
theorem q446 : (Jvm.Cond.fieldLink "ClaspedFair" (24 : Nat) "ClaspedFair" "kept" "LClaspedFair$Market;") ∈ lw_all := lw_g (lw_at lw_m2 63 rfl) rfl
theorem q447 : (Jvm.Cond.fieldLink "ClaspedFair" (27 : Nat) "ClaspedFair" "thought" "LClaspedFair$Market;") ∈ lw_all := lw_g (lw_at lw_m2 64 rfl) rfl
theorem q448 : (Jvm.Cond.fieldLink "ClaspedFair" (30 : Nat) "ClaspedFair" "back" "[LClaspedFair$Market;") ∈ lw_all := lw_g (lw_at lw_m2 65 rfl) rfl
theorem q449 : (Jvm.Cond.fieldLink "ClaspedFair" (130 : Nat) "ClaspedFair" "backMany" "I") ∈ lw_all := lw_g (lw_at lw_m2 66 rfl) rfl
theorem q450 : (Jvm.Cond.fieldLink "ClaspedFair" (360 : Nat) "ClaspedFair" "hasImage" "Z") ∈ lw_all := lw_g (lw_at lw_m2 67 rfl) rfl
theorem q451 : (Jvm.Cond.fieldLink "ClaspedFair" (38 : Nat) "ClaspedFair" "ringOf" "[I") ∈ lw_all := lw_g (lw_at lw_m2 68 rfl) rfl
theorem q452 : (Jvm.Cond.fieldLink "ClaspedFair" (42 : Nat) "ClaspedFair" "pairsFrom" "[I") ∈ lw_all := lw_g (lw_at lw_m2 69 rfl) rfl
theorem q453 : (Jvm.Cond.fieldLink "ClaspedFair" (45 : Nat) "ClaspedFair" "pen" "[I") ∈ lw_all := lw_g (lw_at lw_m2 70 rfl) rfl
theorem q454 : (Jvm.Cond.fieldLink "ClaspedFair" (348 : Nat) "ClaspedFair" "fullest" "I") ∈ lw_all := lw_g (lw_at lw_m2 71 rfl) rfl
theorem q455 : (Jvm.Cond.fieldLink "ClaspedFair" (351 : Nat) "ClaspedFair" "level" "I") ∈ lw_all := lw_g (lw_at lw_m2 72 rfl) rfl
theorem q456 : (Jvm.Cond.fieldLink "ClaspedFair" (48 : Nat) "ClaspedFair" "nims" "[I") ∈ lw_all := lw_g (lw_at lw_m2 73 rfl) rfl
theorem q457 : (Jvm.Cond.laysFinal "ClaspedFair" "ClaspedFair" "tape" "[B") ∈ lw_all := lw_g (lw_at lw_m2 74 rfl) rfl
theorem q458 : (Jvm.Cond.soleField "ClaspedFair" "tape") ∈ lw_all := lw_g (lw_at lw_m2 75 rfl) rfl
theorem q459 : (Jvm.Cond.lays "ClaspedFair" "ClaspedFair" "taped" "I") ∈ lw_all := lw_g (lw_at lw_m2 76 rfl) rfl
theorem q460 : (Jvm.Cond.soleField "ClaspedFair" "taped") ∈ lw_all := lw_g (lw_at lw_m2 77 rfl) rfl
theorem q461 : (Jvm.Cond.lays "ClaspedFair" "ClaspedFair" "faultKind" "I") ∈ lw_all := lw_g (lw_at lw_m2 78 rfl) rfl
theorem q462 : (Jvm.Cond.soleField "ClaspedFair" "faultKind") ∈ lw_all := lw_g (lw_at lw_m2 79 rfl) rfl
theorem q463 : (Jvm.Cond.lays "ClaspedFair" "ClaspedFair" "faultPlace" "I") ∈ lw_all := lw_g (lw_at lw_m2 80 rfl) rfl
theorem q464 : (Jvm.Cond.soleField "ClaspedFair" "faultPlace") ∈ lw_all := lw_g (lw_at lw_m2 81 rfl) rfl
theorem q465 : (Jvm.Cond.laysFinal "ClaspedFair" "ClaspedFair" "market" "LClaspedFair$Market;") ∈ lw_all := lw_g (lw_at lw_m2 82 rfl) rfl
theorem q466 : (Jvm.Cond.soleField "ClaspedFair" "market") ∈ lw_all := lw_g (lw_at lw_m2 83 rfl) rfl
theorem q467 : (Jvm.Cond.laysFinal "ClaspedFair" "ClaspedFair" "kept" "LClaspedFair$Market;") ∈ lw_all := lw_g (lw_at lw_m2 84 rfl) rfl
theorem q468 : (Jvm.Cond.soleField "ClaspedFair" "kept") ∈ lw_all := lw_g (lw_at lw_m2 85 rfl) rfl
theorem q469 : (Jvm.Cond.laysFinal "ClaspedFair" "ClaspedFair" "thought" "LClaspedFair$Market;") ∈ lw_all := lw_g (lw_at lw_m2 86 rfl) rfl
theorem q470 : (Jvm.Cond.soleField "ClaspedFair" "thought") ∈ lw_all := lw_g (lw_at lw_m2 87 rfl) rfl
theorem q471 : (Jvm.Cond.laysFinal "ClaspedFair" "ClaspedFair" "back" "[LClaspedFair$Market;") ∈ lw_all := lw_g (lw_at lw_m2 88 rfl) rfl
theorem q472 : (Jvm.Cond.soleField "ClaspedFair" "back") ∈ lw_all := lw_g (lw_at lw_m2 89 rfl) rfl
theorem q473 : (Jvm.Cond.lays "ClaspedFair" "ClaspedFair" "backMany" "I") ∈ lw_all := lw_g (lw_at lw_m2 90 rfl) rfl
theorem q474 : (Jvm.Cond.soleField "ClaspedFair" "backMany") ∈ lw_all := lw_g (lw_at lw_m2 91 rfl) rfl
theorem q475 : (Jvm.Cond.lays "ClaspedFair" "ClaspedFair" "hasImage" "Z") ∈ lw_all := lw_g (lw_at lw_m2 92 rfl) rfl
theorem q476 : (Jvm.Cond.soleField "ClaspedFair" "hasImage") ∈ lw_all := lw_g (lw_at lw_m2 93 rfl) rfl
theorem q477 : (Jvm.Cond.laysFinal "ClaspedFair" "ClaspedFair" "ringOf" "[I") ∈ lw_all := lw_g (lw_at lw_m2 94 rfl) rfl
theorem q478 : (Jvm.Cond.soleField "ClaspedFair" "ringOf") ∈ lw_all := lw_g (lw_at lw_m2 95 rfl) rfl
theorem q479 : (Jvm.Cond.laysFinal "ClaspedFair" "ClaspedFair" "pairsFrom" "[I") ∈ lw_all := lw_g (lw_at lw_m2 96 rfl) rfl
theorem q480 : (Jvm.Cond.soleField "ClaspedFair" "pairsFrom") ∈ lw_all := lw_g (lw_at lw_m2 97 rfl) rfl
theorem q481 : (Jvm.Cond.laysFinal "ClaspedFair" "ClaspedFair" "pen" "[I") ∈ lw_all := lw_g (lw_at lw_m2 98 rfl) rfl
theorem q482 : (Jvm.Cond.soleField "ClaspedFair" "pen") ∈ lw_all := lw_g (lw_at lw_m2 99 rfl) rfl
theorem q483 : (Jvm.Cond.lays "ClaspedFair" "ClaspedFair" "fullest" "I") ∈ lw_all := lw_g (lw_at lw_m2 100 rfl) rfl
theorem q484 : (Jvm.Cond.soleField "ClaspedFair" "fullest") ∈ lw_all := lw_g (lw_at lw_m2 101 rfl) rfl
theorem q485 : (Jvm.Cond.lays "ClaspedFair" "ClaspedFair" "level" "I") ∈ lw_all := lw_g (lw_at lw_m2 102 rfl) rfl
theorem q486 : (Jvm.Cond.soleField "ClaspedFair" "level") ∈ lw_all := lw_g (lw_at lw_m2 103 rfl) rfl
theorem q487 : (Jvm.Cond.laysFinal "ClaspedFair" "ClaspedFair" "nims" "[I") ∈ lw_all := lw_g (lw_at lw_m2 104 rfl) rfl
theorem q488 : (Jvm.Cond.soleField "ClaspedFair" "nims") ∈ lw_all := lw_g (lw_at lw_m2 105 rfl) rfl
theorem q489 : (Jvm.Cond.superclass "ClaspedFair" "java/lang/Object") ∈ lw_all := lw_g (lw_at lw_m2 106 rfl) rfl
theorem q491 : (Jvm.Cond.instanceMethod ({ cls := "ClaspedFair", name := "feed", desc := "(IIIII)I" } : Jvm.MethodName)) ∈ lw_all := lw_g (lw_at lw_m2 108 rfl) rfl
theorem q492 : (Jvm.Cond.selects "ClaspedFair" ({ cls := "ClaspedFair", name := "feed", desc := "(IIIII)I" } : Jvm.MethodName) ({ cls := "ClaspedFair", name := "feed", desc := "(IIIII)I" } : Jvm.MethodName)) ∈ lw_all := lw_g (lw_at lw_m2 109 rfl) rfl
theorem q493 : (Jvm.Cond.code ({ cls := "ClaspedFair", name := "feed", desc := "(IIIII)I" } : Jvm.MethodName) prog_1_method_4_code (6 : Nat) (Option.some Jvm.ClassFile.FieldType.int)) ∈ lw_all := lw_g (lw_at lw_m2 110 rfl) rfl
theorem q494 : (Jvm.Cond.methodLink "ClaspedFair" (63 : Nat) ({ cls := "ClaspedFair", name := "word", desc := "(I)V" } : Jvm.MethodName)) ∈ lw_all := lw_g (lw_at lw_m2 111 rfl) rfl
theorem q495 : (Jvm.Cond.privateMethod ({ cls := "ClaspedFair", name := "word", desc := "(I)V" } : Jvm.MethodName)) ∈ lw_tbl := lw_at lw_m2 112 rfl
theorem q496 : (Jvm.Cond.instanceMethod ({ cls := "ClaspedFair", name := "word", desc := "(I)V" } : Jvm.MethodName)) ∈ lw_all := lw_g (lw_at lw_m2 113 rfl) rfl
theorem q497 : (Jvm.Cond.code ({ cls := "ClaspedFair", name := "word", desc := "(I)V" } : Jvm.MethodName) prog_1_method_5_code (3 : Nat) (Option.none : Option Jvm.ClassFile.FieldType)) ∈ lw_all := lw_g (lw_at lw_m2 114 rfl) rfl
theorem q499 : (Jvm.Cond.instanceMethod ({ cls := "ClaspedFair", name := "end", desc := "(I)Z" } : Jvm.MethodName)) ∈ lw_all := lw_g (lw_at lw_m2 116 rfl) rfl
theorem q500 : (Jvm.Cond.selects "ClaspedFair" ({ cls := "ClaspedFair", name := "end", desc := "(I)Z" } : Jvm.MethodName) ({ cls := "ClaspedFair", name := "end", desc := "(I)Z" } : Jvm.MethodName)) ∈ lw_all := lw_g (lw_at lw_m2 117 rfl) rfl
theorem q501 : (Jvm.Cond.code ({ cls := "ClaspedFair", name := "end", desc := "(I)Z" } : Jvm.MethodName) prog_1_method_6_code (2 : Nat) (Option.some Jvm.ClassFile.FieldType.boolean)) ∈ lw_all := lw_g (lw_at lw_m2 118 rfl) rfl
theorem q502 : (Jvm.Cond.methodLink "ClaspedFair" (67 : Nat) ({ cls := "ClaspedFair", name := "isIn", desc := "(III)Z" } : Jvm.MethodName)) ∈ lw_all := lw_g (lw_at lw_m2 119 rfl) rfl
theorem q503 : (Jvm.Cond.static ({ cls := "ClaspedFair", name := "isIn", desc := "(III)Z" } : Jvm.MethodName)) ∈ lw_all := lw_g (lw_at lw_m2 120 rfl) rfl
theorem q504 : (Jvm.Cond.code ({ cls := "ClaspedFair", name := "isIn", desc := "(III)Z" } : Jvm.MethodName) prog_1_method_2_code (3 : Nat) (Option.some Jvm.ClassFile.FieldType.boolean)) ∈ lw_all := lw_g (lw_at lw_m2 121 rfl) rfl
theorem q506 : (Jvm.Cond.instanceMethod ({ cls := "ClaspedFair", name := "text", desc := "(I)I" } : Jvm.MethodName)) ∈ lw_all := lw_g (lw_at lw_m2 123 rfl) rfl
theorem q507 : (Jvm.Cond.selects "ClaspedFair" ({ cls := "ClaspedFair", name := "text", desc := "(I)I" } : Jvm.MethodName) ({ cls := "ClaspedFair", name := "text", desc := "(I)I" } : Jvm.MethodName)) ∈ lw_all := lw_g (lw_at lw_m2 124 rfl) rfl
theorem q508 : (Jvm.Cond.codeWith ({ cls := "ClaspedFair", name := "text", desc := "(I)I" } : Jvm.MethodName) prog_1_method_8_code (5 : Nat) (Option.some Jvm.ClassFile.FieldType.int) [((10 : Nat), (29 : Nat), (36 : Nat), (122 : Nat)), ((10 : Nat), (29 : Nat), (62 : Nat), (0 : Nat)), ((36 : Nat), (55 : Nat), (62 : Nat), (0 : Nat)), ((62 : Nat), (64 : Nat), (62 : Nat), (0 : Nat))]) ∈ lw_all := lw_g (lw_at lw_m2 125 rfl) rfl
theorem q509 : (Jvm.Cond.classLink "ClaspedFair" (122 : Nat) "ClaspedFair$Fault") ∈ lw_all := lw_g (lw_at lw_m2 126 rfl) rfl
theorem q510 : (Jvm.Cond.methodLink "ClaspedFair" (118 : Nat) ({ cls := "ClaspedFair", name := "reads", desc := "(I)I" } : Jvm.MethodName)) ∈ lw_all := lw_g (lw_at lw_m2 127 rfl) rfl
theorem q511 : (Jvm.Cond.privateMethod ({ cls := "ClaspedFair", name := "reads", desc := "(I)I" } : Jvm.MethodName)) ∈ lw_tbl := lw_at lw_m2 128 rfl
theorem q512 : (Jvm.Cond.instanceMethod ({ cls := "ClaspedFair", name := "reads", desc := "(I)I" } : Jvm.MethodName)) ∈ lw_all := lw_g (lw_at lw_m2 129 rfl) rfl
theorem q513 : (Jvm.Cond.code ({ cls := "ClaspedFair", name := "reads", desc := "(I)I" } : Jvm.MethodName) prog_1_method_7_code (3 : Nat) (Option.some Jvm.ClassFile.FieldType.int)) ∈ lw_all := lw_g (lw_at lw_m2 130 rfl) rfl
theorem q514 : (Jvm.Cond.classLink "ClaspedFair" (71 : Nat) "ClaspedFair$Reader") ∈ lw_all := lw_g (lw_at lw_m2 131 rfl) rfl
theorem q516 : (Jvm.Cond.methodLink "ClaspedFair" (73 : Nat) ({ cls := "ClaspedFair$Reader", name := "<init>", desc := "(LClaspedFair;I)V" } : Jvm.MethodName)) ∈ lw_all := lw_g (lw_at lw_m2 133 rfl) rfl
theorem q527 : (Jvm.Cond.fieldLinkNest "ClaspedFair" (109 : Nat) "ClaspedFair$Reader" "told" "I" "ClaspedFair") ∈ lw_tbl := lw_at lw_m2 144 rfl
theorem q549 : (Jvm.Cond.methodLink "ClaspedFair" (76 : Nat) ({ cls := "ClaspedFair$Reader", name := "law", desc := "()Ljava/util/ArrayList;" } : Jvm.MethodName)) ∈ lw_all := lw_g (lw_at lw_m2 166 rfl) rfl
theorem q720 : (Jvm.Cond.fieldLinkNest "ClaspedFair" (124 : Nat) "ClaspedFair$Fault" "kind" "I" "ClaspedFair") ∈ lw_tbl := lw_at lw_m3 97 rfl
theorem q722 : (Jvm.Cond.fieldLinkNest "ClaspedFair" (127 : Nat) "ClaspedFair$Fault" "place" "I" "ClaspedFair") ∈ lw_tbl := lw_at lw_m3 99 rfl
theorem q879 : (Jvm.Cond.selects "ClaspedFair" ({ cls := "java/lang/Object", name := "getClass", desc := "()Ljava/lang/Class;" } : Jvm.MethodName) ({ cls := "java/lang/Object", name := "getClass", desc := "()Ljava/lang/Class;" } : Jvm.MethodName)) ∈ lw_all := lw_g (lw_at lw_m4 16 rfl) rfl
theorem q913 : (Jvm.Cond.methodLink "ClaspedFair" (83 : Nat) ({ cls := "java/util/ArrayList", name := "size", desc := "()I" } : Jvm.MethodName)) ∈ lw_all := lw_g (lw_at lw_m4 50 rfl) rfl
theorem q914 : (Jvm.Cond.methodLink "ClaspedFair" (89 : Nat) ({ cls := "ClaspedFair$Reader", name := "fair", desc := "()Ljava/util/ArrayList;" } : Jvm.MethodName)) ∈ lw_all := lw_g (lw_at lw_m4 51 rfl) rfl
theorem q949 : (Jvm.Cond.methodLink "ClaspedFair" (94 : Nat) ({ cls := "ClaspedFair", name := "forgets", desc := "()Z" } : Jvm.MethodName)) ∈ lw_all := lw_g (lw_at lw_m4 86 rfl) rfl
theorem q950 : (Jvm.Cond.privateMethod ({ cls := "ClaspedFair", name := "forgets", desc := "()Z" } : Jvm.MethodName)) ∈ lw_tbl := lw_at lw_m4 87 rfl
theorem q951 : (Jvm.Cond.instanceMethod ({ cls := "ClaspedFair", name := "forgets", desc := "()Z" } : Jvm.MethodName)) ∈ lw_all := lw_g (lw_at lw_m4 88 rfl) rfl
theorem q952 : (Jvm.Cond.code ({ cls := "ClaspedFair", name := "forgets", desc := "()Z" } : Jvm.MethodName) prog_1_method_10_code (1 : Nat) (Option.some Jvm.ClassFile.FieldType.boolean)) ∈ lw_all := lw_g (lw_at lw_m4 89 rfl) rfl
theorem q953 : (Jvm.Cond.methodLink "ClaspedFair" (98 : Nat) ({ cls := "ClaspedFair$Reader", name := "habits", desc := "()Ljava/util/ArrayList;" } : Jvm.MethodName)) ∈ lw_all := lw_g (lw_at lw_m4 90 rfl) rfl
theorem q1011 : (Jvm.Cond.methodLink "ClaspedFair" (103 : Nat) ({ cls := "ClaspedFair$Reader", name := "kin", desc := "()[I" } : Jvm.MethodName)) ∈ lw_all := lw_g (lw_at lw_m4 148 rfl) rfl
theorem q1016 : (Jvm.Cond.instanceMethod ({ cls := "ClaspedFair", name := "fault", desc := "(I)I" } : Jvm.MethodName)) ∈ lw_all := lw_g (lw_at lw_m4 153 rfl) rfl
theorem q1017 : (Jvm.Cond.selects "ClaspedFair" ({ cls := "ClaspedFair", name := "fault", desc := "(I)I" } : Jvm.MethodName) ({ cls := "ClaspedFair", name := "fault", desc := "(I)I" } : Jvm.MethodName)) ∈ lw_all := lw_g (lw_at lw_m4 154 rfl) rfl
theorem q1018 : (Jvm.Cond.code ({ cls := "ClaspedFair", name := "fault", desc := "(I)I" } : Jvm.MethodName) prog_1_method_9_code (2 : Nat) (Option.some Jvm.ClassFile.FieldType.int)) ∈ lw_all := lw_g (lw_at lw_m4 155 rfl) rfl
theorem q1020 : (Jvm.Cond.instanceMethod ({ cls := "ClaspedFair", name := "undo", desc := "()Z" } : Jvm.MethodName)) ∈ lw_all := lw_g (lw_at lw_m4 157 rfl) rfl
theorem q1021 : (Jvm.Cond.selects "ClaspedFair" ({ cls := "ClaspedFair", name := "undo", desc := "()Z" } : Jvm.MethodName) ({ cls := "ClaspedFair", name := "undo", desc := "()Z" } : Jvm.MethodName)) ∈ lw_all := lw_g (lw_at lw_m4 158 rfl) rfl
theorem q1022 : (Jvm.Cond.code ({ cls := "ClaspedFair", name := "undo", desc := "()Z" } : Jvm.MethodName) prog_1_method_12_code (1 : Nat) (Option.some Jvm.ClassFile.FieldType.boolean)) ∈ lw_all := lw_g (lw_at lw_m4 159 rfl) rfl
theorem q1023 : (Jvm.Cond.methodLink "ClaspedFair" (133 : Nat) ({ cls := "ClaspedFair$Market", name := "moves", desc := "(LClaspedFair$Market;)V" } : Jvm.MethodName)) ∈ lw_all := lw_g (lw_at lw_m4 160 rfl) rfl
theorem q1040 : (Jvm.Cond.instanceMethod ({ cls := "ClaspedFair", name := "state", desc := "(I)I" } : Jvm.MethodName)) ∈ lw_all := lw_g (lw_at lw_m4 177 rfl) rfl
theorem q1041 : (Jvm.Cond.selects "ClaspedFair" ({ cls := "ClaspedFair", name := "state", desc := "(I)I" } : Jvm.MethodName) ({ cls := "ClaspedFair", name := "state", desc := "(I)I" } : Jvm.MethodName)) ∈ lw_all := lw_g (lw_at lw_m4 178 rfl) rfl
theorem q1042 : (Jvm.Cond.code ({ cls := "ClaspedFair", name := "state", desc := "(I)I" } : Jvm.MethodName) prog_1_method_17_code (3 : Nat) (Option.some Jvm.ClassFile.FieldType.int)) ∈ lw_all := lw_g (lw_at lw_m4 179 rfl) rfl
theorem q1044 : (Jvm.Cond.instanceMethod ({ cls := "ClaspedFair", name := "person", desc := "(II)I" } : Jvm.MethodName)) ∈ lw_all := lw_g (lw_at lw_m4 181 rfl) rfl
theorem q1045 : (Jvm.Cond.selects "ClaspedFair" ({ cls := "ClaspedFair", name := "person", desc := "(II)I" } : Jvm.MethodName) ({ cls := "ClaspedFair", name := "person", desc := "(II)I" } : Jvm.MethodName)) ∈ lw_all := lw_g (lw_at lw_m4 182 rfl) rfl
theorem q1046 : (Jvm.Cond.code ({ cls := "ClaspedFair", name := "person", desc := "(II)I" } : Jvm.MethodName) prog_1_method_18_code (3 : Nat) (Option.some Jvm.ClassFile.FieldType.int)) ∈ lw_all := lw_g (lw_at lw_m4 183 rfl) rfl
theorem q1047 : (Jvm.Cond.methodLink "ClaspedFair" (150 : Nat) ({ cls := "ClaspedFair", name := "at", desc := "(I)LClaspedFair$Person;" } : Jvm.MethodName)) ∈ lw_all := lw_g (lw_at lw_m4 184 rfl) rfl
theorem q1048 : (Jvm.Cond.privateMethod ({ cls := "ClaspedFair", name := "at", desc := "(I)LClaspedFair$Person;" } : Jvm.MethodName)) ∈ lw_tbl := lw_at lw_m4 185 rfl
theorem q1049 : (Jvm.Cond.instanceMethod ({ cls := "ClaspedFair", name := "at", desc := "(I)LClaspedFair$Person;" } : Jvm.MethodName)) ∈ lw_all := lw_g (lw_at lw_m4 186 rfl) rfl
theorem q1050 : (Jvm.Cond.code ({ cls := "ClaspedFair", name := "at", desc := "(I)LClaspedFair$Person;" } : Jvm.MethodName) prog_1_method_16_code (2 : Nat) (Option.some (Jvm.ClassFile.FieldType.object "ClaspedFair$Person"))) ∈ lw_all := lw_g (lw_at lw_m4 187 rfl) rfl
theorem q1051 : (Jvm.Cond.methodLink "ClaspedFair" (154 : Nat) ({ cls := "ClaspedFair$Person", name := "begins", desc := "(II)V" } : Jvm.MethodName)) ∈ lw_all := lw_g (lw_at lw_m4 188 rfl) rfl
theorem q1056 : (Jvm.Cond.instanceMethod ({ cls := "ClaspedFair", name := "horse", desc := "(III)I" } : Jvm.MethodName)) ∈ lw_all := lw_g (lw_at lw_m4 193 rfl) rfl
theorem q1057 : (Jvm.Cond.selects "ClaspedFair" ({ cls := "ClaspedFair", name := "horse", desc := "(III)I" } : Jvm.MethodName) ({ cls := "ClaspedFair", name := "horse", desc := "(III)I" } : Jvm.MethodName)) ∈ lw_all := lw_g (lw_at lw_m4 194 rfl) rfl
theorem q1058 : (Jvm.Cond.code ({ cls := "ClaspedFair", name := "horse", desc := "(III)I" } : Jvm.MethodName) prog_1_method_19_code (4 : Nat) (Option.some Jvm.ClassFile.FieldType.int)) ∈ lw_all := lw_g (lw_at lw_m4 195 rfl) rfl
theorem q1059 : (Jvm.Cond.methodLink "ClaspedFair" (160 : Nat) ({ cls := "ClaspedFair", name := "isPerson", desc := "(I)Z" } : Jvm.MethodName)) ∈ lw_all := lw_g (lw_at lw_m4 196 rfl) rfl
theorem q1060 : (Jvm.Cond.privateMethod ({ cls := "ClaspedFair", name := "isPerson", desc := "(I)Z" } : Jvm.MethodName)) ∈ lw_tbl := lw_at lw_m4 197 rfl
theorem q1061 : (Jvm.Cond.instanceMethod ({ cls := "ClaspedFair", name := "isPerson", desc := "(I)Z" } : Jvm.MethodName)) ∈ lw_all := lw_g (lw_at lw_m4 198 rfl) rfl
theorem q1062 : (Jvm.Cond.code ({ cls := "ClaspedFair", name := "isPerson", desc := "(I)Z" } : Jvm.MethodName) prog_1_method_13_code (2 : Nat) (Option.some Jvm.ClassFile.FieldType.boolean)) ∈ lw_all := lw_g (lw_at lw_m4 199 rfl) rfl
theorem q1063 : (Jvm.Cond.methodLink "ClaspedFair" (168 : Nat) ({ cls := "ClaspedFair$Horse", name := "begins", desc := "(III)V" } : Jvm.MethodName)) ∈ lw_all := lw_g (lw_at lw_m4 200 rfl) rfl
theorem q1065 : (Jvm.Cond.instanceMethod ({ cls := "ClaspedFair", name := "set", desc := "(III)Z" } : Jvm.MethodName)) ∈ lw_all := lw_g (lw_at lw_m4 202 rfl) rfl
theorem q1066 : (Jvm.Cond.selects "ClaspedFair" ({ cls := "ClaspedFair", name := "set", desc := "(III)Z" } : Jvm.MethodName) ({ cls := "ClaspedFair", name := "set", desc := "(III)Z" } : Jvm.MethodName)) ∈ lw_all := lw_g (lw_at lw_m4 203 rfl) rfl
theorem q1067 : (Jvm.Cond.code ({ cls := "ClaspedFair", name := "set", desc := "(III)Z" } : Jvm.MethodName) prog_1_method_21_code (4 : Nat) (Option.some Jvm.ClassFile.FieldType.boolean)) ∈ lw_all := lw_g (lw_at lw_m4 204 rfl) rfl
theorem q1068 : (Jvm.Cond.methodLink "ClaspedFair" (176 : Nat) ({ cls := "ClaspedFair", name := "canSet", desc := "(III)Z" } : Jvm.MethodName)) ∈ lw_all := lw_g (lw_at lw_m4 205 rfl) rfl
theorem q1069 : (Jvm.Cond.privateMethod ({ cls := "ClaspedFair", name := "canSet", desc := "(III)Z" } : Jvm.MethodName)) ∈ lw_tbl := lw_at lw_m4 206 rfl
theorem q1070 : (Jvm.Cond.instanceMethod ({ cls := "ClaspedFair", name := "canSet", desc := "(III)Z" } : Jvm.MethodName)) ∈ lw_all := lw_g (lw_at lw_m4 207 rfl) rfl
theorem q1071 : (Jvm.Cond.code ({ cls := "ClaspedFair", name := "canSet", desc := "(III)Z" } : Jvm.MethodName) prog_1_method_20_code (4 : Nat) (Option.some Jvm.ClassFile.FieldType.boolean)) ∈ lw_all := lw_g (lw_at lw_m4 208 rfl) rfl
theorem q1072 : (Jvm.Cond.methodLink "ClaspedFair" (173 : Nat) ({ cls := "ClaspedFair", name := "isHorse", desc := "(I)Z" } : Jvm.MethodName)) ∈ lw_all := lw_g (lw_at lw_m4 209 rfl) rfl
theorem q1073 : (Jvm.Cond.privateMethod ({ cls := "ClaspedFair", name := "isHorse", desc := "(I)Z" } : Jvm.MethodName)) ∈ lw_tbl := lw_at lw_m4 210 rfl
theorem q1074 : (Jvm.Cond.instanceMethod ({ cls := "ClaspedFair", name := "isHorse", desc := "(I)Z" } : Jvm.MethodName)) ∈ lw_all := lw_g (lw_at lw_m4 211 rfl) rfl
theorem q1075 : (Jvm.Cond.code ({ cls := "ClaspedFair", name := "isHorse", desc := "(I)Z" } : Jvm.MethodName) prog_1_method_14_code (2 : Nat) (Option.some Jvm.ClassFile.FieldType.boolean)) ∈ lw_all := lw_g (lw_at lw_m4 212 rfl) rfl
theorem q1077 : (Jvm.Cond.instanceMethod ({ cls := "ClaspedFair", name := "buys", desc := "(IIII)I" } : Jvm.MethodName)) ∈ lw_all := lw_g (lw_at lw_m4 214 rfl) rfl
theorem q1078 : (Jvm.Cond.selects "ClaspedFair" ({ cls := "ClaspedFair", name := "buys", desc := "(IIII)I" } : Jvm.MethodName) ({ cls := "ClaspedFair", name := "buys", desc := "(IIII)I" } : Jvm.MethodName)) ∈ lw_all := lw_g (lw_at lw_m4 215 rfl) rfl
theorem q1079 : (Jvm.Cond.code ({ cls := "ClaspedFair", name := "buys", desc := "(IIII)I" } : Jvm.MethodName) prog_1_method_23_code (5 : Nat) (Option.some Jvm.ClassFile.FieldType.int)) ∈ lw_all := lw_g (lw_at lw_m4 216 rfl) rfl
theorem q1080 : (Jvm.Cond.methodLink "ClaspedFair" (194 : Nat) ({ cls := "ClaspedFair", name := "canTell", desc := "(IIII)Z" } : Jvm.MethodName)) ∈ lw_all := lw_g (lw_at lw_m4 217 rfl) rfl
theorem q1081 : (Jvm.Cond.privateMethod ({ cls := "ClaspedFair", name := "canTell", desc := "(IIII)Z" } : Jvm.MethodName)) ∈ lw_tbl := lw_at lw_m4 218 rfl
theorem q1082 : (Jvm.Cond.instanceMethod ({ cls := "ClaspedFair", name := "canTell", desc := "(IIII)Z" } : Jvm.MethodName)) ∈ lw_all := lw_g (lw_at lw_m4 219 rfl) rfl
theorem q1083 : (Jvm.Cond.code ({ cls := "ClaspedFair", name := "canTell", desc := "(IIII)Z" } : Jvm.MethodName) prog_1_method_22_code (5 : Nat) (Option.some Jvm.ClassFile.FieldType.boolean)) ∈ lw_all := lw_g (lw_at lw_m4 220 rfl) rfl
theorem q1084 : (Jvm.Cond.methodLink "ClaspedFair" (191 : Nat) ({ cls := "ClaspedFair", name := "isGrip", desc := "(I)Z" } : Jvm.MethodName)) ∈ lw_all := lw_g (lw_at lw_m4 221 rfl) rfl
theorem q1085 : (Jvm.Cond.static ({ cls := "ClaspedFair", name := "isGrip", desc := "(I)Z" } : Jvm.MethodName)) ∈ lw_all := lw_g (lw_at lw_m4 222 rfl) rfl
theorem q1086 : (Jvm.Cond.code ({ cls := "ClaspedFair", name := "isGrip", desc := "(I)Z" } : Jvm.MethodName) prog_1_method_15_code (1 : Nat) (Option.some Jvm.ClassFile.FieldType.boolean)) ∈ lw_all := lw_g (lw_at lw_m4 223 rfl) rfl
theorem q1087 : (Jvm.Cond.methodLink "ClaspedFair" (198 : Nat) ({ cls := "ClaspedFair$Market", name := "canBuy", desc := "(IIII)Z" } : Jvm.MethodName)) ∈ lw_all := lw_g (lw_at lw_m4 224 rfl) rfl
theorem q1150 : (Jvm.Cond.static ({ cls := "ClaspedFair", name := "bound", desc := "(III)I" } : Jvm.MethodName)) ∈ lw_all := lw_g (lw_at lw_m5 47 rfl) rfl
theorem q1151 : (Jvm.Cond.code ({ cls := "ClaspedFair", name := "bound", desc := "(III)I" } : Jvm.MethodName) prog_1_method_3_code (3 : Nat) (Option.some Jvm.ClassFile.FieldType.int)) ∈ lw_all := lw_g (lw_at lw_m5 48 rfl) rfl
theorem q1152 : (Jvm.Cond.methodLink "ClaspedFair" (51 : Nat) ({ cls := "java/lang/Math", name := "min", desc := "(II)I" } : Jvm.MethodName)) ∈ lw_all := lw_g (lw_at lw_m5 49 rfl) rfl
theorem q1153 : (Jvm.Cond.methodLink "ClaspedFair" (57 : Nat) ({ cls := "java/lang/Math", name := "max", desc := "(II)I" } : Jvm.MethodName)) ∈ lw_all := lw_g (lw_at lw_m5 50 rfl) rfl
theorem q1154 : (Jvm.Cond.methodLink "ClaspedFair" (201 : Nat) ({ cls := "ClaspedFair", name := "remembers", desc := "()V" } : Jvm.MethodName)) ∈ lw_all := lw_g (lw_at lw_m5 51 rfl) rfl
theorem q1155 : (Jvm.Cond.privateMethod ({ cls := "ClaspedFair", name := "remembers", desc := "()V" } : Jvm.MethodName)) ∈ lw_tbl := lw_at lw_m5 52 rfl
theorem q1156 : (Jvm.Cond.instanceMethod ({ cls := "ClaspedFair", name := "remembers", desc := "()V" } : Jvm.MethodName)) ∈ lw_all := lw_g (lw_at lw_m5 53 rfl) rfl
theorem q1157 : (Jvm.Cond.code ({ cls := "ClaspedFair", name := "remembers", desc := "()V" } : Jvm.MethodName) prog_1_method_11_code (3 : Nat) (Option.none : Option Jvm.ClassFile.FieldType)) ∈ lw_all := lw_g (lw_at lw_m5 54 rfl) rfl
theorem q1158 : (Jvm.Cond.methodLink "ClaspedFair" (204 : Nat) ({ cls := "ClaspedFair$Market", name := "buys", desc := "(I)I" } : Jvm.MethodName)) ∈ lw_all := lw_g (lw_at lw_m5 55 rfl) rfl
theorem q1198 : (Jvm.Cond.instanceMethod ({ cls := "ClaspedFair", name := "clasp", desc := "(III)I" } : Jvm.MethodName)) ∈ lw_all := lw_g (lw_at lw_m5 95 rfl) rfl
theorem q1199 : (Jvm.Cond.selects "ClaspedFair" ({ cls := "ClaspedFair", name := "clasp", desc := "(III)I" } : Jvm.MethodName) ({ cls := "ClaspedFair", name := "clasp", desc := "(III)I" } : Jvm.MethodName)) ∈ lw_all := lw_g (lw_at lw_m5 96 rfl) rfl
theorem q1200 : (Jvm.Cond.code ({ cls := "ClaspedFair", name := "clasp", desc := "(III)I" } : Jvm.MethodName) prog_1_method_24_code (4 : Nat) (Option.some Jvm.ClassFile.FieldType.int)) ∈ lw_all := lw_g (lw_at lw_m5 97 rfl) rfl
theorem q1201 : (Jvm.Cond.methodLink "ClaspedFair" (207 : Nat) ({ cls := "ClaspedFair$Market", name := "canClasp", desc := "(III)Z" } : Jvm.MethodName)) ∈ lw_all := lw_g (lw_at lw_m5 98 rfl) rfl
theorem q1205 : (Jvm.Cond.methodLink "ClaspedFair" (210 : Nat) ({ cls := "ClaspedFair$Market", name := "claspsThem", desc := "()I" } : Jvm.MethodName)) ∈ lw_all := lw_g (lw_at lw_m5 102 rfl) rfl
theorem q1210 : (Jvm.Cond.instanceMethod ({ cls := "ClaspedFair", name := "hand", desc := "(II)Z" } : Jvm.MethodName)) ∈ lw_all := lw_g (lw_at lw_m5 107 rfl) rfl
theorem q1211 : (Jvm.Cond.selects "ClaspedFair" ({ cls := "ClaspedFair", name := "hand", desc := "(II)Z" } : Jvm.MethodName) ({ cls := "ClaspedFair", name := "hand", desc := "(II)Z" } : Jvm.MethodName)) ∈ lw_all := lw_g (lw_at lw_m5 108 rfl) rfl
theorem q1212 : (Jvm.Cond.code ({ cls := "ClaspedFair", name := "hand", desc := "(II)Z" } : Jvm.MethodName) prog_1_method_25_code (3 : Nat) (Option.some Jvm.ClassFile.FieldType.boolean)) ∈ lw_all := lw_g (lw_at lw_m5 109 rfl) rfl
theorem q1214 : (Jvm.Cond.instanceMethod ({ cls := "ClaspedFair", name := "days", desc := "(I)I" } : Jvm.MethodName)) ∈ lw_all := lw_g (lw_at lw_m5 111 rfl) rfl
theorem q1215 : (Jvm.Cond.selects "ClaspedFair" ({ cls := "ClaspedFair", name := "days", desc := "(I)I" } : Jvm.MethodName) ({ cls := "ClaspedFair", name := "days", desc := "(I)I" } : Jvm.MethodName)) ∈ lw_all := lw_g (lw_at lw_m5 112 rfl) rfl
theorem q1216 : (Jvm.Cond.code ({ cls := "ClaspedFair", name := "days", desc := "(I)I" } : Jvm.MethodName) prog_1_method_26_code (4 : Nat) (Option.some Jvm.ClassFile.FieldType.int)) ∈ lw_all := lw_g (lw_at lw_m5 113 rfl) rfl
theorem q1217 : (Jvm.Cond.methodLink "ClaspedFair" (219 : Nat) ({ cls := "ClaspedFair$Market", name := "passes", desc := "()I" } : Jvm.MethodName)) ∈ lw_all := lw_g (lw_at lw_m5 114 rfl) rfl
theorem q1254 : (Jvm.Cond.instanceMethod ({ cls := "ClaspedFair", name := "of", desc := "(II)I" } : Jvm.MethodName)) ∈ lw_all := lw_g (lw_at lw_m5 151 rfl) rfl
theorem q1255 : (Jvm.Cond.selects "ClaspedFair" ({ cls := "ClaspedFair", name := "of", desc := "(II)I" } : Jvm.MethodName) ({ cls := "ClaspedFair", name := "of", desc := "(II)I" } : Jvm.MethodName)) ∈ lw_all := lw_g (lw_at lw_m5 152 rfl) rfl
theorem q1256 : (Jvm.Cond.code ({ cls := "ClaspedFair", name := "of", desc := "(II)I" } : Jvm.MethodName) prog_1_method_27_code (4 : Nat) (Option.some Jvm.ClassFile.FieldType.int)) ∈ lw_all := lw_g (lw_at lw_m5 153 rfl) rfl
theorem q1258 : (Jvm.Cond.instanceMethod ({ cls := "ClaspedFair", name := "horseOf", desc := "(II)I" } : Jvm.MethodName)) ∈ lw_all := lw_g (lw_at lw_m5 155 rfl) rfl
theorem q1259 : (Jvm.Cond.selects "ClaspedFair" ({ cls := "ClaspedFair", name := "horseOf", desc := "(II)I" } : Jvm.MethodName) ({ cls := "ClaspedFair", name := "horseOf", desc := "(II)I" } : Jvm.MethodName)) ∈ lw_all := lw_g (lw_at lw_m5 156 rfl) rfl
theorem q1260 : (Jvm.Cond.code ({ cls := "ClaspedFair", name := "horseOf", desc := "(II)I" } : Jvm.MethodName) prog_1_method_28_code (4 : Nat) (Option.some Jvm.ClassFile.FieldType.int)) ∈ lw_all := lw_g (lw_at lw_m5 157 rfl) rfl
theorem q1262 : (Jvm.Cond.instanceMethod ({ cls := "ClaspedFair", name := "passes", desc := "(IIII)I" } : Jvm.MethodName)) ∈ lw_all := lw_g (lw_at lw_m5 159 rfl) rfl
theorem q1263 : (Jvm.Cond.selects "ClaspedFair" ({ cls := "ClaspedFair", name := "passes", desc := "(IIII)I" } : Jvm.MethodName) ({ cls := "ClaspedFair", name := "passes", desc := "(IIII)I" } : Jvm.MethodName)) ∈ lw_all := lw_g (lw_at lw_m5 160 rfl) rfl
theorem q1264 : (Jvm.Cond.code ({ cls := "ClaspedFair", name := "passes", desc := "(IIII)I" } : Jvm.MethodName) prog_1_method_30_code (5 : Nat) (Option.some Jvm.ClassFile.FieldType.int)) ∈ lw_all := lw_g (lw_at lw_m5 161 rfl) rfl
theorem q1265 : (Jvm.Cond.methodLink "ClaspedFair" (231 : Nat) ({ cls := "ClaspedFair", name := "areTwo", desc := "(III)Z" } : Jvm.MethodName)) ∈ lw_all := lw_g (lw_at lw_m5 162 rfl) rfl
theorem q1266 : (Jvm.Cond.privateMethod ({ cls := "ClaspedFair", name := "areTwo", desc := "(III)Z" } : Jvm.MethodName)) ∈ lw_tbl := lw_at lw_m5 163 rfl
theorem q1267 : (Jvm.Cond.instanceMethod ({ cls := "ClaspedFair", name := "areTwo", desc := "(III)Z" } : Jvm.MethodName)) ∈ lw_all := lw_g (lw_at lw_m5 164 rfl) rfl
theorem q1268 : (Jvm.Cond.code ({ cls := "ClaspedFair", name := "areTwo", desc := "(III)Z" } : Jvm.MethodName) prog_1_method_29_code (4 : Nat) (Option.some Jvm.ClassFile.FieldType.boolean)) ∈ lw_all := lw_g (lw_at lw_m5 165 rfl) rfl
theorem q1269 : (Jvm.Cond.methodLink "ClaspedFair" (238 : Nat) ({ cls := "ClaspedFair$Grip", name := "begins", desc := "(IIIILClaspedFair$Horse;)V" } : Jvm.MethodName)) ∈ lw_all := lw_g (lw_at lw_m5 166 rfl) rfl
theorem q1270 : (Jvm.Cond.methodLink "ClaspedFair" (243 : Nat) ({ cls := "ClaspedFair$Market", name := "passes", desc := "(III)I" } : Jvm.MethodName)) ∈ lw_all := lw_g (lw_at lw_m5 167 rfl) rfl
theorem q1272 : (Jvm.Cond.instanceMethod ({ cls := "ClaspedFair", name := "holds", desc := "(III)I" } : Jvm.MethodName)) ∈ lw_all := lw_g (lw_at lw_m5 169 rfl) rfl
theorem q1273 : (Jvm.Cond.selects "ClaspedFair" ({ cls := "ClaspedFair", name := "holds", desc := "(III)I" } : Jvm.MethodName) ({ cls := "ClaspedFair", name := "holds", desc := "(III)I" } : Jvm.MethodName)) ∈ lw_all := lw_g (lw_at lw_m5 170 rfl) rfl
theorem q1274 : (Jvm.Cond.code ({ cls := "ClaspedFair", name := "holds", desc := "(III)I" } : Jvm.MethodName) prog_1_method_31_code (4 : Nat) (Option.some Jvm.ClassFile.FieldType.int)) ∈ lw_all := lw_g (lw_at lw_m5 171 rfl) rfl
theorem q1275 : (Jvm.Cond.methodLink "ClaspedFair" (246 : Nat) ({ cls := "ClaspedFair$Market", name := "holds", desc := "(II)I" } : Jvm.MethodName)) ∈ lw_all := lw_g (lw_at lw_m5 172 rfl) rfl
theorem q1277 : (Jvm.Cond.instanceMethod ({ cls := "ClaspedFair", name := "asks", desc := "(III)I" } : Jvm.MethodName)) ∈ lw_all := lw_g (lw_at lw_m5 174 rfl) rfl
theorem q1278 : (Jvm.Cond.selects "ClaspedFair" ({ cls := "ClaspedFair", name := "asks", desc := "(III)I" } : Jvm.MethodName) ({ cls := "ClaspedFair", name := "asks", desc := "(III)I" } : Jvm.MethodName)) ∈ lw_all := lw_g (lw_at lw_m5 175 rfl) rfl
theorem q1279 : (Jvm.Cond.code ({ cls := "ClaspedFair", name := "asks", desc := "(III)I" } : Jvm.MethodName) prog_1_method_32_code (5 : Nat) (Option.some Jvm.ClassFile.FieldType.int)) ∈ lw_all := lw_g (lw_at lw_m5 176 rfl) rfl
theorem q1280 : (Jvm.Cond.methodLink "ClaspedFair" (249 : Nat) ({ cls := "ClaspedFair$Market", name := "asks", desc := "(II)I" } : Jvm.MethodName)) ∈ lw_all := lw_g (lw_at lw_m5 177 rfl) rfl
theorem q1282 : (Jvm.Cond.instanceMethod ({ cls := "ClaspedFair", name := "book", desc := "(II)I" } : Jvm.MethodName)) ∈ lw_all := lw_g (lw_at lw_m5 179 rfl) rfl
theorem q1283 : (Jvm.Cond.selects "ClaspedFair" ({ cls := "ClaspedFair", name := "book", desc := "(II)I" } : Jvm.MethodName) ({ cls := "ClaspedFair", name := "book", desc := "(II)I" } : Jvm.MethodName)) ∈ lw_all := lw_g (lw_at lw_m5 180 rfl) rfl
theorem q1284 : (Jvm.Cond.code ({ cls := "ClaspedFair", name := "book", desc := "(II)I" } : Jvm.MethodName) prog_1_method_33_code (3 : Nat) (Option.some Jvm.ClassFile.FieldType.int)) ∈ lw_all := lw_g (lw_at lw_m5 181 rfl) rfl
theorem q1286 : (Jvm.Cond.instanceMethod ({ cls := "ClaspedFair", name := "goes", desc := "(II)I" } : Jvm.MethodName)) ∈ lw_all := lw_g (lw_at lw_m5 183 rfl) rfl
theorem q1287 : (Jvm.Cond.selects "ClaspedFair" ({ cls := "ClaspedFair", name := "goes", desc := "(II)I" } : Jvm.MethodName) ({ cls := "ClaspedFair", name := "goes", desc := "(II)I" } : Jvm.MethodName)) ∈ lw_all := lw_g (lw_at lw_m5 184 rfl) rfl
theorem q1288 : (Jvm.Cond.code ({ cls := "ClaspedFair", name := "goes", desc := "(II)I" } : Jvm.MethodName) prog_1_method_34_code (5 : Nat) (Option.some Jvm.ClassFile.FieldType.int)) ∈ lw_all := lw_g (lw_at lw_m5 185 rfl) rfl
theorem q1289 : (Jvm.Cond.methodLink "ClaspedFair" (259 : Nat) ({ cls := "ClaspedFair$Market", name := "thinks", desc := "(LClaspedFair$Market;)V" } : Jvm.MethodName)) ∈ lw_all := lw_g (lw_at lw_m5 186 rfl) rfl
theorem q1295 : (Jvm.Cond.instanceMethod ({ cls := "ClaspedFair", name := "would", desc := "(IIII)I" } : Jvm.MethodName)) ∈ lw_all := lw_g (lw_at lw_m5 192 rfl) rfl
theorem q1296 : (Jvm.Cond.selects "ClaspedFair" ({ cls := "ClaspedFair", name := "would", desc := "(IIII)I" } : Jvm.MethodName) ({ cls := "ClaspedFair", name := "would", desc := "(IIII)I" } : Jvm.MethodName)) ∈ lw_all := lw_g (lw_at lw_m5 193 rfl) rfl
theorem q1297 : (Jvm.Cond.code ({ cls := "ClaspedFair", name := "would", desc := "(IIII)I" } : Jvm.MethodName) prog_1_method_35_code (5 : Nat) (Option.some Jvm.ClassFile.FieldType.int)) ∈ lw_all := lw_g (lw_at lw_m5 194 rfl) rfl
theorem q1299 : (Jvm.Cond.instanceMethod ({ cls := "ClaspedFair", name := "told", desc := "(II)I" } : Jvm.MethodName)) ∈ lw_all := lw_g (lw_at lw_m5 196 rfl) rfl
theorem q1300 : (Jvm.Cond.selects "ClaspedFair" ({ cls := "ClaspedFair", name := "told", desc := "(II)I" } : Jvm.MethodName) ({ cls := "ClaspedFair", name := "told", desc := "(II)I" } : Jvm.MethodName)) ∈ lw_all := lw_g (lw_at lw_m5 197 rfl) rfl
theorem q1301 : (Jvm.Cond.code ({ cls := "ClaspedFair", name := "told", desc := "(II)I" } : Jvm.MethodName) prog_1_method_36_code (3 : Nat) (Option.some Jvm.ClassFile.FieldType.int)) ∈ lw_all := lw_g (lw_at lw_m5 198 rfl) rfl
theorem q1302 : (Jvm.Cond.methodLink "ClaspedFair" (272 : Nat) ({ cls := "ClaspedFair$Rows", name := "ends", desc := "()I" } : Jvm.MethodName)) ∈ lw_all := lw_g (lw_at lw_m5 199 rfl) rfl
theorem q1306 : (Jvm.Cond.methodLink "ClaspedFair" (277 : Nat) ({ cls := "ClaspedFair$Rows", name := "tells", desc := "(II)I" } : Jvm.MethodName)) ∈ lw_all := lw_g (lw_at lw_m5 203 rfl) rfl
theorem q1311 : (Jvm.Cond.instanceMethod ({ cls := "ClaspedFair", name := "came", desc := "(II)I" } : Jvm.MethodName)) ∈ lw_all := lw_g (lw_at lw_m5 208 rfl) rfl
theorem q1312 : (Jvm.Cond.selects "ClaspedFair" ({ cls := "ClaspedFair", name := "came", desc := "(II)I" } : Jvm.MethodName) ({ cls := "ClaspedFair", name := "came", desc := "(II)I" } : Jvm.MethodName)) ∈ lw_all := lw_g (lw_at lw_m5 209 rfl) rfl
theorem q1313 : (Jvm.Cond.code ({ cls := "ClaspedFair", name := "came", desc := "(II)I" } : Jvm.MethodName) prog_1_method_38_code (6 : Nat) (Option.some Jvm.ClassFile.FieldType.int)) ∈ lw_all := lw_g (lw_at lw_m5 210 rfl) rfl
theorem q1314 : (Jvm.Cond.methodLink "ClaspedFair" (286 : Nat) ({ cls := "ClaspedFair", name := "odd", desc := "()I" } : Jvm.MethodName)) ∈ lw_all := lw_g (lw_at lw_m5 211 rfl) rfl
theorem q1315 : (Jvm.Cond.privateMethod ({ cls := "ClaspedFair", name := "odd", desc := "()I" } : Jvm.MethodName)) ∈ lw_tbl := lw_at lw_m5 212 rfl
theorem q1316 : (Jvm.Cond.instanceMethod ({ cls := "ClaspedFair", name := "odd", desc := "()I" } : Jvm.MethodName)) ∈ lw_all := lw_g (lw_at lw_m5 213 rfl) rfl
theorem q1317 : (Jvm.Cond.code ({ cls := "ClaspedFair", name := "odd", desc := "()I" } : Jvm.MethodName) prog_1_method_37_code (3 : Nat) (Option.some Jvm.ClassFile.FieldType.int)) ∈ lw_all := lw_g (lw_at lw_m5 214 rfl) rfl
theorem q1319 : (Jvm.Cond.instanceMethod ({ cls := "ClaspedFair", name := "number", desc := "(I)I" } : Jvm.MethodName)) ∈ lw_all := lw_g (lw_at lw_m5 216 rfl) rfl
theorem q1320 : (Jvm.Cond.selects "ClaspedFair" ({ cls := "ClaspedFair", name := "number", desc := "(I)I" } : Jvm.MethodName) ({ cls := "ClaspedFair", name := "number", desc := "(I)I" } : Jvm.MethodName)) ∈ lw_all := lw_g (lw_at lw_m5 217 rfl) rfl
theorem q1321 : (Jvm.Cond.code ({ cls := "ClaspedFair", name := "number", desc := "(I)I" } : Jvm.MethodName) prog_1_method_39_code (2 : Nat) (Option.some Jvm.ClassFile.FieldType.int)) ∈ lw_all := lw_g (lw_at lw_m5 218 rfl) rfl
theorem q1323 : (Jvm.Cond.instanceMethod ({ cls := "ClaspedFair", name := "could", desc := "()I" } : Jvm.MethodName)) ∈ lw_all := lw_g (lw_at lw_m5 220 rfl) rfl
theorem q1324 : (Jvm.Cond.selects "ClaspedFair" ({ cls := "ClaspedFair", name := "could", desc := "()I" } : Jvm.MethodName) ({ cls := "ClaspedFair", name := "could", desc := "()I" } : Jvm.MethodName)) ∈ lw_all := lw_g (lw_at lw_m5 221 rfl) rfl
theorem q1325 : (Jvm.Cond.code ({ cls := "ClaspedFair", name := "could", desc := "()I" } : Jvm.MethodName) prog_1_method_40_code (10 : Nat) (Option.some Jvm.ClassFile.FieldType.int)) ∈ lw_all := lw_g (lw_at lw_m5 222 rfl) rfl
theorem q1326 : (Jvm.Cond.methodLink "ClaspedFair" (292 : Nat) ({ cls := "ClaspedFair$Rows", name := "first", desc := "(I)I" } : Jvm.MethodName)) ∈ lw_all := lw_g (lw_at lw_m5 223 rfl) rfl
theorem q1332 : (Jvm.Cond.instanceMethod ({ cls := "ClaspedFair", name := "ring", desc := "(I)I" } : Jvm.MethodName)) ∈ lw_all := lw_g (lw_at lw_m5 229 rfl) rfl
theorem q1333 : (Jvm.Cond.selects "ClaspedFair" ({ cls := "ClaspedFair", name := "ring", desc := "(I)I" } : Jvm.MethodName) ({ cls := "ClaspedFair", name := "ring", desc := "(I)I" } : Jvm.MethodName)) ∈ lw_all := lw_g (lw_at lw_m5 230 rfl) rfl
theorem q1334 : (Jvm.Cond.code ({ cls := "ClaspedFair", name := "ring", desc := "(I)I" } : Jvm.MethodName) prog_1_method_41_code (4 : Nat) (Option.some Jvm.ClassFile.FieldType.int)) ∈ lw_all := lw_g (lw_at lw_m5 231 rfl) rfl
theorem q1335 : (Jvm.Cond.constantLong "ClaspedFair" (295 : Nat) (1000000007 : Int64)) ∈ lw_all := lw_g (lw_at lw_m5 232 rfl) rfl
theorem q1337 : (Jvm.Cond.instanceMethod ({ cls := "ClaspedFair", name := "pairs", desc := "(I)I" } : Jvm.MethodName)) ∈ lw_all := lw_g (lw_at lw_m5 234 rfl) rfl
theorem q1338 : (Jvm.Cond.selects "ClaspedFair" ({ cls := "ClaspedFair", name := "pairs", desc := "(I)I" } : Jvm.MethodName) ({ cls := "ClaspedFair", name := "pairs", desc := "(I)I" } : Jvm.MethodName)) ∈ lw_all := lw_g (lw_at lw_m5 235 rfl) rfl
theorem q1339 : (Jvm.Cond.code ({ cls := "ClaspedFair", name := "pairs", desc := "(I)I" } : Jvm.MethodName) prog_1_method_44_code (6 : Nat) (Option.some Jvm.ClassFile.FieldType.int)) ∈ lw_all := lw_g (lw_at lw_m5 236 rfl) rfl
theorem q1340 : (Jvm.Cond.methodLink "ClaspedFair" (302 : Nat) ({ cls := "ClaspedFair", name := "mostPairs", desc := "(I)I" } : Jvm.MethodName)) ∈ lw_all := lw_g (lw_at lw_m5 237 rfl) rfl
theorem q1341 : (Jvm.Cond.privateMethod ({ cls := "ClaspedFair", name := "mostPairs", desc := "(I)I" } : Jvm.MethodName)) ∈ lw_tbl := lw_at lw_m5 238 rfl
theorem q1342 : (Jvm.Cond.instanceMethod ({ cls := "ClaspedFair", name := "mostPairs", desc := "(I)I" } : Jvm.MethodName)) ∈ lw_all := lw_g (lw_at lw_m5 239 rfl) rfl
theorem q1343 : (Jvm.Cond.code ({ cls := "ClaspedFair", name := "mostPairs", desc := "(I)I" } : Jvm.MethodName) prog_1_method_42_code (5 : Nat) (Option.some Jvm.ClassFile.FieldType.int)) ∈ lw_all := lw_g (lw_at lw_m6 0 rfl) rfl
theorem q1344 : (Jvm.Cond.methodLink "ClaspedFair" (297 : Nat) ({ cls := "java/lang/Integer", name := "numberOfTrailingZeros", desc := "(I)I" } : Jvm.MethodName)) ∈ lw_all := lw_g (lw_at lw_m6 1 rfl) rfl
theorem q1348 : (Jvm.Cond.methodLink "ClaspedFair" (305 : Nat) ({ cls := "ClaspedFair", name := "partner", desc := "(I)I" } : Jvm.MethodName)) ∈ lw_all := lw_g (lw_at lw_m6 5 rfl) rfl
theorem q1349 : (Jvm.Cond.privateMethod ({ cls := "ClaspedFair", name := "partner", desc := "(I)I" } : Jvm.MethodName)) ∈ lw_tbl := lw_at lw_m6 6 rfl
theorem q1350 : (Jvm.Cond.instanceMethod ({ cls := "ClaspedFair", name := "partner", desc := "(I)I" } : Jvm.MethodName)) ∈ lw_all := lw_g (lw_at lw_m6 7 rfl) rfl
theorem q1351 : (Jvm.Cond.code ({ cls := "ClaspedFair", name := "partner", desc := "(I)I" } : Jvm.MethodName) prog_1_method_43_code (4 : Nat) (Option.some Jvm.ClassFile.FieldType.int)) ∈ lw_all := lw_g (lw_at lw_m6 8 rfl) rfl
theorem q1353 : (Jvm.Cond.instanceMethod ({ cls := "ClaspedFair", name := "walk", desc := "(I)I" } : Jvm.MethodName)) ∈ lw_all := lw_g (lw_at lw_m6 10 rfl) rfl
theorem q1354 : (Jvm.Cond.selects "ClaspedFair" ({ cls := "ClaspedFair", name := "walk", desc := "(I)I" } : Jvm.MethodName) ({ cls := "ClaspedFair", name := "walk", desc := "(I)I" } : Jvm.MethodName)) ∈ lw_all := lw_g (lw_at lw_m6 11 rfl) rfl
theorem q1355 : (Jvm.Cond.code ({ cls := "ClaspedFair", name := "walk", desc := "(I)I" } : Jvm.MethodName) prog_1_method_48_code (6 : Nat) (Option.some Jvm.ClassFile.FieldType.int)) ∈ lw_all := lw_g (lw_at lw_m6 12 rfl) rfl
theorem q1356 : (Jvm.Cond.methodLink "ClaspedFair" (311 : Nat) ({ cls := "ClaspedFair", name := "withKin", desc := "()I" } : Jvm.MethodName)) ∈ lw_all := lw_g (lw_at lw_m6 13 rfl) rfl
theorem q1357 : (Jvm.Cond.privateMethod ({ cls := "ClaspedFair", name := "withKin", desc := "()I" } : Jvm.MethodName)) ∈ lw_tbl := lw_at lw_m6 14 rfl
theorem q1358 : (Jvm.Cond.instanceMethod ({ cls := "ClaspedFair", name := "withKin", desc := "()I" } : Jvm.MethodName)) ∈ lw_all := lw_g (lw_at lw_m6 15 rfl) rfl
theorem q1359 : (Jvm.Cond.code ({ cls := "ClaspedFair", name := "withKin", desc := "()I" } : Jvm.MethodName) prog_1_method_46_code (3 : Nat) (Option.some Jvm.ClassFile.FieldType.int)) ∈ lw_all := lw_g (lw_at lw_m6 16 rfl) rfl
theorem q1360 : (Jvm.Cond.methodLink "ClaspedFair" (314 : Nat) ({ cls := "ClaspedFair", name := "besideKin", desc := "(I)I" } : Jvm.MethodName)) ∈ lw_all := lw_g (lw_at lw_m6 17 rfl) rfl
theorem q1361 : (Jvm.Cond.privateMethod ({ cls := "ClaspedFair", name := "besideKin", desc := "(I)I" } : Jvm.MethodName)) ∈ lw_tbl := lw_at lw_m6 18 rfl
theorem q1362 : (Jvm.Cond.instanceMethod ({ cls := "ClaspedFair", name := "besideKin", desc := "(I)I" } : Jvm.MethodName)) ∈ lw_all := lw_g (lw_at lw_m6 19 rfl) rfl
theorem q1363 : (Jvm.Cond.code ({ cls := "ClaspedFair", name := "besideKin", desc := "(I)I" } : Jvm.MethodName) prog_1_method_45_code (4 : Nat) (Option.some Jvm.ClassFile.FieldType.int)) ∈ lw_all := lw_g (lw_at lw_m6 20 rfl) rfl
theorem q1364 : (Jvm.Cond.methodLink "ClaspedFair" (317 : Nat) ({ cls := "ClaspedFair", name := "oddKin", desc := "()I" } : Jvm.MethodName)) ∈ lw_all := lw_g (lw_at lw_m6 21 rfl) rfl
theorem q1365 : (Jvm.Cond.privateMethod ({ cls := "ClaspedFair", name := "oddKin", desc := "()I" } : Jvm.MethodName)) ∈ lw_tbl := lw_at lw_m6 22 rfl
theorem q1366 : (Jvm.Cond.instanceMethod ({ cls := "ClaspedFair", name := "oddKin", desc := "()I" } : Jvm.MethodName)) ∈ lw_all := lw_g (lw_at lw_m6 23 rfl) rfl
theorem q1367 : (Jvm.Cond.code ({ cls := "ClaspedFair", name := "oddKin", desc := "()I" } : Jvm.MethodName) prog_1_method_47_code (3 : Nat) (Option.some Jvm.ClassFile.FieldType.int)) ∈ lw_all := lw_g (lw_at lw_m6 24 rfl) rfl
theorem q1368 : (Jvm.Cond.methodLink "ClaspedFair" (308 : Nat) ({ cls := "java/lang/Integer", name := "bitCount", desc := "(I)I" } : Jvm.MethodName)) ∈ lw_all := lw_g (lw_at lw_m6 25 rfl) rfl
theorem q1375 : (Jvm.Cond.instanceMethod ({ cls := "ClaspedFair", name := "cold", desc := "(II)I" } : Jvm.MethodName)) ∈ lw_all := lw_g (lw_at lw_m6 32 rfl) rfl
theorem q1376 : (Jvm.Cond.selects "ClaspedFair" ({ cls := "ClaspedFair", name := "cold", desc := "(II)I" } : Jvm.MethodName) ({ cls := "ClaspedFair", name := "cold", desc := "(II)I" } : Jvm.MethodName)) ∈ lw_all := lw_g (lw_at lw_m6 33 rfl) rfl
theorem q1377 : (Jvm.Cond.code ({ cls := "ClaspedFair", name := "cold", desc := "(II)I" } : Jvm.MethodName) prog_1_method_49_code (5 : Nat) (Option.some Jvm.ClassFile.FieldType.int)) ∈ lw_all := lw_g (lw_at lw_m6 34 rfl) rfl
theorem q1379 : (Jvm.Cond.instanceMethod ({ cls := "ClaspedFair", name := "prices", desc := "(III)I" } : Jvm.MethodName)) ∈ lw_all := lw_g (lw_at lw_m6 36 rfl) rfl
theorem q1380 : (Jvm.Cond.selects "ClaspedFair" ({ cls := "ClaspedFair", name := "prices", desc := "(III)I" } : Jvm.MethodName) ({ cls := "ClaspedFair", name := "prices", desc := "(III)I" } : Jvm.MethodName)) ∈ lw_all := lw_g (lw_at lw_m6 37 rfl) rfl
theorem q1381 : (Jvm.Cond.code ({ cls := "ClaspedFair", name := "prices", desc := "(III)I" } : Jvm.MethodName) prog_1_method_51_code (4 : Nat) (Option.some Jvm.ClassFile.FieldType.int)) ∈ lw_all := lw_g (lw_at lw_m6 38 rfl) rfl
theorem q1382 : (Jvm.Cond.methodLink "ClaspedFair" (320 : Nat) ({ cls := "ClaspedFair", name := "common", desc := "(II)I" } : Jvm.MethodName)) ∈ lw_all := lw_g (lw_at lw_m6 39 rfl) rfl
theorem q1383 : (Jvm.Cond.static ({ cls := "ClaspedFair", name := "common", desc := "(II)I" } : Jvm.MethodName)) ∈ lw_all := lw_g (lw_at lw_m6 40 rfl) rfl
theorem q1384 : (Jvm.Cond.code ({ cls := "ClaspedFair", name := "common", desc := "(II)I" } : Jvm.MethodName) prog_1_method_50_code (2 : Nat) (Option.some Jvm.ClassFile.FieldType.int)) ∈ lw_all := lw_g (lw_at lw_m6 41 rfl) rfl
theorem q1386 : (Jvm.Cond.instanceMethod ({ cls := "ClaspedFair", name := "weight", desc := "(I)I" } : Jvm.MethodName)) ∈ lw_all := lw_g (lw_at lw_m6 43 rfl) rfl
theorem q1387 : (Jvm.Cond.selects "ClaspedFair" ({ cls := "ClaspedFair", name := "weight", desc := "(I)I" } : Jvm.MethodName) ({ cls := "ClaspedFair", name := "weight", desc := "(I)I" } : Jvm.MethodName)) ∈ lw_all := lw_g (lw_at lw_m6 44 rfl) rfl
theorem q1388 : (Jvm.Cond.code ({ cls := "ClaspedFair", name := "weight", desc := "(I)I" } : Jvm.MethodName) prog_1_method_52_code (2 : Nat) (Option.some Jvm.ClassFile.FieldType.int)) ∈ lw_all := lw_g (lw_at lw_m6 45 rfl) rfl
theorem q1390 : (Jvm.Cond.instanceMethod ({ cls := "ClaspedFair", name := "balance", desc := "(II)I" } : Jvm.MethodName)) ∈ lw_all := lw_g (lw_at lw_m6 47 rfl) rfl
theorem q1391 : (Jvm.Cond.selects "ClaspedFair" ({ cls := "ClaspedFair", name := "balance", desc := "(II)I" } : Jvm.MethodName) ({ cls := "ClaspedFair", name := "balance", desc := "(II)I" } : Jvm.MethodName)) ∈ lw_all := lw_g (lw_at lw_m6 48 rfl) rfl
theorem q1392 : (Jvm.Cond.code ({ cls := "ClaspedFair", name := "balance", desc := "(II)I" } : Jvm.MethodName) prog_1_method_54_code (4 : Nat) (Option.some Jvm.ClassFile.FieldType.int)) ∈ lw_all := lw_g (lw_at lw_m6 49 rfl) rfl
theorem q1393 : (Jvm.Cond.methodLink "ClaspedFair" (326 : Nat) ({ cls := "ClaspedFair", name := "isWeighed", desc := "(IIZ)Z" } : Jvm.MethodName)) ∈ lw_all := lw_g (lw_at lw_m6 50 rfl) rfl
theorem q1394 : (Jvm.Cond.privateMethod ({ cls := "ClaspedFair", name := "isWeighed", desc := "(IIZ)Z" } : Jvm.MethodName)) ∈ lw_tbl := lw_at lw_m6 51 rfl
theorem q1395 : (Jvm.Cond.instanceMethod ({ cls := "ClaspedFair", name := "isWeighed", desc := "(IIZ)Z" } : Jvm.MethodName)) ∈ lw_all := lw_g (lw_at lw_m6 52 rfl) rfl
theorem q1396 : (Jvm.Cond.code ({ cls := "ClaspedFair", name := "isWeighed", desc := "(IIZ)Z" } : Jvm.MethodName) prog_1_method_53_code (5 : Nat) (Option.some Jvm.ClassFile.FieldType.boolean)) ∈ lw_all := lw_g (lw_at lw_m6 53 rfl) rfl
theorem q1398 : (Jvm.Cond.instanceMethod ({ cls := "ClaspedFair", name := "alike", desc := "(II)I" } : Jvm.MethodName)) ∈ lw_all := lw_g (lw_at lw_m6 55 rfl) rfl
theorem q1399 : (Jvm.Cond.selects "ClaspedFair" ({ cls := "ClaspedFair", name := "alike", desc := "(II)I" } : Jvm.MethodName) ({ cls := "ClaspedFair", name := "alike", desc := "(II)I" } : Jvm.MethodName)) ∈ lw_all := lw_g (lw_at lw_m6 56 rfl) rfl
theorem q1400 : (Jvm.Cond.code ({ cls := "ClaspedFair", name := "alike", desc := "(II)I" } : Jvm.MethodName) prog_1_method_55_code (5 : Nat) (Option.some Jvm.ClassFile.FieldType.int)) ∈ lw_all := lw_g (lw_at lw_m6 57 rfl) rfl
theorem q1401 : (Jvm.Cond.methodLink "ClaspedFair" (330 : Nat) ({ cls := "ClaspedFair$Person", name := "apart", desc := "(LClaspedFair$Person;)I" } : Jvm.MethodName)) ∈ lw_all := lw_g (lw_at lw_m6 58 rfl) rfl
theorem q1409 : (Jvm.Cond.instanceMethod ({ cls := "ClaspedFair", name := "left", desc := "(II)I" } : Jvm.MethodName)) ∈ lw_all := lw_g (lw_at lw_m6 66 rfl) rfl
theorem q1410 : (Jvm.Cond.selects "ClaspedFair" ({ cls := "ClaspedFair", name := "left", desc := "(II)I" } : Jvm.MethodName) ({ cls := "ClaspedFair", name := "left", desc := "(II)I" } : Jvm.MethodName)) ∈ lw_all := lw_g (lw_at lw_m6 67 rfl) rfl
theorem q1411 : (Jvm.Cond.code ({ cls := "ClaspedFair", name := "left", desc := "(II)I" } : Jvm.MethodName) prog_1_method_57_code (5 : Nat) (Option.some Jvm.ClassFile.FieldType.int)) ∈ lw_all := lw_g (lw_at lw_m6 68 rfl) rfl
theorem q1412 : (Jvm.Cond.methodLink "ClaspedFair" (334 : Nat) ({ cls := "ClaspedFair$Person", name := "most", desc := "()I" } : Jvm.MethodName)) ∈ lw_all := lw_g (lw_at lw_m6 69 rfl) rfl
theorem q1416 : (Jvm.Cond.methodLink "ClaspedFair" (337 : Nat) ({ cls := "ClaspedFair", name := "hasMost", desc := "(II)Z" } : Jvm.MethodName)) ∈ lw_all := lw_g (lw_at lw_m6 73 rfl) rfl
theorem q1417 : (Jvm.Cond.privateMethod ({ cls := "ClaspedFair", name := "hasMost", desc := "(II)Z" } : Jvm.MethodName)) ∈ lw_tbl := lw_at lw_m6 74 rfl
theorem q1418 : (Jvm.Cond.instanceMethod ({ cls := "ClaspedFair", name := "hasMost", desc := "(II)Z" } : Jvm.MethodName)) ∈ lw_all := lw_g (lw_at lw_m6 75 rfl) rfl
theorem q1419 : (Jvm.Cond.code ({ cls := "ClaspedFair", name := "hasMost", desc := "(II)Z" } : Jvm.MethodName) prog_1_method_56_code (4 : Nat) (Option.some Jvm.ClassFile.FieldType.boolean)) ∈ lw_all := lw_g (lw_at lw_m6 76 rfl) rfl
theorem q1421 : (Jvm.Cond.instanceMethod ({ cls := "ClaspedFair", name := "herd", desc := "(I)I" } : Jvm.MethodName)) ∈ lw_all := lw_g (lw_at lw_m6 78 rfl) rfl
theorem q1422 : (Jvm.Cond.selects "ClaspedFair" ({ cls := "ClaspedFair", name := "herd", desc := "(I)I" } : Jvm.MethodName) ({ cls := "ClaspedFair", name := "herd", desc := "(I)I" } : Jvm.MethodName)) ∈ lw_all := lw_g (lw_at lw_m6 79 rfl) rfl
theorem q1423 : (Jvm.Cond.code ({ cls := "ClaspedFair", name := "herd", desc := "(I)I" } : Jvm.MethodName) prog_1_method_58_code (2 : Nat) (Option.some Jvm.ClassFile.FieldType.int)) ∈ lw_all := lw_g (lw_at lw_m6 80 rfl) rfl
theorem q1425 : (Jvm.Cond.instanceMethod ({ cls := "ClaspedFair", name := "pens", desc := "(II)I" } : Jvm.MethodName)) ∈ lw_all := lw_g (lw_at lw_m6 82 rfl) rfl
theorem q1426 : (Jvm.Cond.selects "ClaspedFair" ({ cls := "ClaspedFair", name := "pens", desc := "(II)I" } : Jvm.MethodName) ({ cls := "ClaspedFair", name := "pens", desc := "(II)I" } : Jvm.MethodName)) ∈ lw_all := lw_g (lw_at lw_m6 83 rfl) rfl
theorem q1427 : (Jvm.Cond.code ({ cls := "ClaspedFair", name := "pens", desc := "(II)I" } : Jvm.MethodName) prog_1_method_60_code (3 : Nat) (Option.some Jvm.ClassFile.FieldType.int)) ∈ lw_all := lw_g (lw_at lw_m6 84 rfl) rfl
theorem q1428 : (Jvm.Cond.constant "ClaspedFair" (347 : Nat) (1000000 : Int32)) ∈ lw_all := lw_g (lw_at lw_m6 85 rfl) rfl
theorem q1429 : (Jvm.Cond.methodLink "ClaspedFair" (344 : Nat) ({ cls := "ClaspedFair", name := "shares", desc := "(II)V" } : Jvm.MethodName)) ∈ lw_all := lw_g (lw_at lw_m6 86 rfl) rfl
theorem q1430 : (Jvm.Cond.privateMethod ({ cls := "ClaspedFair", name := "shares", desc := "(II)V" } : Jvm.MethodName)) ∈ lw_tbl := lw_at lw_m6 87 rfl
theorem q1431 : (Jvm.Cond.instanceMethod ({ cls := "ClaspedFair", name := "shares", desc := "(II)V" } : Jvm.MethodName)) ∈ lw_all := lw_g (lw_at lw_m6 88 rfl) rfl
theorem q1432 : (Jvm.Cond.code ({ cls := "ClaspedFair", name := "shares", desc := "(II)V" } : Jvm.MethodName) prog_1_method_59_code (6 : Nat) (Option.none : Option Jvm.ClassFile.FieldType)) ∈ lw_all := lw_g (lw_at lw_m6 89 rfl) rfl
theorem q1434 : (Jvm.Cond.instanceMethod ({ cls := "ClaspedFair", name := "signs", desc := "(I)I" } : Jvm.MethodName)) ∈ lw_all := lw_g (lw_at lw_m6 91 rfl) rfl
theorem q1435 : (Jvm.Cond.selects "ClaspedFair" ({ cls := "ClaspedFair", name := "signs", desc := "(I)I" } : Jvm.MethodName) ({ cls := "ClaspedFair", name := "signs", desc := "(I)I" } : Jvm.MethodName)) ∈ lw_all := lw_g (lw_at lw_m6 92 rfl) rfl
theorem q1436 : (Jvm.Cond.code ({ cls := "ClaspedFair", name := "signs", desc := "(I)I" } : Jvm.MethodName) prog_1_method_61_code (4 : Nat) (Option.some Jvm.ClassFile.FieldType.int)) ∈ lw_all := lw_g (lw_at lw_m6 93 rfl) rfl
theorem q1438 : (Jvm.Cond.instanceMethod ({ cls := "ClaspedFair", name := "row", desc := "(I)I" } : Jvm.MethodName)) ∈ lw_all := lw_g (lw_at lw_m6 95 rfl) rfl
theorem q1439 : (Jvm.Cond.selects "ClaspedFair" ({ cls := "ClaspedFair", name := "row", desc := "(I)I" } : Jvm.MethodName) ({ cls := "ClaspedFair", name := "row", desc := "(I)I" } : Jvm.MethodName)) ∈ lw_all := lw_g (lw_at lw_m6 96 rfl) rfl
theorem q1440 : (Jvm.Cond.code ({ cls := "ClaspedFair", name := "row", desc := "(I)I" } : Jvm.MethodName) prog_1_method_62_code (2 : Nat) (Option.some Jvm.ClassFile.FieldType.int)) ∈ lw_all := lw_g (lw_at lw_m6 97 rfl) rfl
theorem q1442 : (Jvm.Cond.instanceMethod ({ cls := "ClaspedFair", name := "game", desc := "(I)I" } : Jvm.MethodName)) ∈ lw_all := lw_g (lw_at lw_m6 99 rfl) rfl
theorem q1443 : (Jvm.Cond.selects "ClaspedFair" ({ cls := "ClaspedFair", name := "game", desc := "(I)I" } : Jvm.MethodName) ({ cls := "ClaspedFair", name := "game", desc := "(I)I" } : Jvm.MethodName)) ∈ lw_all := lw_g (lw_at lw_m6 100 rfl) rfl
theorem q1444 : (Jvm.Cond.code ({ cls := "ClaspedFair", name := "game", desc := "(I)I" } : Jvm.MethodName) prog_1_method_64_code (7 : Nat) (Option.some Jvm.ClassFile.FieldType.int)) ∈ lw_all := lw_g (lw_at lw_m6 101 rfl) rfl
theorem q1445 : (Jvm.Cond.methodLink "ClaspedFair" (357 : Nat) ({ cls := "ClaspedFair", name := "laysNims", desc := "()V" } : Jvm.MethodName)) ∈ lw_all := lw_g (lw_at lw_m6 102 rfl) rfl
theorem q1446 : (Jvm.Cond.privateMethod ({ cls := "ClaspedFair", name := "laysNims", desc := "()V" } : Jvm.MethodName)) ∈ lw_tbl := lw_at lw_m6 103 rfl
theorem q1447 : (Jvm.Cond.instanceMethod ({ cls := "ClaspedFair", name := "laysNims", desc := "()V" } : Jvm.MethodName)) ∈ lw_all := lw_g (lw_at lw_m6 104 rfl) rfl
theorem q1448 : (Jvm.Cond.code ({ cls := "ClaspedFair", name := "laysNims", desc := "()V" } : Jvm.MethodName) prog_1_method_63_code (5 : Nat) (Option.none : Option Jvm.ClassFile.FieldType)) ∈ lw_all := lw_g (lw_at lw_m6 105 rfl) rfl
theorem q1450 : (Jvm.Cond.instanceMethod ({ cls := "ClaspedFair", name := "image", desc := "(Z)Z" } : Jvm.MethodName)) ∈ lw_all := lw_g (lw_at lw_m6 107 rfl) rfl
theorem q1451 : (Jvm.Cond.selects "ClaspedFair" ({ cls := "ClaspedFair", name := "image", desc := "(Z)Z" } : Jvm.MethodName) ({ cls := "ClaspedFair", name := "image", desc := "(Z)Z" } : Jvm.MethodName)) ∈ lw_all := lw_g (lw_at lw_m6 108 rfl) rfl
theorem q1452 : (Jvm.Cond.code ({ cls := "ClaspedFair", name := "image", desc := "(Z)Z" } : Jvm.MethodName) prog_1_method_65_code (2 : Nat) (Option.some Jvm.ClassFile.FieldType.boolean)) ∈ lw_all := lw_g (lw_at lw_m6 109 rfl) rfl
theorem q1453 : (Jvm.Cond.methodLink "ClaspedFair" (363 : Nat) ({ cls := "ClaspedFair$Market", name := "takes", desc := "(LClaspedFair$Market;)V" } : Jvm.MethodName)) ∈ lw_all := lw_g (lw_at lw_m6 110 rfl) rfl
theorem q1463 : (Jvm.Cond.instanceMethod ({ cls := "ClaspedFair", name := "look", desc := "(I)I" } : Jvm.MethodName)) ∈ lw_all := lw_g (lw_at lw_m6 120 rfl) rfl
theorem q1464 : (Jvm.Cond.selects "ClaspedFair" ({ cls := "ClaspedFair", name := "look", desc := "(I)I" } : Jvm.MethodName) ({ cls := "ClaspedFair", name := "look", desc := "(I)I" } : Jvm.MethodName)) ∈ lw_all := lw_g (lw_at lw_m6 121 rfl) rfl
theorem q1465 : (Jvm.Cond.code ({ cls := "ClaspedFair", name := "look", desc := "(I)I" } : Jvm.MethodName) prog_1_method_66_code (2 : Nat) (Option.some Jvm.ClassFile.FieldType.int)) ∈ lw_all := lw_g (lw_at lw_m6 122 rfl) rfl
theorem q2215 : (Jvm.Cond.castable "ClaspedFair" "java/lang/Object") ∈ lw_tbl := lw_at lw_m9 152 rfl
