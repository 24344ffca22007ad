set_option maxRecDepth 100000
theorem q145 : (Jvm.Cond.initialized "ClaspedFair$Market") ∈ lw_all := lw_g (lw_at lw_m1 2 rfl) rfl
theorem q188 : (Jvm.Cond.instantiable "ClaspedFair$Market" (25 : Nat)) ∈ lw_all := lw_g (lw_at lw_m1 45 rfl) rfl
theorem q190 : (Jvm.Cond.instanceMethod ({ cls := "ClaspedFair$Market", name := "<init>", desc := "()V" } : Jvm.MethodName)) ∈ lw_all := lw_g (lw_at lw_m1 47 rfl) rfl
theorem q191 : (Jvm.Cond.code ({ cls := "ClaspedFair$Market", name := "<init>", desc := "()V" } : Jvm.MethodName) prog_12_method_1_code (2 : Nat) (Option.none : Option Jvm.ClassFile.FieldType)) ∈ lw_all := lw_g (lw_at lw_m1 48 rfl) rfl
theorem q192 : (Jvm.Cond.methodLink "ClaspedFair$Market" (3 : Nat) ({ cls := "java/lang/Object", name := "<init>", desc := "()V" } : Jvm.MethodName)) ∈ lw_all := lw_g (lw_at lw_m1 49 rfl) rfl
theorem q193 : (Jvm.Cond.classLink "ClaspedFair$Market" (9 : Nat) "ClaspedFair$Person") ∈ lw_all := lw_g (lw_at lw_m1 50 rfl) rfl
theorem q195 : (Jvm.Cond.classLink "ClaspedFair$Market" (17 : Nat) "ClaspedFair$Horse") ∈ lw_all := lw_g (lw_at lw_m1 52 rfl) rfl
theorem q197 : (Jvm.Cond.classLink "ClaspedFair$Market" (23 : Nat) "ClaspedFair$Grip") ∈ lw_all := lw_g (lw_at lw_m1 54 rfl) rfl
theorem q199 : (Jvm.Cond.methodLinkNest "ClaspedFair$Market" (25 : Nat) ({ cls := "ClaspedFair$Grip", name := "<init>", desc := "()V" } : Jvm.MethodName) "ClaspedFair") ∈ lw_tbl := lw_at lw_m1 56 rfl
theorem q204 : (Jvm.Cond.fieldLinkNest "ClaspedFair$Market" (219 : Nat) "ClaspedFair$Grip" "over" "[I" "ClaspedFair") ∈ lw_tbl := lw_at lw_m1 61 rfl
theorem q206 : (Jvm.Cond.fieldLinkNest "ClaspedFair$Market" (225 : Nat) "ClaspedFair$Grip" "across" "[I" "ClaspedFair") ∈ lw_tbl := lw_at lw_m1 63 rfl
theorem q208 : (Jvm.Cond.fieldLinkNest "ClaspedFair$Market" (210 : Nat) "ClaspedFair$Grip" "first" "I" "ClaspedFair") ∈ lw_tbl := lw_at lw_m1 65 rfl
theorem q210 : (Jvm.Cond.fieldLinkNest "ClaspedFair$Market" (213 : Nat) "ClaspedFair$Grip" "second" "I" "ClaspedFair") ∈ lw_tbl := lw_at lw_m1 67 rfl
theorem q212 : (Jvm.Cond.fieldLinkNest "ClaspedFair$Market" (141 : Nat) "ClaspedFair$Grip" "firmness" "I" "ClaspedFair") ∈ lw_tbl := lw_at lw_m1 69 rfl
theorem q214 : (Jvm.Cond.fieldLinkNest "ClaspedFair$Market" (144 : Nat) "ClaspedFair$Grip" "price" "I" "ClaspedFair") ∈ lw_tbl := lw_at lw_m1 71 rfl
theorem q216 : (Jvm.Cond.fieldLinkNest "ClaspedFair$Market" (147 : Nat) "ClaspedFair$Grip" "worth" "I" "ClaspedFair") ∈ lw_tbl := lw_at lw_m1 73 rfl
theorem q218 : (Jvm.Cond.fieldLinkNest "ClaspedFair$Market" (150 : Nat) "ClaspedFair$Grip" "spirit" "I" "ClaspedFair") ∈ lw_tbl := lw_at lw_m1 75 rfl
theorem q238 : (Jvm.Cond.classLink "ClaspedFair$Market" (30 : Nat) "[[I") ∈ lw_all := lw_g (lw_at lw_m1 95 rfl) rfl
theorem q240 : (Jvm.Cond.classLink "ClaspedFair$Market" (35 : Nat) "ClaspedFair$Rows") ∈ lw_all := lw_g (lw_at lw_m1 97 rfl) rfl
theorem q242 : (Jvm.Cond.methodLink "ClaspedFair$Market" (37 : Nat) ({ cls := "ClaspedFair$Rows", name := "<init>", desc := "(I)V" } : Jvm.MethodName)) ∈ lw_all := lw_g (lw_at lw_m1 99 rfl) rfl
theorem q256 : (Jvm.Cond.classLink "ClaspedFair$Market" (56 : Nat) "java/util/ArrayList") ∈ lw_all := lw_g (lw_at lw_m1 113 rfl) rfl
theorem q258 : (Jvm.Cond.methodLink "ClaspedFair$Market" (58 : Nat) ({ cls := "java/util/ArrayList", name := "<init>", desc := "()V" } : Jvm.MethodName)) ∈ lw_all := lw_g (lw_at lw_m1 115 rfl) rfl
theorem q283 : (Jvm.Cond.methodLinkNest "ClaspedFair$Market" (73 : Nat) ({ cls := "ClaspedFair$Person", name := "<init>", desc := "()V" } : Jvm.MethodName) "ClaspedFair") ∈ lw_tbl := lw_at lw_m1 140 rfl
theorem q289 : (Jvm.Cond.fieldLinkNest "ClaspedFair$Market" (135 : Nat) "ClaspedFair$Person" "trait" "[I" "ClaspedFair") ∈ lw_tbl := lw_at lw_m1 146 rfl
theorem q293 : (Jvm.Cond.fieldLinkNest "ClaspedFair$Market" (156 : Nat) "ClaspedFair$Person" "purse" "I" "ClaspedFair") ∈ lw_tbl := lw_at lw_m1 150 rfl
theorem q297 : (Jvm.Cond.fieldLinkNest "ClaspedFair$Market" (193 : Nat) "ClaspedFair$Person" "hand" "I" "ClaspedFair") ∈ lw_tbl := lw_at lw_m1 154 rfl
theorem q300 : (Jvm.Cond.fieldLinkNest "ClaspedFair$Market" (153 : Nat) "ClaspedFair$Person" "shook" "I" "ClaspedFair") ∈ lw_tbl := lw_at lw_m1 157 rfl
theorem q312 : (Jvm.Cond.methodLinkNest "ClaspedFair$Market" (74 : Nat) ({ cls := "ClaspedFair$Horse", name := "<init>", desc := "()V" } : Jvm.MethodName) "ClaspedFair") ∈ lw_tbl := lw_at lw_m1 169 rfl
theorem q317 : (Jvm.Cond.fieldLinkNest "ClaspedFair$Market" (196 : Nat) "ClaspedFair$Horse" "owner" "I" "ClaspedFair") ∈ lw_tbl := lw_at lw_m1 174 rfl
theorem q326 : (Jvm.Cond.fieldLinkNest "ClaspedFair$Market" (252 : Nat) "ClaspedFair$Horse" "sold" "I" "ClaspedFair") ∈ lw_tbl := lw_at lw_m1 183 rfl
theorem q337 : (Jvm.Cond.fieldLink "ClaspedFair$Market" (11 : Nat) "ClaspedFair$Market" "person" "[LClaspedFair$Person;") ∈ lw_all := lw_g (lw_at lw_m1 194 rfl) rfl
theorem q339 : (Jvm.Cond.fieldLink "ClaspedFair$Market" (19 : Nat) "ClaspedFair$Market" "horse" "[LClaspedFair$Horse;") ∈ lw_all := lw_g (lw_at lw_m1 196 rfl) rfl
theorem q341 : (Jvm.Cond.fieldLink "ClaspedFair$Market" (26 : Nat) "ClaspedFair$Market" "grip" "LClaspedFair$Grip;") ∈ lw_all := lw_g (lw_at lw_m1 198 rfl) rfl
theorem q343 : (Jvm.Cond.fieldLink "ClaspedFair$Market" (32 : Nat) "ClaspedFair$Market" "book" "[[I") ∈ lw_all := lw_g (lw_at lw_m1 200 rfl) rfl
theorem q345 : (Jvm.Cond.fieldLink "ClaspedFair$Market" (40 : Nat) "ClaspedFair$Market" "clasps" "LClaspedFair$Rows;") ∈ lw_all := lw_g (lw_at lw_m1 202 rfl) rfl
theorem q347 : (Jvm.Cond.fieldLink "ClaspedFair$Market" (44 : Nat) "ClaspedFair$Market" "numbers" "LClaspedFair$Rows;") ∈ lw_all := lw_g (lw_at lw_m1 204 rfl) rfl
theorem q349 : (Jvm.Cond.fieldLink "ClaspedFair$Market" (47 : Nat) "ClaspedFair$Market" "weights" "LClaspedFair$Rows;") ∈ lw_all := lw_g (lw_at lw_m1 206 rfl) rfl
theorem q351 : (Jvm.Cond.fieldLink "ClaspedFair$Market" (50 : Nat) "ClaspedFair$Market" "herds" "LClaspedFair$Rows;") ∈ lw_all := lw_g (lw_at lw_m1 208 rfl) rfl
theorem q353 : (Jvm.Cond.fieldLink "ClaspedFair$Market" (53 : Nat) "ClaspedFair$Market" "hands" "LClaspedFair$Rows;") ∈ lw_all := lw_g (lw_at lw_m1 210 rfl) rfl
theorem q355 : (Jvm.Cond.fieldLink "ClaspedFair$Market" (59 : Nat) "ClaspedFair$Market" "law" "Ljava/util/ArrayList;") ∈ lw_all := lw_g (lw_at lw_m1 212 rfl) rfl
theorem q357 : (Jvm.Cond.fieldLink "ClaspedFair$Market" (63 : Nat) "ClaspedFair$Market" "fair" "Ljava/util/ArrayList;") ∈ lw_all := lw_g (lw_at lw_m1 214 rfl) rfl
theorem q359 : (Jvm.Cond.fieldLink "ClaspedFair$Market" (66 : Nat) "ClaspedFair$Market" "habits" "Ljava/util/ArrayList;") ∈ lw_all := lw_g (lw_at lw_m1 216 rfl) rfl
theorem q361 : (Jvm.Cond.fieldLink "ClaspedFair$Market" (69 : Nat) "ClaspedFair$Market" "kin" "[I") ∈ lw_all := lw_g (lw_at lw_m1 218 rfl) rfl
theorem q363 : (Jvm.Cond.fieldLink "ClaspedFair$Market" (102 : Nat) "ClaspedFair$Market" "people" "I") ∈ lw_all := lw_g (lw_at lw_m1 220 rfl) rfl
theorem q366 : (Jvm.Cond.fieldLink "ClaspedFair$Market" (105 : Nat) "ClaspedFair$Market" "horses" "I") ∈ lw_all := lw_g (lw_at lw_m1 223 rfl) rfl
theorem q369 : (Jvm.Cond.fieldLink "ClaspedFair$Market" (82 : Nat) "ClaspedFair$Market" "passed" "I") ∈ lw_all := lw_g (lw_at lw_m1 226 rfl) rfl
theorem q371 : (Jvm.Cond.fieldLink "ClaspedFair$Market" (86 : Nat) "ClaspedFair$Market" "held" "I") ∈ lw_all := lw_g (lw_at lw_m1 228 rfl) rfl
theorem q373 : (Jvm.Cond.fieldLink "ClaspedFair$Market" (89 : Nat) "ClaspedFair$Market" "day" "I") ∈ lw_all := lw_g (lw_at lw_m1 230 rfl) rfl
theorem q375 : (Jvm.Cond.fieldLink "ClaspedFair$Market" (92 : Nat) "ClaspedFair$Market" "state" "I") ∈ lw_all := lw_g (lw_at lw_m1 232 rfl) rfl
theorem q377 : (Jvm.Cond.fieldLink "ClaspedFair$Market" (95 : Nat) "ClaspedFair$Market" "lines" "I") ∈ lw_all := lw_g (lw_at lw_m1 234 rfl) rfl
theorem q379 : (Jvm.Cond.fieldLink "ClaspedFair$Market" (108 : Nat) "ClaspedFair$Market" "kinLines" "I") ∈ lw_all := lw_g (lw_at lw_m1 236 rfl) rfl
theorem q382 : (Jvm.Cond.fieldLink "ClaspedFair$Market" (119 : Nat) "ClaspedFair$Market" "isThought" "Z") ∈ lw_all := lw_g (lw_at lw_m1 239 rfl) rfl
theorem q383 : (Jvm.Cond.fieldLink "ClaspedFair$Market" (123 : Nat) "ClaspedFair$Market" "asked" "I") ∈ lw_all := lw_g (lw_at lw_m2 0 rfl) rfl
theorem q384 : (Jvm.Cond.fieldLink "ClaspedFair$Market" (138 : Nat) "ClaspedFair$Market" "askedOther" "I") ∈ lw_all := lw_g (lw_at lw_m2 1 rfl) rfl
theorem q385 : (Jvm.Cond.fieldLink "ClaspedFair$Market" (126 : Nat) "ClaspedFair$Market" "askedTrait" "I") ∈ lw_all := lw_g (lw_at lw_m2 2 rfl) rfl
theorem q386 : (Jvm.Cond.laysFinal "ClaspedFair$Market" "ClaspedFair$Market" "person" "[LClaspedFair$Person;") ∈ lw_all := lw_g (lw_at lw_m2 3 rfl) rfl
theorem q387 : (Jvm.Cond.soleField "ClaspedFair$Market" "person") ∈ lw_all := lw_g (lw_at lw_m2 4 rfl) rfl
theorem q388 : (Jvm.Cond.laysFinal "ClaspedFair$Market" "ClaspedFair$Market" "horse" "[LClaspedFair$Horse;") ∈ lw_all := lw_g (lw_at lw_m2 5 rfl) rfl
theorem q389 : (Jvm.Cond.soleField "ClaspedFair$Market" "horse") ∈ lw_all := lw_g (lw_at lw_m2 6 rfl) rfl
theorem q390 : (Jvm.Cond.laysFinal "ClaspedFair$Market" "ClaspedFair$Market" "grip" "LClaspedFair$Grip;") ∈ lw_all := lw_g (lw_at lw_m2 7 rfl) rfl
theorem q391 : (Jvm.Cond.soleField "ClaspedFair$Market" "grip") ∈ lw_all := lw_g (lw_at lw_m2 8 rfl) rfl
theorem q392 : (Jvm.Cond.laysFinal "ClaspedFair$Market" "ClaspedFair$Market" "book" "[[I") ∈ lw_all := lw_g (lw_at lw_m2 9 rfl) rfl
theorem q393 : (Jvm.Cond.soleField "ClaspedFair$Market" "book") ∈ lw_all := lw_g (lw_at lw_m2 10 rfl) rfl
theorem q394 : (Jvm.Cond.laysFinal "ClaspedFair$Market" "ClaspedFair$Market" "clasps" "LClaspedFair$Rows;") ∈ lw_all := lw_g (lw_at lw_m2 11 rfl) rfl
theorem q395 : (Jvm.Cond.soleField "ClaspedFair$Market" "clasps") ∈ lw_all := lw_g (lw_at lw_m2 12 rfl) rfl
theorem q396 : (Jvm.Cond.laysFinal "ClaspedFair$Market" "ClaspedFair$Market" "numbers" "LClaspedFair$Rows;") ∈ lw_all := lw_g (lw_at lw_m2 13 rfl) rfl
theorem q397 : (Jvm.Cond.soleField "ClaspedFair$Market" "numbers") ∈ lw_all := lw_g (lw_at lw_m2 14 rfl) rfl
theorem q398 : (Jvm.Cond.laysFinal "ClaspedFair$Market" "ClaspedFair$Market" "weights" "LClaspedFair$Rows;") ∈ lw_all := lw_g (lw_at lw_m2 15 rfl) rfl
theorem q399 : (Jvm.Cond.soleField "ClaspedFair$Market" "weights") ∈ lw_all := lw_g (lw_at lw_m2 16 rfl) rfl
theorem q400 : (Jvm.Cond.laysFinal "ClaspedFair$Market" "ClaspedFair$Market" "herds" "LClaspedFair$Rows;") ∈ lw_all := lw_g (lw_at lw_m2 17 rfl) rfl
theorem q401 : (Jvm.Cond.soleField "ClaspedFair$Market" "herds") ∈ lw_all := lw_g (lw_at lw_m2 18 rfl) rfl
theorem q402 : (Jvm.Cond.laysFinal "ClaspedFair$Market" "ClaspedFair$Market" "hands" "LClaspedFair$Rows;") ∈ lw_all := lw_g (lw_at lw_m2 19 rfl) rfl
theorem q403 : (Jvm.Cond.soleField "ClaspedFair$Market" "hands") ∈ lw_all := lw_g (lw_at lw_m2 20 rfl) rfl
theorem q404 : (Jvm.Cond.lays "ClaspedFair$Market" "ClaspedFair$Market" "law" "Ljava/util/ArrayList;") ∈ lw_all := lw_g (lw_at lw_m2 21 rfl) rfl
theorem q405 : (Jvm.Cond.soleField "ClaspedFair$Market" "law") ∈ lw_all := lw_g (lw_at lw_m2 22 rfl) rfl
theorem q406 : (Jvm.Cond.lays "ClaspedFair$Market" "ClaspedFair$Market" "fair" "Ljava/util/ArrayList;") ∈ lw_all := lw_g (lw_at lw_m2 23 rfl) rfl
theorem q407 : (Jvm.Cond.soleField "ClaspedFair$Market" "fair") ∈ lw_all := lw_g (lw_at lw_m2 24 rfl) rfl
theorem q408 : (Jvm.Cond.lays "ClaspedFair$Market" "ClaspedFair$Market" "habits" "Ljava/util/ArrayList;") ∈ lw_all := lw_g (lw_at lw_m2 25 rfl) rfl
theorem q409 : (Jvm.Cond.soleField "ClaspedFair$Market" "habits") ∈ lw_all := lw_g (lw_at lw_m2 26 rfl) rfl
theorem q410 : (Jvm.Cond.lays "ClaspedFair$Market" "ClaspedFair$Market" "kin" "[I") ∈ lw_all := lw_g (lw_at lw_m2 27 rfl) rfl
theorem q411 : (Jvm.Cond.soleField "ClaspedFair$Market" "kin") ∈ lw_all := lw_g (lw_at lw_m2 28 rfl) rfl
theorem q412 : (Jvm.Cond.lays "ClaspedFair$Market" "ClaspedFair$Market" "people" "I") ∈ lw_all := lw_g (lw_at lw_m2 29 rfl) rfl
theorem q413 : (Jvm.Cond.soleField "ClaspedFair$Market" "people") ∈ lw_all := lw_g (lw_at lw_m2 30 rfl) rfl
theorem q414 : (Jvm.Cond.lays "ClaspedFair$Market" "ClaspedFair$Market" "horses" "I") ∈ lw_all := lw_g (lw_at lw_m2 31 rfl) rfl
theorem q415 : (Jvm.Cond.soleField "ClaspedFair$Market" "horses") ∈ lw_all := lw_g (lw_at lw_m2 32 rfl) rfl
theorem q416 : (Jvm.Cond.lays "ClaspedFair$Market" "ClaspedFair$Market" "passed" "I") ∈ lw_all := lw_g (lw_at lw_m2 33 rfl) rfl
theorem q417 : (Jvm.Cond.soleField "ClaspedFair$Market" "passed") ∈ lw_all := lw_g (lw_at lw_m2 34 rfl) rfl
theorem q418 : (Jvm.Cond.lays "ClaspedFair$Market" "ClaspedFair$Market" "held" "I") ∈ lw_all := lw_g (lw_at lw_m2 35 rfl) rfl
theorem q419 : (Jvm.Cond.soleField "ClaspedFair$Market" "held") ∈ lw_all := lw_g (lw_at lw_m2 36 rfl) rfl
theorem q420 : (Jvm.Cond.lays "ClaspedFair$Market" "ClaspedFair$Market" "day" "I") ∈ lw_all := lw_g (lw_at lw_m2 37 rfl) rfl
theorem q421 : (Jvm.Cond.soleField "ClaspedFair$Market" "day") ∈ lw_all := lw_g (lw_at lw_m2 38 rfl) rfl
theorem q422 : (Jvm.Cond.lays "ClaspedFair$Market" "ClaspedFair$Market" "state" "I") ∈ lw_all := lw_g (lw_at lw_m2 39 rfl) rfl
theorem q423 : (Jvm.Cond.soleField "ClaspedFair$Market" "state") ∈ lw_all := lw_g (lw_at lw_m2 40 rfl) rfl
theorem q424 : (Jvm.Cond.lays "ClaspedFair$Market" "ClaspedFair$Market" "lines" "I") ∈ lw_all := lw_g (lw_at lw_m2 41 rfl) rfl
theorem q425 : (Jvm.Cond.soleField "ClaspedFair$Market" "lines") ∈ lw_all := lw_g (lw_at lw_m2 42 rfl) rfl
theorem q426 : (Jvm.Cond.lays "ClaspedFair$Market" "ClaspedFair$Market" "kinLines" "I") ∈ lw_all := lw_g (lw_at lw_m2 43 rfl) rfl
theorem q427 : (Jvm.Cond.soleField "ClaspedFair$Market" "kinLines") ∈ lw_all := lw_g (lw_at lw_m2 44 rfl) rfl
theorem q428 : (Jvm.Cond.lays "ClaspedFair$Market" "ClaspedFair$Market" "isThought" "Z") ∈ lw_all := lw_g (lw_at lw_m2 45 rfl) rfl
theorem q429 : (Jvm.Cond.soleField "ClaspedFair$Market" "isThought") ∈ lw_all := lw_g (lw_at lw_m2 46 rfl) rfl
theorem q430 : (Jvm.Cond.lays "ClaspedFair$Market" "ClaspedFair$Market" "asked" "I") ∈ lw_all := lw_g (lw_at lw_m2 47 rfl) rfl
theorem q431 : (Jvm.Cond.soleField "ClaspedFair$Market" "asked") ∈ lw_all := lw_g (lw_at lw_m2 48 rfl) rfl
theorem q432 : (Jvm.Cond.lays "ClaspedFair$Market" "ClaspedFair$Market" "askedOther" "I") ∈ lw_all := lw_g (lw_at lw_m2 49 rfl) rfl
theorem q433 : (Jvm.Cond.soleField "ClaspedFair$Market" "askedOther") ∈ lw_all := lw_g (lw_at lw_m2 50 rfl) rfl
theorem q434 : (Jvm.Cond.lays "ClaspedFair$Market" "ClaspedFair$Market" "askedTrait" "I") ∈ lw_all := lw_g (lw_at lw_m2 51 rfl) rfl
theorem q435 : (Jvm.Cond.soleField "ClaspedFair$Market" "askedTrait") ∈ lw_all := lw_g (lw_at lw_m2 52 rfl) rfl
theorem q436 : (Jvm.Cond.superclass "ClaspedFair$Market" "java/lang/Object") ∈ lw_all := lw_g (lw_at lw_m2 53 rfl) rfl
theorem q835 : (Jvm.Cond.fieldLinkNest "ClaspedFair$Market" (169 : Nat) "ClaspedFair$Line" "word" "I" "ClaspedFair") ∈ lw_tbl := lw_at lw_m3 212 rfl
theorem q837 : (Jvm.Cond.fieldLinkNest "ClaspedFair$Market" (182 : Nat) "ClaspedFair$Line" "comesTo" "LClaspedFair$Term;" "ClaspedFair") ∈ lw_tbl := lw_at lw_m3 214 rfl
theorem q839 : (Jvm.Cond.fieldLinkNest "ClaspedFair$Market" (172 : Nat) "ClaspedFair$Line" "when" "LClaspedFair$Term;" "ClaspedFair") ∈ lw_tbl := lw_at lw_m3 216 rfl
theorem q888 : (Jvm.Cond.selects "ClaspedFair$Market" ({ cls := "java/lang/Object", name := "getClass", desc := "()Ljava/lang/Class;" } : Jvm.MethodName) ({ cls := "java/lang/Object", name := "getClass", desc := "()Ljava/lang/Class;" } : Jvm.MethodName)) ∈ lw_all := lw_g (lw_at lw_m4 25 rfl) rfl
theorem q929 : (Jvm.Cond.fieldLinkNest "ClaspedFair$Market" (268 : Nat) "ClaspedFair$Offer" "day" "I" "ClaspedFair") ∈ lw_tbl := lw_at lw_m4 66 rfl
theorem q931 : (Jvm.Cond.fieldLinkNest "ClaspedFair$Market" (269 : Nat) "ClaspedFair$Offer" "buyer" "I" "ClaspedFair") ∈ lw_tbl := lw_at lw_m4 68 rfl
theorem q933 : (Jvm.Cond.fieldLinkNest "ClaspedFair$Market" (272 : Nat) "ClaspedFair$Offer" "horse" "I" "ClaspedFair") ∈ lw_tbl := lw_at lw_m4 70 rfl
theorem q935 : (Jvm.Cond.fieldLinkNest "ClaspedFair$Market" (274 : Nat) "ClaspedFair$Offer" "price" "I" "ClaspedFair") ∈ lw_tbl := lw_at lw_m4 72 rfl
theorem q937 : (Jvm.Cond.fieldLinkNest "ClaspedFair$Market" (275 : Nat) "ClaspedFair$Offer" "grip" "I" "ClaspedFair") ∈ lw_tbl := lw_at lw_m4 74 rfl
theorem q1024 : (Jvm.Cond.instanceMethod ({ cls := "ClaspedFair$Market", name := "moves", desc := "(LClaspedFair$Market;)V" } : Jvm.MethodName)) ∈ lw_all := lw_g (lw_at lw_m4 161 rfl) rfl
theorem q1025 : (Jvm.Cond.selects "ClaspedFair$Market" ({ cls := "ClaspedFair$Market", name := "moves", desc := "(LClaspedFair$Market;)V" } : Jvm.MethodName) ({ cls := "ClaspedFair$Market", name := "moves", desc := "(LClaspedFair$Market;)V" } : Jvm.MethodName)) ∈ lw_all := lw_g (lw_at lw_m4 162 rfl) rfl
theorem q1026 : (Jvm.Cond.code ({ cls := "ClaspedFair$Market", name := "moves", desc := "(LClaspedFair$Market;)V" } : Jvm.MethodName) prog_12_method_2_code (3 : Nat) (Option.none : Option Jvm.ClassFile.FieldType)) ∈ lw_all := lw_g (lw_at lw_m4 163 rfl) rfl
theorem q1027 : (Jvm.Cond.methodLink "ClaspedFair$Market" (75 : Nat) ({ cls := "ClaspedFair$Person", name := "takes", desc := "(LClaspedFair$Person;)V" } : Jvm.MethodName)) ∈ lw_all := lw_g (lw_at lw_m4 164 rfl) rfl
theorem q1031 : (Jvm.Cond.methodLink "ClaspedFair$Market" (79 : Nat) ({ cls := "ClaspedFair$Horse", name := "takes", desc := "(LClaspedFair$Horse;)V" } : Jvm.MethodName)) ∈ lw_all := lw_g (lw_at lw_m4 168 rfl) rfl
theorem q1088 : (Jvm.Cond.instanceMethod ({ cls := "ClaspedFair$Market", name := "canBuy", desc := "(IIII)Z" } : Jvm.MethodName)) ∈ lw_all := lw_g (lw_at lw_m4 225 rfl) rfl
theorem q1089 : (Jvm.Cond.selects "ClaspedFair$Market" ({ cls := "ClaspedFair$Market", name := "canBuy", desc := "(IIII)Z" } : Jvm.MethodName) ({ cls := "ClaspedFair$Market", name := "canBuy", desc := "(IIII)Z" } : Jvm.MethodName)) ∈ lw_all := lw_g (lw_at lw_m4 226 rfl) rfl
theorem q1090 : (Jvm.Cond.code ({ cls := "ClaspedFair$Market", name := "canBuy", desc := "(IIII)Z" } : Jvm.MethodName) prog_12_method_13_code (6 : Nat) (Option.some Jvm.ClassFile.FieldType.boolean)) ∈ lw_all := lw_g (lw_at lw_m4 227 rfl) rfl
theorem q1091 : (Jvm.Cond.methodLink "ClaspedFair$Market" (199 : Nat) ({ cls := "ClaspedFair$Market", name := "isSlung", desc := "(II)Z" } : Jvm.MethodName)) ∈ lw_all := lw_g (lw_at lw_m4 228 rfl) rfl
theorem q1092 : (Jvm.Cond.privateMethod ({ cls := "ClaspedFair$Market", name := "isSlung", desc := "(II)Z" } : Jvm.MethodName)) ∈ lw_tbl := lw_at lw_m4 229 rfl
theorem q1093 : (Jvm.Cond.instanceMethod ({ cls := "ClaspedFair$Market", name := "isSlung", desc := "(II)Z" } : Jvm.MethodName)) ∈ lw_all := lw_g (lw_at lw_m4 230 rfl) rfl
theorem q1094 : (Jvm.Cond.code ({ cls := "ClaspedFair$Market", name := "isSlung", desc := "(II)Z" } : Jvm.MethodName) prog_12_method_12_code (3 : Nat) (Option.some Jvm.ClassFile.FieldType.boolean)) ∈ lw_all := lw_g (lw_at lw_m4 231 rfl) rfl
theorem q1095 : (Jvm.Cond.methodLink "ClaspedFair$Market" (203 : Nat) ({ cls := "ClaspedFair$Grip", name := "begins", desc := "(IIIILClaspedFair$Horse;)V" } : Jvm.MethodName)) ∈ lw_all := lw_g (lw_at lw_m4 232 rfl) rfl
theorem q1099 : (Jvm.Cond.methodLink "ClaspedFair$Market" (207 : Nat) ({ cls := "ClaspedFair$Market", name := "asks", desc := "(II)I" } : Jvm.MethodName)) ∈ lw_all := lw_g (lw_at lw_m4 236 rfl) rfl
theorem q1100 : (Jvm.Cond.instanceMethod ({ cls := "ClaspedFair$Market", name := "asks", desc := "(II)I" } : Jvm.MethodName)) ∈ lw_all := lw_g (lw_at lw_m4 237 rfl) rfl
theorem q1101 : (Jvm.Cond.selects "ClaspedFair$Market" ({ cls := "ClaspedFair$Market", name := "asks", desc := "(II)I" } : Jvm.MethodName) ({ cls := "ClaspedFair$Market", name := "asks", desc := "(II)I" } : Jvm.MethodName)) ∈ lw_all := lw_g (lw_at lw_m4 238 rfl) rfl
theorem q1102 : (Jvm.Cond.code ({ cls := "ClaspedFair$Market", name := "asks", desc := "(II)I" } : Jvm.MethodName) prog_12_method_11_code (3 : Nat) (Option.some Jvm.ClassFile.FieldType.int)) ∈ lw_all := lw_g (lw_at lw_m4 239 rfl) rfl
theorem q1103 : (Jvm.Cond.methodLink "ClaspedFair$Market" (189 : Nat) ({ cls := "ClaspedFair$Market", name := "tells", desc := "(IIIIII)I" } : Jvm.MethodName)) ∈ lw_all := lw_g (lw_at lw_m5 0 rfl) rfl
theorem q1104 : (Jvm.Cond.privateMethod ({ cls := "ClaspedFair$Market", name := "tells", desc := "(IIIIII)I" } : Jvm.MethodName)) ∈ lw_tbl := lw_at lw_m5 1 rfl
theorem q1105 : (Jvm.Cond.instanceMethod ({ cls := "ClaspedFair$Market", name := "tells", desc := "(IIIIII)I" } : Jvm.MethodName)) ∈ lw_all := lw_g (lw_at lw_m5 2 rfl) rfl
theorem q1106 : (Jvm.Cond.code ({ cls := "ClaspedFair$Market", name := "tells", desc := "(IIIIII)I" } : Jvm.MethodName) prog_12_method_8_code (9 : Nat) (Option.some Jvm.ClassFile.FieldType.int)) ∈ lw_all := lw_g (lw_at lw_m5 3 rfl) rfl
theorem q1107 : (Jvm.Cond.methodLink "ClaspedFair$Market" (159 : Nat) ({ cls := "java/util/ArrayList", name := "size", desc := "()I" } : Jvm.MethodName)) ∈ lw_all := lw_g (lw_at lw_m5 4 rfl) rfl
theorem q1108 : (Jvm.Cond.methodLink "ClaspedFair$Market" (163 : Nat) ({ cls := "java/util/ArrayList", name := "get", desc := "(I)Ljava/lang/Object;" } : Jvm.MethodName)) ∈ lw_all := lw_g (lw_at lw_m5 5 rfl) rfl
theorem q1120 : (Jvm.Cond.classLink "ClaspedFair$Market" (167 : Nat) "ClaspedFair$Line") ∈ lw_all := lw_g (lw_at lw_m5 17 rfl) rfl
theorem q1121 : (Jvm.Cond.methodLink "ClaspedFair$Market" (176 : Nat) ({ cls := "ClaspedFair$Term", name := "of", desc := "(LClaspedFair$Asker;)I" } : Jvm.MethodName)) ∈ lw_all := lw_g (lw_at lw_m5 18 rfl) rfl
theorem q1137 : (Jvm.Cond.castable "ClaspedFair$Market" "ClaspedFair$Asker") ∈ lw_tbl := lw_at lw_m5 34 rfl
theorem q1138 : (Jvm.Cond.selects "ClaspedFair$Market" ({ cls := "ClaspedFair$Asker", name := "fact", desc := "(I)I" } : Jvm.MethodName) ({ cls := "ClaspedFair$Market", name := "fact", desc := "(I)I" } : Jvm.MethodName)) ∈ lw_all := lw_g (lw_at lw_m5 35 rfl) rfl
theorem q1139 : (Jvm.Cond.unhidden "ClaspedFair$Market" "fact" "(I)I") ∈ lw_tbl := lw_at lw_m5 36 rfl
theorem q1140 : (Jvm.Cond.instanceMethod ({ cls := "ClaspedFair$Market", name := "fact", desc := "(I)I" } : Jvm.MethodName)) ∈ lw_all := lw_g (lw_at lw_m5 37 rfl) rfl
theorem q1141 : (Jvm.Cond.publicMethod ({ cls := "ClaspedFair$Market", name := "fact", desc := "(I)I" } : Jvm.MethodName)) ∈ lw_tbl := lw_at lw_m5 38 rfl
theorem q1142 : (Jvm.Cond.code ({ cls := "ClaspedFair$Market", name := "fact", desc := "(I)I" } : Jvm.MethodName) prog_12_method_7_code (3 : Nat) (Option.some Jvm.ClassFile.FieldType.int)) ∈ lw_all := lw_g (lw_at lw_m5 39 rfl) rfl
theorem q1143 : (Jvm.Cond.methodLink "ClaspedFair$Market" (129 : Nat) ({ cls := "java/lang/Math", name := "max", desc := "(II)I" } : Jvm.MethodName)) ∈ lw_all := lw_g (lw_at lw_m5 40 rfl) rfl
theorem q1149 : (Jvm.Cond.methodLinkNest "ClaspedFair$Market" (185 : Nat) ({ cls := "ClaspedFair", name := "bound", desc := "(III)I" } : Jvm.MethodName) "ClaspedFair") ∈ lw_tbl := lw_at lw_m5 46 rfl
theorem q1159 : (Jvm.Cond.instanceMethod ({ cls := "ClaspedFair$Market", name := "buys", desc := "(I)I" } : Jvm.MethodName)) ∈ lw_all := lw_g (lw_at lw_m5 56 rfl) rfl
theorem q1160 : (Jvm.Cond.selects "ClaspedFair$Market" ({ cls := "ClaspedFair$Market", name := "buys", desc := "(I)I" } : Jvm.MethodName) ({ cls := "ClaspedFair$Market", name := "buys", desc := "(I)I" } : Jvm.MethodName)) ∈ lw_all := lw_g (lw_at lw_m5 57 rfl) rfl
theorem q1161 : (Jvm.Cond.code ({ cls := "ClaspedFair$Market", name := "buys", desc := "(I)I" } : Jvm.MethodName) prog_12_method_19_code (5 : Nat) (Option.some Jvm.ClassFile.FieldType.int)) ∈ lw_all := lw_g (lw_at lw_m5 58 rfl) rfl
theorem q1162 : (Jvm.Cond.methodLink "ClaspedFair$Market" (222 : Nat) ({ cls := "java/lang/Math", name := "min", desc := "(II)I" } : Jvm.MethodName)) ∈ lw_all := lw_g (lw_at lw_m5 59 rfl) rfl
theorem q1163 : (Jvm.Cond.methodLink "ClaspedFair$Market" (238 : Nat) ({ cls := "ClaspedFair$Market", name := "notes", desc := "(III)V" } : Jvm.MethodName)) ∈ lw_all := lw_g (lw_at lw_m5 60 rfl) rfl
theorem q1164 : (Jvm.Cond.privateMethod ({ cls := "ClaspedFair$Market", name := "notes", desc := "(III)V" } : Jvm.MethodName)) ∈ lw_tbl := lw_at lw_m5 61 rfl
theorem q1165 : (Jvm.Cond.instanceMethod ({ cls := "ClaspedFair$Market", name := "notes", desc := "(III)V" } : Jvm.MethodName)) ∈ lw_all := lw_g (lw_at lw_m5 62 rfl) rfl
theorem q1166 : (Jvm.Cond.code ({ cls := "ClaspedFair$Market", name := "notes", desc := "(III)V" } : Jvm.MethodName) prog_12_method_6_code (5 : Nat) (Option.none : Option Jvm.ClassFile.FieldType)) ∈ lw_all := lw_g (lw_at lw_m5 63 rfl) rfl
theorem q1167 : (Jvm.Cond.methodLink "ClaspedFair$Market" (249 : Nat) ({ cls := "ClaspedFair$Market", name := "shakes", desc := "(I)I" } : Jvm.MethodName)) ∈ lw_all := lw_g (lw_at lw_m5 64 rfl) rfl
theorem q1168 : (Jvm.Cond.privateMethod ({ cls := "ClaspedFair$Market", name := "shakes", desc := "(I)I" } : Jvm.MethodName)) ∈ lw_tbl := lw_at lw_m5 65 rfl
theorem q1169 : (Jvm.Cond.instanceMethod ({ cls := "ClaspedFair$Market", name := "shakes", desc := "(I)I" } : Jvm.MethodName)) ∈ lw_all := lw_g (lw_at lw_m5 66 rfl) rfl
theorem q1170 : (Jvm.Cond.code ({ cls := "ClaspedFair$Market", name := "shakes", desc := "(I)I" } : Jvm.MethodName) prog_12_method_17_code (7 : Nat) (Option.some Jvm.ClassFile.FieldType.int)) ∈ lw_all := lw_g (lw_at lw_m5 67 rfl) rfl
theorem q1171 : (Jvm.Cond.methodLink "ClaspedFair$Market" (232 : Nat) ({ cls := "ClaspedFair$Market", name := "goesOver", desc := "(I)V" } : Jvm.MethodName)) ∈ lw_all := lw_g (lw_at lw_m5 68 rfl) rfl
theorem q1172 : (Jvm.Cond.privateMethod ({ cls := "ClaspedFair$Market", name := "goesOver", desc := "(I)V" } : Jvm.MethodName)) ∈ lw_tbl := lw_at lw_m5 69 rfl
theorem q1173 : (Jvm.Cond.instanceMethod ({ cls := "ClaspedFair$Market", name := "goesOver", desc := "(I)V" } : Jvm.MethodName)) ∈ lw_all := lw_g (lw_at lw_m5 70 rfl) rfl
theorem q1174 : (Jvm.Cond.code ({ cls := "ClaspedFair$Market", name := "goesOver", desc := "(I)V" } : Jvm.MethodName) prog_12_method_15_code (6 : Nat) (Option.none : Option Jvm.ClassFile.FieldType)) ∈ lw_all := lw_g (lw_at lw_m5 71 rfl) rfl
theorem q1175 : (Jvm.Cond.methodLink "ClaspedFair$Market" (216 : Nat) ({ cls := "ClaspedFair$Market", name := "passes", desc := "(III)I" } : Jvm.MethodName)) ∈ lw_all := lw_g (lw_at lw_m5 72 rfl) rfl
theorem q1176 : (Jvm.Cond.instanceMethod ({ cls := "ClaspedFair$Market", name := "passes", desc := "(III)I" } : Jvm.MethodName)) ∈ lw_all := lw_g (lw_at lw_m5 73 rfl) rfl
theorem q1177 : (Jvm.Cond.selects "ClaspedFair$Market" ({ cls := "ClaspedFair$Market", name := "passes", desc := "(III)I" } : Jvm.MethodName) ({ cls := "ClaspedFair$Market", name := "passes", desc := "(III)I" } : Jvm.MethodName)) ∈ lw_all := lw_g (lw_at lw_m5 74 rfl) rfl
theorem q1178 : (Jvm.Cond.code ({ cls := "ClaspedFair$Market", name := "passes", desc := "(III)I" } : Jvm.MethodName) prog_12_method_9_code (4 : Nat) (Option.some Jvm.ClassFile.FieldType.int)) ∈ lw_all := lw_g (lw_at lw_m5 75 rfl) rfl
theorem q1179 : (Jvm.Cond.methodLink "ClaspedFair$Market" (228 : Nat) ({ cls := "ClaspedFair$Market", name := "shifts", desc := "(II)V" } : Jvm.MethodName)) ∈ lw_all := lw_g (lw_at lw_m5 76 rfl) rfl
theorem q1180 : (Jvm.Cond.privateMethod ({ cls := "ClaspedFair$Market", name := "shifts", desc := "(II)V" } : Jvm.MethodName)) ∈ lw_tbl := lw_at lw_m5 77 rfl
theorem q1181 : (Jvm.Cond.instanceMethod ({ cls := "ClaspedFair$Market", name := "shifts", desc := "(II)V" } : Jvm.MethodName)) ∈ lw_all := lw_g (lw_at lw_m5 78 rfl) rfl
theorem q1182 : (Jvm.Cond.code ({ cls := "ClaspedFair$Market", name := "shifts", desc := "(II)V" } : Jvm.MethodName) prog_12_method_16_code (4 : Nat) (Option.none : Option Jvm.ClassFile.FieldType)) ∈ lw_all := lw_g (lw_at lw_m5 79 rfl) rfl
theorem q1183 : (Jvm.Cond.methodLink "ClaspedFair$Market" (235 : Nat) ({ cls := "ClaspedFair$Grip", name := "all", desc := "()I" } : Jvm.MethodName)) ∈ lw_all := lw_g (lw_at lw_m5 80 rfl) rfl
theorem q1187 : (Jvm.Cond.methodLink "ClaspedFair$Market" (242 : Nat) ({ cls := "ClaspedFair$Market", name := "holds", desc := "(II)I" } : Jvm.MethodName)) ∈ lw_all := lw_g (lw_at lw_m5 84 rfl) rfl
theorem q1188 : (Jvm.Cond.instanceMethod ({ cls := "ClaspedFair$Market", name := "holds", desc := "(II)I" } : Jvm.MethodName)) ∈ lw_all := lw_g (lw_at lw_m5 85 rfl) rfl
theorem q1189 : (Jvm.Cond.selects "ClaspedFair$Market" ({ cls := "ClaspedFair$Market", name := "holds", desc := "(II)I" } : Jvm.MethodName) ({ cls := "ClaspedFair$Market", name := "holds", desc := "(II)I" } : Jvm.MethodName)) ∈ lw_all := lw_g (lw_at lw_m5 86 rfl) rfl
theorem q1190 : (Jvm.Cond.code ({ cls := "ClaspedFair$Market", name := "holds", desc := "(II)I" } : Jvm.MethodName) prog_12_method_10_code (3 : Nat) (Option.some Jvm.ClassFile.FieldType.int)) ∈ lw_all := lw_g (lw_at lw_m5 87 rfl) rfl
theorem q1191 : (Jvm.Cond.methodLink "ClaspedFair$Market" (245 : Nat) ({ cls := "ClaspedFair$Market", name := "draw", desc := "(I)I" } : Jvm.MethodName)) ∈ lw_all := lw_g (lw_at lw_m5 88 rfl) rfl
theorem q1192 : (Jvm.Cond.instanceMethod ({ cls := "ClaspedFair$Market", name := "draw", desc := "(I)I" } : Jvm.MethodName)) ∈ lw_all := lw_g (lw_at lw_m5 89 rfl) rfl
theorem q1193 : (Jvm.Cond.selects "ClaspedFair$Market" ({ cls := "ClaspedFair$Market", name := "draw", desc := "(I)I" } : Jvm.MethodName) ({ cls := "ClaspedFair$Market", name := "draw", desc := "(I)I" } : Jvm.MethodName)) ∈ lw_all := lw_g (lw_at lw_m5 90 rfl) rfl
theorem q1194 : (Jvm.Cond.code ({ cls := "ClaspedFair$Market", name := "draw", desc := "(I)I" } : Jvm.MethodName) prog_12_method_5_code (2 : Nat) (Option.some Jvm.ClassFile.FieldType.int)) ∈ lw_all := lw_g (lw_at lw_m5 91 rfl) rfl
theorem q1195 : (Jvm.Cond.constant "ClaspedFair$Market" (117 : Nat) (1664525 : Int32)) ∈ lw_all := lw_g (lw_at lw_m5 92 rfl) rfl
theorem q1196 : (Jvm.Cond.constant "ClaspedFair$Market" (118 : Nat) (1013904223 : Int32)) ∈ lw_all := lw_g (lw_at lw_m5 93 rfl) rfl
theorem q1202 : (Jvm.Cond.instanceMethod ({ cls := "ClaspedFair$Market", name := "canClasp", desc := "(III)Z" } : Jvm.MethodName)) ∈ lw_all := lw_g (lw_at lw_m5 99 rfl) rfl
theorem q1203 : (Jvm.Cond.selects "ClaspedFair$Market" ({ cls := "ClaspedFair$Market", name := "canClasp", desc := "(III)Z" } : Jvm.MethodName) ({ cls := "ClaspedFair$Market", name := "canClasp", desc := "(III)Z" } : Jvm.MethodName)) ∈ lw_all := lw_g (lw_at lw_m5 100 rfl) rfl
theorem q1204 : (Jvm.Cond.code ({ cls := "ClaspedFair$Market", name := "canClasp", desc := "(III)Z" } : Jvm.MethodName) prog_12_method_14_code (4 : Nat) (Option.some Jvm.ClassFile.FieldType.boolean)) ∈ lw_all := lw_g (lw_at lw_m5 101 rfl) rfl
theorem q1206 : (Jvm.Cond.instanceMethod ({ cls := "ClaspedFair$Market", name := "claspsThem", desc := "()I" } : Jvm.MethodName)) ∈ lw_all := lw_g (lw_at lw_m5 103 rfl) rfl
theorem q1207 : (Jvm.Cond.selects "ClaspedFair$Market" ({ cls := "ClaspedFair$Market", name := "claspsThem", desc := "()I" } : Jvm.MethodName) ({ cls := "ClaspedFair$Market", name := "claspsThem", desc := "()I" } : Jvm.MethodName)) ∈ lw_all := lw_g (lw_at lw_m5 104 rfl) rfl
theorem q1208 : (Jvm.Cond.code ({ cls := "ClaspedFair$Market", name := "claspsThem", desc := "()I" } : Jvm.MethodName) prog_12_method_18_code (1 : Nat) (Option.some Jvm.ClassFile.FieldType.int)) ∈ lw_all := lw_g (lw_at lw_m5 105 rfl) rfl
theorem q1218 : (Jvm.Cond.instanceMethod ({ cls := "ClaspedFair$Market", name := "passes", desc := "()I" } : Jvm.MethodName)) ∈ lw_all := lw_g (lw_at lw_m5 115 rfl) rfl
theorem q1219 : (Jvm.Cond.selects "ClaspedFair$Market" ({ cls := "ClaspedFair$Market", name := "passes", desc := "()I" } : Jvm.MethodName) ({ cls := "ClaspedFair$Market", name := "passes", desc := "()I" } : Jvm.MethodName)) ∈ lw_all := lw_g (lw_at lw_m5 116 rfl) rfl
theorem q1220 : (Jvm.Cond.code ({ cls := "ClaspedFair$Market", name := "passes", desc := "()I" } : Jvm.MethodName) prog_12_method_20_code (4 : Nat) (Option.some Jvm.ClassFile.FieldType.int)) ∈ lw_all := lw_g (lw_at lw_m5 117 rfl) rfl
theorem q1221 : (Jvm.Cond.classLink "ClaspedFair$Market" (255 : Nat) "ClaspedFair$Habit") ∈ lw_all := lw_g (lw_at lw_m5 118 rfl) rfl
theorem q1222 : (Jvm.Cond.methodLink "ClaspedFair$Market" (257 : Nat) ({ cls := "ClaspedFair$Habit", name := "isOf", desc := "(I)Z" } : Jvm.MethodName)) ∈ lw_all := lw_g (lw_at lw_m5 119 rfl) rfl
theorem q1229 : (Jvm.Cond.methodLink "ClaspedFair$Market" (261 : Nat) ({ cls := "ClaspedFair$Habit", name := "person", desc := "()I" } : Jvm.MethodName)) ∈ lw_all := lw_g (lw_at lw_m5 126 rfl) rfl
theorem q1236 : (Jvm.Cond.methodLink "ClaspedFair$Market" (263 : Nat) ({ cls := "ClaspedFair$Habit", name := "does", desc := "(LClaspedFair$Person;)V" } : Jvm.MethodName)) ∈ lw_all := lw_g (lw_at lw_m5 133 rfl) rfl
theorem q1250 : (Jvm.Cond.classLink "ClaspedFair$Market" (266 : Nat) "ClaspedFair$Offer") ∈ lw_all := lw_g (lw_at lw_m5 147 rfl) rfl
theorem q1251 : (Jvm.Cond.methodLink "ClaspedFair$Market" (277 : Nat) ({ cls := "ClaspedFair$Market", name := "canBuy", desc := "(IIII)Z" } : Jvm.MethodName)) ∈ lw_all := lw_g (lw_at lw_m5 148 rfl) rfl
theorem q1252 : (Jvm.Cond.methodLink "ClaspedFair$Market" (281 : Nat) ({ cls := "ClaspedFair$Market", name := "buys", desc := "(I)I" } : Jvm.MethodName)) ∈ lw_all := lw_g (lw_at lw_m5 149 rfl) rfl
theorem q1290 : (Jvm.Cond.instanceMethod ({ cls := "ClaspedFair$Market", name := "thinks", desc := "(LClaspedFair$Market;)V" } : Jvm.MethodName)) ∈ lw_all := lw_g (lw_at lw_m5 187 rfl) rfl
theorem q1291 : (Jvm.Cond.selects "ClaspedFair$Market" ({ cls := "ClaspedFair$Market", name := "thinks", desc := "(LClaspedFair$Market;)V" } : Jvm.MethodName) ({ cls := "ClaspedFair$Market", name := "thinks", desc := "(LClaspedFair$Market;)V" } : Jvm.MethodName)) ∈ lw_all := lw_g (lw_at lw_m5 188 rfl) rfl
theorem q1292 : (Jvm.Cond.code ({ cls := "ClaspedFair$Market", name := "thinks", desc := "(LClaspedFair$Market;)V" } : Jvm.MethodName) prog_12_method_3_code (2 : Nat) (Option.none : Option Jvm.ClassFile.FieldType)) ∈ lw_all := lw_g (lw_at lw_m5 189 rfl) rfl
theorem q1293 : (Jvm.Cond.methodLink "ClaspedFair$Market" (98 : Nat) ({ cls := "ClaspedFair$Market", name := "moves", desc := "(LClaspedFair$Market;)V" } : Jvm.MethodName)) ∈ lw_all := lw_g (lw_at lw_m5 190 rfl) rfl
theorem q1454 : (Jvm.Cond.instanceMethod ({ cls := "ClaspedFair$Market", name := "takes", desc := "(LClaspedFair$Market;)V" } : Jvm.MethodName)) ∈ lw_all := lw_g (lw_at lw_m6 111 rfl) rfl
theorem q1455 : (Jvm.Cond.selects "ClaspedFair$Market" ({ cls := "ClaspedFair$Market", name := "takes", desc := "(LClaspedFair$Market;)V" } : Jvm.MethodName) ({ cls := "ClaspedFair$Market", name := "takes", desc := "(LClaspedFair$Market;)V" } : Jvm.MethodName)) ∈ lw_all := lw_g (lw_at lw_m6 112 rfl) rfl
theorem q1456 : (Jvm.Cond.code ({ cls := "ClaspedFair$Market", name := "takes", desc := "(LClaspedFair$Market;)V" } : Jvm.MethodName) prog_12_method_4_code (4 : Nat) (Option.none : Option Jvm.ClassFile.FieldType)) ∈ lw_all := lw_g (lw_at lw_m6 113 rfl) rfl
theorem q1457 : (Jvm.Cond.methodLink "ClaspedFair$Market" (111 : Nat) ({ cls := "ClaspedFair$Market", name := "thinks", desc := "(LClaspedFair$Market;)V" } : Jvm.MethodName)) ∈ lw_all := lw_g (lw_at lw_m6 114 rfl) rfl
theorem q1458 : (Jvm.Cond.methodLink "ClaspedFair$Market" (114 : Nat) ({ cls := "ClaspedFair$Rows", name := "takes", desc := "(LClaspedFair$Rows;)V" } : Jvm.MethodName)) ∈ lw_all := lw_g (lw_at lw_m6 115 rfl) rfl
theorem q2214 : (Jvm.Cond.castable "ClaspedFair$Market" "java/lang/Object") ∈ lw_tbl := lw_at lw_m9 151 rfl
