set_option maxRecDepth 100000
theorem q153 : (Jvm.Cond.initialized "ClaspedFairModel") ∈ lw_all := lw_g (lw_at lw_m1 10 rfl) rfl
theorem q896 : (Jvm.Cond.selects "ClaspedFairModel" ({ cls := "java/lang/Object", name := "getClass", desc := "()Ljava/lang/Class;" } : Jvm.MethodName) ({ cls := "java/lang/Object", name := "getClass", desc := "()Ljava/lang/Class;" } : Jvm.MethodName)) ∈ lw_all := lw_g (lw_at lw_m4 33 rfl) rfl
theorem q1467 : (Jvm.Cond.instantiable "ClaspedFairModel" (69 : Nat)) ∈ lw_all := lw_g (lw_at lw_m6 124 rfl) rfl
theorem q1469 : (Jvm.Cond.instanceMethod ({ cls := "ClaspedFairModel", name := "<init>", desc := "()V" } : Jvm.MethodName)) ∈ lw_all := lw_g (lw_at lw_m6 126 rfl) rfl
theorem q1470 : (Jvm.Cond.code ({ cls := "ClaspedFairModel", name := "<init>", desc := "()V" } : Jvm.MethodName) prog_22_method_1_code (1 : Nat) (Option.none : Option Jvm.ClassFile.FieldType)) ∈ lw_all := lw_g (lw_at lw_m6 127 rfl) rfl
theorem q1471 : (Jvm.Cond.methodLink "ClaspedFairModel" (1 : Nat) ({ cls := "java/lang/Object", name := "<init>", desc := "()V" } : Jvm.MethodName)) ∈ lw_all := lw_g (lw_at lw_m6 128 rfl) rfl
theorem q1472 : (Jvm.Cond.fieldLink "ClaspedFairModel" (122 : Nat) "ClaspedFairModel" "told" "I") ∈ lw_all := lw_g (lw_at lw_m6 129 rfl) rfl
theorem q1473 : (Jvm.Cond.fieldLink "ClaspedFairModel" (7 : Nat) "ClaspedFairModel" "now" "[I") ∈ lw_all := lw_g (lw_at lw_m6 130 rfl) rfl
theorem q1474 : (Jvm.Cond.fieldLink "ClaspedFairModel" (13 : Nat) "ClaspedFairModel" "rows" "[I") ∈ lw_all := lw_g (lw_at lw_m6 131 rfl) rfl
theorem q1475 : (Jvm.Cond.fieldLink "ClaspedFairModel" (126 : Nat) "ClaspedFairModel" "undoable" "I") ∈ lw_all := lw_g (lw_at lw_m6 132 rfl) rfl
theorem q1476 : (Jvm.Cond.fieldLink "ClaspedFairModel" (16 : Nat) "ClaspedFairModel" "waiting" "[I") ∈ lw_all := lw_g (lw_at lw_m6 133 rfl) rfl
theorem q1477 : (Jvm.Cond.fieldLink "ClaspedFairModel" (129 : Nat) "ClaspedFairModel" "isThought" "Z") ∈ lw_all := lw_g (lw_at lw_m6 134 rfl) rfl
theorem q1478 : (Jvm.Cond.fieldLink "ClaspedFairModel" (135 : Nat) "ClaspedFairModel" "people" "I") ∈ lw_all := lw_g (lw_at lw_m6 135 rfl) rfl
theorem q1479 : (Jvm.Cond.fieldLink "ClaspedFairModel" (138 : Nat) "ClaspedFairModel" "horses" "I") ∈ lw_all := lw_g (lw_at lw_m6 136 rfl) rfl
theorem q1480 : (Jvm.Cond.fieldLink "ClaspedFairModel" (19 : Nat) "ClaspedFairModel" "worth" "[I") ∈ lw_all := lw_g (lw_at lw_m6 137 rfl) rfl
theorem q1481 : (Jvm.Cond.fieldLink "ClaspedFairModel" (22 : Nat) "ClaspedFairModel" "spirit" "[I") ∈ lw_all := lw_g (lw_at lw_m6 138 rfl) rfl
theorem q1482 : (Jvm.Cond.fieldLink "ClaspedFairModel" (25 : Nat) "ClaspedFairModel" "book" "[I") ∈ lw_all := lw_g (lw_at lw_m6 139 rfl) rfl
theorem q1483 : (Jvm.Cond.fieldLink "ClaspedFairModel" (28 : Nat) "ClaspedFairModel" "tape" "[I") ∈ lw_all := lw_g (lw_at lw_m6 140 rfl) rfl
theorem q1484 : (Jvm.Cond.fieldLink "ClaspedFairModel" (163 : Nat) "ClaspedFairModel" "taped" "I") ∈ lw_all := lw_g (lw_at lw_m6 141 rfl) rfl
theorem q1485 : (Jvm.Cond.fieldLink "ClaspedFairModel" (170 : Nat) "ClaspedFairModel" "spot" "I") ∈ lw_all := lw_g (lw_at lw_m6 142 rfl) rfl
theorem q1486 : (Jvm.Cond.fieldLink "ClaspedFairModel" (177 : Nat) "ClaspedFairModel" "from" "I") ∈ lw_all := lw_g (lw_at lw_m6 143 rfl) rfl
theorem q1487 : (Jvm.Cond.fieldLink "ClaspedFairModel" (180 : Nat) "ClaspedFairModel" "token" "I") ∈ lw_all := lw_g (lw_at lw_m6 144 rfl) rfl
theorem q1488 : (Jvm.Cond.fieldLink "ClaspedFairModel" (183 : Nat) "ClaspedFairModel" "value" "I") ∈ lw_all := lw_g (lw_at lw_m6 145 rfl) rfl
theorem q1489 : (Jvm.Cond.fieldLink "ClaspedFairModel" (31 : Nat) "ClaspedFairModel" "words" "[I") ∈ lw_all := lw_g (lw_at lw_m6 146 rfl) rfl
theorem q1490 : (Jvm.Cond.fieldLink "ClaspedFairModel" (34 : Nat) "ClaspedFairModel" "lineMany" "[I") ∈ lw_all := lw_g (lw_at lw_m6 147 rfl) rfl
theorem q1491 : (Jvm.Cond.fieldLink "ClaspedFairModel" (37 : Nat) "ClaspedFairModel" "lineWord" "[I") ∈ lw_all := lw_g (lw_at lw_m6 148 rfl) rfl
theorem q1492 : (Jvm.Cond.fieldLink "ClaspedFairModel" (40 : Nat) "ClaspedFairModel" "lineFrom" "[I") ∈ lw_all := lw_g (lw_at lw_m6 149 rfl) rfl
theorem q1493 : (Jvm.Cond.fieldLink "ClaspedFairModel" (43 : Nat) "ClaspedFairModel" "lineWhen" "[I") ∈ lw_all := lw_g (lw_at lw_m6 150 rfl) rfl
theorem q1494 : (Jvm.Cond.fieldLink "ClaspedFairModel" (46 : Nat) "ClaspedFairModel" "lineTo" "[I") ∈ lw_all := lw_g (lw_at lw_m6 151 rfl) rfl
theorem q1495 : (Jvm.Cond.fieldLink "ClaspedFairModel" (49 : Nat) "ClaspedFairModel" "op" "[I") ∈ lw_all := lw_g (lw_at lw_m6 152 rfl) rfl
theorem q1496 : (Jvm.Cond.fieldLink "ClaspedFairModel" (52 : Nat) "ClaspedFairModel" "arg" "[I") ∈ lw_all := lw_g (lw_at lw_m6 153 rfl) rfl
theorem q1497 : (Jvm.Cond.fieldLink "ClaspedFairModel" (259 : Nat) "ClaspedFairModel" "which" "I") ∈ lw_all := lw_g (lw_at lw_m6 154 rfl) rfl
theorem q1498 : (Jvm.Cond.fieldLink "ClaspedFairModel" (205 : Nat) "ClaspedFairModel" "codes" "I") ∈ lw_all := lw_g (lw_at lw_m6 155 rfl) rfl
theorem q1499 : (Jvm.Cond.fieldLink "ClaspedFairModel" (237 : Nat) "ClaspedFairModel" "open" "I") ∈ lw_all := lw_g (lw_at lw_m6 156 rfl) rfl
theorem q1500 : (Jvm.Cond.fieldLink "ClaspedFairModel" (55 : Nat) "ClaspedFairModel" "pending" "[I") ∈ lw_all := lw_g (lw_at lw_m6 157 rfl) rfl
theorem q1501 : (Jvm.Cond.fieldLink "ClaspedFairModel" (234 : Nat) "ClaspedFairModel" "pendings" "I") ∈ lw_all := lw_g (lw_at lw_m6 158 rfl) rfl
theorem q1502 : (Jvm.Cond.fieldLink "ClaspedFairModel" (199 : Nat) "ClaspedFairModel" "readFault" "I") ∈ lw_all := lw_g (lw_at lw_m6 159 rfl) rfl
theorem q1503 : (Jvm.Cond.fieldLink "ClaspedFairModel" (202 : Nat) "ClaspedFairModel" "readPlace" "I") ∈ lw_all := lw_g (lw_at lw_m6 160 rfl) rfl
theorem q1504 : (Jvm.Cond.fieldLink "ClaspedFairModel" (301 : Nat) "ClaspedFairModel" "faultKind" "I") ∈ lw_all := lw_g (lw_at lw_m6 161 rfl) rfl
theorem q1505 : (Jvm.Cond.fieldLink "ClaspedFairModel" (58 : Nat) "ClaspedFairModel" "faultPlace" "I") ∈ lw_all := lw_g (lw_at lw_m6 162 rfl) rfl
theorem q1506 : (Jvm.Cond.fieldLink "ClaspedFairModel" (295 : Nat) "ClaspedFairModel" "offerMany" "I") ∈ lw_all := lw_g (lw_at lw_m6 163 rfl) rfl
theorem q1507 : (Jvm.Cond.fieldLink "ClaspedFairModel" (62 : Nat) "ClaspedFairModel" "offers" "[I") ∈ lw_all := lw_g (lw_at lw_m6 164 rfl) rfl
theorem q1508 : (Jvm.Cond.fieldLink "ClaspedFairModel" (298 : Nat) "ClaspedFairModel" "deedMany" "I") ∈ lw_all := lw_g (lw_at lw_m6 165 rfl) rfl
theorem q1509 : (Jvm.Cond.fieldLink "ClaspedFairModel" (65 : Nat) "ClaspedFairModel" "deeds" "[I") ∈ lw_all := lw_g (lw_at lw_m6 166 rfl) rfl
theorem q1510 : (Jvm.Cond.fieldLink "ClaspedFairModel" (292 : Nat) "ClaspedFairModel" "kinMany" "I") ∈ lw_all := lw_g (lw_at lw_m6 167 rfl) rfl
theorem q1511 : (Jvm.Cond.fieldLink "ClaspedFairModel" (68 : Nat) "ClaspedFairModel" "kinOf" "[I") ∈ lw_all := lw_g (lw_at lw_m6 168 rfl) rfl
theorem q1512 : (Jvm.Cond.fieldLink "ClaspedFairModel" (71 : Nat) "ClaspedFairModel" "asked" "[I") ∈ lw_all := lw_g (lw_at lw_m6 169 rfl) rfl
theorem q1513 : (Jvm.Cond.fieldLink "ClaspedFairModel" (74 : Nat) "ClaspedFairModel" "stack" "[I") ∈ lw_all := lw_g (lw_at lw_m6 170 rfl) rfl
theorem q1514 : (Jvm.Cond.fieldLink "ClaspedFairModel" (322 : Nat) "ClaspedFairModel" "byGrip" "I") ∈ lw_all := lw_g (lw_at lw_m6 171 rfl) rfl
theorem q1515 : (Jvm.Cond.fieldLink "ClaspedFairModel" (325 : Nat) "ClaspedFairModel" "byPrice" "I") ∈ lw_all := lw_g (lw_at lw_m6 172 rfl) rfl
theorem q1516 : (Jvm.Cond.fieldLink "ClaspedFairModel" (328 : Nat) "ClaspedFairModel" "byHorse" "I") ∈ lw_all := lw_g (lw_at lw_m6 173 rfl) rfl
theorem q1517 : (Jvm.Cond.fieldLink "ClaspedFairModel" (77 : Nat) "ClaspedFairModel" "wentOver" "[I") ∈ lw_all := lw_g (lw_at lw_m6 174 rfl) rfl
theorem q1518 : (Jvm.Cond.fieldLink "ClaspedFairModel" (80 : Nat) "ClaspedFairModel" "wentBack" "[I") ∈ lw_all := lw_g (lw_at lw_m6 175 rfl) rfl
theorem q1519 : (Jvm.Cond.fieldLink "ClaspedFairModel" (360 : Nat) "ClaspedFairModel" "isHeld" "Z") ∈ lw_all := lw_g (lw_at lw_m6 176 rfl) rfl
theorem q1520 : (Jvm.Cond.fieldLink "ClaspedFairModel" (419 : Nat) "ClaspedFairModel" "claspMany" "I") ∈ lw_all := lw_g (lw_at lw_m6 177 rfl) rfl
theorem q1521 : (Jvm.Cond.fieldLink "ClaspedFairModel" (83 : Nat) "ClaspedFairModel" "claspOne" "[I") ∈ lw_all := lw_g (lw_at lw_m6 178 rfl) rfl
theorem q1522 : (Jvm.Cond.fieldLink "ClaspedFairModel" (86 : Nat) "ClaspedFairModel" "claspOther" "[I") ∈ lw_all := lw_g (lw_at lw_m6 179 rfl) rfl
theorem q1523 : (Jvm.Cond.fieldLink "ClaspedFairModel" (428 : Nat) "ClaspedFairModel" "numberMany" "I") ∈ lw_all := lw_g (lw_at lw_m6 180 rfl) rfl
theorem q1524 : (Jvm.Cond.fieldLink "ClaspedFairModel" (89 : Nat) "ClaspedFairModel" "numbers" "[I") ∈ lw_all := lw_g (lw_at lw_m6 181 rfl) rfl
theorem q1525 : (Jvm.Cond.fieldLink "ClaspedFairModel" (92 : Nat) "ClaspedFairModel" "toShake" "[I") ∈ lw_all := lw_g (lw_at lw_m6 182 rfl) rfl
theorem q1526 : (Jvm.Cond.fieldLink "ClaspedFairModel" (95 : Nat) "ClaspedFairModel" "ringed" "[I") ∈ lw_all := lw_g (lw_at lw_m6 183 rfl) rfl
theorem q1527 : (Jvm.Cond.fieldLink "ClaspedFairModel" (98 : Nat) "ClaspedFairModel" "mostPairs" "[I") ∈ lw_all := lw_g (lw_at lw_m6 184 rfl) rfl
theorem q1528 : (Jvm.Cond.fieldLink "ClaspedFairModel" (101 : Nat) "ClaspedFairModel" "canPay" "[I") ∈ lw_all := lw_g (lw_at lw_m6 185 rfl) rfl
theorem q1529 : (Jvm.Cond.fieldLink "ClaspedFairModel" (455 : Nat) "ClaspedFairModel" "weightMany" "I") ∈ lw_all := lw_g (lw_at lw_m6 186 rfl) rfl
theorem q1530 : (Jvm.Cond.fieldLink "ClaspedFairModel" (104 : Nat) "ClaspedFairModel" "weights" "[I") ∈ lw_all := lw_g (lw_at lw_m6 187 rfl) rfl
theorem q1531 : (Jvm.Cond.fieldLink "ClaspedFairModel" (472 : Nat) "ClaspedFairModel" "herdMany" "I") ∈ lw_all := lw_g (lw_at lw_m6 188 rfl) rfl
theorem q1532 : (Jvm.Cond.fieldLink "ClaspedFairModel" (107 : Nat) "ClaspedFairModel" "herds" "[I") ∈ lw_all := lw_g (lw_at lw_m6 189 rfl) rfl
theorem q1533 : (Jvm.Cond.fieldLink "ClaspedFairModel" (110 : Nat) "ClaspedFairModel" "inPen" "[I") ∈ lw_all := lw_g (lw_at lw_m6 190 rfl) rfl
theorem q1534 : (Jvm.Cond.fieldLink "ClaspedFairModel" (481 : Nat) "ClaspedFairModel" "rowMany" "I") ∈ lw_all := lw_g (lw_at lw_m6 191 rfl) rfl
theorem q1535 : (Jvm.Cond.fieldLink "ClaspedFairModel" (113 : Nat) "ClaspedFairModel" "handRows" "[I") ∈ lw_all := lw_g (lw_at lw_m6 192 rfl) rfl
theorem q1536 : (Jvm.Cond.fieldLink "ClaspedFairModel" (116 : Nat) "ClaspedFairModel" "nimbers" "[I") ∈ lw_all := lw_g (lw_at lw_m6 193 rfl) rfl
theorem q1537 : (Jvm.Cond.fieldLink "ClaspedFairModel" (490 : Nat) "ClaspedFairModel" "isTaking" "Z") ∈ lw_all := lw_g (lw_at lw_m6 194 rfl) rfl
theorem q1538 : (Jvm.Cond.fieldLink "ClaspedFairModel" (496 : Nat) "ClaspedFairModel" "hasImage" "Z") ∈ lw_all := lw_g (lw_at lw_m6 195 rfl) rfl
theorem q1539 : (Jvm.Cond.fieldLink "ClaspedFairModel" (487 : Nat) "ClaspedFairModel" "keptAt" "I") ∈ lw_all := lw_g (lw_at lw_m6 196 rfl) rfl
theorem q1540 : (Jvm.Cond.fieldLink "ClaspedFairModel" (119 : Nat) "ClaspedFairModel" "images" "[I") ∈ lw_all := lw_g (lw_at lw_m6 197 rfl) rfl
theorem q1541 : (Jvm.Cond.lays "ClaspedFairModel" "ClaspedFairModel" "told" "I") ∈ lw_all := lw_g (lw_at lw_m6 198 rfl) rfl
theorem q1542 : (Jvm.Cond.soleField "ClaspedFairModel" "told") ∈ lw_all := lw_g (lw_at lw_m6 199 rfl) rfl
theorem q1543 : (Jvm.Cond.laysFinal "ClaspedFairModel" "ClaspedFairModel" "now" "[I") ∈ lw_all := lw_g (lw_at lw_m6 200 rfl) rfl
theorem q1544 : (Jvm.Cond.soleField "ClaspedFairModel" "now") ∈ lw_all := lw_g (lw_at lw_m6 201 rfl) rfl
theorem q1545 : (Jvm.Cond.laysFinal "ClaspedFairModel" "ClaspedFairModel" "rows" "[I") ∈ lw_all := lw_g (lw_at lw_m6 202 rfl) rfl
theorem q1546 : (Jvm.Cond.soleField "ClaspedFairModel" "rows") ∈ lw_all := lw_g (lw_at lw_m6 203 rfl) rfl
theorem q1547 : (Jvm.Cond.lays "ClaspedFairModel" "ClaspedFairModel" "undoable" "I") ∈ lw_all := lw_g (lw_at lw_m6 204 rfl) rfl
theorem q1548 : (Jvm.Cond.soleField "ClaspedFairModel" "undoable") ∈ lw_all := lw_g (lw_at lw_m6 205 rfl) rfl
theorem q1549 : (Jvm.Cond.laysFinal "ClaspedFairModel" "ClaspedFairModel" "waiting" "[I") ∈ lw_all := lw_g (lw_at lw_m6 206 rfl) rfl
theorem q1550 : (Jvm.Cond.soleField "ClaspedFairModel" "waiting") ∈ lw_all := lw_g (lw_at lw_m6 207 rfl) rfl
theorem q1551 : (Jvm.Cond.lays "ClaspedFairModel" "ClaspedFairModel" "isThought" "Z") ∈ lw_all := lw_g (lw_at lw_m6 208 rfl) rfl
theorem q1552 : (Jvm.Cond.soleField "ClaspedFairModel" "isThought") ∈ lw_all := lw_g (lw_at lw_m6 209 rfl) rfl
theorem q1553 : (Jvm.Cond.lays "ClaspedFairModel" "ClaspedFairModel" "people" "I") ∈ lw_all := lw_g (lw_at lw_m6 210 rfl) rfl
theorem q1554 : (Jvm.Cond.soleField "ClaspedFairModel" "people") ∈ lw_all := lw_g (lw_at lw_m6 211 rfl) rfl
theorem q1555 : (Jvm.Cond.lays "ClaspedFairModel" "ClaspedFairModel" "horses" "I") ∈ lw_all := lw_g (lw_at lw_m6 212 rfl) rfl
theorem q1556 : (Jvm.Cond.soleField "ClaspedFairModel" "horses") ∈ lw_all := lw_g (lw_at lw_m6 213 rfl) rfl
theorem q1557 : (Jvm.Cond.laysFinal "ClaspedFairModel" "ClaspedFairModel" "worth" "[I") ∈ lw_all := lw_g (lw_at lw_m6 214 rfl) rfl
theorem q1558 : (Jvm.Cond.soleField "ClaspedFairModel" "worth") ∈ lw_all := lw_g (lw_at lw_m6 215 rfl) rfl
theorem q1559 : (Jvm.Cond.laysFinal "ClaspedFairModel" "ClaspedFairModel" "spirit" "[I") ∈ lw_all := lw_g (lw_at lw_m6 216 rfl) rfl
theorem q1560 : (Jvm.Cond.soleField "ClaspedFairModel" "spirit") ∈ lw_all := lw_g (lw_at lw_m6 217 rfl) rfl
theorem q1561 : (Jvm.Cond.laysFinal "ClaspedFairModel" "ClaspedFairModel" "book" "[I") ∈ lw_all := lw_g (lw_at lw_m6 218 rfl) rfl
theorem q1562 : (Jvm.Cond.soleField "ClaspedFairModel" "book") ∈ lw_all := lw_g (lw_at lw_m6 219 rfl) rfl
theorem q1563 : (Jvm.Cond.laysFinal "ClaspedFairModel" "ClaspedFairModel" "tape" "[I") ∈ lw_all := lw_g (lw_at lw_m6 220 rfl) rfl
theorem q1564 : (Jvm.Cond.soleField "ClaspedFairModel" "tape") ∈ lw_all := lw_g (lw_at lw_m6 221 rfl) rfl
theorem q1565 : (Jvm.Cond.lays "ClaspedFairModel" "ClaspedFairModel" "taped" "I") ∈ lw_all := lw_g (lw_at lw_m6 222 rfl) rfl
theorem q1566 : (Jvm.Cond.soleField "ClaspedFairModel" "taped") ∈ lw_all := lw_g (lw_at lw_m6 223 rfl) rfl
theorem q1567 : (Jvm.Cond.lays "ClaspedFairModel" "ClaspedFairModel" "spot" "I") ∈ lw_all := lw_g (lw_at lw_m6 224 rfl) rfl
theorem q1568 : (Jvm.Cond.soleField "ClaspedFairModel" "spot") ∈ lw_all := lw_g (lw_at lw_m6 225 rfl) rfl
theorem q1569 : (Jvm.Cond.lays "ClaspedFairModel" "ClaspedFairModel" "from" "I") ∈ lw_all := lw_g (lw_at lw_m6 226 rfl) rfl
theorem q1570 : (Jvm.Cond.soleField "ClaspedFairModel" "from") ∈ lw_all := lw_g (lw_at lw_m6 227 rfl) rfl
theorem q1571 : (Jvm.Cond.lays "ClaspedFairModel" "ClaspedFairModel" "token" "I") ∈ lw_all := lw_g (lw_at lw_m6 228 rfl) rfl
theorem q1572 : (Jvm.Cond.soleField "ClaspedFairModel" "token") ∈ lw_all := lw_g (lw_at lw_m6 229 rfl) rfl
theorem q1573 : (Jvm.Cond.lays "ClaspedFairModel" "ClaspedFairModel" "value" "I") ∈ lw_all := lw_g (lw_at lw_m6 230 rfl) rfl
theorem q1574 : (Jvm.Cond.soleField "ClaspedFairModel" "value") ∈ lw_all := lw_g (lw_at lw_m6 231 rfl) rfl
theorem q1575 : (Jvm.Cond.laysFinal "ClaspedFairModel" "ClaspedFairModel" "words" "[I") ∈ lw_all := lw_g (lw_at lw_m6 232 rfl) rfl
theorem q1576 : (Jvm.Cond.soleField "ClaspedFairModel" "words") ∈ lw_all := lw_g (lw_at lw_m6 233 rfl) rfl
theorem q1577 : (Jvm.Cond.laysFinal "ClaspedFairModel" "ClaspedFairModel" "lineMany" "[I") ∈ lw_all := lw_g (lw_at lw_m6 234 rfl) rfl
theorem q1578 : (Jvm.Cond.soleField "ClaspedFairModel" "lineMany") ∈ lw_all := lw_g (lw_at lw_m6 235 rfl) rfl
theorem q1579 : (Jvm.Cond.laysFinal "ClaspedFairModel" "ClaspedFairModel" "lineWord" "[I") ∈ lw_all := lw_g (lw_at lw_m6 236 rfl) rfl
theorem q1580 : (Jvm.Cond.soleField "ClaspedFairModel" "lineWord") ∈ lw_all := lw_g (lw_at lw_m6 237 rfl) rfl
theorem q1581 : (Jvm.Cond.laysFinal "ClaspedFairModel" "ClaspedFairModel" "lineFrom" "[I") ∈ lw_all := lw_g (lw_at lw_m6 238 rfl) rfl
theorem q1582 : (Jvm.Cond.soleField "ClaspedFairModel" "lineFrom") ∈ lw_all := lw_g (lw_at lw_m6 239 rfl) rfl
theorem q1583 : (Jvm.Cond.laysFinal "ClaspedFairModel" "ClaspedFairModel" "lineWhen" "[I") ∈ lw_all := lw_g (lw_at lw_m7 0 rfl) rfl
theorem q1584 : (Jvm.Cond.soleField "ClaspedFairModel" "lineWhen") ∈ lw_all := lw_g (lw_at lw_m7 1 rfl) rfl
theorem q1585 : (Jvm.Cond.laysFinal "ClaspedFairModel" "ClaspedFairModel" "lineTo" "[I") ∈ lw_all := lw_g (lw_at lw_m7 2 rfl) rfl
theorem q1586 : (Jvm.Cond.soleField "ClaspedFairModel" "lineTo") ∈ lw_all := lw_g (lw_at lw_m7 3 rfl) rfl
theorem q1587 : (Jvm.Cond.laysFinal "ClaspedFairModel" "ClaspedFairModel" "op" "[I") ∈ lw_all := lw_g (lw_at lw_m7 4 rfl) rfl
theorem q1588 : (Jvm.Cond.soleField "ClaspedFairModel" "op") ∈ lw_all := lw_g (lw_at lw_m7 5 rfl) rfl
theorem q1589 : (Jvm.Cond.laysFinal "ClaspedFairModel" "ClaspedFairModel" "arg" "[I") ∈ lw_all := lw_g (lw_at lw_m7 6 rfl) rfl
theorem q1590 : (Jvm.Cond.soleField "ClaspedFairModel" "arg") ∈ lw_all := lw_g (lw_at lw_m7 7 rfl) rfl
theorem q1591 : (Jvm.Cond.lays "ClaspedFairModel" "ClaspedFairModel" "which" "I") ∈ lw_all := lw_g (lw_at lw_m7 8 rfl) rfl
theorem q1592 : (Jvm.Cond.soleField "ClaspedFairModel" "which") ∈ lw_all := lw_g (lw_at lw_m7 9 rfl) rfl
theorem q1593 : (Jvm.Cond.lays "ClaspedFairModel" "ClaspedFairModel" "codes" "I") ∈ lw_all := lw_g (lw_at lw_m7 10 rfl) rfl
theorem q1594 : (Jvm.Cond.soleField "ClaspedFairModel" "codes") ∈ lw_all := lw_g (lw_at lw_m7 11 rfl) rfl
theorem q1595 : (Jvm.Cond.lays "ClaspedFairModel" "ClaspedFairModel" "open" "I") ∈ lw_all := lw_g (lw_at lw_m7 12 rfl) rfl
theorem q1596 : (Jvm.Cond.soleField "ClaspedFairModel" "open") ∈ lw_all := lw_g (lw_at lw_m7 13 rfl) rfl
theorem q1597 : (Jvm.Cond.laysFinal "ClaspedFairModel" "ClaspedFairModel" "pending" "[I") ∈ lw_all := lw_g (lw_at lw_m7 14 rfl) rfl
theorem q1598 : (Jvm.Cond.soleField "ClaspedFairModel" "pending") ∈ lw_all := lw_g (lw_at lw_m7 15 rfl) rfl
theorem q1599 : (Jvm.Cond.lays "ClaspedFairModel" "ClaspedFairModel" "pendings" "I") ∈ lw_all := lw_g (lw_at lw_m7 16 rfl) rfl
theorem q1600 : (Jvm.Cond.soleField "ClaspedFairModel" "pendings") ∈ lw_all := lw_g (lw_at lw_m7 17 rfl) rfl
theorem q1601 : (Jvm.Cond.lays "ClaspedFairModel" "ClaspedFairModel" "readFault" "I") ∈ lw_all := lw_g (lw_at lw_m7 18 rfl) rfl
theorem q1602 : (Jvm.Cond.soleField "ClaspedFairModel" "readFault") ∈ lw_all := lw_g (lw_at lw_m7 19 rfl) rfl
theorem q1603 : (Jvm.Cond.lays "ClaspedFairModel" "ClaspedFairModel" "readPlace" "I") ∈ lw_all := lw_g (lw_at lw_m7 20 rfl) rfl
theorem q1604 : (Jvm.Cond.soleField "ClaspedFairModel" "readPlace") ∈ lw_all := lw_g (lw_at lw_m7 21 rfl) rfl
theorem q1605 : (Jvm.Cond.lays "ClaspedFairModel" "ClaspedFairModel" "faultKind" "I") ∈ lw_all := lw_g (lw_at lw_m7 22 rfl) rfl
theorem q1606 : (Jvm.Cond.soleField "ClaspedFairModel" "faultKind") ∈ lw_all := lw_g (lw_at lw_m7 23 rfl) rfl
theorem q1607 : (Jvm.Cond.lays "ClaspedFairModel" "ClaspedFairModel" "faultPlace" "I") ∈ lw_all := lw_g (lw_at lw_m7 24 rfl) rfl
theorem q1608 : (Jvm.Cond.soleField "ClaspedFairModel" "faultPlace") ∈ lw_all := lw_g (lw_at lw_m7 25 rfl) rfl
theorem q1609 : (Jvm.Cond.lays "ClaspedFairModel" "ClaspedFairModel" "offerMany" "I") ∈ lw_all := lw_g (lw_at lw_m7 26 rfl) rfl
theorem q1610 : (Jvm.Cond.soleField "ClaspedFairModel" "offerMany") ∈ lw_all := lw_g (lw_at lw_m7 27 rfl) rfl
theorem q1611 : (Jvm.Cond.laysFinal "ClaspedFairModel" "ClaspedFairModel" "offers" "[I") ∈ lw_all := lw_g (lw_at lw_m7 28 rfl) rfl
theorem q1612 : (Jvm.Cond.soleField "ClaspedFairModel" "offers") ∈ lw_all := lw_g (lw_at lw_m7 29 rfl) rfl
theorem q1613 : (Jvm.Cond.lays "ClaspedFairModel" "ClaspedFairModel" "deedMany" "I") ∈ lw_all := lw_g (lw_at lw_m7 30 rfl) rfl
theorem q1614 : (Jvm.Cond.soleField "ClaspedFairModel" "deedMany") ∈ lw_all := lw_g (lw_at lw_m7 31 rfl) rfl
theorem q1615 : (Jvm.Cond.laysFinal "ClaspedFairModel" "ClaspedFairModel" "deeds" "[I") ∈ lw_all := lw_g (lw_at lw_m7 32 rfl) rfl
theorem q1616 : (Jvm.Cond.soleField "ClaspedFairModel" "deeds") ∈ lw_all := lw_g (lw_at lw_m7 33 rfl) rfl
theorem q1617 : (Jvm.Cond.lays "ClaspedFairModel" "ClaspedFairModel" "kinMany" "I") ∈ lw_all := lw_g (lw_at lw_m7 34 rfl) rfl
theorem q1618 : (Jvm.Cond.soleField "ClaspedFairModel" "kinMany") ∈ lw_all := lw_g (lw_at lw_m7 35 rfl) rfl
theorem q1619 : (Jvm.Cond.laysFinal "ClaspedFairModel" "ClaspedFairModel" "kinOf" "[I") ∈ lw_all := lw_g (lw_at lw_m7 36 rfl) rfl
theorem q1620 : (Jvm.Cond.soleField "ClaspedFairModel" "kinOf") ∈ lw_all := lw_g (lw_at lw_m7 37 rfl) rfl
theorem q1621 : (Jvm.Cond.laysFinal "ClaspedFairModel" "ClaspedFairModel" "asked" "[I") ∈ lw_all := lw_g (lw_at lw_m7 38 rfl) rfl
theorem q1622 : (Jvm.Cond.soleField "ClaspedFairModel" "asked") ∈ lw_all := lw_g (lw_at lw_m7 39 rfl) rfl
theorem q1623 : (Jvm.Cond.laysFinal "ClaspedFairModel" "ClaspedFairModel" "stack" "[I") ∈ lw_all := lw_g (lw_at lw_m7 40 rfl) rfl
theorem q1624 : (Jvm.Cond.soleField "ClaspedFairModel" "stack") ∈ lw_all := lw_g (lw_at lw_m7 41 rfl) rfl
theorem q1625 : (Jvm.Cond.lays "ClaspedFairModel" "ClaspedFairModel" "byGrip" "I") ∈ lw_all := lw_g (lw_at lw_m7 42 rfl) rfl
theorem q1626 : (Jvm.Cond.soleField "ClaspedFairModel" "byGrip") ∈ lw_all := lw_g (lw_at lw_m7 43 rfl) rfl
theorem q1627 : (Jvm.Cond.lays "ClaspedFairModel" "ClaspedFairModel" "byPrice" "I") ∈ lw_all := lw_g (lw_at lw_m7 44 rfl) rfl
theorem q1628 : (Jvm.Cond.soleField "ClaspedFairModel" "byPrice") ∈ lw_all := lw_g (lw_at lw_m7 45 rfl) rfl
theorem q1629 : (Jvm.Cond.lays "ClaspedFairModel" "ClaspedFairModel" "byHorse" "I") ∈ lw_all := lw_g (lw_at lw_m7 46 rfl) rfl
theorem q1630 : (Jvm.Cond.soleField "ClaspedFairModel" "byHorse") ∈ lw_all := lw_g (lw_at lw_m7 47 rfl) rfl
theorem q1631 : (Jvm.Cond.laysFinal "ClaspedFairModel" "ClaspedFairModel" "wentOver" "[I") ∈ lw_all := lw_g (lw_at lw_m7 48 rfl) rfl
theorem q1632 : (Jvm.Cond.soleField "ClaspedFairModel" "wentOver") ∈ lw_all := lw_g (lw_at lw_m7 49 rfl) rfl
theorem q1633 : (Jvm.Cond.laysFinal "ClaspedFairModel" "ClaspedFairModel" "wentBack" "[I") ∈ lw_all := lw_g (lw_at lw_m7 50 rfl) rfl
theorem q1634 : (Jvm.Cond.soleField "ClaspedFairModel" "wentBack") ∈ lw_all := lw_g (lw_at lw_m7 51 rfl) rfl
theorem q1635 : (Jvm.Cond.lays "ClaspedFairModel" "ClaspedFairModel" "isHeld" "Z") ∈ lw_all := lw_g (lw_at lw_m7 52 rfl) rfl
theorem q1636 : (Jvm.Cond.soleField "ClaspedFairModel" "isHeld") ∈ lw_all := lw_g (lw_at lw_m7 53 rfl) rfl
theorem q1637 : (Jvm.Cond.lays "ClaspedFairModel" "ClaspedFairModel" "claspMany" "I") ∈ lw_all := lw_g (lw_at lw_m7 54 rfl) rfl
theorem q1638 : (Jvm.Cond.soleField "ClaspedFairModel" "claspMany") ∈ lw_all := lw_g (lw_at lw_m7 55 rfl) rfl
theorem q1639 : (Jvm.Cond.laysFinal "ClaspedFairModel" "ClaspedFairModel" "claspOne" "[I") ∈ lw_all := lw_g (lw_at lw_m7 56 rfl) rfl
theorem q1640 : (Jvm.Cond.soleField "ClaspedFairModel" "claspOne") ∈ lw_all := lw_g (lw_at lw_m7 57 rfl) rfl
theorem q1641 : (Jvm.Cond.laysFinal "ClaspedFairModel" "ClaspedFairModel" "claspOther" "[I") ∈ lw_all := lw_g (lw_at lw_m7 58 rfl) rfl
theorem q1642 : (Jvm.Cond.soleField "ClaspedFairModel" "claspOther") ∈ lw_all := lw_g (lw_at lw_m7 59 rfl) rfl
theorem q1643 : (Jvm.Cond.lays "ClaspedFairModel" "ClaspedFairModel" "numberMany" "I") ∈ lw_all := lw_g (lw_at lw_m7 60 rfl) rfl
theorem q1644 : (Jvm.Cond.soleField "ClaspedFairModel" "numberMany") ∈ lw_all := lw_g (lw_at lw_m7 61 rfl) rfl
theorem q1645 : (Jvm.Cond.laysFinal "ClaspedFairModel" "ClaspedFairModel" "numbers" "[I") ∈ lw_all := lw_g (lw_at lw_m7 62 rfl) rfl
theorem q1646 : (Jvm.Cond.soleField "ClaspedFairModel" "numbers") ∈ lw_all := lw_g (lw_at lw_m7 63 rfl) rfl
theorem q1647 : (Jvm.Cond.laysFinal "ClaspedFairModel" "ClaspedFairModel" "toShake" "[I") ∈ lw_all := lw_g (lw_at lw_m7 64 rfl) rfl
theorem q1648 : (Jvm.Cond.soleField "ClaspedFairModel" "toShake") ∈ lw_all := lw_g (lw_at lw_m7 65 rfl) rfl
theorem q1649 : (Jvm.Cond.laysFinal "ClaspedFairModel" "ClaspedFairModel" "ringed" "[I") ∈ lw_all := lw_g (lw_at lw_m7 66 rfl) rfl
theorem q1650 : (Jvm.Cond.soleField "ClaspedFairModel" "ringed") ∈ lw_all := lw_g (lw_at lw_m7 67 rfl) rfl
theorem q1651 : (Jvm.Cond.laysFinal "ClaspedFairModel" "ClaspedFairModel" "mostPairs" "[I") ∈ lw_all := lw_g (lw_at lw_m7 68 rfl) rfl
theorem q1652 : (Jvm.Cond.soleField "ClaspedFairModel" "mostPairs") ∈ lw_all := lw_g (lw_at lw_m7 69 rfl) rfl
theorem q1653 : (Jvm.Cond.laysFinal "ClaspedFairModel" "ClaspedFairModel" "canPay" "[I") ∈ lw_all := lw_g (lw_at lw_m7 70 rfl) rfl
theorem q1654 : (Jvm.Cond.soleField "ClaspedFairModel" "canPay") ∈ lw_all := lw_g (lw_at lw_m7 71 rfl) rfl
theorem q1655 : (Jvm.Cond.lays "ClaspedFairModel" "ClaspedFairModel" "weightMany" "I") ∈ lw_all := lw_g (lw_at lw_m7 72 rfl) rfl
theorem q1656 : (Jvm.Cond.soleField "ClaspedFairModel" "weightMany") ∈ lw_all := lw_g (lw_at lw_m7 73 rfl) rfl
theorem q1657 : (Jvm.Cond.laysFinal "ClaspedFairModel" "ClaspedFairModel" "weights" "[I") ∈ lw_all := lw_g (lw_at lw_m7 74 rfl) rfl
theorem q1658 : (Jvm.Cond.soleField "ClaspedFairModel" "weights") ∈ lw_all := lw_g (lw_at lw_m7 75 rfl) rfl
theorem q1659 : (Jvm.Cond.lays "ClaspedFairModel" "ClaspedFairModel" "herdMany" "I") ∈ lw_all := lw_g (lw_at lw_m7 76 rfl) rfl
theorem q1660 : (Jvm.Cond.soleField "ClaspedFairModel" "herdMany") ∈ lw_all := lw_g (lw_at lw_m7 77 rfl) rfl
theorem q1661 : (Jvm.Cond.laysFinal "ClaspedFairModel" "ClaspedFairModel" "herds" "[I") ∈ lw_all := lw_g (lw_at lw_m7 78 rfl) rfl
theorem q1662 : (Jvm.Cond.soleField "ClaspedFairModel" "herds") ∈ lw_all := lw_g (lw_at lw_m7 79 rfl) rfl
theorem q1663 : (Jvm.Cond.laysFinal "ClaspedFairModel" "ClaspedFairModel" "inPen" "[I") ∈ lw_all := lw_g (lw_at lw_m7 80 rfl) rfl
theorem q1664 : (Jvm.Cond.soleField "ClaspedFairModel" "inPen") ∈ lw_all := lw_g (lw_at lw_m7 81 rfl) rfl
theorem q1665 : (Jvm.Cond.lays "ClaspedFairModel" "ClaspedFairModel" "rowMany" "I") ∈ lw_all := lw_g (lw_at lw_m7 82 rfl) rfl
theorem q1666 : (Jvm.Cond.soleField "ClaspedFairModel" "rowMany") ∈ lw_all := lw_g (lw_at lw_m7 83 rfl) rfl
theorem q1667 : (Jvm.Cond.laysFinal "ClaspedFairModel" "ClaspedFairModel" "handRows" "[I") ∈ lw_all := lw_g (lw_at lw_m7 84 rfl) rfl
theorem q1668 : (Jvm.Cond.soleField "ClaspedFairModel" "handRows") ∈ lw_all := lw_g (lw_at lw_m7 85 rfl) rfl
theorem q1669 : (Jvm.Cond.laysFinal "ClaspedFairModel" "ClaspedFairModel" "nimbers" "[I") ∈ lw_all := lw_g (lw_at lw_m7 86 rfl) rfl
theorem q1670 : (Jvm.Cond.soleField "ClaspedFairModel" "nimbers") ∈ lw_all := lw_g (lw_at lw_m7 87 rfl) rfl
theorem q1671 : (Jvm.Cond.lays "ClaspedFairModel" "ClaspedFairModel" "isTaking" "Z") ∈ lw_all := lw_g (lw_at lw_m7 88 rfl) rfl
theorem q1672 : (Jvm.Cond.soleField "ClaspedFairModel" "isTaking") ∈ lw_all := lw_g (lw_at lw_m7 89 rfl) rfl
theorem q1673 : (Jvm.Cond.lays "ClaspedFairModel" "ClaspedFairModel" "hasImage" "Z") ∈ lw_all := lw_g (lw_at lw_m7 90 rfl) rfl
theorem q1674 : (Jvm.Cond.soleField "ClaspedFairModel" "hasImage") ∈ lw_all := lw_g (lw_at lw_m7 91 rfl) rfl
theorem q1675 : (Jvm.Cond.lays "ClaspedFairModel" "ClaspedFairModel" "keptAt" "I") ∈ lw_all := lw_g (lw_at lw_m7 92 rfl) rfl
theorem q1676 : (Jvm.Cond.soleField "ClaspedFairModel" "keptAt") ∈ lw_all := lw_g (lw_at lw_m7 93 rfl) rfl
theorem q1677 : (Jvm.Cond.laysFinal "ClaspedFairModel" "ClaspedFairModel" "images" "[I") ∈ lw_all := lw_g (lw_at lw_m7 94 rfl) rfl
theorem q1678 : (Jvm.Cond.soleField "ClaspedFairModel" "images") ∈ lw_all := lw_g (lw_at lw_m7 95 rfl) rfl
theorem q1679 : (Jvm.Cond.superclass "ClaspedFairModel" "java/lang/Object") ∈ lw_all := lw_g (lw_at lw_m7 96 rfl) rfl
theorem q1681 : (Jvm.Cond.instanceMethod ({ cls := "ClaspedFairModel", name := "undo", desc := "()Z" } : Jvm.MethodName)) ∈ lw_all := lw_g (lw_at lw_m7 98 rfl) rfl
theorem q1682 : (Jvm.Cond.selects "ClaspedFairModel" ({ cls := "ClaspedFairModel", name := "undo", desc := "()Z" } : Jvm.MethodName) ({ cls := "ClaspedFairModel", name := "undo", desc := "()Z" } : Jvm.MethodName)) ∈ lw_all := lw_g (lw_at lw_m7 99 rfl) rfl
theorem q1683 : (Jvm.Cond.code ({ cls := "ClaspedFairModel", name := "undo", desc := "()Z" } : Jvm.MethodName) prog_22_method_12_code (2 : Nat) (Option.some Jvm.ClassFile.FieldType.boolean)) ∈ lw_all := lw_g (lw_at lw_m7 100 rfl) rfl
theorem q1685 : (Jvm.Cond.instanceMethod ({ cls := "ClaspedFairModel", name := "state", desc := "(I)I" } : Jvm.MethodName)) ∈ lw_all := lw_g (lw_at lw_m7 102 rfl) rfl
theorem q1686 : (Jvm.Cond.selects "ClaspedFairModel" ({ cls := "ClaspedFairModel", name := "state", desc := "(I)I" } : Jvm.MethodName) ({ cls := "ClaspedFairModel", name := "state", desc := "(I)I" } : Jvm.MethodName)) ∈ lw_all := lw_g (lw_at lw_m7 103 rfl) rfl
theorem q1687 : (Jvm.Cond.code ({ cls := "ClaspedFairModel", name := "state", desc := "(I)I" } : Jvm.MethodName) prog_22_method_15_code (3 : Nat) (Option.some Jvm.ClassFile.FieldType.int)) ∈ lw_all := lw_g (lw_at lw_m7 104 rfl) rfl
theorem q1689 : (Jvm.Cond.instanceMethod ({ cls := "ClaspedFairModel", name := "person", desc := "(II)I" } : Jvm.MethodName)) ∈ lw_all := lw_g (lw_at lw_m7 106 rfl) rfl
theorem q1690 : (Jvm.Cond.selects "ClaspedFairModel" ({ cls := "ClaspedFairModel", name := "person", desc := "(II)I" } : Jvm.MethodName) ({ cls := "ClaspedFairModel", name := "person", desc := "(II)I" } : Jvm.MethodName)) ∈ lw_all := lw_g (lw_at lw_m7 107 rfl) rfl
theorem q1691 : (Jvm.Cond.code ({ cls := "ClaspedFairModel", name := "person", desc := "(II)I" } : Jvm.MethodName) prog_22_method_21_code (4 : Nat) (Option.some Jvm.ClassFile.FieldType.int)) ∈ lw_all := lw_g (lw_at lw_m7 108 rfl) rfl
theorem q1692 : (Jvm.Cond.methodLink "ClaspedFairModel" (145 : Nat) ({ cls := "ClaspedFairModel", name := "isIn", desc := "(III)Z" } : Jvm.MethodName)) ∈ lw_all := lw_g (lw_at lw_m7 109 rfl) rfl
theorem q1693 : (Jvm.Cond.privateMethod ({ cls := "ClaspedFairModel", name := "isIn", desc := "(III)Z" } : Jvm.MethodName)) ∈ lw_tbl := lw_at lw_m7 110 rfl
theorem q1694 : (Jvm.Cond.instanceMethod ({ cls := "ClaspedFairModel", name := "isIn", desc := "(III)Z" } : Jvm.MethodName)) ∈ lw_all := lw_g (lw_at lw_m7 111 rfl) rfl
theorem q1695 : (Jvm.Cond.code ({ cls := "ClaspedFairModel", name := "isIn", desc := "(III)Z" } : Jvm.MethodName) prog_22_method_3_code (4 : Nat) (Option.some Jvm.ClassFile.FieldType.boolean)) ∈ lw_all := lw_g (lw_at lw_m7 112 rfl) rfl
theorem q1696 : (Jvm.Cond.methodLink "ClaspedFairModel" (149 : Nat) ({ cls := "ClaspedFairModel", name := "hasTrait", desc := "(III)V" } : Jvm.MethodName)) ∈ lw_all := lw_g (lw_at lw_m7 113 rfl) rfl
theorem q1697 : (Jvm.Cond.privateMethod ({ cls := "ClaspedFairModel", name := "hasTrait", desc := "(III)V" } : Jvm.MethodName)) ∈ lw_tbl := lw_at lw_m7 114 rfl
theorem q1698 : (Jvm.Cond.instanceMethod ({ cls := "ClaspedFairModel", name := "hasTrait", desc := "(III)V" } : Jvm.MethodName)) ∈ lw_all := lw_g (lw_at lw_m7 115 rfl) rfl
theorem q1699 : (Jvm.Cond.code ({ cls := "ClaspedFairModel", name := "hasTrait", desc := "(III)V" } : Jvm.MethodName) prog_22_method_20_code (4 : Nat) (Option.none : Option Jvm.ClassFile.FieldType)) ∈ lw_all := lw_g (lw_at lw_m7 116 rfl) rfl
theorem q1700 : (Jvm.Cond.methodLink "ClaspedFairModel" (141 : Nat) ({ cls := "ClaspedFairModel", name := "held", desc := "(III)I" } : Jvm.MethodName)) ∈ lw_all := lw_g (lw_at lw_m7 117 rfl) rfl
theorem q1701 : (Jvm.Cond.privateMethod ({ cls := "ClaspedFairModel", name := "held", desc := "(III)I" } : Jvm.MethodName)) ∈ lw_tbl := lw_at lw_m7 118 rfl
theorem q1702 : (Jvm.Cond.instanceMethod ({ cls := "ClaspedFairModel", name := "held", desc := "(III)I" } : Jvm.MethodName)) ∈ lw_all := lw_g (lw_at lw_m7 119 rfl) rfl
theorem q1703 : (Jvm.Cond.code ({ cls := "ClaspedFairModel", name := "held", desc := "(III)I" } : Jvm.MethodName) prog_22_method_4_code (4 : Nat) (Option.some Jvm.ClassFile.FieldType.int)) ∈ lw_all := lw_g (lw_at lw_m7 120 rfl) rfl
theorem q1705 : (Jvm.Cond.instanceMethod ({ cls := "ClaspedFairModel", name := "horse", desc := "(III)I" } : Jvm.MethodName)) ∈ lw_all := lw_g (lw_at lw_m7 122 rfl) rfl
theorem q1706 : (Jvm.Cond.selects "ClaspedFairModel" ({ cls := "ClaspedFairModel", name := "horse", desc := "(III)I" } : Jvm.MethodName) ({ cls := "ClaspedFairModel", name := "horse", desc := "(III)I" } : Jvm.MethodName)) ∈ lw_all := lw_g (lw_at lw_m7 123 rfl) rfl
theorem q1707 : (Jvm.Cond.code ({ cls := "ClaspedFairModel", name := "horse", desc := "(III)I" } : Jvm.MethodName) prog_22_method_22_code (4 : Nat) (Option.some Jvm.ClassFile.FieldType.int)) ∈ lw_all := lw_g (lw_at lw_m7 124 rfl) rfl
theorem q1708 : (Jvm.Cond.methodLink "ClaspedFairModel" (153 : Nat) ({ cls := "ClaspedFairModel", name := "isPerson", desc := "(I)Z" } : Jvm.MethodName)) ∈ lw_all := lw_g (lw_at lw_m7 125 rfl) rfl
theorem q1709 : (Jvm.Cond.privateMethod ({ cls := "ClaspedFairModel", name := "isPerson", desc := "(I)Z" } : Jvm.MethodName)) ∈ lw_tbl := lw_at lw_m7 126 rfl
theorem q1710 : (Jvm.Cond.instanceMethod ({ cls := "ClaspedFairModel", name := "isPerson", desc := "(I)Z" } : Jvm.MethodName)) ∈ lw_all := lw_g (lw_at lw_m7 127 rfl) rfl
theorem q1711 : (Jvm.Cond.code ({ cls := "ClaspedFairModel", name := "isPerson", desc := "(I)Z" } : Jvm.MethodName) prog_22_method_17_code (2 : Nat) (Option.some Jvm.ClassFile.FieldType.boolean)) ∈ lw_all := lw_g (lw_at lw_m7 128 rfl) rfl
theorem q1713 : (Jvm.Cond.instanceMethod ({ cls := "ClaspedFairModel", name := "set", desc := "(III)Z" } : Jvm.MethodName)) ∈ lw_all := lw_g (lw_at lw_m7 130 rfl) rfl
theorem q1714 : (Jvm.Cond.selects "ClaspedFairModel" ({ cls := "ClaspedFairModel", name := "set", desc := "(III)Z" } : Jvm.MethodName) ({ cls := "ClaspedFairModel", name := "set", desc := "(III)Z" } : Jvm.MethodName)) ∈ lw_all := lw_g (lw_at lw_m7 131 rfl) rfl
theorem q1715 : (Jvm.Cond.code ({ cls := "ClaspedFairModel", name := "set", desc := "(III)Z" } : Jvm.MethodName) prog_22_method_24_code (4 : Nat) (Option.some Jvm.ClassFile.FieldType.boolean)) ∈ lw_all := lw_g (lw_at lw_m7 132 rfl) rfl
theorem q1716 : (Jvm.Cond.methodLink "ClaspedFairModel" (160 : Nat) ({ cls := "ClaspedFairModel", name := "canSet", desc := "(III)Z" } : Jvm.MethodName)) ∈ lw_all := lw_g (lw_at lw_m7 133 rfl) rfl
theorem q1717 : (Jvm.Cond.privateMethod ({ cls := "ClaspedFairModel", name := "canSet", desc := "(III)Z" } : Jvm.MethodName)) ∈ lw_tbl := lw_at lw_m7 134 rfl
theorem q1718 : (Jvm.Cond.instanceMethod ({ cls := "ClaspedFairModel", name := "canSet", desc := "(III)Z" } : Jvm.MethodName)) ∈ lw_all := lw_g (lw_at lw_m7 135 rfl) rfl
theorem q1719 : (Jvm.Cond.code ({ cls := "ClaspedFairModel", name := "canSet", desc := "(III)Z" } : Jvm.MethodName) prog_22_method_23_code (4 : Nat) (Option.some Jvm.ClassFile.FieldType.boolean)) ∈ lw_all := lw_g (lw_at lw_m7 136 rfl) rfl
theorem q1720 : (Jvm.Cond.methodLink "ClaspedFairModel" (157 : Nat) ({ cls := "ClaspedFairModel", name := "isHorse", desc := "(I)Z" } : Jvm.MethodName)) ∈ lw_all := lw_g (lw_at lw_m7 137 rfl) rfl
theorem q1721 : (Jvm.Cond.privateMethod ({ cls := "ClaspedFairModel", name := "isHorse", desc := "(I)Z" } : Jvm.MethodName)) ∈ lw_tbl := lw_at lw_m7 138 rfl
theorem q1722 : (Jvm.Cond.instanceMethod ({ cls := "ClaspedFairModel", name := "isHorse", desc := "(I)Z" } : Jvm.MethodName)) ∈ lw_all := lw_g (lw_at lw_m7 139 rfl) rfl
theorem q1723 : (Jvm.Cond.code ({ cls := "ClaspedFairModel", name := "isHorse", desc := "(I)Z" } : Jvm.MethodName) prog_22_method_18_code (2 : Nat) (Option.some Jvm.ClassFile.FieldType.boolean)) ∈ lw_all := lw_g (lw_at lw_m7 140 rfl) rfl
theorem q1725 : (Jvm.Cond.instanceMethod ({ cls := "ClaspedFairModel", name := "feed", desc := "(IIIII)I" } : Jvm.MethodName)) ∈ lw_all := lw_g (lw_at lw_m7 142 rfl) rfl
theorem q1726 : (Jvm.Cond.selects "ClaspedFairModel" ({ cls := "ClaspedFairModel", name := "feed", desc := "(IIIII)I" } : Jvm.MethodName) ({ cls := "ClaspedFairModel", name := "feed", desc := "(IIIII)I" } : Jvm.MethodName)) ∈ lw_all := lw_g (lw_at lw_m7 143 rfl) rfl
theorem q1727 : (Jvm.Cond.code ({ cls := "ClaspedFairModel", name := "feed", desc := "(IIIII)I" } : Jvm.MethodName) prog_22_method_26_code (6 : Nat) (Option.some Jvm.ClassFile.FieldType.int)) ∈ lw_all := lw_g (lw_at lw_m7 144 rfl) rfl
theorem q1728 : (Jvm.Cond.methodLink "ClaspedFairModel" (166 : Nat) ({ cls := "ClaspedFairModel", name := "types", desc := "(I)V" } : Jvm.MethodName)) ∈ lw_all := lw_g (lw_at lw_m7 145 rfl) rfl
theorem q1729 : (Jvm.Cond.privateMethod ({ cls := "ClaspedFairModel", name := "types", desc := "(I)V" } : Jvm.MethodName)) ∈ lw_tbl := lw_at lw_m7 146 rfl
theorem q1730 : (Jvm.Cond.instanceMethod ({ cls := "ClaspedFairModel", name := "types", desc := "(I)V" } : Jvm.MethodName)) ∈ lw_all := lw_g (lw_at lw_m7 147 rfl) rfl
theorem q1731 : (Jvm.Cond.code ({ cls := "ClaspedFairModel", name := "types", desc := "(I)V" } : Jvm.MethodName) prog_22_method_25_code (3 : Nat) (Option.none : Option Jvm.ClassFile.FieldType)) ∈ lw_all := lw_g (lw_at lw_m7 148 rfl) rfl
theorem q1733 : (Jvm.Cond.instanceMethod ({ cls := "ClaspedFairModel", name := "end", desc := "(I)Z" } : Jvm.MethodName)) ∈ lw_all := lw_g (lw_at lw_m7 150 rfl) rfl
theorem q1734 : (Jvm.Cond.selects "ClaspedFairModel" ({ cls := "ClaspedFairModel", name := "end", desc := "(I)Z" } : Jvm.MethodName) ({ cls := "ClaspedFairModel", name := "end", desc := "(I)Z" } : Jvm.MethodName)) ∈ lw_all := lw_g (lw_at lw_m7 151 rfl) rfl
theorem q1735 : (Jvm.Cond.code ({ cls := "ClaspedFairModel", name := "end", desc := "(I)Z" } : Jvm.MethodName) prog_22_method_27_code (2 : Nat) (Option.some Jvm.ClassFile.FieldType.boolean)) ∈ lw_all := lw_g (lw_at lw_m7 152 rfl) rfl
theorem q1737 : (Jvm.Cond.instanceMethod ({ cls := "ClaspedFairModel", name := "text", desc := "(I)I" } : Jvm.MethodName)) ∈ lw_all := lw_g (lw_at lw_m7 154 rfl) rfl
theorem q1738 : (Jvm.Cond.selects "ClaspedFairModel" ({ cls := "ClaspedFairModel", name := "text", desc := "(I)I" } : Jvm.MethodName) ({ cls := "ClaspedFairModel", name := "text", desc := "(I)I" } : Jvm.MethodName)) ∈ lw_all := lw_g (lw_at lw_m7 155 rfl) rfl
theorem q1739 : (Jvm.Cond.code ({ cls := "ClaspedFairModel", name := "text", desc := "(I)I" } : Jvm.MethodName) prog_22_method_60_code (3 : Nat) (Option.some Jvm.ClassFile.FieldType.int)) ∈ lw_all := lw_g (lw_at lw_m7 156 rfl) rfl
theorem q1740 : (Jvm.Cond.methodLink "ClaspedFairModel" (304 : Nat) ({ cls := "ClaspedFairModel", name := "readsText", desc := "(I)I" } : Jvm.MethodName)) ∈ lw_all := lw_g (lw_at lw_m7 157 rfl) rfl
theorem q1741 : (Jvm.Cond.privateMethod ({ cls := "ClaspedFairModel", name := "readsText", desc := "(I)I" } : Jvm.MethodName)) ∈ lw_tbl := lw_at lw_m7 158 rfl
theorem q1742 : (Jvm.Cond.instanceMethod ({ cls := "ClaspedFairModel", name := "readsText", desc := "(I)I" } : Jvm.MethodName)) ∈ lw_all := lw_g (lw_at lw_m7 159 rfl) rfl
theorem q1743 : (Jvm.Cond.code ({ cls := "ClaspedFairModel", name := "readsText", desc := "(I)I" } : Jvm.MethodName) prog_22_method_58_code (2 : Nat) (Option.some Jvm.ClassFile.FieldType.int)) ∈ lw_all := lw_g (lw_at lw_m7 160 rfl) rfl
theorem q1744 : (Jvm.Cond.methodLink "ClaspedFairModel" (218 : Nat) ({ cls := "ClaspedFairModel", name := "reads", desc := "()V" } : Jvm.MethodName)) ∈ lw_all := lw_g (lw_at lw_m7 161 rfl) rfl
theorem q1745 : (Jvm.Cond.privateMethod ({ cls := "ClaspedFairModel", name := "reads", desc := "()V" } : Jvm.MethodName)) ∈ lw_tbl := lw_at lw_m7 162 rfl
theorem q1746 : (Jvm.Cond.instanceMethod ({ cls := "ClaspedFairModel", name := "reads", desc := "()V" } : Jvm.MethodName)) ∈ lw_all := lw_g (lw_at lw_m7 163 rfl) rfl
theorem q1747 : (Jvm.Cond.code ({ cls := "ClaspedFairModel", name := "reads", desc := "()V" } : Jvm.MethodName) prog_22_method_33_code (2 : Nat) (Option.none : Option Jvm.ClassFile.FieldType)) ∈ lw_all := lw_g (lw_at lw_m7 164 rfl) rfl
theorem q1748 : (Jvm.Cond.methodLink "ClaspedFairModel" (173 : Nat) ({ cls := "ClaspedFairModel", name := "raw", desc := "(I)I" } : Jvm.MethodName)) ∈ lw_all := lw_g (lw_at lw_m7 165 rfl) rfl
theorem q1749 : (Jvm.Cond.privateMethod ({ cls := "ClaspedFairModel", name := "raw", desc := "(I)I" } : Jvm.MethodName)) ∈ lw_tbl := lw_at lw_m7 166 rfl
theorem q1750 : (Jvm.Cond.instanceMethod ({ cls := "ClaspedFairModel", name := "raw", desc := "(I)I" } : Jvm.MethodName)) ∈ lw_all := lw_g (lw_at lw_m7 167 rfl) rfl
theorem q1751 : (Jvm.Cond.code ({ cls := "ClaspedFairModel", name := "raw", desc := "(I)I" } : Jvm.MethodName) prog_22_method_28_code (2 : Nat) (Option.some Jvm.ClassFile.FieldType.int)) ∈ lw_all := lw_g (lw_at lw_m7 168 rfl) rfl
theorem q1752 : (Jvm.Cond.methodLink "ClaspedFairModel" (186 : Nat) ({ cls := "ClaspedFairModel", name := "isLetter", desc := "(I)Z" } : Jvm.MethodName)) ∈ lw_all := lw_g (lw_at lw_m7 169 rfl) rfl
theorem q1753 : (Jvm.Cond.privateMethod ({ cls := "ClaspedFairModel", name := "isLetter", desc := "(I)Z" } : Jvm.MethodName)) ∈ lw_tbl := lw_at lw_m7 170 rfl
theorem q1754 : (Jvm.Cond.instanceMethod ({ cls := "ClaspedFairModel", name := "isLetter", desc := "(I)Z" } : Jvm.MethodName)) ∈ lw_all := lw_g (lw_at lw_m7 171 rfl) rfl
theorem q1755 : (Jvm.Cond.code ({ cls := "ClaspedFairModel", name := "isLetter", desc := "(I)Z" } : Jvm.MethodName) prog_22_method_29_code (2 : Nat) (Option.some Jvm.ClassFile.FieldType.boolean)) ∈ lw_all := lw_g (lw_at lw_m7 172 rfl) rfl
theorem q1756 : (Jvm.Cond.methodLink "ClaspedFairModel" (189 : Nat) ({ cls := "ClaspedFairModel", name := "wordAt", desc := "(II)I" } : Jvm.MethodName)) ∈ lw_all := lw_g (lw_at lw_m7 173 rfl) rfl
theorem q1757 : (Jvm.Cond.privateMethod ({ cls := "ClaspedFairModel", name := "wordAt", desc := "(II)I" } : Jvm.MethodName)) ∈ lw_tbl := lw_at lw_m7 174 rfl
theorem q1758 : (Jvm.Cond.instanceMethod ({ cls := "ClaspedFairModel", name := "wordAt", desc := "(II)I" } : Jvm.MethodName)) ∈ lw_all := lw_g (lw_at lw_m7 175 rfl) rfl
theorem q1759 : (Jvm.Cond.code ({ cls := "ClaspedFairModel", name := "wordAt", desc := "(II)I" } : Jvm.MethodName) prog_22_method_32_code (6 : Nat) (Option.some Jvm.ClassFile.FieldType.int)) ∈ lw_all := lw_g (lw_at lw_m7 176 rfl) rfl
theorem q1760 : (Jvm.Cond.methodLink "ClaspedFairModel" (193 : Nat) ({ cls := "ClaspedFairModel", name := "isDigit", desc := "(I)Z" } : Jvm.MethodName)) ∈ lw_all := lw_g (lw_at lw_m7 177 rfl) rfl
theorem q1761 : (Jvm.Cond.privateMethod ({ cls := "ClaspedFairModel", name := "isDigit", desc := "(I)Z" } : Jvm.MethodName)) ∈ lw_tbl := lw_at lw_m7 178 rfl
theorem q1762 : (Jvm.Cond.instanceMethod ({ cls := "ClaspedFairModel", name := "isDigit", desc := "(I)Z" } : Jvm.MethodName)) ∈ lw_all := lw_g (lw_at lw_m7 179 rfl) rfl
theorem q1763 : (Jvm.Cond.code ({ cls := "ClaspedFairModel", name := "isDigit", desc := "(I)Z" } : Jvm.MethodName) prog_22_method_30_code (2 : Nat) (Option.some Jvm.ClassFile.FieldType.boolean)) ∈ lw_all := lw_g (lw_at lw_m7 180 rfl) rfl
theorem q1764 : (Jvm.Cond.methodLink "ClaspedFairModel" (196 : Nat) ({ cls := "ClaspedFairModel", name := "isMarkSign", desc := "(I)Z" } : Jvm.MethodName)) ∈ lw_all := lw_g (lw_at lw_m7 181 rfl) rfl
theorem q1765 : (Jvm.Cond.privateMethod ({ cls := "ClaspedFairModel", name := "isMarkSign", desc := "(I)Z" } : Jvm.MethodName)) ∈ lw_tbl := lw_at lw_m7 182 rfl
theorem q1766 : (Jvm.Cond.instanceMethod ({ cls := "ClaspedFairModel", name := "isMarkSign", desc := "(I)Z" } : Jvm.MethodName)) ∈ lw_all := lw_g (lw_at lw_m7 183 rfl) rfl
theorem q1767 : (Jvm.Cond.code ({ cls := "ClaspedFairModel", name := "isMarkSign", desc := "(I)Z" } : Jvm.MethodName) prog_22_method_31_code (2 : Nat) (Option.some Jvm.ClassFile.FieldType.boolean)) ∈ lw_all := lw_g (lw_at lw_m7 184 rfl) rfl
theorem q1768 : (Jvm.Cond.methodLink "ClaspedFairModel" (280 : Nat) ({ cls := "ClaspedFairModel", name := "readFair", desc := "()I" } : Jvm.MethodName)) ∈ lw_all := lw_g (lw_at lw_m7 185 rfl) rfl
theorem q1769 : (Jvm.Cond.privateMethod ({ cls := "ClaspedFairModel", name := "readFair", desc := "()I" } : Jvm.MethodName)) ∈ lw_tbl := lw_at lw_m7 186 rfl
theorem q1770 : (Jvm.Cond.instanceMethod ({ cls := "ClaspedFairModel", name := "readFair", desc := "()I" } : Jvm.MethodName)) ∈ lw_all := lw_g (lw_at lw_m7 187 rfl) rfl
theorem q1771 : (Jvm.Cond.code ({ cls := "ClaspedFairModel", name := "readFair", desc := "()I" } : Jvm.MethodName) prog_22_method_53_code (2 : Nat) (Option.some Jvm.ClassFile.FieldType.int)) ∈ lw_all := lw_g (lw_at lw_m7 188 rfl) rfl
theorem q1772 : (Jvm.Cond.methodLink "ClaspedFairModel" (240 : Nat) ({ cls := "ClaspedFairModel", name := "isWord", desc := "(I)Z" } : Jvm.MethodName)) ∈ lw_all := lw_g (lw_at lw_m7 189 rfl) rfl
theorem q1773 : (Jvm.Cond.privateMethod ({ cls := "ClaspedFairModel", name := "isWord", desc := "(I)Z" } : Jvm.MethodName)) ∈ lw_tbl := lw_at lw_m7 190 rfl
theorem q1774 : (Jvm.Cond.instanceMethod ({ cls := "ClaspedFairModel", name := "isWord", desc := "(I)Z" } : Jvm.MethodName)) ∈ lw_all := lw_g (lw_at lw_m7 191 rfl) rfl
theorem q1775 : (Jvm.Cond.code ({ cls := "ClaspedFairModel", name := "isWord", desc := "(I)Z" } : Jvm.MethodName) prog_22_method_35_code (2 : Nat) (Option.some Jvm.ClassFile.FieldType.boolean)) ∈ lw_all := lw_g (lw_at lw_m7 192 rfl) rfl
theorem q1776 : (Jvm.Cond.methodLink "ClaspedFairModel" (211 : Nat) ({ cls := "ClaspedFairModel", name := "errs", desc := "(I)I" } : Jvm.MethodName)) ∈ lw_all := lw_g (lw_at lw_m7 193 rfl) rfl
theorem q1777 : (Jvm.Cond.privateMethod ({ cls := "ClaspedFairModel", name := "errs", desc := "(I)I" } : Jvm.MethodName)) ∈ lw_tbl := lw_at lw_m7 194 rfl
theorem q1778 : (Jvm.Cond.instanceMethod ({ cls := "ClaspedFairModel", name := "errs", desc := "(I)I" } : Jvm.MethodName)) ∈ lw_all := lw_g (lw_at lw_m7 195 rfl) rfl
theorem q1779 : (Jvm.Cond.code ({ cls := "ClaspedFairModel", name := "errs", desc := "(I)I" } : Jvm.MethodName) prog_22_method_34_code (2 : Nat) (Option.some Jvm.ClassFile.FieldType.int)) ∈ lw_all := lw_g (lw_at lw_m7 196 rfl) rfl
theorem q1780 : (Jvm.Cond.methodLink "ClaspedFairModel" (271 : Nat) ({ cls := "ClaspedFairModel", name := "readOffer", desc := "(I)I" } : Jvm.MethodName)) ∈ lw_all := lw_g (lw_at lw_m7 197 rfl) rfl
theorem q1781 : (Jvm.Cond.privateMethod ({ cls := "ClaspedFairModel", name := "readOffer", desc := "(I)I" } : Jvm.MethodName)) ∈ lw_tbl := lw_at lw_m7 198 rfl
theorem q1782 : (Jvm.Cond.instanceMethod ({ cls := "ClaspedFairModel", name := "readOffer", desc := "(I)I" } : Jvm.MethodName)) ∈ lw_all := lw_g (lw_at lw_m7 199 rfl) rfl
theorem q1783 : (Jvm.Cond.code ({ cls := "ClaspedFairModel", name := "readOffer", desc := "(I)I" } : Jvm.MethodName) prog_22_method_52_code (2 : Nat) (Option.some Jvm.ClassFile.FieldType.int)) ∈ lw_all := lw_g (lw_at lw_m7 200 rfl) rfl
theorem q1784 : (Jvm.Cond.methodLink "ClaspedFairModel" (265 : Nat) ({ cls := "ClaspedFairModel", name := "readTold", desc := "(III)I" } : Jvm.MethodName)) ∈ lw_all := lw_g (lw_at lw_m7 201 rfl) rfl
theorem q1785 : (Jvm.Cond.privateMethod ({ cls := "ClaspedFairModel", name := "readTold", desc := "(III)I" } : Jvm.MethodName)) ∈ lw_tbl := lw_at lw_m7 202 rfl
theorem q1786 : (Jvm.Cond.instanceMethod ({ cls := "ClaspedFairModel", name := "readTold", desc := "(III)I" } : Jvm.MethodName)) ∈ lw_all := lw_g (lw_at lw_m7 203 rfl) rfl
theorem q1787 : (Jvm.Cond.code ({ cls := "ClaspedFairModel", name := "readTold", desc := "(III)I" } : Jvm.MethodName) prog_22_method_51_code (4 : Nat) (Option.some Jvm.ClassFile.FieldType.int)) ∈ lw_all := lw_g (lw_at lw_m7 204 rfl) rfl
theorem q1788 : (Jvm.Cond.methodLink "ClaspedFairModel" (262 : Nat) ({ cls := "ClaspedFairModel", name := "readNumber", desc := "(II)I" } : Jvm.MethodName)) ∈ lw_all := lw_g (lw_at lw_m7 205 rfl) rfl
theorem q1789 : (Jvm.Cond.privateMethod ({ cls := "ClaspedFairModel", name := "readNumber", desc := "(II)I" } : Jvm.MethodName)) ∈ lw_tbl := lw_at lw_m7 206 rfl
theorem q1790 : (Jvm.Cond.instanceMethod ({ cls := "ClaspedFairModel", name := "readNumber", desc := "(II)I" } : Jvm.MethodName)) ∈ lw_all := lw_g (lw_at lw_m7 207 rfl) rfl
theorem q1791 : (Jvm.Cond.code ({ cls := "ClaspedFairModel", name := "readNumber", desc := "(II)I" } : Jvm.MethodName) prog_22_method_49_code (4 : Nat) (Option.some Jvm.ClassFile.FieldType.int)) ∈ lw_all := lw_g (lw_at lw_m7 208 rfl) rfl
theorem q1792 : (Jvm.Cond.methodLink "ClaspedFairModel" (268 : Nat) ({ cls := "ClaspedFairModel", name := "readMark", desc := "(I)I" } : Jvm.MethodName)) ∈ lw_all := lw_g (lw_at lw_m7 209 rfl) rfl
theorem q1793 : (Jvm.Cond.privateMethod ({ cls := "ClaspedFairModel", name := "readMark", desc := "(I)I" } : Jvm.MethodName)) ∈ lw_tbl := lw_at lw_m7 210 rfl
theorem q1794 : (Jvm.Cond.instanceMethod ({ cls := "ClaspedFairModel", name := "readMark", desc := "(I)I" } : Jvm.MethodName)) ∈ lw_all := lw_g (lw_at lw_m7 211 rfl) rfl
theorem q1795 : (Jvm.Cond.code ({ cls := "ClaspedFairModel", name := "readMark", desc := "(I)I" } : Jvm.MethodName) prog_22_method_50_code (2 : Nat) (Option.some Jvm.ClassFile.FieldType.int)) ∈ lw_all := lw_g (lw_at lw_m7 212 rfl) rfl
theorem q1796 : (Jvm.Cond.methodLink "ClaspedFairModel" (225 : Nat) ({ cls := "ClaspedFairModel", name := "isSign", desc := "(I)Z" } : Jvm.MethodName)) ∈ lw_all := lw_g (lw_at lw_m7 213 rfl) rfl
theorem q1797 : (Jvm.Cond.privateMethod ({ cls := "ClaspedFairModel", name := "isSign", desc := "(I)Z" } : Jvm.MethodName)) ∈ lw_tbl := lw_at lw_m7 214 rfl
theorem q1798 : (Jvm.Cond.instanceMethod ({ cls := "ClaspedFairModel", name := "isSign", desc := "(I)Z" } : Jvm.MethodName)) ∈ lw_all := lw_g (lw_at lw_m7 215 rfl) rfl
theorem q1799 : (Jvm.Cond.code ({ cls := "ClaspedFairModel", name := "isSign", desc := "(I)Z" } : Jvm.MethodName) prog_22_method_36_code (2 : Nat) (Option.some Jvm.ClassFile.FieldType.boolean)) ∈ lw_all := lw_g (lw_at lw_m7 216 rfl) rfl
theorem q1800 : (Jvm.Cond.methodLink "ClaspedFairModel" (283 : Nat) ({ cls := "ClaspedFairModel", name := "readHabits", desc := "()I" } : Jvm.MethodName)) ∈ lw_all := lw_g (lw_at lw_m7 217 rfl) rfl
theorem q1801 : (Jvm.Cond.privateMethod ({ cls := "ClaspedFairModel", name := "readHabits", desc := "()I" } : Jvm.MethodName)) ∈ lw_tbl := lw_at lw_m7 218 rfl
theorem q1802 : (Jvm.Cond.instanceMethod ({ cls := "ClaspedFairModel", name := "readHabits", desc := "()I" } : Jvm.MethodName)) ∈ lw_all := lw_g (lw_at lw_m7 219 rfl) rfl
theorem q1803 : (Jvm.Cond.code ({ cls := "ClaspedFairModel", name := "readHabits", desc := "()I" } : Jvm.MethodName) prog_22_method_55_code (2 : Nat) (Option.some Jvm.ClassFile.FieldType.int)) ∈ lw_all := lw_g (lw_at lw_m7 220 rfl) rfl
theorem q1804 : (Jvm.Cond.methodLink "ClaspedFairModel" (274 : Nat) ({ cls := "ClaspedFairModel", name := "readDeed", desc := "(I)I" } : Jvm.MethodName)) ∈ lw_all := lw_g (lw_at lw_m7 221 rfl) rfl
theorem q1805 : (Jvm.Cond.privateMethod ({ cls := "ClaspedFairModel", name := "readDeed", desc := "(I)I" } : Jvm.MethodName)) ∈ lw_tbl := lw_at lw_m7 222 rfl
theorem q1806 : (Jvm.Cond.instanceMethod ({ cls := "ClaspedFairModel", name := "readDeed", desc := "(I)I" } : Jvm.MethodName)) ∈ lw_all := lw_g (lw_at lw_m7 223 rfl) rfl
theorem q1807 : (Jvm.Cond.code ({ cls := "ClaspedFairModel", name := "readDeed", desc := "(I)I" } : Jvm.MethodName) prog_22_method_54_code (3 : Nat) (Option.some Jvm.ClassFile.FieldType.int)) ∈ lw_all := lw_g (lw_at lw_m7 224 rfl) rfl
theorem q1808 : (Jvm.Cond.methodLink "ClaspedFairModel" (286 : Nat) ({ cls := "ClaspedFairModel", name := "readKins", desc := "()I" } : Jvm.MethodName)) ∈ lw_all := lw_g (lw_at lw_m7 225 rfl) rfl
theorem q1809 : (Jvm.Cond.privateMethod ({ cls := "ClaspedFairModel", name := "readKins", desc := "()I" } : Jvm.MethodName)) ∈ lw_tbl := lw_at lw_m7 226 rfl
theorem q1810 : (Jvm.Cond.instanceMethod ({ cls := "ClaspedFairModel", name := "readKins", desc := "()I" } : Jvm.MethodName)) ∈ lw_all := lw_g (lw_at lw_m7 227 rfl) rfl
theorem q1811 : (Jvm.Cond.code ({ cls := "ClaspedFairModel", name := "readKins", desc := "()I" } : Jvm.MethodName) prog_22_method_57_code (2 : Nat) (Option.some Jvm.ClassFile.FieldType.int)) ∈ lw_all := lw_g (lw_at lw_m7 228 rfl) rfl
theorem q1812 : (Jvm.Cond.methodLink "ClaspedFairModel" (277 : Nat) ({ cls := "ClaspedFairModel", name := "readKin", desc := "()I" } : Jvm.MethodName)) ∈ lw_all := lw_g (lw_at lw_m7 229 rfl) rfl
theorem q1813 : (Jvm.Cond.privateMethod ({ cls := "ClaspedFairModel", name := "readKin", desc := "()I" } : Jvm.MethodName)) ∈ lw_tbl := lw_at lw_m7 230 rfl
theorem q1814 : (Jvm.Cond.instanceMethod ({ cls := "ClaspedFairModel", name := "readKin", desc := "()I" } : Jvm.MethodName)) ∈ lw_all := lw_g (lw_at lw_m7 231 rfl) rfl
theorem q1815 : (Jvm.Cond.code ({ cls := "ClaspedFairModel", name := "readKin", desc := "()I" } : Jvm.MethodName) prog_22_method_56_code (3 : Nat) (Option.some Jvm.ClassFile.FieldType.int)) ∈ lw_all := lw_g (lw_at lw_m7 232 rfl) rfl
theorem q1816 : (Jvm.Cond.methodLink "ClaspedFairModel" (289 : Nat) ({ cls := "ClaspedFairModel", name := "readLaw", desc := "()I" } : Jvm.MethodName)) ∈ lw_all := lw_g (lw_at lw_m7 233 rfl) rfl
theorem q1817 : (Jvm.Cond.privateMethod ({ cls := "ClaspedFairModel", name := "readLaw", desc := "()I" } : Jvm.MethodName)) ∈ lw_tbl := lw_at lw_m7 234 rfl
theorem q1818 : (Jvm.Cond.instanceMethod ({ cls := "ClaspedFairModel", name := "readLaw", desc := "()I" } : Jvm.MethodName)) ∈ lw_all := lw_g (lw_at lw_m7 235 rfl) rfl
theorem q1819 : (Jvm.Cond.code ({ cls := "ClaspedFairModel", name := "readLaw", desc := "()I" } : Jvm.MethodName) prog_22_method_47_code (3 : Nat) (Option.some Jvm.ClassFile.FieldType.int)) ∈ lw_all := lw_g (lw_at lw_m7 236 rfl) rfl
theorem q1820 : (Jvm.Cond.methodLink "ClaspedFairModel" (252 : Nat) ({ cls := "ClaspedFairModel", name := "isLineWord", desc := "()Z" } : Jvm.MethodName)) ∈ lw_all := lw_g (lw_at lw_m7 237 rfl) rfl
theorem q1821 : (Jvm.Cond.privateMethod ({ cls := "ClaspedFairModel", name := "isLineWord", desc := "()Z" } : Jvm.MethodName)) ∈ lw_tbl := lw_at lw_m7 238 rfl
theorem q1822 : (Jvm.Cond.instanceMethod ({ cls := "ClaspedFairModel", name := "isLineWord", desc := "()Z" } : Jvm.MethodName)) ∈ lw_all := lw_g (lw_at lw_m7 239 rfl) rfl
theorem q1823 : (Jvm.Cond.code ({ cls := "ClaspedFairModel", name := "isLineWord", desc := "()Z" } : Jvm.MethodName) prog_22_method_46_code (1 : Nat) (Option.some Jvm.ClassFile.FieldType.boolean)) ∈ lw_all := lw_g (lw_at lw_m8 0 rfl) rfl
theorem q1824 : (Jvm.Cond.methodLink "ClaspedFairModel" (231 : Nat) ({ cls := "ClaspedFairModel", name := "readSum", desc := "()I" } : Jvm.MethodName)) ∈ lw_all := lw_g (lw_at lw_m8 1 rfl) rfl
theorem q1825 : (Jvm.Cond.privateMethod ({ cls := "ClaspedFairModel", name := "readSum", desc := "()I" } : Jvm.MethodName)) ∈ lw_tbl := lw_at lw_m8 2 rfl
theorem q1826 : (Jvm.Cond.instanceMethod ({ cls := "ClaspedFairModel", name := "readSum", desc := "()I" } : Jvm.MethodName)) ∈ lw_all := lw_g (lw_at lw_m8 3 rfl) rfl
theorem q1827 : (Jvm.Cond.code ({ cls := "ClaspedFairModel", name := "readSum", desc := "()I" } : Jvm.MethodName) prog_22_method_41_code (2 : Nat) (Option.some Jvm.ClassFile.FieldType.int)) ∈ lw_all := lw_g (lw_at lw_m8 4 rfl) rfl
theorem q1828 : (Jvm.Cond.methodLink "ClaspedFairModel" (228 : Nat) ({ cls := "ClaspedFairModel", name := "readProduct", desc := "()I" } : Jvm.MethodName)) ∈ lw_all := lw_g (lw_at lw_m8 5 rfl) rfl
theorem q1829 : (Jvm.Cond.privateMethod ({ cls := "ClaspedFairModel", name := "readProduct", desc := "()I" } : Jvm.MethodName)) ∈ lw_tbl := lw_at lw_m8 6 rfl
theorem q1830 : (Jvm.Cond.instanceMethod ({ cls := "ClaspedFairModel", name := "readProduct", desc := "()I" } : Jvm.MethodName)) ∈ lw_all := lw_g (lw_at lw_m8 7 rfl) rfl
theorem q1831 : (Jvm.Cond.code ({ cls := "ClaspedFairModel", name := "readProduct", desc := "()I" } : Jvm.MethodName) prog_22_method_40_code (2 : Nat) (Option.some Jvm.ClassFile.FieldType.int)) ∈ lw_all := lw_g (lw_at lw_m8 8 rfl) rfl
theorem q1832 : (Jvm.Cond.methodLink "ClaspedFairModel" (221 : Nat) ({ cls := "ClaspedFairModel", name := "readUnit", desc := "()I" } : Jvm.MethodName)) ∈ lw_all := lw_g (lw_at lw_m8 9 rfl) rfl
theorem q1833 : (Jvm.Cond.privateMethod ({ cls := "ClaspedFairModel", name := "readUnit", desc := "()I" } : Jvm.MethodName)) ∈ lw_tbl := lw_at lw_m8 10 rfl
theorem q1834 : (Jvm.Cond.instanceMethod ({ cls := "ClaspedFairModel", name := "readUnit", desc := "()I" } : Jvm.MethodName)) ∈ lw_all := lw_g (lw_at lw_m8 11 rfl) rfl
theorem q1835 : (Jvm.Cond.code ({ cls := "ClaspedFairModel", name := "readUnit", desc := "()I" } : Jvm.MethodName) prog_22_method_39_code (2 : Nat) (Option.some Jvm.ClassFile.FieldType.int)) ∈ lw_all := lw_g (lw_at lw_m8 12 rfl) rfl
theorem q1836 : (Jvm.Cond.methodLink "ClaspedFairModel" (208 : Nat) ({ cls := "ClaspedFairModel", name := "canAsk", desc := "(I)Z" } : Jvm.MethodName)) ∈ lw_all := lw_g (lw_at lw_m8 13 rfl) rfl
theorem q1837 : (Jvm.Cond.privateMethod ({ cls := "ClaspedFairModel", name := "canAsk", desc := "(I)Z" } : Jvm.MethodName)) ∈ lw_tbl := lw_at lw_m8 14 rfl
theorem q1838 : (Jvm.Cond.instanceMethod ({ cls := "ClaspedFairModel", name := "canAsk", desc := "(I)Z" } : Jvm.MethodName)) ∈ lw_all := lw_g (lw_at lw_m8 15 rfl) rfl
theorem q1839 : (Jvm.Cond.code ({ cls := "ClaspedFairModel", name := "canAsk", desc := "(I)Z" } : Jvm.MethodName) prog_22_method_38_code (2 : Nat) (Option.some Jvm.ClassFile.FieldType.boolean)) ∈ lw_all := lw_g (lw_at lw_m8 16 rfl) rfl
theorem q1840 : (Jvm.Cond.methodLink "ClaspedFairModel" (214 : Nat) ({ cls := "ClaspedFairModel", name := "emits", desc := "(II)V" } : Jvm.MethodName)) ∈ lw_all := lw_g (lw_at lw_m8 17 rfl) rfl
theorem q1841 : (Jvm.Cond.privateMethod ({ cls := "ClaspedFairModel", name := "emits", desc := "(II)V" } : Jvm.MethodName)) ∈ lw_tbl := lw_at lw_m8 18 rfl
theorem q1842 : (Jvm.Cond.instanceMethod ({ cls := "ClaspedFairModel", name := "emits", desc := "(II)V" } : Jvm.MethodName)) ∈ lw_all := lw_g (lw_at lw_m8 19 rfl) rfl
theorem q1843 : (Jvm.Cond.code ({ cls := "ClaspedFairModel", name := "emits", desc := "(II)V" } : Jvm.MethodName) prog_22_method_37_code (3 : Nat) (Option.none : Option Jvm.ClassFile.FieldType)) ∈ lw_all := lw_g (lw_at lw_m8 20 rfl) rfl
theorem q1844 : (Jvm.Cond.methodLink "ClaspedFairModel" (256 : Nat) ({ cls := "ClaspedFairModel", name := "readAny", desc := "()I" } : Jvm.MethodName)) ∈ lw_all := lw_g (lw_at lw_m8 21 rfl) rfl
theorem q1845 : (Jvm.Cond.privateMethod ({ cls := "ClaspedFairModel", name := "readAny", desc := "()I" } : Jvm.MethodName)) ∈ lw_tbl := lw_at lw_m8 22 rfl
theorem q1846 : (Jvm.Cond.instanceMethod ({ cls := "ClaspedFairModel", name := "readAny", desc := "()I" } : Jvm.MethodName)) ∈ lw_all := lw_g (lw_at lw_m8 23 rfl) rfl
theorem q1847 : (Jvm.Cond.code ({ cls := "ClaspedFairModel", name := "readAny", desc := "()I" } : Jvm.MethodName) prog_22_method_45_code (4 : Nat) (Option.some Jvm.ClassFile.FieldType.int)) ∈ lw_all := lw_g (lw_at lw_m8 24 rfl) rfl
theorem q1848 : (Jvm.Cond.methodLink "ClaspedFairModel" (243 : Nat) ({ cls := "ClaspedFairModel", name := "waits", desc := "(I)V" } : Jvm.MethodName)) ∈ lw_all := lw_g (lw_at lw_m8 25 rfl) rfl
theorem q1849 : (Jvm.Cond.privateMethod ({ cls := "ClaspedFairModel", name := "waits", desc := "(I)V" } : Jvm.MethodName)) ∈ lw_tbl := lw_at lw_m8 26 rfl
theorem q1850 : (Jvm.Cond.instanceMethod ({ cls := "ClaspedFairModel", name := "waits", desc := "(I)V" } : Jvm.MethodName)) ∈ lw_all := lw_g (lw_at lw_m8 27 rfl) rfl
theorem q1851 : (Jvm.Cond.code ({ cls := "ClaspedFairModel", name := "waits", desc := "(I)V" } : Jvm.MethodName) prog_22_method_43_code (2 : Nat) (Option.none : Option Jvm.ClassFile.FieldType)) ∈ lw_all := lw_g (lw_at lw_m8 28 rfl) rfl
theorem q1852 : (Jvm.Cond.methodLink "ClaspedFairModel" (246 : Nat) ({ cls := "ClaspedFairModel", name := "readCompared", desc := "()I" } : Jvm.MethodName)) ∈ lw_all := lw_g (lw_at lw_m8 29 rfl) rfl
theorem q1853 : (Jvm.Cond.privateMethod ({ cls := "ClaspedFairModel", name := "readCompared", desc := "()I" } : Jvm.MethodName)) ∈ lw_tbl := lw_at lw_m8 30 rfl
theorem q1854 : (Jvm.Cond.instanceMethod ({ cls := "ClaspedFairModel", name := "readCompared", desc := "()I" } : Jvm.MethodName)) ∈ lw_all := lw_g (lw_at lw_m8 31 rfl) rfl
theorem q1855 : (Jvm.Cond.code ({ cls := "ClaspedFairModel", name := "readCompared", desc := "()I" } : Jvm.MethodName) prog_22_method_42_code (2 : Nat) (Option.some Jvm.ClassFile.FieldType.int)) ∈ lw_all := lw_g (lw_at lw_m8 32 rfl) rfl
theorem q1856 : (Jvm.Cond.methodLink "ClaspedFairModel" (249 : Nat) ({ cls := "ClaspedFairModel", name := "settles", desc := "(I)V" } : Jvm.MethodName)) ∈ lw_all := lw_g (lw_at lw_m8 33 rfl) rfl
theorem q1857 : (Jvm.Cond.privateMethod ({ cls := "ClaspedFairModel", name := "settles", desc := "(I)V" } : Jvm.MethodName)) ∈ lw_tbl := lw_at lw_m8 34 rfl
theorem q1858 : (Jvm.Cond.instanceMethod ({ cls := "ClaspedFairModel", name := "settles", desc := "(I)V" } : Jvm.MethodName)) ∈ lw_all := lw_g (lw_at lw_m8 35 rfl) rfl
theorem q1859 : (Jvm.Cond.code ({ cls := "ClaspedFairModel", name := "settles", desc := "(I)V" } : Jvm.MethodName) prog_22_method_44_code (2 : Nat) (Option.none : Option Jvm.ClassFile.FieldType)) ∈ lw_all := lw_g (lw_at lw_m8 36 rfl) rfl
theorem q1860 : (Jvm.Cond.methodLink "ClaspedFairModel" (307 : Nat) ({ cls := "ClaspedFairModel", name := "takesLaw", desc := "(I)V" } : Jvm.MethodName)) ∈ lw_all := lw_g (lw_at lw_m8 37 rfl) rfl
theorem q1861 : (Jvm.Cond.privateMethod ({ cls := "ClaspedFairModel", name := "takesLaw", desc := "(I)V" } : Jvm.MethodName)) ∈ lw_tbl := lw_at lw_m8 38 rfl
theorem q1862 : (Jvm.Cond.instanceMethod ({ cls := "ClaspedFairModel", name := "takesLaw", desc := "(I)V" } : Jvm.MethodName)) ∈ lw_all := lw_g (lw_at lw_m8 39 rfl) rfl
theorem q1863 : (Jvm.Cond.code ({ cls := "ClaspedFairModel", name := "takesLaw", desc := "(I)V" } : Jvm.MethodName) prog_22_method_48_code (3 : Nat) (Option.none : Option Jvm.ClassFile.FieldType)) ∈ lw_all := lw_g (lw_at lw_m8 40 rfl) rfl
theorem q1864 : (Jvm.Cond.methodLink "ClaspedFairModel" (310 : Nat) ({ cls := "ClaspedFairModel", name := "takesOther", desc := "(II)V" } : Jvm.MethodName)) ∈ lw_all := lw_g (lw_at lw_m8 41 rfl) rfl
theorem q1865 : (Jvm.Cond.privateMethod ({ cls := "ClaspedFairModel", name := "takesOther", desc := "(II)V" } : Jvm.MethodName)) ∈ lw_tbl := lw_at lw_m8 42 rfl
theorem q1866 : (Jvm.Cond.instanceMethod ({ cls := "ClaspedFairModel", name := "takesOther", desc := "(II)V" } : Jvm.MethodName)) ∈ lw_all := lw_g (lw_at lw_m8 43 rfl) rfl
theorem q1867 : (Jvm.Cond.code ({ cls := "ClaspedFairModel", name := "takesOther", desc := "(II)V" } : Jvm.MethodName) prog_22_method_59_code (4 : Nat) (Option.none : Option Jvm.ClassFile.FieldType)) ∈ lw_all := lw_g (lw_at lw_m8 44 rfl) rfl
theorem q1869 : (Jvm.Cond.instanceMethod ({ cls := "ClaspedFairModel", name := "fault", desc := "(I)I" } : Jvm.MethodName)) ∈ lw_all := lw_g (lw_at lw_m8 46 rfl) rfl
theorem q1870 : (Jvm.Cond.selects "ClaspedFairModel" ({ cls := "ClaspedFairModel", name := "fault", desc := "(I)I" } : Jvm.MethodName) ({ cls := "ClaspedFairModel", name := "fault", desc := "(I)I" } : Jvm.MethodName)) ∈ lw_all := lw_g (lw_at lw_m8 47 rfl) rfl
theorem q1871 : (Jvm.Cond.code ({ cls := "ClaspedFairModel", name := "fault", desc := "(I)I" } : Jvm.MethodName) prog_22_method_61_code (2 : Nat) (Option.some Jvm.ClassFile.FieldType.int)) ∈ lw_all := lw_g (lw_at lw_m8 48 rfl) rfl
theorem q1873 : (Jvm.Cond.instanceMethod ({ cls := "ClaspedFairModel", name := "buys", desc := "(IIII)I" } : Jvm.MethodName)) ∈ lw_all := lw_g (lw_at lw_m8 50 rfl) rfl
theorem q1874 : (Jvm.Cond.selects "ClaspedFairModel" ({ cls := "ClaspedFairModel", name := "buys", desc := "(IIII)I" } : Jvm.MethodName) ({ cls := "ClaspedFairModel", name := "buys", desc := "(IIII)I" } : Jvm.MethodName)) ∈ lw_all := lw_g (lw_at lw_m8 51 rfl) rfl
theorem q1875 : (Jvm.Cond.code ({ cls := "ClaspedFairModel", name := "buys", desc := "(IIII)I" } : Jvm.MethodName) prog_22_method_81_code (5 : Nat) (Option.some Jvm.ClassFile.FieldType.int)) ∈ lw_all := lw_g (lw_at lw_m8 52 rfl) rfl
theorem q1876 : (Jvm.Cond.methodLink "ClaspedFairModel" (390 : Nat) ({ cls := "ClaspedFairModel", name := "canBuy", desc := "(IIII)Z" } : Jvm.MethodName)) ∈ lw_all := lw_g (lw_at lw_m8 53 rfl) rfl
theorem q1877 : (Jvm.Cond.privateMethod ({ cls := "ClaspedFairModel", name := "canBuy", desc := "(IIII)Z" } : Jvm.MethodName)) ∈ lw_tbl := lw_at lw_m8 54 rfl
theorem q1878 : (Jvm.Cond.instanceMethod ({ cls := "ClaspedFairModel", name := "canBuy", desc := "(IIII)Z" } : Jvm.MethodName)) ∈ lw_all := lw_g (lw_at lw_m8 55 rfl) rfl
theorem q1879 : (Jvm.Cond.code ({ cls := "ClaspedFairModel", name := "canBuy", desc := "(IIII)Z" } : Jvm.MethodName) prog_22_method_79_code (6 : Nat) (Option.some Jvm.ClassFile.FieldType.boolean)) ∈ lw_all := lw_g (lw_at lw_m8 56 rfl) rfl
theorem q1880 : (Jvm.Cond.methodLink "ClaspedFairModel" (375 : Nat) ({ cls := "ClaspedFairModel", name := "canShake", desc := "(II)Z" } : Jvm.MethodName)) ∈ lw_all := lw_g (lw_at lw_m8 57 rfl) rfl
theorem q1881 : (Jvm.Cond.privateMethod ({ cls := "ClaspedFairModel", name := "canShake", desc := "(II)Z" } : Jvm.MethodName)) ∈ lw_tbl := lw_at lw_m8 58 rfl
theorem q1882 : (Jvm.Cond.instanceMethod ({ cls := "ClaspedFairModel", name := "canShake", desc := "(II)Z" } : Jvm.MethodName)) ∈ lw_all := lw_g (lw_at lw_m8 59 rfl) rfl
theorem q1883 : (Jvm.Cond.code ({ cls := "ClaspedFairModel", name := "canShake", desc := "(II)Z" } : Jvm.MethodName) prog_22_method_78_code (3 : Nat) (Option.some Jvm.ClassFile.FieldType.boolean)) ∈ lw_all := lw_g (lw_at lw_m8 60 rfl) rfl
theorem q1884 : (Jvm.Cond.methodLink "ClaspedFairModel" (378 : Nat) ({ cls := "ClaspedFairModel", name := "isBy", desc := "(III)V" } : Jvm.MethodName)) ∈ lw_all := lw_g (lw_at lw_m8 61 rfl) rfl
theorem q1885 : (Jvm.Cond.privateMethod ({ cls := "ClaspedFairModel", name := "isBy", desc := "(III)V" } : Jvm.MethodName)) ∈ lw_tbl := lw_at lw_m8 62 rfl
theorem q1886 : (Jvm.Cond.instanceMethod ({ cls := "ClaspedFairModel", name := "isBy", desc := "(III)V" } : Jvm.MethodName)) ∈ lw_all := lw_g (lw_at lw_m8 63 rfl) rfl
theorem q1887 : (Jvm.Cond.code ({ cls := "ClaspedFairModel", name := "isBy", desc := "(III)V" } : Jvm.MethodName) prog_22_method_70_code (4 : Nat) (Option.none : Option Jvm.ClassFile.FieldType)) ∈ lw_all := lw_g (lw_at lw_m8 64 rfl) rfl
theorem q1888 : (Jvm.Cond.methodLink "ClaspedFairModel" (381 : Nat) ({ cls := "ClaspedFairModel", name := "asksOf", desc := "(II)I" } : Jvm.MethodName)) ∈ lw_all := lw_g (lw_at lw_m8 65 rfl) rfl
theorem q1889 : (Jvm.Cond.privateMethod ({ cls := "ClaspedFairModel", name := "asksOf", desc := "(II)I" } : Jvm.MethodName)) ∈ lw_tbl := lw_at lw_m8 66 rfl
theorem q1890 : (Jvm.Cond.instanceMethod ({ cls := "ClaspedFairModel", name := "asksOf", desc := "(II)I" } : Jvm.MethodName)) ∈ lw_all := lw_g (lw_at lw_m8 67 rfl) rfl
theorem q1891 : (Jvm.Cond.code ({ cls := "ClaspedFairModel", name := "asksOf", desc := "(II)I" } : Jvm.MethodName) prog_22_method_69_code (3 : Nat) (Option.some Jvm.ClassFile.FieldType.int)) ∈ lw_all := lw_g (lw_at lw_m8 68 rfl) rfl
theorem q1892 : (Jvm.Cond.methodLink "ClaspedFairModel" (338 : Nat) ({ cls := "ClaspedFairModel", name := "looks", desc := "(IIIZ)V" } : Jvm.MethodName)) ∈ lw_all := lw_g (lw_at lw_m8 69 rfl) rfl
theorem q1893 : (Jvm.Cond.privateMethod ({ cls := "ClaspedFairModel", name := "looks", desc := "(IIIZ)V" } : Jvm.MethodName)) ∈ lw_tbl := lw_at lw_m8 70 rfl
theorem q1894 : (Jvm.Cond.instanceMethod ({ cls := "ClaspedFairModel", name := "looks", desc := "(IIIZ)V" } : Jvm.MethodName)) ∈ lw_all := lw_g (lw_at lw_m8 71 rfl) rfl
theorem q1895 : (Jvm.Cond.code ({ cls := "ClaspedFairModel", name := "looks", desc := "(IIIZ)V" } : Jvm.MethodName) prog_22_method_65_code (5 : Nat) (Option.none : Option Jvm.ClassFile.FieldType)) ∈ lw_all := lw_g (lw_at lw_m8 72 rfl) rfl
theorem q1896 : (Jvm.Cond.methodLink "ClaspedFairModel" (319 : Nat) ({ cls := "ClaspedFairModel", name := "traitOf", desc := "(II)I" } : Jvm.MethodName)) ∈ lw_all := lw_g (lw_at lw_m8 73 rfl) rfl
theorem q1897 : (Jvm.Cond.privateMethod ({ cls := "ClaspedFairModel", name := "traitOf", desc := "(II)I" } : Jvm.MethodName)) ∈ lw_tbl := lw_at lw_m8 74 rfl
theorem q1898 : (Jvm.Cond.instanceMethod ({ cls := "ClaspedFairModel", name := "traitOf", desc := "(II)I" } : Jvm.MethodName)) ∈ lw_all := lw_g (lw_at lw_m8 75 rfl) rfl
theorem q1899 : (Jvm.Cond.code ({ cls := "ClaspedFairModel", name := "traitOf", desc := "(II)I" } : Jvm.MethodName) prog_22_method_19_code (3 : Nat) (Option.some Jvm.ClassFile.FieldType.int)) ∈ lw_all := lw_g (lw_at lw_m8 76 rfl) rfl
theorem q1900 : (Jvm.Cond.methodLink "ClaspedFairModel" (331 : Nat) ({ cls := "ClaspedFairModel", name := "has", desc := "(II)Z" } : Jvm.MethodName)) ∈ lw_all := lw_g (lw_at lw_m8 77 rfl) rfl
theorem q1901 : (Jvm.Cond.privateMethod ({ cls := "ClaspedFairModel", name := "has", desc := "(II)Z" } : Jvm.MethodName)) ∈ lw_tbl := lw_at lw_m8 78 rfl
theorem q1902 : (Jvm.Cond.instanceMethod ({ cls := "ClaspedFairModel", name := "has", desc := "(II)Z" } : Jvm.MethodName)) ∈ lw_all := lw_g (lw_at lw_m8 79 rfl) rfl
theorem q1903 : (Jvm.Cond.code ({ cls := "ClaspedFairModel", name := "has", desc := "(II)Z" } : Jvm.MethodName) prog_22_method_10_code (3 : Nat) (Option.some Jvm.ClassFile.FieldType.boolean)) ∈ lw_all := lw_g (lw_at lw_m8 80 rfl) rfl
theorem q1904 : (Jvm.Cond.methodLink "ClaspedFairModel" (342 : Nat) ({ cls := "ClaspedFairModel", name := "lawTells", desc := "(III)I" } : Jvm.MethodName)) ∈ lw_all := lw_g (lw_at lw_m8 81 rfl) rfl
theorem q1905 : (Jvm.Cond.privateMethod ({ cls := "ClaspedFairModel", name := "lawTells", desc := "(III)I" } : Jvm.MethodName)) ∈ lw_tbl := lw_at lw_m8 82 rfl
theorem q1906 : (Jvm.Cond.instanceMethod ({ cls := "ClaspedFairModel", name := "lawTells", desc := "(III)I" } : Jvm.MethodName)) ∈ lw_all := lw_g (lw_at lw_m8 83 rfl) rfl
theorem q1907 : (Jvm.Cond.code ({ cls := "ClaspedFairModel", name := "lawTells", desc := "(III)I" } : Jvm.MethodName) prog_22_method_66_code (5 : Nat) (Option.some Jvm.ClassFile.FieldType.int)) ∈ lw_all := lw_g (lw_at lw_m8 84 rfl) rfl
theorem q1908 : (Jvm.Cond.methodLink "ClaspedFairModel" (335 : Nat) ({ cls := "ClaspedFairModel", name := "lineOf", desc := "(I)I" } : Jvm.MethodName)) ∈ lw_all := lw_g (lw_at lw_m8 85 rfl) rfl
theorem q1909 : (Jvm.Cond.privateMethod ({ cls := "ClaspedFairModel", name := "lineOf", desc := "(I)I" } : Jvm.MethodName)) ∈ lw_tbl := lw_at lw_m8 86 rfl
theorem q1910 : (Jvm.Cond.instanceMethod ({ cls := "ClaspedFairModel", name := "lineOf", desc := "(I)I" } : Jvm.MethodName)) ∈ lw_all := lw_g (lw_at lw_m8 87 rfl) rfl
theorem q1911 : (Jvm.Cond.code ({ cls := "ClaspedFairModel", name := "lineOf", desc := "(I)I" } : Jvm.MethodName) prog_22_method_64_code (3 : Nat) (Option.some Jvm.ClassFile.FieldType.int)) ∈ lw_all := lw_g (lw_at lw_m8 88 rfl) rfl
theorem q1912 : (Jvm.Cond.methodLink "ClaspedFairModel" (316 : Nat) ({ cls := "ClaspedFairModel", name := "runs", desc := "(III)I" } : Jvm.MethodName)) ∈ lw_all := lw_g (lw_at lw_m8 89 rfl) rfl
theorem q1913 : (Jvm.Cond.privateMethod ({ cls := "ClaspedFairModel", name := "runs", desc := "(III)I" } : Jvm.MethodName)) ∈ lw_tbl := lw_at lw_m8 90 rfl
theorem q1914 : (Jvm.Cond.instanceMethod ({ cls := "ClaspedFairModel", name := "runs", desc := "(III)I" } : Jvm.MethodName)) ∈ lw_all := lw_g (lw_at lw_m8 91 rfl) rfl
theorem q1915 : (Jvm.Cond.code ({ cls := "ClaspedFairModel", name := "runs", desc := "(III)I" } : Jvm.MethodName) prog_22_method_63_code (6 : Nat) (Option.some Jvm.ClassFile.FieldType.int)) ∈ lw_all := lw_g (lw_at lw_m8 92 rfl) rfl
theorem q1916 : (Jvm.Cond.methodLink "ClaspedFairModel" (313 : Nat) ({ cls := "ClaspedFairModel", name := "twoOf", desc := "(III)I" } : Jvm.MethodName)) ∈ lw_all := lw_g (lw_at lw_m8 93 rfl) rfl
theorem q1917 : (Jvm.Cond.privateMethod ({ cls := "ClaspedFairModel", name := "twoOf", desc := "(III)I" } : Jvm.MethodName)) ∈ lw_tbl := lw_at lw_m8 94 rfl
theorem q1918 : (Jvm.Cond.instanceMethod ({ cls := "ClaspedFairModel", name := "twoOf", desc := "(III)I" } : Jvm.MethodName)) ∈ lw_all := lw_g (lw_at lw_m8 95 rfl) rfl
theorem q1919 : (Jvm.Cond.code ({ cls := "ClaspedFairModel", name := "twoOf", desc := "(III)I" } : Jvm.MethodName) prog_22_method_62_code (4 : Nat) (Option.some Jvm.ClassFile.FieldType.int)) ∈ lw_all := lw_g (lw_at lw_m8 96 rfl) rfl
theorem q1920 : (Jvm.Cond.methodLink "ClaspedFairModel" (394 : Nat) ({ cls := "ClaspedFairModel", name := "keepsAhead", desc := "()V" } : Jvm.MethodName)) ∈ lw_all := lw_g (lw_at lw_m8 97 rfl) rfl
theorem q1921 : (Jvm.Cond.privateMethod ({ cls := "ClaspedFairModel", name := "keepsAhead", desc := "()V" } : Jvm.MethodName)) ∈ lw_tbl := lw_at lw_m8 98 rfl
theorem q1922 : (Jvm.Cond.instanceMethod ({ cls := "ClaspedFairModel", name := "keepsAhead", desc := "()V" } : Jvm.MethodName)) ∈ lw_all := lw_g (lw_at lw_m8 99 rfl) rfl
theorem q1923 : (Jvm.Cond.code ({ cls := "ClaspedFairModel", name := "keepsAhead", desc := "()V" } : Jvm.MethodName) prog_22_method_11_code (2 : Nat) (Option.none : Option Jvm.ClassFile.FieldType)) ∈ lw_all := lw_g (lw_at lw_m8 100 rfl) rfl
theorem q1924 : (Jvm.Cond.methodLink "ClaspedFairModel" (397 : Nat) ({ cls := "ClaspedFairModel", name := "bargains", desc := "(IIII)I" } : Jvm.MethodName)) ∈ lw_all := lw_g (lw_at lw_m8 101 rfl) rfl
theorem q1925 : (Jvm.Cond.privateMethod ({ cls := "ClaspedFairModel", name := "bargains", desc := "(IIII)I" } : Jvm.MethodName)) ∈ lw_tbl := lw_at lw_m8 102 rfl
theorem q1926 : (Jvm.Cond.instanceMethod ({ cls := "ClaspedFairModel", name := "bargains", desc := "(IIII)I" } : Jvm.MethodName)) ∈ lw_all := lw_g (lw_at lw_m8 103 rfl) rfl
theorem q1927 : (Jvm.Cond.code ({ cls := "ClaspedFairModel", name := "bargains", desc := "(IIII)I" } : Jvm.MethodName) prog_22_method_80_code (8 : Nat) (Option.some Jvm.ClassFile.FieldType.int)) ∈ lw_all := lw_g (lw_at lw_m8 104 rfl) rfl
theorem q1928 : (Jvm.Cond.methodLink "ClaspedFairModel" (384 : Nat) ({ cls := "ClaspedFairModel", name := "shake", desc := "(II)V" } : Jvm.MethodName)) ∈ lw_all := lw_g (lw_at lw_m8 105 rfl) rfl
theorem q1929 : (Jvm.Cond.privateMethod ({ cls := "ClaspedFairModel", name := "shake", desc := "(II)V" } : Jvm.MethodName)) ∈ lw_tbl := lw_at lw_m8 106 rfl
theorem q1930 : (Jvm.Cond.instanceMethod ({ cls := "ClaspedFairModel", name := "shake", desc := "(II)V" } : Jvm.MethodName)) ∈ lw_all := lw_g (lw_at lw_m8 107 rfl) rfl
theorem q1931 : (Jvm.Cond.code ({ cls := "ClaspedFairModel", name := "shake", desc := "(II)V" } : Jvm.MethodName) prog_22_method_77_code (3 : Nat) (Option.none : Option Jvm.ClassFile.FieldType)) ∈ lw_all := lw_g (lw_at lw_m8 108 rfl) rfl
theorem q1932 : (Jvm.Cond.methodLink "ClaspedFairModel" (348 : Nat) ({ cls := "ClaspedFairModel", name := "lesser", desc := "(II)I" } : Jvm.MethodName)) ∈ lw_all := lw_g (lw_at lw_m8 109 rfl) rfl
theorem q1933 : (Jvm.Cond.privateMethod ({ cls := "ClaspedFairModel", name := "lesser", desc := "(II)I" } : Jvm.MethodName)) ∈ lw_tbl := lw_at lw_m8 110 rfl
theorem q1934 : (Jvm.Cond.instanceMethod ({ cls := "ClaspedFairModel", name := "lesser", desc := "(II)I" } : Jvm.MethodName)) ∈ lw_all := lw_g (lw_at lw_m8 111 rfl) rfl
theorem q1935 : (Jvm.Cond.code ({ cls := "ClaspedFairModel", name := "lesser", desc := "(II)I" } : Jvm.MethodName) prog_22_method_6_code (3 : Nat) (Option.some Jvm.ClassFile.FieldType.int)) ∈ lw_all := lw_g (lw_at lw_m8 112 rfl) rfl
theorem q1936 : (Jvm.Cond.methodLink "ClaspedFairModel" (351 : Nat) ({ cls := "ClaspedFairModel", name := "notes", desc := "(III)V" } : Jvm.MethodName)) ∈ lw_all := lw_g (lw_at lw_m8 113 rfl) rfl
theorem q1937 : (Jvm.Cond.privateMethod ({ cls := "ClaspedFairModel", name := "notes", desc := "(III)V" } : Jvm.MethodName)) ∈ lw_tbl := lw_at lw_m8 114 rfl
theorem q1938 : (Jvm.Cond.instanceMethod ({ cls := "ClaspedFairModel", name := "notes", desc := "(III)V" } : Jvm.MethodName)) ∈ lw_all := lw_g (lw_at lw_m8 115 rfl) rfl
theorem q1939 : (Jvm.Cond.code ({ cls := "ClaspedFairModel", name := "notes", desc := "(III)V" } : Jvm.MethodName) prog_22_method_71_code (5 : Nat) (Option.none : Option Jvm.ClassFile.FieldType)) ∈ lw_all := lw_g (lw_at lw_m8 116 rfl) rfl
theorem q1940 : (Jvm.Cond.methodLink "ClaspedFairModel" (387 : Nat) ({ cls := "ClaspedFairModel", name := "clasps", desc := "(II)I" } : Jvm.MethodName)) ∈ lw_all := lw_g (lw_at lw_m8 117 rfl) rfl
theorem q1941 : (Jvm.Cond.privateMethod ({ cls := "ClaspedFairModel", name := "clasps", desc := "(II)I" } : Jvm.MethodName)) ∈ lw_tbl := lw_at lw_m8 118 rfl
theorem q1942 : (Jvm.Cond.instanceMethod ({ cls := "ClaspedFairModel", name := "clasps", desc := "(II)I" } : Jvm.MethodName)) ∈ lw_all := lw_g (lw_at lw_m8 119 rfl) rfl
theorem q1943 : (Jvm.Cond.code ({ cls := "ClaspedFairModel", name := "clasps", desc := "(II)I" } : Jvm.MethodName) prog_22_method_76_code (4 : Nat) (Option.some Jvm.ClassFile.FieldType.int)) ∈ lw_all := lw_g (lw_at lw_m8 120 rfl) rfl
theorem q1944 : (Jvm.Cond.methodLink "ClaspedFairModel" (363 : Nat) ({ cls := "ClaspedFairModel", name := "areBare", desc := "(II)Z" } : Jvm.MethodName)) ∈ lw_all := lw_g (lw_at lw_m8 121 rfl) rfl
theorem q1945 : (Jvm.Cond.privateMethod ({ cls := "ClaspedFairModel", name := "areBare", desc := "(II)Z" } : Jvm.MethodName)) ∈ lw_tbl := lw_at lw_m8 122 rfl
theorem q1946 : (Jvm.Cond.instanceMethod ({ cls := "ClaspedFairModel", name := "areBare", desc := "(II)Z" } : Jvm.MethodName)) ∈ lw_all := lw_g (lw_at lw_m8 123 rfl) rfl
theorem q1947 : (Jvm.Cond.code ({ cls := "ClaspedFairModel", name := "areBare", desc := "(II)Z" } : Jvm.MethodName) prog_22_method_72_code (3 : Nat) (Option.some Jvm.ClassFile.FieldType.boolean)) ∈ lw_all := lw_g (lw_at lw_m8 124 rfl) rfl
theorem q1948 : (Jvm.Cond.methodLink "ClaspedFairModel" (366 : Nat) ({ cls := "ClaspedFairModel", name := "passAll", desc := "(II)I" } : Jvm.MethodName)) ∈ lw_all := lw_g (lw_at lw_m8 125 rfl) rfl
theorem q1949 : (Jvm.Cond.privateMethod ({ cls := "ClaspedFairModel", name := "passAll", desc := "(II)I" } : Jvm.MethodName)) ∈ lw_tbl := lw_at lw_m8 126 rfl
theorem q1950 : (Jvm.Cond.instanceMethod ({ cls := "ClaspedFairModel", name := "passAll", desc := "(II)I" } : Jvm.MethodName)) ∈ lw_all := lw_g (lw_at lw_m8 127 rfl) rfl
theorem q1951 : (Jvm.Cond.code ({ cls := "ClaspedFairModel", name := "passAll", desc := "(II)I" } : Jvm.MethodName) prog_22_method_73_code (9 : Nat) (Option.some Jvm.ClassFile.FieldType.int)) ∈ lw_all := lw_g (lw_at lw_m8 128 rfl) rfl
theorem q1952 : (Jvm.Cond.methodLink "ClaspedFairModel" (345 : Nat) ({ cls := "ClaspedFairModel", name := "passesOf", desc := "(III)I" } : Jvm.MethodName)) ∈ lw_all := lw_g (lw_at lw_m8 129 rfl) rfl
theorem q1953 : (Jvm.Cond.privateMethod ({ cls := "ClaspedFairModel", name := "passesOf", desc := "(III)I" } : Jvm.MethodName)) ∈ lw_tbl := lw_at lw_m8 130 rfl
theorem q1954 : (Jvm.Cond.instanceMethod ({ cls := "ClaspedFairModel", name := "passesOf", desc := "(III)I" } : Jvm.MethodName)) ∈ lw_all := lw_g (lw_at lw_m8 131 rfl) rfl
theorem q1955 : (Jvm.Cond.code ({ cls := "ClaspedFairModel", name := "passesOf", desc := "(III)I" } : Jvm.MethodName) prog_22_method_67_code (4 : Nat) (Option.some Jvm.ClassFile.FieldType.int)) ∈ lw_all := lw_g (lw_at lw_m8 132 rfl) rfl
theorem q1956 : (Jvm.Cond.methodLink "ClaspedFairModel" (369 : Nat) ({ cls := "ClaspedFairModel", name := "doesHold", desc := "(II)Z" } : Jvm.MethodName)) ∈ lw_all := lw_g (lw_at lw_m8 133 rfl) rfl
theorem q1957 : (Jvm.Cond.privateMethod ({ cls := "ClaspedFairModel", name := "doesHold", desc := "(II)Z" } : Jvm.MethodName)) ∈ lw_tbl := lw_at lw_m8 134 rfl
theorem q1958 : (Jvm.Cond.instanceMethod ({ cls := "ClaspedFairModel", name := "doesHold", desc := "(II)Z" } : Jvm.MethodName)) ∈ lw_all := lw_g (lw_at lw_m8 135 rfl) rfl
theorem q1959 : (Jvm.Cond.code ({ cls := "ClaspedFairModel", name := "doesHold", desc := "(II)Z" } : Jvm.MethodName) prog_22_method_75_code (4 : Nat) (Option.some Jvm.ClassFile.FieldType.boolean)) ∈ lw_all := lw_g (lw_at lw_m8 136 rfl) rfl
theorem q1960 : (Jvm.Cond.methodLink "ClaspedFairModel" (354 : Nat) ({ cls := "ClaspedFairModel", name := "holdsOf", desc := "(II)I" } : Jvm.MethodName)) ∈ lw_all := lw_g (lw_at lw_m8 137 rfl) rfl
theorem q1961 : (Jvm.Cond.privateMethod ({ cls := "ClaspedFairModel", name := "holdsOf", desc := "(II)I" } : Jvm.MethodName)) ∈ lw_tbl := lw_at lw_m8 138 rfl
theorem q1962 : (Jvm.Cond.instanceMethod ({ cls := "ClaspedFairModel", name := "holdsOf", desc := "(II)I" } : Jvm.MethodName)) ∈ lw_all := lw_g (lw_at lw_m8 139 rfl) rfl
theorem q1963 : (Jvm.Cond.code ({ cls := "ClaspedFairModel", name := "holdsOf", desc := "(II)I" } : Jvm.MethodName) prog_22_method_68_code (3 : Nat) (Option.some Jvm.ClassFile.FieldType.int)) ∈ lw_all := lw_g (lw_at lw_m8 140 rfl) rfl
theorem q1964 : (Jvm.Cond.methodLink "ClaspedFairModel" (357 : Nat) ({ cls := "ClaspedFairModel", name := "draw", desc := "(I)I" } : Jvm.MethodName)) ∈ lw_all := lw_g (lw_at lw_m8 141 rfl) rfl
theorem q1965 : (Jvm.Cond.privateMethod ({ cls := "ClaspedFairModel", name := "draw", desc := "(I)I" } : Jvm.MethodName)) ∈ lw_tbl := lw_at lw_m8 142 rfl
theorem q1966 : (Jvm.Cond.instanceMethod ({ cls := "ClaspedFairModel", name := "draw", desc := "(I)I" } : Jvm.MethodName)) ∈ lw_all := lw_g (lw_at lw_m8 143 rfl) rfl
theorem q1967 : (Jvm.Cond.code ({ cls := "ClaspedFairModel", name := "draw", desc := "(I)I" } : Jvm.MethodName) prog_22_method_16_code (2 : Nat) (Option.some Jvm.ClassFile.FieldType.int)) ∈ lw_all := lw_g (lw_at lw_m8 144 rfl) rfl
theorem q1968 : (Jvm.Cond.constant "ClaspedFairModel" (133 : Nat) (1664525 : Int32)) ∈ lw_all := lw_g (lw_at lw_m8 145 rfl) rfl
theorem q1969 : (Jvm.Cond.constant "ClaspedFairModel" (134 : Nat) (1013904223 : Int32)) ∈ lw_all := lw_g (lw_at lw_m8 146 rfl) rfl
theorem q1970 : (Jvm.Cond.methodLink "ClaspedFairModel" (372 : Nat) ({ cls := "ClaspedFairModel", name := "putBack", desc := "(III)V" } : Jvm.MethodName)) ∈ lw_all := lw_g (lw_at lw_m8 147 rfl) rfl
theorem q1971 : (Jvm.Cond.privateMethod ({ cls := "ClaspedFairModel", name := "putBack", desc := "(III)V" } : Jvm.MethodName)) ∈ lw_tbl := lw_at lw_m8 148 rfl
theorem q1972 : (Jvm.Cond.instanceMethod ({ cls := "ClaspedFairModel", name := "putBack", desc := "(III)V" } : Jvm.MethodName)) ∈ lw_all := lw_g (lw_at lw_m8 149 rfl) rfl
theorem q1973 : (Jvm.Cond.code ({ cls := "ClaspedFairModel", name := "putBack", desc := "(III)V" } : Jvm.MethodName) prog_22_method_74_code (5 : Nat) (Option.none : Option Jvm.ClassFile.FieldType)) ∈ lw_all := lw_g (lw_at lw_m8 150 rfl) rfl
theorem q1975 : (Jvm.Cond.instanceMethod ({ cls := "ClaspedFairModel", name := "clasp", desc := "(III)I" } : Jvm.MethodName)) ∈ lw_all := lw_g (lw_at lw_m8 152 rfl) rfl
theorem q1976 : (Jvm.Cond.selects "ClaspedFairModel" ({ cls := "ClaspedFairModel", name := "clasp", desc := "(III)I" } : Jvm.MethodName) ({ cls := "ClaspedFairModel", name := "clasp", desc := "(III)I" } : Jvm.MethodName)) ∈ lw_all := lw_g (lw_at lw_m8 153 rfl) rfl
theorem q1977 : (Jvm.Cond.code ({ cls := "ClaspedFairModel", name := "clasp", desc := "(III)I" } : Jvm.MethodName) prog_22_method_82_code (4 : Nat) (Option.some Jvm.ClassFile.FieldType.int)) ∈ lw_all := lw_g (lw_at lw_m8 154 rfl) rfl
theorem q1979 : (Jvm.Cond.instanceMethod ({ cls := "ClaspedFairModel", name := "hand", desc := "(II)Z" } : Jvm.MethodName)) ∈ lw_all := lw_g (lw_at lw_m8 156 rfl) rfl
theorem q1980 : (Jvm.Cond.selects "ClaspedFairModel" ({ cls := "ClaspedFairModel", name := "hand", desc := "(II)Z" } : Jvm.MethodName) ({ cls := "ClaspedFairModel", name := "hand", desc := "(II)Z" } : Jvm.MethodName)) ∈ lw_all := lw_g (lw_at lw_m8 157 rfl) rfl
theorem q1981 : (Jvm.Cond.code ({ cls := "ClaspedFairModel", name := "hand", desc := "(II)Z" } : Jvm.MethodName) prog_22_method_83_code (3 : Nat) (Option.some Jvm.ClassFile.FieldType.boolean)) ∈ lw_all := lw_g (lw_at lw_m8 158 rfl) rfl
theorem q1983 : (Jvm.Cond.instanceMethod ({ cls := "ClaspedFairModel", name := "days", desc := "(I)I" } : Jvm.MethodName)) ∈ lw_all := lw_g (lw_at lw_m8 160 rfl) rfl
theorem q1984 : (Jvm.Cond.selects "ClaspedFairModel" ({ cls := "ClaspedFairModel", name := "days", desc := "(I)I" } : Jvm.MethodName) ({ cls := "ClaspedFairModel", name := "days", desc := "(I)I" } : Jvm.MethodName)) ∈ lw_all := lw_g (lw_at lw_m8 161 rfl) rfl
theorem q1985 : (Jvm.Cond.code ({ cls := "ClaspedFairModel", name := "days", desc := "(I)I" } : Jvm.MethodName) prog_22_method_86_code (4 : Nat) (Option.some Jvm.ClassFile.FieldType.int)) ∈ lw_all := lw_g (lw_at lw_m8 162 rfl) rfl
theorem q1986 : (Jvm.Cond.methodLink "ClaspedFairModel" (404 : Nat) ({ cls := "ClaspedFairModel", name := "goesBy", desc := "()I" } : Jvm.MethodName)) ∈ lw_all := lw_g (lw_at lw_m8 163 rfl) rfl
theorem q1987 : (Jvm.Cond.privateMethod ({ cls := "ClaspedFairModel", name := "goesBy", desc := "()I" } : Jvm.MethodName)) ∈ lw_tbl := lw_at lw_m8 164 rfl
theorem q1988 : (Jvm.Cond.instanceMethod ({ cls := "ClaspedFairModel", name := "goesBy", desc := "()I" } : Jvm.MethodName)) ∈ lw_all := lw_g (lw_at lw_m8 165 rfl) rfl
theorem q1989 : (Jvm.Cond.code ({ cls := "ClaspedFairModel", name := "goesBy", desc := "()I" } : Jvm.MethodName) prog_22_method_85_code (3 : Nat) (Option.some Jvm.ClassFile.FieldType.int)) ∈ lw_all := lw_g (lw_at lw_m8 166 rfl) rfl
theorem q1990 : (Jvm.Cond.methodLink "ClaspedFairModel" (401 : Nat) ({ cls := "ClaspedFairModel", name := "does", desc := "(I)V" } : Jvm.MethodName)) ∈ lw_all := lw_g (lw_at lw_m8 167 rfl) rfl
theorem q1991 : (Jvm.Cond.privateMethod ({ cls := "ClaspedFairModel", name := "does", desc := "(I)V" } : Jvm.MethodName)) ∈ lw_tbl := lw_at lw_m8 168 rfl
theorem q1992 : (Jvm.Cond.instanceMethod ({ cls := "ClaspedFairModel", name := "does", desc := "(I)V" } : Jvm.MethodName)) ∈ lw_all := lw_g (lw_at lw_m8 169 rfl) rfl
theorem q1993 : (Jvm.Cond.code ({ cls := "ClaspedFairModel", name := "does", desc := "(I)V" } : Jvm.MethodName) prog_22_method_84_code (4 : Nat) (Option.none : Option Jvm.ClassFile.FieldType)) ∈ lw_all := lw_g (lw_at lw_m8 170 rfl) rfl
theorem q1995 : (Jvm.Cond.instanceMethod ({ cls := "ClaspedFairModel", name := "of", desc := "(II)I" } : Jvm.MethodName)) ∈ lw_all := lw_g (lw_at lw_m8 172 rfl) rfl
theorem q1996 : (Jvm.Cond.selects "ClaspedFairModel" ({ cls := "ClaspedFairModel", name := "of", desc := "(II)I" } : Jvm.MethodName) ({ cls := "ClaspedFairModel", name := "of", desc := "(II)I" } : Jvm.MethodName)) ∈ lw_all := lw_g (lw_at lw_m8 173 rfl) rfl
theorem q1997 : (Jvm.Cond.code ({ cls := "ClaspedFairModel", name := "of", desc := "(II)I" } : Jvm.MethodName) prog_22_method_87_code (3 : Nat) (Option.some Jvm.ClassFile.FieldType.int)) ∈ lw_all := lw_g (lw_at lw_m8 174 rfl) rfl
theorem q1999 : (Jvm.Cond.instanceMethod ({ cls := "ClaspedFairModel", name := "horseOf", desc := "(II)I" } : Jvm.MethodName)) ∈ lw_all := lw_g (lw_at lw_m8 176 rfl) rfl
theorem q2000 : (Jvm.Cond.selects "ClaspedFairModel" ({ cls := "ClaspedFairModel", name := "horseOf", desc := "(II)I" } : Jvm.MethodName) ({ cls := "ClaspedFairModel", name := "horseOf", desc := "(II)I" } : Jvm.MethodName)) ∈ lw_all := lw_g (lw_at lw_m8 177 rfl) rfl
theorem q2001 : (Jvm.Cond.code ({ cls := "ClaspedFairModel", name := "horseOf", desc := "(II)I" } : Jvm.MethodName) prog_22_method_88_code (3 : Nat) (Option.some Jvm.ClassFile.FieldType.int)) ∈ lw_all := lw_g (lw_at lw_m8 178 rfl) rfl
theorem q2003 : (Jvm.Cond.instanceMethod ({ cls := "ClaspedFairModel", name := "passes", desc := "(IIII)I" } : Jvm.MethodName)) ∈ lw_all := lw_g (lw_at lw_m8 180 rfl) rfl
theorem q2004 : (Jvm.Cond.selects "ClaspedFairModel" ({ cls := "ClaspedFairModel", name := "passes", desc := "(IIII)I" } : Jvm.MethodName) ({ cls := "ClaspedFairModel", name := "passes", desc := "(IIII)I" } : Jvm.MethodName)) ∈ lw_all := lw_g (lw_at lw_m8 181 rfl) rfl
theorem q2005 : (Jvm.Cond.code ({ cls := "ClaspedFairModel", name := "passes", desc := "(IIII)I" } : Jvm.MethodName) prog_22_method_90_code (5 : Nat) (Option.some Jvm.ClassFile.FieldType.int)) ∈ lw_all := lw_g (lw_at lw_m8 182 rfl) rfl
theorem q2006 : (Jvm.Cond.methodLink "ClaspedFairModel" (407 : Nat) ({ cls := "ClaspedFairModel", name := "areTwo", desc := "(III)Z" } : Jvm.MethodName)) ∈ lw_all := lw_g (lw_at lw_m8 183 rfl) rfl
theorem q2007 : (Jvm.Cond.privateMethod ({ cls := "ClaspedFairModel", name := "areTwo", desc := "(III)Z" } : Jvm.MethodName)) ∈ lw_tbl := lw_at lw_m8 184 rfl
theorem q2008 : (Jvm.Cond.instanceMethod ({ cls := "ClaspedFairModel", name := "areTwo", desc := "(III)Z" } : Jvm.MethodName)) ∈ lw_all := lw_g (lw_at lw_m8 185 rfl) rfl
theorem q2009 : (Jvm.Cond.code ({ cls := "ClaspedFairModel", name := "areTwo", desc := "(III)Z" } : Jvm.MethodName) prog_22_method_89_code (4 : Nat) (Option.some Jvm.ClassFile.FieldType.boolean)) ∈ lw_all := lw_g (lw_at lw_m8 186 rfl) rfl
theorem q2011 : (Jvm.Cond.instanceMethod ({ cls := "ClaspedFairModel", name := "holds", desc := "(III)I" } : Jvm.MethodName)) ∈ lw_all := lw_g (lw_at lw_m8 188 rfl) rfl
theorem q2012 : (Jvm.Cond.selects "ClaspedFairModel" ({ cls := "ClaspedFairModel", name := "holds", desc := "(III)I" } : Jvm.MethodName) ({ cls := "ClaspedFairModel", name := "holds", desc := "(III)I" } : Jvm.MethodName)) ∈ lw_all := lw_g (lw_at lw_m8 189 rfl) rfl
theorem q2013 : (Jvm.Cond.code ({ cls := "ClaspedFairModel", name := "holds", desc := "(III)I" } : Jvm.MethodName) prog_22_method_91_code (4 : Nat) (Option.some Jvm.ClassFile.FieldType.int)) ∈ lw_all := lw_g (lw_at lw_m8 190 rfl) rfl
theorem q2015 : (Jvm.Cond.instanceMethod ({ cls := "ClaspedFairModel", name := "asks", desc := "(III)I" } : Jvm.MethodName)) ∈ lw_all := lw_g (lw_at lw_m8 192 rfl) rfl
theorem q2016 : (Jvm.Cond.selects "ClaspedFairModel" ({ cls := "ClaspedFairModel", name := "asks", desc := "(III)I" } : Jvm.MethodName) ({ cls := "ClaspedFairModel", name := "asks", desc := "(III)I" } : Jvm.MethodName)) ∈ lw_all := lw_g (lw_at lw_m8 193 rfl) rfl
theorem q2017 : (Jvm.Cond.code ({ cls := "ClaspedFairModel", name := "asks", desc := "(III)I" } : Jvm.MethodName) prog_22_method_92_code (4 : Nat) (Option.some Jvm.ClassFile.FieldType.int)) ∈ lw_all := lw_g (lw_at lw_m8 194 rfl) rfl
theorem q2019 : (Jvm.Cond.instanceMethod ({ cls := "ClaspedFairModel", name := "book", desc := "(II)I" } : Jvm.MethodName)) ∈ lw_all := lw_g (lw_at lw_m8 196 rfl) rfl
theorem q2020 : (Jvm.Cond.selects "ClaspedFairModel" ({ cls := "ClaspedFairModel", name := "book", desc := "(II)I" } : Jvm.MethodName) ({ cls := "ClaspedFairModel", name := "book", desc := "(II)I" } : Jvm.MethodName)) ∈ lw_all := lw_g (lw_at lw_m8 197 rfl) rfl
theorem q2021 : (Jvm.Cond.code ({ cls := "ClaspedFairModel", name := "book", desc := "(II)I" } : Jvm.MethodName) prog_22_method_93_code (3 : Nat) (Option.some Jvm.ClassFile.FieldType.int)) ∈ lw_all := lw_g (lw_at lw_m8 198 rfl) rfl
theorem q2023 : (Jvm.Cond.instanceMethod ({ cls := "ClaspedFairModel", name := "goes", desc := "(II)I" } : Jvm.MethodName)) ∈ lw_all := lw_g (lw_at lw_m8 200 rfl) rfl
theorem q2024 : (Jvm.Cond.selects "ClaspedFairModel" ({ cls := "ClaspedFairModel", name := "goes", desc := "(II)I" } : Jvm.MethodName) ({ cls := "ClaspedFairModel", name := "goes", desc := "(II)I" } : Jvm.MethodName)) ∈ lw_all := lw_g (lw_at lw_m8 201 rfl) rfl
theorem q2025 : (Jvm.Cond.code ({ cls := "ClaspedFairModel", name := "goes", desc := "(II)I" } : Jvm.MethodName) prog_22_method_95_code (4 : Nat) (Option.some Jvm.ClassFile.FieldType.int)) ∈ lw_all := lw_g (lw_at lw_m8 202 rfl) rfl
theorem q2026 : (Jvm.Cond.methodLink "ClaspedFairModel" (410 : Nat) ({ cls := "ClaspedFairModel", name := "thinks", desc := "()V" } : Jvm.MethodName)) ∈ lw_all := lw_g (lw_at lw_m8 203 rfl) rfl
theorem q2027 : (Jvm.Cond.privateMethod ({ cls := "ClaspedFairModel", name := "thinks", desc := "()V" } : Jvm.MethodName)) ∈ lw_tbl := lw_at lw_m8 204 rfl
theorem q2028 : (Jvm.Cond.instanceMethod ({ cls := "ClaspedFairModel", name := "thinks", desc := "()V" } : Jvm.MethodName)) ∈ lw_all := lw_g (lw_at lw_m8 205 rfl) rfl
theorem q2029 : (Jvm.Cond.code ({ cls := "ClaspedFairModel", name := "thinks", desc := "()V" } : Jvm.MethodName) prog_22_method_13_code (2 : Nat) (Option.none : Option Jvm.ClassFile.FieldType)) ∈ lw_all := lw_g (lw_at lw_m8 206 rfl) rfl
theorem q2030 : (Jvm.Cond.methodLink "ClaspedFairModel" (413 : Nat) ({ cls := "ClaspedFairModel", name := "sumOf", desc := "(II)I" } : Jvm.MethodName)) ∈ lw_all := lw_g (lw_at lw_m8 207 rfl) rfl
theorem q2031 : (Jvm.Cond.privateMethod ({ cls := "ClaspedFairModel", name := "sumOf", desc := "(II)I" } : Jvm.MethodName)) ∈ lw_tbl := lw_at lw_m8 208 rfl
theorem q2032 : (Jvm.Cond.instanceMethod ({ cls := "ClaspedFairModel", name := "sumOf", desc := "(II)I" } : Jvm.MethodName)) ∈ lw_all := lw_g (lw_at lw_m8 209 rfl) rfl
theorem q2033 : (Jvm.Cond.code ({ cls := "ClaspedFairModel", name := "sumOf", desc := "(II)I" } : Jvm.MethodName) prog_22_method_94_code (5 : Nat) (Option.some Jvm.ClassFile.FieldType.int)) ∈ lw_all := lw_g (lw_at lw_m8 210 rfl) rfl
theorem q2034 : (Jvm.Cond.methodLink "ClaspedFairModel" (416 : Nat) ({ cls := "ClaspedFairModel", name := "endsThought", desc := "()V" } : Jvm.MethodName)) ∈ lw_all := lw_g (lw_at lw_m8 211 rfl) rfl
theorem q2035 : (Jvm.Cond.privateMethod ({ cls := "ClaspedFairModel", name := "endsThought", desc := "()V" } : Jvm.MethodName)) ∈ lw_tbl := lw_at lw_m8 212 rfl
theorem q2036 : (Jvm.Cond.instanceMethod ({ cls := "ClaspedFairModel", name := "endsThought", desc := "()V" } : Jvm.MethodName)) ∈ lw_all := lw_g (lw_at lw_m8 213 rfl) rfl
theorem q2037 : (Jvm.Cond.code ({ cls := "ClaspedFairModel", name := "endsThought", desc := "()V" } : Jvm.MethodName) prog_22_method_14_code (2 : Nat) (Option.none : Option Jvm.ClassFile.FieldType)) ∈ lw_all := lw_g (lw_at lw_m8 214 rfl) rfl
theorem q2039 : (Jvm.Cond.instanceMethod ({ cls := "ClaspedFairModel", name := "would", desc := "(IIII)I" } : Jvm.MethodName)) ∈ lw_all := lw_g (lw_at lw_m8 216 rfl) rfl
theorem q2040 : (Jvm.Cond.selects "ClaspedFairModel" ({ cls := "ClaspedFairModel", name := "would", desc := "(IIII)I" } : Jvm.MethodName) ({ cls := "ClaspedFairModel", name := "would", desc := "(IIII)I" } : Jvm.MethodName)) ∈ lw_all := lw_g (lw_at lw_m8 217 rfl) rfl
theorem q2041 : (Jvm.Cond.code ({ cls := "ClaspedFairModel", name := "would", desc := "(IIII)I" } : Jvm.MethodName) prog_22_method_96_code (7 : Nat) (Option.some Jvm.ClassFile.FieldType.int)) ∈ lw_all := lw_g (lw_at lw_m8 218 rfl) rfl
theorem q2043 : (Jvm.Cond.instanceMethod ({ cls := "ClaspedFairModel", name := "told", desc := "(II)I" } : Jvm.MethodName)) ∈ lw_all := lw_g (lw_at lw_m8 220 rfl) rfl
theorem q2044 : (Jvm.Cond.selects "ClaspedFairModel" ({ cls := "ClaspedFairModel", name := "told", desc := "(II)I" } : Jvm.MethodName) ({ cls := "ClaspedFairModel", name := "told", desc := "(II)I" } : Jvm.MethodName)) ∈ lw_all := lw_g (lw_at lw_m8 221 rfl) rfl
theorem q2045 : (Jvm.Cond.code ({ cls := "ClaspedFairModel", name := "told", desc := "(II)I" } : Jvm.MethodName) prog_22_method_97_code (3 : Nat) (Option.some Jvm.ClassFile.FieldType.int)) ∈ lw_all := lw_g (lw_at lw_m8 222 rfl) rfl
theorem q2047 : (Jvm.Cond.instanceMethod ({ cls := "ClaspedFairModel", name := "came", desc := "(II)I" } : Jvm.MethodName)) ∈ lw_all := lw_g (lw_at lw_m8 224 rfl) rfl
theorem q2048 : (Jvm.Cond.selects "ClaspedFairModel" ({ cls := "ClaspedFairModel", name := "came", desc := "(II)I" } : Jvm.MethodName) ({ cls := "ClaspedFairModel", name := "came", desc := "(II)I" } : Jvm.MethodName)) ∈ lw_all := lw_g (lw_at lw_m8 225 rfl) rfl
theorem q2049 : (Jvm.Cond.code ({ cls := "ClaspedFairModel", name := "came", desc := "(II)I" } : Jvm.MethodName) prog_22_method_100_code (4 : Nat) (Option.some Jvm.ClassFile.FieldType.int)) ∈ lw_all := lw_g (lw_at lw_m8 226 rfl) rfl
theorem q2050 : (Jvm.Cond.methodLink "ClaspedFairModel" (422 : Nat) ({ cls := "ClaspedFairModel", name := "oddSet", desc := "()I" } : Jvm.MethodName)) ∈ lw_all := lw_g (lw_at lw_m8 227 rfl) rfl
theorem q2051 : (Jvm.Cond.privateMethod ({ cls := "ClaspedFairModel", name := "oddSet", desc := "()I" } : Jvm.MethodName)) ∈ lw_tbl := lw_at lw_m8 228 rfl
theorem q2052 : (Jvm.Cond.instanceMethod ({ cls := "ClaspedFairModel", name := "oddSet", desc := "()I" } : Jvm.MethodName)) ∈ lw_all := lw_g (lw_at lw_m8 229 rfl) rfl
theorem q2053 : (Jvm.Cond.code ({ cls := "ClaspedFairModel", name := "oddSet", desc := "()I" } : Jvm.MethodName) prog_22_method_99_code (3 : Nat) (Option.some Jvm.ClassFile.FieldType.int)) ∈ lw_all := lw_g (lw_at lw_m8 230 rfl) rfl
theorem q2054 : (Jvm.Cond.methodLink "ClaspedFairModel" (425 : Nat) ({ cls := "ClaspedFairModel", name := "reachedBy", desc := "(II)I" } : Jvm.MethodName)) ∈ lw_all := lw_g (lw_at lw_m8 231 rfl) rfl
theorem q2055 : (Jvm.Cond.privateMethod ({ cls := "ClaspedFairModel", name := "reachedBy", desc := "(II)I" } : Jvm.MethodName)) ∈ lw_tbl := lw_at lw_m8 232 rfl
theorem q2056 : (Jvm.Cond.instanceMethod ({ cls := "ClaspedFairModel", name := "reachedBy", desc := "(II)I" } : Jvm.MethodName)) ∈ lw_all := lw_g (lw_at lw_m8 233 rfl) rfl
theorem q2057 : (Jvm.Cond.code ({ cls := "ClaspedFairModel", name := "reachedBy", desc := "(II)I" } : Jvm.MethodName) prog_22_method_98_code (5 : Nat) (Option.some Jvm.ClassFile.FieldType.int)) ∈ lw_all := lw_g (lw_at lw_m8 234 rfl) rfl
theorem q2059 : (Jvm.Cond.instanceMethod ({ cls := "ClaspedFairModel", name := "number", desc := "(I)I" } : Jvm.MethodName)) ∈ lw_all := lw_g (lw_at lw_m8 236 rfl) rfl
theorem q2060 : (Jvm.Cond.selects "ClaspedFairModel" ({ cls := "ClaspedFairModel", name := "number", desc := "(I)I" } : Jvm.MethodName) ({ cls := "ClaspedFairModel", name := "number", desc := "(I)I" } : Jvm.MethodName)) ∈ lw_all := lw_g (lw_at lw_m8 237 rfl) rfl
theorem q2061 : (Jvm.Cond.code ({ cls := "ClaspedFairModel", name := "number", desc := "(I)I" } : Jvm.MethodName) prog_22_method_101_code (2 : Nat) (Option.some Jvm.ClassFile.FieldType.int)) ∈ lw_all := lw_g (lw_at lw_m8 238 rfl) rfl
theorem q2063 : (Jvm.Cond.instanceMethod ({ cls := "ClaspedFairModel", name := "could", desc := "()I" } : Jvm.MethodName)) ∈ lw_all := lw_g (lw_at lw_m9 0 rfl) rfl
theorem q2064 : (Jvm.Cond.selects "ClaspedFairModel" ({ cls := "ClaspedFairModel", name := "could", desc := "()I" } : Jvm.MethodName) ({ cls := "ClaspedFairModel", name := "could", desc := "()I" } : Jvm.MethodName)) ∈ lw_all := lw_g (lw_at lw_m9 1 rfl) rfl
theorem q2065 : (Jvm.Cond.code ({ cls := "ClaspedFairModel", name := "could", desc := "()I" } : Jvm.MethodName) prog_22_method_103_code (7 : Nat) (Option.some Jvm.ClassFile.FieldType.int)) ∈ lw_all := lw_g (lw_at lw_m9 2 rfl) rfl
theorem q2066 : (Jvm.Cond.methodLink "ClaspedFairModel" (431 : Nat) ({ cls := "ClaspedFairModel", name := "greatestBut", desc := "(I)I" } : Jvm.MethodName)) ∈ lw_all := lw_g (lw_at lw_m9 3 rfl) rfl
theorem q2067 : (Jvm.Cond.privateMethod ({ cls := "ClaspedFairModel", name := "greatestBut", desc := "(I)I" } : Jvm.MethodName)) ∈ lw_tbl := lw_at lw_m9 4 rfl
theorem q2068 : (Jvm.Cond.instanceMethod ({ cls := "ClaspedFairModel", name := "greatestBut", desc := "(I)I" } : Jvm.MethodName)) ∈ lw_all := lw_g (lw_at lw_m9 5 rfl) rfl
theorem q2069 : (Jvm.Cond.code ({ cls := "ClaspedFairModel", name := "greatestBut", desc := "(I)I" } : Jvm.MethodName) prog_22_method_102_code (4 : Nat) (Option.some Jvm.ClassFile.FieldType.int)) ∈ lw_all := lw_g (lw_at lw_m9 6 rfl) rfl
theorem q2071 : (Jvm.Cond.instanceMethod ({ cls := "ClaspedFairModel", name := "ring", desc := "(I)I" } : Jvm.MethodName)) ∈ lw_all := lw_g (lw_at lw_m9 8 rfl) rfl
theorem q2072 : (Jvm.Cond.selects "ClaspedFairModel" ({ cls := "ClaspedFairModel", name := "ring", desc := "(I)I" } : Jvm.MethodName) ({ cls := "ClaspedFairModel", name := "ring", desc := "(I)I" } : Jvm.MethodName)) ∈ lw_all := lw_g (lw_at lw_m9 9 rfl) rfl
theorem q2073 : (Jvm.Cond.code ({ cls := "ClaspedFairModel", name := "ring", desc := "(I)I" } : Jvm.MethodName) prog_22_method_105_code (4 : Nat) (Option.some Jvm.ClassFile.FieldType.int)) ∈ lw_all := lw_g (lw_at lw_m9 10 rfl) rfl
theorem q2074 : (Jvm.Cond.methodLink "ClaspedFairModel" (437 : Nat) ({ cls := "ClaspedFairModel", name := "times", desc := "(II)I" } : Jvm.MethodName)) ∈ lw_all := lw_g (lw_at lw_m9 11 rfl) rfl
theorem q2075 : (Jvm.Cond.privateMethod ({ cls := "ClaspedFairModel", name := "times", desc := "(II)I" } : Jvm.MethodName)) ∈ lw_tbl := lw_at lw_m9 12 rfl
theorem q2076 : (Jvm.Cond.instanceMethod ({ cls := "ClaspedFairModel", name := "times", desc := "(II)I" } : Jvm.MethodName)) ∈ lw_all := lw_g (lw_at lw_m9 13 rfl) rfl
theorem q2077 : (Jvm.Cond.code ({ cls := "ClaspedFairModel", name := "times", desc := "(II)I" } : Jvm.MethodName) prog_22_method_104_code (6 : Nat) (Option.some Jvm.ClassFile.FieldType.int)) ∈ lw_all := lw_g (lw_at lw_m9 14 rfl) rfl
theorem q2078 : (Jvm.Cond.methodLink "ClaspedFairModel" (434 : Nat) ({ cls := "ClaspedFairModel", name := "added", desc := "(II)I" } : Jvm.MethodName)) ∈ lw_all := lw_g (lw_at lw_m9 15 rfl) rfl
theorem q2079 : (Jvm.Cond.privateMethod ({ cls := "ClaspedFairModel", name := "added", desc := "(II)I" } : Jvm.MethodName)) ∈ lw_tbl := lw_at lw_m9 16 rfl
theorem q2080 : (Jvm.Cond.instanceMethod ({ cls := "ClaspedFairModel", name := "added", desc := "(II)I" } : Jvm.MethodName)) ∈ lw_all := lw_g (lw_at lw_m9 17 rfl) rfl
theorem q2081 : (Jvm.Cond.code ({ cls := "ClaspedFairModel", name := "added", desc := "(II)I" } : Jvm.MethodName) prog_22_method_8_code (3 : Nat) (Option.some Jvm.ClassFile.FieldType.int)) ∈ lw_all := lw_g (lw_at lw_m9 18 rfl) rfl
theorem q2082 : (Jvm.Cond.constant "ClaspedFairModel" (125 : Nat) (1000000007 : Int32)) ∈ lw_all := lw_g (lw_at lw_m9 19 rfl) rfl
theorem q2084 : (Jvm.Cond.instanceMethod ({ cls := "ClaspedFairModel", name := "pairs", desc := "(I)I" } : Jvm.MethodName)) ∈ lw_all := lw_g (lw_at lw_m9 21 rfl) rfl
theorem q2085 : (Jvm.Cond.selects "ClaspedFairModel" ({ cls := "ClaspedFairModel", name := "pairs", desc := "(I)I" } : Jvm.MethodName) ({ cls := "ClaspedFairModel", name := "pairs", desc := "(I)I" } : Jvm.MethodName)) ∈ lw_all := lw_g (lw_at lw_m9 22 rfl) rfl
theorem q2086 : (Jvm.Cond.code ({ cls := "ClaspedFairModel", name := "pairs", desc := "(I)I" } : Jvm.MethodName) prog_22_method_108_code (2 : Nat) (Option.some Jvm.ClassFile.FieldType.int)) ∈ lw_all := lw_g (lw_at lw_m9 23 rfl) rfl
theorem q2087 : (Jvm.Cond.methodLink "ClaspedFairModel" (443 : Nat) ({ cls := "ClaspedFairModel", name := "findsPairs", desc := "()V" } : Jvm.MethodName)) ∈ lw_all := lw_g (lw_at lw_m9 24 rfl) rfl
theorem q2088 : (Jvm.Cond.privateMethod ({ cls := "ClaspedFairModel", name := "findsPairs", desc := "()V" } : Jvm.MethodName)) ∈ lw_tbl := lw_at lw_m9 25 rfl
theorem q2089 : (Jvm.Cond.instanceMethod ({ cls := "ClaspedFairModel", name := "findsPairs", desc := "()V" } : Jvm.MethodName)) ∈ lw_all := lw_g (lw_at lw_m9 26 rfl) rfl
theorem q2090 : (Jvm.Cond.code ({ cls := "ClaspedFairModel", name := "findsPairs", desc := "()V" } : Jvm.MethodName) prog_22_method_106_code (6 : Nat) (Option.none : Option Jvm.ClassFile.FieldType)) ∈ lw_all := lw_g (lw_at lw_m9 27 rfl) rfl
theorem q2091 : (Jvm.Cond.methodLink "ClaspedFairModel" (440 : Nat) ({ cls := "ClaspedFairModel", name := "greater", desc := "(II)I" } : Jvm.MethodName)) ∈ lw_all := lw_g (lw_at lw_m9 28 rfl) rfl
theorem q2092 : (Jvm.Cond.privateMethod ({ cls := "ClaspedFairModel", name := "greater", desc := "(II)I" } : Jvm.MethodName)) ∈ lw_tbl := lw_at lw_m9 29 rfl
theorem q2093 : (Jvm.Cond.instanceMethod ({ cls := "ClaspedFairModel", name := "greater", desc := "(II)I" } : Jvm.MethodName)) ∈ lw_all := lw_g (lw_at lw_m9 30 rfl) rfl
theorem q2094 : (Jvm.Cond.code ({ cls := "ClaspedFairModel", name := "greater", desc := "(II)I" } : Jvm.MethodName) prog_22_method_5_code (3 : Nat) (Option.some Jvm.ClassFile.FieldType.int)) ∈ lw_all := lw_g (lw_at lw_m9 31 rfl) rfl
theorem q2095 : (Jvm.Cond.methodLink "ClaspedFairModel" (446 : Nat) ({ cls := "ClaspedFairModel", name := "partnerOf", desc := "(I)I" } : Jvm.MethodName)) ∈ lw_all := lw_g (lw_at lw_m9 32 rfl) rfl
theorem q2096 : (Jvm.Cond.privateMethod ({ cls := "ClaspedFairModel", name := "partnerOf", desc := "(I)I" } : Jvm.MethodName)) ∈ lw_tbl := lw_at lw_m9 33 rfl
theorem q2097 : (Jvm.Cond.instanceMethod ({ cls := "ClaspedFairModel", name := "partnerOf", desc := "(I)I" } : Jvm.MethodName)) ∈ lw_all := lw_g (lw_at lw_m9 34 rfl) rfl
theorem q2098 : (Jvm.Cond.code ({ cls := "ClaspedFairModel", name := "partnerOf", desc := "(I)I" } : Jvm.MethodName) prog_22_method_107_code (7 : Nat) (Option.some Jvm.ClassFile.FieldType.int)) ∈ lw_all := lw_g (lw_at lw_m9 35 rfl) rfl
theorem q2100 : (Jvm.Cond.instanceMethod ({ cls := "ClaspedFairModel", name := "walk", desc := "(I)I" } : Jvm.MethodName)) ∈ lw_all := lw_g (lw_at lw_m9 37 rfl) rfl
theorem q2101 : (Jvm.Cond.selects "ClaspedFairModel" ({ cls := "ClaspedFairModel", name := "walk", desc := "(I)I" } : Jvm.MethodName) ({ cls := "ClaspedFairModel", name := "walk", desc := "(I)I" } : Jvm.MethodName)) ∈ lw_all := lw_g (lw_at lw_m9 38 rfl) rfl
theorem q2102 : (Jvm.Cond.code ({ cls := "ClaspedFairModel", name := "walk", desc := "(I)I" } : Jvm.MethodName) prog_22_method_110_code (6 : Nat) (Option.some Jvm.ClassFile.FieldType.int)) ∈ lw_all := lw_g (lw_at lw_m9 39 rfl) rfl
theorem q2103 : (Jvm.Cond.methodLink "ClaspedFairModel" (449 : Nat) ({ cls := "ClaspedFairModel", name := "onesOf", desc := "(I)I" } : Jvm.MethodName)) ∈ lw_all := lw_g (lw_at lw_m9 40 rfl) rfl
theorem q2104 : (Jvm.Cond.privateMethod ({ cls := "ClaspedFairModel", name := "onesOf", desc := "(I)I" } : Jvm.MethodName)) ∈ lw_tbl := lw_at lw_m9 41 rfl
theorem q2105 : (Jvm.Cond.instanceMethod ({ cls := "ClaspedFairModel", name := "onesOf", desc := "(I)I" } : Jvm.MethodName)) ∈ lw_all := lw_g (lw_at lw_m9 42 rfl) rfl
theorem q2106 : (Jvm.Cond.code ({ cls := "ClaspedFairModel", name := "onesOf", desc := "(I)I" } : Jvm.MethodName) prog_22_method_9_code (4 : Nat) (Option.some Jvm.ClassFile.FieldType.int)) ∈ lw_all := lw_g (lw_at lw_m9 43 rfl) rfl
theorem q2107 : (Jvm.Cond.methodLink "ClaspedFairModel" (452 : Nat) ({ cls := "ClaspedFairModel", name := "kinOfKin", desc := "(I)I" } : Jvm.MethodName)) ∈ lw_all := lw_g (lw_at lw_m9 44 rfl) rfl
theorem q2108 : (Jvm.Cond.privateMethod ({ cls := "ClaspedFairModel", name := "kinOfKin", desc := "(I)I" } : Jvm.MethodName)) ∈ lw_tbl := lw_at lw_m9 45 rfl
theorem q2109 : (Jvm.Cond.instanceMethod ({ cls := "ClaspedFairModel", name := "kinOfKin", desc := "(I)I" } : Jvm.MethodName)) ∈ lw_all := lw_g (lw_at lw_m9 46 rfl) rfl
theorem q2110 : (Jvm.Cond.code ({ cls := "ClaspedFairModel", name := "kinOfKin", desc := "(I)I" } : Jvm.MethodName) prog_22_method_109_code (5 : Nat) (Option.some Jvm.ClassFile.FieldType.int)) ∈ lw_all := lw_g (lw_at lw_m9 47 rfl) rfl
theorem q2112 : (Jvm.Cond.instanceMethod ({ cls := "ClaspedFairModel", name := "prices", desc := "(III)I" } : Jvm.MethodName)) ∈ lw_all := lw_g (lw_at lw_m9 49 rfl) rfl
theorem q2113 : (Jvm.Cond.selects "ClaspedFairModel" ({ cls := "ClaspedFairModel", name := "prices", desc := "(III)I" } : Jvm.MethodName) ({ cls := "ClaspedFairModel", name := "prices", desc := "(III)I" } : Jvm.MethodName)) ∈ lw_all := lw_g (lw_at lw_m9 50 rfl) rfl
theorem q2114 : (Jvm.Cond.code ({ cls := "ClaspedFairModel", name := "prices", desc := "(III)I" } : Jvm.MethodName) prog_22_method_111_code (7 : Nat) (Option.some Jvm.ClassFile.FieldType.int)) ∈ lw_all := lw_g (lw_at lw_m9 51 rfl) rfl
theorem q2116 : (Jvm.Cond.instanceMethod ({ cls := "ClaspedFairModel", name := "weight", desc := "(I)I" } : Jvm.MethodName)) ∈ lw_all := lw_g (lw_at lw_m9 53 rfl) rfl
theorem q2117 : (Jvm.Cond.selects "ClaspedFairModel" ({ cls := "ClaspedFairModel", name := "weight", desc := "(I)I" } : Jvm.MethodName) ({ cls := "ClaspedFairModel", name := "weight", desc := "(I)I" } : Jvm.MethodName)) ∈ lw_all := lw_g (lw_at lw_m9 54 rfl) rfl
theorem q2118 : (Jvm.Cond.code ({ cls := "ClaspedFairModel", name := "weight", desc := "(I)I" } : Jvm.MethodName) prog_22_method_112_code (2 : Nat) (Option.some Jvm.ClassFile.FieldType.int)) ∈ lw_all := lw_g (lw_at lw_m9 55 rfl) rfl
theorem q2120 : (Jvm.Cond.instanceMethod ({ cls := "ClaspedFairModel", name := "balance", desc := "(II)I" } : Jvm.MethodName)) ∈ lw_all := lw_g (lw_at lw_m9 57 rfl) rfl
theorem q2121 : (Jvm.Cond.selects "ClaspedFairModel" ({ cls := "ClaspedFairModel", name := "balance", desc := "(II)I" } : Jvm.MethodName) ({ cls := "ClaspedFairModel", name := "balance", desc := "(II)I" } : Jvm.MethodName)) ∈ lw_all := lw_g (lw_at lw_m9 58 rfl) rfl
theorem q2122 : (Jvm.Cond.code ({ cls := "ClaspedFairModel", name := "balance", desc := "(II)I" } : Jvm.MethodName) prog_22_method_114_code (4 : Nat) (Option.some Jvm.ClassFile.FieldType.int)) ∈ lw_all := lw_g (lw_at lw_m9 59 rfl) rfl
theorem q2123 : (Jvm.Cond.methodLink "ClaspedFairModel" (459 : Nat) ({ cls := "ClaspedFairModel", name := "canWeigh", desc := "(IZ)Z" } : Jvm.MethodName)) ∈ lw_all := lw_g (lw_at lw_m9 60 rfl) rfl
theorem q2124 : (Jvm.Cond.privateMethod ({ cls := "ClaspedFairModel", name := "canWeigh", desc := "(IZ)Z" } : Jvm.MethodName)) ∈ lw_tbl := lw_at lw_m9 61 rfl
theorem q2125 : (Jvm.Cond.instanceMethod ({ cls := "ClaspedFairModel", name := "canWeigh", desc := "(IZ)Z" } : Jvm.MethodName)) ∈ lw_all := lw_g (lw_at lw_m9 62 rfl) rfl
theorem q2126 : (Jvm.Cond.code ({ cls := "ClaspedFairModel", name := "canWeigh", desc := "(IZ)Z" } : Jvm.MethodName) prog_22_method_113_code (8 : Nat) (Option.some Jvm.ClassFile.FieldType.boolean)) ∈ lw_all := lw_g (lw_at lw_m9 63 rfl) rfl
theorem q2127 : (Jvm.Cond.constant "ClaspedFairModel" (458 : Nat) (100000000 : Int32)) ∈ lw_all := lw_g (lw_at lw_m9 64 rfl) rfl
theorem q2129 : (Jvm.Cond.instanceMethod ({ cls := "ClaspedFairModel", name := "cold", desc := "(II)I" } : Jvm.MethodName)) ∈ lw_all := lw_g (lw_at lw_m9 66 rfl) rfl
theorem q2130 : (Jvm.Cond.selects "ClaspedFairModel" ({ cls := "ClaspedFairModel", name := "cold", desc := "(II)I" } : Jvm.MethodName) ({ cls := "ClaspedFairModel", name := "cold", desc := "(II)I" } : Jvm.MethodName)) ∈ lw_all := lw_g (lw_at lw_m9 67 rfl) rfl
theorem q2131 : (Jvm.Cond.code ({ cls := "ClaspedFairModel", name := "cold", desc := "(II)I" } : Jvm.MethodName) prog_22_method_116_code (5 : Nat) (Option.some Jvm.ClassFile.FieldType.int)) ∈ lw_all := lw_g (lw_at lw_m9 68 rfl) rfl
theorem q2132 : (Jvm.Cond.methodLink "ClaspedFairModel" (463 : Nat) ({ cls := "ClaspedFairModel", name := "caughtFrom", desc := "(I)I" } : Jvm.MethodName)) ∈ lw_all := lw_g (lw_at lw_m9 69 rfl) rfl
theorem q2133 : (Jvm.Cond.privateMethod ({ cls := "ClaspedFairModel", name := "caughtFrom", desc := "(I)I" } : Jvm.MethodName)) ∈ lw_tbl := lw_at lw_m9 70 rfl
theorem q2134 : (Jvm.Cond.instanceMethod ({ cls := "ClaspedFairModel", name := "caughtFrom", desc := "(I)I" } : Jvm.MethodName)) ∈ lw_all := lw_g (lw_at lw_m9 71 rfl) rfl
theorem q2135 : (Jvm.Cond.code ({ cls := "ClaspedFairModel", name := "caughtFrom", desc := "(I)I" } : Jvm.MethodName) prog_22_method_115_code (4 : Nat) (Option.some Jvm.ClassFile.FieldType.int)) ∈ lw_all := lw_g (lw_at lw_m9 72 rfl) rfl
theorem q2137 : (Jvm.Cond.instanceMethod ({ cls := "ClaspedFairModel", name := "alike", desc := "(II)I" } : Jvm.MethodName)) ∈ lw_all := lw_g (lw_at lw_m9 74 rfl) rfl
theorem q2138 : (Jvm.Cond.selects "ClaspedFairModel" ({ cls := "ClaspedFairModel", name := "alike", desc := "(II)I" } : Jvm.MethodName) ({ cls := "ClaspedFairModel", name := "alike", desc := "(II)I" } : Jvm.MethodName)) ∈ lw_all := lw_g (lw_at lw_m9 75 rfl) rfl
theorem q2139 : (Jvm.Cond.code ({ cls := "ClaspedFairModel", name := "alike", desc := "(II)I" } : Jvm.MethodName) prog_22_method_118_code (5 : Nat) (Option.some Jvm.ClassFile.FieldType.int)) ∈ lw_all := lw_g (lw_at lw_m9 76 rfl) rfl
theorem q2140 : (Jvm.Cond.methodLink "ClaspedFairModel" (469 : Nat) ({ cls := "ClaspedFairModel", name := "unlike", desc := "(II)I" } : Jvm.MethodName)) ∈ lw_all := lw_g (lw_at lw_m9 77 rfl) rfl
theorem q2141 : (Jvm.Cond.privateMethod ({ cls := "ClaspedFairModel", name := "unlike", desc := "(II)I" } : Jvm.MethodName)) ∈ lw_tbl := lw_at lw_m9 78 rfl
theorem q2142 : (Jvm.Cond.instanceMethod ({ cls := "ClaspedFairModel", name := "unlike", desc := "(II)I" } : Jvm.MethodName)) ∈ lw_all := lw_g (lw_at lw_m9 79 rfl) rfl
theorem q2143 : (Jvm.Cond.code ({ cls := "ClaspedFairModel", name := "unlike", desc := "(II)I" } : Jvm.MethodName) prog_22_method_117_code (5 : Nat) (Option.some Jvm.ClassFile.FieldType.int)) ∈ lw_all := lw_g (lw_at lw_m9 80 rfl) rfl
theorem q2144 : (Jvm.Cond.methodLink "ClaspedFairModel" (466 : Nat) ({ cls := "ClaspedFairModel", name := "apart", desc := "(II)I" } : Jvm.MethodName)) ∈ lw_all := lw_g (lw_at lw_m9 81 rfl) rfl
theorem q2145 : (Jvm.Cond.privateMethod ({ cls := "ClaspedFairModel", name := "apart", desc := "(II)I" } : Jvm.MethodName)) ∈ lw_tbl := lw_at lw_m9 82 rfl
theorem q2146 : (Jvm.Cond.instanceMethod ({ cls := "ClaspedFairModel", name := "apart", desc := "(II)I" } : Jvm.MethodName)) ∈ lw_all := lw_g (lw_at lw_m9 83 rfl) rfl
theorem q2147 : (Jvm.Cond.code ({ cls := "ClaspedFairModel", name := "apart", desc := "(II)I" } : Jvm.MethodName) prog_22_method_7_code (3 : Nat) (Option.some Jvm.ClassFile.FieldType.int)) ∈ lw_all := lw_g (lw_at lw_m9 84 rfl) rfl
theorem q2149 : (Jvm.Cond.instanceMethod ({ cls := "ClaspedFairModel", name := "herd", desc := "(I)I" } : Jvm.MethodName)) ∈ lw_all := lw_g (lw_at lw_m9 86 rfl) rfl
theorem q2150 : (Jvm.Cond.selects "ClaspedFairModel" ({ cls := "ClaspedFairModel", name := "herd", desc := "(I)I" } : Jvm.MethodName) ({ cls := "ClaspedFairModel", name := "herd", desc := "(I)I" } : Jvm.MethodName)) ∈ lw_all := lw_g (lw_at lw_m9 87 rfl) rfl
theorem q2151 : (Jvm.Cond.code ({ cls := "ClaspedFairModel", name := "herd", desc := "(I)I" } : Jvm.MethodName) prog_22_method_119_code (2 : Nat) (Option.some Jvm.ClassFile.FieldType.int)) ∈ lw_all := lw_g (lw_at lw_m9 88 rfl) rfl
theorem q2153 : (Jvm.Cond.instanceMethod ({ cls := "ClaspedFairModel", name := "pens", desc := "(II)I" } : Jvm.MethodName)) ∈ lw_all := lw_g (lw_at lw_m9 90 rfl) rfl
theorem q2154 : (Jvm.Cond.selects "ClaspedFairModel" ({ cls := "ClaspedFairModel", name := "pens", desc := "(II)I" } : Jvm.MethodName) ({ cls := "ClaspedFairModel", name := "pens", desc := "(II)I" } : Jvm.MethodName)) ∈ lw_all := lw_g (lw_at lw_m9 91 rfl) rfl
theorem q2155 : (Jvm.Cond.code ({ cls := "ClaspedFairModel", name := "pens", desc := "(II)I" } : Jvm.MethodName) prog_22_method_121_code (6 : Nat) (Option.some Jvm.ClassFile.FieldType.int)) ∈ lw_all := lw_g (lw_at lw_m9 92 rfl) rfl
theorem q2156 : (Jvm.Cond.methodLink "ClaspedFairModel" (475 : Nat) ({ cls := "ClaspedFairModel", name := "sharingOf", desc := "(II)I" } : Jvm.MethodName)) ∈ lw_all := lw_g (lw_at lw_m9 93 rfl) rfl
theorem q2157 : (Jvm.Cond.privateMethod ({ cls := "ClaspedFairModel", name := "sharingOf", desc := "(II)I" } : Jvm.MethodName)) ∈ lw_tbl := lw_at lw_m9 94 rfl
theorem q2158 : (Jvm.Cond.instanceMethod ({ cls := "ClaspedFairModel", name := "sharingOf", desc := "(II)I" } : Jvm.MethodName)) ∈ lw_all := lw_g (lw_at lw_m9 95 rfl) rfl
theorem q2159 : (Jvm.Cond.code ({ cls := "ClaspedFairModel", name := "sharingOf", desc := "(II)I" } : Jvm.MethodName) prog_22_method_120_code (7 : Nat) (Option.some Jvm.ClassFile.FieldType.int)) ∈ lw_all := lw_g (lw_at lw_m9 96 rfl) rfl
theorem q2161 : (Jvm.Cond.instanceMethod ({ cls := "ClaspedFairModel", name := "left", desc := "(II)I" } : Jvm.MethodName)) ∈ lw_all := lw_g (lw_at lw_m9 98 rfl) rfl
theorem q2162 : (Jvm.Cond.selects "ClaspedFairModel" ({ cls := "ClaspedFairModel", name := "left", desc := "(II)I" } : Jvm.MethodName) ({ cls := "ClaspedFairModel", name := "left", desc := "(II)I" } : Jvm.MethodName)) ∈ lw_all := lw_g (lw_at lw_m9 99 rfl) rfl
theorem q2163 : (Jvm.Cond.code ({ cls := "ClaspedFairModel", name := "left", desc := "(II)I" } : Jvm.MethodName) prog_22_method_123_code (6 : Nat) (Option.some Jvm.ClassFile.FieldType.int)) ∈ lw_all := lw_g (lw_at lw_m9 100 rfl) rfl
theorem q2164 : (Jvm.Cond.methodLink "ClaspedFairModel" (478 : Nat) ({ cls := "ClaspedFairModel", name := "hasMost", desc := "(II)Z" } : Jvm.MethodName)) ∈ lw_all := lw_g (lw_at lw_m9 101 rfl) rfl
theorem q2165 : (Jvm.Cond.privateMethod ({ cls := "ClaspedFairModel", name := "hasMost", desc := "(II)Z" } : Jvm.MethodName)) ∈ lw_tbl := lw_at lw_m9 102 rfl
theorem q2166 : (Jvm.Cond.instanceMethod ({ cls := "ClaspedFairModel", name := "hasMost", desc := "(II)Z" } : Jvm.MethodName)) ∈ lw_all := lw_g (lw_at lw_m9 103 rfl) rfl
theorem q2167 : (Jvm.Cond.code ({ cls := "ClaspedFairModel", name := "hasMost", desc := "(II)Z" } : Jvm.MethodName) prog_22_method_122_code (4 : Nat) (Option.some Jvm.ClassFile.FieldType.boolean)) ∈ lw_all := lw_g (lw_at lw_m9 104 rfl) rfl
theorem q2169 : (Jvm.Cond.instanceMethod ({ cls := "ClaspedFairModel", name := "signs", desc := "(I)I" } : Jvm.MethodName)) ∈ lw_all := lw_g (lw_at lw_m9 106 rfl) rfl
theorem q2170 : (Jvm.Cond.selects "ClaspedFairModel" ({ cls := "ClaspedFairModel", name := "signs", desc := "(I)I" } : Jvm.MethodName) ({ cls := "ClaspedFairModel", name := "signs", desc := "(I)I" } : Jvm.MethodName)) ∈ lw_all := lw_g (lw_at lw_m9 107 rfl) rfl
theorem q2171 : (Jvm.Cond.code ({ cls := "ClaspedFairModel", name := "signs", desc := "(I)I" } : Jvm.MethodName) prog_22_method_124_code (7 : Nat) (Option.some Jvm.ClassFile.FieldType.int)) ∈ lw_all := lw_g (lw_at lw_m9 108 rfl) rfl
theorem q2173 : (Jvm.Cond.instanceMethod ({ cls := "ClaspedFairModel", name := "row", desc := "(I)I" } : Jvm.MethodName)) ∈ lw_all := lw_g (lw_at lw_m9 110 rfl) rfl
theorem q2174 : (Jvm.Cond.selects "ClaspedFairModel" ({ cls := "ClaspedFairModel", name := "row", desc := "(I)I" } : Jvm.MethodName) ({ cls := "ClaspedFairModel", name := "row", desc := "(I)I" } : Jvm.MethodName)) ∈ lw_all := lw_g (lw_at lw_m9 111 rfl) rfl
theorem q2175 : (Jvm.Cond.code ({ cls := "ClaspedFairModel", name := "row", desc := "(I)I" } : Jvm.MethodName) prog_22_method_125_code (2 : Nat) (Option.some Jvm.ClassFile.FieldType.int)) ∈ lw_all := lw_g (lw_at lw_m9 112 rfl) rfl
theorem q2177 : (Jvm.Cond.instanceMethod ({ cls := "ClaspedFairModel", name := "game", desc := "(I)I" } : Jvm.MethodName)) ∈ lw_all := lw_g (lw_at lw_m9 114 rfl) rfl
theorem q2178 : (Jvm.Cond.selects "ClaspedFairModel" ({ cls := "ClaspedFairModel", name := "game", desc := "(I)I" } : Jvm.MethodName) ({ cls := "ClaspedFairModel", name := "game", desc := "(I)I" } : Jvm.MethodName)) ∈ lw_all := lw_g (lw_at lw_m9 115 rfl) rfl
theorem q2179 : (Jvm.Cond.code ({ cls := "ClaspedFairModel", name := "game", desc := "(I)I" } : Jvm.MethodName) prog_22_method_127_code (8 : Nat) (Option.some Jvm.ClassFile.FieldType.int)) ∈ lw_all := lw_g (lw_at lw_m9 116 rfl) rfl
theorem q2180 : (Jvm.Cond.methodLink "ClaspedFairModel" (484 : Nat) ({ cls := "ClaspedFairModel", name := "findsNimbers", desc := "()V" } : Jvm.MethodName)) ∈ lw_all := lw_g (lw_at lw_m9 117 rfl) rfl
theorem q2181 : (Jvm.Cond.privateMethod ({ cls := "ClaspedFairModel", name := "findsNimbers", desc := "()V" } : Jvm.MethodName)) ∈ lw_tbl := lw_at lw_m9 118 rfl
theorem q2182 : (Jvm.Cond.instanceMethod ({ cls := "ClaspedFairModel", name := "findsNimbers", desc := "()V" } : Jvm.MethodName)) ∈ lw_all := lw_g (lw_at lw_m9 119 rfl) rfl
theorem q2183 : (Jvm.Cond.code ({ cls := "ClaspedFairModel", name := "findsNimbers", desc := "()V" } : Jvm.MethodName) prog_22_method_126_code (5 : Nat) (Option.none : Option Jvm.ClassFile.FieldType)) ∈ lw_all := lw_g (lw_at lw_m9 120 rfl) rfl
theorem q2185 : (Jvm.Cond.instanceMethod ({ cls := "ClaspedFairModel", name := "image", desc := "(Z)Z" } : Jvm.MethodName)) ∈ lw_all := lw_g (lw_at lw_m9 122 rfl) rfl
theorem q2186 : (Jvm.Cond.selects "ClaspedFairModel" ({ cls := "ClaspedFairModel", name := "image", desc := "(Z)Z" } : Jvm.MethodName) ({ cls := "ClaspedFairModel", name := "image", desc := "(Z)Z" } : Jvm.MethodName)) ∈ lw_all := lw_g (lw_at lw_m9 123 rfl) rfl
theorem q2187 : (Jvm.Cond.code ({ cls := "ClaspedFairModel", name := "image", desc := "(Z)Z" } : Jvm.MethodName) prog_22_method_132_code (3 : Nat) (Option.some Jvm.ClassFile.FieldType.boolean)) ∈ lw_all := lw_g (lw_at lw_m9 124 rfl) rfl
theorem q2188 : (Jvm.Cond.methodLink "ClaspedFairModel" (493 : Nat) ({ cls := "ClaspedFairModel", name := "keeps", desc := "(I)I" } : Jvm.MethodName)) ∈ lw_all := lw_g (lw_at lw_m9 125 rfl) rfl
theorem q2189 : (Jvm.Cond.privateMethod ({ cls := "ClaspedFairModel", name := "keeps", desc := "(I)I" } : Jvm.MethodName)) ∈ lw_tbl := lw_at lw_m9 126 rfl
theorem q2190 : (Jvm.Cond.instanceMethod ({ cls := "ClaspedFairModel", name := "keeps", desc := "(I)I" } : Jvm.MethodName)) ∈ lw_all := lw_g (lw_at lw_m9 127 rfl) rfl
theorem q2191 : (Jvm.Cond.code ({ cls := "ClaspedFairModel", name := "keeps", desc := "(I)I" } : Jvm.MethodName) prog_22_method_128_code (2 : Nat) (Option.some Jvm.ClassFile.FieldType.int)) ∈ lw_all := lw_g (lw_at lw_m9 128 rfl) rfl
theorem q2192 : (Jvm.Cond.methodLink "ClaspedFairModel" (499 : Nat) ({ cls := "ClaspedFairModel", name := "keepsMany", desc := "()V" } : Jvm.MethodName)) ∈ lw_all := lw_g (lw_at lw_m9 129 rfl) rfl
theorem q2193 : (Jvm.Cond.privateMethod ({ cls := "ClaspedFairModel", name := "keepsMany", desc := "()V" } : Jvm.MethodName)) ∈ lw_tbl := lw_at lw_m9 130 rfl
theorem q2194 : (Jvm.Cond.instanceMethod ({ cls := "ClaspedFairModel", name := "keepsMany", desc := "()V" } : Jvm.MethodName)) ∈ lw_all := lw_g (lw_at lw_m9 131 rfl) rfl
theorem q2195 : (Jvm.Cond.code ({ cls := "ClaspedFairModel", name := "keepsMany", desc := "()V" } : Jvm.MethodName) prog_22_method_130_code (1 : Nat) (Option.none : Option Jvm.ClassFile.FieldType)) ∈ lw_all := lw_g (lw_at lw_m9 132 rfl) rfl
theorem q2196 : (Jvm.Cond.methodLink "ClaspedFairModel" (502 : Nat) ({ cls := "ClaspedFairModel", name := "keepsTold", desc := "()V" } : Jvm.MethodName)) ∈ lw_all := lw_g (lw_at lw_m9 133 rfl) rfl
theorem q2197 : (Jvm.Cond.privateMethod ({ cls := "ClaspedFairModel", name := "keepsTold", desc := "()V" } : Jvm.MethodName)) ∈ lw_tbl := lw_at lw_m9 134 rfl
theorem q2198 : (Jvm.Cond.instanceMethod ({ cls := "ClaspedFairModel", name := "keepsTold", desc := "()V" } : Jvm.MethodName)) ∈ lw_all := lw_g (lw_at lw_m9 135 rfl) rfl
theorem q2199 : (Jvm.Cond.code ({ cls := "ClaspedFairModel", name := "keepsTold", desc := "()V" } : Jvm.MethodName) prog_22_method_131_code (2 : Nat) (Option.none : Option Jvm.ClassFile.FieldType)) ∈ lw_all := lw_g (lw_at lw_m9 136 rfl) rfl
theorem q2200 : (Jvm.Cond.methodLink "ClaspedFairModel" (505 : Nat) ({ cls := "ClaspedFairModel", name := "keepsLaw", desc := "()V" } : Jvm.MethodName)) ∈ lw_all := lw_g (lw_at lw_m9 137 rfl) rfl
theorem q2201 : (Jvm.Cond.privateMethod ({ cls := "ClaspedFairModel", name := "keepsLaw", desc := "()V" } : Jvm.MethodName)) ∈ lw_tbl := lw_at lw_m9 138 rfl
theorem q2202 : (Jvm.Cond.instanceMethod ({ cls := "ClaspedFairModel", name := "keepsLaw", desc := "()V" } : Jvm.MethodName)) ∈ lw_all := lw_g (lw_at lw_m9 139 rfl) rfl
theorem q2203 : (Jvm.Cond.code ({ cls := "ClaspedFairModel", name := "keepsLaw", desc := "()V" } : Jvm.MethodName) prog_22_method_129_code (2 : Nat) (Option.none : Option Jvm.ClassFile.FieldType)) ∈ lw_all := lw_g (lw_at lw_m9 140 rfl) rfl
theorem q2205 : (Jvm.Cond.instanceMethod ({ cls := "ClaspedFairModel", name := "look", desc := "(I)I" } : Jvm.MethodName)) ∈ lw_all := lw_g (lw_at lw_m9 142 rfl) rfl
theorem q2206 : (Jvm.Cond.selects "ClaspedFairModel" ({ cls := "ClaspedFairModel", name := "look", desc := "(I)I" } : Jvm.MethodName) ({ cls := "ClaspedFairModel", name := "look", desc := "(I)I" } : Jvm.MethodName)) ∈ lw_all := lw_g (lw_at lw_m9 143 rfl) rfl
theorem q2207 : (Jvm.Cond.code ({ cls := "ClaspedFairModel", name := "look", desc := "(I)I" } : Jvm.MethodName) prog_22_method_133_code (2 : Nat) (Option.some Jvm.ClassFile.FieldType.int)) ∈ lw_all := lw_g (lw_at lw_m9 144 rfl) rfl
theorem q2219 : (Jvm.Cond.castable "ClaspedFairModel" "java/lang/Object") ∈ lw_tbl := lw_at lw_m9 156 rfl
