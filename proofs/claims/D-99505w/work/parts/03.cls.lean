set_option maxRecDepth 100000
/-! ClaspedFair -/
def RX0 : String := "ClaspedFair"
def TX0 : u_T := fun k => match k with
  | 0 => ("ClaspedFair", "tape", "[B", true)
  | 1 => ("ClaspedFair", "taped", "I", false)
  | 2 => ("ClaspedFair", "faultKind", "I", false)
  | 3 => ("ClaspedFair", "faultPlace", "I", false)
  | 4 => ("ClaspedFair", "market", "LClaspedFair$Market;", true)
  | 5 => ("ClaspedFair", "kept", "LClaspedFair$Market;", true)
  | 6 => ("ClaspedFair", "thought", "LClaspedFair$Market;", true)
  | 7 => ("ClaspedFair", "back", "[LClaspedFair$Market;", true)
  | 8 => ("ClaspedFair", "backMany", "I", false)
  | 9 => ("ClaspedFair", "hasImage", "Z", false)
  | 10 => ("ClaspedFair", "ringOf", "[I", true)
  | 11 => ("ClaspedFair", "pairsFrom", "[I", true)
  | 12 => ("ClaspedFair", "pen", "[I", true)
  | 13 => ("ClaspedFair", "fullest", "I", false)
  | 14 => ("ClaspedFair", "level", "I", false)
  | _ => ("ClaspedFair", "nims", "[I", true)
def tyX0 : Nat → FieldType := fun k => match k with
  | 0 => .array .byte
  | 1 => .int
  | 2 => .int
  | 3 => .int
  | 4 => .object "ClaspedFair$Market"
  | 5 => .object "ClaspedFair$Market"
  | 6 => .object "ClaspedFair$Market"
  | 7 => .array (.object "ClaspedFair$Market")
  | 8 => .int
  | 9 => .boolean
  | 10 => .array .int
  | 11 => .array .int
  | 12 => .array .int
  | 13 => .int
  | 14 => .int
  | _ => .array .int
abbrev wsX00 : List Cond := u_ws RX0 TX0 16
set_option maxRecDepth 100000 in
theorem nmX0 : ∀ a, a < 16 → ∀ b, b < 16 → a ≠ b → (TX0 a).2.1 ≠ (TX0 b).2.1 := by decide +kernel
set_option maxRecDepth 100000 in
theorem tyX0_ok : ∀ k, k < 16 → parseFieldDescriptor (TX0 k).2.2.1 = some (tyX0 k) := by decide +kernel
theorem in_X0 : ∀ w ∈ wsX00, w ∈ lw_all := lw_in wsX00 [457, 459, 461, 463, 465, 467, 469, 471, 473, 475, 477, 479, 481, 483, 485, 487] (by decide +kernel) (by decide +kernel)
/-! ClaspedFair$Market -/
def RX1 : String := "ClaspedFair$Market"
def TX1 : u_T := fun k => match k with
  | 0 => ("ClaspedFair$Market", "person", "[LClaspedFair$Person;", true)
  | 1 => ("ClaspedFair$Market", "horse", "[LClaspedFair$Horse;", true)
  | 2 => ("ClaspedFair$Market", "grip", "LClaspedFair$Grip;", true)
  | 3 => ("ClaspedFair$Market", "book", "[[I", true)
  | 4 => ("ClaspedFair$Market", "clasps", "LClaspedFair$Rows;", true)
  | 5 => ("ClaspedFair$Market", "numbers", "LClaspedFair$Rows;", true)
  | 6 => ("ClaspedFair$Market", "weights", "LClaspedFair$Rows;", true)
  | 7 => ("ClaspedFair$Market", "herds", "LClaspedFair$Rows;", true)
  | 8 => ("ClaspedFair$Market", "hands", "LClaspedFair$Rows;", true)
  | 9 => ("ClaspedFair$Market", "law", "Ljava/util/ArrayList;", false)
  | 10 => ("ClaspedFair$Market", "fair", "Ljava/util/ArrayList;", false)
  | 11 => ("ClaspedFair$Market", "habits", "Ljava/util/ArrayList;", false)
  | 12 => ("ClaspedFair$Market", "kin", "[I", false)
  | 13 => ("ClaspedFair$Market", "people", "I", false)
  | 14 => ("ClaspedFair$Market", "horses", "I", false)
  | 15 => ("ClaspedFair$Market", "passed", "I", false)
  | 16 => ("ClaspedFair$Market", "held", "I", false)
  | 17 => ("ClaspedFair$Market", "day", "I", false)
  | 18 => ("ClaspedFair$Market", "state", "I", false)
  | 19 => ("ClaspedFair$Market", "lines", "I", false)
  | 20 => ("ClaspedFair$Market", "kinLines", "I", false)
  | 21 => ("ClaspedFair$Market", "isThought", "Z", false)
  | 22 => ("ClaspedFair$Market", "asked", "I", false)
  | 23 => ("ClaspedFair$Market", "askedOther", "I", false)
  | _ => ("ClaspedFair$Market", "askedTrait", "I", false)
def tyX1 : Nat → FieldType := fun k => match k with
  | 0 => .array (.object "ClaspedFair$Person")
  | 1 => .array (.object "ClaspedFair$Horse")
  | 2 => .object "ClaspedFair$Grip"
  | 3 => .array (.array .int)
  | 4 => .object "ClaspedFair$Rows"
  | 5 => .object "ClaspedFair$Rows"
  | 6 => .object "ClaspedFair$Rows"
  | 7 => .object "ClaspedFair$Rows"
  | 8 => .object "ClaspedFair$Rows"
  | 9 => .object "java/util/ArrayList"
  | 10 => .object "java/util/ArrayList"
  | 11 => .object "java/util/ArrayList"
  | 12 => .array .int
  | 13 => .int
  | 14 => .int
  | 15 => .int
  | 16 => .int
  | 17 => .int
  | 18 => .int
  | 19 => .int
  | 20 => .int
  | 21 => .boolean
  | 22 => .int
  | 23 => .int
  | _ => .int
abbrev wsX10 : List Cond := u_ws RX1 TX1 25
set_option maxRecDepth 100000 in
theorem nmX1 : ∀ a, a < 25 → ∀ b, b < 25 → a ≠ b → (TX1 a).2.1 ≠ (TX1 b).2.1 := by decide +kernel
set_option maxRecDepth 100000 in
theorem tyX1_ok : ∀ k, k < 25 → parseFieldDescriptor (TX1 k).2.2.1 = some (tyX1 k) := by decide +kernel
theorem in_X1 : ∀ w ∈ wsX10, w ∈ lw_all := lw_in wsX10 [386, 388, 390, 392, 394, 396, 398, 400, 402, 404, 406, 408, 410, 412, 414, 416, 418, 420, 422, 424, 426, 428, 430, 432, 434] (by decide +kernel) (by decide +kernel)
/-! ClaspedFair$Grip -/
def RX2 : String := "ClaspedFair$Grip"
def TX2 : u_T := fun k => match k with
  | 0 => ("ClaspedFair$Grip", "over", "[I", true)
  | 1 => ("ClaspedFair$Grip", "across", "[I", true)
  | 2 => ("ClaspedFair$Grip", "first", "I", false)
  | 3 => ("ClaspedFair$Grip", "second", "I", false)
  | 4 => ("ClaspedFair$Grip", "firmness", "I", false)
  | 5 => ("ClaspedFair$Grip", "price", "I", false)
  | 6 => ("ClaspedFair$Grip", "worth", "I", false)
  | _ => ("ClaspedFair$Grip", "spirit", "I", false)
def tyX2 : Nat → FieldType := fun k => match k with
  | 0 => .array .int
  | 1 => .array .int
  | 2 => .int
  | 3 => .int
  | 4 => .int
  | 5 => .int
  | 6 => .int
  | _ => .int
abbrev wsX20 : List Cond := u_ws RX2 TX2 8
theorem nmX2 : ∀ a, a < 8 → ∀ b, b < 8 → a ≠ b → (TX2 a).2.1 ≠ (TX2 b).2.1 := by decide +kernel
theorem tyX2_ok : ∀ k, k < 8 → parseFieldDescriptor (TX2 k).2.2.1 = some (tyX2 k) := by decide +kernel
theorem in_X2 : ∀ w ∈ wsX20, w ∈ lw_all := lw_in wsX20 [219, 221, 223, 225, 227, 229, 231, 233] (by decide +kernel) (by decide +kernel)
/-! ClaspedFair$Rows -/
def RX3 : String := "ClaspedFair$Rows"
def TX3 : u_T := fun k => match k with
  | 0 => ("ClaspedFair$Rows", "row", "[[I", true)
  | _ => ("ClaspedFair$Rows", "many", "I", false)
def tyX3 : Nat → FieldType := fun k => match k with
  | 0 => .array (.array .int)
  | _ => .int
abbrev wsX30 : List Cond := u_ws RX3 TX3 2
theorem nmX3 : ∀ a, a < 2 → ∀ b, b < 2 → a ≠ b → (TX3 a).2.1 ≠ (TX3 b).2.1 := by decide +kernel
theorem tyX3_ok : ∀ k, k < 2 → parseFieldDescriptor (TX3 k).2.2.1 = some (tyX3 k) := by decide +kernel
theorem in_X3 : ∀ w ∈ wsX30, w ∈ lw_all := lw_in wsX30 [251, 253] (by decide +kernel) (by decide +kernel)
/-! ClaspedFair$Person -/
def RX4 : String := "ClaspedFair$Person"
def TX4 : u_T := fun k => match k with
  | 0 => ("ClaspedFair$Person", "trait", "[I", true)
  | 1 => ("ClaspedFair$Person", "purse", "I", false)
  | 2 => ("ClaspedFair$Person", "hand", "I", false)
  | _ => ("ClaspedFair$Person", "shook", "I", false)
def tyX4 : Nat → FieldType := fun k => match k with
  | 0 => .array .int
  | 1 => .int
  | 2 => .int
  | _ => .int
abbrev wsX40 : List Cond := u_ws RX4 TX4 4
theorem nmX4 : ∀ a, a < 4 → ∀ b, b < 4 → a ≠ b → (TX4 a).2.1 ≠ (TX4 b).2.1 := by decide +kernel
theorem tyX4_ok : ∀ k, k < 4 → parseFieldDescriptor (TX4 k).2.2.1 = some (tyX4 k) := by decide +kernel
theorem in_X4 : ∀ w ∈ wsX40, w ∈ lw_all := lw_in wsX40 [302, 304, 306, 308] (by decide +kernel) (by decide +kernel)
/-! ClaspedFair$Horse -/
def RX5 : String := "ClaspedFair$Horse"
def TX5 : u_T := fun k => match k with
  | 0 => ("ClaspedFair$Horse", "owner", "I", false)
  | 1 => ("ClaspedFair$Horse", "worth", "I", false)
  | 2 => ("ClaspedFair$Horse", "spirit", "I", false)
  | _ => ("ClaspedFair$Horse", "sold", "I", false)
def tyX5 : Nat → FieldType := fun k => match k with
  | 0 => .int
  | 1 => .int
  | 2 => .int
  | _ => .int
abbrev wsX50 : List Cond := u_ws RX5 TX5 4
theorem nmX5 : ∀ a, a < 4 → ∀ b, b < 4 → a ≠ b → (TX5 a).2.1 ≠ (TX5 b).2.1 := by decide +kernel
theorem tyX5_ok : ∀ k, k < 4 → parseFieldDescriptor (TX5 k).2.2.1 = some (tyX5 k) := by decide +kernel
theorem in_X5 : ∀ w ∈ wsX50, w ∈ lw_all := lw_in wsX50 [328, 330, 332, 334] (by decide +kernel) (by decide +kernel)
/-! ClaspedFairModel -/
def RX6 : String := "ClaspedFairModel"
def TX6 : u_T := fun k => match k with
  | 0 => ("ClaspedFairModel", "told", "I", false)
  | 1 => ("ClaspedFairModel", "now", "[I", true)
  | 2 => ("ClaspedFairModel", "rows", "[I", true)
  | 3 => ("ClaspedFairModel", "undoable", "I", false)
  | 4 => ("ClaspedFairModel", "waiting", "[I", true)
  | 5 => ("ClaspedFairModel", "isThought", "Z", false)
  | 6 => ("ClaspedFairModel", "people", "I", false)
  | 7 => ("ClaspedFairModel", "horses", "I", false)
  | 8 => ("ClaspedFairModel", "worth", "[I", true)
  | 9 => ("ClaspedFairModel", "spirit", "[I", true)
  | 10 => ("ClaspedFairModel", "book", "[I", true)
  | 11 => ("ClaspedFairModel", "tape", "[I", true)
  | 12 => ("ClaspedFairModel", "taped", "I", false)
  | 13 => ("ClaspedFairModel", "spot", "I", false)
  | 14 => ("ClaspedFairModel", "from", "I", false)
  | 15 => ("ClaspedFairModel", "token", "I", false)
  | 16 => ("ClaspedFairModel", "value", "I", false)
  | 17 => ("ClaspedFairModel", "words", "[I", true)
  | 18 => ("ClaspedFairModel", "lineMany", "[I", true)
  | 19 => ("ClaspedFairModel", "lineWord", "[I", true)
  | 20 => ("ClaspedFairModel", "lineFrom", "[I", true)
  | 21 => ("ClaspedFairModel", "lineWhen", "[I", true)
  | 22 => ("ClaspedFairModel", "lineTo", "[I", true)
  | 23 => ("ClaspedFairModel", "op", "[I", true)
  | 24 => ("ClaspedFairModel", "arg", "[I", true)
  | 25 => ("ClaspedFairModel", "which", "I", false)
  | 26 => ("ClaspedFairModel", "codes", "I", false)
  | 27 => ("ClaspedFairModel", "open", "I", false)
  | 28 => ("ClaspedFairModel", "pending", "[I", true)
  | 29 => ("ClaspedFairModel", "pendings", "I", false)
  | 30 => ("ClaspedFairModel", "readFault", "I", false)
  | 31 => ("ClaspedFairModel", "readPlace", "I", false)
  | 32 => ("ClaspedFairModel", "faultKind", "I", false)
  | 33 => ("ClaspedFairModel", "faultPlace", "I", false)
  | 34 => ("ClaspedFairModel", "offerMany", "I", false)
  | 35 => ("ClaspedFairModel", "offers", "[I", true)
  | 36 => ("ClaspedFairModel", "deedMany", "I", false)
  | 37 => ("ClaspedFairModel", "deeds", "[I", true)
  | 38 => ("ClaspedFairModel", "kinMany", "I", false)
  | 39 => ("ClaspedFairModel", "kinOf", "[I", true)
  | 40 => ("ClaspedFairModel", "asked", "[I", true)
  | 41 => ("ClaspedFairModel", "stack", "[I", true)
  | 42 => ("ClaspedFairModel", "byGrip", "I", false)
  | 43 => ("ClaspedFairModel", "byPrice", "I", false)
  | 44 => ("ClaspedFairModel", "byHorse", "I", false)
  | 45 => ("ClaspedFairModel", "wentOver", "[I", true)
  | 46 => ("ClaspedFairModel", "wentBack", "[I", true)
  | 47 => ("ClaspedFairModel", "isHeld", "Z", false)
  | 48 => ("ClaspedFairModel", "claspMany", "I", false)
  | 49 => ("ClaspedFairModel", "claspOne", "[I", true)
  | 50 => ("ClaspedFairModel", "claspOther", "[I", true)
  | 51 => ("ClaspedFairModel", "numberMany", "I", false)
  | 52 => ("ClaspedFairModel", "numbers", "[I", true)
  | 53 => ("ClaspedFairModel", "toShake", "[I", true)
  | 54 => ("ClaspedFairModel", "ringed", "[I", true)
  | 55 => ("ClaspedFairModel", "mostPairs", "[I", true)
  | 56 => ("ClaspedFairModel", "canPay", "[I", true)
  | 57 => ("ClaspedFairModel", "weightMany", "I", false)
  | 58 => ("ClaspedFairModel", "weights", "[I", true)
  | 59 => ("ClaspedFairModel", "herdMany", "I", false)
  | 60 => ("ClaspedFairModel", "herds", "[I", true)
  | 61 => ("ClaspedFairModel", "inPen", "[I", true)
  | 62 => ("ClaspedFairModel", "rowMany", "I", false)
  | 63 => ("ClaspedFairModel", "handRows", "[I", true)
  | 64 => ("ClaspedFairModel", "nimbers", "[I", true)
  | 65 => ("ClaspedFairModel", "isTaking", "Z", false)
  | 66 => ("ClaspedFairModel", "hasImage", "Z", false)
  | 67 => ("ClaspedFairModel", "keptAt", "I", false)
  | _ => ("ClaspedFairModel", "images", "[I", true)
def tyX6 : Nat → FieldType := fun k => match k with
  | 0 => .int
  | 1 => .array .int
  | 2 => .array .int
  | 3 => .int
  | 4 => .array .int
  | 5 => .boolean
  | 6 => .int
  | 7 => .int
  | 8 => .array .int
  | 9 => .array .int
  | 10 => .array .int
  | 11 => .array .int
  | 12 => .int
  | 13 => .int
  | 14 => .int
  | 15 => .int
  | 16 => .int
  | 17 => .array .int
  | 18 => .array .int
  | 19 => .array .int
  | 20 => .array .int
  | 21 => .array .int
  | 22 => .array .int
  | 23 => .array .int
  | 24 => .array .int
  | 25 => .int
  | 26 => .int
  | 27 => .int
  | 28 => .array .int
  | 29 => .int
  | 30 => .int
  | 31 => .int
  | 32 => .int
  | 33 => .int
  | 34 => .int
  | 35 => .array .int
  | 36 => .int
  | 37 => .array .int
  | 38 => .int
  | 39 => .array .int
  | 40 => .array .int
  | 41 => .array .int
  | 42 => .int
  | 43 => .int
  | 44 => .int
  | 45 => .array .int
  | 46 => .array .int
  | 47 => .boolean
  | 48 => .int
  | 49 => .array .int
  | 50 => .array .int
  | 51 => .int
  | 52 => .array .int
  | 53 => .array .int
  | 54 => .array .int
  | 55 => .array .int
  | 56 => .array .int
  | 57 => .int
  | 58 => .array .int
  | 59 => .int
  | 60 => .array .int
  | 61 => .array .int
  | 62 => .int
  | 63 => .array .int
  | 64 => .array .int
  | 65 => .boolean
  | 66 => .boolean
  | 67 => .int
  | _ => .array .int
abbrev wsX60 : List Cond := u_ws RX6 TX6 69
set_option maxRecDepth 100000 in
theorem nmX6 : ∀ a, a < 69 → ∀ b, b < 69 → a ≠ b → (TX6 a).2.1 ≠ (TX6 b).2.1 := by decide +kernel
set_option maxRecDepth 100000 in
theorem tyX6_ok : ∀ k, k < 69 → parseFieldDescriptor (TX6 k).2.2.1 = some (tyX6 k) := by decide +kernel
theorem in_X6 : ∀ w ∈ wsX60, w ∈ lw_all := lw_in wsX60 [1541, 1543, 1545, 1547, 1549, 1551, 1553, 1555, 1557, 1559, 1561, 1563, 1565, 1567, 1569, 1571, 1573, 1575, 1577, 1579, 1581, 1583, 1585, 1587, 1589, 1591, 1593, 1595, 1597, 1599, 1601, 1603, 1605, 1607, 1609, 1611, 1613, 1615, 1617, 1619, 1621, 1623, 1625, 1627, 1629, 1631, 1633, 1635, 1637, 1639, 1641, 1643, 1645, 1647, 1649, 1651, 1653, 1655, 1657, 1659, 1661, 1663, 1665, 1667, 1669, 1671, 1673, 1675, 1677] (by decide +kernel) (by decide +kernel)
/-! ClaspedFair$Reader -/
def RX7 : String := "ClaspedFair$Reader"
def TX7 : u_T := fun k => match k with
  | 0 => ("ClaspedFair$Reader", "which", "I", true)
  | 1 => ("ClaspedFair$Reader", "kin", "[I", true)
  | 2 => ("ClaspedFair$Reader", "at", "I", false)
  | 3 => ("ClaspedFair$Reader", "start", "I", false)
  | 4 => ("ClaspedFair$Reader", "token", "I", false)
  | 5 => ("ClaspedFair$Reader", "value", "I", false)
  | 6 => ("ClaspedFair$Reader", "open", "I", false)
  | 7 => ("ClaspedFair$Reader", "told", "I", false)
  | _ => ("ClaspedFair$Reader", "this$0", "LClaspedFair;", true)
def tyX7 : Nat → FieldType := fun k => match k with
  | 0 => .int
  | 1 => .array .int
  | 2 => .int
  | 3 => .int
  | 4 => .int
  | 5 => .int
  | 6 => .int
  | 7 => .int
  | _ => .object "ClaspedFair"
abbrev wsX70 : List Cond := u_ws RX7 TX7 9
theorem nmX7 : ∀ a, a < 9 → ∀ b, b < 9 → a ≠ b → (TX7 a).2.1 ≠ (TX7 b).2.1 := by decide +kernel
theorem tyX7_ok : ∀ k, k < 9 → parseFieldDescriptor (TX7 k).2.2.1 = some (tyX7 k) := by decide +kernel
theorem in_X7 : ∀ w ∈ wsX70, w ∈ lw_all := lw_in wsX70 [530, 532, 534, 536, 538, 540, 542, 544, 546] (by decide +kernel) (by decide +kernel)
/-! ClaspedFair$Fault -/
def RX8 : String := "ClaspedFair$Fault"
def TX8 : u_T := fun k => match k with
  | 0 => ("java/lang/Throwable", "cause", "Ljava/lang/Throwable;", false)
  | 1 => ("java/lang/Throwable", "stackTrace", "[Ljava/lang/StackTraceElement;", false)
  | 2 => ("java/lang/Throwable", "suppressedExceptions", "Ljava/util/List;", false)
  | 3 => ("java/lang/Throwable", "detailMessage", "Ljava/lang/String;", false)
  | 4 => ("java/lang/Throwable", "backtrace", "Ljava/lang/Object;", false)
  | 5 => ("java/lang/Throwable", "depth", "I", false)
  | 6 => ("ClaspedFair$Fault", "kind", "I", true)
  | _ => ("ClaspedFair$Fault", "place", "I", true)
def tyX8 : Nat → FieldType := fun k => match k with
  | 0 => .object "java/lang/Throwable"
  | 1 => .array (.object "java/lang/StackTraceElement")
  | 2 => .object "java/util/List"
  | 3 => .object "java/lang/String"
  | 4 => .object "java/lang/Object"
  | 5 => .int
  | 6 => .int
  | _ => .int
abbrev wsX80 : List Cond := u_ws RX8 TX8 8
theorem nmX8 : ∀ a, a < 8 → ∀ b, b < 8 → a ≠ b → (TX8 a).2.1 ≠ (TX8 b).2.1 := by decide +kernel
theorem tyX8_ok : ∀ k, k < 8 → parseFieldDescriptor (TX8 k).2.2.1 = some (tyX8 k) := by decide +kernel
theorem in_X8 : ∀ w ∈ wsX80, w ∈ lw_all := lw_in wsX80 [684, 686, 688, 690, 692, 735, 727, 729] (by decide +kernel) (by decide +kernel)
/-! ClaspedFair$Term -/
def RX9 : String := "ClaspedFair$Term"
/-! ClaspedFair$Fixed -/
def RX10 : String := "ClaspedFair$Fixed"
def TX10 : u_T := fun k => match k with
  | _ => ("ClaspedFair$Fixed", "value", "I", true)
def tyX10 : Nat → FieldType := fun k => match k with
  | _ => .int
abbrev wsX100 : List Cond := u_ws RX10 TX10 1
theorem nmX10 : ∀ a, a < 1 → ∀ b, b < 1 → a ≠ b → (TX10 a).2.1 ≠ (TX10 b).2.1 := by decide +kernel
theorem tyX10_ok : ∀ k, k < 1 → parseFieldDescriptor (TX10 k).2.2.1 = some (tyX10 k) := by decide +kernel
theorem in_X10 : ∀ w ∈ wsX100, w ∈ lw_all := lw_in wsX100 [769] (by decide +kernel) (by decide +kernel)
/-! ClaspedFair$Known -/
def RX11 : String := "ClaspedFair$Known"
def TX11 : u_T := fun k => match k with
  | _ => ("ClaspedFair$Known", "what", "I", true)
def tyX11 : Nat → FieldType := fun k => match k with
  | _ => .int
abbrev wsX110 : List Cond := u_ws RX11 TX11 1
theorem nmX11 : ∀ a, a < 1 → ∀ b, b < 1 → a ≠ b → (TX11 a).2.1 ≠ (TX11 b).2.1 := by decide +kernel
theorem tyX11_ok : ∀ k, k < 1 → parseFieldDescriptor (TX11 k).2.2.1 = some (tyX11 k) := by decide +kernel
theorem in_X11 : ∀ w ∈ wsX110, w ∈ lw_all := lw_in wsX110 [779] (by decide +kernel) (by decide +kernel)
/-! ClaspedFair$Joined -/
def RX12 : String := "ClaspedFair$Joined"
def TX12 : u_T := fun k => match k with
  | 0 => ("ClaspedFair$Joined", "left", "LClaspedFair$Term;", true)
  | 1 => ("ClaspedFair$Joined", "right", "LClaspedFair$Term;", true)
  | _ => ("ClaspedFair$Joined", "how", "I", true)
def tyX12 : Nat → FieldType := fun k => match k with
  | 0 => .object "ClaspedFair$Term"
  | 1 => .object "ClaspedFair$Term"
  | _ => .int
abbrev wsX120 : List Cond := u_ws RX12 TX12 3
theorem nmX12 : ∀ a, a < 3 → ∀ b, b < 3 → a ≠ b → (TX12 a).2.1 ≠ (TX12 b).2.1 := by decide +kernel
theorem tyX12_ok : ∀ k, k < 3 → parseFieldDescriptor (TX12 k).2.2.1 = some (tyX12 k) := by decide +kernel
theorem in_X12 : ∀ w ∈ wsX120, w ∈ lw_all := lw_in wsX120 [791, 793, 795] (by decide +kernel) (by decide +kernel)
/-! ClaspedFair$Not -/
def RX13 : String := "ClaspedFair$Not"
def TX13 : u_T := fun k => match k with
  | _ => ("ClaspedFair$Not", "term", "LClaspedFair$Term;", true)
def tyX13 : Nat → FieldType := fun k => match k with
  | _ => .object "ClaspedFair$Term"
abbrev wsX130 : List Cond := u_ws RX13 TX13 1
theorem nmX13 : ∀ a, a < 1 → ∀ b, b < 1 → a ≠ b → (TX13 a).2.1 ≠ (TX13 b).2.1 := by decide +kernel
theorem tyX13_ok : ∀ k, k < 1 → parseFieldDescriptor (TX13 k).2.2.1 = some (tyX13 k) := by decide +kernel
theorem in_X13 : ∀ w ∈ wsX130, w ∈ lw_all := lw_in wsX130 [821] (by decide +kernel) (by decide +kernel)
/-! ClaspedFair$Line -/
def RX14 : String := "ClaspedFair$Line"
def TX14 : u_T := fun k => match k with
  | 0 => ("ClaspedFair$Line", "word", "I", true)
  | 1 => ("ClaspedFair$Line", "comesTo", "LClaspedFair$Term;", true)
  | _ => ("ClaspedFair$Line", "when", "LClaspedFair$Term;", true)
def tyX14 : Nat → FieldType := fun k => match k with
  | 0 => .int
  | 1 => .object "ClaspedFair$Term"
  | _ => .object "ClaspedFair$Term"
abbrev wsX140 : List Cond := u_ws RX14 TX14 3
theorem nmX14 : ∀ a, a < 3 → ∀ b, b < 3 → a ≠ b → (TX14 a).2.1 ≠ (TX14 b).2.1 := by decide +kernel
theorem tyX14_ok : ∀ k, k < 3 → parseFieldDescriptor (TX14 k).2.2.1 = some (tyX14 k) := by decide +kernel
theorem in_X14 : ∀ w ∈ wsX140, w ∈ lw_all := lw_in wsX140 [840, 842, 844] (by decide +kernel) (by decide +kernel)
/-! ClaspedFair$Offer -/
def RX15 : String := "ClaspedFair$Offer"
def TX15 : u_T := fun k => match k with
  | 0 => ("ClaspedFair$Offer", "day", "I", true)
  | 1 => ("ClaspedFair$Offer", "buyer", "I", true)
  | 2 => ("ClaspedFair$Offer", "horse", "I", true)
  | 3 => ("ClaspedFair$Offer", "price", "I", true)
  | _ => ("ClaspedFair$Offer", "grip", "I", true)
def tyX15 : Nat → FieldType := fun k => match k with
  | 0 => .int
  | 1 => .int
  | 2 => .int
  | 3 => .int
  | _ => .int
abbrev wsX150 : List Cond := u_ws RX15 TX15 5
theorem nmX15 : ∀ a, a < 5 → ∀ b, b < 5 → a ≠ b → (TX15 a).2.1 ≠ (TX15 b).2.1 := by decide +kernel
theorem tyX15_ok : ∀ k, k < 5 → parseFieldDescriptor (TX15 k).2.2.1 = some (tyX15 k) := by decide +kernel
theorem in_X15 : ∀ w ∈ wsX150, w ∈ lw_all := lw_in wsX150 [938, 940, 942, 944, 946] (by decide +kernel) (by decide +kernel)
/-! ClaspedFair$Habit -/
def RX16 : String := "ClaspedFair$Habit"
/-! ClaspedFair$Wage -/
def RX17 : String := "ClaspedFair$Wage"
def TX17 : u_T := fun k => match k with
  | 0 => ("ClaspedFair$Habit", "day", "I", true)
  | 1 => ("ClaspedFair$Habit", "person", "I", true)
  | _ => ("ClaspedFair$Wage", "much", "I", true)
def tyX17 : Nat → FieldType := fun k => match k with
  | 0 => .int
  | 1 => .int
  | _ => .int
abbrev wsX170 : List Cond := u_ws RX17 TX17 3
theorem nmX17 : ∀ a, a < 3 → ∀ b, b < 3 → a ≠ b → (TX17 a).2.1 ≠ (TX17 b).2.1 := by decide +kernel
theorem tyX17_ok : ∀ k, k < 3 → parseFieldDescriptor (TX17 k).2.2.1 = some (tyX17 k) := by decide +kernel
theorem in_X17 : ∀ w ∈ wsX170, w ∈ lw_all := lw_in wsX170 [979, 981, 977] (by decide +kernel) (by decide +kernel)
/-! ClaspedFair$Cold -/
def RX18 : String := "ClaspedFair$Cold"
def TX18 : u_T := fun k => match k with
  | 0 => ("ClaspedFair$Habit", "day", "I", true)
  | 1 => ("ClaspedFair$Habit", "person", "I", true)
  | 2 => ("ClaspedFair$Cold", "trait", "I", true)
  | _ => ("ClaspedFair$Cold", "much", "I", true)
def tyX18 : Nat → FieldType := fun k => match k with
  | 0 => .int
  | 1 => .int
  | 2 => .int
  | _ => .int
abbrev wsX180 : List Cond := u_ws RX18 TX18 4
theorem nmX18 : ∀ a, a < 4 → ∀ b, b < 4 → a ≠ b → (TX18 a).2.1 ≠ (TX18 b).2.1 := by decide +kernel
theorem tyX18_ok : ∀ k, k < 4 → parseFieldDescriptor (TX18 k).2.2.1 = some (tyX18 k) := by decide +kernel
theorem in_X18 : ∀ w ∈ wsX180, w ∈ lw_all := lw_in wsX180 [996, 997, 992, 994] (by decide +kernel) (by decide +kernel)
/-! ClaspedFair$Sleeve -/
def RX19 : String := "ClaspedFair$Sleeve"
def TX19 : u_T := fun k => match k with
  | 0 => ("ClaspedFair$Habit", "day", "I", true)
  | 1 => ("ClaspedFair$Habit", "person", "I", true)
  | _ => ("ClaspedFair$Sleeve", "hand", "I", true)
def tyX19 : Nat → FieldType := fun k => match k with
  | 0 => .int
  | 1 => .int
  | _ => .int
abbrev wsX190 : List Cond := u_ws RX19 TX19 3
theorem nmX19 : ∀ a, a < 3 → ∀ b, b < 3 → a ≠ b → (TX19 a).2.1 ≠ (TX19 b).2.1 := by decide +kernel
theorem tyX19_ok : ∀ k, k < 3 → parseFieldDescriptor (TX19 k).2.2.1 = some (tyX19 k) := by decide +kernel
theorem in_X19 : ∀ w ∈ wsX190, w ∈ lw_all := lw_in wsX190 [1008, 1009, 1006] (by decide +kernel) (by decide +kernel)
/-! java/util/AbstractCollection -/
def RJ0 : String := "java/util/AbstractCollection"
/-! java/util/AbstractList -/
def RJ1 : String := "java/util/AbstractList"
/-! java/util/ArrayList -/
def RJ2 : String := "java/util/ArrayList"
def TJ2 : u_T := fun k => match k with
  | 0 => ("java/util/AbstractList", "modCount", "I", false)
  | 1 => ("java/util/ArrayList", "elementData", "[Ljava/lang/Object;", false)
  | _ => ("java/util/ArrayList", "size", "I", false)
def tyJ2 : Nat → FieldType := fun k => match k with
  | 0 => .int
  | 1 => .array (.object "java/lang/Object")
  | _ => .int
abbrev wsJ20 : List Cond := u_ws RJ2 TJ2 3
theorem nmJ2 : ∀ a, a < 3 → ∀ b, b < 3 → a ≠ b → (TJ2 a).2.1 ≠ (TJ2 b).2.1 := by decide +kernel
theorem tyJ2_ok : ∀ k, k < 3 → parseFieldDescriptor (TJ2 k).2.2.1 = some (tyJ2 k) := by decide +kernel
theorem in_J2 : ∀ w ∈ wsJ20, w ∈ lw_all := lw_in wsJ20 [279, 275, 277] (by decide +kernel) (by decide +kernel)
/-! java/util/Objects -/
def RJ3 : String := "java/util/Objects"
/-! jdk/internal/util/Preconditions -/
def RJ4 : String := "jdk/internal/util/Preconditions"
/-! java/lang/Math -/
def RJ5 : String := "java/lang/Math"
/-! java/lang/String -/
def RJ6 : String := "java/lang/String"
/-! java/lang/StringLatin1 -/
def RJ7 : String := "java/lang/StringLatin1"
/-! java/lang/StringUTF16 -/
def RJ8 : String := "java/lang/StringUTF16"
/-! java/lang/Throwable -/
def RJ9 : String := "java/lang/Throwable"
def TJ9 : u_T := fun k => match k with
  | 0 => ("java/lang/Throwable", "cause", "Ljava/lang/Throwable;", false)
  | 1 => ("java/lang/Throwable", "stackTrace", "[Ljava/lang/StackTraceElement;", false)
  | 2 => ("java/lang/Throwable", "suppressedExceptions", "Ljava/util/List;", false)
  | 3 => ("java/lang/Throwable", "detailMessage", "Ljava/lang/String;", false)
  | _ => ("java/lang/Throwable", "backtrace", "Ljava/lang/Object;", false)
def tyJ9 : Nat → FieldType := fun k => match k with
  | 0 => .object "java/lang/Throwable"
  | 1 => .array (.object "java/lang/StackTraceElement")
  | 2 => .object "java/util/List"
  | 3 => .object "java/lang/String"
  | _ => .object "java/lang/Object"
abbrev wsJ90 : List Cond := u_ws RJ9 TJ9 5
theorem nmJ9 : ∀ a, a < 5 → ∀ b, b < 5 → a ≠ b → (TJ9 a).2.1 ≠ (TJ9 b).2.1 := by decide +kernel
theorem tyJ9_ok : ∀ k, k < 5 → parseFieldDescriptor (TJ9 k).2.2.1 = some (tyJ9 k) := by decide +kernel
theorem in_J9 : ∀ w ∈ wsJ90, w ∈ lw_all := lw_in wsJ90 [685, 687, 689, 691, 693] (by decide +kernel) (by decide +kernel)
/-! java/lang/Exception -/
def RJ10 : String := "java/lang/Exception"
/-! jdk/internal/util/ArraysSupport -/
def RJ11 : String := "jdk/internal/util/ArraysSupport"
/-! java/util/Arrays -/
def RJ12 : String := "java/util/Arrays"
/-! java/lang/Integer -/
def RJ13 : String := "java/lang/Integer"
/-! java/lang/Object -/
def RJ14 : String := "java/lang/Object"
