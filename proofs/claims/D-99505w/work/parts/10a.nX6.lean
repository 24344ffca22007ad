set_option maxRecDepth 100000
abbrev cX6_init : ByteArray := prog_22_method_1_code
def yX6_init : MethodName := ⟨RX6, "<init>", "()V"⟩
def dkwX6_init_48 : List UInt8 := [17, 9, 96, 188, 10, 181, 0, 119, 177]
abbrev dktX6_init_48 : List UInt8 := dkwX6_init_48 ++ []
def dkwX6_init_47 : List UInt8 := [42, 7, 188, 10, 181, 0, 110, 42, 16, 6, 188, 10, 181, 0, 113, 42, 16, 21, 188, 10, 181, 0, 116, 42]
abbrev dktX6_init_47 : List UInt8 := dkwX6_init_47 ++ dktX6_init_48
def dkwX6_init_46 : List UInt8 := [42, 17, 14, 16, 188, 10, 181, 0, 101, 42, 8, 188, 10, 181, 0, 104, 42, 16, 7, 188, 10, 181, 0, 107]
abbrev dktX6_init_46 : List UInt8 := dkwX6_init_46 ++ dktX6_init_47
def dkwX6_init_45 : List UInt8 := [16, 9, 188, 10, 181, 0, 92, 42, 16, 13, 188, 10, 181, 0, 95, 42, 17, 16, 0, 188, 10, 181, 0, 98]
abbrev dktX6_init_45 : List UInt8 := dkwX6_init_45 ++ dktX6_init_46
def dkwX6_init_44 : List UInt8 := [16, 16, 188, 10, 181, 0, 83, 42, 16, 16, 188, 10, 181, 0, 86, 42, 16, 9, 188, 10, 181, 0, 89, 42]
abbrev dktX6_init_44 : List UInt8 := dkwX6_init_44 ++ dktX6_init_45
def dkwX6_init_43 : List UInt8 := [17, 1, 164, 188, 10, 181, 0, 74, 42, 8, 188, 10, 181, 0, 77, 42, 8, 188, 10, 181, 0, 80, 42]
abbrev dktX6_init_43 : List UInt8 := dkwX6_init_43 ++ dktX6_init_44
def dkwX6_init_42 : List UInt8 := [188, 10, 181, 0, 65, 42, 16, 24, 188, 10, 181, 0, 68, 42, 16, 11, 188, 10, 181, 0, 71, 42]
abbrev dktX6_init_42 : List UInt8 := dkwX6_init_42 ++ dktX6_init_43
def dkwX6_init_41 : List UInt8 := [188, 10, 181, 0, 55, 42, 2, 181, 0, 58, 42, 17, 0, 160, 188, 10, 181, 0, 62, 42, 17, 0, 160]
abbrev dktX6_init_41 : List UInt8 := dkwX6_init_41 ++ dktX6_init_42
def dkwX6_init_40 : List UInt8 := [181, 0, 46, 42, 17, 4, 176, 188, 10, 181, 0, 49, 42, 17, 4, 176, 188, 10, 181, 0, 52, 42, 16, 40]
abbrev dktX6_init_40 : List UInt8 := dkwX6_init_40 ++ dktX6_init_41
def dkwX6_init_39 : List UInt8 := [181, 0, 37, 42, 16, 48, 188, 10, 181, 0, 40, 42, 16, 48, 188, 10, 181, 0, 43, 42, 16, 48, 188, 10]
abbrev dktX6_init_39 : List UInt8 := dkwX6_init_39 ++ dktX6_init_40
def dkwX6_init_38 : List UInt8 := [89, 17, 0, 139, 16, 32, 79, 181, 0, 31, 42, 5, 188, 10, 181, 0, 34, 42, 16, 48, 188, 10]
abbrev dktX6_init_38 : List UInt8 := dkwX6_init_38 ++ dktX6_init_39
def dkwX6_init_37 : List UInt8 := [16, 99, 79, 89, 17, 0, 136, 16, 111, 79, 89, 17, 0, 137, 16, 108, 79, 89, 17, 0, 138, 16, 100, 79]
abbrev dktX6_init_37 : List UInt8 := dkwX6_init_37 ++ dktX6_init_38
def dkwX6_init_36 : List UInt8 := [17, 0, 132, 16, 97, 79, 89, 17, 0, 133, 16, 121, 79, 89, 17, 0, 134, 16, 32, 79, 89, 17, 0, 135]
abbrev dktX6_init_36 : List UInt8 := dkwX6_init_36 ++ dktX6_init_37
def dkwX6_init_35 : List UInt8 := [89, 17, 0, 129, 16, 103, 79, 89, 17, 0, 130, 16, 32, 79, 89, 17, 0, 131, 16, 112, 79, 89]
abbrev dktX6_init_35 : List UInt8 := dkwX6_init_35 ++ dktX6_init_36
def dkwX6_init_34 : List UInt8 := [16, 125, 16, 115, 79, 89, 16, 126, 16, 108, 79, 89, 16, 127, 16, 105, 79, 89, 17, 0, 128, 16, 110, 79]
abbrev dktX6_init_34 : List UInt8 := dkwX6_init_34 ++ dktX6_init_35
def dkwX6_init_33 : List UInt8 := [16, 121, 16, 97, 79, 89, 16, 122, 16, 114, 79, 89, 16, 123, 16, 101, 79, 89, 16, 124, 16, 32, 79, 89]
abbrev dktX6_init_33 : List UInt8 := dkwX6_init_33 ++ dktX6_init_34
def dkwX6_init_32 : List UInt8 := [16, 117, 16, 118, 79, 89, 16, 118, 16, 101, 79, 89, 16, 119, 16, 32, 79, 89, 16, 120, 16, 98, 79, 89]
abbrev dktX6_init_32 : List UInt8 := dkwX6_init_32 ++ dktX6_init_33
def dkwX6_init_31 : List UInt8 := [16, 113, 16, 32, 79, 89, 16, 114, 16, 103, 79, 89, 16, 115, 16, 108, 79, 89, 16, 116, 16, 111, 79, 89]
abbrev dktX6_init_31 : List UInt8 := dkwX6_init_31 ++ dktX6_init_32
def dkwX6_init_30 : List UInt8 := [16, 109, 16, 101, 79, 89, 16, 110, 16, 32, 79, 89, 16, 111, 16, 97, 79, 89, 16, 112, 16, 116, 79, 89]
abbrev dktX6_init_30 : List UInt8 := dkwX6_init_30 ++ dktX6_init_31
def dkwX6_init_29 : List UInt8 := [16, 105, 16, 104, 79, 89, 16, 106, 16, 111, 79, 89, 16, 107, 16, 114, 79, 89, 16, 108, 16, 115, 79, 89]
abbrev dktX6_init_29 : List UInt8 := dkwX6_init_29 ++ dktX6_init_30
def dkwX6_init_28 : List UInt8 := [16, 101, 16, 115, 79, 89, 16, 102, 16, 111, 79, 89, 16, 103, 16, 110, 79, 89, 16, 104, 16, 32, 79, 89]
abbrev dktX6_init_28 : List UInt8 := dkwX6_init_28 ++ dktX6_init_29
def dkwX6_init_27 : List UInt8 := [16, 97, 16, 32, 79, 89, 16, 98, 16, 112, 79, 89, 16, 99, 16, 101, 79, 89, 16, 100, 16, 114, 79, 89]
abbrev dktX6_init_27 : List UInt8 := dkwX6_init_27 ++ dktX6_init_28
def dkwX6_init_26 : List UInt8 := [16, 93, 16, 121, 79, 89, 16, 94, 16, 32, 79, 89, 16, 95, 16, 111, 79, 89, 16, 96, 16, 110, 79, 89]
abbrev dktX6_init_26 : List UInt8 := dkwX6_init_26 ++ dktX6_init_27
def dkwX6_init_25 : List UInt8 := [16, 89, 16, 110, 79, 89, 16, 90, 16, 32, 79, 89, 16, 91, 16, 100, 79, 89, 16, 92, 16, 97, 79, 89]
abbrev dktX6_init_25 : List UInt8 := dkwX6_init_25 ++ dktX6_init_26
def dkwX6_init_24 : List UInt8 := [16, 85, 16, 101, 79, 89, 16, 86, 16, 32, 79, 89, 16, 87, 16, 107, 79, 89, 16, 88, 16, 105, 79, 89]
abbrev dktX6_init_24 : List UInt8 := dkwX6_init_24 ++ dktX6_init_25
def dkwX6_init_23 : List UInt8 := [16, 81, 16, 112, 79, 89, 16, 82, 16, 117, 79, 89, 16, 83, 16, 114, 79, 89, 16, 84, 16, 115, 79, 89]
abbrev dktX6_init_23 : List UInt8 := dkwX6_init_23 ++ dktX6_init_24
def dkwX6_init_22 : List UInt8 := [16, 77, 16, 111, 79, 89, 16, 78, 16, 111, 79, 89, 16, 79, 16, 107, 79, 89, 16, 80, 16, 32, 79, 89]
abbrev dktX6_init_22 : List UInt8 := dkwX6_init_22 ++ dktX6_init_23
def dkwX6_init_21 : List UInt8 := [16, 73, 16, 116, 79, 89, 16, 74, 16, 32, 79, 89, 16, 75, 16, 115, 79, 89, 16, 76, 16, 104, 79, 89]
abbrev dktX6_init_21 : List UInt8 := dkwX6_init_21 ++ dktX6_init_22
def dkwX6_init_20 : List UInt8 := [16, 69, 16, 112, 79, 89, 16, 70, 16, 105, 79, 89, 16, 71, 16, 114, 79, 89, 16, 72, 16, 105, 79, 89]
abbrev dktX6_init_20 : List UInt8 := dkwX6_init_20 ++ dktX6_init_21
def dkwX6_init_19 : List UInt8 := [16, 65, 16, 116, 79, 89, 16, 66, 16, 104, 79, 89, 16, 67, 16, 32, 79, 89, 16, 68, 16, 115, 79, 89]
abbrev dktX6_init_19 : List UInt8 := dkwX6_init_19 ++ dktX6_init_20
def dkwX6_init_18 : List UInt8 := [16, 61, 16, 32, 79, 89, 16, 62, 16, 119, 79, 89, 16, 63, 16, 111, 79, 89, 16, 64, 16, 114, 79, 89]
abbrev dktX6_init_18 : List UInt8 := dkwX6_init_18 ++ dktX6_init_19
def dkwX6_init_17 : List UInt8 := [16, 57, 16, 114, 79, 89, 16, 58, 16, 105, 79, 89, 16, 59, 16, 99, 79, 89, 16, 60, 16, 101, 79, 89]
abbrev dktX6_init_17 : List UInt8 := dkwX6_init_17 ++ dktX6_init_18
def dkwX6_init_16 : List UInt8 := [16, 53, 16, 105, 79, 89, 16, 54, 16, 112, 79, 89, 16, 55, 16, 32, 79, 89, 16, 56, 16, 112, 79, 89]
abbrev dktX6_init_16 : List UInt8 := dkwX6_init_16 ++ dktX6_init_17
def dkwX6_init_15 : List UInt8 := [16, 49, 16, 114, 79, 89, 16, 50, 16, 32, 79, 89, 16, 51, 16, 103, 79, 89, 16, 52, 16, 114, 79, 89]
abbrev dktX6_init_15 : List UInt8 := dkwX6_init_15 ++ dktX6_init_16
def dkwX6_init_14 : List UInt8 := [16, 45, 16, 111, 79, 89, 16, 46, 16, 116, 79, 89, 16, 47, 16, 104, 79, 89, 16, 48, 16, 101, 79, 89]
abbrev dktX6_init_14 : List UInt8 := dkwX6_init_14 ++ dktX6_init_15
def dkwX6_init_13 : List UInt8 := [16, 41, 16, 111, 79, 89, 16, 42, 16, 119, 79, 89, 16, 43, 16, 110, 79, 89, 16, 44, 16, 32, 79, 89]
abbrev dktX6_init_13 : List UInt8 := dkwX6_init_13 ++ dktX6_init_14
def dkwX6_init_12 : List UInt8 := [16, 37, 16, 97, 79, 89, 16, 38, 16, 105, 79, 89, 16, 39, 16, 116, 79, 89, 16, 40, 16, 32, 79, 89]
abbrev dktX6_init_12 : List UInt8 := dkwX6_init_12 ++ dktX6_init_13
def dkwX6_init_11 : List UInt8 := [16, 33, 16, 116, 79, 89, 16, 34, 16, 32, 79, 89, 16, 35, 16, 116, 79, 89, 16, 36, 16, 114, 79, 89]
abbrev dktX6_init_11 : List UInt8 := dkwX6_init_11 ++ dktX6_init_12
def dkwX6_init_10 : List UInt8 := [16, 29, 16, 100, 79, 89, 16, 30, 16, 32, 79, 89, 16, 31, 16, 110, 79, 89, 16, 32, 16, 111, 79, 89]
abbrev dktX6_init_10 : List UInt8 := dkwX6_init_10 ++ dktX6_init_11
def dkwX6_init_9 : List UInt8 := [16, 25, 16, 114, 79, 89, 16, 26, 16, 32, 79, 89, 16, 27, 16, 97, 79, 89, 16, 28, 16, 110, 79, 89]
abbrev dktX6_init_9 : List UInt8 := dkwX6_init_9 ++ dktX6_init_10
def dkwX6_init_8 : List UInt8 := [16, 21, 16, 101, 79, 89, 16, 22, 16, 110, 79, 89, 16, 23, 16, 32, 79, 89, 16, 24, 16, 111, 79, 89]
abbrev dktX6_init_8 : List UInt8 := dkwX6_init_8 ++ dktX6_init_9
def dkwX6_init_7 : List UInt8 := [16, 17, 16, 115, 79, 89, 16, 18, 16, 32, 79, 89, 16, 19, 16, 119, 79, 89, 16, 20, 16, 104, 79, 89]
abbrev dktX6_init_7 : List UInt8 := dkwX6_init_7 ++ dktX6_init_8
def dkwX6_init_6 : List UInt8 := [16, 13, 16, 32, 79, 89, 16, 14, 16, 97, 79, 89, 16, 15, 16, 115, 79, 89, 16, 16, 16, 107, 79, 89]
abbrev dktX6_init_6 : List UInt8 := dkwX6_init_6 ++ dktX6_init_7
def dkwX6_init_5 : List UInt8 := [16, 9, 16, 111, 79, 89, 16, 10, 16, 108, 79, 89, 16, 11, 16, 100, 79, 89, 16, 12, 16, 115, 79, 89]
abbrev dktX6_init_5 : List UInt8 := dkwX6_init_5 ++ dktX6_init_6
def dkwX6_init_4 : List UInt8 := [89, 8, 16, 101, 79, 89, 16, 6, 16, 115, 79, 89, 16, 7, 16, 32, 79, 89, 16, 8, 16, 104, 79, 89]
abbrev dktX6_init_4 : List UInt8 := dkwX6_init_4 ++ dktX6_init_5
def dkwX6_init_3 : List UInt8 := [3, 16, 32, 79, 89, 4, 16, 112, 79, 89, 5, 16, 97, 79, 89, 6, 16, 115, 79, 89, 7, 16, 115, 79]
abbrev dktX6_init_3 : List UInt8 := dkwX6_init_3 ++ dktX6_init_4
def dkwX6_init_2 : List UInt8 := [17, 2, 88, 188, 10, 181, 0, 25, 42, 17, 1, 144, 188, 10, 181, 0, 28, 42, 17, 0, 140, 188, 10, 89]
abbrev dktX6_init_2 : List UInt8 := dkwX6_init_2 ++ dktX6_init_3
def dkwX6_init_1 : List UInt8 := [188, 10, 181, 0, 16, 42, 16, 10, 188, 10, 181, 0, 19, 42, 16, 10, 188, 10, 181, 0, 22, 42]
abbrev dktX6_init_1 : List UInt8 := dkwX6_init_1 ++ dktX6_init_2
def dkwX6_init_0 : List UInt8 := [42, 183, 0, 1, 42, 16, 121, 188, 10, 181, 0, 7, 42, 17, 2, 214, 188, 10, 181, 0, 13, 42, 16, 121]
abbrev dktX6_init_0 : List UInt8 := dkwX6_init_0 ++ dktX6_init_1
theorem dksX6_init_0 : cX6_init.data.toList.drop 0 = dktX6_init_0 := by decide +kernel
theorem dksX6_init_1 : cX6_init.data.toList.drop 24 = dktX6_init_1 := dk_seg dksX6_init_0 24 rfl rfl
theorem dksX6_init_2 : cX6_init.data.toList.drop 46 = dktX6_init_2 := dk_seg dksX6_init_1 22 rfl rfl
theorem dksX6_init_3 : cX6_init.data.toList.drop 70 = dktX6_init_3 := dk_seg dksX6_init_2 24 rfl rfl
theorem dksX6_init_4 : cX6_init.data.toList.drop 94 = dktX6_init_4 := dk_seg dksX6_init_3 24 rfl rfl
theorem dksX6_init_5 : cX6_init.data.toList.drop 118 = dktX6_init_5 := dk_seg dksX6_init_4 24 rfl rfl
theorem dksX6_init_6 : cX6_init.data.toList.drop 142 = dktX6_init_6 := dk_seg dksX6_init_5 24 rfl rfl
theorem dksX6_init_7 : cX6_init.data.toList.drop 166 = dktX6_init_7 := dk_seg dksX6_init_6 24 rfl rfl
theorem dksX6_init_8 : cX6_init.data.toList.drop 190 = dktX6_init_8 := dk_seg dksX6_init_7 24 rfl rfl
theorem dksX6_init_9 : cX6_init.data.toList.drop 214 = dktX6_init_9 := dk_seg dksX6_init_8 24 rfl rfl
theorem dksX6_init_10 : cX6_init.data.toList.drop 238 = dktX6_init_10 := dk_seg dksX6_init_9 24 rfl rfl
theorem dksX6_init_11 : cX6_init.data.toList.drop 262 = dktX6_init_11 := dk_seg dksX6_init_10 24 rfl rfl
theorem dksX6_init_12 : cX6_init.data.toList.drop 286 = dktX6_init_12 := dk_seg dksX6_init_11 24 rfl rfl
theorem dksX6_init_13 : cX6_init.data.toList.drop 310 = dktX6_init_13 := dk_seg dksX6_init_12 24 rfl rfl
theorem dksX6_init_14 : cX6_init.data.toList.drop 334 = dktX6_init_14 := dk_seg dksX6_init_13 24 rfl rfl
theorem dksX6_init_15 : cX6_init.data.toList.drop 358 = dktX6_init_15 := dk_seg dksX6_init_14 24 rfl rfl
theorem dksX6_init_16 : cX6_init.data.toList.drop 382 = dktX6_init_16 := dk_seg dksX6_init_15 24 rfl rfl
theorem dksX6_init_17 : cX6_init.data.toList.drop 406 = dktX6_init_17 := dk_seg dksX6_init_16 24 rfl rfl
theorem dksX6_init_18 : cX6_init.data.toList.drop 430 = dktX6_init_18 := dk_seg dksX6_init_17 24 rfl rfl
theorem dksX6_init_19 : cX6_init.data.toList.drop 454 = dktX6_init_19 := dk_seg dksX6_init_18 24 rfl rfl
theorem dksX6_init_20 : cX6_init.data.toList.drop 478 = dktX6_init_20 := dk_seg dksX6_init_19 24 rfl rfl
theorem dksX6_init_21 : cX6_init.data.toList.drop 502 = dktX6_init_21 := dk_seg dksX6_init_20 24 rfl rfl
theorem dksX6_init_22 : cX6_init.data.toList.drop 526 = dktX6_init_22 := dk_seg dksX6_init_21 24 rfl rfl
theorem dksX6_init_23 : cX6_init.data.toList.drop 550 = dktX6_init_23 := dk_seg dksX6_init_22 24 rfl rfl
theorem dksX6_init_24 : cX6_init.data.toList.drop 574 = dktX6_init_24 := dk_seg dksX6_init_23 24 rfl rfl
theorem dksX6_init_25 : cX6_init.data.toList.drop 598 = dktX6_init_25 := dk_seg dksX6_init_24 24 rfl rfl
theorem dksX6_init_26 : cX6_init.data.toList.drop 622 = dktX6_init_26 := dk_seg dksX6_init_25 24 rfl rfl
theorem dksX6_init_27 : cX6_init.data.toList.drop 646 = dktX6_init_27 := dk_seg dksX6_init_26 24 rfl rfl
theorem dksX6_init_28 : cX6_init.data.toList.drop 670 = dktX6_init_28 := dk_seg dksX6_init_27 24 rfl rfl
theorem dksX6_init_29 : cX6_init.data.toList.drop 694 = dktX6_init_29 := dk_seg dksX6_init_28 24 rfl rfl
theorem dksX6_init_30 : cX6_init.data.toList.drop 718 = dktX6_init_30 := dk_seg dksX6_init_29 24 rfl rfl
theorem dksX6_init_31 : cX6_init.data.toList.drop 742 = dktX6_init_31 := dk_seg dksX6_init_30 24 rfl rfl
theorem dksX6_init_32 : cX6_init.data.toList.drop 766 = dktX6_init_32 := dk_seg dksX6_init_31 24 rfl rfl
theorem dksX6_init_33 : cX6_init.data.toList.drop 790 = dktX6_init_33 := dk_seg dksX6_init_32 24 rfl rfl
theorem dksX6_init_34 : cX6_init.data.toList.drop 814 = dktX6_init_34 := dk_seg dksX6_init_33 24 rfl rfl
theorem dksX6_init_35 : cX6_init.data.toList.drop 838 = dktX6_init_35 := dk_seg dksX6_init_34 24 rfl rfl
theorem dksX6_init_36 : cX6_init.data.toList.drop 860 = dktX6_init_36 := dk_seg dksX6_init_35 22 rfl rfl
theorem dksX6_init_37 : cX6_init.data.toList.drop 884 = dktX6_init_37 := dk_seg dksX6_init_36 24 rfl rfl
theorem dksX6_init_38 : cX6_init.data.toList.drop 908 = dktX6_init_38 := dk_seg dksX6_init_37 24 rfl rfl
theorem dksX6_init_39 : cX6_init.data.toList.drop 930 = dktX6_init_39 := dk_seg dksX6_init_38 22 rfl rfl
theorem dksX6_init_40 : cX6_init.data.toList.drop 954 = dktX6_init_40 := dk_seg dksX6_init_39 24 rfl rfl
theorem dksX6_init_41 : cX6_init.data.toList.drop 978 = dktX6_init_41 := dk_seg dksX6_init_40 24 rfl rfl
theorem dksX6_init_42 : cX6_init.data.toList.drop 1001 = dktX6_init_42 := dk_seg dksX6_init_41 23 rfl rfl
theorem dksX6_init_43 : cX6_init.data.toList.drop 1023 = dktX6_init_43 := dk_seg dksX6_init_42 22 rfl rfl
theorem dksX6_init_44 : cX6_init.data.toList.drop 1046 = dktX6_init_44 := dk_seg dksX6_init_43 23 rfl rfl
theorem dksX6_init_45 : cX6_init.data.toList.drop 1070 = dktX6_init_45 := dk_seg dksX6_init_44 24 rfl rfl
theorem dksX6_init_46 : cX6_init.data.toList.drop 1094 = dktX6_init_46 := dk_seg dksX6_init_45 24 rfl rfl
theorem dksX6_init_47 : cX6_init.data.toList.drop 1118 = dktX6_init_47 := dk_seg dksX6_init_46 24 rfl rfl
theorem dksX6_init_48 : cX6_init.data.toList.drop 1142 = dktX6_init_48 := dk_seg dksX6_init_47 24 rfl rfl
theorem dX6_init_0 : decode cX6_init 0 = .ok (.aload_n 0, 1) := dk_42 (dk_at dksX6_init_0 0 rfl rfl)
theorem dX6_init_1 : decode cX6_init 1 = .ok (.invokespecial 1, 3) := dk_183 0 1 (dk_at dksX6_init_0 1 rfl rfl)
theorem dX6_init_4 : decode cX6_init 4 = .ok (.aload_n 0, 1) := dk_42 (dk_at dksX6_init_0 4 rfl rfl)
theorem dX6_init_5 : decode cX6_init 5 = .ok (.bipush 121, 2) := dk_16 121 (dk_at dksX6_init_0 5 rfl rfl)
theorem dX6_init_7 : decode cX6_init 7 = .ok (.newarray .int, 2) := dk_188_10 (dk_at dksX6_init_0 7 rfl rfl)
theorem dX6_init_9 : decode cX6_init 9 = .ok (.putfield 7, 3) := dk_181 0 7 (dk_at dksX6_init_0 9 rfl rfl)
theorem dX6_init_12 : decode cX6_init 12 = .ok (.aload_n 0, 1) := dk_42 (dk_at dksX6_init_0 12 rfl rfl)
theorem dX6_init_13 : decode cX6_init 13 = .ok (.sipush 726, 3) := dk_17 2 214 (dk_at dksX6_init_0 13 rfl rfl)
theorem dX6_init_16 : decode cX6_init 16 = .ok (.newarray .int, 2) := dk_188_10 (dk_at dksX6_init_0 16 rfl rfl)
theorem dX6_init_18 : decode cX6_init 18 = .ok (.putfield 13, 3) := dk_181 0 13 (dk_at dksX6_init_0 18 rfl rfl)
theorem dX6_init_21 : decode cX6_init 21 = .ok (.aload_n 0, 1) := dk_42 (dk_at dksX6_init_0 21 rfl rfl)
theorem dX6_init_22 : decode cX6_init 22 = .ok (.bipush 121, 2) := dk_16 121 (dk_at dksX6_init_0 22 rfl rfl)
theorem dX6_init_24 : decode cX6_init 24 = .ok (.newarray .int, 2) := dk_188_10 (dk_at dksX6_init_1 0 rfl rfl)
theorem dX6_init_26 : decode cX6_init 26 = .ok (.putfield 16, 3) := dk_181 0 16 (dk_at dksX6_init_1 2 rfl rfl)
theorem dX6_init_29 : decode cX6_init 29 = .ok (.aload_n 0, 1) := dk_42 (dk_at dksX6_init_1 5 rfl rfl)
theorem dX6_init_30 : decode cX6_init 30 = .ok (.bipush 10, 2) := dk_16 10 (dk_at dksX6_init_1 6 rfl rfl)
theorem dX6_init_32 : decode cX6_init 32 = .ok (.newarray .int, 2) := dk_188_10 (dk_at dksX6_init_1 8 rfl rfl)
theorem dX6_init_34 : decode cX6_init 34 = .ok (.putfield 19, 3) := dk_181 0 19 (dk_at dksX6_init_1 10 rfl rfl)
theorem dX6_init_37 : decode cX6_init 37 = .ok (.aload_n 0, 1) := dk_42 (dk_at dksX6_init_1 13 rfl rfl)
theorem dX6_init_38 : decode cX6_init 38 = .ok (.bipush 10, 2) := dk_16 10 (dk_at dksX6_init_1 14 rfl rfl)
theorem dX6_init_40 : decode cX6_init 40 = .ok (.newarray .int, 2) := dk_188_10 (dk_at dksX6_init_1 16 rfl rfl)
theorem dX6_init_42 : decode cX6_init 42 = .ok (.putfield 22, 3) := dk_181 0 22 (dk_at dksX6_init_1 18 rfl rfl)
theorem dX6_init_45 : decode cX6_init 45 = .ok (.aload_n 0, 1) := dk_42 (dk_at dksX6_init_1 21 rfl rfl)
theorem dX6_init_46 : decode cX6_init 46 = .ok (.sipush 600, 3) := dk_17 2 88 (dk_at dksX6_init_2 0 rfl rfl)
theorem dX6_init_49 : decode cX6_init 49 = .ok (.newarray .int, 2) := dk_188_10 (dk_at dksX6_init_2 3 rfl rfl)
theorem dX6_init_51 : decode cX6_init 51 = .ok (.putfield 25, 3) := dk_181 0 25 (dk_at dksX6_init_2 5 rfl rfl)
theorem dX6_init_54 : decode cX6_init 54 = .ok (.aload_n 0, 1) := dk_42 (dk_at dksX6_init_2 8 rfl rfl)
theorem dX6_init_55 : decode cX6_init 55 = .ok (.sipush 400, 3) := dk_17 1 144 (dk_at dksX6_init_2 9 rfl rfl)
theorem dX6_init_58 : decode cX6_init 58 = .ok (.newarray .int, 2) := dk_188_10 (dk_at dksX6_init_2 12 rfl rfl)
theorem dX6_init_60 : decode cX6_init 60 = .ok (.putfield 28, 3) := dk_181 0 28 (dk_at dksX6_init_2 14 rfl rfl)
theorem dX6_init_63 : decode cX6_init 63 = .ok (.aload_n 0, 1) := dk_42 (dk_at dksX6_init_2 17 rfl rfl)
theorem dX6_init_64 : decode cX6_init 64 = .ok (.sipush 140, 3) := dk_17 0 140 (dk_at dksX6_init_2 18 rfl rfl)
theorem dX6_init_67 : decode cX6_init 67 = .ok (.newarray .int, 2) := dk_188_10 (dk_at dksX6_init_2 21 rfl rfl)
theorem dX6_init_69 : decode cX6_init 69 = .ok (.dup, 1) := dk_89 (dk_at dksX6_init_2 23 rfl rfl)
theorem dX6_init_70 : decode cX6_init 70 = .ok (.iconst 0, 1) := dk_3 (dk_at dksX6_init_3 0 rfl rfl)
theorem dX6_init_71 : decode cX6_init 71 = .ok (.bipush 32, 2) := dk_16 32 (dk_at dksX6_init_3 1 rfl rfl)
theorem dX6_init_73 : decode cX6_init 73 = .ok (.iastore, 1) := dk_79 (dk_at dksX6_init_3 3 rfl rfl)
theorem dX6_init_74 : decode cX6_init 74 = .ok (.dup, 1) := dk_89 (dk_at dksX6_init_3 4 rfl rfl)
theorem dX6_init_75 : decode cX6_init 75 = .ok (.iconst 1, 1) := dk_4 (dk_at dksX6_init_3 5 rfl rfl)
theorem dX6_init_76 : decode cX6_init 76 = .ok (.bipush 112, 2) := dk_16 112 (dk_at dksX6_init_3 6 rfl rfl)
theorem dX6_init_78 : decode cX6_init 78 = .ok (.iastore, 1) := dk_79 (dk_at dksX6_init_3 8 rfl rfl)
theorem dX6_init_79 : decode cX6_init 79 = .ok (.dup, 1) := dk_89 (dk_at dksX6_init_3 9 rfl rfl)
theorem dX6_init_80 : decode cX6_init 80 = .ok (.iconst 2, 1) := dk_5 (dk_at dksX6_init_3 10 rfl rfl)
theorem dX6_init_81 : decode cX6_init 81 = .ok (.bipush 97, 2) := dk_16 97 (dk_at dksX6_init_3 11 rfl rfl)
theorem dX6_init_83 : decode cX6_init 83 = .ok (.iastore, 1) := dk_79 (dk_at dksX6_init_3 13 rfl rfl)
theorem dX6_init_84 : decode cX6_init 84 = .ok (.dup, 1) := dk_89 (dk_at dksX6_init_3 14 rfl rfl)
theorem dX6_init_85 : decode cX6_init 85 = .ok (.iconst 3, 1) := dk_6 (dk_at dksX6_init_3 15 rfl rfl)
theorem dX6_init_86 : decode cX6_init 86 = .ok (.bipush 115, 2) := dk_16 115 (dk_at dksX6_init_3 16 rfl rfl)
theorem dX6_init_88 : decode cX6_init 88 = .ok (.iastore, 1) := dk_79 (dk_at dksX6_init_3 18 rfl rfl)
theorem dX6_init_89 : decode cX6_init 89 = .ok (.dup, 1) := dk_89 (dk_at dksX6_init_3 19 rfl rfl)
theorem dX6_init_90 : decode cX6_init 90 = .ok (.iconst 4, 1) := dk_7 (dk_at dksX6_init_3 20 rfl rfl)
theorem dX6_init_91 : decode cX6_init 91 = .ok (.bipush 115, 2) := dk_16 115 (dk_at dksX6_init_3 21 rfl rfl)
theorem dX6_init_93 : decode cX6_init 93 = .ok (.iastore, 1) := dk_79 (dk_at dksX6_init_3 23 rfl rfl)
theorem dX6_init_94 : decode cX6_init 94 = .ok (.dup, 1) := dk_89 (dk_at dksX6_init_4 0 rfl rfl)
theorem dX6_init_95 : decode cX6_init 95 = .ok (.iconst 5, 1) := dk_8 (dk_at dksX6_init_4 1 rfl rfl)
theorem dX6_init_96 : decode cX6_init 96 = .ok (.bipush 101, 2) := dk_16 101 (dk_at dksX6_init_4 2 rfl rfl)
theorem dX6_init_98 : decode cX6_init 98 = .ok (.iastore, 1) := dk_79 (dk_at dksX6_init_4 4 rfl rfl)
theorem dX6_init_99 : decode cX6_init 99 = .ok (.dup, 1) := dk_89 (dk_at dksX6_init_4 5 rfl rfl)
theorem dX6_init_100 : decode cX6_init 100 = .ok (.bipush 6, 2) := dk_16 6 (dk_at dksX6_init_4 6 rfl rfl)
theorem dX6_init_102 : decode cX6_init 102 = .ok (.bipush 115, 2) := dk_16 115 (dk_at dksX6_init_4 8 rfl rfl)
theorem dX6_init_104 : decode cX6_init 104 = .ok (.iastore, 1) := dk_79 (dk_at dksX6_init_4 10 rfl rfl)
theorem dX6_init_105 : decode cX6_init 105 = .ok (.dup, 1) := dk_89 (dk_at dksX6_init_4 11 rfl rfl)
theorem dX6_init_106 : decode cX6_init 106 = .ok (.bipush 7, 2) := dk_16 7 (dk_at dksX6_init_4 12 rfl rfl)
theorem dX6_init_108 : decode cX6_init 108 = .ok (.bipush 32, 2) := dk_16 32 (dk_at dksX6_init_4 14 rfl rfl)
theorem dX6_init_110 : decode cX6_init 110 = .ok (.iastore, 1) := dk_79 (dk_at dksX6_init_4 16 rfl rfl)
theorem dX6_init_111 : decode cX6_init 111 = .ok (.dup, 1) := dk_89 (dk_at dksX6_init_4 17 rfl rfl)
theorem dX6_init_112 : decode cX6_init 112 = .ok (.bipush 8, 2) := dk_16 8 (dk_at dksX6_init_4 18 rfl rfl)
theorem dX6_init_114 : decode cX6_init 114 = .ok (.bipush 104, 2) := dk_16 104 (dk_at dksX6_init_4 20 rfl rfl)
theorem dX6_init_116 : decode cX6_init 116 = .ok (.iastore, 1) := dk_79 (dk_at dksX6_init_4 22 rfl rfl)
theorem dX6_init_117 : decode cX6_init 117 = .ok (.dup, 1) := dk_89 (dk_at dksX6_init_4 23 rfl rfl)
theorem dX6_init_118 : decode cX6_init 118 = .ok (.bipush 9, 2) := dk_16 9 (dk_at dksX6_init_5 0 rfl rfl)
theorem dX6_init_120 : decode cX6_init 120 = .ok (.bipush 111, 2) := dk_16 111 (dk_at dksX6_init_5 2 rfl rfl)
theorem dX6_init_122 : decode cX6_init 122 = .ok (.iastore, 1) := dk_79 (dk_at dksX6_init_5 4 rfl rfl)
theorem dX6_init_123 : decode cX6_init 123 = .ok (.dup, 1) := dk_89 (dk_at dksX6_init_5 5 rfl rfl)
theorem dX6_init_124 : decode cX6_init 124 = .ok (.bipush 10, 2) := dk_16 10 (dk_at dksX6_init_5 6 rfl rfl)
theorem dX6_init_126 : decode cX6_init 126 = .ok (.bipush 108, 2) := dk_16 108 (dk_at dksX6_init_5 8 rfl rfl)
theorem dX6_init_128 : decode cX6_init 128 = .ok (.iastore, 1) := dk_79 (dk_at dksX6_init_5 10 rfl rfl)
theorem dX6_init_129 : decode cX6_init 129 = .ok (.dup, 1) := dk_89 (dk_at dksX6_init_5 11 rfl rfl)
theorem dX6_init_130 : decode cX6_init 130 = .ok (.bipush 11, 2) := dk_16 11 (dk_at dksX6_init_5 12 rfl rfl)
theorem dX6_init_132 : decode cX6_init 132 = .ok (.bipush 100, 2) := dk_16 100 (dk_at dksX6_init_5 14 rfl rfl)
theorem dX6_init_134 : decode cX6_init 134 = .ok (.iastore, 1) := dk_79 (dk_at dksX6_init_5 16 rfl rfl)
theorem dX6_init_135 : decode cX6_init 135 = .ok (.dup, 1) := dk_89 (dk_at dksX6_init_5 17 rfl rfl)
theorem dX6_init_136 : decode cX6_init 136 = .ok (.bipush 12, 2) := dk_16 12 (dk_at dksX6_init_5 18 rfl rfl)
theorem dX6_init_138 : decode cX6_init 138 = .ok (.bipush 115, 2) := dk_16 115 (dk_at dksX6_init_5 20 rfl rfl)
theorem dX6_init_140 : decode cX6_init 140 = .ok (.iastore, 1) := dk_79 (dk_at dksX6_init_5 22 rfl rfl)
theorem dX6_init_141 : decode cX6_init 141 = .ok (.dup, 1) := dk_89 (dk_at dksX6_init_5 23 rfl rfl)
theorem dX6_init_142 : decode cX6_init 142 = .ok (.bipush 13, 2) := dk_16 13 (dk_at dksX6_init_6 0 rfl rfl)
theorem dX6_init_144 : decode cX6_init 144 = .ok (.bipush 32, 2) := dk_16 32 (dk_at dksX6_init_6 2 rfl rfl)
theorem dX6_init_146 : decode cX6_init 146 = .ok (.iastore, 1) := dk_79 (dk_at dksX6_init_6 4 rfl rfl)
theorem dX6_init_147 : decode cX6_init 147 = .ok (.dup, 1) := dk_89 (dk_at dksX6_init_6 5 rfl rfl)
theorem dX6_init_148 : decode cX6_init 148 = .ok (.bipush 14, 2) := dk_16 14 (dk_at dksX6_init_6 6 rfl rfl)
theorem dX6_init_150 : decode cX6_init 150 = .ok (.bipush 97, 2) := dk_16 97 (dk_at dksX6_init_6 8 rfl rfl)
theorem dX6_init_152 : decode cX6_init 152 = .ok (.iastore, 1) := dk_79 (dk_at dksX6_init_6 10 rfl rfl)
theorem dX6_init_153 : decode cX6_init 153 = .ok (.dup, 1) := dk_89 (dk_at dksX6_init_6 11 rfl rfl)
theorem dX6_init_154 : decode cX6_init 154 = .ok (.bipush 15, 2) := dk_16 15 (dk_at dksX6_init_6 12 rfl rfl)
theorem dX6_init_156 : decode cX6_init 156 = .ok (.bipush 115, 2) := dk_16 115 (dk_at dksX6_init_6 14 rfl rfl)
theorem dX6_init_158 : decode cX6_init 158 = .ok (.iastore, 1) := dk_79 (dk_at dksX6_init_6 16 rfl rfl)
theorem dX6_init_159 : decode cX6_init 159 = .ok (.dup, 1) := dk_89 (dk_at dksX6_init_6 17 rfl rfl)
theorem dX6_init_160 : decode cX6_init 160 = .ok (.bipush 16, 2) := dk_16 16 (dk_at dksX6_init_6 18 rfl rfl)
theorem dX6_init_162 : decode cX6_init 162 = .ok (.bipush 107, 2) := dk_16 107 (dk_at dksX6_init_6 20 rfl rfl)
theorem dX6_init_164 : decode cX6_init 164 = .ok (.iastore, 1) := dk_79 (dk_at dksX6_init_6 22 rfl rfl)
theorem dX6_init_165 : decode cX6_init 165 = .ok (.dup, 1) := dk_89 (dk_at dksX6_init_6 23 rfl rfl)
theorem dX6_init_166 : decode cX6_init 166 = .ok (.bipush 17, 2) := dk_16 17 (dk_at dksX6_init_7 0 rfl rfl)
theorem dX6_init_168 : decode cX6_init 168 = .ok (.bipush 115, 2) := dk_16 115 (dk_at dksX6_init_7 2 rfl rfl)
theorem dX6_init_170 : decode cX6_init 170 = .ok (.iastore, 1) := dk_79 (dk_at dksX6_init_7 4 rfl rfl)
theorem dX6_init_171 : decode cX6_init 171 = .ok (.dup, 1) := dk_89 (dk_at dksX6_init_7 5 rfl rfl)
theorem dX6_init_172 : decode cX6_init 172 = .ok (.bipush 18, 2) := dk_16 18 (dk_at dksX6_init_7 6 rfl rfl)
theorem dX6_init_174 : decode cX6_init 174 = .ok (.bipush 32, 2) := dk_16 32 (dk_at dksX6_init_7 8 rfl rfl)
theorem dX6_init_176 : decode cX6_init 176 = .ok (.iastore, 1) := dk_79 (dk_at dksX6_init_7 10 rfl rfl)
theorem dX6_init_177 : decode cX6_init 177 = .ok (.dup, 1) := dk_89 (dk_at dksX6_init_7 11 rfl rfl)
theorem dX6_init_178 : decode cX6_init 178 = .ok (.bipush 19, 2) := dk_16 19 (dk_at dksX6_init_7 12 rfl rfl)
theorem dX6_init_180 : decode cX6_init 180 = .ok (.bipush 119, 2) := dk_16 119 (dk_at dksX6_init_7 14 rfl rfl)
theorem dX6_init_182 : decode cX6_init 182 = .ok (.iastore, 1) := dk_79 (dk_at dksX6_init_7 16 rfl rfl)
theorem dX6_init_183 : decode cX6_init 183 = .ok (.dup, 1) := dk_89 (dk_at dksX6_init_7 17 rfl rfl)
theorem dX6_init_184 : decode cX6_init 184 = .ok (.bipush 20, 2) := dk_16 20 (dk_at dksX6_init_7 18 rfl rfl)
theorem dX6_init_186 : decode cX6_init 186 = .ok (.bipush 104, 2) := dk_16 104 (dk_at dksX6_init_7 20 rfl rfl)
theorem dX6_init_188 : decode cX6_init 188 = .ok (.iastore, 1) := dk_79 (dk_at dksX6_init_7 22 rfl rfl)
theorem dX6_init_189 : decode cX6_init 189 = .ok (.dup, 1) := dk_89 (dk_at dksX6_init_7 23 rfl rfl)
theorem dX6_init_190 : decode cX6_init 190 = .ok (.bipush 21, 2) := dk_16 21 (dk_at dksX6_init_8 0 rfl rfl)
theorem dX6_init_192 : decode cX6_init 192 = .ok (.bipush 101, 2) := dk_16 101 (dk_at dksX6_init_8 2 rfl rfl)
theorem dX6_init_194 : decode cX6_init 194 = .ok (.iastore, 1) := dk_79 (dk_at dksX6_init_8 4 rfl rfl)
theorem dX6_init_195 : decode cX6_init 195 = .ok (.dup, 1) := dk_89 (dk_at dksX6_init_8 5 rfl rfl)
theorem dX6_init_196 : decode cX6_init 196 = .ok (.bipush 22, 2) := dk_16 22 (dk_at dksX6_init_8 6 rfl rfl)
theorem dX6_init_198 : decode cX6_init 198 = .ok (.bipush 110, 2) := dk_16 110 (dk_at dksX6_init_8 8 rfl rfl)
theorem dX6_init_200 : decode cX6_init 200 = .ok (.iastore, 1) := dk_79 (dk_at dksX6_init_8 10 rfl rfl)
theorem dX6_init_201 : decode cX6_init 201 = .ok (.dup, 1) := dk_89 (dk_at dksX6_init_8 11 rfl rfl)
theorem dX6_init_202 : decode cX6_init 202 = .ok (.bipush 23, 2) := dk_16 23 (dk_at dksX6_init_8 12 rfl rfl)
theorem dX6_init_204 : decode cX6_init 204 = .ok (.bipush 32, 2) := dk_16 32 (dk_at dksX6_init_8 14 rfl rfl)
theorem dX6_init_206 : decode cX6_init 206 = .ok (.iastore, 1) := dk_79 (dk_at dksX6_init_8 16 rfl rfl)
theorem dX6_init_207 : decode cX6_init 207 = .ok (.dup, 1) := dk_89 (dk_at dksX6_init_8 17 rfl rfl)
theorem dX6_init_208 : decode cX6_init 208 = .ok (.bipush 24, 2) := dk_16 24 (dk_at dksX6_init_8 18 rfl rfl)
theorem dX6_init_210 : decode cX6_init 210 = .ok (.bipush 111, 2) := dk_16 111 (dk_at dksX6_init_8 20 rfl rfl)
theorem dX6_init_212 : decode cX6_init 212 = .ok (.iastore, 1) := dk_79 (dk_at dksX6_init_8 22 rfl rfl)
theorem dX6_init_213 : decode cX6_init 213 = .ok (.dup, 1) := dk_89 (dk_at dksX6_init_8 23 rfl rfl)
theorem dX6_init_214 : decode cX6_init 214 = .ok (.bipush 25, 2) := dk_16 25 (dk_at dksX6_init_9 0 rfl rfl)
theorem dX6_init_216 : decode cX6_init 216 = .ok (.bipush 114, 2) := dk_16 114 (dk_at dksX6_init_9 2 rfl rfl)
theorem dX6_init_218 : decode cX6_init 218 = .ok (.iastore, 1) := dk_79 (dk_at dksX6_init_9 4 rfl rfl)
theorem dX6_init_219 : decode cX6_init 219 = .ok (.dup, 1) := dk_89 (dk_at dksX6_init_9 5 rfl rfl)
theorem dX6_init_220 : decode cX6_init 220 = .ok (.bipush 26, 2) := dk_16 26 (dk_at dksX6_init_9 6 rfl rfl)
theorem dX6_init_222 : decode cX6_init 222 = .ok (.bipush 32, 2) := dk_16 32 (dk_at dksX6_init_9 8 rfl rfl)
theorem dX6_init_224 : decode cX6_init 224 = .ok (.iastore, 1) := dk_79 (dk_at dksX6_init_9 10 rfl rfl)
theorem dX6_init_225 : decode cX6_init 225 = .ok (.dup, 1) := dk_89 (dk_at dksX6_init_9 11 rfl rfl)
theorem dX6_init_226 : decode cX6_init 226 = .ok (.bipush 27, 2) := dk_16 27 (dk_at dksX6_init_9 12 rfl rfl)
theorem dX6_init_228 : decode cX6_init 228 = .ok (.bipush 97, 2) := dk_16 97 (dk_at dksX6_init_9 14 rfl rfl)
theorem dX6_init_230 : decode cX6_init 230 = .ok (.iastore, 1) := dk_79 (dk_at dksX6_init_9 16 rfl rfl)
theorem dX6_init_231 : decode cX6_init 231 = .ok (.dup, 1) := dk_89 (dk_at dksX6_init_9 17 rfl rfl)
theorem dX6_init_232 : decode cX6_init 232 = .ok (.bipush 28, 2) := dk_16 28 (dk_at dksX6_init_9 18 rfl rfl)
theorem dX6_init_234 : decode cX6_init 234 = .ok (.bipush 110, 2) := dk_16 110 (dk_at dksX6_init_9 20 rfl rfl)
theorem dX6_init_236 : decode cX6_init 236 = .ok (.iastore, 1) := dk_79 (dk_at dksX6_init_9 22 rfl rfl)
theorem dX6_init_237 : decode cX6_init 237 = .ok (.dup, 1) := dk_89 (dk_at dksX6_init_9 23 rfl rfl)
theorem dX6_init_238 : decode cX6_init 238 = .ok (.bipush 29, 2) := dk_16 29 (dk_at dksX6_init_10 0 rfl rfl)
theorem dX6_init_240 : decode cX6_init 240 = .ok (.bipush 100, 2) := dk_16 100 (dk_at dksX6_init_10 2 rfl rfl)
theorem dX6_init_242 : decode cX6_init 242 = .ok (.iastore, 1) := dk_79 (dk_at dksX6_init_10 4 rfl rfl)
theorem dX6_init_243 : decode cX6_init 243 = .ok (.dup, 1) := dk_89 (dk_at dksX6_init_10 5 rfl rfl)
theorem dX6_init_244 : decode cX6_init 244 = .ok (.bipush 30, 2) := dk_16 30 (dk_at dksX6_init_10 6 rfl rfl)
theorem dX6_init_246 : decode cX6_init 246 = .ok (.bipush 32, 2) := dk_16 32 (dk_at dksX6_init_10 8 rfl rfl)
theorem dX6_init_248 : decode cX6_init 248 = .ok (.iastore, 1) := dk_79 (dk_at dksX6_init_10 10 rfl rfl)
theorem dX6_init_249 : decode cX6_init 249 = .ok (.dup, 1) := dk_89 (dk_at dksX6_init_10 11 rfl rfl)
theorem dX6_init_250 : decode cX6_init 250 = .ok (.bipush 31, 2) := dk_16 31 (dk_at dksX6_init_10 12 rfl rfl)
theorem dX6_init_252 : decode cX6_init 252 = .ok (.bipush 110, 2) := dk_16 110 (dk_at dksX6_init_10 14 rfl rfl)
theorem dX6_init_254 : decode cX6_init 254 = .ok (.iastore, 1) := dk_79 (dk_at dksX6_init_10 16 rfl rfl)
theorem dX6_init_255 : decode cX6_init 255 = .ok (.dup, 1) := dk_89 (dk_at dksX6_init_10 17 rfl rfl)
theorem dX6_init_256 : decode cX6_init 256 = .ok (.bipush 32, 2) := dk_16 32 (dk_at dksX6_init_10 18 rfl rfl)
theorem dX6_init_258 : decode cX6_init 258 = .ok (.bipush 111, 2) := dk_16 111 (dk_at dksX6_init_10 20 rfl rfl)
theorem dX6_init_260 : decode cX6_init 260 = .ok (.iastore, 1) := dk_79 (dk_at dksX6_init_10 22 rfl rfl)
theorem dX6_init_261 : decode cX6_init 261 = .ok (.dup, 1) := dk_89 (dk_at dksX6_init_10 23 rfl rfl)
theorem dX6_init_262 : decode cX6_init 262 = .ok (.bipush 33, 2) := dk_16 33 (dk_at dksX6_init_11 0 rfl rfl)
theorem dX6_init_264 : decode cX6_init 264 = .ok (.bipush 116, 2) := dk_16 116 (dk_at dksX6_init_11 2 rfl rfl)
theorem dX6_init_266 : decode cX6_init 266 = .ok (.iastore, 1) := dk_79 (dk_at dksX6_init_11 4 rfl rfl)
theorem dX6_init_267 : decode cX6_init 267 = .ok (.dup, 1) := dk_89 (dk_at dksX6_init_11 5 rfl rfl)
theorem dX6_init_268 : decode cX6_init 268 = .ok (.bipush 34, 2) := dk_16 34 (dk_at dksX6_init_11 6 rfl rfl)
theorem dX6_init_270 : decode cX6_init 270 = .ok (.bipush 32, 2) := dk_16 32 (dk_at dksX6_init_11 8 rfl rfl)
theorem dX6_init_272 : decode cX6_init 272 = .ok (.iastore, 1) := dk_79 (dk_at dksX6_init_11 10 rfl rfl)
theorem dX6_init_273 : decode cX6_init 273 = .ok (.dup, 1) := dk_89 (dk_at dksX6_init_11 11 rfl rfl)
theorem dX6_init_274 : decode cX6_init 274 = .ok (.bipush 35, 2) := dk_16 35 (dk_at dksX6_init_11 12 rfl rfl)
theorem dX6_init_276 : decode cX6_init 276 = .ok (.bipush 116, 2) := dk_16 116 (dk_at dksX6_init_11 14 rfl rfl)
theorem dX6_init_278 : decode cX6_init 278 = .ok (.iastore, 1) := dk_79 (dk_at dksX6_init_11 16 rfl rfl)
theorem dX6_init_279 : decode cX6_init 279 = .ok (.dup, 1) := dk_89 (dk_at dksX6_init_11 17 rfl rfl)
theorem dX6_init_280 : decode cX6_init 280 = .ok (.bipush 36, 2) := dk_16 36 (dk_at dksX6_init_11 18 rfl rfl)
theorem dX6_init_282 : decode cX6_init 282 = .ok (.bipush 114, 2) := dk_16 114 (dk_at dksX6_init_11 20 rfl rfl)
theorem dX6_init_284 : decode cX6_init 284 = .ok (.iastore, 1) := dk_79 (dk_at dksX6_init_11 22 rfl rfl)
theorem dX6_init_285 : decode cX6_init 285 = .ok (.dup, 1) := dk_89 (dk_at dksX6_init_11 23 rfl rfl)
theorem dX6_init_286 : decode cX6_init 286 = .ok (.bipush 37, 2) := dk_16 37 (dk_at dksX6_init_12 0 rfl rfl)
theorem dX6_init_288 : decode cX6_init 288 = .ok (.bipush 97, 2) := dk_16 97 (dk_at dksX6_init_12 2 rfl rfl)
theorem dX6_init_290 : decode cX6_init 290 = .ok (.iastore, 1) := dk_79 (dk_at dksX6_init_12 4 rfl rfl)
theorem dX6_init_291 : decode cX6_init 291 = .ok (.dup, 1) := dk_89 (dk_at dksX6_init_12 5 rfl rfl)
theorem dX6_init_292 : decode cX6_init 292 = .ok (.bipush 38, 2) := dk_16 38 (dk_at dksX6_init_12 6 rfl rfl)
theorem dX6_init_294 : decode cX6_init 294 = .ok (.bipush 105, 2) := dk_16 105 (dk_at dksX6_init_12 8 rfl rfl)
theorem dX6_init_296 : decode cX6_init 296 = .ok (.iastore, 1) := dk_79 (dk_at dksX6_init_12 10 rfl rfl)
theorem dX6_init_297 : decode cX6_init 297 = .ok (.dup, 1) := dk_89 (dk_at dksX6_init_12 11 rfl rfl)
theorem dX6_init_298 : decode cX6_init 298 = .ok (.bipush 39, 2) := dk_16 39 (dk_at dksX6_init_12 12 rfl rfl)
theorem dX6_init_300 : decode cX6_init 300 = .ok (.bipush 116, 2) := dk_16 116 (dk_at dksX6_init_12 14 rfl rfl)
theorem dX6_init_302 : decode cX6_init 302 = .ok (.iastore, 1) := dk_79 (dk_at dksX6_init_12 16 rfl rfl)
theorem dX6_init_303 : decode cX6_init 303 = .ok (.dup, 1) := dk_89 (dk_at dksX6_init_12 17 rfl rfl)
theorem dX6_init_304 : decode cX6_init 304 = .ok (.bipush 40, 2) := dk_16 40 (dk_at dksX6_init_12 18 rfl rfl)
theorem dX6_init_306 : decode cX6_init 306 = .ok (.bipush 32, 2) := dk_16 32 (dk_at dksX6_init_12 20 rfl rfl)
theorem dX6_init_308 : decode cX6_init 308 = .ok (.iastore, 1) := dk_79 (dk_at dksX6_init_12 22 rfl rfl)
theorem dX6_init_309 : decode cX6_init 309 = .ok (.dup, 1) := dk_89 (dk_at dksX6_init_12 23 rfl rfl)
theorem dX6_init_310 : decode cX6_init 310 = .ok (.bipush 41, 2) := dk_16 41 (dk_at dksX6_init_13 0 rfl rfl)
theorem dX6_init_312 : decode cX6_init 312 = .ok (.bipush 111, 2) := dk_16 111 (dk_at dksX6_init_13 2 rfl rfl)
theorem dX6_init_314 : decode cX6_init 314 = .ok (.iastore, 1) := dk_79 (dk_at dksX6_init_13 4 rfl rfl)
theorem dX6_init_315 : decode cX6_init 315 = .ok (.dup, 1) := dk_89 (dk_at dksX6_init_13 5 rfl rfl)
theorem dX6_init_316 : decode cX6_init 316 = .ok (.bipush 42, 2) := dk_16 42 (dk_at dksX6_init_13 6 rfl rfl)
theorem dX6_init_318 : decode cX6_init 318 = .ok (.bipush 119, 2) := dk_16 119 (dk_at dksX6_init_13 8 rfl rfl)
theorem dX6_init_320 : decode cX6_init 320 = .ok (.iastore, 1) := dk_79 (dk_at dksX6_init_13 10 rfl rfl)
theorem dX6_init_321 : decode cX6_init 321 = .ok (.dup, 1) := dk_89 (dk_at dksX6_init_13 11 rfl rfl)
theorem dX6_init_322 : decode cX6_init 322 = .ok (.bipush 43, 2) := dk_16 43 (dk_at dksX6_init_13 12 rfl rfl)
theorem dX6_init_324 : decode cX6_init 324 = .ok (.bipush 110, 2) := dk_16 110 (dk_at dksX6_init_13 14 rfl rfl)
theorem dX6_init_326 : decode cX6_init 326 = .ok (.iastore, 1) := dk_79 (dk_at dksX6_init_13 16 rfl rfl)
theorem dX6_init_327 : decode cX6_init 327 = .ok (.dup, 1) := dk_89 (dk_at dksX6_init_13 17 rfl rfl)
theorem dX6_init_328 : decode cX6_init 328 = .ok (.bipush 44, 2) := dk_16 44 (dk_at dksX6_init_13 18 rfl rfl)
theorem dX6_init_330 : decode cX6_init 330 = .ok (.bipush 32, 2) := dk_16 32 (dk_at dksX6_init_13 20 rfl rfl)
theorem dX6_init_332 : decode cX6_init 332 = .ok (.iastore, 1) := dk_79 (dk_at dksX6_init_13 22 rfl rfl)
theorem dX6_init_333 : decode cX6_init 333 = .ok (.dup, 1) := dk_89 (dk_at dksX6_init_13 23 rfl rfl)
theorem dX6_init_334 : decode cX6_init 334 = .ok (.bipush 45, 2) := dk_16 45 (dk_at dksX6_init_14 0 rfl rfl)
theorem dX6_init_336 : decode cX6_init 336 = .ok (.bipush 111, 2) := dk_16 111 (dk_at dksX6_init_14 2 rfl rfl)
theorem dX6_init_338 : decode cX6_init 338 = .ok (.iastore, 1) := dk_79 (dk_at dksX6_init_14 4 rfl rfl)
theorem dX6_init_339 : decode cX6_init 339 = .ok (.dup, 1) := dk_89 (dk_at dksX6_init_14 5 rfl rfl)
theorem dX6_init_340 : decode cX6_init 340 = .ok (.bipush 46, 2) := dk_16 46 (dk_at dksX6_init_14 6 rfl rfl)
theorem dX6_init_342 : decode cX6_init 342 = .ok (.bipush 116, 2) := dk_16 116 (dk_at dksX6_init_14 8 rfl rfl)
theorem dX6_init_344 : decode cX6_init 344 = .ok (.iastore, 1) := dk_79 (dk_at dksX6_init_14 10 rfl rfl)
theorem dX6_init_345 : decode cX6_init 345 = .ok (.dup, 1) := dk_89 (dk_at dksX6_init_14 11 rfl rfl)
theorem dX6_init_346 : decode cX6_init 346 = .ok (.bipush 47, 2) := dk_16 47 (dk_at dksX6_init_14 12 rfl rfl)
theorem dX6_init_348 : decode cX6_init 348 = .ok (.bipush 104, 2) := dk_16 104 (dk_at dksX6_init_14 14 rfl rfl)
theorem dX6_init_350 : decode cX6_init 350 = .ok (.iastore, 1) := dk_79 (dk_at dksX6_init_14 16 rfl rfl)
theorem dX6_init_351 : decode cX6_init 351 = .ok (.dup, 1) := dk_89 (dk_at dksX6_init_14 17 rfl rfl)
theorem dX6_init_352 : decode cX6_init 352 = .ok (.bipush 48, 2) := dk_16 48 (dk_at dksX6_init_14 18 rfl rfl)
theorem dX6_init_354 : decode cX6_init 354 = .ok (.bipush 101, 2) := dk_16 101 (dk_at dksX6_init_14 20 rfl rfl)
theorem dX6_init_356 : decode cX6_init 356 = .ok (.iastore, 1) := dk_79 (dk_at dksX6_init_14 22 rfl rfl)
theorem dX6_init_357 : decode cX6_init 357 = .ok (.dup, 1) := dk_89 (dk_at dksX6_init_14 23 rfl rfl)
theorem dX6_init_358 : decode cX6_init 358 = .ok (.bipush 49, 2) := dk_16 49 (dk_at dksX6_init_15 0 rfl rfl)
theorem dX6_init_360 : decode cX6_init 360 = .ok (.bipush 114, 2) := dk_16 114 (dk_at dksX6_init_15 2 rfl rfl)
theorem dX6_init_362 : decode cX6_init 362 = .ok (.iastore, 1) := dk_79 (dk_at dksX6_init_15 4 rfl rfl)
theorem dX6_init_363 : decode cX6_init 363 = .ok (.dup, 1) := dk_89 (dk_at dksX6_init_15 5 rfl rfl)
theorem dX6_init_364 : decode cX6_init 364 = .ok (.bipush 50, 2) := dk_16 50 (dk_at dksX6_init_15 6 rfl rfl)
theorem dX6_init_366 : decode cX6_init 366 = .ok (.bipush 32, 2) := dk_16 32 (dk_at dksX6_init_15 8 rfl rfl)
theorem dX6_init_368 : decode cX6_init 368 = .ok (.iastore, 1) := dk_79 (dk_at dksX6_init_15 10 rfl rfl)
theorem dX6_init_369 : decode cX6_init 369 = .ok (.dup, 1) := dk_89 (dk_at dksX6_init_15 11 rfl rfl)
theorem dX6_init_370 : decode cX6_init 370 = .ok (.bipush 51, 2) := dk_16 51 (dk_at dksX6_init_15 12 rfl rfl)
theorem dX6_init_372 : decode cX6_init 372 = .ok (.bipush 103, 2) := dk_16 103 (dk_at dksX6_init_15 14 rfl rfl)
theorem dX6_init_374 : decode cX6_init 374 = .ok (.iastore, 1) := dk_79 (dk_at dksX6_init_15 16 rfl rfl)
theorem dX6_init_375 : decode cX6_init 375 = .ok (.dup, 1) := dk_89 (dk_at dksX6_init_15 17 rfl rfl)
theorem dX6_init_376 : decode cX6_init 376 = .ok (.bipush 52, 2) := dk_16 52 (dk_at dksX6_init_15 18 rfl rfl)
theorem dX6_init_378 : decode cX6_init 378 = .ok (.bipush 114, 2) := dk_16 114 (dk_at dksX6_init_15 20 rfl rfl)
theorem dX6_init_380 : decode cX6_init 380 = .ok (.iastore, 1) := dk_79 (dk_at dksX6_init_15 22 rfl rfl)
theorem dX6_init_381 : decode cX6_init 381 = .ok (.dup, 1) := dk_89 (dk_at dksX6_init_15 23 rfl rfl)
theorem dX6_init_382 : decode cX6_init 382 = .ok (.bipush 53, 2) := dk_16 53 (dk_at dksX6_init_16 0 rfl rfl)
theorem dX6_init_384 : decode cX6_init 384 = .ok (.bipush 105, 2) := dk_16 105 (dk_at dksX6_init_16 2 rfl rfl)
theorem dX6_init_386 : decode cX6_init 386 = .ok (.iastore, 1) := dk_79 (dk_at dksX6_init_16 4 rfl rfl)
theorem dX6_init_387 : decode cX6_init 387 = .ok (.dup, 1) := dk_89 (dk_at dksX6_init_16 5 rfl rfl)
theorem dX6_init_388 : decode cX6_init 388 = .ok (.bipush 54, 2) := dk_16 54 (dk_at dksX6_init_16 6 rfl rfl)
theorem dX6_init_390 : decode cX6_init 390 = .ok (.bipush 112, 2) := dk_16 112 (dk_at dksX6_init_16 8 rfl rfl)
theorem dX6_init_392 : decode cX6_init 392 = .ok (.iastore, 1) := dk_79 (dk_at dksX6_init_16 10 rfl rfl)
theorem dX6_init_393 : decode cX6_init 393 = .ok (.dup, 1) := dk_89 (dk_at dksX6_init_16 11 rfl rfl)
theorem dX6_init_394 : decode cX6_init 394 = .ok (.bipush 55, 2) := dk_16 55 (dk_at dksX6_init_16 12 rfl rfl)
theorem dX6_init_396 : decode cX6_init 396 = .ok (.bipush 32, 2) := dk_16 32 (dk_at dksX6_init_16 14 rfl rfl)
theorem dX6_init_398 : decode cX6_init 398 = .ok (.iastore, 1) := dk_79 (dk_at dksX6_init_16 16 rfl rfl)
theorem dX6_init_399 : decode cX6_init 399 = .ok (.dup, 1) := dk_89 (dk_at dksX6_init_16 17 rfl rfl)
theorem dX6_init_400 : decode cX6_init 400 = .ok (.bipush 56, 2) := dk_16 56 (dk_at dksX6_init_16 18 rfl rfl)
theorem dX6_init_402 : decode cX6_init 402 = .ok (.bipush 112, 2) := dk_16 112 (dk_at dksX6_init_16 20 rfl rfl)
theorem dX6_init_404 : decode cX6_init 404 = .ok (.iastore, 1) := dk_79 (dk_at dksX6_init_16 22 rfl rfl)
theorem dX6_init_405 : decode cX6_init 405 = .ok (.dup, 1) := dk_89 (dk_at dksX6_init_16 23 rfl rfl)
theorem dX6_init_406 : decode cX6_init 406 = .ok (.bipush 57, 2) := dk_16 57 (dk_at dksX6_init_17 0 rfl rfl)
theorem dX6_init_408 : decode cX6_init 408 = .ok (.bipush 114, 2) := dk_16 114 (dk_at dksX6_init_17 2 rfl rfl)
theorem dX6_init_410 : decode cX6_init 410 = .ok (.iastore, 1) := dk_79 (dk_at dksX6_init_17 4 rfl rfl)
theorem dX6_init_411 : decode cX6_init 411 = .ok (.dup, 1) := dk_89 (dk_at dksX6_init_17 5 rfl rfl)
theorem dX6_init_412 : decode cX6_init 412 = .ok (.bipush 58, 2) := dk_16 58 (dk_at dksX6_init_17 6 rfl rfl)
theorem dX6_init_414 : decode cX6_init 414 = .ok (.bipush 105, 2) := dk_16 105 (dk_at dksX6_init_17 8 rfl rfl)
theorem dX6_init_416 : decode cX6_init 416 = .ok (.iastore, 1) := dk_79 (dk_at dksX6_init_17 10 rfl rfl)
theorem dX6_init_417 : decode cX6_init 417 = .ok (.dup, 1) := dk_89 (dk_at dksX6_init_17 11 rfl rfl)
theorem dX6_init_418 : decode cX6_init 418 = .ok (.bipush 59, 2) := dk_16 59 (dk_at dksX6_init_17 12 rfl rfl)
theorem dX6_init_420 : decode cX6_init 420 = .ok (.bipush 99, 2) := dk_16 99 (dk_at dksX6_init_17 14 rfl rfl)
theorem dX6_init_422 : decode cX6_init 422 = .ok (.iastore, 1) := dk_79 (dk_at dksX6_init_17 16 rfl rfl)
theorem dX6_init_423 : decode cX6_init 423 = .ok (.dup, 1) := dk_89 (dk_at dksX6_init_17 17 rfl rfl)
theorem dX6_init_424 : decode cX6_init 424 = .ok (.bipush 60, 2) := dk_16 60 (dk_at dksX6_init_17 18 rfl rfl)
theorem dX6_init_426 : decode cX6_init 426 = .ok (.bipush 101, 2) := dk_16 101 (dk_at dksX6_init_17 20 rfl rfl)
theorem dX6_init_428 : decode cX6_init 428 = .ok (.iastore, 1) := dk_79 (dk_at dksX6_init_17 22 rfl rfl)
theorem dX6_init_429 : decode cX6_init 429 = .ok (.dup, 1) := dk_89 (dk_at dksX6_init_17 23 rfl rfl)
theorem dX6_init_430 : decode cX6_init 430 = .ok (.bipush 61, 2) := dk_16 61 (dk_at dksX6_init_18 0 rfl rfl)
theorem dX6_init_432 : decode cX6_init 432 = .ok (.bipush 32, 2) := dk_16 32 (dk_at dksX6_init_18 2 rfl rfl)
theorem dX6_init_434 : decode cX6_init 434 = .ok (.iastore, 1) := dk_79 (dk_at dksX6_init_18 4 rfl rfl)
theorem dX6_init_435 : decode cX6_init 435 = .ok (.dup, 1) := dk_89 (dk_at dksX6_init_18 5 rfl rfl)
theorem dX6_init_436 : decode cX6_init 436 = .ok (.bipush 62, 2) := dk_16 62 (dk_at dksX6_init_18 6 rfl rfl)
theorem dX6_init_438 : decode cX6_init 438 = .ok (.bipush 119, 2) := dk_16 119 (dk_at dksX6_init_18 8 rfl rfl)
theorem dX6_init_440 : decode cX6_init 440 = .ok (.iastore, 1) := dk_79 (dk_at dksX6_init_18 10 rfl rfl)
theorem dX6_init_441 : decode cX6_init 441 = .ok (.dup, 1) := dk_89 (dk_at dksX6_init_18 11 rfl rfl)
theorem dX6_init_442 : decode cX6_init 442 = .ok (.bipush 63, 2) := dk_16 63 (dk_at dksX6_init_18 12 rfl rfl)
theorem dX6_init_444 : decode cX6_init 444 = .ok (.bipush 111, 2) := dk_16 111 (dk_at dksX6_init_18 14 rfl rfl)
theorem dX6_init_446 : decode cX6_init 446 = .ok (.iastore, 1) := dk_79 (dk_at dksX6_init_18 16 rfl rfl)
theorem dX6_init_447 : decode cX6_init 447 = .ok (.dup, 1) := dk_89 (dk_at dksX6_init_18 17 rfl rfl)
theorem dX6_init_448 : decode cX6_init 448 = .ok (.bipush 64, 2) := dk_16 64 (dk_at dksX6_init_18 18 rfl rfl)
theorem dX6_init_450 : decode cX6_init 450 = .ok (.bipush 114, 2) := dk_16 114 (dk_at dksX6_init_18 20 rfl rfl)
theorem dX6_init_452 : decode cX6_init 452 = .ok (.iastore, 1) := dk_79 (dk_at dksX6_init_18 22 rfl rfl)
theorem dX6_init_453 : decode cX6_init 453 = .ok (.dup, 1) := dk_89 (dk_at dksX6_init_18 23 rfl rfl)
theorem dX6_init_454 : decode cX6_init 454 = .ok (.bipush 65, 2) := dk_16 65 (dk_at dksX6_init_19 0 rfl rfl)
theorem dX6_init_456 : decode cX6_init 456 = .ok (.bipush 116, 2) := dk_16 116 (dk_at dksX6_init_19 2 rfl rfl)
theorem dX6_init_458 : decode cX6_init 458 = .ok (.iastore, 1) := dk_79 (dk_at dksX6_init_19 4 rfl rfl)
theorem dX6_init_459 : decode cX6_init 459 = .ok (.dup, 1) := dk_89 (dk_at dksX6_init_19 5 rfl rfl)
theorem dX6_init_460 : decode cX6_init 460 = .ok (.bipush 66, 2) := dk_16 66 (dk_at dksX6_init_19 6 rfl rfl)
theorem dX6_init_462 : decode cX6_init 462 = .ok (.bipush 104, 2) := dk_16 104 (dk_at dksX6_init_19 8 rfl rfl)
theorem dX6_init_464 : decode cX6_init 464 = .ok (.iastore, 1) := dk_79 (dk_at dksX6_init_19 10 rfl rfl)
theorem dX6_init_465 : decode cX6_init 465 = .ok (.dup, 1) := dk_89 (dk_at dksX6_init_19 11 rfl rfl)
theorem dX6_init_466 : decode cX6_init 466 = .ok (.bipush 67, 2) := dk_16 67 (dk_at dksX6_init_19 12 rfl rfl)
theorem dX6_init_468 : decode cX6_init 468 = .ok (.bipush 32, 2) := dk_16 32 (dk_at dksX6_init_19 14 rfl rfl)
theorem dX6_init_470 : decode cX6_init 470 = .ok (.iastore, 1) := dk_79 (dk_at dksX6_init_19 16 rfl rfl)
theorem dX6_init_471 : decode cX6_init 471 = .ok (.dup, 1) := dk_89 (dk_at dksX6_init_19 17 rfl rfl)
theorem dX6_init_472 : decode cX6_init 472 = .ok (.bipush 68, 2) := dk_16 68 (dk_at dksX6_init_19 18 rfl rfl)
theorem dX6_init_474 : decode cX6_init 474 = .ok (.bipush 115, 2) := dk_16 115 (dk_at dksX6_init_19 20 rfl rfl)
theorem dX6_init_476 : decode cX6_init 476 = .ok (.iastore, 1) := dk_79 (dk_at dksX6_init_19 22 rfl rfl)
theorem dX6_init_477 : decode cX6_init 477 = .ok (.dup, 1) := dk_89 (dk_at dksX6_init_19 23 rfl rfl)
theorem dX6_init_478 : decode cX6_init 478 = .ok (.bipush 69, 2) := dk_16 69 (dk_at dksX6_init_20 0 rfl rfl)
theorem dX6_init_480 : decode cX6_init 480 = .ok (.bipush 112, 2) := dk_16 112 (dk_at dksX6_init_20 2 rfl rfl)
theorem dX6_init_482 : decode cX6_init 482 = .ok (.iastore, 1) := dk_79 (dk_at dksX6_init_20 4 rfl rfl)
theorem dX6_init_483 : decode cX6_init 483 = .ok (.dup, 1) := dk_89 (dk_at dksX6_init_20 5 rfl rfl)
theorem dX6_init_484 : decode cX6_init 484 = .ok (.bipush 70, 2) := dk_16 70 (dk_at dksX6_init_20 6 rfl rfl)
theorem dX6_init_486 : decode cX6_init 486 = .ok (.bipush 105, 2) := dk_16 105 (dk_at dksX6_init_20 8 rfl rfl)
theorem dX6_init_488 : decode cX6_init 488 = .ok (.iastore, 1) := dk_79 (dk_at dksX6_init_20 10 rfl rfl)
theorem dX6_init_489 : decode cX6_init 489 = .ok (.dup, 1) := dk_89 (dk_at dksX6_init_20 11 rfl rfl)
theorem dX6_init_490 : decode cX6_init 490 = .ok (.bipush 71, 2) := dk_16 71 (dk_at dksX6_init_20 12 rfl rfl)
theorem dX6_init_492 : decode cX6_init 492 = .ok (.bipush 114, 2) := dk_16 114 (dk_at dksX6_init_20 14 rfl rfl)
theorem dX6_init_494 : decode cX6_init 494 = .ok (.iastore, 1) := dk_79 (dk_at dksX6_init_20 16 rfl rfl)
theorem dX6_init_495 : decode cX6_init 495 = .ok (.dup, 1) := dk_89 (dk_at dksX6_init_20 17 rfl rfl)
theorem dX6_init_496 : decode cX6_init 496 = .ok (.bipush 72, 2) := dk_16 72 (dk_at dksX6_init_20 18 rfl rfl)
theorem dX6_init_498 : decode cX6_init 498 = .ok (.bipush 105, 2) := dk_16 105 (dk_at dksX6_init_20 20 rfl rfl)
theorem dX6_init_500 : decode cX6_init 500 = .ok (.iastore, 1) := dk_79 (dk_at dksX6_init_20 22 rfl rfl)
theorem dX6_init_501 : decode cX6_init 501 = .ok (.dup, 1) := dk_89 (dk_at dksX6_init_20 23 rfl rfl)
theorem dX6_init_502 : decode cX6_init 502 = .ok (.bipush 73, 2) := dk_16 73 (dk_at dksX6_init_21 0 rfl rfl)
theorem dX6_init_504 : decode cX6_init 504 = .ok (.bipush 116, 2) := dk_16 116 (dk_at dksX6_init_21 2 rfl rfl)
theorem dX6_init_506 : decode cX6_init 506 = .ok (.iastore, 1) := dk_79 (dk_at dksX6_init_21 4 rfl rfl)
theorem dX6_init_507 : decode cX6_init 507 = .ok (.dup, 1) := dk_89 (dk_at dksX6_init_21 5 rfl rfl)
theorem dX6_init_508 : decode cX6_init 508 = .ok (.bipush 74, 2) := dk_16 74 (dk_at dksX6_init_21 6 rfl rfl)
theorem dX6_init_510 : decode cX6_init 510 = .ok (.bipush 32, 2) := dk_16 32 (dk_at dksX6_init_21 8 rfl rfl)
theorem dX6_init_512 : decode cX6_init 512 = .ok (.iastore, 1) := dk_79 (dk_at dksX6_init_21 10 rfl rfl)
theorem dX6_init_513 : decode cX6_init 513 = .ok (.dup, 1) := dk_89 (dk_at dksX6_init_21 11 rfl rfl)
theorem dX6_init_514 : decode cX6_init 514 = .ok (.bipush 75, 2) := dk_16 75 (dk_at dksX6_init_21 12 rfl rfl)
theorem dX6_init_516 : decode cX6_init 516 = .ok (.bipush 115, 2) := dk_16 115 (dk_at dksX6_init_21 14 rfl rfl)
theorem dX6_init_518 : decode cX6_init 518 = .ok (.iastore, 1) := dk_79 (dk_at dksX6_init_21 16 rfl rfl)
theorem dX6_init_519 : decode cX6_init 519 = .ok (.dup, 1) := dk_89 (dk_at dksX6_init_21 17 rfl rfl)
theorem dX6_init_520 : decode cX6_init 520 = .ok (.bipush 76, 2) := dk_16 76 (dk_at dksX6_init_21 18 rfl rfl)
theorem dX6_init_522 : decode cX6_init 522 = .ok (.bipush 104, 2) := dk_16 104 (dk_at dksX6_init_21 20 rfl rfl)
theorem dX6_init_524 : decode cX6_init 524 = .ok (.iastore, 1) := dk_79 (dk_at dksX6_init_21 22 rfl rfl)
theorem dX6_init_525 : decode cX6_init 525 = .ok (.dup, 1) := dk_89 (dk_at dksX6_init_21 23 rfl rfl)
theorem dX6_init_526 : decode cX6_init 526 = .ok (.bipush 77, 2) := dk_16 77 (dk_at dksX6_init_22 0 rfl rfl)
theorem dX6_init_528 : decode cX6_init 528 = .ok (.bipush 111, 2) := dk_16 111 (dk_at dksX6_init_22 2 rfl rfl)
theorem dX6_init_530 : decode cX6_init 530 = .ok (.iastore, 1) := dk_79 (dk_at dksX6_init_22 4 rfl rfl)
theorem dX6_init_531 : decode cX6_init 531 = .ok (.dup, 1) := dk_89 (dk_at dksX6_init_22 5 rfl rfl)
theorem dX6_init_532 : decode cX6_init 532 = .ok (.bipush 78, 2) := dk_16 78 (dk_at dksX6_init_22 6 rfl rfl)
theorem dX6_init_534 : decode cX6_init 534 = .ok (.bipush 111, 2) := dk_16 111 (dk_at dksX6_init_22 8 rfl rfl)
theorem dX6_init_536 : decode cX6_init 536 = .ok (.iastore, 1) := dk_79 (dk_at dksX6_init_22 10 rfl rfl)
theorem dX6_init_537 : decode cX6_init 537 = .ok (.dup, 1) := dk_89 (dk_at dksX6_init_22 11 rfl rfl)
theorem dX6_init_538 : decode cX6_init 538 = .ok (.bipush 79, 2) := dk_16 79 (dk_at dksX6_init_22 12 rfl rfl)
theorem dX6_init_540 : decode cX6_init 540 = .ok (.bipush 107, 2) := dk_16 107 (dk_at dksX6_init_22 14 rfl rfl)
theorem dX6_init_542 : decode cX6_init 542 = .ok (.iastore, 1) := dk_79 (dk_at dksX6_init_22 16 rfl rfl)
theorem dX6_init_543 : decode cX6_init 543 = .ok (.dup, 1) := dk_89 (dk_at dksX6_init_22 17 rfl rfl)
theorem dX6_init_544 : decode cX6_init 544 = .ok (.bipush 80, 2) := dk_16 80 (dk_at dksX6_init_22 18 rfl rfl)
theorem dX6_init_546 : decode cX6_init 546 = .ok (.bipush 32, 2) := dk_16 32 (dk_at dksX6_init_22 20 rfl rfl)
theorem dX6_init_548 : decode cX6_init 548 = .ok (.iastore, 1) := dk_79 (dk_at dksX6_init_22 22 rfl rfl)
theorem dX6_init_549 : decode cX6_init 549 = .ok (.dup, 1) := dk_89 (dk_at dksX6_init_22 23 rfl rfl)
theorem dX6_init_550 : decode cX6_init 550 = .ok (.bipush 81, 2) := dk_16 81 (dk_at dksX6_init_23 0 rfl rfl)
theorem dX6_init_552 : decode cX6_init 552 = .ok (.bipush 112, 2) := dk_16 112 (dk_at dksX6_init_23 2 rfl rfl)
theorem dX6_init_554 : decode cX6_init 554 = .ok (.iastore, 1) := dk_79 (dk_at dksX6_init_23 4 rfl rfl)
theorem dX6_init_555 : decode cX6_init 555 = .ok (.dup, 1) := dk_89 (dk_at dksX6_init_23 5 rfl rfl)
theorem dX6_init_556 : decode cX6_init 556 = .ok (.bipush 82, 2) := dk_16 82 (dk_at dksX6_init_23 6 rfl rfl)
theorem dX6_init_558 : decode cX6_init 558 = .ok (.bipush 117, 2) := dk_16 117 (dk_at dksX6_init_23 8 rfl rfl)
theorem dX6_init_560 : decode cX6_init 560 = .ok (.iastore, 1) := dk_79 (dk_at dksX6_init_23 10 rfl rfl)
theorem dX6_init_561 : decode cX6_init 561 = .ok (.dup, 1) := dk_89 (dk_at dksX6_init_23 11 rfl rfl)
theorem dX6_init_562 : decode cX6_init 562 = .ok (.bipush 83, 2) := dk_16 83 (dk_at dksX6_init_23 12 rfl rfl)
theorem dX6_init_564 : decode cX6_init 564 = .ok (.bipush 114, 2) := dk_16 114 (dk_at dksX6_init_23 14 rfl rfl)
theorem dX6_init_566 : decode cX6_init 566 = .ok (.iastore, 1) := dk_79 (dk_at dksX6_init_23 16 rfl rfl)
theorem dX6_init_567 : decode cX6_init 567 = .ok (.dup, 1) := dk_89 (dk_at dksX6_init_23 17 rfl rfl)
theorem dX6_init_568 : decode cX6_init 568 = .ok (.bipush 84, 2) := dk_16 84 (dk_at dksX6_init_23 18 rfl rfl)
theorem dX6_init_570 : decode cX6_init 570 = .ok (.bipush 115, 2) := dk_16 115 (dk_at dksX6_init_23 20 rfl rfl)
theorem dX6_init_572 : decode cX6_init 572 = .ok (.iastore, 1) := dk_79 (dk_at dksX6_init_23 22 rfl rfl)
theorem dX6_init_573 : decode cX6_init 573 = .ok (.dup, 1) := dk_89 (dk_at dksX6_init_23 23 rfl rfl)
theorem dX6_init_574 : decode cX6_init 574 = .ok (.bipush 85, 2) := dk_16 85 (dk_at dksX6_init_24 0 rfl rfl)
theorem dX6_init_576 : decode cX6_init 576 = .ok (.bipush 101, 2) := dk_16 101 (dk_at dksX6_init_24 2 rfl rfl)
theorem dX6_init_578 : decode cX6_init 578 = .ok (.iastore, 1) := dk_79 (dk_at dksX6_init_24 4 rfl rfl)
theorem dX6_init_579 : decode cX6_init 579 = .ok (.dup, 1) := dk_89 (dk_at dksX6_init_24 5 rfl rfl)
theorem dX6_init_580 : decode cX6_init 580 = .ok (.bipush 86, 2) := dk_16 86 (dk_at dksX6_init_24 6 rfl rfl)
theorem dX6_init_582 : decode cX6_init 582 = .ok (.bipush 32, 2) := dk_16 32 (dk_at dksX6_init_24 8 rfl rfl)
theorem dX6_init_584 : decode cX6_init 584 = .ok (.iastore, 1) := dk_79 (dk_at dksX6_init_24 10 rfl rfl)
theorem dX6_init_585 : decode cX6_init 585 = .ok (.dup, 1) := dk_89 (dk_at dksX6_init_24 11 rfl rfl)
theorem dX6_init_586 : decode cX6_init 586 = .ok (.bipush 87, 2) := dk_16 87 (dk_at dksX6_init_24 12 rfl rfl)
theorem dX6_init_588 : decode cX6_init 588 = .ok (.bipush 107, 2) := dk_16 107 (dk_at dksX6_init_24 14 rfl rfl)
theorem dX6_init_590 : decode cX6_init 590 = .ok (.iastore, 1) := dk_79 (dk_at dksX6_init_24 16 rfl rfl)
theorem dX6_init_591 : decode cX6_init 591 = .ok (.dup, 1) := dk_89 (dk_at dksX6_init_24 17 rfl rfl)
theorem dX6_init_592 : decode cX6_init 592 = .ok (.bipush 88, 2) := dk_16 88 (dk_at dksX6_init_24 18 rfl rfl)
theorem dX6_init_594 : decode cX6_init 594 = .ok (.bipush 105, 2) := dk_16 105 (dk_at dksX6_init_24 20 rfl rfl)
theorem dX6_init_596 : decode cX6_init 596 = .ok (.iastore, 1) := dk_79 (dk_at dksX6_init_24 22 rfl rfl)
theorem dX6_init_597 : decode cX6_init 597 = .ok (.dup, 1) := dk_89 (dk_at dksX6_init_24 23 rfl rfl)
theorem dX6_init_598 : decode cX6_init 598 = .ok (.bipush 89, 2) := dk_16 89 (dk_at dksX6_init_25 0 rfl rfl)
theorem dX6_init_600 : decode cX6_init 600 = .ok (.bipush 110, 2) := dk_16 110 (dk_at dksX6_init_25 2 rfl rfl)
theorem dX6_init_602 : decode cX6_init 602 = .ok (.iastore, 1) := dk_79 (dk_at dksX6_init_25 4 rfl rfl)
theorem dX6_init_603 : decode cX6_init 603 = .ok (.dup, 1) := dk_89 (dk_at dksX6_init_25 5 rfl rfl)
theorem dX6_init_604 : decode cX6_init 604 = .ok (.bipush 90, 2) := dk_16 90 (dk_at dksX6_init_25 6 rfl rfl)
theorem dX6_init_606 : decode cX6_init 606 = .ok (.bipush 32, 2) := dk_16 32 (dk_at dksX6_init_25 8 rfl rfl)
theorem dX6_init_608 : decode cX6_init 608 = .ok (.iastore, 1) := dk_79 (dk_at dksX6_init_25 10 rfl rfl)
theorem dX6_init_609 : decode cX6_init 609 = .ok (.dup, 1) := dk_89 (dk_at dksX6_init_25 11 rfl rfl)
theorem dX6_init_610 : decode cX6_init 610 = .ok (.bipush 91, 2) := dk_16 91 (dk_at dksX6_init_25 12 rfl rfl)
theorem dX6_init_612 : decode cX6_init 612 = .ok (.bipush 100, 2) := dk_16 100 (dk_at dksX6_init_25 14 rfl rfl)
theorem dX6_init_614 : decode cX6_init 614 = .ok (.iastore, 1) := dk_79 (dk_at dksX6_init_25 16 rfl rfl)
theorem dX6_init_615 : decode cX6_init 615 = .ok (.dup, 1) := dk_89 (dk_at dksX6_init_25 17 rfl rfl)
theorem dX6_init_616 : decode cX6_init 616 = .ok (.bipush 92, 2) := dk_16 92 (dk_at dksX6_init_25 18 rfl rfl)
theorem dX6_init_618 : decode cX6_init 618 = .ok (.bipush 97, 2) := dk_16 97 (dk_at dksX6_init_25 20 rfl rfl)
theorem dX6_init_620 : decode cX6_init 620 = .ok (.iastore, 1) := dk_79 (dk_at dksX6_init_25 22 rfl rfl)
theorem dX6_init_621 : decode cX6_init 621 = .ok (.dup, 1) := dk_89 (dk_at dksX6_init_25 23 rfl rfl)
theorem dX6_init_622 : decode cX6_init 622 = .ok (.bipush 93, 2) := dk_16 93 (dk_at dksX6_init_26 0 rfl rfl)
theorem dX6_init_624 : decode cX6_init 624 = .ok (.bipush 121, 2) := dk_16 121 (dk_at dksX6_init_26 2 rfl rfl)
theorem dX6_init_626 : decode cX6_init 626 = .ok (.iastore, 1) := dk_79 (dk_at dksX6_init_26 4 rfl rfl)
theorem dX6_init_627 : decode cX6_init 627 = .ok (.dup, 1) := dk_89 (dk_at dksX6_init_26 5 rfl rfl)
theorem dX6_init_628 : decode cX6_init 628 = .ok (.bipush 94, 2) := dk_16 94 (dk_at dksX6_init_26 6 rfl rfl)
theorem dX6_init_630 : decode cX6_init 630 = .ok (.bipush 32, 2) := dk_16 32 (dk_at dksX6_init_26 8 rfl rfl)
theorem dX6_init_632 : decode cX6_init 632 = .ok (.iastore, 1) := dk_79 (dk_at dksX6_init_26 10 rfl rfl)
theorem dX6_init_633 : decode cX6_init 633 = .ok (.dup, 1) := dk_89 (dk_at dksX6_init_26 11 rfl rfl)
theorem dX6_init_634 : decode cX6_init 634 = .ok (.bipush 95, 2) := dk_16 95 (dk_at dksX6_init_26 12 rfl rfl)
theorem dX6_init_636 : decode cX6_init 636 = .ok (.bipush 111, 2) := dk_16 111 (dk_at dksX6_init_26 14 rfl rfl)
theorem dX6_init_638 : decode cX6_init 638 = .ok (.iastore, 1) := dk_79 (dk_at dksX6_init_26 16 rfl rfl)
theorem dX6_init_639 : decode cX6_init 639 = .ok (.dup, 1) := dk_89 (dk_at dksX6_init_26 17 rfl rfl)
theorem dX6_init_640 : decode cX6_init 640 = .ok (.bipush 96, 2) := dk_16 96 (dk_at dksX6_init_26 18 rfl rfl)
theorem dX6_init_642 : decode cX6_init 642 = .ok (.bipush 110, 2) := dk_16 110 (dk_at dksX6_init_26 20 rfl rfl)
theorem dX6_init_644 : decode cX6_init 644 = .ok (.iastore, 1) := dk_79 (dk_at dksX6_init_26 22 rfl rfl)
theorem dX6_init_645 : decode cX6_init 645 = .ok (.dup, 1) := dk_89 (dk_at dksX6_init_26 23 rfl rfl)
theorem dX6_init_646 : decode cX6_init 646 = .ok (.bipush 97, 2) := dk_16 97 (dk_at dksX6_init_27 0 rfl rfl)
theorem dX6_init_648 : decode cX6_init 648 = .ok (.bipush 32, 2) := dk_16 32 (dk_at dksX6_init_27 2 rfl rfl)
theorem dX6_init_650 : decode cX6_init 650 = .ok (.iastore, 1) := dk_79 (dk_at dksX6_init_27 4 rfl rfl)
theorem dX6_init_651 : decode cX6_init 651 = .ok (.dup, 1) := dk_89 (dk_at dksX6_init_27 5 rfl rfl)
theorem dX6_init_652 : decode cX6_init 652 = .ok (.bipush 98, 2) := dk_16 98 (dk_at dksX6_init_27 6 rfl rfl)
theorem dX6_init_654 : decode cX6_init 654 = .ok (.bipush 112, 2) := dk_16 112 (dk_at dksX6_init_27 8 rfl rfl)
theorem dX6_init_656 : decode cX6_init 656 = .ok (.iastore, 1) := dk_79 (dk_at dksX6_init_27 10 rfl rfl)
theorem dX6_init_657 : decode cX6_init 657 = .ok (.dup, 1) := dk_89 (dk_at dksX6_init_27 11 rfl rfl)
theorem dX6_init_658 : decode cX6_init 658 = .ok (.bipush 99, 2) := dk_16 99 (dk_at dksX6_init_27 12 rfl rfl)
theorem dX6_init_660 : decode cX6_init 660 = .ok (.bipush 101, 2) := dk_16 101 (dk_at dksX6_init_27 14 rfl rfl)
theorem dX6_init_662 : decode cX6_init 662 = .ok (.iastore, 1) := dk_79 (dk_at dksX6_init_27 16 rfl rfl)
theorem dX6_init_663 : decode cX6_init 663 = .ok (.dup, 1) := dk_89 (dk_at dksX6_init_27 17 rfl rfl)
theorem dX6_init_664 : decode cX6_init 664 = .ok (.bipush 100, 2) := dk_16 100 (dk_at dksX6_init_27 18 rfl rfl)
theorem dX6_init_666 : decode cX6_init 666 = .ok (.bipush 114, 2) := dk_16 114 (dk_at dksX6_init_27 20 rfl rfl)
theorem dX6_init_668 : decode cX6_init 668 = .ok (.iastore, 1) := dk_79 (dk_at dksX6_init_27 22 rfl rfl)
theorem dX6_init_669 : decode cX6_init 669 = .ok (.dup, 1) := dk_89 (dk_at dksX6_init_27 23 rfl rfl)
theorem dX6_init_670 : decode cX6_init 670 = .ok (.bipush 101, 2) := dk_16 101 (dk_at dksX6_init_28 0 rfl rfl)
theorem dX6_init_672 : decode cX6_init 672 = .ok (.bipush 115, 2) := dk_16 115 (dk_at dksX6_init_28 2 rfl rfl)
theorem dX6_init_674 : decode cX6_init 674 = .ok (.iastore, 1) := dk_79 (dk_at dksX6_init_28 4 rfl rfl)
theorem dX6_init_675 : decode cX6_init 675 = .ok (.dup, 1) := dk_89 (dk_at dksX6_init_28 5 rfl rfl)
theorem dX6_init_676 : decode cX6_init 676 = .ok (.bipush 102, 2) := dk_16 102 (dk_at dksX6_init_28 6 rfl rfl)
theorem dX6_init_678 : decode cX6_init 678 = .ok (.bipush 111, 2) := dk_16 111 (dk_at dksX6_init_28 8 rfl rfl)
theorem dX6_init_680 : decode cX6_init 680 = .ok (.iastore, 1) := dk_79 (dk_at dksX6_init_28 10 rfl rfl)
theorem dX6_init_681 : decode cX6_init 681 = .ok (.dup, 1) := dk_89 (dk_at dksX6_init_28 11 rfl rfl)
theorem dX6_init_682 : decode cX6_init 682 = .ok (.bipush 103, 2) := dk_16 103 (dk_at dksX6_init_28 12 rfl rfl)
theorem dX6_init_684 : decode cX6_init 684 = .ok (.bipush 110, 2) := dk_16 110 (dk_at dksX6_init_28 14 rfl rfl)
theorem dX6_init_686 : decode cX6_init 686 = .ok (.iastore, 1) := dk_79 (dk_at dksX6_init_28 16 rfl rfl)
theorem dX6_init_687 : decode cX6_init 687 = .ok (.dup, 1) := dk_89 (dk_at dksX6_init_28 17 rfl rfl)
theorem dX6_init_688 : decode cX6_init 688 = .ok (.bipush 104, 2) := dk_16 104 (dk_at dksX6_init_28 18 rfl rfl)
theorem dX6_init_690 : decode cX6_init 690 = .ok (.bipush 32, 2) := dk_16 32 (dk_at dksX6_init_28 20 rfl rfl)
theorem dX6_init_692 : decode cX6_init 692 = .ok (.iastore, 1) := dk_79 (dk_at dksX6_init_28 22 rfl rfl)
theorem dX6_init_693 : decode cX6_init 693 = .ok (.dup, 1) := dk_89 (dk_at dksX6_init_28 23 rfl rfl)
theorem dX6_init_694 : decode cX6_init 694 = .ok (.bipush 105, 2) := dk_16 105 (dk_at dksX6_init_29 0 rfl rfl)
theorem dX6_init_696 : decode cX6_init 696 = .ok (.bipush 104, 2) := dk_16 104 (dk_at dksX6_init_29 2 rfl rfl)
theorem dX6_init_698 : decode cX6_init 698 = .ok (.iastore, 1) := dk_79 (dk_at dksX6_init_29 4 rfl rfl)
theorem dX6_init_699 : decode cX6_init 699 = .ok (.dup, 1) := dk_89 (dk_at dksX6_init_29 5 rfl rfl)
theorem dX6_init_700 : decode cX6_init 700 = .ok (.bipush 106, 2) := dk_16 106 (dk_at dksX6_init_29 6 rfl rfl)
theorem dX6_init_702 : decode cX6_init 702 = .ok (.bipush 111, 2) := dk_16 111 (dk_at dksX6_init_29 8 rfl rfl)
theorem dX6_init_704 : decode cX6_init 704 = .ok (.iastore, 1) := dk_79 (dk_at dksX6_init_29 10 rfl rfl)
theorem dX6_init_705 : decode cX6_init 705 = .ok (.dup, 1) := dk_89 (dk_at dksX6_init_29 11 rfl rfl)
theorem dX6_init_706 : decode cX6_init 706 = .ok (.bipush 107, 2) := dk_16 107 (dk_at dksX6_init_29 12 rfl rfl)
theorem dX6_init_708 : decode cX6_init 708 = .ok (.bipush 114, 2) := dk_16 114 (dk_at dksX6_init_29 14 rfl rfl)
theorem dX6_init_710 : decode cX6_init 710 = .ok (.iastore, 1) := dk_79 (dk_at dksX6_init_29 16 rfl rfl)
theorem dX6_init_711 : decode cX6_init 711 = .ok (.dup, 1) := dk_89 (dk_at dksX6_init_29 17 rfl rfl)
theorem dX6_init_712 : decode cX6_init 712 = .ok (.bipush 108, 2) := dk_16 108 (dk_at dksX6_init_29 18 rfl rfl)
theorem dX6_init_714 : decode cX6_init 714 = .ok (.bipush 115, 2) := dk_16 115 (dk_at dksX6_init_29 20 rfl rfl)
theorem dX6_init_716 : decode cX6_init 716 = .ok (.iastore, 1) := dk_79 (dk_at dksX6_init_29 22 rfl rfl)
theorem dX6_init_717 : decode cX6_init 717 = .ok (.dup, 1) := dk_89 (dk_at dksX6_init_29 23 rfl rfl)
theorem dX6_init_718 : decode cX6_init 718 = .ok (.bipush 109, 2) := dk_16 109 (dk_at dksX6_init_30 0 rfl rfl)
theorem dX6_init_720 : decode cX6_init 720 = .ok (.bipush 101, 2) := dk_16 101 (dk_at dksX6_init_30 2 rfl rfl)
theorem dX6_init_722 : decode cX6_init 722 = .ok (.iastore, 1) := dk_79 (dk_at dksX6_init_30 4 rfl rfl)
theorem dX6_init_723 : decode cX6_init 723 = .ok (.dup, 1) := dk_89 (dk_at dksX6_init_30 5 rfl rfl)
theorem dX6_init_724 : decode cX6_init 724 = .ok (.bipush 110, 2) := dk_16 110 (dk_at dksX6_init_30 6 rfl rfl)
theorem dX6_init_726 : decode cX6_init 726 = .ok (.bipush 32, 2) := dk_16 32 (dk_at dksX6_init_30 8 rfl rfl)
theorem dX6_init_728 : decode cX6_init 728 = .ok (.iastore, 1) := dk_79 (dk_at dksX6_init_30 10 rfl rfl)
theorem dX6_init_729 : decode cX6_init 729 = .ok (.dup, 1) := dk_89 (dk_at dksX6_init_30 11 rfl rfl)
theorem dX6_init_730 : decode cX6_init 730 = .ok (.bipush 111, 2) := dk_16 111 (dk_at dksX6_init_30 12 rfl rfl)
theorem dX6_init_732 : decode cX6_init 732 = .ok (.bipush 97, 2) := dk_16 97 (dk_at dksX6_init_30 14 rfl rfl)
theorem dX6_init_734 : decode cX6_init 734 = .ok (.iastore, 1) := dk_79 (dk_at dksX6_init_30 16 rfl rfl)
theorem dX6_init_735 : decode cX6_init 735 = .ok (.dup, 1) := dk_89 (dk_at dksX6_init_30 17 rfl rfl)
theorem dX6_init_736 : decode cX6_init 736 = .ok (.bipush 112, 2) := dk_16 112 (dk_at dksX6_init_30 18 rfl rfl)
theorem dX6_init_738 : decode cX6_init 738 = .ok (.bipush 116, 2) := dk_16 116 (dk_at dksX6_init_30 20 rfl rfl)
theorem dX6_init_740 : decode cX6_init 740 = .ok (.iastore, 1) := dk_79 (dk_at dksX6_init_30 22 rfl rfl)
theorem dX6_init_741 : decode cX6_init 741 = .ok (.dup, 1) := dk_89 (dk_at dksX6_init_30 23 rfl rfl)
theorem dX6_init_742 : decode cX6_init 742 = .ok (.bipush 113, 2) := dk_16 113 (dk_at dksX6_init_31 0 rfl rfl)
theorem dX6_init_744 : decode cX6_init 744 = .ok (.bipush 32, 2) := dk_16 32 (dk_at dksX6_init_31 2 rfl rfl)
theorem dX6_init_746 : decode cX6_init 746 = .ok (.iastore, 1) := dk_79 (dk_at dksX6_init_31 4 rfl rfl)
theorem dX6_init_747 : decode cX6_init 747 = .ok (.dup, 1) := dk_89 (dk_at dksX6_init_31 5 rfl rfl)
theorem dX6_init_748 : decode cX6_init 748 = .ok (.bipush 114, 2) := dk_16 114 (dk_at dksX6_init_31 6 rfl rfl)
theorem dX6_init_750 : decode cX6_init 750 = .ok (.bipush 103, 2) := dk_16 103 (dk_at dksX6_init_31 8 rfl rfl)
theorem dX6_init_752 : decode cX6_init 752 = .ok (.iastore, 1) := dk_79 (dk_at dksX6_init_31 10 rfl rfl)
theorem dX6_init_753 : decode cX6_init 753 = .ok (.dup, 1) := dk_89 (dk_at dksX6_init_31 11 rfl rfl)
theorem dX6_init_754 : decode cX6_init 754 = .ok (.bipush 115, 2) := dk_16 115 (dk_at dksX6_init_31 12 rfl rfl)
theorem dX6_init_756 : decode cX6_init 756 = .ok (.bipush 108, 2) := dk_16 108 (dk_at dksX6_init_31 14 rfl rfl)
theorem dX6_init_758 : decode cX6_init 758 = .ok (.iastore, 1) := dk_79 (dk_at dksX6_init_31 16 rfl rfl)
theorem dX6_init_759 : decode cX6_init 759 = .ok (.dup, 1) := dk_89 (dk_at dksX6_init_31 17 rfl rfl)
theorem dX6_init_760 : decode cX6_init 760 = .ok (.bipush 116, 2) := dk_16 116 (dk_at dksX6_init_31 18 rfl rfl)
theorem dX6_init_762 : decode cX6_init 762 = .ok (.bipush 111, 2) := dk_16 111 (dk_at dksX6_init_31 20 rfl rfl)
theorem dX6_init_764 : decode cX6_init 764 = .ok (.iastore, 1) := dk_79 (dk_at dksX6_init_31 22 rfl rfl)
theorem dX6_init_765 : decode cX6_init 765 = .ok (.dup, 1) := dk_89 (dk_at dksX6_init_31 23 rfl rfl)
theorem dX6_init_766 : decode cX6_init 766 = .ok (.bipush 117, 2) := dk_16 117 (dk_at dksX6_init_32 0 rfl rfl)
theorem dX6_init_768 : decode cX6_init 768 = .ok (.bipush 118, 2) := dk_16 118 (dk_at dksX6_init_32 2 rfl rfl)
theorem dX6_init_770 : decode cX6_init 770 = .ok (.iastore, 1) := dk_79 (dk_at dksX6_init_32 4 rfl rfl)
theorem dX6_init_771 : decode cX6_init 771 = .ok (.dup, 1) := dk_89 (dk_at dksX6_init_32 5 rfl rfl)
theorem dX6_init_772 : decode cX6_init 772 = .ok (.bipush 118, 2) := dk_16 118 (dk_at dksX6_init_32 6 rfl rfl)
theorem dX6_init_774 : decode cX6_init 774 = .ok (.bipush 101, 2) := dk_16 101 (dk_at dksX6_init_32 8 rfl rfl)
theorem dX6_init_776 : decode cX6_init 776 = .ok (.iastore, 1) := dk_79 (dk_at dksX6_init_32 10 rfl rfl)
theorem dX6_init_777 : decode cX6_init 777 = .ok (.dup, 1) := dk_89 (dk_at dksX6_init_32 11 rfl rfl)
theorem dX6_init_778 : decode cX6_init 778 = .ok (.bipush 119, 2) := dk_16 119 (dk_at dksX6_init_32 12 rfl rfl)
theorem dX6_init_780 : decode cX6_init 780 = .ok (.bipush 32, 2) := dk_16 32 (dk_at dksX6_init_32 14 rfl rfl)
theorem dX6_init_782 : decode cX6_init 782 = .ok (.iastore, 1) := dk_79 (dk_at dksX6_init_32 16 rfl rfl)
theorem dX6_init_783 : decode cX6_init 783 = .ok (.dup, 1) := dk_89 (dk_at dksX6_init_32 17 rfl rfl)
theorem dX6_init_784 : decode cX6_init 784 = .ok (.bipush 120, 2) := dk_16 120 (dk_at dksX6_init_32 18 rfl rfl)
theorem dX6_init_786 : decode cX6_init 786 = .ok (.bipush 98, 2) := dk_16 98 (dk_at dksX6_init_32 20 rfl rfl)
theorem dX6_init_788 : decode cX6_init 788 = .ok (.iastore, 1) := dk_79 (dk_at dksX6_init_32 22 rfl rfl)
theorem dX6_init_789 : decode cX6_init 789 = .ok (.dup, 1) := dk_89 (dk_at dksX6_init_32 23 rfl rfl)
theorem dX6_init_790 : decode cX6_init 790 = .ok (.bipush 121, 2) := dk_16 121 (dk_at dksX6_init_33 0 rfl rfl)
theorem dX6_init_792 : decode cX6_init 792 = .ok (.bipush 97, 2) := dk_16 97 (dk_at dksX6_init_33 2 rfl rfl)
theorem dX6_init_794 : decode cX6_init 794 = .ok (.iastore, 1) := dk_79 (dk_at dksX6_init_33 4 rfl rfl)
theorem dX6_init_795 : decode cX6_init 795 = .ok (.dup, 1) := dk_89 (dk_at dksX6_init_33 5 rfl rfl)
theorem dX6_init_796 : decode cX6_init 796 = .ok (.bipush 122, 2) := dk_16 122 (dk_at dksX6_init_33 6 rfl rfl)
theorem dX6_init_798 : decode cX6_init 798 = .ok (.bipush 114, 2) := dk_16 114 (dk_at dksX6_init_33 8 rfl rfl)
theorem dX6_init_800 : decode cX6_init 800 = .ok (.iastore, 1) := dk_79 (dk_at dksX6_init_33 10 rfl rfl)
theorem dX6_init_801 : decode cX6_init 801 = .ok (.dup, 1) := dk_89 (dk_at dksX6_init_33 11 rfl rfl)
theorem dX6_init_802 : decode cX6_init 802 = .ok (.bipush 123, 2) := dk_16 123 (dk_at dksX6_init_33 12 rfl rfl)
theorem dX6_init_804 : decode cX6_init 804 = .ok (.bipush 101, 2) := dk_16 101 (dk_at dksX6_init_33 14 rfl rfl)
theorem dX6_init_806 : decode cX6_init 806 = .ok (.iastore, 1) := dk_79 (dk_at dksX6_init_33 16 rfl rfl)
theorem dX6_init_807 : decode cX6_init 807 = .ok (.dup, 1) := dk_89 (dk_at dksX6_init_33 17 rfl rfl)
theorem dX6_init_808 : decode cX6_init 808 = .ok (.bipush 124, 2) := dk_16 124 (dk_at dksX6_init_33 18 rfl rfl)
theorem dX6_init_810 : decode cX6_init 810 = .ok (.bipush 32, 2) := dk_16 32 (dk_at dksX6_init_33 20 rfl rfl)
theorem dX6_init_812 : decode cX6_init 812 = .ok (.iastore, 1) := dk_79 (dk_at dksX6_init_33 22 rfl rfl)
theorem dX6_init_813 : decode cX6_init 813 = .ok (.dup, 1) := dk_89 (dk_at dksX6_init_33 23 rfl rfl)
theorem dX6_init_814 : decode cX6_init 814 = .ok (.bipush 125, 2) := dk_16 125 (dk_at dksX6_init_34 0 rfl rfl)
theorem dX6_init_816 : decode cX6_init 816 = .ok (.bipush 115, 2) := dk_16 115 (dk_at dksX6_init_34 2 rfl rfl)
theorem dX6_init_818 : decode cX6_init 818 = .ok (.iastore, 1) := dk_79 (dk_at dksX6_init_34 4 rfl rfl)
theorem dX6_init_819 : decode cX6_init 819 = .ok (.dup, 1) := dk_89 (dk_at dksX6_init_34 5 rfl rfl)
theorem dX6_init_820 : decode cX6_init 820 = .ok (.bipush 126, 2) := dk_16 126 (dk_at dksX6_init_34 6 rfl rfl)
theorem dX6_init_822 : decode cX6_init 822 = .ok (.bipush 108, 2) := dk_16 108 (dk_at dksX6_init_34 8 rfl rfl)
theorem dX6_init_824 : decode cX6_init 824 = .ok (.iastore, 1) := dk_79 (dk_at dksX6_init_34 10 rfl rfl)
theorem dX6_init_825 : decode cX6_init 825 = .ok (.dup, 1) := dk_89 (dk_at dksX6_init_34 11 rfl rfl)
theorem dX6_init_826 : decode cX6_init 826 = .ok (.bipush 127, 2) := dk_16 127 (dk_at dksX6_init_34 12 rfl rfl)
theorem dX6_init_828 : decode cX6_init 828 = .ok (.bipush 105, 2) := dk_16 105 (dk_at dksX6_init_34 14 rfl rfl)
theorem dX6_init_830 : decode cX6_init 830 = .ok (.iastore, 1) := dk_79 (dk_at dksX6_init_34 16 rfl rfl)
theorem dX6_init_831 : decode cX6_init 831 = .ok (.dup, 1) := dk_89 (dk_at dksX6_init_34 17 rfl rfl)
theorem dX6_init_832 : decode cX6_init 832 = .ok (.sipush 128, 3) := dk_17 0 128 (dk_at dksX6_init_34 18 rfl rfl)
theorem dX6_init_835 : decode cX6_init 835 = .ok (.bipush 110, 2) := dk_16 110 (dk_at dksX6_init_34 21 rfl rfl)
theorem dX6_init_837 : decode cX6_init 837 = .ok (.iastore, 1) := dk_79 (dk_at dksX6_init_34 23 rfl rfl)
theorem dX6_init_838 : decode cX6_init 838 = .ok (.dup, 1) := dk_89 (dk_at dksX6_init_35 0 rfl rfl)
theorem dX6_init_839 : decode cX6_init 839 = .ok (.sipush 129, 3) := dk_17 0 129 (dk_at dksX6_init_35 1 rfl rfl)
theorem dX6_init_842 : decode cX6_init 842 = .ok (.bipush 103, 2) := dk_16 103 (dk_at dksX6_init_35 4 rfl rfl)
theorem dX6_init_844 : decode cX6_init 844 = .ok (.iastore, 1) := dk_79 (dk_at dksX6_init_35 6 rfl rfl)
theorem dX6_init_845 : decode cX6_init 845 = .ok (.dup, 1) := dk_89 (dk_at dksX6_init_35 7 rfl rfl)
theorem dX6_init_846 : decode cX6_init 846 = .ok (.sipush 130, 3) := dk_17 0 130 (dk_at dksX6_init_35 8 rfl rfl)
theorem dX6_init_849 : decode cX6_init 849 = .ok (.bipush 32, 2) := dk_16 32 (dk_at dksX6_init_35 11 rfl rfl)
theorem dX6_init_851 : decode cX6_init 851 = .ok (.iastore, 1) := dk_79 (dk_at dksX6_init_35 13 rfl rfl)
theorem dX6_init_852 : decode cX6_init 852 = .ok (.dup, 1) := dk_89 (dk_at dksX6_init_35 14 rfl rfl)
theorem dX6_init_853 : decode cX6_init 853 = .ok (.sipush 131, 3) := dk_17 0 131 (dk_at dksX6_init_35 15 rfl rfl)
theorem dX6_init_856 : decode cX6_init 856 = .ok (.bipush 112, 2) := dk_16 112 (dk_at dksX6_init_35 18 rfl rfl)
theorem dX6_init_858 : decode cX6_init 858 = .ok (.iastore, 1) := dk_79 (dk_at dksX6_init_35 20 rfl rfl)
theorem dX6_init_859 : decode cX6_init 859 = .ok (.dup, 1) := dk_89 (dk_at dksX6_init_35 21 rfl rfl)
theorem dX6_init_860 : decode cX6_init 860 = .ok (.sipush 132, 3) := dk_17 0 132 (dk_at dksX6_init_36 0 rfl rfl)
theorem dX6_init_863 : decode cX6_init 863 = .ok (.bipush 97, 2) := dk_16 97 (dk_at dksX6_init_36 3 rfl rfl)
theorem dX6_init_865 : decode cX6_init 865 = .ok (.iastore, 1) := dk_79 (dk_at dksX6_init_36 5 rfl rfl)
theorem dX6_init_866 : decode cX6_init 866 = .ok (.dup, 1) := dk_89 (dk_at dksX6_init_36 6 rfl rfl)
theorem dX6_init_867 : decode cX6_init 867 = .ok (.sipush 133, 3) := dk_17 0 133 (dk_at dksX6_init_36 7 rfl rfl)
theorem dX6_init_870 : decode cX6_init 870 = .ok (.bipush 121, 2) := dk_16 121 (dk_at dksX6_init_36 10 rfl rfl)
theorem dX6_init_872 : decode cX6_init 872 = .ok (.iastore, 1) := dk_79 (dk_at dksX6_init_36 12 rfl rfl)
theorem dX6_init_873 : decode cX6_init 873 = .ok (.dup, 1) := dk_89 (dk_at dksX6_init_36 13 rfl rfl)
theorem dX6_init_874 : decode cX6_init 874 = .ok (.sipush 134, 3) := dk_17 0 134 (dk_at dksX6_init_36 14 rfl rfl)
theorem dX6_init_877 : decode cX6_init 877 = .ok (.bipush 32, 2) := dk_16 32 (dk_at dksX6_init_36 17 rfl rfl)
theorem dX6_init_879 : decode cX6_init 879 = .ok (.iastore, 1) := dk_79 (dk_at dksX6_init_36 19 rfl rfl)
theorem dX6_init_880 : decode cX6_init 880 = .ok (.dup, 1) := dk_89 (dk_at dksX6_init_36 20 rfl rfl)
theorem dX6_init_881 : decode cX6_init 881 = .ok (.sipush 135, 3) := dk_17 0 135 (dk_at dksX6_init_36 21 rfl rfl)
theorem dX6_init_884 : decode cX6_init 884 = .ok (.bipush 99, 2) := dk_16 99 (dk_at dksX6_init_37 0 rfl rfl)
theorem dX6_init_886 : decode cX6_init 886 = .ok (.iastore, 1) := dk_79 (dk_at dksX6_init_37 2 rfl rfl)
theorem dX6_init_887 : decode cX6_init 887 = .ok (.dup, 1) := dk_89 (dk_at dksX6_init_37 3 rfl rfl)
theorem dX6_init_888 : decode cX6_init 888 = .ok (.sipush 136, 3) := dk_17 0 136 (dk_at dksX6_init_37 4 rfl rfl)
theorem dX6_init_891 : decode cX6_init 891 = .ok (.bipush 111, 2) := dk_16 111 (dk_at dksX6_init_37 7 rfl rfl)
theorem dX6_init_893 : decode cX6_init 893 = .ok (.iastore, 1) := dk_79 (dk_at dksX6_init_37 9 rfl rfl)
theorem dX6_init_894 : decode cX6_init 894 = .ok (.dup, 1) := dk_89 (dk_at dksX6_init_37 10 rfl rfl)
theorem dX6_init_895 : decode cX6_init 895 = .ok (.sipush 137, 3) := dk_17 0 137 (dk_at dksX6_init_37 11 rfl rfl)
theorem dX6_init_898 : decode cX6_init 898 = .ok (.bipush 108, 2) := dk_16 108 (dk_at dksX6_init_37 14 rfl rfl)
theorem dX6_init_900 : decode cX6_init 900 = .ok (.iastore, 1) := dk_79 (dk_at dksX6_init_37 16 rfl rfl)
theorem dX6_init_901 : decode cX6_init 901 = .ok (.dup, 1) := dk_89 (dk_at dksX6_init_37 17 rfl rfl)
theorem dX6_init_902 : decode cX6_init 902 = .ok (.sipush 138, 3) := dk_17 0 138 (dk_at dksX6_init_37 18 rfl rfl)
theorem dX6_init_905 : decode cX6_init 905 = .ok (.bipush 100, 2) := dk_16 100 (dk_at dksX6_init_37 21 rfl rfl)
theorem dX6_init_907 : decode cX6_init 907 = .ok (.iastore, 1) := dk_79 (dk_at dksX6_init_37 23 rfl rfl)
theorem dX6_init_908 : decode cX6_init 908 = .ok (.dup, 1) := dk_89 (dk_at dksX6_init_38 0 rfl rfl)
theorem dX6_init_909 : decode cX6_init 909 = .ok (.sipush 139, 3) := dk_17 0 139 (dk_at dksX6_init_38 1 rfl rfl)
theorem dX6_init_912 : decode cX6_init 912 = .ok (.bipush 32, 2) := dk_16 32 (dk_at dksX6_init_38 4 rfl rfl)
theorem dX6_init_914 : decode cX6_init 914 = .ok (.iastore, 1) := dk_79 (dk_at dksX6_init_38 6 rfl rfl)
theorem dX6_init_915 : decode cX6_init 915 = .ok (.putfield 31, 3) := dk_181 0 31 (dk_at dksX6_init_38 7 rfl rfl)
theorem dX6_init_918 : decode cX6_init 918 = .ok (.aload_n 0, 1) := dk_42 (dk_at dksX6_init_38 10 rfl rfl)
theorem dX6_init_919 : decode cX6_init 919 = .ok (.iconst 2, 1) := dk_5 (dk_at dksX6_init_38 11 rfl rfl)
theorem dX6_init_920 : decode cX6_init 920 = .ok (.newarray .int, 2) := dk_188_10 (dk_at dksX6_init_38 12 rfl rfl)
theorem dX6_init_922 : decode cX6_init 922 = .ok (.putfield 34, 3) := dk_181 0 34 (dk_at dksX6_init_38 14 rfl rfl)
theorem dX6_init_925 : decode cX6_init 925 = .ok (.aload_n 0, 1) := dk_42 (dk_at dksX6_init_38 17 rfl rfl)
theorem dX6_init_926 : decode cX6_init 926 = .ok (.bipush 48, 2) := dk_16 48 (dk_at dksX6_init_38 18 rfl rfl)
theorem dX6_init_928 : decode cX6_init 928 = .ok (.newarray .int, 2) := dk_188_10 (dk_at dksX6_init_38 20 rfl rfl)
theorem dX6_init_930 : decode cX6_init 930 = .ok (.putfield 37, 3) := dk_181 0 37 (dk_at dksX6_init_39 0 rfl rfl)
theorem dX6_init_933 : decode cX6_init 933 = .ok (.aload_n 0, 1) := dk_42 (dk_at dksX6_init_39 3 rfl rfl)
theorem dX6_init_934 : decode cX6_init 934 = .ok (.bipush 48, 2) := dk_16 48 (dk_at dksX6_init_39 4 rfl rfl)
theorem dX6_init_936 : decode cX6_init 936 = .ok (.newarray .int, 2) := dk_188_10 (dk_at dksX6_init_39 6 rfl rfl)
theorem dX6_init_938 : decode cX6_init 938 = .ok (.putfield 40, 3) := dk_181 0 40 (dk_at dksX6_init_39 8 rfl rfl)
theorem dX6_init_941 : decode cX6_init 941 = .ok (.aload_n 0, 1) := dk_42 (dk_at dksX6_init_39 11 rfl rfl)
theorem dX6_init_942 : decode cX6_init 942 = .ok (.bipush 48, 2) := dk_16 48 (dk_at dksX6_init_39 12 rfl rfl)
theorem dX6_init_944 : decode cX6_init 944 = .ok (.newarray .int, 2) := dk_188_10 (dk_at dksX6_init_39 14 rfl rfl)
theorem dX6_init_946 : decode cX6_init 946 = .ok (.putfield 43, 3) := dk_181 0 43 (dk_at dksX6_init_39 16 rfl rfl)
theorem dX6_init_949 : decode cX6_init 949 = .ok (.aload_n 0, 1) := dk_42 (dk_at dksX6_init_39 19 rfl rfl)
theorem dX6_init_950 : decode cX6_init 950 = .ok (.bipush 48, 2) := dk_16 48 (dk_at dksX6_init_39 20 rfl rfl)
theorem dX6_init_952 : decode cX6_init 952 = .ok (.newarray .int, 2) := dk_188_10 (dk_at dksX6_init_39 22 rfl rfl)
theorem dX6_init_954 : decode cX6_init 954 = .ok (.putfield 46, 3) := dk_181 0 46 (dk_at dksX6_init_40 0 rfl rfl)
theorem dX6_init_957 : decode cX6_init 957 = .ok (.aload_n 0, 1) := dk_42 (dk_at dksX6_init_40 3 rfl rfl)
theorem dX6_init_958 : decode cX6_init 958 = .ok (.sipush 1200, 3) := dk_17 4 176 (dk_at dksX6_init_40 4 rfl rfl)
theorem dX6_init_961 : decode cX6_init 961 = .ok (.newarray .int, 2) := dk_188_10 (dk_at dksX6_init_40 7 rfl rfl)
theorem dX6_init_963 : decode cX6_init 963 = .ok (.putfield 49, 3) := dk_181 0 49 (dk_at dksX6_init_40 9 rfl rfl)
theorem dX6_init_966 : decode cX6_init 966 = .ok (.aload_n 0, 1) := dk_42 (dk_at dksX6_init_40 12 rfl rfl)
theorem dX6_init_967 : decode cX6_init 967 = .ok (.sipush 1200, 3) := dk_17 4 176 (dk_at dksX6_init_40 13 rfl rfl)
theorem dX6_init_970 : decode cX6_init 970 = .ok (.newarray .int, 2) := dk_188_10 (dk_at dksX6_init_40 16 rfl rfl)
theorem dX6_init_972 : decode cX6_init 972 = .ok (.putfield 52, 3) := dk_181 0 52 (dk_at dksX6_init_40 18 rfl rfl)
theorem dX6_init_975 : decode cX6_init 975 = .ok (.aload_n 0, 1) := dk_42 (dk_at dksX6_init_40 21 rfl rfl)
theorem dX6_init_976 : decode cX6_init 976 = .ok (.bipush 40, 2) := dk_16 40 (dk_at dksX6_init_40 22 rfl rfl)
theorem dX6_init_978 : decode cX6_init 978 = .ok (.newarray .int, 2) := dk_188_10 (dk_at dksX6_init_41 0 rfl rfl)
theorem dX6_init_980 : decode cX6_init 980 = .ok (.putfield 55, 3) := dk_181 0 55 (dk_at dksX6_init_41 2 rfl rfl)
theorem dX6_init_983 : decode cX6_init 983 = .ok (.aload_n 0, 1) := dk_42 (dk_at dksX6_init_41 5 rfl rfl)
theorem dX6_init_984 : decode cX6_init 984 = .ok (.iconst (-1), 1) := dk_2 (dk_at dksX6_init_41 6 rfl rfl)
theorem dX6_init_985 : decode cX6_init 985 = .ok (.putfield 58, 3) := dk_181 0 58 (dk_at dksX6_init_41 7 rfl rfl)
theorem dX6_init_988 : decode cX6_init 988 = .ok (.aload_n 0, 1) := dk_42 (dk_at dksX6_init_41 10 rfl rfl)
theorem dX6_init_989 : decode cX6_init 989 = .ok (.sipush 160, 3) := dk_17 0 160 (dk_at dksX6_init_41 11 rfl rfl)
theorem dX6_init_992 : decode cX6_init 992 = .ok (.newarray .int, 2) := dk_188_10 (dk_at dksX6_init_41 14 rfl rfl)
theorem dX6_init_994 : decode cX6_init 994 = .ok (.putfield 62, 3) := dk_181 0 62 (dk_at dksX6_init_41 16 rfl rfl)
theorem dX6_init_997 : decode cX6_init 997 = .ok (.aload_n 0, 1) := dk_42 (dk_at dksX6_init_41 19 rfl rfl)
theorem dX6_init_998 : decode cX6_init 998 = .ok (.sipush 160, 3) := dk_17 0 160 (dk_at dksX6_init_41 20 rfl rfl)
theorem dX6_init_1001 : decode cX6_init 1001 = .ok (.newarray .int, 2) := dk_188_10 (dk_at dksX6_init_42 0 rfl rfl)
theorem dX6_init_1003 : decode cX6_init 1003 = .ok (.putfield 65, 3) := dk_181 0 65 (dk_at dksX6_init_42 2 rfl rfl)
theorem dX6_init_1006 : decode cX6_init 1006 = .ok (.aload_n 0, 1) := dk_42 (dk_at dksX6_init_42 5 rfl rfl)
theorem dX6_init_1007 : decode cX6_init 1007 = .ok (.bipush 24, 2) := dk_16 24 (dk_at dksX6_init_42 6 rfl rfl)
theorem dX6_init_1009 : decode cX6_init 1009 = .ok (.newarray .int, 2) := dk_188_10 (dk_at dksX6_init_42 8 rfl rfl)
theorem dX6_init_1011 : decode cX6_init 1011 = .ok (.putfield 68, 3) := dk_181 0 68 (dk_at dksX6_init_42 10 rfl rfl)
theorem dX6_init_1014 : decode cX6_init 1014 = .ok (.aload_n 0, 1) := dk_42 (dk_at dksX6_init_42 13 rfl rfl)
theorem dX6_init_1015 : decode cX6_init 1015 = .ok (.bipush 11, 2) := dk_16 11 (dk_at dksX6_init_42 14 rfl rfl)
theorem dX6_init_1017 : decode cX6_init 1017 = .ok (.newarray .int, 2) := dk_188_10 (dk_at dksX6_init_42 16 rfl rfl)
theorem dX6_init_1019 : decode cX6_init 1019 = .ok (.putfield 71, 3) := dk_181 0 71 (dk_at dksX6_init_42 18 rfl rfl)
theorem dX6_init_1022 : decode cX6_init 1022 = .ok (.aload_n 0, 1) := dk_42 (dk_at dksX6_init_42 21 rfl rfl)
theorem dX6_init_1023 : decode cX6_init 1023 = .ok (.sipush 420, 3) := dk_17 1 164 (dk_at dksX6_init_43 0 rfl rfl)
theorem dX6_init_1026 : decode cX6_init 1026 = .ok (.newarray .int, 2) := dk_188_10 (dk_at dksX6_init_43 3 rfl rfl)
theorem dX6_init_1028 : decode cX6_init 1028 = .ok (.putfield 74, 3) := dk_181 0 74 (dk_at dksX6_init_43 5 rfl rfl)
theorem dX6_init_1031 : decode cX6_init 1031 = .ok (.aload_n 0, 1) := dk_42 (dk_at dksX6_init_43 8 rfl rfl)
theorem dX6_init_1032 : decode cX6_init 1032 = .ok (.iconst 5, 1) := dk_8 (dk_at dksX6_init_43 9 rfl rfl)
theorem dX6_init_1033 : decode cX6_init 1033 = .ok (.newarray .int, 2) := dk_188_10 (dk_at dksX6_init_43 10 rfl rfl)
theorem dX6_init_1035 : decode cX6_init 1035 = .ok (.putfield 77, 3) := dk_181 0 77 (dk_at dksX6_init_43 12 rfl rfl)
theorem dX6_init_1038 : decode cX6_init 1038 = .ok (.aload_n 0, 1) := dk_42 (dk_at dksX6_init_43 15 rfl rfl)
theorem dX6_init_1039 : decode cX6_init 1039 = .ok (.iconst 5, 1) := dk_8 (dk_at dksX6_init_43 16 rfl rfl)
theorem dX6_init_1040 : decode cX6_init 1040 = .ok (.newarray .int, 2) := dk_188_10 (dk_at dksX6_init_43 17 rfl rfl)
theorem dX6_init_1042 : decode cX6_init 1042 = .ok (.putfield 80, 3) := dk_181 0 80 (dk_at dksX6_init_43 19 rfl rfl)
theorem dX6_init_1045 : decode cX6_init 1045 = .ok (.aload_n 0, 1) := dk_42 (dk_at dksX6_init_43 22 rfl rfl)
theorem dX6_init_1046 : decode cX6_init 1046 = .ok (.bipush 16, 2) := dk_16 16 (dk_at dksX6_init_44 0 rfl rfl)
theorem dX6_init_1048 : decode cX6_init 1048 = .ok (.newarray .int, 2) := dk_188_10 (dk_at dksX6_init_44 2 rfl rfl)
theorem dX6_init_1050 : decode cX6_init 1050 = .ok (.putfield 83, 3) := dk_181 0 83 (dk_at dksX6_init_44 4 rfl rfl)
theorem dX6_init_1053 : decode cX6_init 1053 = .ok (.aload_n 0, 1) := dk_42 (dk_at dksX6_init_44 7 rfl rfl)
theorem dX6_init_1054 : decode cX6_init 1054 = .ok (.bipush 16, 2) := dk_16 16 (dk_at dksX6_init_44 8 rfl rfl)
theorem dX6_init_1056 : decode cX6_init 1056 = .ok (.newarray .int, 2) := dk_188_10 (dk_at dksX6_init_44 10 rfl rfl)
theorem dX6_init_1058 : decode cX6_init 1058 = .ok (.putfield 86, 3) := dk_181 0 86 (dk_at dksX6_init_44 12 rfl rfl)
theorem dX6_init_1061 : decode cX6_init 1061 = .ok (.aload_n 0, 1) := dk_42 (dk_at dksX6_init_44 15 rfl rfl)
theorem dX6_init_1062 : decode cX6_init 1062 = .ok (.bipush 9, 2) := dk_16 9 (dk_at dksX6_init_44 16 rfl rfl)
theorem dX6_init_1064 : decode cX6_init 1064 = .ok (.newarray .int, 2) := dk_188_10 (dk_at dksX6_init_44 18 rfl rfl)
theorem dX6_init_1066 : decode cX6_init 1066 = .ok (.putfield 89, 3) := dk_181 0 89 (dk_at dksX6_init_44 20 rfl rfl)
theorem dX6_init_1069 : decode cX6_init 1069 = .ok (.aload_n 0, 1) := dk_42 (dk_at dksX6_init_44 23 rfl rfl)
theorem dX6_init_1070 : decode cX6_init 1070 = .ok (.bipush 9, 2) := dk_16 9 (dk_at dksX6_init_45 0 rfl rfl)
theorem dX6_init_1072 : decode cX6_init 1072 = .ok (.newarray .int, 2) := dk_188_10 (dk_at dksX6_init_45 2 rfl rfl)
theorem dX6_init_1074 : decode cX6_init 1074 = .ok (.putfield 92, 3) := dk_181 0 92 (dk_at dksX6_init_45 4 rfl rfl)
theorem dX6_init_1077 : decode cX6_init 1077 = .ok (.aload_n 0, 1) := dk_42 (dk_at dksX6_init_45 7 rfl rfl)
theorem dX6_init_1078 : decode cX6_init 1078 = .ok (.bipush 13, 2) := dk_16 13 (dk_at dksX6_init_45 8 rfl rfl)
theorem dX6_init_1080 : decode cX6_init 1080 = .ok (.newarray .int, 2) := dk_188_10 (dk_at dksX6_init_45 10 rfl rfl)
theorem dX6_init_1082 : decode cX6_init 1082 = .ok (.putfield 95, 3) := dk_181 0 95 (dk_at dksX6_init_45 12 rfl rfl)
theorem dX6_init_1085 : decode cX6_init 1085 = .ok (.aload_n 0, 1) := dk_42 (dk_at dksX6_init_45 15 rfl rfl)
theorem dX6_init_1086 : decode cX6_init 1086 = .ok (.sipush 4096, 3) := dk_17 16 0 (dk_at dksX6_init_45 16 rfl rfl)
theorem dX6_init_1089 : decode cX6_init 1089 = .ok (.newarray .int, 2) := dk_188_10 (dk_at dksX6_init_45 19 rfl rfl)
theorem dX6_init_1091 : decode cX6_init 1091 = .ok (.putfield 98, 3) := dk_181 0 98 (dk_at dksX6_init_45 21 rfl rfl)
theorem dX6_init_1094 : decode cX6_init 1094 = .ok (.aload_n 0, 1) := dk_42 (dk_at dksX6_init_46 0 rfl rfl)
theorem dX6_init_1095 : decode cX6_init 1095 = .ok (.sipush 3600, 3) := dk_17 14 16 (dk_at dksX6_init_46 1 rfl rfl)
theorem dX6_init_1098 : decode cX6_init 1098 = .ok (.newarray .int, 2) := dk_188_10 (dk_at dksX6_init_46 4 rfl rfl)
theorem dX6_init_1100 : decode cX6_init 1100 = .ok (.putfield 101, 3) := dk_181 0 101 (dk_at dksX6_init_46 6 rfl rfl)
theorem dX6_init_1103 : decode cX6_init 1103 = .ok (.aload_n 0, 1) := dk_42 (dk_at dksX6_init_46 9 rfl rfl)
theorem dX6_init_1104 : decode cX6_init 1104 = .ok (.iconst 5, 1) := dk_8 (dk_at dksX6_init_46 10 rfl rfl)
theorem dX6_init_1105 : decode cX6_init 1105 = .ok (.newarray .int, 2) := dk_188_10 (dk_at dksX6_init_46 11 rfl rfl)
theorem dX6_init_1107 : decode cX6_init 1107 = .ok (.putfield 104, 3) := dk_181 0 104 (dk_at dksX6_init_46 13 rfl rfl)
theorem dX6_init_1110 : decode cX6_init 1110 = .ok (.aload_n 0, 1) := dk_42 (dk_at dksX6_init_46 16 rfl rfl)
theorem dX6_init_1111 : decode cX6_init 1111 = .ok (.bipush 7, 2) := dk_16 7 (dk_at dksX6_init_46 17 rfl rfl)
theorem dX6_init_1113 : decode cX6_init 1113 = .ok (.newarray .int, 2) := dk_188_10 (dk_at dksX6_init_46 19 rfl rfl)
theorem dX6_init_1115 : decode cX6_init 1115 = .ok (.putfield 107, 3) := dk_181 0 107 (dk_at dksX6_init_46 21 rfl rfl)
theorem dX6_init_1118 : decode cX6_init 1118 = .ok (.aload_n 0, 1) := dk_42 (dk_at dksX6_init_47 0 rfl rfl)
theorem dX6_init_1119 : decode cX6_init 1119 = .ok (.iconst 4, 1) := dk_7 (dk_at dksX6_init_47 1 rfl rfl)
theorem dX6_init_1120 : decode cX6_init 1120 = .ok (.newarray .int, 2) := dk_188_10 (dk_at dksX6_init_47 2 rfl rfl)
theorem dX6_init_1122 : decode cX6_init 1122 = .ok (.putfield 110, 3) := dk_181 0 110 (dk_at dksX6_init_47 4 rfl rfl)
theorem dX6_init_1125 : decode cX6_init 1125 = .ok (.aload_n 0, 1) := dk_42 (dk_at dksX6_init_47 7 rfl rfl)
theorem dX6_init_1126 : decode cX6_init 1126 = .ok (.bipush 6, 2) := dk_16 6 (dk_at dksX6_init_47 8 rfl rfl)
theorem dX6_init_1128 : decode cX6_init 1128 = .ok (.newarray .int, 2) := dk_188_10 (dk_at dksX6_init_47 10 rfl rfl)
theorem dX6_init_1130 : decode cX6_init 1130 = .ok (.putfield 113, 3) := dk_181 0 113 (dk_at dksX6_init_47 12 rfl rfl)
theorem dX6_init_1133 : decode cX6_init 1133 = .ok (.aload_n 0, 1) := dk_42 (dk_at dksX6_init_47 15 rfl rfl)
theorem dX6_init_1134 : decode cX6_init 1134 = .ok (.bipush 21, 2) := dk_16 21 (dk_at dksX6_init_47 16 rfl rfl)
theorem dX6_init_1136 : decode cX6_init 1136 = .ok (.newarray .int, 2) := dk_188_10 (dk_at dksX6_init_47 18 rfl rfl)
theorem dX6_init_1138 : decode cX6_init 1138 = .ok (.putfield 116, 3) := dk_181 0 116 (dk_at dksX6_init_47 20 rfl rfl)
theorem dX6_init_1141 : decode cX6_init 1141 = .ok (.aload_n 0, 1) := dk_42 (dk_at dksX6_init_47 23 rfl rfl)
theorem dX6_init_1142 : decode cX6_init 1142 = .ok (.sipush 2400, 3) := dk_17 9 96 (dk_at dksX6_init_48 0 rfl rfl)
theorem dX6_init_1145 : decode cX6_init 1145 = .ok (.newarray .int, 2) := dk_188_10 (dk_at dksX6_init_48 3 rfl rfl)
theorem dX6_init_1147 : decode cX6_init 1147 = .ok (.putfield 119, 3) := dk_181 0 119 (dk_at dksX6_init_48 5 rfl rfl)
theorem dX6_init_1150 : decode cX6_init 1150 = .ok (.return_, 1) := dk_177 (dk_at dksX6_init_48 8 rfl rfl)
abbrev cX6_undo : ByteArray := prog_22_method_12_code
def yX6_undo : MethodName := ⟨RX6, "undo", "()Z"⟩
def dkwX6_undo_2 : List UInt8 := [27, 96, 46, 79, 132, 1, 1, 167, 255, 227, 4, 172]
abbrev dktX6_undo_2 : List UInt8 := dkwX6_undo_2 ++ []
def dkwX6_undo_1 : List UInt8 := [3, 60, 27, 16, 121, 162, 0, 29, 42, 180, 0, 7, 27, 42, 180, 0, 13, 16, 121, 42, 180, 0, 126, 104]
abbrev dktX6_undo_1 : List UInt8 := dkwX6_undo_1 ++ dktX6_undo_2
def dkwX6_undo_0 : List UInt8 := [42, 3, 181, 0, 122, 42, 180, 0, 126, 154, 0, 5, 3, 172, 42, 42, 180, 0, 126, 4, 100, 181, 0, 126]
abbrev dktX6_undo_0 : List UInt8 := dkwX6_undo_0 ++ dktX6_undo_1
theorem dksX6_undo_0 : cX6_undo.data.toList.drop 0 = dktX6_undo_0 := by decide +kernel
theorem dksX6_undo_1 : cX6_undo.data.toList.drop 24 = dktX6_undo_1 := dk_seg dksX6_undo_0 24 rfl rfl
theorem dksX6_undo_2 : cX6_undo.data.toList.drop 48 = dktX6_undo_2 := dk_seg dksX6_undo_1 24 rfl rfl
theorem dX6_undo_0 : decode cX6_undo 0 = .ok (.aload_n 0, 1) := dk_42 (dk_at dksX6_undo_0 0 rfl rfl)
theorem dX6_undo_1 : decode cX6_undo 1 = .ok (.iconst 0, 1) := dk_3 (dk_at dksX6_undo_0 1 rfl rfl)
theorem dX6_undo_2 : decode cX6_undo 2 = .ok (.putfield 122, 3) := dk_181 0 122 (dk_at dksX6_undo_0 2 rfl rfl)
theorem dX6_undo_5 : decode cX6_undo 5 = .ok (.aload_n 0, 1) := dk_42 (dk_at dksX6_undo_0 5 rfl rfl)
theorem dX6_undo_6 : decode cX6_undo 6 = .ok (.getfield 126, 3) := dk_180 0 126 (dk_at dksX6_undo_0 6 rfl rfl)
theorem dX6_undo_9 : decode cX6_undo 9 = .ok (.ifCond .ne 5, 3) := dk_154 0 5 (dk_at dksX6_undo_0 9 rfl rfl)
theorem dX6_undo_12 : decode cX6_undo 12 = .ok (.iconst 0, 1) := dk_3 (dk_at dksX6_undo_0 12 rfl rfl)
theorem dX6_undo_13 : decode cX6_undo 13 = .ok (.ireturn, 1) := dk_172 (dk_at dksX6_undo_0 13 rfl rfl)
theorem dX6_undo_14 : decode cX6_undo 14 = .ok (.aload_n 0, 1) := dk_42 (dk_at dksX6_undo_0 14 rfl rfl)
theorem dX6_undo_15 : decode cX6_undo 15 = .ok (.aload_n 0, 1) := dk_42 (dk_at dksX6_undo_0 15 rfl rfl)
theorem dX6_undo_16 : decode cX6_undo 16 = .ok (.getfield 126, 3) := dk_180 0 126 (dk_at dksX6_undo_0 16 rfl rfl)
theorem dX6_undo_19 : decode cX6_undo 19 = .ok (.iconst 1, 1) := dk_4 (dk_at dksX6_undo_0 19 rfl rfl)
theorem dX6_undo_20 : decode cX6_undo 20 = .ok (.isub, 1) := dk_100 (dk_at dksX6_undo_0 20 rfl rfl)
theorem dX6_undo_21 : decode cX6_undo 21 = .ok (.putfield 126, 3) := dk_181 0 126 (dk_at dksX6_undo_0 21 rfl rfl)
theorem dX6_undo_24 : decode cX6_undo 24 = .ok (.iconst 0, 1) := dk_3 (dk_at dksX6_undo_1 0 rfl rfl)
theorem dX6_undo_25 : decode cX6_undo 25 = .ok (.istore_n 1, 1) := dk_60 (dk_at dksX6_undo_1 1 rfl rfl)
theorem dX6_undo_26 : decode cX6_undo 26 = .ok (.iload_n 1, 1) := dk_27 (dk_at dksX6_undo_1 2 rfl rfl)
theorem dX6_undo_27 : decode cX6_undo 27 = .ok (.bipush 121, 2) := dk_16 121 (dk_at dksX6_undo_1 3 rfl rfl)
theorem dX6_undo_29 : decode cX6_undo 29 = .ok (.if_icmp .ge 29, 3) := dk_162 0 29 (dk_at dksX6_undo_1 5 rfl rfl)
theorem dX6_undo_32 : decode cX6_undo 32 = .ok (.aload_n 0, 1) := dk_42 (dk_at dksX6_undo_1 8 rfl rfl)
theorem dX6_undo_33 : decode cX6_undo 33 = .ok (.getfield 7, 3) := dk_180 0 7 (dk_at dksX6_undo_1 9 rfl rfl)
theorem dX6_undo_36 : decode cX6_undo 36 = .ok (.iload_n 1, 1) := dk_27 (dk_at dksX6_undo_1 12 rfl rfl)
theorem dX6_undo_37 : decode cX6_undo 37 = .ok (.aload_n 0, 1) := dk_42 (dk_at dksX6_undo_1 13 rfl rfl)
theorem dX6_undo_38 : decode cX6_undo 38 = .ok (.getfield 13, 3) := dk_180 0 13 (dk_at dksX6_undo_1 14 rfl rfl)
theorem dX6_undo_41 : decode cX6_undo 41 = .ok (.bipush 121, 2) := dk_16 121 (dk_at dksX6_undo_1 17 rfl rfl)
theorem dX6_undo_43 : decode cX6_undo 43 = .ok (.aload_n 0, 1) := dk_42 (dk_at dksX6_undo_1 19 rfl rfl)
theorem dX6_undo_44 : decode cX6_undo 44 = .ok (.getfield 126, 3) := dk_180 0 126 (dk_at dksX6_undo_1 20 rfl rfl)
theorem dX6_undo_47 : decode cX6_undo 47 = .ok (.imul, 1) := dk_104 (dk_at dksX6_undo_1 23 rfl rfl)
theorem dX6_undo_48 : decode cX6_undo 48 = .ok (.iload_n 1, 1) := dk_27 (dk_at dksX6_undo_2 0 rfl rfl)
theorem dX6_undo_49 : decode cX6_undo 49 = .ok (.iadd, 1) := dk_96 (dk_at dksX6_undo_2 1 rfl rfl)
theorem dX6_undo_50 : decode cX6_undo 50 = .ok (.iaload, 1) := dk_46 (dk_at dksX6_undo_2 2 rfl rfl)
theorem dX6_undo_51 : decode cX6_undo 51 = .ok (.iastore, 1) := dk_79 (dk_at dksX6_undo_2 3 rfl rfl)
theorem dX6_undo_52 : decode cX6_undo 52 = .ok (.iinc 1 1, 3) := dk_132 1 1 (dk_at dksX6_undo_2 4 rfl rfl)
theorem dX6_undo_55 : decode cX6_undo 55 = .ok (.goto (-29), 3) := dk_167 255 227 (dk_at dksX6_undo_2 7 rfl rfl)
theorem dX6_undo_58 : decode cX6_undo 58 = .ok (.iconst 1, 1) := dk_4 (dk_at dksX6_undo_2 10 rfl rfl)
theorem dX6_undo_59 : decode cX6_undo 59 = .ok (.ireturn, 1) := dk_172 (dk_at dksX6_undo_2 11 rfl rfl)
abbrev cX6_state : ByteArray := prog_22_method_15_code
def yX6_state : MethodName := ⟨RX6, "state", "(I)I"⟩
def dkwX6_state_1 : List UInt8 := [28, 172]
abbrev dktX6_state_1 : List UInt8 := dkwX6_state_1 ++ []
def dkwX6_state_0 : List UInt8 := [42, 3, 181, 0, 122, 42, 180, 0, 7, 4, 46, 61, 42, 180, 0, 7, 4, 27, 79, 42, 3, 181, 0, 126]
abbrev dktX6_state_0 : List UInt8 := dkwX6_state_0 ++ dktX6_state_1
theorem dksX6_state_0 : cX6_state.data.toList.drop 0 = dktX6_state_0 := by decide +kernel
theorem dksX6_state_1 : cX6_state.data.toList.drop 24 = dktX6_state_1 := dk_seg dksX6_state_0 24 rfl rfl
theorem dX6_state_0 : decode cX6_state 0 = .ok (.aload_n 0, 1) := dk_42 (dk_at dksX6_state_0 0 rfl rfl)
theorem dX6_state_1 : decode cX6_state 1 = .ok (.iconst 0, 1) := dk_3 (dk_at dksX6_state_0 1 rfl rfl)
theorem dX6_state_2 : decode cX6_state 2 = .ok (.putfield 122, 3) := dk_181 0 122 (dk_at dksX6_state_0 2 rfl rfl)
theorem dX6_state_5 : decode cX6_state 5 = .ok (.aload_n 0, 1) := dk_42 (dk_at dksX6_state_0 5 rfl rfl)
theorem dX6_state_6 : decode cX6_state 6 = .ok (.getfield 7, 3) := dk_180 0 7 (dk_at dksX6_state_0 6 rfl rfl)
theorem dX6_state_9 : decode cX6_state 9 = .ok (.iconst 1, 1) := dk_4 (dk_at dksX6_state_0 9 rfl rfl)
theorem dX6_state_10 : decode cX6_state 10 = .ok (.iaload, 1) := dk_46 (dk_at dksX6_state_0 10 rfl rfl)
theorem dX6_state_11 : decode cX6_state 11 = .ok (.istore_n 2, 1) := dk_61 (dk_at dksX6_state_0 11 rfl rfl)
theorem dX6_state_12 : decode cX6_state 12 = .ok (.aload_n 0, 1) := dk_42 (dk_at dksX6_state_0 12 rfl rfl)
theorem dX6_state_13 : decode cX6_state 13 = .ok (.getfield 7, 3) := dk_180 0 7 (dk_at dksX6_state_0 13 rfl rfl)
theorem dX6_state_16 : decode cX6_state 16 = .ok (.iconst 1, 1) := dk_4 (dk_at dksX6_state_0 16 rfl rfl)
theorem dX6_state_17 : decode cX6_state 17 = .ok (.iload_n 1, 1) := dk_27 (dk_at dksX6_state_0 17 rfl rfl)
theorem dX6_state_18 : decode cX6_state 18 = .ok (.iastore, 1) := dk_79 (dk_at dksX6_state_0 18 rfl rfl)
theorem dX6_state_19 : decode cX6_state 19 = .ok (.aload_n 0, 1) := dk_42 (dk_at dksX6_state_0 19 rfl rfl)
theorem dX6_state_20 : decode cX6_state 20 = .ok (.iconst 0, 1) := dk_3 (dk_at dksX6_state_0 20 rfl rfl)
theorem dX6_state_21 : decode cX6_state 21 = .ok (.putfield 126, 3) := dk_181 0 126 (dk_at dksX6_state_0 21 rfl rfl)
theorem dX6_state_24 : decode cX6_state 24 = .ok (.iload_n 2, 1) := dk_28 (dk_at dksX6_state_1 0 rfl rfl)
theorem dX6_state_25 : decode cX6_state 25 = .ok (.ireturn, 1) := dk_172 (dk_at dksX6_state_1 1 rfl rfl)
abbrev cX6_person : ByteArray := prog_22_method_21_code
def yX6_person : MethodName := ⟨RX6, "person", "(II)I"⟩
def dkwX6_person_5 : List UInt8 := [42, 180, 0, 135, 4, 100, 172]
abbrev dktX6_person_5 : List UInt8 := dkwX6_person_5 ++ []
def dkwX6_person_4 : List UInt8 := [16, 89, 42, 180, 0, 135, 96, 3, 79, 42, 42, 180, 0, 135, 4, 96, 181, 0, 135, 42, 3, 181, 0, 126]
abbrev dktX6_person_4 : List UInt8 := dkwX6_person_4 ++ dktX6_person_5
def dkwX6_person_3 : List UInt8 := [180, 0, 135, 96, 27, 79, 42, 180, 0, 7, 16, 77, 42, 180, 0, 135, 96, 3, 79, 42, 180, 0, 7]
abbrev dktX6_person_3 : List UInt8 := dkwX6_person_3 ++ dktX6_person_4
def dkwX6_person_2 : List UInt8 := [42, 42, 180, 0, 135, 29, 28, 182, 0, 149, 132, 3, 1, 167, 255, 238, 42, 180, 0, 7, 16, 65, 42]
abbrev dktX6_person_2 : List UInt8 := dkwX6_person_2 ++ dktX6_person_3
def dkwX6_person_1 : List UInt8 := [182, 0, 145, 153, 0, 12, 42, 180, 0, 135, 16, 12, 160, 0, 5, 2, 172, 3, 62, 29, 8, 162, 0, 19]
abbrev dktX6_person_1 : List UInt8 := dkwX6_person_1 ++ dktX6_person_2
def dkwX6_person_0 : List UInt8 := [42, 3, 181, 0, 122, 42, 27, 3, 17, 39, 15, 182, 0, 145, 153, 0, 24, 42, 28, 3, 17, 3, 231]
abbrev dktX6_person_0 : List UInt8 := dkwX6_person_0 ++ dktX6_person_1
theorem dksX6_person_0 : cX6_person.data.toList.drop 0 = dktX6_person_0 := by decide +kernel
theorem dksX6_person_1 : cX6_person.data.toList.drop 23 = dktX6_person_1 := dk_seg dksX6_person_0 23 rfl rfl
theorem dksX6_person_2 : cX6_person.data.toList.drop 47 = dktX6_person_2 := dk_seg dksX6_person_1 24 rfl rfl
theorem dksX6_person_3 : cX6_person.data.toList.drop 70 = dktX6_person_3 := dk_seg dksX6_person_2 23 rfl rfl
theorem dksX6_person_4 : cX6_person.data.toList.drop 93 = dktX6_person_4 := dk_seg dksX6_person_3 23 rfl rfl
theorem dksX6_person_5 : cX6_person.data.toList.drop 117 = dktX6_person_5 := dk_seg dksX6_person_4 24 rfl rfl
theorem dX6_person_0 : decode cX6_person 0 = .ok (.aload_n 0, 1) := dk_42 (dk_at dksX6_person_0 0 rfl rfl)
theorem dX6_person_1 : decode cX6_person 1 = .ok (.iconst 0, 1) := dk_3 (dk_at dksX6_person_0 1 rfl rfl)
theorem dX6_person_2 : decode cX6_person 2 = .ok (.putfield 122, 3) := dk_181 0 122 (dk_at dksX6_person_0 2 rfl rfl)
theorem dX6_person_5 : decode cX6_person 5 = .ok (.aload_n 0, 1) := dk_42 (dk_at dksX6_person_0 5 rfl rfl)
theorem dX6_person_6 : decode cX6_person 6 = .ok (.iload_n 1, 1) := dk_27 (dk_at dksX6_person_0 6 rfl rfl)
theorem dX6_person_7 : decode cX6_person 7 = .ok (.iconst 0, 1) := dk_3 (dk_at dksX6_person_0 7 rfl rfl)
theorem dX6_person_8 : decode cX6_person 8 = .ok (.sipush 9999, 3) := dk_17 39 15 (dk_at dksX6_person_0 8 rfl rfl)
theorem dX6_person_11 : decode cX6_person 11 = .ok (.invokevirtual 145, 3) := dk_182 0 145 (dk_at dksX6_person_0 11 rfl rfl)
theorem dX6_person_14 : decode cX6_person 14 = .ok (.ifCond .eq 24, 3) := dk_153 0 24 (dk_at dksX6_person_0 14 rfl rfl)
theorem dX6_person_17 : decode cX6_person 17 = .ok (.aload_n 0, 1) := dk_42 (dk_at dksX6_person_0 17 rfl rfl)
theorem dX6_person_18 : decode cX6_person 18 = .ok (.iload_n 2, 1) := dk_28 (dk_at dksX6_person_0 18 rfl rfl)
theorem dX6_person_19 : decode cX6_person 19 = .ok (.iconst 0, 1) := dk_3 (dk_at dksX6_person_0 19 rfl rfl)
theorem dX6_person_20 : decode cX6_person 20 = .ok (.sipush 999, 3) := dk_17 3 231 (dk_at dksX6_person_0 20 rfl rfl)
theorem dX6_person_23 : decode cX6_person 23 = .ok (.invokevirtual 145, 3) := dk_182 0 145 (dk_at dksX6_person_1 0 rfl rfl)
theorem dX6_person_26 : decode cX6_person 26 = .ok (.ifCond .eq 12, 3) := dk_153 0 12 (dk_at dksX6_person_1 3 rfl rfl)
theorem dX6_person_29 : decode cX6_person 29 = .ok (.aload_n 0, 1) := dk_42 (dk_at dksX6_person_1 6 rfl rfl)
theorem dX6_person_30 : decode cX6_person 30 = .ok (.getfield 135, 3) := dk_180 0 135 (dk_at dksX6_person_1 7 rfl rfl)
theorem dX6_person_33 : decode cX6_person 33 = .ok (.bipush 12, 2) := dk_16 12 (dk_at dksX6_person_1 10 rfl rfl)
theorem dX6_person_35 : decode cX6_person 35 = .ok (.if_icmp .ne 5, 3) := dk_160 0 5 (dk_at dksX6_person_1 12 rfl rfl)
theorem dX6_person_38 : decode cX6_person 38 = .ok (.iconst (-1), 1) := dk_2 (dk_at dksX6_person_1 15 rfl rfl)
theorem dX6_person_39 : decode cX6_person 39 = .ok (.ireturn, 1) := dk_172 (dk_at dksX6_person_1 16 rfl rfl)
theorem dX6_person_40 : decode cX6_person 40 = .ok (.iconst 0, 1) := dk_3 (dk_at dksX6_person_1 17 rfl rfl)
theorem dX6_person_41 : decode cX6_person 41 = .ok (.istore_n 3, 1) := dk_62 (dk_at dksX6_person_1 18 rfl rfl)
theorem dX6_person_42 : decode cX6_person 42 = .ok (.iload_n 3, 1) := dk_29 (dk_at dksX6_person_1 19 rfl rfl)
theorem dX6_person_43 : decode cX6_person 43 = .ok (.iconst 5, 1) := dk_8 (dk_at dksX6_person_1 20 rfl rfl)
theorem dX6_person_44 : decode cX6_person 44 = .ok (.if_icmp .ge 19, 3) := dk_162 0 19 (dk_at dksX6_person_1 21 rfl rfl)
theorem dX6_person_47 : decode cX6_person 47 = .ok (.aload_n 0, 1) := dk_42 (dk_at dksX6_person_2 0 rfl rfl)
theorem dX6_person_48 : decode cX6_person 48 = .ok (.aload_n 0, 1) := dk_42 (dk_at dksX6_person_2 1 rfl rfl)
theorem dX6_person_49 : decode cX6_person 49 = .ok (.getfield 135, 3) := dk_180 0 135 (dk_at dksX6_person_2 2 rfl rfl)
theorem dX6_person_52 : decode cX6_person 52 = .ok (.iload_n 3, 1) := dk_29 (dk_at dksX6_person_2 5 rfl rfl)
theorem dX6_person_53 : decode cX6_person 53 = .ok (.iload_n 2, 1) := dk_28 (dk_at dksX6_person_2 6 rfl rfl)
theorem dX6_person_54 : decode cX6_person 54 = .ok (.invokevirtual 149, 3) := dk_182 0 149 (dk_at dksX6_person_2 7 rfl rfl)
theorem dX6_person_57 : decode cX6_person 57 = .ok (.iinc 3 1, 3) := dk_132 3 1 (dk_at dksX6_person_2 10 rfl rfl)
theorem dX6_person_60 : decode cX6_person 60 = .ok (.goto (-18), 3) := dk_167 255 238 (dk_at dksX6_person_2 13 rfl rfl)
theorem dX6_person_63 : decode cX6_person 63 = .ok (.aload_n 0, 1) := dk_42 (dk_at dksX6_person_2 16 rfl rfl)
theorem dX6_person_64 : decode cX6_person 64 = .ok (.getfield 7, 3) := dk_180 0 7 (dk_at dksX6_person_2 17 rfl rfl)
theorem dX6_person_67 : decode cX6_person 67 = .ok (.bipush 65, 2) := dk_16 65 (dk_at dksX6_person_2 20 rfl rfl)
theorem dX6_person_69 : decode cX6_person 69 = .ok (.aload_n 0, 1) := dk_42 (dk_at dksX6_person_2 22 rfl rfl)
theorem dX6_person_70 : decode cX6_person 70 = .ok (.getfield 135, 3) := dk_180 0 135 (dk_at dksX6_person_3 0 rfl rfl)
theorem dX6_person_73 : decode cX6_person 73 = .ok (.iadd, 1) := dk_96 (dk_at dksX6_person_3 3 rfl rfl)
theorem dX6_person_74 : decode cX6_person 74 = .ok (.iload_n 1, 1) := dk_27 (dk_at dksX6_person_3 4 rfl rfl)
theorem dX6_person_75 : decode cX6_person 75 = .ok (.iastore, 1) := dk_79 (dk_at dksX6_person_3 5 rfl rfl)
theorem dX6_person_76 : decode cX6_person 76 = .ok (.aload_n 0, 1) := dk_42 (dk_at dksX6_person_3 6 rfl rfl)
theorem dX6_person_77 : decode cX6_person 77 = .ok (.getfield 7, 3) := dk_180 0 7 (dk_at dksX6_person_3 7 rfl rfl)
theorem dX6_person_80 : decode cX6_person 80 = .ok (.bipush 77, 2) := dk_16 77 (dk_at dksX6_person_3 10 rfl rfl)
theorem dX6_person_82 : decode cX6_person 82 = .ok (.aload_n 0, 1) := dk_42 (dk_at dksX6_person_3 12 rfl rfl)
theorem dX6_person_83 : decode cX6_person 83 = .ok (.getfield 135, 3) := dk_180 0 135 (dk_at dksX6_person_3 13 rfl rfl)
theorem dX6_person_86 : decode cX6_person 86 = .ok (.iadd, 1) := dk_96 (dk_at dksX6_person_3 16 rfl rfl)
theorem dX6_person_87 : decode cX6_person 87 = .ok (.iconst 0, 1) := dk_3 (dk_at dksX6_person_3 17 rfl rfl)
theorem dX6_person_88 : decode cX6_person 88 = .ok (.iastore, 1) := dk_79 (dk_at dksX6_person_3 18 rfl rfl)
theorem dX6_person_89 : decode cX6_person 89 = .ok (.aload_n 0, 1) := dk_42 (dk_at dksX6_person_3 19 rfl rfl)
theorem dX6_person_90 : decode cX6_person 90 = .ok (.getfield 7, 3) := dk_180 0 7 (dk_at dksX6_person_3 20 rfl rfl)
theorem dX6_person_93 : decode cX6_person 93 = .ok (.bipush 89, 2) := dk_16 89 (dk_at dksX6_person_4 0 rfl rfl)
theorem dX6_person_95 : decode cX6_person 95 = .ok (.aload_n 0, 1) := dk_42 (dk_at dksX6_person_4 2 rfl rfl)
theorem dX6_person_96 : decode cX6_person 96 = .ok (.getfield 135, 3) := dk_180 0 135 (dk_at dksX6_person_4 3 rfl rfl)
theorem dX6_person_99 : decode cX6_person 99 = .ok (.iadd, 1) := dk_96 (dk_at dksX6_person_4 6 rfl rfl)
theorem dX6_person_100 : decode cX6_person 100 = .ok (.iconst 0, 1) := dk_3 (dk_at dksX6_person_4 7 rfl rfl)
theorem dX6_person_101 : decode cX6_person 101 = .ok (.iastore, 1) := dk_79 (dk_at dksX6_person_4 8 rfl rfl)
theorem dX6_person_102 : decode cX6_person 102 = .ok (.aload_n 0, 1) := dk_42 (dk_at dksX6_person_4 9 rfl rfl)
theorem dX6_person_103 : decode cX6_person 103 = .ok (.aload_n 0, 1) := dk_42 (dk_at dksX6_person_4 10 rfl rfl)
theorem dX6_person_104 : decode cX6_person 104 = .ok (.getfield 135, 3) := dk_180 0 135 (dk_at dksX6_person_4 11 rfl rfl)
theorem dX6_person_107 : decode cX6_person 107 = .ok (.iconst 1, 1) := dk_4 (dk_at dksX6_person_4 14 rfl rfl)
theorem dX6_person_108 : decode cX6_person 108 = .ok (.iadd, 1) := dk_96 (dk_at dksX6_person_4 15 rfl rfl)
theorem dX6_person_109 : decode cX6_person 109 = .ok (.putfield 135, 3) := dk_181 0 135 (dk_at dksX6_person_4 16 rfl rfl)
theorem dX6_person_112 : decode cX6_person 112 = .ok (.aload_n 0, 1) := dk_42 (dk_at dksX6_person_4 19 rfl rfl)
theorem dX6_person_113 : decode cX6_person 113 = .ok (.iconst 0, 1) := dk_3 (dk_at dksX6_person_4 20 rfl rfl)
theorem dX6_person_114 : decode cX6_person 114 = .ok (.putfield 126, 3) := dk_181 0 126 (dk_at dksX6_person_4 21 rfl rfl)
theorem dX6_person_117 : decode cX6_person 117 = .ok (.aload_n 0, 1) := dk_42 (dk_at dksX6_person_5 0 rfl rfl)
theorem dX6_person_118 : decode cX6_person 118 = .ok (.getfield 135, 3) := dk_180 0 135 (dk_at dksX6_person_5 1 rfl rfl)
theorem dX6_person_121 : decode cX6_person 121 = .ok (.iconst 1, 1) := dk_4 (dk_at dksX6_person_5 4 rfl rfl)
theorem dX6_person_122 : decode cX6_person 122 = .ok (.isub, 1) := dk_100 (dk_at dksX6_person_5 5 rfl rfl)
theorem dX6_person_123 : decode cX6_person 123 = .ok (.ireturn, 1) := dk_172 (dk_at dksX6_person_5 6 rfl rfl)
abbrev cX6_isIn : ByteArray := prog_22_method_3_code
def yX6_isIn : MethodName := ⟨RX6, "isIn", "(III)Z"⟩
def dkwX6_isIn_0 : List UInt8 := [27, 28, 161, 0, 12, 27, 29, 163, 0, 7, 4, 167, 0, 4, 3, 172]
abbrev dktX6_isIn_0 : List UInt8 := dkwX6_isIn_0 ++ []
theorem dksX6_isIn_0 : cX6_isIn.data.toList.drop 0 = dktX6_isIn_0 := by decide +kernel
theorem dX6_isIn_0 : decode cX6_isIn 0 = .ok (.iload_n 1, 1) := dk_27 (dk_at dksX6_isIn_0 0 rfl rfl)
theorem dX6_isIn_1 : decode cX6_isIn 1 = .ok (.iload_n 2, 1) := dk_28 (dk_at dksX6_isIn_0 1 rfl rfl)
theorem dX6_isIn_2 : decode cX6_isIn 2 = .ok (.if_icmp .lt 12, 3) := dk_161 0 12 (dk_at dksX6_isIn_0 2 rfl rfl)
theorem dX6_isIn_5 : decode cX6_isIn 5 = .ok (.iload_n 1, 1) := dk_27 (dk_at dksX6_isIn_0 5 rfl rfl)
theorem dX6_isIn_6 : decode cX6_isIn 6 = .ok (.iload_n 3, 1) := dk_29 (dk_at dksX6_isIn_0 6 rfl rfl)
theorem dX6_isIn_7 : decode cX6_isIn 7 = .ok (.if_icmp .gt 7, 3) := dk_163 0 7 (dk_at dksX6_isIn_0 7 rfl rfl)
theorem dX6_isIn_10 : decode cX6_isIn 10 = .ok (.iconst 1, 1) := dk_4 (dk_at dksX6_isIn_0 10 rfl rfl)
theorem dX6_isIn_11 : decode cX6_isIn 11 = .ok (.goto 4, 3) := dk_167 0 4 (dk_at dksX6_isIn_0 11 rfl rfl)
theorem dX6_isIn_14 : decode cX6_isIn 14 = .ok (.iconst 0, 1) := dk_3 (dk_at dksX6_isIn_0 14 rfl rfl)
theorem dX6_isIn_15 : decode cX6_isIn 15 = .ok (.ireturn, 1) := dk_172 (dk_at dksX6_isIn_0 15 rfl rfl)
abbrev cX6_hasTrait : ByteArray := prog_22_method_20_code
def yX6_hasTrait : MethodName := ⟨RX6, "hasTrait", "(III)V"⟩
def dkwX6_hasTrait_0 : List UInt8 := [42, 180, 0, 7, 8, 8, 27, 104, 96, 28, 96, 42, 29, 3, 17, 3, 231, 182, 0, 141, 79, 177]
abbrev dktX6_hasTrait_0 : List UInt8 := dkwX6_hasTrait_0 ++ []
theorem dksX6_hasTrait_0 : cX6_hasTrait.data.toList.drop 0 = dktX6_hasTrait_0 := by decide +kernel
theorem dX6_hasTrait_0 : decode cX6_hasTrait 0 = .ok (.aload_n 0, 1) := dk_42 (dk_at dksX6_hasTrait_0 0 rfl rfl)
theorem dX6_hasTrait_1 : decode cX6_hasTrait 1 = .ok (.getfield 7, 3) := dk_180 0 7 (dk_at dksX6_hasTrait_0 1 rfl rfl)
theorem dX6_hasTrait_4 : decode cX6_hasTrait 4 = .ok (.iconst 5, 1) := dk_8 (dk_at dksX6_hasTrait_0 4 rfl rfl)
theorem dX6_hasTrait_5 : decode cX6_hasTrait 5 = .ok (.iconst 5, 1) := dk_8 (dk_at dksX6_hasTrait_0 5 rfl rfl)
theorem dX6_hasTrait_6 : decode cX6_hasTrait 6 = .ok (.iload_n 1, 1) := dk_27 (dk_at dksX6_hasTrait_0 6 rfl rfl)
theorem dX6_hasTrait_7 : decode cX6_hasTrait 7 = .ok (.imul, 1) := dk_104 (dk_at dksX6_hasTrait_0 7 rfl rfl)
theorem dX6_hasTrait_8 : decode cX6_hasTrait 8 = .ok (.iadd, 1) := dk_96 (dk_at dksX6_hasTrait_0 8 rfl rfl)
theorem dX6_hasTrait_9 : decode cX6_hasTrait 9 = .ok (.iload_n 2, 1) := dk_28 (dk_at dksX6_hasTrait_0 9 rfl rfl)
theorem dX6_hasTrait_10 : decode cX6_hasTrait 10 = .ok (.iadd, 1) := dk_96 (dk_at dksX6_hasTrait_0 10 rfl rfl)
theorem dX6_hasTrait_11 : decode cX6_hasTrait 11 = .ok (.aload_n 0, 1) := dk_42 (dk_at dksX6_hasTrait_0 11 rfl rfl)
theorem dX6_hasTrait_12 : decode cX6_hasTrait 12 = .ok (.iload_n 3, 1) := dk_29 (dk_at dksX6_hasTrait_0 12 rfl rfl)
theorem dX6_hasTrait_13 : decode cX6_hasTrait 13 = .ok (.iconst 0, 1) := dk_3 (dk_at dksX6_hasTrait_0 13 rfl rfl)
theorem dX6_hasTrait_14 : decode cX6_hasTrait 14 = .ok (.sipush 999, 3) := dk_17 3 231 (dk_at dksX6_hasTrait_0 14 rfl rfl)
theorem dX6_hasTrait_17 : decode cX6_hasTrait 17 = .ok (.invokevirtual 141, 3) := dk_182 0 141 (dk_at dksX6_hasTrait_0 17 rfl rfl)
theorem dX6_hasTrait_20 : decode cX6_hasTrait 20 = .ok (.iastore, 1) := dk_79 (dk_at dksX6_hasTrait_0 20 rfl rfl)
theorem dX6_hasTrait_21 : decode cX6_hasTrait 21 = .ok (.return_, 1) := dk_177 (dk_at dksX6_hasTrait_0 21 rfl rfl)
abbrev cX6_held : ByteArray := prog_22_method_4_code
def yX6_held : MethodName := ⟨RX6, "held", "(III)I"⟩
def dkwX6_held_0 : List UInt8 := [27, 28, 162, 0, 7, 28, 167, 0, 13, 27, 29, 164, 0, 7, 29, 167, 0, 4, 27, 172]
abbrev dktX6_held_0 : List UInt8 := dkwX6_held_0 ++ []
theorem dksX6_held_0 : cX6_held.data.toList.drop 0 = dktX6_held_0 := by decide +kernel
theorem dX6_held_0 : decode cX6_held 0 = .ok (.iload_n 1, 1) := dk_27 (dk_at dksX6_held_0 0 rfl rfl)
theorem dX6_held_1 : decode cX6_held 1 = .ok (.iload_n 2, 1) := dk_28 (dk_at dksX6_held_0 1 rfl rfl)
theorem dX6_held_2 : decode cX6_held 2 = .ok (.if_icmp .ge 7, 3) := dk_162 0 7 (dk_at dksX6_held_0 2 rfl rfl)
theorem dX6_held_5 : decode cX6_held 5 = .ok (.iload_n 2, 1) := dk_28 (dk_at dksX6_held_0 5 rfl rfl)
theorem dX6_held_6 : decode cX6_held 6 = .ok (.goto 13, 3) := dk_167 0 13 (dk_at dksX6_held_0 6 rfl rfl)
theorem dX6_held_9 : decode cX6_held 9 = .ok (.iload_n 1, 1) := dk_27 (dk_at dksX6_held_0 9 rfl rfl)
theorem dX6_held_10 : decode cX6_held 10 = .ok (.iload_n 3, 1) := dk_29 (dk_at dksX6_held_0 10 rfl rfl)
theorem dX6_held_11 : decode cX6_held 11 = .ok (.if_icmp .le 7, 3) := dk_164 0 7 (dk_at dksX6_held_0 11 rfl rfl)
theorem dX6_held_14 : decode cX6_held 14 = .ok (.iload_n 3, 1) := dk_29 (dk_at dksX6_held_0 14 rfl rfl)
theorem dX6_held_15 : decode cX6_held 15 = .ok (.goto 4, 3) := dk_167 0 4 (dk_at dksX6_held_0 15 rfl rfl)
theorem dX6_held_18 : decode cX6_held 18 = .ok (.iload_n 1, 1) := dk_27 (dk_at dksX6_held_0 18 rfl rfl)
theorem dX6_held_19 : decode cX6_held 19 = .ok (.ireturn, 1) := dk_172 (dk_at dksX6_held_0 19 rfl rfl)
abbrev cX6_horse : ByteArray := prog_22_method_22_code
def yX6_horse : MethodName := ⟨RX6, "horse", "(III)I"⟩
def dkwX6_horse_4 : List UInt8 := [42, 180, 0, 138, 4, 96, 181, 0, 138, 42, 3, 181, 0, 126, 42, 180, 0, 138, 4, 100, 172]
abbrev dktX6_horse_4 : List UInt8 := dkwX6_horse_4 ++ []
def dkwX6_horse_3 : List UInt8 := [96, 3, 79, 42, 180, 0, 19, 42, 180, 0, 138, 28, 79, 42, 180, 0, 22, 42, 180, 0, 138, 29, 79, 42]
abbrev dktX6_horse_3 : List UInt8 := dkwX6_horse_3 ++ dktX6_horse_4
def dkwX6_horse_2 : List UInt8 := [172, 42, 180, 0, 7, 16, 101, 42, 180, 0, 138, 96, 27, 79, 42, 180, 0, 7, 16, 111, 42, 180, 0, 138]
abbrev dktX6_horse_2 : List UInt8 := dkwX6_horse_2 ++ dktX6_horse_3
def dkwX6_horse_1 : List UInt8 := [153, 0, 23, 42, 29, 3, 16, 9, 182, 0, 145, 153, 0, 12, 42, 180, 0, 138, 16, 10, 160, 0, 5, 2]
abbrev dktX6_horse_1 : List UInt8 := dkwX6_horse_1 ++ dktX6_horse_2
def dkwX6_horse_0 : List UInt8 := [42, 3, 181, 0, 122, 42, 27, 182, 0, 153, 153, 0, 35, 42, 28, 3, 17, 3, 231, 182, 0, 145]
abbrev dktX6_horse_0 : List UInt8 := dkwX6_horse_0 ++ dktX6_horse_1
theorem dksX6_horse_0 : cX6_horse.data.toList.drop 0 = dktX6_horse_0 := by decide +kernel
theorem dksX6_horse_1 : cX6_horse.data.toList.drop 22 = dktX6_horse_1 := dk_seg dksX6_horse_0 22 rfl rfl
theorem dksX6_horse_2 : cX6_horse.data.toList.drop 46 = dktX6_horse_2 := dk_seg dksX6_horse_1 24 rfl rfl
theorem dksX6_horse_3 : cX6_horse.data.toList.drop 70 = dktX6_horse_3 := dk_seg dksX6_horse_2 24 rfl rfl
theorem dksX6_horse_4 : cX6_horse.data.toList.drop 94 = dktX6_horse_4 := dk_seg dksX6_horse_3 24 rfl rfl
theorem dX6_horse_0 : decode cX6_horse 0 = .ok (.aload_n 0, 1) := dk_42 (dk_at dksX6_horse_0 0 rfl rfl)
theorem dX6_horse_1 : decode cX6_horse 1 = .ok (.iconst 0, 1) := dk_3 (dk_at dksX6_horse_0 1 rfl rfl)
theorem dX6_horse_2 : decode cX6_horse 2 = .ok (.putfield 122, 3) := dk_181 0 122 (dk_at dksX6_horse_0 2 rfl rfl)
theorem dX6_horse_5 : decode cX6_horse 5 = .ok (.aload_n 0, 1) := dk_42 (dk_at dksX6_horse_0 5 rfl rfl)
theorem dX6_horse_6 : decode cX6_horse 6 = .ok (.iload_n 1, 1) := dk_27 (dk_at dksX6_horse_0 6 rfl rfl)
theorem dX6_horse_7 : decode cX6_horse 7 = .ok (.invokevirtual 153, 3) := dk_182 0 153 (dk_at dksX6_horse_0 7 rfl rfl)
theorem dX6_horse_10 : decode cX6_horse 10 = .ok (.ifCond .eq 35, 3) := dk_153 0 35 (dk_at dksX6_horse_0 10 rfl rfl)
theorem dX6_horse_13 : decode cX6_horse 13 = .ok (.aload_n 0, 1) := dk_42 (dk_at dksX6_horse_0 13 rfl rfl)
theorem dX6_horse_14 : decode cX6_horse 14 = .ok (.iload_n 2, 1) := dk_28 (dk_at dksX6_horse_0 14 rfl rfl)
theorem dX6_horse_15 : decode cX6_horse 15 = .ok (.iconst 0, 1) := dk_3 (dk_at dksX6_horse_0 15 rfl rfl)
theorem dX6_horse_16 : decode cX6_horse 16 = .ok (.sipush 999, 3) := dk_17 3 231 (dk_at dksX6_horse_0 16 rfl rfl)
theorem dX6_horse_19 : decode cX6_horse 19 = .ok (.invokevirtual 145, 3) := dk_182 0 145 (dk_at dksX6_horse_0 19 rfl rfl)
theorem dX6_horse_22 : decode cX6_horse 22 = .ok (.ifCond .eq 23, 3) := dk_153 0 23 (dk_at dksX6_horse_1 0 rfl rfl)
theorem dX6_horse_25 : decode cX6_horse 25 = .ok (.aload_n 0, 1) := dk_42 (dk_at dksX6_horse_1 3 rfl rfl)
theorem dX6_horse_26 : decode cX6_horse 26 = .ok (.iload_n 3, 1) := dk_29 (dk_at dksX6_horse_1 4 rfl rfl)
theorem dX6_horse_27 : decode cX6_horse 27 = .ok (.iconst 0, 1) := dk_3 (dk_at dksX6_horse_1 5 rfl rfl)
theorem dX6_horse_28 : decode cX6_horse 28 = .ok (.bipush 9, 2) := dk_16 9 (dk_at dksX6_horse_1 6 rfl rfl)
theorem dX6_horse_30 : decode cX6_horse 30 = .ok (.invokevirtual 145, 3) := dk_182 0 145 (dk_at dksX6_horse_1 8 rfl rfl)
theorem dX6_horse_33 : decode cX6_horse 33 = .ok (.ifCond .eq 12, 3) := dk_153 0 12 (dk_at dksX6_horse_1 11 rfl rfl)
theorem dX6_horse_36 : decode cX6_horse 36 = .ok (.aload_n 0, 1) := dk_42 (dk_at dksX6_horse_1 14 rfl rfl)
theorem dX6_horse_37 : decode cX6_horse 37 = .ok (.getfield 138, 3) := dk_180 0 138 (dk_at dksX6_horse_1 15 rfl rfl)
theorem dX6_horse_40 : decode cX6_horse 40 = .ok (.bipush 10, 2) := dk_16 10 (dk_at dksX6_horse_1 18 rfl rfl)
theorem dX6_horse_42 : decode cX6_horse 42 = .ok (.if_icmp .ne 5, 3) := dk_160 0 5 (dk_at dksX6_horse_1 20 rfl rfl)
theorem dX6_horse_45 : decode cX6_horse 45 = .ok (.iconst (-1), 1) := dk_2 (dk_at dksX6_horse_1 23 rfl rfl)
theorem dX6_horse_46 : decode cX6_horse 46 = .ok (.ireturn, 1) := dk_172 (dk_at dksX6_horse_2 0 rfl rfl)
theorem dX6_horse_47 : decode cX6_horse 47 = .ok (.aload_n 0, 1) := dk_42 (dk_at dksX6_horse_2 1 rfl rfl)
theorem dX6_horse_48 : decode cX6_horse 48 = .ok (.getfield 7, 3) := dk_180 0 7 (dk_at dksX6_horse_2 2 rfl rfl)
theorem dX6_horse_51 : decode cX6_horse 51 = .ok (.bipush 101, 2) := dk_16 101 (dk_at dksX6_horse_2 5 rfl rfl)
theorem dX6_horse_53 : decode cX6_horse 53 = .ok (.aload_n 0, 1) := dk_42 (dk_at dksX6_horse_2 7 rfl rfl)
theorem dX6_horse_54 : decode cX6_horse 54 = .ok (.getfield 138, 3) := dk_180 0 138 (dk_at dksX6_horse_2 8 rfl rfl)
theorem dX6_horse_57 : decode cX6_horse 57 = .ok (.iadd, 1) := dk_96 (dk_at dksX6_horse_2 11 rfl rfl)
theorem dX6_horse_58 : decode cX6_horse 58 = .ok (.iload_n 1, 1) := dk_27 (dk_at dksX6_horse_2 12 rfl rfl)
theorem dX6_horse_59 : decode cX6_horse 59 = .ok (.iastore, 1) := dk_79 (dk_at dksX6_horse_2 13 rfl rfl)
theorem dX6_horse_60 : decode cX6_horse 60 = .ok (.aload_n 0, 1) := dk_42 (dk_at dksX6_horse_2 14 rfl rfl)
theorem dX6_horse_61 : decode cX6_horse 61 = .ok (.getfield 7, 3) := dk_180 0 7 (dk_at dksX6_horse_2 15 rfl rfl)
theorem dX6_horse_64 : decode cX6_horse 64 = .ok (.bipush 111, 2) := dk_16 111 (dk_at dksX6_horse_2 18 rfl rfl)
theorem dX6_horse_66 : decode cX6_horse 66 = .ok (.aload_n 0, 1) := dk_42 (dk_at dksX6_horse_2 20 rfl rfl)
theorem dX6_horse_67 : decode cX6_horse 67 = .ok (.getfield 138, 3) := dk_180 0 138 (dk_at dksX6_horse_2 21 rfl rfl)
theorem dX6_horse_70 : decode cX6_horse 70 = .ok (.iadd, 1) := dk_96 (dk_at dksX6_horse_3 0 rfl rfl)
theorem dX6_horse_71 : decode cX6_horse 71 = .ok (.iconst 0, 1) := dk_3 (dk_at dksX6_horse_3 1 rfl rfl)
theorem dX6_horse_72 : decode cX6_horse 72 = .ok (.iastore, 1) := dk_79 (dk_at dksX6_horse_3 2 rfl rfl)
theorem dX6_horse_73 : decode cX6_horse 73 = .ok (.aload_n 0, 1) := dk_42 (dk_at dksX6_horse_3 3 rfl rfl)
theorem dX6_horse_74 : decode cX6_horse 74 = .ok (.getfield 19, 3) := dk_180 0 19 (dk_at dksX6_horse_3 4 rfl rfl)
theorem dX6_horse_77 : decode cX6_horse 77 = .ok (.aload_n 0, 1) := dk_42 (dk_at dksX6_horse_3 7 rfl rfl)
theorem dX6_horse_78 : decode cX6_horse 78 = .ok (.getfield 138, 3) := dk_180 0 138 (dk_at dksX6_horse_3 8 rfl rfl)
theorem dX6_horse_81 : decode cX6_horse 81 = .ok (.iload_n 2, 1) := dk_28 (dk_at dksX6_horse_3 11 rfl rfl)
theorem dX6_horse_82 : decode cX6_horse 82 = .ok (.iastore, 1) := dk_79 (dk_at dksX6_horse_3 12 rfl rfl)
theorem dX6_horse_83 : decode cX6_horse 83 = .ok (.aload_n 0, 1) := dk_42 (dk_at dksX6_horse_3 13 rfl rfl)
theorem dX6_horse_84 : decode cX6_horse 84 = .ok (.getfield 22, 3) := dk_180 0 22 (dk_at dksX6_horse_3 14 rfl rfl)
theorem dX6_horse_87 : decode cX6_horse 87 = .ok (.aload_n 0, 1) := dk_42 (dk_at dksX6_horse_3 17 rfl rfl)
theorem dX6_horse_88 : decode cX6_horse 88 = .ok (.getfield 138, 3) := dk_180 0 138 (dk_at dksX6_horse_3 18 rfl rfl)
theorem dX6_horse_91 : decode cX6_horse 91 = .ok (.iload_n 3, 1) := dk_29 (dk_at dksX6_horse_3 21 rfl rfl)
theorem dX6_horse_92 : decode cX6_horse 92 = .ok (.iastore, 1) := dk_79 (dk_at dksX6_horse_3 22 rfl rfl)
theorem dX6_horse_93 : decode cX6_horse 93 = .ok (.aload_n 0, 1) := dk_42 (dk_at dksX6_horse_3 23 rfl rfl)
theorem dX6_horse_94 : decode cX6_horse 94 = .ok (.aload_n 0, 1) := dk_42 (dk_at dksX6_horse_4 0 rfl rfl)
theorem dX6_horse_95 : decode cX6_horse 95 = .ok (.getfield 138, 3) := dk_180 0 138 (dk_at dksX6_horse_4 1 rfl rfl)
theorem dX6_horse_98 : decode cX6_horse 98 = .ok (.iconst 1, 1) := dk_4 (dk_at dksX6_horse_4 4 rfl rfl)
theorem dX6_horse_99 : decode cX6_horse 99 = .ok (.iadd, 1) := dk_96 (dk_at dksX6_horse_4 5 rfl rfl)
theorem dX6_horse_100 : decode cX6_horse 100 = .ok (.putfield 138, 3) := dk_181 0 138 (dk_at dksX6_horse_4 6 rfl rfl)
theorem dX6_horse_103 : decode cX6_horse 103 = .ok (.aload_n 0, 1) := dk_42 (dk_at dksX6_horse_4 9 rfl rfl)
theorem dX6_horse_104 : decode cX6_horse 104 = .ok (.iconst 0, 1) := dk_3 (dk_at dksX6_horse_4 10 rfl rfl)
theorem dX6_horse_105 : decode cX6_horse 105 = .ok (.putfield 126, 3) := dk_181 0 126 (dk_at dksX6_horse_4 11 rfl rfl)
theorem dX6_horse_108 : decode cX6_horse 108 = .ok (.aload_n 0, 1) := dk_42 (dk_at dksX6_horse_4 14 rfl rfl)
theorem dX6_horse_109 : decode cX6_horse 109 = .ok (.getfield 138, 3) := dk_180 0 138 (dk_at dksX6_horse_4 15 rfl rfl)
theorem dX6_horse_112 : decode cX6_horse 112 = .ok (.iconst 1, 1) := dk_4 (dk_at dksX6_horse_4 18 rfl rfl)
theorem dX6_horse_113 : decode cX6_horse 113 = .ok (.isub, 1) := dk_100 (dk_at dksX6_horse_4 19 rfl rfl)
theorem dX6_horse_114 : decode cX6_horse 114 = .ok (.ireturn, 1) := dk_172 (dk_at dksX6_horse_4 20 rfl rfl)
abbrev cX6_isPerson : ByteArray := prog_22_method_17_code
def yX6_isPerson : MethodName := ⟨RX6, "isPerson", "(I)Z"⟩
def dkwX6_isPerson_0 : List UInt8 := [27, 155, 0, 15, 27, 42, 180, 0, 135, 162, 0, 7, 4, 167, 0, 4, 3, 172]
abbrev dktX6_isPerson_0 : List UInt8 := dkwX6_isPerson_0 ++ []
theorem dksX6_isPerson_0 : cX6_isPerson.data.toList.drop 0 = dktX6_isPerson_0 := by decide +kernel
theorem dX6_isPerson_0 : decode cX6_isPerson 0 = .ok (.iload_n 1, 1) := dk_27 (dk_at dksX6_isPerson_0 0 rfl rfl)
theorem dX6_isPerson_1 : decode cX6_isPerson 1 = .ok (.ifCond .lt 15, 3) := dk_155 0 15 (dk_at dksX6_isPerson_0 1 rfl rfl)
theorem dX6_isPerson_4 : decode cX6_isPerson 4 = .ok (.iload_n 1, 1) := dk_27 (dk_at dksX6_isPerson_0 4 rfl rfl)
theorem dX6_isPerson_5 : decode cX6_isPerson 5 = .ok (.aload_n 0, 1) := dk_42 (dk_at dksX6_isPerson_0 5 rfl rfl)
theorem dX6_isPerson_6 : decode cX6_isPerson 6 = .ok (.getfield 135, 3) := dk_180 0 135 (dk_at dksX6_isPerson_0 6 rfl rfl)
theorem dX6_isPerson_9 : decode cX6_isPerson 9 = .ok (.if_icmp .ge 7, 3) := dk_162 0 7 (dk_at dksX6_isPerson_0 9 rfl rfl)
theorem dX6_isPerson_12 : decode cX6_isPerson 12 = .ok (.iconst 1, 1) := dk_4 (dk_at dksX6_isPerson_0 12 rfl rfl)
theorem dX6_isPerson_13 : decode cX6_isPerson 13 = .ok (.goto 4, 3) := dk_167 0 4 (dk_at dksX6_isPerson_0 13 rfl rfl)
theorem dX6_isPerson_16 : decode cX6_isPerson 16 = .ok (.iconst 0, 1) := dk_3 (dk_at dksX6_isPerson_0 16 rfl rfl)
theorem dX6_isPerson_17 : decode cX6_isPerson 17 = .ok (.ireturn, 1) := dk_172 (dk_at dksX6_isPerson_0 17 rfl rfl)
abbrev cX6_set : ByteArray := prog_22_method_24_code
def yX6_set : MethodName := ⟨RX6, "set", "(III)Z"⟩
def dkwX6_set_3 : List UInt8 := [3, 181, 0, 126, 4, 172]
abbrev dktX6_set_3 : List UInt8 := dkwX6_set_3 ++ []
def dkwX6_set_2 : List UInt8 := [160, 0, 10, 42, 180, 0, 19, 28, 29, 79, 27, 16, 7, 160, 0, 10, 42, 180, 0, 22, 28, 29, 79, 42]
abbrev dktX6_set_2 : List UInt8 := dkwX6_set_2 ++ dktX6_set_3
def dkwX6_set_1 : List UInt8 := [27, 29, 182, 0, 149, 27, 8, 160, 0, 13, 42, 180, 0, 7, 16, 65, 28, 96, 29, 79, 27, 16, 6]
abbrev dktX6_set_1 : List UInt8 := dkwX6_set_1 ++ dktX6_set_2
def dkwX6_set_0 : List UInt8 := [42, 3, 181, 0, 122, 42, 27, 28, 29, 182, 0, 160, 154, 0, 5, 3, 172, 27, 8, 162, 0, 10, 42, 28]
abbrev dktX6_set_0 : List UInt8 := dkwX6_set_0 ++ dktX6_set_1
theorem dksX6_set_0 : cX6_set.data.toList.drop 0 = dktX6_set_0 := by decide +kernel
theorem dksX6_set_1 : cX6_set.data.toList.drop 24 = dktX6_set_1 := dk_seg dksX6_set_0 24 rfl rfl
theorem dksX6_set_2 : cX6_set.data.toList.drop 47 = dktX6_set_2 := dk_seg dksX6_set_1 23 rfl rfl
theorem dksX6_set_3 : cX6_set.data.toList.drop 71 = dktX6_set_3 := dk_seg dksX6_set_2 24 rfl rfl
theorem dX6_set_0 : decode cX6_set 0 = .ok (.aload_n 0, 1) := dk_42 (dk_at dksX6_set_0 0 rfl rfl)
theorem dX6_set_1 : decode cX6_set 1 = .ok (.iconst 0, 1) := dk_3 (dk_at dksX6_set_0 1 rfl rfl)
theorem dX6_set_2 : decode cX6_set 2 = .ok (.putfield 122, 3) := dk_181 0 122 (dk_at dksX6_set_0 2 rfl rfl)
theorem dX6_set_5 : decode cX6_set 5 = .ok (.aload_n 0, 1) := dk_42 (dk_at dksX6_set_0 5 rfl rfl)
theorem dX6_set_6 : decode cX6_set 6 = .ok (.iload_n 1, 1) := dk_27 (dk_at dksX6_set_0 6 rfl rfl)
theorem dX6_set_7 : decode cX6_set 7 = .ok (.iload_n 2, 1) := dk_28 (dk_at dksX6_set_0 7 rfl rfl)
theorem dX6_set_8 : decode cX6_set 8 = .ok (.iload_n 3, 1) := dk_29 (dk_at dksX6_set_0 8 rfl rfl)
theorem dX6_set_9 : decode cX6_set 9 = .ok (.invokevirtual 160, 3) := dk_182 0 160 (dk_at dksX6_set_0 9 rfl rfl)
theorem dX6_set_12 : decode cX6_set 12 = .ok (.ifCond .ne 5, 3) := dk_154 0 5 (dk_at dksX6_set_0 12 rfl rfl)
theorem dX6_set_15 : decode cX6_set 15 = .ok (.iconst 0, 1) := dk_3 (dk_at dksX6_set_0 15 rfl rfl)
theorem dX6_set_16 : decode cX6_set 16 = .ok (.ireturn, 1) := dk_172 (dk_at dksX6_set_0 16 rfl rfl)
theorem dX6_set_17 : decode cX6_set 17 = .ok (.iload_n 1, 1) := dk_27 (dk_at dksX6_set_0 17 rfl rfl)
theorem dX6_set_18 : decode cX6_set 18 = .ok (.iconst 5, 1) := dk_8 (dk_at dksX6_set_0 18 rfl rfl)
theorem dX6_set_19 : decode cX6_set 19 = .ok (.if_icmp .ge 10, 3) := dk_162 0 10 (dk_at dksX6_set_0 19 rfl rfl)
theorem dX6_set_22 : decode cX6_set 22 = .ok (.aload_n 0, 1) := dk_42 (dk_at dksX6_set_0 22 rfl rfl)
theorem dX6_set_23 : decode cX6_set 23 = .ok (.iload_n 2, 1) := dk_28 (dk_at dksX6_set_0 23 rfl rfl)
theorem dX6_set_24 : decode cX6_set 24 = .ok (.iload_n 1, 1) := dk_27 (dk_at dksX6_set_1 0 rfl rfl)
theorem dX6_set_25 : decode cX6_set 25 = .ok (.iload_n 3, 1) := dk_29 (dk_at dksX6_set_1 1 rfl rfl)
theorem dX6_set_26 : decode cX6_set 26 = .ok (.invokevirtual 149, 3) := dk_182 0 149 (dk_at dksX6_set_1 2 rfl rfl)
theorem dX6_set_29 : decode cX6_set 29 = .ok (.iload_n 1, 1) := dk_27 (dk_at dksX6_set_1 5 rfl rfl)
theorem dX6_set_30 : decode cX6_set 30 = .ok (.iconst 5, 1) := dk_8 (dk_at dksX6_set_1 6 rfl rfl)
theorem dX6_set_31 : decode cX6_set 31 = .ok (.if_icmp .ne 13, 3) := dk_160 0 13 (dk_at dksX6_set_1 7 rfl rfl)
theorem dX6_set_34 : decode cX6_set 34 = .ok (.aload_n 0, 1) := dk_42 (dk_at dksX6_set_1 10 rfl rfl)
theorem dX6_set_35 : decode cX6_set 35 = .ok (.getfield 7, 3) := dk_180 0 7 (dk_at dksX6_set_1 11 rfl rfl)
theorem dX6_set_38 : decode cX6_set 38 = .ok (.bipush 65, 2) := dk_16 65 (dk_at dksX6_set_1 14 rfl rfl)
theorem dX6_set_40 : decode cX6_set 40 = .ok (.iload_n 2, 1) := dk_28 (dk_at dksX6_set_1 16 rfl rfl)
theorem dX6_set_41 : decode cX6_set 41 = .ok (.iadd, 1) := dk_96 (dk_at dksX6_set_1 17 rfl rfl)
theorem dX6_set_42 : decode cX6_set 42 = .ok (.iload_n 3, 1) := dk_29 (dk_at dksX6_set_1 18 rfl rfl)
theorem dX6_set_43 : decode cX6_set 43 = .ok (.iastore, 1) := dk_79 (dk_at dksX6_set_1 19 rfl rfl)
theorem dX6_set_44 : decode cX6_set 44 = .ok (.iload_n 1, 1) := dk_27 (dk_at dksX6_set_1 20 rfl rfl)
theorem dX6_set_45 : decode cX6_set 45 = .ok (.bipush 6, 2) := dk_16 6 (dk_at dksX6_set_1 21 rfl rfl)
theorem dX6_set_47 : decode cX6_set 47 = .ok (.if_icmp .ne 10, 3) := dk_160 0 10 (dk_at dksX6_set_2 0 rfl rfl)
theorem dX6_set_50 : decode cX6_set 50 = .ok (.aload_n 0, 1) := dk_42 (dk_at dksX6_set_2 3 rfl rfl)
theorem dX6_set_51 : decode cX6_set 51 = .ok (.getfield 19, 3) := dk_180 0 19 (dk_at dksX6_set_2 4 rfl rfl)
theorem dX6_set_54 : decode cX6_set 54 = .ok (.iload_n 2, 1) := dk_28 (dk_at dksX6_set_2 7 rfl rfl)
theorem dX6_set_55 : decode cX6_set 55 = .ok (.iload_n 3, 1) := dk_29 (dk_at dksX6_set_2 8 rfl rfl)
theorem dX6_set_56 : decode cX6_set 56 = .ok (.iastore, 1) := dk_79 (dk_at dksX6_set_2 9 rfl rfl)
theorem dX6_set_57 : decode cX6_set 57 = .ok (.iload_n 1, 1) := dk_27 (dk_at dksX6_set_2 10 rfl rfl)
theorem dX6_set_58 : decode cX6_set 58 = .ok (.bipush 7, 2) := dk_16 7 (dk_at dksX6_set_2 11 rfl rfl)
theorem dX6_set_60 : decode cX6_set 60 = .ok (.if_icmp .ne 10, 3) := dk_160 0 10 (dk_at dksX6_set_2 13 rfl rfl)
theorem dX6_set_63 : decode cX6_set 63 = .ok (.aload_n 0, 1) := dk_42 (dk_at dksX6_set_2 16 rfl rfl)
theorem dX6_set_64 : decode cX6_set 64 = .ok (.getfield 22, 3) := dk_180 0 22 (dk_at dksX6_set_2 17 rfl rfl)
theorem dX6_set_67 : decode cX6_set 67 = .ok (.iload_n 2, 1) := dk_28 (dk_at dksX6_set_2 20 rfl rfl)
theorem dX6_set_68 : decode cX6_set 68 = .ok (.iload_n 3, 1) := dk_29 (dk_at dksX6_set_2 21 rfl rfl)
theorem dX6_set_69 : decode cX6_set 69 = .ok (.iastore, 1) := dk_79 (dk_at dksX6_set_2 22 rfl rfl)
theorem dX6_set_70 : decode cX6_set 70 = .ok (.aload_n 0, 1) := dk_42 (dk_at dksX6_set_2 23 rfl rfl)
theorem dX6_set_71 : decode cX6_set 71 = .ok (.iconst 0, 1) := dk_3 (dk_at dksX6_set_3 0 rfl rfl)
theorem dX6_set_72 : decode cX6_set 72 = .ok (.putfield 126, 3) := dk_181 0 126 (dk_at dksX6_set_3 1 rfl rfl)
theorem dX6_set_75 : decode cX6_set 75 = .ok (.iconst 1, 1) := dk_4 (dk_at dksX6_set_3 4 rfl rfl)
theorem dX6_set_76 : decode cX6_set 76 = .ok (.ireturn, 1) := dk_172 (dk_at dksX6_set_3 5 rfl rfl)
abbrev cX6_canSet : ByteArray := prog_22_method_23_code
def yX6_canSet : MethodName := ⟨RX6, "canSet", "(III)Z"⟩
def dkwX6_canSet_4 : List UInt8 := [172]
abbrev dktX6_canSet_4 : List UInt8 := dkwX6_canSet_4 ++ []
def dkwX6_canSet_3 : List UInt8 := [16, 6, 160, 0, 9, 17, 3, 231, 167, 0, 5, 16, 9, 182, 0, 145, 153, 0, 7, 4, 167, 0, 4, 3]
abbrev dktX6_canSet_3 : List UInt8 := dkwX6_canSet_3 ++ dktX6_canSet_4
def dkwX6_canSet_2 : List UInt8 := [42, 27, 16, 6, 16, 7, 182, 0, 145, 153, 0, 38, 42, 28, 182, 0, 157, 153, 0, 30, 42, 29, 3, 27]
abbrev dktX6_canSet_2 : List UInt8 := dkwX6_canSet_2 ++ dktX6_canSet_3
def dkwX6_canSet_1 : List UInt8 := [160, 0, 9, 17, 39, 15, 167, 0, 6, 17, 3, 231, 182, 0, 145, 153, 0, 7, 4, 167, 0, 4, 3, 172]
abbrev dktX6_canSet_1 : List UInt8 := dkwX6_canSet_1 ++ dktX6_canSet_2
def dkwX6_canSet_0 : List UInt8 := [42, 27, 3, 8, 182, 0, 145, 153, 0, 40, 42, 28, 182, 0, 153, 153, 0, 30, 42, 29, 3, 27, 8]
abbrev dktX6_canSet_0 : List UInt8 := dkwX6_canSet_0 ++ dktX6_canSet_1
theorem dksX6_canSet_0 : cX6_canSet.data.toList.drop 0 = dktX6_canSet_0 := by decide +kernel
theorem dksX6_canSet_1 : cX6_canSet.data.toList.drop 23 = dktX6_canSet_1 := dk_seg dksX6_canSet_0 23 rfl rfl
theorem dksX6_canSet_2 : cX6_canSet.data.toList.drop 47 = dktX6_canSet_2 := dk_seg dksX6_canSet_1 24 rfl rfl
theorem dksX6_canSet_3 : cX6_canSet.data.toList.drop 71 = dktX6_canSet_3 := dk_seg dksX6_canSet_2 24 rfl rfl
theorem dksX6_canSet_4 : cX6_canSet.data.toList.drop 95 = dktX6_canSet_4 := dk_seg dksX6_canSet_3 24 rfl rfl
theorem dX6_canSet_0 : decode cX6_canSet 0 = .ok (.aload_n 0, 1) := dk_42 (dk_at dksX6_canSet_0 0 rfl rfl)
theorem dX6_canSet_1 : decode cX6_canSet 1 = .ok (.iload_n 1, 1) := dk_27 (dk_at dksX6_canSet_0 1 rfl rfl)
theorem dX6_canSet_2 : decode cX6_canSet 2 = .ok (.iconst 0, 1) := dk_3 (dk_at dksX6_canSet_0 2 rfl rfl)
theorem dX6_canSet_3 : decode cX6_canSet 3 = .ok (.iconst 5, 1) := dk_8 (dk_at dksX6_canSet_0 3 rfl rfl)
theorem dX6_canSet_4 : decode cX6_canSet 4 = .ok (.invokevirtual 145, 3) := dk_182 0 145 (dk_at dksX6_canSet_0 4 rfl rfl)
theorem dX6_canSet_7 : decode cX6_canSet 7 = .ok (.ifCond .eq 40, 3) := dk_153 0 40 (dk_at dksX6_canSet_0 7 rfl rfl)
theorem dX6_canSet_10 : decode cX6_canSet 10 = .ok (.aload_n 0, 1) := dk_42 (dk_at dksX6_canSet_0 10 rfl rfl)
theorem dX6_canSet_11 : decode cX6_canSet 11 = .ok (.iload_n 2, 1) := dk_28 (dk_at dksX6_canSet_0 11 rfl rfl)
theorem dX6_canSet_12 : decode cX6_canSet 12 = .ok (.invokevirtual 153, 3) := dk_182 0 153 (dk_at dksX6_canSet_0 12 rfl rfl)
theorem dX6_canSet_15 : decode cX6_canSet 15 = .ok (.ifCond .eq 30, 3) := dk_153 0 30 (dk_at dksX6_canSet_0 15 rfl rfl)
theorem dX6_canSet_18 : decode cX6_canSet 18 = .ok (.aload_n 0, 1) := dk_42 (dk_at dksX6_canSet_0 18 rfl rfl)
theorem dX6_canSet_19 : decode cX6_canSet 19 = .ok (.iload_n 3, 1) := dk_29 (dk_at dksX6_canSet_0 19 rfl rfl)
theorem dX6_canSet_20 : decode cX6_canSet 20 = .ok (.iconst 0, 1) := dk_3 (dk_at dksX6_canSet_0 20 rfl rfl)
theorem dX6_canSet_21 : decode cX6_canSet 21 = .ok (.iload_n 1, 1) := dk_27 (dk_at dksX6_canSet_0 21 rfl rfl)
theorem dX6_canSet_22 : decode cX6_canSet 22 = .ok (.iconst 5, 1) := dk_8 (dk_at dksX6_canSet_0 22 rfl rfl)
theorem dX6_canSet_23 : decode cX6_canSet 23 = .ok (.if_icmp .ne 9, 3) := dk_160 0 9 (dk_at dksX6_canSet_1 0 rfl rfl)
theorem dX6_canSet_26 : decode cX6_canSet 26 = .ok (.sipush 9999, 3) := dk_17 39 15 (dk_at dksX6_canSet_1 3 rfl rfl)
theorem dX6_canSet_29 : decode cX6_canSet 29 = .ok (.goto 6, 3) := dk_167 0 6 (dk_at dksX6_canSet_1 6 rfl rfl)
theorem dX6_canSet_32 : decode cX6_canSet 32 = .ok (.sipush 999, 3) := dk_17 3 231 (dk_at dksX6_canSet_1 9 rfl rfl)
theorem dX6_canSet_35 : decode cX6_canSet 35 = .ok (.invokevirtual 145, 3) := dk_182 0 145 (dk_at dksX6_canSet_1 12 rfl rfl)
theorem dX6_canSet_38 : decode cX6_canSet 38 = .ok (.ifCond .eq 7, 3) := dk_153 0 7 (dk_at dksX6_canSet_1 15 rfl rfl)
theorem dX6_canSet_41 : decode cX6_canSet 41 = .ok (.iconst 1, 1) := dk_4 (dk_at dksX6_canSet_1 18 rfl rfl)
theorem dX6_canSet_42 : decode cX6_canSet 42 = .ok (.goto 4, 3) := dk_167 0 4 (dk_at dksX6_canSet_1 19 rfl rfl)
theorem dX6_canSet_45 : decode cX6_canSet 45 = .ok (.iconst 0, 1) := dk_3 (dk_at dksX6_canSet_1 22 rfl rfl)
theorem dX6_canSet_46 : decode cX6_canSet 46 = .ok (.ireturn, 1) := dk_172 (dk_at dksX6_canSet_1 23 rfl rfl)
theorem dX6_canSet_47 : decode cX6_canSet 47 = .ok (.aload_n 0, 1) := dk_42 (dk_at dksX6_canSet_2 0 rfl rfl)
theorem dX6_canSet_48 : decode cX6_canSet 48 = .ok (.iload_n 1, 1) := dk_27 (dk_at dksX6_canSet_2 1 rfl rfl)
theorem dX6_canSet_49 : decode cX6_canSet 49 = .ok (.bipush 6, 2) := dk_16 6 (dk_at dksX6_canSet_2 2 rfl rfl)
theorem dX6_canSet_51 : decode cX6_canSet 51 = .ok (.bipush 7, 2) := dk_16 7 (dk_at dksX6_canSet_2 4 rfl rfl)
theorem dX6_canSet_53 : decode cX6_canSet 53 = .ok (.invokevirtual 145, 3) := dk_182 0 145 (dk_at dksX6_canSet_2 6 rfl rfl)
theorem dX6_canSet_56 : decode cX6_canSet 56 = .ok (.ifCond .eq 38, 3) := dk_153 0 38 (dk_at dksX6_canSet_2 9 rfl rfl)
theorem dX6_canSet_59 : decode cX6_canSet 59 = .ok (.aload_n 0, 1) := dk_42 (dk_at dksX6_canSet_2 12 rfl rfl)
theorem dX6_canSet_60 : decode cX6_canSet 60 = .ok (.iload_n 2, 1) := dk_28 (dk_at dksX6_canSet_2 13 rfl rfl)
theorem dX6_canSet_61 : decode cX6_canSet 61 = .ok (.invokevirtual 157, 3) := dk_182 0 157 (dk_at dksX6_canSet_2 14 rfl rfl)
theorem dX6_canSet_64 : decode cX6_canSet 64 = .ok (.ifCond .eq 30, 3) := dk_153 0 30 (dk_at dksX6_canSet_2 17 rfl rfl)
theorem dX6_canSet_67 : decode cX6_canSet 67 = .ok (.aload_n 0, 1) := dk_42 (dk_at dksX6_canSet_2 20 rfl rfl)
theorem dX6_canSet_68 : decode cX6_canSet 68 = .ok (.iload_n 3, 1) := dk_29 (dk_at dksX6_canSet_2 21 rfl rfl)
theorem dX6_canSet_69 : decode cX6_canSet 69 = .ok (.iconst 0, 1) := dk_3 (dk_at dksX6_canSet_2 22 rfl rfl)
theorem dX6_canSet_70 : decode cX6_canSet 70 = .ok (.iload_n 1, 1) := dk_27 (dk_at dksX6_canSet_2 23 rfl rfl)
theorem dX6_canSet_71 : decode cX6_canSet 71 = .ok (.bipush 6, 2) := dk_16 6 (dk_at dksX6_canSet_3 0 rfl rfl)
theorem dX6_canSet_73 : decode cX6_canSet 73 = .ok (.if_icmp .ne 9, 3) := dk_160 0 9 (dk_at dksX6_canSet_3 2 rfl rfl)
theorem dX6_canSet_76 : decode cX6_canSet 76 = .ok (.sipush 999, 3) := dk_17 3 231 (dk_at dksX6_canSet_3 5 rfl rfl)
theorem dX6_canSet_79 : decode cX6_canSet 79 = .ok (.goto 5, 3) := dk_167 0 5 (dk_at dksX6_canSet_3 8 rfl rfl)
theorem dX6_canSet_82 : decode cX6_canSet 82 = .ok (.bipush 9, 2) := dk_16 9 (dk_at dksX6_canSet_3 11 rfl rfl)
theorem dX6_canSet_84 : decode cX6_canSet 84 = .ok (.invokevirtual 145, 3) := dk_182 0 145 (dk_at dksX6_canSet_3 13 rfl rfl)
theorem dX6_canSet_87 : decode cX6_canSet 87 = .ok (.ifCond .eq 7, 3) := dk_153 0 7 (dk_at dksX6_canSet_3 16 rfl rfl)
theorem dX6_canSet_90 : decode cX6_canSet 90 = .ok (.iconst 1, 1) := dk_4 (dk_at dksX6_canSet_3 19 rfl rfl)
theorem dX6_canSet_91 : decode cX6_canSet 91 = .ok (.goto 4, 3) := dk_167 0 4 (dk_at dksX6_canSet_3 20 rfl rfl)
theorem dX6_canSet_94 : decode cX6_canSet 94 = .ok (.iconst 0, 1) := dk_3 (dk_at dksX6_canSet_3 23 rfl rfl)
theorem dX6_canSet_95 : decode cX6_canSet 95 = .ok (.ireturn, 1) := dk_172 (dk_at dksX6_canSet_4 0 rfl rfl)
abbrev cX6_isHorse : ByteArray := prog_22_method_18_code
def yX6_isHorse : MethodName := ⟨RX6, "isHorse", "(I)Z"⟩
def dkwX6_isHorse_0 : List UInt8 := [27, 155, 0, 15, 27, 42, 180, 0, 138, 162, 0, 7, 4, 167, 0, 4, 3, 172]
abbrev dktX6_isHorse_0 : List UInt8 := dkwX6_isHorse_0 ++ []
theorem dksX6_isHorse_0 : cX6_isHorse.data.toList.drop 0 = dktX6_isHorse_0 := by decide +kernel
theorem dX6_isHorse_0 : decode cX6_isHorse 0 = .ok (.iload_n 1, 1) := dk_27 (dk_at dksX6_isHorse_0 0 rfl rfl)
theorem dX6_isHorse_1 : decode cX6_isHorse 1 = .ok (.ifCond .lt 15, 3) := dk_155 0 15 (dk_at dksX6_isHorse_0 1 rfl rfl)
theorem dX6_isHorse_4 : decode cX6_isHorse 4 = .ok (.iload_n 1, 1) := dk_27 (dk_at dksX6_isHorse_0 4 rfl rfl)
theorem dX6_isHorse_5 : decode cX6_isHorse 5 = .ok (.aload_n 0, 1) := dk_42 (dk_at dksX6_isHorse_0 5 rfl rfl)
theorem dX6_isHorse_6 : decode cX6_isHorse 6 = .ok (.getfield 138, 3) := dk_180 0 138 (dk_at dksX6_isHorse_0 6 rfl rfl)
theorem dX6_isHorse_9 : decode cX6_isHorse 9 = .ok (.if_icmp .ge 7, 3) := dk_162 0 7 (dk_at dksX6_isHorse_0 9 rfl rfl)
theorem dX6_isHorse_12 : decode cX6_isHorse 12 = .ok (.iconst 1, 1) := dk_4 (dk_at dksX6_isHorse_0 12 rfl rfl)
theorem dX6_isHorse_13 : decode cX6_isHorse 13 = .ok (.goto 4, 3) := dk_167 0 4 (dk_at dksX6_isHorse_0 13 rfl rfl)
theorem dX6_isHorse_16 : decode cX6_isHorse 16 = .ok (.iconst 0, 1) := dk_3 (dk_at dksX6_isHorse_0 16 rfl rfl)
theorem dX6_isHorse_17 : decode cX6_isHorse 17 = .ok (.ireturn, 1) := dk_172 (dk_at dksX6_isHorse_0 17 rfl rfl)
abbrev cX6_feed : ByteArray := prog_22_method_26_code
def yX6_feed : MethodName := ⟨RX6, "feed", "(IIIII)I"⟩
def dkwX6_feed_2 : List UInt8 := [172]
abbrev dktX6_feed_2 : List UInt8 := dkwX6_feed_2 ++ []
def dkwX6_feed_1 : List UInt8 := [182, 0, 166, 42, 29, 182, 0, 166, 42, 21, 4, 182, 0, 166, 42, 21, 5, 182, 0, 166, 42, 180, 0, 163]
abbrev dktX6_feed_1 : List UInt8 := dkwX6_feed_1 ++ dktX6_feed_2
def dkwX6_feed_0 : List UInt8 := [42, 3, 181, 0, 122, 42, 180, 0, 163, 17, 1, 124, 164, 0, 5, 2, 172, 42, 27, 182, 0, 166, 42, 28]
abbrev dktX6_feed_0 : List UInt8 := dkwX6_feed_0 ++ dktX6_feed_1
theorem dksX6_feed_0 : cX6_feed.data.toList.drop 0 = dktX6_feed_0 := by decide +kernel
theorem dksX6_feed_1 : cX6_feed.data.toList.drop 24 = dktX6_feed_1 := dk_seg dksX6_feed_0 24 rfl rfl
theorem dksX6_feed_2 : cX6_feed.data.toList.drop 48 = dktX6_feed_2 := dk_seg dksX6_feed_1 24 rfl rfl
theorem dX6_feed_0 : decode cX6_feed 0 = .ok (.aload_n 0, 1) := dk_42 (dk_at dksX6_feed_0 0 rfl rfl)
theorem dX6_feed_1 : decode cX6_feed 1 = .ok (.iconst 0, 1) := dk_3 (dk_at dksX6_feed_0 1 rfl rfl)
theorem dX6_feed_2 : decode cX6_feed 2 = .ok (.putfield 122, 3) := dk_181 0 122 (dk_at dksX6_feed_0 2 rfl rfl)
theorem dX6_feed_5 : decode cX6_feed 5 = .ok (.aload_n 0, 1) := dk_42 (dk_at dksX6_feed_0 5 rfl rfl)
theorem dX6_feed_6 : decode cX6_feed 6 = .ok (.getfield 163, 3) := dk_180 0 163 (dk_at dksX6_feed_0 6 rfl rfl)
theorem dX6_feed_9 : decode cX6_feed 9 = .ok (.sipush 380, 3) := dk_17 1 124 (dk_at dksX6_feed_0 9 rfl rfl)
theorem dX6_feed_12 : decode cX6_feed 12 = .ok (.if_icmp .le 5, 3) := dk_164 0 5 (dk_at dksX6_feed_0 12 rfl rfl)
theorem dX6_feed_15 : decode cX6_feed 15 = .ok (.iconst (-1), 1) := dk_2 (dk_at dksX6_feed_0 15 rfl rfl)
theorem dX6_feed_16 : decode cX6_feed 16 = .ok (.ireturn, 1) := dk_172 (dk_at dksX6_feed_0 16 rfl rfl)
theorem dX6_feed_17 : decode cX6_feed 17 = .ok (.aload_n 0, 1) := dk_42 (dk_at dksX6_feed_0 17 rfl rfl)
theorem dX6_feed_18 : decode cX6_feed 18 = .ok (.iload_n 1, 1) := dk_27 (dk_at dksX6_feed_0 18 rfl rfl)
theorem dX6_feed_19 : decode cX6_feed 19 = .ok (.invokevirtual 166, 3) := dk_182 0 166 (dk_at dksX6_feed_0 19 rfl rfl)
theorem dX6_feed_22 : decode cX6_feed 22 = .ok (.aload_n 0, 1) := dk_42 (dk_at dksX6_feed_0 22 rfl rfl)
theorem dX6_feed_23 : decode cX6_feed 23 = .ok (.iload_n 2, 1) := dk_28 (dk_at dksX6_feed_0 23 rfl rfl)
theorem dX6_feed_24 : decode cX6_feed 24 = .ok (.invokevirtual 166, 3) := dk_182 0 166 (dk_at dksX6_feed_1 0 rfl rfl)
theorem dX6_feed_27 : decode cX6_feed 27 = .ok (.aload_n 0, 1) := dk_42 (dk_at dksX6_feed_1 3 rfl rfl)
theorem dX6_feed_28 : decode cX6_feed 28 = .ok (.iload_n 3, 1) := dk_29 (dk_at dksX6_feed_1 4 rfl rfl)
theorem dX6_feed_29 : decode cX6_feed 29 = .ok (.invokevirtual 166, 3) := dk_182 0 166 (dk_at dksX6_feed_1 5 rfl rfl)
theorem dX6_feed_32 : decode cX6_feed 32 = .ok (.aload_n 0, 1) := dk_42 (dk_at dksX6_feed_1 8 rfl rfl)
theorem dX6_feed_33 : decode cX6_feed 33 = .ok (.iload 4, 2) := dk_21 4 (dk_at dksX6_feed_1 9 rfl rfl)
theorem dX6_feed_35 : decode cX6_feed 35 = .ok (.invokevirtual 166, 3) := dk_182 0 166 (dk_at dksX6_feed_1 11 rfl rfl)
theorem dX6_feed_38 : decode cX6_feed 38 = .ok (.aload_n 0, 1) := dk_42 (dk_at dksX6_feed_1 14 rfl rfl)
theorem dX6_feed_39 : decode cX6_feed 39 = .ok (.iload 5, 2) := dk_21 5 (dk_at dksX6_feed_1 15 rfl rfl)
theorem dX6_feed_41 : decode cX6_feed 41 = .ok (.invokevirtual 166, 3) := dk_182 0 166 (dk_at dksX6_feed_1 17 rfl rfl)
theorem dX6_feed_44 : decode cX6_feed 44 = .ok (.aload_n 0, 1) := dk_42 (dk_at dksX6_feed_1 20 rfl rfl)
theorem dX6_feed_45 : decode cX6_feed 45 = .ok (.getfield 163, 3) := dk_180 0 163 (dk_at dksX6_feed_1 21 rfl rfl)
theorem dX6_feed_48 : decode cX6_feed 48 = .ok (.ireturn, 1) := dk_172 (dk_at dksX6_feed_2 0 rfl rfl)
abbrev cX6_types : ByteArray := prog_22_method_25_code
def yX6_types : MethodName := ⟨RX6, "types", "(I)V"⟩
def dkwX6_types_1 : List UInt8 := [42, 180, 0, 163, 4, 96, 181, 0, 163, 132, 2, 248, 167, 255, 223, 177]
abbrev dktX6_types_1 : List UInt8 := dkwX6_types_1 ++ []
def dkwX6_types_0 : List UInt8 := [16, 24, 61, 28, 155, 0, 35, 42, 180, 0, 28, 42, 180, 0, 163, 27, 28, 122, 17, 0, 255, 126, 79, 42]
abbrev dktX6_types_0 : List UInt8 := dkwX6_types_0 ++ dktX6_types_1
theorem dksX6_types_0 : cX6_types.data.toList.drop 0 = dktX6_types_0 := by decide +kernel
theorem dksX6_types_1 : cX6_types.data.toList.drop 24 = dktX6_types_1 := dk_seg dksX6_types_0 24 rfl rfl
theorem dX6_types_0 : decode cX6_types 0 = .ok (.bipush 24, 2) := dk_16 24 (dk_at dksX6_types_0 0 rfl rfl)
theorem dX6_types_2 : decode cX6_types 2 = .ok (.istore_n 2, 1) := dk_61 (dk_at dksX6_types_0 2 rfl rfl)
theorem dX6_types_3 : decode cX6_types 3 = .ok (.iload_n 2, 1) := dk_28 (dk_at dksX6_types_0 3 rfl rfl)
theorem dX6_types_4 : decode cX6_types 4 = .ok (.ifCond .lt 35, 3) := dk_155 0 35 (dk_at dksX6_types_0 4 rfl rfl)
theorem dX6_types_7 : decode cX6_types 7 = .ok (.aload_n 0, 1) := dk_42 (dk_at dksX6_types_0 7 rfl rfl)
theorem dX6_types_8 : decode cX6_types 8 = .ok (.getfield 28, 3) := dk_180 0 28 (dk_at dksX6_types_0 8 rfl rfl)
theorem dX6_types_11 : decode cX6_types 11 = .ok (.aload_n 0, 1) := dk_42 (dk_at dksX6_types_0 11 rfl rfl)
theorem dX6_types_12 : decode cX6_types 12 = .ok (.getfield 163, 3) := dk_180 0 163 (dk_at dksX6_types_0 12 rfl rfl)
theorem dX6_types_15 : decode cX6_types 15 = .ok (.iload_n 1, 1) := dk_27 (dk_at dksX6_types_0 15 rfl rfl)
theorem dX6_types_16 : decode cX6_types 16 = .ok (.iload_n 2, 1) := dk_28 (dk_at dksX6_types_0 16 rfl rfl)
theorem dX6_types_17 : decode cX6_types 17 = .ok (.ishr, 1) := dk_122 (dk_at dksX6_types_0 17 rfl rfl)
theorem dX6_types_18 : decode cX6_types 18 = .ok (.sipush 255, 3) := dk_17 0 255 (dk_at dksX6_types_0 18 rfl rfl)
theorem dX6_types_21 : decode cX6_types 21 = .ok (.iand, 1) := dk_126 (dk_at dksX6_types_0 21 rfl rfl)
theorem dX6_types_22 : decode cX6_types 22 = .ok (.iastore, 1) := dk_79 (dk_at dksX6_types_0 22 rfl rfl)
theorem dX6_types_23 : decode cX6_types 23 = .ok (.aload_n 0, 1) := dk_42 (dk_at dksX6_types_0 23 rfl rfl)
theorem dX6_types_24 : decode cX6_types 24 = .ok (.aload_n 0, 1) := dk_42 (dk_at dksX6_types_1 0 rfl rfl)
theorem dX6_types_25 : decode cX6_types 25 = .ok (.getfield 163, 3) := dk_180 0 163 (dk_at dksX6_types_1 1 rfl rfl)
theorem dX6_types_28 : decode cX6_types 28 = .ok (.iconst 1, 1) := dk_4 (dk_at dksX6_types_1 4 rfl rfl)
theorem dX6_types_29 : decode cX6_types 29 = .ok (.iadd, 1) := dk_96 (dk_at dksX6_types_1 5 rfl rfl)
theorem dX6_types_30 : decode cX6_types 30 = .ok (.putfield 163, 3) := dk_181 0 163 (dk_at dksX6_types_1 6 rfl rfl)
theorem dX6_types_33 : decode cX6_types 33 = .ok (.iinc 2 (-8), 3) := dk_132 2 248 (dk_at dksX6_types_1 9 rfl rfl)
theorem dX6_types_36 : decode cX6_types 36 = .ok (.goto (-33), 3) := dk_167 255 223 (dk_at dksX6_types_1 12 rfl rfl)
theorem dX6_types_39 : decode cX6_types 39 = .ok (.return_, 1) := dk_177 (dk_at dksX6_types_1 15 rfl rfl)
abbrev cX6_end : ByteArray := prog_22_method_27_code
def yX6_end : MethodName := ⟨RX6, "end", "(I)Z"⟩
def dkwX6_end_1 : List UInt8 := [181, 0, 163, 4, 172]
abbrev dktX6_end_1 : List UInt8 := dkwX6_end_1 ++ []
def dkwX6_end_0 : List UInt8 := [42, 3, 181, 0, 122, 42, 27, 3, 42, 180, 0, 163, 182, 0, 145, 154, 0, 5, 3, 172, 42, 27]
abbrev dktX6_end_0 : List UInt8 := dkwX6_end_0 ++ dktX6_end_1
theorem dksX6_end_0 : cX6_end.data.toList.drop 0 = dktX6_end_0 := by decide +kernel
theorem dksX6_end_1 : cX6_end.data.toList.drop 22 = dktX6_end_1 := dk_seg dksX6_end_0 22 rfl rfl
theorem dX6_end_0 : decode cX6_end 0 = .ok (.aload_n 0, 1) := dk_42 (dk_at dksX6_end_0 0 rfl rfl)
theorem dX6_end_1 : decode cX6_end 1 = .ok (.iconst 0, 1) := dk_3 (dk_at dksX6_end_0 1 rfl rfl)
theorem dX6_end_2 : decode cX6_end 2 = .ok (.putfield 122, 3) := dk_181 0 122 (dk_at dksX6_end_0 2 rfl rfl)
theorem dX6_end_5 : decode cX6_end 5 = .ok (.aload_n 0, 1) := dk_42 (dk_at dksX6_end_0 5 rfl rfl)
theorem dX6_end_6 : decode cX6_end 6 = .ok (.iload_n 1, 1) := dk_27 (dk_at dksX6_end_0 6 rfl rfl)
theorem dX6_end_7 : decode cX6_end 7 = .ok (.iconst 0, 1) := dk_3 (dk_at dksX6_end_0 7 rfl rfl)
theorem dX6_end_8 : decode cX6_end 8 = .ok (.aload_n 0, 1) := dk_42 (dk_at dksX6_end_0 8 rfl rfl)
theorem dX6_end_9 : decode cX6_end 9 = .ok (.getfield 163, 3) := dk_180 0 163 (dk_at dksX6_end_0 9 rfl rfl)
theorem dX6_end_12 : decode cX6_end 12 = .ok (.invokevirtual 145, 3) := dk_182 0 145 (dk_at dksX6_end_0 12 rfl rfl)
theorem dX6_end_15 : decode cX6_end 15 = .ok (.ifCond .ne 5, 3) := dk_154 0 5 (dk_at dksX6_end_0 15 rfl rfl)
theorem dX6_end_18 : decode cX6_end 18 = .ok (.iconst 0, 1) := dk_3 (dk_at dksX6_end_0 18 rfl rfl)
theorem dX6_end_19 : decode cX6_end 19 = .ok (.ireturn, 1) := dk_172 (dk_at dksX6_end_0 19 rfl rfl)
theorem dX6_end_20 : decode cX6_end 20 = .ok (.aload_n 0, 1) := dk_42 (dk_at dksX6_end_0 20 rfl rfl)
theorem dX6_end_21 : decode cX6_end 21 = .ok (.iload_n 1, 1) := dk_27 (dk_at dksX6_end_0 21 rfl rfl)
theorem dX6_end_22 : decode cX6_end 22 = .ok (.putfield 163, 3) := dk_181 0 163 (dk_at dksX6_end_1 0 rfl rfl)
theorem dX6_end_25 : decode cX6_end 25 = .ok (.iconst 1, 1) := dk_4 (dk_at dksX6_end_1 3 rfl rfl)
theorem dX6_end_26 : decode cX6_end 26 = .ok (.ireturn, 1) := dk_172 (dk_at dksX6_end_1 4 rfl rfl)
abbrev cX6_text : ByteArray := prog_22_method_60_code
def yX6_text : MethodName := ⟨RX6, "text", "(I)I"⟩
def dkwX6_text_4 : List UInt8 := [167, 0, 9, 42, 27, 28, 182, 1, 54, 28, 172]
abbrev dktX6_text_4 : List UInt8 := dkwX6_text_4 ++ []
def dkwX6_text_3 : List UInt8 := [181, 0, 58, 42, 3, 181, 0, 163, 28, 2, 160, 0, 5, 2, 172, 27, 154, 0, 11, 42, 28, 182, 1, 51]
abbrev dktX6_text_3 : List UInt8 := dkwX6_text_3 ++ dktX6_text_4
def dkwX6_text_2 : List UInt8 := [182, 1, 48, 61, 28, 2, 160, 0, 19, 42, 42, 180, 0, 199, 181, 1, 45, 42, 42, 180, 0, 202]
abbrev dktX6_text_2 : List UInt8 := dkwX6_text_2 ++ dktX6_text_3
def dkwX6_text_1 : List UInt8 := [181, 0, 205, 42, 3, 181, 0, 237, 2, 61, 42, 27, 3, 6, 182, 0, 145, 153, 0, 30, 42, 27]
abbrev dktX6_text_1 : List UInt8 := dkwX6_text_1 ++ dktX6_text_2
def dkwX6_text_0 : List UInt8 := [42, 3, 181, 0, 122, 42, 3, 181, 1, 45, 42, 2, 181, 0, 58, 42, 3, 181, 0, 170, 42, 3]
abbrev dktX6_text_0 : List UInt8 := dkwX6_text_0 ++ dktX6_text_1
theorem dksX6_text_0 : cX6_text.data.toList.drop 0 = dktX6_text_0 := by decide +kernel
theorem dksX6_text_1 : cX6_text.data.toList.drop 22 = dktX6_text_1 := dk_seg dksX6_text_0 22 rfl rfl
theorem dksX6_text_2 : cX6_text.data.toList.drop 44 = dktX6_text_2 := dk_seg dksX6_text_1 22 rfl rfl
theorem dksX6_text_3 : cX6_text.data.toList.drop 66 = dktX6_text_3 := dk_seg dksX6_text_2 22 rfl rfl
theorem dksX6_text_4 : cX6_text.data.toList.drop 90 = dktX6_text_4 := dk_seg dksX6_text_3 24 rfl rfl
theorem dX6_text_0 : decode cX6_text 0 = .ok (.aload_n 0, 1) := dk_42 (dk_at dksX6_text_0 0 rfl rfl)
theorem dX6_text_1 : decode cX6_text 1 = .ok (.iconst 0, 1) := dk_3 (dk_at dksX6_text_0 1 rfl rfl)
theorem dX6_text_2 : decode cX6_text 2 = .ok (.putfield 122, 3) := dk_181 0 122 (dk_at dksX6_text_0 2 rfl rfl)
theorem dX6_text_5 : decode cX6_text 5 = .ok (.aload_n 0, 1) := dk_42 (dk_at dksX6_text_0 5 rfl rfl)
theorem dX6_text_6 : decode cX6_text 6 = .ok (.iconst 0, 1) := dk_3 (dk_at dksX6_text_0 6 rfl rfl)
theorem dX6_text_7 : decode cX6_text 7 = .ok (.putfield 301, 3) := dk_181 1 45 (dk_at dksX6_text_0 7 rfl rfl)
theorem dX6_text_10 : decode cX6_text 10 = .ok (.aload_n 0, 1) := dk_42 (dk_at dksX6_text_0 10 rfl rfl)
theorem dX6_text_11 : decode cX6_text 11 = .ok (.iconst (-1), 1) := dk_2 (dk_at dksX6_text_0 11 rfl rfl)
theorem dX6_text_12 : decode cX6_text 12 = .ok (.putfield 58, 3) := dk_181 0 58 (dk_at dksX6_text_0 12 rfl rfl)
theorem dX6_text_15 : decode cX6_text 15 = .ok (.aload_n 0, 1) := dk_42 (dk_at dksX6_text_0 15 rfl rfl)
theorem dX6_text_16 : decode cX6_text 16 = .ok (.iconst 0, 1) := dk_3 (dk_at dksX6_text_0 16 rfl rfl)
theorem dX6_text_17 : decode cX6_text 17 = .ok (.putfield 170, 3) := dk_181 0 170 (dk_at dksX6_text_0 17 rfl rfl)
theorem dX6_text_20 : decode cX6_text 20 = .ok (.aload_n 0, 1) := dk_42 (dk_at dksX6_text_0 20 rfl rfl)
theorem dX6_text_21 : decode cX6_text 21 = .ok (.iconst 0, 1) := dk_3 (dk_at dksX6_text_0 21 rfl rfl)
theorem dX6_text_22 : decode cX6_text 22 = .ok (.putfield 205, 3) := dk_181 0 205 (dk_at dksX6_text_1 0 rfl rfl)
theorem dX6_text_25 : decode cX6_text 25 = .ok (.aload_n 0, 1) := dk_42 (dk_at dksX6_text_1 3 rfl rfl)
theorem dX6_text_26 : decode cX6_text 26 = .ok (.iconst 0, 1) := dk_3 (dk_at dksX6_text_1 4 rfl rfl)
theorem dX6_text_27 : decode cX6_text 27 = .ok (.putfield 237, 3) := dk_181 0 237 (dk_at dksX6_text_1 5 rfl rfl)
theorem dX6_text_30 : decode cX6_text 30 = .ok (.iconst (-1), 1) := dk_2 (dk_at dksX6_text_1 8 rfl rfl)
theorem dX6_text_31 : decode cX6_text 31 = .ok (.istore_n 2, 1) := dk_61 (dk_at dksX6_text_1 9 rfl rfl)
theorem dX6_text_32 : decode cX6_text 32 = .ok (.aload_n 0, 1) := dk_42 (dk_at dksX6_text_1 10 rfl rfl)
theorem dX6_text_33 : decode cX6_text 33 = .ok (.iload_n 1, 1) := dk_27 (dk_at dksX6_text_1 11 rfl rfl)
theorem dX6_text_34 : decode cX6_text 34 = .ok (.iconst 0, 1) := dk_3 (dk_at dksX6_text_1 12 rfl rfl)
theorem dX6_text_35 : decode cX6_text 35 = .ok (.iconst 3, 1) := dk_6 (dk_at dksX6_text_1 13 rfl rfl)
theorem dX6_text_36 : decode cX6_text 36 = .ok (.invokevirtual 145, 3) := dk_182 0 145 (dk_at dksX6_text_1 14 rfl rfl)
theorem dX6_text_39 : decode cX6_text 39 = .ok (.ifCond .eq 30, 3) := dk_153 0 30 (dk_at dksX6_text_1 17 rfl rfl)
theorem dX6_text_42 : decode cX6_text 42 = .ok (.aload_n 0, 1) := dk_42 (dk_at dksX6_text_1 20 rfl rfl)
theorem dX6_text_43 : decode cX6_text 43 = .ok (.iload_n 1, 1) := dk_27 (dk_at dksX6_text_1 21 rfl rfl)
theorem dX6_text_44 : decode cX6_text 44 = .ok (.invokevirtual 304, 3) := dk_182 1 48 (dk_at dksX6_text_2 0 rfl rfl)
theorem dX6_text_47 : decode cX6_text 47 = .ok (.istore_n 2, 1) := dk_61 (dk_at dksX6_text_2 3 rfl rfl)
theorem dX6_text_48 : decode cX6_text 48 = .ok (.iload_n 2, 1) := dk_28 (dk_at dksX6_text_2 4 rfl rfl)
theorem dX6_text_49 : decode cX6_text 49 = .ok (.iconst (-1), 1) := dk_2 (dk_at dksX6_text_2 5 rfl rfl)
theorem dX6_text_50 : decode cX6_text 50 = .ok (.if_icmp .ne 19, 3) := dk_160 0 19 (dk_at dksX6_text_2 6 rfl rfl)
theorem dX6_text_53 : decode cX6_text 53 = .ok (.aload_n 0, 1) := dk_42 (dk_at dksX6_text_2 9 rfl rfl)
theorem dX6_text_54 : decode cX6_text 54 = .ok (.aload_n 0, 1) := dk_42 (dk_at dksX6_text_2 10 rfl rfl)
theorem dX6_text_55 : decode cX6_text 55 = .ok (.getfield 199, 3) := dk_180 0 199 (dk_at dksX6_text_2 11 rfl rfl)
theorem dX6_text_58 : decode cX6_text 58 = .ok (.putfield 301, 3) := dk_181 1 45 (dk_at dksX6_text_2 14 rfl rfl)
theorem dX6_text_61 : decode cX6_text 61 = .ok (.aload_n 0, 1) := dk_42 (dk_at dksX6_text_2 17 rfl rfl)
theorem dX6_text_62 : decode cX6_text 62 = .ok (.aload_n 0, 1) := dk_42 (dk_at dksX6_text_2 18 rfl rfl)
theorem dX6_text_63 : decode cX6_text 63 = .ok (.getfield 202, 3) := dk_180 0 202 (dk_at dksX6_text_2 19 rfl rfl)
theorem dX6_text_66 : decode cX6_text 66 = .ok (.putfield 58, 3) := dk_181 0 58 (dk_at dksX6_text_3 0 rfl rfl)
theorem dX6_text_69 : decode cX6_text 69 = .ok (.aload_n 0, 1) := dk_42 (dk_at dksX6_text_3 3 rfl rfl)
theorem dX6_text_70 : decode cX6_text 70 = .ok (.iconst 0, 1) := dk_3 (dk_at dksX6_text_3 4 rfl rfl)
theorem dX6_text_71 : decode cX6_text 71 = .ok (.putfield 163, 3) := dk_181 0 163 (dk_at dksX6_text_3 5 rfl rfl)
theorem dX6_text_74 : decode cX6_text 74 = .ok (.iload_n 2, 1) := dk_28 (dk_at dksX6_text_3 8 rfl rfl)
theorem dX6_text_75 : decode cX6_text 75 = .ok (.iconst (-1), 1) := dk_2 (dk_at dksX6_text_3 9 rfl rfl)
theorem dX6_text_76 : decode cX6_text 76 = .ok (.if_icmp .ne 5, 3) := dk_160 0 5 (dk_at dksX6_text_3 10 rfl rfl)
theorem dX6_text_79 : decode cX6_text 79 = .ok (.iconst (-1), 1) := dk_2 (dk_at dksX6_text_3 13 rfl rfl)
theorem dX6_text_80 : decode cX6_text 80 = .ok (.ireturn, 1) := dk_172 (dk_at dksX6_text_3 14 rfl rfl)
theorem dX6_text_81 : decode cX6_text 81 = .ok (.iload_n 1, 1) := dk_27 (dk_at dksX6_text_3 15 rfl rfl)
theorem dX6_text_82 : decode cX6_text 82 = .ok (.ifCond .ne 11, 3) := dk_154 0 11 (dk_at dksX6_text_3 16 rfl rfl)
theorem dX6_text_85 : decode cX6_text 85 = .ok (.aload_n 0, 1) := dk_42 (dk_at dksX6_text_3 19 rfl rfl)
theorem dX6_text_86 : decode cX6_text 86 = .ok (.iload_n 2, 1) := dk_28 (dk_at dksX6_text_3 20 rfl rfl)
theorem dX6_text_87 : decode cX6_text 87 = .ok (.invokevirtual 307, 3) := dk_182 1 51 (dk_at dksX6_text_3 21 rfl rfl)
theorem dX6_text_90 : decode cX6_text 90 = .ok (.goto 9, 3) := dk_167 0 9 (dk_at dksX6_text_4 0 rfl rfl)
theorem dX6_text_93 : decode cX6_text 93 = .ok (.aload_n 0, 1) := dk_42 (dk_at dksX6_text_4 3 rfl rfl)
theorem dX6_text_94 : decode cX6_text 94 = .ok (.iload_n 1, 1) := dk_27 (dk_at dksX6_text_4 4 rfl rfl)
theorem dX6_text_95 : decode cX6_text 95 = .ok (.iload_n 2, 1) := dk_28 (dk_at dksX6_text_4 5 rfl rfl)
theorem dX6_text_96 : decode cX6_text 96 = .ok (.invokevirtual 310, 3) := dk_182 1 54 (dk_at dksX6_text_4 6 rfl rfl)
theorem dX6_text_99 : decode cX6_text 99 = .ok (.iload_n 2, 1) := dk_28 (dk_at dksX6_text_4 9 rfl rfl)
theorem dX6_text_100 : decode cX6_text 100 = .ok (.ireturn, 1) := dk_172 (dk_at dksX6_text_4 10 rfl rfl)
abbrev cX6_readsText : ByteArray := prog_22_method_58_code
def yX6_readsText : MethodName := ⟨RX6, "readsText", "(I)I"⟩
def dkwX6_readsText_1 : List UInt8 := [42, 182, 1, 27, 172, 27, 6, 160, 0, 10, 42, 182, 1, 30, 167, 0, 7, 42, 182, 1, 33, 172]
abbrev dktX6_readsText_1 : List UInt8 := dkwX6_readsText_1 ++ []
def dkwX6_readsText_0 : List UInt8 := [42, 3, 181, 1, 3, 42, 182, 0, 218, 27, 4, 160, 0, 8, 42, 182, 1, 24, 172, 27, 5, 160, 0, 8]
abbrev dktX6_readsText_0 : List UInt8 := dkwX6_readsText_0 ++ dktX6_readsText_1
theorem dksX6_readsText_0 : cX6_readsText.data.toList.drop 0 = dktX6_readsText_0 := by decide +kernel
theorem dksX6_readsText_1 : cX6_readsText.data.toList.drop 24 = dktX6_readsText_1 := dk_seg dksX6_readsText_0 24 rfl rfl
theorem dX6_readsText_0 : decode cX6_readsText 0 = .ok (.aload_n 0, 1) := dk_42 (dk_at dksX6_readsText_0 0 rfl rfl)
theorem dX6_readsText_1 : decode cX6_readsText 1 = .ok (.iconst 0, 1) := dk_3 (dk_at dksX6_readsText_0 1 rfl rfl)
theorem dX6_readsText_2 : decode cX6_readsText 2 = .ok (.putfield 259, 3) := dk_181 1 3 (dk_at dksX6_readsText_0 2 rfl rfl)
theorem dX6_readsText_5 : decode cX6_readsText 5 = .ok (.aload_n 0, 1) := dk_42 (dk_at dksX6_readsText_0 5 rfl rfl)
theorem dX6_readsText_6 : decode cX6_readsText 6 = .ok (.invokevirtual 218, 3) := dk_182 0 218 (dk_at dksX6_readsText_0 6 rfl rfl)
theorem dX6_readsText_9 : decode cX6_readsText 9 = .ok (.iload_n 1, 1) := dk_27 (dk_at dksX6_readsText_0 9 rfl rfl)
theorem dX6_readsText_10 : decode cX6_readsText 10 = .ok (.iconst 1, 1) := dk_4 (dk_at dksX6_readsText_0 10 rfl rfl)
theorem dX6_readsText_11 : decode cX6_readsText 11 = .ok (.if_icmp .ne 8, 3) := dk_160 0 8 (dk_at dksX6_readsText_0 11 rfl rfl)
theorem dX6_readsText_14 : decode cX6_readsText 14 = .ok (.aload_n 0, 1) := dk_42 (dk_at dksX6_readsText_0 14 rfl rfl)
theorem dX6_readsText_15 : decode cX6_readsText 15 = .ok (.invokevirtual 280, 3) := dk_182 1 24 (dk_at dksX6_readsText_0 15 rfl rfl)
theorem dX6_readsText_18 : decode cX6_readsText 18 = .ok (.ireturn, 1) := dk_172 (dk_at dksX6_readsText_0 18 rfl rfl)
theorem dX6_readsText_19 : decode cX6_readsText 19 = .ok (.iload_n 1, 1) := dk_27 (dk_at dksX6_readsText_0 19 rfl rfl)
theorem dX6_readsText_20 : decode cX6_readsText 20 = .ok (.iconst 2, 1) := dk_5 (dk_at dksX6_readsText_0 20 rfl rfl)
theorem dX6_readsText_21 : decode cX6_readsText 21 = .ok (.if_icmp .ne 8, 3) := dk_160 0 8 (dk_at dksX6_readsText_0 21 rfl rfl)
theorem dX6_readsText_24 : decode cX6_readsText 24 = .ok (.aload_n 0, 1) := dk_42 (dk_at dksX6_readsText_1 0 rfl rfl)
theorem dX6_readsText_25 : decode cX6_readsText 25 = .ok (.invokevirtual 283, 3) := dk_182 1 27 (dk_at dksX6_readsText_1 1 rfl rfl)
theorem dX6_readsText_28 : decode cX6_readsText 28 = .ok (.ireturn, 1) := dk_172 (dk_at dksX6_readsText_1 4 rfl rfl)
theorem dX6_readsText_29 : decode cX6_readsText 29 = .ok (.iload_n 1, 1) := dk_27 (dk_at dksX6_readsText_1 5 rfl rfl)
theorem dX6_readsText_30 : decode cX6_readsText 30 = .ok (.iconst 3, 1) := dk_6 (dk_at dksX6_readsText_1 6 rfl rfl)
theorem dX6_readsText_31 : decode cX6_readsText 31 = .ok (.if_icmp .ne 10, 3) := dk_160 0 10 (dk_at dksX6_readsText_1 7 rfl rfl)
theorem dX6_readsText_34 : decode cX6_readsText 34 = .ok (.aload_n 0, 1) := dk_42 (dk_at dksX6_readsText_1 10 rfl rfl)
theorem dX6_readsText_35 : decode cX6_readsText 35 = .ok (.invokevirtual 286, 3) := dk_182 1 30 (dk_at dksX6_readsText_1 11 rfl rfl)
theorem dX6_readsText_38 : decode cX6_readsText 38 = .ok (.goto 7, 3) := dk_167 0 7 (dk_at dksX6_readsText_1 14 rfl rfl)
theorem dX6_readsText_41 : decode cX6_readsText 41 = .ok (.aload_n 0, 1) := dk_42 (dk_at dksX6_readsText_1 17 rfl rfl)
theorem dX6_readsText_42 : decode cX6_readsText 42 = .ok (.invokevirtual 289, 3) := dk_182 1 33 (dk_at dksX6_readsText_1 18 rfl rfl)
theorem dX6_readsText_45 : decode cX6_readsText 45 = .ok (.ireturn, 1) := dk_172 (dk_at dksX6_readsText_1 21 rfl rfl)
abbrev cX6_reads : ByteArray := prog_22_method_33_code
def yX6_reads : MethodName := ⟨RX6, "reads", "()V"⟩
def dkwX6_reads_11 : List UInt8 := [42, 27, 182, 0, 196, 153, 0, 8, 42, 7, 181, 0, 180, 177]
abbrev dktX6_reads_11 : List UInt8 := dkwX6_reads_11 ++ []
def dkwX6_reads_10 : List UInt8 := [167, 255, 191, 42, 180, 0, 170, 42, 180, 0, 177, 100, 8, 162, 0, 24, 42, 6, 181, 0, 180, 167, 0, 16]
abbrev dktX6_reads_10 : List UInt8 := dkwX6_reads_10 ++ dktX6_reads_11
def dkwX6_reads_9 : List UInt8 := [96, 16, 48, 100, 167, 0, 7, 42, 180, 0, 183, 181, 0, 183, 42, 42, 180, 0, 170, 4, 96, 181, 0, 170]
abbrev dktX6_reads_9 : List UInt8 := dkwX6_reads_9 ++ dktX6_reads_10
def dkwX6_reads_8 : List UInt8 := [180, 0, 183, 17, 39, 16, 162, 0, 25, 16, 10, 42, 180, 0, 183, 104, 42, 42, 180, 0, 170, 182, 0, 173]
abbrev dktX6_reads_8 : List UInt8 := dkwX6_reads_8 ++ dktX6_reads_9
def dkwX6_reads_7 : List UInt8 := [27, 16, 48, 100, 181, 0, 183, 42, 42, 42, 180, 0, 170, 182, 0, 173, 182, 0, 193, 153, 0, 56, 42, 42]
abbrev dktX6_reads_7 : List UInt8 := dkwX6_reads_7 ++ dktX6_reads_8
def dkwX6_reads_6 : List UInt8 := [180, 0, 183, 2, 159, 0, 129, 42, 5, 181, 0, 180, 167, 0, 121, 42, 27, 182, 0, 193, 153, 0, 100, 42]
abbrev dktX6_reads_6 : List UInt8 := dkwX6_reads_6 ++ dktX6_reads_7
def dkwX6_reads_5 : List UInt8 := [181, 0, 170, 167, 255, 231, 42, 42, 42, 180, 0, 177, 42, 180, 0, 170, 182, 0, 189, 181, 0, 183, 42]
abbrev dktX6_reads_5 : List UInt8 := dkwX6_reads_5 ++ dktX6_reads_6
def dkwX6_reads_4 : List UInt8 := [42, 42, 42, 180, 0, 170, 182, 0, 173, 182, 0, 186, 153, 0, 16, 42, 42, 180, 0, 170, 4, 96]
abbrev dktX6_reads_4 : List UInt8 := dkwX6_reads_4 ++ dktX6_reads_5
def dkwX6_reads_3 : List UInt8 := [177, 42, 42, 180, 0, 170, 4, 96, 181, 0, 170, 42, 27, 181, 0, 183, 42, 27, 182, 0, 186, 153, 0, 63]
abbrev dktX6_reads_3 : List UInt8 := dkwX6_reads_3 ++ dktX6_reads_4
def dkwX6_reads_2 : List UInt8 := [42, 4, 181, 0, 180, 42, 42, 180, 0, 170, 182, 0, 173, 60, 27, 2, 160, 0, 9, 42, 3, 181, 0, 180]
abbrev dktX6_reads_2 : List UInt8 := dkwX6_reads_2 ++ dktX6_reads_3
def dkwX6_reads_1 : List UInt8 := [160, 0, 16, 42, 42, 180, 0, 170, 4, 96, 181, 0, 170, 167, 255, 220, 42, 42, 180, 0, 170, 181, 0, 177]
abbrev dktX6_reads_1 : List UInt8 := dkwX6_reads_1 ++ dktX6_reads_2
def dkwX6_reads_0 : List UInt8 := [42, 42, 180, 0, 170, 182, 0, 173, 16, 32, 159, 0, 16, 42, 42, 180, 0, 170, 182, 0, 173, 16, 10]
abbrev dktX6_reads_0 : List UInt8 := dkwX6_reads_0 ++ dktX6_reads_1
theorem dksX6_reads_0 : cX6_reads.data.toList.drop 0 = dktX6_reads_0 := by decide +kernel
theorem dksX6_reads_1 : cX6_reads.data.toList.drop 23 = dktX6_reads_1 := dk_seg dksX6_reads_0 23 rfl rfl
theorem dksX6_reads_2 : cX6_reads.data.toList.drop 47 = dktX6_reads_2 := dk_seg dksX6_reads_1 24 rfl rfl
theorem dksX6_reads_3 : cX6_reads.data.toList.drop 71 = dktX6_reads_3 := dk_seg dksX6_reads_2 24 rfl rfl
theorem dksX6_reads_4 : cX6_reads.data.toList.drop 95 = dktX6_reads_4 := dk_seg dksX6_reads_3 24 rfl rfl
theorem dksX6_reads_5 : cX6_reads.data.toList.drop 117 = dktX6_reads_5 := dk_seg dksX6_reads_4 22 rfl rfl
theorem dksX6_reads_6 : cX6_reads.data.toList.drop 140 = dktX6_reads_6 := dk_seg dksX6_reads_5 23 rfl rfl
theorem dksX6_reads_7 : cX6_reads.data.toList.drop 164 = dktX6_reads_7 := dk_seg dksX6_reads_6 24 rfl rfl
theorem dksX6_reads_8 : cX6_reads.data.toList.drop 188 = dktX6_reads_8 := dk_seg dksX6_reads_7 24 rfl rfl
theorem dksX6_reads_9 : cX6_reads.data.toList.drop 212 = dktX6_reads_9 := dk_seg dksX6_reads_8 24 rfl rfl
theorem dksX6_reads_10 : cX6_reads.data.toList.drop 236 = dktX6_reads_10 := dk_seg dksX6_reads_9 24 rfl rfl
theorem dksX6_reads_11 : cX6_reads.data.toList.drop 260 = dktX6_reads_11 := dk_seg dksX6_reads_10 24 rfl rfl
theorem dX6_reads_0 : decode cX6_reads 0 = .ok (.aload_n 0, 1) := dk_42 (dk_at dksX6_reads_0 0 rfl rfl)
theorem dX6_reads_1 : decode cX6_reads 1 = .ok (.aload_n 0, 1) := dk_42 (dk_at dksX6_reads_0 1 rfl rfl)
theorem dX6_reads_2 : decode cX6_reads 2 = .ok (.getfield 170, 3) := dk_180 0 170 (dk_at dksX6_reads_0 2 rfl rfl)
theorem dX6_reads_5 : decode cX6_reads 5 = .ok (.invokevirtual 173, 3) := dk_182 0 173 (dk_at dksX6_reads_0 5 rfl rfl)
theorem dX6_reads_8 : decode cX6_reads 8 = .ok (.bipush 32, 2) := dk_16 32 (dk_at dksX6_reads_0 8 rfl rfl)
theorem dX6_reads_10 : decode cX6_reads 10 = .ok (.if_icmp .eq 16, 3) := dk_159 0 16 (dk_at dksX6_reads_0 10 rfl rfl)
theorem dX6_reads_13 : decode cX6_reads 13 = .ok (.aload_n 0, 1) := dk_42 (dk_at dksX6_reads_0 13 rfl rfl)
theorem dX6_reads_14 : decode cX6_reads 14 = .ok (.aload_n 0, 1) := dk_42 (dk_at dksX6_reads_0 14 rfl rfl)
theorem dX6_reads_15 : decode cX6_reads 15 = .ok (.getfield 170, 3) := dk_180 0 170 (dk_at dksX6_reads_0 15 rfl rfl)
theorem dX6_reads_18 : decode cX6_reads 18 = .ok (.invokevirtual 173, 3) := dk_182 0 173 (dk_at dksX6_reads_0 18 rfl rfl)
theorem dX6_reads_21 : decode cX6_reads 21 = .ok (.bipush 10, 2) := dk_16 10 (dk_at dksX6_reads_0 21 rfl rfl)
theorem dX6_reads_23 : decode cX6_reads 23 = .ok (.if_icmp .ne 16, 3) := dk_160 0 16 (dk_at dksX6_reads_1 0 rfl rfl)
theorem dX6_reads_26 : decode cX6_reads 26 = .ok (.aload_n 0, 1) := dk_42 (dk_at dksX6_reads_1 3 rfl rfl)
theorem dX6_reads_27 : decode cX6_reads 27 = .ok (.aload_n 0, 1) := dk_42 (dk_at dksX6_reads_1 4 rfl rfl)
theorem dX6_reads_28 : decode cX6_reads 28 = .ok (.getfield 170, 3) := dk_180 0 170 (dk_at dksX6_reads_1 5 rfl rfl)
theorem dX6_reads_31 : decode cX6_reads 31 = .ok (.iconst 1, 1) := dk_4 (dk_at dksX6_reads_1 8 rfl rfl)
theorem dX6_reads_32 : decode cX6_reads 32 = .ok (.iadd, 1) := dk_96 (dk_at dksX6_reads_1 9 rfl rfl)
theorem dX6_reads_33 : decode cX6_reads 33 = .ok (.putfield 170, 3) := dk_181 0 170 (dk_at dksX6_reads_1 10 rfl rfl)
theorem dX6_reads_36 : decode cX6_reads 36 = .ok (.goto (-36), 3) := dk_167 255 220 (dk_at dksX6_reads_1 13 rfl rfl)
theorem dX6_reads_39 : decode cX6_reads 39 = .ok (.aload_n 0, 1) := dk_42 (dk_at dksX6_reads_1 16 rfl rfl)
theorem dX6_reads_40 : decode cX6_reads 40 = .ok (.aload_n 0, 1) := dk_42 (dk_at dksX6_reads_1 17 rfl rfl)
theorem dX6_reads_41 : decode cX6_reads 41 = .ok (.getfield 170, 3) := dk_180 0 170 (dk_at dksX6_reads_1 18 rfl rfl)
theorem dX6_reads_44 : decode cX6_reads 44 = .ok (.putfield 177, 3) := dk_181 0 177 (dk_at dksX6_reads_1 21 rfl rfl)
theorem dX6_reads_47 : decode cX6_reads 47 = .ok (.aload_n 0, 1) := dk_42 (dk_at dksX6_reads_2 0 rfl rfl)
theorem dX6_reads_48 : decode cX6_reads 48 = .ok (.iconst 1, 1) := dk_4 (dk_at dksX6_reads_2 1 rfl rfl)
theorem dX6_reads_49 : decode cX6_reads 49 = .ok (.putfield 180, 3) := dk_181 0 180 (dk_at dksX6_reads_2 2 rfl rfl)
theorem dX6_reads_52 : decode cX6_reads 52 = .ok (.aload_n 0, 1) := dk_42 (dk_at dksX6_reads_2 5 rfl rfl)
theorem dX6_reads_53 : decode cX6_reads 53 = .ok (.aload_n 0, 1) := dk_42 (dk_at dksX6_reads_2 6 rfl rfl)
theorem dX6_reads_54 : decode cX6_reads 54 = .ok (.getfield 170, 3) := dk_180 0 170 (dk_at dksX6_reads_2 7 rfl rfl)
theorem dX6_reads_57 : decode cX6_reads 57 = .ok (.invokevirtual 173, 3) := dk_182 0 173 (dk_at dksX6_reads_2 10 rfl rfl)
theorem dX6_reads_60 : decode cX6_reads 60 = .ok (.istore_n 1, 1) := dk_60 (dk_at dksX6_reads_2 13 rfl rfl)
theorem dX6_reads_61 : decode cX6_reads 61 = .ok (.iload_n 1, 1) := dk_27 (dk_at dksX6_reads_2 14 rfl rfl)
theorem dX6_reads_62 : decode cX6_reads 62 = .ok (.iconst (-1), 1) := dk_2 (dk_at dksX6_reads_2 15 rfl rfl)
theorem dX6_reads_63 : decode cX6_reads 63 = .ok (.if_icmp .ne 9, 3) := dk_160 0 9 (dk_at dksX6_reads_2 16 rfl rfl)
theorem dX6_reads_66 : decode cX6_reads 66 = .ok (.aload_n 0, 1) := dk_42 (dk_at dksX6_reads_2 19 rfl rfl)
theorem dX6_reads_67 : decode cX6_reads 67 = .ok (.iconst 0, 1) := dk_3 (dk_at dksX6_reads_2 20 rfl rfl)
theorem dX6_reads_68 : decode cX6_reads 68 = .ok (.putfield 180, 3) := dk_181 0 180 (dk_at dksX6_reads_2 21 rfl rfl)
theorem dX6_reads_71 : decode cX6_reads 71 = .ok (.return_, 1) := dk_177 (dk_at dksX6_reads_3 0 rfl rfl)
theorem dX6_reads_72 : decode cX6_reads 72 = .ok (.aload_n 0, 1) := dk_42 (dk_at dksX6_reads_3 1 rfl rfl)
theorem dX6_reads_73 : decode cX6_reads 73 = .ok (.aload_n 0, 1) := dk_42 (dk_at dksX6_reads_3 2 rfl rfl)
theorem dX6_reads_74 : decode cX6_reads 74 = .ok (.getfield 170, 3) := dk_180 0 170 (dk_at dksX6_reads_3 3 rfl rfl)
theorem dX6_reads_77 : decode cX6_reads 77 = .ok (.iconst 1, 1) := dk_4 (dk_at dksX6_reads_3 6 rfl rfl)
theorem dX6_reads_78 : decode cX6_reads 78 = .ok (.iadd, 1) := dk_96 (dk_at dksX6_reads_3 7 rfl rfl)
theorem dX6_reads_79 : decode cX6_reads 79 = .ok (.putfield 170, 3) := dk_181 0 170 (dk_at dksX6_reads_3 8 rfl rfl)
theorem dX6_reads_82 : decode cX6_reads 82 = .ok (.aload_n 0, 1) := dk_42 (dk_at dksX6_reads_3 11 rfl rfl)
theorem dX6_reads_83 : decode cX6_reads 83 = .ok (.iload_n 1, 1) := dk_27 (dk_at dksX6_reads_3 12 rfl rfl)
theorem dX6_reads_84 : decode cX6_reads 84 = .ok (.putfield 183, 3) := dk_181 0 183 (dk_at dksX6_reads_3 13 rfl rfl)
theorem dX6_reads_87 : decode cX6_reads 87 = .ok (.aload_n 0, 1) := dk_42 (dk_at dksX6_reads_3 16 rfl rfl)
theorem dX6_reads_88 : decode cX6_reads 88 = .ok (.iload_n 1, 1) := dk_27 (dk_at dksX6_reads_3 17 rfl rfl)
theorem dX6_reads_89 : decode cX6_reads 89 = .ok (.invokevirtual 186, 3) := dk_182 0 186 (dk_at dksX6_reads_3 18 rfl rfl)
theorem dX6_reads_92 : decode cX6_reads 92 = .ok (.ifCond .eq 63, 3) := dk_153 0 63 (dk_at dksX6_reads_3 21 rfl rfl)
theorem dX6_reads_95 : decode cX6_reads 95 = .ok (.aload_n 0, 1) := dk_42 (dk_at dksX6_reads_4 0 rfl rfl)
theorem dX6_reads_96 : decode cX6_reads 96 = .ok (.aload_n 0, 1) := dk_42 (dk_at dksX6_reads_4 1 rfl rfl)
theorem dX6_reads_97 : decode cX6_reads 97 = .ok (.aload_n 0, 1) := dk_42 (dk_at dksX6_reads_4 2 rfl rfl)
theorem dX6_reads_98 : decode cX6_reads 98 = .ok (.getfield 170, 3) := dk_180 0 170 (dk_at dksX6_reads_4 3 rfl rfl)
theorem dX6_reads_101 : decode cX6_reads 101 = .ok (.invokevirtual 173, 3) := dk_182 0 173 (dk_at dksX6_reads_4 6 rfl rfl)
theorem dX6_reads_104 : decode cX6_reads 104 = .ok (.invokevirtual 186, 3) := dk_182 0 186 (dk_at dksX6_reads_4 9 rfl rfl)
theorem dX6_reads_107 : decode cX6_reads 107 = .ok (.ifCond .eq 16, 3) := dk_153 0 16 (dk_at dksX6_reads_4 12 rfl rfl)
theorem dX6_reads_110 : decode cX6_reads 110 = .ok (.aload_n 0, 1) := dk_42 (dk_at dksX6_reads_4 15 rfl rfl)
theorem dX6_reads_111 : decode cX6_reads 111 = .ok (.aload_n 0, 1) := dk_42 (dk_at dksX6_reads_4 16 rfl rfl)
theorem dX6_reads_112 : decode cX6_reads 112 = .ok (.getfield 170, 3) := dk_180 0 170 (dk_at dksX6_reads_4 17 rfl rfl)
theorem dX6_reads_115 : decode cX6_reads 115 = .ok (.iconst 1, 1) := dk_4 (dk_at dksX6_reads_4 20 rfl rfl)
theorem dX6_reads_116 : decode cX6_reads 116 = .ok (.iadd, 1) := dk_96 (dk_at dksX6_reads_4 21 rfl rfl)
theorem dX6_reads_117 : decode cX6_reads 117 = .ok (.putfield 170, 3) := dk_181 0 170 (dk_at dksX6_reads_5 0 rfl rfl)
theorem dX6_reads_120 : decode cX6_reads 120 = .ok (.goto (-25), 3) := dk_167 255 231 (dk_at dksX6_reads_5 3 rfl rfl)
theorem dX6_reads_123 : decode cX6_reads 123 = .ok (.aload_n 0, 1) := dk_42 (dk_at dksX6_reads_5 6 rfl rfl)
theorem dX6_reads_124 : decode cX6_reads 124 = .ok (.aload_n 0, 1) := dk_42 (dk_at dksX6_reads_5 7 rfl rfl)
theorem dX6_reads_125 : decode cX6_reads 125 = .ok (.aload_n 0, 1) := dk_42 (dk_at dksX6_reads_5 8 rfl rfl)
theorem dX6_reads_126 : decode cX6_reads 126 = .ok (.getfield 177, 3) := dk_180 0 177 (dk_at dksX6_reads_5 9 rfl rfl)
theorem dX6_reads_129 : decode cX6_reads 129 = .ok (.aload_n 0, 1) := dk_42 (dk_at dksX6_reads_5 12 rfl rfl)
theorem dX6_reads_130 : decode cX6_reads 130 = .ok (.getfield 170, 3) := dk_180 0 170 (dk_at dksX6_reads_5 13 rfl rfl)
theorem dX6_reads_133 : decode cX6_reads 133 = .ok (.invokevirtual 189, 3) := dk_182 0 189 (dk_at dksX6_reads_5 16 rfl rfl)
theorem dX6_reads_136 : decode cX6_reads 136 = .ok (.putfield 183, 3) := dk_181 0 183 (dk_at dksX6_reads_5 19 rfl rfl)
theorem dX6_reads_139 : decode cX6_reads 139 = .ok (.aload_n 0, 1) := dk_42 (dk_at dksX6_reads_5 22 rfl rfl)
theorem dX6_reads_140 : decode cX6_reads 140 = .ok (.getfield 183, 3) := dk_180 0 183 (dk_at dksX6_reads_6 0 rfl rfl)
theorem dX6_reads_143 : decode cX6_reads 143 = .ok (.iconst (-1), 1) := dk_2 (dk_at dksX6_reads_6 3 rfl rfl)
theorem dX6_reads_144 : decode cX6_reads 144 = .ok (.if_icmp .eq 129, 3) := dk_159 0 129 (dk_at dksX6_reads_6 4 rfl rfl)
theorem dX6_reads_147 : decode cX6_reads 147 = .ok (.aload_n 0, 1) := dk_42 (dk_at dksX6_reads_6 7 rfl rfl)
theorem dX6_reads_148 : decode cX6_reads 148 = .ok (.iconst 2, 1) := dk_5 (dk_at dksX6_reads_6 8 rfl rfl)
theorem dX6_reads_149 : decode cX6_reads 149 = .ok (.putfield 180, 3) := dk_181 0 180 (dk_at dksX6_reads_6 9 rfl rfl)
theorem dX6_reads_152 : decode cX6_reads 152 = .ok (.goto 121, 3) := dk_167 0 121 (dk_at dksX6_reads_6 12 rfl rfl)
theorem dX6_reads_155 : decode cX6_reads 155 = .ok (.aload_n 0, 1) := dk_42 (dk_at dksX6_reads_6 15 rfl rfl)
theorem dX6_reads_156 : decode cX6_reads 156 = .ok (.iload_n 1, 1) := dk_27 (dk_at dksX6_reads_6 16 rfl rfl)
theorem dX6_reads_157 : decode cX6_reads 157 = .ok (.invokevirtual 193, 3) := dk_182 0 193 (dk_at dksX6_reads_6 17 rfl rfl)
theorem dX6_reads_160 : decode cX6_reads 160 = .ok (.ifCond .eq 100, 3) := dk_153 0 100 (dk_at dksX6_reads_6 20 rfl rfl)
theorem dX6_reads_163 : decode cX6_reads 163 = .ok (.aload_n 0, 1) := dk_42 (dk_at dksX6_reads_6 23 rfl rfl)
theorem dX6_reads_164 : decode cX6_reads 164 = .ok (.iload_n 1, 1) := dk_27 (dk_at dksX6_reads_7 0 rfl rfl)
theorem dX6_reads_165 : decode cX6_reads 165 = .ok (.bipush 48, 2) := dk_16 48 (dk_at dksX6_reads_7 1 rfl rfl)
theorem dX6_reads_167 : decode cX6_reads 167 = .ok (.isub, 1) := dk_100 (dk_at dksX6_reads_7 3 rfl rfl)
theorem dX6_reads_168 : decode cX6_reads 168 = .ok (.putfield 183, 3) := dk_181 0 183 (dk_at dksX6_reads_7 4 rfl rfl)
theorem dX6_reads_171 : decode cX6_reads 171 = .ok (.aload_n 0, 1) := dk_42 (dk_at dksX6_reads_7 7 rfl rfl)
theorem dX6_reads_172 : decode cX6_reads 172 = .ok (.aload_n 0, 1) := dk_42 (dk_at dksX6_reads_7 8 rfl rfl)
theorem dX6_reads_173 : decode cX6_reads 173 = .ok (.aload_n 0, 1) := dk_42 (dk_at dksX6_reads_7 9 rfl rfl)
theorem dX6_reads_174 : decode cX6_reads 174 = .ok (.getfield 170, 3) := dk_180 0 170 (dk_at dksX6_reads_7 10 rfl rfl)
theorem dX6_reads_177 : decode cX6_reads 177 = .ok (.invokevirtual 173, 3) := dk_182 0 173 (dk_at dksX6_reads_7 13 rfl rfl)
theorem dX6_reads_180 : decode cX6_reads 180 = .ok (.invokevirtual 193, 3) := dk_182 0 193 (dk_at dksX6_reads_7 16 rfl rfl)
theorem dX6_reads_183 : decode cX6_reads 183 = .ok (.ifCond .eq 56, 3) := dk_153 0 56 (dk_at dksX6_reads_7 19 rfl rfl)
theorem dX6_reads_186 : decode cX6_reads 186 = .ok (.aload_n 0, 1) := dk_42 (dk_at dksX6_reads_7 22 rfl rfl)
theorem dX6_reads_187 : decode cX6_reads 187 = .ok (.aload_n 0, 1) := dk_42 (dk_at dksX6_reads_7 23 rfl rfl)
theorem dX6_reads_188 : decode cX6_reads 188 = .ok (.getfield 183, 3) := dk_180 0 183 (dk_at dksX6_reads_8 0 rfl rfl)
theorem dX6_reads_191 : decode cX6_reads 191 = .ok (.sipush 10000, 3) := dk_17 39 16 (dk_at dksX6_reads_8 3 rfl rfl)
theorem dX6_reads_194 : decode cX6_reads 194 = .ok (.if_icmp .ge 25, 3) := dk_162 0 25 (dk_at dksX6_reads_8 6 rfl rfl)
theorem dX6_reads_197 : decode cX6_reads 197 = .ok (.bipush 10, 2) := dk_16 10 (dk_at dksX6_reads_8 9 rfl rfl)
theorem dX6_reads_199 : decode cX6_reads 199 = .ok (.aload_n 0, 1) := dk_42 (dk_at dksX6_reads_8 11 rfl rfl)
theorem dX6_reads_200 : decode cX6_reads 200 = .ok (.getfield 183, 3) := dk_180 0 183 (dk_at dksX6_reads_8 12 rfl rfl)
theorem dX6_reads_203 : decode cX6_reads 203 = .ok (.imul, 1) := dk_104 (dk_at dksX6_reads_8 15 rfl rfl)
theorem dX6_reads_204 : decode cX6_reads 204 = .ok (.aload_n 0, 1) := dk_42 (dk_at dksX6_reads_8 16 rfl rfl)
theorem dX6_reads_205 : decode cX6_reads 205 = .ok (.aload_n 0, 1) := dk_42 (dk_at dksX6_reads_8 17 rfl rfl)
theorem dX6_reads_206 : decode cX6_reads 206 = .ok (.getfield 170, 3) := dk_180 0 170 (dk_at dksX6_reads_8 18 rfl rfl)
theorem dX6_reads_209 : decode cX6_reads 209 = .ok (.invokevirtual 173, 3) := dk_182 0 173 (dk_at dksX6_reads_8 21 rfl rfl)
theorem dX6_reads_212 : decode cX6_reads 212 = .ok (.iadd, 1) := dk_96 (dk_at dksX6_reads_9 0 rfl rfl)
theorem dX6_reads_213 : decode cX6_reads 213 = .ok (.bipush 48, 2) := dk_16 48 (dk_at dksX6_reads_9 1 rfl rfl)
theorem dX6_reads_215 : decode cX6_reads 215 = .ok (.isub, 1) := dk_100 (dk_at dksX6_reads_9 3 rfl rfl)
theorem dX6_reads_216 : decode cX6_reads 216 = .ok (.goto 7, 3) := dk_167 0 7 (dk_at dksX6_reads_9 4 rfl rfl)
theorem dX6_reads_219 : decode cX6_reads 219 = .ok (.aload_n 0, 1) := dk_42 (dk_at dksX6_reads_9 7 rfl rfl)
theorem dX6_reads_220 : decode cX6_reads 220 = .ok (.getfield 183, 3) := dk_180 0 183 (dk_at dksX6_reads_9 8 rfl rfl)
theorem dX6_reads_223 : decode cX6_reads 223 = .ok (.putfield 183, 3) := dk_181 0 183 (dk_at dksX6_reads_9 11 rfl rfl)
theorem dX6_reads_226 : decode cX6_reads 226 = .ok (.aload_n 0, 1) := dk_42 (dk_at dksX6_reads_9 14 rfl rfl)
theorem dX6_reads_227 : decode cX6_reads 227 = .ok (.aload_n 0, 1) := dk_42 (dk_at dksX6_reads_9 15 rfl rfl)
theorem dX6_reads_228 : decode cX6_reads 228 = .ok (.getfield 170, 3) := dk_180 0 170 (dk_at dksX6_reads_9 16 rfl rfl)
theorem dX6_reads_231 : decode cX6_reads 231 = .ok (.iconst 1, 1) := dk_4 (dk_at dksX6_reads_9 19 rfl rfl)
theorem dX6_reads_232 : decode cX6_reads 232 = .ok (.iadd, 1) := dk_96 (dk_at dksX6_reads_9 20 rfl rfl)
theorem dX6_reads_233 : decode cX6_reads 233 = .ok (.putfield 170, 3) := dk_181 0 170 (dk_at dksX6_reads_9 21 rfl rfl)
theorem dX6_reads_236 : decode cX6_reads 236 = .ok (.goto (-65), 3) := dk_167 255 191 (dk_at dksX6_reads_10 0 rfl rfl)
theorem dX6_reads_239 : decode cX6_reads 239 = .ok (.aload_n 0, 1) := dk_42 (dk_at dksX6_reads_10 3 rfl rfl)
theorem dX6_reads_240 : decode cX6_reads 240 = .ok (.getfield 170, 3) := dk_180 0 170 (dk_at dksX6_reads_10 4 rfl rfl)
theorem dX6_reads_243 : decode cX6_reads 243 = .ok (.aload_n 0, 1) := dk_42 (dk_at dksX6_reads_10 7 rfl rfl)
theorem dX6_reads_244 : decode cX6_reads 244 = .ok (.getfield 177, 3) := dk_180 0 177 (dk_at dksX6_reads_10 8 rfl rfl)
theorem dX6_reads_247 : decode cX6_reads 247 = .ok (.isub, 1) := dk_100 (dk_at dksX6_reads_10 11 rfl rfl)
theorem dX6_reads_248 : decode cX6_reads 248 = .ok (.iconst 5, 1) := dk_8 (dk_at dksX6_reads_10 12 rfl rfl)
theorem dX6_reads_249 : decode cX6_reads 249 = .ok (.if_icmp .ge 24, 3) := dk_162 0 24 (dk_at dksX6_reads_10 13 rfl rfl)
theorem dX6_reads_252 : decode cX6_reads 252 = .ok (.aload_n 0, 1) := dk_42 (dk_at dksX6_reads_10 16 rfl rfl)
theorem dX6_reads_253 : decode cX6_reads 253 = .ok (.iconst 3, 1) := dk_6 (dk_at dksX6_reads_10 17 rfl rfl)
theorem dX6_reads_254 : decode cX6_reads 254 = .ok (.putfield 180, 3) := dk_181 0 180 (dk_at dksX6_reads_10 18 rfl rfl)
theorem dX6_reads_257 : decode cX6_reads 257 = .ok (.goto 16, 3) := dk_167 0 16 (dk_at dksX6_reads_10 21 rfl rfl)
theorem dX6_reads_260 : decode cX6_reads 260 = .ok (.aload_n 0, 1) := dk_42 (dk_at dksX6_reads_11 0 rfl rfl)
theorem dX6_reads_261 : decode cX6_reads 261 = .ok (.iload_n 1, 1) := dk_27 (dk_at dksX6_reads_11 1 rfl rfl)
theorem dX6_reads_262 : decode cX6_reads 262 = .ok (.invokevirtual 196, 3) := dk_182 0 196 (dk_at dksX6_reads_11 2 rfl rfl)
theorem dX6_reads_265 : decode cX6_reads 265 = .ok (.ifCond .eq 8, 3) := dk_153 0 8 (dk_at dksX6_reads_11 5 rfl rfl)
theorem dX6_reads_268 : decode cX6_reads 268 = .ok (.aload_n 0, 1) := dk_42 (dk_at dksX6_reads_11 8 rfl rfl)
theorem dX6_reads_269 : decode cX6_reads 269 = .ok (.iconst 4, 1) := dk_7 (dk_at dksX6_reads_11 9 rfl rfl)
theorem dX6_reads_270 : decode cX6_reads 270 = .ok (.putfield 180, 3) := dk_181 0 180 (dk_at dksX6_reads_11 10 rfl rfl)
theorem dX6_reads_273 : decode cX6_reads 273 = .ok (.return_, 1) := dk_177 (dk_at dksX6_reads_11 13 rfl rfl)
abbrev cX6_raw : ByteArray := prog_22_method_28_code
def yX6_raw : MethodName := ⟨RX6, "raw", "(I)I"⟩
def dkwX6_raw_0 : List UInt8 := [27, 42, 180, 0, 163, 162, 0, 12, 42, 180, 0, 28, 27, 46, 167, 0, 4, 2, 172]
abbrev dktX6_raw_0 : List UInt8 := dkwX6_raw_0 ++ []
theorem dksX6_raw_0 : cX6_raw.data.toList.drop 0 = dktX6_raw_0 := by decide +kernel
theorem dX6_raw_0 : decode cX6_raw 0 = .ok (.iload_n 1, 1) := dk_27 (dk_at dksX6_raw_0 0 rfl rfl)
theorem dX6_raw_1 : decode cX6_raw 1 = .ok (.aload_n 0, 1) := dk_42 (dk_at dksX6_raw_0 1 rfl rfl)
theorem dX6_raw_2 : decode cX6_raw 2 = .ok (.getfield 163, 3) := dk_180 0 163 (dk_at dksX6_raw_0 2 rfl rfl)
theorem dX6_raw_5 : decode cX6_raw 5 = .ok (.if_icmp .ge 12, 3) := dk_162 0 12 (dk_at dksX6_raw_0 5 rfl rfl)
theorem dX6_raw_8 : decode cX6_raw 8 = .ok (.aload_n 0, 1) := dk_42 (dk_at dksX6_raw_0 8 rfl rfl)
theorem dX6_raw_9 : decode cX6_raw 9 = .ok (.getfield 28, 3) := dk_180 0 28 (dk_at dksX6_raw_0 9 rfl rfl)
theorem dX6_raw_12 : decode cX6_raw 12 = .ok (.iload_n 1, 1) := dk_27 (dk_at dksX6_raw_0 12 rfl rfl)
theorem dX6_raw_13 : decode cX6_raw 13 = .ok (.iaload, 1) := dk_46 (dk_at dksX6_raw_0 13 rfl rfl)
theorem dX6_raw_14 : decode cX6_raw 14 = .ok (.goto 4, 3) := dk_167 0 4 (dk_at dksX6_raw_0 14 rfl rfl)
theorem dX6_raw_17 : decode cX6_raw 17 = .ok (.iconst (-1), 1) := dk_2 (dk_at dksX6_raw_0 17 rfl rfl)
theorem dX6_raw_18 : decode cX6_raw 18 = .ok (.ireturn, 1) := dk_172 (dk_at dksX6_raw_0 18 rfl rfl)
abbrev cX6_isLetter : ByteArray := prog_22_method_29_code
def yX6_isLetter : MethodName := ⟨RX6, "isLetter", "(I)Z"⟩
def dkwX6_isLetter_1 : List UInt8 := [4, 167, 0, 4, 3, 172]
abbrev dktX6_isLetter_1 : List UInt8 := dkwX6_isLetter_1 ++ []
def dkwX6_isLetter_0 : List UInt8 := [42, 27, 16, 97, 16, 122, 182, 0, 145, 154, 0, 15, 42, 27, 16, 65, 16, 90, 182, 0, 145, 153, 0, 7]
abbrev dktX6_isLetter_0 : List UInt8 := dkwX6_isLetter_0 ++ dktX6_isLetter_1
theorem dksX6_isLetter_0 : cX6_isLetter.data.toList.drop 0 = dktX6_isLetter_0 := by decide +kernel
theorem dksX6_isLetter_1 : cX6_isLetter.data.toList.drop 24 = dktX6_isLetter_1 := dk_seg dksX6_isLetter_0 24 rfl rfl
theorem dX6_isLetter_0 : decode cX6_isLetter 0 = .ok (.aload_n 0, 1) := dk_42 (dk_at dksX6_isLetter_0 0 rfl rfl)
theorem dX6_isLetter_1 : decode cX6_isLetter 1 = .ok (.iload_n 1, 1) := dk_27 (dk_at dksX6_isLetter_0 1 rfl rfl)
theorem dX6_isLetter_2 : decode cX6_isLetter 2 = .ok (.bipush 97, 2) := dk_16 97 (dk_at dksX6_isLetter_0 2 rfl rfl)
theorem dX6_isLetter_4 : decode cX6_isLetter 4 = .ok (.bipush 122, 2) := dk_16 122 (dk_at dksX6_isLetter_0 4 rfl rfl)
theorem dX6_isLetter_6 : decode cX6_isLetter 6 = .ok (.invokevirtual 145, 3) := dk_182 0 145 (dk_at dksX6_isLetter_0 6 rfl rfl)
theorem dX6_isLetter_9 : decode cX6_isLetter 9 = .ok (.ifCond .ne 15, 3) := dk_154 0 15 (dk_at dksX6_isLetter_0 9 rfl rfl)
theorem dX6_isLetter_12 : decode cX6_isLetter 12 = .ok (.aload_n 0, 1) := dk_42 (dk_at dksX6_isLetter_0 12 rfl rfl)
theorem dX6_isLetter_13 : decode cX6_isLetter 13 = .ok (.iload_n 1, 1) := dk_27 (dk_at dksX6_isLetter_0 13 rfl rfl)
theorem dX6_isLetter_14 : decode cX6_isLetter 14 = .ok (.bipush 65, 2) := dk_16 65 (dk_at dksX6_isLetter_0 14 rfl rfl)
theorem dX6_isLetter_16 : decode cX6_isLetter 16 = .ok (.bipush 90, 2) := dk_16 90 (dk_at dksX6_isLetter_0 16 rfl rfl)
theorem dX6_isLetter_18 : decode cX6_isLetter 18 = .ok (.invokevirtual 145, 3) := dk_182 0 145 (dk_at dksX6_isLetter_0 18 rfl rfl)
theorem dX6_isLetter_21 : decode cX6_isLetter 21 = .ok (.ifCond .eq 7, 3) := dk_153 0 7 (dk_at dksX6_isLetter_0 21 rfl rfl)
theorem dX6_isLetter_24 : decode cX6_isLetter 24 = .ok (.iconst 1, 1) := dk_4 (dk_at dksX6_isLetter_1 0 rfl rfl)
theorem dX6_isLetter_25 : decode cX6_isLetter 25 = .ok (.goto 4, 3) := dk_167 0 4 (dk_at dksX6_isLetter_1 1 rfl rfl)
theorem dX6_isLetter_28 : decode cX6_isLetter 28 = .ok (.iconst 0, 1) := dk_3 (dk_at dksX6_isLetter_1 4 rfl rfl)
theorem dX6_isLetter_29 : decode cX6_isLetter 29 = .ok (.ireturn, 1) := dk_172 (dk_at dksX6_isLetter_1 5 rfl rfl)
abbrev cX6_wordAt : ByteArray := prog_22_method_32_code
def yX6_wordAt : MethodName := ⟨RX6, "wordAt", "(II)I"⟩
def dkwX6_wordAt_5 : List UInt8 := [2, 172]
abbrev dktX6_wordAt_5 : List UInt8 := dkwX6_wordAt_5 ++ []
def dkwX6_wordAt_4 : List UInt8 := [42, 180, 0, 31, 21, 4, 46, 16, 32, 159, 0, 12, 21, 4, 4, 96, 54, 4, 167, 255, 238, 167, 255, 146]
abbrev dktX6_wordAt_4 : List UInt8 := dkwX6_wordAt_4 ++ dktX6_wordAt_5
def dkwX6_wordAt_3 : List UInt8 := [180, 0, 31, 21, 4, 4, 96, 21, 5, 96, 46, 16, 32, 160, 0, 5, 29, 172, 21, 4, 4, 96, 54, 4]
abbrev dktX6_wordAt_3 : List UInt8 := dkwX6_wordAt_3 ++ dktX6_wordAt_4
def dkwX6_wordAt_2 : List UInt8 := [46, 160, 0, 12, 21, 5, 4, 96, 54, 5, 167, 255, 218, 27, 21, 5, 96, 28, 160, 0, 22, 42]
abbrev dktX6_wordAt_2 : List UInt8 := dkwX6_wordAt_2 ++ dktX6_wordAt_3
def dkwX6_wordAt_1 : List UInt8 := [28, 162, 0, 36, 42, 180, 0, 31, 21, 4, 4, 96, 21, 5, 96, 46, 42, 180, 0, 28, 27, 21, 5, 96]
abbrev dktX6_wordAt_1 : List UInt8 := dkwX6_wordAt_1 ++ dktX6_wordAt_2
def dkwX6_wordAt_0 : List UInt8 := [2, 62, 3, 54, 4, 21, 4, 17, 0, 139, 162, 0, 108, 3, 54, 5, 29, 4, 96, 62, 27, 21, 5, 96]
abbrev dktX6_wordAt_0 : List UInt8 := dkwX6_wordAt_0 ++ dktX6_wordAt_1
theorem dksX6_wordAt_0 : cX6_wordAt.data.toList.drop 0 = dktX6_wordAt_0 := by decide +kernel
theorem dksX6_wordAt_1 : cX6_wordAt.data.toList.drop 24 = dktX6_wordAt_1 := dk_seg dksX6_wordAt_0 24 rfl rfl
theorem dksX6_wordAt_2 : cX6_wordAt.data.toList.drop 48 = dktX6_wordAt_2 := dk_seg dksX6_wordAt_1 24 rfl rfl
theorem dksX6_wordAt_3 : cX6_wordAt.data.toList.drop 70 = dktX6_wordAt_3 := dk_seg dksX6_wordAt_2 22 rfl rfl
theorem dksX6_wordAt_4 : cX6_wordAt.data.toList.drop 94 = dktX6_wordAt_4 := dk_seg dksX6_wordAt_3 24 rfl rfl
theorem dksX6_wordAt_5 : cX6_wordAt.data.toList.drop 118 = dktX6_wordAt_5 := dk_seg dksX6_wordAt_4 24 rfl rfl
theorem dX6_wordAt_0 : decode cX6_wordAt 0 = .ok (.iconst (-1), 1) := dk_2 (dk_at dksX6_wordAt_0 0 rfl rfl)
theorem dX6_wordAt_1 : decode cX6_wordAt 1 = .ok (.istore_n 3, 1) := dk_62 (dk_at dksX6_wordAt_0 1 rfl rfl)
theorem dX6_wordAt_2 : decode cX6_wordAt 2 = .ok (.iconst 0, 1) := dk_3 (dk_at dksX6_wordAt_0 2 rfl rfl)
theorem dX6_wordAt_3 : decode cX6_wordAt 3 = .ok (.istore 4, 2) := dk_54 4 (dk_at dksX6_wordAt_0 3 rfl rfl)
theorem dX6_wordAt_5 : decode cX6_wordAt 5 = .ok (.iload 4, 2) := dk_21 4 (dk_at dksX6_wordAt_0 5 rfl rfl)
theorem dX6_wordAt_7 : decode cX6_wordAt 7 = .ok (.sipush 139, 3) := dk_17 0 139 (dk_at dksX6_wordAt_0 7 rfl rfl)
theorem dX6_wordAt_10 : decode cX6_wordAt 10 = .ok (.if_icmp .ge 108, 3) := dk_162 0 108 (dk_at dksX6_wordAt_0 10 rfl rfl)
theorem dX6_wordAt_13 : decode cX6_wordAt 13 = .ok (.iconst 0, 1) := dk_3 (dk_at dksX6_wordAt_0 13 rfl rfl)
theorem dX6_wordAt_14 : decode cX6_wordAt 14 = .ok (.istore 5, 2) := dk_54 5 (dk_at dksX6_wordAt_0 14 rfl rfl)
theorem dX6_wordAt_16 : decode cX6_wordAt 16 = .ok (.iload_n 3, 1) := dk_29 (dk_at dksX6_wordAt_0 16 rfl rfl)
theorem dX6_wordAt_17 : decode cX6_wordAt 17 = .ok (.iconst 1, 1) := dk_4 (dk_at dksX6_wordAt_0 17 rfl rfl)
theorem dX6_wordAt_18 : decode cX6_wordAt 18 = .ok (.iadd, 1) := dk_96 (dk_at dksX6_wordAt_0 18 rfl rfl)
theorem dX6_wordAt_19 : decode cX6_wordAt 19 = .ok (.istore_n 3, 1) := dk_62 (dk_at dksX6_wordAt_0 19 rfl rfl)
theorem dX6_wordAt_20 : decode cX6_wordAt 20 = .ok (.iload_n 1, 1) := dk_27 (dk_at dksX6_wordAt_0 20 rfl rfl)
theorem dX6_wordAt_21 : decode cX6_wordAt 21 = .ok (.iload 5, 2) := dk_21 5 (dk_at dksX6_wordAt_0 21 rfl rfl)
theorem dX6_wordAt_23 : decode cX6_wordAt 23 = .ok (.iadd, 1) := dk_96 (dk_at dksX6_wordAt_0 23 rfl rfl)
theorem dX6_wordAt_24 : decode cX6_wordAt 24 = .ok (.iload_n 2, 1) := dk_28 (dk_at dksX6_wordAt_1 0 rfl rfl)
theorem dX6_wordAt_25 : decode cX6_wordAt 25 = .ok (.if_icmp .ge 36, 3) := dk_162 0 36 (dk_at dksX6_wordAt_1 1 rfl rfl)
theorem dX6_wordAt_28 : decode cX6_wordAt 28 = .ok (.aload_n 0, 1) := dk_42 (dk_at dksX6_wordAt_1 4 rfl rfl)
theorem dX6_wordAt_29 : decode cX6_wordAt 29 = .ok (.getfield 31, 3) := dk_180 0 31 (dk_at dksX6_wordAt_1 5 rfl rfl)
theorem dX6_wordAt_32 : decode cX6_wordAt 32 = .ok (.iload 4, 2) := dk_21 4 (dk_at dksX6_wordAt_1 8 rfl rfl)
theorem dX6_wordAt_34 : decode cX6_wordAt 34 = .ok (.iconst 1, 1) := dk_4 (dk_at dksX6_wordAt_1 10 rfl rfl)
theorem dX6_wordAt_35 : decode cX6_wordAt 35 = .ok (.iadd, 1) := dk_96 (dk_at dksX6_wordAt_1 11 rfl rfl)
theorem dX6_wordAt_36 : decode cX6_wordAt 36 = .ok (.iload 5, 2) := dk_21 5 (dk_at dksX6_wordAt_1 12 rfl rfl)
theorem dX6_wordAt_38 : decode cX6_wordAt 38 = .ok (.iadd, 1) := dk_96 (dk_at dksX6_wordAt_1 14 rfl rfl)
theorem dX6_wordAt_39 : decode cX6_wordAt 39 = .ok (.iaload, 1) := dk_46 (dk_at dksX6_wordAt_1 15 rfl rfl)
theorem dX6_wordAt_40 : decode cX6_wordAt 40 = .ok (.aload_n 0, 1) := dk_42 (dk_at dksX6_wordAt_1 16 rfl rfl)
theorem dX6_wordAt_41 : decode cX6_wordAt 41 = .ok (.getfield 28, 3) := dk_180 0 28 (dk_at dksX6_wordAt_1 17 rfl rfl)
theorem dX6_wordAt_44 : decode cX6_wordAt 44 = .ok (.iload_n 1, 1) := dk_27 (dk_at dksX6_wordAt_1 20 rfl rfl)
theorem dX6_wordAt_45 : decode cX6_wordAt 45 = .ok (.iload 5, 2) := dk_21 5 (dk_at dksX6_wordAt_1 21 rfl rfl)
theorem dX6_wordAt_47 : decode cX6_wordAt 47 = .ok (.iadd, 1) := dk_96 (dk_at dksX6_wordAt_1 23 rfl rfl)
theorem dX6_wordAt_48 : decode cX6_wordAt 48 = .ok (.iaload, 1) := dk_46 (dk_at dksX6_wordAt_2 0 rfl rfl)
theorem dX6_wordAt_49 : decode cX6_wordAt 49 = .ok (.if_icmp .ne 12, 3) := dk_160 0 12 (dk_at dksX6_wordAt_2 1 rfl rfl)
theorem dX6_wordAt_52 : decode cX6_wordAt 52 = .ok (.iload 5, 2) := dk_21 5 (dk_at dksX6_wordAt_2 4 rfl rfl)
theorem dX6_wordAt_54 : decode cX6_wordAt 54 = .ok (.iconst 1, 1) := dk_4 (dk_at dksX6_wordAt_2 6 rfl rfl)
theorem dX6_wordAt_55 : decode cX6_wordAt 55 = .ok (.iadd, 1) := dk_96 (dk_at dksX6_wordAt_2 7 rfl rfl)
theorem dX6_wordAt_56 : decode cX6_wordAt 56 = .ok (.istore 5, 2) := dk_54 5 (dk_at dksX6_wordAt_2 8 rfl rfl)
theorem dX6_wordAt_58 : decode cX6_wordAt 58 = .ok (.goto (-38), 3) := dk_167 255 218 (dk_at dksX6_wordAt_2 10 rfl rfl)
theorem dX6_wordAt_61 : decode cX6_wordAt 61 = .ok (.iload_n 1, 1) := dk_27 (dk_at dksX6_wordAt_2 13 rfl rfl)
theorem dX6_wordAt_62 : decode cX6_wordAt 62 = .ok (.iload 5, 2) := dk_21 5 (dk_at dksX6_wordAt_2 14 rfl rfl)
theorem dX6_wordAt_64 : decode cX6_wordAt 64 = .ok (.iadd, 1) := dk_96 (dk_at dksX6_wordAt_2 16 rfl rfl)
theorem dX6_wordAt_65 : decode cX6_wordAt 65 = .ok (.iload_n 2, 1) := dk_28 (dk_at dksX6_wordAt_2 17 rfl rfl)
theorem dX6_wordAt_66 : decode cX6_wordAt 66 = .ok (.if_icmp .ne 22, 3) := dk_160 0 22 (dk_at dksX6_wordAt_2 18 rfl rfl)
theorem dX6_wordAt_69 : decode cX6_wordAt 69 = .ok (.aload_n 0, 1) := dk_42 (dk_at dksX6_wordAt_2 21 rfl rfl)
theorem dX6_wordAt_70 : decode cX6_wordAt 70 = .ok (.getfield 31, 3) := dk_180 0 31 (dk_at dksX6_wordAt_3 0 rfl rfl)
theorem dX6_wordAt_73 : decode cX6_wordAt 73 = .ok (.iload 4, 2) := dk_21 4 (dk_at dksX6_wordAt_3 3 rfl rfl)
theorem dX6_wordAt_75 : decode cX6_wordAt 75 = .ok (.iconst 1, 1) := dk_4 (dk_at dksX6_wordAt_3 5 rfl rfl)
theorem dX6_wordAt_76 : decode cX6_wordAt 76 = .ok (.iadd, 1) := dk_96 (dk_at dksX6_wordAt_3 6 rfl rfl)
theorem dX6_wordAt_77 : decode cX6_wordAt 77 = .ok (.iload 5, 2) := dk_21 5 (dk_at dksX6_wordAt_3 7 rfl rfl)
theorem dX6_wordAt_79 : decode cX6_wordAt 79 = .ok (.iadd, 1) := dk_96 (dk_at dksX6_wordAt_3 9 rfl rfl)
theorem dX6_wordAt_80 : decode cX6_wordAt 80 = .ok (.iaload, 1) := dk_46 (dk_at dksX6_wordAt_3 10 rfl rfl)
theorem dX6_wordAt_81 : decode cX6_wordAt 81 = .ok (.bipush 32, 2) := dk_16 32 (dk_at dksX6_wordAt_3 11 rfl rfl)
theorem dX6_wordAt_83 : decode cX6_wordAt 83 = .ok (.if_icmp .ne 5, 3) := dk_160 0 5 (dk_at dksX6_wordAt_3 13 rfl rfl)
theorem dX6_wordAt_86 : decode cX6_wordAt 86 = .ok (.iload_n 3, 1) := dk_29 (dk_at dksX6_wordAt_3 16 rfl rfl)
theorem dX6_wordAt_87 : decode cX6_wordAt 87 = .ok (.ireturn, 1) := dk_172 (dk_at dksX6_wordAt_3 17 rfl rfl)
theorem dX6_wordAt_88 : decode cX6_wordAt 88 = .ok (.iload 4, 2) := dk_21 4 (dk_at dksX6_wordAt_3 18 rfl rfl)
theorem dX6_wordAt_90 : decode cX6_wordAt 90 = .ok (.iconst 1, 1) := dk_4 (dk_at dksX6_wordAt_3 20 rfl rfl)
theorem dX6_wordAt_91 : decode cX6_wordAt 91 = .ok (.iadd, 1) := dk_96 (dk_at dksX6_wordAt_3 21 rfl rfl)
theorem dX6_wordAt_92 : decode cX6_wordAt 92 = .ok (.istore 4, 2) := dk_54 4 (dk_at dksX6_wordAt_3 22 rfl rfl)
theorem dX6_wordAt_94 : decode cX6_wordAt 94 = .ok (.aload_n 0, 1) := dk_42 (dk_at dksX6_wordAt_4 0 rfl rfl)
theorem dX6_wordAt_95 : decode cX6_wordAt 95 = .ok (.getfield 31, 3) := dk_180 0 31 (dk_at dksX6_wordAt_4 1 rfl rfl)
theorem dX6_wordAt_98 : decode cX6_wordAt 98 = .ok (.iload 4, 2) := dk_21 4 (dk_at dksX6_wordAt_4 4 rfl rfl)
theorem dX6_wordAt_100 : decode cX6_wordAt 100 = .ok (.iaload, 1) := dk_46 (dk_at dksX6_wordAt_4 6 rfl rfl)
theorem dX6_wordAt_101 : decode cX6_wordAt 101 = .ok (.bipush 32, 2) := dk_16 32 (dk_at dksX6_wordAt_4 7 rfl rfl)
theorem dX6_wordAt_103 : decode cX6_wordAt 103 = .ok (.if_icmp .eq 12, 3) := dk_159 0 12 (dk_at dksX6_wordAt_4 9 rfl rfl)
theorem dX6_wordAt_106 : decode cX6_wordAt 106 = .ok (.iload 4, 2) := dk_21 4 (dk_at dksX6_wordAt_4 12 rfl rfl)
theorem dX6_wordAt_108 : decode cX6_wordAt 108 = .ok (.iconst 1, 1) := dk_4 (dk_at dksX6_wordAt_4 14 rfl rfl)
theorem dX6_wordAt_109 : decode cX6_wordAt 109 = .ok (.iadd, 1) := dk_96 (dk_at dksX6_wordAt_4 15 rfl rfl)
theorem dX6_wordAt_110 : decode cX6_wordAt 110 = .ok (.istore 4, 2) := dk_54 4 (dk_at dksX6_wordAt_4 16 rfl rfl)
theorem dX6_wordAt_112 : decode cX6_wordAt 112 = .ok (.goto (-18), 3) := dk_167 255 238 (dk_at dksX6_wordAt_4 18 rfl rfl)
theorem dX6_wordAt_115 : decode cX6_wordAt 115 = .ok (.goto (-110), 3) := dk_167 255 146 (dk_at dksX6_wordAt_4 21 rfl rfl)
theorem dX6_wordAt_118 : decode cX6_wordAt 118 = .ok (.iconst (-1), 1) := dk_2 (dk_at dksX6_wordAt_5 0 rfl rfl)
theorem dX6_wordAt_119 : decode cX6_wordAt 119 = .ok (.ireturn, 1) := dk_172 (dk_at dksX6_wordAt_5 1 rfl rfl)
abbrev cX6_isDigit : ByteArray := prog_22_method_30_code
def yX6_isDigit : MethodName := ⟨RX6, "isDigit", "(I)Z"⟩
def dkwX6_isDigit_0 : List UInt8 := [42, 27, 16, 48, 16, 57, 182, 0, 145, 172]
abbrev dktX6_isDigit_0 : List UInt8 := dkwX6_isDigit_0 ++ []
theorem dksX6_isDigit_0 : cX6_isDigit.data.toList.drop 0 = dktX6_isDigit_0 := by decide +kernel
theorem dX6_isDigit_0 : decode cX6_isDigit 0 = .ok (.aload_n 0, 1) := dk_42 (dk_at dksX6_isDigit_0 0 rfl rfl)
theorem dX6_isDigit_1 : decode cX6_isDigit 1 = .ok (.iload_n 1, 1) := dk_27 (dk_at dksX6_isDigit_0 1 rfl rfl)
theorem dX6_isDigit_2 : decode cX6_isDigit 2 = .ok (.bipush 48, 2) := dk_16 48 (dk_at dksX6_isDigit_0 2 rfl rfl)
theorem dX6_isDigit_4 : decode cX6_isDigit 4 = .ok (.bipush 57, 2) := dk_16 57 (dk_at dksX6_isDigit_0 4 rfl rfl)
theorem dX6_isDigit_6 : decode cX6_isDigit 6 = .ok (.invokevirtual 145, 3) := dk_182 0 145 (dk_at dksX6_isDigit_0 6 rfl rfl)
theorem dX6_isDigit_9 : decode cX6_isDigit 9 = .ok (.ireturn, 1) := dk_172 (dk_at dksX6_isDigit_0 9 rfl rfl)
abbrev cX6_isMarkSign : ByteArray := prog_22_method_31_code
def yX6_isMarkSign : MethodName := ⟨RX6, "isMarkSign", "(I)Z"⟩
def dkwX6_isMarkSign_2 : List UInt8 := [27, 16, 61, 159, 0, 9, 27, 16, 62, 160, 0, 7, 4, 167, 0, 4, 3, 172]
abbrev dktX6_isMarkSign_2 : List UInt8 := dkwX6_isMarkSign_2 ++ []
def dkwX6_isMarkSign_1 : List UInt8 := [27, 16, 47, 159, 0, 33, 27, 16, 40, 159, 0, 27, 27, 16, 41, 159, 0, 21, 27, 16, 60, 159, 0, 15]
abbrev dktX6_isMarkSign_1 : List UInt8 := dkwX6_isMarkSign_1 ++ dktX6_isMarkSign_2
def dkwX6_isMarkSign_0 : List UInt8 := [27, 16, 59, 159, 0, 57, 27, 16, 43, 159, 0, 51, 27, 16, 45, 159, 0, 45, 27, 16, 42, 159, 0, 39]
abbrev dktX6_isMarkSign_0 : List UInt8 := dkwX6_isMarkSign_0 ++ dktX6_isMarkSign_1
theorem dksX6_isMarkSign_0 : cX6_isMarkSign.data.toList.drop 0 = dktX6_isMarkSign_0 := by decide +kernel
theorem dksX6_isMarkSign_1 : cX6_isMarkSign.data.toList.drop 24 = dktX6_isMarkSign_1 := dk_seg dksX6_isMarkSign_0 24 rfl rfl
theorem dksX6_isMarkSign_2 : cX6_isMarkSign.data.toList.drop 48 = dktX6_isMarkSign_2 := dk_seg dksX6_isMarkSign_1 24 rfl rfl
theorem dX6_isMarkSign_0 : decode cX6_isMarkSign 0 = .ok (.iload_n 1, 1) := dk_27 (dk_at dksX6_isMarkSign_0 0 rfl rfl)
theorem dX6_isMarkSign_1 : decode cX6_isMarkSign 1 = .ok (.bipush 59, 2) := dk_16 59 (dk_at dksX6_isMarkSign_0 1 rfl rfl)
theorem dX6_isMarkSign_3 : decode cX6_isMarkSign 3 = .ok (.if_icmp .eq 57, 3) := dk_159 0 57 (dk_at dksX6_isMarkSign_0 3 rfl rfl)
theorem dX6_isMarkSign_6 : decode cX6_isMarkSign 6 = .ok (.iload_n 1, 1) := dk_27 (dk_at dksX6_isMarkSign_0 6 rfl rfl)
theorem dX6_isMarkSign_7 : decode cX6_isMarkSign 7 = .ok (.bipush 43, 2) := dk_16 43 (dk_at dksX6_isMarkSign_0 7 rfl rfl)
theorem dX6_isMarkSign_9 : decode cX6_isMarkSign 9 = .ok (.if_icmp .eq 51, 3) := dk_159 0 51 (dk_at dksX6_isMarkSign_0 9 rfl rfl)
theorem dX6_isMarkSign_12 : decode cX6_isMarkSign 12 = .ok (.iload_n 1, 1) := dk_27 (dk_at dksX6_isMarkSign_0 12 rfl rfl)
theorem dX6_isMarkSign_13 : decode cX6_isMarkSign 13 = .ok (.bipush 45, 2) := dk_16 45 (dk_at dksX6_isMarkSign_0 13 rfl rfl)
theorem dX6_isMarkSign_15 : decode cX6_isMarkSign 15 = .ok (.if_icmp .eq 45, 3) := dk_159 0 45 (dk_at dksX6_isMarkSign_0 15 rfl rfl)
theorem dX6_isMarkSign_18 : decode cX6_isMarkSign 18 = .ok (.iload_n 1, 1) := dk_27 (dk_at dksX6_isMarkSign_0 18 rfl rfl)
theorem dX6_isMarkSign_19 : decode cX6_isMarkSign 19 = .ok (.bipush 42, 2) := dk_16 42 (dk_at dksX6_isMarkSign_0 19 rfl rfl)
theorem dX6_isMarkSign_21 : decode cX6_isMarkSign 21 = .ok (.if_icmp .eq 39, 3) := dk_159 0 39 (dk_at dksX6_isMarkSign_0 21 rfl rfl)
theorem dX6_isMarkSign_24 : decode cX6_isMarkSign 24 = .ok (.iload_n 1, 1) := dk_27 (dk_at dksX6_isMarkSign_1 0 rfl rfl)
theorem dX6_isMarkSign_25 : decode cX6_isMarkSign 25 = .ok (.bipush 47, 2) := dk_16 47 (dk_at dksX6_isMarkSign_1 1 rfl rfl)
theorem dX6_isMarkSign_27 : decode cX6_isMarkSign 27 = .ok (.if_icmp .eq 33, 3) := dk_159 0 33 (dk_at dksX6_isMarkSign_1 3 rfl rfl)
theorem dX6_isMarkSign_30 : decode cX6_isMarkSign 30 = .ok (.iload_n 1, 1) := dk_27 (dk_at dksX6_isMarkSign_1 6 rfl rfl)
theorem dX6_isMarkSign_31 : decode cX6_isMarkSign 31 = .ok (.bipush 40, 2) := dk_16 40 (dk_at dksX6_isMarkSign_1 7 rfl rfl)
theorem dX6_isMarkSign_33 : decode cX6_isMarkSign 33 = .ok (.if_icmp .eq 27, 3) := dk_159 0 27 (dk_at dksX6_isMarkSign_1 9 rfl rfl)
theorem dX6_isMarkSign_36 : decode cX6_isMarkSign 36 = .ok (.iload_n 1, 1) := dk_27 (dk_at dksX6_isMarkSign_1 12 rfl rfl)
theorem dX6_isMarkSign_37 : decode cX6_isMarkSign 37 = .ok (.bipush 41, 2) := dk_16 41 (dk_at dksX6_isMarkSign_1 13 rfl rfl)
theorem dX6_isMarkSign_39 : decode cX6_isMarkSign 39 = .ok (.if_icmp .eq 21, 3) := dk_159 0 21 (dk_at dksX6_isMarkSign_1 15 rfl rfl)
theorem dX6_isMarkSign_42 : decode cX6_isMarkSign 42 = .ok (.iload_n 1, 1) := dk_27 (dk_at dksX6_isMarkSign_1 18 rfl rfl)
theorem dX6_isMarkSign_43 : decode cX6_isMarkSign 43 = .ok (.bipush 60, 2) := dk_16 60 (dk_at dksX6_isMarkSign_1 19 rfl rfl)
theorem dX6_isMarkSign_45 : decode cX6_isMarkSign 45 = .ok (.if_icmp .eq 15, 3) := dk_159 0 15 (dk_at dksX6_isMarkSign_1 21 rfl rfl)
theorem dX6_isMarkSign_48 : decode cX6_isMarkSign 48 = .ok (.iload_n 1, 1) := dk_27 (dk_at dksX6_isMarkSign_2 0 rfl rfl)
theorem dX6_isMarkSign_49 : decode cX6_isMarkSign 49 = .ok (.bipush 61, 2) := dk_16 61 (dk_at dksX6_isMarkSign_2 1 rfl rfl)
theorem dX6_isMarkSign_51 : decode cX6_isMarkSign 51 = .ok (.if_icmp .eq 9, 3) := dk_159 0 9 (dk_at dksX6_isMarkSign_2 3 rfl rfl)
theorem dX6_isMarkSign_54 : decode cX6_isMarkSign 54 = .ok (.iload_n 1, 1) := dk_27 (dk_at dksX6_isMarkSign_2 6 rfl rfl)
theorem dX6_isMarkSign_55 : decode cX6_isMarkSign 55 = .ok (.bipush 62, 2) := dk_16 62 (dk_at dksX6_isMarkSign_2 7 rfl rfl)
theorem dX6_isMarkSign_57 : decode cX6_isMarkSign 57 = .ok (.if_icmp .ne 7, 3) := dk_160 0 7 (dk_at dksX6_isMarkSign_2 9 rfl rfl)
theorem dX6_isMarkSign_60 : decode cX6_isMarkSign 60 = .ok (.iconst 1, 1) := dk_4 (dk_at dksX6_isMarkSign_2 12 rfl rfl)
theorem dX6_isMarkSign_61 : decode cX6_isMarkSign 61 = .ok (.goto 4, 3) := dk_167 0 4 (dk_at dksX6_isMarkSign_2 13 rfl rfl)
theorem dX6_isMarkSign_64 : decode cX6_isMarkSign 64 = .ok (.iconst 0, 1) := dk_3 (dk_at dksX6_isMarkSign_2 16 rfl rfl)
theorem dX6_isMarkSign_65 : decode cX6_isMarkSign 65 = .ok (.ireturn, 1) := dk_172 (dk_at dksX6_isMarkSign_2 17 rfl rfl)
abbrev cX6_readFair : ByteArray := prog_22_method_53_code
def yX6_readFair : MethodName := ⟨RX6, "readFair", "()I"⟩
def dkwX6_readFair_2 : List UInt8 := [180, 0, 180, 154, 0, 7, 27, 167, 0, 8, 42, 4, 182, 0, 211, 172]
abbrev dktX6_readFair_2 : List UInt8 := dkwX6_readFair_2 ++ []
def dkwX6_readFair_1 : List UInt8 := [16, 80, 8, 27, 104, 96, 182, 1, 15, 2, 160, 0, 5, 2, 172, 27, 4, 96, 60, 167, 255, 215, 42]
abbrev dktX6_readFair_1 : List UInt8 := dkwX6_readFair_1 ++ dktX6_readFair_2
def dkwX6_readFair_0 : List UInt8 := [3, 60, 42, 16, 18, 182, 0, 240, 153, 0, 38, 27, 16, 16, 160, 0, 9, 42, 6, 182, 0, 211, 172, 42]
abbrev dktX6_readFair_0 : List UInt8 := dkwX6_readFair_0 ++ dktX6_readFair_1
theorem dksX6_readFair_0 : cX6_readFair.data.toList.drop 0 = dktX6_readFair_0 := by decide +kernel
theorem dksX6_readFair_1 : cX6_readFair.data.toList.drop 24 = dktX6_readFair_1 := dk_seg dksX6_readFair_0 24 rfl rfl
theorem dksX6_readFair_2 : cX6_readFair.data.toList.drop 47 = dktX6_readFair_2 := dk_seg dksX6_readFair_1 23 rfl rfl
theorem dX6_readFair_0 : decode cX6_readFair 0 = .ok (.iconst 0, 1) := dk_3 (dk_at dksX6_readFair_0 0 rfl rfl)
theorem dX6_readFair_1 : decode cX6_readFair 1 = .ok (.istore_n 1, 1) := dk_60 (dk_at dksX6_readFair_0 1 rfl rfl)
theorem dX6_readFair_2 : decode cX6_readFair 2 = .ok (.aload_n 0, 1) := dk_42 (dk_at dksX6_readFair_0 2 rfl rfl)
theorem dX6_readFair_3 : decode cX6_readFair 3 = .ok (.bipush 18, 2) := dk_16 18 (dk_at dksX6_readFair_0 3 rfl rfl)
theorem dX6_readFair_5 : decode cX6_readFair 5 = .ok (.invokevirtual 240, 3) := dk_182 0 240 (dk_at dksX6_readFair_0 5 rfl rfl)
theorem dX6_readFair_8 : decode cX6_readFair 8 = .ok (.ifCond .eq 38, 3) := dk_153 0 38 (dk_at dksX6_readFair_0 8 rfl rfl)
theorem dX6_readFair_11 : decode cX6_readFair 11 = .ok (.iload_n 1, 1) := dk_27 (dk_at dksX6_readFair_0 11 rfl rfl)
theorem dX6_readFair_12 : decode cX6_readFair 12 = .ok (.bipush 16, 2) := dk_16 16 (dk_at dksX6_readFair_0 12 rfl rfl)
theorem dX6_readFair_14 : decode cX6_readFair 14 = .ok (.if_icmp .ne 9, 3) := dk_160 0 9 (dk_at dksX6_readFair_0 14 rfl rfl)
theorem dX6_readFair_17 : decode cX6_readFair 17 = .ok (.aload_n 0, 1) := dk_42 (dk_at dksX6_readFair_0 17 rfl rfl)
theorem dX6_readFair_18 : decode cX6_readFair 18 = .ok (.iconst 3, 1) := dk_6 (dk_at dksX6_readFair_0 18 rfl rfl)
theorem dX6_readFair_19 : decode cX6_readFair 19 = .ok (.invokevirtual 211, 3) := dk_182 0 211 (dk_at dksX6_readFair_0 19 rfl rfl)
theorem dX6_readFair_22 : decode cX6_readFair 22 = .ok (.ireturn, 1) := dk_172 (dk_at dksX6_readFair_0 22 rfl rfl)
theorem dX6_readFair_23 : decode cX6_readFair 23 = .ok (.aload_n 0, 1) := dk_42 (dk_at dksX6_readFair_0 23 rfl rfl)
theorem dX6_readFair_24 : decode cX6_readFair 24 = .ok (.bipush 80, 2) := dk_16 80 (dk_at dksX6_readFair_1 0 rfl rfl)
theorem dX6_readFair_26 : decode cX6_readFair 26 = .ok (.iconst 5, 1) := dk_8 (dk_at dksX6_readFair_1 2 rfl rfl)
theorem dX6_readFair_27 : decode cX6_readFair 27 = .ok (.iload_n 1, 1) := dk_27 (dk_at dksX6_readFair_1 3 rfl rfl)
theorem dX6_readFair_28 : decode cX6_readFair 28 = .ok (.imul, 1) := dk_104 (dk_at dksX6_readFair_1 4 rfl rfl)
theorem dX6_readFair_29 : decode cX6_readFair 29 = .ok (.iadd, 1) := dk_96 (dk_at dksX6_readFair_1 5 rfl rfl)
theorem dX6_readFair_30 : decode cX6_readFair 30 = .ok (.invokevirtual 271, 3) := dk_182 1 15 (dk_at dksX6_readFair_1 6 rfl rfl)
theorem dX6_readFair_33 : decode cX6_readFair 33 = .ok (.iconst (-1), 1) := dk_2 (dk_at dksX6_readFair_1 9 rfl rfl)
theorem dX6_readFair_34 : decode cX6_readFair 34 = .ok (.if_icmp .ne 5, 3) := dk_160 0 5 (dk_at dksX6_readFair_1 10 rfl rfl)
theorem dX6_readFair_37 : decode cX6_readFair 37 = .ok (.iconst (-1), 1) := dk_2 (dk_at dksX6_readFair_1 13 rfl rfl)
theorem dX6_readFair_38 : decode cX6_readFair 38 = .ok (.ireturn, 1) := dk_172 (dk_at dksX6_readFair_1 14 rfl rfl)
theorem dX6_readFair_39 : decode cX6_readFair 39 = .ok (.iload_n 1, 1) := dk_27 (dk_at dksX6_readFair_1 15 rfl rfl)
theorem dX6_readFair_40 : decode cX6_readFair 40 = .ok (.iconst 1, 1) := dk_4 (dk_at dksX6_readFair_1 16 rfl rfl)
theorem dX6_readFair_41 : decode cX6_readFair 41 = .ok (.iadd, 1) := dk_96 (dk_at dksX6_readFair_1 17 rfl rfl)
theorem dX6_readFair_42 : decode cX6_readFair 42 = .ok (.istore_n 1, 1) := dk_60 (dk_at dksX6_readFair_1 18 rfl rfl)
theorem dX6_readFair_43 : decode cX6_readFair 43 = .ok (.goto (-41), 3) := dk_167 255 215 (dk_at dksX6_readFair_1 19 rfl rfl)
theorem dX6_readFair_46 : decode cX6_readFair 46 = .ok (.aload_n 0, 1) := dk_42 (dk_at dksX6_readFair_1 22 rfl rfl)
theorem dX6_readFair_47 : decode cX6_readFair 47 = .ok (.getfield 180, 3) := dk_180 0 180 (dk_at dksX6_readFair_2 0 rfl rfl)
theorem dX6_readFair_50 : decode cX6_readFair 50 = .ok (.ifCond .ne 7, 3) := dk_154 0 7 (dk_at dksX6_readFair_2 3 rfl rfl)
theorem dX6_readFair_53 : decode cX6_readFair 53 = .ok (.iload_n 1, 1) := dk_27 (dk_at dksX6_readFair_2 6 rfl rfl)
theorem dX6_readFair_54 : decode cX6_readFair 54 = .ok (.goto 8, 3) := dk_167 0 8 (dk_at dksX6_readFair_2 7 rfl rfl)
theorem dX6_readFair_57 : decode cX6_readFair 57 = .ok (.aload_n 0, 1) := dk_42 (dk_at dksX6_readFair_2 10 rfl rfl)
theorem dX6_readFair_58 : decode cX6_readFair 58 = .ok (.iconst 1, 1) := dk_4 (dk_at dksX6_readFair_2 11 rfl rfl)
theorem dX6_readFair_59 : decode cX6_readFair 59 = .ok (.invokevirtual 211, 3) := dk_182 0 211 (dk_at dksX6_readFair_2 12 rfl rfl)
theorem dX6_readFair_62 : decode cX6_readFair 62 = .ok (.ireturn, 1) := dk_172 (dk_at dksX6_readFair_2 15 rfl rfl)
abbrev cX6_isWord : ByteArray := prog_22_method_35_code
def yX6_isWord : MethodName := ⟨RX6, "isWord", "(I)Z"⟩
def dkwX6_isWord_0 : List UInt8 := [42, 180, 0, 180, 5, 160, 0, 15, 42, 180, 0, 183, 27, 160, 0, 7, 4, 167, 0, 4, 3, 172]
abbrev dktX6_isWord_0 : List UInt8 := dkwX6_isWord_0 ++ []
theorem dksX6_isWord_0 : cX6_isWord.data.toList.drop 0 = dktX6_isWord_0 := by decide +kernel
theorem dX6_isWord_0 : decode cX6_isWord 0 = .ok (.aload_n 0, 1) := dk_42 (dk_at dksX6_isWord_0 0 rfl rfl)
theorem dX6_isWord_1 : decode cX6_isWord 1 = .ok (.getfield 180, 3) := dk_180 0 180 (dk_at dksX6_isWord_0 1 rfl rfl)
theorem dX6_isWord_4 : decode cX6_isWord 4 = .ok (.iconst 2, 1) := dk_5 (dk_at dksX6_isWord_0 4 rfl rfl)
theorem dX6_isWord_5 : decode cX6_isWord 5 = .ok (.if_icmp .ne 15, 3) := dk_160 0 15 (dk_at dksX6_isWord_0 5 rfl rfl)
theorem dX6_isWord_8 : decode cX6_isWord 8 = .ok (.aload_n 0, 1) := dk_42 (dk_at dksX6_isWord_0 8 rfl rfl)
theorem dX6_isWord_9 : decode cX6_isWord 9 = .ok (.getfield 183, 3) := dk_180 0 183 (dk_at dksX6_isWord_0 9 rfl rfl)
theorem dX6_isWord_12 : decode cX6_isWord 12 = .ok (.iload_n 1, 1) := dk_27 (dk_at dksX6_isWord_0 12 rfl rfl)
theorem dX6_isWord_13 : decode cX6_isWord 13 = .ok (.if_icmp .ne 7, 3) := dk_160 0 7 (dk_at dksX6_isWord_0 13 rfl rfl)
theorem dX6_isWord_16 : decode cX6_isWord 16 = .ok (.iconst 1, 1) := dk_4 (dk_at dksX6_isWord_0 16 rfl rfl)
theorem dX6_isWord_17 : decode cX6_isWord 17 = .ok (.goto 4, 3) := dk_167 0 4 (dk_at dksX6_isWord_0 17 rfl rfl)
theorem dX6_isWord_20 : decode cX6_isWord 20 = .ok (.iconst 0, 1) := dk_3 (dk_at dksX6_isWord_0 20 rfl rfl)
theorem dX6_isWord_21 : decode cX6_isWord 21 = .ok (.ireturn, 1) := dk_172 (dk_at dksX6_isWord_0 21 rfl rfl)
abbrev cX6_errs : ByteArray := prog_22_method_34_code
def yX6_errs : MethodName := ⟨RX6, "errs", "(I)I"⟩
def dkwX6_errs_0 : List UInt8 := [42, 27, 181, 0, 199, 42, 42, 180, 0, 177, 181, 0, 202, 2, 172]
abbrev dktX6_errs_0 : List UInt8 := dkwX6_errs_0 ++ []
theorem dksX6_errs_0 : cX6_errs.data.toList.drop 0 = dktX6_errs_0 := by decide +kernel
theorem dX6_errs_0 : decode cX6_errs 0 = .ok (.aload_n 0, 1) := dk_42 (dk_at dksX6_errs_0 0 rfl rfl)
theorem dX6_errs_1 : decode cX6_errs 1 = .ok (.iload_n 1, 1) := dk_27 (dk_at dksX6_errs_0 1 rfl rfl)
theorem dX6_errs_2 : decode cX6_errs 2 = .ok (.putfield 199, 3) := dk_181 0 199 (dk_at dksX6_errs_0 2 rfl rfl)
theorem dX6_errs_5 : decode cX6_errs 5 = .ok (.aload_n 0, 1) := dk_42 (dk_at dksX6_errs_0 5 rfl rfl)
theorem dX6_errs_6 : decode cX6_errs 6 = .ok (.aload_n 0, 1) := dk_42 (dk_at dksX6_errs_0 6 rfl rfl)
theorem dX6_errs_7 : decode cX6_errs 7 = .ok (.getfield 177, 3) := dk_180 0 177 (dk_at dksX6_errs_0 7 rfl rfl)
theorem dX6_errs_10 : decode cX6_errs 10 = .ok (.putfield 202, 3) := dk_181 0 202 (dk_at dksX6_errs_0 10 rfl rfl)
theorem dX6_errs_13 : decode cX6_errs 13 = .ok (.iconst (-1), 1) := dk_2 (dk_at dksX6_errs_0 13 rfl rfl)
theorem dX6_errs_14 : decode cX6_errs 14 = .ok (.ireturn, 1) := dk_172 (dk_at dksX6_errs_0 14 rfl rfl)
abbrev cX6_readOffer : ByteArray := prog_22_method_52_code
def yX6_readOffer : MethodName := ⟨RX6, "readOffer", "(I)I"⟩
def dkwX6_readOffer_7 : List UInt8 := [16, 59, 182, 1, 12, 172]
abbrev dktX6_readOffer_7 : List UInt8 := dkwX6_readOffer_7 ++ []
def dkwX6_readOffer_6 : List UInt8 := [16, 9, 182, 1, 9, 79, 42, 180, 0, 62, 27, 7, 96, 46, 2, 160, 0, 7, 2, 167, 0, 9, 42]
abbrev dktX6_readOffer_6 : List UInt8 := dkwX6_readOffer_6 ++ dktX6_readOffer_7
def dkwX6_readOffer_5 : List UInt8 := [180, 0, 62, 27, 6, 96, 46, 2, 160, 0, 5, 2, 172, 42, 180, 0, 62, 27, 7, 96, 42, 16, 10, 4]
abbrev dktX6_readOffer_5 : List UInt8 := dkwX6_readOffer_5 ++ dktX6_readOffer_6
def dkwX6_readOffer_4 : List UInt8 := [160, 0, 5, 2, 172, 42, 180, 0, 62, 27, 6, 96, 42, 16, 21, 3, 17, 39, 15, 182, 1, 9, 79, 42]
abbrev dktX6_readOffer_4 : List UInt8 := dkwX6_readOffer_4 ++ dktX6_readOffer_5
def dkwX6_readOffer_3 : List UInt8 := [96, 42, 16, 20, 3, 42, 180, 0, 138, 4, 100, 182, 1, 9, 79, 42, 180, 0, 62, 27, 5, 96, 46, 2]
abbrev dktX6_readOffer_3 : List UInt8 := dkwX6_readOffer_3 ++ dktX6_readOffer_4
def dkwX6_readOffer_2 : List UInt8 := [182, 1, 9, 79, 42, 180, 0, 62, 27, 4, 96, 46, 2, 160, 0, 5, 2, 172, 42, 180, 0, 62, 27, 5]
abbrev dktX6_readOffer_2 : List UInt8 := dkwX6_readOffer_2 ++ dktX6_readOffer_3
def dkwX6_readOffer_1 : List UInt8 := [160, 0, 5, 2, 172, 42, 180, 0, 62, 27, 4, 96, 42, 16, 19, 3, 42, 180, 0, 135, 4, 100]
abbrev dktX6_readOffer_1 : List UInt8 := dkwX6_readOffer_1 ++ dktX6_readOffer_2
def dkwX6_readOffer_0 : List UInt8 := [42, 180, 0, 62, 27, 42, 16, 18, 3, 17, 3, 231, 182, 1, 9, 79, 42, 180, 0, 62, 27, 46, 2]
abbrev dktX6_readOffer_0 : List UInt8 := dkwX6_readOffer_0 ++ dktX6_readOffer_1
theorem dksX6_readOffer_0 : cX6_readOffer.data.toList.drop 0 = dktX6_readOffer_0 := by decide +kernel
theorem dksX6_readOffer_1 : cX6_readOffer.data.toList.drop 23 = dktX6_readOffer_1 := dk_seg dksX6_readOffer_0 23 rfl rfl
theorem dksX6_readOffer_2 : cX6_readOffer.data.toList.drop 45 = dktX6_readOffer_2 := dk_seg dksX6_readOffer_1 22 rfl rfl
theorem dksX6_readOffer_3 : cX6_readOffer.data.toList.drop 69 = dktX6_readOffer_3 := dk_seg dksX6_readOffer_2 24 rfl rfl
theorem dksX6_readOffer_4 : cX6_readOffer.data.toList.drop 93 = dktX6_readOffer_4 := dk_seg dksX6_readOffer_3 24 rfl rfl
theorem dksX6_readOffer_5 : cX6_readOffer.data.toList.drop 117 = dktX6_readOffer_5 := dk_seg dksX6_readOffer_4 24 rfl rfl
theorem dksX6_readOffer_6 : cX6_readOffer.data.toList.drop 141 = dktX6_readOffer_6 := dk_seg dksX6_readOffer_5 24 rfl rfl
theorem dksX6_readOffer_7 : cX6_readOffer.data.toList.drop 164 = dktX6_readOffer_7 := dk_seg dksX6_readOffer_6 23 rfl rfl
theorem dX6_readOffer_0 : decode cX6_readOffer 0 = .ok (.aload_n 0, 1) := dk_42 (dk_at dksX6_readOffer_0 0 rfl rfl)
theorem dX6_readOffer_1 : decode cX6_readOffer 1 = .ok (.getfield 62, 3) := dk_180 0 62 (dk_at dksX6_readOffer_0 1 rfl rfl)
theorem dX6_readOffer_4 : decode cX6_readOffer 4 = .ok (.iload_n 1, 1) := dk_27 (dk_at dksX6_readOffer_0 4 rfl rfl)
theorem dX6_readOffer_5 : decode cX6_readOffer 5 = .ok (.aload_n 0, 1) := dk_42 (dk_at dksX6_readOffer_0 5 rfl rfl)
theorem dX6_readOffer_6 : decode cX6_readOffer 6 = .ok (.bipush 18, 2) := dk_16 18 (dk_at dksX6_readOffer_0 6 rfl rfl)
theorem dX6_readOffer_8 : decode cX6_readOffer 8 = .ok (.iconst 0, 1) := dk_3 (dk_at dksX6_readOffer_0 8 rfl rfl)
theorem dX6_readOffer_9 : decode cX6_readOffer 9 = .ok (.sipush 999, 3) := dk_17 3 231 (dk_at dksX6_readOffer_0 9 rfl rfl)
theorem dX6_readOffer_12 : decode cX6_readOffer 12 = .ok (.invokevirtual 265, 3) := dk_182 1 9 (dk_at dksX6_readOffer_0 12 rfl rfl)
theorem dX6_readOffer_15 : decode cX6_readOffer 15 = .ok (.iastore, 1) := dk_79 (dk_at dksX6_readOffer_0 15 rfl rfl)
theorem dX6_readOffer_16 : decode cX6_readOffer 16 = .ok (.aload_n 0, 1) := dk_42 (dk_at dksX6_readOffer_0 16 rfl rfl)
theorem dX6_readOffer_17 : decode cX6_readOffer 17 = .ok (.getfield 62, 3) := dk_180 0 62 (dk_at dksX6_readOffer_0 17 rfl rfl)
theorem dX6_readOffer_20 : decode cX6_readOffer 20 = .ok (.iload_n 1, 1) := dk_27 (dk_at dksX6_readOffer_0 20 rfl rfl)
theorem dX6_readOffer_21 : decode cX6_readOffer 21 = .ok (.iaload, 1) := dk_46 (dk_at dksX6_readOffer_0 21 rfl rfl)
theorem dX6_readOffer_22 : decode cX6_readOffer 22 = .ok (.iconst (-1), 1) := dk_2 (dk_at dksX6_readOffer_0 22 rfl rfl)
theorem dX6_readOffer_23 : decode cX6_readOffer 23 = .ok (.if_icmp .ne 5, 3) := dk_160 0 5 (dk_at dksX6_readOffer_1 0 rfl rfl)
theorem dX6_readOffer_26 : decode cX6_readOffer 26 = .ok (.iconst (-1), 1) := dk_2 (dk_at dksX6_readOffer_1 3 rfl rfl)
theorem dX6_readOffer_27 : decode cX6_readOffer 27 = .ok (.ireturn, 1) := dk_172 (dk_at dksX6_readOffer_1 4 rfl rfl)
theorem dX6_readOffer_28 : decode cX6_readOffer 28 = .ok (.aload_n 0, 1) := dk_42 (dk_at dksX6_readOffer_1 5 rfl rfl)
theorem dX6_readOffer_29 : decode cX6_readOffer 29 = .ok (.getfield 62, 3) := dk_180 0 62 (dk_at dksX6_readOffer_1 6 rfl rfl)
theorem dX6_readOffer_32 : decode cX6_readOffer 32 = .ok (.iload_n 1, 1) := dk_27 (dk_at dksX6_readOffer_1 9 rfl rfl)
theorem dX6_readOffer_33 : decode cX6_readOffer 33 = .ok (.iconst 1, 1) := dk_4 (dk_at dksX6_readOffer_1 10 rfl rfl)
theorem dX6_readOffer_34 : decode cX6_readOffer 34 = .ok (.iadd, 1) := dk_96 (dk_at dksX6_readOffer_1 11 rfl rfl)
theorem dX6_readOffer_35 : decode cX6_readOffer 35 = .ok (.aload_n 0, 1) := dk_42 (dk_at dksX6_readOffer_1 12 rfl rfl)
theorem dX6_readOffer_36 : decode cX6_readOffer 36 = .ok (.bipush 19, 2) := dk_16 19 (dk_at dksX6_readOffer_1 13 rfl rfl)
theorem dX6_readOffer_38 : decode cX6_readOffer 38 = .ok (.iconst 0, 1) := dk_3 (dk_at dksX6_readOffer_1 15 rfl rfl)
theorem dX6_readOffer_39 : decode cX6_readOffer 39 = .ok (.aload_n 0, 1) := dk_42 (dk_at dksX6_readOffer_1 16 rfl rfl)
theorem dX6_readOffer_40 : decode cX6_readOffer 40 = .ok (.getfield 135, 3) := dk_180 0 135 (dk_at dksX6_readOffer_1 17 rfl rfl)
theorem dX6_readOffer_43 : decode cX6_readOffer 43 = .ok (.iconst 1, 1) := dk_4 (dk_at dksX6_readOffer_1 20 rfl rfl)
theorem dX6_readOffer_44 : decode cX6_readOffer 44 = .ok (.isub, 1) := dk_100 (dk_at dksX6_readOffer_1 21 rfl rfl)
theorem dX6_readOffer_45 : decode cX6_readOffer 45 = .ok (.invokevirtual 265, 3) := dk_182 1 9 (dk_at dksX6_readOffer_2 0 rfl rfl)
theorem dX6_readOffer_48 : decode cX6_readOffer 48 = .ok (.iastore, 1) := dk_79 (dk_at dksX6_readOffer_2 3 rfl rfl)
theorem dX6_readOffer_49 : decode cX6_readOffer 49 = .ok (.aload_n 0, 1) := dk_42 (dk_at dksX6_readOffer_2 4 rfl rfl)
theorem dX6_readOffer_50 : decode cX6_readOffer 50 = .ok (.getfield 62, 3) := dk_180 0 62 (dk_at dksX6_readOffer_2 5 rfl rfl)
theorem dX6_readOffer_53 : decode cX6_readOffer 53 = .ok (.iload_n 1, 1) := dk_27 (dk_at dksX6_readOffer_2 8 rfl rfl)
theorem dX6_readOffer_54 : decode cX6_readOffer 54 = .ok (.iconst 1, 1) := dk_4 (dk_at dksX6_readOffer_2 9 rfl rfl)
theorem dX6_readOffer_55 : decode cX6_readOffer 55 = .ok (.iadd, 1) := dk_96 (dk_at dksX6_readOffer_2 10 rfl rfl)
theorem dX6_readOffer_56 : decode cX6_readOffer 56 = .ok (.iaload, 1) := dk_46 (dk_at dksX6_readOffer_2 11 rfl rfl)
theorem dX6_readOffer_57 : decode cX6_readOffer 57 = .ok (.iconst (-1), 1) := dk_2 (dk_at dksX6_readOffer_2 12 rfl rfl)
theorem dX6_readOffer_58 : decode cX6_readOffer 58 = .ok (.if_icmp .ne 5, 3) := dk_160 0 5 (dk_at dksX6_readOffer_2 13 rfl rfl)
theorem dX6_readOffer_61 : decode cX6_readOffer 61 = .ok (.iconst (-1), 1) := dk_2 (dk_at dksX6_readOffer_2 16 rfl rfl)
theorem dX6_readOffer_62 : decode cX6_readOffer 62 = .ok (.ireturn, 1) := dk_172 (dk_at dksX6_readOffer_2 17 rfl rfl)
theorem dX6_readOffer_63 : decode cX6_readOffer 63 = .ok (.aload_n 0, 1) := dk_42 (dk_at dksX6_readOffer_2 18 rfl rfl)
theorem dX6_readOffer_64 : decode cX6_readOffer 64 = .ok (.getfield 62, 3) := dk_180 0 62 (dk_at dksX6_readOffer_2 19 rfl rfl)
theorem dX6_readOffer_67 : decode cX6_readOffer 67 = .ok (.iload_n 1, 1) := dk_27 (dk_at dksX6_readOffer_2 22 rfl rfl)
theorem dX6_readOffer_68 : decode cX6_readOffer 68 = .ok (.iconst 2, 1) := dk_5 (dk_at dksX6_readOffer_2 23 rfl rfl)
theorem dX6_readOffer_69 : decode cX6_readOffer 69 = .ok (.iadd, 1) := dk_96 (dk_at dksX6_readOffer_3 0 rfl rfl)
theorem dX6_readOffer_70 : decode cX6_readOffer 70 = .ok (.aload_n 0, 1) := dk_42 (dk_at dksX6_readOffer_3 1 rfl rfl)
theorem dX6_readOffer_71 : decode cX6_readOffer 71 = .ok (.bipush 20, 2) := dk_16 20 (dk_at dksX6_readOffer_3 2 rfl rfl)
theorem dX6_readOffer_73 : decode cX6_readOffer 73 = .ok (.iconst 0, 1) := dk_3 (dk_at dksX6_readOffer_3 4 rfl rfl)
theorem dX6_readOffer_74 : decode cX6_readOffer 74 = .ok (.aload_n 0, 1) := dk_42 (dk_at dksX6_readOffer_3 5 rfl rfl)
theorem dX6_readOffer_75 : decode cX6_readOffer 75 = .ok (.getfield 138, 3) := dk_180 0 138 (dk_at dksX6_readOffer_3 6 rfl rfl)
theorem dX6_readOffer_78 : decode cX6_readOffer 78 = .ok (.iconst 1, 1) := dk_4 (dk_at dksX6_readOffer_3 9 rfl rfl)
theorem dX6_readOffer_79 : decode cX6_readOffer 79 = .ok (.isub, 1) := dk_100 (dk_at dksX6_readOffer_3 10 rfl rfl)
theorem dX6_readOffer_80 : decode cX6_readOffer 80 = .ok (.invokevirtual 265, 3) := dk_182 1 9 (dk_at dksX6_readOffer_3 11 rfl rfl)
theorem dX6_readOffer_83 : decode cX6_readOffer 83 = .ok (.iastore, 1) := dk_79 (dk_at dksX6_readOffer_3 14 rfl rfl)
theorem dX6_readOffer_84 : decode cX6_readOffer 84 = .ok (.aload_n 0, 1) := dk_42 (dk_at dksX6_readOffer_3 15 rfl rfl)
theorem dX6_readOffer_85 : decode cX6_readOffer 85 = .ok (.getfield 62, 3) := dk_180 0 62 (dk_at dksX6_readOffer_3 16 rfl rfl)
theorem dX6_readOffer_88 : decode cX6_readOffer 88 = .ok (.iload_n 1, 1) := dk_27 (dk_at dksX6_readOffer_3 19 rfl rfl)
theorem dX6_readOffer_89 : decode cX6_readOffer 89 = .ok (.iconst 2, 1) := dk_5 (dk_at dksX6_readOffer_3 20 rfl rfl)
theorem dX6_readOffer_90 : decode cX6_readOffer 90 = .ok (.iadd, 1) := dk_96 (dk_at dksX6_readOffer_3 21 rfl rfl)
theorem dX6_readOffer_91 : decode cX6_readOffer 91 = .ok (.iaload, 1) := dk_46 (dk_at dksX6_readOffer_3 22 rfl rfl)
theorem dX6_readOffer_92 : decode cX6_readOffer 92 = .ok (.iconst (-1), 1) := dk_2 (dk_at dksX6_readOffer_3 23 rfl rfl)
theorem dX6_readOffer_93 : decode cX6_readOffer 93 = .ok (.if_icmp .ne 5, 3) := dk_160 0 5 (dk_at dksX6_readOffer_4 0 rfl rfl)
theorem dX6_readOffer_96 : decode cX6_readOffer 96 = .ok (.iconst (-1), 1) := dk_2 (dk_at dksX6_readOffer_4 3 rfl rfl)
theorem dX6_readOffer_97 : decode cX6_readOffer 97 = .ok (.ireturn, 1) := dk_172 (dk_at dksX6_readOffer_4 4 rfl rfl)
theorem dX6_readOffer_98 : decode cX6_readOffer 98 = .ok (.aload_n 0, 1) := dk_42 (dk_at dksX6_readOffer_4 5 rfl rfl)
theorem dX6_readOffer_99 : decode cX6_readOffer 99 = .ok (.getfield 62, 3) := dk_180 0 62 (dk_at dksX6_readOffer_4 6 rfl rfl)
theorem dX6_readOffer_102 : decode cX6_readOffer 102 = .ok (.iload_n 1, 1) := dk_27 (dk_at dksX6_readOffer_4 9 rfl rfl)
theorem dX6_readOffer_103 : decode cX6_readOffer 103 = .ok (.iconst 3, 1) := dk_6 (dk_at dksX6_readOffer_4 10 rfl rfl)
theorem dX6_readOffer_104 : decode cX6_readOffer 104 = .ok (.iadd, 1) := dk_96 (dk_at dksX6_readOffer_4 11 rfl rfl)
theorem dX6_readOffer_105 : decode cX6_readOffer 105 = .ok (.aload_n 0, 1) := dk_42 (dk_at dksX6_readOffer_4 12 rfl rfl)
theorem dX6_readOffer_106 : decode cX6_readOffer 106 = .ok (.bipush 21, 2) := dk_16 21 (dk_at dksX6_readOffer_4 13 rfl rfl)
theorem dX6_readOffer_108 : decode cX6_readOffer 108 = .ok (.iconst 0, 1) := dk_3 (dk_at dksX6_readOffer_4 15 rfl rfl)
theorem dX6_readOffer_109 : decode cX6_readOffer 109 = .ok (.sipush 9999, 3) := dk_17 39 15 (dk_at dksX6_readOffer_4 16 rfl rfl)
theorem dX6_readOffer_112 : decode cX6_readOffer 112 = .ok (.invokevirtual 265, 3) := dk_182 1 9 (dk_at dksX6_readOffer_4 19 rfl rfl)
theorem dX6_readOffer_115 : decode cX6_readOffer 115 = .ok (.iastore, 1) := dk_79 (dk_at dksX6_readOffer_4 22 rfl rfl)
theorem dX6_readOffer_116 : decode cX6_readOffer 116 = .ok (.aload_n 0, 1) := dk_42 (dk_at dksX6_readOffer_4 23 rfl rfl)
theorem dX6_readOffer_117 : decode cX6_readOffer 117 = .ok (.getfield 62, 3) := dk_180 0 62 (dk_at dksX6_readOffer_5 0 rfl rfl)
theorem dX6_readOffer_120 : decode cX6_readOffer 120 = .ok (.iload_n 1, 1) := dk_27 (dk_at dksX6_readOffer_5 3 rfl rfl)
theorem dX6_readOffer_121 : decode cX6_readOffer 121 = .ok (.iconst 3, 1) := dk_6 (dk_at dksX6_readOffer_5 4 rfl rfl)
theorem dX6_readOffer_122 : decode cX6_readOffer 122 = .ok (.iadd, 1) := dk_96 (dk_at dksX6_readOffer_5 5 rfl rfl)
theorem dX6_readOffer_123 : decode cX6_readOffer 123 = .ok (.iaload, 1) := dk_46 (dk_at dksX6_readOffer_5 6 rfl rfl)
theorem dX6_readOffer_124 : decode cX6_readOffer 124 = .ok (.iconst (-1), 1) := dk_2 (dk_at dksX6_readOffer_5 7 rfl rfl)
theorem dX6_readOffer_125 : decode cX6_readOffer 125 = .ok (.if_icmp .ne 5, 3) := dk_160 0 5 (dk_at dksX6_readOffer_5 8 rfl rfl)
theorem dX6_readOffer_128 : decode cX6_readOffer 128 = .ok (.iconst (-1), 1) := dk_2 (dk_at dksX6_readOffer_5 11 rfl rfl)
theorem dX6_readOffer_129 : decode cX6_readOffer 129 = .ok (.ireturn, 1) := dk_172 (dk_at dksX6_readOffer_5 12 rfl rfl)
theorem dX6_readOffer_130 : decode cX6_readOffer 130 = .ok (.aload_n 0, 1) := dk_42 (dk_at dksX6_readOffer_5 13 rfl rfl)
theorem dX6_readOffer_131 : decode cX6_readOffer 131 = .ok (.getfield 62, 3) := dk_180 0 62 (dk_at dksX6_readOffer_5 14 rfl rfl)
theorem dX6_readOffer_134 : decode cX6_readOffer 134 = .ok (.iload_n 1, 1) := dk_27 (dk_at dksX6_readOffer_5 17 rfl rfl)
theorem dX6_readOffer_135 : decode cX6_readOffer 135 = .ok (.iconst 4, 1) := dk_7 (dk_at dksX6_readOffer_5 18 rfl rfl)
theorem dX6_readOffer_136 : decode cX6_readOffer 136 = .ok (.iadd, 1) := dk_96 (dk_at dksX6_readOffer_5 19 rfl rfl)
theorem dX6_readOffer_137 : decode cX6_readOffer 137 = .ok (.aload_n 0, 1) := dk_42 (dk_at dksX6_readOffer_5 20 rfl rfl)
theorem dX6_readOffer_138 : decode cX6_readOffer 138 = .ok (.bipush 10, 2) := dk_16 10 (dk_at dksX6_readOffer_5 21 rfl rfl)
theorem dX6_readOffer_140 : decode cX6_readOffer 140 = .ok (.iconst 1, 1) := dk_4 (dk_at dksX6_readOffer_5 23 rfl rfl)
theorem dX6_readOffer_141 : decode cX6_readOffer 141 = .ok (.bipush 9, 2) := dk_16 9 (dk_at dksX6_readOffer_6 0 rfl rfl)
theorem dX6_readOffer_143 : decode cX6_readOffer 143 = .ok (.invokevirtual 265, 3) := dk_182 1 9 (dk_at dksX6_readOffer_6 2 rfl rfl)
theorem dX6_readOffer_146 : decode cX6_readOffer 146 = .ok (.iastore, 1) := dk_79 (dk_at dksX6_readOffer_6 5 rfl rfl)
theorem dX6_readOffer_147 : decode cX6_readOffer 147 = .ok (.aload_n 0, 1) := dk_42 (dk_at dksX6_readOffer_6 6 rfl rfl)
theorem dX6_readOffer_148 : decode cX6_readOffer 148 = .ok (.getfield 62, 3) := dk_180 0 62 (dk_at dksX6_readOffer_6 7 rfl rfl)
theorem dX6_readOffer_151 : decode cX6_readOffer 151 = .ok (.iload_n 1, 1) := dk_27 (dk_at dksX6_readOffer_6 10 rfl rfl)
theorem dX6_readOffer_152 : decode cX6_readOffer 152 = .ok (.iconst 4, 1) := dk_7 (dk_at dksX6_readOffer_6 11 rfl rfl)
theorem dX6_readOffer_153 : decode cX6_readOffer 153 = .ok (.iadd, 1) := dk_96 (dk_at dksX6_readOffer_6 12 rfl rfl)
theorem dX6_readOffer_154 : decode cX6_readOffer 154 = .ok (.iaload, 1) := dk_46 (dk_at dksX6_readOffer_6 13 rfl rfl)
theorem dX6_readOffer_155 : decode cX6_readOffer 155 = .ok (.iconst (-1), 1) := dk_2 (dk_at dksX6_readOffer_6 14 rfl rfl)
theorem dX6_readOffer_156 : decode cX6_readOffer 156 = .ok (.if_icmp .ne 7, 3) := dk_160 0 7 (dk_at dksX6_readOffer_6 15 rfl rfl)
theorem dX6_readOffer_159 : decode cX6_readOffer 159 = .ok (.iconst (-1), 1) := dk_2 (dk_at dksX6_readOffer_6 18 rfl rfl)
theorem dX6_readOffer_160 : decode cX6_readOffer 160 = .ok (.goto 9, 3) := dk_167 0 9 (dk_at dksX6_readOffer_6 19 rfl rfl)
theorem dX6_readOffer_163 : decode cX6_readOffer 163 = .ok (.aload_n 0, 1) := dk_42 (dk_at dksX6_readOffer_6 22 rfl rfl)
theorem dX6_readOffer_164 : decode cX6_readOffer 164 = .ok (.bipush 59, 2) := dk_16 59 (dk_at dksX6_readOffer_7 0 rfl rfl)
theorem dX6_readOffer_166 : decode cX6_readOffer 166 = .ok (.invokevirtual 268, 3) := dk_182 1 12 (dk_at dksX6_readOffer_7 2 rfl rfl)
theorem dX6_readOffer_169 : decode cX6_readOffer 169 = .ok (.ireturn, 1) := dk_172 (dk_at dksX6_readOffer_7 5 rfl rfl)
abbrev cX6_readTold : ByteArray := prog_22_method_51_code
def yX6_readTold : MethodName := ⟨RX6, "readTold", "(III)I"⟩
def dkwX6_readTold_1 : List UInt8 := [172]
abbrev dktX6_readTold_1 : List UInt8 := dkwX6_readTold_1 ++ []
def dkwX6_readTold_0 : List UInt8 := [42, 27, 182, 0, 240, 154, 0, 9, 42, 4, 182, 0, 211, 172, 42, 182, 0, 218, 42, 28, 29, 182, 1, 6]
abbrev dktX6_readTold_0 : List UInt8 := dkwX6_readTold_0 ++ dktX6_readTold_1
theorem dksX6_readTold_0 : cX6_readTold.data.toList.drop 0 = dktX6_readTold_0 := by decide +kernel
theorem dksX6_readTold_1 : cX6_readTold.data.toList.drop 24 = dktX6_readTold_1 := dk_seg dksX6_readTold_0 24 rfl rfl
theorem dX6_readTold_0 : decode cX6_readTold 0 = .ok (.aload_n 0, 1) := dk_42 (dk_at dksX6_readTold_0 0 rfl rfl)
theorem dX6_readTold_1 : decode cX6_readTold 1 = .ok (.iload_n 1, 1) := dk_27 (dk_at dksX6_readTold_0 1 rfl rfl)
theorem dX6_readTold_2 : decode cX6_readTold 2 = .ok (.invokevirtual 240, 3) := dk_182 0 240 (dk_at dksX6_readTold_0 2 rfl rfl)
theorem dX6_readTold_5 : decode cX6_readTold 5 = .ok (.ifCond .ne 9, 3) := dk_154 0 9 (dk_at dksX6_readTold_0 5 rfl rfl)
theorem dX6_readTold_8 : decode cX6_readTold 8 = .ok (.aload_n 0, 1) := dk_42 (dk_at dksX6_readTold_0 8 rfl rfl)
theorem dX6_readTold_9 : decode cX6_readTold 9 = .ok (.iconst 1, 1) := dk_4 (dk_at dksX6_readTold_0 9 rfl rfl)
theorem dX6_readTold_10 : decode cX6_readTold 10 = .ok (.invokevirtual 211, 3) := dk_182 0 211 (dk_at dksX6_readTold_0 10 rfl rfl)
theorem dX6_readTold_13 : decode cX6_readTold 13 = .ok (.ireturn, 1) := dk_172 (dk_at dksX6_readTold_0 13 rfl rfl)
theorem dX6_readTold_14 : decode cX6_readTold 14 = .ok (.aload_n 0, 1) := dk_42 (dk_at dksX6_readTold_0 14 rfl rfl)
theorem dX6_readTold_15 : decode cX6_readTold 15 = .ok (.invokevirtual 218, 3) := dk_182 0 218 (dk_at dksX6_readTold_0 15 rfl rfl)
theorem dX6_readTold_18 : decode cX6_readTold 18 = .ok (.aload_n 0, 1) := dk_42 (dk_at dksX6_readTold_0 18 rfl rfl)
theorem dX6_readTold_19 : decode cX6_readTold 19 = .ok (.iload_n 2, 1) := dk_28 (dk_at dksX6_readTold_0 19 rfl rfl)
theorem dX6_readTold_20 : decode cX6_readTold 20 = .ok (.iload_n 3, 1) := dk_29 (dk_at dksX6_readTold_0 20 rfl rfl)
theorem dX6_readTold_21 : decode cX6_readTold 21 = .ok (.invokevirtual 262, 3) := dk_182 1 6 (dk_at dksX6_readTold_0 21 rfl rfl)
theorem dX6_readTold_24 : decode cX6_readTold 24 = .ok (.ireturn, 1) := dk_172 (dk_at dksX6_readTold_1 0 rfl rfl)
abbrev cX6_readNumber : ByteArray := prog_22_method_49_code
def yX6_readNumber : MethodName := ⟨RX6, "readNumber", "(II)I"⟩
def dkwX6_readNumber_1 : List UInt8 := [154, 0, 9, 42, 5, 182, 0, 211, 172, 42, 180, 0, 183, 62, 42, 182, 0, 218, 29, 172]
abbrev dktX6_readNumber_1 : List UInt8 := dkwX6_readNumber_1 ++ []
def dkwX6_readNumber_0 : List UInt8 := [42, 180, 0, 180, 6, 159, 0, 9, 42, 4, 182, 0, 211, 172, 42, 42, 180, 0, 183, 27, 28, 182, 0, 145]
abbrev dktX6_readNumber_0 : List UInt8 := dkwX6_readNumber_0 ++ dktX6_readNumber_1
theorem dksX6_readNumber_0 : cX6_readNumber.data.toList.drop 0 = dktX6_readNumber_0 := by decide +kernel
theorem dksX6_readNumber_1 : cX6_readNumber.data.toList.drop 24 = dktX6_readNumber_1 := dk_seg dksX6_readNumber_0 24 rfl rfl
theorem dX6_readNumber_0 : decode cX6_readNumber 0 = .ok (.aload_n 0, 1) := dk_42 (dk_at dksX6_readNumber_0 0 rfl rfl)
theorem dX6_readNumber_1 : decode cX6_readNumber 1 = .ok (.getfield 180, 3) := dk_180 0 180 (dk_at dksX6_readNumber_0 1 rfl rfl)
theorem dX6_readNumber_4 : decode cX6_readNumber 4 = .ok (.iconst 3, 1) := dk_6 (dk_at dksX6_readNumber_0 4 rfl rfl)
theorem dX6_readNumber_5 : decode cX6_readNumber 5 = .ok (.if_icmp .eq 9, 3) := dk_159 0 9 (dk_at dksX6_readNumber_0 5 rfl rfl)
theorem dX6_readNumber_8 : decode cX6_readNumber 8 = .ok (.aload_n 0, 1) := dk_42 (dk_at dksX6_readNumber_0 8 rfl rfl)
theorem dX6_readNumber_9 : decode cX6_readNumber 9 = .ok (.iconst 1, 1) := dk_4 (dk_at dksX6_readNumber_0 9 rfl rfl)
theorem dX6_readNumber_10 : decode cX6_readNumber 10 = .ok (.invokevirtual 211, 3) := dk_182 0 211 (dk_at dksX6_readNumber_0 10 rfl rfl)
theorem dX6_readNumber_13 : decode cX6_readNumber 13 = .ok (.ireturn, 1) := dk_172 (dk_at dksX6_readNumber_0 13 rfl rfl)
theorem dX6_readNumber_14 : decode cX6_readNumber 14 = .ok (.aload_n 0, 1) := dk_42 (dk_at dksX6_readNumber_0 14 rfl rfl)
theorem dX6_readNumber_15 : decode cX6_readNumber 15 = .ok (.aload_n 0, 1) := dk_42 (dk_at dksX6_readNumber_0 15 rfl rfl)
theorem dX6_readNumber_16 : decode cX6_readNumber 16 = .ok (.getfield 183, 3) := dk_180 0 183 (dk_at dksX6_readNumber_0 16 rfl rfl)
theorem dX6_readNumber_19 : decode cX6_readNumber 19 = .ok (.iload_n 1, 1) := dk_27 (dk_at dksX6_readNumber_0 19 rfl rfl)
theorem dX6_readNumber_20 : decode cX6_readNumber 20 = .ok (.iload_n 2, 1) := dk_28 (dk_at dksX6_readNumber_0 20 rfl rfl)
theorem dX6_readNumber_21 : decode cX6_readNumber 21 = .ok (.invokevirtual 145, 3) := dk_182 0 145 (dk_at dksX6_readNumber_0 21 rfl rfl)
theorem dX6_readNumber_24 : decode cX6_readNumber 24 = .ok (.ifCond .ne 9, 3) := dk_154 0 9 (dk_at dksX6_readNumber_1 0 rfl rfl)
theorem dX6_readNumber_27 : decode cX6_readNumber 27 = .ok (.aload_n 0, 1) := dk_42 (dk_at dksX6_readNumber_1 3 rfl rfl)
theorem dX6_readNumber_28 : decode cX6_readNumber 28 = .ok (.iconst 2, 1) := dk_5 (dk_at dksX6_readNumber_1 4 rfl rfl)
theorem dX6_readNumber_29 : decode cX6_readNumber 29 = .ok (.invokevirtual 211, 3) := dk_182 0 211 (dk_at dksX6_readNumber_1 5 rfl rfl)
theorem dX6_readNumber_32 : decode cX6_readNumber 32 = .ok (.ireturn, 1) := dk_172 (dk_at dksX6_readNumber_1 8 rfl rfl)
theorem dX6_readNumber_33 : decode cX6_readNumber 33 = .ok (.aload_n 0, 1) := dk_42 (dk_at dksX6_readNumber_1 9 rfl rfl)
theorem dX6_readNumber_34 : decode cX6_readNumber 34 = .ok (.getfield 183, 3) := dk_180 0 183 (dk_at dksX6_readNumber_1 10 rfl rfl)
theorem dX6_readNumber_37 : decode cX6_readNumber 37 = .ok (.istore_n 3, 1) := dk_62 (dk_at dksX6_readNumber_1 13 rfl rfl)
theorem dX6_readNumber_38 : decode cX6_readNumber 38 = .ok (.aload_n 0, 1) := dk_42 (dk_at dksX6_readNumber_1 14 rfl rfl)
theorem dX6_readNumber_39 : decode cX6_readNumber 39 = .ok (.invokevirtual 218, 3) := dk_182 0 218 (dk_at dksX6_readNumber_1 15 rfl rfl)
theorem dX6_readNumber_42 : decode cX6_readNumber 42 = .ok (.iload_n 3, 1) := dk_29 (dk_at dksX6_readNumber_1 18 rfl rfl)
theorem dX6_readNumber_43 : decode cX6_readNumber 43 = .ok (.ireturn, 1) := dk_172 (dk_at dksX6_readNumber_1 19 rfl rfl)
abbrev cX6_readMark : ByteArray := prog_22_method_50_code
def yX6_readMark : MethodName := ⟨RX6, "readMark", "(I)I"⟩
def dkwX6_readMark_0 : List UInt8 := [42, 27, 182, 0, 225, 154, 0, 9, 42, 4, 182, 0, 211, 172, 42, 182, 0, 218, 3, 172]
abbrev dktX6_readMark_0 : List UInt8 := dkwX6_readMark_0 ++ []
theorem dksX6_readMark_0 : cX6_readMark.data.toList.drop 0 = dktX6_readMark_0 := by decide +kernel
theorem dX6_readMark_0 : decode cX6_readMark 0 = .ok (.aload_n 0, 1) := dk_42 (dk_at dksX6_readMark_0 0 rfl rfl)
theorem dX6_readMark_1 : decode cX6_readMark 1 = .ok (.iload_n 1, 1) := dk_27 (dk_at dksX6_readMark_0 1 rfl rfl)
theorem dX6_readMark_2 : decode cX6_readMark 2 = .ok (.invokevirtual 225, 3) := dk_182 0 225 (dk_at dksX6_readMark_0 2 rfl rfl)
theorem dX6_readMark_5 : decode cX6_readMark 5 = .ok (.ifCond .ne 9, 3) := dk_154 0 9 (dk_at dksX6_readMark_0 5 rfl rfl)
theorem dX6_readMark_8 : decode cX6_readMark 8 = .ok (.aload_n 0, 1) := dk_42 (dk_at dksX6_readMark_0 8 rfl rfl)
theorem dX6_readMark_9 : decode cX6_readMark 9 = .ok (.iconst 1, 1) := dk_4 (dk_at dksX6_readMark_0 9 rfl rfl)
theorem dX6_readMark_10 : decode cX6_readMark 10 = .ok (.invokevirtual 211, 3) := dk_182 0 211 (dk_at dksX6_readMark_0 10 rfl rfl)
theorem dX6_readMark_13 : decode cX6_readMark 13 = .ok (.ireturn, 1) := dk_172 (dk_at dksX6_readMark_0 13 rfl rfl)
theorem dX6_readMark_14 : decode cX6_readMark 14 = .ok (.aload_n 0, 1) := dk_42 (dk_at dksX6_readMark_0 14 rfl rfl)
theorem dX6_readMark_15 : decode cX6_readMark 15 = .ok (.invokevirtual 218, 3) := dk_182 0 218 (dk_at dksX6_readMark_0 15 rfl rfl)
theorem dX6_readMark_18 : decode cX6_readMark 18 = .ok (.iconst 0, 1) := dk_3 (dk_at dksX6_readMark_0 18 rfl rfl)
theorem dX6_readMark_19 : decode cX6_readMark 19 = .ok (.ireturn, 1) := dk_172 (dk_at dksX6_readMark_0 19 rfl rfl)
abbrev cX6_isSign : ByteArray := prog_22_method_36_code
def yX6_isSign : MethodName := ⟨RX6, "isSign", "(I)Z"⟩
def dkwX6_isSign_0 : List UInt8 := [42, 180, 0, 180, 7, 160, 0, 15, 42, 180, 0, 183, 27, 160, 0, 7, 4, 167, 0, 4, 3, 172]
abbrev dktX6_isSign_0 : List UInt8 := dkwX6_isSign_0 ++ []
theorem dksX6_isSign_0 : cX6_isSign.data.toList.drop 0 = dktX6_isSign_0 := by decide +kernel
theorem dX6_isSign_0 : decode cX6_isSign 0 = .ok (.aload_n 0, 1) := dk_42 (dk_at dksX6_isSign_0 0 rfl rfl)
theorem dX6_isSign_1 : decode cX6_isSign 1 = .ok (.getfield 180, 3) := dk_180 0 180 (dk_at dksX6_isSign_0 1 rfl rfl)
theorem dX6_isSign_4 : decode cX6_isSign 4 = .ok (.iconst 4, 1) := dk_7 (dk_at dksX6_isSign_0 4 rfl rfl)
theorem dX6_isSign_5 : decode cX6_isSign 5 = .ok (.if_icmp .ne 15, 3) := dk_160 0 15 (dk_at dksX6_isSign_0 5 rfl rfl)
theorem dX6_isSign_8 : decode cX6_isSign 8 = .ok (.aload_n 0, 1) := dk_42 (dk_at dksX6_isSign_0 8 rfl rfl)
theorem dX6_isSign_9 : decode cX6_isSign 9 = .ok (.getfield 183, 3) := dk_180 0 183 (dk_at dksX6_isSign_0 9 rfl rfl)
theorem dX6_isSign_12 : decode cX6_isSign 12 = .ok (.iload_n 1, 1) := dk_27 (dk_at dksX6_isSign_0 12 rfl rfl)
theorem dX6_isSign_13 : decode cX6_isSign 13 = .ok (.if_icmp .ne 7, 3) := dk_160 0 7 (dk_at dksX6_isSign_0 13 rfl rfl)
theorem dX6_isSign_16 : decode cX6_isSign 16 = .ok (.iconst 1, 1) := dk_4 (dk_at dksX6_isSign_0 16 rfl rfl)
theorem dX6_isSign_17 : decode cX6_isSign 17 = .ok (.goto 4, 3) := dk_167 0 4 (dk_at dksX6_isSign_0 17 rfl rfl)
theorem dX6_isSign_20 : decode cX6_isSign 20 = .ok (.iconst 0, 1) := dk_3 (dk_at dksX6_isSign_0 20 rfl rfl)
theorem dX6_isSign_21 : decode cX6_isSign 21 = .ok (.ireturn, 1) := dk_172 (dk_at dksX6_isSign_0 21 rfl rfl)
abbrev cX6_readHabits : ByteArray := prog_22_method_55_code
def yX6_readHabits : MethodName := ⟨RX6, "readHabits", "()I"⟩
def dkwX6_readHabits_2 : List UInt8 := [180, 0, 180, 154, 0, 7, 27, 167, 0, 8, 42, 4, 182, 0, 211, 172]
abbrev dktX6_readHabits_2 : List UInt8 := dkwX6_readHabits_2 ++ []
def dkwX6_readHabits_1 : List UInt8 := [16, 80, 8, 27, 104, 96, 182, 1, 18, 2, 160, 0, 5, 2, 172, 27, 4, 96, 60, 167, 255, 215, 42]
abbrev dktX6_readHabits_1 : List UInt8 := dkwX6_readHabits_1 ++ dktX6_readHabits_2
def dkwX6_readHabits_0 : List UInt8 := [3, 60, 42, 16, 18, 182, 0, 240, 153, 0, 38, 27, 16, 16, 160, 0, 9, 42, 6, 182, 0, 211, 172, 42]
abbrev dktX6_readHabits_0 : List UInt8 := dkwX6_readHabits_0 ++ dktX6_readHabits_1
theorem dksX6_readHabits_0 : cX6_readHabits.data.toList.drop 0 = dktX6_readHabits_0 := by decide +kernel
theorem dksX6_readHabits_1 : cX6_readHabits.data.toList.drop 24 = dktX6_readHabits_1 := dk_seg dksX6_readHabits_0 24 rfl rfl
theorem dksX6_readHabits_2 : cX6_readHabits.data.toList.drop 47 = dktX6_readHabits_2 := dk_seg dksX6_readHabits_1 23 rfl rfl
theorem dX6_readHabits_0 : decode cX6_readHabits 0 = .ok (.iconst 0, 1) := dk_3 (dk_at dksX6_readHabits_0 0 rfl rfl)
theorem dX6_readHabits_1 : decode cX6_readHabits 1 = .ok (.istore_n 1, 1) := dk_60 (dk_at dksX6_readHabits_0 1 rfl rfl)
theorem dX6_readHabits_2 : decode cX6_readHabits 2 = .ok (.aload_n 0, 1) := dk_42 (dk_at dksX6_readHabits_0 2 rfl rfl)
theorem dX6_readHabits_3 : decode cX6_readHabits 3 = .ok (.bipush 18, 2) := dk_16 18 (dk_at dksX6_readHabits_0 3 rfl rfl)
theorem dX6_readHabits_5 : decode cX6_readHabits 5 = .ok (.invokevirtual 240, 3) := dk_182 0 240 (dk_at dksX6_readHabits_0 5 rfl rfl)
theorem dX6_readHabits_8 : decode cX6_readHabits 8 = .ok (.ifCond .eq 38, 3) := dk_153 0 38 (dk_at dksX6_readHabits_0 8 rfl rfl)
theorem dX6_readHabits_11 : decode cX6_readHabits 11 = .ok (.iload_n 1, 1) := dk_27 (dk_at dksX6_readHabits_0 11 rfl rfl)
theorem dX6_readHabits_12 : decode cX6_readHabits 12 = .ok (.bipush 16, 2) := dk_16 16 (dk_at dksX6_readHabits_0 12 rfl rfl)
theorem dX6_readHabits_14 : decode cX6_readHabits 14 = .ok (.if_icmp .ne 9, 3) := dk_160 0 9 (dk_at dksX6_readHabits_0 14 rfl rfl)
theorem dX6_readHabits_17 : decode cX6_readHabits 17 = .ok (.aload_n 0, 1) := dk_42 (dk_at dksX6_readHabits_0 17 rfl rfl)
theorem dX6_readHabits_18 : decode cX6_readHabits 18 = .ok (.iconst 3, 1) := dk_6 (dk_at dksX6_readHabits_0 18 rfl rfl)
theorem dX6_readHabits_19 : decode cX6_readHabits 19 = .ok (.invokevirtual 211, 3) := dk_182 0 211 (dk_at dksX6_readHabits_0 19 rfl rfl)
theorem dX6_readHabits_22 : decode cX6_readHabits 22 = .ok (.ireturn, 1) := dk_172 (dk_at dksX6_readHabits_0 22 rfl rfl)
theorem dX6_readHabits_23 : decode cX6_readHabits 23 = .ok (.aload_n 0, 1) := dk_42 (dk_at dksX6_readHabits_0 23 rfl rfl)
theorem dX6_readHabits_24 : decode cX6_readHabits 24 = .ok (.bipush 80, 2) := dk_16 80 (dk_at dksX6_readHabits_1 0 rfl rfl)
theorem dX6_readHabits_26 : decode cX6_readHabits 26 = .ok (.iconst 5, 1) := dk_8 (dk_at dksX6_readHabits_1 2 rfl rfl)
theorem dX6_readHabits_27 : decode cX6_readHabits 27 = .ok (.iload_n 1, 1) := dk_27 (dk_at dksX6_readHabits_1 3 rfl rfl)
theorem dX6_readHabits_28 : decode cX6_readHabits 28 = .ok (.imul, 1) := dk_104 (dk_at dksX6_readHabits_1 4 rfl rfl)
theorem dX6_readHabits_29 : decode cX6_readHabits 29 = .ok (.iadd, 1) := dk_96 (dk_at dksX6_readHabits_1 5 rfl rfl)
theorem dX6_readHabits_30 : decode cX6_readHabits 30 = .ok (.invokevirtual 274, 3) := dk_182 1 18 (dk_at dksX6_readHabits_1 6 rfl rfl)
theorem dX6_readHabits_33 : decode cX6_readHabits 33 = .ok (.iconst (-1), 1) := dk_2 (dk_at dksX6_readHabits_1 9 rfl rfl)
theorem dX6_readHabits_34 : decode cX6_readHabits 34 = .ok (.if_icmp .ne 5, 3) := dk_160 0 5 (dk_at dksX6_readHabits_1 10 rfl rfl)
theorem dX6_readHabits_37 : decode cX6_readHabits 37 = .ok (.iconst (-1), 1) := dk_2 (dk_at dksX6_readHabits_1 13 rfl rfl)
theorem dX6_readHabits_38 : decode cX6_readHabits 38 = .ok (.ireturn, 1) := dk_172 (dk_at dksX6_readHabits_1 14 rfl rfl)
theorem dX6_readHabits_39 : decode cX6_readHabits 39 = .ok (.iload_n 1, 1) := dk_27 (dk_at dksX6_readHabits_1 15 rfl rfl)
theorem dX6_readHabits_40 : decode cX6_readHabits 40 = .ok (.iconst 1, 1) := dk_4 (dk_at dksX6_readHabits_1 16 rfl rfl)
theorem dX6_readHabits_41 : decode cX6_readHabits 41 = .ok (.iadd, 1) := dk_96 (dk_at dksX6_readHabits_1 17 rfl rfl)
theorem dX6_readHabits_42 : decode cX6_readHabits 42 = .ok (.istore_n 1, 1) := dk_60 (dk_at dksX6_readHabits_1 18 rfl rfl)
theorem dX6_readHabits_43 : decode cX6_readHabits 43 = .ok (.goto (-41), 3) := dk_167 255 215 (dk_at dksX6_readHabits_1 19 rfl rfl)
theorem dX6_readHabits_46 : decode cX6_readHabits 46 = .ok (.aload_n 0, 1) := dk_42 (dk_at dksX6_readHabits_1 22 rfl rfl)
theorem dX6_readHabits_47 : decode cX6_readHabits 47 = .ok (.getfield 180, 3) := dk_180 0 180 (dk_at dksX6_readHabits_2 0 rfl rfl)
theorem dX6_readHabits_50 : decode cX6_readHabits 50 = .ok (.ifCond .ne 7, 3) := dk_154 0 7 (dk_at dksX6_readHabits_2 3 rfl rfl)
theorem dX6_readHabits_53 : decode cX6_readHabits 53 = .ok (.iload_n 1, 1) := dk_27 (dk_at dksX6_readHabits_2 6 rfl rfl)
theorem dX6_readHabits_54 : decode cX6_readHabits 54 = .ok (.goto 8, 3) := dk_167 0 8 (dk_at dksX6_readHabits_2 7 rfl rfl)
theorem dX6_readHabits_57 : decode cX6_readHabits 57 = .ok (.aload_n 0, 1) := dk_42 (dk_at dksX6_readHabits_2 10 rfl rfl)
theorem dX6_readHabits_58 : decode cX6_readHabits 58 = .ok (.iconst 1, 1) := dk_4 (dk_at dksX6_readHabits_2 11 rfl rfl)
theorem dX6_readHabits_59 : decode cX6_readHabits 59 = .ok (.invokevirtual 211, 3) := dk_182 0 211 (dk_at dksX6_readHabits_2 12 rfl rfl)
theorem dX6_readHabits_62 : decode cX6_readHabits 62 = .ok (.ireturn, 1) := dk_172 (dk_at dksX6_readHabits_2 15 rfl rfl)
abbrev cX6_readDeed : ByteArray := prog_22_method_54_code
def yX6_readDeed : MethodName := ⟨RX6, "readDeed", "(I)I"⟩
def dkwX6_readDeed_8 : List UInt8 := [180, 0, 65, 27, 7, 96, 46, 2, 160, 0, 7, 2, 167, 0, 9, 42, 16, 59, 182, 1, 12, 172]
abbrev dktX6_readDeed_8 : List UInt8 := dkwX6_readDeed_8 ++ []
def dkwX6_readDeed_7 : List UInt8 := [182, 1, 6, 167, 0, 19, 28, 7, 160, 0, 13, 42, 4, 16, 99, 182, 1, 6, 167, 0, 4, 3, 79, 42]
abbrev dktX6_readDeed_7 : List UInt8 := dkwX6_readDeed_7 ++ dktX6_readDeed_8
def dkwX6_readDeed_6 : List UInt8 := [46, 2, 160, 0, 5, 2, 172, 42, 180, 0, 65, 27, 7, 96, 28, 6, 160, 0, 14, 42, 4, 17, 3, 231]
abbrev dktX6_readDeed_6 : List UInt8 := dkwX6_readDeed_6 ++ dktX6_readDeed_7
def dkwX6_readDeed_5 : List UInt8 := [96, 28, 7, 160, 0, 12, 42, 3, 7, 182, 1, 6, 167, 0, 4, 3, 79, 42, 180, 0, 65, 27, 6, 96]
abbrev dktX6_readDeed_5 : List UInt8 := dkwX6_readDeed_5 ++ dktX6_readDeed_6
def dkwX6_readDeed_4 : List UInt8 := [182, 1, 6, 79, 42, 180, 0, 65, 27, 5, 96, 46, 2, 160, 0, 5, 2, 172, 42, 180, 0, 65, 27, 6]
abbrev dktX6_readDeed_4 : List UInt8 := dkwX6_readDeed_4 ++ dktX6_readDeed_5
def dkwX6_readDeed_3 : List UInt8 := [42, 180, 0, 65, 27, 4, 96, 28, 79, 42, 180, 0, 65, 27, 5, 96, 42, 3, 42, 180, 0, 135, 4, 100]
abbrev dktX6_readDeed_3 : List UInt8 := dkwX6_readDeed_3 ++ dktX6_readDeed_4
def dkwX6_readDeed_2 : List UInt8 := [182, 0, 145, 154, 0, 9, 42, 4, 182, 0, 211, 172, 42, 180, 0, 183, 16, 22, 100, 61, 42, 182, 0, 218]
abbrev dktX6_readDeed_2 : List UInt8 := dkwX6_readDeed_2 ++ dktX6_readDeed_3
def dkwX6_readDeed_1 : List UInt8 := [160, 0, 5, 2, 172, 42, 180, 0, 180, 5, 160, 0, 18, 42, 42, 180, 0, 183, 16, 22, 16, 26]
abbrev dktX6_readDeed_1 : List UInt8 := dkwX6_readDeed_1 ++ dktX6_readDeed_2
def dkwX6_readDeed_0 : List UInt8 := [42, 180, 0, 65, 27, 42, 16, 18, 3, 17, 3, 231, 182, 1, 9, 79, 42, 180, 0, 65, 27, 46, 2]
abbrev dktX6_readDeed_0 : List UInt8 := dkwX6_readDeed_0 ++ dktX6_readDeed_1
theorem dksX6_readDeed_0 : cX6_readDeed.data.toList.drop 0 = dktX6_readDeed_0 := by decide +kernel
theorem dksX6_readDeed_1 : cX6_readDeed.data.toList.drop 23 = dktX6_readDeed_1 := dk_seg dksX6_readDeed_0 23 rfl rfl
theorem dksX6_readDeed_2 : cX6_readDeed.data.toList.drop 45 = dktX6_readDeed_2 := dk_seg dksX6_readDeed_1 22 rfl rfl
theorem dksX6_readDeed_3 : cX6_readDeed.data.toList.drop 69 = dktX6_readDeed_3 := dk_seg dksX6_readDeed_2 24 rfl rfl
theorem dksX6_readDeed_4 : cX6_readDeed.data.toList.drop 93 = dktX6_readDeed_4 := dk_seg dksX6_readDeed_3 24 rfl rfl
theorem dksX6_readDeed_5 : cX6_readDeed.data.toList.drop 117 = dktX6_readDeed_5 := dk_seg dksX6_readDeed_4 24 rfl rfl
theorem dksX6_readDeed_6 : cX6_readDeed.data.toList.drop 141 = dktX6_readDeed_6 := dk_seg dksX6_readDeed_5 24 rfl rfl
theorem dksX6_readDeed_7 : cX6_readDeed.data.toList.drop 165 = dktX6_readDeed_7 := dk_seg dksX6_readDeed_6 24 rfl rfl
theorem dksX6_readDeed_8 : cX6_readDeed.data.toList.drop 189 = dktX6_readDeed_8 := dk_seg dksX6_readDeed_7 24 rfl rfl
theorem dX6_readDeed_0 : decode cX6_readDeed 0 = .ok (.aload_n 0, 1) := dk_42 (dk_at dksX6_readDeed_0 0 rfl rfl)
theorem dX6_readDeed_1 : decode cX6_readDeed 1 = .ok (.getfield 65, 3) := dk_180 0 65 (dk_at dksX6_readDeed_0 1 rfl rfl)
theorem dX6_readDeed_4 : decode cX6_readDeed 4 = .ok (.iload_n 1, 1) := dk_27 (dk_at dksX6_readDeed_0 4 rfl rfl)
theorem dX6_readDeed_5 : decode cX6_readDeed 5 = .ok (.aload_n 0, 1) := dk_42 (dk_at dksX6_readDeed_0 5 rfl rfl)
theorem dX6_readDeed_6 : decode cX6_readDeed 6 = .ok (.bipush 18, 2) := dk_16 18 (dk_at dksX6_readDeed_0 6 rfl rfl)
theorem dX6_readDeed_8 : decode cX6_readDeed 8 = .ok (.iconst 0, 1) := dk_3 (dk_at dksX6_readDeed_0 8 rfl rfl)
theorem dX6_readDeed_9 : decode cX6_readDeed 9 = .ok (.sipush 999, 3) := dk_17 3 231 (dk_at dksX6_readDeed_0 9 rfl rfl)
theorem dX6_readDeed_12 : decode cX6_readDeed 12 = .ok (.invokevirtual 265, 3) := dk_182 1 9 (dk_at dksX6_readDeed_0 12 rfl rfl)
theorem dX6_readDeed_15 : decode cX6_readDeed 15 = .ok (.iastore, 1) := dk_79 (dk_at dksX6_readDeed_0 15 rfl rfl)
theorem dX6_readDeed_16 : decode cX6_readDeed 16 = .ok (.aload_n 0, 1) := dk_42 (dk_at dksX6_readDeed_0 16 rfl rfl)
theorem dX6_readDeed_17 : decode cX6_readDeed 17 = .ok (.getfield 65, 3) := dk_180 0 65 (dk_at dksX6_readDeed_0 17 rfl rfl)
theorem dX6_readDeed_20 : decode cX6_readDeed 20 = .ok (.iload_n 1, 1) := dk_27 (dk_at dksX6_readDeed_0 20 rfl rfl)
theorem dX6_readDeed_21 : decode cX6_readDeed 21 = .ok (.iaload, 1) := dk_46 (dk_at dksX6_readDeed_0 21 rfl rfl)
theorem dX6_readDeed_22 : decode cX6_readDeed 22 = .ok (.iconst (-1), 1) := dk_2 (dk_at dksX6_readDeed_0 22 rfl rfl)
theorem dX6_readDeed_23 : decode cX6_readDeed 23 = .ok (.if_icmp .ne 5, 3) := dk_160 0 5 (dk_at dksX6_readDeed_1 0 rfl rfl)
theorem dX6_readDeed_26 : decode cX6_readDeed 26 = .ok (.iconst (-1), 1) := dk_2 (dk_at dksX6_readDeed_1 3 rfl rfl)
theorem dX6_readDeed_27 : decode cX6_readDeed 27 = .ok (.ireturn, 1) := dk_172 (dk_at dksX6_readDeed_1 4 rfl rfl)
theorem dX6_readDeed_28 : decode cX6_readDeed 28 = .ok (.aload_n 0, 1) := dk_42 (dk_at dksX6_readDeed_1 5 rfl rfl)
theorem dX6_readDeed_29 : decode cX6_readDeed 29 = .ok (.getfield 180, 3) := dk_180 0 180 (dk_at dksX6_readDeed_1 6 rfl rfl)
theorem dX6_readDeed_32 : decode cX6_readDeed 32 = .ok (.iconst 2, 1) := dk_5 (dk_at dksX6_readDeed_1 9 rfl rfl)
theorem dX6_readDeed_33 : decode cX6_readDeed 33 = .ok (.if_icmp .ne 18, 3) := dk_160 0 18 (dk_at dksX6_readDeed_1 10 rfl rfl)
theorem dX6_readDeed_36 : decode cX6_readDeed 36 = .ok (.aload_n 0, 1) := dk_42 (dk_at dksX6_readDeed_1 13 rfl rfl)
theorem dX6_readDeed_37 : decode cX6_readDeed 37 = .ok (.aload_n 0, 1) := dk_42 (dk_at dksX6_readDeed_1 14 rfl rfl)
theorem dX6_readDeed_38 : decode cX6_readDeed 38 = .ok (.getfield 183, 3) := dk_180 0 183 (dk_at dksX6_readDeed_1 15 rfl rfl)
theorem dX6_readDeed_41 : decode cX6_readDeed 41 = .ok (.bipush 22, 2) := dk_16 22 (dk_at dksX6_readDeed_1 18 rfl rfl)
theorem dX6_readDeed_43 : decode cX6_readDeed 43 = .ok (.bipush 26, 2) := dk_16 26 (dk_at dksX6_readDeed_1 20 rfl rfl)
theorem dX6_readDeed_45 : decode cX6_readDeed 45 = .ok (.invokevirtual 145, 3) := dk_182 0 145 (dk_at dksX6_readDeed_2 0 rfl rfl)
theorem dX6_readDeed_48 : decode cX6_readDeed 48 = .ok (.ifCond .ne 9, 3) := dk_154 0 9 (dk_at dksX6_readDeed_2 3 rfl rfl)
theorem dX6_readDeed_51 : decode cX6_readDeed 51 = .ok (.aload_n 0, 1) := dk_42 (dk_at dksX6_readDeed_2 6 rfl rfl)
theorem dX6_readDeed_52 : decode cX6_readDeed 52 = .ok (.iconst 1, 1) := dk_4 (dk_at dksX6_readDeed_2 7 rfl rfl)
theorem dX6_readDeed_53 : decode cX6_readDeed 53 = .ok (.invokevirtual 211, 3) := dk_182 0 211 (dk_at dksX6_readDeed_2 8 rfl rfl)
theorem dX6_readDeed_56 : decode cX6_readDeed 56 = .ok (.ireturn, 1) := dk_172 (dk_at dksX6_readDeed_2 11 rfl rfl)
theorem dX6_readDeed_57 : decode cX6_readDeed 57 = .ok (.aload_n 0, 1) := dk_42 (dk_at dksX6_readDeed_2 12 rfl rfl)
theorem dX6_readDeed_58 : decode cX6_readDeed 58 = .ok (.getfield 183, 3) := dk_180 0 183 (dk_at dksX6_readDeed_2 13 rfl rfl)
theorem dX6_readDeed_61 : decode cX6_readDeed 61 = .ok (.bipush 22, 2) := dk_16 22 (dk_at dksX6_readDeed_2 16 rfl rfl)
theorem dX6_readDeed_63 : decode cX6_readDeed 63 = .ok (.isub, 1) := dk_100 (dk_at dksX6_readDeed_2 18 rfl rfl)
theorem dX6_readDeed_64 : decode cX6_readDeed 64 = .ok (.istore_n 2, 1) := dk_61 (dk_at dksX6_readDeed_2 19 rfl rfl)
theorem dX6_readDeed_65 : decode cX6_readDeed 65 = .ok (.aload_n 0, 1) := dk_42 (dk_at dksX6_readDeed_2 20 rfl rfl)
theorem dX6_readDeed_66 : decode cX6_readDeed 66 = .ok (.invokevirtual 218, 3) := dk_182 0 218 (dk_at dksX6_readDeed_2 21 rfl rfl)
theorem dX6_readDeed_69 : decode cX6_readDeed 69 = .ok (.aload_n 0, 1) := dk_42 (dk_at dksX6_readDeed_3 0 rfl rfl)
theorem dX6_readDeed_70 : decode cX6_readDeed 70 = .ok (.getfield 65, 3) := dk_180 0 65 (dk_at dksX6_readDeed_3 1 rfl rfl)
theorem dX6_readDeed_73 : decode cX6_readDeed 73 = .ok (.iload_n 1, 1) := dk_27 (dk_at dksX6_readDeed_3 4 rfl rfl)
theorem dX6_readDeed_74 : decode cX6_readDeed 74 = .ok (.iconst 1, 1) := dk_4 (dk_at dksX6_readDeed_3 5 rfl rfl)
theorem dX6_readDeed_75 : decode cX6_readDeed 75 = .ok (.iadd, 1) := dk_96 (dk_at dksX6_readDeed_3 6 rfl rfl)
theorem dX6_readDeed_76 : decode cX6_readDeed 76 = .ok (.iload_n 2, 1) := dk_28 (dk_at dksX6_readDeed_3 7 rfl rfl)
theorem dX6_readDeed_77 : decode cX6_readDeed 77 = .ok (.iastore, 1) := dk_79 (dk_at dksX6_readDeed_3 8 rfl rfl)
theorem dX6_readDeed_78 : decode cX6_readDeed 78 = .ok (.aload_n 0, 1) := dk_42 (dk_at dksX6_readDeed_3 9 rfl rfl)
theorem dX6_readDeed_79 : decode cX6_readDeed 79 = .ok (.getfield 65, 3) := dk_180 0 65 (dk_at dksX6_readDeed_3 10 rfl rfl)
theorem dX6_readDeed_82 : decode cX6_readDeed 82 = .ok (.iload_n 1, 1) := dk_27 (dk_at dksX6_readDeed_3 13 rfl rfl)
theorem dX6_readDeed_83 : decode cX6_readDeed 83 = .ok (.iconst 2, 1) := dk_5 (dk_at dksX6_readDeed_3 14 rfl rfl)
theorem dX6_readDeed_84 : decode cX6_readDeed 84 = .ok (.iadd, 1) := dk_96 (dk_at dksX6_readDeed_3 15 rfl rfl)
theorem dX6_readDeed_85 : decode cX6_readDeed 85 = .ok (.aload_n 0, 1) := dk_42 (dk_at dksX6_readDeed_3 16 rfl rfl)
theorem dX6_readDeed_86 : decode cX6_readDeed 86 = .ok (.iconst 0, 1) := dk_3 (dk_at dksX6_readDeed_3 17 rfl rfl)
theorem dX6_readDeed_87 : decode cX6_readDeed 87 = .ok (.aload_n 0, 1) := dk_42 (dk_at dksX6_readDeed_3 18 rfl rfl)
theorem dX6_readDeed_88 : decode cX6_readDeed 88 = .ok (.getfield 135, 3) := dk_180 0 135 (dk_at dksX6_readDeed_3 19 rfl rfl)
theorem dX6_readDeed_91 : decode cX6_readDeed 91 = .ok (.iconst 1, 1) := dk_4 (dk_at dksX6_readDeed_3 22 rfl rfl)
theorem dX6_readDeed_92 : decode cX6_readDeed 92 = .ok (.isub, 1) := dk_100 (dk_at dksX6_readDeed_3 23 rfl rfl)
theorem dX6_readDeed_93 : decode cX6_readDeed 93 = .ok (.invokevirtual 262, 3) := dk_182 1 6 (dk_at dksX6_readDeed_4 0 rfl rfl)
theorem dX6_readDeed_96 : decode cX6_readDeed 96 = .ok (.iastore, 1) := dk_79 (dk_at dksX6_readDeed_4 3 rfl rfl)
theorem dX6_readDeed_97 : decode cX6_readDeed 97 = .ok (.aload_n 0, 1) := dk_42 (dk_at dksX6_readDeed_4 4 rfl rfl)
theorem dX6_readDeed_98 : decode cX6_readDeed 98 = .ok (.getfield 65, 3) := dk_180 0 65 (dk_at dksX6_readDeed_4 5 rfl rfl)
theorem dX6_readDeed_101 : decode cX6_readDeed 101 = .ok (.iload_n 1, 1) := dk_27 (dk_at dksX6_readDeed_4 8 rfl rfl)
theorem dX6_readDeed_102 : decode cX6_readDeed 102 = .ok (.iconst 2, 1) := dk_5 (dk_at dksX6_readDeed_4 9 rfl rfl)
theorem dX6_readDeed_103 : decode cX6_readDeed 103 = .ok (.iadd, 1) := dk_96 (dk_at dksX6_readDeed_4 10 rfl rfl)
theorem dX6_readDeed_104 : decode cX6_readDeed 104 = .ok (.iaload, 1) := dk_46 (dk_at dksX6_readDeed_4 11 rfl rfl)
theorem dX6_readDeed_105 : decode cX6_readDeed 105 = .ok (.iconst (-1), 1) := dk_2 (dk_at dksX6_readDeed_4 12 rfl rfl)
theorem dX6_readDeed_106 : decode cX6_readDeed 106 = .ok (.if_icmp .ne 5, 3) := dk_160 0 5 (dk_at dksX6_readDeed_4 13 rfl rfl)
theorem dX6_readDeed_109 : decode cX6_readDeed 109 = .ok (.iconst (-1), 1) := dk_2 (dk_at dksX6_readDeed_4 16 rfl rfl)
theorem dX6_readDeed_110 : decode cX6_readDeed 110 = .ok (.ireturn, 1) := dk_172 (dk_at dksX6_readDeed_4 17 rfl rfl)
theorem dX6_readDeed_111 : decode cX6_readDeed 111 = .ok (.aload_n 0, 1) := dk_42 (dk_at dksX6_readDeed_4 18 rfl rfl)
theorem dX6_readDeed_112 : decode cX6_readDeed 112 = .ok (.getfield 65, 3) := dk_180 0 65 (dk_at dksX6_readDeed_4 19 rfl rfl)
theorem dX6_readDeed_115 : decode cX6_readDeed 115 = .ok (.iload_n 1, 1) := dk_27 (dk_at dksX6_readDeed_4 22 rfl rfl)
theorem dX6_readDeed_116 : decode cX6_readDeed 116 = .ok (.iconst 3, 1) := dk_6 (dk_at dksX6_readDeed_4 23 rfl rfl)
theorem dX6_readDeed_117 : decode cX6_readDeed 117 = .ok (.iadd, 1) := dk_96 (dk_at dksX6_readDeed_5 0 rfl rfl)
theorem dX6_readDeed_118 : decode cX6_readDeed 118 = .ok (.iload_n 2, 1) := dk_28 (dk_at dksX6_readDeed_5 1 rfl rfl)
theorem dX6_readDeed_119 : decode cX6_readDeed 119 = .ok (.iconst 4, 1) := dk_7 (dk_at dksX6_readDeed_5 2 rfl rfl)
theorem dX6_readDeed_120 : decode cX6_readDeed 120 = .ok (.if_icmp .ne 12, 3) := dk_160 0 12 (dk_at dksX6_readDeed_5 3 rfl rfl)
theorem dX6_readDeed_123 : decode cX6_readDeed 123 = .ok (.aload_n 0, 1) := dk_42 (dk_at dksX6_readDeed_5 6 rfl rfl)
theorem dX6_readDeed_124 : decode cX6_readDeed 124 = .ok (.iconst 0, 1) := dk_3 (dk_at dksX6_readDeed_5 7 rfl rfl)
theorem dX6_readDeed_125 : decode cX6_readDeed 125 = .ok (.iconst 4, 1) := dk_7 (dk_at dksX6_readDeed_5 8 rfl rfl)
theorem dX6_readDeed_126 : decode cX6_readDeed 126 = .ok (.invokevirtual 262, 3) := dk_182 1 6 (dk_at dksX6_readDeed_5 9 rfl rfl)
theorem dX6_readDeed_129 : decode cX6_readDeed 129 = .ok (.goto 4, 3) := dk_167 0 4 (dk_at dksX6_readDeed_5 12 rfl rfl)
theorem dX6_readDeed_132 : decode cX6_readDeed 132 = .ok (.iconst 0, 1) := dk_3 (dk_at dksX6_readDeed_5 15 rfl rfl)
theorem dX6_readDeed_133 : decode cX6_readDeed 133 = .ok (.iastore, 1) := dk_79 (dk_at dksX6_readDeed_5 16 rfl rfl)
theorem dX6_readDeed_134 : decode cX6_readDeed 134 = .ok (.aload_n 0, 1) := dk_42 (dk_at dksX6_readDeed_5 17 rfl rfl)
theorem dX6_readDeed_135 : decode cX6_readDeed 135 = .ok (.getfield 65, 3) := dk_180 0 65 (dk_at dksX6_readDeed_5 18 rfl rfl)
theorem dX6_readDeed_138 : decode cX6_readDeed 138 = .ok (.iload_n 1, 1) := dk_27 (dk_at dksX6_readDeed_5 21 rfl rfl)
theorem dX6_readDeed_139 : decode cX6_readDeed 139 = .ok (.iconst 3, 1) := dk_6 (dk_at dksX6_readDeed_5 22 rfl rfl)
theorem dX6_readDeed_140 : decode cX6_readDeed 140 = .ok (.iadd, 1) := dk_96 (dk_at dksX6_readDeed_5 23 rfl rfl)
theorem dX6_readDeed_141 : decode cX6_readDeed 141 = .ok (.iaload, 1) := dk_46 (dk_at dksX6_readDeed_6 0 rfl rfl)
theorem dX6_readDeed_142 : decode cX6_readDeed 142 = .ok (.iconst (-1), 1) := dk_2 (dk_at dksX6_readDeed_6 1 rfl rfl)
theorem dX6_readDeed_143 : decode cX6_readDeed 143 = .ok (.if_icmp .ne 5, 3) := dk_160 0 5 (dk_at dksX6_readDeed_6 2 rfl rfl)
theorem dX6_readDeed_146 : decode cX6_readDeed 146 = .ok (.iconst (-1), 1) := dk_2 (dk_at dksX6_readDeed_6 5 rfl rfl)
theorem dX6_readDeed_147 : decode cX6_readDeed 147 = .ok (.ireturn, 1) := dk_172 (dk_at dksX6_readDeed_6 6 rfl rfl)
theorem dX6_readDeed_148 : decode cX6_readDeed 148 = .ok (.aload_n 0, 1) := dk_42 (dk_at dksX6_readDeed_6 7 rfl rfl)
theorem dX6_readDeed_149 : decode cX6_readDeed 149 = .ok (.getfield 65, 3) := dk_180 0 65 (dk_at dksX6_readDeed_6 8 rfl rfl)
theorem dX6_readDeed_152 : decode cX6_readDeed 152 = .ok (.iload_n 1, 1) := dk_27 (dk_at dksX6_readDeed_6 11 rfl rfl)
theorem dX6_readDeed_153 : decode cX6_readDeed 153 = .ok (.iconst 4, 1) := dk_7 (dk_at dksX6_readDeed_6 12 rfl rfl)
theorem dX6_readDeed_154 : decode cX6_readDeed 154 = .ok (.iadd, 1) := dk_96 (dk_at dksX6_readDeed_6 13 rfl rfl)
theorem dX6_readDeed_155 : decode cX6_readDeed 155 = .ok (.iload_n 2, 1) := dk_28 (dk_at dksX6_readDeed_6 14 rfl rfl)
theorem dX6_readDeed_156 : decode cX6_readDeed 156 = .ok (.iconst 3, 1) := dk_6 (dk_at dksX6_readDeed_6 15 rfl rfl)
theorem dX6_readDeed_157 : decode cX6_readDeed 157 = .ok (.if_icmp .ne 14, 3) := dk_160 0 14 (dk_at dksX6_readDeed_6 16 rfl rfl)
theorem dX6_readDeed_160 : decode cX6_readDeed 160 = .ok (.aload_n 0, 1) := dk_42 (dk_at dksX6_readDeed_6 19 rfl rfl)
theorem dX6_readDeed_161 : decode cX6_readDeed 161 = .ok (.iconst 1, 1) := dk_4 (dk_at dksX6_readDeed_6 20 rfl rfl)
theorem dX6_readDeed_162 : decode cX6_readDeed 162 = .ok (.sipush 999, 3) := dk_17 3 231 (dk_at dksX6_readDeed_6 21 rfl rfl)
theorem dX6_readDeed_165 : decode cX6_readDeed 165 = .ok (.invokevirtual 262, 3) := dk_182 1 6 (dk_at dksX6_readDeed_7 0 rfl rfl)
theorem dX6_readDeed_168 : decode cX6_readDeed 168 = .ok (.goto 19, 3) := dk_167 0 19 (dk_at dksX6_readDeed_7 3 rfl rfl)
theorem dX6_readDeed_171 : decode cX6_readDeed 171 = .ok (.iload_n 2, 1) := dk_28 (dk_at dksX6_readDeed_7 6 rfl rfl)
theorem dX6_readDeed_172 : decode cX6_readDeed 172 = .ok (.iconst 4, 1) := dk_7 (dk_at dksX6_readDeed_7 7 rfl rfl)
theorem dX6_readDeed_173 : decode cX6_readDeed 173 = .ok (.if_icmp .ne 13, 3) := dk_160 0 13 (dk_at dksX6_readDeed_7 8 rfl rfl)
theorem dX6_readDeed_176 : decode cX6_readDeed 176 = .ok (.aload_n 0, 1) := dk_42 (dk_at dksX6_readDeed_7 11 rfl rfl)
theorem dX6_readDeed_177 : decode cX6_readDeed 177 = .ok (.iconst 1, 1) := dk_4 (dk_at dksX6_readDeed_7 12 rfl rfl)
theorem dX6_readDeed_178 : decode cX6_readDeed 178 = .ok (.bipush 99, 2) := dk_16 99 (dk_at dksX6_readDeed_7 13 rfl rfl)
theorem dX6_readDeed_180 : decode cX6_readDeed 180 = .ok (.invokevirtual 262, 3) := dk_182 1 6 (dk_at dksX6_readDeed_7 15 rfl rfl)
theorem dX6_readDeed_183 : decode cX6_readDeed 183 = .ok (.goto 4, 3) := dk_167 0 4 (dk_at dksX6_readDeed_7 18 rfl rfl)
theorem dX6_readDeed_186 : decode cX6_readDeed 186 = .ok (.iconst 0, 1) := dk_3 (dk_at dksX6_readDeed_7 21 rfl rfl)
theorem dX6_readDeed_187 : decode cX6_readDeed 187 = .ok (.iastore, 1) := dk_79 (dk_at dksX6_readDeed_7 22 rfl rfl)
theorem dX6_readDeed_188 : decode cX6_readDeed 188 = .ok (.aload_n 0, 1) := dk_42 (dk_at dksX6_readDeed_7 23 rfl rfl)
theorem dX6_readDeed_189 : decode cX6_readDeed 189 = .ok (.getfield 65, 3) := dk_180 0 65 (dk_at dksX6_readDeed_8 0 rfl rfl)
theorem dX6_readDeed_192 : decode cX6_readDeed 192 = .ok (.iload_n 1, 1) := dk_27 (dk_at dksX6_readDeed_8 3 rfl rfl)
theorem dX6_readDeed_193 : decode cX6_readDeed 193 = .ok (.iconst 4, 1) := dk_7 (dk_at dksX6_readDeed_8 4 rfl rfl)
theorem dX6_readDeed_194 : decode cX6_readDeed 194 = .ok (.iadd, 1) := dk_96 (dk_at dksX6_readDeed_8 5 rfl rfl)
theorem dX6_readDeed_195 : decode cX6_readDeed 195 = .ok (.iaload, 1) := dk_46 (dk_at dksX6_readDeed_8 6 rfl rfl)
theorem dX6_readDeed_196 : decode cX6_readDeed 196 = .ok (.iconst (-1), 1) := dk_2 (dk_at dksX6_readDeed_8 7 rfl rfl)
theorem dX6_readDeed_197 : decode cX6_readDeed 197 = .ok (.if_icmp .ne 7, 3) := dk_160 0 7 (dk_at dksX6_readDeed_8 8 rfl rfl)
theorem dX6_readDeed_200 : decode cX6_readDeed 200 = .ok (.iconst (-1), 1) := dk_2 (dk_at dksX6_readDeed_8 11 rfl rfl)
theorem dX6_readDeed_201 : decode cX6_readDeed 201 = .ok (.goto 9, 3) := dk_167 0 9 (dk_at dksX6_readDeed_8 12 rfl rfl)
theorem dX6_readDeed_204 : decode cX6_readDeed 204 = .ok (.aload_n 0, 1) := dk_42 (dk_at dksX6_readDeed_8 15 rfl rfl)
theorem dX6_readDeed_205 : decode cX6_readDeed 205 = .ok (.bipush 59, 2) := dk_16 59 (dk_at dksX6_readDeed_8 16 rfl rfl)
theorem dX6_readDeed_207 : decode cX6_readDeed 207 = .ok (.invokevirtual 268, 3) := dk_182 1 12 (dk_at dksX6_readDeed_8 18 rfl rfl)
theorem dX6_readDeed_210 : decode cX6_readDeed 210 = .ok (.ireturn, 1) := dk_172 (dk_at dksX6_readDeed_8 21 rfl rfl)
abbrev cX6_readKins : ByteArray := prog_22_method_57_code
def yX6_readKins : MethodName := ⟨RX6, "readKins", "()I"⟩
def dkwX6_readKins_3 : List UInt8 := [167, 0, 8, 42, 4, 182, 0, 211, 172]
abbrev dktX6_readKins_3 : List UInt8 := dkwX6_readKins_3 ++ []
def dkwX6_readKins_2 : List UInt8 := [182, 1, 21, 2, 160, 0, 5, 2, 172, 27, 4, 96, 60, 167, 255, 221, 42, 180, 0, 180, 154, 0, 7, 27]
abbrev dktX6_readKins_2 : List UInt8 := dkwX6_readKins_2 ++ dktX6_readKins_3
def dkwX6_readKins_1 : List UInt8 := [3, 60, 42, 16, 19, 182, 0, 240, 153, 0, 32, 27, 16, 16, 160, 0, 9, 42, 6, 182, 0, 211, 172, 42]
abbrev dktX6_readKins_1 : List UInt8 := dkwX6_readKins_1 ++ dktX6_readKins_2
def dkwX6_readKins_0 : List UInt8 := [3, 60, 27, 16, 12, 162, 0, 19, 42, 180, 0, 68, 16, 12, 27, 96, 3, 79, 132, 1, 1, 167, 255, 237]
abbrev dktX6_readKins_0 : List UInt8 := dkwX6_readKins_0 ++ dktX6_readKins_1
theorem dksX6_readKins_0 : cX6_readKins.data.toList.drop 0 = dktX6_readKins_0 := by decide +kernel
theorem dksX6_readKins_1 : cX6_readKins.data.toList.drop 24 = dktX6_readKins_1 := dk_seg dksX6_readKins_0 24 rfl rfl
theorem dksX6_readKins_2 : cX6_readKins.data.toList.drop 48 = dktX6_readKins_2 := dk_seg dksX6_readKins_1 24 rfl rfl
theorem dksX6_readKins_3 : cX6_readKins.data.toList.drop 72 = dktX6_readKins_3 := dk_seg dksX6_readKins_2 24 rfl rfl
theorem dX6_readKins_0 : decode cX6_readKins 0 = .ok (.iconst 0, 1) := dk_3 (dk_at dksX6_readKins_0 0 rfl rfl)
theorem dX6_readKins_1 : decode cX6_readKins 1 = .ok (.istore_n 1, 1) := dk_60 (dk_at dksX6_readKins_0 1 rfl rfl)
theorem dX6_readKins_2 : decode cX6_readKins 2 = .ok (.iload_n 1, 1) := dk_27 (dk_at dksX6_readKins_0 2 rfl rfl)
theorem dX6_readKins_3 : decode cX6_readKins 3 = .ok (.bipush 12, 2) := dk_16 12 (dk_at dksX6_readKins_0 3 rfl rfl)
theorem dX6_readKins_5 : decode cX6_readKins 5 = .ok (.if_icmp .ge 19, 3) := dk_162 0 19 (dk_at dksX6_readKins_0 5 rfl rfl)
theorem dX6_readKins_8 : decode cX6_readKins 8 = .ok (.aload_n 0, 1) := dk_42 (dk_at dksX6_readKins_0 8 rfl rfl)
theorem dX6_readKins_9 : decode cX6_readKins 9 = .ok (.getfield 68, 3) := dk_180 0 68 (dk_at dksX6_readKins_0 9 rfl rfl)
theorem dX6_readKins_12 : decode cX6_readKins 12 = .ok (.bipush 12, 2) := dk_16 12 (dk_at dksX6_readKins_0 12 rfl rfl)
theorem dX6_readKins_14 : decode cX6_readKins 14 = .ok (.iload_n 1, 1) := dk_27 (dk_at dksX6_readKins_0 14 rfl rfl)
theorem dX6_readKins_15 : decode cX6_readKins 15 = .ok (.iadd, 1) := dk_96 (dk_at dksX6_readKins_0 15 rfl rfl)
theorem dX6_readKins_16 : decode cX6_readKins 16 = .ok (.iconst 0, 1) := dk_3 (dk_at dksX6_readKins_0 16 rfl rfl)
theorem dX6_readKins_17 : decode cX6_readKins 17 = .ok (.iastore, 1) := dk_79 (dk_at dksX6_readKins_0 17 rfl rfl)
theorem dX6_readKins_18 : decode cX6_readKins 18 = .ok (.iinc 1 1, 3) := dk_132 1 1 (dk_at dksX6_readKins_0 18 rfl rfl)
theorem dX6_readKins_21 : decode cX6_readKins 21 = .ok (.goto (-19), 3) := dk_167 255 237 (dk_at dksX6_readKins_0 21 rfl rfl)
theorem dX6_readKins_24 : decode cX6_readKins 24 = .ok (.iconst 0, 1) := dk_3 (dk_at dksX6_readKins_1 0 rfl rfl)
theorem dX6_readKins_25 : decode cX6_readKins 25 = .ok (.istore_n 1, 1) := dk_60 (dk_at dksX6_readKins_1 1 rfl rfl)
theorem dX6_readKins_26 : decode cX6_readKins 26 = .ok (.aload_n 0, 1) := dk_42 (dk_at dksX6_readKins_1 2 rfl rfl)
theorem dX6_readKins_27 : decode cX6_readKins 27 = .ok (.bipush 19, 2) := dk_16 19 (dk_at dksX6_readKins_1 3 rfl rfl)
theorem dX6_readKins_29 : decode cX6_readKins 29 = .ok (.invokevirtual 240, 3) := dk_182 0 240 (dk_at dksX6_readKins_1 5 rfl rfl)
theorem dX6_readKins_32 : decode cX6_readKins 32 = .ok (.ifCond .eq 32, 3) := dk_153 0 32 (dk_at dksX6_readKins_1 8 rfl rfl)
theorem dX6_readKins_35 : decode cX6_readKins 35 = .ok (.iload_n 1, 1) := dk_27 (dk_at dksX6_readKins_1 11 rfl rfl)
theorem dX6_readKins_36 : decode cX6_readKins 36 = .ok (.bipush 16, 2) := dk_16 16 (dk_at dksX6_readKins_1 12 rfl rfl)
theorem dX6_readKins_38 : decode cX6_readKins 38 = .ok (.if_icmp .ne 9, 3) := dk_160 0 9 (dk_at dksX6_readKins_1 14 rfl rfl)
theorem dX6_readKins_41 : decode cX6_readKins 41 = .ok (.aload_n 0, 1) := dk_42 (dk_at dksX6_readKins_1 17 rfl rfl)
theorem dX6_readKins_42 : decode cX6_readKins 42 = .ok (.iconst 3, 1) := dk_6 (dk_at dksX6_readKins_1 18 rfl rfl)
theorem dX6_readKins_43 : decode cX6_readKins 43 = .ok (.invokevirtual 211, 3) := dk_182 0 211 (dk_at dksX6_readKins_1 19 rfl rfl)
theorem dX6_readKins_46 : decode cX6_readKins 46 = .ok (.ireturn, 1) := dk_172 (dk_at dksX6_readKins_1 22 rfl rfl)
theorem dX6_readKins_47 : decode cX6_readKins 47 = .ok (.aload_n 0, 1) := dk_42 (dk_at dksX6_readKins_1 23 rfl rfl)
theorem dX6_readKins_48 : decode cX6_readKins 48 = .ok (.invokevirtual 277, 3) := dk_182 1 21 (dk_at dksX6_readKins_2 0 rfl rfl)
theorem dX6_readKins_51 : decode cX6_readKins 51 = .ok (.iconst (-1), 1) := dk_2 (dk_at dksX6_readKins_2 3 rfl rfl)
theorem dX6_readKins_52 : decode cX6_readKins 52 = .ok (.if_icmp .ne 5, 3) := dk_160 0 5 (dk_at dksX6_readKins_2 4 rfl rfl)
theorem dX6_readKins_55 : decode cX6_readKins 55 = .ok (.iconst (-1), 1) := dk_2 (dk_at dksX6_readKins_2 7 rfl rfl)
theorem dX6_readKins_56 : decode cX6_readKins 56 = .ok (.ireturn, 1) := dk_172 (dk_at dksX6_readKins_2 8 rfl rfl)
theorem dX6_readKins_57 : decode cX6_readKins 57 = .ok (.iload_n 1, 1) := dk_27 (dk_at dksX6_readKins_2 9 rfl rfl)
theorem dX6_readKins_58 : decode cX6_readKins 58 = .ok (.iconst 1, 1) := dk_4 (dk_at dksX6_readKins_2 10 rfl rfl)
theorem dX6_readKins_59 : decode cX6_readKins 59 = .ok (.iadd, 1) := dk_96 (dk_at dksX6_readKins_2 11 rfl rfl)
theorem dX6_readKins_60 : decode cX6_readKins 60 = .ok (.istore_n 1, 1) := dk_60 (dk_at dksX6_readKins_2 12 rfl rfl)
theorem dX6_readKins_61 : decode cX6_readKins 61 = .ok (.goto (-35), 3) := dk_167 255 221 (dk_at dksX6_readKins_2 13 rfl rfl)
theorem dX6_readKins_64 : decode cX6_readKins 64 = .ok (.aload_n 0, 1) := dk_42 (dk_at dksX6_readKins_2 16 rfl rfl)
theorem dX6_readKins_65 : decode cX6_readKins 65 = .ok (.getfield 180, 3) := dk_180 0 180 (dk_at dksX6_readKins_2 17 rfl rfl)
theorem dX6_readKins_68 : decode cX6_readKins 68 = .ok (.ifCond .ne 7, 3) := dk_154 0 7 (dk_at dksX6_readKins_2 20 rfl rfl)
theorem dX6_readKins_71 : decode cX6_readKins 71 = .ok (.iload_n 1, 1) := dk_27 (dk_at dksX6_readKins_2 23 rfl rfl)
theorem dX6_readKins_72 : decode cX6_readKins 72 = .ok (.goto 8, 3) := dk_167 0 8 (dk_at dksX6_readKins_3 0 rfl rfl)
theorem dX6_readKins_75 : decode cX6_readKins 75 = .ok (.aload_n 0, 1) := dk_42 (dk_at dksX6_readKins_3 3 rfl rfl)
theorem dX6_readKins_76 : decode cX6_readKins 76 = .ok (.iconst 1, 1) := dk_4 (dk_at dksX6_readKins_3 4 rfl rfl)
theorem dX6_readKins_77 : decode cX6_readKins 77 = .ok (.invokevirtual 211, 3) := dk_182 0 211 (dk_at dksX6_readKins_3 5 rfl rfl)
theorem dX6_readKins_80 : decode cX6_readKins 80 = .ok (.ireturn, 1) := dk_172 (dk_at dksX6_readKins_3 8 rfl rfl)
abbrev cX6_readKin : ByteArray := prog_22_method_56_code
def yX6_readKin : MethodName := ⟨RX6, "readKin", "()I"⟩
def dkwX6_readKin_5 : List UInt8 := [28, 96, 46, 4, 27, 120, 128, 79, 42, 16, 59, 182, 1, 12, 172]
abbrev dktX6_readKin_5 : List UInt8 := dkwX6_readKin_5 ++ []
def dkwX6_readKin_4 : List UInt8 := [16, 12, 27, 96, 46, 4, 28, 120, 128, 79, 42, 180, 0, 68, 16, 12, 28, 96, 42, 180, 0, 68, 16, 12]
abbrev dktX6_readKin_4 : List UInt8 := dkwX6_readKin_4 ++ dktX6_readKin_5
def dkwX6_readKin_3 : List UInt8 := [182, 1, 6, 61, 28, 2, 160, 0, 5, 2, 172, 42, 180, 0, 68, 16, 12, 27, 96, 42, 180, 0, 68]
abbrev dktX6_readKin_3 : List UInt8 := dkwX6_readKin_3 ++ dktX6_readKin_4
def dkwX6_readKin_2 : List UInt8 := [42, 180, 0, 183, 27, 160, 0, 9, 42, 5, 182, 0, 211, 172, 42, 3, 42, 180, 0, 135, 4, 100]
abbrev dktX6_readKin_2 : List UInt8 := dkwX6_readKin_2 ++ dktX6_readKin_3
def dkwX6_readKin_1 : List UInt8 := [182, 0, 240, 154, 0, 9, 42, 4, 182, 0, 211, 172, 42, 182, 0, 218, 42, 180, 0, 180, 6, 160, 0, 17]
abbrev dktX6_readKin_1 : List UInt8 := dkwX6_readKin_1 ++ dktX6_readKin_2
def dkwX6_readKin_0 : List UInt8 := [42, 16, 19, 3, 42, 180, 0, 135, 4, 100, 182, 1, 9, 60, 27, 2, 160, 0, 5, 2, 172, 42, 16, 16]
abbrev dktX6_readKin_0 : List UInt8 := dkwX6_readKin_0 ++ dktX6_readKin_1
theorem dksX6_readKin_0 : cX6_readKin.data.toList.drop 0 = dktX6_readKin_0 := by decide +kernel
theorem dksX6_readKin_1 : cX6_readKin.data.toList.drop 24 = dktX6_readKin_1 := dk_seg dksX6_readKin_0 24 rfl rfl
theorem dksX6_readKin_2 : cX6_readKin.data.toList.drop 48 = dktX6_readKin_2 := dk_seg dksX6_readKin_1 24 rfl rfl
theorem dksX6_readKin_3 : cX6_readKin.data.toList.drop 70 = dktX6_readKin_3 := dk_seg dksX6_readKin_2 22 rfl rfl
theorem dksX6_readKin_4 : cX6_readKin.data.toList.drop 93 = dktX6_readKin_4 := dk_seg dksX6_readKin_3 23 rfl rfl
theorem dksX6_readKin_5 : cX6_readKin.data.toList.drop 117 = dktX6_readKin_5 := dk_seg dksX6_readKin_4 24 rfl rfl
theorem dX6_readKin_0 : decode cX6_readKin 0 = .ok (.aload_n 0, 1) := dk_42 (dk_at dksX6_readKin_0 0 rfl rfl)
theorem dX6_readKin_1 : decode cX6_readKin 1 = .ok (.bipush 19, 2) := dk_16 19 (dk_at dksX6_readKin_0 1 rfl rfl)
theorem dX6_readKin_3 : decode cX6_readKin 3 = .ok (.iconst 0, 1) := dk_3 (dk_at dksX6_readKin_0 3 rfl rfl)
theorem dX6_readKin_4 : decode cX6_readKin 4 = .ok (.aload_n 0, 1) := dk_42 (dk_at dksX6_readKin_0 4 rfl rfl)
theorem dX6_readKin_5 : decode cX6_readKin 5 = .ok (.getfield 135, 3) := dk_180 0 135 (dk_at dksX6_readKin_0 5 rfl rfl)
theorem dX6_readKin_8 : decode cX6_readKin 8 = .ok (.iconst 1, 1) := dk_4 (dk_at dksX6_readKin_0 8 rfl rfl)
theorem dX6_readKin_9 : decode cX6_readKin 9 = .ok (.isub, 1) := dk_100 (dk_at dksX6_readKin_0 9 rfl rfl)
theorem dX6_readKin_10 : decode cX6_readKin 10 = .ok (.invokevirtual 265, 3) := dk_182 1 9 (dk_at dksX6_readKin_0 10 rfl rfl)
theorem dX6_readKin_13 : decode cX6_readKin 13 = .ok (.istore_n 1, 1) := dk_60 (dk_at dksX6_readKin_0 13 rfl rfl)
theorem dX6_readKin_14 : decode cX6_readKin 14 = .ok (.iload_n 1, 1) := dk_27 (dk_at dksX6_readKin_0 14 rfl rfl)
theorem dX6_readKin_15 : decode cX6_readKin 15 = .ok (.iconst (-1), 1) := dk_2 (dk_at dksX6_readKin_0 15 rfl rfl)
theorem dX6_readKin_16 : decode cX6_readKin 16 = .ok (.if_icmp .ne 5, 3) := dk_160 0 5 (dk_at dksX6_readKin_0 16 rfl rfl)
theorem dX6_readKin_19 : decode cX6_readKin 19 = .ok (.iconst (-1), 1) := dk_2 (dk_at dksX6_readKin_0 19 rfl rfl)
theorem dX6_readKin_20 : decode cX6_readKin 20 = .ok (.ireturn, 1) := dk_172 (dk_at dksX6_readKin_0 20 rfl rfl)
theorem dX6_readKin_21 : decode cX6_readKin 21 = .ok (.aload_n 0, 1) := dk_42 (dk_at dksX6_readKin_0 21 rfl rfl)
theorem dX6_readKin_22 : decode cX6_readKin 22 = .ok (.bipush 16, 2) := dk_16 16 (dk_at dksX6_readKin_0 22 rfl rfl)
theorem dX6_readKin_24 : decode cX6_readKin 24 = .ok (.invokevirtual 240, 3) := dk_182 0 240 (dk_at dksX6_readKin_1 0 rfl rfl)
theorem dX6_readKin_27 : decode cX6_readKin 27 = .ok (.ifCond .ne 9, 3) := dk_154 0 9 (dk_at dksX6_readKin_1 3 rfl rfl)
theorem dX6_readKin_30 : decode cX6_readKin 30 = .ok (.aload_n 0, 1) := dk_42 (dk_at dksX6_readKin_1 6 rfl rfl)
theorem dX6_readKin_31 : decode cX6_readKin 31 = .ok (.iconst 1, 1) := dk_4 (dk_at dksX6_readKin_1 7 rfl rfl)
theorem dX6_readKin_32 : decode cX6_readKin 32 = .ok (.invokevirtual 211, 3) := dk_182 0 211 (dk_at dksX6_readKin_1 8 rfl rfl)
theorem dX6_readKin_35 : decode cX6_readKin 35 = .ok (.ireturn, 1) := dk_172 (dk_at dksX6_readKin_1 11 rfl rfl)
theorem dX6_readKin_36 : decode cX6_readKin 36 = .ok (.aload_n 0, 1) := dk_42 (dk_at dksX6_readKin_1 12 rfl rfl)
theorem dX6_readKin_37 : decode cX6_readKin 37 = .ok (.invokevirtual 218, 3) := dk_182 0 218 (dk_at dksX6_readKin_1 13 rfl rfl)
theorem dX6_readKin_40 : decode cX6_readKin 40 = .ok (.aload_n 0, 1) := dk_42 (dk_at dksX6_readKin_1 16 rfl rfl)
theorem dX6_readKin_41 : decode cX6_readKin 41 = .ok (.getfield 180, 3) := dk_180 0 180 (dk_at dksX6_readKin_1 17 rfl rfl)
theorem dX6_readKin_44 : decode cX6_readKin 44 = .ok (.iconst 3, 1) := dk_6 (dk_at dksX6_readKin_1 20 rfl rfl)
theorem dX6_readKin_45 : decode cX6_readKin 45 = .ok (.if_icmp .ne 17, 3) := dk_160 0 17 (dk_at dksX6_readKin_1 21 rfl rfl)
theorem dX6_readKin_48 : decode cX6_readKin 48 = .ok (.aload_n 0, 1) := dk_42 (dk_at dksX6_readKin_2 0 rfl rfl)
theorem dX6_readKin_49 : decode cX6_readKin 49 = .ok (.getfield 183, 3) := dk_180 0 183 (dk_at dksX6_readKin_2 1 rfl rfl)
theorem dX6_readKin_52 : decode cX6_readKin 52 = .ok (.iload_n 1, 1) := dk_27 (dk_at dksX6_readKin_2 4 rfl rfl)
theorem dX6_readKin_53 : decode cX6_readKin 53 = .ok (.if_icmp .ne 9, 3) := dk_160 0 9 (dk_at dksX6_readKin_2 5 rfl rfl)
theorem dX6_readKin_56 : decode cX6_readKin 56 = .ok (.aload_n 0, 1) := dk_42 (dk_at dksX6_readKin_2 8 rfl rfl)
theorem dX6_readKin_57 : decode cX6_readKin 57 = .ok (.iconst 2, 1) := dk_5 (dk_at dksX6_readKin_2 9 rfl rfl)
theorem dX6_readKin_58 : decode cX6_readKin 58 = .ok (.invokevirtual 211, 3) := dk_182 0 211 (dk_at dksX6_readKin_2 10 rfl rfl)
theorem dX6_readKin_61 : decode cX6_readKin 61 = .ok (.ireturn, 1) := dk_172 (dk_at dksX6_readKin_2 13 rfl rfl)
theorem dX6_readKin_62 : decode cX6_readKin 62 = .ok (.aload_n 0, 1) := dk_42 (dk_at dksX6_readKin_2 14 rfl rfl)
theorem dX6_readKin_63 : decode cX6_readKin 63 = .ok (.iconst 0, 1) := dk_3 (dk_at dksX6_readKin_2 15 rfl rfl)
theorem dX6_readKin_64 : decode cX6_readKin 64 = .ok (.aload_n 0, 1) := dk_42 (dk_at dksX6_readKin_2 16 rfl rfl)
theorem dX6_readKin_65 : decode cX6_readKin 65 = .ok (.getfield 135, 3) := dk_180 0 135 (dk_at dksX6_readKin_2 17 rfl rfl)
theorem dX6_readKin_68 : decode cX6_readKin 68 = .ok (.iconst 1, 1) := dk_4 (dk_at dksX6_readKin_2 20 rfl rfl)
theorem dX6_readKin_69 : decode cX6_readKin 69 = .ok (.isub, 1) := dk_100 (dk_at dksX6_readKin_2 21 rfl rfl)
theorem dX6_readKin_70 : decode cX6_readKin 70 = .ok (.invokevirtual 262, 3) := dk_182 1 6 (dk_at dksX6_readKin_3 0 rfl rfl)
theorem dX6_readKin_73 : decode cX6_readKin 73 = .ok (.istore_n 2, 1) := dk_61 (dk_at dksX6_readKin_3 3 rfl rfl)
theorem dX6_readKin_74 : decode cX6_readKin 74 = .ok (.iload_n 2, 1) := dk_28 (dk_at dksX6_readKin_3 4 rfl rfl)
theorem dX6_readKin_75 : decode cX6_readKin 75 = .ok (.iconst (-1), 1) := dk_2 (dk_at dksX6_readKin_3 5 rfl rfl)
theorem dX6_readKin_76 : decode cX6_readKin 76 = .ok (.if_icmp .ne 5, 3) := dk_160 0 5 (dk_at dksX6_readKin_3 6 rfl rfl)
theorem dX6_readKin_79 : decode cX6_readKin 79 = .ok (.iconst (-1), 1) := dk_2 (dk_at dksX6_readKin_3 9 rfl rfl)
theorem dX6_readKin_80 : decode cX6_readKin 80 = .ok (.ireturn, 1) := dk_172 (dk_at dksX6_readKin_3 10 rfl rfl)
theorem dX6_readKin_81 : decode cX6_readKin 81 = .ok (.aload_n 0, 1) := dk_42 (dk_at dksX6_readKin_3 11 rfl rfl)
theorem dX6_readKin_82 : decode cX6_readKin 82 = .ok (.getfield 68, 3) := dk_180 0 68 (dk_at dksX6_readKin_3 12 rfl rfl)
theorem dX6_readKin_85 : decode cX6_readKin 85 = .ok (.bipush 12, 2) := dk_16 12 (dk_at dksX6_readKin_3 15 rfl rfl)
theorem dX6_readKin_87 : decode cX6_readKin 87 = .ok (.iload_n 1, 1) := dk_27 (dk_at dksX6_readKin_3 17 rfl rfl)
theorem dX6_readKin_88 : decode cX6_readKin 88 = .ok (.iadd, 1) := dk_96 (dk_at dksX6_readKin_3 18 rfl rfl)
theorem dX6_readKin_89 : decode cX6_readKin 89 = .ok (.aload_n 0, 1) := dk_42 (dk_at dksX6_readKin_3 19 rfl rfl)
theorem dX6_readKin_90 : decode cX6_readKin 90 = .ok (.getfield 68, 3) := dk_180 0 68 (dk_at dksX6_readKin_3 20 rfl rfl)
theorem dX6_readKin_93 : decode cX6_readKin 93 = .ok (.bipush 12, 2) := dk_16 12 (dk_at dksX6_readKin_4 0 rfl rfl)
theorem dX6_readKin_95 : decode cX6_readKin 95 = .ok (.iload_n 1, 1) := dk_27 (dk_at dksX6_readKin_4 2 rfl rfl)
theorem dX6_readKin_96 : decode cX6_readKin 96 = .ok (.iadd, 1) := dk_96 (dk_at dksX6_readKin_4 3 rfl rfl)
theorem dX6_readKin_97 : decode cX6_readKin 97 = .ok (.iaload, 1) := dk_46 (dk_at dksX6_readKin_4 4 rfl rfl)
theorem dX6_readKin_98 : decode cX6_readKin 98 = .ok (.iconst 1, 1) := dk_4 (dk_at dksX6_readKin_4 5 rfl rfl)
theorem dX6_readKin_99 : decode cX6_readKin 99 = .ok (.iload_n 2, 1) := dk_28 (dk_at dksX6_readKin_4 6 rfl rfl)
theorem dX6_readKin_100 : decode cX6_readKin 100 = .ok (.ishl, 1) := dk_120 (dk_at dksX6_readKin_4 7 rfl rfl)
theorem dX6_readKin_101 : decode cX6_readKin 101 = .ok (.ior, 1) := dk_128 (dk_at dksX6_readKin_4 8 rfl rfl)
theorem dX6_readKin_102 : decode cX6_readKin 102 = .ok (.iastore, 1) := dk_79 (dk_at dksX6_readKin_4 9 rfl rfl)
theorem dX6_readKin_103 : decode cX6_readKin 103 = .ok (.aload_n 0, 1) := dk_42 (dk_at dksX6_readKin_4 10 rfl rfl)
theorem dX6_readKin_104 : decode cX6_readKin 104 = .ok (.getfield 68, 3) := dk_180 0 68 (dk_at dksX6_readKin_4 11 rfl rfl)
theorem dX6_readKin_107 : decode cX6_readKin 107 = .ok (.bipush 12, 2) := dk_16 12 (dk_at dksX6_readKin_4 14 rfl rfl)
theorem dX6_readKin_109 : decode cX6_readKin 109 = .ok (.iload_n 2, 1) := dk_28 (dk_at dksX6_readKin_4 16 rfl rfl)
theorem dX6_readKin_110 : decode cX6_readKin 110 = .ok (.iadd, 1) := dk_96 (dk_at dksX6_readKin_4 17 rfl rfl)
theorem dX6_readKin_111 : decode cX6_readKin 111 = .ok (.aload_n 0, 1) := dk_42 (dk_at dksX6_readKin_4 18 rfl rfl)
theorem dX6_readKin_112 : decode cX6_readKin 112 = .ok (.getfield 68, 3) := dk_180 0 68 (dk_at dksX6_readKin_4 19 rfl rfl)
theorem dX6_readKin_115 : decode cX6_readKin 115 = .ok (.bipush 12, 2) := dk_16 12 (dk_at dksX6_readKin_4 22 rfl rfl)
theorem dX6_readKin_117 : decode cX6_readKin 117 = .ok (.iload_n 2, 1) := dk_28 (dk_at dksX6_readKin_5 0 rfl rfl)
theorem dX6_readKin_118 : decode cX6_readKin 118 = .ok (.iadd, 1) := dk_96 (dk_at dksX6_readKin_5 1 rfl rfl)
theorem dX6_readKin_119 : decode cX6_readKin 119 = .ok (.iaload, 1) := dk_46 (dk_at dksX6_readKin_5 2 rfl rfl)
theorem dX6_readKin_120 : decode cX6_readKin 120 = .ok (.iconst 1, 1) := dk_4 (dk_at dksX6_readKin_5 3 rfl rfl)
theorem dX6_readKin_121 : decode cX6_readKin 121 = .ok (.iload_n 1, 1) := dk_27 (dk_at dksX6_readKin_5 4 rfl rfl)
theorem dX6_readKin_122 : decode cX6_readKin 122 = .ok (.ishl, 1) := dk_120 (dk_at dksX6_readKin_5 5 rfl rfl)
theorem dX6_readKin_123 : decode cX6_readKin 123 = .ok (.ior, 1) := dk_128 (dk_at dksX6_readKin_5 6 rfl rfl)
theorem dX6_readKin_124 : decode cX6_readKin 124 = .ok (.iastore, 1) := dk_79 (dk_at dksX6_readKin_5 7 rfl rfl)
theorem dX6_readKin_125 : decode cX6_readKin 125 = .ok (.aload_n 0, 1) := dk_42 (dk_at dksX6_readKin_5 8 rfl rfl)
theorem dX6_readKin_126 : decode cX6_readKin 126 = .ok (.bipush 59, 2) := dk_16 59 (dk_at dksX6_readKin_5 9 rfl rfl)
theorem dX6_readKin_128 : decode cX6_readKin 128 = .ok (.invokevirtual 268, 3) := dk_182 1 12 (dk_at dksX6_readKin_5 11 rfl rfl)
theorem dX6_readKin_131 : decode cX6_readKin 131 = .ok (.ireturn, 1) := dk_172 (dk_at dksX6_readKin_5 14 rfl rfl)
abbrev cX6_readLaw : ByteArray := prog_22_method_47_code
def yX6_readLaw : MethodName := ⟨RX6, "readLaw", "()I"⟩
def dkwX6_readLaw_6 : List UInt8 := [182, 0, 211, 172]
abbrev dktX6_readLaw_6 : List UInt8 := dkwX6_readLaw_6 ++ []
def dkwX6_readLaw_5 : List UInt8 := [42, 182, 0, 218, 27, 4, 96, 60, 167, 255, 133, 42, 180, 0, 180, 154, 0, 7, 27, 167, 0, 8, 42, 4]
abbrev dktX6_readLaw_5 : List UInt8 := dkwX6_readLaw_5 ++ dktX6_readLaw_6
def dkwX6_readLaw_4 : List UInt8 := [180, 0, 46, 28, 42, 180, 0, 205, 79, 42, 16, 59, 182, 0, 225, 154, 0, 9, 42, 4, 182, 0, 211, 172]
abbrev dktX6_readLaw_4 : List UInt8 := dkwX6_readLaw_4 ++ dktX6_readLaw_5
def dkwX6_readLaw_3 : List UInt8 := [42, 6, 182, 0, 240, 153, 0, 17, 42, 182, 0, 218, 42, 182, 1, 0, 2, 160, 0, 5, 2, 172, 42]
abbrev dktX6_readLaw_3 : List UInt8 := dkwX6_readLaw_3 ++ dktX6_readLaw_4
def dkwX6_readLaw_2 : List UInt8 := [180, 0, 205, 79, 42, 182, 0, 231, 2, 160, 0, 5, 2, 172, 42, 180, 0, 43, 28, 42, 180, 0, 205, 79]
abbrev dktX6_readLaw_2 : List UInt8 := dkwX6_readLaw_2 ++ dktX6_readLaw_3
def dkwX6_readLaw_1 : List UInt8 := [96, 61, 42, 180, 0, 37, 28, 42, 180, 0, 183, 79, 42, 182, 0, 218, 42, 180, 0, 40, 28, 42]
abbrev dktX6_readLaw_1 : List UInt8 := dkwX6_readLaw_1 ++ dktX6_readLaw_2
def dkwX6_readLaw_0 : List UInt8 := [3, 60, 42, 182, 0, 252, 153, 0, 122, 27, 16, 16, 160, 0, 9, 42, 6, 182, 0, 211, 172, 16, 32, 27]
abbrev dktX6_readLaw_0 : List UInt8 := dkwX6_readLaw_0 ++ dktX6_readLaw_1
theorem dksX6_readLaw_0 : cX6_readLaw.data.toList.drop 0 = dktX6_readLaw_0 := by decide +kernel
theorem dksX6_readLaw_1 : cX6_readLaw.data.toList.drop 24 = dktX6_readLaw_1 := dk_seg dksX6_readLaw_0 24 rfl rfl
theorem dksX6_readLaw_2 : cX6_readLaw.data.toList.drop 46 = dktX6_readLaw_2 := dk_seg dksX6_readLaw_1 22 rfl rfl
theorem dksX6_readLaw_3 : cX6_readLaw.data.toList.drop 70 = dktX6_readLaw_3 := dk_seg dksX6_readLaw_2 24 rfl rfl
theorem dksX6_readLaw_4 : cX6_readLaw.data.toList.drop 93 = dktX6_readLaw_4 := dk_seg dksX6_readLaw_3 23 rfl rfl
theorem dksX6_readLaw_5 : cX6_readLaw.data.toList.drop 117 = dktX6_readLaw_5 := dk_seg dksX6_readLaw_4 24 rfl rfl
theorem dksX6_readLaw_6 : cX6_readLaw.data.toList.drop 141 = dktX6_readLaw_6 := dk_seg dksX6_readLaw_5 24 rfl rfl
theorem dX6_readLaw_0 : decode cX6_readLaw 0 = .ok (.iconst 0, 1) := dk_3 (dk_at dksX6_readLaw_0 0 rfl rfl)
theorem dX6_readLaw_1 : decode cX6_readLaw 1 = .ok (.istore_n 1, 1) := dk_60 (dk_at dksX6_readLaw_0 1 rfl rfl)
theorem dX6_readLaw_2 : decode cX6_readLaw 2 = .ok (.aload_n 0, 1) := dk_42 (dk_at dksX6_readLaw_0 2 rfl rfl)
theorem dX6_readLaw_3 : decode cX6_readLaw 3 = .ok (.invokevirtual 252, 3) := dk_182 0 252 (dk_at dksX6_readLaw_0 3 rfl rfl)
theorem dX6_readLaw_6 : decode cX6_readLaw 6 = .ok (.ifCond .eq 122, 3) := dk_153 0 122 (dk_at dksX6_readLaw_0 6 rfl rfl)
theorem dX6_readLaw_9 : decode cX6_readLaw 9 = .ok (.iload_n 1, 1) := dk_27 (dk_at dksX6_readLaw_0 9 rfl rfl)
theorem dX6_readLaw_10 : decode cX6_readLaw 10 = .ok (.bipush 16, 2) := dk_16 16 (dk_at dksX6_readLaw_0 10 rfl rfl)
theorem dX6_readLaw_12 : decode cX6_readLaw 12 = .ok (.if_icmp .ne 9, 3) := dk_160 0 9 (dk_at dksX6_readLaw_0 12 rfl rfl)
theorem dX6_readLaw_15 : decode cX6_readLaw 15 = .ok (.aload_n 0, 1) := dk_42 (dk_at dksX6_readLaw_0 15 rfl rfl)
theorem dX6_readLaw_16 : decode cX6_readLaw 16 = .ok (.iconst 3, 1) := dk_6 (dk_at dksX6_readLaw_0 16 rfl rfl)
theorem dX6_readLaw_17 : decode cX6_readLaw 17 = .ok (.invokevirtual 211, 3) := dk_182 0 211 (dk_at dksX6_readLaw_0 17 rfl rfl)
theorem dX6_readLaw_20 : decode cX6_readLaw 20 = .ok (.ireturn, 1) := dk_172 (dk_at dksX6_readLaw_0 20 rfl rfl)
theorem dX6_readLaw_21 : decode cX6_readLaw 21 = .ok (.bipush 32, 2) := dk_16 32 (dk_at dksX6_readLaw_0 21 rfl rfl)
theorem dX6_readLaw_23 : decode cX6_readLaw 23 = .ok (.iload_n 1, 1) := dk_27 (dk_at dksX6_readLaw_0 23 rfl rfl)
theorem dX6_readLaw_24 : decode cX6_readLaw 24 = .ok (.iadd, 1) := dk_96 (dk_at dksX6_readLaw_1 0 rfl rfl)
theorem dX6_readLaw_25 : decode cX6_readLaw 25 = .ok (.istore_n 2, 1) := dk_61 (dk_at dksX6_readLaw_1 1 rfl rfl)
theorem dX6_readLaw_26 : decode cX6_readLaw 26 = .ok (.aload_n 0, 1) := dk_42 (dk_at dksX6_readLaw_1 2 rfl rfl)
theorem dX6_readLaw_27 : decode cX6_readLaw 27 = .ok (.getfield 37, 3) := dk_180 0 37 (dk_at dksX6_readLaw_1 3 rfl rfl)
theorem dX6_readLaw_30 : decode cX6_readLaw 30 = .ok (.iload_n 2, 1) := dk_28 (dk_at dksX6_readLaw_1 6 rfl rfl)
theorem dX6_readLaw_31 : decode cX6_readLaw 31 = .ok (.aload_n 0, 1) := dk_42 (dk_at dksX6_readLaw_1 7 rfl rfl)
theorem dX6_readLaw_32 : decode cX6_readLaw 32 = .ok (.getfield 183, 3) := dk_180 0 183 (dk_at dksX6_readLaw_1 8 rfl rfl)
theorem dX6_readLaw_35 : decode cX6_readLaw 35 = .ok (.iastore, 1) := dk_79 (dk_at dksX6_readLaw_1 11 rfl rfl)
theorem dX6_readLaw_36 : decode cX6_readLaw 36 = .ok (.aload_n 0, 1) := dk_42 (dk_at dksX6_readLaw_1 12 rfl rfl)
theorem dX6_readLaw_37 : decode cX6_readLaw 37 = .ok (.invokevirtual 218, 3) := dk_182 0 218 (dk_at dksX6_readLaw_1 13 rfl rfl)
theorem dX6_readLaw_40 : decode cX6_readLaw 40 = .ok (.aload_n 0, 1) := dk_42 (dk_at dksX6_readLaw_1 16 rfl rfl)
theorem dX6_readLaw_41 : decode cX6_readLaw 41 = .ok (.getfield 40, 3) := dk_180 0 40 (dk_at dksX6_readLaw_1 17 rfl rfl)
theorem dX6_readLaw_44 : decode cX6_readLaw 44 = .ok (.iload_n 2, 1) := dk_28 (dk_at dksX6_readLaw_1 20 rfl rfl)
theorem dX6_readLaw_45 : decode cX6_readLaw 45 = .ok (.aload_n 0, 1) := dk_42 (dk_at dksX6_readLaw_1 21 rfl rfl)
theorem dX6_readLaw_46 : decode cX6_readLaw 46 = .ok (.getfield 205, 3) := dk_180 0 205 (dk_at dksX6_readLaw_2 0 rfl rfl)
theorem dX6_readLaw_49 : decode cX6_readLaw 49 = .ok (.iastore, 1) := dk_79 (dk_at dksX6_readLaw_2 3 rfl rfl)
theorem dX6_readLaw_50 : decode cX6_readLaw 50 = .ok (.aload_n 0, 1) := dk_42 (dk_at dksX6_readLaw_2 4 rfl rfl)
theorem dX6_readLaw_51 : decode cX6_readLaw 51 = .ok (.invokevirtual 231, 3) := dk_182 0 231 (dk_at dksX6_readLaw_2 5 rfl rfl)
theorem dX6_readLaw_54 : decode cX6_readLaw 54 = .ok (.iconst (-1), 1) := dk_2 (dk_at dksX6_readLaw_2 8 rfl rfl)
theorem dX6_readLaw_55 : decode cX6_readLaw 55 = .ok (.if_icmp .ne 5, 3) := dk_160 0 5 (dk_at dksX6_readLaw_2 9 rfl rfl)
theorem dX6_readLaw_58 : decode cX6_readLaw 58 = .ok (.iconst (-1), 1) := dk_2 (dk_at dksX6_readLaw_2 12 rfl rfl)
theorem dX6_readLaw_59 : decode cX6_readLaw 59 = .ok (.ireturn, 1) := dk_172 (dk_at dksX6_readLaw_2 13 rfl rfl)
theorem dX6_readLaw_60 : decode cX6_readLaw 60 = .ok (.aload_n 0, 1) := dk_42 (dk_at dksX6_readLaw_2 14 rfl rfl)
theorem dX6_readLaw_61 : decode cX6_readLaw 61 = .ok (.getfield 43, 3) := dk_180 0 43 (dk_at dksX6_readLaw_2 15 rfl rfl)
theorem dX6_readLaw_64 : decode cX6_readLaw 64 = .ok (.iload_n 2, 1) := dk_28 (dk_at dksX6_readLaw_2 18 rfl rfl)
theorem dX6_readLaw_65 : decode cX6_readLaw 65 = .ok (.aload_n 0, 1) := dk_42 (dk_at dksX6_readLaw_2 19 rfl rfl)
theorem dX6_readLaw_66 : decode cX6_readLaw 66 = .ok (.getfield 205, 3) := dk_180 0 205 (dk_at dksX6_readLaw_2 20 rfl rfl)
theorem dX6_readLaw_69 : decode cX6_readLaw 69 = .ok (.iastore, 1) := dk_79 (dk_at dksX6_readLaw_2 23 rfl rfl)
theorem dX6_readLaw_70 : decode cX6_readLaw 70 = .ok (.aload_n 0, 1) := dk_42 (dk_at dksX6_readLaw_3 0 rfl rfl)
theorem dX6_readLaw_71 : decode cX6_readLaw 71 = .ok (.iconst 3, 1) := dk_6 (dk_at dksX6_readLaw_3 1 rfl rfl)
theorem dX6_readLaw_72 : decode cX6_readLaw 72 = .ok (.invokevirtual 240, 3) := dk_182 0 240 (dk_at dksX6_readLaw_3 2 rfl rfl)
theorem dX6_readLaw_75 : decode cX6_readLaw 75 = .ok (.ifCond .eq 17, 3) := dk_153 0 17 (dk_at dksX6_readLaw_3 5 rfl rfl)
theorem dX6_readLaw_78 : decode cX6_readLaw 78 = .ok (.aload_n 0, 1) := dk_42 (dk_at dksX6_readLaw_3 8 rfl rfl)
theorem dX6_readLaw_79 : decode cX6_readLaw 79 = .ok (.invokevirtual 218, 3) := dk_182 0 218 (dk_at dksX6_readLaw_3 9 rfl rfl)
theorem dX6_readLaw_82 : decode cX6_readLaw 82 = .ok (.aload_n 0, 1) := dk_42 (dk_at dksX6_readLaw_3 12 rfl rfl)
theorem dX6_readLaw_83 : decode cX6_readLaw 83 = .ok (.invokevirtual 256, 3) := dk_182 1 0 (dk_at dksX6_readLaw_3 13 rfl rfl)
theorem dX6_readLaw_86 : decode cX6_readLaw 86 = .ok (.iconst (-1), 1) := dk_2 (dk_at dksX6_readLaw_3 16 rfl rfl)
theorem dX6_readLaw_87 : decode cX6_readLaw 87 = .ok (.if_icmp .ne 5, 3) := dk_160 0 5 (dk_at dksX6_readLaw_3 17 rfl rfl)
theorem dX6_readLaw_90 : decode cX6_readLaw 90 = .ok (.iconst (-1), 1) := dk_2 (dk_at dksX6_readLaw_3 20 rfl rfl)
theorem dX6_readLaw_91 : decode cX6_readLaw 91 = .ok (.ireturn, 1) := dk_172 (dk_at dksX6_readLaw_3 21 rfl rfl)
theorem dX6_readLaw_92 : decode cX6_readLaw 92 = .ok (.aload_n 0, 1) := dk_42 (dk_at dksX6_readLaw_3 22 rfl rfl)
theorem dX6_readLaw_93 : decode cX6_readLaw 93 = .ok (.getfield 46, 3) := dk_180 0 46 (dk_at dksX6_readLaw_4 0 rfl rfl)
theorem dX6_readLaw_96 : decode cX6_readLaw 96 = .ok (.iload_n 2, 1) := dk_28 (dk_at dksX6_readLaw_4 3 rfl rfl)
theorem dX6_readLaw_97 : decode cX6_readLaw 97 = .ok (.aload_n 0, 1) := dk_42 (dk_at dksX6_readLaw_4 4 rfl rfl)
theorem dX6_readLaw_98 : decode cX6_readLaw 98 = .ok (.getfield 205, 3) := dk_180 0 205 (dk_at dksX6_readLaw_4 5 rfl rfl)
theorem dX6_readLaw_101 : decode cX6_readLaw 101 = .ok (.iastore, 1) := dk_79 (dk_at dksX6_readLaw_4 8 rfl rfl)
theorem dX6_readLaw_102 : decode cX6_readLaw 102 = .ok (.aload_n 0, 1) := dk_42 (dk_at dksX6_readLaw_4 9 rfl rfl)
theorem dX6_readLaw_103 : decode cX6_readLaw 103 = .ok (.bipush 59, 2) := dk_16 59 (dk_at dksX6_readLaw_4 10 rfl rfl)
theorem dX6_readLaw_105 : decode cX6_readLaw 105 = .ok (.invokevirtual 225, 3) := dk_182 0 225 (dk_at dksX6_readLaw_4 12 rfl rfl)
theorem dX6_readLaw_108 : decode cX6_readLaw 108 = .ok (.ifCond .ne 9, 3) := dk_154 0 9 (dk_at dksX6_readLaw_4 15 rfl rfl)
theorem dX6_readLaw_111 : decode cX6_readLaw 111 = .ok (.aload_n 0, 1) := dk_42 (dk_at dksX6_readLaw_4 18 rfl rfl)
theorem dX6_readLaw_112 : decode cX6_readLaw 112 = .ok (.iconst 1, 1) := dk_4 (dk_at dksX6_readLaw_4 19 rfl rfl)
theorem dX6_readLaw_113 : decode cX6_readLaw 113 = .ok (.invokevirtual 211, 3) := dk_182 0 211 (dk_at dksX6_readLaw_4 20 rfl rfl)
theorem dX6_readLaw_116 : decode cX6_readLaw 116 = .ok (.ireturn, 1) := dk_172 (dk_at dksX6_readLaw_4 23 rfl rfl)
theorem dX6_readLaw_117 : decode cX6_readLaw 117 = .ok (.aload_n 0, 1) := dk_42 (dk_at dksX6_readLaw_5 0 rfl rfl)
theorem dX6_readLaw_118 : decode cX6_readLaw 118 = .ok (.invokevirtual 218, 3) := dk_182 0 218 (dk_at dksX6_readLaw_5 1 rfl rfl)
theorem dX6_readLaw_121 : decode cX6_readLaw 121 = .ok (.iload_n 1, 1) := dk_27 (dk_at dksX6_readLaw_5 4 rfl rfl)
theorem dX6_readLaw_122 : decode cX6_readLaw 122 = .ok (.iconst 1, 1) := dk_4 (dk_at dksX6_readLaw_5 5 rfl rfl)
theorem dX6_readLaw_123 : decode cX6_readLaw 123 = .ok (.iadd, 1) := dk_96 (dk_at dksX6_readLaw_5 6 rfl rfl)
theorem dX6_readLaw_124 : decode cX6_readLaw 124 = .ok (.istore_n 1, 1) := dk_60 (dk_at dksX6_readLaw_5 7 rfl rfl)
theorem dX6_readLaw_125 : decode cX6_readLaw 125 = .ok (.goto (-123), 3) := dk_167 255 133 (dk_at dksX6_readLaw_5 8 rfl rfl)
theorem dX6_readLaw_128 : decode cX6_readLaw 128 = .ok (.aload_n 0, 1) := dk_42 (dk_at dksX6_readLaw_5 11 rfl rfl)
theorem dX6_readLaw_129 : decode cX6_readLaw 129 = .ok (.getfield 180, 3) := dk_180 0 180 (dk_at dksX6_readLaw_5 12 rfl rfl)
theorem dX6_readLaw_132 : decode cX6_readLaw 132 = .ok (.ifCond .ne 7, 3) := dk_154 0 7 (dk_at dksX6_readLaw_5 15 rfl rfl)
theorem dX6_readLaw_135 : decode cX6_readLaw 135 = .ok (.iload_n 1, 1) := dk_27 (dk_at dksX6_readLaw_5 18 rfl rfl)
theorem dX6_readLaw_136 : decode cX6_readLaw 136 = .ok (.goto 8, 3) := dk_167 0 8 (dk_at dksX6_readLaw_5 19 rfl rfl)
theorem dX6_readLaw_139 : decode cX6_readLaw 139 = .ok (.aload_n 0, 1) := dk_42 (dk_at dksX6_readLaw_5 22 rfl rfl)
theorem dX6_readLaw_140 : decode cX6_readLaw 140 = .ok (.iconst 1, 1) := dk_4 (dk_at dksX6_readLaw_5 23 rfl rfl)
theorem dX6_readLaw_141 : decode cX6_readLaw 141 = .ok (.invokevirtual 211, 3) := dk_182 0 211 (dk_at dksX6_readLaw_6 0 rfl rfl)
theorem dX6_readLaw_144 : decode cX6_readLaw 144 = .ok (.ireturn, 1) := dk_172 (dk_at dksX6_readLaw_6 3 rfl rfl)
